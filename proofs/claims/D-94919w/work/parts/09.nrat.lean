/-! RatSorters -/
set_option maxRecDepth 100000
def RX0 : String := "RatSorters"
def TX0 : u_T := fun k => match k with
  | 0 => ("RatSorters", "fault", "LRatSorters$Fault;", true)
  | 1 => ("RatSorters", "tokens", "LRatSorters$Tokens;", true)
  | 2 => ("RatSorters", "parser", "LRatSorters$Parser;", true)
  | 3 => ("RatSorters", "text", "LRatSorters$Text;", false)
  | 4 => ("RatSorters", "place", "I", false)
  | 5 => ("RatSorters", "undos", "I", false)
  | 6 => ("RatSorters", "undoAt", "I", false)
  | 7 => ("RatSorters", "house", "LRatSorters$House;", true)
  | 8 => ("RatSorters", "trial", "LRatSorters$House;", true)
  | 9 => ("RatSorters", "past", "[LRatSorters$House;", true)
  | 10 => ("RatSorters", "slots", "[LRatSorters$House;", true)
  | 11 => ("RatSorters", "held", "[Z", true)
  | 12 => ("RatSorters", "wanted", "[I", true)
  | 13 => ("RatSorters", "lesson", "[I", true)
  | 14 => ("RatSorters", "bestLesson", "[I", true)
  | 15 => ("RatSorters", "which", "[I", true)
  | 16 => ("RatSorters", "lessons", "I", false)
  | 17 => ("RatSorters", "bestWorth", "I", false)
  | 18 => ("RatSorters", "tolds", "I", false)
  | 19 => ("RatSorters", "toldHole", "[I", true)
  | 20 => ("RatSorters", "toldGrain", "[I", true)
  | 21 => ("RatSorters", "toldMinute", "[I", true)
  | _ => ("RatSorters", "toldMany", "[I", true)
def tyX0 : Nat → FieldType := fun k => match k with
  | 0 => .object "RatSorters$Fault"
  | 1 => .object "RatSorters$Tokens"
  | 2 => .object "RatSorters$Parser"
  | 3 => .object "RatSorters$Text"
  | 4 => .int
  | 5 => .int
  | 6 => .int
  | 7 => .object "RatSorters$House"
  | 8 => .object "RatSorters$House"
  | 9 => .array (.object "RatSorters$House")
  | 10 => .array (.object "RatSorters$House")
  | 11 => .array .boolean
  | 12 => .array .int
  | 13 => .array .int
  | 14 => .array .int
  | 15 => .array .int
  | 16 => .int
  | 17 => .int
  | 18 => .int
  | 19 => .array .int
  | 20 => .array .int
  | 21 => .array .int
  | _ => .array .int
abbrev wsX00 : List Cond := u_ws RX0 TX0 23
set_option maxRecDepth 100000 in
theorem nmX0 : ∀ a, a < 23 → ∀ b, b < 23 → a ≠ b → (TX0 a).2.1 ≠ (TX0 b).2.1 := by decide +kernel
set_option maxRecDepth 100000 in
theorem tyX0_ok : ∀ k, k < 23 → parseFieldDescriptor (TX0 k).2.2.1 = some (tyX0 k) := by decide +kernel
abbrev cX0_init : ByteArray := prog_1_method_4_code
def yX0_init : MethodName := ⟨RX0, "<init>", "()V"⟩
def dkwX0_init_10 : List UInt8 := [182, 0, 102, 177]
abbrev dktX0_init_10 : List UInt8 := dkwX0_init_10 ++ []
def dkwX0_init_9 : List UInt8 := [187, 0, 56, 89, 183, 0, 58, 83, 132, 1, 1, 167, 255, 234, 42, 180, 0, 59, 42, 180, 0, 48]
abbrev dktX0_init_9 : List UInt8 := dkwX0_init_9 ++ dktX0_init_10
def dkwX0_init_8 : List UInt8 := [181, 0, 96, 42, 16, 20, 188, 10, 181, 0, 99, 3, 60, 27, 16, 40, 162, 0, 22, 42, 180, 0, 66, 27]
abbrev dktX0_init_8 : List UInt8 := dkwX0_init_8 ++ dktX0_init_9
def dkwX0_init_7 : List UInt8 := [181, 0, 87, 42, 16, 20, 188, 10, 181, 0, 90, 42, 16, 20, 188, 10, 181, 0, 93, 42, 16, 20, 188, 10]
abbrev dktX0_init_7 : List UInt8 := dkwX0_init_7 ++ dktX0_init_8
def dkwX0_init_6 : List UInt8 := [188, 10, 181, 0, 77, 42, 7, 188, 10, 181, 0, 81, 42, 7, 188, 10, 181, 0, 84, 42, 7, 188, 10]
abbrev dktX0_init_6 : List UInt8 := dkwX0_init_6 ++ dktX0_init_7
def dkwX0_init_5 : List UInt8 := [89, 5, 187, 0, 56, 89, 183, 0, 58, 83, 181, 0, 70, 42, 6, 188, 4, 181, 0, 73, 42, 16, 6]
abbrev dktX0_init_5 : List UInt8 := dkwX0_init_5 ++ dktX0_init_6
def dkwX0_init_4 : List UInt8 := [6, 189, 0, 56, 89, 3, 187, 0, 56, 89, 183, 0, 58, 83, 89, 4, 187, 0, 56, 89, 183, 0, 58, 83]
abbrev dktX0_init_4 : List UInt8 := dkwX0_init_4 ++ dktX0_init_5
def dkwX0_init_3 : List UInt8 := [181, 0, 59, 42, 187, 0, 56, 89, 183, 0, 58, 181, 0, 63, 42, 16, 40, 189, 0, 56, 181, 0, 66, 42]
abbrev dktX0_init_3 : List UInt8 := dkwX0_init_3 ++ dktX0_init_4
def dkwX0_init_2 : List UInt8 := [187, 0, 45, 89, 183, 0, 47, 181, 0, 48, 42, 2, 181, 0, 52, 42, 187, 0, 56, 89, 183, 0, 58]
abbrev dktX0_init_2 : List UInt8 := dkwX0_init_2 ++ dktX0_init_3
def dkwX0_init_1 : List UInt8 := [181, 0, 32, 42, 187, 0, 36, 89, 42, 180, 0, 32, 42, 180, 0, 25, 183, 0, 38, 181, 0, 41, 42]
abbrev dktX0_init_1 : List UInt8 := dkwX0_init_1 ++ dktX0_init_2
def dkwX0_init_0 : List UInt8 := [42, 183, 0, 16, 42, 187, 0, 22, 89, 183, 0, 24, 181, 0, 25, 42, 187, 0, 29, 89, 183, 0, 31]
abbrev dktX0_init_0 : List UInt8 := dkwX0_init_0 ++ dktX0_init_1
theorem dksX0_init_0 : cX0_init.data.toList.drop 0 = dktX0_init_0 := by decide +kernel
theorem dksX0_init_1 : cX0_init.data.toList.drop 23 = dktX0_init_1 := dk_seg dksX0_init_0 23 rfl rfl
theorem dksX0_init_2 : cX0_init.data.toList.drop 46 = dktX0_init_2 := dk_seg dksX0_init_1 23 rfl rfl
theorem dksX0_init_3 : cX0_init.data.toList.drop 69 = dktX0_init_3 := dk_seg dksX0_init_2 23 rfl rfl
theorem dksX0_init_4 : cX0_init.data.toList.drop 93 = dktX0_init_4 := dk_seg dksX0_init_3 24 rfl rfl
theorem dksX0_init_5 : cX0_init.data.toList.drop 117 = dktX0_init_5 := dk_seg dksX0_init_4 24 rfl rfl
theorem dksX0_init_6 : cX0_init.data.toList.drop 140 = dktX0_init_6 := dk_seg dksX0_init_5 23 rfl rfl
theorem dksX0_init_7 : cX0_init.data.toList.drop 163 = dktX0_init_7 := dk_seg dksX0_init_6 23 rfl rfl
theorem dksX0_init_8 : cX0_init.data.toList.drop 187 = dktX0_init_8 := dk_seg dksX0_init_7 24 rfl rfl
theorem dksX0_init_9 : cX0_init.data.toList.drop 211 = dktX0_init_9 := dk_seg dksX0_init_8 24 rfl rfl
theorem dksX0_init_10 : cX0_init.data.toList.drop 233 = dktX0_init_10 := dk_seg dksX0_init_9 22 rfl rfl
theorem dX0_init_0 : decode cX0_init 0 = .ok (.aload_n 0, 1) := dk_42 (dk_at dksX0_init_0 0 rfl rfl)
theorem dX0_init_1 : decode cX0_init 1 = .ok (.invokespecial 16, 3) := dk_183 0 16 (dk_at dksX0_init_0 1 rfl rfl)
theorem dX0_init_4 : decode cX0_init 4 = .ok (.aload_n 0, 1) := dk_42 (dk_at dksX0_init_0 4 rfl rfl)
theorem dX0_init_5 : decode cX0_init 5 = .ok (.new 22, 3) := dk_187 0 22 (dk_at dksX0_init_0 5 rfl rfl)
theorem dX0_init_8 : decode cX0_init 8 = .ok (.dup, 1) := dk_89 (dk_at dksX0_init_0 8 rfl rfl)
theorem dX0_init_9 : decode cX0_init 9 = .ok (.invokespecial 24, 3) := dk_183 0 24 (dk_at dksX0_init_0 9 rfl rfl)
theorem dX0_init_12 : decode cX0_init 12 = .ok (.putfield 25, 3) := dk_181 0 25 (dk_at dksX0_init_0 12 rfl rfl)
theorem dX0_init_15 : decode cX0_init 15 = .ok (.aload_n 0, 1) := dk_42 (dk_at dksX0_init_0 15 rfl rfl)
theorem dX0_init_16 : decode cX0_init 16 = .ok (.new 29, 3) := dk_187 0 29 (dk_at dksX0_init_0 16 rfl rfl)
theorem dX0_init_19 : decode cX0_init 19 = .ok (.dup, 1) := dk_89 (dk_at dksX0_init_0 19 rfl rfl)
theorem dX0_init_20 : decode cX0_init 20 = .ok (.invokespecial 31, 3) := dk_183 0 31 (dk_at dksX0_init_0 20 rfl rfl)
theorem dX0_init_23 : decode cX0_init 23 = .ok (.putfield 32, 3) := dk_181 0 32 (dk_at dksX0_init_1 0 rfl rfl)
theorem dX0_init_26 : decode cX0_init 26 = .ok (.aload_n 0, 1) := dk_42 (dk_at dksX0_init_1 3 rfl rfl)
theorem dX0_init_27 : decode cX0_init 27 = .ok (.new 36, 3) := dk_187 0 36 (dk_at dksX0_init_1 4 rfl rfl)
theorem dX0_init_30 : decode cX0_init 30 = .ok (.dup, 1) := dk_89 (dk_at dksX0_init_1 7 rfl rfl)
theorem dX0_init_31 : decode cX0_init 31 = .ok (.aload_n 0, 1) := dk_42 (dk_at dksX0_init_1 8 rfl rfl)
theorem dX0_init_32 : decode cX0_init 32 = .ok (.getfield 32, 3) := dk_180 0 32 (dk_at dksX0_init_1 9 rfl rfl)
theorem dX0_init_35 : decode cX0_init 35 = .ok (.aload_n 0, 1) := dk_42 (dk_at dksX0_init_1 12 rfl rfl)
theorem dX0_init_36 : decode cX0_init 36 = .ok (.getfield 25, 3) := dk_180 0 25 (dk_at dksX0_init_1 13 rfl rfl)
theorem dX0_init_39 : decode cX0_init 39 = .ok (.invokespecial 38, 3) := dk_183 0 38 (dk_at dksX0_init_1 16 rfl rfl)
theorem dX0_init_42 : decode cX0_init 42 = .ok (.putfield 41, 3) := dk_181 0 41 (dk_at dksX0_init_1 19 rfl rfl)
theorem dX0_init_45 : decode cX0_init 45 = .ok (.aload_n 0, 1) := dk_42 (dk_at dksX0_init_1 22 rfl rfl)
theorem dX0_init_46 : decode cX0_init 46 = .ok (.new 45, 3) := dk_187 0 45 (dk_at dksX0_init_2 0 rfl rfl)
theorem dX0_init_49 : decode cX0_init 49 = .ok (.dup, 1) := dk_89 (dk_at dksX0_init_2 3 rfl rfl)
theorem dX0_init_50 : decode cX0_init 50 = .ok (.invokespecial 47, 3) := dk_183 0 47 (dk_at dksX0_init_2 4 rfl rfl)
theorem dX0_init_53 : decode cX0_init 53 = .ok (.putfield 48, 3) := dk_181 0 48 (dk_at dksX0_init_2 7 rfl rfl)
theorem dX0_init_56 : decode cX0_init 56 = .ok (.aload_n 0, 1) := dk_42 (dk_at dksX0_init_2 10 rfl rfl)
theorem dX0_init_57 : decode cX0_init 57 = .ok (.iconst (-1), 1) := dk_2 (dk_at dksX0_init_2 11 rfl rfl)
theorem dX0_init_58 : decode cX0_init 58 = .ok (.putfield 52, 3) := dk_181 0 52 (dk_at dksX0_init_2 12 rfl rfl)
theorem dX0_init_61 : decode cX0_init 61 = .ok (.aload_n 0, 1) := dk_42 (dk_at dksX0_init_2 15 rfl rfl)
theorem dX0_init_62 : decode cX0_init 62 = .ok (.new 56, 3) := dk_187 0 56 (dk_at dksX0_init_2 16 rfl rfl)
theorem dX0_init_65 : decode cX0_init 65 = .ok (.dup, 1) := dk_89 (dk_at dksX0_init_2 19 rfl rfl)
theorem dX0_init_66 : decode cX0_init 66 = .ok (.invokespecial 58, 3) := dk_183 0 58 (dk_at dksX0_init_2 20 rfl rfl)
theorem dX0_init_69 : decode cX0_init 69 = .ok (.putfield 59, 3) := dk_181 0 59 (dk_at dksX0_init_3 0 rfl rfl)
theorem dX0_init_72 : decode cX0_init 72 = .ok (.aload_n 0, 1) := dk_42 (dk_at dksX0_init_3 3 rfl rfl)
theorem dX0_init_73 : decode cX0_init 73 = .ok (.new 56, 3) := dk_187 0 56 (dk_at dksX0_init_3 4 rfl rfl)
theorem dX0_init_76 : decode cX0_init 76 = .ok (.dup, 1) := dk_89 (dk_at dksX0_init_3 7 rfl rfl)
theorem dX0_init_77 : decode cX0_init 77 = .ok (.invokespecial 58, 3) := dk_183 0 58 (dk_at dksX0_init_3 8 rfl rfl)
theorem dX0_init_80 : decode cX0_init 80 = .ok (.putfield 63, 3) := dk_181 0 63 (dk_at dksX0_init_3 11 rfl rfl)
theorem dX0_init_83 : decode cX0_init 83 = .ok (.aload_n 0, 1) := dk_42 (dk_at dksX0_init_3 14 rfl rfl)
theorem dX0_init_84 : decode cX0_init 84 = .ok (.bipush 40, 2) := dk_16 40 (dk_at dksX0_init_3 15 rfl rfl)
theorem dX0_init_86 : decode cX0_init 86 = .ok (.anewarray 56, 3) := dk_189 0 56 (dk_at dksX0_init_3 17 rfl rfl)
theorem dX0_init_89 : decode cX0_init 89 = .ok (.putfield 66, 3) := dk_181 0 66 (dk_at dksX0_init_3 20 rfl rfl)
theorem dX0_init_92 : decode cX0_init 92 = .ok (.aload_n 0, 1) := dk_42 (dk_at dksX0_init_3 23 rfl rfl)
theorem dX0_init_93 : decode cX0_init 93 = .ok (.iconst 3, 1) := dk_6 (dk_at dksX0_init_4 0 rfl rfl)
theorem dX0_init_94 : decode cX0_init 94 = .ok (.anewarray 56, 3) := dk_189 0 56 (dk_at dksX0_init_4 1 rfl rfl)
theorem dX0_init_97 : decode cX0_init 97 = .ok (.dup, 1) := dk_89 (dk_at dksX0_init_4 4 rfl rfl)
theorem dX0_init_98 : decode cX0_init 98 = .ok (.iconst 0, 1) := dk_3 (dk_at dksX0_init_4 5 rfl rfl)
theorem dX0_init_99 : decode cX0_init 99 = .ok (.new 56, 3) := dk_187 0 56 (dk_at dksX0_init_4 6 rfl rfl)
theorem dX0_init_102 : decode cX0_init 102 = .ok (.dup, 1) := dk_89 (dk_at dksX0_init_4 9 rfl rfl)
theorem dX0_init_103 : decode cX0_init 103 = .ok (.invokespecial 58, 3) := dk_183 0 58 (dk_at dksX0_init_4 10 rfl rfl)
theorem dX0_init_106 : decode cX0_init 106 = .ok (.aastore, 1) := dk_83 (dk_at dksX0_init_4 13 rfl rfl)
theorem dX0_init_107 : decode cX0_init 107 = .ok (.dup, 1) := dk_89 (dk_at dksX0_init_4 14 rfl rfl)
theorem dX0_init_108 : decode cX0_init 108 = .ok (.iconst 1, 1) := dk_4 (dk_at dksX0_init_4 15 rfl rfl)
theorem dX0_init_109 : decode cX0_init 109 = .ok (.new 56, 3) := dk_187 0 56 (dk_at dksX0_init_4 16 rfl rfl)
theorem dX0_init_112 : decode cX0_init 112 = .ok (.dup, 1) := dk_89 (dk_at dksX0_init_4 19 rfl rfl)
theorem dX0_init_113 : decode cX0_init 113 = .ok (.invokespecial 58, 3) := dk_183 0 58 (dk_at dksX0_init_4 20 rfl rfl)
theorem dX0_init_116 : decode cX0_init 116 = .ok (.aastore, 1) := dk_83 (dk_at dksX0_init_4 23 rfl rfl)
theorem dX0_init_117 : decode cX0_init 117 = .ok (.dup, 1) := dk_89 (dk_at dksX0_init_5 0 rfl rfl)
theorem dX0_init_118 : decode cX0_init 118 = .ok (.iconst 2, 1) := dk_5 (dk_at dksX0_init_5 1 rfl rfl)
theorem dX0_init_119 : decode cX0_init 119 = .ok (.new 56, 3) := dk_187 0 56 (dk_at dksX0_init_5 2 rfl rfl)
theorem dX0_init_122 : decode cX0_init 122 = .ok (.dup, 1) := dk_89 (dk_at dksX0_init_5 5 rfl rfl)
theorem dX0_init_123 : decode cX0_init 123 = .ok (.invokespecial 58, 3) := dk_183 0 58 (dk_at dksX0_init_5 6 rfl rfl)
theorem dX0_init_126 : decode cX0_init 126 = .ok (.aastore, 1) := dk_83 (dk_at dksX0_init_5 9 rfl rfl)
theorem dX0_init_127 : decode cX0_init 127 = .ok (.putfield 70, 3) := dk_181 0 70 (dk_at dksX0_init_5 10 rfl rfl)
theorem dX0_init_130 : decode cX0_init 130 = .ok (.aload_n 0, 1) := dk_42 (dk_at dksX0_init_5 13 rfl rfl)
theorem dX0_init_131 : decode cX0_init 131 = .ok (.iconst 3, 1) := dk_6 (dk_at dksX0_init_5 14 rfl rfl)
theorem dX0_init_132 : decode cX0_init 132 = .ok (.newarray .boolean, 2) := dk_188_4 (dk_at dksX0_init_5 15 rfl rfl)
theorem dX0_init_134 : decode cX0_init 134 = .ok (.putfield 73, 3) := dk_181 0 73 (dk_at dksX0_init_5 17 rfl rfl)
theorem dX0_init_137 : decode cX0_init 137 = .ok (.aload_n 0, 1) := dk_42 (dk_at dksX0_init_5 20 rfl rfl)
theorem dX0_init_138 : decode cX0_init 138 = .ok (.bipush 6, 2) := dk_16 6 (dk_at dksX0_init_5 21 rfl rfl)
theorem dX0_init_140 : decode cX0_init 140 = .ok (.newarray .int, 2) := dk_188_10 (dk_at dksX0_init_6 0 rfl rfl)
theorem dX0_init_142 : decode cX0_init 142 = .ok (.putfield 77, 3) := dk_181 0 77 (dk_at dksX0_init_6 2 rfl rfl)
theorem dX0_init_145 : decode cX0_init 145 = .ok (.aload_n 0, 1) := dk_42 (dk_at dksX0_init_6 5 rfl rfl)
theorem dX0_init_146 : decode cX0_init 146 = .ok (.iconst 4, 1) := dk_7 (dk_at dksX0_init_6 6 rfl rfl)
theorem dX0_init_147 : decode cX0_init 147 = .ok (.newarray .int, 2) := dk_188_10 (dk_at dksX0_init_6 7 rfl rfl)
theorem dX0_init_149 : decode cX0_init 149 = .ok (.putfield 81, 3) := dk_181 0 81 (dk_at dksX0_init_6 9 rfl rfl)
theorem dX0_init_152 : decode cX0_init 152 = .ok (.aload_n 0, 1) := dk_42 (dk_at dksX0_init_6 12 rfl rfl)
theorem dX0_init_153 : decode cX0_init 153 = .ok (.iconst 4, 1) := dk_7 (dk_at dksX0_init_6 13 rfl rfl)
theorem dX0_init_154 : decode cX0_init 154 = .ok (.newarray .int, 2) := dk_188_10 (dk_at dksX0_init_6 14 rfl rfl)
theorem dX0_init_156 : decode cX0_init 156 = .ok (.putfield 84, 3) := dk_181 0 84 (dk_at dksX0_init_6 16 rfl rfl)
theorem dX0_init_159 : decode cX0_init 159 = .ok (.aload_n 0, 1) := dk_42 (dk_at dksX0_init_6 19 rfl rfl)
theorem dX0_init_160 : decode cX0_init 160 = .ok (.iconst 4, 1) := dk_7 (dk_at dksX0_init_6 20 rfl rfl)
theorem dX0_init_161 : decode cX0_init 161 = .ok (.newarray .int, 2) := dk_188_10 (dk_at dksX0_init_6 21 rfl rfl)
theorem dX0_init_163 : decode cX0_init 163 = .ok (.putfield 87, 3) := dk_181 0 87 (dk_at dksX0_init_7 0 rfl rfl)
theorem dX0_init_166 : decode cX0_init 166 = .ok (.aload_n 0, 1) := dk_42 (dk_at dksX0_init_7 3 rfl rfl)
theorem dX0_init_167 : decode cX0_init 167 = .ok (.bipush 20, 2) := dk_16 20 (dk_at dksX0_init_7 4 rfl rfl)
theorem dX0_init_169 : decode cX0_init 169 = .ok (.newarray .int, 2) := dk_188_10 (dk_at dksX0_init_7 6 rfl rfl)
theorem dX0_init_171 : decode cX0_init 171 = .ok (.putfield 90, 3) := dk_181 0 90 (dk_at dksX0_init_7 8 rfl rfl)
theorem dX0_init_174 : decode cX0_init 174 = .ok (.aload_n 0, 1) := dk_42 (dk_at dksX0_init_7 11 rfl rfl)
theorem dX0_init_175 : decode cX0_init 175 = .ok (.bipush 20, 2) := dk_16 20 (dk_at dksX0_init_7 12 rfl rfl)
theorem dX0_init_177 : decode cX0_init 177 = .ok (.newarray .int, 2) := dk_188_10 (dk_at dksX0_init_7 14 rfl rfl)
theorem dX0_init_179 : decode cX0_init 179 = .ok (.putfield 93, 3) := dk_181 0 93 (dk_at dksX0_init_7 16 rfl rfl)
theorem dX0_init_182 : decode cX0_init 182 = .ok (.aload_n 0, 1) := dk_42 (dk_at dksX0_init_7 19 rfl rfl)
theorem dX0_init_183 : decode cX0_init 183 = .ok (.bipush 20, 2) := dk_16 20 (dk_at dksX0_init_7 20 rfl rfl)
theorem dX0_init_185 : decode cX0_init 185 = .ok (.newarray .int, 2) := dk_188_10 (dk_at dksX0_init_7 22 rfl rfl)
theorem dX0_init_187 : decode cX0_init 187 = .ok (.putfield 96, 3) := dk_181 0 96 (dk_at dksX0_init_8 0 rfl rfl)
theorem dX0_init_190 : decode cX0_init 190 = .ok (.aload_n 0, 1) := dk_42 (dk_at dksX0_init_8 3 rfl rfl)
theorem dX0_init_191 : decode cX0_init 191 = .ok (.bipush 20, 2) := dk_16 20 (dk_at dksX0_init_8 4 rfl rfl)
theorem dX0_init_193 : decode cX0_init 193 = .ok (.newarray .int, 2) := dk_188_10 (dk_at dksX0_init_8 6 rfl rfl)
theorem dX0_init_195 : decode cX0_init 195 = .ok (.putfield 99, 3) := dk_181 0 99 (dk_at dksX0_init_8 8 rfl rfl)
theorem dX0_init_198 : decode cX0_init 198 = .ok (.iconst 0, 1) := dk_3 (dk_at dksX0_init_8 11 rfl rfl)
theorem dX0_init_199 : decode cX0_init 199 = .ok (.istore_n 1, 1) := dk_60 (dk_at dksX0_init_8 12 rfl rfl)
theorem dX0_init_200 : decode cX0_init 200 = .ok (.iload_n 1, 1) := dk_27 (dk_at dksX0_init_8 13 rfl rfl)
theorem dX0_init_201 : decode cX0_init 201 = .ok (.bipush 40, 2) := dk_16 40 (dk_at dksX0_init_8 14 rfl rfl)
theorem dX0_init_203 : decode cX0_init 203 = .ok (.if_icmp .ge 22, 3) := dk_162 0 22 (dk_at dksX0_init_8 16 rfl rfl)
theorem dX0_init_206 : decode cX0_init 206 = .ok (.aload_n 0, 1) := dk_42 (dk_at dksX0_init_8 19 rfl rfl)
theorem dX0_init_207 : decode cX0_init 207 = .ok (.getfield 66, 3) := dk_180 0 66 (dk_at dksX0_init_8 20 rfl rfl)
theorem dX0_init_210 : decode cX0_init 210 = .ok (.iload_n 1, 1) := dk_27 (dk_at dksX0_init_8 23 rfl rfl)
theorem dX0_init_211 : decode cX0_init 211 = .ok (.new 56, 3) := dk_187 0 56 (dk_at dksX0_init_9 0 rfl rfl)
theorem dX0_init_214 : decode cX0_init 214 = .ok (.dup, 1) := dk_89 (dk_at dksX0_init_9 3 rfl rfl)
theorem dX0_init_215 : decode cX0_init 215 = .ok (.invokespecial 58, 3) := dk_183 0 58 (dk_at dksX0_init_9 4 rfl rfl)
theorem dX0_init_218 : decode cX0_init 218 = .ok (.aastore, 1) := dk_83 (dk_at dksX0_init_9 7 rfl rfl)
theorem dX0_init_219 : decode cX0_init 219 = .ok (.iinc 1 1, 3) := dk_132 1 1 (dk_at dksX0_init_9 8 rfl rfl)
theorem dX0_init_222 : decode cX0_init 222 = .ok (.goto (-22), 3) := dk_167 255 234 (dk_at dksX0_init_9 11 rfl rfl)
theorem dX0_init_225 : decode cX0_init 225 = .ok (.aload_n 0, 1) := dk_42 (dk_at dksX0_init_9 14 rfl rfl)
theorem dX0_init_226 : decode cX0_init 226 = .ok (.getfield 59, 3) := dk_180 0 59 (dk_at dksX0_init_9 15 rfl rfl)
theorem dX0_init_229 : decode cX0_init 229 = .ok (.aload_n 0, 1) := dk_42 (dk_at dksX0_init_9 18 rfl rfl)
theorem dX0_init_230 : decode cX0_init 230 = .ok (.getfield 48, 3) := dk_180 0 48 (dk_at dksX0_init_9 19 rfl rfl)
theorem dX0_init_233 : decode cX0_init 233 = .ok (.invokevirtual 102, 3) := dk_182 0 102 (dk_at dksX0_init_10 0 rfl rfl)
theorem dX0_init_236 : decode cX0_init 236 = .ok (.return_, 1) := dk_177 (dk_at dksX0_init_10 3 rfl rfl)
abbrev cX0_feed : ByteArray := prog_1_method_5_code
def yX0_feed : MethodName := ⟨RX0, "feed", "(IIIII)I"⟩
def dkwX0_feed_2 : List UInt8 := [180, 0, 32, 180, 0, 106, 172]
abbrev dktX0_feed_2 : List UInt8 := dkwX0_feed_2 ++ []
def dkwX0_feed_1 : List UInt8 := [28, 182, 0, 109, 42, 29, 182, 0, 109, 42, 21, 4, 182, 0, 109, 42, 21, 5, 182, 0, 109, 42]
abbrev dktX0_feed_1 : List UInt8 := dkwX0_feed_1 ++ dktX0_feed_2
def dkwX0_feed_0 : List UInt8 := [42, 180, 0, 32, 180, 0, 106, 16, 20, 96, 17, 7, 208, 164, 0, 5, 2, 172, 42, 27, 182, 0, 109, 42]
abbrev dktX0_feed_0 : List UInt8 := dkwX0_feed_0 ++ dktX0_feed_1
theorem dksX0_feed_0 : cX0_feed.data.toList.drop 0 = dktX0_feed_0 := by decide +kernel
theorem dksX0_feed_1 : cX0_feed.data.toList.drop 24 = dktX0_feed_1 := dk_seg dksX0_feed_0 24 rfl rfl
theorem dksX0_feed_2 : cX0_feed.data.toList.drop 46 = dktX0_feed_2 := dk_seg dksX0_feed_1 22 rfl rfl
theorem dX0_feed_0 : decode cX0_feed 0 = .ok (.aload_n 0, 1) := dk_42 (dk_at dksX0_feed_0 0 rfl rfl)
theorem dX0_feed_1 : decode cX0_feed 1 = .ok (.getfield 32, 3) := dk_180 0 32 (dk_at dksX0_feed_0 1 rfl rfl)
theorem dX0_feed_4 : decode cX0_feed 4 = .ok (.getfield 106, 3) := dk_180 0 106 (dk_at dksX0_feed_0 4 rfl rfl)
theorem dX0_feed_7 : decode cX0_feed 7 = .ok (.bipush 20, 2) := dk_16 20 (dk_at dksX0_feed_0 7 rfl rfl)
theorem dX0_feed_9 : decode cX0_feed 9 = .ok (.iadd, 1) := dk_96 (dk_at dksX0_feed_0 9 rfl rfl)
theorem dX0_feed_10 : decode cX0_feed 10 = .ok (.sipush 2000, 3) := dk_17 7 208 (dk_at dksX0_feed_0 10 rfl rfl)
theorem dX0_feed_13 : decode cX0_feed 13 = .ok (.if_icmp .le 5, 3) := dk_164 0 5 (dk_at dksX0_feed_0 13 rfl rfl)
theorem dX0_feed_16 : decode cX0_feed 16 = .ok (.iconst (-1), 1) := dk_2 (dk_at dksX0_feed_0 16 rfl rfl)
theorem dX0_feed_17 : decode cX0_feed 17 = .ok (.ireturn, 1) := dk_172 (dk_at dksX0_feed_0 17 rfl rfl)
theorem dX0_feed_18 : decode cX0_feed 18 = .ok (.aload_n 0, 1) := dk_42 (dk_at dksX0_feed_0 18 rfl rfl)
theorem dX0_feed_19 : decode cX0_feed 19 = .ok (.iload_n 1, 1) := dk_27 (dk_at dksX0_feed_0 19 rfl rfl)
theorem dX0_feed_20 : decode cX0_feed 20 = .ok (.invokevirtual 109, 3) := dk_182 0 109 (dk_at dksX0_feed_0 20 rfl rfl)
theorem dX0_feed_23 : decode cX0_feed 23 = .ok (.aload_n 0, 1) := dk_42 (dk_at dksX0_feed_0 23 rfl rfl)
theorem dX0_feed_24 : decode cX0_feed 24 = .ok (.iload_n 2, 1) := dk_28 (dk_at dksX0_feed_1 0 rfl rfl)
theorem dX0_feed_25 : decode cX0_feed 25 = .ok (.invokevirtual 109, 3) := dk_182 0 109 (dk_at dksX0_feed_1 1 rfl rfl)
theorem dX0_feed_28 : decode cX0_feed 28 = .ok (.aload_n 0, 1) := dk_42 (dk_at dksX0_feed_1 4 rfl rfl)
theorem dX0_feed_29 : decode cX0_feed 29 = .ok (.iload_n 3, 1) := dk_29 (dk_at dksX0_feed_1 5 rfl rfl)
theorem dX0_feed_30 : decode cX0_feed 30 = .ok (.invokevirtual 109, 3) := dk_182 0 109 (dk_at dksX0_feed_1 6 rfl rfl)
theorem dX0_feed_33 : decode cX0_feed 33 = .ok (.aload_n 0, 1) := dk_42 (dk_at dksX0_feed_1 9 rfl rfl)
theorem dX0_feed_34 : decode cX0_feed 34 = .ok (.iload 4, 2) := dk_21 4 (dk_at dksX0_feed_1 10 rfl rfl)
theorem dX0_feed_36 : decode cX0_feed 36 = .ok (.invokevirtual 109, 3) := dk_182 0 109 (dk_at dksX0_feed_1 12 rfl rfl)
theorem dX0_feed_39 : decode cX0_feed 39 = .ok (.aload_n 0, 1) := dk_42 (dk_at dksX0_feed_1 15 rfl rfl)
theorem dX0_feed_40 : decode cX0_feed 40 = .ok (.iload 5, 2) := dk_21 5 (dk_at dksX0_feed_1 16 rfl rfl)
theorem dX0_feed_42 : decode cX0_feed 42 = .ok (.invokevirtual 109, 3) := dk_182 0 109 (dk_at dksX0_feed_1 18 rfl rfl)
theorem dX0_feed_45 : decode cX0_feed 45 = .ok (.aload_n 0, 1) := dk_42 (dk_at dksX0_feed_1 21 rfl rfl)
theorem dX0_feed_46 : decode cX0_feed 46 = .ok (.getfield 32, 3) := dk_180 0 32 (dk_at dksX0_feed_2 0 rfl rfl)
theorem dX0_feed_49 : decode cX0_feed 49 = .ok (.getfield 106, 3) := dk_180 0 106 (dk_at dksX0_feed_2 3 rfl rfl)
theorem dX0_feed_52 : decode cX0_feed 52 = .ok (.ireturn, 1) := dk_172 (dk_at dksX0_feed_2 6 rfl rfl)
abbrev cX0_typed : ByteArray := prog_1_method_6_code
def yX0_typed : MethodName := ⟨RX0, "typed", "(I)V"⟩
def dkwX0_typed_1 : List UInt8 := [145, 84, 42, 180, 0, 32, 89, 180, 0, 106, 4, 96, 181, 0, 106, 132, 2, 248, 167, 255, 217, 177]
abbrev dktX0_typed_1 : List UInt8 := dkwX0_typed_1 ++ []
def dkwX0_typed_0 : List UInt8 := [16, 24, 61, 28, 155, 0, 41, 42, 180, 0, 32, 180, 0, 113, 42, 180, 0, 32, 180, 0, 106, 27, 28, 122]
abbrev dktX0_typed_0 : List UInt8 := dkwX0_typed_0 ++ dktX0_typed_1
theorem dksX0_typed_0 : cX0_typed.data.toList.drop 0 = dktX0_typed_0 := by decide +kernel
theorem dksX0_typed_1 : cX0_typed.data.toList.drop 24 = dktX0_typed_1 := dk_seg dksX0_typed_0 24 rfl rfl
theorem dX0_typed_0 : decode cX0_typed 0 = .ok (.bipush 24, 2) := dk_16 24 (dk_at dksX0_typed_0 0 rfl rfl)
theorem dX0_typed_2 : decode cX0_typed 2 = .ok (.istore_n 2, 1) := dk_61 (dk_at dksX0_typed_0 2 rfl rfl)
theorem dX0_typed_3 : decode cX0_typed 3 = .ok (.iload_n 2, 1) := dk_28 (dk_at dksX0_typed_0 3 rfl rfl)
theorem dX0_typed_4 : decode cX0_typed 4 = .ok (.ifCond .lt 41, 3) := dk_155 0 41 (dk_at dksX0_typed_0 4 rfl rfl)
theorem dX0_typed_7 : decode cX0_typed 7 = .ok (.aload_n 0, 1) := dk_42 (dk_at dksX0_typed_0 7 rfl rfl)
theorem dX0_typed_8 : decode cX0_typed 8 = .ok (.getfield 32, 3) := dk_180 0 32 (dk_at dksX0_typed_0 8 rfl rfl)
theorem dX0_typed_11 : decode cX0_typed 11 = .ok (.getfield 113, 3) := dk_180 0 113 (dk_at dksX0_typed_0 11 rfl rfl)
theorem dX0_typed_14 : decode cX0_typed 14 = .ok (.aload_n 0, 1) := dk_42 (dk_at dksX0_typed_0 14 rfl rfl)
theorem dX0_typed_15 : decode cX0_typed 15 = .ok (.getfield 32, 3) := dk_180 0 32 (dk_at dksX0_typed_0 15 rfl rfl)
theorem dX0_typed_18 : decode cX0_typed 18 = .ok (.getfield 106, 3) := dk_180 0 106 (dk_at dksX0_typed_0 18 rfl rfl)
theorem dX0_typed_21 : decode cX0_typed 21 = .ok (.iload_n 1, 1) := dk_27 (dk_at dksX0_typed_0 21 rfl rfl)
theorem dX0_typed_22 : decode cX0_typed 22 = .ok (.iload_n 2, 1) := dk_28 (dk_at dksX0_typed_0 22 rfl rfl)
theorem dX0_typed_23 : decode cX0_typed 23 = .ok (.ishr, 1) := dk_122 (dk_at dksX0_typed_0 23 rfl rfl)
theorem dX0_typed_24 : decode cX0_typed 24 = .ok (.i2b, 1) := dk_145 (dk_at dksX0_typed_1 0 rfl rfl)
theorem dX0_typed_25 : decode cX0_typed 25 = .ok (.bastore, 1) := dk_84 (dk_at dksX0_typed_1 1 rfl rfl)
theorem dX0_typed_26 : decode cX0_typed 26 = .ok (.aload_n 0, 1) := dk_42 (dk_at dksX0_typed_1 2 rfl rfl)
theorem dX0_typed_27 : decode cX0_typed 27 = .ok (.getfield 32, 3) := dk_180 0 32 (dk_at dksX0_typed_1 3 rfl rfl)
theorem dX0_typed_30 : decode cX0_typed 30 = .ok (.dup, 1) := dk_89 (dk_at dksX0_typed_1 6 rfl rfl)
theorem dX0_typed_31 : decode cX0_typed 31 = .ok (.getfield 106, 3) := dk_180 0 106 (dk_at dksX0_typed_1 7 rfl rfl)
theorem dX0_typed_34 : decode cX0_typed 34 = .ok (.iconst 1, 1) := dk_4 (dk_at dksX0_typed_1 10 rfl rfl)
theorem dX0_typed_35 : decode cX0_typed 35 = .ok (.iadd, 1) := dk_96 (dk_at dksX0_typed_1 11 rfl rfl)
theorem dX0_typed_36 : decode cX0_typed 36 = .ok (.putfield 106, 3) := dk_181 0 106 (dk_at dksX0_typed_1 12 rfl rfl)
theorem dX0_typed_39 : decode cX0_typed 39 = .ok (.iinc 2 (-8), 3) := dk_132 2 248 (dk_at dksX0_typed_1 15 rfl rfl)
theorem dX0_typed_42 : decode cX0_typed 42 = .ok (.goto (-39), 3) := dk_167 255 217 (dk_at dksX0_typed_1 18 rfl rfl)
theorem dX0_typed_45 : decode cX0_typed 45 = .ok (.return_, 1) := dk_177 (dk_at dksX0_typed_1 21 rfl rfl)
abbrev cX0_back : ByteArray := prog_1_method_7_code
def yX0_back : MethodName := ⟨RX0, "back", "(I)I"⟩
def dkwX0_back_1 : List UInt8 := [180, 0, 106, 27, 100, 181, 0, 106, 42, 180, 0, 32, 180, 0, 106, 172]
abbrev dktX0_back_1 : List UInt8 := dkwX0_back_1 ++ []
def dkwX0_back_0 : List UInt8 := [27, 155, 0, 14, 27, 42, 180, 0, 32, 180, 0, 106, 164, 0, 5, 2, 172, 42, 180, 0, 32, 89]
abbrev dktX0_back_0 : List UInt8 := dkwX0_back_0 ++ dktX0_back_1
theorem dksX0_back_0 : cX0_back.data.toList.drop 0 = dktX0_back_0 := by decide +kernel
theorem dksX0_back_1 : cX0_back.data.toList.drop 22 = dktX0_back_1 := dk_seg dksX0_back_0 22 rfl rfl
theorem dX0_back_0 : decode cX0_back 0 = .ok (.iload_n 1, 1) := dk_27 (dk_at dksX0_back_0 0 rfl rfl)
theorem dX0_back_1 : decode cX0_back 1 = .ok (.ifCond .lt 14, 3) := dk_155 0 14 (dk_at dksX0_back_0 1 rfl rfl)
theorem dX0_back_4 : decode cX0_back 4 = .ok (.iload_n 1, 1) := dk_27 (dk_at dksX0_back_0 4 rfl rfl)
theorem dX0_back_5 : decode cX0_back 5 = .ok (.aload_n 0, 1) := dk_42 (dk_at dksX0_back_0 5 rfl rfl)
theorem dX0_back_6 : decode cX0_back 6 = .ok (.getfield 32, 3) := dk_180 0 32 (dk_at dksX0_back_0 6 rfl rfl)
theorem dX0_back_9 : decode cX0_back 9 = .ok (.getfield 106, 3) := dk_180 0 106 (dk_at dksX0_back_0 9 rfl rfl)
theorem dX0_back_12 : decode cX0_back 12 = .ok (.if_icmp .le 5, 3) := dk_164 0 5 (dk_at dksX0_back_0 12 rfl rfl)
theorem dX0_back_15 : decode cX0_back 15 = .ok (.iconst (-1), 1) := dk_2 (dk_at dksX0_back_0 15 rfl rfl)
theorem dX0_back_16 : decode cX0_back 16 = .ok (.ireturn, 1) := dk_172 (dk_at dksX0_back_0 16 rfl rfl)
theorem dX0_back_17 : decode cX0_back 17 = .ok (.aload_n 0, 1) := dk_42 (dk_at dksX0_back_0 17 rfl rfl)
theorem dX0_back_18 : decode cX0_back 18 = .ok (.getfield 32, 3) := dk_180 0 32 (dk_at dksX0_back_0 18 rfl rfl)
theorem dX0_back_21 : decode cX0_back 21 = .ok (.dup, 1) := dk_89 (dk_at dksX0_back_0 21 rfl rfl)
theorem dX0_back_22 : decode cX0_back 22 = .ok (.getfield 106, 3) := dk_180 0 106 (dk_at dksX0_back_1 0 rfl rfl)
theorem dX0_back_25 : decode cX0_back 25 = .ok (.iload_n 1, 1) := dk_27 (dk_at dksX0_back_1 3 rfl rfl)
theorem dX0_back_26 : decode cX0_back 26 = .ok (.isub, 1) := dk_100 (dk_at dksX0_back_1 4 rfl rfl)
theorem dX0_back_27 : decode cX0_back 27 = .ok (.putfield 106, 3) := dk_181 0 106 (dk_at dksX0_back_1 5 rfl rfl)
theorem dX0_back_30 : decode cX0_back 30 = .ok (.aload_n 0, 1) := dk_42 (dk_at dksX0_back_1 8 rfl rfl)
theorem dX0_back_31 : decode cX0_back 31 = .ok (.getfield 32, 3) := dk_180 0 32 (dk_at dksX0_back_1 9 rfl rfl)
theorem dX0_back_34 : decode cX0_back 34 = .ok (.getfield 106, 3) := dk_180 0 106 (dk_at dksX0_back_1 12 rfl rfl)
theorem dX0_back_37 : decode cX0_back 37 = .ok (.ireturn, 1) := dk_172 (dk_at dksX0_back_1 15 rfl rfl)
abbrev cX0_read : ByteArray := prog_1_method_8_code
def yX0_read : MethodName := ⟨RX0, "read", "()I"⟩
def dkwX0_read_3 : List UInt8 := [180, 0, 130, 181, 0, 52, 42, 180, 0, 32, 3, 181, 0, 106, 27, 172]
abbrev dktX0_read_3 : List UInt8 := dkwX0_read_3 ++ []
def dkwX0_read_2 : List UInt8 := [180, 0, 73, 28, 3, 84, 132, 2, 1, 167, 255, 241, 167, 0, 17, 77, 44, 180, 0, 127, 60, 42, 44]
abbrev dktX0_read_2 : List UInt8 := dkwX0_read_2 ++ dktX0_read_3
def dkwX0_read_1 : List UInt8 := [180, 0, 48, 182, 0, 102, 42, 3, 181, 0, 121, 42, 3, 181, 0, 124, 3, 61, 28, 6, 162, 0, 16, 42]
abbrev dktX0_read_1 : List UInt8 := dkwX0_read_1 ++ dktX0_read_2
def dkwX0_read_0 : List UInt8 := [3, 60, 42, 2, 181, 0, 52, 42, 42, 180, 0, 41, 182, 0, 117, 181, 0, 48, 42, 180, 0, 59, 42]
abbrev dktX0_read_0 : List UInt8 := dkwX0_read_0 ++ dktX0_read_1
theorem dksX0_read_0 : cX0_read.data.toList.drop 0 = dktX0_read_0 := by decide +kernel
theorem dksX0_read_1 : cX0_read.data.toList.drop 23 = dktX0_read_1 := dk_seg dksX0_read_0 23 rfl rfl
theorem dksX0_read_2 : cX0_read.data.toList.drop 47 = dktX0_read_2 := dk_seg dksX0_read_1 24 rfl rfl
theorem dksX0_read_3 : cX0_read.data.toList.drop 70 = dktX0_read_3 := dk_seg dksX0_read_2 23 rfl rfl
theorem dX0_read_0 : decode cX0_read 0 = .ok (.iconst 0, 1) := dk_3 (dk_at dksX0_read_0 0 rfl rfl)
theorem dX0_read_1 : decode cX0_read 1 = .ok (.istore_n 1, 1) := dk_60 (dk_at dksX0_read_0 1 rfl rfl)
theorem dX0_read_2 : decode cX0_read 2 = .ok (.aload_n 0, 1) := dk_42 (dk_at dksX0_read_0 2 rfl rfl)
theorem dX0_read_3 : decode cX0_read 3 = .ok (.iconst (-1), 1) := dk_2 (dk_at dksX0_read_0 3 rfl rfl)
theorem dX0_read_4 : decode cX0_read 4 = .ok (.putfield 52, 3) := dk_181 0 52 (dk_at dksX0_read_0 4 rfl rfl)
theorem dX0_read_7 : decode cX0_read 7 = .ok (.aload_n 0, 1) := dk_42 (dk_at dksX0_read_0 7 rfl rfl)
theorem dX0_read_8 : decode cX0_read 8 = .ok (.aload_n 0, 1) := dk_42 (dk_at dksX0_read_0 8 rfl rfl)
theorem dX0_read_9 : decode cX0_read 9 = .ok (.getfield 41, 3) := dk_180 0 41 (dk_at dksX0_read_0 9 rfl rfl)
theorem dX0_read_12 : decode cX0_read 12 = .ok (.invokevirtual 117, 3) := dk_182 0 117 (dk_at dksX0_read_0 12 rfl rfl)
theorem dX0_read_15 : decode cX0_read 15 = .ok (.putfield 48, 3) := dk_181 0 48 (dk_at dksX0_read_0 15 rfl rfl)
theorem dX0_read_18 : decode cX0_read 18 = .ok (.aload_n 0, 1) := dk_42 (dk_at dksX0_read_0 18 rfl rfl)
theorem dX0_read_19 : decode cX0_read 19 = .ok (.getfield 59, 3) := dk_180 0 59 (dk_at dksX0_read_0 19 rfl rfl)
theorem dX0_read_22 : decode cX0_read 22 = .ok (.aload_n 0, 1) := dk_42 (dk_at dksX0_read_0 22 rfl rfl)
theorem dX0_read_23 : decode cX0_read 23 = .ok (.getfield 48, 3) := dk_180 0 48 (dk_at dksX0_read_1 0 rfl rfl)
theorem dX0_read_26 : decode cX0_read 26 = .ok (.invokevirtual 102, 3) := dk_182 0 102 (dk_at dksX0_read_1 3 rfl rfl)
theorem dX0_read_29 : decode cX0_read 29 = .ok (.aload_n 0, 1) := dk_42 (dk_at dksX0_read_1 6 rfl rfl)
theorem dX0_read_30 : decode cX0_read 30 = .ok (.iconst 0, 1) := dk_3 (dk_at dksX0_read_1 7 rfl rfl)
theorem dX0_read_31 : decode cX0_read 31 = .ok (.putfield 121, 3) := dk_181 0 121 (dk_at dksX0_read_1 8 rfl rfl)
theorem dX0_read_34 : decode cX0_read 34 = .ok (.aload_n 0, 1) := dk_42 (dk_at dksX0_read_1 11 rfl rfl)
theorem dX0_read_35 : decode cX0_read 35 = .ok (.iconst 0, 1) := dk_3 (dk_at dksX0_read_1 12 rfl rfl)
theorem dX0_read_36 : decode cX0_read 36 = .ok (.putfield 124, 3) := dk_181 0 124 (dk_at dksX0_read_1 13 rfl rfl)
theorem dX0_read_39 : decode cX0_read 39 = .ok (.iconst 0, 1) := dk_3 (dk_at dksX0_read_1 16 rfl rfl)
theorem dX0_read_40 : decode cX0_read 40 = .ok (.istore_n 2, 1) := dk_61 (dk_at dksX0_read_1 17 rfl rfl)
theorem dX0_read_41 : decode cX0_read 41 = .ok (.iload_n 2, 1) := dk_28 (dk_at dksX0_read_1 18 rfl rfl)
theorem dX0_read_42 : decode cX0_read 42 = .ok (.iconst 3, 1) := dk_6 (dk_at dksX0_read_1 19 rfl rfl)
theorem dX0_read_43 : decode cX0_read 43 = .ok (.if_icmp .ge 16, 3) := dk_162 0 16 (dk_at dksX0_read_1 20 rfl rfl)
theorem dX0_read_46 : decode cX0_read 46 = .ok (.aload_n 0, 1) := dk_42 (dk_at dksX0_read_1 23 rfl rfl)
theorem dX0_read_47 : decode cX0_read 47 = .ok (.getfield 73, 3) := dk_180 0 73 (dk_at dksX0_read_2 0 rfl rfl)
theorem dX0_read_50 : decode cX0_read 50 = .ok (.iload_n 2, 1) := dk_28 (dk_at dksX0_read_2 3 rfl rfl)
theorem dX0_read_51 : decode cX0_read 51 = .ok (.iconst 0, 1) := dk_3 (dk_at dksX0_read_2 4 rfl rfl)
theorem dX0_read_52 : decode cX0_read 52 = .ok (.bastore, 1) := dk_84 (dk_at dksX0_read_2 5 rfl rfl)
theorem dX0_read_53 : decode cX0_read 53 = .ok (.iinc 2 1, 3) := dk_132 2 1 (dk_at dksX0_read_2 6 rfl rfl)
theorem dX0_read_56 : decode cX0_read 56 = .ok (.goto (-15), 3) := dk_167 255 241 (dk_at dksX0_read_2 9 rfl rfl)
theorem dX0_read_59 : decode cX0_read 59 = .ok (.goto 17, 3) := dk_167 0 17 (dk_at dksX0_read_2 12 rfl rfl)
theorem dX0_read_62 : decode cX0_read 62 = .ok (.astore_n 2, 1) := dk_77 (dk_at dksX0_read_2 15 rfl rfl)
theorem dX0_read_63 : decode cX0_read 63 = .ok (.aload_n 2, 1) := dk_44 (dk_at dksX0_read_2 16 rfl rfl)
theorem dX0_read_64 : decode cX0_read 64 = .ok (.getfield 127, 3) := dk_180 0 127 (dk_at dksX0_read_2 17 rfl rfl)
theorem dX0_read_67 : decode cX0_read 67 = .ok (.istore_n 1, 1) := dk_60 (dk_at dksX0_read_2 20 rfl rfl)
theorem dX0_read_68 : decode cX0_read 68 = .ok (.aload_n 0, 1) := dk_42 (dk_at dksX0_read_2 21 rfl rfl)
theorem dX0_read_69 : decode cX0_read 69 = .ok (.aload_n 2, 1) := dk_44 (dk_at dksX0_read_2 22 rfl rfl)
theorem dX0_read_70 : decode cX0_read 70 = .ok (.getfield 130, 3) := dk_180 0 130 (dk_at dksX0_read_3 0 rfl rfl)
theorem dX0_read_73 : decode cX0_read 73 = .ok (.putfield 52, 3) := dk_181 0 52 (dk_at dksX0_read_3 3 rfl rfl)
theorem dX0_read_76 : decode cX0_read 76 = .ok (.aload_n 0, 1) := dk_42 (dk_at dksX0_read_3 6 rfl rfl)
theorem dX0_read_77 : decode cX0_read 77 = .ok (.getfield 32, 3) := dk_180 0 32 (dk_at dksX0_read_3 7 rfl rfl)
theorem dX0_read_80 : decode cX0_read 80 = .ok (.iconst 0, 1) := dk_3 (dk_at dksX0_read_3 10 rfl rfl)
theorem dX0_read_81 : decode cX0_read 81 = .ok (.putfield 106, 3) := dk_181 0 106 (dk_at dksX0_read_3 11 rfl rfl)
theorem dX0_read_84 : decode cX0_read 84 = .ok (.iload_n 1, 1) := dk_27 (dk_at dksX0_read_3 14 rfl rfl)
theorem dX0_read_85 : decode cX0_read 85 = .ok (.ireturn, 1) := dk_172 (dk_at dksX0_read_3 15 rfl rfl)
abbrev cX0_place : ByteArray := prog_1_method_9_code
def yX0_place : MethodName := ⟨RX0, "place", "()I"⟩
theorem dX0_place_0 : decode cX0_place 0 = .ok (.aload_n 0, 1) := by decide +kernel
theorem dX0_place_1 : decode cX0_place 1 = .ok (.getfield 52, 3) := by decide +kernel
theorem dX0_place_4 : decode cX0_place 4 = .ok (.ireturn, 1) := by decide +kernel
abbrev cX0_heap : ByteArray := prog_1_method_17_code
def yX0_heap : MethodName := ⟨RX0, "heap", "(I)I"⟩
def dkwX0_heap_0 : List UInt8 := [42, 27, 182, 0, 157, 153, 0, 15, 42, 180, 0, 59, 180, 0, 161, 27, 46, 167, 0, 4, 2, 172]
abbrev dktX0_heap_0 : List UInt8 := dkwX0_heap_0 ++ []
theorem dksX0_heap_0 : cX0_heap.data.toList.drop 0 = dktX0_heap_0 := by decide +kernel
theorem dX0_heap_0 : decode cX0_heap 0 = .ok (.aload_n 0, 1) := dk_42 (dk_at dksX0_heap_0 0 rfl rfl)
theorem dX0_heap_1 : decode cX0_heap 1 = .ok (.iload_n 1, 1) := dk_27 (dk_at dksX0_heap_0 1 rfl rfl)
theorem dX0_heap_2 : decode cX0_heap 2 = .ok (.invokevirtual 157, 3) := dk_182 0 157 (dk_at dksX0_heap_0 2 rfl rfl)
theorem dX0_heap_5 : decode cX0_heap 5 = .ok (.ifCond .eq 15, 3) := dk_153 0 15 (dk_at dksX0_heap_0 5 rfl rfl)
theorem dX0_heap_8 : decode cX0_heap 8 = .ok (.aload_n 0, 1) := dk_42 (dk_at dksX0_heap_0 8 rfl rfl)
theorem dX0_heap_9 : decode cX0_heap 9 = .ok (.getfield 59, 3) := dk_180 0 59 (dk_at dksX0_heap_0 9 rfl rfl)
theorem dX0_heap_12 : decode cX0_heap 12 = .ok (.getfield 161, 3) := dk_180 0 161 (dk_at dksX0_heap_0 12 rfl rfl)
theorem dX0_heap_15 : decode cX0_heap 15 = .ok (.iload_n 1, 1) := dk_27 (dk_at dksX0_heap_0 15 rfl rfl)
theorem dX0_heap_16 : decode cX0_heap 16 = .ok (.iaload, 1) := dk_46 (dk_at dksX0_heap_0 16 rfl rfl)
theorem dX0_heap_17 : decode cX0_heap 17 = .ok (.goto 4, 3) := dk_167 0 4 (dk_at dksX0_heap_0 17 rfl rfl)
theorem dX0_heap_20 : decode cX0_heap 20 = .ok (.iconst (-1), 1) := dk_2 (dk_at dksX0_heap_0 20 rfl rfl)
theorem dX0_heap_21 : decode cX0_heap 21 = .ok (.ireturn, 1) := dk_172 (dk_at dksX0_heap_0 21 rfl rfl)
abbrev cX0_isGrain : ByteArray := prog_1_method_14_code
def yX0_isGrain : MethodName := ⟨RX0, "isGrain", "(I)Z"⟩
def dkwX0_isGrain_0 : List UInt8 := [27, 3, 42, 182, 0, 147, 4, 100, 184, 0, 149, 172]
abbrev dktX0_isGrain_0 : List UInt8 := dkwX0_isGrain_0 ++ []
theorem dksX0_isGrain_0 : cX0_isGrain.data.toList.drop 0 = dktX0_isGrain_0 := by decide +kernel
theorem dX0_isGrain_0 : decode cX0_isGrain 0 = .ok (.iload_n 1, 1) := dk_27 (dk_at dksX0_isGrain_0 0 rfl rfl)
theorem dX0_isGrain_1 : decode cX0_isGrain 1 = .ok (.iconst 0, 1) := dk_3 (dk_at dksX0_isGrain_0 1 rfl rfl)
theorem dX0_isGrain_2 : decode cX0_isGrain 2 = .ok (.aload_n 0, 1) := dk_42 (dk_at dksX0_isGrain_0 2 rfl rfl)
theorem dX0_isGrain_3 : decode cX0_isGrain 3 = .ok (.invokevirtual 147, 3) := dk_182 0 147 (dk_at dksX0_isGrain_0 3 rfl rfl)
theorem dX0_isGrain_6 : decode cX0_isGrain 6 = .ok (.iconst 1, 1) := dk_4 (dk_at dksX0_isGrain_0 6 rfl rfl)
theorem dX0_isGrain_7 : decode cX0_isGrain 7 = .ok (.isub, 1) := dk_100 (dk_at dksX0_isGrain_0 7 rfl rfl)
theorem dX0_isGrain_8 : decode cX0_isGrain 8 = .ok (.invokestatic 149, 3) := dk_184 0 149 (dk_at dksX0_isGrain_0 8 rfl rfl)
theorem dX0_isGrain_11 : decode cX0_isGrain 11 = .ok (.ireturn, 1) := dk_172 (dk_at dksX0_isGrain_0 11 rfl rfl)
abbrev cX0_grains : ByteArray := prog_1_method_11_code
def yX0_grains : MethodName := ⟨RX0, "grains", "()I"⟩
def dkwX0_grains_0 : List UInt8 := [42, 180, 0, 48, 180, 0, 131, 182, 0, 135, 172]
abbrev dktX0_grains_0 : List UInt8 := dkwX0_grains_0 ++ []
theorem dksX0_grains_0 : cX0_grains.data.toList.drop 0 = dktX0_grains_0 := by decide +kernel
theorem dX0_grains_0 : decode cX0_grains 0 = .ok (.aload_n 0, 1) := dk_42 (dk_at dksX0_grains_0 0 rfl rfl)
theorem dX0_grains_1 : decode cX0_grains 1 = .ok (.getfield 48, 3) := dk_180 0 48 (dk_at dksX0_grains_0 1 rfl rfl)
theorem dX0_grains_4 : decode cX0_grains 4 = .ok (.getfield 131, 3) := dk_180 0 131 (dk_at dksX0_grains_0 4 rfl rfl)
theorem dX0_grains_7 : decode cX0_grains 7 = .ok (.invokevirtual 135, 3) := dk_182 0 135 (dk_at dksX0_grains_0 7 rfl rfl)
theorem dX0_grains_10 : decode cX0_grains 10 = .ok (.ireturn, 1) := dk_172 (dk_at dksX0_grains_0 10 rfl rfl)
abbrev cX0_isIn : ByteArray := prog_1_method_10_code
def yX0_isIn : MethodName := ⟨RX0, "isIn", "(III)Z"⟩
def dkwX0_isIn_0 : List UInt8 := [26, 27, 161, 0, 12, 26, 28, 163, 0, 7, 4, 167, 0, 4, 3, 172]
abbrev dktX0_isIn_0 : List UInt8 := dkwX0_isIn_0 ++ []
theorem dksX0_isIn_0 : cX0_isIn.data.toList.drop 0 = dktX0_isIn_0 := by decide +kernel
theorem dX0_isIn_0 : decode cX0_isIn 0 = .ok (.iload_n 0, 1) := dk_26 (dk_at dksX0_isIn_0 0 rfl rfl)
theorem dX0_isIn_1 : decode cX0_isIn 1 = .ok (.iload_n 1, 1) := dk_27 (dk_at dksX0_isIn_0 1 rfl rfl)
theorem dX0_isIn_2 : decode cX0_isIn 2 = .ok (.if_icmp .lt 12, 3) := dk_161 0 12 (dk_at dksX0_isIn_0 2 rfl rfl)
theorem dX0_isIn_5 : decode cX0_isIn 5 = .ok (.iload_n 0, 1) := dk_26 (dk_at dksX0_isIn_0 5 rfl rfl)
theorem dX0_isIn_6 : decode cX0_isIn 6 = .ok (.iload_n 2, 1) := dk_28 (dk_at dksX0_isIn_0 6 rfl rfl)
theorem dX0_isIn_7 : decode cX0_isIn 7 = .ok (.if_icmp .gt 7, 3) := dk_163 0 7 (dk_at dksX0_isIn_0 7 rfl rfl)
theorem dX0_isIn_10 : decode cX0_isIn 10 = .ok (.iconst 1, 1) := dk_4 (dk_at dksX0_isIn_0 10 rfl rfl)
theorem dX0_isIn_11 : decode cX0_isIn 11 = .ok (.goto 4, 3) := dk_167 0 4 (dk_at dksX0_isIn_0 11 rfl rfl)
theorem dX0_isIn_14 : decode cX0_isIn 14 = .ok (.iconst 0, 1) := dk_3 (dk_at dksX0_isIn_0 14 rfl rfl)
theorem dX0_isIn_15 : decode cX0_isIn 15 = .ok (.ireturn, 1) := dk_172 (dk_at dksX0_isIn_0 15 rfl rfl)
abbrev cX0_hole : ByteArray := prog_1_method_18_code
def yX0_hole : MethodName := ⟨RX0, "hole", "(II)I"⟩
def dkwX0_hole_1 : List UInt8 := [50, 28, 46, 167, 0, 4, 2, 172]
abbrev dktX0_hole_1 : List UInt8 := dkwX0_hole_1 ++ []
def dkwX0_hole_0 : List UInt8 := [42, 27, 182, 0, 164, 153, 0, 25, 42, 28, 182, 0, 157, 153, 0, 17, 42, 180, 0, 59, 180, 0, 167, 27]
abbrev dktX0_hole_0 : List UInt8 := dkwX0_hole_0 ++ dktX0_hole_1
theorem dksX0_hole_0 : cX0_hole.data.toList.drop 0 = dktX0_hole_0 := by decide +kernel
theorem dksX0_hole_1 : cX0_hole.data.toList.drop 24 = dktX0_hole_1 := dk_seg dksX0_hole_0 24 rfl rfl
theorem dX0_hole_0 : decode cX0_hole 0 = .ok (.aload_n 0, 1) := dk_42 (dk_at dksX0_hole_0 0 rfl rfl)
theorem dX0_hole_1 : decode cX0_hole 1 = .ok (.iload_n 1, 1) := dk_27 (dk_at dksX0_hole_0 1 rfl rfl)
theorem dX0_hole_2 : decode cX0_hole 2 = .ok (.invokevirtual 164, 3) := dk_182 0 164 (dk_at dksX0_hole_0 2 rfl rfl)
theorem dX0_hole_5 : decode cX0_hole 5 = .ok (.ifCond .eq 25, 3) := dk_153 0 25 (dk_at dksX0_hole_0 5 rfl rfl)
theorem dX0_hole_8 : decode cX0_hole 8 = .ok (.aload_n 0, 1) := dk_42 (dk_at dksX0_hole_0 8 rfl rfl)
theorem dX0_hole_9 : decode cX0_hole 9 = .ok (.iload_n 2, 1) := dk_28 (dk_at dksX0_hole_0 9 rfl rfl)
theorem dX0_hole_10 : decode cX0_hole 10 = .ok (.invokevirtual 157, 3) := dk_182 0 157 (dk_at dksX0_hole_0 10 rfl rfl)
theorem dX0_hole_13 : decode cX0_hole 13 = .ok (.ifCond .eq 17, 3) := dk_153 0 17 (dk_at dksX0_hole_0 13 rfl rfl)
theorem dX0_hole_16 : decode cX0_hole 16 = .ok (.aload_n 0, 1) := dk_42 (dk_at dksX0_hole_0 16 rfl rfl)
theorem dX0_hole_17 : decode cX0_hole 17 = .ok (.getfield 59, 3) := dk_180 0 59 (dk_at dksX0_hole_0 17 rfl rfl)
theorem dX0_hole_20 : decode cX0_hole 20 = .ok (.getfield 167, 3) := dk_180 0 167 (dk_at dksX0_hole_0 20 rfl rfl)
theorem dX0_hole_23 : decode cX0_hole 23 = .ok (.iload_n 1, 1) := dk_27 (dk_at dksX0_hole_0 23 rfl rfl)
theorem dX0_hole_24 : decode cX0_hole 24 = .ok (.aaload, 1) := dk_50 (dk_at dksX0_hole_1 0 rfl rfl)
theorem dX0_hole_25 : decode cX0_hole 25 = .ok (.iload_n 2, 1) := dk_28 (dk_at dksX0_hole_1 1 rfl rfl)
theorem dX0_hole_26 : decode cX0_hole 26 = .ok (.iaload, 1) := dk_46 (dk_at dksX0_hole_1 2 rfl rfl)
theorem dX0_hole_27 : decode cX0_hole 27 = .ok (.goto 4, 3) := dk_167 0 4 (dk_at dksX0_hole_1 3 rfl rfl)
theorem dX0_hole_30 : decode cX0_hole 30 = .ok (.iconst (-1), 1) := dk_2 (dk_at dksX0_hole_1 6 rfl rfl)
theorem dX0_hole_31 : decode cX0_hole 31 = .ok (.ireturn, 1) := dk_172 (dk_at dksX0_hole_1 7 rfl rfl)
abbrev cX0_isHole : ByteArray := prog_1_method_15_code
def yX0_isHole : MethodName := ⟨RX0, "isHole", "(I)Z"⟩
def dkwX0_isHole_0 : List UInt8 := [27, 3, 42, 182, 0, 153, 4, 100, 184, 0, 149, 172]
abbrev dktX0_isHole_0 : List UInt8 := dkwX0_isHole_0 ++ []
theorem dksX0_isHole_0 : cX0_isHole.data.toList.drop 0 = dktX0_isHole_0 := by decide +kernel
theorem dX0_isHole_0 : decode cX0_isHole 0 = .ok (.iload_n 1, 1) := dk_27 (dk_at dksX0_isHole_0 0 rfl rfl)
theorem dX0_isHole_1 : decode cX0_isHole 1 = .ok (.iconst 0, 1) := dk_3 (dk_at dksX0_isHole_0 1 rfl rfl)
theorem dX0_isHole_2 : decode cX0_isHole 2 = .ok (.aload_n 0, 1) := dk_42 (dk_at dksX0_isHole_0 2 rfl rfl)
theorem dX0_isHole_3 : decode cX0_isHole 3 = .ok (.invokevirtual 153, 3) := dk_182 0 153 (dk_at dksX0_isHole_0 3 rfl rfl)
theorem dX0_isHole_6 : decode cX0_isHole 6 = .ok (.iconst 1, 1) := dk_4 (dk_at dksX0_isHole_0 6 rfl rfl)
theorem dX0_isHole_7 : decode cX0_isHole 7 = .ok (.isub, 1) := dk_100 (dk_at dksX0_isHole_0 7 rfl rfl)
theorem dX0_isHole_8 : decode cX0_isHole 8 = .ok (.invokestatic 149, 3) := dk_184 0 149 (dk_at dksX0_isHole_0 8 rfl rfl)
theorem dX0_isHole_11 : decode cX0_isHole 11 = .ok (.ireturn, 1) := dk_172 (dk_at dksX0_isHole_0 11 rfl rfl)
abbrev cX0_holes : ByteArray := prog_1_method_12_code
def yX0_holes : MethodName := ⟨RX0, "holes", "()I"⟩
def dkwX0_holes_0 : List UInt8 := [42, 180, 0, 48, 180, 0, 141, 182, 0, 135, 172]
abbrev dktX0_holes_0 : List UInt8 := dkwX0_holes_0 ++ []
theorem dksX0_holes_0 : cX0_holes.data.toList.drop 0 = dktX0_holes_0 := by decide +kernel
theorem dX0_holes_0 : decode cX0_holes 0 = .ok (.aload_n 0, 1) := dk_42 (dk_at dksX0_holes_0 0 rfl rfl)
theorem dX0_holes_1 : decode cX0_holes 1 = .ok (.getfield 48, 3) := dk_180 0 48 (dk_at dksX0_holes_0 1 rfl rfl)
theorem dX0_holes_4 : decode cX0_holes 4 = .ok (.getfield 141, 3) := dk_180 0 141 (dk_at dksX0_holes_0 4 rfl rfl)
theorem dX0_holes_7 : decode cX0_holes 7 = .ok (.invokevirtual 135, 3) := dk_182 0 135 (dk_at dksX0_holes_0 7 rfl rfl)
theorem dX0_holes_10 : decode cX0_holes 10 = .ok (.ireturn, 1) := dk_172 (dk_at dksX0_holes_0 10 rfl rfl)
abbrev cX0_rat : ByteArray := prog_1_method_19_code
def yX0_rat : MethodName := ⟨RX0, "rat", "(II)I"⟩
def dkwX0_rat_5 : List UInt8 := [180, 0, 59, 180, 0, 195, 27, 46, 172, 42, 180, 0, 59, 180, 0, 198, 27, 46, 172, 2, 172]
abbrev dktX0_rat_5 : List UInt8 := dkwX0_rat_5 ++ []
def dkwX0_rat_4 : List UInt8 := [46, 172, 42, 180, 0, 59, 180, 0, 189, 27, 46, 172, 42, 180, 0, 59, 180, 0, 192, 27, 46, 172, 42]
abbrev dktX0_rat_4 : List UInt8 := dkwX0_rat_4 ++ dktX0_rat_5
def dkwX0_rat_3 : List UInt8 := [180, 0, 180, 27, 46, 172, 42, 180, 0, 59, 180, 0, 183, 27, 46, 172, 42, 180, 0, 59, 180, 0, 186, 27]
abbrev dktX0_rat_3 : List UInt8 := dkwX0_rat_3 ++ dktX0_rat_4
def dkwX0_rat_2 : List UInt8 := [42, 180, 0, 59, 180, 0, 174, 27, 46, 172, 42, 180, 0, 59, 180, 0, 177, 27, 46, 172, 42, 180, 0, 59]
abbrev dktX0_rat_2 : List UInt8 := dkwX0_rat_2 ++ dktX0_rat_3
def dkwX0_rat_1 : List UInt8 := [170, 0, 0, 0, 139, 0, 0, 0, 0, 0, 0, 0, 8, 0, 0, 0, 49, 0, 0, 0, 59, 0, 0, 0, 69, 0, 0, 0, 79, 0, 0, 0, 89, 0, 0, 0, 99, 0, 0, 0, 109, 0, 0, 0, 119, 0, 0, 0, 129]
abbrev dktX0_rat_1 : List UInt8 := dkwX0_rat_1 ++ dktX0_rat_2
def dkwX0_rat_0 : List UInt8 := [42, 27, 182, 0, 171, 154, 0, 5, 2, 172, 28]
abbrev dktX0_rat_0 : List UInt8 := dkwX0_rat_0 ++ dktX0_rat_1
theorem dksX0_rat_0 : cX0_rat.data.toList.drop 0 = dktX0_rat_0 := by decide +kernel
theorem dksX0_rat_1 : cX0_rat.data.toList.drop 11 = dktX0_rat_1 := dk_seg dksX0_rat_0 11 rfl rfl
theorem dksX0_rat_2 : cX0_rat.data.toList.drop 60 = dktX0_rat_2 := dk_seg dksX0_rat_1 49 rfl rfl
theorem dksX0_rat_3 : cX0_rat.data.toList.drop 84 = dktX0_rat_3 := dk_seg dksX0_rat_2 24 rfl rfl
theorem dksX0_rat_4 : cX0_rat.data.toList.drop 108 = dktX0_rat_4 := dk_seg dksX0_rat_3 24 rfl rfl
theorem dksX0_rat_5 : cX0_rat.data.toList.drop 131 = dktX0_rat_5 := dk_seg dksX0_rat_4 23 rfl rfl
theorem dX0_rat_0 : decode cX0_rat 0 = .ok (.aload_n 0, 1) := dk_42 (dk_at dksX0_rat_0 0 rfl rfl)
theorem dX0_rat_1 : decode cX0_rat 1 = .ok (.iload_n 1, 1) := dk_27 (dk_at dksX0_rat_0 1 rfl rfl)
theorem dX0_rat_2 : decode cX0_rat 2 = .ok (.invokevirtual 171, 3) := dk_182 0 171 (dk_at dksX0_rat_0 2 rfl rfl)
theorem dX0_rat_5 : decode cX0_rat 5 = .ok (.ifCond .ne 5, 3) := dk_154 0 5 (dk_at dksX0_rat_0 5 rfl rfl)
theorem dX0_rat_8 : decode cX0_rat 8 = .ok (.iconst (-1), 1) := dk_2 (dk_at dksX0_rat_0 8 rfl rfl)
theorem dX0_rat_9 : decode cX0_rat 9 = .ok (.ireturn, 1) := dk_172 (dk_at dksX0_rat_0 9 rfl rfl)
theorem dX0_rat_10 : decode cX0_rat 10 = .ok (.iload_n 2, 1) := dk_28 (dk_at dksX0_rat_0 10 rfl rfl)
theorem dX0_rat_11 : decode cX0_rat 11 = .ok (.tableswitch 139 0 8 #[49, 59, 69, 79, 89, 99, 109, 119, 129], 49) := by decide +kernel
theorem dX0_rat_60 : decode cX0_rat 60 = .ok (.aload_n 0, 1) := dk_42 (dk_at dksX0_rat_2 0 rfl rfl)
theorem dX0_rat_61 : decode cX0_rat 61 = .ok (.getfield 59, 3) := dk_180 0 59 (dk_at dksX0_rat_2 1 rfl rfl)
theorem dX0_rat_64 : decode cX0_rat 64 = .ok (.getfield 174, 3) := dk_180 0 174 (dk_at dksX0_rat_2 4 rfl rfl)
theorem dX0_rat_67 : decode cX0_rat 67 = .ok (.iload_n 1, 1) := dk_27 (dk_at dksX0_rat_2 7 rfl rfl)
theorem dX0_rat_68 : decode cX0_rat 68 = .ok (.iaload, 1) := dk_46 (dk_at dksX0_rat_2 8 rfl rfl)
theorem dX0_rat_69 : decode cX0_rat 69 = .ok (.ireturn, 1) := dk_172 (dk_at dksX0_rat_2 9 rfl rfl)
theorem dX0_rat_70 : decode cX0_rat 70 = .ok (.aload_n 0, 1) := dk_42 (dk_at dksX0_rat_2 10 rfl rfl)
theorem dX0_rat_71 : decode cX0_rat 71 = .ok (.getfield 59, 3) := dk_180 0 59 (dk_at dksX0_rat_2 11 rfl rfl)
theorem dX0_rat_74 : decode cX0_rat 74 = .ok (.getfield 177, 3) := dk_180 0 177 (dk_at dksX0_rat_2 14 rfl rfl)
theorem dX0_rat_77 : decode cX0_rat 77 = .ok (.iload_n 1, 1) := dk_27 (dk_at dksX0_rat_2 17 rfl rfl)
theorem dX0_rat_78 : decode cX0_rat 78 = .ok (.iaload, 1) := dk_46 (dk_at dksX0_rat_2 18 rfl rfl)
theorem dX0_rat_79 : decode cX0_rat 79 = .ok (.ireturn, 1) := dk_172 (dk_at dksX0_rat_2 19 rfl rfl)
theorem dX0_rat_80 : decode cX0_rat 80 = .ok (.aload_n 0, 1) := dk_42 (dk_at dksX0_rat_2 20 rfl rfl)
theorem dX0_rat_81 : decode cX0_rat 81 = .ok (.getfield 59, 3) := dk_180 0 59 (dk_at dksX0_rat_2 21 rfl rfl)
theorem dX0_rat_84 : decode cX0_rat 84 = .ok (.getfield 180, 3) := dk_180 0 180 (dk_at dksX0_rat_3 0 rfl rfl)
theorem dX0_rat_87 : decode cX0_rat 87 = .ok (.iload_n 1, 1) := dk_27 (dk_at dksX0_rat_3 3 rfl rfl)
theorem dX0_rat_88 : decode cX0_rat 88 = .ok (.iaload, 1) := dk_46 (dk_at dksX0_rat_3 4 rfl rfl)
theorem dX0_rat_89 : decode cX0_rat 89 = .ok (.ireturn, 1) := dk_172 (dk_at dksX0_rat_3 5 rfl rfl)
theorem dX0_rat_90 : decode cX0_rat 90 = .ok (.aload_n 0, 1) := dk_42 (dk_at dksX0_rat_3 6 rfl rfl)
theorem dX0_rat_91 : decode cX0_rat 91 = .ok (.getfield 59, 3) := dk_180 0 59 (dk_at dksX0_rat_3 7 rfl rfl)
theorem dX0_rat_94 : decode cX0_rat 94 = .ok (.getfield 183, 3) := dk_180 0 183 (dk_at dksX0_rat_3 10 rfl rfl)
theorem dX0_rat_97 : decode cX0_rat 97 = .ok (.iload_n 1, 1) := dk_27 (dk_at dksX0_rat_3 13 rfl rfl)
theorem dX0_rat_98 : decode cX0_rat 98 = .ok (.iaload, 1) := dk_46 (dk_at dksX0_rat_3 14 rfl rfl)
theorem dX0_rat_99 : decode cX0_rat 99 = .ok (.ireturn, 1) := dk_172 (dk_at dksX0_rat_3 15 rfl rfl)
theorem dX0_rat_100 : decode cX0_rat 100 = .ok (.aload_n 0, 1) := dk_42 (dk_at dksX0_rat_3 16 rfl rfl)
theorem dX0_rat_101 : decode cX0_rat 101 = .ok (.getfield 59, 3) := dk_180 0 59 (dk_at dksX0_rat_3 17 rfl rfl)
theorem dX0_rat_104 : decode cX0_rat 104 = .ok (.getfield 186, 3) := dk_180 0 186 (dk_at dksX0_rat_3 20 rfl rfl)
theorem dX0_rat_107 : decode cX0_rat 107 = .ok (.iload_n 1, 1) := dk_27 (dk_at dksX0_rat_3 23 rfl rfl)
theorem dX0_rat_108 : decode cX0_rat 108 = .ok (.iaload, 1) := dk_46 (dk_at dksX0_rat_4 0 rfl rfl)
theorem dX0_rat_109 : decode cX0_rat 109 = .ok (.ireturn, 1) := dk_172 (dk_at dksX0_rat_4 1 rfl rfl)
theorem dX0_rat_110 : decode cX0_rat 110 = .ok (.aload_n 0, 1) := dk_42 (dk_at dksX0_rat_4 2 rfl rfl)
theorem dX0_rat_111 : decode cX0_rat 111 = .ok (.getfield 59, 3) := dk_180 0 59 (dk_at dksX0_rat_4 3 rfl rfl)
theorem dX0_rat_114 : decode cX0_rat 114 = .ok (.getfield 189, 3) := dk_180 0 189 (dk_at dksX0_rat_4 6 rfl rfl)
theorem dX0_rat_117 : decode cX0_rat 117 = .ok (.iload_n 1, 1) := dk_27 (dk_at dksX0_rat_4 9 rfl rfl)
theorem dX0_rat_118 : decode cX0_rat 118 = .ok (.iaload, 1) := dk_46 (dk_at dksX0_rat_4 10 rfl rfl)
theorem dX0_rat_119 : decode cX0_rat 119 = .ok (.ireturn, 1) := dk_172 (dk_at dksX0_rat_4 11 rfl rfl)
theorem dX0_rat_120 : decode cX0_rat 120 = .ok (.aload_n 0, 1) := dk_42 (dk_at dksX0_rat_4 12 rfl rfl)
theorem dX0_rat_121 : decode cX0_rat 121 = .ok (.getfield 59, 3) := dk_180 0 59 (dk_at dksX0_rat_4 13 rfl rfl)
theorem dX0_rat_124 : decode cX0_rat 124 = .ok (.getfield 192, 3) := dk_180 0 192 (dk_at dksX0_rat_4 16 rfl rfl)
theorem dX0_rat_127 : decode cX0_rat 127 = .ok (.iload_n 1, 1) := dk_27 (dk_at dksX0_rat_4 19 rfl rfl)
theorem dX0_rat_128 : decode cX0_rat 128 = .ok (.iaload, 1) := dk_46 (dk_at dksX0_rat_4 20 rfl rfl)
theorem dX0_rat_129 : decode cX0_rat 129 = .ok (.ireturn, 1) := dk_172 (dk_at dksX0_rat_4 21 rfl rfl)
theorem dX0_rat_130 : decode cX0_rat 130 = .ok (.aload_n 0, 1) := dk_42 (dk_at dksX0_rat_4 22 rfl rfl)
theorem dX0_rat_131 : decode cX0_rat 131 = .ok (.getfield 59, 3) := dk_180 0 59 (dk_at dksX0_rat_5 0 rfl rfl)
theorem dX0_rat_134 : decode cX0_rat 134 = .ok (.getfield 195, 3) := dk_180 0 195 (dk_at dksX0_rat_5 3 rfl rfl)
theorem dX0_rat_137 : decode cX0_rat 137 = .ok (.iload_n 1, 1) := dk_27 (dk_at dksX0_rat_5 6 rfl rfl)
theorem dX0_rat_138 : decode cX0_rat 138 = .ok (.iaload, 1) := dk_46 (dk_at dksX0_rat_5 7 rfl rfl)
theorem dX0_rat_139 : decode cX0_rat 139 = .ok (.ireturn, 1) := dk_172 (dk_at dksX0_rat_5 8 rfl rfl)
theorem dX0_rat_140 : decode cX0_rat 140 = .ok (.aload_n 0, 1) := dk_42 (dk_at dksX0_rat_5 9 rfl rfl)
theorem dX0_rat_141 : decode cX0_rat 141 = .ok (.getfield 59, 3) := dk_180 0 59 (dk_at dksX0_rat_5 10 rfl rfl)
theorem dX0_rat_144 : decode cX0_rat 144 = .ok (.getfield 198, 3) := dk_180 0 198 (dk_at dksX0_rat_5 13 rfl rfl)
theorem dX0_rat_147 : decode cX0_rat 147 = .ok (.iload_n 1, 1) := dk_27 (dk_at dksX0_rat_5 16 rfl rfl)
theorem dX0_rat_148 : decode cX0_rat 148 = .ok (.iaload, 1) := dk_46 (dk_at dksX0_rat_5 17 rfl rfl)
theorem dX0_rat_149 : decode cX0_rat 149 = .ok (.ireturn, 1) := dk_172 (dk_at dksX0_rat_5 18 rfl rfl)
theorem dX0_rat_150 : decode cX0_rat 150 = .ok (.iconst (-1), 1) := dk_2 (dk_at dksX0_rat_5 19 rfl rfl)
theorem dX0_rat_151 : decode cX0_rat 151 = .ok (.ireturn, 1) := dk_172 (dk_at dksX0_rat_5 20 rfl rfl)
abbrev cX0_isRat : ByteArray := prog_1_method_16_code
def yX0_isRat : MethodName := ⟨RX0, "isRat", "(I)Z"⟩
def dkwX0_isRat_0 : List UInt8 := [27, 3, 42, 182, 0, 155, 4, 100, 184, 0, 149, 172]
abbrev dktX0_isRat_0 : List UInt8 := dkwX0_isRat_0 ++ []
theorem dksX0_isRat_0 : cX0_isRat.data.toList.drop 0 = dktX0_isRat_0 := by decide +kernel
theorem dX0_isRat_0 : decode cX0_isRat 0 = .ok (.iload_n 1, 1) := dk_27 (dk_at dksX0_isRat_0 0 rfl rfl)
theorem dX0_isRat_1 : decode cX0_isRat 1 = .ok (.iconst 0, 1) := dk_3 (dk_at dksX0_isRat_0 1 rfl rfl)
theorem dX0_isRat_2 : decode cX0_isRat 2 = .ok (.aload_n 0, 1) := dk_42 (dk_at dksX0_isRat_0 2 rfl rfl)
theorem dX0_isRat_3 : decode cX0_isRat 3 = .ok (.invokevirtual 155, 3) := dk_182 0 155 (dk_at dksX0_isRat_0 3 rfl rfl)
theorem dX0_isRat_6 : decode cX0_isRat 6 = .ok (.iconst 1, 1) := dk_4 (dk_at dksX0_isRat_0 6 rfl rfl)
theorem dX0_isRat_7 : decode cX0_isRat 7 = .ok (.isub, 1) := dk_100 (dk_at dksX0_isRat_0 7 rfl rfl)
theorem dX0_isRat_8 : decode cX0_isRat 8 = .ok (.invokestatic 149, 3) := dk_184 0 149 (dk_at dksX0_isRat_0 8 rfl rfl)
theorem dX0_isRat_11 : decode cX0_isRat 11 = .ok (.ireturn, 1) := dk_172 (dk_at dksX0_isRat_0 11 rfl rfl)
abbrev cX0_rats : ByteArray := prog_1_method_13_code
def yX0_rats : MethodName := ⟨RX0, "rats", "()I"⟩
def dkwX0_rats_0 : List UInt8 := [42, 180, 0, 48, 180, 0, 144, 182, 0, 135, 172]
abbrev dktX0_rats_0 : List UInt8 := dkwX0_rats_0 ++ []
theorem dksX0_rats_0 : cX0_rats.data.toList.drop 0 = dktX0_rats_0 := by decide +kernel
theorem dX0_rats_0 : decode cX0_rats 0 = .ok (.aload_n 0, 1) := dk_42 (dk_at dksX0_rats_0 0 rfl rfl)
theorem dX0_rats_1 : decode cX0_rats 1 = .ok (.getfield 48, 3) := dk_180 0 48 (dk_at dksX0_rats_0 1 rfl rfl)
theorem dX0_rats_4 : decode cX0_rats 4 = .ok (.getfield 144, 3) := dk_180 0 144 (dk_at dksX0_rats_0 4 rfl rfl)
theorem dX0_rats_7 : decode cX0_rats 7 = .ok (.invokevirtual 135, 3) := dk_182 0 135 (dk_at dksX0_rats_0 7 rfl rfl)
theorem dX0_rats_10 : decode cX0_rats 10 = .ok (.ireturn, 1) := dk_172 (dk_at dksX0_rats_0 10 rfl rfl)
abbrev cX0_worth : ByteArray := prog_1_method_20_code
def yX0_worth : MethodName := ⟨RX0, "worth", "(I)I"⟩
def dkwX0_worth_1 : List UInt8 := [172]
abbrev dktX0_worth_1 : List UInt8 := dkwX0_worth_1 ++ []
def dkwX0_worth_0 : List UInt8 := [42, 27, 182, 0, 164, 153, 0, 18, 42, 180, 0, 59, 42, 180, 0, 48, 27, 182, 0, 201, 167, 0, 4, 2]
abbrev dktX0_worth_0 : List UInt8 := dkwX0_worth_0 ++ dktX0_worth_1
theorem dksX0_worth_0 : cX0_worth.data.toList.drop 0 = dktX0_worth_0 := by decide +kernel
theorem dksX0_worth_1 : cX0_worth.data.toList.drop 24 = dktX0_worth_1 := dk_seg dksX0_worth_0 24 rfl rfl
theorem dX0_worth_0 : decode cX0_worth 0 = .ok (.aload_n 0, 1) := dk_42 (dk_at dksX0_worth_0 0 rfl rfl)
theorem dX0_worth_1 : decode cX0_worth 1 = .ok (.iload_n 1, 1) := dk_27 (dk_at dksX0_worth_0 1 rfl rfl)
theorem dX0_worth_2 : decode cX0_worth 2 = .ok (.invokevirtual 164, 3) := dk_182 0 164 (dk_at dksX0_worth_0 2 rfl rfl)
theorem dX0_worth_5 : decode cX0_worth 5 = .ok (.ifCond .eq 18, 3) := dk_153 0 18 (dk_at dksX0_worth_0 5 rfl rfl)
theorem dX0_worth_8 : decode cX0_worth 8 = .ok (.aload_n 0, 1) := dk_42 (dk_at dksX0_worth_0 8 rfl rfl)
theorem dX0_worth_9 : decode cX0_worth 9 = .ok (.getfield 59, 3) := dk_180 0 59 (dk_at dksX0_worth_0 9 rfl rfl)
theorem dX0_worth_12 : decode cX0_worth 12 = .ok (.aload_n 0, 1) := dk_42 (dk_at dksX0_worth_0 12 rfl rfl)
theorem dX0_worth_13 : decode cX0_worth 13 = .ok (.getfield 48, 3) := dk_180 0 48 (dk_at dksX0_worth_0 13 rfl rfl)
theorem dX0_worth_16 : decode cX0_worth 16 = .ok (.iload_n 1, 1) := dk_27 (dk_at dksX0_worth_0 16 rfl rfl)
theorem dX0_worth_17 : decode cX0_worth 17 = .ok (.invokevirtual 201, 3) := dk_182 0 201 (dk_at dksX0_worth_0 17 rfl rfl)
theorem dX0_worth_20 : decode cX0_worth 20 = .ok (.goto 4, 3) := dk_167 0 4 (dk_at dksX0_worth_0 20 rfl rfl)
theorem dX0_worth_23 : decode cX0_worth 23 = .ok (.iconst (-1), 1) := dk_2 (dk_at dksX0_worth_0 23 rfl rfl)
theorem dX0_worth_24 : decode cX0_worth 24 = .ok (.ireturn, 1) := dk_172 (dk_at dksX0_worth_1 0 rfl rfl)
abbrev cX0_pure : ByteArray := prog_1_method_21_code
def yX0_pure : MethodName := ⟨RX0, "pure", "(IZ)I"⟩
def dkwX0_pure_4 : List UInt8 := [21, 5, 108, 172]
abbrev dktX0_pure_4 : List UInt8 := dkwX0_pure_4 ++ []
def dkwX0_pure_3 : List UInt8 := [21, 6, 54, 5, 21, 7, 54, 6, 167, 255, 236, 28, 153, 0, 11, 21, 4, 21, 5, 108, 167, 0, 7, 29]
abbrev dktX0_pure_3 : List UInt8 := dkwX0_pure_3 ++ dktX0_pure_4
def dkwX0_pure_2 : List UInt8 := [184, 0, 13, 54, 4, 29, 54, 5, 21, 4, 54, 6, 21, 6, 153, 0, 21, 21, 5, 21, 6, 112, 54, 7]
abbrev dktX0_pure_2 : List UInt8 := dkwX0_pure_2 ++ dktX0_pure_3
def dkwX0_pure_1 : List UInt8 := [180, 0, 141, 27, 182, 0, 205, 192, 0, 209, 180, 0, 211, 46, 62, 4, 42, 180, 0, 59, 27, 182, 0, 214]
abbrev dktX0_pure_1 : List UInt8 := dkwX0_pure_1 ++ dktX0_pure_2
def dkwX0_pure_0 : List UInt8 := [42, 27, 182, 0, 164, 154, 0, 5, 2, 172, 42, 180, 0, 59, 180, 0, 167, 27, 50, 42, 180, 0, 48]
abbrev dktX0_pure_0 : List UInt8 := dkwX0_pure_0 ++ dktX0_pure_1
theorem dksX0_pure_0 : cX0_pure.data.toList.drop 0 = dktX0_pure_0 := by decide +kernel
theorem dksX0_pure_1 : cX0_pure.data.toList.drop 23 = dktX0_pure_1 := dk_seg dksX0_pure_0 23 rfl rfl
theorem dksX0_pure_2 : cX0_pure.data.toList.drop 47 = dktX0_pure_2 := dk_seg dksX0_pure_1 24 rfl rfl
theorem dksX0_pure_3 : cX0_pure.data.toList.drop 71 = dktX0_pure_3 := dk_seg dksX0_pure_2 24 rfl rfl
theorem dksX0_pure_4 : cX0_pure.data.toList.drop 95 = dktX0_pure_4 := dk_seg dksX0_pure_3 24 rfl rfl
theorem dX0_pure_0 : decode cX0_pure 0 = .ok (.aload_n 0, 1) := dk_42 (dk_at dksX0_pure_0 0 rfl rfl)
theorem dX0_pure_1 : decode cX0_pure 1 = .ok (.iload_n 1, 1) := dk_27 (dk_at dksX0_pure_0 1 rfl rfl)
theorem dX0_pure_2 : decode cX0_pure 2 = .ok (.invokevirtual 164, 3) := dk_182 0 164 (dk_at dksX0_pure_0 2 rfl rfl)
theorem dX0_pure_5 : decode cX0_pure 5 = .ok (.ifCond .ne 5, 3) := dk_154 0 5 (dk_at dksX0_pure_0 5 rfl rfl)
theorem dX0_pure_8 : decode cX0_pure 8 = .ok (.iconst (-1), 1) := dk_2 (dk_at dksX0_pure_0 8 rfl rfl)
theorem dX0_pure_9 : decode cX0_pure 9 = .ok (.ireturn, 1) := dk_172 (dk_at dksX0_pure_0 9 rfl rfl)
theorem dX0_pure_10 : decode cX0_pure 10 = .ok (.aload_n 0, 1) := dk_42 (dk_at dksX0_pure_0 10 rfl rfl)
theorem dX0_pure_11 : decode cX0_pure 11 = .ok (.getfield 59, 3) := dk_180 0 59 (dk_at dksX0_pure_0 11 rfl rfl)
theorem dX0_pure_14 : decode cX0_pure 14 = .ok (.getfield 167, 3) := dk_180 0 167 (dk_at dksX0_pure_0 14 rfl rfl)
theorem dX0_pure_17 : decode cX0_pure 17 = .ok (.iload_n 1, 1) := dk_27 (dk_at dksX0_pure_0 17 rfl rfl)
theorem dX0_pure_18 : decode cX0_pure 18 = .ok (.aaload, 1) := dk_50 (dk_at dksX0_pure_0 18 rfl rfl)
theorem dX0_pure_19 : decode cX0_pure 19 = .ok (.aload_n 0, 1) := dk_42 (dk_at dksX0_pure_0 19 rfl rfl)
theorem dX0_pure_20 : decode cX0_pure 20 = .ok (.getfield 48, 3) := dk_180 0 48 (dk_at dksX0_pure_0 20 rfl rfl)
theorem dX0_pure_23 : decode cX0_pure 23 = .ok (.getfield 141, 3) := dk_180 0 141 (dk_at dksX0_pure_1 0 rfl rfl)
theorem dX0_pure_26 : decode cX0_pure 26 = .ok (.iload_n 1, 1) := dk_27 (dk_at dksX0_pure_1 3 rfl rfl)
theorem dX0_pure_27 : decode cX0_pure 27 = .ok (.invokevirtual 205, 3) := dk_182 0 205 (dk_at dksX0_pure_1 4 rfl rfl)
theorem dX0_pure_30 : decode cX0_pure 30 = .ok (.checkcast 209, 3) := dk_192 0 209 (dk_at dksX0_pure_1 7 rfl rfl)
theorem dX0_pure_33 : decode cX0_pure 33 = .ok (.getfield 211, 3) := dk_180 0 211 (dk_at dksX0_pure_1 10 rfl rfl)
theorem dX0_pure_36 : decode cX0_pure 36 = .ok (.iaload, 1) := dk_46 (dk_at dksX0_pure_1 13 rfl rfl)
theorem dX0_pure_37 : decode cX0_pure 37 = .ok (.istore_n 3, 1) := dk_62 (dk_at dksX0_pure_1 14 rfl rfl)
theorem dX0_pure_38 : decode cX0_pure 38 = .ok (.iconst 1, 1) := dk_4 (dk_at dksX0_pure_1 15 rfl rfl)
theorem dX0_pure_39 : decode cX0_pure 39 = .ok (.aload_n 0, 1) := dk_42 (dk_at dksX0_pure_1 16 rfl rfl)
theorem dX0_pure_40 : decode cX0_pure 40 = .ok (.getfield 59, 3) := dk_180 0 59 (dk_at dksX0_pure_1 17 rfl rfl)
theorem dX0_pure_43 : decode cX0_pure 43 = .ok (.iload_n 1, 1) := dk_27 (dk_at dksX0_pure_1 20 rfl rfl)
theorem dX0_pure_44 : decode cX0_pure 44 = .ok (.invokevirtual 214, 3) := dk_182 0 214 (dk_at dksX0_pure_1 21 rfl rfl)
theorem dX0_pure_47 : decode cX0_pure 47 = .ok (.invokestatic 13, 3) := dk_184 0 13 (dk_at dksX0_pure_2 0 rfl rfl)
theorem dX0_pure_50 : decode cX0_pure 50 = .ok (.istore 4, 2) := dk_54 4 (dk_at dksX0_pure_2 3 rfl rfl)
theorem dX0_pure_52 : decode cX0_pure 52 = .ok (.iload_n 3, 1) := dk_29 (dk_at dksX0_pure_2 5 rfl rfl)
theorem dX0_pure_53 : decode cX0_pure 53 = .ok (.istore 5, 2) := dk_54 5 (dk_at dksX0_pure_2 6 rfl rfl)
theorem dX0_pure_55 : decode cX0_pure 55 = .ok (.iload 4, 2) := dk_21 4 (dk_at dksX0_pure_2 8 rfl rfl)
theorem dX0_pure_57 : decode cX0_pure 57 = .ok (.istore 6, 2) := dk_54 6 (dk_at dksX0_pure_2 10 rfl rfl)
theorem dX0_pure_59 : decode cX0_pure 59 = .ok (.iload 6, 2) := dk_21 6 (dk_at dksX0_pure_2 12 rfl rfl)
theorem dX0_pure_61 : decode cX0_pure 61 = .ok (.ifCond .eq 21, 3) := dk_153 0 21 (dk_at dksX0_pure_2 14 rfl rfl)
theorem dX0_pure_64 : decode cX0_pure 64 = .ok (.iload 5, 2) := dk_21 5 (dk_at dksX0_pure_2 17 rfl rfl)
theorem dX0_pure_66 : decode cX0_pure 66 = .ok (.iload 6, 2) := dk_21 6 (dk_at dksX0_pure_2 19 rfl rfl)
theorem dX0_pure_68 : decode cX0_pure 68 = .ok (.irem, 1) := dk_112 (dk_at dksX0_pure_2 21 rfl rfl)
theorem dX0_pure_69 : decode cX0_pure 69 = .ok (.istore 7, 2) := dk_54 7 (dk_at dksX0_pure_2 22 rfl rfl)
theorem dX0_pure_71 : decode cX0_pure 71 = .ok (.iload 6, 2) := dk_21 6 (dk_at dksX0_pure_3 0 rfl rfl)
theorem dX0_pure_73 : decode cX0_pure 73 = .ok (.istore 5, 2) := dk_54 5 (dk_at dksX0_pure_3 2 rfl rfl)
theorem dX0_pure_75 : decode cX0_pure 75 = .ok (.iload 7, 2) := dk_21 7 (dk_at dksX0_pure_3 4 rfl rfl)
theorem dX0_pure_77 : decode cX0_pure 77 = .ok (.istore 6, 2) := dk_54 6 (dk_at dksX0_pure_3 6 rfl rfl)
theorem dX0_pure_79 : decode cX0_pure 79 = .ok (.goto (-20), 3) := dk_167 255 236 (dk_at dksX0_pure_3 8 rfl rfl)
theorem dX0_pure_82 : decode cX0_pure 82 = .ok (.iload_n 2, 1) := dk_28 (dk_at dksX0_pure_3 11 rfl rfl)
theorem dX0_pure_83 : decode cX0_pure 83 = .ok (.ifCond .eq 11, 3) := dk_153 0 11 (dk_at dksX0_pure_3 12 rfl rfl)
theorem dX0_pure_86 : decode cX0_pure 86 = .ok (.iload 4, 2) := dk_21 4 (dk_at dksX0_pure_3 15 rfl rfl)
theorem dX0_pure_88 : decode cX0_pure 88 = .ok (.iload 5, 2) := dk_21 5 (dk_at dksX0_pure_3 17 rfl rfl)
theorem dX0_pure_90 : decode cX0_pure 90 = .ok (.idiv, 1) := dk_108 (dk_at dksX0_pure_3 19 rfl rfl)
theorem dX0_pure_91 : decode cX0_pure 91 = .ok (.goto 7, 3) := dk_167 0 7 (dk_at dksX0_pure_3 20 rfl rfl)
theorem dX0_pure_94 : decode cX0_pure 94 = .ok (.iload_n 3, 1) := dk_29 (dk_at dksX0_pure_3 23 rfl rfl)
theorem dX0_pure_95 : decode cX0_pure 95 = .ok (.iload 5, 2) := dk_21 5 (dk_at dksX0_pure_4 0 rfl rfl)
theorem dX0_pure_97 : decode cX0_pure 97 = .ok (.idiv, 1) := dk_108 (dk_at dksX0_pure_4 2 rfl rfl)
theorem dX0_pure_98 : decode cX0_pure 98 = .ok (.ireturn, 1) := dk_172 (dk_at dksX0_pure_4 3 rfl rfl)
abbrev cX0_minutes : ByteArray := prog_1_method_24_code
def yX0_minutes : MethodName := ⟨RX0, "minutes", "(I)I"⟩
def dkwX0_minutes_1 : List UInt8 := [180, 0, 59, 27, 182, 0, 231, 42, 180, 0, 59, 180, 0, 235, 172]
abbrev dktX0_minutes_1 : List UInt8 := dkwX0_minutes_1 ++ []
def dkwX0_minutes_0 : List UInt8 := [27, 3, 17, 2, 88, 184, 0, 149, 154, 0, 5, 2, 172, 27, 158, 0, 7, 42, 182, 0, 228, 42, 42]
abbrev dktX0_minutes_0 : List UInt8 := dkwX0_minutes_0 ++ dktX0_minutes_1
theorem dksX0_minutes_0 : cX0_minutes.data.toList.drop 0 = dktX0_minutes_0 := by decide +kernel
theorem dksX0_minutes_1 : cX0_minutes.data.toList.drop 23 = dktX0_minutes_1 := dk_seg dksX0_minutes_0 23 rfl rfl
theorem dX0_minutes_0 : decode cX0_minutes 0 = .ok (.iload_n 1, 1) := dk_27 (dk_at dksX0_minutes_0 0 rfl rfl)
theorem dX0_minutes_1 : decode cX0_minutes 1 = .ok (.iconst 0, 1) := dk_3 (dk_at dksX0_minutes_0 1 rfl rfl)
theorem dX0_minutes_2 : decode cX0_minutes 2 = .ok (.sipush 600, 3) := dk_17 2 88 (dk_at dksX0_minutes_0 2 rfl rfl)
theorem dX0_minutes_5 : decode cX0_minutes 5 = .ok (.invokestatic 149, 3) := dk_184 0 149 (dk_at dksX0_minutes_0 5 rfl rfl)
theorem dX0_minutes_8 : decode cX0_minutes 8 = .ok (.ifCond .ne 5, 3) := dk_154 0 5 (dk_at dksX0_minutes_0 8 rfl rfl)
theorem dX0_minutes_11 : decode cX0_minutes 11 = .ok (.iconst (-1), 1) := dk_2 (dk_at dksX0_minutes_0 11 rfl rfl)
theorem dX0_minutes_12 : decode cX0_minutes 12 = .ok (.ireturn, 1) := dk_172 (dk_at dksX0_minutes_0 12 rfl rfl)
theorem dX0_minutes_13 : decode cX0_minutes 13 = .ok (.iload_n 1, 1) := dk_27 (dk_at dksX0_minutes_0 13 rfl rfl)
theorem dX0_minutes_14 : decode cX0_minutes 14 = .ok (.ifCond .le 7, 3) := dk_158 0 7 (dk_at dksX0_minutes_0 14 rfl rfl)
theorem dX0_minutes_17 : decode cX0_minutes 17 = .ok (.aload_n 0, 1) := dk_42 (dk_at dksX0_minutes_0 17 rfl rfl)
theorem dX0_minutes_18 : decode cX0_minutes 18 = .ok (.invokevirtual 228, 3) := dk_182 0 228 (dk_at dksX0_minutes_0 18 rfl rfl)
theorem dX0_minutes_21 : decode cX0_minutes 21 = .ok (.aload_n 0, 1) := dk_42 (dk_at dksX0_minutes_0 21 rfl rfl)
theorem dX0_minutes_22 : decode cX0_minutes 22 = .ok (.aload_n 0, 1) := dk_42 (dk_at dksX0_minutes_0 22 rfl rfl)
theorem dX0_minutes_23 : decode cX0_minutes 23 = .ok (.getfield 59, 3) := dk_180 0 59 (dk_at dksX0_minutes_1 0 rfl rfl)
theorem dX0_minutes_26 : decode cX0_minutes 26 = .ok (.iload_n 1, 1) := dk_27 (dk_at dksX0_minutes_1 3 rfl rfl)
theorem dX0_minutes_27 : decode cX0_minutes 27 = .ok (.invokevirtual 231, 3) := dk_182 0 231 (dk_at dksX0_minutes_1 4 rfl rfl)
theorem dX0_minutes_30 : decode cX0_minutes 30 = .ok (.aload_n 0, 1) := dk_42 (dk_at dksX0_minutes_1 7 rfl rfl)
theorem dX0_minutes_31 : decode cX0_minutes 31 = .ok (.getfield 59, 3) := dk_180 0 59 (dk_at dksX0_minutes_1 8 rfl rfl)
theorem dX0_minutes_34 : decode cX0_minutes 34 = .ok (.getfield 235, 3) := dk_180 0 235 (dk_at dksX0_minutes_1 11 rfl rfl)
theorem dX0_minutes_37 : decode cX0_minutes 37 = .ok (.ireturn, 1) := dk_172 (dk_at dksX0_minutes_1 14 rfl rfl)
abbrev cX0_keeps : ByteArray := prog_1_method_22_code
def yX0_keeps : MethodName := ⟨RX0, "keeps", "()V"⟩
def dkwX0_keeps_1 : List UInt8 := [16, 40, 112, 181, 0, 218, 42, 16, 40, 42, 180, 0, 121, 4, 96, 184, 0, 8, 181, 0, 121, 177]
abbrev dktX0_keeps_1 : List UInt8 := dkwX0_keeps_1 ++ []
def dkwX0_keeps_0 : List UInt8 := [42, 180, 0, 66, 42, 180, 0, 218, 50, 42, 180, 0, 59, 182, 0, 221, 42, 42, 180, 0, 218, 4, 96]
abbrev dktX0_keeps_0 : List UInt8 := dkwX0_keeps_0 ++ dktX0_keeps_1
theorem dksX0_keeps_0 : cX0_keeps.data.toList.drop 0 = dktX0_keeps_0 := by decide +kernel
theorem dksX0_keeps_1 : cX0_keeps.data.toList.drop 23 = dktX0_keeps_1 := dk_seg dksX0_keeps_0 23 rfl rfl
theorem dX0_keeps_0 : decode cX0_keeps 0 = .ok (.aload_n 0, 1) := dk_42 (dk_at dksX0_keeps_0 0 rfl rfl)
theorem dX0_keeps_1 : decode cX0_keeps 1 = .ok (.getfield 66, 3) := dk_180 0 66 (dk_at dksX0_keeps_0 1 rfl rfl)
theorem dX0_keeps_4 : decode cX0_keeps 4 = .ok (.aload_n 0, 1) := dk_42 (dk_at dksX0_keeps_0 4 rfl rfl)
theorem dX0_keeps_5 : decode cX0_keeps 5 = .ok (.getfield 218, 3) := dk_180 0 218 (dk_at dksX0_keeps_0 5 rfl rfl)
theorem dX0_keeps_8 : decode cX0_keeps 8 = .ok (.aaload, 1) := dk_50 (dk_at dksX0_keeps_0 8 rfl rfl)
theorem dX0_keeps_9 : decode cX0_keeps 9 = .ok (.aload_n 0, 1) := dk_42 (dk_at dksX0_keeps_0 9 rfl rfl)
theorem dX0_keeps_10 : decode cX0_keeps 10 = .ok (.getfield 59, 3) := dk_180 0 59 (dk_at dksX0_keeps_0 10 rfl rfl)
theorem dX0_keeps_13 : decode cX0_keeps 13 = .ok (.invokevirtual 221, 3) := dk_182 0 221 (dk_at dksX0_keeps_0 13 rfl rfl)
theorem dX0_keeps_16 : decode cX0_keeps 16 = .ok (.aload_n 0, 1) := dk_42 (dk_at dksX0_keeps_0 16 rfl rfl)
theorem dX0_keeps_17 : decode cX0_keeps 17 = .ok (.aload_n 0, 1) := dk_42 (dk_at dksX0_keeps_0 17 rfl rfl)
theorem dX0_keeps_18 : decode cX0_keeps 18 = .ok (.getfield 218, 3) := dk_180 0 218 (dk_at dksX0_keeps_0 18 rfl rfl)
theorem dX0_keeps_21 : decode cX0_keeps 21 = .ok (.iconst 1, 1) := dk_4 (dk_at dksX0_keeps_0 21 rfl rfl)
theorem dX0_keeps_22 : decode cX0_keeps 22 = .ok (.iadd, 1) := dk_96 (dk_at dksX0_keeps_0 22 rfl rfl)
theorem dX0_keeps_23 : decode cX0_keeps 23 = .ok (.bipush 40, 2) := dk_16 40 (dk_at dksX0_keeps_1 0 rfl rfl)
theorem dX0_keeps_25 : decode cX0_keeps 25 = .ok (.irem, 1) := dk_112 (dk_at dksX0_keeps_1 2 rfl rfl)
theorem dX0_keeps_26 : decode cX0_keeps 26 = .ok (.putfield 218, 3) := dk_181 0 218 (dk_at dksX0_keeps_1 3 rfl rfl)
theorem dX0_keeps_29 : decode cX0_keeps 29 = .ok (.aload_n 0, 1) := dk_42 (dk_at dksX0_keeps_1 6 rfl rfl)
theorem dX0_keeps_30 : decode cX0_keeps 30 = .ok (.bipush 40, 2) := dk_16 40 (dk_at dksX0_keeps_1 7 rfl rfl)
theorem dX0_keeps_32 : decode cX0_keeps 32 = .ok (.aload_n 0, 1) := dk_42 (dk_at dksX0_keeps_1 9 rfl rfl)
theorem dX0_keeps_33 : decode cX0_keeps 33 = .ok (.getfield 121, 3) := dk_180 0 121 (dk_at dksX0_keeps_1 10 rfl rfl)
theorem dX0_keeps_36 : decode cX0_keeps 36 = .ok (.iconst 1, 1) := dk_4 (dk_at dksX0_keeps_1 13 rfl rfl)
theorem dX0_keeps_37 : decode cX0_keeps 37 = .ok (.iadd, 1) := dk_96 (dk_at dksX0_keeps_1 14 rfl rfl)
theorem dX0_keeps_38 : decode cX0_keeps 38 = .ok (.invokestatic 8, 3) := dk_184 0 8 (dk_at dksX0_keeps_1 15 rfl rfl)
theorem dX0_keeps_41 : decode cX0_keeps 41 = .ok (.putfield 121, 3) := dk_181 0 121 (dk_at dksX0_keeps_1 18 rfl rfl)
theorem dX0_keeps_44 : decode cX0_keeps 44 = .ok (.return_, 1) := dk_177 (dk_at dksX0_keeps_1 21 rfl rfl)
abbrev cX0_runs : ByteArray := prog_1_method_23_code
def yX0_runs : MethodName := ⟨RX0, "runs", "(LRatSorters$House;I)V"⟩
def dkwX0_runs_0 : List UInt8 := [3, 62, 29, 28, 162, 0, 17, 43, 42, 180, 0, 48, 182, 0, 225, 132, 3, 1, 167, 255, 240, 177]
abbrev dktX0_runs_0 : List UInt8 := dkwX0_runs_0 ++ []
theorem dksX0_runs_0 : cX0_runs.data.toList.drop 0 = dktX0_runs_0 := by decide +kernel
theorem dX0_runs_0 : decode cX0_runs 0 = .ok (.iconst 0, 1) := dk_3 (dk_at dksX0_runs_0 0 rfl rfl)
theorem dX0_runs_1 : decode cX0_runs 1 = .ok (.istore_n 3, 1) := dk_62 (dk_at dksX0_runs_0 1 rfl rfl)
theorem dX0_runs_2 : decode cX0_runs 2 = .ok (.iload_n 3, 1) := dk_29 (dk_at dksX0_runs_0 2 rfl rfl)
theorem dX0_runs_3 : decode cX0_runs 3 = .ok (.iload_n 2, 1) := dk_28 (dk_at dksX0_runs_0 3 rfl rfl)
theorem dX0_runs_4 : decode cX0_runs 4 = .ok (.if_icmp .ge 17, 3) := dk_162 0 17 (dk_at dksX0_runs_0 4 rfl rfl)
theorem dX0_runs_7 : decode cX0_runs 7 = .ok (.aload_n 1, 1) := dk_43 (dk_at dksX0_runs_0 7 rfl rfl)
theorem dX0_runs_8 : decode cX0_runs 8 = .ok (.aload_n 0, 1) := dk_42 (dk_at dksX0_runs_0 8 rfl rfl)
theorem dX0_runs_9 : decode cX0_runs 9 = .ok (.getfield 48, 3) := dk_180 0 48 (dk_at dksX0_runs_0 9 rfl rfl)
theorem dX0_runs_12 : decode cX0_runs 12 = .ok (.invokevirtual 225, 3) := dk_182 0 225 (dk_at dksX0_runs_0 12 rfl rfl)
theorem dX0_runs_15 : decode cX0_runs 15 = .ok (.iinc 3 1, 3) := dk_132 3 1 (dk_at dksX0_runs_0 15 rfl rfl)
theorem dX0_runs_18 : decode cX0_runs 18 = .ok (.goto (-16), 3) := dk_167 255 240 (dk_at dksX0_runs_0 18 rfl rfl)
theorem dX0_runs_21 : decode cX0_runs 21 = .ok (.return_, 1) := dk_177 (dk_at dksX0_runs_0 21 rfl rfl)
abbrev cX0_within : ByteArray := prog_1_method_3_code
def yX0_within : MethodName := ⟨RX0, "within", "(III)I"⟩
def dkwX0_within_0 : List UInt8 := [27, 28, 26, 184, 0, 8, 184, 0, 13, 172]
abbrev dktX0_within_0 : List UInt8 := dkwX0_within_0 ++ []
theorem dksX0_within_0 : cX0_within.data.toList.drop 0 = dktX0_within_0 := by decide +kernel
theorem dX0_within_0 : decode cX0_within 0 = .ok (.iload_n 1, 1) := dk_27 (dk_at dksX0_within_0 0 rfl rfl)
theorem dX0_within_1 : decode cX0_within 1 = .ok (.iload_n 2, 1) := dk_28 (dk_at dksX0_within_0 1 rfl rfl)
theorem dX0_within_2 : decode cX0_within 2 = .ok (.iload_n 0, 1) := dk_26 (dk_at dksX0_within_0 2 rfl rfl)
theorem dX0_within_3 : decode cX0_within 3 = .ok (.invokestatic 8, 3) := dk_184 0 8 (dk_at dksX0_within_0 3 rfl rfl)
theorem dX0_within_6 : decode cX0_within 6 = .ok (.invokestatic 13, 3) := dk_184 0 13 (dk_at dksX0_within_0 6 rfl rfl)
theorem dX0_within_9 : decode cX0_within 9 = .ok (.ireturn, 1) := dk_172 (dk_at dksX0_within_0 9 rfl rfl)
abbrev cX0_lot : ByteArray := prog_1_method_2_code
def yX0_lot : MethodName := ⟨RX0, "lot", "(III)I"⟩
def dkwX0_lot_0 : List UInt8 := [26, 16, 39, 184, 0, 2, 27, 184, 0, 2, 4, 124, 28, 112, 172]
abbrev dktX0_lot_0 : List UInt8 := dkwX0_lot_0 ++ []
theorem dksX0_lot_0 : cX0_lot.data.toList.drop 0 = dktX0_lot_0 := by decide +kernel
theorem dX0_lot_0 : decode cX0_lot 0 = .ok (.iload_n 0, 1) := dk_26 (dk_at dksX0_lot_0 0 rfl rfl)
theorem dX0_lot_1 : decode cX0_lot 1 = .ok (.bipush 39, 2) := dk_16 39 (dk_at dksX0_lot_0 1 rfl rfl)
theorem dX0_lot_3 : decode cX0_lot 3 = .ok (.invokestatic 2, 3) := dk_184 0 2 (dk_at dksX0_lot_0 3 rfl rfl)
theorem dX0_lot_6 : decode cX0_lot 6 = .ok (.iload_n 1, 1) := dk_27 (dk_at dksX0_lot_0 6 rfl rfl)
theorem dX0_lot_7 : decode cX0_lot 7 = .ok (.invokestatic 2, 3) := dk_184 0 2 (dk_at dksX0_lot_0 7 rfl rfl)
theorem dX0_lot_10 : decode cX0_lot 10 = .ok (.iconst 1, 1) := dk_4 (dk_at dksX0_lot_0 10 rfl rfl)
theorem dX0_lot_11 : decode cX0_lot 11 = .ok (.iushr, 1) := dk_124 (dk_at dksX0_lot_0 11 rfl rfl)
theorem dX0_lot_12 : decode cX0_lot 12 = .ok (.iload_n 2, 1) := dk_28 (dk_at dksX0_lot_0 12 rfl rfl)
theorem dX0_lot_13 : decode cX0_lot 13 = .ok (.irem, 1) := dk_112 (dk_at dksX0_lot_0 13 rfl rfl)
theorem dX0_lot_14 : decode cX0_lot 14 = .ok (.ireturn, 1) := dk_172 (dk_at dksX0_lot_0 14 rfl rfl)
abbrev cX0_mixed : ByteArray := prog_1_method_1_code
def yX0_mixed : MethodName := ⟨RX0, "mixed", "(II)I"⟩
def dkwX0_mixed_0 : List UInt8 := [26, 27, 130, 18, 1, 104, 17, 48, 57, 96, 61, 28, 28, 16, 15, 124, 130, 172]
abbrev dktX0_mixed_0 : List UInt8 := dkwX0_mixed_0 ++ []
theorem dksX0_mixed_0 : cX0_mixed.data.toList.drop 0 = dktX0_mixed_0 := by decide +kernel
theorem dX0_mixed_0 : decode cX0_mixed 0 = .ok (.iload_n 0, 1) := dk_26 (dk_at dksX0_mixed_0 0 rfl rfl)
theorem dX0_mixed_1 : decode cX0_mixed 1 = .ok (.iload_n 1, 1) := dk_27 (dk_at dksX0_mixed_0 1 rfl rfl)
theorem dX0_mixed_2 : decode cX0_mixed 2 = .ok (.ixor, 1) := dk_130 (dk_at dksX0_mixed_0 2 rfl rfl)
theorem dX0_mixed_3 : decode cX0_mixed 3 = .ok (.ldc 1, 2) := dk_18 1 (dk_at dksX0_mixed_0 3 rfl rfl)
theorem dX0_mixed_5 : decode cX0_mixed 5 = .ok (.imul, 1) := dk_104 (dk_at dksX0_mixed_0 5 rfl rfl)
theorem dX0_mixed_6 : decode cX0_mixed 6 = .ok (.sipush 12345, 3) := dk_17 48 57 (dk_at dksX0_mixed_0 6 rfl rfl)
theorem dX0_mixed_9 : decode cX0_mixed 9 = .ok (.iadd, 1) := dk_96 (dk_at dksX0_mixed_0 9 rfl rfl)
theorem dX0_mixed_10 : decode cX0_mixed 10 = .ok (.istore_n 2, 1) := dk_61 (dk_at dksX0_mixed_0 10 rfl rfl)
theorem dX0_mixed_11 : decode cX0_mixed 11 = .ok (.iload_n 2, 1) := dk_28 (dk_at dksX0_mixed_0 11 rfl rfl)
theorem dX0_mixed_12 : decode cX0_mixed 12 = .ok (.iload_n 2, 1) := dk_28 (dk_at dksX0_mixed_0 12 rfl rfl)
theorem dX0_mixed_13 : decode cX0_mixed 13 = .ok (.bipush 15, 2) := dk_16 15 (dk_at dksX0_mixed_0 13 rfl rfl)
theorem dX0_mixed_15 : decode cX0_mixed 15 = .ok (.iushr, 1) := dk_124 (dk_at dksX0_mixed_0 15 rfl rfl)
theorem dX0_mixed_16 : decode cX0_mixed 16 = .ok (.ixor, 1) := dk_130 (dk_at dksX0_mixed_0 16 rfl rfl)
theorem dX0_mixed_17 : decode cX0_mixed 17 = .ok (.ireturn, 1) := dk_172 (dk_at dksX0_mixed_0 17 rfl rfl)
abbrev cX0_pour : ByteArray := prog_1_method_25_code
def yX0_pour : MethodName := ⟨RX0, "pour", "(II)I"⟩
def dkwX0_pour_2 : List UInt8 := [180, 0, 161, 27, 92, 46, 28, 96, 79, 42, 180, 0, 59, 180, 0, 161, 27, 46, 172]
abbrev dktX0_pour_2 : List UInt8 := dkwX0_pour_2 ++ []
def dkwX0_pour_1 : List UInt8 := [180, 0, 161, 27, 46, 28, 96, 17, 39, 15, 164, 0, 5, 2, 172, 42, 182, 0, 228, 42, 180, 0, 59]
abbrev dktX0_pour_1 : List UInt8 := dkwX0_pour_1 ++ dktX0_pour_2
def dkwX0_pour_0 : List UInt8 := [42, 27, 182, 0, 157, 153, 0, 31, 28, 4, 17, 39, 15, 184, 0, 149, 153, 0, 20, 42, 180, 0, 59]
abbrev dktX0_pour_0 : List UInt8 := dkwX0_pour_0 ++ dktX0_pour_1
theorem dksX0_pour_0 : cX0_pour.data.toList.drop 0 = dktX0_pour_0 := by decide +kernel
theorem dksX0_pour_1 : cX0_pour.data.toList.drop 23 = dktX0_pour_1 := dk_seg dksX0_pour_0 23 rfl rfl
theorem dksX0_pour_2 : cX0_pour.data.toList.drop 46 = dktX0_pour_2 := dk_seg dksX0_pour_1 23 rfl rfl
theorem dX0_pour_0 : decode cX0_pour 0 = .ok (.aload_n 0, 1) := dk_42 (dk_at dksX0_pour_0 0 rfl rfl)
theorem dX0_pour_1 : decode cX0_pour 1 = .ok (.iload_n 1, 1) := dk_27 (dk_at dksX0_pour_0 1 rfl rfl)
theorem dX0_pour_2 : decode cX0_pour 2 = .ok (.invokevirtual 157, 3) := dk_182 0 157 (dk_at dksX0_pour_0 2 rfl rfl)
theorem dX0_pour_5 : decode cX0_pour 5 = .ok (.ifCond .eq 31, 3) := dk_153 0 31 (dk_at dksX0_pour_0 5 rfl rfl)
theorem dX0_pour_8 : decode cX0_pour 8 = .ok (.iload_n 2, 1) := dk_28 (dk_at dksX0_pour_0 8 rfl rfl)
theorem dX0_pour_9 : decode cX0_pour 9 = .ok (.iconst 1, 1) := dk_4 (dk_at dksX0_pour_0 9 rfl rfl)
theorem dX0_pour_10 : decode cX0_pour 10 = .ok (.sipush 9999, 3) := dk_17 39 15 (dk_at dksX0_pour_0 10 rfl rfl)
theorem dX0_pour_13 : decode cX0_pour 13 = .ok (.invokestatic 149, 3) := dk_184 0 149 (dk_at dksX0_pour_0 13 rfl rfl)
theorem dX0_pour_16 : decode cX0_pour 16 = .ok (.ifCond .eq 20, 3) := dk_153 0 20 (dk_at dksX0_pour_0 16 rfl rfl)
theorem dX0_pour_19 : decode cX0_pour 19 = .ok (.aload_n 0, 1) := dk_42 (dk_at dksX0_pour_0 19 rfl rfl)
theorem dX0_pour_20 : decode cX0_pour 20 = .ok (.getfield 59, 3) := dk_180 0 59 (dk_at dksX0_pour_0 20 rfl rfl)
theorem dX0_pour_23 : decode cX0_pour 23 = .ok (.getfield 161, 3) := dk_180 0 161 (dk_at dksX0_pour_1 0 rfl rfl)
theorem dX0_pour_26 : decode cX0_pour 26 = .ok (.iload_n 1, 1) := dk_27 (dk_at dksX0_pour_1 3 rfl rfl)
theorem dX0_pour_27 : decode cX0_pour 27 = .ok (.iaload, 1) := dk_46 (dk_at dksX0_pour_1 4 rfl rfl)
theorem dX0_pour_28 : decode cX0_pour 28 = .ok (.iload_n 2, 1) := dk_28 (dk_at dksX0_pour_1 5 rfl rfl)
theorem dX0_pour_29 : decode cX0_pour 29 = .ok (.iadd, 1) := dk_96 (dk_at dksX0_pour_1 6 rfl rfl)
theorem dX0_pour_30 : decode cX0_pour 30 = .ok (.sipush 9999, 3) := dk_17 39 15 (dk_at dksX0_pour_1 7 rfl rfl)
theorem dX0_pour_33 : decode cX0_pour 33 = .ok (.if_icmp .le 5, 3) := dk_164 0 5 (dk_at dksX0_pour_1 10 rfl rfl)
theorem dX0_pour_36 : decode cX0_pour 36 = .ok (.iconst (-1), 1) := dk_2 (dk_at dksX0_pour_1 13 rfl rfl)
theorem dX0_pour_37 : decode cX0_pour 37 = .ok (.ireturn, 1) := dk_172 (dk_at dksX0_pour_1 14 rfl rfl)
theorem dX0_pour_38 : decode cX0_pour 38 = .ok (.aload_n 0, 1) := dk_42 (dk_at dksX0_pour_1 15 rfl rfl)
theorem dX0_pour_39 : decode cX0_pour 39 = .ok (.invokevirtual 228, 3) := dk_182 0 228 (dk_at dksX0_pour_1 16 rfl rfl)
theorem dX0_pour_42 : decode cX0_pour 42 = .ok (.aload_n 0, 1) := dk_42 (dk_at dksX0_pour_1 19 rfl rfl)
theorem dX0_pour_43 : decode cX0_pour 43 = .ok (.getfield 59, 3) := dk_180 0 59 (dk_at dksX0_pour_1 20 rfl rfl)
theorem dX0_pour_46 : decode cX0_pour 46 = .ok (.getfield 161, 3) := dk_180 0 161 (dk_at dksX0_pour_2 0 rfl rfl)
theorem dX0_pour_49 : decode cX0_pour 49 = .ok (.iload_n 1, 1) := dk_27 (dk_at dksX0_pour_2 3 rfl rfl)
theorem dX0_pour_50 : decode cX0_pour 50 = .ok (.dup2, 1) := dk_92 (dk_at dksX0_pour_2 4 rfl rfl)
theorem dX0_pour_51 : decode cX0_pour 51 = .ok (.iaload, 1) := dk_46 (dk_at dksX0_pour_2 5 rfl rfl)
theorem dX0_pour_52 : decode cX0_pour 52 = .ok (.iload_n 2, 1) := dk_28 (dk_at dksX0_pour_2 6 rfl rfl)
theorem dX0_pour_53 : decode cX0_pour 53 = .ok (.iadd, 1) := dk_96 (dk_at dksX0_pour_2 7 rfl rfl)
theorem dX0_pour_54 : decode cX0_pour 54 = .ok (.iastore, 1) := dk_79 (dk_at dksX0_pour_2 8 rfl rfl)
theorem dX0_pour_55 : decode cX0_pour 55 = .ok (.aload_n 0, 1) := dk_42 (dk_at dksX0_pour_2 9 rfl rfl)
theorem dX0_pour_56 : decode cX0_pour 56 = .ok (.getfield 59, 3) := dk_180 0 59 (dk_at dksX0_pour_2 10 rfl rfl)
theorem dX0_pour_59 : decode cX0_pour 59 = .ok (.getfield 161, 3) := dk_180 0 161 (dk_at dksX0_pour_2 13 rfl rfl)
theorem dX0_pour_62 : decode cX0_pour 62 = .ok (.iload_n 1, 1) := dk_27 (dk_at dksX0_pour_2 16 rfl rfl)
theorem dX0_pour_63 : decode cX0_pour 63 = .ok (.iaload, 1) := dk_46 (dk_at dksX0_pour_2 17 rfl rfl)
theorem dX0_pour_64 : decode cX0_pour 64 = .ok (.ireturn, 1) := dk_172 (dk_at dksX0_pour_2 18 rfl rfl)
abbrev cX0_swap : ByteArray := prog_1_method_27_code
def yX0_swap : MethodName := ⟨RX0, "swap", "(II)Z"⟩
def dkwX0_swap_1 : List UInt8 := [182, 0, 228, 42, 180, 0, 59, 27, 28, 184, 0, 237, 4, 172]
abbrev dktX0_swap_1 : List UInt8 := dkwX0_swap_1 ++ []
def dkwX0_swap_0 : List UInt8 := [42, 27, 182, 0, 164, 153, 0, 16, 42, 28, 182, 0, 164, 153, 0, 8, 27, 28, 160, 0, 5, 3, 172, 42]
abbrev dktX0_swap_0 : List UInt8 := dkwX0_swap_0 ++ dktX0_swap_1
theorem dksX0_swap_0 : cX0_swap.data.toList.drop 0 = dktX0_swap_0 := by decide +kernel
theorem dksX0_swap_1 : cX0_swap.data.toList.drop 24 = dktX0_swap_1 := dk_seg dksX0_swap_0 24 rfl rfl
theorem dX0_swap_0 : decode cX0_swap 0 = .ok (.aload_n 0, 1) := dk_42 (dk_at dksX0_swap_0 0 rfl rfl)
theorem dX0_swap_1 : decode cX0_swap 1 = .ok (.iload_n 1, 1) := dk_27 (dk_at dksX0_swap_0 1 rfl rfl)
theorem dX0_swap_2 : decode cX0_swap 2 = .ok (.invokevirtual 164, 3) := dk_182 0 164 (dk_at dksX0_swap_0 2 rfl rfl)
theorem dX0_swap_5 : decode cX0_swap 5 = .ok (.ifCond .eq 16, 3) := dk_153 0 16 (dk_at dksX0_swap_0 5 rfl rfl)
theorem dX0_swap_8 : decode cX0_swap 8 = .ok (.aload_n 0, 1) := dk_42 (dk_at dksX0_swap_0 8 rfl rfl)
theorem dX0_swap_9 : decode cX0_swap 9 = .ok (.iload_n 2, 1) := dk_28 (dk_at dksX0_swap_0 9 rfl rfl)
theorem dX0_swap_10 : decode cX0_swap 10 = .ok (.invokevirtual 164, 3) := dk_182 0 164 (dk_at dksX0_swap_0 10 rfl rfl)
theorem dX0_swap_13 : decode cX0_swap 13 = .ok (.ifCond .eq 8, 3) := dk_153 0 8 (dk_at dksX0_swap_0 13 rfl rfl)
theorem dX0_swap_16 : decode cX0_swap 16 = .ok (.iload_n 1, 1) := dk_27 (dk_at dksX0_swap_0 16 rfl rfl)
theorem dX0_swap_17 : decode cX0_swap 17 = .ok (.iload_n 2, 1) := dk_28 (dk_at dksX0_swap_0 17 rfl rfl)
theorem dX0_swap_18 : decode cX0_swap 18 = .ok (.if_icmp .ne 5, 3) := dk_160 0 5 (dk_at dksX0_swap_0 18 rfl rfl)
theorem dX0_swap_21 : decode cX0_swap 21 = .ok (.iconst 0, 1) := dk_3 (dk_at dksX0_swap_0 21 rfl rfl)
theorem dX0_swap_22 : decode cX0_swap 22 = .ok (.ireturn, 1) := dk_172 (dk_at dksX0_swap_0 22 rfl rfl)
theorem dX0_swap_23 : decode cX0_swap 23 = .ok (.aload_n 0, 1) := dk_42 (dk_at dksX0_swap_0 23 rfl rfl)
theorem dX0_swap_24 : decode cX0_swap 24 = .ok (.invokevirtual 228, 3) := dk_182 0 228 (dk_at dksX0_swap_1 0 rfl rfl)
theorem dX0_swap_27 : decode cX0_swap 27 = .ok (.aload_n 0, 1) := dk_42 (dk_at dksX0_swap_1 3 rfl rfl)
theorem dX0_swap_28 : decode cX0_swap 28 = .ok (.getfield 59, 3) := dk_180 0 59 (dk_at dksX0_swap_1 4 rfl rfl)
theorem dX0_swap_31 : decode cX0_swap 31 = .ok (.iload_n 1, 1) := dk_27 (dk_at dksX0_swap_1 7 rfl rfl)
theorem dX0_swap_32 : decode cX0_swap 32 = .ok (.iload_n 2, 1) := dk_28 (dk_at dksX0_swap_1 8 rfl rfl)
theorem dX0_swap_33 : decode cX0_swap 33 = .ok (.invokestatic 237, 3) := dk_184 0 237 (dk_at dksX0_swap_1 9 rfl rfl)
theorem dX0_swap_36 : decode cX0_swap 36 = .ok (.iconst 1, 1) := dk_4 (dk_at dksX0_swap_1 12 rfl rfl)
theorem dX0_swap_37 : decode cX0_swap 37 = .ok (.ireturn, 1) := dk_172 (dk_at dksX0_swap_1 13 rfl rfl)
abbrev cX0_swaps : ByteArray := prog_1_method_26_code
def yX0_swaps : MethodName := ⟨RX0, "swaps", "(LRatSorters$House;II)V"⟩
def dkwX0_swaps_2 : List UInt8 := [167, 255, 211, 177]
abbrev dktX0_swaps_2 : List UInt8 := dkwX0_swaps_2 ++ []
def dkwX0_swaps_1 : List UInt8 := [29, 42, 180, 0, 167, 28, 50, 29, 46, 79, 42, 180, 0, 167, 28, 50, 29, 21, 4, 79, 132, 3, 1]
abbrev dktX0_swaps_1 : List UInt8 := dkwX0_swaps_1 ++ dktX0_swaps_2
def dkwX0_swaps_0 : List UInt8 := [3, 62, 29, 16, 6, 162, 0, 45, 42, 180, 0, 167, 27, 50, 29, 46, 54, 4, 42, 180, 0, 167, 27, 50]
abbrev dktX0_swaps_0 : List UInt8 := dkwX0_swaps_0 ++ dktX0_swaps_1
theorem dksX0_swaps_0 : cX0_swaps.data.toList.drop 0 = dktX0_swaps_0 := by decide +kernel
theorem dksX0_swaps_1 : cX0_swaps.data.toList.drop 24 = dktX0_swaps_1 := dk_seg dksX0_swaps_0 24 rfl rfl
theorem dksX0_swaps_2 : cX0_swaps.data.toList.drop 47 = dktX0_swaps_2 := dk_seg dksX0_swaps_1 23 rfl rfl
theorem dX0_swaps_0 : decode cX0_swaps 0 = .ok (.iconst 0, 1) := dk_3 (dk_at dksX0_swaps_0 0 rfl rfl)
theorem dX0_swaps_1 : decode cX0_swaps 1 = .ok (.istore_n 3, 1) := dk_62 (dk_at dksX0_swaps_0 1 rfl rfl)
theorem dX0_swaps_2 : decode cX0_swaps 2 = .ok (.iload_n 3, 1) := dk_29 (dk_at dksX0_swaps_0 2 rfl rfl)
theorem dX0_swaps_3 : decode cX0_swaps 3 = .ok (.bipush 6, 2) := dk_16 6 (dk_at dksX0_swaps_0 3 rfl rfl)
theorem dX0_swaps_5 : decode cX0_swaps 5 = .ok (.if_icmp .ge 45, 3) := dk_162 0 45 (dk_at dksX0_swaps_0 5 rfl rfl)
theorem dX0_swaps_8 : decode cX0_swaps 8 = .ok (.aload_n 0, 1) := dk_42 (dk_at dksX0_swaps_0 8 rfl rfl)
theorem dX0_swaps_9 : decode cX0_swaps 9 = .ok (.getfield 167, 3) := dk_180 0 167 (dk_at dksX0_swaps_0 9 rfl rfl)
theorem dX0_swaps_12 : decode cX0_swaps 12 = .ok (.iload_n 1, 1) := dk_27 (dk_at dksX0_swaps_0 12 rfl rfl)
theorem dX0_swaps_13 : decode cX0_swaps 13 = .ok (.aaload, 1) := dk_50 (dk_at dksX0_swaps_0 13 rfl rfl)
theorem dX0_swaps_14 : decode cX0_swaps 14 = .ok (.iload_n 3, 1) := dk_29 (dk_at dksX0_swaps_0 14 rfl rfl)
theorem dX0_swaps_15 : decode cX0_swaps 15 = .ok (.iaload, 1) := dk_46 (dk_at dksX0_swaps_0 15 rfl rfl)
theorem dX0_swaps_16 : decode cX0_swaps 16 = .ok (.istore 4, 2) := dk_54 4 (dk_at dksX0_swaps_0 16 rfl rfl)
theorem dX0_swaps_18 : decode cX0_swaps 18 = .ok (.aload_n 0, 1) := dk_42 (dk_at dksX0_swaps_0 18 rfl rfl)
theorem dX0_swaps_19 : decode cX0_swaps 19 = .ok (.getfield 167, 3) := dk_180 0 167 (dk_at dksX0_swaps_0 19 rfl rfl)
theorem dX0_swaps_22 : decode cX0_swaps 22 = .ok (.iload_n 1, 1) := dk_27 (dk_at dksX0_swaps_0 22 rfl rfl)
theorem dX0_swaps_23 : decode cX0_swaps 23 = .ok (.aaload, 1) := dk_50 (dk_at dksX0_swaps_0 23 rfl rfl)
theorem dX0_swaps_24 : decode cX0_swaps 24 = .ok (.iload_n 3, 1) := dk_29 (dk_at dksX0_swaps_1 0 rfl rfl)
theorem dX0_swaps_25 : decode cX0_swaps 25 = .ok (.aload_n 0, 1) := dk_42 (dk_at dksX0_swaps_1 1 rfl rfl)
theorem dX0_swaps_26 : decode cX0_swaps 26 = .ok (.getfield 167, 3) := dk_180 0 167 (dk_at dksX0_swaps_1 2 rfl rfl)
theorem dX0_swaps_29 : decode cX0_swaps 29 = .ok (.iload_n 2, 1) := dk_28 (dk_at dksX0_swaps_1 5 rfl rfl)
theorem dX0_swaps_30 : decode cX0_swaps 30 = .ok (.aaload, 1) := dk_50 (dk_at dksX0_swaps_1 6 rfl rfl)
theorem dX0_swaps_31 : decode cX0_swaps 31 = .ok (.iload_n 3, 1) := dk_29 (dk_at dksX0_swaps_1 7 rfl rfl)
theorem dX0_swaps_32 : decode cX0_swaps 32 = .ok (.iaload, 1) := dk_46 (dk_at dksX0_swaps_1 8 rfl rfl)
theorem dX0_swaps_33 : decode cX0_swaps 33 = .ok (.iastore, 1) := dk_79 (dk_at dksX0_swaps_1 9 rfl rfl)
theorem dX0_swaps_34 : decode cX0_swaps 34 = .ok (.aload_n 0, 1) := dk_42 (dk_at dksX0_swaps_1 10 rfl rfl)
theorem dX0_swaps_35 : decode cX0_swaps 35 = .ok (.getfield 167, 3) := dk_180 0 167 (dk_at dksX0_swaps_1 11 rfl rfl)
theorem dX0_swaps_38 : decode cX0_swaps 38 = .ok (.iload_n 2, 1) := dk_28 (dk_at dksX0_swaps_1 14 rfl rfl)
theorem dX0_swaps_39 : decode cX0_swaps 39 = .ok (.aaload, 1) := dk_50 (dk_at dksX0_swaps_1 15 rfl rfl)
theorem dX0_swaps_40 : decode cX0_swaps 40 = .ok (.iload_n 3, 1) := dk_29 (dk_at dksX0_swaps_1 16 rfl rfl)
theorem dX0_swaps_41 : decode cX0_swaps 41 = .ok (.iload 4, 2) := dk_21 4 (dk_at dksX0_swaps_1 17 rfl rfl)
theorem dX0_swaps_43 : decode cX0_swaps 43 = .ok (.iastore, 1) := dk_79 (dk_at dksX0_swaps_1 19 rfl rfl)
theorem dX0_swaps_44 : decode cX0_swaps 44 = .ok (.iinc 3 1, 3) := dk_132 3 1 (dk_at dksX0_swaps_1 20 rfl rfl)
theorem dX0_swaps_47 : decode cX0_swaps 47 = .ok (.goto (-45), 3) := dk_167 255 211 (dk_at dksX0_swaps_2 0 rfl rfl)
theorem dX0_swaps_50 : decode cX0_swaps 50 = .ok (.return_, 1) := dk_177 (dk_at dksX0_swaps_2 3 rfl rfl)
abbrev cX0_teach : ByteArray := prog_1_method_28_code
def yX0_teach : MethodName := ⟨RX0, "teach", "(II)Z"⟩
def dkwX0_teach_1 : List UInt8 := [46, 28, 160, 0, 5, 3, 172, 42, 182, 0, 228, 42, 180, 0, 59, 180, 0, 192, 27, 28, 79, 4, 172]
abbrev dktX0_teach_1 : List UInt8 := dkwX0_teach_1 ++ []
def dkwX0_teach_0 : List UInt8 := [42, 27, 182, 0, 171, 153, 0, 24, 42, 28, 182, 0, 157, 153, 0, 16, 42, 180, 0, 59, 180, 0, 192, 27]
abbrev dktX0_teach_0 : List UInt8 := dkwX0_teach_0 ++ dktX0_teach_1
theorem dksX0_teach_0 : cX0_teach.data.toList.drop 0 = dktX0_teach_0 := by decide +kernel
theorem dksX0_teach_1 : cX0_teach.data.toList.drop 24 = dktX0_teach_1 := dk_seg dksX0_teach_0 24 rfl rfl
theorem dX0_teach_0 : decode cX0_teach 0 = .ok (.aload_n 0, 1) := dk_42 (dk_at dksX0_teach_0 0 rfl rfl)
theorem dX0_teach_1 : decode cX0_teach 1 = .ok (.iload_n 1, 1) := dk_27 (dk_at dksX0_teach_0 1 rfl rfl)
theorem dX0_teach_2 : decode cX0_teach 2 = .ok (.invokevirtual 171, 3) := dk_182 0 171 (dk_at dksX0_teach_0 2 rfl rfl)
theorem dX0_teach_5 : decode cX0_teach 5 = .ok (.ifCond .eq 24, 3) := dk_153 0 24 (dk_at dksX0_teach_0 5 rfl rfl)
theorem dX0_teach_8 : decode cX0_teach 8 = .ok (.aload_n 0, 1) := dk_42 (dk_at dksX0_teach_0 8 rfl rfl)
theorem dX0_teach_9 : decode cX0_teach 9 = .ok (.iload_n 2, 1) := dk_28 (dk_at dksX0_teach_0 9 rfl rfl)
theorem dX0_teach_10 : decode cX0_teach 10 = .ok (.invokevirtual 157, 3) := dk_182 0 157 (dk_at dksX0_teach_0 10 rfl rfl)
theorem dX0_teach_13 : decode cX0_teach 13 = .ok (.ifCond .eq 16, 3) := dk_153 0 16 (dk_at dksX0_teach_0 13 rfl rfl)
theorem dX0_teach_16 : decode cX0_teach 16 = .ok (.aload_n 0, 1) := dk_42 (dk_at dksX0_teach_0 16 rfl rfl)
theorem dX0_teach_17 : decode cX0_teach 17 = .ok (.getfield 59, 3) := dk_180 0 59 (dk_at dksX0_teach_0 17 rfl rfl)
theorem dX0_teach_20 : decode cX0_teach 20 = .ok (.getfield 192, 3) := dk_180 0 192 (dk_at dksX0_teach_0 20 rfl rfl)
theorem dX0_teach_23 : decode cX0_teach 23 = .ok (.iload_n 1, 1) := dk_27 (dk_at dksX0_teach_0 23 rfl rfl)
theorem dX0_teach_24 : decode cX0_teach 24 = .ok (.iaload, 1) := dk_46 (dk_at dksX0_teach_1 0 rfl rfl)
theorem dX0_teach_25 : decode cX0_teach 25 = .ok (.iload_n 2, 1) := dk_28 (dk_at dksX0_teach_1 1 rfl rfl)
theorem dX0_teach_26 : decode cX0_teach 26 = .ok (.if_icmp .ne 5, 3) := dk_160 0 5 (dk_at dksX0_teach_1 2 rfl rfl)
theorem dX0_teach_29 : decode cX0_teach 29 = .ok (.iconst 0, 1) := dk_3 (dk_at dksX0_teach_1 5 rfl rfl)
theorem dX0_teach_30 : decode cX0_teach 30 = .ok (.ireturn, 1) := dk_172 (dk_at dksX0_teach_1 6 rfl rfl)
theorem dX0_teach_31 : decode cX0_teach 31 = .ok (.aload_n 0, 1) := dk_42 (dk_at dksX0_teach_1 7 rfl rfl)
theorem dX0_teach_32 : decode cX0_teach 32 = .ok (.invokevirtual 228, 3) := dk_182 0 228 (dk_at dksX0_teach_1 8 rfl rfl)
theorem dX0_teach_35 : decode cX0_teach 35 = .ok (.aload_n 0, 1) := dk_42 (dk_at dksX0_teach_1 11 rfl rfl)
theorem dX0_teach_36 : decode cX0_teach 36 = .ok (.getfield 59, 3) := dk_180 0 59 (dk_at dksX0_teach_1 12 rfl rfl)
theorem dX0_teach_39 : decode cX0_teach 39 = .ok (.getfield 192, 3) := dk_180 0 192 (dk_at dksX0_teach_1 15 rfl rfl)
theorem dX0_teach_42 : decode cX0_teach 42 = .ok (.iload_n 1, 1) := dk_27 (dk_at dksX0_teach_1 18 rfl rfl)
theorem dX0_teach_43 : decode cX0_teach 43 = .ok (.iload_n 2, 1) := dk_28 (dk_at dksX0_teach_1 19 rfl rfl)
theorem dX0_teach_44 : decode cX0_teach 44 = .ok (.iastore, 1) := dk_79 (dk_at dksX0_teach_1 20 rfl rfl)
theorem dX0_teach_45 : decode cX0_teach 45 = .ok (.iconst 1, 1) := dk_4 (dk_at dksX0_teach_1 21 rfl rfl)
theorem dX0_teach_46 : decode cX0_teach 46 = .ok (.ireturn, 1) := dk_172 (dk_at dksX0_teach_1 22 rfl rfl)
abbrev cX0_give : ByteArray := prog_1_method_29_code
def yX0_give : MethodName := ⟨RX0, "give", "(III)Z"⟩
def dkwX0_give_4 : List UInt8 := [184, 0, 8, 79, 4, 172]
abbrev dktX0_give_4 : List UInt8 := dkwX0_give_4 ++ []
def dkwX0_give_3 : List UInt8 := [182, 0, 241, 42, 180, 0, 59, 180, 0, 189, 27, 16, 9, 42, 180, 0, 59, 180, 0, 189, 27, 46, 4, 96]
abbrev dktX0_give_3 : List UInt8 := dkwX0_give_3 ++ dktX0_give_4
def dkwX0_give_2 : List UInt8 := [172, 42, 182, 0, 228, 42, 180, 0, 59, 180, 0, 161, 28, 92, 46, 29, 100, 79, 42, 180, 0, 59, 27, 29]
abbrev dktX0_give_2 : List UInt8 := dkwX0_give_2 ++ dktX0_give_3
def dkwX0_give_1 : List UInt8 := [180, 0, 161, 28, 46, 184, 0, 149, 153, 0, 15, 42, 180, 0, 59, 180, 0, 174, 27, 46, 153, 0, 5, 3]
abbrev dktX0_give_1 : List UInt8 := dkwX0_give_1 ++ dktX0_give_2
def dkwX0_give_0 : List UInt8 := [42, 27, 182, 0, 171, 153, 0, 40, 42, 28, 182, 0, 157, 153, 0, 32, 29, 4, 42, 180, 0, 59]
abbrev dktX0_give_0 : List UInt8 := dkwX0_give_0 ++ dktX0_give_1
theorem dksX0_give_0 : cX0_give.data.toList.drop 0 = dktX0_give_0 := by decide +kernel
theorem dksX0_give_1 : cX0_give.data.toList.drop 22 = dktX0_give_1 := dk_seg dksX0_give_0 22 rfl rfl
theorem dksX0_give_2 : cX0_give.data.toList.drop 46 = dktX0_give_2 := dk_seg dksX0_give_1 24 rfl rfl
theorem dksX0_give_3 : cX0_give.data.toList.drop 70 = dktX0_give_3 := dk_seg dksX0_give_2 24 rfl rfl
theorem dksX0_give_4 : cX0_give.data.toList.drop 94 = dktX0_give_4 := dk_seg dksX0_give_3 24 rfl rfl
theorem dX0_give_0 : decode cX0_give 0 = .ok (.aload_n 0, 1) := dk_42 (dk_at dksX0_give_0 0 rfl rfl)
theorem dX0_give_1 : decode cX0_give 1 = .ok (.iload_n 1, 1) := dk_27 (dk_at dksX0_give_0 1 rfl rfl)
theorem dX0_give_2 : decode cX0_give 2 = .ok (.invokevirtual 171, 3) := dk_182 0 171 (dk_at dksX0_give_0 2 rfl rfl)
theorem dX0_give_5 : decode cX0_give 5 = .ok (.ifCond .eq 40, 3) := dk_153 0 40 (dk_at dksX0_give_0 5 rfl rfl)
theorem dX0_give_8 : decode cX0_give 8 = .ok (.aload_n 0, 1) := dk_42 (dk_at dksX0_give_0 8 rfl rfl)
theorem dX0_give_9 : decode cX0_give 9 = .ok (.iload_n 2, 1) := dk_28 (dk_at dksX0_give_0 9 rfl rfl)
theorem dX0_give_10 : decode cX0_give 10 = .ok (.invokevirtual 157, 3) := dk_182 0 157 (dk_at dksX0_give_0 10 rfl rfl)
theorem dX0_give_13 : decode cX0_give 13 = .ok (.ifCond .eq 32, 3) := dk_153 0 32 (dk_at dksX0_give_0 13 rfl rfl)
theorem dX0_give_16 : decode cX0_give 16 = .ok (.iload_n 3, 1) := dk_29 (dk_at dksX0_give_0 16 rfl rfl)
theorem dX0_give_17 : decode cX0_give 17 = .ok (.iconst 1, 1) := dk_4 (dk_at dksX0_give_0 17 rfl rfl)
theorem dX0_give_18 : decode cX0_give 18 = .ok (.aload_n 0, 1) := dk_42 (dk_at dksX0_give_0 18 rfl rfl)
theorem dX0_give_19 : decode cX0_give 19 = .ok (.getfield 59, 3) := dk_180 0 59 (dk_at dksX0_give_0 19 rfl rfl)
theorem dX0_give_22 : decode cX0_give 22 = .ok (.getfield 161, 3) := dk_180 0 161 (dk_at dksX0_give_1 0 rfl rfl)
theorem dX0_give_25 : decode cX0_give 25 = .ok (.iload_n 2, 1) := dk_28 (dk_at dksX0_give_1 3 rfl rfl)
theorem dX0_give_26 : decode cX0_give 26 = .ok (.iaload, 1) := dk_46 (dk_at dksX0_give_1 4 rfl rfl)
theorem dX0_give_27 : decode cX0_give 27 = .ok (.invokestatic 149, 3) := dk_184 0 149 (dk_at dksX0_give_1 5 rfl rfl)
theorem dX0_give_30 : decode cX0_give 30 = .ok (.ifCond .eq 15, 3) := dk_153 0 15 (dk_at dksX0_give_1 8 rfl rfl)
theorem dX0_give_33 : decode cX0_give 33 = .ok (.aload_n 0, 1) := dk_42 (dk_at dksX0_give_1 11 rfl rfl)
theorem dX0_give_34 : decode cX0_give 34 = .ok (.getfield 59, 3) := dk_180 0 59 (dk_at dksX0_give_1 12 rfl rfl)
theorem dX0_give_37 : decode cX0_give 37 = .ok (.getfield 174, 3) := dk_180 0 174 (dk_at dksX0_give_1 15 rfl rfl)
theorem dX0_give_40 : decode cX0_give 40 = .ok (.iload_n 1, 1) := dk_27 (dk_at dksX0_give_1 18 rfl rfl)
theorem dX0_give_41 : decode cX0_give 41 = .ok (.iaload, 1) := dk_46 (dk_at dksX0_give_1 19 rfl rfl)
theorem dX0_give_42 : decode cX0_give 42 = .ok (.ifCond .eq 5, 3) := dk_153 0 5 (dk_at dksX0_give_1 20 rfl rfl)
theorem dX0_give_45 : decode cX0_give 45 = .ok (.iconst 0, 1) := dk_3 (dk_at dksX0_give_1 23 rfl rfl)
theorem dX0_give_46 : decode cX0_give 46 = .ok (.ireturn, 1) := dk_172 (dk_at dksX0_give_2 0 rfl rfl)
theorem dX0_give_47 : decode cX0_give 47 = .ok (.aload_n 0, 1) := dk_42 (dk_at dksX0_give_2 1 rfl rfl)
theorem dX0_give_48 : decode cX0_give 48 = .ok (.invokevirtual 228, 3) := dk_182 0 228 (dk_at dksX0_give_2 2 rfl rfl)
theorem dX0_give_51 : decode cX0_give 51 = .ok (.aload_n 0, 1) := dk_42 (dk_at dksX0_give_2 5 rfl rfl)
theorem dX0_give_52 : decode cX0_give 52 = .ok (.getfield 59, 3) := dk_180 0 59 (dk_at dksX0_give_2 6 rfl rfl)
theorem dX0_give_55 : decode cX0_give 55 = .ok (.getfield 161, 3) := dk_180 0 161 (dk_at dksX0_give_2 9 rfl rfl)
theorem dX0_give_58 : decode cX0_give 58 = .ok (.iload_n 2, 1) := dk_28 (dk_at dksX0_give_2 12 rfl rfl)
theorem dX0_give_59 : decode cX0_give 59 = .ok (.dup2, 1) := dk_92 (dk_at dksX0_give_2 13 rfl rfl)
theorem dX0_give_60 : decode cX0_give 60 = .ok (.iaload, 1) := dk_46 (dk_at dksX0_give_2 14 rfl rfl)
theorem dX0_give_61 : decode cX0_give 61 = .ok (.iload_n 3, 1) := dk_29 (dk_at dksX0_give_2 15 rfl rfl)
theorem dX0_give_62 : decode cX0_give 62 = .ok (.isub, 1) := dk_100 (dk_at dksX0_give_2 16 rfl rfl)
theorem dX0_give_63 : decode cX0_give 63 = .ok (.iastore, 1) := dk_79 (dk_at dksX0_give_2 17 rfl rfl)
theorem dX0_give_64 : decode cX0_give 64 = .ok (.aload_n 0, 1) := dk_42 (dk_at dksX0_give_2 18 rfl rfl)
theorem dX0_give_65 : decode cX0_give 65 = .ok (.getfield 59, 3) := dk_180 0 59 (dk_at dksX0_give_2 19 rfl rfl)
theorem dX0_give_68 : decode cX0_give 68 = .ok (.iload_n 1, 1) := dk_27 (dk_at dksX0_give_2 22 rfl rfl)
theorem dX0_give_69 : decode cX0_give 69 = .ok (.iload_n 3, 1) := dk_29 (dk_at dksX0_give_2 23 rfl rfl)
theorem dX0_give_70 : decode cX0_give 70 = .ok (.invokevirtual 241, 3) := dk_182 0 241 (dk_at dksX0_give_3 0 rfl rfl)
theorem dX0_give_73 : decode cX0_give 73 = .ok (.aload_n 0, 1) := dk_42 (dk_at dksX0_give_3 3 rfl rfl)
theorem dX0_give_74 : decode cX0_give 74 = .ok (.getfield 59, 3) := dk_180 0 59 (dk_at dksX0_give_3 4 rfl rfl)
theorem dX0_give_77 : decode cX0_give 77 = .ok (.getfield 189, 3) := dk_180 0 189 (dk_at dksX0_give_3 7 rfl rfl)
theorem dX0_give_80 : decode cX0_give 80 = .ok (.iload_n 1, 1) := dk_27 (dk_at dksX0_give_3 10 rfl rfl)
theorem dX0_give_81 : decode cX0_give 81 = .ok (.bipush 9, 2) := dk_16 9 (dk_at dksX0_give_3 11 rfl rfl)
theorem dX0_give_83 : decode cX0_give 83 = .ok (.aload_n 0, 1) := dk_42 (dk_at dksX0_give_3 13 rfl rfl)
theorem dX0_give_84 : decode cX0_give 84 = .ok (.getfield 59, 3) := dk_180 0 59 (dk_at dksX0_give_3 14 rfl rfl)
theorem dX0_give_87 : decode cX0_give 87 = .ok (.getfield 189, 3) := dk_180 0 189 (dk_at dksX0_give_3 17 rfl rfl)
theorem dX0_give_90 : decode cX0_give 90 = .ok (.iload_n 1, 1) := dk_27 (dk_at dksX0_give_3 20 rfl rfl)
theorem dX0_give_91 : decode cX0_give 91 = .ok (.iaload, 1) := dk_46 (dk_at dksX0_give_3 21 rfl rfl)
theorem dX0_give_92 : decode cX0_give 92 = .ok (.iconst 1, 1) := dk_4 (dk_at dksX0_give_3 22 rfl rfl)
theorem dX0_give_93 : decode cX0_give 93 = .ok (.iadd, 1) := dk_96 (dk_at dksX0_give_3 23 rfl rfl)
theorem dX0_give_94 : decode cX0_give 94 = .ok (.invokestatic 8, 3) := dk_184 0 8 (dk_at dksX0_give_4 0 rfl rfl)
theorem dX0_give_97 : decode cX0_give 97 = .ok (.iastore, 1) := dk_79 (dk_at dksX0_give_4 3 rfl rfl)
theorem dX0_give_98 : decode cX0_give 98 = .ok (.iconst 1, 1) := dk_4 (dk_at dksX0_give_4 4 rfl rfl)
theorem dX0_give_99 : decode cX0_give 99 = .ok (.ireturn, 1) := dk_172 (dk_at dksX0_give_4 5 rfl rfl)
abbrev cX0_send : ByteArray := prog_1_method_31_code
def yX0_send : MethodName := ⟨RX0, "send", "(IZ)Z"⟩
def dkwX0_send_1 : List UInt8 := [167, 0, 4, 3, 160, 0, 5, 3, 172, 42, 182, 0, 228, 42, 180, 0, 59, 27, 28, 184, 0, 248, 4, 172]
abbrev dktX0_send_1 : List UInt8 := dkwX0_send_1 ++ []
def dkwX0_send_0 : List UInt8 := [42, 27, 182, 0, 171, 153, 0, 25, 28, 42, 180, 0, 59, 180, 0, 174, 27, 46, 6, 160, 0, 7, 4]
abbrev dktX0_send_0 : List UInt8 := dkwX0_send_0 ++ dktX0_send_1
theorem dksX0_send_0 : cX0_send.data.toList.drop 0 = dktX0_send_0 := by decide +kernel
theorem dksX0_send_1 : cX0_send.data.toList.drop 23 = dktX0_send_1 := dk_seg dksX0_send_0 23 rfl rfl
theorem dX0_send_0 : decode cX0_send 0 = .ok (.aload_n 0, 1) := dk_42 (dk_at dksX0_send_0 0 rfl rfl)
theorem dX0_send_1 : decode cX0_send 1 = .ok (.iload_n 1, 1) := dk_27 (dk_at dksX0_send_0 1 rfl rfl)
theorem dX0_send_2 : decode cX0_send 2 = .ok (.invokevirtual 171, 3) := dk_182 0 171 (dk_at dksX0_send_0 2 rfl rfl)
theorem dX0_send_5 : decode cX0_send 5 = .ok (.ifCond .eq 25, 3) := dk_153 0 25 (dk_at dksX0_send_0 5 rfl rfl)
theorem dX0_send_8 : decode cX0_send 8 = .ok (.iload_n 2, 1) := dk_28 (dk_at dksX0_send_0 8 rfl rfl)
theorem dX0_send_9 : decode cX0_send 9 = .ok (.aload_n 0, 1) := dk_42 (dk_at dksX0_send_0 9 rfl rfl)
theorem dX0_send_10 : decode cX0_send 10 = .ok (.getfield 59, 3) := dk_180 0 59 (dk_at dksX0_send_0 10 rfl rfl)
theorem dX0_send_13 : decode cX0_send 13 = .ok (.getfield 174, 3) := dk_180 0 174 (dk_at dksX0_send_0 13 rfl rfl)
theorem dX0_send_16 : decode cX0_send 16 = .ok (.iload_n 1, 1) := dk_27 (dk_at dksX0_send_0 16 rfl rfl)
theorem dX0_send_17 : decode cX0_send 17 = .ok (.iaload, 1) := dk_46 (dk_at dksX0_send_0 17 rfl rfl)
theorem dX0_send_18 : decode cX0_send 18 = .ok (.iconst 3, 1) := dk_6 (dk_at dksX0_send_0 18 rfl rfl)
theorem dX0_send_19 : decode cX0_send 19 = .ok (.if_icmp .ne 7, 3) := dk_160 0 7 (dk_at dksX0_send_0 19 rfl rfl)
theorem dX0_send_22 : decode cX0_send 22 = .ok (.iconst 1, 1) := dk_4 (dk_at dksX0_send_0 22 rfl rfl)
theorem dX0_send_23 : decode cX0_send 23 = .ok (.goto 4, 3) := dk_167 0 4 (dk_at dksX0_send_1 0 rfl rfl)
theorem dX0_send_26 : decode cX0_send 26 = .ok (.iconst 0, 1) := dk_3 (dk_at dksX0_send_1 3 rfl rfl)
theorem dX0_send_27 : decode cX0_send 27 = .ok (.if_icmp .ne 5, 3) := dk_160 0 5 (dk_at dksX0_send_1 4 rfl rfl)
theorem dX0_send_30 : decode cX0_send 30 = .ok (.iconst 0, 1) := dk_3 (dk_at dksX0_send_1 7 rfl rfl)
theorem dX0_send_31 : decode cX0_send 31 = .ok (.ireturn, 1) := dk_172 (dk_at dksX0_send_1 8 rfl rfl)
theorem dX0_send_32 : decode cX0_send 32 = .ok (.aload_n 0, 1) := dk_42 (dk_at dksX0_send_1 9 rfl rfl)
theorem dX0_send_33 : decode cX0_send 33 = .ok (.invokevirtual 228, 3) := dk_182 0 228 (dk_at dksX0_send_1 10 rfl rfl)
theorem dX0_send_36 : decode cX0_send 36 = .ok (.aload_n 0, 1) := dk_42 (dk_at dksX0_send_1 13 rfl rfl)
theorem dX0_send_37 : decode cX0_send 37 = .ok (.getfield 59, 3) := dk_180 0 59 (dk_at dksX0_send_1 14 rfl rfl)
theorem dX0_send_40 : decode cX0_send 40 = .ok (.iload_n 1, 1) := dk_27 (dk_at dksX0_send_1 17 rfl rfl)
theorem dX0_send_41 : decode cX0_send 41 = .ok (.iload_n 2, 1) := dk_28 (dk_at dksX0_send_1 18 rfl rfl)
theorem dX0_send_42 : decode cX0_send 42 = .ok (.invokestatic 248, 3) := dk_184 0 248 (dk_at dksX0_send_1 19 rfl rfl)
theorem dX0_send_45 : decode cX0_send 45 = .ok (.iconst 1, 1) := dk_4 (dk_at dksX0_send_1 22 rfl rfl)
theorem dX0_send_46 : decode cX0_send 46 = .ok (.ireturn, 1) := dk_172 (dk_at dksX0_send_1 23 rfl rfl)
abbrev cX0_sends : ByteArray := prog_1_method_30_code
def yX0_sends : MethodName := ⟨RX0, "sends", "(LRatSorters$House;IZ)V"⟩
def dkwX0_sends_1 : List UInt8 := [42, 27, 182, 0, 245, 167, 0, 10, 42, 180, 0, 174, 27, 3, 79, 177]
abbrev dktX0_sends_1 : List UInt8 := dkwX0_sends_1 ++ []
def dkwX0_sends_0 : List UInt8 := [28, 42, 180, 0, 174, 27, 46, 6, 160, 0, 7, 4, 167, 0, 4, 3, 160, 0, 4, 177, 28, 153, 0, 11]
abbrev dktX0_sends_0 : List UInt8 := dkwX0_sends_0 ++ dktX0_sends_1
theorem dksX0_sends_0 : cX0_sends.data.toList.drop 0 = dktX0_sends_0 := by decide +kernel
theorem dksX0_sends_1 : cX0_sends.data.toList.drop 24 = dktX0_sends_1 := dk_seg dksX0_sends_0 24 rfl rfl
theorem dX0_sends_0 : decode cX0_sends 0 = .ok (.iload_n 2, 1) := dk_28 (dk_at dksX0_sends_0 0 rfl rfl)
theorem dX0_sends_1 : decode cX0_sends 1 = .ok (.aload_n 0, 1) := dk_42 (dk_at dksX0_sends_0 1 rfl rfl)
theorem dX0_sends_2 : decode cX0_sends 2 = .ok (.getfield 174, 3) := dk_180 0 174 (dk_at dksX0_sends_0 2 rfl rfl)
theorem dX0_sends_5 : decode cX0_sends 5 = .ok (.iload_n 1, 1) := dk_27 (dk_at dksX0_sends_0 5 rfl rfl)
theorem dX0_sends_6 : decode cX0_sends 6 = .ok (.iaload, 1) := dk_46 (dk_at dksX0_sends_0 6 rfl rfl)
theorem dX0_sends_7 : decode cX0_sends 7 = .ok (.iconst 3, 1) := dk_6 (dk_at dksX0_sends_0 7 rfl rfl)
theorem dX0_sends_8 : decode cX0_sends 8 = .ok (.if_icmp .ne 7, 3) := dk_160 0 7 (dk_at dksX0_sends_0 8 rfl rfl)
theorem dX0_sends_11 : decode cX0_sends 11 = .ok (.iconst 1, 1) := dk_4 (dk_at dksX0_sends_0 11 rfl rfl)
theorem dX0_sends_12 : decode cX0_sends 12 = .ok (.goto 4, 3) := dk_167 0 4 (dk_at dksX0_sends_0 12 rfl rfl)
theorem dX0_sends_15 : decode cX0_sends 15 = .ok (.iconst 0, 1) := dk_3 (dk_at dksX0_sends_0 15 rfl rfl)
theorem dX0_sends_16 : decode cX0_sends 16 = .ok (.if_icmp .ne 4, 3) := dk_160 0 4 (dk_at dksX0_sends_0 16 rfl rfl)
theorem dX0_sends_19 : decode cX0_sends 19 = .ok (.return_, 1) := dk_177 (dk_at dksX0_sends_0 19 rfl rfl)
theorem dX0_sends_20 : decode cX0_sends 20 = .ok (.iload_n 2, 1) := dk_28 (dk_at dksX0_sends_0 20 rfl rfl)
theorem dX0_sends_21 : decode cX0_sends 21 = .ok (.ifCond .eq 11, 3) := dk_153 0 11 (dk_at dksX0_sends_0 21 rfl rfl)
theorem dX0_sends_24 : decode cX0_sends 24 = .ok (.aload_n 0, 1) := dk_42 (dk_at dksX0_sends_1 0 rfl rfl)
theorem dX0_sends_25 : decode cX0_sends 25 = .ok (.iload_n 1, 1) := dk_27 (dk_at dksX0_sends_1 1 rfl rfl)
theorem dX0_sends_26 : decode cX0_sends 26 = .ok (.invokevirtual 245, 3) := dk_182 0 245 (dk_at dksX0_sends_1 2 rfl rfl)
theorem dX0_sends_29 : decode cX0_sends 29 = .ok (.goto 10, 3) := dk_167 0 10 (dk_at dksX0_sends_1 5 rfl rfl)
theorem dX0_sends_32 : decode cX0_sends 32 = .ok (.aload_n 0, 1) := dk_42 (dk_at dksX0_sends_1 8 rfl rfl)
theorem dX0_sends_33 : decode cX0_sends 33 = .ok (.getfield 174, 3) := dk_180 0 174 (dk_at dksX0_sends_1 9 rfl rfl)
theorem dX0_sends_36 : decode cX0_sends 36 = .ok (.iload_n 1, 1) := dk_27 (dk_at dksX0_sends_1 12 rfl rfl)
theorem dX0_sends_37 : decode cX0_sends 37 = .ok (.iconst 0, 1) := dk_3 (dk_at dksX0_sends_1 13 rfl rfl)
theorem dX0_sends_38 : decode cX0_sends 38 = .ok (.iastore, 1) := dk_79 (dk_at dksX0_sends_1 14 rfl rfl)
theorem dX0_sends_39 : decode cX0_sends 39 = .ok (.return_, 1) := dk_177 (dk_at dksX0_sends_1 15 rfl rfl)
abbrev cX0_cat : ByteArray := prog_1_method_32_code
def yX0_cat : MethodName := ⟨RX0, "cat", "(I)I"⟩
def dkwX0_cat_2 : List UInt8 := [180, 0, 59, 180, 0, 252, 172]
abbrev dktX0_cat_2 : List UInt8 := dkwX0_cat_2 ++ []
def dkwX0_cat_1 : List UInt8 := [164, 0, 5, 2, 172, 42, 182, 0, 228, 42, 180, 0, 59, 89, 180, 0, 252, 27, 96, 181, 0, 252, 42]
abbrev dktX0_cat_1 : List UInt8 := dkwX0_cat_1 ++ dktX0_cat_2
def dkwX0_cat_0 : List UInt8 := [27, 4, 16, 99, 184, 0, 149, 153, 0, 18, 42, 180, 0, 59, 180, 0, 252, 27, 96, 17, 3, 231]
abbrev dktX0_cat_0 : List UInt8 := dkwX0_cat_0 ++ dktX0_cat_1
theorem dksX0_cat_0 : cX0_cat.data.toList.drop 0 = dktX0_cat_0 := by decide +kernel
theorem dksX0_cat_1 : cX0_cat.data.toList.drop 22 = dktX0_cat_1 := dk_seg dksX0_cat_0 22 rfl rfl
theorem dksX0_cat_2 : cX0_cat.data.toList.drop 45 = dktX0_cat_2 := dk_seg dksX0_cat_1 23 rfl rfl
theorem dX0_cat_0 : decode cX0_cat 0 = .ok (.iload_n 1, 1) := dk_27 (dk_at dksX0_cat_0 0 rfl rfl)
theorem dX0_cat_1 : decode cX0_cat 1 = .ok (.iconst 1, 1) := dk_4 (dk_at dksX0_cat_0 1 rfl rfl)
theorem dX0_cat_2 : decode cX0_cat 2 = .ok (.bipush 99, 2) := dk_16 99 (dk_at dksX0_cat_0 2 rfl rfl)
theorem dX0_cat_4 : decode cX0_cat 4 = .ok (.invokestatic 149, 3) := dk_184 0 149 (dk_at dksX0_cat_0 4 rfl rfl)
theorem dX0_cat_7 : decode cX0_cat 7 = .ok (.ifCond .eq 18, 3) := dk_153 0 18 (dk_at dksX0_cat_0 7 rfl rfl)
theorem dX0_cat_10 : decode cX0_cat 10 = .ok (.aload_n 0, 1) := dk_42 (dk_at dksX0_cat_0 10 rfl rfl)
theorem dX0_cat_11 : decode cX0_cat 11 = .ok (.getfield 59, 3) := dk_180 0 59 (dk_at dksX0_cat_0 11 rfl rfl)
theorem dX0_cat_14 : decode cX0_cat 14 = .ok (.getfield 252, 3) := dk_180 0 252 (dk_at dksX0_cat_0 14 rfl rfl)
theorem dX0_cat_17 : decode cX0_cat 17 = .ok (.iload_n 1, 1) := dk_27 (dk_at dksX0_cat_0 17 rfl rfl)
theorem dX0_cat_18 : decode cX0_cat 18 = .ok (.iadd, 1) := dk_96 (dk_at dksX0_cat_0 18 rfl rfl)
theorem dX0_cat_19 : decode cX0_cat 19 = .ok (.sipush 999, 3) := dk_17 3 231 (dk_at dksX0_cat_0 19 rfl rfl)
theorem dX0_cat_22 : decode cX0_cat 22 = .ok (.if_icmp .le 5, 3) := dk_164 0 5 (dk_at dksX0_cat_1 0 rfl rfl)
theorem dX0_cat_25 : decode cX0_cat 25 = .ok (.iconst (-1), 1) := dk_2 (dk_at dksX0_cat_1 3 rfl rfl)
theorem dX0_cat_26 : decode cX0_cat 26 = .ok (.ireturn, 1) := dk_172 (dk_at dksX0_cat_1 4 rfl rfl)
theorem dX0_cat_27 : decode cX0_cat 27 = .ok (.aload_n 0, 1) := dk_42 (dk_at dksX0_cat_1 5 rfl rfl)
theorem dX0_cat_28 : decode cX0_cat 28 = .ok (.invokevirtual 228, 3) := dk_182 0 228 (dk_at dksX0_cat_1 6 rfl rfl)
theorem dX0_cat_31 : decode cX0_cat 31 = .ok (.aload_n 0, 1) := dk_42 (dk_at dksX0_cat_1 9 rfl rfl)
theorem dX0_cat_32 : decode cX0_cat 32 = .ok (.getfield 59, 3) := dk_180 0 59 (dk_at dksX0_cat_1 10 rfl rfl)
theorem dX0_cat_35 : decode cX0_cat 35 = .ok (.dup, 1) := dk_89 (dk_at dksX0_cat_1 13 rfl rfl)
theorem dX0_cat_36 : decode cX0_cat 36 = .ok (.getfield 252, 3) := dk_180 0 252 (dk_at dksX0_cat_1 14 rfl rfl)
theorem dX0_cat_39 : decode cX0_cat 39 = .ok (.iload_n 1, 1) := dk_27 (dk_at dksX0_cat_1 17 rfl rfl)
theorem dX0_cat_40 : decode cX0_cat 40 = .ok (.iadd, 1) := dk_96 (dk_at dksX0_cat_1 18 rfl rfl)
theorem dX0_cat_41 : decode cX0_cat 41 = .ok (.putfield 252, 3) := dk_181 0 252 (dk_at dksX0_cat_1 19 rfl rfl)
theorem dX0_cat_44 : decode cX0_cat 44 = .ok (.aload_n 0, 1) := dk_42 (dk_at dksX0_cat_1 22 rfl rfl)
theorem dX0_cat_45 : decode cX0_cat 45 = .ok (.getfield 59, 3) := dk_180 0 59 (dk_at dksX0_cat_2 0 rfl rfl)
theorem dX0_cat_48 : decode cX0_cat 48 = .ok (.getfield 252, 3) := dk_180 0 252 (dk_at dksX0_cat_2 3 rfl rfl)
theorem dX0_cat_51 : decode cX0_cat 51 = .ok (.ireturn, 1) := dk_172 (dk_at dksX0_cat_2 6 rfl rfl)
abbrev cX0_sell : ByteArray := prog_1_method_36_code
def yX0_sell : MethodName := ⟨RX0, "sell", "(I)Z"⟩
def dkwX0_sell_5 : List UInt8 := [128, 181, 1, 15, 4, 172]
abbrev dktX0_sell_5 : List UInt8 := dkwX0_sell_5 ++ []
def dkwX0_sell_4 : List UInt8 := [182, 0, 205, 192, 1, 2, 180, 1, 27, 96, 181, 1, 24, 42, 180, 0, 59, 89, 180, 1, 15, 4, 27, 120]
abbrev dktX0_sell_4 : List UInt8 := dkwX0_sell_4 ++ dktX0_sell_5
def dkwX0_sell_3 : List UInt8 := [132, 2, 1, 167, 255, 234, 42, 180, 0, 59, 89, 180, 1, 24, 42, 180, 0, 48, 180, 0, 255, 27]
abbrev dktX0_sell_3 : List UInt8 := dkwX0_sell_3 ++ dktX0_sell_4
def dkwX0_sell_2 : List UInt8 := [182, 0, 228, 3, 61, 28, 42, 182, 0, 147, 162, 0, 20, 42, 28, 42, 180, 0, 77, 28, 46, 182, 1, 21]
abbrev dktX0_sell_2 : List UInt8 := dkwX0_sell_2 ++ dktX0_sell_3
def dkwX0_sell_1 : List UInt8 := [180, 1, 15, 27, 122, 4, 126, 4, 159, 0, 13, 42, 4, 27, 120, 182, 1, 18, 154, 0, 5, 3, 172, 42]
abbrev dktX0_sell_1 : List UInt8 := dkwX0_sell_1 ++ dktX0_sell_2
def dkwX0_sell_0 : List UInt8 := [27, 3, 42, 180, 0, 48, 180, 0, 255, 182, 0, 135, 4, 100, 184, 0, 149, 153, 0, 28, 42, 180, 0, 59]
abbrev dktX0_sell_0 : List UInt8 := dkwX0_sell_0 ++ dktX0_sell_1
theorem dksX0_sell_0 : cX0_sell.data.toList.drop 0 = dktX0_sell_0 := by decide +kernel
theorem dksX0_sell_1 : cX0_sell.data.toList.drop 24 = dktX0_sell_1 := dk_seg dksX0_sell_0 24 rfl rfl
theorem dksX0_sell_2 : cX0_sell.data.toList.drop 48 = dktX0_sell_2 := dk_seg dksX0_sell_1 24 rfl rfl
theorem dksX0_sell_3 : cX0_sell.data.toList.drop 72 = dktX0_sell_3 := dk_seg dksX0_sell_2 24 rfl rfl
theorem dksX0_sell_4 : cX0_sell.data.toList.drop 94 = dktX0_sell_4 := dk_seg dksX0_sell_3 22 rfl rfl
theorem dksX0_sell_5 : cX0_sell.data.toList.drop 118 = dktX0_sell_5 := dk_seg dksX0_sell_4 24 rfl rfl
theorem dX0_sell_0 : decode cX0_sell 0 = .ok (.iload_n 1, 1) := dk_27 (dk_at dksX0_sell_0 0 rfl rfl)
theorem dX0_sell_1 : decode cX0_sell 1 = .ok (.iconst 0, 1) := dk_3 (dk_at dksX0_sell_0 1 rfl rfl)
theorem dX0_sell_2 : decode cX0_sell 2 = .ok (.aload_n 0, 1) := dk_42 (dk_at dksX0_sell_0 2 rfl rfl)
theorem dX0_sell_3 : decode cX0_sell 3 = .ok (.getfield 48, 3) := dk_180 0 48 (dk_at dksX0_sell_0 3 rfl rfl)
theorem dX0_sell_6 : decode cX0_sell 6 = .ok (.getfield 255, 3) := dk_180 0 255 (dk_at dksX0_sell_0 6 rfl rfl)
theorem dX0_sell_9 : decode cX0_sell 9 = .ok (.invokevirtual 135, 3) := dk_182 0 135 (dk_at dksX0_sell_0 9 rfl rfl)
theorem dX0_sell_12 : decode cX0_sell 12 = .ok (.iconst 1, 1) := dk_4 (dk_at dksX0_sell_0 12 rfl rfl)
theorem dX0_sell_13 : decode cX0_sell 13 = .ok (.isub, 1) := dk_100 (dk_at dksX0_sell_0 13 rfl rfl)
theorem dX0_sell_14 : decode cX0_sell 14 = .ok (.invokestatic 149, 3) := dk_184 0 149 (dk_at dksX0_sell_0 14 rfl rfl)
theorem dX0_sell_17 : decode cX0_sell 17 = .ok (.ifCond .eq 28, 3) := dk_153 0 28 (dk_at dksX0_sell_0 17 rfl rfl)
theorem dX0_sell_20 : decode cX0_sell 20 = .ok (.aload_n 0, 1) := dk_42 (dk_at dksX0_sell_0 20 rfl rfl)
theorem dX0_sell_21 : decode cX0_sell 21 = .ok (.getfield 59, 3) := dk_180 0 59 (dk_at dksX0_sell_0 21 rfl rfl)
theorem dX0_sell_24 : decode cX0_sell 24 = .ok (.getfield 271, 3) := dk_180 1 15 (dk_at dksX0_sell_1 0 rfl rfl)
theorem dX0_sell_27 : decode cX0_sell 27 = .ok (.iload_n 1, 1) := dk_27 (dk_at dksX0_sell_1 3 rfl rfl)
theorem dX0_sell_28 : decode cX0_sell 28 = .ok (.ishr, 1) := dk_122 (dk_at dksX0_sell_1 4 rfl rfl)
theorem dX0_sell_29 : decode cX0_sell 29 = .ok (.iconst 1, 1) := dk_4 (dk_at dksX0_sell_1 5 rfl rfl)
theorem dX0_sell_30 : decode cX0_sell 30 = .ok (.iand, 1) := dk_126 (dk_at dksX0_sell_1 6 rfl rfl)
theorem dX0_sell_31 : decode cX0_sell 31 = .ok (.iconst 1, 1) := dk_4 (dk_at dksX0_sell_1 7 rfl rfl)
theorem dX0_sell_32 : decode cX0_sell 32 = .ok (.if_icmp .eq 13, 3) := dk_159 0 13 (dk_at dksX0_sell_1 8 rfl rfl)
theorem dX0_sell_35 : decode cX0_sell 35 = .ok (.aload_n 0, 1) := dk_42 (dk_at dksX0_sell_1 11 rfl rfl)
theorem dX0_sell_36 : decode cX0_sell 36 = .ok (.iconst 1, 1) := dk_4 (dk_at dksX0_sell_1 12 rfl rfl)
theorem dX0_sell_37 : decode cX0_sell 37 = .ok (.iload_n 1, 1) := dk_27 (dk_at dksX0_sell_1 13 rfl rfl)
theorem dX0_sell_38 : decode cX0_sell 38 = .ok (.ishl, 1) := dk_120 (dk_at dksX0_sell_1 14 rfl rfl)
theorem dX0_sell_39 : decode cX0_sell 39 = .ok (.invokevirtual 274, 3) := dk_182 1 18 (dk_at dksX0_sell_1 15 rfl rfl)
theorem dX0_sell_42 : decode cX0_sell 42 = .ok (.ifCond .ne 5, 3) := dk_154 0 5 (dk_at dksX0_sell_1 18 rfl rfl)
theorem dX0_sell_45 : decode cX0_sell 45 = .ok (.iconst 0, 1) := dk_3 (dk_at dksX0_sell_1 21 rfl rfl)
theorem dX0_sell_46 : decode cX0_sell 46 = .ok (.ireturn, 1) := dk_172 (dk_at dksX0_sell_1 22 rfl rfl)
theorem dX0_sell_47 : decode cX0_sell 47 = .ok (.aload_n 0, 1) := dk_42 (dk_at dksX0_sell_1 23 rfl rfl)
theorem dX0_sell_48 : decode cX0_sell 48 = .ok (.invokevirtual 228, 3) := dk_182 0 228 (dk_at dksX0_sell_2 0 rfl rfl)
theorem dX0_sell_51 : decode cX0_sell 51 = .ok (.iconst 0, 1) := dk_3 (dk_at dksX0_sell_2 3 rfl rfl)
theorem dX0_sell_52 : decode cX0_sell 52 = .ok (.istore_n 2, 1) := dk_61 (dk_at dksX0_sell_2 4 rfl rfl)
theorem dX0_sell_53 : decode cX0_sell 53 = .ok (.iload_n 2, 1) := dk_28 (dk_at dksX0_sell_2 5 rfl rfl)
theorem dX0_sell_54 : decode cX0_sell 54 = .ok (.aload_n 0, 1) := dk_42 (dk_at dksX0_sell_2 6 rfl rfl)
theorem dX0_sell_55 : decode cX0_sell 55 = .ok (.invokevirtual 147, 3) := dk_182 0 147 (dk_at dksX0_sell_2 7 rfl rfl)
theorem dX0_sell_58 : decode cX0_sell 58 = .ok (.if_icmp .ge 20, 3) := dk_162 0 20 (dk_at dksX0_sell_2 10 rfl rfl)
theorem dX0_sell_61 : decode cX0_sell 61 = .ok (.aload_n 0, 1) := dk_42 (dk_at dksX0_sell_2 13 rfl rfl)
theorem dX0_sell_62 : decode cX0_sell 62 = .ok (.iload_n 2, 1) := dk_28 (dk_at dksX0_sell_2 14 rfl rfl)
theorem dX0_sell_63 : decode cX0_sell 63 = .ok (.aload_n 0, 1) := dk_42 (dk_at dksX0_sell_2 15 rfl rfl)
theorem dX0_sell_64 : decode cX0_sell 64 = .ok (.getfield 77, 3) := dk_180 0 77 (dk_at dksX0_sell_2 16 rfl rfl)
theorem dX0_sell_67 : decode cX0_sell 67 = .ok (.iload_n 2, 1) := dk_28 (dk_at dksX0_sell_2 19 rfl rfl)
theorem dX0_sell_68 : decode cX0_sell 68 = .ok (.iaload, 1) := dk_46 (dk_at dksX0_sell_2 20 rfl rfl)
theorem dX0_sell_69 : decode cX0_sell 69 = .ok (.invokevirtual 277, 3) := dk_182 1 21 (dk_at dksX0_sell_2 21 rfl rfl)
theorem dX0_sell_72 : decode cX0_sell 72 = .ok (.iinc 2 1, 3) := dk_132 2 1 (dk_at dksX0_sell_3 0 rfl rfl)
theorem dX0_sell_75 : decode cX0_sell 75 = .ok (.goto (-22), 3) := dk_167 255 234 (dk_at dksX0_sell_3 3 rfl rfl)
theorem dX0_sell_78 : decode cX0_sell 78 = .ok (.aload_n 0, 1) := dk_42 (dk_at dksX0_sell_3 6 rfl rfl)
theorem dX0_sell_79 : decode cX0_sell 79 = .ok (.getfield 59, 3) := dk_180 0 59 (dk_at dksX0_sell_3 7 rfl rfl)
theorem dX0_sell_82 : decode cX0_sell 82 = .ok (.dup, 1) := dk_89 (dk_at dksX0_sell_3 10 rfl rfl)
theorem dX0_sell_83 : decode cX0_sell 83 = .ok (.getfield 280, 3) := dk_180 1 24 (dk_at dksX0_sell_3 11 rfl rfl)
theorem dX0_sell_86 : decode cX0_sell 86 = .ok (.aload_n 0, 1) := dk_42 (dk_at dksX0_sell_3 14 rfl rfl)
theorem dX0_sell_87 : decode cX0_sell 87 = .ok (.getfield 48, 3) := dk_180 0 48 (dk_at dksX0_sell_3 15 rfl rfl)
theorem dX0_sell_90 : decode cX0_sell 90 = .ok (.getfield 255, 3) := dk_180 0 255 (dk_at dksX0_sell_3 18 rfl rfl)
theorem dX0_sell_93 : decode cX0_sell 93 = .ok (.iload_n 1, 1) := dk_27 (dk_at dksX0_sell_3 21 rfl rfl)
theorem dX0_sell_94 : decode cX0_sell 94 = .ok (.invokevirtual 205, 3) := dk_182 0 205 (dk_at dksX0_sell_4 0 rfl rfl)
theorem dX0_sell_97 : decode cX0_sell 97 = .ok (.checkcast 258, 3) := dk_192 1 2 (dk_at dksX0_sell_4 3 rfl rfl)
theorem dX0_sell_100 : decode cX0_sell 100 = .ok (.getfield 283, 3) := dk_180 1 27 (dk_at dksX0_sell_4 6 rfl rfl)
theorem dX0_sell_103 : decode cX0_sell 103 = .ok (.iadd, 1) := dk_96 (dk_at dksX0_sell_4 9 rfl rfl)
theorem dX0_sell_104 : decode cX0_sell 104 = .ok (.putfield 280, 3) := dk_181 1 24 (dk_at dksX0_sell_4 10 rfl rfl)
theorem dX0_sell_107 : decode cX0_sell 107 = .ok (.aload_n 0, 1) := dk_42 (dk_at dksX0_sell_4 13 rfl rfl)
theorem dX0_sell_108 : decode cX0_sell 108 = .ok (.getfield 59, 3) := dk_180 0 59 (dk_at dksX0_sell_4 14 rfl rfl)
theorem dX0_sell_111 : decode cX0_sell 111 = .ok (.dup, 1) := dk_89 (dk_at dksX0_sell_4 17 rfl rfl)
theorem dX0_sell_112 : decode cX0_sell 112 = .ok (.getfield 271, 3) := dk_180 1 15 (dk_at dksX0_sell_4 18 rfl rfl)
theorem dX0_sell_115 : decode cX0_sell 115 = .ok (.iconst 1, 1) := dk_4 (dk_at dksX0_sell_4 21 rfl rfl)
theorem dX0_sell_116 : decode cX0_sell 116 = .ok (.iload_n 1, 1) := dk_27 (dk_at dksX0_sell_4 22 rfl rfl)
theorem dX0_sell_117 : decode cX0_sell 117 = .ok (.ishl, 1) := dk_120 (dk_at dksX0_sell_4 23 rfl rfl)
theorem dX0_sell_118 : decode cX0_sell 118 = .ok (.ior, 1) := dk_128 (dk_at dksX0_sell_5 0 rfl rfl)
theorem dX0_sell_119 : decode cX0_sell 119 = .ok (.putfield 271, 3) := dk_181 1 15 (dk_at dksX0_sell_5 1 rfl rfl)
theorem dX0_sell_122 : decode cX0_sell 122 = .ok (.iconst 1, 1) := dk_4 (dk_at dksX0_sell_5 4 rfl rfl)
theorem dX0_sell_123 : decode cX0_sell 123 = .ok (.ireturn, 1) := dk_172 (dk_at dksX0_sell_5 5 rfl rfl)
abbrev cX0_isSellable : ByteArray := prog_1_method_34_code
def yX0_isSellable : MethodName := ⟨RX0, "isSellable", "(I)Z"⟩
def dkwX0_isSellable_5 : List UInt8 := [180, 0, 77, 28, 46, 42, 28, 182, 1, 12, 164, 0, 5, 3, 172, 132, 2, 1, 167, 255, 229, 4, 172]
abbrev dktX0_isSellable_5 : List UInt8 := dkwX0_isSellable_5 ++ []
def dkwX0_isSellable_4 : List UInt8 := [79, 132, 4, 1, 167, 255, 213, 132, 2, 1, 167, 255, 175, 3, 61, 28, 42, 182, 0, 147, 162, 0, 25, 42]
abbrev dktX0_isSellable_4 : List UInt8 := dkwX0_isSellable_4 ++ dktX0_isSellable_5
def dkwX0_isSellable_3 : List UInt8 := [160, 0, 31, 42, 180, 0, 77, 45, 180, 1, 7, 21, 4, 46, 92, 46, 45, 180, 1, 9, 21, 4, 46, 96]
abbrev dktX0_isSellable_3 : List UInt8 := dkwX0_isSellable_3 ++ dktX0_isSellable_4
def dkwX0_isSellable_2 : List UInt8 := [192, 1, 2, 78, 3, 54, 4, 21, 4, 45, 180, 1, 4, 162, 0, 40, 27, 28, 122, 4, 126, 4]
abbrev dktX0_isSellable_2 : List UInt8 := dkwX0_isSellable_2 ++ dktX0_isSellable_3
def dkwX0_isSellable_1 : List UInt8 := [42, 180, 0, 48, 180, 0, 255, 182, 0, 135, 162, 0, 73, 42, 180, 0, 48, 180, 0, 255, 28, 182, 0, 205]
abbrev dktX0_isSellable_1 : List UInt8 := dkwX0_isSellable_1 ++ dktX0_isSellable_2
def dkwX0_isSellable_0 : List UInt8 := [3, 61, 28, 16, 6, 162, 0, 16, 42, 180, 0, 77, 28, 3, 79, 132, 2, 1, 167, 255, 240, 3, 61, 28]
abbrev dktX0_isSellable_0 : List UInt8 := dkwX0_isSellable_0 ++ dktX0_isSellable_1
theorem dksX0_isSellable_0 : cX0_isSellable.data.toList.drop 0 = dktX0_isSellable_0 := by decide +kernel
theorem dksX0_isSellable_1 : cX0_isSellable.data.toList.drop 24 = dktX0_isSellable_1 := dk_seg dksX0_isSellable_0 24 rfl rfl
theorem dksX0_isSellable_2 : cX0_isSellable.data.toList.drop 48 = dktX0_isSellable_2 := dk_seg dksX0_isSellable_1 24 rfl rfl
theorem dksX0_isSellable_3 : cX0_isSellable.data.toList.drop 70 = dktX0_isSellable_3 := dk_seg dksX0_isSellable_2 22 rfl rfl
theorem dksX0_isSellable_4 : cX0_isSellable.data.toList.drop 94 = dktX0_isSellable_4 := dk_seg dksX0_isSellable_3 24 rfl rfl
theorem dksX0_isSellable_5 : cX0_isSellable.data.toList.drop 118 = dktX0_isSellable_5 := dk_seg dksX0_isSellable_4 24 rfl rfl
theorem dX0_isSellable_0 : decode cX0_isSellable 0 = .ok (.iconst 0, 1) := dk_3 (dk_at dksX0_isSellable_0 0 rfl rfl)
theorem dX0_isSellable_1 : decode cX0_isSellable 1 = .ok (.istore_n 2, 1) := dk_61 (dk_at dksX0_isSellable_0 1 rfl rfl)
theorem dX0_isSellable_2 : decode cX0_isSellable 2 = .ok (.iload_n 2, 1) := dk_28 (dk_at dksX0_isSellable_0 2 rfl rfl)
theorem dX0_isSellable_3 : decode cX0_isSellable 3 = .ok (.bipush 6, 2) := dk_16 6 (dk_at dksX0_isSellable_0 3 rfl rfl)
theorem dX0_isSellable_5 : decode cX0_isSellable 5 = .ok (.if_icmp .ge 16, 3) := dk_162 0 16 (dk_at dksX0_isSellable_0 5 rfl rfl)
theorem dX0_isSellable_8 : decode cX0_isSellable 8 = .ok (.aload_n 0, 1) := dk_42 (dk_at dksX0_isSellable_0 8 rfl rfl)
theorem dX0_isSellable_9 : decode cX0_isSellable 9 = .ok (.getfield 77, 3) := dk_180 0 77 (dk_at dksX0_isSellable_0 9 rfl rfl)
theorem dX0_isSellable_12 : decode cX0_isSellable 12 = .ok (.iload_n 2, 1) := dk_28 (dk_at dksX0_isSellable_0 12 rfl rfl)
theorem dX0_isSellable_13 : decode cX0_isSellable 13 = .ok (.iconst 0, 1) := dk_3 (dk_at dksX0_isSellable_0 13 rfl rfl)
theorem dX0_isSellable_14 : decode cX0_isSellable 14 = .ok (.iastore, 1) := dk_79 (dk_at dksX0_isSellable_0 14 rfl rfl)
theorem dX0_isSellable_15 : decode cX0_isSellable 15 = .ok (.iinc 2 1, 3) := dk_132 2 1 (dk_at dksX0_isSellable_0 15 rfl rfl)
theorem dX0_isSellable_18 : decode cX0_isSellable 18 = .ok (.goto (-16), 3) := dk_167 255 240 (dk_at dksX0_isSellable_0 18 rfl rfl)
theorem dX0_isSellable_21 : decode cX0_isSellable 21 = .ok (.iconst 0, 1) := dk_3 (dk_at dksX0_isSellable_0 21 rfl rfl)
theorem dX0_isSellable_22 : decode cX0_isSellable 22 = .ok (.istore_n 2, 1) := dk_61 (dk_at dksX0_isSellable_0 22 rfl rfl)
theorem dX0_isSellable_23 : decode cX0_isSellable 23 = .ok (.iload_n 2, 1) := dk_28 (dk_at dksX0_isSellable_0 23 rfl rfl)
theorem dX0_isSellable_24 : decode cX0_isSellable 24 = .ok (.aload_n 0, 1) := dk_42 (dk_at dksX0_isSellable_1 0 rfl rfl)
theorem dX0_isSellable_25 : decode cX0_isSellable 25 = .ok (.getfield 48, 3) := dk_180 0 48 (dk_at dksX0_isSellable_1 1 rfl rfl)
theorem dX0_isSellable_28 : decode cX0_isSellable 28 = .ok (.getfield 255, 3) := dk_180 0 255 (dk_at dksX0_isSellable_1 4 rfl rfl)
theorem dX0_isSellable_31 : decode cX0_isSellable 31 = .ok (.invokevirtual 135, 3) := dk_182 0 135 (dk_at dksX0_isSellable_1 7 rfl rfl)
theorem dX0_isSellable_34 : decode cX0_isSellable 34 = .ok (.if_icmp .ge 73, 3) := dk_162 0 73 (dk_at dksX0_isSellable_1 10 rfl rfl)
theorem dX0_isSellable_37 : decode cX0_isSellable 37 = .ok (.aload_n 0, 1) := dk_42 (dk_at dksX0_isSellable_1 13 rfl rfl)
theorem dX0_isSellable_38 : decode cX0_isSellable 38 = .ok (.getfield 48, 3) := dk_180 0 48 (dk_at dksX0_isSellable_1 14 rfl rfl)
theorem dX0_isSellable_41 : decode cX0_isSellable 41 = .ok (.getfield 255, 3) := dk_180 0 255 (dk_at dksX0_isSellable_1 17 rfl rfl)
theorem dX0_isSellable_44 : decode cX0_isSellable 44 = .ok (.iload_n 2, 1) := dk_28 (dk_at dksX0_isSellable_1 20 rfl rfl)
theorem dX0_isSellable_45 : decode cX0_isSellable 45 = .ok (.invokevirtual 205, 3) := dk_182 0 205 (dk_at dksX0_isSellable_1 21 rfl rfl)
theorem dX0_isSellable_48 : decode cX0_isSellable 48 = .ok (.checkcast 258, 3) := dk_192 1 2 (dk_at dksX0_isSellable_2 0 rfl rfl)
theorem dX0_isSellable_51 : decode cX0_isSellable 51 = .ok (.astore_n 3, 1) := dk_78 (dk_at dksX0_isSellable_2 3 rfl rfl)
theorem dX0_isSellable_52 : decode cX0_isSellable 52 = .ok (.iconst 0, 1) := dk_3 (dk_at dksX0_isSellable_2 4 rfl rfl)
theorem dX0_isSellable_53 : decode cX0_isSellable 53 = .ok (.istore 4, 2) := dk_54 4 (dk_at dksX0_isSellable_2 5 rfl rfl)
theorem dX0_isSellable_55 : decode cX0_isSellable 55 = .ok (.iload 4, 2) := dk_21 4 (dk_at dksX0_isSellable_2 7 rfl rfl)
theorem dX0_isSellable_57 : decode cX0_isSellable 57 = .ok (.aload_n 3, 1) := dk_45 (dk_at dksX0_isSellable_2 9 rfl rfl)
theorem dX0_isSellable_58 : decode cX0_isSellable 58 = .ok (.getfield 260, 3) := dk_180 1 4 (dk_at dksX0_isSellable_2 10 rfl rfl)
theorem dX0_isSellable_61 : decode cX0_isSellable 61 = .ok (.if_icmp .ge 40, 3) := dk_162 0 40 (dk_at dksX0_isSellable_2 13 rfl rfl)
theorem dX0_isSellable_64 : decode cX0_isSellable 64 = .ok (.iload_n 1, 1) := dk_27 (dk_at dksX0_isSellable_2 16 rfl rfl)
theorem dX0_isSellable_65 : decode cX0_isSellable 65 = .ok (.iload_n 2, 1) := dk_28 (dk_at dksX0_isSellable_2 17 rfl rfl)
theorem dX0_isSellable_66 : decode cX0_isSellable 66 = .ok (.ishr, 1) := dk_122 (dk_at dksX0_isSellable_2 18 rfl rfl)
theorem dX0_isSellable_67 : decode cX0_isSellable 67 = .ok (.iconst 1, 1) := dk_4 (dk_at dksX0_isSellable_2 19 rfl rfl)
theorem dX0_isSellable_68 : decode cX0_isSellable 68 = .ok (.iand, 1) := dk_126 (dk_at dksX0_isSellable_2 20 rfl rfl)
theorem dX0_isSellable_69 : decode cX0_isSellable 69 = .ok (.iconst 1, 1) := dk_4 (dk_at dksX0_isSellable_2 21 rfl rfl)
theorem dX0_isSellable_70 : decode cX0_isSellable 70 = .ok (.if_icmp .ne 31, 3) := dk_160 0 31 (dk_at dksX0_isSellable_3 0 rfl rfl)
theorem dX0_isSellable_73 : decode cX0_isSellable 73 = .ok (.aload_n 0, 1) := dk_42 (dk_at dksX0_isSellable_3 3 rfl rfl)
theorem dX0_isSellable_74 : decode cX0_isSellable 74 = .ok (.getfield 77, 3) := dk_180 0 77 (dk_at dksX0_isSellable_3 4 rfl rfl)
theorem dX0_isSellable_77 : decode cX0_isSellable 77 = .ok (.aload_n 3, 1) := dk_45 (dk_at dksX0_isSellable_3 7 rfl rfl)
theorem dX0_isSellable_78 : decode cX0_isSellable 78 = .ok (.getfield 263, 3) := dk_180 1 7 (dk_at dksX0_isSellable_3 8 rfl rfl)
theorem dX0_isSellable_81 : decode cX0_isSellable 81 = .ok (.iload 4, 2) := dk_21 4 (dk_at dksX0_isSellable_3 11 rfl rfl)
theorem dX0_isSellable_83 : decode cX0_isSellable 83 = .ok (.iaload, 1) := dk_46 (dk_at dksX0_isSellable_3 13 rfl rfl)
theorem dX0_isSellable_84 : decode cX0_isSellable 84 = .ok (.dup2, 1) := dk_92 (dk_at dksX0_isSellable_3 14 rfl rfl)
theorem dX0_isSellable_85 : decode cX0_isSellable 85 = .ok (.iaload, 1) := dk_46 (dk_at dksX0_isSellable_3 15 rfl rfl)
theorem dX0_isSellable_86 : decode cX0_isSellable 86 = .ok (.aload_n 3, 1) := dk_45 (dk_at dksX0_isSellable_3 16 rfl rfl)
theorem dX0_isSellable_87 : decode cX0_isSellable 87 = .ok (.getfield 265, 3) := dk_180 1 9 (dk_at dksX0_isSellable_3 17 rfl rfl)
theorem dX0_isSellable_90 : decode cX0_isSellable 90 = .ok (.iload 4, 2) := dk_21 4 (dk_at dksX0_isSellable_3 20 rfl rfl)
theorem dX0_isSellable_92 : decode cX0_isSellable 92 = .ok (.iaload, 1) := dk_46 (dk_at dksX0_isSellable_3 22 rfl rfl)
theorem dX0_isSellable_93 : decode cX0_isSellable 93 = .ok (.iadd, 1) := dk_96 (dk_at dksX0_isSellable_3 23 rfl rfl)
theorem dX0_isSellable_94 : decode cX0_isSellable 94 = .ok (.iastore, 1) := dk_79 (dk_at dksX0_isSellable_4 0 rfl rfl)
theorem dX0_isSellable_95 : decode cX0_isSellable 95 = .ok (.iinc 4 1, 3) := dk_132 4 1 (dk_at dksX0_isSellable_4 1 rfl rfl)
theorem dX0_isSellable_98 : decode cX0_isSellable 98 = .ok (.goto (-43), 3) := dk_167 255 213 (dk_at dksX0_isSellable_4 4 rfl rfl)
theorem dX0_isSellable_101 : decode cX0_isSellable 101 = .ok (.iinc 2 1, 3) := dk_132 2 1 (dk_at dksX0_isSellable_4 7 rfl rfl)
theorem dX0_isSellable_104 : decode cX0_isSellable 104 = .ok (.goto (-81), 3) := dk_167 255 175 (dk_at dksX0_isSellable_4 10 rfl rfl)
theorem dX0_isSellable_107 : decode cX0_isSellable 107 = .ok (.iconst 0, 1) := dk_3 (dk_at dksX0_isSellable_4 13 rfl rfl)
theorem dX0_isSellable_108 : decode cX0_isSellable 108 = .ok (.istore_n 2, 1) := dk_61 (dk_at dksX0_isSellable_4 14 rfl rfl)
theorem dX0_isSellable_109 : decode cX0_isSellable 109 = .ok (.iload_n 2, 1) := dk_28 (dk_at dksX0_isSellable_4 15 rfl rfl)
theorem dX0_isSellable_110 : decode cX0_isSellable 110 = .ok (.aload_n 0, 1) := dk_42 (dk_at dksX0_isSellable_4 16 rfl rfl)
theorem dX0_isSellable_111 : decode cX0_isSellable 111 = .ok (.invokevirtual 147, 3) := dk_182 0 147 (dk_at dksX0_isSellable_4 17 rfl rfl)
theorem dX0_isSellable_114 : decode cX0_isSellable 114 = .ok (.if_icmp .ge 25, 3) := dk_162 0 25 (dk_at dksX0_isSellable_4 20 rfl rfl)
theorem dX0_isSellable_117 : decode cX0_isSellable 117 = .ok (.aload_n 0, 1) := dk_42 (dk_at dksX0_isSellable_4 23 rfl rfl)
theorem dX0_isSellable_118 : decode cX0_isSellable 118 = .ok (.getfield 77, 3) := dk_180 0 77 (dk_at dksX0_isSellable_5 0 rfl rfl)
theorem dX0_isSellable_121 : decode cX0_isSellable 121 = .ok (.iload_n 2, 1) := dk_28 (dk_at dksX0_isSellable_5 3 rfl rfl)
theorem dX0_isSellable_122 : decode cX0_isSellable 122 = .ok (.iaload, 1) := dk_46 (dk_at dksX0_isSellable_5 4 rfl rfl)
theorem dX0_isSellable_123 : decode cX0_isSellable 123 = .ok (.aload_n 0, 1) := dk_42 (dk_at dksX0_isSellable_5 5 rfl rfl)
theorem dX0_isSellable_124 : decode cX0_isSellable 124 = .ok (.iload_n 2, 1) := dk_28 (dk_at dksX0_isSellable_5 6 rfl rfl)
theorem dX0_isSellable_125 : decode cX0_isSellable 125 = .ok (.invokevirtual 268, 3) := dk_182 1 12 (dk_at dksX0_isSellable_5 7 rfl rfl)
theorem dX0_isSellable_128 : decode cX0_isSellable 128 = .ok (.if_icmp .le 5, 3) := dk_164 0 5 (dk_at dksX0_isSellable_5 10 rfl rfl)
theorem dX0_isSellable_131 : decode cX0_isSellable 131 = .ok (.iconst 0, 1) := dk_3 (dk_at dksX0_isSellable_5 13 rfl rfl)
theorem dX0_isSellable_132 : decode cX0_isSellable 132 = .ok (.ireturn, 1) := dk_172 (dk_at dksX0_isSellable_5 14 rfl rfl)
theorem dX0_isSellable_133 : decode cX0_isSellable 133 = .ok (.iinc 2 1, 3) := dk_132 2 1 (dk_at dksX0_isSellable_5 15 rfl rfl)
theorem dX0_isSellable_136 : decode cX0_isSellable 136 = .ok (.goto (-27), 3) := dk_167 255 229 (dk_at dksX0_isSellable_5 18 rfl rfl)
theorem dX0_isSellable_139 : decode cX0_isSellable 139 = .ok (.iconst 1, 1) := dk_4 (dk_at dksX0_isSellable_5 21 rfl rfl)
theorem dX0_isSellable_140 : decode cX0_isSellable 140 = .ok (.ireturn, 1) := dk_172 (dk_at dksX0_isSellable_5 22 rfl rfl)
abbrev cX0_inOwn : ByteArray := prog_1_method_33_code
def yX0_inOwn : MethodName := ⟨RX0, "inOwn", "(I)I"⟩
def dkwX0_inOwn_2 : List UInt8 := [3, 96, 61, 132, 3, 1, 167, 255, 206, 28, 172]
abbrev dktX0_inOwn_2 : List UInt8 := dkwX0_inOwn_2 ++ []
def dkwX0_inOwn_1 : List UInt8 := [192, 0, 209, 180, 0, 211, 27, 160, 0, 17, 42, 180, 0, 59, 180, 0, 167, 29, 50, 27, 46, 167, 0, 4]
abbrev dktX0_inOwn_1 : List UInt8 := dkwX0_inOwn_1 ++ dktX0_inOwn_2
def dkwX0_inOwn_0 : List UInt8 := [3, 61, 3, 62, 29, 42, 182, 0, 153, 162, 0, 48, 28, 42, 180, 0, 48, 180, 0, 141, 29, 182, 0, 205]
abbrev dktX0_inOwn_0 : List UInt8 := dkwX0_inOwn_0 ++ dktX0_inOwn_1
theorem dksX0_inOwn_0 : cX0_inOwn.data.toList.drop 0 = dktX0_inOwn_0 := by decide +kernel
theorem dksX0_inOwn_1 : cX0_inOwn.data.toList.drop 24 = dktX0_inOwn_1 := dk_seg dksX0_inOwn_0 24 rfl rfl
theorem dksX0_inOwn_2 : cX0_inOwn.data.toList.drop 48 = dktX0_inOwn_2 := dk_seg dksX0_inOwn_1 24 rfl rfl
theorem dX0_inOwn_0 : decode cX0_inOwn 0 = .ok (.iconst 0, 1) := dk_3 (dk_at dksX0_inOwn_0 0 rfl rfl)
theorem dX0_inOwn_1 : decode cX0_inOwn 1 = .ok (.istore_n 2, 1) := dk_61 (dk_at dksX0_inOwn_0 1 rfl rfl)
theorem dX0_inOwn_2 : decode cX0_inOwn 2 = .ok (.iconst 0, 1) := dk_3 (dk_at dksX0_inOwn_0 2 rfl rfl)
theorem dX0_inOwn_3 : decode cX0_inOwn 3 = .ok (.istore_n 3, 1) := dk_62 (dk_at dksX0_inOwn_0 3 rfl rfl)
theorem dX0_inOwn_4 : decode cX0_inOwn 4 = .ok (.iload_n 3, 1) := dk_29 (dk_at dksX0_inOwn_0 4 rfl rfl)
theorem dX0_inOwn_5 : decode cX0_inOwn 5 = .ok (.aload_n 0, 1) := dk_42 (dk_at dksX0_inOwn_0 5 rfl rfl)
theorem dX0_inOwn_6 : decode cX0_inOwn 6 = .ok (.invokevirtual 153, 3) := dk_182 0 153 (dk_at dksX0_inOwn_0 6 rfl rfl)
theorem dX0_inOwn_9 : decode cX0_inOwn 9 = .ok (.if_icmp .ge 48, 3) := dk_162 0 48 (dk_at dksX0_inOwn_0 9 rfl rfl)
theorem dX0_inOwn_12 : decode cX0_inOwn 12 = .ok (.iload_n 2, 1) := dk_28 (dk_at dksX0_inOwn_0 12 rfl rfl)
theorem dX0_inOwn_13 : decode cX0_inOwn 13 = .ok (.aload_n 0, 1) := dk_42 (dk_at dksX0_inOwn_0 13 rfl rfl)
theorem dX0_inOwn_14 : decode cX0_inOwn 14 = .ok (.getfield 48, 3) := dk_180 0 48 (dk_at dksX0_inOwn_0 14 rfl rfl)
theorem dX0_inOwn_17 : decode cX0_inOwn 17 = .ok (.getfield 141, 3) := dk_180 0 141 (dk_at dksX0_inOwn_0 17 rfl rfl)
theorem dX0_inOwn_20 : decode cX0_inOwn 20 = .ok (.iload_n 3, 1) := dk_29 (dk_at dksX0_inOwn_0 20 rfl rfl)
theorem dX0_inOwn_21 : decode cX0_inOwn 21 = .ok (.invokevirtual 205, 3) := dk_182 0 205 (dk_at dksX0_inOwn_0 21 rfl rfl)
theorem dX0_inOwn_24 : decode cX0_inOwn 24 = .ok (.checkcast 209, 3) := dk_192 0 209 (dk_at dksX0_inOwn_1 0 rfl rfl)
theorem dX0_inOwn_27 : decode cX0_inOwn 27 = .ok (.getfield 211, 3) := dk_180 0 211 (dk_at dksX0_inOwn_1 3 rfl rfl)
theorem dX0_inOwn_30 : decode cX0_inOwn 30 = .ok (.iload_n 1, 1) := dk_27 (dk_at dksX0_inOwn_1 6 rfl rfl)
theorem dX0_inOwn_31 : decode cX0_inOwn 31 = .ok (.if_icmp .ne 17, 3) := dk_160 0 17 (dk_at dksX0_inOwn_1 7 rfl rfl)
theorem dX0_inOwn_34 : decode cX0_inOwn 34 = .ok (.aload_n 0, 1) := dk_42 (dk_at dksX0_inOwn_1 10 rfl rfl)
theorem dX0_inOwn_35 : decode cX0_inOwn 35 = .ok (.getfield 59, 3) := dk_180 0 59 (dk_at dksX0_inOwn_1 11 rfl rfl)
theorem dX0_inOwn_38 : decode cX0_inOwn 38 = .ok (.getfield 167, 3) := dk_180 0 167 (dk_at dksX0_inOwn_1 14 rfl rfl)
theorem dX0_inOwn_41 : decode cX0_inOwn 41 = .ok (.iload_n 3, 1) := dk_29 (dk_at dksX0_inOwn_1 17 rfl rfl)
theorem dX0_inOwn_42 : decode cX0_inOwn 42 = .ok (.aaload, 1) := dk_50 (dk_at dksX0_inOwn_1 18 rfl rfl)
theorem dX0_inOwn_43 : decode cX0_inOwn 43 = .ok (.iload_n 1, 1) := dk_27 (dk_at dksX0_inOwn_1 19 rfl rfl)
theorem dX0_inOwn_44 : decode cX0_inOwn 44 = .ok (.iaload, 1) := dk_46 (dk_at dksX0_inOwn_1 20 rfl rfl)
theorem dX0_inOwn_45 : decode cX0_inOwn 45 = .ok (.goto 4, 3) := dk_167 0 4 (dk_at dksX0_inOwn_1 21 rfl rfl)
theorem dX0_inOwn_48 : decode cX0_inOwn 48 = .ok (.iconst 0, 1) := dk_3 (dk_at dksX0_inOwn_2 0 rfl rfl)
theorem dX0_inOwn_49 : decode cX0_inOwn 49 = .ok (.iadd, 1) := dk_96 (dk_at dksX0_inOwn_2 1 rfl rfl)
theorem dX0_inOwn_50 : decode cX0_inOwn 50 = .ok (.istore_n 2, 1) := dk_61 (dk_at dksX0_inOwn_2 2 rfl rfl)
theorem dX0_inOwn_51 : decode cX0_inOwn 51 = .ok (.iinc 3 1, 3) := dk_132 3 1 (dk_at dksX0_inOwn_2 3 rfl rfl)
theorem dX0_inOwn_54 : decode cX0_inOwn 54 = .ok (.goto (-50), 3) := dk_167 255 206 (dk_at dksX0_inOwn_2 6 rfl rfl)
theorem dX0_inOwn_57 : decode cX0_inOwn 57 = .ok (.iload_n 2, 1) := dk_28 (dk_at dksX0_inOwn_2 9 rfl rfl)
theorem dX0_inOwn_58 : decode cX0_inOwn 58 = .ok (.ireturn, 1) := dk_172 (dk_at dksX0_inOwn_2 10 rfl rfl)
abbrev cX0_goesOut : ByteArray := prog_1_method_35_code
def yX0_goesOut : MethodName := ⟨RX0, "goesOut", "(II)V"⟩
def dkwX0_goesOut_3 : List UInt8 := [21, 5, 100, 79, 29, 21, 5, 100, 62, 132, 4, 1, 167, 255, 179, 177]
abbrev dktX0_goesOut_3 : List UInt8 := dkwX0_goesOut_3 ++ []
def dkwX0_goesOut_2 : List UInt8 := [21, 4, 50, 27, 46, 184, 0, 8, 54, 5, 42, 180, 0, 59, 180, 0, 167, 21, 4, 50, 27, 92, 46]
abbrev dktX0_goesOut_2 : List UInt8 := dkwX0_goesOut_2 ++ dktX0_goesOut_3
def dkwX0_goesOut_1 : List UInt8 := [182, 0, 205, 192, 0, 209, 180, 0, 211, 27, 159, 0, 6, 167, 0, 43, 29, 42, 180, 0, 59, 180, 0, 167]
abbrev dktX0_goesOut_1 : List UInt8 := dkwX0_goesOut_1 ++ dktX0_goesOut_2
def dkwX0_goesOut_0 : List UInt8 := [28, 62, 3, 54, 4, 21, 4, 42, 182, 0, 153, 162, 0, 74, 42, 180, 0, 48, 180, 0, 141, 21, 4]
abbrev dktX0_goesOut_0 : List UInt8 := dkwX0_goesOut_0 ++ dktX0_goesOut_1
theorem dksX0_goesOut_0 : cX0_goesOut.data.toList.drop 0 = dktX0_goesOut_0 := by decide +kernel
theorem dksX0_goesOut_1 : cX0_goesOut.data.toList.drop 23 = dktX0_goesOut_1 := dk_seg dksX0_goesOut_0 23 rfl rfl
theorem dksX0_goesOut_2 : cX0_goesOut.data.toList.drop 47 = dktX0_goesOut_2 := dk_seg dksX0_goesOut_1 24 rfl rfl
theorem dksX0_goesOut_3 : cX0_goesOut.data.toList.drop 70 = dktX0_goesOut_3 := dk_seg dksX0_goesOut_2 23 rfl rfl
theorem dX0_goesOut_0 : decode cX0_goesOut 0 = .ok (.iload_n 2, 1) := dk_28 (dk_at dksX0_goesOut_0 0 rfl rfl)
theorem dX0_goesOut_1 : decode cX0_goesOut 1 = .ok (.istore_n 3, 1) := dk_62 (dk_at dksX0_goesOut_0 1 rfl rfl)
theorem dX0_goesOut_2 : decode cX0_goesOut 2 = .ok (.iconst 0, 1) := dk_3 (dk_at dksX0_goesOut_0 2 rfl rfl)
theorem dX0_goesOut_3 : decode cX0_goesOut 3 = .ok (.istore 4, 2) := dk_54 4 (dk_at dksX0_goesOut_0 3 rfl rfl)
theorem dX0_goesOut_5 : decode cX0_goesOut 5 = .ok (.iload 4, 2) := dk_21 4 (dk_at dksX0_goesOut_0 5 rfl rfl)
theorem dX0_goesOut_7 : decode cX0_goesOut 7 = .ok (.aload_n 0, 1) := dk_42 (dk_at dksX0_goesOut_0 7 rfl rfl)
theorem dX0_goesOut_8 : decode cX0_goesOut 8 = .ok (.invokevirtual 153, 3) := dk_182 0 153 (dk_at dksX0_goesOut_0 8 rfl rfl)
theorem dX0_goesOut_11 : decode cX0_goesOut 11 = .ok (.if_icmp .ge 74, 3) := dk_162 0 74 (dk_at dksX0_goesOut_0 11 rfl rfl)
theorem dX0_goesOut_14 : decode cX0_goesOut 14 = .ok (.aload_n 0, 1) := dk_42 (dk_at dksX0_goesOut_0 14 rfl rfl)
theorem dX0_goesOut_15 : decode cX0_goesOut 15 = .ok (.getfield 48, 3) := dk_180 0 48 (dk_at dksX0_goesOut_0 15 rfl rfl)
theorem dX0_goesOut_18 : decode cX0_goesOut 18 = .ok (.getfield 141, 3) := dk_180 0 141 (dk_at dksX0_goesOut_0 18 rfl rfl)
theorem dX0_goesOut_21 : decode cX0_goesOut 21 = .ok (.iload 4, 2) := dk_21 4 (dk_at dksX0_goesOut_0 21 rfl rfl)
theorem dX0_goesOut_23 : decode cX0_goesOut 23 = .ok (.invokevirtual 205, 3) := dk_182 0 205 (dk_at dksX0_goesOut_1 0 rfl rfl)
theorem dX0_goesOut_26 : decode cX0_goesOut 26 = .ok (.checkcast 209, 3) := dk_192 0 209 (dk_at dksX0_goesOut_1 3 rfl rfl)
theorem dX0_goesOut_29 : decode cX0_goesOut 29 = .ok (.getfield 211, 3) := dk_180 0 211 (dk_at dksX0_goesOut_1 6 rfl rfl)
theorem dX0_goesOut_32 : decode cX0_goesOut 32 = .ok (.iload_n 1, 1) := dk_27 (dk_at dksX0_goesOut_1 9 rfl rfl)
theorem dX0_goesOut_33 : decode cX0_goesOut 33 = .ok (.if_icmp .eq 6, 3) := dk_159 0 6 (dk_at dksX0_goesOut_1 10 rfl rfl)
theorem dX0_goesOut_36 : decode cX0_goesOut 36 = .ok (.goto 43, 3) := dk_167 0 43 (dk_at dksX0_goesOut_1 13 rfl rfl)
theorem dX0_goesOut_39 : decode cX0_goesOut 39 = .ok (.iload_n 3, 1) := dk_29 (dk_at dksX0_goesOut_1 16 rfl rfl)
theorem dX0_goesOut_40 : decode cX0_goesOut 40 = .ok (.aload_n 0, 1) := dk_42 (dk_at dksX0_goesOut_1 17 rfl rfl)
theorem dX0_goesOut_41 : decode cX0_goesOut 41 = .ok (.getfield 59, 3) := dk_180 0 59 (dk_at dksX0_goesOut_1 18 rfl rfl)
theorem dX0_goesOut_44 : decode cX0_goesOut 44 = .ok (.getfield 167, 3) := dk_180 0 167 (dk_at dksX0_goesOut_1 21 rfl rfl)
theorem dX0_goesOut_47 : decode cX0_goesOut 47 = .ok (.iload 4, 2) := dk_21 4 (dk_at dksX0_goesOut_2 0 rfl rfl)
theorem dX0_goesOut_49 : decode cX0_goesOut 49 = .ok (.aaload, 1) := dk_50 (dk_at dksX0_goesOut_2 2 rfl rfl)
theorem dX0_goesOut_50 : decode cX0_goesOut 50 = .ok (.iload_n 1, 1) := dk_27 (dk_at dksX0_goesOut_2 3 rfl rfl)
theorem dX0_goesOut_51 : decode cX0_goesOut 51 = .ok (.iaload, 1) := dk_46 (dk_at dksX0_goesOut_2 4 rfl rfl)
theorem dX0_goesOut_52 : decode cX0_goesOut 52 = .ok (.invokestatic 8, 3) := dk_184 0 8 (dk_at dksX0_goesOut_2 5 rfl rfl)
theorem dX0_goesOut_55 : decode cX0_goesOut 55 = .ok (.istore 5, 2) := dk_54 5 (dk_at dksX0_goesOut_2 8 rfl rfl)
theorem dX0_goesOut_57 : decode cX0_goesOut 57 = .ok (.aload_n 0, 1) := dk_42 (dk_at dksX0_goesOut_2 10 rfl rfl)
theorem dX0_goesOut_58 : decode cX0_goesOut 58 = .ok (.getfield 59, 3) := dk_180 0 59 (dk_at dksX0_goesOut_2 11 rfl rfl)
theorem dX0_goesOut_61 : decode cX0_goesOut 61 = .ok (.getfield 167, 3) := dk_180 0 167 (dk_at dksX0_goesOut_2 14 rfl rfl)
theorem dX0_goesOut_64 : decode cX0_goesOut 64 = .ok (.iload 4, 2) := dk_21 4 (dk_at dksX0_goesOut_2 17 rfl rfl)
theorem dX0_goesOut_66 : decode cX0_goesOut 66 = .ok (.aaload, 1) := dk_50 (dk_at dksX0_goesOut_2 19 rfl rfl)
theorem dX0_goesOut_67 : decode cX0_goesOut 67 = .ok (.iload_n 1, 1) := dk_27 (dk_at dksX0_goesOut_2 20 rfl rfl)
theorem dX0_goesOut_68 : decode cX0_goesOut 68 = .ok (.dup2, 1) := dk_92 (dk_at dksX0_goesOut_2 21 rfl rfl)
theorem dX0_goesOut_69 : decode cX0_goesOut 69 = .ok (.iaload, 1) := dk_46 (dk_at dksX0_goesOut_2 22 rfl rfl)
theorem dX0_goesOut_70 : decode cX0_goesOut 70 = .ok (.iload 5, 2) := dk_21 5 (dk_at dksX0_goesOut_3 0 rfl rfl)
theorem dX0_goesOut_72 : decode cX0_goesOut 72 = .ok (.isub, 1) := dk_100 (dk_at dksX0_goesOut_3 2 rfl rfl)
theorem dX0_goesOut_73 : decode cX0_goesOut 73 = .ok (.iastore, 1) := dk_79 (dk_at dksX0_goesOut_3 3 rfl rfl)
theorem dX0_goesOut_74 : decode cX0_goesOut 74 = .ok (.iload_n 3, 1) := dk_29 (dk_at dksX0_goesOut_3 4 rfl rfl)
theorem dX0_goesOut_75 : decode cX0_goesOut 75 = .ok (.iload 5, 2) := dk_21 5 (dk_at dksX0_goesOut_3 5 rfl rfl)
theorem dX0_goesOut_77 : decode cX0_goesOut 77 = .ok (.isub, 1) := dk_100 (dk_at dksX0_goesOut_3 7 rfl rfl)
theorem dX0_goesOut_78 : decode cX0_goesOut 78 = .ok (.istore_n 3, 1) := dk_62 (dk_at dksX0_goesOut_3 8 rfl rfl)
theorem dX0_goesOut_79 : decode cX0_goesOut 79 = .ok (.iinc 4 1, 3) := dk_132 4 1 (dk_at dksX0_goesOut_3 9 rfl rfl)
theorem dX0_goesOut_82 : decode cX0_goesOut 82 = .ok (.goto (-77), 3) := dk_167 255 179 (dk_at dksX0_goesOut_3 12 rfl rfl)
theorem dX0_goesOut_85 : decode cX0_goesOut 85 = .ok (.return_, 1) := dk_177 (dk_at dksX0_goesOut_3 15 rfl rfl)
abbrev cX0_undo : ByteArray := prog_1_method_37_code
def yX0_undo : MethodName := ⟨RX0, "undo", "()Z"⟩
def dkwX0_undo_2 : List UInt8 := [182, 0, 221, 4, 172]
abbrev dktX0_undo_2 : List UInt8 := dkwX0_undo_2 ++ []
def dkwX0_undo_1 : List UInt8 := [16, 40, 96, 4, 100, 16, 40, 112, 181, 0, 218, 42, 180, 0, 59, 42, 180, 0, 66, 42, 180, 0, 218, 50]
abbrev dktX0_undo_1 : List UInt8 := dkwX0_undo_1 ++ dktX0_undo_2
def dkwX0_undo_0 : List UInt8 := [42, 180, 0, 121, 154, 0, 5, 3, 172, 42, 89, 180, 0, 121, 4, 100, 181, 0, 121, 42, 42, 180, 0, 218]
abbrev dktX0_undo_0 : List UInt8 := dkwX0_undo_0 ++ dktX0_undo_1
theorem dksX0_undo_0 : cX0_undo.data.toList.drop 0 = dktX0_undo_0 := by decide +kernel
theorem dksX0_undo_1 : cX0_undo.data.toList.drop 24 = dktX0_undo_1 := dk_seg dksX0_undo_0 24 rfl rfl
theorem dksX0_undo_2 : cX0_undo.data.toList.drop 48 = dktX0_undo_2 := dk_seg dksX0_undo_1 24 rfl rfl
theorem dX0_undo_0 : decode cX0_undo 0 = .ok (.aload_n 0, 1) := dk_42 (dk_at dksX0_undo_0 0 rfl rfl)
theorem dX0_undo_1 : decode cX0_undo 1 = .ok (.getfield 121, 3) := dk_180 0 121 (dk_at dksX0_undo_0 1 rfl rfl)
theorem dX0_undo_4 : decode cX0_undo 4 = .ok (.ifCond .ne 5, 3) := dk_154 0 5 (dk_at dksX0_undo_0 4 rfl rfl)
theorem dX0_undo_7 : decode cX0_undo 7 = .ok (.iconst 0, 1) := dk_3 (dk_at dksX0_undo_0 7 rfl rfl)
theorem dX0_undo_8 : decode cX0_undo 8 = .ok (.ireturn, 1) := dk_172 (dk_at dksX0_undo_0 8 rfl rfl)
theorem dX0_undo_9 : decode cX0_undo 9 = .ok (.aload_n 0, 1) := dk_42 (dk_at dksX0_undo_0 9 rfl rfl)
theorem dX0_undo_10 : decode cX0_undo 10 = .ok (.dup, 1) := dk_89 (dk_at dksX0_undo_0 10 rfl rfl)
theorem dX0_undo_11 : decode cX0_undo 11 = .ok (.getfield 121, 3) := dk_180 0 121 (dk_at dksX0_undo_0 11 rfl rfl)
theorem dX0_undo_14 : decode cX0_undo 14 = .ok (.iconst 1, 1) := dk_4 (dk_at dksX0_undo_0 14 rfl rfl)
theorem dX0_undo_15 : decode cX0_undo 15 = .ok (.isub, 1) := dk_100 (dk_at dksX0_undo_0 15 rfl rfl)
theorem dX0_undo_16 : decode cX0_undo 16 = .ok (.putfield 121, 3) := dk_181 0 121 (dk_at dksX0_undo_0 16 rfl rfl)
theorem dX0_undo_19 : decode cX0_undo 19 = .ok (.aload_n 0, 1) := dk_42 (dk_at dksX0_undo_0 19 rfl rfl)
theorem dX0_undo_20 : decode cX0_undo 20 = .ok (.aload_n 0, 1) := dk_42 (dk_at dksX0_undo_0 20 rfl rfl)
theorem dX0_undo_21 : decode cX0_undo 21 = .ok (.getfield 218, 3) := dk_180 0 218 (dk_at dksX0_undo_0 21 rfl rfl)
theorem dX0_undo_24 : decode cX0_undo 24 = .ok (.bipush 40, 2) := dk_16 40 (dk_at dksX0_undo_1 0 rfl rfl)
theorem dX0_undo_26 : decode cX0_undo 26 = .ok (.iadd, 1) := dk_96 (dk_at dksX0_undo_1 2 rfl rfl)
theorem dX0_undo_27 : decode cX0_undo 27 = .ok (.iconst 1, 1) := dk_4 (dk_at dksX0_undo_1 3 rfl rfl)
theorem dX0_undo_28 : decode cX0_undo 28 = .ok (.isub, 1) := dk_100 (dk_at dksX0_undo_1 4 rfl rfl)
theorem dX0_undo_29 : decode cX0_undo 29 = .ok (.bipush 40, 2) := dk_16 40 (dk_at dksX0_undo_1 5 rfl rfl)
theorem dX0_undo_31 : decode cX0_undo 31 = .ok (.irem, 1) := dk_112 (dk_at dksX0_undo_1 7 rfl rfl)
theorem dX0_undo_32 : decode cX0_undo 32 = .ok (.putfield 218, 3) := dk_181 0 218 (dk_at dksX0_undo_1 8 rfl rfl)
theorem dX0_undo_35 : decode cX0_undo 35 = .ok (.aload_n 0, 1) := dk_42 (dk_at dksX0_undo_1 11 rfl rfl)
theorem dX0_undo_36 : decode cX0_undo 36 = .ok (.getfield 59, 3) := dk_180 0 59 (dk_at dksX0_undo_1 12 rfl rfl)
theorem dX0_undo_39 : decode cX0_undo 39 = .ok (.aload_n 0, 1) := dk_42 (dk_at dksX0_undo_1 15 rfl rfl)
theorem dX0_undo_40 : decode cX0_undo 40 = .ok (.getfield 66, 3) := dk_180 0 66 (dk_at dksX0_undo_1 16 rfl rfl)
theorem dX0_undo_43 : decode cX0_undo 43 = .ok (.aload_n 0, 1) := dk_42 (dk_at dksX0_undo_1 19 rfl rfl)
theorem dX0_undo_44 : decode cX0_undo 44 = .ok (.getfield 218, 3) := dk_180 0 218 (dk_at dksX0_undo_1 20 rfl rfl)
theorem dX0_undo_47 : decode cX0_undo 47 = .ok (.aaload, 1) := dk_50 (dk_at dksX0_undo_1 23 rfl rfl)
theorem dX0_undo_48 : decode cX0_undo 48 = .ok (.invokevirtual 221, 3) := dk_182 0 221 (dk_at dksX0_undo_2 0 rfl rfl)
theorem dX0_undo_51 : decode cX0_undo 51 = .ok (.iconst 1, 1) := dk_4 (dk_at dksX0_undo_2 3 rfl rfl)
theorem dX0_undo_52 : decode cX0_undo 52 = .ok (.ireturn, 1) := dk_172 (dk_at dksX0_undo_2 4 rfl rfl)
abbrev cX0_isClean : ByteArray := prog_1_method_39_code
def yX0_isClean : MethodName := ⟨RX0, "isClean", "()Z"⟩
def dkwX0_isClean_0 : List UInt8 := [42, 42, 180, 0, 59, 182, 1, 38, 172]
abbrev dktX0_isClean_0 : List UInt8 := dkwX0_isClean_0 ++ []
theorem dksX0_isClean_0 : cX0_isClean.data.toList.drop 0 = dktX0_isClean_0 := by decide +kernel
theorem dX0_isClean_0 : decode cX0_isClean 0 = .ok (.aload_n 0, 1) := dk_42 (dk_at dksX0_isClean_0 0 rfl rfl)
theorem dX0_isClean_1 : decode cX0_isClean 1 = .ok (.aload_n 0, 1) := dk_42 (dk_at dksX0_isClean_0 1 rfl rfl)
theorem dX0_isClean_2 : decode cX0_isClean 2 = .ok (.getfield 59, 3) := dk_180 0 59 (dk_at dksX0_isClean_0 2 rfl rfl)
theorem dX0_isClean_5 : decode cX0_isClean 5 = .ok (.invokevirtual 294, 3) := dk_182 1 38 (dk_at dksX0_isClean_0 5 rfl rfl)
theorem dX0_isClean_8 : decode cX0_isClean 8 = .ok (.ireturn, 1) := dk_172 (dk_at dksX0_isClean_0 8 rfl rfl)
abbrev cX0_isClean_2 : ByteArray := prog_1_method_38_code
def yX0_isClean_2 : MethodName := ⟨RX0, "isClean", "(LRatSorters$House;)Z"⟩
def dkwX0_isClean_2_1 : List UInt8 := [167, 0, 4, 3, 172]
abbrev dktX0_isClean_2_1 : List UInt8 := dkwX0_isClean_2_1 ++ []
def dkwX0_isClean_2_0 : List UInt8 := [43, 42, 180, 0, 48, 3, 182, 1, 30, 153, 0, 18, 43, 42, 180, 0, 48, 182, 1, 34, 154, 0, 7, 4]
abbrev dktX0_isClean_2_0 : List UInt8 := dkwX0_isClean_2_0 ++ dktX0_isClean_2_1
theorem dksX0_isClean_2_0 : cX0_isClean_2.data.toList.drop 0 = dktX0_isClean_2_0 := by decide +kernel
theorem dksX0_isClean_2_1 : cX0_isClean_2.data.toList.drop 24 = dktX0_isClean_2_1 := dk_seg dksX0_isClean_2_0 24 rfl rfl
theorem dX0_isClean_2_0 : decode cX0_isClean_2 0 = .ok (.aload_n 1, 1) := dk_43 (dk_at dksX0_isClean_2_0 0 rfl rfl)
theorem dX0_isClean_2_1 : decode cX0_isClean_2 1 = .ok (.aload_n 0, 1) := dk_42 (dk_at dksX0_isClean_2_0 1 rfl rfl)
theorem dX0_isClean_2_2 : decode cX0_isClean_2 2 = .ok (.getfield 48, 3) := dk_180 0 48 (dk_at dksX0_isClean_2_0 2 rfl rfl)
theorem dX0_isClean_2_5 : decode cX0_isClean_2 5 = .ok (.iconst 0, 1) := dk_3 (dk_at dksX0_isClean_2_0 5 rfl rfl)
theorem dX0_isClean_2_6 : decode cX0_isClean_2 6 = .ok (.invokevirtual 286, 3) := dk_182 1 30 (dk_at dksX0_isClean_2_0 6 rfl rfl)
theorem dX0_isClean_2_9 : decode cX0_isClean_2 9 = .ok (.ifCond .eq 18, 3) := dk_153 0 18 (dk_at dksX0_isClean_2_0 9 rfl rfl)
theorem dX0_isClean_2_12 : decode cX0_isClean_2 12 = .ok (.aload_n 1, 1) := dk_43 (dk_at dksX0_isClean_2_0 12 rfl rfl)
theorem dX0_isClean_2_13 : decode cX0_isClean_2 13 = .ok (.aload_n 0, 1) := dk_42 (dk_at dksX0_isClean_2_0 13 rfl rfl)
theorem dX0_isClean_2_14 : decode cX0_isClean_2 14 = .ok (.getfield 48, 3) := dk_180 0 48 (dk_at dksX0_isClean_2_0 14 rfl rfl)
theorem dX0_isClean_2_17 : decode cX0_isClean_2 17 = .ok (.invokevirtual 290, 3) := dk_182 1 34 (dk_at dksX0_isClean_2_0 17 rfl rfl)
theorem dX0_isClean_2_20 : decode cX0_isClean_2 20 = .ok (.ifCond .ne 7, 3) := dk_154 0 7 (dk_at dksX0_isClean_2_0 20 rfl rfl)
theorem dX0_isClean_2_23 : decode cX0_isClean_2 23 = .ok (.iconst 1, 1) := dk_4 (dk_at dksX0_isClean_2_0 23 rfl rfl)
theorem dX0_isClean_2_24 : decode cX0_isClean_2 24 = .ok (.goto 4, 3) := dk_167 0 4 (dk_at dksX0_isClean_2_1 0 rfl rfl)
theorem dX0_isClean_2_27 : decode cX0_isClean_2 27 = .ok (.iconst 0, 1) := dk_3 (dk_at dksX0_isClean_2_1 3 rfl rfl)
theorem dX0_isClean_2_28 : decode cX0_isClean_2 28 = .ok (.ireturn, 1) := dk_172 (dk_at dksX0_isClean_2_1 4 rfl rfl)
abbrev cX0_clean : ByteArray := prog_1_method_41_code
def yX0_clean : MethodName := ⟨RX0, "clean", "()I"⟩
def dkwX0_clean_0 : List UInt8 := [42, 180, 0, 63, 42, 180, 0, 59, 182, 0, 221, 42, 182, 1, 42, 172]
abbrev dktX0_clean_0 : List UInt8 := dkwX0_clean_0 ++ []
theorem dksX0_clean_0 : cX0_clean.data.toList.drop 0 = dktX0_clean_0 := by decide +kernel
theorem dX0_clean_0 : decode cX0_clean 0 = .ok (.aload_n 0, 1) := dk_42 (dk_at dksX0_clean_0 0 rfl rfl)
theorem dX0_clean_1 : decode cX0_clean 1 = .ok (.getfield 63, 3) := dk_180 0 63 (dk_at dksX0_clean_0 1 rfl rfl)
theorem dX0_clean_4 : decode cX0_clean 4 = .ok (.aload_n 0, 1) := dk_42 (dk_at dksX0_clean_0 4 rfl rfl)
theorem dX0_clean_5 : decode cX0_clean 5 = .ok (.getfield 59, 3) := dk_180 0 59 (dk_at dksX0_clean_0 5 rfl rfl)
theorem dX0_clean_8 : decode cX0_clean 8 = .ok (.invokevirtual 221, 3) := dk_182 0 221 (dk_at dksX0_clean_0 8 rfl rfl)
theorem dX0_clean_11 : decode cX0_clean 11 = .ok (.aload_n 0, 1) := dk_42 (dk_at dksX0_clean_0 11 rfl rfl)
theorem dX0_clean_12 : decode cX0_clean 12 = .ok (.invokevirtual 298, 3) := dk_182 1 42 (dk_at dksX0_clean_0 12 rfl rfl)
theorem dX0_clean_15 : decode cX0_clean 15 = .ok (.ireturn, 1) := dk_172 (dk_at dksX0_clean_0 15 rfl rfl)
abbrev cX0_cleanBy : ByteArray := prog_1_method_40_code
def yX0_cleanBy : MethodName := ⟨RX0, "cleanBy", "()I"⟩
def dkwX0_cleanBy_1 : List UInt8 := [180, 0, 63, 42, 180, 0, 48, 182, 0, 225, 132, 1, 1, 167, 255, 222, 16, 254, 172]
abbrev dktX0_cleanBy_1 : List UInt8 := dkwX0_cleanBy_1 ++ []
def dkwX0_cleanBy_0 : List UInt8 := [3, 60, 27, 17, 2, 88, 163, 0, 33, 42, 42, 180, 0, 63, 182, 1, 38, 153, 0, 5, 27, 172, 42]
abbrev dktX0_cleanBy_0 : List UInt8 := dkwX0_cleanBy_0 ++ dktX0_cleanBy_1
theorem dksX0_cleanBy_0 : cX0_cleanBy.data.toList.drop 0 = dktX0_cleanBy_0 := by decide +kernel
theorem dksX0_cleanBy_1 : cX0_cleanBy.data.toList.drop 23 = dktX0_cleanBy_1 := dk_seg dksX0_cleanBy_0 23 rfl rfl
theorem dX0_cleanBy_0 : decode cX0_cleanBy 0 = .ok (.iconst 0, 1) := dk_3 (dk_at dksX0_cleanBy_0 0 rfl rfl)
theorem dX0_cleanBy_1 : decode cX0_cleanBy 1 = .ok (.istore_n 1, 1) := dk_60 (dk_at dksX0_cleanBy_0 1 rfl rfl)
theorem dX0_cleanBy_2 : decode cX0_cleanBy 2 = .ok (.iload_n 1, 1) := dk_27 (dk_at dksX0_cleanBy_0 2 rfl rfl)
theorem dX0_cleanBy_3 : decode cX0_cleanBy 3 = .ok (.sipush 600, 3) := dk_17 2 88 (dk_at dksX0_cleanBy_0 3 rfl rfl)
theorem dX0_cleanBy_6 : decode cX0_cleanBy 6 = .ok (.if_icmp .gt 33, 3) := dk_163 0 33 (dk_at dksX0_cleanBy_0 6 rfl rfl)
theorem dX0_cleanBy_9 : decode cX0_cleanBy 9 = .ok (.aload_n 0, 1) := dk_42 (dk_at dksX0_cleanBy_0 9 rfl rfl)
theorem dX0_cleanBy_10 : decode cX0_cleanBy 10 = .ok (.aload_n 0, 1) := dk_42 (dk_at dksX0_cleanBy_0 10 rfl rfl)
theorem dX0_cleanBy_11 : decode cX0_cleanBy 11 = .ok (.getfield 63, 3) := dk_180 0 63 (dk_at dksX0_cleanBy_0 11 rfl rfl)
theorem dX0_cleanBy_14 : decode cX0_cleanBy 14 = .ok (.invokevirtual 294, 3) := dk_182 1 38 (dk_at dksX0_cleanBy_0 14 rfl rfl)
theorem dX0_cleanBy_17 : decode cX0_cleanBy 17 = .ok (.ifCond .eq 5, 3) := dk_153 0 5 (dk_at dksX0_cleanBy_0 17 rfl rfl)
theorem dX0_cleanBy_20 : decode cX0_cleanBy 20 = .ok (.iload_n 1, 1) := dk_27 (dk_at dksX0_cleanBy_0 20 rfl rfl)
theorem dX0_cleanBy_21 : decode cX0_cleanBy 21 = .ok (.ireturn, 1) := dk_172 (dk_at dksX0_cleanBy_0 21 rfl rfl)
theorem dX0_cleanBy_22 : decode cX0_cleanBy 22 = .ok (.aload_n 0, 1) := dk_42 (dk_at dksX0_cleanBy_0 22 rfl rfl)
theorem dX0_cleanBy_23 : decode cX0_cleanBy 23 = .ok (.getfield 63, 3) := dk_180 0 63 (dk_at dksX0_cleanBy_1 0 rfl rfl)
theorem dX0_cleanBy_26 : decode cX0_cleanBy 26 = .ok (.aload_n 0, 1) := dk_42 (dk_at dksX0_cleanBy_1 3 rfl rfl)
theorem dX0_cleanBy_27 : decode cX0_cleanBy 27 = .ok (.getfield 48, 3) := dk_180 0 48 (dk_at dksX0_cleanBy_1 4 rfl rfl)
theorem dX0_cleanBy_30 : decode cX0_cleanBy 30 = .ok (.invokevirtual 225, 3) := dk_182 0 225 (dk_at dksX0_cleanBy_1 7 rfl rfl)
theorem dX0_cleanBy_33 : decode cX0_cleanBy 33 = .ok (.iinc 1 1, 3) := dk_132 1 1 (dk_at dksX0_cleanBy_1 10 rfl rfl)
theorem dX0_cleanBy_36 : decode cX0_cleanBy 36 = .ok (.goto (-34), 3) := dk_167 255 222 (dk_at dksX0_cleanBy_1 13 rfl rfl)
theorem dX0_cleanBy_39 : decode cX0_cleanBy 39 = .ok (.bipush (-2), 2) := dk_16 254 (dk_at dksX0_cleanBy_1 16 rfl rfl)
theorem dX0_cleanBy_41 : decode cX0_cleanBy 41 = .ok (.ireturn, 1) := dk_172 (dk_at dksX0_cleanBy_1 18 rfl rfl)
abbrev cX0_then : ByteArray := prog_1_method_42_code
def yX0_then : MethodName := ⟨RX0, "then", "(II)I"⟩
def dkwX0_then_5 : List UInt8 := [180, 0, 48, 3, 182, 1, 55, 172, 42, 180, 0, 63, 180, 1, 59, 172]
abbrev dktX0_then_5 : List UInt8 := dkwX0_then_5 ++ []
def dkwX0_then_4 : List UInt8 := [182, 1, 52, 172, 42, 180, 0, 63, 42, 180, 0, 48, 4, 182, 1, 55, 172, 42, 180, 0, 63, 42]
abbrev dktX0_then_4 : List UInt8 := dkwX0_then_4 ++ dktX0_then_5
def dkwX0_then_3 : List UInt8 := [42, 180, 0, 63, 42, 180, 0, 48, 182, 1, 45, 172, 42, 180, 0, 63, 180, 1, 49, 172, 42, 180, 0, 63]
abbrev dktX0_then_3 : List UInt8 := dkwX0_then_3 ++ dktX0_then_4
def dkwX0_then_2 : List UInt8 := [170, 0, 0, 0, 87, 0, 0, 0, 0, 0, 0, 0, 4, 0, 0, 0, 33, 0, 0, 0, 45, 0, 0, 0, 53, 0, 0, 0, 61, 0, 0, 0, 74]
abbrev dktX0_then_2 : List UInt8 := dkwX0_then_2 ++ dktX0_then_3
def dkwX0_then_1 : List UInt8 := [180, 0, 63, 42, 180, 0, 59, 182, 0, 221, 42, 42, 180, 0, 63, 27, 182, 0, 231, 28]
abbrev dktX0_then_1 : List UInt8 := dkwX0_then_1 ++ dktX0_then_2
def dkwX0_then_0 : List UInt8 := [27, 3, 17, 2, 88, 184, 0, 149, 153, 0, 12, 28, 3, 8, 184, 0, 149, 154, 0, 5, 2, 172, 42]
abbrev dktX0_then_0 : List UInt8 := dkwX0_then_0 ++ dktX0_then_1
theorem dksX0_then_0 : cX0_then.data.toList.drop 0 = dktX0_then_0 := by decide +kernel
theorem dksX0_then_1 : cX0_then.data.toList.drop 23 = dktX0_then_1 := dk_seg dksX0_then_0 23 rfl rfl
theorem dksX0_then_2 : cX0_then.data.toList.drop 43 = dktX0_then_2 := dk_seg dksX0_then_1 20 rfl rfl
theorem dksX0_then_3 : cX0_then.data.toList.drop 76 = dktX0_then_3 := dk_seg dksX0_then_2 33 rfl rfl
theorem dksX0_then_4 : cX0_then.data.toList.drop 100 = dktX0_then_4 := dk_seg dksX0_then_3 24 rfl rfl
theorem dksX0_then_5 : cX0_then.data.toList.drop 122 = dktX0_then_5 := dk_seg dksX0_then_4 22 rfl rfl
theorem dX0_then_0 : decode cX0_then 0 = .ok (.iload_n 1, 1) := dk_27 (dk_at dksX0_then_0 0 rfl rfl)
theorem dX0_then_1 : decode cX0_then 1 = .ok (.iconst 0, 1) := dk_3 (dk_at dksX0_then_0 1 rfl rfl)
theorem dX0_then_2 : decode cX0_then 2 = .ok (.sipush 600, 3) := dk_17 2 88 (dk_at dksX0_then_0 2 rfl rfl)
theorem dX0_then_5 : decode cX0_then 5 = .ok (.invokestatic 149, 3) := dk_184 0 149 (dk_at dksX0_then_0 5 rfl rfl)
theorem dX0_then_8 : decode cX0_then 8 = .ok (.ifCond .eq 12, 3) := dk_153 0 12 (dk_at dksX0_then_0 8 rfl rfl)
theorem dX0_then_11 : decode cX0_then 11 = .ok (.iload_n 2, 1) := dk_28 (dk_at dksX0_then_0 11 rfl rfl)
theorem dX0_then_12 : decode cX0_then 12 = .ok (.iconst 0, 1) := dk_3 (dk_at dksX0_then_0 12 rfl rfl)
theorem dX0_then_13 : decode cX0_then 13 = .ok (.iconst 5, 1) := dk_8 (dk_at dksX0_then_0 13 rfl rfl)
theorem dX0_then_14 : decode cX0_then 14 = .ok (.invokestatic 149, 3) := dk_184 0 149 (dk_at dksX0_then_0 14 rfl rfl)
theorem dX0_then_17 : decode cX0_then 17 = .ok (.ifCond .ne 5, 3) := dk_154 0 5 (dk_at dksX0_then_0 17 rfl rfl)
theorem dX0_then_20 : decode cX0_then 20 = .ok (.iconst (-1), 1) := dk_2 (dk_at dksX0_then_0 20 rfl rfl)
theorem dX0_then_21 : decode cX0_then 21 = .ok (.ireturn, 1) := dk_172 (dk_at dksX0_then_0 21 rfl rfl)
theorem dX0_then_22 : decode cX0_then 22 = .ok (.aload_n 0, 1) := dk_42 (dk_at dksX0_then_0 22 rfl rfl)
theorem dX0_then_23 : decode cX0_then 23 = .ok (.getfield 63, 3) := dk_180 0 63 (dk_at dksX0_then_1 0 rfl rfl)
theorem dX0_then_26 : decode cX0_then 26 = .ok (.aload_n 0, 1) := dk_42 (dk_at dksX0_then_1 3 rfl rfl)
theorem dX0_then_27 : decode cX0_then 27 = .ok (.getfield 59, 3) := dk_180 0 59 (dk_at dksX0_then_1 4 rfl rfl)
theorem dX0_then_30 : decode cX0_then 30 = .ok (.invokevirtual 221, 3) := dk_182 0 221 (dk_at dksX0_then_1 7 rfl rfl)
theorem dX0_then_33 : decode cX0_then 33 = .ok (.aload_n 0, 1) := dk_42 (dk_at dksX0_then_1 10 rfl rfl)
theorem dX0_then_34 : decode cX0_then 34 = .ok (.aload_n 0, 1) := dk_42 (dk_at dksX0_then_1 11 rfl rfl)
theorem dX0_then_35 : decode cX0_then 35 = .ok (.getfield 63, 3) := dk_180 0 63 (dk_at dksX0_then_1 12 rfl rfl)
theorem dX0_then_38 : decode cX0_then 38 = .ok (.iload_n 1, 1) := dk_27 (dk_at dksX0_then_1 15 rfl rfl)
theorem dX0_then_39 : decode cX0_then 39 = .ok (.invokevirtual 231, 3) := dk_182 0 231 (dk_at dksX0_then_1 16 rfl rfl)
theorem dX0_then_42 : decode cX0_then 42 = .ok (.iload_n 2, 1) := dk_28 (dk_at dksX0_then_1 19 rfl rfl)
theorem dX0_then_43 : decode cX0_then 43 = .ok (.tableswitch 87 0 4 #[33, 45, 53, 61, 74], 33) := by decide +kernel
theorem dX0_then_76 : decode cX0_then 76 = .ok (.aload_n 0, 1) := dk_42 (dk_at dksX0_then_3 0 rfl rfl)
theorem dX0_then_77 : decode cX0_then 77 = .ok (.getfield 63, 3) := dk_180 0 63 (dk_at dksX0_then_3 1 rfl rfl)
theorem dX0_then_80 : decode cX0_then 80 = .ok (.aload_n 0, 1) := dk_42 (dk_at dksX0_then_3 4 rfl rfl)
theorem dX0_then_81 : decode cX0_then 81 = .ok (.getfield 48, 3) := dk_180 0 48 (dk_at dksX0_then_3 5 rfl rfl)
theorem dX0_then_84 : decode cX0_then 84 = .ok (.invokevirtual 301, 3) := dk_182 1 45 (dk_at dksX0_then_3 8 rfl rfl)
theorem dX0_then_87 : decode cX0_then 87 = .ok (.ireturn, 1) := dk_172 (dk_at dksX0_then_3 11 rfl rfl)
theorem dX0_then_88 : decode cX0_then 88 = .ok (.aload_n 0, 1) := dk_42 (dk_at dksX0_then_3 12 rfl rfl)
theorem dX0_then_89 : decode cX0_then 89 = .ok (.getfield 63, 3) := dk_180 0 63 (dk_at dksX0_then_3 13 rfl rfl)
theorem dX0_then_92 : decode cX0_then 92 = .ok (.getfield 305, 3) := dk_180 1 49 (dk_at dksX0_then_3 16 rfl rfl)
theorem dX0_then_95 : decode cX0_then 95 = .ok (.ireturn, 1) := dk_172 (dk_at dksX0_then_3 19 rfl rfl)
theorem dX0_then_96 : decode cX0_then 96 = .ok (.aload_n 0, 1) := dk_42 (dk_at dksX0_then_3 20 rfl rfl)
theorem dX0_then_97 : decode cX0_then 97 = .ok (.getfield 63, 3) := dk_180 0 63 (dk_at dksX0_then_3 21 rfl rfl)
theorem dX0_then_100 : decode cX0_then 100 = .ok (.invokevirtual 308, 3) := dk_182 1 52 (dk_at dksX0_then_4 0 rfl rfl)
theorem dX0_then_103 : decode cX0_then 103 = .ok (.ireturn, 1) := dk_172 (dk_at dksX0_then_4 3 rfl rfl)
theorem dX0_then_104 : decode cX0_then 104 = .ok (.aload_n 0, 1) := dk_42 (dk_at dksX0_then_4 4 rfl rfl)
theorem dX0_then_105 : decode cX0_then 105 = .ok (.getfield 63, 3) := dk_180 0 63 (dk_at dksX0_then_4 5 rfl rfl)
theorem dX0_then_108 : decode cX0_then 108 = .ok (.aload_n 0, 1) := dk_42 (dk_at dksX0_then_4 8 rfl rfl)
theorem dX0_then_109 : decode cX0_then 109 = .ok (.getfield 48, 3) := dk_180 0 48 (dk_at dksX0_then_4 9 rfl rfl)
theorem dX0_then_112 : decode cX0_then 112 = .ok (.iconst 1, 1) := dk_4 (dk_at dksX0_then_4 12 rfl rfl)
theorem dX0_then_113 : decode cX0_then 113 = .ok (.invokevirtual 311, 3) := dk_182 1 55 (dk_at dksX0_then_4 13 rfl rfl)
theorem dX0_then_116 : decode cX0_then 116 = .ok (.ireturn, 1) := dk_172 (dk_at dksX0_then_4 16 rfl rfl)
theorem dX0_then_117 : decode cX0_then 117 = .ok (.aload_n 0, 1) := dk_42 (dk_at dksX0_then_4 17 rfl rfl)
theorem dX0_then_118 : decode cX0_then 118 = .ok (.getfield 63, 3) := dk_180 0 63 (dk_at dksX0_then_4 18 rfl rfl)
theorem dX0_then_121 : decode cX0_then 121 = .ok (.aload_n 0, 1) := dk_42 (dk_at dksX0_then_4 21 rfl rfl)
theorem dX0_then_122 : decode cX0_then 122 = .ok (.getfield 48, 3) := dk_180 0 48 (dk_at dksX0_then_5 0 rfl rfl)
theorem dX0_then_125 : decode cX0_then 125 = .ok (.iconst 0, 1) := dk_3 (dk_at dksX0_then_5 3 rfl rfl)
theorem dX0_then_126 : decode cX0_then 126 = .ok (.invokevirtual 311, 3) := dk_182 1 55 (dk_at dksX0_then_5 4 rfl rfl)
theorem dX0_then_129 : decode cX0_then 129 = .ok (.ireturn, 1) := dk_172 (dk_at dksX0_then_5 7 rfl rfl)
theorem dX0_then_130 : decode cX0_then 130 = .ok (.aload_n 0, 1) := dk_42 (dk_at dksX0_then_5 8 rfl rfl)
theorem dX0_then_131 : decode cX0_then 131 = .ok (.getfield 63, 3) := dk_180 0 63 (dk_at dksX0_then_5 9 rfl rfl)
theorem dX0_then_134 : decode cX0_then 134 = .ok (.getfield 315, 3) := dk_180 1 59 (dk_at dksX0_then_5 12 rfl rfl)
theorem dX0_then_137 : decode cX0_then 137 = .ok (.ireturn, 1) := dk_172 (dk_at dksX0_then_5 15 rfl rfl)
abbrev cX0_lies : ByteArray := prog_1_method_43_code
def yX0_lies : MethodName := ⟨RX0, "lies", "(III)I"⟩
def dkwX0_lies_3 : List UInt8 := [167, 0, 14, 42, 180, 0, 63, 180, 0, 167, 28, 50, 29, 46, 172]
abbrev dktX0_lies_3 : List UInt8 := dkwX0_lies_3 ++ []
def dkwX0_lies_2 : List UInt8 := [42, 42, 180, 0, 63, 27, 182, 0, 231, 28, 2, 160, 0, 15, 42, 180, 0, 63, 180, 0, 161, 29, 46]
abbrev dktX0_lies_2 : List UInt8 := dkwX0_lies_2 ++ dktX0_lies_3
def dkwX0_lies_1 : List UInt8 := [153, 0, 11, 42, 29, 182, 0, 157, 154, 0, 5, 2, 172, 42, 180, 0, 63, 42, 180, 0, 59, 182, 0, 221]
abbrev dktX0_lies_1 : List UInt8 := dkwX0_lies_1 ++ dktX0_lies_2
def dkwX0_lies_0 : List UInt8 := [27, 3, 17, 2, 88, 184, 0, 149, 153, 0, 25, 28, 2, 42, 182, 0, 153, 4, 100, 184, 0, 149]
abbrev dktX0_lies_0 : List UInt8 := dkwX0_lies_0 ++ dktX0_lies_1
theorem dksX0_lies_0 : cX0_lies.data.toList.drop 0 = dktX0_lies_0 := by decide +kernel
theorem dksX0_lies_1 : cX0_lies.data.toList.drop 22 = dktX0_lies_1 := dk_seg dksX0_lies_0 22 rfl rfl
theorem dksX0_lies_2 : cX0_lies.data.toList.drop 46 = dktX0_lies_2 := dk_seg dksX0_lies_1 24 rfl rfl
theorem dksX0_lies_3 : cX0_lies.data.toList.drop 69 = dktX0_lies_3 := dk_seg dksX0_lies_2 23 rfl rfl
theorem dX0_lies_0 : decode cX0_lies 0 = .ok (.iload_n 1, 1) := dk_27 (dk_at dksX0_lies_0 0 rfl rfl)
theorem dX0_lies_1 : decode cX0_lies 1 = .ok (.iconst 0, 1) := dk_3 (dk_at dksX0_lies_0 1 rfl rfl)
theorem dX0_lies_2 : decode cX0_lies 2 = .ok (.sipush 600, 3) := dk_17 2 88 (dk_at dksX0_lies_0 2 rfl rfl)
theorem dX0_lies_5 : decode cX0_lies 5 = .ok (.invokestatic 149, 3) := dk_184 0 149 (dk_at dksX0_lies_0 5 rfl rfl)
theorem dX0_lies_8 : decode cX0_lies 8 = .ok (.ifCond .eq 25, 3) := dk_153 0 25 (dk_at dksX0_lies_0 8 rfl rfl)
theorem dX0_lies_11 : decode cX0_lies 11 = .ok (.iload_n 2, 1) := dk_28 (dk_at dksX0_lies_0 11 rfl rfl)
theorem dX0_lies_12 : decode cX0_lies 12 = .ok (.iconst (-1), 1) := dk_2 (dk_at dksX0_lies_0 12 rfl rfl)
theorem dX0_lies_13 : decode cX0_lies 13 = .ok (.aload_n 0, 1) := dk_42 (dk_at dksX0_lies_0 13 rfl rfl)
theorem dX0_lies_14 : decode cX0_lies 14 = .ok (.invokevirtual 153, 3) := dk_182 0 153 (dk_at dksX0_lies_0 14 rfl rfl)
theorem dX0_lies_17 : decode cX0_lies 17 = .ok (.iconst 1, 1) := dk_4 (dk_at dksX0_lies_0 17 rfl rfl)
theorem dX0_lies_18 : decode cX0_lies 18 = .ok (.isub, 1) := dk_100 (dk_at dksX0_lies_0 18 rfl rfl)
theorem dX0_lies_19 : decode cX0_lies 19 = .ok (.invokestatic 149, 3) := dk_184 0 149 (dk_at dksX0_lies_0 19 rfl rfl)
theorem dX0_lies_22 : decode cX0_lies 22 = .ok (.ifCond .eq 11, 3) := dk_153 0 11 (dk_at dksX0_lies_1 0 rfl rfl)
theorem dX0_lies_25 : decode cX0_lies 25 = .ok (.aload_n 0, 1) := dk_42 (dk_at dksX0_lies_1 3 rfl rfl)
theorem dX0_lies_26 : decode cX0_lies 26 = .ok (.iload_n 3, 1) := dk_29 (dk_at dksX0_lies_1 4 rfl rfl)
theorem dX0_lies_27 : decode cX0_lies 27 = .ok (.invokevirtual 157, 3) := dk_182 0 157 (dk_at dksX0_lies_1 5 rfl rfl)
theorem dX0_lies_30 : decode cX0_lies 30 = .ok (.ifCond .ne 5, 3) := dk_154 0 5 (dk_at dksX0_lies_1 8 rfl rfl)
theorem dX0_lies_33 : decode cX0_lies 33 = .ok (.iconst (-1), 1) := dk_2 (dk_at dksX0_lies_1 11 rfl rfl)
theorem dX0_lies_34 : decode cX0_lies 34 = .ok (.ireturn, 1) := dk_172 (dk_at dksX0_lies_1 12 rfl rfl)
theorem dX0_lies_35 : decode cX0_lies 35 = .ok (.aload_n 0, 1) := dk_42 (dk_at dksX0_lies_1 13 rfl rfl)
theorem dX0_lies_36 : decode cX0_lies 36 = .ok (.getfield 63, 3) := dk_180 0 63 (dk_at dksX0_lies_1 14 rfl rfl)
theorem dX0_lies_39 : decode cX0_lies 39 = .ok (.aload_n 0, 1) := dk_42 (dk_at dksX0_lies_1 17 rfl rfl)
theorem dX0_lies_40 : decode cX0_lies 40 = .ok (.getfield 59, 3) := dk_180 0 59 (dk_at dksX0_lies_1 18 rfl rfl)
theorem dX0_lies_43 : decode cX0_lies 43 = .ok (.invokevirtual 221, 3) := dk_182 0 221 (dk_at dksX0_lies_1 21 rfl rfl)
theorem dX0_lies_46 : decode cX0_lies 46 = .ok (.aload_n 0, 1) := dk_42 (dk_at dksX0_lies_2 0 rfl rfl)
theorem dX0_lies_47 : decode cX0_lies 47 = .ok (.aload_n 0, 1) := dk_42 (dk_at dksX0_lies_2 1 rfl rfl)
theorem dX0_lies_48 : decode cX0_lies 48 = .ok (.getfield 63, 3) := dk_180 0 63 (dk_at dksX0_lies_2 2 rfl rfl)
theorem dX0_lies_51 : decode cX0_lies 51 = .ok (.iload_n 1, 1) := dk_27 (dk_at dksX0_lies_2 5 rfl rfl)
theorem dX0_lies_52 : decode cX0_lies 52 = .ok (.invokevirtual 231, 3) := dk_182 0 231 (dk_at dksX0_lies_2 6 rfl rfl)
theorem dX0_lies_55 : decode cX0_lies 55 = .ok (.iload_n 2, 1) := dk_28 (dk_at dksX0_lies_2 9 rfl rfl)
theorem dX0_lies_56 : decode cX0_lies 56 = .ok (.iconst (-1), 1) := dk_2 (dk_at dksX0_lies_2 10 rfl rfl)
theorem dX0_lies_57 : decode cX0_lies 57 = .ok (.if_icmp .ne 15, 3) := dk_160 0 15 (dk_at dksX0_lies_2 11 rfl rfl)
theorem dX0_lies_60 : decode cX0_lies 60 = .ok (.aload_n 0, 1) := dk_42 (dk_at dksX0_lies_2 14 rfl rfl)
theorem dX0_lies_61 : decode cX0_lies 61 = .ok (.getfield 63, 3) := dk_180 0 63 (dk_at dksX0_lies_2 15 rfl rfl)
theorem dX0_lies_64 : decode cX0_lies 64 = .ok (.getfield 161, 3) := dk_180 0 161 (dk_at dksX0_lies_2 18 rfl rfl)
theorem dX0_lies_67 : decode cX0_lies 67 = .ok (.iload_n 3, 1) := dk_29 (dk_at dksX0_lies_2 21 rfl rfl)
theorem dX0_lies_68 : decode cX0_lies 68 = .ok (.iaload, 1) := dk_46 (dk_at dksX0_lies_2 22 rfl rfl)
theorem dX0_lies_69 : decode cX0_lies 69 = .ok (.goto 14, 3) := dk_167 0 14 (dk_at dksX0_lies_3 0 rfl rfl)
theorem dX0_lies_72 : decode cX0_lies 72 = .ok (.aload_n 0, 1) := dk_42 (dk_at dksX0_lies_3 3 rfl rfl)
theorem dX0_lies_73 : decode cX0_lies 73 = .ok (.getfield 63, 3) := dk_180 0 63 (dk_at dksX0_lies_3 4 rfl rfl)
theorem dX0_lies_76 : decode cX0_lies 76 = .ok (.getfield 167, 3) := dk_180 0 167 (dk_at dksX0_lies_3 7 rfl rfl)
theorem dX0_lies_79 : decode cX0_lies 79 = .ok (.iload_n 2, 1) := dk_28 (dk_at dksX0_lies_3 10 rfl rfl)
theorem dX0_lies_80 : decode cX0_lies 80 = .ok (.aaload, 1) := dk_50 (dk_at dksX0_lies_3 11 rfl rfl)
theorem dX0_lies_81 : decode cX0_lies 81 = .ok (.iload_n 3, 1) := dk_29 (dk_at dksX0_lies_3 12 rfl rfl)
theorem dX0_lies_82 : decode cX0_lies 82 = .ok (.iaload, 1) := dk_46 (dk_at dksX0_lies_3 13 rfl rfl)
theorem dX0_lies_83 : decode cX0_lies 83 = .ok (.ireturn, 1) := dk_172 (dk_at dksX0_lies_3 14 rfl rfl)
abbrev cX0_hire : ByteArray := prog_1_method_46_code
def yX0_hire : MethodName := ⟨RX0, "hire", "(II)I"⟩
def dkwX0_hire_5 : List UInt8 := [160, 0, 7, 29, 167, 0, 8, 42, 29, 182, 1, 67, 172]
abbrev dktX0_hire_5 : List UInt8 := dkwX0_hire_5 ++ []
def dkwX0_hire_4 : List UInt8 := [182, 1, 76, 154, 0, 6, 167, 0, 6, 21, 4, 62, 132, 4, 1, 167, 255, 175, 29, 155, 0, 8, 28, 4]
abbrev dktX0_hire_4 : List UInt8 := dkwX0_hire_4 ++ dktX0_hire_5
def dkwX0_hire_3 : List UInt8 := [21, 5, 21, 6, 160, 0, 15, 21, 4, 184, 1, 71, 29, 184, 1, 71, 162, 0, 19, 42, 21, 4, 27]
abbrev dktX0_hire_3 : List UInt8 := dkwX0_hire_3 ++ dktX0_hire_4
def dkwX0_hire_2 : List UInt8 := [156, 0, 9, 19, 1, 70, 167, 0, 8, 42, 29, 182, 1, 67, 54, 6, 21, 5, 21, 6, 163, 0, 38]
abbrev dktX0_hire_2 : List UInt8 := dkwX0_hire_2 ++ dktX0_hire_3
def dkwX0_hire_1 : List UInt8 := [62, 3, 54, 4, 21, 4, 4, 42, 182, 0, 155, 120, 162, 0, 76, 42, 21, 4, 182, 1, 67, 54, 5, 29]
abbrev dktX0_hire_1 : List UInt8 := dkwX0_hire_1 ++ dktX0_hire_2
def dkwX0_hire_0 : List UInt8 := [27, 4, 17, 1, 44, 184, 0, 149, 153, 0, 12, 28, 3, 4, 184, 0, 149, 154, 0, 5, 2, 172, 16, 254]
abbrev dktX0_hire_0 : List UInt8 := dkwX0_hire_0 ++ dktX0_hire_1
theorem dksX0_hire_0 : cX0_hire.data.toList.drop 0 = dktX0_hire_0 := by decide +kernel
theorem dksX0_hire_1 : cX0_hire.data.toList.drop 24 = dktX0_hire_1 := dk_seg dksX0_hire_0 24 rfl rfl
theorem dksX0_hire_2 : cX0_hire.data.toList.drop 48 = dktX0_hire_2 := dk_seg dksX0_hire_1 24 rfl rfl
theorem dksX0_hire_3 : cX0_hire.data.toList.drop 71 = dktX0_hire_3 := dk_seg dksX0_hire_2 23 rfl rfl
theorem dksX0_hire_4 : cX0_hire.data.toList.drop 94 = dktX0_hire_4 := dk_seg dksX0_hire_3 23 rfl rfl
theorem dksX0_hire_5 : cX0_hire.data.toList.drop 118 = dktX0_hire_5 := dk_seg dksX0_hire_4 24 rfl rfl
theorem dX0_hire_0 : decode cX0_hire 0 = .ok (.iload_n 1, 1) := dk_27 (dk_at dksX0_hire_0 0 rfl rfl)
theorem dX0_hire_1 : decode cX0_hire 1 = .ok (.iconst 1, 1) := dk_4 (dk_at dksX0_hire_0 1 rfl rfl)
theorem dX0_hire_2 : decode cX0_hire 2 = .ok (.sipush 300, 3) := dk_17 1 44 (dk_at dksX0_hire_0 2 rfl rfl)
theorem dX0_hire_5 : decode cX0_hire 5 = .ok (.invokestatic 149, 3) := dk_184 0 149 (dk_at dksX0_hire_0 5 rfl rfl)
theorem dX0_hire_8 : decode cX0_hire 8 = .ok (.ifCond .eq 12, 3) := dk_153 0 12 (dk_at dksX0_hire_0 8 rfl rfl)
theorem dX0_hire_11 : decode cX0_hire 11 = .ok (.iload_n 2, 1) := dk_28 (dk_at dksX0_hire_0 11 rfl rfl)
theorem dX0_hire_12 : decode cX0_hire 12 = .ok (.iconst 0, 1) := dk_3 (dk_at dksX0_hire_0 12 rfl rfl)
theorem dX0_hire_13 : decode cX0_hire 13 = .ok (.iconst 1, 1) := dk_4 (dk_at dksX0_hire_0 13 rfl rfl)
theorem dX0_hire_14 : decode cX0_hire 14 = .ok (.invokestatic 149, 3) := dk_184 0 149 (dk_at dksX0_hire_0 14 rfl rfl)
theorem dX0_hire_17 : decode cX0_hire 17 = .ok (.ifCond .ne 5, 3) := dk_154 0 5 (dk_at dksX0_hire_0 17 rfl rfl)
theorem dX0_hire_20 : decode cX0_hire 20 = .ok (.iconst (-1), 1) := dk_2 (dk_at dksX0_hire_0 20 rfl rfl)
theorem dX0_hire_21 : decode cX0_hire 21 = .ok (.ireturn, 1) := dk_172 (dk_at dksX0_hire_0 21 rfl rfl)
theorem dX0_hire_22 : decode cX0_hire 22 = .ok (.bipush (-2), 2) := dk_16 254 (dk_at dksX0_hire_0 22 rfl rfl)
theorem dX0_hire_24 : decode cX0_hire 24 = .ok (.istore_n 3, 1) := dk_62 (dk_at dksX0_hire_1 0 rfl rfl)
theorem dX0_hire_25 : decode cX0_hire 25 = .ok (.iconst 0, 1) := dk_3 (dk_at dksX0_hire_1 1 rfl rfl)
theorem dX0_hire_26 : decode cX0_hire 26 = .ok (.istore 4, 2) := dk_54 4 (dk_at dksX0_hire_1 2 rfl rfl)
theorem dX0_hire_28 : decode cX0_hire 28 = .ok (.iload 4, 2) := dk_21 4 (dk_at dksX0_hire_1 4 rfl rfl)
theorem dX0_hire_30 : decode cX0_hire 30 = .ok (.iconst 1, 1) := dk_4 (dk_at dksX0_hire_1 6 rfl rfl)
theorem dX0_hire_31 : decode cX0_hire 31 = .ok (.aload_n 0, 1) := dk_42 (dk_at dksX0_hire_1 7 rfl rfl)
theorem dX0_hire_32 : decode cX0_hire 32 = .ok (.invokevirtual 155, 3) := dk_182 0 155 (dk_at dksX0_hire_1 8 rfl rfl)
theorem dX0_hire_35 : decode cX0_hire 35 = .ok (.ishl, 1) := dk_120 (dk_at dksX0_hire_1 11 rfl rfl)
theorem dX0_hire_36 : decode cX0_hire 36 = .ok (.if_icmp .ge 76, 3) := dk_162 0 76 (dk_at dksX0_hire_1 12 rfl rfl)
theorem dX0_hire_39 : decode cX0_hire 39 = .ok (.aload_n 0, 1) := dk_42 (dk_at dksX0_hire_1 15 rfl rfl)
theorem dX0_hire_40 : decode cX0_hire 40 = .ok (.iload 4, 2) := dk_21 4 (dk_at dksX0_hire_1 16 rfl rfl)
theorem dX0_hire_42 : decode cX0_hire 42 = .ok (.invokevirtual 323, 3) := dk_182 1 67 (dk_at dksX0_hire_1 18 rfl rfl)
theorem dX0_hire_45 : decode cX0_hire 45 = .ok (.istore 5, 2) := dk_54 5 (dk_at dksX0_hire_1 21 rfl rfl)
theorem dX0_hire_47 : decode cX0_hire 47 = .ok (.iload_n 3, 1) := dk_29 (dk_at dksX0_hire_1 23 rfl rfl)
theorem dX0_hire_48 : decode cX0_hire 48 = .ok (.ifCond .ge 9, 3) := dk_156 0 9 (dk_at dksX0_hire_2 0 rfl rfl)
theorem dX0_hire_51 : decode cX0_hire 51 = .ok (.ldc_w 326, 3) := dk_19 1 70 (dk_at dksX0_hire_2 3 rfl rfl)
theorem dX0_hire_54 : decode cX0_hire 54 = .ok (.goto 8, 3) := dk_167 0 8 (dk_at dksX0_hire_2 6 rfl rfl)
theorem dX0_hire_57 : decode cX0_hire 57 = .ok (.aload_n 0, 1) := dk_42 (dk_at dksX0_hire_2 9 rfl rfl)
theorem dX0_hire_58 : decode cX0_hire 58 = .ok (.iload_n 3, 1) := dk_29 (dk_at dksX0_hire_2 10 rfl rfl)
theorem dX0_hire_59 : decode cX0_hire 59 = .ok (.invokevirtual 323, 3) := dk_182 1 67 (dk_at dksX0_hire_2 11 rfl rfl)
theorem dX0_hire_62 : decode cX0_hire 62 = .ok (.istore 6, 2) := dk_54 6 (dk_at dksX0_hire_2 14 rfl rfl)
theorem dX0_hire_64 : decode cX0_hire 64 = .ok (.iload 5, 2) := dk_21 5 (dk_at dksX0_hire_2 16 rfl rfl)
theorem dX0_hire_66 : decode cX0_hire 66 = .ok (.iload 6, 2) := dk_21 6 (dk_at dksX0_hire_2 18 rfl rfl)
theorem dX0_hire_68 : decode cX0_hire 68 = .ok (.if_icmp .gt 38, 3) := dk_163 0 38 (dk_at dksX0_hire_2 20 rfl rfl)
theorem dX0_hire_71 : decode cX0_hire 71 = .ok (.iload 5, 2) := dk_21 5 (dk_at dksX0_hire_3 0 rfl rfl)
theorem dX0_hire_73 : decode cX0_hire 73 = .ok (.iload 6, 2) := dk_21 6 (dk_at dksX0_hire_3 2 rfl rfl)
theorem dX0_hire_75 : decode cX0_hire 75 = .ok (.if_icmp .ne 15, 3) := dk_160 0 15 (dk_at dksX0_hire_3 4 rfl rfl)
theorem dX0_hire_78 : decode cX0_hire 78 = .ok (.iload 4, 2) := dk_21 4 (dk_at dksX0_hire_3 7 rfl rfl)
theorem dX0_hire_80 : decode cX0_hire 80 = .ok (.invokestatic 327, 3) := dk_184 1 71 (dk_at dksX0_hire_3 9 rfl rfl)
theorem dX0_hire_83 : decode cX0_hire 83 = .ok (.iload_n 3, 1) := dk_29 (dk_at dksX0_hire_3 12 rfl rfl)
theorem dX0_hire_84 : decode cX0_hire 84 = .ok (.invokestatic 327, 3) := dk_184 1 71 (dk_at dksX0_hire_3 13 rfl rfl)
theorem dX0_hire_87 : decode cX0_hire 87 = .ok (.if_icmp .ge 19, 3) := dk_162 0 19 (dk_at dksX0_hire_3 16 rfl rfl)
theorem dX0_hire_90 : decode cX0_hire 90 = .ok (.aload_n 0, 1) := dk_42 (dk_at dksX0_hire_3 19 rfl rfl)
theorem dX0_hire_91 : decode cX0_hire 91 = .ok (.iload 4, 2) := dk_21 4 (dk_at dksX0_hire_3 20 rfl rfl)
theorem dX0_hire_93 : decode cX0_hire 93 = .ok (.iload_n 1, 1) := dk_27 (dk_at dksX0_hire_3 22 rfl rfl)
theorem dX0_hire_94 : decode cX0_hire 94 = .ok (.invokevirtual 332, 3) := dk_182 1 76 (dk_at dksX0_hire_4 0 rfl rfl)
theorem dX0_hire_97 : decode cX0_hire 97 = .ok (.ifCond .ne 6, 3) := dk_154 0 6 (dk_at dksX0_hire_4 3 rfl rfl)
theorem dX0_hire_100 : decode cX0_hire 100 = .ok (.goto 6, 3) := dk_167 0 6 (dk_at dksX0_hire_4 6 rfl rfl)
theorem dX0_hire_103 : decode cX0_hire 103 = .ok (.iload 4, 2) := dk_21 4 (dk_at dksX0_hire_4 9 rfl rfl)
theorem dX0_hire_105 : decode cX0_hire 105 = .ok (.istore_n 3, 1) := dk_62 (dk_at dksX0_hire_4 11 rfl rfl)
theorem dX0_hire_106 : decode cX0_hire 106 = .ok (.iinc 4 1, 3) := dk_132 4 1 (dk_at dksX0_hire_4 12 rfl rfl)
theorem dX0_hire_109 : decode cX0_hire 109 = .ok (.goto (-81), 3) := dk_167 255 175 (dk_at dksX0_hire_4 15 rfl rfl)
theorem dX0_hire_112 : decode cX0_hire 112 = .ok (.iload_n 3, 1) := dk_29 (dk_at dksX0_hire_4 18 rfl rfl)
theorem dX0_hire_113 : decode cX0_hire 113 = .ok (.ifCond .lt 8, 3) := dk_155 0 8 (dk_at dksX0_hire_4 19 rfl rfl)
theorem dX0_hire_116 : decode cX0_hire 116 = .ok (.iload_n 2, 1) := dk_28 (dk_at dksX0_hire_4 22 rfl rfl)
theorem dX0_hire_117 : decode cX0_hire 117 = .ok (.iconst 1, 1) := dk_4 (dk_at dksX0_hire_4 23 rfl rfl)
theorem dX0_hire_118 : decode cX0_hire 118 = .ok (.if_icmp .ne 7, 3) := dk_160 0 7 (dk_at dksX0_hire_5 0 rfl rfl)
theorem dX0_hire_121 : decode cX0_hire 121 = .ok (.iload_n 3, 1) := dk_29 (dk_at dksX0_hire_5 3 rfl rfl)
theorem dX0_hire_122 : decode cX0_hire 122 = .ok (.goto 8, 3) := dk_167 0 8 (dk_at dksX0_hire_5 4 rfl rfl)
theorem dX0_hire_125 : decode cX0_hire 125 = .ok (.aload_n 0, 1) := dk_42 (dk_at dksX0_hire_5 7 rfl rfl)
theorem dX0_hire_126 : decode cX0_hire 126 = .ok (.iload_n 3, 1) := dk_29 (dk_at dksX0_hire_5 8 rfl rfl)
theorem dX0_hire_127 : decode cX0_hire 127 = .ok (.invokevirtual 323, 3) := dk_182 1 67 (dk_at dksX0_hire_5 9 rfl rfl)
theorem dX0_hire_130 : decode cX0_hire 130 = .ok (.ireturn, 1) := dk_172 (dk_at dksX0_hire_5 12 rfl rfl)
abbrev cX0_feesOf : ByteArray := prog_1_method_44_code
def yX0_feesOf : MethodName := ⟨RX0, "feesOf", "(I)I"⟩
def dkwX0_feesOf_2 : List UInt8 := [132, 3, 1, 167, 255, 212, 28, 172]
abbrev dktX0_feesOf_2 : List UInt8 := dkwX0_feesOf_2 ++ []
def dkwX0_feesOf_1 : List UInt8 := [180, 0, 48, 180, 0, 144, 29, 182, 0, 205, 192, 1, 62, 180, 1, 64, 167, 0, 4, 3, 96, 61]
abbrev dktX0_feesOf_1 : List UInt8 := dkwX0_feesOf_1 ++ dktX0_feesOf_2
def dkwX0_feesOf_0 : List UInt8 := [3, 61, 3, 62, 29, 42, 182, 0, 155, 162, 0, 42, 28, 27, 29, 122, 4, 126, 4, 160, 0, 23, 42]
abbrev dktX0_feesOf_0 : List UInt8 := dkwX0_feesOf_0 ++ dktX0_feesOf_1
theorem dksX0_feesOf_0 : cX0_feesOf.data.toList.drop 0 = dktX0_feesOf_0 := by decide +kernel
theorem dksX0_feesOf_1 : cX0_feesOf.data.toList.drop 23 = dktX0_feesOf_1 := dk_seg dksX0_feesOf_0 23 rfl rfl
theorem dksX0_feesOf_2 : cX0_feesOf.data.toList.drop 45 = dktX0_feesOf_2 := dk_seg dksX0_feesOf_1 22 rfl rfl
theorem dX0_feesOf_0 : decode cX0_feesOf 0 = .ok (.iconst 0, 1) := dk_3 (dk_at dksX0_feesOf_0 0 rfl rfl)
theorem dX0_feesOf_1 : decode cX0_feesOf 1 = .ok (.istore_n 2, 1) := dk_61 (dk_at dksX0_feesOf_0 1 rfl rfl)
theorem dX0_feesOf_2 : decode cX0_feesOf 2 = .ok (.iconst 0, 1) := dk_3 (dk_at dksX0_feesOf_0 2 rfl rfl)
theorem dX0_feesOf_3 : decode cX0_feesOf 3 = .ok (.istore_n 3, 1) := dk_62 (dk_at dksX0_feesOf_0 3 rfl rfl)
theorem dX0_feesOf_4 : decode cX0_feesOf 4 = .ok (.iload_n 3, 1) := dk_29 (dk_at dksX0_feesOf_0 4 rfl rfl)
theorem dX0_feesOf_5 : decode cX0_feesOf 5 = .ok (.aload_n 0, 1) := dk_42 (dk_at dksX0_feesOf_0 5 rfl rfl)
theorem dX0_feesOf_6 : decode cX0_feesOf 6 = .ok (.invokevirtual 155, 3) := dk_182 0 155 (dk_at dksX0_feesOf_0 6 rfl rfl)
theorem dX0_feesOf_9 : decode cX0_feesOf 9 = .ok (.if_icmp .ge 42, 3) := dk_162 0 42 (dk_at dksX0_feesOf_0 9 rfl rfl)
theorem dX0_feesOf_12 : decode cX0_feesOf 12 = .ok (.iload_n 2, 1) := dk_28 (dk_at dksX0_feesOf_0 12 rfl rfl)
theorem dX0_feesOf_13 : decode cX0_feesOf 13 = .ok (.iload_n 1, 1) := dk_27 (dk_at dksX0_feesOf_0 13 rfl rfl)
theorem dX0_feesOf_14 : decode cX0_feesOf 14 = .ok (.iload_n 3, 1) := dk_29 (dk_at dksX0_feesOf_0 14 rfl rfl)
theorem dX0_feesOf_15 : decode cX0_feesOf 15 = .ok (.ishr, 1) := dk_122 (dk_at dksX0_feesOf_0 15 rfl rfl)
theorem dX0_feesOf_16 : decode cX0_feesOf 16 = .ok (.iconst 1, 1) := dk_4 (dk_at dksX0_feesOf_0 16 rfl rfl)
theorem dX0_feesOf_17 : decode cX0_feesOf 17 = .ok (.iand, 1) := dk_126 (dk_at dksX0_feesOf_0 17 rfl rfl)
theorem dX0_feesOf_18 : decode cX0_feesOf 18 = .ok (.iconst 1, 1) := dk_4 (dk_at dksX0_feesOf_0 18 rfl rfl)
theorem dX0_feesOf_19 : decode cX0_feesOf 19 = .ok (.if_icmp .ne 23, 3) := dk_160 0 23 (dk_at dksX0_feesOf_0 19 rfl rfl)
theorem dX0_feesOf_22 : decode cX0_feesOf 22 = .ok (.aload_n 0, 1) := dk_42 (dk_at dksX0_feesOf_0 22 rfl rfl)
theorem dX0_feesOf_23 : decode cX0_feesOf 23 = .ok (.getfield 48, 3) := dk_180 0 48 (dk_at dksX0_feesOf_1 0 rfl rfl)
theorem dX0_feesOf_26 : decode cX0_feesOf 26 = .ok (.getfield 144, 3) := dk_180 0 144 (dk_at dksX0_feesOf_1 3 rfl rfl)
theorem dX0_feesOf_29 : decode cX0_feesOf 29 = .ok (.iload_n 3, 1) := dk_29 (dk_at dksX0_feesOf_1 6 rfl rfl)
theorem dX0_feesOf_30 : decode cX0_feesOf 30 = .ok (.invokevirtual 205, 3) := dk_182 0 205 (dk_at dksX0_feesOf_1 7 rfl rfl)
theorem dX0_feesOf_33 : decode cX0_feesOf 33 = .ok (.checkcast 318, 3) := dk_192 1 62 (dk_at dksX0_feesOf_1 10 rfl rfl)
theorem dX0_feesOf_36 : decode cX0_feesOf 36 = .ok (.getfield 320, 3) := dk_180 1 64 (dk_at dksX0_feesOf_1 13 rfl rfl)
theorem dX0_feesOf_39 : decode cX0_feesOf 39 = .ok (.goto 4, 3) := dk_167 0 4 (dk_at dksX0_feesOf_1 16 rfl rfl)
theorem dX0_feesOf_42 : decode cX0_feesOf 42 = .ok (.iconst 0, 1) := dk_3 (dk_at dksX0_feesOf_1 19 rfl rfl)
theorem dX0_feesOf_43 : decode cX0_feesOf 43 = .ok (.iadd, 1) := dk_96 (dk_at dksX0_feesOf_1 20 rfl rfl)
theorem dX0_feesOf_44 : decode cX0_feesOf 44 = .ok (.istore_n 2, 1) := dk_61 (dk_at dksX0_feesOf_1 21 rfl rfl)
theorem dX0_feesOf_45 : decode cX0_feesOf 45 = .ok (.iinc 3 1, 3) := dk_132 3 1 (dk_at dksX0_feesOf_2 0 rfl rfl)
theorem dX0_feesOf_48 : decode cX0_feesOf 48 = .ok (.goto (-44), 3) := dk_167 255 212 (dk_at dksX0_feesOf_2 3 rfl rfl)
theorem dX0_feesOf_51 : decode cX0_feesOf 51 = .ok (.iload_n 2, 1) := dk_28 (dk_at dksX0_feesOf_2 6 rfl rfl)
theorem dX0_feesOf_52 : decode cX0_feesOf 52 = .ok (.ireturn, 1) := dk_172 (dk_at dksX0_feesOf_2 7 rfl rfl)
abbrev cX0_isDone : ByteArray := prog_1_method_45_code
def yX0_isDone : MethodName := ⟨RX0, "isDone", "(II)Z"⟩
def dkwX0_isDone_3 : List UInt8 := [153, 0, 21, 42, 180, 0, 63, 42, 180, 0, 48, 182, 1, 34, 154, 0, 7, 4, 167, 0, 4, 3, 172]
abbrev dktX0_isDone_3 : List UInt8 := dkwX0_isDone_3 ++ []
def dkwX0_isDone_2 : List UInt8 := [167, 255, 224, 42, 42, 180, 0, 63, 28, 182, 0, 231, 42, 180, 0, 63, 42, 180, 0, 48, 4, 182, 1, 30]
abbrev dktX0_isDone_2 : List UInt8 := dkwX0_isDone_2 ++ dktX0_isDone_3
def dkwX0_isDone_1 : List UInt8 := [180, 0, 63, 29, 27, 29, 122, 4, 126, 154, 0, 7, 4, 167, 0, 4, 3, 184, 0, 248, 132, 3, 1]
abbrev dktX0_isDone_1 : List UInt8 := dkwX0_isDone_1 ++ dktX0_isDone_2
def dkwX0_isDone_0 : List UInt8 := [42, 180, 0, 63, 42, 180, 0, 59, 182, 0, 221, 3, 62, 29, 42, 182, 0, 155, 162, 0, 30, 42]
abbrev dktX0_isDone_0 : List UInt8 := dkwX0_isDone_0 ++ dktX0_isDone_1
theorem dksX0_isDone_0 : cX0_isDone.data.toList.drop 0 = dktX0_isDone_0 := by decide +kernel
theorem dksX0_isDone_1 : cX0_isDone.data.toList.drop 22 = dktX0_isDone_1 := dk_seg dksX0_isDone_0 22 rfl rfl
theorem dksX0_isDone_2 : cX0_isDone.data.toList.drop 45 = dktX0_isDone_2 := dk_seg dksX0_isDone_1 23 rfl rfl
theorem dksX0_isDone_3 : cX0_isDone.data.toList.drop 69 = dktX0_isDone_3 := dk_seg dksX0_isDone_2 24 rfl rfl
theorem dX0_isDone_0 : decode cX0_isDone 0 = .ok (.aload_n 0, 1) := dk_42 (dk_at dksX0_isDone_0 0 rfl rfl)
theorem dX0_isDone_1 : decode cX0_isDone 1 = .ok (.getfield 63, 3) := dk_180 0 63 (dk_at dksX0_isDone_0 1 rfl rfl)
theorem dX0_isDone_4 : decode cX0_isDone 4 = .ok (.aload_n 0, 1) := dk_42 (dk_at dksX0_isDone_0 4 rfl rfl)
theorem dX0_isDone_5 : decode cX0_isDone 5 = .ok (.getfield 59, 3) := dk_180 0 59 (dk_at dksX0_isDone_0 5 rfl rfl)
theorem dX0_isDone_8 : decode cX0_isDone 8 = .ok (.invokevirtual 221, 3) := dk_182 0 221 (dk_at dksX0_isDone_0 8 rfl rfl)
theorem dX0_isDone_11 : decode cX0_isDone 11 = .ok (.iconst 0, 1) := dk_3 (dk_at dksX0_isDone_0 11 rfl rfl)
theorem dX0_isDone_12 : decode cX0_isDone 12 = .ok (.istore_n 3, 1) := dk_62 (dk_at dksX0_isDone_0 12 rfl rfl)
theorem dX0_isDone_13 : decode cX0_isDone 13 = .ok (.iload_n 3, 1) := dk_29 (dk_at dksX0_isDone_0 13 rfl rfl)
theorem dX0_isDone_14 : decode cX0_isDone 14 = .ok (.aload_n 0, 1) := dk_42 (dk_at dksX0_isDone_0 14 rfl rfl)
theorem dX0_isDone_15 : decode cX0_isDone 15 = .ok (.invokevirtual 155, 3) := dk_182 0 155 (dk_at dksX0_isDone_0 15 rfl rfl)
theorem dX0_isDone_18 : decode cX0_isDone 18 = .ok (.if_icmp .ge 30, 3) := dk_162 0 30 (dk_at dksX0_isDone_0 18 rfl rfl)
theorem dX0_isDone_21 : decode cX0_isDone 21 = .ok (.aload_n 0, 1) := dk_42 (dk_at dksX0_isDone_0 21 rfl rfl)
theorem dX0_isDone_22 : decode cX0_isDone 22 = .ok (.getfield 63, 3) := dk_180 0 63 (dk_at dksX0_isDone_1 0 rfl rfl)
theorem dX0_isDone_25 : decode cX0_isDone 25 = .ok (.iload_n 3, 1) := dk_29 (dk_at dksX0_isDone_1 3 rfl rfl)
theorem dX0_isDone_26 : decode cX0_isDone 26 = .ok (.iload_n 1, 1) := dk_27 (dk_at dksX0_isDone_1 4 rfl rfl)
theorem dX0_isDone_27 : decode cX0_isDone 27 = .ok (.iload_n 3, 1) := dk_29 (dk_at dksX0_isDone_1 5 rfl rfl)
theorem dX0_isDone_28 : decode cX0_isDone 28 = .ok (.ishr, 1) := dk_122 (dk_at dksX0_isDone_1 6 rfl rfl)
theorem dX0_isDone_29 : decode cX0_isDone 29 = .ok (.iconst 1, 1) := dk_4 (dk_at dksX0_isDone_1 7 rfl rfl)
theorem dX0_isDone_30 : decode cX0_isDone 30 = .ok (.iand, 1) := dk_126 (dk_at dksX0_isDone_1 8 rfl rfl)
theorem dX0_isDone_31 : decode cX0_isDone 31 = .ok (.ifCond .ne 7, 3) := dk_154 0 7 (dk_at dksX0_isDone_1 9 rfl rfl)
theorem dX0_isDone_34 : decode cX0_isDone 34 = .ok (.iconst 1, 1) := dk_4 (dk_at dksX0_isDone_1 12 rfl rfl)
theorem dX0_isDone_35 : decode cX0_isDone 35 = .ok (.goto 4, 3) := dk_167 0 4 (dk_at dksX0_isDone_1 13 rfl rfl)
theorem dX0_isDone_38 : decode cX0_isDone 38 = .ok (.iconst 0, 1) := dk_3 (dk_at dksX0_isDone_1 16 rfl rfl)
theorem dX0_isDone_39 : decode cX0_isDone 39 = .ok (.invokestatic 248, 3) := dk_184 0 248 (dk_at dksX0_isDone_1 17 rfl rfl)
theorem dX0_isDone_42 : decode cX0_isDone 42 = .ok (.iinc 3 1, 3) := dk_132 3 1 (dk_at dksX0_isDone_1 20 rfl rfl)
theorem dX0_isDone_45 : decode cX0_isDone 45 = .ok (.goto (-32), 3) := dk_167 255 224 (dk_at dksX0_isDone_2 0 rfl rfl)
theorem dX0_isDone_48 : decode cX0_isDone 48 = .ok (.aload_n 0, 1) := dk_42 (dk_at dksX0_isDone_2 3 rfl rfl)
theorem dX0_isDone_49 : decode cX0_isDone 49 = .ok (.aload_n 0, 1) := dk_42 (dk_at dksX0_isDone_2 4 rfl rfl)
theorem dX0_isDone_50 : decode cX0_isDone 50 = .ok (.getfield 63, 3) := dk_180 0 63 (dk_at dksX0_isDone_2 5 rfl rfl)
theorem dX0_isDone_53 : decode cX0_isDone 53 = .ok (.iload_n 2, 1) := dk_28 (dk_at dksX0_isDone_2 8 rfl rfl)
theorem dX0_isDone_54 : decode cX0_isDone 54 = .ok (.invokevirtual 231, 3) := dk_182 0 231 (dk_at dksX0_isDone_2 9 rfl rfl)
theorem dX0_isDone_57 : decode cX0_isDone 57 = .ok (.aload_n 0, 1) := dk_42 (dk_at dksX0_isDone_2 12 rfl rfl)
theorem dX0_isDone_58 : decode cX0_isDone 58 = .ok (.getfield 63, 3) := dk_180 0 63 (dk_at dksX0_isDone_2 13 rfl rfl)
theorem dX0_isDone_61 : decode cX0_isDone 61 = .ok (.aload_n 0, 1) := dk_42 (dk_at dksX0_isDone_2 16 rfl rfl)
theorem dX0_isDone_62 : decode cX0_isDone 62 = .ok (.getfield 48, 3) := dk_180 0 48 (dk_at dksX0_isDone_2 17 rfl rfl)
theorem dX0_isDone_65 : decode cX0_isDone 65 = .ok (.iconst 1, 1) := dk_4 (dk_at dksX0_isDone_2 20 rfl rfl)
theorem dX0_isDone_66 : decode cX0_isDone 66 = .ok (.invokevirtual 286, 3) := dk_182 1 30 (dk_at dksX0_isDone_2 21 rfl rfl)
theorem dX0_isDone_69 : decode cX0_isDone 69 = .ok (.ifCond .eq 21, 3) := dk_153 0 21 (dk_at dksX0_isDone_3 0 rfl rfl)
theorem dX0_isDone_72 : decode cX0_isDone 72 = .ok (.aload_n 0, 1) := dk_42 (dk_at dksX0_isDone_3 3 rfl rfl)
theorem dX0_isDone_73 : decode cX0_isDone 73 = .ok (.getfield 63, 3) := dk_180 0 63 (dk_at dksX0_isDone_3 4 rfl rfl)
theorem dX0_isDone_76 : decode cX0_isDone 76 = .ok (.aload_n 0, 1) := dk_42 (dk_at dksX0_isDone_3 7 rfl rfl)
theorem dX0_isDone_77 : decode cX0_isDone 77 = .ok (.getfield 48, 3) := dk_180 0 48 (dk_at dksX0_isDone_3 8 rfl rfl)
theorem dX0_isDone_80 : decode cX0_isDone 80 = .ok (.invokevirtual 290, 3) := dk_182 1 34 (dk_at dksX0_isDone_3 11 rfl rfl)
theorem dX0_isDone_83 : decode cX0_isDone 83 = .ok (.ifCond .ne 7, 3) := dk_154 0 7 (dk_at dksX0_isDone_3 14 rfl rfl)
theorem dX0_isDone_86 : decode cX0_isDone 86 = .ok (.iconst 1, 1) := dk_4 (dk_at dksX0_isDone_3 17 rfl rfl)
theorem dX0_isDone_87 : decode cX0_isDone 87 = .ok (.goto 4, 3) := dk_167 0 4 (dk_at dksX0_isDone_3 18 rfl rfl)
theorem dX0_isDone_90 : decode cX0_isDone 90 = .ok (.iconst 0, 1) := dk_3 (dk_at dksX0_isDone_3 21 rfl rfl)
theorem dX0_isDone_91 : decode cX0_isDone 91 = .ok (.ireturn, 1) := dk_172 (dk_at dksX0_isDone_3 22 rfl rfl)
abbrev cX0_taught : ByteArray := prog_1_method_50_code
def yX0_taught : MethodName := ⟨RX0, "taught", "(II)I"⟩
def dkwX0_taught_0 : List UInt8 := [42, 27, 28, 182, 1, 96, 154, 0, 5, 2, 172, 42, 27, 28, 182, 1, 99, 42, 180, 1, 83, 172]
abbrev dktX0_taught_0 : List UInt8 := dkwX0_taught_0 ++ []
theorem dksX0_taught_0 : cX0_taught.data.toList.drop 0 = dktX0_taught_0 := by decide +kernel
theorem dX0_taught_0 : decode cX0_taught 0 = .ok (.aload_n 0, 1) := dk_42 (dk_at dksX0_taught_0 0 rfl rfl)
theorem dX0_taught_1 : decode cX0_taught 1 = .ok (.iload_n 1, 1) := dk_27 (dk_at dksX0_taught_0 1 rfl rfl)
theorem dX0_taught_2 : decode cX0_taught 2 = .ok (.iload_n 2, 1) := dk_28 (dk_at dksX0_taught_0 2 rfl rfl)
theorem dX0_taught_3 : decode cX0_taught 3 = .ok (.invokevirtual 352, 3) := dk_182 1 96 (dk_at dksX0_taught_0 3 rfl rfl)
theorem dX0_taught_6 : decode cX0_taught 6 = .ok (.ifCond .ne 5, 3) := dk_154 0 5 (dk_at dksX0_taught_0 6 rfl rfl)
theorem dX0_taught_9 : decode cX0_taught 9 = .ok (.iconst (-1), 1) := dk_2 (dk_at dksX0_taught_0 9 rfl rfl)
theorem dX0_taught_10 : decode cX0_taught 10 = .ok (.ireturn, 1) := dk_172 (dk_at dksX0_taught_0 10 rfl rfl)
theorem dX0_taught_11 : decode cX0_taught 11 = .ok (.aload_n 0, 1) := dk_42 (dk_at dksX0_taught_0 11 rfl rfl)
theorem dX0_taught_12 : decode cX0_taught 12 = .ok (.iload_n 1, 1) := dk_27 (dk_at dksX0_taught_0 12 rfl rfl)
theorem dX0_taught_13 : decode cX0_taught 13 = .ok (.iload_n 2, 1) := dk_28 (dk_at dksX0_taught_0 13 rfl rfl)
theorem dX0_taught_14 : decode cX0_taught 14 = .ok (.invokevirtual 355, 3) := dk_182 1 99 (dk_at dksX0_taught_0 14 rfl rfl)
theorem dX0_taught_17 : decode cX0_taught 17 = .ok (.aload_n 0, 1) := dk_42 (dk_at dksX0_taught_0 17 rfl rfl)
theorem dX0_taught_18 : decode cX0_taught 18 = .ok (.getfield 339, 3) := dk_180 1 83 (dk_at dksX0_taught_0 18 rfl rfl)
theorem dX0_taught_21 : decode cX0_taught 21 = .ok (.ireturn, 1) := dk_172 (dk_at dksX0_taught_0 21 rfl rfl)
abbrev cX0_isSet : ByteArray := prog_1_method_49_code
def yX0_isSet : MethodName := ⟨RX0, "isSet", "(II)Z"⟩
def dkwX0_isSet_1 : List UInt8 := [28, 4, 17, 1, 44, 184, 0, 149, 153, 0, 7, 4, 167, 0, 4, 3, 172]
abbrev dktX0_isSet_1 : List UInt8 := dkwX0_isSet_1 ++ []
def dkwX0_isSet_0 : List UInt8 := [27, 4, 4, 42, 182, 0, 155, 120, 4, 100, 184, 0, 149, 153, 0, 26, 27, 184, 1, 71, 7, 163, 0, 18]
abbrev dktX0_isSet_0 : List UInt8 := dkwX0_isSet_0 ++ dktX0_isSet_1
theorem dksX0_isSet_0 : cX0_isSet.data.toList.drop 0 = dktX0_isSet_0 := by decide +kernel
theorem dksX0_isSet_1 : cX0_isSet.data.toList.drop 24 = dktX0_isSet_1 := dk_seg dksX0_isSet_0 24 rfl rfl
theorem dX0_isSet_0 : decode cX0_isSet 0 = .ok (.iload_n 1, 1) := dk_27 (dk_at dksX0_isSet_0 0 rfl rfl)
theorem dX0_isSet_1 : decode cX0_isSet 1 = .ok (.iconst 1, 1) := dk_4 (dk_at dksX0_isSet_0 1 rfl rfl)
theorem dX0_isSet_2 : decode cX0_isSet 2 = .ok (.iconst 1, 1) := dk_4 (dk_at dksX0_isSet_0 2 rfl rfl)
theorem dX0_isSet_3 : decode cX0_isSet 3 = .ok (.aload_n 0, 1) := dk_42 (dk_at dksX0_isSet_0 3 rfl rfl)
theorem dX0_isSet_4 : decode cX0_isSet 4 = .ok (.invokevirtual 155, 3) := dk_182 0 155 (dk_at dksX0_isSet_0 4 rfl rfl)
theorem dX0_isSet_7 : decode cX0_isSet 7 = .ok (.ishl, 1) := dk_120 (dk_at dksX0_isSet_0 7 rfl rfl)
theorem dX0_isSet_8 : decode cX0_isSet 8 = .ok (.iconst 1, 1) := dk_4 (dk_at dksX0_isSet_0 8 rfl rfl)
theorem dX0_isSet_9 : decode cX0_isSet 9 = .ok (.isub, 1) := dk_100 (dk_at dksX0_isSet_0 9 rfl rfl)
theorem dX0_isSet_10 : decode cX0_isSet 10 = .ok (.invokestatic 149, 3) := dk_184 0 149 (dk_at dksX0_isSet_0 10 rfl rfl)
theorem dX0_isSet_13 : decode cX0_isSet 13 = .ok (.ifCond .eq 26, 3) := dk_153 0 26 (dk_at dksX0_isSet_0 13 rfl rfl)
theorem dX0_isSet_16 : decode cX0_isSet 16 = .ok (.iload_n 1, 1) := dk_27 (dk_at dksX0_isSet_0 16 rfl rfl)
theorem dX0_isSet_17 : decode cX0_isSet 17 = .ok (.invokestatic 327, 3) := dk_184 1 71 (dk_at dksX0_isSet_0 17 rfl rfl)
theorem dX0_isSet_20 : decode cX0_isSet 20 = .ok (.iconst 4, 1) := dk_7 (dk_at dksX0_isSet_0 20 rfl rfl)
theorem dX0_isSet_21 : decode cX0_isSet 21 = .ok (.if_icmp .gt 18, 3) := dk_163 0 18 (dk_at dksX0_isSet_0 21 rfl rfl)
theorem dX0_isSet_24 : decode cX0_isSet 24 = .ok (.iload_n 2, 1) := dk_28 (dk_at dksX0_isSet_1 0 rfl rfl)
theorem dX0_isSet_25 : decode cX0_isSet 25 = .ok (.iconst 1, 1) := dk_4 (dk_at dksX0_isSet_1 1 rfl rfl)
theorem dX0_isSet_26 : decode cX0_isSet 26 = .ok (.sipush 300, 3) := dk_17 1 44 (dk_at dksX0_isSet_1 2 rfl rfl)
theorem dX0_isSet_29 : decode cX0_isSet 29 = .ok (.invokestatic 149, 3) := dk_184 0 149 (dk_at dksX0_isSet_1 5 rfl rfl)
theorem dX0_isSet_32 : decode cX0_isSet 32 = .ok (.ifCond .eq 7, 3) := dk_153 0 7 (dk_at dksX0_isSet_1 8 rfl rfl)
theorem dX0_isSet_35 : decode cX0_isSet 35 = .ok (.iconst 1, 1) := dk_4 (dk_at dksX0_isSet_1 11 rfl rfl)
theorem dX0_isSet_36 : decode cX0_isSet 36 = .ok (.goto 4, 3) := dk_167 0 4 (dk_at dksX0_isSet_1 12 rfl rfl)
theorem dX0_isSet_39 : decode cX0_isSet 39 = .ok (.iconst 0, 1) := dk_3 (dk_at dksX0_isSet_1 15 rfl rfl)
theorem dX0_isSet_40 : decode cX0_isSet 40 = .ok (.ireturn, 1) := dk_172 (dk_at dksX0_isSet_1 16 rfl rfl)
abbrev cX0_teaches : ByteArray := prog_1_method_48_code
def yX0_teaches : MethodName := ⟨RX0, "teaches", "(II)V"⟩
def dkwX0_teaches_7 : List UInt8 := [3, 42, 180, 0, 84, 3, 7, 184, 1, 86, 42, 182, 1, 92, 62, 167, 255, 145, 177]
abbrev dktX0_teaches_7 : List UInt8 := dkwX0_teaches_7 ++ []
def dkwX0_teaches_6 : List UInt8 := [182, 1, 45, 54, 4, 21, 4, 42, 180, 1, 83, 164, 0, 23, 42, 21, 4, 181, 1, 83, 42, 180, 0, 81]
abbrev dktX0_teaches_6 : List UInt8 := dkwX0_teaches_6 ++ dktX0_teaches_7
def dkwX0_teaches_5 : List UInt8 := [79, 132, 4, 1, 167, 255, 222, 42, 42, 180, 0, 63, 28, 182, 0, 231, 42, 180, 0, 63, 42, 180, 0, 48]
abbrev dktX0_teaches_5 : List UInt8 := dkwX0_teaches_5 ++ dktX0_teaches_6
def dkwX0_teaches_4 : List UInt8 := [162, 0, 31, 42, 180, 0, 63, 180, 0, 192, 42, 180, 0, 87, 21, 4, 46, 42, 180, 0, 81, 21, 4, 46]
abbrev dktX0_teaches_4 : List UInt8 := dkwX0_teaches_4 ++ dktX0_teaches_5
def dkwX0_teaches_3 : List UInt8 := [153, 0, 113, 42, 180, 0, 63, 42, 180, 0, 59, 182, 0, 221, 3, 54, 4, 21, 4, 42, 180, 1, 80]
abbrev dktX0_teaches_3 : List UInt8 := dkwX0_teaches_3 ++ dktX0_teaches_4
def dkwX0_teaches_2 : List UInt8 := [180, 1, 80, 3, 79, 42, 89, 180, 1, 80, 4, 96, 181, 1, 80, 132, 3, 1, 167, 255, 204, 4, 62, 29]
abbrev dktX0_teaches_2 : List UInt8 := dkwX0_teaches_2 ++ dktX0_teaches_3
def dkwX0_teaches_1 : List UInt8 := [126, 154, 0, 6, 167, 0, 33, 42, 180, 0, 87, 42, 180, 1, 80, 29, 79, 42, 180, 0, 81, 42]
abbrev dktX0_teaches_1 : List UInt8 := dkwX0_teaches_1 ++ dktX0_teaches_2
def dkwX0_teaches_0 : List UInt8 := [42, 3, 181, 1, 80, 42, 2, 181, 1, 83, 3, 62, 29, 42, 182, 0, 155, 162, 0, 50, 27, 29, 122, 4]
abbrev dktX0_teaches_0 : List UInt8 := dkwX0_teaches_0 ++ dktX0_teaches_1
theorem dksX0_teaches_0 : cX0_teaches.data.toList.drop 0 = dktX0_teaches_0 := by decide +kernel
theorem dksX0_teaches_1 : cX0_teaches.data.toList.drop 24 = dktX0_teaches_1 := dk_seg dksX0_teaches_0 24 rfl rfl
theorem dksX0_teaches_2 : cX0_teaches.data.toList.drop 46 = dktX0_teaches_2 := dk_seg dksX0_teaches_1 22 rfl rfl
theorem dksX0_teaches_3 : cX0_teaches.data.toList.drop 70 = dktX0_teaches_3 := dk_seg dksX0_teaches_2 24 rfl rfl
theorem dksX0_teaches_4 : cX0_teaches.data.toList.drop 93 = dktX0_teaches_4 := dk_seg dksX0_teaches_3 23 rfl rfl
theorem dksX0_teaches_5 : cX0_teaches.data.toList.drop 117 = dktX0_teaches_5 := dk_seg dksX0_teaches_4 24 rfl rfl
theorem dksX0_teaches_6 : cX0_teaches.data.toList.drop 141 = dktX0_teaches_6 := dk_seg dksX0_teaches_5 24 rfl rfl
theorem dksX0_teaches_7 : cX0_teaches.data.toList.drop 165 = dktX0_teaches_7 := dk_seg dksX0_teaches_6 24 rfl rfl
theorem dX0_teaches_0 : decode cX0_teaches 0 = .ok (.aload_n 0, 1) := dk_42 (dk_at dksX0_teaches_0 0 rfl rfl)
theorem dX0_teaches_1 : decode cX0_teaches 1 = .ok (.iconst 0, 1) := dk_3 (dk_at dksX0_teaches_0 1 rfl rfl)
theorem dX0_teaches_2 : decode cX0_teaches 2 = .ok (.putfield 336, 3) := dk_181 1 80 (dk_at dksX0_teaches_0 2 rfl rfl)
theorem dX0_teaches_5 : decode cX0_teaches 5 = .ok (.aload_n 0, 1) := dk_42 (dk_at dksX0_teaches_0 5 rfl rfl)
theorem dX0_teaches_6 : decode cX0_teaches 6 = .ok (.iconst (-1), 1) := dk_2 (dk_at dksX0_teaches_0 6 rfl rfl)
theorem dX0_teaches_7 : decode cX0_teaches 7 = .ok (.putfield 339, 3) := dk_181 1 83 (dk_at dksX0_teaches_0 7 rfl rfl)
theorem dX0_teaches_10 : decode cX0_teaches 10 = .ok (.iconst 0, 1) := dk_3 (dk_at dksX0_teaches_0 10 rfl rfl)
theorem dX0_teaches_11 : decode cX0_teaches 11 = .ok (.istore_n 3, 1) := dk_62 (dk_at dksX0_teaches_0 11 rfl rfl)
theorem dX0_teaches_12 : decode cX0_teaches 12 = .ok (.iload_n 3, 1) := dk_29 (dk_at dksX0_teaches_0 12 rfl rfl)
theorem dX0_teaches_13 : decode cX0_teaches 13 = .ok (.aload_n 0, 1) := dk_42 (dk_at dksX0_teaches_0 13 rfl rfl)
theorem dX0_teaches_14 : decode cX0_teaches 14 = .ok (.invokevirtual 155, 3) := dk_182 0 155 (dk_at dksX0_teaches_0 14 rfl rfl)
theorem dX0_teaches_17 : decode cX0_teaches 17 = .ok (.if_icmp .ge 50, 3) := dk_162 0 50 (dk_at dksX0_teaches_0 17 rfl rfl)
theorem dX0_teaches_20 : decode cX0_teaches 20 = .ok (.iload_n 1, 1) := dk_27 (dk_at dksX0_teaches_0 20 rfl rfl)
theorem dX0_teaches_21 : decode cX0_teaches 21 = .ok (.iload_n 3, 1) := dk_29 (dk_at dksX0_teaches_0 21 rfl rfl)
theorem dX0_teaches_22 : decode cX0_teaches 22 = .ok (.ishr, 1) := dk_122 (dk_at dksX0_teaches_0 22 rfl rfl)
theorem dX0_teaches_23 : decode cX0_teaches 23 = .ok (.iconst 1, 1) := dk_4 (dk_at dksX0_teaches_0 23 rfl rfl)
theorem dX0_teaches_24 : decode cX0_teaches 24 = .ok (.iand, 1) := dk_126 (dk_at dksX0_teaches_1 0 rfl rfl)
theorem dX0_teaches_25 : decode cX0_teaches 25 = .ok (.ifCond .ne 6, 3) := dk_154 0 6 (dk_at dksX0_teaches_1 1 rfl rfl)
theorem dX0_teaches_28 : decode cX0_teaches 28 = .ok (.goto 33, 3) := dk_167 0 33 (dk_at dksX0_teaches_1 4 rfl rfl)
theorem dX0_teaches_31 : decode cX0_teaches 31 = .ok (.aload_n 0, 1) := dk_42 (dk_at dksX0_teaches_1 7 rfl rfl)
theorem dX0_teaches_32 : decode cX0_teaches 32 = .ok (.getfield 87, 3) := dk_180 0 87 (dk_at dksX0_teaches_1 8 rfl rfl)
theorem dX0_teaches_35 : decode cX0_teaches 35 = .ok (.aload_n 0, 1) := dk_42 (dk_at dksX0_teaches_1 11 rfl rfl)
theorem dX0_teaches_36 : decode cX0_teaches 36 = .ok (.getfield 336, 3) := dk_180 1 80 (dk_at dksX0_teaches_1 12 rfl rfl)
theorem dX0_teaches_39 : decode cX0_teaches 39 = .ok (.iload_n 3, 1) := dk_29 (dk_at dksX0_teaches_1 15 rfl rfl)
theorem dX0_teaches_40 : decode cX0_teaches 40 = .ok (.iastore, 1) := dk_79 (dk_at dksX0_teaches_1 16 rfl rfl)
theorem dX0_teaches_41 : decode cX0_teaches 41 = .ok (.aload_n 0, 1) := dk_42 (dk_at dksX0_teaches_1 17 rfl rfl)
theorem dX0_teaches_42 : decode cX0_teaches 42 = .ok (.getfield 81, 3) := dk_180 0 81 (dk_at dksX0_teaches_1 18 rfl rfl)
theorem dX0_teaches_45 : decode cX0_teaches 45 = .ok (.aload_n 0, 1) := dk_42 (dk_at dksX0_teaches_1 21 rfl rfl)
theorem dX0_teaches_46 : decode cX0_teaches 46 = .ok (.getfield 336, 3) := dk_180 1 80 (dk_at dksX0_teaches_2 0 rfl rfl)
theorem dX0_teaches_49 : decode cX0_teaches 49 = .ok (.iconst 0, 1) := dk_3 (dk_at dksX0_teaches_2 3 rfl rfl)
theorem dX0_teaches_50 : decode cX0_teaches 50 = .ok (.iastore, 1) := dk_79 (dk_at dksX0_teaches_2 4 rfl rfl)
theorem dX0_teaches_51 : decode cX0_teaches 51 = .ok (.aload_n 0, 1) := dk_42 (dk_at dksX0_teaches_2 5 rfl rfl)
theorem dX0_teaches_52 : decode cX0_teaches 52 = .ok (.dup, 1) := dk_89 (dk_at dksX0_teaches_2 6 rfl rfl)
theorem dX0_teaches_53 : decode cX0_teaches 53 = .ok (.getfield 336, 3) := dk_180 1 80 (dk_at dksX0_teaches_2 7 rfl rfl)
theorem dX0_teaches_56 : decode cX0_teaches 56 = .ok (.iconst 1, 1) := dk_4 (dk_at dksX0_teaches_2 10 rfl rfl)
theorem dX0_teaches_57 : decode cX0_teaches 57 = .ok (.iadd, 1) := dk_96 (dk_at dksX0_teaches_2 11 rfl rfl)
theorem dX0_teaches_58 : decode cX0_teaches 58 = .ok (.putfield 336, 3) := dk_181 1 80 (dk_at dksX0_teaches_2 12 rfl rfl)
theorem dX0_teaches_61 : decode cX0_teaches 61 = .ok (.iinc 3 1, 3) := dk_132 3 1 (dk_at dksX0_teaches_2 15 rfl rfl)
theorem dX0_teaches_64 : decode cX0_teaches 64 = .ok (.goto (-52), 3) := dk_167 255 204 (dk_at dksX0_teaches_2 18 rfl rfl)
theorem dX0_teaches_67 : decode cX0_teaches 67 = .ok (.iconst 1, 1) := dk_4 (dk_at dksX0_teaches_2 21 rfl rfl)
theorem dX0_teaches_68 : decode cX0_teaches 68 = .ok (.istore_n 3, 1) := dk_62 (dk_at dksX0_teaches_2 22 rfl rfl)
theorem dX0_teaches_69 : decode cX0_teaches 69 = .ok (.iload_n 3, 1) := dk_29 (dk_at dksX0_teaches_2 23 rfl rfl)
theorem dX0_teaches_70 : decode cX0_teaches 70 = .ok (.ifCond .eq 113, 3) := dk_153 0 113 (dk_at dksX0_teaches_3 0 rfl rfl)
theorem dX0_teaches_73 : decode cX0_teaches 73 = .ok (.aload_n 0, 1) := dk_42 (dk_at dksX0_teaches_3 3 rfl rfl)
theorem dX0_teaches_74 : decode cX0_teaches 74 = .ok (.getfield 63, 3) := dk_180 0 63 (dk_at dksX0_teaches_3 4 rfl rfl)
theorem dX0_teaches_77 : decode cX0_teaches 77 = .ok (.aload_n 0, 1) := dk_42 (dk_at dksX0_teaches_3 7 rfl rfl)
theorem dX0_teaches_78 : decode cX0_teaches 78 = .ok (.getfield 59, 3) := dk_180 0 59 (dk_at dksX0_teaches_3 8 rfl rfl)
theorem dX0_teaches_81 : decode cX0_teaches 81 = .ok (.invokevirtual 221, 3) := dk_182 0 221 (dk_at dksX0_teaches_3 11 rfl rfl)
theorem dX0_teaches_84 : decode cX0_teaches 84 = .ok (.iconst 0, 1) := dk_3 (dk_at dksX0_teaches_3 14 rfl rfl)
theorem dX0_teaches_85 : decode cX0_teaches 85 = .ok (.istore 4, 2) := dk_54 4 (dk_at dksX0_teaches_3 15 rfl rfl)
theorem dX0_teaches_87 : decode cX0_teaches 87 = .ok (.iload 4, 2) := dk_21 4 (dk_at dksX0_teaches_3 17 rfl rfl)
theorem dX0_teaches_89 : decode cX0_teaches 89 = .ok (.aload_n 0, 1) := dk_42 (dk_at dksX0_teaches_3 19 rfl rfl)
theorem dX0_teaches_90 : decode cX0_teaches 90 = .ok (.getfield 336, 3) := dk_180 1 80 (dk_at dksX0_teaches_3 20 rfl rfl)
theorem dX0_teaches_93 : decode cX0_teaches 93 = .ok (.if_icmp .ge 31, 3) := dk_162 0 31 (dk_at dksX0_teaches_4 0 rfl rfl)
theorem dX0_teaches_96 : decode cX0_teaches 96 = .ok (.aload_n 0, 1) := dk_42 (dk_at dksX0_teaches_4 3 rfl rfl)
theorem dX0_teaches_97 : decode cX0_teaches 97 = .ok (.getfield 63, 3) := dk_180 0 63 (dk_at dksX0_teaches_4 4 rfl rfl)
theorem dX0_teaches_100 : decode cX0_teaches 100 = .ok (.getfield 192, 3) := dk_180 0 192 (dk_at dksX0_teaches_4 7 rfl rfl)
theorem dX0_teaches_103 : decode cX0_teaches 103 = .ok (.aload_n 0, 1) := dk_42 (dk_at dksX0_teaches_4 10 rfl rfl)
theorem dX0_teaches_104 : decode cX0_teaches 104 = .ok (.getfield 87, 3) := dk_180 0 87 (dk_at dksX0_teaches_4 11 rfl rfl)
theorem dX0_teaches_107 : decode cX0_teaches 107 = .ok (.iload 4, 2) := dk_21 4 (dk_at dksX0_teaches_4 14 rfl rfl)
theorem dX0_teaches_109 : decode cX0_teaches 109 = .ok (.iaload, 1) := dk_46 (dk_at dksX0_teaches_4 16 rfl rfl)
theorem dX0_teaches_110 : decode cX0_teaches 110 = .ok (.aload_n 0, 1) := dk_42 (dk_at dksX0_teaches_4 17 rfl rfl)
theorem dX0_teaches_111 : decode cX0_teaches 111 = .ok (.getfield 81, 3) := dk_180 0 81 (dk_at dksX0_teaches_4 18 rfl rfl)
theorem dX0_teaches_114 : decode cX0_teaches 114 = .ok (.iload 4, 2) := dk_21 4 (dk_at dksX0_teaches_4 21 rfl rfl)
theorem dX0_teaches_116 : decode cX0_teaches 116 = .ok (.iaload, 1) := dk_46 (dk_at dksX0_teaches_4 23 rfl rfl)
theorem dX0_teaches_117 : decode cX0_teaches 117 = .ok (.iastore, 1) := dk_79 (dk_at dksX0_teaches_5 0 rfl rfl)
theorem dX0_teaches_118 : decode cX0_teaches 118 = .ok (.iinc 4 1, 3) := dk_132 4 1 (dk_at dksX0_teaches_5 1 rfl rfl)
theorem dX0_teaches_121 : decode cX0_teaches 121 = .ok (.goto (-34), 3) := dk_167 255 222 (dk_at dksX0_teaches_5 4 rfl rfl)
theorem dX0_teaches_124 : decode cX0_teaches 124 = .ok (.aload_n 0, 1) := dk_42 (dk_at dksX0_teaches_5 7 rfl rfl)
theorem dX0_teaches_125 : decode cX0_teaches 125 = .ok (.aload_n 0, 1) := dk_42 (dk_at dksX0_teaches_5 8 rfl rfl)
theorem dX0_teaches_126 : decode cX0_teaches 126 = .ok (.getfield 63, 3) := dk_180 0 63 (dk_at dksX0_teaches_5 9 rfl rfl)
theorem dX0_teaches_129 : decode cX0_teaches 129 = .ok (.iload_n 2, 1) := dk_28 (dk_at dksX0_teaches_5 12 rfl rfl)
theorem dX0_teaches_130 : decode cX0_teaches 130 = .ok (.invokevirtual 231, 3) := dk_182 0 231 (dk_at dksX0_teaches_5 13 rfl rfl)
theorem dX0_teaches_133 : decode cX0_teaches 133 = .ok (.aload_n 0, 1) := dk_42 (dk_at dksX0_teaches_5 16 rfl rfl)
theorem dX0_teaches_134 : decode cX0_teaches 134 = .ok (.getfield 63, 3) := dk_180 0 63 (dk_at dksX0_teaches_5 17 rfl rfl)
theorem dX0_teaches_137 : decode cX0_teaches 137 = .ok (.aload_n 0, 1) := dk_42 (dk_at dksX0_teaches_5 20 rfl rfl)
theorem dX0_teaches_138 : decode cX0_teaches 138 = .ok (.getfield 48, 3) := dk_180 0 48 (dk_at dksX0_teaches_5 21 rfl rfl)
theorem dX0_teaches_141 : decode cX0_teaches 141 = .ok (.invokevirtual 301, 3) := dk_182 1 45 (dk_at dksX0_teaches_6 0 rfl rfl)
theorem dX0_teaches_144 : decode cX0_teaches 144 = .ok (.istore 4, 2) := dk_54 4 (dk_at dksX0_teaches_6 3 rfl rfl)
theorem dX0_teaches_146 : decode cX0_teaches 146 = .ok (.iload 4, 2) := dk_21 4 (dk_at dksX0_teaches_6 5 rfl rfl)
theorem dX0_teaches_148 : decode cX0_teaches 148 = .ok (.aload_n 0, 1) := dk_42 (dk_at dksX0_teaches_6 7 rfl rfl)
theorem dX0_teaches_149 : decode cX0_teaches 149 = .ok (.getfield 339, 3) := dk_180 1 83 (dk_at dksX0_teaches_6 8 rfl rfl)
theorem dX0_teaches_152 : decode cX0_teaches 152 = .ok (.if_icmp .le 23, 3) := dk_164 0 23 (dk_at dksX0_teaches_6 11 rfl rfl)
theorem dX0_teaches_155 : decode cX0_teaches 155 = .ok (.aload_n 0, 1) := dk_42 (dk_at dksX0_teaches_6 14 rfl rfl)
theorem dX0_teaches_156 : decode cX0_teaches 156 = .ok (.iload 4, 2) := dk_21 4 (dk_at dksX0_teaches_6 15 rfl rfl)
theorem dX0_teaches_158 : decode cX0_teaches 158 = .ok (.putfield 339, 3) := dk_181 1 83 (dk_at dksX0_teaches_6 17 rfl rfl)
theorem dX0_teaches_161 : decode cX0_teaches 161 = .ok (.aload_n 0, 1) := dk_42 (dk_at dksX0_teaches_6 20 rfl rfl)
theorem dX0_teaches_162 : decode cX0_teaches 162 = .ok (.getfield 81, 3) := dk_180 0 81 (dk_at dksX0_teaches_6 21 rfl rfl)
theorem dX0_teaches_165 : decode cX0_teaches 165 = .ok (.iconst 0, 1) := dk_3 (dk_at dksX0_teaches_7 0 rfl rfl)
theorem dX0_teaches_166 : decode cX0_teaches 166 = .ok (.aload_n 0, 1) := dk_42 (dk_at dksX0_teaches_7 1 rfl rfl)
theorem dX0_teaches_167 : decode cX0_teaches 167 = .ok (.getfield 84, 3) := dk_180 0 84 (dk_at dksX0_teaches_7 2 rfl rfl)
theorem dX0_teaches_170 : decode cX0_teaches 170 = .ok (.iconst 0, 1) := dk_3 (dk_at dksX0_teaches_7 5 rfl rfl)
theorem dX0_teaches_171 : decode cX0_teaches 171 = .ok (.iconst 4, 1) := dk_7 (dk_at dksX0_teaches_7 6 rfl rfl)
theorem dX0_teaches_172 : decode cX0_teaches 172 = .ok (.invokestatic 342, 3) := dk_184 1 86 (dk_at dksX0_teaches_7 7 rfl rfl)
theorem dX0_teaches_175 : decode cX0_teaches 175 = .ok (.aload_n 0, 1) := dk_42 (dk_at dksX0_teaches_7 10 rfl rfl)
theorem dX0_teaches_176 : decode cX0_teaches 176 = .ok (.invokevirtual 348, 3) := dk_182 1 92 (dk_at dksX0_teaches_7 11 rfl rfl)
theorem dX0_teaches_179 : decode cX0_teaches 179 = .ok (.istore_n 3, 1) := dk_62 (dk_at dksX0_teaches_7 14 rfl rfl)
theorem dX0_teaches_180 : decode cX0_teaches 180 = .ok (.goto (-111), 3) := dk_167 255 145 (dk_at dksX0_teaches_7 15 rfl rfl)
theorem dX0_teaches_183 : decode cX0_teaches 183 = .ok (.return_, 1) := dk_177 (dk_at dksX0_teaches_7 18 rfl rfl)
abbrev cX0_goesOn : ByteArray := prog_1_method_47_code
def yX0_goesOn : MethodName := ⟨RX0, "goesOn", "()Z"⟩
def dkwX0_goesOn_2 : List UInt8 := [180, 0, 81, 27, 92, 46, 4, 96, 79, 4, 172]
abbrev dktX0_goesOn_2 : List UInt8 := dkwX0_goesOn_2 ++ []
def dkwX0_goesOn_1 : List UInt8 := [160, 0, 16, 42, 180, 0, 81, 27, 3, 79, 132, 1, 255, 167, 255, 227, 27, 156, 0, 5, 3, 172, 42]
abbrev dktX0_goesOn_1 : List UInt8 := dkwX0_goesOn_1 ++ dktX0_goesOn_2
def dkwX0_goesOn_0 : List UInt8 := [42, 180, 1, 80, 4, 100, 60, 27, 155, 0, 31, 42, 180, 0, 81, 27, 46, 42, 182, 0, 147, 4, 100]
abbrev dktX0_goesOn_0 : List UInt8 := dkwX0_goesOn_0 ++ dktX0_goesOn_1
theorem dksX0_goesOn_0 : cX0_goesOn.data.toList.drop 0 = dktX0_goesOn_0 := by decide +kernel
theorem dksX0_goesOn_1 : cX0_goesOn.data.toList.drop 23 = dktX0_goesOn_1 := dk_seg dksX0_goesOn_0 23 rfl rfl
theorem dksX0_goesOn_2 : cX0_goesOn.data.toList.drop 46 = dktX0_goesOn_2 := dk_seg dksX0_goesOn_1 23 rfl rfl
theorem dX0_goesOn_0 : decode cX0_goesOn 0 = .ok (.aload_n 0, 1) := dk_42 (dk_at dksX0_goesOn_0 0 rfl rfl)
theorem dX0_goesOn_1 : decode cX0_goesOn 1 = .ok (.getfield 336, 3) := dk_180 1 80 (dk_at dksX0_goesOn_0 1 rfl rfl)
theorem dX0_goesOn_4 : decode cX0_goesOn 4 = .ok (.iconst 1, 1) := dk_4 (dk_at dksX0_goesOn_0 4 rfl rfl)
theorem dX0_goesOn_5 : decode cX0_goesOn 5 = .ok (.isub, 1) := dk_100 (dk_at dksX0_goesOn_0 5 rfl rfl)
theorem dX0_goesOn_6 : decode cX0_goesOn 6 = .ok (.istore_n 1, 1) := dk_60 (dk_at dksX0_goesOn_0 6 rfl rfl)
theorem dX0_goesOn_7 : decode cX0_goesOn 7 = .ok (.iload_n 1, 1) := dk_27 (dk_at dksX0_goesOn_0 7 rfl rfl)
theorem dX0_goesOn_8 : decode cX0_goesOn 8 = .ok (.ifCond .lt 31, 3) := dk_155 0 31 (dk_at dksX0_goesOn_0 8 rfl rfl)
theorem dX0_goesOn_11 : decode cX0_goesOn 11 = .ok (.aload_n 0, 1) := dk_42 (dk_at dksX0_goesOn_0 11 rfl rfl)
theorem dX0_goesOn_12 : decode cX0_goesOn 12 = .ok (.getfield 81, 3) := dk_180 0 81 (dk_at dksX0_goesOn_0 12 rfl rfl)
theorem dX0_goesOn_15 : decode cX0_goesOn 15 = .ok (.iload_n 1, 1) := dk_27 (dk_at dksX0_goesOn_0 15 rfl rfl)
theorem dX0_goesOn_16 : decode cX0_goesOn 16 = .ok (.iaload, 1) := dk_46 (dk_at dksX0_goesOn_0 16 rfl rfl)
theorem dX0_goesOn_17 : decode cX0_goesOn 17 = .ok (.aload_n 0, 1) := dk_42 (dk_at dksX0_goesOn_0 17 rfl rfl)
theorem dX0_goesOn_18 : decode cX0_goesOn 18 = .ok (.invokevirtual 147, 3) := dk_182 0 147 (dk_at dksX0_goesOn_0 18 rfl rfl)
theorem dX0_goesOn_21 : decode cX0_goesOn 21 = .ok (.iconst 1, 1) := dk_4 (dk_at dksX0_goesOn_0 21 rfl rfl)
theorem dX0_goesOn_22 : decode cX0_goesOn 22 = .ok (.isub, 1) := dk_100 (dk_at dksX0_goesOn_0 22 rfl rfl)
theorem dX0_goesOn_23 : decode cX0_goesOn 23 = .ok (.if_icmp .ne 16, 3) := dk_160 0 16 (dk_at dksX0_goesOn_1 0 rfl rfl)
theorem dX0_goesOn_26 : decode cX0_goesOn 26 = .ok (.aload_n 0, 1) := dk_42 (dk_at dksX0_goesOn_1 3 rfl rfl)
theorem dX0_goesOn_27 : decode cX0_goesOn 27 = .ok (.getfield 81, 3) := dk_180 0 81 (dk_at dksX0_goesOn_1 4 rfl rfl)
theorem dX0_goesOn_30 : decode cX0_goesOn 30 = .ok (.iload_n 1, 1) := dk_27 (dk_at dksX0_goesOn_1 7 rfl rfl)
theorem dX0_goesOn_31 : decode cX0_goesOn 31 = .ok (.iconst 0, 1) := dk_3 (dk_at dksX0_goesOn_1 8 rfl rfl)
theorem dX0_goesOn_32 : decode cX0_goesOn 32 = .ok (.iastore, 1) := dk_79 (dk_at dksX0_goesOn_1 9 rfl rfl)
theorem dX0_goesOn_33 : decode cX0_goesOn 33 = .ok (.iinc 1 (-1), 3) := dk_132 1 255 (dk_at dksX0_goesOn_1 10 rfl rfl)
theorem dX0_goesOn_36 : decode cX0_goesOn 36 = .ok (.goto (-29), 3) := dk_167 255 227 (dk_at dksX0_goesOn_1 13 rfl rfl)
theorem dX0_goesOn_39 : decode cX0_goesOn 39 = .ok (.iload_n 1, 1) := dk_27 (dk_at dksX0_goesOn_1 16 rfl rfl)
theorem dX0_goesOn_40 : decode cX0_goesOn 40 = .ok (.ifCond .ge 5, 3) := dk_156 0 5 (dk_at dksX0_goesOn_1 17 rfl rfl)
theorem dX0_goesOn_43 : decode cX0_goesOn 43 = .ok (.iconst 0, 1) := dk_3 (dk_at dksX0_goesOn_1 20 rfl rfl)
theorem dX0_goesOn_44 : decode cX0_goesOn 44 = .ok (.ireturn, 1) := dk_172 (dk_at dksX0_goesOn_1 21 rfl rfl)
theorem dX0_goesOn_45 : decode cX0_goesOn 45 = .ok (.aload_n 0, 1) := dk_42 (dk_at dksX0_goesOn_1 22 rfl rfl)
theorem dX0_goesOn_46 : decode cX0_goesOn 46 = .ok (.getfield 81, 3) := dk_180 0 81 (dk_at dksX0_goesOn_2 0 rfl rfl)
theorem dX0_goesOn_49 : decode cX0_goesOn 49 = .ok (.iload_n 1, 1) := dk_27 (dk_at dksX0_goesOn_2 3 rfl rfl)
theorem dX0_goesOn_50 : decode cX0_goesOn 50 = .ok (.dup2, 1) := dk_92 (dk_at dksX0_goesOn_2 4 rfl rfl)
theorem dX0_goesOn_51 : decode cX0_goesOn 51 = .ok (.iaload, 1) := dk_46 (dk_at dksX0_goesOn_2 5 rfl rfl)
theorem dX0_goesOn_52 : decode cX0_goesOn 52 = .ok (.iconst 1, 1) := dk_4 (dk_at dksX0_goesOn_2 6 rfl rfl)
theorem dX0_goesOn_53 : decode cX0_goesOn 53 = .ok (.iadd, 1) := dk_96 (dk_at dksX0_goesOn_2 7 rfl rfl)
theorem dX0_goesOn_54 : decode cX0_goesOn 54 = .ok (.iastore, 1) := dk_79 (dk_at dksX0_goesOn_2 8 rfl rfl)
theorem dX0_goesOn_55 : decode cX0_goesOn 55 = .ok (.iconst 1, 1) := dk_4 (dk_at dksX0_goesOn_2 9 rfl rfl)
theorem dX0_goesOn_56 : decode cX0_goesOn 56 = .ok (.ireturn, 1) := dk_172 (dk_at dksX0_goesOn_2 10 rfl rfl)
abbrev cX0_taughtAt : ByteArray := prog_1_method_51_code
def yX0_taughtAt : MethodName := ⟨RX0, "taughtAt", "(III)I"⟩
def dkwX0_taughtAt_1 : List UInt8 := [172, 42, 27, 28, 182, 1, 99, 42, 180, 0, 84, 29, 46, 172]
abbrev dktX0_taughtAt_1 : List UInt8 := dkwX0_taughtAt_1 ++ []
def dkwX0_taughtAt_0 : List UInt8 := [42, 27, 28, 182, 1, 96, 153, 0, 17, 29, 3, 27, 184, 1, 71, 4, 100, 184, 0, 149, 154, 0, 5, 2]
abbrev dktX0_taughtAt_0 : List UInt8 := dkwX0_taughtAt_0 ++ dktX0_taughtAt_1
theorem dksX0_taughtAt_0 : cX0_taughtAt.data.toList.drop 0 = dktX0_taughtAt_0 := by decide +kernel
theorem dksX0_taughtAt_1 : cX0_taughtAt.data.toList.drop 24 = dktX0_taughtAt_1 := dk_seg dksX0_taughtAt_0 24 rfl rfl
theorem dX0_taughtAt_0 : decode cX0_taughtAt 0 = .ok (.aload_n 0, 1) := dk_42 (dk_at dksX0_taughtAt_0 0 rfl rfl)
theorem dX0_taughtAt_1 : decode cX0_taughtAt 1 = .ok (.iload_n 1, 1) := dk_27 (dk_at dksX0_taughtAt_0 1 rfl rfl)
theorem dX0_taughtAt_2 : decode cX0_taughtAt 2 = .ok (.iload_n 2, 1) := dk_28 (dk_at dksX0_taughtAt_0 2 rfl rfl)
theorem dX0_taughtAt_3 : decode cX0_taughtAt 3 = .ok (.invokevirtual 352, 3) := dk_182 1 96 (dk_at dksX0_taughtAt_0 3 rfl rfl)
theorem dX0_taughtAt_6 : decode cX0_taughtAt 6 = .ok (.ifCond .eq 17, 3) := dk_153 0 17 (dk_at dksX0_taughtAt_0 6 rfl rfl)
theorem dX0_taughtAt_9 : decode cX0_taughtAt 9 = .ok (.iload_n 3, 1) := dk_29 (dk_at dksX0_taughtAt_0 9 rfl rfl)
theorem dX0_taughtAt_10 : decode cX0_taughtAt 10 = .ok (.iconst 0, 1) := dk_3 (dk_at dksX0_taughtAt_0 10 rfl rfl)
theorem dX0_taughtAt_11 : decode cX0_taughtAt 11 = .ok (.iload_n 1, 1) := dk_27 (dk_at dksX0_taughtAt_0 11 rfl rfl)
theorem dX0_taughtAt_12 : decode cX0_taughtAt 12 = .ok (.invokestatic 327, 3) := dk_184 1 71 (dk_at dksX0_taughtAt_0 12 rfl rfl)
theorem dX0_taughtAt_15 : decode cX0_taughtAt 15 = .ok (.iconst 1, 1) := dk_4 (dk_at dksX0_taughtAt_0 15 rfl rfl)
theorem dX0_taughtAt_16 : decode cX0_taughtAt 16 = .ok (.isub, 1) := dk_100 (dk_at dksX0_taughtAt_0 16 rfl rfl)
theorem dX0_taughtAt_17 : decode cX0_taughtAt 17 = .ok (.invokestatic 149, 3) := dk_184 0 149 (dk_at dksX0_taughtAt_0 17 rfl rfl)
theorem dX0_taughtAt_20 : decode cX0_taughtAt 20 = .ok (.ifCond .ne 5, 3) := dk_154 0 5 (dk_at dksX0_taughtAt_0 20 rfl rfl)
theorem dX0_taughtAt_23 : decode cX0_taughtAt 23 = .ok (.iconst (-1), 1) := dk_2 (dk_at dksX0_taughtAt_0 23 rfl rfl)
theorem dX0_taughtAt_24 : decode cX0_taughtAt 24 = .ok (.ireturn, 1) := dk_172 (dk_at dksX0_taughtAt_1 0 rfl rfl)
theorem dX0_taughtAt_25 : decode cX0_taughtAt 25 = .ok (.aload_n 0, 1) := dk_42 (dk_at dksX0_taughtAt_1 1 rfl rfl)
theorem dX0_taughtAt_26 : decode cX0_taughtAt 26 = .ok (.iload_n 1, 1) := dk_27 (dk_at dksX0_taughtAt_1 2 rfl rfl)
theorem dX0_taughtAt_27 : decode cX0_taughtAt 27 = .ok (.iload_n 2, 1) := dk_28 (dk_at dksX0_taughtAt_1 3 rfl rfl)
theorem dX0_taughtAt_28 : decode cX0_taughtAt 28 = .ok (.invokevirtual 355, 3) := dk_182 1 99 (dk_at dksX0_taughtAt_1 4 rfl rfl)
theorem dX0_taughtAt_31 : decode cX0_taughtAt 31 = .ok (.aload_n 0, 1) := dk_42 (dk_at dksX0_taughtAt_1 7 rfl rfl)
theorem dX0_taughtAt_32 : decode cX0_taughtAt 32 = .ok (.getfield 84, 3) := dk_180 0 84 (dk_at dksX0_taughtAt_1 8 rfl rfl)
theorem dX0_taughtAt_35 : decode cX0_taughtAt 35 = .ok (.iload_n 3, 1) := dk_29 (dk_at dksX0_taughtAt_1 11 rfl rfl)
theorem dX0_taughtAt_36 : decode cX0_taughtAt 36 = .ok (.iaload, 1) := dk_46 (dk_at dksX0_taughtAt_1 12 rfl rfl)
theorem dX0_taughtAt_37 : decode cX0_taughtAt 37 = .ok (.ireturn, 1) := dk_172 (dk_at dksX0_taughtAt_1 13 rfl rfl)
abbrev cX0_bestSwap : ByteArray := prog_1_method_52_code
def yX0_bestSwap : MethodName := ⟨RX0, "bestSwap", "(I)I"⟩
def dkwX0_bestSwap_6 : List UInt8 := [132, 4, 1, 167, 255, 136, 27, 154, 0, 7, 28, 167, 0, 4, 29, 172]
abbrev dktX0_bestSwap_6 : List UInt8 := dkwX0_bestSwap_6 ++ []
def dkwX0_bestSwap_5 : List UInt8 := [161, 0, 6, 167, 0, 15, 16, 10, 21, 4, 104, 21, 5, 96, 61, 21, 6, 62, 132, 5, 1, 167, 255, 157]
abbrev dktX0_bestSwap_5 : List UInt8 := dkwX0_bestSwap_5 ++ dktX0_bestSwap_6
def dkwX0_bestSwap_4 : List UInt8 := [21, 4, 46, 79, 42, 182, 1, 42, 54, 6, 21, 6, 155, 0, 28, 29, 155, 0, 12, 21, 6, 29]
abbrev dktX0_bestSwap_4 : List UInt8 := dkwX0_bestSwap_4 ++ dktX0_bestSwap_5
def dkwX0_bestSwap_3 : List UInt8 := [180, 1, 105, 21, 5, 46, 79, 42, 180, 0, 63, 180, 1, 105, 21, 5, 42, 180, 0, 59, 180, 1, 105]
abbrev dktX0_bestSwap_3 : List UInt8 := dkwX0_bestSwap_3 ++ dktX0_bestSwap_4
def dkwX0_bestSwap_2 : List UInt8 := [180, 0, 63, 42, 180, 0, 59, 182, 0, 221, 42, 180, 0, 63, 180, 1, 105, 21, 4, 42, 180, 0, 59]
abbrev dktX0_bestSwap_2 : List UInt8 := dkwX0_bestSwap_2 ++ dktX0_bestSwap_3
def dkwX0_bestSwap_1 : List UInt8 := [42, 182, 0, 153, 162, 0, 117, 21, 4, 4, 96, 54, 5, 21, 5, 42, 182, 0, 153, 162, 0, 96, 42]
abbrev dktX0_bestSwap_1 : List UInt8 := dkwX0_bestSwap_1 ++ dktX0_bestSwap_2
def dkwX0_bestSwap_0 : List UInt8 := [27, 3, 4, 184, 0, 149, 154, 0, 5, 2, 172, 16, 254, 61, 42, 182, 1, 102, 62, 3, 54, 4, 21, 4]
abbrev dktX0_bestSwap_0 : List UInt8 := dkwX0_bestSwap_0 ++ dktX0_bestSwap_1
theorem dksX0_bestSwap_0 : cX0_bestSwap.data.toList.drop 0 = dktX0_bestSwap_0 := by decide +kernel
theorem dksX0_bestSwap_1 : cX0_bestSwap.data.toList.drop 24 = dktX0_bestSwap_1 := dk_seg dksX0_bestSwap_0 24 rfl rfl
theorem dksX0_bestSwap_2 : cX0_bestSwap.data.toList.drop 47 = dktX0_bestSwap_2 := dk_seg dksX0_bestSwap_1 23 rfl rfl
theorem dksX0_bestSwap_3 : cX0_bestSwap.data.toList.drop 70 = dktX0_bestSwap_3 := dk_seg dksX0_bestSwap_2 23 rfl rfl
theorem dksX0_bestSwap_4 : cX0_bestSwap.data.toList.drop 93 = dktX0_bestSwap_4 := dk_seg dksX0_bestSwap_3 23 rfl rfl
theorem dksX0_bestSwap_5 : cX0_bestSwap.data.toList.drop 115 = dktX0_bestSwap_5 := dk_seg dksX0_bestSwap_4 22 rfl rfl
theorem dksX0_bestSwap_6 : cX0_bestSwap.data.toList.drop 139 = dktX0_bestSwap_6 := dk_seg dksX0_bestSwap_5 24 rfl rfl
theorem dX0_bestSwap_0 : decode cX0_bestSwap 0 = .ok (.iload_n 1, 1) := dk_27 (dk_at dksX0_bestSwap_0 0 rfl rfl)
theorem dX0_bestSwap_1 : decode cX0_bestSwap 1 = .ok (.iconst 0, 1) := dk_3 (dk_at dksX0_bestSwap_0 1 rfl rfl)
theorem dX0_bestSwap_2 : decode cX0_bestSwap 2 = .ok (.iconst 1, 1) := dk_4 (dk_at dksX0_bestSwap_0 2 rfl rfl)
theorem dX0_bestSwap_3 : decode cX0_bestSwap 3 = .ok (.invokestatic 149, 3) := dk_184 0 149 (dk_at dksX0_bestSwap_0 3 rfl rfl)
theorem dX0_bestSwap_6 : decode cX0_bestSwap 6 = .ok (.ifCond .ne 5, 3) := dk_154 0 5 (dk_at dksX0_bestSwap_0 6 rfl rfl)
theorem dX0_bestSwap_9 : decode cX0_bestSwap 9 = .ok (.iconst (-1), 1) := dk_2 (dk_at dksX0_bestSwap_0 9 rfl rfl)
theorem dX0_bestSwap_10 : decode cX0_bestSwap 10 = .ok (.ireturn, 1) := dk_172 (dk_at dksX0_bestSwap_0 10 rfl rfl)
theorem dX0_bestSwap_11 : decode cX0_bestSwap 11 = .ok (.bipush (-2), 2) := dk_16 254 (dk_at dksX0_bestSwap_0 11 rfl rfl)
theorem dX0_bestSwap_13 : decode cX0_bestSwap 13 = .ok (.istore_n 2, 1) := dk_61 (dk_at dksX0_bestSwap_0 13 rfl rfl)
theorem dX0_bestSwap_14 : decode cX0_bestSwap 14 = .ok (.aload_n 0, 1) := dk_42 (dk_at dksX0_bestSwap_0 14 rfl rfl)
theorem dX0_bestSwap_15 : decode cX0_bestSwap 15 = .ok (.invokevirtual 358, 3) := dk_182 1 102 (dk_at dksX0_bestSwap_0 15 rfl rfl)
theorem dX0_bestSwap_18 : decode cX0_bestSwap 18 = .ok (.istore_n 3, 1) := dk_62 (dk_at dksX0_bestSwap_0 18 rfl rfl)
theorem dX0_bestSwap_19 : decode cX0_bestSwap 19 = .ok (.iconst 0, 1) := dk_3 (dk_at dksX0_bestSwap_0 19 rfl rfl)
theorem dX0_bestSwap_20 : decode cX0_bestSwap 20 = .ok (.istore 4, 2) := dk_54 4 (dk_at dksX0_bestSwap_0 20 rfl rfl)
theorem dX0_bestSwap_22 : decode cX0_bestSwap 22 = .ok (.iload 4, 2) := dk_21 4 (dk_at dksX0_bestSwap_0 22 rfl rfl)
theorem dX0_bestSwap_24 : decode cX0_bestSwap 24 = .ok (.aload_n 0, 1) := dk_42 (dk_at dksX0_bestSwap_1 0 rfl rfl)
theorem dX0_bestSwap_25 : decode cX0_bestSwap 25 = .ok (.invokevirtual 153, 3) := dk_182 0 153 (dk_at dksX0_bestSwap_1 1 rfl rfl)
theorem dX0_bestSwap_28 : decode cX0_bestSwap 28 = .ok (.if_icmp .ge 117, 3) := dk_162 0 117 (dk_at dksX0_bestSwap_1 4 rfl rfl)
theorem dX0_bestSwap_31 : decode cX0_bestSwap 31 = .ok (.iload 4, 2) := dk_21 4 (dk_at dksX0_bestSwap_1 7 rfl rfl)
theorem dX0_bestSwap_33 : decode cX0_bestSwap 33 = .ok (.iconst 1, 1) := dk_4 (dk_at dksX0_bestSwap_1 9 rfl rfl)
theorem dX0_bestSwap_34 : decode cX0_bestSwap 34 = .ok (.iadd, 1) := dk_96 (dk_at dksX0_bestSwap_1 10 rfl rfl)
theorem dX0_bestSwap_35 : decode cX0_bestSwap 35 = .ok (.istore 5, 2) := dk_54 5 (dk_at dksX0_bestSwap_1 11 rfl rfl)
theorem dX0_bestSwap_37 : decode cX0_bestSwap 37 = .ok (.iload 5, 2) := dk_21 5 (dk_at dksX0_bestSwap_1 13 rfl rfl)
theorem dX0_bestSwap_39 : decode cX0_bestSwap 39 = .ok (.aload_n 0, 1) := dk_42 (dk_at dksX0_bestSwap_1 15 rfl rfl)
theorem dX0_bestSwap_40 : decode cX0_bestSwap 40 = .ok (.invokevirtual 153, 3) := dk_182 0 153 (dk_at dksX0_bestSwap_1 16 rfl rfl)
theorem dX0_bestSwap_43 : decode cX0_bestSwap 43 = .ok (.if_icmp .ge 96, 3) := dk_162 0 96 (dk_at dksX0_bestSwap_1 19 rfl rfl)
theorem dX0_bestSwap_46 : decode cX0_bestSwap 46 = .ok (.aload_n 0, 1) := dk_42 (dk_at dksX0_bestSwap_1 22 rfl rfl)
theorem dX0_bestSwap_47 : decode cX0_bestSwap 47 = .ok (.getfield 63, 3) := dk_180 0 63 (dk_at dksX0_bestSwap_2 0 rfl rfl)
theorem dX0_bestSwap_50 : decode cX0_bestSwap 50 = .ok (.aload_n 0, 1) := dk_42 (dk_at dksX0_bestSwap_2 3 rfl rfl)
theorem dX0_bestSwap_51 : decode cX0_bestSwap 51 = .ok (.getfield 59, 3) := dk_180 0 59 (dk_at dksX0_bestSwap_2 4 rfl rfl)
theorem dX0_bestSwap_54 : decode cX0_bestSwap 54 = .ok (.invokevirtual 221, 3) := dk_182 0 221 (dk_at dksX0_bestSwap_2 7 rfl rfl)
theorem dX0_bestSwap_57 : decode cX0_bestSwap 57 = .ok (.aload_n 0, 1) := dk_42 (dk_at dksX0_bestSwap_2 10 rfl rfl)
theorem dX0_bestSwap_58 : decode cX0_bestSwap 58 = .ok (.getfield 63, 3) := dk_180 0 63 (dk_at dksX0_bestSwap_2 11 rfl rfl)
theorem dX0_bestSwap_61 : decode cX0_bestSwap 61 = .ok (.getfield 361, 3) := dk_180 1 105 (dk_at dksX0_bestSwap_2 14 rfl rfl)
theorem dX0_bestSwap_64 : decode cX0_bestSwap 64 = .ok (.iload 4, 2) := dk_21 4 (dk_at dksX0_bestSwap_2 17 rfl rfl)
theorem dX0_bestSwap_66 : decode cX0_bestSwap 66 = .ok (.aload_n 0, 1) := dk_42 (dk_at dksX0_bestSwap_2 19 rfl rfl)
theorem dX0_bestSwap_67 : decode cX0_bestSwap 67 = .ok (.getfield 59, 3) := dk_180 0 59 (dk_at dksX0_bestSwap_2 20 rfl rfl)
theorem dX0_bestSwap_70 : decode cX0_bestSwap 70 = .ok (.getfield 361, 3) := dk_180 1 105 (dk_at dksX0_bestSwap_3 0 rfl rfl)
theorem dX0_bestSwap_73 : decode cX0_bestSwap 73 = .ok (.iload 5, 2) := dk_21 5 (dk_at dksX0_bestSwap_3 3 rfl rfl)
theorem dX0_bestSwap_75 : decode cX0_bestSwap 75 = .ok (.iaload, 1) := dk_46 (dk_at dksX0_bestSwap_3 5 rfl rfl)
theorem dX0_bestSwap_76 : decode cX0_bestSwap 76 = .ok (.iastore, 1) := dk_79 (dk_at dksX0_bestSwap_3 6 rfl rfl)
theorem dX0_bestSwap_77 : decode cX0_bestSwap 77 = .ok (.aload_n 0, 1) := dk_42 (dk_at dksX0_bestSwap_3 7 rfl rfl)
theorem dX0_bestSwap_78 : decode cX0_bestSwap 78 = .ok (.getfield 63, 3) := dk_180 0 63 (dk_at dksX0_bestSwap_3 8 rfl rfl)
theorem dX0_bestSwap_81 : decode cX0_bestSwap 81 = .ok (.getfield 361, 3) := dk_180 1 105 (dk_at dksX0_bestSwap_3 11 rfl rfl)
theorem dX0_bestSwap_84 : decode cX0_bestSwap 84 = .ok (.iload 5, 2) := dk_21 5 (dk_at dksX0_bestSwap_3 14 rfl rfl)
theorem dX0_bestSwap_86 : decode cX0_bestSwap 86 = .ok (.aload_n 0, 1) := dk_42 (dk_at dksX0_bestSwap_3 16 rfl rfl)
theorem dX0_bestSwap_87 : decode cX0_bestSwap 87 = .ok (.getfield 59, 3) := dk_180 0 59 (dk_at dksX0_bestSwap_3 17 rfl rfl)
theorem dX0_bestSwap_90 : decode cX0_bestSwap 90 = .ok (.getfield 361, 3) := dk_180 1 105 (dk_at dksX0_bestSwap_3 20 rfl rfl)
theorem dX0_bestSwap_93 : decode cX0_bestSwap 93 = .ok (.iload 4, 2) := dk_21 4 (dk_at dksX0_bestSwap_4 0 rfl rfl)
theorem dX0_bestSwap_95 : decode cX0_bestSwap 95 = .ok (.iaload, 1) := dk_46 (dk_at dksX0_bestSwap_4 2 rfl rfl)
theorem dX0_bestSwap_96 : decode cX0_bestSwap 96 = .ok (.iastore, 1) := dk_79 (dk_at dksX0_bestSwap_4 3 rfl rfl)
theorem dX0_bestSwap_97 : decode cX0_bestSwap 97 = .ok (.aload_n 0, 1) := dk_42 (dk_at dksX0_bestSwap_4 4 rfl rfl)
theorem dX0_bestSwap_98 : decode cX0_bestSwap 98 = .ok (.invokevirtual 298, 3) := dk_182 1 42 (dk_at dksX0_bestSwap_4 5 rfl rfl)
theorem dX0_bestSwap_101 : decode cX0_bestSwap 101 = .ok (.istore 6, 2) := dk_54 6 (dk_at dksX0_bestSwap_4 8 rfl rfl)
theorem dX0_bestSwap_103 : decode cX0_bestSwap 103 = .ok (.iload 6, 2) := dk_21 6 (dk_at dksX0_bestSwap_4 10 rfl rfl)
theorem dX0_bestSwap_105 : decode cX0_bestSwap 105 = .ok (.ifCond .lt 28, 3) := dk_155 0 28 (dk_at dksX0_bestSwap_4 12 rfl rfl)
theorem dX0_bestSwap_108 : decode cX0_bestSwap 108 = .ok (.iload_n 3, 1) := dk_29 (dk_at dksX0_bestSwap_4 15 rfl rfl)
theorem dX0_bestSwap_109 : decode cX0_bestSwap 109 = .ok (.ifCond .lt 12, 3) := dk_155 0 12 (dk_at dksX0_bestSwap_4 16 rfl rfl)
theorem dX0_bestSwap_112 : decode cX0_bestSwap 112 = .ok (.iload 6, 2) := dk_21 6 (dk_at dksX0_bestSwap_4 19 rfl rfl)
theorem dX0_bestSwap_114 : decode cX0_bestSwap 114 = .ok (.iload_n 3, 1) := dk_29 (dk_at dksX0_bestSwap_4 21 rfl rfl)
theorem dX0_bestSwap_115 : decode cX0_bestSwap 115 = .ok (.if_icmp .lt 6, 3) := dk_161 0 6 (dk_at dksX0_bestSwap_5 0 rfl rfl)
theorem dX0_bestSwap_118 : decode cX0_bestSwap 118 = .ok (.goto 15, 3) := dk_167 0 15 (dk_at dksX0_bestSwap_5 3 rfl rfl)
theorem dX0_bestSwap_121 : decode cX0_bestSwap 121 = .ok (.bipush 10, 2) := dk_16 10 (dk_at dksX0_bestSwap_5 6 rfl rfl)
theorem dX0_bestSwap_123 : decode cX0_bestSwap 123 = .ok (.iload 4, 2) := dk_21 4 (dk_at dksX0_bestSwap_5 8 rfl rfl)
theorem dX0_bestSwap_125 : decode cX0_bestSwap 125 = .ok (.imul, 1) := dk_104 (dk_at dksX0_bestSwap_5 10 rfl rfl)
theorem dX0_bestSwap_126 : decode cX0_bestSwap 126 = .ok (.iload 5, 2) := dk_21 5 (dk_at dksX0_bestSwap_5 11 rfl rfl)
theorem dX0_bestSwap_128 : decode cX0_bestSwap 128 = .ok (.iadd, 1) := dk_96 (dk_at dksX0_bestSwap_5 13 rfl rfl)
theorem dX0_bestSwap_129 : decode cX0_bestSwap 129 = .ok (.istore_n 2, 1) := dk_61 (dk_at dksX0_bestSwap_5 14 rfl rfl)
theorem dX0_bestSwap_130 : decode cX0_bestSwap 130 = .ok (.iload 6, 2) := dk_21 6 (dk_at dksX0_bestSwap_5 15 rfl rfl)
theorem dX0_bestSwap_132 : decode cX0_bestSwap 132 = .ok (.istore_n 3, 1) := dk_62 (dk_at dksX0_bestSwap_5 17 rfl rfl)
theorem dX0_bestSwap_133 : decode cX0_bestSwap 133 = .ok (.iinc 5 1, 3) := dk_132 5 1 (dk_at dksX0_bestSwap_5 18 rfl rfl)
theorem dX0_bestSwap_136 : decode cX0_bestSwap 136 = .ok (.goto (-99), 3) := dk_167 255 157 (dk_at dksX0_bestSwap_5 21 rfl rfl)
theorem dX0_bestSwap_139 : decode cX0_bestSwap 139 = .ok (.iinc 4 1, 3) := dk_132 4 1 (dk_at dksX0_bestSwap_6 0 rfl rfl)
theorem dX0_bestSwap_142 : decode cX0_bestSwap 142 = .ok (.goto (-120), 3) := dk_167 255 136 (dk_at dksX0_bestSwap_6 3 rfl rfl)
theorem dX0_bestSwap_145 : decode cX0_bestSwap 145 = .ok (.iload_n 1, 1) := dk_27 (dk_at dksX0_bestSwap_6 6 rfl rfl)
theorem dX0_bestSwap_146 : decode cX0_bestSwap 146 = .ok (.ifCond .ne 7, 3) := dk_154 0 7 (dk_at dksX0_bestSwap_6 7 rfl rfl)
theorem dX0_bestSwap_149 : decode cX0_bestSwap 149 = .ok (.iload_n 2, 1) := dk_28 (dk_at dksX0_bestSwap_6 10 rfl rfl)
theorem dX0_bestSwap_150 : decode cX0_bestSwap 150 = .ok (.goto 4, 3) := dk_167 0 4 (dk_at dksX0_bestSwap_6 11 rfl rfl)
theorem dX0_bestSwap_153 : decode cX0_bestSwap 153 = .ok (.iload_n 3, 1) := dk_29 (dk_at dksX0_bestSwap_6 14 rfl rfl)
theorem dX0_bestSwap_154 : decode cX0_bestSwap 154 = .ok (.ireturn, 1) := dk_172 (dk_at dksX0_bestSwap_6 15 rfl rfl)
abbrev cX0_missed : ByteArray := prog_1_method_53_code
def yX0_missed : MethodName := ⟨RX0, "missed", "(II)I"⟩
def dkwX0_missed_5 : List UInt8 := [62, 21, 6, 54, 4, 132, 5, 1, 167, 255, 164, 28, 154, 0, 7, 29, 167, 0, 5, 21, 4, 172]
abbrev dktX0_missed_5 : List UInt8 := dkwX0_missed_5 ++ []
def dkwX0_missed_4 : List UInt8 := [180, 0, 48, 182, 1, 45, 54, 6, 29, 155, 0, 13, 21, 6, 21, 4, 161, 0, 6, 167, 0, 10, 21, 5]
abbrev dktX0_missed_4 : List UInt8 := dkwX0_missed_4 ++ dktX0_missed_5
def dkwX0_missed_3 : List UInt8 := [180, 0, 63, 21, 5, 182, 0, 245, 42, 42, 180, 0, 63, 27, 182, 0, 231, 42, 180, 0, 63, 42]
abbrev dktX0_missed_3 : List UInt8 := dkwX0_missed_3 ++ dktX0_missed_4
def dkwX0_missed_2 : List UInt8 := [21, 5, 46, 6, 160, 0, 6, 167, 0, 66, 42, 180, 0, 63, 42, 180, 0, 59, 182, 0, 221, 42]
abbrev dktX0_missed_2 : List UInt8 := dkwX0_missed_2 ++ dktX0_missed_3
def dkwX0_missed_1 : List UInt8 := [62, 16, 254, 54, 4, 3, 54, 5, 21, 5, 42, 182, 0, 155, 162, 0, 89, 42, 180, 0, 59, 180, 0, 174]
abbrev dktX0_missed_1 : List UInt8 := dkwX0_missed_1 ++ dktX0_missed_2
def dkwX0_missed_0 : List UInt8 := [27, 3, 17, 2, 88, 184, 0, 149, 153, 0, 12, 28, 3, 4, 184, 0, 149, 154, 0, 5, 2, 172, 16, 254]
abbrev dktX0_missed_0 : List UInt8 := dkwX0_missed_0 ++ dktX0_missed_1
theorem dksX0_missed_0 : cX0_missed.data.toList.drop 0 = dktX0_missed_0 := by decide +kernel
theorem dksX0_missed_1 : cX0_missed.data.toList.drop 24 = dktX0_missed_1 := dk_seg dksX0_missed_0 24 rfl rfl
theorem dksX0_missed_2 : cX0_missed.data.toList.drop 48 = dktX0_missed_2 := dk_seg dksX0_missed_1 24 rfl rfl
theorem dksX0_missed_3 : cX0_missed.data.toList.drop 70 = dktX0_missed_3 := dk_seg dksX0_missed_2 22 rfl rfl
theorem dksX0_missed_4 : cX0_missed.data.toList.drop 92 = dktX0_missed_4 := dk_seg dksX0_missed_3 22 rfl rfl
theorem dksX0_missed_5 : cX0_missed.data.toList.drop 116 = dktX0_missed_5 := dk_seg dksX0_missed_4 24 rfl rfl
theorem dX0_missed_0 : decode cX0_missed 0 = .ok (.iload_n 1, 1) := dk_27 (dk_at dksX0_missed_0 0 rfl rfl)
theorem dX0_missed_1 : decode cX0_missed 1 = .ok (.iconst 0, 1) := dk_3 (dk_at dksX0_missed_0 1 rfl rfl)
theorem dX0_missed_2 : decode cX0_missed 2 = .ok (.sipush 600, 3) := dk_17 2 88 (dk_at dksX0_missed_0 2 rfl rfl)
theorem dX0_missed_5 : decode cX0_missed 5 = .ok (.invokestatic 149, 3) := dk_184 0 149 (dk_at dksX0_missed_0 5 rfl rfl)
theorem dX0_missed_8 : decode cX0_missed 8 = .ok (.ifCond .eq 12, 3) := dk_153 0 12 (dk_at dksX0_missed_0 8 rfl rfl)
theorem dX0_missed_11 : decode cX0_missed 11 = .ok (.iload_n 2, 1) := dk_28 (dk_at dksX0_missed_0 11 rfl rfl)
theorem dX0_missed_12 : decode cX0_missed 12 = .ok (.iconst 0, 1) := dk_3 (dk_at dksX0_missed_0 12 rfl rfl)
theorem dX0_missed_13 : decode cX0_missed 13 = .ok (.iconst 1, 1) := dk_4 (dk_at dksX0_missed_0 13 rfl rfl)
theorem dX0_missed_14 : decode cX0_missed 14 = .ok (.invokestatic 149, 3) := dk_184 0 149 (dk_at dksX0_missed_0 14 rfl rfl)
theorem dX0_missed_17 : decode cX0_missed 17 = .ok (.ifCond .ne 5, 3) := dk_154 0 5 (dk_at dksX0_missed_0 17 rfl rfl)
theorem dX0_missed_20 : decode cX0_missed 20 = .ok (.iconst (-1), 1) := dk_2 (dk_at dksX0_missed_0 20 rfl rfl)
theorem dX0_missed_21 : decode cX0_missed 21 = .ok (.ireturn, 1) := dk_172 (dk_at dksX0_missed_0 21 rfl rfl)
theorem dX0_missed_22 : decode cX0_missed 22 = .ok (.bipush (-2), 2) := dk_16 254 (dk_at dksX0_missed_0 22 rfl rfl)
theorem dX0_missed_24 : decode cX0_missed 24 = .ok (.istore_n 3, 1) := dk_62 (dk_at dksX0_missed_1 0 rfl rfl)
theorem dX0_missed_25 : decode cX0_missed 25 = .ok (.bipush (-2), 2) := dk_16 254 (dk_at dksX0_missed_1 1 rfl rfl)
theorem dX0_missed_27 : decode cX0_missed 27 = .ok (.istore 4, 2) := dk_54 4 (dk_at dksX0_missed_1 3 rfl rfl)
theorem dX0_missed_29 : decode cX0_missed 29 = .ok (.iconst 0, 1) := dk_3 (dk_at dksX0_missed_1 5 rfl rfl)
theorem dX0_missed_30 : decode cX0_missed 30 = .ok (.istore 5, 2) := dk_54 5 (dk_at dksX0_missed_1 6 rfl rfl)
theorem dX0_missed_32 : decode cX0_missed 32 = .ok (.iload 5, 2) := dk_21 5 (dk_at dksX0_missed_1 8 rfl rfl)
theorem dX0_missed_34 : decode cX0_missed 34 = .ok (.aload_n 0, 1) := dk_42 (dk_at dksX0_missed_1 10 rfl rfl)
theorem dX0_missed_35 : decode cX0_missed 35 = .ok (.invokevirtual 155, 3) := dk_182 0 155 (dk_at dksX0_missed_1 11 rfl rfl)
theorem dX0_missed_38 : decode cX0_missed 38 = .ok (.if_icmp .ge 89, 3) := dk_162 0 89 (dk_at dksX0_missed_1 14 rfl rfl)
theorem dX0_missed_41 : decode cX0_missed 41 = .ok (.aload_n 0, 1) := dk_42 (dk_at dksX0_missed_1 17 rfl rfl)
theorem dX0_missed_42 : decode cX0_missed 42 = .ok (.getfield 59, 3) := dk_180 0 59 (dk_at dksX0_missed_1 18 rfl rfl)
theorem dX0_missed_45 : decode cX0_missed 45 = .ok (.getfield 174, 3) := dk_180 0 174 (dk_at dksX0_missed_1 21 rfl rfl)
theorem dX0_missed_48 : decode cX0_missed 48 = .ok (.iload 5, 2) := dk_21 5 (dk_at dksX0_missed_2 0 rfl rfl)
theorem dX0_missed_50 : decode cX0_missed 50 = .ok (.iaload, 1) := dk_46 (dk_at dksX0_missed_2 2 rfl rfl)
theorem dX0_missed_51 : decode cX0_missed 51 = .ok (.iconst 3, 1) := dk_6 (dk_at dksX0_missed_2 3 rfl rfl)
theorem dX0_missed_52 : decode cX0_missed 52 = .ok (.if_icmp .ne 6, 3) := dk_160 0 6 (dk_at dksX0_missed_2 4 rfl rfl)
theorem dX0_missed_55 : decode cX0_missed 55 = .ok (.goto 66, 3) := dk_167 0 66 (dk_at dksX0_missed_2 7 rfl rfl)
theorem dX0_missed_58 : decode cX0_missed 58 = .ok (.aload_n 0, 1) := dk_42 (dk_at dksX0_missed_2 10 rfl rfl)
theorem dX0_missed_59 : decode cX0_missed 59 = .ok (.getfield 63, 3) := dk_180 0 63 (dk_at dksX0_missed_2 11 rfl rfl)
theorem dX0_missed_62 : decode cX0_missed 62 = .ok (.aload_n 0, 1) := dk_42 (dk_at dksX0_missed_2 14 rfl rfl)
theorem dX0_missed_63 : decode cX0_missed 63 = .ok (.getfield 59, 3) := dk_180 0 59 (dk_at dksX0_missed_2 15 rfl rfl)
theorem dX0_missed_66 : decode cX0_missed 66 = .ok (.invokevirtual 221, 3) := dk_182 0 221 (dk_at dksX0_missed_2 18 rfl rfl)
theorem dX0_missed_69 : decode cX0_missed 69 = .ok (.aload_n 0, 1) := dk_42 (dk_at dksX0_missed_2 21 rfl rfl)
theorem dX0_missed_70 : decode cX0_missed 70 = .ok (.getfield 63, 3) := dk_180 0 63 (dk_at dksX0_missed_3 0 rfl rfl)
theorem dX0_missed_73 : decode cX0_missed 73 = .ok (.iload 5, 2) := dk_21 5 (dk_at dksX0_missed_3 3 rfl rfl)
theorem dX0_missed_75 : decode cX0_missed 75 = .ok (.invokevirtual 245, 3) := dk_182 0 245 (dk_at dksX0_missed_3 5 rfl rfl)
theorem dX0_missed_78 : decode cX0_missed 78 = .ok (.aload_n 0, 1) := dk_42 (dk_at dksX0_missed_3 8 rfl rfl)
theorem dX0_missed_79 : decode cX0_missed 79 = .ok (.aload_n 0, 1) := dk_42 (dk_at dksX0_missed_3 9 rfl rfl)
theorem dX0_missed_80 : decode cX0_missed 80 = .ok (.getfield 63, 3) := dk_180 0 63 (dk_at dksX0_missed_3 10 rfl rfl)
theorem dX0_missed_83 : decode cX0_missed 83 = .ok (.iload_n 1, 1) := dk_27 (dk_at dksX0_missed_3 13 rfl rfl)
theorem dX0_missed_84 : decode cX0_missed 84 = .ok (.invokevirtual 231, 3) := dk_182 0 231 (dk_at dksX0_missed_3 14 rfl rfl)
theorem dX0_missed_87 : decode cX0_missed 87 = .ok (.aload_n 0, 1) := dk_42 (dk_at dksX0_missed_3 17 rfl rfl)
theorem dX0_missed_88 : decode cX0_missed 88 = .ok (.getfield 63, 3) := dk_180 0 63 (dk_at dksX0_missed_3 18 rfl rfl)
theorem dX0_missed_91 : decode cX0_missed 91 = .ok (.aload_n 0, 1) := dk_42 (dk_at dksX0_missed_3 21 rfl rfl)
theorem dX0_missed_92 : decode cX0_missed 92 = .ok (.getfield 48, 3) := dk_180 0 48 (dk_at dksX0_missed_4 0 rfl rfl)
theorem dX0_missed_95 : decode cX0_missed 95 = .ok (.invokevirtual 301, 3) := dk_182 1 45 (dk_at dksX0_missed_4 3 rfl rfl)
theorem dX0_missed_98 : decode cX0_missed 98 = .ok (.istore 6, 2) := dk_54 6 (dk_at dksX0_missed_4 6 rfl rfl)
theorem dX0_missed_100 : decode cX0_missed 100 = .ok (.iload_n 3, 1) := dk_29 (dk_at dksX0_missed_4 8 rfl rfl)
theorem dX0_missed_101 : decode cX0_missed 101 = .ok (.ifCond .lt 13, 3) := dk_155 0 13 (dk_at dksX0_missed_4 9 rfl rfl)
theorem dX0_missed_104 : decode cX0_missed 104 = .ok (.iload 6, 2) := dk_21 6 (dk_at dksX0_missed_4 12 rfl rfl)
theorem dX0_missed_106 : decode cX0_missed 106 = .ok (.iload 4, 2) := dk_21 4 (dk_at dksX0_missed_4 14 rfl rfl)
theorem dX0_missed_108 : decode cX0_missed 108 = .ok (.if_icmp .lt 6, 3) := dk_161 0 6 (dk_at dksX0_missed_4 16 rfl rfl)
theorem dX0_missed_111 : decode cX0_missed 111 = .ok (.goto 10, 3) := dk_167 0 10 (dk_at dksX0_missed_4 19 rfl rfl)
theorem dX0_missed_114 : decode cX0_missed 114 = .ok (.iload 5, 2) := dk_21 5 (dk_at dksX0_missed_4 22 rfl rfl)
theorem dX0_missed_116 : decode cX0_missed 116 = .ok (.istore_n 3, 1) := dk_62 (dk_at dksX0_missed_5 0 rfl rfl)
theorem dX0_missed_117 : decode cX0_missed 117 = .ok (.iload 6, 2) := dk_21 6 (dk_at dksX0_missed_5 1 rfl rfl)
theorem dX0_missed_119 : decode cX0_missed 119 = .ok (.istore 4, 2) := dk_54 4 (dk_at dksX0_missed_5 3 rfl rfl)
theorem dX0_missed_121 : decode cX0_missed 121 = .ok (.iinc 5 1, 3) := dk_132 5 1 (dk_at dksX0_missed_5 5 rfl rfl)
theorem dX0_missed_124 : decode cX0_missed 124 = .ok (.goto (-92), 3) := dk_167 255 164 (dk_at dksX0_missed_5 8 rfl rfl)
theorem dX0_missed_127 : decode cX0_missed 127 = .ok (.iload_n 2, 1) := dk_28 (dk_at dksX0_missed_5 11 rfl rfl)
theorem dX0_missed_128 : decode cX0_missed 128 = .ok (.ifCond .ne 7, 3) := dk_154 0 7 (dk_at dksX0_missed_5 12 rfl rfl)
theorem dX0_missed_131 : decode cX0_missed 131 = .ok (.iload_n 3, 1) := dk_29 (dk_at dksX0_missed_5 15 rfl rfl)
theorem dX0_missed_132 : decode cX0_missed 132 = .ok (.goto 5, 3) := dk_167 0 5 (dk_at dksX0_missed_5 16 rfl rfl)
theorem dX0_missed_135 : decode cX0_missed 135 = .ok (.iload 4, 2) := dk_21 4 (dk_at dksX0_missed_5 19 rfl rfl)
theorem dX0_missed_137 : decode cX0_missed 137 = .ok (.ireturn, 1) := dk_172 (dk_at dksX0_missed_5 21 rfl rfl)
abbrev cX0_catAt : ByteArray := prog_1_method_54_code
def yX0_catAt : MethodName := ⟨RX0, "catAt", "(II)I"⟩
def dkwX0_catAt_5 : List UInt8 := [167, 255, 167, 28, 154, 0, 7, 29, 167, 0, 5, 21, 4, 172]
abbrev dktX0_catAt_5 : List UInt8 := dkwX0_catAt_5 ++ []
def dkwX0_catAt_4 : List UInt8 := [54, 6, 21, 6, 21, 4, 163, 0, 6, 167, 0, 10, 21, 5, 62, 21, 6, 54, 4, 132, 5, 1]
abbrev dktX0_catAt_4 : List UInt8 := dkwX0_catAt_4 ++ dktX0_catAt_5
def dkwX0_catAt_3 : List UInt8 := [180, 0, 63, 27, 16, 10, 96, 21, 5, 100, 182, 0, 231, 42, 180, 0, 63, 42, 180, 0, 48, 182, 1, 45]
abbrev dktX0_catAt_3 : List UInt8 := dkwX0_catAt_3 ++ dktX0_catAt_4
def dkwX0_catAt_2 : List UInt8 := [180, 0, 63, 21, 5, 182, 0, 231, 42, 180, 0, 63, 89, 180, 0, 252, 16, 10, 96, 181, 0, 252, 42, 42]
abbrev dktX0_catAt_2 : List UInt8 := dkwX0_catAt_2 ++ dktX0_catAt_3
def dkwX0_catAt_1 : List UInt8 := [54, 4, 3, 54, 5, 21, 5, 27, 162, 0, 89, 42, 180, 0, 63, 42, 180, 0, 59, 182, 0, 221, 42, 42]
abbrev dktX0_catAt_1 : List UInt8 := dkwX0_catAt_1 ++ dktX0_catAt_2
def dkwX0_catAt_0 : List UInt8 := [27, 4, 16, 120, 184, 0, 149, 153, 0, 12, 28, 3, 4, 184, 0, 149, 154, 0, 5, 2, 172, 3, 62, 2]
abbrev dktX0_catAt_0 : List UInt8 := dkwX0_catAt_0 ++ dktX0_catAt_1
theorem dksX0_catAt_0 : cX0_catAt.data.toList.drop 0 = dktX0_catAt_0 := by decide +kernel
theorem dksX0_catAt_1 : cX0_catAt.data.toList.drop 24 = dktX0_catAt_1 := dk_seg dksX0_catAt_0 24 rfl rfl
theorem dksX0_catAt_2 : cX0_catAt.data.toList.drop 48 = dktX0_catAt_2 := dk_seg dksX0_catAt_1 24 rfl rfl
theorem dksX0_catAt_3 : cX0_catAt.data.toList.drop 72 = dktX0_catAt_3 := dk_seg dksX0_catAt_2 24 rfl rfl
theorem dksX0_catAt_4 : cX0_catAt.data.toList.drop 96 = dktX0_catAt_4 := dk_seg dksX0_catAt_3 24 rfl rfl
theorem dksX0_catAt_5 : cX0_catAt.data.toList.drop 118 = dktX0_catAt_5 := dk_seg dksX0_catAt_4 22 rfl rfl
theorem dX0_catAt_0 : decode cX0_catAt 0 = .ok (.iload_n 1, 1) := dk_27 (dk_at dksX0_catAt_0 0 rfl rfl)
theorem dX0_catAt_1 : decode cX0_catAt 1 = .ok (.iconst 1, 1) := dk_4 (dk_at dksX0_catAt_0 1 rfl rfl)
theorem dX0_catAt_2 : decode cX0_catAt 2 = .ok (.bipush 120, 2) := dk_16 120 (dk_at dksX0_catAt_0 2 rfl rfl)
theorem dX0_catAt_4 : decode cX0_catAt 4 = .ok (.invokestatic 149, 3) := dk_184 0 149 (dk_at dksX0_catAt_0 4 rfl rfl)
theorem dX0_catAt_7 : decode cX0_catAt 7 = .ok (.ifCond .eq 12, 3) := dk_153 0 12 (dk_at dksX0_catAt_0 7 rfl rfl)
theorem dX0_catAt_10 : decode cX0_catAt 10 = .ok (.iload_n 2, 1) := dk_28 (dk_at dksX0_catAt_0 10 rfl rfl)
theorem dX0_catAt_11 : decode cX0_catAt 11 = .ok (.iconst 0, 1) := dk_3 (dk_at dksX0_catAt_0 11 rfl rfl)
theorem dX0_catAt_12 : decode cX0_catAt 12 = .ok (.iconst 1, 1) := dk_4 (dk_at dksX0_catAt_0 12 rfl rfl)
theorem dX0_catAt_13 : decode cX0_catAt 13 = .ok (.invokestatic 149, 3) := dk_184 0 149 (dk_at dksX0_catAt_0 13 rfl rfl)
theorem dX0_catAt_16 : decode cX0_catAt 16 = .ok (.ifCond .ne 5, 3) := dk_154 0 5 (dk_at dksX0_catAt_0 16 rfl rfl)
theorem dX0_catAt_19 : decode cX0_catAt 19 = .ok (.iconst (-1), 1) := dk_2 (dk_at dksX0_catAt_0 19 rfl rfl)
theorem dX0_catAt_20 : decode cX0_catAt 20 = .ok (.ireturn, 1) := dk_172 (dk_at dksX0_catAt_0 20 rfl rfl)
theorem dX0_catAt_21 : decode cX0_catAt 21 = .ok (.iconst 0, 1) := dk_3 (dk_at dksX0_catAt_0 21 rfl rfl)
theorem dX0_catAt_22 : decode cX0_catAt 22 = .ok (.istore_n 3, 1) := dk_62 (dk_at dksX0_catAt_0 22 rfl rfl)
theorem dX0_catAt_23 : decode cX0_catAt 23 = .ok (.iconst (-1), 1) := dk_2 (dk_at dksX0_catAt_0 23 rfl rfl)
theorem dX0_catAt_24 : decode cX0_catAt 24 = .ok (.istore 4, 2) := dk_54 4 (dk_at dksX0_catAt_1 0 rfl rfl)
theorem dX0_catAt_26 : decode cX0_catAt 26 = .ok (.iconst 0, 1) := dk_3 (dk_at dksX0_catAt_1 2 rfl rfl)
theorem dX0_catAt_27 : decode cX0_catAt 27 = .ok (.istore 5, 2) := dk_54 5 (dk_at dksX0_catAt_1 3 rfl rfl)
theorem dX0_catAt_29 : decode cX0_catAt 29 = .ok (.iload 5, 2) := dk_21 5 (dk_at dksX0_catAt_1 5 rfl rfl)
theorem dX0_catAt_31 : decode cX0_catAt 31 = .ok (.iload_n 1, 1) := dk_27 (dk_at dksX0_catAt_1 7 rfl rfl)
theorem dX0_catAt_32 : decode cX0_catAt 32 = .ok (.if_icmp .ge 89, 3) := dk_162 0 89 (dk_at dksX0_catAt_1 8 rfl rfl)
theorem dX0_catAt_35 : decode cX0_catAt 35 = .ok (.aload_n 0, 1) := dk_42 (dk_at dksX0_catAt_1 11 rfl rfl)
theorem dX0_catAt_36 : decode cX0_catAt 36 = .ok (.getfield 63, 3) := dk_180 0 63 (dk_at dksX0_catAt_1 12 rfl rfl)
theorem dX0_catAt_39 : decode cX0_catAt 39 = .ok (.aload_n 0, 1) := dk_42 (dk_at dksX0_catAt_1 15 rfl rfl)
theorem dX0_catAt_40 : decode cX0_catAt 40 = .ok (.getfield 59, 3) := dk_180 0 59 (dk_at dksX0_catAt_1 16 rfl rfl)
theorem dX0_catAt_43 : decode cX0_catAt 43 = .ok (.invokevirtual 221, 3) := dk_182 0 221 (dk_at dksX0_catAt_1 19 rfl rfl)
theorem dX0_catAt_46 : decode cX0_catAt 46 = .ok (.aload_n 0, 1) := dk_42 (dk_at dksX0_catAt_1 22 rfl rfl)
theorem dX0_catAt_47 : decode cX0_catAt 47 = .ok (.aload_n 0, 1) := dk_42 (dk_at dksX0_catAt_1 23 rfl rfl)
theorem dX0_catAt_48 : decode cX0_catAt 48 = .ok (.getfield 63, 3) := dk_180 0 63 (dk_at dksX0_catAt_2 0 rfl rfl)
theorem dX0_catAt_51 : decode cX0_catAt 51 = .ok (.iload 5, 2) := dk_21 5 (dk_at dksX0_catAt_2 3 rfl rfl)
theorem dX0_catAt_53 : decode cX0_catAt 53 = .ok (.invokevirtual 231, 3) := dk_182 0 231 (dk_at dksX0_catAt_2 5 rfl rfl)
theorem dX0_catAt_56 : decode cX0_catAt 56 = .ok (.aload_n 0, 1) := dk_42 (dk_at dksX0_catAt_2 8 rfl rfl)
theorem dX0_catAt_57 : decode cX0_catAt 57 = .ok (.getfield 63, 3) := dk_180 0 63 (dk_at dksX0_catAt_2 9 rfl rfl)
theorem dX0_catAt_60 : decode cX0_catAt 60 = .ok (.dup, 1) := dk_89 (dk_at dksX0_catAt_2 12 rfl rfl)
theorem dX0_catAt_61 : decode cX0_catAt 61 = .ok (.getfield 252, 3) := dk_180 0 252 (dk_at dksX0_catAt_2 13 rfl rfl)
theorem dX0_catAt_64 : decode cX0_catAt 64 = .ok (.bipush 10, 2) := dk_16 10 (dk_at dksX0_catAt_2 16 rfl rfl)
theorem dX0_catAt_66 : decode cX0_catAt 66 = .ok (.iadd, 1) := dk_96 (dk_at dksX0_catAt_2 18 rfl rfl)
theorem dX0_catAt_67 : decode cX0_catAt 67 = .ok (.putfield 252, 3) := dk_181 0 252 (dk_at dksX0_catAt_2 19 rfl rfl)
theorem dX0_catAt_70 : decode cX0_catAt 70 = .ok (.aload_n 0, 1) := dk_42 (dk_at dksX0_catAt_2 22 rfl rfl)
theorem dX0_catAt_71 : decode cX0_catAt 71 = .ok (.aload_n 0, 1) := dk_42 (dk_at dksX0_catAt_2 23 rfl rfl)
theorem dX0_catAt_72 : decode cX0_catAt 72 = .ok (.getfield 63, 3) := dk_180 0 63 (dk_at dksX0_catAt_3 0 rfl rfl)
theorem dX0_catAt_75 : decode cX0_catAt 75 = .ok (.iload_n 1, 1) := dk_27 (dk_at dksX0_catAt_3 3 rfl rfl)
theorem dX0_catAt_76 : decode cX0_catAt 76 = .ok (.bipush 10, 2) := dk_16 10 (dk_at dksX0_catAt_3 4 rfl rfl)
theorem dX0_catAt_78 : decode cX0_catAt 78 = .ok (.iadd, 1) := dk_96 (dk_at dksX0_catAt_3 6 rfl rfl)
theorem dX0_catAt_79 : decode cX0_catAt 79 = .ok (.iload 5, 2) := dk_21 5 (dk_at dksX0_catAt_3 7 rfl rfl)
theorem dX0_catAt_81 : decode cX0_catAt 81 = .ok (.isub, 1) := dk_100 (dk_at dksX0_catAt_3 9 rfl rfl)
theorem dX0_catAt_82 : decode cX0_catAt 82 = .ok (.invokevirtual 231, 3) := dk_182 0 231 (dk_at dksX0_catAt_3 10 rfl rfl)
theorem dX0_catAt_85 : decode cX0_catAt 85 = .ok (.aload_n 0, 1) := dk_42 (dk_at dksX0_catAt_3 13 rfl rfl)
theorem dX0_catAt_86 : decode cX0_catAt 86 = .ok (.getfield 63, 3) := dk_180 0 63 (dk_at dksX0_catAt_3 14 rfl rfl)
theorem dX0_catAt_89 : decode cX0_catAt 89 = .ok (.aload_n 0, 1) := dk_42 (dk_at dksX0_catAt_3 17 rfl rfl)
theorem dX0_catAt_90 : decode cX0_catAt 90 = .ok (.getfield 48, 3) := dk_180 0 48 (dk_at dksX0_catAt_3 18 rfl rfl)
theorem dX0_catAt_93 : decode cX0_catAt 93 = .ok (.invokevirtual 301, 3) := dk_182 1 45 (dk_at dksX0_catAt_3 21 rfl rfl)
theorem dX0_catAt_96 : decode cX0_catAt 96 = .ok (.istore 6, 2) := dk_54 6 (dk_at dksX0_catAt_4 0 rfl rfl)
theorem dX0_catAt_98 : decode cX0_catAt 98 = .ok (.iload 6, 2) := dk_21 6 (dk_at dksX0_catAt_4 2 rfl rfl)
theorem dX0_catAt_100 : decode cX0_catAt 100 = .ok (.iload 4, 2) := dk_21 4 (dk_at dksX0_catAt_4 4 rfl rfl)
theorem dX0_catAt_102 : decode cX0_catAt 102 = .ok (.if_icmp .gt 6, 3) := dk_163 0 6 (dk_at dksX0_catAt_4 6 rfl rfl)
theorem dX0_catAt_105 : decode cX0_catAt 105 = .ok (.goto 10, 3) := dk_167 0 10 (dk_at dksX0_catAt_4 9 rfl rfl)
theorem dX0_catAt_108 : decode cX0_catAt 108 = .ok (.iload 5, 2) := dk_21 5 (dk_at dksX0_catAt_4 12 rfl rfl)
theorem dX0_catAt_110 : decode cX0_catAt 110 = .ok (.istore_n 3, 1) := dk_62 (dk_at dksX0_catAt_4 14 rfl rfl)
theorem dX0_catAt_111 : decode cX0_catAt 111 = .ok (.iload 6, 2) := dk_21 6 (dk_at dksX0_catAt_4 15 rfl rfl)
theorem dX0_catAt_113 : decode cX0_catAt 113 = .ok (.istore 4, 2) := dk_54 4 (dk_at dksX0_catAt_4 17 rfl rfl)
theorem dX0_catAt_115 : decode cX0_catAt 115 = .ok (.iinc 5 1, 3) := dk_132 5 1 (dk_at dksX0_catAt_4 19 rfl rfl)
theorem dX0_catAt_118 : decode cX0_catAt 118 = .ok (.goto (-89), 3) := dk_167 255 167 (dk_at dksX0_catAt_5 0 rfl rfl)
theorem dX0_catAt_121 : decode cX0_catAt 121 = .ok (.iload_n 2, 1) := dk_28 (dk_at dksX0_catAt_5 3 rfl rfl)
theorem dX0_catAt_122 : decode cX0_catAt 122 = .ok (.ifCond .ne 7, 3) := dk_154 0 7 (dk_at dksX0_catAt_5 4 rfl rfl)
theorem dX0_catAt_125 : decode cX0_catAt 125 = .ok (.iload_n 3, 1) := dk_29 (dk_at dksX0_catAt_5 7 rfl rfl)
theorem dX0_catAt_126 : decode cX0_catAt 126 = .ok (.goto 5, 3) := dk_167 0 5 (dk_at dksX0_catAt_5 8 rfl rfl)
theorem dX0_catAt_129 : decode cX0_catAt 129 = .ok (.iload 4, 2) := dk_21 4 (dk_at dksX0_catAt_5 11 rfl rfl)
theorem dX0_catAt_131 : decode cX0_catAt 131 = .ok (.ireturn, 1) := dk_172 (dk_at dksX0_catAt_5 13 rfl rfl)
abbrev cX0_starves : ByteArray := prog_1_method_55_code
def yX0_starves : MethodName := ⟨RX0, "starves", "(I)I"⟩
def dkwX0_starves_2 : List UInt8 := [180, 0, 63, 42, 180, 0, 48, 182, 0, 225, 132, 2, 1, 167, 255, 219, 16, 254, 172]
abbrev dktX0_starves_2 : List UInt8 := dkwX0_starves_2 ++ []
def dkwX0_starves_1 : List UInt8 := [17, 2, 88, 163, 0, 36, 42, 180, 0, 63, 180, 0, 186, 27, 46, 16, 99, 160, 0, 5, 28, 172, 42]
abbrev dktX0_starves_1 : List UInt8 := dkwX0_starves_1 ++ dktX0_starves_2
def dkwX0_starves_0 : List UInt8 := [42, 27, 182, 0, 171, 154, 0, 5, 2, 172, 42, 180, 0, 63, 42, 180, 0, 59, 182, 0, 221, 3, 61, 28]
abbrev dktX0_starves_0 : List UInt8 := dkwX0_starves_0 ++ dktX0_starves_1
theorem dksX0_starves_0 : cX0_starves.data.toList.drop 0 = dktX0_starves_0 := by decide +kernel
theorem dksX0_starves_1 : cX0_starves.data.toList.drop 24 = dktX0_starves_1 := dk_seg dksX0_starves_0 24 rfl rfl
theorem dksX0_starves_2 : cX0_starves.data.toList.drop 47 = dktX0_starves_2 := dk_seg dksX0_starves_1 23 rfl rfl
theorem dX0_starves_0 : decode cX0_starves 0 = .ok (.aload_n 0, 1) := dk_42 (dk_at dksX0_starves_0 0 rfl rfl)
theorem dX0_starves_1 : decode cX0_starves 1 = .ok (.iload_n 1, 1) := dk_27 (dk_at dksX0_starves_0 1 rfl rfl)
theorem dX0_starves_2 : decode cX0_starves 2 = .ok (.invokevirtual 171, 3) := dk_182 0 171 (dk_at dksX0_starves_0 2 rfl rfl)
theorem dX0_starves_5 : decode cX0_starves 5 = .ok (.ifCond .ne 5, 3) := dk_154 0 5 (dk_at dksX0_starves_0 5 rfl rfl)
theorem dX0_starves_8 : decode cX0_starves 8 = .ok (.iconst (-1), 1) := dk_2 (dk_at dksX0_starves_0 8 rfl rfl)
theorem dX0_starves_9 : decode cX0_starves 9 = .ok (.ireturn, 1) := dk_172 (dk_at dksX0_starves_0 9 rfl rfl)
theorem dX0_starves_10 : decode cX0_starves 10 = .ok (.aload_n 0, 1) := dk_42 (dk_at dksX0_starves_0 10 rfl rfl)
theorem dX0_starves_11 : decode cX0_starves 11 = .ok (.getfield 63, 3) := dk_180 0 63 (dk_at dksX0_starves_0 11 rfl rfl)
theorem dX0_starves_14 : decode cX0_starves 14 = .ok (.aload_n 0, 1) := dk_42 (dk_at dksX0_starves_0 14 rfl rfl)
theorem dX0_starves_15 : decode cX0_starves 15 = .ok (.getfield 59, 3) := dk_180 0 59 (dk_at dksX0_starves_0 15 rfl rfl)
theorem dX0_starves_18 : decode cX0_starves 18 = .ok (.invokevirtual 221, 3) := dk_182 0 221 (dk_at dksX0_starves_0 18 rfl rfl)
theorem dX0_starves_21 : decode cX0_starves 21 = .ok (.iconst 0, 1) := dk_3 (dk_at dksX0_starves_0 21 rfl rfl)
theorem dX0_starves_22 : decode cX0_starves 22 = .ok (.istore_n 2, 1) := dk_61 (dk_at dksX0_starves_0 22 rfl rfl)
theorem dX0_starves_23 : decode cX0_starves 23 = .ok (.iload_n 2, 1) := dk_28 (dk_at dksX0_starves_0 23 rfl rfl)
theorem dX0_starves_24 : decode cX0_starves 24 = .ok (.sipush 600, 3) := dk_17 2 88 (dk_at dksX0_starves_1 0 rfl rfl)
theorem dX0_starves_27 : decode cX0_starves 27 = .ok (.if_icmp .gt 36, 3) := dk_163 0 36 (dk_at dksX0_starves_1 3 rfl rfl)
theorem dX0_starves_30 : decode cX0_starves 30 = .ok (.aload_n 0, 1) := dk_42 (dk_at dksX0_starves_1 6 rfl rfl)
theorem dX0_starves_31 : decode cX0_starves 31 = .ok (.getfield 63, 3) := dk_180 0 63 (dk_at dksX0_starves_1 7 rfl rfl)
theorem dX0_starves_34 : decode cX0_starves 34 = .ok (.getfield 186, 3) := dk_180 0 186 (dk_at dksX0_starves_1 10 rfl rfl)
theorem dX0_starves_37 : decode cX0_starves 37 = .ok (.iload_n 1, 1) := dk_27 (dk_at dksX0_starves_1 13 rfl rfl)
theorem dX0_starves_38 : decode cX0_starves 38 = .ok (.iaload, 1) := dk_46 (dk_at dksX0_starves_1 14 rfl rfl)
theorem dX0_starves_39 : decode cX0_starves 39 = .ok (.bipush 99, 2) := dk_16 99 (dk_at dksX0_starves_1 15 rfl rfl)
theorem dX0_starves_41 : decode cX0_starves 41 = .ok (.if_icmp .ne 5, 3) := dk_160 0 5 (dk_at dksX0_starves_1 17 rfl rfl)
theorem dX0_starves_44 : decode cX0_starves 44 = .ok (.iload_n 2, 1) := dk_28 (dk_at dksX0_starves_1 20 rfl rfl)
theorem dX0_starves_45 : decode cX0_starves 45 = .ok (.ireturn, 1) := dk_172 (dk_at dksX0_starves_1 21 rfl rfl)
theorem dX0_starves_46 : decode cX0_starves 46 = .ok (.aload_n 0, 1) := dk_42 (dk_at dksX0_starves_1 22 rfl rfl)
theorem dX0_starves_47 : decode cX0_starves 47 = .ok (.getfield 63, 3) := dk_180 0 63 (dk_at dksX0_starves_2 0 rfl rfl)
theorem dX0_starves_50 : decode cX0_starves 50 = .ok (.aload_n 0, 1) := dk_42 (dk_at dksX0_starves_2 3 rfl rfl)
theorem dX0_starves_51 : decode cX0_starves 51 = .ok (.getfield 48, 3) := dk_180 0 48 (dk_at dksX0_starves_2 4 rfl rfl)
theorem dX0_starves_54 : decode cX0_starves 54 = .ok (.invokevirtual 225, 3) := dk_182 0 225 (dk_at dksX0_starves_2 7 rfl rfl)
theorem dX0_starves_57 : decode cX0_starves 57 = .ok (.iinc 2 1, 3) := dk_132 2 1 (dk_at dksX0_starves_2 10 rfl rfl)
theorem dX0_starves_60 : decode cX0_starves 60 = .ok (.goto (-37), 3) := dk_167 255 219 (dk_at dksX0_starves_2 13 rfl rfl)
theorem dX0_starves_63 : decode cX0_starves 63 = .ok (.bipush (-2), 2) := dk_16 254 (dk_at dksX0_starves_2 16 rfl rfl)
theorem dX0_starves_65 : decode cX0_starves 65 = .ok (.ireturn, 1) := dk_172 (dk_at dksX0_starves_2 18 rfl rfl)
abbrev cX0_mean : ByteArray := prog_1_method_56_code
def yX0_mean : MethodName := ⟨RX0, "mean", "(II)I"⟩
def dkwX0_mean_4 : List UInt8 := [29, 172]
abbrev dktX0_mean_4 : List UInt8 := dkwX0_mean_4 ++ []
def dkwX0_mean_3 : List UInt8 := [182, 0, 231, 29, 42, 180, 0, 63, 42, 180, 0, 48, 3, 182, 1, 55, 96, 62, 132, 4, 1, 167, 255, 195]
abbrev dktX0_mean_3 : List UInt8 := dkwX0_mean_3 ++ dktX0_mean_4
def dkwX0_mean_2 : List UInt8 := [180, 0, 63, 42, 180, 0, 48, 180, 1, 108, 21, 4, 96, 181, 1, 111, 42, 42, 180, 0, 63, 28]
abbrev dktX0_mean_2 : List UInt8 := dkwX0_mean_2 ++ dktX0_mean_3
def dkwX0_mean_1 : List UInt8 := [62, 3, 54, 4, 21, 4, 27, 162, 0, 61, 42, 180, 0, 63, 42, 180, 0, 59, 182, 0, 221, 42]
abbrev dktX0_mean_1 : List UInt8 := dkwX0_mean_1 ++ dktX0_mean_2
def dkwX0_mean_0 : List UInt8 := [27, 4, 16, 20, 184, 0, 149, 153, 0, 14, 28, 3, 17, 2, 88, 184, 0, 149, 154, 0, 5, 2, 172, 3]
abbrev dktX0_mean_0 : List UInt8 := dkwX0_mean_0 ++ dktX0_mean_1
theorem dksX0_mean_0 : cX0_mean.data.toList.drop 0 = dktX0_mean_0 := by decide +kernel
theorem dksX0_mean_1 : cX0_mean.data.toList.drop 24 = dktX0_mean_1 := dk_seg dksX0_mean_0 24 rfl rfl
theorem dksX0_mean_2 : cX0_mean.data.toList.drop 46 = dktX0_mean_2 := dk_seg dksX0_mean_1 22 rfl rfl
theorem dksX0_mean_3 : cX0_mean.data.toList.drop 68 = dktX0_mean_3 := dk_seg dksX0_mean_2 22 rfl rfl
theorem dksX0_mean_4 : cX0_mean.data.toList.drop 92 = dktX0_mean_4 := dk_seg dksX0_mean_3 24 rfl rfl
theorem dX0_mean_0 : decode cX0_mean 0 = .ok (.iload_n 1, 1) := dk_27 (dk_at dksX0_mean_0 0 rfl rfl)
theorem dX0_mean_1 : decode cX0_mean 1 = .ok (.iconst 1, 1) := dk_4 (dk_at dksX0_mean_0 1 rfl rfl)
theorem dX0_mean_2 : decode cX0_mean 2 = .ok (.bipush 20, 2) := dk_16 20 (dk_at dksX0_mean_0 2 rfl rfl)
theorem dX0_mean_4 : decode cX0_mean 4 = .ok (.invokestatic 149, 3) := dk_184 0 149 (dk_at dksX0_mean_0 4 rfl rfl)
theorem dX0_mean_7 : decode cX0_mean 7 = .ok (.ifCond .eq 14, 3) := dk_153 0 14 (dk_at dksX0_mean_0 7 rfl rfl)
theorem dX0_mean_10 : decode cX0_mean 10 = .ok (.iload_n 2, 1) := dk_28 (dk_at dksX0_mean_0 10 rfl rfl)
theorem dX0_mean_11 : decode cX0_mean 11 = .ok (.iconst 0, 1) := dk_3 (dk_at dksX0_mean_0 11 rfl rfl)
theorem dX0_mean_12 : decode cX0_mean 12 = .ok (.sipush 600, 3) := dk_17 2 88 (dk_at dksX0_mean_0 12 rfl rfl)
theorem dX0_mean_15 : decode cX0_mean 15 = .ok (.invokestatic 149, 3) := dk_184 0 149 (dk_at dksX0_mean_0 15 rfl rfl)
theorem dX0_mean_18 : decode cX0_mean 18 = .ok (.ifCond .ne 5, 3) := dk_154 0 5 (dk_at dksX0_mean_0 18 rfl rfl)
theorem dX0_mean_21 : decode cX0_mean 21 = .ok (.iconst (-1), 1) := dk_2 (dk_at dksX0_mean_0 21 rfl rfl)
theorem dX0_mean_22 : decode cX0_mean 22 = .ok (.ireturn, 1) := dk_172 (dk_at dksX0_mean_0 22 rfl rfl)
theorem dX0_mean_23 : decode cX0_mean 23 = .ok (.iconst 0, 1) := dk_3 (dk_at dksX0_mean_0 23 rfl rfl)
theorem dX0_mean_24 : decode cX0_mean 24 = .ok (.istore_n 3, 1) := dk_62 (dk_at dksX0_mean_1 0 rfl rfl)
theorem dX0_mean_25 : decode cX0_mean 25 = .ok (.iconst 0, 1) := dk_3 (dk_at dksX0_mean_1 1 rfl rfl)
theorem dX0_mean_26 : decode cX0_mean 26 = .ok (.istore 4, 2) := dk_54 4 (dk_at dksX0_mean_1 2 rfl rfl)
theorem dX0_mean_28 : decode cX0_mean 28 = .ok (.iload 4, 2) := dk_21 4 (dk_at dksX0_mean_1 4 rfl rfl)
theorem dX0_mean_30 : decode cX0_mean 30 = .ok (.iload_n 1, 1) := dk_27 (dk_at dksX0_mean_1 6 rfl rfl)
theorem dX0_mean_31 : decode cX0_mean 31 = .ok (.if_icmp .ge 61, 3) := dk_162 0 61 (dk_at dksX0_mean_1 7 rfl rfl)
theorem dX0_mean_34 : decode cX0_mean 34 = .ok (.aload_n 0, 1) := dk_42 (dk_at dksX0_mean_1 10 rfl rfl)
theorem dX0_mean_35 : decode cX0_mean 35 = .ok (.getfield 63, 3) := dk_180 0 63 (dk_at dksX0_mean_1 11 rfl rfl)
theorem dX0_mean_38 : decode cX0_mean 38 = .ok (.aload_n 0, 1) := dk_42 (dk_at dksX0_mean_1 14 rfl rfl)
theorem dX0_mean_39 : decode cX0_mean 39 = .ok (.getfield 59, 3) := dk_180 0 59 (dk_at dksX0_mean_1 15 rfl rfl)
theorem dX0_mean_42 : decode cX0_mean 42 = .ok (.invokevirtual 221, 3) := dk_182 0 221 (dk_at dksX0_mean_1 18 rfl rfl)
theorem dX0_mean_45 : decode cX0_mean 45 = .ok (.aload_n 0, 1) := dk_42 (dk_at dksX0_mean_1 21 rfl rfl)
theorem dX0_mean_46 : decode cX0_mean 46 = .ok (.getfield 63, 3) := dk_180 0 63 (dk_at dksX0_mean_2 0 rfl rfl)
theorem dX0_mean_49 : decode cX0_mean 49 = .ok (.aload_n 0, 1) := dk_42 (dk_at dksX0_mean_2 3 rfl rfl)
theorem dX0_mean_50 : decode cX0_mean 50 = .ok (.getfield 48, 3) := dk_180 0 48 (dk_at dksX0_mean_2 4 rfl rfl)
theorem dX0_mean_53 : decode cX0_mean 53 = .ok (.getfield 364, 3) := dk_180 1 108 (dk_at dksX0_mean_2 7 rfl rfl)
theorem dX0_mean_56 : decode cX0_mean 56 = .ok (.iload 4, 2) := dk_21 4 (dk_at dksX0_mean_2 10 rfl rfl)
theorem dX0_mean_58 : decode cX0_mean 58 = .ok (.iadd, 1) := dk_96 (dk_at dksX0_mean_2 12 rfl rfl)
theorem dX0_mean_59 : decode cX0_mean 59 = .ok (.putfield 367, 3) := dk_181 1 111 (dk_at dksX0_mean_2 13 rfl rfl)
theorem dX0_mean_62 : decode cX0_mean 62 = .ok (.aload_n 0, 1) := dk_42 (dk_at dksX0_mean_2 16 rfl rfl)
theorem dX0_mean_63 : decode cX0_mean 63 = .ok (.aload_n 0, 1) := dk_42 (dk_at dksX0_mean_2 17 rfl rfl)
theorem dX0_mean_64 : decode cX0_mean 64 = .ok (.getfield 63, 3) := dk_180 0 63 (dk_at dksX0_mean_2 18 rfl rfl)
theorem dX0_mean_67 : decode cX0_mean 67 = .ok (.iload_n 2, 1) := dk_28 (dk_at dksX0_mean_2 21 rfl rfl)
theorem dX0_mean_68 : decode cX0_mean 68 = .ok (.invokevirtual 231, 3) := dk_182 0 231 (dk_at dksX0_mean_3 0 rfl rfl)
theorem dX0_mean_71 : decode cX0_mean 71 = .ok (.iload_n 3, 1) := dk_29 (dk_at dksX0_mean_3 3 rfl rfl)
theorem dX0_mean_72 : decode cX0_mean 72 = .ok (.aload_n 0, 1) := dk_42 (dk_at dksX0_mean_3 4 rfl rfl)
theorem dX0_mean_73 : decode cX0_mean 73 = .ok (.getfield 63, 3) := dk_180 0 63 (dk_at dksX0_mean_3 5 rfl rfl)
theorem dX0_mean_76 : decode cX0_mean 76 = .ok (.aload_n 0, 1) := dk_42 (dk_at dksX0_mean_3 8 rfl rfl)
theorem dX0_mean_77 : decode cX0_mean 77 = .ok (.getfield 48, 3) := dk_180 0 48 (dk_at dksX0_mean_3 9 rfl rfl)
theorem dX0_mean_80 : decode cX0_mean 80 = .ok (.iconst 0, 1) := dk_3 (dk_at dksX0_mean_3 12 rfl rfl)
theorem dX0_mean_81 : decode cX0_mean 81 = .ok (.invokevirtual 311, 3) := dk_182 1 55 (dk_at dksX0_mean_3 13 rfl rfl)
theorem dX0_mean_84 : decode cX0_mean 84 = .ok (.iadd, 1) := dk_96 (dk_at dksX0_mean_3 16 rfl rfl)
theorem dX0_mean_85 : decode cX0_mean 85 = .ok (.istore_n 3, 1) := dk_62 (dk_at dksX0_mean_3 17 rfl rfl)
theorem dX0_mean_86 : decode cX0_mean 86 = .ok (.iinc 4 1, 3) := dk_132 4 1 (dk_at dksX0_mean_3 18 rfl rfl)
theorem dX0_mean_89 : decode cX0_mean 89 = .ok (.goto (-61), 3) := dk_167 255 195 (dk_at dksX0_mean_3 21 rfl rfl)
theorem dX0_mean_92 : decode cX0_mean 92 = .ok (.iload_n 3, 1) := dk_29 (dk_at dksX0_mean_4 0 rfl rfl)
theorem dX0_mean_93 : decode cX0_mean 93 = .ok (.ireturn, 1) := dk_172 (dk_at dksX0_mean_4 1 rfl rfl)
abbrev cX0_sales : ByteArray := prog_1_method_58_code
def yX0_sales : MethodName := ⟨RX0, "sales", "(I)I"⟩
def dkwX0_sales_3 : List UInt8 := [27, 154, 0, 11, 42, 28, 182, 1, 112, 167, 0, 4, 28, 172]
abbrev dktX0_sales_3 : List UInt8 := dkwX0_sales_3 ++ []
def dkwX0_sales_2 : List UInt8 := [42, 28, 182, 1, 112, 164, 0, 13, 42, 29, 182, 1, 18, 153, 0, 5, 29, 61, 132, 3, 1, 167, 255, 202]
abbrev dktX0_sales_2 : List UInt8 := dkwX0_sales_2 ++ dktX0_sales_3
def dkwX0_sales_1 : List UInt8 := [182, 0, 135, 120, 162, 0, 44, 29, 42, 180, 0, 59, 180, 1, 15, 126, 154, 0, 26, 42, 29, 182, 1, 112]
abbrev dktX0_sales_1 : List UInt8 := dkwX0_sales_1 ++ dktX0_sales_2
def dkwX0_sales_0 : List UInt8 := [27, 3, 4, 184, 0, 149, 154, 0, 5, 2, 172, 3, 61, 4, 62, 29, 4, 42, 180, 0, 48, 180, 0, 255]
abbrev dktX0_sales_0 : List UInt8 := dkwX0_sales_0 ++ dktX0_sales_1
theorem dksX0_sales_0 : cX0_sales.data.toList.drop 0 = dktX0_sales_0 := by decide +kernel
theorem dksX0_sales_1 : cX0_sales.data.toList.drop 24 = dktX0_sales_1 := dk_seg dksX0_sales_0 24 rfl rfl
theorem dksX0_sales_2 : cX0_sales.data.toList.drop 48 = dktX0_sales_2 := dk_seg dksX0_sales_1 24 rfl rfl
theorem dksX0_sales_3 : cX0_sales.data.toList.drop 72 = dktX0_sales_3 := dk_seg dksX0_sales_2 24 rfl rfl
theorem dX0_sales_0 : decode cX0_sales 0 = .ok (.iload_n 1, 1) := dk_27 (dk_at dksX0_sales_0 0 rfl rfl)
theorem dX0_sales_1 : decode cX0_sales 1 = .ok (.iconst 0, 1) := dk_3 (dk_at dksX0_sales_0 1 rfl rfl)
theorem dX0_sales_2 : decode cX0_sales 2 = .ok (.iconst 1, 1) := dk_4 (dk_at dksX0_sales_0 2 rfl rfl)
theorem dX0_sales_3 : decode cX0_sales 3 = .ok (.invokestatic 149, 3) := dk_184 0 149 (dk_at dksX0_sales_0 3 rfl rfl)
theorem dX0_sales_6 : decode cX0_sales 6 = .ok (.ifCond .ne 5, 3) := dk_154 0 5 (dk_at dksX0_sales_0 6 rfl rfl)
theorem dX0_sales_9 : decode cX0_sales 9 = .ok (.iconst (-1), 1) := dk_2 (dk_at dksX0_sales_0 9 rfl rfl)
theorem dX0_sales_10 : decode cX0_sales 10 = .ok (.ireturn, 1) := dk_172 (dk_at dksX0_sales_0 10 rfl rfl)
theorem dX0_sales_11 : decode cX0_sales 11 = .ok (.iconst 0, 1) := dk_3 (dk_at dksX0_sales_0 11 rfl rfl)
theorem dX0_sales_12 : decode cX0_sales 12 = .ok (.istore_n 2, 1) := dk_61 (dk_at dksX0_sales_0 12 rfl rfl)
theorem dX0_sales_13 : decode cX0_sales 13 = .ok (.iconst 1, 1) := dk_4 (dk_at dksX0_sales_0 13 rfl rfl)
theorem dX0_sales_14 : decode cX0_sales 14 = .ok (.istore_n 3, 1) := dk_62 (dk_at dksX0_sales_0 14 rfl rfl)
theorem dX0_sales_15 : decode cX0_sales 15 = .ok (.iload_n 3, 1) := dk_29 (dk_at dksX0_sales_0 15 rfl rfl)
theorem dX0_sales_16 : decode cX0_sales 16 = .ok (.iconst 1, 1) := dk_4 (dk_at dksX0_sales_0 16 rfl rfl)
theorem dX0_sales_17 : decode cX0_sales 17 = .ok (.aload_n 0, 1) := dk_42 (dk_at dksX0_sales_0 17 rfl rfl)
theorem dX0_sales_18 : decode cX0_sales 18 = .ok (.getfield 48, 3) := dk_180 0 48 (dk_at dksX0_sales_0 18 rfl rfl)
theorem dX0_sales_21 : decode cX0_sales 21 = .ok (.getfield 255, 3) := dk_180 0 255 (dk_at dksX0_sales_0 21 rfl rfl)
theorem dX0_sales_24 : decode cX0_sales 24 = .ok (.invokevirtual 135, 3) := dk_182 0 135 (dk_at dksX0_sales_1 0 rfl rfl)
theorem dX0_sales_27 : decode cX0_sales 27 = .ok (.ishl, 1) := dk_120 (dk_at dksX0_sales_1 3 rfl rfl)
theorem dX0_sales_28 : decode cX0_sales 28 = .ok (.if_icmp .ge 44, 3) := dk_162 0 44 (dk_at dksX0_sales_1 4 rfl rfl)
theorem dX0_sales_31 : decode cX0_sales 31 = .ok (.iload_n 3, 1) := dk_29 (dk_at dksX0_sales_1 7 rfl rfl)
theorem dX0_sales_32 : decode cX0_sales 32 = .ok (.aload_n 0, 1) := dk_42 (dk_at dksX0_sales_1 8 rfl rfl)
theorem dX0_sales_33 : decode cX0_sales 33 = .ok (.getfield 59, 3) := dk_180 0 59 (dk_at dksX0_sales_1 9 rfl rfl)
theorem dX0_sales_36 : decode cX0_sales 36 = .ok (.getfield 271, 3) := dk_180 1 15 (dk_at dksX0_sales_1 12 rfl rfl)
theorem dX0_sales_39 : decode cX0_sales 39 = .ok (.iand, 1) := dk_126 (dk_at dksX0_sales_1 15 rfl rfl)
theorem dX0_sales_40 : decode cX0_sales 40 = .ok (.ifCond .ne 26, 3) := dk_154 0 26 (dk_at dksX0_sales_1 16 rfl rfl)
theorem dX0_sales_43 : decode cX0_sales 43 = .ok (.aload_n 0, 1) := dk_42 (dk_at dksX0_sales_1 19 rfl rfl)
theorem dX0_sales_44 : decode cX0_sales 44 = .ok (.iload_n 3, 1) := dk_29 (dk_at dksX0_sales_1 20 rfl rfl)
theorem dX0_sales_45 : decode cX0_sales 45 = .ok (.invokevirtual 368, 3) := dk_182 1 112 (dk_at dksX0_sales_1 21 rfl rfl)
theorem dX0_sales_48 : decode cX0_sales 48 = .ok (.aload_n 0, 1) := dk_42 (dk_at dksX0_sales_2 0 rfl rfl)
theorem dX0_sales_49 : decode cX0_sales 49 = .ok (.iload_n 2, 1) := dk_28 (dk_at dksX0_sales_2 1 rfl rfl)
theorem dX0_sales_50 : decode cX0_sales 50 = .ok (.invokevirtual 368, 3) := dk_182 1 112 (dk_at dksX0_sales_2 2 rfl rfl)
theorem dX0_sales_53 : decode cX0_sales 53 = .ok (.if_icmp .le 13, 3) := dk_164 0 13 (dk_at dksX0_sales_2 5 rfl rfl)
theorem dX0_sales_56 : decode cX0_sales 56 = .ok (.aload_n 0, 1) := dk_42 (dk_at dksX0_sales_2 8 rfl rfl)
theorem dX0_sales_57 : decode cX0_sales 57 = .ok (.iload_n 3, 1) := dk_29 (dk_at dksX0_sales_2 9 rfl rfl)
theorem dX0_sales_58 : decode cX0_sales 58 = .ok (.invokevirtual 274, 3) := dk_182 1 18 (dk_at dksX0_sales_2 10 rfl rfl)
theorem dX0_sales_61 : decode cX0_sales 61 = .ok (.ifCond .eq 5, 3) := dk_153 0 5 (dk_at dksX0_sales_2 13 rfl rfl)
theorem dX0_sales_64 : decode cX0_sales 64 = .ok (.iload_n 3, 1) := dk_29 (dk_at dksX0_sales_2 16 rfl rfl)
theorem dX0_sales_65 : decode cX0_sales 65 = .ok (.istore_n 2, 1) := dk_61 (dk_at dksX0_sales_2 17 rfl rfl)
theorem dX0_sales_66 : decode cX0_sales 66 = .ok (.iinc 3 1, 3) := dk_132 3 1 (dk_at dksX0_sales_2 18 rfl rfl)
theorem dX0_sales_69 : decode cX0_sales 69 = .ok (.goto (-54), 3) := dk_167 255 202 (dk_at dksX0_sales_2 21 rfl rfl)
theorem dX0_sales_72 : decode cX0_sales 72 = .ok (.iload_n 1, 1) := dk_27 (dk_at dksX0_sales_3 0 rfl rfl)
theorem dX0_sales_73 : decode cX0_sales 73 = .ok (.ifCond .ne 11, 3) := dk_154 0 11 (dk_at dksX0_sales_3 1 rfl rfl)
theorem dX0_sales_76 : decode cX0_sales 76 = .ok (.aload_n 0, 1) := dk_42 (dk_at dksX0_sales_3 4 rfl rfl)
theorem dX0_sales_77 : decode cX0_sales 77 = .ok (.iload_n 2, 1) := dk_28 (dk_at dksX0_sales_3 5 rfl rfl)
theorem dX0_sales_78 : decode cX0_sales 78 = .ok (.invokevirtual 368, 3) := dk_182 1 112 (dk_at dksX0_sales_3 6 rfl rfl)
theorem dX0_sales_81 : decode cX0_sales 81 = .ok (.goto 4, 3) := dk_167 0 4 (dk_at dksX0_sales_3 9 rfl rfl)
theorem dX0_sales_84 : decode cX0_sales 84 = .ok (.iload_n 2, 1) := dk_28 (dk_at dksX0_sales_3 12 rfl rfl)
theorem dX0_sales_85 : decode cX0_sales 85 = .ok (.ireturn, 1) := dk_172 (dk_at dksX0_sales_3 13 rfl rfl)
abbrev cX0_pays : ByteArray := prog_1_method_57_code
def yX0_pays : MethodName := ⟨RX0, "pays", "(I)I"⟩
def dkwX0_pays_2 : List UInt8 := [3, 96, 61, 132, 3, 1, 167, 255, 206, 28, 172]
abbrev dktX0_pays_2 : List UInt8 := dkwX0_pays_2 ++ []
def dkwX0_pays_1 : List UInt8 := [4, 160, 0, 23, 42, 180, 0, 48, 180, 0, 255, 29, 182, 0, 205, 192, 1, 2, 180, 1, 27, 167, 0, 4]
abbrev dktX0_pays_1 : List UInt8 := dkwX0_pays_1 ++ dktX0_pays_2
def dkwX0_pays_0 : List UInt8 := [3, 61, 3, 62, 29, 42, 180, 0, 48, 180, 0, 255, 182, 0, 135, 162, 0, 42, 28, 27, 29, 122, 4, 126]
abbrev dktX0_pays_0 : List UInt8 := dkwX0_pays_0 ++ dktX0_pays_1
theorem dksX0_pays_0 : cX0_pays.data.toList.drop 0 = dktX0_pays_0 := by decide +kernel
theorem dksX0_pays_1 : cX0_pays.data.toList.drop 24 = dktX0_pays_1 := dk_seg dksX0_pays_0 24 rfl rfl
theorem dksX0_pays_2 : cX0_pays.data.toList.drop 48 = dktX0_pays_2 := dk_seg dksX0_pays_1 24 rfl rfl
theorem dX0_pays_0 : decode cX0_pays 0 = .ok (.iconst 0, 1) := dk_3 (dk_at dksX0_pays_0 0 rfl rfl)
theorem dX0_pays_1 : decode cX0_pays 1 = .ok (.istore_n 2, 1) := dk_61 (dk_at dksX0_pays_0 1 rfl rfl)
theorem dX0_pays_2 : decode cX0_pays 2 = .ok (.iconst 0, 1) := dk_3 (dk_at dksX0_pays_0 2 rfl rfl)
theorem dX0_pays_3 : decode cX0_pays 3 = .ok (.istore_n 3, 1) := dk_62 (dk_at dksX0_pays_0 3 rfl rfl)
theorem dX0_pays_4 : decode cX0_pays 4 = .ok (.iload_n 3, 1) := dk_29 (dk_at dksX0_pays_0 4 rfl rfl)
theorem dX0_pays_5 : decode cX0_pays 5 = .ok (.aload_n 0, 1) := dk_42 (dk_at dksX0_pays_0 5 rfl rfl)
theorem dX0_pays_6 : decode cX0_pays 6 = .ok (.getfield 48, 3) := dk_180 0 48 (dk_at dksX0_pays_0 6 rfl rfl)
theorem dX0_pays_9 : decode cX0_pays 9 = .ok (.getfield 255, 3) := dk_180 0 255 (dk_at dksX0_pays_0 9 rfl rfl)
theorem dX0_pays_12 : decode cX0_pays 12 = .ok (.invokevirtual 135, 3) := dk_182 0 135 (dk_at dksX0_pays_0 12 rfl rfl)
theorem dX0_pays_15 : decode cX0_pays 15 = .ok (.if_icmp .ge 42, 3) := dk_162 0 42 (dk_at dksX0_pays_0 15 rfl rfl)
theorem dX0_pays_18 : decode cX0_pays 18 = .ok (.iload_n 2, 1) := dk_28 (dk_at dksX0_pays_0 18 rfl rfl)
theorem dX0_pays_19 : decode cX0_pays 19 = .ok (.iload_n 1, 1) := dk_27 (dk_at dksX0_pays_0 19 rfl rfl)
theorem dX0_pays_20 : decode cX0_pays 20 = .ok (.iload_n 3, 1) := dk_29 (dk_at dksX0_pays_0 20 rfl rfl)
theorem dX0_pays_21 : decode cX0_pays 21 = .ok (.ishr, 1) := dk_122 (dk_at dksX0_pays_0 21 rfl rfl)
theorem dX0_pays_22 : decode cX0_pays 22 = .ok (.iconst 1, 1) := dk_4 (dk_at dksX0_pays_0 22 rfl rfl)
theorem dX0_pays_23 : decode cX0_pays 23 = .ok (.iand, 1) := dk_126 (dk_at dksX0_pays_0 23 rfl rfl)
theorem dX0_pays_24 : decode cX0_pays 24 = .ok (.iconst 1, 1) := dk_4 (dk_at dksX0_pays_1 0 rfl rfl)
theorem dX0_pays_25 : decode cX0_pays 25 = .ok (.if_icmp .ne 23, 3) := dk_160 0 23 (dk_at dksX0_pays_1 1 rfl rfl)
theorem dX0_pays_28 : decode cX0_pays 28 = .ok (.aload_n 0, 1) := dk_42 (dk_at dksX0_pays_1 4 rfl rfl)
theorem dX0_pays_29 : decode cX0_pays 29 = .ok (.getfield 48, 3) := dk_180 0 48 (dk_at dksX0_pays_1 5 rfl rfl)
theorem dX0_pays_32 : decode cX0_pays 32 = .ok (.getfield 255, 3) := dk_180 0 255 (dk_at dksX0_pays_1 8 rfl rfl)
theorem dX0_pays_35 : decode cX0_pays 35 = .ok (.iload_n 3, 1) := dk_29 (dk_at dksX0_pays_1 11 rfl rfl)
theorem dX0_pays_36 : decode cX0_pays 36 = .ok (.invokevirtual 205, 3) := dk_182 0 205 (dk_at dksX0_pays_1 12 rfl rfl)
theorem dX0_pays_39 : decode cX0_pays 39 = .ok (.checkcast 258, 3) := dk_192 1 2 (dk_at dksX0_pays_1 15 rfl rfl)
theorem dX0_pays_42 : decode cX0_pays 42 = .ok (.getfield 283, 3) := dk_180 1 27 (dk_at dksX0_pays_1 18 rfl rfl)
theorem dX0_pays_45 : decode cX0_pays 45 = .ok (.goto 4, 3) := dk_167 0 4 (dk_at dksX0_pays_1 21 rfl rfl)
theorem dX0_pays_48 : decode cX0_pays 48 = .ok (.iconst 0, 1) := dk_3 (dk_at dksX0_pays_2 0 rfl rfl)
theorem dX0_pays_49 : decode cX0_pays 49 = .ok (.iadd, 1) := dk_96 (dk_at dksX0_pays_2 1 rfl rfl)
theorem dX0_pays_50 : decode cX0_pays 50 = .ok (.istore_n 2, 1) := dk_61 (dk_at dksX0_pays_2 2 rfl rfl)
theorem dX0_pays_51 : decode cX0_pays 51 = .ok (.iinc 3 1, 3) := dk_132 3 1 (dk_at dksX0_pays_2 3 rfl rfl)
theorem dX0_pays_54 : decode cX0_pays 54 = .ok (.goto (-50), 3) := dk_167 255 206 (dk_at dksX0_pays_2 6 rfl rfl)
theorem dX0_pays_57 : decode cX0_pays 57 = .ok (.iload_n 2, 1) := dk_28 (dk_at dksX0_pays_2 9 rfl rfl)
theorem dX0_pays_58 : decode cX0_pays 58 = .ok (.ireturn, 1) := dk_172 (dk_at dksX0_pays_2 10 rfl rfl)
abbrev cX0_tell : ByteArray := prog_1_method_59_code
def yX0_tell : MethodName := ⟨RX0, "tell", "(IIII)I"⟩
def dkwX0_tell_4 : List UInt8 := [180, 0, 124, 4, 96, 181, 0, 124, 42, 180, 0, 124, 4, 100, 172]
abbrev dktX0_tell_4 : List UInt8 := dkwX0_tell_4 ++ []
def dkwX0_tell_3 : List UInt8 := [180, 0, 96, 42, 180, 0, 124, 29, 79, 42, 180, 0, 99, 42, 180, 0, 124, 21, 4, 79, 42, 89]
abbrev dktX0_tell_3 : List UInt8 := dkwX0_tell_3 ++ dktX0_tell_4
def dkwX0_tell_2 : List UInt8 := [2, 172, 42, 180, 0, 90, 42, 180, 0, 124, 27, 79, 42, 180, 0, 93, 42, 180, 0, 124, 28, 79, 42]
abbrev dktX0_tell_2 : List UInt8 := dkwX0_tell_2 ++ dktX0_tell_3
def dkwX0_tell_1 : List UInt8 := [153, 0, 24, 21, 4, 3, 17, 39, 15, 184, 0, 149, 153, 0, 12, 42, 180, 0, 124, 16, 20, 160, 0, 5]
abbrev dktX0_tell_1 : List UInt8 := dkwX0_tell_1 ++ dktX0_tell_2
def dkwX0_tell_0 : List UInt8 := [42, 27, 182, 0, 164, 153, 0, 42, 42, 28, 182, 0, 157, 153, 0, 34, 29, 3, 16, 99, 184, 0, 149]
abbrev dktX0_tell_0 : List UInt8 := dkwX0_tell_0 ++ dktX0_tell_1
theorem dksX0_tell_0 : cX0_tell.data.toList.drop 0 = dktX0_tell_0 := by decide +kernel
theorem dksX0_tell_1 : cX0_tell.data.toList.drop 23 = dktX0_tell_1 := dk_seg dksX0_tell_0 23 rfl rfl
theorem dksX0_tell_2 : cX0_tell.data.toList.drop 47 = dktX0_tell_2 := dk_seg dksX0_tell_1 24 rfl rfl
theorem dksX0_tell_3 : cX0_tell.data.toList.drop 70 = dktX0_tell_3 := dk_seg dksX0_tell_2 23 rfl rfl
theorem dksX0_tell_4 : cX0_tell.data.toList.drop 92 = dktX0_tell_4 := dk_seg dksX0_tell_3 22 rfl rfl
theorem dX0_tell_0 : decode cX0_tell 0 = .ok (.aload_n 0, 1) := dk_42 (dk_at dksX0_tell_0 0 rfl rfl)
theorem dX0_tell_1 : decode cX0_tell 1 = .ok (.iload_n 1, 1) := dk_27 (dk_at dksX0_tell_0 1 rfl rfl)
theorem dX0_tell_2 : decode cX0_tell 2 = .ok (.invokevirtual 164, 3) := dk_182 0 164 (dk_at dksX0_tell_0 2 rfl rfl)
theorem dX0_tell_5 : decode cX0_tell 5 = .ok (.ifCond .eq 42, 3) := dk_153 0 42 (dk_at dksX0_tell_0 5 rfl rfl)
theorem dX0_tell_8 : decode cX0_tell 8 = .ok (.aload_n 0, 1) := dk_42 (dk_at dksX0_tell_0 8 rfl rfl)
theorem dX0_tell_9 : decode cX0_tell 9 = .ok (.iload_n 2, 1) := dk_28 (dk_at dksX0_tell_0 9 rfl rfl)
theorem dX0_tell_10 : decode cX0_tell 10 = .ok (.invokevirtual 157, 3) := dk_182 0 157 (dk_at dksX0_tell_0 10 rfl rfl)
theorem dX0_tell_13 : decode cX0_tell 13 = .ok (.ifCond .eq 34, 3) := dk_153 0 34 (dk_at dksX0_tell_0 13 rfl rfl)
theorem dX0_tell_16 : decode cX0_tell 16 = .ok (.iload_n 3, 1) := dk_29 (dk_at dksX0_tell_0 16 rfl rfl)
theorem dX0_tell_17 : decode cX0_tell 17 = .ok (.iconst 0, 1) := dk_3 (dk_at dksX0_tell_0 17 rfl rfl)
theorem dX0_tell_18 : decode cX0_tell 18 = .ok (.bipush 99, 2) := dk_16 99 (dk_at dksX0_tell_0 18 rfl rfl)
theorem dX0_tell_20 : decode cX0_tell 20 = .ok (.invokestatic 149, 3) := dk_184 0 149 (dk_at dksX0_tell_0 20 rfl rfl)
theorem dX0_tell_23 : decode cX0_tell 23 = .ok (.ifCond .eq 24, 3) := dk_153 0 24 (dk_at dksX0_tell_1 0 rfl rfl)
theorem dX0_tell_26 : decode cX0_tell 26 = .ok (.iload 4, 2) := dk_21 4 (dk_at dksX0_tell_1 3 rfl rfl)
theorem dX0_tell_28 : decode cX0_tell 28 = .ok (.iconst 0, 1) := dk_3 (dk_at dksX0_tell_1 5 rfl rfl)
theorem dX0_tell_29 : decode cX0_tell 29 = .ok (.sipush 9999, 3) := dk_17 39 15 (dk_at dksX0_tell_1 6 rfl rfl)
theorem dX0_tell_32 : decode cX0_tell 32 = .ok (.invokestatic 149, 3) := dk_184 0 149 (dk_at dksX0_tell_1 9 rfl rfl)
theorem dX0_tell_35 : decode cX0_tell 35 = .ok (.ifCond .eq 12, 3) := dk_153 0 12 (dk_at dksX0_tell_1 12 rfl rfl)
theorem dX0_tell_38 : decode cX0_tell 38 = .ok (.aload_n 0, 1) := dk_42 (dk_at dksX0_tell_1 15 rfl rfl)
theorem dX0_tell_39 : decode cX0_tell 39 = .ok (.getfield 124, 3) := dk_180 0 124 (dk_at dksX0_tell_1 16 rfl rfl)
theorem dX0_tell_42 : decode cX0_tell 42 = .ok (.bipush 20, 2) := dk_16 20 (dk_at dksX0_tell_1 19 rfl rfl)
theorem dX0_tell_44 : decode cX0_tell 44 = .ok (.if_icmp .ne 5, 3) := dk_160 0 5 (dk_at dksX0_tell_1 21 rfl rfl)
theorem dX0_tell_47 : decode cX0_tell 47 = .ok (.iconst (-1), 1) := dk_2 (dk_at dksX0_tell_2 0 rfl rfl)
theorem dX0_tell_48 : decode cX0_tell 48 = .ok (.ireturn, 1) := dk_172 (dk_at dksX0_tell_2 1 rfl rfl)
theorem dX0_tell_49 : decode cX0_tell 49 = .ok (.aload_n 0, 1) := dk_42 (dk_at dksX0_tell_2 2 rfl rfl)
theorem dX0_tell_50 : decode cX0_tell 50 = .ok (.getfield 90, 3) := dk_180 0 90 (dk_at dksX0_tell_2 3 rfl rfl)
theorem dX0_tell_53 : decode cX0_tell 53 = .ok (.aload_n 0, 1) := dk_42 (dk_at dksX0_tell_2 6 rfl rfl)
theorem dX0_tell_54 : decode cX0_tell 54 = .ok (.getfield 124, 3) := dk_180 0 124 (dk_at dksX0_tell_2 7 rfl rfl)
theorem dX0_tell_57 : decode cX0_tell 57 = .ok (.iload_n 1, 1) := dk_27 (dk_at dksX0_tell_2 10 rfl rfl)
theorem dX0_tell_58 : decode cX0_tell 58 = .ok (.iastore, 1) := dk_79 (dk_at dksX0_tell_2 11 rfl rfl)
theorem dX0_tell_59 : decode cX0_tell 59 = .ok (.aload_n 0, 1) := dk_42 (dk_at dksX0_tell_2 12 rfl rfl)
theorem dX0_tell_60 : decode cX0_tell 60 = .ok (.getfield 93, 3) := dk_180 0 93 (dk_at dksX0_tell_2 13 rfl rfl)
theorem dX0_tell_63 : decode cX0_tell 63 = .ok (.aload_n 0, 1) := dk_42 (dk_at dksX0_tell_2 16 rfl rfl)
theorem dX0_tell_64 : decode cX0_tell 64 = .ok (.getfield 124, 3) := dk_180 0 124 (dk_at dksX0_tell_2 17 rfl rfl)
theorem dX0_tell_67 : decode cX0_tell 67 = .ok (.iload_n 2, 1) := dk_28 (dk_at dksX0_tell_2 20 rfl rfl)
theorem dX0_tell_68 : decode cX0_tell 68 = .ok (.iastore, 1) := dk_79 (dk_at dksX0_tell_2 21 rfl rfl)
theorem dX0_tell_69 : decode cX0_tell 69 = .ok (.aload_n 0, 1) := dk_42 (dk_at dksX0_tell_2 22 rfl rfl)
theorem dX0_tell_70 : decode cX0_tell 70 = .ok (.getfield 96, 3) := dk_180 0 96 (dk_at dksX0_tell_3 0 rfl rfl)
theorem dX0_tell_73 : decode cX0_tell 73 = .ok (.aload_n 0, 1) := dk_42 (dk_at dksX0_tell_3 3 rfl rfl)
theorem dX0_tell_74 : decode cX0_tell 74 = .ok (.getfield 124, 3) := dk_180 0 124 (dk_at dksX0_tell_3 4 rfl rfl)
theorem dX0_tell_77 : decode cX0_tell 77 = .ok (.iload_n 3, 1) := dk_29 (dk_at dksX0_tell_3 7 rfl rfl)
theorem dX0_tell_78 : decode cX0_tell 78 = .ok (.iastore, 1) := dk_79 (dk_at dksX0_tell_3 8 rfl rfl)
theorem dX0_tell_79 : decode cX0_tell 79 = .ok (.aload_n 0, 1) := dk_42 (dk_at dksX0_tell_3 9 rfl rfl)
theorem dX0_tell_80 : decode cX0_tell 80 = .ok (.getfield 99, 3) := dk_180 0 99 (dk_at dksX0_tell_3 10 rfl rfl)
theorem dX0_tell_83 : decode cX0_tell 83 = .ok (.aload_n 0, 1) := dk_42 (dk_at dksX0_tell_3 13 rfl rfl)
theorem dX0_tell_84 : decode cX0_tell 84 = .ok (.getfield 124, 3) := dk_180 0 124 (dk_at dksX0_tell_3 14 rfl rfl)
theorem dX0_tell_87 : decode cX0_tell 87 = .ok (.iload 4, 2) := dk_21 4 (dk_at dksX0_tell_3 17 rfl rfl)
theorem dX0_tell_89 : decode cX0_tell 89 = .ok (.iastore, 1) := dk_79 (dk_at dksX0_tell_3 19 rfl rfl)
theorem dX0_tell_90 : decode cX0_tell 90 = .ok (.aload_n 0, 1) := dk_42 (dk_at dksX0_tell_3 20 rfl rfl)
theorem dX0_tell_91 : decode cX0_tell 91 = .ok (.dup, 1) := dk_89 (dk_at dksX0_tell_3 21 rfl rfl)
theorem dX0_tell_92 : decode cX0_tell 92 = .ok (.getfield 124, 3) := dk_180 0 124 (dk_at dksX0_tell_4 0 rfl rfl)
theorem dX0_tell_95 : decode cX0_tell 95 = .ok (.iconst 1, 1) := dk_4 (dk_at dksX0_tell_4 3 rfl rfl)
theorem dX0_tell_96 : decode cX0_tell 96 = .ok (.iadd, 1) := dk_96 (dk_at dksX0_tell_4 4 rfl rfl)
theorem dX0_tell_97 : decode cX0_tell 97 = .ok (.putfield 124, 3) := dk_181 0 124 (dk_at dksX0_tell_4 5 rfl rfl)
theorem dX0_tell_100 : decode cX0_tell 100 = .ok (.aload_n 0, 1) := dk_42 (dk_at dksX0_tell_4 8 rfl rfl)
theorem dX0_tell_101 : decode cX0_tell 101 = .ok (.getfield 124, 3) := dk_180 0 124 (dk_at dksX0_tell_4 9 rfl rfl)
theorem dX0_tell_104 : decode cX0_tell 104 = .ok (.iconst 1, 1) := dk_4 (dk_at dksX0_tell_4 12 rfl rfl)
theorem dX0_tell_105 : decode cX0_tell 105 = .ok (.isub, 1) := dk_100 (dk_at dksX0_tell_4 13 rfl rfl)
theorem dX0_tell_106 : decode cX0_tell 106 = .ok (.ireturn, 1) := dk_172 (dk_at dksX0_tell_4 14 rfl rfl)
abbrev cX0_forget : ByteArray := prog_1_method_60_code
def yX0_forget : MethodName := ⟨RX0, "forget", "()I"⟩
def dkwX0_forget_0 : List UInt8 := [42, 180, 0, 124, 60, 42, 3, 181, 0, 124, 27, 172]
abbrev dktX0_forget_0 : List UInt8 := dkwX0_forget_0 ++ []
theorem dksX0_forget_0 : cX0_forget.data.toList.drop 0 = dktX0_forget_0 := by decide +kernel
theorem dX0_forget_0 : decode cX0_forget 0 = .ok (.aload_n 0, 1) := dk_42 (dk_at dksX0_forget_0 0 rfl rfl)
theorem dX0_forget_1 : decode cX0_forget 1 = .ok (.getfield 124, 3) := dk_180 0 124 (dk_at dksX0_forget_0 1 rfl rfl)
theorem dX0_forget_4 : decode cX0_forget 4 = .ok (.istore_n 1, 1) := dk_60 (dk_at dksX0_forget_0 4 rfl rfl)
theorem dX0_forget_5 : decode cX0_forget 5 = .ok (.aload_n 0, 1) := dk_42 (dk_at dksX0_forget_0 5 rfl rfl)
theorem dX0_forget_6 : decode cX0_forget 6 = .ok (.iconst 0, 1) := dk_3 (dk_at dksX0_forget_0 6 rfl rfl)
theorem dX0_forget_7 : decode cX0_forget 7 = .ok (.putfield 124, 3) := dk_181 0 124 (dk_at dksX0_forget_0 7 rfl rfl)
theorem dX0_forget_10 : decode cX0_forget 10 = .ok (.iload_n 1, 1) := dk_27 (dk_at dksX0_forget_0 10 rfl rfl)
theorem dX0_forget_11 : decode cX0_forget 11 = .ok (.ireturn, 1) := dk_172 (dk_at dksX0_forget_0 11 rfl rfl)
abbrev cX0_jokes : ByteArray := prog_1_method_62_code
def yX0_jokes : MethodName := ⟨RX0, "jokes", "(II)I"⟩
def dkwX0_jokes_6 : List UInt8 := [167, 255, 166, 28, 2, 160, 0, 7, 29, 167, 0, 4, 2, 172]
abbrev dktX0_jokes_6 : List UInt8 := dkwX0_jokes_6 ++ []
def dkwX0_jokes_5 : List UInt8 := [21, 6, 96, 172, 132, 3, 1, 132, 6, 1, 167, 255, 205, 132, 5, 1, 167, 255, 187, 132, 4, 1]
abbrev dktX0_jokes_5 : List UInt8 := dkwX0_jokes_5 ++ dktX0_jokes_6
def dkwX0_jokes_4 : List UInt8 := [154, 0, 6, 167, 0, 27, 29, 28, 160, 0, 19, 17, 3, 232, 21, 4, 104, 16, 100, 21, 5, 104, 96]
abbrev dktX0_jokes_4 : List UInt8 := dkwX0_jokes_4 ++ dktX0_jokes_5
def dkwX0_jokes_3 : List UInt8 := [162, 0, 66, 3, 54, 6, 21, 6, 16, 60, 163, 0, 50, 42, 21, 4, 21, 5, 21, 6, 27, 182, 1, 114]
abbrev dktX0_jokes_3 : List UInt8 := dkwX0_jokes_3 ++ dktX0_jokes_4
def dkwX0_jokes_2 : List UInt8 := [3, 54, 4, 21, 4, 42, 182, 0, 153, 162, 0, 87, 21, 4, 4, 96, 54, 5, 21, 5, 42, 182, 0, 153]
abbrev dktX0_jokes_2 : List UInt8 := dkwX0_jokes_2 ++ dktX0_jokes_3
def dkwX0_jokes_1 : List UInt8 := [182, 1, 114, 153, 0, 7, 4, 167, 0, 4, 3, 62, 29, 4, 160, 0, 10, 28, 154, 0, 6, 16, 253, 172]
abbrev dktX0_jokes_1 : List UInt8 := dkwX0_jokes_1 ++ dktX0_jokes_2
def dkwX0_jokes_0 : List UInt8 := [27, 3, 42, 180, 0, 124, 184, 0, 149, 153, 0, 8, 28, 2, 162, 0, 5, 2, 172, 42, 2, 2, 3, 27]
abbrev dktX0_jokes_0 : List UInt8 := dkwX0_jokes_0 ++ dktX0_jokes_1
theorem dksX0_jokes_0 : cX0_jokes.data.toList.drop 0 = dktX0_jokes_0 := by decide +kernel
theorem dksX0_jokes_1 : cX0_jokes.data.toList.drop 24 = dktX0_jokes_1 := dk_seg dksX0_jokes_0 24 rfl rfl
theorem dksX0_jokes_2 : cX0_jokes.data.toList.drop 48 = dktX0_jokes_2 := dk_seg dksX0_jokes_1 24 rfl rfl
theorem dksX0_jokes_3 : cX0_jokes.data.toList.drop 72 = dktX0_jokes_3 := dk_seg dksX0_jokes_2 24 rfl rfl
theorem dksX0_jokes_4 : cX0_jokes.data.toList.drop 96 = dktX0_jokes_4 := dk_seg dksX0_jokes_3 24 rfl rfl
theorem dksX0_jokes_5 : cX0_jokes.data.toList.drop 119 = dktX0_jokes_5 := dk_seg dksX0_jokes_4 23 rfl rfl
theorem dksX0_jokes_6 : cX0_jokes.data.toList.drop 141 = dktX0_jokes_6 := dk_seg dksX0_jokes_5 22 rfl rfl
theorem dX0_jokes_0 : decode cX0_jokes 0 = .ok (.iload_n 1, 1) := dk_27 (dk_at dksX0_jokes_0 0 rfl rfl)
theorem dX0_jokes_1 : decode cX0_jokes 1 = .ok (.iconst 0, 1) := dk_3 (dk_at dksX0_jokes_0 1 rfl rfl)
theorem dX0_jokes_2 : decode cX0_jokes 2 = .ok (.aload_n 0, 1) := dk_42 (dk_at dksX0_jokes_0 2 rfl rfl)
theorem dX0_jokes_3 : decode cX0_jokes 3 = .ok (.getfield 124, 3) := dk_180 0 124 (dk_at dksX0_jokes_0 3 rfl rfl)
theorem dX0_jokes_6 : decode cX0_jokes 6 = .ok (.invokestatic 149, 3) := dk_184 0 149 (dk_at dksX0_jokes_0 6 rfl rfl)
theorem dX0_jokes_9 : decode cX0_jokes 9 = .ok (.ifCond .eq 8, 3) := dk_153 0 8 (dk_at dksX0_jokes_0 9 rfl rfl)
theorem dX0_jokes_12 : decode cX0_jokes 12 = .ok (.iload_n 2, 1) := dk_28 (dk_at dksX0_jokes_0 12 rfl rfl)
theorem dX0_jokes_13 : decode cX0_jokes 13 = .ok (.iconst (-1), 1) := dk_2 (dk_at dksX0_jokes_0 13 rfl rfl)
theorem dX0_jokes_14 : decode cX0_jokes 14 = .ok (.if_icmp .ge 5, 3) := dk_162 0 5 (dk_at dksX0_jokes_0 14 rfl rfl)
theorem dX0_jokes_17 : decode cX0_jokes 17 = .ok (.iconst (-1), 1) := dk_2 (dk_at dksX0_jokes_0 17 rfl rfl)
theorem dX0_jokes_18 : decode cX0_jokes 18 = .ok (.ireturn, 1) := dk_172 (dk_at dksX0_jokes_0 18 rfl rfl)
theorem dX0_jokes_19 : decode cX0_jokes 19 = .ok (.aload_n 0, 1) := dk_42 (dk_at dksX0_jokes_0 19 rfl rfl)
theorem dX0_jokes_20 : decode cX0_jokes 20 = .ok (.iconst (-1), 1) := dk_2 (dk_at dksX0_jokes_0 20 rfl rfl)
theorem dX0_jokes_21 : decode cX0_jokes 21 = .ok (.iconst (-1), 1) := dk_2 (dk_at dksX0_jokes_0 21 rfl rfl)
theorem dX0_jokes_22 : decode cX0_jokes 22 = .ok (.iconst 0, 1) := dk_3 (dk_at dksX0_jokes_0 22 rfl rfl)
theorem dX0_jokes_23 : decode cX0_jokes 23 = .ok (.iload_n 1, 1) := dk_27 (dk_at dksX0_jokes_0 23 rfl rfl)
theorem dX0_jokes_24 : decode cX0_jokes 24 = .ok (.invokevirtual 370, 3) := dk_182 1 114 (dk_at dksX0_jokes_1 0 rfl rfl)
theorem dX0_jokes_27 : decode cX0_jokes 27 = .ok (.ifCond .eq 7, 3) := dk_153 0 7 (dk_at dksX0_jokes_1 3 rfl rfl)
theorem dX0_jokes_30 : decode cX0_jokes 30 = .ok (.iconst 1, 1) := dk_4 (dk_at dksX0_jokes_1 6 rfl rfl)
theorem dX0_jokes_31 : decode cX0_jokes 31 = .ok (.goto 4, 3) := dk_167 0 4 (dk_at dksX0_jokes_1 7 rfl rfl)
theorem dX0_jokes_34 : decode cX0_jokes 34 = .ok (.iconst 0, 1) := dk_3 (dk_at dksX0_jokes_1 10 rfl rfl)
theorem dX0_jokes_35 : decode cX0_jokes 35 = .ok (.istore_n 3, 1) := dk_62 (dk_at dksX0_jokes_1 11 rfl rfl)
theorem dX0_jokes_36 : decode cX0_jokes 36 = .ok (.iload_n 3, 1) := dk_29 (dk_at dksX0_jokes_1 12 rfl rfl)
theorem dX0_jokes_37 : decode cX0_jokes 37 = .ok (.iconst 1, 1) := dk_4 (dk_at dksX0_jokes_1 13 rfl rfl)
theorem dX0_jokes_38 : decode cX0_jokes 38 = .ok (.if_icmp .ne 10, 3) := dk_160 0 10 (dk_at dksX0_jokes_1 14 rfl rfl)
theorem dX0_jokes_41 : decode cX0_jokes 41 = .ok (.iload_n 2, 1) := dk_28 (dk_at dksX0_jokes_1 17 rfl rfl)
theorem dX0_jokes_42 : decode cX0_jokes 42 = .ok (.ifCond .ne 6, 3) := dk_154 0 6 (dk_at dksX0_jokes_1 18 rfl rfl)
theorem dX0_jokes_45 : decode cX0_jokes 45 = .ok (.bipush (-3), 2) := dk_16 253 (dk_at dksX0_jokes_1 21 rfl rfl)
theorem dX0_jokes_47 : decode cX0_jokes 47 = .ok (.ireturn, 1) := dk_172 (dk_at dksX0_jokes_1 23 rfl rfl)
theorem dX0_jokes_48 : decode cX0_jokes 48 = .ok (.iconst 0, 1) := dk_3 (dk_at dksX0_jokes_2 0 rfl rfl)
theorem dX0_jokes_49 : decode cX0_jokes 49 = .ok (.istore 4, 2) := dk_54 4 (dk_at dksX0_jokes_2 1 rfl rfl)
theorem dX0_jokes_51 : decode cX0_jokes 51 = .ok (.iload 4, 2) := dk_21 4 (dk_at dksX0_jokes_2 3 rfl rfl)
theorem dX0_jokes_53 : decode cX0_jokes 53 = .ok (.aload_n 0, 1) := dk_42 (dk_at dksX0_jokes_2 5 rfl rfl)
theorem dX0_jokes_54 : decode cX0_jokes 54 = .ok (.invokevirtual 153, 3) := dk_182 0 153 (dk_at dksX0_jokes_2 6 rfl rfl)
theorem dX0_jokes_57 : decode cX0_jokes 57 = .ok (.if_icmp .ge 87, 3) := dk_162 0 87 (dk_at dksX0_jokes_2 9 rfl rfl)
theorem dX0_jokes_60 : decode cX0_jokes 60 = .ok (.iload 4, 2) := dk_21 4 (dk_at dksX0_jokes_2 12 rfl rfl)
theorem dX0_jokes_62 : decode cX0_jokes 62 = .ok (.iconst 1, 1) := dk_4 (dk_at dksX0_jokes_2 14 rfl rfl)
theorem dX0_jokes_63 : decode cX0_jokes 63 = .ok (.iadd, 1) := dk_96 (dk_at dksX0_jokes_2 15 rfl rfl)
theorem dX0_jokes_64 : decode cX0_jokes 64 = .ok (.istore 5, 2) := dk_54 5 (dk_at dksX0_jokes_2 16 rfl rfl)
theorem dX0_jokes_66 : decode cX0_jokes 66 = .ok (.iload 5, 2) := dk_21 5 (dk_at dksX0_jokes_2 18 rfl rfl)
theorem dX0_jokes_68 : decode cX0_jokes 68 = .ok (.aload_n 0, 1) := dk_42 (dk_at dksX0_jokes_2 20 rfl rfl)
theorem dX0_jokes_69 : decode cX0_jokes 69 = .ok (.invokevirtual 153, 3) := dk_182 0 153 (dk_at dksX0_jokes_2 21 rfl rfl)
theorem dX0_jokes_72 : decode cX0_jokes 72 = .ok (.if_icmp .ge 66, 3) := dk_162 0 66 (dk_at dksX0_jokes_3 0 rfl rfl)
theorem dX0_jokes_75 : decode cX0_jokes 75 = .ok (.iconst 0, 1) := dk_3 (dk_at dksX0_jokes_3 3 rfl rfl)
theorem dX0_jokes_76 : decode cX0_jokes 76 = .ok (.istore 6, 2) := dk_54 6 (dk_at dksX0_jokes_3 4 rfl rfl)
theorem dX0_jokes_78 : decode cX0_jokes 78 = .ok (.iload 6, 2) := dk_21 6 (dk_at dksX0_jokes_3 6 rfl rfl)
theorem dX0_jokes_80 : decode cX0_jokes 80 = .ok (.bipush 60, 2) := dk_16 60 (dk_at dksX0_jokes_3 8 rfl rfl)
theorem dX0_jokes_82 : decode cX0_jokes 82 = .ok (.if_icmp .gt 50, 3) := dk_163 0 50 (dk_at dksX0_jokes_3 10 rfl rfl)
theorem dX0_jokes_85 : decode cX0_jokes 85 = .ok (.aload_n 0, 1) := dk_42 (dk_at dksX0_jokes_3 13 rfl rfl)
theorem dX0_jokes_86 : decode cX0_jokes 86 = .ok (.iload 4, 2) := dk_21 4 (dk_at dksX0_jokes_3 14 rfl rfl)
theorem dX0_jokes_88 : decode cX0_jokes 88 = .ok (.iload 5, 2) := dk_21 5 (dk_at dksX0_jokes_3 16 rfl rfl)
theorem dX0_jokes_90 : decode cX0_jokes 90 = .ok (.iload 6, 2) := dk_21 6 (dk_at dksX0_jokes_3 18 rfl rfl)
theorem dX0_jokes_92 : decode cX0_jokes 92 = .ok (.iload_n 1, 1) := dk_27 (dk_at dksX0_jokes_3 20 rfl rfl)
theorem dX0_jokes_93 : decode cX0_jokes 93 = .ok (.invokevirtual 370, 3) := dk_182 1 114 (dk_at dksX0_jokes_3 21 rfl rfl)
theorem dX0_jokes_96 : decode cX0_jokes 96 = .ok (.ifCond .ne 6, 3) := dk_154 0 6 (dk_at dksX0_jokes_4 0 rfl rfl)
theorem dX0_jokes_99 : decode cX0_jokes 99 = .ok (.goto 27, 3) := dk_167 0 27 (dk_at dksX0_jokes_4 3 rfl rfl)
theorem dX0_jokes_102 : decode cX0_jokes 102 = .ok (.iload_n 3, 1) := dk_29 (dk_at dksX0_jokes_4 6 rfl rfl)
theorem dX0_jokes_103 : decode cX0_jokes 103 = .ok (.iload_n 2, 1) := dk_28 (dk_at dksX0_jokes_4 7 rfl rfl)
theorem dX0_jokes_104 : decode cX0_jokes 104 = .ok (.if_icmp .ne 19, 3) := dk_160 0 19 (dk_at dksX0_jokes_4 8 rfl rfl)
theorem dX0_jokes_107 : decode cX0_jokes 107 = .ok (.sipush 1000, 3) := dk_17 3 232 (dk_at dksX0_jokes_4 11 rfl rfl)
theorem dX0_jokes_110 : decode cX0_jokes 110 = .ok (.iload 4, 2) := dk_21 4 (dk_at dksX0_jokes_4 14 rfl rfl)
theorem dX0_jokes_112 : decode cX0_jokes 112 = .ok (.imul, 1) := dk_104 (dk_at dksX0_jokes_4 16 rfl rfl)
theorem dX0_jokes_113 : decode cX0_jokes 113 = .ok (.bipush 100, 2) := dk_16 100 (dk_at dksX0_jokes_4 17 rfl rfl)
theorem dX0_jokes_115 : decode cX0_jokes 115 = .ok (.iload 5, 2) := dk_21 5 (dk_at dksX0_jokes_4 19 rfl rfl)
theorem dX0_jokes_117 : decode cX0_jokes 117 = .ok (.imul, 1) := dk_104 (dk_at dksX0_jokes_4 21 rfl rfl)
theorem dX0_jokes_118 : decode cX0_jokes 118 = .ok (.iadd, 1) := dk_96 (dk_at dksX0_jokes_4 22 rfl rfl)
theorem dX0_jokes_119 : decode cX0_jokes 119 = .ok (.iload 6, 2) := dk_21 6 (dk_at dksX0_jokes_5 0 rfl rfl)
theorem dX0_jokes_121 : decode cX0_jokes 121 = .ok (.iadd, 1) := dk_96 (dk_at dksX0_jokes_5 2 rfl rfl)
theorem dX0_jokes_122 : decode cX0_jokes 122 = .ok (.ireturn, 1) := dk_172 (dk_at dksX0_jokes_5 3 rfl rfl)
theorem dX0_jokes_123 : decode cX0_jokes 123 = .ok (.iinc 3 1, 3) := dk_132 3 1 (dk_at dksX0_jokes_5 4 rfl rfl)
theorem dX0_jokes_126 : decode cX0_jokes 126 = .ok (.iinc 6 1, 3) := dk_132 6 1 (dk_at dksX0_jokes_5 7 rfl rfl)
theorem dX0_jokes_129 : decode cX0_jokes 129 = .ok (.goto (-51), 3) := dk_167 255 205 (dk_at dksX0_jokes_5 10 rfl rfl)
theorem dX0_jokes_132 : decode cX0_jokes 132 = .ok (.iinc 5 1, 3) := dk_132 5 1 (dk_at dksX0_jokes_5 13 rfl rfl)
theorem dX0_jokes_135 : decode cX0_jokes 135 = .ok (.goto (-69), 3) := dk_167 255 187 (dk_at dksX0_jokes_5 16 rfl rfl)
theorem dX0_jokes_138 : decode cX0_jokes 138 = .ok (.iinc 4 1, 3) := dk_132 4 1 (dk_at dksX0_jokes_5 19 rfl rfl)
theorem dX0_jokes_141 : decode cX0_jokes 141 = .ok (.goto (-90), 3) := dk_167 255 166 (dk_at dksX0_jokes_6 0 rfl rfl)
theorem dX0_jokes_144 : decode cX0_jokes 144 = .ok (.iload_n 2, 1) := dk_28 (dk_at dksX0_jokes_6 3 rfl rfl)
theorem dX0_jokes_145 : decode cX0_jokes 145 = .ok (.iconst (-1), 1) := dk_2 (dk_at dksX0_jokes_6 4 rfl rfl)
theorem dX0_jokes_146 : decode cX0_jokes 146 = .ok (.if_icmp .ne 7, 3) := dk_160 0 7 (dk_at dksX0_jokes_6 5 rfl rfl)
theorem dX0_jokes_149 : decode cX0_jokes 149 = .ok (.iload_n 3, 1) := dk_29 (dk_at dksX0_jokes_6 8 rfl rfl)
theorem dX0_jokes_150 : decode cX0_jokes 150 = .ok (.goto 4, 3) := dk_167 0 4 (dk_at dksX0_jokes_6 9 rfl rfl)
theorem dX0_jokes_153 : decode cX0_jokes 153 = .ok (.iconst (-1), 1) := dk_2 (dk_at dksX0_jokes_6 12 rfl rfl)
theorem dX0_jokes_154 : decode cX0_jokes 154 = .ok (.ireturn, 1) := dk_172 (dk_at dksX0_jokes_6 13 rfl rfl)
abbrev cX0_isSo : ByteArray := prog_1_method_61_code
def yX0_isSo : MethodName := ⟨RX0, "isSo", "(IIII)Z"⟩
def dkwX0_isSo_6 : List UInt8 := [162, 0, 14, 42, 180, 0, 63, 42, 180, 0, 48, 182, 0, 225, 132, 6, 1, 167, 255, 146, 4, 172]
abbrev dktX0_isSo_6 : List UInt8 := dkwX0_isSo_6 ++ []
def dkwX0_isSo_5 : List UInt8 := [46, 46, 42, 180, 0, 99, 21, 7, 46, 159, 0, 5, 3, 172, 132, 7, 1, 167, 255, 199, 21, 6, 21, 5]
abbrev dktX0_isSo_5 : List UInt8 := dkwX0_isSo_5 ++ dktX0_isSo_6
def dkwX0_isSo_4 : List UInt8 := [160, 0, 38, 42, 180, 0, 63, 180, 0, 167, 42, 180, 0, 90, 21, 7, 46, 50, 42, 180, 0, 93, 21, 7]
abbrev dktX0_isSo_4 : List UInt8 := dkwX0_isSo_4 ++ dktX0_isSo_5
def dkwX0_isSo_3 : List UInt8 := [28, 184, 0, 237, 3, 54, 7, 21, 7, 21, 4, 162, 0, 56, 42, 180, 0, 96, 21, 7, 46, 21, 6]
abbrev dktX0_isSo_3 : List UInt8 := dkwX0_isSo_3 ++ dktX0_isSo_4
def dkwX0_isSo_2 : List UInt8 := [54, 6, 21, 6, 21, 5, 163, 0, 109, 27, 155, 0, 18, 21, 6, 29, 160, 0, 12, 42, 180, 0, 63, 27]
abbrev dktX0_isSo_2 : List UInt8 := dkwX0_isSo_2 ++ dktX0_isSo_3
def dkwX0_isSo_1 : List UInt8 := [184, 0, 13, 54, 5, 132, 6, 1, 167, 255, 232, 42, 180, 0, 63, 42, 180, 0, 48, 182, 0, 102, 3]
abbrev dktX0_isSo_1 : List UInt8 := dkwX0_isSo_1 ++ dktX0_isSo_2
def dkwX0_isSo_0 : List UInt8 := [3, 54, 5, 3, 54, 6, 21, 6, 21, 4, 162, 0, 23, 21, 5, 42, 180, 0, 96, 21, 6, 46]
abbrev dktX0_isSo_0 : List UInt8 := dkwX0_isSo_0 ++ dktX0_isSo_1
theorem dksX0_isSo_0 : cX0_isSo.data.toList.drop 0 = dktX0_isSo_0 := by decide +kernel
theorem dksX0_isSo_1 : cX0_isSo.data.toList.drop 22 = dktX0_isSo_1 := dk_seg dksX0_isSo_0 22 rfl rfl
theorem dksX0_isSo_2 : cX0_isSo.data.toList.drop 45 = dktX0_isSo_2 := dk_seg dksX0_isSo_1 23 rfl rfl
theorem dksX0_isSo_3 : cX0_isSo.data.toList.drop 69 = dktX0_isSo_3 := dk_seg dksX0_isSo_2 24 rfl rfl
theorem dksX0_isSo_4 : cX0_isSo.data.toList.drop 92 = dktX0_isSo_4 := dk_seg dksX0_isSo_3 23 rfl rfl
theorem dksX0_isSo_5 : cX0_isSo.data.toList.drop 116 = dktX0_isSo_5 := dk_seg dksX0_isSo_4 24 rfl rfl
theorem dksX0_isSo_6 : cX0_isSo.data.toList.drop 140 = dktX0_isSo_6 := dk_seg dksX0_isSo_5 24 rfl rfl
theorem dX0_isSo_0 : decode cX0_isSo 0 = .ok (.iconst 0, 1) := dk_3 (dk_at dksX0_isSo_0 0 rfl rfl)
theorem dX0_isSo_1 : decode cX0_isSo 1 = .ok (.istore 5, 2) := dk_54 5 (dk_at dksX0_isSo_0 1 rfl rfl)
theorem dX0_isSo_3 : decode cX0_isSo 3 = .ok (.iconst 0, 1) := dk_3 (dk_at dksX0_isSo_0 3 rfl rfl)
theorem dX0_isSo_4 : decode cX0_isSo 4 = .ok (.istore 6, 2) := dk_54 6 (dk_at dksX0_isSo_0 4 rfl rfl)
theorem dX0_isSo_6 : decode cX0_isSo 6 = .ok (.iload 6, 2) := dk_21 6 (dk_at dksX0_isSo_0 6 rfl rfl)
theorem dX0_isSo_8 : decode cX0_isSo 8 = .ok (.iload 4, 2) := dk_21 4 (dk_at dksX0_isSo_0 8 rfl rfl)
theorem dX0_isSo_10 : decode cX0_isSo 10 = .ok (.if_icmp .ge 23, 3) := dk_162 0 23 (dk_at dksX0_isSo_0 10 rfl rfl)
theorem dX0_isSo_13 : decode cX0_isSo 13 = .ok (.iload 5, 2) := dk_21 5 (dk_at dksX0_isSo_0 13 rfl rfl)
theorem dX0_isSo_15 : decode cX0_isSo 15 = .ok (.aload_n 0, 1) := dk_42 (dk_at dksX0_isSo_0 15 rfl rfl)
theorem dX0_isSo_16 : decode cX0_isSo 16 = .ok (.getfield 96, 3) := dk_180 0 96 (dk_at dksX0_isSo_0 16 rfl rfl)
theorem dX0_isSo_19 : decode cX0_isSo 19 = .ok (.iload 6, 2) := dk_21 6 (dk_at dksX0_isSo_0 19 rfl rfl)
theorem dX0_isSo_21 : decode cX0_isSo 21 = .ok (.iaload, 1) := dk_46 (dk_at dksX0_isSo_0 21 rfl rfl)
theorem dX0_isSo_22 : decode cX0_isSo 22 = .ok (.invokestatic 13, 3) := dk_184 0 13 (dk_at dksX0_isSo_1 0 rfl rfl)
theorem dX0_isSo_25 : decode cX0_isSo 25 = .ok (.istore 5, 2) := dk_54 5 (dk_at dksX0_isSo_1 3 rfl rfl)
theorem dX0_isSo_27 : decode cX0_isSo 27 = .ok (.iinc 6 1, 3) := dk_132 6 1 (dk_at dksX0_isSo_1 5 rfl rfl)
theorem dX0_isSo_30 : decode cX0_isSo 30 = .ok (.goto (-24), 3) := dk_167 255 232 (dk_at dksX0_isSo_1 8 rfl rfl)
theorem dX0_isSo_33 : decode cX0_isSo 33 = .ok (.aload_n 0, 1) := dk_42 (dk_at dksX0_isSo_1 11 rfl rfl)
theorem dX0_isSo_34 : decode cX0_isSo 34 = .ok (.getfield 63, 3) := dk_180 0 63 (dk_at dksX0_isSo_1 12 rfl rfl)
theorem dX0_isSo_37 : decode cX0_isSo 37 = .ok (.aload_n 0, 1) := dk_42 (dk_at dksX0_isSo_1 15 rfl rfl)
theorem dX0_isSo_38 : decode cX0_isSo 38 = .ok (.getfield 48, 3) := dk_180 0 48 (dk_at dksX0_isSo_1 16 rfl rfl)
theorem dX0_isSo_41 : decode cX0_isSo 41 = .ok (.invokevirtual 102, 3) := dk_182 0 102 (dk_at dksX0_isSo_1 19 rfl rfl)
theorem dX0_isSo_44 : decode cX0_isSo 44 = .ok (.iconst 0, 1) := dk_3 (dk_at dksX0_isSo_1 22 rfl rfl)
theorem dX0_isSo_45 : decode cX0_isSo 45 = .ok (.istore 6, 2) := dk_54 6 (dk_at dksX0_isSo_2 0 rfl rfl)
theorem dX0_isSo_47 : decode cX0_isSo 47 = .ok (.iload 6, 2) := dk_21 6 (dk_at dksX0_isSo_2 2 rfl rfl)
theorem dX0_isSo_49 : decode cX0_isSo 49 = .ok (.iload 5, 2) := dk_21 5 (dk_at dksX0_isSo_2 4 rfl rfl)
theorem dX0_isSo_51 : decode cX0_isSo 51 = .ok (.if_icmp .gt 109, 3) := dk_163 0 109 (dk_at dksX0_isSo_2 6 rfl rfl)
theorem dX0_isSo_54 : decode cX0_isSo 54 = .ok (.iload_n 1, 1) := dk_27 (dk_at dksX0_isSo_2 9 rfl rfl)
theorem dX0_isSo_55 : decode cX0_isSo 55 = .ok (.ifCond .lt 18, 3) := dk_155 0 18 (dk_at dksX0_isSo_2 10 rfl rfl)
theorem dX0_isSo_58 : decode cX0_isSo 58 = .ok (.iload 6, 2) := dk_21 6 (dk_at dksX0_isSo_2 13 rfl rfl)
theorem dX0_isSo_60 : decode cX0_isSo 60 = .ok (.iload_n 3, 1) := dk_29 (dk_at dksX0_isSo_2 15 rfl rfl)
theorem dX0_isSo_61 : decode cX0_isSo 61 = .ok (.if_icmp .ne 12, 3) := dk_160 0 12 (dk_at dksX0_isSo_2 16 rfl rfl)
theorem dX0_isSo_64 : decode cX0_isSo 64 = .ok (.aload_n 0, 1) := dk_42 (dk_at dksX0_isSo_2 19 rfl rfl)
theorem dX0_isSo_65 : decode cX0_isSo 65 = .ok (.getfield 63, 3) := dk_180 0 63 (dk_at dksX0_isSo_2 20 rfl rfl)
theorem dX0_isSo_68 : decode cX0_isSo 68 = .ok (.iload_n 1, 1) := dk_27 (dk_at dksX0_isSo_2 23 rfl rfl)
theorem dX0_isSo_69 : decode cX0_isSo 69 = .ok (.iload_n 2, 1) := dk_28 (dk_at dksX0_isSo_3 0 rfl rfl)
theorem dX0_isSo_70 : decode cX0_isSo 70 = .ok (.invokestatic 237, 3) := dk_184 0 237 (dk_at dksX0_isSo_3 1 rfl rfl)
theorem dX0_isSo_73 : decode cX0_isSo 73 = .ok (.iconst 0, 1) := dk_3 (dk_at dksX0_isSo_3 4 rfl rfl)
theorem dX0_isSo_74 : decode cX0_isSo 74 = .ok (.istore 7, 2) := dk_54 7 (dk_at dksX0_isSo_3 5 rfl rfl)
theorem dX0_isSo_76 : decode cX0_isSo 76 = .ok (.iload 7, 2) := dk_21 7 (dk_at dksX0_isSo_3 7 rfl rfl)
theorem dX0_isSo_78 : decode cX0_isSo 78 = .ok (.iload 4, 2) := dk_21 4 (dk_at dksX0_isSo_3 9 rfl rfl)
theorem dX0_isSo_80 : decode cX0_isSo 80 = .ok (.if_icmp .ge 56, 3) := dk_162 0 56 (dk_at dksX0_isSo_3 11 rfl rfl)
theorem dX0_isSo_83 : decode cX0_isSo 83 = .ok (.aload_n 0, 1) := dk_42 (dk_at dksX0_isSo_3 14 rfl rfl)
theorem dX0_isSo_84 : decode cX0_isSo 84 = .ok (.getfield 96, 3) := dk_180 0 96 (dk_at dksX0_isSo_3 15 rfl rfl)
theorem dX0_isSo_87 : decode cX0_isSo 87 = .ok (.iload 7, 2) := dk_21 7 (dk_at dksX0_isSo_3 18 rfl rfl)
theorem dX0_isSo_89 : decode cX0_isSo 89 = .ok (.iaload, 1) := dk_46 (dk_at dksX0_isSo_3 20 rfl rfl)
theorem dX0_isSo_90 : decode cX0_isSo 90 = .ok (.iload 6, 2) := dk_21 6 (dk_at dksX0_isSo_3 21 rfl rfl)
theorem dX0_isSo_92 : decode cX0_isSo 92 = .ok (.if_icmp .ne 38, 3) := dk_160 0 38 (dk_at dksX0_isSo_4 0 rfl rfl)
theorem dX0_isSo_95 : decode cX0_isSo 95 = .ok (.aload_n 0, 1) := dk_42 (dk_at dksX0_isSo_4 3 rfl rfl)
theorem dX0_isSo_96 : decode cX0_isSo 96 = .ok (.getfield 63, 3) := dk_180 0 63 (dk_at dksX0_isSo_4 4 rfl rfl)
theorem dX0_isSo_99 : decode cX0_isSo 99 = .ok (.getfield 167, 3) := dk_180 0 167 (dk_at dksX0_isSo_4 7 rfl rfl)
theorem dX0_isSo_102 : decode cX0_isSo 102 = .ok (.aload_n 0, 1) := dk_42 (dk_at dksX0_isSo_4 10 rfl rfl)
theorem dX0_isSo_103 : decode cX0_isSo 103 = .ok (.getfield 90, 3) := dk_180 0 90 (dk_at dksX0_isSo_4 11 rfl rfl)
theorem dX0_isSo_106 : decode cX0_isSo 106 = .ok (.iload 7, 2) := dk_21 7 (dk_at dksX0_isSo_4 14 rfl rfl)
theorem dX0_isSo_108 : decode cX0_isSo 108 = .ok (.iaload, 1) := dk_46 (dk_at dksX0_isSo_4 16 rfl rfl)
theorem dX0_isSo_109 : decode cX0_isSo 109 = .ok (.aaload, 1) := dk_50 (dk_at dksX0_isSo_4 17 rfl rfl)
theorem dX0_isSo_110 : decode cX0_isSo 110 = .ok (.aload_n 0, 1) := dk_42 (dk_at dksX0_isSo_4 18 rfl rfl)
theorem dX0_isSo_111 : decode cX0_isSo 111 = .ok (.getfield 93, 3) := dk_180 0 93 (dk_at dksX0_isSo_4 19 rfl rfl)
theorem dX0_isSo_114 : decode cX0_isSo 114 = .ok (.iload 7, 2) := dk_21 7 (dk_at dksX0_isSo_4 22 rfl rfl)
theorem dX0_isSo_116 : decode cX0_isSo 116 = .ok (.iaload, 1) := dk_46 (dk_at dksX0_isSo_5 0 rfl rfl)
theorem dX0_isSo_117 : decode cX0_isSo 117 = .ok (.iaload, 1) := dk_46 (dk_at dksX0_isSo_5 1 rfl rfl)
theorem dX0_isSo_118 : decode cX0_isSo 118 = .ok (.aload_n 0, 1) := dk_42 (dk_at dksX0_isSo_5 2 rfl rfl)
theorem dX0_isSo_119 : decode cX0_isSo 119 = .ok (.getfield 99, 3) := dk_180 0 99 (dk_at dksX0_isSo_5 3 rfl rfl)
theorem dX0_isSo_122 : decode cX0_isSo 122 = .ok (.iload 7, 2) := dk_21 7 (dk_at dksX0_isSo_5 6 rfl rfl)
theorem dX0_isSo_124 : decode cX0_isSo 124 = .ok (.iaload, 1) := dk_46 (dk_at dksX0_isSo_5 8 rfl rfl)
theorem dX0_isSo_125 : decode cX0_isSo 125 = .ok (.if_icmp .eq 5, 3) := dk_159 0 5 (dk_at dksX0_isSo_5 9 rfl rfl)
theorem dX0_isSo_128 : decode cX0_isSo 128 = .ok (.iconst 0, 1) := dk_3 (dk_at dksX0_isSo_5 12 rfl rfl)
theorem dX0_isSo_129 : decode cX0_isSo 129 = .ok (.ireturn, 1) := dk_172 (dk_at dksX0_isSo_5 13 rfl rfl)
theorem dX0_isSo_130 : decode cX0_isSo 130 = .ok (.iinc 7 1, 3) := dk_132 7 1 (dk_at dksX0_isSo_5 14 rfl rfl)
theorem dX0_isSo_133 : decode cX0_isSo 133 = .ok (.goto (-57), 3) := dk_167 255 199 (dk_at dksX0_isSo_5 17 rfl rfl)
theorem dX0_isSo_136 : decode cX0_isSo 136 = .ok (.iload 6, 2) := dk_21 6 (dk_at dksX0_isSo_5 20 rfl rfl)
theorem dX0_isSo_138 : decode cX0_isSo 138 = .ok (.iload 5, 2) := dk_21 5 (dk_at dksX0_isSo_5 22 rfl rfl)
theorem dX0_isSo_140 : decode cX0_isSo 140 = .ok (.if_icmp .ge 14, 3) := dk_162 0 14 (dk_at dksX0_isSo_6 0 rfl rfl)
theorem dX0_isSo_143 : decode cX0_isSo 143 = .ok (.aload_n 0, 1) := dk_42 (dk_at dksX0_isSo_6 3 rfl rfl)
theorem dX0_isSo_144 : decode cX0_isSo 144 = .ok (.getfield 63, 3) := dk_180 0 63 (dk_at dksX0_isSo_6 4 rfl rfl)
theorem dX0_isSo_147 : decode cX0_isSo 147 = .ok (.aload_n 0, 1) := dk_42 (dk_at dksX0_isSo_6 7 rfl rfl)
theorem dX0_isSo_148 : decode cX0_isSo 148 = .ok (.getfield 48, 3) := dk_180 0 48 (dk_at dksX0_isSo_6 8 rfl rfl)
theorem dX0_isSo_151 : decode cX0_isSo 151 = .ok (.invokevirtual 225, 3) := dk_182 0 225 (dk_at dksX0_isSo_6 11 rfl rfl)
theorem dX0_isSo_154 : decode cX0_isSo 154 = .ok (.iinc 6 1, 3) := dk_132 6 1 (dk_at dksX0_isSo_6 14 rfl rfl)
theorem dX0_isSo_157 : decode cX0_isSo 157 = .ok (.goto (-110), 3) := dk_167 255 146 (dk_at dksX0_isSo_6 17 rfl rfl)
theorem dX0_isSo_160 : decode cX0_isSo 160 = .ok (.iconst 1, 1) := dk_4 (dk_at dksX0_isSo_6 20 rfl rfl)
theorem dX0_isSo_161 : decode cX0_isSo 161 = .ok (.ireturn, 1) := dk_172 (dk_at dksX0_isSo_6 21 rfl rfl)
abbrev cX0_hold : ByteArray := prog_1_method_63_code
def yX0_hold : MethodName := ⟨RX0, "hold", "(I)Z"⟩
def dkwX0_hold_1 : List UInt8 := [42, 180, 0, 73, 27, 4, 84, 4, 172]
abbrev dktX0_hold_1 : List UInt8 := dkwX0_hold_1 ++ []
def dkwX0_hold_0 : List UInt8 := [27, 3, 5, 184, 0, 149, 154, 0, 5, 3, 172, 42, 180, 0, 70, 27, 50, 42, 180, 0, 59, 182, 0, 221]
abbrev dktX0_hold_0 : List UInt8 := dkwX0_hold_0 ++ dktX0_hold_1
theorem dksX0_hold_0 : cX0_hold.data.toList.drop 0 = dktX0_hold_0 := by decide +kernel
theorem dksX0_hold_1 : cX0_hold.data.toList.drop 24 = dktX0_hold_1 := dk_seg dksX0_hold_0 24 rfl rfl
theorem dX0_hold_0 : decode cX0_hold 0 = .ok (.iload_n 1, 1) := dk_27 (dk_at dksX0_hold_0 0 rfl rfl)
theorem dX0_hold_1 : decode cX0_hold 1 = .ok (.iconst 0, 1) := dk_3 (dk_at dksX0_hold_0 1 rfl rfl)
theorem dX0_hold_2 : decode cX0_hold 2 = .ok (.iconst 2, 1) := dk_5 (dk_at dksX0_hold_0 2 rfl rfl)
theorem dX0_hold_3 : decode cX0_hold 3 = .ok (.invokestatic 149, 3) := dk_184 0 149 (dk_at dksX0_hold_0 3 rfl rfl)
theorem dX0_hold_6 : decode cX0_hold 6 = .ok (.ifCond .ne 5, 3) := dk_154 0 5 (dk_at dksX0_hold_0 6 rfl rfl)
theorem dX0_hold_9 : decode cX0_hold 9 = .ok (.iconst 0, 1) := dk_3 (dk_at dksX0_hold_0 9 rfl rfl)
theorem dX0_hold_10 : decode cX0_hold 10 = .ok (.ireturn, 1) := dk_172 (dk_at dksX0_hold_0 10 rfl rfl)
theorem dX0_hold_11 : decode cX0_hold 11 = .ok (.aload_n 0, 1) := dk_42 (dk_at dksX0_hold_0 11 rfl rfl)
theorem dX0_hold_12 : decode cX0_hold 12 = .ok (.getfield 70, 3) := dk_180 0 70 (dk_at dksX0_hold_0 12 rfl rfl)
theorem dX0_hold_15 : decode cX0_hold 15 = .ok (.iload_n 1, 1) := dk_27 (dk_at dksX0_hold_0 15 rfl rfl)
theorem dX0_hold_16 : decode cX0_hold 16 = .ok (.aaload, 1) := dk_50 (dk_at dksX0_hold_0 16 rfl rfl)
theorem dX0_hold_17 : decode cX0_hold 17 = .ok (.aload_n 0, 1) := dk_42 (dk_at dksX0_hold_0 17 rfl rfl)
theorem dX0_hold_18 : decode cX0_hold 18 = .ok (.getfield 59, 3) := dk_180 0 59 (dk_at dksX0_hold_0 18 rfl rfl)
theorem dX0_hold_21 : decode cX0_hold 21 = .ok (.invokevirtual 221, 3) := dk_182 0 221 (dk_at dksX0_hold_0 21 rfl rfl)
theorem dX0_hold_24 : decode cX0_hold 24 = .ok (.aload_n 0, 1) := dk_42 (dk_at dksX0_hold_1 0 rfl rfl)
theorem dX0_hold_25 : decode cX0_hold 25 = .ok (.getfield 73, 3) := dk_180 0 73 (dk_at dksX0_hold_1 1 rfl rfl)
theorem dX0_hold_28 : decode cX0_hold 28 = .ok (.iload_n 1, 1) := dk_27 (dk_at dksX0_hold_1 4 rfl rfl)
theorem dX0_hold_29 : decode cX0_hold 29 = .ok (.iconst 1, 1) := dk_4 (dk_at dksX0_hold_1 5 rfl rfl)
theorem dX0_hold_30 : decode cX0_hold 30 = .ok (.bastore, 1) := dk_84 (dk_at dksX0_hold_1 6 rfl rfl)
theorem dX0_hold_31 : decode cX0_hold 31 = .ok (.iconst 1, 1) := dk_4 (dk_at dksX0_hold_1 7 rfl rfl)
theorem dX0_hold_32 : decode cX0_hold 32 = .ok (.ireturn, 1) := dk_172 (dk_at dksX0_hold_1 8 rfl rfl)
abbrev cX0_restore : ByteArray := prog_1_method_64_code
def yX0_restore : MethodName := ⟨RX0, "restore", "(I)Z"⟩
def dkwX0_restore_1 : List UInt8 := [42, 180, 0, 70, 27, 50, 182, 0, 221, 42, 3, 181, 0, 121, 4, 172]
abbrev dktX0_restore_1 : List UInt8 := dkwX0_restore_1 ++ []
def dkwX0_restore_0 : List UInt8 := [27, 3, 5, 184, 0, 149, 153, 0, 12, 42, 180, 0, 73, 27, 51, 154, 0, 5, 3, 172, 42, 180, 0, 59]
abbrev dktX0_restore_0 : List UInt8 := dkwX0_restore_0 ++ dktX0_restore_1
theorem dksX0_restore_0 : cX0_restore.data.toList.drop 0 = dktX0_restore_0 := by decide +kernel
theorem dksX0_restore_1 : cX0_restore.data.toList.drop 24 = dktX0_restore_1 := dk_seg dksX0_restore_0 24 rfl rfl
theorem dX0_restore_0 : decode cX0_restore 0 = .ok (.iload_n 1, 1) := dk_27 (dk_at dksX0_restore_0 0 rfl rfl)
theorem dX0_restore_1 : decode cX0_restore 1 = .ok (.iconst 0, 1) := dk_3 (dk_at dksX0_restore_0 1 rfl rfl)
theorem dX0_restore_2 : decode cX0_restore 2 = .ok (.iconst 2, 1) := dk_5 (dk_at dksX0_restore_0 2 rfl rfl)
theorem dX0_restore_3 : decode cX0_restore 3 = .ok (.invokestatic 149, 3) := dk_184 0 149 (dk_at dksX0_restore_0 3 rfl rfl)
theorem dX0_restore_6 : decode cX0_restore 6 = .ok (.ifCond .eq 12, 3) := dk_153 0 12 (dk_at dksX0_restore_0 6 rfl rfl)
theorem dX0_restore_9 : decode cX0_restore 9 = .ok (.aload_n 0, 1) := dk_42 (dk_at dksX0_restore_0 9 rfl rfl)
theorem dX0_restore_10 : decode cX0_restore 10 = .ok (.getfield 73, 3) := dk_180 0 73 (dk_at dksX0_restore_0 10 rfl rfl)
theorem dX0_restore_13 : decode cX0_restore 13 = .ok (.iload_n 1, 1) := dk_27 (dk_at dksX0_restore_0 13 rfl rfl)
theorem dX0_restore_14 : decode cX0_restore 14 = .ok (.baload, 1) := dk_51 (dk_at dksX0_restore_0 14 rfl rfl)
theorem dX0_restore_15 : decode cX0_restore 15 = .ok (.ifCond .ne 5, 3) := dk_154 0 5 (dk_at dksX0_restore_0 15 rfl rfl)
theorem dX0_restore_18 : decode cX0_restore 18 = .ok (.iconst 0, 1) := dk_3 (dk_at dksX0_restore_0 18 rfl rfl)
theorem dX0_restore_19 : decode cX0_restore 19 = .ok (.ireturn, 1) := dk_172 (dk_at dksX0_restore_0 19 rfl rfl)
theorem dX0_restore_20 : decode cX0_restore 20 = .ok (.aload_n 0, 1) := dk_42 (dk_at dksX0_restore_0 20 rfl rfl)
theorem dX0_restore_21 : decode cX0_restore 21 = .ok (.getfield 59, 3) := dk_180 0 59 (dk_at dksX0_restore_0 21 rfl rfl)
theorem dX0_restore_24 : decode cX0_restore 24 = .ok (.aload_n 0, 1) := dk_42 (dk_at dksX0_restore_1 0 rfl rfl)
theorem dX0_restore_25 : decode cX0_restore 25 = .ok (.getfield 70, 3) := dk_180 0 70 (dk_at dksX0_restore_1 1 rfl rfl)
theorem dX0_restore_28 : decode cX0_restore 28 = .ok (.iload_n 1, 1) := dk_27 (dk_at dksX0_restore_1 4 rfl rfl)
theorem dX0_restore_29 : decode cX0_restore 29 = .ok (.aaload, 1) := dk_50 (dk_at dksX0_restore_1 5 rfl rfl)
theorem dX0_restore_30 : decode cX0_restore 30 = .ok (.invokevirtual 221, 3) := dk_182 0 221 (dk_at dksX0_restore_1 6 rfl rfl)
theorem dX0_restore_33 : decode cX0_restore 33 = .ok (.aload_n 0, 1) := dk_42 (dk_at dksX0_restore_1 9 rfl rfl)
theorem dX0_restore_34 : decode cX0_restore 34 = .ok (.iconst 0, 1) := dk_3 (dk_at dksX0_restore_1 10 rfl rfl)
theorem dX0_restore_35 : decode cX0_restore 35 = .ok (.putfield 121, 3) := dk_181 0 121 (dk_at dksX0_restore_1 11 rfl rfl)
theorem dX0_restore_38 : decode cX0_restore 38 = .ok (.iconst 1, 1) := dk_4 (dk_at dksX0_restore_1 14 rfl rfl)
theorem dX0_restore_39 : decode cX0_restore 39 = .ok (.ireturn, 1) := dk_172 (dk_at dksX0_restore_1 15 rfl rfl)
abbrev cX0_count : ByteArray := prog_1_method_66_code
def yX0_count : MethodName := ⟨RX0, "count", "(I)I"⟩
def dkwX0_count_9 : List UInt8 := [180, 0, 73, 5, 51, 153, 0, 7, 4, 167, 0, 4, 3, 96, 172, 42, 182, 1, 118, 172, 2, 172]
abbrev dktX0_count_9 : List UInt8 := dkwX0_count_9 ++ []
def dkwX0_count_8 : List UInt8 := [153, 0, 7, 4, 167, 0, 4, 3, 42, 180, 0, 73, 4, 51, 153, 0, 7, 4, 167, 0, 4, 3, 96, 42]
abbrev dktX0_count_8 : List UInt8 := dkwX0_count_8 ++ dktX0_count_9
def dkwX0_count_7 : List UInt8 := [180, 0, 32, 180, 0, 106, 172, 42, 180, 0, 121, 172, 42, 180, 0, 124, 172, 42, 180, 0, 73, 3, 51]
abbrev dktX0_count_7 : List UInt8 := dkwX0_count_7 ++ dktX0_count_8
def dkwX0_count_6 : List UInt8 := [167, 255, 222, 28, 172, 42, 180, 0, 59, 180, 0, 252, 172, 42, 180, 0, 59, 180, 1, 59, 172, 42]
abbrev dktX0_count_6 : List UInt8 := dkwX0_count_6 ++ dktX0_count_7
def dkwX0_count_5 : List UInt8 := [180, 0, 59, 180, 0, 174, 29, 46, 6, 160, 0, 9, 4, 29, 120, 167, 0, 4, 3, 128, 61, 132, 3, 1]
abbrev dktX0_count_5 : List UInt8 := dkwX0_count_5 ++ dktX0_count_6
def dkwX0_count_4 : List UInt8 := [180, 1, 24, 172, 42, 180, 0, 59, 180, 1, 15, 172, 3, 62, 29, 42, 182, 0, 155, 162, 0, 32, 28, 42]
abbrev dktX0_count_4 : List UInt8 := dkwX0_count_4 ++ dktX0_count_5
def dkwX0_count_3 : List UInt8 := [182, 0, 135, 172, 42, 180, 0, 59, 180, 0, 235, 172, 42, 180, 0, 59, 180, 1, 49, 172, 42, 180, 0, 59]
abbrev dktX0_count_3 : List UInt8 := dkwX0_count_3 ++ dktX0_count_4
def dkwX0_count_2 : List UInt8 := [42, 182, 0, 147, 172, 42, 182, 0, 153, 172, 42, 182, 0, 155, 172, 42, 180, 0, 48, 180, 0, 255]
abbrev dktX0_count_2 : List UInt8 := dkwX0_count_2 ++ dktX0_count_3
def dkwX0_count_1 : List UInt8 := [170, 0, 0, 1, 4, 0, 0, 0, 0, 0, 0, 0, 15, 0, 0, 0, 77, 0, 0, 0, 82, 0, 0, 0, 87, 0, 0, 0, 92, 0, 0, 0, 103, 0, 0, 0, 111, 0, 0, 0, 119, 0, 0, 0, 127, 0, 0, 0, 135, 0, 0, 0, 176, 0, 0, 0, 184, 0, 0, 0, 192, 0, 0, 0, 200, 0, 0, 0, 205, 0, 0, 0, 210, 0, 0, 0, 255]
abbrev dktX0_count_1 : List UInt8 := dkwX0_count_1 ++ dktX0_count_2
def dkwX0_count_0 : List UInt8 := [3, 61, 27]
abbrev dktX0_count_0 : List UInt8 := dkwX0_count_0 ++ dktX0_count_1
theorem dksX0_count_0 : cX0_count.data.toList.drop 0 = dktX0_count_0 := by decide +kernel
theorem dksX0_count_1 : cX0_count.data.toList.drop 3 = dktX0_count_1 := dk_seg dksX0_count_0 3 rfl rfl
theorem dksX0_count_2 : cX0_count.data.toList.drop 80 = dktX0_count_2 := dk_seg dksX0_count_1 77 rfl rfl
theorem dksX0_count_3 : cX0_count.data.toList.drop 102 = dktX0_count_3 := dk_seg dksX0_count_2 22 rfl rfl
theorem dksX0_count_4 : cX0_count.data.toList.drop 126 = dktX0_count_4 := dk_seg dksX0_count_3 24 rfl rfl
theorem dksX0_count_5 : cX0_count.data.toList.drop 150 = dktX0_count_5 := dk_seg dksX0_count_4 24 rfl rfl
theorem dksX0_count_6 : cX0_count.data.toList.drop 174 = dktX0_count_6 := dk_seg dksX0_count_5 24 rfl rfl
theorem dksX0_count_7 : cX0_count.data.toList.drop 196 = dktX0_count_7 := dk_seg dksX0_count_6 22 rfl rfl
theorem dksX0_count_8 : cX0_count.data.toList.drop 219 = dktX0_count_8 := dk_seg dksX0_count_7 23 rfl rfl
theorem dksX0_count_9 : cX0_count.data.toList.drop 243 = dktX0_count_9 := dk_seg dksX0_count_8 24 rfl rfl
theorem dX0_count_0 : decode cX0_count 0 = .ok (.iconst 0, 1) := dk_3 (dk_at dksX0_count_0 0 rfl rfl)
theorem dX0_count_1 : decode cX0_count 1 = .ok (.istore_n 2, 1) := dk_61 (dk_at dksX0_count_0 1 rfl rfl)
theorem dX0_count_2 : decode cX0_count 2 = .ok (.iload_n 1, 1) := dk_27 (dk_at dksX0_count_0 2 rfl rfl)
theorem dX0_count_3 : decode cX0_count 3 = .ok (.tableswitch 260 0 15 #[77, 82, 87, 92, 103, 111, 119, 127, 135, 176, 184, 192, 200, 205, 210, 255], 77) := by decide +kernel
theorem dX0_count_80 : decode cX0_count 80 = .ok (.aload_n 0, 1) := dk_42 (dk_at dksX0_count_2 0 rfl rfl)
theorem dX0_count_81 : decode cX0_count 81 = .ok (.invokevirtual 147, 3) := dk_182 0 147 (dk_at dksX0_count_2 1 rfl rfl)
theorem dX0_count_84 : decode cX0_count 84 = .ok (.ireturn, 1) := dk_172 (dk_at dksX0_count_2 4 rfl rfl)
theorem dX0_count_85 : decode cX0_count 85 = .ok (.aload_n 0, 1) := dk_42 (dk_at dksX0_count_2 5 rfl rfl)
theorem dX0_count_86 : decode cX0_count 86 = .ok (.invokevirtual 153, 3) := dk_182 0 153 (dk_at dksX0_count_2 6 rfl rfl)
theorem dX0_count_89 : decode cX0_count 89 = .ok (.ireturn, 1) := dk_172 (dk_at dksX0_count_2 9 rfl rfl)
theorem dX0_count_90 : decode cX0_count 90 = .ok (.aload_n 0, 1) := dk_42 (dk_at dksX0_count_2 10 rfl rfl)
theorem dX0_count_91 : decode cX0_count 91 = .ok (.invokevirtual 155, 3) := dk_182 0 155 (dk_at dksX0_count_2 11 rfl rfl)
theorem dX0_count_94 : decode cX0_count 94 = .ok (.ireturn, 1) := dk_172 (dk_at dksX0_count_2 14 rfl rfl)
theorem dX0_count_95 : decode cX0_count 95 = .ok (.aload_n 0, 1) := dk_42 (dk_at dksX0_count_2 15 rfl rfl)
theorem dX0_count_96 : decode cX0_count 96 = .ok (.getfield 48, 3) := dk_180 0 48 (dk_at dksX0_count_2 16 rfl rfl)
theorem dX0_count_99 : decode cX0_count 99 = .ok (.getfield 255, 3) := dk_180 0 255 (dk_at dksX0_count_2 19 rfl rfl)
theorem dX0_count_102 : decode cX0_count 102 = .ok (.invokevirtual 135, 3) := dk_182 0 135 (dk_at dksX0_count_3 0 rfl rfl)
theorem dX0_count_105 : decode cX0_count 105 = .ok (.ireturn, 1) := dk_172 (dk_at dksX0_count_3 3 rfl rfl)
theorem dX0_count_106 : decode cX0_count 106 = .ok (.aload_n 0, 1) := dk_42 (dk_at dksX0_count_3 4 rfl rfl)
theorem dX0_count_107 : decode cX0_count 107 = .ok (.getfield 59, 3) := dk_180 0 59 (dk_at dksX0_count_3 5 rfl rfl)
theorem dX0_count_110 : decode cX0_count 110 = .ok (.getfield 235, 3) := dk_180 0 235 (dk_at dksX0_count_3 8 rfl rfl)
theorem dX0_count_113 : decode cX0_count 113 = .ok (.ireturn, 1) := dk_172 (dk_at dksX0_count_3 11 rfl rfl)
theorem dX0_count_114 : decode cX0_count 114 = .ok (.aload_n 0, 1) := dk_42 (dk_at dksX0_count_3 12 rfl rfl)
theorem dX0_count_115 : decode cX0_count 115 = .ok (.getfield 59, 3) := dk_180 0 59 (dk_at dksX0_count_3 13 rfl rfl)
theorem dX0_count_118 : decode cX0_count 118 = .ok (.getfield 305, 3) := dk_180 1 49 (dk_at dksX0_count_3 16 rfl rfl)
theorem dX0_count_121 : decode cX0_count 121 = .ok (.ireturn, 1) := dk_172 (dk_at dksX0_count_3 19 rfl rfl)
theorem dX0_count_122 : decode cX0_count 122 = .ok (.aload_n 0, 1) := dk_42 (dk_at dksX0_count_3 20 rfl rfl)
theorem dX0_count_123 : decode cX0_count 123 = .ok (.getfield 59, 3) := dk_180 0 59 (dk_at dksX0_count_3 21 rfl rfl)
theorem dX0_count_126 : decode cX0_count 126 = .ok (.getfield 280, 3) := dk_180 1 24 (dk_at dksX0_count_4 0 rfl rfl)
theorem dX0_count_129 : decode cX0_count 129 = .ok (.ireturn, 1) := dk_172 (dk_at dksX0_count_4 3 rfl rfl)
theorem dX0_count_130 : decode cX0_count 130 = .ok (.aload_n 0, 1) := dk_42 (dk_at dksX0_count_4 4 rfl rfl)
theorem dX0_count_131 : decode cX0_count 131 = .ok (.getfield 59, 3) := dk_180 0 59 (dk_at dksX0_count_4 5 rfl rfl)
theorem dX0_count_134 : decode cX0_count 134 = .ok (.getfield 271, 3) := dk_180 1 15 (dk_at dksX0_count_4 8 rfl rfl)
theorem dX0_count_137 : decode cX0_count 137 = .ok (.ireturn, 1) := dk_172 (dk_at dksX0_count_4 11 rfl rfl)
theorem dX0_count_138 : decode cX0_count 138 = .ok (.iconst 0, 1) := dk_3 (dk_at dksX0_count_4 12 rfl rfl)
theorem dX0_count_139 : decode cX0_count 139 = .ok (.istore_n 3, 1) := dk_62 (dk_at dksX0_count_4 13 rfl rfl)
theorem dX0_count_140 : decode cX0_count 140 = .ok (.iload_n 3, 1) := dk_29 (dk_at dksX0_count_4 14 rfl rfl)
theorem dX0_count_141 : decode cX0_count 141 = .ok (.aload_n 0, 1) := dk_42 (dk_at dksX0_count_4 15 rfl rfl)
theorem dX0_count_142 : decode cX0_count 142 = .ok (.invokevirtual 155, 3) := dk_182 0 155 (dk_at dksX0_count_4 16 rfl rfl)
theorem dX0_count_145 : decode cX0_count 145 = .ok (.if_icmp .ge 32, 3) := dk_162 0 32 (dk_at dksX0_count_4 19 rfl rfl)
theorem dX0_count_148 : decode cX0_count 148 = .ok (.iload_n 2, 1) := dk_28 (dk_at dksX0_count_4 22 rfl rfl)
theorem dX0_count_149 : decode cX0_count 149 = .ok (.aload_n 0, 1) := dk_42 (dk_at dksX0_count_4 23 rfl rfl)
theorem dX0_count_150 : decode cX0_count 150 = .ok (.getfield 59, 3) := dk_180 0 59 (dk_at dksX0_count_5 0 rfl rfl)
theorem dX0_count_153 : decode cX0_count 153 = .ok (.getfield 174, 3) := dk_180 0 174 (dk_at dksX0_count_5 3 rfl rfl)
theorem dX0_count_156 : decode cX0_count 156 = .ok (.iload_n 3, 1) := dk_29 (dk_at dksX0_count_5 6 rfl rfl)
theorem dX0_count_157 : decode cX0_count 157 = .ok (.iaload, 1) := dk_46 (dk_at dksX0_count_5 7 rfl rfl)
theorem dX0_count_158 : decode cX0_count 158 = .ok (.iconst 3, 1) := dk_6 (dk_at dksX0_count_5 8 rfl rfl)
theorem dX0_count_159 : decode cX0_count 159 = .ok (.if_icmp .ne 9, 3) := dk_160 0 9 (dk_at dksX0_count_5 9 rfl rfl)
theorem dX0_count_162 : decode cX0_count 162 = .ok (.iconst 1, 1) := dk_4 (dk_at dksX0_count_5 12 rfl rfl)
theorem dX0_count_163 : decode cX0_count 163 = .ok (.iload_n 3, 1) := dk_29 (dk_at dksX0_count_5 13 rfl rfl)
theorem dX0_count_164 : decode cX0_count 164 = .ok (.ishl, 1) := dk_120 (dk_at dksX0_count_5 14 rfl rfl)
theorem dX0_count_165 : decode cX0_count 165 = .ok (.goto 4, 3) := dk_167 0 4 (dk_at dksX0_count_5 15 rfl rfl)
theorem dX0_count_168 : decode cX0_count 168 = .ok (.iconst 0, 1) := dk_3 (dk_at dksX0_count_5 18 rfl rfl)
theorem dX0_count_169 : decode cX0_count 169 = .ok (.ior, 1) := dk_128 (dk_at dksX0_count_5 19 rfl rfl)
theorem dX0_count_170 : decode cX0_count 170 = .ok (.istore_n 2, 1) := dk_61 (dk_at dksX0_count_5 20 rfl rfl)
theorem dX0_count_171 : decode cX0_count 171 = .ok (.iinc 3 1, 3) := dk_132 3 1 (dk_at dksX0_count_5 21 rfl rfl)
theorem dX0_count_174 : decode cX0_count 174 = .ok (.goto (-34), 3) := dk_167 255 222 (dk_at dksX0_count_6 0 rfl rfl)
theorem dX0_count_177 : decode cX0_count 177 = .ok (.iload_n 2, 1) := dk_28 (dk_at dksX0_count_6 3 rfl rfl)
theorem dX0_count_178 : decode cX0_count 178 = .ok (.ireturn, 1) := dk_172 (dk_at dksX0_count_6 4 rfl rfl)
theorem dX0_count_179 : decode cX0_count 179 = .ok (.aload_n 0, 1) := dk_42 (dk_at dksX0_count_6 5 rfl rfl)
theorem dX0_count_180 : decode cX0_count 180 = .ok (.getfield 59, 3) := dk_180 0 59 (dk_at dksX0_count_6 6 rfl rfl)
theorem dX0_count_183 : decode cX0_count 183 = .ok (.getfield 252, 3) := dk_180 0 252 (dk_at dksX0_count_6 9 rfl rfl)
theorem dX0_count_186 : decode cX0_count 186 = .ok (.ireturn, 1) := dk_172 (dk_at dksX0_count_6 12 rfl rfl)
theorem dX0_count_187 : decode cX0_count 187 = .ok (.aload_n 0, 1) := dk_42 (dk_at dksX0_count_6 13 rfl rfl)
theorem dX0_count_188 : decode cX0_count 188 = .ok (.getfield 59, 3) := dk_180 0 59 (dk_at dksX0_count_6 14 rfl rfl)
theorem dX0_count_191 : decode cX0_count 191 = .ok (.getfield 315, 3) := dk_180 1 59 (dk_at dksX0_count_6 17 rfl rfl)
theorem dX0_count_194 : decode cX0_count 194 = .ok (.ireturn, 1) := dk_172 (dk_at dksX0_count_6 20 rfl rfl)
theorem dX0_count_195 : decode cX0_count 195 = .ok (.aload_n 0, 1) := dk_42 (dk_at dksX0_count_6 21 rfl rfl)
theorem dX0_count_196 : decode cX0_count 196 = .ok (.getfield 32, 3) := dk_180 0 32 (dk_at dksX0_count_7 0 rfl rfl)
theorem dX0_count_199 : decode cX0_count 199 = .ok (.getfield 106, 3) := dk_180 0 106 (dk_at dksX0_count_7 3 rfl rfl)
theorem dX0_count_202 : decode cX0_count 202 = .ok (.ireturn, 1) := dk_172 (dk_at dksX0_count_7 6 rfl rfl)
theorem dX0_count_203 : decode cX0_count 203 = .ok (.aload_n 0, 1) := dk_42 (dk_at dksX0_count_7 7 rfl rfl)
theorem dX0_count_204 : decode cX0_count 204 = .ok (.getfield 121, 3) := dk_180 0 121 (dk_at dksX0_count_7 8 rfl rfl)
theorem dX0_count_207 : decode cX0_count 207 = .ok (.ireturn, 1) := dk_172 (dk_at dksX0_count_7 11 rfl rfl)
theorem dX0_count_208 : decode cX0_count 208 = .ok (.aload_n 0, 1) := dk_42 (dk_at dksX0_count_7 12 rfl rfl)
theorem dX0_count_209 : decode cX0_count 209 = .ok (.getfield 124, 3) := dk_180 0 124 (dk_at dksX0_count_7 13 rfl rfl)
theorem dX0_count_212 : decode cX0_count 212 = .ok (.ireturn, 1) := dk_172 (dk_at dksX0_count_7 16 rfl rfl)
theorem dX0_count_213 : decode cX0_count 213 = .ok (.aload_n 0, 1) := dk_42 (dk_at dksX0_count_7 17 rfl rfl)
theorem dX0_count_214 : decode cX0_count 214 = .ok (.getfield 73, 3) := dk_180 0 73 (dk_at dksX0_count_7 18 rfl rfl)
theorem dX0_count_217 : decode cX0_count 217 = .ok (.iconst 0, 1) := dk_3 (dk_at dksX0_count_7 21 rfl rfl)
theorem dX0_count_218 : decode cX0_count 218 = .ok (.baload, 1) := dk_51 (dk_at dksX0_count_7 22 rfl rfl)
theorem dX0_count_219 : decode cX0_count 219 = .ok (.ifCond .eq 7, 3) := dk_153 0 7 (dk_at dksX0_count_8 0 rfl rfl)
theorem dX0_count_222 : decode cX0_count 222 = .ok (.iconst 1, 1) := dk_4 (dk_at dksX0_count_8 3 rfl rfl)
theorem dX0_count_223 : decode cX0_count 223 = .ok (.goto 4, 3) := dk_167 0 4 (dk_at dksX0_count_8 4 rfl rfl)
theorem dX0_count_226 : decode cX0_count 226 = .ok (.iconst 0, 1) := dk_3 (dk_at dksX0_count_8 7 rfl rfl)
theorem dX0_count_227 : decode cX0_count 227 = .ok (.aload_n 0, 1) := dk_42 (dk_at dksX0_count_8 8 rfl rfl)
theorem dX0_count_228 : decode cX0_count 228 = .ok (.getfield 73, 3) := dk_180 0 73 (dk_at dksX0_count_8 9 rfl rfl)
theorem dX0_count_231 : decode cX0_count 231 = .ok (.iconst 1, 1) := dk_4 (dk_at dksX0_count_8 12 rfl rfl)
theorem dX0_count_232 : decode cX0_count 232 = .ok (.baload, 1) := dk_51 (dk_at dksX0_count_8 13 rfl rfl)
theorem dX0_count_233 : decode cX0_count 233 = .ok (.ifCond .eq 7, 3) := dk_153 0 7 (dk_at dksX0_count_8 14 rfl rfl)
theorem dX0_count_236 : decode cX0_count 236 = .ok (.iconst 1, 1) := dk_4 (dk_at dksX0_count_8 17 rfl rfl)
theorem dX0_count_237 : decode cX0_count 237 = .ok (.goto 4, 3) := dk_167 0 4 (dk_at dksX0_count_8 18 rfl rfl)
theorem dX0_count_240 : decode cX0_count 240 = .ok (.iconst 0, 1) := dk_3 (dk_at dksX0_count_8 21 rfl rfl)
theorem dX0_count_241 : decode cX0_count 241 = .ok (.iadd, 1) := dk_96 (dk_at dksX0_count_8 22 rfl rfl)
theorem dX0_count_242 : decode cX0_count 242 = .ok (.aload_n 0, 1) := dk_42 (dk_at dksX0_count_8 23 rfl rfl)
theorem dX0_count_243 : decode cX0_count 243 = .ok (.getfield 73, 3) := dk_180 0 73 (dk_at dksX0_count_9 0 rfl rfl)
theorem dX0_count_246 : decode cX0_count 246 = .ok (.iconst 2, 1) := dk_5 (dk_at dksX0_count_9 3 rfl rfl)
theorem dX0_count_247 : decode cX0_count 247 = .ok (.baload, 1) := dk_51 (dk_at dksX0_count_9 4 rfl rfl)
theorem dX0_count_248 : decode cX0_count 248 = .ok (.ifCond .eq 7, 3) := dk_153 0 7 (dk_at dksX0_count_9 5 rfl rfl)
theorem dX0_count_251 : decode cX0_count 251 = .ok (.iconst 1, 1) := dk_4 (dk_at dksX0_count_9 8 rfl rfl)
theorem dX0_count_252 : decode cX0_count 252 = .ok (.goto 4, 3) := dk_167 0 4 (dk_at dksX0_count_9 9 rfl rfl)
theorem dX0_count_255 : decode cX0_count 255 = .ok (.iconst 0, 1) := dk_3 (dk_at dksX0_count_9 12 rfl rfl)
theorem dX0_count_256 : decode cX0_count 256 = .ok (.iadd, 1) := dk_96 (dk_at dksX0_count_9 13 rfl rfl)
theorem dX0_count_257 : decode cX0_count 257 = .ok (.ireturn, 1) := dk_172 (dk_at dksX0_count_9 14 rfl rfl)
theorem dX0_count_258 : decode cX0_count 258 = .ok (.aload_n 0, 1) := dk_42 (dk_at dksX0_count_9 15 rfl rfl)
theorem dX0_count_259 : decode cX0_count 259 = .ok (.invokevirtual 374, 3) := dk_182 1 118 (dk_at dksX0_count_9 16 rfl rfl)
theorem dX0_count_262 : decode cX0_count 262 = .ok (.ireturn, 1) := dk_172 (dk_at dksX0_count_9 19 rfl rfl)
theorem dX0_count_263 : decode cX0_count 263 = .ok (.iconst (-1), 1) := dk_2 (dk_at dksX0_count_9 20 rfl rfl)
theorem dX0_count_264 : decode cX0_count 264 = .ok (.ireturn, 1) := dk_172 (dk_at dksX0_count_9 21 rfl rfl)
abbrev cX0_all : ByteArray := prog_1_method_65_code
def yX0_all : MethodName := ⟨RX0, "all", "()I"⟩
def dkwX0_all_2 : List UInt8 := [180, 0, 59, 180, 0, 180, 28, 46, 96, 60, 132, 2, 1, 167, 255, 233, 27, 172]
abbrev dktX0_all_2 : List UInt8 := dkwX0_all_2 ++ []
def dkwX0_all_1 : List UInt8 := [182, 0, 214, 96, 60, 132, 2, 1, 167, 255, 234, 3, 61, 28, 42, 182, 0, 155, 162, 0, 21, 27, 42]
abbrev dktX0_all_1 : List UInt8 := dkwX0_all_1 ++ dktX0_all_2
def dkwX0_all_0 : List UInt8 := [42, 180, 0, 59, 182, 1, 52, 60, 3, 61, 28, 42, 182, 0, 153, 162, 0, 20, 27, 42, 180, 0, 59, 28]
abbrev dktX0_all_0 : List UInt8 := dkwX0_all_0 ++ dktX0_all_1
theorem dksX0_all_0 : cX0_all.data.toList.drop 0 = dktX0_all_0 := by decide +kernel
theorem dksX0_all_1 : cX0_all.data.toList.drop 24 = dktX0_all_1 := dk_seg dksX0_all_0 24 rfl rfl
theorem dksX0_all_2 : cX0_all.data.toList.drop 47 = dktX0_all_2 := dk_seg dksX0_all_1 23 rfl rfl
theorem dX0_all_0 : decode cX0_all 0 = .ok (.aload_n 0, 1) := dk_42 (dk_at dksX0_all_0 0 rfl rfl)
theorem dX0_all_1 : decode cX0_all 1 = .ok (.getfield 59, 3) := dk_180 0 59 (dk_at dksX0_all_0 1 rfl rfl)
theorem dX0_all_4 : decode cX0_all 4 = .ok (.invokevirtual 308, 3) := dk_182 1 52 (dk_at dksX0_all_0 4 rfl rfl)
theorem dX0_all_7 : decode cX0_all 7 = .ok (.istore_n 1, 1) := dk_60 (dk_at dksX0_all_0 7 rfl rfl)
theorem dX0_all_8 : decode cX0_all 8 = .ok (.iconst 0, 1) := dk_3 (dk_at dksX0_all_0 8 rfl rfl)
theorem dX0_all_9 : decode cX0_all 9 = .ok (.istore_n 2, 1) := dk_61 (dk_at dksX0_all_0 9 rfl rfl)
theorem dX0_all_10 : decode cX0_all 10 = .ok (.iload_n 2, 1) := dk_28 (dk_at dksX0_all_0 10 rfl rfl)
theorem dX0_all_11 : decode cX0_all 11 = .ok (.aload_n 0, 1) := dk_42 (dk_at dksX0_all_0 11 rfl rfl)
theorem dX0_all_12 : decode cX0_all 12 = .ok (.invokevirtual 153, 3) := dk_182 0 153 (dk_at dksX0_all_0 12 rfl rfl)
theorem dX0_all_15 : decode cX0_all 15 = .ok (.if_icmp .ge 20, 3) := dk_162 0 20 (dk_at dksX0_all_0 15 rfl rfl)
theorem dX0_all_18 : decode cX0_all 18 = .ok (.iload_n 1, 1) := dk_27 (dk_at dksX0_all_0 18 rfl rfl)
theorem dX0_all_19 : decode cX0_all 19 = .ok (.aload_n 0, 1) := dk_42 (dk_at dksX0_all_0 19 rfl rfl)
theorem dX0_all_20 : decode cX0_all 20 = .ok (.getfield 59, 3) := dk_180 0 59 (dk_at dksX0_all_0 20 rfl rfl)
theorem dX0_all_23 : decode cX0_all 23 = .ok (.iload_n 2, 1) := dk_28 (dk_at dksX0_all_0 23 rfl rfl)
theorem dX0_all_24 : decode cX0_all 24 = .ok (.invokevirtual 214, 3) := dk_182 0 214 (dk_at dksX0_all_1 0 rfl rfl)
theorem dX0_all_27 : decode cX0_all 27 = .ok (.iadd, 1) := dk_96 (dk_at dksX0_all_1 3 rfl rfl)
theorem dX0_all_28 : decode cX0_all 28 = .ok (.istore_n 1, 1) := dk_60 (dk_at dksX0_all_1 4 rfl rfl)
theorem dX0_all_29 : decode cX0_all 29 = .ok (.iinc 2 1, 3) := dk_132 2 1 (dk_at dksX0_all_1 5 rfl rfl)
theorem dX0_all_32 : decode cX0_all 32 = .ok (.goto (-22), 3) := dk_167 255 234 (dk_at dksX0_all_1 8 rfl rfl)
theorem dX0_all_35 : decode cX0_all 35 = .ok (.iconst 0, 1) := dk_3 (dk_at dksX0_all_1 11 rfl rfl)
theorem dX0_all_36 : decode cX0_all 36 = .ok (.istore_n 2, 1) := dk_61 (dk_at dksX0_all_1 12 rfl rfl)
theorem dX0_all_37 : decode cX0_all 37 = .ok (.iload_n 2, 1) := dk_28 (dk_at dksX0_all_1 13 rfl rfl)
theorem dX0_all_38 : decode cX0_all 38 = .ok (.aload_n 0, 1) := dk_42 (dk_at dksX0_all_1 14 rfl rfl)
theorem dX0_all_39 : decode cX0_all 39 = .ok (.invokevirtual 155, 3) := dk_182 0 155 (dk_at dksX0_all_1 15 rfl rfl)
theorem dX0_all_42 : decode cX0_all 42 = .ok (.if_icmp .ge 21, 3) := dk_162 0 21 (dk_at dksX0_all_1 18 rfl rfl)
theorem dX0_all_45 : decode cX0_all 45 = .ok (.iload_n 1, 1) := dk_27 (dk_at dksX0_all_1 21 rfl rfl)
theorem dX0_all_46 : decode cX0_all 46 = .ok (.aload_n 0, 1) := dk_42 (dk_at dksX0_all_1 22 rfl rfl)
theorem dX0_all_47 : decode cX0_all 47 = .ok (.getfield 59, 3) := dk_180 0 59 (dk_at dksX0_all_2 0 rfl rfl)
theorem dX0_all_50 : decode cX0_all 50 = .ok (.getfield 180, 3) := dk_180 0 180 (dk_at dksX0_all_2 3 rfl rfl)
theorem dX0_all_53 : decode cX0_all 53 = .ok (.iload_n 2, 1) := dk_28 (dk_at dksX0_all_2 6 rfl rfl)
theorem dX0_all_54 : decode cX0_all 54 = .ok (.iaload, 1) := dk_46 (dk_at dksX0_all_2 7 rfl rfl)
theorem dX0_all_55 : decode cX0_all 55 = .ok (.iadd, 1) := dk_96 (dk_at dksX0_all_2 8 rfl rfl)
theorem dX0_all_56 : decode cX0_all 56 = .ok (.istore_n 1, 1) := dk_60 (dk_at dksX0_all_2 9 rfl rfl)
theorem dX0_all_57 : decode cX0_all 57 = .ok (.iinc 2 1, 3) := dk_132 2 1 (dk_at dksX0_all_2 10 rfl rfl)
theorem dX0_all_60 : decode cX0_all 60 = .ok (.goto (-23), 3) := dk_167 255 233 (dk_at dksX0_all_2 13 rfl rfl)
theorem dX0_all_63 : decode cX0_all 63 = .ok (.iload_n 1, 1) := dk_27 (dk_at dksX0_all_2 16 rfl rfl)
theorem dX0_all_64 : decode cX0_all 64 = .ok (.ireturn, 1) := dk_172 (dk_at dksX0_all_2 17 rfl rfl)
theorem q113 : (Jvm.Cond.initialized "RatSorters") ∈ lw_all := lw_g (lw_at lw_m1 1 rfl) rfl
theorem q155 : (Jvm.Cond.instantiable "RatSorters" (23 : Nat)) ∈ lw_all := lw_g (lw_at lw_m1 43 rfl) rfl
theorem q157 : (Jvm.Cond.instanceMethod ({ cls := "RatSorters", name := "<init>", desc := "()V" } : Jvm.MethodName)) ∈ lw_all := lw_g (lw_at lw_m1 45 rfl) rfl
theorem q158 : (Jvm.Cond.code ({ cls := "RatSorters", name := "<init>", desc := "()V" } : Jvm.MethodName) prog_1_method_4_code (2 : Nat) (Option.none : Option Jvm.ClassFile.FieldType)) ∈ lw_all := lw_g (lw_at lw_m1 46 rfl) rfl
theorem q159 : (Jvm.Cond.methodLink "RatSorters" (16 : Nat) ({ cls := "java/lang/Object", name := "<init>", desc := "()V" } : Jvm.MethodName)) ∈ lw_all := lw_g (lw_at lw_m1 47 rfl) rfl
theorem q162 : (Jvm.Cond.classLink "RatSorters" (22 : Nat) "RatSorters$Fault") ∈ lw_all := lw_g (lw_at lw_m1 50 rfl) rfl
theorem q201 : (Jvm.Cond.methodLink "RatSorters" (24 : Nat) ({ cls := "RatSorters$Fault", name := "<init>", desc := "()V" } : Jvm.MethodName)) ∈ lw_all := lw_g (lw_at lw_m1 89 rfl) rfl
theorem q215 : (Jvm.Cond.fieldLink "RatSorters" (127 : Nat) "RatSorters$Fault" "number" "I") ∈ lw_all := lw_g (lw_at lw_m1 103 rfl) rfl
theorem q217 : (Jvm.Cond.fieldLink "RatSorters" (130 : Nat) "RatSorters$Fault" "place" "I") ∈ lw_all := lw_g (lw_at lw_m1 105 rfl) rfl
theorem q236 : (Jvm.Cond.classLink "RatSorters" (29 : Nat) "RatSorters$Tokens") ∈ lw_all := lw_g (lw_at lw_m1 124 rfl) rfl
theorem q238 : (Jvm.Cond.methodLinkNest "RatSorters" (31 : Nat) ({ cls := "RatSorters$Tokens", name := "<init>", desc := "()V" } : Jvm.MethodName) "RatSorters") ∈ lw_tbl := lw_at lw_m1 126 rfl
theorem q266 : (Jvm.Cond.fieldLink "RatSorters" (113 : Nat) "RatSorters$Tokens" "tape" "[B") ∈ lw_all := lw_g (lw_at lw_m1 154 rfl) rfl
theorem q268 : (Jvm.Cond.fieldLink "RatSorters" (106 : Nat) "RatSorters$Tokens" "taped" "I") ∈ lw_all := lw_g (lw_at lw_m1 156 rfl) rfl
theorem q295 : (Jvm.Cond.classLink "RatSorters" (36 : Nat) "RatSorters$Parser") ∈ lw_all := lw_g (lw_at lw_m1 183 rfl) rfl
theorem q297 : (Jvm.Cond.methodLink "RatSorters" (38 : Nat) ({ cls := "RatSorters$Parser", name := "<init>", desc := "(LRatSorters$Tokens;LRatSorters$Fault;)V" } : Jvm.MethodName)) ∈ lw_all := lw_g (lw_at lw_m1 185 rfl) rfl
theorem q323 : (Jvm.Cond.classLink "RatSorters" (45 : Nat) "RatSorters$Text") ∈ lw_all := lw_g (lw_at lw_m1 211 rfl) rfl
theorem q325 : (Jvm.Cond.methodLinkNest "RatSorters" (47 : Nat) ({ cls := "RatSorters$Text", name := "<init>", desc := "()V" } : Jvm.MethodName) "RatSorters") ∈ lw_tbl := lw_at lw_m1 213 rfl
theorem q357 : (Jvm.Cond.fieldLink "RatSorters" (131 : Nat) "RatSorters$Text" "grains" "Ljava/util/ArrayList;") ∈ lw_all := lw_g (lw_at lw_m2 5 rfl) rfl
theorem q361 : (Jvm.Cond.fieldLink "RatSorters" (141 : Nat) "RatSorters$Text" "holes" "Ljava/util/ArrayList;") ∈ lw_all := lw_g (lw_at lw_m2 9 rfl) rfl
theorem q365 : (Jvm.Cond.fieldLink "RatSorters" (144 : Nat) "RatSorters$Text" "rats" "Ljava/util/ArrayList;") ∈ lw_all := lw_g (lw_at lw_m2 13 rfl) rfl
theorem q369 : (Jvm.Cond.fieldLink "RatSorters" (255 : Nat) "RatSorters$Text" "merchants" "Ljava/util/ArrayList;") ∈ lw_all := lw_g (lw_at lw_m2 17 rfl) rfl
theorem q378 : (Jvm.Cond.fieldLink "RatSorters" (364 : Nat) "RatSorters$Text" "seed" "I") ∈ lw_all := lw_g (lw_at lw_m2 26 rfl) rfl
theorem q406 : (Jvm.Cond.classLink "RatSorters" (56 : Nat) "RatSorters$House") ∈ lw_all := lw_g (lw_at lw_m2 54 rfl) rfl
theorem q408 : (Jvm.Cond.methodLinkNest "RatSorters" (58 : Nat) ({ cls := "RatSorters$House", name := "<init>", desc := "()V" } : Jvm.MethodName) "RatSorters") ∈ lw_tbl := lw_at lw_m2 56 rfl
theorem q465 : (Jvm.Cond.fieldLink "RatSorters" (161 : Nat) "RatSorters$House" "heap" "[I") ∈ lw_all := lw_g (lw_at lw_m2 113 rfl) rfl
theorem q468 : (Jvm.Cond.fieldLink "RatSorters" (361 : Nat) "RatSorters$House" "far" "[I") ∈ lw_all := lw_g (lw_at lw_m2 116 rfl) rfl
theorem q470 : (Jvm.Cond.fieldLink "RatSorters" (167 : Nat) "RatSorters$House" "hole" "[[I") ∈ lw_all := lw_g (lw_at lw_m2 118 rfl) rfl
theorem q474 : (Jvm.Cond.fieldLink "RatSorters" (174 : Nat) "RatSorters$House" "is" "[I") ∈ lw_all := lw_g (lw_at lw_m2 122 rfl) rfl
theorem q478 : (Jvm.Cond.fieldLink "RatSorters" (177 : Nat) "RatSorters$House" "left" "[I") ∈ lw_all := lw_g (lw_at lw_m2 126 rfl) rfl
theorem q480 : (Jvm.Cond.fieldLink "RatSorters" (180 : Nat) "RatSorters$House" "carries" "[I") ∈ lw_all := lw_g (lw_at lw_m2 128 rfl) rfl
theorem q482 : (Jvm.Cond.fieldLink "RatSorters" (183 : Nat) "RatSorters$House" "of" "[I") ∈ lw_all := lw_g (lw_at lw_m2 130 rfl) rfl
theorem q485 : (Jvm.Cond.fieldLink "RatSorters" (198 : Nat) "RatSorters$House" "to" "[I") ∈ lw_all := lw_g (lw_at lw_m2 133 rfl) rfl
theorem q489 : (Jvm.Cond.fieldLink "RatSorters" (186 : Nat) "RatSorters$House" "hunger" "[I") ∈ lw_all := lw_g (lw_at lw_m2 137 rfl) rfl
theorem q491 : (Jvm.Cond.fieldLink "RatSorters" (189 : Nat) "RatSorters$House" "fat" "[I") ∈ lw_all := lw_g (lw_at lw_m2 139 rfl) rfl
theorem q494 : (Jvm.Cond.fieldLink "RatSorters" (192 : Nat) "RatSorters$House" "knows" "[I") ∈ lw_all := lw_g (lw_at lw_m2 142 rfl) rfl
theorem q496 : (Jvm.Cond.fieldLink "RatSorters" (195 : Nat) "RatSorters$House" "trips" "[I") ∈ lw_all := lw_g (lw_at lw_m2 144 rfl) rfl
theorem q498 : (Jvm.Cond.fieldLink "RatSorters" (252 : Nat) "RatSorters$House" "cat" "I") ∈ lw_all := lw_g (lw_at lw_m2 146 rfl) rfl
theorem q500 : (Jvm.Cond.fieldLink "RatSorters" (235 : Nat) "RatSorters$House" "minute" "I") ∈ lw_all := lw_g (lw_at lw_m2 148 rfl) rfl
theorem q502 : (Jvm.Cond.fieldLink "RatSorters" (305 : Nat) "RatSorters$House" "eaten" "I") ∈ lw_all := lw_g (lw_at lw_m2 150 rfl) rfl
theorem q504 : (Jvm.Cond.fieldLink "RatSorters" (280 : Nat) "RatSorters$House" "coins" "I") ∈ lw_all := lw_g (lw_at lw_m2 152 rfl) rfl
theorem q506 : (Jvm.Cond.fieldLink "RatSorters" (271 : Nat) "RatSorters$House" "sold" "I") ∈ lw_all := lw_g (lw_at lw_m2 154 rfl) rfl
theorem q509 : (Jvm.Cond.fieldLink "RatSorters" (315 : Nat) "RatSorters$House" "quarrels" "I") ∈ lw_all := lw_g (lw_at lw_m2 157 rfl) rfl
theorem q511 : (Jvm.Cond.fieldLink "RatSorters" (367 : Nat) "RatSorters$House" "seed" "I") ∈ lw_all := lw_g (lw_at lw_m2 159 rfl) rfl
theorem q561 : (Jvm.Cond.methodLink "RatSorters" (102 : Nat) ({ cls := "RatSorters$House", name := "begins", desc := "(LRatSorters$Text;)V" } : Jvm.MethodName)) ∈ lw_all := lw_g (lw_at lw_m2 209 rfl) rfl
theorem q586 : (Jvm.Cond.fieldLink "RatSorters" (25 : Nat) "RatSorters" "fault" "LRatSorters$Fault;") ∈ lw_all := lw_g (lw_at lw_m2 234 rfl) rfl
theorem q587 : (Jvm.Cond.fieldLink "RatSorters" (32 : Nat) "RatSorters" "tokens" "LRatSorters$Tokens;") ∈ lw_all := lw_g (lw_at lw_m2 235 rfl) rfl
theorem q588 : (Jvm.Cond.fieldLink "RatSorters" (41 : Nat) "RatSorters" "parser" "LRatSorters$Parser;") ∈ lw_all := lw_g (lw_at lw_m2 236 rfl) rfl
theorem q589 : (Jvm.Cond.fieldLink "RatSorters" (48 : Nat) "RatSorters" "text" "LRatSorters$Text;") ∈ lw_all := lw_g (lw_at lw_m2 237 rfl) rfl
theorem q590 : (Jvm.Cond.fieldLink "RatSorters" (52 : Nat) "RatSorters" "place" "I") ∈ lw_all := lw_g (lw_at lw_m2 238 rfl) rfl
theorem q591 : (Jvm.Cond.fieldLink "RatSorters" (121 : Nat) "RatSorters" "undos" "I") ∈ lw_all := lw_g (lw_at lw_m2 239 rfl) rfl
theorem q592 : (Jvm.Cond.fieldLink "RatSorters" (218 : Nat) "RatSorters" "undoAt" "I") ∈ lw_all := lw_g (lw_at lw_m3 0 rfl) rfl
theorem q593 : (Jvm.Cond.fieldLink "RatSorters" (59 : Nat) "RatSorters" "house" "LRatSorters$House;") ∈ lw_all := lw_g (lw_at lw_m3 1 rfl) rfl
theorem q594 : (Jvm.Cond.fieldLink "RatSorters" (63 : Nat) "RatSorters" "trial" "LRatSorters$House;") ∈ lw_all := lw_g (lw_at lw_m3 2 rfl) rfl
theorem q595 : (Jvm.Cond.fieldLink "RatSorters" (66 : Nat) "RatSorters" "past" "[LRatSorters$House;") ∈ lw_all := lw_g (lw_at lw_m3 3 rfl) rfl
theorem q596 : (Jvm.Cond.fieldLink "RatSorters" (70 : Nat) "RatSorters" "slots" "[LRatSorters$House;") ∈ lw_all := lw_g (lw_at lw_m3 4 rfl) rfl
theorem q597 : (Jvm.Cond.fieldLink "RatSorters" (73 : Nat) "RatSorters" "held" "[Z") ∈ lw_all := lw_g (lw_at lw_m3 5 rfl) rfl
theorem q598 : (Jvm.Cond.fieldLink "RatSorters" (77 : Nat) "RatSorters" "wanted" "[I") ∈ lw_all := lw_g (lw_at lw_m3 6 rfl) rfl
theorem q599 : (Jvm.Cond.fieldLink "RatSorters" (81 : Nat) "RatSorters" "lesson" "[I") ∈ lw_all := lw_g (lw_at lw_m3 7 rfl) rfl
theorem q600 : (Jvm.Cond.fieldLink "RatSorters" (84 : Nat) "RatSorters" "bestLesson" "[I") ∈ lw_all := lw_g (lw_at lw_m3 8 rfl) rfl
theorem q601 : (Jvm.Cond.fieldLink "RatSorters" (87 : Nat) "RatSorters" "which" "[I") ∈ lw_all := lw_g (lw_at lw_m3 9 rfl) rfl
theorem q602 : (Jvm.Cond.fieldLink "RatSorters" (336 : Nat) "RatSorters" "lessons" "I") ∈ lw_all := lw_g (lw_at lw_m3 10 rfl) rfl
theorem q603 : (Jvm.Cond.fieldLink "RatSorters" (339 : Nat) "RatSorters" "bestWorth" "I") ∈ lw_all := lw_g (lw_at lw_m3 11 rfl) rfl
theorem q604 : (Jvm.Cond.fieldLink "RatSorters" (124 : Nat) "RatSorters" "tolds" "I") ∈ lw_all := lw_g (lw_at lw_m3 12 rfl) rfl
theorem q605 : (Jvm.Cond.fieldLink "RatSorters" (90 : Nat) "RatSorters" "toldHole" "[I") ∈ lw_all := lw_g (lw_at lw_m3 13 rfl) rfl
theorem q606 : (Jvm.Cond.fieldLink "RatSorters" (93 : Nat) "RatSorters" "toldGrain" "[I") ∈ lw_all := lw_g (lw_at lw_m3 14 rfl) rfl
theorem q607 : (Jvm.Cond.fieldLink "RatSorters" (96 : Nat) "RatSorters" "toldMinute" "[I") ∈ lw_all := lw_g (lw_at lw_m3 15 rfl) rfl
theorem q608 : (Jvm.Cond.fieldLink "RatSorters" (99 : Nat) "RatSorters" "toldMany" "[I") ∈ lw_all := lw_g (lw_at lw_m3 16 rfl) rfl
theorem q609 : (Jvm.Cond.laysFinal "RatSorters" "RatSorters" "fault" "LRatSorters$Fault;") ∈ lw_all := lw_g (lw_at lw_m3 17 rfl) rfl
theorem q610 : (Jvm.Cond.soleField "RatSorters" "fault") ∈ lw_all := lw_g (lw_at lw_m3 18 rfl) rfl
theorem q611 : (Jvm.Cond.laysFinal "RatSorters" "RatSorters" "tokens" "LRatSorters$Tokens;") ∈ lw_all := lw_g (lw_at lw_m3 19 rfl) rfl
theorem q612 : (Jvm.Cond.soleField "RatSorters" "tokens") ∈ lw_all := lw_g (lw_at lw_m3 20 rfl) rfl
theorem q613 : (Jvm.Cond.laysFinal "RatSorters" "RatSorters" "parser" "LRatSorters$Parser;") ∈ lw_all := lw_g (lw_at lw_m3 21 rfl) rfl
theorem q614 : (Jvm.Cond.soleField "RatSorters" "parser") ∈ lw_all := lw_g (lw_at lw_m3 22 rfl) rfl
theorem q615 : (Jvm.Cond.lays "RatSorters" "RatSorters" "text" "LRatSorters$Text;") ∈ lw_all := lw_g (lw_at lw_m3 23 rfl) rfl
theorem q616 : (Jvm.Cond.soleField "RatSorters" "text") ∈ lw_all := lw_g (lw_at lw_m3 24 rfl) rfl
theorem q617 : (Jvm.Cond.lays "RatSorters" "RatSorters" "place" "I") ∈ lw_all := lw_g (lw_at lw_m3 25 rfl) rfl
theorem q618 : (Jvm.Cond.soleField "RatSorters" "place") ∈ lw_all := lw_g (lw_at lw_m3 26 rfl) rfl
theorem q619 : (Jvm.Cond.lays "RatSorters" "RatSorters" "undos" "I") ∈ lw_all := lw_g (lw_at lw_m3 27 rfl) rfl
theorem q620 : (Jvm.Cond.soleField "RatSorters" "undos") ∈ lw_all := lw_g (lw_at lw_m3 28 rfl) rfl
theorem q621 : (Jvm.Cond.lays "RatSorters" "RatSorters" "undoAt" "I") ∈ lw_all := lw_g (lw_at lw_m3 29 rfl) rfl
theorem q622 : (Jvm.Cond.soleField "RatSorters" "undoAt") ∈ lw_all := lw_g (lw_at lw_m3 30 rfl) rfl
theorem q623 : (Jvm.Cond.laysFinal "RatSorters" "RatSorters" "house" "LRatSorters$House;") ∈ lw_all := lw_g (lw_at lw_m3 31 rfl) rfl
theorem q624 : (Jvm.Cond.soleField "RatSorters" "house") ∈ lw_all := lw_g (lw_at lw_m3 32 rfl) rfl
theorem q625 : (Jvm.Cond.laysFinal "RatSorters" "RatSorters" "trial" "LRatSorters$House;") ∈ lw_all := lw_g (lw_at lw_m3 33 rfl) rfl
theorem q626 : (Jvm.Cond.soleField "RatSorters" "trial") ∈ lw_all := lw_g (lw_at lw_m3 34 rfl) rfl
theorem q627 : (Jvm.Cond.laysFinal "RatSorters" "RatSorters" "past" "[LRatSorters$House;") ∈ lw_all := lw_g (lw_at lw_m3 35 rfl) rfl
theorem q628 : (Jvm.Cond.soleField "RatSorters" "past") ∈ lw_all := lw_g (lw_at lw_m3 36 rfl) rfl
theorem q629 : (Jvm.Cond.laysFinal "RatSorters" "RatSorters" "slots" "[LRatSorters$House;") ∈ lw_all := lw_g (lw_at lw_m3 37 rfl) rfl
theorem q630 : (Jvm.Cond.soleField "RatSorters" "slots") ∈ lw_all := lw_g (lw_at lw_m3 38 rfl) rfl
theorem q631 : (Jvm.Cond.laysFinal "RatSorters" "RatSorters" "held" "[Z") ∈ lw_all := lw_g (lw_at lw_m3 39 rfl) rfl
theorem q632 : (Jvm.Cond.soleField "RatSorters" "held") ∈ lw_all := lw_g (lw_at lw_m3 40 rfl) rfl
theorem q633 : (Jvm.Cond.laysFinal "RatSorters" "RatSorters" "wanted" "[I") ∈ lw_all := lw_g (lw_at lw_m3 41 rfl) rfl
theorem q634 : (Jvm.Cond.soleField "RatSorters" "wanted") ∈ lw_all := lw_g (lw_at lw_m3 42 rfl) rfl
theorem q635 : (Jvm.Cond.laysFinal "RatSorters" "RatSorters" "lesson" "[I") ∈ lw_all := lw_g (lw_at lw_m3 43 rfl) rfl
theorem q636 : (Jvm.Cond.soleField "RatSorters" "lesson") ∈ lw_all := lw_g (lw_at lw_m3 44 rfl) rfl
theorem q637 : (Jvm.Cond.laysFinal "RatSorters" "RatSorters" "bestLesson" "[I") ∈ lw_all := lw_g (lw_at lw_m3 45 rfl) rfl
theorem q638 : (Jvm.Cond.soleField "RatSorters" "bestLesson") ∈ lw_all := lw_g (lw_at lw_m3 46 rfl) rfl
theorem q639 : (Jvm.Cond.laysFinal "RatSorters" "RatSorters" "which" "[I") ∈ lw_all := lw_g (lw_at lw_m3 47 rfl) rfl
theorem q640 : (Jvm.Cond.soleField "RatSorters" "which") ∈ lw_all := lw_g (lw_at lw_m3 48 rfl) rfl
theorem q641 : (Jvm.Cond.lays "RatSorters" "RatSorters" "lessons" "I") ∈ lw_all := lw_g (lw_at lw_m3 49 rfl) rfl
theorem q642 : (Jvm.Cond.soleField "RatSorters" "lessons") ∈ lw_all := lw_g (lw_at lw_m3 50 rfl) rfl
theorem q643 : (Jvm.Cond.lays "RatSorters" "RatSorters" "bestWorth" "I") ∈ lw_all := lw_g (lw_at lw_m3 51 rfl) rfl
theorem q644 : (Jvm.Cond.soleField "RatSorters" "bestWorth") ∈ lw_all := lw_g (lw_at lw_m3 52 rfl) rfl
theorem q645 : (Jvm.Cond.lays "RatSorters" "RatSorters" "tolds" "I") ∈ lw_all := lw_g (lw_at lw_m3 53 rfl) rfl
theorem q646 : (Jvm.Cond.soleField "RatSorters" "tolds") ∈ lw_all := lw_g (lw_at lw_m3 54 rfl) rfl
theorem q647 : (Jvm.Cond.laysFinal "RatSorters" "RatSorters" "toldHole" "[I") ∈ lw_all := lw_g (lw_at lw_m3 55 rfl) rfl
theorem q648 : (Jvm.Cond.soleField "RatSorters" "toldHole") ∈ lw_all := lw_g (lw_at lw_m3 56 rfl) rfl
theorem q649 : (Jvm.Cond.laysFinal "RatSorters" "RatSorters" "toldGrain" "[I") ∈ lw_all := lw_g (lw_at lw_m3 57 rfl) rfl
theorem q650 : (Jvm.Cond.soleField "RatSorters" "toldGrain") ∈ lw_all := lw_g (lw_at lw_m3 58 rfl) rfl
theorem q651 : (Jvm.Cond.laysFinal "RatSorters" "RatSorters" "toldMinute" "[I") ∈ lw_all := lw_g (lw_at lw_m3 59 rfl) rfl
theorem q652 : (Jvm.Cond.soleField "RatSorters" "toldMinute") ∈ lw_all := lw_g (lw_at lw_m3 60 rfl) rfl
theorem q653 : (Jvm.Cond.laysFinal "RatSorters" "RatSorters" "toldMany" "[I") ∈ lw_all := lw_g (lw_at lw_m3 61 rfl) rfl
theorem q654 : (Jvm.Cond.soleField "RatSorters" "toldMany") ∈ lw_all := lw_g (lw_at lw_m3 62 rfl) rfl
theorem q655 : (Jvm.Cond.superclass "RatSorters" "java/lang/Object") ∈ lw_all := lw_g (lw_at lw_m3 63 rfl) rfl
theorem q658 : (Jvm.Cond.instanceMethod ({ cls := "RatSorters", name := "feed", desc := "(IIIII)I" } : Jvm.MethodName)) ∈ lw_all := lw_g (lw_at lw_m3 66 rfl) rfl
theorem q659 : (Jvm.Cond.selects "RatSorters" ({ cls := "RatSorters", name := "feed", desc := "(IIIII)I" } : Jvm.MethodName) ({ cls := "RatSorters", name := "feed", desc := "(IIIII)I" } : Jvm.MethodName)) ∈ lw_all := lw_g (lw_at lw_m3 67 rfl) rfl
theorem q660 : (Jvm.Cond.code ({ cls := "RatSorters", name := "feed", desc := "(IIIII)I" } : Jvm.MethodName) prog_1_method_5_code (6 : Nat) (Option.some Jvm.ClassFile.FieldType.int)) ∈ lw_all := lw_g (lw_at lw_m3 68 rfl) rfl
theorem q661 : (Jvm.Cond.methodLink "RatSorters" (109 : Nat) ({ cls := "RatSorters", name := "typed", desc := "(I)V" } : Jvm.MethodName)) ∈ lw_all := lw_g (lw_at lw_m3 69 rfl) rfl
theorem q662 : (Jvm.Cond.privateMethod ({ cls := "RatSorters", name := "typed", desc := "(I)V" } : Jvm.MethodName)) ∈ lw_tbl := lw_at lw_m3 70 rfl
theorem q663 : (Jvm.Cond.instanceMethod ({ cls := "RatSorters", name := "typed", desc := "(I)V" } : Jvm.MethodName)) ∈ lw_all := lw_g (lw_at lw_m3 71 rfl) rfl
theorem q664 : (Jvm.Cond.code ({ cls := "RatSorters", name := "typed", desc := "(I)V" } : Jvm.MethodName) prog_1_method_6_code (3 : Nat) (Option.none : Option Jvm.ClassFile.FieldType)) ∈ lw_all := lw_g (lw_at lw_m3 72 rfl) rfl
theorem q666 : (Jvm.Cond.instanceMethod ({ cls := "RatSorters", name := "back", desc := "(I)I" } : Jvm.MethodName)) ∈ lw_all := lw_g (lw_at lw_m3 74 rfl) rfl
theorem q667 : (Jvm.Cond.selects "RatSorters" ({ cls := "RatSorters", name := "back", desc := "(I)I" } : Jvm.MethodName) ({ cls := "RatSorters", name := "back", desc := "(I)I" } : Jvm.MethodName)) ∈ lw_all := lw_g (lw_at lw_m3 75 rfl) rfl
theorem q668 : (Jvm.Cond.code ({ cls := "RatSorters", name := "back", desc := "(I)I" } : Jvm.MethodName) prog_1_method_7_code (2 : Nat) (Option.some Jvm.ClassFile.FieldType.int)) ∈ lw_all := lw_g (lw_at lw_m3 76 rfl) rfl
theorem q670 : (Jvm.Cond.instanceMethod ({ cls := "RatSorters", name := "read", desc := "()I" } : Jvm.MethodName)) ∈ lw_all := lw_g (lw_at lw_m3 78 rfl) rfl
theorem q671 : (Jvm.Cond.selects "RatSorters" ({ cls := "RatSorters", name := "read", desc := "()I" } : Jvm.MethodName) ({ cls := "RatSorters", name := "read", desc := "()I" } : Jvm.MethodName)) ∈ lw_all := lw_g (lw_at lw_m3 79 rfl) rfl
theorem q672 : (Jvm.Cond.codeWith ({ cls := "RatSorters", name := "read", desc := "()I" } : Jvm.MethodName) prog_1_method_8_code (3 : Nat) (Option.some Jvm.ClassFile.FieldType.int) [((7 : Nat), (59 : Nat), (62 : Nat), (22 : Nat))]) ∈ lw_all := lw_g (lw_at lw_m3 80 rfl) rfl
theorem q673 : (Jvm.Cond.methodLink "RatSorters" (117 : Nat) ({ cls := "RatSorters$Parser", name := "read", desc := "()LRatSorters$Text;" } : Jvm.MethodName)) ∈ lw_all := lw_g (lw_at lw_m3 81 rfl) rfl
theorem q1031 : (Jvm.Cond.selects "RatSorters" ({ cls := "java/lang/Object", name := "getClass", desc := "()Ljava/lang/Class;" } : Jvm.MethodName) ({ cls := "java/lang/Object", name := "getClass", desc := "()Ljava/lang/Class;" } : Jvm.MethodName)) ∈ lw_all := lw_g (lw_at lw_m4 199 rfl) rfl
theorem q1073 : (Jvm.Cond.fieldLink "RatSorters" (211 : Nat) "RatSorters$Hole" "grain" "I") ∈ lw_all := lw_g (lw_at lw_m5 1 rfl) rfl
theorem q1098 : (Jvm.Cond.fieldLink "RatSorters" (320 : Nat) "RatSorters$Rat" "fee" "I") ∈ lw_all := lw_g (lw_at lw_m5 26 rfl) rfl
theorem q1217 : (Jvm.Cond.fieldLink "RatSorters" (263 : Nat) "RatSorters$Merchant" "grain" "[I") ∈ lw_all := lw_g (lw_at lw_m5 145 rfl) rfl
theorem q1220 : (Jvm.Cond.fieldLink "RatSorters" (265 : Nat) "RatSorters$Merchant" "much" "[I") ∈ lw_all := lw_g (lw_at lw_m5 148 rfl) rfl
theorem q1222 : (Jvm.Cond.fieldLink "RatSorters" (283 : Nat) "RatSorters$Merchant" "pays" "I") ∈ lw_all := lw_g (lw_at lw_m5 150 rfl) rfl
theorem q1225 : (Jvm.Cond.fieldLink "RatSorters" (260 : Nat) "RatSorters$Merchant" "wants" "I") ∈ lw_all := lw_g (lw_at lw_m5 153 rfl) rfl
theorem q1240 : (Jvm.Cond.instanceMethod ({ cls := "RatSorters", name := "place", desc := "()I" } : Jvm.MethodName)) ∈ lw_all := lw_g (lw_at lw_m5 168 rfl) rfl
theorem q1241 : (Jvm.Cond.selects "RatSorters" ({ cls := "RatSorters", name := "place", desc := "()I" } : Jvm.MethodName) ({ cls := "RatSorters", name := "place", desc := "()I" } : Jvm.MethodName)) ∈ lw_all := lw_g (lw_at lw_m5 169 rfl) rfl
theorem q1242 : (Jvm.Cond.code ({ cls := "RatSorters", name := "place", desc := "()I" } : Jvm.MethodName) prog_1_method_9_code (1 : Nat) (Option.some Jvm.ClassFile.FieldType.int)) ∈ lw_all := lw_g (lw_at lw_m5 170 rfl) rfl
theorem q1244 : (Jvm.Cond.instanceMethod ({ cls := "RatSorters", name := "heap", desc := "(I)I" } : Jvm.MethodName)) ∈ lw_all := lw_g (lw_at lw_m5 172 rfl) rfl
theorem q1245 : (Jvm.Cond.selects "RatSorters" ({ cls := "RatSorters", name := "heap", desc := "(I)I" } : Jvm.MethodName) ({ cls := "RatSorters", name := "heap", desc := "(I)I" } : Jvm.MethodName)) ∈ lw_all := lw_g (lw_at lw_m5 173 rfl) rfl
theorem q1246 : (Jvm.Cond.code ({ cls := "RatSorters", name := "heap", desc := "(I)I" } : Jvm.MethodName) prog_1_method_17_code (2 : Nat) (Option.some Jvm.ClassFile.FieldType.int)) ∈ lw_all := lw_g (lw_at lw_m5 174 rfl) rfl
theorem q1247 : (Jvm.Cond.methodLink "RatSorters" (157 : Nat) ({ cls := "RatSorters", name := "isGrain", desc := "(I)Z" } : Jvm.MethodName)) ∈ lw_all := lw_g (lw_at lw_m5 175 rfl) rfl
theorem q1248 : (Jvm.Cond.privateMethod ({ cls := "RatSorters", name := "isGrain", desc := "(I)Z" } : Jvm.MethodName)) ∈ lw_tbl := lw_at lw_m5 176 rfl
theorem q1249 : (Jvm.Cond.instanceMethod ({ cls := "RatSorters", name := "isGrain", desc := "(I)Z" } : Jvm.MethodName)) ∈ lw_all := lw_g (lw_at lw_m5 177 rfl) rfl
theorem q1250 : (Jvm.Cond.code ({ cls := "RatSorters", name := "isGrain", desc := "(I)Z" } : Jvm.MethodName) prog_1_method_14_code (2 : Nat) (Option.some Jvm.ClassFile.FieldType.boolean)) ∈ lw_all := lw_g (lw_at lw_m5 178 rfl) rfl
theorem q1251 : (Jvm.Cond.methodLink "RatSorters" (147 : Nat) ({ cls := "RatSorters", name := "grains", desc := "()I" } : Jvm.MethodName)) ∈ lw_all := lw_g (lw_at lw_m5 179 rfl) rfl
theorem q1252 : (Jvm.Cond.privateMethod ({ cls := "RatSorters", name := "grains", desc := "()I" } : Jvm.MethodName)) ∈ lw_tbl := lw_at lw_m5 180 rfl
theorem q1253 : (Jvm.Cond.instanceMethod ({ cls := "RatSorters", name := "grains", desc := "()I" } : Jvm.MethodName)) ∈ lw_all := lw_g (lw_at lw_m5 181 rfl) rfl
theorem q1254 : (Jvm.Cond.code ({ cls := "RatSorters", name := "grains", desc := "()I" } : Jvm.MethodName) prog_1_method_11_code (1 : Nat) (Option.some Jvm.ClassFile.FieldType.int)) ∈ lw_all := lw_g (lw_at lw_m5 182 rfl) rfl
theorem q1255 : (Jvm.Cond.methodLink "RatSorters" (135 : Nat) ({ cls := "java/util/ArrayList", name := "size", desc := "()I" } : Jvm.MethodName)) ∈ lw_all := lw_g (lw_at lw_m5 183 rfl) rfl
theorem q1256 : (Jvm.Cond.methodLink "RatSorters" (149 : Nat) ({ cls := "RatSorters", name := "isIn", desc := "(III)Z" } : Jvm.MethodName)) ∈ lw_all := lw_g (lw_at lw_m5 184 rfl) rfl
theorem q1257 : (Jvm.Cond.static ({ cls := "RatSorters", name := "isIn", desc := "(III)Z" } : Jvm.MethodName)) ∈ lw_all := lw_g (lw_at lw_m5 185 rfl) rfl
theorem q1258 : (Jvm.Cond.code ({ cls := "RatSorters", name := "isIn", desc := "(III)Z" } : Jvm.MethodName) prog_1_method_10_code (3 : Nat) (Option.some Jvm.ClassFile.FieldType.boolean)) ∈ lw_all := lw_g (lw_at lw_m5 186 rfl) rfl
theorem q1260 : (Jvm.Cond.instanceMethod ({ cls := "RatSorters", name := "hole", desc := "(II)I" } : Jvm.MethodName)) ∈ lw_all := lw_g (lw_at lw_m5 188 rfl) rfl
theorem q1261 : (Jvm.Cond.selects "RatSorters" ({ cls := "RatSorters", name := "hole", desc := "(II)I" } : Jvm.MethodName) ({ cls := "RatSorters", name := "hole", desc := "(II)I" } : Jvm.MethodName)) ∈ lw_all := lw_g (lw_at lw_m5 189 rfl) rfl
theorem q1262 : (Jvm.Cond.code ({ cls := "RatSorters", name := "hole", desc := "(II)I" } : Jvm.MethodName) prog_1_method_18_code (3 : Nat) (Option.some Jvm.ClassFile.FieldType.int)) ∈ lw_all := lw_g (lw_at lw_m5 190 rfl) rfl
theorem q1263 : (Jvm.Cond.methodLink "RatSorters" (164 : Nat) ({ cls := "RatSorters", name := "isHole", desc := "(I)Z" } : Jvm.MethodName)) ∈ lw_all := lw_g (lw_at lw_m5 191 rfl) rfl
theorem q1264 : (Jvm.Cond.privateMethod ({ cls := "RatSorters", name := "isHole", desc := "(I)Z" } : Jvm.MethodName)) ∈ lw_tbl := lw_at lw_m5 192 rfl
theorem q1265 : (Jvm.Cond.instanceMethod ({ cls := "RatSorters", name := "isHole", desc := "(I)Z" } : Jvm.MethodName)) ∈ lw_all := lw_g (lw_at lw_m5 193 rfl) rfl
theorem q1266 : (Jvm.Cond.code ({ cls := "RatSorters", name := "isHole", desc := "(I)Z" } : Jvm.MethodName) prog_1_method_15_code (2 : Nat) (Option.some Jvm.ClassFile.FieldType.boolean)) ∈ lw_all := lw_g (lw_at lw_m5 194 rfl) rfl
theorem q1267 : (Jvm.Cond.methodLink "RatSorters" (153 : Nat) ({ cls := "RatSorters", name := "holes", desc := "()I" } : Jvm.MethodName)) ∈ lw_all := lw_g (lw_at lw_m5 195 rfl) rfl
theorem q1268 : (Jvm.Cond.privateMethod ({ cls := "RatSorters", name := "holes", desc := "()I" } : Jvm.MethodName)) ∈ lw_tbl := lw_at lw_m5 196 rfl
theorem q1269 : (Jvm.Cond.instanceMethod ({ cls := "RatSorters", name := "holes", desc := "()I" } : Jvm.MethodName)) ∈ lw_all := lw_g (lw_at lw_m5 197 rfl) rfl
theorem q1270 : (Jvm.Cond.code ({ cls := "RatSorters", name := "holes", desc := "()I" } : Jvm.MethodName) prog_1_method_12_code (1 : Nat) (Option.some Jvm.ClassFile.FieldType.int)) ∈ lw_all := lw_g (lw_at lw_m5 198 rfl) rfl
theorem q1272 : (Jvm.Cond.instanceMethod ({ cls := "RatSorters", name := "rat", desc := "(II)I" } : Jvm.MethodName)) ∈ lw_all := lw_g (lw_at lw_m5 200 rfl) rfl
theorem q1273 : (Jvm.Cond.selects "RatSorters" ({ cls := "RatSorters", name := "rat", desc := "(II)I" } : Jvm.MethodName) ({ cls := "RatSorters", name := "rat", desc := "(II)I" } : Jvm.MethodName)) ∈ lw_all := lw_g (lw_at lw_m5 201 rfl) rfl
theorem q1274 : (Jvm.Cond.code ({ cls := "RatSorters", name := "rat", desc := "(II)I" } : Jvm.MethodName) prog_1_method_19_code (3 : Nat) (Option.some Jvm.ClassFile.FieldType.int)) ∈ lw_all := lw_g (lw_at lw_m5 202 rfl) rfl
theorem q1275 : (Jvm.Cond.methodLink "RatSorters" (171 : Nat) ({ cls := "RatSorters", name := "isRat", desc := "(I)Z" } : Jvm.MethodName)) ∈ lw_all := lw_g (lw_at lw_m5 203 rfl) rfl
theorem q1276 : (Jvm.Cond.privateMethod ({ cls := "RatSorters", name := "isRat", desc := "(I)Z" } : Jvm.MethodName)) ∈ lw_tbl := lw_at lw_m5 204 rfl
theorem q1277 : (Jvm.Cond.instanceMethod ({ cls := "RatSorters", name := "isRat", desc := "(I)Z" } : Jvm.MethodName)) ∈ lw_all := lw_g (lw_at lw_m5 205 rfl) rfl
theorem q1278 : (Jvm.Cond.code ({ cls := "RatSorters", name := "isRat", desc := "(I)Z" } : Jvm.MethodName) prog_1_method_16_code (2 : Nat) (Option.some Jvm.ClassFile.FieldType.boolean)) ∈ lw_all := lw_g (lw_at lw_m5 206 rfl) rfl
theorem q1279 : (Jvm.Cond.methodLink "RatSorters" (155 : Nat) ({ cls := "RatSorters", name := "rats", desc := "()I" } : Jvm.MethodName)) ∈ lw_all := lw_g (lw_at lw_m5 207 rfl) rfl
theorem q1280 : (Jvm.Cond.privateMethod ({ cls := "RatSorters", name := "rats", desc := "()I" } : Jvm.MethodName)) ∈ lw_tbl := lw_at lw_m5 208 rfl
theorem q1281 : (Jvm.Cond.instanceMethod ({ cls := "RatSorters", name := "rats", desc := "()I" } : Jvm.MethodName)) ∈ lw_all := lw_g (lw_at lw_m5 209 rfl) rfl
theorem q1282 : (Jvm.Cond.code ({ cls := "RatSorters", name := "rats", desc := "()I" } : Jvm.MethodName) prog_1_method_13_code (1 : Nat) (Option.some Jvm.ClassFile.FieldType.int)) ∈ lw_all := lw_g (lw_at lw_m5 210 rfl) rfl
theorem q1284 : (Jvm.Cond.instanceMethod ({ cls := "RatSorters", name := "worth", desc := "(I)I" } : Jvm.MethodName)) ∈ lw_all := lw_g (lw_at lw_m5 212 rfl) rfl
theorem q1285 : (Jvm.Cond.selects "RatSorters" ({ cls := "RatSorters", name := "worth", desc := "(I)I" } : Jvm.MethodName) ({ cls := "RatSorters", name := "worth", desc := "(I)I" } : Jvm.MethodName)) ∈ lw_all := lw_g (lw_at lw_m5 213 rfl) rfl
theorem q1286 : (Jvm.Cond.code ({ cls := "RatSorters", name := "worth", desc := "(I)I" } : Jvm.MethodName) prog_1_method_20_code (2 : Nat) (Option.some Jvm.ClassFile.FieldType.int)) ∈ lw_all := lw_g (lw_at lw_m5 214 rfl) rfl
theorem q1287 : (Jvm.Cond.methodLink "RatSorters" (201 : Nat) ({ cls := "RatSorters$House", name := "worth", desc := "(LRatSorters$Text;I)I" } : Jvm.MethodName)) ∈ lw_all := lw_g (lw_at lw_m5 215 rfl) rfl
theorem q1297 : (Jvm.Cond.instanceMethod ({ cls := "RatSorters", name := "pure", desc := "(IZ)I" } : Jvm.MethodName)) ∈ lw_all := lw_g (lw_at lw_m5 225 rfl) rfl
theorem q1298 : (Jvm.Cond.selects "RatSorters" ({ cls := "RatSorters", name := "pure", desc := "(IZ)I" } : Jvm.MethodName) ({ cls := "RatSorters", name := "pure", desc := "(IZ)I" } : Jvm.MethodName)) ∈ lw_all := lw_g (lw_at lw_m5 226 rfl) rfl
theorem q1299 : (Jvm.Cond.code ({ cls := "RatSorters", name := "pure", desc := "(IZ)I" } : Jvm.MethodName) prog_1_method_21_code (8 : Nat) (Option.some Jvm.ClassFile.FieldType.int)) ∈ lw_all := lw_g (lw_at lw_m5 227 rfl) rfl
theorem q1300 : (Jvm.Cond.methodLink "RatSorters" (205 : Nat) ({ cls := "java/util/ArrayList", name := "get", desc := "(I)Ljava/lang/Object;" } : Jvm.MethodName)) ∈ lw_all := lw_g (lw_at lw_m5 228 rfl) rfl
theorem q1301 : (Jvm.Cond.classLink "RatSorters" (209 : Nat) "RatSorters$Hole") ∈ lw_all := lw_g (lw_at lw_m5 229 rfl) rfl
theorem q1302 : (Jvm.Cond.methodLink "RatSorters" (214 : Nat) ({ cls := "RatSorters$House", name := "inHole", desc := "(I)I" } : Jvm.MethodName)) ∈ lw_all := lw_g (lw_at lw_m5 230 rfl) rfl
theorem q1303 : (Jvm.Cond.methodLink "RatSorters" (13 : Nat) ({ cls := "java/lang/Math", name := "max", desc := "(II)I" } : Jvm.MethodName)) ∈ lw_all := lw_g (lw_at lw_m5 231 rfl) rfl
theorem q1305 : (Jvm.Cond.instanceMethod ({ cls := "RatSorters", name := "minutes", desc := "(I)I" } : Jvm.MethodName)) ∈ lw_all := lw_g (lw_at lw_m5 233 rfl) rfl
theorem q1306 : (Jvm.Cond.selects "RatSorters" ({ cls := "RatSorters", name := "minutes", desc := "(I)I" } : Jvm.MethodName) ({ cls := "RatSorters", name := "minutes", desc := "(I)I" } : Jvm.MethodName)) ∈ lw_all := lw_g (lw_at lw_m5 234 rfl) rfl
theorem q1307 : (Jvm.Cond.code ({ cls := "RatSorters", name := "minutes", desc := "(I)I" } : Jvm.MethodName) prog_1_method_24_code (2 : Nat) (Option.some Jvm.ClassFile.FieldType.int)) ∈ lw_all := lw_g (lw_at lw_m5 235 rfl) rfl
theorem q1308 : (Jvm.Cond.methodLink "RatSorters" (228 : Nat) ({ cls := "RatSorters", name := "keeps", desc := "()V" } : Jvm.MethodName)) ∈ lw_all := lw_g (lw_at lw_m5 236 rfl) rfl
theorem q1309 : (Jvm.Cond.privateMethod ({ cls := "RatSorters", name := "keeps", desc := "()V" } : Jvm.MethodName)) ∈ lw_tbl := lw_at lw_m5 237 rfl
theorem q1310 : (Jvm.Cond.instanceMethod ({ cls := "RatSorters", name := "keeps", desc := "()V" } : Jvm.MethodName)) ∈ lw_all := lw_g (lw_at lw_m5 238 rfl) rfl
theorem q1311 : (Jvm.Cond.code ({ cls := "RatSorters", name := "keeps", desc := "()V" } : Jvm.MethodName) prog_1_method_22_code (1 : Nat) (Option.none : Option Jvm.ClassFile.FieldType)) ∈ lw_all := lw_g (lw_at lw_m5 239 rfl) rfl
theorem q1312 : (Jvm.Cond.methodLink "RatSorters" (221 : Nat) ({ cls := "RatSorters$House", name := "takes", desc := "(LRatSorters$House;)V" } : Jvm.MethodName)) ∈ lw_all := lw_g (lw_at lw_m6 0 rfl) rfl
theorem q1320 : (Jvm.Cond.methodLink "RatSorters" (8 : Nat) ({ cls := "java/lang/Math", name := "min", desc := "(II)I" } : Jvm.MethodName)) ∈ lw_all := lw_g (lw_at lw_m6 8 rfl) rfl
theorem q1321 : (Jvm.Cond.methodLink "RatSorters" (231 : Nat) ({ cls := "RatSorters", name := "runs", desc := "(LRatSorters$House;I)V" } : Jvm.MethodName)) ∈ lw_all := lw_g (lw_at lw_m6 9 rfl) rfl
theorem q1322 : (Jvm.Cond.privateMethod ({ cls := "RatSorters", name := "runs", desc := "(LRatSorters$House;I)V" } : Jvm.MethodName)) ∈ lw_tbl := lw_at lw_m6 10 rfl
theorem q1323 : (Jvm.Cond.instanceMethod ({ cls := "RatSorters", name := "runs", desc := "(LRatSorters$House;I)V" } : Jvm.MethodName)) ∈ lw_all := lw_g (lw_at lw_m6 11 rfl) rfl
theorem q1324 : (Jvm.Cond.code ({ cls := "RatSorters", name := "runs", desc := "(LRatSorters$House;I)V" } : Jvm.MethodName) prog_1_method_23_code (4 : Nat) (Option.none : Option Jvm.ClassFile.FieldType)) ∈ lw_all := lw_g (lw_at lw_m6 12 rfl) rfl
theorem q1325 : (Jvm.Cond.methodLink "RatSorters" (225 : Nat) ({ cls := "RatSorters$House", name := "minute", desc := "(LRatSorters$Text;)V" } : Jvm.MethodName)) ∈ lw_all := lw_g (lw_at lw_m6 13 rfl) rfl
theorem q1382 : (Jvm.Cond.static ({ cls := "RatSorters", name := "within", desc := "(III)I" } : Jvm.MethodName)) ∈ lw_all := lw_g (lw_at lw_m6 70 rfl) rfl
theorem q1383 : (Jvm.Cond.code ({ cls := "RatSorters", name := "within", desc := "(III)I" } : Jvm.MethodName) prog_1_method_3_code (3 : Nat) (Option.some Jvm.ClassFile.FieldType.int)) ∈ lw_all := lw_g (lw_at lw_m6 71 rfl) rfl
theorem q1390 : (Jvm.Cond.static ({ cls := "RatSorters", name := "lot", desc := "(III)I" } : Jvm.MethodName)) ∈ lw_all := lw_g (lw_at lw_m6 78 rfl) rfl
theorem q1391 : (Jvm.Cond.code ({ cls := "RatSorters", name := "lot", desc := "(III)I" } : Jvm.MethodName) prog_1_method_2_code (3 : Nat) (Option.some Jvm.ClassFile.FieldType.int)) ∈ lw_all := lw_g (lw_at lw_m6 79 rfl) rfl
theorem q1392 : (Jvm.Cond.methodLink "RatSorters" (2 : Nat) ({ cls := "RatSorters", name := "mixed", desc := "(II)I" } : Jvm.MethodName)) ∈ lw_all := lw_g (lw_at lw_m6 80 rfl) rfl
theorem q1393 : (Jvm.Cond.static ({ cls := "RatSorters", name := "mixed", desc := "(II)I" } : Jvm.MethodName)) ∈ lw_all := lw_g (lw_at lw_m6 81 rfl) rfl
theorem q1394 : (Jvm.Cond.code ({ cls := "RatSorters", name := "mixed", desc := "(II)I" } : Jvm.MethodName) prog_1_method_1_code (3 : Nat) (Option.some Jvm.ClassFile.FieldType.int)) ∈ lw_all := lw_g (lw_at lw_m6 82 rfl) rfl
theorem q1395 : (Jvm.Cond.constant "RatSorters" (1 : Nat) (1103515245 : Int32)) ∈ lw_all := lw_g (lw_at lw_m6 83 rfl) rfl
theorem q1406 : (Jvm.Cond.instanceMethod ({ cls := "RatSorters", name := "pour", desc := "(II)I" } : Jvm.MethodName)) ∈ lw_all := lw_g (lw_at lw_m6 94 rfl) rfl
theorem q1407 : (Jvm.Cond.selects "RatSorters" ({ cls := "RatSorters", name := "pour", desc := "(II)I" } : Jvm.MethodName) ({ cls := "RatSorters", name := "pour", desc := "(II)I" } : Jvm.MethodName)) ∈ lw_all := lw_g (lw_at lw_m6 95 rfl) rfl
theorem q1408 : (Jvm.Cond.code ({ cls := "RatSorters", name := "pour", desc := "(II)I" } : Jvm.MethodName) prog_1_method_25_code (3 : Nat) (Option.some Jvm.ClassFile.FieldType.int)) ∈ lw_all := lw_g (lw_at lw_m6 96 rfl) rfl
theorem q1410 : (Jvm.Cond.instanceMethod ({ cls := "RatSorters", name := "swap", desc := "(II)Z" } : Jvm.MethodName)) ∈ lw_all := lw_g (lw_at lw_m6 98 rfl) rfl
theorem q1411 : (Jvm.Cond.selects "RatSorters" ({ cls := "RatSorters", name := "swap", desc := "(II)Z" } : Jvm.MethodName) ({ cls := "RatSorters", name := "swap", desc := "(II)Z" } : Jvm.MethodName)) ∈ lw_all := lw_g (lw_at lw_m6 99 rfl) rfl
theorem q1412 : (Jvm.Cond.code ({ cls := "RatSorters", name := "swap", desc := "(II)Z" } : Jvm.MethodName) prog_1_method_27_code (3 : Nat) (Option.some Jvm.ClassFile.FieldType.boolean)) ∈ lw_all := lw_g (lw_at lw_m6 100 rfl) rfl
theorem q1413 : (Jvm.Cond.methodLink "RatSorters" (237 : Nat) ({ cls := "RatSorters", name := "swaps", desc := "(LRatSorters$House;II)V" } : Jvm.MethodName)) ∈ lw_all := lw_g (lw_at lw_m6 101 rfl) rfl
theorem q1414 : (Jvm.Cond.static ({ cls := "RatSorters", name := "swaps", desc := "(LRatSorters$House;II)V" } : Jvm.MethodName)) ∈ lw_all := lw_g (lw_at lw_m6 102 rfl) rfl
theorem q1415 : (Jvm.Cond.code ({ cls := "RatSorters", name := "swaps", desc := "(LRatSorters$House;II)V" } : Jvm.MethodName) prog_1_method_26_code (5 : Nat) (Option.none : Option Jvm.ClassFile.FieldType)) ∈ lw_all := lw_g (lw_at lw_m6 103 rfl) rfl
theorem q1417 : (Jvm.Cond.instanceMethod ({ cls := "RatSorters", name := "teach", desc := "(II)Z" } : Jvm.MethodName)) ∈ lw_all := lw_g (lw_at lw_m6 105 rfl) rfl
theorem q1418 : (Jvm.Cond.selects "RatSorters" ({ cls := "RatSorters", name := "teach", desc := "(II)Z" } : Jvm.MethodName) ({ cls := "RatSorters", name := "teach", desc := "(II)Z" } : Jvm.MethodName)) ∈ lw_all := lw_g (lw_at lw_m6 106 rfl) rfl
theorem q1419 : (Jvm.Cond.code ({ cls := "RatSorters", name := "teach", desc := "(II)Z" } : Jvm.MethodName) prog_1_method_28_code (3 : Nat) (Option.some Jvm.ClassFile.FieldType.boolean)) ∈ lw_all := lw_g (lw_at lw_m6 107 rfl) rfl
theorem q1421 : (Jvm.Cond.instanceMethod ({ cls := "RatSorters", name := "give", desc := "(III)Z" } : Jvm.MethodName)) ∈ lw_all := lw_g (lw_at lw_m6 109 rfl) rfl
theorem q1422 : (Jvm.Cond.selects "RatSorters" ({ cls := "RatSorters", name := "give", desc := "(III)Z" } : Jvm.MethodName) ({ cls := "RatSorters", name := "give", desc := "(III)Z" } : Jvm.MethodName)) ∈ lw_all := lw_g (lw_at lw_m6 110 rfl) rfl
theorem q1423 : (Jvm.Cond.code ({ cls := "RatSorters", name := "give", desc := "(III)Z" } : Jvm.MethodName) prog_1_method_29_code (4 : Nat) (Option.some Jvm.ClassFile.FieldType.boolean)) ∈ lw_all := lw_g (lw_at lw_m6 111 rfl) rfl
theorem q1424 : (Jvm.Cond.methodLink "RatSorters" (241 : Nat) ({ cls := "RatSorters$House", name := "eats", desc := "(II)V" } : Jvm.MethodName)) ∈ lw_all := lw_g (lw_at lw_m6 112 rfl) rfl
theorem q1426 : (Jvm.Cond.instanceMethod ({ cls := "RatSorters", name := "send", desc := "(IZ)Z" } : Jvm.MethodName)) ∈ lw_all := lw_g (lw_at lw_m6 114 rfl) rfl
theorem q1427 : (Jvm.Cond.selects "RatSorters" ({ cls := "RatSorters", name := "send", desc := "(IZ)Z" } : Jvm.MethodName) ({ cls := "RatSorters", name := "send", desc := "(IZ)Z" } : Jvm.MethodName)) ∈ lw_all := lw_g (lw_at lw_m6 115 rfl) rfl
theorem q1428 : (Jvm.Cond.code ({ cls := "RatSorters", name := "send", desc := "(IZ)Z" } : Jvm.MethodName) prog_1_method_31_code (3 : Nat) (Option.some Jvm.ClassFile.FieldType.boolean)) ∈ lw_all := lw_g (lw_at lw_m6 116 rfl) rfl
theorem q1429 : (Jvm.Cond.methodLink "RatSorters" (248 : Nat) ({ cls := "RatSorters", name := "sends", desc := "(LRatSorters$House;IZ)V" } : Jvm.MethodName)) ∈ lw_all := lw_g (lw_at lw_m6 117 rfl) rfl
theorem q1430 : (Jvm.Cond.static ({ cls := "RatSorters", name := "sends", desc := "(LRatSorters$House;IZ)V" } : Jvm.MethodName)) ∈ lw_all := lw_g (lw_at lw_m6 118 rfl) rfl
theorem q1431 : (Jvm.Cond.code ({ cls := "RatSorters", name := "sends", desc := "(LRatSorters$House;IZ)V" } : Jvm.MethodName) prog_1_method_30_code (3 : Nat) (Option.none : Option Jvm.ClassFile.FieldType)) ∈ lw_all := lw_g (lw_at lw_m6 119 rfl) rfl
theorem q1432 : (Jvm.Cond.methodLink "RatSorters" (245 : Nat) ({ cls := "RatSorters$House", name := "goesHome", desc := "(I)V" } : Jvm.MethodName)) ∈ lw_all := lw_g (lw_at lw_m6 120 rfl) rfl
theorem q1437 : (Jvm.Cond.instanceMethod ({ cls := "RatSorters", name := "cat", desc := "(I)I" } : Jvm.MethodName)) ∈ lw_all := lw_g (lw_at lw_m6 125 rfl) rfl
theorem q1438 : (Jvm.Cond.selects "RatSorters" ({ cls := "RatSorters", name := "cat", desc := "(I)I" } : Jvm.MethodName) ({ cls := "RatSorters", name := "cat", desc := "(I)I" } : Jvm.MethodName)) ∈ lw_all := lw_g (lw_at lw_m6 126 rfl) rfl
theorem q1439 : (Jvm.Cond.code ({ cls := "RatSorters", name := "cat", desc := "(I)I" } : Jvm.MethodName) prog_1_method_32_code (2 : Nat) (Option.some Jvm.ClassFile.FieldType.int)) ∈ lw_all := lw_g (lw_at lw_m6 127 rfl) rfl
theorem q1441 : (Jvm.Cond.instanceMethod ({ cls := "RatSorters", name := "sell", desc := "(I)Z" } : Jvm.MethodName)) ∈ lw_all := lw_g (lw_at lw_m6 129 rfl) rfl
theorem q1442 : (Jvm.Cond.selects "RatSorters" ({ cls := "RatSorters", name := "sell", desc := "(I)Z" } : Jvm.MethodName) ({ cls := "RatSorters", name := "sell", desc := "(I)Z" } : Jvm.MethodName)) ∈ lw_all := lw_g (lw_at lw_m6 130 rfl) rfl
theorem q1443 : (Jvm.Cond.code ({ cls := "RatSorters", name := "sell", desc := "(I)Z" } : Jvm.MethodName) prog_1_method_36_code (3 : Nat) (Option.some Jvm.ClassFile.FieldType.boolean)) ∈ lw_all := lw_g (lw_at lw_m6 131 rfl) rfl
theorem q1444 : (Jvm.Cond.methodLink "RatSorters" (274 : Nat) ({ cls := "RatSorters", name := "isSellable", desc := "(I)Z" } : Jvm.MethodName)) ∈ lw_all := lw_g (lw_at lw_m6 132 rfl) rfl
theorem q1445 : (Jvm.Cond.privateMethod ({ cls := "RatSorters", name := "isSellable", desc := "(I)Z" } : Jvm.MethodName)) ∈ lw_tbl := lw_at lw_m6 133 rfl
theorem q1446 : (Jvm.Cond.instanceMethod ({ cls := "RatSorters", name := "isSellable", desc := "(I)Z" } : Jvm.MethodName)) ∈ lw_all := lw_g (lw_at lw_m6 134 rfl) rfl
theorem q1447 : (Jvm.Cond.code ({ cls := "RatSorters", name := "isSellable", desc := "(I)Z" } : Jvm.MethodName) prog_1_method_34_code (5 : Nat) (Option.some Jvm.ClassFile.FieldType.boolean)) ∈ lw_all := lw_g (lw_at lw_m6 135 rfl) rfl
theorem q1448 : (Jvm.Cond.classLink "RatSorters" (258 : Nat) "RatSorters$Merchant") ∈ lw_all := lw_g (lw_at lw_m6 136 rfl) rfl
theorem q1449 : (Jvm.Cond.methodLink "RatSorters" (268 : Nat) ({ cls := "RatSorters", name := "inOwn", desc := "(I)I" } : Jvm.MethodName)) ∈ lw_all := lw_g (lw_at lw_m6 137 rfl) rfl
theorem q1450 : (Jvm.Cond.privateMethod ({ cls := "RatSorters", name := "inOwn", desc := "(I)I" } : Jvm.MethodName)) ∈ lw_tbl := lw_at lw_m6 138 rfl
theorem q1451 : (Jvm.Cond.instanceMethod ({ cls := "RatSorters", name := "inOwn", desc := "(I)I" } : Jvm.MethodName)) ∈ lw_all := lw_g (lw_at lw_m6 139 rfl) rfl
theorem q1452 : (Jvm.Cond.code ({ cls := "RatSorters", name := "inOwn", desc := "(I)I" } : Jvm.MethodName) prog_1_method_33_code (4 : Nat) (Option.some Jvm.ClassFile.FieldType.int)) ∈ lw_all := lw_g (lw_at lw_m6 140 rfl) rfl
theorem q1453 : (Jvm.Cond.methodLink "RatSorters" (277 : Nat) ({ cls := "RatSorters", name := "goesOut", desc := "(II)V" } : Jvm.MethodName)) ∈ lw_all := lw_g (lw_at lw_m6 141 rfl) rfl
theorem q1454 : (Jvm.Cond.privateMethod ({ cls := "RatSorters", name := "goesOut", desc := "(II)V" } : Jvm.MethodName)) ∈ lw_tbl := lw_at lw_m6 142 rfl
theorem q1455 : (Jvm.Cond.instanceMethod ({ cls := "RatSorters", name := "goesOut", desc := "(II)V" } : Jvm.MethodName)) ∈ lw_all := lw_g (lw_at lw_m6 143 rfl) rfl
theorem q1456 : (Jvm.Cond.code ({ cls := "RatSorters", name := "goesOut", desc := "(II)V" } : Jvm.MethodName) prog_1_method_35_code (6 : Nat) (Option.none : Option Jvm.ClassFile.FieldType)) ∈ lw_all := lw_g (lw_at lw_m6 144 rfl) rfl
theorem q1458 : (Jvm.Cond.instanceMethod ({ cls := "RatSorters", name := "undo", desc := "()Z" } : Jvm.MethodName)) ∈ lw_all := lw_g (lw_at lw_m6 146 rfl) rfl
theorem q1459 : (Jvm.Cond.selects "RatSorters" ({ cls := "RatSorters", name := "undo", desc := "()Z" } : Jvm.MethodName) ({ cls := "RatSorters", name := "undo", desc := "()Z" } : Jvm.MethodName)) ∈ lw_all := lw_g (lw_at lw_m6 147 rfl) rfl
theorem q1460 : (Jvm.Cond.code ({ cls := "RatSorters", name := "undo", desc := "()Z" } : Jvm.MethodName) prog_1_method_37_code (1 : Nat) (Option.some Jvm.ClassFile.FieldType.boolean)) ∈ lw_all := lw_g (lw_at lw_m6 148 rfl) rfl
theorem q1462 : (Jvm.Cond.instanceMethod ({ cls := "RatSorters", name := "isClean", desc := "()Z" } : Jvm.MethodName)) ∈ lw_all := lw_g (lw_at lw_m6 150 rfl) rfl
theorem q1463 : (Jvm.Cond.selects "RatSorters" ({ cls := "RatSorters", name := "isClean", desc := "()Z" } : Jvm.MethodName) ({ cls := "RatSorters", name := "isClean", desc := "()Z" } : Jvm.MethodName)) ∈ lw_all := lw_g (lw_at lw_m6 151 rfl) rfl
theorem q1464 : (Jvm.Cond.code ({ cls := "RatSorters", name := "isClean", desc := "()Z" } : Jvm.MethodName) prog_1_method_39_code (1 : Nat) (Option.some Jvm.ClassFile.FieldType.boolean)) ∈ lw_all := lw_g (lw_at lw_m6 152 rfl) rfl
theorem q1465 : (Jvm.Cond.methodLink "RatSorters" (294 : Nat) ({ cls := "RatSorters", name := "isClean", desc := "(LRatSorters$House;)Z" } : Jvm.MethodName)) ∈ lw_all := lw_g (lw_at lw_m6 153 rfl) rfl
theorem q1466 : (Jvm.Cond.privateMethod ({ cls := "RatSorters", name := "isClean", desc := "(LRatSorters$House;)Z" } : Jvm.MethodName)) ∈ lw_tbl := lw_at lw_m6 154 rfl
theorem q1467 : (Jvm.Cond.instanceMethod ({ cls := "RatSorters", name := "isClean", desc := "(LRatSorters$House;)Z" } : Jvm.MethodName)) ∈ lw_all := lw_g (lw_at lw_m6 155 rfl) rfl
theorem q1468 : (Jvm.Cond.code ({ cls := "RatSorters", name := "isClean", desc := "(LRatSorters$House;)Z" } : Jvm.MethodName) prog_1_method_38_code (2 : Nat) (Option.some Jvm.ClassFile.FieldType.boolean)) ∈ lw_all := lw_g (lw_at lw_m6 156 rfl) rfl
theorem q1469 : (Jvm.Cond.methodLink "RatSorters" (286 : Nat) ({ cls := "RatSorters$House", name := "isSorted", desc := "(LRatSorters$Text;Z)Z" } : Jvm.MethodName)) ∈ lw_all := lw_g (lw_at lw_m6 157 rfl) rfl
theorem q1473 : (Jvm.Cond.methodLink "RatSorters" (290 : Nat) ({ cls := "RatSorters$House", name := "isGoing", desc := "(LRatSorters$Text;)Z" } : Jvm.MethodName)) ∈ lw_all := lw_g (lw_at lw_m6 161 rfl) rfl
theorem q1478 : (Jvm.Cond.instanceMethod ({ cls := "RatSorters", name := "clean", desc := "()I" } : Jvm.MethodName)) ∈ lw_all := lw_g (lw_at lw_m6 166 rfl) rfl
theorem q1479 : (Jvm.Cond.selects "RatSorters" ({ cls := "RatSorters", name := "clean", desc := "()I" } : Jvm.MethodName) ({ cls := "RatSorters", name := "clean", desc := "()I" } : Jvm.MethodName)) ∈ lw_all := lw_g (lw_at lw_m6 167 rfl) rfl
theorem q1480 : (Jvm.Cond.code ({ cls := "RatSorters", name := "clean", desc := "()I" } : Jvm.MethodName) prog_1_method_41_code (1 : Nat) (Option.some Jvm.ClassFile.FieldType.int)) ∈ lw_all := lw_g (lw_at lw_m6 168 rfl) rfl
theorem q1481 : (Jvm.Cond.methodLink "RatSorters" (298 : Nat) ({ cls := "RatSorters", name := "cleanBy", desc := "()I" } : Jvm.MethodName)) ∈ lw_all := lw_g (lw_at lw_m6 169 rfl) rfl
theorem q1482 : (Jvm.Cond.privateMethod ({ cls := "RatSorters", name := "cleanBy", desc := "()I" } : Jvm.MethodName)) ∈ lw_tbl := lw_at lw_m6 170 rfl
theorem q1483 : (Jvm.Cond.instanceMethod ({ cls := "RatSorters", name := "cleanBy", desc := "()I" } : Jvm.MethodName)) ∈ lw_all := lw_g (lw_at lw_m6 171 rfl) rfl
theorem q1484 : (Jvm.Cond.code ({ cls := "RatSorters", name := "cleanBy", desc := "()I" } : Jvm.MethodName) prog_1_method_40_code (2 : Nat) (Option.some Jvm.ClassFile.FieldType.int)) ∈ lw_all := lw_g (lw_at lw_m6 172 rfl) rfl
theorem q1486 : (Jvm.Cond.instanceMethod ({ cls := "RatSorters", name := "then", desc := "(II)I" } : Jvm.MethodName)) ∈ lw_all := lw_g (lw_at lw_m6 174 rfl) rfl
theorem q1487 : (Jvm.Cond.selects "RatSorters" ({ cls := "RatSorters", name := "then", desc := "(II)I" } : Jvm.MethodName) ({ cls := "RatSorters", name := "then", desc := "(II)I" } : Jvm.MethodName)) ∈ lw_all := lw_g (lw_at lw_m6 175 rfl) rfl
theorem q1488 : (Jvm.Cond.code ({ cls := "RatSorters", name := "then", desc := "(II)I" } : Jvm.MethodName) prog_1_method_42_code (3 : Nat) (Option.some Jvm.ClassFile.FieldType.int)) ∈ lw_all := lw_g (lw_at lw_m6 176 rfl) rfl
theorem q1489 : (Jvm.Cond.methodLink "RatSorters" (301 : Nat) ({ cls := "RatSorters$House", name := "worthAll", desc := "(LRatSorters$Text;)I" } : Jvm.MethodName)) ∈ lw_all := lw_g (lw_at lw_m6 177 rfl) rfl
theorem q1494 : (Jvm.Cond.methodLink "RatSorters" (308 : Nat) ({ cls := "RatSorters$House", name := "inHeap", desc := "()I" } : Jvm.MethodName)) ∈ lw_all := lw_g (lw_at lw_m6 182 rfl) rfl
theorem q1498 : (Jvm.Cond.methodLink "RatSorters" (311 : Nat) ({ cls := "RatSorters$House", name := "sorted", desc := "(LRatSorters$Text;Z)I" } : Jvm.MethodName)) ∈ lw_all := lw_g (lw_at lw_m6 186 rfl) rfl
theorem q1503 : (Jvm.Cond.instanceMethod ({ cls := "RatSorters", name := "lies", desc := "(III)I" } : Jvm.MethodName)) ∈ lw_all := lw_g (lw_at lw_m6 191 rfl) rfl
theorem q1504 : (Jvm.Cond.selects "RatSorters" ({ cls := "RatSorters", name := "lies", desc := "(III)I" } : Jvm.MethodName) ({ cls := "RatSorters", name := "lies", desc := "(III)I" } : Jvm.MethodName)) ∈ lw_all := lw_g (lw_at lw_m6 192 rfl) rfl
theorem q1505 : (Jvm.Cond.code ({ cls := "RatSorters", name := "lies", desc := "(III)I" } : Jvm.MethodName) prog_1_method_43_code (4 : Nat) (Option.some Jvm.ClassFile.FieldType.int)) ∈ lw_all := lw_g (lw_at lw_m6 193 rfl) rfl
theorem q1507 : (Jvm.Cond.instanceMethod ({ cls := "RatSorters", name := "hire", desc := "(II)I" } : Jvm.MethodName)) ∈ lw_all := lw_g (lw_at lw_m6 195 rfl) rfl
theorem q1508 : (Jvm.Cond.selects "RatSorters" ({ cls := "RatSorters", name := "hire", desc := "(II)I" } : Jvm.MethodName) ({ cls := "RatSorters", name := "hire", desc := "(II)I" } : Jvm.MethodName)) ∈ lw_all := lw_g (lw_at lw_m6 196 rfl) rfl
theorem q1509 : (Jvm.Cond.code ({ cls := "RatSorters", name := "hire", desc := "(II)I" } : Jvm.MethodName) prog_1_method_46_code (7 : Nat) (Option.some Jvm.ClassFile.FieldType.int)) ∈ lw_all := lw_g (lw_at lw_m6 197 rfl) rfl
theorem q1510 : (Jvm.Cond.methodLink "RatSorters" (323 : Nat) ({ cls := "RatSorters", name := "feesOf", desc := "(I)I" } : Jvm.MethodName)) ∈ lw_all := lw_g (lw_at lw_m6 198 rfl) rfl
theorem q1511 : (Jvm.Cond.privateMethod ({ cls := "RatSorters", name := "feesOf", desc := "(I)I" } : Jvm.MethodName)) ∈ lw_tbl := lw_at lw_m6 199 rfl
theorem q1512 : (Jvm.Cond.instanceMethod ({ cls := "RatSorters", name := "feesOf", desc := "(I)I" } : Jvm.MethodName)) ∈ lw_all := lw_g (lw_at lw_m6 200 rfl) rfl
theorem q1513 : (Jvm.Cond.code ({ cls := "RatSorters", name := "feesOf", desc := "(I)I" } : Jvm.MethodName) prog_1_method_44_code (4 : Nat) (Option.some Jvm.ClassFile.FieldType.int)) ∈ lw_all := lw_g (lw_at lw_m6 201 rfl) rfl
theorem q1514 : (Jvm.Cond.classLink "RatSorters" (318 : Nat) "RatSorters$Rat") ∈ lw_all := lw_g (lw_at lw_m6 202 rfl) rfl
theorem q1515 : (Jvm.Cond.constant "RatSorters" (326 : Nat) (1000000 : Int32)) ∈ lw_all := lw_g (lw_at lw_m6 203 rfl) rfl
theorem q1516 : (Jvm.Cond.methodLink "RatSorters" (327 : Nat) ({ cls := "java/lang/Integer", name := "bitCount", desc := "(I)I" } : Jvm.MethodName)) ∈ lw_all := lw_g (lw_at lw_m6 204 rfl) rfl
theorem q1522 : (Jvm.Cond.methodLink "RatSorters" (332 : Nat) ({ cls := "RatSorters", name := "isDone", desc := "(II)Z" } : Jvm.MethodName)) ∈ lw_all := lw_g (lw_at lw_m6 210 rfl) rfl
theorem q1523 : (Jvm.Cond.privateMethod ({ cls := "RatSorters", name := "isDone", desc := "(II)Z" } : Jvm.MethodName)) ∈ lw_tbl := lw_at lw_m6 211 rfl
theorem q1524 : (Jvm.Cond.instanceMethod ({ cls := "RatSorters", name := "isDone", desc := "(II)Z" } : Jvm.MethodName)) ∈ lw_all := lw_g (lw_at lw_m6 212 rfl) rfl
theorem q1525 : (Jvm.Cond.code ({ cls := "RatSorters", name := "isDone", desc := "(II)Z" } : Jvm.MethodName) prog_1_method_45_code (4 : Nat) (Option.some Jvm.ClassFile.FieldType.boolean)) ∈ lw_all := lw_g (lw_at lw_m6 213 rfl) rfl
theorem q1527 : (Jvm.Cond.instanceMethod ({ cls := "RatSorters", name := "taught", desc := "(II)I" } : Jvm.MethodName)) ∈ lw_all := lw_g (lw_at lw_m6 215 rfl) rfl
theorem q1528 : (Jvm.Cond.selects "RatSorters" ({ cls := "RatSorters", name := "taught", desc := "(II)I" } : Jvm.MethodName) ({ cls := "RatSorters", name := "taught", desc := "(II)I" } : Jvm.MethodName)) ∈ lw_all := lw_g (lw_at lw_m6 216 rfl) rfl
theorem q1529 : (Jvm.Cond.code ({ cls := "RatSorters", name := "taught", desc := "(II)I" } : Jvm.MethodName) prog_1_method_50_code (3 : Nat) (Option.some Jvm.ClassFile.FieldType.int)) ∈ lw_all := lw_g (lw_at lw_m6 217 rfl) rfl
theorem q1530 : (Jvm.Cond.methodLink "RatSorters" (352 : Nat) ({ cls := "RatSorters", name := "isSet", desc := "(II)Z" } : Jvm.MethodName)) ∈ lw_all := lw_g (lw_at lw_m6 218 rfl) rfl
theorem q1531 : (Jvm.Cond.privateMethod ({ cls := "RatSorters", name := "isSet", desc := "(II)Z" } : Jvm.MethodName)) ∈ lw_tbl := lw_at lw_m6 219 rfl
theorem q1532 : (Jvm.Cond.instanceMethod ({ cls := "RatSorters", name := "isSet", desc := "(II)Z" } : Jvm.MethodName)) ∈ lw_all := lw_g (lw_at lw_m6 220 rfl) rfl
theorem q1533 : (Jvm.Cond.code ({ cls := "RatSorters", name := "isSet", desc := "(II)Z" } : Jvm.MethodName) prog_1_method_49_code (3 : Nat) (Option.some Jvm.ClassFile.FieldType.boolean)) ∈ lw_all := lw_g (lw_at lw_m6 221 rfl) rfl
theorem q1534 : (Jvm.Cond.methodLink "RatSorters" (355 : Nat) ({ cls := "RatSorters", name := "teaches", desc := "(II)V" } : Jvm.MethodName)) ∈ lw_all := lw_g (lw_at lw_m6 222 rfl) rfl
theorem q1535 : (Jvm.Cond.privateMethod ({ cls := "RatSorters", name := "teaches", desc := "(II)V" } : Jvm.MethodName)) ∈ lw_tbl := lw_at lw_m6 223 rfl
theorem q1536 : (Jvm.Cond.instanceMethod ({ cls := "RatSorters", name := "teaches", desc := "(II)V" } : Jvm.MethodName)) ∈ lw_all := lw_g (lw_at lw_m6 224 rfl) rfl
theorem q1537 : (Jvm.Cond.code ({ cls := "RatSorters", name := "teaches", desc := "(II)V" } : Jvm.MethodName) prog_1_method_48_code (5 : Nat) (Option.none : Option Jvm.ClassFile.FieldType)) ∈ lw_all := lw_g (lw_at lw_m6 225 rfl) rfl
theorem q1538 : (Jvm.Cond.methodLink "RatSorters" (342 : Nat) ({ cls := "java/lang/System", name := "arraycopy", desc := "(Ljava/lang/Object;ILjava/lang/Object;II)V" } : Jvm.MethodName)) ∈ lw_all := lw_g (lw_at lw_m6 226 rfl) rfl
theorem q1539 : (Jvm.Cond.methodLink "RatSorters" (348 : Nat) ({ cls := "RatSorters", name := "goesOn", desc := "()Z" } : Jvm.MethodName)) ∈ lw_all := lw_g (lw_at lw_m6 227 rfl) rfl
theorem q1540 : (Jvm.Cond.privateMethod ({ cls := "RatSorters", name := "goesOn", desc := "()Z" } : Jvm.MethodName)) ∈ lw_tbl := lw_at lw_m6 228 rfl
theorem q1541 : (Jvm.Cond.instanceMethod ({ cls := "RatSorters", name := "goesOn", desc := "()Z" } : Jvm.MethodName)) ∈ lw_all := lw_g (lw_at lw_m6 229 rfl) rfl
theorem q1542 : (Jvm.Cond.code ({ cls := "RatSorters", name := "goesOn", desc := "()Z" } : Jvm.MethodName) prog_1_method_47_code (2 : Nat) (Option.some Jvm.ClassFile.FieldType.boolean)) ∈ lw_all := lw_g (lw_at lw_m6 230 rfl) rfl
theorem q1544 : (Jvm.Cond.instanceMethod ({ cls := "RatSorters", name := "taughtAt", desc := "(III)I" } : Jvm.MethodName)) ∈ lw_all := lw_g (lw_at lw_m6 232 rfl) rfl
theorem q1545 : (Jvm.Cond.selects "RatSorters" ({ cls := "RatSorters", name := "taughtAt", desc := "(III)I" } : Jvm.MethodName) ({ cls := "RatSorters", name := "taughtAt", desc := "(III)I" } : Jvm.MethodName)) ∈ lw_all := lw_g (lw_at lw_m6 233 rfl) rfl
theorem q1546 : (Jvm.Cond.code ({ cls := "RatSorters", name := "taughtAt", desc := "(III)I" } : Jvm.MethodName) prog_1_method_51_code (4 : Nat) (Option.some Jvm.ClassFile.FieldType.int)) ∈ lw_all := lw_g (lw_at lw_m6 234 rfl) rfl
theorem q1548 : (Jvm.Cond.instanceMethod ({ cls := "RatSorters", name := "bestSwap", desc := "(I)I" } : Jvm.MethodName)) ∈ lw_all := lw_g (lw_at lw_m6 236 rfl) rfl
theorem q1549 : (Jvm.Cond.selects "RatSorters" ({ cls := "RatSorters", name := "bestSwap", desc := "(I)I" } : Jvm.MethodName) ({ cls := "RatSorters", name := "bestSwap", desc := "(I)I" } : Jvm.MethodName)) ∈ lw_all := lw_g (lw_at lw_m6 237 rfl) rfl
theorem q1550 : (Jvm.Cond.code ({ cls := "RatSorters", name := "bestSwap", desc := "(I)I" } : Jvm.MethodName) prog_1_method_52_code (7 : Nat) (Option.some Jvm.ClassFile.FieldType.int)) ∈ lw_all := lw_g (lw_at lw_m6 238 rfl) rfl
theorem q1551 : (Jvm.Cond.methodLink "RatSorters" (358 : Nat) ({ cls := "RatSorters", name := "clean", desc := "()I" } : Jvm.MethodName)) ∈ lw_all := lw_g (lw_at lw_m6 239 rfl) rfl
theorem q1553 : (Jvm.Cond.instanceMethod ({ cls := "RatSorters", name := "missed", desc := "(II)I" } : Jvm.MethodName)) ∈ lw_all := lw_g (lw_at lw_m7 1 rfl) rfl
theorem q1554 : (Jvm.Cond.selects "RatSorters" ({ cls := "RatSorters", name := "missed", desc := "(II)I" } : Jvm.MethodName) ({ cls := "RatSorters", name := "missed", desc := "(II)I" } : Jvm.MethodName)) ∈ lw_all := lw_g (lw_at lw_m7 2 rfl) rfl
theorem q1555 : (Jvm.Cond.code ({ cls := "RatSorters", name := "missed", desc := "(II)I" } : Jvm.MethodName) prog_1_method_53_code (7 : Nat) (Option.some Jvm.ClassFile.FieldType.int)) ∈ lw_all := lw_g (lw_at lw_m7 3 rfl) rfl
theorem q1557 : (Jvm.Cond.instanceMethod ({ cls := "RatSorters", name := "catAt", desc := "(II)I" } : Jvm.MethodName)) ∈ lw_all := lw_g (lw_at lw_m7 5 rfl) rfl
theorem q1558 : (Jvm.Cond.selects "RatSorters" ({ cls := "RatSorters", name := "catAt", desc := "(II)I" } : Jvm.MethodName) ({ cls := "RatSorters", name := "catAt", desc := "(II)I" } : Jvm.MethodName)) ∈ lw_all := lw_g (lw_at lw_m7 6 rfl) rfl
theorem q1559 : (Jvm.Cond.code ({ cls := "RatSorters", name := "catAt", desc := "(II)I" } : Jvm.MethodName) prog_1_method_54_code (7 : Nat) (Option.some Jvm.ClassFile.FieldType.int)) ∈ lw_all := lw_g (lw_at lw_m7 7 rfl) rfl
theorem q1561 : (Jvm.Cond.instanceMethod ({ cls := "RatSorters", name := "starves", desc := "(I)I" } : Jvm.MethodName)) ∈ lw_all := lw_g (lw_at lw_m7 9 rfl) rfl
theorem q1562 : (Jvm.Cond.selects "RatSorters" ({ cls := "RatSorters", name := "starves", desc := "(I)I" } : Jvm.MethodName) ({ cls := "RatSorters", name := "starves", desc := "(I)I" } : Jvm.MethodName)) ∈ lw_all := lw_g (lw_at lw_m7 10 rfl) rfl
theorem q1563 : (Jvm.Cond.code ({ cls := "RatSorters", name := "starves", desc := "(I)I" } : Jvm.MethodName) prog_1_method_55_code (3 : Nat) (Option.some Jvm.ClassFile.FieldType.int)) ∈ lw_all := lw_g (lw_at lw_m7 11 rfl) rfl
theorem q1565 : (Jvm.Cond.instanceMethod ({ cls := "RatSorters", name := "mean", desc := "(II)I" } : Jvm.MethodName)) ∈ lw_all := lw_g (lw_at lw_m7 13 rfl) rfl
theorem q1566 : (Jvm.Cond.selects "RatSorters" ({ cls := "RatSorters", name := "mean", desc := "(II)I" } : Jvm.MethodName) ({ cls := "RatSorters", name := "mean", desc := "(II)I" } : Jvm.MethodName)) ∈ lw_all := lw_g (lw_at lw_m7 14 rfl) rfl
theorem q1567 : (Jvm.Cond.code ({ cls := "RatSorters", name := "mean", desc := "(II)I" } : Jvm.MethodName) prog_1_method_56_code (5 : Nat) (Option.some Jvm.ClassFile.FieldType.int)) ∈ lw_all := lw_g (lw_at lw_m7 15 rfl) rfl
theorem q1569 : (Jvm.Cond.instanceMethod ({ cls := "RatSorters", name := "sales", desc := "(I)I" } : Jvm.MethodName)) ∈ lw_all := lw_g (lw_at lw_m7 17 rfl) rfl
theorem q1570 : (Jvm.Cond.selects "RatSorters" ({ cls := "RatSorters", name := "sales", desc := "(I)I" } : Jvm.MethodName) ({ cls := "RatSorters", name := "sales", desc := "(I)I" } : Jvm.MethodName)) ∈ lw_all := lw_g (lw_at lw_m7 18 rfl) rfl
theorem q1571 : (Jvm.Cond.code ({ cls := "RatSorters", name := "sales", desc := "(I)I" } : Jvm.MethodName) prog_1_method_58_code (4 : Nat) (Option.some Jvm.ClassFile.FieldType.int)) ∈ lw_all := lw_g (lw_at lw_m7 19 rfl) rfl
theorem q1572 : (Jvm.Cond.methodLink "RatSorters" (368 : Nat) ({ cls := "RatSorters", name := "pays", desc := "(I)I" } : Jvm.MethodName)) ∈ lw_all := lw_g (lw_at lw_m7 20 rfl) rfl
theorem q1573 : (Jvm.Cond.privateMethod ({ cls := "RatSorters", name := "pays", desc := "(I)I" } : Jvm.MethodName)) ∈ lw_tbl := lw_at lw_m7 21 rfl
theorem q1574 : (Jvm.Cond.instanceMethod ({ cls := "RatSorters", name := "pays", desc := "(I)I" } : Jvm.MethodName)) ∈ lw_all := lw_g (lw_at lw_m7 22 rfl) rfl
theorem q1575 : (Jvm.Cond.code ({ cls := "RatSorters", name := "pays", desc := "(I)I" } : Jvm.MethodName) prog_1_method_57_code (4 : Nat) (Option.some Jvm.ClassFile.FieldType.int)) ∈ lw_all := lw_g (lw_at lw_m7 23 rfl) rfl
theorem q1577 : (Jvm.Cond.instanceMethod ({ cls := "RatSorters", name := "tell", desc := "(IIII)I" } : Jvm.MethodName)) ∈ lw_all := lw_g (lw_at lw_m7 25 rfl) rfl
theorem q1578 : (Jvm.Cond.selects "RatSorters" ({ cls := "RatSorters", name := "tell", desc := "(IIII)I" } : Jvm.MethodName) ({ cls := "RatSorters", name := "tell", desc := "(IIII)I" } : Jvm.MethodName)) ∈ lw_all := lw_g (lw_at lw_m7 26 rfl) rfl
theorem q1579 : (Jvm.Cond.code ({ cls := "RatSorters", name := "tell", desc := "(IIII)I" } : Jvm.MethodName) prog_1_method_59_code (5 : Nat) (Option.some Jvm.ClassFile.FieldType.int)) ∈ lw_all := lw_g (lw_at lw_m7 27 rfl) rfl
theorem q1581 : (Jvm.Cond.instanceMethod ({ cls := "RatSorters", name := "forget", desc := "()I" } : Jvm.MethodName)) ∈ lw_all := lw_g (lw_at lw_m7 29 rfl) rfl
theorem q1582 : (Jvm.Cond.selects "RatSorters" ({ cls := "RatSorters", name := "forget", desc := "()I" } : Jvm.MethodName) ({ cls := "RatSorters", name := "forget", desc := "()I" } : Jvm.MethodName)) ∈ lw_all := lw_g (lw_at lw_m7 30 rfl) rfl
theorem q1583 : (Jvm.Cond.code ({ cls := "RatSorters", name := "forget", desc := "()I" } : Jvm.MethodName) prog_1_method_60_code (2 : Nat) (Option.some Jvm.ClassFile.FieldType.int)) ∈ lw_all := lw_g (lw_at lw_m7 31 rfl) rfl
theorem q1585 : (Jvm.Cond.instanceMethod ({ cls := "RatSorters", name := "jokes", desc := "(II)I" } : Jvm.MethodName)) ∈ lw_all := lw_g (lw_at lw_m7 33 rfl) rfl
theorem q1586 : (Jvm.Cond.selects "RatSorters" ({ cls := "RatSorters", name := "jokes", desc := "(II)I" } : Jvm.MethodName) ({ cls := "RatSorters", name := "jokes", desc := "(II)I" } : Jvm.MethodName)) ∈ lw_all := lw_g (lw_at lw_m7 34 rfl) rfl
theorem q1587 : (Jvm.Cond.code ({ cls := "RatSorters", name := "jokes", desc := "(II)I" } : Jvm.MethodName) prog_1_method_62_code (7 : Nat) (Option.some Jvm.ClassFile.FieldType.int)) ∈ lw_all := lw_g (lw_at lw_m7 35 rfl) rfl
theorem q1588 : (Jvm.Cond.methodLink "RatSorters" (370 : Nat) ({ cls := "RatSorters", name := "isSo", desc := "(IIII)Z" } : Jvm.MethodName)) ∈ lw_all := lw_g (lw_at lw_m7 36 rfl) rfl
theorem q1589 : (Jvm.Cond.privateMethod ({ cls := "RatSorters", name := "isSo", desc := "(IIII)Z" } : Jvm.MethodName)) ∈ lw_tbl := lw_at lw_m7 37 rfl
theorem q1590 : (Jvm.Cond.instanceMethod ({ cls := "RatSorters", name := "isSo", desc := "(IIII)Z" } : Jvm.MethodName)) ∈ lw_all := lw_g (lw_at lw_m7 38 rfl) rfl
theorem q1591 : (Jvm.Cond.code ({ cls := "RatSorters", name := "isSo", desc := "(IIII)Z" } : Jvm.MethodName) prog_1_method_61_code (8 : Nat) (Option.some Jvm.ClassFile.FieldType.boolean)) ∈ lw_all := lw_g (lw_at lw_m7 39 rfl) rfl
theorem q1593 : (Jvm.Cond.instanceMethod ({ cls := "RatSorters", name := "hold", desc := "(I)Z" } : Jvm.MethodName)) ∈ lw_all := lw_g (lw_at lw_m7 41 rfl) rfl
theorem q1594 : (Jvm.Cond.selects "RatSorters" ({ cls := "RatSorters", name := "hold", desc := "(I)Z" } : Jvm.MethodName) ({ cls := "RatSorters", name := "hold", desc := "(I)Z" } : Jvm.MethodName)) ∈ lw_all := lw_g (lw_at lw_m7 42 rfl) rfl
theorem q1595 : (Jvm.Cond.code ({ cls := "RatSorters", name := "hold", desc := "(I)Z" } : Jvm.MethodName) prog_1_method_63_code (2 : Nat) (Option.some Jvm.ClassFile.FieldType.boolean)) ∈ lw_all := lw_g (lw_at lw_m7 43 rfl) rfl
theorem q1597 : (Jvm.Cond.instanceMethod ({ cls := "RatSorters", name := "restore", desc := "(I)Z" } : Jvm.MethodName)) ∈ lw_all := lw_g (lw_at lw_m7 45 rfl) rfl
theorem q1598 : (Jvm.Cond.selects "RatSorters" ({ cls := "RatSorters", name := "restore", desc := "(I)Z" } : Jvm.MethodName) ({ cls := "RatSorters", name := "restore", desc := "(I)Z" } : Jvm.MethodName)) ∈ lw_all := lw_g (lw_at lw_m7 46 rfl) rfl
theorem q1599 : (Jvm.Cond.code ({ cls := "RatSorters", name := "restore", desc := "(I)Z" } : Jvm.MethodName) prog_1_method_64_code (2 : Nat) (Option.some Jvm.ClassFile.FieldType.boolean)) ∈ lw_all := lw_g (lw_at lw_m7 47 rfl) rfl
theorem q1601 : (Jvm.Cond.instanceMethod ({ cls := "RatSorters", name := "count", desc := "(I)I" } : Jvm.MethodName)) ∈ lw_all := lw_g (lw_at lw_m7 49 rfl) rfl
theorem q1602 : (Jvm.Cond.selects "RatSorters" ({ cls := "RatSorters", name := "count", desc := "(I)I" } : Jvm.MethodName) ({ cls := "RatSorters", name := "count", desc := "(I)I" } : Jvm.MethodName)) ∈ lw_all := lw_g (lw_at lw_m7 50 rfl) rfl
theorem q1603 : (Jvm.Cond.code ({ cls := "RatSorters", name := "count", desc := "(I)I" } : Jvm.MethodName) prog_1_method_66_code (4 : Nat) (Option.some Jvm.ClassFile.FieldType.int)) ∈ lw_all := lw_g (lw_at lw_m7 51 rfl) rfl
theorem q1604 : (Jvm.Cond.methodLink "RatSorters" (374 : Nat) ({ cls := "RatSorters", name := "all", desc := "()I" } : Jvm.MethodName)) ∈ lw_all := lw_g (lw_at lw_m7 52 rfl) rfl
theorem q1605 : (Jvm.Cond.privateMethod ({ cls := "RatSorters", name := "all", desc := "()I" } : Jvm.MethodName)) ∈ lw_tbl := lw_at lw_m7 53 rfl
theorem q1606 : (Jvm.Cond.instanceMethod ({ cls := "RatSorters", name := "all", desc := "()I" } : Jvm.MethodName)) ∈ lw_all := lw_g (lw_at lw_m7 54 rfl) rfl
theorem q1607 : (Jvm.Cond.code ({ cls := "RatSorters", name := "all", desc := "()I" } : Jvm.MethodName) prog_1_method_65_code (3 : Nat) (Option.some Jvm.ClassFile.FieldType.int)) ∈ lw_all := lw_g (lw_at lw_m7 55 rfl) rfl
theorem q2270 : (Jvm.Cond.castable "RatSorters" "java/lang/Object") ∈ lw_tbl := lw_at lw_m9 238 rfl
theorem in_X0 : ∀ w ∈ wsX00, w ∈ lw_all := lw_in wsX00 [609, 611, 613, 615, 617, 619, 621, 623, 625, 627, 629, 631, 633, 635, 637, 639, 641, 643, 645, 647, 649, 651, 653] (by decide +kernel) (by decide +kernel)
