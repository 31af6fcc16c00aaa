/-! RatSorters$Parser -/
set_option maxRecDepth 100000
def RX3 : String := "RatSorters$Parser"
def TX3 : u_T := fun k => match k with
  | 0 => ("RatSorters$Parser", "t", "LRatSorters$Tokens;", true)
  | 1 => ("RatSorters$Parser", "fault", "LRatSorters$Fault;", true)
  | 2 => ("RatSorters$Parser", "text", "LRatSorters$Text;", false)
  | 3 => ("RatSorters$Parser", "at", "I", false)
  | 4 => ("RatSorters$Parser", "open", "I", false)
  | 5 => ("RatSorters$Parser", "worst", "I", false)
  | _ => ("RatSorters$Parser", "worstToken", "I", false)
def tyX3 : Nat → FieldType := fun k => match k with
  | 0 => .object "RatSorters$Tokens"
  | 1 => .object "RatSorters$Fault"
  | 2 => .object "RatSorters$Text"
  | 3 => .int
  | 4 => .int
  | 5 => .int
  | _ => .int
abbrev wsX30 : List Cond := u_ws RX3 TX3 7
theorem nmX3 : ∀ a, a < 7 → ∀ b, b < 7 → a ≠ b → (TX3 a).2.1 ≠ (TX3 b).2.1 := by decide +kernel
theorem tyX3_ok : ∀ k, k < 7 → parseFieldDescriptor (TX3 k).2.2.1 = some (tyX3 k) := by decide +kernel
abbrev cX3_init : ByteArray := prog_15_method_1_code
def yX3_init : MethodName := ⟨RX3, "<init>", "(LRatSorters$Tokens;LRatSorters$Fault;)V"⟩
def dkwX3_init_0 : List UInt8 := [42, 183, 0, 3, 42, 43, 181, 0, 9, 42, 44, 181, 0, 15, 177]
abbrev dktX3_init_0 : List UInt8 := dkwX3_init_0 ++ []
theorem dksX3_init_0 : cX3_init.data.toList.drop 0 = dktX3_init_0 := by decide +kernel
theorem dX3_init_0 : decode cX3_init 0 = .ok (.aload_n 0, 1) := dk_42 (dk_at dksX3_init_0 0 rfl rfl)
theorem dX3_init_1 : decode cX3_init 1 = .ok (.invokespecial 3, 3) := dk_183 0 3 (dk_at dksX3_init_0 1 rfl rfl)
theorem dX3_init_4 : decode cX3_init 4 = .ok (.aload_n 0, 1) := dk_42 (dk_at dksX3_init_0 4 rfl rfl)
theorem dX3_init_5 : decode cX3_init 5 = .ok (.aload_n 1, 1) := dk_43 (dk_at dksX3_init_0 5 rfl rfl)
theorem dX3_init_6 : decode cX3_init 6 = .ok (.putfield 9, 3) := dk_181 0 9 (dk_at dksX3_init_0 6 rfl rfl)
theorem dX3_init_9 : decode cX3_init 9 = .ok (.aload_n 0, 1) := dk_42 (dk_at dksX3_init_0 9 rfl rfl)
theorem dX3_init_10 : decode cX3_init 10 = .ok (.aload_n 2, 1) := dk_44 (dk_at dksX3_init_0 10 rfl rfl)
theorem dX3_init_11 : decode cX3_init 11 = .ok (.putfield 15, 3) := dk_181 0 15 (dk_at dksX3_init_0 11 rfl rfl)
theorem dX3_init_14 : decode cX3_init 14 = .ok (.return_, 1) := dk_177 (dk_at dksX3_init_0 14 rfl rfl)
abbrev cX3_read : ByteArray := prog_15_method_16_code
def yX3_read : MethodName := ⟨RX3, "read", "()LRatSorters$Text;"⟩
def dkwX3_read_3 : List UInt8 := [182, 0, 35, 191, 42, 180, 0, 83, 176]
abbrev dktX3_read_3 : List UInt8 := dkwX3_read_3 ++ []
def dkwX3_read_2 : List UInt8 := [182, 0, 105, 167, 255, 238, 42, 180, 0, 38, 153, 0, 16, 42, 42, 180, 0, 38, 42, 180, 0, 41]
abbrev dktX3_read_2 : List UInt8 := dkwX3_read_2 ++ dktX3_read_3
def dkwX3_read_1 : List UInt8 := [3, 181, 0, 99, 42, 3, 181, 0, 38, 42, 182, 0, 65, 7, 159, 0, 16, 42, 182, 0, 102, 42, 16, 59]
abbrev dktX3_read_1 : List UInt8 := dkwX3_read_1 ++ dktX3_read_2
def dkwX3_read_0 : List UInt8 := [42, 180, 0, 9, 182, 0, 95, 42, 187, 0, 87, 89, 183, 0, 98, 181, 0, 83, 42, 3, 181, 0, 31, 42]
abbrev dktX3_read_0 : List UInt8 := dkwX3_read_0 ++ dktX3_read_1
theorem dksX3_read_0 : cX3_read.data.toList.drop 0 = dktX3_read_0 := by decide +kernel
theorem dksX3_read_1 : cX3_read.data.toList.drop 24 = dktX3_read_1 := dk_seg dksX3_read_0 24 rfl rfl
theorem dksX3_read_2 : cX3_read.data.toList.drop 48 = dktX3_read_2 := dk_seg dksX3_read_1 24 rfl rfl
theorem dksX3_read_3 : cX3_read.data.toList.drop 70 = dktX3_read_3 := dk_seg dksX3_read_2 22 rfl rfl
theorem dX3_read_0 : decode cX3_read 0 = .ok (.aload_n 0, 1) := dk_42 (dk_at dksX3_read_0 0 rfl rfl)
theorem dX3_read_1 : decode cX3_read 1 = .ok (.getfield 9, 3) := dk_180 0 9 (dk_at dksX3_read_0 1 rfl rfl)
theorem dX3_read_4 : decode cX3_read 4 = .ok (.invokevirtual 95, 3) := dk_182 0 95 (dk_at dksX3_read_0 4 rfl rfl)
theorem dX3_read_7 : decode cX3_read 7 = .ok (.aload_n 0, 1) := dk_42 (dk_at dksX3_read_0 7 rfl rfl)
theorem dX3_read_8 : decode cX3_read 8 = .ok (.new 87, 3) := dk_187 0 87 (dk_at dksX3_read_0 8 rfl rfl)
theorem dX3_read_11 : decode cX3_read 11 = .ok (.dup, 1) := dk_89 (dk_at dksX3_read_0 11 rfl rfl)
theorem dX3_read_12 : decode cX3_read 12 = .ok (.invokespecial 98, 3) := dk_183 0 98 (dk_at dksX3_read_0 12 rfl rfl)
theorem dX3_read_15 : decode cX3_read 15 = .ok (.putfield 83, 3) := dk_181 0 83 (dk_at dksX3_read_0 15 rfl rfl)
theorem dX3_read_18 : decode cX3_read 18 = .ok (.aload_n 0, 1) := dk_42 (dk_at dksX3_read_0 18 rfl rfl)
theorem dX3_read_19 : decode cX3_read 19 = .ok (.iconst 0, 1) := dk_3 (dk_at dksX3_read_0 19 rfl rfl)
theorem dX3_read_20 : decode cX3_read 20 = .ok (.putfield 31, 3) := dk_181 0 31 (dk_at dksX3_read_0 20 rfl rfl)
theorem dX3_read_23 : decode cX3_read 23 = .ok (.aload_n 0, 1) := dk_42 (dk_at dksX3_read_0 23 rfl rfl)
theorem dX3_read_24 : decode cX3_read 24 = .ok (.iconst 0, 1) := dk_3 (dk_at dksX3_read_1 0 rfl rfl)
theorem dX3_read_25 : decode cX3_read 25 = .ok (.putfield 99, 3) := dk_181 0 99 (dk_at dksX3_read_1 1 rfl rfl)
theorem dX3_read_28 : decode cX3_read 28 = .ok (.aload_n 0, 1) := dk_42 (dk_at dksX3_read_1 4 rfl rfl)
theorem dX3_read_29 : decode cX3_read 29 = .ok (.iconst 0, 1) := dk_3 (dk_at dksX3_read_1 5 rfl rfl)
theorem dX3_read_30 : decode cX3_read 30 = .ok (.putfield 38, 3) := dk_181 0 38 (dk_at dksX3_read_1 6 rfl rfl)
theorem dX3_read_33 : decode cX3_read 33 = .ok (.aload_n 0, 1) := dk_42 (dk_at dksX3_read_1 9 rfl rfl)
theorem dX3_read_34 : decode cX3_read 34 = .ok (.invokevirtual 65, 3) := dk_182 0 65 (dk_at dksX3_read_1 10 rfl rfl)
theorem dX3_read_37 : decode cX3_read 37 = .ok (.iconst 4, 1) := dk_7 (dk_at dksX3_read_1 13 rfl rfl)
theorem dX3_read_38 : decode cX3_read 38 = .ok (.if_icmp .eq 16, 3) := dk_159 0 16 (dk_at dksX3_read_1 14 rfl rfl)
theorem dX3_read_41 : decode cX3_read 41 = .ok (.aload_n 0, 1) := dk_42 (dk_at dksX3_read_1 17 rfl rfl)
theorem dX3_read_42 : decode cX3_read 42 = .ok (.invokevirtual 102, 3) := dk_182 0 102 (dk_at dksX3_read_1 18 rfl rfl)
theorem dX3_read_45 : decode cX3_read 45 = .ok (.aload_n 0, 1) := dk_42 (dk_at dksX3_read_1 21 rfl rfl)
theorem dX3_read_46 : decode cX3_read 46 = .ok (.bipush 59, 2) := dk_16 59 (dk_at dksX3_read_1 22 rfl rfl)
theorem dX3_read_48 : decode cX3_read 48 = .ok (.invokevirtual 105, 3) := dk_182 0 105 (dk_at dksX3_read_2 0 rfl rfl)
theorem dX3_read_51 : decode cX3_read 51 = .ok (.goto (-18), 3) := dk_167 255 238 (dk_at dksX3_read_2 3 rfl rfl)
theorem dX3_read_54 : decode cX3_read 54 = .ok (.aload_n 0, 1) := dk_42 (dk_at dksX3_read_2 6 rfl rfl)
theorem dX3_read_55 : decode cX3_read 55 = .ok (.getfield 38, 3) := dk_180 0 38 (dk_at dksX3_read_2 7 rfl rfl)
theorem dX3_read_58 : decode cX3_read 58 = .ok (.ifCond .eq 16, 3) := dk_153 0 16 (dk_at dksX3_read_2 10 rfl rfl)
theorem dX3_read_61 : decode cX3_read 61 = .ok (.aload_n 0, 1) := dk_42 (dk_at dksX3_read_2 13 rfl rfl)
theorem dX3_read_62 : decode cX3_read 62 = .ok (.aload_n 0, 1) := dk_42 (dk_at dksX3_read_2 14 rfl rfl)
theorem dX3_read_63 : decode cX3_read 63 = .ok (.getfield 38, 3) := dk_180 0 38 (dk_at dksX3_read_2 15 rfl rfl)
theorem dX3_read_66 : decode cX3_read 66 = .ok (.aload_n 0, 1) := dk_42 (dk_at dksX3_read_2 18 rfl rfl)
theorem dX3_read_67 : decode cX3_read 67 = .ok (.getfield 41, 3) := dk_180 0 41 (dk_at dksX3_read_2 19 rfl rfl)
theorem dX3_read_70 : decode cX3_read 70 = .ok (.invokevirtual 35, 3) := dk_182 0 35 (dk_at dksX3_read_3 0 rfl rfl)
theorem dX3_read_73 : decode cX3_read 73 = .ok (.athrow, 1) := dk_191 (dk_at dksX3_read_3 3 rfl rfl)
theorem dX3_read_74 : decode cX3_read 74 = .ok (.aload_n 0, 1) := dk_42 (dk_at dksX3_read_3 4 rfl rfl)
theorem dX3_read_75 : decode cX3_read 75 = .ok (.getfield 83, 3) := dk_180 0 83 (dk_at dksX3_read_3 5 rfl rfl)
theorem dX3_read_78 : decode cX3_read 78 = .ok (.areturn, 1) := dk_176 (dk_at dksX3_read_3 8 rfl rfl)
abbrev cX3_sort : ByteArray := prog_15_method_5_code
def yX3_sort : MethodName := ⟨RX3, "sort", "()I"⟩
def dkwX3_sort_1 : List UInt8 := [180, 0, 9, 180, 0, 44, 42, 180, 0, 31, 51, 172]
abbrev dktX3_sort_1 : List UInt8 := dkwX3_sort_1 ++ []
def dkwX3_sort_0 : List UInt8 := [42, 180, 0, 9, 180, 0, 44, 42, 180, 0, 31, 51, 8, 160, 0, 9, 42, 4, 182, 0, 48, 191, 42]
abbrev dktX3_sort_0 : List UInt8 := dkwX3_sort_0 ++ dktX3_sort_1
theorem dksX3_sort_0 : cX3_sort.data.toList.drop 0 = dktX3_sort_0 := by decide +kernel
theorem dksX3_sort_1 : cX3_sort.data.toList.drop 23 = dktX3_sort_1 := dk_seg dksX3_sort_0 23 rfl rfl
theorem dX3_sort_0 : decode cX3_sort 0 = .ok (.aload_n 0, 1) := dk_42 (dk_at dksX3_sort_0 0 rfl rfl)
theorem dX3_sort_1 : decode cX3_sort 1 = .ok (.getfield 9, 3) := dk_180 0 9 (dk_at dksX3_sort_0 1 rfl rfl)
theorem dX3_sort_4 : decode cX3_sort 4 = .ok (.getfield 44, 3) := dk_180 0 44 (dk_at dksX3_sort_0 4 rfl rfl)
theorem dX3_sort_7 : decode cX3_sort 7 = .ok (.aload_n 0, 1) := dk_42 (dk_at dksX3_sort_0 7 rfl rfl)
theorem dX3_sort_8 : decode cX3_sort 8 = .ok (.getfield 31, 3) := dk_180 0 31 (dk_at dksX3_sort_0 8 rfl rfl)
theorem dX3_sort_11 : decode cX3_sort 11 = .ok (.baload, 1) := dk_51 (dk_at dksX3_sort_0 11 rfl rfl)
theorem dX3_sort_12 : decode cX3_sort 12 = .ok (.iconst 5, 1) := dk_8 (dk_at dksX3_sort_0 12 rfl rfl)
theorem dX3_sort_13 : decode cX3_sort 13 = .ok (.if_icmp .ne 9, 3) := dk_160 0 9 (dk_at dksX3_sort_0 13 rfl rfl)
theorem dX3_sort_16 : decode cX3_sort 16 = .ok (.aload_n 0, 1) := dk_42 (dk_at dksX3_sort_0 16 rfl rfl)
theorem dX3_sort_17 : decode cX3_sort 17 = .ok (.iconst 1, 1) := dk_4 (dk_at dksX3_sort_0 17 rfl rfl)
theorem dX3_sort_18 : decode cX3_sort 18 = .ok (.invokevirtual 48, 3) := dk_182 0 48 (dk_at dksX3_sort_0 18 rfl rfl)
theorem dX3_sort_21 : decode cX3_sort 21 = .ok (.athrow, 1) := dk_191 (dk_at dksX3_sort_0 21 rfl rfl)
theorem dX3_sort_22 : decode cX3_sort 22 = .ok (.aload_n 0, 1) := dk_42 (dk_at dksX3_sort_0 22 rfl rfl)
theorem dX3_sort_23 : decode cX3_sort 23 = .ok (.getfield 9, 3) := dk_180 0 9 (dk_at dksX3_sort_1 0 rfl rfl)
theorem dX3_sort_26 : decode cX3_sort 26 = .ok (.getfield 44, 3) := dk_180 0 44 (dk_at dksX3_sort_1 3 rfl rfl)
theorem dX3_sort_29 : decode cX3_sort 29 = .ok (.aload_n 0, 1) := dk_42 (dk_at dksX3_sort_1 6 rfl rfl)
theorem dX3_sort_30 : decode cX3_sort 30 = .ok (.getfield 31, 3) := dk_180 0 31 (dk_at dksX3_sort_1 7 rfl rfl)
theorem dX3_sort_33 : decode cX3_sort 33 = .ok (.baload, 1) := dk_51 (dk_at dksX3_sort_1 10 rfl rfl)
theorem dX3_sort_34 : decode cX3_sort 34 = .ok (.ireturn, 1) := dk_172 (dk_at dksX3_sort_1 11 rfl rfl)
abbrev cX3_wrong : ByteArray := prog_15_method_3_code
def yX3_wrong : MethodName := ⟨RX3, "wrong", "(I)LRatSorters$Fault;"⟩
def dkwX3_wrong_0 : List UInt8 := [42, 27, 42, 180, 0, 31, 182, 0, 35, 176]
abbrev dktX3_wrong_0 : List UInt8 := dkwX3_wrong_0 ++ []
theorem dksX3_wrong_0 : cX3_wrong.data.toList.drop 0 = dktX3_wrong_0 := by decide +kernel
theorem dX3_wrong_0 : decode cX3_wrong 0 = .ok (.aload_n 0, 1) := dk_42 (dk_at dksX3_wrong_0 0 rfl rfl)
theorem dX3_wrong_1 : decode cX3_wrong 1 = .ok (.iload_n 1, 1) := dk_27 (dk_at dksX3_wrong_0 1 rfl rfl)
theorem dX3_wrong_2 : decode cX3_wrong 2 = .ok (.aload_n 0, 1) := dk_42 (dk_at dksX3_wrong_0 2 rfl rfl)
theorem dX3_wrong_3 : decode cX3_wrong 3 = .ok (.getfield 31, 3) := dk_180 0 31 (dk_at dksX3_wrong_0 3 rfl rfl)
theorem dX3_wrong_6 : decode cX3_wrong 6 = .ok (.invokevirtual 35, 3) := dk_182 0 35 (dk_at dksX3_wrong_0 6 rfl rfl)
theorem dX3_wrong_9 : decode cX3_wrong 9 = .ok (.areturn, 1) := dk_176 (dk_at dksX3_wrong_0 9 rfl rfl)
abbrev cX3_wrongAt : ByteArray := prog_15_method_2_code
def yX3_wrongAt : MethodName := ⟨RX3, "wrongAt", "(II)LRatSorters$Fault;"⟩
def dkwX3_wrongAt_0 : List UInt8 := [42, 180, 0, 15, 27, 42, 180, 0, 9, 180, 0, 19, 28, 53, 182, 0, 25, 176]
abbrev dktX3_wrongAt_0 : List UInt8 := dkwX3_wrongAt_0 ++ []
theorem dksX3_wrongAt_0 : cX3_wrongAt.data.toList.drop 0 = dktX3_wrongAt_0 := by decide +kernel
theorem dX3_wrongAt_0 : decode cX3_wrongAt 0 = .ok (.aload_n 0, 1) := dk_42 (dk_at dksX3_wrongAt_0 0 rfl rfl)
theorem dX3_wrongAt_1 : decode cX3_wrongAt 1 = .ok (.getfield 15, 3) := dk_180 0 15 (dk_at dksX3_wrongAt_0 1 rfl rfl)
theorem dX3_wrongAt_4 : decode cX3_wrongAt 4 = .ok (.iload_n 1, 1) := dk_27 (dk_at dksX3_wrongAt_0 4 rfl rfl)
theorem dX3_wrongAt_5 : decode cX3_wrongAt 5 = .ok (.aload_n 0, 1) := dk_42 (dk_at dksX3_wrongAt_0 5 rfl rfl)
theorem dX3_wrongAt_6 : decode cX3_wrongAt 6 = .ok (.getfield 9, 3) := dk_180 0 9 (dk_at dksX3_wrongAt_0 6 rfl rfl)
theorem dX3_wrongAt_9 : decode cX3_wrongAt 9 = .ok (.getfield 19, 3) := dk_180 0 19 (dk_at dksX3_wrongAt_0 9 rfl rfl)
theorem dX3_wrongAt_12 : decode cX3_wrongAt 12 = .ok (.iload_n 2, 1) := dk_28 (dk_at dksX3_wrongAt_0 12 rfl rfl)
theorem dX3_wrongAt_13 : decode cX3_wrongAt 13 = .ok (.saload, 1) := dk_53 (dk_at dksX3_wrongAt_0 13 rfl rfl)
theorem dX3_wrongAt_14 : decode cX3_wrongAt 14 = .ok (.invokevirtual 25, 3) := dk_182 0 25 (dk_at dksX3_wrongAt_0 14 rfl rfl)
theorem dX3_wrongAt_17 : decode cX3_wrongAt 17 = .ok (.areturn, 1) := dk_176 (dk_at dksX3_wrongAt_0 17 rfl rfl)
abbrev cX3_told : ByteArray := prog_15_method_17_code
def yX3_told : MethodName := ⟨RX3, "told", "()V"⟩
def dkwX3_told_18 : List UInt8 := [182, 0, 130, 181, 0, 200, 167, 0, 9, 42, 4, 182, 0, 48, 191, 177]
abbrev dktX3_told_18 : List UInt8 := dkwX3_told_18 ++ []
def dkwX3_told_17 : List UInt8 := [16, 99, 182, 0, 130, 181, 0, 197, 167, 0, 31, 42, 182, 0, 59, 42, 180, 0, 83, 42, 3, 17, 39, 15]
abbrev dktX3_told_17 : List UInt8 := dkwX3_told_17 ++ dktX3_told_18
def dkwX3_told_16 : List UInt8 := [42, 3, 17, 39, 15, 182, 0, 130, 181, 0, 194, 167, 0, 52, 42, 182, 0, 59, 42, 180, 0, 83, 42, 4]
abbrev dktX3_told_16 : List UInt8 := dkwX3_told_16 ++ dktX3_told_17
def dkwX3_told_15 : List UInt8 := [182, 0, 177, 181, 0, 188, 167, 0, 81, 42, 182, 0, 191, 167, 0, 74, 42, 182, 0, 59, 42, 180, 0, 83]
abbrev dktX3_told_15 : List UInt8 := dkwX3_told_15 ++ dktX3_told_16
def dkwX3_told_14 : List UInt8 := [180, 0, 83, 42, 182, 0, 177, 181, 0, 185, 167, 0, 99, 42, 182, 0, 59, 42, 180, 0, 83, 42]
abbrev dktX3_told_14 : List UInt8 := dkwX3_told_14 ++ dktX3_told_15
def dkwX3_told_13 : List UInt8 := [182, 0, 59, 42, 180, 0, 83, 42, 182, 0, 177, 181, 0, 181, 167, 0, 117, 42, 182, 0, 59, 42]
abbrev dktX3_told_13 : List UInt8 := dkwX3_told_13 ++ dktX3_told_14
def dkwX3_told_12 : List UInt8 := [182, 0, 130, 181, 0, 174, 42, 180, 0, 83, 180, 0, 159, 44, 182, 0, 139, 87, 167, 0, 135, 42]
abbrev dktX3_told_12 : List UInt8 := dkwX3_told_12 ++ dktX3_told_13
def dkwX3_told_11 : List UInt8 := [182, 0, 152, 181, 0, 168, 44, 42, 3, 16, 9, 182, 0, 130, 181, 0, 171, 44, 42, 3, 16, 99]
abbrev dktX3_told_11 : List UInt8 := dkwX3_told_11 ++ dktX3_told_12
def dkwX3_told_10 : List UInt8 := [42, 42, 180, 0, 83, 180, 0, 109, 182, 0, 152, 181, 0, 165, 44, 42, 42, 180, 0, 83, 180, 0, 143]
abbrev dktX3_told_10 : List UInt8 := dkwX3_told_10 ++ dktX3_told_11
def dkwX3_told_9 : List UInt8 := [180, 0, 159, 182, 0, 113, 16, 8, 182, 0, 118, 187, 0, 162, 89, 42, 182, 0, 123, 183, 0, 164, 77, 44]
abbrev dktX3_told_9 : List UInt8 := dkwX3_told_9 ++ dktX3_told_10
def dkwX3_told_8 : List UInt8 := [181, 0, 156, 42, 180, 0, 83, 180, 0, 143, 44, 182, 0, 139, 87, 167, 0, 230, 42, 42, 180, 0, 83]
abbrev dktX3_told_8 : List UInt8 := dkwX3_told_8 ++ dktX3_told_9
def dkwX3_told_7 : List UInt8 := [42, 4, 16, 30, 182, 0, 130, 181, 0, 149, 44, 42, 42, 180, 0, 83, 180, 0, 109, 182, 0, 152]
abbrev dktX3_told_7 : List UInt8 := dkwX3_told_7 ++ dktX3_told_8
def dkwX3_told_6 : List UInt8 := [180, 0, 143, 182, 0, 113, 16, 6, 182, 0, 118, 187, 0, 146, 89, 42, 182, 0, 123, 183, 0, 148, 77, 44]
abbrev dktX3_told_6 : List UInt8 := dkwX3_told_6 ++ dktX3_told_7
def dkwX3_told_5 : List UInt8 := [181, 0, 136, 42, 180, 0, 83, 180, 0, 109, 44, 182, 0, 139, 87, 167, 1, 43, 42, 42, 180, 0, 83]
abbrev dktX3_told_5 : List UInt8 := dkwX3_told_5 ++ dktX3_told_6
def dkwX3_told_4 : List UInt8 := [183, 0, 127, 77, 44, 42, 3, 17, 39, 15, 182, 0, 130, 181, 0, 133, 44, 42, 3, 16, 99, 182, 0, 130]
abbrev dktX3_told_4 : List UInt8 := dkwX3_told_4 ++ dktX3_told_5
def dkwX3_told_3 : List UInt8 := [42, 42, 180, 0, 83, 180, 0, 109, 182, 0, 113, 16, 6, 182, 0, 118, 187, 0, 121, 89, 42, 182, 0, 123]
abbrev dktX3_told_3 : List UInt8 := dkwX3_told_3 ++ dktX3_told_4
def dkwX3_told_2 : List UInt8 := [170, 0, 0, 0, 1, 154, 0, 0, 0, 0, 0, 0, 0, 9, 0, 0, 0, 54, 0, 0, 0, 120, 0, 0, 0, 189, 0, 0, 1, 28, 0, 0, 1, 46, 0, 0, 1, 64, 0, 0, 1, 82, 0, 0, 1, 89, 0, 0, 1, 111, 0, 0, 1, 132]
abbrev dktX3_told_2 : List UInt8 := dkwX3_told_2 ++ dktX3_told_3
def dkwX3_told_1 : List UInt8 := [60, 27]
abbrev dktX3_told_1 : List UInt8 := dkwX3_told_1 ++ dktX3_told_2
def dkwX3_told_0 : List UInt8 := [42, 182, 0, 65, 6, 160, 0, 18, 42, 180, 0, 9, 180, 0, 52, 42, 180, 0, 31, 53, 167, 0, 4, 2]
abbrev dktX3_told_0 : List UInt8 := dkwX3_told_0 ++ dktX3_told_1
theorem dksX3_told_0 : cX3_told.data.toList.drop 0 = dktX3_told_0 := by decide +kernel
theorem dksX3_told_1 : cX3_told.data.toList.drop 24 = dktX3_told_1 := dk_seg dksX3_told_0 24 rfl rfl
theorem dksX3_told_2 : cX3_told.data.toList.drop 26 = dktX3_told_2 := dk_seg dksX3_told_1 2 rfl rfl
theorem dksX3_told_3 : cX3_told.data.toList.drop 80 = dktX3_told_3 := dk_seg dksX3_told_2 54 rfl rfl
theorem dksX3_told_4 : cX3_told.data.toList.drop 104 = dktX3_told_4 := dk_seg dksX3_told_3 24 rfl rfl
theorem dksX3_told_5 : cX3_told.data.toList.drop 128 = dktX3_told_5 := dk_seg dksX3_told_4 24 rfl rfl
theorem dksX3_told_6 : cX3_told.data.toList.drop 151 = dktX3_told_6 := dk_seg dksX3_told_5 23 rfl rfl
theorem dksX3_told_7 : cX3_told.data.toList.drop 175 = dktX3_told_7 := dk_seg dksX3_told_6 24 rfl rfl
theorem dksX3_told_8 : cX3_told.data.toList.drop 197 = dktX3_told_8 := dk_seg dksX3_told_7 22 rfl rfl
theorem dksX3_told_9 : cX3_told.data.toList.drop 220 = dktX3_told_9 := dk_seg dksX3_told_8 23 rfl rfl
theorem dksX3_told_10 : cX3_told.data.toList.drop 244 = dktX3_told_10 := dk_seg dksX3_told_9 24 rfl rfl
theorem dksX3_told_11 : cX3_told.data.toList.drop 267 = dktX3_told_11 := dk_seg dksX3_told_10 23 rfl rfl
theorem dksX3_told_12 : cX3_told.data.toList.drop 289 = dktX3_told_12 := dk_seg dksX3_told_11 22 rfl rfl
theorem dksX3_told_13 : cX3_told.data.toList.drop 311 = dktX3_told_13 := dk_seg dksX3_told_12 22 rfl rfl
theorem dksX3_told_14 : cX3_told.data.toList.drop 333 = dktX3_told_14 := dk_seg dksX3_told_13 22 rfl rfl
theorem dksX3_told_15 : cX3_told.data.toList.drop 355 = dktX3_told_15 := dk_seg dksX3_told_14 22 rfl rfl
theorem dksX3_told_16 : cX3_told.data.toList.drop 379 = dktX3_told_16 := dk_seg dksX3_told_15 24 rfl rfl
theorem dksX3_told_17 : cX3_told.data.toList.drop 403 = dktX3_told_17 := dk_seg dksX3_told_16 24 rfl rfl
theorem dksX3_told_18 : cX3_told.data.toList.drop 427 = dktX3_told_18 := dk_seg dksX3_told_17 24 rfl rfl
theorem dX3_told_0 : decode cX3_told 0 = .ok (.aload_n 0, 1) := dk_42 (dk_at dksX3_told_0 0 rfl rfl)
theorem dX3_told_1 : decode cX3_told 1 = .ok (.invokevirtual 65, 3) := dk_182 0 65 (dk_at dksX3_told_0 1 rfl rfl)
theorem dX3_told_4 : decode cX3_told 4 = .ok (.iconst 3, 1) := dk_6 (dk_at dksX3_told_0 4 rfl rfl)
theorem dX3_told_5 : decode cX3_told 5 = .ok (.if_icmp .ne 18, 3) := dk_160 0 18 (dk_at dksX3_told_0 5 rfl rfl)
theorem dX3_told_8 : decode cX3_told 8 = .ok (.aload_n 0, 1) := dk_42 (dk_at dksX3_told_0 8 rfl rfl)
theorem dX3_told_9 : decode cX3_told 9 = .ok (.getfield 9, 3) := dk_180 0 9 (dk_at dksX3_told_0 9 rfl rfl)
theorem dX3_told_12 : decode cX3_told 12 = .ok (.getfield 52, 3) := dk_180 0 52 (dk_at dksX3_told_0 12 rfl rfl)
theorem dX3_told_15 : decode cX3_told 15 = .ok (.aload_n 0, 1) := dk_42 (dk_at dksX3_told_0 15 rfl rfl)
theorem dX3_told_16 : decode cX3_told 16 = .ok (.getfield 31, 3) := dk_180 0 31 (dk_at dksX3_told_0 16 rfl rfl)
theorem dX3_told_19 : decode cX3_told 19 = .ok (.saload, 1) := dk_53 (dk_at dksX3_told_0 19 rfl rfl)
theorem dX3_told_20 : decode cX3_told 20 = .ok (.goto 4, 3) := dk_167 0 4 (dk_at dksX3_told_0 20 rfl rfl)
theorem dX3_told_23 : decode cX3_told 23 = .ok (.iconst (-1), 1) := dk_2 (dk_at dksX3_told_0 23 rfl rfl)
theorem dX3_told_24 : decode cX3_told 24 = .ok (.istore_n 1, 1) := dk_60 (dk_at dksX3_told_1 0 rfl rfl)
theorem dX3_told_25 : decode cX3_told 25 = .ok (.iload_n 1, 1) := dk_27 (dk_at dksX3_told_1 1 rfl rfl)
theorem dX3_told_26 : decode cX3_told 26 = .ok (.tableswitch 410 0 9 #[54, 120, 189, 284, 302, 320, 338, 345, 367, 388], 54) := by decide +kernel
theorem dX3_told_80 : decode cX3_told 80 = .ok (.aload_n 0, 1) := dk_42 (dk_at dksX3_told_3 0 rfl rfl)
theorem dX3_told_81 : decode cX3_told 81 = .ok (.aload_n 0, 1) := dk_42 (dk_at dksX3_told_3 1 rfl rfl)
theorem dX3_told_82 : decode cX3_told 82 = .ok (.getfield 83, 3) := dk_180 0 83 (dk_at dksX3_told_3 2 rfl rfl)
theorem dX3_told_85 : decode cX3_told 85 = .ok (.getfield 109, 3) := dk_180 0 109 (dk_at dksX3_told_3 5 rfl rfl)
theorem dX3_told_88 : decode cX3_told 88 = .ok (.invokevirtual 113, 3) := dk_182 0 113 (dk_at dksX3_told_3 8 rfl rfl)
theorem dX3_told_91 : decode cX3_told 91 = .ok (.bipush 6, 2) := dk_16 6 (dk_at dksX3_told_3 11 rfl rfl)
theorem dX3_told_93 : decode cX3_told 93 = .ok (.invokevirtual 118, 3) := dk_182 0 118 (dk_at dksX3_told_3 13 rfl rfl)
theorem dX3_told_96 : decode cX3_told 96 = .ok (.new 121, 3) := dk_187 0 121 (dk_at dksX3_told_3 16 rfl rfl)
theorem dX3_told_99 : decode cX3_told 99 = .ok (.dup, 1) := dk_89 (dk_at dksX3_told_3 19 rfl rfl)
theorem dX3_told_100 : decode cX3_told 100 = .ok (.aload_n 0, 1) := dk_42 (dk_at dksX3_told_3 20 rfl rfl)
theorem dX3_told_101 : decode cX3_told 101 = .ok (.invokevirtual 123, 3) := dk_182 0 123 (dk_at dksX3_told_3 21 rfl rfl)
theorem dX3_told_104 : decode cX3_told 104 = .ok (.invokespecial 127, 3) := dk_183 0 127 (dk_at dksX3_told_4 0 rfl rfl)
theorem dX3_told_107 : decode cX3_told 107 = .ok (.astore_n 2, 1) := dk_77 (dk_at dksX3_told_4 3 rfl rfl)
theorem dX3_told_108 : decode cX3_told 108 = .ok (.aload_n 2, 1) := dk_44 (dk_at dksX3_told_4 4 rfl rfl)
theorem dX3_told_109 : decode cX3_told 109 = .ok (.aload_n 0, 1) := dk_42 (dk_at dksX3_told_4 5 rfl rfl)
theorem dX3_told_110 : decode cX3_told 110 = .ok (.iconst 0, 1) := dk_3 (dk_at dksX3_told_4 6 rfl rfl)
theorem dX3_told_111 : decode cX3_told 111 = .ok (.sipush 9999, 3) := dk_17 39 15 (dk_at dksX3_told_4 7 rfl rfl)
theorem dX3_told_114 : decode cX3_told 114 = .ok (.invokevirtual 130, 3) := dk_182 0 130 (dk_at dksX3_told_4 10 rfl rfl)
theorem dX3_told_117 : decode cX3_told 117 = .ok (.putfield 133, 3) := dk_181 0 133 (dk_at dksX3_told_4 13 rfl rfl)
theorem dX3_told_120 : decode cX3_told 120 = .ok (.aload_n 2, 1) := dk_44 (dk_at dksX3_told_4 16 rfl rfl)
theorem dX3_told_121 : decode cX3_told 121 = .ok (.aload_n 0, 1) := dk_42 (dk_at dksX3_told_4 17 rfl rfl)
theorem dX3_told_122 : decode cX3_told 122 = .ok (.iconst 0, 1) := dk_3 (dk_at dksX3_told_4 18 rfl rfl)
theorem dX3_told_123 : decode cX3_told 123 = .ok (.bipush 99, 2) := dk_16 99 (dk_at dksX3_told_4 19 rfl rfl)
theorem dX3_told_125 : decode cX3_told 125 = .ok (.invokevirtual 130, 3) := dk_182 0 130 (dk_at dksX3_told_4 21 rfl rfl)
theorem dX3_told_128 : decode cX3_told 128 = .ok (.putfield 136, 3) := dk_181 0 136 (dk_at dksX3_told_5 0 rfl rfl)
theorem dX3_told_131 : decode cX3_told 131 = .ok (.aload_n 0, 1) := dk_42 (dk_at dksX3_told_5 3 rfl rfl)
theorem dX3_told_132 : decode cX3_told 132 = .ok (.getfield 83, 3) := dk_180 0 83 (dk_at dksX3_told_5 4 rfl rfl)
theorem dX3_told_135 : decode cX3_told 135 = .ok (.getfield 109, 3) := dk_180 0 109 (dk_at dksX3_told_5 7 rfl rfl)
theorem dX3_told_138 : decode cX3_told 138 = .ok (.aload_n 2, 1) := dk_44 (dk_at dksX3_told_5 10 rfl rfl)
theorem dX3_told_139 : decode cX3_told 139 = .ok (.invokevirtual 139, 3) := dk_182 0 139 (dk_at dksX3_told_5 11 rfl rfl)
theorem dX3_told_142 : decode cX3_told 142 = .ok (.pop, 1) := dk_87 (dk_at dksX3_told_5 14 rfl rfl)
theorem dX3_told_143 : decode cX3_told 143 = .ok (.goto 299, 3) := dk_167 1 43 (dk_at dksX3_told_5 15 rfl rfl)
theorem dX3_told_146 : decode cX3_told 146 = .ok (.aload_n 0, 1) := dk_42 (dk_at dksX3_told_5 18 rfl rfl)
theorem dX3_told_147 : decode cX3_told 147 = .ok (.aload_n 0, 1) := dk_42 (dk_at dksX3_told_5 19 rfl rfl)
theorem dX3_told_148 : decode cX3_told 148 = .ok (.getfield 83, 3) := dk_180 0 83 (dk_at dksX3_told_5 20 rfl rfl)
theorem dX3_told_151 : decode cX3_told 151 = .ok (.getfield 143, 3) := dk_180 0 143 (dk_at dksX3_told_6 0 rfl rfl)
theorem dX3_told_154 : decode cX3_told 154 = .ok (.invokevirtual 113, 3) := dk_182 0 113 (dk_at dksX3_told_6 3 rfl rfl)
theorem dX3_told_157 : decode cX3_told 157 = .ok (.bipush 6, 2) := dk_16 6 (dk_at dksX3_told_6 6 rfl rfl)
theorem dX3_told_159 : decode cX3_told 159 = .ok (.invokevirtual 118, 3) := dk_182 0 118 (dk_at dksX3_told_6 8 rfl rfl)
theorem dX3_told_162 : decode cX3_told 162 = .ok (.new 146, 3) := dk_187 0 146 (dk_at dksX3_told_6 11 rfl rfl)
theorem dX3_told_165 : decode cX3_told 165 = .ok (.dup, 1) := dk_89 (dk_at dksX3_told_6 14 rfl rfl)
theorem dX3_told_166 : decode cX3_told 166 = .ok (.aload_n 0, 1) := dk_42 (dk_at dksX3_told_6 15 rfl rfl)
theorem dX3_told_167 : decode cX3_told 167 = .ok (.invokevirtual 123, 3) := dk_182 0 123 (dk_at dksX3_told_6 16 rfl rfl)
theorem dX3_told_170 : decode cX3_told 170 = .ok (.invokespecial 148, 3) := dk_183 0 148 (dk_at dksX3_told_6 19 rfl rfl)
theorem dX3_told_173 : decode cX3_told 173 = .ok (.astore_n 2, 1) := dk_77 (dk_at dksX3_told_6 22 rfl rfl)
theorem dX3_told_174 : decode cX3_told 174 = .ok (.aload_n 2, 1) := dk_44 (dk_at dksX3_told_6 23 rfl rfl)
theorem dX3_told_175 : decode cX3_told 175 = .ok (.aload_n 0, 1) := dk_42 (dk_at dksX3_told_7 0 rfl rfl)
theorem dX3_told_176 : decode cX3_told 176 = .ok (.iconst 1, 1) := dk_4 (dk_at dksX3_told_7 1 rfl rfl)
theorem dX3_told_177 : decode cX3_told 177 = .ok (.bipush 30, 2) := dk_16 30 (dk_at dksX3_told_7 2 rfl rfl)
theorem dX3_told_179 : decode cX3_told 179 = .ok (.invokevirtual 130, 3) := dk_182 0 130 (dk_at dksX3_told_7 4 rfl rfl)
theorem dX3_told_182 : decode cX3_told 182 = .ok (.putfield 149, 3) := dk_181 0 149 (dk_at dksX3_told_7 7 rfl rfl)
theorem dX3_told_185 : decode cX3_told 185 = .ok (.aload_n 2, 1) := dk_44 (dk_at dksX3_told_7 10 rfl rfl)
theorem dX3_told_186 : decode cX3_told 186 = .ok (.aload_n 0, 1) := dk_42 (dk_at dksX3_told_7 11 rfl rfl)
theorem dX3_told_187 : decode cX3_told 187 = .ok (.aload_n 0, 1) := dk_42 (dk_at dksX3_told_7 12 rfl rfl)
theorem dX3_told_188 : decode cX3_told 188 = .ok (.getfield 83, 3) := dk_180 0 83 (dk_at dksX3_told_7 13 rfl rfl)
theorem dX3_told_191 : decode cX3_told 191 = .ok (.getfield 109, 3) := dk_180 0 109 (dk_at dksX3_told_7 16 rfl rfl)
theorem dX3_told_194 : decode cX3_told 194 = .ok (.invokevirtual 152, 3) := dk_182 0 152 (dk_at dksX3_told_7 19 rfl rfl)
theorem dX3_told_197 : decode cX3_told 197 = .ok (.putfield 156, 3) := dk_181 0 156 (dk_at dksX3_told_8 0 rfl rfl)
theorem dX3_told_200 : decode cX3_told 200 = .ok (.aload_n 0, 1) := dk_42 (dk_at dksX3_told_8 3 rfl rfl)
theorem dX3_told_201 : decode cX3_told 201 = .ok (.getfield 83, 3) := dk_180 0 83 (dk_at dksX3_told_8 4 rfl rfl)
theorem dX3_told_204 : decode cX3_told 204 = .ok (.getfield 143, 3) := dk_180 0 143 (dk_at dksX3_told_8 7 rfl rfl)
theorem dX3_told_207 : decode cX3_told 207 = .ok (.aload_n 2, 1) := dk_44 (dk_at dksX3_told_8 10 rfl rfl)
theorem dX3_told_208 : decode cX3_told 208 = .ok (.invokevirtual 139, 3) := dk_182 0 139 (dk_at dksX3_told_8 11 rfl rfl)
theorem dX3_told_211 : decode cX3_told 211 = .ok (.pop, 1) := dk_87 (dk_at dksX3_told_8 14 rfl rfl)
theorem dX3_told_212 : decode cX3_told 212 = .ok (.goto 230, 3) := dk_167 0 230 (dk_at dksX3_told_8 15 rfl rfl)
theorem dX3_told_215 : decode cX3_told 215 = .ok (.aload_n 0, 1) := dk_42 (dk_at dksX3_told_8 18 rfl rfl)
theorem dX3_told_216 : decode cX3_told 216 = .ok (.aload_n 0, 1) := dk_42 (dk_at dksX3_told_8 19 rfl rfl)
theorem dX3_told_217 : decode cX3_told 217 = .ok (.getfield 83, 3) := dk_180 0 83 (dk_at dksX3_told_8 20 rfl rfl)
theorem dX3_told_220 : decode cX3_told 220 = .ok (.getfield 159, 3) := dk_180 0 159 (dk_at dksX3_told_9 0 rfl rfl)
theorem dX3_told_223 : decode cX3_told 223 = .ok (.invokevirtual 113, 3) := dk_182 0 113 (dk_at dksX3_told_9 3 rfl rfl)
theorem dX3_told_226 : decode cX3_told 226 = .ok (.bipush 8, 2) := dk_16 8 (dk_at dksX3_told_9 6 rfl rfl)
theorem dX3_told_228 : decode cX3_told 228 = .ok (.invokevirtual 118, 3) := dk_182 0 118 (dk_at dksX3_told_9 8 rfl rfl)
theorem dX3_told_231 : decode cX3_told 231 = .ok (.new 162, 3) := dk_187 0 162 (dk_at dksX3_told_9 11 rfl rfl)
theorem dX3_told_234 : decode cX3_told 234 = .ok (.dup, 1) := dk_89 (dk_at dksX3_told_9 14 rfl rfl)
theorem dX3_told_235 : decode cX3_told 235 = .ok (.aload_n 0, 1) := dk_42 (dk_at dksX3_told_9 15 rfl rfl)
theorem dX3_told_236 : decode cX3_told 236 = .ok (.invokevirtual 123, 3) := dk_182 0 123 (dk_at dksX3_told_9 16 rfl rfl)
theorem dX3_told_239 : decode cX3_told 239 = .ok (.invokespecial 164, 3) := dk_183 0 164 (dk_at dksX3_told_9 19 rfl rfl)
theorem dX3_told_242 : decode cX3_told 242 = .ok (.astore_n 2, 1) := dk_77 (dk_at dksX3_told_9 22 rfl rfl)
theorem dX3_told_243 : decode cX3_told 243 = .ok (.aload_n 2, 1) := dk_44 (dk_at dksX3_told_9 23 rfl rfl)
theorem dX3_told_244 : decode cX3_told 244 = .ok (.aload_n 0, 1) := dk_42 (dk_at dksX3_told_10 0 rfl rfl)
theorem dX3_told_245 : decode cX3_told 245 = .ok (.aload_n 0, 1) := dk_42 (dk_at dksX3_told_10 1 rfl rfl)
theorem dX3_told_246 : decode cX3_told 246 = .ok (.getfield 83, 3) := dk_180 0 83 (dk_at dksX3_told_10 2 rfl rfl)
theorem dX3_told_249 : decode cX3_told 249 = .ok (.getfield 109, 3) := dk_180 0 109 (dk_at dksX3_told_10 5 rfl rfl)
theorem dX3_told_252 : decode cX3_told 252 = .ok (.invokevirtual 152, 3) := dk_182 0 152 (dk_at dksX3_told_10 8 rfl rfl)
theorem dX3_told_255 : decode cX3_told 255 = .ok (.putfield 165, 3) := dk_181 0 165 (dk_at dksX3_told_10 11 rfl rfl)
theorem dX3_told_258 : decode cX3_told 258 = .ok (.aload_n 2, 1) := dk_44 (dk_at dksX3_told_10 14 rfl rfl)
theorem dX3_told_259 : decode cX3_told 259 = .ok (.aload_n 0, 1) := dk_42 (dk_at dksX3_told_10 15 rfl rfl)
theorem dX3_told_260 : decode cX3_told 260 = .ok (.aload_n 0, 1) := dk_42 (dk_at dksX3_told_10 16 rfl rfl)
theorem dX3_told_261 : decode cX3_told 261 = .ok (.getfield 83, 3) := dk_180 0 83 (dk_at dksX3_told_10 17 rfl rfl)
theorem dX3_told_264 : decode cX3_told 264 = .ok (.getfield 143, 3) := dk_180 0 143 (dk_at dksX3_told_10 20 rfl rfl)
theorem dX3_told_267 : decode cX3_told 267 = .ok (.invokevirtual 152, 3) := dk_182 0 152 (dk_at dksX3_told_11 0 rfl rfl)
theorem dX3_told_270 : decode cX3_told 270 = .ok (.putfield 168, 3) := dk_181 0 168 (dk_at dksX3_told_11 3 rfl rfl)
theorem dX3_told_273 : decode cX3_told 273 = .ok (.aload_n 2, 1) := dk_44 (dk_at dksX3_told_11 6 rfl rfl)
theorem dX3_told_274 : decode cX3_told 274 = .ok (.aload_n 0, 1) := dk_42 (dk_at dksX3_told_11 7 rfl rfl)
theorem dX3_told_275 : decode cX3_told 275 = .ok (.iconst 0, 1) := dk_3 (dk_at dksX3_told_11 8 rfl rfl)
theorem dX3_told_276 : decode cX3_told 276 = .ok (.bipush 9, 2) := dk_16 9 (dk_at dksX3_told_11 9 rfl rfl)
theorem dX3_told_278 : decode cX3_told 278 = .ok (.invokevirtual 130, 3) := dk_182 0 130 (dk_at dksX3_told_11 11 rfl rfl)
theorem dX3_told_281 : decode cX3_told 281 = .ok (.putfield 171, 3) := dk_181 0 171 (dk_at dksX3_told_11 14 rfl rfl)
theorem dX3_told_284 : decode cX3_told 284 = .ok (.aload_n 2, 1) := dk_44 (dk_at dksX3_told_11 17 rfl rfl)
theorem dX3_told_285 : decode cX3_told 285 = .ok (.aload_n 0, 1) := dk_42 (dk_at dksX3_told_11 18 rfl rfl)
theorem dX3_told_286 : decode cX3_told 286 = .ok (.iconst 0, 1) := dk_3 (dk_at dksX3_told_11 19 rfl rfl)
theorem dX3_told_287 : decode cX3_told 287 = .ok (.bipush 99, 2) := dk_16 99 (dk_at dksX3_told_11 20 rfl rfl)
theorem dX3_told_289 : decode cX3_told 289 = .ok (.invokevirtual 130, 3) := dk_182 0 130 (dk_at dksX3_told_12 0 rfl rfl)
theorem dX3_told_292 : decode cX3_told 292 = .ok (.putfield 174, 3) := dk_181 0 174 (dk_at dksX3_told_12 3 rfl rfl)
theorem dX3_told_295 : decode cX3_told 295 = .ok (.aload_n 0, 1) := dk_42 (dk_at dksX3_told_12 6 rfl rfl)
theorem dX3_told_296 : decode cX3_told 296 = .ok (.getfield 83, 3) := dk_180 0 83 (dk_at dksX3_told_12 7 rfl rfl)
theorem dX3_told_299 : decode cX3_told 299 = .ok (.getfield 159, 3) := dk_180 0 159 (dk_at dksX3_told_12 10 rfl rfl)
theorem dX3_told_302 : decode cX3_told 302 = .ok (.aload_n 2, 1) := dk_44 (dk_at dksX3_told_12 13 rfl rfl)
theorem dX3_told_303 : decode cX3_told 303 = .ok (.invokevirtual 139, 3) := dk_182 0 139 (dk_at dksX3_told_12 14 rfl rfl)
theorem dX3_told_306 : decode cX3_told 306 = .ok (.pop, 1) := dk_87 (dk_at dksX3_told_12 17 rfl rfl)
theorem dX3_told_307 : decode cX3_told 307 = .ok (.goto 135, 3) := dk_167 0 135 (dk_at dksX3_told_12 18 rfl rfl)
theorem dX3_told_310 : decode cX3_told 310 = .ok (.aload_n 0, 1) := dk_42 (dk_at dksX3_told_12 21 rfl rfl)
theorem dX3_told_311 : decode cX3_told 311 = .ok (.invokevirtual 59, 3) := dk_182 0 59 (dk_at dksX3_told_13 0 rfl rfl)
theorem dX3_told_314 : decode cX3_told 314 = .ok (.aload_n 0, 1) := dk_42 (dk_at dksX3_told_13 3 rfl rfl)
theorem dX3_told_315 : decode cX3_told 315 = .ok (.getfield 83, 3) := dk_180 0 83 (dk_at dksX3_told_13 4 rfl rfl)
theorem dX3_told_318 : decode cX3_told 318 = .ok (.aload_n 0, 1) := dk_42 (dk_at dksX3_told_13 7 rfl rfl)
theorem dX3_told_319 : decode cX3_told 319 = .ok (.invokevirtual 177, 3) := dk_182 0 177 (dk_at dksX3_told_13 8 rfl rfl)
theorem dX3_told_322 : decode cX3_told 322 = .ok (.putfield 181, 3) := dk_181 0 181 (dk_at dksX3_told_13 11 rfl rfl)
theorem dX3_told_325 : decode cX3_told 325 = .ok (.goto 117, 3) := dk_167 0 117 (dk_at dksX3_told_13 14 rfl rfl)
theorem dX3_told_328 : decode cX3_told 328 = .ok (.aload_n 0, 1) := dk_42 (dk_at dksX3_told_13 17 rfl rfl)
theorem dX3_told_329 : decode cX3_told 329 = .ok (.invokevirtual 59, 3) := dk_182 0 59 (dk_at dksX3_told_13 18 rfl rfl)
theorem dX3_told_332 : decode cX3_told 332 = .ok (.aload_n 0, 1) := dk_42 (dk_at dksX3_told_13 21 rfl rfl)
theorem dX3_told_333 : decode cX3_told 333 = .ok (.getfield 83, 3) := dk_180 0 83 (dk_at dksX3_told_14 0 rfl rfl)
theorem dX3_told_336 : decode cX3_told 336 = .ok (.aload_n 0, 1) := dk_42 (dk_at dksX3_told_14 3 rfl rfl)
theorem dX3_told_337 : decode cX3_told 337 = .ok (.invokevirtual 177, 3) := dk_182 0 177 (dk_at dksX3_told_14 4 rfl rfl)
theorem dX3_told_340 : decode cX3_told 340 = .ok (.putfield 185, 3) := dk_181 0 185 (dk_at dksX3_told_14 7 rfl rfl)
theorem dX3_told_343 : decode cX3_told 343 = .ok (.goto 99, 3) := dk_167 0 99 (dk_at dksX3_told_14 10 rfl rfl)
theorem dX3_told_346 : decode cX3_told 346 = .ok (.aload_n 0, 1) := dk_42 (dk_at dksX3_told_14 13 rfl rfl)
theorem dX3_told_347 : decode cX3_told 347 = .ok (.invokevirtual 59, 3) := dk_182 0 59 (dk_at dksX3_told_14 14 rfl rfl)
theorem dX3_told_350 : decode cX3_told 350 = .ok (.aload_n 0, 1) := dk_42 (dk_at dksX3_told_14 17 rfl rfl)
theorem dX3_told_351 : decode cX3_told 351 = .ok (.getfield 83, 3) := dk_180 0 83 (dk_at dksX3_told_14 18 rfl rfl)
theorem dX3_told_354 : decode cX3_told 354 = .ok (.aload_n 0, 1) := dk_42 (dk_at dksX3_told_14 21 rfl rfl)
theorem dX3_told_355 : decode cX3_told 355 = .ok (.invokevirtual 177, 3) := dk_182 0 177 (dk_at dksX3_told_15 0 rfl rfl)
theorem dX3_told_358 : decode cX3_told 358 = .ok (.putfield 188, 3) := dk_181 0 188 (dk_at dksX3_told_15 3 rfl rfl)
theorem dX3_told_361 : decode cX3_told 361 = .ok (.goto 81, 3) := dk_167 0 81 (dk_at dksX3_told_15 6 rfl rfl)
theorem dX3_told_364 : decode cX3_told 364 = .ok (.aload_n 0, 1) := dk_42 (dk_at dksX3_told_15 9 rfl rfl)
theorem dX3_told_365 : decode cX3_told 365 = .ok (.invokevirtual 191, 3) := dk_182 0 191 (dk_at dksX3_told_15 10 rfl rfl)
theorem dX3_told_368 : decode cX3_told 368 = .ok (.goto 74, 3) := dk_167 0 74 (dk_at dksX3_told_15 13 rfl rfl)
theorem dX3_told_371 : decode cX3_told 371 = .ok (.aload_n 0, 1) := dk_42 (dk_at dksX3_told_15 16 rfl rfl)
theorem dX3_told_372 : decode cX3_told 372 = .ok (.invokevirtual 59, 3) := dk_182 0 59 (dk_at dksX3_told_15 17 rfl rfl)
theorem dX3_told_375 : decode cX3_told 375 = .ok (.aload_n 0, 1) := dk_42 (dk_at dksX3_told_15 20 rfl rfl)
theorem dX3_told_376 : decode cX3_told 376 = .ok (.getfield 83, 3) := dk_180 0 83 (dk_at dksX3_told_15 21 rfl rfl)
theorem dX3_told_379 : decode cX3_told 379 = .ok (.aload_n 0, 1) := dk_42 (dk_at dksX3_told_16 0 rfl rfl)
theorem dX3_told_380 : decode cX3_told 380 = .ok (.iconst 0, 1) := dk_3 (dk_at dksX3_told_16 1 rfl rfl)
theorem dX3_told_381 : decode cX3_told 381 = .ok (.sipush 9999, 3) := dk_17 39 15 (dk_at dksX3_told_16 2 rfl rfl)
theorem dX3_told_384 : decode cX3_told 384 = .ok (.invokevirtual 130, 3) := dk_182 0 130 (dk_at dksX3_told_16 5 rfl rfl)
theorem dX3_told_387 : decode cX3_told 387 = .ok (.putfield 194, 3) := dk_181 0 194 (dk_at dksX3_told_16 8 rfl rfl)
theorem dX3_told_390 : decode cX3_told 390 = .ok (.goto 52, 3) := dk_167 0 52 (dk_at dksX3_told_16 11 rfl rfl)
theorem dX3_told_393 : decode cX3_told 393 = .ok (.aload_n 0, 1) := dk_42 (dk_at dksX3_told_16 14 rfl rfl)
theorem dX3_told_394 : decode cX3_told 394 = .ok (.invokevirtual 59, 3) := dk_182 0 59 (dk_at dksX3_told_16 15 rfl rfl)
theorem dX3_told_397 : decode cX3_told 397 = .ok (.aload_n 0, 1) := dk_42 (dk_at dksX3_told_16 18 rfl rfl)
theorem dX3_told_398 : decode cX3_told 398 = .ok (.getfield 83, 3) := dk_180 0 83 (dk_at dksX3_told_16 19 rfl rfl)
theorem dX3_told_401 : decode cX3_told 401 = .ok (.aload_n 0, 1) := dk_42 (dk_at dksX3_told_16 22 rfl rfl)
theorem dX3_told_402 : decode cX3_told 402 = .ok (.iconst 1, 1) := dk_4 (dk_at dksX3_told_16 23 rfl rfl)
theorem dX3_told_403 : decode cX3_told 403 = .ok (.bipush 99, 2) := dk_16 99 (dk_at dksX3_told_17 0 rfl rfl)
theorem dX3_told_405 : decode cX3_told 405 = .ok (.invokevirtual 130, 3) := dk_182 0 130 (dk_at dksX3_told_17 2 rfl rfl)
theorem dX3_told_408 : decode cX3_told 408 = .ok (.putfield 197, 3) := dk_181 0 197 (dk_at dksX3_told_17 5 rfl rfl)
theorem dX3_told_411 : decode cX3_told 411 = .ok (.goto 31, 3) := dk_167 0 31 (dk_at dksX3_told_17 8 rfl rfl)
theorem dX3_told_414 : decode cX3_told 414 = .ok (.aload_n 0, 1) := dk_42 (dk_at dksX3_told_17 11 rfl rfl)
theorem dX3_told_415 : decode cX3_told 415 = .ok (.invokevirtual 59, 3) := dk_182 0 59 (dk_at dksX3_told_17 12 rfl rfl)
theorem dX3_told_418 : decode cX3_told 418 = .ok (.aload_n 0, 1) := dk_42 (dk_at dksX3_told_17 15 rfl rfl)
theorem dX3_told_419 : decode cX3_told 419 = .ok (.getfield 83, 3) := dk_180 0 83 (dk_at dksX3_told_17 16 rfl rfl)
theorem dX3_told_422 : decode cX3_told 422 = .ok (.aload_n 0, 1) := dk_42 (dk_at dksX3_told_17 19 rfl rfl)
theorem dX3_told_423 : decode cX3_told 423 = .ok (.iconst 0, 1) := dk_3 (dk_at dksX3_told_17 20 rfl rfl)
theorem dX3_told_424 : decode cX3_told 424 = .ok (.sipush 9999, 3) := dk_17 39 15 (dk_at dksX3_told_17 21 rfl rfl)
theorem dX3_told_427 : decode cX3_told 427 = .ok (.invokevirtual 130, 3) := dk_182 0 130 (dk_at dksX3_told_18 0 rfl rfl)
theorem dX3_told_430 : decode cX3_told 430 = .ok (.putfield 200, 3) := dk_181 0 200 (dk_at dksX3_told_18 3 rfl rfl)
theorem dX3_told_433 : decode cX3_told 433 = .ok (.goto 9, 3) := dk_167 0 9 (dk_at dksX3_told_18 6 rfl rfl)
theorem dX3_told_436 : decode cX3_told 436 = .ok (.aload_n 0, 1) := dk_42 (dk_at dksX3_told_18 9 rfl rfl)
theorem dX3_told_437 : decode cX3_told 437 = .ok (.iconst 1, 1) := dk_4 (dk_at dksX3_told_18 10 rfl rfl)
theorem dX3_told_438 : decode cX3_told 438 = .ok (.invokevirtual 48, 3) := dk_182 0 48 (dk_at dksX3_told_18 11 rfl rfl)
theorem dX3_told_441 : decode cX3_told 441 = .ok (.athrow, 1) := dk_191 (dk_at dksX3_told_18 14 rfl rfl)
theorem dX3_told_442 : decode cX3_told 442 = .ok (.return_, 1) := dk_177 (dk_at dksX3_told_18 15 rfl rfl)
abbrev cX3_begins : ByteArray := prog_15_method_15_code
def yX3_begins : MethodName := ⟨RX3, "begins", "(II)V"⟩
def dkwX3_begins_0 : List UInt8 := [27, 28, 160, 0, 9, 42, 5, 182, 0, 48, 191, 42, 182, 0, 59, 177]
abbrev dktX3_begins_0 : List UInt8 := dkwX3_begins_0 ++ []
theorem dksX3_begins_0 : cX3_begins.data.toList.drop 0 = dktX3_begins_0 := by decide +kernel
theorem dX3_begins_0 : decode cX3_begins 0 = .ok (.iload_n 1, 1) := dk_27 (dk_at dksX3_begins_0 0 rfl rfl)
theorem dX3_begins_1 : decode cX3_begins 1 = .ok (.iload_n 2, 1) := dk_28 (dk_at dksX3_begins_0 1 rfl rfl)
theorem dX3_begins_2 : decode cX3_begins 2 = .ok (.if_icmp .ne 9, 3) := dk_160 0 9 (dk_at dksX3_begins_0 2 rfl rfl)
theorem dX3_begins_5 : decode cX3_begins 5 = .ok (.aload_n 0, 1) := dk_42 (dk_at dksX3_begins_0 5 rfl rfl)
theorem dX3_begins_6 : decode cX3_begins 6 = .ok (.iconst 2, 1) := dk_5 (dk_at dksX3_begins_0 6 rfl rfl)
theorem dX3_begins_7 : decode cX3_begins 7 = .ok (.invokevirtual 48, 3) := dk_182 0 48 (dk_at dksX3_begins_0 7 rfl rfl)
theorem dX3_begins_10 : decode cX3_begins 10 = .ok (.athrow, 1) := dk_191 (dk_at dksX3_begins_0 10 rfl rfl)
theorem dX3_begins_11 : decode cX3_begins 11 = .ok (.aload_n 0, 1) := dk_42 (dk_at dksX3_begins_0 11 rfl rfl)
theorem dX3_begins_12 : decode cX3_begins 12 = .ok (.invokevirtual 59, 3) := dk_182 0 59 (dk_at dksX3_begins_0 12 rfl rfl)
theorem dX3_begins_15 : decode cX3_begins 15 = .ok (.return_, 1) := dk_177 (dk_at dksX3_begins_0 15 rfl rfl)
abbrev cX3_pass : ByteArray := prog_15_method_6_code
def yX3_pass : MethodName := ⟨RX3, "pass", "()V"⟩
def dkwX3_pass_1 : List UInt8 := [181, 0, 31, 177]
abbrev dktX3_pass_1 : List UInt8 := dkwX3_pass_1 ++ []
def dkwX3_pass_0 : List UInt8 := [42, 180, 0, 31, 17, 1, 144, 161, 0, 9, 42, 5, 182, 0, 48, 191, 42, 89, 180, 0, 31, 4, 96]
abbrev dktX3_pass_0 : List UInt8 := dkwX3_pass_0 ++ dktX3_pass_1
theorem dksX3_pass_0 : cX3_pass.data.toList.drop 0 = dktX3_pass_0 := by decide +kernel
theorem dksX3_pass_1 : cX3_pass.data.toList.drop 23 = dktX3_pass_1 := dk_seg dksX3_pass_0 23 rfl rfl
theorem dX3_pass_0 : decode cX3_pass 0 = .ok (.aload_n 0, 1) := dk_42 (dk_at dksX3_pass_0 0 rfl rfl)
theorem dX3_pass_1 : decode cX3_pass 1 = .ok (.getfield 31, 3) := dk_180 0 31 (dk_at dksX3_pass_0 1 rfl rfl)
theorem dX3_pass_4 : decode cX3_pass 4 = .ok (.sipush 400, 3) := dk_17 1 144 (dk_at dksX3_pass_0 4 rfl rfl)
theorem dX3_pass_7 : decode cX3_pass 7 = .ok (.if_icmp .lt 9, 3) := dk_161 0 9 (dk_at dksX3_pass_0 7 rfl rfl)
theorem dX3_pass_10 : decode cX3_pass 10 = .ok (.aload_n 0, 1) := dk_42 (dk_at dksX3_pass_0 10 rfl rfl)
theorem dX3_pass_11 : decode cX3_pass 11 = .ok (.iconst 2, 1) := dk_5 (dk_at dksX3_pass_0 11 rfl rfl)
theorem dX3_pass_12 : decode cX3_pass 12 = .ok (.invokevirtual 48, 3) := dk_182 0 48 (dk_at dksX3_pass_0 12 rfl rfl)
theorem dX3_pass_15 : decode cX3_pass 15 = .ok (.athrow, 1) := dk_191 (dk_at dksX3_pass_0 15 rfl rfl)
theorem dX3_pass_16 : decode cX3_pass 16 = .ok (.aload_n 0, 1) := dk_42 (dk_at dksX3_pass_0 16 rfl rfl)
theorem dX3_pass_17 : decode cX3_pass 17 = .ok (.dup, 1) := dk_89 (dk_at dksX3_pass_0 17 rfl rfl)
theorem dX3_pass_18 : decode cX3_pass 18 = .ok (.getfield 31, 3) := dk_180 0 31 (dk_at dksX3_pass_0 18 rfl rfl)
theorem dX3_pass_21 : decode cX3_pass 21 = .ok (.iconst 1, 1) := dk_4 (dk_at dksX3_pass_0 21 rfl rfl)
theorem dX3_pass_22 : decode cX3_pass 22 = .ok (.iadd, 1) := dk_96 (dk_at dksX3_pass_0 22 rfl rfl)
theorem dX3_pass_23 : decode cX3_pass 23 = .ok (.putfield 31, 3) := dk_181 0 31 (dk_at dksX3_pass_1 0 rfl rfl)
theorem dX3_pass_26 : decode cX3_pass 26 = .ok (.return_, 1) := dk_177 (dk_at dksX3_pass_1 3 rfl rfl)
abbrev cX3_name : ByteArray := prog_15_method_13_code
def yX3_name : MethodName := ⟨RX3, "name", "()Ljava/lang/String;"⟩
def dkwX3_name_1 : List UInt8 := [153, 0, 9, 42, 6, 27, 182, 0, 75, 44, 176]
abbrev dktX3_name_1 : List UInt8 := dkwX3_name_1 ++ []
def dkwX3_name_0 : List UInt8 := [42, 3, 182, 0, 68, 60, 42, 180, 0, 9, 27, 182, 0, 79, 77, 42, 180, 0, 83, 44, 182, 0, 86]
abbrev dktX3_name_0 : List UInt8 := dkwX3_name_0 ++ dktX3_name_1
theorem dksX3_name_0 : cX3_name.data.toList.drop 0 = dktX3_name_0 := by decide +kernel
theorem dksX3_name_1 : cX3_name.data.toList.drop 23 = dktX3_name_1 := dk_seg dksX3_name_0 23 rfl rfl
theorem dX3_name_0 : decode cX3_name 0 = .ok (.aload_n 0, 1) := dk_42 (dk_at dksX3_name_0 0 rfl rfl)
theorem dX3_name_1 : decode cX3_name 1 = .ok (.iconst 0, 1) := dk_3 (dk_at dksX3_name_0 1 rfl rfl)
theorem dX3_name_2 : decode cX3_name 2 = .ok (.invokevirtual 68, 3) := dk_182 0 68 (dk_at dksX3_name_0 2 rfl rfl)
theorem dX3_name_5 : decode cX3_name 5 = .ok (.istore_n 1, 1) := dk_60 (dk_at dksX3_name_0 5 rfl rfl)
theorem dX3_name_6 : decode cX3_name 6 = .ok (.aload_n 0, 1) := dk_42 (dk_at dksX3_name_0 6 rfl rfl)
theorem dX3_name_7 : decode cX3_name 7 = .ok (.getfield 9, 3) := dk_180 0 9 (dk_at dksX3_name_0 7 rfl rfl)
theorem dX3_name_10 : decode cX3_name 10 = .ok (.iload_n 1, 1) := dk_27 (dk_at dksX3_name_0 10 rfl rfl)
theorem dX3_name_11 : decode cX3_name 11 = .ok (.invokevirtual 79, 3) := dk_182 0 79 (dk_at dksX3_name_0 11 rfl rfl)
theorem dX3_name_14 : decode cX3_name 14 = .ok (.astore_n 2, 1) := dk_77 (dk_at dksX3_name_0 14 rfl rfl)
theorem dX3_name_15 : decode cX3_name 15 = .ok (.aload_n 0, 1) := dk_42 (dk_at dksX3_name_0 15 rfl rfl)
theorem dX3_name_16 : decode cX3_name 16 = .ok (.getfield 83, 3) := dk_180 0 83 (dk_at dksX3_name_0 16 rfl rfl)
theorem dX3_name_19 : decode cX3_name 19 = .ok (.aload_n 2, 1) := dk_44 (dk_at dksX3_name_0 19 rfl rfl)
theorem dX3_name_20 : decode cX3_name 20 = .ok (.invokevirtual 86, 3) := dk_182 0 86 (dk_at dksX3_name_0 20 rfl rfl)
theorem dX3_name_23 : decode cX3_name 23 = .ok (.ifCond .eq 9, 3) := dk_153 0 9 (dk_at dksX3_name_1 0 rfl rfl)
theorem dX3_name_26 : decode cX3_name 26 = .ok (.aload_n 0, 1) := dk_42 (dk_at dksX3_name_1 3 rfl rfl)
theorem dX3_name_27 : decode cX3_name 27 = .ok (.iconst 3, 1) := dk_6 (dk_at dksX3_name_1 4 rfl rfl)
theorem dX3_name_28 : decode cX3_name 28 = .ok (.iload_n 1, 1) := dk_27 (dk_at dksX3_name_1 5 rfl rfl)
theorem dX3_name_29 : decode cX3_name 29 = .ok (.invokevirtual 75, 3) := dk_182 0 75 (dk_at dksX3_name_1 6 rfl rfl)
theorem dX3_name_32 : decode cX3_name 32 = .ok (.aload_n 2, 1) := dk_44 (dk_at dksX3_name_1 9 rfl rfl)
theorem dX3_name_33 : decode cX3_name 33 = .ok (.areturn, 1) := dk_176 (dk_at dksX3_name_1 10 rfl rfl)
abbrev cX3_take : ByteArray := prog_15_method_11_code
def yX3_take : MethodName := ⟨RX3, "take", "(I)I"⟩
def dkwX3_take_1 : List UInt8 := [172]
abbrev dktX3_take_1 : List UInt8 := dkwX3_take_1 ++ []
def dkwX3_take_0 : List UInt8 := [42, 182, 0, 65, 27, 159, 0, 9, 42, 4, 182, 0, 48, 191, 42, 182, 0, 59, 42, 180, 0, 31, 4, 100]
abbrev dktX3_take_0 : List UInt8 := dkwX3_take_0 ++ dktX3_take_1
theorem dksX3_take_0 : cX3_take.data.toList.drop 0 = dktX3_take_0 := by decide +kernel
theorem dksX3_take_1 : cX3_take.data.toList.drop 24 = dktX3_take_1 := dk_seg dksX3_take_0 24 rfl rfl
theorem dX3_take_0 : decode cX3_take 0 = .ok (.aload_n 0, 1) := dk_42 (dk_at dksX3_take_0 0 rfl rfl)
theorem dX3_take_1 : decode cX3_take 1 = .ok (.invokevirtual 65, 3) := dk_182 0 65 (dk_at dksX3_take_0 1 rfl rfl)
theorem dX3_take_4 : decode cX3_take 4 = .ok (.iload_n 1, 1) := dk_27 (dk_at dksX3_take_0 4 rfl rfl)
theorem dX3_take_5 : decode cX3_take 5 = .ok (.if_icmp .eq 9, 3) := dk_159 0 9 (dk_at dksX3_take_0 5 rfl rfl)
theorem dX3_take_8 : decode cX3_take 8 = .ok (.aload_n 0, 1) := dk_42 (dk_at dksX3_take_0 8 rfl rfl)
theorem dX3_take_9 : decode cX3_take 9 = .ok (.iconst 1, 1) := dk_4 (dk_at dksX3_take_0 9 rfl rfl)
theorem dX3_take_10 : decode cX3_take 10 = .ok (.invokevirtual 48, 3) := dk_182 0 48 (dk_at dksX3_take_0 10 rfl rfl)
theorem dX3_take_13 : decode cX3_take 13 = .ok (.athrow, 1) := dk_191 (dk_at dksX3_take_0 13 rfl rfl)
theorem dX3_take_14 : decode cX3_take 14 = .ok (.aload_n 0, 1) := dk_42 (dk_at dksX3_take_0 14 rfl rfl)
theorem dX3_take_15 : decode cX3_take 15 = .ok (.invokevirtual 59, 3) := dk_182 0 59 (dk_at dksX3_take_0 15 rfl rfl)
theorem dX3_take_18 : decode cX3_take 18 = .ok (.aload_n 0, 1) := dk_42 (dk_at dksX3_take_0 18 rfl rfl)
theorem dX3_take_19 : decode cX3_take 19 = .ok (.getfield 31, 3) := dk_180 0 31 (dk_at dksX3_take_0 19 rfl rfl)
theorem dX3_take_22 : decode cX3_take 22 = .ok (.iconst 1, 1) := dk_4 (dk_at dksX3_take_0 22 rfl rfl)
theorem dX3_take_23 : decode cX3_take 23 = .ok (.isub, 1) := dk_100 (dk_at dksX3_take_0 23 rfl rfl)
theorem dX3_take_24 : decode cX3_take 24 = .ok (.ireturn, 1) := dk_172 (dk_at dksX3_take_1 0 rfl rfl)
abbrev cX3_tell : ByteArray := prog_15_method_4_code
def yX3_tell : MethodName := ⟨RX3, "tell", "(II)V"⟩
def dkwX3_tell_1 : List UInt8 := [42, 180, 0, 38, 161, 0, 4, 177, 42, 27, 181, 0, 38, 42, 28, 181, 0, 41, 177]
abbrev dktX3_tell_1 : List UInt8 := dkwX3_tell_1 ++ []
def dkwX3_tell_0 : List UInt8 := [42, 180, 0, 38, 153, 0, 28, 28, 42, 180, 0, 41, 163, 0, 19, 28, 42, 180, 0, 41, 160, 0, 12, 27]
abbrev dktX3_tell_0 : List UInt8 := dkwX3_tell_0 ++ dktX3_tell_1
theorem dksX3_tell_0 : cX3_tell.data.toList.drop 0 = dktX3_tell_0 := by decide +kernel
theorem dksX3_tell_1 : cX3_tell.data.toList.drop 24 = dktX3_tell_1 := dk_seg dksX3_tell_0 24 rfl rfl
theorem dX3_tell_0 : decode cX3_tell 0 = .ok (.aload_n 0, 1) := dk_42 (dk_at dksX3_tell_0 0 rfl rfl)
theorem dX3_tell_1 : decode cX3_tell 1 = .ok (.getfield 38, 3) := dk_180 0 38 (dk_at dksX3_tell_0 1 rfl rfl)
theorem dX3_tell_4 : decode cX3_tell 4 = .ok (.ifCond .eq 28, 3) := dk_153 0 28 (dk_at dksX3_tell_0 4 rfl rfl)
theorem dX3_tell_7 : decode cX3_tell 7 = .ok (.iload_n 2, 1) := dk_28 (dk_at dksX3_tell_0 7 rfl rfl)
theorem dX3_tell_8 : decode cX3_tell 8 = .ok (.aload_n 0, 1) := dk_42 (dk_at dksX3_tell_0 8 rfl rfl)
theorem dX3_tell_9 : decode cX3_tell 9 = .ok (.getfield 41, 3) := dk_180 0 41 (dk_at dksX3_tell_0 9 rfl rfl)
theorem dX3_tell_12 : decode cX3_tell 12 = .ok (.if_icmp .gt 19, 3) := dk_163 0 19 (dk_at dksX3_tell_0 12 rfl rfl)
theorem dX3_tell_15 : decode cX3_tell 15 = .ok (.iload_n 2, 1) := dk_28 (dk_at dksX3_tell_0 15 rfl rfl)
theorem dX3_tell_16 : decode cX3_tell 16 = .ok (.aload_n 0, 1) := dk_42 (dk_at dksX3_tell_0 16 rfl rfl)
theorem dX3_tell_17 : decode cX3_tell 17 = .ok (.getfield 41, 3) := dk_180 0 41 (dk_at dksX3_tell_0 17 rfl rfl)
theorem dX3_tell_20 : decode cX3_tell 20 = .ok (.if_icmp .ne 12, 3) := dk_160 0 12 (dk_at dksX3_tell_0 20 rfl rfl)
theorem dX3_tell_23 : decode cX3_tell 23 = .ok (.iload_n 1, 1) := dk_27 (dk_at dksX3_tell_0 23 rfl rfl)
theorem dX3_tell_24 : decode cX3_tell 24 = .ok (.aload_n 0, 1) := dk_42 (dk_at dksX3_tell_1 0 rfl rfl)
theorem dX3_tell_25 : decode cX3_tell 25 = .ok (.getfield 38, 3) := dk_180 0 38 (dk_at dksX3_tell_1 1 rfl rfl)
theorem dX3_tell_28 : decode cX3_tell 28 = .ok (.if_icmp .lt 4, 3) := dk_161 0 4 (dk_at dksX3_tell_1 4 rfl rfl)
theorem dX3_tell_31 : decode cX3_tell 31 = .ok (.return_, 1) := dk_177 (dk_at dksX3_tell_1 7 rfl rfl)
theorem dX3_tell_32 : decode cX3_tell 32 = .ok (.aload_n 0, 1) := dk_42 (dk_at dksX3_tell_1 8 rfl rfl)
theorem dX3_tell_33 : decode cX3_tell 33 = .ok (.iload_n 1, 1) := dk_27 (dk_at dksX3_tell_1 9 rfl rfl)
theorem dX3_tell_34 : decode cX3_tell 34 = .ok (.putfield 38, 3) := dk_181 0 38 (dk_at dksX3_tell_1 10 rfl rfl)
theorem dX3_tell_37 : decode cX3_tell 37 = .ok (.aload_n 0, 1) := dk_42 (dk_at dksX3_tell_1 13 rfl rfl)
theorem dX3_tell_38 : decode cX3_tell 38 = .ok (.iload_n 2, 1) := dk_28 (dk_at dksX3_tell_1 14 rfl rfl)
theorem dX3_tell_39 : decode cX3_tell 39 = .ok (.putfield 41, 3) := dk_181 0 41 (dk_at dksX3_tell_1 15 rfl rfl)
theorem dX3_tell_42 : decode cX3_tell 42 = .ok (.return_, 1) := dk_177 (dk_at dksX3_tell_1 18 rfl rfl)
abbrev cX3_number : ByteArray := prog_15_method_12_code
def yX3_number : MethodName := ⟨RX3, "number", "(II)I"⟩
def dkwX3_number_1 : List UInt8 := [28, 164, 0, 9, 42, 8, 29, 182, 0, 75, 21, 4, 172]
abbrev dktX3_number_1 : List UInt8 := dkwX3_number_1 ++ []
def dkwX3_number_0 : List UInt8 := [42, 4, 182, 0, 68, 62, 42, 180, 0, 9, 29, 182, 0, 72, 54, 4, 21, 4, 27, 161, 0, 9, 21, 4]
abbrev dktX3_number_0 : List UInt8 := dkwX3_number_0 ++ dktX3_number_1
theorem dksX3_number_0 : cX3_number.data.toList.drop 0 = dktX3_number_0 := by decide +kernel
theorem dksX3_number_1 : cX3_number.data.toList.drop 24 = dktX3_number_1 := dk_seg dksX3_number_0 24 rfl rfl
theorem dX3_number_0 : decode cX3_number 0 = .ok (.aload_n 0, 1) := dk_42 (dk_at dksX3_number_0 0 rfl rfl)
theorem dX3_number_1 : decode cX3_number 1 = .ok (.iconst 1, 1) := dk_4 (dk_at dksX3_number_0 1 rfl rfl)
theorem dX3_number_2 : decode cX3_number 2 = .ok (.invokevirtual 68, 3) := dk_182 0 68 (dk_at dksX3_number_0 2 rfl rfl)
theorem dX3_number_5 : decode cX3_number 5 = .ok (.istore_n 3, 1) := dk_62 (dk_at dksX3_number_0 5 rfl rfl)
theorem dX3_number_6 : decode cX3_number 6 = .ok (.aload_n 0, 1) := dk_42 (dk_at dksX3_number_0 6 rfl rfl)
theorem dX3_number_7 : decode cX3_number 7 = .ok (.getfield 9, 3) := dk_180 0 9 (dk_at dksX3_number_0 7 rfl rfl)
theorem dX3_number_10 : decode cX3_number 10 = .ok (.iload_n 3, 1) := dk_29 (dk_at dksX3_number_0 10 rfl rfl)
theorem dX3_number_11 : decode cX3_number 11 = .ok (.invokevirtual 72, 3) := dk_182 0 72 (dk_at dksX3_number_0 11 rfl rfl)
theorem dX3_number_14 : decode cX3_number 14 = .ok (.istore 4, 2) := dk_54 4 (dk_at dksX3_number_0 14 rfl rfl)
theorem dX3_number_16 : decode cX3_number 16 = .ok (.iload 4, 2) := dk_21 4 (dk_at dksX3_number_0 16 rfl rfl)
theorem dX3_number_18 : decode cX3_number 18 = .ok (.iload_n 1, 1) := dk_27 (dk_at dksX3_number_0 18 rfl rfl)
theorem dX3_number_19 : decode cX3_number 19 = .ok (.if_icmp .lt 9, 3) := dk_161 0 9 (dk_at dksX3_number_0 19 rfl rfl)
theorem dX3_number_22 : decode cX3_number 22 = .ok (.iload 4, 2) := dk_21 4 (dk_at dksX3_number_0 22 rfl rfl)
theorem dX3_number_24 : decode cX3_number 24 = .ok (.iload_n 2, 1) := dk_28 (dk_at dksX3_number_1 0 rfl rfl)
theorem dX3_number_25 : decode cX3_number 25 = .ok (.if_icmp .le 9, 3) := dk_164 0 9 (dk_at dksX3_number_1 1 rfl rfl)
theorem dX3_number_28 : decode cX3_number 28 = .ok (.aload_n 0, 1) := dk_42 (dk_at dksX3_number_1 4 rfl rfl)
theorem dX3_number_29 : decode cX3_number 29 = .ok (.iconst 5, 1) := dk_8 (dk_at dksX3_number_1 5 rfl rfl)
theorem dX3_number_30 : decode cX3_number 30 = .ok (.iload_n 3, 1) := dk_29 (dk_at dksX3_number_1 6 rfl rfl)
theorem dX3_number_31 : decode cX3_number 31 = .ok (.invokevirtual 75, 3) := dk_182 0 75 (dk_at dksX3_number_1 7 rfl rfl)
theorem dX3_number_34 : decode cX3_number 34 = .ok (.iload 4, 2) := dk_21 4 (dk_at dksX3_number_1 10 rfl rfl)
theorem dX3_number_36 : decode cX3_number 36 = .ok (.ireturn, 1) := dk_172 (dk_at dksX3_number_1 12 rfl rfl)
abbrev cX3_known : ByteArray := prog_15_method_14_code
def yX3_known : MethodName := ⟨RX3, "known", "(Ljava/util/ArrayList;)I"⟩
def dkwX3_known_1 : List UInt8 := [7, 28, 182, 0, 75, 29, 172]
abbrev dktX3_known_1 : List UInt8 := dkwX3_known_1 ++ []
def dkwX3_known_0 : List UInt8 := [42, 3, 182, 0, 68, 61, 43, 42, 180, 0, 9, 28, 182, 0, 79, 184, 0, 92, 62, 29, 156, 0, 9, 42]
abbrev dktX3_known_0 : List UInt8 := dkwX3_known_0 ++ dktX3_known_1
theorem dksX3_known_0 : cX3_known.data.toList.drop 0 = dktX3_known_0 := by decide +kernel
theorem dksX3_known_1 : cX3_known.data.toList.drop 24 = dktX3_known_1 := dk_seg dksX3_known_0 24 rfl rfl
theorem dX3_known_0 : decode cX3_known 0 = .ok (.aload_n 0, 1) := dk_42 (dk_at dksX3_known_0 0 rfl rfl)
theorem dX3_known_1 : decode cX3_known 1 = .ok (.iconst 0, 1) := dk_3 (dk_at dksX3_known_0 1 rfl rfl)
theorem dX3_known_2 : decode cX3_known 2 = .ok (.invokevirtual 68, 3) := dk_182 0 68 (dk_at dksX3_known_0 2 rfl rfl)
theorem dX3_known_5 : decode cX3_known 5 = .ok (.istore_n 2, 1) := dk_61 (dk_at dksX3_known_0 5 rfl rfl)
theorem dX3_known_6 : decode cX3_known 6 = .ok (.aload_n 1, 1) := dk_43 (dk_at dksX3_known_0 6 rfl rfl)
theorem dX3_known_7 : decode cX3_known 7 = .ok (.aload_n 0, 1) := dk_42 (dk_at dksX3_known_0 7 rfl rfl)
theorem dX3_known_8 : decode cX3_known 8 = .ok (.getfield 9, 3) := dk_180 0 9 (dk_at dksX3_known_0 8 rfl rfl)
theorem dX3_known_11 : decode cX3_known 11 = .ok (.iload_n 2, 1) := dk_28 (dk_at dksX3_known_0 11 rfl rfl)
theorem dX3_known_12 : decode cX3_known 12 = .ok (.invokevirtual 79, 3) := dk_182 0 79 (dk_at dksX3_known_0 12 rfl rfl)
theorem dX3_known_15 : decode cX3_known 15 = .ok (.invokestatic 92, 3) := dk_184 0 92 (dk_at dksX3_known_0 15 rfl rfl)
theorem dX3_known_18 : decode cX3_known 18 = .ok (.istore_n 3, 1) := dk_62 (dk_at dksX3_known_0 18 rfl rfl)
theorem dX3_known_19 : decode cX3_known 19 = .ok (.iload_n 3, 1) := dk_29 (dk_at dksX3_known_0 19 rfl rfl)
theorem dX3_known_20 : decode cX3_known 20 = .ok (.ifCond .ge 9, 3) := dk_156 0 9 (dk_at dksX3_known_0 20 rfl rfl)
theorem dX3_known_23 : decode cX3_known 23 = .ok (.aload_n 0, 1) := dk_42 (dk_at dksX3_known_0 23 rfl rfl)
theorem dX3_known_24 : decode cX3_known 24 = .ok (.iconst 4, 1) := dk_7 (dk_at dksX3_known_1 0 rfl rfl)
theorem dX3_known_25 : decode cX3_known 25 = .ok (.iload_n 2, 1) := dk_28 (dk_at dksX3_known_1 1 rfl rfl)
theorem dX3_known_26 : decode cX3_known 26 = .ok (.invokevirtual 75, 3) := dk_182 0 75 (dk_at dksX3_known_1 2 rfl rfl)
theorem dX3_known_29 : decode cX3_known 29 = .ok (.iload_n 3, 1) := dk_29 (dk_at dksX3_known_1 5 rfl rfl)
theorem dX3_known_30 : decode cX3_known 30 = .ok (.ireturn, 1) := dk_172 (dk_at dksX3_known_1 6 rfl rfl)
abbrev cX3_law : ByteArray := prog_15_method_19_code
def yX3_law : MethodName := ⟨RX3, "law", "()LRatSorters$Law;"⟩
def dkwX3_law_4 : List UInt8 := [96, 181, 0, 225, 167, 255, 171, 43, 180, 0, 242, 43, 180, 0, 225, 42, 182, 0, 232, 83, 43, 176]
abbrev dktX3_law_4 : List UInt8 := dkwX3_law_4 ++ []
def dkwX3_law_3 : List UInt8 := [180, 0, 242, 43, 180, 0, 225, 42, 182, 0, 232, 83, 42, 16, 12, 182, 0, 239, 43, 89, 180, 0, 225, 4]
abbrev dktX3_law_3 : List UInt8 := dkwX3_law_3 ++ dktX3_law_4
def dkwX3_law_2 : List UInt8 := [182, 0, 105, 43, 180, 0, 236, 43, 180, 0, 225, 42, 182, 0, 232, 83, 42, 16, 11, 182, 0, 239, 43]
abbrev dktX3_law_2 : List UInt8 := dkwX3_law_2 ++ dktX3_law_3
def dkwX3_law_1 : List UInt8 := [43, 180, 0, 225, 7, 182, 0, 118, 43, 180, 0, 228, 43, 180, 0, 225, 42, 182, 0, 232, 83, 42, 16, 60]
abbrev dktX3_law_1 : List UInt8 := dkwX3_law_1 ++ dktX3_law_2
def dkwX3_law_0 : List UInt8 := [187, 0, 222, 89, 183, 0, 224, 76, 42, 16, 61, 182, 0, 105, 42, 16, 10, 182, 0, 62, 153, 0, 82, 42]
abbrev dktX3_law_0 : List UInt8 := dkwX3_law_0 ++ dktX3_law_1
theorem dksX3_law_0 : cX3_law.data.toList.drop 0 = dktX3_law_0 := by decide +kernel
theorem dksX3_law_1 : cX3_law.data.toList.drop 24 = dktX3_law_1 := dk_seg dksX3_law_0 24 rfl rfl
theorem dksX3_law_2 : cX3_law.data.toList.drop 48 = dktX3_law_2 := dk_seg dksX3_law_1 24 rfl rfl
theorem dksX3_law_3 : cX3_law.data.toList.drop 71 = dktX3_law_3 := dk_seg dksX3_law_2 23 rfl rfl
theorem dksX3_law_4 : cX3_law.data.toList.drop 95 = dktX3_law_4 := dk_seg dksX3_law_3 24 rfl rfl
theorem dX3_law_0 : decode cX3_law 0 = .ok (.new 222, 3) := dk_187 0 222 (dk_at dksX3_law_0 0 rfl rfl)
theorem dX3_law_3 : decode cX3_law 3 = .ok (.dup, 1) := dk_89 (dk_at dksX3_law_0 3 rfl rfl)
theorem dX3_law_4 : decode cX3_law 4 = .ok (.invokespecial 224, 3) := dk_183 0 224 (dk_at dksX3_law_0 4 rfl rfl)
theorem dX3_law_7 : decode cX3_law 7 = .ok (.astore_n 1, 1) := dk_76 (dk_at dksX3_law_0 7 rfl rfl)
theorem dX3_law_8 : decode cX3_law 8 = .ok (.aload_n 0, 1) := dk_42 (dk_at dksX3_law_0 8 rfl rfl)
theorem dX3_law_9 : decode cX3_law 9 = .ok (.bipush 61, 2) := dk_16 61 (dk_at dksX3_law_0 9 rfl rfl)
theorem dX3_law_11 : decode cX3_law 11 = .ok (.invokevirtual 105, 3) := dk_182 0 105 (dk_at dksX3_law_0 11 rfl rfl)
theorem dX3_law_14 : decode cX3_law 14 = .ok (.aload_n 0, 1) := dk_42 (dk_at dksX3_law_0 14 rfl rfl)
theorem dX3_law_15 : decode cX3_law 15 = .ok (.bipush 10, 2) := dk_16 10 (dk_at dksX3_law_0 15 rfl rfl)
theorem dX3_law_17 : decode cX3_law 17 = .ok (.invokevirtual 62, 3) := dk_182 0 62 (dk_at dksX3_law_0 17 rfl rfl)
theorem dX3_law_20 : decode cX3_law 20 = .ok (.ifCond .eq 82, 3) := dk_153 0 82 (dk_at dksX3_law_0 20 rfl rfl)
theorem dX3_law_23 : decode cX3_law 23 = .ok (.aload_n 0, 1) := dk_42 (dk_at dksX3_law_0 23 rfl rfl)
theorem dX3_law_24 : decode cX3_law 24 = .ok (.aload_n 1, 1) := dk_43 (dk_at dksX3_law_1 0 rfl rfl)
theorem dX3_law_25 : decode cX3_law 25 = .ok (.getfield 225, 3) := dk_180 0 225 (dk_at dksX3_law_1 1 rfl rfl)
theorem dX3_law_28 : decode cX3_law 28 = .ok (.iconst 4, 1) := dk_7 (dk_at dksX3_law_1 4 rfl rfl)
theorem dX3_law_29 : decode cX3_law 29 = .ok (.invokevirtual 118, 3) := dk_182 0 118 (dk_at dksX3_law_1 5 rfl rfl)
theorem dX3_law_32 : decode cX3_law 32 = .ok (.aload_n 1, 1) := dk_43 (dk_at dksX3_law_1 8 rfl rfl)
theorem dX3_law_33 : decode cX3_law 33 = .ok (.getfield 228, 3) := dk_180 0 228 (dk_at dksX3_law_1 9 rfl rfl)
theorem dX3_law_36 : decode cX3_law 36 = .ok (.aload_n 1, 1) := dk_43 (dk_at dksX3_law_1 12 rfl rfl)
theorem dX3_law_37 : decode cX3_law 37 = .ok (.getfield 225, 3) := dk_180 0 225 (dk_at dksX3_law_1 13 rfl rfl)
theorem dX3_law_40 : decode cX3_law 40 = .ok (.aload_n 0, 1) := dk_42 (dk_at dksX3_law_1 16 rfl rfl)
theorem dX3_law_41 : decode cX3_law 41 = .ok (.invokevirtual 232, 3) := dk_182 0 232 (dk_at dksX3_law_1 17 rfl rfl)
theorem dX3_law_44 : decode cX3_law 44 = .ok (.aastore, 1) := dk_83 (dk_at dksX3_law_1 20 rfl rfl)
theorem dX3_law_45 : decode cX3_law 45 = .ok (.aload_n 0, 1) := dk_42 (dk_at dksX3_law_1 21 rfl rfl)
theorem dX3_law_46 : decode cX3_law 46 = .ok (.bipush 60, 2) := dk_16 60 (dk_at dksX3_law_1 22 rfl rfl)
theorem dX3_law_48 : decode cX3_law 48 = .ok (.invokevirtual 105, 3) := dk_182 0 105 (dk_at dksX3_law_2 0 rfl rfl)
theorem dX3_law_51 : decode cX3_law 51 = .ok (.aload_n 1, 1) := dk_43 (dk_at dksX3_law_2 3 rfl rfl)
theorem dX3_law_52 : decode cX3_law 52 = .ok (.getfield 236, 3) := dk_180 0 236 (dk_at dksX3_law_2 4 rfl rfl)
theorem dX3_law_55 : decode cX3_law 55 = .ok (.aload_n 1, 1) := dk_43 (dk_at dksX3_law_2 7 rfl rfl)
theorem dX3_law_56 : decode cX3_law 56 = .ok (.getfield 225, 3) := dk_180 0 225 (dk_at dksX3_law_2 8 rfl rfl)
theorem dX3_law_59 : decode cX3_law 59 = .ok (.aload_n 0, 1) := dk_42 (dk_at dksX3_law_2 11 rfl rfl)
theorem dX3_law_60 : decode cX3_law 60 = .ok (.invokevirtual 232, 3) := dk_182 0 232 (dk_at dksX3_law_2 12 rfl rfl)
theorem dX3_law_63 : decode cX3_law 63 = .ok (.aastore, 1) := dk_83 (dk_at dksX3_law_2 15 rfl rfl)
theorem dX3_law_64 : decode cX3_law 64 = .ok (.aload_n 0, 1) := dk_42 (dk_at dksX3_law_2 16 rfl rfl)
theorem dX3_law_65 : decode cX3_law 65 = .ok (.bipush 11, 2) := dk_16 11 (dk_at dksX3_law_2 17 rfl rfl)
theorem dX3_law_67 : decode cX3_law 67 = .ok (.invokevirtual 239, 3) := dk_182 0 239 (dk_at dksX3_law_2 19 rfl rfl)
theorem dX3_law_70 : decode cX3_law 70 = .ok (.aload_n 1, 1) := dk_43 (dk_at dksX3_law_2 22 rfl rfl)
theorem dX3_law_71 : decode cX3_law 71 = .ok (.getfield 242, 3) := dk_180 0 242 (dk_at dksX3_law_3 0 rfl rfl)
theorem dX3_law_74 : decode cX3_law 74 = .ok (.aload_n 1, 1) := dk_43 (dk_at dksX3_law_3 3 rfl rfl)
theorem dX3_law_75 : decode cX3_law 75 = .ok (.getfield 225, 3) := dk_180 0 225 (dk_at dksX3_law_3 4 rfl rfl)
theorem dX3_law_78 : decode cX3_law 78 = .ok (.aload_n 0, 1) := dk_42 (dk_at dksX3_law_3 7 rfl rfl)
theorem dX3_law_79 : decode cX3_law 79 = .ok (.invokevirtual 232, 3) := dk_182 0 232 (dk_at dksX3_law_3 8 rfl rfl)
theorem dX3_law_82 : decode cX3_law 82 = .ok (.aastore, 1) := dk_83 (dk_at dksX3_law_3 11 rfl rfl)
theorem dX3_law_83 : decode cX3_law 83 = .ok (.aload_n 0, 1) := dk_42 (dk_at dksX3_law_3 12 rfl rfl)
theorem dX3_law_84 : decode cX3_law 84 = .ok (.bipush 12, 2) := dk_16 12 (dk_at dksX3_law_3 13 rfl rfl)
theorem dX3_law_86 : decode cX3_law 86 = .ok (.invokevirtual 239, 3) := dk_182 0 239 (dk_at dksX3_law_3 15 rfl rfl)
theorem dX3_law_89 : decode cX3_law 89 = .ok (.aload_n 1, 1) := dk_43 (dk_at dksX3_law_3 18 rfl rfl)
theorem dX3_law_90 : decode cX3_law 90 = .ok (.dup, 1) := dk_89 (dk_at dksX3_law_3 19 rfl rfl)
theorem dX3_law_91 : decode cX3_law 91 = .ok (.getfield 225, 3) := dk_180 0 225 (dk_at dksX3_law_3 20 rfl rfl)
theorem dX3_law_94 : decode cX3_law 94 = .ok (.iconst 1, 1) := dk_4 (dk_at dksX3_law_3 23 rfl rfl)
theorem dX3_law_95 : decode cX3_law 95 = .ok (.iadd, 1) := dk_96 (dk_at dksX3_law_4 0 rfl rfl)
theorem dX3_law_96 : decode cX3_law 96 = .ok (.putfield 225, 3) := dk_181 0 225 (dk_at dksX3_law_4 1 rfl rfl)
theorem dX3_law_99 : decode cX3_law 99 = .ok (.goto (-85), 3) := dk_167 255 171 (dk_at dksX3_law_4 4 rfl rfl)
theorem dX3_law_102 : decode cX3_law 102 = .ok (.aload_n 1, 1) := dk_43 (dk_at dksX3_law_4 7 rfl rfl)
theorem dX3_law_103 : decode cX3_law 103 = .ok (.getfield 242, 3) := dk_180 0 242 (dk_at dksX3_law_4 8 rfl rfl)
theorem dX3_law_106 : decode cX3_law 106 = .ok (.aload_n 1, 1) := dk_43 (dk_at dksX3_law_4 11 rfl rfl)
theorem dX3_law_107 : decode cX3_law 107 = .ok (.getfield 225, 3) := dk_180 0 225 (dk_at dksX3_law_4 12 rfl rfl)
theorem dX3_law_110 : decode cX3_law 110 = .ok (.aload_n 0, 1) := dk_42 (dk_at dksX3_law_4 15 rfl rfl)
theorem dX3_law_111 : decode cX3_law 111 = .ok (.invokevirtual 232, 3) := dk_182 0 232 (dk_at dksX3_law_4 16 rfl rfl)
theorem dX3_law_114 : decode cX3_law 114 = .ok (.aastore, 1) := dk_83 (dk_at dksX3_law_4 19 rfl rfl)
theorem dX3_law_115 : decode cX3_law 115 = .ok (.aload_n 1, 1) := dk_43 (dk_at dksX3_law_4 20 rfl rfl)
theorem dX3_law_116 : decode cX3_law 116 = .ok (.areturn, 1) := dk_176 (dk_at dksX3_law_4 21 rfl rfl)
abbrev cX3_sign : ByteArray := prog_15_method_9_code
def yX3_sign : MethodName := ⟨RX3, "sign", "(I)V"⟩
def dkwX3_sign_0 : List UInt8 := [42, 27, 182, 0, 55, 154, 0, 9, 42, 4, 182, 0, 48, 191, 42, 182, 0, 59, 177]
abbrev dktX3_sign_0 : List UInt8 := dkwX3_sign_0 ++ []
theorem dksX3_sign_0 : cX3_sign.data.toList.drop 0 = dktX3_sign_0 := by decide +kernel
theorem dX3_sign_0 : decode cX3_sign 0 = .ok (.aload_n 0, 1) := dk_42 (dk_at dksX3_sign_0 0 rfl rfl)
theorem dX3_sign_1 : decode cX3_sign 1 = .ok (.iload_n 1, 1) := dk_27 (dk_at dksX3_sign_0 1 rfl rfl)
theorem dX3_sign_2 : decode cX3_sign 2 = .ok (.invokevirtual 55, 3) := dk_182 0 55 (dk_at dksX3_sign_0 2 rfl rfl)
theorem dX3_sign_5 : decode cX3_sign 5 = .ok (.ifCond .ne 9, 3) := dk_154 0 9 (dk_at dksX3_sign_0 5 rfl rfl)
theorem dX3_sign_8 : decode cX3_sign 8 = .ok (.aload_n 0, 1) := dk_42 (dk_at dksX3_sign_0 8 rfl rfl)
theorem dX3_sign_9 : decode cX3_sign 9 = .ok (.iconst 1, 1) := dk_4 (dk_at dksX3_sign_0 9 rfl rfl)
theorem dX3_sign_10 : decode cX3_sign 10 = .ok (.invokevirtual 48, 3) := dk_182 0 48 (dk_at dksX3_sign_0 10 rfl rfl)
theorem dX3_sign_13 : decode cX3_sign 13 = .ok (.athrow, 1) := dk_191 (dk_at dksX3_sign_0 13 rfl rfl)
theorem dX3_sign_14 : decode cX3_sign 14 = .ok (.aload_n 0, 1) := dk_42 (dk_at dksX3_sign_0 14 rfl rfl)
theorem dX3_sign_15 : decode cX3_sign 15 = .ok (.invokevirtual 59, 3) := dk_182 0 59 (dk_at dksX3_sign_0 15 rfl rfl)
theorem dX3_sign_18 : decode cX3_sign 18 = .ok (.return_, 1) := dk_177 (dk_at dksX3_sign_0 18 rfl rfl)
abbrev cX3_isSign : ByteArray := prog_15_method_7_code
def yX3_isSign : MethodName := ⟨RX3, "isSign", "(I)Z"⟩
def dkwX3_isSign_1 : List UInt8 := [180, 0, 31, 53, 27, 160, 0, 7, 4, 167, 0, 4, 3, 172]
abbrev dktX3_isSign_1 : List UInt8 := dkwX3_isSign_1 ++ []
def dkwX3_isSign_0 : List UInt8 := [42, 180, 0, 9, 180, 0, 44, 42, 180, 0, 31, 51, 5, 160, 0, 23, 42, 180, 0, 9, 180, 0, 52, 42]
abbrev dktX3_isSign_0 : List UInt8 := dkwX3_isSign_0 ++ dktX3_isSign_1
theorem dksX3_isSign_0 : cX3_isSign.data.toList.drop 0 = dktX3_isSign_0 := by decide +kernel
theorem dksX3_isSign_1 : cX3_isSign.data.toList.drop 24 = dktX3_isSign_1 := dk_seg dksX3_isSign_0 24 rfl rfl
theorem dX3_isSign_0 : decode cX3_isSign 0 = .ok (.aload_n 0, 1) := dk_42 (dk_at dksX3_isSign_0 0 rfl rfl)
theorem dX3_isSign_1 : decode cX3_isSign 1 = .ok (.getfield 9, 3) := dk_180 0 9 (dk_at dksX3_isSign_0 1 rfl rfl)
theorem dX3_isSign_4 : decode cX3_isSign 4 = .ok (.getfield 44, 3) := dk_180 0 44 (dk_at dksX3_isSign_0 4 rfl rfl)
theorem dX3_isSign_7 : decode cX3_isSign 7 = .ok (.aload_n 0, 1) := dk_42 (dk_at dksX3_isSign_0 7 rfl rfl)
theorem dX3_isSign_8 : decode cX3_isSign 8 = .ok (.getfield 31, 3) := dk_180 0 31 (dk_at dksX3_isSign_0 8 rfl rfl)
theorem dX3_isSign_11 : decode cX3_isSign 11 = .ok (.baload, 1) := dk_51 (dk_at dksX3_isSign_0 11 rfl rfl)
theorem dX3_isSign_12 : decode cX3_isSign 12 = .ok (.iconst 2, 1) := dk_5 (dk_at dksX3_isSign_0 12 rfl rfl)
theorem dX3_isSign_13 : decode cX3_isSign 13 = .ok (.if_icmp .ne 23, 3) := dk_160 0 23 (dk_at dksX3_isSign_0 13 rfl rfl)
theorem dX3_isSign_16 : decode cX3_isSign 16 = .ok (.aload_n 0, 1) := dk_42 (dk_at dksX3_isSign_0 16 rfl rfl)
theorem dX3_isSign_17 : decode cX3_isSign 17 = .ok (.getfield 9, 3) := dk_180 0 9 (dk_at dksX3_isSign_0 17 rfl rfl)
theorem dX3_isSign_20 : decode cX3_isSign 20 = .ok (.getfield 52, 3) := dk_180 0 52 (dk_at dksX3_isSign_0 20 rfl rfl)
theorem dX3_isSign_23 : decode cX3_isSign 23 = .ok (.aload_n 0, 1) := dk_42 (dk_at dksX3_isSign_0 23 rfl rfl)
theorem dX3_isSign_24 : decode cX3_isSign 24 = .ok (.getfield 31, 3) := dk_180 0 31 (dk_at dksX3_isSign_1 0 rfl rfl)
theorem dX3_isSign_27 : decode cX3_isSign 27 = .ok (.saload, 1) := dk_53 (dk_at dksX3_isSign_1 3 rfl rfl)
theorem dX3_isSign_28 : decode cX3_isSign 28 = .ok (.iload_n 1, 1) := dk_27 (dk_at dksX3_isSign_1 4 rfl rfl)
theorem dX3_isSign_29 : decode cX3_isSign 29 = .ok (.if_icmp .ne 7, 3) := dk_160 0 7 (dk_at dksX3_isSign_1 5 rfl rfl)
theorem dX3_isSign_32 : decode cX3_isSign 32 = .ok (.iconst 1, 1) := dk_4 (dk_at dksX3_isSign_1 8 rfl rfl)
theorem dX3_isSign_33 : decode cX3_isSign 33 = .ok (.goto 4, 3) := dk_167 0 4 (dk_at dksX3_isSign_1 9 rfl rfl)
theorem dX3_isSign_36 : decode cX3_isSign 36 = .ok (.iconst 0, 1) := dk_3 (dk_at dksX3_isSign_1 12 rfl rfl)
theorem dX3_isSign_37 : decode cX3_isSign 37 = .ok (.ireturn, 1) := dk_172 (dk_at dksX3_isSign_1 13 rfl rfl)
abbrev cX3_isWord : ByteArray := prog_15_method_8_code
def yX3_isWord : MethodName := ⟨RX3, "isWord", "(I)Z"⟩
def dkwX3_isWord_1 : List UInt8 := [180, 0, 31, 53, 27, 160, 0, 7, 4, 167, 0, 4, 3, 172]
abbrev dktX3_isWord_1 : List UInt8 := dkwX3_isWord_1 ++ []
def dkwX3_isWord_0 : List UInt8 := [42, 180, 0, 9, 180, 0, 44, 42, 180, 0, 31, 51, 6, 160, 0, 23, 42, 180, 0, 9, 180, 0, 52, 42]
abbrev dktX3_isWord_0 : List UInt8 := dkwX3_isWord_0 ++ dktX3_isWord_1
theorem dksX3_isWord_0 : cX3_isWord.data.toList.drop 0 = dktX3_isWord_0 := by decide +kernel
theorem dksX3_isWord_1 : cX3_isWord.data.toList.drop 24 = dktX3_isWord_1 := dk_seg dksX3_isWord_0 24 rfl rfl
theorem dX3_isWord_0 : decode cX3_isWord 0 = .ok (.aload_n 0, 1) := dk_42 (dk_at dksX3_isWord_0 0 rfl rfl)
theorem dX3_isWord_1 : decode cX3_isWord 1 = .ok (.getfield 9, 3) := dk_180 0 9 (dk_at dksX3_isWord_0 1 rfl rfl)
theorem dX3_isWord_4 : decode cX3_isWord 4 = .ok (.getfield 44, 3) := dk_180 0 44 (dk_at dksX3_isWord_0 4 rfl rfl)
theorem dX3_isWord_7 : decode cX3_isWord 7 = .ok (.aload_n 0, 1) := dk_42 (dk_at dksX3_isWord_0 7 rfl rfl)
theorem dX3_isWord_8 : decode cX3_isWord 8 = .ok (.getfield 31, 3) := dk_180 0 31 (dk_at dksX3_isWord_0 8 rfl rfl)
theorem dX3_isWord_11 : decode cX3_isWord 11 = .ok (.baload, 1) := dk_51 (dk_at dksX3_isWord_0 11 rfl rfl)
theorem dX3_isWord_12 : decode cX3_isWord 12 = .ok (.iconst 3, 1) := dk_6 (dk_at dksX3_isWord_0 12 rfl rfl)
theorem dX3_isWord_13 : decode cX3_isWord 13 = .ok (.if_icmp .ne 23, 3) := dk_160 0 23 (dk_at dksX3_isWord_0 13 rfl rfl)
theorem dX3_isWord_16 : decode cX3_isWord 16 = .ok (.aload_n 0, 1) := dk_42 (dk_at dksX3_isWord_0 16 rfl rfl)
theorem dX3_isWord_17 : decode cX3_isWord 17 = .ok (.getfield 9, 3) := dk_180 0 9 (dk_at dksX3_isWord_0 17 rfl rfl)
theorem dX3_isWord_20 : decode cX3_isWord 20 = .ok (.getfield 52, 3) := dk_180 0 52 (dk_at dksX3_isWord_0 20 rfl rfl)
theorem dX3_isWord_23 : decode cX3_isWord 23 = .ok (.aload_n 0, 1) := dk_42 (dk_at dksX3_isWord_0 23 rfl rfl)
theorem dX3_isWord_24 : decode cX3_isWord 24 = .ok (.getfield 31, 3) := dk_180 0 31 (dk_at dksX3_isWord_1 0 rfl rfl)
theorem dX3_isWord_27 : decode cX3_isWord 27 = .ok (.saload, 1) := dk_53 (dk_at dksX3_isWord_1 3 rfl rfl)
theorem dX3_isWord_28 : decode cX3_isWord 28 = .ok (.iload_n 1, 1) := dk_27 (dk_at dksX3_isWord_1 4 rfl rfl)
theorem dX3_isWord_29 : decode cX3_isWord 29 = .ok (.if_icmp .ne 7, 3) := dk_160 0 7 (dk_at dksX3_isWord_1 5 rfl rfl)
theorem dX3_isWord_32 : decode cX3_isWord 32 = .ok (.iconst 1, 1) := dk_4 (dk_at dksX3_isWord_1 8 rfl rfl)
theorem dX3_isWord_33 : decode cX3_isWord 33 = .ok (.goto 4, 3) := dk_167 0 4 (dk_at dksX3_isWord_1 9 rfl rfl)
theorem dX3_isWord_36 : decode cX3_isWord 36 = .ok (.iconst 0, 1) := dk_3 (dk_at dksX3_isWord_1 12 rfl rfl)
theorem dX3_isWord_37 : decode cX3_isWord 37 = .ok (.ireturn, 1) := dk_172 (dk_at dksX3_isWord_1 13 rfl rfl)
abbrev cX3_sum : ByteArray := prog_15_method_20_code
def yX3_sum : MethodName := ⟨RX3, "sum", "()LRatSorters$Sum;"⟩
def dkwX3_sum_2 : List UInt8 := [182, 0, 245, 183, 0, 250, 76, 167, 255, 207, 43, 176]
abbrev dktX3_sum_2 : List UInt8 := dkwX3_sum_2 ++ []
def dkwX3_sum_1 : List UInt8 := [180, 0, 9, 180, 0, 52, 42, 180, 0, 31, 53, 61, 42, 182, 0, 59, 187, 0, 248, 89, 28, 43, 42]
abbrev dktX3_sum_1 : List UInt8 := dkwX3_sum_1 ++ dktX3_sum_2
def dkwX3_sum_0 : List UInt8 := [42, 182, 0, 245, 76, 42, 16, 43, 182, 0, 55, 154, 0, 12, 42, 16, 45, 182, 0, 55, 153, 0, 37, 42]
abbrev dktX3_sum_0 : List UInt8 := dkwX3_sum_0 ++ dktX3_sum_1
theorem dksX3_sum_0 : cX3_sum.data.toList.drop 0 = dktX3_sum_0 := by decide +kernel
theorem dksX3_sum_1 : cX3_sum.data.toList.drop 24 = dktX3_sum_1 := dk_seg dksX3_sum_0 24 rfl rfl
theorem dksX3_sum_2 : cX3_sum.data.toList.drop 47 = dktX3_sum_2 := dk_seg dksX3_sum_1 23 rfl rfl
theorem dX3_sum_0 : decode cX3_sum 0 = .ok (.aload_n 0, 1) := dk_42 (dk_at dksX3_sum_0 0 rfl rfl)
theorem dX3_sum_1 : decode cX3_sum 1 = .ok (.invokevirtual 245, 3) := dk_182 0 245 (dk_at dksX3_sum_0 1 rfl rfl)
theorem dX3_sum_4 : decode cX3_sum 4 = .ok (.astore_n 1, 1) := dk_76 (dk_at dksX3_sum_0 4 rfl rfl)
theorem dX3_sum_5 : decode cX3_sum 5 = .ok (.aload_n 0, 1) := dk_42 (dk_at dksX3_sum_0 5 rfl rfl)
theorem dX3_sum_6 : decode cX3_sum 6 = .ok (.bipush 43, 2) := dk_16 43 (dk_at dksX3_sum_0 6 rfl rfl)
theorem dX3_sum_8 : decode cX3_sum 8 = .ok (.invokevirtual 55, 3) := dk_182 0 55 (dk_at dksX3_sum_0 8 rfl rfl)
theorem dX3_sum_11 : decode cX3_sum 11 = .ok (.ifCond .ne 12, 3) := dk_154 0 12 (dk_at dksX3_sum_0 11 rfl rfl)
theorem dX3_sum_14 : decode cX3_sum 14 = .ok (.aload_n 0, 1) := dk_42 (dk_at dksX3_sum_0 14 rfl rfl)
theorem dX3_sum_15 : decode cX3_sum 15 = .ok (.bipush 45, 2) := dk_16 45 (dk_at dksX3_sum_0 15 rfl rfl)
theorem dX3_sum_17 : decode cX3_sum 17 = .ok (.invokevirtual 55, 3) := dk_182 0 55 (dk_at dksX3_sum_0 17 rfl rfl)
theorem dX3_sum_20 : decode cX3_sum 20 = .ok (.ifCond .eq 37, 3) := dk_153 0 37 (dk_at dksX3_sum_0 20 rfl rfl)
theorem dX3_sum_23 : decode cX3_sum 23 = .ok (.aload_n 0, 1) := dk_42 (dk_at dksX3_sum_0 23 rfl rfl)
theorem dX3_sum_24 : decode cX3_sum 24 = .ok (.getfield 9, 3) := dk_180 0 9 (dk_at dksX3_sum_1 0 rfl rfl)
theorem dX3_sum_27 : decode cX3_sum 27 = .ok (.getfield 52, 3) := dk_180 0 52 (dk_at dksX3_sum_1 3 rfl rfl)
theorem dX3_sum_30 : decode cX3_sum 30 = .ok (.aload_n 0, 1) := dk_42 (dk_at dksX3_sum_1 6 rfl rfl)
theorem dX3_sum_31 : decode cX3_sum 31 = .ok (.getfield 31, 3) := dk_180 0 31 (dk_at dksX3_sum_1 7 rfl rfl)
theorem dX3_sum_34 : decode cX3_sum 34 = .ok (.saload, 1) := dk_53 (dk_at dksX3_sum_1 10 rfl rfl)
theorem dX3_sum_35 : decode cX3_sum 35 = .ok (.istore_n 2, 1) := dk_61 (dk_at dksX3_sum_1 11 rfl rfl)
theorem dX3_sum_36 : decode cX3_sum 36 = .ok (.aload_n 0, 1) := dk_42 (dk_at dksX3_sum_1 12 rfl rfl)
theorem dX3_sum_37 : decode cX3_sum 37 = .ok (.invokevirtual 59, 3) := dk_182 0 59 (dk_at dksX3_sum_1 13 rfl rfl)
theorem dX3_sum_40 : decode cX3_sum 40 = .ok (.new 248, 3) := dk_187 0 248 (dk_at dksX3_sum_1 16 rfl rfl)
theorem dX3_sum_43 : decode cX3_sum 43 = .ok (.dup, 1) := dk_89 (dk_at dksX3_sum_1 19 rfl rfl)
theorem dX3_sum_44 : decode cX3_sum 44 = .ok (.iload_n 2, 1) := dk_28 (dk_at dksX3_sum_1 20 rfl rfl)
theorem dX3_sum_45 : decode cX3_sum 45 = .ok (.aload_n 1, 1) := dk_43 (dk_at dksX3_sum_1 21 rfl rfl)
theorem dX3_sum_46 : decode cX3_sum 46 = .ok (.aload_n 0, 1) := dk_42 (dk_at dksX3_sum_1 22 rfl rfl)
theorem dX3_sum_47 : decode cX3_sum 47 = .ok (.invokevirtual 245, 3) := dk_182 0 245 (dk_at dksX3_sum_2 0 rfl rfl)
theorem dX3_sum_50 : decode cX3_sum 50 = .ok (.invokespecial 250, 3) := dk_183 0 250 (dk_at dksX3_sum_2 3 rfl rfl)
theorem dX3_sum_53 : decode cX3_sum 53 = .ok (.astore_n 1, 1) := dk_76 (dk_at dksX3_sum_2 6 rfl rfl)
theorem dX3_sum_54 : decode cX3_sum 54 = .ok (.goto (-49), 3) := dk_167 255 207 (dk_at dksX3_sum_2 7 rfl rfl)
theorem dX3_sum_57 : decode cX3_sum 57 = .ok (.aload_n 1, 1) := dk_43 (dk_at dksX3_sum_2 10 rfl rfl)
theorem dX3_sum_58 : decode cX3_sum 58 = .ok (.areturn, 1) := dk_176 (dk_at dksX3_sum_2 11 rfl rfl)
abbrev cX3_part : ByteArray := prog_15_method_21_code
def yX3_part : MethodName := ⟨RX3, "part", "()LRatSorters$Sum;"⟩
def dkwX3_part_2 : List UInt8 := [182, 0, 253, 183, 0, 250, 76, 167, 255, 207, 43, 176]
abbrev dktX3_part_2 : List UInt8 := dkwX3_part_2 ++ []
def dkwX3_part_1 : List UInt8 := [180, 0, 9, 180, 0, 52, 42, 180, 0, 31, 53, 61, 42, 182, 0, 59, 187, 0, 248, 89, 28, 43, 42]
abbrev dktX3_part_1 : List UInt8 := dkwX3_part_1 ++ dktX3_part_2
def dkwX3_part_0 : List UInt8 := [42, 182, 0, 253, 76, 42, 16, 42, 182, 0, 55, 154, 0, 12, 42, 16, 47, 182, 0, 55, 153, 0, 37, 42]
abbrev dktX3_part_0 : List UInt8 := dkwX3_part_0 ++ dktX3_part_1
theorem dksX3_part_0 : cX3_part.data.toList.drop 0 = dktX3_part_0 := by decide +kernel
theorem dksX3_part_1 : cX3_part.data.toList.drop 24 = dktX3_part_1 := dk_seg dksX3_part_0 24 rfl rfl
theorem dksX3_part_2 : cX3_part.data.toList.drop 47 = dktX3_part_2 := dk_seg dksX3_part_1 23 rfl rfl
theorem dX3_part_0 : decode cX3_part 0 = .ok (.aload_n 0, 1) := dk_42 (dk_at dksX3_part_0 0 rfl rfl)
theorem dX3_part_1 : decode cX3_part 1 = .ok (.invokevirtual 253, 3) := dk_182 0 253 (dk_at dksX3_part_0 1 rfl rfl)
theorem dX3_part_4 : decode cX3_part 4 = .ok (.astore_n 1, 1) := dk_76 (dk_at dksX3_part_0 4 rfl rfl)
theorem dX3_part_5 : decode cX3_part 5 = .ok (.aload_n 0, 1) := dk_42 (dk_at dksX3_part_0 5 rfl rfl)
theorem dX3_part_6 : decode cX3_part 6 = .ok (.bipush 42, 2) := dk_16 42 (dk_at dksX3_part_0 6 rfl rfl)
theorem dX3_part_8 : decode cX3_part 8 = .ok (.invokevirtual 55, 3) := dk_182 0 55 (dk_at dksX3_part_0 8 rfl rfl)
theorem dX3_part_11 : decode cX3_part 11 = .ok (.ifCond .ne 12, 3) := dk_154 0 12 (dk_at dksX3_part_0 11 rfl rfl)
theorem dX3_part_14 : decode cX3_part 14 = .ok (.aload_n 0, 1) := dk_42 (dk_at dksX3_part_0 14 rfl rfl)
theorem dX3_part_15 : decode cX3_part 15 = .ok (.bipush 47, 2) := dk_16 47 (dk_at dksX3_part_0 15 rfl rfl)
theorem dX3_part_17 : decode cX3_part 17 = .ok (.invokevirtual 55, 3) := dk_182 0 55 (dk_at dksX3_part_0 17 rfl rfl)
theorem dX3_part_20 : decode cX3_part 20 = .ok (.ifCond .eq 37, 3) := dk_153 0 37 (dk_at dksX3_part_0 20 rfl rfl)
theorem dX3_part_23 : decode cX3_part 23 = .ok (.aload_n 0, 1) := dk_42 (dk_at dksX3_part_0 23 rfl rfl)
theorem dX3_part_24 : decode cX3_part 24 = .ok (.getfield 9, 3) := dk_180 0 9 (dk_at dksX3_part_1 0 rfl rfl)
theorem dX3_part_27 : decode cX3_part 27 = .ok (.getfield 52, 3) := dk_180 0 52 (dk_at dksX3_part_1 3 rfl rfl)
theorem dX3_part_30 : decode cX3_part 30 = .ok (.aload_n 0, 1) := dk_42 (dk_at dksX3_part_1 6 rfl rfl)
theorem dX3_part_31 : decode cX3_part 31 = .ok (.getfield 31, 3) := dk_180 0 31 (dk_at dksX3_part_1 7 rfl rfl)
theorem dX3_part_34 : decode cX3_part 34 = .ok (.saload, 1) := dk_53 (dk_at dksX3_part_1 10 rfl rfl)
theorem dX3_part_35 : decode cX3_part 35 = .ok (.istore_n 2, 1) := dk_61 (dk_at dksX3_part_1 11 rfl rfl)
theorem dX3_part_36 : decode cX3_part 36 = .ok (.aload_n 0, 1) := dk_42 (dk_at dksX3_part_1 12 rfl rfl)
theorem dX3_part_37 : decode cX3_part 37 = .ok (.invokevirtual 59, 3) := dk_182 0 59 (dk_at dksX3_part_1 13 rfl rfl)
theorem dX3_part_40 : decode cX3_part 40 = .ok (.new 248, 3) := dk_187 0 248 (dk_at dksX3_part_1 16 rfl rfl)
theorem dX3_part_43 : decode cX3_part 43 = .ok (.dup, 1) := dk_89 (dk_at dksX3_part_1 19 rfl rfl)
theorem dX3_part_44 : decode cX3_part 44 = .ok (.iload_n 2, 1) := dk_28 (dk_at dksX3_part_1 20 rfl rfl)
theorem dX3_part_45 : decode cX3_part 45 = .ok (.aload_n 1, 1) := dk_43 (dk_at dksX3_part_1 21 rfl rfl)
theorem dX3_part_46 : decode cX3_part 46 = .ok (.aload_n 0, 1) := dk_42 (dk_at dksX3_part_1 22 rfl rfl)
theorem dX3_part_47 : decode cX3_part 47 = .ok (.invokevirtual 253, 3) := dk_182 0 253 (dk_at dksX3_part_2 0 rfl rfl)
theorem dX3_part_50 : decode cX3_part 50 = .ok (.invokespecial 250, 3) := dk_183 0 250 (dk_at dksX3_part_2 3 rfl rfl)
theorem dX3_part_53 : decode cX3_part 53 = .ok (.astore_n 1, 1) := dk_76 (dk_at dksX3_part_2 6 rfl rfl)
theorem dX3_part_54 : decode cX3_part 54 = .ok (.goto (-49), 3) := dk_167 255 207 (dk_at dksX3_part_2 7 rfl rfl)
theorem dX3_part_57 : decode cX3_part 57 = .ok (.aload_n 1, 1) := dk_43 (dk_at dksX3_part_2 10 rfl rfl)
theorem dX3_part_58 : decode cX3_part 58 = .ok (.areturn, 1) := dk_176 (dk_at dksX3_part_2 11 rfl rfl)
abbrev cX3_unit : ByteArray := prog_15_method_22_code
def yX3_unit : MethodName := ⟨RX3, "unit", "()LRatSorters$Sum;"⟩
def dkwX3_unit_6 : List UInt8 := [182, 0, 105, 42, 89, 180, 0, 99, 4, 100, 181, 0, 99, 43, 176]
abbrev dktX3_unit_6 : List UInt8 := dkwX3_unit_6 ++ []
def dkwX3_unit_5 : List UInt8 := [42, 89, 180, 0, 99, 4, 96, 181, 0, 99, 42, 182, 0, 59, 42, 182, 0, 232, 76, 42, 16, 41]
abbrev dktX3_unit_5 : List UInt8 := dkwX3_unit_5 ++ dktX3_unit_6
def dkwX3_unit_4 : List UInt8 := [154, 0, 9, 42, 4, 182, 0, 48, 191, 42, 180, 0, 99, 16, 6, 160, 0, 9, 42, 5, 182, 0, 48, 191]
abbrev dktX3_unit_4 : List UInt8 := dkwX3_unit_4 ++ dktX3_unit_5
def dkwX3_unit_3 : List UInt8 := [180, 0, 52, 42, 180, 0, 31, 4, 100, 53, 16, 13, 100, 183, 1, 6, 176, 42, 16, 40, 182, 0, 55]
abbrev dktX3_unit_3 : List UInt8 := dkwX3_unit_3 ++ dktX3_unit_4
def dkwX3_unit_2 : List UInt8 := [42, 180, 0, 31, 53, 16, 13, 161, 0, 32, 42, 182, 0, 59, 187, 1, 4, 89, 42, 180, 0, 9]
abbrev dktX3_unit_2 : List UInt8 := dkwX3_unit_2 ++ dktX3_unit_3
def dkwX3_unit_1 : List UInt8 := [4, 100, 182, 0, 72, 183, 1, 2, 176, 42, 182, 0, 65, 6, 160, 0, 49, 42, 180, 0, 9, 180, 0, 52]
abbrev dktX3_unit_1 : List UInt8 := dkwX3_unit_1 ++ dktX3_unit_2
def dkwX3_unit_0 : List UInt8 := [42, 182, 0, 65, 4, 160, 0, 28, 42, 182, 0, 59, 187, 1, 0, 89, 42, 180, 0, 9, 42, 180, 0, 31]
abbrev dktX3_unit_0 : List UInt8 := dkwX3_unit_0 ++ dktX3_unit_1
theorem dksX3_unit_0 : cX3_unit.data.toList.drop 0 = dktX3_unit_0 := by decide +kernel
theorem dksX3_unit_1 : cX3_unit.data.toList.drop 24 = dktX3_unit_1 := dk_seg dksX3_unit_0 24 rfl rfl
theorem dksX3_unit_2 : cX3_unit.data.toList.drop 48 = dktX3_unit_2 := dk_seg dksX3_unit_1 24 rfl rfl
theorem dksX3_unit_3 : cX3_unit.data.toList.drop 70 = dktX3_unit_3 := dk_seg dksX3_unit_2 22 rfl rfl
theorem dksX3_unit_4 : cX3_unit.data.toList.drop 93 = dktX3_unit_4 := dk_seg dksX3_unit_3 23 rfl rfl
theorem dksX3_unit_5 : cX3_unit.data.toList.drop 117 = dktX3_unit_5 := dk_seg dksX3_unit_4 24 rfl rfl
theorem dksX3_unit_6 : cX3_unit.data.toList.drop 139 = dktX3_unit_6 := dk_seg dksX3_unit_5 22 rfl rfl
theorem dX3_unit_0 : decode cX3_unit 0 = .ok (.aload_n 0, 1) := dk_42 (dk_at dksX3_unit_0 0 rfl rfl)
theorem dX3_unit_1 : decode cX3_unit 1 = .ok (.invokevirtual 65, 3) := dk_182 0 65 (dk_at dksX3_unit_0 1 rfl rfl)
theorem dX3_unit_4 : decode cX3_unit 4 = .ok (.iconst 1, 1) := dk_4 (dk_at dksX3_unit_0 4 rfl rfl)
theorem dX3_unit_5 : decode cX3_unit 5 = .ok (.if_icmp .ne 28, 3) := dk_160 0 28 (dk_at dksX3_unit_0 5 rfl rfl)
theorem dX3_unit_8 : decode cX3_unit 8 = .ok (.aload_n 0, 1) := dk_42 (dk_at dksX3_unit_0 8 rfl rfl)
theorem dX3_unit_9 : decode cX3_unit 9 = .ok (.invokevirtual 59, 3) := dk_182 0 59 (dk_at dksX3_unit_0 9 rfl rfl)
theorem dX3_unit_12 : decode cX3_unit 12 = .ok (.new 256, 3) := dk_187 1 0 (dk_at dksX3_unit_0 12 rfl rfl)
theorem dX3_unit_15 : decode cX3_unit 15 = .ok (.dup, 1) := dk_89 (dk_at dksX3_unit_0 15 rfl rfl)
theorem dX3_unit_16 : decode cX3_unit 16 = .ok (.aload_n 0, 1) := dk_42 (dk_at dksX3_unit_0 16 rfl rfl)
theorem dX3_unit_17 : decode cX3_unit 17 = .ok (.getfield 9, 3) := dk_180 0 9 (dk_at dksX3_unit_0 17 rfl rfl)
theorem dX3_unit_20 : decode cX3_unit 20 = .ok (.aload_n 0, 1) := dk_42 (dk_at dksX3_unit_0 20 rfl rfl)
theorem dX3_unit_21 : decode cX3_unit 21 = .ok (.getfield 31, 3) := dk_180 0 31 (dk_at dksX3_unit_0 21 rfl rfl)
theorem dX3_unit_24 : decode cX3_unit 24 = .ok (.iconst 1, 1) := dk_4 (dk_at dksX3_unit_1 0 rfl rfl)
theorem dX3_unit_25 : decode cX3_unit 25 = .ok (.isub, 1) := dk_100 (dk_at dksX3_unit_1 1 rfl rfl)
theorem dX3_unit_26 : decode cX3_unit 26 = .ok (.invokevirtual 72, 3) := dk_182 0 72 (dk_at dksX3_unit_1 2 rfl rfl)
theorem dX3_unit_29 : decode cX3_unit 29 = .ok (.invokespecial 258, 3) := dk_183 1 2 (dk_at dksX3_unit_1 5 rfl rfl)
theorem dX3_unit_32 : decode cX3_unit 32 = .ok (.areturn, 1) := dk_176 (dk_at dksX3_unit_1 8 rfl rfl)
theorem dX3_unit_33 : decode cX3_unit 33 = .ok (.aload_n 0, 1) := dk_42 (dk_at dksX3_unit_1 9 rfl rfl)
theorem dX3_unit_34 : decode cX3_unit 34 = .ok (.invokevirtual 65, 3) := dk_182 0 65 (dk_at dksX3_unit_1 10 rfl rfl)
theorem dX3_unit_37 : decode cX3_unit 37 = .ok (.iconst 3, 1) := dk_6 (dk_at dksX3_unit_1 13 rfl rfl)
theorem dX3_unit_38 : decode cX3_unit 38 = .ok (.if_icmp .ne 49, 3) := dk_160 0 49 (dk_at dksX3_unit_1 14 rfl rfl)
theorem dX3_unit_41 : decode cX3_unit 41 = .ok (.aload_n 0, 1) := dk_42 (dk_at dksX3_unit_1 17 rfl rfl)
theorem dX3_unit_42 : decode cX3_unit 42 = .ok (.getfield 9, 3) := dk_180 0 9 (dk_at dksX3_unit_1 18 rfl rfl)
theorem dX3_unit_45 : decode cX3_unit 45 = .ok (.getfield 52, 3) := dk_180 0 52 (dk_at dksX3_unit_1 21 rfl rfl)
theorem dX3_unit_48 : decode cX3_unit 48 = .ok (.aload_n 0, 1) := dk_42 (dk_at dksX3_unit_2 0 rfl rfl)
theorem dX3_unit_49 : decode cX3_unit 49 = .ok (.getfield 31, 3) := dk_180 0 31 (dk_at dksX3_unit_2 1 rfl rfl)
theorem dX3_unit_52 : decode cX3_unit 52 = .ok (.saload, 1) := dk_53 (dk_at dksX3_unit_2 4 rfl rfl)
theorem dX3_unit_53 : decode cX3_unit 53 = .ok (.bipush 13, 2) := dk_16 13 (dk_at dksX3_unit_2 5 rfl rfl)
theorem dX3_unit_55 : decode cX3_unit 55 = .ok (.if_icmp .lt 32, 3) := dk_161 0 32 (dk_at dksX3_unit_2 7 rfl rfl)
theorem dX3_unit_58 : decode cX3_unit 58 = .ok (.aload_n 0, 1) := dk_42 (dk_at dksX3_unit_2 10 rfl rfl)
theorem dX3_unit_59 : decode cX3_unit 59 = .ok (.invokevirtual 59, 3) := dk_182 0 59 (dk_at dksX3_unit_2 11 rfl rfl)
theorem dX3_unit_62 : decode cX3_unit 62 = .ok (.new 260, 3) := dk_187 1 4 (dk_at dksX3_unit_2 14 rfl rfl)
theorem dX3_unit_65 : decode cX3_unit 65 = .ok (.dup, 1) := dk_89 (dk_at dksX3_unit_2 17 rfl rfl)
theorem dX3_unit_66 : decode cX3_unit 66 = .ok (.aload_n 0, 1) := dk_42 (dk_at dksX3_unit_2 18 rfl rfl)
theorem dX3_unit_67 : decode cX3_unit 67 = .ok (.getfield 9, 3) := dk_180 0 9 (dk_at dksX3_unit_2 19 rfl rfl)
theorem dX3_unit_70 : decode cX3_unit 70 = .ok (.getfield 52, 3) := dk_180 0 52 (dk_at dksX3_unit_3 0 rfl rfl)
theorem dX3_unit_73 : decode cX3_unit 73 = .ok (.aload_n 0, 1) := dk_42 (dk_at dksX3_unit_3 3 rfl rfl)
theorem dX3_unit_74 : decode cX3_unit 74 = .ok (.getfield 31, 3) := dk_180 0 31 (dk_at dksX3_unit_3 4 rfl rfl)
theorem dX3_unit_77 : decode cX3_unit 77 = .ok (.iconst 1, 1) := dk_4 (dk_at dksX3_unit_3 7 rfl rfl)
theorem dX3_unit_78 : decode cX3_unit 78 = .ok (.isub, 1) := dk_100 (dk_at dksX3_unit_3 8 rfl rfl)
theorem dX3_unit_79 : decode cX3_unit 79 = .ok (.saload, 1) := dk_53 (dk_at dksX3_unit_3 9 rfl rfl)
theorem dX3_unit_80 : decode cX3_unit 80 = .ok (.bipush 13, 2) := dk_16 13 (dk_at dksX3_unit_3 10 rfl rfl)
theorem dX3_unit_82 : decode cX3_unit 82 = .ok (.isub, 1) := dk_100 (dk_at dksX3_unit_3 12 rfl rfl)
theorem dX3_unit_83 : decode cX3_unit 83 = .ok (.invokespecial 262, 3) := dk_183 1 6 (dk_at dksX3_unit_3 13 rfl rfl)
theorem dX3_unit_86 : decode cX3_unit 86 = .ok (.areturn, 1) := dk_176 (dk_at dksX3_unit_3 16 rfl rfl)
theorem dX3_unit_87 : decode cX3_unit 87 = .ok (.aload_n 0, 1) := dk_42 (dk_at dksX3_unit_3 17 rfl rfl)
theorem dX3_unit_88 : decode cX3_unit 88 = .ok (.bipush 40, 2) := dk_16 40 (dk_at dksX3_unit_3 18 rfl rfl)
theorem dX3_unit_90 : decode cX3_unit 90 = .ok (.invokevirtual 55, 3) := dk_182 0 55 (dk_at dksX3_unit_3 20 rfl rfl)
theorem dX3_unit_93 : decode cX3_unit 93 = .ok (.ifCond .ne 9, 3) := dk_154 0 9 (dk_at dksX3_unit_4 0 rfl rfl)
theorem dX3_unit_96 : decode cX3_unit 96 = .ok (.aload_n 0, 1) := dk_42 (dk_at dksX3_unit_4 3 rfl rfl)
theorem dX3_unit_97 : decode cX3_unit 97 = .ok (.iconst 1, 1) := dk_4 (dk_at dksX3_unit_4 4 rfl rfl)
theorem dX3_unit_98 : decode cX3_unit 98 = .ok (.invokevirtual 48, 3) := dk_182 0 48 (dk_at dksX3_unit_4 5 rfl rfl)
theorem dX3_unit_101 : decode cX3_unit 101 = .ok (.athrow, 1) := dk_191 (dk_at dksX3_unit_4 8 rfl rfl)
theorem dX3_unit_102 : decode cX3_unit 102 = .ok (.aload_n 0, 1) := dk_42 (dk_at dksX3_unit_4 9 rfl rfl)
theorem dX3_unit_103 : decode cX3_unit 103 = .ok (.getfield 99, 3) := dk_180 0 99 (dk_at dksX3_unit_4 10 rfl rfl)
theorem dX3_unit_106 : decode cX3_unit 106 = .ok (.bipush 6, 2) := dk_16 6 (dk_at dksX3_unit_4 13 rfl rfl)
theorem dX3_unit_108 : decode cX3_unit 108 = .ok (.if_icmp .ne 9, 3) := dk_160 0 9 (dk_at dksX3_unit_4 15 rfl rfl)
theorem dX3_unit_111 : decode cX3_unit 111 = .ok (.aload_n 0, 1) := dk_42 (dk_at dksX3_unit_4 18 rfl rfl)
theorem dX3_unit_112 : decode cX3_unit 112 = .ok (.iconst 2, 1) := dk_5 (dk_at dksX3_unit_4 19 rfl rfl)
theorem dX3_unit_113 : decode cX3_unit 113 = .ok (.invokevirtual 48, 3) := dk_182 0 48 (dk_at dksX3_unit_4 20 rfl rfl)
theorem dX3_unit_116 : decode cX3_unit 116 = .ok (.athrow, 1) := dk_191 (dk_at dksX3_unit_4 23 rfl rfl)
theorem dX3_unit_117 : decode cX3_unit 117 = .ok (.aload_n 0, 1) := dk_42 (dk_at dksX3_unit_5 0 rfl rfl)
theorem dX3_unit_118 : decode cX3_unit 118 = .ok (.dup, 1) := dk_89 (dk_at dksX3_unit_5 1 rfl rfl)
theorem dX3_unit_119 : decode cX3_unit 119 = .ok (.getfield 99, 3) := dk_180 0 99 (dk_at dksX3_unit_5 2 rfl rfl)
theorem dX3_unit_122 : decode cX3_unit 122 = .ok (.iconst 1, 1) := dk_4 (dk_at dksX3_unit_5 5 rfl rfl)
theorem dX3_unit_123 : decode cX3_unit 123 = .ok (.iadd, 1) := dk_96 (dk_at dksX3_unit_5 6 rfl rfl)
theorem dX3_unit_124 : decode cX3_unit 124 = .ok (.putfield 99, 3) := dk_181 0 99 (dk_at dksX3_unit_5 7 rfl rfl)
theorem dX3_unit_127 : decode cX3_unit 127 = .ok (.aload_n 0, 1) := dk_42 (dk_at dksX3_unit_5 10 rfl rfl)
theorem dX3_unit_128 : decode cX3_unit 128 = .ok (.invokevirtual 59, 3) := dk_182 0 59 (dk_at dksX3_unit_5 11 rfl rfl)
theorem dX3_unit_131 : decode cX3_unit 131 = .ok (.aload_n 0, 1) := dk_42 (dk_at dksX3_unit_5 14 rfl rfl)
theorem dX3_unit_132 : decode cX3_unit 132 = .ok (.invokevirtual 232, 3) := dk_182 0 232 (dk_at dksX3_unit_5 15 rfl rfl)
theorem dX3_unit_135 : decode cX3_unit 135 = .ok (.astore_n 1, 1) := dk_76 (dk_at dksX3_unit_5 18 rfl rfl)
theorem dX3_unit_136 : decode cX3_unit 136 = .ok (.aload_n 0, 1) := dk_42 (dk_at dksX3_unit_5 19 rfl rfl)
theorem dX3_unit_137 : decode cX3_unit 137 = .ok (.bipush 41, 2) := dk_16 41 (dk_at dksX3_unit_5 20 rfl rfl)
theorem dX3_unit_139 : decode cX3_unit 139 = .ok (.invokevirtual 105, 3) := dk_182 0 105 (dk_at dksX3_unit_6 0 rfl rfl)
theorem dX3_unit_142 : decode cX3_unit 142 = .ok (.aload_n 0, 1) := dk_42 (dk_at dksX3_unit_6 3 rfl rfl)
theorem dX3_unit_143 : decode cX3_unit 143 = .ok (.dup, 1) := dk_89 (dk_at dksX3_unit_6 4 rfl rfl)
theorem dX3_unit_144 : decode cX3_unit 144 = .ok (.getfield 99, 3) := dk_180 0 99 (dk_at dksX3_unit_6 5 rfl rfl)
theorem dX3_unit_147 : decode cX3_unit 147 = .ok (.iconst 1, 1) := dk_4 (dk_at dksX3_unit_6 8 rfl rfl)
theorem dX3_unit_148 : decode cX3_unit 148 = .ok (.isub, 1) := dk_100 (dk_at dksX3_unit_6 9 rfl rfl)
theorem dX3_unit_149 : decode cX3_unit 149 = .ok (.putfield 99, 3) := dk_181 0 99 (dk_at dksX3_unit_6 10 rfl rfl)
theorem dX3_unit_152 : decode cX3_unit 152 = .ok (.aload_n 1, 1) := dk_43 (dk_at dksX3_unit_6 13 rfl rfl)
theorem dX3_unit_153 : decode cX3_unit 153 = .ok (.areturn, 1) := dk_176 (dk_at dksX3_unit_6 14 rfl rfl)
abbrev cX3_word : ByteArray := prog_15_method_10_code
def yX3_word : MethodName := ⟨RX3, "word", "(I)V"⟩
def dkwX3_word_0 : List UInt8 := [42, 27, 182, 0, 62, 154, 0, 9, 42, 4, 182, 0, 48, 191, 42, 182, 0, 59, 177]
abbrev dktX3_word_0 : List UInt8 := dkwX3_word_0 ++ []
theorem dksX3_word_0 : cX3_word.data.toList.drop 0 = dktX3_word_0 := by decide +kernel
theorem dX3_word_0 : decode cX3_word 0 = .ok (.aload_n 0, 1) := dk_42 (dk_at dksX3_word_0 0 rfl rfl)
theorem dX3_word_1 : decode cX3_word 1 = .ok (.iload_n 1, 1) := dk_27 (dk_at dksX3_word_0 1 rfl rfl)
theorem dX3_word_2 : decode cX3_word 2 = .ok (.invokevirtual 62, 3) := dk_182 0 62 (dk_at dksX3_word_0 2 rfl rfl)
theorem dX3_word_5 : decode cX3_word 5 = .ok (.ifCond .ne 9, 3) := dk_154 0 9 (dk_at dksX3_word_0 5 rfl rfl)
theorem dX3_word_8 : decode cX3_word 8 = .ok (.aload_n 0, 1) := dk_42 (dk_at dksX3_word_0 8 rfl rfl)
theorem dX3_word_9 : decode cX3_word 9 = .ok (.iconst 1, 1) := dk_4 (dk_at dksX3_word_0 9 rfl rfl)
theorem dX3_word_10 : decode cX3_word 10 = .ok (.invokevirtual 48, 3) := dk_182 0 48 (dk_at dksX3_word_0 10 rfl rfl)
theorem dX3_word_13 : decode cX3_word 13 = .ok (.athrow, 1) := dk_191 (dk_at dksX3_word_0 13 rfl rfl)
theorem dX3_word_14 : decode cX3_word 14 = .ok (.aload_n 0, 1) := dk_42 (dk_at dksX3_word_0 14 rfl rfl)
theorem dX3_word_15 : decode cX3_word 15 = .ok (.invokevirtual 59, 3) := dk_182 0 59 (dk_at dksX3_word_0 15 rfl rfl)
theorem dX3_word_18 : decode cX3_word 18 = .ok (.return_, 1) := dk_177 (dk_at dksX3_word_0 18 rfl rfl)
abbrev cX3_wants : ByteArray := prog_15_method_18_code
def yX3_wants : MethodName := ⟨RX3, "wants", "()V"⟩
def dkwX3_wants_6 : List UInt8 := [181, 0, 212, 167, 255, 146, 42, 180, 0, 83, 180, 0, 203, 43, 182, 0, 139, 87, 177]
abbrev dktX3_wants_6 : List UInt8 := dkwX3_wants_6 ++ []
def dkwX3_wants_5 : List UInt8 := [180, 0, 219, 43, 180, 0, 212, 42, 4, 17, 39, 15, 182, 0, 130, 79, 43, 89, 180, 0, 212, 4, 96]
abbrev dktX3_wants_5 : List UInt8 := dkwX3_wants_5 ++ dktX3_wants_6
def dkwX3_wants_4 : List UInt8 := [182, 0, 214, 153, 0, 9, 42, 6, 28, 182, 0, 75, 43, 180, 0, 216, 43, 180, 0, 212, 29, 79, 43]
abbrev dktX3_wants_4 : List UInt8 := dkwX3_wants_4 ++ dktX3_wants_5
def dkwX3_wants_3 : List UInt8 := [191, 42, 180, 0, 31, 61, 42, 42, 180, 0, 83, 180, 0, 109, 182, 0, 152, 62, 29, 155, 0, 17, 43, 29]
abbrev dktX3_wants_3 : List UInt8 := dkwX3_wants_3 ++ dktX3_wants_4
def dkwX3_wants_2 : List UInt8 := [180, 0, 44, 42, 180, 0, 31, 51, 154, 0, 17, 43, 180, 0, 212, 7, 160, 0, 9, 42, 5, 182, 0, 48]
abbrev dktX3_wants_2 : List UInt8 := dkwX3_wants_2 ++ dktX3_wants_3
def dkwX3_wants_1 : List UInt8 := [42, 3, 17, 39, 15, 182, 0, 130, 181, 0, 209, 42, 16, 59, 182, 0, 55, 154, 0, 107, 42, 180, 0, 9]
abbrev dktX3_wants_1 : List UInt8 := dkwX3_wants_1 ++ dktX3_wants_2
def dkwX3_wants_0 : List UInt8 := [42, 42, 180, 0, 83, 180, 0, 203, 182, 0, 113, 8, 182, 0, 118, 187, 0, 206, 89, 183, 0, 208, 76, 43]
abbrev dktX3_wants_0 : List UInt8 := dkwX3_wants_0 ++ dktX3_wants_1
theorem dksX3_wants_0 : cX3_wants.data.toList.drop 0 = dktX3_wants_0 := by decide +kernel
theorem dksX3_wants_1 : cX3_wants.data.toList.drop 24 = dktX3_wants_1 := dk_seg dksX3_wants_0 24 rfl rfl
theorem dksX3_wants_2 : cX3_wants.data.toList.drop 48 = dktX3_wants_2 := dk_seg dksX3_wants_1 24 rfl rfl
theorem dksX3_wants_3 : cX3_wants.data.toList.drop 72 = dktX3_wants_3 := dk_seg dksX3_wants_2 24 rfl rfl
theorem dksX3_wants_4 : cX3_wants.data.toList.drop 96 = dktX3_wants_4 := dk_seg dksX3_wants_3 24 rfl rfl
theorem dksX3_wants_5 : cX3_wants.data.toList.drop 119 = dktX3_wants_5 := dk_seg dksX3_wants_4 23 rfl rfl
theorem dksX3_wants_6 : cX3_wants.data.toList.drop 142 = dktX3_wants_6 := dk_seg dksX3_wants_5 23 rfl rfl
theorem dX3_wants_0 : decode cX3_wants 0 = .ok (.aload_n 0, 1) := dk_42 (dk_at dksX3_wants_0 0 rfl rfl)
theorem dX3_wants_1 : decode cX3_wants 1 = .ok (.aload_n 0, 1) := dk_42 (dk_at dksX3_wants_0 1 rfl rfl)
theorem dX3_wants_2 : decode cX3_wants 2 = .ok (.getfield 83, 3) := dk_180 0 83 (dk_at dksX3_wants_0 2 rfl rfl)
theorem dX3_wants_5 : decode cX3_wants 5 = .ok (.getfield 203, 3) := dk_180 0 203 (dk_at dksX3_wants_0 5 rfl rfl)
theorem dX3_wants_8 : decode cX3_wants 8 = .ok (.invokevirtual 113, 3) := dk_182 0 113 (dk_at dksX3_wants_0 8 rfl rfl)
theorem dX3_wants_11 : decode cX3_wants 11 = .ok (.iconst 5, 1) := dk_8 (dk_at dksX3_wants_0 11 rfl rfl)
theorem dX3_wants_12 : decode cX3_wants 12 = .ok (.invokevirtual 118, 3) := dk_182 0 118 (dk_at dksX3_wants_0 12 rfl rfl)
theorem dX3_wants_15 : decode cX3_wants 15 = .ok (.new 206, 3) := dk_187 0 206 (dk_at dksX3_wants_0 15 rfl rfl)
theorem dX3_wants_18 : decode cX3_wants 18 = .ok (.dup, 1) := dk_89 (dk_at dksX3_wants_0 18 rfl rfl)
theorem dX3_wants_19 : decode cX3_wants 19 = .ok (.invokespecial 208, 3) := dk_183 0 208 (dk_at dksX3_wants_0 19 rfl rfl)
theorem dX3_wants_22 : decode cX3_wants 22 = .ok (.astore_n 1, 1) := dk_76 (dk_at dksX3_wants_0 22 rfl rfl)
theorem dX3_wants_23 : decode cX3_wants 23 = .ok (.aload_n 1, 1) := dk_43 (dk_at dksX3_wants_0 23 rfl rfl)
theorem dX3_wants_24 : decode cX3_wants 24 = .ok (.aload_n 0, 1) := dk_42 (dk_at dksX3_wants_1 0 rfl rfl)
theorem dX3_wants_25 : decode cX3_wants 25 = .ok (.iconst 0, 1) := dk_3 (dk_at dksX3_wants_1 1 rfl rfl)
theorem dX3_wants_26 : decode cX3_wants 26 = .ok (.sipush 9999, 3) := dk_17 39 15 (dk_at dksX3_wants_1 2 rfl rfl)
theorem dX3_wants_29 : decode cX3_wants 29 = .ok (.invokevirtual 130, 3) := dk_182 0 130 (dk_at dksX3_wants_1 5 rfl rfl)
theorem dX3_wants_32 : decode cX3_wants 32 = .ok (.putfield 209, 3) := dk_181 0 209 (dk_at dksX3_wants_1 8 rfl rfl)
theorem dX3_wants_35 : decode cX3_wants 35 = .ok (.aload_n 0, 1) := dk_42 (dk_at dksX3_wants_1 11 rfl rfl)
theorem dX3_wants_36 : decode cX3_wants 36 = .ok (.bipush 59, 2) := dk_16 59 (dk_at dksX3_wants_1 12 rfl rfl)
theorem dX3_wants_38 : decode cX3_wants 38 = .ok (.invokevirtual 55, 3) := dk_182 0 55 (dk_at dksX3_wants_1 14 rfl rfl)
theorem dX3_wants_41 : decode cX3_wants 41 = .ok (.ifCond .ne 107, 3) := dk_154 0 107 (dk_at dksX3_wants_1 17 rfl rfl)
theorem dX3_wants_44 : decode cX3_wants 44 = .ok (.aload_n 0, 1) := dk_42 (dk_at dksX3_wants_1 20 rfl rfl)
theorem dX3_wants_45 : decode cX3_wants 45 = .ok (.getfield 9, 3) := dk_180 0 9 (dk_at dksX3_wants_1 21 rfl rfl)
theorem dX3_wants_48 : decode cX3_wants 48 = .ok (.getfield 44, 3) := dk_180 0 44 (dk_at dksX3_wants_2 0 rfl rfl)
theorem dX3_wants_51 : decode cX3_wants 51 = .ok (.aload_n 0, 1) := dk_42 (dk_at dksX3_wants_2 3 rfl rfl)
theorem dX3_wants_52 : decode cX3_wants 52 = .ok (.getfield 31, 3) := dk_180 0 31 (dk_at dksX3_wants_2 4 rfl rfl)
theorem dX3_wants_55 : decode cX3_wants 55 = .ok (.baload, 1) := dk_51 (dk_at dksX3_wants_2 7 rfl rfl)
theorem dX3_wants_56 : decode cX3_wants 56 = .ok (.ifCond .ne 17, 3) := dk_154 0 17 (dk_at dksX3_wants_2 8 rfl rfl)
theorem dX3_wants_59 : decode cX3_wants 59 = .ok (.aload_n 1, 1) := dk_43 (dk_at dksX3_wants_2 11 rfl rfl)
theorem dX3_wants_60 : decode cX3_wants 60 = .ok (.getfield 212, 3) := dk_180 0 212 (dk_at dksX3_wants_2 12 rfl rfl)
theorem dX3_wants_63 : decode cX3_wants 63 = .ok (.iconst 4, 1) := dk_7 (dk_at dksX3_wants_2 15 rfl rfl)
theorem dX3_wants_64 : decode cX3_wants 64 = .ok (.if_icmp .ne 9, 3) := dk_160 0 9 (dk_at dksX3_wants_2 16 rfl rfl)
theorem dX3_wants_67 : decode cX3_wants 67 = .ok (.aload_n 0, 1) := dk_42 (dk_at dksX3_wants_2 19 rfl rfl)
theorem dX3_wants_68 : decode cX3_wants 68 = .ok (.iconst 2, 1) := dk_5 (dk_at dksX3_wants_2 20 rfl rfl)
theorem dX3_wants_69 : decode cX3_wants 69 = .ok (.invokevirtual 48, 3) := dk_182 0 48 (dk_at dksX3_wants_2 21 rfl rfl)
theorem dX3_wants_72 : decode cX3_wants 72 = .ok (.athrow, 1) := dk_191 (dk_at dksX3_wants_3 0 rfl rfl)
theorem dX3_wants_73 : decode cX3_wants 73 = .ok (.aload_n 0, 1) := dk_42 (dk_at dksX3_wants_3 1 rfl rfl)
theorem dX3_wants_74 : decode cX3_wants 74 = .ok (.getfield 31, 3) := dk_180 0 31 (dk_at dksX3_wants_3 2 rfl rfl)
theorem dX3_wants_77 : decode cX3_wants 77 = .ok (.istore_n 2, 1) := dk_61 (dk_at dksX3_wants_3 5 rfl rfl)
theorem dX3_wants_78 : decode cX3_wants 78 = .ok (.aload_n 0, 1) := dk_42 (dk_at dksX3_wants_3 6 rfl rfl)
theorem dX3_wants_79 : decode cX3_wants 79 = .ok (.aload_n 0, 1) := dk_42 (dk_at dksX3_wants_3 7 rfl rfl)
theorem dX3_wants_80 : decode cX3_wants 80 = .ok (.getfield 83, 3) := dk_180 0 83 (dk_at dksX3_wants_3 8 rfl rfl)
theorem dX3_wants_83 : decode cX3_wants 83 = .ok (.getfield 109, 3) := dk_180 0 109 (dk_at dksX3_wants_3 11 rfl rfl)
theorem dX3_wants_86 : decode cX3_wants 86 = .ok (.invokevirtual 152, 3) := dk_182 0 152 (dk_at dksX3_wants_3 14 rfl rfl)
theorem dX3_wants_89 : decode cX3_wants 89 = .ok (.istore_n 3, 1) := dk_62 (dk_at dksX3_wants_3 17 rfl rfl)
theorem dX3_wants_90 : decode cX3_wants 90 = .ok (.iload_n 3, 1) := dk_29 (dk_at dksX3_wants_3 18 rfl rfl)
theorem dX3_wants_91 : decode cX3_wants 91 = .ok (.ifCond .lt 17, 3) := dk_155 0 17 (dk_at dksX3_wants_3 19 rfl rfl)
theorem dX3_wants_94 : decode cX3_wants 94 = .ok (.aload_n 1, 1) := dk_43 (dk_at dksX3_wants_3 22 rfl rfl)
theorem dX3_wants_95 : decode cX3_wants 95 = .ok (.iload_n 3, 1) := dk_29 (dk_at dksX3_wants_3 23 rfl rfl)
theorem dX3_wants_96 : decode cX3_wants 96 = .ok (.invokevirtual 214, 3) := dk_182 0 214 (dk_at dksX3_wants_4 0 rfl rfl)
theorem dX3_wants_99 : decode cX3_wants 99 = .ok (.ifCond .eq 9, 3) := dk_153 0 9 (dk_at dksX3_wants_4 3 rfl rfl)
theorem dX3_wants_102 : decode cX3_wants 102 = .ok (.aload_n 0, 1) := dk_42 (dk_at dksX3_wants_4 6 rfl rfl)
theorem dX3_wants_103 : decode cX3_wants 103 = .ok (.iconst 3, 1) := dk_6 (dk_at dksX3_wants_4 7 rfl rfl)
theorem dX3_wants_104 : decode cX3_wants 104 = .ok (.iload_n 2, 1) := dk_28 (dk_at dksX3_wants_4 8 rfl rfl)
theorem dX3_wants_105 : decode cX3_wants 105 = .ok (.invokevirtual 75, 3) := dk_182 0 75 (dk_at dksX3_wants_4 9 rfl rfl)
theorem dX3_wants_108 : decode cX3_wants 108 = .ok (.aload_n 1, 1) := dk_43 (dk_at dksX3_wants_4 12 rfl rfl)
theorem dX3_wants_109 : decode cX3_wants 109 = .ok (.getfield 216, 3) := dk_180 0 216 (dk_at dksX3_wants_4 13 rfl rfl)
theorem dX3_wants_112 : decode cX3_wants 112 = .ok (.aload_n 1, 1) := dk_43 (dk_at dksX3_wants_4 16 rfl rfl)
theorem dX3_wants_113 : decode cX3_wants 113 = .ok (.getfield 212, 3) := dk_180 0 212 (dk_at dksX3_wants_4 17 rfl rfl)
theorem dX3_wants_116 : decode cX3_wants 116 = .ok (.iload_n 3, 1) := dk_29 (dk_at dksX3_wants_4 20 rfl rfl)
theorem dX3_wants_117 : decode cX3_wants 117 = .ok (.iastore, 1) := dk_79 (dk_at dksX3_wants_4 21 rfl rfl)
theorem dX3_wants_118 : decode cX3_wants 118 = .ok (.aload_n 1, 1) := dk_43 (dk_at dksX3_wants_4 22 rfl rfl)
theorem dX3_wants_119 : decode cX3_wants 119 = .ok (.getfield 219, 3) := dk_180 0 219 (dk_at dksX3_wants_5 0 rfl rfl)
theorem dX3_wants_122 : decode cX3_wants 122 = .ok (.aload_n 1, 1) := dk_43 (dk_at dksX3_wants_5 3 rfl rfl)
theorem dX3_wants_123 : decode cX3_wants 123 = .ok (.getfield 212, 3) := dk_180 0 212 (dk_at dksX3_wants_5 4 rfl rfl)
theorem dX3_wants_126 : decode cX3_wants 126 = .ok (.aload_n 0, 1) := dk_42 (dk_at dksX3_wants_5 7 rfl rfl)
theorem dX3_wants_127 : decode cX3_wants 127 = .ok (.iconst 1, 1) := dk_4 (dk_at dksX3_wants_5 8 rfl rfl)
theorem dX3_wants_128 : decode cX3_wants 128 = .ok (.sipush 9999, 3) := dk_17 39 15 (dk_at dksX3_wants_5 9 rfl rfl)
theorem dX3_wants_131 : decode cX3_wants 131 = .ok (.invokevirtual 130, 3) := dk_182 0 130 (dk_at dksX3_wants_5 12 rfl rfl)
theorem dX3_wants_134 : decode cX3_wants 134 = .ok (.iastore, 1) := dk_79 (dk_at dksX3_wants_5 15 rfl rfl)
theorem dX3_wants_135 : decode cX3_wants 135 = .ok (.aload_n 1, 1) := dk_43 (dk_at dksX3_wants_5 16 rfl rfl)
theorem dX3_wants_136 : decode cX3_wants 136 = .ok (.dup, 1) := dk_89 (dk_at dksX3_wants_5 17 rfl rfl)
theorem dX3_wants_137 : decode cX3_wants 137 = .ok (.getfield 212, 3) := dk_180 0 212 (dk_at dksX3_wants_5 18 rfl rfl)
theorem dX3_wants_140 : decode cX3_wants 140 = .ok (.iconst 1, 1) := dk_4 (dk_at dksX3_wants_5 21 rfl rfl)
theorem dX3_wants_141 : decode cX3_wants 141 = .ok (.iadd, 1) := dk_96 (dk_at dksX3_wants_5 22 rfl rfl)
theorem dX3_wants_142 : decode cX3_wants 142 = .ok (.putfield 212, 3) := dk_181 0 212 (dk_at dksX3_wants_6 0 rfl rfl)
theorem dX3_wants_145 : decode cX3_wants 145 = .ok (.goto (-110), 3) := dk_167 255 146 (dk_at dksX3_wants_6 3 rfl rfl)
theorem dX3_wants_148 : decode cX3_wants 148 = .ok (.aload_n 0, 1) := dk_42 (dk_at dksX3_wants_6 6 rfl rfl)
theorem dX3_wants_149 : decode cX3_wants 149 = .ok (.getfield 83, 3) := dk_180 0 83 (dk_at dksX3_wants_6 7 rfl rfl)
theorem dX3_wants_152 : decode cX3_wants 152 = .ok (.getfield 203, 3) := dk_180 0 203 (dk_at dksX3_wants_6 10 rfl rfl)
theorem dX3_wants_155 : decode cX3_wants 155 = .ok (.aload_n 1, 1) := dk_43 (dk_at dksX3_wants_6 13 rfl rfl)
theorem dX3_wants_156 : decode cX3_wants 156 = .ok (.invokevirtual 139, 3) := dk_182 0 139 (dk_at dksX3_wants_6 14 rfl rfl)
theorem dX3_wants_159 : decode cX3_wants 159 = .ok (.pop, 1) := dk_87 (dk_at dksX3_wants_6 17 rfl rfl)
theorem dX3_wants_160 : decode cX3_wants 160 = .ok (.return_, 1) := dk_177 (dk_at dksX3_wants_6 18 rfl rfl)
theorem q119 : (Jvm.Cond.initialized "RatSorters$Parser") ∈ lw_all := lw_g (lw_at lw_m1 7 rfl) rfl
theorem q270 : (Jvm.Cond.fieldLink "RatSorters$Parser" (44 : Nat) "RatSorters$Tokens" "sort" "[B") ∈ lw_all := lw_g (lw_at lw_m1 158 rfl) rfl
theorem q272 : (Jvm.Cond.fieldLink "RatSorters$Parser" (19 : Nat) "RatSorters$Tokens" "from" "[S") ∈ lw_all := lw_g (lw_at lw_m1 160 rfl) rfl
theorem q275 : (Jvm.Cond.fieldLink "RatSorters$Parser" (52 : Nat) "RatSorters$Tokens" "what" "[S") ∈ lw_all := lw_g (lw_at lw_m1 163 rfl) rfl
theorem q296 : (Jvm.Cond.instantiable "RatSorters$Parser" (7 : Nat)) ∈ lw_all := lw_g (lw_at lw_m1 184 rfl) rfl
theorem q298 : (Jvm.Cond.instanceMethod ({ cls := "RatSorters$Parser", name := "<init>", desc := "(LRatSorters$Tokens;LRatSorters$Fault;)V" } : Jvm.MethodName)) ∈ lw_all := lw_g (lw_at lw_m1 186 rfl) rfl
theorem q299 : (Jvm.Cond.code ({ cls := "RatSorters$Parser", name := "<init>", desc := "(LRatSorters$Tokens;LRatSorters$Fault;)V" } : Jvm.MethodName) prog_15_method_1_code (3 : Nat) (Option.none : Option Jvm.ClassFile.FieldType)) ∈ lw_all := lw_g (lw_at lw_m1 187 rfl) rfl
theorem q300 : (Jvm.Cond.methodLink "RatSorters$Parser" (3 : Nat) ({ cls := "java/lang/Object", name := "<init>", desc := "()V" } : Jvm.MethodName)) ∈ lw_all := lw_g (lw_at lw_m1 188 rfl) rfl
theorem q301 : (Jvm.Cond.fieldLink "RatSorters$Parser" (9 : Nat) "RatSorters$Parser" "t" "LRatSorters$Tokens;") ∈ lw_all := lw_g (lw_at lw_m1 189 rfl) rfl
theorem q302 : (Jvm.Cond.fieldLink "RatSorters$Parser" (15 : Nat) "RatSorters$Parser" "fault" "LRatSorters$Fault;") ∈ lw_all := lw_g (lw_at lw_m1 190 rfl) rfl
theorem q303 : (Jvm.Cond.fieldLink "RatSorters$Parser" (83 : Nat) "RatSorters$Parser" "text" "LRatSorters$Text;") ∈ lw_all := lw_g (lw_at lw_m1 191 rfl) rfl
theorem q304 : (Jvm.Cond.fieldLink "RatSorters$Parser" (31 : Nat) "RatSorters$Parser" "at" "I") ∈ lw_all := lw_g (lw_at lw_m1 192 rfl) rfl
theorem q305 : (Jvm.Cond.fieldLink "RatSorters$Parser" (99 : Nat) "RatSorters$Parser" "open" "I") ∈ lw_all := lw_g (lw_at lw_m1 193 rfl) rfl
theorem q306 : (Jvm.Cond.fieldLink "RatSorters$Parser" (38 : Nat) "RatSorters$Parser" "worst" "I") ∈ lw_all := lw_g (lw_at lw_m1 194 rfl) rfl
theorem q307 : (Jvm.Cond.fieldLink "RatSorters$Parser" (41 : Nat) "RatSorters$Parser" "worstToken" "I") ∈ lw_all := lw_g (lw_at lw_m1 195 rfl) rfl
theorem q308 : (Jvm.Cond.laysFinal "RatSorters$Parser" "RatSorters$Parser" "t" "LRatSorters$Tokens;") ∈ lw_all := lw_g (lw_at lw_m1 196 rfl) rfl
theorem q309 : (Jvm.Cond.soleField "RatSorters$Parser" "t") ∈ lw_all := lw_g (lw_at lw_m1 197 rfl) rfl
theorem q310 : (Jvm.Cond.laysFinal "RatSorters$Parser" "RatSorters$Parser" "fault" "LRatSorters$Fault;") ∈ lw_all := lw_g (lw_at lw_m1 198 rfl) rfl
theorem q311 : (Jvm.Cond.soleField "RatSorters$Parser" "fault") ∈ lw_all := lw_g (lw_at lw_m1 199 rfl) rfl
theorem q312 : (Jvm.Cond.lays "RatSorters$Parser" "RatSorters$Parser" "text" "LRatSorters$Text;") ∈ lw_all := lw_g (lw_at lw_m1 200 rfl) rfl
theorem q313 : (Jvm.Cond.soleField "RatSorters$Parser" "text") ∈ lw_all := lw_g (lw_at lw_m1 201 rfl) rfl
theorem q314 : (Jvm.Cond.lays "RatSorters$Parser" "RatSorters$Parser" "at" "I") ∈ lw_all := lw_g (lw_at lw_m1 202 rfl) rfl
theorem q315 : (Jvm.Cond.soleField "RatSorters$Parser" "at") ∈ lw_all := lw_g (lw_at lw_m1 203 rfl) rfl
theorem q316 : (Jvm.Cond.lays "RatSorters$Parser" "RatSorters$Parser" "open" "I") ∈ lw_all := lw_g (lw_at lw_m1 204 rfl) rfl
theorem q317 : (Jvm.Cond.soleField "RatSorters$Parser" "open") ∈ lw_all := lw_g (lw_at lw_m1 205 rfl) rfl
theorem q318 : (Jvm.Cond.lays "RatSorters$Parser" "RatSorters$Parser" "worst" "I") ∈ lw_all := lw_g (lw_at lw_m1 206 rfl) rfl
theorem q319 : (Jvm.Cond.soleField "RatSorters$Parser" "worst") ∈ lw_all := lw_g (lw_at lw_m1 207 rfl) rfl
theorem q320 : (Jvm.Cond.lays "RatSorters$Parser" "RatSorters$Parser" "worstToken" "I") ∈ lw_all := lw_g (lw_at lw_m1 208 rfl) rfl
theorem q321 : (Jvm.Cond.soleField "RatSorters$Parser" "worstToken") ∈ lw_all := lw_g (lw_at lw_m1 209 rfl) rfl
theorem q322 : (Jvm.Cond.superclass "RatSorters$Parser" "java/lang/Object") ∈ lw_all := lw_g (lw_at lw_m1 210 rfl) rfl
theorem q358 : (Jvm.Cond.fieldLink "RatSorters$Parser" (109 : Nat) "RatSorters$Text" "grains" "Ljava/util/ArrayList;") ∈ lw_all := lw_g (lw_at lw_m2 6 rfl) rfl
theorem q362 : (Jvm.Cond.fieldLink "RatSorters$Parser" (143 : Nat) "RatSorters$Text" "holes" "Ljava/util/ArrayList;") ∈ lw_all := lw_g (lw_at lw_m2 10 rfl) rfl
theorem q366 : (Jvm.Cond.fieldLink "RatSorters$Parser" (159 : Nat) "RatSorters$Text" "rats" "Ljava/util/ArrayList;") ∈ lw_all := lw_g (lw_at lw_m2 14 rfl) rfl
theorem q368 : (Jvm.Cond.fieldLink "RatSorters$Parser" (203 : Nat) "RatSorters$Text" "merchants" "Ljava/util/ArrayList;") ∈ lw_all := lw_g (lw_at lw_m2 16 rfl) rfl
theorem q372 : (Jvm.Cond.fieldLink "RatSorters$Parser" (194 : Nat) "RatSorters$Text" "lamp" "I") ∈ lw_all := lw_g (lw_at lw_m2 20 rfl) rfl
theorem q375 : (Jvm.Cond.fieldLink "RatSorters$Parser" (197 : Nat) "RatSorters$Text" "odd" "I") ∈ lw_all := lw_g (lw_at lw_m2 23 rfl) rfl
theorem q377 : (Jvm.Cond.fieldLink "RatSorters$Parser" (200 : Nat) "RatSorters$Text" "seed" "I") ∈ lw_all := lw_g (lw_at lw_m2 25 rfl) rfl
theorem q380 : (Jvm.Cond.fieldLink "RatSorters$Parser" (181 : Nat) "RatSorters$Text" "load" "LRatSorters$Law;") ∈ lw_all := lw_g (lw_at lw_m2 28 rfl) rfl
theorem q382 : (Jvm.Cond.fieldLink "RatSorters$Parser" (185 : Nat) "RatSorters$Text" "eats" "LRatSorters$Law;") ∈ lw_all := lw_g (lw_at lw_m2 30 rfl) rfl
theorem q384 : (Jvm.Cond.fieldLink "RatSorters$Parser" (188 : Nat) "RatSorters$Text" "errs" "LRatSorters$Law;") ∈ lw_all := lw_g (lw_at lw_m2 32 rfl) rfl
theorem q674 : (Jvm.Cond.instanceMethod ({ cls := "RatSorters$Parser", name := "read", desc := "()LRatSorters$Text;" } : Jvm.MethodName)) ∈ lw_all := lw_g (lw_at lw_m3 82 rfl) rfl
theorem q675 : (Jvm.Cond.selects "RatSorters$Parser" ({ cls := "RatSorters$Parser", name := "read", desc := "()LRatSorters$Text;" } : Jvm.MethodName) ({ cls := "RatSorters$Parser", name := "read", desc := "()LRatSorters$Text;" } : Jvm.MethodName)) ∈ lw_all := lw_g (lw_at lw_m3 83 rfl) rfl
theorem q676 : (Jvm.Cond.code ({ cls := "RatSorters$Parser", name := "read", desc := "()LRatSorters$Text;" } : Jvm.MethodName) prog_15_method_16_code (1 : Nat) (Option.some (Jvm.ClassFile.FieldType.object "RatSorters$Text"))) ∈ lw_all := lw_g (lw_at lw_m3 84 rfl) rfl
theorem q677 : (Jvm.Cond.methodLink "RatSorters$Parser" (95 : Nat) ({ cls := "RatSorters$Tokens", name := "read", desc := "()V" } : Jvm.MethodName)) ∈ lw_all := lw_g (lw_at lw_m3 85 rfl) rfl
theorem q751 : (Jvm.Cond.classLink "RatSorters$Parser" (87 : Nat) "RatSorters$Text") ∈ lw_all := lw_g (lw_at lw_m3 159 rfl) rfl
theorem q752 : (Jvm.Cond.methodLinkNest "RatSorters$Parser" (98 : Nat) ({ cls := "RatSorters$Text", name := "<init>", desc := "()V" } : Jvm.MethodName) "RatSorters") ∈ lw_tbl := lw_at lw_m3 160 rfl
theorem q753 : (Jvm.Cond.methodLink "RatSorters$Parser" (65 : Nat) ({ cls := "RatSorters$Parser", name := "sort", desc := "()I" } : Jvm.MethodName)) ∈ lw_all := lw_g (lw_at lw_m3 161 rfl) rfl
theorem q754 : (Jvm.Cond.privateMethod ({ cls := "RatSorters$Parser", name := "sort", desc := "()I" } : Jvm.MethodName)) ∈ lw_tbl := lw_at lw_m3 162 rfl
theorem q755 : (Jvm.Cond.instanceMethod ({ cls := "RatSorters$Parser", name := "sort", desc := "()I" } : Jvm.MethodName)) ∈ lw_all := lw_g (lw_at lw_m3 163 rfl) rfl
theorem q756 : (Jvm.Cond.code ({ cls := "RatSorters$Parser", name := "sort", desc := "()I" } : Jvm.MethodName) prog_15_method_5_code (1 : Nat) (Option.some Jvm.ClassFile.FieldType.int)) ∈ lw_all := lw_g (lw_at lw_m3 164 rfl) rfl
theorem q757 : (Jvm.Cond.methodLink "RatSorters$Parser" (48 : Nat) ({ cls := "RatSorters$Parser", name := "wrong", desc := "(I)LRatSorters$Fault;" } : Jvm.MethodName)) ∈ lw_all := lw_g (lw_at lw_m3 165 rfl) rfl
theorem q758 : (Jvm.Cond.privateMethod ({ cls := "RatSorters$Parser", name := "wrong", desc := "(I)LRatSorters$Fault;" } : Jvm.MethodName)) ∈ lw_tbl := lw_at lw_m3 166 rfl
theorem q759 : (Jvm.Cond.instanceMethod ({ cls := "RatSorters$Parser", name := "wrong", desc := "(I)LRatSorters$Fault;" } : Jvm.MethodName)) ∈ lw_all := lw_g (lw_at lw_m3 167 rfl) rfl
theorem q760 : (Jvm.Cond.code ({ cls := "RatSorters$Parser", name := "wrong", desc := "(I)LRatSorters$Fault;" } : Jvm.MethodName) prog_15_method_3_code (2 : Nat) (Option.some (Jvm.ClassFile.FieldType.object "RatSorters$Fault"))) ∈ lw_all := lw_g (lw_at lw_m3 168 rfl) rfl
theorem q761 : (Jvm.Cond.methodLink "RatSorters$Parser" (35 : Nat) ({ cls := "RatSorters$Parser", name := "wrongAt", desc := "(II)LRatSorters$Fault;" } : Jvm.MethodName)) ∈ lw_all := lw_g (lw_at lw_m3 169 rfl) rfl
theorem q762 : (Jvm.Cond.privateMethod ({ cls := "RatSorters$Parser", name := "wrongAt", desc := "(II)LRatSorters$Fault;" } : Jvm.MethodName)) ∈ lw_tbl := lw_at lw_m3 170 rfl
theorem q763 : (Jvm.Cond.instanceMethod ({ cls := "RatSorters$Parser", name := "wrongAt", desc := "(II)LRatSorters$Fault;" } : Jvm.MethodName)) ∈ lw_all := lw_g (lw_at lw_m3 171 rfl) rfl
theorem q764 : (Jvm.Cond.code ({ cls := "RatSorters$Parser", name := "wrongAt", desc := "(II)LRatSorters$Fault;" } : Jvm.MethodName) prog_15_method_2_code (3 : Nat) (Option.some (Jvm.ClassFile.FieldType.object "RatSorters$Fault"))) ∈ lw_all := lw_g (lw_at lw_m3 172 rfl) rfl
theorem q765 : (Jvm.Cond.methodLink "RatSorters$Parser" (25 : Nat) ({ cls := "RatSorters$Fault", name := "of", desc := "(II)LRatSorters$Fault;" } : Jvm.MethodName)) ∈ lw_all := lw_g (lw_at lw_m3 173 rfl) rfl
theorem q769 : (Jvm.Cond.methodLink "RatSorters$Parser" (102 : Nat) ({ cls := "RatSorters$Parser", name := "told", desc := "()V" } : Jvm.MethodName)) ∈ lw_all := lw_g (lw_at lw_m3 177 rfl) rfl
theorem q770 : (Jvm.Cond.privateMethod ({ cls := "RatSorters$Parser", name := "told", desc := "()V" } : Jvm.MethodName)) ∈ lw_tbl := lw_at lw_m3 178 rfl
theorem q771 : (Jvm.Cond.instanceMethod ({ cls := "RatSorters$Parser", name := "told", desc := "()V" } : Jvm.MethodName)) ∈ lw_all := lw_g (lw_at lw_m3 179 rfl) rfl
theorem q772 : (Jvm.Cond.code ({ cls := "RatSorters$Parser", name := "told", desc := "()V" } : Jvm.MethodName) prog_15_method_17_code (3 : Nat) (Option.none : Option Jvm.ClassFile.FieldType)) ∈ lw_all := lw_g (lw_at lw_m3 180 rfl) rfl
theorem q773 : (Jvm.Cond.methodLink "RatSorters$Parser" (113 : Nat) ({ cls := "java/util/ArrayList", name := "size", desc := "()I" } : Jvm.MethodName)) ∈ lw_all := lw_g (lw_at lw_m3 181 rfl) rfl
theorem q774 : (Jvm.Cond.methodLink "RatSorters$Parser" (118 : Nat) ({ cls := "RatSorters$Parser", name := "begins", desc := "(II)V" } : Jvm.MethodName)) ∈ lw_all := lw_g (lw_at lw_m3 182 rfl) rfl
theorem q775 : (Jvm.Cond.privateMethod ({ cls := "RatSorters$Parser", name := "begins", desc := "(II)V" } : Jvm.MethodName)) ∈ lw_tbl := lw_at lw_m3 183 rfl
theorem q776 : (Jvm.Cond.instanceMethod ({ cls := "RatSorters$Parser", name := "begins", desc := "(II)V" } : Jvm.MethodName)) ∈ lw_all := lw_g (lw_at lw_m3 184 rfl) rfl
theorem q777 : (Jvm.Cond.code ({ cls := "RatSorters$Parser", name := "begins", desc := "(II)V" } : Jvm.MethodName) prog_15_method_15_code (3 : Nat) (Option.none : Option Jvm.ClassFile.FieldType)) ∈ lw_all := lw_g (lw_at lw_m3 185 rfl) rfl
theorem q778 : (Jvm.Cond.methodLink "RatSorters$Parser" (59 : Nat) ({ cls := "RatSorters$Parser", name := "pass", desc := "()V" } : Jvm.MethodName)) ∈ lw_all := lw_g (lw_at lw_m3 186 rfl) rfl
theorem q779 : (Jvm.Cond.privateMethod ({ cls := "RatSorters$Parser", name := "pass", desc := "()V" } : Jvm.MethodName)) ∈ lw_tbl := lw_at lw_m3 187 rfl
theorem q780 : (Jvm.Cond.instanceMethod ({ cls := "RatSorters$Parser", name := "pass", desc := "()V" } : Jvm.MethodName)) ∈ lw_all := lw_g (lw_at lw_m3 188 rfl) rfl
theorem q781 : (Jvm.Cond.code ({ cls := "RatSorters$Parser", name := "pass", desc := "()V" } : Jvm.MethodName) prog_15_method_6_code (1 : Nat) (Option.none : Option Jvm.ClassFile.FieldType)) ∈ lw_all := lw_g (lw_at lw_m3 189 rfl) rfl
theorem q782 : (Jvm.Cond.classLink "RatSorters$Parser" (121 : Nat) "RatSorters$Grain") ∈ lw_all := lw_g (lw_at lw_m3 190 rfl) rfl
theorem q784 : (Jvm.Cond.methodLink "RatSorters$Parser" (123 : Nat) ({ cls := "RatSorters$Parser", name := "name", desc := "()Ljava/lang/String;" } : Jvm.MethodName)) ∈ lw_all := lw_g (lw_at lw_m3 192 rfl) rfl
theorem q785 : (Jvm.Cond.privateMethod ({ cls := "RatSorters$Parser", name := "name", desc := "()Ljava/lang/String;" } : Jvm.MethodName)) ∈ lw_tbl := lw_at lw_m3 193 rfl
theorem q786 : (Jvm.Cond.instanceMethod ({ cls := "RatSorters$Parser", name := "name", desc := "()Ljava/lang/String;" } : Jvm.MethodName)) ∈ lw_all := lw_g (lw_at lw_m3 194 rfl) rfl
theorem q787 : (Jvm.Cond.code ({ cls := "RatSorters$Parser", name := "name", desc := "()Ljava/lang/String;" } : Jvm.MethodName) prog_15_method_13_code (3 : Nat) (Option.some (Jvm.ClassFile.FieldType.object "java/lang/String"))) ∈ lw_all := lw_g (lw_at lw_m3 195 rfl) rfl
theorem q788 : (Jvm.Cond.methodLink "RatSorters$Parser" (68 : Nat) ({ cls := "RatSorters$Parser", name := "take", desc := "(I)I" } : Jvm.MethodName)) ∈ lw_all := lw_g (lw_at lw_m3 196 rfl) rfl
theorem q789 : (Jvm.Cond.privateMethod ({ cls := "RatSorters$Parser", name := "take", desc := "(I)I" } : Jvm.MethodName)) ∈ lw_tbl := lw_at lw_m3 197 rfl
theorem q790 : (Jvm.Cond.instanceMethod ({ cls := "RatSorters$Parser", name := "take", desc := "(I)I" } : Jvm.MethodName)) ∈ lw_all := lw_g (lw_at lw_m3 198 rfl) rfl
theorem q791 : (Jvm.Cond.code ({ cls := "RatSorters$Parser", name := "take", desc := "(I)I" } : Jvm.MethodName) prog_15_method_11_code (2 : Nat) (Option.some Jvm.ClassFile.FieldType.int)) ∈ lw_all := lw_g (lw_at lw_m3 199 rfl) rfl
theorem q792 : (Jvm.Cond.methodLink "RatSorters$Parser" (79 : Nat) ({ cls := "RatSorters$Tokens", name := "text", desc := "(I)Ljava/lang/String;" } : Jvm.MethodName)) ∈ lw_all := lw_g (lw_at lw_m3 200 rfl) rfl
theorem q958 : (Jvm.Cond.methodLink "RatSorters$Parser" (86 : Nat) ({ cls := "RatSorters$Text", name := "has", desc := "(Ljava/lang/String;)Z" } : Jvm.MethodName)) ∈ lw_all := lw_g (lw_at lw_m4 126 rfl) rfl
theorem q976 : (Jvm.Cond.methodLink "RatSorters$Parser" (75 : Nat) ({ cls := "RatSorters$Parser", name := "tell", desc := "(II)V" } : Jvm.MethodName)) ∈ lw_all := lw_g (lw_at lw_m4 144 rfl) rfl
theorem q977 : (Jvm.Cond.privateMethod ({ cls := "RatSorters$Parser", name := "tell", desc := "(II)V" } : Jvm.MethodName)) ∈ lw_tbl := lw_at lw_m4 145 rfl
theorem q978 : (Jvm.Cond.instanceMethod ({ cls := "RatSorters$Parser", name := "tell", desc := "(II)V" } : Jvm.MethodName)) ∈ lw_all := lw_g (lw_at lw_m4 146 rfl) rfl
theorem q979 : (Jvm.Cond.code ({ cls := "RatSorters$Parser", name := "tell", desc := "(II)V" } : Jvm.MethodName) prog_15_method_4_code (3 : Nat) (Option.none : Option Jvm.ClassFile.FieldType)) ∈ lw_all := lw_g (lw_at lw_m4 147 rfl) rfl
theorem q980 : (Jvm.Cond.methodLink "RatSorters$Parser" (127 : Nat) ({ cls := "RatSorters$Grain", name := "<init>", desc := "(Ljava/lang/String;)V" } : Jvm.MethodName)) ∈ lw_all := lw_g (lw_at lw_m4 148 rfl) rfl
theorem q988 : (Jvm.Cond.fieldLink "RatSorters$Parser" (133 : Nat) "RatSorters$Grain" "poured" "I") ∈ lw_all := lw_g (lw_at lw_m4 156 rfl) rfl
theorem q990 : (Jvm.Cond.fieldLink "RatSorters$Parser" (136 : Nat) "RatSorters$Grain" "pence" "I") ∈ lw_all := lw_g (lw_at lw_m4 158 rfl) rfl
theorem q1000 : (Jvm.Cond.methodLink "RatSorters$Parser" (130 : Nat) ({ cls := "RatSorters$Parser", name := "number", desc := "(II)I" } : Jvm.MethodName)) ∈ lw_all := lw_g (lw_at lw_m4 168 rfl) rfl
theorem q1001 : (Jvm.Cond.privateMethod ({ cls := "RatSorters$Parser", name := "number", desc := "(II)I" } : Jvm.MethodName)) ∈ lw_tbl := lw_at lw_m4 169 rfl
theorem q1002 : (Jvm.Cond.instanceMethod ({ cls := "RatSorters$Parser", name := "number", desc := "(II)I" } : Jvm.MethodName)) ∈ lw_all := lw_g (lw_at lw_m4 170 rfl) rfl
theorem q1003 : (Jvm.Cond.code ({ cls := "RatSorters$Parser", name := "number", desc := "(II)I" } : Jvm.MethodName) prog_15_method_12_code (5 : Nat) (Option.some Jvm.ClassFile.FieldType.int)) ∈ lw_all := lw_g (lw_at lw_m4 171 rfl) rfl
theorem q1004 : (Jvm.Cond.methodLink "RatSorters$Parser" (72 : Nat) ({ cls := "RatSorters$Tokens", name := "number", desc := "(I)I" } : Jvm.MethodName)) ∈ lw_all := lw_g (lw_at lw_m4 172 rfl) rfl
theorem q1008 : (Jvm.Cond.methodLink "RatSorters$Parser" (139 : Nat) ({ cls := "java/util/ArrayList", name := "add", desc := "(Ljava/lang/Object;)Z" } : Jvm.MethodName)) ∈ lw_all := lw_g (lw_at lw_m4 176 rfl) rfl
theorem q1044 : (Jvm.Cond.selects "RatSorters$Parser" ({ cls := "java/lang/Object", name := "getClass", desc := "()Ljava/lang/Class;" } : Jvm.MethodName) ({ cls := "java/lang/Object", name := "getClass", desc := "()Ljava/lang/Class;" } : Jvm.MethodName)) ∈ lw_all := lw_g (lw_at lw_m4 212 rfl) rfl
theorem q1063 : (Jvm.Cond.classLink "RatSorters$Parser" (146 : Nat) "RatSorters$Hole") ∈ lw_all := lw_g (lw_at lw_m4 231 rfl) rfl
theorem q1065 : (Jvm.Cond.methodLink "RatSorters$Parser" (148 : Nat) ({ cls := "RatSorters$Hole", name := "<init>", desc := "(Ljava/lang/String;)V" } : Jvm.MethodName)) ∈ lw_all := lw_g (lw_at lw_m4 233 rfl) rfl
theorem q1070 : (Jvm.Cond.fieldLink "RatSorters$Parser" (149 : Nat) "RatSorters$Hole" "far" "I") ∈ lw_all := lw_g (lw_at lw_m4 238 rfl) rfl
theorem q1072 : (Jvm.Cond.fieldLink "RatSorters$Parser" (156 : Nat) "RatSorters$Hole" "grain" "I") ∈ lw_all := lw_g (lw_at lw_m5 0 rfl) rfl
theorem q1080 : (Jvm.Cond.methodLink "RatSorters$Parser" (152 : Nat) ({ cls := "RatSorters$Parser", name := "known", desc := "(Ljava/util/ArrayList;)I" } : Jvm.MethodName)) ∈ lw_all := lw_g (lw_at lw_m5 8 rfl) rfl
theorem q1081 : (Jvm.Cond.privateMethod ({ cls := "RatSorters$Parser", name := "known", desc := "(Ljava/util/ArrayList;)I" } : Jvm.MethodName)) ∈ lw_tbl := lw_at lw_m5 9 rfl
theorem q1082 : (Jvm.Cond.instanceMethod ({ cls := "RatSorters$Parser", name := "known", desc := "(Ljava/util/ArrayList;)I" } : Jvm.MethodName)) ∈ lw_all := lw_g (lw_at lw_m5 10 rfl) rfl
theorem q1083 : (Jvm.Cond.code ({ cls := "RatSorters$Parser", name := "known", desc := "(Ljava/util/ArrayList;)I" } : Jvm.MethodName) prog_15_method_14_code (4 : Nat) (Option.some Jvm.ClassFile.FieldType.int)) ∈ lw_all := lw_g (lw_at lw_m5 11 rfl) rfl
theorem q1084 : (Jvm.Cond.methodLink "RatSorters$Parser" (92 : Nat) ({ cls := "RatSorters$Text", name := "at", desc := "(Ljava/util/ArrayList;Ljava/lang/String;)I" } : Jvm.MethodName)) ∈ lw_all := lw_g (lw_at lw_m5 12 rfl) rfl
theorem q1085 : (Jvm.Cond.classLink "RatSorters$Parser" (162 : Nat) "RatSorters$Rat") ∈ lw_all := lw_g (lw_at lw_m5 13 rfl) rfl
theorem q1087 : (Jvm.Cond.methodLink "RatSorters$Parser" (164 : Nat) ({ cls := "RatSorters$Rat", name := "<init>", desc := "(Ljava/lang/String;)V" } : Jvm.MethodName)) ∈ lw_all := lw_g (lw_at lw_m5 15 rfl) rfl
theorem q1092 : (Jvm.Cond.fieldLink "RatSorters$Parser" (165 : Nat) "RatSorters$Rat" "knows" "I") ∈ lw_all := lw_g (lw_at lw_m5 20 rfl) rfl
theorem q1094 : (Jvm.Cond.fieldLink "RatSorters$Parser" (168 : Nat) "RatSorters$Rat" "hole" "I") ∈ lw_all := lw_g (lw_at lw_m5 22 rfl) rfl
theorem q1096 : (Jvm.Cond.fieldLink "RatSorters$Parser" (171 : Nat) "RatSorters$Rat" "fat" "I") ∈ lw_all := lw_g (lw_at lw_m5 24 rfl) rfl
theorem q1097 : (Jvm.Cond.fieldLink "RatSorters$Parser" (174 : Nat) "RatSorters$Rat" "fee" "I") ∈ lw_all := lw_g (lw_at lw_m5 25 rfl) rfl
theorem q1109 : (Jvm.Cond.methodLink "RatSorters$Parser" (177 : Nat) ({ cls := "RatSorters$Parser", name := "law", desc := "()LRatSorters$Law;" } : Jvm.MethodName)) ∈ lw_all := lw_g (lw_at lw_m5 37 rfl) rfl
theorem q1110 : (Jvm.Cond.privateMethod ({ cls := "RatSorters$Parser", name := "law", desc := "()LRatSorters$Law;" } : Jvm.MethodName)) ∈ lw_tbl := lw_at lw_m5 38 rfl
theorem q1111 : (Jvm.Cond.instanceMethod ({ cls := "RatSorters$Parser", name := "law", desc := "()LRatSorters$Law;" } : Jvm.MethodName)) ∈ lw_all := lw_g (lw_at lw_m5 39 rfl) rfl
theorem q1112 : (Jvm.Cond.code ({ cls := "RatSorters$Parser", name := "law", desc := "()LRatSorters$Law;" } : Jvm.MethodName) prog_15_method_19_code (2 : Nat) (Option.some (Jvm.ClassFile.FieldType.object "RatSorters$Law"))) ∈ lw_all := lw_g (lw_at lw_m5 40 rfl) rfl
theorem q1113 : (Jvm.Cond.classLink "RatSorters$Parser" (222 : Nat) "RatSorters$Law") ∈ lw_all := lw_g (lw_at lw_m5 41 rfl) rfl
theorem q1115 : (Jvm.Cond.methodLinkNest "RatSorters$Parser" (224 : Nat) ({ cls := "RatSorters$Law", name := "<init>", desc := "()V" } : Jvm.MethodName) "RatSorters") ∈ lw_tbl := lw_at lw_m5 43 rfl
theorem q1122 : (Jvm.Cond.fieldLink "RatSorters$Parser" (228 : Nat) "RatSorters$Law" "less" "[LRatSorters$Sum;") ∈ lw_all := lw_g (lw_at lw_m5 50 rfl) rfl
theorem q1124 : (Jvm.Cond.fieldLink "RatSorters$Parser" (236 : Nat) "RatSorters$Law" "than" "[LRatSorters$Sum;") ∈ lw_all := lw_g (lw_at lw_m5 52 rfl) rfl
theorem q1126 : (Jvm.Cond.fieldLink "RatSorters$Parser" (242 : Nat) "RatSorters$Law" "then" "[LRatSorters$Sum;") ∈ lw_all := lw_g (lw_at lw_m5 54 rfl) rfl
theorem q1128 : (Jvm.Cond.fieldLink "RatSorters$Parser" (225 : Nat) "RatSorters$Law" "ifs" "I") ∈ lw_all := lw_g (lw_at lw_m5 56 rfl) rfl
theorem q1138 : (Jvm.Cond.methodLink "RatSorters$Parser" (105 : Nat) ({ cls := "RatSorters$Parser", name := "sign", desc := "(I)V" } : Jvm.MethodName)) ∈ lw_all := lw_g (lw_at lw_m5 66 rfl) rfl
theorem q1139 : (Jvm.Cond.privateMethod ({ cls := "RatSorters$Parser", name := "sign", desc := "(I)V" } : Jvm.MethodName)) ∈ lw_tbl := lw_at lw_m5 67 rfl
theorem q1140 : (Jvm.Cond.instanceMethod ({ cls := "RatSorters$Parser", name := "sign", desc := "(I)V" } : Jvm.MethodName)) ∈ lw_all := lw_g (lw_at lw_m5 68 rfl) rfl
theorem q1141 : (Jvm.Cond.code ({ cls := "RatSorters$Parser", name := "sign", desc := "(I)V" } : Jvm.MethodName) prog_15_method_9_code (2 : Nat) (Option.none : Option Jvm.ClassFile.FieldType)) ∈ lw_all := lw_g (lw_at lw_m5 69 rfl) rfl
theorem q1142 : (Jvm.Cond.methodLink "RatSorters$Parser" (55 : Nat) ({ cls := "RatSorters$Parser", name := "isSign", desc := "(I)Z" } : Jvm.MethodName)) ∈ lw_all := lw_g (lw_at lw_m5 70 rfl) rfl
theorem q1143 : (Jvm.Cond.privateMethod ({ cls := "RatSorters$Parser", name := "isSign", desc := "(I)Z" } : Jvm.MethodName)) ∈ lw_tbl := lw_at lw_m5 71 rfl
theorem q1144 : (Jvm.Cond.instanceMethod ({ cls := "RatSorters$Parser", name := "isSign", desc := "(I)Z" } : Jvm.MethodName)) ∈ lw_all := lw_g (lw_at lw_m5 72 rfl) rfl
theorem q1145 : (Jvm.Cond.code ({ cls := "RatSorters$Parser", name := "isSign", desc := "(I)Z" } : Jvm.MethodName) prog_15_method_7_code (2 : Nat) (Option.some Jvm.ClassFile.FieldType.boolean)) ∈ lw_all := lw_g (lw_at lw_m5 73 rfl) rfl
theorem q1146 : (Jvm.Cond.methodLink "RatSorters$Parser" (62 : Nat) ({ cls := "RatSorters$Parser", name := "isWord", desc := "(I)Z" } : Jvm.MethodName)) ∈ lw_all := lw_g (lw_at lw_m5 74 rfl) rfl
theorem q1147 : (Jvm.Cond.privateMethod ({ cls := "RatSorters$Parser", name := "isWord", desc := "(I)Z" } : Jvm.MethodName)) ∈ lw_tbl := lw_at lw_m5 75 rfl
theorem q1148 : (Jvm.Cond.instanceMethod ({ cls := "RatSorters$Parser", name := "isWord", desc := "(I)Z" } : Jvm.MethodName)) ∈ lw_all := lw_g (lw_at lw_m5 76 rfl) rfl
theorem q1149 : (Jvm.Cond.code ({ cls := "RatSorters$Parser", name := "isWord", desc := "(I)Z" } : Jvm.MethodName) prog_15_method_8_code (2 : Nat) (Option.some Jvm.ClassFile.FieldType.boolean)) ∈ lw_all := lw_g (lw_at lw_m5 77 rfl) rfl
theorem q1150 : (Jvm.Cond.methodLink "RatSorters$Parser" (232 : Nat) ({ cls := "RatSorters$Parser", name := "sum", desc := "()LRatSorters$Sum;" } : Jvm.MethodName)) ∈ lw_all := lw_g (lw_at lw_m5 78 rfl) rfl
theorem q1151 : (Jvm.Cond.privateMethod ({ cls := "RatSorters$Parser", name := "sum", desc := "()LRatSorters$Sum;" } : Jvm.MethodName)) ∈ lw_tbl := lw_at lw_m5 79 rfl
theorem q1152 : (Jvm.Cond.instanceMethod ({ cls := "RatSorters$Parser", name := "sum", desc := "()LRatSorters$Sum;" } : Jvm.MethodName)) ∈ lw_all := lw_g (lw_at lw_m5 80 rfl) rfl
theorem q1153 : (Jvm.Cond.code ({ cls := "RatSorters$Parser", name := "sum", desc := "()LRatSorters$Sum;" } : Jvm.MethodName) prog_15_method_20_code (3 : Nat) (Option.some (Jvm.ClassFile.FieldType.object "RatSorters$Sum"))) ∈ lw_all := lw_g (lw_at lw_m5 81 rfl) rfl
theorem q1154 : (Jvm.Cond.methodLink "RatSorters$Parser" (245 : Nat) ({ cls := "RatSorters$Parser", name := "part", desc := "()LRatSorters$Sum;" } : Jvm.MethodName)) ∈ lw_all := lw_g (lw_at lw_m5 82 rfl) rfl
theorem q1155 : (Jvm.Cond.privateMethod ({ cls := "RatSorters$Parser", name := "part", desc := "()LRatSorters$Sum;" } : Jvm.MethodName)) ∈ lw_tbl := lw_at lw_m5 83 rfl
theorem q1156 : (Jvm.Cond.instanceMethod ({ cls := "RatSorters$Parser", name := "part", desc := "()LRatSorters$Sum;" } : Jvm.MethodName)) ∈ lw_all := lw_g (lw_at lw_m5 84 rfl) rfl
theorem q1157 : (Jvm.Cond.code ({ cls := "RatSorters$Parser", name := "part", desc := "()LRatSorters$Sum;" } : Jvm.MethodName) prog_15_method_21_code (3 : Nat) (Option.some (Jvm.ClassFile.FieldType.object "RatSorters$Sum"))) ∈ lw_all := lw_g (lw_at lw_m5 85 rfl) rfl
theorem q1158 : (Jvm.Cond.methodLink "RatSorters$Parser" (253 : Nat) ({ cls := "RatSorters$Parser", name := "unit", desc := "()LRatSorters$Sum;" } : Jvm.MethodName)) ∈ lw_all := lw_g (lw_at lw_m5 86 rfl) rfl
theorem q1159 : (Jvm.Cond.privateMethod ({ cls := "RatSorters$Parser", name := "unit", desc := "()LRatSorters$Sum;" } : Jvm.MethodName)) ∈ lw_tbl := lw_at lw_m5 87 rfl
theorem q1160 : (Jvm.Cond.instanceMethod ({ cls := "RatSorters$Parser", name := "unit", desc := "()LRatSorters$Sum;" } : Jvm.MethodName)) ∈ lw_all := lw_g (lw_at lw_m5 88 rfl) rfl
theorem q1161 : (Jvm.Cond.code ({ cls := "RatSorters$Parser", name := "unit", desc := "()LRatSorters$Sum;" } : Jvm.MethodName) prog_15_method_22_code (2 : Nat) (Option.some (Jvm.ClassFile.FieldType.object "RatSorters$Sum"))) ∈ lw_all := lw_g (lw_at lw_m5 89 rfl) rfl
theorem q1162 : (Jvm.Cond.classLink "RatSorters$Parser" (256 : Nat) "RatSorters$Number") ∈ lw_all := lw_g (lw_at lw_m5 90 rfl) rfl
theorem q1164 : (Jvm.Cond.methodLink "RatSorters$Parser" (258 : Nat) ({ cls := "RatSorters$Number", name := "<init>", desc := "(I)V" } : Jvm.MethodName)) ∈ lw_all := lw_g (lw_at lw_m5 92 rfl) rfl
theorem q1175 : (Jvm.Cond.classLink "RatSorters$Parser" (260 : Nat) "RatSorters$Var") ∈ lw_all := lw_g (lw_at lw_m5 103 rfl) rfl
theorem q1177 : (Jvm.Cond.methodLink "RatSorters$Parser" (262 : Nat) ({ cls := "RatSorters$Var", name := "<init>", desc := "(I)V" } : Jvm.MethodName)) ∈ lw_all := lw_g (lw_at lw_m5 105 rfl) rfl
theorem q1185 : (Jvm.Cond.classLink "RatSorters$Parser" (248 : Nat) "RatSorters$Joined") ∈ lw_all := lw_g (lw_at lw_m5 113 rfl) rfl
theorem q1187 : (Jvm.Cond.methodLink "RatSorters$Parser" (250 : Nat) ({ cls := "RatSorters$Joined", name := "<init>", desc := "(ILRatSorters$Sum;LRatSorters$Sum;)V" } : Jvm.MethodName)) ∈ lw_all := lw_g (lw_at lw_m5 115 rfl) rfl
theorem q1201 : (Jvm.Cond.methodLink "RatSorters$Parser" (239 : Nat) ({ cls := "RatSorters$Parser", name := "word", desc := "(I)V" } : Jvm.MethodName)) ∈ lw_all := lw_g (lw_at lw_m5 129 rfl) rfl
theorem q1202 : (Jvm.Cond.privateMethod ({ cls := "RatSorters$Parser", name := "word", desc := "(I)V" } : Jvm.MethodName)) ∈ lw_tbl := lw_at lw_m5 130 rfl
theorem q1203 : (Jvm.Cond.instanceMethod ({ cls := "RatSorters$Parser", name := "word", desc := "(I)V" } : Jvm.MethodName)) ∈ lw_all := lw_g (lw_at lw_m5 131 rfl) rfl
theorem q1204 : (Jvm.Cond.code ({ cls := "RatSorters$Parser", name := "word", desc := "(I)V" } : Jvm.MethodName) prog_15_method_10_code (2 : Nat) (Option.none : Option Jvm.ClassFile.FieldType)) ∈ lw_all := lw_g (lw_at lw_m5 132 rfl) rfl
theorem q1205 : (Jvm.Cond.methodLink "RatSorters$Parser" (191 : Nat) ({ cls := "RatSorters$Parser", name := "wants", desc := "()V" } : Jvm.MethodName)) ∈ lw_all := lw_g (lw_at lw_m5 133 rfl) rfl
theorem q1206 : (Jvm.Cond.privateMethod ({ cls := "RatSorters$Parser", name := "wants", desc := "()V" } : Jvm.MethodName)) ∈ lw_tbl := lw_at lw_m5 134 rfl
theorem q1207 : (Jvm.Cond.instanceMethod ({ cls := "RatSorters$Parser", name := "wants", desc := "()V" } : Jvm.MethodName)) ∈ lw_all := lw_g (lw_at lw_m5 135 rfl) rfl
theorem q1208 : (Jvm.Cond.code ({ cls := "RatSorters$Parser", name := "wants", desc := "()V" } : Jvm.MethodName) prog_15_method_18_code (4 : Nat) (Option.none : Option Jvm.ClassFile.FieldType)) ∈ lw_all := lw_g (lw_at lw_m5 136 rfl) rfl
theorem q1209 : (Jvm.Cond.classLink "RatSorters$Parser" (206 : Nat) "RatSorters$Merchant") ∈ lw_all := lw_g (lw_at lw_m5 137 rfl) rfl
theorem q1211 : (Jvm.Cond.methodLinkNest "RatSorters$Parser" (208 : Nat) ({ cls := "RatSorters$Merchant", name := "<init>", desc := "()V" } : Jvm.MethodName) "RatSorters") ∈ lw_tbl := lw_at lw_m5 139 rfl
theorem q1216 : (Jvm.Cond.fieldLink "RatSorters$Parser" (216 : Nat) "RatSorters$Merchant" "grain" "[I") ∈ lw_all := lw_g (lw_at lw_m5 144 rfl) rfl
theorem q1219 : (Jvm.Cond.fieldLink "RatSorters$Parser" (219 : Nat) "RatSorters$Merchant" "much" "[I") ∈ lw_all := lw_g (lw_at lw_m5 147 rfl) rfl
theorem q1221 : (Jvm.Cond.fieldLink "RatSorters$Parser" (209 : Nat) "RatSorters$Merchant" "pays" "I") ∈ lw_all := lw_g (lw_at lw_m5 149 rfl) rfl
theorem q1224 : (Jvm.Cond.fieldLink "RatSorters$Parser" (212 : Nat) "RatSorters$Merchant" "wants" "I") ∈ lw_all := lw_g (lw_at lw_m5 152 rfl) rfl
theorem q1235 : (Jvm.Cond.methodLink "RatSorters$Parser" (214 : Nat) ({ cls := "RatSorters$Merchant", name := "has", desc := "(I)Z" } : Jvm.MethodName)) ∈ lw_all := lw_g (lw_at lw_m5 163 rfl) rfl
theorem q2273 : (Jvm.Cond.castable "RatSorters$Parser" "java/lang/Object") ∈ lw_tbl := lw_at lw_m10 1 rfl
theorem in_X3 : ∀ w ∈ wsX30, w ∈ lw_all := lw_in wsX30 [308, 310, 312, 314, 316, 318, 320] (by decide +kernel) (by decide +kernel)
