/-! RatSorters$Fault -/
set_option maxRecDepth 100000
def RX1 : String := "RatSorters$Fault"
def TX1 : u_T := fun k => match k with
  | 0 => ("java/lang/Throwable", "cause", "Ljava/lang/Throwable;", false)
  | 1 => ("java/lang/Throwable", "stackTrace", "[Ljava/lang/StackTraceElement;", false)
  | 2 => ("java/lang/Throwable", "suppressedExceptions", "Ljava/util/List;", false)
  | 3 => ("java/lang/Throwable", "detailMessage", "Ljava/lang/String;", false)
  | 4 => ("java/lang/Throwable", "backtrace", "Ljava/lang/Object;", false)
  | 5 => ("java/lang/Throwable", "depth", "I", false)
  | 6 => ("RatSorters$Fault", "number", "I", false)
  | _ => ("RatSorters$Fault", "place", "I", false)
def tyX1 : Nat → FieldType := fun k => match k with
  | 0 => .object "java/lang/Throwable"
  | 1 => .array (.object "java/lang/StackTraceElement")
  | 2 => .object "java/util/List"
  | 3 => .object "java/lang/String"
  | 4 => .object "java/lang/Object"
  | 5 => .int
  | 6 => .int
  | _ => .int
abbrev wsX10 : List Cond := u_ws RX1 TX1 8
theorem nmX1 : ∀ a, a < 8 → ∀ b, b < 8 → a ≠ b → (TX1 a).2.1 ≠ (TX1 b).2.1 := by decide +kernel
theorem tyX1_ok : ∀ k, k < 8 → parseFieldDescriptor (TX1 k).2.2.1 = some (tyX1 k) := by decide +kernel
abbrev cX1_init : ByteArray := prog_4_method_1_code
def yX1_init : MethodName := ⟨RX1, "<init>", "()V"⟩
def dkwX1_init_0 : List UInt8 := [42, 18, 1, 1, 3, 3, 183, 0, 3, 177]
abbrev dktX1_init_0 : List UInt8 := dkwX1_init_0 ++ []
theorem dksX1_init_0 : cX1_init.data.toList.drop 0 = dktX1_init_0 := by decide +kernel
theorem dX1_init_0 : decode cX1_init 0 = .ok (.aload_n 0, 1) := dk_42 (dk_at dksX1_init_0 0 rfl rfl)
theorem dX1_init_1 : decode cX1_init 1 = .ok (.ldc 1, 2) := dk_18 1 (dk_at dksX1_init_0 1 rfl rfl)
theorem dX1_init_3 : decode cX1_init 3 = .ok (.aconst_null, 1) := dk_1 (dk_at dksX1_init_0 3 rfl rfl)
theorem dX1_init_4 : decode cX1_init 4 = .ok (.iconst 0, 1) := dk_3 (dk_at dksX1_init_0 4 rfl rfl)
theorem dX1_init_5 : decode cX1_init 5 = .ok (.iconst 0, 1) := dk_3 (dk_at dksX1_init_0 5 rfl rfl)
theorem dX1_init_6 : decode cX1_init 6 = .ok (.invokespecial 3, 3) := dk_183 0 3 (dk_at dksX1_init_0 6 rfl rfl)
theorem dX1_init_9 : decode cX1_init 9 = .ok (.return_, 1) := dk_177 (dk_at dksX1_init_0 9 rfl rfl)
abbrev cX1_of : ByteArray := prog_4_method_2_code
def yX1_of : MethodName := ⟨RX1, "of", "(II)LRatSorters$Fault;"⟩
def dkwX1_of_0 : List UInt8 := [42, 27, 181, 0, 9, 42, 28, 181, 0, 15, 42, 176]
abbrev dktX1_of_0 : List UInt8 := dkwX1_of_0 ++ []
theorem dksX1_of_0 : cX1_of.data.toList.drop 0 = dktX1_of_0 := by decide +kernel
theorem dX1_of_0 : decode cX1_of 0 = .ok (.aload_n 0, 1) := dk_42 (dk_at dksX1_of_0 0 rfl rfl)
theorem dX1_of_1 : decode cX1_of 1 = .ok (.iload_n 1, 1) := dk_27 (dk_at dksX1_of_0 1 rfl rfl)
theorem dX1_of_2 : decode cX1_of 2 = .ok (.putfield 9, 3) := dk_181 0 9 (dk_at dksX1_of_0 2 rfl rfl)
theorem dX1_of_5 : decode cX1_of 5 = .ok (.aload_n 0, 1) := dk_42 (dk_at dksX1_of_0 5 rfl rfl)
theorem dX1_of_6 : decode cX1_of 6 = .ok (.iload_n 2, 1) := dk_28 (dk_at dksX1_of_0 6 rfl rfl)
theorem dX1_of_7 : decode cX1_of 7 = .ok (.putfield 15, 3) := dk_181 0 15 (dk_at dksX1_of_0 7 rfl rfl)
theorem dX1_of_10 : decode cX1_of 10 = .ok (.aload_n 0, 1) := dk_42 (dk_at dksX1_of_0 10 rfl rfl)
theorem dX1_of_11 : decode cX1_of 11 = .ok (.areturn, 1) := dk_176 (dk_at dksX1_of_0 11 rfl rfl)
theorem q117 : (Jvm.Cond.initialized "RatSorters$Fault") ∈ lw_all := lw_g (lw_at lw_m1 5 rfl) rfl
theorem q163 : (Jvm.Cond.instantiable "RatSorters$Fault" (8 : Nat)) ∈ lw_all := lw_g (lw_at lw_m1 51 rfl) rfl
theorem q164 : (Jvm.Cond.castable "RatSorters$Fault" "RatSorters$Fault") ∈ lw_tbl := lw_at lw_m1 52 rfl
theorem q171 : (Jvm.Cond.selects "RatSorters$Fault" ({ cls := "java/lang/Throwable", name := "fillInStackTrace", desc := "(I)Ljava/lang/Throwable;" } : Jvm.MethodName) ({ cls := "java/lang/Throwable", name := "fillInStackTrace", desc := "(I)Ljava/lang/Throwable;" } : Jvm.MethodName)) ∈ lw_all := lw_g (lw_at lw_m1 59 rfl) rfl
theorem q172 : (Jvm.Cond.selects "RatSorters$Fault" ({ cls := "java/lang/Throwable", name := "fillInStackTrace", desc := "()Ljava/lang/Throwable;" } : Jvm.MethodName) ({ cls := "java/lang/Throwable", name := "fillInStackTrace", desc := "()Ljava/lang/Throwable;" } : Jvm.MethodName)) ∈ lw_all := lw_g (lw_at lw_m1 60 rfl) rfl
theorem q173 : (Jvm.Cond.lays "RatSorters$Fault" "java/lang/Throwable" "cause" "Ljava/lang/Throwable;") ∈ lw_all := lw_g (lw_at lw_m1 61 rfl) rfl
theorem q175 : (Jvm.Cond.lays "RatSorters$Fault" "java/lang/Throwable" "stackTrace" "[Ljava/lang/StackTraceElement;") ∈ lw_all := lw_g (lw_at lw_m1 63 rfl) rfl
theorem q177 : (Jvm.Cond.lays "RatSorters$Fault" "java/lang/Throwable" "suppressedExceptions" "Ljava/util/List;") ∈ lw_all := lw_g (lw_at lw_m1 65 rfl) rfl
theorem q179 : (Jvm.Cond.lays "RatSorters$Fault" "java/lang/Throwable" "detailMessage" "Ljava/lang/String;") ∈ lw_all := lw_g (lw_at lw_m1 67 rfl) rfl
theorem q181 : (Jvm.Cond.lays "RatSorters$Fault" "java/lang/Throwable" "backtrace" "Ljava/lang/Object;") ∈ lw_all := lw_g (lw_at lw_m1 69 rfl) rfl
theorem q202 : (Jvm.Cond.instanceMethod ({ cls := "RatSorters$Fault", name := "<init>", desc := "()V" } : Jvm.MethodName)) ∈ lw_all := lw_g (lw_at lw_m1 90 rfl) rfl
theorem q203 : (Jvm.Cond.code ({ cls := "RatSorters$Fault", name := "<init>", desc := "()V" } : Jvm.MethodName) prog_4_method_1_code (1 : Nat) (Option.none : Option Jvm.ClassFile.FieldType)) ∈ lw_all := lw_g (lw_at lw_m1 91 rfl) rfl
theorem q204 : (Jvm.Cond.stringRef "RatSorters$Fault" (1 : Nat) "") ∈ lw_tbl := lw_at lw_m1 92 rfl
theorem q205 : (Jvm.Cond.methodLink "RatSorters$Fault" (3 : Nat) ({ cls := "java/lang/RuntimeException", name := "<init>", desc := "(Ljava/lang/String;Ljava/lang/Throwable;ZZ)V" } : Jvm.MethodName)) ∈ lw_all := lw_g (lw_at lw_m1 93 rfl) rfl
theorem q214 : (Jvm.Cond.fieldLink "RatSorters$Fault" (9 : Nat) "RatSorters$Fault" "number" "I") ∈ lw_all := lw_g (lw_at lw_m1 102 rfl) rfl
theorem q216 : (Jvm.Cond.fieldLink "RatSorters$Fault" (15 : Nat) "RatSorters$Fault" "place" "I") ∈ lw_all := lw_g (lw_at lw_m1 104 rfl) rfl
theorem q223 : (Jvm.Cond.lays "RatSorters$Fault" "RatSorters$Fault" "number" "I") ∈ lw_all := lw_g (lw_at lw_m1 111 rfl) rfl
theorem q224 : (Jvm.Cond.soleField "RatSorters$Fault" "number") ∈ lw_all := lw_g (lw_at lw_m1 112 rfl) rfl
theorem q225 : (Jvm.Cond.lays "RatSorters$Fault" "RatSorters$Fault" "place" "I") ∈ lw_all := lw_g (lw_at lw_m1 113 rfl) rfl
theorem q226 : (Jvm.Cond.soleField "RatSorters$Fault" "place") ∈ lw_all := lw_g (lw_at lw_m1 114 rfl) rfl
theorem q231 : (Jvm.Cond.lays "RatSorters$Fault" "java/lang/Throwable" "depth" "I") ∈ lw_all := lw_g (lw_at lw_m1 119 rfl) rfl
theorem q234 : (Jvm.Cond.superclass "RatSorters$Fault" "java/lang/RuntimeException") ∈ lw_all := lw_g (lw_at lw_m1 122 rfl) rfl
theorem q766 : (Jvm.Cond.instanceMethod ({ cls := "RatSorters$Fault", name := "of", desc := "(II)LRatSorters$Fault;" } : Jvm.MethodName)) ∈ lw_all := lw_g (lw_at lw_m3 174 rfl) rfl
theorem q767 : (Jvm.Cond.selects "RatSorters$Fault" ({ cls := "RatSorters$Fault", name := "of", desc := "(II)LRatSorters$Fault;" } : Jvm.MethodName) ({ cls := "RatSorters$Fault", name := "of", desc := "(II)LRatSorters$Fault;" } : Jvm.MethodName)) ∈ lw_all := lw_g (lw_at lw_m3 175 rfl) rfl
theorem q768 : (Jvm.Cond.code ({ cls := "RatSorters$Fault", name := "of", desc := "(II)LRatSorters$Fault;" } : Jvm.MethodName) prog_4_method_2_code (3 : Nat) (Option.some (Jvm.ClassFile.FieldType.object "RatSorters$Fault"))) ∈ lw_all := lw_g (lw_at lw_m3 176 rfl) rfl
theorem q1034 : (Jvm.Cond.selects "RatSorters$Fault" ({ cls := "java/lang/Object", name := "getClass", desc := "()Ljava/lang/Class;" } : Jvm.MethodName) ({ cls := "java/lang/Object", name := "getClass", desc := "()Ljava/lang/Class;" } : Jvm.MethodName)) ∈ lw_all := lw_g (lw_at lw_m4 202 rfl) rfl
theorem q2271 : (Jvm.Cond.castable "RatSorters$Fault" "java/lang/Object") ∈ lw_tbl := lw_at lw_m9 239 rfl
theorem in_X1 : ∀ w ∈ wsX10, w ∈ lw_all := lw_in wsX10 [173, 175, 177, 179, 181, 231, 223, 225] (by decide +kernel) (by decide +kernel)
/-! RatSorters$Text -/
set_option maxRecDepth 100000
def RX4 : String := "RatSorters$Text"
def TX4 : u_T := fun k => match k with
  | 0 => ("RatSorters$Text", "grains", "Ljava/util/ArrayList;", true)
  | 1 => ("RatSorters$Text", "holes", "Ljava/util/ArrayList;", true)
  | 2 => ("RatSorters$Text", "rats", "Ljava/util/ArrayList;", true)
  | 3 => ("RatSorters$Text", "merchants", "Ljava/util/ArrayList;", true)
  | 4 => ("RatSorters$Text", "lamp", "I", false)
  | 5 => ("RatSorters$Text", "odd", "I", false)
  | 6 => ("RatSorters$Text", "seed", "I", false)
  | 7 => ("RatSorters$Text", "load", "LRatSorters$Law;", false)
  | 8 => ("RatSorters$Text", "eats", "LRatSorters$Law;", false)
  | _ => ("RatSorters$Text", "errs", "LRatSorters$Law;", false)
def tyX4 : Nat → FieldType := fun k => match k with
  | 0 => .object "java/util/ArrayList"
  | 1 => .object "java/util/ArrayList"
  | 2 => .object "java/util/ArrayList"
  | 3 => .object "java/util/ArrayList"
  | 4 => .int
  | 5 => .int
  | 6 => .int
  | 7 => .object "RatSorters$Law"
  | 8 => .object "RatSorters$Law"
  | _ => .object "RatSorters$Law"
abbrev wsX40 : List Cond := u_ws RX4 TX4 10
theorem nmX4 : ∀ a, a < 10 → ∀ b, b < 10 → a ≠ b → (TX4 a).2.1 ≠ (TX4 b).2.1 := by decide +kernel
theorem tyX4_ok : ∀ k, k < 10 → parseFieldDescriptor (TX4 k).2.2.1 = some (tyX4 k) := by decide +kernel
abbrev cX4_init : ByteArray := prog_19_method_1_code
def yX4_init : MethodName := ⟨RX4, "<init>", "()V"⟩
def dkwX4_init_2 : List UInt8 := [181, 0, 24, 42, 17, 39, 15, 181, 0, 27, 42, 16, 50, 181, 0, 31, 177]
abbrev dktX4_init_2 : List UInt8 := dkwX4_init_2 ++ []
def dkwX4_init_1 : List UInt8 := [181, 0, 18, 42, 187, 0, 9, 89, 183, 0, 11, 181, 0, 21, 42, 187, 0, 9, 89, 183, 0, 11]
abbrev dktX4_init_1 : List UInt8 := dkwX4_init_1 ++ dktX4_init_2
def dkwX4_init_0 : List UInt8 := [42, 183, 0, 3, 42, 187, 0, 9, 89, 183, 0, 11, 181, 0, 12, 42, 187, 0, 9, 89, 183, 0, 11]
abbrev dktX4_init_0 : List UInt8 := dkwX4_init_0 ++ dktX4_init_1
theorem dksX4_init_0 : cX4_init.data.toList.drop 0 = dktX4_init_0 := by decide +kernel
theorem dksX4_init_1 : cX4_init.data.toList.drop 23 = dktX4_init_1 := dk_seg dksX4_init_0 23 rfl rfl
theorem dksX4_init_2 : cX4_init.data.toList.drop 45 = dktX4_init_2 := dk_seg dksX4_init_1 22 rfl rfl
theorem dX4_init_0 : decode cX4_init 0 = .ok (.aload_n 0, 1) := dk_42 (dk_at dksX4_init_0 0 rfl rfl)
theorem dX4_init_1 : decode cX4_init 1 = .ok (.invokespecial 3, 3) := dk_183 0 3 (dk_at dksX4_init_0 1 rfl rfl)
theorem dX4_init_4 : decode cX4_init 4 = .ok (.aload_n 0, 1) := dk_42 (dk_at dksX4_init_0 4 rfl rfl)
theorem dX4_init_5 : decode cX4_init 5 = .ok (.new 9, 3) := dk_187 0 9 (dk_at dksX4_init_0 5 rfl rfl)
theorem dX4_init_8 : decode cX4_init 8 = .ok (.dup, 1) := dk_89 (dk_at dksX4_init_0 8 rfl rfl)
theorem dX4_init_9 : decode cX4_init 9 = .ok (.invokespecial 11, 3) := dk_183 0 11 (dk_at dksX4_init_0 9 rfl rfl)
theorem dX4_init_12 : decode cX4_init 12 = .ok (.putfield 12, 3) := dk_181 0 12 (dk_at dksX4_init_0 12 rfl rfl)
theorem dX4_init_15 : decode cX4_init 15 = .ok (.aload_n 0, 1) := dk_42 (dk_at dksX4_init_0 15 rfl rfl)
theorem dX4_init_16 : decode cX4_init 16 = .ok (.new 9, 3) := dk_187 0 9 (dk_at dksX4_init_0 16 rfl rfl)
theorem dX4_init_19 : decode cX4_init 19 = .ok (.dup, 1) := dk_89 (dk_at dksX4_init_0 19 rfl rfl)
theorem dX4_init_20 : decode cX4_init 20 = .ok (.invokespecial 11, 3) := dk_183 0 11 (dk_at dksX4_init_0 20 rfl rfl)
theorem dX4_init_23 : decode cX4_init 23 = .ok (.putfield 18, 3) := dk_181 0 18 (dk_at dksX4_init_1 0 rfl rfl)
theorem dX4_init_26 : decode cX4_init 26 = .ok (.aload_n 0, 1) := dk_42 (dk_at dksX4_init_1 3 rfl rfl)
theorem dX4_init_27 : decode cX4_init 27 = .ok (.new 9, 3) := dk_187 0 9 (dk_at dksX4_init_1 4 rfl rfl)
theorem dX4_init_30 : decode cX4_init 30 = .ok (.dup, 1) := dk_89 (dk_at dksX4_init_1 7 rfl rfl)
theorem dX4_init_31 : decode cX4_init 31 = .ok (.invokespecial 11, 3) := dk_183 0 11 (dk_at dksX4_init_1 8 rfl rfl)
theorem dX4_init_34 : decode cX4_init 34 = .ok (.putfield 21, 3) := dk_181 0 21 (dk_at dksX4_init_1 11 rfl rfl)
theorem dX4_init_37 : decode cX4_init 37 = .ok (.aload_n 0, 1) := dk_42 (dk_at dksX4_init_1 14 rfl rfl)
theorem dX4_init_38 : decode cX4_init 38 = .ok (.new 9, 3) := dk_187 0 9 (dk_at dksX4_init_1 15 rfl rfl)
theorem dX4_init_41 : decode cX4_init 41 = .ok (.dup, 1) := dk_89 (dk_at dksX4_init_1 18 rfl rfl)
theorem dX4_init_42 : decode cX4_init 42 = .ok (.invokespecial 11, 3) := dk_183 0 11 (dk_at dksX4_init_1 19 rfl rfl)
theorem dX4_init_45 : decode cX4_init 45 = .ok (.putfield 24, 3) := dk_181 0 24 (dk_at dksX4_init_2 0 rfl rfl)
theorem dX4_init_48 : decode cX4_init 48 = .ok (.aload_n 0, 1) := dk_42 (dk_at dksX4_init_2 3 rfl rfl)
theorem dX4_init_49 : decode cX4_init 49 = .ok (.sipush 9999, 3) := dk_17 39 15 (dk_at dksX4_init_2 4 rfl rfl)
theorem dX4_init_52 : decode cX4_init 52 = .ok (.putfield 27, 3) := dk_181 0 27 (dk_at dksX4_init_2 7 rfl rfl)
theorem dX4_init_55 : decode cX4_init 55 = .ok (.aload_n 0, 1) := dk_42 (dk_at dksX4_init_2 10 rfl rfl)
theorem dX4_init_56 : decode cX4_init 56 = .ok (.bipush 50, 2) := dk_16 50 (dk_at dksX4_init_2 11 rfl rfl)
theorem dX4_init_58 : decode cX4_init 58 = .ok (.putfield 31, 3) := dk_181 0 31 (dk_at dksX4_init_2 13 rfl rfl)
theorem dX4_init_61 : decode cX4_init 61 = .ok (.return_, 1) := dk_177 (dk_at dksX4_init_2 16 rfl rfl)
abbrev cX4_has : ByteArray := prog_19_method_3_code
def yX4_has : MethodName := ⟨RX4, "has", "(Ljava/lang/String;)Z"⟩
def dkwX4_has_1 : List UInt8 := [180, 0, 21, 43, 184, 0, 54, 155, 0, 7, 4, 167, 0, 4, 3, 172]
abbrev dktX4_has_1 : List UInt8 := dkwX4_has_1 ++ []
def dkwX4_has_0 : List UInt8 := [42, 180, 0, 12, 43, 184, 0, 54, 156, 0, 25, 42, 180, 0, 18, 43, 184, 0, 54, 156, 0, 14, 42]
abbrev dktX4_has_0 : List UInt8 := dkwX4_has_0 ++ dktX4_has_1
theorem dksX4_has_0 : cX4_has.data.toList.drop 0 = dktX4_has_0 := by decide +kernel
theorem dksX4_has_1 : cX4_has.data.toList.drop 23 = dktX4_has_1 := dk_seg dksX4_has_0 23 rfl rfl
theorem dX4_has_0 : decode cX4_has 0 = .ok (.aload_n 0, 1) := dk_42 (dk_at dksX4_has_0 0 rfl rfl)
theorem dX4_has_1 : decode cX4_has 1 = .ok (.getfield 12, 3) := dk_180 0 12 (dk_at dksX4_has_0 1 rfl rfl)
theorem dX4_has_4 : decode cX4_has 4 = .ok (.aload_n 1, 1) := dk_43 (dk_at dksX4_has_0 4 rfl rfl)
theorem dX4_has_5 : decode cX4_has 5 = .ok (.invokestatic 54, 3) := dk_184 0 54 (dk_at dksX4_has_0 5 rfl rfl)
theorem dX4_has_8 : decode cX4_has 8 = .ok (.ifCond .ge 25, 3) := dk_156 0 25 (dk_at dksX4_has_0 8 rfl rfl)
theorem dX4_has_11 : decode cX4_has 11 = .ok (.aload_n 0, 1) := dk_42 (dk_at dksX4_has_0 11 rfl rfl)
theorem dX4_has_12 : decode cX4_has 12 = .ok (.getfield 18, 3) := dk_180 0 18 (dk_at dksX4_has_0 12 rfl rfl)
theorem dX4_has_15 : decode cX4_has 15 = .ok (.aload_n 1, 1) := dk_43 (dk_at dksX4_has_0 15 rfl rfl)
theorem dX4_has_16 : decode cX4_has 16 = .ok (.invokestatic 54, 3) := dk_184 0 54 (dk_at dksX4_has_0 16 rfl rfl)
theorem dX4_has_19 : decode cX4_has 19 = .ok (.ifCond .ge 14, 3) := dk_156 0 14 (dk_at dksX4_has_0 19 rfl rfl)
theorem dX4_has_22 : decode cX4_has 22 = .ok (.aload_n 0, 1) := dk_42 (dk_at dksX4_has_0 22 rfl rfl)
theorem dX4_has_23 : decode cX4_has 23 = .ok (.getfield 21, 3) := dk_180 0 21 (dk_at dksX4_has_1 0 rfl rfl)
theorem dX4_has_26 : decode cX4_has 26 = .ok (.aload_n 1, 1) := dk_43 (dk_at dksX4_has_1 3 rfl rfl)
theorem dX4_has_27 : decode cX4_has 27 = .ok (.invokestatic 54, 3) := dk_184 0 54 (dk_at dksX4_has_1 4 rfl rfl)
theorem dX4_has_30 : decode cX4_has 30 = .ok (.ifCond .lt 7, 3) := dk_155 0 7 (dk_at dksX4_has_1 7 rfl rfl)
theorem dX4_has_33 : decode cX4_has 33 = .ok (.iconst 1, 1) := dk_4 (dk_at dksX4_has_1 10 rfl rfl)
theorem dX4_has_34 : decode cX4_has 34 = .ok (.goto 4, 3) := dk_167 0 4 (dk_at dksX4_has_1 11 rfl rfl)
theorem dX4_has_37 : decode cX4_has 37 = .ok (.iconst 0, 1) := dk_3 (dk_at dksX4_has_1 14 rfl rfl)
theorem dX4_has_38 : decode cX4_has 38 = .ok (.ireturn, 1) := dk_172 (dk_at dksX4_has_1 15 rfl rfl)
abbrev cX4_at : ByteArray := prog_19_method_2_code
def yX4_at : MethodName := ⟨RX4, "at", "(Ljava/util/ArrayList;Ljava/lang/String;)I"⟩
def dkwX4_at_1 : List UInt8 := [182, 0, 48, 153, 0, 5, 28, 172, 132, 2, 1, 167, 255, 225, 2, 172]
abbrev dktX4_at_1 : List UInt8 := dkwX4_at_1 ++ []
def dkwX4_at_0 : List UInt8 := [3, 61, 28, 42, 182, 0, 34, 162, 0, 29, 42, 28, 182, 0, 38, 192, 0, 42, 180, 0, 44, 43]
abbrev dktX4_at_0 : List UInt8 := dkwX4_at_0 ++ dktX4_at_1
theorem dksX4_at_0 : cX4_at.data.toList.drop 0 = dktX4_at_0 := by decide +kernel
theorem dksX4_at_1 : cX4_at.data.toList.drop 22 = dktX4_at_1 := dk_seg dksX4_at_0 22 rfl rfl
theorem dX4_at_0 : decode cX4_at 0 = .ok (.iconst 0, 1) := dk_3 (dk_at dksX4_at_0 0 rfl rfl)
theorem dX4_at_1 : decode cX4_at 1 = .ok (.istore_n 2, 1) := dk_61 (dk_at dksX4_at_0 1 rfl rfl)
theorem dX4_at_2 : decode cX4_at 2 = .ok (.iload_n 2, 1) := dk_28 (dk_at dksX4_at_0 2 rfl rfl)
theorem dX4_at_3 : decode cX4_at 3 = .ok (.aload_n 0, 1) := dk_42 (dk_at dksX4_at_0 3 rfl rfl)
theorem dX4_at_4 : decode cX4_at 4 = .ok (.invokevirtual 34, 3) := dk_182 0 34 (dk_at dksX4_at_0 4 rfl rfl)
theorem dX4_at_7 : decode cX4_at 7 = .ok (.if_icmp .ge 29, 3) := dk_162 0 29 (dk_at dksX4_at_0 7 rfl rfl)
theorem dX4_at_10 : decode cX4_at 10 = .ok (.aload_n 0, 1) := dk_42 (dk_at dksX4_at_0 10 rfl rfl)
theorem dX4_at_11 : decode cX4_at 11 = .ok (.iload_n 2, 1) := dk_28 (dk_at dksX4_at_0 11 rfl rfl)
theorem dX4_at_12 : decode cX4_at 12 = .ok (.invokevirtual 38, 3) := dk_182 0 38 (dk_at dksX4_at_0 12 rfl rfl)
theorem dX4_at_15 : decode cX4_at 15 = .ok (.checkcast 42, 3) := dk_192 0 42 (dk_at dksX4_at_0 15 rfl rfl)
theorem dX4_at_18 : decode cX4_at 18 = .ok (.getfield 44, 3) := dk_180 0 44 (dk_at dksX4_at_0 18 rfl rfl)
theorem dX4_at_21 : decode cX4_at 21 = .ok (.aload_n 1, 1) := dk_43 (dk_at dksX4_at_0 21 rfl rfl)
theorem dX4_at_22 : decode cX4_at 22 = .ok (.invokevirtual 48, 3) := dk_182 0 48 (dk_at dksX4_at_1 0 rfl rfl)
theorem dX4_at_25 : decode cX4_at 25 = .ok (.ifCond .eq 5, 3) := dk_153 0 5 (dk_at dksX4_at_1 3 rfl rfl)
theorem dX4_at_28 : decode cX4_at 28 = .ok (.iload_n 2, 1) := dk_28 (dk_at dksX4_at_1 6 rfl rfl)
theorem dX4_at_29 : decode cX4_at 29 = .ok (.ireturn, 1) := dk_172 (dk_at dksX4_at_1 7 rfl rfl)
theorem dX4_at_30 : decode cX4_at 30 = .ok (.iinc 2 1, 3) := dk_132 2 1 (dk_at dksX4_at_1 8 rfl rfl)
theorem dX4_at_33 : decode cX4_at 33 = .ok (.goto (-31), 3) := dk_167 255 225 (dk_at dksX4_at_1 11 rfl rfl)
theorem dX4_at_36 : decode cX4_at 36 = .ok (.iconst (-1), 1) := dk_2 (dk_at dksX4_at_1 14 rfl rfl)
theorem dX4_at_37 : decode cX4_at 37 = .ok (.ireturn, 1) := dk_172 (dk_at dksX4_at_1 15 rfl rfl)
theorem q120 : (Jvm.Cond.initialized "RatSorters$Text") ∈ lw_all := lw_g (lw_at lw_m1 8 rfl) rfl
theorem q324 : (Jvm.Cond.instantiable "RatSorters$Text" (10 : Nat)) ∈ lw_all := lw_g (lw_at lw_m1 212 rfl) rfl
theorem q326 : (Jvm.Cond.instanceMethod ({ cls := "RatSorters$Text", name := "<init>", desc := "()V" } : Jvm.MethodName)) ∈ lw_all := lw_g (lw_at lw_m1 214 rfl) rfl
theorem q327 : (Jvm.Cond.code ({ cls := "RatSorters$Text", name := "<init>", desc := "()V" } : Jvm.MethodName) prog_19_method_1_code (1 : Nat) (Option.none : Option Jvm.ClassFile.FieldType)) ∈ lw_all := lw_g (lw_at lw_m1 215 rfl) rfl
theorem q328 : (Jvm.Cond.methodLink "RatSorters$Text" (3 : Nat) ({ cls := "java/lang/Object", name := "<init>", desc := "()V" } : Jvm.MethodName)) ∈ lw_all := lw_g (lw_at lw_m1 216 rfl) rfl
theorem q329 : (Jvm.Cond.classLink "RatSorters$Text" (9 : Nat) "java/util/ArrayList") ∈ lw_all := lw_g (lw_at lw_m1 217 rfl) rfl
theorem q331 : (Jvm.Cond.methodLink "RatSorters$Text" (11 : Nat) ({ cls := "java/util/ArrayList", name := "<init>", desc := "()V" } : Jvm.MethodName)) ∈ lw_all := lw_g (lw_at lw_m1 219 rfl) rfl
theorem q355 : (Jvm.Cond.fieldLink "RatSorters$Text" (12 : Nat) "RatSorters$Text" "grains" "Ljava/util/ArrayList;") ∈ lw_all := lw_g (lw_at lw_m2 3 rfl) rfl
theorem q359 : (Jvm.Cond.fieldLink "RatSorters$Text" (18 : Nat) "RatSorters$Text" "holes" "Ljava/util/ArrayList;") ∈ lw_all := lw_g (lw_at lw_m2 7 rfl) rfl
theorem q363 : (Jvm.Cond.fieldLink "RatSorters$Text" (21 : Nat) "RatSorters$Text" "rats" "Ljava/util/ArrayList;") ∈ lw_all := lw_g (lw_at lw_m2 11 rfl) rfl
theorem q367 : (Jvm.Cond.fieldLink "RatSorters$Text" (24 : Nat) "RatSorters$Text" "merchants" "Ljava/util/ArrayList;") ∈ lw_all := lw_g (lw_at lw_m2 15 rfl) rfl
theorem q370 : (Jvm.Cond.fieldLink "RatSorters$Text" (27 : Nat) "RatSorters$Text" "lamp" "I") ∈ lw_all := lw_g (lw_at lw_m2 18 rfl) rfl
theorem q373 : (Jvm.Cond.fieldLink "RatSorters$Text" (31 : Nat) "RatSorters$Text" "odd" "I") ∈ lw_all := lw_g (lw_at lw_m2 21 rfl) rfl
theorem q385 : (Jvm.Cond.laysFinal "RatSorters$Text" "RatSorters$Text" "grains" "Ljava/util/ArrayList;") ∈ lw_all := lw_g (lw_at lw_m2 33 rfl) rfl
theorem q386 : (Jvm.Cond.soleField "RatSorters$Text" "grains") ∈ lw_all := lw_g (lw_at lw_m2 34 rfl) rfl
theorem q387 : (Jvm.Cond.laysFinal "RatSorters$Text" "RatSorters$Text" "holes" "Ljava/util/ArrayList;") ∈ lw_all := lw_g (lw_at lw_m2 35 rfl) rfl
theorem q388 : (Jvm.Cond.soleField "RatSorters$Text" "holes") ∈ lw_all := lw_g (lw_at lw_m2 36 rfl) rfl
theorem q389 : (Jvm.Cond.laysFinal "RatSorters$Text" "RatSorters$Text" "rats" "Ljava/util/ArrayList;") ∈ lw_all := lw_g (lw_at lw_m2 37 rfl) rfl
theorem q390 : (Jvm.Cond.soleField "RatSorters$Text" "rats") ∈ lw_all := lw_g (lw_at lw_m2 38 rfl) rfl
theorem q391 : (Jvm.Cond.laysFinal "RatSorters$Text" "RatSorters$Text" "merchants" "Ljava/util/ArrayList;") ∈ lw_all := lw_g (lw_at lw_m2 39 rfl) rfl
theorem q392 : (Jvm.Cond.soleField "RatSorters$Text" "merchants") ∈ lw_all := lw_g (lw_at lw_m2 40 rfl) rfl
theorem q393 : (Jvm.Cond.lays "RatSorters$Text" "RatSorters$Text" "lamp" "I") ∈ lw_all := lw_g (lw_at lw_m2 41 rfl) rfl
theorem q394 : (Jvm.Cond.soleField "RatSorters$Text" "lamp") ∈ lw_all := lw_g (lw_at lw_m2 42 rfl) rfl
theorem q395 : (Jvm.Cond.lays "RatSorters$Text" "RatSorters$Text" "odd" "I") ∈ lw_all := lw_g (lw_at lw_m2 43 rfl) rfl
theorem q396 : (Jvm.Cond.soleField "RatSorters$Text" "odd") ∈ lw_all := lw_g (lw_at lw_m2 44 rfl) rfl
theorem q397 : (Jvm.Cond.lays "RatSorters$Text" "RatSorters$Text" "seed" "I") ∈ lw_all := lw_g (lw_at lw_m2 45 rfl) rfl
theorem q398 : (Jvm.Cond.soleField "RatSorters$Text" "seed") ∈ lw_all := lw_g (lw_at lw_m2 46 rfl) rfl
theorem q399 : (Jvm.Cond.lays "RatSorters$Text" "RatSorters$Text" "load" "LRatSorters$Law;") ∈ lw_all := lw_g (lw_at lw_m2 47 rfl) rfl
theorem q400 : (Jvm.Cond.soleField "RatSorters$Text" "load") ∈ lw_all := lw_g (lw_at lw_m2 48 rfl) rfl
theorem q401 : (Jvm.Cond.lays "RatSorters$Text" "RatSorters$Text" "eats" "LRatSorters$Law;") ∈ lw_all := lw_g (lw_at lw_m2 49 rfl) rfl
theorem q402 : (Jvm.Cond.soleField "RatSorters$Text" "eats") ∈ lw_all := lw_g (lw_at lw_m2 50 rfl) rfl
theorem q403 : (Jvm.Cond.lays "RatSorters$Text" "RatSorters$Text" "errs" "LRatSorters$Law;") ∈ lw_all := lw_g (lw_at lw_m2 51 rfl) rfl
theorem q404 : (Jvm.Cond.soleField "RatSorters$Text" "errs") ∈ lw_all := lw_g (lw_at lw_m2 52 rfl) rfl
theorem q405 : (Jvm.Cond.superclass "RatSorters$Text" "java/lang/Object") ∈ lw_all := lw_g (lw_at lw_m2 53 rfl) rfl
theorem q959 : (Jvm.Cond.instanceMethod ({ cls := "RatSorters$Text", name := "has", desc := "(Ljava/lang/String;)Z" } : Jvm.MethodName)) ∈ lw_all := lw_g (lw_at lw_m4 127 rfl) rfl
theorem q960 : (Jvm.Cond.selects "RatSorters$Text" ({ cls := "RatSorters$Text", name := "has", desc := "(Ljava/lang/String;)Z" } : Jvm.MethodName) ({ cls := "RatSorters$Text", name := "has", desc := "(Ljava/lang/String;)Z" } : Jvm.MethodName)) ∈ lw_all := lw_g (lw_at lw_m4 128 rfl) rfl
theorem q961 : (Jvm.Cond.code ({ cls := "RatSorters$Text", name := "has", desc := "(Ljava/lang/String;)Z" } : Jvm.MethodName) prog_19_method_3_code (2 : Nat) (Option.some Jvm.ClassFile.FieldType.boolean)) ∈ lw_all := lw_g (lw_at lw_m4 129 rfl) rfl
theorem q962 : (Jvm.Cond.methodLink "RatSorters$Text" (54 : Nat) ({ cls := "RatSorters$Text", name := "at", desc := "(Ljava/util/ArrayList;Ljava/lang/String;)I" } : Jvm.MethodName)) ∈ lw_all := lw_g (lw_at lw_m4 130 rfl) rfl
theorem q963 : (Jvm.Cond.static ({ cls := "RatSorters$Text", name := "at", desc := "(Ljava/util/ArrayList;Ljava/lang/String;)I" } : Jvm.MethodName)) ∈ lw_all := lw_g (lw_at lw_m4 131 rfl) rfl
theorem q964 : (Jvm.Cond.code ({ cls := "RatSorters$Text", name := "at", desc := "(Ljava/util/ArrayList;Ljava/lang/String;)I" } : Jvm.MethodName) prog_19_method_2_code (3 : Nat) (Option.some Jvm.ClassFile.FieldType.int)) ∈ lw_all := lw_g (lw_at lw_m4 132 rfl) rfl
theorem q965 : (Jvm.Cond.methodLink "RatSorters$Text" (34 : Nat) ({ cls := "java/util/ArrayList", name := "size", desc := "()I" } : Jvm.MethodName)) ∈ lw_all := lw_g (lw_at lw_m4 133 rfl) rfl
theorem q966 : (Jvm.Cond.methodLink "RatSorters$Text" (38 : Nat) ({ cls := "java/util/ArrayList", name := "get", desc := "(I)Ljava/lang/Object;" } : Jvm.MethodName)) ∈ lw_all := lw_g (lw_at lw_m4 134 rfl) rfl
theorem q967 : (Jvm.Cond.classLink "RatSorters$Text" (42 : Nat) "RatSorters$Named") ∈ lw_all := lw_g (lw_at lw_m4 135 rfl) rfl
theorem q968 : (Jvm.Cond.methodLink "RatSorters$Text" (48 : Nat) ({ cls := "java/lang/String", name := "equals", desc := "(Ljava/lang/Object;)Z" } : Jvm.MethodName)) ∈ lw_all := lw_g (lw_at lw_m4 136 rfl) rfl
theorem q992 : (Jvm.Cond.fieldLink "RatSorters$Text" (44 : Nat) "RatSorters$Named" "name" "Ljava/lang/String;") ∈ lw_all := lw_g (lw_at lw_m4 160 rfl) rfl
theorem q1047 : (Jvm.Cond.selects "RatSorters$Text" ({ cls := "java/lang/Object", name := "getClass", desc := "()Ljava/lang/Class;" } : Jvm.MethodName) ({ cls := "java/lang/Object", name := "getClass", desc := "()Ljava/lang/Class;" } : Jvm.MethodName)) ∈ lw_all := lw_g (lw_at lw_m4 215 rfl) rfl
theorem q2274 : (Jvm.Cond.castable "RatSorters$Text" "java/lang/Object") ∈ lw_tbl := lw_at lw_m10 2 rfl
theorem in_X4 : ∀ w ∈ wsX40, w ∈ lw_all := lw_in wsX40 [385, 387, 389, 391, 393, 395, 397, 399, 401, 403] (by decide +kernel) (by decide +kernel)
/-! RatSorters$Asked -/
set_option maxRecDepth 100000
def RX6 : String := "RatSorters$Asked"
def TX6 : u_T := fun k => match k with
  | 0 => ("RatSorters$Asked", "v", "[I", true)
  | _ => ("RatSorters$Asked", "nought", "Z", false)
def tyX6 : Nat → FieldType := fun k => match k with
  | 0 => .array .int
  | _ => .boolean
abbrev wsX60 : List Cond := u_ws RX6 TX6 2
theorem nmX6 : ∀ a, a < 2 → ∀ b, b < 2 → a ≠ b → (TX6 a).2.1 ≠ (TX6 b).2.1 := by decide +kernel
theorem tyX6_ok : ∀ k, k < 2 → parseFieldDescriptor (TX6 k).2.2.1 = some (tyX6 k) := by decide +kernel
abbrev cX6_init : ByteArray := prog_2_method_1_code
def yX6_init : MethodName := ⟨RX6, "<init>", "()V"⟩
def dkwX6_init_0 : List UInt8 := [42, 183, 0, 1, 42, 16, 7, 188, 10, 181, 0, 7, 177]
abbrev dktX6_init_0 : List UInt8 := dkwX6_init_0 ++ []
theorem dksX6_init_0 : cX6_init.data.toList.drop 0 = dktX6_init_0 := by decide +kernel
theorem dX6_init_0 : decode cX6_init 0 = .ok (.aload_n 0, 1) := dk_42 (dk_at dksX6_init_0 0 rfl rfl)
theorem dX6_init_1 : decode cX6_init 1 = .ok (.invokespecial 1, 3) := dk_183 0 1 (dk_at dksX6_init_0 1 rfl rfl)
theorem dX6_init_4 : decode cX6_init 4 = .ok (.aload_n 0, 1) := dk_42 (dk_at dksX6_init_0 4 rfl rfl)
theorem dX6_init_5 : decode cX6_init 5 = .ok (.bipush 7, 2) := dk_16 7 (dk_at dksX6_init_0 5 rfl rfl)
theorem dX6_init_7 : decode cX6_init 7 = .ok (.newarray .int, 2) := dk_188_10 (dk_at dksX6_init_0 7 rfl rfl)
theorem dX6_init_9 : decode cX6_init 9 = .ok (.putfield 7, 3) := dk_181 0 7 (dk_at dksX6_init_0 9 rfl rfl)
theorem dX6_init_12 : decode cX6_init 12 = .ok (.return_, 1) := dk_177 (dk_at dksX6_init_0 12 rfl rfl)
theorem q125 : (Jvm.Cond.initialized "RatSorters$Asked") ∈ lw_all := lw_g (lw_at lw_m1 13 rfl) rfl
theorem q415 : (Jvm.Cond.instantiable "RatSorters$Asked" (2 : Nat)) ∈ lw_all := lw_g (lw_at lw_m2 63 rfl) rfl
theorem q417 : (Jvm.Cond.instanceMethod ({ cls := "RatSorters$Asked", name := "<init>", desc := "()V" } : Jvm.MethodName)) ∈ lw_all := lw_g (lw_at lw_m2 65 rfl) rfl
theorem q418 : (Jvm.Cond.code ({ cls := "RatSorters$Asked", name := "<init>", desc := "()V" } : Jvm.MethodName) prog_2_method_1_code (1 : Nat) (Option.none : Option Jvm.ClassFile.FieldType)) ∈ lw_all := lw_g (lw_at lw_m2 66 rfl) rfl
theorem q419 : (Jvm.Cond.methodLink "RatSorters$Asked" (1 : Nat) ({ cls := "java/lang/Object", name := "<init>", desc := "()V" } : Jvm.MethodName)) ∈ lw_all := lw_g (lw_at lw_m2 67 rfl) rfl
theorem q420 : (Jvm.Cond.fieldLink "RatSorters$Asked" (7 : Nat) "RatSorters$Asked" "v" "[I") ∈ lw_all := lw_g (lw_at lw_m2 68 rfl) rfl
theorem q425 : (Jvm.Cond.laysFinal "RatSorters$Asked" "RatSorters$Asked" "v" "[I") ∈ lw_all := lw_g (lw_at lw_m2 73 rfl) rfl
theorem q426 : (Jvm.Cond.soleField "RatSorters$Asked" "v") ∈ lw_all := lw_g (lw_at lw_m2 74 rfl) rfl
theorem q427 : (Jvm.Cond.lays "RatSorters$Asked" "RatSorters$Asked" "nought" "Z") ∈ lw_all := lw_g (lw_at lw_m2 75 rfl) rfl
theorem q428 : (Jvm.Cond.soleField "RatSorters$Asked" "nought") ∈ lw_all := lw_g (lw_at lw_m2 76 rfl) rfl
theorem q429 : (Jvm.Cond.superclass "RatSorters$Asked" "java/lang/Object") ∈ lw_all := lw_g (lw_at lw_m2 77 rfl) rfl
theorem q1032 : (Jvm.Cond.selects "RatSorters$Asked" ({ cls := "java/lang/Object", name := "getClass", desc := "()Ljava/lang/Class;" } : Jvm.MethodName) ({ cls := "java/lang/Object", name := "getClass", desc := "()Ljava/lang/Class;" } : Jvm.MethodName)) ∈ lw_all := lw_g (lw_at lw_m4 200 rfl) rfl
theorem q2276 : (Jvm.Cond.castable "RatSorters$Asked" "java/lang/Object") ∈ lw_tbl := lw_at lw_m10 4 rfl
theorem in_X6 : ∀ w ∈ wsX60, w ∈ lw_all := lw_in wsX60 [425, 427] (by decide +kernel) (by decide +kernel)
/-! RatSorters$Doing -/
set_option maxRecDepth 100000
def RX7 : String := "RatSorters$Doing"
abbrev cX7_init : ByteArray := prog_3_method_1_code
def yX7_init : MethodName := ⟨RX7, "<init>", "()V"⟩
theorem dX7_init_0 : decode cX7_init 0 = .ok (.aload_n 0, 1) := by decide +kernel
theorem dX7_init_1 : decode cX7_init 1 = .ok (.invokespecial 1, 3) := by decide +kernel
theorem dX7_init_4 : decode cX7_init 4 = .ok (.return_, 1) := by decide +kernel
abbrev cX7_goes : ByteArray := prog_3_method_2_code
def yX7_goes : MethodName := ⟨RX7, "goes", "(LRatSorters$House;LRatSorters$Text;I)V"⟩
theorem dX7_goes_0 : decode cX7_goes 0 = .ok (.return_, 1) := by decide +kernel
theorem q126 : (Jvm.Cond.initialized "RatSorters$Doing") ∈ lw_all := lw_g (lw_at lw_m1 14 rfl) rfl
theorem q442 : (Jvm.Cond.instanceMethod ({ cls := "RatSorters$Doing", name := "<init>", desc := "()V" } : Jvm.MethodName)) ∈ lw_all := lw_g (lw_at lw_m2 90 rfl) rfl
theorem q443 : (Jvm.Cond.code ({ cls := "RatSorters$Doing", name := "<init>", desc := "()V" } : Jvm.MethodName) prog_3_method_1_code (1 : Nat) (Option.none : Option Jvm.ClassFile.FieldType)) ∈ lw_all := lw_g (lw_at lw_m2 91 rfl) rfl
theorem q444 : (Jvm.Cond.methodLink "RatSorters$Doing" (1 : Nat) ({ cls := "java/lang/Object", name := "<init>", desc := "()V" } : Jvm.MethodName)) ∈ lw_all := lw_g (lw_at lw_m2 92 rfl) rfl
theorem q460 : (Jvm.Cond.instantiable "RatSorters$Doing" (0 : Nat)) ∈ lw_all := lw_g (lw_at lw_m2 108 rfl) rfl
theorem q462 : (Jvm.Cond.superclass "RatSorters$Doing" "java/lang/Object") ∈ lw_all := lw_g (lw_at lw_m2 110 rfl) rfl
theorem q1033 : (Jvm.Cond.selects "RatSorters$Doing" ({ cls := "java/lang/Object", name := "getClass", desc := "()Ljava/lang/Class;" } : Jvm.MethodName) ({ cls := "java/lang/Object", name := "getClass", desc := "()Ljava/lang/Class;" } : Jvm.MethodName)) ∈ lw_all := lw_g (lw_at lw_m4 201 rfl) rfl
theorem q1330 : (Jvm.Cond.instanceMethod ({ cls := "RatSorters$Doing", name := "goes", desc := "(LRatSorters$House;LRatSorters$Text;I)V" } : Jvm.MethodName)) ∈ lw_all := lw_g (lw_at lw_m6 18 rfl) rfl
theorem q1331 : (Jvm.Cond.selects "RatSorters$Doing" ({ cls := "RatSorters$Doing", name := "goes", desc := "(LRatSorters$House;LRatSorters$Text;I)V" } : Jvm.MethodName) ({ cls := "RatSorters$Doing", name := "goes", desc := "(LRatSorters$House;LRatSorters$Text;I)V" } : Jvm.MethodName)) ∈ lw_all := lw_g (lw_at lw_m6 19 rfl) rfl
theorem q1332 : (Jvm.Cond.sameMethod "RatSorters$Doing" "RatSorters$Doing" "goes" "(LRatSorters$House;LRatSorters$Text;I)V") ∈ lw_all := lw_g (lw_at lw_m6 20 rfl) rfl
theorem q1404 : (Jvm.Cond.code ({ cls := "RatSorters$Doing", name := "goes", desc := "(LRatSorters$House;LRatSorters$Text;I)V" } : Jvm.MethodName) prog_3_method_2_code (4 : Nat) (Option.none : Option Jvm.ClassFile.FieldType)) ∈ lw_all := lw_g (lw_at lw_m6 92 rfl) rfl
theorem q2267 : (Jvm.Cond.castable "RatSorters$Doing" "java/lang/Object") ∈ lw_tbl := lw_at lw_m9 235 rfl
/-! RatSorters$Working -/
set_option maxRecDepth 100000
def RX8 : String := "RatSorters$Working"
abbrev cX8_init : ByteArray := prog_22_method_1_code
def yX8_init : MethodName := ⟨RX8, "<init>", "()V"⟩
theorem dX8_init_0 : decode cX8_init 0 = .ok (.aload_n 0, 1) := by decide +kernel
theorem dX8_init_1 : decode cX8_init 1 = .ok (.invokespecial 3, 3) := by decide +kernel
theorem dX8_init_4 : decode cX8_init 4 = .ok (.return_, 1) := by decide +kernel
abbrev cX8_goes : ByteArray := prog_22_method_2_code
def yX8_goes : MethodName := ⟨RX8, "goes", "(LRatSorters$House;LRatSorters$Text;I)V"⟩
def dkwX8_goes_0 : List UInt8 := [43, 180, 0, 9, 29, 16, 99, 43, 180, 0, 9, 29, 46, 4, 96, 184, 0, 15, 79, 177]
abbrev dktX8_goes_0 : List UInt8 := dkwX8_goes_0 ++ []
theorem dksX8_goes_0 : cX8_goes.data.toList.drop 0 = dktX8_goes_0 := by decide +kernel
theorem dX8_goes_0 : decode cX8_goes 0 = .ok (.aload_n 1, 1) := dk_43 (dk_at dksX8_goes_0 0 rfl rfl)
theorem dX8_goes_1 : decode cX8_goes 1 = .ok (.getfield 9, 3) := dk_180 0 9 (dk_at dksX8_goes_0 1 rfl rfl)
theorem dX8_goes_4 : decode cX8_goes 4 = .ok (.iload_n 3, 1) := dk_29 (dk_at dksX8_goes_0 4 rfl rfl)
theorem dX8_goes_5 : decode cX8_goes 5 = .ok (.bipush 99, 2) := dk_16 99 (dk_at dksX8_goes_0 5 rfl rfl)
theorem dX8_goes_7 : decode cX8_goes 7 = .ok (.aload_n 1, 1) := dk_43 (dk_at dksX8_goes_0 7 rfl rfl)
theorem dX8_goes_8 : decode cX8_goes 8 = .ok (.getfield 9, 3) := dk_180 0 9 (dk_at dksX8_goes_0 8 rfl rfl)
theorem dX8_goes_11 : decode cX8_goes 11 = .ok (.iload_n 3, 1) := dk_29 (dk_at dksX8_goes_0 11 rfl rfl)
theorem dX8_goes_12 : decode cX8_goes 12 = .ok (.iaload, 1) := dk_46 (dk_at dksX8_goes_0 12 rfl rfl)
theorem dX8_goes_13 : decode cX8_goes 13 = .ok (.iconst 1, 1) := dk_4 (dk_at dksX8_goes_0 13 rfl rfl)
theorem dX8_goes_14 : decode cX8_goes 14 = .ok (.iadd, 1) := dk_96 (dk_at dksX8_goes_0 14 rfl rfl)
theorem dX8_goes_15 : decode cX8_goes 15 = .ok (.invokestatic 15, 3) := dk_184 0 15 (dk_at dksX8_goes_0 15 rfl rfl)
theorem dX8_goes_18 : decode cX8_goes 18 = .ok (.iastore, 1) := dk_79 (dk_at dksX8_goes_0 18 rfl rfl)
theorem dX8_goes_19 : decode cX8_goes 19 = .ok (.return_, 1) := dk_177 (dk_at dksX8_goes_0 19 rfl rfl)
theorem q127 : (Jvm.Cond.initialized "RatSorters$Working") ∈ lw_all := lw_g (lw_at lw_m1 15 rfl) rfl
theorem q439 : (Jvm.Cond.instanceMethod ({ cls := "RatSorters$Working", name := "<init>", desc := "()V" } : Jvm.MethodName)) ∈ lw_all := lw_g (lw_at lw_m2 87 rfl) rfl
theorem q440 : (Jvm.Cond.code ({ cls := "RatSorters$Working", name := "<init>", desc := "()V" } : Jvm.MethodName) prog_22_method_1_code (1 : Nat) (Option.none : Option Jvm.ClassFile.FieldType)) ∈ lw_all := lw_g (lw_at lw_m2 88 rfl) rfl
theorem q441 : (Jvm.Cond.methodLinkNest "RatSorters$Working" (3 : Nat) ({ cls := "RatSorters$Doing", name := "<init>", desc := "()V" } : Jvm.MethodName) "RatSorters") ∈ lw_tbl := lw_at lw_m2 89 rfl
theorem q487 : (Jvm.Cond.fieldLink "RatSorters$Working" (9 : Nat) "RatSorters$House" "hunger" "[I") ∈ lw_all := lw_g (lw_at lw_m2 135 rfl) rfl
theorem q1337 : (Jvm.Cond.instanceMethod ({ cls := "RatSorters$Working", name := "goes", desc := "(LRatSorters$House;LRatSorters$Text;I)V" } : Jvm.MethodName)) ∈ lw_all := lw_g (lw_at lw_m6 25 rfl) rfl
theorem q1338 : (Jvm.Cond.code ({ cls := "RatSorters$Working", name := "goes", desc := "(LRatSorters$House;LRatSorters$Text;I)V" } : Jvm.MethodName) prog_22_method_2_code (4 : Nat) (Option.none : Option Jvm.ClassFile.FieldType)) ∈ lw_all := lw_g (lw_at lw_m6 26 rfl) rfl
theorem q1339 : (Jvm.Cond.methodLink "RatSorters$Working" (15 : Nat) ({ cls := "java/lang/Math", name := "min", desc := "(II)I" } : Jvm.MethodName)) ∈ lw_all := lw_g (lw_at lw_m6 27 rfl) rfl
theorem q2261 : (Jvm.Cond.sameMethod "RatSorters$Working" "RatSorters$Working" "goes" "(LRatSorters$House;LRatSorters$Text;I)V") ∈ lw_all := lw_g (lw_at lw_m9 229 rfl) rfl
/-! RatSorters$Loading -/
set_option maxRecDepth 100000
def RX9 : String := "RatSorters$Loading"
abbrev cX9_init : ByteArray := prog_11_method_1_code
def yX9_init : MethodName := ⟨RX9, "<init>", "()V"⟩
theorem dX9_init_0 : decode cX9_init 0 = .ok (.aload_n 0, 1) := by decide +kernel
theorem dX9_init_1 : decode cX9_init 1 = .ok (.invokespecial 1, 3) := by decide +kernel
theorem dX9_init_4 : decode cX9_init 4 = .ok (.return_, 1) := by decide +kernel
abbrev cX9_goes : ByteArray := prog_11_method_2_code
def yX9_goes : MethodName := ⟨RX9, "goes", "(LRatSorters$House;LRatSorters$Text;I)V"⟩
def dkwX9_goes_5 : List UInt8 := [182, 0, 44, 177]
abbrev dktX9_goes_5 : List UInt8 := dkwX9_goes_5 ++ []
def dkwX9_goes_4 : List UInt8 := [44, 29, 182, 0, 32, 167, 0, 22, 43, 180, 0, 36, 29, 46, 44, 180, 0, 39, 161, 0, 9, 43, 44, 29]
abbrev dktX9_goes_4 : List UInt8 := dkwX9_goes_4 ++ dktX9_goes_5
def dkwX9_goes_3 : List UInt8 := [21, 5, 153, 0, 16, 43, 89, 180, 0, 28, 4, 96, 181, 0, 28, 167, 0, 36, 21, 4, 153, 0, 12, 43]
abbrev dktX9_goes_3 : List UInt8 := dkwX9_goes_3 ++ dktX9_goes_4
def dkwX9_goes_2 : List UInt8 := [180, 0, 21, 29, 46, 182, 0, 24, 153, 0, 7, 4, 167, 0, 4, 3, 54, 5, 21, 4, 153, 0, 21]
abbrev dktX9_goes_2 : List UInt8 := dkwX9_goes_2 ++ dktX9_goes_3
def dkwX9_goes_1 : List UInt8 := [46, 46, 158, 0, 7, 4, 167, 0, 4, 3, 54, 4, 43, 44, 182, 0, 11, 154, 0, 20, 43, 43]
abbrev dktX9_goes_1 : List UInt8 := dkwX9_goes_1 ++ dktX9_goes_2
def dkwX9_goes_0 : List UInt8 := [42, 43, 44, 29, 183, 0, 7, 43, 44, 182, 0, 11, 154, 0, 21, 43, 180, 0, 17, 43, 180, 0, 21, 29]
abbrev dktX9_goes_0 : List UInt8 := dkwX9_goes_0 ++ dktX9_goes_1
theorem dksX9_goes_0 : cX9_goes.data.toList.drop 0 = dktX9_goes_0 := by decide +kernel
theorem dksX9_goes_1 : cX9_goes.data.toList.drop 24 = dktX9_goes_1 := dk_seg dksX9_goes_0 24 rfl rfl
theorem dksX9_goes_2 : cX9_goes.data.toList.drop 46 = dktX9_goes_2 := dk_seg dksX9_goes_1 22 rfl rfl
theorem dksX9_goes_3 : cX9_goes.data.toList.drop 69 = dktX9_goes_3 := dk_seg dksX9_goes_2 23 rfl rfl
theorem dksX9_goes_4 : cX9_goes.data.toList.drop 93 = dktX9_goes_4 := dk_seg dksX9_goes_3 24 rfl rfl
theorem dksX9_goes_5 : cX9_goes.data.toList.drop 117 = dktX9_goes_5 := dk_seg dksX9_goes_4 24 rfl rfl
theorem dX9_goes_0 : decode cX9_goes 0 = .ok (.aload_n 0, 1) := dk_42 (dk_at dksX9_goes_0 0 rfl rfl)
theorem dX9_goes_1 : decode cX9_goes 1 = .ok (.aload_n 1, 1) := dk_43 (dk_at dksX9_goes_0 1 rfl rfl)
theorem dX9_goes_2 : decode cX9_goes 2 = .ok (.aload_n 2, 1) := dk_44 (dk_at dksX9_goes_0 2 rfl rfl)
theorem dX9_goes_3 : decode cX9_goes 3 = .ok (.iload_n 3, 1) := dk_29 (dk_at dksX9_goes_0 3 rfl rfl)
theorem dX9_goes_4 : decode cX9_goes 4 = .ok (.invokespecial 7, 3) := dk_183 0 7 (dk_at dksX9_goes_0 4 rfl rfl)
theorem dX9_goes_7 : decode cX9_goes 7 = .ok (.aload_n 1, 1) := dk_43 (dk_at dksX9_goes_0 7 rfl rfl)
theorem dX9_goes_8 : decode cX9_goes 8 = .ok (.aload_n 2, 1) := dk_44 (dk_at dksX9_goes_0 8 rfl rfl)
theorem dX9_goes_9 : decode cX9_goes 9 = .ok (.invokevirtual 11, 3) := dk_182 0 11 (dk_at dksX9_goes_0 9 rfl rfl)
theorem dX9_goes_12 : decode cX9_goes 12 = .ok (.ifCond .ne 21, 3) := dk_154 0 21 (dk_at dksX9_goes_0 12 rfl rfl)
theorem dX9_goes_15 : decode cX9_goes 15 = .ok (.aload_n 1, 1) := dk_43 (dk_at dksX9_goes_0 15 rfl rfl)
theorem dX9_goes_16 : decode cX9_goes 16 = .ok (.getfield 17, 3) := dk_180 0 17 (dk_at dksX9_goes_0 16 rfl rfl)
theorem dX9_goes_19 : decode cX9_goes 19 = .ok (.aload_n 1, 1) := dk_43 (dk_at dksX9_goes_0 19 rfl rfl)
theorem dX9_goes_20 : decode cX9_goes 20 = .ok (.getfield 21, 3) := dk_180 0 21 (dk_at dksX9_goes_0 20 rfl rfl)
theorem dX9_goes_23 : decode cX9_goes 23 = .ok (.iload_n 3, 1) := dk_29 (dk_at dksX9_goes_0 23 rfl rfl)
theorem dX9_goes_24 : decode cX9_goes 24 = .ok (.iaload, 1) := dk_46 (dk_at dksX9_goes_1 0 rfl rfl)
theorem dX9_goes_25 : decode cX9_goes 25 = .ok (.iaload, 1) := dk_46 (dk_at dksX9_goes_1 1 rfl rfl)
theorem dX9_goes_26 : decode cX9_goes 26 = .ok (.ifCond .le 7, 3) := dk_158 0 7 (dk_at dksX9_goes_1 2 rfl rfl)
theorem dX9_goes_29 : decode cX9_goes 29 = .ok (.iconst 1, 1) := dk_4 (dk_at dksX9_goes_1 5 rfl rfl)
theorem dX9_goes_30 : decode cX9_goes 30 = .ok (.goto 4, 3) := dk_167 0 4 (dk_at dksX9_goes_1 6 rfl rfl)
theorem dX9_goes_33 : decode cX9_goes 33 = .ok (.iconst 0, 1) := dk_3 (dk_at dksX9_goes_1 9 rfl rfl)
theorem dX9_goes_34 : decode cX9_goes 34 = .ok (.istore 4, 2) := dk_54 4 (dk_at dksX9_goes_1 10 rfl rfl)
theorem dX9_goes_36 : decode cX9_goes 36 = .ok (.aload_n 1, 1) := dk_43 (dk_at dksX9_goes_1 12 rfl rfl)
theorem dX9_goes_37 : decode cX9_goes 37 = .ok (.aload_n 2, 1) := dk_44 (dk_at dksX9_goes_1 13 rfl rfl)
theorem dX9_goes_38 : decode cX9_goes 38 = .ok (.invokevirtual 11, 3) := dk_182 0 11 (dk_at dksX9_goes_1 14 rfl rfl)
theorem dX9_goes_41 : decode cX9_goes 41 = .ok (.ifCond .ne 20, 3) := dk_154 0 20 (dk_at dksX9_goes_1 17 rfl rfl)
theorem dX9_goes_44 : decode cX9_goes 44 = .ok (.aload_n 1, 1) := dk_43 (dk_at dksX9_goes_1 20 rfl rfl)
theorem dX9_goes_45 : decode cX9_goes 45 = .ok (.aload_n 1, 1) := dk_43 (dk_at dksX9_goes_1 21 rfl rfl)
theorem dX9_goes_46 : decode cX9_goes 46 = .ok (.getfield 21, 3) := dk_180 0 21 (dk_at dksX9_goes_2 0 rfl rfl)
theorem dX9_goes_49 : decode cX9_goes 49 = .ok (.iload_n 3, 1) := dk_29 (dk_at dksX9_goes_2 3 rfl rfl)
theorem dX9_goes_50 : decode cX9_goes 50 = .ok (.iaload, 1) := dk_46 (dk_at dksX9_goes_2 4 rfl rfl)
theorem dX9_goes_51 : decode cX9_goes 51 = .ok (.invokevirtual 24, 3) := dk_182 0 24 (dk_at dksX9_goes_2 5 rfl rfl)
theorem dX9_goes_54 : decode cX9_goes 54 = .ok (.ifCond .eq 7, 3) := dk_153 0 7 (dk_at dksX9_goes_2 8 rfl rfl)
theorem dX9_goes_57 : decode cX9_goes 57 = .ok (.iconst 1, 1) := dk_4 (dk_at dksX9_goes_2 11 rfl rfl)
theorem dX9_goes_58 : decode cX9_goes 58 = .ok (.goto 4, 3) := dk_167 0 4 (dk_at dksX9_goes_2 12 rfl rfl)
theorem dX9_goes_61 : decode cX9_goes 61 = .ok (.iconst 0, 1) := dk_3 (dk_at dksX9_goes_2 15 rfl rfl)
theorem dX9_goes_62 : decode cX9_goes 62 = .ok (.istore 5, 2) := dk_54 5 (dk_at dksX9_goes_2 16 rfl rfl)
theorem dX9_goes_64 : decode cX9_goes 64 = .ok (.iload 4, 2) := dk_21 4 (dk_at dksX9_goes_2 18 rfl rfl)
theorem dX9_goes_66 : decode cX9_goes 66 = .ok (.ifCond .eq 21, 3) := dk_153 0 21 (dk_at dksX9_goes_2 20 rfl rfl)
theorem dX9_goes_69 : decode cX9_goes 69 = .ok (.iload 5, 2) := dk_21 5 (dk_at dksX9_goes_3 0 rfl rfl)
theorem dX9_goes_71 : decode cX9_goes 71 = .ok (.ifCond .eq 16, 3) := dk_153 0 16 (dk_at dksX9_goes_3 2 rfl rfl)
theorem dX9_goes_74 : decode cX9_goes 74 = .ok (.aload_n 1, 1) := dk_43 (dk_at dksX9_goes_3 5 rfl rfl)
theorem dX9_goes_75 : decode cX9_goes 75 = .ok (.dup, 1) := dk_89 (dk_at dksX9_goes_3 6 rfl rfl)
theorem dX9_goes_76 : decode cX9_goes 76 = .ok (.getfield 28, 3) := dk_180 0 28 (dk_at dksX9_goes_3 7 rfl rfl)
theorem dX9_goes_79 : decode cX9_goes 79 = .ok (.iconst 1, 1) := dk_4 (dk_at dksX9_goes_3 10 rfl rfl)
theorem dX9_goes_80 : decode cX9_goes 80 = .ok (.iadd, 1) := dk_96 (dk_at dksX9_goes_3 11 rfl rfl)
theorem dX9_goes_81 : decode cX9_goes 81 = .ok (.putfield 28, 3) := dk_181 0 28 (dk_at dksX9_goes_3 12 rfl rfl)
theorem dX9_goes_84 : decode cX9_goes 84 = .ok (.goto 36, 3) := dk_167 0 36 (dk_at dksX9_goes_3 15 rfl rfl)
theorem dX9_goes_87 : decode cX9_goes 87 = .ok (.iload 4, 2) := dk_21 4 (dk_at dksX9_goes_3 18 rfl rfl)
theorem dX9_goes_89 : decode cX9_goes 89 = .ok (.ifCond .eq 12, 3) := dk_153 0 12 (dk_at dksX9_goes_3 20 rfl rfl)
theorem dX9_goes_92 : decode cX9_goes 92 = .ok (.aload_n 1, 1) := dk_43 (dk_at dksX9_goes_3 23 rfl rfl)
theorem dX9_goes_93 : decode cX9_goes 93 = .ok (.aload_n 2, 1) := dk_44 (dk_at dksX9_goes_4 0 rfl rfl)
theorem dX9_goes_94 : decode cX9_goes 94 = .ok (.iload_n 3, 1) := dk_29 (dk_at dksX9_goes_4 1 rfl rfl)
theorem dX9_goes_95 : decode cX9_goes 95 = .ok (.invokevirtual 32, 3) := dk_182 0 32 (dk_at dksX9_goes_4 2 rfl rfl)
theorem dX9_goes_98 : decode cX9_goes 98 = .ok (.goto 22, 3) := dk_167 0 22 (dk_at dksX9_goes_4 5 rfl rfl)
theorem dX9_goes_101 : decode cX9_goes 101 = .ok (.aload_n 1, 1) := dk_43 (dk_at dksX9_goes_4 8 rfl rfl)
theorem dX9_goes_102 : decode cX9_goes 102 = .ok (.getfield 36, 3) := dk_180 0 36 (dk_at dksX9_goes_4 9 rfl rfl)
theorem dX9_goes_105 : decode cX9_goes 105 = .ok (.iload_n 3, 1) := dk_29 (dk_at dksX9_goes_4 12 rfl rfl)
theorem dX9_goes_106 : decode cX9_goes 106 = .ok (.iaload, 1) := dk_46 (dk_at dksX9_goes_4 13 rfl rfl)
theorem dX9_goes_107 : decode cX9_goes 107 = .ok (.aload_n 2, 1) := dk_44 (dk_at dksX9_goes_4 14 rfl rfl)
theorem dX9_goes_108 : decode cX9_goes 108 = .ok (.getfield 39, 3) := dk_180 0 39 (dk_at dksX9_goes_4 15 rfl rfl)
theorem dX9_goes_111 : decode cX9_goes 111 = .ok (.if_icmp .lt 9, 3) := dk_161 0 9 (dk_at dksX9_goes_4 18 rfl rfl)
theorem dX9_goes_114 : decode cX9_goes 114 = .ok (.aload_n 1, 1) := dk_43 (dk_at dksX9_goes_4 21 rfl rfl)
theorem dX9_goes_115 : decode cX9_goes 115 = .ok (.aload_n 2, 1) := dk_44 (dk_at dksX9_goes_4 22 rfl rfl)
theorem dX9_goes_116 : decode cX9_goes 116 = .ok (.iload_n 3, 1) := dk_29 (dk_at dksX9_goes_4 23 rfl rfl)
theorem dX9_goes_117 : decode cX9_goes 117 = .ok (.invokevirtual 44, 3) := dk_182 0 44 (dk_at dksX9_goes_5 0 rfl rfl)
theorem dX9_goes_120 : decode cX9_goes 120 = .ok (.return_, 1) := dk_177 (dk_at dksX9_goes_5 3 rfl rfl)
theorem q128 : (Jvm.Cond.initialized "RatSorters$Loading") ∈ lw_all := lw_g (lw_at lw_m1 16 rfl) rfl
theorem q374 : (Jvm.Cond.fieldLink "RatSorters$Loading" (39 : Nat) "RatSorters$Text" "odd" "I") ∈ lw_all := lw_g (lw_at lw_m2 22 rfl) rfl
theorem q434 : (Jvm.Cond.instantiable "RatSorters$Loading" (0 : Nat)) ∈ lw_all := lw_g (lw_at lw_m2 82 rfl) rfl
theorem q436 : (Jvm.Cond.instanceMethod ({ cls := "RatSorters$Loading", name := "<init>", desc := "()V" } : Jvm.MethodName)) ∈ lw_all := lw_g (lw_at lw_m2 84 rfl) rfl
theorem q437 : (Jvm.Cond.code ({ cls := "RatSorters$Loading", name := "<init>", desc := "()V" } : Jvm.MethodName) prog_11_method_1_code (1 : Nat) (Option.none : Option Jvm.ClassFile.FieldType)) ∈ lw_all := lw_g (lw_at lw_m2 85 rfl) rfl
theorem q438 : (Jvm.Cond.methodLinkNest "RatSorters$Loading" (1 : Nat) ({ cls := "RatSorters$Working", name := "<init>", desc := "()V" } : Jvm.MethodName) "RatSorters") ∈ lw_tbl := lw_at lw_m2 86 rfl
theorem q445 : (Jvm.Cond.superclass "RatSorters$Loading" "RatSorters$Working") ∈ lw_all := lw_g (lw_at lw_m2 93 rfl) rfl
theorem q464 : (Jvm.Cond.fieldLink "RatSorters$Loading" (17 : Nat) "RatSorters$House" "heap" "[I") ∈ lw_all := lw_g (lw_at lw_m2 112 rfl) rfl
theorem q488 : (Jvm.Cond.fieldLink "RatSorters$Loading" (36 : Nat) "RatSorters$House" "hunger" "[I") ∈ lw_all := lw_g (lw_at lw_m2 136 rfl) rfl
theorem q493 : (Jvm.Cond.fieldLink "RatSorters$Loading" (21 : Nat) "RatSorters$House" "knows" "[I") ∈ lw_all := lw_g (lw_at lw_m2 141 rfl) rfl
theorem q507 : (Jvm.Cond.fieldLink "RatSorters$Loading" (28 : Nat) "RatSorters$House" "quarrels" "I") ∈ lw_all := lw_g (lw_at lw_m2 155 rfl) rfl
theorem q1041 : (Jvm.Cond.selects "RatSorters$Loading" ({ cls := "java/lang/Object", name := "getClass", desc := "()Ljava/lang/Class;" } : Jvm.MethodName) ({ cls := "java/lang/Object", name := "getClass", desc := "()Ljava/lang/Class;" } : Jvm.MethodName)) ∈ lw_all := lw_g (lw_at lw_m4 209 rfl) rfl
theorem q1344 : (Jvm.Cond.selects "RatSorters$Loading" ({ cls := "RatSorters$Doing", name := "goes", desc := "(LRatSorters$House;LRatSorters$Text;I)V" } : Jvm.MethodName) ({ cls := "RatSorters$Loading", name := "goes", desc := "(LRatSorters$House;LRatSorters$Text;I)V" } : Jvm.MethodName)) ∈ lw_all := lw_g (lw_at lw_m6 32 rfl) rfl
theorem q1345 : (Jvm.Cond.instanceMethod ({ cls := "RatSorters$Loading", name := "goes", desc := "(LRatSorters$House;LRatSorters$Text;I)V" } : Jvm.MethodName)) ∈ lw_all := lw_g (lw_at lw_m6 33 rfl) rfl
theorem q1346 : (Jvm.Cond.code ({ cls := "RatSorters$Loading", name := "goes", desc := "(LRatSorters$House;LRatSorters$Text;I)V" } : Jvm.MethodName) prog_11_method_2_code (6 : Nat) (Option.none : Option Jvm.ClassFile.FieldType)) ∈ lw_all := lw_g (lw_at lw_m6 34 rfl) rfl
theorem q1347 : (Jvm.Cond.methodLink "RatSorters$Loading" (7 : Nat) ({ cls := "RatSorters$Working", name := "goes", desc := "(LRatSorters$House;LRatSorters$Text;I)V" } : Jvm.MethodName)) ∈ lw_all := lw_g (lw_at lw_m6 35 rfl) rfl
theorem q1348 : (Jvm.Cond.methodLink "RatSorters$Loading" (11 : Nat) ({ cls := "RatSorters$House", name := "isDark", desc := "(LRatSorters$Text;)Z" } : Jvm.MethodName)) ∈ lw_all := lw_g (lw_at lw_m6 36 rfl) rfl
theorem q1352 : (Jvm.Cond.methodLink "RatSorters$Loading" (24 : Nat) ({ cls := "RatSorters$House", name := "hasLoaded", desc := "(I)Z" } : Jvm.MethodName)) ∈ lw_all := lw_g (lw_at lw_m6 40 rfl) rfl
theorem q1356 : (Jvm.Cond.methodLink "RatSorters$Loading" (32 : Nat) ({ cls := "RatSorters$House", name := "loads", desc := "(LRatSorters$Text;I)V" } : Jvm.MethodName)) ∈ lw_all := lw_g (lw_at lw_m6 44 rfl) rfl
theorem q1396 : (Jvm.Cond.methodLink "RatSorters$Loading" (44 : Nat) ({ cls := "RatSorters$House", name := "eatsOdd", desc := "(LRatSorters$Text;I)V" } : Jvm.MethodName)) ∈ lw_all := lw_g (lw_at lw_m6 84 rfl) rfl
theorem q2277 : (Jvm.Cond.castable "RatSorters$Loading" "java/lang/Object") ∈ lw_tbl := lw_at lw_m10 5 rfl
theorem q2291 : (Jvm.Cond.castable "RatSorters$Loading" "RatSorters$Doing") ∈ lw_tbl := lw_at lw_m10 19 rfl
/-! RatSorters$Going -/
set_option maxRecDepth 100000
def RX10 : String := "RatSorters$Going"
abbrev cX10_init : ByteArray := prog_5_method_1_code
def yX10_init : MethodName := ⟨RX10, "<init>", "()V"⟩
theorem dX10_init_0 : decode cX10_init 0 = .ok (.aload_n 0, 1) := by decide +kernel
theorem dX10_init_1 : decode cX10_init 1 = .ok (.invokespecial 3, 3) := by decide +kernel
theorem dX10_init_4 : decode cX10_init 4 = .ok (.return_, 1) := by decide +kernel
abbrev cX10_goes : ByteArray := prog_5_method_2_code
def yX10_goes : MethodName := ⟨RX10, "goes", "(LRatSorters$House;LRatSorters$Text;I)V"⟩
def dkwX10_goes_2 : List UInt8 := [180, 0, 26, 43, 180, 0, 29, 29, 46, 46, 79, 43, 180, 0, 29, 29, 16, 254, 79, 177]
abbrev dktX10_goes_2 : List UInt8 := dkwX10_goes_2 ++ []
def dkwX10_goes_1 : List UInt8 := [158, 0, 4, 177, 43, 29, 182, 0, 19, 43, 180, 0, 23, 29, 5, 79, 43, 180, 0, 13, 29, 43]
abbrev dktX10_goes_1 : List UInt8 := dkwX10_goes_1 ++ dktX10_goes_2
def dkwX10_goes_0 : List UInt8 := [42, 43, 44, 29, 183, 0, 9, 43, 180, 0, 13, 29, 92, 46, 4, 100, 79, 43, 180, 0, 13, 29, 46]
abbrev dktX10_goes_0 : List UInt8 := dkwX10_goes_0 ++ dktX10_goes_1
theorem dksX10_goes_0 : cX10_goes.data.toList.drop 0 = dktX10_goes_0 := by decide +kernel
theorem dksX10_goes_1 : cX10_goes.data.toList.drop 23 = dktX10_goes_1 := dk_seg dksX10_goes_0 23 rfl rfl
theorem dksX10_goes_2 : cX10_goes.data.toList.drop 45 = dktX10_goes_2 := dk_seg dksX10_goes_1 22 rfl rfl
theorem dX10_goes_0 : decode cX10_goes 0 = .ok (.aload_n 0, 1) := dk_42 (dk_at dksX10_goes_0 0 rfl rfl)
theorem dX10_goes_1 : decode cX10_goes 1 = .ok (.aload_n 1, 1) := dk_43 (dk_at dksX10_goes_0 1 rfl rfl)
theorem dX10_goes_2 : decode cX10_goes 2 = .ok (.aload_n 2, 1) := dk_44 (dk_at dksX10_goes_0 2 rfl rfl)
theorem dX10_goes_3 : decode cX10_goes 3 = .ok (.iload_n 3, 1) := dk_29 (dk_at dksX10_goes_0 3 rfl rfl)
theorem dX10_goes_4 : decode cX10_goes 4 = .ok (.invokespecial 9, 3) := dk_183 0 9 (dk_at dksX10_goes_0 4 rfl rfl)
theorem dX10_goes_7 : decode cX10_goes 7 = .ok (.aload_n 1, 1) := dk_43 (dk_at dksX10_goes_0 7 rfl rfl)
theorem dX10_goes_8 : decode cX10_goes 8 = .ok (.getfield 13, 3) := dk_180 0 13 (dk_at dksX10_goes_0 8 rfl rfl)
theorem dX10_goes_11 : decode cX10_goes 11 = .ok (.iload_n 3, 1) := dk_29 (dk_at dksX10_goes_0 11 rfl rfl)
theorem dX10_goes_12 : decode cX10_goes 12 = .ok (.dup2, 1) := dk_92 (dk_at dksX10_goes_0 12 rfl rfl)
theorem dX10_goes_13 : decode cX10_goes 13 = .ok (.iaload, 1) := dk_46 (dk_at dksX10_goes_0 13 rfl rfl)
theorem dX10_goes_14 : decode cX10_goes 14 = .ok (.iconst 1, 1) := dk_4 (dk_at dksX10_goes_0 14 rfl rfl)
theorem dX10_goes_15 : decode cX10_goes 15 = .ok (.isub, 1) := dk_100 (dk_at dksX10_goes_0 15 rfl rfl)
theorem dX10_goes_16 : decode cX10_goes 16 = .ok (.iastore, 1) := dk_79 (dk_at dksX10_goes_0 16 rfl rfl)
theorem dX10_goes_17 : decode cX10_goes 17 = .ok (.aload_n 1, 1) := dk_43 (dk_at dksX10_goes_0 17 rfl rfl)
theorem dX10_goes_18 : decode cX10_goes 18 = .ok (.getfield 13, 3) := dk_180 0 13 (dk_at dksX10_goes_0 18 rfl rfl)
theorem dX10_goes_21 : decode cX10_goes 21 = .ok (.iload_n 3, 1) := dk_29 (dk_at dksX10_goes_0 21 rfl rfl)
theorem dX10_goes_22 : decode cX10_goes 22 = .ok (.iaload, 1) := dk_46 (dk_at dksX10_goes_0 22 rfl rfl)
theorem dX10_goes_23 : decode cX10_goes 23 = .ok (.ifCond .le 4, 3) := dk_158 0 4 (dk_at dksX10_goes_1 0 rfl rfl)
theorem dX10_goes_26 : decode cX10_goes 26 = .ok (.return_, 1) := dk_177 (dk_at dksX10_goes_1 3 rfl rfl)
theorem dX10_goes_27 : decode cX10_goes 27 = .ok (.aload_n 1, 1) := dk_43 (dk_at dksX10_goes_1 4 rfl rfl)
theorem dX10_goes_28 : decode cX10_goes 28 = .ok (.iload_n 3, 1) := dk_29 (dk_at dksX10_goes_1 5 rfl rfl)
theorem dX10_goes_29 : decode cX10_goes 29 = .ok (.invokevirtual 19, 3) := dk_182 0 19 (dk_at dksX10_goes_1 6 rfl rfl)
theorem dX10_goes_32 : decode cX10_goes 32 = .ok (.aload_n 1, 1) := dk_43 (dk_at dksX10_goes_1 9 rfl rfl)
theorem dX10_goes_33 : decode cX10_goes 33 = .ok (.getfield 23, 3) := dk_180 0 23 (dk_at dksX10_goes_1 10 rfl rfl)
theorem dX10_goes_36 : decode cX10_goes 36 = .ok (.iload_n 3, 1) := dk_29 (dk_at dksX10_goes_1 13 rfl rfl)
theorem dX10_goes_37 : decode cX10_goes 37 = .ok (.iconst 2, 1) := dk_5 (dk_at dksX10_goes_1 14 rfl rfl)
theorem dX10_goes_38 : decode cX10_goes 38 = .ok (.iastore, 1) := dk_79 (dk_at dksX10_goes_1 15 rfl rfl)
theorem dX10_goes_39 : decode cX10_goes 39 = .ok (.aload_n 1, 1) := dk_43 (dk_at dksX10_goes_1 16 rfl rfl)
theorem dX10_goes_40 : decode cX10_goes 40 = .ok (.getfield 13, 3) := dk_180 0 13 (dk_at dksX10_goes_1 17 rfl rfl)
theorem dX10_goes_43 : decode cX10_goes 43 = .ok (.iload_n 3, 1) := dk_29 (dk_at dksX10_goes_1 20 rfl rfl)
theorem dX10_goes_44 : decode cX10_goes 44 = .ok (.aload_n 1, 1) := dk_43 (dk_at dksX10_goes_1 21 rfl rfl)
theorem dX10_goes_45 : decode cX10_goes 45 = .ok (.getfield 26, 3) := dk_180 0 26 (dk_at dksX10_goes_2 0 rfl rfl)
theorem dX10_goes_48 : decode cX10_goes 48 = .ok (.aload_n 1, 1) := dk_43 (dk_at dksX10_goes_2 3 rfl rfl)
theorem dX10_goes_49 : decode cX10_goes 49 = .ok (.getfield 29, 3) := dk_180 0 29 (dk_at dksX10_goes_2 4 rfl rfl)
theorem dX10_goes_52 : decode cX10_goes 52 = .ok (.iload_n 3, 1) := dk_29 (dk_at dksX10_goes_2 7 rfl rfl)
theorem dX10_goes_53 : decode cX10_goes 53 = .ok (.iaload, 1) := dk_46 (dk_at dksX10_goes_2 8 rfl rfl)
theorem dX10_goes_54 : decode cX10_goes 54 = .ok (.iaload, 1) := dk_46 (dk_at dksX10_goes_2 9 rfl rfl)
theorem dX10_goes_55 : decode cX10_goes 55 = .ok (.iastore, 1) := dk_79 (dk_at dksX10_goes_2 10 rfl rfl)
theorem dX10_goes_56 : decode cX10_goes 56 = .ok (.aload_n 1, 1) := dk_43 (dk_at dksX10_goes_2 11 rfl rfl)
theorem dX10_goes_57 : decode cX10_goes 57 = .ok (.getfield 29, 3) := dk_180 0 29 (dk_at dksX10_goes_2 12 rfl rfl)
theorem dX10_goes_60 : decode cX10_goes 60 = .ok (.iload_n 3, 1) := dk_29 (dk_at dksX10_goes_2 15 rfl rfl)
theorem dX10_goes_61 : decode cX10_goes 61 = .ok (.bipush (-2), 2) := dk_16 254 (dk_at dksX10_goes_2 16 rfl rfl)
theorem dX10_goes_63 : decode cX10_goes 63 = .ok (.iastore, 1) := dk_79 (dk_at dksX10_goes_2 18 rfl rfl)
theorem dX10_goes_64 : decode cX10_goes 64 = .ok (.return_, 1) := dk_177 (dk_at dksX10_goes_2 19 rfl rfl)
theorem q129 : (Jvm.Cond.initialized "RatSorters$Going") ∈ lw_all := lw_g (lw_at lw_m1 17 rfl) rfl
theorem q447 : (Jvm.Cond.instantiable "RatSorters$Going" (0 : Nat)) ∈ lw_all := lw_g (lw_at lw_m2 95 rfl) rfl
theorem q449 : (Jvm.Cond.instanceMethod ({ cls := "RatSorters$Going", name := "<init>", desc := "()V" } : Jvm.MethodName)) ∈ lw_all := lw_g (lw_at lw_m2 97 rfl) rfl
theorem q450 : (Jvm.Cond.code ({ cls := "RatSorters$Going", name := "<init>", desc := "()V" } : Jvm.MethodName) prog_5_method_1_code (1 : Nat) (Option.none : Option Jvm.ClassFile.FieldType)) ∈ lw_all := lw_g (lw_at lw_m2 98 rfl) rfl
theorem q451 : (Jvm.Cond.methodLinkNest "RatSorters$Going" (3 : Nat) ({ cls := "RatSorters$Working", name := "<init>", desc := "()V" } : Jvm.MethodName) "RatSorters") ∈ lw_tbl := lw_at lw_m2 99 rfl
theorem q452 : (Jvm.Cond.superclass "RatSorters$Going" "RatSorters$Working") ∈ lw_all := lw_g (lw_at lw_m2 100 rfl) rfl
theorem q467 : (Jvm.Cond.fieldLink "RatSorters$Going" (26 : Nat) "RatSorters$House" "far" "[I") ∈ lw_all := lw_g (lw_at lw_m2 115 rfl) rfl
theorem q473 : (Jvm.Cond.fieldLink "RatSorters$Going" (23 : Nat) "RatSorters$House" "is" "[I") ∈ lw_all := lw_g (lw_at lw_m2 121 rfl) rfl
theorem q476 : (Jvm.Cond.fieldLink "RatSorters$Going" (13 : Nat) "RatSorters$House" "left" "[I") ∈ lw_all := lw_g (lw_at lw_m2 124 rfl) rfl
theorem q484 : (Jvm.Cond.fieldLink "RatSorters$Going" (29 : Nat) "RatSorters$House" "to" "[I") ∈ lw_all := lw_g (lw_at lw_m2 132 rfl) rfl
theorem q1035 : (Jvm.Cond.selects "RatSorters$Going" ({ cls := "java/lang/Object", name := "getClass", desc := "()Ljava/lang/Class;" } : Jvm.MethodName) ({ cls := "java/lang/Object", name := "getClass", desc := "()Ljava/lang/Class;" } : Jvm.MethodName)) ∈ lw_all := lw_g (lw_at lw_m4 203 rfl) rfl
theorem q1333 : (Jvm.Cond.selects "RatSorters$Going" ({ cls := "RatSorters$Doing", name := "goes", desc := "(LRatSorters$House;LRatSorters$Text;I)V" } : Jvm.MethodName) ({ cls := "RatSorters$Going", name := "goes", desc := "(LRatSorters$House;LRatSorters$Text;I)V" } : Jvm.MethodName)) ∈ lw_all := lw_g (lw_at lw_m6 21 rfl) rfl
theorem q1334 : (Jvm.Cond.instanceMethod ({ cls := "RatSorters$Going", name := "goes", desc := "(LRatSorters$House;LRatSorters$Text;I)V" } : Jvm.MethodName)) ∈ lw_all := lw_g (lw_at lw_m6 22 rfl) rfl
theorem q1335 : (Jvm.Cond.code ({ cls := "RatSorters$Going", name := "goes", desc := "(LRatSorters$House;LRatSorters$Text;I)V" } : Jvm.MethodName) prog_5_method_2_code (4 : Nat) (Option.none : Option Jvm.ClassFile.FieldType)) ∈ lw_all := lw_g (lw_at lw_m6 23 rfl) rfl
theorem q1336 : (Jvm.Cond.methodLink "RatSorters$Going" (9 : Nat) ({ cls := "RatSorters$Working", name := "goes", desc := "(LRatSorters$House;LRatSorters$Text;I)V" } : Jvm.MethodName)) ∈ lw_all := lw_g (lw_at lw_m6 24 rfl) rfl
theorem q1340 : (Jvm.Cond.methodLink "RatSorters$Going" (19 : Nat) ({ cls := "RatSorters$House", name := "drops", desc := "(I)V" } : Jvm.MethodName)) ∈ lw_all := lw_g (lw_at lw_m6 28 rfl) rfl
theorem q2278 : (Jvm.Cond.castable "RatSorters$Going" "java/lang/Object") ∈ lw_tbl := lw_at lw_m10 6 rfl
theorem q2292 : (Jvm.Cond.castable "RatSorters$Going" "RatSorters$Doing") ∈ lw_tbl := lw_at lw_m10 20 rfl
/-! RatSorters$Returning -/
set_option maxRecDepth 100000
def RX11 : String := "RatSorters$Returning"
abbrev cX11_init : ByteArray := prog_17_method_1_code
def yX11_init : MethodName := ⟨RX11, "<init>", "()V"⟩
theorem dX11_init_0 : decode cX11_init 0 = .ok (.aload_n 0, 1) := by decide +kernel
theorem dX11_init_1 : decode cX11_init 1 = .ok (.invokespecial 3, 3) := by decide +kernel
theorem dX11_init_4 : decode cX11_init 4 = .ok (.return_, 1) := by decide +kernel
abbrev cX11_goes : ByteArray := prog_17_method_2_code
def yX11_goes : MethodName := ⟨RX11, "goes", "(LRatSorters$House;LRatSorters$Text;I)V"⟩
def dkwX11_goes_1 : List UInt8 := [154, 0, 10, 43, 180, 0, 19, 29, 3, 79, 177]
abbrev dktX11_goes_1 : List UInt8 := dkwX11_goes_1 ++ []
def dkwX11_goes_0 : List UInt8 := [42, 43, 44, 29, 183, 0, 9, 43, 180, 0, 13, 29, 92, 46, 4, 100, 79, 43, 180, 0, 13, 29, 46]
abbrev dktX11_goes_0 : List UInt8 := dkwX11_goes_0 ++ dktX11_goes_1
theorem dksX11_goes_0 : cX11_goes.data.toList.drop 0 = dktX11_goes_0 := by decide +kernel
theorem dksX11_goes_1 : cX11_goes.data.toList.drop 23 = dktX11_goes_1 := dk_seg dksX11_goes_0 23 rfl rfl
theorem dX11_goes_0 : decode cX11_goes 0 = .ok (.aload_n 0, 1) := dk_42 (dk_at dksX11_goes_0 0 rfl rfl)
theorem dX11_goes_1 : decode cX11_goes 1 = .ok (.aload_n 1, 1) := dk_43 (dk_at dksX11_goes_0 1 rfl rfl)
theorem dX11_goes_2 : decode cX11_goes 2 = .ok (.aload_n 2, 1) := dk_44 (dk_at dksX11_goes_0 2 rfl rfl)
theorem dX11_goes_3 : decode cX11_goes 3 = .ok (.iload_n 3, 1) := dk_29 (dk_at dksX11_goes_0 3 rfl rfl)
theorem dX11_goes_4 : decode cX11_goes 4 = .ok (.invokespecial 9, 3) := dk_183 0 9 (dk_at dksX11_goes_0 4 rfl rfl)
theorem dX11_goes_7 : decode cX11_goes 7 = .ok (.aload_n 1, 1) := dk_43 (dk_at dksX11_goes_0 7 rfl rfl)
theorem dX11_goes_8 : decode cX11_goes 8 = .ok (.getfield 13, 3) := dk_180 0 13 (dk_at dksX11_goes_0 8 rfl rfl)
theorem dX11_goes_11 : decode cX11_goes 11 = .ok (.iload_n 3, 1) := dk_29 (dk_at dksX11_goes_0 11 rfl rfl)
theorem dX11_goes_12 : decode cX11_goes 12 = .ok (.dup2, 1) := dk_92 (dk_at dksX11_goes_0 12 rfl rfl)
theorem dX11_goes_13 : decode cX11_goes 13 = .ok (.iaload, 1) := dk_46 (dk_at dksX11_goes_0 13 rfl rfl)
theorem dX11_goes_14 : decode cX11_goes 14 = .ok (.iconst 1, 1) := dk_4 (dk_at dksX11_goes_0 14 rfl rfl)
theorem dX11_goes_15 : decode cX11_goes 15 = .ok (.isub, 1) := dk_100 (dk_at dksX11_goes_0 15 rfl rfl)
theorem dX11_goes_16 : decode cX11_goes 16 = .ok (.iastore, 1) := dk_79 (dk_at dksX11_goes_0 16 rfl rfl)
theorem dX11_goes_17 : decode cX11_goes 17 = .ok (.aload_n 1, 1) := dk_43 (dk_at dksX11_goes_0 17 rfl rfl)
theorem dX11_goes_18 : decode cX11_goes 18 = .ok (.getfield 13, 3) := dk_180 0 13 (dk_at dksX11_goes_0 18 rfl rfl)
theorem dX11_goes_21 : decode cX11_goes 21 = .ok (.iload_n 3, 1) := dk_29 (dk_at dksX11_goes_0 21 rfl rfl)
theorem dX11_goes_22 : decode cX11_goes 22 = .ok (.iaload, 1) := dk_46 (dk_at dksX11_goes_0 22 rfl rfl)
theorem dX11_goes_23 : decode cX11_goes 23 = .ok (.ifCond .ne 10, 3) := dk_154 0 10 (dk_at dksX11_goes_1 0 rfl rfl)
theorem dX11_goes_26 : decode cX11_goes 26 = .ok (.aload_n 1, 1) := dk_43 (dk_at dksX11_goes_1 3 rfl rfl)
theorem dX11_goes_27 : decode cX11_goes 27 = .ok (.getfield 19, 3) := dk_180 0 19 (dk_at dksX11_goes_1 4 rfl rfl)
theorem dX11_goes_30 : decode cX11_goes 30 = .ok (.iload_n 3, 1) := dk_29 (dk_at dksX11_goes_1 7 rfl rfl)
theorem dX11_goes_31 : decode cX11_goes 31 = .ok (.iconst 0, 1) := dk_3 (dk_at dksX11_goes_1 8 rfl rfl)
theorem dX11_goes_32 : decode cX11_goes 32 = .ok (.iastore, 1) := dk_79 (dk_at dksX11_goes_1 9 rfl rfl)
theorem dX11_goes_33 : decode cX11_goes 33 = .ok (.return_, 1) := dk_177 (dk_at dksX11_goes_1 10 rfl rfl)
theorem q130 : (Jvm.Cond.initialized "RatSorters$Returning") ∈ lw_all := lw_g (lw_at lw_m1 18 rfl) rfl
theorem q454 : (Jvm.Cond.instantiable "RatSorters$Returning" (0 : Nat)) ∈ lw_all := lw_g (lw_at lw_m2 102 rfl) rfl
theorem q456 : (Jvm.Cond.instanceMethod ({ cls := "RatSorters$Returning", name := "<init>", desc := "()V" } : Jvm.MethodName)) ∈ lw_all := lw_g (lw_at lw_m2 104 rfl) rfl
theorem q457 : (Jvm.Cond.code ({ cls := "RatSorters$Returning", name := "<init>", desc := "()V" } : Jvm.MethodName) prog_17_method_1_code (1 : Nat) (Option.none : Option Jvm.ClassFile.FieldType)) ∈ lw_all := lw_g (lw_at lw_m2 105 rfl) rfl
theorem q458 : (Jvm.Cond.methodLinkNest "RatSorters$Returning" (3 : Nat) ({ cls := "RatSorters$Working", name := "<init>", desc := "()V" } : Jvm.MethodName) "RatSorters") ∈ lw_tbl := lw_at lw_m2 106 rfl
theorem q459 : (Jvm.Cond.superclass "RatSorters$Returning" "RatSorters$Working") ∈ lw_all := lw_g (lw_at lw_m2 107 rfl) rfl
theorem q472 : (Jvm.Cond.fieldLink "RatSorters$Returning" (19 : Nat) "RatSorters$House" "is" "[I") ∈ lw_all := lw_g (lw_at lw_m2 120 rfl) rfl
theorem q477 : (Jvm.Cond.fieldLink "RatSorters$Returning" (13 : Nat) "RatSorters$House" "left" "[I") ∈ lw_all := lw_g (lw_at lw_m2 125 rfl) rfl
theorem q1046 : (Jvm.Cond.selects "RatSorters$Returning" ({ cls := "java/lang/Object", name := "getClass", desc := "()Ljava/lang/Class;" } : Jvm.MethodName) ({ cls := "java/lang/Object", name := "getClass", desc := "()Ljava/lang/Class;" } : Jvm.MethodName)) ∈ lw_all := lw_g (lw_at lw_m4 214 rfl) rfl
theorem q1400 : (Jvm.Cond.selects "RatSorters$Returning" ({ cls := "RatSorters$Doing", name := "goes", desc := "(LRatSorters$House;LRatSorters$Text;I)V" } : Jvm.MethodName) ({ cls := "RatSorters$Returning", name := "goes", desc := "(LRatSorters$House;LRatSorters$Text;I)V" } : Jvm.MethodName)) ∈ lw_all := lw_g (lw_at lw_m6 88 rfl) rfl
theorem q1401 : (Jvm.Cond.instanceMethod ({ cls := "RatSorters$Returning", name := "goes", desc := "(LRatSorters$House;LRatSorters$Text;I)V" } : Jvm.MethodName)) ∈ lw_all := lw_g (lw_at lw_m6 89 rfl) rfl
theorem q1402 : (Jvm.Cond.code ({ cls := "RatSorters$Returning", name := "goes", desc := "(LRatSorters$House;LRatSorters$Text;I)V" } : Jvm.MethodName) prog_17_method_2_code (4 : Nat) (Option.none : Option Jvm.ClassFile.FieldType)) ∈ lw_all := lw_g (lw_at lw_m6 90 rfl) rfl
theorem q1403 : (Jvm.Cond.methodLink "RatSorters$Returning" (9 : Nat) ({ cls := "RatSorters$Working", name := "goes", desc := "(LRatSorters$House;LRatSorters$Text;I)V" } : Jvm.MethodName)) ∈ lw_all := lw_g (lw_at lw_m6 91 rfl) rfl
theorem q2279 : (Jvm.Cond.castable "RatSorters$Returning" "java/lang/Object") ∈ lw_tbl := lw_at lw_m10 7 rfl
theorem q2293 : (Jvm.Cond.castable "RatSorters$Returning" "RatSorters$Doing") ∈ lw_tbl := lw_at lw_m10 21 rfl
/-! RatSorters$Named -/
set_option maxRecDepth 100000
def RX13 : String := "RatSorters$Named"
abbrev cX13_init : ByteArray := prog_13_method_1_code
def yX13_init : MethodName := ⟨RX13, "<init>", "(Ljava/lang/String;)V"⟩
def dkwX13_init_0 : List UInt8 := [42, 183, 0, 1, 42, 43, 181, 0, 7, 177]
abbrev dktX13_init_0 : List UInt8 := dkwX13_init_0 ++ []
theorem dksX13_init_0 : cX13_init.data.toList.drop 0 = dktX13_init_0 := by decide +kernel
theorem dX13_init_0 : decode cX13_init 0 = .ok (.aload_n 0, 1) := dk_42 (dk_at dksX13_init_0 0 rfl rfl)
theorem dX13_init_1 : decode cX13_init 1 = .ok (.invokespecial 1, 3) := dk_183 0 1 (dk_at dksX13_init_0 1 rfl rfl)
theorem dX13_init_4 : decode cX13_init 4 = .ok (.aload_n 0, 1) := dk_42 (dk_at dksX13_init_0 4 rfl rfl)
theorem dX13_init_5 : decode cX13_init 5 = .ok (.aload_n 1, 1) := dk_43 (dk_at dksX13_init_0 5 rfl rfl)
theorem dX13_init_6 : decode cX13_init 6 = .ok (.putfield 7, 3) := dk_181 0 7 (dk_at dksX13_init_0 6 rfl rfl)
theorem dX13_init_9 : decode cX13_init 9 = .ok (.return_, 1) := dk_177 (dk_at dksX13_init_0 9 rfl rfl)
theorem q137 : (Jvm.Cond.initialized "RatSorters$Named") ∈ lw_all := lw_g (lw_at lw_m1 25 rfl) rfl
theorem q984 : (Jvm.Cond.instanceMethod ({ cls := "RatSorters$Named", name := "<init>", desc := "(Ljava/lang/String;)V" } : Jvm.MethodName)) ∈ lw_all := lw_g (lw_at lw_m4 152 rfl) rfl
theorem q985 : (Jvm.Cond.code ({ cls := "RatSorters$Named", name := "<init>", desc := "(Ljava/lang/String;)V" } : Jvm.MethodName) prog_13_method_1_code (2 : Nat) (Option.none : Option Jvm.ClassFile.FieldType)) ∈ lw_all := lw_g (lw_at lw_m4 153 rfl) rfl
theorem q986 : (Jvm.Cond.methodLink "RatSorters$Named" (1 : Nat) ({ cls := "java/lang/Object", name := "<init>", desc := "()V" } : Jvm.MethodName)) ∈ lw_all := lw_g (lw_at lw_m4 154 rfl) rfl
theorem q991 : (Jvm.Cond.fieldLink "RatSorters$Named" (7 : Nat) "RatSorters$Named" "name" "Ljava/lang/String;") ∈ lw_all := lw_g (lw_at lw_m4 159 rfl) rfl
theorem q998 : (Jvm.Cond.soleField "RatSorters$Named" "name") ∈ lw_all := lw_g (lw_at lw_m4 166 rfl) rfl
/-! RatSorters$Grain -/
set_option maxRecDepth 100000
def RX14 : String := "RatSorters$Grain"
def TX14 : u_T := fun k => match k with
  | 0 => ("RatSorters$Named", "name", "Ljava/lang/String;", true)
  | 1 => ("RatSorters$Grain", "poured", "I", false)
  | _ => ("RatSorters$Grain", "pence", "I", false)
def tyX14 : Nat → FieldType := fun k => match k with
  | 0 => .object "java/lang/String"
  | 1 => .int
  | _ => .int
abbrev wsX140 : List Cond := u_ws RX14 TX14 3
theorem nmX14 : ∀ a, a < 3 → ∀ b, b < 3 → a ≠ b → (TX14 a).2.1 ≠ (TX14 b).2.1 := by decide +kernel
theorem tyX14_ok : ∀ k, k < 3 → parseFieldDescriptor (TX14 k).2.2.1 = some (tyX14 k) := by decide +kernel
abbrev cX14_init : ByteArray := prog_6_method_1_code
def yX14_init : MethodName := ⟨RX14, "<init>", "(Ljava/lang/String;)V"⟩
def dkwX14_init_0 : List UInt8 := [42, 43, 183, 0, 1, 177]
abbrev dktX14_init_0 : List UInt8 := dkwX14_init_0 ++ []
theorem dksX14_init_0 : cX14_init.data.toList.drop 0 = dktX14_init_0 := by decide +kernel
theorem dX14_init_0 : decode cX14_init 0 = .ok (.aload_n 0, 1) := dk_42 (dk_at dksX14_init_0 0 rfl rfl)
theorem dX14_init_1 : decode cX14_init 1 = .ok (.aload_n 1, 1) := dk_43 (dk_at dksX14_init_0 1 rfl rfl)
theorem dX14_init_2 : decode cX14_init 2 = .ok (.invokespecial 1, 3) := dk_183 0 1 (dk_at dksX14_init_0 2 rfl rfl)
theorem dX14_init_5 : decode cX14_init 5 = .ok (.return_, 1) := dk_177 (dk_at dksX14_init_0 5 rfl rfl)
theorem q138 : (Jvm.Cond.initialized "RatSorters$Grain") ∈ lw_all := lw_g (lw_at lw_m1 26 rfl) rfl
theorem q783 : (Jvm.Cond.instantiable "RatSorters$Grain" (3 : Nat)) ∈ lw_all := lw_g (lw_at lw_m3 191 rfl) rfl
theorem q981 : (Jvm.Cond.instanceMethod ({ cls := "RatSorters$Grain", name := "<init>", desc := "(Ljava/lang/String;)V" } : Jvm.MethodName)) ∈ lw_all := lw_g (lw_at lw_m4 149 rfl) rfl
theorem q982 : (Jvm.Cond.code ({ cls := "RatSorters$Grain", name := "<init>", desc := "(Ljava/lang/String;)V" } : Jvm.MethodName) prog_6_method_1_code (2 : Nat) (Option.none : Option Jvm.ClassFile.FieldType)) ∈ lw_all := lw_g (lw_at lw_m4 150 rfl) rfl
theorem q983 : (Jvm.Cond.methodLink "RatSorters$Grain" (1 : Nat) ({ cls := "RatSorters$Named", name := "<init>", desc := "(Ljava/lang/String;)V" } : Jvm.MethodName)) ∈ lw_all := lw_g (lw_at lw_m4 151 rfl) rfl
theorem q993 : (Jvm.Cond.lays "RatSorters$Grain" "RatSorters$Grain" "poured" "I") ∈ lw_all := lw_g (lw_at lw_m4 161 rfl) rfl
theorem q994 : (Jvm.Cond.soleField "RatSorters$Grain" "poured") ∈ lw_all := lw_g (lw_at lw_m4 162 rfl) rfl
theorem q995 : (Jvm.Cond.lays "RatSorters$Grain" "RatSorters$Grain" "pence" "I") ∈ lw_all := lw_g (lw_at lw_m4 163 rfl) rfl
theorem q996 : (Jvm.Cond.soleField "RatSorters$Grain" "pence") ∈ lw_all := lw_g (lw_at lw_m4 164 rfl) rfl
theorem q997 : (Jvm.Cond.laysFinal "RatSorters$Grain" "RatSorters$Named" "name" "Ljava/lang/String;") ∈ lw_all := lw_g (lw_at lw_m4 165 rfl) rfl
theorem q999 : (Jvm.Cond.superclass "RatSorters$Grain" "RatSorters$Named") ∈ lw_all := lw_g (lw_at lw_m4 167 rfl) rfl
theorem q1036 : (Jvm.Cond.selects "RatSorters$Grain" ({ cls := "java/lang/Object", name := "getClass", desc := "()Ljava/lang/Class;" } : Jvm.MethodName) ({ cls := "java/lang/Object", name := "getClass", desc := "()Ljava/lang/Class;" } : Jvm.MethodName)) ∈ lw_all := lw_g (lw_at lw_m4 204 rfl) rfl
theorem q2263 : (Jvm.Cond.castable "RatSorters$Grain" "RatSorters$Named") ∈ lw_tbl := lw_at lw_m9 231 rfl
theorem q2281 : (Jvm.Cond.castable "RatSorters$Grain" "java/lang/Object") ∈ lw_tbl := lw_at lw_m10 9 rfl
theorem in_X14 : ∀ w ∈ wsX140, w ∈ lw_all := lw_in wsX140 [997, 993, 995] (by decide +kernel) (by decide +kernel)
/-! RatSorters$Hole -/
set_option maxRecDepth 100000
def RX15 : String := "RatSorters$Hole"
def TX15 : u_T := fun k => match k with
  | 0 => ("RatSorters$Named", "name", "Ljava/lang/String;", true)
  | 1 => ("RatSorters$Hole", "far", "I", false)
  | _ => ("RatSorters$Hole", "grain", "I", false)
def tyX15 : Nat → FieldType := fun k => match k with
  | 0 => .object "java/lang/String"
  | 1 => .int
  | _ => .int
abbrev wsX150 : List Cond := u_ws RX15 TX15 3
theorem nmX15 : ∀ a, a < 3 → ∀ b, b < 3 → a ≠ b → (TX15 a).2.1 ≠ (TX15 b).2.1 := by decide +kernel
theorem tyX15_ok : ∀ k, k < 3 → parseFieldDescriptor (TX15 k).2.2.1 = some (tyX15 k) := by decide +kernel
abbrev cX15_init : ByteArray := prog_7_method_1_code
def yX15_init : MethodName := ⟨RX15, "<init>", "(Ljava/lang/String;)V"⟩
def dkwX15_init_0 : List UInt8 := [42, 43, 183, 0, 1, 177]
abbrev dktX15_init_0 : List UInt8 := dkwX15_init_0 ++ []
theorem dksX15_init_0 : cX15_init.data.toList.drop 0 = dktX15_init_0 := by decide +kernel
theorem dX15_init_0 : decode cX15_init 0 = .ok (.aload_n 0, 1) := dk_42 (dk_at dksX15_init_0 0 rfl rfl)
theorem dX15_init_1 : decode cX15_init 1 = .ok (.aload_n 1, 1) := dk_43 (dk_at dksX15_init_0 1 rfl rfl)
theorem dX15_init_2 : decode cX15_init 2 = .ok (.invokespecial 1, 3) := dk_183 0 1 (dk_at dksX15_init_0 2 rfl rfl)
theorem dX15_init_5 : decode cX15_init 5 = .ok (.return_, 1) := dk_177 (dk_at dksX15_init_0 5 rfl rfl)
theorem q145 : (Jvm.Cond.initialized "RatSorters$Hole") ∈ lw_all := lw_g (lw_at lw_m1 33 rfl) rfl
theorem q1037 : (Jvm.Cond.selects "RatSorters$Hole" ({ cls := "java/lang/Object", name := "getClass", desc := "()Ljava/lang/Class;" } : Jvm.MethodName) ({ cls := "java/lang/Object", name := "getClass", desc := "()Ljava/lang/Class;" } : Jvm.MethodName)) ∈ lw_all := lw_g (lw_at lw_m4 205 rfl) rfl
theorem q1064 : (Jvm.Cond.instantiable "RatSorters$Hole" (3 : Nat)) ∈ lw_all := lw_g (lw_at lw_m4 232 rfl) rfl
theorem q1066 : (Jvm.Cond.instanceMethod ({ cls := "RatSorters$Hole", name := "<init>", desc := "(Ljava/lang/String;)V" } : Jvm.MethodName)) ∈ lw_all := lw_g (lw_at lw_m4 234 rfl) rfl
theorem q1067 : (Jvm.Cond.code ({ cls := "RatSorters$Hole", name := "<init>", desc := "(Ljava/lang/String;)V" } : Jvm.MethodName) prog_7_method_1_code (2 : Nat) (Option.none : Option Jvm.ClassFile.FieldType)) ∈ lw_all := lw_g (lw_at lw_m4 235 rfl) rfl
theorem q1068 : (Jvm.Cond.methodLink "RatSorters$Hole" (1 : Nat) ({ cls := "RatSorters$Named", name := "<init>", desc := "(Ljava/lang/String;)V" } : Jvm.MethodName)) ∈ lw_all := lw_g (lw_at lw_m4 236 rfl) rfl
theorem q1074 : (Jvm.Cond.lays "RatSorters$Hole" "RatSorters$Hole" "far" "I") ∈ lw_all := lw_g (lw_at lw_m5 2 rfl) rfl
theorem q1075 : (Jvm.Cond.soleField "RatSorters$Hole" "far") ∈ lw_all := lw_g (lw_at lw_m5 3 rfl) rfl
theorem q1076 : (Jvm.Cond.lays "RatSorters$Hole" "RatSorters$Hole" "grain" "I") ∈ lw_all := lw_g (lw_at lw_m5 4 rfl) rfl
theorem q1077 : (Jvm.Cond.soleField "RatSorters$Hole" "grain") ∈ lw_all := lw_g (lw_at lw_m5 5 rfl) rfl
theorem q1078 : (Jvm.Cond.laysFinal "RatSorters$Hole" "RatSorters$Named" "name" "Ljava/lang/String;") ∈ lw_all := lw_g (lw_at lw_m5 6 rfl) rfl
theorem q1079 : (Jvm.Cond.superclass "RatSorters$Hole" "RatSorters$Named") ∈ lw_all := lw_g (lw_at lw_m5 7 rfl) rfl
theorem q2264 : (Jvm.Cond.castable "RatSorters$Hole" "RatSorters$Named") ∈ lw_tbl := lw_at lw_m9 232 rfl
theorem q2283 : (Jvm.Cond.castable "RatSorters$Hole" "java/lang/Object") ∈ lw_tbl := lw_at lw_m10 11 rfl
theorem in_X15 : ∀ w ∈ wsX150, w ∈ lw_all := lw_in wsX150 [1078, 1074, 1076] (by decide +kernel) (by decide +kernel)
/-! RatSorters$Rat -/
set_option maxRecDepth 100000
def RX16 : String := "RatSorters$Rat"
def TX16 : u_T := fun k => match k with
  | 0 => ("RatSorters$Named", "name", "Ljava/lang/String;", true)
  | 1 => ("RatSorters$Rat", "knows", "I", false)
  | 2 => ("RatSorters$Rat", "hole", "I", false)
  | 3 => ("RatSorters$Rat", "fat", "I", false)
  | _ => ("RatSorters$Rat", "fee", "I", false)
def tyX16 : Nat → FieldType := fun k => match k with
  | 0 => .object "java/lang/String"
  | 1 => .int
  | 2 => .int
  | 3 => .int
  | _ => .int
abbrev wsX160 : List Cond := u_ws RX16 TX16 5
theorem nmX16 : ∀ a, a < 5 → ∀ b, b < 5 → a ≠ b → (TX16 a).2.1 ≠ (TX16 b).2.1 := by decide +kernel
theorem tyX16_ok : ∀ k, k < 5 → parseFieldDescriptor (TX16 k).2.2.1 = some (tyX16 k) := by decide +kernel
abbrev cX16_init : ByteArray := prog_16_method_1_code
def yX16_init : MethodName := ⟨RX16, "<init>", "(Ljava/lang/String;)V"⟩
def dkwX16_init_0 : List UInt8 := [42, 43, 183, 0, 1, 177]
abbrev dktX16_init_0 : List UInt8 := dkwX16_init_0 ++ []
theorem dksX16_init_0 : cX16_init.data.toList.drop 0 = dktX16_init_0 := by decide +kernel
theorem dX16_init_0 : decode cX16_init 0 = .ok (.aload_n 0, 1) := dk_42 (dk_at dksX16_init_0 0 rfl rfl)
theorem dX16_init_1 : decode cX16_init 1 = .ok (.aload_n 1, 1) := dk_43 (dk_at dksX16_init_0 1 rfl rfl)
theorem dX16_init_2 : decode cX16_init 2 = .ok (.invokespecial 1, 3) := dk_183 0 1 (dk_at dksX16_init_0 2 rfl rfl)
theorem dX16_init_5 : decode cX16_init 5 = .ok (.return_, 1) := dk_177 (dk_at dksX16_init_0 5 rfl rfl)
theorem q146 : (Jvm.Cond.initialized "RatSorters$Rat") ∈ lw_all := lw_g (lw_at lw_m1 34 rfl) rfl
theorem q1045 : (Jvm.Cond.selects "RatSorters$Rat" ({ cls := "java/lang/Object", name := "getClass", desc := "()Ljava/lang/Class;" } : Jvm.MethodName) ({ cls := "java/lang/Object", name := "getClass", desc := "()Ljava/lang/Class;" } : Jvm.MethodName)) ∈ lw_all := lw_g (lw_at lw_m4 213 rfl) rfl
theorem q1086 : (Jvm.Cond.instantiable "RatSorters$Rat" (5 : Nat)) ∈ lw_all := lw_g (lw_at lw_m5 14 rfl) rfl
theorem q1088 : (Jvm.Cond.instanceMethod ({ cls := "RatSorters$Rat", name := "<init>", desc := "(Ljava/lang/String;)V" } : Jvm.MethodName)) ∈ lw_all := lw_g (lw_at lw_m5 16 rfl) rfl
theorem q1089 : (Jvm.Cond.code ({ cls := "RatSorters$Rat", name := "<init>", desc := "(Ljava/lang/String;)V" } : Jvm.MethodName) prog_16_method_1_code (2 : Nat) (Option.none : Option Jvm.ClassFile.FieldType)) ∈ lw_all := lw_g (lw_at lw_m5 17 rfl) rfl
theorem q1090 : (Jvm.Cond.methodLink "RatSorters$Rat" (1 : Nat) ({ cls := "RatSorters$Named", name := "<init>", desc := "(Ljava/lang/String;)V" } : Jvm.MethodName)) ∈ lw_all := lw_g (lw_at lw_m5 18 rfl) rfl
theorem q1099 : (Jvm.Cond.lays "RatSorters$Rat" "RatSorters$Rat" "knows" "I") ∈ lw_all := lw_g (lw_at lw_m5 27 rfl) rfl
theorem q1100 : (Jvm.Cond.soleField "RatSorters$Rat" "knows") ∈ lw_all := lw_g (lw_at lw_m5 28 rfl) rfl
theorem q1101 : (Jvm.Cond.lays "RatSorters$Rat" "RatSorters$Rat" "hole" "I") ∈ lw_all := lw_g (lw_at lw_m5 29 rfl) rfl
theorem q1102 : (Jvm.Cond.soleField "RatSorters$Rat" "hole") ∈ lw_all := lw_g (lw_at lw_m5 30 rfl) rfl
theorem q1103 : (Jvm.Cond.lays "RatSorters$Rat" "RatSorters$Rat" "fat" "I") ∈ lw_all := lw_g (lw_at lw_m5 31 rfl) rfl
theorem q1104 : (Jvm.Cond.soleField "RatSorters$Rat" "fat") ∈ lw_all := lw_g (lw_at lw_m5 32 rfl) rfl
theorem q1105 : (Jvm.Cond.lays "RatSorters$Rat" "RatSorters$Rat" "fee" "I") ∈ lw_all := lw_g (lw_at lw_m5 33 rfl) rfl
theorem q1106 : (Jvm.Cond.soleField "RatSorters$Rat" "fee") ∈ lw_all := lw_g (lw_at lw_m5 34 rfl) rfl
theorem q1107 : (Jvm.Cond.laysFinal "RatSorters$Rat" "RatSorters$Named" "name" "Ljava/lang/String;") ∈ lw_all := lw_g (lw_at lw_m5 35 rfl) rfl
theorem q1108 : (Jvm.Cond.superclass "RatSorters$Rat" "RatSorters$Named") ∈ lw_all := lw_g (lw_at lw_m5 36 rfl) rfl
theorem q2265 : (Jvm.Cond.castable "RatSorters$Rat" "RatSorters$Named") ∈ lw_tbl := lw_at lw_m9 233 rfl
theorem q2284 : (Jvm.Cond.castable "RatSorters$Rat" "java/lang/Object") ∈ lw_tbl := lw_at lw_m10 12 rfl
theorem in_X16 : ∀ w ∈ wsX160, w ∈ lw_all := lw_in wsX160 [1107, 1099, 1101, 1103, 1105] (by decide +kernel) (by decide +kernel)
/-! RatSorters$Law -/
set_option maxRecDepth 100000
def RX17 : String := "RatSorters$Law"
def TX17 : u_T := fun k => match k with
  | 0 => ("RatSorters$Law", "less", "[LRatSorters$Sum;", true)
  | 1 => ("RatSorters$Law", "than", "[LRatSorters$Sum;", true)
  | 2 => ("RatSorters$Law", "then", "[LRatSorters$Sum;", true)
  | _ => ("RatSorters$Law", "ifs", "I", false)
def tyX17 : Nat → FieldType := fun k => match k with
  | 0 => .array (.object "RatSorters$Sum")
  | 1 => .array (.object "RatSorters$Sum")
  | 2 => .array (.object "RatSorters$Sum")
  | _ => .int
abbrev wsX170 : List Cond := u_ws RX17 TX17 4
theorem nmX17 : ∀ a, a < 4 → ∀ b, b < 4 → a ≠ b → (TX17 a).2.1 ≠ (TX17 b).2.1 := by decide +kernel
theorem tyX17_ok : ∀ k, k < 4 → parseFieldDescriptor (TX17 k).2.2.1 = some (tyX17 k) := by decide +kernel
abbrev cX17_init : ByteArray := prog_10_method_1_code
def yX17_init : MethodName := ⟨RX17, "<init>", "()V"⟩
def dkwX17_init_1 : List UInt8 := [189, 0, 9, 181, 0, 20, 177]
abbrev dktX17_init_1 : List UInt8 := dkwX17_init_1 ++ []
def dkwX17_init_0 : List UInt8 := [42, 183, 0, 3, 42, 7, 189, 0, 9, 181, 0, 11, 42, 7, 189, 0, 9, 181, 0, 17, 42, 8]
abbrev dktX17_init_0 : List UInt8 := dkwX17_init_0 ++ dktX17_init_1
theorem dksX17_init_0 : cX17_init.data.toList.drop 0 = dktX17_init_0 := by decide +kernel
theorem dksX17_init_1 : cX17_init.data.toList.drop 22 = dktX17_init_1 := dk_seg dksX17_init_0 22 rfl rfl
theorem dX17_init_0 : decode cX17_init 0 = .ok (.aload_n 0, 1) := dk_42 (dk_at dksX17_init_0 0 rfl rfl)
theorem dX17_init_1 : decode cX17_init 1 = .ok (.invokespecial 3, 3) := dk_183 0 3 (dk_at dksX17_init_0 1 rfl rfl)
theorem dX17_init_4 : decode cX17_init 4 = .ok (.aload_n 0, 1) := dk_42 (dk_at dksX17_init_0 4 rfl rfl)
theorem dX17_init_5 : decode cX17_init 5 = .ok (.iconst 4, 1) := dk_7 (dk_at dksX17_init_0 5 rfl rfl)
theorem dX17_init_6 : decode cX17_init 6 = .ok (.anewarray 9, 3) := dk_189 0 9 (dk_at dksX17_init_0 6 rfl rfl)
theorem dX17_init_9 : decode cX17_init 9 = .ok (.putfield 11, 3) := dk_181 0 11 (dk_at dksX17_init_0 9 rfl rfl)
theorem dX17_init_12 : decode cX17_init 12 = .ok (.aload_n 0, 1) := dk_42 (dk_at dksX17_init_0 12 rfl rfl)
theorem dX17_init_13 : decode cX17_init 13 = .ok (.iconst 4, 1) := dk_7 (dk_at dksX17_init_0 13 rfl rfl)
theorem dX17_init_14 : decode cX17_init 14 = .ok (.anewarray 9, 3) := dk_189 0 9 (dk_at dksX17_init_0 14 rfl rfl)
theorem dX17_init_17 : decode cX17_init 17 = .ok (.putfield 17, 3) := dk_181 0 17 (dk_at dksX17_init_0 17 rfl rfl)
theorem dX17_init_20 : decode cX17_init 20 = .ok (.aload_n 0, 1) := dk_42 (dk_at dksX17_init_0 20 rfl rfl)
theorem dX17_init_21 : decode cX17_init 21 = .ok (.iconst 5, 1) := dk_8 (dk_at dksX17_init_0 21 rfl rfl)
theorem dX17_init_22 : decode cX17_init 22 = .ok (.anewarray 9, 3) := dk_189 0 9 (dk_at dksX17_init_1 0 rfl rfl)
theorem dX17_init_25 : decode cX17_init 25 = .ok (.putfield 20, 3) := dk_181 0 20 (dk_at dksX17_init_1 3 rfl rfl)
theorem dX17_init_28 : decode cX17_init 28 = .ok (.return_, 1) := dk_177 (dk_at dksX17_init_1 6 rfl rfl)
abbrev cX17_of : ByteArray := prog_10_method_2_code
def yX17_of : MethodName := ⟨RX17, "of", "(LRatSorters$Asked;)I"⟩
def dkwX17_of_2 : List UInt8 := [180, 0, 20, 28, 50, 43, 182, 0, 33, 62, 43, 180, 0, 23, 153, 0, 7, 3, 167, 0, 4, 29, 172]
abbrev dktX17_of_2 : List UInt8 := dkwX17_of_2 ++ []
def dkwX17_of_1 : List UInt8 := [182, 0, 33, 42, 180, 0, 17, 28, 50, 43, 182, 0, 33, 161, 0, 9, 132, 2, 1, 167, 255, 222, 42]
abbrev dktX17_of_1 : List UInt8 := dkwX17_of_1 ++ dktX17_of_2
def dkwX17_of_0 : List UInt8 := [43, 3, 181, 0, 23, 3, 61, 28, 42, 180, 0, 29, 162, 0, 32, 42, 180, 0, 11, 28, 50, 43]
abbrev dktX17_of_0 : List UInt8 := dkwX17_of_0 ++ dktX17_of_1
theorem dksX17_of_0 : cX17_of.data.toList.drop 0 = dktX17_of_0 := by decide +kernel
theorem dksX17_of_1 : cX17_of.data.toList.drop 22 = dktX17_of_1 := dk_seg dksX17_of_0 22 rfl rfl
theorem dksX17_of_2 : cX17_of.data.toList.drop 45 = dktX17_of_2 := dk_seg dksX17_of_1 23 rfl rfl
theorem dX17_of_0 : decode cX17_of 0 = .ok (.aload_n 1, 1) := dk_43 (dk_at dksX17_of_0 0 rfl rfl)
theorem dX17_of_1 : decode cX17_of 1 = .ok (.iconst 0, 1) := dk_3 (dk_at dksX17_of_0 1 rfl rfl)
theorem dX17_of_2 : decode cX17_of 2 = .ok (.putfield 23, 3) := dk_181 0 23 (dk_at dksX17_of_0 2 rfl rfl)
theorem dX17_of_5 : decode cX17_of 5 = .ok (.iconst 0, 1) := dk_3 (dk_at dksX17_of_0 5 rfl rfl)
theorem dX17_of_6 : decode cX17_of 6 = .ok (.istore_n 2, 1) := dk_61 (dk_at dksX17_of_0 6 rfl rfl)
theorem dX17_of_7 : decode cX17_of 7 = .ok (.iload_n 2, 1) := dk_28 (dk_at dksX17_of_0 7 rfl rfl)
theorem dX17_of_8 : decode cX17_of 8 = .ok (.aload_n 0, 1) := dk_42 (dk_at dksX17_of_0 8 rfl rfl)
theorem dX17_of_9 : decode cX17_of 9 = .ok (.getfield 29, 3) := dk_180 0 29 (dk_at dksX17_of_0 9 rfl rfl)
theorem dX17_of_12 : decode cX17_of 12 = .ok (.if_icmp .ge 32, 3) := dk_162 0 32 (dk_at dksX17_of_0 12 rfl rfl)
theorem dX17_of_15 : decode cX17_of 15 = .ok (.aload_n 0, 1) := dk_42 (dk_at dksX17_of_0 15 rfl rfl)
theorem dX17_of_16 : decode cX17_of 16 = .ok (.getfield 11, 3) := dk_180 0 11 (dk_at dksX17_of_0 16 rfl rfl)
theorem dX17_of_19 : decode cX17_of 19 = .ok (.iload_n 2, 1) := dk_28 (dk_at dksX17_of_0 19 rfl rfl)
theorem dX17_of_20 : decode cX17_of 20 = .ok (.aaload, 1) := dk_50 (dk_at dksX17_of_0 20 rfl rfl)
theorem dX17_of_21 : decode cX17_of 21 = .ok (.aload_n 1, 1) := dk_43 (dk_at dksX17_of_0 21 rfl rfl)
theorem dX17_of_22 : decode cX17_of 22 = .ok (.invokevirtual 33, 3) := dk_182 0 33 (dk_at dksX17_of_1 0 rfl rfl)
theorem dX17_of_25 : decode cX17_of 25 = .ok (.aload_n 0, 1) := dk_42 (dk_at dksX17_of_1 3 rfl rfl)
theorem dX17_of_26 : decode cX17_of 26 = .ok (.getfield 17, 3) := dk_180 0 17 (dk_at dksX17_of_1 4 rfl rfl)
theorem dX17_of_29 : decode cX17_of 29 = .ok (.iload_n 2, 1) := dk_28 (dk_at dksX17_of_1 7 rfl rfl)
theorem dX17_of_30 : decode cX17_of 30 = .ok (.aaload, 1) := dk_50 (dk_at dksX17_of_1 8 rfl rfl)
theorem dX17_of_31 : decode cX17_of 31 = .ok (.aload_n 1, 1) := dk_43 (dk_at dksX17_of_1 9 rfl rfl)
theorem dX17_of_32 : decode cX17_of 32 = .ok (.invokevirtual 33, 3) := dk_182 0 33 (dk_at dksX17_of_1 10 rfl rfl)
theorem dX17_of_35 : decode cX17_of 35 = .ok (.if_icmp .lt 9, 3) := dk_161 0 9 (dk_at dksX17_of_1 13 rfl rfl)
theorem dX17_of_38 : decode cX17_of 38 = .ok (.iinc 2 1, 3) := dk_132 2 1 (dk_at dksX17_of_1 16 rfl rfl)
theorem dX17_of_41 : decode cX17_of 41 = .ok (.goto (-34), 3) := dk_167 255 222 (dk_at dksX17_of_1 19 rfl rfl)
theorem dX17_of_44 : decode cX17_of 44 = .ok (.aload_n 0, 1) := dk_42 (dk_at dksX17_of_1 22 rfl rfl)
theorem dX17_of_45 : decode cX17_of 45 = .ok (.getfield 20, 3) := dk_180 0 20 (dk_at dksX17_of_2 0 rfl rfl)
theorem dX17_of_48 : decode cX17_of 48 = .ok (.iload_n 2, 1) := dk_28 (dk_at dksX17_of_2 3 rfl rfl)
theorem dX17_of_49 : decode cX17_of 49 = .ok (.aaload, 1) := dk_50 (dk_at dksX17_of_2 4 rfl rfl)
theorem dX17_of_50 : decode cX17_of 50 = .ok (.aload_n 1, 1) := dk_43 (dk_at dksX17_of_2 5 rfl rfl)
theorem dX17_of_51 : decode cX17_of 51 = .ok (.invokevirtual 33, 3) := dk_182 0 33 (dk_at dksX17_of_2 6 rfl rfl)
theorem dX17_of_54 : decode cX17_of 54 = .ok (.istore_n 3, 1) := dk_62 (dk_at dksX17_of_2 9 rfl rfl)
theorem dX17_of_55 : decode cX17_of 55 = .ok (.aload_n 1, 1) := dk_43 (dk_at dksX17_of_2 10 rfl rfl)
theorem dX17_of_56 : decode cX17_of 56 = .ok (.getfield 23, 3) := dk_180 0 23 (dk_at dksX17_of_2 11 rfl rfl)
theorem dX17_of_59 : decode cX17_of 59 = .ok (.ifCond .eq 7, 3) := dk_153 0 7 (dk_at dksX17_of_2 14 rfl rfl)
theorem dX17_of_62 : decode cX17_of 62 = .ok (.iconst 0, 1) := dk_3 (dk_at dksX17_of_2 17 rfl rfl)
theorem dX17_of_63 : decode cX17_of 63 = .ok (.goto 4, 3) := dk_167 0 4 (dk_at dksX17_of_2 18 rfl rfl)
theorem dX17_of_66 : decode cX17_of 66 = .ok (.iload_n 3, 1) := dk_29 (dk_at dksX17_of_2 21 rfl rfl)
theorem dX17_of_67 : decode cX17_of 67 = .ok (.ireturn, 1) := dk_172 (dk_at dksX17_of_2 22 rfl rfl)
theorem q147 : (Jvm.Cond.initialized "RatSorters$Law") ∈ lw_all := lw_g (lw_at lw_m1 35 rfl) rfl
theorem q423 : (Jvm.Cond.fieldLink "RatSorters$Law" (23 : Nat) "RatSorters$Asked" "nought" "Z") ∈ lw_all := lw_g (lw_at lw_m2 71 rfl) rfl
theorem q1040 : (Jvm.Cond.selects "RatSorters$Law" ({ cls := "java/lang/Object", name := "getClass", desc := "()Ljava/lang/Class;" } : Jvm.MethodName) ({ cls := "java/lang/Object", name := "getClass", desc := "()Ljava/lang/Class;" } : Jvm.MethodName)) ∈ lw_all := lw_g (lw_at lw_m4 208 rfl) rfl
theorem q1114 : (Jvm.Cond.instantiable "RatSorters$Law" (4 : Nat)) ∈ lw_all := lw_g (lw_at lw_m5 42 rfl) rfl
theorem q1116 : (Jvm.Cond.instanceMethod ({ cls := "RatSorters$Law", name := "<init>", desc := "()V" } : Jvm.MethodName)) ∈ lw_all := lw_g (lw_at lw_m5 44 rfl) rfl
theorem q1117 : (Jvm.Cond.code ({ cls := "RatSorters$Law", name := "<init>", desc := "()V" } : Jvm.MethodName) prog_10_method_1_code (1 : Nat) (Option.none : Option Jvm.ClassFile.FieldType)) ∈ lw_all := lw_g (lw_at lw_m5 45 rfl) rfl
theorem q1118 : (Jvm.Cond.methodLink "RatSorters$Law" (3 : Nat) ({ cls := "java/lang/Object", name := "<init>", desc := "()V" } : Jvm.MethodName)) ∈ lw_all := lw_g (lw_at lw_m5 46 rfl) rfl
theorem q1119 : (Jvm.Cond.classLink "RatSorters$Law" (9 : Nat) "RatSorters$Sum") ∈ lw_all := lw_g (lw_at lw_m5 47 rfl) rfl
theorem q1121 : (Jvm.Cond.fieldLink "RatSorters$Law" (11 : Nat) "RatSorters$Law" "less" "[LRatSorters$Sum;") ∈ lw_all := lw_g (lw_at lw_m5 49 rfl) rfl
theorem q1123 : (Jvm.Cond.fieldLink "RatSorters$Law" (17 : Nat) "RatSorters$Law" "than" "[LRatSorters$Sum;") ∈ lw_all := lw_g (lw_at lw_m5 51 rfl) rfl
theorem q1125 : (Jvm.Cond.fieldLink "RatSorters$Law" (20 : Nat) "RatSorters$Law" "then" "[LRatSorters$Sum;") ∈ lw_all := lw_g (lw_at lw_m5 53 rfl) rfl
theorem q1127 : (Jvm.Cond.fieldLink "RatSorters$Law" (29 : Nat) "RatSorters$Law" "ifs" "I") ∈ lw_all := lw_g (lw_at lw_m5 55 rfl) rfl
theorem q1129 : (Jvm.Cond.laysFinal "RatSorters$Law" "RatSorters$Law" "less" "[LRatSorters$Sum;") ∈ lw_all := lw_g (lw_at lw_m5 57 rfl) rfl
theorem q1130 : (Jvm.Cond.soleField "RatSorters$Law" "less") ∈ lw_all := lw_g (lw_at lw_m5 58 rfl) rfl
theorem q1131 : (Jvm.Cond.laysFinal "RatSorters$Law" "RatSorters$Law" "than" "[LRatSorters$Sum;") ∈ lw_all := lw_g (lw_at lw_m5 59 rfl) rfl
theorem q1132 : (Jvm.Cond.soleField "RatSorters$Law" "than") ∈ lw_all := lw_g (lw_at lw_m5 60 rfl) rfl
theorem q1133 : (Jvm.Cond.laysFinal "RatSorters$Law" "RatSorters$Law" "then" "[LRatSorters$Sum;") ∈ lw_all := lw_g (lw_at lw_m5 61 rfl) rfl
theorem q1134 : (Jvm.Cond.soleField "RatSorters$Law" "then") ∈ lw_all := lw_g (lw_at lw_m5 62 rfl) rfl
theorem q1135 : (Jvm.Cond.lays "RatSorters$Law" "RatSorters$Law" "ifs" "I") ∈ lw_all := lw_g (lw_at lw_m5 63 rfl) rfl
theorem q1136 : (Jvm.Cond.soleField "RatSorters$Law" "ifs") ∈ lw_all := lw_g (lw_at lw_m5 64 rfl) rfl
theorem q1137 : (Jvm.Cond.superclass "RatSorters$Law" "java/lang/Object") ∈ lw_all := lw_g (lw_at lw_m5 65 rfl) rfl
theorem q1365 : (Jvm.Cond.instanceMethod ({ cls := "RatSorters$Law", name := "of", desc := "(LRatSorters$Asked;)I" } : Jvm.MethodName)) ∈ lw_all := lw_g (lw_at lw_m6 53 rfl) rfl
theorem q1366 : (Jvm.Cond.selects "RatSorters$Law" ({ cls := "RatSorters$Law", name := "of", desc := "(LRatSorters$Asked;)I" } : Jvm.MethodName) ({ cls := "RatSorters$Law", name := "of", desc := "(LRatSorters$Asked;)I" } : Jvm.MethodName)) ∈ lw_all := lw_g (lw_at lw_m6 54 rfl) rfl
theorem q1367 : (Jvm.Cond.code ({ cls := "RatSorters$Law", name := "of", desc := "(LRatSorters$Asked;)I" } : Jvm.MethodName) prog_10_method_2_code (4 : Nat) (Option.some Jvm.ClassFile.FieldType.int)) ∈ lw_all := lw_g (lw_at lw_m6 55 rfl) rfl
theorem q1368 : (Jvm.Cond.methodLink "RatSorters$Law" (33 : Nat) ({ cls := "RatSorters$Sum", name := "of", desc := "(LRatSorters$Asked;)I" } : Jvm.MethodName)) ∈ lw_all := lw_g (lw_at lw_m6 56 rfl) rfl
theorem q2285 : (Jvm.Cond.castable "RatSorters$Law" "java/lang/Object") ∈ lw_tbl := lw_at lw_m10 13 rfl
theorem in_X17 : ∀ w ∈ wsX170, w ∈ lw_all := lw_in wsX170 [1129, 1131, 1133, 1135] (by decide +kernel) (by decide +kernel)
/-! RatSorters$Sum -/
set_option maxRecDepth 100000
def RX18 : String := "RatSorters$Sum"
abbrev cX18_init : ByteArray := prog_18_method_1_code
def yX18_init : MethodName := ⟨RX18, "<init>", "()V"⟩
theorem dX18_init_0 : decode cX18_init 0 = .ok (.aload_n 0, 1) := by decide +kernel
theorem dX18_init_1 : decode cX18_init 1 = .ok (.invokespecial 1, 3) := by decide +kernel
theorem dX18_init_4 : decode cX18_init 4 = .ok (.return_, 1) := by decide +kernel
theorem q148 : (Jvm.Cond.initialized "RatSorters$Sum") ∈ lw_all := lw_g (lw_at lw_m1 36 rfl) rfl
theorem q1168 : (Jvm.Cond.instanceMethod ({ cls := "RatSorters$Sum", name := "<init>", desc := "()V" } : Jvm.MethodName)) ∈ lw_all := lw_g (lw_at lw_m5 96 rfl) rfl
theorem q1169 : (Jvm.Cond.code ({ cls := "RatSorters$Sum", name := "<init>", desc := "()V" } : Jvm.MethodName) prog_18_method_1_code (1 : Nat) (Option.none : Option Jvm.ClassFile.FieldType)) ∈ lw_all := lw_g (lw_at lw_m5 97 rfl) rfl
theorem q1170 : (Jvm.Cond.methodLink "RatSorters$Sum" (1 : Nat) ({ cls := "java/lang/Object", name := "<init>", desc := "()V" } : Jvm.MethodName)) ∈ lw_all := lw_g (lw_at lw_m5 98 rfl) rfl
theorem q1369 : (Jvm.Cond.declares ({ cls := "RatSorters$Sum", name := "of", desc := "(LRatSorters$Asked;)I" } : Jvm.MethodName)) ∈ lw_tbl := lw_at lw_m6 57 rfl
theorem q1370 : (Jvm.Cond.sameMethod "RatSorters$Sum" "RatSorters$Sum" "of" "(LRatSorters$Asked;)I") ∈ lw_all := lw_g (lw_at lw_m6 58 rfl) rfl
theorem q2269 : (Jvm.Cond.castable "RatSorters$Sum" "java/lang/Object") ∈ lw_tbl := lw_at lw_m9 237 rfl
/-! RatSorters$Number -/
set_option maxRecDepth 100000
def RX19 : String := "RatSorters$Number"
def TX19 : u_T := fun k => match k with
  | _ => ("RatSorters$Number", "v", "I", true)
def tyX19 : Nat → FieldType := fun k => match k with
  | _ => .int
abbrev wsX190 : List Cond := u_ws RX19 TX19 1
theorem nmX19 : ∀ a, a < 1 → ∀ b, b < 1 → a ≠ b → (TX19 a).2.1 ≠ (TX19 b).2.1 := by decide +kernel
theorem tyX19_ok : ∀ k, k < 1 → parseFieldDescriptor (TX19 k).2.2.1 = some (tyX19 k) := by decide +kernel
abbrev cX19_init : ByteArray := prog_14_method_1_code
def yX19_init : MethodName := ⟨RX19, "<init>", "(I)V"⟩
def dkwX19_init_0 : List UInt8 := [42, 183, 0, 1, 42, 27, 181, 0, 7, 177]
abbrev dktX19_init_0 : List UInt8 := dkwX19_init_0 ++ []
theorem dksX19_init_0 : cX19_init.data.toList.drop 0 = dktX19_init_0 := by decide +kernel
theorem dX19_init_0 : decode cX19_init 0 = .ok (.aload_n 0, 1) := dk_42 (dk_at dksX19_init_0 0 rfl rfl)
theorem dX19_init_1 : decode cX19_init 1 = .ok (.invokespecial 1, 3) := dk_183 0 1 (dk_at dksX19_init_0 1 rfl rfl)
theorem dX19_init_4 : decode cX19_init 4 = .ok (.aload_n 0, 1) := dk_42 (dk_at dksX19_init_0 4 rfl rfl)
theorem dX19_init_5 : decode cX19_init 5 = .ok (.iload_n 1, 1) := dk_27 (dk_at dksX19_init_0 5 rfl rfl)
theorem dX19_init_6 : decode cX19_init 6 = .ok (.putfield 7, 3) := dk_181 0 7 (dk_at dksX19_init_0 6 rfl rfl)
theorem dX19_init_9 : decode cX19_init 9 = .ok (.return_, 1) := dk_177 (dk_at dksX19_init_0 9 rfl rfl)
abbrev cX19_of : ByteArray := prog_14_method_2_code
def yX19_of : MethodName := ⟨RX19, "of", "(LRatSorters$Asked;)I"⟩
theorem dX19_of_0 : decode cX19_of 0 = .ok (.aload_n 0, 1) := by decide +kernel
theorem dX19_of_1 : decode cX19_of 1 = .ok (.getfield 7, 3) := by decide +kernel
theorem dX19_of_4 : decode cX19_of 4 = .ok (.ireturn, 1) := by decide +kernel
theorem q149 : (Jvm.Cond.initialized "RatSorters$Number") ∈ lw_all := lw_g (lw_at lw_m1 37 rfl) rfl
theorem q1043 : (Jvm.Cond.selects "RatSorters$Number" ({ cls := "java/lang/Object", name := "getClass", desc := "()Ljava/lang/Class;" } : Jvm.MethodName) ({ cls := "java/lang/Object", name := "getClass", desc := "()Ljava/lang/Class;" } : Jvm.MethodName)) ∈ lw_all := lw_g (lw_at lw_m4 211 rfl) rfl
theorem q1163 : (Jvm.Cond.instantiable "RatSorters$Number" (1 : Nat)) ∈ lw_all := lw_g (lw_at lw_m5 91 rfl) rfl
theorem q1165 : (Jvm.Cond.instanceMethod ({ cls := "RatSorters$Number", name := "<init>", desc := "(I)V" } : Jvm.MethodName)) ∈ lw_all := lw_g (lw_at lw_m5 93 rfl) rfl
theorem q1166 : (Jvm.Cond.code ({ cls := "RatSorters$Number", name := "<init>", desc := "(I)V" } : Jvm.MethodName) prog_14_method_1_code (2 : Nat) (Option.none : Option Jvm.ClassFile.FieldType)) ∈ lw_all := lw_g (lw_at lw_m5 94 rfl) rfl
theorem q1167 : (Jvm.Cond.methodLinkNest "RatSorters$Number" (1 : Nat) ({ cls := "RatSorters$Sum", name := "<init>", desc := "()V" } : Jvm.MethodName) "RatSorters") ∈ lw_tbl := lw_at lw_m5 95 rfl
theorem q1171 : (Jvm.Cond.fieldLink "RatSorters$Number" (7 : Nat) "RatSorters$Number" "v" "I") ∈ lw_all := lw_g (lw_at lw_m5 99 rfl) rfl
theorem q1172 : (Jvm.Cond.laysFinal "RatSorters$Number" "RatSorters$Number" "v" "I") ∈ lw_all := lw_g (lw_at lw_m5 100 rfl) rfl
theorem q1173 : (Jvm.Cond.soleField "RatSorters$Number" "v") ∈ lw_all := lw_g (lw_at lw_m5 101 rfl) rfl
theorem q1174 : (Jvm.Cond.superclass "RatSorters$Number" "RatSorters$Sum") ∈ lw_all := lw_g (lw_at lw_m5 102 rfl) rfl
theorem q1375 : (Jvm.Cond.instanceMethod ({ cls := "RatSorters$Number", name := "of", desc := "(LRatSorters$Asked;)I" } : Jvm.MethodName)) ∈ lw_all := lw_g (lw_at lw_m6 63 rfl) rfl
theorem q1376 : (Jvm.Cond.code ({ cls := "RatSorters$Number", name := "of", desc := "(LRatSorters$Asked;)I" } : Jvm.MethodName) prog_14_method_2_code (2 : Nat) (Option.some Jvm.ClassFile.FieldType.int)) ∈ lw_all := lw_g (lw_at lw_m6 64 rfl) rfl
theorem q1379 : (Jvm.Cond.selects "RatSorters$Number" ({ cls := "RatSorters$Sum", name := "of", desc := "(LRatSorters$Asked;)I" } : Jvm.MethodName) ({ cls := "RatSorters$Number", name := "of", desc := "(LRatSorters$Asked;)I" } : Jvm.MethodName)) ∈ lw_all := lw_g (lw_at lw_m6 67 rfl) rfl
theorem q2286 : (Jvm.Cond.castable "RatSorters$Number" "java/lang/Object") ∈ lw_tbl := lw_at lw_m10 14 rfl
theorem q2294 : (Jvm.Cond.castable "RatSorters$Number" "RatSorters$Sum") ∈ lw_tbl := lw_at lw_m10 22 rfl
theorem in_X19 : ∀ w ∈ wsX190, w ∈ lw_all := lw_in wsX190 [1172] (by decide +kernel) (by decide +kernel)
/-! RatSorters$Var -/
set_option maxRecDepth 100000
def RX20 : String := "RatSorters$Var"
def TX20 : u_T := fun k => match k with
  | _ => ("RatSorters$Var", "k", "I", true)
def tyX20 : Nat → FieldType := fun k => match k with
  | _ => .int
abbrev wsX200 : List Cond := u_ws RX20 TX20 1
theorem nmX20 : ∀ a, a < 1 → ∀ b, b < 1 → a ≠ b → (TX20 a).2.1 ≠ (TX20 b).2.1 := by decide +kernel
theorem tyX20_ok : ∀ k, k < 1 → parseFieldDescriptor (TX20 k).2.2.1 = some (tyX20 k) := by decide +kernel
abbrev cX20_init : ByteArray := prog_21_method_1_code
def yX20_init : MethodName := ⟨RX20, "<init>", "(I)V"⟩
def dkwX20_init_0 : List UInt8 := [42, 183, 0, 1, 42, 27, 181, 0, 7, 177]
abbrev dktX20_init_0 : List UInt8 := dkwX20_init_0 ++ []
theorem dksX20_init_0 : cX20_init.data.toList.drop 0 = dktX20_init_0 := by decide +kernel
theorem dX20_init_0 : decode cX20_init 0 = .ok (.aload_n 0, 1) := dk_42 (dk_at dksX20_init_0 0 rfl rfl)
theorem dX20_init_1 : decode cX20_init 1 = .ok (.invokespecial 1, 3) := dk_183 0 1 (dk_at dksX20_init_0 1 rfl rfl)
theorem dX20_init_4 : decode cX20_init 4 = .ok (.aload_n 0, 1) := dk_42 (dk_at dksX20_init_0 4 rfl rfl)
theorem dX20_init_5 : decode cX20_init 5 = .ok (.iload_n 1, 1) := dk_27 (dk_at dksX20_init_0 5 rfl rfl)
theorem dX20_init_6 : decode cX20_init 6 = .ok (.putfield 7, 3) := dk_181 0 7 (dk_at dksX20_init_0 6 rfl rfl)
theorem dX20_init_9 : decode cX20_init 9 = .ok (.return_, 1) := dk_177 (dk_at dksX20_init_0 9 rfl rfl)
abbrev cX20_of : ByteArray := prog_21_method_2_code
def yX20_of : MethodName := ⟨RX20, "of", "(LRatSorters$Asked;)I"⟩
def dkwX20_of_0 : List UInt8 := [43, 180, 0, 13, 42, 180, 0, 7, 46, 172]
abbrev dktX20_of_0 : List UInt8 := dkwX20_of_0 ++ []
theorem dksX20_of_0 : cX20_of.data.toList.drop 0 = dktX20_of_0 := by decide +kernel
theorem dX20_of_0 : decode cX20_of 0 = .ok (.aload_n 1, 1) := dk_43 (dk_at dksX20_of_0 0 rfl rfl)
theorem dX20_of_1 : decode cX20_of 1 = .ok (.getfield 13, 3) := dk_180 0 13 (dk_at dksX20_of_0 1 rfl rfl)
theorem dX20_of_4 : decode cX20_of 4 = .ok (.aload_n 0, 1) := dk_42 (dk_at dksX20_of_0 4 rfl rfl)
theorem dX20_of_5 : decode cX20_of 5 = .ok (.getfield 7, 3) := dk_180 0 7 (dk_at dksX20_of_0 5 rfl rfl)
theorem dX20_of_8 : decode cX20_of 8 = .ok (.iaload, 1) := dk_46 (dk_at dksX20_of_0 8 rfl rfl)
theorem dX20_of_9 : decode cX20_of 9 = .ok (.ireturn, 1) := dk_172 (dk_at dksX20_of_0 9 rfl rfl)
theorem q150 : (Jvm.Cond.initialized "RatSorters$Var") ∈ lw_all := lw_g (lw_at lw_m1 38 rfl) rfl
theorem q421 : (Jvm.Cond.fieldLink "RatSorters$Var" (13 : Nat) "RatSorters$Asked" "v" "[I") ∈ lw_all := lw_g (lw_at lw_m2 69 rfl) rfl
theorem q1049 : (Jvm.Cond.selects "RatSorters$Var" ({ cls := "java/lang/Object", name := "getClass", desc := "()Ljava/lang/Class;" } : Jvm.MethodName) ({ cls := "java/lang/Object", name := "getClass", desc := "()Ljava/lang/Class;" } : Jvm.MethodName)) ∈ lw_all := lw_g (lw_at lw_m4 217 rfl) rfl
theorem q1176 : (Jvm.Cond.instantiable "RatSorters$Var" (1 : Nat)) ∈ lw_all := lw_g (lw_at lw_m5 104 rfl) rfl
theorem q1178 : (Jvm.Cond.instanceMethod ({ cls := "RatSorters$Var", name := "<init>", desc := "(I)V" } : Jvm.MethodName)) ∈ lw_all := lw_g (lw_at lw_m5 106 rfl) rfl
theorem q1179 : (Jvm.Cond.code ({ cls := "RatSorters$Var", name := "<init>", desc := "(I)V" } : Jvm.MethodName) prog_21_method_1_code (2 : Nat) (Option.none : Option Jvm.ClassFile.FieldType)) ∈ lw_all := lw_g (lw_at lw_m5 107 rfl) rfl
theorem q1180 : (Jvm.Cond.methodLinkNest "RatSorters$Var" (1 : Nat) ({ cls := "RatSorters$Sum", name := "<init>", desc := "()V" } : Jvm.MethodName) "RatSorters") ∈ lw_tbl := lw_at lw_m5 108 rfl
theorem q1181 : (Jvm.Cond.fieldLink "RatSorters$Var" (7 : Nat) "RatSorters$Var" "k" "I") ∈ lw_all := lw_g (lw_at lw_m5 109 rfl) rfl
theorem q1182 : (Jvm.Cond.laysFinal "RatSorters$Var" "RatSorters$Var" "k" "I") ∈ lw_all := lw_g (lw_at lw_m5 110 rfl) rfl
theorem q1183 : (Jvm.Cond.soleField "RatSorters$Var" "k") ∈ lw_all := lw_g (lw_at lw_m5 111 rfl) rfl
theorem q1184 : (Jvm.Cond.superclass "RatSorters$Var" "RatSorters$Sum") ∈ lw_all := lw_g (lw_at lw_m5 112 rfl) rfl
theorem q1377 : (Jvm.Cond.instanceMethod ({ cls := "RatSorters$Var", name := "of", desc := "(LRatSorters$Asked;)I" } : Jvm.MethodName)) ∈ lw_all := lw_g (lw_at lw_m6 65 rfl) rfl
theorem q1378 : (Jvm.Cond.code ({ cls := "RatSorters$Var", name := "of", desc := "(LRatSorters$Asked;)I" } : Jvm.MethodName) prog_21_method_2_code (2 : Nat) (Option.some Jvm.ClassFile.FieldType.int)) ∈ lw_all := lw_g (lw_at lw_m6 66 rfl) rfl
theorem q1380 : (Jvm.Cond.selects "RatSorters$Var" ({ cls := "RatSorters$Sum", name := "of", desc := "(LRatSorters$Asked;)I" } : Jvm.MethodName) ({ cls := "RatSorters$Var", name := "of", desc := "(LRatSorters$Asked;)I" } : Jvm.MethodName)) ∈ lw_all := lw_g (lw_at lw_m6 68 rfl) rfl
theorem q2287 : (Jvm.Cond.castable "RatSorters$Var" "java/lang/Object") ∈ lw_tbl := lw_at lw_m10 15 rfl
theorem q2295 : (Jvm.Cond.castable "RatSorters$Var" "RatSorters$Sum") ∈ lw_tbl := lw_at lw_m10 23 rfl
theorem in_X20 : ∀ w ∈ wsX200, w ∈ lw_all := lw_in wsX200 [1182] (by decide +kernel) (by decide +kernel)
/-! RatSorters$Joined -/
set_option maxRecDepth 100000
def RX21 : String := "RatSorters$Joined"
def TX21 : u_T := fun k => match k with
  | 0 => ("RatSorters$Joined", "op", "I", true)
  | 1 => ("RatSorters$Joined", "a", "LRatSorters$Sum;", true)
  | _ => ("RatSorters$Joined", "b", "LRatSorters$Sum;", true)
def tyX21 : Nat → FieldType := fun k => match k with
  | 0 => .int
  | 1 => .object "RatSorters$Sum"
  | _ => .object "RatSorters$Sum"
abbrev wsX210 : List Cond := u_ws RX21 TX21 3
theorem nmX21 : ∀ a, a < 3 → ∀ b, b < 3 → a ≠ b → (TX21 a).2.1 ≠ (TX21 b).2.1 := by decide +kernel
theorem tyX21_ok : ∀ k, k < 3 → parseFieldDescriptor (TX21 k).2.2.1 = some (tyX21 k) := by decide +kernel
abbrev cX21_init : ByteArray := prog_9_method_1_code
def yX21_init : MethodName := ⟨RX21, "<init>", "(ILRatSorters$Sum;LRatSorters$Sum;)V"⟩
def dkwX21_init_0 : List UInt8 := [42, 183, 0, 1, 42, 27, 181, 0, 7, 42, 44, 181, 0, 13, 42, 45, 181, 0, 17, 177]
abbrev dktX21_init_0 : List UInt8 := dkwX21_init_0 ++ []
theorem dksX21_init_0 : cX21_init.data.toList.drop 0 = dktX21_init_0 := by decide +kernel
theorem dX21_init_0 : decode cX21_init 0 = .ok (.aload_n 0, 1) := dk_42 (dk_at dksX21_init_0 0 rfl rfl)
theorem dX21_init_1 : decode cX21_init 1 = .ok (.invokespecial 1, 3) := dk_183 0 1 (dk_at dksX21_init_0 1 rfl rfl)
theorem dX21_init_4 : decode cX21_init 4 = .ok (.aload_n 0, 1) := dk_42 (dk_at dksX21_init_0 4 rfl rfl)
theorem dX21_init_5 : decode cX21_init 5 = .ok (.iload_n 1, 1) := dk_27 (dk_at dksX21_init_0 5 rfl rfl)
theorem dX21_init_6 : decode cX21_init 6 = .ok (.putfield 7, 3) := dk_181 0 7 (dk_at dksX21_init_0 6 rfl rfl)
theorem dX21_init_9 : decode cX21_init 9 = .ok (.aload_n 0, 1) := dk_42 (dk_at dksX21_init_0 9 rfl rfl)
theorem dX21_init_10 : decode cX21_init 10 = .ok (.aload_n 2, 1) := dk_44 (dk_at dksX21_init_0 10 rfl rfl)
theorem dX21_init_11 : decode cX21_init 11 = .ok (.putfield 13, 3) := dk_181 0 13 (dk_at dksX21_init_0 11 rfl rfl)
theorem dX21_init_14 : decode cX21_init 14 = .ok (.aload_n 0, 1) := dk_42 (dk_at dksX21_init_0 14 rfl rfl)
theorem dX21_init_15 : decode cX21_init 15 = .ok (.aload_n 3, 1) := dk_45 (dk_at dksX21_init_0 15 rfl rfl)
theorem dX21_init_16 : decode cX21_init 16 = .ok (.putfield 17, 3) := dk_181 0 17 (dk_at dksX21_init_0 16 rfl rfl)
theorem dX21_init_19 : decode cX21_init 19 = .ok (.return_, 1) := dk_177 (dk_at dksX21_init_0 19 rfl rfl)
abbrev cX21_of : ByteArray := prog_9_method_2_code
def yX21_of : MethodName := ⟨RX21, "of", "(LRatSorters$Asked;)I"⟩
def dkwX21_of_3 : List UInt8 := [181, 0, 24, 3, 172]
abbrev dktX21_of_3 : List UInt8 := dkwX21_of_3 ++ []
def dkwX21_of_2 : List UInt8 := [28, 29, 96, 172, 28, 29, 100, 172, 28, 29, 104, 172, 29, 153, 0, 7, 28, 29, 108, 172, 43, 4]
abbrev dktX21_of_2 : List UInt8 := dkwX21_of_2 ++ dktX21_of_3
def dkwX21_of_1 : List UInt8 := [170, 0, 0, 0, 0, 42, 0, 0, 0, 42, 0, 0, 0, 45, 0, 0, 0, 38, 0, 0, 0, 30, 0, 0, 0, 42, 0, 0, 0, 34]
abbrev dktX21_of_1 : List UInt8 := dkwX21_of_1 ++ dktX21_of_2
def dkwX21_of_0 : List UInt8 := [42, 180, 0, 13, 43, 182, 0, 20, 61, 42, 180, 0, 17, 43, 182, 0, 20, 62, 42, 180, 0, 7]
abbrev dktX21_of_0 : List UInt8 := dkwX21_of_0 ++ dktX21_of_1
theorem dksX21_of_0 : cX21_of.data.toList.drop 0 = dktX21_of_0 := by decide +kernel
theorem dksX21_of_1 : cX21_of.data.toList.drop 22 = dktX21_of_1 := dk_seg dksX21_of_0 22 rfl rfl
theorem dksX21_of_2 : cX21_of.data.toList.drop 52 = dktX21_of_2 := dk_seg dksX21_of_1 30 rfl rfl
theorem dksX21_of_3 : cX21_of.data.toList.drop 74 = dktX21_of_3 := dk_seg dksX21_of_2 22 rfl rfl
theorem dX21_of_0 : decode cX21_of 0 = .ok (.aload_n 0, 1) := dk_42 (dk_at dksX21_of_0 0 rfl rfl)
theorem dX21_of_1 : decode cX21_of 1 = .ok (.getfield 13, 3) := dk_180 0 13 (dk_at dksX21_of_0 1 rfl rfl)
theorem dX21_of_4 : decode cX21_of 4 = .ok (.aload_n 1, 1) := dk_43 (dk_at dksX21_of_0 4 rfl rfl)
theorem dX21_of_5 : decode cX21_of 5 = .ok (.invokevirtual 20, 3) := dk_182 0 20 (dk_at dksX21_of_0 5 rfl rfl)
theorem dX21_of_8 : decode cX21_of 8 = .ok (.istore_n 2, 1) := dk_61 (dk_at dksX21_of_0 8 rfl rfl)
theorem dX21_of_9 : decode cX21_of 9 = .ok (.aload_n 0, 1) := dk_42 (dk_at dksX21_of_0 9 rfl rfl)
theorem dX21_of_10 : decode cX21_of 10 = .ok (.getfield 17, 3) := dk_180 0 17 (dk_at dksX21_of_0 10 rfl rfl)
theorem dX21_of_13 : decode cX21_of 13 = .ok (.aload_n 1, 1) := dk_43 (dk_at dksX21_of_0 13 rfl rfl)
theorem dX21_of_14 : decode cX21_of 14 = .ok (.invokevirtual 20, 3) := dk_182 0 20 (dk_at dksX21_of_0 14 rfl rfl)
theorem dX21_of_17 : decode cX21_of 17 = .ok (.istore_n 3, 1) := dk_62 (dk_at dksX21_of_0 17 rfl rfl)
theorem dX21_of_18 : decode cX21_of 18 = .ok (.aload_n 0, 1) := dk_42 (dk_at dksX21_of_0 18 rfl rfl)
theorem dX21_of_19 : decode cX21_of 19 = .ok (.getfield 7, 3) := dk_180 0 7 (dk_at dksX21_of_0 19 rfl rfl)
theorem dX21_of_22 : decode cX21_of 22 = .ok (.tableswitch 42 42 45 #[38, 30, 42, 34], 30) := by decide +kernel
theorem dX21_of_52 : decode cX21_of 52 = .ok (.iload_n 2, 1) := dk_28 (dk_at dksX21_of_2 0 rfl rfl)
theorem dX21_of_53 : decode cX21_of 53 = .ok (.iload_n 3, 1) := dk_29 (dk_at dksX21_of_2 1 rfl rfl)
theorem dX21_of_54 : decode cX21_of 54 = .ok (.iadd, 1) := dk_96 (dk_at dksX21_of_2 2 rfl rfl)
theorem dX21_of_55 : decode cX21_of 55 = .ok (.ireturn, 1) := dk_172 (dk_at dksX21_of_2 3 rfl rfl)
theorem dX21_of_56 : decode cX21_of 56 = .ok (.iload_n 2, 1) := dk_28 (dk_at dksX21_of_2 4 rfl rfl)
theorem dX21_of_57 : decode cX21_of 57 = .ok (.iload_n 3, 1) := dk_29 (dk_at dksX21_of_2 5 rfl rfl)
theorem dX21_of_58 : decode cX21_of 58 = .ok (.isub, 1) := dk_100 (dk_at dksX21_of_2 6 rfl rfl)
theorem dX21_of_59 : decode cX21_of 59 = .ok (.ireturn, 1) := dk_172 (dk_at dksX21_of_2 7 rfl rfl)
theorem dX21_of_60 : decode cX21_of 60 = .ok (.iload_n 2, 1) := dk_28 (dk_at dksX21_of_2 8 rfl rfl)
theorem dX21_of_61 : decode cX21_of 61 = .ok (.iload_n 3, 1) := dk_29 (dk_at dksX21_of_2 9 rfl rfl)
theorem dX21_of_62 : decode cX21_of 62 = .ok (.imul, 1) := dk_104 (dk_at dksX21_of_2 10 rfl rfl)
theorem dX21_of_63 : decode cX21_of 63 = .ok (.ireturn, 1) := dk_172 (dk_at dksX21_of_2 11 rfl rfl)
theorem dX21_of_64 : decode cX21_of 64 = .ok (.iload_n 3, 1) := dk_29 (dk_at dksX21_of_2 12 rfl rfl)
theorem dX21_of_65 : decode cX21_of 65 = .ok (.ifCond .eq 7, 3) := dk_153 0 7 (dk_at dksX21_of_2 13 rfl rfl)
theorem dX21_of_68 : decode cX21_of 68 = .ok (.iload_n 2, 1) := dk_28 (dk_at dksX21_of_2 16 rfl rfl)
theorem dX21_of_69 : decode cX21_of 69 = .ok (.iload_n 3, 1) := dk_29 (dk_at dksX21_of_2 17 rfl rfl)
theorem dX21_of_70 : decode cX21_of 70 = .ok (.idiv, 1) := dk_108 (dk_at dksX21_of_2 18 rfl rfl)
theorem dX21_of_71 : decode cX21_of 71 = .ok (.ireturn, 1) := dk_172 (dk_at dksX21_of_2 19 rfl rfl)
theorem dX21_of_72 : decode cX21_of 72 = .ok (.aload_n 1, 1) := dk_43 (dk_at dksX21_of_2 20 rfl rfl)
theorem dX21_of_73 : decode cX21_of 73 = .ok (.iconst 1, 1) := dk_4 (dk_at dksX21_of_2 21 rfl rfl)
theorem dX21_of_74 : decode cX21_of 74 = .ok (.putfield 24, 3) := dk_181 0 24 (dk_at dksX21_of_3 0 rfl rfl)
theorem dX21_of_77 : decode cX21_of 77 = .ok (.iconst 0, 1) := dk_3 (dk_at dksX21_of_3 3 rfl rfl)
theorem dX21_of_78 : decode cX21_of 78 = .ok (.ireturn, 1) := dk_172 (dk_at dksX21_of_3 4 rfl rfl)
theorem q151 : (Jvm.Cond.initialized "RatSorters$Joined") ∈ lw_all := lw_g (lw_at lw_m1 39 rfl) rfl
theorem q424 : (Jvm.Cond.fieldLink "RatSorters$Joined" (24 : Nat) "RatSorters$Asked" "nought" "Z") ∈ lw_all := lw_g (lw_at lw_m2 72 rfl) rfl
theorem q1039 : (Jvm.Cond.selects "RatSorters$Joined" ({ cls := "java/lang/Object", name := "getClass", desc := "()Ljava/lang/Class;" } : Jvm.MethodName) ({ cls := "java/lang/Object", name := "getClass", desc := "()Ljava/lang/Class;" } : Jvm.MethodName)) ∈ lw_all := lw_g (lw_at lw_m4 207 rfl) rfl
theorem q1186 : (Jvm.Cond.instantiable "RatSorters$Joined" (3 : Nat)) ∈ lw_all := lw_g (lw_at lw_m5 114 rfl) rfl
theorem q1188 : (Jvm.Cond.instanceMethod ({ cls := "RatSorters$Joined", name := "<init>", desc := "(ILRatSorters$Sum;LRatSorters$Sum;)V" } : Jvm.MethodName)) ∈ lw_all := lw_g (lw_at lw_m5 116 rfl) rfl
theorem q1189 : (Jvm.Cond.code ({ cls := "RatSorters$Joined", name := "<init>", desc := "(ILRatSorters$Sum;LRatSorters$Sum;)V" } : Jvm.MethodName) prog_9_method_1_code (4 : Nat) (Option.none : Option Jvm.ClassFile.FieldType)) ∈ lw_all := lw_g (lw_at lw_m5 117 rfl) rfl
theorem q1190 : (Jvm.Cond.methodLinkNest "RatSorters$Joined" (1 : Nat) ({ cls := "RatSorters$Sum", name := "<init>", desc := "()V" } : Jvm.MethodName) "RatSorters") ∈ lw_tbl := lw_at lw_m5 118 rfl
theorem q1191 : (Jvm.Cond.fieldLink "RatSorters$Joined" (7 : Nat) "RatSorters$Joined" "op" "I") ∈ lw_all := lw_g (lw_at lw_m5 119 rfl) rfl
theorem q1192 : (Jvm.Cond.fieldLink "RatSorters$Joined" (13 : Nat) "RatSorters$Joined" "a" "LRatSorters$Sum;") ∈ lw_all := lw_g (lw_at lw_m5 120 rfl) rfl
theorem q1193 : (Jvm.Cond.fieldLink "RatSorters$Joined" (17 : Nat) "RatSorters$Joined" "b" "LRatSorters$Sum;") ∈ lw_all := lw_g (lw_at lw_m5 121 rfl) rfl
theorem q1194 : (Jvm.Cond.laysFinal "RatSorters$Joined" "RatSorters$Joined" "op" "I") ∈ lw_all := lw_g (lw_at lw_m5 122 rfl) rfl
theorem q1195 : (Jvm.Cond.soleField "RatSorters$Joined" "op") ∈ lw_all := lw_g (lw_at lw_m5 123 rfl) rfl
theorem q1196 : (Jvm.Cond.laysFinal "RatSorters$Joined" "RatSorters$Joined" "a" "LRatSorters$Sum;") ∈ lw_all := lw_g (lw_at lw_m5 124 rfl) rfl
theorem q1197 : (Jvm.Cond.soleField "RatSorters$Joined" "a") ∈ lw_all := lw_g (lw_at lw_m5 125 rfl) rfl
theorem q1198 : (Jvm.Cond.laysFinal "RatSorters$Joined" "RatSorters$Joined" "b" "LRatSorters$Sum;") ∈ lw_all := lw_g (lw_at lw_m5 126 rfl) rfl
theorem q1199 : (Jvm.Cond.soleField "RatSorters$Joined" "b") ∈ lw_all := lw_g (lw_at lw_m5 127 rfl) rfl
theorem q1200 : (Jvm.Cond.superclass "RatSorters$Joined" "RatSorters$Sum") ∈ lw_all := lw_g (lw_at lw_m5 128 rfl) rfl
theorem q1371 : (Jvm.Cond.selects "RatSorters$Joined" ({ cls := "RatSorters$Sum", name := "of", desc := "(LRatSorters$Asked;)I" } : Jvm.MethodName) ({ cls := "RatSorters$Joined", name := "of", desc := "(LRatSorters$Asked;)I" } : Jvm.MethodName)) ∈ lw_all := lw_g (lw_at lw_m6 59 rfl) rfl
theorem q1372 : (Jvm.Cond.instanceMethod ({ cls := "RatSorters$Joined", name := "of", desc := "(LRatSorters$Asked;)I" } : Jvm.MethodName)) ∈ lw_all := lw_g (lw_at lw_m6 60 rfl) rfl
theorem q1373 : (Jvm.Cond.code ({ cls := "RatSorters$Joined", name := "of", desc := "(LRatSorters$Asked;)I" } : Jvm.MethodName) prog_9_method_2_code (4 : Nat) (Option.some Jvm.ClassFile.FieldType.int)) ∈ lw_all := lw_g (lw_at lw_m6 61 rfl) rfl
theorem q1374 : (Jvm.Cond.methodLink "RatSorters$Joined" (20 : Nat) ({ cls := "RatSorters$Sum", name := "of", desc := "(LRatSorters$Asked;)I" } : Jvm.MethodName)) ∈ lw_all := lw_g (lw_at lw_m6 62 rfl) rfl
theorem q2288 : (Jvm.Cond.castable "RatSorters$Joined" "java/lang/Object") ∈ lw_tbl := lw_at lw_m10 16 rfl
theorem q2296 : (Jvm.Cond.castable "RatSorters$Joined" "RatSorters$Sum") ∈ lw_tbl := lw_at lw_m10 24 rfl
theorem in_X21 : ∀ w ∈ wsX210, w ∈ lw_all := lw_in wsX210 [1194, 1196, 1198] (by decide +kernel) (by decide +kernel)
/-! RatSorters$Merchant -/
set_option maxRecDepth 100000
def RX22 : String := "RatSorters$Merchant"
def TX22 : u_T := fun k => match k with
  | 0 => ("RatSorters$Merchant", "grain", "[I", true)
  | 1 => ("RatSorters$Merchant", "much", "[I", true)
  | 2 => ("RatSorters$Merchant", "pays", "I", false)
  | _ => ("RatSorters$Merchant", "wants", "I", false)
def tyX22 : Nat → FieldType := fun k => match k with
  | 0 => .array .int
  | 1 => .array .int
  | 2 => .int
  | _ => .int
abbrev wsX220 : List Cond := u_ws RX22 TX22 4
theorem nmX22 : ∀ a, a < 4 → ∀ b, b < 4 → a ≠ b → (TX22 a).2.1 ≠ (TX22 b).2.1 := by decide +kernel
theorem tyX22_ok : ∀ k, k < 4 → parseFieldDescriptor (TX22 k).2.2.1 = some (tyX22 k) := by decide +kernel
abbrev cX22_init : ByteArray := prog_12_method_1_code
def yX22_init : MethodName := ⟨RX22, "<init>", "()V"⟩
def dkwX22_init_0 : List UInt8 := [42, 183, 0, 3, 42, 7, 188, 10, 181, 0, 9, 42, 7, 188, 10, 181, 0, 15, 177]
abbrev dktX22_init_0 : List UInt8 := dkwX22_init_0 ++ []
theorem dksX22_init_0 : cX22_init.data.toList.drop 0 = dktX22_init_0 := by decide +kernel
theorem dX22_init_0 : decode cX22_init 0 = .ok (.aload_n 0, 1) := dk_42 (dk_at dksX22_init_0 0 rfl rfl)
theorem dX22_init_1 : decode cX22_init 1 = .ok (.invokespecial 3, 3) := dk_183 0 3 (dk_at dksX22_init_0 1 rfl rfl)
theorem dX22_init_4 : decode cX22_init 4 = .ok (.aload_n 0, 1) := dk_42 (dk_at dksX22_init_0 4 rfl rfl)
theorem dX22_init_5 : decode cX22_init 5 = .ok (.iconst 4, 1) := dk_7 (dk_at dksX22_init_0 5 rfl rfl)
theorem dX22_init_6 : decode cX22_init 6 = .ok (.newarray .int, 2) := dk_188_10 (dk_at dksX22_init_0 6 rfl rfl)
theorem dX22_init_8 : decode cX22_init 8 = .ok (.putfield 9, 3) := dk_181 0 9 (dk_at dksX22_init_0 8 rfl rfl)
theorem dX22_init_11 : decode cX22_init 11 = .ok (.aload_n 0, 1) := dk_42 (dk_at dksX22_init_0 11 rfl rfl)
theorem dX22_init_12 : decode cX22_init 12 = .ok (.iconst 4, 1) := dk_7 (dk_at dksX22_init_0 12 rfl rfl)
theorem dX22_init_13 : decode cX22_init 13 = .ok (.newarray .int, 2) := dk_188_10 (dk_at dksX22_init_0 13 rfl rfl)
theorem dX22_init_15 : decode cX22_init 15 = .ok (.putfield 15, 3) := dk_181 0 15 (dk_at dksX22_init_0 15 rfl rfl)
theorem dX22_init_18 : decode cX22_init 18 = .ok (.return_, 1) := dk_177 (dk_at dksX22_init_0 18 rfl rfl)
abbrev cX22_has : ByteArray := prog_12_method_2_code
def yX22_has : MethodName := ⟨RX22, "has", "(I)Z"⟩
def dkwX22_has_1 : List UInt8 := [132, 2, 1, 167, 255, 233, 3, 172]
abbrev dktX22_has_1 : List UInt8 := dkwX22_has_1 ++ []
def dkwX22_has_0 : List UInt8 := [3, 61, 28, 42, 180, 0, 18, 162, 0, 21, 42, 180, 0, 9, 28, 46, 27, 160, 0, 5, 4, 172]
abbrev dktX22_has_0 : List UInt8 := dkwX22_has_0 ++ dktX22_has_1
theorem dksX22_has_0 : cX22_has.data.toList.drop 0 = dktX22_has_0 := by decide +kernel
theorem dksX22_has_1 : cX22_has.data.toList.drop 22 = dktX22_has_1 := dk_seg dksX22_has_0 22 rfl rfl
theorem dX22_has_0 : decode cX22_has 0 = .ok (.iconst 0, 1) := dk_3 (dk_at dksX22_has_0 0 rfl rfl)
theorem dX22_has_1 : decode cX22_has 1 = .ok (.istore_n 2, 1) := dk_61 (dk_at dksX22_has_0 1 rfl rfl)
theorem dX22_has_2 : decode cX22_has 2 = .ok (.iload_n 2, 1) := dk_28 (dk_at dksX22_has_0 2 rfl rfl)
theorem dX22_has_3 : decode cX22_has 3 = .ok (.aload_n 0, 1) := dk_42 (dk_at dksX22_has_0 3 rfl rfl)
theorem dX22_has_4 : decode cX22_has 4 = .ok (.getfield 18, 3) := dk_180 0 18 (dk_at dksX22_has_0 4 rfl rfl)
theorem dX22_has_7 : decode cX22_has 7 = .ok (.if_icmp .ge 21, 3) := dk_162 0 21 (dk_at dksX22_has_0 7 rfl rfl)
theorem dX22_has_10 : decode cX22_has 10 = .ok (.aload_n 0, 1) := dk_42 (dk_at dksX22_has_0 10 rfl rfl)
theorem dX22_has_11 : decode cX22_has 11 = .ok (.getfield 9, 3) := dk_180 0 9 (dk_at dksX22_has_0 11 rfl rfl)
theorem dX22_has_14 : decode cX22_has 14 = .ok (.iload_n 2, 1) := dk_28 (dk_at dksX22_has_0 14 rfl rfl)
theorem dX22_has_15 : decode cX22_has 15 = .ok (.iaload, 1) := dk_46 (dk_at dksX22_has_0 15 rfl rfl)
theorem dX22_has_16 : decode cX22_has 16 = .ok (.iload_n 1, 1) := dk_27 (dk_at dksX22_has_0 16 rfl rfl)
theorem dX22_has_17 : decode cX22_has 17 = .ok (.if_icmp .ne 5, 3) := dk_160 0 5 (dk_at dksX22_has_0 17 rfl rfl)
theorem dX22_has_20 : decode cX22_has 20 = .ok (.iconst 1, 1) := dk_4 (dk_at dksX22_has_0 20 rfl rfl)
theorem dX22_has_21 : decode cX22_has 21 = .ok (.ireturn, 1) := dk_172 (dk_at dksX22_has_0 21 rfl rfl)
theorem dX22_has_22 : decode cX22_has 22 = .ok (.iinc 2 1, 3) := dk_132 2 1 (dk_at dksX22_has_1 0 rfl rfl)
theorem dX22_has_25 : decode cX22_has 25 = .ok (.goto (-23), 3) := dk_167 255 233 (dk_at dksX22_has_1 3 rfl rfl)
theorem dX22_has_28 : decode cX22_has 28 = .ok (.iconst 0, 1) := dk_3 (dk_at dksX22_has_1 6 rfl rfl)
theorem dX22_has_29 : decode cX22_has 29 = .ok (.ireturn, 1) := dk_172 (dk_at dksX22_has_1 7 rfl rfl)
theorem q152 : (Jvm.Cond.initialized "RatSorters$Merchant") ∈ lw_all := lw_g (lw_at lw_m1 40 rfl) rfl
theorem q1042 : (Jvm.Cond.selects "RatSorters$Merchant" ({ cls := "java/lang/Object", name := "getClass", desc := "()Ljava/lang/Class;" } : Jvm.MethodName) ({ cls := "java/lang/Object", name := "getClass", desc := "()Ljava/lang/Class;" } : Jvm.MethodName)) ∈ lw_all := lw_g (lw_at lw_m4 210 rfl) rfl
theorem q1210 : (Jvm.Cond.instantiable "RatSorters$Merchant" (4 : Nat)) ∈ lw_all := lw_g (lw_at lw_m5 138 rfl) rfl
theorem q1212 : (Jvm.Cond.instanceMethod ({ cls := "RatSorters$Merchant", name := "<init>", desc := "()V" } : Jvm.MethodName)) ∈ lw_all := lw_g (lw_at lw_m5 140 rfl) rfl
theorem q1213 : (Jvm.Cond.code ({ cls := "RatSorters$Merchant", name := "<init>", desc := "()V" } : Jvm.MethodName) prog_12_method_1_code (1 : Nat) (Option.none : Option Jvm.ClassFile.FieldType)) ∈ lw_all := lw_g (lw_at lw_m5 141 rfl) rfl
theorem q1214 : (Jvm.Cond.methodLink "RatSorters$Merchant" (3 : Nat) ({ cls := "java/lang/Object", name := "<init>", desc := "()V" } : Jvm.MethodName)) ∈ lw_all := lw_g (lw_at lw_m5 142 rfl) rfl
theorem q1215 : (Jvm.Cond.fieldLink "RatSorters$Merchant" (9 : Nat) "RatSorters$Merchant" "grain" "[I") ∈ lw_all := lw_g (lw_at lw_m5 143 rfl) rfl
theorem q1218 : (Jvm.Cond.fieldLink "RatSorters$Merchant" (15 : Nat) "RatSorters$Merchant" "much" "[I") ∈ lw_all := lw_g (lw_at lw_m5 146 rfl) rfl
theorem q1223 : (Jvm.Cond.fieldLink "RatSorters$Merchant" (18 : Nat) "RatSorters$Merchant" "wants" "I") ∈ lw_all := lw_g (lw_at lw_m5 151 rfl) rfl
theorem q1226 : (Jvm.Cond.laysFinal "RatSorters$Merchant" "RatSorters$Merchant" "grain" "[I") ∈ lw_all := lw_g (lw_at lw_m5 154 rfl) rfl
theorem q1227 : (Jvm.Cond.soleField "RatSorters$Merchant" "grain") ∈ lw_all := lw_g (lw_at lw_m5 155 rfl) rfl
theorem q1228 : (Jvm.Cond.laysFinal "RatSorters$Merchant" "RatSorters$Merchant" "much" "[I") ∈ lw_all := lw_g (lw_at lw_m5 156 rfl) rfl
theorem q1229 : (Jvm.Cond.soleField "RatSorters$Merchant" "much") ∈ lw_all := lw_g (lw_at lw_m5 157 rfl) rfl
theorem q1230 : (Jvm.Cond.lays "RatSorters$Merchant" "RatSorters$Merchant" "pays" "I") ∈ lw_all := lw_g (lw_at lw_m5 158 rfl) rfl
theorem q1231 : (Jvm.Cond.soleField "RatSorters$Merchant" "pays") ∈ lw_all := lw_g (lw_at lw_m5 159 rfl) rfl
theorem q1232 : (Jvm.Cond.lays "RatSorters$Merchant" "RatSorters$Merchant" "wants" "I") ∈ lw_all := lw_g (lw_at lw_m5 160 rfl) rfl
theorem q1233 : (Jvm.Cond.soleField "RatSorters$Merchant" "wants") ∈ lw_all := lw_g (lw_at lw_m5 161 rfl) rfl
theorem q1234 : (Jvm.Cond.superclass "RatSorters$Merchant" "java/lang/Object") ∈ lw_all := lw_g (lw_at lw_m5 162 rfl) rfl
theorem q1236 : (Jvm.Cond.instanceMethod ({ cls := "RatSorters$Merchant", name := "has", desc := "(I)Z" } : Jvm.MethodName)) ∈ lw_all := lw_g (lw_at lw_m5 164 rfl) rfl
theorem q1237 : (Jvm.Cond.selects "RatSorters$Merchant" ({ cls := "RatSorters$Merchant", name := "has", desc := "(I)Z" } : Jvm.MethodName) ({ cls := "RatSorters$Merchant", name := "has", desc := "(I)Z" } : Jvm.MethodName)) ∈ lw_all := lw_g (lw_at lw_m5 165 rfl) rfl
theorem q1238 : (Jvm.Cond.code ({ cls := "RatSorters$Merchant", name := "has", desc := "(I)Z" } : Jvm.MethodName) prog_12_method_2_code (3 : Nat) (Option.some Jvm.ClassFile.FieldType.boolean)) ∈ lw_all := lw_g (lw_at lw_m5 166 rfl) rfl
theorem q2289 : (Jvm.Cond.castable "RatSorters$Merchant" "java/lang/Object") ∈ lw_tbl := lw_at lw_m10 17 rfl
theorem in_X22 : ∀ w ∈ wsX220, w ∈ lw_all := lw_in wsX220 [1226, 1228, 1230, 1232] (by decide +kernel) (by decide +kernel)
