/-! RatSortersModel -/
set_option maxRecDepth 100000
def RX12 : String := "RatSortersModel"
def TX12 : u_T := fun k => match k with
  | 0 => ("RatSortersModel", "thrown", "I", false)
  | 1 => ("RatSortersModel", "tape", "[B", true)
  | 2 => ("RatSortersModel", "taped", "I", false)
  | 3 => ("RatSortersModel", "text", "[B", true)
  | 4 => ("RatSortersModel", "size", "I", false)
  | 5 => ("RatSortersModel", "tKind", "[I", true)
  | 6 => ("RatSortersModel", "tPlace", "[I", true)
  | 7 => ("RatSortersModel", "tValue", "[I", true)
  | 8 => ("RatSortersModel", "tName", "[J", true)
  | 9 => ("RatSortersModel", "keys", "[J", true)
  | 10 => ("RatSortersModel", "tokens", "I", false)
  | 11 => ("RatSortersModel", "t", "I", false)
  | 12 => ("RatSortersModel", "open", "I", false)
  | 13 => ("RatSortersModel", "fault", "I", false)
  | 14 => ("RatSortersModel", "faultPlace", "I", false)
  | 15 => ("RatSortersModel", "worst", "I", false)
  | 16 => ("RatSortersModel", "worstPlace", "I", false)
  | 17 => ("RatSortersModel", "place", "I", false)
  | 18 => ("RatSortersModel", "live", "I", false)
  | 19 => ("RatSortersModel", "side", "I", false)
  | 20 => ("RatSortersModel", "names", "I", false)
  | 21 => ("RatSortersModel", "nameOf", "[J", true)
  | 22 => ("RatSortersModel", "nameSort", "[I", true)
  | 23 => ("RatSortersModel", "nameAt", "[I", true)
  | 24 => ("RatSortersModel", "grains", "[I", true)
  | 25 => ("RatSortersModel", "poured", "[I", true)
  | 26 => ("RatSortersModel", "pence", "[I", true)
  | 27 => ("RatSortersModel", "holes", "[I", true)
  | 28 => ("RatSortersModel", "farOf", "[I", true)
  | 29 => ("RatSortersModel", "grainOf", "[I", true)
  | 30 => ("RatSortersModel", "rats", "[I", true)
  | 31 => ("RatSortersModel", "knowsTold", "[I", true)
  | 32 => ("RatSortersModel", "holeOf", "[I", true)
  | 33 => ("RatSortersModel", "fatTold", "[I", true)
  | 34 => ("RatSortersModel", "fee", "[I", true)
  | 35 => ("RatSortersModel", "merchants", "[I", true)
  | 36 => ("RatSortersModel", "pays", "[I", true)
  | 37 => ("RatSortersModel", "wants", "[I", true)
  | 38 => ("RatSortersModel", "wantGrain", "[I", true)
  | 39 => ("RatSortersModel", "wantMany", "[I", true)
  | 40 => ("RatSortersModel", "lamp", "[I", true)
  | 41 => ("RatSortersModel", "odd", "[I", true)
  | 42 => ("RatSortersModel", "seed", "[I", true)
  | 43 => ("RatSortersModel", "lawFirst", "[I", true)
  | 44 => ("RatSortersModel", "lawLast", "[I", true)
  | 45 => ("RatSortersModel", "branches", "I", false)
  | 46 => ("RatSortersModel", "hasTest", "[Z", true)
  | 47 => ("RatSortersModel", "testFrom", "[I", true)
  | 48 => ("RatSortersModel", "testMid", "[I", true)
  | 49 => ("RatSortersModel", "testTo", "[I", true)
  | 50 => ("RatSortersModel", "termTo", "[I", true)
  | 51 => ("RatSortersModel", "codes", "I", false)
  | 52 => ("RatSortersModel", "code", "[I", true)
  | 53 => ("RatSortersModel", "codeInt", "[I", true)
  | 54 => ("RatSortersModel", "waits", "[I", true)
  | 55 => ("RatSortersModel", "waiting", "I", false)
  | 56 => ("RatSortersModel", "variables", "[I", true)
  | 57 => ("RatSortersModel", "pile", "[I", true)
  | 58 => ("RatSortersModel", "isBroken", "Z", false)
  | 59 => ("RatSortersModel", "now", "[I", true)
  | 60 => ("RatSortersModel", "row", "[I", true)
  | 61 => ("RatSortersModel", "lots", "I", false)
  | 62 => ("RatSortersModel", "farNow", "[I", true)
  | 63 => ("RatSortersModel", "isLoaded", "[Z", true)
  | 64 => ("RatSortersModel", "undos", "I", false)
  | 65 => ("RatSortersModel", "history", "[I", true)
  | 66 => ("RatSortersModel", "taughtWay", "I", false)
  | 67 => ("RatSortersModel", "taughtWorth", "I", false)
  | 68 => ("RatSortersModel", "told", "I", false)
  | 69 => ("RatSortersModel", "toldHole", "[I", true)
  | 70 => ("RatSortersModel", "toldGrain", "[I", true)
  | 71 => ("RatSortersModel", "toldMinutes", "[I", true)
  | 72 => ("RatSortersModel", "toldMany", "[I", true)
  | 73 => ("RatSortersModel", "isHeld", "[Z", true)
  | _ => ("RatSortersModel", "heldRows", "[I", true)
def tyX12 : Nat → FieldType := fun k => match k with
  | 0 => .int
  | 1 => .array .byte
  | 2 => .int
  | 3 => .array .byte
  | 4 => .int
  | 5 => .array .int
  | 6 => .array .int
  | 7 => .array .int
  | 8 => .array .long
  | 9 => .array .long
  | 10 => .int
  | 11 => .int
  | 12 => .int
  | 13 => .int
  | 14 => .int
  | 15 => .int
  | 16 => .int
  | 17 => .int
  | 18 => .int
  | 19 => .int
  | 20 => .int
  | 21 => .array .long
  | 22 => .array .int
  | 23 => .array .int
  | 24 => .array .int
  | 25 => .array .int
  | 26 => .array .int
  | 27 => .array .int
  | 28 => .array .int
  | 29 => .array .int
  | 30 => .array .int
  | 31 => .array .int
  | 32 => .array .int
  | 33 => .array .int
  | 34 => .array .int
  | 35 => .array .int
  | 36 => .array .int
  | 37 => .array .int
  | 38 => .array .int
  | 39 => .array .int
  | 40 => .array .int
  | 41 => .array .int
  | 42 => .array .int
  | 43 => .array .int
  | 44 => .array .int
  | 45 => .int
  | 46 => .array .boolean
  | 47 => .array .int
  | 48 => .array .int
  | 49 => .array .int
  | 50 => .array .int
  | 51 => .int
  | 52 => .array .int
  | 53 => .array .int
  | 54 => .array .int
  | 55 => .int
  | 56 => .array .int
  | 57 => .array .int
  | 58 => .boolean
  | 59 => .array .int
  | 60 => .array .int
  | 61 => .int
  | 62 => .array .int
  | 63 => .array .boolean
  | 64 => .int
  | 65 => .array .int
  | 66 => .int
  | 67 => .int
  | 68 => .int
  | 69 => .array .int
  | 70 => .array .int
  | 71 => .array .int
  | 72 => .array .int
  | 73 => .array .boolean
  | _ => .array .int
abbrev wsX120 : List Cond := u_ws RX12 TX12 75
set_option maxRecDepth 100000 in
theorem nmX12 : ∀ a, a < 75 → ∀ b, b < 75 → a ≠ b → (TX12 a).2.1 ≠ (TX12 b).2.1 := by decide +kernel
set_option maxRecDepth 100000 in
theorem tyX12_ok : ∀ k, k < 75 → parseFieldDescriptor (TX12 k).2.2.1 = some (tyX12 k) := by decide +kernel
abbrev cX12_init : ByteArray := prog_24_method_2_code
def yX12_init : MethodName := ⟨RX12, "<init>", "()V"⟩
def dkwX12_init_36 : List UInt8 := [16, 105, 16, 112, 16, 115, 3, 3, 184, 0, 180, 80, 42, 182, 0, 184, 42, 182, 0, 187, 177]
abbrev dktX12_init_36 : List UInt8 := dkwX12_init_36 ++ []
def dkwX12_init_35 : List UInt8 := [16, 110, 16, 111, 16, 119, 3, 3, 3, 184, 0, 180, 80, 42, 180, 0, 34, 16, 19, 16, 116, 16, 114]
abbrev dktX12_init_35 : List UInt8 := dkwX12_init_35 ++ dktX12_init_36
def dkwX12_init_34 : List UInt8 := [16, 17, 16, 102, 16, 97, 16, 114, 3, 3, 3, 3, 184, 0, 180, 80, 42, 180, 0, 34, 16, 18, 16, 107]
abbrev dktX12_init_34 : List UInt8 := dkwX12_init_34 ++ dktX12_init_35
def dkwX12_init_33 : List UInt8 := [180, 0, 34, 16, 16, 16, 100, 16, 97, 16, 114, 16, 107, 3, 3, 3, 184, 0, 180, 80, 42, 180, 0, 34]
abbrev dktX12_init_33 : List UInt8 := dkwX12_init_33 ++ dktX12_init_34
def dkwX12_init_32 : List UInt8 := [42, 180, 0, 34, 16, 15, 16, 109, 16, 117, 16, 99, 16, 104, 3, 3, 3, 184, 0, 180, 80, 42]
abbrev dktX12_init_32 : List UInt8 := dkwX12_init_32 ++ dktX12_init_33
def dkwX12_init_31 : List UInt8 := [184, 0, 180, 80, 42, 180, 0, 34, 16, 14, 16, 102, 16, 97, 16, 116, 3, 3, 3, 3, 184, 0, 180, 80]
abbrev dktX12_init_31 : List UInt8 := dkwX12_init_31 ++ dktX12_init_32
def dkwX12_init_30 : List UInt8 := [184, 0, 180, 80, 42, 180, 0, 34, 16, 13, 16, 104, 16, 117, 16, 110, 16, 103, 16, 101, 16, 114, 3]
abbrev dktX12_init_30 : List UInt8 := dkwX12_init_30 ++ dktX12_init_31
def dkwX12_init_29 : List UInt8 := [3, 184, 0, 180, 80, 42, 180, 0, 34, 16, 12, 16, 101, 16, 108, 16, 115, 16, 101, 3, 3, 3]
abbrev dktX12_init_29 : List UInt8 := dkwX12_init_29 ++ dktX12_init_30
def dkwX12_init_28 : List UInt8 := [3, 3, 3, 3, 184, 0, 180, 80, 42, 180, 0, 34, 16, 11, 16, 116, 16, 104, 16, 101, 16, 110, 3, 3]
abbrev dktX12_init_28 : List UInt8 := dkwX12_init_28 ++ dktX12_init_29
def dkwX12_init_27 : List UInt8 := [16, 101, 16, 101, 16, 100, 3, 3, 3, 184, 0, 180, 80, 42, 180, 0, 34, 16, 10, 16, 105, 16, 102, 3]
abbrev dktX12_init_27 : List UInt8 := dkwX12_init_27 ++ dktX12_init_28
def dkwX12_init_26 : List UInt8 := [16, 8, 16, 111, 16, 100, 16, 100, 3, 3, 3, 3, 184, 0, 180, 80, 42, 180, 0, 34, 16, 9, 16, 115]
abbrev dktX12_init_26 : List UInt8 := dkwX12_init_26 ++ dktX12_init_27
def dkwX12_init_25 : List UInt8 := [180, 0, 34, 16, 7, 16, 108, 16, 97, 16, 109, 16, 112, 3, 3, 3, 184, 0, 180, 80, 42, 180, 0, 34]
abbrev dktX12_init_25 : List UInt8 := dkwX12_init_25 ++ dktX12_init_26
def dkwX12_init_24 : List UInt8 := [80, 42, 180, 0, 34, 16, 6, 16, 119, 16, 97, 16, 110, 16, 116, 16, 115, 3, 3, 184, 0, 180, 80, 42]
abbrev dktX12_init_24 : List UInt8 := dkwX12_init_24 ++ dktX12_init_25
def dkwX12_init_23 : List UInt8 := [3, 184, 0, 180, 80, 42, 180, 0, 34, 8, 16, 101, 16, 114, 16, 114, 16, 115, 3, 3, 3, 184, 0, 180]
abbrev dktX12_init_23 : List UInt8 := dkwX12_init_23 ++ dktX12_init_24
def dkwX12_init_22 : List UInt8 := [16, 100, 3, 3, 3, 184, 0, 180, 80, 42, 180, 0, 34, 7, 16, 101, 16, 97, 16, 116, 16, 115, 3, 3]
abbrev dktX12_init_22 : List UInt8 := dkwX12_init_22 ++ dktX12_init_23
def dkwX12_init_21 : List UInt8 := [16, 97, 16, 116, 3, 3, 3, 3, 184, 0, 180, 80, 42, 180, 0, 34, 6, 16, 108, 16, 111, 16, 97]
abbrev dktX12_init_21 : List UInt8 := dkwX12_init_21 ++ dktX12_init_22
def dkwX12_init_20 : List UInt8 := [4, 16, 104, 16, 111, 16, 108, 16, 101, 3, 3, 3, 184, 0, 180, 80, 42, 180, 0, 34, 5, 16, 114]
abbrev dktX12_init_20 : List UInt8 := dkwX12_init_20 ++ dktX12_init_21
def dkwX12_init_19 : List UInt8 := [180, 0, 34, 3, 16, 103, 16, 114, 16, 97, 16, 105, 16, 110, 3, 3, 184, 0, 180, 80, 42, 180, 0, 34]
abbrev dktX12_init_19 : List UInt8 := dkwX12_init_19 ++ dktX12_init_20
def dkwX12_init_18 : List UInt8 := [42, 6, 188, 4, 181, 0, 170, 42, 17, 1, 104, 188, 10, 181, 0, 173, 42, 3, 182, 0, 176, 42]
abbrev dktX12_init_18 : List UInt8 := dkwX12_init_18 ++ dktX12_init_19
def dkwX12_init_17 : List UInt8 := [42, 16, 20, 188, 10, 181, 0, 161, 42, 16, 20, 188, 10, 181, 0, 164, 42, 16, 20, 188, 10, 181, 0, 167]
abbrev dktX12_init_17 : List UInt8 := dkwX12_init_17 ++ dktX12_init_18
def dkwX12_init_16 : List UInt8 := [16, 6, 188, 4, 181, 0, 152, 42, 17, 18, 192, 188, 10, 181, 0, 155, 42, 16, 20, 188, 10, 181, 0, 158]
abbrev dktX12_init_16 : List UInt8 := dkwX12_init_16 ++ dktX12_init_17
def dkwX12_init_15 : List UInt8 := [16, 120, 188, 10, 181, 0, 143, 42, 16, 120, 188, 10, 181, 0, 146, 42, 16, 6, 188, 10, 181, 0, 149, 42]
abbrev dktX12_init_15 : List UInt8 := dkwX12_init_15 ++ dktX12_init_16
def dkwX12_init_14 : List UInt8 := [188, 10, 181, 0, 134, 42, 16, 7, 188, 10, 181, 0, 137, 42, 17, 1, 144, 188, 10, 181, 0, 140, 42]
abbrev dktX12_init_14 : List UInt8 := dkwX12_init_14 ++ dktX12_init_15
def dkwX12_init_13 : List UInt8 := [181, 0, 125, 42, 17, 3, 72, 188, 10, 181, 0, 128, 42, 17, 3, 72, 188, 10, 181, 0, 131, 42, 16, 64]
abbrev dktX12_init_13 : List UInt8 := dkwX12_init_13 ++ dktX12_init_14
def dkwX12_init_12 : List UInt8 := [17, 1, 4, 188, 10, 181, 0, 119, 42, 17, 1, 4, 188, 10, 181, 0, 122, 42, 17, 1, 4, 188, 10]
abbrev dktX12_init_12 : List UInt8 := dkwX12_init_12 ++ dktX12_init_13
def dkwX12_init_11 : List UInt8 := [181, 0, 109, 42, 17, 1, 4, 188, 4, 181, 0, 112, 42, 17, 1, 4, 188, 10, 181, 0, 116, 42]
abbrev dktX12_init_11 : List UInt8 := dkwX12_init_11 ++ dktX12_init_12
def dkwX12_init_10 : List UInt8 := [181, 0, 100, 42, 5, 188, 10, 181, 0, 103, 42, 16, 6, 188, 10, 181, 0, 106, 42, 16, 6, 188, 10]
abbrev dktX12_init_10 : List UInt8 := dkwX12_init_10 ++ dktX12_init_11
def dkwX12_init_9 : List UInt8 := [181, 0, 91, 42, 16, 40, 188, 10, 181, 0, 94, 42, 5, 188, 10, 181, 0, 97, 42, 5, 188, 10]
abbrev dktX12_init_9 : List UInt8 := dkwX12_init_9 ++ dktX12_init_10
def dkwX12_init_8 : List UInt8 := [181, 0, 82, 42, 16, 10, 188, 10, 181, 0, 85, 42, 16, 10, 188, 10, 181, 0, 88, 42, 16, 40, 188, 10]
abbrev dktX12_init_8 : List UInt8 := dkwX12_init_8 ++ dktX12_init_9
def dkwX12_init_7 : List UInt8 := [181, 0, 73, 42, 16, 16, 188, 10, 181, 0, 76, 42, 16, 16, 188, 10, 181, 0, 79, 42, 5, 188, 10]
abbrev dktX12_init_7 : List UInt8 := dkwX12_init_7 ++ dktX12_init_8
def dkwX12_init_6 : List UInt8 := [181, 0, 64, 42, 5, 188, 10, 181, 0, 67, 42, 16, 16, 188, 10, 181, 0, 70, 42, 16, 16, 188, 10]
abbrev dktX12_init_6 : List UInt8 := dkwX12_init_6 ++ dktX12_init_7
def dkwX12_init_5 : List UInt8 := [181, 0, 55, 42, 5, 188, 10, 181, 0, 58, 42, 16, 12, 188, 10, 181, 0, 61, 42, 16, 12, 188, 10]
abbrev dktX12_init_5 : List UInt8 := dkwX12_init_5 ++ dktX12_init_6
def dkwX12_init_4 : List UInt8 := [181, 0, 46, 42, 5, 188, 10, 181, 0, 49, 42, 16, 12, 188, 10, 181, 0, 52, 42, 16, 12, 188, 10]
abbrev dktX12_init_4 : List UInt8 := dkwX12_init_4 ++ dktX12_init_5
def dkwX12_init_3 : List UInt8 := [181, 0, 37, 42, 16, 20, 188, 11, 181, 0, 40, 42, 16, 20, 188, 10, 181, 0, 43, 42, 16, 20, 188, 10]
abbrev dktX12_init_3 : List UInt8 := dkwX12_init_3 ++ dktX12_init_4
def dkwX12_init_2 : List UInt8 := [181, 0, 27, 42, 17, 1, 147, 188, 11, 181, 0, 30, 42, 16, 20, 188, 11, 181, 0, 34, 42, 2]
abbrev dktX12_init_2 : List UInt8 := dkwX12_init_2 ++ dktX12_init_3
def dkwX12_init_1 : List UInt8 := [17, 1, 147, 188, 10, 181, 0, 20, 42, 17, 1, 147, 188, 10, 181, 0, 24, 42, 17, 1, 147, 188, 10]
abbrev dktX12_init_1 : List UInt8 := dkwX12_init_1 ++ dktX12_init_2
def dkwX12_init_0 : List UInt8 := [42, 183, 0, 7, 42, 17, 7, 208, 188, 8, 181, 0, 13, 42, 17, 7, 208, 188, 8, 181, 0, 17, 42]
abbrev dktX12_init_0 : List UInt8 := dkwX12_init_0 ++ dktX12_init_1
theorem dksX12_init_0 : cX12_init.data.toList.drop 0 = dktX12_init_0 := by decide +kernel
theorem dksX12_init_1 : cX12_init.data.toList.drop 23 = dktX12_init_1 := dk_seg dksX12_init_0 23 rfl rfl
theorem dksX12_init_2 : cX12_init.data.toList.drop 46 = dktX12_init_2 := dk_seg dksX12_init_1 23 rfl rfl
theorem dksX12_init_3 : cX12_init.data.toList.drop 68 = dktX12_init_3 := dk_seg dksX12_init_2 22 rfl rfl
theorem dksX12_init_4 : cX12_init.data.toList.drop 92 = dktX12_init_4 := dk_seg dksX12_init_3 24 rfl rfl
theorem dksX12_init_5 : cX12_init.data.toList.drop 115 = dktX12_init_5 := dk_seg dksX12_init_4 23 rfl rfl
theorem dksX12_init_6 : cX12_init.data.toList.drop 138 = dktX12_init_6 := dk_seg dksX12_init_5 23 rfl rfl
theorem dksX12_init_7 : cX12_init.data.toList.drop 161 = dktX12_init_7 := dk_seg dksX12_init_6 23 rfl rfl
theorem dksX12_init_8 : cX12_init.data.toList.drop 184 = dktX12_init_8 := dk_seg dksX12_init_7 23 rfl rfl
theorem dksX12_init_9 : cX12_init.data.toList.drop 208 = dktX12_init_9 := dk_seg dksX12_init_8 24 rfl rfl
theorem dksX12_init_10 : cX12_init.data.toList.drop 230 = dktX12_init_10 := dk_seg dksX12_init_9 22 rfl rfl
theorem dksX12_init_11 : cX12_init.data.toList.drop 253 = dktX12_init_11 := dk_seg dksX12_init_10 23 rfl rfl
theorem dksX12_init_12 : cX12_init.data.toList.drop 275 = dktX12_init_12 := dk_seg dksX12_init_11 22 rfl rfl
theorem dksX12_init_13 : cX12_init.data.toList.drop 298 = dktX12_init_13 := dk_seg dksX12_init_12 23 rfl rfl
theorem dksX12_init_14 : cX12_init.data.toList.drop 322 = dktX12_init_14 := dk_seg dksX12_init_13 24 rfl rfl
theorem dksX12_init_15 : cX12_init.data.toList.drop 345 = dktX12_init_15 := dk_seg dksX12_init_14 23 rfl rfl
theorem dksX12_init_16 : cX12_init.data.toList.drop 369 = dktX12_init_16 := dk_seg dksX12_init_15 24 rfl rfl
theorem dksX12_init_17 : cX12_init.data.toList.drop 393 = dktX12_init_17 := dk_seg dksX12_init_16 24 rfl rfl
theorem dksX12_init_18 : cX12_init.data.toList.drop 417 = dktX12_init_18 := dk_seg dksX12_init_17 24 rfl rfl
theorem dksX12_init_19 : cX12_init.data.toList.drop 439 = dktX12_init_19 := dk_seg dksX12_init_18 22 rfl rfl
theorem dksX12_init_20 : cX12_init.data.toList.drop 463 = dktX12_init_20 := dk_seg dksX12_init_19 24 rfl rfl
theorem dksX12_init_21 : cX12_init.data.toList.drop 486 = dktX12_init_21 := dk_seg dksX12_init_20 23 rfl rfl
theorem dksX12_init_22 : cX12_init.data.toList.drop 509 = dktX12_init_22 := dk_seg dksX12_init_21 23 rfl rfl
theorem dksX12_init_23 : cX12_init.data.toList.drop 533 = dktX12_init_23 := dk_seg dksX12_init_22 24 rfl rfl
theorem dksX12_init_24 : cX12_init.data.toList.drop 557 = dktX12_init_24 := dk_seg dksX12_init_23 24 rfl rfl
theorem dksX12_init_25 : cX12_init.data.toList.drop 581 = dktX12_init_25 := dk_seg dksX12_init_24 24 rfl rfl
theorem dksX12_init_26 : cX12_init.data.toList.drop 605 = dktX12_init_26 := dk_seg dksX12_init_25 24 rfl rfl
theorem dksX12_init_27 : cX12_init.data.toList.drop 629 = dktX12_init_27 := dk_seg dksX12_init_26 24 rfl rfl
theorem dksX12_init_28 : cX12_init.data.toList.drop 653 = dktX12_init_28 := dk_seg dksX12_init_27 24 rfl rfl
theorem dksX12_init_29 : cX12_init.data.toList.drop 677 = dktX12_init_29 := dk_seg dksX12_init_28 24 rfl rfl
theorem dksX12_init_30 : cX12_init.data.toList.drop 699 = dktX12_init_30 := dk_seg dksX12_init_29 22 rfl rfl
theorem dksX12_init_31 : cX12_init.data.toList.drop 722 = dktX12_init_31 := dk_seg dksX12_init_30 23 rfl rfl
theorem dksX12_init_32 : cX12_init.data.toList.drop 746 = dktX12_init_32 := dk_seg dksX12_init_31 24 rfl rfl
theorem dksX12_init_33 : cX12_init.data.toList.drop 768 = dktX12_init_33 := dk_seg dksX12_init_32 22 rfl rfl
theorem dksX12_init_34 : cX12_init.data.toList.drop 792 = dktX12_init_34 := dk_seg dksX12_init_33 24 rfl rfl
theorem dksX12_init_35 : cX12_init.data.toList.drop 816 = dktX12_init_35 := dk_seg dksX12_init_34 24 rfl rfl
theorem dksX12_init_36 : cX12_init.data.toList.drop 839 = dktX12_init_36 := dk_seg dksX12_init_35 23 rfl rfl
theorem dX12_init_0 : decode cX12_init 0 = .ok (.aload_n 0, 1) := dk_42 (dk_at dksX12_init_0 0 rfl rfl)
theorem dX12_init_1 : decode cX12_init 1 = .ok (.invokespecial 7, 3) := dk_183 0 7 (dk_at dksX12_init_0 1 rfl rfl)
theorem dX12_init_4 : decode cX12_init 4 = .ok (.aload_n 0, 1) := dk_42 (dk_at dksX12_init_0 4 rfl rfl)
theorem dX12_init_5 : decode cX12_init 5 = .ok (.sipush 2000, 3) := dk_17 7 208 (dk_at dksX12_init_0 5 rfl rfl)
theorem dX12_init_8 : decode cX12_init 8 = .ok (.newarray .byte, 2) := dk_188_8 (dk_at dksX12_init_0 8 rfl rfl)
theorem dX12_init_10 : decode cX12_init 10 = .ok (.putfield 13, 3) := dk_181 0 13 (dk_at dksX12_init_0 10 rfl rfl)
theorem dX12_init_13 : decode cX12_init 13 = .ok (.aload_n 0, 1) := dk_42 (dk_at dksX12_init_0 13 rfl rfl)
theorem dX12_init_14 : decode cX12_init 14 = .ok (.sipush 2000, 3) := dk_17 7 208 (dk_at dksX12_init_0 14 rfl rfl)
theorem dX12_init_17 : decode cX12_init 17 = .ok (.newarray .byte, 2) := dk_188_8 (dk_at dksX12_init_0 17 rfl rfl)
theorem dX12_init_19 : decode cX12_init 19 = .ok (.putfield 17, 3) := dk_181 0 17 (dk_at dksX12_init_0 19 rfl rfl)
theorem dX12_init_22 : decode cX12_init 22 = .ok (.aload_n 0, 1) := dk_42 (dk_at dksX12_init_0 22 rfl rfl)
theorem dX12_init_23 : decode cX12_init 23 = .ok (.sipush 403, 3) := dk_17 1 147 (dk_at dksX12_init_1 0 rfl rfl)
theorem dX12_init_26 : decode cX12_init 26 = .ok (.newarray .int, 2) := dk_188_10 (dk_at dksX12_init_1 3 rfl rfl)
theorem dX12_init_28 : decode cX12_init 28 = .ok (.putfield 20, 3) := dk_181 0 20 (dk_at dksX12_init_1 5 rfl rfl)
theorem dX12_init_31 : decode cX12_init 31 = .ok (.aload_n 0, 1) := dk_42 (dk_at dksX12_init_1 8 rfl rfl)
theorem dX12_init_32 : decode cX12_init 32 = .ok (.sipush 403, 3) := dk_17 1 147 (dk_at dksX12_init_1 9 rfl rfl)
theorem dX12_init_35 : decode cX12_init 35 = .ok (.newarray .int, 2) := dk_188_10 (dk_at dksX12_init_1 12 rfl rfl)
theorem dX12_init_37 : decode cX12_init 37 = .ok (.putfield 24, 3) := dk_181 0 24 (dk_at dksX12_init_1 14 rfl rfl)
theorem dX12_init_40 : decode cX12_init 40 = .ok (.aload_n 0, 1) := dk_42 (dk_at dksX12_init_1 17 rfl rfl)
theorem dX12_init_41 : decode cX12_init 41 = .ok (.sipush 403, 3) := dk_17 1 147 (dk_at dksX12_init_1 18 rfl rfl)
theorem dX12_init_44 : decode cX12_init 44 = .ok (.newarray .int, 2) := dk_188_10 (dk_at dksX12_init_1 21 rfl rfl)
theorem dX12_init_46 : decode cX12_init 46 = .ok (.putfield 27, 3) := dk_181 0 27 (dk_at dksX12_init_2 0 rfl rfl)
theorem dX12_init_49 : decode cX12_init 49 = .ok (.aload_n 0, 1) := dk_42 (dk_at dksX12_init_2 3 rfl rfl)
theorem dX12_init_50 : decode cX12_init 50 = .ok (.sipush 403, 3) := dk_17 1 147 (dk_at dksX12_init_2 4 rfl rfl)
theorem dX12_init_53 : decode cX12_init 53 = .ok (.newarray .long, 2) := dk_188_11 (dk_at dksX12_init_2 7 rfl rfl)
theorem dX12_init_55 : decode cX12_init 55 = .ok (.putfield 30, 3) := dk_181 0 30 (dk_at dksX12_init_2 9 rfl rfl)
theorem dX12_init_58 : decode cX12_init 58 = .ok (.aload_n 0, 1) := dk_42 (dk_at dksX12_init_2 12 rfl rfl)
theorem dX12_init_59 : decode cX12_init 59 = .ok (.bipush 20, 2) := dk_16 20 (dk_at dksX12_init_2 13 rfl rfl)
theorem dX12_init_61 : decode cX12_init 61 = .ok (.newarray .long, 2) := dk_188_11 (dk_at dksX12_init_2 15 rfl rfl)
theorem dX12_init_63 : decode cX12_init 63 = .ok (.putfield 34, 3) := dk_181 0 34 (dk_at dksX12_init_2 17 rfl rfl)
theorem dX12_init_66 : decode cX12_init 66 = .ok (.aload_n 0, 1) := dk_42 (dk_at dksX12_init_2 20 rfl rfl)
theorem dX12_init_67 : decode cX12_init 67 = .ok (.iconst (-1), 1) := dk_2 (dk_at dksX12_init_2 21 rfl rfl)
theorem dX12_init_68 : decode cX12_init 68 = .ok (.putfield 37, 3) := dk_181 0 37 (dk_at dksX12_init_3 0 rfl rfl)
theorem dX12_init_71 : decode cX12_init 71 = .ok (.aload_n 0, 1) := dk_42 (dk_at dksX12_init_3 3 rfl rfl)
theorem dX12_init_72 : decode cX12_init 72 = .ok (.bipush 20, 2) := dk_16 20 (dk_at dksX12_init_3 4 rfl rfl)
theorem dX12_init_74 : decode cX12_init 74 = .ok (.newarray .long, 2) := dk_188_11 (dk_at dksX12_init_3 6 rfl rfl)
theorem dX12_init_76 : decode cX12_init 76 = .ok (.putfield 40, 3) := dk_181 0 40 (dk_at dksX12_init_3 8 rfl rfl)
theorem dX12_init_79 : decode cX12_init 79 = .ok (.aload_n 0, 1) := dk_42 (dk_at dksX12_init_3 11 rfl rfl)
theorem dX12_init_80 : decode cX12_init 80 = .ok (.bipush 20, 2) := dk_16 20 (dk_at dksX12_init_3 12 rfl rfl)
theorem dX12_init_82 : decode cX12_init 82 = .ok (.newarray .int, 2) := dk_188_10 (dk_at dksX12_init_3 14 rfl rfl)
theorem dX12_init_84 : decode cX12_init 84 = .ok (.putfield 43, 3) := dk_181 0 43 (dk_at dksX12_init_3 16 rfl rfl)
theorem dX12_init_87 : decode cX12_init 87 = .ok (.aload_n 0, 1) := dk_42 (dk_at dksX12_init_3 19 rfl rfl)
theorem dX12_init_88 : decode cX12_init 88 = .ok (.bipush 20, 2) := dk_16 20 (dk_at dksX12_init_3 20 rfl rfl)
theorem dX12_init_90 : decode cX12_init 90 = .ok (.newarray .int, 2) := dk_188_10 (dk_at dksX12_init_3 22 rfl rfl)
theorem dX12_init_92 : decode cX12_init 92 = .ok (.putfield 46, 3) := dk_181 0 46 (dk_at dksX12_init_4 0 rfl rfl)
theorem dX12_init_95 : decode cX12_init 95 = .ok (.aload_n 0, 1) := dk_42 (dk_at dksX12_init_4 3 rfl rfl)
theorem dX12_init_96 : decode cX12_init 96 = .ok (.iconst 2, 1) := dk_5 (dk_at dksX12_init_4 4 rfl rfl)
theorem dX12_init_97 : decode cX12_init 97 = .ok (.newarray .int, 2) := dk_188_10 (dk_at dksX12_init_4 5 rfl rfl)
theorem dX12_init_99 : decode cX12_init 99 = .ok (.putfield 49, 3) := dk_181 0 49 (dk_at dksX12_init_4 7 rfl rfl)
theorem dX12_init_102 : decode cX12_init 102 = .ok (.aload_n 0, 1) := dk_42 (dk_at dksX12_init_4 10 rfl rfl)
theorem dX12_init_103 : decode cX12_init 103 = .ok (.bipush 12, 2) := dk_16 12 (dk_at dksX12_init_4 11 rfl rfl)
theorem dX12_init_105 : decode cX12_init 105 = .ok (.newarray .int, 2) := dk_188_10 (dk_at dksX12_init_4 13 rfl rfl)
theorem dX12_init_107 : decode cX12_init 107 = .ok (.putfield 52, 3) := dk_181 0 52 (dk_at dksX12_init_4 15 rfl rfl)
theorem dX12_init_110 : decode cX12_init 110 = .ok (.aload_n 0, 1) := dk_42 (dk_at dksX12_init_4 18 rfl rfl)
theorem dX12_init_111 : decode cX12_init 111 = .ok (.bipush 12, 2) := dk_16 12 (dk_at dksX12_init_4 19 rfl rfl)
theorem dX12_init_113 : decode cX12_init 113 = .ok (.newarray .int, 2) := dk_188_10 (dk_at dksX12_init_4 21 rfl rfl)
theorem dX12_init_115 : decode cX12_init 115 = .ok (.putfield 55, 3) := dk_181 0 55 (dk_at dksX12_init_5 0 rfl rfl)
theorem dX12_init_118 : decode cX12_init 118 = .ok (.aload_n 0, 1) := dk_42 (dk_at dksX12_init_5 3 rfl rfl)
theorem dX12_init_119 : decode cX12_init 119 = .ok (.iconst 2, 1) := dk_5 (dk_at dksX12_init_5 4 rfl rfl)
theorem dX12_init_120 : decode cX12_init 120 = .ok (.newarray .int, 2) := dk_188_10 (dk_at dksX12_init_5 5 rfl rfl)
theorem dX12_init_122 : decode cX12_init 122 = .ok (.putfield 58, 3) := dk_181 0 58 (dk_at dksX12_init_5 7 rfl rfl)
theorem dX12_init_125 : decode cX12_init 125 = .ok (.aload_n 0, 1) := dk_42 (dk_at dksX12_init_5 10 rfl rfl)
theorem dX12_init_126 : decode cX12_init 126 = .ok (.bipush 12, 2) := dk_16 12 (dk_at dksX12_init_5 11 rfl rfl)
theorem dX12_init_128 : decode cX12_init 128 = .ok (.newarray .int, 2) := dk_188_10 (dk_at dksX12_init_5 13 rfl rfl)
theorem dX12_init_130 : decode cX12_init 130 = .ok (.putfield 61, 3) := dk_181 0 61 (dk_at dksX12_init_5 15 rfl rfl)
theorem dX12_init_133 : decode cX12_init 133 = .ok (.aload_n 0, 1) := dk_42 (dk_at dksX12_init_5 18 rfl rfl)
theorem dX12_init_134 : decode cX12_init 134 = .ok (.bipush 12, 2) := dk_16 12 (dk_at dksX12_init_5 19 rfl rfl)
theorem dX12_init_136 : decode cX12_init 136 = .ok (.newarray .int, 2) := dk_188_10 (dk_at dksX12_init_5 21 rfl rfl)
theorem dX12_init_138 : decode cX12_init 138 = .ok (.putfield 64, 3) := dk_181 0 64 (dk_at dksX12_init_6 0 rfl rfl)
theorem dX12_init_141 : decode cX12_init 141 = .ok (.aload_n 0, 1) := dk_42 (dk_at dksX12_init_6 3 rfl rfl)
theorem dX12_init_142 : decode cX12_init 142 = .ok (.iconst 2, 1) := dk_5 (dk_at dksX12_init_6 4 rfl rfl)
theorem dX12_init_143 : decode cX12_init 143 = .ok (.newarray .int, 2) := dk_188_10 (dk_at dksX12_init_6 5 rfl rfl)
theorem dX12_init_145 : decode cX12_init 145 = .ok (.putfield 67, 3) := dk_181 0 67 (dk_at dksX12_init_6 7 rfl rfl)
theorem dX12_init_148 : decode cX12_init 148 = .ok (.aload_n 0, 1) := dk_42 (dk_at dksX12_init_6 10 rfl rfl)
theorem dX12_init_149 : decode cX12_init 149 = .ok (.bipush 16, 2) := dk_16 16 (dk_at dksX12_init_6 11 rfl rfl)
theorem dX12_init_151 : decode cX12_init 151 = .ok (.newarray .int, 2) := dk_188_10 (dk_at dksX12_init_6 13 rfl rfl)
theorem dX12_init_153 : decode cX12_init 153 = .ok (.putfield 70, 3) := dk_181 0 70 (dk_at dksX12_init_6 15 rfl rfl)
theorem dX12_init_156 : decode cX12_init 156 = .ok (.aload_n 0, 1) := dk_42 (dk_at dksX12_init_6 18 rfl rfl)
theorem dX12_init_157 : decode cX12_init 157 = .ok (.bipush 16, 2) := dk_16 16 (dk_at dksX12_init_6 19 rfl rfl)
theorem dX12_init_159 : decode cX12_init 159 = .ok (.newarray .int, 2) := dk_188_10 (dk_at dksX12_init_6 21 rfl rfl)
theorem dX12_init_161 : decode cX12_init 161 = .ok (.putfield 73, 3) := dk_181 0 73 (dk_at dksX12_init_7 0 rfl rfl)
theorem dX12_init_164 : decode cX12_init 164 = .ok (.aload_n 0, 1) := dk_42 (dk_at dksX12_init_7 3 rfl rfl)
theorem dX12_init_165 : decode cX12_init 165 = .ok (.bipush 16, 2) := dk_16 16 (dk_at dksX12_init_7 4 rfl rfl)
theorem dX12_init_167 : decode cX12_init 167 = .ok (.newarray .int, 2) := dk_188_10 (dk_at dksX12_init_7 6 rfl rfl)
theorem dX12_init_169 : decode cX12_init 169 = .ok (.putfield 76, 3) := dk_181 0 76 (dk_at dksX12_init_7 8 rfl rfl)
theorem dX12_init_172 : decode cX12_init 172 = .ok (.aload_n 0, 1) := dk_42 (dk_at dksX12_init_7 11 rfl rfl)
theorem dX12_init_173 : decode cX12_init 173 = .ok (.bipush 16, 2) := dk_16 16 (dk_at dksX12_init_7 12 rfl rfl)
theorem dX12_init_175 : decode cX12_init 175 = .ok (.newarray .int, 2) := dk_188_10 (dk_at dksX12_init_7 14 rfl rfl)
theorem dX12_init_177 : decode cX12_init 177 = .ok (.putfield 79, 3) := dk_181 0 79 (dk_at dksX12_init_7 16 rfl rfl)
theorem dX12_init_180 : decode cX12_init 180 = .ok (.aload_n 0, 1) := dk_42 (dk_at dksX12_init_7 19 rfl rfl)
theorem dX12_init_181 : decode cX12_init 181 = .ok (.iconst 2, 1) := dk_5 (dk_at dksX12_init_7 20 rfl rfl)
theorem dX12_init_182 : decode cX12_init 182 = .ok (.newarray .int, 2) := dk_188_10 (dk_at dksX12_init_7 21 rfl rfl)
theorem dX12_init_184 : decode cX12_init 184 = .ok (.putfield 82, 3) := dk_181 0 82 (dk_at dksX12_init_8 0 rfl rfl)
theorem dX12_init_187 : decode cX12_init 187 = .ok (.aload_n 0, 1) := dk_42 (dk_at dksX12_init_8 3 rfl rfl)
theorem dX12_init_188 : decode cX12_init 188 = .ok (.bipush 10, 2) := dk_16 10 (dk_at dksX12_init_8 4 rfl rfl)
theorem dX12_init_190 : decode cX12_init 190 = .ok (.newarray .int, 2) := dk_188_10 (dk_at dksX12_init_8 6 rfl rfl)
theorem dX12_init_192 : decode cX12_init 192 = .ok (.putfield 85, 3) := dk_181 0 85 (dk_at dksX12_init_8 8 rfl rfl)
theorem dX12_init_195 : decode cX12_init 195 = .ok (.aload_n 0, 1) := dk_42 (dk_at dksX12_init_8 11 rfl rfl)
theorem dX12_init_196 : decode cX12_init 196 = .ok (.bipush 10, 2) := dk_16 10 (dk_at dksX12_init_8 12 rfl rfl)
theorem dX12_init_198 : decode cX12_init 198 = .ok (.newarray .int, 2) := dk_188_10 (dk_at dksX12_init_8 14 rfl rfl)
theorem dX12_init_200 : decode cX12_init 200 = .ok (.putfield 88, 3) := dk_181 0 88 (dk_at dksX12_init_8 16 rfl rfl)
theorem dX12_init_203 : decode cX12_init 203 = .ok (.aload_n 0, 1) := dk_42 (dk_at dksX12_init_8 19 rfl rfl)
theorem dX12_init_204 : decode cX12_init 204 = .ok (.bipush 40, 2) := dk_16 40 (dk_at dksX12_init_8 20 rfl rfl)
theorem dX12_init_206 : decode cX12_init 206 = .ok (.newarray .int, 2) := dk_188_10 (dk_at dksX12_init_8 22 rfl rfl)
theorem dX12_init_208 : decode cX12_init 208 = .ok (.putfield 91, 3) := dk_181 0 91 (dk_at dksX12_init_9 0 rfl rfl)
theorem dX12_init_211 : decode cX12_init 211 = .ok (.aload_n 0, 1) := dk_42 (dk_at dksX12_init_9 3 rfl rfl)
theorem dX12_init_212 : decode cX12_init 212 = .ok (.bipush 40, 2) := dk_16 40 (dk_at dksX12_init_9 4 rfl rfl)
theorem dX12_init_214 : decode cX12_init 214 = .ok (.newarray .int, 2) := dk_188_10 (dk_at dksX12_init_9 6 rfl rfl)
theorem dX12_init_216 : decode cX12_init 216 = .ok (.putfield 94, 3) := dk_181 0 94 (dk_at dksX12_init_9 8 rfl rfl)
theorem dX12_init_219 : decode cX12_init 219 = .ok (.aload_n 0, 1) := dk_42 (dk_at dksX12_init_9 11 rfl rfl)
theorem dX12_init_220 : decode cX12_init 220 = .ok (.iconst 2, 1) := dk_5 (dk_at dksX12_init_9 12 rfl rfl)
theorem dX12_init_221 : decode cX12_init 221 = .ok (.newarray .int, 2) := dk_188_10 (dk_at dksX12_init_9 13 rfl rfl)
theorem dX12_init_223 : decode cX12_init 223 = .ok (.putfield 97, 3) := dk_181 0 97 (dk_at dksX12_init_9 15 rfl rfl)
theorem dX12_init_226 : decode cX12_init 226 = .ok (.aload_n 0, 1) := dk_42 (dk_at dksX12_init_9 18 rfl rfl)
theorem dX12_init_227 : decode cX12_init 227 = .ok (.iconst 2, 1) := dk_5 (dk_at dksX12_init_9 19 rfl rfl)
theorem dX12_init_228 : decode cX12_init 228 = .ok (.newarray .int, 2) := dk_188_10 (dk_at dksX12_init_9 20 rfl rfl)
theorem dX12_init_230 : decode cX12_init 230 = .ok (.putfield 100, 3) := dk_181 0 100 (dk_at dksX12_init_10 0 rfl rfl)
theorem dX12_init_233 : decode cX12_init 233 = .ok (.aload_n 0, 1) := dk_42 (dk_at dksX12_init_10 3 rfl rfl)
theorem dX12_init_234 : decode cX12_init 234 = .ok (.iconst 2, 1) := dk_5 (dk_at dksX12_init_10 4 rfl rfl)
theorem dX12_init_235 : decode cX12_init 235 = .ok (.newarray .int, 2) := dk_188_10 (dk_at dksX12_init_10 5 rfl rfl)
theorem dX12_init_237 : decode cX12_init 237 = .ok (.putfield 103, 3) := dk_181 0 103 (dk_at dksX12_init_10 7 rfl rfl)
theorem dX12_init_240 : decode cX12_init 240 = .ok (.aload_n 0, 1) := dk_42 (dk_at dksX12_init_10 10 rfl rfl)
theorem dX12_init_241 : decode cX12_init 241 = .ok (.bipush 6, 2) := dk_16 6 (dk_at dksX12_init_10 11 rfl rfl)
theorem dX12_init_243 : decode cX12_init 243 = .ok (.newarray .int, 2) := dk_188_10 (dk_at dksX12_init_10 13 rfl rfl)
theorem dX12_init_245 : decode cX12_init 245 = .ok (.putfield 106, 3) := dk_181 0 106 (dk_at dksX12_init_10 15 rfl rfl)
theorem dX12_init_248 : decode cX12_init 248 = .ok (.aload_n 0, 1) := dk_42 (dk_at dksX12_init_10 18 rfl rfl)
theorem dX12_init_249 : decode cX12_init 249 = .ok (.bipush 6, 2) := dk_16 6 (dk_at dksX12_init_10 19 rfl rfl)
theorem dX12_init_251 : decode cX12_init 251 = .ok (.newarray .int, 2) := dk_188_10 (dk_at dksX12_init_10 21 rfl rfl)
theorem dX12_init_253 : decode cX12_init 253 = .ok (.putfield 109, 3) := dk_181 0 109 (dk_at dksX12_init_11 0 rfl rfl)
theorem dX12_init_256 : decode cX12_init 256 = .ok (.aload_n 0, 1) := dk_42 (dk_at dksX12_init_11 3 rfl rfl)
theorem dX12_init_257 : decode cX12_init 257 = .ok (.sipush 260, 3) := dk_17 1 4 (dk_at dksX12_init_11 4 rfl rfl)
theorem dX12_init_260 : decode cX12_init 260 = .ok (.newarray .boolean, 2) := dk_188_4 (dk_at dksX12_init_11 7 rfl rfl)
theorem dX12_init_262 : decode cX12_init 262 = .ok (.putfield 112, 3) := dk_181 0 112 (dk_at dksX12_init_11 9 rfl rfl)
theorem dX12_init_265 : decode cX12_init 265 = .ok (.aload_n 0, 1) := dk_42 (dk_at dksX12_init_11 12 rfl rfl)
theorem dX12_init_266 : decode cX12_init 266 = .ok (.sipush 260, 3) := dk_17 1 4 (dk_at dksX12_init_11 13 rfl rfl)
theorem dX12_init_269 : decode cX12_init 269 = .ok (.newarray .int, 2) := dk_188_10 (dk_at dksX12_init_11 16 rfl rfl)
theorem dX12_init_271 : decode cX12_init 271 = .ok (.putfield 116, 3) := dk_181 0 116 (dk_at dksX12_init_11 18 rfl rfl)
theorem dX12_init_274 : decode cX12_init 274 = .ok (.aload_n 0, 1) := dk_42 (dk_at dksX12_init_11 21 rfl rfl)
theorem dX12_init_275 : decode cX12_init 275 = .ok (.sipush 260, 3) := dk_17 1 4 (dk_at dksX12_init_12 0 rfl rfl)
theorem dX12_init_278 : decode cX12_init 278 = .ok (.newarray .int, 2) := dk_188_10 (dk_at dksX12_init_12 3 rfl rfl)
theorem dX12_init_280 : decode cX12_init 280 = .ok (.putfield 119, 3) := dk_181 0 119 (dk_at dksX12_init_12 5 rfl rfl)
theorem dX12_init_283 : decode cX12_init 283 = .ok (.aload_n 0, 1) := dk_42 (dk_at dksX12_init_12 8 rfl rfl)
theorem dX12_init_284 : decode cX12_init 284 = .ok (.sipush 260, 3) := dk_17 1 4 (dk_at dksX12_init_12 9 rfl rfl)
theorem dX12_init_287 : decode cX12_init 287 = .ok (.newarray .int, 2) := dk_188_10 (dk_at dksX12_init_12 12 rfl rfl)
theorem dX12_init_289 : decode cX12_init 289 = .ok (.putfield 122, 3) := dk_181 0 122 (dk_at dksX12_init_12 14 rfl rfl)
theorem dX12_init_292 : decode cX12_init 292 = .ok (.aload_n 0, 1) := dk_42 (dk_at dksX12_init_12 17 rfl rfl)
theorem dX12_init_293 : decode cX12_init 293 = .ok (.sipush 260, 3) := dk_17 1 4 (dk_at dksX12_init_12 18 rfl rfl)
theorem dX12_init_296 : decode cX12_init 296 = .ok (.newarray .int, 2) := dk_188_10 (dk_at dksX12_init_12 21 rfl rfl)
theorem dX12_init_298 : decode cX12_init 298 = .ok (.putfield 125, 3) := dk_181 0 125 (dk_at dksX12_init_13 0 rfl rfl)
theorem dX12_init_301 : decode cX12_init 301 = .ok (.aload_n 0, 1) := dk_42 (dk_at dksX12_init_13 3 rfl rfl)
theorem dX12_init_302 : decode cX12_init 302 = .ok (.sipush 840, 3) := dk_17 3 72 (dk_at dksX12_init_13 4 rfl rfl)
theorem dX12_init_305 : decode cX12_init 305 = .ok (.newarray .int, 2) := dk_188_10 (dk_at dksX12_init_13 7 rfl rfl)
theorem dX12_init_307 : decode cX12_init 307 = .ok (.putfield 128, 3) := dk_181 0 128 (dk_at dksX12_init_13 9 rfl rfl)
theorem dX12_init_310 : decode cX12_init 310 = .ok (.aload_n 0, 1) := dk_42 (dk_at dksX12_init_13 12 rfl rfl)
theorem dX12_init_311 : decode cX12_init 311 = .ok (.sipush 840, 3) := dk_17 3 72 (dk_at dksX12_init_13 13 rfl rfl)
theorem dX12_init_314 : decode cX12_init 314 = .ok (.newarray .int, 2) := dk_188_10 (dk_at dksX12_init_13 16 rfl rfl)
theorem dX12_init_316 : decode cX12_init 316 = .ok (.putfield 131, 3) := dk_181 0 131 (dk_at dksX12_init_13 18 rfl rfl)
theorem dX12_init_319 : decode cX12_init 319 = .ok (.aload_n 0, 1) := dk_42 (dk_at dksX12_init_13 21 rfl rfl)
theorem dX12_init_320 : decode cX12_init 320 = .ok (.bipush 64, 2) := dk_16 64 (dk_at dksX12_init_13 22 rfl rfl)
theorem dX12_init_322 : decode cX12_init 322 = .ok (.newarray .int, 2) := dk_188_10 (dk_at dksX12_init_14 0 rfl rfl)
theorem dX12_init_324 : decode cX12_init 324 = .ok (.putfield 134, 3) := dk_181 0 134 (dk_at dksX12_init_14 2 rfl rfl)
theorem dX12_init_327 : decode cX12_init 327 = .ok (.aload_n 0, 1) := dk_42 (dk_at dksX12_init_14 5 rfl rfl)
theorem dX12_init_328 : decode cX12_init 328 = .ok (.bipush 7, 2) := dk_16 7 (dk_at dksX12_init_14 6 rfl rfl)
theorem dX12_init_330 : decode cX12_init 330 = .ok (.newarray .int, 2) := dk_188_10 (dk_at dksX12_init_14 8 rfl rfl)
theorem dX12_init_332 : decode cX12_init 332 = .ok (.putfield 137, 3) := dk_181 0 137 (dk_at dksX12_init_14 10 rfl rfl)
theorem dX12_init_335 : decode cX12_init 335 = .ok (.aload_n 0, 1) := dk_42 (dk_at dksX12_init_14 13 rfl rfl)
theorem dX12_init_336 : decode cX12_init 336 = .ok (.sipush 400, 3) := dk_17 1 144 (dk_at dksX12_init_14 14 rfl rfl)
theorem dX12_init_339 : decode cX12_init 339 = .ok (.newarray .int, 2) := dk_188_10 (dk_at dksX12_init_14 17 rfl rfl)
theorem dX12_init_341 : decode cX12_init 341 = .ok (.putfield 140, 3) := dk_181 0 140 (dk_at dksX12_init_14 19 rfl rfl)
theorem dX12_init_344 : decode cX12_init 344 = .ok (.aload_n 0, 1) := dk_42 (dk_at dksX12_init_14 22 rfl rfl)
theorem dX12_init_345 : decode cX12_init 345 = .ok (.bipush 120, 2) := dk_16 120 (dk_at dksX12_init_15 0 rfl rfl)
theorem dX12_init_347 : decode cX12_init 347 = .ok (.newarray .int, 2) := dk_188_10 (dk_at dksX12_init_15 2 rfl rfl)
theorem dX12_init_349 : decode cX12_init 349 = .ok (.putfield 143, 3) := dk_181 0 143 (dk_at dksX12_init_15 4 rfl rfl)
theorem dX12_init_352 : decode cX12_init 352 = .ok (.aload_n 0, 1) := dk_42 (dk_at dksX12_init_15 7 rfl rfl)
theorem dX12_init_353 : decode cX12_init 353 = .ok (.bipush 120, 2) := dk_16 120 (dk_at dksX12_init_15 8 rfl rfl)
theorem dX12_init_355 : decode cX12_init 355 = .ok (.newarray .int, 2) := dk_188_10 (dk_at dksX12_init_15 10 rfl rfl)
theorem dX12_init_357 : decode cX12_init 357 = .ok (.putfield 146, 3) := dk_181 0 146 (dk_at dksX12_init_15 12 rfl rfl)
theorem dX12_init_360 : decode cX12_init 360 = .ok (.aload_n 0, 1) := dk_42 (dk_at dksX12_init_15 15 rfl rfl)
theorem dX12_init_361 : decode cX12_init 361 = .ok (.bipush 6, 2) := dk_16 6 (dk_at dksX12_init_15 16 rfl rfl)
theorem dX12_init_363 : decode cX12_init 363 = .ok (.newarray .int, 2) := dk_188_10 (dk_at dksX12_init_15 18 rfl rfl)
theorem dX12_init_365 : decode cX12_init 365 = .ok (.putfield 149, 3) := dk_181 0 149 (dk_at dksX12_init_15 20 rfl rfl)
theorem dX12_init_368 : decode cX12_init 368 = .ok (.aload_n 0, 1) := dk_42 (dk_at dksX12_init_15 23 rfl rfl)
theorem dX12_init_369 : decode cX12_init 369 = .ok (.bipush 6, 2) := dk_16 6 (dk_at dksX12_init_16 0 rfl rfl)
theorem dX12_init_371 : decode cX12_init 371 = .ok (.newarray .boolean, 2) := dk_188_4 (dk_at dksX12_init_16 2 rfl rfl)
theorem dX12_init_373 : decode cX12_init 373 = .ok (.putfield 152, 3) := dk_181 0 152 (dk_at dksX12_init_16 4 rfl rfl)
theorem dX12_init_376 : decode cX12_init 376 = .ok (.aload_n 0, 1) := dk_42 (dk_at dksX12_init_16 7 rfl rfl)
theorem dX12_init_377 : decode cX12_init 377 = .ok (.sipush 4800, 3) := dk_17 18 192 (dk_at dksX12_init_16 8 rfl rfl)
theorem dX12_init_380 : decode cX12_init 380 = .ok (.newarray .int, 2) := dk_188_10 (dk_at dksX12_init_16 11 rfl rfl)
theorem dX12_init_382 : decode cX12_init 382 = .ok (.putfield 155, 3) := dk_181 0 155 (dk_at dksX12_init_16 13 rfl rfl)
theorem dX12_init_385 : decode cX12_init 385 = .ok (.aload_n 0, 1) := dk_42 (dk_at dksX12_init_16 16 rfl rfl)
theorem dX12_init_386 : decode cX12_init 386 = .ok (.bipush 20, 2) := dk_16 20 (dk_at dksX12_init_16 17 rfl rfl)
theorem dX12_init_388 : decode cX12_init 388 = .ok (.newarray .int, 2) := dk_188_10 (dk_at dksX12_init_16 19 rfl rfl)
theorem dX12_init_390 : decode cX12_init 390 = .ok (.putfield 158, 3) := dk_181 0 158 (dk_at dksX12_init_16 21 rfl rfl)
theorem dX12_init_393 : decode cX12_init 393 = .ok (.aload_n 0, 1) := dk_42 (dk_at dksX12_init_17 0 rfl rfl)
theorem dX12_init_394 : decode cX12_init 394 = .ok (.bipush 20, 2) := dk_16 20 (dk_at dksX12_init_17 1 rfl rfl)
theorem dX12_init_396 : decode cX12_init 396 = .ok (.newarray .int, 2) := dk_188_10 (dk_at dksX12_init_17 3 rfl rfl)
theorem dX12_init_398 : decode cX12_init 398 = .ok (.putfield 161, 3) := dk_181 0 161 (dk_at dksX12_init_17 5 rfl rfl)
theorem dX12_init_401 : decode cX12_init 401 = .ok (.aload_n 0, 1) := dk_42 (dk_at dksX12_init_17 8 rfl rfl)
theorem dX12_init_402 : decode cX12_init 402 = .ok (.bipush 20, 2) := dk_16 20 (dk_at dksX12_init_17 9 rfl rfl)
theorem dX12_init_404 : decode cX12_init 404 = .ok (.newarray .int, 2) := dk_188_10 (dk_at dksX12_init_17 11 rfl rfl)
theorem dX12_init_406 : decode cX12_init 406 = .ok (.putfield 164, 3) := dk_181 0 164 (dk_at dksX12_init_17 13 rfl rfl)
theorem dX12_init_409 : decode cX12_init 409 = .ok (.aload_n 0, 1) := dk_42 (dk_at dksX12_init_17 16 rfl rfl)
theorem dX12_init_410 : decode cX12_init 410 = .ok (.bipush 20, 2) := dk_16 20 (dk_at dksX12_init_17 17 rfl rfl)
theorem dX12_init_412 : decode cX12_init 412 = .ok (.newarray .int, 2) := dk_188_10 (dk_at dksX12_init_17 19 rfl rfl)
theorem dX12_init_414 : decode cX12_init 414 = .ok (.putfield 167, 3) := dk_181 0 167 (dk_at dksX12_init_17 21 rfl rfl)
theorem dX12_init_417 : decode cX12_init 417 = .ok (.aload_n 0, 1) := dk_42 (dk_at dksX12_init_18 0 rfl rfl)
theorem dX12_init_418 : decode cX12_init 418 = .ok (.iconst 3, 1) := dk_6 (dk_at dksX12_init_18 1 rfl rfl)
theorem dX12_init_419 : decode cX12_init 419 = .ok (.newarray .boolean, 2) := dk_188_4 (dk_at dksX12_init_18 2 rfl rfl)
theorem dX12_init_421 : decode cX12_init 421 = .ok (.putfield 170, 3) := dk_181 0 170 (dk_at dksX12_init_18 4 rfl rfl)
theorem dX12_init_424 : decode cX12_init 424 = .ok (.aload_n 0, 1) := dk_42 (dk_at dksX12_init_18 7 rfl rfl)
theorem dX12_init_425 : decode cX12_init 425 = .ok (.sipush 360, 3) := dk_17 1 104 (dk_at dksX12_init_18 8 rfl rfl)
theorem dX12_init_428 : decode cX12_init 428 = .ok (.newarray .int, 2) := dk_188_10 (dk_at dksX12_init_18 11 rfl rfl)
theorem dX12_init_430 : decode cX12_init 430 = .ok (.putfield 173, 3) := dk_181 0 173 (dk_at dksX12_init_18 13 rfl rfl)
theorem dX12_init_433 : decode cX12_init 433 = .ok (.aload_n 0, 1) := dk_42 (dk_at dksX12_init_18 16 rfl rfl)
theorem dX12_init_434 : decode cX12_init 434 = .ok (.iconst 0, 1) := dk_3 (dk_at dksX12_init_18 17 rfl rfl)
theorem dX12_init_435 : decode cX12_init 435 = .ok (.invokevirtual 176, 3) := dk_182 0 176 (dk_at dksX12_init_18 18 rfl rfl)
theorem dX12_init_438 : decode cX12_init 438 = .ok (.aload_n 0, 1) := dk_42 (dk_at dksX12_init_18 21 rfl rfl)
theorem dX12_init_439 : decode cX12_init 439 = .ok (.getfield 34, 3) := dk_180 0 34 (dk_at dksX12_init_19 0 rfl rfl)
theorem dX12_init_442 : decode cX12_init 442 = .ok (.iconst 0, 1) := dk_3 (dk_at dksX12_init_19 3 rfl rfl)
theorem dX12_init_443 : decode cX12_init 443 = .ok (.bipush 103, 2) := dk_16 103 (dk_at dksX12_init_19 4 rfl rfl)
theorem dX12_init_445 : decode cX12_init 445 = .ok (.bipush 114, 2) := dk_16 114 (dk_at dksX12_init_19 6 rfl rfl)
theorem dX12_init_447 : decode cX12_init 447 = .ok (.bipush 97, 2) := dk_16 97 (dk_at dksX12_init_19 8 rfl rfl)
theorem dX12_init_449 : decode cX12_init 449 = .ok (.bipush 105, 2) := dk_16 105 (dk_at dksX12_init_19 10 rfl rfl)
theorem dX12_init_451 : decode cX12_init 451 = .ok (.bipush 110, 2) := dk_16 110 (dk_at dksX12_init_19 12 rfl rfl)
theorem dX12_init_453 : decode cX12_init 453 = .ok (.iconst 0, 1) := dk_3 (dk_at dksX12_init_19 14 rfl rfl)
theorem dX12_init_454 : decode cX12_init 454 = .ok (.iconst 0, 1) := dk_3 (dk_at dksX12_init_19 15 rfl rfl)
theorem dX12_init_455 : decode cX12_init 455 = .ok (.invokestatic 180, 3) := dk_184 0 180 (dk_at dksX12_init_19 16 rfl rfl)
theorem dX12_init_458 : decode cX12_init 458 = .ok (.lastore, 1) := dk_80 (dk_at dksX12_init_19 19 rfl rfl)
theorem dX12_init_459 : decode cX12_init 459 = .ok (.aload_n 0, 1) := dk_42 (dk_at dksX12_init_19 20 rfl rfl)
theorem dX12_init_460 : decode cX12_init 460 = .ok (.getfield 34, 3) := dk_180 0 34 (dk_at dksX12_init_19 21 rfl rfl)
theorem dX12_init_463 : decode cX12_init 463 = .ok (.iconst 1, 1) := dk_4 (dk_at dksX12_init_20 0 rfl rfl)
theorem dX12_init_464 : decode cX12_init 464 = .ok (.bipush 104, 2) := dk_16 104 (dk_at dksX12_init_20 1 rfl rfl)
theorem dX12_init_466 : decode cX12_init 466 = .ok (.bipush 111, 2) := dk_16 111 (dk_at dksX12_init_20 3 rfl rfl)
theorem dX12_init_468 : decode cX12_init 468 = .ok (.bipush 108, 2) := dk_16 108 (dk_at dksX12_init_20 5 rfl rfl)
theorem dX12_init_470 : decode cX12_init 470 = .ok (.bipush 101, 2) := dk_16 101 (dk_at dksX12_init_20 7 rfl rfl)
theorem dX12_init_472 : decode cX12_init 472 = .ok (.iconst 0, 1) := dk_3 (dk_at dksX12_init_20 9 rfl rfl)
theorem dX12_init_473 : decode cX12_init 473 = .ok (.iconst 0, 1) := dk_3 (dk_at dksX12_init_20 10 rfl rfl)
theorem dX12_init_474 : decode cX12_init 474 = .ok (.iconst 0, 1) := dk_3 (dk_at dksX12_init_20 11 rfl rfl)
theorem dX12_init_475 : decode cX12_init 475 = .ok (.invokestatic 180, 3) := dk_184 0 180 (dk_at dksX12_init_20 12 rfl rfl)
theorem dX12_init_478 : decode cX12_init 478 = .ok (.lastore, 1) := dk_80 (dk_at dksX12_init_20 15 rfl rfl)
theorem dX12_init_479 : decode cX12_init 479 = .ok (.aload_n 0, 1) := dk_42 (dk_at dksX12_init_20 16 rfl rfl)
theorem dX12_init_480 : decode cX12_init 480 = .ok (.getfield 34, 3) := dk_180 0 34 (dk_at dksX12_init_20 17 rfl rfl)
theorem dX12_init_483 : decode cX12_init 483 = .ok (.iconst 2, 1) := dk_5 (dk_at dksX12_init_20 20 rfl rfl)
theorem dX12_init_484 : decode cX12_init 484 = .ok (.bipush 114, 2) := dk_16 114 (dk_at dksX12_init_20 21 rfl rfl)
theorem dX12_init_486 : decode cX12_init 486 = .ok (.bipush 97, 2) := dk_16 97 (dk_at dksX12_init_21 0 rfl rfl)
theorem dX12_init_488 : decode cX12_init 488 = .ok (.bipush 116, 2) := dk_16 116 (dk_at dksX12_init_21 2 rfl rfl)
theorem dX12_init_490 : decode cX12_init 490 = .ok (.iconst 0, 1) := dk_3 (dk_at dksX12_init_21 4 rfl rfl)
theorem dX12_init_491 : decode cX12_init 491 = .ok (.iconst 0, 1) := dk_3 (dk_at dksX12_init_21 5 rfl rfl)
theorem dX12_init_492 : decode cX12_init 492 = .ok (.iconst 0, 1) := dk_3 (dk_at dksX12_init_21 6 rfl rfl)
theorem dX12_init_493 : decode cX12_init 493 = .ok (.iconst 0, 1) := dk_3 (dk_at dksX12_init_21 7 rfl rfl)
theorem dX12_init_494 : decode cX12_init 494 = .ok (.invokestatic 180, 3) := dk_184 0 180 (dk_at dksX12_init_21 8 rfl rfl)
theorem dX12_init_497 : decode cX12_init 497 = .ok (.lastore, 1) := dk_80 (dk_at dksX12_init_21 11 rfl rfl)
theorem dX12_init_498 : decode cX12_init 498 = .ok (.aload_n 0, 1) := dk_42 (dk_at dksX12_init_21 12 rfl rfl)
theorem dX12_init_499 : decode cX12_init 499 = .ok (.getfield 34, 3) := dk_180 0 34 (dk_at dksX12_init_21 13 rfl rfl)
theorem dX12_init_502 : decode cX12_init 502 = .ok (.iconst 3, 1) := dk_6 (dk_at dksX12_init_21 16 rfl rfl)
theorem dX12_init_503 : decode cX12_init 503 = .ok (.bipush 108, 2) := dk_16 108 (dk_at dksX12_init_21 17 rfl rfl)
theorem dX12_init_505 : decode cX12_init 505 = .ok (.bipush 111, 2) := dk_16 111 (dk_at dksX12_init_21 19 rfl rfl)
theorem dX12_init_507 : decode cX12_init 507 = .ok (.bipush 97, 2) := dk_16 97 (dk_at dksX12_init_21 21 rfl rfl)
theorem dX12_init_509 : decode cX12_init 509 = .ok (.bipush 100, 2) := dk_16 100 (dk_at dksX12_init_22 0 rfl rfl)
theorem dX12_init_511 : decode cX12_init 511 = .ok (.iconst 0, 1) := dk_3 (dk_at dksX12_init_22 2 rfl rfl)
theorem dX12_init_512 : decode cX12_init 512 = .ok (.iconst 0, 1) := dk_3 (dk_at dksX12_init_22 3 rfl rfl)
theorem dX12_init_513 : decode cX12_init 513 = .ok (.iconst 0, 1) := dk_3 (dk_at dksX12_init_22 4 rfl rfl)
theorem dX12_init_514 : decode cX12_init 514 = .ok (.invokestatic 180, 3) := dk_184 0 180 (dk_at dksX12_init_22 5 rfl rfl)
theorem dX12_init_517 : decode cX12_init 517 = .ok (.lastore, 1) := dk_80 (dk_at dksX12_init_22 8 rfl rfl)
theorem dX12_init_518 : decode cX12_init 518 = .ok (.aload_n 0, 1) := dk_42 (dk_at dksX12_init_22 9 rfl rfl)
theorem dX12_init_519 : decode cX12_init 519 = .ok (.getfield 34, 3) := dk_180 0 34 (dk_at dksX12_init_22 10 rfl rfl)
theorem dX12_init_522 : decode cX12_init 522 = .ok (.iconst 4, 1) := dk_7 (dk_at dksX12_init_22 13 rfl rfl)
theorem dX12_init_523 : decode cX12_init 523 = .ok (.bipush 101, 2) := dk_16 101 (dk_at dksX12_init_22 14 rfl rfl)
theorem dX12_init_525 : decode cX12_init 525 = .ok (.bipush 97, 2) := dk_16 97 (dk_at dksX12_init_22 16 rfl rfl)
theorem dX12_init_527 : decode cX12_init 527 = .ok (.bipush 116, 2) := dk_16 116 (dk_at dksX12_init_22 18 rfl rfl)
theorem dX12_init_529 : decode cX12_init 529 = .ok (.bipush 115, 2) := dk_16 115 (dk_at dksX12_init_22 20 rfl rfl)
theorem dX12_init_531 : decode cX12_init 531 = .ok (.iconst 0, 1) := dk_3 (dk_at dksX12_init_22 22 rfl rfl)
theorem dX12_init_532 : decode cX12_init 532 = .ok (.iconst 0, 1) := dk_3 (dk_at dksX12_init_22 23 rfl rfl)
theorem dX12_init_533 : decode cX12_init 533 = .ok (.iconst 0, 1) := dk_3 (dk_at dksX12_init_23 0 rfl rfl)
theorem dX12_init_534 : decode cX12_init 534 = .ok (.invokestatic 180, 3) := dk_184 0 180 (dk_at dksX12_init_23 1 rfl rfl)
theorem dX12_init_537 : decode cX12_init 537 = .ok (.lastore, 1) := dk_80 (dk_at dksX12_init_23 4 rfl rfl)
theorem dX12_init_538 : decode cX12_init 538 = .ok (.aload_n 0, 1) := dk_42 (dk_at dksX12_init_23 5 rfl rfl)
theorem dX12_init_539 : decode cX12_init 539 = .ok (.getfield 34, 3) := dk_180 0 34 (dk_at dksX12_init_23 6 rfl rfl)
theorem dX12_init_542 : decode cX12_init 542 = .ok (.iconst 5, 1) := dk_8 (dk_at dksX12_init_23 9 rfl rfl)
theorem dX12_init_543 : decode cX12_init 543 = .ok (.bipush 101, 2) := dk_16 101 (dk_at dksX12_init_23 10 rfl rfl)
theorem dX12_init_545 : decode cX12_init 545 = .ok (.bipush 114, 2) := dk_16 114 (dk_at dksX12_init_23 12 rfl rfl)
theorem dX12_init_547 : decode cX12_init 547 = .ok (.bipush 114, 2) := dk_16 114 (dk_at dksX12_init_23 14 rfl rfl)
theorem dX12_init_549 : decode cX12_init 549 = .ok (.bipush 115, 2) := dk_16 115 (dk_at dksX12_init_23 16 rfl rfl)
theorem dX12_init_551 : decode cX12_init 551 = .ok (.iconst 0, 1) := dk_3 (dk_at dksX12_init_23 18 rfl rfl)
theorem dX12_init_552 : decode cX12_init 552 = .ok (.iconst 0, 1) := dk_3 (dk_at dksX12_init_23 19 rfl rfl)
theorem dX12_init_553 : decode cX12_init 553 = .ok (.iconst 0, 1) := dk_3 (dk_at dksX12_init_23 20 rfl rfl)
theorem dX12_init_554 : decode cX12_init 554 = .ok (.invokestatic 180, 3) := dk_184 0 180 (dk_at dksX12_init_23 21 rfl rfl)
theorem dX12_init_557 : decode cX12_init 557 = .ok (.lastore, 1) := dk_80 (dk_at dksX12_init_24 0 rfl rfl)
theorem dX12_init_558 : decode cX12_init 558 = .ok (.aload_n 0, 1) := dk_42 (dk_at dksX12_init_24 1 rfl rfl)
theorem dX12_init_559 : decode cX12_init 559 = .ok (.getfield 34, 3) := dk_180 0 34 (dk_at dksX12_init_24 2 rfl rfl)
theorem dX12_init_562 : decode cX12_init 562 = .ok (.bipush 6, 2) := dk_16 6 (dk_at dksX12_init_24 5 rfl rfl)
theorem dX12_init_564 : decode cX12_init 564 = .ok (.bipush 119, 2) := dk_16 119 (dk_at dksX12_init_24 7 rfl rfl)
theorem dX12_init_566 : decode cX12_init 566 = .ok (.bipush 97, 2) := dk_16 97 (dk_at dksX12_init_24 9 rfl rfl)
theorem dX12_init_568 : decode cX12_init 568 = .ok (.bipush 110, 2) := dk_16 110 (dk_at dksX12_init_24 11 rfl rfl)
theorem dX12_init_570 : decode cX12_init 570 = .ok (.bipush 116, 2) := dk_16 116 (dk_at dksX12_init_24 13 rfl rfl)
theorem dX12_init_572 : decode cX12_init 572 = .ok (.bipush 115, 2) := dk_16 115 (dk_at dksX12_init_24 15 rfl rfl)
theorem dX12_init_574 : decode cX12_init 574 = .ok (.iconst 0, 1) := dk_3 (dk_at dksX12_init_24 17 rfl rfl)
theorem dX12_init_575 : decode cX12_init 575 = .ok (.iconst 0, 1) := dk_3 (dk_at dksX12_init_24 18 rfl rfl)
theorem dX12_init_576 : decode cX12_init 576 = .ok (.invokestatic 180, 3) := dk_184 0 180 (dk_at dksX12_init_24 19 rfl rfl)
theorem dX12_init_579 : decode cX12_init 579 = .ok (.lastore, 1) := dk_80 (dk_at dksX12_init_24 22 rfl rfl)
theorem dX12_init_580 : decode cX12_init 580 = .ok (.aload_n 0, 1) := dk_42 (dk_at dksX12_init_24 23 rfl rfl)
theorem dX12_init_581 : decode cX12_init 581 = .ok (.getfield 34, 3) := dk_180 0 34 (dk_at dksX12_init_25 0 rfl rfl)
theorem dX12_init_584 : decode cX12_init 584 = .ok (.bipush 7, 2) := dk_16 7 (dk_at dksX12_init_25 3 rfl rfl)
theorem dX12_init_586 : decode cX12_init 586 = .ok (.bipush 108, 2) := dk_16 108 (dk_at dksX12_init_25 5 rfl rfl)
theorem dX12_init_588 : decode cX12_init 588 = .ok (.bipush 97, 2) := dk_16 97 (dk_at dksX12_init_25 7 rfl rfl)
theorem dX12_init_590 : decode cX12_init 590 = .ok (.bipush 109, 2) := dk_16 109 (dk_at dksX12_init_25 9 rfl rfl)
theorem dX12_init_592 : decode cX12_init 592 = .ok (.bipush 112, 2) := dk_16 112 (dk_at dksX12_init_25 11 rfl rfl)
theorem dX12_init_594 : decode cX12_init 594 = .ok (.iconst 0, 1) := dk_3 (dk_at dksX12_init_25 13 rfl rfl)
theorem dX12_init_595 : decode cX12_init 595 = .ok (.iconst 0, 1) := dk_3 (dk_at dksX12_init_25 14 rfl rfl)
theorem dX12_init_596 : decode cX12_init 596 = .ok (.iconst 0, 1) := dk_3 (dk_at dksX12_init_25 15 rfl rfl)
theorem dX12_init_597 : decode cX12_init 597 = .ok (.invokestatic 180, 3) := dk_184 0 180 (dk_at dksX12_init_25 16 rfl rfl)
theorem dX12_init_600 : decode cX12_init 600 = .ok (.lastore, 1) := dk_80 (dk_at dksX12_init_25 19 rfl rfl)
theorem dX12_init_601 : decode cX12_init 601 = .ok (.aload_n 0, 1) := dk_42 (dk_at dksX12_init_25 20 rfl rfl)
theorem dX12_init_602 : decode cX12_init 602 = .ok (.getfield 34, 3) := dk_180 0 34 (dk_at dksX12_init_25 21 rfl rfl)
theorem dX12_init_605 : decode cX12_init 605 = .ok (.bipush 8, 2) := dk_16 8 (dk_at dksX12_init_26 0 rfl rfl)
theorem dX12_init_607 : decode cX12_init 607 = .ok (.bipush 111, 2) := dk_16 111 (dk_at dksX12_init_26 2 rfl rfl)
theorem dX12_init_609 : decode cX12_init 609 = .ok (.bipush 100, 2) := dk_16 100 (dk_at dksX12_init_26 4 rfl rfl)
theorem dX12_init_611 : decode cX12_init 611 = .ok (.bipush 100, 2) := dk_16 100 (dk_at dksX12_init_26 6 rfl rfl)
theorem dX12_init_613 : decode cX12_init 613 = .ok (.iconst 0, 1) := dk_3 (dk_at dksX12_init_26 8 rfl rfl)
theorem dX12_init_614 : decode cX12_init 614 = .ok (.iconst 0, 1) := dk_3 (dk_at dksX12_init_26 9 rfl rfl)
theorem dX12_init_615 : decode cX12_init 615 = .ok (.iconst 0, 1) := dk_3 (dk_at dksX12_init_26 10 rfl rfl)
theorem dX12_init_616 : decode cX12_init 616 = .ok (.iconst 0, 1) := dk_3 (dk_at dksX12_init_26 11 rfl rfl)
theorem dX12_init_617 : decode cX12_init 617 = .ok (.invokestatic 180, 3) := dk_184 0 180 (dk_at dksX12_init_26 12 rfl rfl)
theorem dX12_init_620 : decode cX12_init 620 = .ok (.lastore, 1) := dk_80 (dk_at dksX12_init_26 15 rfl rfl)
theorem dX12_init_621 : decode cX12_init 621 = .ok (.aload_n 0, 1) := dk_42 (dk_at dksX12_init_26 16 rfl rfl)
theorem dX12_init_622 : decode cX12_init 622 = .ok (.getfield 34, 3) := dk_180 0 34 (dk_at dksX12_init_26 17 rfl rfl)
theorem dX12_init_625 : decode cX12_init 625 = .ok (.bipush 9, 2) := dk_16 9 (dk_at dksX12_init_26 20 rfl rfl)
theorem dX12_init_627 : decode cX12_init 627 = .ok (.bipush 115, 2) := dk_16 115 (dk_at dksX12_init_26 22 rfl rfl)
theorem dX12_init_629 : decode cX12_init 629 = .ok (.bipush 101, 2) := dk_16 101 (dk_at dksX12_init_27 0 rfl rfl)
theorem dX12_init_631 : decode cX12_init 631 = .ok (.bipush 101, 2) := dk_16 101 (dk_at dksX12_init_27 2 rfl rfl)
theorem dX12_init_633 : decode cX12_init 633 = .ok (.bipush 100, 2) := dk_16 100 (dk_at dksX12_init_27 4 rfl rfl)
theorem dX12_init_635 : decode cX12_init 635 = .ok (.iconst 0, 1) := dk_3 (dk_at dksX12_init_27 6 rfl rfl)
theorem dX12_init_636 : decode cX12_init 636 = .ok (.iconst 0, 1) := dk_3 (dk_at dksX12_init_27 7 rfl rfl)
theorem dX12_init_637 : decode cX12_init 637 = .ok (.iconst 0, 1) := dk_3 (dk_at dksX12_init_27 8 rfl rfl)
theorem dX12_init_638 : decode cX12_init 638 = .ok (.invokestatic 180, 3) := dk_184 0 180 (dk_at dksX12_init_27 9 rfl rfl)
theorem dX12_init_641 : decode cX12_init 641 = .ok (.lastore, 1) := dk_80 (dk_at dksX12_init_27 12 rfl rfl)
theorem dX12_init_642 : decode cX12_init 642 = .ok (.aload_n 0, 1) := dk_42 (dk_at dksX12_init_27 13 rfl rfl)
theorem dX12_init_643 : decode cX12_init 643 = .ok (.getfield 34, 3) := dk_180 0 34 (dk_at dksX12_init_27 14 rfl rfl)
theorem dX12_init_646 : decode cX12_init 646 = .ok (.bipush 10, 2) := dk_16 10 (dk_at dksX12_init_27 17 rfl rfl)
theorem dX12_init_648 : decode cX12_init 648 = .ok (.bipush 105, 2) := dk_16 105 (dk_at dksX12_init_27 19 rfl rfl)
theorem dX12_init_650 : decode cX12_init 650 = .ok (.bipush 102, 2) := dk_16 102 (dk_at dksX12_init_27 21 rfl rfl)
theorem dX12_init_652 : decode cX12_init 652 = .ok (.iconst 0, 1) := dk_3 (dk_at dksX12_init_27 23 rfl rfl)
theorem dX12_init_653 : decode cX12_init 653 = .ok (.iconst 0, 1) := dk_3 (dk_at dksX12_init_28 0 rfl rfl)
theorem dX12_init_654 : decode cX12_init 654 = .ok (.iconst 0, 1) := dk_3 (dk_at dksX12_init_28 1 rfl rfl)
theorem dX12_init_655 : decode cX12_init 655 = .ok (.iconst 0, 1) := dk_3 (dk_at dksX12_init_28 2 rfl rfl)
theorem dX12_init_656 : decode cX12_init 656 = .ok (.iconst 0, 1) := dk_3 (dk_at dksX12_init_28 3 rfl rfl)
theorem dX12_init_657 : decode cX12_init 657 = .ok (.invokestatic 180, 3) := dk_184 0 180 (dk_at dksX12_init_28 4 rfl rfl)
theorem dX12_init_660 : decode cX12_init 660 = .ok (.lastore, 1) := dk_80 (dk_at dksX12_init_28 7 rfl rfl)
theorem dX12_init_661 : decode cX12_init 661 = .ok (.aload_n 0, 1) := dk_42 (dk_at dksX12_init_28 8 rfl rfl)
theorem dX12_init_662 : decode cX12_init 662 = .ok (.getfield 34, 3) := dk_180 0 34 (dk_at dksX12_init_28 9 rfl rfl)
theorem dX12_init_665 : decode cX12_init 665 = .ok (.bipush 11, 2) := dk_16 11 (dk_at dksX12_init_28 12 rfl rfl)
theorem dX12_init_667 : decode cX12_init 667 = .ok (.bipush 116, 2) := dk_16 116 (dk_at dksX12_init_28 14 rfl rfl)
theorem dX12_init_669 : decode cX12_init 669 = .ok (.bipush 104, 2) := dk_16 104 (dk_at dksX12_init_28 16 rfl rfl)
theorem dX12_init_671 : decode cX12_init 671 = .ok (.bipush 101, 2) := dk_16 101 (dk_at dksX12_init_28 18 rfl rfl)
theorem dX12_init_673 : decode cX12_init 673 = .ok (.bipush 110, 2) := dk_16 110 (dk_at dksX12_init_28 20 rfl rfl)
theorem dX12_init_675 : decode cX12_init 675 = .ok (.iconst 0, 1) := dk_3 (dk_at dksX12_init_28 22 rfl rfl)
theorem dX12_init_676 : decode cX12_init 676 = .ok (.iconst 0, 1) := dk_3 (dk_at dksX12_init_28 23 rfl rfl)
theorem dX12_init_677 : decode cX12_init 677 = .ok (.iconst 0, 1) := dk_3 (dk_at dksX12_init_29 0 rfl rfl)
theorem dX12_init_678 : decode cX12_init 678 = .ok (.invokestatic 180, 3) := dk_184 0 180 (dk_at dksX12_init_29 1 rfl rfl)
theorem dX12_init_681 : decode cX12_init 681 = .ok (.lastore, 1) := dk_80 (dk_at dksX12_init_29 4 rfl rfl)
theorem dX12_init_682 : decode cX12_init 682 = .ok (.aload_n 0, 1) := dk_42 (dk_at dksX12_init_29 5 rfl rfl)
theorem dX12_init_683 : decode cX12_init 683 = .ok (.getfield 34, 3) := dk_180 0 34 (dk_at dksX12_init_29 6 rfl rfl)
theorem dX12_init_686 : decode cX12_init 686 = .ok (.bipush 12, 2) := dk_16 12 (dk_at dksX12_init_29 9 rfl rfl)
theorem dX12_init_688 : decode cX12_init 688 = .ok (.bipush 101, 2) := dk_16 101 (dk_at dksX12_init_29 11 rfl rfl)
theorem dX12_init_690 : decode cX12_init 690 = .ok (.bipush 108, 2) := dk_16 108 (dk_at dksX12_init_29 13 rfl rfl)
theorem dX12_init_692 : decode cX12_init 692 = .ok (.bipush 115, 2) := dk_16 115 (dk_at dksX12_init_29 15 rfl rfl)
theorem dX12_init_694 : decode cX12_init 694 = .ok (.bipush 101, 2) := dk_16 101 (dk_at dksX12_init_29 17 rfl rfl)
theorem dX12_init_696 : decode cX12_init 696 = .ok (.iconst 0, 1) := dk_3 (dk_at dksX12_init_29 19 rfl rfl)
theorem dX12_init_697 : decode cX12_init 697 = .ok (.iconst 0, 1) := dk_3 (dk_at dksX12_init_29 20 rfl rfl)
theorem dX12_init_698 : decode cX12_init 698 = .ok (.iconst 0, 1) := dk_3 (dk_at dksX12_init_29 21 rfl rfl)
theorem dX12_init_699 : decode cX12_init 699 = .ok (.invokestatic 180, 3) := dk_184 0 180 (dk_at dksX12_init_30 0 rfl rfl)
theorem dX12_init_702 : decode cX12_init 702 = .ok (.lastore, 1) := dk_80 (dk_at dksX12_init_30 3 rfl rfl)
theorem dX12_init_703 : decode cX12_init 703 = .ok (.aload_n 0, 1) := dk_42 (dk_at dksX12_init_30 4 rfl rfl)
theorem dX12_init_704 : decode cX12_init 704 = .ok (.getfield 34, 3) := dk_180 0 34 (dk_at dksX12_init_30 5 rfl rfl)
theorem dX12_init_707 : decode cX12_init 707 = .ok (.bipush 13, 2) := dk_16 13 (dk_at dksX12_init_30 8 rfl rfl)
theorem dX12_init_709 : decode cX12_init 709 = .ok (.bipush 104, 2) := dk_16 104 (dk_at dksX12_init_30 10 rfl rfl)
theorem dX12_init_711 : decode cX12_init 711 = .ok (.bipush 117, 2) := dk_16 117 (dk_at dksX12_init_30 12 rfl rfl)
theorem dX12_init_713 : decode cX12_init 713 = .ok (.bipush 110, 2) := dk_16 110 (dk_at dksX12_init_30 14 rfl rfl)
theorem dX12_init_715 : decode cX12_init 715 = .ok (.bipush 103, 2) := dk_16 103 (dk_at dksX12_init_30 16 rfl rfl)
theorem dX12_init_717 : decode cX12_init 717 = .ok (.bipush 101, 2) := dk_16 101 (dk_at dksX12_init_30 18 rfl rfl)
theorem dX12_init_719 : decode cX12_init 719 = .ok (.bipush 114, 2) := dk_16 114 (dk_at dksX12_init_30 20 rfl rfl)
theorem dX12_init_721 : decode cX12_init 721 = .ok (.iconst 0, 1) := dk_3 (dk_at dksX12_init_30 22 rfl rfl)
theorem dX12_init_722 : decode cX12_init 722 = .ok (.invokestatic 180, 3) := dk_184 0 180 (dk_at dksX12_init_31 0 rfl rfl)
theorem dX12_init_725 : decode cX12_init 725 = .ok (.lastore, 1) := dk_80 (dk_at dksX12_init_31 3 rfl rfl)
theorem dX12_init_726 : decode cX12_init 726 = .ok (.aload_n 0, 1) := dk_42 (dk_at dksX12_init_31 4 rfl rfl)
theorem dX12_init_727 : decode cX12_init 727 = .ok (.getfield 34, 3) := dk_180 0 34 (dk_at dksX12_init_31 5 rfl rfl)
theorem dX12_init_730 : decode cX12_init 730 = .ok (.bipush 14, 2) := dk_16 14 (dk_at dksX12_init_31 8 rfl rfl)
theorem dX12_init_732 : decode cX12_init 732 = .ok (.bipush 102, 2) := dk_16 102 (dk_at dksX12_init_31 10 rfl rfl)
theorem dX12_init_734 : decode cX12_init 734 = .ok (.bipush 97, 2) := dk_16 97 (dk_at dksX12_init_31 12 rfl rfl)
theorem dX12_init_736 : decode cX12_init 736 = .ok (.bipush 116, 2) := dk_16 116 (dk_at dksX12_init_31 14 rfl rfl)
theorem dX12_init_738 : decode cX12_init 738 = .ok (.iconst 0, 1) := dk_3 (dk_at dksX12_init_31 16 rfl rfl)
theorem dX12_init_739 : decode cX12_init 739 = .ok (.iconst 0, 1) := dk_3 (dk_at dksX12_init_31 17 rfl rfl)
theorem dX12_init_740 : decode cX12_init 740 = .ok (.iconst 0, 1) := dk_3 (dk_at dksX12_init_31 18 rfl rfl)
theorem dX12_init_741 : decode cX12_init 741 = .ok (.iconst 0, 1) := dk_3 (dk_at dksX12_init_31 19 rfl rfl)
theorem dX12_init_742 : decode cX12_init 742 = .ok (.invokestatic 180, 3) := dk_184 0 180 (dk_at dksX12_init_31 20 rfl rfl)
theorem dX12_init_745 : decode cX12_init 745 = .ok (.lastore, 1) := dk_80 (dk_at dksX12_init_31 23 rfl rfl)
theorem dX12_init_746 : decode cX12_init 746 = .ok (.aload_n 0, 1) := dk_42 (dk_at dksX12_init_32 0 rfl rfl)
theorem dX12_init_747 : decode cX12_init 747 = .ok (.getfield 34, 3) := dk_180 0 34 (dk_at dksX12_init_32 1 rfl rfl)
theorem dX12_init_750 : decode cX12_init 750 = .ok (.bipush 15, 2) := dk_16 15 (dk_at dksX12_init_32 4 rfl rfl)
theorem dX12_init_752 : decode cX12_init 752 = .ok (.bipush 109, 2) := dk_16 109 (dk_at dksX12_init_32 6 rfl rfl)
theorem dX12_init_754 : decode cX12_init 754 = .ok (.bipush 117, 2) := dk_16 117 (dk_at dksX12_init_32 8 rfl rfl)
theorem dX12_init_756 : decode cX12_init 756 = .ok (.bipush 99, 2) := dk_16 99 (dk_at dksX12_init_32 10 rfl rfl)
theorem dX12_init_758 : decode cX12_init 758 = .ok (.bipush 104, 2) := dk_16 104 (dk_at dksX12_init_32 12 rfl rfl)
theorem dX12_init_760 : decode cX12_init 760 = .ok (.iconst 0, 1) := dk_3 (dk_at dksX12_init_32 14 rfl rfl)
theorem dX12_init_761 : decode cX12_init 761 = .ok (.iconst 0, 1) := dk_3 (dk_at dksX12_init_32 15 rfl rfl)
theorem dX12_init_762 : decode cX12_init 762 = .ok (.iconst 0, 1) := dk_3 (dk_at dksX12_init_32 16 rfl rfl)
theorem dX12_init_763 : decode cX12_init 763 = .ok (.invokestatic 180, 3) := dk_184 0 180 (dk_at dksX12_init_32 17 rfl rfl)
theorem dX12_init_766 : decode cX12_init 766 = .ok (.lastore, 1) := dk_80 (dk_at dksX12_init_32 20 rfl rfl)
theorem dX12_init_767 : decode cX12_init 767 = .ok (.aload_n 0, 1) := dk_42 (dk_at dksX12_init_32 21 rfl rfl)
theorem dX12_init_768 : decode cX12_init 768 = .ok (.getfield 34, 3) := dk_180 0 34 (dk_at dksX12_init_33 0 rfl rfl)
theorem dX12_init_771 : decode cX12_init 771 = .ok (.bipush 16, 2) := dk_16 16 (dk_at dksX12_init_33 3 rfl rfl)
theorem dX12_init_773 : decode cX12_init 773 = .ok (.bipush 100, 2) := dk_16 100 (dk_at dksX12_init_33 5 rfl rfl)
theorem dX12_init_775 : decode cX12_init 775 = .ok (.bipush 97, 2) := dk_16 97 (dk_at dksX12_init_33 7 rfl rfl)
theorem dX12_init_777 : decode cX12_init 777 = .ok (.bipush 114, 2) := dk_16 114 (dk_at dksX12_init_33 9 rfl rfl)
theorem dX12_init_779 : decode cX12_init 779 = .ok (.bipush 107, 2) := dk_16 107 (dk_at dksX12_init_33 11 rfl rfl)
theorem dX12_init_781 : decode cX12_init 781 = .ok (.iconst 0, 1) := dk_3 (dk_at dksX12_init_33 13 rfl rfl)
theorem dX12_init_782 : decode cX12_init 782 = .ok (.iconst 0, 1) := dk_3 (dk_at dksX12_init_33 14 rfl rfl)
theorem dX12_init_783 : decode cX12_init 783 = .ok (.iconst 0, 1) := dk_3 (dk_at dksX12_init_33 15 rfl rfl)
theorem dX12_init_784 : decode cX12_init 784 = .ok (.invokestatic 180, 3) := dk_184 0 180 (dk_at dksX12_init_33 16 rfl rfl)
theorem dX12_init_787 : decode cX12_init 787 = .ok (.lastore, 1) := dk_80 (dk_at dksX12_init_33 19 rfl rfl)
theorem dX12_init_788 : decode cX12_init 788 = .ok (.aload_n 0, 1) := dk_42 (dk_at dksX12_init_33 20 rfl rfl)
theorem dX12_init_789 : decode cX12_init 789 = .ok (.getfield 34, 3) := dk_180 0 34 (dk_at dksX12_init_33 21 rfl rfl)
theorem dX12_init_792 : decode cX12_init 792 = .ok (.bipush 17, 2) := dk_16 17 (dk_at dksX12_init_34 0 rfl rfl)
theorem dX12_init_794 : decode cX12_init 794 = .ok (.bipush 102, 2) := dk_16 102 (dk_at dksX12_init_34 2 rfl rfl)
theorem dX12_init_796 : decode cX12_init 796 = .ok (.bipush 97, 2) := dk_16 97 (dk_at dksX12_init_34 4 rfl rfl)
theorem dX12_init_798 : decode cX12_init 798 = .ok (.bipush 114, 2) := dk_16 114 (dk_at dksX12_init_34 6 rfl rfl)
theorem dX12_init_800 : decode cX12_init 800 = .ok (.iconst 0, 1) := dk_3 (dk_at dksX12_init_34 8 rfl rfl)
theorem dX12_init_801 : decode cX12_init 801 = .ok (.iconst 0, 1) := dk_3 (dk_at dksX12_init_34 9 rfl rfl)
theorem dX12_init_802 : decode cX12_init 802 = .ok (.iconst 0, 1) := dk_3 (dk_at dksX12_init_34 10 rfl rfl)
theorem dX12_init_803 : decode cX12_init 803 = .ok (.iconst 0, 1) := dk_3 (dk_at dksX12_init_34 11 rfl rfl)
theorem dX12_init_804 : decode cX12_init 804 = .ok (.invokestatic 180, 3) := dk_184 0 180 (dk_at dksX12_init_34 12 rfl rfl)
theorem dX12_init_807 : decode cX12_init 807 = .ok (.lastore, 1) := dk_80 (dk_at dksX12_init_34 15 rfl rfl)
theorem dX12_init_808 : decode cX12_init 808 = .ok (.aload_n 0, 1) := dk_42 (dk_at dksX12_init_34 16 rfl rfl)
theorem dX12_init_809 : decode cX12_init 809 = .ok (.getfield 34, 3) := dk_180 0 34 (dk_at dksX12_init_34 17 rfl rfl)
theorem dX12_init_812 : decode cX12_init 812 = .ok (.bipush 18, 2) := dk_16 18 (dk_at dksX12_init_34 20 rfl rfl)
theorem dX12_init_814 : decode cX12_init 814 = .ok (.bipush 107, 2) := dk_16 107 (dk_at dksX12_init_34 22 rfl rfl)
theorem dX12_init_816 : decode cX12_init 816 = .ok (.bipush 110, 2) := dk_16 110 (dk_at dksX12_init_35 0 rfl rfl)
theorem dX12_init_818 : decode cX12_init 818 = .ok (.bipush 111, 2) := dk_16 111 (dk_at dksX12_init_35 2 rfl rfl)
theorem dX12_init_820 : decode cX12_init 820 = .ok (.bipush 119, 2) := dk_16 119 (dk_at dksX12_init_35 4 rfl rfl)
theorem dX12_init_822 : decode cX12_init 822 = .ok (.iconst 0, 1) := dk_3 (dk_at dksX12_init_35 6 rfl rfl)
theorem dX12_init_823 : decode cX12_init 823 = .ok (.iconst 0, 1) := dk_3 (dk_at dksX12_init_35 7 rfl rfl)
theorem dX12_init_824 : decode cX12_init 824 = .ok (.iconst 0, 1) := dk_3 (dk_at dksX12_init_35 8 rfl rfl)
theorem dX12_init_825 : decode cX12_init 825 = .ok (.invokestatic 180, 3) := dk_184 0 180 (dk_at dksX12_init_35 9 rfl rfl)
theorem dX12_init_828 : decode cX12_init 828 = .ok (.lastore, 1) := dk_80 (dk_at dksX12_init_35 12 rfl rfl)
theorem dX12_init_829 : decode cX12_init 829 = .ok (.aload_n 0, 1) := dk_42 (dk_at dksX12_init_35 13 rfl rfl)
theorem dX12_init_830 : decode cX12_init 830 = .ok (.getfield 34, 3) := dk_180 0 34 (dk_at dksX12_init_35 14 rfl rfl)
theorem dX12_init_833 : decode cX12_init 833 = .ok (.bipush 19, 2) := dk_16 19 (dk_at dksX12_init_35 17 rfl rfl)
theorem dX12_init_835 : decode cX12_init 835 = .ok (.bipush 116, 2) := dk_16 116 (dk_at dksX12_init_35 19 rfl rfl)
theorem dX12_init_837 : decode cX12_init 837 = .ok (.bipush 114, 2) := dk_16 114 (dk_at dksX12_init_35 21 rfl rfl)
theorem dX12_init_839 : decode cX12_init 839 = .ok (.bipush 105, 2) := dk_16 105 (dk_at dksX12_init_36 0 rfl rfl)
theorem dX12_init_841 : decode cX12_init 841 = .ok (.bipush 112, 2) := dk_16 112 (dk_at dksX12_init_36 2 rfl rfl)
theorem dX12_init_843 : decode cX12_init 843 = .ok (.bipush 115, 2) := dk_16 115 (dk_at dksX12_init_36 4 rfl rfl)
theorem dX12_init_845 : decode cX12_init 845 = .ok (.iconst 0, 1) := dk_3 (dk_at dksX12_init_36 6 rfl rfl)
theorem dX12_init_846 : decode cX12_init 846 = .ok (.iconst 0, 1) := dk_3 (dk_at dksX12_init_36 7 rfl rfl)
theorem dX12_init_847 : decode cX12_init 847 = .ok (.invokestatic 180, 3) := dk_184 0 180 (dk_at dksX12_init_36 8 rfl rfl)
theorem dX12_init_850 : decode cX12_init 850 = .ok (.lastore, 1) := dk_80 (dk_at dksX12_init_36 11 rfl rfl)
theorem dX12_init_851 : decode cX12_init 851 = .ok (.aload_n 0, 1) := dk_42 (dk_at dksX12_init_36 12 rfl rfl)
theorem dX12_init_852 : decode cX12_init 852 = .ok (.invokevirtual 184, 3) := dk_182 0 184 (dk_at dksX12_init_36 13 rfl rfl)
theorem dX12_init_855 : decode cX12_init 855 = .ok (.aload_n 0, 1) := dk_42 (dk_at dksX12_init_36 16 rfl rfl)
theorem dX12_init_856 : decode cX12_init 856 = .ok (.invokevirtual 187, 3) := dk_182 0 187 (dk_at dksX12_init_36 17 rfl rfl)
theorem dX12_init_859 : decode cX12_init 859 = .ok (.return_, 1) := dk_177 (dk_at dksX12_init_36 20 rfl rfl)
abbrev cX12_plain : ByteArray := prog_24_method_19_code
def yX12_plain : MethodName := ⟨RX12, "plain", "(I)V"⟩
def dkwX12_plain_3 : List UInt8 := [42, 180, 0, 109, 6, 27, 104, 28, 96, 3, 79, 132, 2, 1, 167, 255, 226, 177]
abbrev dktX12_plain_3 : List UInt8 := dkwX12_plain_3 ++ []
def dkwX12_plain_2 : List UInt8 := [180, 0, 103, 27, 3, 79, 3, 61, 28, 6, 162, 0, 31, 42, 180, 0, 106, 6, 27, 104, 28, 96, 3, 79]
abbrev dktX12_plain_2 : List UInt8 := dkwX12_plain_2 ++ dktX12_plain_3
def dkwX12_plain_1 : List UInt8 := [180, 0, 82, 27, 3, 79, 42, 180, 0, 97, 27, 17, 39, 15, 79, 42, 180, 0, 100, 27, 16, 50, 79, 42]
abbrev dktX12_plain_1 : List UInt8 := dkwX12_plain_1 ++ dktX12_plain_2
def dkwX12_plain_0 : List UInt8 := [42, 180, 0, 49, 27, 3, 79, 42, 180, 0, 58, 27, 3, 79, 42, 180, 0, 67, 27, 3, 79, 42]
abbrev dktX12_plain_0 : List UInt8 := dkwX12_plain_0 ++ dktX12_plain_1
theorem dksX12_plain_0 : cX12_plain.data.toList.drop 0 = dktX12_plain_0 := by decide +kernel
theorem dksX12_plain_1 : cX12_plain.data.toList.drop 22 = dktX12_plain_1 := dk_seg dksX12_plain_0 22 rfl rfl
theorem dksX12_plain_2 : cX12_plain.data.toList.drop 46 = dktX12_plain_2 := dk_seg dksX12_plain_1 24 rfl rfl
theorem dksX12_plain_3 : cX12_plain.data.toList.drop 70 = dktX12_plain_3 := dk_seg dksX12_plain_2 24 rfl rfl
theorem dX12_plain_0 : decode cX12_plain 0 = .ok (.aload_n 0, 1) := dk_42 (dk_at dksX12_plain_0 0 rfl rfl)
theorem dX12_plain_1 : decode cX12_plain 1 = .ok (.getfield 49, 3) := dk_180 0 49 (dk_at dksX12_plain_0 1 rfl rfl)
theorem dX12_plain_4 : decode cX12_plain 4 = .ok (.iload_n 1, 1) := dk_27 (dk_at dksX12_plain_0 4 rfl rfl)
theorem dX12_plain_5 : decode cX12_plain 5 = .ok (.iconst 0, 1) := dk_3 (dk_at dksX12_plain_0 5 rfl rfl)
theorem dX12_plain_6 : decode cX12_plain 6 = .ok (.iastore, 1) := dk_79 (dk_at dksX12_plain_0 6 rfl rfl)
theorem dX12_plain_7 : decode cX12_plain 7 = .ok (.aload_n 0, 1) := dk_42 (dk_at dksX12_plain_0 7 rfl rfl)
theorem dX12_plain_8 : decode cX12_plain 8 = .ok (.getfield 58, 3) := dk_180 0 58 (dk_at dksX12_plain_0 8 rfl rfl)
theorem dX12_plain_11 : decode cX12_plain 11 = .ok (.iload_n 1, 1) := dk_27 (dk_at dksX12_plain_0 11 rfl rfl)
theorem dX12_plain_12 : decode cX12_plain 12 = .ok (.iconst 0, 1) := dk_3 (dk_at dksX12_plain_0 12 rfl rfl)
theorem dX12_plain_13 : decode cX12_plain 13 = .ok (.iastore, 1) := dk_79 (dk_at dksX12_plain_0 13 rfl rfl)
theorem dX12_plain_14 : decode cX12_plain 14 = .ok (.aload_n 0, 1) := dk_42 (dk_at dksX12_plain_0 14 rfl rfl)
theorem dX12_plain_15 : decode cX12_plain 15 = .ok (.getfield 67, 3) := dk_180 0 67 (dk_at dksX12_plain_0 15 rfl rfl)
theorem dX12_plain_18 : decode cX12_plain 18 = .ok (.iload_n 1, 1) := dk_27 (dk_at dksX12_plain_0 18 rfl rfl)
theorem dX12_plain_19 : decode cX12_plain 19 = .ok (.iconst 0, 1) := dk_3 (dk_at dksX12_plain_0 19 rfl rfl)
theorem dX12_plain_20 : decode cX12_plain 20 = .ok (.iastore, 1) := dk_79 (dk_at dksX12_plain_0 20 rfl rfl)
theorem dX12_plain_21 : decode cX12_plain 21 = .ok (.aload_n 0, 1) := dk_42 (dk_at dksX12_plain_0 21 rfl rfl)
theorem dX12_plain_22 : decode cX12_plain 22 = .ok (.getfield 82, 3) := dk_180 0 82 (dk_at dksX12_plain_1 0 rfl rfl)
theorem dX12_plain_25 : decode cX12_plain 25 = .ok (.iload_n 1, 1) := dk_27 (dk_at dksX12_plain_1 3 rfl rfl)
theorem dX12_plain_26 : decode cX12_plain 26 = .ok (.iconst 0, 1) := dk_3 (dk_at dksX12_plain_1 4 rfl rfl)
theorem dX12_plain_27 : decode cX12_plain 27 = .ok (.iastore, 1) := dk_79 (dk_at dksX12_plain_1 5 rfl rfl)
theorem dX12_plain_28 : decode cX12_plain 28 = .ok (.aload_n 0, 1) := dk_42 (dk_at dksX12_plain_1 6 rfl rfl)
theorem dX12_plain_29 : decode cX12_plain 29 = .ok (.getfield 97, 3) := dk_180 0 97 (dk_at dksX12_plain_1 7 rfl rfl)
theorem dX12_plain_32 : decode cX12_plain 32 = .ok (.iload_n 1, 1) := dk_27 (dk_at dksX12_plain_1 10 rfl rfl)
theorem dX12_plain_33 : decode cX12_plain 33 = .ok (.sipush 9999, 3) := dk_17 39 15 (dk_at dksX12_plain_1 11 rfl rfl)
theorem dX12_plain_36 : decode cX12_plain 36 = .ok (.iastore, 1) := dk_79 (dk_at dksX12_plain_1 14 rfl rfl)
theorem dX12_plain_37 : decode cX12_plain 37 = .ok (.aload_n 0, 1) := dk_42 (dk_at dksX12_plain_1 15 rfl rfl)
theorem dX12_plain_38 : decode cX12_plain 38 = .ok (.getfield 100, 3) := dk_180 0 100 (dk_at dksX12_plain_1 16 rfl rfl)
theorem dX12_plain_41 : decode cX12_plain 41 = .ok (.iload_n 1, 1) := dk_27 (dk_at dksX12_plain_1 19 rfl rfl)
theorem dX12_plain_42 : decode cX12_plain 42 = .ok (.bipush 50, 2) := dk_16 50 (dk_at dksX12_plain_1 20 rfl rfl)
theorem dX12_plain_44 : decode cX12_plain 44 = .ok (.iastore, 1) := dk_79 (dk_at dksX12_plain_1 22 rfl rfl)
theorem dX12_plain_45 : decode cX12_plain 45 = .ok (.aload_n 0, 1) := dk_42 (dk_at dksX12_plain_1 23 rfl rfl)
theorem dX12_plain_46 : decode cX12_plain 46 = .ok (.getfield 103, 3) := dk_180 0 103 (dk_at dksX12_plain_2 0 rfl rfl)
theorem dX12_plain_49 : decode cX12_plain 49 = .ok (.iload_n 1, 1) := dk_27 (dk_at dksX12_plain_2 3 rfl rfl)
theorem dX12_plain_50 : decode cX12_plain 50 = .ok (.iconst 0, 1) := dk_3 (dk_at dksX12_plain_2 4 rfl rfl)
theorem dX12_plain_51 : decode cX12_plain 51 = .ok (.iastore, 1) := dk_79 (dk_at dksX12_plain_2 5 rfl rfl)
theorem dX12_plain_52 : decode cX12_plain 52 = .ok (.iconst 0, 1) := dk_3 (dk_at dksX12_plain_2 6 rfl rfl)
theorem dX12_plain_53 : decode cX12_plain 53 = .ok (.istore_n 2, 1) := dk_61 (dk_at dksX12_plain_2 7 rfl rfl)
theorem dX12_plain_54 : decode cX12_plain 54 = .ok (.iload_n 2, 1) := dk_28 (dk_at dksX12_plain_2 8 rfl rfl)
theorem dX12_plain_55 : decode cX12_plain 55 = .ok (.iconst 3, 1) := dk_6 (dk_at dksX12_plain_2 9 rfl rfl)
theorem dX12_plain_56 : decode cX12_plain 56 = .ok (.if_icmp .ge 31, 3) := dk_162 0 31 (dk_at dksX12_plain_2 10 rfl rfl)
theorem dX12_plain_59 : decode cX12_plain 59 = .ok (.aload_n 0, 1) := dk_42 (dk_at dksX12_plain_2 13 rfl rfl)
theorem dX12_plain_60 : decode cX12_plain 60 = .ok (.getfield 106, 3) := dk_180 0 106 (dk_at dksX12_plain_2 14 rfl rfl)
theorem dX12_plain_63 : decode cX12_plain 63 = .ok (.iconst 3, 1) := dk_6 (dk_at dksX12_plain_2 17 rfl rfl)
theorem dX12_plain_64 : decode cX12_plain 64 = .ok (.iload_n 1, 1) := dk_27 (dk_at dksX12_plain_2 18 rfl rfl)
theorem dX12_plain_65 : decode cX12_plain 65 = .ok (.imul, 1) := dk_104 (dk_at dksX12_plain_2 19 rfl rfl)
theorem dX12_plain_66 : decode cX12_plain 66 = .ok (.iload_n 2, 1) := dk_28 (dk_at dksX12_plain_2 20 rfl rfl)
theorem dX12_plain_67 : decode cX12_plain 67 = .ok (.iadd, 1) := dk_96 (dk_at dksX12_plain_2 21 rfl rfl)
theorem dX12_plain_68 : decode cX12_plain 68 = .ok (.iconst 0, 1) := dk_3 (dk_at dksX12_plain_2 22 rfl rfl)
theorem dX12_plain_69 : decode cX12_plain 69 = .ok (.iastore, 1) := dk_79 (dk_at dksX12_plain_2 23 rfl rfl)
theorem dX12_plain_70 : decode cX12_plain 70 = .ok (.aload_n 0, 1) := dk_42 (dk_at dksX12_plain_3 0 rfl rfl)
theorem dX12_plain_71 : decode cX12_plain 71 = .ok (.getfield 109, 3) := dk_180 0 109 (dk_at dksX12_plain_3 1 rfl rfl)
theorem dX12_plain_74 : decode cX12_plain 74 = .ok (.iconst 3, 1) := dk_6 (dk_at dksX12_plain_3 4 rfl rfl)
theorem dX12_plain_75 : decode cX12_plain 75 = .ok (.iload_n 1, 1) := dk_27 (dk_at dksX12_plain_3 5 rfl rfl)
theorem dX12_plain_76 : decode cX12_plain 76 = .ok (.imul, 1) := dk_104 (dk_at dksX12_plain_3 6 rfl rfl)
theorem dX12_plain_77 : decode cX12_plain 77 = .ok (.iload_n 2, 1) := dk_28 (dk_at dksX12_plain_3 7 rfl rfl)
theorem dX12_plain_78 : decode cX12_plain 78 = .ok (.iadd, 1) := dk_96 (dk_at dksX12_plain_3 8 rfl rfl)
theorem dX12_plain_79 : decode cX12_plain 79 = .ok (.iconst 0, 1) := dk_3 (dk_at dksX12_plain_3 9 rfl rfl)
theorem dX12_plain_80 : decode cX12_plain 80 = .ok (.iastore, 1) := dk_79 (dk_at dksX12_plain_3 10 rfl rfl)
theorem dX12_plain_81 : decode cX12_plain 81 = .ok (.iinc 2 1, 3) := dk_132 2 1 (dk_at dksX12_plain_3 11 rfl rfl)
theorem dX12_plain_84 : decode cX12_plain 84 = .ok (.goto (-30), 3) := dk_167 255 226 (dk_at dksX12_plain_3 14 rfl rfl)
theorem dX12_plain_87 : decode cX12_plain 87 = .ok (.return_, 1) := dk_177 (dk_at dksX12_plain_3 17 rfl rfl)
abbrev cX12_word : ByteArray := prog_24_method_10_code
def yX12_word : MethodName := ⟨RX12, "word", "(IIIIIII)J"⟩
def dkwX12_word_1 : List UInt8 := [184, 0, 201, 21, 6, 184, 0, 201, 173]
abbrev dktX12_word_1 : List UInt8 := dkwX12_word_1 ++ []
def dkwX12_word_0 : List UInt8 := [9, 26, 184, 0, 201, 27, 184, 0, 201, 28, 184, 0, 201, 29, 184, 0, 201, 21, 4, 184, 0, 201, 21, 5]
abbrev dktX12_word_0 : List UInt8 := dkwX12_word_0 ++ dktX12_word_1
theorem dksX12_word_0 : cX12_word.data.toList.drop 0 = dktX12_word_0 := by decide +kernel
theorem dksX12_word_1 : cX12_word.data.toList.drop 24 = dktX12_word_1 := dk_seg dksX12_word_0 24 rfl rfl
theorem dX12_word_0 : decode cX12_word 0 = .ok (.lconst 0, 1) := dk_9 (dk_at dksX12_word_0 0 rfl rfl)
theorem dX12_word_1 : decode cX12_word 1 = .ok (.iload_n 0, 1) := dk_26 (dk_at dksX12_word_0 1 rfl rfl)
theorem dX12_word_2 : decode cX12_word 2 = .ok (.invokestatic 201, 3) := dk_184 0 201 (dk_at dksX12_word_0 2 rfl rfl)
theorem dX12_word_5 : decode cX12_word 5 = .ok (.iload_n 1, 1) := dk_27 (dk_at dksX12_word_0 5 rfl rfl)
theorem dX12_word_6 : decode cX12_word 6 = .ok (.invokestatic 201, 3) := dk_184 0 201 (dk_at dksX12_word_0 6 rfl rfl)
theorem dX12_word_9 : decode cX12_word 9 = .ok (.iload_n 2, 1) := dk_28 (dk_at dksX12_word_0 9 rfl rfl)
theorem dX12_word_10 : decode cX12_word 10 = .ok (.invokestatic 201, 3) := dk_184 0 201 (dk_at dksX12_word_0 10 rfl rfl)
theorem dX12_word_13 : decode cX12_word 13 = .ok (.iload_n 3, 1) := dk_29 (dk_at dksX12_word_0 13 rfl rfl)
theorem dX12_word_14 : decode cX12_word 14 = .ok (.invokestatic 201, 3) := dk_184 0 201 (dk_at dksX12_word_0 14 rfl rfl)
theorem dX12_word_17 : decode cX12_word 17 = .ok (.iload 4, 2) := dk_21 4 (dk_at dksX12_word_0 17 rfl rfl)
theorem dX12_word_19 : decode cX12_word 19 = .ok (.invokestatic 201, 3) := dk_184 0 201 (dk_at dksX12_word_0 19 rfl rfl)
theorem dX12_word_22 : decode cX12_word 22 = .ok (.iload 5, 2) := dk_21 5 (dk_at dksX12_word_0 22 rfl rfl)
theorem dX12_word_24 : decode cX12_word 24 = .ok (.invokestatic 201, 3) := dk_184 0 201 (dk_at dksX12_word_1 0 rfl rfl)
theorem dX12_word_27 : decode cX12_word 27 = .ok (.iload 6, 2) := dk_21 6 (dk_at dksX12_word_1 3 rfl rfl)
theorem dX12_word_29 : decode cX12_word 29 = .ok (.invokestatic 201, 3) := dk_184 0 201 (dk_at dksX12_word_1 5 rfl rfl)
theorem dX12_word_32 : decode cX12_word 32 = .ok (.lreturn, 1) := dk_173 (dk_at dksX12_word_1 8 rfl rfl)
abbrev cX12_appends : ByteArray := prog_24_method_9_code
def yX12_appends : MethodName := ⟨RX12, "appends", "(JI)J"⟩
def dkwX12_appends_0 : List UInt8 := [28, 154, 0, 7, 30, 167, 0, 16, 20, 0, 199, 30, 105, 28, 16, 97, 100, 4, 96, 133, 97, 173]
abbrev dktX12_appends_0 : List UInt8 := dkwX12_appends_0 ++ []
theorem dksX12_appends_0 : cX12_appends.data.toList.drop 0 = dktX12_appends_0 := by decide +kernel
theorem dX12_appends_0 : decode cX12_appends 0 = .ok (.iload_n 2, 1) := dk_28 (dk_at dksX12_appends_0 0 rfl rfl)
theorem dX12_appends_1 : decode cX12_appends 1 = .ok (.ifCond .ne 7, 3) := dk_154 0 7 (dk_at dksX12_appends_0 1 rfl rfl)
theorem dX12_appends_4 : decode cX12_appends 4 = .ok (.lload_n 0, 1) := dk_30 (dk_at dksX12_appends_0 4 rfl rfl)
theorem dX12_appends_5 : decode cX12_appends 5 = .ok (.goto 16, 3) := dk_167 0 16 (dk_at dksX12_appends_0 5 rfl rfl)
theorem dX12_appends_8 : decode cX12_appends 8 = .ok (.ldc2_w 199, 3) := dk_20 0 199 (dk_at dksX12_appends_0 8 rfl rfl)
theorem dX12_appends_11 : decode cX12_appends 11 = .ok (.lload_n 0, 1) := dk_30 (dk_at dksX12_appends_0 11 rfl rfl)
theorem dX12_appends_12 : decode cX12_appends 12 = .ok (.lmul, 1) := dk_105 (dk_at dksX12_appends_0 12 rfl rfl)
theorem dX12_appends_13 : decode cX12_appends 13 = .ok (.iload_n 2, 1) := dk_28 (dk_at dksX12_appends_0 13 rfl rfl)
theorem dX12_appends_14 : decode cX12_appends 14 = .ok (.bipush 97, 2) := dk_16 97 (dk_at dksX12_appends_0 14 rfl rfl)
theorem dX12_appends_16 : decode cX12_appends 16 = .ok (.isub, 1) := dk_100 (dk_at dksX12_appends_0 16 rfl rfl)
theorem dX12_appends_17 : decode cX12_appends 17 = .ok (.iconst 1, 1) := dk_4 (dk_at dksX12_appends_0 17 rfl rfl)
theorem dX12_appends_18 : decode cX12_appends 18 = .ok (.iadd, 1) := dk_96 (dk_at dksX12_appends_0 18 rfl rfl)
theorem dX12_appends_19 : decode cX12_appends 19 = .ok (.i2l, 1) := dk_133 (dk_at dksX12_appends_0 19 rfl rfl)
theorem dX12_appends_20 : decode cX12_appends 20 = .ok (.ladd, 1) := dk_97 (dk_at dksX12_appends_0 20 rfl rfl)
theorem dX12_appends_21 : decode cX12_appends 21 = .ok (.lreturn, 1) := dk_173 (dk_at dksX12_appends_0 21 rfl rfl)
abbrev cX12_begins : ByteArray := prog_24_method_41_code
def yX12_begins : MethodName := ⟨RX12, "begins", "()V"⟩
def dkwX12_begins_6 : List UInt8 := [167, 255, 179, 42, 182, 1, 91, 177]
abbrev dktX12_begins_6 : List UInt8 := dkwX12_begins_6 ++ []
def dkwX12_begins_5 : List UInt8 := [180, 1, 1, 104, 27, 96, 46, 79, 42, 180, 0, 146, 16, 106, 27, 96, 16, 254, 79, 132, 1, 1]
abbrev dktX12_begins_5 : List UInt8 := dkwX12_begins_5 ++ dktX12_begins_6
def dkwX12_begins_4 : List UInt8 := [42, 180, 1, 1, 104, 27, 96, 46, 79, 42, 180, 0, 146, 16, 90, 27, 96, 42, 180, 0, 70, 16, 8, 42]
abbrev dktX12_begins_4 : List UInt8 := dkwX12_begins_4 ++ dktX12_begins_5
def dkwX12_begins_3 : List UInt8 := [180, 0, 146, 16, 66, 27, 96, 16, 254, 79, 42, 180, 0, 146, 16, 82, 27, 96, 42, 180, 0, 76, 16, 8]
abbrev dktX12_begins_3 : List UInt8 := dkwX12_begins_3 ++ dktX12_begins_4
def dkwX12_begins_2 : List UInt8 := [180, 1, 1, 104, 27, 96, 46, 79, 132, 1, 1, 167, 255, 220, 3, 60, 27, 16, 8, 162, 0, 77, 42]
abbrev dktX12_begins_2 : List UInt8 := dkwX12_begins_2 ++ dktX12_begins_3
def dkwX12_begins_1 : List UInt8 := [42, 180, 0, 49, 42, 180, 1, 1, 46, 162, 0, 29, 42, 180, 0, 146, 27, 42, 180, 0, 52, 16, 6, 42]
abbrev dktX12_begins_1 : List UInt8 := dkwX12_begins_1 ++ dktX12_begins_2
def dkwX12_begins_0 : List UInt8 := [3, 60, 27, 16, 120, 162, 0, 16, 42, 180, 0, 146, 27, 3, 79, 132, 1, 1, 167, 255, 240, 3, 60, 27]
abbrev dktX12_begins_0 : List UInt8 := dkwX12_begins_0 ++ dktX12_begins_1
theorem dksX12_begins_0 : cX12_begins.data.toList.drop 0 = dktX12_begins_0 := by decide +kernel
theorem dksX12_begins_1 : cX12_begins.data.toList.drop 24 = dktX12_begins_1 := dk_seg dksX12_begins_0 24 rfl rfl
theorem dksX12_begins_2 : cX12_begins.data.toList.drop 48 = dktX12_begins_2 := dk_seg dksX12_begins_1 24 rfl rfl
theorem dksX12_begins_3 : cX12_begins.data.toList.drop 71 = dktX12_begins_3 := dk_seg dksX12_begins_2 23 rfl rfl
theorem dksX12_begins_4 : cX12_begins.data.toList.drop 95 = dktX12_begins_4 := dk_seg dksX12_begins_3 24 rfl rfl
theorem dksX12_begins_5 : cX12_begins.data.toList.drop 119 = dktX12_begins_5 := dk_seg dksX12_begins_4 24 rfl rfl
theorem dksX12_begins_6 : cX12_begins.data.toList.drop 141 = dktX12_begins_6 := dk_seg dksX12_begins_5 22 rfl rfl
theorem dX12_begins_0 : decode cX12_begins 0 = .ok (.iconst 0, 1) := dk_3 (dk_at dksX12_begins_0 0 rfl rfl)
theorem dX12_begins_1 : decode cX12_begins 1 = .ok (.istore_n 1, 1) := dk_60 (dk_at dksX12_begins_0 1 rfl rfl)
theorem dX12_begins_2 : decode cX12_begins 2 = .ok (.iload_n 1, 1) := dk_27 (dk_at dksX12_begins_0 2 rfl rfl)
theorem dX12_begins_3 : decode cX12_begins 3 = .ok (.bipush 120, 2) := dk_16 120 (dk_at dksX12_begins_0 3 rfl rfl)
theorem dX12_begins_5 : decode cX12_begins 5 = .ok (.if_icmp .ge 16, 3) := dk_162 0 16 (dk_at dksX12_begins_0 5 rfl rfl)
theorem dX12_begins_8 : decode cX12_begins 8 = .ok (.aload_n 0, 1) := dk_42 (dk_at dksX12_begins_0 8 rfl rfl)
theorem dX12_begins_9 : decode cX12_begins 9 = .ok (.getfield 146, 3) := dk_180 0 146 (dk_at dksX12_begins_0 9 rfl rfl)
theorem dX12_begins_12 : decode cX12_begins 12 = .ok (.iload_n 1, 1) := dk_27 (dk_at dksX12_begins_0 12 rfl rfl)
theorem dX12_begins_13 : decode cX12_begins 13 = .ok (.iconst 0, 1) := dk_3 (dk_at dksX12_begins_0 13 rfl rfl)
theorem dX12_begins_14 : decode cX12_begins 14 = .ok (.iastore, 1) := dk_79 (dk_at dksX12_begins_0 14 rfl rfl)
theorem dX12_begins_15 : decode cX12_begins 15 = .ok (.iinc 1 1, 3) := dk_132 1 1 (dk_at dksX12_begins_0 15 rfl rfl)
theorem dX12_begins_18 : decode cX12_begins 18 = .ok (.goto (-16), 3) := dk_167 255 240 (dk_at dksX12_begins_0 18 rfl rfl)
theorem dX12_begins_21 : decode cX12_begins 21 = .ok (.iconst 0, 1) := dk_3 (dk_at dksX12_begins_0 21 rfl rfl)
theorem dX12_begins_22 : decode cX12_begins 22 = .ok (.istore_n 1, 1) := dk_60 (dk_at dksX12_begins_0 22 rfl rfl)
theorem dX12_begins_23 : decode cX12_begins 23 = .ok (.iload_n 1, 1) := dk_27 (dk_at dksX12_begins_0 23 rfl rfl)
theorem dX12_begins_24 : decode cX12_begins 24 = .ok (.aload_n 0, 1) := dk_42 (dk_at dksX12_begins_1 0 rfl rfl)
theorem dX12_begins_25 : decode cX12_begins 25 = .ok (.getfield 49, 3) := dk_180 0 49 (dk_at dksX12_begins_1 1 rfl rfl)
theorem dX12_begins_28 : decode cX12_begins 28 = .ok (.aload_n 0, 1) := dk_42 (dk_at dksX12_begins_1 4 rfl rfl)
theorem dX12_begins_29 : decode cX12_begins 29 = .ok (.getfield 257, 3) := dk_180 1 1 (dk_at dksX12_begins_1 5 rfl rfl)
theorem dX12_begins_32 : decode cX12_begins 32 = .ok (.iaload, 1) := dk_46 (dk_at dksX12_begins_1 8 rfl rfl)
theorem dX12_begins_33 : decode cX12_begins 33 = .ok (.if_icmp .ge 29, 3) := dk_162 0 29 (dk_at dksX12_begins_1 9 rfl rfl)
theorem dX12_begins_36 : decode cX12_begins 36 = .ok (.aload_n 0, 1) := dk_42 (dk_at dksX12_begins_1 12 rfl rfl)
theorem dX12_begins_37 : decode cX12_begins 37 = .ok (.getfield 146, 3) := dk_180 0 146 (dk_at dksX12_begins_1 13 rfl rfl)
theorem dX12_begins_40 : decode cX12_begins 40 = .ok (.iload_n 1, 1) := dk_27 (dk_at dksX12_begins_1 16 rfl rfl)
theorem dX12_begins_41 : decode cX12_begins 41 = .ok (.aload_n 0, 1) := dk_42 (dk_at dksX12_begins_1 17 rfl rfl)
theorem dX12_begins_42 : decode cX12_begins 42 = .ok (.getfield 52, 3) := dk_180 0 52 (dk_at dksX12_begins_1 18 rfl rfl)
theorem dX12_begins_45 : decode cX12_begins 45 = .ok (.bipush 6, 2) := dk_16 6 (dk_at dksX12_begins_1 21 rfl rfl)
theorem dX12_begins_47 : decode cX12_begins 47 = .ok (.aload_n 0, 1) := dk_42 (dk_at dksX12_begins_1 23 rfl rfl)
theorem dX12_begins_48 : decode cX12_begins 48 = .ok (.getfield 257, 3) := dk_180 1 1 (dk_at dksX12_begins_2 0 rfl rfl)
theorem dX12_begins_51 : decode cX12_begins 51 = .ok (.imul, 1) := dk_104 (dk_at dksX12_begins_2 3 rfl rfl)
theorem dX12_begins_52 : decode cX12_begins 52 = .ok (.iload_n 1, 1) := dk_27 (dk_at dksX12_begins_2 4 rfl rfl)
theorem dX12_begins_53 : decode cX12_begins 53 = .ok (.iadd, 1) := dk_96 (dk_at dksX12_begins_2 5 rfl rfl)
theorem dX12_begins_54 : decode cX12_begins 54 = .ok (.iaload, 1) := dk_46 (dk_at dksX12_begins_2 6 rfl rfl)
theorem dX12_begins_55 : decode cX12_begins 55 = .ok (.iastore, 1) := dk_79 (dk_at dksX12_begins_2 7 rfl rfl)
theorem dX12_begins_56 : decode cX12_begins 56 = .ok (.iinc 1 1, 3) := dk_132 1 1 (dk_at dksX12_begins_2 8 rfl rfl)
theorem dX12_begins_59 : decode cX12_begins 59 = .ok (.goto (-36), 3) := dk_167 255 220 (dk_at dksX12_begins_2 11 rfl rfl)
theorem dX12_begins_62 : decode cX12_begins 62 = .ok (.iconst 0, 1) := dk_3 (dk_at dksX12_begins_2 14 rfl rfl)
theorem dX12_begins_63 : decode cX12_begins 63 = .ok (.istore_n 1, 1) := dk_60 (dk_at dksX12_begins_2 15 rfl rfl)
theorem dX12_begins_64 : decode cX12_begins 64 = .ok (.iload_n 1, 1) := dk_27 (dk_at dksX12_begins_2 16 rfl rfl)
theorem dX12_begins_65 : decode cX12_begins 65 = .ok (.bipush 8, 2) := dk_16 8 (dk_at dksX12_begins_2 17 rfl rfl)
theorem dX12_begins_67 : decode cX12_begins 67 = .ok (.if_icmp .ge 77, 3) := dk_162 0 77 (dk_at dksX12_begins_2 19 rfl rfl)
theorem dX12_begins_70 : decode cX12_begins 70 = .ok (.aload_n 0, 1) := dk_42 (dk_at dksX12_begins_2 22 rfl rfl)
theorem dX12_begins_71 : decode cX12_begins 71 = .ok (.getfield 146, 3) := dk_180 0 146 (dk_at dksX12_begins_3 0 rfl rfl)
theorem dX12_begins_74 : decode cX12_begins 74 = .ok (.bipush 66, 2) := dk_16 66 (dk_at dksX12_begins_3 3 rfl rfl)
theorem dX12_begins_76 : decode cX12_begins 76 = .ok (.iload_n 1, 1) := dk_27 (dk_at dksX12_begins_3 5 rfl rfl)
theorem dX12_begins_77 : decode cX12_begins 77 = .ok (.iadd, 1) := dk_96 (dk_at dksX12_begins_3 6 rfl rfl)
theorem dX12_begins_78 : decode cX12_begins 78 = .ok (.bipush (-2), 2) := dk_16 254 (dk_at dksX12_begins_3 7 rfl rfl)
theorem dX12_begins_80 : decode cX12_begins 80 = .ok (.iastore, 1) := dk_79 (dk_at dksX12_begins_3 9 rfl rfl)
theorem dX12_begins_81 : decode cX12_begins 81 = .ok (.aload_n 0, 1) := dk_42 (dk_at dksX12_begins_3 10 rfl rfl)
theorem dX12_begins_82 : decode cX12_begins 82 = .ok (.getfield 146, 3) := dk_180 0 146 (dk_at dksX12_begins_3 11 rfl rfl)
theorem dX12_begins_85 : decode cX12_begins 85 = .ok (.bipush 82, 2) := dk_16 82 (dk_at dksX12_begins_3 14 rfl rfl)
theorem dX12_begins_87 : decode cX12_begins 87 = .ok (.iload_n 1, 1) := dk_27 (dk_at dksX12_begins_3 16 rfl rfl)
theorem dX12_begins_88 : decode cX12_begins 88 = .ok (.iadd, 1) := dk_96 (dk_at dksX12_begins_3 17 rfl rfl)
theorem dX12_begins_89 : decode cX12_begins 89 = .ok (.aload_n 0, 1) := dk_42 (dk_at dksX12_begins_3 18 rfl rfl)
theorem dX12_begins_90 : decode cX12_begins 90 = .ok (.getfield 76, 3) := dk_180 0 76 (dk_at dksX12_begins_3 19 rfl rfl)
theorem dX12_begins_93 : decode cX12_begins 93 = .ok (.bipush 8, 2) := dk_16 8 (dk_at dksX12_begins_3 22 rfl rfl)
theorem dX12_begins_95 : decode cX12_begins 95 = .ok (.aload_n 0, 1) := dk_42 (dk_at dksX12_begins_4 0 rfl rfl)
theorem dX12_begins_96 : decode cX12_begins 96 = .ok (.getfield 257, 3) := dk_180 1 1 (dk_at dksX12_begins_4 1 rfl rfl)
theorem dX12_begins_99 : decode cX12_begins 99 = .ok (.imul, 1) := dk_104 (dk_at dksX12_begins_4 4 rfl rfl)
theorem dX12_begins_100 : decode cX12_begins 100 = .ok (.iload_n 1, 1) := dk_27 (dk_at dksX12_begins_4 5 rfl rfl)
theorem dX12_begins_101 : decode cX12_begins 101 = .ok (.iadd, 1) := dk_96 (dk_at dksX12_begins_4 6 rfl rfl)
theorem dX12_begins_102 : decode cX12_begins 102 = .ok (.iaload, 1) := dk_46 (dk_at dksX12_begins_4 7 rfl rfl)
theorem dX12_begins_103 : decode cX12_begins 103 = .ok (.iastore, 1) := dk_79 (dk_at dksX12_begins_4 8 rfl rfl)
theorem dX12_begins_104 : decode cX12_begins 104 = .ok (.aload_n 0, 1) := dk_42 (dk_at dksX12_begins_4 9 rfl rfl)
theorem dX12_begins_105 : decode cX12_begins 105 = .ok (.getfield 146, 3) := dk_180 0 146 (dk_at dksX12_begins_4 10 rfl rfl)
theorem dX12_begins_108 : decode cX12_begins 108 = .ok (.bipush 90, 2) := dk_16 90 (dk_at dksX12_begins_4 13 rfl rfl)
theorem dX12_begins_110 : decode cX12_begins 110 = .ok (.iload_n 1, 1) := dk_27 (dk_at dksX12_begins_4 15 rfl rfl)
theorem dX12_begins_111 : decode cX12_begins 111 = .ok (.iadd, 1) := dk_96 (dk_at dksX12_begins_4 16 rfl rfl)
theorem dX12_begins_112 : decode cX12_begins 112 = .ok (.aload_n 0, 1) := dk_42 (dk_at dksX12_begins_4 17 rfl rfl)
theorem dX12_begins_113 : decode cX12_begins 113 = .ok (.getfield 70, 3) := dk_180 0 70 (dk_at dksX12_begins_4 18 rfl rfl)
theorem dX12_begins_116 : decode cX12_begins 116 = .ok (.bipush 8, 2) := dk_16 8 (dk_at dksX12_begins_4 21 rfl rfl)
theorem dX12_begins_118 : decode cX12_begins 118 = .ok (.aload_n 0, 1) := dk_42 (dk_at dksX12_begins_4 23 rfl rfl)
theorem dX12_begins_119 : decode cX12_begins 119 = .ok (.getfield 257, 3) := dk_180 1 1 (dk_at dksX12_begins_5 0 rfl rfl)
theorem dX12_begins_122 : decode cX12_begins 122 = .ok (.imul, 1) := dk_104 (dk_at dksX12_begins_5 3 rfl rfl)
theorem dX12_begins_123 : decode cX12_begins 123 = .ok (.iload_n 1, 1) := dk_27 (dk_at dksX12_begins_5 4 rfl rfl)
theorem dX12_begins_124 : decode cX12_begins 124 = .ok (.iadd, 1) := dk_96 (dk_at dksX12_begins_5 5 rfl rfl)
theorem dX12_begins_125 : decode cX12_begins 125 = .ok (.iaload, 1) := dk_46 (dk_at dksX12_begins_5 6 rfl rfl)
theorem dX12_begins_126 : decode cX12_begins 126 = .ok (.iastore, 1) := dk_79 (dk_at dksX12_begins_5 7 rfl rfl)
theorem dX12_begins_127 : decode cX12_begins 127 = .ok (.aload_n 0, 1) := dk_42 (dk_at dksX12_begins_5 8 rfl rfl)
theorem dX12_begins_128 : decode cX12_begins 128 = .ok (.getfield 146, 3) := dk_180 0 146 (dk_at dksX12_begins_5 9 rfl rfl)
theorem dX12_begins_131 : decode cX12_begins 131 = .ok (.bipush 106, 2) := dk_16 106 (dk_at dksX12_begins_5 12 rfl rfl)
theorem dX12_begins_133 : decode cX12_begins 133 = .ok (.iload_n 1, 1) := dk_27 (dk_at dksX12_begins_5 14 rfl rfl)
theorem dX12_begins_134 : decode cX12_begins 134 = .ok (.iadd, 1) := dk_96 (dk_at dksX12_begins_5 15 rfl rfl)
theorem dX12_begins_135 : decode cX12_begins 135 = .ok (.bipush (-2), 2) := dk_16 254 (dk_at dksX12_begins_5 16 rfl rfl)
theorem dX12_begins_137 : decode cX12_begins 137 = .ok (.iastore, 1) := dk_79 (dk_at dksX12_begins_5 18 rfl rfl)
theorem dX12_begins_138 : decode cX12_begins 138 = .ok (.iinc 1 1, 3) := dk_132 1 1 (dk_at dksX12_begins_5 19 rfl rfl)
theorem dX12_begins_141 : decode cX12_begins 141 = .ok (.goto (-77), 3) := dk_167 255 179 (dk_at dksX12_begins_6 0 rfl rfl)
theorem dX12_begins_144 : decode cX12_begins 144 = .ok (.aload_n 0, 1) := dk_42 (dk_at dksX12_begins_6 3 rfl rfl)
theorem dX12_begins_145 : decode cX12_begins 145 = .ok (.invokevirtual 347, 3) := dk_182 1 91 (dk_at dksX12_begins_6 4 rfl rfl)
theorem dX12_begins_148 : decode cX12_begins 148 = .ok (.return_, 1) := dk_177 (dk_at dksX12_begins_6 7 rfl rfl)
abbrev cX12_plainly : ByteArray := prog_24_method_40_code
def yX12_plainly : MethodName := ⟨RX12, "plainly", "()V"⟩
def dkwX12_plainly_2 : List UInt8 := [167, 255, 227, 177]
abbrev dktX12_plainly_2 : List UInt8 := dkwX12_plainly_2 ++ []
def dkwX12_plainly_1 : List UInt8 := [180, 0, 149, 27, 42, 180, 0, 61, 16, 6, 42, 180, 1, 1, 104, 27, 96, 46, 79, 132, 1, 1]
abbrev dktX12_plainly_1 : List UInt8 := dkwX12_plainly_1 ++ dktX12_plainly_2
def dkwX12_plainly_0 : List UInt8 := [42, 42, 180, 0, 103, 42, 180, 1, 1, 46, 181, 1, 88, 3, 60, 27, 16, 6, 162, 0, 29, 42]
abbrev dktX12_plainly_0 : List UInt8 := dkwX12_plainly_0 ++ dktX12_plainly_1
theorem dksX12_plainly_0 : cX12_plainly.data.toList.drop 0 = dktX12_plainly_0 := by decide +kernel
theorem dksX12_plainly_1 : cX12_plainly.data.toList.drop 22 = dktX12_plainly_1 := dk_seg dksX12_plainly_0 22 rfl rfl
theorem dksX12_plainly_2 : cX12_plainly.data.toList.drop 44 = dktX12_plainly_2 := dk_seg dksX12_plainly_1 22 rfl rfl
theorem dX12_plainly_0 : decode cX12_plainly 0 = .ok (.aload_n 0, 1) := dk_42 (dk_at dksX12_plainly_0 0 rfl rfl)
theorem dX12_plainly_1 : decode cX12_plainly 1 = .ok (.aload_n 0, 1) := dk_42 (dk_at dksX12_plainly_0 1 rfl rfl)
theorem dX12_plainly_2 : decode cX12_plainly 2 = .ok (.getfield 103, 3) := dk_180 0 103 (dk_at dksX12_plainly_0 2 rfl rfl)
theorem dX12_plainly_5 : decode cX12_plainly 5 = .ok (.aload_n 0, 1) := dk_42 (dk_at dksX12_plainly_0 5 rfl rfl)
theorem dX12_plainly_6 : decode cX12_plainly 6 = .ok (.getfield 257, 3) := dk_180 1 1 (dk_at dksX12_plainly_0 6 rfl rfl)
theorem dX12_plainly_9 : decode cX12_plainly 9 = .ok (.iaload, 1) := dk_46 (dk_at dksX12_plainly_0 9 rfl rfl)
theorem dX12_plainly_10 : decode cX12_plainly 10 = .ok (.putfield 344, 3) := dk_181 1 88 (dk_at dksX12_plainly_0 10 rfl rfl)
theorem dX12_plainly_13 : decode cX12_plainly 13 = .ok (.iconst 0, 1) := dk_3 (dk_at dksX12_plainly_0 13 rfl rfl)
theorem dX12_plainly_14 : decode cX12_plainly 14 = .ok (.istore_n 1, 1) := dk_60 (dk_at dksX12_plainly_0 14 rfl rfl)
theorem dX12_plainly_15 : decode cX12_plainly 15 = .ok (.iload_n 1, 1) := dk_27 (dk_at dksX12_plainly_0 15 rfl rfl)
theorem dX12_plainly_16 : decode cX12_plainly 16 = .ok (.bipush 6, 2) := dk_16 6 (dk_at dksX12_plainly_0 16 rfl rfl)
theorem dX12_plainly_18 : decode cX12_plainly 18 = .ok (.if_icmp .ge 29, 3) := dk_162 0 29 (dk_at dksX12_plainly_0 18 rfl rfl)
theorem dX12_plainly_21 : decode cX12_plainly 21 = .ok (.aload_n 0, 1) := dk_42 (dk_at dksX12_plainly_0 21 rfl rfl)
theorem dX12_plainly_22 : decode cX12_plainly 22 = .ok (.getfield 149, 3) := dk_180 0 149 (dk_at dksX12_plainly_1 0 rfl rfl)
theorem dX12_plainly_25 : decode cX12_plainly 25 = .ok (.iload_n 1, 1) := dk_27 (dk_at dksX12_plainly_1 3 rfl rfl)
theorem dX12_plainly_26 : decode cX12_plainly 26 = .ok (.aload_n 0, 1) := dk_42 (dk_at dksX12_plainly_1 4 rfl rfl)
theorem dX12_plainly_27 : decode cX12_plainly 27 = .ok (.getfield 61, 3) := dk_180 0 61 (dk_at dksX12_plainly_1 5 rfl rfl)
theorem dX12_plainly_30 : decode cX12_plainly 30 = .ok (.bipush 6, 2) := dk_16 6 (dk_at dksX12_plainly_1 8 rfl rfl)
theorem dX12_plainly_32 : decode cX12_plainly 32 = .ok (.aload_n 0, 1) := dk_42 (dk_at dksX12_plainly_1 10 rfl rfl)
theorem dX12_plainly_33 : decode cX12_plainly 33 = .ok (.getfield 257, 3) := dk_180 1 1 (dk_at dksX12_plainly_1 11 rfl rfl)
theorem dX12_plainly_36 : decode cX12_plainly 36 = .ok (.imul, 1) := dk_104 (dk_at dksX12_plainly_1 14 rfl rfl)
theorem dX12_plainly_37 : decode cX12_plainly 37 = .ok (.iload_n 1, 1) := dk_27 (dk_at dksX12_plainly_1 15 rfl rfl)
theorem dX12_plainly_38 : decode cX12_plainly 38 = .ok (.iadd, 1) := dk_96 (dk_at dksX12_plainly_1 16 rfl rfl)
theorem dX12_plainly_39 : decode cX12_plainly 39 = .ok (.iaload, 1) := dk_46 (dk_at dksX12_plainly_1 17 rfl rfl)
theorem dX12_plainly_40 : decode cX12_plainly 40 = .ok (.iastore, 1) := dk_79 (dk_at dksX12_plainly_1 18 rfl rfl)
theorem dX12_plainly_41 : decode cX12_plainly 41 = .ok (.iinc 1 1, 3) := dk_132 1 1 (dk_at dksX12_plainly_1 19 rfl rfl)
theorem dX12_plainly_44 : decode cX12_plainly 44 = .ok (.goto (-29), 3) := dk_167 255 227 (dk_at dksX12_plainly_2 0 rfl rfl)
theorem dX12_plainly_47 : decode cX12_plainly 47 = .ok (.return_, 1) := dk_177 (dk_at dksX12_plainly_2 3 rfl rfl)
abbrev cX12_keepsRow : ByteArray := prog_24_method_42_code
def yX12_keepsRow : MethodName := ⟨RX12, "keepsRow", "()V"⟩
def dkwX12_keepsRow_1 : List UInt8 := [167, 255, 235, 177]
abbrev dktX12_keepsRow_1 : List UInt8 := dkwX12_keepsRow_1 ++ []
def dkwX12_keepsRow_0 : List UInt8 := [3, 60, 27, 16, 120, 162, 0, 21, 42, 180, 0, 143, 27, 42, 180, 0, 146, 27, 46, 79, 132, 1, 1]
abbrev dktX12_keepsRow_0 : List UInt8 := dkwX12_keepsRow_0 ++ dktX12_keepsRow_1
theorem dksX12_keepsRow_0 : cX12_keepsRow.data.toList.drop 0 = dktX12_keepsRow_0 := by decide +kernel
theorem dksX12_keepsRow_1 : cX12_keepsRow.data.toList.drop 23 = dktX12_keepsRow_1 := dk_seg dksX12_keepsRow_0 23 rfl rfl
theorem dX12_keepsRow_0 : decode cX12_keepsRow 0 = .ok (.iconst 0, 1) := dk_3 (dk_at dksX12_keepsRow_0 0 rfl rfl)
theorem dX12_keepsRow_1 : decode cX12_keepsRow 1 = .ok (.istore_n 1, 1) := dk_60 (dk_at dksX12_keepsRow_0 1 rfl rfl)
theorem dX12_keepsRow_2 : decode cX12_keepsRow 2 = .ok (.iload_n 1, 1) := dk_27 (dk_at dksX12_keepsRow_0 2 rfl rfl)
theorem dX12_keepsRow_3 : decode cX12_keepsRow 3 = .ok (.bipush 120, 2) := dk_16 120 (dk_at dksX12_keepsRow_0 3 rfl rfl)
theorem dX12_keepsRow_5 : decode cX12_keepsRow 5 = .ok (.if_icmp .ge 21, 3) := dk_162 0 21 (dk_at dksX12_keepsRow_0 5 rfl rfl)
theorem dX12_keepsRow_8 : decode cX12_keepsRow 8 = .ok (.aload_n 0, 1) := dk_42 (dk_at dksX12_keepsRow_0 8 rfl rfl)
theorem dX12_keepsRow_9 : decode cX12_keepsRow 9 = .ok (.getfield 143, 3) := dk_180 0 143 (dk_at dksX12_keepsRow_0 9 rfl rfl)
theorem dX12_keepsRow_12 : decode cX12_keepsRow 12 = .ok (.iload_n 1, 1) := dk_27 (dk_at dksX12_keepsRow_0 12 rfl rfl)
theorem dX12_keepsRow_13 : decode cX12_keepsRow 13 = .ok (.aload_n 0, 1) := dk_42 (dk_at dksX12_keepsRow_0 13 rfl rfl)
theorem dX12_keepsRow_14 : decode cX12_keepsRow 14 = .ok (.getfield 146, 3) := dk_180 0 146 (dk_at dksX12_keepsRow_0 14 rfl rfl)
theorem dX12_keepsRow_17 : decode cX12_keepsRow 17 = .ok (.iload_n 1, 1) := dk_27 (dk_at dksX12_keepsRow_0 17 rfl rfl)
theorem dX12_keepsRow_18 : decode cX12_keepsRow 18 = .ok (.iaload, 1) := dk_46 (dk_at dksX12_keepsRow_0 18 rfl rfl)
theorem dX12_keepsRow_19 : decode cX12_keepsRow 19 = .ok (.iastore, 1) := dk_79 (dk_at dksX12_keepsRow_0 19 rfl rfl)
theorem dX12_keepsRow_20 : decode cX12_keepsRow 20 = .ok (.iinc 1 1, 3) := dk_132 1 1 (dk_at dksX12_keepsRow_0 20 rfl rfl)
theorem dX12_keepsRow_23 : decode cX12_keepsRow 23 = .ok (.goto (-21), 3) := dk_167 255 235 (dk_at dksX12_keepsRow_1 0 rfl rfl)
theorem dX12_keepsRow_26 : decode cX12_keepsRow 26 = .ok (.return_, 1) := dk_177 (dk_at dksX12_keepsRow_1 3 rfl rfl)
abbrev cX12_feed : ByteArray := prog_24_method_3_code
def yX12_feed : MethodName := ⟨RX12, "feed", "(IIIII)I"⟩
def dkwX12_feed_2 : List UInt8 := [172]
abbrev dktX12_feed_2 : List UInt8 := dkwX12_feed_2 ++ []
def dkwX12_feed_1 : List UInt8 := [182, 0, 193, 42, 29, 182, 0, 193, 42, 21, 4, 182, 0, 193, 42, 21, 5, 182, 0, 193, 42, 180, 0, 190]
abbrev dktX12_feed_1 : List UInt8 := dkwX12_feed_1 ++ dktX12_feed_2
def dkwX12_feed_0 : List UInt8 := [42, 180, 0, 190, 16, 20, 96, 17, 7, 208, 164, 0, 5, 2, 172, 42, 27, 182, 0, 193, 42, 28]
abbrev dktX12_feed_0 : List UInt8 := dkwX12_feed_0 ++ dktX12_feed_1
theorem dksX12_feed_0 : cX12_feed.data.toList.drop 0 = dktX12_feed_0 := by decide +kernel
theorem dksX12_feed_1 : cX12_feed.data.toList.drop 22 = dktX12_feed_1 := dk_seg dksX12_feed_0 22 rfl rfl
theorem dksX12_feed_2 : cX12_feed.data.toList.drop 46 = dktX12_feed_2 := dk_seg dksX12_feed_1 24 rfl rfl
theorem dX12_feed_0 : decode cX12_feed 0 = .ok (.aload_n 0, 1) := dk_42 (dk_at dksX12_feed_0 0 rfl rfl)
theorem dX12_feed_1 : decode cX12_feed 1 = .ok (.getfield 190, 3) := dk_180 0 190 (dk_at dksX12_feed_0 1 rfl rfl)
theorem dX12_feed_4 : decode cX12_feed 4 = .ok (.bipush 20, 2) := dk_16 20 (dk_at dksX12_feed_0 4 rfl rfl)
theorem dX12_feed_6 : decode cX12_feed 6 = .ok (.iadd, 1) := dk_96 (dk_at dksX12_feed_0 6 rfl rfl)
theorem dX12_feed_7 : decode cX12_feed 7 = .ok (.sipush 2000, 3) := dk_17 7 208 (dk_at dksX12_feed_0 7 rfl rfl)
theorem dX12_feed_10 : decode cX12_feed 10 = .ok (.if_icmp .le 5, 3) := dk_164 0 5 (dk_at dksX12_feed_0 10 rfl rfl)
theorem dX12_feed_13 : decode cX12_feed 13 = .ok (.iconst (-1), 1) := dk_2 (dk_at dksX12_feed_0 13 rfl rfl)
theorem dX12_feed_14 : decode cX12_feed 14 = .ok (.ireturn, 1) := dk_172 (dk_at dksX12_feed_0 14 rfl rfl)
theorem dX12_feed_15 : decode cX12_feed 15 = .ok (.aload_n 0, 1) := dk_42 (dk_at dksX12_feed_0 15 rfl rfl)
theorem dX12_feed_16 : decode cX12_feed 16 = .ok (.iload_n 1, 1) := dk_27 (dk_at dksX12_feed_0 16 rfl rfl)
theorem dX12_feed_17 : decode cX12_feed 17 = .ok (.invokevirtual 193, 3) := dk_182 0 193 (dk_at dksX12_feed_0 17 rfl rfl)
theorem dX12_feed_20 : decode cX12_feed 20 = .ok (.aload_n 0, 1) := dk_42 (dk_at dksX12_feed_0 20 rfl rfl)
theorem dX12_feed_21 : decode cX12_feed 21 = .ok (.iload_n 2, 1) := dk_28 (dk_at dksX12_feed_0 21 rfl rfl)
theorem dX12_feed_22 : decode cX12_feed 22 = .ok (.invokevirtual 193, 3) := dk_182 0 193 (dk_at dksX12_feed_1 0 rfl rfl)
theorem dX12_feed_25 : decode cX12_feed 25 = .ok (.aload_n 0, 1) := dk_42 (dk_at dksX12_feed_1 3 rfl rfl)
theorem dX12_feed_26 : decode cX12_feed 26 = .ok (.iload_n 3, 1) := dk_29 (dk_at dksX12_feed_1 4 rfl rfl)
theorem dX12_feed_27 : decode cX12_feed 27 = .ok (.invokevirtual 193, 3) := dk_182 0 193 (dk_at dksX12_feed_1 5 rfl rfl)
theorem dX12_feed_30 : decode cX12_feed 30 = .ok (.aload_n 0, 1) := dk_42 (dk_at dksX12_feed_1 8 rfl rfl)
theorem dX12_feed_31 : decode cX12_feed 31 = .ok (.iload 4, 2) := dk_21 4 (dk_at dksX12_feed_1 9 rfl rfl)
theorem dX12_feed_33 : decode cX12_feed 33 = .ok (.invokevirtual 193, 3) := dk_182 0 193 (dk_at dksX12_feed_1 11 rfl rfl)
theorem dX12_feed_36 : decode cX12_feed 36 = .ok (.aload_n 0, 1) := dk_42 (dk_at dksX12_feed_1 14 rfl rfl)
theorem dX12_feed_37 : decode cX12_feed 37 = .ok (.iload 5, 2) := dk_21 5 (dk_at dksX12_feed_1 15 rfl rfl)
theorem dX12_feed_39 : decode cX12_feed 39 = .ok (.invokevirtual 193, 3) := dk_182 0 193 (dk_at dksX12_feed_1 17 rfl rfl)
theorem dX12_feed_42 : decode cX12_feed 42 = .ok (.aload_n 0, 1) := dk_42 (dk_at dksX12_feed_1 20 rfl rfl)
theorem dX12_feed_43 : decode cX12_feed 43 = .ok (.getfield 190, 3) := dk_180 0 190 (dk_at dksX12_feed_1 21 rfl rfl)
theorem dX12_feed_46 : decode cX12_feed 46 = .ok (.ireturn, 1) := dk_172 (dk_at dksX12_feed_2 0 rfl rfl)
abbrev cX12_put : ByteArray := prog_24_method_4_code
def yX12_put : MethodName := ⟨RX12, "put", "(I)V"⟩
def dkwX12_put_1 : List UInt8 := [180, 0, 190, 4, 96, 181, 0, 190, 132, 2, 248, 167, 255, 226, 177]
abbrev dktX12_put_1 : List UInt8 := dkwX12_put_1 ++ []
def dkwX12_put_0 : List UInt8 := [16, 24, 61, 28, 155, 0, 32, 42, 180, 0, 13, 42, 180, 0, 190, 27, 28, 122, 145, 84, 42, 89]
abbrev dktX12_put_0 : List UInt8 := dkwX12_put_0 ++ dktX12_put_1
theorem dksX12_put_0 : cX12_put.data.toList.drop 0 = dktX12_put_0 := by decide +kernel
theorem dksX12_put_1 : cX12_put.data.toList.drop 22 = dktX12_put_1 := dk_seg dksX12_put_0 22 rfl rfl
theorem dX12_put_0 : decode cX12_put 0 = .ok (.bipush 24, 2) := dk_16 24 (dk_at dksX12_put_0 0 rfl rfl)
theorem dX12_put_2 : decode cX12_put 2 = .ok (.istore_n 2, 1) := dk_61 (dk_at dksX12_put_0 2 rfl rfl)
theorem dX12_put_3 : decode cX12_put 3 = .ok (.iload_n 2, 1) := dk_28 (dk_at dksX12_put_0 3 rfl rfl)
theorem dX12_put_4 : decode cX12_put 4 = .ok (.ifCond .lt 32, 3) := dk_155 0 32 (dk_at dksX12_put_0 4 rfl rfl)
theorem dX12_put_7 : decode cX12_put 7 = .ok (.aload_n 0, 1) := dk_42 (dk_at dksX12_put_0 7 rfl rfl)
theorem dX12_put_8 : decode cX12_put 8 = .ok (.getfield 13, 3) := dk_180 0 13 (dk_at dksX12_put_0 8 rfl rfl)
theorem dX12_put_11 : decode cX12_put 11 = .ok (.aload_n 0, 1) := dk_42 (dk_at dksX12_put_0 11 rfl rfl)
theorem dX12_put_12 : decode cX12_put 12 = .ok (.getfield 190, 3) := dk_180 0 190 (dk_at dksX12_put_0 12 rfl rfl)
theorem dX12_put_15 : decode cX12_put 15 = .ok (.iload_n 1, 1) := dk_27 (dk_at dksX12_put_0 15 rfl rfl)
theorem dX12_put_16 : decode cX12_put 16 = .ok (.iload_n 2, 1) := dk_28 (dk_at dksX12_put_0 16 rfl rfl)
theorem dX12_put_17 : decode cX12_put 17 = .ok (.ishr, 1) := dk_122 (dk_at dksX12_put_0 17 rfl rfl)
theorem dX12_put_18 : decode cX12_put 18 = .ok (.i2b, 1) := dk_145 (dk_at dksX12_put_0 18 rfl rfl)
theorem dX12_put_19 : decode cX12_put 19 = .ok (.bastore, 1) := dk_84 (dk_at dksX12_put_0 19 rfl rfl)
theorem dX12_put_20 : decode cX12_put 20 = .ok (.aload_n 0, 1) := dk_42 (dk_at dksX12_put_0 20 rfl rfl)
theorem dX12_put_21 : decode cX12_put 21 = .ok (.dup, 1) := dk_89 (dk_at dksX12_put_0 21 rfl rfl)
theorem dX12_put_22 : decode cX12_put 22 = .ok (.getfield 190, 3) := dk_180 0 190 (dk_at dksX12_put_1 0 rfl rfl)
theorem dX12_put_25 : decode cX12_put 25 = .ok (.iconst 1, 1) := dk_4 (dk_at dksX12_put_1 3 rfl rfl)
theorem dX12_put_26 : decode cX12_put 26 = .ok (.iadd, 1) := dk_96 (dk_at dksX12_put_1 4 rfl rfl)
theorem dX12_put_27 : decode cX12_put 27 = .ok (.putfield 190, 3) := dk_181 0 190 (dk_at dksX12_put_1 5 rfl rfl)
theorem dX12_put_30 : decode cX12_put 30 = .ok (.iinc 2 (-8), 3) := dk_132 2 248 (dk_at dksX12_put_1 8 rfl rfl)
theorem dX12_put_33 : decode cX12_put 33 = .ok (.goto (-30), 3) := dk_167 255 226 (dk_at dksX12_put_1 11 rfl rfl)
theorem dX12_put_36 : decode cX12_put 36 = .ok (.return_, 1) := dk_177 (dk_at dksX12_put_1 14 rfl rfl)
abbrev cX12_back : ByteArray := prog_24_method_5_code
def yX12_back : MethodName := ⟨RX12, "back", "(I)I"⟩
def dkwX12_back_1 : List UInt8 := [42, 180, 0, 190, 172]
abbrev dktX12_back_1 : List UInt8 := dkwX12_back_1 ++ []
def dkwX12_back_0 : List UInt8 := [27, 155, 0, 11, 27, 42, 180, 0, 190, 164, 0, 5, 2, 172, 42, 89, 180, 0, 190, 27, 100, 181, 0, 190]
abbrev dktX12_back_0 : List UInt8 := dkwX12_back_0 ++ dktX12_back_1
theorem dksX12_back_0 : cX12_back.data.toList.drop 0 = dktX12_back_0 := by decide +kernel
theorem dksX12_back_1 : cX12_back.data.toList.drop 24 = dktX12_back_1 := dk_seg dksX12_back_0 24 rfl rfl
theorem dX12_back_0 : decode cX12_back 0 = .ok (.iload_n 1, 1) := dk_27 (dk_at dksX12_back_0 0 rfl rfl)
theorem dX12_back_1 : decode cX12_back 1 = .ok (.ifCond .lt 11, 3) := dk_155 0 11 (dk_at dksX12_back_0 1 rfl rfl)
theorem dX12_back_4 : decode cX12_back 4 = .ok (.iload_n 1, 1) := dk_27 (dk_at dksX12_back_0 4 rfl rfl)
theorem dX12_back_5 : decode cX12_back 5 = .ok (.aload_n 0, 1) := dk_42 (dk_at dksX12_back_0 5 rfl rfl)
theorem dX12_back_6 : decode cX12_back 6 = .ok (.getfield 190, 3) := dk_180 0 190 (dk_at dksX12_back_0 6 rfl rfl)
theorem dX12_back_9 : decode cX12_back 9 = .ok (.if_icmp .le 5, 3) := dk_164 0 5 (dk_at dksX12_back_0 9 rfl rfl)
theorem dX12_back_12 : decode cX12_back 12 = .ok (.iconst (-1), 1) := dk_2 (dk_at dksX12_back_0 12 rfl rfl)
theorem dX12_back_13 : decode cX12_back 13 = .ok (.ireturn, 1) := dk_172 (dk_at dksX12_back_0 13 rfl rfl)
theorem dX12_back_14 : decode cX12_back 14 = .ok (.aload_n 0, 1) := dk_42 (dk_at dksX12_back_0 14 rfl rfl)
theorem dX12_back_15 : decode cX12_back 15 = .ok (.dup, 1) := dk_89 (dk_at dksX12_back_0 15 rfl rfl)
theorem dX12_back_16 : decode cX12_back 16 = .ok (.getfield 190, 3) := dk_180 0 190 (dk_at dksX12_back_0 16 rfl rfl)
theorem dX12_back_19 : decode cX12_back 19 = .ok (.iload_n 1, 1) := dk_27 (dk_at dksX12_back_0 19 rfl rfl)
theorem dX12_back_20 : decode cX12_back 20 = .ok (.isub, 1) := dk_100 (dk_at dksX12_back_0 20 rfl rfl)
theorem dX12_back_21 : decode cX12_back 21 = .ok (.putfield 190, 3) := dk_181 0 190 (dk_at dksX12_back_0 21 rfl rfl)
theorem dX12_back_24 : decode cX12_back 24 = .ok (.aload_n 0, 1) := dk_42 (dk_at dksX12_back_1 0 rfl rfl)
theorem dX12_back_25 : decode cX12_back 25 = .ok (.getfield 190, 3) := dk_180 0 190 (dk_at dksX12_back_1 1 rfl rfl)
theorem dX12_back_28 : decode cX12_back 28 = .ok (.ireturn, 1) := dk_172 (dk_at dksX12_back_1 4 rfl rfl)
abbrev cX12_read : ByteArray := prog_24_method_20_code
def yX12_read : MethodName := ⟨RX12, "read", "()I"⟩
def dkwX12_read_10 : List UInt8 := [132, 1, 1, 167, 255, 241, 3, 172]
abbrev dktX12_read_10 : List UInt8 := dkwX12_read_10 ++ []
def dkwX12_read_9 : List UInt8 := [181, 1, 19, 42, 3, 181, 1, 22, 3, 60, 27, 6, 162, 0, 16, 42, 180, 0, 170, 27, 3, 84]
abbrev dktX12_read_9 : List UInt8 := dkwX12_read_9 ++ dktX12_read_10
def dkwX12_read_8 : List UInt8 := [180, 0, 236, 172, 42, 42, 180, 1, 4, 181, 1, 1, 42, 182, 0, 184, 42, 182, 0, 187, 42, 3]
abbrev dktX12_read_8 : List UInt8 := dkwX12_read_8 ++ dktX12_read_9
def dkwX12_read_7 : List UInt8 := [2, 181, 0, 37, 42, 180, 0, 227, 158, 0, 8, 42, 180, 0, 227, 172, 42, 180, 0, 236, 158, 0, 8, 42]
abbrev dktX12_read_7 : List UInt8 := dkwX12_read_7 ++ dktX12_read_8
def dkwX12_read_6 : List UInt8 := [158, 0, 10, 42, 180, 0, 233, 167, 0, 18, 42, 180, 0, 236, 158, 0, 10, 42, 180, 0, 239, 167, 0, 4]
abbrev dktX12_read_6 : List UInt8 := dkwX12_read_6 ++ dktX12_read_7
def dkwX12_read_5 : List UInt8 := [154, 0, 18, 42, 3, 182, 0, 245, 154, 0, 10, 42, 182, 1, 16, 167, 255, 237, 42, 42, 180, 0, 227]
abbrev dktX12_read_5 : List UInt8 := dkwX12_read_5 ++ dktX12_read_6
def dkwX12_read_4 : List UInt8 := [180, 1, 4, 104, 181, 1, 10, 42, 17, 1, 164, 42, 180, 1, 4, 104, 181, 1, 13, 42, 180, 0, 227]
abbrev dktX12_read_4 : List UInt8 := dkwX12_read_4 ++ dktX12_read_5
def dkwX12_read_3 : List UInt8 := [100, 181, 1, 4, 42, 3, 181, 1, 7, 42, 42, 180, 1, 4, 182, 0, 176, 42, 17, 0, 130, 42]
abbrev dktX12_read_3 : List UInt8 := dkwX12_read_3 ++ dktX12_read_4
def dkwX12_read_2 : List UInt8 := [181, 0, 230, 42, 3, 181, 0, 254, 42, 3, 181, 0, 227, 42, 3, 181, 0, 236, 42, 4, 42, 180, 1, 1]
abbrev dktX12_read_2 : List UInt8 := dkwX12_read_2 ++ dktX12_read_3
def dkwX12_read_1 : List UInt8 := [180, 0, 13, 27, 51, 84, 132, 1, 1, 167, 255, 233, 42, 3, 181, 0, 190, 42, 182, 0, 251, 42, 3]
abbrev dktX12_read_1 : List UInt8 := dkwX12_read_1 ++ dktX12_read_2
def dkwX12_read_0 : List UInt8 := [42, 42, 180, 0, 190, 181, 0, 196, 3, 60, 27, 42, 180, 0, 196, 162, 0, 21, 42, 180, 0, 17, 27, 42]
abbrev dktX12_read_0 : List UInt8 := dkwX12_read_0 ++ dktX12_read_1
theorem dksX12_read_0 : cX12_read.data.toList.drop 0 = dktX12_read_0 := by decide +kernel
theorem dksX12_read_1 : cX12_read.data.toList.drop 24 = dktX12_read_1 := dk_seg dksX12_read_0 24 rfl rfl
theorem dksX12_read_2 : cX12_read.data.toList.drop 47 = dktX12_read_2 := dk_seg dksX12_read_1 23 rfl rfl
theorem dksX12_read_3 : cX12_read.data.toList.drop 71 = dktX12_read_3 := dk_seg dksX12_read_2 24 rfl rfl
theorem dksX12_read_4 : cX12_read.data.toList.drop 93 = dktX12_read_4 := dk_seg dksX12_read_3 22 rfl rfl
theorem dksX12_read_5 : cX12_read.data.toList.drop 116 = dktX12_read_5 := dk_seg dksX12_read_4 23 rfl rfl
theorem dksX12_read_6 : cX12_read.data.toList.drop 139 = dktX12_read_6 := dk_seg dksX12_read_5 23 rfl rfl
theorem dksX12_read_7 : cX12_read.data.toList.drop 163 = dktX12_read_7 := dk_seg dksX12_read_6 24 rfl rfl
theorem dksX12_read_8 : cX12_read.data.toList.drop 187 = dktX12_read_8 := dk_seg dksX12_read_7 24 rfl rfl
theorem dksX12_read_9 : cX12_read.data.toList.drop 209 = dktX12_read_9 := dk_seg dksX12_read_8 22 rfl rfl
theorem dksX12_read_10 : cX12_read.data.toList.drop 231 = dktX12_read_10 := dk_seg dksX12_read_9 22 rfl rfl
theorem dX12_read_0 : decode cX12_read 0 = .ok (.aload_n 0, 1) := dk_42 (dk_at dksX12_read_0 0 rfl rfl)
theorem dX12_read_1 : decode cX12_read 1 = .ok (.aload_n 0, 1) := dk_42 (dk_at dksX12_read_0 1 rfl rfl)
theorem dX12_read_2 : decode cX12_read 2 = .ok (.getfield 190, 3) := dk_180 0 190 (dk_at dksX12_read_0 2 rfl rfl)
theorem dX12_read_5 : decode cX12_read 5 = .ok (.putfield 196, 3) := dk_181 0 196 (dk_at dksX12_read_0 5 rfl rfl)
theorem dX12_read_8 : decode cX12_read 8 = .ok (.iconst 0, 1) := dk_3 (dk_at dksX12_read_0 8 rfl rfl)
theorem dX12_read_9 : decode cX12_read 9 = .ok (.istore_n 1, 1) := dk_60 (dk_at dksX12_read_0 9 rfl rfl)
theorem dX12_read_10 : decode cX12_read 10 = .ok (.iload_n 1, 1) := dk_27 (dk_at dksX12_read_0 10 rfl rfl)
theorem dX12_read_11 : decode cX12_read 11 = .ok (.aload_n 0, 1) := dk_42 (dk_at dksX12_read_0 11 rfl rfl)
theorem dX12_read_12 : decode cX12_read 12 = .ok (.getfield 196, 3) := dk_180 0 196 (dk_at dksX12_read_0 12 rfl rfl)
theorem dX12_read_15 : decode cX12_read 15 = .ok (.if_icmp .ge 21, 3) := dk_162 0 21 (dk_at dksX12_read_0 15 rfl rfl)
theorem dX12_read_18 : decode cX12_read 18 = .ok (.aload_n 0, 1) := dk_42 (dk_at dksX12_read_0 18 rfl rfl)
theorem dX12_read_19 : decode cX12_read 19 = .ok (.getfield 17, 3) := dk_180 0 17 (dk_at dksX12_read_0 19 rfl rfl)
theorem dX12_read_22 : decode cX12_read 22 = .ok (.iload_n 1, 1) := dk_27 (dk_at dksX12_read_0 22 rfl rfl)
theorem dX12_read_23 : decode cX12_read 23 = .ok (.aload_n 0, 1) := dk_42 (dk_at dksX12_read_0 23 rfl rfl)
theorem dX12_read_24 : decode cX12_read 24 = .ok (.getfield 13, 3) := dk_180 0 13 (dk_at dksX12_read_1 0 rfl rfl)
theorem dX12_read_27 : decode cX12_read 27 = .ok (.iload_n 1, 1) := dk_27 (dk_at dksX12_read_1 3 rfl rfl)
theorem dX12_read_28 : decode cX12_read 28 = .ok (.baload, 1) := dk_51 (dk_at dksX12_read_1 4 rfl rfl)
theorem dX12_read_29 : decode cX12_read 29 = .ok (.bastore, 1) := dk_84 (dk_at dksX12_read_1 5 rfl rfl)
theorem dX12_read_30 : decode cX12_read 30 = .ok (.iinc 1 1, 3) := dk_132 1 1 (dk_at dksX12_read_1 6 rfl rfl)
theorem dX12_read_33 : decode cX12_read 33 = .ok (.goto (-23), 3) := dk_167 255 233 (dk_at dksX12_read_1 9 rfl rfl)
theorem dX12_read_36 : decode cX12_read 36 = .ok (.aload_n 0, 1) := dk_42 (dk_at dksX12_read_1 12 rfl rfl)
theorem dX12_read_37 : decode cX12_read 37 = .ok (.iconst 0, 1) := dk_3 (dk_at dksX12_read_1 13 rfl rfl)
theorem dX12_read_38 : decode cX12_read 38 = .ok (.putfield 190, 3) := dk_181 0 190 (dk_at dksX12_read_1 14 rfl rfl)
theorem dX12_read_41 : decode cX12_read 41 = .ok (.aload_n 0, 1) := dk_42 (dk_at dksX12_read_1 17 rfl rfl)
theorem dX12_read_42 : decode cX12_read 42 = .ok (.invokevirtual 251, 3) := dk_182 0 251 (dk_at dksX12_read_1 18 rfl rfl)
theorem dX12_read_45 : decode cX12_read 45 = .ok (.aload_n 0, 1) := dk_42 (dk_at dksX12_read_1 21 rfl rfl)
theorem dX12_read_46 : decode cX12_read 46 = .ok (.iconst 0, 1) := dk_3 (dk_at dksX12_read_1 22 rfl rfl)
theorem dX12_read_47 : decode cX12_read 47 = .ok (.putfield 230, 3) := dk_181 0 230 (dk_at dksX12_read_2 0 rfl rfl)
theorem dX12_read_50 : decode cX12_read 50 = .ok (.aload_n 0, 1) := dk_42 (dk_at dksX12_read_2 3 rfl rfl)
theorem dX12_read_51 : decode cX12_read 51 = .ok (.iconst 0, 1) := dk_3 (dk_at dksX12_read_2 4 rfl rfl)
theorem dX12_read_52 : decode cX12_read 52 = .ok (.putfield 254, 3) := dk_181 0 254 (dk_at dksX12_read_2 5 rfl rfl)
theorem dX12_read_55 : decode cX12_read 55 = .ok (.aload_n 0, 1) := dk_42 (dk_at dksX12_read_2 8 rfl rfl)
theorem dX12_read_56 : decode cX12_read 56 = .ok (.iconst 0, 1) := dk_3 (dk_at dksX12_read_2 9 rfl rfl)
theorem dX12_read_57 : decode cX12_read 57 = .ok (.putfield 227, 3) := dk_181 0 227 (dk_at dksX12_read_2 10 rfl rfl)
theorem dX12_read_60 : decode cX12_read 60 = .ok (.aload_n 0, 1) := dk_42 (dk_at dksX12_read_2 13 rfl rfl)
theorem dX12_read_61 : decode cX12_read 61 = .ok (.iconst 0, 1) := dk_3 (dk_at dksX12_read_2 14 rfl rfl)
theorem dX12_read_62 : decode cX12_read 62 = .ok (.putfield 236, 3) := dk_181 0 236 (dk_at dksX12_read_2 15 rfl rfl)
theorem dX12_read_65 : decode cX12_read 65 = .ok (.aload_n 0, 1) := dk_42 (dk_at dksX12_read_2 18 rfl rfl)
theorem dX12_read_66 : decode cX12_read 66 = .ok (.iconst 1, 1) := dk_4 (dk_at dksX12_read_2 19 rfl rfl)
theorem dX12_read_67 : decode cX12_read 67 = .ok (.aload_n 0, 1) := dk_42 (dk_at dksX12_read_2 20 rfl rfl)
theorem dX12_read_68 : decode cX12_read 68 = .ok (.getfield 257, 3) := dk_180 1 1 (dk_at dksX12_read_2 21 rfl rfl)
theorem dX12_read_71 : decode cX12_read 71 = .ok (.isub, 1) := dk_100 (dk_at dksX12_read_3 0 rfl rfl)
theorem dX12_read_72 : decode cX12_read 72 = .ok (.putfield 260, 3) := dk_181 1 4 (dk_at dksX12_read_3 1 rfl rfl)
theorem dX12_read_75 : decode cX12_read 75 = .ok (.aload_n 0, 1) := dk_42 (dk_at dksX12_read_3 4 rfl rfl)
theorem dX12_read_76 : decode cX12_read 76 = .ok (.iconst 0, 1) := dk_3 (dk_at dksX12_read_3 5 rfl rfl)
theorem dX12_read_77 : decode cX12_read 77 = .ok (.putfield 263, 3) := dk_181 1 7 (dk_at dksX12_read_3 6 rfl rfl)
theorem dX12_read_80 : decode cX12_read 80 = .ok (.aload_n 0, 1) := dk_42 (dk_at dksX12_read_3 9 rfl rfl)
theorem dX12_read_81 : decode cX12_read 81 = .ok (.aload_n 0, 1) := dk_42 (dk_at dksX12_read_3 10 rfl rfl)
theorem dX12_read_82 : decode cX12_read 82 = .ok (.getfield 260, 3) := dk_180 1 4 (dk_at dksX12_read_3 11 rfl rfl)
theorem dX12_read_85 : decode cX12_read 85 = .ok (.invokevirtual 176, 3) := dk_182 0 176 (dk_at dksX12_read_3 14 rfl rfl)
theorem dX12_read_88 : decode cX12_read 88 = .ok (.aload_n 0, 1) := dk_42 (dk_at dksX12_read_3 17 rfl rfl)
theorem dX12_read_89 : decode cX12_read 89 = .ok (.sipush 130, 3) := dk_17 0 130 (dk_at dksX12_read_3 18 rfl rfl)
theorem dX12_read_92 : decode cX12_read 92 = .ok (.aload_n 0, 1) := dk_42 (dk_at dksX12_read_3 21 rfl rfl)
theorem dX12_read_93 : decode cX12_read 93 = .ok (.getfield 260, 3) := dk_180 1 4 (dk_at dksX12_read_4 0 rfl rfl)
theorem dX12_read_96 : decode cX12_read 96 = .ok (.imul, 1) := dk_104 (dk_at dksX12_read_4 3 rfl rfl)
theorem dX12_read_97 : decode cX12_read 97 = .ok (.putfield 266, 3) := dk_181 1 10 (dk_at dksX12_read_4 4 rfl rfl)
theorem dX12_read_100 : decode cX12_read 100 = .ok (.aload_n 0, 1) := dk_42 (dk_at dksX12_read_4 7 rfl rfl)
theorem dX12_read_101 : decode cX12_read 101 = .ok (.sipush 420, 3) := dk_17 1 164 (dk_at dksX12_read_4 8 rfl rfl)
theorem dX12_read_104 : decode cX12_read 104 = .ok (.aload_n 0, 1) := dk_42 (dk_at dksX12_read_4 11 rfl rfl)
theorem dX12_read_105 : decode cX12_read 105 = .ok (.getfield 260, 3) := dk_180 1 4 (dk_at dksX12_read_4 12 rfl rfl)
theorem dX12_read_108 : decode cX12_read 108 = .ok (.imul, 1) := dk_104 (dk_at dksX12_read_4 15 rfl rfl)
theorem dX12_read_109 : decode cX12_read 109 = .ok (.putfield 269, 3) := dk_181 1 13 (dk_at dksX12_read_4 16 rfl rfl)
theorem dX12_read_112 : decode cX12_read 112 = .ok (.aload_n 0, 1) := dk_42 (dk_at dksX12_read_4 19 rfl rfl)
theorem dX12_read_113 : decode cX12_read 113 = .ok (.getfield 227, 3) := dk_180 0 227 (dk_at dksX12_read_4 20 rfl rfl)
theorem dX12_read_116 : decode cX12_read 116 = .ok (.ifCond .ne 18, 3) := dk_154 0 18 (dk_at dksX12_read_5 0 rfl rfl)
theorem dX12_read_119 : decode cX12_read 119 = .ok (.aload_n 0, 1) := dk_42 (dk_at dksX12_read_5 3 rfl rfl)
theorem dX12_read_120 : decode cX12_read 120 = .ok (.iconst 0, 1) := dk_3 (dk_at dksX12_read_5 4 rfl rfl)
theorem dX12_read_121 : decode cX12_read 121 = .ok (.invokevirtual 245, 3) := dk_182 0 245 (dk_at dksX12_read_5 5 rfl rfl)
theorem dX12_read_124 : decode cX12_read 124 = .ok (.ifCond .ne 10, 3) := dk_154 0 10 (dk_at dksX12_read_5 8 rfl rfl)
theorem dX12_read_127 : decode cX12_read 127 = .ok (.aload_n 0, 1) := dk_42 (dk_at dksX12_read_5 11 rfl rfl)
theorem dX12_read_128 : decode cX12_read 128 = .ok (.invokevirtual 272, 3) := dk_182 1 16 (dk_at dksX12_read_5 12 rfl rfl)
theorem dX12_read_131 : decode cX12_read 131 = .ok (.goto (-19), 3) := dk_167 255 237 (dk_at dksX12_read_5 15 rfl rfl)
theorem dX12_read_134 : decode cX12_read 134 = .ok (.aload_n 0, 1) := dk_42 (dk_at dksX12_read_5 18 rfl rfl)
theorem dX12_read_135 : decode cX12_read 135 = .ok (.aload_n 0, 1) := dk_42 (dk_at dksX12_read_5 19 rfl rfl)
theorem dX12_read_136 : decode cX12_read 136 = .ok (.getfield 227, 3) := dk_180 0 227 (dk_at dksX12_read_5 20 rfl rfl)
theorem dX12_read_139 : decode cX12_read 139 = .ok (.ifCond .le 10, 3) := dk_158 0 10 (dk_at dksX12_read_6 0 rfl rfl)
theorem dX12_read_142 : decode cX12_read 142 = .ok (.aload_n 0, 1) := dk_42 (dk_at dksX12_read_6 3 rfl rfl)
theorem dX12_read_143 : decode cX12_read 143 = .ok (.getfield 233, 3) := dk_180 0 233 (dk_at dksX12_read_6 4 rfl rfl)
theorem dX12_read_146 : decode cX12_read 146 = .ok (.goto 18, 3) := dk_167 0 18 (dk_at dksX12_read_6 7 rfl rfl)
theorem dX12_read_149 : decode cX12_read 149 = .ok (.aload_n 0, 1) := dk_42 (dk_at dksX12_read_6 10 rfl rfl)
theorem dX12_read_150 : decode cX12_read 150 = .ok (.getfield 236, 3) := dk_180 0 236 (dk_at dksX12_read_6 11 rfl rfl)
theorem dX12_read_153 : decode cX12_read 153 = .ok (.ifCond .le 10, 3) := dk_158 0 10 (dk_at dksX12_read_6 14 rfl rfl)
theorem dX12_read_156 : decode cX12_read 156 = .ok (.aload_n 0, 1) := dk_42 (dk_at dksX12_read_6 17 rfl rfl)
theorem dX12_read_157 : decode cX12_read 157 = .ok (.getfield 239, 3) := dk_180 0 239 (dk_at dksX12_read_6 18 rfl rfl)
theorem dX12_read_160 : decode cX12_read 160 = .ok (.goto 4, 3) := dk_167 0 4 (dk_at dksX12_read_6 21 rfl rfl)
theorem dX12_read_163 : decode cX12_read 163 = .ok (.iconst (-1), 1) := dk_2 (dk_at dksX12_read_7 0 rfl rfl)
theorem dX12_read_164 : decode cX12_read 164 = .ok (.putfield 37, 3) := dk_181 0 37 (dk_at dksX12_read_7 1 rfl rfl)
theorem dX12_read_167 : decode cX12_read 167 = .ok (.aload_n 0, 1) := dk_42 (dk_at dksX12_read_7 4 rfl rfl)
theorem dX12_read_168 : decode cX12_read 168 = .ok (.getfield 227, 3) := dk_180 0 227 (dk_at dksX12_read_7 5 rfl rfl)
theorem dX12_read_171 : decode cX12_read 171 = .ok (.ifCond .le 8, 3) := dk_158 0 8 (dk_at dksX12_read_7 8 rfl rfl)
theorem dX12_read_174 : decode cX12_read 174 = .ok (.aload_n 0, 1) := dk_42 (dk_at dksX12_read_7 11 rfl rfl)
theorem dX12_read_175 : decode cX12_read 175 = .ok (.getfield 227, 3) := dk_180 0 227 (dk_at dksX12_read_7 12 rfl rfl)
theorem dX12_read_178 : decode cX12_read 178 = .ok (.ireturn, 1) := dk_172 (dk_at dksX12_read_7 15 rfl rfl)
theorem dX12_read_179 : decode cX12_read 179 = .ok (.aload_n 0, 1) := dk_42 (dk_at dksX12_read_7 16 rfl rfl)
theorem dX12_read_180 : decode cX12_read 180 = .ok (.getfield 236, 3) := dk_180 0 236 (dk_at dksX12_read_7 17 rfl rfl)
theorem dX12_read_183 : decode cX12_read 183 = .ok (.ifCond .le 8, 3) := dk_158 0 8 (dk_at dksX12_read_7 20 rfl rfl)
theorem dX12_read_186 : decode cX12_read 186 = .ok (.aload_n 0, 1) := dk_42 (dk_at dksX12_read_7 23 rfl rfl)
theorem dX12_read_187 : decode cX12_read 187 = .ok (.getfield 236, 3) := dk_180 0 236 (dk_at dksX12_read_8 0 rfl rfl)
theorem dX12_read_190 : decode cX12_read 190 = .ok (.ireturn, 1) := dk_172 (dk_at dksX12_read_8 3 rfl rfl)
theorem dX12_read_191 : decode cX12_read 191 = .ok (.aload_n 0, 1) := dk_42 (dk_at dksX12_read_8 4 rfl rfl)
theorem dX12_read_192 : decode cX12_read 192 = .ok (.aload_n 0, 1) := dk_42 (dk_at dksX12_read_8 5 rfl rfl)
theorem dX12_read_193 : decode cX12_read 193 = .ok (.getfield 260, 3) := dk_180 1 4 (dk_at dksX12_read_8 6 rfl rfl)
theorem dX12_read_196 : decode cX12_read 196 = .ok (.putfield 257, 3) := dk_181 1 1 (dk_at dksX12_read_8 9 rfl rfl)
theorem dX12_read_199 : decode cX12_read 199 = .ok (.aload_n 0, 1) := dk_42 (dk_at dksX12_read_8 12 rfl rfl)
theorem dX12_read_200 : decode cX12_read 200 = .ok (.invokevirtual 184, 3) := dk_182 0 184 (dk_at dksX12_read_8 13 rfl rfl)
theorem dX12_read_203 : decode cX12_read 203 = .ok (.aload_n 0, 1) := dk_42 (dk_at dksX12_read_8 16 rfl rfl)
theorem dX12_read_204 : decode cX12_read 204 = .ok (.invokevirtual 187, 3) := dk_182 0 187 (dk_at dksX12_read_8 17 rfl rfl)
theorem dX12_read_207 : decode cX12_read 207 = .ok (.aload_n 0, 1) := dk_42 (dk_at dksX12_read_8 20 rfl rfl)
theorem dX12_read_208 : decode cX12_read 208 = .ok (.iconst 0, 1) := dk_3 (dk_at dksX12_read_8 21 rfl rfl)
theorem dX12_read_209 : decode cX12_read 209 = .ok (.putfield 275, 3) := dk_181 1 19 (dk_at dksX12_read_9 0 rfl rfl)
theorem dX12_read_212 : decode cX12_read 212 = .ok (.aload_n 0, 1) := dk_42 (dk_at dksX12_read_9 3 rfl rfl)
theorem dX12_read_213 : decode cX12_read 213 = .ok (.iconst 0, 1) := dk_3 (dk_at dksX12_read_9 4 rfl rfl)
theorem dX12_read_214 : decode cX12_read 214 = .ok (.putfield 278, 3) := dk_181 1 22 (dk_at dksX12_read_9 5 rfl rfl)
theorem dX12_read_217 : decode cX12_read 217 = .ok (.iconst 0, 1) := dk_3 (dk_at dksX12_read_9 8 rfl rfl)
theorem dX12_read_218 : decode cX12_read 218 = .ok (.istore_n 1, 1) := dk_60 (dk_at dksX12_read_9 9 rfl rfl)
theorem dX12_read_219 : decode cX12_read 219 = .ok (.iload_n 1, 1) := dk_27 (dk_at dksX12_read_9 10 rfl rfl)
theorem dX12_read_220 : decode cX12_read 220 = .ok (.iconst 3, 1) := dk_6 (dk_at dksX12_read_9 11 rfl rfl)
theorem dX12_read_221 : decode cX12_read 221 = .ok (.if_icmp .ge 16, 3) := dk_162 0 16 (dk_at dksX12_read_9 12 rfl rfl)
theorem dX12_read_224 : decode cX12_read 224 = .ok (.aload_n 0, 1) := dk_42 (dk_at dksX12_read_9 15 rfl rfl)
theorem dX12_read_225 : decode cX12_read 225 = .ok (.getfield 170, 3) := dk_180 0 170 (dk_at dksX12_read_9 16 rfl rfl)
theorem dX12_read_228 : decode cX12_read 228 = .ok (.iload_n 1, 1) := dk_27 (dk_at dksX12_read_9 19 rfl rfl)
theorem dX12_read_229 : decode cX12_read 229 = .ok (.iconst 0, 1) := dk_3 (dk_at dksX12_read_9 20 rfl rfl)
theorem dX12_read_230 : decode cX12_read 230 = .ok (.bastore, 1) := dk_84 (dk_at dksX12_read_9 21 rfl rfl)
theorem dX12_read_231 : decode cX12_read 231 = .ok (.iinc 1 1, 3) := dk_132 1 1 (dk_at dksX12_read_10 0 rfl rfl)
theorem dX12_read_234 : decode cX12_read 234 = .ok (.goto (-15), 3) := dk_167 255 241 (dk_at dksX12_read_10 3 rfl rfl)
theorem dX12_read_237 : decode cX12_read 237 = .ok (.iconst 0, 1) := dk_3 (dk_at dksX12_read_10 6 rfl rfl)
theorem dX12_read_238 : decode cX12_read 238 = .ok (.ireturn, 1) := dk_172 (dk_at dksX12_read_10 7 rfl rfl)
abbrev cX12_cut : ByteArray := prog_24_method_12_code
def yX12_cut : MethodName := ⟨RX12, "cut", "()V"⟩
def dkwX12_cut_12 : List UInt8 := [4, 96, 182, 0, 208, 182, 0, 223, 96, 60, 167, 254, 228, 177]
abbrev dktX12_cut_12 : List UInt8 := dkwX12_cut_12 ++ []
def dkwX12_cut_11 : List UInt8 := [167, 0, 4, 5, 27, 21, 4, 9, 182, 0, 212, 27, 29, 96, 60, 167, 0, 19, 27, 42, 27, 28, 42, 27]
abbrev dktX12_cut_11 : List UInt8 := dkwX12_cut_11 ++ dktX12_cut_12
def dkwX12_cut_10 : List UInt8 := [96, 182, 0, 208, 96, 16, 48, 100, 54, 4, 132, 3, 1, 167, 255, 217, 42, 29, 7, 164, 0, 7, 6]
abbrev dktX12_cut_10 : List UInt8 := dkwX12_cut_10 ++ dktX12_cut_11
def dkwX12_cut_9 : List UInt8 := [29, 96, 182, 0, 208, 184, 0, 220, 153, 0, 32, 29, 7, 162, 0, 21, 16, 10, 21, 4, 104, 42, 27, 29]
abbrev dktX12_cut_9 : List UInt8 := dkwX12_cut_9 ++ dktX12_cut_10
def dkwX12_cut_8 : List UInt8 := [182, 0, 212, 27, 29, 96, 60, 167, 0, 98, 28, 184, 0, 220, 153, 0, 75, 3, 62, 3, 54, 4, 42, 27]
abbrev dktX12_cut_8 : List UInt8 := dkwX12_cut_8 ++ dktX12_cut_9
def dkwX12_cut_7 : List UInt8 := [154, 0, 10, 16, 20, 21, 7, 96, 54, 6, 132, 7, 1, 167, 255, 226, 42, 21, 6, 27, 3, 22, 4]
abbrev dktX12_cut_7 : List UInt8 := dkwX12_cut_7 ++ dktX12_cut_8
def dkwX12_cut_6 : List UInt8 := [163, 0, 39, 3, 54, 7, 21, 7, 16, 20, 162, 0, 29, 42, 180, 0, 34, 21, 7, 47, 22, 4, 148]
abbrev dktX12_cut_6 : List UInt8 := dkwX12_cut_6 ++ dktX12_cut_7
def dkwX12_cut_5 : List UInt8 := [55, 4, 132, 3, 1, 167, 255, 220, 29, 16, 8, 164, 0, 7, 6, 167, 0, 4, 4, 54, 6, 29, 16, 7]
abbrev dktX12_cut_5 : List UInt8 := dkwX12_cut_5 ++ dktX12_cut_6
def dkwX12_cut_4 : List UInt8 := [184, 0, 216, 153, 0, 29, 29, 16, 8, 162, 0, 17, 22, 4, 42, 27, 29, 96, 182, 0, 208, 184, 0, 201]
abbrev dktX12_cut_4 : List UInt8 := dkwX12_cut_4 ++ dktX12_cut_5
def dkwX12_cut_3 : List UInt8 := [167, 0, 221, 28, 184, 0, 216, 153, 0, 119, 3, 62, 9, 55, 4, 42, 27, 29, 96, 182, 0, 208]
abbrev dktX12_cut_3 : List UInt8 := dkwX12_cut_3 ++ dktX12_cut_4
def dkwX12_cut_2 : List UInt8 := [159, 0, 21, 28, 16, 10, 159, 0, 15, 28, 16, 13, 159, 0, 9, 28, 16, 32, 160, 0, 9, 132, 1, 1]
abbrev dktX12_cut_2 : List UInt8 := dkwX12_cut_2 ++ dktX12_cut_3
def dkwX12_cut_1 : List UInt8 := [42, 180, 0, 196, 161, 0, 15, 42, 3, 42, 180, 0, 196, 3, 9, 182, 0, 212, 177, 28, 16, 9]
abbrev dktX12_cut_1 : List UInt8 := dkwX12_cut_1 ++ dktX12_cut_2
def dkwX12_cut_0 : List UInt8 := [42, 3, 181, 0, 205, 3, 60, 42, 180, 0, 205, 17, 1, 144, 163, 1, 24, 42, 27, 182, 0, 208, 61, 27]
abbrev dktX12_cut_0 : List UInt8 := dkwX12_cut_0 ++ dktX12_cut_1
theorem dksX12_cut_0 : cX12_cut.data.toList.drop 0 = dktX12_cut_0 := by decide +kernel
theorem dksX12_cut_1 : cX12_cut.data.toList.drop 24 = dktX12_cut_1 := dk_seg dksX12_cut_0 24 rfl rfl
theorem dksX12_cut_2 : cX12_cut.data.toList.drop 46 = dktX12_cut_2 := dk_seg dksX12_cut_1 22 rfl rfl
theorem dksX12_cut_3 : cX12_cut.data.toList.drop 70 = dktX12_cut_3 := dk_seg dksX12_cut_2 24 rfl rfl
theorem dksX12_cut_4 : cX12_cut.data.toList.drop 92 = dktX12_cut_4 := dk_seg dksX12_cut_3 22 rfl rfl
theorem dksX12_cut_5 : cX12_cut.data.toList.drop 116 = dktX12_cut_5 := dk_seg dksX12_cut_4 24 rfl rfl
theorem dksX12_cut_6 : cX12_cut.data.toList.drop 140 = dktX12_cut_6 := dk_seg dksX12_cut_5 24 rfl rfl
theorem dksX12_cut_7 : cX12_cut.data.toList.drop 163 = dktX12_cut_7 := dk_seg dksX12_cut_6 23 rfl rfl
theorem dksX12_cut_8 : cX12_cut.data.toList.drop 186 = dktX12_cut_8 := dk_seg dksX12_cut_7 23 rfl rfl
theorem dksX12_cut_9 : cX12_cut.data.toList.drop 210 = dktX12_cut_9 := dk_seg dksX12_cut_8 24 rfl rfl
theorem dksX12_cut_10 : cX12_cut.data.toList.drop 234 = dktX12_cut_10 := dk_seg dksX12_cut_9 24 rfl rfl
theorem dksX12_cut_11 : cX12_cut.data.toList.drop 257 = dktX12_cut_11 := dk_seg dksX12_cut_10 23 rfl rfl
theorem dksX12_cut_12 : cX12_cut.data.toList.drop 281 = dktX12_cut_12 := dk_seg dksX12_cut_11 24 rfl rfl
theorem dX12_cut_0 : decode cX12_cut 0 = .ok (.aload_n 0, 1) := dk_42 (dk_at dksX12_cut_0 0 rfl rfl)
theorem dX12_cut_1 : decode cX12_cut 1 = .ok (.iconst 0, 1) := dk_3 (dk_at dksX12_cut_0 1 rfl rfl)
theorem dX12_cut_2 : decode cX12_cut 2 = .ok (.putfield 205, 3) := dk_181 0 205 (dk_at dksX12_cut_0 2 rfl rfl)
theorem dX12_cut_5 : decode cX12_cut 5 = .ok (.iconst 0, 1) := dk_3 (dk_at dksX12_cut_0 5 rfl rfl)
theorem dX12_cut_6 : decode cX12_cut 6 = .ok (.istore_n 1, 1) := dk_60 (dk_at dksX12_cut_0 6 rfl rfl)
theorem dX12_cut_7 : decode cX12_cut 7 = .ok (.aload_n 0, 1) := dk_42 (dk_at dksX12_cut_0 7 rfl rfl)
theorem dX12_cut_8 : decode cX12_cut 8 = .ok (.getfield 205, 3) := dk_180 0 205 (dk_at dksX12_cut_0 8 rfl rfl)
theorem dX12_cut_11 : decode cX12_cut 11 = .ok (.sipush 400, 3) := dk_17 1 144 (dk_at dksX12_cut_0 11 rfl rfl)
theorem dX12_cut_14 : decode cX12_cut 14 = .ok (.if_icmp .gt 280, 3) := dk_163 1 24 (dk_at dksX12_cut_0 14 rfl rfl)
theorem dX12_cut_17 : decode cX12_cut 17 = .ok (.aload_n 0, 1) := dk_42 (dk_at dksX12_cut_0 17 rfl rfl)
theorem dX12_cut_18 : decode cX12_cut 18 = .ok (.iload_n 1, 1) := dk_27 (dk_at dksX12_cut_0 18 rfl rfl)
theorem dX12_cut_19 : decode cX12_cut 19 = .ok (.invokevirtual 208, 3) := dk_182 0 208 (dk_at dksX12_cut_0 19 rfl rfl)
theorem dX12_cut_22 : decode cX12_cut 22 = .ok (.istore_n 2, 1) := dk_61 (dk_at dksX12_cut_0 22 rfl rfl)
theorem dX12_cut_23 : decode cX12_cut 23 = .ok (.iload_n 1, 1) := dk_27 (dk_at dksX12_cut_0 23 rfl rfl)
theorem dX12_cut_24 : decode cX12_cut 24 = .ok (.aload_n 0, 1) := dk_42 (dk_at dksX12_cut_1 0 rfl rfl)
theorem dX12_cut_25 : decode cX12_cut 25 = .ok (.getfield 196, 3) := dk_180 0 196 (dk_at dksX12_cut_1 1 rfl rfl)
theorem dX12_cut_28 : decode cX12_cut 28 = .ok (.if_icmp .lt 15, 3) := dk_161 0 15 (dk_at dksX12_cut_1 4 rfl rfl)
theorem dX12_cut_31 : decode cX12_cut 31 = .ok (.aload_n 0, 1) := dk_42 (dk_at dksX12_cut_1 7 rfl rfl)
theorem dX12_cut_32 : decode cX12_cut 32 = .ok (.iconst 0, 1) := dk_3 (dk_at dksX12_cut_1 8 rfl rfl)
theorem dX12_cut_33 : decode cX12_cut 33 = .ok (.aload_n 0, 1) := dk_42 (dk_at dksX12_cut_1 9 rfl rfl)
theorem dX12_cut_34 : decode cX12_cut 34 = .ok (.getfield 196, 3) := dk_180 0 196 (dk_at dksX12_cut_1 10 rfl rfl)
theorem dX12_cut_37 : decode cX12_cut 37 = .ok (.iconst 0, 1) := dk_3 (dk_at dksX12_cut_1 13 rfl rfl)
theorem dX12_cut_38 : decode cX12_cut 38 = .ok (.lconst 0, 1) := dk_9 (dk_at dksX12_cut_1 14 rfl rfl)
theorem dX12_cut_39 : decode cX12_cut 39 = .ok (.invokevirtual 212, 3) := dk_182 0 212 (dk_at dksX12_cut_1 15 rfl rfl)
theorem dX12_cut_42 : decode cX12_cut 42 = .ok (.return_, 1) := dk_177 (dk_at dksX12_cut_1 18 rfl rfl)
theorem dX12_cut_43 : decode cX12_cut 43 = .ok (.iload_n 2, 1) := dk_28 (dk_at dksX12_cut_1 19 rfl rfl)
theorem dX12_cut_44 : decode cX12_cut 44 = .ok (.bipush 9, 2) := dk_16 9 (dk_at dksX12_cut_1 20 rfl rfl)
theorem dX12_cut_46 : decode cX12_cut 46 = .ok (.if_icmp .eq 21, 3) := dk_159 0 21 (dk_at dksX12_cut_2 0 rfl rfl)
theorem dX12_cut_49 : decode cX12_cut 49 = .ok (.iload_n 2, 1) := dk_28 (dk_at dksX12_cut_2 3 rfl rfl)
theorem dX12_cut_50 : decode cX12_cut 50 = .ok (.bipush 10, 2) := dk_16 10 (dk_at dksX12_cut_2 4 rfl rfl)
theorem dX12_cut_52 : decode cX12_cut 52 = .ok (.if_icmp .eq 15, 3) := dk_159 0 15 (dk_at dksX12_cut_2 6 rfl rfl)
theorem dX12_cut_55 : decode cX12_cut 55 = .ok (.iload_n 2, 1) := dk_28 (dk_at dksX12_cut_2 9 rfl rfl)
theorem dX12_cut_56 : decode cX12_cut 56 = .ok (.bipush 13, 2) := dk_16 13 (dk_at dksX12_cut_2 10 rfl rfl)
theorem dX12_cut_58 : decode cX12_cut 58 = .ok (.if_icmp .eq 9, 3) := dk_159 0 9 (dk_at dksX12_cut_2 12 rfl rfl)
theorem dX12_cut_61 : decode cX12_cut 61 = .ok (.iload_n 2, 1) := dk_28 (dk_at dksX12_cut_2 15 rfl rfl)
theorem dX12_cut_62 : decode cX12_cut 62 = .ok (.bipush 32, 2) := dk_16 32 (dk_at dksX12_cut_2 16 rfl rfl)
theorem dX12_cut_64 : decode cX12_cut 64 = .ok (.if_icmp .ne 9, 3) := dk_160 0 9 (dk_at dksX12_cut_2 18 rfl rfl)
theorem dX12_cut_67 : decode cX12_cut 67 = .ok (.iinc 1 1, 3) := dk_132 1 1 (dk_at dksX12_cut_2 21 rfl rfl)
theorem dX12_cut_70 : decode cX12_cut 70 = .ok (.goto 221, 3) := dk_167 0 221 (dk_at dksX12_cut_3 0 rfl rfl)
theorem dX12_cut_73 : decode cX12_cut 73 = .ok (.iload_n 2, 1) := dk_28 (dk_at dksX12_cut_3 3 rfl rfl)
theorem dX12_cut_74 : decode cX12_cut 74 = .ok (.invokestatic 216, 3) := dk_184 0 216 (dk_at dksX12_cut_3 4 rfl rfl)
theorem dX12_cut_77 : decode cX12_cut 77 = .ok (.ifCond .eq 119, 3) := dk_153 0 119 (dk_at dksX12_cut_3 7 rfl rfl)
theorem dX12_cut_80 : decode cX12_cut 80 = .ok (.iconst 0, 1) := dk_3 (dk_at dksX12_cut_3 10 rfl rfl)
theorem dX12_cut_81 : decode cX12_cut 81 = .ok (.istore_n 3, 1) := dk_62 (dk_at dksX12_cut_3 11 rfl rfl)
theorem dX12_cut_82 : decode cX12_cut 82 = .ok (.lconst 0, 1) := dk_9 (dk_at dksX12_cut_3 12 rfl rfl)
theorem dX12_cut_83 : decode cX12_cut 83 = .ok (.lstore 4, 2) := dk_55 4 (dk_at dksX12_cut_3 13 rfl rfl)
theorem dX12_cut_85 : decode cX12_cut 85 = .ok (.aload_n 0, 1) := dk_42 (dk_at dksX12_cut_3 15 rfl rfl)
theorem dX12_cut_86 : decode cX12_cut 86 = .ok (.iload_n 1, 1) := dk_27 (dk_at dksX12_cut_3 16 rfl rfl)
theorem dX12_cut_87 : decode cX12_cut 87 = .ok (.iload_n 3, 1) := dk_29 (dk_at dksX12_cut_3 17 rfl rfl)
theorem dX12_cut_88 : decode cX12_cut 88 = .ok (.iadd, 1) := dk_96 (dk_at dksX12_cut_3 18 rfl rfl)
theorem dX12_cut_89 : decode cX12_cut 89 = .ok (.invokevirtual 208, 3) := dk_182 0 208 (dk_at dksX12_cut_3 19 rfl rfl)
theorem dX12_cut_92 : decode cX12_cut 92 = .ok (.invokestatic 216, 3) := dk_184 0 216 (dk_at dksX12_cut_4 0 rfl rfl)
theorem dX12_cut_95 : decode cX12_cut 95 = .ok (.ifCond .eq 29, 3) := dk_153 0 29 (dk_at dksX12_cut_4 3 rfl rfl)
theorem dX12_cut_98 : decode cX12_cut 98 = .ok (.iload_n 3, 1) := dk_29 (dk_at dksX12_cut_4 6 rfl rfl)
theorem dX12_cut_99 : decode cX12_cut 99 = .ok (.bipush 8, 2) := dk_16 8 (dk_at dksX12_cut_4 7 rfl rfl)
theorem dX12_cut_101 : decode cX12_cut 101 = .ok (.if_icmp .ge 17, 3) := dk_162 0 17 (dk_at dksX12_cut_4 9 rfl rfl)
theorem dX12_cut_104 : decode cX12_cut 104 = .ok (.lload 4, 2) := dk_22 4 (dk_at dksX12_cut_4 12 rfl rfl)
theorem dX12_cut_106 : decode cX12_cut 106 = .ok (.aload_n 0, 1) := dk_42 (dk_at dksX12_cut_4 14 rfl rfl)
theorem dX12_cut_107 : decode cX12_cut 107 = .ok (.iload_n 1, 1) := dk_27 (dk_at dksX12_cut_4 15 rfl rfl)
theorem dX12_cut_108 : decode cX12_cut 108 = .ok (.iload_n 3, 1) := dk_29 (dk_at dksX12_cut_4 16 rfl rfl)
theorem dX12_cut_109 : decode cX12_cut 109 = .ok (.iadd, 1) := dk_96 (dk_at dksX12_cut_4 17 rfl rfl)
theorem dX12_cut_110 : decode cX12_cut 110 = .ok (.invokevirtual 208, 3) := dk_182 0 208 (dk_at dksX12_cut_4 18 rfl rfl)
theorem dX12_cut_113 : decode cX12_cut 113 = .ok (.invokestatic 201, 3) := dk_184 0 201 (dk_at dksX12_cut_4 21 rfl rfl)
theorem dX12_cut_116 : decode cX12_cut 116 = .ok (.lstore 4, 2) := dk_55 4 (dk_at dksX12_cut_5 0 rfl rfl)
theorem dX12_cut_118 : decode cX12_cut 118 = .ok (.iinc 3 1, 3) := dk_132 3 1 (dk_at dksX12_cut_5 2 rfl rfl)
theorem dX12_cut_121 : decode cX12_cut 121 = .ok (.goto (-36), 3) := dk_167 255 220 (dk_at dksX12_cut_5 5 rfl rfl)
theorem dX12_cut_124 : decode cX12_cut 124 = .ok (.iload_n 3, 1) := dk_29 (dk_at dksX12_cut_5 8 rfl rfl)
theorem dX12_cut_125 : decode cX12_cut 125 = .ok (.bipush 8, 2) := dk_16 8 (dk_at dksX12_cut_5 9 rfl rfl)
theorem dX12_cut_127 : decode cX12_cut 127 = .ok (.if_icmp .le 7, 3) := dk_164 0 7 (dk_at dksX12_cut_5 11 rfl rfl)
theorem dX12_cut_130 : decode cX12_cut 130 = .ok (.iconst 3, 1) := dk_6 (dk_at dksX12_cut_5 14 rfl rfl)
theorem dX12_cut_131 : decode cX12_cut 131 = .ok (.goto 4, 3) := dk_167 0 4 (dk_at dksX12_cut_5 15 rfl rfl)
theorem dX12_cut_134 : decode cX12_cut 134 = .ok (.iconst 1, 1) := dk_4 (dk_at dksX12_cut_5 18 rfl rfl)
theorem dX12_cut_135 : decode cX12_cut 135 = .ok (.istore 6, 2) := dk_54 6 (dk_at dksX12_cut_5 19 rfl rfl)
theorem dX12_cut_137 : decode cX12_cut 137 = .ok (.iload_n 3, 1) := dk_29 (dk_at dksX12_cut_5 21 rfl rfl)
theorem dX12_cut_138 : decode cX12_cut 138 = .ok (.bipush 7, 2) := dk_16 7 (dk_at dksX12_cut_5 22 rfl rfl)
theorem dX12_cut_140 : decode cX12_cut 140 = .ok (.if_icmp .gt 39, 3) := dk_163 0 39 (dk_at dksX12_cut_6 0 rfl rfl)
theorem dX12_cut_143 : decode cX12_cut 143 = .ok (.iconst 0, 1) := dk_3 (dk_at dksX12_cut_6 3 rfl rfl)
theorem dX12_cut_144 : decode cX12_cut 144 = .ok (.istore 7, 2) := dk_54 7 (dk_at dksX12_cut_6 4 rfl rfl)
theorem dX12_cut_146 : decode cX12_cut 146 = .ok (.iload 7, 2) := dk_21 7 (dk_at dksX12_cut_6 6 rfl rfl)
theorem dX12_cut_148 : decode cX12_cut 148 = .ok (.bipush 20, 2) := dk_16 20 (dk_at dksX12_cut_6 8 rfl rfl)
theorem dX12_cut_150 : decode cX12_cut 150 = .ok (.if_icmp .ge 29, 3) := dk_162 0 29 (dk_at dksX12_cut_6 10 rfl rfl)
theorem dX12_cut_153 : decode cX12_cut 153 = .ok (.aload_n 0, 1) := dk_42 (dk_at dksX12_cut_6 13 rfl rfl)
theorem dX12_cut_154 : decode cX12_cut 154 = .ok (.getfield 34, 3) := dk_180 0 34 (dk_at dksX12_cut_6 14 rfl rfl)
theorem dX12_cut_157 : decode cX12_cut 157 = .ok (.iload 7, 2) := dk_21 7 (dk_at dksX12_cut_6 17 rfl rfl)
theorem dX12_cut_159 : decode cX12_cut 159 = .ok (.laload, 1) := dk_47 (dk_at dksX12_cut_6 19 rfl rfl)
theorem dX12_cut_160 : decode cX12_cut 160 = .ok (.lload 4, 2) := dk_22 4 (dk_at dksX12_cut_6 20 rfl rfl)
theorem dX12_cut_162 : decode cX12_cut 162 = .ok (.lcmp, 1) := dk_148 (dk_at dksX12_cut_6 22 rfl rfl)
theorem dX12_cut_163 : decode cX12_cut 163 = .ok (.ifCond .ne 10, 3) := dk_154 0 10 (dk_at dksX12_cut_7 0 rfl rfl)
theorem dX12_cut_166 : decode cX12_cut 166 = .ok (.bipush 20, 2) := dk_16 20 (dk_at dksX12_cut_7 3 rfl rfl)
theorem dX12_cut_168 : decode cX12_cut 168 = .ok (.iload 7, 2) := dk_21 7 (dk_at dksX12_cut_7 5 rfl rfl)
theorem dX12_cut_170 : decode cX12_cut 170 = .ok (.iadd, 1) := dk_96 (dk_at dksX12_cut_7 7 rfl rfl)
theorem dX12_cut_171 : decode cX12_cut 171 = .ok (.istore 6, 2) := dk_54 6 (dk_at dksX12_cut_7 8 rfl rfl)
theorem dX12_cut_173 : decode cX12_cut 173 = .ok (.iinc 7 1, 3) := dk_132 7 1 (dk_at dksX12_cut_7 10 rfl rfl)
theorem dX12_cut_176 : decode cX12_cut 176 = .ok (.goto (-30), 3) := dk_167 255 226 (dk_at dksX12_cut_7 13 rfl rfl)
theorem dX12_cut_179 : decode cX12_cut 179 = .ok (.aload_n 0, 1) := dk_42 (dk_at dksX12_cut_7 16 rfl rfl)
theorem dX12_cut_180 : decode cX12_cut 180 = .ok (.iload 6, 2) := dk_21 6 (dk_at dksX12_cut_7 17 rfl rfl)
theorem dX12_cut_182 : decode cX12_cut 182 = .ok (.iload_n 1, 1) := dk_27 (dk_at dksX12_cut_7 19 rfl rfl)
theorem dX12_cut_183 : decode cX12_cut 183 = .ok (.iconst 0, 1) := dk_3 (dk_at dksX12_cut_7 20 rfl rfl)
theorem dX12_cut_184 : decode cX12_cut 184 = .ok (.lload 4, 2) := dk_22 4 (dk_at dksX12_cut_7 21 rfl rfl)
theorem dX12_cut_186 : decode cX12_cut 186 = .ok (.invokevirtual 212, 3) := dk_182 0 212 (dk_at dksX12_cut_8 0 rfl rfl)
theorem dX12_cut_189 : decode cX12_cut 189 = .ok (.iload_n 1, 1) := dk_27 (dk_at dksX12_cut_8 3 rfl rfl)
theorem dX12_cut_190 : decode cX12_cut 190 = .ok (.iload_n 3, 1) := dk_29 (dk_at dksX12_cut_8 4 rfl rfl)
theorem dX12_cut_191 : decode cX12_cut 191 = .ok (.iadd, 1) := dk_96 (dk_at dksX12_cut_8 5 rfl rfl)
theorem dX12_cut_192 : decode cX12_cut 192 = .ok (.istore_n 1, 1) := dk_60 (dk_at dksX12_cut_8 6 rfl rfl)
theorem dX12_cut_193 : decode cX12_cut 193 = .ok (.goto 98, 3) := dk_167 0 98 (dk_at dksX12_cut_8 7 rfl rfl)
theorem dX12_cut_196 : decode cX12_cut 196 = .ok (.iload_n 2, 1) := dk_28 (dk_at dksX12_cut_8 10 rfl rfl)
theorem dX12_cut_197 : decode cX12_cut 197 = .ok (.invokestatic 220, 3) := dk_184 0 220 (dk_at dksX12_cut_8 11 rfl rfl)
theorem dX12_cut_200 : decode cX12_cut 200 = .ok (.ifCond .eq 75, 3) := dk_153 0 75 (dk_at dksX12_cut_8 14 rfl rfl)
theorem dX12_cut_203 : decode cX12_cut 203 = .ok (.iconst 0, 1) := dk_3 (dk_at dksX12_cut_8 17 rfl rfl)
theorem dX12_cut_204 : decode cX12_cut 204 = .ok (.istore_n 3, 1) := dk_62 (dk_at dksX12_cut_8 18 rfl rfl)
theorem dX12_cut_205 : decode cX12_cut 205 = .ok (.iconst 0, 1) := dk_3 (dk_at dksX12_cut_8 19 rfl rfl)
theorem dX12_cut_206 : decode cX12_cut 206 = .ok (.istore 4, 2) := dk_54 4 (dk_at dksX12_cut_8 20 rfl rfl)
theorem dX12_cut_208 : decode cX12_cut 208 = .ok (.aload_n 0, 1) := dk_42 (dk_at dksX12_cut_8 22 rfl rfl)
theorem dX12_cut_209 : decode cX12_cut 209 = .ok (.iload_n 1, 1) := dk_27 (dk_at dksX12_cut_8 23 rfl rfl)
theorem dX12_cut_210 : decode cX12_cut 210 = .ok (.iload_n 3, 1) := dk_29 (dk_at dksX12_cut_9 0 rfl rfl)
theorem dX12_cut_211 : decode cX12_cut 211 = .ok (.iadd, 1) := dk_96 (dk_at dksX12_cut_9 1 rfl rfl)
theorem dX12_cut_212 : decode cX12_cut 212 = .ok (.invokevirtual 208, 3) := dk_182 0 208 (dk_at dksX12_cut_9 2 rfl rfl)
theorem dX12_cut_215 : decode cX12_cut 215 = .ok (.invokestatic 220, 3) := dk_184 0 220 (dk_at dksX12_cut_9 5 rfl rfl)
theorem dX12_cut_218 : decode cX12_cut 218 = .ok (.ifCond .eq 32, 3) := dk_153 0 32 (dk_at dksX12_cut_9 8 rfl rfl)
theorem dX12_cut_221 : decode cX12_cut 221 = .ok (.iload_n 3, 1) := dk_29 (dk_at dksX12_cut_9 11 rfl rfl)
theorem dX12_cut_222 : decode cX12_cut 222 = .ok (.iconst 4, 1) := dk_7 (dk_at dksX12_cut_9 12 rfl rfl)
theorem dX12_cut_223 : decode cX12_cut 223 = .ok (.if_icmp .ge 21, 3) := dk_162 0 21 (dk_at dksX12_cut_9 13 rfl rfl)
theorem dX12_cut_226 : decode cX12_cut 226 = .ok (.bipush 10, 2) := dk_16 10 (dk_at dksX12_cut_9 16 rfl rfl)
theorem dX12_cut_228 : decode cX12_cut 228 = .ok (.iload 4, 2) := dk_21 4 (dk_at dksX12_cut_9 18 rfl rfl)
theorem dX12_cut_230 : decode cX12_cut 230 = .ok (.imul, 1) := dk_104 (dk_at dksX12_cut_9 20 rfl rfl)
theorem dX12_cut_231 : decode cX12_cut 231 = .ok (.aload_n 0, 1) := dk_42 (dk_at dksX12_cut_9 21 rfl rfl)
theorem dX12_cut_232 : decode cX12_cut 232 = .ok (.iload_n 1, 1) := dk_27 (dk_at dksX12_cut_9 22 rfl rfl)
theorem dX12_cut_233 : decode cX12_cut 233 = .ok (.iload_n 3, 1) := dk_29 (dk_at dksX12_cut_9 23 rfl rfl)
theorem dX12_cut_234 : decode cX12_cut 234 = .ok (.iadd, 1) := dk_96 (dk_at dksX12_cut_10 0 rfl rfl)
theorem dX12_cut_235 : decode cX12_cut 235 = .ok (.invokevirtual 208, 3) := dk_182 0 208 (dk_at dksX12_cut_10 1 rfl rfl)
theorem dX12_cut_238 : decode cX12_cut 238 = .ok (.iadd, 1) := dk_96 (dk_at dksX12_cut_10 4 rfl rfl)
theorem dX12_cut_239 : decode cX12_cut 239 = .ok (.bipush 48, 2) := dk_16 48 (dk_at dksX12_cut_10 5 rfl rfl)
theorem dX12_cut_241 : decode cX12_cut 241 = .ok (.isub, 1) := dk_100 (dk_at dksX12_cut_10 7 rfl rfl)
theorem dX12_cut_242 : decode cX12_cut 242 = .ok (.istore 4, 2) := dk_54 4 (dk_at dksX12_cut_10 8 rfl rfl)
theorem dX12_cut_244 : decode cX12_cut 244 = .ok (.iinc 3 1, 3) := dk_132 3 1 (dk_at dksX12_cut_10 10 rfl rfl)
theorem dX12_cut_247 : decode cX12_cut 247 = .ok (.goto (-39), 3) := dk_167 255 217 (dk_at dksX12_cut_10 13 rfl rfl)
theorem dX12_cut_250 : decode cX12_cut 250 = .ok (.aload_n 0, 1) := dk_42 (dk_at dksX12_cut_10 16 rfl rfl)
theorem dX12_cut_251 : decode cX12_cut 251 = .ok (.iload_n 3, 1) := dk_29 (dk_at dksX12_cut_10 17 rfl rfl)
theorem dX12_cut_252 : decode cX12_cut 252 = .ok (.iconst 4, 1) := dk_7 (dk_at dksX12_cut_10 18 rfl rfl)
theorem dX12_cut_253 : decode cX12_cut 253 = .ok (.if_icmp .le 7, 3) := dk_164 0 7 (dk_at dksX12_cut_10 19 rfl rfl)
theorem dX12_cut_256 : decode cX12_cut 256 = .ok (.iconst 3, 1) := dk_6 (dk_at dksX12_cut_10 22 rfl rfl)
theorem dX12_cut_257 : decode cX12_cut 257 = .ok (.goto 4, 3) := dk_167 0 4 (dk_at dksX12_cut_11 0 rfl rfl)
theorem dX12_cut_260 : decode cX12_cut 260 = .ok (.iconst 2, 1) := dk_5 (dk_at dksX12_cut_11 3 rfl rfl)
theorem dX12_cut_261 : decode cX12_cut 261 = .ok (.iload_n 1, 1) := dk_27 (dk_at dksX12_cut_11 4 rfl rfl)
theorem dX12_cut_262 : decode cX12_cut 262 = .ok (.iload 4, 2) := dk_21 4 (dk_at dksX12_cut_11 5 rfl rfl)
theorem dX12_cut_264 : decode cX12_cut 264 = .ok (.lconst 0, 1) := dk_9 (dk_at dksX12_cut_11 7 rfl rfl)
theorem dX12_cut_265 : decode cX12_cut 265 = .ok (.invokevirtual 212, 3) := dk_182 0 212 (dk_at dksX12_cut_11 8 rfl rfl)
theorem dX12_cut_268 : decode cX12_cut 268 = .ok (.iload_n 1, 1) := dk_27 (dk_at dksX12_cut_11 11 rfl rfl)
theorem dX12_cut_269 : decode cX12_cut 269 = .ok (.iload_n 3, 1) := dk_29 (dk_at dksX12_cut_11 12 rfl rfl)
theorem dX12_cut_270 : decode cX12_cut 270 = .ok (.iadd, 1) := dk_96 (dk_at dksX12_cut_11 13 rfl rfl)
theorem dX12_cut_271 : decode cX12_cut 271 = .ok (.istore_n 1, 1) := dk_60 (dk_at dksX12_cut_11 14 rfl rfl)
theorem dX12_cut_272 : decode cX12_cut 272 = .ok (.goto 19, 3) := dk_167 0 19 (dk_at dksX12_cut_11 15 rfl rfl)
theorem dX12_cut_275 : decode cX12_cut 275 = .ok (.iload_n 1, 1) := dk_27 (dk_at dksX12_cut_11 18 rfl rfl)
theorem dX12_cut_276 : decode cX12_cut 276 = .ok (.aload_n 0, 1) := dk_42 (dk_at dksX12_cut_11 19 rfl rfl)
theorem dX12_cut_277 : decode cX12_cut 277 = .ok (.iload_n 1, 1) := dk_27 (dk_at dksX12_cut_11 20 rfl rfl)
theorem dX12_cut_278 : decode cX12_cut 278 = .ok (.iload_n 2, 1) := dk_28 (dk_at dksX12_cut_11 21 rfl rfl)
theorem dX12_cut_279 : decode cX12_cut 279 = .ok (.aload_n 0, 1) := dk_42 (dk_at dksX12_cut_11 22 rfl rfl)
theorem dX12_cut_280 : decode cX12_cut 280 = .ok (.iload_n 1, 1) := dk_27 (dk_at dksX12_cut_11 23 rfl rfl)
theorem dX12_cut_281 : decode cX12_cut 281 = .ok (.iconst 1, 1) := dk_4 (dk_at dksX12_cut_12 0 rfl rfl)
theorem dX12_cut_282 : decode cX12_cut 282 = .ok (.iadd, 1) := dk_96 (dk_at dksX12_cut_12 1 rfl rfl)
theorem dX12_cut_283 : decode cX12_cut 283 = .ok (.invokevirtual 208, 3) := dk_182 0 208 (dk_at dksX12_cut_12 2 rfl rfl)
theorem dX12_cut_286 : decode cX12_cut 286 = .ok (.invokevirtual 223, 3) := dk_182 0 223 (dk_at dksX12_cut_12 5 rfl rfl)
theorem dX12_cut_289 : decode cX12_cut 289 = .ok (.iadd, 1) := dk_96 (dk_at dksX12_cut_12 8 rfl rfl)
theorem dX12_cut_290 : decode cX12_cut 290 = .ok (.istore_n 1, 1) := dk_60 (dk_at dksX12_cut_12 9 rfl rfl)
theorem dX12_cut_291 : decode cX12_cut 291 = .ok (.goto (-284), 3) := dk_167 254 228 (dk_at dksX12_cut_12 10 rfl rfl)
theorem dX12_cut_294 : decode cX12_cut 294 = .ok (.return_, 1) := dk_177 (dk_at dksX12_cut_12 13 rfl rfl)
abbrev cX12_byteAt : ByteArray := prog_24_method_6_code
def yX12_byteAt : MethodName := ⟨RX12, "byteAt", "(I)I"⟩
def dkwX12_byteAt_0 : List UInt8 := [27, 42, 180, 0, 196, 162, 0, 16, 42, 180, 0, 17, 27, 51, 17, 0, 255, 126, 167, 0, 4, 3, 172]
abbrev dktX12_byteAt_0 : List UInt8 := dkwX12_byteAt_0 ++ []
theorem dksX12_byteAt_0 : cX12_byteAt.data.toList.drop 0 = dktX12_byteAt_0 := by decide +kernel
theorem dX12_byteAt_0 : decode cX12_byteAt 0 = .ok (.iload_n 1, 1) := dk_27 (dk_at dksX12_byteAt_0 0 rfl rfl)
theorem dX12_byteAt_1 : decode cX12_byteAt 1 = .ok (.aload_n 0, 1) := dk_42 (dk_at dksX12_byteAt_0 1 rfl rfl)
theorem dX12_byteAt_2 : decode cX12_byteAt 2 = .ok (.getfield 196, 3) := dk_180 0 196 (dk_at dksX12_byteAt_0 2 rfl rfl)
theorem dX12_byteAt_5 : decode cX12_byteAt 5 = .ok (.if_icmp .ge 16, 3) := dk_162 0 16 (dk_at dksX12_byteAt_0 5 rfl rfl)
theorem dX12_byteAt_8 : decode cX12_byteAt 8 = .ok (.aload_n 0, 1) := dk_42 (dk_at dksX12_byteAt_0 8 rfl rfl)
theorem dX12_byteAt_9 : decode cX12_byteAt 9 = .ok (.getfield 17, 3) := dk_180 0 17 (dk_at dksX12_byteAt_0 9 rfl rfl)
theorem dX12_byteAt_12 : decode cX12_byteAt 12 = .ok (.iload_n 1, 1) := dk_27 (dk_at dksX12_byteAt_0 12 rfl rfl)
theorem dX12_byteAt_13 : decode cX12_byteAt 13 = .ok (.baload, 1) := dk_51 (dk_at dksX12_byteAt_0 13 rfl rfl)
theorem dX12_byteAt_14 : decode cX12_byteAt 14 = .ok (.sipush 255, 3) := dk_17 0 255 (dk_at dksX12_byteAt_0 14 rfl rfl)
theorem dX12_byteAt_17 : decode cX12_byteAt 17 = .ok (.iand, 1) := dk_126 (dk_at dksX12_byteAt_0 17 rfl rfl)
theorem dX12_byteAt_18 : decode cX12_byteAt 18 = .ok (.goto 4, 3) := dk_167 0 4 (dk_at dksX12_byteAt_0 18 rfl rfl)
theorem dX12_byteAt_21 : decode cX12_byteAt 21 = .ok (.iconst 0, 1) := dk_3 (dk_at dksX12_byteAt_0 21 rfl rfl)
theorem dX12_byteAt_22 : decode cX12_byteAt 22 = .ok (.ireturn, 1) := dk_172 (dk_at dksX12_byteAt_0 22 rfl rfl)
abbrev cX12_token : ByteArray := prog_24_method_11_code
def yX12_token : MethodName := ⟨RX12, "token", "(IIIJ)V"⟩
def dkwX12_token_2 : List UInt8 := [181, 0, 205, 177]
abbrev dktX12_token_2 : List UInt8 := dkwX12_token_2 ++ []
def dkwX12_token_1 : List UInt8 := [42, 180, 0, 205, 29, 79, 42, 180, 0, 30, 42, 180, 0, 205, 22, 4, 80, 42, 89, 180, 0, 205, 4, 96]
abbrev dktX12_token_1 : List UInt8 := dkwX12_token_1 ++ dktX12_token_2
def dkwX12_token_0 : List UInt8 := [42, 180, 0, 20, 42, 180, 0, 205, 27, 79, 42, 180, 0, 24, 42, 180, 0, 205, 28, 79, 42, 180, 0, 27]
abbrev dktX12_token_0 : List UInt8 := dkwX12_token_0 ++ dktX12_token_1
theorem dksX12_token_0 : cX12_token.data.toList.drop 0 = dktX12_token_0 := by decide +kernel
theorem dksX12_token_1 : cX12_token.data.toList.drop 24 = dktX12_token_1 := dk_seg dksX12_token_0 24 rfl rfl
theorem dksX12_token_2 : cX12_token.data.toList.drop 48 = dktX12_token_2 := dk_seg dksX12_token_1 24 rfl rfl
theorem dX12_token_0 : decode cX12_token 0 = .ok (.aload_n 0, 1) := dk_42 (dk_at dksX12_token_0 0 rfl rfl)
theorem dX12_token_1 : decode cX12_token 1 = .ok (.getfield 20, 3) := dk_180 0 20 (dk_at dksX12_token_0 1 rfl rfl)
theorem dX12_token_4 : decode cX12_token 4 = .ok (.aload_n 0, 1) := dk_42 (dk_at dksX12_token_0 4 rfl rfl)
theorem dX12_token_5 : decode cX12_token 5 = .ok (.getfield 205, 3) := dk_180 0 205 (dk_at dksX12_token_0 5 rfl rfl)
theorem dX12_token_8 : decode cX12_token 8 = .ok (.iload_n 1, 1) := dk_27 (dk_at dksX12_token_0 8 rfl rfl)
theorem dX12_token_9 : decode cX12_token 9 = .ok (.iastore, 1) := dk_79 (dk_at dksX12_token_0 9 rfl rfl)
theorem dX12_token_10 : decode cX12_token 10 = .ok (.aload_n 0, 1) := dk_42 (dk_at dksX12_token_0 10 rfl rfl)
theorem dX12_token_11 : decode cX12_token 11 = .ok (.getfield 24, 3) := dk_180 0 24 (dk_at dksX12_token_0 11 rfl rfl)
theorem dX12_token_14 : decode cX12_token 14 = .ok (.aload_n 0, 1) := dk_42 (dk_at dksX12_token_0 14 rfl rfl)
theorem dX12_token_15 : decode cX12_token 15 = .ok (.getfield 205, 3) := dk_180 0 205 (dk_at dksX12_token_0 15 rfl rfl)
theorem dX12_token_18 : decode cX12_token 18 = .ok (.iload_n 2, 1) := dk_28 (dk_at dksX12_token_0 18 rfl rfl)
theorem dX12_token_19 : decode cX12_token 19 = .ok (.iastore, 1) := dk_79 (dk_at dksX12_token_0 19 rfl rfl)
theorem dX12_token_20 : decode cX12_token 20 = .ok (.aload_n 0, 1) := dk_42 (dk_at dksX12_token_0 20 rfl rfl)
theorem dX12_token_21 : decode cX12_token 21 = .ok (.getfield 27, 3) := dk_180 0 27 (dk_at dksX12_token_0 21 rfl rfl)
theorem dX12_token_24 : decode cX12_token 24 = .ok (.aload_n 0, 1) := dk_42 (dk_at dksX12_token_1 0 rfl rfl)
theorem dX12_token_25 : decode cX12_token 25 = .ok (.getfield 205, 3) := dk_180 0 205 (dk_at dksX12_token_1 1 rfl rfl)
theorem dX12_token_28 : decode cX12_token 28 = .ok (.iload_n 3, 1) := dk_29 (dk_at dksX12_token_1 4 rfl rfl)
theorem dX12_token_29 : decode cX12_token 29 = .ok (.iastore, 1) := dk_79 (dk_at dksX12_token_1 5 rfl rfl)
theorem dX12_token_30 : decode cX12_token 30 = .ok (.aload_n 0, 1) := dk_42 (dk_at dksX12_token_1 6 rfl rfl)
theorem dX12_token_31 : decode cX12_token 31 = .ok (.getfield 30, 3) := dk_180 0 30 (dk_at dksX12_token_1 7 rfl rfl)
theorem dX12_token_34 : decode cX12_token 34 = .ok (.aload_n 0, 1) := dk_42 (dk_at dksX12_token_1 10 rfl rfl)
theorem dX12_token_35 : decode cX12_token 35 = .ok (.getfield 205, 3) := dk_180 0 205 (dk_at dksX12_token_1 11 rfl rfl)
theorem dX12_token_38 : decode cX12_token 38 = .ok (.lload 4, 2) := dk_22 4 (dk_at dksX12_token_1 14 rfl rfl)
theorem dX12_token_40 : decode cX12_token 40 = .ok (.lastore, 1) := dk_80 (dk_at dksX12_token_1 16 rfl rfl)
theorem dX12_token_41 : decode cX12_token 41 = .ok (.aload_n 0, 1) := dk_42 (dk_at dksX12_token_1 17 rfl rfl)
theorem dX12_token_42 : decode cX12_token 42 = .ok (.dup, 1) := dk_89 (dk_at dksX12_token_1 18 rfl rfl)
theorem dX12_token_43 : decode cX12_token 43 = .ok (.getfield 205, 3) := dk_180 0 205 (dk_at dksX12_token_1 19 rfl rfl)
theorem dX12_token_46 : decode cX12_token 46 = .ok (.iconst 1, 1) := dk_4 (dk_at dksX12_token_1 22 rfl rfl)
theorem dX12_token_47 : decode cX12_token 47 = .ok (.iadd, 1) := dk_96 (dk_at dksX12_token_1 23 rfl rfl)
theorem dX12_token_48 : decode cX12_token 48 = .ok (.putfield 205, 3) := dk_181 0 205 (dk_at dksX12_token_2 0 rfl rfl)
theorem dX12_token_51 : decode cX12_token 51 = .ok (.return_, 1) := dk_177 (dk_at dksX12_token_2 3 rfl rfl)
abbrev cX12_isLetter : ByteArray := prog_24_method_8_code
def yX12_isLetter : MethodName := ⟨RX12, "isLetter", "(I)Z"⟩
def dkwX12_isLetter_0 : List UInt8 := [26, 16, 97, 161, 0, 13, 26, 16, 122, 163, 0, 7, 4, 167, 0, 4, 3, 172]
abbrev dktX12_isLetter_0 : List UInt8 := dkwX12_isLetter_0 ++ []
theorem dksX12_isLetter_0 : cX12_isLetter.data.toList.drop 0 = dktX12_isLetter_0 := by decide +kernel
theorem dX12_isLetter_0 : decode cX12_isLetter 0 = .ok (.iload_n 0, 1) := dk_26 (dk_at dksX12_isLetter_0 0 rfl rfl)
theorem dX12_isLetter_1 : decode cX12_isLetter 1 = .ok (.bipush 97, 2) := dk_16 97 (dk_at dksX12_isLetter_0 1 rfl rfl)
theorem dX12_isLetter_3 : decode cX12_isLetter 3 = .ok (.if_icmp .lt 13, 3) := dk_161 0 13 (dk_at dksX12_isLetter_0 3 rfl rfl)
theorem dX12_isLetter_6 : decode cX12_isLetter 6 = .ok (.iload_n 0, 1) := dk_26 (dk_at dksX12_isLetter_0 6 rfl rfl)
theorem dX12_isLetter_7 : decode cX12_isLetter 7 = .ok (.bipush 122, 2) := dk_16 122 (dk_at dksX12_isLetter_0 7 rfl rfl)
theorem dX12_isLetter_9 : decode cX12_isLetter 9 = .ok (.if_icmp .gt 7, 3) := dk_163 0 7 (dk_at dksX12_isLetter_0 9 rfl rfl)
theorem dX12_isLetter_12 : decode cX12_isLetter 12 = .ok (.iconst 1, 1) := dk_4 (dk_at dksX12_isLetter_0 12 rfl rfl)
theorem dX12_isLetter_13 : decode cX12_isLetter 13 = .ok (.goto 4, 3) := dk_167 0 4 (dk_at dksX12_isLetter_0 13 rfl rfl)
theorem dX12_isLetter_16 : decode cX12_isLetter 16 = .ok (.iconst 0, 1) := dk_3 (dk_at dksX12_isLetter_0 16 rfl rfl)
theorem dX12_isLetter_17 : decode cX12_isLetter 17 = .ok (.ireturn, 1) := dk_172 (dk_at dksX12_isLetter_0 17 rfl rfl)
abbrev cX12_isDigit : ByteArray := prog_24_method_7_code
def yX12_isDigit : MethodName := ⟨RX12, "isDigit", "(I)Z"⟩
def dkwX12_isDigit_0 : List UInt8 := [26, 16, 48, 161, 0, 13, 26, 16, 57, 163, 0, 7, 4, 167, 0, 4, 3, 172]
abbrev dktX12_isDigit_0 : List UInt8 := dkwX12_isDigit_0 ++ []
theorem dksX12_isDigit_0 : cX12_isDigit.data.toList.drop 0 = dktX12_isDigit_0 := by decide +kernel
theorem dX12_isDigit_0 : decode cX12_isDigit 0 = .ok (.iload_n 0, 1) := dk_26 (dk_at dksX12_isDigit_0 0 rfl rfl)
theorem dX12_isDigit_1 : decode cX12_isDigit 1 = .ok (.bipush 48, 2) := dk_16 48 (dk_at dksX12_isDigit_0 1 rfl rfl)
theorem dX12_isDigit_3 : decode cX12_isDigit 3 = .ok (.if_icmp .lt 13, 3) := dk_161 0 13 (dk_at dksX12_isDigit_0 3 rfl rfl)
theorem dX12_isDigit_6 : decode cX12_isDigit 6 = .ok (.iload_n 0, 1) := dk_26 (dk_at dksX12_isDigit_0 6 rfl rfl)
theorem dX12_isDigit_7 : decode cX12_isDigit 7 = .ok (.bipush 57, 2) := dk_16 57 (dk_at dksX12_isDigit_0 7 rfl rfl)
theorem dX12_isDigit_9 : decode cX12_isDigit 9 = .ok (.if_icmp .gt 7, 3) := dk_163 0 7 (dk_at dksX12_isDigit_0 9 rfl rfl)
theorem dX12_isDigit_12 : decode cX12_isDigit 12 = .ok (.iconst 1, 1) := dk_4 (dk_at dksX12_isDigit_0 12 rfl rfl)
theorem dX12_isDigit_13 : decode cX12_isDigit 13 = .ok (.goto 4, 3) := dk_167 0 4 (dk_at dksX12_isDigit_0 13 rfl rfl)
theorem dX12_isDigit_16 : decode cX12_isDigit 16 = .ok (.iconst 0, 1) := dk_3 (dk_at dksX12_isDigit_0 16 rfl rfl)
theorem dX12_isDigit_17 : decode cX12_isDigit 17 = .ok (.ireturn, 1) := dk_172 (dk_at dksX12_isDigit_0 17 rfl rfl)
abbrev cX12_sign : ByteArray := prog_24_method_13_code
def yX12_sign : MethodName := ⟨RX12, "sign", "(III)I"⟩
def dkwX12_sign_4 : List UInt8 := [16, 13, 54, 4, 42, 21, 4, 27, 3, 9, 182, 0, 212, 4, 172]
abbrev dktX12_sign_4 : List UInt8 := dkwX12_sign_4 ++ []
def dkwX12_sign_3 : List UInt8 := [160, 0, 7, 16, 10, 54, 4, 28, 16, 47, 160, 0, 7, 16, 15, 54, 4, 28, 16, 60, 160, 0, 7]
abbrev dktX12_sign_3 : List UInt8 := dkwX12_sign_3 ++ dktX12_sign_4
def dkwX12_sign_2 : List UInt8 := [16, 43, 160, 0, 7, 16, 8, 54, 4, 28, 16, 45, 160, 0, 7, 16, 9, 54, 4, 28, 16, 42]
abbrev dktX12_sign_2 : List UInt8 := dkwX12_sign_2 ++ dktX12_sign_3
def dkwX12_sign_1 : List UInt8 := [160, 0, 8, 16, 6, 167, 0, 15, 28, 16, 41, 160, 0, 8, 16, 7, 167, 0, 4, 6, 54, 4, 28]
abbrev dktX12_sign_1 : List UInt8 := dkwX12_sign_1 ++ dktX12_sign_2
def dkwX12_sign_0 : List UInt8 := [28, 16, 59, 160, 0, 7, 7, 167, 0, 36, 28, 16, 61, 160, 0, 7, 8, 167, 0, 26, 28, 16, 40]
abbrev dktX12_sign_0 : List UInt8 := dkwX12_sign_0 ++ dktX12_sign_1
theorem dksX12_sign_0 : cX12_sign.data.toList.drop 0 = dktX12_sign_0 := by decide +kernel
theorem dksX12_sign_1 : cX12_sign.data.toList.drop 23 = dktX12_sign_1 := dk_seg dksX12_sign_0 23 rfl rfl
theorem dksX12_sign_2 : cX12_sign.data.toList.drop 46 = dktX12_sign_2 := dk_seg dksX12_sign_1 23 rfl rfl
theorem dksX12_sign_3 : cX12_sign.data.toList.drop 68 = dktX12_sign_3 := dk_seg dksX12_sign_2 22 rfl rfl
theorem dksX12_sign_4 : cX12_sign.data.toList.drop 91 = dktX12_sign_4 := dk_seg dksX12_sign_3 23 rfl rfl
theorem dX12_sign_0 : decode cX12_sign 0 = .ok (.iload_n 2, 1) := dk_28 (dk_at dksX12_sign_0 0 rfl rfl)
theorem dX12_sign_1 : decode cX12_sign 1 = .ok (.bipush 59, 2) := dk_16 59 (dk_at dksX12_sign_0 1 rfl rfl)
theorem dX12_sign_3 : decode cX12_sign 3 = .ok (.if_icmp .ne 7, 3) := dk_160 0 7 (dk_at dksX12_sign_0 3 rfl rfl)
theorem dX12_sign_6 : decode cX12_sign 6 = .ok (.iconst 4, 1) := dk_7 (dk_at dksX12_sign_0 6 rfl rfl)
theorem dX12_sign_7 : decode cX12_sign 7 = .ok (.goto 36, 3) := dk_167 0 36 (dk_at dksX12_sign_0 7 rfl rfl)
theorem dX12_sign_10 : decode cX12_sign 10 = .ok (.iload_n 2, 1) := dk_28 (dk_at dksX12_sign_0 10 rfl rfl)
theorem dX12_sign_11 : decode cX12_sign 11 = .ok (.bipush 61, 2) := dk_16 61 (dk_at dksX12_sign_0 11 rfl rfl)
theorem dX12_sign_13 : decode cX12_sign 13 = .ok (.if_icmp .ne 7, 3) := dk_160 0 7 (dk_at dksX12_sign_0 13 rfl rfl)
theorem dX12_sign_16 : decode cX12_sign 16 = .ok (.iconst 5, 1) := dk_8 (dk_at dksX12_sign_0 16 rfl rfl)
theorem dX12_sign_17 : decode cX12_sign 17 = .ok (.goto 26, 3) := dk_167 0 26 (dk_at dksX12_sign_0 17 rfl rfl)
theorem dX12_sign_20 : decode cX12_sign 20 = .ok (.iload_n 2, 1) := dk_28 (dk_at dksX12_sign_0 20 rfl rfl)
theorem dX12_sign_21 : decode cX12_sign 21 = .ok (.bipush 40, 2) := dk_16 40 (dk_at dksX12_sign_0 21 rfl rfl)
theorem dX12_sign_23 : decode cX12_sign 23 = .ok (.if_icmp .ne 8, 3) := dk_160 0 8 (dk_at dksX12_sign_1 0 rfl rfl)
theorem dX12_sign_26 : decode cX12_sign 26 = .ok (.bipush 6, 2) := dk_16 6 (dk_at dksX12_sign_1 3 rfl rfl)
theorem dX12_sign_28 : decode cX12_sign 28 = .ok (.goto 15, 3) := dk_167 0 15 (dk_at dksX12_sign_1 5 rfl rfl)
theorem dX12_sign_31 : decode cX12_sign 31 = .ok (.iload_n 2, 1) := dk_28 (dk_at dksX12_sign_1 8 rfl rfl)
theorem dX12_sign_32 : decode cX12_sign 32 = .ok (.bipush 41, 2) := dk_16 41 (dk_at dksX12_sign_1 9 rfl rfl)
theorem dX12_sign_34 : decode cX12_sign 34 = .ok (.if_icmp .ne 8, 3) := dk_160 0 8 (dk_at dksX12_sign_1 11 rfl rfl)
theorem dX12_sign_37 : decode cX12_sign 37 = .ok (.bipush 7, 2) := dk_16 7 (dk_at dksX12_sign_1 14 rfl rfl)
theorem dX12_sign_39 : decode cX12_sign 39 = .ok (.goto 4, 3) := dk_167 0 4 (dk_at dksX12_sign_1 16 rfl rfl)
theorem dX12_sign_42 : decode cX12_sign 42 = .ok (.iconst 3, 1) := dk_6 (dk_at dksX12_sign_1 19 rfl rfl)
theorem dX12_sign_43 : decode cX12_sign 43 = .ok (.istore 4, 2) := dk_54 4 (dk_at dksX12_sign_1 20 rfl rfl)
theorem dX12_sign_45 : decode cX12_sign 45 = .ok (.iload_n 2, 1) := dk_28 (dk_at dksX12_sign_1 22 rfl rfl)
theorem dX12_sign_46 : decode cX12_sign 46 = .ok (.bipush 43, 2) := dk_16 43 (dk_at dksX12_sign_2 0 rfl rfl)
theorem dX12_sign_48 : decode cX12_sign 48 = .ok (.if_icmp .ne 7, 3) := dk_160 0 7 (dk_at dksX12_sign_2 2 rfl rfl)
theorem dX12_sign_51 : decode cX12_sign 51 = .ok (.bipush 8, 2) := dk_16 8 (dk_at dksX12_sign_2 5 rfl rfl)
theorem dX12_sign_53 : decode cX12_sign 53 = .ok (.istore 4, 2) := dk_54 4 (dk_at dksX12_sign_2 7 rfl rfl)
theorem dX12_sign_55 : decode cX12_sign 55 = .ok (.iload_n 2, 1) := dk_28 (dk_at dksX12_sign_2 9 rfl rfl)
theorem dX12_sign_56 : decode cX12_sign 56 = .ok (.bipush 45, 2) := dk_16 45 (dk_at dksX12_sign_2 10 rfl rfl)
theorem dX12_sign_58 : decode cX12_sign 58 = .ok (.if_icmp .ne 7, 3) := dk_160 0 7 (dk_at dksX12_sign_2 12 rfl rfl)
theorem dX12_sign_61 : decode cX12_sign 61 = .ok (.bipush 9, 2) := dk_16 9 (dk_at dksX12_sign_2 15 rfl rfl)
theorem dX12_sign_63 : decode cX12_sign 63 = .ok (.istore 4, 2) := dk_54 4 (dk_at dksX12_sign_2 17 rfl rfl)
theorem dX12_sign_65 : decode cX12_sign 65 = .ok (.iload_n 2, 1) := dk_28 (dk_at dksX12_sign_2 19 rfl rfl)
theorem dX12_sign_66 : decode cX12_sign 66 = .ok (.bipush 42, 2) := dk_16 42 (dk_at dksX12_sign_2 20 rfl rfl)
theorem dX12_sign_68 : decode cX12_sign 68 = .ok (.if_icmp .ne 7, 3) := dk_160 0 7 (dk_at dksX12_sign_3 0 rfl rfl)
theorem dX12_sign_71 : decode cX12_sign 71 = .ok (.bipush 10, 2) := dk_16 10 (dk_at dksX12_sign_3 3 rfl rfl)
theorem dX12_sign_73 : decode cX12_sign 73 = .ok (.istore 4, 2) := dk_54 4 (dk_at dksX12_sign_3 5 rfl rfl)
theorem dX12_sign_75 : decode cX12_sign 75 = .ok (.iload_n 2, 1) := dk_28 (dk_at dksX12_sign_3 7 rfl rfl)
theorem dX12_sign_76 : decode cX12_sign 76 = .ok (.bipush 47, 2) := dk_16 47 (dk_at dksX12_sign_3 8 rfl rfl)
theorem dX12_sign_78 : decode cX12_sign 78 = .ok (.if_icmp .ne 7, 3) := dk_160 0 7 (dk_at dksX12_sign_3 10 rfl rfl)
theorem dX12_sign_81 : decode cX12_sign 81 = .ok (.bipush 15, 2) := dk_16 15 (dk_at dksX12_sign_3 13 rfl rfl)
theorem dX12_sign_83 : decode cX12_sign 83 = .ok (.istore 4, 2) := dk_54 4 (dk_at dksX12_sign_3 15 rfl rfl)
theorem dX12_sign_85 : decode cX12_sign 85 = .ok (.iload_n 2, 1) := dk_28 (dk_at dksX12_sign_3 17 rfl rfl)
theorem dX12_sign_86 : decode cX12_sign 86 = .ok (.bipush 60, 2) := dk_16 60 (dk_at dksX12_sign_3 18 rfl rfl)
theorem dX12_sign_88 : decode cX12_sign 88 = .ok (.if_icmp .ne 7, 3) := dk_160 0 7 (dk_at dksX12_sign_3 20 rfl rfl)
theorem dX12_sign_91 : decode cX12_sign 91 = .ok (.bipush 13, 2) := dk_16 13 (dk_at dksX12_sign_4 0 rfl rfl)
theorem dX12_sign_93 : decode cX12_sign 93 = .ok (.istore 4, 2) := dk_54 4 (dk_at dksX12_sign_4 2 rfl rfl)
theorem dX12_sign_95 : decode cX12_sign 95 = .ok (.aload_n 0, 1) := dk_42 (dk_at dksX12_sign_4 4 rfl rfl)
theorem dX12_sign_96 : decode cX12_sign 96 = .ok (.iload 4, 2) := dk_21 4 (dk_at dksX12_sign_4 5 rfl rfl)
theorem dX12_sign_98 : decode cX12_sign 98 = .ok (.iload_n 1, 1) := dk_27 (dk_at dksX12_sign_4 7 rfl rfl)
theorem dX12_sign_99 : decode cX12_sign 99 = .ok (.iconst 0, 1) := dk_3 (dk_at dksX12_sign_4 8 rfl rfl)
theorem dX12_sign_100 : decode cX12_sign 100 = .ok (.lconst 0, 1) := dk_9 (dk_at dksX12_sign_4 9 rfl rfl)
theorem dX12_sign_101 : decode cX12_sign 101 = .ok (.invokevirtual 212, 3) := dk_182 0 212 (dk_at dksX12_sign_4 10 rfl rfl)
theorem dX12_sign_104 : decode cX12_sign 104 = .ok (.iconst 1, 1) := dk_4 (dk_at dksX12_sign_4 13 rfl rfl)
theorem dX12_sign_105 : decode cX12_sign 105 = .ok (.ireturn, 1) := dk_172 (dk_at dksX12_sign_4 14 rfl rfl)
abbrev cX12_is : ByteArray := prog_24_method_14_code
def yX12_is : MethodName := ⟨RX12, "is", "(I)Z"⟩
def dkwX12_is_1 : List UInt8 := [3, 172]
abbrev dktX12_is_1 : List UInt8 := dkwX12_is_1 ++ []
def dkwX12_is_0 : List UInt8 := [42, 180, 0, 227, 154, 0, 20, 42, 180, 0, 20, 42, 180, 0, 230, 46, 27, 160, 0, 7, 4, 167, 0, 4]
abbrev dktX12_is_0 : List UInt8 := dkwX12_is_0 ++ dktX12_is_1
theorem dksX12_is_0 : cX12_is.data.toList.drop 0 = dktX12_is_0 := by decide +kernel
theorem dksX12_is_1 : cX12_is.data.toList.drop 24 = dktX12_is_1 := dk_seg dksX12_is_0 24 rfl rfl
theorem dX12_is_0 : decode cX12_is 0 = .ok (.aload_n 0, 1) := dk_42 (dk_at dksX12_is_0 0 rfl rfl)
theorem dX12_is_1 : decode cX12_is 1 = .ok (.getfield 227, 3) := dk_180 0 227 (dk_at dksX12_is_0 1 rfl rfl)
theorem dX12_is_4 : decode cX12_is 4 = .ok (.ifCond .ne 20, 3) := dk_154 0 20 (dk_at dksX12_is_0 4 rfl rfl)
theorem dX12_is_7 : decode cX12_is 7 = .ok (.aload_n 0, 1) := dk_42 (dk_at dksX12_is_0 7 rfl rfl)
theorem dX12_is_8 : decode cX12_is 8 = .ok (.getfield 20, 3) := dk_180 0 20 (dk_at dksX12_is_0 8 rfl rfl)
theorem dX12_is_11 : decode cX12_is 11 = .ok (.aload_n 0, 1) := dk_42 (dk_at dksX12_is_0 11 rfl rfl)
theorem dX12_is_12 : decode cX12_is 12 = .ok (.getfield 230, 3) := dk_180 0 230 (dk_at dksX12_is_0 12 rfl rfl)
theorem dX12_is_15 : decode cX12_is 15 = .ok (.iaload, 1) := dk_46 (dk_at dksX12_is_0 15 rfl rfl)
theorem dX12_is_16 : decode cX12_is 16 = .ok (.iload_n 1, 1) := dk_27 (dk_at dksX12_is_0 16 rfl rfl)
theorem dX12_is_17 : decode cX12_is 17 = .ok (.if_icmp .ne 7, 3) := dk_160 0 7 (dk_at dksX12_is_0 17 rfl rfl)
theorem dX12_is_20 : decode cX12_is 20 = .ok (.iconst 1, 1) := dk_4 (dk_at dksX12_is_0 20 rfl rfl)
theorem dX12_is_21 : decode cX12_is 21 = .ok (.goto 4, 3) := dk_167 0 4 (dk_at dksX12_is_0 21 rfl rfl)
theorem dX12_is_24 : decode cX12_is 24 = .ok (.iconst 0, 1) := dk_3 (dk_at dksX12_is_1 0 rfl rfl)
theorem dX12_is_25 : decode cX12_is 25 = .ok (.ireturn, 1) := dk_172 (dk_at dksX12_is_1 1 rfl rfl)
abbrev cX12_tellOne : ByteArray := prog_24_method_23_code
def yX12_tellOne : MethodName := ⟨RX12, "tellOne", "()V"⟩
def dkwX12_tellOne_13 : List UInt8 := [182, 1, 48, 177]
abbrev dktX12_tellOne_13 : List UInt8 := dkwX12_tellOne_13 ++ []
def dkwX12_tellOne_12 : List UInt8 := [164, 0, 8, 42, 4, 182, 0, 242, 42, 180, 0, 227, 158, 0, 4, 177, 42, 182, 0, 248, 42, 27]
abbrev dktX12_tellOne_12 : List UInt8 := dkwX12_tellOne_12 ++ dktX12_tellOne_13
def dkwX12_tellOne_11 : List UInt8 := [180, 0, 230, 46, 16, 23, 100, 60, 27, 155, 0, 17, 42, 180, 0, 20, 42, 180, 0, 230, 46, 16, 25]
abbrev dktX12_tellOne_11 : List UInt8 := dkwX12_tellOne_11 ++ dktX12_tellOne_12
def dkwX12_tellOne_10 : List UInt8 := [42, 3, 17, 39, 15, 182, 1, 41, 79, 42, 7, 182, 1, 45, 167, 0, 56, 42, 180, 0, 20, 42]
abbrev dktX12_tellOne_10 : List UInt8 := dkwX12_tellOne_10 ++ dktX12_tellOne_11
def dkwX12_tellOne_9 : List UInt8 := [182, 1, 41, 79, 42, 7, 182, 1, 45, 167, 0, 85, 42, 182, 0, 248, 42, 180, 0, 103, 42, 180, 1, 4]
abbrev dktX12_tellOne_9 : List UInt8 := dkwX12_tellOne_9 ++ dktX12_tellOne_10
def dkwX12_tellOne_8 : List UInt8 := [182, 1, 45, 167, 0, 113, 42, 182, 0, 248, 42, 180, 0, 100, 42, 180, 1, 4, 42, 4, 16, 99]
abbrev dktX12_tellOne_8 : List UInt8 := dkwX12_tellOne_8 ++ dktX12_tellOne_9
def dkwX12_tellOne_7 : List UInt8 := [182, 0, 248, 42, 180, 0, 97, 42, 180, 1, 4, 42, 3, 17, 39, 15, 182, 1, 41, 79, 42, 7]
abbrev dktX12_tellOne_7 : List UInt8 := dkwX12_tellOne_7 ++ dktX12_tellOne_8
def dkwX12_tellOne_6 : List UInt8 := [42, 180, 1, 4, 46, 8, 182, 1, 25, 42, 180, 0, 227, 154, 0, 149, 42, 182, 1, 38, 167, 0, 142, 42]
abbrev dktX12_tellOne_6 : List UInt8 := dkwX12_tellOne_6 ++ dktX12_tellOne_7
def dkwX12_tellOne_5 : List UInt8 := [16, 8, 182, 1, 25, 42, 180, 0, 227, 154, 0, 177, 42, 182, 1, 35, 167, 0, 170, 42, 42, 180, 0, 82]
abbrev dktX12_tellOne_5 : List UInt8 := dkwX12_tellOne_5 ++ dktX12_tellOne_6
def dkwX12_tellOne_4 : List UInt8 := [180, 0, 227, 154, 0, 206, 42, 182, 1, 32, 167, 0, 199, 42, 42, 180, 0, 67, 42, 180, 1, 4, 46]
abbrev dktX12_tellOne_4 : List UInt8 := dkwX12_tellOne_4 ++ dktX12_tellOne_5
def dkwX12_tellOne_3 : List UInt8 := [182, 1, 29, 167, 0, 228, 42, 42, 180, 0, 58, 42, 180, 1, 4, 46, 16, 6, 182, 1, 25, 42]
abbrev dktX12_tellOne_3 : List UInt8 := dkwX12_tellOne_3 ++ dktX12_tellOne_4
def dkwX12_tellOne_2 : List UInt8 := [42, 42, 180, 0, 49, 42, 180, 1, 4, 46, 16, 6, 182, 1, 25, 42, 180, 0, 227, 154, 0, 235, 42]
abbrev dktX12_tellOne_2 : List UInt8 := dkwX12_tellOne_2 ++ dktX12_tellOne_3
def dkwX12_tellOne_1 : List UInt8 := [170, 0, 0, 0, 0, 1, 0, 0, 0, 0, 20, 0, 0, 0, 29, 0, 0, 0, 55, 0, 0, 0, 84, 0, 0, 0, 113, 0, 0, 1, 0, 0, 0, 1, 0, 0, 0, 1, 0, 0, 0, 0, 142, 0, 0, 0, 170, 0, 0, 0, 199, 0, 0, 0, 227]
abbrev dktX12_tellOne_1 : List UInt8 := dkwX12_tellOne_1 ++ dktX12_tellOne_2
def dkwX12_tellOne_0 : List UInt8 := [42, 180, 0, 20, 42, 180, 0, 230, 46]
abbrev dktX12_tellOne_0 : List UInt8 := dkwX12_tellOne_0 ++ dktX12_tellOne_1
theorem dksX12_tellOne_0 : cX12_tellOne.data.toList.drop 0 = dktX12_tellOne_0 := by decide +kernel
theorem dksX12_tellOne_1 : cX12_tellOne.data.toList.drop 9 = dktX12_tellOne_1 := dk_seg dksX12_tellOne_0 9 rfl rfl
theorem dksX12_tellOne_2 : cX12_tellOne.data.toList.drop 64 = dktX12_tellOne_2 := dk_seg dksX12_tellOne_1 55 rfl rfl
theorem dksX12_tellOne_3 : cX12_tellOne.data.toList.drop 87 = dktX12_tellOne_3 := dk_seg dksX12_tellOne_2 23 rfl rfl
theorem dksX12_tellOne_4 : cX12_tellOne.data.toList.drop 109 = dktX12_tellOne_4 := dk_seg dksX12_tellOne_3 22 rfl rfl
theorem dksX12_tellOne_5 : cX12_tellOne.data.toList.drop 132 = dktX12_tellOne_5 := dk_seg dksX12_tellOne_4 23 rfl rfl
theorem dksX12_tellOne_6 : cX12_tellOne.data.toList.drop 156 = dktX12_tellOne_6 := dk_seg dksX12_tellOne_5 24 rfl rfl
theorem dksX12_tellOne_7 : cX12_tellOne.data.toList.drop 180 = dktX12_tellOne_7 := dk_seg dksX12_tellOne_6 24 rfl rfl
theorem dksX12_tellOne_8 : cX12_tellOne.data.toList.drop 202 = dktX12_tellOne_8 := dk_seg dksX12_tellOne_7 22 rfl rfl
theorem dksX12_tellOne_9 : cX12_tellOne.data.toList.drop 224 = dktX12_tellOne_9 := dk_seg dksX12_tellOne_8 22 rfl rfl
theorem dksX12_tellOne_10 : cX12_tellOne.data.toList.drop 248 = dktX12_tellOne_10 := dk_seg dksX12_tellOne_9 24 rfl rfl
theorem dksX12_tellOne_11 : cX12_tellOne.data.toList.drop 270 = dktX12_tellOne_11 := dk_seg dksX12_tellOne_10 22 rfl rfl
theorem dksX12_tellOne_12 : cX12_tellOne.data.toList.drop 293 = dktX12_tellOne_12 := dk_seg dksX12_tellOne_11 23 rfl rfl
theorem dksX12_tellOne_13 : cX12_tellOne.data.toList.drop 315 = dktX12_tellOne_13 := dk_seg dksX12_tellOne_12 22 rfl rfl
theorem dX12_tellOne_0 : decode cX12_tellOne 0 = .ok (.aload_n 0, 1) := dk_42 (dk_at dksX12_tellOne_0 0 rfl rfl)
theorem dX12_tellOne_1 : decode cX12_tellOne 1 = .ok (.getfield 20, 3) := dk_180 0 20 (dk_at dksX12_tellOne_0 1 rfl rfl)
theorem dX12_tellOne_4 : decode cX12_tellOne 4 = .ok (.aload_n 0, 1) := dk_42 (dk_at dksX12_tellOne_0 4 rfl rfl)
theorem dX12_tellOne_5 : decode cX12_tellOne 5 = .ok (.getfield 230, 3) := dk_180 0 230 (dk_at dksX12_tellOne_0 5 rfl rfl)
theorem dX12_tellOne_8 : decode cX12_tellOne 8 = .ok (.iaload, 1) := dk_46 (dk_at dksX12_tellOne_0 8 rfl rfl)
theorem dX12_tellOne_9 : decode cX12_tellOne 9 = .ok (.tableswitch 256 20 29 #[55, 84, 113, 256, 256, 256, 142, 170, 199, 227], 55) := by decide +kernel
theorem dX12_tellOne_64 : decode cX12_tellOne 64 = .ok (.aload_n 0, 1) := dk_42 (dk_at dksX12_tellOne_2 0 rfl rfl)
theorem dX12_tellOne_65 : decode cX12_tellOne 65 = .ok (.aload_n 0, 1) := dk_42 (dk_at dksX12_tellOne_2 1 rfl rfl)
theorem dX12_tellOne_66 : decode cX12_tellOne 66 = .ok (.getfield 49, 3) := dk_180 0 49 (dk_at dksX12_tellOne_2 2 rfl rfl)
theorem dX12_tellOne_69 : decode cX12_tellOne 69 = .ok (.aload_n 0, 1) := dk_42 (dk_at dksX12_tellOne_2 5 rfl rfl)
theorem dX12_tellOne_70 : decode cX12_tellOne 70 = .ok (.getfield 260, 3) := dk_180 1 4 (dk_at dksX12_tellOne_2 6 rfl rfl)
theorem dX12_tellOne_73 : decode cX12_tellOne 73 = .ok (.iaload, 1) := dk_46 (dk_at dksX12_tellOne_2 9 rfl rfl)
theorem dX12_tellOne_74 : decode cX12_tellOne 74 = .ok (.bipush 6, 2) := dk_16 6 (dk_at dksX12_tellOne_2 10 rfl rfl)
theorem dX12_tellOne_76 : decode cX12_tellOne 76 = .ok (.invokevirtual 281, 3) := dk_182 1 25 (dk_at dksX12_tellOne_2 12 rfl rfl)
theorem dX12_tellOne_79 : decode cX12_tellOne 79 = .ok (.aload_n 0, 1) := dk_42 (dk_at dksX12_tellOne_2 15 rfl rfl)
theorem dX12_tellOne_80 : decode cX12_tellOne 80 = .ok (.getfield 227, 3) := dk_180 0 227 (dk_at dksX12_tellOne_2 16 rfl rfl)
theorem dX12_tellOne_83 : decode cX12_tellOne 83 = .ok (.ifCond .ne 235, 3) := dk_154 0 235 (dk_at dksX12_tellOne_2 19 rfl rfl)
theorem dX12_tellOne_86 : decode cX12_tellOne 86 = .ok (.aload_n 0, 1) := dk_42 (dk_at dksX12_tellOne_2 22 rfl rfl)
theorem dX12_tellOne_87 : decode cX12_tellOne 87 = .ok (.invokevirtual 285, 3) := dk_182 1 29 (dk_at dksX12_tellOne_3 0 rfl rfl)
theorem dX12_tellOne_90 : decode cX12_tellOne 90 = .ok (.goto 228, 3) := dk_167 0 228 (dk_at dksX12_tellOne_3 3 rfl rfl)
theorem dX12_tellOne_93 : decode cX12_tellOne 93 = .ok (.aload_n 0, 1) := dk_42 (dk_at dksX12_tellOne_3 6 rfl rfl)
theorem dX12_tellOne_94 : decode cX12_tellOne 94 = .ok (.aload_n 0, 1) := dk_42 (dk_at dksX12_tellOne_3 7 rfl rfl)
theorem dX12_tellOne_95 : decode cX12_tellOne 95 = .ok (.getfield 58, 3) := dk_180 0 58 (dk_at dksX12_tellOne_3 8 rfl rfl)
theorem dX12_tellOne_98 : decode cX12_tellOne 98 = .ok (.aload_n 0, 1) := dk_42 (dk_at dksX12_tellOne_3 11 rfl rfl)
theorem dX12_tellOne_99 : decode cX12_tellOne 99 = .ok (.getfield 260, 3) := dk_180 1 4 (dk_at dksX12_tellOne_3 12 rfl rfl)
theorem dX12_tellOne_102 : decode cX12_tellOne 102 = .ok (.iaload, 1) := dk_46 (dk_at dksX12_tellOne_3 15 rfl rfl)
theorem dX12_tellOne_103 : decode cX12_tellOne 103 = .ok (.bipush 6, 2) := dk_16 6 (dk_at dksX12_tellOne_3 16 rfl rfl)
theorem dX12_tellOne_105 : decode cX12_tellOne 105 = .ok (.invokevirtual 281, 3) := dk_182 1 25 (dk_at dksX12_tellOne_3 18 rfl rfl)
theorem dX12_tellOne_108 : decode cX12_tellOne 108 = .ok (.aload_n 0, 1) := dk_42 (dk_at dksX12_tellOne_3 21 rfl rfl)
theorem dX12_tellOne_109 : decode cX12_tellOne 109 = .ok (.getfield 227, 3) := dk_180 0 227 (dk_at dksX12_tellOne_4 0 rfl rfl)
theorem dX12_tellOne_112 : decode cX12_tellOne 112 = .ok (.ifCond .ne 206, 3) := dk_154 0 206 (dk_at dksX12_tellOne_4 3 rfl rfl)
theorem dX12_tellOne_115 : decode cX12_tellOne 115 = .ok (.aload_n 0, 1) := dk_42 (dk_at dksX12_tellOne_4 6 rfl rfl)
theorem dX12_tellOne_116 : decode cX12_tellOne 116 = .ok (.invokevirtual 288, 3) := dk_182 1 32 (dk_at dksX12_tellOne_4 7 rfl rfl)
theorem dX12_tellOne_119 : decode cX12_tellOne 119 = .ok (.goto 199, 3) := dk_167 0 199 (dk_at dksX12_tellOne_4 10 rfl rfl)
theorem dX12_tellOne_122 : decode cX12_tellOne 122 = .ok (.aload_n 0, 1) := dk_42 (dk_at dksX12_tellOne_4 13 rfl rfl)
theorem dX12_tellOne_123 : decode cX12_tellOne 123 = .ok (.aload_n 0, 1) := dk_42 (dk_at dksX12_tellOne_4 14 rfl rfl)
theorem dX12_tellOne_124 : decode cX12_tellOne 124 = .ok (.getfield 67, 3) := dk_180 0 67 (dk_at dksX12_tellOne_4 15 rfl rfl)
theorem dX12_tellOne_127 : decode cX12_tellOne 127 = .ok (.aload_n 0, 1) := dk_42 (dk_at dksX12_tellOne_4 18 rfl rfl)
theorem dX12_tellOne_128 : decode cX12_tellOne 128 = .ok (.getfield 260, 3) := dk_180 1 4 (dk_at dksX12_tellOne_4 19 rfl rfl)
theorem dX12_tellOne_131 : decode cX12_tellOne 131 = .ok (.iaload, 1) := dk_46 (dk_at dksX12_tellOne_4 22 rfl rfl)
theorem dX12_tellOne_132 : decode cX12_tellOne 132 = .ok (.bipush 8, 2) := dk_16 8 (dk_at dksX12_tellOne_5 0 rfl rfl)
theorem dX12_tellOne_134 : decode cX12_tellOne 134 = .ok (.invokevirtual 281, 3) := dk_182 1 25 (dk_at dksX12_tellOne_5 2 rfl rfl)
theorem dX12_tellOne_137 : decode cX12_tellOne 137 = .ok (.aload_n 0, 1) := dk_42 (dk_at dksX12_tellOne_5 5 rfl rfl)
theorem dX12_tellOne_138 : decode cX12_tellOne 138 = .ok (.getfield 227, 3) := dk_180 0 227 (dk_at dksX12_tellOne_5 6 rfl rfl)
theorem dX12_tellOne_141 : decode cX12_tellOne 141 = .ok (.ifCond .ne 177, 3) := dk_154 0 177 (dk_at dksX12_tellOne_5 9 rfl rfl)
theorem dX12_tellOne_144 : decode cX12_tellOne 144 = .ok (.aload_n 0, 1) := dk_42 (dk_at dksX12_tellOne_5 12 rfl rfl)
theorem dX12_tellOne_145 : decode cX12_tellOne 145 = .ok (.invokevirtual 291, 3) := dk_182 1 35 (dk_at dksX12_tellOne_5 13 rfl rfl)
theorem dX12_tellOne_148 : decode cX12_tellOne 148 = .ok (.goto 170, 3) := dk_167 0 170 (dk_at dksX12_tellOne_5 16 rfl rfl)
theorem dX12_tellOne_151 : decode cX12_tellOne 151 = .ok (.aload_n 0, 1) := dk_42 (dk_at dksX12_tellOne_5 19 rfl rfl)
theorem dX12_tellOne_152 : decode cX12_tellOne 152 = .ok (.aload_n 0, 1) := dk_42 (dk_at dksX12_tellOne_5 20 rfl rfl)
theorem dX12_tellOne_153 : decode cX12_tellOne 153 = .ok (.getfield 82, 3) := dk_180 0 82 (dk_at dksX12_tellOne_5 21 rfl rfl)
theorem dX12_tellOne_156 : decode cX12_tellOne 156 = .ok (.aload_n 0, 1) := dk_42 (dk_at dksX12_tellOne_6 0 rfl rfl)
theorem dX12_tellOne_157 : decode cX12_tellOne 157 = .ok (.getfield 260, 3) := dk_180 1 4 (dk_at dksX12_tellOne_6 1 rfl rfl)
theorem dX12_tellOne_160 : decode cX12_tellOne 160 = .ok (.iaload, 1) := dk_46 (dk_at dksX12_tellOne_6 4 rfl rfl)
theorem dX12_tellOne_161 : decode cX12_tellOne 161 = .ok (.iconst 5, 1) := dk_8 (dk_at dksX12_tellOne_6 5 rfl rfl)
theorem dX12_tellOne_162 : decode cX12_tellOne 162 = .ok (.invokevirtual 281, 3) := dk_182 1 25 (dk_at dksX12_tellOne_6 6 rfl rfl)
theorem dX12_tellOne_165 : decode cX12_tellOne 165 = .ok (.aload_n 0, 1) := dk_42 (dk_at dksX12_tellOne_6 9 rfl rfl)
theorem dX12_tellOne_166 : decode cX12_tellOne 166 = .ok (.getfield 227, 3) := dk_180 0 227 (dk_at dksX12_tellOne_6 10 rfl rfl)
theorem dX12_tellOne_169 : decode cX12_tellOne 169 = .ok (.ifCond .ne 149, 3) := dk_154 0 149 (dk_at dksX12_tellOne_6 13 rfl rfl)
theorem dX12_tellOne_172 : decode cX12_tellOne 172 = .ok (.aload_n 0, 1) := dk_42 (dk_at dksX12_tellOne_6 16 rfl rfl)
theorem dX12_tellOne_173 : decode cX12_tellOne 173 = .ok (.invokevirtual 294, 3) := dk_182 1 38 (dk_at dksX12_tellOne_6 17 rfl rfl)
theorem dX12_tellOne_176 : decode cX12_tellOne 176 = .ok (.goto 142, 3) := dk_167 0 142 (dk_at dksX12_tellOne_6 20 rfl rfl)
theorem dX12_tellOne_179 : decode cX12_tellOne 179 = .ok (.aload_n 0, 1) := dk_42 (dk_at dksX12_tellOne_6 23 rfl rfl)
theorem dX12_tellOne_180 : decode cX12_tellOne 180 = .ok (.invokevirtual 248, 3) := dk_182 0 248 (dk_at dksX12_tellOne_7 0 rfl rfl)
theorem dX12_tellOne_183 : decode cX12_tellOne 183 = .ok (.aload_n 0, 1) := dk_42 (dk_at dksX12_tellOne_7 3 rfl rfl)
theorem dX12_tellOne_184 : decode cX12_tellOne 184 = .ok (.getfield 97, 3) := dk_180 0 97 (dk_at dksX12_tellOne_7 4 rfl rfl)
theorem dX12_tellOne_187 : decode cX12_tellOne 187 = .ok (.aload_n 0, 1) := dk_42 (dk_at dksX12_tellOne_7 7 rfl rfl)
theorem dX12_tellOne_188 : decode cX12_tellOne 188 = .ok (.getfield 260, 3) := dk_180 1 4 (dk_at dksX12_tellOne_7 8 rfl rfl)
theorem dX12_tellOne_191 : decode cX12_tellOne 191 = .ok (.aload_n 0, 1) := dk_42 (dk_at dksX12_tellOne_7 11 rfl rfl)
theorem dX12_tellOne_192 : decode cX12_tellOne 192 = .ok (.iconst 0, 1) := dk_3 (dk_at dksX12_tellOne_7 12 rfl rfl)
theorem dX12_tellOne_193 : decode cX12_tellOne 193 = .ok (.sipush 9999, 3) := dk_17 39 15 (dk_at dksX12_tellOne_7 13 rfl rfl)
theorem dX12_tellOne_196 : decode cX12_tellOne 196 = .ok (.invokevirtual 297, 3) := dk_182 1 41 (dk_at dksX12_tellOne_7 16 rfl rfl)
theorem dX12_tellOne_199 : decode cX12_tellOne 199 = .ok (.iastore, 1) := dk_79 (dk_at dksX12_tellOne_7 19 rfl rfl)
theorem dX12_tellOne_200 : decode cX12_tellOne 200 = .ok (.aload_n 0, 1) := dk_42 (dk_at dksX12_tellOne_7 20 rfl rfl)
theorem dX12_tellOne_201 : decode cX12_tellOne 201 = .ok (.iconst 4, 1) := dk_7 (dk_at dksX12_tellOne_7 21 rfl rfl)
theorem dX12_tellOne_202 : decode cX12_tellOne 202 = .ok (.invokevirtual 301, 3) := dk_182 1 45 (dk_at dksX12_tellOne_8 0 rfl rfl)
theorem dX12_tellOne_205 : decode cX12_tellOne 205 = .ok (.goto 113, 3) := dk_167 0 113 (dk_at dksX12_tellOne_8 3 rfl rfl)
theorem dX12_tellOne_208 : decode cX12_tellOne 208 = .ok (.aload_n 0, 1) := dk_42 (dk_at dksX12_tellOne_8 6 rfl rfl)
theorem dX12_tellOne_209 : decode cX12_tellOne 209 = .ok (.invokevirtual 248, 3) := dk_182 0 248 (dk_at dksX12_tellOne_8 7 rfl rfl)
theorem dX12_tellOne_212 : decode cX12_tellOne 212 = .ok (.aload_n 0, 1) := dk_42 (dk_at dksX12_tellOne_8 10 rfl rfl)
theorem dX12_tellOne_213 : decode cX12_tellOne 213 = .ok (.getfield 100, 3) := dk_180 0 100 (dk_at dksX12_tellOne_8 11 rfl rfl)
theorem dX12_tellOne_216 : decode cX12_tellOne 216 = .ok (.aload_n 0, 1) := dk_42 (dk_at dksX12_tellOne_8 14 rfl rfl)
theorem dX12_tellOne_217 : decode cX12_tellOne 217 = .ok (.getfield 260, 3) := dk_180 1 4 (dk_at dksX12_tellOne_8 15 rfl rfl)
theorem dX12_tellOne_220 : decode cX12_tellOne 220 = .ok (.aload_n 0, 1) := dk_42 (dk_at dksX12_tellOne_8 18 rfl rfl)
theorem dX12_tellOne_221 : decode cX12_tellOne 221 = .ok (.iconst 1, 1) := dk_4 (dk_at dksX12_tellOne_8 19 rfl rfl)
theorem dX12_tellOne_222 : decode cX12_tellOne 222 = .ok (.bipush 99, 2) := dk_16 99 (dk_at dksX12_tellOne_8 20 rfl rfl)
theorem dX12_tellOne_224 : decode cX12_tellOne 224 = .ok (.invokevirtual 297, 3) := dk_182 1 41 (dk_at dksX12_tellOne_9 0 rfl rfl)
theorem dX12_tellOne_227 : decode cX12_tellOne 227 = .ok (.iastore, 1) := dk_79 (dk_at dksX12_tellOne_9 3 rfl rfl)
theorem dX12_tellOne_228 : decode cX12_tellOne 228 = .ok (.aload_n 0, 1) := dk_42 (dk_at dksX12_tellOne_9 4 rfl rfl)
theorem dX12_tellOne_229 : decode cX12_tellOne 229 = .ok (.iconst 4, 1) := dk_7 (dk_at dksX12_tellOne_9 5 rfl rfl)
theorem dX12_tellOne_230 : decode cX12_tellOne 230 = .ok (.invokevirtual 301, 3) := dk_182 1 45 (dk_at dksX12_tellOne_9 6 rfl rfl)
theorem dX12_tellOne_233 : decode cX12_tellOne 233 = .ok (.goto 85, 3) := dk_167 0 85 (dk_at dksX12_tellOne_9 9 rfl rfl)
theorem dX12_tellOne_236 : decode cX12_tellOne 236 = .ok (.aload_n 0, 1) := dk_42 (dk_at dksX12_tellOne_9 12 rfl rfl)
theorem dX12_tellOne_237 : decode cX12_tellOne 237 = .ok (.invokevirtual 248, 3) := dk_182 0 248 (dk_at dksX12_tellOne_9 13 rfl rfl)
theorem dX12_tellOne_240 : decode cX12_tellOne 240 = .ok (.aload_n 0, 1) := dk_42 (dk_at dksX12_tellOne_9 16 rfl rfl)
theorem dX12_tellOne_241 : decode cX12_tellOne 241 = .ok (.getfield 103, 3) := dk_180 0 103 (dk_at dksX12_tellOne_9 17 rfl rfl)
theorem dX12_tellOne_244 : decode cX12_tellOne 244 = .ok (.aload_n 0, 1) := dk_42 (dk_at dksX12_tellOne_9 20 rfl rfl)
theorem dX12_tellOne_245 : decode cX12_tellOne 245 = .ok (.getfield 260, 3) := dk_180 1 4 (dk_at dksX12_tellOne_9 21 rfl rfl)
theorem dX12_tellOne_248 : decode cX12_tellOne 248 = .ok (.aload_n 0, 1) := dk_42 (dk_at dksX12_tellOne_10 0 rfl rfl)
theorem dX12_tellOne_249 : decode cX12_tellOne 249 = .ok (.iconst 0, 1) := dk_3 (dk_at dksX12_tellOne_10 1 rfl rfl)
theorem dX12_tellOne_250 : decode cX12_tellOne 250 = .ok (.sipush 9999, 3) := dk_17 39 15 (dk_at dksX12_tellOne_10 2 rfl rfl)
theorem dX12_tellOne_253 : decode cX12_tellOne 253 = .ok (.invokevirtual 297, 3) := dk_182 1 41 (dk_at dksX12_tellOne_10 5 rfl rfl)
theorem dX12_tellOne_256 : decode cX12_tellOne 256 = .ok (.iastore, 1) := dk_79 (dk_at dksX12_tellOne_10 8 rfl rfl)
theorem dX12_tellOne_257 : decode cX12_tellOne 257 = .ok (.aload_n 0, 1) := dk_42 (dk_at dksX12_tellOne_10 9 rfl rfl)
theorem dX12_tellOne_258 : decode cX12_tellOne 258 = .ok (.iconst 4, 1) := dk_7 (dk_at dksX12_tellOne_10 10 rfl rfl)
theorem dX12_tellOne_259 : decode cX12_tellOne 259 = .ok (.invokevirtual 301, 3) := dk_182 1 45 (dk_at dksX12_tellOne_10 11 rfl rfl)
theorem dX12_tellOne_262 : decode cX12_tellOne 262 = .ok (.goto 56, 3) := dk_167 0 56 (dk_at dksX12_tellOne_10 14 rfl rfl)
theorem dX12_tellOne_265 : decode cX12_tellOne 265 = .ok (.aload_n 0, 1) := dk_42 (dk_at dksX12_tellOne_10 17 rfl rfl)
theorem dX12_tellOne_266 : decode cX12_tellOne 266 = .ok (.getfield 20, 3) := dk_180 0 20 (dk_at dksX12_tellOne_10 18 rfl rfl)
theorem dX12_tellOne_269 : decode cX12_tellOne 269 = .ok (.aload_n 0, 1) := dk_42 (dk_at dksX12_tellOne_10 21 rfl rfl)
theorem dX12_tellOne_270 : decode cX12_tellOne 270 = .ok (.getfield 230, 3) := dk_180 0 230 (dk_at dksX12_tellOne_11 0 rfl rfl)
theorem dX12_tellOne_273 : decode cX12_tellOne 273 = .ok (.iaload, 1) := dk_46 (dk_at dksX12_tellOne_11 3 rfl rfl)
theorem dX12_tellOne_274 : decode cX12_tellOne 274 = .ok (.bipush 23, 2) := dk_16 23 (dk_at dksX12_tellOne_11 4 rfl rfl)
theorem dX12_tellOne_276 : decode cX12_tellOne 276 = .ok (.isub, 1) := dk_100 (dk_at dksX12_tellOne_11 6 rfl rfl)
theorem dX12_tellOne_277 : decode cX12_tellOne 277 = .ok (.istore_n 1, 1) := dk_60 (dk_at dksX12_tellOne_11 7 rfl rfl)
theorem dX12_tellOne_278 : decode cX12_tellOne 278 = .ok (.iload_n 1, 1) := dk_27 (dk_at dksX12_tellOne_11 8 rfl rfl)
theorem dX12_tellOne_279 : decode cX12_tellOne 279 = .ok (.ifCond .lt 17, 3) := dk_155 0 17 (dk_at dksX12_tellOne_11 9 rfl rfl)
theorem dX12_tellOne_282 : decode cX12_tellOne 282 = .ok (.aload_n 0, 1) := dk_42 (dk_at dksX12_tellOne_11 12 rfl rfl)
theorem dX12_tellOne_283 : decode cX12_tellOne 283 = .ok (.getfield 20, 3) := dk_180 0 20 (dk_at dksX12_tellOne_11 13 rfl rfl)
theorem dX12_tellOne_286 : decode cX12_tellOne 286 = .ok (.aload_n 0, 1) := dk_42 (dk_at dksX12_tellOne_11 16 rfl rfl)
theorem dX12_tellOne_287 : decode cX12_tellOne 287 = .ok (.getfield 230, 3) := dk_180 0 230 (dk_at dksX12_tellOne_11 17 rfl rfl)
theorem dX12_tellOne_290 : decode cX12_tellOne 290 = .ok (.iaload, 1) := dk_46 (dk_at dksX12_tellOne_11 20 rfl rfl)
theorem dX12_tellOne_291 : decode cX12_tellOne 291 = .ok (.bipush 25, 2) := dk_16 25 (dk_at dksX12_tellOne_11 21 rfl rfl)
theorem dX12_tellOne_293 : decode cX12_tellOne 293 = .ok (.if_icmp .le 8, 3) := dk_164 0 8 (dk_at dksX12_tellOne_12 0 rfl rfl)
theorem dX12_tellOne_296 : decode cX12_tellOne 296 = .ok (.aload_n 0, 1) := dk_42 (dk_at dksX12_tellOne_12 3 rfl rfl)
theorem dX12_tellOne_297 : decode cX12_tellOne 297 = .ok (.iconst 1, 1) := dk_4 (dk_at dksX12_tellOne_12 4 rfl rfl)
theorem dX12_tellOne_298 : decode cX12_tellOne 298 = .ok (.invokevirtual 242, 3) := dk_182 0 242 (dk_at dksX12_tellOne_12 5 rfl rfl)
theorem dX12_tellOne_301 : decode cX12_tellOne 301 = .ok (.aload_n 0, 1) := dk_42 (dk_at dksX12_tellOne_12 8 rfl rfl)
theorem dX12_tellOne_302 : decode cX12_tellOne 302 = .ok (.getfield 227, 3) := dk_180 0 227 (dk_at dksX12_tellOne_12 9 rfl rfl)
theorem dX12_tellOne_305 : decode cX12_tellOne 305 = .ok (.ifCond .le 4, 3) := dk_158 0 4 (dk_at dksX12_tellOne_12 12 rfl rfl)
theorem dX12_tellOne_308 : decode cX12_tellOne 308 = .ok (.return_, 1) := dk_177 (dk_at dksX12_tellOne_12 15 rfl rfl)
theorem dX12_tellOne_309 : decode cX12_tellOne 309 = .ok (.aload_n 0, 1) := dk_42 (dk_at dksX12_tellOne_12 16 rfl rfl)
theorem dX12_tellOne_310 : decode cX12_tellOne 310 = .ok (.invokevirtual 248, 3) := dk_182 0 248 (dk_at dksX12_tellOne_12 17 rfl rfl)
theorem dX12_tellOne_313 : decode cX12_tellOne 313 = .ok (.aload_n 0, 1) := dk_42 (dk_at dksX12_tellOne_12 20 rfl rfl)
theorem dX12_tellOne_314 : decode cX12_tellOne 314 = .ok (.iload_n 1, 1) := dk_27 (dk_at dksX12_tellOne_12 21 rfl rfl)
theorem dX12_tellOne_315 : decode cX12_tellOne 315 = .ok (.invokevirtual 304, 3) := dk_182 1 48 (dk_at dksX12_tellOne_13 0 rfl rfl)
theorem dX12_tellOne_318 : decode cX12_tellOne 318 = .ok (.return_, 1) := dk_177 (dk_at dksX12_tellOne_13 3 rfl rfl)
abbrev cX12_roomFor : ByteArray := prog_24_method_22_code
def yX12_roomFor : MethodName := ⟨RX12, "roomFor", "(II)V"⟩
def dkwX12_roomFor_0 : List UInt8 := [27, 28, 160, 0, 8, 42, 5, 182, 0, 242, 42, 180, 0, 227, 154, 0, 7, 42, 182, 0, 248, 177]
abbrev dktX12_roomFor_0 : List UInt8 := dkwX12_roomFor_0 ++ []
theorem dksX12_roomFor_0 : cX12_roomFor.data.toList.drop 0 = dktX12_roomFor_0 := by decide +kernel
theorem dX12_roomFor_0 : decode cX12_roomFor 0 = .ok (.iload_n 1, 1) := dk_27 (dk_at dksX12_roomFor_0 0 rfl rfl)
theorem dX12_roomFor_1 : decode cX12_roomFor 1 = .ok (.iload_n 2, 1) := dk_28 (dk_at dksX12_roomFor_0 1 rfl rfl)
theorem dX12_roomFor_2 : decode cX12_roomFor 2 = .ok (.if_icmp .ne 8, 3) := dk_160 0 8 (dk_at dksX12_roomFor_0 2 rfl rfl)
theorem dX12_roomFor_5 : decode cX12_roomFor 5 = .ok (.aload_n 0, 1) := dk_42 (dk_at dksX12_roomFor_0 5 rfl rfl)
theorem dX12_roomFor_6 : decode cX12_roomFor 6 = .ok (.iconst 2, 1) := dk_5 (dk_at dksX12_roomFor_0 6 rfl rfl)
theorem dX12_roomFor_7 : decode cX12_roomFor 7 = .ok (.invokevirtual 242, 3) := dk_182 0 242 (dk_at dksX12_roomFor_0 7 rfl rfl)
theorem dX12_roomFor_10 : decode cX12_roomFor 10 = .ok (.aload_n 0, 1) := dk_42 (dk_at dksX12_roomFor_0 10 rfl rfl)
theorem dX12_roomFor_11 : decode cX12_roomFor 11 = .ok (.getfield 227, 3) := dk_180 0 227 (dk_at dksX12_roomFor_0 11 rfl rfl)
theorem dX12_roomFor_14 : decode cX12_roomFor 14 = .ok (.ifCond .ne 7, 3) := dk_154 0 7 (dk_at dksX12_roomFor_0 14 rfl rfl)
theorem dX12_roomFor_17 : decode cX12_roomFor 17 = .ok (.aload_n 0, 1) := dk_42 (dk_at dksX12_roomFor_0 17 rfl rfl)
theorem dX12_roomFor_18 : decode cX12_roomFor 18 = .ok (.invokevirtual 248, 3) := dk_182 0 248 (dk_at dksX12_roomFor_0 18 rfl rfl)
theorem dX12_roomFor_21 : decode cX12_roomFor 21 = .ok (.return_, 1) := dk_177 (dk_at dksX12_roomFor_0 21 rfl rfl)
abbrev cX12_fail : ByteArray := prog_24_method_15_code
def yX12_fail : MethodName := ⟨RX12, "fail", "(I)V"⟩
def dkwX12_fail_1 : List UInt8 := [181, 0, 233, 177]
abbrev dktX12_fail_1 : List UInt8 := dkwX12_fail_1 ++ []
def dkwX12_fail_0 : List UInt8 := [42, 180, 0, 227, 158, 0, 4, 177, 42, 27, 181, 0, 227, 42, 42, 180, 0, 24, 42, 180, 0, 230, 46]
abbrev dktX12_fail_0 : List UInt8 := dkwX12_fail_0 ++ dktX12_fail_1
theorem dksX12_fail_0 : cX12_fail.data.toList.drop 0 = dktX12_fail_0 := by decide +kernel
theorem dksX12_fail_1 : cX12_fail.data.toList.drop 23 = dktX12_fail_1 := dk_seg dksX12_fail_0 23 rfl rfl
theorem dX12_fail_0 : decode cX12_fail 0 = .ok (.aload_n 0, 1) := dk_42 (dk_at dksX12_fail_0 0 rfl rfl)
theorem dX12_fail_1 : decode cX12_fail 1 = .ok (.getfield 227, 3) := dk_180 0 227 (dk_at dksX12_fail_0 1 rfl rfl)
theorem dX12_fail_4 : decode cX12_fail 4 = .ok (.ifCond .le 4, 3) := dk_158 0 4 (dk_at dksX12_fail_0 4 rfl rfl)
theorem dX12_fail_7 : decode cX12_fail 7 = .ok (.return_, 1) := dk_177 (dk_at dksX12_fail_0 7 rfl rfl)
theorem dX12_fail_8 : decode cX12_fail 8 = .ok (.aload_n 0, 1) := dk_42 (dk_at dksX12_fail_0 8 rfl rfl)
theorem dX12_fail_9 : decode cX12_fail 9 = .ok (.iload_n 1, 1) := dk_27 (dk_at dksX12_fail_0 9 rfl rfl)
theorem dX12_fail_10 : decode cX12_fail 10 = .ok (.putfield 227, 3) := dk_181 0 227 (dk_at dksX12_fail_0 10 rfl rfl)
theorem dX12_fail_13 : decode cX12_fail 13 = .ok (.aload_n 0, 1) := dk_42 (dk_at dksX12_fail_0 13 rfl rfl)
theorem dX12_fail_14 : decode cX12_fail 14 = .ok (.aload_n 0, 1) := dk_42 (dk_at dksX12_fail_0 14 rfl rfl)
theorem dX12_fail_15 : decode cX12_fail 15 = .ok (.getfield 24, 3) := dk_180 0 24 (dk_at dksX12_fail_0 15 rfl rfl)
theorem dX12_fail_18 : decode cX12_fail 18 = .ok (.aload_n 0, 1) := dk_42 (dk_at dksX12_fail_0 18 rfl rfl)
theorem dX12_fail_19 : decode cX12_fail 19 = .ok (.getfield 230, 3) := dk_180 0 230 (dk_at dksX12_fail_0 19 rfl rfl)
theorem dX12_fail_22 : decode cX12_fail 22 = .ok (.iaload, 1) := dk_46 (dk_at dksX12_fail_0 22 rfl rfl)
theorem dX12_fail_23 : decode cX12_fail 23 = .ok (.putfield 233, 3) := dk_181 0 233 (dk_at dksX12_fail_1 0 rfl rfl)
theorem dX12_fail_26 : decode cX12_fail 26 = .ok (.return_, 1) := dk_177 (dk_at dksX12_fail_1 3 rfl rfl)
abbrev cX12_goesOn : ByteArray := prog_24_method_17_code
def yX12_goesOn : MethodName := ⟨RX12, "goesOn", "()V"⟩
def dkwX12_goesOn_1 : List UInt8 := [96, 181, 0, 230, 177]
abbrev dktX12_goesOn_1 : List UInt8 := dkwX12_goesOn_1 ++ []
def dkwX12_goesOn_0 : List UInt8 := [42, 180, 0, 230, 17, 1, 144, 160, 0, 11, 42, 5, 182, 0, 242, 167, 0, 13, 42, 89, 180, 0, 230, 4]
abbrev dktX12_goesOn_0 : List UInt8 := dkwX12_goesOn_0 ++ dktX12_goesOn_1
theorem dksX12_goesOn_0 : cX12_goesOn.data.toList.drop 0 = dktX12_goesOn_0 := by decide +kernel
theorem dksX12_goesOn_1 : cX12_goesOn.data.toList.drop 24 = dktX12_goesOn_1 := dk_seg dksX12_goesOn_0 24 rfl rfl
theorem dX12_goesOn_0 : decode cX12_goesOn 0 = .ok (.aload_n 0, 1) := dk_42 (dk_at dksX12_goesOn_0 0 rfl rfl)
theorem dX12_goesOn_1 : decode cX12_goesOn 1 = .ok (.getfield 230, 3) := dk_180 0 230 (dk_at dksX12_goesOn_0 1 rfl rfl)
theorem dX12_goesOn_4 : decode cX12_goesOn 4 = .ok (.sipush 400, 3) := dk_17 1 144 (dk_at dksX12_goesOn_0 4 rfl rfl)
theorem dX12_goesOn_7 : decode cX12_goesOn 7 = .ok (.if_icmp .ne 11, 3) := dk_160 0 11 (dk_at dksX12_goesOn_0 7 rfl rfl)
theorem dX12_goesOn_10 : decode cX12_goesOn 10 = .ok (.aload_n 0, 1) := dk_42 (dk_at dksX12_goesOn_0 10 rfl rfl)
theorem dX12_goesOn_11 : decode cX12_goesOn 11 = .ok (.iconst 2, 1) := dk_5 (dk_at dksX12_goesOn_0 11 rfl rfl)
theorem dX12_goesOn_12 : decode cX12_goesOn 12 = .ok (.invokevirtual 242, 3) := dk_182 0 242 (dk_at dksX12_goesOn_0 12 rfl rfl)
theorem dX12_goesOn_15 : decode cX12_goesOn 15 = .ok (.goto 13, 3) := dk_167 0 13 (dk_at dksX12_goesOn_0 15 rfl rfl)
theorem dX12_goesOn_18 : decode cX12_goesOn 18 = .ok (.aload_n 0, 1) := dk_42 (dk_at dksX12_goesOn_0 18 rfl rfl)
theorem dX12_goesOn_19 : decode cX12_goesOn 19 = .ok (.dup, 1) := dk_89 (dk_at dksX12_goesOn_0 19 rfl rfl)
theorem dX12_goesOn_20 : decode cX12_goesOn 20 = .ok (.getfield 230, 3) := dk_180 0 230 (dk_at dksX12_goesOn_0 20 rfl rfl)
theorem dX12_goesOn_23 : decode cX12_goesOn 23 = .ok (.iconst 1, 1) := dk_4 (dk_at dksX12_goesOn_0 23 rfl rfl)
theorem dX12_goesOn_24 : decode cX12_goesOn 24 = .ok (.iadd, 1) := dk_96 (dk_at dksX12_goesOn_1 0 rfl rfl)
theorem dX12_goesOn_25 : decode cX12_goesOn 25 = .ok (.putfield 230, 3) := dk_181 0 230 (dk_at dksX12_goesOn_1 1 rfl rfl)
theorem dX12_goesOn_28 : decode cX12_goesOn 28 = .ok (.return_, 1) := dk_177 (dk_at dksX12_goesOn_1 4 rfl rfl)
abbrev cX12_tellGrain : ByteArray := prog_24_method_28_code
def yX12_tellGrain : MethodName := ⟨RX12, "tellGrain", "()V"⟩
def dkwX12_tellGrain_3 : List UInt8 := [42, 180, 1, 4, 46, 182, 1, 58, 42, 180, 0, 49, 42, 180, 1, 4, 92, 46, 4, 96, 79, 177]
abbrev dktX12_tellGrain_3 : List UInt8 := dkwX12_tellGrain_3 ++ []
def dkwX12_tellGrain_2 : List UInt8 := [182, 1, 41, 79, 42, 7, 182, 1, 45, 42, 180, 0, 227, 158, 0, 4, 177, 42, 28, 3, 42, 180, 0, 49]
abbrev dktX12_tellGrain_2 : List UInt8 := dkwX12_tellGrain_2 ++ dktX12_tellGrain_3
def dkwX12_tellGrain_1 : List UInt8 := [180, 0, 52, 27, 42, 3, 17, 39, 15, 182, 1, 41, 79, 42, 180, 0, 55, 27, 42, 3, 16, 99]
abbrev dktX12_tellGrain_1 : List UInt8 := dkwX12_tellGrain_1 ++ dktX12_tellGrain_2
def dkwX12_tellGrain_0 : List UInt8 := [16, 6, 42, 180, 1, 4, 104, 42, 180, 0, 49, 42, 180, 1, 4, 46, 96, 60, 42, 182, 1, 54, 61, 42]
abbrev dktX12_tellGrain_0 : List UInt8 := dkwX12_tellGrain_0 ++ dktX12_tellGrain_1
theorem dksX12_tellGrain_0 : cX12_tellGrain.data.toList.drop 0 = dktX12_tellGrain_0 := by decide +kernel
theorem dksX12_tellGrain_1 : cX12_tellGrain.data.toList.drop 24 = dktX12_tellGrain_1 := dk_seg dksX12_tellGrain_0 24 rfl rfl
theorem dksX12_tellGrain_2 : cX12_tellGrain.data.toList.drop 46 = dktX12_tellGrain_2 := dk_seg dksX12_tellGrain_1 22 rfl rfl
theorem dksX12_tellGrain_3 : cX12_tellGrain.data.toList.drop 70 = dktX12_tellGrain_3 := dk_seg dksX12_tellGrain_2 24 rfl rfl
theorem dX12_tellGrain_0 : decode cX12_tellGrain 0 = .ok (.bipush 6, 2) := dk_16 6 (dk_at dksX12_tellGrain_0 0 rfl rfl)
theorem dX12_tellGrain_2 : decode cX12_tellGrain 2 = .ok (.aload_n 0, 1) := dk_42 (dk_at dksX12_tellGrain_0 2 rfl rfl)
theorem dX12_tellGrain_3 : decode cX12_tellGrain 3 = .ok (.getfield 260, 3) := dk_180 1 4 (dk_at dksX12_tellGrain_0 3 rfl rfl)
theorem dX12_tellGrain_6 : decode cX12_tellGrain 6 = .ok (.imul, 1) := dk_104 (dk_at dksX12_tellGrain_0 6 rfl rfl)
theorem dX12_tellGrain_7 : decode cX12_tellGrain 7 = .ok (.aload_n 0, 1) := dk_42 (dk_at dksX12_tellGrain_0 7 rfl rfl)
theorem dX12_tellGrain_8 : decode cX12_tellGrain 8 = .ok (.getfield 49, 3) := dk_180 0 49 (dk_at dksX12_tellGrain_0 8 rfl rfl)
theorem dX12_tellGrain_11 : decode cX12_tellGrain 11 = .ok (.aload_n 0, 1) := dk_42 (dk_at dksX12_tellGrain_0 11 rfl rfl)
theorem dX12_tellGrain_12 : decode cX12_tellGrain 12 = .ok (.getfield 260, 3) := dk_180 1 4 (dk_at dksX12_tellGrain_0 12 rfl rfl)
theorem dX12_tellGrain_15 : decode cX12_tellGrain 15 = .ok (.iaload, 1) := dk_46 (dk_at dksX12_tellGrain_0 15 rfl rfl)
theorem dX12_tellGrain_16 : decode cX12_tellGrain 16 = .ok (.iadd, 1) := dk_96 (dk_at dksX12_tellGrain_0 16 rfl rfl)
theorem dX12_tellGrain_17 : decode cX12_tellGrain 17 = .ok (.istore_n 1, 1) := dk_60 (dk_at dksX12_tellGrain_0 17 rfl rfl)
theorem dX12_tellGrain_18 : decode cX12_tellGrain 18 = .ok (.aload_n 0, 1) := dk_42 (dk_at dksX12_tellGrain_0 18 rfl rfl)
theorem dX12_tellGrain_19 : decode cX12_tellGrain 19 = .ok (.invokevirtual 310, 3) := dk_182 1 54 (dk_at dksX12_tellGrain_0 19 rfl rfl)
theorem dX12_tellGrain_22 : decode cX12_tellGrain 22 = .ok (.istore_n 2, 1) := dk_61 (dk_at dksX12_tellGrain_0 22 rfl rfl)
theorem dX12_tellGrain_23 : decode cX12_tellGrain 23 = .ok (.aload_n 0, 1) := dk_42 (dk_at dksX12_tellGrain_0 23 rfl rfl)
theorem dX12_tellGrain_24 : decode cX12_tellGrain 24 = .ok (.getfield 52, 3) := dk_180 0 52 (dk_at dksX12_tellGrain_1 0 rfl rfl)
theorem dX12_tellGrain_27 : decode cX12_tellGrain 27 = .ok (.iload_n 1, 1) := dk_27 (dk_at dksX12_tellGrain_1 3 rfl rfl)
theorem dX12_tellGrain_28 : decode cX12_tellGrain 28 = .ok (.aload_n 0, 1) := dk_42 (dk_at dksX12_tellGrain_1 4 rfl rfl)
theorem dX12_tellGrain_29 : decode cX12_tellGrain 29 = .ok (.iconst 0, 1) := dk_3 (dk_at dksX12_tellGrain_1 5 rfl rfl)
theorem dX12_tellGrain_30 : decode cX12_tellGrain 30 = .ok (.sipush 9999, 3) := dk_17 39 15 (dk_at dksX12_tellGrain_1 6 rfl rfl)
theorem dX12_tellGrain_33 : decode cX12_tellGrain 33 = .ok (.invokevirtual 297, 3) := dk_182 1 41 (dk_at dksX12_tellGrain_1 9 rfl rfl)
theorem dX12_tellGrain_36 : decode cX12_tellGrain 36 = .ok (.iastore, 1) := dk_79 (dk_at dksX12_tellGrain_1 12 rfl rfl)
theorem dX12_tellGrain_37 : decode cX12_tellGrain 37 = .ok (.aload_n 0, 1) := dk_42 (dk_at dksX12_tellGrain_1 13 rfl rfl)
theorem dX12_tellGrain_38 : decode cX12_tellGrain 38 = .ok (.getfield 55, 3) := dk_180 0 55 (dk_at dksX12_tellGrain_1 14 rfl rfl)
theorem dX12_tellGrain_41 : decode cX12_tellGrain 41 = .ok (.iload_n 1, 1) := dk_27 (dk_at dksX12_tellGrain_1 17 rfl rfl)
theorem dX12_tellGrain_42 : decode cX12_tellGrain 42 = .ok (.aload_n 0, 1) := dk_42 (dk_at dksX12_tellGrain_1 18 rfl rfl)
theorem dX12_tellGrain_43 : decode cX12_tellGrain 43 = .ok (.iconst 0, 1) := dk_3 (dk_at dksX12_tellGrain_1 19 rfl rfl)
theorem dX12_tellGrain_44 : decode cX12_tellGrain 44 = .ok (.bipush 99, 2) := dk_16 99 (dk_at dksX12_tellGrain_1 20 rfl rfl)
theorem dX12_tellGrain_46 : decode cX12_tellGrain 46 = .ok (.invokevirtual 297, 3) := dk_182 1 41 (dk_at dksX12_tellGrain_2 0 rfl rfl)
theorem dX12_tellGrain_49 : decode cX12_tellGrain 49 = .ok (.iastore, 1) := dk_79 (dk_at dksX12_tellGrain_2 3 rfl rfl)
theorem dX12_tellGrain_50 : decode cX12_tellGrain 50 = .ok (.aload_n 0, 1) := dk_42 (dk_at dksX12_tellGrain_2 4 rfl rfl)
theorem dX12_tellGrain_51 : decode cX12_tellGrain 51 = .ok (.iconst 4, 1) := dk_7 (dk_at dksX12_tellGrain_2 5 rfl rfl)
theorem dX12_tellGrain_52 : decode cX12_tellGrain 52 = .ok (.invokevirtual 301, 3) := dk_182 1 45 (dk_at dksX12_tellGrain_2 6 rfl rfl)
theorem dX12_tellGrain_55 : decode cX12_tellGrain 55 = .ok (.aload_n 0, 1) := dk_42 (dk_at dksX12_tellGrain_2 9 rfl rfl)
theorem dX12_tellGrain_56 : decode cX12_tellGrain 56 = .ok (.getfield 227, 3) := dk_180 0 227 (dk_at dksX12_tellGrain_2 10 rfl rfl)
theorem dX12_tellGrain_59 : decode cX12_tellGrain 59 = .ok (.ifCond .le 4, 3) := dk_158 0 4 (dk_at dksX12_tellGrain_2 13 rfl rfl)
theorem dX12_tellGrain_62 : decode cX12_tellGrain 62 = .ok (.return_, 1) := dk_177 (dk_at dksX12_tellGrain_2 16 rfl rfl)
theorem dX12_tellGrain_63 : decode cX12_tellGrain 63 = .ok (.aload_n 0, 1) := dk_42 (dk_at dksX12_tellGrain_2 17 rfl rfl)
theorem dX12_tellGrain_64 : decode cX12_tellGrain 64 = .ok (.iload_n 2, 1) := dk_28 (dk_at dksX12_tellGrain_2 18 rfl rfl)
theorem dX12_tellGrain_65 : decode cX12_tellGrain 65 = .ok (.iconst 0, 1) := dk_3 (dk_at dksX12_tellGrain_2 19 rfl rfl)
theorem dX12_tellGrain_66 : decode cX12_tellGrain 66 = .ok (.aload_n 0, 1) := dk_42 (dk_at dksX12_tellGrain_2 20 rfl rfl)
theorem dX12_tellGrain_67 : decode cX12_tellGrain 67 = .ok (.getfield 49, 3) := dk_180 0 49 (dk_at dksX12_tellGrain_2 21 rfl rfl)
theorem dX12_tellGrain_70 : decode cX12_tellGrain 70 = .ok (.aload_n 0, 1) := dk_42 (dk_at dksX12_tellGrain_3 0 rfl rfl)
theorem dX12_tellGrain_71 : decode cX12_tellGrain 71 = .ok (.getfield 260, 3) := dk_180 1 4 (dk_at dksX12_tellGrain_3 1 rfl rfl)
theorem dX12_tellGrain_74 : decode cX12_tellGrain 74 = .ok (.iaload, 1) := dk_46 (dk_at dksX12_tellGrain_3 4 rfl rfl)
theorem dX12_tellGrain_75 : decode cX12_tellGrain 75 = .ok (.invokevirtual 314, 3) := dk_182 1 58 (dk_at dksX12_tellGrain_3 5 rfl rfl)
theorem dX12_tellGrain_78 : decode cX12_tellGrain 78 = .ok (.aload_n 0, 1) := dk_42 (dk_at dksX12_tellGrain_3 8 rfl rfl)
theorem dX12_tellGrain_79 : decode cX12_tellGrain 79 = .ok (.getfield 49, 3) := dk_180 0 49 (dk_at dksX12_tellGrain_3 9 rfl rfl)
theorem dX12_tellGrain_82 : decode cX12_tellGrain 82 = .ok (.aload_n 0, 1) := dk_42 (dk_at dksX12_tellGrain_3 12 rfl rfl)
theorem dX12_tellGrain_83 : decode cX12_tellGrain 83 = .ok (.getfield 260, 3) := dk_180 1 4 (dk_at dksX12_tellGrain_3 13 rfl rfl)
theorem dX12_tellGrain_86 : decode cX12_tellGrain 86 = .ok (.dup2, 1) := dk_92 (dk_at dksX12_tellGrain_3 16 rfl rfl)
theorem dX12_tellGrain_87 : decode cX12_tellGrain 87 = .ok (.iaload, 1) := dk_46 (dk_at dksX12_tellGrain_3 17 rfl rfl)
theorem dX12_tellGrain_88 : decode cX12_tellGrain 88 = .ok (.iconst 1, 1) := dk_4 (dk_at dksX12_tellGrain_3 18 rfl rfl)
theorem dX12_tellGrain_89 : decode cX12_tellGrain 89 = .ok (.iadd, 1) := dk_96 (dk_at dksX12_tellGrain_3 19 rfl rfl)
theorem dX12_tellGrain_90 : decode cX12_tellGrain 90 = .ok (.iastore, 1) := dk_79 (dk_at dksX12_tellGrain_3 20 rfl rfl)
theorem dX12_tellGrain_91 : decode cX12_tellGrain 91 = .ok (.return_, 1) := dk_177 (dk_at dksX12_tellGrain_3 21 rfl rfl)
abbrev cX12_named : ByteArray := prog_24_method_24_code
def yX12_named : MethodName := ⟨RX12, "named", "()I"⟩
def dkwX12_named_2 : List UInt8 := [182, 1, 51, 132, 2, 1, 167, 255, 216, 27, 172]
abbrev dktX12_named_2 : List UInt8 := dkwX12_named_2 ++ []
def dkwX12_named_1 : List UInt8 := [154, 0, 31, 42, 180, 0, 40, 28, 47, 42, 180, 0, 30, 27, 47, 148, 154, 0, 9, 42, 6, 27]
abbrev dktX12_named_1 : List UInt8 := dkwX12_named_1 ++ dktX12_named_2
def dkwX12_named_0 : List UInt8 := [42, 180, 0, 230, 60, 42, 4, 182, 1, 45, 3, 61, 28, 42, 180, 1, 7, 162, 0, 38, 42, 180, 0, 227]
abbrev dktX12_named_0 : List UInt8 := dkwX12_named_0 ++ dktX12_named_1
theorem dksX12_named_0 : cX12_named.data.toList.drop 0 = dktX12_named_0 := by decide +kernel
theorem dksX12_named_1 : cX12_named.data.toList.drop 24 = dktX12_named_1 := dk_seg dksX12_named_0 24 rfl rfl
theorem dksX12_named_2 : cX12_named.data.toList.drop 46 = dktX12_named_2 := dk_seg dksX12_named_1 22 rfl rfl
theorem dX12_named_0 : decode cX12_named 0 = .ok (.aload_n 0, 1) := dk_42 (dk_at dksX12_named_0 0 rfl rfl)
theorem dX12_named_1 : decode cX12_named 1 = .ok (.getfield 230, 3) := dk_180 0 230 (dk_at dksX12_named_0 1 rfl rfl)
theorem dX12_named_4 : decode cX12_named 4 = .ok (.istore_n 1, 1) := dk_60 (dk_at dksX12_named_0 4 rfl rfl)
theorem dX12_named_5 : decode cX12_named 5 = .ok (.aload_n 0, 1) := dk_42 (dk_at dksX12_named_0 5 rfl rfl)
theorem dX12_named_6 : decode cX12_named 6 = .ok (.iconst 1, 1) := dk_4 (dk_at dksX12_named_0 6 rfl rfl)
theorem dX12_named_7 : decode cX12_named 7 = .ok (.invokevirtual 301, 3) := dk_182 1 45 (dk_at dksX12_named_0 7 rfl rfl)
theorem dX12_named_10 : decode cX12_named 10 = .ok (.iconst 0, 1) := dk_3 (dk_at dksX12_named_0 10 rfl rfl)
theorem dX12_named_11 : decode cX12_named 11 = .ok (.istore_n 2, 1) := dk_61 (dk_at dksX12_named_0 11 rfl rfl)
theorem dX12_named_12 : decode cX12_named 12 = .ok (.iload_n 2, 1) := dk_28 (dk_at dksX12_named_0 12 rfl rfl)
theorem dX12_named_13 : decode cX12_named 13 = .ok (.aload_n 0, 1) := dk_42 (dk_at dksX12_named_0 13 rfl rfl)
theorem dX12_named_14 : decode cX12_named 14 = .ok (.getfield 263, 3) := dk_180 1 7 (dk_at dksX12_named_0 14 rfl rfl)
theorem dX12_named_17 : decode cX12_named 17 = .ok (.if_icmp .ge 38, 3) := dk_162 0 38 (dk_at dksX12_named_0 17 rfl rfl)
theorem dX12_named_20 : decode cX12_named 20 = .ok (.aload_n 0, 1) := dk_42 (dk_at dksX12_named_0 20 rfl rfl)
theorem dX12_named_21 : decode cX12_named 21 = .ok (.getfield 227, 3) := dk_180 0 227 (dk_at dksX12_named_0 21 rfl rfl)
theorem dX12_named_24 : decode cX12_named 24 = .ok (.ifCond .ne 31, 3) := dk_154 0 31 (dk_at dksX12_named_1 0 rfl rfl)
theorem dX12_named_27 : decode cX12_named 27 = .ok (.aload_n 0, 1) := dk_42 (dk_at dksX12_named_1 3 rfl rfl)
theorem dX12_named_28 : decode cX12_named 28 = .ok (.getfield 40, 3) := dk_180 0 40 (dk_at dksX12_named_1 4 rfl rfl)
theorem dX12_named_31 : decode cX12_named 31 = .ok (.iload_n 2, 1) := dk_28 (dk_at dksX12_named_1 7 rfl rfl)
theorem dX12_named_32 : decode cX12_named 32 = .ok (.laload, 1) := dk_47 (dk_at dksX12_named_1 8 rfl rfl)
theorem dX12_named_33 : decode cX12_named 33 = .ok (.aload_n 0, 1) := dk_42 (dk_at dksX12_named_1 9 rfl rfl)
theorem dX12_named_34 : decode cX12_named 34 = .ok (.getfield 30, 3) := dk_180 0 30 (dk_at dksX12_named_1 10 rfl rfl)
theorem dX12_named_37 : decode cX12_named 37 = .ok (.iload_n 1, 1) := dk_27 (dk_at dksX12_named_1 13 rfl rfl)
theorem dX12_named_38 : decode cX12_named 38 = .ok (.laload, 1) := dk_47 (dk_at dksX12_named_1 14 rfl rfl)
theorem dX12_named_39 : decode cX12_named 39 = .ok (.lcmp, 1) := dk_148 (dk_at dksX12_named_1 15 rfl rfl)
theorem dX12_named_40 : decode cX12_named 40 = .ok (.ifCond .ne 9, 3) := dk_154 0 9 (dk_at dksX12_named_1 16 rfl rfl)
theorem dX12_named_43 : decode cX12_named 43 = .ok (.aload_n 0, 1) := dk_42 (dk_at dksX12_named_1 19 rfl rfl)
theorem dX12_named_44 : decode cX12_named 44 = .ok (.iconst 3, 1) := dk_6 (dk_at dksX12_named_1 20 rfl rfl)
theorem dX12_named_45 : decode cX12_named 45 = .ok (.iload_n 1, 1) := dk_27 (dk_at dksX12_named_1 21 rfl rfl)
theorem dX12_named_46 : decode cX12_named 46 = .ok (.invokevirtual 307, 3) := dk_182 1 51 (dk_at dksX12_named_2 0 rfl rfl)
theorem dX12_named_49 : decode cX12_named 49 = .ok (.iinc 2 1, 3) := dk_132 2 1 (dk_at dksX12_named_2 3 rfl rfl)
theorem dX12_named_52 : decode cX12_named 52 = .ok (.goto (-40), 3) := dk_167 255 216 (dk_at dksX12_named_2 6 rfl rfl)
theorem dX12_named_55 : decode cX12_named 55 = .ok (.iload_n 1, 1) := dk_27 (dk_at dksX12_named_2 9 rfl rfl)
theorem dX12_named_56 : decode cX12_named 56 = .ok (.ireturn, 1) := dk_172 (dk_at dksX12_named_2 10 rfl rfl)
abbrev cX12_must : ByteArray := prog_24_method_18_code
def yX12_must : MethodName := ⟨RX12, "must", "(I)V"⟩
def dkwX12_must_0 : List UInt8 := [42, 27, 182, 0, 245, 153, 0, 10, 42, 182, 0, 248, 167, 0, 8, 42, 4, 182, 0, 242, 177]
abbrev dktX12_must_0 : List UInt8 := dkwX12_must_0 ++ []
theorem dksX12_must_0 : cX12_must.data.toList.drop 0 = dktX12_must_0 := by decide +kernel
theorem dX12_must_0 : decode cX12_must 0 = .ok (.aload_n 0, 1) := dk_42 (dk_at dksX12_must_0 0 rfl rfl)
theorem dX12_must_1 : decode cX12_must 1 = .ok (.iload_n 1, 1) := dk_27 (dk_at dksX12_must_0 1 rfl rfl)
theorem dX12_must_2 : decode cX12_must 2 = .ok (.invokevirtual 245, 3) := dk_182 0 245 (dk_at dksX12_must_0 2 rfl rfl)
theorem dX12_must_5 : decode cX12_must 5 = .ok (.ifCond .eq 10, 3) := dk_153 0 10 (dk_at dksX12_must_0 5 rfl rfl)
theorem dX12_must_8 : decode cX12_must 8 = .ok (.aload_n 0, 1) := dk_42 (dk_at dksX12_must_0 8 rfl rfl)
theorem dX12_must_9 : decode cX12_must 9 = .ok (.invokevirtual 248, 3) := dk_182 0 248 (dk_at dksX12_must_0 9 rfl rfl)
theorem dX12_must_12 : decode cX12_must 12 = .ok (.goto 8, 3) := dk_167 0 8 (dk_at dksX12_must_0 12 rfl rfl)
theorem dX12_must_15 : decode cX12_must 15 = .ok (.aload_n 0, 1) := dk_42 (dk_at dksX12_must_0 15 rfl rfl)
theorem dX12_must_16 : decode cX12_must 16 = .ok (.iconst 1, 1) := dk_4 (dk_at dksX12_must_0 16 rfl rfl)
theorem dX12_must_17 : decode cX12_must 17 = .ok (.invokevirtual 242, 3) := dk_182 0 242 (dk_at dksX12_must_0 17 rfl rfl)
theorem dX12_must_20 : decode cX12_must 20 = .ok (.return_, 1) := dk_177 (dk_at dksX12_must_0 20 rfl rfl)
abbrev cX12_wrong : ByteArray := prog_24_method_16_code
def yX12_wrong : MethodName := ⟨RX12, "wrong", "(II)V"⟩
def dkwX12_wrong_2 : List UInt8 := [27, 181, 0, 236, 42, 29, 181, 0, 239, 177]
abbrev dktX12_wrong_2 : List UInt8 := dkwX12_wrong_2 ++ []
def dkwX12_wrong_1 : List UInt8 := [180, 0, 239, 163, 0, 19, 29, 42, 180, 0, 239, 160, 0, 12, 27, 42, 180, 0, 236, 161, 0, 4, 177, 42]
abbrev dktX12_wrong_1 : List UInt8 := dkwX12_wrong_1 ++ dktX12_wrong_2
def dkwX12_wrong_0 : List UInt8 := [42, 180, 0, 24, 28, 46, 62, 42, 180, 0, 227, 157, 0, 34, 42, 180, 0, 236, 153, 0, 28, 29, 42]
abbrev dktX12_wrong_0 : List UInt8 := dkwX12_wrong_0 ++ dktX12_wrong_1
theorem dksX12_wrong_0 : cX12_wrong.data.toList.drop 0 = dktX12_wrong_0 := by decide +kernel
theorem dksX12_wrong_1 : cX12_wrong.data.toList.drop 23 = dktX12_wrong_1 := dk_seg dksX12_wrong_0 23 rfl rfl
theorem dksX12_wrong_2 : cX12_wrong.data.toList.drop 47 = dktX12_wrong_2 := dk_seg dksX12_wrong_1 24 rfl rfl
theorem dX12_wrong_0 : decode cX12_wrong 0 = .ok (.aload_n 0, 1) := dk_42 (dk_at dksX12_wrong_0 0 rfl rfl)
theorem dX12_wrong_1 : decode cX12_wrong 1 = .ok (.getfield 24, 3) := dk_180 0 24 (dk_at dksX12_wrong_0 1 rfl rfl)
theorem dX12_wrong_4 : decode cX12_wrong 4 = .ok (.iload_n 2, 1) := dk_28 (dk_at dksX12_wrong_0 4 rfl rfl)
theorem dX12_wrong_5 : decode cX12_wrong 5 = .ok (.iaload, 1) := dk_46 (dk_at dksX12_wrong_0 5 rfl rfl)
theorem dX12_wrong_6 : decode cX12_wrong 6 = .ok (.istore_n 3, 1) := dk_62 (dk_at dksX12_wrong_0 6 rfl rfl)
theorem dX12_wrong_7 : decode cX12_wrong 7 = .ok (.aload_n 0, 1) := dk_42 (dk_at dksX12_wrong_0 7 rfl rfl)
theorem dX12_wrong_8 : decode cX12_wrong 8 = .ok (.getfield 227, 3) := dk_180 0 227 (dk_at dksX12_wrong_0 8 rfl rfl)
theorem dX12_wrong_11 : decode cX12_wrong 11 = .ok (.ifCond .gt 34, 3) := dk_157 0 34 (dk_at dksX12_wrong_0 11 rfl rfl)
theorem dX12_wrong_14 : decode cX12_wrong 14 = .ok (.aload_n 0, 1) := dk_42 (dk_at dksX12_wrong_0 14 rfl rfl)
theorem dX12_wrong_15 : decode cX12_wrong 15 = .ok (.getfield 236, 3) := dk_180 0 236 (dk_at dksX12_wrong_0 15 rfl rfl)
theorem dX12_wrong_18 : decode cX12_wrong 18 = .ok (.ifCond .eq 28, 3) := dk_153 0 28 (dk_at dksX12_wrong_0 18 rfl rfl)
theorem dX12_wrong_21 : decode cX12_wrong 21 = .ok (.iload_n 3, 1) := dk_29 (dk_at dksX12_wrong_0 21 rfl rfl)
theorem dX12_wrong_22 : decode cX12_wrong 22 = .ok (.aload_n 0, 1) := dk_42 (dk_at dksX12_wrong_0 22 rfl rfl)
theorem dX12_wrong_23 : decode cX12_wrong 23 = .ok (.getfield 239, 3) := dk_180 0 239 (dk_at dksX12_wrong_1 0 rfl rfl)
theorem dX12_wrong_26 : decode cX12_wrong 26 = .ok (.if_icmp .gt 19, 3) := dk_163 0 19 (dk_at dksX12_wrong_1 3 rfl rfl)
theorem dX12_wrong_29 : decode cX12_wrong 29 = .ok (.iload_n 3, 1) := dk_29 (dk_at dksX12_wrong_1 6 rfl rfl)
theorem dX12_wrong_30 : decode cX12_wrong 30 = .ok (.aload_n 0, 1) := dk_42 (dk_at dksX12_wrong_1 7 rfl rfl)
theorem dX12_wrong_31 : decode cX12_wrong 31 = .ok (.getfield 239, 3) := dk_180 0 239 (dk_at dksX12_wrong_1 8 rfl rfl)
theorem dX12_wrong_34 : decode cX12_wrong 34 = .ok (.if_icmp .ne 12, 3) := dk_160 0 12 (dk_at dksX12_wrong_1 11 rfl rfl)
theorem dX12_wrong_37 : decode cX12_wrong 37 = .ok (.iload_n 1, 1) := dk_27 (dk_at dksX12_wrong_1 14 rfl rfl)
theorem dX12_wrong_38 : decode cX12_wrong 38 = .ok (.aload_n 0, 1) := dk_42 (dk_at dksX12_wrong_1 15 rfl rfl)
theorem dX12_wrong_39 : decode cX12_wrong 39 = .ok (.getfield 236, 3) := dk_180 0 236 (dk_at dksX12_wrong_1 16 rfl rfl)
theorem dX12_wrong_42 : decode cX12_wrong 42 = .ok (.if_icmp .lt 4, 3) := dk_161 0 4 (dk_at dksX12_wrong_1 19 rfl rfl)
theorem dX12_wrong_45 : decode cX12_wrong 45 = .ok (.return_, 1) := dk_177 (dk_at dksX12_wrong_1 22 rfl rfl)
theorem dX12_wrong_46 : decode cX12_wrong 46 = .ok (.aload_n 0, 1) := dk_42 (dk_at dksX12_wrong_1 23 rfl rfl)
theorem dX12_wrong_47 : decode cX12_wrong 47 = .ok (.iload_n 1, 1) := dk_27 (dk_at dksX12_wrong_2 0 rfl rfl)
theorem dX12_wrong_48 : decode cX12_wrong 48 = .ok (.putfield 236, 3) := dk_181 0 236 (dk_at dksX12_wrong_2 1 rfl rfl)
theorem dX12_wrong_51 : decode cX12_wrong 51 = .ok (.aload_n 0, 1) := dk_42 (dk_at dksX12_wrong_2 4 rfl rfl)
theorem dX12_wrong_52 : decode cX12_wrong 52 = .ok (.iload_n 3, 1) := dk_29 (dk_at dksX12_wrong_2 5 rfl rfl)
theorem dX12_wrong_53 : decode cX12_wrong 53 = .ok (.putfield 239, 3) := dk_181 0 239 (dk_at dksX12_wrong_2 6 rfl rfl)
theorem dX12_wrong_56 : decode cX12_wrong 56 = .ok (.return_, 1) := dk_177 (dk_at dksX12_wrong_2 9 rfl rfl)
abbrev cX12_bounded : ByteArray := prog_24_method_27_code
def yX12_bounded : MethodName := ⟨RX12, "bounded", "(II)I"⟩
def dkwX12_bounded_2 : List UInt8 := [180, 0, 230, 182, 1, 51, 42, 182, 0, 248, 29, 172]
abbrev dktX12_bounded_2 : List UInt8 := dkwX12_bounded_2 ++ []
def dkwX12_bounded_1 : List UInt8 := [180, 0, 27, 42, 180, 0, 230, 46, 62, 29, 27, 161, 0, 8, 29, 28, 164, 0, 12, 42, 8, 42]
abbrev dktX12_bounded_1 : List UInt8 := dkwX12_bounded_1 ++ dktX12_bounded_2
def dkwX12_bounded_0 : List UInt8 := [42, 180, 0, 227, 157, 0, 11, 42, 5, 182, 0, 245, 154, 0, 10, 42, 4, 182, 0, 242, 27, 172, 42]
abbrev dktX12_bounded_0 : List UInt8 := dkwX12_bounded_0 ++ dktX12_bounded_1
theorem dksX12_bounded_0 : cX12_bounded.data.toList.drop 0 = dktX12_bounded_0 := by decide +kernel
theorem dksX12_bounded_1 : cX12_bounded.data.toList.drop 23 = dktX12_bounded_1 := dk_seg dksX12_bounded_0 23 rfl rfl
theorem dksX12_bounded_2 : cX12_bounded.data.toList.drop 45 = dktX12_bounded_2 := dk_seg dksX12_bounded_1 22 rfl rfl
theorem dX12_bounded_0 : decode cX12_bounded 0 = .ok (.aload_n 0, 1) := dk_42 (dk_at dksX12_bounded_0 0 rfl rfl)
theorem dX12_bounded_1 : decode cX12_bounded 1 = .ok (.getfield 227, 3) := dk_180 0 227 (dk_at dksX12_bounded_0 1 rfl rfl)
theorem dX12_bounded_4 : decode cX12_bounded 4 = .ok (.ifCond .gt 11, 3) := dk_157 0 11 (dk_at dksX12_bounded_0 4 rfl rfl)
theorem dX12_bounded_7 : decode cX12_bounded 7 = .ok (.aload_n 0, 1) := dk_42 (dk_at dksX12_bounded_0 7 rfl rfl)
theorem dX12_bounded_8 : decode cX12_bounded 8 = .ok (.iconst 2, 1) := dk_5 (dk_at dksX12_bounded_0 8 rfl rfl)
theorem dX12_bounded_9 : decode cX12_bounded 9 = .ok (.invokevirtual 245, 3) := dk_182 0 245 (dk_at dksX12_bounded_0 9 rfl rfl)
theorem dX12_bounded_12 : decode cX12_bounded 12 = .ok (.ifCond .ne 10, 3) := dk_154 0 10 (dk_at dksX12_bounded_0 12 rfl rfl)
theorem dX12_bounded_15 : decode cX12_bounded 15 = .ok (.aload_n 0, 1) := dk_42 (dk_at dksX12_bounded_0 15 rfl rfl)
theorem dX12_bounded_16 : decode cX12_bounded 16 = .ok (.iconst 1, 1) := dk_4 (dk_at dksX12_bounded_0 16 rfl rfl)
theorem dX12_bounded_17 : decode cX12_bounded 17 = .ok (.invokevirtual 242, 3) := dk_182 0 242 (dk_at dksX12_bounded_0 17 rfl rfl)
theorem dX12_bounded_20 : decode cX12_bounded 20 = .ok (.iload_n 1, 1) := dk_27 (dk_at dksX12_bounded_0 20 rfl rfl)
theorem dX12_bounded_21 : decode cX12_bounded 21 = .ok (.ireturn, 1) := dk_172 (dk_at dksX12_bounded_0 21 rfl rfl)
theorem dX12_bounded_22 : decode cX12_bounded 22 = .ok (.aload_n 0, 1) := dk_42 (dk_at dksX12_bounded_0 22 rfl rfl)
theorem dX12_bounded_23 : decode cX12_bounded 23 = .ok (.getfield 27, 3) := dk_180 0 27 (dk_at dksX12_bounded_1 0 rfl rfl)
theorem dX12_bounded_26 : decode cX12_bounded 26 = .ok (.aload_n 0, 1) := dk_42 (dk_at dksX12_bounded_1 3 rfl rfl)
theorem dX12_bounded_27 : decode cX12_bounded 27 = .ok (.getfield 230, 3) := dk_180 0 230 (dk_at dksX12_bounded_1 4 rfl rfl)
theorem dX12_bounded_30 : decode cX12_bounded 30 = .ok (.iaload, 1) := dk_46 (dk_at dksX12_bounded_1 7 rfl rfl)
theorem dX12_bounded_31 : decode cX12_bounded 31 = .ok (.istore_n 3, 1) := dk_62 (dk_at dksX12_bounded_1 8 rfl rfl)
theorem dX12_bounded_32 : decode cX12_bounded 32 = .ok (.iload_n 3, 1) := dk_29 (dk_at dksX12_bounded_1 9 rfl rfl)
theorem dX12_bounded_33 : decode cX12_bounded 33 = .ok (.iload_n 1, 1) := dk_27 (dk_at dksX12_bounded_1 10 rfl rfl)
theorem dX12_bounded_34 : decode cX12_bounded 34 = .ok (.if_icmp .lt 8, 3) := dk_161 0 8 (dk_at dksX12_bounded_1 11 rfl rfl)
theorem dX12_bounded_37 : decode cX12_bounded 37 = .ok (.iload_n 3, 1) := dk_29 (dk_at dksX12_bounded_1 14 rfl rfl)
theorem dX12_bounded_38 : decode cX12_bounded 38 = .ok (.iload_n 2, 1) := dk_28 (dk_at dksX12_bounded_1 15 rfl rfl)
theorem dX12_bounded_39 : decode cX12_bounded 39 = .ok (.if_icmp .le 12, 3) := dk_164 0 12 (dk_at dksX12_bounded_1 16 rfl rfl)
theorem dX12_bounded_42 : decode cX12_bounded 42 = .ok (.aload_n 0, 1) := dk_42 (dk_at dksX12_bounded_1 19 rfl rfl)
theorem dX12_bounded_43 : decode cX12_bounded 43 = .ok (.iconst 5, 1) := dk_8 (dk_at dksX12_bounded_1 20 rfl rfl)
theorem dX12_bounded_44 : decode cX12_bounded 44 = .ok (.aload_n 0, 1) := dk_42 (dk_at dksX12_bounded_1 21 rfl rfl)
theorem dX12_bounded_45 : decode cX12_bounded 45 = .ok (.getfield 230, 3) := dk_180 0 230 (dk_at dksX12_bounded_2 0 rfl rfl)
theorem dX12_bounded_48 : decode cX12_bounded 48 = .ok (.invokevirtual 307, 3) := dk_182 1 51 (dk_at dksX12_bounded_2 3 rfl rfl)
theorem dX12_bounded_51 : decode cX12_bounded 51 = .ok (.aload_n 0, 1) := dk_42 (dk_at dksX12_bounded_2 6 rfl rfl)
theorem dX12_bounded_52 : decode cX12_bounded 52 = .ok (.invokevirtual 248, 3) := dk_182 0 248 (dk_at dksX12_bounded_2 7 rfl rfl)
theorem dX12_bounded_55 : decode cX12_bounded 55 = .ok (.iload_n 3, 1) := dk_29 (dk_at dksX12_bounded_2 10 rfl rfl)
theorem dX12_bounded_56 : decode cX12_bounded 56 = .ok (.ireturn, 1) := dk_172 (dk_at dksX12_bounded_2 11 rfl rfl)
abbrev cX12_notes : ByteArray := prog_24_method_25_code
def yX12_notes : MethodName := ⟨RX12, "notes", "(III)V"⟩
def dkwX12_notes_1 : List UInt8 := [79, 42, 180, 0, 46, 42, 180, 1, 7, 29, 79, 42, 89, 180, 1, 7, 4, 96, 181, 1, 7, 177]
abbrev dktX12_notes_1 : List UInt8 := dkwX12_notes_1 ++ []
def dkwX12_notes_0 : List UInt8 := [42, 180, 0, 40, 42, 180, 1, 7, 42, 180, 0, 30, 27, 47, 80, 42, 180, 0, 43, 42, 180, 1, 7, 28]
abbrev dktX12_notes_0 : List UInt8 := dkwX12_notes_0 ++ dktX12_notes_1
theorem dksX12_notes_0 : cX12_notes.data.toList.drop 0 = dktX12_notes_0 := by decide +kernel
theorem dksX12_notes_1 : cX12_notes.data.toList.drop 24 = dktX12_notes_1 := dk_seg dksX12_notes_0 24 rfl rfl
theorem dX12_notes_0 : decode cX12_notes 0 = .ok (.aload_n 0, 1) := dk_42 (dk_at dksX12_notes_0 0 rfl rfl)
theorem dX12_notes_1 : decode cX12_notes 1 = .ok (.getfield 40, 3) := dk_180 0 40 (dk_at dksX12_notes_0 1 rfl rfl)
theorem dX12_notes_4 : decode cX12_notes 4 = .ok (.aload_n 0, 1) := dk_42 (dk_at dksX12_notes_0 4 rfl rfl)
theorem dX12_notes_5 : decode cX12_notes 5 = .ok (.getfield 263, 3) := dk_180 1 7 (dk_at dksX12_notes_0 5 rfl rfl)
theorem dX12_notes_8 : decode cX12_notes 8 = .ok (.aload_n 0, 1) := dk_42 (dk_at dksX12_notes_0 8 rfl rfl)
theorem dX12_notes_9 : decode cX12_notes 9 = .ok (.getfield 30, 3) := dk_180 0 30 (dk_at dksX12_notes_0 9 rfl rfl)
theorem dX12_notes_12 : decode cX12_notes 12 = .ok (.iload_n 1, 1) := dk_27 (dk_at dksX12_notes_0 12 rfl rfl)
theorem dX12_notes_13 : decode cX12_notes 13 = .ok (.laload, 1) := dk_47 (dk_at dksX12_notes_0 13 rfl rfl)
theorem dX12_notes_14 : decode cX12_notes 14 = .ok (.lastore, 1) := dk_80 (dk_at dksX12_notes_0 14 rfl rfl)
theorem dX12_notes_15 : decode cX12_notes 15 = .ok (.aload_n 0, 1) := dk_42 (dk_at dksX12_notes_0 15 rfl rfl)
theorem dX12_notes_16 : decode cX12_notes 16 = .ok (.getfield 43, 3) := dk_180 0 43 (dk_at dksX12_notes_0 16 rfl rfl)
theorem dX12_notes_19 : decode cX12_notes 19 = .ok (.aload_n 0, 1) := dk_42 (dk_at dksX12_notes_0 19 rfl rfl)
theorem dX12_notes_20 : decode cX12_notes 20 = .ok (.getfield 263, 3) := dk_180 1 7 (dk_at dksX12_notes_0 20 rfl rfl)
theorem dX12_notes_23 : decode cX12_notes 23 = .ok (.iload_n 2, 1) := dk_28 (dk_at dksX12_notes_0 23 rfl rfl)
theorem dX12_notes_24 : decode cX12_notes 24 = .ok (.iastore, 1) := dk_79 (dk_at dksX12_notes_1 0 rfl rfl)
theorem dX12_notes_25 : decode cX12_notes 25 = .ok (.aload_n 0, 1) := dk_42 (dk_at dksX12_notes_1 1 rfl rfl)
theorem dX12_notes_26 : decode cX12_notes 26 = .ok (.getfield 46, 3) := dk_180 0 46 (dk_at dksX12_notes_1 2 rfl rfl)
theorem dX12_notes_29 : decode cX12_notes 29 = .ok (.aload_n 0, 1) := dk_42 (dk_at dksX12_notes_1 5 rfl rfl)
theorem dX12_notes_30 : decode cX12_notes 30 = .ok (.getfield 263, 3) := dk_180 1 7 (dk_at dksX12_notes_1 6 rfl rfl)
theorem dX12_notes_33 : decode cX12_notes 33 = .ok (.iload_n 3, 1) := dk_29 (dk_at dksX12_notes_1 9 rfl rfl)
theorem dX12_notes_34 : decode cX12_notes 34 = .ok (.iastore, 1) := dk_79 (dk_at dksX12_notes_1 10 rfl rfl)
theorem dX12_notes_35 : decode cX12_notes 35 = .ok (.aload_n 0, 1) := dk_42 (dk_at dksX12_notes_1 11 rfl rfl)
theorem dX12_notes_36 : decode cX12_notes 36 = .ok (.dup, 1) := dk_89 (dk_at dksX12_notes_1 12 rfl rfl)
theorem dX12_notes_37 : decode cX12_notes 37 = .ok (.getfield 263, 3) := dk_180 1 7 (dk_at dksX12_notes_1 13 rfl rfl)
theorem dX12_notes_40 : decode cX12_notes 40 = .ok (.iconst 1, 1) := dk_4 (dk_at dksX12_notes_1 16 rfl rfl)
theorem dX12_notes_41 : decode cX12_notes 41 = .ok (.iadd, 1) := dk_96 (dk_at dksX12_notes_1 17 rfl rfl)
theorem dX12_notes_42 : decode cX12_notes 42 = .ok (.putfield 263, 3) := dk_181 1 7 (dk_at dksX12_notes_1 18 rfl rfl)
theorem dX12_notes_45 : decode cX12_notes 45 = .ok (.return_, 1) := dk_177 (dk_at dksX12_notes_1 21 rfl rfl)
abbrev cX12_tellHole : ByteArray := prog_24_method_29_code
def yX12_tellHole : MethodName := ⟨RX12, "tellHole", "()V"⟩
def dkwX12_tellHole_3 : List UInt8 := [182, 1, 58, 42, 180, 0, 58, 42, 180, 1, 4, 92, 46, 4, 96, 79, 177]
abbrev dktX12_tellHole_3 : List UInt8 := dkwX12_tellHole_3 ++ []
def dkwX12_tellHole_2 : List UInt8 := [7, 182, 1, 45, 42, 180, 0, 227, 158, 0, 4, 177, 42, 28, 4, 42, 180, 0, 58, 42, 180, 1, 4, 46]
abbrev dktX12_tellHole_2 : List UInt8 := dkwX12_tellHole_2 ++ dktX12_tellHole_3
def dkwX12_tellHole_1 : List UInt8 := [180, 0, 61, 27, 42, 4, 16, 30, 182, 1, 41, 79, 42, 180, 0, 64, 27, 42, 3, 182, 1, 62, 79, 42]
abbrev dktX12_tellHole_1 : List UInt8 := dkwX12_tellHole_1 ++ dktX12_tellHole_2
def dkwX12_tellHole_0 : List UInt8 := [16, 6, 42, 180, 1, 4, 104, 42, 180, 0, 58, 42, 180, 1, 4, 46, 96, 60, 42, 182, 1, 54, 61, 42]
abbrev dktX12_tellHole_0 : List UInt8 := dkwX12_tellHole_0 ++ dktX12_tellHole_1
theorem dksX12_tellHole_0 : cX12_tellHole.data.toList.drop 0 = dktX12_tellHole_0 := by decide +kernel
theorem dksX12_tellHole_1 : cX12_tellHole.data.toList.drop 24 = dktX12_tellHole_1 := dk_seg dksX12_tellHole_0 24 rfl rfl
theorem dksX12_tellHole_2 : cX12_tellHole.data.toList.drop 48 = dktX12_tellHole_2 := dk_seg dksX12_tellHole_1 24 rfl rfl
theorem dksX12_tellHole_3 : cX12_tellHole.data.toList.drop 72 = dktX12_tellHole_3 := dk_seg dksX12_tellHole_2 24 rfl rfl
theorem dX12_tellHole_0 : decode cX12_tellHole 0 = .ok (.bipush 6, 2) := dk_16 6 (dk_at dksX12_tellHole_0 0 rfl rfl)
theorem dX12_tellHole_2 : decode cX12_tellHole 2 = .ok (.aload_n 0, 1) := dk_42 (dk_at dksX12_tellHole_0 2 rfl rfl)
theorem dX12_tellHole_3 : decode cX12_tellHole 3 = .ok (.getfield 260, 3) := dk_180 1 4 (dk_at dksX12_tellHole_0 3 rfl rfl)
theorem dX12_tellHole_6 : decode cX12_tellHole 6 = .ok (.imul, 1) := dk_104 (dk_at dksX12_tellHole_0 6 rfl rfl)
theorem dX12_tellHole_7 : decode cX12_tellHole 7 = .ok (.aload_n 0, 1) := dk_42 (dk_at dksX12_tellHole_0 7 rfl rfl)
theorem dX12_tellHole_8 : decode cX12_tellHole 8 = .ok (.getfield 58, 3) := dk_180 0 58 (dk_at dksX12_tellHole_0 8 rfl rfl)
theorem dX12_tellHole_11 : decode cX12_tellHole 11 = .ok (.aload_n 0, 1) := dk_42 (dk_at dksX12_tellHole_0 11 rfl rfl)
theorem dX12_tellHole_12 : decode cX12_tellHole 12 = .ok (.getfield 260, 3) := dk_180 1 4 (dk_at dksX12_tellHole_0 12 rfl rfl)
theorem dX12_tellHole_15 : decode cX12_tellHole 15 = .ok (.iaload, 1) := dk_46 (dk_at dksX12_tellHole_0 15 rfl rfl)
theorem dX12_tellHole_16 : decode cX12_tellHole 16 = .ok (.iadd, 1) := dk_96 (dk_at dksX12_tellHole_0 16 rfl rfl)
theorem dX12_tellHole_17 : decode cX12_tellHole 17 = .ok (.istore_n 1, 1) := dk_60 (dk_at dksX12_tellHole_0 17 rfl rfl)
theorem dX12_tellHole_18 : decode cX12_tellHole 18 = .ok (.aload_n 0, 1) := dk_42 (dk_at dksX12_tellHole_0 18 rfl rfl)
theorem dX12_tellHole_19 : decode cX12_tellHole 19 = .ok (.invokevirtual 310, 3) := dk_182 1 54 (dk_at dksX12_tellHole_0 19 rfl rfl)
theorem dX12_tellHole_22 : decode cX12_tellHole 22 = .ok (.istore_n 2, 1) := dk_61 (dk_at dksX12_tellHole_0 22 rfl rfl)
theorem dX12_tellHole_23 : decode cX12_tellHole 23 = .ok (.aload_n 0, 1) := dk_42 (dk_at dksX12_tellHole_0 23 rfl rfl)
theorem dX12_tellHole_24 : decode cX12_tellHole 24 = .ok (.getfield 61, 3) := dk_180 0 61 (dk_at dksX12_tellHole_1 0 rfl rfl)
theorem dX12_tellHole_27 : decode cX12_tellHole 27 = .ok (.iload_n 1, 1) := dk_27 (dk_at dksX12_tellHole_1 3 rfl rfl)
theorem dX12_tellHole_28 : decode cX12_tellHole 28 = .ok (.aload_n 0, 1) := dk_42 (dk_at dksX12_tellHole_1 4 rfl rfl)
theorem dX12_tellHole_29 : decode cX12_tellHole 29 = .ok (.iconst 1, 1) := dk_4 (dk_at dksX12_tellHole_1 5 rfl rfl)
theorem dX12_tellHole_30 : decode cX12_tellHole 30 = .ok (.bipush 30, 2) := dk_16 30 (dk_at dksX12_tellHole_1 6 rfl rfl)
theorem dX12_tellHole_32 : decode cX12_tellHole 32 = .ok (.invokevirtual 297, 3) := dk_182 1 41 (dk_at dksX12_tellHole_1 8 rfl rfl)
theorem dX12_tellHole_35 : decode cX12_tellHole 35 = .ok (.iastore, 1) := dk_79 (dk_at dksX12_tellHole_1 11 rfl rfl)
theorem dX12_tellHole_36 : decode cX12_tellHole 36 = .ok (.aload_n 0, 1) := dk_42 (dk_at dksX12_tellHole_1 12 rfl rfl)
theorem dX12_tellHole_37 : decode cX12_tellHole 37 = .ok (.getfield 64, 3) := dk_180 0 64 (dk_at dksX12_tellHole_1 13 rfl rfl)
theorem dX12_tellHole_40 : decode cX12_tellHole 40 = .ok (.iload_n 1, 1) := dk_27 (dk_at dksX12_tellHole_1 16 rfl rfl)
theorem dX12_tellHole_41 : decode cX12_tellHole 41 = .ok (.aload_n 0, 1) := dk_42 (dk_at dksX12_tellHole_1 17 rfl rfl)
theorem dX12_tellHole_42 : decode cX12_tellHole 42 = .ok (.iconst 0, 1) := dk_3 (dk_at dksX12_tellHole_1 18 rfl rfl)
theorem dX12_tellHole_43 : decode cX12_tellHole 43 = .ok (.invokevirtual 318, 3) := dk_182 1 62 (dk_at dksX12_tellHole_1 19 rfl rfl)
theorem dX12_tellHole_46 : decode cX12_tellHole 46 = .ok (.iastore, 1) := dk_79 (dk_at dksX12_tellHole_1 22 rfl rfl)
theorem dX12_tellHole_47 : decode cX12_tellHole 47 = .ok (.aload_n 0, 1) := dk_42 (dk_at dksX12_tellHole_1 23 rfl rfl)
theorem dX12_tellHole_48 : decode cX12_tellHole 48 = .ok (.iconst 4, 1) := dk_7 (dk_at dksX12_tellHole_2 0 rfl rfl)
theorem dX12_tellHole_49 : decode cX12_tellHole 49 = .ok (.invokevirtual 301, 3) := dk_182 1 45 (dk_at dksX12_tellHole_2 1 rfl rfl)
theorem dX12_tellHole_52 : decode cX12_tellHole 52 = .ok (.aload_n 0, 1) := dk_42 (dk_at dksX12_tellHole_2 4 rfl rfl)
theorem dX12_tellHole_53 : decode cX12_tellHole 53 = .ok (.getfield 227, 3) := dk_180 0 227 (dk_at dksX12_tellHole_2 5 rfl rfl)
theorem dX12_tellHole_56 : decode cX12_tellHole 56 = .ok (.ifCond .le 4, 3) := dk_158 0 4 (dk_at dksX12_tellHole_2 8 rfl rfl)
theorem dX12_tellHole_59 : decode cX12_tellHole 59 = .ok (.return_, 1) := dk_177 (dk_at dksX12_tellHole_2 11 rfl rfl)
theorem dX12_tellHole_60 : decode cX12_tellHole 60 = .ok (.aload_n 0, 1) := dk_42 (dk_at dksX12_tellHole_2 12 rfl rfl)
theorem dX12_tellHole_61 : decode cX12_tellHole 61 = .ok (.iload_n 2, 1) := dk_28 (dk_at dksX12_tellHole_2 13 rfl rfl)
theorem dX12_tellHole_62 : decode cX12_tellHole 62 = .ok (.iconst 1, 1) := dk_4 (dk_at dksX12_tellHole_2 14 rfl rfl)
theorem dX12_tellHole_63 : decode cX12_tellHole 63 = .ok (.aload_n 0, 1) := dk_42 (dk_at dksX12_tellHole_2 15 rfl rfl)
theorem dX12_tellHole_64 : decode cX12_tellHole 64 = .ok (.getfield 58, 3) := dk_180 0 58 (dk_at dksX12_tellHole_2 16 rfl rfl)
theorem dX12_tellHole_67 : decode cX12_tellHole 67 = .ok (.aload_n 0, 1) := dk_42 (dk_at dksX12_tellHole_2 19 rfl rfl)
theorem dX12_tellHole_68 : decode cX12_tellHole 68 = .ok (.getfield 260, 3) := dk_180 1 4 (dk_at dksX12_tellHole_2 20 rfl rfl)
theorem dX12_tellHole_71 : decode cX12_tellHole 71 = .ok (.iaload, 1) := dk_46 (dk_at dksX12_tellHole_2 23 rfl rfl)
theorem dX12_tellHole_72 : decode cX12_tellHole 72 = .ok (.invokevirtual 314, 3) := dk_182 1 58 (dk_at dksX12_tellHole_3 0 rfl rfl)
theorem dX12_tellHole_75 : decode cX12_tellHole 75 = .ok (.aload_n 0, 1) := dk_42 (dk_at dksX12_tellHole_3 3 rfl rfl)
theorem dX12_tellHole_76 : decode cX12_tellHole 76 = .ok (.getfield 58, 3) := dk_180 0 58 (dk_at dksX12_tellHole_3 4 rfl rfl)
theorem dX12_tellHole_79 : decode cX12_tellHole 79 = .ok (.aload_n 0, 1) := dk_42 (dk_at dksX12_tellHole_3 7 rfl rfl)
theorem dX12_tellHole_80 : decode cX12_tellHole 80 = .ok (.getfield 260, 3) := dk_180 1 4 (dk_at dksX12_tellHole_3 8 rfl rfl)
theorem dX12_tellHole_83 : decode cX12_tellHole 83 = .ok (.dup2, 1) := dk_92 (dk_at dksX12_tellHole_3 11 rfl rfl)
theorem dX12_tellHole_84 : decode cX12_tellHole 84 = .ok (.iaload, 1) := dk_46 (dk_at dksX12_tellHole_3 12 rfl rfl)
theorem dX12_tellHole_85 : decode cX12_tellHole 85 = .ok (.iconst 1, 1) := dk_4 (dk_at dksX12_tellHole_3 13 rfl rfl)
theorem dX12_tellHole_86 : decode cX12_tellHole 86 = .ok (.iadd, 1) := dk_96 (dk_at dksX12_tellHole_3 14 rfl rfl)
theorem dX12_tellHole_87 : decode cX12_tellHole 87 = .ok (.iastore, 1) := dk_79 (dk_at dksX12_tellHole_3 15 rfl rfl)
theorem dX12_tellHole_88 : decode cX12_tellHole 88 = .ok (.return_, 1) := dk_177 (dk_at dksX12_tellHole_3 16 rfl rfl)
abbrev cX12_known : ByteArray := prog_24_method_26_code
def yX12_known : MethodName := ⟨RX12, "known", "(I)I"⟩
def dkwX12_known_3 : List UInt8 := [28, 182, 1, 51, 2, 172]
abbrev dktX12_known_3 : List UInt8 := dkwX12_known_3 ++ []
def dkwX12_known_2 : List UInt8 := [180, 0, 43, 29, 46, 27, 160, 0, 10, 42, 180, 0, 46, 29, 46, 172, 132, 3, 1, 167, 255, 212, 42, 7]
abbrev dktX12_known_2 : List UInt8 := dkwX12_known_2 ++ dktX12_known_3
def dkwX12_known_1 : List UInt8 := [180, 1, 7, 162, 0, 42, 42, 180, 0, 40, 29, 47, 42, 180, 0, 30, 28, 47, 148, 154, 0, 20, 42]
abbrev dktX12_known_1 : List UInt8 := dkwX12_known_1 ++ dktX12_known_2
def dkwX12_known_0 : List UInt8 := [42, 180, 0, 230, 61, 42, 4, 182, 1, 45, 42, 180, 0, 227, 158, 0, 5, 2, 172, 3, 62, 29, 42]
abbrev dktX12_known_0 : List UInt8 := dkwX12_known_0 ++ dktX12_known_1
theorem dksX12_known_0 : cX12_known.data.toList.drop 0 = dktX12_known_0 := by decide +kernel
theorem dksX12_known_1 : cX12_known.data.toList.drop 23 = dktX12_known_1 := dk_seg dksX12_known_0 23 rfl rfl
theorem dksX12_known_2 : cX12_known.data.toList.drop 46 = dktX12_known_2 := dk_seg dksX12_known_1 23 rfl rfl
theorem dksX12_known_3 : cX12_known.data.toList.drop 70 = dktX12_known_3 := dk_seg dksX12_known_2 24 rfl rfl
theorem dX12_known_0 : decode cX12_known 0 = .ok (.aload_n 0, 1) := dk_42 (dk_at dksX12_known_0 0 rfl rfl)
theorem dX12_known_1 : decode cX12_known 1 = .ok (.getfield 230, 3) := dk_180 0 230 (dk_at dksX12_known_0 1 rfl rfl)
theorem dX12_known_4 : decode cX12_known 4 = .ok (.istore_n 2, 1) := dk_61 (dk_at dksX12_known_0 4 rfl rfl)
theorem dX12_known_5 : decode cX12_known 5 = .ok (.aload_n 0, 1) := dk_42 (dk_at dksX12_known_0 5 rfl rfl)
theorem dX12_known_6 : decode cX12_known 6 = .ok (.iconst 1, 1) := dk_4 (dk_at dksX12_known_0 6 rfl rfl)
theorem dX12_known_7 : decode cX12_known 7 = .ok (.invokevirtual 301, 3) := dk_182 1 45 (dk_at dksX12_known_0 7 rfl rfl)
theorem dX12_known_10 : decode cX12_known 10 = .ok (.aload_n 0, 1) := dk_42 (dk_at dksX12_known_0 10 rfl rfl)
theorem dX12_known_11 : decode cX12_known 11 = .ok (.getfield 227, 3) := dk_180 0 227 (dk_at dksX12_known_0 11 rfl rfl)
theorem dX12_known_14 : decode cX12_known 14 = .ok (.ifCond .le 5, 3) := dk_158 0 5 (dk_at dksX12_known_0 14 rfl rfl)
theorem dX12_known_17 : decode cX12_known 17 = .ok (.iconst (-1), 1) := dk_2 (dk_at dksX12_known_0 17 rfl rfl)
theorem dX12_known_18 : decode cX12_known 18 = .ok (.ireturn, 1) := dk_172 (dk_at dksX12_known_0 18 rfl rfl)
theorem dX12_known_19 : decode cX12_known 19 = .ok (.iconst 0, 1) := dk_3 (dk_at dksX12_known_0 19 rfl rfl)
theorem dX12_known_20 : decode cX12_known 20 = .ok (.istore_n 3, 1) := dk_62 (dk_at dksX12_known_0 20 rfl rfl)
theorem dX12_known_21 : decode cX12_known 21 = .ok (.iload_n 3, 1) := dk_29 (dk_at dksX12_known_0 21 rfl rfl)
theorem dX12_known_22 : decode cX12_known 22 = .ok (.aload_n 0, 1) := dk_42 (dk_at dksX12_known_0 22 rfl rfl)
theorem dX12_known_23 : decode cX12_known 23 = .ok (.getfield 263, 3) := dk_180 1 7 (dk_at dksX12_known_1 0 rfl rfl)
theorem dX12_known_26 : decode cX12_known 26 = .ok (.if_icmp .ge 42, 3) := dk_162 0 42 (dk_at dksX12_known_1 3 rfl rfl)
theorem dX12_known_29 : decode cX12_known 29 = .ok (.aload_n 0, 1) := dk_42 (dk_at dksX12_known_1 6 rfl rfl)
theorem dX12_known_30 : decode cX12_known 30 = .ok (.getfield 40, 3) := dk_180 0 40 (dk_at dksX12_known_1 7 rfl rfl)
theorem dX12_known_33 : decode cX12_known 33 = .ok (.iload_n 3, 1) := dk_29 (dk_at dksX12_known_1 10 rfl rfl)
theorem dX12_known_34 : decode cX12_known 34 = .ok (.laload, 1) := dk_47 (dk_at dksX12_known_1 11 rfl rfl)
theorem dX12_known_35 : decode cX12_known 35 = .ok (.aload_n 0, 1) := dk_42 (dk_at dksX12_known_1 12 rfl rfl)
theorem dX12_known_36 : decode cX12_known 36 = .ok (.getfield 30, 3) := dk_180 0 30 (dk_at dksX12_known_1 13 rfl rfl)
theorem dX12_known_39 : decode cX12_known 39 = .ok (.iload_n 2, 1) := dk_28 (dk_at dksX12_known_1 16 rfl rfl)
theorem dX12_known_40 : decode cX12_known 40 = .ok (.laload, 1) := dk_47 (dk_at dksX12_known_1 17 rfl rfl)
theorem dX12_known_41 : decode cX12_known 41 = .ok (.lcmp, 1) := dk_148 (dk_at dksX12_known_1 18 rfl rfl)
theorem dX12_known_42 : decode cX12_known 42 = .ok (.ifCond .ne 20, 3) := dk_154 0 20 (dk_at dksX12_known_1 19 rfl rfl)
theorem dX12_known_45 : decode cX12_known 45 = .ok (.aload_n 0, 1) := dk_42 (dk_at dksX12_known_1 22 rfl rfl)
theorem dX12_known_46 : decode cX12_known 46 = .ok (.getfield 43, 3) := dk_180 0 43 (dk_at dksX12_known_2 0 rfl rfl)
theorem dX12_known_49 : decode cX12_known 49 = .ok (.iload_n 3, 1) := dk_29 (dk_at dksX12_known_2 3 rfl rfl)
theorem dX12_known_50 : decode cX12_known 50 = .ok (.iaload, 1) := dk_46 (dk_at dksX12_known_2 4 rfl rfl)
theorem dX12_known_51 : decode cX12_known 51 = .ok (.iload_n 1, 1) := dk_27 (dk_at dksX12_known_2 5 rfl rfl)
theorem dX12_known_52 : decode cX12_known 52 = .ok (.if_icmp .ne 10, 3) := dk_160 0 10 (dk_at dksX12_known_2 6 rfl rfl)
theorem dX12_known_55 : decode cX12_known 55 = .ok (.aload_n 0, 1) := dk_42 (dk_at dksX12_known_2 9 rfl rfl)
theorem dX12_known_56 : decode cX12_known 56 = .ok (.getfield 46, 3) := dk_180 0 46 (dk_at dksX12_known_2 10 rfl rfl)
theorem dX12_known_59 : decode cX12_known 59 = .ok (.iload_n 3, 1) := dk_29 (dk_at dksX12_known_2 13 rfl rfl)
theorem dX12_known_60 : decode cX12_known 60 = .ok (.iaload, 1) := dk_46 (dk_at dksX12_known_2 14 rfl rfl)
theorem dX12_known_61 : decode cX12_known 61 = .ok (.ireturn, 1) := dk_172 (dk_at dksX12_known_2 15 rfl rfl)
theorem dX12_known_62 : decode cX12_known 62 = .ok (.iinc 3 1, 3) := dk_132 3 1 (dk_at dksX12_known_2 16 rfl rfl)
theorem dX12_known_65 : decode cX12_known 65 = .ok (.goto (-44), 3) := dk_167 255 212 (dk_at dksX12_known_2 19 rfl rfl)
theorem dX12_known_68 : decode cX12_known 68 = .ok (.aload_n 0, 1) := dk_42 (dk_at dksX12_known_2 22 rfl rfl)
theorem dX12_known_69 : decode cX12_known 69 = .ok (.iconst 4, 1) := dk_7 (dk_at dksX12_known_2 23 rfl rfl)
theorem dX12_known_70 : decode cX12_known 70 = .ok (.iload_n 2, 1) := dk_28 (dk_at dksX12_known_3 0 rfl rfl)
theorem dX12_known_71 : decode cX12_known 71 = .ok (.invokevirtual 307, 3) := dk_182 1 51 (dk_at dksX12_known_3 1 rfl rfl)
theorem dX12_known_74 : decode cX12_known 74 = .ok (.iconst (-1), 1) := dk_2 (dk_at dksX12_known_3 4 rfl rfl)
theorem dX12_known_75 : decode cX12_known 75 = .ok (.ireturn, 1) := dk_172 (dk_at dksX12_known_3 5 rfl rfl)
abbrev cX12_tellRat : ByteArray := prog_24_method_30_code
def yX12_tellRat : MethodName := ⟨RX12, "tellRat", "()V"⟩
def dkwX12_tellRat_4 : List UInt8 := [180, 1, 4, 46, 182, 1, 58, 42, 180, 0, 67, 42, 180, 1, 4, 92, 46, 4, 96, 79, 177]
abbrev dktX12_tellRat_4 : List UInt8 := dkwX12_tellRat_4 ++ []
def dkwX12_tellRat_3 : List UInt8 := [79, 42, 7, 182, 1, 45, 42, 180, 0, 227, 158, 0, 4, 177, 42, 28, 5, 42, 180, 0, 67, 42]
abbrev dktX12_tellRat_3 : List UInt8 := dkwX12_tellRat_3 ++ dktX12_tellRat_4
def dkwX12_tellRat_2 : List UInt8 := [180, 0, 76, 27, 42, 3, 16, 9, 182, 1, 41, 79, 42, 180, 0, 79, 27, 42, 3, 16, 99, 182, 1, 41]
abbrev dktX12_tellRat_2 : List UInt8 := dkwX12_tellRat_2 ++ dktX12_tellRat_3
def dkwX12_tellRat_1 : List UInt8 := [180, 0, 70, 27, 42, 3, 182, 1, 62, 79, 42, 180, 0, 73, 27, 42, 4, 182, 1, 62, 79, 42]
abbrev dktX12_tellRat_1 : List UInt8 := dkwX12_tellRat_1 ++ dktX12_tellRat_2
def dkwX12_tellRat_0 : List UInt8 := [16, 8, 42, 180, 1, 4, 104, 42, 180, 0, 67, 42, 180, 1, 4, 46, 96, 60, 42, 182, 1, 54, 61, 42]
abbrev dktX12_tellRat_0 : List UInt8 := dkwX12_tellRat_0 ++ dktX12_tellRat_1
theorem dksX12_tellRat_0 : cX12_tellRat.data.toList.drop 0 = dktX12_tellRat_0 := by decide +kernel
theorem dksX12_tellRat_1 : cX12_tellRat.data.toList.drop 24 = dktX12_tellRat_1 := dk_seg dksX12_tellRat_0 24 rfl rfl
theorem dksX12_tellRat_2 : cX12_tellRat.data.toList.drop 46 = dktX12_tellRat_2 := dk_seg dksX12_tellRat_1 22 rfl rfl
theorem dksX12_tellRat_3 : cX12_tellRat.data.toList.drop 70 = dktX12_tellRat_3 := dk_seg dksX12_tellRat_2 24 rfl rfl
theorem dksX12_tellRat_4 : cX12_tellRat.data.toList.drop 92 = dktX12_tellRat_4 := dk_seg dksX12_tellRat_3 22 rfl rfl
theorem dX12_tellRat_0 : decode cX12_tellRat 0 = .ok (.bipush 8, 2) := dk_16 8 (dk_at dksX12_tellRat_0 0 rfl rfl)
theorem dX12_tellRat_2 : decode cX12_tellRat 2 = .ok (.aload_n 0, 1) := dk_42 (dk_at dksX12_tellRat_0 2 rfl rfl)
theorem dX12_tellRat_3 : decode cX12_tellRat 3 = .ok (.getfield 260, 3) := dk_180 1 4 (dk_at dksX12_tellRat_0 3 rfl rfl)
theorem dX12_tellRat_6 : decode cX12_tellRat 6 = .ok (.imul, 1) := dk_104 (dk_at dksX12_tellRat_0 6 rfl rfl)
theorem dX12_tellRat_7 : decode cX12_tellRat 7 = .ok (.aload_n 0, 1) := dk_42 (dk_at dksX12_tellRat_0 7 rfl rfl)
theorem dX12_tellRat_8 : decode cX12_tellRat 8 = .ok (.getfield 67, 3) := dk_180 0 67 (dk_at dksX12_tellRat_0 8 rfl rfl)
theorem dX12_tellRat_11 : decode cX12_tellRat 11 = .ok (.aload_n 0, 1) := dk_42 (dk_at dksX12_tellRat_0 11 rfl rfl)
theorem dX12_tellRat_12 : decode cX12_tellRat 12 = .ok (.getfield 260, 3) := dk_180 1 4 (dk_at dksX12_tellRat_0 12 rfl rfl)
theorem dX12_tellRat_15 : decode cX12_tellRat 15 = .ok (.iaload, 1) := dk_46 (dk_at dksX12_tellRat_0 15 rfl rfl)
theorem dX12_tellRat_16 : decode cX12_tellRat 16 = .ok (.iadd, 1) := dk_96 (dk_at dksX12_tellRat_0 16 rfl rfl)
theorem dX12_tellRat_17 : decode cX12_tellRat 17 = .ok (.istore_n 1, 1) := dk_60 (dk_at dksX12_tellRat_0 17 rfl rfl)
theorem dX12_tellRat_18 : decode cX12_tellRat 18 = .ok (.aload_n 0, 1) := dk_42 (dk_at dksX12_tellRat_0 18 rfl rfl)
theorem dX12_tellRat_19 : decode cX12_tellRat 19 = .ok (.invokevirtual 310, 3) := dk_182 1 54 (dk_at dksX12_tellRat_0 19 rfl rfl)
theorem dX12_tellRat_22 : decode cX12_tellRat 22 = .ok (.istore_n 2, 1) := dk_61 (dk_at dksX12_tellRat_0 22 rfl rfl)
theorem dX12_tellRat_23 : decode cX12_tellRat 23 = .ok (.aload_n 0, 1) := dk_42 (dk_at dksX12_tellRat_0 23 rfl rfl)
theorem dX12_tellRat_24 : decode cX12_tellRat 24 = .ok (.getfield 70, 3) := dk_180 0 70 (dk_at dksX12_tellRat_1 0 rfl rfl)
theorem dX12_tellRat_27 : decode cX12_tellRat 27 = .ok (.iload_n 1, 1) := dk_27 (dk_at dksX12_tellRat_1 3 rfl rfl)
theorem dX12_tellRat_28 : decode cX12_tellRat 28 = .ok (.aload_n 0, 1) := dk_42 (dk_at dksX12_tellRat_1 4 rfl rfl)
theorem dX12_tellRat_29 : decode cX12_tellRat 29 = .ok (.iconst 0, 1) := dk_3 (dk_at dksX12_tellRat_1 5 rfl rfl)
theorem dX12_tellRat_30 : decode cX12_tellRat 30 = .ok (.invokevirtual 318, 3) := dk_182 1 62 (dk_at dksX12_tellRat_1 6 rfl rfl)
theorem dX12_tellRat_33 : decode cX12_tellRat 33 = .ok (.iastore, 1) := dk_79 (dk_at dksX12_tellRat_1 9 rfl rfl)
theorem dX12_tellRat_34 : decode cX12_tellRat 34 = .ok (.aload_n 0, 1) := dk_42 (dk_at dksX12_tellRat_1 10 rfl rfl)
theorem dX12_tellRat_35 : decode cX12_tellRat 35 = .ok (.getfield 73, 3) := dk_180 0 73 (dk_at dksX12_tellRat_1 11 rfl rfl)
theorem dX12_tellRat_38 : decode cX12_tellRat 38 = .ok (.iload_n 1, 1) := dk_27 (dk_at dksX12_tellRat_1 14 rfl rfl)
theorem dX12_tellRat_39 : decode cX12_tellRat 39 = .ok (.aload_n 0, 1) := dk_42 (dk_at dksX12_tellRat_1 15 rfl rfl)
theorem dX12_tellRat_40 : decode cX12_tellRat 40 = .ok (.iconst 1, 1) := dk_4 (dk_at dksX12_tellRat_1 16 rfl rfl)
theorem dX12_tellRat_41 : decode cX12_tellRat 41 = .ok (.invokevirtual 318, 3) := dk_182 1 62 (dk_at dksX12_tellRat_1 17 rfl rfl)
theorem dX12_tellRat_44 : decode cX12_tellRat 44 = .ok (.iastore, 1) := dk_79 (dk_at dksX12_tellRat_1 20 rfl rfl)
theorem dX12_tellRat_45 : decode cX12_tellRat 45 = .ok (.aload_n 0, 1) := dk_42 (dk_at dksX12_tellRat_1 21 rfl rfl)
theorem dX12_tellRat_46 : decode cX12_tellRat 46 = .ok (.getfield 76, 3) := dk_180 0 76 (dk_at dksX12_tellRat_2 0 rfl rfl)
theorem dX12_tellRat_49 : decode cX12_tellRat 49 = .ok (.iload_n 1, 1) := dk_27 (dk_at dksX12_tellRat_2 3 rfl rfl)
theorem dX12_tellRat_50 : decode cX12_tellRat 50 = .ok (.aload_n 0, 1) := dk_42 (dk_at dksX12_tellRat_2 4 rfl rfl)
theorem dX12_tellRat_51 : decode cX12_tellRat 51 = .ok (.iconst 0, 1) := dk_3 (dk_at dksX12_tellRat_2 5 rfl rfl)
theorem dX12_tellRat_52 : decode cX12_tellRat 52 = .ok (.bipush 9, 2) := dk_16 9 (dk_at dksX12_tellRat_2 6 rfl rfl)
theorem dX12_tellRat_54 : decode cX12_tellRat 54 = .ok (.invokevirtual 297, 3) := dk_182 1 41 (dk_at dksX12_tellRat_2 8 rfl rfl)
theorem dX12_tellRat_57 : decode cX12_tellRat 57 = .ok (.iastore, 1) := dk_79 (dk_at dksX12_tellRat_2 11 rfl rfl)
theorem dX12_tellRat_58 : decode cX12_tellRat 58 = .ok (.aload_n 0, 1) := dk_42 (dk_at dksX12_tellRat_2 12 rfl rfl)
theorem dX12_tellRat_59 : decode cX12_tellRat 59 = .ok (.getfield 79, 3) := dk_180 0 79 (dk_at dksX12_tellRat_2 13 rfl rfl)
theorem dX12_tellRat_62 : decode cX12_tellRat 62 = .ok (.iload_n 1, 1) := dk_27 (dk_at dksX12_tellRat_2 16 rfl rfl)
theorem dX12_tellRat_63 : decode cX12_tellRat 63 = .ok (.aload_n 0, 1) := dk_42 (dk_at dksX12_tellRat_2 17 rfl rfl)
theorem dX12_tellRat_64 : decode cX12_tellRat 64 = .ok (.iconst 0, 1) := dk_3 (dk_at dksX12_tellRat_2 18 rfl rfl)
theorem dX12_tellRat_65 : decode cX12_tellRat 65 = .ok (.bipush 99, 2) := dk_16 99 (dk_at dksX12_tellRat_2 19 rfl rfl)
theorem dX12_tellRat_67 : decode cX12_tellRat 67 = .ok (.invokevirtual 297, 3) := dk_182 1 41 (dk_at dksX12_tellRat_2 21 rfl rfl)
theorem dX12_tellRat_70 : decode cX12_tellRat 70 = .ok (.iastore, 1) := dk_79 (dk_at dksX12_tellRat_3 0 rfl rfl)
theorem dX12_tellRat_71 : decode cX12_tellRat 71 = .ok (.aload_n 0, 1) := dk_42 (dk_at dksX12_tellRat_3 1 rfl rfl)
theorem dX12_tellRat_72 : decode cX12_tellRat 72 = .ok (.iconst 4, 1) := dk_7 (dk_at dksX12_tellRat_3 2 rfl rfl)
theorem dX12_tellRat_73 : decode cX12_tellRat 73 = .ok (.invokevirtual 301, 3) := dk_182 1 45 (dk_at dksX12_tellRat_3 3 rfl rfl)
theorem dX12_tellRat_76 : decode cX12_tellRat 76 = .ok (.aload_n 0, 1) := dk_42 (dk_at dksX12_tellRat_3 6 rfl rfl)
theorem dX12_tellRat_77 : decode cX12_tellRat 77 = .ok (.getfield 227, 3) := dk_180 0 227 (dk_at dksX12_tellRat_3 7 rfl rfl)
theorem dX12_tellRat_80 : decode cX12_tellRat 80 = .ok (.ifCond .le 4, 3) := dk_158 0 4 (dk_at dksX12_tellRat_3 10 rfl rfl)
theorem dX12_tellRat_83 : decode cX12_tellRat 83 = .ok (.return_, 1) := dk_177 (dk_at dksX12_tellRat_3 13 rfl rfl)
theorem dX12_tellRat_84 : decode cX12_tellRat 84 = .ok (.aload_n 0, 1) := dk_42 (dk_at dksX12_tellRat_3 14 rfl rfl)
theorem dX12_tellRat_85 : decode cX12_tellRat 85 = .ok (.iload_n 2, 1) := dk_28 (dk_at dksX12_tellRat_3 15 rfl rfl)
theorem dX12_tellRat_86 : decode cX12_tellRat 86 = .ok (.iconst 2, 1) := dk_5 (dk_at dksX12_tellRat_3 16 rfl rfl)
theorem dX12_tellRat_87 : decode cX12_tellRat 87 = .ok (.aload_n 0, 1) := dk_42 (dk_at dksX12_tellRat_3 17 rfl rfl)
theorem dX12_tellRat_88 : decode cX12_tellRat 88 = .ok (.getfield 67, 3) := dk_180 0 67 (dk_at dksX12_tellRat_3 18 rfl rfl)
theorem dX12_tellRat_91 : decode cX12_tellRat 91 = .ok (.aload_n 0, 1) := dk_42 (dk_at dksX12_tellRat_3 21 rfl rfl)
theorem dX12_tellRat_92 : decode cX12_tellRat 92 = .ok (.getfield 260, 3) := dk_180 1 4 (dk_at dksX12_tellRat_4 0 rfl rfl)
theorem dX12_tellRat_95 : decode cX12_tellRat 95 = .ok (.iaload, 1) := dk_46 (dk_at dksX12_tellRat_4 3 rfl rfl)
theorem dX12_tellRat_96 : decode cX12_tellRat 96 = .ok (.invokevirtual 314, 3) := dk_182 1 58 (dk_at dksX12_tellRat_4 4 rfl rfl)
theorem dX12_tellRat_99 : decode cX12_tellRat 99 = .ok (.aload_n 0, 1) := dk_42 (dk_at dksX12_tellRat_4 7 rfl rfl)
theorem dX12_tellRat_100 : decode cX12_tellRat 100 = .ok (.getfield 67, 3) := dk_180 0 67 (dk_at dksX12_tellRat_4 8 rfl rfl)
theorem dX12_tellRat_103 : decode cX12_tellRat 103 = .ok (.aload_n 0, 1) := dk_42 (dk_at dksX12_tellRat_4 11 rfl rfl)
theorem dX12_tellRat_104 : decode cX12_tellRat 104 = .ok (.getfield 260, 3) := dk_180 1 4 (dk_at dksX12_tellRat_4 12 rfl rfl)
theorem dX12_tellRat_107 : decode cX12_tellRat 107 = .ok (.dup2, 1) := dk_92 (dk_at dksX12_tellRat_4 15 rfl rfl)
theorem dX12_tellRat_108 : decode cX12_tellRat 108 = .ok (.iaload, 1) := dk_46 (dk_at dksX12_tellRat_4 16 rfl rfl)
theorem dX12_tellRat_109 : decode cX12_tellRat 109 = .ok (.iconst 1, 1) := dk_4 (dk_at dksX12_tellRat_4 17 rfl rfl)
theorem dX12_tellRat_110 : decode cX12_tellRat 110 = .ok (.iadd, 1) := dk_96 (dk_at dksX12_tellRat_4 18 rfl rfl)
theorem dX12_tellRat_111 : decode cX12_tellRat 111 = .ok (.iastore, 1) := dk_79 (dk_at dksX12_tellRat_4 19 rfl rfl)
theorem dX12_tellRat_112 : decode cX12_tellRat 112 = .ok (.return_, 1) := dk_177 (dk_at dksX12_tellRat_4 20 rfl rfl)
abbrev cX12_tellWants : ByteArray := prog_24_method_31_code
def yX12_tellWants : MethodName := ⟨RX12, "tellWants", "()V"⟩
def dkwX12_tellWants_7 : List UInt8 := [79, 42, 180, 0, 227, 154, 0, 16, 42, 180, 0, 82, 42, 180, 1, 4, 92, 46, 4, 96, 79, 177]
abbrev dktX12_tellWants_7 : List UInt8 := dkwX12_tellWants_7 ++ []
def dkwX12_tellWants_6 : List UInt8 := [17, 39, 15, 182, 1, 41, 79, 132, 2, 1, 167, 255, 136, 42, 7, 182, 1, 45, 42, 180, 0, 88, 27, 28]
abbrev dktX12_tellWants_6 : List UInt8 := dkwX12_tellWants_6 ++ dktX12_tellWants_7
def dkwX12_tellWants_5 : List UInt8 := [42, 180, 0, 91, 7, 27, 104, 28, 96, 21, 4, 79, 42, 180, 0, 94, 7, 27, 104, 28, 96, 42, 4]
abbrev dktX12_tellWants_5 : List UInt8 := dkwX12_tellWants_5 ++ dktX12_tellWants_6
def dkwX12_tellWants_4 : List UInt8 := [7, 27, 104, 21, 5, 96, 46, 21, 4, 160, 0, 9, 42, 6, 29, 182, 1, 51, 132, 5, 1, 167, 255, 220]
abbrev dktX12_tellWants_4 : List UInt8 := dkwX12_tellWants_4 ++ dktX12_tellWants_5
def dkwX12_tellWants_3 : List UInt8 := [3, 182, 1, 62, 54, 4, 3, 54, 5, 21, 5, 28, 162, 0, 36, 21, 4, 155, 0, 25, 42, 180, 0, 91]
abbrev dktX12_tellWants_3 : List UInt8 := dkwX12_tellWants_3 ++ dktX12_tellWants_4
def dkwX12_tellWants_2 : List UInt8 := [28, 7, 160, 0, 8, 42, 5, 182, 0, 242, 42, 180, 0, 227, 158, 0, 4, 177, 42, 180, 0, 230, 62, 42]
abbrev dktX12_tellWants_2 : List UInt8 := dkwX12_tellWants_2 ++ dktX12_tellWants_3
def dkwX12_tellWants_1 : List UInt8 := [17, 39, 15, 182, 1, 41, 79, 3, 61, 42, 180, 0, 227, 154, 0, 119, 42, 4, 182, 0, 245, 153, 0, 111]
abbrev dktX12_tellWants_1 : List UInt8 := dkwX12_tellWants_1 ++ dktX12_tellWants_2
def dkwX12_tellWants_0 : List UInt8 := [8, 42, 180, 1, 4, 104, 42, 180, 0, 82, 42, 180, 1, 4, 46, 96, 60, 42, 180, 0, 85, 27, 42, 3]
abbrev dktX12_tellWants_0 : List UInt8 := dkwX12_tellWants_0 ++ dktX12_tellWants_1
theorem dksX12_tellWants_0 : cX12_tellWants.data.toList.drop 0 = dktX12_tellWants_0 := by decide +kernel
theorem dksX12_tellWants_1 : cX12_tellWants.data.toList.drop 24 = dktX12_tellWants_1 := dk_seg dksX12_tellWants_0 24 rfl rfl
theorem dksX12_tellWants_2 : cX12_tellWants.data.toList.drop 48 = dktX12_tellWants_2 := dk_seg dksX12_tellWants_1 24 rfl rfl
theorem dksX12_tellWants_3 : cX12_tellWants.data.toList.drop 72 = dktX12_tellWants_3 := dk_seg dksX12_tellWants_2 24 rfl rfl
theorem dksX12_tellWants_4 : cX12_tellWants.data.toList.drop 96 = dktX12_tellWants_4 := dk_seg dksX12_tellWants_3 24 rfl rfl
theorem dksX12_tellWants_5 : cX12_tellWants.data.toList.drop 120 = dktX12_tellWants_5 := dk_seg dksX12_tellWants_4 24 rfl rfl
theorem dksX12_tellWants_6 : cX12_tellWants.data.toList.drop 143 = dktX12_tellWants_6 := dk_seg dksX12_tellWants_5 23 rfl rfl
theorem dksX12_tellWants_7 : cX12_tellWants.data.toList.drop 167 = dktX12_tellWants_7 := dk_seg dksX12_tellWants_6 24 rfl rfl
theorem dX12_tellWants_0 : decode cX12_tellWants 0 = .ok (.iconst 5, 1) := dk_8 (dk_at dksX12_tellWants_0 0 rfl rfl)
theorem dX12_tellWants_1 : decode cX12_tellWants 1 = .ok (.aload_n 0, 1) := dk_42 (dk_at dksX12_tellWants_0 1 rfl rfl)
theorem dX12_tellWants_2 : decode cX12_tellWants 2 = .ok (.getfield 260, 3) := dk_180 1 4 (dk_at dksX12_tellWants_0 2 rfl rfl)
theorem dX12_tellWants_5 : decode cX12_tellWants 5 = .ok (.imul, 1) := dk_104 (dk_at dksX12_tellWants_0 5 rfl rfl)
theorem dX12_tellWants_6 : decode cX12_tellWants 6 = .ok (.aload_n 0, 1) := dk_42 (dk_at dksX12_tellWants_0 6 rfl rfl)
theorem dX12_tellWants_7 : decode cX12_tellWants 7 = .ok (.getfield 82, 3) := dk_180 0 82 (dk_at dksX12_tellWants_0 7 rfl rfl)
theorem dX12_tellWants_10 : decode cX12_tellWants 10 = .ok (.aload_n 0, 1) := dk_42 (dk_at dksX12_tellWants_0 10 rfl rfl)
theorem dX12_tellWants_11 : decode cX12_tellWants 11 = .ok (.getfield 260, 3) := dk_180 1 4 (dk_at dksX12_tellWants_0 11 rfl rfl)
theorem dX12_tellWants_14 : decode cX12_tellWants 14 = .ok (.iaload, 1) := dk_46 (dk_at dksX12_tellWants_0 14 rfl rfl)
theorem dX12_tellWants_15 : decode cX12_tellWants 15 = .ok (.iadd, 1) := dk_96 (dk_at dksX12_tellWants_0 15 rfl rfl)
theorem dX12_tellWants_16 : decode cX12_tellWants 16 = .ok (.istore_n 1, 1) := dk_60 (dk_at dksX12_tellWants_0 16 rfl rfl)
theorem dX12_tellWants_17 : decode cX12_tellWants 17 = .ok (.aload_n 0, 1) := dk_42 (dk_at dksX12_tellWants_0 17 rfl rfl)
theorem dX12_tellWants_18 : decode cX12_tellWants 18 = .ok (.getfield 85, 3) := dk_180 0 85 (dk_at dksX12_tellWants_0 18 rfl rfl)
theorem dX12_tellWants_21 : decode cX12_tellWants 21 = .ok (.iload_n 1, 1) := dk_27 (dk_at dksX12_tellWants_0 21 rfl rfl)
theorem dX12_tellWants_22 : decode cX12_tellWants 22 = .ok (.aload_n 0, 1) := dk_42 (dk_at dksX12_tellWants_0 22 rfl rfl)
theorem dX12_tellWants_23 : decode cX12_tellWants 23 = .ok (.iconst 0, 1) := dk_3 (dk_at dksX12_tellWants_0 23 rfl rfl)
theorem dX12_tellWants_24 : decode cX12_tellWants 24 = .ok (.sipush 9999, 3) := dk_17 39 15 (dk_at dksX12_tellWants_1 0 rfl rfl)
theorem dX12_tellWants_27 : decode cX12_tellWants 27 = .ok (.invokevirtual 297, 3) := dk_182 1 41 (dk_at dksX12_tellWants_1 3 rfl rfl)
theorem dX12_tellWants_30 : decode cX12_tellWants 30 = .ok (.iastore, 1) := dk_79 (dk_at dksX12_tellWants_1 6 rfl rfl)
theorem dX12_tellWants_31 : decode cX12_tellWants 31 = .ok (.iconst 0, 1) := dk_3 (dk_at dksX12_tellWants_1 7 rfl rfl)
theorem dX12_tellWants_32 : decode cX12_tellWants 32 = .ok (.istore_n 2, 1) := dk_61 (dk_at dksX12_tellWants_1 8 rfl rfl)
theorem dX12_tellWants_33 : decode cX12_tellWants 33 = .ok (.aload_n 0, 1) := dk_42 (dk_at dksX12_tellWants_1 9 rfl rfl)
theorem dX12_tellWants_34 : decode cX12_tellWants 34 = .ok (.getfield 227, 3) := dk_180 0 227 (dk_at dksX12_tellWants_1 10 rfl rfl)
theorem dX12_tellWants_37 : decode cX12_tellWants 37 = .ok (.ifCond .ne 119, 3) := dk_154 0 119 (dk_at dksX12_tellWants_1 13 rfl rfl)
theorem dX12_tellWants_40 : decode cX12_tellWants 40 = .ok (.aload_n 0, 1) := dk_42 (dk_at dksX12_tellWants_1 16 rfl rfl)
theorem dX12_tellWants_41 : decode cX12_tellWants 41 = .ok (.iconst 1, 1) := dk_4 (dk_at dksX12_tellWants_1 17 rfl rfl)
theorem dX12_tellWants_42 : decode cX12_tellWants 42 = .ok (.invokevirtual 245, 3) := dk_182 0 245 (dk_at dksX12_tellWants_1 18 rfl rfl)
theorem dX12_tellWants_45 : decode cX12_tellWants 45 = .ok (.ifCond .eq 111, 3) := dk_153 0 111 (dk_at dksX12_tellWants_1 21 rfl rfl)
theorem dX12_tellWants_48 : decode cX12_tellWants 48 = .ok (.iload_n 2, 1) := dk_28 (dk_at dksX12_tellWants_2 0 rfl rfl)
theorem dX12_tellWants_49 : decode cX12_tellWants 49 = .ok (.iconst 4, 1) := dk_7 (dk_at dksX12_tellWants_2 1 rfl rfl)
theorem dX12_tellWants_50 : decode cX12_tellWants 50 = .ok (.if_icmp .ne 8, 3) := dk_160 0 8 (dk_at dksX12_tellWants_2 2 rfl rfl)
theorem dX12_tellWants_53 : decode cX12_tellWants 53 = .ok (.aload_n 0, 1) := dk_42 (dk_at dksX12_tellWants_2 5 rfl rfl)
theorem dX12_tellWants_54 : decode cX12_tellWants 54 = .ok (.iconst 2, 1) := dk_5 (dk_at dksX12_tellWants_2 6 rfl rfl)
theorem dX12_tellWants_55 : decode cX12_tellWants 55 = .ok (.invokevirtual 242, 3) := dk_182 0 242 (dk_at dksX12_tellWants_2 7 rfl rfl)
theorem dX12_tellWants_58 : decode cX12_tellWants 58 = .ok (.aload_n 0, 1) := dk_42 (dk_at dksX12_tellWants_2 10 rfl rfl)
theorem dX12_tellWants_59 : decode cX12_tellWants 59 = .ok (.getfield 227, 3) := dk_180 0 227 (dk_at dksX12_tellWants_2 11 rfl rfl)
theorem dX12_tellWants_62 : decode cX12_tellWants 62 = .ok (.ifCond .le 4, 3) := dk_158 0 4 (dk_at dksX12_tellWants_2 14 rfl rfl)
theorem dX12_tellWants_65 : decode cX12_tellWants 65 = .ok (.return_, 1) := dk_177 (dk_at dksX12_tellWants_2 17 rfl rfl)
theorem dX12_tellWants_66 : decode cX12_tellWants 66 = .ok (.aload_n 0, 1) := dk_42 (dk_at dksX12_tellWants_2 18 rfl rfl)
theorem dX12_tellWants_67 : decode cX12_tellWants 67 = .ok (.getfield 230, 3) := dk_180 0 230 (dk_at dksX12_tellWants_2 19 rfl rfl)
theorem dX12_tellWants_70 : decode cX12_tellWants 70 = .ok (.istore_n 3, 1) := dk_62 (dk_at dksX12_tellWants_2 22 rfl rfl)
theorem dX12_tellWants_71 : decode cX12_tellWants 71 = .ok (.aload_n 0, 1) := dk_42 (dk_at dksX12_tellWants_2 23 rfl rfl)
theorem dX12_tellWants_72 : decode cX12_tellWants 72 = .ok (.iconst 0, 1) := dk_3 (dk_at dksX12_tellWants_3 0 rfl rfl)
theorem dX12_tellWants_73 : decode cX12_tellWants 73 = .ok (.invokevirtual 318, 3) := dk_182 1 62 (dk_at dksX12_tellWants_3 1 rfl rfl)
theorem dX12_tellWants_76 : decode cX12_tellWants 76 = .ok (.istore 4, 2) := dk_54 4 (dk_at dksX12_tellWants_3 4 rfl rfl)
theorem dX12_tellWants_78 : decode cX12_tellWants 78 = .ok (.iconst 0, 1) := dk_3 (dk_at dksX12_tellWants_3 6 rfl rfl)
theorem dX12_tellWants_79 : decode cX12_tellWants 79 = .ok (.istore 5, 2) := dk_54 5 (dk_at dksX12_tellWants_3 7 rfl rfl)
theorem dX12_tellWants_81 : decode cX12_tellWants 81 = .ok (.iload 5, 2) := dk_21 5 (dk_at dksX12_tellWants_3 9 rfl rfl)
theorem dX12_tellWants_83 : decode cX12_tellWants 83 = .ok (.iload_n 2, 1) := dk_28 (dk_at dksX12_tellWants_3 11 rfl rfl)
theorem dX12_tellWants_84 : decode cX12_tellWants 84 = .ok (.if_icmp .ge 36, 3) := dk_162 0 36 (dk_at dksX12_tellWants_3 12 rfl rfl)
theorem dX12_tellWants_87 : decode cX12_tellWants 87 = .ok (.iload 4, 2) := dk_21 4 (dk_at dksX12_tellWants_3 15 rfl rfl)
theorem dX12_tellWants_89 : decode cX12_tellWants 89 = .ok (.ifCond .lt 25, 3) := dk_155 0 25 (dk_at dksX12_tellWants_3 17 rfl rfl)
theorem dX12_tellWants_92 : decode cX12_tellWants 92 = .ok (.aload_n 0, 1) := dk_42 (dk_at dksX12_tellWants_3 20 rfl rfl)
theorem dX12_tellWants_93 : decode cX12_tellWants 93 = .ok (.getfield 91, 3) := dk_180 0 91 (dk_at dksX12_tellWants_3 21 rfl rfl)
theorem dX12_tellWants_96 : decode cX12_tellWants 96 = .ok (.iconst 4, 1) := dk_7 (dk_at dksX12_tellWants_4 0 rfl rfl)
theorem dX12_tellWants_97 : decode cX12_tellWants 97 = .ok (.iload_n 1, 1) := dk_27 (dk_at dksX12_tellWants_4 1 rfl rfl)
theorem dX12_tellWants_98 : decode cX12_tellWants 98 = .ok (.imul, 1) := dk_104 (dk_at dksX12_tellWants_4 2 rfl rfl)
theorem dX12_tellWants_99 : decode cX12_tellWants 99 = .ok (.iload 5, 2) := dk_21 5 (dk_at dksX12_tellWants_4 3 rfl rfl)
theorem dX12_tellWants_101 : decode cX12_tellWants 101 = .ok (.iadd, 1) := dk_96 (dk_at dksX12_tellWants_4 5 rfl rfl)
theorem dX12_tellWants_102 : decode cX12_tellWants 102 = .ok (.iaload, 1) := dk_46 (dk_at dksX12_tellWants_4 6 rfl rfl)
theorem dX12_tellWants_103 : decode cX12_tellWants 103 = .ok (.iload 4, 2) := dk_21 4 (dk_at dksX12_tellWants_4 7 rfl rfl)
theorem dX12_tellWants_105 : decode cX12_tellWants 105 = .ok (.if_icmp .ne 9, 3) := dk_160 0 9 (dk_at dksX12_tellWants_4 9 rfl rfl)
theorem dX12_tellWants_108 : decode cX12_tellWants 108 = .ok (.aload_n 0, 1) := dk_42 (dk_at dksX12_tellWants_4 12 rfl rfl)
theorem dX12_tellWants_109 : decode cX12_tellWants 109 = .ok (.iconst 3, 1) := dk_6 (dk_at dksX12_tellWants_4 13 rfl rfl)
theorem dX12_tellWants_110 : decode cX12_tellWants 110 = .ok (.iload_n 3, 1) := dk_29 (dk_at dksX12_tellWants_4 14 rfl rfl)
theorem dX12_tellWants_111 : decode cX12_tellWants 111 = .ok (.invokevirtual 307, 3) := dk_182 1 51 (dk_at dksX12_tellWants_4 15 rfl rfl)
theorem dX12_tellWants_114 : decode cX12_tellWants 114 = .ok (.iinc 5 1, 3) := dk_132 5 1 (dk_at dksX12_tellWants_4 18 rfl rfl)
theorem dX12_tellWants_117 : decode cX12_tellWants 117 = .ok (.goto (-36), 3) := dk_167 255 220 (dk_at dksX12_tellWants_4 21 rfl rfl)
theorem dX12_tellWants_120 : decode cX12_tellWants 120 = .ok (.aload_n 0, 1) := dk_42 (dk_at dksX12_tellWants_5 0 rfl rfl)
theorem dX12_tellWants_121 : decode cX12_tellWants 121 = .ok (.getfield 91, 3) := dk_180 0 91 (dk_at dksX12_tellWants_5 1 rfl rfl)
theorem dX12_tellWants_124 : decode cX12_tellWants 124 = .ok (.iconst 4, 1) := dk_7 (dk_at dksX12_tellWants_5 4 rfl rfl)
theorem dX12_tellWants_125 : decode cX12_tellWants 125 = .ok (.iload_n 1, 1) := dk_27 (dk_at dksX12_tellWants_5 5 rfl rfl)
theorem dX12_tellWants_126 : decode cX12_tellWants 126 = .ok (.imul, 1) := dk_104 (dk_at dksX12_tellWants_5 6 rfl rfl)
theorem dX12_tellWants_127 : decode cX12_tellWants 127 = .ok (.iload_n 2, 1) := dk_28 (dk_at dksX12_tellWants_5 7 rfl rfl)
theorem dX12_tellWants_128 : decode cX12_tellWants 128 = .ok (.iadd, 1) := dk_96 (dk_at dksX12_tellWants_5 8 rfl rfl)
theorem dX12_tellWants_129 : decode cX12_tellWants 129 = .ok (.iload 4, 2) := dk_21 4 (dk_at dksX12_tellWants_5 9 rfl rfl)
theorem dX12_tellWants_131 : decode cX12_tellWants 131 = .ok (.iastore, 1) := dk_79 (dk_at dksX12_tellWants_5 11 rfl rfl)
theorem dX12_tellWants_132 : decode cX12_tellWants 132 = .ok (.aload_n 0, 1) := dk_42 (dk_at dksX12_tellWants_5 12 rfl rfl)
theorem dX12_tellWants_133 : decode cX12_tellWants 133 = .ok (.getfield 94, 3) := dk_180 0 94 (dk_at dksX12_tellWants_5 13 rfl rfl)
theorem dX12_tellWants_136 : decode cX12_tellWants 136 = .ok (.iconst 4, 1) := dk_7 (dk_at dksX12_tellWants_5 16 rfl rfl)
theorem dX12_tellWants_137 : decode cX12_tellWants 137 = .ok (.iload_n 1, 1) := dk_27 (dk_at dksX12_tellWants_5 17 rfl rfl)
theorem dX12_tellWants_138 : decode cX12_tellWants 138 = .ok (.imul, 1) := dk_104 (dk_at dksX12_tellWants_5 18 rfl rfl)
theorem dX12_tellWants_139 : decode cX12_tellWants 139 = .ok (.iload_n 2, 1) := dk_28 (dk_at dksX12_tellWants_5 19 rfl rfl)
theorem dX12_tellWants_140 : decode cX12_tellWants 140 = .ok (.iadd, 1) := dk_96 (dk_at dksX12_tellWants_5 20 rfl rfl)
theorem dX12_tellWants_141 : decode cX12_tellWants 141 = .ok (.aload_n 0, 1) := dk_42 (dk_at dksX12_tellWants_5 21 rfl rfl)
theorem dX12_tellWants_142 : decode cX12_tellWants 142 = .ok (.iconst 1, 1) := dk_4 (dk_at dksX12_tellWants_5 22 rfl rfl)
theorem dX12_tellWants_143 : decode cX12_tellWants 143 = .ok (.sipush 9999, 3) := dk_17 39 15 (dk_at dksX12_tellWants_6 0 rfl rfl)
theorem dX12_tellWants_146 : decode cX12_tellWants 146 = .ok (.invokevirtual 297, 3) := dk_182 1 41 (dk_at dksX12_tellWants_6 3 rfl rfl)
theorem dX12_tellWants_149 : decode cX12_tellWants 149 = .ok (.iastore, 1) := dk_79 (dk_at dksX12_tellWants_6 6 rfl rfl)
theorem dX12_tellWants_150 : decode cX12_tellWants 150 = .ok (.iinc 2 1, 3) := dk_132 2 1 (dk_at dksX12_tellWants_6 7 rfl rfl)
theorem dX12_tellWants_153 : decode cX12_tellWants 153 = .ok (.goto (-120), 3) := dk_167 255 136 (dk_at dksX12_tellWants_6 10 rfl rfl)
theorem dX12_tellWants_156 : decode cX12_tellWants 156 = .ok (.aload_n 0, 1) := dk_42 (dk_at dksX12_tellWants_6 13 rfl rfl)
theorem dX12_tellWants_157 : decode cX12_tellWants 157 = .ok (.iconst 4, 1) := dk_7 (dk_at dksX12_tellWants_6 14 rfl rfl)
theorem dX12_tellWants_158 : decode cX12_tellWants 158 = .ok (.invokevirtual 301, 3) := dk_182 1 45 (dk_at dksX12_tellWants_6 15 rfl rfl)
theorem dX12_tellWants_161 : decode cX12_tellWants 161 = .ok (.aload_n 0, 1) := dk_42 (dk_at dksX12_tellWants_6 18 rfl rfl)
theorem dX12_tellWants_162 : decode cX12_tellWants 162 = .ok (.getfield 88, 3) := dk_180 0 88 (dk_at dksX12_tellWants_6 19 rfl rfl)
theorem dX12_tellWants_165 : decode cX12_tellWants 165 = .ok (.iload_n 1, 1) := dk_27 (dk_at dksX12_tellWants_6 22 rfl rfl)
theorem dX12_tellWants_166 : decode cX12_tellWants 166 = .ok (.iload_n 2, 1) := dk_28 (dk_at dksX12_tellWants_6 23 rfl rfl)
theorem dX12_tellWants_167 : decode cX12_tellWants 167 = .ok (.iastore, 1) := dk_79 (dk_at dksX12_tellWants_7 0 rfl rfl)
theorem dX12_tellWants_168 : decode cX12_tellWants 168 = .ok (.aload_n 0, 1) := dk_42 (dk_at dksX12_tellWants_7 1 rfl rfl)
theorem dX12_tellWants_169 : decode cX12_tellWants 169 = .ok (.getfield 227, 3) := dk_180 0 227 (dk_at dksX12_tellWants_7 2 rfl rfl)
theorem dX12_tellWants_172 : decode cX12_tellWants 172 = .ok (.ifCond .ne 16, 3) := dk_154 0 16 (dk_at dksX12_tellWants_7 5 rfl rfl)
theorem dX12_tellWants_175 : decode cX12_tellWants 175 = .ok (.aload_n 0, 1) := dk_42 (dk_at dksX12_tellWants_7 8 rfl rfl)
theorem dX12_tellWants_176 : decode cX12_tellWants 176 = .ok (.getfield 82, 3) := dk_180 0 82 (dk_at dksX12_tellWants_7 9 rfl rfl)
theorem dX12_tellWants_179 : decode cX12_tellWants 179 = .ok (.aload_n 0, 1) := dk_42 (dk_at dksX12_tellWants_7 12 rfl rfl)
theorem dX12_tellWants_180 : decode cX12_tellWants 180 = .ok (.getfield 260, 3) := dk_180 1 4 (dk_at dksX12_tellWants_7 13 rfl rfl)
theorem dX12_tellWants_183 : decode cX12_tellWants 183 = .ok (.dup2, 1) := dk_92 (dk_at dksX12_tellWants_7 16 rfl rfl)
theorem dX12_tellWants_184 : decode cX12_tellWants 184 = .ok (.iaload, 1) := dk_46 (dk_at dksX12_tellWants_7 17 rfl rfl)
theorem dX12_tellWants_185 : decode cX12_tellWants 185 = .ok (.iconst 1, 1) := dk_4 (dk_at dksX12_tellWants_7 18 rfl rfl)
theorem dX12_tellWants_186 : decode cX12_tellWants 186 = .ok (.iadd, 1) := dk_96 (dk_at dksX12_tellWants_7 19 rfl rfl)
theorem dX12_tellWants_187 : decode cX12_tellWants 187 = .ok (.iastore, 1) := dk_79 (dk_at dksX12_tellWants_7 20 rfl rfl)
theorem dX12_tellWants_188 : decode cX12_tellWants 188 = .ok (.return_, 1) := dk_177 (dk_at dksX12_tellWants_7 21 rfl rfl)
abbrev cX12_tellLaw : ByteArray := prog_24_method_32_code
def yX12_tellLaw : MethodName := ⟨RX12, "tellLaw", "(I)V"⟩
def dkwX12_tellLaw_8 : List UInt8 := [180, 1, 10, 79, 177]
abbrev dktX12_tellLaw_8 : List UInt8 := dkwX12_tellLaw_8 ++ []
def dkwX12_tellLaw_7 : List UInt8 := [42, 180, 1, 4, 104, 27, 96, 28, 79, 42, 180, 0, 109, 6, 42, 180, 1, 4, 104, 27, 96, 42]
abbrev dktX12_tellLaw_7 : List UInt8 := dkwX12_tellLaw_7 ++ dktX12_tellLaw_8
def dkwX12_tellLaw_6 : List UInt8 := [3, 84, 42, 182, 1, 68, 42, 7, 182, 1, 45, 42, 180, 0, 227, 158, 0, 4, 177, 42, 180, 0, 106, 6]
abbrev dktX12_tellLaw_6 : List UInt8 := dkwX12_tellLaw_6 ++ dktX12_tellLaw_7
def dkwX12_tellLaw_5 : List UInt8 := [182, 1, 45, 42, 182, 1, 68, 42, 16, 32, 182, 1, 45, 167, 255, 142, 42, 180, 0, 112, 42, 180, 1, 10]
abbrev dktX12_tellLaw_5 : List UInt8 := dkwX12_tellLaw_5 ++ dktX12_tellLaw_6
def dkwX12_tellLaw_4 : List UInt8 := [180, 1, 10, 42, 180, 1, 13, 79, 42, 180, 0, 227, 154, 0, 7, 42, 182, 1, 65, 42, 16, 31]
abbrev dktX12_tellLaw_4 : List UInt8 := dkwX12_tellLaw_4 ++ dktX12_tellLaw_5
def dkwX12_tellLaw_3 : List UInt8 := [180, 1, 10, 42, 180, 1, 13, 79, 42, 182, 1, 65, 42, 16, 13, 182, 1, 45, 42, 180, 0, 119, 42]
abbrev dktX12_tellLaw_3 : List UInt8 := dkwX12_tellLaw_3 ++ dktX12_tellLaw_4
def dkwX12_tellLaw_2 : List UInt8 := [132, 3, 1, 42, 182, 0, 248, 42, 180, 0, 112, 42, 180, 1, 10, 4, 84, 42, 180, 0, 116, 42]
abbrev dktX12_tellLaw_2 : List UInt8 := dkwX12_tellLaw_2 ++ dktX12_tellLaw_3
def dkwX12_tellLaw_1 : List UInt8 := [182, 0, 245, 153, 0, 104, 29, 7, 160, 0, 8, 42, 5, 182, 0, 242, 42, 180, 0, 227, 158, 0, 4, 177]
abbrev dktX12_tellLaw_1 : List UInt8 := dkwX12_tellLaw_1 ++ dktX12_tellLaw_2
def dkwX12_tellLaw_0 : List UInt8 := [42, 8, 182, 1, 45, 42, 180, 1, 10, 61, 3, 62, 42, 180, 0, 227, 154, 0, 113, 42, 16, 30]
abbrev dktX12_tellLaw_0 : List UInt8 := dkwX12_tellLaw_0 ++ dktX12_tellLaw_1
theorem dksX12_tellLaw_0 : cX12_tellLaw.data.toList.drop 0 = dktX12_tellLaw_0 := by decide +kernel
theorem dksX12_tellLaw_1 : cX12_tellLaw.data.toList.drop 22 = dktX12_tellLaw_1 := dk_seg dksX12_tellLaw_0 22 rfl rfl
theorem dksX12_tellLaw_2 : cX12_tellLaw.data.toList.drop 46 = dktX12_tellLaw_2 := dk_seg dksX12_tellLaw_1 24 rfl rfl
theorem dksX12_tellLaw_3 : cX12_tellLaw.data.toList.drop 68 = dktX12_tellLaw_3 := dk_seg dksX12_tellLaw_2 22 rfl rfl
theorem dksX12_tellLaw_4 : cX12_tellLaw.data.toList.drop 91 = dktX12_tellLaw_4 := dk_seg dksX12_tellLaw_3 23 rfl rfl
theorem dksX12_tellLaw_5 : cX12_tellLaw.data.toList.drop 113 = dktX12_tellLaw_5 := dk_seg dksX12_tellLaw_4 22 rfl rfl
theorem dksX12_tellLaw_6 : cX12_tellLaw.data.toList.drop 137 = dktX12_tellLaw_6 := dk_seg dksX12_tellLaw_5 24 rfl rfl
theorem dksX12_tellLaw_7 : cX12_tellLaw.data.toList.drop 161 = dktX12_tellLaw_7 := dk_seg dksX12_tellLaw_6 24 rfl rfl
theorem dksX12_tellLaw_8 : cX12_tellLaw.data.toList.drop 183 = dktX12_tellLaw_8 := dk_seg dksX12_tellLaw_7 22 rfl rfl
theorem dX12_tellLaw_0 : decode cX12_tellLaw 0 = .ok (.aload_n 0, 1) := dk_42 (dk_at dksX12_tellLaw_0 0 rfl rfl)
theorem dX12_tellLaw_1 : decode cX12_tellLaw 1 = .ok (.iconst 5, 1) := dk_8 (dk_at dksX12_tellLaw_0 1 rfl rfl)
theorem dX12_tellLaw_2 : decode cX12_tellLaw 2 = .ok (.invokevirtual 301, 3) := dk_182 1 45 (dk_at dksX12_tellLaw_0 2 rfl rfl)
theorem dX12_tellLaw_5 : decode cX12_tellLaw 5 = .ok (.aload_n 0, 1) := dk_42 (dk_at dksX12_tellLaw_0 5 rfl rfl)
theorem dX12_tellLaw_6 : decode cX12_tellLaw 6 = .ok (.getfield 266, 3) := dk_180 1 10 (dk_at dksX12_tellLaw_0 6 rfl rfl)
theorem dX12_tellLaw_9 : decode cX12_tellLaw 9 = .ok (.istore_n 2, 1) := dk_61 (dk_at dksX12_tellLaw_0 9 rfl rfl)
theorem dX12_tellLaw_10 : decode cX12_tellLaw 10 = .ok (.iconst 0, 1) := dk_3 (dk_at dksX12_tellLaw_0 10 rfl rfl)
theorem dX12_tellLaw_11 : decode cX12_tellLaw 11 = .ok (.istore_n 3, 1) := dk_62 (dk_at dksX12_tellLaw_0 11 rfl rfl)
theorem dX12_tellLaw_12 : decode cX12_tellLaw 12 = .ok (.aload_n 0, 1) := dk_42 (dk_at dksX12_tellLaw_0 12 rfl rfl)
theorem dX12_tellLaw_13 : decode cX12_tellLaw 13 = .ok (.getfield 227, 3) := dk_180 0 227 (dk_at dksX12_tellLaw_0 13 rfl rfl)
theorem dX12_tellLaw_16 : decode cX12_tellLaw 16 = .ok (.ifCond .ne 113, 3) := dk_154 0 113 (dk_at dksX12_tellLaw_0 16 rfl rfl)
theorem dX12_tellLaw_19 : decode cX12_tellLaw 19 = .ok (.aload_n 0, 1) := dk_42 (dk_at dksX12_tellLaw_0 19 rfl rfl)
theorem dX12_tellLaw_20 : decode cX12_tellLaw 20 = .ok (.bipush 30, 2) := dk_16 30 (dk_at dksX12_tellLaw_0 20 rfl rfl)
theorem dX12_tellLaw_22 : decode cX12_tellLaw 22 = .ok (.invokevirtual 245, 3) := dk_182 0 245 (dk_at dksX12_tellLaw_1 0 rfl rfl)
theorem dX12_tellLaw_25 : decode cX12_tellLaw 25 = .ok (.ifCond .eq 104, 3) := dk_153 0 104 (dk_at dksX12_tellLaw_1 3 rfl rfl)
theorem dX12_tellLaw_28 : decode cX12_tellLaw 28 = .ok (.iload_n 3, 1) := dk_29 (dk_at dksX12_tellLaw_1 6 rfl rfl)
theorem dX12_tellLaw_29 : decode cX12_tellLaw 29 = .ok (.iconst 4, 1) := dk_7 (dk_at dksX12_tellLaw_1 7 rfl rfl)
theorem dX12_tellLaw_30 : decode cX12_tellLaw 30 = .ok (.if_icmp .ne 8, 3) := dk_160 0 8 (dk_at dksX12_tellLaw_1 8 rfl rfl)
theorem dX12_tellLaw_33 : decode cX12_tellLaw 33 = .ok (.aload_n 0, 1) := dk_42 (dk_at dksX12_tellLaw_1 11 rfl rfl)
theorem dX12_tellLaw_34 : decode cX12_tellLaw 34 = .ok (.iconst 2, 1) := dk_5 (dk_at dksX12_tellLaw_1 12 rfl rfl)
theorem dX12_tellLaw_35 : decode cX12_tellLaw 35 = .ok (.invokevirtual 242, 3) := dk_182 0 242 (dk_at dksX12_tellLaw_1 13 rfl rfl)
theorem dX12_tellLaw_38 : decode cX12_tellLaw 38 = .ok (.aload_n 0, 1) := dk_42 (dk_at dksX12_tellLaw_1 16 rfl rfl)
theorem dX12_tellLaw_39 : decode cX12_tellLaw 39 = .ok (.getfield 227, 3) := dk_180 0 227 (dk_at dksX12_tellLaw_1 17 rfl rfl)
theorem dX12_tellLaw_42 : decode cX12_tellLaw 42 = .ok (.ifCond .le 4, 3) := dk_158 0 4 (dk_at dksX12_tellLaw_1 20 rfl rfl)
theorem dX12_tellLaw_45 : decode cX12_tellLaw 45 = .ok (.return_, 1) := dk_177 (dk_at dksX12_tellLaw_1 23 rfl rfl)
theorem dX12_tellLaw_46 : decode cX12_tellLaw 46 = .ok (.iinc 3 1, 3) := dk_132 3 1 (dk_at dksX12_tellLaw_2 0 rfl rfl)
theorem dX12_tellLaw_49 : decode cX12_tellLaw 49 = .ok (.aload_n 0, 1) := dk_42 (dk_at dksX12_tellLaw_2 3 rfl rfl)
theorem dX12_tellLaw_50 : decode cX12_tellLaw 50 = .ok (.invokevirtual 248, 3) := dk_182 0 248 (dk_at dksX12_tellLaw_2 4 rfl rfl)
theorem dX12_tellLaw_53 : decode cX12_tellLaw 53 = .ok (.aload_n 0, 1) := dk_42 (dk_at dksX12_tellLaw_2 7 rfl rfl)
theorem dX12_tellLaw_54 : decode cX12_tellLaw 54 = .ok (.getfield 112, 3) := dk_180 0 112 (dk_at dksX12_tellLaw_2 8 rfl rfl)
theorem dX12_tellLaw_57 : decode cX12_tellLaw 57 = .ok (.aload_n 0, 1) := dk_42 (dk_at dksX12_tellLaw_2 11 rfl rfl)
theorem dX12_tellLaw_58 : decode cX12_tellLaw 58 = .ok (.getfield 266, 3) := dk_180 1 10 (dk_at dksX12_tellLaw_2 12 rfl rfl)
theorem dX12_tellLaw_61 : decode cX12_tellLaw 61 = .ok (.iconst 1, 1) := dk_4 (dk_at dksX12_tellLaw_2 15 rfl rfl)
theorem dX12_tellLaw_62 : decode cX12_tellLaw 62 = .ok (.bastore, 1) := dk_84 (dk_at dksX12_tellLaw_2 16 rfl rfl)
theorem dX12_tellLaw_63 : decode cX12_tellLaw 63 = .ok (.aload_n 0, 1) := dk_42 (dk_at dksX12_tellLaw_2 17 rfl rfl)
theorem dX12_tellLaw_64 : decode cX12_tellLaw 64 = .ok (.getfield 116, 3) := dk_180 0 116 (dk_at dksX12_tellLaw_2 18 rfl rfl)
theorem dX12_tellLaw_67 : decode cX12_tellLaw 67 = .ok (.aload_n 0, 1) := dk_42 (dk_at dksX12_tellLaw_2 21 rfl rfl)
theorem dX12_tellLaw_68 : decode cX12_tellLaw 68 = .ok (.getfield 266, 3) := dk_180 1 10 (dk_at dksX12_tellLaw_3 0 rfl rfl)
theorem dX12_tellLaw_71 : decode cX12_tellLaw 71 = .ok (.aload_n 0, 1) := dk_42 (dk_at dksX12_tellLaw_3 3 rfl rfl)
theorem dX12_tellLaw_72 : decode cX12_tellLaw 72 = .ok (.getfield 269, 3) := dk_180 1 13 (dk_at dksX12_tellLaw_3 4 rfl rfl)
theorem dX12_tellLaw_75 : decode cX12_tellLaw 75 = .ok (.iastore, 1) := dk_79 (dk_at dksX12_tellLaw_3 7 rfl rfl)
theorem dX12_tellLaw_76 : decode cX12_tellLaw 76 = .ok (.aload_n 0, 1) := dk_42 (dk_at dksX12_tellLaw_3 8 rfl rfl)
theorem dX12_tellLaw_77 : decode cX12_tellLaw 77 = .ok (.invokevirtual 321, 3) := dk_182 1 65 (dk_at dksX12_tellLaw_3 9 rfl rfl)
theorem dX12_tellLaw_80 : decode cX12_tellLaw 80 = .ok (.aload_n 0, 1) := dk_42 (dk_at dksX12_tellLaw_3 12 rfl rfl)
theorem dX12_tellLaw_81 : decode cX12_tellLaw 81 = .ok (.bipush 13, 2) := dk_16 13 (dk_at dksX12_tellLaw_3 13 rfl rfl)
theorem dX12_tellLaw_83 : decode cX12_tellLaw 83 = .ok (.invokevirtual 301, 3) := dk_182 1 45 (dk_at dksX12_tellLaw_3 15 rfl rfl)
theorem dX12_tellLaw_86 : decode cX12_tellLaw 86 = .ok (.aload_n 0, 1) := dk_42 (dk_at dksX12_tellLaw_3 18 rfl rfl)
theorem dX12_tellLaw_87 : decode cX12_tellLaw 87 = .ok (.getfield 119, 3) := dk_180 0 119 (dk_at dksX12_tellLaw_3 19 rfl rfl)
theorem dX12_tellLaw_90 : decode cX12_tellLaw 90 = .ok (.aload_n 0, 1) := dk_42 (dk_at dksX12_tellLaw_3 22 rfl rfl)
theorem dX12_tellLaw_91 : decode cX12_tellLaw 91 = .ok (.getfield 266, 3) := dk_180 1 10 (dk_at dksX12_tellLaw_4 0 rfl rfl)
theorem dX12_tellLaw_94 : decode cX12_tellLaw 94 = .ok (.aload_n 0, 1) := dk_42 (dk_at dksX12_tellLaw_4 3 rfl rfl)
theorem dX12_tellLaw_95 : decode cX12_tellLaw 95 = .ok (.getfield 269, 3) := dk_180 1 13 (dk_at dksX12_tellLaw_4 4 rfl rfl)
theorem dX12_tellLaw_98 : decode cX12_tellLaw 98 = .ok (.iastore, 1) := dk_79 (dk_at dksX12_tellLaw_4 7 rfl rfl)
theorem dX12_tellLaw_99 : decode cX12_tellLaw 99 = .ok (.aload_n 0, 1) := dk_42 (dk_at dksX12_tellLaw_4 8 rfl rfl)
theorem dX12_tellLaw_100 : decode cX12_tellLaw 100 = .ok (.getfield 227, 3) := dk_180 0 227 (dk_at dksX12_tellLaw_4 9 rfl rfl)
theorem dX12_tellLaw_103 : decode cX12_tellLaw 103 = .ok (.ifCond .ne 7, 3) := dk_154 0 7 (dk_at dksX12_tellLaw_4 12 rfl rfl)
theorem dX12_tellLaw_106 : decode cX12_tellLaw 106 = .ok (.aload_n 0, 1) := dk_42 (dk_at dksX12_tellLaw_4 15 rfl rfl)
theorem dX12_tellLaw_107 : decode cX12_tellLaw 107 = .ok (.invokevirtual 321, 3) := dk_182 1 65 (dk_at dksX12_tellLaw_4 16 rfl rfl)
theorem dX12_tellLaw_110 : decode cX12_tellLaw 110 = .ok (.aload_n 0, 1) := dk_42 (dk_at dksX12_tellLaw_4 19 rfl rfl)
theorem dX12_tellLaw_111 : decode cX12_tellLaw 111 = .ok (.bipush 31, 2) := dk_16 31 (dk_at dksX12_tellLaw_4 20 rfl rfl)
theorem dX12_tellLaw_113 : decode cX12_tellLaw 113 = .ok (.invokevirtual 301, 3) := dk_182 1 45 (dk_at dksX12_tellLaw_5 0 rfl rfl)
theorem dX12_tellLaw_116 : decode cX12_tellLaw 116 = .ok (.aload_n 0, 1) := dk_42 (dk_at dksX12_tellLaw_5 3 rfl rfl)
theorem dX12_tellLaw_117 : decode cX12_tellLaw 117 = .ok (.invokevirtual 324, 3) := dk_182 1 68 (dk_at dksX12_tellLaw_5 4 rfl rfl)
theorem dX12_tellLaw_120 : decode cX12_tellLaw 120 = .ok (.aload_n 0, 1) := dk_42 (dk_at dksX12_tellLaw_5 7 rfl rfl)
theorem dX12_tellLaw_121 : decode cX12_tellLaw 121 = .ok (.bipush 32, 2) := dk_16 32 (dk_at dksX12_tellLaw_5 8 rfl rfl)
theorem dX12_tellLaw_123 : decode cX12_tellLaw 123 = .ok (.invokevirtual 301, 3) := dk_182 1 45 (dk_at dksX12_tellLaw_5 10 rfl rfl)
theorem dX12_tellLaw_126 : decode cX12_tellLaw 126 = .ok (.goto (-114), 3) := dk_167 255 142 (dk_at dksX12_tellLaw_5 13 rfl rfl)
theorem dX12_tellLaw_129 : decode cX12_tellLaw 129 = .ok (.aload_n 0, 1) := dk_42 (dk_at dksX12_tellLaw_5 16 rfl rfl)
theorem dX12_tellLaw_130 : decode cX12_tellLaw 130 = .ok (.getfield 112, 3) := dk_180 0 112 (dk_at dksX12_tellLaw_5 17 rfl rfl)
theorem dX12_tellLaw_133 : decode cX12_tellLaw 133 = .ok (.aload_n 0, 1) := dk_42 (dk_at dksX12_tellLaw_5 20 rfl rfl)
theorem dX12_tellLaw_134 : decode cX12_tellLaw 134 = .ok (.getfield 266, 3) := dk_180 1 10 (dk_at dksX12_tellLaw_5 21 rfl rfl)
theorem dX12_tellLaw_137 : decode cX12_tellLaw 137 = .ok (.iconst 0, 1) := dk_3 (dk_at dksX12_tellLaw_6 0 rfl rfl)
theorem dX12_tellLaw_138 : decode cX12_tellLaw 138 = .ok (.bastore, 1) := dk_84 (dk_at dksX12_tellLaw_6 1 rfl rfl)
theorem dX12_tellLaw_139 : decode cX12_tellLaw 139 = .ok (.aload_n 0, 1) := dk_42 (dk_at dksX12_tellLaw_6 2 rfl rfl)
theorem dX12_tellLaw_140 : decode cX12_tellLaw 140 = .ok (.invokevirtual 324, 3) := dk_182 1 68 (dk_at dksX12_tellLaw_6 3 rfl rfl)
theorem dX12_tellLaw_143 : decode cX12_tellLaw 143 = .ok (.aload_n 0, 1) := dk_42 (dk_at dksX12_tellLaw_6 6 rfl rfl)
theorem dX12_tellLaw_144 : decode cX12_tellLaw 144 = .ok (.iconst 4, 1) := dk_7 (dk_at dksX12_tellLaw_6 7 rfl rfl)
theorem dX12_tellLaw_145 : decode cX12_tellLaw 145 = .ok (.invokevirtual 301, 3) := dk_182 1 45 (dk_at dksX12_tellLaw_6 8 rfl rfl)
theorem dX12_tellLaw_148 : decode cX12_tellLaw 148 = .ok (.aload_n 0, 1) := dk_42 (dk_at dksX12_tellLaw_6 11 rfl rfl)
theorem dX12_tellLaw_149 : decode cX12_tellLaw 149 = .ok (.getfield 227, 3) := dk_180 0 227 (dk_at dksX12_tellLaw_6 12 rfl rfl)
theorem dX12_tellLaw_152 : decode cX12_tellLaw 152 = .ok (.ifCond .le 4, 3) := dk_158 0 4 (dk_at dksX12_tellLaw_6 15 rfl rfl)
theorem dX12_tellLaw_155 : decode cX12_tellLaw 155 = .ok (.return_, 1) := dk_177 (dk_at dksX12_tellLaw_6 18 rfl rfl)
theorem dX12_tellLaw_156 : decode cX12_tellLaw 156 = .ok (.aload_n 0, 1) := dk_42 (dk_at dksX12_tellLaw_6 19 rfl rfl)
theorem dX12_tellLaw_157 : decode cX12_tellLaw 157 = .ok (.getfield 106, 3) := dk_180 0 106 (dk_at dksX12_tellLaw_6 20 rfl rfl)
theorem dX12_tellLaw_160 : decode cX12_tellLaw 160 = .ok (.iconst 3, 1) := dk_6 (dk_at dksX12_tellLaw_6 23 rfl rfl)
theorem dX12_tellLaw_161 : decode cX12_tellLaw 161 = .ok (.aload_n 0, 1) := dk_42 (dk_at dksX12_tellLaw_7 0 rfl rfl)
theorem dX12_tellLaw_162 : decode cX12_tellLaw 162 = .ok (.getfield 260, 3) := dk_180 1 4 (dk_at dksX12_tellLaw_7 1 rfl rfl)
theorem dX12_tellLaw_165 : decode cX12_tellLaw 165 = .ok (.imul, 1) := dk_104 (dk_at dksX12_tellLaw_7 4 rfl rfl)
theorem dX12_tellLaw_166 : decode cX12_tellLaw 166 = .ok (.iload_n 1, 1) := dk_27 (dk_at dksX12_tellLaw_7 5 rfl rfl)
theorem dX12_tellLaw_167 : decode cX12_tellLaw 167 = .ok (.iadd, 1) := dk_96 (dk_at dksX12_tellLaw_7 6 rfl rfl)
theorem dX12_tellLaw_168 : decode cX12_tellLaw 168 = .ok (.iload_n 2, 1) := dk_28 (dk_at dksX12_tellLaw_7 7 rfl rfl)
theorem dX12_tellLaw_169 : decode cX12_tellLaw 169 = .ok (.iastore, 1) := dk_79 (dk_at dksX12_tellLaw_7 8 rfl rfl)
theorem dX12_tellLaw_170 : decode cX12_tellLaw 170 = .ok (.aload_n 0, 1) := dk_42 (dk_at dksX12_tellLaw_7 9 rfl rfl)
theorem dX12_tellLaw_171 : decode cX12_tellLaw 171 = .ok (.getfield 109, 3) := dk_180 0 109 (dk_at dksX12_tellLaw_7 10 rfl rfl)
theorem dX12_tellLaw_174 : decode cX12_tellLaw 174 = .ok (.iconst 3, 1) := dk_6 (dk_at dksX12_tellLaw_7 13 rfl rfl)
theorem dX12_tellLaw_175 : decode cX12_tellLaw 175 = .ok (.aload_n 0, 1) := dk_42 (dk_at dksX12_tellLaw_7 14 rfl rfl)
theorem dX12_tellLaw_176 : decode cX12_tellLaw 176 = .ok (.getfield 260, 3) := dk_180 1 4 (dk_at dksX12_tellLaw_7 15 rfl rfl)
theorem dX12_tellLaw_179 : decode cX12_tellLaw 179 = .ok (.imul, 1) := dk_104 (dk_at dksX12_tellLaw_7 18 rfl rfl)
theorem dX12_tellLaw_180 : decode cX12_tellLaw 180 = .ok (.iload_n 1, 1) := dk_27 (dk_at dksX12_tellLaw_7 19 rfl rfl)
theorem dX12_tellLaw_181 : decode cX12_tellLaw 181 = .ok (.iadd, 1) := dk_96 (dk_at dksX12_tellLaw_7 20 rfl rfl)
theorem dX12_tellLaw_182 : decode cX12_tellLaw 182 = .ok (.aload_n 0, 1) := dk_42 (dk_at dksX12_tellLaw_7 21 rfl rfl)
theorem dX12_tellLaw_183 : decode cX12_tellLaw 183 = .ok (.getfield 266, 3) := dk_180 1 10 (dk_at dksX12_tellLaw_8 0 rfl rfl)
theorem dX12_tellLaw_186 : decode cX12_tellLaw 186 = .ok (.iastore, 1) := dk_79 (dk_at dksX12_tellLaw_8 3 rfl rfl)
theorem dX12_tellLaw_187 : decode cX12_tellLaw 187 = .ok (.return_, 1) := dk_177 (dk_at dksX12_tellLaw_8 4 rfl rfl)
abbrev cX12_expression : ByteArray := prog_24_method_36_code
def yX12_expression : MethodName := ⟨RX12, "expression", "()V"⟩
def dkwX12_expression_11 : List UInt8 := [180, 1, 71, 4, 96, 181, 1, 71, 42, 182, 0, 248, 167, 254, 255, 177]
abbrev dktX12_expression_11 : List UInt8 := dkwX12_expression_11 ++ []
def dkwX12_expression_10 : List UInt8 := [182, 1, 80, 42, 180, 0, 134, 42, 180, 1, 71, 42, 180, 0, 20, 42, 180, 0, 230, 46, 79, 42, 89]
abbrev dktX12_expression_10 : List UInt8 := dkwX12_expression_10 ++ dktX12_expression_11
def dkwX12_expression_9 : List UInt8 := [16, 10, 182, 0, 245, 154, 0, 12, 42, 16, 15, 182, 0, 245, 153, 0, 7, 4, 167, 0, 4, 3]
abbrev dktX12_expression_9 : List UInt8 := dkwX12_expression_9 ++ dktX12_expression_10
def dkwX12_expression_8 : List UInt8 := [154, 0, 22, 42, 180, 0, 254, 27, 164, 0, 8, 42, 4, 182, 0, 242, 42, 3, 182, 1, 80, 177, 42, 42]
abbrev dktX12_expression_8 : List UInt8 := dkwX12_expression_8 ++ dktX12_expression_9
def dkwX12_expression_7 : List UInt8 := [182, 0, 245, 154, 0, 12, 42, 16, 15, 182, 0, 245, 153, 0, 7, 4, 167, 0, 4, 3, 61, 28]
abbrev dktX12_expression_7 : List UInt8 := dkwX12_expression_7 ++ dktX12_expression_8
def dkwX12_expression_6 : List UInt8 := [167, 255, 210, 42, 16, 8, 182, 0, 245, 154, 0, 30, 42, 16, 9, 182, 0, 245, 154, 0, 21, 42, 16, 10]
abbrev dktX12_expression_6 : List UInt8 := dkwX12_expression_6 ++ dktX12_expression_7
def dkwX12_expression_5 : List UInt8 := [180, 1, 71, 4, 100, 181, 1, 71, 42, 89, 180, 0, 254, 4, 100, 181, 0, 254, 42, 182, 0, 248]
abbrev dktX12_expression_5 : List UInt8 := dkwX12_expression_5 ++ dktX12_expression_6
def dkwX12_expression_4 : List UInt8 := [42, 16, 7, 182, 0, 245, 153, 0, 43, 42, 180, 0, 254, 27, 164, 0, 35, 42, 3, 182, 1, 80, 42, 89]
abbrev dktX12_expression_4 : List UInt8 := dkwX12_expression_4 ++ dktX12_expression_5
def dkwX12_expression_3 : List UInt8 := [89, 180, 1, 71, 4, 96, 181, 1, 71, 167, 255, 198, 42, 182, 1, 77, 42, 180, 0, 227, 158, 0, 4, 177]
abbrev dktX12_expression_3 : List UInt8 := dkwX12_expression_3 ++ dktX12_expression_4
def dkwX12_expression_2 : List UInt8 := [180, 0, 254, 4, 96, 181, 0, 254, 42, 182, 0, 248, 42, 180, 0, 134, 42, 180, 1, 71, 16, 6, 79, 42]
abbrev dktX12_expression_2 : List UInt8 := dkwX12_expression_2 ++ dktX12_expression_3
def dkwX12_expression_1 : List UInt8 := [16, 6, 182, 0, 245, 153, 0, 55, 42, 180, 0, 254, 16, 6, 160, 0, 8, 42, 5, 182, 0, 242, 42, 89]
abbrev dktX12_expression_1 : List UInt8 := dkwX12_expression_1 ++ dktX12_expression_2
def dkwX12_expression_0 : List UInt8 := [42, 3, 181, 1, 71, 42, 180, 0, 254, 60, 4, 61, 28, 153, 1, 3, 42, 180, 0, 227, 154, 0, 252, 42]
abbrev dktX12_expression_0 : List UInt8 := dkwX12_expression_0 ++ dktX12_expression_1
theorem dksX12_expression_0 : cX12_expression.data.toList.drop 0 = dktX12_expression_0 := by decide +kernel
theorem dksX12_expression_1 : cX12_expression.data.toList.drop 24 = dktX12_expression_1 := dk_seg dksX12_expression_0 24 rfl rfl
theorem dksX12_expression_2 : cX12_expression.data.toList.drop 48 = dktX12_expression_2 := dk_seg dksX12_expression_1 24 rfl rfl
theorem dksX12_expression_3 : cX12_expression.data.toList.drop 72 = dktX12_expression_3 := dk_seg dksX12_expression_2 24 rfl rfl
theorem dksX12_expression_4 : cX12_expression.data.toList.drop 96 = dktX12_expression_4 := dk_seg dksX12_expression_3 24 rfl rfl
theorem dksX12_expression_5 : cX12_expression.data.toList.drop 120 = dktX12_expression_5 := dk_seg dksX12_expression_4 24 rfl rfl
theorem dksX12_expression_6 : cX12_expression.data.toList.drop 142 = dktX12_expression_6 := dk_seg dksX12_expression_5 22 rfl rfl
theorem dksX12_expression_7 : cX12_expression.data.toList.drop 166 = dktX12_expression_7 := dk_seg dksX12_expression_6 24 rfl rfl
theorem dksX12_expression_8 : cX12_expression.data.toList.drop 188 = dktX12_expression_8 := dk_seg dksX12_expression_7 22 rfl rfl
theorem dksX12_expression_9 : cX12_expression.data.toList.drop 212 = dktX12_expression_9 := dk_seg dksX12_expression_8 24 rfl rfl
theorem dksX12_expression_10 : cX12_expression.data.toList.drop 234 = dktX12_expression_10 := dk_seg dksX12_expression_9 22 rfl rfl
theorem dksX12_expression_11 : cX12_expression.data.toList.drop 257 = dktX12_expression_11 := dk_seg dksX12_expression_10 23 rfl rfl
theorem dX12_expression_0 : decode cX12_expression 0 = .ok (.aload_n 0, 1) := dk_42 (dk_at dksX12_expression_0 0 rfl rfl)
theorem dX12_expression_1 : decode cX12_expression 1 = .ok (.iconst 0, 1) := dk_3 (dk_at dksX12_expression_0 1 rfl rfl)
theorem dX12_expression_2 : decode cX12_expression 2 = .ok (.putfield 327, 3) := dk_181 1 71 (dk_at dksX12_expression_0 2 rfl rfl)
theorem dX12_expression_5 : decode cX12_expression 5 = .ok (.aload_n 0, 1) := dk_42 (dk_at dksX12_expression_0 5 rfl rfl)
theorem dX12_expression_6 : decode cX12_expression 6 = .ok (.getfield 254, 3) := dk_180 0 254 (dk_at dksX12_expression_0 6 rfl rfl)
theorem dX12_expression_9 : decode cX12_expression 9 = .ok (.istore_n 1, 1) := dk_60 (dk_at dksX12_expression_0 9 rfl rfl)
theorem dX12_expression_10 : decode cX12_expression 10 = .ok (.iconst 1, 1) := dk_4 (dk_at dksX12_expression_0 10 rfl rfl)
theorem dX12_expression_11 : decode cX12_expression 11 = .ok (.istore_n 2, 1) := dk_61 (dk_at dksX12_expression_0 11 rfl rfl)
theorem dX12_expression_12 : decode cX12_expression 12 = .ok (.iload_n 2, 1) := dk_28 (dk_at dksX12_expression_0 12 rfl rfl)
theorem dX12_expression_13 : decode cX12_expression 13 = .ok (.ifCond .eq 259, 3) := dk_153 1 3 (dk_at dksX12_expression_0 13 rfl rfl)
theorem dX12_expression_16 : decode cX12_expression 16 = .ok (.aload_n 0, 1) := dk_42 (dk_at dksX12_expression_0 16 rfl rfl)
theorem dX12_expression_17 : decode cX12_expression 17 = .ok (.getfield 227, 3) := dk_180 0 227 (dk_at dksX12_expression_0 17 rfl rfl)
theorem dX12_expression_20 : decode cX12_expression 20 = .ok (.ifCond .ne 252, 3) := dk_154 0 252 (dk_at dksX12_expression_0 20 rfl rfl)
theorem dX12_expression_23 : decode cX12_expression 23 = .ok (.aload_n 0, 1) := dk_42 (dk_at dksX12_expression_0 23 rfl rfl)
theorem dX12_expression_24 : decode cX12_expression 24 = .ok (.bipush 6, 2) := dk_16 6 (dk_at dksX12_expression_1 0 rfl rfl)
theorem dX12_expression_26 : decode cX12_expression 26 = .ok (.invokevirtual 245, 3) := dk_182 0 245 (dk_at dksX12_expression_1 2 rfl rfl)
theorem dX12_expression_29 : decode cX12_expression 29 = .ok (.ifCond .eq 55, 3) := dk_153 0 55 (dk_at dksX12_expression_1 5 rfl rfl)
theorem dX12_expression_32 : decode cX12_expression 32 = .ok (.aload_n 0, 1) := dk_42 (dk_at dksX12_expression_1 8 rfl rfl)
theorem dX12_expression_33 : decode cX12_expression 33 = .ok (.getfield 254, 3) := dk_180 0 254 (dk_at dksX12_expression_1 9 rfl rfl)
theorem dX12_expression_36 : decode cX12_expression 36 = .ok (.bipush 6, 2) := dk_16 6 (dk_at dksX12_expression_1 12 rfl rfl)
theorem dX12_expression_38 : decode cX12_expression 38 = .ok (.if_icmp .ne 8, 3) := dk_160 0 8 (dk_at dksX12_expression_1 14 rfl rfl)
theorem dX12_expression_41 : decode cX12_expression 41 = .ok (.aload_n 0, 1) := dk_42 (dk_at dksX12_expression_1 17 rfl rfl)
theorem dX12_expression_42 : decode cX12_expression 42 = .ok (.iconst 2, 1) := dk_5 (dk_at dksX12_expression_1 18 rfl rfl)
theorem dX12_expression_43 : decode cX12_expression 43 = .ok (.invokevirtual 242, 3) := dk_182 0 242 (dk_at dksX12_expression_1 19 rfl rfl)
theorem dX12_expression_46 : decode cX12_expression 46 = .ok (.aload_n 0, 1) := dk_42 (dk_at dksX12_expression_1 22 rfl rfl)
theorem dX12_expression_47 : decode cX12_expression 47 = .ok (.dup, 1) := dk_89 (dk_at dksX12_expression_1 23 rfl rfl)
theorem dX12_expression_48 : decode cX12_expression 48 = .ok (.getfield 254, 3) := dk_180 0 254 (dk_at dksX12_expression_2 0 rfl rfl)
theorem dX12_expression_51 : decode cX12_expression 51 = .ok (.iconst 1, 1) := dk_4 (dk_at dksX12_expression_2 3 rfl rfl)
theorem dX12_expression_52 : decode cX12_expression 52 = .ok (.iadd, 1) := dk_96 (dk_at dksX12_expression_2 4 rfl rfl)
theorem dX12_expression_53 : decode cX12_expression 53 = .ok (.putfield 254, 3) := dk_181 0 254 (dk_at dksX12_expression_2 5 rfl rfl)
theorem dX12_expression_56 : decode cX12_expression 56 = .ok (.aload_n 0, 1) := dk_42 (dk_at dksX12_expression_2 8 rfl rfl)
theorem dX12_expression_57 : decode cX12_expression 57 = .ok (.invokevirtual 248, 3) := dk_182 0 248 (dk_at dksX12_expression_2 9 rfl rfl)
theorem dX12_expression_60 : decode cX12_expression 60 = .ok (.aload_n 0, 1) := dk_42 (dk_at dksX12_expression_2 12 rfl rfl)
theorem dX12_expression_61 : decode cX12_expression 61 = .ok (.getfield 134, 3) := dk_180 0 134 (dk_at dksX12_expression_2 13 rfl rfl)
theorem dX12_expression_64 : decode cX12_expression 64 = .ok (.aload_n 0, 1) := dk_42 (dk_at dksX12_expression_2 16 rfl rfl)
theorem dX12_expression_65 : decode cX12_expression 65 = .ok (.getfield 327, 3) := dk_180 1 71 (dk_at dksX12_expression_2 17 rfl rfl)
theorem dX12_expression_68 : decode cX12_expression 68 = .ok (.bipush 6, 2) := dk_16 6 (dk_at dksX12_expression_2 20 rfl rfl)
theorem dX12_expression_70 : decode cX12_expression 70 = .ok (.iastore, 1) := dk_79 (dk_at dksX12_expression_2 22 rfl rfl)
theorem dX12_expression_71 : decode cX12_expression 71 = .ok (.aload_n 0, 1) := dk_42 (dk_at dksX12_expression_2 23 rfl rfl)
theorem dX12_expression_72 : decode cX12_expression 72 = .ok (.dup, 1) := dk_89 (dk_at dksX12_expression_3 0 rfl rfl)
theorem dX12_expression_73 : decode cX12_expression 73 = .ok (.getfield 327, 3) := dk_180 1 71 (dk_at dksX12_expression_3 1 rfl rfl)
theorem dX12_expression_76 : decode cX12_expression 76 = .ok (.iconst 1, 1) := dk_4 (dk_at dksX12_expression_3 4 rfl rfl)
theorem dX12_expression_77 : decode cX12_expression 77 = .ok (.iadd, 1) := dk_96 (dk_at dksX12_expression_3 5 rfl rfl)
theorem dX12_expression_78 : decode cX12_expression 78 = .ok (.putfield 327, 3) := dk_181 1 71 (dk_at dksX12_expression_3 6 rfl rfl)
theorem dX12_expression_81 : decode cX12_expression 81 = .ok (.goto (-58), 3) := dk_167 255 198 (dk_at dksX12_expression_3 9 rfl rfl)
theorem dX12_expression_84 : decode cX12_expression 84 = .ok (.aload_n 0, 1) := dk_42 (dk_at dksX12_expression_3 12 rfl rfl)
theorem dX12_expression_85 : decode cX12_expression 85 = .ok (.invokevirtual 333, 3) := dk_182 1 77 (dk_at dksX12_expression_3 13 rfl rfl)
theorem dX12_expression_88 : decode cX12_expression 88 = .ok (.aload_n 0, 1) := dk_42 (dk_at dksX12_expression_3 16 rfl rfl)
theorem dX12_expression_89 : decode cX12_expression 89 = .ok (.getfield 227, 3) := dk_180 0 227 (dk_at dksX12_expression_3 17 rfl rfl)
theorem dX12_expression_92 : decode cX12_expression 92 = .ok (.ifCond .le 4, 3) := dk_158 0 4 (dk_at dksX12_expression_3 20 rfl rfl)
theorem dX12_expression_95 : decode cX12_expression 95 = .ok (.return_, 1) := dk_177 (dk_at dksX12_expression_3 23 rfl rfl)
theorem dX12_expression_96 : decode cX12_expression 96 = .ok (.aload_n 0, 1) := dk_42 (dk_at dksX12_expression_4 0 rfl rfl)
theorem dX12_expression_97 : decode cX12_expression 97 = .ok (.bipush 7, 2) := dk_16 7 (dk_at dksX12_expression_4 1 rfl rfl)
theorem dX12_expression_99 : decode cX12_expression 99 = .ok (.invokevirtual 245, 3) := dk_182 0 245 (dk_at dksX12_expression_4 3 rfl rfl)
theorem dX12_expression_102 : decode cX12_expression 102 = .ok (.ifCond .eq 43, 3) := dk_153 0 43 (dk_at dksX12_expression_4 6 rfl rfl)
theorem dX12_expression_105 : decode cX12_expression 105 = .ok (.aload_n 0, 1) := dk_42 (dk_at dksX12_expression_4 9 rfl rfl)
theorem dX12_expression_106 : decode cX12_expression 106 = .ok (.getfield 254, 3) := dk_180 0 254 (dk_at dksX12_expression_4 10 rfl rfl)
theorem dX12_expression_109 : decode cX12_expression 109 = .ok (.iload_n 1, 1) := dk_27 (dk_at dksX12_expression_4 13 rfl rfl)
theorem dX12_expression_110 : decode cX12_expression 110 = .ok (.if_icmp .le 35, 3) := dk_164 0 35 (dk_at dksX12_expression_4 14 rfl rfl)
theorem dX12_expression_113 : decode cX12_expression 113 = .ok (.aload_n 0, 1) := dk_42 (dk_at dksX12_expression_4 17 rfl rfl)
theorem dX12_expression_114 : decode cX12_expression 114 = .ok (.iconst 0, 1) := dk_3 (dk_at dksX12_expression_4 18 rfl rfl)
theorem dX12_expression_115 : decode cX12_expression 115 = .ok (.invokevirtual 336, 3) := dk_182 1 80 (dk_at dksX12_expression_4 19 rfl rfl)
theorem dX12_expression_118 : decode cX12_expression 118 = .ok (.aload_n 0, 1) := dk_42 (dk_at dksX12_expression_4 22 rfl rfl)
theorem dX12_expression_119 : decode cX12_expression 119 = .ok (.dup, 1) := dk_89 (dk_at dksX12_expression_4 23 rfl rfl)
theorem dX12_expression_120 : decode cX12_expression 120 = .ok (.getfield 327, 3) := dk_180 1 71 (dk_at dksX12_expression_5 0 rfl rfl)
theorem dX12_expression_123 : decode cX12_expression 123 = .ok (.iconst 1, 1) := dk_4 (dk_at dksX12_expression_5 3 rfl rfl)
theorem dX12_expression_124 : decode cX12_expression 124 = .ok (.isub, 1) := dk_100 (dk_at dksX12_expression_5 4 rfl rfl)
theorem dX12_expression_125 : decode cX12_expression 125 = .ok (.putfield 327, 3) := dk_181 1 71 (dk_at dksX12_expression_5 5 rfl rfl)
theorem dX12_expression_128 : decode cX12_expression 128 = .ok (.aload_n 0, 1) := dk_42 (dk_at dksX12_expression_5 8 rfl rfl)
theorem dX12_expression_129 : decode cX12_expression 129 = .ok (.dup, 1) := dk_89 (dk_at dksX12_expression_5 9 rfl rfl)
theorem dX12_expression_130 : decode cX12_expression 130 = .ok (.getfield 254, 3) := dk_180 0 254 (dk_at dksX12_expression_5 10 rfl rfl)
theorem dX12_expression_133 : decode cX12_expression 133 = .ok (.iconst 1, 1) := dk_4 (dk_at dksX12_expression_5 13 rfl rfl)
theorem dX12_expression_134 : decode cX12_expression 134 = .ok (.isub, 1) := dk_100 (dk_at dksX12_expression_5 14 rfl rfl)
theorem dX12_expression_135 : decode cX12_expression 135 = .ok (.putfield 254, 3) := dk_181 0 254 (dk_at dksX12_expression_5 15 rfl rfl)
theorem dX12_expression_138 : decode cX12_expression 138 = .ok (.aload_n 0, 1) := dk_42 (dk_at dksX12_expression_5 18 rfl rfl)
theorem dX12_expression_139 : decode cX12_expression 139 = .ok (.invokevirtual 248, 3) := dk_182 0 248 (dk_at dksX12_expression_5 19 rfl rfl)
theorem dX12_expression_142 : decode cX12_expression 142 = .ok (.goto (-46), 3) := dk_167 255 210 (dk_at dksX12_expression_6 0 rfl rfl)
theorem dX12_expression_145 : decode cX12_expression 145 = .ok (.aload_n 0, 1) := dk_42 (dk_at dksX12_expression_6 3 rfl rfl)
theorem dX12_expression_146 : decode cX12_expression 146 = .ok (.bipush 8, 2) := dk_16 8 (dk_at dksX12_expression_6 4 rfl rfl)
theorem dX12_expression_148 : decode cX12_expression 148 = .ok (.invokevirtual 245, 3) := dk_182 0 245 (dk_at dksX12_expression_6 6 rfl rfl)
theorem dX12_expression_151 : decode cX12_expression 151 = .ok (.ifCond .ne 30, 3) := dk_154 0 30 (dk_at dksX12_expression_6 9 rfl rfl)
theorem dX12_expression_154 : decode cX12_expression 154 = .ok (.aload_n 0, 1) := dk_42 (dk_at dksX12_expression_6 12 rfl rfl)
theorem dX12_expression_155 : decode cX12_expression 155 = .ok (.bipush 9, 2) := dk_16 9 (dk_at dksX12_expression_6 13 rfl rfl)
theorem dX12_expression_157 : decode cX12_expression 157 = .ok (.invokevirtual 245, 3) := dk_182 0 245 (dk_at dksX12_expression_6 15 rfl rfl)
theorem dX12_expression_160 : decode cX12_expression 160 = .ok (.ifCond .ne 21, 3) := dk_154 0 21 (dk_at dksX12_expression_6 18 rfl rfl)
theorem dX12_expression_163 : decode cX12_expression 163 = .ok (.aload_n 0, 1) := dk_42 (dk_at dksX12_expression_6 21 rfl rfl)
theorem dX12_expression_164 : decode cX12_expression 164 = .ok (.bipush 10, 2) := dk_16 10 (dk_at dksX12_expression_6 22 rfl rfl)
theorem dX12_expression_166 : decode cX12_expression 166 = .ok (.invokevirtual 245, 3) := dk_182 0 245 (dk_at dksX12_expression_7 0 rfl rfl)
theorem dX12_expression_169 : decode cX12_expression 169 = .ok (.ifCond .ne 12, 3) := dk_154 0 12 (dk_at dksX12_expression_7 3 rfl rfl)
theorem dX12_expression_172 : decode cX12_expression 172 = .ok (.aload_n 0, 1) := dk_42 (dk_at dksX12_expression_7 6 rfl rfl)
theorem dX12_expression_173 : decode cX12_expression 173 = .ok (.bipush 15, 2) := dk_16 15 (dk_at dksX12_expression_7 7 rfl rfl)
theorem dX12_expression_175 : decode cX12_expression 175 = .ok (.invokevirtual 245, 3) := dk_182 0 245 (dk_at dksX12_expression_7 9 rfl rfl)
theorem dX12_expression_178 : decode cX12_expression 178 = .ok (.ifCond .eq 7, 3) := dk_153 0 7 (dk_at dksX12_expression_7 12 rfl rfl)
theorem dX12_expression_181 : decode cX12_expression 181 = .ok (.iconst 1, 1) := dk_4 (dk_at dksX12_expression_7 15 rfl rfl)
theorem dX12_expression_182 : decode cX12_expression 182 = .ok (.goto 4, 3) := dk_167 0 4 (dk_at dksX12_expression_7 16 rfl rfl)
theorem dX12_expression_185 : decode cX12_expression 185 = .ok (.iconst 0, 1) := dk_3 (dk_at dksX12_expression_7 19 rfl rfl)
theorem dX12_expression_186 : decode cX12_expression 186 = .ok (.istore_n 2, 1) := dk_61 (dk_at dksX12_expression_7 20 rfl rfl)
theorem dX12_expression_187 : decode cX12_expression 187 = .ok (.iload_n 2, 1) := dk_28 (dk_at dksX12_expression_7 21 rfl rfl)
theorem dX12_expression_188 : decode cX12_expression 188 = .ok (.ifCond .ne 22, 3) := dk_154 0 22 (dk_at dksX12_expression_8 0 rfl rfl)
theorem dX12_expression_191 : decode cX12_expression 191 = .ok (.aload_n 0, 1) := dk_42 (dk_at dksX12_expression_8 3 rfl rfl)
theorem dX12_expression_192 : decode cX12_expression 192 = .ok (.getfield 254, 3) := dk_180 0 254 (dk_at dksX12_expression_8 4 rfl rfl)
theorem dX12_expression_195 : decode cX12_expression 195 = .ok (.iload_n 1, 1) := dk_27 (dk_at dksX12_expression_8 7 rfl rfl)
theorem dX12_expression_196 : decode cX12_expression 196 = .ok (.if_icmp .le 8, 3) := dk_164 0 8 (dk_at dksX12_expression_8 8 rfl rfl)
theorem dX12_expression_199 : decode cX12_expression 199 = .ok (.aload_n 0, 1) := dk_42 (dk_at dksX12_expression_8 11 rfl rfl)
theorem dX12_expression_200 : decode cX12_expression 200 = .ok (.iconst 1, 1) := dk_4 (dk_at dksX12_expression_8 12 rfl rfl)
theorem dX12_expression_201 : decode cX12_expression 201 = .ok (.invokevirtual 242, 3) := dk_182 0 242 (dk_at dksX12_expression_8 13 rfl rfl)
theorem dX12_expression_204 : decode cX12_expression 204 = .ok (.aload_n 0, 1) := dk_42 (dk_at dksX12_expression_8 16 rfl rfl)
theorem dX12_expression_205 : decode cX12_expression 205 = .ok (.iconst 0, 1) := dk_3 (dk_at dksX12_expression_8 17 rfl rfl)
theorem dX12_expression_206 : decode cX12_expression 206 = .ok (.invokevirtual 336, 3) := dk_182 1 80 (dk_at dksX12_expression_8 18 rfl rfl)
theorem dX12_expression_209 : decode cX12_expression 209 = .ok (.return_, 1) := dk_177 (dk_at dksX12_expression_8 21 rfl rfl)
theorem dX12_expression_210 : decode cX12_expression 210 = .ok (.aload_n 0, 1) := dk_42 (dk_at dksX12_expression_8 22 rfl rfl)
theorem dX12_expression_211 : decode cX12_expression 211 = .ok (.aload_n 0, 1) := dk_42 (dk_at dksX12_expression_8 23 rfl rfl)
theorem dX12_expression_212 : decode cX12_expression 212 = .ok (.bipush 10, 2) := dk_16 10 (dk_at dksX12_expression_9 0 rfl rfl)
theorem dX12_expression_214 : decode cX12_expression 214 = .ok (.invokevirtual 245, 3) := dk_182 0 245 (dk_at dksX12_expression_9 2 rfl rfl)
theorem dX12_expression_217 : decode cX12_expression 217 = .ok (.ifCond .ne 12, 3) := dk_154 0 12 (dk_at dksX12_expression_9 5 rfl rfl)
theorem dX12_expression_220 : decode cX12_expression 220 = .ok (.aload_n 0, 1) := dk_42 (dk_at dksX12_expression_9 8 rfl rfl)
theorem dX12_expression_221 : decode cX12_expression 221 = .ok (.bipush 15, 2) := dk_16 15 (dk_at dksX12_expression_9 9 rfl rfl)
theorem dX12_expression_223 : decode cX12_expression 223 = .ok (.invokevirtual 245, 3) := dk_182 0 245 (dk_at dksX12_expression_9 11 rfl rfl)
theorem dX12_expression_226 : decode cX12_expression 226 = .ok (.ifCond .eq 7, 3) := dk_153 0 7 (dk_at dksX12_expression_9 14 rfl rfl)
theorem dX12_expression_229 : decode cX12_expression 229 = .ok (.iconst 1, 1) := dk_4 (dk_at dksX12_expression_9 17 rfl rfl)
theorem dX12_expression_230 : decode cX12_expression 230 = .ok (.goto 4, 3) := dk_167 0 4 (dk_at dksX12_expression_9 18 rfl rfl)
theorem dX12_expression_233 : decode cX12_expression 233 = .ok (.iconst 0, 1) := dk_3 (dk_at dksX12_expression_9 21 rfl rfl)
theorem dX12_expression_234 : decode cX12_expression 234 = .ok (.invokevirtual 336, 3) := dk_182 1 80 (dk_at dksX12_expression_10 0 rfl rfl)
theorem dX12_expression_237 : decode cX12_expression 237 = .ok (.aload_n 0, 1) := dk_42 (dk_at dksX12_expression_10 3 rfl rfl)
theorem dX12_expression_238 : decode cX12_expression 238 = .ok (.getfield 134, 3) := dk_180 0 134 (dk_at dksX12_expression_10 4 rfl rfl)
theorem dX12_expression_241 : decode cX12_expression 241 = .ok (.aload_n 0, 1) := dk_42 (dk_at dksX12_expression_10 7 rfl rfl)
theorem dX12_expression_242 : decode cX12_expression 242 = .ok (.getfield 327, 3) := dk_180 1 71 (dk_at dksX12_expression_10 8 rfl rfl)
theorem dX12_expression_245 : decode cX12_expression 245 = .ok (.aload_n 0, 1) := dk_42 (dk_at dksX12_expression_10 11 rfl rfl)
theorem dX12_expression_246 : decode cX12_expression 246 = .ok (.getfield 20, 3) := dk_180 0 20 (dk_at dksX12_expression_10 12 rfl rfl)
theorem dX12_expression_249 : decode cX12_expression 249 = .ok (.aload_n 0, 1) := dk_42 (dk_at dksX12_expression_10 15 rfl rfl)
theorem dX12_expression_250 : decode cX12_expression 250 = .ok (.getfield 230, 3) := dk_180 0 230 (dk_at dksX12_expression_10 16 rfl rfl)
theorem dX12_expression_253 : decode cX12_expression 253 = .ok (.iaload, 1) := dk_46 (dk_at dksX12_expression_10 19 rfl rfl)
theorem dX12_expression_254 : decode cX12_expression 254 = .ok (.iastore, 1) := dk_79 (dk_at dksX12_expression_10 20 rfl rfl)
theorem dX12_expression_255 : decode cX12_expression 255 = .ok (.aload_n 0, 1) := dk_42 (dk_at dksX12_expression_10 21 rfl rfl)
theorem dX12_expression_256 : decode cX12_expression 256 = .ok (.dup, 1) := dk_89 (dk_at dksX12_expression_10 22 rfl rfl)
theorem dX12_expression_257 : decode cX12_expression 257 = .ok (.getfield 327, 3) := dk_180 1 71 (dk_at dksX12_expression_11 0 rfl rfl)
theorem dX12_expression_260 : decode cX12_expression 260 = .ok (.iconst 1, 1) := dk_4 (dk_at dksX12_expression_11 3 rfl rfl)
theorem dX12_expression_261 : decode cX12_expression 261 = .ok (.iadd, 1) := dk_96 (dk_at dksX12_expression_11 4 rfl rfl)
theorem dX12_expression_262 : decode cX12_expression 262 = .ok (.putfield 327, 3) := dk_181 1 71 (dk_at dksX12_expression_11 5 rfl rfl)
theorem dX12_expression_265 : decode cX12_expression 265 = .ok (.aload_n 0, 1) := dk_42 (dk_at dksX12_expression_11 8 rfl rfl)
theorem dX12_expression_266 : decode cX12_expression 266 = .ok (.invokevirtual 248, 3) := dk_182 0 248 (dk_at dksX12_expression_11 9 rfl rfl)
theorem dX12_expression_269 : decode cX12_expression 269 = .ok (.goto (-257), 3) := dk_167 254 255 (dk_at dksX12_expression_11 12 rfl rfl)
theorem dX12_expression_272 : decode cX12_expression 272 = .ok (.return_, 1) := dk_177 (dk_at dksX12_expression_11 15 rfl rfl)
abbrev cX12_unit : ByteArray := prog_24_method_37_code
def yX12_unit : MethodName := ⟨RX12, "unit", "()V"⟩
def dkwX12_unit_3 : List UInt8 := [180, 0, 230, 46, 16, 33, 100, 182, 1, 74, 42, 182, 0, 248, 167, 0, 8, 42, 4, 182, 0, 242, 177]
abbrev dktX12_unit_3 : List UInt8 := dkwX12_unit_3 ++ []
def dkwX12_unit_2 : List UInt8 := [161, 0, 41, 42, 180, 0, 20, 42, 180, 0, 230, 46, 16, 39, 163, 0, 27, 42, 4, 42, 180, 0, 20, 42]
abbrev dktX12_unit_2 : List UInt8 := dkwX12_unit_2 ++ dktX12_unit_3
def dkwX12_unit_1 : List UInt8 := [182, 0, 248, 167, 0, 67, 42, 180, 0, 227, 154, 0, 55, 42, 180, 0, 20, 42, 180, 0, 230, 46, 16, 33]
abbrev dktX12_unit_1 : List UInt8 := dkwX12_unit_1 ++ dktX12_unit_2
def dkwX12_unit_0 : List UInt8 := [42, 5, 182, 0, 245, 153, 0, 24, 42, 3, 42, 180, 0, 27, 42, 180, 0, 230, 46, 182, 1, 74, 42]
abbrev dktX12_unit_0 : List UInt8 := dkwX12_unit_0 ++ dktX12_unit_1
theorem dksX12_unit_0 : cX12_unit.data.toList.drop 0 = dktX12_unit_0 := by decide +kernel
theorem dksX12_unit_1 : cX12_unit.data.toList.drop 23 = dktX12_unit_1 := dk_seg dksX12_unit_0 23 rfl rfl
theorem dksX12_unit_2 : cX12_unit.data.toList.drop 47 = dktX12_unit_2 := dk_seg dksX12_unit_1 24 rfl rfl
theorem dksX12_unit_3 : cX12_unit.data.toList.drop 71 = dktX12_unit_3 := dk_seg dksX12_unit_2 24 rfl rfl
theorem dX12_unit_0 : decode cX12_unit 0 = .ok (.aload_n 0, 1) := dk_42 (dk_at dksX12_unit_0 0 rfl rfl)
theorem dX12_unit_1 : decode cX12_unit 1 = .ok (.iconst 2, 1) := dk_5 (dk_at dksX12_unit_0 1 rfl rfl)
theorem dX12_unit_2 : decode cX12_unit 2 = .ok (.invokevirtual 245, 3) := dk_182 0 245 (dk_at dksX12_unit_0 2 rfl rfl)
theorem dX12_unit_5 : decode cX12_unit 5 = .ok (.ifCond .eq 24, 3) := dk_153 0 24 (dk_at dksX12_unit_0 5 rfl rfl)
theorem dX12_unit_8 : decode cX12_unit 8 = .ok (.aload_n 0, 1) := dk_42 (dk_at dksX12_unit_0 8 rfl rfl)
theorem dX12_unit_9 : decode cX12_unit 9 = .ok (.iconst 0, 1) := dk_3 (dk_at dksX12_unit_0 9 rfl rfl)
theorem dX12_unit_10 : decode cX12_unit 10 = .ok (.aload_n 0, 1) := dk_42 (dk_at dksX12_unit_0 10 rfl rfl)
theorem dX12_unit_11 : decode cX12_unit 11 = .ok (.getfield 27, 3) := dk_180 0 27 (dk_at dksX12_unit_0 11 rfl rfl)
theorem dX12_unit_14 : decode cX12_unit 14 = .ok (.aload_n 0, 1) := dk_42 (dk_at dksX12_unit_0 14 rfl rfl)
theorem dX12_unit_15 : decode cX12_unit 15 = .ok (.getfield 230, 3) := dk_180 0 230 (dk_at dksX12_unit_0 15 rfl rfl)
theorem dX12_unit_18 : decode cX12_unit 18 = .ok (.iaload, 1) := dk_46 (dk_at dksX12_unit_0 18 rfl rfl)
theorem dX12_unit_19 : decode cX12_unit 19 = .ok (.invokevirtual 330, 3) := dk_182 1 74 (dk_at dksX12_unit_0 19 rfl rfl)
theorem dX12_unit_22 : decode cX12_unit 22 = .ok (.aload_n 0, 1) := dk_42 (dk_at dksX12_unit_0 22 rfl rfl)
theorem dX12_unit_23 : decode cX12_unit 23 = .ok (.invokevirtual 248, 3) := dk_182 0 248 (dk_at dksX12_unit_1 0 rfl rfl)
theorem dX12_unit_26 : decode cX12_unit 26 = .ok (.goto 67, 3) := dk_167 0 67 (dk_at dksX12_unit_1 3 rfl rfl)
theorem dX12_unit_29 : decode cX12_unit 29 = .ok (.aload_n 0, 1) := dk_42 (dk_at dksX12_unit_1 6 rfl rfl)
theorem dX12_unit_30 : decode cX12_unit 30 = .ok (.getfield 227, 3) := dk_180 0 227 (dk_at dksX12_unit_1 7 rfl rfl)
theorem dX12_unit_33 : decode cX12_unit 33 = .ok (.ifCond .ne 55, 3) := dk_154 0 55 (dk_at dksX12_unit_1 10 rfl rfl)
theorem dX12_unit_36 : decode cX12_unit 36 = .ok (.aload_n 0, 1) := dk_42 (dk_at dksX12_unit_1 13 rfl rfl)
theorem dX12_unit_37 : decode cX12_unit 37 = .ok (.getfield 20, 3) := dk_180 0 20 (dk_at dksX12_unit_1 14 rfl rfl)
theorem dX12_unit_40 : decode cX12_unit 40 = .ok (.aload_n 0, 1) := dk_42 (dk_at dksX12_unit_1 17 rfl rfl)
theorem dX12_unit_41 : decode cX12_unit 41 = .ok (.getfield 230, 3) := dk_180 0 230 (dk_at dksX12_unit_1 18 rfl rfl)
theorem dX12_unit_44 : decode cX12_unit 44 = .ok (.iaload, 1) := dk_46 (dk_at dksX12_unit_1 21 rfl rfl)
theorem dX12_unit_45 : decode cX12_unit 45 = .ok (.bipush 33, 2) := dk_16 33 (dk_at dksX12_unit_1 22 rfl rfl)
theorem dX12_unit_47 : decode cX12_unit 47 = .ok (.if_icmp .lt 41, 3) := dk_161 0 41 (dk_at dksX12_unit_2 0 rfl rfl)
theorem dX12_unit_50 : decode cX12_unit 50 = .ok (.aload_n 0, 1) := dk_42 (dk_at dksX12_unit_2 3 rfl rfl)
theorem dX12_unit_51 : decode cX12_unit 51 = .ok (.getfield 20, 3) := dk_180 0 20 (dk_at dksX12_unit_2 4 rfl rfl)
theorem dX12_unit_54 : decode cX12_unit 54 = .ok (.aload_n 0, 1) := dk_42 (dk_at dksX12_unit_2 7 rfl rfl)
theorem dX12_unit_55 : decode cX12_unit 55 = .ok (.getfield 230, 3) := dk_180 0 230 (dk_at dksX12_unit_2 8 rfl rfl)
theorem dX12_unit_58 : decode cX12_unit 58 = .ok (.iaload, 1) := dk_46 (dk_at dksX12_unit_2 11 rfl rfl)
theorem dX12_unit_59 : decode cX12_unit 59 = .ok (.bipush 39, 2) := dk_16 39 (dk_at dksX12_unit_2 12 rfl rfl)
theorem dX12_unit_61 : decode cX12_unit 61 = .ok (.if_icmp .gt 27, 3) := dk_163 0 27 (dk_at dksX12_unit_2 14 rfl rfl)
theorem dX12_unit_64 : decode cX12_unit 64 = .ok (.aload_n 0, 1) := dk_42 (dk_at dksX12_unit_2 17 rfl rfl)
theorem dX12_unit_65 : decode cX12_unit 65 = .ok (.iconst 1, 1) := dk_4 (dk_at dksX12_unit_2 18 rfl rfl)
theorem dX12_unit_66 : decode cX12_unit 66 = .ok (.aload_n 0, 1) := dk_42 (dk_at dksX12_unit_2 19 rfl rfl)
theorem dX12_unit_67 : decode cX12_unit 67 = .ok (.getfield 20, 3) := dk_180 0 20 (dk_at dksX12_unit_2 20 rfl rfl)
theorem dX12_unit_70 : decode cX12_unit 70 = .ok (.aload_n 0, 1) := dk_42 (dk_at dksX12_unit_2 23 rfl rfl)
theorem dX12_unit_71 : decode cX12_unit 71 = .ok (.getfield 230, 3) := dk_180 0 230 (dk_at dksX12_unit_3 0 rfl rfl)
theorem dX12_unit_74 : decode cX12_unit 74 = .ok (.iaload, 1) := dk_46 (dk_at dksX12_unit_3 3 rfl rfl)
theorem dX12_unit_75 : decode cX12_unit 75 = .ok (.bipush 33, 2) := dk_16 33 (dk_at dksX12_unit_3 4 rfl rfl)
theorem dX12_unit_77 : decode cX12_unit 77 = .ok (.isub, 1) := dk_100 (dk_at dksX12_unit_3 6 rfl rfl)
theorem dX12_unit_78 : decode cX12_unit 78 = .ok (.invokevirtual 330, 3) := dk_182 1 74 (dk_at dksX12_unit_3 7 rfl rfl)
theorem dX12_unit_81 : decode cX12_unit 81 = .ok (.aload_n 0, 1) := dk_42 (dk_at dksX12_unit_3 10 rfl rfl)
theorem dX12_unit_82 : decode cX12_unit 82 = .ok (.invokevirtual 248, 3) := dk_182 0 248 (dk_at dksX12_unit_3 11 rfl rfl)
theorem dX12_unit_85 : decode cX12_unit 85 = .ok (.goto 8, 3) := dk_167 0 8 (dk_at dksX12_unit_3 14 rfl rfl)
theorem dX12_unit_88 : decode cX12_unit 88 = .ok (.aload_n 0, 1) := dk_42 (dk_at dksX12_unit_3 17 rfl rfl)
theorem dX12_unit_89 : decode cX12_unit 89 = .ok (.iconst 1, 1) := dk_4 (dk_at dksX12_unit_3 18 rfl rfl)
theorem dX12_unit_90 : decode cX12_unit 90 = .ok (.invokevirtual 242, 3) := dk_182 0 242 (dk_at dksX12_unit_3 19 rfl rfl)
theorem dX12_unit_93 : decode cX12_unit 93 = .ok (.return_, 1) := dk_177 (dk_at dksX12_unit_3 22 rfl rfl)
abbrev cX12_emit : ByteArray := prog_24_method_34_code
def yX12_emit : MethodName := ⟨RX12, "emit", "(II)V"⟩
def dkwX12_emit_1 : List UInt8 := [180, 1, 13, 4, 96, 181, 1, 13, 177]
abbrev dktX12_emit_1 : List UInt8 := dkwX12_emit_1 ++ []
def dkwX12_emit_0 : List UInt8 := [42, 180, 0, 128, 42, 180, 1, 13, 27, 79, 42, 180, 0, 131, 42, 180, 1, 13, 28, 79, 42, 89]
abbrev dktX12_emit_0 : List UInt8 := dkwX12_emit_0 ++ dktX12_emit_1
theorem dksX12_emit_0 : cX12_emit.data.toList.drop 0 = dktX12_emit_0 := by decide +kernel
theorem dksX12_emit_1 : cX12_emit.data.toList.drop 22 = dktX12_emit_1 := dk_seg dksX12_emit_0 22 rfl rfl
theorem dX12_emit_0 : decode cX12_emit 0 = .ok (.aload_n 0, 1) := dk_42 (dk_at dksX12_emit_0 0 rfl rfl)
theorem dX12_emit_1 : decode cX12_emit 1 = .ok (.getfield 128, 3) := dk_180 0 128 (dk_at dksX12_emit_0 1 rfl rfl)
theorem dX12_emit_4 : decode cX12_emit 4 = .ok (.aload_n 0, 1) := dk_42 (dk_at dksX12_emit_0 4 rfl rfl)
theorem dX12_emit_5 : decode cX12_emit 5 = .ok (.getfield 269, 3) := dk_180 1 13 (dk_at dksX12_emit_0 5 rfl rfl)
theorem dX12_emit_8 : decode cX12_emit 8 = .ok (.iload_n 1, 1) := dk_27 (dk_at dksX12_emit_0 8 rfl rfl)
theorem dX12_emit_9 : decode cX12_emit 9 = .ok (.iastore, 1) := dk_79 (dk_at dksX12_emit_0 9 rfl rfl)
theorem dX12_emit_10 : decode cX12_emit 10 = .ok (.aload_n 0, 1) := dk_42 (dk_at dksX12_emit_0 10 rfl rfl)
theorem dX12_emit_11 : decode cX12_emit 11 = .ok (.getfield 131, 3) := dk_180 0 131 (dk_at dksX12_emit_0 11 rfl rfl)
theorem dX12_emit_14 : decode cX12_emit 14 = .ok (.aload_n 0, 1) := dk_42 (dk_at dksX12_emit_0 14 rfl rfl)
theorem dX12_emit_15 : decode cX12_emit 15 = .ok (.getfield 269, 3) := dk_180 1 13 (dk_at dksX12_emit_0 15 rfl rfl)
theorem dX12_emit_18 : decode cX12_emit 18 = .ok (.iload_n 2, 1) := dk_28 (dk_at dksX12_emit_0 18 rfl rfl)
theorem dX12_emit_19 : decode cX12_emit 19 = .ok (.iastore, 1) := dk_79 (dk_at dksX12_emit_0 19 rfl rfl)
theorem dX12_emit_20 : decode cX12_emit 20 = .ok (.aload_n 0, 1) := dk_42 (dk_at dksX12_emit_0 20 rfl rfl)
theorem dX12_emit_21 : decode cX12_emit 21 = .ok (.dup, 1) := dk_89 (dk_at dksX12_emit_0 21 rfl rfl)
theorem dX12_emit_22 : decode cX12_emit 22 = .ok (.getfield 269, 3) := dk_180 1 13 (dk_at dksX12_emit_1 0 rfl rfl)
theorem dX12_emit_25 : decode cX12_emit 25 = .ok (.iconst 1, 1) := dk_4 (dk_at dksX12_emit_1 3 rfl rfl)
theorem dX12_emit_26 : decode cX12_emit 26 = .ok (.iadd, 1) := dk_96 (dk_at dksX12_emit_1 4 rfl rfl)
theorem dX12_emit_27 : decode cX12_emit 27 = .ok (.putfield 269, 3) := dk_181 1 13 (dk_at dksX12_emit_1 5 rfl rfl)
theorem dX12_emit_30 : decode cX12_emit 30 = .ok (.return_, 1) := dk_177 (dk_at dksX12_emit_1 8 rfl rfl)
abbrev cX12_comesOut : ByteArray := prog_24_method_35_code
def yX12_comesOut : MethodName := ⟨RX12, "comesOut", "(Z)V"⟩
def dkwX12_comesOut_4 : List UInt8 := [167, 255, 168, 177]
abbrev dktX12_comesOut_4 : List UInt8 := dkwX12_comesOut_4 ++ []
def dkwX12_comesOut_3 : List UInt8 := [160, 0, 7, 6, 167, 0, 14, 28, 16, 10, 160, 0, 7, 7, 167, 0, 4, 8, 3, 182, 1, 74]
abbrev dktX12_comesOut_3 : List UInt8 := dkwX12_comesOut_3 ++ dktX12_comesOut_4
def dkwX12_comesOut_2 : List UInt8 := [180, 1, 71, 4, 100, 181, 1, 71, 42, 28, 16, 8, 160, 0, 7, 5, 167, 0, 24, 28, 16, 9]
abbrev dktX12_comesOut_2 : List UInt8 := dkwX12_comesOut_2 ++ dktX12_comesOut_3
def dkwX12_comesOut_1 : List UInt8 := [159, 0, 19, 27, 153, 0, 16, 28, 16, 8, 159, 0, 9, 28, 16, 9, 160, 0, 4, 177, 42, 89]
abbrev dktX12_comesOut_1 : List UInt8 := dkwX12_comesOut_1 ++ dktX12_comesOut_2
def dkwX12_comesOut_0 : List UInt8 := [42, 180, 1, 71, 158, 0, 87, 42, 180, 0, 134, 42, 180, 1, 71, 4, 100, 46, 61, 28, 16, 6]
abbrev dktX12_comesOut_0 : List UInt8 := dkwX12_comesOut_0 ++ dktX12_comesOut_1
theorem dksX12_comesOut_0 : cX12_comesOut.data.toList.drop 0 = dktX12_comesOut_0 := by decide +kernel
theorem dksX12_comesOut_1 : cX12_comesOut.data.toList.drop 22 = dktX12_comesOut_1 := dk_seg dksX12_comesOut_0 22 rfl rfl
theorem dksX12_comesOut_2 : cX12_comesOut.data.toList.drop 44 = dktX12_comesOut_2 := dk_seg dksX12_comesOut_1 22 rfl rfl
theorem dksX12_comesOut_3 : cX12_comesOut.data.toList.drop 66 = dktX12_comesOut_3 := dk_seg dksX12_comesOut_2 22 rfl rfl
theorem dksX12_comesOut_4 : cX12_comesOut.data.toList.drop 88 = dktX12_comesOut_4 := dk_seg dksX12_comesOut_3 22 rfl rfl
theorem dX12_comesOut_0 : decode cX12_comesOut 0 = .ok (.aload_n 0, 1) := dk_42 (dk_at dksX12_comesOut_0 0 rfl rfl)
theorem dX12_comesOut_1 : decode cX12_comesOut 1 = .ok (.getfield 327, 3) := dk_180 1 71 (dk_at dksX12_comesOut_0 1 rfl rfl)
theorem dX12_comesOut_4 : decode cX12_comesOut 4 = .ok (.ifCond .le 87, 3) := dk_158 0 87 (dk_at dksX12_comesOut_0 4 rfl rfl)
theorem dX12_comesOut_7 : decode cX12_comesOut 7 = .ok (.aload_n 0, 1) := dk_42 (dk_at dksX12_comesOut_0 7 rfl rfl)
theorem dX12_comesOut_8 : decode cX12_comesOut 8 = .ok (.getfield 134, 3) := dk_180 0 134 (dk_at dksX12_comesOut_0 8 rfl rfl)
theorem dX12_comesOut_11 : decode cX12_comesOut 11 = .ok (.aload_n 0, 1) := dk_42 (dk_at dksX12_comesOut_0 11 rfl rfl)
theorem dX12_comesOut_12 : decode cX12_comesOut 12 = .ok (.getfield 327, 3) := dk_180 1 71 (dk_at dksX12_comesOut_0 12 rfl rfl)
theorem dX12_comesOut_15 : decode cX12_comesOut 15 = .ok (.iconst 1, 1) := dk_4 (dk_at dksX12_comesOut_0 15 rfl rfl)
theorem dX12_comesOut_16 : decode cX12_comesOut 16 = .ok (.isub, 1) := dk_100 (dk_at dksX12_comesOut_0 16 rfl rfl)
theorem dX12_comesOut_17 : decode cX12_comesOut 17 = .ok (.iaload, 1) := dk_46 (dk_at dksX12_comesOut_0 17 rfl rfl)
theorem dX12_comesOut_18 : decode cX12_comesOut 18 = .ok (.istore_n 2, 1) := dk_61 (dk_at dksX12_comesOut_0 18 rfl rfl)
theorem dX12_comesOut_19 : decode cX12_comesOut 19 = .ok (.iload_n 2, 1) := dk_28 (dk_at dksX12_comesOut_0 19 rfl rfl)
theorem dX12_comesOut_20 : decode cX12_comesOut 20 = .ok (.bipush 6, 2) := dk_16 6 (dk_at dksX12_comesOut_0 20 rfl rfl)
theorem dX12_comesOut_22 : decode cX12_comesOut 22 = .ok (.if_icmp .eq 19, 3) := dk_159 0 19 (dk_at dksX12_comesOut_1 0 rfl rfl)
theorem dX12_comesOut_25 : decode cX12_comesOut 25 = .ok (.iload_n 1, 1) := dk_27 (dk_at dksX12_comesOut_1 3 rfl rfl)
theorem dX12_comesOut_26 : decode cX12_comesOut 26 = .ok (.ifCond .eq 16, 3) := dk_153 0 16 (dk_at dksX12_comesOut_1 4 rfl rfl)
theorem dX12_comesOut_29 : decode cX12_comesOut 29 = .ok (.iload_n 2, 1) := dk_28 (dk_at dksX12_comesOut_1 7 rfl rfl)
theorem dX12_comesOut_30 : decode cX12_comesOut 30 = .ok (.bipush 8, 2) := dk_16 8 (dk_at dksX12_comesOut_1 8 rfl rfl)
theorem dX12_comesOut_32 : decode cX12_comesOut 32 = .ok (.if_icmp .eq 9, 3) := dk_159 0 9 (dk_at dksX12_comesOut_1 10 rfl rfl)
theorem dX12_comesOut_35 : decode cX12_comesOut 35 = .ok (.iload_n 2, 1) := dk_28 (dk_at dksX12_comesOut_1 13 rfl rfl)
theorem dX12_comesOut_36 : decode cX12_comesOut 36 = .ok (.bipush 9, 2) := dk_16 9 (dk_at dksX12_comesOut_1 14 rfl rfl)
theorem dX12_comesOut_38 : decode cX12_comesOut 38 = .ok (.if_icmp .ne 4, 3) := dk_160 0 4 (dk_at dksX12_comesOut_1 16 rfl rfl)
theorem dX12_comesOut_41 : decode cX12_comesOut 41 = .ok (.return_, 1) := dk_177 (dk_at dksX12_comesOut_1 19 rfl rfl)
theorem dX12_comesOut_42 : decode cX12_comesOut 42 = .ok (.aload_n 0, 1) := dk_42 (dk_at dksX12_comesOut_1 20 rfl rfl)
theorem dX12_comesOut_43 : decode cX12_comesOut 43 = .ok (.dup, 1) := dk_89 (dk_at dksX12_comesOut_1 21 rfl rfl)
theorem dX12_comesOut_44 : decode cX12_comesOut 44 = .ok (.getfield 327, 3) := dk_180 1 71 (dk_at dksX12_comesOut_2 0 rfl rfl)
theorem dX12_comesOut_47 : decode cX12_comesOut 47 = .ok (.iconst 1, 1) := dk_4 (dk_at dksX12_comesOut_2 3 rfl rfl)
theorem dX12_comesOut_48 : decode cX12_comesOut 48 = .ok (.isub, 1) := dk_100 (dk_at dksX12_comesOut_2 4 rfl rfl)
theorem dX12_comesOut_49 : decode cX12_comesOut 49 = .ok (.putfield 327, 3) := dk_181 1 71 (dk_at dksX12_comesOut_2 5 rfl rfl)
theorem dX12_comesOut_52 : decode cX12_comesOut 52 = .ok (.aload_n 0, 1) := dk_42 (dk_at dksX12_comesOut_2 8 rfl rfl)
theorem dX12_comesOut_53 : decode cX12_comesOut 53 = .ok (.iload_n 2, 1) := dk_28 (dk_at dksX12_comesOut_2 9 rfl rfl)
theorem dX12_comesOut_54 : decode cX12_comesOut 54 = .ok (.bipush 8, 2) := dk_16 8 (dk_at dksX12_comesOut_2 10 rfl rfl)
theorem dX12_comesOut_56 : decode cX12_comesOut 56 = .ok (.if_icmp .ne 7, 3) := dk_160 0 7 (dk_at dksX12_comesOut_2 12 rfl rfl)
theorem dX12_comesOut_59 : decode cX12_comesOut 59 = .ok (.iconst 2, 1) := dk_5 (dk_at dksX12_comesOut_2 15 rfl rfl)
theorem dX12_comesOut_60 : decode cX12_comesOut 60 = .ok (.goto 24, 3) := dk_167 0 24 (dk_at dksX12_comesOut_2 16 rfl rfl)
theorem dX12_comesOut_63 : decode cX12_comesOut 63 = .ok (.iload_n 2, 1) := dk_28 (dk_at dksX12_comesOut_2 19 rfl rfl)
theorem dX12_comesOut_64 : decode cX12_comesOut 64 = .ok (.bipush 9, 2) := dk_16 9 (dk_at dksX12_comesOut_2 20 rfl rfl)
theorem dX12_comesOut_66 : decode cX12_comesOut 66 = .ok (.if_icmp .ne 7, 3) := dk_160 0 7 (dk_at dksX12_comesOut_3 0 rfl rfl)
theorem dX12_comesOut_69 : decode cX12_comesOut 69 = .ok (.iconst 3, 1) := dk_6 (dk_at dksX12_comesOut_3 3 rfl rfl)
theorem dX12_comesOut_70 : decode cX12_comesOut 70 = .ok (.goto 14, 3) := dk_167 0 14 (dk_at dksX12_comesOut_3 4 rfl rfl)
theorem dX12_comesOut_73 : decode cX12_comesOut 73 = .ok (.iload_n 2, 1) := dk_28 (dk_at dksX12_comesOut_3 7 rfl rfl)
theorem dX12_comesOut_74 : decode cX12_comesOut 74 = .ok (.bipush 10, 2) := dk_16 10 (dk_at dksX12_comesOut_3 8 rfl rfl)
theorem dX12_comesOut_76 : decode cX12_comesOut 76 = .ok (.if_icmp .ne 7, 3) := dk_160 0 7 (dk_at dksX12_comesOut_3 10 rfl rfl)
theorem dX12_comesOut_79 : decode cX12_comesOut 79 = .ok (.iconst 4, 1) := dk_7 (dk_at dksX12_comesOut_3 13 rfl rfl)
theorem dX12_comesOut_80 : decode cX12_comesOut 80 = .ok (.goto 4, 3) := dk_167 0 4 (dk_at dksX12_comesOut_3 14 rfl rfl)
theorem dX12_comesOut_83 : decode cX12_comesOut 83 = .ok (.iconst 5, 1) := dk_8 (dk_at dksX12_comesOut_3 17 rfl rfl)
theorem dX12_comesOut_84 : decode cX12_comesOut 84 = .ok (.iconst 0, 1) := dk_3 (dk_at dksX12_comesOut_3 18 rfl rfl)
theorem dX12_comesOut_85 : decode cX12_comesOut 85 = .ok (.invokevirtual 330, 3) := dk_182 1 74 (dk_at dksX12_comesOut_3 19 rfl rfl)
theorem dX12_comesOut_88 : decode cX12_comesOut 88 = .ok (.goto (-88), 3) := dk_167 255 168 (dk_at dksX12_comesOut_4 0 rfl rfl)
theorem dX12_comesOut_91 : decode cX12_comesOut 91 = .ok (.return_, 1) := dk_177 (dk_at dksX12_comesOut_4 3 rfl rfl)
abbrev cX12_term : ByteArray := prog_24_method_33_code
def yX12_term : MethodName := ⟨RX12, "term", "()V"⟩
def dkwX12_term_1 : List UInt8 := [42, 180, 0, 125, 42, 180, 1, 10, 42, 180, 1, 13, 79, 42, 89, 180, 1, 10, 4, 96, 181, 1, 10, 177]
abbrev dktX12_term_1 : List UInt8 := dkwX12_term_1 ++ []
def dkwX12_term_0 : List UInt8 := [42, 180, 0, 122, 42, 180, 1, 10, 42, 180, 1, 13, 79, 42, 180, 0, 227, 154, 0, 7, 42, 182, 1, 65]
abbrev dktX12_term_0 : List UInt8 := dkwX12_term_0 ++ dktX12_term_1
theorem dksX12_term_0 : cX12_term.data.toList.drop 0 = dktX12_term_0 := by decide +kernel
theorem dksX12_term_1 : cX12_term.data.toList.drop 24 = dktX12_term_1 := dk_seg dksX12_term_0 24 rfl rfl
theorem dX12_term_0 : decode cX12_term 0 = .ok (.aload_n 0, 1) := dk_42 (dk_at dksX12_term_0 0 rfl rfl)
theorem dX12_term_1 : decode cX12_term 1 = .ok (.getfield 122, 3) := dk_180 0 122 (dk_at dksX12_term_0 1 rfl rfl)
theorem dX12_term_4 : decode cX12_term 4 = .ok (.aload_n 0, 1) := dk_42 (dk_at dksX12_term_0 4 rfl rfl)
theorem dX12_term_5 : decode cX12_term 5 = .ok (.getfield 266, 3) := dk_180 1 10 (dk_at dksX12_term_0 5 rfl rfl)
theorem dX12_term_8 : decode cX12_term 8 = .ok (.aload_n 0, 1) := dk_42 (dk_at dksX12_term_0 8 rfl rfl)
theorem dX12_term_9 : decode cX12_term 9 = .ok (.getfield 269, 3) := dk_180 1 13 (dk_at dksX12_term_0 9 rfl rfl)
theorem dX12_term_12 : decode cX12_term 12 = .ok (.iastore, 1) := dk_79 (dk_at dksX12_term_0 12 rfl rfl)
theorem dX12_term_13 : decode cX12_term 13 = .ok (.aload_n 0, 1) := dk_42 (dk_at dksX12_term_0 13 rfl rfl)
theorem dX12_term_14 : decode cX12_term 14 = .ok (.getfield 227, 3) := dk_180 0 227 (dk_at dksX12_term_0 14 rfl rfl)
theorem dX12_term_17 : decode cX12_term 17 = .ok (.ifCond .ne 7, 3) := dk_154 0 7 (dk_at dksX12_term_0 17 rfl rfl)
theorem dX12_term_20 : decode cX12_term 20 = .ok (.aload_n 0, 1) := dk_42 (dk_at dksX12_term_0 20 rfl rfl)
theorem dX12_term_21 : decode cX12_term 21 = .ok (.invokevirtual 321, 3) := dk_182 1 65 (dk_at dksX12_term_0 21 rfl rfl)
theorem dX12_term_24 : decode cX12_term 24 = .ok (.aload_n 0, 1) := dk_42 (dk_at dksX12_term_1 0 rfl rfl)
theorem dX12_term_25 : decode cX12_term 25 = .ok (.getfield 125, 3) := dk_180 0 125 (dk_at dksX12_term_1 1 rfl rfl)
theorem dX12_term_28 : decode cX12_term 28 = .ok (.aload_n 0, 1) := dk_42 (dk_at dksX12_term_1 4 rfl rfl)
theorem dX12_term_29 : decode cX12_term 29 = .ok (.getfield 266, 3) := dk_180 1 10 (dk_at dksX12_term_1 5 rfl rfl)
theorem dX12_term_32 : decode cX12_term 32 = .ok (.aload_n 0, 1) := dk_42 (dk_at dksX12_term_1 8 rfl rfl)
theorem dX12_term_33 : decode cX12_term 33 = .ok (.getfield 269, 3) := dk_180 1 13 (dk_at dksX12_term_1 9 rfl rfl)
theorem dX12_term_36 : decode cX12_term 36 = .ok (.iastore, 1) := dk_79 (dk_at dksX12_term_1 12 rfl rfl)
theorem dX12_term_37 : decode cX12_term 37 = .ok (.aload_n 0, 1) := dk_42 (dk_at dksX12_term_1 13 rfl rfl)
theorem dX12_term_38 : decode cX12_term 38 = .ok (.dup, 1) := dk_89 (dk_at dksX12_term_1 14 rfl rfl)
theorem dX12_term_39 : decode cX12_term 39 = .ok (.getfield 266, 3) := dk_180 1 10 (dk_at dksX12_term_1 15 rfl rfl)
theorem dX12_term_42 : decode cX12_term 42 = .ok (.iconst 1, 1) := dk_4 (dk_at dksX12_term_1 18 rfl rfl)
theorem dX12_term_43 : decode cX12_term 43 = .ok (.iadd, 1) := dk_96 (dk_at dksX12_term_1 19 rfl rfl)
theorem dX12_term_44 : decode cX12_term 44 = .ok (.putfield 266, 3) := dk_181 1 10 (dk_at dksX12_term_1 20 rfl rfl)
theorem dX12_term_47 : decode cX12_term 47 = .ok (.return_, 1) := dk_177 (dk_at dksX12_term_1 23 rfl rfl)
abbrev cX12_place : ByteArray := prog_24_method_21_code
def yX12_place : MethodName := ⟨RX12, "place", "()I"⟩
theorem dX12_place_0 : decode cX12_place 0 = .ok (.aload_n 0, 1) := by decide +kernel
theorem dX12_place_1 : decode cX12_place 1 = .ok (.getfield 37, 3) := by decide +kernel
theorem dX12_place_4 : decode cX12_place 4 = .ok (.ireturn, 1) := by decide +kernel
abbrev cX12_heap : ByteArray := prog_24_method_62_code
def yX12_heap : MethodName := ⟨RX12, "heap", "(I)I"⟩
def dkwX12_heap_0 : List UInt8 := [42, 27, 182, 1, 130, 153, 0, 12, 42, 180, 0, 143, 27, 46, 167, 0, 4, 2, 172]
abbrev dktX12_heap_0 : List UInt8 := dkwX12_heap_0 ++ []
theorem dksX12_heap_0 : cX12_heap.data.toList.drop 0 = dktX12_heap_0 := by decide +kernel
theorem dX12_heap_0 : decode cX12_heap 0 = .ok (.aload_n 0, 1) := dk_42 (dk_at dksX12_heap_0 0 rfl rfl)
theorem dX12_heap_1 : decode cX12_heap 1 = .ok (.iload_n 1, 1) := dk_27 (dk_at dksX12_heap_0 1 rfl rfl)
theorem dX12_heap_2 : decode cX12_heap 2 = .ok (.invokevirtual 386, 3) := dk_182 1 130 (dk_at dksX12_heap_0 2 rfl rfl)
theorem dX12_heap_5 : decode cX12_heap 5 = .ok (.ifCond .eq 12, 3) := dk_153 0 12 (dk_at dksX12_heap_0 5 rfl rfl)
theorem dX12_heap_8 : decode cX12_heap 8 = .ok (.aload_n 0, 1) := dk_42 (dk_at dksX12_heap_0 8 rfl rfl)
theorem dX12_heap_9 : decode cX12_heap 9 = .ok (.getfield 143, 3) := dk_180 0 143 (dk_at dksX12_heap_0 9 rfl rfl)
theorem dX12_heap_12 : decode cX12_heap 12 = .ok (.iload_n 1, 1) := dk_27 (dk_at dksX12_heap_0 12 rfl rfl)
theorem dX12_heap_13 : decode cX12_heap 13 = .ok (.iaload, 1) := dk_46 (dk_at dksX12_heap_0 13 rfl rfl)
theorem dX12_heap_14 : decode cX12_heap 14 = .ok (.goto 4, 3) := dk_167 0 4 (dk_at dksX12_heap_0 14 rfl rfl)
theorem dX12_heap_17 : decode cX12_heap 17 = .ok (.iconst (-1), 1) := dk_2 (dk_at dksX12_heap_0 17 rfl rfl)
theorem dX12_heap_18 : decode cX12_heap 18 = .ok (.ireturn, 1) := dk_172 (dk_at dksX12_heap_0 18 rfl rfl)
abbrev cX12_isGrain : ByteArray := prog_24_method_44_code
def yX12_isGrain : MethodName := ⟨RX12, "isGrain", "(I)Z"⟩
def dkwX12_isGrain_0 : List UInt8 := [27, 3, 42, 180, 0, 49, 42, 180, 1, 1, 46, 4, 100, 184, 1, 94, 172]
abbrev dktX12_isGrain_0 : List UInt8 := dkwX12_isGrain_0 ++ []
theorem dksX12_isGrain_0 : cX12_isGrain.data.toList.drop 0 = dktX12_isGrain_0 := by decide +kernel
theorem dX12_isGrain_0 : decode cX12_isGrain 0 = .ok (.iload_n 1, 1) := dk_27 (dk_at dksX12_isGrain_0 0 rfl rfl)
theorem dX12_isGrain_1 : decode cX12_isGrain 1 = .ok (.iconst 0, 1) := dk_3 (dk_at dksX12_isGrain_0 1 rfl rfl)
theorem dX12_isGrain_2 : decode cX12_isGrain 2 = .ok (.aload_n 0, 1) := dk_42 (dk_at dksX12_isGrain_0 2 rfl rfl)
theorem dX12_isGrain_3 : decode cX12_isGrain 3 = .ok (.getfield 49, 3) := dk_180 0 49 (dk_at dksX12_isGrain_0 3 rfl rfl)
theorem dX12_isGrain_6 : decode cX12_isGrain 6 = .ok (.aload_n 0, 1) := dk_42 (dk_at dksX12_isGrain_0 6 rfl rfl)
theorem dX12_isGrain_7 : decode cX12_isGrain 7 = .ok (.getfield 257, 3) := dk_180 1 1 (dk_at dksX12_isGrain_0 7 rfl rfl)
theorem dX12_isGrain_10 : decode cX12_isGrain 10 = .ok (.iaload, 1) := dk_46 (dk_at dksX12_isGrain_0 10 rfl rfl)
theorem dX12_isGrain_11 : decode cX12_isGrain 11 = .ok (.iconst 1, 1) := dk_4 (dk_at dksX12_isGrain_0 11 rfl rfl)
theorem dX12_isGrain_12 : decode cX12_isGrain 12 = .ok (.isub, 1) := dk_100 (dk_at dksX12_isGrain_0 12 rfl rfl)
theorem dX12_isGrain_13 : decode cX12_isGrain 13 = .ok (.invokestatic 350, 3) := dk_184 1 94 (dk_at dksX12_isGrain_0 13 rfl rfl)
theorem dX12_isGrain_16 : decode cX12_isGrain 16 = .ok (.ireturn, 1) := dk_172 (dk_at dksX12_isGrain_0 16 rfl rfl)
abbrev cX12_in : ByteArray := prog_24_method_39_code
def yX12_in : MethodName := ⟨RX12, "in", "(III)Z"⟩
def dkwX12_in_0 : List UInt8 := [26, 27, 161, 0, 12, 26, 28, 163, 0, 7, 4, 167, 0, 4, 3, 172]
abbrev dktX12_in_0 : List UInt8 := dkwX12_in_0 ++ []
theorem dksX12_in_0 : cX12_in.data.toList.drop 0 = dktX12_in_0 := by decide +kernel
theorem dX12_in_0 : decode cX12_in 0 = .ok (.iload_n 0, 1) := dk_26 (dk_at dksX12_in_0 0 rfl rfl)
theorem dX12_in_1 : decode cX12_in 1 = .ok (.iload_n 1, 1) := dk_27 (dk_at dksX12_in_0 1 rfl rfl)
theorem dX12_in_2 : decode cX12_in 2 = .ok (.if_icmp .lt 12, 3) := dk_161 0 12 (dk_at dksX12_in_0 2 rfl rfl)
theorem dX12_in_5 : decode cX12_in 5 = .ok (.iload_n 0, 1) := dk_26 (dk_at dksX12_in_0 5 rfl rfl)
theorem dX12_in_6 : decode cX12_in 6 = .ok (.iload_n 2, 1) := dk_28 (dk_at dksX12_in_0 6 rfl rfl)
theorem dX12_in_7 : decode cX12_in 7 = .ok (.if_icmp .gt 7, 3) := dk_163 0 7 (dk_at dksX12_in_0 7 rfl rfl)
theorem dX12_in_10 : decode cX12_in 10 = .ok (.iconst 1, 1) := dk_4 (dk_at dksX12_in_0 10 rfl rfl)
theorem dX12_in_11 : decode cX12_in 11 = .ok (.goto 4, 3) := dk_167 0 4 (dk_at dksX12_in_0 11 rfl rfl)
theorem dX12_in_14 : decode cX12_in 14 = .ok (.iconst 0, 1) := dk_3 (dk_at dksX12_in_0 14 rfl rfl)
theorem dX12_in_15 : decode cX12_in 15 = .ok (.ireturn, 1) := dk_172 (dk_at dksX12_in_0 15 rfl rfl)
abbrev cX12_hole : ByteArray := prog_24_method_63_code
def yX12_hole : MethodName := ⟨RX12, "hole", "(II)I"⟩
def dkwX12_hole_1 : List UInt8 := [27, 104, 96, 28, 96, 46, 167, 0, 4, 2, 172]
abbrev dktX12_hole_1 : List UInt8 := dkwX12_hole_1 ++ []
def dkwX12_hole_0 : List UInt8 := [42, 27, 182, 1, 133, 153, 0, 28, 42, 28, 182, 1, 130, 153, 0, 20, 42, 180, 0, 143, 16, 6, 16, 6]
abbrev dktX12_hole_0 : List UInt8 := dkwX12_hole_0 ++ dktX12_hole_1
theorem dksX12_hole_0 : cX12_hole.data.toList.drop 0 = dktX12_hole_0 := by decide +kernel
theorem dksX12_hole_1 : cX12_hole.data.toList.drop 24 = dktX12_hole_1 := dk_seg dksX12_hole_0 24 rfl rfl
theorem dX12_hole_0 : decode cX12_hole 0 = .ok (.aload_n 0, 1) := dk_42 (dk_at dksX12_hole_0 0 rfl rfl)
theorem dX12_hole_1 : decode cX12_hole 1 = .ok (.iload_n 1, 1) := dk_27 (dk_at dksX12_hole_0 1 rfl rfl)
theorem dX12_hole_2 : decode cX12_hole 2 = .ok (.invokevirtual 389, 3) := dk_182 1 133 (dk_at dksX12_hole_0 2 rfl rfl)
theorem dX12_hole_5 : decode cX12_hole 5 = .ok (.ifCond .eq 28, 3) := dk_153 0 28 (dk_at dksX12_hole_0 5 rfl rfl)
theorem dX12_hole_8 : decode cX12_hole 8 = .ok (.aload_n 0, 1) := dk_42 (dk_at dksX12_hole_0 8 rfl rfl)
theorem dX12_hole_9 : decode cX12_hole 9 = .ok (.iload_n 2, 1) := dk_28 (dk_at dksX12_hole_0 9 rfl rfl)
theorem dX12_hole_10 : decode cX12_hole 10 = .ok (.invokevirtual 386, 3) := dk_182 1 130 (dk_at dksX12_hole_0 10 rfl rfl)
theorem dX12_hole_13 : decode cX12_hole 13 = .ok (.ifCond .eq 20, 3) := dk_153 0 20 (dk_at dksX12_hole_0 13 rfl rfl)
theorem dX12_hole_16 : decode cX12_hole 16 = .ok (.aload_n 0, 1) := dk_42 (dk_at dksX12_hole_0 16 rfl rfl)
theorem dX12_hole_17 : decode cX12_hole 17 = .ok (.getfield 143, 3) := dk_180 0 143 (dk_at dksX12_hole_0 17 rfl rfl)
theorem dX12_hole_20 : decode cX12_hole 20 = .ok (.bipush 6, 2) := dk_16 6 (dk_at dksX12_hole_0 20 rfl rfl)
theorem dX12_hole_22 : decode cX12_hole 22 = .ok (.bipush 6, 2) := dk_16 6 (dk_at dksX12_hole_0 22 rfl rfl)
theorem dX12_hole_24 : decode cX12_hole 24 = .ok (.iload_n 1, 1) := dk_27 (dk_at dksX12_hole_1 0 rfl rfl)
theorem dX12_hole_25 : decode cX12_hole 25 = .ok (.imul, 1) := dk_104 (dk_at dksX12_hole_1 1 rfl rfl)
theorem dX12_hole_26 : decode cX12_hole 26 = .ok (.iadd, 1) := dk_96 (dk_at dksX12_hole_1 2 rfl rfl)
theorem dX12_hole_27 : decode cX12_hole 27 = .ok (.iload_n 2, 1) := dk_28 (dk_at dksX12_hole_1 3 rfl rfl)
theorem dX12_hole_28 : decode cX12_hole 28 = .ok (.iadd, 1) := dk_96 (dk_at dksX12_hole_1 4 rfl rfl)
theorem dX12_hole_29 : decode cX12_hole 29 = .ok (.iaload, 1) := dk_46 (dk_at dksX12_hole_1 5 rfl rfl)
theorem dX12_hole_30 : decode cX12_hole 30 = .ok (.goto 4, 3) := dk_167 0 4 (dk_at dksX12_hole_1 6 rfl rfl)
theorem dX12_hole_33 : decode cX12_hole 33 = .ok (.iconst (-1), 1) := dk_2 (dk_at dksX12_hole_1 9 rfl rfl)
theorem dX12_hole_34 : decode cX12_hole 34 = .ok (.ireturn, 1) := dk_172 (dk_at dksX12_hole_1 10 rfl rfl)
abbrev cX12_isHole : ByteArray := prog_24_method_45_code
def yX12_isHole : MethodName := ⟨RX12, "isHole", "(I)Z"⟩
def dkwX12_isHole_0 : List UInt8 := [27, 3, 42, 180, 0, 58, 42, 180, 1, 1, 46, 4, 100, 184, 1, 94, 172]
abbrev dktX12_isHole_0 : List UInt8 := dkwX12_isHole_0 ++ []
theorem dksX12_isHole_0 : cX12_isHole.data.toList.drop 0 = dktX12_isHole_0 := by decide +kernel
theorem dX12_isHole_0 : decode cX12_isHole 0 = .ok (.iload_n 1, 1) := dk_27 (dk_at dksX12_isHole_0 0 rfl rfl)
theorem dX12_isHole_1 : decode cX12_isHole 1 = .ok (.iconst 0, 1) := dk_3 (dk_at dksX12_isHole_0 1 rfl rfl)
theorem dX12_isHole_2 : decode cX12_isHole 2 = .ok (.aload_n 0, 1) := dk_42 (dk_at dksX12_isHole_0 2 rfl rfl)
theorem dX12_isHole_3 : decode cX12_isHole 3 = .ok (.getfield 58, 3) := dk_180 0 58 (dk_at dksX12_isHole_0 3 rfl rfl)
theorem dX12_isHole_6 : decode cX12_isHole 6 = .ok (.aload_n 0, 1) := dk_42 (dk_at dksX12_isHole_0 6 rfl rfl)
theorem dX12_isHole_7 : decode cX12_isHole 7 = .ok (.getfield 257, 3) := dk_180 1 1 (dk_at dksX12_isHole_0 7 rfl rfl)
theorem dX12_isHole_10 : decode cX12_isHole 10 = .ok (.iaload, 1) := dk_46 (dk_at dksX12_isHole_0 10 rfl rfl)
theorem dX12_isHole_11 : decode cX12_isHole 11 = .ok (.iconst 1, 1) := dk_4 (dk_at dksX12_isHole_0 11 rfl rfl)
theorem dX12_isHole_12 : decode cX12_isHole 12 = .ok (.isub, 1) := dk_100 (dk_at dksX12_isHole_0 12 rfl rfl)
theorem dX12_isHole_13 : decode cX12_isHole 13 = .ok (.invokestatic 350, 3) := dk_184 1 94 (dk_at dksX12_isHole_0 13 rfl rfl)
theorem dX12_isHole_16 : decode cX12_isHole 16 = .ok (.ireturn, 1) := dk_172 (dk_at dksX12_isHole_0 16 rfl rfl)
abbrev cX12_rat : ByteArray := prog_24_method_64_code
def yX12_rat : MethodName := ⟨RX12, "rat", "(II)I"⟩
def dkwX12_rat_3 : List UInt8 := [172, 2, 172]
abbrev dktX12_rat_3 : List UInt8 := dkwX12_rat_3 ++ []
def dkwX12_rat_2 : List UInt8 := [42, 180, 0, 143, 16, 42, 16, 8, 28, 104, 96, 27, 96, 46, 172, 42, 180, 0, 143, 16, 106, 27, 96, 46]
abbrev dktX12_rat_2 : List UInt8 := dkwX12_rat_2 ++ dktX12_rat_3
def dkwX12_rat_1 : List UInt8 := [170, 0, 0, 0, 74, 0, 0, 0, 0, 0, 0, 0, 8, 0, 0, 0, 49, 0, 0, 0, 49, 0, 0, 0, 49, 0, 0, 0, 49, 0, 0, 0, 49, 0, 0, 0, 49, 0, 0, 0, 49, 0, 0, 0, 49, 0, 0, 0, 64]
abbrev dktX12_rat_1 : List UInt8 := dkwX12_rat_1 ++ dktX12_rat_2
def dkwX12_rat_0 : List UInt8 := [42, 27, 182, 1, 136, 154, 0, 5, 2, 172, 28]
abbrev dktX12_rat_0 : List UInt8 := dkwX12_rat_0 ++ dktX12_rat_1
theorem dksX12_rat_0 : cX12_rat.data.toList.drop 0 = dktX12_rat_0 := by decide +kernel
theorem dksX12_rat_1 : cX12_rat.data.toList.drop 11 = dktX12_rat_1 := dk_seg dksX12_rat_0 11 rfl rfl
theorem dksX12_rat_2 : cX12_rat.data.toList.drop 60 = dktX12_rat_2 := dk_seg dksX12_rat_1 49 rfl rfl
theorem dksX12_rat_3 : cX12_rat.data.toList.drop 84 = dktX12_rat_3 := dk_seg dksX12_rat_2 24 rfl rfl
theorem dX12_rat_0 : decode cX12_rat 0 = .ok (.aload_n 0, 1) := dk_42 (dk_at dksX12_rat_0 0 rfl rfl)
theorem dX12_rat_1 : decode cX12_rat 1 = .ok (.iload_n 1, 1) := dk_27 (dk_at dksX12_rat_0 1 rfl rfl)
theorem dX12_rat_2 : decode cX12_rat 2 = .ok (.invokevirtual 392, 3) := dk_182 1 136 (dk_at dksX12_rat_0 2 rfl rfl)
theorem dX12_rat_5 : decode cX12_rat 5 = .ok (.ifCond .ne 5, 3) := dk_154 0 5 (dk_at dksX12_rat_0 5 rfl rfl)
theorem dX12_rat_8 : decode cX12_rat 8 = .ok (.iconst (-1), 1) := dk_2 (dk_at dksX12_rat_0 8 rfl rfl)
theorem dX12_rat_9 : decode cX12_rat 9 = .ok (.ireturn, 1) := dk_172 (dk_at dksX12_rat_0 9 rfl rfl)
theorem dX12_rat_10 : decode cX12_rat 10 = .ok (.iload_n 2, 1) := dk_28 (dk_at dksX12_rat_0 10 rfl rfl)
theorem dX12_rat_11 : decode cX12_rat 11 = .ok (.tableswitch 74 0 8 #[49, 49, 49, 49, 49, 49, 49, 49, 64], 49) := by decide +kernel
theorem dX12_rat_60 : decode cX12_rat 60 = .ok (.aload_n 0, 1) := dk_42 (dk_at dksX12_rat_2 0 rfl rfl)
theorem dX12_rat_61 : decode cX12_rat 61 = .ok (.getfield 143, 3) := dk_180 0 143 (dk_at dksX12_rat_2 1 rfl rfl)
theorem dX12_rat_64 : decode cX12_rat 64 = .ok (.bipush 42, 2) := dk_16 42 (dk_at dksX12_rat_2 4 rfl rfl)
theorem dX12_rat_66 : decode cX12_rat 66 = .ok (.bipush 8, 2) := dk_16 8 (dk_at dksX12_rat_2 6 rfl rfl)
theorem dX12_rat_68 : decode cX12_rat 68 = .ok (.iload_n 2, 1) := dk_28 (dk_at dksX12_rat_2 8 rfl rfl)
theorem dX12_rat_69 : decode cX12_rat 69 = .ok (.imul, 1) := dk_104 (dk_at dksX12_rat_2 9 rfl rfl)
theorem dX12_rat_70 : decode cX12_rat 70 = .ok (.iadd, 1) := dk_96 (dk_at dksX12_rat_2 10 rfl rfl)
theorem dX12_rat_71 : decode cX12_rat 71 = .ok (.iload_n 1, 1) := dk_27 (dk_at dksX12_rat_2 11 rfl rfl)
theorem dX12_rat_72 : decode cX12_rat 72 = .ok (.iadd, 1) := dk_96 (dk_at dksX12_rat_2 12 rfl rfl)
theorem dX12_rat_73 : decode cX12_rat 73 = .ok (.iaload, 1) := dk_46 (dk_at dksX12_rat_2 13 rfl rfl)
theorem dX12_rat_74 : decode cX12_rat 74 = .ok (.ireturn, 1) := dk_172 (dk_at dksX12_rat_2 14 rfl rfl)
theorem dX12_rat_75 : decode cX12_rat 75 = .ok (.aload_n 0, 1) := dk_42 (dk_at dksX12_rat_2 15 rfl rfl)
theorem dX12_rat_76 : decode cX12_rat 76 = .ok (.getfield 143, 3) := dk_180 0 143 (dk_at dksX12_rat_2 16 rfl rfl)
theorem dX12_rat_79 : decode cX12_rat 79 = .ok (.bipush 106, 2) := dk_16 106 (dk_at dksX12_rat_2 19 rfl rfl)
theorem dX12_rat_81 : decode cX12_rat 81 = .ok (.iload_n 1, 1) := dk_27 (dk_at dksX12_rat_2 21 rfl rfl)
theorem dX12_rat_82 : decode cX12_rat 82 = .ok (.iadd, 1) := dk_96 (dk_at dksX12_rat_2 22 rfl rfl)
theorem dX12_rat_83 : decode cX12_rat 83 = .ok (.iaload, 1) := dk_46 (dk_at dksX12_rat_2 23 rfl rfl)
theorem dX12_rat_84 : decode cX12_rat 84 = .ok (.ireturn, 1) := dk_172 (dk_at dksX12_rat_3 0 rfl rfl)
theorem dX12_rat_85 : decode cX12_rat 85 = .ok (.iconst (-1), 1) := dk_2 (dk_at dksX12_rat_3 1 rfl rfl)
theorem dX12_rat_86 : decode cX12_rat 86 = .ok (.ireturn, 1) := dk_172 (dk_at dksX12_rat_3 2 rfl rfl)
abbrev cX12_isRat : ByteArray := prog_24_method_46_code
def yX12_isRat : MethodName := ⟨RX12, "isRat", "(I)Z"⟩
def dkwX12_isRat_0 : List UInt8 := [27, 3, 42, 180, 0, 67, 42, 180, 1, 1, 46, 4, 100, 184, 1, 94, 172]
abbrev dktX12_isRat_0 : List UInt8 := dkwX12_isRat_0 ++ []
theorem dksX12_isRat_0 : cX12_isRat.data.toList.drop 0 = dktX12_isRat_0 := by decide +kernel
theorem dX12_isRat_0 : decode cX12_isRat 0 = .ok (.iload_n 1, 1) := dk_27 (dk_at dksX12_isRat_0 0 rfl rfl)
theorem dX12_isRat_1 : decode cX12_isRat 1 = .ok (.iconst 0, 1) := dk_3 (dk_at dksX12_isRat_0 1 rfl rfl)
theorem dX12_isRat_2 : decode cX12_isRat 2 = .ok (.aload_n 0, 1) := dk_42 (dk_at dksX12_isRat_0 2 rfl rfl)
theorem dX12_isRat_3 : decode cX12_isRat 3 = .ok (.getfield 67, 3) := dk_180 0 67 (dk_at dksX12_isRat_0 3 rfl rfl)
theorem dX12_isRat_6 : decode cX12_isRat 6 = .ok (.aload_n 0, 1) := dk_42 (dk_at dksX12_isRat_0 6 rfl rfl)
theorem dX12_isRat_7 : decode cX12_isRat 7 = .ok (.getfield 257, 3) := dk_180 1 1 (dk_at dksX12_isRat_0 7 rfl rfl)
theorem dX12_isRat_10 : decode cX12_isRat 10 = .ok (.iaload, 1) := dk_46 (dk_at dksX12_isRat_0 10 rfl rfl)
theorem dX12_isRat_11 : decode cX12_isRat 11 = .ok (.iconst 1, 1) := dk_4 (dk_at dksX12_isRat_0 11 rfl rfl)
theorem dX12_isRat_12 : decode cX12_isRat 12 = .ok (.isub, 1) := dk_100 (dk_at dksX12_isRat_0 12 rfl rfl)
theorem dX12_isRat_13 : decode cX12_isRat 13 = .ok (.invokestatic 350, 3) := dk_184 1 94 (dk_at dksX12_isRat_0 13 rfl rfl)
theorem dX12_isRat_16 : decode cX12_isRat 16 = .ok (.ireturn, 1) := dk_172 (dk_at dksX12_isRat_0 16 rfl rfl)
abbrev cX12_worth : ByteArray := prog_24_method_65_code
def yX12_worth : MethodName := ⟨RX12, "worth", "(I)I"⟩
def dkwX12_worth_0 : List UInt8 := [42, 27, 182, 1, 133, 154, 0, 5, 2, 172, 42, 182, 1, 139, 42, 27, 182, 1, 127, 172]
abbrev dktX12_worth_0 : List UInt8 := dkwX12_worth_0 ++ []
theorem dksX12_worth_0 : cX12_worth.data.toList.drop 0 = dktX12_worth_0 := by decide +kernel
theorem dX12_worth_0 : decode cX12_worth 0 = .ok (.aload_n 0, 1) := dk_42 (dk_at dksX12_worth_0 0 rfl rfl)
theorem dX12_worth_1 : decode cX12_worth 1 = .ok (.iload_n 1, 1) := dk_27 (dk_at dksX12_worth_0 1 rfl rfl)
theorem dX12_worth_2 : decode cX12_worth 2 = .ok (.invokevirtual 389, 3) := dk_182 1 133 (dk_at dksX12_worth_0 2 rfl rfl)
theorem dX12_worth_5 : decode cX12_worth 5 = .ok (.ifCond .ne 5, 3) := dk_154 0 5 (dk_at dksX12_worth_0 5 rfl rfl)
theorem dX12_worth_8 : decode cX12_worth 8 = .ok (.iconst (-1), 1) := dk_2 (dk_at dksX12_worth_0 8 rfl rfl)
theorem dX12_worth_9 : decode cX12_worth 9 = .ok (.ireturn, 1) := dk_172 (dk_at dksX12_worth_0 9 rfl rfl)
theorem dX12_worth_10 : decode cX12_worth 10 = .ok (.aload_n 0, 1) := dk_42 (dk_at dksX12_worth_0 10 rfl rfl)
theorem dX12_worth_11 : decode cX12_worth 11 = .ok (.invokevirtual 395, 3) := dk_182 1 139 (dk_at dksX12_worth_0 11 rfl rfl)
theorem dX12_worth_14 : decode cX12_worth 14 = .ok (.aload_n 0, 1) := dk_42 (dk_at dksX12_worth_0 14 rfl rfl)
theorem dX12_worth_15 : decode cX12_worth 15 = .ok (.iload_n 1, 1) := dk_27 (dk_at dksX12_worth_0 15 rfl rfl)
theorem dX12_worth_16 : decode cX12_worth 16 = .ok (.invokevirtual 383, 3) := dk_182 1 127 (dk_at dksX12_worth_0 16 rfl rfl)
theorem dX12_worth_19 : decode cX12_worth 19 = .ok (.ireturn, 1) := dk_172 (dk_at dksX12_worth_0 19 rfl rfl)
abbrev cX12_copies : ByteArray := prog_24_method_43_code
def yX12_copies : MethodName := ⟨RX12, "copies", "()V"⟩
def dkwX12_copies_1 : List UInt8 := [167, 255, 235, 42, 182, 1, 91, 177]
abbrev dktX12_copies_1 : List UInt8 := dkwX12_copies_1 ++ []
def dkwX12_copies_0 : List UInt8 := [3, 60, 27, 16, 120, 162, 0, 21, 42, 180, 0, 146, 27, 42, 180, 0, 143, 27, 46, 79, 132, 1, 1]
abbrev dktX12_copies_0 : List UInt8 := dkwX12_copies_0 ++ dktX12_copies_1
theorem dksX12_copies_0 : cX12_copies.data.toList.drop 0 = dktX12_copies_0 := by decide +kernel
theorem dksX12_copies_1 : cX12_copies.data.toList.drop 23 = dktX12_copies_1 := dk_seg dksX12_copies_0 23 rfl rfl
theorem dX12_copies_0 : decode cX12_copies 0 = .ok (.iconst 0, 1) := dk_3 (dk_at dksX12_copies_0 0 rfl rfl)
theorem dX12_copies_1 : decode cX12_copies 1 = .ok (.istore_n 1, 1) := dk_60 (dk_at dksX12_copies_0 1 rfl rfl)
theorem dX12_copies_2 : decode cX12_copies 2 = .ok (.iload_n 1, 1) := dk_27 (dk_at dksX12_copies_0 2 rfl rfl)
theorem dX12_copies_3 : decode cX12_copies 3 = .ok (.bipush 120, 2) := dk_16 120 (dk_at dksX12_copies_0 3 rfl rfl)
theorem dX12_copies_5 : decode cX12_copies 5 = .ok (.if_icmp .ge 21, 3) := dk_162 0 21 (dk_at dksX12_copies_0 5 rfl rfl)
theorem dX12_copies_8 : decode cX12_copies 8 = .ok (.aload_n 0, 1) := dk_42 (dk_at dksX12_copies_0 8 rfl rfl)
theorem dX12_copies_9 : decode cX12_copies 9 = .ok (.getfield 146, 3) := dk_180 0 146 (dk_at dksX12_copies_0 9 rfl rfl)
theorem dX12_copies_12 : decode cX12_copies 12 = .ok (.iload_n 1, 1) := dk_27 (dk_at dksX12_copies_0 12 rfl rfl)
theorem dX12_copies_13 : decode cX12_copies 13 = .ok (.aload_n 0, 1) := dk_42 (dk_at dksX12_copies_0 13 rfl rfl)
theorem dX12_copies_14 : decode cX12_copies 14 = .ok (.getfield 143, 3) := dk_180 0 143 (dk_at dksX12_copies_0 14 rfl rfl)
theorem dX12_copies_17 : decode cX12_copies 17 = .ok (.iload_n 1, 1) := dk_27 (dk_at dksX12_copies_0 17 rfl rfl)
theorem dX12_copies_18 : decode cX12_copies 18 = .ok (.iaload, 1) := dk_46 (dk_at dksX12_copies_0 18 rfl rfl)
theorem dX12_copies_19 : decode cX12_copies 19 = .ok (.iastore, 1) := dk_79 (dk_at dksX12_copies_0 19 rfl rfl)
theorem dX12_copies_20 : decode cX12_copies 20 = .ok (.iinc 1 1, 3) := dk_132 1 1 (dk_at dksX12_copies_0 20 rfl rfl)
theorem dX12_copies_23 : decode cX12_copies 23 = .ok (.goto (-21), 3) := dk_167 255 235 (dk_at dksX12_copies_1 0 rfl rfl)
theorem dX12_copies_26 : decode cX12_copies 26 = .ok (.aload_n 0, 1) := dk_42 (dk_at dksX12_copies_1 3 rfl rfl)
theorem dX12_copies_27 : decode cX12_copies 27 = .ok (.invokevirtual 347, 3) := dk_182 1 91 (dk_at dksX12_copies_1 4 rfl rfl)
theorem dX12_copies_30 : decode cX12_copies 30 = .ok (.return_, 1) := dk_177 (dk_at dksX12_copies_1 7 rfl rfl)
abbrev cX12_worthOf : ByteArray := prog_24_method_56_code
def yX12_worthOf : MethodName := ⟨RX12, "worthOf", "(I)I"⟩
def dkwX12_worthOf_4 : List UInt8 := [100, 104, 100, 104, 54, 4, 21, 4, 156, 0, 7, 3, 167, 0, 5, 21, 4, 172]
abbrev dktX12_worthOf_4 : List UInt8 := dkwX12_worthOf_4 ++ []
def dkwX12_worthOf_3 : List UInt8 := [180, 1, 1, 104, 42, 180, 0, 64, 16, 6, 42, 180, 1, 1, 104, 27, 96, 46, 96, 46, 28, 5, 29, 28]
abbrev dktX12_worthOf_3 : List UInt8 := dkwX12_worthOf_3 ++ dktX12_worthOf_4
def dkwX12_worthOf_2 : List UInt8 := [16, 6, 27, 104, 96, 21, 4, 96, 46, 96, 62, 132, 4, 1, 167, 255, 228, 42, 180, 0, 55, 16, 6, 42]
abbrev dktX12_worthOf_2 : List UInt8 := dkwX12_worthOf_2 ++ dktX12_worthOf_3
def dkwX12_worthOf_1 : List UInt8 := [46, 96, 46, 61, 3, 62, 3, 54, 4, 21, 4, 16, 6, 162, 0, 27, 29, 42, 180, 0, 146, 16, 6]
abbrev dktX12_worthOf_1 : List UInt8 := dkwX12_worthOf_1 ++ dktX12_worthOf_2
def dkwX12_worthOf_0 : List UInt8 := [42, 180, 0, 146, 16, 6, 16, 6, 27, 104, 96, 42, 180, 0, 64, 16, 6, 42, 180, 1, 1, 104, 27, 96]
abbrev dktX12_worthOf_0 : List UInt8 := dkwX12_worthOf_0 ++ dktX12_worthOf_1
theorem dksX12_worthOf_0 : cX12_worthOf.data.toList.drop 0 = dktX12_worthOf_0 := by decide +kernel
theorem dksX12_worthOf_1 : cX12_worthOf.data.toList.drop 24 = dktX12_worthOf_1 := dk_seg dksX12_worthOf_0 24 rfl rfl
theorem dksX12_worthOf_2 : cX12_worthOf.data.toList.drop 47 = dktX12_worthOf_2 := dk_seg dksX12_worthOf_1 23 rfl rfl
theorem dksX12_worthOf_3 : cX12_worthOf.data.toList.drop 71 = dktX12_worthOf_3 := dk_seg dksX12_worthOf_2 24 rfl rfl
theorem dksX12_worthOf_4 : cX12_worthOf.data.toList.drop 95 = dktX12_worthOf_4 := dk_seg dksX12_worthOf_3 24 rfl rfl
theorem dX12_worthOf_0 : decode cX12_worthOf 0 = .ok (.aload_n 0, 1) := dk_42 (dk_at dksX12_worthOf_0 0 rfl rfl)
theorem dX12_worthOf_1 : decode cX12_worthOf 1 = .ok (.getfield 146, 3) := dk_180 0 146 (dk_at dksX12_worthOf_0 1 rfl rfl)
theorem dX12_worthOf_4 : decode cX12_worthOf 4 = .ok (.bipush 6, 2) := dk_16 6 (dk_at dksX12_worthOf_0 4 rfl rfl)
theorem dX12_worthOf_6 : decode cX12_worthOf 6 = .ok (.bipush 6, 2) := dk_16 6 (dk_at dksX12_worthOf_0 6 rfl rfl)
theorem dX12_worthOf_8 : decode cX12_worthOf 8 = .ok (.iload_n 1, 1) := dk_27 (dk_at dksX12_worthOf_0 8 rfl rfl)
theorem dX12_worthOf_9 : decode cX12_worthOf 9 = .ok (.imul, 1) := dk_104 (dk_at dksX12_worthOf_0 9 rfl rfl)
theorem dX12_worthOf_10 : decode cX12_worthOf 10 = .ok (.iadd, 1) := dk_96 (dk_at dksX12_worthOf_0 10 rfl rfl)
theorem dX12_worthOf_11 : decode cX12_worthOf 11 = .ok (.aload_n 0, 1) := dk_42 (dk_at dksX12_worthOf_0 11 rfl rfl)
theorem dX12_worthOf_12 : decode cX12_worthOf 12 = .ok (.getfield 64, 3) := dk_180 0 64 (dk_at dksX12_worthOf_0 12 rfl rfl)
theorem dX12_worthOf_15 : decode cX12_worthOf 15 = .ok (.bipush 6, 2) := dk_16 6 (dk_at dksX12_worthOf_0 15 rfl rfl)
theorem dX12_worthOf_17 : decode cX12_worthOf 17 = .ok (.aload_n 0, 1) := dk_42 (dk_at dksX12_worthOf_0 17 rfl rfl)
theorem dX12_worthOf_18 : decode cX12_worthOf 18 = .ok (.getfield 257, 3) := dk_180 1 1 (dk_at dksX12_worthOf_0 18 rfl rfl)
theorem dX12_worthOf_21 : decode cX12_worthOf 21 = .ok (.imul, 1) := dk_104 (dk_at dksX12_worthOf_0 21 rfl rfl)
theorem dX12_worthOf_22 : decode cX12_worthOf 22 = .ok (.iload_n 1, 1) := dk_27 (dk_at dksX12_worthOf_0 22 rfl rfl)
theorem dX12_worthOf_23 : decode cX12_worthOf 23 = .ok (.iadd, 1) := dk_96 (dk_at dksX12_worthOf_0 23 rfl rfl)
theorem dX12_worthOf_24 : decode cX12_worthOf 24 = .ok (.iaload, 1) := dk_46 (dk_at dksX12_worthOf_1 0 rfl rfl)
theorem dX12_worthOf_25 : decode cX12_worthOf 25 = .ok (.iadd, 1) := dk_96 (dk_at dksX12_worthOf_1 1 rfl rfl)
theorem dX12_worthOf_26 : decode cX12_worthOf 26 = .ok (.iaload, 1) := dk_46 (dk_at dksX12_worthOf_1 2 rfl rfl)
theorem dX12_worthOf_27 : decode cX12_worthOf 27 = .ok (.istore_n 2, 1) := dk_61 (dk_at dksX12_worthOf_1 3 rfl rfl)
theorem dX12_worthOf_28 : decode cX12_worthOf 28 = .ok (.iconst 0, 1) := dk_3 (dk_at dksX12_worthOf_1 4 rfl rfl)
theorem dX12_worthOf_29 : decode cX12_worthOf 29 = .ok (.istore_n 3, 1) := dk_62 (dk_at dksX12_worthOf_1 5 rfl rfl)
theorem dX12_worthOf_30 : decode cX12_worthOf 30 = .ok (.iconst 0, 1) := dk_3 (dk_at dksX12_worthOf_1 6 rfl rfl)
theorem dX12_worthOf_31 : decode cX12_worthOf 31 = .ok (.istore 4, 2) := dk_54 4 (dk_at dksX12_worthOf_1 7 rfl rfl)
theorem dX12_worthOf_33 : decode cX12_worthOf 33 = .ok (.iload 4, 2) := dk_21 4 (dk_at dksX12_worthOf_1 9 rfl rfl)
theorem dX12_worthOf_35 : decode cX12_worthOf 35 = .ok (.bipush 6, 2) := dk_16 6 (dk_at dksX12_worthOf_1 11 rfl rfl)
theorem dX12_worthOf_37 : decode cX12_worthOf 37 = .ok (.if_icmp .ge 27, 3) := dk_162 0 27 (dk_at dksX12_worthOf_1 13 rfl rfl)
theorem dX12_worthOf_40 : decode cX12_worthOf 40 = .ok (.iload_n 3, 1) := dk_29 (dk_at dksX12_worthOf_1 16 rfl rfl)
theorem dX12_worthOf_41 : decode cX12_worthOf 41 = .ok (.aload_n 0, 1) := dk_42 (dk_at dksX12_worthOf_1 17 rfl rfl)
theorem dX12_worthOf_42 : decode cX12_worthOf 42 = .ok (.getfield 146, 3) := dk_180 0 146 (dk_at dksX12_worthOf_1 18 rfl rfl)
theorem dX12_worthOf_45 : decode cX12_worthOf 45 = .ok (.bipush 6, 2) := dk_16 6 (dk_at dksX12_worthOf_1 21 rfl rfl)
theorem dX12_worthOf_47 : decode cX12_worthOf 47 = .ok (.bipush 6, 2) := dk_16 6 (dk_at dksX12_worthOf_2 0 rfl rfl)
theorem dX12_worthOf_49 : decode cX12_worthOf 49 = .ok (.iload_n 1, 1) := dk_27 (dk_at dksX12_worthOf_2 2 rfl rfl)
theorem dX12_worthOf_50 : decode cX12_worthOf 50 = .ok (.imul, 1) := dk_104 (dk_at dksX12_worthOf_2 3 rfl rfl)
theorem dX12_worthOf_51 : decode cX12_worthOf 51 = .ok (.iadd, 1) := dk_96 (dk_at dksX12_worthOf_2 4 rfl rfl)
theorem dX12_worthOf_52 : decode cX12_worthOf 52 = .ok (.iload 4, 2) := dk_21 4 (dk_at dksX12_worthOf_2 5 rfl rfl)
theorem dX12_worthOf_54 : decode cX12_worthOf 54 = .ok (.iadd, 1) := dk_96 (dk_at dksX12_worthOf_2 7 rfl rfl)
theorem dX12_worthOf_55 : decode cX12_worthOf 55 = .ok (.iaload, 1) := dk_46 (dk_at dksX12_worthOf_2 8 rfl rfl)
theorem dX12_worthOf_56 : decode cX12_worthOf 56 = .ok (.iadd, 1) := dk_96 (dk_at dksX12_worthOf_2 9 rfl rfl)
theorem dX12_worthOf_57 : decode cX12_worthOf 57 = .ok (.istore_n 3, 1) := dk_62 (dk_at dksX12_worthOf_2 10 rfl rfl)
theorem dX12_worthOf_58 : decode cX12_worthOf 58 = .ok (.iinc 4 1, 3) := dk_132 4 1 (dk_at dksX12_worthOf_2 11 rfl rfl)
theorem dX12_worthOf_61 : decode cX12_worthOf 61 = .ok (.goto (-28), 3) := dk_167 255 228 (dk_at dksX12_worthOf_2 14 rfl rfl)
theorem dX12_worthOf_64 : decode cX12_worthOf 64 = .ok (.aload_n 0, 1) := dk_42 (dk_at dksX12_worthOf_2 17 rfl rfl)
theorem dX12_worthOf_65 : decode cX12_worthOf 65 = .ok (.getfield 55, 3) := dk_180 0 55 (dk_at dksX12_worthOf_2 18 rfl rfl)
theorem dX12_worthOf_68 : decode cX12_worthOf 68 = .ok (.bipush 6, 2) := dk_16 6 (dk_at dksX12_worthOf_2 21 rfl rfl)
theorem dX12_worthOf_70 : decode cX12_worthOf 70 = .ok (.aload_n 0, 1) := dk_42 (dk_at dksX12_worthOf_2 23 rfl rfl)
theorem dX12_worthOf_71 : decode cX12_worthOf 71 = .ok (.getfield 257, 3) := dk_180 1 1 (dk_at dksX12_worthOf_3 0 rfl rfl)
theorem dX12_worthOf_74 : decode cX12_worthOf 74 = .ok (.imul, 1) := dk_104 (dk_at dksX12_worthOf_3 3 rfl rfl)
theorem dX12_worthOf_75 : decode cX12_worthOf 75 = .ok (.aload_n 0, 1) := dk_42 (dk_at dksX12_worthOf_3 4 rfl rfl)
theorem dX12_worthOf_76 : decode cX12_worthOf 76 = .ok (.getfield 64, 3) := dk_180 0 64 (dk_at dksX12_worthOf_3 5 rfl rfl)
theorem dX12_worthOf_79 : decode cX12_worthOf 79 = .ok (.bipush 6, 2) := dk_16 6 (dk_at dksX12_worthOf_3 8 rfl rfl)
theorem dX12_worthOf_81 : decode cX12_worthOf 81 = .ok (.aload_n 0, 1) := dk_42 (dk_at dksX12_worthOf_3 10 rfl rfl)
theorem dX12_worthOf_82 : decode cX12_worthOf 82 = .ok (.getfield 257, 3) := dk_180 1 1 (dk_at dksX12_worthOf_3 11 rfl rfl)
theorem dX12_worthOf_85 : decode cX12_worthOf 85 = .ok (.imul, 1) := dk_104 (dk_at dksX12_worthOf_3 14 rfl rfl)
theorem dX12_worthOf_86 : decode cX12_worthOf 86 = .ok (.iload_n 1, 1) := dk_27 (dk_at dksX12_worthOf_3 15 rfl rfl)
theorem dX12_worthOf_87 : decode cX12_worthOf 87 = .ok (.iadd, 1) := dk_96 (dk_at dksX12_worthOf_3 16 rfl rfl)
theorem dX12_worthOf_88 : decode cX12_worthOf 88 = .ok (.iaload, 1) := dk_46 (dk_at dksX12_worthOf_3 17 rfl rfl)
theorem dX12_worthOf_89 : decode cX12_worthOf 89 = .ok (.iadd, 1) := dk_96 (dk_at dksX12_worthOf_3 18 rfl rfl)
theorem dX12_worthOf_90 : decode cX12_worthOf 90 = .ok (.iaload, 1) := dk_46 (dk_at dksX12_worthOf_3 19 rfl rfl)
theorem dX12_worthOf_91 : decode cX12_worthOf 91 = .ok (.iload_n 2, 1) := dk_28 (dk_at dksX12_worthOf_3 20 rfl rfl)
theorem dX12_worthOf_92 : decode cX12_worthOf 92 = .ok (.iconst 2, 1) := dk_5 (dk_at dksX12_worthOf_3 21 rfl rfl)
theorem dX12_worthOf_93 : decode cX12_worthOf 93 = .ok (.iload_n 3, 1) := dk_29 (dk_at dksX12_worthOf_3 22 rfl rfl)
theorem dX12_worthOf_94 : decode cX12_worthOf 94 = .ok (.iload_n 2, 1) := dk_28 (dk_at dksX12_worthOf_3 23 rfl rfl)
theorem dX12_worthOf_95 : decode cX12_worthOf 95 = .ok (.isub, 1) := dk_100 (dk_at dksX12_worthOf_4 0 rfl rfl)
theorem dX12_worthOf_96 : decode cX12_worthOf 96 = .ok (.imul, 1) := dk_104 (dk_at dksX12_worthOf_4 1 rfl rfl)
theorem dX12_worthOf_97 : decode cX12_worthOf 97 = .ok (.isub, 1) := dk_100 (dk_at dksX12_worthOf_4 2 rfl rfl)
theorem dX12_worthOf_98 : decode cX12_worthOf 98 = .ok (.imul, 1) := dk_104 (dk_at dksX12_worthOf_4 3 rfl rfl)
theorem dX12_worthOf_99 : decode cX12_worthOf 99 = .ok (.istore 4, 2) := dk_54 4 (dk_at dksX12_worthOf_4 4 rfl rfl)
theorem dX12_worthOf_101 : decode cX12_worthOf 101 = .ok (.iload 4, 2) := dk_21 4 (dk_at dksX12_worthOf_4 6 rfl rfl)
theorem dX12_worthOf_103 : decode cX12_worthOf 103 = .ok (.ifCond .ge 7, 3) := dk_156 0 7 (dk_at dksX12_worthOf_4 8 rfl rfl)
theorem dX12_worthOf_106 : decode cX12_worthOf 106 = .ok (.iconst 0, 1) := dk_3 (dk_at dksX12_worthOf_4 11 rfl rfl)
theorem dX12_worthOf_107 : decode cX12_worthOf 107 = .ok (.goto 5, 3) := dk_167 0 5 (dk_at dksX12_worthOf_4 12 rfl rfl)
theorem dX12_worthOf_110 : decode cX12_worthOf 110 = .ok (.iload 4, 2) := dk_21 4 (dk_at dksX12_worthOf_4 15 rfl rfl)
theorem dX12_worthOf_112 : decode cX12_worthOf 112 = .ok (.ireturn, 1) := dk_172 (dk_at dksX12_worthOf_4 17 rfl rfl)
abbrev cX12_pure : ByteArray := prog_24_method_67_code
def yX12_pure : MethodName := ⟨RX12, "pure", "(IZ)I"⟩
def dkwX12_pure_4 : List UInt8 := [21, 4, 184, 1, 142, 54, 5, 28, 153, 0, 8, 21, 4, 167, 0, 4, 29, 21, 5, 108, 172]
abbrev dktX12_pure_4 : List UInt8 := dkwX12_pure_4 ++ []
def dkwX12_pure_3 : List UInt8 := [54, 4, 132, 5, 1, 167, 255, 226, 21, 4, 154, 0, 13, 28, 153, 0, 7, 4, 167, 0, 4, 3, 172, 29]
abbrev dktX12_pure_3 : List UInt8 := dkwX12_pure_3 ++ dktX12_pure_4
def dkwX12_pure_2 : List UInt8 := [16, 6, 162, 0, 29, 21, 4, 42, 180, 0, 143, 16, 6, 16, 6, 27, 104, 96, 21, 5, 96, 46, 96]
abbrev dktX12_pure_2 : List UInt8 := dkwX12_pure_2 ++ dktX12_pure_3
def dkwX12_pure_1 : List UInt8 := [180, 0, 64, 16, 6, 42, 180, 1, 1, 104, 27, 96, 46, 96, 46, 62, 3, 54, 4, 3, 54, 5, 21, 5]
abbrev dktX12_pure_1 : List UInt8 := dkwX12_pure_1 ++ dktX12_pure_2
def dkwX12_pure_0 : List UInt8 := [42, 27, 182, 1, 133, 154, 0, 5, 2, 172, 42, 180, 0, 143, 16, 6, 16, 6, 27, 104, 96, 42]
abbrev dktX12_pure_0 : List UInt8 := dkwX12_pure_0 ++ dktX12_pure_1
theorem dksX12_pure_0 : cX12_pure.data.toList.drop 0 = dktX12_pure_0 := by decide +kernel
theorem dksX12_pure_1 : cX12_pure.data.toList.drop 22 = dktX12_pure_1 := dk_seg dksX12_pure_0 22 rfl rfl
theorem dksX12_pure_2 : cX12_pure.data.toList.drop 46 = dktX12_pure_2 := dk_seg dksX12_pure_1 24 rfl rfl
theorem dksX12_pure_3 : cX12_pure.data.toList.drop 69 = dktX12_pure_3 := dk_seg dksX12_pure_2 23 rfl rfl
theorem dksX12_pure_4 : cX12_pure.data.toList.drop 93 = dktX12_pure_4 := dk_seg dksX12_pure_3 24 rfl rfl
theorem dX12_pure_0 : decode cX12_pure 0 = .ok (.aload_n 0, 1) := dk_42 (dk_at dksX12_pure_0 0 rfl rfl)
theorem dX12_pure_1 : decode cX12_pure 1 = .ok (.iload_n 1, 1) := dk_27 (dk_at dksX12_pure_0 1 rfl rfl)
theorem dX12_pure_2 : decode cX12_pure 2 = .ok (.invokevirtual 389, 3) := dk_182 1 133 (dk_at dksX12_pure_0 2 rfl rfl)
theorem dX12_pure_5 : decode cX12_pure 5 = .ok (.ifCond .ne 5, 3) := dk_154 0 5 (dk_at dksX12_pure_0 5 rfl rfl)
theorem dX12_pure_8 : decode cX12_pure 8 = .ok (.iconst (-1), 1) := dk_2 (dk_at dksX12_pure_0 8 rfl rfl)
theorem dX12_pure_9 : decode cX12_pure 9 = .ok (.ireturn, 1) := dk_172 (dk_at dksX12_pure_0 9 rfl rfl)
theorem dX12_pure_10 : decode cX12_pure 10 = .ok (.aload_n 0, 1) := dk_42 (dk_at dksX12_pure_0 10 rfl rfl)
theorem dX12_pure_11 : decode cX12_pure 11 = .ok (.getfield 143, 3) := dk_180 0 143 (dk_at dksX12_pure_0 11 rfl rfl)
theorem dX12_pure_14 : decode cX12_pure 14 = .ok (.bipush 6, 2) := dk_16 6 (dk_at dksX12_pure_0 14 rfl rfl)
theorem dX12_pure_16 : decode cX12_pure 16 = .ok (.bipush 6, 2) := dk_16 6 (dk_at dksX12_pure_0 16 rfl rfl)
theorem dX12_pure_18 : decode cX12_pure 18 = .ok (.iload_n 1, 1) := dk_27 (dk_at dksX12_pure_0 18 rfl rfl)
theorem dX12_pure_19 : decode cX12_pure 19 = .ok (.imul, 1) := dk_104 (dk_at dksX12_pure_0 19 rfl rfl)
theorem dX12_pure_20 : decode cX12_pure 20 = .ok (.iadd, 1) := dk_96 (dk_at dksX12_pure_0 20 rfl rfl)
theorem dX12_pure_21 : decode cX12_pure 21 = .ok (.aload_n 0, 1) := dk_42 (dk_at dksX12_pure_0 21 rfl rfl)
theorem dX12_pure_22 : decode cX12_pure 22 = .ok (.getfield 64, 3) := dk_180 0 64 (dk_at dksX12_pure_1 0 rfl rfl)
theorem dX12_pure_25 : decode cX12_pure 25 = .ok (.bipush 6, 2) := dk_16 6 (dk_at dksX12_pure_1 3 rfl rfl)
theorem dX12_pure_27 : decode cX12_pure 27 = .ok (.aload_n 0, 1) := dk_42 (dk_at dksX12_pure_1 5 rfl rfl)
theorem dX12_pure_28 : decode cX12_pure 28 = .ok (.getfield 257, 3) := dk_180 1 1 (dk_at dksX12_pure_1 6 rfl rfl)
theorem dX12_pure_31 : decode cX12_pure 31 = .ok (.imul, 1) := dk_104 (dk_at dksX12_pure_1 9 rfl rfl)
theorem dX12_pure_32 : decode cX12_pure 32 = .ok (.iload_n 1, 1) := dk_27 (dk_at dksX12_pure_1 10 rfl rfl)
theorem dX12_pure_33 : decode cX12_pure 33 = .ok (.iadd, 1) := dk_96 (dk_at dksX12_pure_1 11 rfl rfl)
theorem dX12_pure_34 : decode cX12_pure 34 = .ok (.iaload, 1) := dk_46 (dk_at dksX12_pure_1 12 rfl rfl)
theorem dX12_pure_35 : decode cX12_pure 35 = .ok (.iadd, 1) := dk_96 (dk_at dksX12_pure_1 13 rfl rfl)
theorem dX12_pure_36 : decode cX12_pure 36 = .ok (.iaload, 1) := dk_46 (dk_at dksX12_pure_1 14 rfl rfl)
theorem dX12_pure_37 : decode cX12_pure 37 = .ok (.istore_n 3, 1) := dk_62 (dk_at dksX12_pure_1 15 rfl rfl)
theorem dX12_pure_38 : decode cX12_pure 38 = .ok (.iconst 0, 1) := dk_3 (dk_at dksX12_pure_1 16 rfl rfl)
theorem dX12_pure_39 : decode cX12_pure 39 = .ok (.istore 4, 2) := dk_54 4 (dk_at dksX12_pure_1 17 rfl rfl)
theorem dX12_pure_41 : decode cX12_pure 41 = .ok (.iconst 0, 1) := dk_3 (dk_at dksX12_pure_1 19 rfl rfl)
theorem dX12_pure_42 : decode cX12_pure 42 = .ok (.istore 5, 2) := dk_54 5 (dk_at dksX12_pure_1 20 rfl rfl)
theorem dX12_pure_44 : decode cX12_pure 44 = .ok (.iload 5, 2) := dk_21 5 (dk_at dksX12_pure_1 22 rfl rfl)
theorem dX12_pure_46 : decode cX12_pure 46 = .ok (.bipush 6, 2) := dk_16 6 (dk_at dksX12_pure_2 0 rfl rfl)
theorem dX12_pure_48 : decode cX12_pure 48 = .ok (.if_icmp .ge 29, 3) := dk_162 0 29 (dk_at dksX12_pure_2 2 rfl rfl)
theorem dX12_pure_51 : decode cX12_pure 51 = .ok (.iload 4, 2) := dk_21 4 (dk_at dksX12_pure_2 5 rfl rfl)
theorem dX12_pure_53 : decode cX12_pure 53 = .ok (.aload_n 0, 1) := dk_42 (dk_at dksX12_pure_2 7 rfl rfl)
theorem dX12_pure_54 : decode cX12_pure 54 = .ok (.getfield 143, 3) := dk_180 0 143 (dk_at dksX12_pure_2 8 rfl rfl)
theorem dX12_pure_57 : decode cX12_pure 57 = .ok (.bipush 6, 2) := dk_16 6 (dk_at dksX12_pure_2 11 rfl rfl)
theorem dX12_pure_59 : decode cX12_pure 59 = .ok (.bipush 6, 2) := dk_16 6 (dk_at dksX12_pure_2 13 rfl rfl)
theorem dX12_pure_61 : decode cX12_pure 61 = .ok (.iload_n 1, 1) := dk_27 (dk_at dksX12_pure_2 15 rfl rfl)
theorem dX12_pure_62 : decode cX12_pure 62 = .ok (.imul, 1) := dk_104 (dk_at dksX12_pure_2 16 rfl rfl)
theorem dX12_pure_63 : decode cX12_pure 63 = .ok (.iadd, 1) := dk_96 (dk_at dksX12_pure_2 17 rfl rfl)
theorem dX12_pure_64 : decode cX12_pure 64 = .ok (.iload 5, 2) := dk_21 5 (dk_at dksX12_pure_2 18 rfl rfl)
theorem dX12_pure_66 : decode cX12_pure 66 = .ok (.iadd, 1) := dk_96 (dk_at dksX12_pure_2 20 rfl rfl)
theorem dX12_pure_67 : decode cX12_pure 67 = .ok (.iaload, 1) := dk_46 (dk_at dksX12_pure_2 21 rfl rfl)
theorem dX12_pure_68 : decode cX12_pure 68 = .ok (.iadd, 1) := dk_96 (dk_at dksX12_pure_2 22 rfl rfl)
theorem dX12_pure_69 : decode cX12_pure 69 = .ok (.istore 4, 2) := dk_54 4 (dk_at dksX12_pure_3 0 rfl rfl)
theorem dX12_pure_71 : decode cX12_pure 71 = .ok (.iinc 5 1, 3) := dk_132 5 1 (dk_at dksX12_pure_3 2 rfl rfl)
theorem dX12_pure_74 : decode cX12_pure 74 = .ok (.goto (-30), 3) := dk_167 255 226 (dk_at dksX12_pure_3 5 rfl rfl)
theorem dX12_pure_77 : decode cX12_pure 77 = .ok (.iload 4, 2) := dk_21 4 (dk_at dksX12_pure_3 8 rfl rfl)
theorem dX12_pure_79 : decode cX12_pure 79 = .ok (.ifCond .ne 13, 3) := dk_154 0 13 (dk_at dksX12_pure_3 10 rfl rfl)
theorem dX12_pure_82 : decode cX12_pure 82 = .ok (.iload_n 2, 1) := dk_28 (dk_at dksX12_pure_3 13 rfl rfl)
theorem dX12_pure_83 : decode cX12_pure 83 = .ok (.ifCond .eq 7, 3) := dk_153 0 7 (dk_at dksX12_pure_3 14 rfl rfl)
theorem dX12_pure_86 : decode cX12_pure 86 = .ok (.iconst 1, 1) := dk_4 (dk_at dksX12_pure_3 17 rfl rfl)
theorem dX12_pure_87 : decode cX12_pure 87 = .ok (.goto 4, 3) := dk_167 0 4 (dk_at dksX12_pure_3 18 rfl rfl)
theorem dX12_pure_90 : decode cX12_pure 90 = .ok (.iconst 0, 1) := dk_3 (dk_at dksX12_pure_3 21 rfl rfl)
theorem dX12_pure_91 : decode cX12_pure 91 = .ok (.ireturn, 1) := dk_172 (dk_at dksX12_pure_3 22 rfl rfl)
theorem dX12_pure_92 : decode cX12_pure 92 = .ok (.iload_n 3, 1) := dk_29 (dk_at dksX12_pure_3 23 rfl rfl)
theorem dX12_pure_93 : decode cX12_pure 93 = .ok (.iload 4, 2) := dk_21 4 (dk_at dksX12_pure_4 0 rfl rfl)
theorem dX12_pure_95 : decode cX12_pure 95 = .ok (.invokestatic 398, 3) := dk_184 1 142 (dk_at dksX12_pure_4 2 rfl rfl)
theorem dX12_pure_98 : decode cX12_pure 98 = .ok (.istore 5, 2) := dk_54 5 (dk_at dksX12_pure_4 5 rfl rfl)
theorem dX12_pure_100 : decode cX12_pure 100 = .ok (.iload_n 2, 1) := dk_28 (dk_at dksX12_pure_4 7 rfl rfl)
theorem dX12_pure_101 : decode cX12_pure 101 = .ok (.ifCond .eq 8, 3) := dk_153 0 8 (dk_at dksX12_pure_4 8 rfl rfl)
theorem dX12_pure_104 : decode cX12_pure 104 = .ok (.iload 4, 2) := dk_21 4 (dk_at dksX12_pure_4 11 rfl rfl)
theorem dX12_pure_106 : decode cX12_pure 106 = .ok (.goto 4, 3) := dk_167 0 4 (dk_at dksX12_pure_4 13 rfl rfl)
theorem dX12_pure_109 : decode cX12_pure 109 = .ok (.iload_n 3, 1) := dk_29 (dk_at dksX12_pure_4 16 rfl rfl)
theorem dX12_pure_110 : decode cX12_pure 110 = .ok (.iload 5, 2) := dk_21 5 (dk_at dksX12_pure_4 17 rfl rfl)
theorem dX12_pure_112 : decode cX12_pure 112 = .ok (.idiv, 1) := dk_108 (dk_at dksX12_pure_4 19 rfl rfl)
theorem dX12_pure_113 : decode cX12_pure 113 = .ok (.ireturn, 1) := dk_172 (dk_at dksX12_pure_4 20 rfl rfl)
abbrev cX12_common : ByteArray := prog_24_method_66_code
def yX12_common : MethodName := ⟨RX12, "common", "(II)I"⟩
def dkwX12_common_0 : List UInt8 := [26, 61, 27, 62, 29, 153, 0, 16, 28, 29, 112, 54, 4, 29, 61, 21, 4, 62, 167, 255, 242, 28, 172]
abbrev dktX12_common_0 : List UInt8 := dkwX12_common_0 ++ []
theorem dksX12_common_0 : cX12_common.data.toList.drop 0 = dktX12_common_0 := by decide +kernel
theorem dX12_common_0 : decode cX12_common 0 = .ok (.iload_n 0, 1) := dk_26 (dk_at dksX12_common_0 0 rfl rfl)
theorem dX12_common_1 : decode cX12_common 1 = .ok (.istore_n 2, 1) := dk_61 (dk_at dksX12_common_0 1 rfl rfl)
theorem dX12_common_2 : decode cX12_common 2 = .ok (.iload_n 1, 1) := dk_27 (dk_at dksX12_common_0 2 rfl rfl)
theorem dX12_common_3 : decode cX12_common 3 = .ok (.istore_n 3, 1) := dk_62 (dk_at dksX12_common_0 3 rfl rfl)
theorem dX12_common_4 : decode cX12_common 4 = .ok (.iload_n 3, 1) := dk_29 (dk_at dksX12_common_0 4 rfl rfl)
theorem dX12_common_5 : decode cX12_common 5 = .ok (.ifCond .eq 16, 3) := dk_153 0 16 (dk_at dksX12_common_0 5 rfl rfl)
theorem dX12_common_8 : decode cX12_common 8 = .ok (.iload_n 2, 1) := dk_28 (dk_at dksX12_common_0 8 rfl rfl)
theorem dX12_common_9 : decode cX12_common 9 = .ok (.iload_n 3, 1) := dk_29 (dk_at dksX12_common_0 9 rfl rfl)
theorem dX12_common_10 : decode cX12_common 10 = .ok (.irem, 1) := dk_112 (dk_at dksX12_common_0 10 rfl rfl)
theorem dX12_common_11 : decode cX12_common 11 = .ok (.istore 4, 2) := dk_54 4 (dk_at dksX12_common_0 11 rfl rfl)
theorem dX12_common_13 : decode cX12_common 13 = .ok (.iload_n 3, 1) := dk_29 (dk_at dksX12_common_0 13 rfl rfl)
theorem dX12_common_14 : decode cX12_common 14 = .ok (.istore_n 2, 1) := dk_61 (dk_at dksX12_common_0 14 rfl rfl)
theorem dX12_common_15 : decode cX12_common 15 = .ok (.iload 4, 2) := dk_21 4 (dk_at dksX12_common_0 15 rfl rfl)
theorem dX12_common_17 : decode cX12_common 17 = .ok (.istore_n 3, 1) := dk_62 (dk_at dksX12_common_0 17 rfl rfl)
theorem dX12_common_18 : decode cX12_common 18 = .ok (.goto (-14), 3) := dk_167 255 242 (dk_at dksX12_common_0 18 rfl rfl)
theorem dX12_common_21 : decode cX12_common 21 = .ok (.iload_n 2, 1) := dk_28 (dk_at dksX12_common_0 21 rfl rfl)
theorem dX12_common_22 : decode cX12_common 22 = .ok (.ireturn, 1) := dk_172 (dk_at dksX12_common_0 22 rfl rfl)
abbrev cX12_minutes : ByteArray := prog_24_method_69_code
def yX12_minutes : MethodName := ⟨RX12, "minutes", "(I)I"⟩
def dkwX12_minutes_1 : List UInt8 := [172, 42, 182, 1, 139, 42, 27, 182, 1, 145, 42, 182, 1, 148, 42, 180, 0, 143, 16, 114, 46, 172]
abbrev dktX12_minutes_1 : List UInt8 := dkwX12_minutes_1 ++ []
def dkwX12_minutes_0 : List UInt8 := [27, 3, 17, 2, 88, 184, 1, 94, 154, 0, 5, 2, 172, 27, 154, 0, 11, 42, 180, 0, 143, 16, 114, 46]
abbrev dktX12_minutes_0 : List UInt8 := dkwX12_minutes_0 ++ dktX12_minutes_1
theorem dksX12_minutes_0 : cX12_minutes.data.toList.drop 0 = dktX12_minutes_0 := by decide +kernel
theorem dksX12_minutes_1 : cX12_minutes.data.toList.drop 24 = dktX12_minutes_1 := dk_seg dksX12_minutes_0 24 rfl rfl
theorem dX12_minutes_0 : decode cX12_minutes 0 = .ok (.iload_n 1, 1) := dk_27 (dk_at dksX12_minutes_0 0 rfl rfl)
theorem dX12_minutes_1 : decode cX12_minutes 1 = .ok (.iconst 0, 1) := dk_3 (dk_at dksX12_minutes_0 1 rfl rfl)
theorem dX12_minutes_2 : decode cX12_minutes 2 = .ok (.sipush 600, 3) := dk_17 2 88 (dk_at dksX12_minutes_0 2 rfl rfl)
theorem dX12_minutes_5 : decode cX12_minutes 5 = .ok (.invokestatic 350, 3) := dk_184 1 94 (dk_at dksX12_minutes_0 5 rfl rfl)
theorem dX12_minutes_8 : decode cX12_minutes 8 = .ok (.ifCond .ne 5, 3) := dk_154 0 5 (dk_at dksX12_minutes_0 8 rfl rfl)
theorem dX12_minutes_11 : decode cX12_minutes 11 = .ok (.iconst (-1), 1) := dk_2 (dk_at dksX12_minutes_0 11 rfl rfl)
theorem dX12_minutes_12 : decode cX12_minutes 12 = .ok (.ireturn, 1) := dk_172 (dk_at dksX12_minutes_0 12 rfl rfl)
theorem dX12_minutes_13 : decode cX12_minutes 13 = .ok (.iload_n 1, 1) := dk_27 (dk_at dksX12_minutes_0 13 rfl rfl)
theorem dX12_minutes_14 : decode cX12_minutes 14 = .ok (.ifCond .ne 11, 3) := dk_154 0 11 (dk_at dksX12_minutes_0 14 rfl rfl)
theorem dX12_minutes_17 : decode cX12_minutes 17 = .ok (.aload_n 0, 1) := dk_42 (dk_at dksX12_minutes_0 17 rfl rfl)
theorem dX12_minutes_18 : decode cX12_minutes 18 = .ok (.getfield 143, 3) := dk_180 0 143 (dk_at dksX12_minutes_0 18 rfl rfl)
theorem dX12_minutes_21 : decode cX12_minutes 21 = .ok (.bipush 114, 2) := dk_16 114 (dk_at dksX12_minutes_0 21 rfl rfl)
theorem dX12_minutes_23 : decode cX12_minutes 23 = .ok (.iaload, 1) := dk_46 (dk_at dksX12_minutes_0 23 rfl rfl)
theorem dX12_minutes_24 : decode cX12_minutes 24 = .ok (.ireturn, 1) := dk_172 (dk_at dksX12_minutes_1 0 rfl rfl)
theorem dX12_minutes_25 : decode cX12_minutes 25 = .ok (.aload_n 0, 1) := dk_42 (dk_at dksX12_minutes_1 1 rfl rfl)
theorem dX12_minutes_26 : decode cX12_minutes 26 = .ok (.invokevirtual 395, 3) := dk_182 1 139 (dk_at dksX12_minutes_1 2 rfl rfl)
theorem dX12_minutes_29 : decode cX12_minutes 29 = .ok (.aload_n 0, 1) := dk_42 (dk_at dksX12_minutes_1 5 rfl rfl)
theorem dX12_minutes_30 : decode cX12_minutes 30 = .ok (.iload_n 1, 1) := dk_27 (dk_at dksX12_minutes_1 6 rfl rfl)
theorem dX12_minutes_31 : decode cX12_minutes 31 = .ok (.invokevirtual 401, 3) := dk_182 1 145 (dk_at dksX12_minutes_1 7 rfl rfl)
theorem dX12_minutes_34 : decode cX12_minutes 34 = .ok (.aload_n 0, 1) := dk_42 (dk_at dksX12_minutes_1 10 rfl rfl)
theorem dX12_minutes_35 : decode cX12_minutes 35 = .ok (.invokevirtual 404, 3) := dk_182 1 148 (dk_at dksX12_minutes_1 11 rfl rfl)
theorem dX12_minutes_38 : decode cX12_minutes 38 = .ok (.aload_n 0, 1) := dk_42 (dk_at dksX12_minutes_1 14 rfl rfl)
theorem dX12_minutes_39 : decode cX12_minutes 39 = .ok (.getfield 143, 3) := dk_180 0 143 (dk_at dksX12_minutes_1 15 rfl rfl)
theorem dX12_minutes_42 : decode cX12_minutes 42 = .ok (.bipush 114, 2) := dk_16 114 (dk_at dksX12_minutes_1 18 rfl rfl)
theorem dX12_minutes_44 : decode cX12_minutes 44 = .ok (.iaload, 1) := dk_46 (dk_at dksX12_minutes_1 20 rfl rfl)
theorem dX12_minutes_45 : decode cX12_minutes 45 = .ok (.ireturn, 1) := dk_172 (dk_at dksX12_minutes_1 21 rfl rfl)
abbrev cX12_goes : ByteArray := prog_24_method_55_code
def yX12_goes : MethodName := ⟨RX12, "goes", "(I)V"⟩
def dkwX12_goes_0 : List UInt8 := [3, 61, 28, 27, 162, 0, 13, 42, 182, 1, 124, 132, 2, 1, 167, 255, 244, 177]
abbrev dktX12_goes_0 : List UInt8 := dkwX12_goes_0 ++ []
theorem dksX12_goes_0 : cX12_goes.data.toList.drop 0 = dktX12_goes_0 := by decide +kernel
theorem dX12_goes_0 : decode cX12_goes 0 = .ok (.iconst 0, 1) := dk_3 (dk_at dksX12_goes_0 0 rfl rfl)
theorem dX12_goes_1 : decode cX12_goes 1 = .ok (.istore_n 2, 1) := dk_61 (dk_at dksX12_goes_0 1 rfl rfl)
theorem dX12_goes_2 : decode cX12_goes 2 = .ok (.iload_n 2, 1) := dk_28 (dk_at dksX12_goes_0 2 rfl rfl)
theorem dX12_goes_3 : decode cX12_goes 3 = .ok (.iload_n 1, 1) := dk_27 (dk_at dksX12_goes_0 3 rfl rfl)
theorem dX12_goes_4 : decode cX12_goes 4 = .ok (.if_icmp .ge 13, 3) := dk_162 0 13 (dk_at dksX12_goes_0 4 rfl rfl)
theorem dX12_goes_7 : decode cX12_goes 7 = .ok (.aload_n 0, 1) := dk_42 (dk_at dksX12_goes_0 7 rfl rfl)
theorem dX12_goes_8 : decode cX12_goes 8 = .ok (.invokevirtual 380, 3) := dk_182 1 124 (dk_at dksX12_goes_0 8 rfl rfl)
theorem dX12_goes_11 : decode cX12_goes 11 = .ok (.iinc 2 1, 3) := dk_132 2 1 (dk_at dksX12_goes_0 11 rfl rfl)
theorem dX12_goes_14 : decode cX12_goes 14 = .ok (.goto (-12), 3) := dk_167 255 244 (dk_at dksX12_goes_0 14 rfl rfl)
theorem dX12_goes_17 : decode cX12_goes 17 = .ok (.return_, 1) := dk_177 (dk_at dksX12_goes_0 17 rfl rfl)
abbrev cX12_minuteGoes : ByteArray := prog_24_method_54_code
def yX12_minuteGoes : MethodName := ⟨RX12, "minuteGoes", "()V"⟩
def dkwX12_minuteGoes_7 : List UInt8 := [92, 46, 4, 100, 79, 42, 180, 0, 146, 16, 114, 92, 46, 4, 96, 79, 177]
abbrev dktX12_minuteGoes_7 : List UInt8 := dkwX12_minuteGoes_7 ++ []
def dkwX12_minuteGoes_6 : List UInt8 := [3, 79, 132, 1, 1, 167, 255, 132, 42, 180, 0, 146, 16, 118, 46, 158, 0, 14, 42, 180, 0, 146, 16, 118]
abbrev dktX12_minuteGoes_6 : List UInt8 := dkwX12_minuteGoes_6 ++ dktX12_minuteGoes_7
def dkwX12_minuteGoes_5 : List UInt8 := [167, 0, 26, 28, 4, 160, 0, 11, 42, 27, 182, 1, 121, 167, 0, 13, 42, 180, 0, 146, 16, 42, 27, 96]
abbrev dktX12_minuteGoes_5 : List UInt8 := dkwX12_minuteGoes_5 ++ dktX12_minuteGoes_6
def dkwX12_minuteGoes_4 : List UInt8 := [180, 0, 146, 16, 50, 27, 96, 92, 46, 4, 100, 79, 42, 180, 0, 146, 16, 50, 27, 96, 46, 158, 0, 6]
abbrev dktX12_minuteGoes_4 : List UInt8 := dkwX12_minuteGoes_4 ++ dktX12_minuteGoes_5
def dkwX12_minuteGoes_3 : List UInt8 := [16, 74, 27, 96, 92, 46, 4, 96, 79, 28, 154, 0, 11, 42, 27, 182, 1, 118, 167, 0, 54, 42]
abbrev dktX12_minuteGoes_3 : List UInt8 := dkwX12_minuteGoes_3 ++ dktX12_minuteGoes_4
def dkwX12_minuteGoes_2 : List UInt8 := [160, 0, 6, 167, 0, 93, 42, 180, 0, 146, 16, 74, 27, 96, 46, 16, 99, 162, 0, 16, 42, 180, 0, 146]
abbrev dktX12_minuteGoes_2 : List UInt8 := dkwX12_minuteGoes_2 ++ dktX12_minuteGoes_3
def dkwX12_minuteGoes_1 : List UInt8 := [42, 180, 0, 67, 42, 180, 1, 1, 46, 162, 0, 117, 42, 180, 0, 146, 16, 42, 27, 96, 46, 61, 28, 6]
abbrev dktX12_minuteGoes_1 : List UInt8 := dkwX12_minuteGoes_1 ++ dktX12_minuteGoes_2
def dkwX12_minuteGoes_0 : List UInt8 := [3, 60, 27, 16, 6, 162, 0, 16, 42, 180, 0, 152, 27, 3, 84, 132, 1, 1, 167, 255, 240, 3, 60, 27]
abbrev dktX12_minuteGoes_0 : List UInt8 := dkwX12_minuteGoes_0 ++ dktX12_minuteGoes_1
theorem dksX12_minuteGoes_0 : cX12_minuteGoes.data.toList.drop 0 = dktX12_minuteGoes_0 := by decide +kernel
theorem dksX12_minuteGoes_1 : cX12_minuteGoes.data.toList.drop 24 = dktX12_minuteGoes_1 := dk_seg dksX12_minuteGoes_0 24 rfl rfl
theorem dksX12_minuteGoes_2 : cX12_minuteGoes.data.toList.drop 48 = dktX12_minuteGoes_2 := dk_seg dksX12_minuteGoes_1 24 rfl rfl
theorem dksX12_minuteGoes_3 : cX12_minuteGoes.data.toList.drop 72 = dktX12_minuteGoes_3 := dk_seg dksX12_minuteGoes_2 24 rfl rfl
theorem dksX12_minuteGoes_4 : cX12_minuteGoes.data.toList.drop 94 = dktX12_minuteGoes_4 := dk_seg dksX12_minuteGoes_3 22 rfl rfl
theorem dksX12_minuteGoes_5 : cX12_minuteGoes.data.toList.drop 118 = dktX12_minuteGoes_5 := dk_seg dksX12_minuteGoes_4 24 rfl rfl
theorem dksX12_minuteGoes_6 : cX12_minuteGoes.data.toList.drop 142 = dktX12_minuteGoes_6 := dk_seg dksX12_minuteGoes_5 24 rfl rfl
theorem dksX12_minuteGoes_7 : cX12_minuteGoes.data.toList.drop 166 = dktX12_minuteGoes_7 := dk_seg dksX12_minuteGoes_6 24 rfl rfl
theorem dX12_minuteGoes_0 : decode cX12_minuteGoes 0 = .ok (.iconst 0, 1) := dk_3 (dk_at dksX12_minuteGoes_0 0 rfl rfl)
theorem dX12_minuteGoes_1 : decode cX12_minuteGoes 1 = .ok (.istore_n 1, 1) := dk_60 (dk_at dksX12_minuteGoes_0 1 rfl rfl)
theorem dX12_minuteGoes_2 : decode cX12_minuteGoes 2 = .ok (.iload_n 1, 1) := dk_27 (dk_at dksX12_minuteGoes_0 2 rfl rfl)
theorem dX12_minuteGoes_3 : decode cX12_minuteGoes 3 = .ok (.bipush 6, 2) := dk_16 6 (dk_at dksX12_minuteGoes_0 3 rfl rfl)
theorem dX12_minuteGoes_5 : decode cX12_minuteGoes 5 = .ok (.if_icmp .ge 16, 3) := dk_162 0 16 (dk_at dksX12_minuteGoes_0 5 rfl rfl)
theorem dX12_minuteGoes_8 : decode cX12_minuteGoes 8 = .ok (.aload_n 0, 1) := dk_42 (dk_at dksX12_minuteGoes_0 8 rfl rfl)
theorem dX12_minuteGoes_9 : decode cX12_minuteGoes 9 = .ok (.getfield 152, 3) := dk_180 0 152 (dk_at dksX12_minuteGoes_0 9 rfl rfl)
theorem dX12_minuteGoes_12 : decode cX12_minuteGoes 12 = .ok (.iload_n 1, 1) := dk_27 (dk_at dksX12_minuteGoes_0 12 rfl rfl)
theorem dX12_minuteGoes_13 : decode cX12_minuteGoes 13 = .ok (.iconst 0, 1) := dk_3 (dk_at dksX12_minuteGoes_0 13 rfl rfl)
theorem dX12_minuteGoes_14 : decode cX12_minuteGoes 14 = .ok (.bastore, 1) := dk_84 (dk_at dksX12_minuteGoes_0 14 rfl rfl)
theorem dX12_minuteGoes_15 : decode cX12_minuteGoes 15 = .ok (.iinc 1 1, 3) := dk_132 1 1 (dk_at dksX12_minuteGoes_0 15 rfl rfl)
theorem dX12_minuteGoes_18 : decode cX12_minuteGoes 18 = .ok (.goto (-16), 3) := dk_167 255 240 (dk_at dksX12_minuteGoes_0 18 rfl rfl)
theorem dX12_minuteGoes_21 : decode cX12_minuteGoes 21 = .ok (.iconst 0, 1) := dk_3 (dk_at dksX12_minuteGoes_0 21 rfl rfl)
theorem dX12_minuteGoes_22 : decode cX12_minuteGoes 22 = .ok (.istore_n 1, 1) := dk_60 (dk_at dksX12_minuteGoes_0 22 rfl rfl)
theorem dX12_minuteGoes_23 : decode cX12_minuteGoes 23 = .ok (.iload_n 1, 1) := dk_27 (dk_at dksX12_minuteGoes_0 23 rfl rfl)
theorem dX12_minuteGoes_24 : decode cX12_minuteGoes 24 = .ok (.aload_n 0, 1) := dk_42 (dk_at dksX12_minuteGoes_1 0 rfl rfl)
theorem dX12_minuteGoes_25 : decode cX12_minuteGoes 25 = .ok (.getfield 67, 3) := dk_180 0 67 (dk_at dksX12_minuteGoes_1 1 rfl rfl)
theorem dX12_minuteGoes_28 : decode cX12_minuteGoes 28 = .ok (.aload_n 0, 1) := dk_42 (dk_at dksX12_minuteGoes_1 4 rfl rfl)
theorem dX12_minuteGoes_29 : decode cX12_minuteGoes 29 = .ok (.getfield 257, 3) := dk_180 1 1 (dk_at dksX12_minuteGoes_1 5 rfl rfl)
theorem dX12_minuteGoes_32 : decode cX12_minuteGoes 32 = .ok (.iaload, 1) := dk_46 (dk_at dksX12_minuteGoes_1 8 rfl rfl)
theorem dX12_minuteGoes_33 : decode cX12_minuteGoes 33 = .ok (.if_icmp .ge 117, 3) := dk_162 0 117 (dk_at dksX12_minuteGoes_1 9 rfl rfl)
theorem dX12_minuteGoes_36 : decode cX12_minuteGoes 36 = .ok (.aload_n 0, 1) := dk_42 (dk_at dksX12_minuteGoes_1 12 rfl rfl)
theorem dX12_minuteGoes_37 : decode cX12_minuteGoes 37 = .ok (.getfield 146, 3) := dk_180 0 146 (dk_at dksX12_minuteGoes_1 13 rfl rfl)
theorem dX12_minuteGoes_40 : decode cX12_minuteGoes 40 = .ok (.bipush 42, 2) := dk_16 42 (dk_at dksX12_minuteGoes_1 16 rfl rfl)
theorem dX12_minuteGoes_42 : decode cX12_minuteGoes 42 = .ok (.iload_n 1, 1) := dk_27 (dk_at dksX12_minuteGoes_1 18 rfl rfl)
theorem dX12_minuteGoes_43 : decode cX12_minuteGoes 43 = .ok (.iadd, 1) := dk_96 (dk_at dksX12_minuteGoes_1 19 rfl rfl)
theorem dX12_minuteGoes_44 : decode cX12_minuteGoes 44 = .ok (.iaload, 1) := dk_46 (dk_at dksX12_minuteGoes_1 20 rfl rfl)
theorem dX12_minuteGoes_45 : decode cX12_minuteGoes 45 = .ok (.istore_n 2, 1) := dk_61 (dk_at dksX12_minuteGoes_1 21 rfl rfl)
theorem dX12_minuteGoes_46 : decode cX12_minuteGoes 46 = .ok (.iload_n 2, 1) := dk_28 (dk_at dksX12_minuteGoes_1 22 rfl rfl)
theorem dX12_minuteGoes_47 : decode cX12_minuteGoes 47 = .ok (.iconst 3, 1) := dk_6 (dk_at dksX12_minuteGoes_1 23 rfl rfl)
theorem dX12_minuteGoes_48 : decode cX12_minuteGoes 48 = .ok (.if_icmp .ne 6, 3) := dk_160 0 6 (dk_at dksX12_minuteGoes_2 0 rfl rfl)
theorem dX12_minuteGoes_51 : decode cX12_minuteGoes 51 = .ok (.goto 93, 3) := dk_167 0 93 (dk_at dksX12_minuteGoes_2 3 rfl rfl)
theorem dX12_minuteGoes_54 : decode cX12_minuteGoes 54 = .ok (.aload_n 0, 1) := dk_42 (dk_at dksX12_minuteGoes_2 6 rfl rfl)
theorem dX12_minuteGoes_55 : decode cX12_minuteGoes 55 = .ok (.getfield 146, 3) := dk_180 0 146 (dk_at dksX12_minuteGoes_2 7 rfl rfl)
theorem dX12_minuteGoes_58 : decode cX12_minuteGoes 58 = .ok (.bipush 74, 2) := dk_16 74 (dk_at dksX12_minuteGoes_2 10 rfl rfl)
theorem dX12_minuteGoes_60 : decode cX12_minuteGoes 60 = .ok (.iload_n 1, 1) := dk_27 (dk_at dksX12_minuteGoes_2 12 rfl rfl)
theorem dX12_minuteGoes_61 : decode cX12_minuteGoes 61 = .ok (.iadd, 1) := dk_96 (dk_at dksX12_minuteGoes_2 13 rfl rfl)
theorem dX12_minuteGoes_62 : decode cX12_minuteGoes 62 = .ok (.iaload, 1) := dk_46 (dk_at dksX12_minuteGoes_2 14 rfl rfl)
theorem dX12_minuteGoes_63 : decode cX12_minuteGoes 63 = .ok (.bipush 99, 2) := dk_16 99 (dk_at dksX12_minuteGoes_2 15 rfl rfl)
theorem dX12_minuteGoes_65 : decode cX12_minuteGoes 65 = .ok (.if_icmp .ge 16, 3) := dk_162 0 16 (dk_at dksX12_minuteGoes_2 17 rfl rfl)
theorem dX12_minuteGoes_68 : decode cX12_minuteGoes 68 = .ok (.aload_n 0, 1) := dk_42 (dk_at dksX12_minuteGoes_2 20 rfl rfl)
theorem dX12_minuteGoes_69 : decode cX12_minuteGoes 69 = .ok (.getfield 146, 3) := dk_180 0 146 (dk_at dksX12_minuteGoes_2 21 rfl rfl)
theorem dX12_minuteGoes_72 : decode cX12_minuteGoes 72 = .ok (.bipush 74, 2) := dk_16 74 (dk_at dksX12_minuteGoes_3 0 rfl rfl)
theorem dX12_minuteGoes_74 : decode cX12_minuteGoes 74 = .ok (.iload_n 1, 1) := dk_27 (dk_at dksX12_minuteGoes_3 2 rfl rfl)
theorem dX12_minuteGoes_75 : decode cX12_minuteGoes 75 = .ok (.iadd, 1) := dk_96 (dk_at dksX12_minuteGoes_3 3 rfl rfl)
theorem dX12_minuteGoes_76 : decode cX12_minuteGoes 76 = .ok (.dup2, 1) := dk_92 (dk_at dksX12_minuteGoes_3 4 rfl rfl)
theorem dX12_minuteGoes_77 : decode cX12_minuteGoes 77 = .ok (.iaload, 1) := dk_46 (dk_at dksX12_minuteGoes_3 5 rfl rfl)
theorem dX12_minuteGoes_78 : decode cX12_minuteGoes 78 = .ok (.iconst 1, 1) := dk_4 (dk_at dksX12_minuteGoes_3 6 rfl rfl)
theorem dX12_minuteGoes_79 : decode cX12_minuteGoes 79 = .ok (.iadd, 1) := dk_96 (dk_at dksX12_minuteGoes_3 7 rfl rfl)
theorem dX12_minuteGoes_80 : decode cX12_minuteGoes 80 = .ok (.iastore, 1) := dk_79 (dk_at dksX12_minuteGoes_3 8 rfl rfl)
theorem dX12_minuteGoes_81 : decode cX12_minuteGoes 81 = .ok (.iload_n 2, 1) := dk_28 (dk_at dksX12_minuteGoes_3 9 rfl rfl)
theorem dX12_minuteGoes_82 : decode cX12_minuteGoes 82 = .ok (.ifCond .ne 11, 3) := dk_154 0 11 (dk_at dksX12_minuteGoes_3 10 rfl rfl)
theorem dX12_minuteGoes_85 : decode cX12_minuteGoes 85 = .ok (.aload_n 0, 1) := dk_42 (dk_at dksX12_minuteGoes_3 13 rfl rfl)
theorem dX12_minuteGoes_86 : decode cX12_minuteGoes 86 = .ok (.iload_n 1, 1) := dk_27 (dk_at dksX12_minuteGoes_3 14 rfl rfl)
theorem dX12_minuteGoes_87 : decode cX12_minuteGoes 87 = .ok (.invokevirtual 374, 3) := dk_182 1 118 (dk_at dksX12_minuteGoes_3 15 rfl rfl)
theorem dX12_minuteGoes_90 : decode cX12_minuteGoes 90 = .ok (.goto 54, 3) := dk_167 0 54 (dk_at dksX12_minuteGoes_3 18 rfl rfl)
theorem dX12_minuteGoes_93 : decode cX12_minuteGoes 93 = .ok (.aload_n 0, 1) := dk_42 (dk_at dksX12_minuteGoes_3 21 rfl rfl)
theorem dX12_minuteGoes_94 : decode cX12_minuteGoes 94 = .ok (.getfield 146, 3) := dk_180 0 146 (dk_at dksX12_minuteGoes_4 0 rfl rfl)
theorem dX12_minuteGoes_97 : decode cX12_minuteGoes 97 = .ok (.bipush 50, 2) := dk_16 50 (dk_at dksX12_minuteGoes_4 3 rfl rfl)
theorem dX12_minuteGoes_99 : decode cX12_minuteGoes 99 = .ok (.iload_n 1, 1) := dk_27 (dk_at dksX12_minuteGoes_4 5 rfl rfl)
theorem dX12_minuteGoes_100 : decode cX12_minuteGoes 100 = .ok (.iadd, 1) := dk_96 (dk_at dksX12_minuteGoes_4 6 rfl rfl)
theorem dX12_minuteGoes_101 : decode cX12_minuteGoes 101 = .ok (.dup2, 1) := dk_92 (dk_at dksX12_minuteGoes_4 7 rfl rfl)
theorem dX12_minuteGoes_102 : decode cX12_minuteGoes 102 = .ok (.iaload, 1) := dk_46 (dk_at dksX12_minuteGoes_4 8 rfl rfl)
theorem dX12_minuteGoes_103 : decode cX12_minuteGoes 103 = .ok (.iconst 1, 1) := dk_4 (dk_at dksX12_minuteGoes_4 9 rfl rfl)
theorem dX12_minuteGoes_104 : decode cX12_minuteGoes 104 = .ok (.isub, 1) := dk_100 (dk_at dksX12_minuteGoes_4 10 rfl rfl)
theorem dX12_minuteGoes_105 : decode cX12_minuteGoes 105 = .ok (.iastore, 1) := dk_79 (dk_at dksX12_minuteGoes_4 11 rfl rfl)
theorem dX12_minuteGoes_106 : decode cX12_minuteGoes 106 = .ok (.aload_n 0, 1) := dk_42 (dk_at dksX12_minuteGoes_4 12 rfl rfl)
theorem dX12_minuteGoes_107 : decode cX12_minuteGoes 107 = .ok (.getfield 146, 3) := dk_180 0 146 (dk_at dksX12_minuteGoes_4 13 rfl rfl)
theorem dX12_minuteGoes_110 : decode cX12_minuteGoes 110 = .ok (.bipush 50, 2) := dk_16 50 (dk_at dksX12_minuteGoes_4 16 rfl rfl)
theorem dX12_minuteGoes_112 : decode cX12_minuteGoes 112 = .ok (.iload_n 1, 1) := dk_27 (dk_at dksX12_minuteGoes_4 18 rfl rfl)
theorem dX12_minuteGoes_113 : decode cX12_minuteGoes 113 = .ok (.iadd, 1) := dk_96 (dk_at dksX12_minuteGoes_4 19 rfl rfl)
theorem dX12_minuteGoes_114 : decode cX12_minuteGoes 114 = .ok (.iaload, 1) := dk_46 (dk_at dksX12_minuteGoes_4 20 rfl rfl)
theorem dX12_minuteGoes_115 : decode cX12_minuteGoes 115 = .ok (.ifCond .le 6, 3) := dk_158 0 6 (dk_at dksX12_minuteGoes_4 21 rfl rfl)
theorem dX12_minuteGoes_118 : decode cX12_minuteGoes 118 = .ok (.goto 26, 3) := dk_167 0 26 (dk_at dksX12_minuteGoes_5 0 rfl rfl)
theorem dX12_minuteGoes_121 : decode cX12_minuteGoes 121 = .ok (.iload_n 2, 1) := dk_28 (dk_at dksX12_minuteGoes_5 3 rfl rfl)
theorem dX12_minuteGoes_122 : decode cX12_minuteGoes 122 = .ok (.iconst 1, 1) := dk_4 (dk_at dksX12_minuteGoes_5 4 rfl rfl)
theorem dX12_minuteGoes_123 : decode cX12_minuteGoes 123 = .ok (.if_icmp .ne 11, 3) := dk_160 0 11 (dk_at dksX12_minuteGoes_5 5 rfl rfl)
theorem dX12_minuteGoes_126 : decode cX12_minuteGoes 126 = .ok (.aload_n 0, 1) := dk_42 (dk_at dksX12_minuteGoes_5 8 rfl rfl)
theorem dX12_minuteGoes_127 : decode cX12_minuteGoes 127 = .ok (.iload_n 1, 1) := dk_27 (dk_at dksX12_minuteGoes_5 9 rfl rfl)
theorem dX12_minuteGoes_128 : decode cX12_minuteGoes 128 = .ok (.invokevirtual 377, 3) := dk_182 1 121 (dk_at dksX12_minuteGoes_5 10 rfl rfl)
theorem dX12_minuteGoes_131 : decode cX12_minuteGoes 131 = .ok (.goto 13, 3) := dk_167 0 13 (dk_at dksX12_minuteGoes_5 13 rfl rfl)
theorem dX12_minuteGoes_134 : decode cX12_minuteGoes 134 = .ok (.aload_n 0, 1) := dk_42 (dk_at dksX12_minuteGoes_5 16 rfl rfl)
theorem dX12_minuteGoes_135 : decode cX12_minuteGoes 135 = .ok (.getfield 146, 3) := dk_180 0 146 (dk_at dksX12_minuteGoes_5 17 rfl rfl)
theorem dX12_minuteGoes_138 : decode cX12_minuteGoes 138 = .ok (.bipush 42, 2) := dk_16 42 (dk_at dksX12_minuteGoes_5 20 rfl rfl)
theorem dX12_minuteGoes_140 : decode cX12_minuteGoes 140 = .ok (.iload_n 1, 1) := dk_27 (dk_at dksX12_minuteGoes_5 22 rfl rfl)
theorem dX12_minuteGoes_141 : decode cX12_minuteGoes 141 = .ok (.iadd, 1) := dk_96 (dk_at dksX12_minuteGoes_5 23 rfl rfl)
theorem dX12_minuteGoes_142 : decode cX12_minuteGoes 142 = .ok (.iconst 0, 1) := dk_3 (dk_at dksX12_minuteGoes_6 0 rfl rfl)
theorem dX12_minuteGoes_143 : decode cX12_minuteGoes 143 = .ok (.iastore, 1) := dk_79 (dk_at dksX12_minuteGoes_6 1 rfl rfl)
theorem dX12_minuteGoes_144 : decode cX12_minuteGoes 144 = .ok (.iinc 1 1, 3) := dk_132 1 1 (dk_at dksX12_minuteGoes_6 2 rfl rfl)
theorem dX12_minuteGoes_147 : decode cX12_minuteGoes 147 = .ok (.goto (-124), 3) := dk_167 255 132 (dk_at dksX12_minuteGoes_6 5 rfl rfl)
theorem dX12_minuteGoes_150 : decode cX12_minuteGoes 150 = .ok (.aload_n 0, 1) := dk_42 (dk_at dksX12_minuteGoes_6 8 rfl rfl)
theorem dX12_minuteGoes_151 : decode cX12_minuteGoes 151 = .ok (.getfield 146, 3) := dk_180 0 146 (dk_at dksX12_minuteGoes_6 9 rfl rfl)
theorem dX12_minuteGoes_154 : decode cX12_minuteGoes 154 = .ok (.bipush 118, 2) := dk_16 118 (dk_at dksX12_minuteGoes_6 12 rfl rfl)
theorem dX12_minuteGoes_156 : decode cX12_minuteGoes 156 = .ok (.iaload, 1) := dk_46 (dk_at dksX12_minuteGoes_6 14 rfl rfl)
theorem dX12_minuteGoes_157 : decode cX12_minuteGoes 157 = .ok (.ifCond .le 14, 3) := dk_158 0 14 (dk_at dksX12_minuteGoes_6 15 rfl rfl)
theorem dX12_minuteGoes_160 : decode cX12_minuteGoes 160 = .ok (.aload_n 0, 1) := dk_42 (dk_at dksX12_minuteGoes_6 18 rfl rfl)
theorem dX12_minuteGoes_161 : decode cX12_minuteGoes 161 = .ok (.getfield 146, 3) := dk_180 0 146 (dk_at dksX12_minuteGoes_6 19 rfl rfl)
theorem dX12_minuteGoes_164 : decode cX12_minuteGoes 164 = .ok (.bipush 118, 2) := dk_16 118 (dk_at dksX12_minuteGoes_6 22 rfl rfl)
theorem dX12_minuteGoes_166 : decode cX12_minuteGoes 166 = .ok (.dup2, 1) := dk_92 (dk_at dksX12_minuteGoes_7 0 rfl rfl)
theorem dX12_minuteGoes_167 : decode cX12_minuteGoes 167 = .ok (.iaload, 1) := dk_46 (dk_at dksX12_minuteGoes_7 1 rfl rfl)
theorem dX12_minuteGoes_168 : decode cX12_minuteGoes 168 = .ok (.iconst 1, 1) := dk_4 (dk_at dksX12_minuteGoes_7 2 rfl rfl)
theorem dX12_minuteGoes_169 : decode cX12_minuteGoes 169 = .ok (.isub, 1) := dk_100 (dk_at dksX12_minuteGoes_7 3 rfl rfl)
theorem dX12_minuteGoes_170 : decode cX12_minuteGoes 170 = .ok (.iastore, 1) := dk_79 (dk_at dksX12_minuteGoes_7 4 rfl rfl)
theorem dX12_minuteGoes_171 : decode cX12_minuteGoes 171 = .ok (.aload_n 0, 1) := dk_42 (dk_at dksX12_minuteGoes_7 5 rfl rfl)
theorem dX12_minuteGoes_172 : decode cX12_minuteGoes 172 = .ok (.getfield 146, 3) := dk_180 0 146 (dk_at dksX12_minuteGoes_7 6 rfl rfl)
theorem dX12_minuteGoes_175 : decode cX12_minuteGoes 175 = .ok (.bipush 114, 2) := dk_16 114 (dk_at dksX12_minuteGoes_7 9 rfl rfl)
theorem dX12_minuteGoes_177 : decode cX12_minuteGoes 177 = .ok (.dup2, 1) := dk_92 (dk_at dksX12_minuteGoes_7 11 rfl rfl)
theorem dX12_minuteGoes_178 : decode cX12_minuteGoes 178 = .ok (.iaload, 1) := dk_46 (dk_at dksX12_minuteGoes_7 12 rfl rfl)
theorem dX12_minuteGoes_179 : decode cX12_minuteGoes 179 = .ok (.iconst 1, 1) := dk_4 (dk_at dksX12_minuteGoes_7 13 rfl rfl)
theorem dX12_minuteGoes_180 : decode cX12_minuteGoes 180 = .ok (.iadd, 1) := dk_96 (dk_at dksX12_minuteGoes_7 14 rfl rfl)
theorem dX12_minuteGoes_181 : decode cX12_minuteGoes 181 = .ok (.iastore, 1) := dk_79 (dk_at dksX12_minuteGoes_7 15 rfl rfl)
theorem dX12_minuteGoes_182 : decode cX12_minuteGoes 182 = .ok (.return_, 1) := dk_177 (dk_at dksX12_minuteGoes_7 16 rfl rfl)
abbrev cX12_atHeap : ByteArray := prog_24_method_51_code
def yX12_atHeap : MethodName := ⟨RX12, "atHeap", "(I)V"⟩
def dkwX12_atHeap_13 : List UInt8 := [79, 42, 180, 0, 146, 16, 106, 27, 96, 21, 6, 79, 177]
abbrev dktX12_atHeap_13 : List UInt8 := dkwX12_atHeap_13 ++ []
def dkwX12_atHeap_12 : List UInt8 := [180, 0, 146, 16, 42, 27, 96, 4, 79, 42, 180, 0, 146, 16, 50, 27, 96, 42, 180, 0, 149, 21, 6, 46]
abbrev dktX12_atHeap_12 : List UInt8 := dkwX12_atHeap_12 ++ dktX12_atHeap_13
def dkwX12_atHeap_11 : List UInt8 := [182, 1, 111, 162, 0, 19, 21, 6, 4, 96, 42, 180, 0, 58, 42, 180, 1, 1, 46, 112, 54, 6, 42]
abbrev dktX12_atHeap_11 : List UInt8 := dkwX12_atHeap_11 ++ dktX12_atHeap_12
def dkwX12_atHeap_10 : List UInt8 := [180, 1, 1, 104, 27, 96, 46, 54, 6, 42, 27, 182, 1, 115, 42, 5, 27, 29, 3, 3, 16, 100]
abbrev dktX12_atHeap_10 : List UInt8 := dkwX12_atHeap_10 ++ dktX12_atHeap_11
def dkwX12_atHeap_9 : List UInt8 := [27, 96, 21, 4, 21, 5, 164, 0, 7, 28, 167, 0, 5, 16, 254, 79, 42, 180, 0, 73, 16, 8, 42]
abbrev dktX12_atHeap_9 : List UInt8 := dkwX12_atHeap_9 ++ dktX12_atHeap_10
def dkwX12_atHeap_8 : List UInt8 := [21, 5, 96, 79, 42, 180, 0, 146, 16, 58, 27, 96, 21, 4, 21, 5, 100, 79, 42, 180, 0, 146, 16, 66]
abbrev dktX12_atHeap_8 : List UInt8 := dkwX12_atHeap_8 ++ dktX12_atHeap_9
def dkwX12_atHeap_7 : List UInt8 := [21, 5, 158, 0, 13, 42, 180, 0, 146, 16, 74, 27, 96, 3, 79, 42, 180, 0, 146, 16, 115, 92, 46]
abbrev dktX12_atHeap_7 : List UInt8 := dkwX12_atHeap_7 ++ dktX12_atHeap_8
def dkwX12_atHeap_6 : List UInt8 := [27, 21, 4, 3, 3, 16, 99, 182, 1, 111, 54, 5, 21, 5, 21, 4, 164, 0, 7, 21, 4, 54, 5]
abbrev dktX12_atHeap_6 : List UInt8 := dkwX12_atHeap_6 ++ dktX12_atHeap_7
def dkwX12_atHeap_5 : List UInt8 := [54, 4, 21, 4, 29, 164, 0, 6, 29, 54, 4, 42, 180, 0, 146, 28, 92, 46, 21, 4, 100, 79, 42, 4]
abbrev dktX12_atHeap_5 : List UInt8 := dkwX12_atHeap_5 ++ dktX12_atHeap_6
def dkwX12_atHeap_4 : List UInt8 := [92, 46, 4, 96, 79, 177, 42, 180, 0, 152, 28, 4, 84, 42, 3, 27, 29, 8, 4, 16, 99, 182, 1, 111]
abbrev dktX12_atHeap_4 : List UInt8 := dkwX12_atHeap_4 ++ dktX12_atHeap_5
def dkwX12_atHeap_3 : List UInt8 := [161, 0, 8, 42, 27, 182, 1, 108, 177, 42, 180, 0, 152, 28, 51, 153, 0, 15, 42, 180, 0, 146, 16, 119]
abbrev dktX12_atHeap_3 : List UInt8 := dkwX12_atHeap_3 ++ dktX12_atHeap_4
def dkwX12_atHeap_2 : List UInt8 := [46, 158, 0, 30, 42, 180, 0, 146, 16, 74, 27, 96, 46, 42, 180, 0, 100, 42, 180, 1, 1, 46]
abbrev dktX12_atHeap_2 : List UInt8 := dkwX12_atHeap_2 ++ dktX12_atHeap_3
def dkwX12_atHeap_1 : List UInt8 := [180, 0, 146, 16, 114, 46, 42, 180, 0, 97, 42, 180, 1, 1, 46, 162, 0, 13, 42, 180, 0, 146, 16, 118]
abbrev dktX12_atHeap_1 : List UInt8 := dkwX12_atHeap_1 ++ dktX12_atHeap_2
def dkwX12_atHeap_0 : List UInt8 := [42, 180, 0, 146, 16, 90, 27, 96, 46, 61, 42, 180, 0, 146, 28, 46, 62, 29, 153, 0, 32, 42]
abbrev dktX12_atHeap_0 : List UInt8 := dkwX12_atHeap_0 ++ dktX12_atHeap_1
theorem dksX12_atHeap_0 : cX12_atHeap.data.toList.drop 0 = dktX12_atHeap_0 := by decide +kernel
theorem dksX12_atHeap_1 : cX12_atHeap.data.toList.drop 22 = dktX12_atHeap_1 := dk_seg dksX12_atHeap_0 22 rfl rfl
theorem dksX12_atHeap_2 : cX12_atHeap.data.toList.drop 46 = dktX12_atHeap_2 := dk_seg dksX12_atHeap_1 24 rfl rfl
theorem dksX12_atHeap_3 : cX12_atHeap.data.toList.drop 68 = dktX12_atHeap_3 := dk_seg dksX12_atHeap_2 22 rfl rfl
theorem dksX12_atHeap_4 : cX12_atHeap.data.toList.drop 92 = dktX12_atHeap_4 := dk_seg dksX12_atHeap_3 24 rfl rfl
theorem dksX12_atHeap_5 : cX12_atHeap.data.toList.drop 116 = dktX12_atHeap_5 := dk_seg dksX12_atHeap_4 24 rfl rfl
theorem dksX12_atHeap_6 : cX12_atHeap.data.toList.drop 140 = dktX12_atHeap_6 := dk_seg dksX12_atHeap_5 24 rfl rfl
theorem dksX12_atHeap_7 : cX12_atHeap.data.toList.drop 163 = dktX12_atHeap_7 := dk_seg dksX12_atHeap_6 23 rfl rfl
theorem dksX12_atHeap_8 : cX12_atHeap.data.toList.drop 186 = dktX12_atHeap_8 := dk_seg dksX12_atHeap_7 23 rfl rfl
theorem dksX12_atHeap_9 : cX12_atHeap.data.toList.drop 210 = dktX12_atHeap_9 := dk_seg dksX12_atHeap_8 24 rfl rfl
theorem dksX12_atHeap_10 : cX12_atHeap.data.toList.drop 233 = dktX12_atHeap_10 := dk_seg dksX12_atHeap_9 23 rfl rfl
theorem dksX12_atHeap_11 : cX12_atHeap.data.toList.drop 255 = dktX12_atHeap_11 := dk_seg dksX12_atHeap_10 22 rfl rfl
theorem dksX12_atHeap_12 : cX12_atHeap.data.toList.drop 278 = dktX12_atHeap_12 := dk_seg dksX12_atHeap_11 23 rfl rfl
theorem dksX12_atHeap_13 : cX12_atHeap.data.toList.drop 302 = dktX12_atHeap_13 := dk_seg dksX12_atHeap_12 24 rfl rfl
theorem dX12_atHeap_0 : decode cX12_atHeap 0 = .ok (.aload_n 0, 1) := dk_42 (dk_at dksX12_atHeap_0 0 rfl rfl)
theorem dX12_atHeap_1 : decode cX12_atHeap 1 = .ok (.getfield 146, 3) := dk_180 0 146 (dk_at dksX12_atHeap_0 1 rfl rfl)
theorem dX12_atHeap_4 : decode cX12_atHeap 4 = .ok (.bipush 90, 2) := dk_16 90 (dk_at dksX12_atHeap_0 4 rfl rfl)
theorem dX12_atHeap_6 : decode cX12_atHeap 6 = .ok (.iload_n 1, 1) := dk_27 (dk_at dksX12_atHeap_0 6 rfl rfl)
theorem dX12_atHeap_7 : decode cX12_atHeap 7 = .ok (.iadd, 1) := dk_96 (dk_at dksX12_atHeap_0 7 rfl rfl)
theorem dX12_atHeap_8 : decode cX12_atHeap 8 = .ok (.iaload, 1) := dk_46 (dk_at dksX12_atHeap_0 8 rfl rfl)
theorem dX12_atHeap_9 : decode cX12_atHeap 9 = .ok (.istore_n 2, 1) := dk_61 (dk_at dksX12_atHeap_0 9 rfl rfl)
theorem dX12_atHeap_10 : decode cX12_atHeap 10 = .ok (.aload_n 0, 1) := dk_42 (dk_at dksX12_atHeap_0 10 rfl rfl)
theorem dX12_atHeap_11 : decode cX12_atHeap 11 = .ok (.getfield 146, 3) := dk_180 0 146 (dk_at dksX12_atHeap_0 11 rfl rfl)
theorem dX12_atHeap_14 : decode cX12_atHeap 14 = .ok (.iload_n 2, 1) := dk_28 (dk_at dksX12_atHeap_0 14 rfl rfl)
theorem dX12_atHeap_15 : decode cX12_atHeap 15 = .ok (.iaload, 1) := dk_46 (dk_at dksX12_atHeap_0 15 rfl rfl)
theorem dX12_atHeap_16 : decode cX12_atHeap 16 = .ok (.istore_n 3, 1) := dk_62 (dk_at dksX12_atHeap_0 16 rfl rfl)
theorem dX12_atHeap_17 : decode cX12_atHeap 17 = .ok (.iload_n 3, 1) := dk_29 (dk_at dksX12_atHeap_0 17 rfl rfl)
theorem dX12_atHeap_18 : decode cX12_atHeap 18 = .ok (.ifCond .eq 32, 3) := dk_153 0 32 (dk_at dksX12_atHeap_0 18 rfl rfl)
theorem dX12_atHeap_21 : decode cX12_atHeap 21 = .ok (.aload_n 0, 1) := dk_42 (dk_at dksX12_atHeap_0 21 rfl rfl)
theorem dX12_atHeap_22 : decode cX12_atHeap 22 = .ok (.getfield 146, 3) := dk_180 0 146 (dk_at dksX12_atHeap_1 0 rfl rfl)
theorem dX12_atHeap_25 : decode cX12_atHeap 25 = .ok (.bipush 114, 2) := dk_16 114 (dk_at dksX12_atHeap_1 3 rfl rfl)
theorem dX12_atHeap_27 : decode cX12_atHeap 27 = .ok (.iaload, 1) := dk_46 (dk_at dksX12_atHeap_1 5 rfl rfl)
theorem dX12_atHeap_28 : decode cX12_atHeap 28 = .ok (.aload_n 0, 1) := dk_42 (dk_at dksX12_atHeap_1 6 rfl rfl)
theorem dX12_atHeap_29 : decode cX12_atHeap 29 = .ok (.getfield 97, 3) := dk_180 0 97 (dk_at dksX12_atHeap_1 7 rfl rfl)
theorem dX12_atHeap_32 : decode cX12_atHeap 32 = .ok (.aload_n 0, 1) := dk_42 (dk_at dksX12_atHeap_1 10 rfl rfl)
theorem dX12_atHeap_33 : decode cX12_atHeap 33 = .ok (.getfield 257, 3) := dk_180 1 1 (dk_at dksX12_atHeap_1 11 rfl rfl)
theorem dX12_atHeap_36 : decode cX12_atHeap 36 = .ok (.iaload, 1) := dk_46 (dk_at dksX12_atHeap_1 14 rfl rfl)
theorem dX12_atHeap_37 : decode cX12_atHeap 37 = .ok (.if_icmp .ge 13, 3) := dk_162 0 13 (dk_at dksX12_atHeap_1 15 rfl rfl)
theorem dX12_atHeap_40 : decode cX12_atHeap 40 = .ok (.aload_n 0, 1) := dk_42 (dk_at dksX12_atHeap_1 18 rfl rfl)
theorem dX12_atHeap_41 : decode cX12_atHeap 41 = .ok (.getfield 146, 3) := dk_180 0 146 (dk_at dksX12_atHeap_1 19 rfl rfl)
theorem dX12_atHeap_44 : decode cX12_atHeap 44 = .ok (.bipush 118, 2) := dk_16 118 (dk_at dksX12_atHeap_1 22 rfl rfl)
theorem dX12_atHeap_46 : decode cX12_atHeap 46 = .ok (.iaload, 1) := dk_46 (dk_at dksX12_atHeap_2 0 rfl rfl)
theorem dX12_atHeap_47 : decode cX12_atHeap 47 = .ok (.ifCond .le 30, 3) := dk_158 0 30 (dk_at dksX12_atHeap_2 1 rfl rfl)
theorem dX12_atHeap_50 : decode cX12_atHeap 50 = .ok (.aload_n 0, 1) := dk_42 (dk_at dksX12_atHeap_2 4 rfl rfl)
theorem dX12_atHeap_51 : decode cX12_atHeap 51 = .ok (.getfield 146, 3) := dk_180 0 146 (dk_at dksX12_atHeap_2 5 rfl rfl)
theorem dX12_atHeap_54 : decode cX12_atHeap 54 = .ok (.bipush 74, 2) := dk_16 74 (dk_at dksX12_atHeap_2 8 rfl rfl)
theorem dX12_atHeap_56 : decode cX12_atHeap 56 = .ok (.iload_n 1, 1) := dk_27 (dk_at dksX12_atHeap_2 10 rfl rfl)
theorem dX12_atHeap_57 : decode cX12_atHeap 57 = .ok (.iadd, 1) := dk_96 (dk_at dksX12_atHeap_2 11 rfl rfl)
theorem dX12_atHeap_58 : decode cX12_atHeap 58 = .ok (.iaload, 1) := dk_46 (dk_at dksX12_atHeap_2 12 rfl rfl)
theorem dX12_atHeap_59 : decode cX12_atHeap 59 = .ok (.aload_n 0, 1) := dk_42 (dk_at dksX12_atHeap_2 13 rfl rfl)
theorem dX12_atHeap_60 : decode cX12_atHeap 60 = .ok (.getfield 100, 3) := dk_180 0 100 (dk_at dksX12_atHeap_2 14 rfl rfl)
theorem dX12_atHeap_63 : decode cX12_atHeap 63 = .ok (.aload_n 0, 1) := dk_42 (dk_at dksX12_atHeap_2 17 rfl rfl)
theorem dX12_atHeap_64 : decode cX12_atHeap 64 = .ok (.getfield 257, 3) := dk_180 1 1 (dk_at dksX12_atHeap_2 18 rfl rfl)
theorem dX12_atHeap_67 : decode cX12_atHeap 67 = .ok (.iaload, 1) := dk_46 (dk_at dksX12_atHeap_2 21 rfl rfl)
theorem dX12_atHeap_68 : decode cX12_atHeap 68 = .ok (.if_icmp .lt 8, 3) := dk_161 0 8 (dk_at dksX12_atHeap_3 0 rfl rfl)
theorem dX12_atHeap_71 : decode cX12_atHeap 71 = .ok (.aload_n 0, 1) := dk_42 (dk_at dksX12_atHeap_3 3 rfl rfl)
theorem dX12_atHeap_72 : decode cX12_atHeap 72 = .ok (.iload_n 1, 1) := dk_27 (dk_at dksX12_atHeap_3 4 rfl rfl)
theorem dX12_atHeap_73 : decode cX12_atHeap 73 = .ok (.invokevirtual 364, 3) := dk_182 1 108 (dk_at dksX12_atHeap_3 5 rfl rfl)
theorem dX12_atHeap_76 : decode cX12_atHeap 76 = .ok (.return_, 1) := dk_177 (dk_at dksX12_atHeap_3 8 rfl rfl)
theorem dX12_atHeap_77 : decode cX12_atHeap 77 = .ok (.aload_n 0, 1) := dk_42 (dk_at dksX12_atHeap_3 9 rfl rfl)
theorem dX12_atHeap_78 : decode cX12_atHeap 78 = .ok (.getfield 152, 3) := dk_180 0 152 (dk_at dksX12_atHeap_3 10 rfl rfl)
theorem dX12_atHeap_81 : decode cX12_atHeap 81 = .ok (.iload_n 2, 1) := dk_28 (dk_at dksX12_atHeap_3 13 rfl rfl)
theorem dX12_atHeap_82 : decode cX12_atHeap 82 = .ok (.baload, 1) := dk_51 (dk_at dksX12_atHeap_3 14 rfl rfl)
theorem dX12_atHeap_83 : decode cX12_atHeap 83 = .ok (.ifCond .eq 15, 3) := dk_153 0 15 (dk_at dksX12_atHeap_3 15 rfl rfl)
theorem dX12_atHeap_86 : decode cX12_atHeap 86 = .ok (.aload_n 0, 1) := dk_42 (dk_at dksX12_atHeap_3 18 rfl rfl)
theorem dX12_atHeap_87 : decode cX12_atHeap 87 = .ok (.getfield 146, 3) := dk_180 0 146 (dk_at dksX12_atHeap_3 19 rfl rfl)
theorem dX12_atHeap_90 : decode cX12_atHeap 90 = .ok (.bipush 119, 2) := dk_16 119 (dk_at dksX12_atHeap_3 22 rfl rfl)
theorem dX12_atHeap_92 : decode cX12_atHeap 92 = .ok (.dup2, 1) := dk_92 (dk_at dksX12_atHeap_4 0 rfl rfl)
theorem dX12_atHeap_93 : decode cX12_atHeap 93 = .ok (.iaload, 1) := dk_46 (dk_at dksX12_atHeap_4 1 rfl rfl)
theorem dX12_atHeap_94 : decode cX12_atHeap 94 = .ok (.iconst 1, 1) := dk_4 (dk_at dksX12_atHeap_4 2 rfl rfl)
theorem dX12_atHeap_95 : decode cX12_atHeap 95 = .ok (.iadd, 1) := dk_96 (dk_at dksX12_atHeap_4 3 rfl rfl)
theorem dX12_atHeap_96 : decode cX12_atHeap 96 = .ok (.iastore, 1) := dk_79 (dk_at dksX12_atHeap_4 4 rfl rfl)
theorem dX12_atHeap_97 : decode cX12_atHeap 97 = .ok (.return_, 1) := dk_177 (dk_at dksX12_atHeap_4 5 rfl rfl)
theorem dX12_atHeap_98 : decode cX12_atHeap 98 = .ok (.aload_n 0, 1) := dk_42 (dk_at dksX12_atHeap_4 6 rfl rfl)
theorem dX12_atHeap_99 : decode cX12_atHeap 99 = .ok (.getfield 152, 3) := dk_180 0 152 (dk_at dksX12_atHeap_4 7 rfl rfl)
theorem dX12_atHeap_102 : decode cX12_atHeap 102 = .ok (.iload_n 2, 1) := dk_28 (dk_at dksX12_atHeap_4 10 rfl rfl)
theorem dX12_atHeap_103 : decode cX12_atHeap 103 = .ok (.iconst 1, 1) := dk_4 (dk_at dksX12_atHeap_4 11 rfl rfl)
theorem dX12_atHeap_104 : decode cX12_atHeap 104 = .ok (.bastore, 1) := dk_84 (dk_at dksX12_atHeap_4 12 rfl rfl)
theorem dX12_atHeap_105 : decode cX12_atHeap 105 = .ok (.aload_n 0, 1) := dk_42 (dk_at dksX12_atHeap_4 13 rfl rfl)
theorem dX12_atHeap_106 : decode cX12_atHeap 106 = .ok (.iconst 0, 1) := dk_3 (dk_at dksX12_atHeap_4 14 rfl rfl)
theorem dX12_atHeap_107 : decode cX12_atHeap 107 = .ok (.iload_n 1, 1) := dk_27 (dk_at dksX12_atHeap_4 15 rfl rfl)
theorem dX12_atHeap_108 : decode cX12_atHeap 108 = .ok (.iload_n 3, 1) := dk_29 (dk_at dksX12_atHeap_4 16 rfl rfl)
theorem dX12_atHeap_109 : decode cX12_atHeap 109 = .ok (.iconst 5, 1) := dk_8 (dk_at dksX12_atHeap_4 17 rfl rfl)
theorem dX12_atHeap_110 : decode cX12_atHeap 110 = .ok (.iconst 1, 1) := dk_4 (dk_at dksX12_atHeap_4 18 rfl rfl)
theorem dX12_atHeap_111 : decode cX12_atHeap 111 = .ok (.bipush 99, 2) := dk_16 99 (dk_at dksX12_atHeap_4 19 rfl rfl)
theorem dX12_atHeap_113 : decode cX12_atHeap 113 = .ok (.invokevirtual 367, 3) := dk_182 1 111 (dk_at dksX12_atHeap_4 21 rfl rfl)
theorem dX12_atHeap_116 : decode cX12_atHeap 116 = .ok (.istore 4, 2) := dk_54 4 (dk_at dksX12_atHeap_5 0 rfl rfl)
theorem dX12_atHeap_118 : decode cX12_atHeap 118 = .ok (.iload 4, 2) := dk_21 4 (dk_at dksX12_atHeap_5 2 rfl rfl)
theorem dX12_atHeap_120 : decode cX12_atHeap 120 = .ok (.iload_n 3, 1) := dk_29 (dk_at dksX12_atHeap_5 4 rfl rfl)
theorem dX12_atHeap_121 : decode cX12_atHeap 121 = .ok (.if_icmp .le 6, 3) := dk_164 0 6 (dk_at dksX12_atHeap_5 5 rfl rfl)
theorem dX12_atHeap_124 : decode cX12_atHeap 124 = .ok (.iload_n 3, 1) := dk_29 (dk_at dksX12_atHeap_5 8 rfl rfl)
theorem dX12_atHeap_125 : decode cX12_atHeap 125 = .ok (.istore 4, 2) := dk_54 4 (dk_at dksX12_atHeap_5 9 rfl rfl)
theorem dX12_atHeap_127 : decode cX12_atHeap 127 = .ok (.aload_n 0, 1) := dk_42 (dk_at dksX12_atHeap_5 11 rfl rfl)
theorem dX12_atHeap_128 : decode cX12_atHeap 128 = .ok (.getfield 146, 3) := dk_180 0 146 (dk_at dksX12_atHeap_5 12 rfl rfl)
theorem dX12_atHeap_131 : decode cX12_atHeap 131 = .ok (.iload_n 2, 1) := dk_28 (dk_at dksX12_atHeap_5 15 rfl rfl)
theorem dX12_atHeap_132 : decode cX12_atHeap 132 = .ok (.dup2, 1) := dk_92 (dk_at dksX12_atHeap_5 16 rfl rfl)
theorem dX12_atHeap_133 : decode cX12_atHeap 133 = .ok (.iaload, 1) := dk_46 (dk_at dksX12_atHeap_5 17 rfl rfl)
theorem dX12_atHeap_134 : decode cX12_atHeap 134 = .ok (.iload 4, 2) := dk_21 4 (dk_at dksX12_atHeap_5 18 rfl rfl)
theorem dX12_atHeap_136 : decode cX12_atHeap 136 = .ok (.isub, 1) := dk_100 (dk_at dksX12_atHeap_5 20 rfl rfl)
theorem dX12_atHeap_137 : decode cX12_atHeap 137 = .ok (.iastore, 1) := dk_79 (dk_at dksX12_atHeap_5 21 rfl rfl)
theorem dX12_atHeap_138 : decode cX12_atHeap 138 = .ok (.aload_n 0, 1) := dk_42 (dk_at dksX12_atHeap_5 22 rfl rfl)
theorem dX12_atHeap_139 : decode cX12_atHeap 139 = .ok (.iconst 1, 1) := dk_4 (dk_at dksX12_atHeap_5 23 rfl rfl)
theorem dX12_atHeap_140 : decode cX12_atHeap 140 = .ok (.iload_n 1, 1) := dk_27 (dk_at dksX12_atHeap_6 0 rfl rfl)
theorem dX12_atHeap_141 : decode cX12_atHeap 141 = .ok (.iload 4, 2) := dk_21 4 (dk_at dksX12_atHeap_6 1 rfl rfl)
theorem dX12_atHeap_143 : decode cX12_atHeap 143 = .ok (.iconst 0, 1) := dk_3 (dk_at dksX12_atHeap_6 3 rfl rfl)
theorem dX12_atHeap_144 : decode cX12_atHeap 144 = .ok (.iconst 0, 1) := dk_3 (dk_at dksX12_atHeap_6 4 rfl rfl)
theorem dX12_atHeap_145 : decode cX12_atHeap 145 = .ok (.bipush 99, 2) := dk_16 99 (dk_at dksX12_atHeap_6 5 rfl rfl)
theorem dX12_atHeap_147 : decode cX12_atHeap 147 = .ok (.invokevirtual 367, 3) := dk_182 1 111 (dk_at dksX12_atHeap_6 7 rfl rfl)
theorem dX12_atHeap_150 : decode cX12_atHeap 150 = .ok (.istore 5, 2) := dk_54 5 (dk_at dksX12_atHeap_6 10 rfl rfl)
theorem dX12_atHeap_152 : decode cX12_atHeap 152 = .ok (.iload 5, 2) := dk_21 5 (dk_at dksX12_atHeap_6 12 rfl rfl)
theorem dX12_atHeap_154 : decode cX12_atHeap 154 = .ok (.iload 4, 2) := dk_21 4 (dk_at dksX12_atHeap_6 14 rfl rfl)
theorem dX12_atHeap_156 : decode cX12_atHeap 156 = .ok (.if_icmp .le 7, 3) := dk_164 0 7 (dk_at dksX12_atHeap_6 16 rfl rfl)
theorem dX12_atHeap_159 : decode cX12_atHeap 159 = .ok (.iload 4, 2) := dk_21 4 (dk_at dksX12_atHeap_6 19 rfl rfl)
theorem dX12_atHeap_161 : decode cX12_atHeap 161 = .ok (.istore 5, 2) := dk_54 5 (dk_at dksX12_atHeap_6 21 rfl rfl)
theorem dX12_atHeap_163 : decode cX12_atHeap 163 = .ok (.iload 5, 2) := dk_21 5 (dk_at dksX12_atHeap_7 0 rfl rfl)
theorem dX12_atHeap_165 : decode cX12_atHeap 165 = .ok (.ifCond .le 13, 3) := dk_158 0 13 (dk_at dksX12_atHeap_7 2 rfl rfl)
theorem dX12_atHeap_168 : decode cX12_atHeap 168 = .ok (.aload_n 0, 1) := dk_42 (dk_at dksX12_atHeap_7 5 rfl rfl)
theorem dX12_atHeap_169 : decode cX12_atHeap 169 = .ok (.getfield 146, 3) := dk_180 0 146 (dk_at dksX12_atHeap_7 6 rfl rfl)
theorem dX12_atHeap_172 : decode cX12_atHeap 172 = .ok (.bipush 74, 2) := dk_16 74 (dk_at dksX12_atHeap_7 9 rfl rfl)
theorem dX12_atHeap_174 : decode cX12_atHeap 174 = .ok (.iload_n 1, 1) := dk_27 (dk_at dksX12_atHeap_7 11 rfl rfl)
theorem dX12_atHeap_175 : decode cX12_atHeap 175 = .ok (.iadd, 1) := dk_96 (dk_at dksX12_atHeap_7 12 rfl rfl)
theorem dX12_atHeap_176 : decode cX12_atHeap 176 = .ok (.iconst 0, 1) := dk_3 (dk_at dksX12_atHeap_7 13 rfl rfl)
theorem dX12_atHeap_177 : decode cX12_atHeap 177 = .ok (.iastore, 1) := dk_79 (dk_at dksX12_atHeap_7 14 rfl rfl)
theorem dX12_atHeap_178 : decode cX12_atHeap 178 = .ok (.aload_n 0, 1) := dk_42 (dk_at dksX12_atHeap_7 15 rfl rfl)
theorem dX12_atHeap_179 : decode cX12_atHeap 179 = .ok (.getfield 146, 3) := dk_180 0 146 (dk_at dksX12_atHeap_7 16 rfl rfl)
theorem dX12_atHeap_182 : decode cX12_atHeap 182 = .ok (.bipush 115, 2) := dk_16 115 (dk_at dksX12_atHeap_7 19 rfl rfl)
theorem dX12_atHeap_184 : decode cX12_atHeap 184 = .ok (.dup2, 1) := dk_92 (dk_at dksX12_atHeap_7 21 rfl rfl)
theorem dX12_atHeap_185 : decode cX12_atHeap 185 = .ok (.iaload, 1) := dk_46 (dk_at dksX12_atHeap_7 22 rfl rfl)
theorem dX12_atHeap_186 : decode cX12_atHeap 186 = .ok (.iload 5, 2) := dk_21 5 (dk_at dksX12_atHeap_8 0 rfl rfl)
theorem dX12_atHeap_188 : decode cX12_atHeap 188 = .ok (.iadd, 1) := dk_96 (dk_at dksX12_atHeap_8 2 rfl rfl)
theorem dX12_atHeap_189 : decode cX12_atHeap 189 = .ok (.iastore, 1) := dk_79 (dk_at dksX12_atHeap_8 3 rfl rfl)
theorem dX12_atHeap_190 : decode cX12_atHeap 190 = .ok (.aload_n 0, 1) := dk_42 (dk_at dksX12_atHeap_8 4 rfl rfl)
theorem dX12_atHeap_191 : decode cX12_atHeap 191 = .ok (.getfield 146, 3) := dk_180 0 146 (dk_at dksX12_atHeap_8 5 rfl rfl)
theorem dX12_atHeap_194 : decode cX12_atHeap 194 = .ok (.bipush 58, 2) := dk_16 58 (dk_at dksX12_atHeap_8 8 rfl rfl)
theorem dX12_atHeap_196 : decode cX12_atHeap 196 = .ok (.iload_n 1, 1) := dk_27 (dk_at dksX12_atHeap_8 10 rfl rfl)
theorem dX12_atHeap_197 : decode cX12_atHeap 197 = .ok (.iadd, 1) := dk_96 (dk_at dksX12_atHeap_8 11 rfl rfl)
theorem dX12_atHeap_198 : decode cX12_atHeap 198 = .ok (.iload 4, 2) := dk_21 4 (dk_at dksX12_atHeap_8 12 rfl rfl)
theorem dX12_atHeap_200 : decode cX12_atHeap 200 = .ok (.iload 5, 2) := dk_21 5 (dk_at dksX12_atHeap_8 14 rfl rfl)
theorem dX12_atHeap_202 : decode cX12_atHeap 202 = .ok (.isub, 1) := dk_100 (dk_at dksX12_atHeap_8 16 rfl rfl)
theorem dX12_atHeap_203 : decode cX12_atHeap 203 = .ok (.iastore, 1) := dk_79 (dk_at dksX12_atHeap_8 17 rfl rfl)
theorem dX12_atHeap_204 : decode cX12_atHeap 204 = .ok (.aload_n 0, 1) := dk_42 (dk_at dksX12_atHeap_8 18 rfl rfl)
theorem dX12_atHeap_205 : decode cX12_atHeap 205 = .ok (.getfield 146, 3) := dk_180 0 146 (dk_at dksX12_atHeap_8 19 rfl rfl)
theorem dX12_atHeap_208 : decode cX12_atHeap 208 = .ok (.bipush 66, 2) := dk_16 66 (dk_at dksX12_atHeap_8 22 rfl rfl)
theorem dX12_atHeap_210 : decode cX12_atHeap 210 = .ok (.iload_n 1, 1) := dk_27 (dk_at dksX12_atHeap_9 0 rfl rfl)
theorem dX12_atHeap_211 : decode cX12_atHeap 211 = .ok (.iadd, 1) := dk_96 (dk_at dksX12_atHeap_9 1 rfl rfl)
theorem dX12_atHeap_212 : decode cX12_atHeap 212 = .ok (.iload 4, 2) := dk_21 4 (dk_at dksX12_atHeap_9 2 rfl rfl)
theorem dX12_atHeap_214 : decode cX12_atHeap 214 = .ok (.iload 5, 2) := dk_21 5 (dk_at dksX12_atHeap_9 4 rfl rfl)
theorem dX12_atHeap_216 : decode cX12_atHeap 216 = .ok (.if_icmp .le 7, 3) := dk_164 0 7 (dk_at dksX12_atHeap_9 6 rfl rfl)
theorem dX12_atHeap_219 : decode cX12_atHeap 219 = .ok (.iload_n 2, 1) := dk_28 (dk_at dksX12_atHeap_9 9 rfl rfl)
theorem dX12_atHeap_220 : decode cX12_atHeap 220 = .ok (.goto 5, 3) := dk_167 0 5 (dk_at dksX12_atHeap_9 10 rfl rfl)
theorem dX12_atHeap_223 : decode cX12_atHeap 223 = .ok (.bipush (-2), 2) := dk_16 254 (dk_at dksX12_atHeap_9 13 rfl rfl)
theorem dX12_atHeap_225 : decode cX12_atHeap 225 = .ok (.iastore, 1) := dk_79 (dk_at dksX12_atHeap_9 15 rfl rfl)
theorem dX12_atHeap_226 : decode cX12_atHeap 226 = .ok (.aload_n 0, 1) := dk_42 (dk_at dksX12_atHeap_9 16 rfl rfl)
theorem dX12_atHeap_227 : decode cX12_atHeap 227 = .ok (.getfield 73, 3) := dk_180 0 73 (dk_at dksX12_atHeap_9 17 rfl rfl)
theorem dX12_atHeap_230 : decode cX12_atHeap 230 = .ok (.bipush 8, 2) := dk_16 8 (dk_at dksX12_atHeap_9 20 rfl rfl)
theorem dX12_atHeap_232 : decode cX12_atHeap 232 = .ok (.aload_n 0, 1) := dk_42 (dk_at dksX12_atHeap_9 22 rfl rfl)
theorem dX12_atHeap_233 : decode cX12_atHeap 233 = .ok (.getfield 257, 3) := dk_180 1 1 (dk_at dksX12_atHeap_10 0 rfl rfl)
theorem dX12_atHeap_236 : decode cX12_atHeap 236 = .ok (.imul, 1) := dk_104 (dk_at dksX12_atHeap_10 3 rfl rfl)
theorem dX12_atHeap_237 : decode cX12_atHeap 237 = .ok (.iload_n 1, 1) := dk_27 (dk_at dksX12_atHeap_10 4 rfl rfl)
theorem dX12_atHeap_238 : decode cX12_atHeap 238 = .ok (.iadd, 1) := dk_96 (dk_at dksX12_atHeap_10 5 rfl rfl)
theorem dX12_atHeap_239 : decode cX12_atHeap 239 = .ok (.iaload, 1) := dk_46 (dk_at dksX12_atHeap_10 6 rfl rfl)
theorem dX12_atHeap_240 : decode cX12_atHeap 240 = .ok (.istore 6, 2) := dk_54 6 (dk_at dksX12_atHeap_10 7 rfl rfl)
theorem dX12_atHeap_242 : decode cX12_atHeap 242 = .ok (.aload_n 0, 1) := dk_42 (dk_at dksX12_atHeap_10 9 rfl rfl)
theorem dX12_atHeap_243 : decode cX12_atHeap 243 = .ok (.iload_n 1, 1) := dk_27 (dk_at dksX12_atHeap_10 10 rfl rfl)
theorem dX12_atHeap_244 : decode cX12_atHeap 244 = .ok (.invokevirtual 371, 3) := dk_182 1 115 (dk_at dksX12_atHeap_10 11 rfl rfl)
theorem dX12_atHeap_247 : decode cX12_atHeap 247 = .ok (.aload_n 0, 1) := dk_42 (dk_at dksX12_atHeap_10 14 rfl rfl)
theorem dX12_atHeap_248 : decode cX12_atHeap 248 = .ok (.iconst 2, 1) := dk_5 (dk_at dksX12_atHeap_10 15 rfl rfl)
theorem dX12_atHeap_249 : decode cX12_atHeap 249 = .ok (.iload_n 1, 1) := dk_27 (dk_at dksX12_atHeap_10 16 rfl rfl)
theorem dX12_atHeap_250 : decode cX12_atHeap 250 = .ok (.iload_n 3, 1) := dk_29 (dk_at dksX12_atHeap_10 17 rfl rfl)
theorem dX12_atHeap_251 : decode cX12_atHeap 251 = .ok (.iconst 0, 1) := dk_3 (dk_at dksX12_atHeap_10 18 rfl rfl)
theorem dX12_atHeap_252 : decode cX12_atHeap 252 = .ok (.iconst 0, 1) := dk_3 (dk_at dksX12_atHeap_10 19 rfl rfl)
theorem dX12_atHeap_253 : decode cX12_atHeap 253 = .ok (.bipush 100, 2) := dk_16 100 (dk_at dksX12_atHeap_10 20 rfl rfl)
theorem dX12_atHeap_255 : decode cX12_atHeap 255 = .ok (.invokevirtual 367, 3) := dk_182 1 111 (dk_at dksX12_atHeap_11 0 rfl rfl)
theorem dX12_atHeap_258 : decode cX12_atHeap 258 = .ok (.if_icmp .ge 19, 3) := dk_162 0 19 (dk_at dksX12_atHeap_11 3 rfl rfl)
theorem dX12_atHeap_261 : decode cX12_atHeap 261 = .ok (.iload 6, 2) := dk_21 6 (dk_at dksX12_atHeap_11 6 rfl rfl)
theorem dX12_atHeap_263 : decode cX12_atHeap 263 = .ok (.iconst 1, 1) := dk_4 (dk_at dksX12_atHeap_11 8 rfl rfl)
theorem dX12_atHeap_264 : decode cX12_atHeap 264 = .ok (.iadd, 1) := dk_96 (dk_at dksX12_atHeap_11 9 rfl rfl)
theorem dX12_atHeap_265 : decode cX12_atHeap 265 = .ok (.aload_n 0, 1) := dk_42 (dk_at dksX12_atHeap_11 10 rfl rfl)
theorem dX12_atHeap_266 : decode cX12_atHeap 266 = .ok (.getfield 58, 3) := dk_180 0 58 (dk_at dksX12_atHeap_11 11 rfl rfl)
theorem dX12_atHeap_269 : decode cX12_atHeap 269 = .ok (.aload_n 0, 1) := dk_42 (dk_at dksX12_atHeap_11 14 rfl rfl)
theorem dX12_atHeap_270 : decode cX12_atHeap 270 = .ok (.getfield 257, 3) := dk_180 1 1 (dk_at dksX12_atHeap_11 15 rfl rfl)
theorem dX12_atHeap_273 : decode cX12_atHeap 273 = .ok (.iaload, 1) := dk_46 (dk_at dksX12_atHeap_11 18 rfl rfl)
theorem dX12_atHeap_274 : decode cX12_atHeap 274 = .ok (.irem, 1) := dk_112 (dk_at dksX12_atHeap_11 19 rfl rfl)
theorem dX12_atHeap_275 : decode cX12_atHeap 275 = .ok (.istore 6, 2) := dk_54 6 (dk_at dksX12_atHeap_11 20 rfl rfl)
theorem dX12_atHeap_277 : decode cX12_atHeap 277 = .ok (.aload_n 0, 1) := dk_42 (dk_at dksX12_atHeap_11 22 rfl rfl)
theorem dX12_atHeap_278 : decode cX12_atHeap 278 = .ok (.getfield 146, 3) := dk_180 0 146 (dk_at dksX12_atHeap_12 0 rfl rfl)
theorem dX12_atHeap_281 : decode cX12_atHeap 281 = .ok (.bipush 42, 2) := dk_16 42 (dk_at dksX12_atHeap_12 3 rfl rfl)
theorem dX12_atHeap_283 : decode cX12_atHeap 283 = .ok (.iload_n 1, 1) := dk_27 (dk_at dksX12_atHeap_12 5 rfl rfl)
theorem dX12_atHeap_284 : decode cX12_atHeap 284 = .ok (.iadd, 1) := dk_96 (dk_at dksX12_atHeap_12 6 rfl rfl)
theorem dX12_atHeap_285 : decode cX12_atHeap 285 = .ok (.iconst 1, 1) := dk_4 (dk_at dksX12_atHeap_12 7 rfl rfl)
theorem dX12_atHeap_286 : decode cX12_atHeap 286 = .ok (.iastore, 1) := dk_79 (dk_at dksX12_atHeap_12 8 rfl rfl)
theorem dX12_atHeap_287 : decode cX12_atHeap 287 = .ok (.aload_n 0, 1) := dk_42 (dk_at dksX12_atHeap_12 9 rfl rfl)
theorem dX12_atHeap_288 : decode cX12_atHeap 288 = .ok (.getfield 146, 3) := dk_180 0 146 (dk_at dksX12_atHeap_12 10 rfl rfl)
theorem dX12_atHeap_291 : decode cX12_atHeap 291 = .ok (.bipush 50, 2) := dk_16 50 (dk_at dksX12_atHeap_12 13 rfl rfl)
theorem dX12_atHeap_293 : decode cX12_atHeap 293 = .ok (.iload_n 1, 1) := dk_27 (dk_at dksX12_atHeap_12 15 rfl rfl)
theorem dX12_atHeap_294 : decode cX12_atHeap 294 = .ok (.iadd, 1) := dk_96 (dk_at dksX12_atHeap_12 16 rfl rfl)
theorem dX12_atHeap_295 : decode cX12_atHeap 295 = .ok (.aload_n 0, 1) := dk_42 (dk_at dksX12_atHeap_12 17 rfl rfl)
theorem dX12_atHeap_296 : decode cX12_atHeap 296 = .ok (.getfield 149, 3) := dk_180 0 149 (dk_at dksX12_atHeap_12 18 rfl rfl)
theorem dX12_atHeap_299 : decode cX12_atHeap 299 = .ok (.iload 6, 2) := dk_21 6 (dk_at dksX12_atHeap_12 21 rfl rfl)
theorem dX12_atHeap_301 : decode cX12_atHeap 301 = .ok (.iaload, 1) := dk_46 (dk_at dksX12_atHeap_12 23 rfl rfl)
theorem dX12_atHeap_302 : decode cX12_atHeap 302 = .ok (.iastore, 1) := dk_79 (dk_at dksX12_atHeap_13 0 rfl rfl)
theorem dX12_atHeap_303 : decode cX12_atHeap 303 = .ok (.aload_n 0, 1) := dk_42 (dk_at dksX12_atHeap_13 1 rfl rfl)
theorem dX12_atHeap_304 : decode cX12_atHeap 304 = .ok (.getfield 146, 3) := dk_180 0 146 (dk_at dksX12_atHeap_13 2 rfl rfl)
theorem dX12_atHeap_307 : decode cX12_atHeap 307 = .ok (.bipush 106, 2) := dk_16 106 (dk_at dksX12_atHeap_13 5 rfl rfl)
theorem dX12_atHeap_309 : decode cX12_atHeap 309 = .ok (.iload_n 1, 1) := dk_27 (dk_at dksX12_atHeap_13 7 rfl rfl)
theorem dX12_atHeap_310 : decode cX12_atHeap 310 = .ok (.iadd, 1) := dk_96 (dk_at dksX12_atHeap_13 8 rfl rfl)
theorem dX12_atHeap_311 : decode cX12_atHeap 311 = .ok (.iload 6, 2) := dk_21 6 (dk_at dksX12_atHeap_13 9 rfl rfl)
theorem dX12_atHeap_313 : decode cX12_atHeap 313 = .ok (.iastore, 1) := dk_79 (dk_at dksX12_atHeap_13 11 rfl rfl)
theorem dX12_atHeap_314 : decode cX12_atHeap 314 = .ok (.return_, 1) := dk_177 (dk_at dksX12_atHeap_13 12 rfl rfl)
abbrev cX12_nibbles : ByteArray := prog_24_method_52_code
def yX12_nibbles : MethodName := ⟨RX12, "nibbles", "(I)V"⟩
def dkwX12_nibbles_3 : List UInt8 := [79, 42, 180, 0, 146, 16, 74, 27, 96, 3, 79, 177]
abbrev dktX12_nibbles_3 : List UInt8 := dkwX12_nibbles_3 ++ []
def dkwX12_nibbles_2 : List UInt8 := [154, 0, 4, 177, 42, 180, 0, 146, 28, 92, 46, 4, 100, 79, 42, 180, 0, 146, 16, 115, 92, 46, 4, 96]
abbrev dktX12_nibbles_2 : List UInt8 := dkwX12_nibbles_2 ++ dktX12_nibbles_3
def dkwX12_nibbles_1 : List UInt8 := [180, 0, 146, 28, 46, 164, 0, 5, 29, 61, 132, 3, 1, 167, 255, 223, 42, 180, 0, 146, 28, 46]
abbrev dktX12_nibbles_1 : List UInt8 := dkwX12_nibbles_1 ++ dktX12_nibbles_2
def dkwX12_nibbles_0 : List UInt8 := [3, 61, 4, 62, 29, 42, 180, 0, 49, 42, 180, 1, 1, 46, 162, 0, 26, 42, 180, 0, 146, 29, 46, 42]
abbrev dktX12_nibbles_0 : List UInt8 := dkwX12_nibbles_0 ++ dktX12_nibbles_1
theorem dksX12_nibbles_0 : cX12_nibbles.data.toList.drop 0 = dktX12_nibbles_0 := by decide +kernel
theorem dksX12_nibbles_1 : cX12_nibbles.data.toList.drop 24 = dktX12_nibbles_1 := dk_seg dksX12_nibbles_0 24 rfl rfl
theorem dksX12_nibbles_2 : cX12_nibbles.data.toList.drop 46 = dktX12_nibbles_2 := dk_seg dksX12_nibbles_1 22 rfl rfl
theorem dksX12_nibbles_3 : cX12_nibbles.data.toList.drop 70 = dktX12_nibbles_3 := dk_seg dksX12_nibbles_2 24 rfl rfl
theorem dX12_nibbles_0 : decode cX12_nibbles 0 = .ok (.iconst 0, 1) := dk_3 (dk_at dksX12_nibbles_0 0 rfl rfl)
theorem dX12_nibbles_1 : decode cX12_nibbles 1 = .ok (.istore_n 2, 1) := dk_61 (dk_at dksX12_nibbles_0 1 rfl rfl)
theorem dX12_nibbles_2 : decode cX12_nibbles 2 = .ok (.iconst 1, 1) := dk_4 (dk_at dksX12_nibbles_0 2 rfl rfl)
theorem dX12_nibbles_3 : decode cX12_nibbles 3 = .ok (.istore_n 3, 1) := dk_62 (dk_at dksX12_nibbles_0 3 rfl rfl)
theorem dX12_nibbles_4 : decode cX12_nibbles 4 = .ok (.iload_n 3, 1) := dk_29 (dk_at dksX12_nibbles_0 4 rfl rfl)
theorem dX12_nibbles_5 : decode cX12_nibbles 5 = .ok (.aload_n 0, 1) := dk_42 (dk_at dksX12_nibbles_0 5 rfl rfl)
theorem dX12_nibbles_6 : decode cX12_nibbles 6 = .ok (.getfield 49, 3) := dk_180 0 49 (dk_at dksX12_nibbles_0 6 rfl rfl)
theorem dX12_nibbles_9 : decode cX12_nibbles 9 = .ok (.aload_n 0, 1) := dk_42 (dk_at dksX12_nibbles_0 9 rfl rfl)
theorem dX12_nibbles_10 : decode cX12_nibbles 10 = .ok (.getfield 257, 3) := dk_180 1 1 (dk_at dksX12_nibbles_0 10 rfl rfl)
theorem dX12_nibbles_13 : decode cX12_nibbles 13 = .ok (.iaload, 1) := dk_46 (dk_at dksX12_nibbles_0 13 rfl rfl)
theorem dX12_nibbles_14 : decode cX12_nibbles 14 = .ok (.if_icmp .ge 26, 3) := dk_162 0 26 (dk_at dksX12_nibbles_0 14 rfl rfl)
theorem dX12_nibbles_17 : decode cX12_nibbles 17 = .ok (.aload_n 0, 1) := dk_42 (dk_at dksX12_nibbles_0 17 rfl rfl)
theorem dX12_nibbles_18 : decode cX12_nibbles 18 = .ok (.getfield 146, 3) := dk_180 0 146 (dk_at dksX12_nibbles_0 18 rfl rfl)
theorem dX12_nibbles_21 : decode cX12_nibbles 21 = .ok (.iload_n 3, 1) := dk_29 (dk_at dksX12_nibbles_0 21 rfl rfl)
theorem dX12_nibbles_22 : decode cX12_nibbles 22 = .ok (.iaload, 1) := dk_46 (dk_at dksX12_nibbles_0 22 rfl rfl)
theorem dX12_nibbles_23 : decode cX12_nibbles 23 = .ok (.aload_n 0, 1) := dk_42 (dk_at dksX12_nibbles_0 23 rfl rfl)
theorem dX12_nibbles_24 : decode cX12_nibbles 24 = .ok (.getfield 146, 3) := dk_180 0 146 (dk_at dksX12_nibbles_1 0 rfl rfl)
theorem dX12_nibbles_27 : decode cX12_nibbles 27 = .ok (.iload_n 2, 1) := dk_28 (dk_at dksX12_nibbles_1 3 rfl rfl)
theorem dX12_nibbles_28 : decode cX12_nibbles 28 = .ok (.iaload, 1) := dk_46 (dk_at dksX12_nibbles_1 4 rfl rfl)
theorem dX12_nibbles_29 : decode cX12_nibbles 29 = .ok (.if_icmp .le 5, 3) := dk_164 0 5 (dk_at dksX12_nibbles_1 5 rfl rfl)
theorem dX12_nibbles_32 : decode cX12_nibbles 32 = .ok (.iload_n 3, 1) := dk_29 (dk_at dksX12_nibbles_1 8 rfl rfl)
theorem dX12_nibbles_33 : decode cX12_nibbles 33 = .ok (.istore_n 2, 1) := dk_61 (dk_at dksX12_nibbles_1 9 rfl rfl)
theorem dX12_nibbles_34 : decode cX12_nibbles 34 = .ok (.iinc 3 1, 3) := dk_132 3 1 (dk_at dksX12_nibbles_1 10 rfl rfl)
theorem dX12_nibbles_37 : decode cX12_nibbles 37 = .ok (.goto (-33), 3) := dk_167 255 223 (dk_at dksX12_nibbles_1 13 rfl rfl)
theorem dX12_nibbles_40 : decode cX12_nibbles 40 = .ok (.aload_n 0, 1) := dk_42 (dk_at dksX12_nibbles_1 16 rfl rfl)
theorem dX12_nibbles_41 : decode cX12_nibbles 41 = .ok (.getfield 146, 3) := dk_180 0 146 (dk_at dksX12_nibbles_1 17 rfl rfl)
theorem dX12_nibbles_44 : decode cX12_nibbles 44 = .ok (.iload_n 2, 1) := dk_28 (dk_at dksX12_nibbles_1 20 rfl rfl)
theorem dX12_nibbles_45 : decode cX12_nibbles 45 = .ok (.iaload, 1) := dk_46 (dk_at dksX12_nibbles_1 21 rfl rfl)
theorem dX12_nibbles_46 : decode cX12_nibbles 46 = .ok (.ifCond .ne 4, 3) := dk_154 0 4 (dk_at dksX12_nibbles_2 0 rfl rfl)
theorem dX12_nibbles_49 : decode cX12_nibbles 49 = .ok (.return_, 1) := dk_177 (dk_at dksX12_nibbles_2 3 rfl rfl)
theorem dX12_nibbles_50 : decode cX12_nibbles 50 = .ok (.aload_n 0, 1) := dk_42 (dk_at dksX12_nibbles_2 4 rfl rfl)
theorem dX12_nibbles_51 : decode cX12_nibbles 51 = .ok (.getfield 146, 3) := dk_180 0 146 (dk_at dksX12_nibbles_2 5 rfl rfl)
theorem dX12_nibbles_54 : decode cX12_nibbles 54 = .ok (.iload_n 2, 1) := dk_28 (dk_at dksX12_nibbles_2 8 rfl rfl)
theorem dX12_nibbles_55 : decode cX12_nibbles 55 = .ok (.dup2, 1) := dk_92 (dk_at dksX12_nibbles_2 9 rfl rfl)
theorem dX12_nibbles_56 : decode cX12_nibbles 56 = .ok (.iaload, 1) := dk_46 (dk_at dksX12_nibbles_2 10 rfl rfl)
theorem dX12_nibbles_57 : decode cX12_nibbles 57 = .ok (.iconst 1, 1) := dk_4 (dk_at dksX12_nibbles_2 11 rfl rfl)
theorem dX12_nibbles_58 : decode cX12_nibbles 58 = .ok (.isub, 1) := dk_100 (dk_at dksX12_nibbles_2 12 rfl rfl)
theorem dX12_nibbles_59 : decode cX12_nibbles 59 = .ok (.iastore, 1) := dk_79 (dk_at dksX12_nibbles_2 13 rfl rfl)
theorem dX12_nibbles_60 : decode cX12_nibbles 60 = .ok (.aload_n 0, 1) := dk_42 (dk_at dksX12_nibbles_2 14 rfl rfl)
theorem dX12_nibbles_61 : decode cX12_nibbles 61 = .ok (.getfield 146, 3) := dk_180 0 146 (dk_at dksX12_nibbles_2 15 rfl rfl)
theorem dX12_nibbles_64 : decode cX12_nibbles 64 = .ok (.bipush 115, 2) := dk_16 115 (dk_at dksX12_nibbles_2 18 rfl rfl)
theorem dX12_nibbles_66 : decode cX12_nibbles 66 = .ok (.dup2, 1) := dk_92 (dk_at dksX12_nibbles_2 20 rfl rfl)
theorem dX12_nibbles_67 : decode cX12_nibbles 67 = .ok (.iaload, 1) := dk_46 (dk_at dksX12_nibbles_2 21 rfl rfl)
theorem dX12_nibbles_68 : decode cX12_nibbles 68 = .ok (.iconst 1, 1) := dk_4 (dk_at dksX12_nibbles_2 22 rfl rfl)
theorem dX12_nibbles_69 : decode cX12_nibbles 69 = .ok (.iadd, 1) := dk_96 (dk_at dksX12_nibbles_2 23 rfl rfl)
theorem dX12_nibbles_70 : decode cX12_nibbles 70 = .ok (.iastore, 1) := dk_79 (dk_at dksX12_nibbles_3 0 rfl rfl)
theorem dX12_nibbles_71 : decode cX12_nibbles 71 = .ok (.aload_n 0, 1) := dk_42 (dk_at dksX12_nibbles_3 1 rfl rfl)
theorem dX12_nibbles_72 : decode cX12_nibbles 72 = .ok (.getfield 146, 3) := dk_180 0 146 (dk_at dksX12_nibbles_3 2 rfl rfl)
theorem dX12_nibbles_75 : decode cX12_nibbles 75 = .ok (.bipush 74, 2) := dk_16 74 (dk_at dksX12_nibbles_3 5 rfl rfl)
theorem dX12_nibbles_77 : decode cX12_nibbles 77 = .ok (.iload_n 1, 1) := dk_27 (dk_at dksX12_nibbles_3 7 rfl rfl)
theorem dX12_nibbles_78 : decode cX12_nibbles 78 = .ok (.iadd, 1) := dk_96 (dk_at dksX12_nibbles_3 8 rfl rfl)
theorem dX12_nibbles_79 : decode cX12_nibbles 79 = .ok (.iconst 0, 1) := dk_3 (dk_at dksX12_nibbles_3 9 rfl rfl)
theorem dX12_nibbles_80 : decode cX12_nibbles 80 = .ok (.iastore, 1) := dk_79 (dk_at dksX12_nibbles_3 10 rfl rfl)
theorem dX12_nibbles_81 : decode cX12_nibbles 81 = .ok (.return_, 1) := dk_177 (dk_at dksX12_nibbles_3 11 rfl rfl)
abbrev cX12_tells : ByteArray := prog_24_method_49_code
def yX12_tells : MethodName := ⟨RX12, "tells", "(IIIIII)I"⟩
def dkwX12_tells_14 : List UInt8 := [21, 5, 21, 6, 184, 1, 105, 172]
abbrev dktX12_tells_14 : List UInt8 := dkwX12_tells_14 ++ []
def dkwX12_tells_13 : List UInt8 := [153, 0, 7, 3, 167, 0, 5, 21, 12, 21, 5, 21, 6, 184, 1, 105, 172, 132, 9, 1, 167, 255, 106, 3]
abbrev dktX12_tells_13 : List UInt8 := dkwX12_tells_13 ++ dktX12_tells_14
def dkwX12_tells_12 : List UInt8 := [42, 180, 0, 122, 21, 9, 46, 42, 180, 0, 125, 21, 9, 46, 182, 1, 102, 54, 12, 42, 180, 1, 84]
abbrev dktX12_tells_12 : List UInt8 := dkwX12_tells_12 ++ dktX12_tells_13
def dkwX12_tells_11 : List UInt8 := [180, 1, 84, 153, 0, 12, 3, 21, 5, 21, 6, 184, 1, 105, 172, 21, 11, 154, 0, 6, 167, 0, 44, 42]
abbrev dktX12_tells_11 : List UInt8 := dkwX12_tells_11 ++ dktX12_tells_12
def dkwX12_tells_10 : List UInt8 := [21, 9, 46, 182, 1, 102, 54, 12, 21, 10, 21, 12, 162, 0, 7, 4, 167, 0, 4, 3, 54, 11, 42]
abbrev dktX12_tells_10 : List UInt8 := dkwX12_tells_10 ++ dktX12_tells_11
def dkwX12_tells_9 : List UInt8 := [180, 0, 119, 21, 9, 46, 182, 1, 102, 54, 10, 42, 42, 180, 0, 119, 21, 9, 46, 42, 180, 0, 122]
abbrev dktX12_tells_9 : List UInt8 := dkwX12_tells_9 ++ dktX12_tells_10
def dkwX12_tells_8 : List UInt8 := [4, 54, 11, 42, 180, 0, 112, 21, 9, 51, 153, 0, 57, 42, 42, 180, 0, 116, 21, 9, 46, 42]
abbrev dktX12_tells_8 : List UInt8 := dkwX12_tells_8 ++ dktX12_tells_9
def dkwX12_tells_7 : List UInt8 := [42, 180, 0, 106, 21, 7, 46, 54, 9, 21, 9, 42, 180, 0, 109, 21, 7, 46, 162, 0, 144, 3, 54, 10]
abbrev dktX12_tells_7 : List UInt8 := dkwX12_tells_7 ++ dktX12_tells_8
def dkwX12_tells_6 : List UInt8 := [96, 46, 79, 42, 180, 0, 137, 16, 6, 42, 180, 0, 146, 16, 98, 28, 96, 46, 79, 42, 3, 181, 1, 84]
abbrev dktX12_tells_6 : List UInt8 := dkwX12_tells_6 ++ dktX12_tells_7
def dkwX12_tells_5 : List UInt8 := [16, 8, 42, 180, 1, 1, 104, 28, 96, 46, 46, 79, 42, 180, 0, 137, 8, 42, 180, 0, 146, 16, 90, 28]
abbrev dktX12_tells_5 : List UInt8 := dkwX12_tells_5 ++ dktX12_tells_6
def dkwX12_tells_4 : List UInt8 := [156, 0, 7, 3, 167, 0, 5, 21, 8, 79, 42, 180, 0, 137, 7, 42, 180, 0, 149, 42, 180, 0, 73]
abbrev dktX12_tells_4 : List UInt8 := dkwX12_tells_4 ++ dktX12_tells_5
def dkwX12_tells_3 : List UInt8 := [180, 0, 146, 16, 82, 28, 96, 46, 79, 42, 180, 0, 137, 5, 29, 79, 42, 180, 0, 137, 6, 21, 8]
abbrev dktX12_tells_3 : List UInt8 := dkwX12_tells_3 ++ dktX12_tells_4
def dkwX12_tells_2 : List UInt8 := [54, 8, 42, 180, 0, 137, 3, 42, 180, 0, 146, 16, 74, 28, 96, 46, 79, 42, 180, 0, 137, 4, 42]
abbrev dktX12_tells_2 : List UInt8 := dkwX12_tells_2 ++ dktX12_tells_3
def dkwX12_tells_1 : List UInt8 := [160, 0, 6, 21, 4, 172, 42, 180, 0, 97, 42, 180, 1, 1, 46, 42, 180, 0, 146, 16, 114, 46, 100]
abbrev dktX12_tells_1 : List UInt8 := dkwX12_tells_1 ++ dktX12_tells_2
def dkwX12_tells_0 : List UInt8 := [6, 42, 180, 1, 1, 104, 27, 96, 54, 7, 42, 180, 0, 106, 21, 7, 46, 42, 180, 0, 109, 21, 7, 46]
abbrev dktX12_tells_0 : List UInt8 := dkwX12_tells_0 ++ dktX12_tells_1
theorem dksX12_tells_0 : cX12_tells.data.toList.drop 0 = dktX12_tells_0 := by decide +kernel
theorem dksX12_tells_1 : cX12_tells.data.toList.drop 24 = dktX12_tells_1 := dk_seg dksX12_tells_0 24 rfl rfl
theorem dksX12_tells_2 : cX12_tells.data.toList.drop 47 = dktX12_tells_2 := dk_seg dksX12_tells_1 23 rfl rfl
theorem dksX12_tells_3 : cX12_tells.data.toList.drop 70 = dktX12_tells_3 := dk_seg dksX12_tells_2 23 rfl rfl
theorem dksX12_tells_4 : cX12_tells.data.toList.drop 93 = dktX12_tells_4 := dk_seg dksX12_tells_3 23 rfl rfl
theorem dksX12_tells_5 : cX12_tells.data.toList.drop 116 = dktX12_tells_5 := dk_seg dksX12_tells_4 23 rfl rfl
theorem dksX12_tells_6 : cX12_tells.data.toList.drop 140 = dktX12_tells_6 := dk_seg dksX12_tells_5 24 rfl rfl
theorem dksX12_tells_7 : cX12_tells.data.toList.drop 164 = dktX12_tells_7 := dk_seg dksX12_tells_6 24 rfl rfl
theorem dksX12_tells_8 : cX12_tells.data.toList.drop 188 = dktX12_tells_8 := dk_seg dksX12_tells_7 24 rfl rfl
theorem dksX12_tells_9 : cX12_tells.data.toList.drop 210 = dktX12_tells_9 := dk_seg dksX12_tells_8 22 rfl rfl
theorem dksX12_tells_10 : cX12_tells.data.toList.drop 233 = dktX12_tells_10 := dk_seg dksX12_tells_9 23 rfl rfl
theorem dksX12_tells_11 : cX12_tells.data.toList.drop 256 = dktX12_tells_11 := dk_seg dksX12_tells_10 23 rfl rfl
theorem dksX12_tells_12 : cX12_tells.data.toList.drop 280 = dktX12_tells_12 := dk_seg dksX12_tells_11 24 rfl rfl
theorem dksX12_tells_13 : cX12_tells.data.toList.drop 303 = dktX12_tells_13 := dk_seg dksX12_tells_12 23 rfl rfl
theorem dksX12_tells_14 : cX12_tells.data.toList.drop 327 = dktX12_tells_14 := dk_seg dksX12_tells_13 24 rfl rfl
theorem dX12_tells_0 : decode cX12_tells 0 = .ok (.iconst 3, 1) := dk_6 (dk_at dksX12_tells_0 0 rfl rfl)
theorem dX12_tells_1 : decode cX12_tells 1 = .ok (.aload_n 0, 1) := dk_42 (dk_at dksX12_tells_0 1 rfl rfl)
theorem dX12_tells_2 : decode cX12_tells 2 = .ok (.getfield 257, 3) := dk_180 1 1 (dk_at dksX12_tells_0 2 rfl rfl)
theorem dX12_tells_5 : decode cX12_tells 5 = .ok (.imul, 1) := dk_104 (dk_at dksX12_tells_0 5 rfl rfl)
theorem dX12_tells_6 : decode cX12_tells 6 = .ok (.iload_n 1, 1) := dk_27 (dk_at dksX12_tells_0 6 rfl rfl)
theorem dX12_tells_7 : decode cX12_tells 7 = .ok (.iadd, 1) := dk_96 (dk_at dksX12_tells_0 7 rfl rfl)
theorem dX12_tells_8 : decode cX12_tells 8 = .ok (.istore 7, 2) := dk_54 7 (dk_at dksX12_tells_0 8 rfl rfl)
theorem dX12_tells_10 : decode cX12_tells 10 = .ok (.aload_n 0, 1) := dk_42 (dk_at dksX12_tells_0 10 rfl rfl)
theorem dX12_tells_11 : decode cX12_tells 11 = .ok (.getfield 106, 3) := dk_180 0 106 (dk_at dksX12_tells_0 11 rfl rfl)
theorem dX12_tells_14 : decode cX12_tells 14 = .ok (.iload 7, 2) := dk_21 7 (dk_at dksX12_tells_0 14 rfl rfl)
theorem dX12_tells_16 : decode cX12_tells 16 = .ok (.iaload, 1) := dk_46 (dk_at dksX12_tells_0 16 rfl rfl)
theorem dX12_tells_17 : decode cX12_tells 17 = .ok (.aload_n 0, 1) := dk_42 (dk_at dksX12_tells_0 17 rfl rfl)
theorem dX12_tells_18 : decode cX12_tells 18 = .ok (.getfield 109, 3) := dk_180 0 109 (dk_at dksX12_tells_0 18 rfl rfl)
theorem dX12_tells_21 : decode cX12_tells 21 = .ok (.iload 7, 2) := dk_21 7 (dk_at dksX12_tells_0 21 rfl rfl)
theorem dX12_tells_23 : decode cX12_tells 23 = .ok (.iaload, 1) := dk_46 (dk_at dksX12_tells_0 23 rfl rfl)
theorem dX12_tells_24 : decode cX12_tells 24 = .ok (.if_icmp .ne 6, 3) := dk_160 0 6 (dk_at dksX12_tells_1 0 rfl rfl)
theorem dX12_tells_27 : decode cX12_tells 27 = .ok (.iload 4, 2) := dk_21 4 (dk_at dksX12_tells_1 3 rfl rfl)
theorem dX12_tells_29 : decode cX12_tells 29 = .ok (.ireturn, 1) := dk_172 (dk_at dksX12_tells_1 5 rfl rfl)
theorem dX12_tells_30 : decode cX12_tells 30 = .ok (.aload_n 0, 1) := dk_42 (dk_at dksX12_tells_1 6 rfl rfl)
theorem dX12_tells_31 : decode cX12_tells 31 = .ok (.getfield 97, 3) := dk_180 0 97 (dk_at dksX12_tells_1 7 rfl rfl)
theorem dX12_tells_34 : decode cX12_tells 34 = .ok (.aload_n 0, 1) := dk_42 (dk_at dksX12_tells_1 10 rfl rfl)
theorem dX12_tells_35 : decode cX12_tells 35 = .ok (.getfield 257, 3) := dk_180 1 1 (dk_at dksX12_tells_1 11 rfl rfl)
theorem dX12_tells_38 : decode cX12_tells 38 = .ok (.iaload, 1) := dk_46 (dk_at dksX12_tells_1 14 rfl rfl)
theorem dX12_tells_39 : decode cX12_tells 39 = .ok (.aload_n 0, 1) := dk_42 (dk_at dksX12_tells_1 15 rfl rfl)
theorem dX12_tells_40 : decode cX12_tells 40 = .ok (.getfield 146, 3) := dk_180 0 146 (dk_at dksX12_tells_1 16 rfl rfl)
theorem dX12_tells_43 : decode cX12_tells 43 = .ok (.bipush 114, 2) := dk_16 114 (dk_at dksX12_tells_1 19 rfl rfl)
theorem dX12_tells_45 : decode cX12_tells 45 = .ok (.iaload, 1) := dk_46 (dk_at dksX12_tells_1 21 rfl rfl)
theorem dX12_tells_46 : decode cX12_tells 46 = .ok (.isub, 1) := dk_100 (dk_at dksX12_tells_1 22 rfl rfl)
theorem dX12_tells_47 : decode cX12_tells 47 = .ok (.istore 8, 2) := dk_54 8 (dk_at dksX12_tells_2 0 rfl rfl)
theorem dX12_tells_49 : decode cX12_tells 49 = .ok (.aload_n 0, 1) := dk_42 (dk_at dksX12_tells_2 2 rfl rfl)
theorem dX12_tells_50 : decode cX12_tells 50 = .ok (.getfield 137, 3) := dk_180 0 137 (dk_at dksX12_tells_2 3 rfl rfl)
theorem dX12_tells_53 : decode cX12_tells 53 = .ok (.iconst 0, 1) := dk_3 (dk_at dksX12_tells_2 6 rfl rfl)
theorem dX12_tells_54 : decode cX12_tells 54 = .ok (.aload_n 0, 1) := dk_42 (dk_at dksX12_tells_2 7 rfl rfl)
theorem dX12_tells_55 : decode cX12_tells 55 = .ok (.getfield 146, 3) := dk_180 0 146 (dk_at dksX12_tells_2 8 rfl rfl)
theorem dX12_tells_58 : decode cX12_tells 58 = .ok (.bipush 74, 2) := dk_16 74 (dk_at dksX12_tells_2 11 rfl rfl)
theorem dX12_tells_60 : decode cX12_tells 60 = .ok (.iload_n 2, 1) := dk_28 (dk_at dksX12_tells_2 13 rfl rfl)
theorem dX12_tells_61 : decode cX12_tells 61 = .ok (.iadd, 1) := dk_96 (dk_at dksX12_tells_2 14 rfl rfl)
theorem dX12_tells_62 : decode cX12_tells 62 = .ok (.iaload, 1) := dk_46 (dk_at dksX12_tells_2 15 rfl rfl)
theorem dX12_tells_63 : decode cX12_tells 63 = .ok (.iastore, 1) := dk_79 (dk_at dksX12_tells_2 16 rfl rfl)
theorem dX12_tells_64 : decode cX12_tells 64 = .ok (.aload_n 0, 1) := dk_42 (dk_at dksX12_tells_2 17 rfl rfl)
theorem dX12_tells_65 : decode cX12_tells 65 = .ok (.getfield 137, 3) := dk_180 0 137 (dk_at dksX12_tells_2 18 rfl rfl)
theorem dX12_tells_68 : decode cX12_tells 68 = .ok (.iconst 1, 1) := dk_4 (dk_at dksX12_tells_2 21 rfl rfl)
theorem dX12_tells_69 : decode cX12_tells 69 = .ok (.aload_n 0, 1) := dk_42 (dk_at dksX12_tells_2 22 rfl rfl)
theorem dX12_tells_70 : decode cX12_tells 70 = .ok (.getfield 146, 3) := dk_180 0 146 (dk_at dksX12_tells_3 0 rfl rfl)
theorem dX12_tells_73 : decode cX12_tells 73 = .ok (.bipush 82, 2) := dk_16 82 (dk_at dksX12_tells_3 3 rfl rfl)
theorem dX12_tells_75 : decode cX12_tells 75 = .ok (.iload_n 2, 1) := dk_28 (dk_at dksX12_tells_3 5 rfl rfl)
theorem dX12_tells_76 : decode cX12_tells 76 = .ok (.iadd, 1) := dk_96 (dk_at dksX12_tells_3 6 rfl rfl)
theorem dX12_tells_77 : decode cX12_tells 77 = .ok (.iaload, 1) := dk_46 (dk_at dksX12_tells_3 7 rfl rfl)
theorem dX12_tells_78 : decode cX12_tells 78 = .ok (.iastore, 1) := dk_79 (dk_at dksX12_tells_3 8 rfl rfl)
theorem dX12_tells_79 : decode cX12_tells 79 = .ok (.aload_n 0, 1) := dk_42 (dk_at dksX12_tells_3 9 rfl rfl)
theorem dX12_tells_80 : decode cX12_tells 80 = .ok (.getfield 137, 3) := dk_180 0 137 (dk_at dksX12_tells_3 10 rfl rfl)
theorem dX12_tells_83 : decode cX12_tells 83 = .ok (.iconst 2, 1) := dk_5 (dk_at dksX12_tells_3 13 rfl rfl)
theorem dX12_tells_84 : decode cX12_tells 84 = .ok (.iload_n 3, 1) := dk_29 (dk_at dksX12_tells_3 14 rfl rfl)
theorem dX12_tells_85 : decode cX12_tells 85 = .ok (.iastore, 1) := dk_79 (dk_at dksX12_tells_3 15 rfl rfl)
theorem dX12_tells_86 : decode cX12_tells 86 = .ok (.aload_n 0, 1) := dk_42 (dk_at dksX12_tells_3 16 rfl rfl)
theorem dX12_tells_87 : decode cX12_tells 87 = .ok (.getfield 137, 3) := dk_180 0 137 (dk_at dksX12_tells_3 17 rfl rfl)
theorem dX12_tells_90 : decode cX12_tells 90 = .ok (.iconst 3, 1) := dk_6 (dk_at dksX12_tells_3 20 rfl rfl)
theorem dX12_tells_91 : decode cX12_tells 91 = .ok (.iload 8, 2) := dk_21 8 (dk_at dksX12_tells_3 21 rfl rfl)
theorem dX12_tells_93 : decode cX12_tells 93 = .ok (.ifCond .ge 7, 3) := dk_156 0 7 (dk_at dksX12_tells_4 0 rfl rfl)
theorem dX12_tells_96 : decode cX12_tells 96 = .ok (.iconst 0, 1) := dk_3 (dk_at dksX12_tells_4 3 rfl rfl)
theorem dX12_tells_97 : decode cX12_tells 97 = .ok (.goto 5, 3) := dk_167 0 5 (dk_at dksX12_tells_4 4 rfl rfl)
theorem dX12_tells_100 : decode cX12_tells 100 = .ok (.iload 8, 2) := dk_21 8 (dk_at dksX12_tells_4 7 rfl rfl)
theorem dX12_tells_102 : decode cX12_tells 102 = .ok (.iastore, 1) := dk_79 (dk_at dksX12_tells_4 9 rfl rfl)
theorem dX12_tells_103 : decode cX12_tells 103 = .ok (.aload_n 0, 1) := dk_42 (dk_at dksX12_tells_4 10 rfl rfl)
theorem dX12_tells_104 : decode cX12_tells 104 = .ok (.getfield 137, 3) := dk_180 0 137 (dk_at dksX12_tells_4 11 rfl rfl)
theorem dX12_tells_107 : decode cX12_tells 107 = .ok (.iconst 4, 1) := dk_7 (dk_at dksX12_tells_4 14 rfl rfl)
theorem dX12_tells_108 : decode cX12_tells 108 = .ok (.aload_n 0, 1) := dk_42 (dk_at dksX12_tells_4 15 rfl rfl)
theorem dX12_tells_109 : decode cX12_tells 109 = .ok (.getfield 149, 3) := dk_180 0 149 (dk_at dksX12_tells_4 16 rfl rfl)
theorem dX12_tells_112 : decode cX12_tells 112 = .ok (.aload_n 0, 1) := dk_42 (dk_at dksX12_tells_4 19 rfl rfl)
theorem dX12_tells_113 : decode cX12_tells 113 = .ok (.getfield 73, 3) := dk_180 0 73 (dk_at dksX12_tells_4 20 rfl rfl)
theorem dX12_tells_116 : decode cX12_tells 116 = .ok (.bipush 8, 2) := dk_16 8 (dk_at dksX12_tells_5 0 rfl rfl)
theorem dX12_tells_118 : decode cX12_tells 118 = .ok (.aload_n 0, 1) := dk_42 (dk_at dksX12_tells_5 2 rfl rfl)
theorem dX12_tells_119 : decode cX12_tells 119 = .ok (.getfield 257, 3) := dk_180 1 1 (dk_at dksX12_tells_5 3 rfl rfl)
theorem dX12_tells_122 : decode cX12_tells 122 = .ok (.imul, 1) := dk_104 (dk_at dksX12_tells_5 6 rfl rfl)
theorem dX12_tells_123 : decode cX12_tells 123 = .ok (.iload_n 2, 1) := dk_28 (dk_at dksX12_tells_5 7 rfl rfl)
theorem dX12_tells_124 : decode cX12_tells 124 = .ok (.iadd, 1) := dk_96 (dk_at dksX12_tells_5 8 rfl rfl)
theorem dX12_tells_125 : decode cX12_tells 125 = .ok (.iaload, 1) := dk_46 (dk_at dksX12_tells_5 9 rfl rfl)
theorem dX12_tells_126 : decode cX12_tells 126 = .ok (.iaload, 1) := dk_46 (dk_at dksX12_tells_5 10 rfl rfl)
theorem dX12_tells_127 : decode cX12_tells 127 = .ok (.iastore, 1) := dk_79 (dk_at dksX12_tells_5 11 rfl rfl)
theorem dX12_tells_128 : decode cX12_tells 128 = .ok (.aload_n 0, 1) := dk_42 (dk_at dksX12_tells_5 12 rfl rfl)
theorem dX12_tells_129 : decode cX12_tells 129 = .ok (.getfield 137, 3) := dk_180 0 137 (dk_at dksX12_tells_5 13 rfl rfl)
theorem dX12_tells_132 : decode cX12_tells 132 = .ok (.iconst 5, 1) := dk_8 (dk_at dksX12_tells_5 16 rfl rfl)
theorem dX12_tells_133 : decode cX12_tells 133 = .ok (.aload_n 0, 1) := dk_42 (dk_at dksX12_tells_5 17 rfl rfl)
theorem dX12_tells_134 : decode cX12_tells 134 = .ok (.getfield 146, 3) := dk_180 0 146 (dk_at dksX12_tells_5 18 rfl rfl)
theorem dX12_tells_137 : decode cX12_tells 137 = .ok (.bipush 90, 2) := dk_16 90 (dk_at dksX12_tells_5 21 rfl rfl)
theorem dX12_tells_139 : decode cX12_tells 139 = .ok (.iload_n 2, 1) := dk_28 (dk_at dksX12_tells_5 23 rfl rfl)
theorem dX12_tells_140 : decode cX12_tells 140 = .ok (.iadd, 1) := dk_96 (dk_at dksX12_tells_6 0 rfl rfl)
theorem dX12_tells_141 : decode cX12_tells 141 = .ok (.iaload, 1) := dk_46 (dk_at dksX12_tells_6 1 rfl rfl)
theorem dX12_tells_142 : decode cX12_tells 142 = .ok (.iastore, 1) := dk_79 (dk_at dksX12_tells_6 2 rfl rfl)
theorem dX12_tells_143 : decode cX12_tells 143 = .ok (.aload_n 0, 1) := dk_42 (dk_at dksX12_tells_6 3 rfl rfl)
theorem dX12_tells_144 : decode cX12_tells 144 = .ok (.getfield 137, 3) := dk_180 0 137 (dk_at dksX12_tells_6 4 rfl rfl)
theorem dX12_tells_147 : decode cX12_tells 147 = .ok (.bipush 6, 2) := dk_16 6 (dk_at dksX12_tells_6 7 rfl rfl)
theorem dX12_tells_149 : decode cX12_tells 149 = .ok (.aload_n 0, 1) := dk_42 (dk_at dksX12_tells_6 9 rfl rfl)
theorem dX12_tells_150 : decode cX12_tells 150 = .ok (.getfield 146, 3) := dk_180 0 146 (dk_at dksX12_tells_6 10 rfl rfl)
theorem dX12_tells_153 : decode cX12_tells 153 = .ok (.bipush 98, 2) := dk_16 98 (dk_at dksX12_tells_6 13 rfl rfl)
theorem dX12_tells_155 : decode cX12_tells 155 = .ok (.iload_n 2, 1) := dk_28 (dk_at dksX12_tells_6 15 rfl rfl)
theorem dX12_tells_156 : decode cX12_tells 156 = .ok (.iadd, 1) := dk_96 (dk_at dksX12_tells_6 16 rfl rfl)
theorem dX12_tells_157 : decode cX12_tells 157 = .ok (.iaload, 1) := dk_46 (dk_at dksX12_tells_6 17 rfl rfl)
theorem dX12_tells_158 : decode cX12_tells 158 = .ok (.iastore, 1) := dk_79 (dk_at dksX12_tells_6 18 rfl rfl)
theorem dX12_tells_159 : decode cX12_tells 159 = .ok (.aload_n 0, 1) := dk_42 (dk_at dksX12_tells_6 19 rfl rfl)
theorem dX12_tells_160 : decode cX12_tells 160 = .ok (.iconst 0, 1) := dk_3 (dk_at dksX12_tells_6 20 rfl rfl)
theorem dX12_tells_161 : decode cX12_tells 161 = .ok (.putfield 340, 3) := dk_181 1 84 (dk_at dksX12_tells_6 21 rfl rfl)
theorem dX12_tells_164 : decode cX12_tells 164 = .ok (.aload_n 0, 1) := dk_42 (dk_at dksX12_tells_7 0 rfl rfl)
theorem dX12_tells_165 : decode cX12_tells 165 = .ok (.getfield 106, 3) := dk_180 0 106 (dk_at dksX12_tells_7 1 rfl rfl)
theorem dX12_tells_168 : decode cX12_tells 168 = .ok (.iload 7, 2) := dk_21 7 (dk_at dksX12_tells_7 4 rfl rfl)
theorem dX12_tells_170 : decode cX12_tells 170 = .ok (.iaload, 1) := dk_46 (dk_at dksX12_tells_7 6 rfl rfl)
theorem dX12_tells_171 : decode cX12_tells 171 = .ok (.istore 9, 2) := dk_54 9 (dk_at dksX12_tells_7 7 rfl rfl)
theorem dX12_tells_173 : decode cX12_tells 173 = .ok (.iload 9, 2) := dk_21 9 (dk_at dksX12_tells_7 9 rfl rfl)
theorem dX12_tells_175 : decode cX12_tells 175 = .ok (.aload_n 0, 1) := dk_42 (dk_at dksX12_tells_7 11 rfl rfl)
theorem dX12_tells_176 : decode cX12_tells 176 = .ok (.getfield 109, 3) := dk_180 0 109 (dk_at dksX12_tells_7 12 rfl rfl)
theorem dX12_tells_179 : decode cX12_tells 179 = .ok (.iload 7, 2) := dk_21 7 (dk_at dksX12_tells_7 15 rfl rfl)
theorem dX12_tells_181 : decode cX12_tells 181 = .ok (.iaload, 1) := dk_46 (dk_at dksX12_tells_7 17 rfl rfl)
theorem dX12_tells_182 : decode cX12_tells 182 = .ok (.if_icmp .ge 144, 3) := dk_162 0 144 (dk_at dksX12_tells_7 18 rfl rfl)
theorem dX12_tells_185 : decode cX12_tells 185 = .ok (.iconst 0, 1) := dk_3 (dk_at dksX12_tells_7 21 rfl rfl)
theorem dX12_tells_186 : decode cX12_tells 186 = .ok (.istore 10, 2) := dk_54 10 (dk_at dksX12_tells_7 22 rfl rfl)
theorem dX12_tells_188 : decode cX12_tells 188 = .ok (.iconst 1, 1) := dk_4 (dk_at dksX12_tells_8 0 rfl rfl)
theorem dX12_tells_189 : decode cX12_tells 189 = .ok (.istore 11, 2) := dk_54 11 (dk_at dksX12_tells_8 1 rfl rfl)
theorem dX12_tells_191 : decode cX12_tells 191 = .ok (.aload_n 0, 1) := dk_42 (dk_at dksX12_tells_8 3 rfl rfl)
theorem dX12_tells_192 : decode cX12_tells 192 = .ok (.getfield 112, 3) := dk_180 0 112 (dk_at dksX12_tells_8 4 rfl rfl)
theorem dX12_tells_195 : decode cX12_tells 195 = .ok (.iload 9, 2) := dk_21 9 (dk_at dksX12_tells_8 7 rfl rfl)
theorem dX12_tells_197 : decode cX12_tells 197 = .ok (.baload, 1) := dk_51 (dk_at dksX12_tells_8 9 rfl rfl)
theorem dX12_tells_198 : decode cX12_tells 198 = .ok (.ifCond .eq 57, 3) := dk_153 0 57 (dk_at dksX12_tells_8 10 rfl rfl)
theorem dX12_tells_201 : decode cX12_tells 201 = .ok (.aload_n 0, 1) := dk_42 (dk_at dksX12_tells_8 13 rfl rfl)
theorem dX12_tells_202 : decode cX12_tells 202 = .ok (.aload_n 0, 1) := dk_42 (dk_at dksX12_tells_8 14 rfl rfl)
theorem dX12_tells_203 : decode cX12_tells 203 = .ok (.getfield 116, 3) := dk_180 0 116 (dk_at dksX12_tells_8 15 rfl rfl)
theorem dX12_tells_206 : decode cX12_tells 206 = .ok (.iload 9, 2) := dk_21 9 (dk_at dksX12_tells_8 18 rfl rfl)
theorem dX12_tells_208 : decode cX12_tells 208 = .ok (.iaload, 1) := dk_46 (dk_at dksX12_tells_8 20 rfl rfl)
theorem dX12_tells_209 : decode cX12_tells 209 = .ok (.aload_n 0, 1) := dk_42 (dk_at dksX12_tells_8 21 rfl rfl)
theorem dX12_tells_210 : decode cX12_tells 210 = .ok (.getfield 119, 3) := dk_180 0 119 (dk_at dksX12_tells_9 0 rfl rfl)
theorem dX12_tells_213 : decode cX12_tells 213 = .ok (.iload 9, 2) := dk_21 9 (dk_at dksX12_tells_9 3 rfl rfl)
theorem dX12_tells_215 : decode cX12_tells 215 = .ok (.iaload, 1) := dk_46 (dk_at dksX12_tells_9 5 rfl rfl)
theorem dX12_tells_216 : decode cX12_tells 216 = .ok (.invokevirtual 358, 3) := dk_182 1 102 (dk_at dksX12_tells_9 6 rfl rfl)
theorem dX12_tells_219 : decode cX12_tells 219 = .ok (.istore 10, 2) := dk_54 10 (dk_at dksX12_tells_9 9 rfl rfl)
theorem dX12_tells_221 : decode cX12_tells 221 = .ok (.aload_n 0, 1) := dk_42 (dk_at dksX12_tells_9 11 rfl rfl)
theorem dX12_tells_222 : decode cX12_tells 222 = .ok (.aload_n 0, 1) := dk_42 (dk_at dksX12_tells_9 12 rfl rfl)
theorem dX12_tells_223 : decode cX12_tells 223 = .ok (.getfield 119, 3) := dk_180 0 119 (dk_at dksX12_tells_9 13 rfl rfl)
theorem dX12_tells_226 : decode cX12_tells 226 = .ok (.iload 9, 2) := dk_21 9 (dk_at dksX12_tells_9 16 rfl rfl)
theorem dX12_tells_228 : decode cX12_tells 228 = .ok (.iaload, 1) := dk_46 (dk_at dksX12_tells_9 18 rfl rfl)
theorem dX12_tells_229 : decode cX12_tells 229 = .ok (.aload_n 0, 1) := dk_42 (dk_at dksX12_tells_9 19 rfl rfl)
theorem dX12_tells_230 : decode cX12_tells 230 = .ok (.getfield 122, 3) := dk_180 0 122 (dk_at dksX12_tells_9 20 rfl rfl)
theorem dX12_tells_233 : decode cX12_tells 233 = .ok (.iload 9, 2) := dk_21 9 (dk_at dksX12_tells_10 0 rfl rfl)
theorem dX12_tells_235 : decode cX12_tells 235 = .ok (.iaload, 1) := dk_46 (dk_at dksX12_tells_10 2 rfl rfl)
theorem dX12_tells_236 : decode cX12_tells 236 = .ok (.invokevirtual 358, 3) := dk_182 1 102 (dk_at dksX12_tells_10 3 rfl rfl)
theorem dX12_tells_239 : decode cX12_tells 239 = .ok (.istore 12, 2) := dk_54 12 (dk_at dksX12_tells_10 6 rfl rfl)
theorem dX12_tells_241 : decode cX12_tells 241 = .ok (.iload 10, 2) := dk_21 10 (dk_at dksX12_tells_10 8 rfl rfl)
theorem dX12_tells_243 : decode cX12_tells 243 = .ok (.iload 12, 2) := dk_21 12 (dk_at dksX12_tells_10 10 rfl rfl)
theorem dX12_tells_245 : decode cX12_tells 245 = .ok (.if_icmp .ge 7, 3) := dk_162 0 7 (dk_at dksX12_tells_10 12 rfl rfl)
theorem dX12_tells_248 : decode cX12_tells 248 = .ok (.iconst 1, 1) := dk_4 (dk_at dksX12_tells_10 15 rfl rfl)
theorem dX12_tells_249 : decode cX12_tells 249 = .ok (.goto 4, 3) := dk_167 0 4 (dk_at dksX12_tells_10 16 rfl rfl)
theorem dX12_tells_252 : decode cX12_tells 252 = .ok (.iconst 0, 1) := dk_3 (dk_at dksX12_tells_10 19 rfl rfl)
theorem dX12_tells_253 : decode cX12_tells 253 = .ok (.istore 11, 2) := dk_54 11 (dk_at dksX12_tells_10 20 rfl rfl)
theorem dX12_tells_255 : decode cX12_tells 255 = .ok (.aload_n 0, 1) := dk_42 (dk_at dksX12_tells_10 22 rfl rfl)
theorem dX12_tells_256 : decode cX12_tells 256 = .ok (.getfield 340, 3) := dk_180 1 84 (dk_at dksX12_tells_11 0 rfl rfl)
theorem dX12_tells_259 : decode cX12_tells 259 = .ok (.ifCond .eq 12, 3) := dk_153 0 12 (dk_at dksX12_tells_11 3 rfl rfl)
theorem dX12_tells_262 : decode cX12_tells 262 = .ok (.iconst 0, 1) := dk_3 (dk_at dksX12_tells_11 6 rfl rfl)
theorem dX12_tells_263 : decode cX12_tells 263 = .ok (.iload 5, 2) := dk_21 5 (dk_at dksX12_tells_11 7 rfl rfl)
theorem dX12_tells_265 : decode cX12_tells 265 = .ok (.iload 6, 2) := dk_21 6 (dk_at dksX12_tells_11 9 rfl rfl)
theorem dX12_tells_267 : decode cX12_tells 267 = .ok (.invokestatic 361, 3) := dk_184 1 105 (dk_at dksX12_tells_11 11 rfl rfl)
theorem dX12_tells_270 : decode cX12_tells 270 = .ok (.ireturn, 1) := dk_172 (dk_at dksX12_tells_11 14 rfl rfl)
theorem dX12_tells_271 : decode cX12_tells 271 = .ok (.iload 11, 2) := dk_21 11 (dk_at dksX12_tells_11 15 rfl rfl)
theorem dX12_tells_273 : decode cX12_tells 273 = .ok (.ifCond .ne 6, 3) := dk_154 0 6 (dk_at dksX12_tells_11 17 rfl rfl)
theorem dX12_tells_276 : decode cX12_tells 276 = .ok (.goto 44, 3) := dk_167 0 44 (dk_at dksX12_tells_11 20 rfl rfl)
theorem dX12_tells_279 : decode cX12_tells 279 = .ok (.aload_n 0, 1) := dk_42 (dk_at dksX12_tells_11 23 rfl rfl)
theorem dX12_tells_280 : decode cX12_tells 280 = .ok (.aload_n 0, 1) := dk_42 (dk_at dksX12_tells_12 0 rfl rfl)
theorem dX12_tells_281 : decode cX12_tells 281 = .ok (.getfield 122, 3) := dk_180 0 122 (dk_at dksX12_tells_12 1 rfl rfl)
theorem dX12_tells_284 : decode cX12_tells 284 = .ok (.iload 9, 2) := dk_21 9 (dk_at dksX12_tells_12 4 rfl rfl)
theorem dX12_tells_286 : decode cX12_tells 286 = .ok (.iaload, 1) := dk_46 (dk_at dksX12_tells_12 6 rfl rfl)
theorem dX12_tells_287 : decode cX12_tells 287 = .ok (.aload_n 0, 1) := dk_42 (dk_at dksX12_tells_12 7 rfl rfl)
theorem dX12_tells_288 : decode cX12_tells 288 = .ok (.getfield 125, 3) := dk_180 0 125 (dk_at dksX12_tells_12 8 rfl rfl)
theorem dX12_tells_291 : decode cX12_tells 291 = .ok (.iload 9, 2) := dk_21 9 (dk_at dksX12_tells_12 11 rfl rfl)
theorem dX12_tells_293 : decode cX12_tells 293 = .ok (.iaload, 1) := dk_46 (dk_at dksX12_tells_12 13 rfl rfl)
theorem dX12_tells_294 : decode cX12_tells 294 = .ok (.invokevirtual 358, 3) := dk_182 1 102 (dk_at dksX12_tells_12 14 rfl rfl)
theorem dX12_tells_297 : decode cX12_tells 297 = .ok (.istore 12, 2) := dk_54 12 (dk_at dksX12_tells_12 17 rfl rfl)
theorem dX12_tells_299 : decode cX12_tells 299 = .ok (.aload_n 0, 1) := dk_42 (dk_at dksX12_tells_12 19 rfl rfl)
theorem dX12_tells_300 : decode cX12_tells 300 = .ok (.getfield 340, 3) := dk_180 1 84 (dk_at dksX12_tells_12 20 rfl rfl)
theorem dX12_tells_303 : decode cX12_tells 303 = .ok (.ifCond .eq 7, 3) := dk_153 0 7 (dk_at dksX12_tells_13 0 rfl rfl)
theorem dX12_tells_306 : decode cX12_tells 306 = .ok (.iconst 0, 1) := dk_3 (dk_at dksX12_tells_13 3 rfl rfl)
theorem dX12_tells_307 : decode cX12_tells 307 = .ok (.goto 5, 3) := dk_167 0 5 (dk_at dksX12_tells_13 4 rfl rfl)
theorem dX12_tells_310 : decode cX12_tells 310 = .ok (.iload 12, 2) := dk_21 12 (dk_at dksX12_tells_13 7 rfl rfl)
theorem dX12_tells_312 : decode cX12_tells 312 = .ok (.iload 5, 2) := dk_21 5 (dk_at dksX12_tells_13 9 rfl rfl)
theorem dX12_tells_314 : decode cX12_tells 314 = .ok (.iload 6, 2) := dk_21 6 (dk_at dksX12_tells_13 11 rfl rfl)
theorem dX12_tells_316 : decode cX12_tells 316 = .ok (.invokestatic 361, 3) := dk_184 1 105 (dk_at dksX12_tells_13 13 rfl rfl)
theorem dX12_tells_319 : decode cX12_tells 319 = .ok (.ireturn, 1) := dk_172 (dk_at dksX12_tells_13 16 rfl rfl)
theorem dX12_tells_320 : decode cX12_tells 320 = .ok (.iinc 9 1, 3) := dk_132 9 1 (dk_at dksX12_tells_13 17 rfl rfl)
theorem dX12_tells_323 : decode cX12_tells 323 = .ok (.goto (-150), 3) := dk_167 255 106 (dk_at dksX12_tells_13 20 rfl rfl)
theorem dX12_tells_326 : decode cX12_tells 326 = .ok (.iconst 0, 1) := dk_3 (dk_at dksX12_tells_13 23 rfl rfl)
theorem dX12_tells_327 : decode cX12_tells 327 = .ok (.iload 5, 2) := dk_21 5 (dk_at dksX12_tells_14 0 rfl rfl)
theorem dX12_tells_329 : decode cX12_tells 329 = .ok (.iload 6, 2) := dk_21 6 (dk_at dksX12_tells_14 2 rfl rfl)
theorem dX12_tells_331 : decode cX12_tells 331 = .ok (.invokestatic 361, 3) := dk_184 1 105 (dk_at dksX12_tells_14 4 rfl rfl)
theorem dX12_tells_334 : decode cX12_tells 334 = .ok (.ireturn, 1) := dk_172 (dk_at dksX12_tells_14 7 rfl rfl)
abbrev cX12_termOf : ByteArray := prog_24_method_38_code
def yX12_termOf : MethodName := ⟨RX12, "termOf", "(II)I"⟩
def dkwX12_termOf_7 : List UInt8 := [132, 4, 1, 167, 255, 99, 42, 180, 0, 140, 3, 46, 172]
abbrev dktX12_termOf_7 : List UInt8 := dkwX12_termOf_7 ++ []
def dkwX12_termOf_6 : List UInt8 := [167, 0, 22, 21, 5, 7, 160, 0, 11, 21, 6, 21, 7, 104, 167, 0, 8, 21, 6, 21, 7, 108, 79]
abbrev dktX12_termOf_6 : List UInt8 := dkwX12_termOf_6 ++ dktX12_termOf_7
def dkwX12_termOf_5 : List UInt8 := [160, 0, 11, 21, 6, 21, 7, 96, 167, 0, 36, 21, 5, 6, 160, 0, 11, 21, 6, 21, 7, 100]
abbrev dktX12_termOf_5 : List UInt8 := dkwX12_termOf_5 ++ dktX12_termOf_6
def dkwX12_termOf_4 : List UInt8 := [21, 7, 154, 0, 10, 42, 4, 181, 1, 84, 3, 172, 42, 180, 0, 140, 29, 4, 100, 21, 5, 5]
abbrev dktX12_termOf_4 : List UInt8 := dkwX12_termOf_4 ++ dktX12_termOf_5
def dkwX12_termOf_3 : List UInt8 := [180, 0, 140, 29, 4, 100, 46, 54, 6, 42, 180, 0, 140, 29, 46, 54, 7, 21, 5, 8, 160, 0, 15]
abbrev dktX12_termOf_3 : List UInt8 := dkwX12_termOf_3 ++ dktX12_termOf_4
def dkwX12_termOf_2 : List UInt8 := [180, 0, 137, 42, 180, 0, 131, 21, 4, 46, 46, 79, 132, 3, 1, 167, 0, 97, 132, 3, 255, 42]
abbrev dktX12_termOf_2 : List UInt8 := dkwX12_termOf_2 ++ dktX12_termOf_3
def dkwX12_termOf_1 : List UInt8 := [162, 0, 42, 42, 180, 0, 140, 29, 21, 5, 154, 0, 13, 42, 180, 0, 131, 21, 4, 46, 167, 0, 15, 42]
abbrev dktX12_termOf_1 : List UInt8 := dkwX12_termOf_1 ++ dktX12_termOf_2
def dkwX12_termOf_0 : List UInt8 := [3, 62, 27, 54, 4, 21, 4, 28, 162, 0, 157, 42, 180, 0, 128, 21, 4, 46, 54, 5, 21, 5, 5]
abbrev dktX12_termOf_0 : List UInt8 := dkwX12_termOf_0 ++ dktX12_termOf_1
theorem dksX12_termOf_0 : cX12_termOf.data.toList.drop 0 = dktX12_termOf_0 := by decide +kernel
theorem dksX12_termOf_1 : cX12_termOf.data.toList.drop 23 = dktX12_termOf_1 := dk_seg dksX12_termOf_0 23 rfl rfl
theorem dksX12_termOf_2 : cX12_termOf.data.toList.drop 47 = dktX12_termOf_2 := dk_seg dksX12_termOf_1 24 rfl rfl
theorem dksX12_termOf_3 : cX12_termOf.data.toList.drop 69 = dktX12_termOf_3 := dk_seg dksX12_termOf_2 22 rfl rfl
theorem dksX12_termOf_4 : cX12_termOf.data.toList.drop 92 = dktX12_termOf_4 := dk_seg dksX12_termOf_3 23 rfl rfl
theorem dksX12_termOf_5 : cX12_termOf.data.toList.drop 114 = dktX12_termOf_5 := dk_seg dksX12_termOf_4 22 rfl rfl
theorem dksX12_termOf_6 : cX12_termOf.data.toList.drop 136 = dktX12_termOf_6 := dk_seg dksX12_termOf_5 22 rfl rfl
theorem dksX12_termOf_7 : cX12_termOf.data.toList.drop 159 = dktX12_termOf_7 := dk_seg dksX12_termOf_6 23 rfl rfl
theorem dX12_termOf_0 : decode cX12_termOf 0 = .ok (.iconst 0, 1) := dk_3 (dk_at dksX12_termOf_0 0 rfl rfl)
theorem dX12_termOf_1 : decode cX12_termOf 1 = .ok (.istore_n 3, 1) := dk_62 (dk_at dksX12_termOf_0 1 rfl rfl)
theorem dX12_termOf_2 : decode cX12_termOf 2 = .ok (.iload_n 1, 1) := dk_27 (dk_at dksX12_termOf_0 2 rfl rfl)
theorem dX12_termOf_3 : decode cX12_termOf 3 = .ok (.istore 4, 2) := dk_54 4 (dk_at dksX12_termOf_0 3 rfl rfl)
theorem dX12_termOf_5 : decode cX12_termOf 5 = .ok (.iload 4, 2) := dk_21 4 (dk_at dksX12_termOf_0 5 rfl rfl)
theorem dX12_termOf_7 : decode cX12_termOf 7 = .ok (.iload_n 2, 1) := dk_28 (dk_at dksX12_termOf_0 7 rfl rfl)
theorem dX12_termOf_8 : decode cX12_termOf 8 = .ok (.if_icmp .ge 157, 3) := dk_162 0 157 (dk_at dksX12_termOf_0 8 rfl rfl)
theorem dX12_termOf_11 : decode cX12_termOf 11 = .ok (.aload_n 0, 1) := dk_42 (dk_at dksX12_termOf_0 11 rfl rfl)
theorem dX12_termOf_12 : decode cX12_termOf 12 = .ok (.getfield 128, 3) := dk_180 0 128 (dk_at dksX12_termOf_0 12 rfl rfl)
theorem dX12_termOf_15 : decode cX12_termOf 15 = .ok (.iload 4, 2) := dk_21 4 (dk_at dksX12_termOf_0 15 rfl rfl)
theorem dX12_termOf_17 : decode cX12_termOf 17 = .ok (.iaload, 1) := dk_46 (dk_at dksX12_termOf_0 17 rfl rfl)
theorem dX12_termOf_18 : decode cX12_termOf 18 = .ok (.istore 5, 2) := dk_54 5 (dk_at dksX12_termOf_0 18 rfl rfl)
theorem dX12_termOf_20 : decode cX12_termOf 20 = .ok (.iload 5, 2) := dk_21 5 (dk_at dksX12_termOf_0 20 rfl rfl)
theorem dX12_termOf_22 : decode cX12_termOf 22 = .ok (.iconst 2, 1) := dk_5 (dk_at dksX12_termOf_0 22 rfl rfl)
theorem dX12_termOf_23 : decode cX12_termOf 23 = .ok (.if_icmp .ge 42, 3) := dk_162 0 42 (dk_at dksX12_termOf_1 0 rfl rfl)
theorem dX12_termOf_26 : decode cX12_termOf 26 = .ok (.aload_n 0, 1) := dk_42 (dk_at dksX12_termOf_1 3 rfl rfl)
theorem dX12_termOf_27 : decode cX12_termOf 27 = .ok (.getfield 140, 3) := dk_180 0 140 (dk_at dksX12_termOf_1 4 rfl rfl)
theorem dX12_termOf_30 : decode cX12_termOf 30 = .ok (.iload_n 3, 1) := dk_29 (dk_at dksX12_termOf_1 7 rfl rfl)
theorem dX12_termOf_31 : decode cX12_termOf 31 = .ok (.iload 5, 2) := dk_21 5 (dk_at dksX12_termOf_1 8 rfl rfl)
theorem dX12_termOf_33 : decode cX12_termOf 33 = .ok (.ifCond .ne 13, 3) := dk_154 0 13 (dk_at dksX12_termOf_1 10 rfl rfl)
theorem dX12_termOf_36 : decode cX12_termOf 36 = .ok (.aload_n 0, 1) := dk_42 (dk_at dksX12_termOf_1 13 rfl rfl)
theorem dX12_termOf_37 : decode cX12_termOf 37 = .ok (.getfield 131, 3) := dk_180 0 131 (dk_at dksX12_termOf_1 14 rfl rfl)
theorem dX12_termOf_40 : decode cX12_termOf 40 = .ok (.iload 4, 2) := dk_21 4 (dk_at dksX12_termOf_1 17 rfl rfl)
theorem dX12_termOf_42 : decode cX12_termOf 42 = .ok (.iaload, 1) := dk_46 (dk_at dksX12_termOf_1 19 rfl rfl)
theorem dX12_termOf_43 : decode cX12_termOf 43 = .ok (.goto 15, 3) := dk_167 0 15 (dk_at dksX12_termOf_1 20 rfl rfl)
theorem dX12_termOf_46 : decode cX12_termOf 46 = .ok (.aload_n 0, 1) := dk_42 (dk_at dksX12_termOf_1 23 rfl rfl)
theorem dX12_termOf_47 : decode cX12_termOf 47 = .ok (.getfield 137, 3) := dk_180 0 137 (dk_at dksX12_termOf_2 0 rfl rfl)
theorem dX12_termOf_50 : decode cX12_termOf 50 = .ok (.aload_n 0, 1) := dk_42 (dk_at dksX12_termOf_2 3 rfl rfl)
theorem dX12_termOf_51 : decode cX12_termOf 51 = .ok (.getfield 131, 3) := dk_180 0 131 (dk_at dksX12_termOf_2 4 rfl rfl)
theorem dX12_termOf_54 : decode cX12_termOf 54 = .ok (.iload 4, 2) := dk_21 4 (dk_at dksX12_termOf_2 7 rfl rfl)
theorem dX12_termOf_56 : decode cX12_termOf 56 = .ok (.iaload, 1) := dk_46 (dk_at dksX12_termOf_2 9 rfl rfl)
theorem dX12_termOf_57 : decode cX12_termOf 57 = .ok (.iaload, 1) := dk_46 (dk_at dksX12_termOf_2 10 rfl rfl)
theorem dX12_termOf_58 : decode cX12_termOf 58 = .ok (.iastore, 1) := dk_79 (dk_at dksX12_termOf_2 11 rfl rfl)
theorem dX12_termOf_59 : decode cX12_termOf 59 = .ok (.iinc 3 1, 3) := dk_132 3 1 (dk_at dksX12_termOf_2 12 rfl rfl)
theorem dX12_termOf_62 : decode cX12_termOf 62 = .ok (.goto 97, 3) := dk_167 0 97 (dk_at dksX12_termOf_2 15 rfl rfl)
theorem dX12_termOf_65 : decode cX12_termOf 65 = .ok (.iinc 3 (-1), 3) := dk_132 3 255 (dk_at dksX12_termOf_2 18 rfl rfl)
theorem dX12_termOf_68 : decode cX12_termOf 68 = .ok (.aload_n 0, 1) := dk_42 (dk_at dksX12_termOf_2 21 rfl rfl)
theorem dX12_termOf_69 : decode cX12_termOf 69 = .ok (.getfield 140, 3) := dk_180 0 140 (dk_at dksX12_termOf_3 0 rfl rfl)
theorem dX12_termOf_72 : decode cX12_termOf 72 = .ok (.iload_n 3, 1) := dk_29 (dk_at dksX12_termOf_3 3 rfl rfl)
theorem dX12_termOf_73 : decode cX12_termOf 73 = .ok (.iconst 1, 1) := dk_4 (dk_at dksX12_termOf_3 4 rfl rfl)
theorem dX12_termOf_74 : decode cX12_termOf 74 = .ok (.isub, 1) := dk_100 (dk_at dksX12_termOf_3 5 rfl rfl)
theorem dX12_termOf_75 : decode cX12_termOf 75 = .ok (.iaload, 1) := dk_46 (dk_at dksX12_termOf_3 6 rfl rfl)
theorem dX12_termOf_76 : decode cX12_termOf 76 = .ok (.istore 6, 2) := dk_54 6 (dk_at dksX12_termOf_3 7 rfl rfl)
theorem dX12_termOf_78 : decode cX12_termOf 78 = .ok (.aload_n 0, 1) := dk_42 (dk_at dksX12_termOf_3 9 rfl rfl)
theorem dX12_termOf_79 : decode cX12_termOf 79 = .ok (.getfield 140, 3) := dk_180 0 140 (dk_at dksX12_termOf_3 10 rfl rfl)
theorem dX12_termOf_82 : decode cX12_termOf 82 = .ok (.iload_n 3, 1) := dk_29 (dk_at dksX12_termOf_3 13 rfl rfl)
theorem dX12_termOf_83 : decode cX12_termOf 83 = .ok (.iaload, 1) := dk_46 (dk_at dksX12_termOf_3 14 rfl rfl)
theorem dX12_termOf_84 : decode cX12_termOf 84 = .ok (.istore 7, 2) := dk_54 7 (dk_at dksX12_termOf_3 15 rfl rfl)
theorem dX12_termOf_86 : decode cX12_termOf 86 = .ok (.iload 5, 2) := dk_21 5 (dk_at dksX12_termOf_3 17 rfl rfl)
theorem dX12_termOf_88 : decode cX12_termOf 88 = .ok (.iconst 5, 1) := dk_8 (dk_at dksX12_termOf_3 19 rfl rfl)
theorem dX12_termOf_89 : decode cX12_termOf 89 = .ok (.if_icmp .ne 15, 3) := dk_160 0 15 (dk_at dksX12_termOf_3 20 rfl rfl)
theorem dX12_termOf_92 : decode cX12_termOf 92 = .ok (.iload 7, 2) := dk_21 7 (dk_at dksX12_termOf_4 0 rfl rfl)
theorem dX12_termOf_94 : decode cX12_termOf 94 = .ok (.ifCond .ne 10, 3) := dk_154 0 10 (dk_at dksX12_termOf_4 2 rfl rfl)
theorem dX12_termOf_97 : decode cX12_termOf 97 = .ok (.aload_n 0, 1) := dk_42 (dk_at dksX12_termOf_4 5 rfl rfl)
theorem dX12_termOf_98 : decode cX12_termOf 98 = .ok (.iconst 1, 1) := dk_4 (dk_at dksX12_termOf_4 6 rfl rfl)
theorem dX12_termOf_99 : decode cX12_termOf 99 = .ok (.putfield 340, 3) := dk_181 1 84 (dk_at dksX12_termOf_4 7 rfl rfl)
theorem dX12_termOf_102 : decode cX12_termOf 102 = .ok (.iconst 0, 1) := dk_3 (dk_at dksX12_termOf_4 10 rfl rfl)
theorem dX12_termOf_103 : decode cX12_termOf 103 = .ok (.ireturn, 1) := dk_172 (dk_at dksX12_termOf_4 11 rfl rfl)
theorem dX12_termOf_104 : decode cX12_termOf 104 = .ok (.aload_n 0, 1) := dk_42 (dk_at dksX12_termOf_4 12 rfl rfl)
theorem dX12_termOf_105 : decode cX12_termOf 105 = .ok (.getfield 140, 3) := dk_180 0 140 (dk_at dksX12_termOf_4 13 rfl rfl)
theorem dX12_termOf_108 : decode cX12_termOf 108 = .ok (.iload_n 3, 1) := dk_29 (dk_at dksX12_termOf_4 16 rfl rfl)
theorem dX12_termOf_109 : decode cX12_termOf 109 = .ok (.iconst 1, 1) := dk_4 (dk_at dksX12_termOf_4 17 rfl rfl)
theorem dX12_termOf_110 : decode cX12_termOf 110 = .ok (.isub, 1) := dk_100 (dk_at dksX12_termOf_4 18 rfl rfl)
theorem dX12_termOf_111 : decode cX12_termOf 111 = .ok (.iload 5, 2) := dk_21 5 (dk_at dksX12_termOf_4 19 rfl rfl)
theorem dX12_termOf_113 : decode cX12_termOf 113 = .ok (.iconst 2, 1) := dk_5 (dk_at dksX12_termOf_4 21 rfl rfl)
theorem dX12_termOf_114 : decode cX12_termOf 114 = .ok (.if_icmp .ne 11, 3) := dk_160 0 11 (dk_at dksX12_termOf_5 0 rfl rfl)
theorem dX12_termOf_117 : decode cX12_termOf 117 = .ok (.iload 6, 2) := dk_21 6 (dk_at dksX12_termOf_5 3 rfl rfl)
theorem dX12_termOf_119 : decode cX12_termOf 119 = .ok (.iload 7, 2) := dk_21 7 (dk_at dksX12_termOf_5 5 rfl rfl)
theorem dX12_termOf_121 : decode cX12_termOf 121 = .ok (.iadd, 1) := dk_96 (dk_at dksX12_termOf_5 7 rfl rfl)
theorem dX12_termOf_122 : decode cX12_termOf 122 = .ok (.goto 36, 3) := dk_167 0 36 (dk_at dksX12_termOf_5 8 rfl rfl)
theorem dX12_termOf_125 : decode cX12_termOf 125 = .ok (.iload 5, 2) := dk_21 5 (dk_at dksX12_termOf_5 11 rfl rfl)
theorem dX12_termOf_127 : decode cX12_termOf 127 = .ok (.iconst 3, 1) := dk_6 (dk_at dksX12_termOf_5 13 rfl rfl)
theorem dX12_termOf_128 : decode cX12_termOf 128 = .ok (.if_icmp .ne 11, 3) := dk_160 0 11 (dk_at dksX12_termOf_5 14 rfl rfl)
theorem dX12_termOf_131 : decode cX12_termOf 131 = .ok (.iload 6, 2) := dk_21 6 (dk_at dksX12_termOf_5 17 rfl rfl)
theorem dX12_termOf_133 : decode cX12_termOf 133 = .ok (.iload 7, 2) := dk_21 7 (dk_at dksX12_termOf_5 19 rfl rfl)
theorem dX12_termOf_135 : decode cX12_termOf 135 = .ok (.isub, 1) := dk_100 (dk_at dksX12_termOf_5 21 rfl rfl)
theorem dX12_termOf_136 : decode cX12_termOf 136 = .ok (.goto 22, 3) := dk_167 0 22 (dk_at dksX12_termOf_6 0 rfl rfl)
theorem dX12_termOf_139 : decode cX12_termOf 139 = .ok (.iload 5, 2) := dk_21 5 (dk_at dksX12_termOf_6 3 rfl rfl)
theorem dX12_termOf_141 : decode cX12_termOf 141 = .ok (.iconst 4, 1) := dk_7 (dk_at dksX12_termOf_6 5 rfl rfl)
theorem dX12_termOf_142 : decode cX12_termOf 142 = .ok (.if_icmp .ne 11, 3) := dk_160 0 11 (dk_at dksX12_termOf_6 6 rfl rfl)
theorem dX12_termOf_145 : decode cX12_termOf 145 = .ok (.iload 6, 2) := dk_21 6 (dk_at dksX12_termOf_6 9 rfl rfl)
theorem dX12_termOf_147 : decode cX12_termOf 147 = .ok (.iload 7, 2) := dk_21 7 (dk_at dksX12_termOf_6 11 rfl rfl)
theorem dX12_termOf_149 : decode cX12_termOf 149 = .ok (.imul, 1) := dk_104 (dk_at dksX12_termOf_6 13 rfl rfl)
theorem dX12_termOf_150 : decode cX12_termOf 150 = .ok (.goto 8, 3) := dk_167 0 8 (dk_at dksX12_termOf_6 14 rfl rfl)
theorem dX12_termOf_153 : decode cX12_termOf 153 = .ok (.iload 6, 2) := dk_21 6 (dk_at dksX12_termOf_6 17 rfl rfl)
theorem dX12_termOf_155 : decode cX12_termOf 155 = .ok (.iload 7, 2) := dk_21 7 (dk_at dksX12_termOf_6 19 rfl rfl)
theorem dX12_termOf_157 : decode cX12_termOf 157 = .ok (.idiv, 1) := dk_108 (dk_at dksX12_termOf_6 21 rfl rfl)
theorem dX12_termOf_158 : decode cX12_termOf 158 = .ok (.iastore, 1) := dk_79 (dk_at dksX12_termOf_6 22 rfl rfl)
theorem dX12_termOf_159 : decode cX12_termOf 159 = .ok (.iinc 4 1, 3) := dk_132 4 1 (dk_at dksX12_termOf_7 0 rfl rfl)
theorem dX12_termOf_162 : decode cX12_termOf 162 = .ok (.goto (-157), 3) := dk_167 255 99 (dk_at dksX12_termOf_7 3 rfl rfl)
theorem dX12_termOf_165 : decode cX12_termOf 165 = .ok (.aload_n 0, 1) := dk_42 (dk_at dksX12_termOf_7 6 rfl rfl)
theorem dX12_termOf_166 : decode cX12_termOf 166 = .ok (.getfield 140, 3) := dk_180 0 140 (dk_at dksX12_termOf_7 7 rfl rfl)
theorem dX12_termOf_169 : decode cX12_termOf 169 = .ok (.iconst 0, 1) := dk_3 (dk_at dksX12_termOf_7 10 rfl rfl)
theorem dX12_termOf_170 : decode cX12_termOf 170 = .ok (.iaload, 1) := dk_46 (dk_at dksX12_termOf_7 11 rfl rfl)
theorem dX12_termOf_171 : decode cX12_termOf 171 = .ok (.ireturn, 1) := dk_172 (dk_at dksX12_termOf_7 12 rfl rfl)
abbrev cX12_held : ByteArray := prog_24_method_50_code
def yX12_held : MethodName := ⟨RX12, "held", "(III)I"⟩
def dkwX12_held_0 : List UInt8 := [26, 27, 162, 0, 7, 27, 167, 0, 13, 26, 28, 164, 0, 7, 28, 167, 0, 4, 26, 172]
abbrev dktX12_held_0 : List UInt8 := dkwX12_held_0 ++ []
theorem dksX12_held_0 : cX12_held.data.toList.drop 0 = dktX12_held_0 := by decide +kernel
theorem dX12_held_0 : decode cX12_held 0 = .ok (.iload_n 0, 1) := dk_26 (dk_at dksX12_held_0 0 rfl rfl)
theorem dX12_held_1 : decode cX12_held 1 = .ok (.iload_n 1, 1) := dk_27 (dk_at dksX12_held_0 1 rfl rfl)
theorem dX12_held_2 : decode cX12_held 2 = .ok (.if_icmp .ge 7, 3) := dk_162 0 7 (dk_at dksX12_held_0 2 rfl rfl)
theorem dX12_held_5 : decode cX12_held 5 = .ok (.iload_n 1, 1) := dk_27 (dk_at dksX12_held_0 5 rfl rfl)
theorem dX12_held_6 : decode cX12_held 6 = .ok (.goto 13, 3) := dk_167 0 13 (dk_at dksX12_held_0 6 rfl rfl)
theorem dX12_held_9 : decode cX12_held 9 = .ok (.iload_n 0, 1) := dk_26 (dk_at dksX12_held_0 9 rfl rfl)
theorem dX12_held_10 : decode cX12_held 10 = .ok (.iload_n 2, 1) := dk_28 (dk_at dksX12_held_0 10 rfl rfl)
theorem dX12_held_11 : decode cX12_held 11 = .ok (.if_icmp .le 7, 3) := dk_164 0 7 (dk_at dksX12_held_0 11 rfl rfl)
theorem dX12_held_14 : decode cX12_held 14 = .ok (.iload_n 2, 1) := dk_28 (dk_at dksX12_held_0 14 rfl rfl)
theorem dX12_held_15 : decode cX12_held 15 = .ok (.goto 4, 3) := dk_167 0 4 (dk_at dksX12_held_0 15 rfl rfl)
theorem dX12_held_18 : decode cX12_held 18 = .ok (.iload_n 0, 1) := dk_26 (dk_at dksX12_held_0 18 rfl rfl)
theorem dX12_held_19 : decode cX12_held 19 = .ok (.ireturn, 1) := dk_172 (dk_at dksX12_held_0 19 rfl rfl)
abbrev cX12_lotOf : ByteArray := prog_24_method_48_code
def yX12_lotOf : MethodName := ⟨RX12, "lotOf", "(I)I"⟩
def dkwX12_lotOf_1 : List UInt8 := [4, 124, 16, 100, 112, 172]
abbrev dktX12_lotOf_1 : List UInt8 := dkwX12_lotOf_1 ++ []
def dkwX12_lotOf_0 : List UInt8 := [42, 180, 1, 88, 16, 39, 184, 1, 99, 16, 8, 42, 180, 0, 146, 16, 114, 46, 104, 27, 96, 184, 1, 99]
abbrev dktX12_lotOf_0 : List UInt8 := dkwX12_lotOf_0 ++ dktX12_lotOf_1
theorem dksX12_lotOf_0 : cX12_lotOf.data.toList.drop 0 = dktX12_lotOf_0 := by decide +kernel
theorem dksX12_lotOf_1 : cX12_lotOf.data.toList.drop 24 = dktX12_lotOf_1 := dk_seg dksX12_lotOf_0 24 rfl rfl
theorem dX12_lotOf_0 : decode cX12_lotOf 0 = .ok (.aload_n 0, 1) := dk_42 (dk_at dksX12_lotOf_0 0 rfl rfl)
theorem dX12_lotOf_1 : decode cX12_lotOf 1 = .ok (.getfield 344, 3) := dk_180 1 88 (dk_at dksX12_lotOf_0 1 rfl rfl)
theorem dX12_lotOf_4 : decode cX12_lotOf 4 = .ok (.bipush 39, 2) := dk_16 39 (dk_at dksX12_lotOf_0 4 rfl rfl)
theorem dX12_lotOf_6 : decode cX12_lotOf 6 = .ok (.invokestatic 355, 3) := dk_184 1 99 (dk_at dksX12_lotOf_0 6 rfl rfl)
theorem dX12_lotOf_9 : decode cX12_lotOf 9 = .ok (.bipush 8, 2) := dk_16 8 (dk_at dksX12_lotOf_0 9 rfl rfl)
theorem dX12_lotOf_11 : decode cX12_lotOf 11 = .ok (.aload_n 0, 1) := dk_42 (dk_at dksX12_lotOf_0 11 rfl rfl)
theorem dX12_lotOf_12 : decode cX12_lotOf 12 = .ok (.getfield 146, 3) := dk_180 0 146 (dk_at dksX12_lotOf_0 12 rfl rfl)
theorem dX12_lotOf_15 : decode cX12_lotOf 15 = .ok (.bipush 114, 2) := dk_16 114 (dk_at dksX12_lotOf_0 15 rfl rfl)
theorem dX12_lotOf_17 : decode cX12_lotOf 17 = .ok (.iaload, 1) := dk_46 (dk_at dksX12_lotOf_0 17 rfl rfl)
theorem dX12_lotOf_18 : decode cX12_lotOf 18 = .ok (.imul, 1) := dk_104 (dk_at dksX12_lotOf_0 18 rfl rfl)
theorem dX12_lotOf_19 : decode cX12_lotOf 19 = .ok (.iload_n 1, 1) := dk_27 (dk_at dksX12_lotOf_0 19 rfl rfl)
theorem dX12_lotOf_20 : decode cX12_lotOf 20 = .ok (.iadd, 1) := dk_96 (dk_at dksX12_lotOf_0 20 rfl rfl)
theorem dX12_lotOf_21 : decode cX12_lotOf 21 = .ok (.invokestatic 355, 3) := dk_184 1 99 (dk_at dksX12_lotOf_0 21 rfl rfl)
theorem dX12_lotOf_24 : decode cX12_lotOf 24 = .ok (.iconst 1, 1) := dk_4 (dk_at dksX12_lotOf_1 0 rfl rfl)
theorem dX12_lotOf_25 : decode cX12_lotOf 25 = .ok (.iushr, 1) := dk_124 (dk_at dksX12_lotOf_1 1 rfl rfl)
theorem dX12_lotOf_26 : decode cX12_lotOf 26 = .ok (.bipush 100, 2) := dk_16 100 (dk_at dksX12_lotOf_1 2 rfl rfl)
theorem dX12_lotOf_28 : decode cX12_lotOf 28 = .ok (.irem, 1) := dk_112 (dk_at dksX12_lotOf_1 4 rfl rfl)
theorem dX12_lotOf_29 : decode cX12_lotOf 29 = .ok (.ireturn, 1) := dk_172 (dk_at dksX12_lotOf_1 5 rfl rfl)
abbrev cX12_mixed : ByteArray := prog_24_method_47_code
def yX12_mixed : MethodName := ⟨RX12, "mixed", "(II)I"⟩
def dkwX12_mixed_0 : List UInt8 := [26, 27, 130, 19, 1, 98, 104, 17, 48, 57, 96, 61, 28, 28, 16, 15, 124, 130, 172]
abbrev dktX12_mixed_0 : List UInt8 := dkwX12_mixed_0 ++ []
theorem dksX12_mixed_0 : cX12_mixed.data.toList.drop 0 = dktX12_mixed_0 := by decide +kernel
theorem dX12_mixed_0 : decode cX12_mixed 0 = .ok (.iload_n 0, 1) := dk_26 (dk_at dksX12_mixed_0 0 rfl rfl)
theorem dX12_mixed_1 : decode cX12_mixed 1 = .ok (.iload_n 1, 1) := dk_27 (dk_at dksX12_mixed_0 1 rfl rfl)
theorem dX12_mixed_2 : decode cX12_mixed 2 = .ok (.ixor, 1) := dk_130 (dk_at dksX12_mixed_0 2 rfl rfl)
theorem dX12_mixed_3 : decode cX12_mixed 3 = .ok (.ldc_w 354, 3) := dk_19 1 98 (dk_at dksX12_mixed_0 3 rfl rfl)
theorem dX12_mixed_6 : decode cX12_mixed 6 = .ok (.imul, 1) := dk_104 (dk_at dksX12_mixed_0 6 rfl rfl)
theorem dX12_mixed_7 : decode cX12_mixed 7 = .ok (.sipush 12345, 3) := dk_17 48 57 (dk_at dksX12_mixed_0 7 rfl rfl)
theorem dX12_mixed_10 : decode cX12_mixed 10 = .ok (.iadd, 1) := dk_96 (dk_at dksX12_mixed_0 10 rfl rfl)
theorem dX12_mixed_11 : decode cX12_mixed 11 = .ok (.istore_n 2, 1) := dk_61 (dk_at dksX12_mixed_0 11 rfl rfl)
theorem dX12_mixed_12 : decode cX12_mixed 12 = .ok (.iload_n 2, 1) := dk_28 (dk_at dksX12_mixed_0 12 rfl rfl)
theorem dX12_mixed_13 : decode cX12_mixed 13 = .ok (.iload_n 2, 1) := dk_28 (dk_at dksX12_mixed_0 13 rfl rfl)
theorem dX12_mixed_14 : decode cX12_mixed 14 = .ok (.bipush 15, 2) := dk_16 15 (dk_at dksX12_mixed_0 14 rfl rfl)
theorem dX12_mixed_16 : decode cX12_mixed 16 = .ok (.iushr, 1) := dk_124 (dk_at dksX12_mixed_0 16 rfl rfl)
theorem dX12_mixed_17 : decode cX12_mixed 17 = .ok (.ixor, 1) := dk_130 (dk_at dksX12_mixed_0 17 rfl rfl)
theorem dX12_mixed_18 : decode cX12_mixed 18 = .ok (.ireturn, 1) := dk_172 (dk_at dksX12_mixed_0 18 rfl rfl)
abbrev cX12_drops : ByteArray := prog_24_method_53_code
def yX12_drops : MethodName := ⟨RX12, "drops", "(I)V"⟩
def dkwX12_drops_5 : List UInt8 := [96, 42, 180, 0, 149, 28, 46, 79, 177]
abbrev dktX12_drops_5 : List UInt8 := dkwX12_drops_5 ++ []
def dkwX12_drops_4 : List UInt8 := [16, 106, 27, 96, 16, 254, 79, 42, 180, 0, 146, 16, 42, 27, 96, 5, 79, 42, 180, 0, 146, 16, 50, 27]
abbrev dktX12_drops_4 : List UInt8 := dkwX12_drops_4 ++ dktX12_drops_5
def dkwX12_drops_3 : List UInt8 := [180, 0, 146, 16, 58, 27, 96, 3, 79, 42, 180, 0, 146, 16, 66, 27, 96, 16, 254, 79, 42, 180, 0, 146]
abbrev dktX12_drops_3 : List UInt8 := dkwX12_drops_3 ++ dktX12_drops_4
def dkwX12_drops_2 : List UInt8 := [180, 0, 146, 16, 58, 27, 96, 46, 96, 79, 42, 180, 0, 146, 16, 98, 27, 96, 92, 46, 4, 96, 79, 42]
abbrev dktX12_drops_2 : List UInt8 := dkwX12_drops_2 ++ dktX12_drops_3
def dkwX12_drops_1 : List UInt8 := [180, 0, 146, 16, 6, 16, 6, 28, 104, 96, 42, 180, 0, 146, 16, 66, 27, 96, 46, 96, 92, 46, 42]
abbrev dktX12_drops_1 : List UInt8 := dkwX12_drops_1 ++ dktX12_drops_2
def dkwX12_drops_0 : List UInt8 := [42, 180, 0, 146, 16, 106, 27, 96, 46, 61, 42, 180, 0, 146, 16, 58, 27, 96, 46, 158, 0, 50, 42]
abbrev dktX12_drops_0 : List UInt8 := dkwX12_drops_0 ++ dktX12_drops_1
theorem dksX12_drops_0 : cX12_drops.data.toList.drop 0 = dktX12_drops_0 := by decide +kernel
theorem dksX12_drops_1 : cX12_drops.data.toList.drop 23 = dktX12_drops_1 := dk_seg dksX12_drops_0 23 rfl rfl
theorem dksX12_drops_2 : cX12_drops.data.toList.drop 46 = dktX12_drops_2 := dk_seg dksX12_drops_1 23 rfl rfl
theorem dksX12_drops_3 : cX12_drops.data.toList.drop 70 = dktX12_drops_3 := dk_seg dksX12_drops_2 24 rfl rfl
theorem dksX12_drops_4 : cX12_drops.data.toList.drop 94 = dktX12_drops_4 := dk_seg dksX12_drops_3 24 rfl rfl
theorem dksX12_drops_5 : cX12_drops.data.toList.drop 118 = dktX12_drops_5 := dk_seg dksX12_drops_4 24 rfl rfl
theorem dX12_drops_0 : decode cX12_drops 0 = .ok (.aload_n 0, 1) := dk_42 (dk_at dksX12_drops_0 0 rfl rfl)
theorem dX12_drops_1 : decode cX12_drops 1 = .ok (.getfield 146, 3) := dk_180 0 146 (dk_at dksX12_drops_0 1 rfl rfl)
theorem dX12_drops_4 : decode cX12_drops 4 = .ok (.bipush 106, 2) := dk_16 106 (dk_at dksX12_drops_0 4 rfl rfl)
theorem dX12_drops_6 : decode cX12_drops 6 = .ok (.iload_n 1, 1) := dk_27 (dk_at dksX12_drops_0 6 rfl rfl)
theorem dX12_drops_7 : decode cX12_drops 7 = .ok (.iadd, 1) := dk_96 (dk_at dksX12_drops_0 7 rfl rfl)
theorem dX12_drops_8 : decode cX12_drops 8 = .ok (.iaload, 1) := dk_46 (dk_at dksX12_drops_0 8 rfl rfl)
theorem dX12_drops_9 : decode cX12_drops 9 = .ok (.istore_n 2, 1) := dk_61 (dk_at dksX12_drops_0 9 rfl rfl)
theorem dX12_drops_10 : decode cX12_drops 10 = .ok (.aload_n 0, 1) := dk_42 (dk_at dksX12_drops_0 10 rfl rfl)
theorem dX12_drops_11 : decode cX12_drops 11 = .ok (.getfield 146, 3) := dk_180 0 146 (dk_at dksX12_drops_0 11 rfl rfl)
theorem dX12_drops_14 : decode cX12_drops 14 = .ok (.bipush 58, 2) := dk_16 58 (dk_at dksX12_drops_0 14 rfl rfl)
theorem dX12_drops_16 : decode cX12_drops 16 = .ok (.iload_n 1, 1) := dk_27 (dk_at dksX12_drops_0 16 rfl rfl)
theorem dX12_drops_17 : decode cX12_drops 17 = .ok (.iadd, 1) := dk_96 (dk_at dksX12_drops_0 17 rfl rfl)
theorem dX12_drops_18 : decode cX12_drops 18 = .ok (.iaload, 1) := dk_46 (dk_at dksX12_drops_0 18 rfl rfl)
theorem dX12_drops_19 : decode cX12_drops 19 = .ok (.ifCond .le 50, 3) := dk_158 0 50 (dk_at dksX12_drops_0 19 rfl rfl)
theorem dX12_drops_22 : decode cX12_drops 22 = .ok (.aload_n 0, 1) := dk_42 (dk_at dksX12_drops_0 22 rfl rfl)
theorem dX12_drops_23 : decode cX12_drops 23 = .ok (.getfield 146, 3) := dk_180 0 146 (dk_at dksX12_drops_1 0 rfl rfl)
theorem dX12_drops_26 : decode cX12_drops 26 = .ok (.bipush 6, 2) := dk_16 6 (dk_at dksX12_drops_1 3 rfl rfl)
theorem dX12_drops_28 : decode cX12_drops 28 = .ok (.bipush 6, 2) := dk_16 6 (dk_at dksX12_drops_1 5 rfl rfl)
theorem dX12_drops_30 : decode cX12_drops 30 = .ok (.iload_n 2, 1) := dk_28 (dk_at dksX12_drops_1 7 rfl rfl)
theorem dX12_drops_31 : decode cX12_drops 31 = .ok (.imul, 1) := dk_104 (dk_at dksX12_drops_1 8 rfl rfl)
theorem dX12_drops_32 : decode cX12_drops 32 = .ok (.iadd, 1) := dk_96 (dk_at dksX12_drops_1 9 rfl rfl)
theorem dX12_drops_33 : decode cX12_drops 33 = .ok (.aload_n 0, 1) := dk_42 (dk_at dksX12_drops_1 10 rfl rfl)
theorem dX12_drops_34 : decode cX12_drops 34 = .ok (.getfield 146, 3) := dk_180 0 146 (dk_at dksX12_drops_1 11 rfl rfl)
theorem dX12_drops_37 : decode cX12_drops 37 = .ok (.bipush 66, 2) := dk_16 66 (dk_at dksX12_drops_1 14 rfl rfl)
theorem dX12_drops_39 : decode cX12_drops 39 = .ok (.iload_n 1, 1) := dk_27 (dk_at dksX12_drops_1 16 rfl rfl)
theorem dX12_drops_40 : decode cX12_drops 40 = .ok (.iadd, 1) := dk_96 (dk_at dksX12_drops_1 17 rfl rfl)
theorem dX12_drops_41 : decode cX12_drops 41 = .ok (.iaload, 1) := dk_46 (dk_at dksX12_drops_1 18 rfl rfl)
theorem dX12_drops_42 : decode cX12_drops 42 = .ok (.iadd, 1) := dk_96 (dk_at dksX12_drops_1 19 rfl rfl)
theorem dX12_drops_43 : decode cX12_drops 43 = .ok (.dup2, 1) := dk_92 (dk_at dksX12_drops_1 20 rfl rfl)
theorem dX12_drops_44 : decode cX12_drops 44 = .ok (.iaload, 1) := dk_46 (dk_at dksX12_drops_1 21 rfl rfl)
theorem dX12_drops_45 : decode cX12_drops 45 = .ok (.aload_n 0, 1) := dk_42 (dk_at dksX12_drops_1 22 rfl rfl)
theorem dX12_drops_46 : decode cX12_drops 46 = .ok (.getfield 146, 3) := dk_180 0 146 (dk_at dksX12_drops_2 0 rfl rfl)
theorem dX12_drops_49 : decode cX12_drops 49 = .ok (.bipush 58, 2) := dk_16 58 (dk_at dksX12_drops_2 3 rfl rfl)
theorem dX12_drops_51 : decode cX12_drops 51 = .ok (.iload_n 1, 1) := dk_27 (dk_at dksX12_drops_2 5 rfl rfl)
theorem dX12_drops_52 : decode cX12_drops 52 = .ok (.iadd, 1) := dk_96 (dk_at dksX12_drops_2 6 rfl rfl)
theorem dX12_drops_53 : decode cX12_drops 53 = .ok (.iaload, 1) := dk_46 (dk_at dksX12_drops_2 7 rfl rfl)
theorem dX12_drops_54 : decode cX12_drops 54 = .ok (.iadd, 1) := dk_96 (dk_at dksX12_drops_2 8 rfl rfl)
theorem dX12_drops_55 : decode cX12_drops 55 = .ok (.iastore, 1) := dk_79 (dk_at dksX12_drops_2 9 rfl rfl)
theorem dX12_drops_56 : decode cX12_drops 56 = .ok (.aload_n 0, 1) := dk_42 (dk_at dksX12_drops_2 10 rfl rfl)
theorem dX12_drops_57 : decode cX12_drops 57 = .ok (.getfield 146, 3) := dk_180 0 146 (dk_at dksX12_drops_2 11 rfl rfl)
theorem dX12_drops_60 : decode cX12_drops 60 = .ok (.bipush 98, 2) := dk_16 98 (dk_at dksX12_drops_2 14 rfl rfl)
theorem dX12_drops_62 : decode cX12_drops 62 = .ok (.iload_n 1, 1) := dk_27 (dk_at dksX12_drops_2 16 rfl rfl)
theorem dX12_drops_63 : decode cX12_drops 63 = .ok (.iadd, 1) := dk_96 (dk_at dksX12_drops_2 17 rfl rfl)
theorem dX12_drops_64 : decode cX12_drops 64 = .ok (.dup2, 1) := dk_92 (dk_at dksX12_drops_2 18 rfl rfl)
theorem dX12_drops_65 : decode cX12_drops 65 = .ok (.iaload, 1) := dk_46 (dk_at dksX12_drops_2 19 rfl rfl)
theorem dX12_drops_66 : decode cX12_drops 66 = .ok (.iconst 1, 1) := dk_4 (dk_at dksX12_drops_2 20 rfl rfl)
theorem dX12_drops_67 : decode cX12_drops 67 = .ok (.iadd, 1) := dk_96 (dk_at dksX12_drops_2 21 rfl rfl)
theorem dX12_drops_68 : decode cX12_drops 68 = .ok (.iastore, 1) := dk_79 (dk_at dksX12_drops_2 22 rfl rfl)
theorem dX12_drops_69 : decode cX12_drops 69 = .ok (.aload_n 0, 1) := dk_42 (dk_at dksX12_drops_2 23 rfl rfl)
theorem dX12_drops_70 : decode cX12_drops 70 = .ok (.getfield 146, 3) := dk_180 0 146 (dk_at dksX12_drops_3 0 rfl rfl)
theorem dX12_drops_73 : decode cX12_drops 73 = .ok (.bipush 58, 2) := dk_16 58 (dk_at dksX12_drops_3 3 rfl rfl)
theorem dX12_drops_75 : decode cX12_drops 75 = .ok (.iload_n 1, 1) := dk_27 (dk_at dksX12_drops_3 5 rfl rfl)
theorem dX12_drops_76 : decode cX12_drops 76 = .ok (.iadd, 1) := dk_96 (dk_at dksX12_drops_3 6 rfl rfl)
theorem dX12_drops_77 : decode cX12_drops 77 = .ok (.iconst 0, 1) := dk_3 (dk_at dksX12_drops_3 7 rfl rfl)
theorem dX12_drops_78 : decode cX12_drops 78 = .ok (.iastore, 1) := dk_79 (dk_at dksX12_drops_3 8 rfl rfl)
theorem dX12_drops_79 : decode cX12_drops 79 = .ok (.aload_n 0, 1) := dk_42 (dk_at dksX12_drops_3 9 rfl rfl)
theorem dX12_drops_80 : decode cX12_drops 80 = .ok (.getfield 146, 3) := dk_180 0 146 (dk_at dksX12_drops_3 10 rfl rfl)
theorem dX12_drops_83 : decode cX12_drops 83 = .ok (.bipush 66, 2) := dk_16 66 (dk_at dksX12_drops_3 13 rfl rfl)
theorem dX12_drops_85 : decode cX12_drops 85 = .ok (.iload_n 1, 1) := dk_27 (dk_at dksX12_drops_3 15 rfl rfl)
theorem dX12_drops_86 : decode cX12_drops 86 = .ok (.iadd, 1) := dk_96 (dk_at dksX12_drops_3 16 rfl rfl)
theorem dX12_drops_87 : decode cX12_drops 87 = .ok (.bipush (-2), 2) := dk_16 254 (dk_at dksX12_drops_3 17 rfl rfl)
theorem dX12_drops_89 : decode cX12_drops 89 = .ok (.iastore, 1) := dk_79 (dk_at dksX12_drops_3 19 rfl rfl)
theorem dX12_drops_90 : decode cX12_drops 90 = .ok (.aload_n 0, 1) := dk_42 (dk_at dksX12_drops_3 20 rfl rfl)
theorem dX12_drops_91 : decode cX12_drops 91 = .ok (.getfield 146, 3) := dk_180 0 146 (dk_at dksX12_drops_3 21 rfl rfl)
theorem dX12_drops_94 : decode cX12_drops 94 = .ok (.bipush 106, 2) := dk_16 106 (dk_at dksX12_drops_4 0 rfl rfl)
theorem dX12_drops_96 : decode cX12_drops 96 = .ok (.iload_n 1, 1) := dk_27 (dk_at dksX12_drops_4 2 rfl rfl)
theorem dX12_drops_97 : decode cX12_drops 97 = .ok (.iadd, 1) := dk_96 (dk_at dksX12_drops_4 3 rfl rfl)
theorem dX12_drops_98 : decode cX12_drops 98 = .ok (.bipush (-2), 2) := dk_16 254 (dk_at dksX12_drops_4 4 rfl rfl)
theorem dX12_drops_100 : decode cX12_drops 100 = .ok (.iastore, 1) := dk_79 (dk_at dksX12_drops_4 6 rfl rfl)
theorem dX12_drops_101 : decode cX12_drops 101 = .ok (.aload_n 0, 1) := dk_42 (dk_at dksX12_drops_4 7 rfl rfl)
theorem dX12_drops_102 : decode cX12_drops 102 = .ok (.getfield 146, 3) := dk_180 0 146 (dk_at dksX12_drops_4 8 rfl rfl)
theorem dX12_drops_105 : decode cX12_drops 105 = .ok (.bipush 42, 2) := dk_16 42 (dk_at dksX12_drops_4 11 rfl rfl)
theorem dX12_drops_107 : decode cX12_drops 107 = .ok (.iload_n 1, 1) := dk_27 (dk_at dksX12_drops_4 13 rfl rfl)
theorem dX12_drops_108 : decode cX12_drops 108 = .ok (.iadd, 1) := dk_96 (dk_at dksX12_drops_4 14 rfl rfl)
theorem dX12_drops_109 : decode cX12_drops 109 = .ok (.iconst 2, 1) := dk_5 (dk_at dksX12_drops_4 15 rfl rfl)
theorem dX12_drops_110 : decode cX12_drops 110 = .ok (.iastore, 1) := dk_79 (dk_at dksX12_drops_4 16 rfl rfl)
theorem dX12_drops_111 : decode cX12_drops 111 = .ok (.aload_n 0, 1) := dk_42 (dk_at dksX12_drops_4 17 rfl rfl)
theorem dX12_drops_112 : decode cX12_drops 112 = .ok (.getfield 146, 3) := dk_180 0 146 (dk_at dksX12_drops_4 18 rfl rfl)
theorem dX12_drops_115 : decode cX12_drops 115 = .ok (.bipush 50, 2) := dk_16 50 (dk_at dksX12_drops_4 21 rfl rfl)
theorem dX12_drops_117 : decode cX12_drops 117 = .ok (.iload_n 1, 1) := dk_27 (dk_at dksX12_drops_4 23 rfl rfl)
theorem dX12_drops_118 : decode cX12_drops 118 = .ok (.iadd, 1) := dk_96 (dk_at dksX12_drops_5 0 rfl rfl)
theorem dX12_drops_119 : decode cX12_drops 119 = .ok (.aload_n 0, 1) := dk_42 (dk_at dksX12_drops_5 1 rfl rfl)
theorem dX12_drops_120 : decode cX12_drops 120 = .ok (.getfield 149, 3) := dk_180 0 149 (dk_at dksX12_drops_5 2 rfl rfl)
theorem dX12_drops_123 : decode cX12_drops 123 = .ok (.iload_n 2, 1) := dk_28 (dk_at dksX12_drops_5 5 rfl rfl)
theorem dX12_drops_124 : decode cX12_drops 124 = .ok (.iaload, 1) := dk_46 (dk_at dksX12_drops_5 6 rfl rfl)
theorem dX12_drops_125 : decode cX12_drops 125 = .ok (.iastore, 1) := dk_79 (dk_at dksX12_drops_5 7 rfl rfl)
theorem dX12_drops_126 : decode cX12_drops 126 = .ok (.return_, 1) := dk_177 (dk_at dksX12_drops_5 8 rfl rfl)
abbrev cX12_keeps : ByteArray := prog_24_method_68_code
def yX12_keeps : MethodName := ⟨RX12, "keeps", "()V"⟩
def dkwX12_keeps_4 : List UInt8 := [182, 0, 187, 177]
abbrev dktX12_keeps_4 : List UInt8 := dkwX12_keeps_4 ++ []
def dkwX12_keeps_3 : List UInt8 := [42, 180, 0, 143, 27, 46, 79, 132, 1, 1, 167, 255, 227, 42, 89, 180, 1, 19, 4, 96, 181, 1, 19, 42]
abbrev dktX12_keeps_3 : List UInt8 := dkwX12_keeps_3 ++ dktX12_keeps_4
def dkwX12_keeps_2 : List UInt8 := [181, 1, 19, 3, 60, 27, 16, 120, 162, 0, 29, 42, 180, 0, 155, 16, 120, 42, 180, 1, 19, 104, 27, 96]
abbrev dktX12_keeps_2 : List UInt8 := dkwX12_keeps_2 ++ dktX12_keeps_3
def dkwX12_keeps_1 : List UInt8 := [180, 0, 155, 27, 16, 120, 96, 46, 79, 132, 1, 1, 167, 255, 231, 42, 89, 180, 1, 19, 4, 100]
abbrev dktX12_keeps_1 : List UInt8 := dkwX12_keeps_1 ++ dktX12_keeps_2
def dkwX12_keeps_0 : List UInt8 := [42, 180, 1, 19, 16, 40, 160, 0, 43, 3, 60, 27, 17, 18, 72, 162, 0, 24, 42, 180, 0, 155, 27, 42]
abbrev dktX12_keeps_0 : List UInt8 := dkwX12_keeps_0 ++ dktX12_keeps_1
theorem dksX12_keeps_0 : cX12_keeps.data.toList.drop 0 = dktX12_keeps_0 := by decide +kernel
theorem dksX12_keeps_1 : cX12_keeps.data.toList.drop 24 = dktX12_keeps_1 := dk_seg dksX12_keeps_0 24 rfl rfl
theorem dksX12_keeps_2 : cX12_keeps.data.toList.drop 46 = dktX12_keeps_2 := dk_seg dksX12_keeps_1 22 rfl rfl
theorem dksX12_keeps_3 : cX12_keeps.data.toList.drop 70 = dktX12_keeps_3 := dk_seg dksX12_keeps_2 24 rfl rfl
theorem dksX12_keeps_4 : cX12_keeps.data.toList.drop 94 = dktX12_keeps_4 := dk_seg dksX12_keeps_3 24 rfl rfl
theorem dX12_keeps_0 : decode cX12_keeps 0 = .ok (.aload_n 0, 1) := dk_42 (dk_at dksX12_keeps_0 0 rfl rfl)
theorem dX12_keeps_1 : decode cX12_keeps 1 = .ok (.getfield 275, 3) := dk_180 1 19 (dk_at dksX12_keeps_0 1 rfl rfl)
theorem dX12_keeps_4 : decode cX12_keeps 4 = .ok (.bipush 40, 2) := dk_16 40 (dk_at dksX12_keeps_0 4 rfl rfl)
theorem dX12_keeps_6 : decode cX12_keeps 6 = .ok (.if_icmp .ne 43, 3) := dk_160 0 43 (dk_at dksX12_keeps_0 6 rfl rfl)
theorem dX12_keeps_9 : decode cX12_keeps 9 = .ok (.iconst 0, 1) := dk_3 (dk_at dksX12_keeps_0 9 rfl rfl)
theorem dX12_keeps_10 : decode cX12_keeps 10 = .ok (.istore_n 1, 1) := dk_60 (dk_at dksX12_keeps_0 10 rfl rfl)
theorem dX12_keeps_11 : decode cX12_keeps 11 = .ok (.iload_n 1, 1) := dk_27 (dk_at dksX12_keeps_0 11 rfl rfl)
theorem dX12_keeps_12 : decode cX12_keeps 12 = .ok (.sipush 4680, 3) := dk_17 18 72 (dk_at dksX12_keeps_0 12 rfl rfl)
theorem dX12_keeps_15 : decode cX12_keeps 15 = .ok (.if_icmp .ge 24, 3) := dk_162 0 24 (dk_at dksX12_keeps_0 15 rfl rfl)
theorem dX12_keeps_18 : decode cX12_keeps 18 = .ok (.aload_n 0, 1) := dk_42 (dk_at dksX12_keeps_0 18 rfl rfl)
theorem dX12_keeps_19 : decode cX12_keeps 19 = .ok (.getfield 155, 3) := dk_180 0 155 (dk_at dksX12_keeps_0 19 rfl rfl)
theorem dX12_keeps_22 : decode cX12_keeps 22 = .ok (.iload_n 1, 1) := dk_27 (dk_at dksX12_keeps_0 22 rfl rfl)
theorem dX12_keeps_23 : decode cX12_keeps 23 = .ok (.aload_n 0, 1) := dk_42 (dk_at dksX12_keeps_0 23 rfl rfl)
theorem dX12_keeps_24 : decode cX12_keeps 24 = .ok (.getfield 155, 3) := dk_180 0 155 (dk_at dksX12_keeps_1 0 rfl rfl)
theorem dX12_keeps_27 : decode cX12_keeps 27 = .ok (.iload_n 1, 1) := dk_27 (dk_at dksX12_keeps_1 3 rfl rfl)
theorem dX12_keeps_28 : decode cX12_keeps 28 = .ok (.bipush 120, 2) := dk_16 120 (dk_at dksX12_keeps_1 4 rfl rfl)
theorem dX12_keeps_30 : decode cX12_keeps 30 = .ok (.iadd, 1) := dk_96 (dk_at dksX12_keeps_1 6 rfl rfl)
theorem dX12_keeps_31 : decode cX12_keeps 31 = .ok (.iaload, 1) := dk_46 (dk_at dksX12_keeps_1 7 rfl rfl)
theorem dX12_keeps_32 : decode cX12_keeps 32 = .ok (.iastore, 1) := dk_79 (dk_at dksX12_keeps_1 8 rfl rfl)
theorem dX12_keeps_33 : decode cX12_keeps 33 = .ok (.iinc 1 1, 3) := dk_132 1 1 (dk_at dksX12_keeps_1 9 rfl rfl)
theorem dX12_keeps_36 : decode cX12_keeps 36 = .ok (.goto (-25), 3) := dk_167 255 231 (dk_at dksX12_keeps_1 12 rfl rfl)
theorem dX12_keeps_39 : decode cX12_keeps 39 = .ok (.aload_n 0, 1) := dk_42 (dk_at dksX12_keeps_1 15 rfl rfl)
theorem dX12_keeps_40 : decode cX12_keeps 40 = .ok (.dup, 1) := dk_89 (dk_at dksX12_keeps_1 16 rfl rfl)
theorem dX12_keeps_41 : decode cX12_keeps 41 = .ok (.getfield 275, 3) := dk_180 1 19 (dk_at dksX12_keeps_1 17 rfl rfl)
theorem dX12_keeps_44 : decode cX12_keeps 44 = .ok (.iconst 1, 1) := dk_4 (dk_at dksX12_keeps_1 20 rfl rfl)
theorem dX12_keeps_45 : decode cX12_keeps 45 = .ok (.isub, 1) := dk_100 (dk_at dksX12_keeps_1 21 rfl rfl)
theorem dX12_keeps_46 : decode cX12_keeps 46 = .ok (.putfield 275, 3) := dk_181 1 19 (dk_at dksX12_keeps_2 0 rfl rfl)
theorem dX12_keeps_49 : decode cX12_keeps 49 = .ok (.iconst 0, 1) := dk_3 (dk_at dksX12_keeps_2 3 rfl rfl)
theorem dX12_keeps_50 : decode cX12_keeps 50 = .ok (.istore_n 1, 1) := dk_60 (dk_at dksX12_keeps_2 4 rfl rfl)
theorem dX12_keeps_51 : decode cX12_keeps 51 = .ok (.iload_n 1, 1) := dk_27 (dk_at dksX12_keeps_2 5 rfl rfl)
theorem dX12_keeps_52 : decode cX12_keeps 52 = .ok (.bipush 120, 2) := dk_16 120 (dk_at dksX12_keeps_2 6 rfl rfl)
theorem dX12_keeps_54 : decode cX12_keeps 54 = .ok (.if_icmp .ge 29, 3) := dk_162 0 29 (dk_at dksX12_keeps_2 8 rfl rfl)
theorem dX12_keeps_57 : decode cX12_keeps 57 = .ok (.aload_n 0, 1) := dk_42 (dk_at dksX12_keeps_2 11 rfl rfl)
theorem dX12_keeps_58 : decode cX12_keeps 58 = .ok (.getfield 155, 3) := dk_180 0 155 (dk_at dksX12_keeps_2 12 rfl rfl)
theorem dX12_keeps_61 : decode cX12_keeps 61 = .ok (.bipush 120, 2) := dk_16 120 (dk_at dksX12_keeps_2 15 rfl rfl)
theorem dX12_keeps_63 : decode cX12_keeps 63 = .ok (.aload_n 0, 1) := dk_42 (dk_at dksX12_keeps_2 17 rfl rfl)
theorem dX12_keeps_64 : decode cX12_keeps 64 = .ok (.getfield 275, 3) := dk_180 1 19 (dk_at dksX12_keeps_2 18 rfl rfl)
theorem dX12_keeps_67 : decode cX12_keeps 67 = .ok (.imul, 1) := dk_104 (dk_at dksX12_keeps_2 21 rfl rfl)
theorem dX12_keeps_68 : decode cX12_keeps 68 = .ok (.iload_n 1, 1) := dk_27 (dk_at dksX12_keeps_2 22 rfl rfl)
theorem dX12_keeps_69 : decode cX12_keeps 69 = .ok (.iadd, 1) := dk_96 (dk_at dksX12_keeps_2 23 rfl rfl)
theorem dX12_keeps_70 : decode cX12_keeps 70 = .ok (.aload_n 0, 1) := dk_42 (dk_at dksX12_keeps_3 0 rfl rfl)
theorem dX12_keeps_71 : decode cX12_keeps 71 = .ok (.getfield 143, 3) := dk_180 0 143 (dk_at dksX12_keeps_3 1 rfl rfl)
theorem dX12_keeps_74 : decode cX12_keeps 74 = .ok (.iload_n 1, 1) := dk_27 (dk_at dksX12_keeps_3 4 rfl rfl)
theorem dX12_keeps_75 : decode cX12_keeps 75 = .ok (.iaload, 1) := dk_46 (dk_at dksX12_keeps_3 5 rfl rfl)
theorem dX12_keeps_76 : decode cX12_keeps 76 = .ok (.iastore, 1) := dk_79 (dk_at dksX12_keeps_3 6 rfl rfl)
theorem dX12_keeps_77 : decode cX12_keeps 77 = .ok (.iinc 1 1, 3) := dk_132 1 1 (dk_at dksX12_keeps_3 7 rfl rfl)
theorem dX12_keeps_80 : decode cX12_keeps 80 = .ok (.goto (-29), 3) := dk_167 255 227 (dk_at dksX12_keeps_3 10 rfl rfl)
theorem dX12_keeps_83 : decode cX12_keeps 83 = .ok (.aload_n 0, 1) := dk_42 (dk_at dksX12_keeps_3 13 rfl rfl)
theorem dX12_keeps_84 : decode cX12_keeps 84 = .ok (.dup, 1) := dk_89 (dk_at dksX12_keeps_3 14 rfl rfl)
theorem dX12_keeps_85 : decode cX12_keeps 85 = .ok (.getfield 275, 3) := dk_180 1 19 (dk_at dksX12_keeps_3 15 rfl rfl)
theorem dX12_keeps_88 : decode cX12_keeps 88 = .ok (.iconst 1, 1) := dk_4 (dk_at dksX12_keeps_3 18 rfl rfl)
theorem dX12_keeps_89 : decode cX12_keeps 89 = .ok (.iadd, 1) := dk_96 (dk_at dksX12_keeps_3 19 rfl rfl)
theorem dX12_keeps_90 : decode cX12_keeps 90 = .ok (.putfield 275, 3) := dk_181 1 19 (dk_at dksX12_keeps_3 20 rfl rfl)
theorem dX12_keeps_93 : decode cX12_keeps 93 = .ok (.aload_n 0, 1) := dk_42 (dk_at dksX12_keeps_3 23 rfl rfl)
theorem dX12_keeps_94 : decode cX12_keeps 94 = .ok (.invokevirtual 187, 3) := dk_182 0 187 (dk_at dksX12_keeps_4 0 rfl rfl)
theorem dX12_keeps_97 : decode cX12_keeps 97 = .ok (.return_, 1) := dk_177 (dk_at dksX12_keeps_4 3 rfl rfl)
abbrev cX12_pour : ByteArray := prog_24_method_70_code
def yX12_pour : MethodName := ⟨RX12, "pour", "(II)I"⟩
def dkwX12_pour_2 : List UInt8 := [79, 42, 182, 1, 148, 42, 180, 0, 143, 27, 46, 172]
abbrev dktX12_pour_2 : List UInt8 := dkwX12_pour_2 ++ []
def dkwX12_pour_1 : List UInt8 := [46, 28, 96, 17, 39, 15, 164, 0, 5, 2, 172, 42, 182, 1, 139, 42, 180, 0, 146, 27, 92, 46, 28, 96]
abbrev dktX12_pour_1 : List UInt8 := dkwX12_pour_1 ++ dktX12_pour_2
def dkwX12_pour_0 : List UInt8 := [42, 27, 182, 1, 130, 153, 0, 28, 28, 4, 17, 39, 15, 184, 1, 94, 153, 0, 17, 42, 180, 0, 143, 27]
abbrev dktX12_pour_0 : List UInt8 := dkwX12_pour_0 ++ dktX12_pour_1
theorem dksX12_pour_0 : cX12_pour.data.toList.drop 0 = dktX12_pour_0 := by decide +kernel
theorem dksX12_pour_1 : cX12_pour.data.toList.drop 24 = dktX12_pour_1 := dk_seg dksX12_pour_0 24 rfl rfl
theorem dksX12_pour_2 : cX12_pour.data.toList.drop 48 = dktX12_pour_2 := dk_seg dksX12_pour_1 24 rfl rfl
theorem dX12_pour_0 : decode cX12_pour 0 = .ok (.aload_n 0, 1) := dk_42 (dk_at dksX12_pour_0 0 rfl rfl)
theorem dX12_pour_1 : decode cX12_pour 1 = .ok (.iload_n 1, 1) := dk_27 (dk_at dksX12_pour_0 1 rfl rfl)
theorem dX12_pour_2 : decode cX12_pour 2 = .ok (.invokevirtual 386, 3) := dk_182 1 130 (dk_at dksX12_pour_0 2 rfl rfl)
theorem dX12_pour_5 : decode cX12_pour 5 = .ok (.ifCond .eq 28, 3) := dk_153 0 28 (dk_at dksX12_pour_0 5 rfl rfl)
theorem dX12_pour_8 : decode cX12_pour 8 = .ok (.iload_n 2, 1) := dk_28 (dk_at dksX12_pour_0 8 rfl rfl)
theorem dX12_pour_9 : decode cX12_pour 9 = .ok (.iconst 1, 1) := dk_4 (dk_at dksX12_pour_0 9 rfl rfl)
theorem dX12_pour_10 : decode cX12_pour 10 = .ok (.sipush 9999, 3) := dk_17 39 15 (dk_at dksX12_pour_0 10 rfl rfl)
theorem dX12_pour_13 : decode cX12_pour 13 = .ok (.invokestatic 350, 3) := dk_184 1 94 (dk_at dksX12_pour_0 13 rfl rfl)
theorem dX12_pour_16 : decode cX12_pour 16 = .ok (.ifCond .eq 17, 3) := dk_153 0 17 (dk_at dksX12_pour_0 16 rfl rfl)
theorem dX12_pour_19 : decode cX12_pour 19 = .ok (.aload_n 0, 1) := dk_42 (dk_at dksX12_pour_0 19 rfl rfl)
theorem dX12_pour_20 : decode cX12_pour 20 = .ok (.getfield 143, 3) := dk_180 0 143 (dk_at dksX12_pour_0 20 rfl rfl)
theorem dX12_pour_23 : decode cX12_pour 23 = .ok (.iload_n 1, 1) := dk_27 (dk_at dksX12_pour_0 23 rfl rfl)
theorem dX12_pour_24 : decode cX12_pour 24 = .ok (.iaload, 1) := dk_46 (dk_at dksX12_pour_1 0 rfl rfl)
theorem dX12_pour_25 : decode cX12_pour 25 = .ok (.iload_n 2, 1) := dk_28 (dk_at dksX12_pour_1 1 rfl rfl)
theorem dX12_pour_26 : decode cX12_pour 26 = .ok (.iadd, 1) := dk_96 (dk_at dksX12_pour_1 2 rfl rfl)
theorem dX12_pour_27 : decode cX12_pour 27 = .ok (.sipush 9999, 3) := dk_17 39 15 (dk_at dksX12_pour_1 3 rfl rfl)
theorem dX12_pour_30 : decode cX12_pour 30 = .ok (.if_icmp .le 5, 3) := dk_164 0 5 (dk_at dksX12_pour_1 6 rfl rfl)
theorem dX12_pour_33 : decode cX12_pour 33 = .ok (.iconst (-1), 1) := dk_2 (dk_at dksX12_pour_1 9 rfl rfl)
theorem dX12_pour_34 : decode cX12_pour 34 = .ok (.ireturn, 1) := dk_172 (dk_at dksX12_pour_1 10 rfl rfl)
theorem dX12_pour_35 : decode cX12_pour 35 = .ok (.aload_n 0, 1) := dk_42 (dk_at dksX12_pour_1 11 rfl rfl)
theorem dX12_pour_36 : decode cX12_pour 36 = .ok (.invokevirtual 395, 3) := dk_182 1 139 (dk_at dksX12_pour_1 12 rfl rfl)
theorem dX12_pour_39 : decode cX12_pour 39 = .ok (.aload_n 0, 1) := dk_42 (dk_at dksX12_pour_1 15 rfl rfl)
theorem dX12_pour_40 : decode cX12_pour 40 = .ok (.getfield 146, 3) := dk_180 0 146 (dk_at dksX12_pour_1 16 rfl rfl)
theorem dX12_pour_43 : decode cX12_pour 43 = .ok (.iload_n 1, 1) := dk_27 (dk_at dksX12_pour_1 19 rfl rfl)
theorem dX12_pour_44 : decode cX12_pour 44 = .ok (.dup2, 1) := dk_92 (dk_at dksX12_pour_1 20 rfl rfl)
theorem dX12_pour_45 : decode cX12_pour 45 = .ok (.iaload, 1) := dk_46 (dk_at dksX12_pour_1 21 rfl rfl)
theorem dX12_pour_46 : decode cX12_pour 46 = .ok (.iload_n 2, 1) := dk_28 (dk_at dksX12_pour_1 22 rfl rfl)
theorem dX12_pour_47 : decode cX12_pour 47 = .ok (.iadd, 1) := dk_96 (dk_at dksX12_pour_1 23 rfl rfl)
theorem dX12_pour_48 : decode cX12_pour 48 = .ok (.iastore, 1) := dk_79 (dk_at dksX12_pour_2 0 rfl rfl)
theorem dX12_pour_49 : decode cX12_pour 49 = .ok (.aload_n 0, 1) := dk_42 (dk_at dksX12_pour_2 1 rfl rfl)
theorem dX12_pour_50 : decode cX12_pour 50 = .ok (.invokevirtual 404, 3) := dk_182 1 148 (dk_at dksX12_pour_2 2 rfl rfl)
theorem dX12_pour_53 : decode cX12_pour 53 = .ok (.aload_n 0, 1) := dk_42 (dk_at dksX12_pour_2 5 rfl rfl)
theorem dX12_pour_54 : decode cX12_pour 54 = .ok (.getfield 143, 3) := dk_180 0 143 (dk_at dksX12_pour_2 6 rfl rfl)
theorem dX12_pour_57 : decode cX12_pour 57 = .ok (.iload_n 1, 1) := dk_27 (dk_at dksX12_pour_2 9 rfl rfl)
theorem dX12_pour_58 : decode cX12_pour 58 = .ok (.iaload, 1) := dk_46 (dk_at dksX12_pour_2 10 rfl rfl)
theorem dX12_pour_59 : decode cX12_pour 59 = .ok (.ireturn, 1) := dk_172 (dk_at dksX12_pour_2 11 rfl rfl)
abbrev cX12_swap : ByteArray := prog_24_method_72_code
def yX12_swap : MethodName := ⟨RX12, "swap", "(II)Z"⟩
def dkwX12_swap_1 : List UInt8 := [182, 1, 139, 42, 27, 28, 182, 1, 151, 42, 182, 1, 148, 4, 172]
abbrev dktX12_swap_1 : List UInt8 := dkwX12_swap_1 ++ []
def dkwX12_swap_0 : List UInt8 := [42, 27, 182, 1, 133, 153, 0, 16, 42, 28, 182, 1, 133, 153, 0, 8, 27, 28, 160, 0, 5, 3, 172, 42]
abbrev dktX12_swap_0 : List UInt8 := dkwX12_swap_0 ++ dktX12_swap_1
theorem dksX12_swap_0 : cX12_swap.data.toList.drop 0 = dktX12_swap_0 := by decide +kernel
theorem dksX12_swap_1 : cX12_swap.data.toList.drop 24 = dktX12_swap_1 := dk_seg dksX12_swap_0 24 rfl rfl
theorem dX12_swap_0 : decode cX12_swap 0 = .ok (.aload_n 0, 1) := dk_42 (dk_at dksX12_swap_0 0 rfl rfl)
theorem dX12_swap_1 : decode cX12_swap 1 = .ok (.iload_n 1, 1) := dk_27 (dk_at dksX12_swap_0 1 rfl rfl)
theorem dX12_swap_2 : decode cX12_swap 2 = .ok (.invokevirtual 389, 3) := dk_182 1 133 (dk_at dksX12_swap_0 2 rfl rfl)
theorem dX12_swap_5 : decode cX12_swap 5 = .ok (.ifCond .eq 16, 3) := dk_153 0 16 (dk_at dksX12_swap_0 5 rfl rfl)
theorem dX12_swap_8 : decode cX12_swap 8 = .ok (.aload_n 0, 1) := dk_42 (dk_at dksX12_swap_0 8 rfl rfl)
theorem dX12_swap_9 : decode cX12_swap 9 = .ok (.iload_n 2, 1) := dk_28 (dk_at dksX12_swap_0 9 rfl rfl)
theorem dX12_swap_10 : decode cX12_swap 10 = .ok (.invokevirtual 389, 3) := dk_182 1 133 (dk_at dksX12_swap_0 10 rfl rfl)
theorem dX12_swap_13 : decode cX12_swap 13 = .ok (.ifCond .eq 8, 3) := dk_153 0 8 (dk_at dksX12_swap_0 13 rfl rfl)
theorem dX12_swap_16 : decode cX12_swap 16 = .ok (.iload_n 1, 1) := dk_27 (dk_at dksX12_swap_0 16 rfl rfl)
theorem dX12_swap_17 : decode cX12_swap 17 = .ok (.iload_n 2, 1) := dk_28 (dk_at dksX12_swap_0 17 rfl rfl)
theorem dX12_swap_18 : decode cX12_swap 18 = .ok (.if_icmp .ne 5, 3) := dk_160 0 5 (dk_at dksX12_swap_0 18 rfl rfl)
theorem dX12_swap_21 : decode cX12_swap 21 = .ok (.iconst 0, 1) := dk_3 (dk_at dksX12_swap_0 21 rfl rfl)
theorem dX12_swap_22 : decode cX12_swap 22 = .ok (.ireturn, 1) := dk_172 (dk_at dksX12_swap_0 22 rfl rfl)
theorem dX12_swap_23 : decode cX12_swap 23 = .ok (.aload_n 0, 1) := dk_42 (dk_at dksX12_swap_0 23 rfl rfl)
theorem dX12_swap_24 : decode cX12_swap 24 = .ok (.invokevirtual 395, 3) := dk_182 1 139 (dk_at dksX12_swap_1 0 rfl rfl)
theorem dX12_swap_27 : decode cX12_swap 27 = .ok (.aload_n 0, 1) := dk_42 (dk_at dksX12_swap_1 3 rfl rfl)
theorem dX12_swap_28 : decode cX12_swap 28 = .ok (.iload_n 1, 1) := dk_27 (dk_at dksX12_swap_1 4 rfl rfl)
theorem dX12_swap_29 : decode cX12_swap 29 = .ok (.iload_n 2, 1) := dk_28 (dk_at dksX12_swap_1 5 rfl rfl)
theorem dX12_swap_30 : decode cX12_swap 30 = .ok (.invokevirtual 407, 3) := dk_182 1 151 (dk_at dksX12_swap_1 6 rfl rfl)
theorem dX12_swap_33 : decode cX12_swap 33 = .ok (.aload_n 0, 1) := dk_42 (dk_at dksX12_swap_1 9 rfl rfl)
theorem dX12_swap_34 : decode cX12_swap 34 = .ok (.invokevirtual 404, 3) := dk_182 1 148 (dk_at dksX12_swap_1 10 rfl rfl)
theorem dX12_swap_37 : decode cX12_swap 37 = .ok (.iconst 1, 1) := dk_4 (dk_at dksX12_swap_1 13 rfl rfl)
theorem dX12_swap_38 : decode cX12_swap 38 = .ok (.ireturn, 1) := dk_172 (dk_at dksX12_swap_1 14 rfl rfl)
abbrev cX12_swaps : ByteArray := prog_24_method_71_code
def yX12_swaps : MethodName := ⟨RX12, "swaps", "(II)V"⟩
def dkwX12_swaps_3 : List UInt8 := [167, 255, 187, 177]
abbrev dktX12_swaps_3 : List UInt8 := dkwX12_swaps_3 ++ []
def dkwX12_swaps_2 : List UInt8 := [29, 96, 46, 79, 42, 180, 0, 146, 16, 6, 16, 6, 28, 104, 96, 29, 96, 21, 4, 79, 132, 3, 1]
abbrev dktX12_swaps_2 : List UInt8 := dkwX12_swaps_2 ++ dktX12_swaps_3
def dkwX12_swaps_1 : List UInt8 := [42, 180, 0, 146, 16, 6, 16, 6, 27, 104, 96, 29, 96, 42, 180, 0, 146, 16, 6, 16, 6, 28, 104, 96]
abbrev dktX12_swaps_1 : List UInt8 := dkwX12_swaps_1 ++ dktX12_swaps_2
def dkwX12_swaps_0 : List UInt8 := [3, 62, 29, 16, 6, 162, 0, 69, 42, 180, 0, 146, 16, 6, 16, 6, 27, 104, 96, 29, 96, 46, 54, 4]
abbrev dktX12_swaps_0 : List UInt8 := dkwX12_swaps_0 ++ dktX12_swaps_1
theorem dksX12_swaps_0 : cX12_swaps.data.toList.drop 0 = dktX12_swaps_0 := by decide +kernel
theorem dksX12_swaps_1 : cX12_swaps.data.toList.drop 24 = dktX12_swaps_1 := dk_seg dksX12_swaps_0 24 rfl rfl
theorem dksX12_swaps_2 : cX12_swaps.data.toList.drop 48 = dktX12_swaps_2 := dk_seg dksX12_swaps_1 24 rfl rfl
theorem dksX12_swaps_3 : cX12_swaps.data.toList.drop 71 = dktX12_swaps_3 := dk_seg dksX12_swaps_2 23 rfl rfl
theorem dX12_swaps_0 : decode cX12_swaps 0 = .ok (.iconst 0, 1) := dk_3 (dk_at dksX12_swaps_0 0 rfl rfl)
theorem dX12_swaps_1 : decode cX12_swaps 1 = .ok (.istore_n 3, 1) := dk_62 (dk_at dksX12_swaps_0 1 rfl rfl)
theorem dX12_swaps_2 : decode cX12_swaps 2 = .ok (.iload_n 3, 1) := dk_29 (dk_at dksX12_swaps_0 2 rfl rfl)
theorem dX12_swaps_3 : decode cX12_swaps 3 = .ok (.bipush 6, 2) := dk_16 6 (dk_at dksX12_swaps_0 3 rfl rfl)
theorem dX12_swaps_5 : decode cX12_swaps 5 = .ok (.if_icmp .ge 69, 3) := dk_162 0 69 (dk_at dksX12_swaps_0 5 rfl rfl)
theorem dX12_swaps_8 : decode cX12_swaps 8 = .ok (.aload_n 0, 1) := dk_42 (dk_at dksX12_swaps_0 8 rfl rfl)
theorem dX12_swaps_9 : decode cX12_swaps 9 = .ok (.getfield 146, 3) := dk_180 0 146 (dk_at dksX12_swaps_0 9 rfl rfl)
theorem dX12_swaps_12 : decode cX12_swaps 12 = .ok (.bipush 6, 2) := dk_16 6 (dk_at dksX12_swaps_0 12 rfl rfl)
theorem dX12_swaps_14 : decode cX12_swaps 14 = .ok (.bipush 6, 2) := dk_16 6 (dk_at dksX12_swaps_0 14 rfl rfl)
theorem dX12_swaps_16 : decode cX12_swaps 16 = .ok (.iload_n 1, 1) := dk_27 (dk_at dksX12_swaps_0 16 rfl rfl)
theorem dX12_swaps_17 : decode cX12_swaps 17 = .ok (.imul, 1) := dk_104 (dk_at dksX12_swaps_0 17 rfl rfl)
theorem dX12_swaps_18 : decode cX12_swaps 18 = .ok (.iadd, 1) := dk_96 (dk_at dksX12_swaps_0 18 rfl rfl)
theorem dX12_swaps_19 : decode cX12_swaps 19 = .ok (.iload_n 3, 1) := dk_29 (dk_at dksX12_swaps_0 19 rfl rfl)
theorem dX12_swaps_20 : decode cX12_swaps 20 = .ok (.iadd, 1) := dk_96 (dk_at dksX12_swaps_0 20 rfl rfl)
theorem dX12_swaps_21 : decode cX12_swaps 21 = .ok (.iaload, 1) := dk_46 (dk_at dksX12_swaps_0 21 rfl rfl)
theorem dX12_swaps_22 : decode cX12_swaps 22 = .ok (.istore 4, 2) := dk_54 4 (dk_at dksX12_swaps_0 22 rfl rfl)
theorem dX12_swaps_24 : decode cX12_swaps 24 = .ok (.aload_n 0, 1) := dk_42 (dk_at dksX12_swaps_1 0 rfl rfl)
theorem dX12_swaps_25 : decode cX12_swaps 25 = .ok (.getfield 146, 3) := dk_180 0 146 (dk_at dksX12_swaps_1 1 rfl rfl)
theorem dX12_swaps_28 : decode cX12_swaps 28 = .ok (.bipush 6, 2) := dk_16 6 (dk_at dksX12_swaps_1 4 rfl rfl)
theorem dX12_swaps_30 : decode cX12_swaps 30 = .ok (.bipush 6, 2) := dk_16 6 (dk_at dksX12_swaps_1 6 rfl rfl)
theorem dX12_swaps_32 : decode cX12_swaps 32 = .ok (.iload_n 1, 1) := dk_27 (dk_at dksX12_swaps_1 8 rfl rfl)
theorem dX12_swaps_33 : decode cX12_swaps 33 = .ok (.imul, 1) := dk_104 (dk_at dksX12_swaps_1 9 rfl rfl)
theorem dX12_swaps_34 : decode cX12_swaps 34 = .ok (.iadd, 1) := dk_96 (dk_at dksX12_swaps_1 10 rfl rfl)
theorem dX12_swaps_35 : decode cX12_swaps 35 = .ok (.iload_n 3, 1) := dk_29 (dk_at dksX12_swaps_1 11 rfl rfl)
theorem dX12_swaps_36 : decode cX12_swaps 36 = .ok (.iadd, 1) := dk_96 (dk_at dksX12_swaps_1 12 rfl rfl)
theorem dX12_swaps_37 : decode cX12_swaps 37 = .ok (.aload_n 0, 1) := dk_42 (dk_at dksX12_swaps_1 13 rfl rfl)
theorem dX12_swaps_38 : decode cX12_swaps 38 = .ok (.getfield 146, 3) := dk_180 0 146 (dk_at dksX12_swaps_1 14 rfl rfl)
theorem dX12_swaps_41 : decode cX12_swaps 41 = .ok (.bipush 6, 2) := dk_16 6 (dk_at dksX12_swaps_1 17 rfl rfl)
theorem dX12_swaps_43 : decode cX12_swaps 43 = .ok (.bipush 6, 2) := dk_16 6 (dk_at dksX12_swaps_1 19 rfl rfl)
theorem dX12_swaps_45 : decode cX12_swaps 45 = .ok (.iload_n 2, 1) := dk_28 (dk_at dksX12_swaps_1 21 rfl rfl)
theorem dX12_swaps_46 : decode cX12_swaps 46 = .ok (.imul, 1) := dk_104 (dk_at dksX12_swaps_1 22 rfl rfl)
theorem dX12_swaps_47 : decode cX12_swaps 47 = .ok (.iadd, 1) := dk_96 (dk_at dksX12_swaps_1 23 rfl rfl)
theorem dX12_swaps_48 : decode cX12_swaps 48 = .ok (.iload_n 3, 1) := dk_29 (dk_at dksX12_swaps_2 0 rfl rfl)
theorem dX12_swaps_49 : decode cX12_swaps 49 = .ok (.iadd, 1) := dk_96 (dk_at dksX12_swaps_2 1 rfl rfl)
theorem dX12_swaps_50 : decode cX12_swaps 50 = .ok (.iaload, 1) := dk_46 (dk_at dksX12_swaps_2 2 rfl rfl)
theorem dX12_swaps_51 : decode cX12_swaps 51 = .ok (.iastore, 1) := dk_79 (dk_at dksX12_swaps_2 3 rfl rfl)
theorem dX12_swaps_52 : decode cX12_swaps 52 = .ok (.aload_n 0, 1) := dk_42 (dk_at dksX12_swaps_2 4 rfl rfl)
theorem dX12_swaps_53 : decode cX12_swaps 53 = .ok (.getfield 146, 3) := dk_180 0 146 (dk_at dksX12_swaps_2 5 rfl rfl)
theorem dX12_swaps_56 : decode cX12_swaps 56 = .ok (.bipush 6, 2) := dk_16 6 (dk_at dksX12_swaps_2 8 rfl rfl)
theorem dX12_swaps_58 : decode cX12_swaps 58 = .ok (.bipush 6, 2) := dk_16 6 (dk_at dksX12_swaps_2 10 rfl rfl)
theorem dX12_swaps_60 : decode cX12_swaps 60 = .ok (.iload_n 2, 1) := dk_28 (dk_at dksX12_swaps_2 12 rfl rfl)
theorem dX12_swaps_61 : decode cX12_swaps 61 = .ok (.imul, 1) := dk_104 (dk_at dksX12_swaps_2 13 rfl rfl)
theorem dX12_swaps_62 : decode cX12_swaps 62 = .ok (.iadd, 1) := dk_96 (dk_at dksX12_swaps_2 14 rfl rfl)
theorem dX12_swaps_63 : decode cX12_swaps 63 = .ok (.iload_n 3, 1) := dk_29 (dk_at dksX12_swaps_2 15 rfl rfl)
theorem dX12_swaps_64 : decode cX12_swaps 64 = .ok (.iadd, 1) := dk_96 (dk_at dksX12_swaps_2 16 rfl rfl)
theorem dX12_swaps_65 : decode cX12_swaps 65 = .ok (.iload 4, 2) := dk_21 4 (dk_at dksX12_swaps_2 17 rfl rfl)
theorem dX12_swaps_67 : decode cX12_swaps 67 = .ok (.iastore, 1) := dk_79 (dk_at dksX12_swaps_2 19 rfl rfl)
theorem dX12_swaps_68 : decode cX12_swaps 68 = .ok (.iinc 3 1, 3) := dk_132 3 1 (dk_at dksX12_swaps_2 20 rfl rfl)
theorem dX12_swaps_71 : decode cX12_swaps 71 = .ok (.goto (-69), 3) := dk_167 255 187 (dk_at dksX12_swaps_3 0 rfl rfl)
theorem dX12_swaps_74 : decode cX12_swaps 74 = .ok (.return_, 1) := dk_177 (dk_at dksX12_swaps_3 3 rfl rfl)
abbrev cX12_teach : ByteArray := prog_24_method_73_code
def yX12_teach : MethodName := ⟨RX12, "teach", "(II)Z"⟩
def dkwX12_teach_2 : List UInt8 := [182, 1, 148, 4, 172]
abbrev dktX12_teach_2 : List UInt8 := dkwX12_teach_2 ++ []
def dkwX12_teach_1 : List UInt8 := [46, 28, 160, 0, 5, 3, 172, 42, 182, 1, 139, 42, 180, 0, 146, 16, 90, 27, 96, 28, 79, 42]
abbrev dktX12_teach_1 : List UInt8 := dkwX12_teach_1 ++ dktX12_teach_2
def dkwX12_teach_0 : List UInt8 := [42, 27, 182, 1, 136, 153, 0, 24, 42, 28, 182, 1, 130, 153, 0, 16, 42, 180, 0, 143, 16, 90, 27, 96]
abbrev dktX12_teach_0 : List UInt8 := dkwX12_teach_0 ++ dktX12_teach_1
theorem dksX12_teach_0 : cX12_teach.data.toList.drop 0 = dktX12_teach_0 := by decide +kernel
theorem dksX12_teach_1 : cX12_teach.data.toList.drop 24 = dktX12_teach_1 := dk_seg dksX12_teach_0 24 rfl rfl
theorem dksX12_teach_2 : cX12_teach.data.toList.drop 46 = dktX12_teach_2 := dk_seg dksX12_teach_1 22 rfl rfl
theorem dX12_teach_0 : decode cX12_teach 0 = .ok (.aload_n 0, 1) := dk_42 (dk_at dksX12_teach_0 0 rfl rfl)
theorem dX12_teach_1 : decode cX12_teach 1 = .ok (.iload_n 1, 1) := dk_27 (dk_at dksX12_teach_0 1 rfl rfl)
theorem dX12_teach_2 : decode cX12_teach 2 = .ok (.invokevirtual 392, 3) := dk_182 1 136 (dk_at dksX12_teach_0 2 rfl rfl)
theorem dX12_teach_5 : decode cX12_teach 5 = .ok (.ifCond .eq 24, 3) := dk_153 0 24 (dk_at dksX12_teach_0 5 rfl rfl)
theorem dX12_teach_8 : decode cX12_teach 8 = .ok (.aload_n 0, 1) := dk_42 (dk_at dksX12_teach_0 8 rfl rfl)
theorem dX12_teach_9 : decode cX12_teach 9 = .ok (.iload_n 2, 1) := dk_28 (dk_at dksX12_teach_0 9 rfl rfl)
theorem dX12_teach_10 : decode cX12_teach 10 = .ok (.invokevirtual 386, 3) := dk_182 1 130 (dk_at dksX12_teach_0 10 rfl rfl)
theorem dX12_teach_13 : decode cX12_teach 13 = .ok (.ifCond .eq 16, 3) := dk_153 0 16 (dk_at dksX12_teach_0 13 rfl rfl)
theorem dX12_teach_16 : decode cX12_teach 16 = .ok (.aload_n 0, 1) := dk_42 (dk_at dksX12_teach_0 16 rfl rfl)
theorem dX12_teach_17 : decode cX12_teach 17 = .ok (.getfield 143, 3) := dk_180 0 143 (dk_at dksX12_teach_0 17 rfl rfl)
theorem dX12_teach_20 : decode cX12_teach 20 = .ok (.bipush 90, 2) := dk_16 90 (dk_at dksX12_teach_0 20 rfl rfl)
theorem dX12_teach_22 : decode cX12_teach 22 = .ok (.iload_n 1, 1) := dk_27 (dk_at dksX12_teach_0 22 rfl rfl)
theorem dX12_teach_23 : decode cX12_teach 23 = .ok (.iadd, 1) := dk_96 (dk_at dksX12_teach_0 23 rfl rfl)
theorem dX12_teach_24 : decode cX12_teach 24 = .ok (.iaload, 1) := dk_46 (dk_at dksX12_teach_1 0 rfl rfl)
theorem dX12_teach_25 : decode cX12_teach 25 = .ok (.iload_n 2, 1) := dk_28 (dk_at dksX12_teach_1 1 rfl rfl)
theorem dX12_teach_26 : decode cX12_teach 26 = .ok (.if_icmp .ne 5, 3) := dk_160 0 5 (dk_at dksX12_teach_1 2 rfl rfl)
theorem dX12_teach_29 : decode cX12_teach 29 = .ok (.iconst 0, 1) := dk_3 (dk_at dksX12_teach_1 5 rfl rfl)
theorem dX12_teach_30 : decode cX12_teach 30 = .ok (.ireturn, 1) := dk_172 (dk_at dksX12_teach_1 6 rfl rfl)
theorem dX12_teach_31 : decode cX12_teach 31 = .ok (.aload_n 0, 1) := dk_42 (dk_at dksX12_teach_1 7 rfl rfl)
theorem dX12_teach_32 : decode cX12_teach 32 = .ok (.invokevirtual 395, 3) := dk_182 1 139 (dk_at dksX12_teach_1 8 rfl rfl)
theorem dX12_teach_35 : decode cX12_teach 35 = .ok (.aload_n 0, 1) := dk_42 (dk_at dksX12_teach_1 11 rfl rfl)
theorem dX12_teach_36 : decode cX12_teach 36 = .ok (.getfield 146, 3) := dk_180 0 146 (dk_at dksX12_teach_1 12 rfl rfl)
theorem dX12_teach_39 : decode cX12_teach 39 = .ok (.bipush 90, 2) := dk_16 90 (dk_at dksX12_teach_1 15 rfl rfl)
theorem dX12_teach_41 : decode cX12_teach 41 = .ok (.iload_n 1, 1) := dk_27 (dk_at dksX12_teach_1 17 rfl rfl)
theorem dX12_teach_42 : decode cX12_teach 42 = .ok (.iadd, 1) := dk_96 (dk_at dksX12_teach_1 18 rfl rfl)
theorem dX12_teach_43 : decode cX12_teach 43 = .ok (.iload_n 2, 1) := dk_28 (dk_at dksX12_teach_1 19 rfl rfl)
theorem dX12_teach_44 : decode cX12_teach 44 = .ok (.iastore, 1) := dk_79 (dk_at dksX12_teach_1 20 rfl rfl)
theorem dX12_teach_45 : decode cX12_teach 45 = .ok (.aload_n 0, 1) := dk_42 (dk_at dksX12_teach_1 21 rfl rfl)
theorem dX12_teach_46 : decode cX12_teach 46 = .ok (.invokevirtual 404, 3) := dk_182 1 148 (dk_at dksX12_teach_2 0 rfl rfl)
theorem dX12_teach_49 : decode cX12_teach 49 = .ok (.iconst 1, 1) := dk_4 (dk_at dksX12_teach_2 3 rfl rfl)
theorem dX12_teach_50 : decode cX12_teach 50 = .ok (.ireturn, 1) := dk_172 (dk_at dksX12_teach_2 4 rfl rfl)
abbrev cX12_give : ByteArray := prog_24_method_74_code
def yX12_give : MethodName := ⟨RX12, "give", "(III)Z"⟩
def dkwX12_give_4 : List UInt8 := [42, 180, 0, 146, 16, 82, 27, 96, 92, 46, 4, 96, 79, 42, 182, 1, 148, 4, 172]
abbrev dktX12_give_4 : List UInt8 := dkwX12_give_4 ++ []
def dkwX12_give_3 : List UInt8 := [42, 180, 0, 146, 16, 74, 27, 96, 3, 79, 42, 180, 0, 146, 16, 82, 27, 96, 46, 16, 9, 162, 0, 16]
abbrev dktX12_give_3 : List UInt8 := dkwX12_give_3 ++ dktX12_give_4
def dkwX12_give_2 : List UInt8 := [182, 1, 139, 42, 180, 0, 146, 28, 92, 46, 29, 100, 79, 42, 180, 0, 146, 16, 115, 92, 46, 29, 96, 79]
abbrev dktX12_give_2 : List UInt8 := dkwX12_give_2 ++ dktX12_give_3
def dkwX12_give_1 : List UInt8 := [180, 0, 143, 28, 46, 163, 0, 15, 42, 180, 0, 143, 16, 42, 27, 96, 46, 153, 0, 5, 3, 172, 42]
abbrev dktX12_give_1 : List UInt8 := dkwX12_give_1 ++ dktX12_give_2
def dkwX12_give_0 : List UInt8 := [42, 27, 182, 1, 136, 153, 0, 38, 42, 28, 182, 1, 130, 153, 0, 30, 29, 4, 161, 0, 25, 29, 42]
abbrev dktX12_give_0 : List UInt8 := dkwX12_give_0 ++ dktX12_give_1
theorem dksX12_give_0 : cX12_give.data.toList.drop 0 = dktX12_give_0 := by decide +kernel
theorem dksX12_give_1 : cX12_give.data.toList.drop 23 = dktX12_give_1 := dk_seg dksX12_give_0 23 rfl rfl
theorem dksX12_give_2 : cX12_give.data.toList.drop 46 = dktX12_give_2 := dk_seg dksX12_give_1 23 rfl rfl
theorem dksX12_give_3 : cX12_give.data.toList.drop 70 = dktX12_give_3 := dk_seg dksX12_give_2 24 rfl rfl
theorem dksX12_give_4 : cX12_give.data.toList.drop 94 = dktX12_give_4 := dk_seg dksX12_give_3 24 rfl rfl
theorem dX12_give_0 : decode cX12_give 0 = .ok (.aload_n 0, 1) := dk_42 (dk_at dksX12_give_0 0 rfl rfl)
theorem dX12_give_1 : decode cX12_give 1 = .ok (.iload_n 1, 1) := dk_27 (dk_at dksX12_give_0 1 rfl rfl)
theorem dX12_give_2 : decode cX12_give 2 = .ok (.invokevirtual 392, 3) := dk_182 1 136 (dk_at dksX12_give_0 2 rfl rfl)
theorem dX12_give_5 : decode cX12_give 5 = .ok (.ifCond .eq 38, 3) := dk_153 0 38 (dk_at dksX12_give_0 5 rfl rfl)
theorem dX12_give_8 : decode cX12_give 8 = .ok (.aload_n 0, 1) := dk_42 (dk_at dksX12_give_0 8 rfl rfl)
theorem dX12_give_9 : decode cX12_give 9 = .ok (.iload_n 2, 1) := dk_28 (dk_at dksX12_give_0 9 rfl rfl)
theorem dX12_give_10 : decode cX12_give 10 = .ok (.invokevirtual 386, 3) := dk_182 1 130 (dk_at dksX12_give_0 10 rfl rfl)
theorem dX12_give_13 : decode cX12_give 13 = .ok (.ifCond .eq 30, 3) := dk_153 0 30 (dk_at dksX12_give_0 13 rfl rfl)
theorem dX12_give_16 : decode cX12_give 16 = .ok (.iload_n 3, 1) := dk_29 (dk_at dksX12_give_0 16 rfl rfl)
theorem dX12_give_17 : decode cX12_give 17 = .ok (.iconst 1, 1) := dk_4 (dk_at dksX12_give_0 17 rfl rfl)
theorem dX12_give_18 : decode cX12_give 18 = .ok (.if_icmp .lt 25, 3) := dk_161 0 25 (dk_at dksX12_give_0 18 rfl rfl)
theorem dX12_give_21 : decode cX12_give 21 = .ok (.iload_n 3, 1) := dk_29 (dk_at dksX12_give_0 21 rfl rfl)
theorem dX12_give_22 : decode cX12_give 22 = .ok (.aload_n 0, 1) := dk_42 (dk_at dksX12_give_0 22 rfl rfl)
theorem dX12_give_23 : decode cX12_give 23 = .ok (.getfield 143, 3) := dk_180 0 143 (dk_at dksX12_give_1 0 rfl rfl)
theorem dX12_give_26 : decode cX12_give 26 = .ok (.iload_n 2, 1) := dk_28 (dk_at dksX12_give_1 3 rfl rfl)
theorem dX12_give_27 : decode cX12_give 27 = .ok (.iaload, 1) := dk_46 (dk_at dksX12_give_1 4 rfl rfl)
theorem dX12_give_28 : decode cX12_give 28 = .ok (.if_icmp .gt 15, 3) := dk_163 0 15 (dk_at dksX12_give_1 5 rfl rfl)
theorem dX12_give_31 : decode cX12_give 31 = .ok (.aload_n 0, 1) := dk_42 (dk_at dksX12_give_1 8 rfl rfl)
theorem dX12_give_32 : decode cX12_give 32 = .ok (.getfield 143, 3) := dk_180 0 143 (dk_at dksX12_give_1 9 rfl rfl)
theorem dX12_give_35 : decode cX12_give 35 = .ok (.bipush 42, 2) := dk_16 42 (dk_at dksX12_give_1 12 rfl rfl)
theorem dX12_give_37 : decode cX12_give 37 = .ok (.iload_n 1, 1) := dk_27 (dk_at dksX12_give_1 14 rfl rfl)
theorem dX12_give_38 : decode cX12_give 38 = .ok (.iadd, 1) := dk_96 (dk_at dksX12_give_1 15 rfl rfl)
theorem dX12_give_39 : decode cX12_give 39 = .ok (.iaload, 1) := dk_46 (dk_at dksX12_give_1 16 rfl rfl)
theorem dX12_give_40 : decode cX12_give 40 = .ok (.ifCond .eq 5, 3) := dk_153 0 5 (dk_at dksX12_give_1 17 rfl rfl)
theorem dX12_give_43 : decode cX12_give 43 = .ok (.iconst 0, 1) := dk_3 (dk_at dksX12_give_1 20 rfl rfl)
theorem dX12_give_44 : decode cX12_give 44 = .ok (.ireturn, 1) := dk_172 (dk_at dksX12_give_1 21 rfl rfl)
theorem dX12_give_45 : decode cX12_give 45 = .ok (.aload_n 0, 1) := dk_42 (dk_at dksX12_give_1 22 rfl rfl)
theorem dX12_give_46 : decode cX12_give 46 = .ok (.invokevirtual 395, 3) := dk_182 1 139 (dk_at dksX12_give_2 0 rfl rfl)
theorem dX12_give_49 : decode cX12_give 49 = .ok (.aload_n 0, 1) := dk_42 (dk_at dksX12_give_2 3 rfl rfl)
theorem dX12_give_50 : decode cX12_give 50 = .ok (.getfield 146, 3) := dk_180 0 146 (dk_at dksX12_give_2 4 rfl rfl)
theorem dX12_give_53 : decode cX12_give 53 = .ok (.iload_n 2, 1) := dk_28 (dk_at dksX12_give_2 7 rfl rfl)
theorem dX12_give_54 : decode cX12_give 54 = .ok (.dup2, 1) := dk_92 (dk_at dksX12_give_2 8 rfl rfl)
theorem dX12_give_55 : decode cX12_give 55 = .ok (.iaload, 1) := dk_46 (dk_at dksX12_give_2 9 rfl rfl)
theorem dX12_give_56 : decode cX12_give 56 = .ok (.iload_n 3, 1) := dk_29 (dk_at dksX12_give_2 10 rfl rfl)
theorem dX12_give_57 : decode cX12_give 57 = .ok (.isub, 1) := dk_100 (dk_at dksX12_give_2 11 rfl rfl)
theorem dX12_give_58 : decode cX12_give 58 = .ok (.iastore, 1) := dk_79 (dk_at dksX12_give_2 12 rfl rfl)
theorem dX12_give_59 : decode cX12_give 59 = .ok (.aload_n 0, 1) := dk_42 (dk_at dksX12_give_2 13 rfl rfl)
theorem dX12_give_60 : decode cX12_give 60 = .ok (.getfield 146, 3) := dk_180 0 146 (dk_at dksX12_give_2 14 rfl rfl)
theorem dX12_give_63 : decode cX12_give 63 = .ok (.bipush 115, 2) := dk_16 115 (dk_at dksX12_give_2 17 rfl rfl)
theorem dX12_give_65 : decode cX12_give 65 = .ok (.dup2, 1) := dk_92 (dk_at dksX12_give_2 19 rfl rfl)
theorem dX12_give_66 : decode cX12_give 66 = .ok (.iaload, 1) := dk_46 (dk_at dksX12_give_2 20 rfl rfl)
theorem dX12_give_67 : decode cX12_give 67 = .ok (.iload_n 3, 1) := dk_29 (dk_at dksX12_give_2 21 rfl rfl)
theorem dX12_give_68 : decode cX12_give 68 = .ok (.iadd, 1) := dk_96 (dk_at dksX12_give_2 22 rfl rfl)
theorem dX12_give_69 : decode cX12_give 69 = .ok (.iastore, 1) := dk_79 (dk_at dksX12_give_2 23 rfl rfl)
theorem dX12_give_70 : decode cX12_give 70 = .ok (.aload_n 0, 1) := dk_42 (dk_at dksX12_give_3 0 rfl rfl)
theorem dX12_give_71 : decode cX12_give 71 = .ok (.getfield 146, 3) := dk_180 0 146 (dk_at dksX12_give_3 1 rfl rfl)
theorem dX12_give_74 : decode cX12_give 74 = .ok (.bipush 74, 2) := dk_16 74 (dk_at dksX12_give_3 4 rfl rfl)
theorem dX12_give_76 : decode cX12_give 76 = .ok (.iload_n 1, 1) := dk_27 (dk_at dksX12_give_3 6 rfl rfl)
theorem dX12_give_77 : decode cX12_give 77 = .ok (.iadd, 1) := dk_96 (dk_at dksX12_give_3 7 rfl rfl)
theorem dX12_give_78 : decode cX12_give 78 = .ok (.iconst 0, 1) := dk_3 (dk_at dksX12_give_3 8 rfl rfl)
theorem dX12_give_79 : decode cX12_give 79 = .ok (.iastore, 1) := dk_79 (dk_at dksX12_give_3 9 rfl rfl)
theorem dX12_give_80 : decode cX12_give 80 = .ok (.aload_n 0, 1) := dk_42 (dk_at dksX12_give_3 10 rfl rfl)
theorem dX12_give_81 : decode cX12_give 81 = .ok (.getfield 146, 3) := dk_180 0 146 (dk_at dksX12_give_3 11 rfl rfl)
theorem dX12_give_84 : decode cX12_give 84 = .ok (.bipush 82, 2) := dk_16 82 (dk_at dksX12_give_3 14 rfl rfl)
theorem dX12_give_86 : decode cX12_give 86 = .ok (.iload_n 1, 1) := dk_27 (dk_at dksX12_give_3 16 rfl rfl)
theorem dX12_give_87 : decode cX12_give 87 = .ok (.iadd, 1) := dk_96 (dk_at dksX12_give_3 17 rfl rfl)
theorem dX12_give_88 : decode cX12_give 88 = .ok (.iaload, 1) := dk_46 (dk_at dksX12_give_3 18 rfl rfl)
theorem dX12_give_89 : decode cX12_give 89 = .ok (.bipush 9, 2) := dk_16 9 (dk_at dksX12_give_3 19 rfl rfl)
theorem dX12_give_91 : decode cX12_give 91 = .ok (.if_icmp .ge 16, 3) := dk_162 0 16 (dk_at dksX12_give_3 21 rfl rfl)
theorem dX12_give_94 : decode cX12_give 94 = .ok (.aload_n 0, 1) := dk_42 (dk_at dksX12_give_4 0 rfl rfl)
theorem dX12_give_95 : decode cX12_give 95 = .ok (.getfield 146, 3) := dk_180 0 146 (dk_at dksX12_give_4 1 rfl rfl)
theorem dX12_give_98 : decode cX12_give 98 = .ok (.bipush 82, 2) := dk_16 82 (dk_at dksX12_give_4 4 rfl rfl)
theorem dX12_give_100 : decode cX12_give 100 = .ok (.iload_n 1, 1) := dk_27 (dk_at dksX12_give_4 6 rfl rfl)
theorem dX12_give_101 : decode cX12_give 101 = .ok (.iadd, 1) := dk_96 (dk_at dksX12_give_4 7 rfl rfl)
theorem dX12_give_102 : decode cX12_give 102 = .ok (.dup2, 1) := dk_92 (dk_at dksX12_give_4 8 rfl rfl)
theorem dX12_give_103 : decode cX12_give 103 = .ok (.iaload, 1) := dk_46 (dk_at dksX12_give_4 9 rfl rfl)
theorem dX12_give_104 : decode cX12_give 104 = .ok (.iconst 1, 1) := dk_4 (dk_at dksX12_give_4 10 rfl rfl)
theorem dX12_give_105 : decode cX12_give 105 = .ok (.iadd, 1) := dk_96 (dk_at dksX12_give_4 11 rfl rfl)
theorem dX12_give_106 : decode cX12_give 106 = .ok (.iastore, 1) := dk_79 (dk_at dksX12_give_4 12 rfl rfl)
theorem dX12_give_107 : decode cX12_give 107 = .ok (.aload_n 0, 1) := dk_42 (dk_at dksX12_give_4 13 rfl rfl)
theorem dX12_give_108 : decode cX12_give 108 = .ok (.invokevirtual 404, 3) := dk_182 1 148 (dk_at dksX12_give_4 14 rfl rfl)
theorem dX12_give_111 : decode cX12_give 111 = .ok (.iconst 1, 1) := dk_4 (dk_at dksX12_give_4 17 rfl rfl)
theorem dX12_give_112 : decode cX12_give 112 = .ok (.ireturn, 1) := dk_172 (dk_at dksX12_give_4 18 rfl rfl)
abbrev cX12_send : ByteArray := prog_24_method_75_code
def yX12_send : MethodName := ⟨RX12, "send", "(IZ)Z"⟩
def dkwX12_send_2 : List UInt8 := [167, 0, 13, 42, 180, 0, 146, 16, 42, 27, 96, 3, 79, 42, 182, 1, 148, 4, 172]
abbrev dktX12_send_2 : List UInt8 := dkwX12_send_2 ++ []
def dkwX12_send_1 : List UInt8 := [167, 0, 4, 3, 28, 160, 0, 5, 3, 172, 42, 182, 1, 139, 28, 153, 0, 11, 42, 27, 182, 1, 154]
abbrev dktX12_send_1 : List UInt8 := dkwX12_send_1 ++ dktX12_send_2
def dkwX12_send_0 : List UInt8 := [42, 27, 182, 1, 136, 153, 0, 25, 42, 180, 0, 143, 16, 42, 27, 96, 46, 6, 160, 0, 7, 4]
abbrev dktX12_send_0 : List UInt8 := dkwX12_send_0 ++ dktX12_send_1
theorem dksX12_send_0 : cX12_send.data.toList.drop 0 = dktX12_send_0 := by decide +kernel
theorem dksX12_send_1 : cX12_send.data.toList.drop 22 = dktX12_send_1 := dk_seg dksX12_send_0 22 rfl rfl
theorem dksX12_send_2 : cX12_send.data.toList.drop 45 = dktX12_send_2 := dk_seg dksX12_send_1 23 rfl rfl
theorem dX12_send_0 : decode cX12_send 0 = .ok (.aload_n 0, 1) := dk_42 (dk_at dksX12_send_0 0 rfl rfl)
theorem dX12_send_1 : decode cX12_send 1 = .ok (.iload_n 1, 1) := dk_27 (dk_at dksX12_send_0 1 rfl rfl)
theorem dX12_send_2 : decode cX12_send 2 = .ok (.invokevirtual 392, 3) := dk_182 1 136 (dk_at dksX12_send_0 2 rfl rfl)
theorem dX12_send_5 : decode cX12_send 5 = .ok (.ifCond .eq 25, 3) := dk_153 0 25 (dk_at dksX12_send_0 5 rfl rfl)
theorem dX12_send_8 : decode cX12_send 8 = .ok (.aload_n 0, 1) := dk_42 (dk_at dksX12_send_0 8 rfl rfl)
theorem dX12_send_9 : decode cX12_send 9 = .ok (.getfield 143, 3) := dk_180 0 143 (dk_at dksX12_send_0 9 rfl rfl)
theorem dX12_send_12 : decode cX12_send 12 = .ok (.bipush 42, 2) := dk_16 42 (dk_at dksX12_send_0 12 rfl rfl)
theorem dX12_send_14 : decode cX12_send 14 = .ok (.iload_n 1, 1) := dk_27 (dk_at dksX12_send_0 14 rfl rfl)
theorem dX12_send_15 : decode cX12_send 15 = .ok (.iadd, 1) := dk_96 (dk_at dksX12_send_0 15 rfl rfl)
theorem dX12_send_16 : decode cX12_send 16 = .ok (.iaload, 1) := dk_46 (dk_at dksX12_send_0 16 rfl rfl)
theorem dX12_send_17 : decode cX12_send 17 = .ok (.iconst 3, 1) := dk_6 (dk_at dksX12_send_0 17 rfl rfl)
theorem dX12_send_18 : decode cX12_send 18 = .ok (.if_icmp .ne 7, 3) := dk_160 0 7 (dk_at dksX12_send_0 18 rfl rfl)
theorem dX12_send_21 : decode cX12_send 21 = .ok (.iconst 1, 1) := dk_4 (dk_at dksX12_send_0 21 rfl rfl)
theorem dX12_send_22 : decode cX12_send 22 = .ok (.goto 4, 3) := dk_167 0 4 (dk_at dksX12_send_1 0 rfl rfl)
theorem dX12_send_25 : decode cX12_send 25 = .ok (.iconst 0, 1) := dk_3 (dk_at dksX12_send_1 3 rfl rfl)
theorem dX12_send_26 : decode cX12_send 26 = .ok (.iload_n 2, 1) := dk_28 (dk_at dksX12_send_1 4 rfl rfl)
theorem dX12_send_27 : decode cX12_send 27 = .ok (.if_icmp .ne 5, 3) := dk_160 0 5 (dk_at dksX12_send_1 5 rfl rfl)
theorem dX12_send_30 : decode cX12_send 30 = .ok (.iconst 0, 1) := dk_3 (dk_at dksX12_send_1 8 rfl rfl)
theorem dX12_send_31 : decode cX12_send 31 = .ok (.ireturn, 1) := dk_172 (dk_at dksX12_send_1 9 rfl rfl)
theorem dX12_send_32 : decode cX12_send 32 = .ok (.aload_n 0, 1) := dk_42 (dk_at dksX12_send_1 10 rfl rfl)
theorem dX12_send_33 : decode cX12_send 33 = .ok (.invokevirtual 395, 3) := dk_182 1 139 (dk_at dksX12_send_1 11 rfl rfl)
theorem dX12_send_36 : decode cX12_send 36 = .ok (.iload_n 2, 1) := dk_28 (dk_at dksX12_send_1 14 rfl rfl)
theorem dX12_send_37 : decode cX12_send 37 = .ok (.ifCond .eq 11, 3) := dk_153 0 11 (dk_at dksX12_send_1 15 rfl rfl)
theorem dX12_send_40 : decode cX12_send 40 = .ok (.aload_n 0, 1) := dk_42 (dk_at dksX12_send_1 18 rfl rfl)
theorem dX12_send_41 : decode cX12_send 41 = .ok (.iload_n 1, 1) := dk_27 (dk_at dksX12_send_1 19 rfl rfl)
theorem dX12_send_42 : decode cX12_send 42 = .ok (.invokevirtual 410, 3) := dk_182 1 154 (dk_at dksX12_send_1 20 rfl rfl)
theorem dX12_send_45 : decode cX12_send 45 = .ok (.goto 13, 3) := dk_167 0 13 (dk_at dksX12_send_2 0 rfl rfl)
theorem dX12_send_48 : decode cX12_send 48 = .ok (.aload_n 0, 1) := dk_42 (dk_at dksX12_send_2 3 rfl rfl)
theorem dX12_send_49 : decode cX12_send 49 = .ok (.getfield 146, 3) := dk_180 0 146 (dk_at dksX12_send_2 4 rfl rfl)
theorem dX12_send_52 : decode cX12_send 52 = .ok (.bipush 42, 2) := dk_16 42 (dk_at dksX12_send_2 7 rfl rfl)
theorem dX12_send_54 : decode cX12_send 54 = .ok (.iload_n 1, 1) := dk_27 (dk_at dksX12_send_2 9 rfl rfl)
theorem dX12_send_55 : decode cX12_send 55 = .ok (.iadd, 1) := dk_96 (dk_at dksX12_send_2 10 rfl rfl)
theorem dX12_send_56 : decode cX12_send 56 = .ok (.iconst 0, 1) := dk_3 (dk_at dksX12_send_2 11 rfl rfl)
theorem dX12_send_57 : decode cX12_send 57 = .ok (.iastore, 1) := dk_79 (dk_at dksX12_send_2 12 rfl rfl)
theorem dX12_send_58 : decode cX12_send 58 = .ok (.aload_n 0, 1) := dk_42 (dk_at dksX12_send_2 13 rfl rfl)
theorem dX12_send_59 : decode cX12_send 59 = .ok (.invokevirtual 404, 3) := dk_182 1 148 (dk_at dksX12_send_2 14 rfl rfl)
theorem dX12_send_62 : decode cX12_send 62 = .ok (.iconst 1, 1) := dk_4 (dk_at dksX12_send_2 17 rfl rfl)
theorem dX12_send_63 : decode cX12_send 63 = .ok (.ireturn, 1) := dk_172 (dk_at dksX12_send_2 18 rfl rfl)
abbrev cX12_goesHome : ByteArray := prog_24_method_61_code
def yX12_goesHome : MethodName := ⟨RX12, "goesHome", "(I)V"⟩
def dkwX12_goesHome_3 : List UInt8 := [180, 0, 146, 16, 50, 27, 96, 3, 79, 42, 180, 0, 146, 16, 42, 27, 96, 6, 79, 177]
abbrev dktX12_goesHome_3 : List UInt8 := dkwX12_goesHome_3 ++ []
def dkwX12_goesHome_2 : List UInt8 := [42, 180, 0, 146, 16, 66, 27, 96, 16, 254, 79, 42, 180, 0, 146, 16, 106, 27, 96, 16, 254, 79, 42]
abbrev dktX12_goesHome_2 : List UInt8 := dkwX12_goesHome_2 ++ dktX12_goesHome_3
def dkwX12_goesHome_1 : List UInt8 := [46, 92, 46, 42, 180, 0, 146, 16, 58, 27, 96, 46, 96, 79, 42, 180, 0, 146, 16, 58, 27, 96, 3, 79]
abbrev dktX12_goesHome_1 : List UInt8 := dkwX12_goesHome_1 ++ dktX12_goesHome_2
def dkwX12_goesHome_0 : List UInt8 := [42, 180, 0, 146, 16, 58, 27, 96, 46, 158, 0, 29, 42, 180, 0, 146, 42, 180, 0, 146, 16, 66, 27, 96]
abbrev dktX12_goesHome_0 : List UInt8 := dkwX12_goesHome_0 ++ dktX12_goesHome_1
theorem dksX12_goesHome_0 : cX12_goesHome.data.toList.drop 0 = dktX12_goesHome_0 := by decide +kernel
theorem dksX12_goesHome_1 : cX12_goesHome.data.toList.drop 24 = dktX12_goesHome_1 := dk_seg dksX12_goesHome_0 24 rfl rfl
theorem dksX12_goesHome_2 : cX12_goesHome.data.toList.drop 48 = dktX12_goesHome_2 := dk_seg dksX12_goesHome_1 24 rfl rfl
theorem dksX12_goesHome_3 : cX12_goesHome.data.toList.drop 71 = dktX12_goesHome_3 := dk_seg dksX12_goesHome_2 23 rfl rfl
theorem dX12_goesHome_0 : decode cX12_goesHome 0 = .ok (.aload_n 0, 1) := dk_42 (dk_at dksX12_goesHome_0 0 rfl rfl)
theorem dX12_goesHome_1 : decode cX12_goesHome 1 = .ok (.getfield 146, 3) := dk_180 0 146 (dk_at dksX12_goesHome_0 1 rfl rfl)
theorem dX12_goesHome_4 : decode cX12_goesHome 4 = .ok (.bipush 58, 2) := dk_16 58 (dk_at dksX12_goesHome_0 4 rfl rfl)
theorem dX12_goesHome_6 : decode cX12_goesHome 6 = .ok (.iload_n 1, 1) := dk_27 (dk_at dksX12_goesHome_0 6 rfl rfl)
theorem dX12_goesHome_7 : decode cX12_goesHome 7 = .ok (.iadd, 1) := dk_96 (dk_at dksX12_goesHome_0 7 rfl rfl)
theorem dX12_goesHome_8 : decode cX12_goesHome 8 = .ok (.iaload, 1) := dk_46 (dk_at dksX12_goesHome_0 8 rfl rfl)
theorem dX12_goesHome_9 : decode cX12_goesHome 9 = .ok (.ifCond .le 29, 3) := dk_158 0 29 (dk_at dksX12_goesHome_0 9 rfl rfl)
theorem dX12_goesHome_12 : decode cX12_goesHome 12 = .ok (.aload_n 0, 1) := dk_42 (dk_at dksX12_goesHome_0 12 rfl rfl)
theorem dX12_goesHome_13 : decode cX12_goesHome 13 = .ok (.getfield 146, 3) := dk_180 0 146 (dk_at dksX12_goesHome_0 13 rfl rfl)
theorem dX12_goesHome_16 : decode cX12_goesHome 16 = .ok (.aload_n 0, 1) := dk_42 (dk_at dksX12_goesHome_0 16 rfl rfl)
theorem dX12_goesHome_17 : decode cX12_goesHome 17 = .ok (.getfield 146, 3) := dk_180 0 146 (dk_at dksX12_goesHome_0 17 rfl rfl)
theorem dX12_goesHome_20 : decode cX12_goesHome 20 = .ok (.bipush 66, 2) := dk_16 66 (dk_at dksX12_goesHome_0 20 rfl rfl)
theorem dX12_goesHome_22 : decode cX12_goesHome 22 = .ok (.iload_n 1, 1) := dk_27 (dk_at dksX12_goesHome_0 22 rfl rfl)
theorem dX12_goesHome_23 : decode cX12_goesHome 23 = .ok (.iadd, 1) := dk_96 (dk_at dksX12_goesHome_0 23 rfl rfl)
theorem dX12_goesHome_24 : decode cX12_goesHome 24 = .ok (.iaload, 1) := dk_46 (dk_at dksX12_goesHome_1 0 rfl rfl)
theorem dX12_goesHome_25 : decode cX12_goesHome 25 = .ok (.dup2, 1) := dk_92 (dk_at dksX12_goesHome_1 1 rfl rfl)
theorem dX12_goesHome_26 : decode cX12_goesHome 26 = .ok (.iaload, 1) := dk_46 (dk_at dksX12_goesHome_1 2 rfl rfl)
theorem dX12_goesHome_27 : decode cX12_goesHome 27 = .ok (.aload_n 0, 1) := dk_42 (dk_at dksX12_goesHome_1 3 rfl rfl)
theorem dX12_goesHome_28 : decode cX12_goesHome 28 = .ok (.getfield 146, 3) := dk_180 0 146 (dk_at dksX12_goesHome_1 4 rfl rfl)
theorem dX12_goesHome_31 : decode cX12_goesHome 31 = .ok (.bipush 58, 2) := dk_16 58 (dk_at dksX12_goesHome_1 7 rfl rfl)
theorem dX12_goesHome_33 : decode cX12_goesHome 33 = .ok (.iload_n 1, 1) := dk_27 (dk_at dksX12_goesHome_1 9 rfl rfl)
theorem dX12_goesHome_34 : decode cX12_goesHome 34 = .ok (.iadd, 1) := dk_96 (dk_at dksX12_goesHome_1 10 rfl rfl)
theorem dX12_goesHome_35 : decode cX12_goesHome 35 = .ok (.iaload, 1) := dk_46 (dk_at dksX12_goesHome_1 11 rfl rfl)
theorem dX12_goesHome_36 : decode cX12_goesHome 36 = .ok (.iadd, 1) := dk_96 (dk_at dksX12_goesHome_1 12 rfl rfl)
theorem dX12_goesHome_37 : decode cX12_goesHome 37 = .ok (.iastore, 1) := dk_79 (dk_at dksX12_goesHome_1 13 rfl rfl)
theorem dX12_goesHome_38 : decode cX12_goesHome 38 = .ok (.aload_n 0, 1) := dk_42 (dk_at dksX12_goesHome_1 14 rfl rfl)
theorem dX12_goesHome_39 : decode cX12_goesHome 39 = .ok (.getfield 146, 3) := dk_180 0 146 (dk_at dksX12_goesHome_1 15 rfl rfl)
theorem dX12_goesHome_42 : decode cX12_goesHome 42 = .ok (.bipush 58, 2) := dk_16 58 (dk_at dksX12_goesHome_1 18 rfl rfl)
theorem dX12_goesHome_44 : decode cX12_goesHome 44 = .ok (.iload_n 1, 1) := dk_27 (dk_at dksX12_goesHome_1 20 rfl rfl)
theorem dX12_goesHome_45 : decode cX12_goesHome 45 = .ok (.iadd, 1) := dk_96 (dk_at dksX12_goesHome_1 21 rfl rfl)
theorem dX12_goesHome_46 : decode cX12_goesHome 46 = .ok (.iconst 0, 1) := dk_3 (dk_at dksX12_goesHome_1 22 rfl rfl)
theorem dX12_goesHome_47 : decode cX12_goesHome 47 = .ok (.iastore, 1) := dk_79 (dk_at dksX12_goesHome_1 23 rfl rfl)
theorem dX12_goesHome_48 : decode cX12_goesHome 48 = .ok (.aload_n 0, 1) := dk_42 (dk_at dksX12_goesHome_2 0 rfl rfl)
theorem dX12_goesHome_49 : decode cX12_goesHome 49 = .ok (.getfield 146, 3) := dk_180 0 146 (dk_at dksX12_goesHome_2 1 rfl rfl)
theorem dX12_goesHome_52 : decode cX12_goesHome 52 = .ok (.bipush 66, 2) := dk_16 66 (dk_at dksX12_goesHome_2 4 rfl rfl)
theorem dX12_goesHome_54 : decode cX12_goesHome 54 = .ok (.iload_n 1, 1) := dk_27 (dk_at dksX12_goesHome_2 6 rfl rfl)
theorem dX12_goesHome_55 : decode cX12_goesHome 55 = .ok (.iadd, 1) := dk_96 (dk_at dksX12_goesHome_2 7 rfl rfl)
theorem dX12_goesHome_56 : decode cX12_goesHome 56 = .ok (.bipush (-2), 2) := dk_16 254 (dk_at dksX12_goesHome_2 8 rfl rfl)
theorem dX12_goesHome_58 : decode cX12_goesHome 58 = .ok (.iastore, 1) := dk_79 (dk_at dksX12_goesHome_2 10 rfl rfl)
theorem dX12_goesHome_59 : decode cX12_goesHome 59 = .ok (.aload_n 0, 1) := dk_42 (dk_at dksX12_goesHome_2 11 rfl rfl)
theorem dX12_goesHome_60 : decode cX12_goesHome 60 = .ok (.getfield 146, 3) := dk_180 0 146 (dk_at dksX12_goesHome_2 12 rfl rfl)
theorem dX12_goesHome_63 : decode cX12_goesHome 63 = .ok (.bipush 106, 2) := dk_16 106 (dk_at dksX12_goesHome_2 15 rfl rfl)
theorem dX12_goesHome_65 : decode cX12_goesHome 65 = .ok (.iload_n 1, 1) := dk_27 (dk_at dksX12_goesHome_2 17 rfl rfl)
theorem dX12_goesHome_66 : decode cX12_goesHome 66 = .ok (.iadd, 1) := dk_96 (dk_at dksX12_goesHome_2 18 rfl rfl)
theorem dX12_goesHome_67 : decode cX12_goesHome 67 = .ok (.bipush (-2), 2) := dk_16 254 (dk_at dksX12_goesHome_2 19 rfl rfl)
theorem dX12_goesHome_69 : decode cX12_goesHome 69 = .ok (.iastore, 1) := dk_79 (dk_at dksX12_goesHome_2 21 rfl rfl)
theorem dX12_goesHome_70 : decode cX12_goesHome 70 = .ok (.aload_n 0, 1) := dk_42 (dk_at dksX12_goesHome_2 22 rfl rfl)
theorem dX12_goesHome_71 : decode cX12_goesHome 71 = .ok (.getfield 146, 3) := dk_180 0 146 (dk_at dksX12_goesHome_3 0 rfl rfl)
theorem dX12_goesHome_74 : decode cX12_goesHome 74 = .ok (.bipush 50, 2) := dk_16 50 (dk_at dksX12_goesHome_3 3 rfl rfl)
theorem dX12_goesHome_76 : decode cX12_goesHome 76 = .ok (.iload_n 1, 1) := dk_27 (dk_at dksX12_goesHome_3 5 rfl rfl)
theorem dX12_goesHome_77 : decode cX12_goesHome 77 = .ok (.iadd, 1) := dk_96 (dk_at dksX12_goesHome_3 6 rfl rfl)
theorem dX12_goesHome_78 : decode cX12_goesHome 78 = .ok (.iconst 0, 1) := dk_3 (dk_at dksX12_goesHome_3 7 rfl rfl)
theorem dX12_goesHome_79 : decode cX12_goesHome 79 = .ok (.iastore, 1) := dk_79 (dk_at dksX12_goesHome_3 8 rfl rfl)
theorem dX12_goesHome_80 : decode cX12_goesHome 80 = .ok (.aload_n 0, 1) := dk_42 (dk_at dksX12_goesHome_3 9 rfl rfl)
theorem dX12_goesHome_81 : decode cX12_goesHome 81 = .ok (.getfield 146, 3) := dk_180 0 146 (dk_at dksX12_goesHome_3 10 rfl rfl)
theorem dX12_goesHome_84 : decode cX12_goesHome 84 = .ok (.bipush 42, 2) := dk_16 42 (dk_at dksX12_goesHome_3 13 rfl rfl)
theorem dX12_goesHome_86 : decode cX12_goesHome 86 = .ok (.iload_n 1, 1) := dk_27 (dk_at dksX12_goesHome_3 15 rfl rfl)
theorem dX12_goesHome_87 : decode cX12_goesHome 87 = .ok (.iadd, 1) := dk_96 (dk_at dksX12_goesHome_3 16 rfl rfl)
theorem dX12_goesHome_88 : decode cX12_goesHome 88 = .ok (.iconst 3, 1) := dk_6 (dk_at dksX12_goesHome_3 17 rfl rfl)
theorem dX12_goesHome_89 : decode cX12_goesHome 89 = .ok (.iastore, 1) := dk_79 (dk_at dksX12_goesHome_3 18 rfl rfl)
theorem dX12_goesHome_90 : decode cX12_goesHome 90 = .ok (.return_, 1) := dk_177 (dk_at dksX12_goesHome_3 19 rfl rfl)
abbrev cX12_cat : ByteArray := prog_24_method_76_code
def yX12_cat : MethodName := ⟨RX12, "cat", "(I)I"⟩
def dkwX12_cat_2 : List UInt8 := [42, 180, 0, 143, 16, 118, 46, 172]
abbrev dktX12_cat_2 : List UInt8 := dkwX12_cat_2 ++ []
def dkwX12_cat_1 : List UInt8 := [164, 0, 5, 2, 172, 42, 182, 1, 139, 42, 180, 0, 146, 16, 118, 92, 46, 27, 96, 79, 42, 182, 1, 148]
abbrev dktX12_cat_1 : List UInt8 := dkwX12_cat_1 ++ dktX12_cat_2
def dkwX12_cat_0 : List UInt8 := [27, 4, 16, 99, 184, 1, 94, 153, 0, 18, 42, 180, 0, 143, 16, 118, 46, 27, 96, 17, 3, 231]
abbrev dktX12_cat_0 : List UInt8 := dkwX12_cat_0 ++ dktX12_cat_1
theorem dksX12_cat_0 : cX12_cat.data.toList.drop 0 = dktX12_cat_0 := by decide +kernel
theorem dksX12_cat_1 : cX12_cat.data.toList.drop 22 = dktX12_cat_1 := dk_seg dksX12_cat_0 22 rfl rfl
theorem dksX12_cat_2 : cX12_cat.data.toList.drop 46 = dktX12_cat_2 := dk_seg dksX12_cat_1 24 rfl rfl
theorem dX12_cat_0 : decode cX12_cat 0 = .ok (.iload_n 1, 1) := dk_27 (dk_at dksX12_cat_0 0 rfl rfl)
theorem dX12_cat_1 : decode cX12_cat 1 = .ok (.iconst 1, 1) := dk_4 (dk_at dksX12_cat_0 1 rfl rfl)
theorem dX12_cat_2 : decode cX12_cat 2 = .ok (.bipush 99, 2) := dk_16 99 (dk_at dksX12_cat_0 2 rfl rfl)
theorem dX12_cat_4 : decode cX12_cat 4 = .ok (.invokestatic 350, 3) := dk_184 1 94 (dk_at dksX12_cat_0 4 rfl rfl)
theorem dX12_cat_7 : decode cX12_cat 7 = .ok (.ifCond .eq 18, 3) := dk_153 0 18 (dk_at dksX12_cat_0 7 rfl rfl)
theorem dX12_cat_10 : decode cX12_cat 10 = .ok (.aload_n 0, 1) := dk_42 (dk_at dksX12_cat_0 10 rfl rfl)
theorem dX12_cat_11 : decode cX12_cat 11 = .ok (.getfield 143, 3) := dk_180 0 143 (dk_at dksX12_cat_0 11 rfl rfl)
theorem dX12_cat_14 : decode cX12_cat 14 = .ok (.bipush 118, 2) := dk_16 118 (dk_at dksX12_cat_0 14 rfl rfl)
theorem dX12_cat_16 : decode cX12_cat 16 = .ok (.iaload, 1) := dk_46 (dk_at dksX12_cat_0 16 rfl rfl)
theorem dX12_cat_17 : decode cX12_cat 17 = .ok (.iload_n 1, 1) := dk_27 (dk_at dksX12_cat_0 17 rfl rfl)
theorem dX12_cat_18 : decode cX12_cat 18 = .ok (.iadd, 1) := dk_96 (dk_at dksX12_cat_0 18 rfl rfl)
theorem dX12_cat_19 : decode cX12_cat 19 = .ok (.sipush 999, 3) := dk_17 3 231 (dk_at dksX12_cat_0 19 rfl rfl)
theorem dX12_cat_22 : decode cX12_cat 22 = .ok (.if_icmp .le 5, 3) := dk_164 0 5 (dk_at dksX12_cat_1 0 rfl rfl)
theorem dX12_cat_25 : decode cX12_cat 25 = .ok (.iconst (-1), 1) := dk_2 (dk_at dksX12_cat_1 3 rfl rfl)
theorem dX12_cat_26 : decode cX12_cat 26 = .ok (.ireturn, 1) := dk_172 (dk_at dksX12_cat_1 4 rfl rfl)
theorem dX12_cat_27 : decode cX12_cat 27 = .ok (.aload_n 0, 1) := dk_42 (dk_at dksX12_cat_1 5 rfl rfl)
theorem dX12_cat_28 : decode cX12_cat 28 = .ok (.invokevirtual 395, 3) := dk_182 1 139 (dk_at dksX12_cat_1 6 rfl rfl)
theorem dX12_cat_31 : decode cX12_cat 31 = .ok (.aload_n 0, 1) := dk_42 (dk_at dksX12_cat_1 9 rfl rfl)
theorem dX12_cat_32 : decode cX12_cat 32 = .ok (.getfield 146, 3) := dk_180 0 146 (dk_at dksX12_cat_1 10 rfl rfl)
theorem dX12_cat_35 : decode cX12_cat 35 = .ok (.bipush 118, 2) := dk_16 118 (dk_at dksX12_cat_1 13 rfl rfl)
theorem dX12_cat_37 : decode cX12_cat 37 = .ok (.dup2, 1) := dk_92 (dk_at dksX12_cat_1 15 rfl rfl)
theorem dX12_cat_38 : decode cX12_cat 38 = .ok (.iaload, 1) := dk_46 (dk_at dksX12_cat_1 16 rfl rfl)
theorem dX12_cat_39 : decode cX12_cat 39 = .ok (.iload_n 1, 1) := dk_27 (dk_at dksX12_cat_1 17 rfl rfl)
theorem dX12_cat_40 : decode cX12_cat 40 = .ok (.iadd, 1) := dk_96 (dk_at dksX12_cat_1 18 rfl rfl)
theorem dX12_cat_41 : decode cX12_cat 41 = .ok (.iastore, 1) := dk_79 (dk_at dksX12_cat_1 19 rfl rfl)
theorem dX12_cat_42 : decode cX12_cat 42 = .ok (.aload_n 0, 1) := dk_42 (dk_at dksX12_cat_1 20 rfl rfl)
theorem dX12_cat_43 : decode cX12_cat 43 = .ok (.invokevirtual 404, 3) := dk_182 1 148 (dk_at dksX12_cat_1 21 rfl rfl)
theorem dX12_cat_46 : decode cX12_cat 46 = .ok (.aload_n 0, 1) := dk_42 (dk_at dksX12_cat_2 0 rfl rfl)
theorem dX12_cat_47 : decode cX12_cat 47 = .ok (.getfield 143, 3) := dk_180 0 143 (dk_at dksX12_cat_2 1 rfl rfl)
theorem dX12_cat_50 : decode cX12_cat 50 = .ok (.bipush 118, 2) := dk_16 118 (dk_at dksX12_cat_2 4 rfl rfl)
theorem dX12_cat_52 : decode cX12_cat 52 = .ok (.iaload, 1) := dk_46 (dk_at dksX12_cat_2 6 rfl rfl)
theorem dX12_cat_53 : decode cX12_cat 53 = .ok (.ireturn, 1) := dk_172 (dk_at dksX12_cat_2 7 rfl rfl)
abbrev cX12_sell : ByteArray := prog_24_method_79_code
def yX12_sell : MethodName := ⟨RX12, "sell", "(I)Z"⟩
def dkwX12_sell_9 : List UInt8 := [180, 0, 146, 16, 117, 92, 46, 4, 27, 120, 128, 79, 42, 182, 1, 148, 4, 172]
abbrev dktX12_sell_9 : List UInt8 := dkwX12_sell_9 ++ []
def dkwX12_sell_8 : List UInt8 := [180, 0, 146, 16, 116, 92, 46, 42, 180, 0, 85, 8, 42, 180, 1, 1, 104, 27, 96, 46, 96, 79, 42]
abbrev dktX12_sell_8 : List UInt8 := dkwX12_sell_8 ++ dktX12_sell_9
def dkwX12_sell_7 : List UInt8 := [21, 5, 100, 79, 29, 21, 5, 100, 62, 132, 4, 1, 167, 255, 152, 132, 2, 1, 167, 255, 128, 42]
abbrev dktX12_sell_7 : List UInt8 := dkwX12_sell_7 ++ dktX12_sell_8
def dkwX12_sell_6 : List UInt8 := [96, 46, 167, 0, 4, 29, 54, 5, 42, 180, 0, 146, 16, 6, 16, 6, 21, 4, 104, 96, 28, 96, 92, 46]
abbrev dktX12_sell_6 : List UInt8 := dkwX12_sell_6 ++ dktX12_sell_7
def dkwX12_sell_5 : List UInt8 := [21, 4, 104, 96, 28, 96, 46, 29, 162, 0, 21, 42, 180, 0, 146, 16, 6, 16, 6, 21, 4, 104, 96, 28]
abbrev dktX12_sell_5 : List UInt8 := dkwX12_sell_5 ++ dktX12_sell_6
def dkwX12_sell_4 : List UInt8 := [180, 1, 1, 104, 21, 4, 96, 46, 28, 159, 0, 6, 167, 0, 68, 42, 180, 0, 146, 16, 6, 16, 6]
abbrev dktX12_sell_4 : List UInt8 := dkwX12_sell_4 ++ dktX12_sell_5
def dkwX12_sell_3 : List UInt8 := [54, 4, 21, 4, 42, 180, 0, 58, 42, 180, 1, 1, 46, 162, 0, 96, 42, 180, 0, 64, 16, 6, 42]
abbrev dktX12_sell_3 : List UInt8 := dkwX12_sell_3 ++ dktX12_sell_4
def dkwX12_sell_2 : List UInt8 := [154, 0, 5, 3, 172, 3, 61, 28, 16, 6, 162, 0, 128, 42, 4, 27, 120, 28, 182, 1, 157, 62, 3]
abbrev dktX12_sell_2 : List UInt8 := dkwX12_sell_2 ++ dktX12_sell_3
def dkwX12_sell_1 : List UInt8 := [16, 117, 46, 27, 122, 4, 126, 4, 160, 0, 5, 3, 172, 42, 182, 1, 139, 42, 4, 27, 120, 182, 1, 160]
abbrev dktX12_sell_1 : List UInt8 := dkwX12_sell_1 ++ dktX12_sell_2
def dkwX12_sell_0 : List UInt8 := [27, 3, 42, 180, 0, 82, 42, 180, 1, 1, 46, 4, 100, 184, 1, 94, 153, 0, 18, 42, 180, 0, 143]
abbrev dktX12_sell_0 : List UInt8 := dkwX12_sell_0 ++ dktX12_sell_1
theorem dksX12_sell_0 : cX12_sell.data.toList.drop 0 = dktX12_sell_0 := by decide +kernel
theorem dksX12_sell_1 : cX12_sell.data.toList.drop 23 = dktX12_sell_1 := dk_seg dksX12_sell_0 23 rfl rfl
theorem dksX12_sell_2 : cX12_sell.data.toList.drop 47 = dktX12_sell_2 := dk_seg dksX12_sell_1 24 rfl rfl
theorem dksX12_sell_3 : cX12_sell.data.toList.drop 70 = dktX12_sell_3 := dk_seg dksX12_sell_2 23 rfl rfl
theorem dksX12_sell_4 : cX12_sell.data.toList.drop 93 = dktX12_sell_4 := dk_seg dksX12_sell_3 23 rfl rfl
theorem dksX12_sell_5 : cX12_sell.data.toList.drop 116 = dktX12_sell_5 := dk_seg dksX12_sell_4 23 rfl rfl
theorem dksX12_sell_6 : cX12_sell.data.toList.drop 140 = dktX12_sell_6 := dk_seg dksX12_sell_5 24 rfl rfl
theorem dksX12_sell_7 : cX12_sell.data.toList.drop 164 = dktX12_sell_7 := dk_seg dksX12_sell_6 24 rfl rfl
theorem dksX12_sell_8 : cX12_sell.data.toList.drop 186 = dktX12_sell_8 := dk_seg dksX12_sell_7 22 rfl rfl
theorem dksX12_sell_9 : cX12_sell.data.toList.drop 209 = dktX12_sell_9 := dk_seg dksX12_sell_8 23 rfl rfl
theorem dX12_sell_0 : decode cX12_sell 0 = .ok (.iload_n 1, 1) := dk_27 (dk_at dksX12_sell_0 0 rfl rfl)
theorem dX12_sell_1 : decode cX12_sell 1 = .ok (.iconst 0, 1) := dk_3 (dk_at dksX12_sell_0 1 rfl rfl)
theorem dX12_sell_2 : decode cX12_sell 2 = .ok (.aload_n 0, 1) := dk_42 (dk_at dksX12_sell_0 2 rfl rfl)
theorem dX12_sell_3 : decode cX12_sell 3 = .ok (.getfield 82, 3) := dk_180 0 82 (dk_at dksX12_sell_0 3 rfl rfl)
theorem dX12_sell_6 : decode cX12_sell 6 = .ok (.aload_n 0, 1) := dk_42 (dk_at dksX12_sell_0 6 rfl rfl)
theorem dX12_sell_7 : decode cX12_sell 7 = .ok (.getfield 257, 3) := dk_180 1 1 (dk_at dksX12_sell_0 7 rfl rfl)
theorem dX12_sell_10 : decode cX12_sell 10 = .ok (.iaload, 1) := dk_46 (dk_at dksX12_sell_0 10 rfl rfl)
theorem dX12_sell_11 : decode cX12_sell 11 = .ok (.iconst 1, 1) := dk_4 (dk_at dksX12_sell_0 11 rfl rfl)
theorem dX12_sell_12 : decode cX12_sell 12 = .ok (.isub, 1) := dk_100 (dk_at dksX12_sell_0 12 rfl rfl)
theorem dX12_sell_13 : decode cX12_sell 13 = .ok (.invokestatic 350, 3) := dk_184 1 94 (dk_at dksX12_sell_0 13 rfl rfl)
theorem dX12_sell_16 : decode cX12_sell 16 = .ok (.ifCond .eq 18, 3) := dk_153 0 18 (dk_at dksX12_sell_0 16 rfl rfl)
theorem dX12_sell_19 : decode cX12_sell 19 = .ok (.aload_n 0, 1) := dk_42 (dk_at dksX12_sell_0 19 rfl rfl)
theorem dX12_sell_20 : decode cX12_sell 20 = .ok (.getfield 143, 3) := dk_180 0 143 (dk_at dksX12_sell_0 20 rfl rfl)
theorem dX12_sell_23 : decode cX12_sell 23 = .ok (.bipush 117, 2) := dk_16 117 (dk_at dksX12_sell_1 0 rfl rfl)
theorem dX12_sell_25 : decode cX12_sell 25 = .ok (.iaload, 1) := dk_46 (dk_at dksX12_sell_1 2 rfl rfl)
theorem dX12_sell_26 : decode cX12_sell 26 = .ok (.iload_n 1, 1) := dk_27 (dk_at dksX12_sell_1 3 rfl rfl)
theorem dX12_sell_27 : decode cX12_sell 27 = .ok (.ishr, 1) := dk_122 (dk_at dksX12_sell_1 4 rfl rfl)
theorem dX12_sell_28 : decode cX12_sell 28 = .ok (.iconst 1, 1) := dk_4 (dk_at dksX12_sell_1 5 rfl rfl)
theorem dX12_sell_29 : decode cX12_sell 29 = .ok (.iand, 1) := dk_126 (dk_at dksX12_sell_1 6 rfl rfl)
theorem dX12_sell_30 : decode cX12_sell 30 = .ok (.iconst 1, 1) := dk_4 (dk_at dksX12_sell_1 7 rfl rfl)
theorem dX12_sell_31 : decode cX12_sell 31 = .ok (.if_icmp .ne 5, 3) := dk_160 0 5 (dk_at dksX12_sell_1 8 rfl rfl)
theorem dX12_sell_34 : decode cX12_sell 34 = .ok (.iconst 0, 1) := dk_3 (dk_at dksX12_sell_1 11 rfl rfl)
theorem dX12_sell_35 : decode cX12_sell 35 = .ok (.ireturn, 1) := dk_172 (dk_at dksX12_sell_1 12 rfl rfl)
theorem dX12_sell_36 : decode cX12_sell 36 = .ok (.aload_n 0, 1) := dk_42 (dk_at dksX12_sell_1 13 rfl rfl)
theorem dX12_sell_37 : decode cX12_sell 37 = .ok (.invokevirtual 395, 3) := dk_182 1 139 (dk_at dksX12_sell_1 14 rfl rfl)
theorem dX12_sell_40 : decode cX12_sell 40 = .ok (.aload_n 0, 1) := dk_42 (dk_at dksX12_sell_1 17 rfl rfl)
theorem dX12_sell_41 : decode cX12_sell 41 = .ok (.iconst 1, 1) := dk_4 (dk_at dksX12_sell_1 18 rfl rfl)
theorem dX12_sell_42 : decode cX12_sell 42 = .ok (.iload_n 1, 1) := dk_27 (dk_at dksX12_sell_1 19 rfl rfl)
theorem dX12_sell_43 : decode cX12_sell 43 = .ok (.ishl, 1) := dk_120 (dk_at dksX12_sell_1 20 rfl rfl)
theorem dX12_sell_44 : decode cX12_sell 44 = .ok (.invokevirtual 416, 3) := dk_182 1 160 (dk_at dksX12_sell_1 21 rfl rfl)
theorem dX12_sell_47 : decode cX12_sell 47 = .ok (.ifCond .ne 5, 3) := dk_154 0 5 (dk_at dksX12_sell_2 0 rfl rfl)
theorem dX12_sell_50 : decode cX12_sell 50 = .ok (.iconst 0, 1) := dk_3 (dk_at dksX12_sell_2 3 rfl rfl)
theorem dX12_sell_51 : decode cX12_sell 51 = .ok (.ireturn, 1) := dk_172 (dk_at dksX12_sell_2 4 rfl rfl)
theorem dX12_sell_52 : decode cX12_sell 52 = .ok (.iconst 0, 1) := dk_3 (dk_at dksX12_sell_2 5 rfl rfl)
theorem dX12_sell_53 : decode cX12_sell 53 = .ok (.istore_n 2, 1) := dk_61 (dk_at dksX12_sell_2 6 rfl rfl)
theorem dX12_sell_54 : decode cX12_sell 54 = .ok (.iload_n 2, 1) := dk_28 (dk_at dksX12_sell_2 7 rfl rfl)
theorem dX12_sell_55 : decode cX12_sell 55 = .ok (.bipush 6, 2) := dk_16 6 (dk_at dksX12_sell_2 8 rfl rfl)
theorem dX12_sell_57 : decode cX12_sell 57 = .ok (.if_icmp .ge 128, 3) := dk_162 0 128 (dk_at dksX12_sell_2 10 rfl rfl)
theorem dX12_sell_60 : decode cX12_sell 60 = .ok (.aload_n 0, 1) := dk_42 (dk_at dksX12_sell_2 13 rfl rfl)
theorem dX12_sell_61 : decode cX12_sell 61 = .ok (.iconst 1, 1) := dk_4 (dk_at dksX12_sell_2 14 rfl rfl)
theorem dX12_sell_62 : decode cX12_sell 62 = .ok (.iload_n 1, 1) := dk_27 (dk_at dksX12_sell_2 15 rfl rfl)
theorem dX12_sell_63 : decode cX12_sell 63 = .ok (.ishl, 1) := dk_120 (dk_at dksX12_sell_2 16 rfl rfl)
theorem dX12_sell_64 : decode cX12_sell 64 = .ok (.iload_n 2, 1) := dk_28 (dk_at dksX12_sell_2 17 rfl rfl)
theorem dX12_sell_65 : decode cX12_sell 65 = .ok (.invokevirtual 413, 3) := dk_182 1 157 (dk_at dksX12_sell_2 18 rfl rfl)
theorem dX12_sell_68 : decode cX12_sell 68 = .ok (.istore_n 3, 1) := dk_62 (dk_at dksX12_sell_2 21 rfl rfl)
theorem dX12_sell_69 : decode cX12_sell 69 = .ok (.iconst 0, 1) := dk_3 (dk_at dksX12_sell_2 22 rfl rfl)
theorem dX12_sell_70 : decode cX12_sell 70 = .ok (.istore 4, 2) := dk_54 4 (dk_at dksX12_sell_3 0 rfl rfl)
theorem dX12_sell_72 : decode cX12_sell 72 = .ok (.iload 4, 2) := dk_21 4 (dk_at dksX12_sell_3 2 rfl rfl)
theorem dX12_sell_74 : decode cX12_sell 74 = .ok (.aload_n 0, 1) := dk_42 (dk_at dksX12_sell_3 4 rfl rfl)
theorem dX12_sell_75 : decode cX12_sell 75 = .ok (.getfield 58, 3) := dk_180 0 58 (dk_at dksX12_sell_3 5 rfl rfl)
theorem dX12_sell_78 : decode cX12_sell 78 = .ok (.aload_n 0, 1) := dk_42 (dk_at dksX12_sell_3 8 rfl rfl)
theorem dX12_sell_79 : decode cX12_sell 79 = .ok (.getfield 257, 3) := dk_180 1 1 (dk_at dksX12_sell_3 9 rfl rfl)
theorem dX12_sell_82 : decode cX12_sell 82 = .ok (.iaload, 1) := dk_46 (dk_at dksX12_sell_3 12 rfl rfl)
theorem dX12_sell_83 : decode cX12_sell 83 = .ok (.if_icmp .ge 96, 3) := dk_162 0 96 (dk_at dksX12_sell_3 13 rfl rfl)
theorem dX12_sell_86 : decode cX12_sell 86 = .ok (.aload_n 0, 1) := dk_42 (dk_at dksX12_sell_3 16 rfl rfl)
theorem dX12_sell_87 : decode cX12_sell 87 = .ok (.getfield 64, 3) := dk_180 0 64 (dk_at dksX12_sell_3 17 rfl rfl)
theorem dX12_sell_90 : decode cX12_sell 90 = .ok (.bipush 6, 2) := dk_16 6 (dk_at dksX12_sell_3 20 rfl rfl)
theorem dX12_sell_92 : decode cX12_sell 92 = .ok (.aload_n 0, 1) := dk_42 (dk_at dksX12_sell_3 22 rfl rfl)
theorem dX12_sell_93 : decode cX12_sell 93 = .ok (.getfield 257, 3) := dk_180 1 1 (dk_at dksX12_sell_4 0 rfl rfl)
theorem dX12_sell_96 : decode cX12_sell 96 = .ok (.imul, 1) := dk_104 (dk_at dksX12_sell_4 3 rfl rfl)
theorem dX12_sell_97 : decode cX12_sell 97 = .ok (.iload 4, 2) := dk_21 4 (dk_at dksX12_sell_4 4 rfl rfl)
theorem dX12_sell_99 : decode cX12_sell 99 = .ok (.iadd, 1) := dk_96 (dk_at dksX12_sell_4 6 rfl rfl)
theorem dX12_sell_100 : decode cX12_sell 100 = .ok (.iaload, 1) := dk_46 (dk_at dksX12_sell_4 7 rfl rfl)
theorem dX12_sell_101 : decode cX12_sell 101 = .ok (.iload_n 2, 1) := dk_28 (dk_at dksX12_sell_4 8 rfl rfl)
theorem dX12_sell_102 : decode cX12_sell 102 = .ok (.if_icmp .eq 6, 3) := dk_159 0 6 (dk_at dksX12_sell_4 9 rfl rfl)
theorem dX12_sell_105 : decode cX12_sell 105 = .ok (.goto 68, 3) := dk_167 0 68 (dk_at dksX12_sell_4 12 rfl rfl)
theorem dX12_sell_108 : decode cX12_sell 108 = .ok (.aload_n 0, 1) := dk_42 (dk_at dksX12_sell_4 15 rfl rfl)
theorem dX12_sell_109 : decode cX12_sell 109 = .ok (.getfield 146, 3) := dk_180 0 146 (dk_at dksX12_sell_4 16 rfl rfl)
theorem dX12_sell_112 : decode cX12_sell 112 = .ok (.bipush 6, 2) := dk_16 6 (dk_at dksX12_sell_4 19 rfl rfl)
theorem dX12_sell_114 : decode cX12_sell 114 = .ok (.bipush 6, 2) := dk_16 6 (dk_at dksX12_sell_4 21 rfl rfl)
theorem dX12_sell_116 : decode cX12_sell 116 = .ok (.iload 4, 2) := dk_21 4 (dk_at dksX12_sell_5 0 rfl rfl)
theorem dX12_sell_118 : decode cX12_sell 118 = .ok (.imul, 1) := dk_104 (dk_at dksX12_sell_5 2 rfl rfl)
theorem dX12_sell_119 : decode cX12_sell 119 = .ok (.iadd, 1) := dk_96 (dk_at dksX12_sell_5 3 rfl rfl)
theorem dX12_sell_120 : decode cX12_sell 120 = .ok (.iload_n 2, 1) := dk_28 (dk_at dksX12_sell_5 4 rfl rfl)
theorem dX12_sell_121 : decode cX12_sell 121 = .ok (.iadd, 1) := dk_96 (dk_at dksX12_sell_5 5 rfl rfl)
theorem dX12_sell_122 : decode cX12_sell 122 = .ok (.iaload, 1) := dk_46 (dk_at dksX12_sell_5 6 rfl rfl)
theorem dX12_sell_123 : decode cX12_sell 123 = .ok (.iload_n 3, 1) := dk_29 (dk_at dksX12_sell_5 7 rfl rfl)
theorem dX12_sell_124 : decode cX12_sell 124 = .ok (.if_icmp .ge 21, 3) := dk_162 0 21 (dk_at dksX12_sell_5 8 rfl rfl)
theorem dX12_sell_127 : decode cX12_sell 127 = .ok (.aload_n 0, 1) := dk_42 (dk_at dksX12_sell_5 11 rfl rfl)
theorem dX12_sell_128 : decode cX12_sell 128 = .ok (.getfield 146, 3) := dk_180 0 146 (dk_at dksX12_sell_5 12 rfl rfl)
theorem dX12_sell_131 : decode cX12_sell 131 = .ok (.bipush 6, 2) := dk_16 6 (dk_at dksX12_sell_5 15 rfl rfl)
theorem dX12_sell_133 : decode cX12_sell 133 = .ok (.bipush 6, 2) := dk_16 6 (dk_at dksX12_sell_5 17 rfl rfl)
theorem dX12_sell_135 : decode cX12_sell 135 = .ok (.iload 4, 2) := dk_21 4 (dk_at dksX12_sell_5 19 rfl rfl)
theorem dX12_sell_137 : decode cX12_sell 137 = .ok (.imul, 1) := dk_104 (dk_at dksX12_sell_5 21 rfl rfl)
theorem dX12_sell_138 : decode cX12_sell 138 = .ok (.iadd, 1) := dk_96 (dk_at dksX12_sell_5 22 rfl rfl)
theorem dX12_sell_139 : decode cX12_sell 139 = .ok (.iload_n 2, 1) := dk_28 (dk_at dksX12_sell_5 23 rfl rfl)
theorem dX12_sell_140 : decode cX12_sell 140 = .ok (.iadd, 1) := dk_96 (dk_at dksX12_sell_6 0 rfl rfl)
theorem dX12_sell_141 : decode cX12_sell 141 = .ok (.iaload, 1) := dk_46 (dk_at dksX12_sell_6 1 rfl rfl)
theorem dX12_sell_142 : decode cX12_sell 142 = .ok (.goto 4, 3) := dk_167 0 4 (dk_at dksX12_sell_6 2 rfl rfl)
theorem dX12_sell_145 : decode cX12_sell 145 = .ok (.iload_n 3, 1) := dk_29 (dk_at dksX12_sell_6 5 rfl rfl)
theorem dX12_sell_146 : decode cX12_sell 146 = .ok (.istore 5, 2) := dk_54 5 (dk_at dksX12_sell_6 6 rfl rfl)
theorem dX12_sell_148 : decode cX12_sell 148 = .ok (.aload_n 0, 1) := dk_42 (dk_at dksX12_sell_6 8 rfl rfl)
theorem dX12_sell_149 : decode cX12_sell 149 = .ok (.getfield 146, 3) := dk_180 0 146 (dk_at dksX12_sell_6 9 rfl rfl)
theorem dX12_sell_152 : decode cX12_sell 152 = .ok (.bipush 6, 2) := dk_16 6 (dk_at dksX12_sell_6 12 rfl rfl)
theorem dX12_sell_154 : decode cX12_sell 154 = .ok (.bipush 6, 2) := dk_16 6 (dk_at dksX12_sell_6 14 rfl rfl)
theorem dX12_sell_156 : decode cX12_sell 156 = .ok (.iload 4, 2) := dk_21 4 (dk_at dksX12_sell_6 16 rfl rfl)
theorem dX12_sell_158 : decode cX12_sell 158 = .ok (.imul, 1) := dk_104 (dk_at dksX12_sell_6 18 rfl rfl)
theorem dX12_sell_159 : decode cX12_sell 159 = .ok (.iadd, 1) := dk_96 (dk_at dksX12_sell_6 19 rfl rfl)
theorem dX12_sell_160 : decode cX12_sell 160 = .ok (.iload_n 2, 1) := dk_28 (dk_at dksX12_sell_6 20 rfl rfl)
theorem dX12_sell_161 : decode cX12_sell 161 = .ok (.iadd, 1) := dk_96 (dk_at dksX12_sell_6 21 rfl rfl)
theorem dX12_sell_162 : decode cX12_sell 162 = .ok (.dup2, 1) := dk_92 (dk_at dksX12_sell_6 22 rfl rfl)
theorem dX12_sell_163 : decode cX12_sell 163 = .ok (.iaload, 1) := dk_46 (dk_at dksX12_sell_6 23 rfl rfl)
theorem dX12_sell_164 : decode cX12_sell 164 = .ok (.iload 5, 2) := dk_21 5 (dk_at dksX12_sell_7 0 rfl rfl)
theorem dX12_sell_166 : decode cX12_sell 166 = .ok (.isub, 1) := dk_100 (dk_at dksX12_sell_7 2 rfl rfl)
theorem dX12_sell_167 : decode cX12_sell 167 = .ok (.iastore, 1) := dk_79 (dk_at dksX12_sell_7 3 rfl rfl)
theorem dX12_sell_168 : decode cX12_sell 168 = .ok (.iload_n 3, 1) := dk_29 (dk_at dksX12_sell_7 4 rfl rfl)
theorem dX12_sell_169 : decode cX12_sell 169 = .ok (.iload 5, 2) := dk_21 5 (dk_at dksX12_sell_7 5 rfl rfl)
theorem dX12_sell_171 : decode cX12_sell 171 = .ok (.isub, 1) := dk_100 (dk_at dksX12_sell_7 7 rfl rfl)
theorem dX12_sell_172 : decode cX12_sell 172 = .ok (.istore_n 3, 1) := dk_62 (dk_at dksX12_sell_7 8 rfl rfl)
theorem dX12_sell_173 : decode cX12_sell 173 = .ok (.iinc 4 1, 3) := dk_132 4 1 (dk_at dksX12_sell_7 9 rfl rfl)
theorem dX12_sell_176 : decode cX12_sell 176 = .ok (.goto (-104), 3) := dk_167 255 152 (dk_at dksX12_sell_7 12 rfl rfl)
theorem dX12_sell_179 : decode cX12_sell 179 = .ok (.iinc 2 1, 3) := dk_132 2 1 (dk_at dksX12_sell_7 15 rfl rfl)
theorem dX12_sell_182 : decode cX12_sell 182 = .ok (.goto (-128), 3) := dk_167 255 128 (dk_at dksX12_sell_7 18 rfl rfl)
theorem dX12_sell_185 : decode cX12_sell 185 = .ok (.aload_n 0, 1) := dk_42 (dk_at dksX12_sell_7 21 rfl rfl)
theorem dX12_sell_186 : decode cX12_sell 186 = .ok (.getfield 146, 3) := dk_180 0 146 (dk_at dksX12_sell_8 0 rfl rfl)
theorem dX12_sell_189 : decode cX12_sell 189 = .ok (.bipush 116, 2) := dk_16 116 (dk_at dksX12_sell_8 3 rfl rfl)
theorem dX12_sell_191 : decode cX12_sell 191 = .ok (.dup2, 1) := dk_92 (dk_at dksX12_sell_8 5 rfl rfl)
theorem dX12_sell_192 : decode cX12_sell 192 = .ok (.iaload, 1) := dk_46 (dk_at dksX12_sell_8 6 rfl rfl)
theorem dX12_sell_193 : decode cX12_sell 193 = .ok (.aload_n 0, 1) := dk_42 (dk_at dksX12_sell_8 7 rfl rfl)
theorem dX12_sell_194 : decode cX12_sell 194 = .ok (.getfield 85, 3) := dk_180 0 85 (dk_at dksX12_sell_8 8 rfl rfl)
theorem dX12_sell_197 : decode cX12_sell 197 = .ok (.iconst 5, 1) := dk_8 (dk_at dksX12_sell_8 11 rfl rfl)
theorem dX12_sell_198 : decode cX12_sell 198 = .ok (.aload_n 0, 1) := dk_42 (dk_at dksX12_sell_8 12 rfl rfl)
theorem dX12_sell_199 : decode cX12_sell 199 = .ok (.getfield 257, 3) := dk_180 1 1 (dk_at dksX12_sell_8 13 rfl rfl)
theorem dX12_sell_202 : decode cX12_sell 202 = .ok (.imul, 1) := dk_104 (dk_at dksX12_sell_8 16 rfl rfl)
theorem dX12_sell_203 : decode cX12_sell 203 = .ok (.iload_n 1, 1) := dk_27 (dk_at dksX12_sell_8 17 rfl rfl)
theorem dX12_sell_204 : decode cX12_sell 204 = .ok (.iadd, 1) := dk_96 (dk_at dksX12_sell_8 18 rfl rfl)
theorem dX12_sell_205 : decode cX12_sell 205 = .ok (.iaload, 1) := dk_46 (dk_at dksX12_sell_8 19 rfl rfl)
theorem dX12_sell_206 : decode cX12_sell 206 = .ok (.iadd, 1) := dk_96 (dk_at dksX12_sell_8 20 rfl rfl)
theorem dX12_sell_207 : decode cX12_sell 207 = .ok (.iastore, 1) := dk_79 (dk_at dksX12_sell_8 21 rfl rfl)
theorem dX12_sell_208 : decode cX12_sell 208 = .ok (.aload_n 0, 1) := dk_42 (dk_at dksX12_sell_8 22 rfl rfl)
theorem dX12_sell_209 : decode cX12_sell 209 = .ok (.getfield 146, 3) := dk_180 0 146 (dk_at dksX12_sell_9 0 rfl rfl)
theorem dX12_sell_212 : decode cX12_sell 212 = .ok (.bipush 117, 2) := dk_16 117 (dk_at dksX12_sell_9 3 rfl rfl)
theorem dX12_sell_214 : decode cX12_sell 214 = .ok (.dup2, 1) := dk_92 (dk_at dksX12_sell_9 5 rfl rfl)
theorem dX12_sell_215 : decode cX12_sell 215 = .ok (.iaload, 1) := dk_46 (dk_at dksX12_sell_9 6 rfl rfl)
theorem dX12_sell_216 : decode cX12_sell 216 = .ok (.iconst 1, 1) := dk_4 (dk_at dksX12_sell_9 7 rfl rfl)
theorem dX12_sell_217 : decode cX12_sell 217 = .ok (.iload_n 1, 1) := dk_27 (dk_at dksX12_sell_9 8 rfl rfl)
theorem dX12_sell_218 : decode cX12_sell 218 = .ok (.ishl, 1) := dk_120 (dk_at dksX12_sell_9 9 rfl rfl)
theorem dX12_sell_219 : decode cX12_sell 219 = .ok (.ior, 1) := dk_128 (dk_at dksX12_sell_9 10 rfl rfl)
theorem dX12_sell_220 : decode cX12_sell 220 = .ok (.iastore, 1) := dk_79 (dk_at dksX12_sell_9 11 rfl rfl)
theorem dX12_sell_221 : decode cX12_sell 221 = .ok (.aload_n 0, 1) := dk_42 (dk_at dksX12_sell_9 12 rfl rfl)
theorem dX12_sell_222 : decode cX12_sell 222 = .ok (.invokevirtual 404, 3) := dk_182 1 148 (dk_at dksX12_sell_9 13 rfl rfl)
theorem dX12_sell_225 : decode cX12_sell 225 = .ok (.iconst 1, 1) := dk_4 (dk_at dksX12_sell_9 16 rfl rfl)
theorem dX12_sell_226 : decode cX12_sell 226 = .ok (.ireturn, 1) := dk_172 (dk_at dksX12_sell_9 17 rfl rfl)
abbrev cX12_isEnough : ByteArray := prog_24_method_78_code
def yX12_isEnough : MethodName := ⟨RX12, "isEnough", "(I)Z"⟩
def dkwX12_isEnough_3 : List UInt8 := [27, 28, 182, 1, 157, 162, 0, 5, 3, 172, 132, 2, 1, 167, 255, 173, 4, 172]
abbrev dktX12_isEnough_3 : List UInt8 := dkwX12_isEnough_3 ++ []
def dkwX12_isEnough_2 : List UInt8 := [180, 0, 146, 16, 6, 16, 6, 21, 4, 104, 96, 28, 96, 46, 96, 62, 132, 4, 1, 167, 255, 202, 29, 42]
abbrev dktX12_isEnough_2 : List UInt8 := dkwX12_isEnough_2 ++ dktX12_isEnough_3
def dkwX12_isEnough_1 : List UInt8 := [162, 0, 46, 42, 180, 0, 64, 16, 6, 42, 180, 1, 1, 104, 21, 4, 96, 46, 28, 160, 0, 21, 29, 42]
abbrev dktX12_isEnough_1 : List UInt8 := dkwX12_isEnough_1 ++ dktX12_isEnough_2
def dkwX12_isEnough_0 : List UInt8 := [3, 61, 28, 16, 6, 162, 0, 83, 3, 62, 3, 54, 4, 21, 4, 42, 180, 0, 58, 42, 180, 1, 1, 46]
abbrev dktX12_isEnough_0 : List UInt8 := dkwX12_isEnough_0 ++ dktX12_isEnough_1
theorem dksX12_isEnough_0 : cX12_isEnough.data.toList.drop 0 = dktX12_isEnough_0 := by decide +kernel
theorem dksX12_isEnough_1 : cX12_isEnough.data.toList.drop 24 = dktX12_isEnough_1 := dk_seg dksX12_isEnough_0 24 rfl rfl
theorem dksX12_isEnough_2 : cX12_isEnough.data.toList.drop 48 = dktX12_isEnough_2 := dk_seg dksX12_isEnough_1 24 rfl rfl
theorem dksX12_isEnough_3 : cX12_isEnough.data.toList.drop 72 = dktX12_isEnough_3 := dk_seg dksX12_isEnough_2 24 rfl rfl
theorem dX12_isEnough_0 : decode cX12_isEnough 0 = .ok (.iconst 0, 1) := dk_3 (dk_at dksX12_isEnough_0 0 rfl rfl)
theorem dX12_isEnough_1 : decode cX12_isEnough 1 = .ok (.istore_n 2, 1) := dk_61 (dk_at dksX12_isEnough_0 1 rfl rfl)
theorem dX12_isEnough_2 : decode cX12_isEnough 2 = .ok (.iload_n 2, 1) := dk_28 (dk_at dksX12_isEnough_0 2 rfl rfl)
theorem dX12_isEnough_3 : decode cX12_isEnough 3 = .ok (.bipush 6, 2) := dk_16 6 (dk_at dksX12_isEnough_0 3 rfl rfl)
theorem dX12_isEnough_5 : decode cX12_isEnough 5 = .ok (.if_icmp .ge 83, 3) := dk_162 0 83 (dk_at dksX12_isEnough_0 5 rfl rfl)
theorem dX12_isEnough_8 : decode cX12_isEnough 8 = .ok (.iconst 0, 1) := dk_3 (dk_at dksX12_isEnough_0 8 rfl rfl)
theorem dX12_isEnough_9 : decode cX12_isEnough 9 = .ok (.istore_n 3, 1) := dk_62 (dk_at dksX12_isEnough_0 9 rfl rfl)
theorem dX12_isEnough_10 : decode cX12_isEnough 10 = .ok (.iconst 0, 1) := dk_3 (dk_at dksX12_isEnough_0 10 rfl rfl)
theorem dX12_isEnough_11 : decode cX12_isEnough 11 = .ok (.istore 4, 2) := dk_54 4 (dk_at dksX12_isEnough_0 11 rfl rfl)
theorem dX12_isEnough_13 : decode cX12_isEnough 13 = .ok (.iload 4, 2) := dk_21 4 (dk_at dksX12_isEnough_0 13 rfl rfl)
theorem dX12_isEnough_15 : decode cX12_isEnough 15 = .ok (.aload_n 0, 1) := dk_42 (dk_at dksX12_isEnough_0 15 rfl rfl)
theorem dX12_isEnough_16 : decode cX12_isEnough 16 = .ok (.getfield 58, 3) := dk_180 0 58 (dk_at dksX12_isEnough_0 16 rfl rfl)
theorem dX12_isEnough_19 : decode cX12_isEnough 19 = .ok (.aload_n 0, 1) := dk_42 (dk_at dksX12_isEnough_0 19 rfl rfl)
theorem dX12_isEnough_20 : decode cX12_isEnough 20 = .ok (.getfield 257, 3) := dk_180 1 1 (dk_at dksX12_isEnough_0 20 rfl rfl)
theorem dX12_isEnough_23 : decode cX12_isEnough 23 = .ok (.iaload, 1) := dk_46 (dk_at dksX12_isEnough_0 23 rfl rfl)
theorem dX12_isEnough_24 : decode cX12_isEnough 24 = .ok (.if_icmp .ge 46, 3) := dk_162 0 46 (dk_at dksX12_isEnough_1 0 rfl rfl)
theorem dX12_isEnough_27 : decode cX12_isEnough 27 = .ok (.aload_n 0, 1) := dk_42 (dk_at dksX12_isEnough_1 3 rfl rfl)
theorem dX12_isEnough_28 : decode cX12_isEnough 28 = .ok (.getfield 64, 3) := dk_180 0 64 (dk_at dksX12_isEnough_1 4 rfl rfl)
theorem dX12_isEnough_31 : decode cX12_isEnough 31 = .ok (.bipush 6, 2) := dk_16 6 (dk_at dksX12_isEnough_1 7 rfl rfl)
theorem dX12_isEnough_33 : decode cX12_isEnough 33 = .ok (.aload_n 0, 1) := dk_42 (dk_at dksX12_isEnough_1 9 rfl rfl)
theorem dX12_isEnough_34 : decode cX12_isEnough 34 = .ok (.getfield 257, 3) := dk_180 1 1 (dk_at dksX12_isEnough_1 10 rfl rfl)
theorem dX12_isEnough_37 : decode cX12_isEnough 37 = .ok (.imul, 1) := dk_104 (dk_at dksX12_isEnough_1 13 rfl rfl)
theorem dX12_isEnough_38 : decode cX12_isEnough 38 = .ok (.iload 4, 2) := dk_21 4 (dk_at dksX12_isEnough_1 14 rfl rfl)
theorem dX12_isEnough_40 : decode cX12_isEnough 40 = .ok (.iadd, 1) := dk_96 (dk_at dksX12_isEnough_1 16 rfl rfl)
theorem dX12_isEnough_41 : decode cX12_isEnough 41 = .ok (.iaload, 1) := dk_46 (dk_at dksX12_isEnough_1 17 rfl rfl)
theorem dX12_isEnough_42 : decode cX12_isEnough 42 = .ok (.iload_n 2, 1) := dk_28 (dk_at dksX12_isEnough_1 18 rfl rfl)
theorem dX12_isEnough_43 : decode cX12_isEnough 43 = .ok (.if_icmp .ne 21, 3) := dk_160 0 21 (dk_at dksX12_isEnough_1 19 rfl rfl)
theorem dX12_isEnough_46 : decode cX12_isEnough 46 = .ok (.iload_n 3, 1) := dk_29 (dk_at dksX12_isEnough_1 22 rfl rfl)
theorem dX12_isEnough_47 : decode cX12_isEnough 47 = .ok (.aload_n 0, 1) := dk_42 (dk_at dksX12_isEnough_1 23 rfl rfl)
theorem dX12_isEnough_48 : decode cX12_isEnough 48 = .ok (.getfield 146, 3) := dk_180 0 146 (dk_at dksX12_isEnough_2 0 rfl rfl)
theorem dX12_isEnough_51 : decode cX12_isEnough 51 = .ok (.bipush 6, 2) := dk_16 6 (dk_at dksX12_isEnough_2 3 rfl rfl)
theorem dX12_isEnough_53 : decode cX12_isEnough 53 = .ok (.bipush 6, 2) := dk_16 6 (dk_at dksX12_isEnough_2 5 rfl rfl)
theorem dX12_isEnough_55 : decode cX12_isEnough 55 = .ok (.iload 4, 2) := dk_21 4 (dk_at dksX12_isEnough_2 7 rfl rfl)
theorem dX12_isEnough_57 : decode cX12_isEnough 57 = .ok (.imul, 1) := dk_104 (dk_at dksX12_isEnough_2 9 rfl rfl)
theorem dX12_isEnough_58 : decode cX12_isEnough 58 = .ok (.iadd, 1) := dk_96 (dk_at dksX12_isEnough_2 10 rfl rfl)
theorem dX12_isEnough_59 : decode cX12_isEnough 59 = .ok (.iload_n 2, 1) := dk_28 (dk_at dksX12_isEnough_2 11 rfl rfl)
theorem dX12_isEnough_60 : decode cX12_isEnough 60 = .ok (.iadd, 1) := dk_96 (dk_at dksX12_isEnough_2 12 rfl rfl)
theorem dX12_isEnough_61 : decode cX12_isEnough 61 = .ok (.iaload, 1) := dk_46 (dk_at dksX12_isEnough_2 13 rfl rfl)
theorem dX12_isEnough_62 : decode cX12_isEnough 62 = .ok (.iadd, 1) := dk_96 (dk_at dksX12_isEnough_2 14 rfl rfl)
theorem dX12_isEnough_63 : decode cX12_isEnough 63 = .ok (.istore_n 3, 1) := dk_62 (dk_at dksX12_isEnough_2 15 rfl rfl)
theorem dX12_isEnough_64 : decode cX12_isEnough 64 = .ok (.iinc 4 1, 3) := dk_132 4 1 (dk_at dksX12_isEnough_2 16 rfl rfl)
theorem dX12_isEnough_67 : decode cX12_isEnough 67 = .ok (.goto (-54), 3) := dk_167 255 202 (dk_at dksX12_isEnough_2 19 rfl rfl)
theorem dX12_isEnough_70 : decode cX12_isEnough 70 = .ok (.iload_n 3, 1) := dk_29 (dk_at dksX12_isEnough_2 22 rfl rfl)
theorem dX12_isEnough_71 : decode cX12_isEnough 71 = .ok (.aload_n 0, 1) := dk_42 (dk_at dksX12_isEnough_2 23 rfl rfl)
theorem dX12_isEnough_72 : decode cX12_isEnough 72 = .ok (.iload_n 1, 1) := dk_27 (dk_at dksX12_isEnough_3 0 rfl rfl)
theorem dX12_isEnough_73 : decode cX12_isEnough 73 = .ok (.iload_n 2, 1) := dk_28 (dk_at dksX12_isEnough_3 1 rfl rfl)
theorem dX12_isEnough_74 : decode cX12_isEnough 74 = .ok (.invokevirtual 413, 3) := dk_182 1 157 (dk_at dksX12_isEnough_3 2 rfl rfl)
theorem dX12_isEnough_77 : decode cX12_isEnough 77 = .ok (.if_icmp .ge 5, 3) := dk_162 0 5 (dk_at dksX12_isEnough_3 5 rfl rfl)
theorem dX12_isEnough_80 : decode cX12_isEnough 80 = .ok (.iconst 0, 1) := dk_3 (dk_at dksX12_isEnough_3 8 rfl rfl)
theorem dX12_isEnough_81 : decode cX12_isEnough 81 = .ok (.ireturn, 1) := dk_172 (dk_at dksX12_isEnough_3 9 rfl rfl)
theorem dX12_isEnough_82 : decode cX12_isEnough 82 = .ok (.iinc 2 1, 3) := dk_132 2 1 (dk_at dksX12_isEnough_3 10 rfl rfl)
theorem dX12_isEnough_85 : decode cX12_isEnough 85 = .ok (.goto (-83), 3) := dk_167 255 173 (dk_at dksX12_isEnough_3 13 rfl rfl)
theorem dX12_isEnough_88 : decode cX12_isEnough 88 = .ok (.iconst 1, 1) := dk_4 (dk_at dksX12_isEnough_3 16 rfl rfl)
theorem dX12_isEnough_89 : decode cX12_isEnough 89 = .ok (.ireturn, 1) := dk_172 (dk_at dksX12_isEnough_3 17 rfl rfl)
abbrev cX12_wantedBy : ByteArray := prog_24_method_77_code
def yX12_wantedBy : MethodName := ⟨RX12, "wantedBy", "(II)I"⟩
def dkwX12_wantedBy_4 : List UInt8 := [96, 62, 132, 5, 1, 167, 255, 189, 132, 4, 1, 167, 255, 154, 29, 172]
abbrev dktX12_wantedBy_4 : List UInt8 := dkwX12_wantedBy_4 ++ []
def dkwX12_wantedBy_3 : List UInt8 := [28, 160, 0, 25, 29, 42, 180, 0, 94, 7, 8, 42, 180, 1, 1, 104, 21, 4, 96, 104, 21, 5, 96, 46]
abbrev dktX12_wantedBy_3 : List UInt8 := dkwX12_wantedBy_3 ++ dktX12_wantedBy_4
def dkwX12_wantedBy_2 : List UInt8 := [96, 46, 162, 0, 54, 42, 180, 0, 91, 7, 8, 42, 180, 1, 1, 104, 21, 4, 96, 104, 21, 5, 96, 46]
abbrev dktX12_wantedBy_2 : List UInt8 := dkwX12_wantedBy_2 ++ dktX12_wantedBy_3
def dkwX12_wantedBy_1 : List UInt8 := [126, 154, 0, 6, 167, 0, 76, 3, 54, 5, 21, 5, 42, 180, 0, 88, 8, 42, 180, 1, 1, 104, 21, 4]
abbrev dktX12_wantedBy_1 : List UInt8 := dkwX12_wantedBy_1 ++ dktX12_wantedBy_2
def dkwX12_wantedBy_0 : List UInt8 := [3, 62, 3, 54, 4, 21, 4, 42, 180, 0, 82, 42, 180, 1, 1, 46, 162, 0, 94, 27, 21, 4, 122, 4]
abbrev dktX12_wantedBy_0 : List UInt8 := dkwX12_wantedBy_0 ++ dktX12_wantedBy_1
theorem dksX12_wantedBy_0 : cX12_wantedBy.data.toList.drop 0 = dktX12_wantedBy_0 := by decide +kernel
theorem dksX12_wantedBy_1 : cX12_wantedBy.data.toList.drop 24 = dktX12_wantedBy_1 := dk_seg dksX12_wantedBy_0 24 rfl rfl
theorem dksX12_wantedBy_2 : cX12_wantedBy.data.toList.drop 48 = dktX12_wantedBy_2 := dk_seg dksX12_wantedBy_1 24 rfl rfl
theorem dksX12_wantedBy_3 : cX12_wantedBy.data.toList.drop 72 = dktX12_wantedBy_3 := dk_seg dksX12_wantedBy_2 24 rfl rfl
theorem dksX12_wantedBy_4 : cX12_wantedBy.data.toList.drop 96 = dktX12_wantedBy_4 := dk_seg dksX12_wantedBy_3 24 rfl rfl
theorem dX12_wantedBy_0 : decode cX12_wantedBy 0 = .ok (.iconst 0, 1) := dk_3 (dk_at dksX12_wantedBy_0 0 rfl rfl)
theorem dX12_wantedBy_1 : decode cX12_wantedBy 1 = .ok (.istore_n 3, 1) := dk_62 (dk_at dksX12_wantedBy_0 1 rfl rfl)
theorem dX12_wantedBy_2 : decode cX12_wantedBy 2 = .ok (.iconst 0, 1) := dk_3 (dk_at dksX12_wantedBy_0 2 rfl rfl)
theorem dX12_wantedBy_3 : decode cX12_wantedBy 3 = .ok (.istore 4, 2) := dk_54 4 (dk_at dksX12_wantedBy_0 3 rfl rfl)
theorem dX12_wantedBy_5 : decode cX12_wantedBy 5 = .ok (.iload 4, 2) := dk_21 4 (dk_at dksX12_wantedBy_0 5 rfl rfl)
theorem dX12_wantedBy_7 : decode cX12_wantedBy 7 = .ok (.aload_n 0, 1) := dk_42 (dk_at dksX12_wantedBy_0 7 rfl rfl)
theorem dX12_wantedBy_8 : decode cX12_wantedBy 8 = .ok (.getfield 82, 3) := dk_180 0 82 (dk_at dksX12_wantedBy_0 8 rfl rfl)
theorem dX12_wantedBy_11 : decode cX12_wantedBy 11 = .ok (.aload_n 0, 1) := dk_42 (dk_at dksX12_wantedBy_0 11 rfl rfl)
theorem dX12_wantedBy_12 : decode cX12_wantedBy 12 = .ok (.getfield 257, 3) := dk_180 1 1 (dk_at dksX12_wantedBy_0 12 rfl rfl)
theorem dX12_wantedBy_15 : decode cX12_wantedBy 15 = .ok (.iaload, 1) := dk_46 (dk_at dksX12_wantedBy_0 15 rfl rfl)
theorem dX12_wantedBy_16 : decode cX12_wantedBy 16 = .ok (.if_icmp .ge 94, 3) := dk_162 0 94 (dk_at dksX12_wantedBy_0 16 rfl rfl)
theorem dX12_wantedBy_19 : decode cX12_wantedBy 19 = .ok (.iload_n 1, 1) := dk_27 (dk_at dksX12_wantedBy_0 19 rfl rfl)
theorem dX12_wantedBy_20 : decode cX12_wantedBy 20 = .ok (.iload 4, 2) := dk_21 4 (dk_at dksX12_wantedBy_0 20 rfl rfl)
theorem dX12_wantedBy_22 : decode cX12_wantedBy 22 = .ok (.ishr, 1) := dk_122 (dk_at dksX12_wantedBy_0 22 rfl rfl)
theorem dX12_wantedBy_23 : decode cX12_wantedBy 23 = .ok (.iconst 1, 1) := dk_4 (dk_at dksX12_wantedBy_0 23 rfl rfl)
theorem dX12_wantedBy_24 : decode cX12_wantedBy 24 = .ok (.iand, 1) := dk_126 (dk_at dksX12_wantedBy_1 0 rfl rfl)
theorem dX12_wantedBy_25 : decode cX12_wantedBy 25 = .ok (.ifCond .ne 6, 3) := dk_154 0 6 (dk_at dksX12_wantedBy_1 1 rfl rfl)
theorem dX12_wantedBy_28 : decode cX12_wantedBy 28 = .ok (.goto 76, 3) := dk_167 0 76 (dk_at dksX12_wantedBy_1 4 rfl rfl)
theorem dX12_wantedBy_31 : decode cX12_wantedBy 31 = .ok (.iconst 0, 1) := dk_3 (dk_at dksX12_wantedBy_1 7 rfl rfl)
theorem dX12_wantedBy_32 : decode cX12_wantedBy 32 = .ok (.istore 5, 2) := dk_54 5 (dk_at dksX12_wantedBy_1 8 rfl rfl)
theorem dX12_wantedBy_34 : decode cX12_wantedBy 34 = .ok (.iload 5, 2) := dk_21 5 (dk_at dksX12_wantedBy_1 10 rfl rfl)
theorem dX12_wantedBy_36 : decode cX12_wantedBy 36 = .ok (.aload_n 0, 1) := dk_42 (dk_at dksX12_wantedBy_1 12 rfl rfl)
theorem dX12_wantedBy_37 : decode cX12_wantedBy 37 = .ok (.getfield 88, 3) := dk_180 0 88 (dk_at dksX12_wantedBy_1 13 rfl rfl)
theorem dX12_wantedBy_40 : decode cX12_wantedBy 40 = .ok (.iconst 5, 1) := dk_8 (dk_at dksX12_wantedBy_1 16 rfl rfl)
theorem dX12_wantedBy_41 : decode cX12_wantedBy 41 = .ok (.aload_n 0, 1) := dk_42 (dk_at dksX12_wantedBy_1 17 rfl rfl)
theorem dX12_wantedBy_42 : decode cX12_wantedBy 42 = .ok (.getfield 257, 3) := dk_180 1 1 (dk_at dksX12_wantedBy_1 18 rfl rfl)
theorem dX12_wantedBy_45 : decode cX12_wantedBy 45 = .ok (.imul, 1) := dk_104 (dk_at dksX12_wantedBy_1 21 rfl rfl)
theorem dX12_wantedBy_46 : decode cX12_wantedBy 46 = .ok (.iload 4, 2) := dk_21 4 (dk_at dksX12_wantedBy_1 22 rfl rfl)
theorem dX12_wantedBy_48 : decode cX12_wantedBy 48 = .ok (.iadd, 1) := dk_96 (dk_at dksX12_wantedBy_2 0 rfl rfl)
theorem dX12_wantedBy_49 : decode cX12_wantedBy 49 = .ok (.iaload, 1) := dk_46 (dk_at dksX12_wantedBy_2 1 rfl rfl)
theorem dX12_wantedBy_50 : decode cX12_wantedBy 50 = .ok (.if_icmp .ge 54, 3) := dk_162 0 54 (dk_at dksX12_wantedBy_2 2 rfl rfl)
theorem dX12_wantedBy_53 : decode cX12_wantedBy 53 = .ok (.aload_n 0, 1) := dk_42 (dk_at dksX12_wantedBy_2 5 rfl rfl)
theorem dX12_wantedBy_54 : decode cX12_wantedBy 54 = .ok (.getfield 91, 3) := dk_180 0 91 (dk_at dksX12_wantedBy_2 6 rfl rfl)
theorem dX12_wantedBy_57 : decode cX12_wantedBy 57 = .ok (.iconst 4, 1) := dk_7 (dk_at dksX12_wantedBy_2 9 rfl rfl)
theorem dX12_wantedBy_58 : decode cX12_wantedBy 58 = .ok (.iconst 5, 1) := dk_8 (dk_at dksX12_wantedBy_2 10 rfl rfl)
theorem dX12_wantedBy_59 : decode cX12_wantedBy 59 = .ok (.aload_n 0, 1) := dk_42 (dk_at dksX12_wantedBy_2 11 rfl rfl)
theorem dX12_wantedBy_60 : decode cX12_wantedBy 60 = .ok (.getfield 257, 3) := dk_180 1 1 (dk_at dksX12_wantedBy_2 12 rfl rfl)
theorem dX12_wantedBy_63 : decode cX12_wantedBy 63 = .ok (.imul, 1) := dk_104 (dk_at dksX12_wantedBy_2 15 rfl rfl)
theorem dX12_wantedBy_64 : decode cX12_wantedBy 64 = .ok (.iload 4, 2) := dk_21 4 (dk_at dksX12_wantedBy_2 16 rfl rfl)
theorem dX12_wantedBy_66 : decode cX12_wantedBy 66 = .ok (.iadd, 1) := dk_96 (dk_at dksX12_wantedBy_2 18 rfl rfl)
theorem dX12_wantedBy_67 : decode cX12_wantedBy 67 = .ok (.imul, 1) := dk_104 (dk_at dksX12_wantedBy_2 19 rfl rfl)
theorem dX12_wantedBy_68 : decode cX12_wantedBy 68 = .ok (.iload 5, 2) := dk_21 5 (dk_at dksX12_wantedBy_2 20 rfl rfl)
theorem dX12_wantedBy_70 : decode cX12_wantedBy 70 = .ok (.iadd, 1) := dk_96 (dk_at dksX12_wantedBy_2 22 rfl rfl)
theorem dX12_wantedBy_71 : decode cX12_wantedBy 71 = .ok (.iaload, 1) := dk_46 (dk_at dksX12_wantedBy_2 23 rfl rfl)
theorem dX12_wantedBy_72 : decode cX12_wantedBy 72 = .ok (.iload_n 2, 1) := dk_28 (dk_at dksX12_wantedBy_3 0 rfl rfl)
theorem dX12_wantedBy_73 : decode cX12_wantedBy 73 = .ok (.if_icmp .ne 25, 3) := dk_160 0 25 (dk_at dksX12_wantedBy_3 1 rfl rfl)
theorem dX12_wantedBy_76 : decode cX12_wantedBy 76 = .ok (.iload_n 3, 1) := dk_29 (dk_at dksX12_wantedBy_3 4 rfl rfl)
theorem dX12_wantedBy_77 : decode cX12_wantedBy 77 = .ok (.aload_n 0, 1) := dk_42 (dk_at dksX12_wantedBy_3 5 rfl rfl)
theorem dX12_wantedBy_78 : decode cX12_wantedBy 78 = .ok (.getfield 94, 3) := dk_180 0 94 (dk_at dksX12_wantedBy_3 6 rfl rfl)
theorem dX12_wantedBy_81 : decode cX12_wantedBy 81 = .ok (.iconst 4, 1) := dk_7 (dk_at dksX12_wantedBy_3 9 rfl rfl)
theorem dX12_wantedBy_82 : decode cX12_wantedBy 82 = .ok (.iconst 5, 1) := dk_8 (dk_at dksX12_wantedBy_3 10 rfl rfl)
theorem dX12_wantedBy_83 : decode cX12_wantedBy 83 = .ok (.aload_n 0, 1) := dk_42 (dk_at dksX12_wantedBy_3 11 rfl rfl)
theorem dX12_wantedBy_84 : decode cX12_wantedBy 84 = .ok (.getfield 257, 3) := dk_180 1 1 (dk_at dksX12_wantedBy_3 12 rfl rfl)
theorem dX12_wantedBy_87 : decode cX12_wantedBy 87 = .ok (.imul, 1) := dk_104 (dk_at dksX12_wantedBy_3 15 rfl rfl)
theorem dX12_wantedBy_88 : decode cX12_wantedBy 88 = .ok (.iload 4, 2) := dk_21 4 (dk_at dksX12_wantedBy_3 16 rfl rfl)
theorem dX12_wantedBy_90 : decode cX12_wantedBy 90 = .ok (.iadd, 1) := dk_96 (dk_at dksX12_wantedBy_3 18 rfl rfl)
theorem dX12_wantedBy_91 : decode cX12_wantedBy 91 = .ok (.imul, 1) := dk_104 (dk_at dksX12_wantedBy_3 19 rfl rfl)
theorem dX12_wantedBy_92 : decode cX12_wantedBy 92 = .ok (.iload 5, 2) := dk_21 5 (dk_at dksX12_wantedBy_3 20 rfl rfl)
theorem dX12_wantedBy_94 : decode cX12_wantedBy 94 = .ok (.iadd, 1) := dk_96 (dk_at dksX12_wantedBy_3 22 rfl rfl)
theorem dX12_wantedBy_95 : decode cX12_wantedBy 95 = .ok (.iaload, 1) := dk_46 (dk_at dksX12_wantedBy_3 23 rfl rfl)
theorem dX12_wantedBy_96 : decode cX12_wantedBy 96 = .ok (.iadd, 1) := dk_96 (dk_at dksX12_wantedBy_4 0 rfl rfl)
theorem dX12_wantedBy_97 : decode cX12_wantedBy 97 = .ok (.istore_n 3, 1) := dk_62 (dk_at dksX12_wantedBy_4 1 rfl rfl)
theorem dX12_wantedBy_98 : decode cX12_wantedBy 98 = .ok (.iinc 5 1, 3) := dk_132 5 1 (dk_at dksX12_wantedBy_4 2 rfl rfl)
theorem dX12_wantedBy_101 : decode cX12_wantedBy 101 = .ok (.goto (-67), 3) := dk_167 255 189 (dk_at dksX12_wantedBy_4 5 rfl rfl)
theorem dX12_wantedBy_104 : decode cX12_wantedBy 104 = .ok (.iinc 4 1, 3) := dk_132 4 1 (dk_at dksX12_wantedBy_4 8 rfl rfl)
theorem dX12_wantedBy_107 : decode cX12_wantedBy 107 = .ok (.goto (-102), 3) := dk_167 255 154 (dk_at dksX12_wantedBy_4 11 rfl rfl)
theorem dX12_wantedBy_110 : decode cX12_wantedBy 110 = .ok (.iload_n 3, 1) := dk_29 (dk_at dksX12_wantedBy_4 14 rfl rfl)
theorem dX12_wantedBy_111 : decode cX12_wantedBy 111 = .ok (.ireturn, 1) := dk_172 (dk_at dksX12_wantedBy_4 15 rfl rfl)
abbrev cX12_sales : ByteArray := prog_24_method_81_code
def yX12_sales : MethodName := ⟨RX12, "sales", "(I)I"⟩
def dkwX12_sales_3 : List UInt8 := [132, 3, 1, 167, 255, 203, 27, 154, 0, 11, 42, 28, 182, 1, 163, 167, 0, 4, 28, 172]
abbrev dktX12_sales_3 : List UInt8 := dkwX12_sales_3 ++ []
def dkwX12_sales_2 : List UInt8 := [42, 29, 182, 1, 160, 153, 0, 18, 42, 29, 182, 1, 163, 42, 28, 182, 1, 163, 164, 0, 5, 29, 61]
abbrev dktX12_sales_2 : List UInt8 := dkwX12_sales_2 ++ dktX12_sales_3
def dkwX12_sales_1 : List UInt8 := [180, 0, 82, 42, 180, 1, 1, 46, 120, 162, 0, 44, 29, 42, 180, 0, 146, 16, 117, 46, 126, 154, 0, 26]
abbrev dktX12_sales_1 : List UInt8 := dkwX12_sales_1 ++ dktX12_sales_2
def dkwX12_sales_0 : List UInt8 := [27, 3, 4, 184, 1, 94, 154, 0, 5, 2, 172, 42, 182, 1, 139, 3, 61, 4, 62, 29, 4, 42]
abbrev dktX12_sales_0 : List UInt8 := dkwX12_sales_0 ++ dktX12_sales_1
theorem dksX12_sales_0 : cX12_sales.data.toList.drop 0 = dktX12_sales_0 := by decide +kernel
theorem dksX12_sales_1 : cX12_sales.data.toList.drop 22 = dktX12_sales_1 := dk_seg dksX12_sales_0 22 rfl rfl
theorem dksX12_sales_2 : cX12_sales.data.toList.drop 46 = dktX12_sales_2 := dk_seg dksX12_sales_1 24 rfl rfl
theorem dksX12_sales_3 : cX12_sales.data.toList.drop 69 = dktX12_sales_3 := dk_seg dksX12_sales_2 23 rfl rfl
theorem dX12_sales_0 : decode cX12_sales 0 = .ok (.iload_n 1, 1) := dk_27 (dk_at dksX12_sales_0 0 rfl rfl)
theorem dX12_sales_1 : decode cX12_sales 1 = .ok (.iconst 0, 1) := dk_3 (dk_at dksX12_sales_0 1 rfl rfl)
theorem dX12_sales_2 : decode cX12_sales 2 = .ok (.iconst 1, 1) := dk_4 (dk_at dksX12_sales_0 2 rfl rfl)
theorem dX12_sales_3 : decode cX12_sales 3 = .ok (.invokestatic 350, 3) := dk_184 1 94 (dk_at dksX12_sales_0 3 rfl rfl)
theorem dX12_sales_6 : decode cX12_sales 6 = .ok (.ifCond .ne 5, 3) := dk_154 0 5 (dk_at dksX12_sales_0 6 rfl rfl)
theorem dX12_sales_9 : decode cX12_sales 9 = .ok (.iconst (-1), 1) := dk_2 (dk_at dksX12_sales_0 9 rfl rfl)
theorem dX12_sales_10 : decode cX12_sales 10 = .ok (.ireturn, 1) := dk_172 (dk_at dksX12_sales_0 10 rfl rfl)
theorem dX12_sales_11 : decode cX12_sales 11 = .ok (.aload_n 0, 1) := dk_42 (dk_at dksX12_sales_0 11 rfl rfl)
theorem dX12_sales_12 : decode cX12_sales 12 = .ok (.invokevirtual 395, 3) := dk_182 1 139 (dk_at dksX12_sales_0 12 rfl rfl)
theorem dX12_sales_15 : decode cX12_sales 15 = .ok (.iconst 0, 1) := dk_3 (dk_at dksX12_sales_0 15 rfl rfl)
theorem dX12_sales_16 : decode cX12_sales 16 = .ok (.istore_n 2, 1) := dk_61 (dk_at dksX12_sales_0 16 rfl rfl)
theorem dX12_sales_17 : decode cX12_sales 17 = .ok (.iconst 1, 1) := dk_4 (dk_at dksX12_sales_0 17 rfl rfl)
theorem dX12_sales_18 : decode cX12_sales 18 = .ok (.istore_n 3, 1) := dk_62 (dk_at dksX12_sales_0 18 rfl rfl)
theorem dX12_sales_19 : decode cX12_sales 19 = .ok (.iload_n 3, 1) := dk_29 (dk_at dksX12_sales_0 19 rfl rfl)
theorem dX12_sales_20 : decode cX12_sales 20 = .ok (.iconst 1, 1) := dk_4 (dk_at dksX12_sales_0 20 rfl rfl)
theorem dX12_sales_21 : decode cX12_sales 21 = .ok (.aload_n 0, 1) := dk_42 (dk_at dksX12_sales_0 21 rfl rfl)
theorem dX12_sales_22 : decode cX12_sales 22 = .ok (.getfield 82, 3) := dk_180 0 82 (dk_at dksX12_sales_1 0 rfl rfl)
theorem dX12_sales_25 : decode cX12_sales 25 = .ok (.aload_n 0, 1) := dk_42 (dk_at dksX12_sales_1 3 rfl rfl)
theorem dX12_sales_26 : decode cX12_sales 26 = .ok (.getfield 257, 3) := dk_180 1 1 (dk_at dksX12_sales_1 4 rfl rfl)
theorem dX12_sales_29 : decode cX12_sales 29 = .ok (.iaload, 1) := dk_46 (dk_at dksX12_sales_1 7 rfl rfl)
theorem dX12_sales_30 : decode cX12_sales 30 = .ok (.ishl, 1) := dk_120 (dk_at dksX12_sales_1 8 rfl rfl)
theorem dX12_sales_31 : decode cX12_sales 31 = .ok (.if_icmp .ge 44, 3) := dk_162 0 44 (dk_at dksX12_sales_1 9 rfl rfl)
theorem dX12_sales_34 : decode cX12_sales 34 = .ok (.iload_n 3, 1) := dk_29 (dk_at dksX12_sales_1 12 rfl rfl)
theorem dX12_sales_35 : decode cX12_sales 35 = .ok (.aload_n 0, 1) := dk_42 (dk_at dksX12_sales_1 13 rfl rfl)
theorem dX12_sales_36 : decode cX12_sales 36 = .ok (.getfield 146, 3) := dk_180 0 146 (dk_at dksX12_sales_1 14 rfl rfl)
theorem dX12_sales_39 : decode cX12_sales 39 = .ok (.bipush 117, 2) := dk_16 117 (dk_at dksX12_sales_1 17 rfl rfl)
theorem dX12_sales_41 : decode cX12_sales 41 = .ok (.iaload, 1) := dk_46 (dk_at dksX12_sales_1 19 rfl rfl)
theorem dX12_sales_42 : decode cX12_sales 42 = .ok (.iand, 1) := dk_126 (dk_at dksX12_sales_1 20 rfl rfl)
theorem dX12_sales_43 : decode cX12_sales 43 = .ok (.ifCond .ne 26, 3) := dk_154 0 26 (dk_at dksX12_sales_1 21 rfl rfl)
theorem dX12_sales_46 : decode cX12_sales 46 = .ok (.aload_n 0, 1) := dk_42 (dk_at dksX12_sales_2 0 rfl rfl)
theorem dX12_sales_47 : decode cX12_sales 47 = .ok (.iload_n 3, 1) := dk_29 (dk_at dksX12_sales_2 1 rfl rfl)
theorem dX12_sales_48 : decode cX12_sales 48 = .ok (.invokevirtual 416, 3) := dk_182 1 160 (dk_at dksX12_sales_2 2 rfl rfl)
theorem dX12_sales_51 : decode cX12_sales 51 = .ok (.ifCond .eq 18, 3) := dk_153 0 18 (dk_at dksX12_sales_2 5 rfl rfl)
theorem dX12_sales_54 : decode cX12_sales 54 = .ok (.aload_n 0, 1) := dk_42 (dk_at dksX12_sales_2 8 rfl rfl)
theorem dX12_sales_55 : decode cX12_sales 55 = .ok (.iload_n 3, 1) := dk_29 (dk_at dksX12_sales_2 9 rfl rfl)
theorem dX12_sales_56 : decode cX12_sales 56 = .ok (.invokevirtual 419, 3) := dk_182 1 163 (dk_at dksX12_sales_2 10 rfl rfl)
theorem dX12_sales_59 : decode cX12_sales 59 = .ok (.aload_n 0, 1) := dk_42 (dk_at dksX12_sales_2 13 rfl rfl)
theorem dX12_sales_60 : decode cX12_sales 60 = .ok (.iload_n 2, 1) := dk_28 (dk_at dksX12_sales_2 14 rfl rfl)
theorem dX12_sales_61 : decode cX12_sales 61 = .ok (.invokevirtual 419, 3) := dk_182 1 163 (dk_at dksX12_sales_2 15 rfl rfl)
theorem dX12_sales_64 : decode cX12_sales 64 = .ok (.if_icmp .le 5, 3) := dk_164 0 5 (dk_at dksX12_sales_2 18 rfl rfl)
theorem dX12_sales_67 : decode cX12_sales 67 = .ok (.iload_n 3, 1) := dk_29 (dk_at dksX12_sales_2 21 rfl rfl)
theorem dX12_sales_68 : decode cX12_sales 68 = .ok (.istore_n 2, 1) := dk_61 (dk_at dksX12_sales_2 22 rfl rfl)
theorem dX12_sales_69 : decode cX12_sales 69 = .ok (.iinc 3 1, 3) := dk_132 3 1 (dk_at dksX12_sales_3 0 rfl rfl)
theorem dX12_sales_72 : decode cX12_sales 72 = .ok (.goto (-53), 3) := dk_167 255 203 (dk_at dksX12_sales_3 3 rfl rfl)
theorem dX12_sales_75 : decode cX12_sales 75 = .ok (.iload_n 1, 1) := dk_27 (dk_at dksX12_sales_3 6 rfl rfl)
theorem dX12_sales_76 : decode cX12_sales 76 = .ok (.ifCond .ne 11, 3) := dk_154 0 11 (dk_at dksX12_sales_3 7 rfl rfl)
theorem dX12_sales_79 : decode cX12_sales 79 = .ok (.aload_n 0, 1) := dk_42 (dk_at dksX12_sales_3 10 rfl rfl)
theorem dX12_sales_80 : decode cX12_sales 80 = .ok (.iload_n 2, 1) := dk_28 (dk_at dksX12_sales_3 11 rfl rfl)
theorem dX12_sales_81 : decode cX12_sales 81 = .ok (.invokevirtual 419, 3) := dk_182 1 163 (dk_at dksX12_sales_3 12 rfl rfl)
theorem dX12_sales_84 : decode cX12_sales 84 = .ok (.goto 4, 3) := dk_167 0 4 (dk_at dksX12_sales_3 15 rfl rfl)
theorem dX12_sales_87 : decode cX12_sales 87 = .ok (.iload_n 2, 1) := dk_28 (dk_at dksX12_sales_3 18 rfl rfl)
theorem dX12_sales_88 : decode cX12_sales 88 = .ok (.ireturn, 1) := dk_172 (dk_at dksX12_sales_3 19 rfl rfl)
abbrev cX12_paysOf : ByteArray := prog_24_method_80_code
def yX12_paysOf : MethodName := ⟨RX12, "paysOf", "(I)I"⟩
def dkwX12_paysOf_2 : List UInt8 := [167, 255, 215, 28, 172]
abbrev dktX12_paysOf_2 : List UInt8 := dkwX12_paysOf_2 ++ []
def dkwX12_paysOf_1 : List UInt8 := [160, 0, 19, 28, 42, 180, 0, 85, 8, 42, 180, 1, 1, 104, 29, 96, 46, 96, 61, 132, 3, 1]
abbrev dktX12_paysOf_1 : List UInt8 := dkwX12_paysOf_1 ++ dktX12_paysOf_2
def dkwX12_paysOf_0 : List UInt8 := [3, 61, 3, 62, 29, 42, 180, 0, 82, 42, 180, 1, 1, 46, 162, 0, 34, 27, 29, 122, 4, 126, 4]
abbrev dktX12_paysOf_0 : List UInt8 := dkwX12_paysOf_0 ++ dktX12_paysOf_1
theorem dksX12_paysOf_0 : cX12_paysOf.data.toList.drop 0 = dktX12_paysOf_0 := by decide +kernel
theorem dksX12_paysOf_1 : cX12_paysOf.data.toList.drop 23 = dktX12_paysOf_1 := dk_seg dksX12_paysOf_0 23 rfl rfl
theorem dksX12_paysOf_2 : cX12_paysOf.data.toList.drop 45 = dktX12_paysOf_2 := dk_seg dksX12_paysOf_1 22 rfl rfl
theorem dX12_paysOf_0 : decode cX12_paysOf 0 = .ok (.iconst 0, 1) := dk_3 (dk_at dksX12_paysOf_0 0 rfl rfl)
theorem dX12_paysOf_1 : decode cX12_paysOf 1 = .ok (.istore_n 2, 1) := dk_61 (dk_at dksX12_paysOf_0 1 rfl rfl)
theorem dX12_paysOf_2 : decode cX12_paysOf 2 = .ok (.iconst 0, 1) := dk_3 (dk_at dksX12_paysOf_0 2 rfl rfl)
theorem dX12_paysOf_3 : decode cX12_paysOf 3 = .ok (.istore_n 3, 1) := dk_62 (dk_at dksX12_paysOf_0 3 rfl rfl)
theorem dX12_paysOf_4 : decode cX12_paysOf 4 = .ok (.iload_n 3, 1) := dk_29 (dk_at dksX12_paysOf_0 4 rfl rfl)
theorem dX12_paysOf_5 : decode cX12_paysOf 5 = .ok (.aload_n 0, 1) := dk_42 (dk_at dksX12_paysOf_0 5 rfl rfl)
theorem dX12_paysOf_6 : decode cX12_paysOf 6 = .ok (.getfield 82, 3) := dk_180 0 82 (dk_at dksX12_paysOf_0 6 rfl rfl)
theorem dX12_paysOf_9 : decode cX12_paysOf 9 = .ok (.aload_n 0, 1) := dk_42 (dk_at dksX12_paysOf_0 9 rfl rfl)
theorem dX12_paysOf_10 : decode cX12_paysOf 10 = .ok (.getfield 257, 3) := dk_180 1 1 (dk_at dksX12_paysOf_0 10 rfl rfl)
theorem dX12_paysOf_13 : decode cX12_paysOf 13 = .ok (.iaload, 1) := dk_46 (dk_at dksX12_paysOf_0 13 rfl rfl)
theorem dX12_paysOf_14 : decode cX12_paysOf 14 = .ok (.if_icmp .ge 34, 3) := dk_162 0 34 (dk_at dksX12_paysOf_0 14 rfl rfl)
theorem dX12_paysOf_17 : decode cX12_paysOf 17 = .ok (.iload_n 1, 1) := dk_27 (dk_at dksX12_paysOf_0 17 rfl rfl)
theorem dX12_paysOf_18 : decode cX12_paysOf 18 = .ok (.iload_n 3, 1) := dk_29 (dk_at dksX12_paysOf_0 18 rfl rfl)
theorem dX12_paysOf_19 : decode cX12_paysOf 19 = .ok (.ishr, 1) := dk_122 (dk_at dksX12_paysOf_0 19 rfl rfl)
theorem dX12_paysOf_20 : decode cX12_paysOf 20 = .ok (.iconst 1, 1) := dk_4 (dk_at dksX12_paysOf_0 20 rfl rfl)
theorem dX12_paysOf_21 : decode cX12_paysOf 21 = .ok (.iand, 1) := dk_126 (dk_at dksX12_paysOf_0 21 rfl rfl)
theorem dX12_paysOf_22 : decode cX12_paysOf 22 = .ok (.iconst 1, 1) := dk_4 (dk_at dksX12_paysOf_0 22 rfl rfl)
theorem dX12_paysOf_23 : decode cX12_paysOf 23 = .ok (.if_icmp .ne 19, 3) := dk_160 0 19 (dk_at dksX12_paysOf_1 0 rfl rfl)
theorem dX12_paysOf_26 : decode cX12_paysOf 26 = .ok (.iload_n 2, 1) := dk_28 (dk_at dksX12_paysOf_1 3 rfl rfl)
theorem dX12_paysOf_27 : decode cX12_paysOf 27 = .ok (.aload_n 0, 1) := dk_42 (dk_at dksX12_paysOf_1 4 rfl rfl)
theorem dX12_paysOf_28 : decode cX12_paysOf 28 = .ok (.getfield 85, 3) := dk_180 0 85 (dk_at dksX12_paysOf_1 5 rfl rfl)
theorem dX12_paysOf_31 : decode cX12_paysOf 31 = .ok (.iconst 5, 1) := dk_8 (dk_at dksX12_paysOf_1 8 rfl rfl)
theorem dX12_paysOf_32 : decode cX12_paysOf 32 = .ok (.aload_n 0, 1) := dk_42 (dk_at dksX12_paysOf_1 9 rfl rfl)
theorem dX12_paysOf_33 : decode cX12_paysOf 33 = .ok (.getfield 257, 3) := dk_180 1 1 (dk_at dksX12_paysOf_1 10 rfl rfl)
theorem dX12_paysOf_36 : decode cX12_paysOf 36 = .ok (.imul, 1) := dk_104 (dk_at dksX12_paysOf_1 13 rfl rfl)
theorem dX12_paysOf_37 : decode cX12_paysOf 37 = .ok (.iload_n 3, 1) := dk_29 (dk_at dksX12_paysOf_1 14 rfl rfl)
theorem dX12_paysOf_38 : decode cX12_paysOf 38 = .ok (.iadd, 1) := dk_96 (dk_at dksX12_paysOf_1 15 rfl rfl)
theorem dX12_paysOf_39 : decode cX12_paysOf 39 = .ok (.iaload, 1) := dk_46 (dk_at dksX12_paysOf_1 16 rfl rfl)
theorem dX12_paysOf_40 : decode cX12_paysOf 40 = .ok (.iadd, 1) := dk_96 (dk_at dksX12_paysOf_1 17 rfl rfl)
theorem dX12_paysOf_41 : decode cX12_paysOf 41 = .ok (.istore_n 2, 1) := dk_61 (dk_at dksX12_paysOf_1 18 rfl rfl)
theorem dX12_paysOf_42 : decode cX12_paysOf 42 = .ok (.iinc 3 1, 3) := dk_132 3 1 (dk_at dksX12_paysOf_1 19 rfl rfl)
theorem dX12_paysOf_45 : decode cX12_paysOf 45 = .ok (.goto (-41), 3) := dk_167 255 215 (dk_at dksX12_paysOf_2 0 rfl rfl)
theorem dX12_paysOf_48 : decode cX12_paysOf 48 = .ok (.iload_n 2, 1) := dk_28 (dk_at dksX12_paysOf_2 3 rfl rfl)
theorem dX12_paysOf_49 : decode cX12_paysOf 49 = .ok (.ireturn, 1) := dk_172 (dk_at dksX12_paysOf_2 4 rfl rfl)
abbrev cX12_undo : ByteArray := prog_24_method_82_code
def yX12_undo : MethodName := ⟨RX12, "undo", "()Z"⟩
def dkwX12_undo_2 : List UInt8 := [132, 1, 1, 167, 255, 227, 4, 172]
abbrev dktX12_undo_2 : List UInt8 := dkwX12_undo_2 ++ []
def dkwX12_undo_1 : List UInt8 := [162, 0, 29, 42, 180, 0, 143, 27, 42, 180, 0, 155, 16, 120, 42, 180, 1, 19, 104, 27, 96, 46, 79]
abbrev dktX12_undo_1 : List UInt8 := dkwX12_undo_1 ++ dktX12_undo_2
def dkwX12_undo_0 : List UInt8 := [42, 180, 1, 19, 154, 0, 5, 3, 172, 42, 89, 180, 1, 19, 4, 100, 181, 1, 19, 3, 60, 27, 16, 120]
abbrev dktX12_undo_0 : List UInt8 := dkwX12_undo_0 ++ dktX12_undo_1
theorem dksX12_undo_0 : cX12_undo.data.toList.drop 0 = dktX12_undo_0 := by decide +kernel
theorem dksX12_undo_1 : cX12_undo.data.toList.drop 24 = dktX12_undo_1 := dk_seg dksX12_undo_0 24 rfl rfl
theorem dksX12_undo_2 : cX12_undo.data.toList.drop 47 = dktX12_undo_2 := dk_seg dksX12_undo_1 23 rfl rfl
theorem dX12_undo_0 : decode cX12_undo 0 = .ok (.aload_n 0, 1) := dk_42 (dk_at dksX12_undo_0 0 rfl rfl)
theorem dX12_undo_1 : decode cX12_undo 1 = .ok (.getfield 275, 3) := dk_180 1 19 (dk_at dksX12_undo_0 1 rfl rfl)
theorem dX12_undo_4 : decode cX12_undo 4 = .ok (.ifCond .ne 5, 3) := dk_154 0 5 (dk_at dksX12_undo_0 4 rfl rfl)
theorem dX12_undo_7 : decode cX12_undo 7 = .ok (.iconst 0, 1) := dk_3 (dk_at dksX12_undo_0 7 rfl rfl)
theorem dX12_undo_8 : decode cX12_undo 8 = .ok (.ireturn, 1) := dk_172 (dk_at dksX12_undo_0 8 rfl rfl)
theorem dX12_undo_9 : decode cX12_undo 9 = .ok (.aload_n 0, 1) := dk_42 (dk_at dksX12_undo_0 9 rfl rfl)
theorem dX12_undo_10 : decode cX12_undo 10 = .ok (.dup, 1) := dk_89 (dk_at dksX12_undo_0 10 rfl rfl)
theorem dX12_undo_11 : decode cX12_undo 11 = .ok (.getfield 275, 3) := dk_180 1 19 (dk_at dksX12_undo_0 11 rfl rfl)
theorem dX12_undo_14 : decode cX12_undo 14 = .ok (.iconst 1, 1) := dk_4 (dk_at dksX12_undo_0 14 rfl rfl)
theorem dX12_undo_15 : decode cX12_undo 15 = .ok (.isub, 1) := dk_100 (dk_at dksX12_undo_0 15 rfl rfl)
theorem dX12_undo_16 : decode cX12_undo 16 = .ok (.putfield 275, 3) := dk_181 1 19 (dk_at dksX12_undo_0 16 rfl rfl)
theorem dX12_undo_19 : decode cX12_undo 19 = .ok (.iconst 0, 1) := dk_3 (dk_at dksX12_undo_0 19 rfl rfl)
theorem dX12_undo_20 : decode cX12_undo 20 = .ok (.istore_n 1, 1) := dk_60 (dk_at dksX12_undo_0 20 rfl rfl)
theorem dX12_undo_21 : decode cX12_undo 21 = .ok (.iload_n 1, 1) := dk_27 (dk_at dksX12_undo_0 21 rfl rfl)
theorem dX12_undo_22 : decode cX12_undo 22 = .ok (.bipush 120, 2) := dk_16 120 (dk_at dksX12_undo_0 22 rfl rfl)
theorem dX12_undo_24 : decode cX12_undo 24 = .ok (.if_icmp .ge 29, 3) := dk_162 0 29 (dk_at dksX12_undo_1 0 rfl rfl)
theorem dX12_undo_27 : decode cX12_undo 27 = .ok (.aload_n 0, 1) := dk_42 (dk_at dksX12_undo_1 3 rfl rfl)
theorem dX12_undo_28 : decode cX12_undo 28 = .ok (.getfield 143, 3) := dk_180 0 143 (dk_at dksX12_undo_1 4 rfl rfl)
theorem dX12_undo_31 : decode cX12_undo 31 = .ok (.iload_n 1, 1) := dk_27 (dk_at dksX12_undo_1 7 rfl rfl)
theorem dX12_undo_32 : decode cX12_undo 32 = .ok (.aload_n 0, 1) := dk_42 (dk_at dksX12_undo_1 8 rfl rfl)
theorem dX12_undo_33 : decode cX12_undo 33 = .ok (.getfield 155, 3) := dk_180 0 155 (dk_at dksX12_undo_1 9 rfl rfl)
theorem dX12_undo_36 : decode cX12_undo 36 = .ok (.bipush 120, 2) := dk_16 120 (dk_at dksX12_undo_1 12 rfl rfl)
theorem dX12_undo_38 : decode cX12_undo 38 = .ok (.aload_n 0, 1) := dk_42 (dk_at dksX12_undo_1 14 rfl rfl)
theorem dX12_undo_39 : decode cX12_undo 39 = .ok (.getfield 275, 3) := dk_180 1 19 (dk_at dksX12_undo_1 15 rfl rfl)
theorem dX12_undo_42 : decode cX12_undo 42 = .ok (.imul, 1) := dk_104 (dk_at dksX12_undo_1 18 rfl rfl)
theorem dX12_undo_43 : decode cX12_undo 43 = .ok (.iload_n 1, 1) := dk_27 (dk_at dksX12_undo_1 19 rfl rfl)
theorem dX12_undo_44 : decode cX12_undo 44 = .ok (.iadd, 1) := dk_96 (dk_at dksX12_undo_1 20 rfl rfl)
theorem dX12_undo_45 : decode cX12_undo 45 = .ok (.iaload, 1) := dk_46 (dk_at dksX12_undo_1 21 rfl rfl)
theorem dX12_undo_46 : decode cX12_undo 46 = .ok (.iastore, 1) := dk_79 (dk_at dksX12_undo_1 22 rfl rfl)
theorem dX12_undo_47 : decode cX12_undo 47 = .ok (.iinc 1 1, 3) := dk_132 1 1 (dk_at dksX12_undo_2 0 rfl rfl)
theorem dX12_undo_50 : decode cX12_undo 50 = .ok (.goto (-29), 3) := dk_167 255 227 (dk_at dksX12_undo_2 3 rfl rfl)
theorem dX12_undo_53 : decode cX12_undo 53 = .ok (.iconst 1, 1) := dk_4 (dk_at dksX12_undo_2 6 rfl rfl)
theorem dX12_undo_54 : decode cX12_undo 54 = .ok (.ireturn, 1) := dk_172 (dk_at dksX12_undo_2 7 rfl rfl)
abbrev cX12_isClean : ByteArray := prog_24_method_84_code
def yX12_isClean : MethodName := ⟨RX12, "isClean", "()Z"⟩
def dkwX12_isClean_0 : List UInt8 := [42, 182, 1, 139, 42, 3, 182, 1, 166, 172]
abbrev dktX12_isClean_0 : List UInt8 := dkwX12_isClean_0 ++ []
theorem dksX12_isClean_0 : cX12_isClean.data.toList.drop 0 = dktX12_isClean_0 := by decide +kernel
theorem dX12_isClean_0 : decode cX12_isClean 0 = .ok (.aload_n 0, 1) := dk_42 (dk_at dksX12_isClean_0 0 rfl rfl)
theorem dX12_isClean_1 : decode cX12_isClean 1 = .ok (.invokevirtual 395, 3) := dk_182 1 139 (dk_at dksX12_isClean_0 1 rfl rfl)
theorem dX12_isClean_4 : decode cX12_isClean 4 = .ok (.aload_n 0, 1) := dk_42 (dk_at dksX12_isClean_0 4 rfl rfl)
theorem dX12_isClean_5 : decode cX12_isClean 5 = .ok (.iconst 0, 1) := dk_3 (dk_at dksX12_isClean_0 5 rfl rfl)
theorem dX12_isClean_6 : decode cX12_isClean 6 = .ok (.invokevirtual 422, 3) := dk_182 1 166 (dk_at dksX12_isClean_0 6 rfl rfl)
theorem dX12_isClean_9 : decode cX12_isClean 9 = .ok (.ireturn, 1) := dk_172 (dk_at dksX12_isClean_0 9 rfl rfl)
abbrev cX12_isCleanNow : ByteArray := prog_24_method_60_code
def yX12_isCleanNow : MethodName := ⟨RX12, "isCleanNow", "(Z)Z"⟩
def dkwX12_isCleanNow_3 : List UInt8 := [4, 172]
abbrev dktX12_isCleanNow_3 : List UInt8 := dkwX12_isCleanNow_3 ++ []
def dkwX12_isCleanNow_2 : List UInt8 := [180, 0, 146, 42, 180, 0, 146, 16, 90, 28, 96, 46, 46, 158, 0, 5, 3, 172, 132, 2, 1, 167, 255, 189]
abbrev dktX12_isCleanNow_2 : List UInt8 := dkwX12_isCleanNow_2 ++ dktX12_isCleanNow_3
def dkwX12_isCleanNow_1 : List UInt8 := [4, 160, 0, 5, 3, 172, 27, 154, 0, 16, 42, 180, 0, 146, 16, 42, 28, 96, 46, 6, 159, 0, 22, 42]
abbrev dktX12_isCleanNow_1 : List UInt8 := dkwX12_isCleanNow_1 ++ dktX12_isCleanNow_2
def dkwX12_isCleanNow_0 : List UInt8 := [3, 61, 28, 42, 180, 0, 67, 42, 180, 1, 1, 46, 162, 0, 60, 42, 180, 0, 146, 16, 42, 28, 96, 46]
abbrev dktX12_isCleanNow_0 : List UInt8 := dkwX12_isCleanNow_0 ++ dktX12_isCleanNow_1
theorem dksX12_isCleanNow_0 : cX12_isCleanNow.data.toList.drop 0 = dktX12_isCleanNow_0 := by decide +kernel
theorem dksX12_isCleanNow_1 : cX12_isCleanNow.data.toList.drop 24 = dktX12_isCleanNow_1 := dk_seg dksX12_isCleanNow_0 24 rfl rfl
theorem dksX12_isCleanNow_2 : cX12_isCleanNow.data.toList.drop 48 = dktX12_isCleanNow_2 := dk_seg dksX12_isCleanNow_1 24 rfl rfl
theorem dksX12_isCleanNow_3 : cX12_isCleanNow.data.toList.drop 72 = dktX12_isCleanNow_3 := dk_seg dksX12_isCleanNow_2 24 rfl rfl
theorem dX12_isCleanNow_0 : decode cX12_isCleanNow 0 = .ok (.iconst 0, 1) := dk_3 (dk_at dksX12_isCleanNow_0 0 rfl rfl)
theorem dX12_isCleanNow_1 : decode cX12_isCleanNow 1 = .ok (.istore_n 2, 1) := dk_61 (dk_at dksX12_isCleanNow_0 1 rfl rfl)
theorem dX12_isCleanNow_2 : decode cX12_isCleanNow 2 = .ok (.iload_n 2, 1) := dk_28 (dk_at dksX12_isCleanNow_0 2 rfl rfl)
theorem dX12_isCleanNow_3 : decode cX12_isCleanNow 3 = .ok (.aload_n 0, 1) := dk_42 (dk_at dksX12_isCleanNow_0 3 rfl rfl)
theorem dX12_isCleanNow_4 : decode cX12_isCleanNow 4 = .ok (.getfield 67, 3) := dk_180 0 67 (dk_at dksX12_isCleanNow_0 4 rfl rfl)
theorem dX12_isCleanNow_7 : decode cX12_isCleanNow 7 = .ok (.aload_n 0, 1) := dk_42 (dk_at dksX12_isCleanNow_0 7 rfl rfl)
theorem dX12_isCleanNow_8 : decode cX12_isCleanNow 8 = .ok (.getfield 257, 3) := dk_180 1 1 (dk_at dksX12_isCleanNow_0 8 rfl rfl)
theorem dX12_isCleanNow_11 : decode cX12_isCleanNow 11 = .ok (.iaload, 1) := dk_46 (dk_at dksX12_isCleanNow_0 11 rfl rfl)
theorem dX12_isCleanNow_12 : decode cX12_isCleanNow 12 = .ok (.if_icmp .ge 60, 3) := dk_162 0 60 (dk_at dksX12_isCleanNow_0 12 rfl rfl)
theorem dX12_isCleanNow_15 : decode cX12_isCleanNow 15 = .ok (.aload_n 0, 1) := dk_42 (dk_at dksX12_isCleanNow_0 15 rfl rfl)
theorem dX12_isCleanNow_16 : decode cX12_isCleanNow 16 = .ok (.getfield 146, 3) := dk_180 0 146 (dk_at dksX12_isCleanNow_0 16 rfl rfl)
theorem dX12_isCleanNow_19 : decode cX12_isCleanNow 19 = .ok (.bipush 42, 2) := dk_16 42 (dk_at dksX12_isCleanNow_0 19 rfl rfl)
theorem dX12_isCleanNow_21 : decode cX12_isCleanNow 21 = .ok (.iload_n 2, 1) := dk_28 (dk_at dksX12_isCleanNow_0 21 rfl rfl)
theorem dX12_isCleanNow_22 : decode cX12_isCleanNow 22 = .ok (.iadd, 1) := dk_96 (dk_at dksX12_isCleanNow_0 22 rfl rfl)
theorem dX12_isCleanNow_23 : decode cX12_isCleanNow 23 = .ok (.iaload, 1) := dk_46 (dk_at dksX12_isCleanNow_0 23 rfl rfl)
theorem dX12_isCleanNow_24 : decode cX12_isCleanNow 24 = .ok (.iconst 1, 1) := dk_4 (dk_at dksX12_isCleanNow_1 0 rfl rfl)
theorem dX12_isCleanNow_25 : decode cX12_isCleanNow 25 = .ok (.if_icmp .ne 5, 3) := dk_160 0 5 (dk_at dksX12_isCleanNow_1 1 rfl rfl)
theorem dX12_isCleanNow_28 : decode cX12_isCleanNow 28 = .ok (.iconst 0, 1) := dk_3 (dk_at dksX12_isCleanNow_1 4 rfl rfl)
theorem dX12_isCleanNow_29 : decode cX12_isCleanNow 29 = .ok (.ireturn, 1) := dk_172 (dk_at dksX12_isCleanNow_1 5 rfl rfl)
theorem dX12_isCleanNow_30 : decode cX12_isCleanNow 30 = .ok (.iload_n 1, 1) := dk_27 (dk_at dksX12_isCleanNow_1 6 rfl rfl)
theorem dX12_isCleanNow_31 : decode cX12_isCleanNow 31 = .ok (.ifCond .ne 16, 3) := dk_154 0 16 (dk_at dksX12_isCleanNow_1 7 rfl rfl)
theorem dX12_isCleanNow_34 : decode cX12_isCleanNow 34 = .ok (.aload_n 0, 1) := dk_42 (dk_at dksX12_isCleanNow_1 10 rfl rfl)
theorem dX12_isCleanNow_35 : decode cX12_isCleanNow 35 = .ok (.getfield 146, 3) := dk_180 0 146 (dk_at dksX12_isCleanNow_1 11 rfl rfl)
theorem dX12_isCleanNow_38 : decode cX12_isCleanNow 38 = .ok (.bipush 42, 2) := dk_16 42 (dk_at dksX12_isCleanNow_1 14 rfl rfl)
theorem dX12_isCleanNow_40 : decode cX12_isCleanNow 40 = .ok (.iload_n 2, 1) := dk_28 (dk_at dksX12_isCleanNow_1 16 rfl rfl)
theorem dX12_isCleanNow_41 : decode cX12_isCleanNow 41 = .ok (.iadd, 1) := dk_96 (dk_at dksX12_isCleanNow_1 17 rfl rfl)
theorem dX12_isCleanNow_42 : decode cX12_isCleanNow 42 = .ok (.iaload, 1) := dk_46 (dk_at dksX12_isCleanNow_1 18 rfl rfl)
theorem dX12_isCleanNow_43 : decode cX12_isCleanNow 43 = .ok (.iconst 3, 1) := dk_6 (dk_at dksX12_isCleanNow_1 19 rfl rfl)
theorem dX12_isCleanNow_44 : decode cX12_isCleanNow 44 = .ok (.if_icmp .eq 22, 3) := dk_159 0 22 (dk_at dksX12_isCleanNow_1 20 rfl rfl)
theorem dX12_isCleanNow_47 : decode cX12_isCleanNow 47 = .ok (.aload_n 0, 1) := dk_42 (dk_at dksX12_isCleanNow_1 23 rfl rfl)
theorem dX12_isCleanNow_48 : decode cX12_isCleanNow 48 = .ok (.getfield 146, 3) := dk_180 0 146 (dk_at dksX12_isCleanNow_2 0 rfl rfl)
theorem dX12_isCleanNow_51 : decode cX12_isCleanNow 51 = .ok (.aload_n 0, 1) := dk_42 (dk_at dksX12_isCleanNow_2 3 rfl rfl)
theorem dX12_isCleanNow_52 : decode cX12_isCleanNow 52 = .ok (.getfield 146, 3) := dk_180 0 146 (dk_at dksX12_isCleanNow_2 4 rfl rfl)
theorem dX12_isCleanNow_55 : decode cX12_isCleanNow 55 = .ok (.bipush 90, 2) := dk_16 90 (dk_at dksX12_isCleanNow_2 7 rfl rfl)
theorem dX12_isCleanNow_57 : decode cX12_isCleanNow 57 = .ok (.iload_n 2, 1) := dk_28 (dk_at dksX12_isCleanNow_2 9 rfl rfl)
theorem dX12_isCleanNow_58 : decode cX12_isCleanNow 58 = .ok (.iadd, 1) := dk_96 (dk_at dksX12_isCleanNow_2 10 rfl rfl)
theorem dX12_isCleanNow_59 : decode cX12_isCleanNow 59 = .ok (.iaload, 1) := dk_46 (dk_at dksX12_isCleanNow_2 11 rfl rfl)
theorem dX12_isCleanNow_60 : decode cX12_isCleanNow 60 = .ok (.iaload, 1) := dk_46 (dk_at dksX12_isCleanNow_2 12 rfl rfl)
theorem dX12_isCleanNow_61 : decode cX12_isCleanNow 61 = .ok (.ifCond .le 5, 3) := dk_158 0 5 (dk_at dksX12_isCleanNow_2 13 rfl rfl)
theorem dX12_isCleanNow_64 : decode cX12_isCleanNow 64 = .ok (.iconst 0, 1) := dk_3 (dk_at dksX12_isCleanNow_2 16 rfl rfl)
theorem dX12_isCleanNow_65 : decode cX12_isCleanNow 65 = .ok (.ireturn, 1) := dk_172 (dk_at dksX12_isCleanNow_2 17 rfl rfl)
theorem dX12_isCleanNow_66 : decode cX12_isCleanNow 66 = .ok (.iinc 2 1, 3) := dk_132 2 1 (dk_at dksX12_isCleanNow_2 18 rfl rfl)
theorem dX12_isCleanNow_69 : decode cX12_isCleanNow 69 = .ok (.goto (-67), 3) := dk_167 255 189 (dk_at dksX12_isCleanNow_2 21 rfl rfl)
theorem dX12_isCleanNow_72 : decode cX12_isCleanNow 72 = .ok (.iconst 1, 1) := dk_4 (dk_at dksX12_isCleanNow_3 0 rfl rfl)
theorem dX12_isCleanNow_73 : decode cX12_isCleanNow 73 = .ok (.ireturn, 1) := dk_172 (dk_at dksX12_isCleanNow_3 1 rfl rfl)
abbrev cX12_clean : ByteArray := prog_24_method_86_code
def yX12_clean : MethodName := ⟨RX12, "clean", "()I"⟩
def dkwX12_clean_0 : List UInt8 := [42, 182, 1, 139, 42, 182, 1, 170, 172]
abbrev dktX12_clean_0 : List UInt8 := dkwX12_clean_0 ++ []
theorem dksX12_clean_0 : cX12_clean.data.toList.drop 0 = dktX12_clean_0 := by decide +kernel
theorem dX12_clean_0 : decode cX12_clean 0 = .ok (.aload_n 0, 1) := dk_42 (dk_at dksX12_clean_0 0 rfl rfl)
theorem dX12_clean_1 : decode cX12_clean 1 = .ok (.invokevirtual 395, 3) := dk_182 1 139 (dk_at dksX12_clean_0 1 rfl rfl)
theorem dX12_clean_4 : decode cX12_clean 4 = .ok (.aload_n 0, 1) := dk_42 (dk_at dksX12_clean_0 4 rfl rfl)
theorem dX12_clean_5 : decode cX12_clean 5 = .ok (.invokevirtual 426, 3) := dk_182 1 170 (dk_at dksX12_clean_0 5 rfl rfl)
theorem dX12_clean_8 : decode cX12_clean 8 = .ok (.ireturn, 1) := dk_172 (dk_at dksX12_clean_0 8 rfl rfl)
abbrev cX12_cleanBy : ByteArray := prog_24_method_85_code
def yX12_cleanBy : MethodName := ⟨RX12, "cleanBy", "()I"⟩
def dkwX12_cleanBy_1 : List UInt8 := [132, 1, 1, 167, 255, 232, 16, 254, 172]
abbrev dktX12_cleanBy_1 : List UInt8 := dkwX12_cleanBy_1 ++ []
def dkwX12_cleanBy_0 : List UInt8 := [3, 60, 27, 17, 2, 88, 163, 0, 23, 42, 3, 182, 1, 166, 153, 0, 5, 27, 172, 42, 182, 1, 124]
abbrev dktX12_cleanBy_0 : List UInt8 := dkwX12_cleanBy_0 ++ dktX12_cleanBy_1
theorem dksX12_cleanBy_0 : cX12_cleanBy.data.toList.drop 0 = dktX12_cleanBy_0 := by decide +kernel
theorem dksX12_cleanBy_1 : cX12_cleanBy.data.toList.drop 23 = dktX12_cleanBy_1 := dk_seg dksX12_cleanBy_0 23 rfl rfl
theorem dX12_cleanBy_0 : decode cX12_cleanBy 0 = .ok (.iconst 0, 1) := dk_3 (dk_at dksX12_cleanBy_0 0 rfl rfl)
theorem dX12_cleanBy_1 : decode cX12_cleanBy 1 = .ok (.istore_n 1, 1) := dk_60 (dk_at dksX12_cleanBy_0 1 rfl rfl)
theorem dX12_cleanBy_2 : decode cX12_cleanBy 2 = .ok (.iload_n 1, 1) := dk_27 (dk_at dksX12_cleanBy_0 2 rfl rfl)
theorem dX12_cleanBy_3 : decode cX12_cleanBy 3 = .ok (.sipush 600, 3) := dk_17 2 88 (dk_at dksX12_cleanBy_0 3 rfl rfl)
theorem dX12_cleanBy_6 : decode cX12_cleanBy 6 = .ok (.if_icmp .gt 23, 3) := dk_163 0 23 (dk_at dksX12_cleanBy_0 6 rfl rfl)
theorem dX12_cleanBy_9 : decode cX12_cleanBy 9 = .ok (.aload_n 0, 1) := dk_42 (dk_at dksX12_cleanBy_0 9 rfl rfl)
theorem dX12_cleanBy_10 : decode cX12_cleanBy 10 = .ok (.iconst 0, 1) := dk_3 (dk_at dksX12_cleanBy_0 10 rfl rfl)
theorem dX12_cleanBy_11 : decode cX12_cleanBy 11 = .ok (.invokevirtual 422, 3) := dk_182 1 166 (dk_at dksX12_cleanBy_0 11 rfl rfl)
theorem dX12_cleanBy_14 : decode cX12_cleanBy 14 = .ok (.ifCond .eq 5, 3) := dk_153 0 5 (dk_at dksX12_cleanBy_0 14 rfl rfl)
theorem dX12_cleanBy_17 : decode cX12_cleanBy 17 = .ok (.iload_n 1, 1) := dk_27 (dk_at dksX12_cleanBy_0 17 rfl rfl)
theorem dX12_cleanBy_18 : decode cX12_cleanBy 18 = .ok (.ireturn, 1) := dk_172 (dk_at dksX12_cleanBy_0 18 rfl rfl)
theorem dX12_cleanBy_19 : decode cX12_cleanBy 19 = .ok (.aload_n 0, 1) := dk_42 (dk_at dksX12_cleanBy_0 19 rfl rfl)
theorem dX12_cleanBy_20 : decode cX12_cleanBy 20 = .ok (.invokevirtual 380, 3) := dk_182 1 124 (dk_at dksX12_cleanBy_0 20 rfl rfl)
theorem dX12_cleanBy_23 : decode cX12_cleanBy 23 = .ok (.iinc 1 1, 3) := dk_132 1 1 (dk_at dksX12_cleanBy_1 0 rfl rfl)
theorem dX12_cleanBy_26 : decode cX12_cleanBy 26 = .ok (.goto (-24), 3) := dk_167 255 232 (dk_at dksX12_cleanBy_1 3 rfl rfl)
theorem dX12_cleanBy_29 : decode cX12_cleanBy 29 = .ok (.bipush (-2), 2) := dk_16 254 (dk_at dksX12_cleanBy_1 6 rfl rfl)
theorem dX12_cleanBy_31 : decode cX12_cleanBy 31 = .ok (.ireturn, 1) := dk_172 (dk_at dksX12_cleanBy_1 8 rfl rfl)
abbrev cX12_then : ByteArray := prog_24_method_87_code
def yX12_then : MethodName := ⟨RX12, "then", "(II)I"⟩
def dkwX12_then_4 : List UInt8 := [42, 3, 182, 1, 182, 172, 42, 180, 0, 146, 16, 119, 46, 172]
abbrev dktX12_then_4 : List UInt8 := dkwX12_then_4 ++ []
def dkwX12_then_3 : List UInt8 := [42, 182, 1, 176, 172, 42, 180, 0, 146, 16, 115, 46, 172, 42, 182, 1, 179, 172, 42, 4, 182, 1, 182, 172]
abbrev dktX12_then_3 : List UInt8 := dkwX12_then_3 ++ dktX12_then_4
def dkwX12_then_2 : List UInt8 := [170, 0, 0, 0, 0, 0, 0, 66, 0, 0, 0, 0, 0, 0, 0, 4, 0, 0, 0, 36, 0, 0, 0, 41, 0, 0, 0, 49, 0, 0, 0, 54, 0, 0, 0, 60]
abbrev dktX12_then_2 : List UInt8 := dkwX12_then_2 ++ dktX12_then_3
def dkwX12_then_1 : List UInt8 := [182, 1, 145, 28]
abbrev dktX12_then_1 : List UInt8 := dkwX12_then_1 ++ dktX12_then_2
def dkwX12_then_0 : List UInt8 := [27, 184, 1, 173, 153, 0, 12, 28, 3, 8, 184, 1, 94, 154, 0, 5, 2, 172, 42, 182, 1, 139, 42, 27]
abbrev dktX12_then_0 : List UInt8 := dkwX12_then_0 ++ dktX12_then_1
theorem dksX12_then_0 : cX12_then.data.toList.drop 0 = dktX12_then_0 := by decide +kernel
theorem dksX12_then_1 : cX12_then.data.toList.drop 24 = dktX12_then_1 := dk_seg dksX12_then_0 24 rfl rfl
theorem dksX12_then_2 : cX12_then.data.toList.drop 28 = dktX12_then_2 := dk_seg dksX12_then_1 4 rfl rfl
theorem dksX12_then_3 : cX12_then.data.toList.drop 64 = dktX12_then_3 := dk_seg dksX12_then_2 36 rfl rfl
theorem dksX12_then_4 : cX12_then.data.toList.drop 88 = dktX12_then_4 := dk_seg dksX12_then_3 24 rfl rfl
theorem dX12_then_0 : decode cX12_then 0 = .ok (.iload_n 1, 1) := dk_27 (dk_at dksX12_then_0 0 rfl rfl)
theorem dX12_then_1 : decode cX12_then 1 = .ok (.invokestatic 429, 3) := dk_184 1 173 (dk_at dksX12_then_0 1 rfl rfl)
theorem dX12_then_4 : decode cX12_then 4 = .ok (.ifCond .eq 12, 3) := dk_153 0 12 (dk_at dksX12_then_0 4 rfl rfl)
theorem dX12_then_7 : decode cX12_then 7 = .ok (.iload_n 2, 1) := dk_28 (dk_at dksX12_then_0 7 rfl rfl)
theorem dX12_then_8 : decode cX12_then 8 = .ok (.iconst 0, 1) := dk_3 (dk_at dksX12_then_0 8 rfl rfl)
theorem dX12_then_9 : decode cX12_then 9 = .ok (.iconst 5, 1) := dk_8 (dk_at dksX12_then_0 9 rfl rfl)
theorem dX12_then_10 : decode cX12_then 10 = .ok (.invokestatic 350, 3) := dk_184 1 94 (dk_at dksX12_then_0 10 rfl rfl)
theorem dX12_then_13 : decode cX12_then 13 = .ok (.ifCond .ne 5, 3) := dk_154 0 5 (dk_at dksX12_then_0 13 rfl rfl)
theorem dX12_then_16 : decode cX12_then 16 = .ok (.iconst (-1), 1) := dk_2 (dk_at dksX12_then_0 16 rfl rfl)
theorem dX12_then_17 : decode cX12_then 17 = .ok (.ireturn, 1) := dk_172 (dk_at dksX12_then_0 17 rfl rfl)
theorem dX12_then_18 : decode cX12_then 18 = .ok (.aload_n 0, 1) := dk_42 (dk_at dksX12_then_0 18 rfl rfl)
theorem dX12_then_19 : decode cX12_then 19 = .ok (.invokevirtual 395, 3) := dk_182 1 139 (dk_at dksX12_then_0 19 rfl rfl)
theorem dX12_then_22 : decode cX12_then 22 = .ok (.aload_n 0, 1) := dk_42 (dk_at dksX12_then_0 22 rfl rfl)
theorem dX12_then_23 : decode cX12_then 23 = .ok (.iload_n 1, 1) := dk_27 (dk_at dksX12_then_0 23 rfl rfl)
theorem dX12_then_24 : decode cX12_then 24 = .ok (.invokevirtual 401, 3) := dk_182 1 145 (dk_at dksX12_then_1 0 rfl rfl)
theorem dX12_then_27 : decode cX12_then 27 = .ok (.iload_n 2, 1) := dk_28 (dk_at dksX12_then_1 3 rfl rfl)
theorem dX12_then_28 : decode cX12_then 28 = .ok (.tableswitch 66 0 4 #[36, 41, 49, 54, 60], 36) := by decide +kernel
theorem dX12_then_64 : decode cX12_then 64 = .ok (.aload_n 0, 1) := dk_42 (dk_at dksX12_then_3 0 rfl rfl)
theorem dX12_then_65 : decode cX12_then 65 = .ok (.invokevirtual 432, 3) := dk_182 1 176 (dk_at dksX12_then_3 1 rfl rfl)
theorem dX12_then_68 : decode cX12_then 68 = .ok (.ireturn, 1) := dk_172 (dk_at dksX12_then_3 4 rfl rfl)
theorem dX12_then_69 : decode cX12_then 69 = .ok (.aload_n 0, 1) := dk_42 (dk_at dksX12_then_3 5 rfl rfl)
theorem dX12_then_70 : decode cX12_then 70 = .ok (.getfield 146, 3) := dk_180 0 146 (dk_at dksX12_then_3 6 rfl rfl)
theorem dX12_then_73 : decode cX12_then 73 = .ok (.bipush 115, 2) := dk_16 115 (dk_at dksX12_then_3 9 rfl rfl)
theorem dX12_then_75 : decode cX12_then 75 = .ok (.iaload, 1) := dk_46 (dk_at dksX12_then_3 11 rfl rfl)
theorem dX12_then_76 : decode cX12_then 76 = .ok (.ireturn, 1) := dk_172 (dk_at dksX12_then_3 12 rfl rfl)
theorem dX12_then_77 : decode cX12_then 77 = .ok (.aload_n 0, 1) := dk_42 (dk_at dksX12_then_3 13 rfl rfl)
theorem dX12_then_78 : decode cX12_then 78 = .ok (.invokevirtual 435, 3) := dk_182 1 179 (dk_at dksX12_then_3 14 rfl rfl)
theorem dX12_then_81 : decode cX12_then 81 = .ok (.ireturn, 1) := dk_172 (dk_at dksX12_then_3 17 rfl rfl)
theorem dX12_then_82 : decode cX12_then 82 = .ok (.aload_n 0, 1) := dk_42 (dk_at dksX12_then_3 18 rfl rfl)
theorem dX12_then_83 : decode cX12_then 83 = .ok (.iconst 1, 1) := dk_4 (dk_at dksX12_then_3 19 rfl rfl)
theorem dX12_then_84 : decode cX12_then 84 = .ok (.invokevirtual 438, 3) := dk_182 1 182 (dk_at dksX12_then_3 20 rfl rfl)
theorem dX12_then_87 : decode cX12_then 87 = .ok (.ireturn, 1) := dk_172 (dk_at dksX12_then_3 23 rfl rfl)
theorem dX12_then_88 : decode cX12_then 88 = .ok (.aload_n 0, 1) := dk_42 (dk_at dksX12_then_4 0 rfl rfl)
theorem dX12_then_89 : decode cX12_then 89 = .ok (.iconst 0, 1) := dk_3 (dk_at dksX12_then_4 1 rfl rfl)
theorem dX12_then_90 : decode cX12_then 90 = .ok (.invokevirtual 438, 3) := dk_182 1 182 (dk_at dksX12_then_4 2 rfl rfl)
theorem dX12_then_93 : decode cX12_then 93 = .ok (.ireturn, 1) := dk_172 (dk_at dksX12_then_4 5 rfl rfl)
theorem dX12_then_94 : decode cX12_then 94 = .ok (.aload_n 0, 1) := dk_42 (dk_at dksX12_then_4 6 rfl rfl)
theorem dX12_then_95 : decode cX12_then 95 = .ok (.getfield 146, 3) := dk_180 0 146 (dk_at dksX12_then_4 7 rfl rfl)
theorem dX12_then_98 : decode cX12_then 98 = .ok (.bipush 119, 2) := dk_16 119 (dk_at dksX12_then_4 10 rfl rfl)
theorem dX12_then_100 : decode cX12_then 100 = .ok (.iaload, 1) := dk_46 (dk_at dksX12_then_4 12 rfl rfl)
theorem dX12_then_101 : decode cX12_then 101 = .ok (.ireturn, 1) := dk_172 (dk_at dksX12_then_4 13 rfl rfl)
abbrev cX12_isLong : ByteArray := prog_24_method_83_code
def yX12_isLong : MethodName := ⟨RX12, "isLong", "(I)Z"⟩
def dkwX12_isLong_0 : List UInt8 := [26, 3, 17, 2, 88, 184, 1, 94, 172]
abbrev dktX12_isLong_0 : List UInt8 := dkwX12_isLong_0 ++ []
theorem dksX12_isLong_0 : cX12_isLong.data.toList.drop 0 = dktX12_isLong_0 := by decide +kernel
theorem dX12_isLong_0 : decode cX12_isLong 0 = .ok (.iload_n 0, 1) := dk_26 (dk_at dksX12_isLong_0 0 rfl rfl)
theorem dX12_isLong_1 : decode cX12_isLong 1 = .ok (.iconst 0, 1) := dk_3 (dk_at dksX12_isLong_0 1 rfl rfl)
theorem dX12_isLong_2 : decode cX12_isLong 2 = .ok (.sipush 600, 3) := dk_17 2 88 (dk_at dksX12_isLong_0 2 rfl rfl)
theorem dX12_isLong_5 : decode cX12_isLong 5 = .ok (.invokestatic 350, 3) := dk_184 1 94 (dk_at dksX12_isLong_0 5 rfl rfl)
theorem dX12_isLong_8 : decode cX12_isLong 8 = .ok (.ireturn, 1) := dk_172 (dk_at dksX12_isLong_0 8 rfl rfl)
abbrev cX12_worthAll : ByteArray := prog_24_method_57_code
def yX12_worthAll : MethodName := ⟨RX12, "worthAll", "()I"⟩
def dkwX12_worthAll_1 : List UInt8 := [60, 132, 2, 1, 167, 255, 232, 27, 172]
abbrev dktX12_worthAll_1 : List UInt8 := dkwX12_worthAll_1 ++ []
def dkwX12_worthAll_0 : List UInt8 := [3, 60, 3, 61, 28, 42, 180, 0, 58, 42, 180, 1, 1, 46, 162, 0, 17, 27, 42, 28, 182, 1, 127, 96]
abbrev dktX12_worthAll_0 : List UInt8 := dkwX12_worthAll_0 ++ dktX12_worthAll_1
theorem dksX12_worthAll_0 : cX12_worthAll.data.toList.drop 0 = dktX12_worthAll_0 := by decide +kernel
theorem dksX12_worthAll_1 : cX12_worthAll.data.toList.drop 24 = dktX12_worthAll_1 := dk_seg dksX12_worthAll_0 24 rfl rfl
theorem dX12_worthAll_0 : decode cX12_worthAll 0 = .ok (.iconst 0, 1) := dk_3 (dk_at dksX12_worthAll_0 0 rfl rfl)
theorem dX12_worthAll_1 : decode cX12_worthAll 1 = .ok (.istore_n 1, 1) := dk_60 (dk_at dksX12_worthAll_0 1 rfl rfl)
theorem dX12_worthAll_2 : decode cX12_worthAll 2 = .ok (.iconst 0, 1) := dk_3 (dk_at dksX12_worthAll_0 2 rfl rfl)
theorem dX12_worthAll_3 : decode cX12_worthAll 3 = .ok (.istore_n 2, 1) := dk_61 (dk_at dksX12_worthAll_0 3 rfl rfl)
theorem dX12_worthAll_4 : decode cX12_worthAll 4 = .ok (.iload_n 2, 1) := dk_28 (dk_at dksX12_worthAll_0 4 rfl rfl)
theorem dX12_worthAll_5 : decode cX12_worthAll 5 = .ok (.aload_n 0, 1) := dk_42 (dk_at dksX12_worthAll_0 5 rfl rfl)
theorem dX12_worthAll_6 : decode cX12_worthAll 6 = .ok (.getfield 58, 3) := dk_180 0 58 (dk_at dksX12_worthAll_0 6 rfl rfl)
theorem dX12_worthAll_9 : decode cX12_worthAll 9 = .ok (.aload_n 0, 1) := dk_42 (dk_at dksX12_worthAll_0 9 rfl rfl)
theorem dX12_worthAll_10 : decode cX12_worthAll 10 = .ok (.getfield 257, 3) := dk_180 1 1 (dk_at dksX12_worthAll_0 10 rfl rfl)
theorem dX12_worthAll_13 : decode cX12_worthAll 13 = .ok (.iaload, 1) := dk_46 (dk_at dksX12_worthAll_0 13 rfl rfl)
theorem dX12_worthAll_14 : decode cX12_worthAll 14 = .ok (.if_icmp .ge 17, 3) := dk_162 0 17 (dk_at dksX12_worthAll_0 14 rfl rfl)
theorem dX12_worthAll_17 : decode cX12_worthAll 17 = .ok (.iload_n 1, 1) := dk_27 (dk_at dksX12_worthAll_0 17 rfl rfl)
theorem dX12_worthAll_18 : decode cX12_worthAll 18 = .ok (.aload_n 0, 1) := dk_42 (dk_at dksX12_worthAll_0 18 rfl rfl)
theorem dX12_worthAll_19 : decode cX12_worthAll 19 = .ok (.iload_n 2, 1) := dk_28 (dk_at dksX12_worthAll_0 19 rfl rfl)
theorem dX12_worthAll_20 : decode cX12_worthAll 20 = .ok (.invokevirtual 383, 3) := dk_182 1 127 (dk_at dksX12_worthAll_0 20 rfl rfl)
theorem dX12_worthAll_23 : decode cX12_worthAll 23 = .ok (.iadd, 1) := dk_96 (dk_at dksX12_worthAll_0 23 rfl rfl)
theorem dX12_worthAll_24 : decode cX12_worthAll 24 = .ok (.istore_n 1, 1) := dk_60 (dk_at dksX12_worthAll_1 0 rfl rfl)
theorem dX12_worthAll_25 : decode cX12_worthAll 25 = .ok (.iinc 2 1, 3) := dk_132 2 1 (dk_at dksX12_worthAll_1 1 rfl rfl)
theorem dX12_worthAll_28 : decode cX12_worthAll 28 = .ok (.goto (-24), 3) := dk_167 255 232 (dk_at dksX12_worthAll_1 4 rfl rfl)
theorem dX12_worthAll_31 : decode cX12_worthAll 31 = .ok (.iload_n 1, 1) := dk_27 (dk_at dksX12_worthAll_1 7 rfl rfl)
theorem dX12_worthAll_32 : decode cX12_worthAll 32 = .ok (.ireturn, 1) := dk_172 (dk_at dksX12_worthAll_1 8 rfl rfl)
abbrev cX12_inHeap : ByteArray := prog_24_method_59_code
def yX12_inHeap : MethodName := ⟨RX12, "inHeap", "()I"⟩
def dkwX12_inHeap_1 : List UInt8 := [167, 255, 238, 27, 172]
abbrev dktX12_inHeap_1 : List UInt8 := dkwX12_inHeap_1 ++ []
def dkwX12_inHeap_0 : List UInt8 := [3, 60, 3, 61, 28, 16, 6, 162, 0, 18, 27, 42, 180, 0, 146, 28, 46, 96, 60, 132, 2, 1]
abbrev dktX12_inHeap_0 : List UInt8 := dkwX12_inHeap_0 ++ dktX12_inHeap_1
theorem dksX12_inHeap_0 : cX12_inHeap.data.toList.drop 0 = dktX12_inHeap_0 := by decide +kernel
theorem dksX12_inHeap_1 : cX12_inHeap.data.toList.drop 22 = dktX12_inHeap_1 := dk_seg dksX12_inHeap_0 22 rfl rfl
theorem dX12_inHeap_0 : decode cX12_inHeap 0 = .ok (.iconst 0, 1) := dk_3 (dk_at dksX12_inHeap_0 0 rfl rfl)
theorem dX12_inHeap_1 : decode cX12_inHeap 1 = .ok (.istore_n 1, 1) := dk_60 (dk_at dksX12_inHeap_0 1 rfl rfl)
theorem dX12_inHeap_2 : decode cX12_inHeap 2 = .ok (.iconst 0, 1) := dk_3 (dk_at dksX12_inHeap_0 2 rfl rfl)
theorem dX12_inHeap_3 : decode cX12_inHeap 3 = .ok (.istore_n 2, 1) := dk_61 (dk_at dksX12_inHeap_0 3 rfl rfl)
theorem dX12_inHeap_4 : decode cX12_inHeap 4 = .ok (.iload_n 2, 1) := dk_28 (dk_at dksX12_inHeap_0 4 rfl rfl)
theorem dX12_inHeap_5 : decode cX12_inHeap 5 = .ok (.bipush 6, 2) := dk_16 6 (dk_at dksX12_inHeap_0 5 rfl rfl)
theorem dX12_inHeap_7 : decode cX12_inHeap 7 = .ok (.if_icmp .ge 18, 3) := dk_162 0 18 (dk_at dksX12_inHeap_0 7 rfl rfl)
theorem dX12_inHeap_10 : decode cX12_inHeap 10 = .ok (.iload_n 1, 1) := dk_27 (dk_at dksX12_inHeap_0 10 rfl rfl)
theorem dX12_inHeap_11 : decode cX12_inHeap 11 = .ok (.aload_n 0, 1) := dk_42 (dk_at dksX12_inHeap_0 11 rfl rfl)
theorem dX12_inHeap_12 : decode cX12_inHeap 12 = .ok (.getfield 146, 3) := dk_180 0 146 (dk_at dksX12_inHeap_0 12 rfl rfl)
theorem dX12_inHeap_15 : decode cX12_inHeap 15 = .ok (.iload_n 2, 1) := dk_28 (dk_at dksX12_inHeap_0 15 rfl rfl)
theorem dX12_inHeap_16 : decode cX12_inHeap 16 = .ok (.iaload, 1) := dk_46 (dk_at dksX12_inHeap_0 16 rfl rfl)
theorem dX12_inHeap_17 : decode cX12_inHeap 17 = .ok (.iadd, 1) := dk_96 (dk_at dksX12_inHeap_0 17 rfl rfl)
theorem dX12_inHeap_18 : decode cX12_inHeap 18 = .ok (.istore_n 1, 1) := dk_60 (dk_at dksX12_inHeap_0 18 rfl rfl)
theorem dX12_inHeap_19 : decode cX12_inHeap 19 = .ok (.iinc 2 1, 3) := dk_132 2 1 (dk_at dksX12_inHeap_0 19 rfl rfl)
theorem dX12_inHeap_22 : decode cX12_inHeap 22 = .ok (.goto (-18), 3) := dk_167 255 238 (dk_at dksX12_inHeap_1 0 rfl rfl)
theorem dX12_inHeap_25 : decode cX12_inHeap 25 = .ok (.iload_n 1, 1) := dk_27 (dk_at dksX12_inHeap_1 3 rfl rfl)
theorem dX12_inHeap_26 : decode cX12_inHeap 26 = .ok (.ireturn, 1) := dk_172 (dk_at dksX12_inHeap_1 4 rfl rfl)
abbrev cX12_inHoles : ByteArray := prog_24_method_58_code
def yX12_inHoles : MethodName := ⟨RX12, "inHoles", "(Z)I"⟩
def dkwX12_inHoles_3 : List UInt8 := [96, 61, 132, 4, 1, 167, 255, 200, 132, 3, 1, 167, 255, 178, 28, 172]
abbrev dktX12_inHoles_3 : List UInt8 := dkwX12_inHoles_3 ++ []
def dkwX12_inHoles_2 : List UInt8 := [167, 0, 4, 3, 27, 160, 0, 21, 28, 42, 180, 0, 146, 16, 6, 16, 6, 29, 104, 96, 21, 4, 96, 46]
abbrev dktX12_inHoles_2 : List UInt8 := dkwX12_inHoles_2 ++ dktX12_inHoles_3
def dkwX12_inHoles_1 : List UInt8 := [162, 0, 55, 42, 180, 0, 64, 16, 6, 42, 180, 1, 1, 104, 29, 96, 46, 21, 4, 160, 0, 7, 4]
abbrev dktX12_inHoles_1 : List UInt8 := dkwX12_inHoles_1 ++ dktX12_inHoles_2
def dkwX12_inHoles_0 : List UInt8 := [3, 61, 3, 62, 29, 42, 180, 0, 58, 42, 180, 1, 1, 46, 162, 0, 71, 3, 54, 4, 21, 4, 16, 6]
abbrev dktX12_inHoles_0 : List UInt8 := dkwX12_inHoles_0 ++ dktX12_inHoles_1
theorem dksX12_inHoles_0 : cX12_inHoles.data.toList.drop 0 = dktX12_inHoles_0 := by decide +kernel
theorem dksX12_inHoles_1 : cX12_inHoles.data.toList.drop 24 = dktX12_inHoles_1 := dk_seg dksX12_inHoles_0 24 rfl rfl
theorem dksX12_inHoles_2 : cX12_inHoles.data.toList.drop 47 = dktX12_inHoles_2 := dk_seg dksX12_inHoles_1 23 rfl rfl
theorem dksX12_inHoles_3 : cX12_inHoles.data.toList.drop 71 = dktX12_inHoles_3 := dk_seg dksX12_inHoles_2 24 rfl rfl
theorem dX12_inHoles_0 : decode cX12_inHoles 0 = .ok (.iconst 0, 1) := dk_3 (dk_at dksX12_inHoles_0 0 rfl rfl)
theorem dX12_inHoles_1 : decode cX12_inHoles 1 = .ok (.istore_n 2, 1) := dk_61 (dk_at dksX12_inHoles_0 1 rfl rfl)
theorem dX12_inHoles_2 : decode cX12_inHoles 2 = .ok (.iconst 0, 1) := dk_3 (dk_at dksX12_inHoles_0 2 rfl rfl)
theorem dX12_inHoles_3 : decode cX12_inHoles 3 = .ok (.istore_n 3, 1) := dk_62 (dk_at dksX12_inHoles_0 3 rfl rfl)
theorem dX12_inHoles_4 : decode cX12_inHoles 4 = .ok (.iload_n 3, 1) := dk_29 (dk_at dksX12_inHoles_0 4 rfl rfl)
theorem dX12_inHoles_5 : decode cX12_inHoles 5 = .ok (.aload_n 0, 1) := dk_42 (dk_at dksX12_inHoles_0 5 rfl rfl)
theorem dX12_inHoles_6 : decode cX12_inHoles 6 = .ok (.getfield 58, 3) := dk_180 0 58 (dk_at dksX12_inHoles_0 6 rfl rfl)
theorem dX12_inHoles_9 : decode cX12_inHoles 9 = .ok (.aload_n 0, 1) := dk_42 (dk_at dksX12_inHoles_0 9 rfl rfl)
theorem dX12_inHoles_10 : decode cX12_inHoles 10 = .ok (.getfield 257, 3) := dk_180 1 1 (dk_at dksX12_inHoles_0 10 rfl rfl)
theorem dX12_inHoles_13 : decode cX12_inHoles 13 = .ok (.iaload, 1) := dk_46 (dk_at dksX12_inHoles_0 13 rfl rfl)
theorem dX12_inHoles_14 : decode cX12_inHoles 14 = .ok (.if_icmp .ge 71, 3) := dk_162 0 71 (dk_at dksX12_inHoles_0 14 rfl rfl)
theorem dX12_inHoles_17 : decode cX12_inHoles 17 = .ok (.iconst 0, 1) := dk_3 (dk_at dksX12_inHoles_0 17 rfl rfl)
theorem dX12_inHoles_18 : decode cX12_inHoles 18 = .ok (.istore 4, 2) := dk_54 4 (dk_at dksX12_inHoles_0 18 rfl rfl)
theorem dX12_inHoles_20 : decode cX12_inHoles 20 = .ok (.iload 4, 2) := dk_21 4 (dk_at dksX12_inHoles_0 20 rfl rfl)
theorem dX12_inHoles_22 : decode cX12_inHoles 22 = .ok (.bipush 6, 2) := dk_16 6 (dk_at dksX12_inHoles_0 22 rfl rfl)
theorem dX12_inHoles_24 : decode cX12_inHoles 24 = .ok (.if_icmp .ge 55, 3) := dk_162 0 55 (dk_at dksX12_inHoles_1 0 rfl rfl)
theorem dX12_inHoles_27 : decode cX12_inHoles 27 = .ok (.aload_n 0, 1) := dk_42 (dk_at dksX12_inHoles_1 3 rfl rfl)
theorem dX12_inHoles_28 : decode cX12_inHoles 28 = .ok (.getfield 64, 3) := dk_180 0 64 (dk_at dksX12_inHoles_1 4 rfl rfl)
theorem dX12_inHoles_31 : decode cX12_inHoles 31 = .ok (.bipush 6, 2) := dk_16 6 (dk_at dksX12_inHoles_1 7 rfl rfl)
theorem dX12_inHoles_33 : decode cX12_inHoles 33 = .ok (.aload_n 0, 1) := dk_42 (dk_at dksX12_inHoles_1 9 rfl rfl)
theorem dX12_inHoles_34 : decode cX12_inHoles 34 = .ok (.getfield 257, 3) := dk_180 1 1 (dk_at dksX12_inHoles_1 10 rfl rfl)
theorem dX12_inHoles_37 : decode cX12_inHoles 37 = .ok (.imul, 1) := dk_104 (dk_at dksX12_inHoles_1 13 rfl rfl)
theorem dX12_inHoles_38 : decode cX12_inHoles 38 = .ok (.iload_n 3, 1) := dk_29 (dk_at dksX12_inHoles_1 14 rfl rfl)
theorem dX12_inHoles_39 : decode cX12_inHoles 39 = .ok (.iadd, 1) := dk_96 (dk_at dksX12_inHoles_1 15 rfl rfl)
theorem dX12_inHoles_40 : decode cX12_inHoles 40 = .ok (.iaload, 1) := dk_46 (dk_at dksX12_inHoles_1 16 rfl rfl)
theorem dX12_inHoles_41 : decode cX12_inHoles 41 = .ok (.iload 4, 2) := dk_21 4 (dk_at dksX12_inHoles_1 17 rfl rfl)
theorem dX12_inHoles_43 : decode cX12_inHoles 43 = .ok (.if_icmp .ne 7, 3) := dk_160 0 7 (dk_at dksX12_inHoles_1 19 rfl rfl)
theorem dX12_inHoles_46 : decode cX12_inHoles 46 = .ok (.iconst 1, 1) := dk_4 (dk_at dksX12_inHoles_1 22 rfl rfl)
theorem dX12_inHoles_47 : decode cX12_inHoles 47 = .ok (.goto 4, 3) := dk_167 0 4 (dk_at dksX12_inHoles_2 0 rfl rfl)
theorem dX12_inHoles_50 : decode cX12_inHoles 50 = .ok (.iconst 0, 1) := dk_3 (dk_at dksX12_inHoles_2 3 rfl rfl)
theorem dX12_inHoles_51 : decode cX12_inHoles 51 = .ok (.iload_n 1, 1) := dk_27 (dk_at dksX12_inHoles_2 4 rfl rfl)
theorem dX12_inHoles_52 : decode cX12_inHoles 52 = .ok (.if_icmp .ne 21, 3) := dk_160 0 21 (dk_at dksX12_inHoles_2 5 rfl rfl)
theorem dX12_inHoles_55 : decode cX12_inHoles 55 = .ok (.iload_n 2, 1) := dk_28 (dk_at dksX12_inHoles_2 8 rfl rfl)
theorem dX12_inHoles_56 : decode cX12_inHoles 56 = .ok (.aload_n 0, 1) := dk_42 (dk_at dksX12_inHoles_2 9 rfl rfl)
theorem dX12_inHoles_57 : decode cX12_inHoles 57 = .ok (.getfield 146, 3) := dk_180 0 146 (dk_at dksX12_inHoles_2 10 rfl rfl)
theorem dX12_inHoles_60 : decode cX12_inHoles 60 = .ok (.bipush 6, 2) := dk_16 6 (dk_at dksX12_inHoles_2 13 rfl rfl)
theorem dX12_inHoles_62 : decode cX12_inHoles 62 = .ok (.bipush 6, 2) := dk_16 6 (dk_at dksX12_inHoles_2 15 rfl rfl)
theorem dX12_inHoles_64 : decode cX12_inHoles 64 = .ok (.iload_n 3, 1) := dk_29 (dk_at dksX12_inHoles_2 17 rfl rfl)
theorem dX12_inHoles_65 : decode cX12_inHoles 65 = .ok (.imul, 1) := dk_104 (dk_at dksX12_inHoles_2 18 rfl rfl)
theorem dX12_inHoles_66 : decode cX12_inHoles 66 = .ok (.iadd, 1) := dk_96 (dk_at dksX12_inHoles_2 19 rfl rfl)
theorem dX12_inHoles_67 : decode cX12_inHoles 67 = .ok (.iload 4, 2) := dk_21 4 (dk_at dksX12_inHoles_2 20 rfl rfl)
theorem dX12_inHoles_69 : decode cX12_inHoles 69 = .ok (.iadd, 1) := dk_96 (dk_at dksX12_inHoles_2 22 rfl rfl)
theorem dX12_inHoles_70 : decode cX12_inHoles 70 = .ok (.iaload, 1) := dk_46 (dk_at dksX12_inHoles_2 23 rfl rfl)
theorem dX12_inHoles_71 : decode cX12_inHoles 71 = .ok (.iadd, 1) := dk_96 (dk_at dksX12_inHoles_3 0 rfl rfl)
theorem dX12_inHoles_72 : decode cX12_inHoles 72 = .ok (.istore_n 2, 1) := dk_61 (dk_at dksX12_inHoles_3 1 rfl rfl)
theorem dX12_inHoles_73 : decode cX12_inHoles 73 = .ok (.iinc 4 1, 3) := dk_132 4 1 (dk_at dksX12_inHoles_3 2 rfl rfl)
theorem dX12_inHoles_76 : decode cX12_inHoles 76 = .ok (.goto (-56), 3) := dk_167 255 200 (dk_at dksX12_inHoles_3 5 rfl rfl)
theorem dX12_inHoles_79 : decode cX12_inHoles 79 = .ok (.iinc 3 1, 3) := dk_132 3 1 (dk_at dksX12_inHoles_3 8 rfl rfl)
theorem dX12_inHoles_82 : decode cX12_inHoles 82 = .ok (.goto (-78), 3) := dk_167 255 178 (dk_at dksX12_inHoles_3 11 rfl rfl)
theorem dX12_inHoles_85 : decode cX12_inHoles 85 = .ok (.iload_n 2, 1) := dk_28 (dk_at dksX12_inHoles_3 14 rfl rfl)
theorem dX12_inHoles_86 : decode cX12_inHoles 86 = .ok (.ireturn, 1) := dk_172 (dk_at dksX12_inHoles_3 15 rfl rfl)
abbrev cX12_lies : ByteArray := prog_24_method_88_code
def yX12_lies : MethodName := ⟨RX12, "lies", "(III)I"⟩
def dkwX12_lies_2 : List UInt8 := [180, 0, 146, 29, 46, 167, 0, 17, 42, 180, 0, 146, 16, 6, 16, 6, 28, 104, 96, 29, 96, 46, 172]
abbrev dktX12_lies_2 : List UInt8 := dkwX12_lies_2 ++ []
def dkwX12_lies_1 : List UInt8 := [182, 1, 130, 154, 0, 5, 2, 172, 42, 182, 1, 139, 42, 27, 182, 1, 145, 28, 2, 160, 0, 12, 42]
abbrev dktX12_lies_1 : List UInt8 := dkwX12_lies_1 ++ dktX12_lies_2
def dkwX12_lies_0 : List UInt8 := [27, 184, 1, 173, 153, 0, 24, 28, 2, 159, 0, 11, 42, 28, 182, 1, 133, 153, 0, 11, 42, 29]
abbrev dktX12_lies_0 : List UInt8 := dkwX12_lies_0 ++ dktX12_lies_1
theorem dksX12_lies_0 : cX12_lies.data.toList.drop 0 = dktX12_lies_0 := by decide +kernel
theorem dksX12_lies_1 : cX12_lies.data.toList.drop 22 = dktX12_lies_1 := dk_seg dksX12_lies_0 22 rfl rfl
theorem dksX12_lies_2 : cX12_lies.data.toList.drop 45 = dktX12_lies_2 := dk_seg dksX12_lies_1 23 rfl rfl
theorem dX12_lies_0 : decode cX12_lies 0 = .ok (.iload_n 1, 1) := dk_27 (dk_at dksX12_lies_0 0 rfl rfl)
theorem dX12_lies_1 : decode cX12_lies 1 = .ok (.invokestatic 429, 3) := dk_184 1 173 (dk_at dksX12_lies_0 1 rfl rfl)
theorem dX12_lies_4 : decode cX12_lies 4 = .ok (.ifCond .eq 24, 3) := dk_153 0 24 (dk_at dksX12_lies_0 4 rfl rfl)
theorem dX12_lies_7 : decode cX12_lies 7 = .ok (.iload_n 2, 1) := dk_28 (dk_at dksX12_lies_0 7 rfl rfl)
theorem dX12_lies_8 : decode cX12_lies 8 = .ok (.iconst (-1), 1) := dk_2 (dk_at dksX12_lies_0 8 rfl rfl)
theorem dX12_lies_9 : decode cX12_lies 9 = .ok (.if_icmp .eq 11, 3) := dk_159 0 11 (dk_at dksX12_lies_0 9 rfl rfl)
theorem dX12_lies_12 : decode cX12_lies 12 = .ok (.aload_n 0, 1) := dk_42 (dk_at dksX12_lies_0 12 rfl rfl)
theorem dX12_lies_13 : decode cX12_lies 13 = .ok (.iload_n 2, 1) := dk_28 (dk_at dksX12_lies_0 13 rfl rfl)
theorem dX12_lies_14 : decode cX12_lies 14 = .ok (.invokevirtual 389, 3) := dk_182 1 133 (dk_at dksX12_lies_0 14 rfl rfl)
theorem dX12_lies_17 : decode cX12_lies 17 = .ok (.ifCond .eq 11, 3) := dk_153 0 11 (dk_at dksX12_lies_0 17 rfl rfl)
theorem dX12_lies_20 : decode cX12_lies 20 = .ok (.aload_n 0, 1) := dk_42 (dk_at dksX12_lies_0 20 rfl rfl)
theorem dX12_lies_21 : decode cX12_lies 21 = .ok (.iload_n 3, 1) := dk_29 (dk_at dksX12_lies_0 21 rfl rfl)
theorem dX12_lies_22 : decode cX12_lies 22 = .ok (.invokevirtual 386, 3) := dk_182 1 130 (dk_at dksX12_lies_1 0 rfl rfl)
theorem dX12_lies_25 : decode cX12_lies 25 = .ok (.ifCond .ne 5, 3) := dk_154 0 5 (dk_at dksX12_lies_1 3 rfl rfl)
theorem dX12_lies_28 : decode cX12_lies 28 = .ok (.iconst (-1), 1) := dk_2 (dk_at dksX12_lies_1 6 rfl rfl)
theorem dX12_lies_29 : decode cX12_lies 29 = .ok (.ireturn, 1) := dk_172 (dk_at dksX12_lies_1 7 rfl rfl)
theorem dX12_lies_30 : decode cX12_lies 30 = .ok (.aload_n 0, 1) := dk_42 (dk_at dksX12_lies_1 8 rfl rfl)
theorem dX12_lies_31 : decode cX12_lies 31 = .ok (.invokevirtual 395, 3) := dk_182 1 139 (dk_at dksX12_lies_1 9 rfl rfl)
theorem dX12_lies_34 : decode cX12_lies 34 = .ok (.aload_n 0, 1) := dk_42 (dk_at dksX12_lies_1 12 rfl rfl)
theorem dX12_lies_35 : decode cX12_lies 35 = .ok (.iload_n 1, 1) := dk_27 (dk_at dksX12_lies_1 13 rfl rfl)
theorem dX12_lies_36 : decode cX12_lies 36 = .ok (.invokevirtual 401, 3) := dk_182 1 145 (dk_at dksX12_lies_1 14 rfl rfl)
theorem dX12_lies_39 : decode cX12_lies 39 = .ok (.iload_n 2, 1) := dk_28 (dk_at dksX12_lies_1 17 rfl rfl)
theorem dX12_lies_40 : decode cX12_lies 40 = .ok (.iconst (-1), 1) := dk_2 (dk_at dksX12_lies_1 18 rfl rfl)
theorem dX12_lies_41 : decode cX12_lies 41 = .ok (.if_icmp .ne 12, 3) := dk_160 0 12 (dk_at dksX12_lies_1 19 rfl rfl)
theorem dX12_lies_44 : decode cX12_lies 44 = .ok (.aload_n 0, 1) := dk_42 (dk_at dksX12_lies_1 22 rfl rfl)
theorem dX12_lies_45 : decode cX12_lies 45 = .ok (.getfield 146, 3) := dk_180 0 146 (dk_at dksX12_lies_2 0 rfl rfl)
theorem dX12_lies_48 : decode cX12_lies 48 = .ok (.iload_n 3, 1) := dk_29 (dk_at dksX12_lies_2 3 rfl rfl)
theorem dX12_lies_49 : decode cX12_lies 49 = .ok (.iaload, 1) := dk_46 (dk_at dksX12_lies_2 4 rfl rfl)
theorem dX12_lies_50 : decode cX12_lies 50 = .ok (.goto 17, 3) := dk_167 0 17 (dk_at dksX12_lies_2 5 rfl rfl)
theorem dX12_lies_53 : decode cX12_lies 53 = .ok (.aload_n 0, 1) := dk_42 (dk_at dksX12_lies_2 8 rfl rfl)
theorem dX12_lies_54 : decode cX12_lies 54 = .ok (.getfield 146, 3) := dk_180 0 146 (dk_at dksX12_lies_2 9 rfl rfl)
theorem dX12_lies_57 : decode cX12_lies 57 = .ok (.bipush 6, 2) := dk_16 6 (dk_at dksX12_lies_2 12 rfl rfl)
theorem dX12_lies_59 : decode cX12_lies 59 = .ok (.bipush 6, 2) := dk_16 6 (dk_at dksX12_lies_2 14 rfl rfl)
theorem dX12_lies_61 : decode cX12_lies 61 = .ok (.iload_n 2, 1) := dk_28 (dk_at dksX12_lies_2 16 rfl rfl)
theorem dX12_lies_62 : decode cX12_lies 62 = .ok (.imul, 1) := dk_104 (dk_at dksX12_lies_2 17 rfl rfl)
theorem dX12_lies_63 : decode cX12_lies 63 = .ok (.iadd, 1) := dk_96 (dk_at dksX12_lies_2 18 rfl rfl)
theorem dX12_lies_64 : decode cX12_lies 64 = .ok (.iload_n 3, 1) := dk_29 (dk_at dksX12_lies_2 19 rfl rfl)
theorem dX12_lies_65 : decode cX12_lies 65 = .ok (.iadd, 1) := dk_96 (dk_at dksX12_lies_2 20 rfl rfl)
theorem dX12_lies_66 : decode cX12_lies 66 = .ok (.iaload, 1) := dk_46 (dk_at dksX12_lies_2 21 rfl rfl)
theorem dX12_lies_67 : decode cX12_lies 67 = .ok (.ireturn, 1) := dk_172 (dk_at dksX12_lies_2 22 rfl rfl)
abbrev cX12_hire : ByteArray := prog_24_method_92_code
def yX12_hire : MethodName := ⟨RX12, "hire", "(II)I"⟩
def dkwX12_hire_6 : List UInt8 := [182, 1, 186, 172]
abbrev dktX12_hire_6 : List UInt8 := dkwX12_hire_6 ++ []
def dkwX12_hire_5 : List UInt8 := [62, 132, 4, 1, 167, 255, 160, 29, 155, 0, 8, 28, 4, 160, 0, 7, 29, 167, 0, 8, 42, 29]
abbrev dktX12_hire_5 : List UInt8 := dkwX12_hire_5 ++ dktX12_hire_6
def dkwX12_hire_4 : List UInt8 := [182, 1, 139, 42, 21, 4, 182, 1, 192, 42, 27, 182, 1, 145, 42, 4, 182, 1, 166, 153, 0, 6, 21, 4]
abbrev dktX12_hire_4 : List UInt8 := dkwX12_hire_4 ++ dktX12_hire_5
def dkwX12_hire_3 : List UInt8 := [157, 0, 49, 21, 5, 154, 0, 18, 21, 4, 184, 1, 189, 29, 184, 1, 189, 161, 0, 6, 167, 0, 29, 42]
abbrev dktX12_hire_3 : List UInt8 := dkwX12_hire_3 ++ dktX12_hire_4
def dkwX12_hire_2 : List UInt8 := [3, 167, 0, 15, 42, 21, 4, 182, 1, 186, 42, 29, 182, 1, 186, 100, 54, 5, 29, 155, 0, 28, 21, 5]
abbrev dktX12_hire_2 : List UInt8 := dkwX12_hire_2 ++ dktX12_hire_3
def dkwX12_hire_1 : List UInt8 := [62, 3, 54, 4, 21, 4, 4, 42, 180, 0, 67, 42, 180, 1, 1, 46, 120, 162, 0, 86, 29, 156, 0, 7]
abbrev dktX12_hire_1 : List UInt8 := dkwX12_hire_1 ++ dktX12_hire_2
def dkwX12_hire_0 : List UInt8 := [27, 4, 17, 1, 44, 184, 1, 94, 153, 0, 12, 28, 3, 4, 184, 1, 94, 154, 0, 5, 2, 172, 16, 254]
abbrev dktX12_hire_0 : List UInt8 := dkwX12_hire_0 ++ dktX12_hire_1
theorem dksX12_hire_0 : cX12_hire.data.toList.drop 0 = dktX12_hire_0 := by decide +kernel
theorem dksX12_hire_1 : cX12_hire.data.toList.drop 24 = dktX12_hire_1 := dk_seg dksX12_hire_0 24 rfl rfl
theorem dksX12_hire_2 : cX12_hire.data.toList.drop 48 = dktX12_hire_2 := dk_seg dksX12_hire_1 24 rfl rfl
theorem dksX12_hire_3 : cX12_hire.data.toList.drop 72 = dktX12_hire_3 := dk_seg dksX12_hire_2 24 rfl rfl
theorem dksX12_hire_4 : cX12_hire.data.toList.drop 96 = dktX12_hire_4 := dk_seg dksX12_hire_3 24 rfl rfl
theorem dksX12_hire_5 : cX12_hire.data.toList.drop 120 = dktX12_hire_5 := dk_seg dksX12_hire_4 24 rfl rfl
theorem dksX12_hire_6 : cX12_hire.data.toList.drop 142 = dktX12_hire_6 := dk_seg dksX12_hire_5 22 rfl rfl
theorem dX12_hire_0 : decode cX12_hire 0 = .ok (.iload_n 1, 1) := dk_27 (dk_at dksX12_hire_0 0 rfl rfl)
theorem dX12_hire_1 : decode cX12_hire 1 = .ok (.iconst 1, 1) := dk_4 (dk_at dksX12_hire_0 1 rfl rfl)
theorem dX12_hire_2 : decode cX12_hire 2 = .ok (.sipush 300, 3) := dk_17 1 44 (dk_at dksX12_hire_0 2 rfl rfl)
theorem dX12_hire_5 : decode cX12_hire 5 = .ok (.invokestatic 350, 3) := dk_184 1 94 (dk_at dksX12_hire_0 5 rfl rfl)
theorem dX12_hire_8 : decode cX12_hire 8 = .ok (.ifCond .eq 12, 3) := dk_153 0 12 (dk_at dksX12_hire_0 8 rfl rfl)
theorem dX12_hire_11 : decode cX12_hire 11 = .ok (.iload_n 2, 1) := dk_28 (dk_at dksX12_hire_0 11 rfl rfl)
theorem dX12_hire_12 : decode cX12_hire 12 = .ok (.iconst 0, 1) := dk_3 (dk_at dksX12_hire_0 12 rfl rfl)
theorem dX12_hire_13 : decode cX12_hire 13 = .ok (.iconst 1, 1) := dk_4 (dk_at dksX12_hire_0 13 rfl rfl)
theorem dX12_hire_14 : decode cX12_hire 14 = .ok (.invokestatic 350, 3) := dk_184 1 94 (dk_at dksX12_hire_0 14 rfl rfl)
theorem dX12_hire_17 : decode cX12_hire 17 = .ok (.ifCond .ne 5, 3) := dk_154 0 5 (dk_at dksX12_hire_0 17 rfl rfl)
theorem dX12_hire_20 : decode cX12_hire 20 = .ok (.iconst (-1), 1) := dk_2 (dk_at dksX12_hire_0 20 rfl rfl)
theorem dX12_hire_21 : decode cX12_hire 21 = .ok (.ireturn, 1) := dk_172 (dk_at dksX12_hire_0 21 rfl rfl)
theorem dX12_hire_22 : decode cX12_hire 22 = .ok (.bipush (-2), 2) := dk_16 254 (dk_at dksX12_hire_0 22 rfl rfl)
theorem dX12_hire_24 : decode cX12_hire 24 = .ok (.istore_n 3, 1) := dk_62 (dk_at dksX12_hire_1 0 rfl rfl)
theorem dX12_hire_25 : decode cX12_hire 25 = .ok (.iconst 0, 1) := dk_3 (dk_at dksX12_hire_1 1 rfl rfl)
theorem dX12_hire_26 : decode cX12_hire 26 = .ok (.istore 4, 2) := dk_54 4 (dk_at dksX12_hire_1 2 rfl rfl)
theorem dX12_hire_28 : decode cX12_hire 28 = .ok (.iload 4, 2) := dk_21 4 (dk_at dksX12_hire_1 4 rfl rfl)
theorem dX12_hire_30 : decode cX12_hire 30 = .ok (.iconst 1, 1) := dk_4 (dk_at dksX12_hire_1 6 rfl rfl)
theorem dX12_hire_31 : decode cX12_hire 31 = .ok (.aload_n 0, 1) := dk_42 (dk_at dksX12_hire_1 7 rfl rfl)
theorem dX12_hire_32 : decode cX12_hire 32 = .ok (.getfield 67, 3) := dk_180 0 67 (dk_at dksX12_hire_1 8 rfl rfl)
theorem dX12_hire_35 : decode cX12_hire 35 = .ok (.aload_n 0, 1) := dk_42 (dk_at dksX12_hire_1 11 rfl rfl)
theorem dX12_hire_36 : decode cX12_hire 36 = .ok (.getfield 257, 3) := dk_180 1 1 (dk_at dksX12_hire_1 12 rfl rfl)
theorem dX12_hire_39 : decode cX12_hire 39 = .ok (.iaload, 1) := dk_46 (dk_at dksX12_hire_1 15 rfl rfl)
theorem dX12_hire_40 : decode cX12_hire 40 = .ok (.ishl, 1) := dk_120 (dk_at dksX12_hire_1 16 rfl rfl)
theorem dX12_hire_41 : decode cX12_hire 41 = .ok (.if_icmp .ge 86, 3) := dk_162 0 86 (dk_at dksX12_hire_1 17 rfl rfl)
theorem dX12_hire_44 : decode cX12_hire 44 = .ok (.iload_n 3, 1) := dk_29 (dk_at dksX12_hire_1 20 rfl rfl)
theorem dX12_hire_45 : decode cX12_hire 45 = .ok (.ifCond .ge 7, 3) := dk_156 0 7 (dk_at dksX12_hire_1 21 rfl rfl)
theorem dX12_hire_48 : decode cX12_hire 48 = .ok (.iconst 0, 1) := dk_3 (dk_at dksX12_hire_2 0 rfl rfl)
theorem dX12_hire_49 : decode cX12_hire 49 = .ok (.goto 15, 3) := dk_167 0 15 (dk_at dksX12_hire_2 1 rfl rfl)
theorem dX12_hire_52 : decode cX12_hire 52 = .ok (.aload_n 0, 1) := dk_42 (dk_at dksX12_hire_2 4 rfl rfl)
theorem dX12_hire_53 : decode cX12_hire 53 = .ok (.iload 4, 2) := dk_21 4 (dk_at dksX12_hire_2 5 rfl rfl)
theorem dX12_hire_55 : decode cX12_hire 55 = .ok (.invokevirtual 442, 3) := dk_182 1 186 (dk_at dksX12_hire_2 7 rfl rfl)
theorem dX12_hire_58 : decode cX12_hire 58 = .ok (.aload_n 0, 1) := dk_42 (dk_at dksX12_hire_2 10 rfl rfl)
theorem dX12_hire_59 : decode cX12_hire 59 = .ok (.iload_n 3, 1) := dk_29 (dk_at dksX12_hire_2 11 rfl rfl)
theorem dX12_hire_60 : decode cX12_hire 60 = .ok (.invokevirtual 442, 3) := dk_182 1 186 (dk_at dksX12_hire_2 12 rfl rfl)
theorem dX12_hire_63 : decode cX12_hire 63 = .ok (.isub, 1) := dk_100 (dk_at dksX12_hire_2 15 rfl rfl)
theorem dX12_hire_64 : decode cX12_hire 64 = .ok (.istore 5, 2) := dk_54 5 (dk_at dksX12_hire_2 16 rfl rfl)
theorem dX12_hire_66 : decode cX12_hire 66 = .ok (.iload_n 3, 1) := dk_29 (dk_at dksX12_hire_2 18 rfl rfl)
theorem dX12_hire_67 : decode cX12_hire 67 = .ok (.ifCond .lt 28, 3) := dk_155 0 28 (dk_at dksX12_hire_2 19 rfl rfl)
theorem dX12_hire_70 : decode cX12_hire 70 = .ok (.iload 5, 2) := dk_21 5 (dk_at dksX12_hire_2 22 rfl rfl)
theorem dX12_hire_72 : decode cX12_hire 72 = .ok (.ifCond .gt 49, 3) := dk_157 0 49 (dk_at dksX12_hire_3 0 rfl rfl)
theorem dX12_hire_75 : decode cX12_hire 75 = .ok (.iload 5, 2) := dk_21 5 (dk_at dksX12_hire_3 3 rfl rfl)
theorem dX12_hire_77 : decode cX12_hire 77 = .ok (.ifCond .ne 18, 3) := dk_154 0 18 (dk_at dksX12_hire_3 5 rfl rfl)
theorem dX12_hire_80 : decode cX12_hire 80 = .ok (.iload 4, 2) := dk_21 4 (dk_at dksX12_hire_3 8 rfl rfl)
theorem dX12_hire_82 : decode cX12_hire 82 = .ok (.invokestatic 445, 3) := dk_184 1 189 (dk_at dksX12_hire_3 10 rfl rfl)
theorem dX12_hire_85 : decode cX12_hire 85 = .ok (.iload_n 3, 1) := dk_29 (dk_at dksX12_hire_3 13 rfl rfl)
theorem dX12_hire_86 : decode cX12_hire 86 = .ok (.invokestatic 445, 3) := dk_184 1 189 (dk_at dksX12_hire_3 14 rfl rfl)
theorem dX12_hire_89 : decode cX12_hire 89 = .ok (.if_icmp .lt 6, 3) := dk_161 0 6 (dk_at dksX12_hire_3 17 rfl rfl)
theorem dX12_hire_92 : decode cX12_hire 92 = .ok (.goto 29, 3) := dk_167 0 29 (dk_at dksX12_hire_3 20 rfl rfl)
theorem dX12_hire_95 : decode cX12_hire 95 = .ok (.aload_n 0, 1) := dk_42 (dk_at dksX12_hire_3 23 rfl rfl)
theorem dX12_hire_96 : decode cX12_hire 96 = .ok (.invokevirtual 395, 3) := dk_182 1 139 (dk_at dksX12_hire_4 0 rfl rfl)
theorem dX12_hire_99 : decode cX12_hire 99 = .ok (.aload_n 0, 1) := dk_42 (dk_at dksX12_hire_4 3 rfl rfl)
theorem dX12_hire_100 : decode cX12_hire 100 = .ok (.iload 4, 2) := dk_21 4 (dk_at dksX12_hire_4 4 rfl rfl)
theorem dX12_hire_102 : decode cX12_hire 102 = .ok (.invokevirtual 448, 3) := dk_182 1 192 (dk_at dksX12_hire_4 6 rfl rfl)
theorem dX12_hire_105 : decode cX12_hire 105 = .ok (.aload_n 0, 1) := dk_42 (dk_at dksX12_hire_4 9 rfl rfl)
theorem dX12_hire_106 : decode cX12_hire 106 = .ok (.iload_n 1, 1) := dk_27 (dk_at dksX12_hire_4 10 rfl rfl)
theorem dX12_hire_107 : decode cX12_hire 107 = .ok (.invokevirtual 401, 3) := dk_182 1 145 (dk_at dksX12_hire_4 11 rfl rfl)
theorem dX12_hire_110 : decode cX12_hire 110 = .ok (.aload_n 0, 1) := dk_42 (dk_at dksX12_hire_4 14 rfl rfl)
theorem dX12_hire_111 : decode cX12_hire 111 = .ok (.iconst 1, 1) := dk_4 (dk_at dksX12_hire_4 15 rfl rfl)
theorem dX12_hire_112 : decode cX12_hire 112 = .ok (.invokevirtual 422, 3) := dk_182 1 166 (dk_at dksX12_hire_4 16 rfl rfl)
theorem dX12_hire_115 : decode cX12_hire 115 = .ok (.ifCond .eq 6, 3) := dk_153 0 6 (dk_at dksX12_hire_4 19 rfl rfl)
theorem dX12_hire_118 : decode cX12_hire 118 = .ok (.iload 4, 2) := dk_21 4 (dk_at dksX12_hire_4 22 rfl rfl)
theorem dX12_hire_120 : decode cX12_hire 120 = .ok (.istore_n 3, 1) := dk_62 (dk_at dksX12_hire_5 0 rfl rfl)
theorem dX12_hire_121 : decode cX12_hire 121 = .ok (.iinc 4 1, 3) := dk_132 4 1 (dk_at dksX12_hire_5 1 rfl rfl)
theorem dX12_hire_124 : decode cX12_hire 124 = .ok (.goto (-96), 3) := dk_167 255 160 (dk_at dksX12_hire_5 4 rfl rfl)
theorem dX12_hire_127 : decode cX12_hire 127 = .ok (.iload_n 3, 1) := dk_29 (dk_at dksX12_hire_5 7 rfl rfl)
theorem dX12_hire_128 : decode cX12_hire 128 = .ok (.ifCond .lt 8, 3) := dk_155 0 8 (dk_at dksX12_hire_5 8 rfl rfl)
theorem dX12_hire_131 : decode cX12_hire 131 = .ok (.iload_n 2, 1) := dk_28 (dk_at dksX12_hire_5 11 rfl rfl)
theorem dX12_hire_132 : decode cX12_hire 132 = .ok (.iconst 1, 1) := dk_4 (dk_at dksX12_hire_5 12 rfl rfl)
theorem dX12_hire_133 : decode cX12_hire 133 = .ok (.if_icmp .ne 7, 3) := dk_160 0 7 (dk_at dksX12_hire_5 13 rfl rfl)
theorem dX12_hire_136 : decode cX12_hire 136 = .ok (.iload_n 3, 1) := dk_29 (dk_at dksX12_hire_5 16 rfl rfl)
theorem dX12_hire_137 : decode cX12_hire 137 = .ok (.goto 8, 3) := dk_167 0 8 (dk_at dksX12_hire_5 17 rfl rfl)
theorem dX12_hire_140 : decode cX12_hire 140 = .ok (.aload_n 0, 1) := dk_42 (dk_at dksX12_hire_5 20 rfl rfl)
theorem dX12_hire_141 : decode cX12_hire 141 = .ok (.iload_n 3, 1) := dk_29 (dk_at dksX12_hire_5 21 rfl rfl)
theorem dX12_hire_142 : decode cX12_hire 142 = .ok (.invokevirtual 442, 3) := dk_182 1 186 (dk_at dksX12_hire_6 0 rfl rfl)
theorem dX12_hire_145 : decode cX12_hire 145 = .ok (.ireturn, 1) := dk_172 (dk_at dksX12_hire_6 3 rfl rfl)
abbrev cX12_feesOf : ByteArray := prog_24_method_90_code
def yX12_feesOf : MethodName := ⟨RX12, "feesOf", "(I)I"⟩
def dkwX12_feesOf_2 : List UInt8 := [167, 255, 214, 28, 172]
abbrev dktX12_feesOf_2 : List UInt8 := dkwX12_feesOf_2 ++ []
def dkwX12_feesOf_1 : List UInt8 := [160, 0, 20, 28, 42, 180, 0, 79, 16, 8, 42, 180, 1, 1, 104, 29, 96, 46, 96, 61, 132, 3, 1]
abbrev dktX12_feesOf_1 : List UInt8 := dkwX12_feesOf_1 ++ dktX12_feesOf_2
def dkwX12_feesOf_0 : List UInt8 := [3, 61, 3, 62, 29, 42, 180, 0, 67, 42, 180, 1, 1, 46, 162, 0, 35, 27, 29, 122, 4, 126, 4]
abbrev dktX12_feesOf_0 : List UInt8 := dkwX12_feesOf_0 ++ dktX12_feesOf_1
theorem dksX12_feesOf_0 : cX12_feesOf.data.toList.drop 0 = dktX12_feesOf_0 := by decide +kernel
theorem dksX12_feesOf_1 : cX12_feesOf.data.toList.drop 23 = dktX12_feesOf_1 := dk_seg dksX12_feesOf_0 23 rfl rfl
theorem dksX12_feesOf_2 : cX12_feesOf.data.toList.drop 46 = dktX12_feesOf_2 := dk_seg dksX12_feesOf_1 23 rfl rfl
theorem dX12_feesOf_0 : decode cX12_feesOf 0 = .ok (.iconst 0, 1) := dk_3 (dk_at dksX12_feesOf_0 0 rfl rfl)
theorem dX12_feesOf_1 : decode cX12_feesOf 1 = .ok (.istore_n 2, 1) := dk_61 (dk_at dksX12_feesOf_0 1 rfl rfl)
theorem dX12_feesOf_2 : decode cX12_feesOf 2 = .ok (.iconst 0, 1) := dk_3 (dk_at dksX12_feesOf_0 2 rfl rfl)
theorem dX12_feesOf_3 : decode cX12_feesOf 3 = .ok (.istore_n 3, 1) := dk_62 (dk_at dksX12_feesOf_0 3 rfl rfl)
theorem dX12_feesOf_4 : decode cX12_feesOf 4 = .ok (.iload_n 3, 1) := dk_29 (dk_at dksX12_feesOf_0 4 rfl rfl)
theorem dX12_feesOf_5 : decode cX12_feesOf 5 = .ok (.aload_n 0, 1) := dk_42 (dk_at dksX12_feesOf_0 5 rfl rfl)
theorem dX12_feesOf_6 : decode cX12_feesOf 6 = .ok (.getfield 67, 3) := dk_180 0 67 (dk_at dksX12_feesOf_0 6 rfl rfl)
theorem dX12_feesOf_9 : decode cX12_feesOf 9 = .ok (.aload_n 0, 1) := dk_42 (dk_at dksX12_feesOf_0 9 rfl rfl)
theorem dX12_feesOf_10 : decode cX12_feesOf 10 = .ok (.getfield 257, 3) := dk_180 1 1 (dk_at dksX12_feesOf_0 10 rfl rfl)
theorem dX12_feesOf_13 : decode cX12_feesOf 13 = .ok (.iaload, 1) := dk_46 (dk_at dksX12_feesOf_0 13 rfl rfl)
theorem dX12_feesOf_14 : decode cX12_feesOf 14 = .ok (.if_icmp .ge 35, 3) := dk_162 0 35 (dk_at dksX12_feesOf_0 14 rfl rfl)
theorem dX12_feesOf_17 : decode cX12_feesOf 17 = .ok (.iload_n 1, 1) := dk_27 (dk_at dksX12_feesOf_0 17 rfl rfl)
theorem dX12_feesOf_18 : decode cX12_feesOf 18 = .ok (.iload_n 3, 1) := dk_29 (dk_at dksX12_feesOf_0 18 rfl rfl)
theorem dX12_feesOf_19 : decode cX12_feesOf 19 = .ok (.ishr, 1) := dk_122 (dk_at dksX12_feesOf_0 19 rfl rfl)
theorem dX12_feesOf_20 : decode cX12_feesOf 20 = .ok (.iconst 1, 1) := dk_4 (dk_at dksX12_feesOf_0 20 rfl rfl)
theorem dX12_feesOf_21 : decode cX12_feesOf 21 = .ok (.iand, 1) := dk_126 (dk_at dksX12_feesOf_0 21 rfl rfl)
theorem dX12_feesOf_22 : decode cX12_feesOf 22 = .ok (.iconst 1, 1) := dk_4 (dk_at dksX12_feesOf_0 22 rfl rfl)
theorem dX12_feesOf_23 : decode cX12_feesOf 23 = .ok (.if_icmp .ne 20, 3) := dk_160 0 20 (dk_at dksX12_feesOf_1 0 rfl rfl)
theorem dX12_feesOf_26 : decode cX12_feesOf 26 = .ok (.iload_n 2, 1) := dk_28 (dk_at dksX12_feesOf_1 3 rfl rfl)
theorem dX12_feesOf_27 : decode cX12_feesOf 27 = .ok (.aload_n 0, 1) := dk_42 (dk_at dksX12_feesOf_1 4 rfl rfl)
theorem dX12_feesOf_28 : decode cX12_feesOf 28 = .ok (.getfield 79, 3) := dk_180 0 79 (dk_at dksX12_feesOf_1 5 rfl rfl)
theorem dX12_feesOf_31 : decode cX12_feesOf 31 = .ok (.bipush 8, 2) := dk_16 8 (dk_at dksX12_feesOf_1 8 rfl rfl)
theorem dX12_feesOf_33 : decode cX12_feesOf 33 = .ok (.aload_n 0, 1) := dk_42 (dk_at dksX12_feesOf_1 10 rfl rfl)
theorem dX12_feesOf_34 : decode cX12_feesOf 34 = .ok (.getfield 257, 3) := dk_180 1 1 (dk_at dksX12_feesOf_1 11 rfl rfl)
theorem dX12_feesOf_37 : decode cX12_feesOf 37 = .ok (.imul, 1) := dk_104 (dk_at dksX12_feesOf_1 14 rfl rfl)
theorem dX12_feesOf_38 : decode cX12_feesOf 38 = .ok (.iload_n 3, 1) := dk_29 (dk_at dksX12_feesOf_1 15 rfl rfl)
theorem dX12_feesOf_39 : decode cX12_feesOf 39 = .ok (.iadd, 1) := dk_96 (dk_at dksX12_feesOf_1 16 rfl rfl)
theorem dX12_feesOf_40 : decode cX12_feesOf 40 = .ok (.iaload, 1) := dk_46 (dk_at dksX12_feesOf_1 17 rfl rfl)
theorem dX12_feesOf_41 : decode cX12_feesOf 41 = .ok (.iadd, 1) := dk_96 (dk_at dksX12_feesOf_1 18 rfl rfl)
theorem dX12_feesOf_42 : decode cX12_feesOf 42 = .ok (.istore_n 2, 1) := dk_61 (dk_at dksX12_feesOf_1 19 rfl rfl)
theorem dX12_feesOf_43 : decode cX12_feesOf 43 = .ok (.iinc 3 1, 3) := dk_132 3 1 (dk_at dksX12_feesOf_1 20 rfl rfl)
theorem dX12_feesOf_46 : decode cX12_feesOf 46 = .ok (.goto (-42), 3) := dk_167 255 214 (dk_at dksX12_feesOf_2 0 rfl rfl)
theorem dX12_feesOf_49 : decode cX12_feesOf 49 = .ok (.iload_n 2, 1) := dk_28 (dk_at dksX12_feesOf_2 3 rfl rfl)
theorem dX12_feesOf_50 : decode cX12_feesOf 50 = .ok (.ireturn, 1) := dk_172 (dk_at dksX12_feesOf_2 4 rfl rfl)
abbrev cX12_bits : ByteArray := prog_24_method_89_code
def yX12_bits : MethodName := ⟨RX12, "bits", "(I)I"⟩
def dkwX12_bits_1 : List UInt8 := [27, 172]
abbrev dktX12_bits_1 : List UInt8 := dkwX12_bits_1 ++ []
def dkwX12_bits_0 : List UInt8 := [3, 60, 3, 61, 28, 16, 8, 162, 0, 17, 27, 26, 28, 122, 4, 126, 96, 60, 132, 2, 1, 167, 255, 239]
abbrev dktX12_bits_0 : List UInt8 := dkwX12_bits_0 ++ dktX12_bits_1
theorem dksX12_bits_0 : cX12_bits.data.toList.drop 0 = dktX12_bits_0 := by decide +kernel
theorem dksX12_bits_1 : cX12_bits.data.toList.drop 24 = dktX12_bits_1 := dk_seg dksX12_bits_0 24 rfl rfl
theorem dX12_bits_0 : decode cX12_bits 0 = .ok (.iconst 0, 1) := dk_3 (dk_at dksX12_bits_0 0 rfl rfl)
theorem dX12_bits_1 : decode cX12_bits 1 = .ok (.istore_n 1, 1) := dk_60 (dk_at dksX12_bits_0 1 rfl rfl)
theorem dX12_bits_2 : decode cX12_bits 2 = .ok (.iconst 0, 1) := dk_3 (dk_at dksX12_bits_0 2 rfl rfl)
theorem dX12_bits_3 : decode cX12_bits 3 = .ok (.istore_n 2, 1) := dk_61 (dk_at dksX12_bits_0 3 rfl rfl)
theorem dX12_bits_4 : decode cX12_bits 4 = .ok (.iload_n 2, 1) := dk_28 (dk_at dksX12_bits_0 4 rfl rfl)
theorem dX12_bits_5 : decode cX12_bits 5 = .ok (.bipush 8, 2) := dk_16 8 (dk_at dksX12_bits_0 5 rfl rfl)
theorem dX12_bits_7 : decode cX12_bits 7 = .ok (.if_icmp .ge 17, 3) := dk_162 0 17 (dk_at dksX12_bits_0 7 rfl rfl)
theorem dX12_bits_10 : decode cX12_bits 10 = .ok (.iload_n 1, 1) := dk_27 (dk_at dksX12_bits_0 10 rfl rfl)
theorem dX12_bits_11 : decode cX12_bits 11 = .ok (.iload_n 0, 1) := dk_26 (dk_at dksX12_bits_0 11 rfl rfl)
theorem dX12_bits_12 : decode cX12_bits 12 = .ok (.iload_n 2, 1) := dk_28 (dk_at dksX12_bits_0 12 rfl rfl)
theorem dX12_bits_13 : decode cX12_bits 13 = .ok (.ishr, 1) := dk_122 (dk_at dksX12_bits_0 13 rfl rfl)
theorem dX12_bits_14 : decode cX12_bits 14 = .ok (.iconst 1, 1) := dk_4 (dk_at dksX12_bits_0 14 rfl rfl)
theorem dX12_bits_15 : decode cX12_bits 15 = .ok (.iand, 1) := dk_126 (dk_at dksX12_bits_0 15 rfl rfl)
theorem dX12_bits_16 : decode cX12_bits 16 = .ok (.iadd, 1) := dk_96 (dk_at dksX12_bits_0 16 rfl rfl)
theorem dX12_bits_17 : decode cX12_bits 17 = .ok (.istore_n 1, 1) := dk_60 (dk_at dksX12_bits_0 17 rfl rfl)
theorem dX12_bits_18 : decode cX12_bits 18 = .ok (.iinc 2 1, 3) := dk_132 2 1 (dk_at dksX12_bits_0 18 rfl rfl)
theorem dX12_bits_21 : decode cX12_bits 21 = .ok (.goto (-17), 3) := dk_167 255 239 (dk_at dksX12_bits_0 21 rfl rfl)
theorem dX12_bits_24 : decode cX12_bits 24 = .ok (.iload_n 1, 1) := dk_27 (dk_at dksX12_bits_1 0 rfl rfl)
theorem dX12_bits_25 : decode cX12_bits 25 = .ok (.ireturn, 1) := dk_172 (dk_at dksX12_bits_1 1 rfl rfl)
abbrev cX12_hires : ByteArray := prog_24_method_91_code
def yX12_hires : MethodName := ⟨RX12, "hires", "(I)V"⟩
def dkwX12_hires_3 : List UInt8 := [159, 0, 8, 42, 28, 182, 1, 154, 132, 2, 1, 167, 255, 176, 177]
abbrev dktX12_hires_3 : List UInt8 := dkwX12_hires_3 ++ []
def dkwX12_hires_2 : List UInt8 := [180, 0, 146, 16, 42, 28, 96, 3, 79, 29, 154, 0, 21, 42, 180, 0, 146, 16, 42, 28, 96, 46, 6]
abbrev dktX12_hires_2 : List UInt8 := dkwX12_hires_2 ++ dktX12_hires_3
def dkwX12_hires_1 : List UInt8 := [4, 167, 0, 4, 3, 62, 29, 153, 0, 26, 42, 180, 0, 146, 16, 42, 28, 96, 46, 6, 160, 0, 13, 42]
abbrev dktX12_hires_1 : List UInt8 := dkwX12_hires_1 ++ dktX12_hires_2
def dkwX12_hires_0 : List UInt8 := [3, 61, 28, 42, 180, 0, 67, 42, 180, 1, 1, 46, 162, 0, 73, 27, 28, 122, 4, 126, 4, 160, 0, 7]
abbrev dktX12_hires_0 : List UInt8 := dkwX12_hires_0 ++ dktX12_hires_1
theorem dksX12_hires_0 : cX12_hires.data.toList.drop 0 = dktX12_hires_0 := by decide +kernel
theorem dksX12_hires_1 : cX12_hires.data.toList.drop 24 = dktX12_hires_1 := dk_seg dksX12_hires_0 24 rfl rfl
theorem dksX12_hires_2 : cX12_hires.data.toList.drop 48 = dktX12_hires_2 := dk_seg dksX12_hires_1 24 rfl rfl
theorem dksX12_hires_3 : cX12_hires.data.toList.drop 71 = dktX12_hires_3 := dk_seg dksX12_hires_2 23 rfl rfl
theorem dX12_hires_0 : decode cX12_hires 0 = .ok (.iconst 0, 1) := dk_3 (dk_at dksX12_hires_0 0 rfl rfl)
theorem dX12_hires_1 : decode cX12_hires 1 = .ok (.istore_n 2, 1) := dk_61 (dk_at dksX12_hires_0 1 rfl rfl)
theorem dX12_hires_2 : decode cX12_hires 2 = .ok (.iload_n 2, 1) := dk_28 (dk_at dksX12_hires_0 2 rfl rfl)
theorem dX12_hires_3 : decode cX12_hires 3 = .ok (.aload_n 0, 1) := dk_42 (dk_at dksX12_hires_0 3 rfl rfl)
theorem dX12_hires_4 : decode cX12_hires 4 = .ok (.getfield 67, 3) := dk_180 0 67 (dk_at dksX12_hires_0 4 rfl rfl)
theorem dX12_hires_7 : decode cX12_hires 7 = .ok (.aload_n 0, 1) := dk_42 (dk_at dksX12_hires_0 7 rfl rfl)
theorem dX12_hires_8 : decode cX12_hires 8 = .ok (.getfield 257, 3) := dk_180 1 1 (dk_at dksX12_hires_0 8 rfl rfl)
theorem dX12_hires_11 : decode cX12_hires 11 = .ok (.iaload, 1) := dk_46 (dk_at dksX12_hires_0 11 rfl rfl)
theorem dX12_hires_12 : decode cX12_hires 12 = .ok (.if_icmp .ge 73, 3) := dk_162 0 73 (dk_at dksX12_hires_0 12 rfl rfl)
theorem dX12_hires_15 : decode cX12_hires 15 = .ok (.iload_n 1, 1) := dk_27 (dk_at dksX12_hires_0 15 rfl rfl)
theorem dX12_hires_16 : decode cX12_hires 16 = .ok (.iload_n 2, 1) := dk_28 (dk_at dksX12_hires_0 16 rfl rfl)
theorem dX12_hires_17 : decode cX12_hires 17 = .ok (.ishr, 1) := dk_122 (dk_at dksX12_hires_0 17 rfl rfl)
theorem dX12_hires_18 : decode cX12_hires 18 = .ok (.iconst 1, 1) := dk_4 (dk_at dksX12_hires_0 18 rfl rfl)
theorem dX12_hires_19 : decode cX12_hires 19 = .ok (.iand, 1) := dk_126 (dk_at dksX12_hires_0 19 rfl rfl)
theorem dX12_hires_20 : decode cX12_hires 20 = .ok (.iconst 1, 1) := dk_4 (dk_at dksX12_hires_0 20 rfl rfl)
theorem dX12_hires_21 : decode cX12_hires 21 = .ok (.if_icmp .ne 7, 3) := dk_160 0 7 (dk_at dksX12_hires_0 21 rfl rfl)
theorem dX12_hires_24 : decode cX12_hires 24 = .ok (.iconst 1, 1) := dk_4 (dk_at dksX12_hires_1 0 rfl rfl)
theorem dX12_hires_25 : decode cX12_hires 25 = .ok (.goto 4, 3) := dk_167 0 4 (dk_at dksX12_hires_1 1 rfl rfl)
theorem dX12_hires_28 : decode cX12_hires 28 = .ok (.iconst 0, 1) := dk_3 (dk_at dksX12_hires_1 4 rfl rfl)
theorem dX12_hires_29 : decode cX12_hires 29 = .ok (.istore_n 3, 1) := dk_62 (dk_at dksX12_hires_1 5 rfl rfl)
theorem dX12_hires_30 : decode cX12_hires 30 = .ok (.iload_n 3, 1) := dk_29 (dk_at dksX12_hires_1 6 rfl rfl)
theorem dX12_hires_31 : decode cX12_hires 31 = .ok (.ifCond .eq 26, 3) := dk_153 0 26 (dk_at dksX12_hires_1 7 rfl rfl)
theorem dX12_hires_34 : decode cX12_hires 34 = .ok (.aload_n 0, 1) := dk_42 (dk_at dksX12_hires_1 10 rfl rfl)
theorem dX12_hires_35 : decode cX12_hires 35 = .ok (.getfield 146, 3) := dk_180 0 146 (dk_at dksX12_hires_1 11 rfl rfl)
theorem dX12_hires_38 : decode cX12_hires 38 = .ok (.bipush 42, 2) := dk_16 42 (dk_at dksX12_hires_1 14 rfl rfl)
theorem dX12_hires_40 : decode cX12_hires 40 = .ok (.iload_n 2, 1) := dk_28 (dk_at dksX12_hires_1 16 rfl rfl)
theorem dX12_hires_41 : decode cX12_hires 41 = .ok (.iadd, 1) := dk_96 (dk_at dksX12_hires_1 17 rfl rfl)
theorem dX12_hires_42 : decode cX12_hires 42 = .ok (.iaload, 1) := dk_46 (dk_at dksX12_hires_1 18 rfl rfl)
theorem dX12_hires_43 : decode cX12_hires 43 = .ok (.iconst 3, 1) := dk_6 (dk_at dksX12_hires_1 19 rfl rfl)
theorem dX12_hires_44 : decode cX12_hires 44 = .ok (.if_icmp .ne 13, 3) := dk_160 0 13 (dk_at dksX12_hires_1 20 rfl rfl)
theorem dX12_hires_47 : decode cX12_hires 47 = .ok (.aload_n 0, 1) := dk_42 (dk_at dksX12_hires_1 23 rfl rfl)
theorem dX12_hires_48 : decode cX12_hires 48 = .ok (.getfield 146, 3) := dk_180 0 146 (dk_at dksX12_hires_2 0 rfl rfl)
theorem dX12_hires_51 : decode cX12_hires 51 = .ok (.bipush 42, 2) := dk_16 42 (dk_at dksX12_hires_2 3 rfl rfl)
theorem dX12_hires_53 : decode cX12_hires 53 = .ok (.iload_n 2, 1) := dk_28 (dk_at dksX12_hires_2 5 rfl rfl)
theorem dX12_hires_54 : decode cX12_hires 54 = .ok (.iadd, 1) := dk_96 (dk_at dksX12_hires_2 6 rfl rfl)
theorem dX12_hires_55 : decode cX12_hires 55 = .ok (.iconst 0, 1) := dk_3 (dk_at dksX12_hires_2 7 rfl rfl)
theorem dX12_hires_56 : decode cX12_hires 56 = .ok (.iastore, 1) := dk_79 (dk_at dksX12_hires_2 8 rfl rfl)
theorem dX12_hires_57 : decode cX12_hires 57 = .ok (.iload_n 3, 1) := dk_29 (dk_at dksX12_hires_2 9 rfl rfl)
theorem dX12_hires_58 : decode cX12_hires 58 = .ok (.ifCond .ne 21, 3) := dk_154 0 21 (dk_at dksX12_hires_2 10 rfl rfl)
theorem dX12_hires_61 : decode cX12_hires 61 = .ok (.aload_n 0, 1) := dk_42 (dk_at dksX12_hires_2 13 rfl rfl)
theorem dX12_hires_62 : decode cX12_hires 62 = .ok (.getfield 146, 3) := dk_180 0 146 (dk_at dksX12_hires_2 14 rfl rfl)
theorem dX12_hires_65 : decode cX12_hires 65 = .ok (.bipush 42, 2) := dk_16 42 (dk_at dksX12_hires_2 17 rfl rfl)
theorem dX12_hires_67 : decode cX12_hires 67 = .ok (.iload_n 2, 1) := dk_28 (dk_at dksX12_hires_2 19 rfl rfl)
theorem dX12_hires_68 : decode cX12_hires 68 = .ok (.iadd, 1) := dk_96 (dk_at dksX12_hires_2 20 rfl rfl)
theorem dX12_hires_69 : decode cX12_hires 69 = .ok (.iaload, 1) := dk_46 (dk_at dksX12_hires_2 21 rfl rfl)
theorem dX12_hires_70 : decode cX12_hires 70 = .ok (.iconst 3, 1) := dk_6 (dk_at dksX12_hires_2 22 rfl rfl)
theorem dX12_hires_71 : decode cX12_hires 71 = .ok (.if_icmp .eq 8, 3) := dk_159 0 8 (dk_at dksX12_hires_3 0 rfl rfl)
theorem dX12_hires_74 : decode cX12_hires 74 = .ok (.aload_n 0, 1) := dk_42 (dk_at dksX12_hires_3 3 rfl rfl)
theorem dX12_hires_75 : decode cX12_hires 75 = .ok (.iload_n 2, 1) := dk_28 (dk_at dksX12_hires_3 4 rfl rfl)
theorem dX12_hires_76 : decode cX12_hires 76 = .ok (.invokevirtual 410, 3) := dk_182 1 154 (dk_at dksX12_hires_3 5 rfl rfl)
theorem dX12_hires_79 : decode cX12_hires 79 = .ok (.iinc 2 1, 3) := dk_132 2 1 (dk_at dksX12_hires_3 8 rfl rfl)
theorem dX12_hires_82 : decode cX12_hires 82 = .ok (.goto (-80), 3) := dk_167 255 176 (dk_at dksX12_hires_3 11 rfl rfl)
theorem dX12_hires_85 : decode cX12_hires 85 = .ok (.return_, 1) := dk_177 (dk_at dksX12_hires_3 14 rfl rfl)
abbrev cX12_taught : ByteArray := prog_24_method_95_code
def yX12_taught : MethodName := ⟨RX12, "taught", "(II)I"⟩
def dkwX12_taught_0 : List UInt8 := [42, 27, 28, 182, 1, 201, 154, 0, 5, 2, 172, 42, 27, 28, 182, 1, 205, 42, 180, 1, 198, 172]
abbrev dktX12_taught_0 : List UInt8 := dkwX12_taught_0 ++ []
theorem dksX12_taught_0 : cX12_taught.data.toList.drop 0 = dktX12_taught_0 := by decide +kernel
theorem dX12_taught_0 : decode cX12_taught 0 = .ok (.aload_n 0, 1) := dk_42 (dk_at dksX12_taught_0 0 rfl rfl)
theorem dX12_taught_1 : decode cX12_taught 1 = .ok (.iload_n 1, 1) := dk_27 (dk_at dksX12_taught_0 1 rfl rfl)
theorem dX12_taught_2 : decode cX12_taught 2 = .ok (.iload_n 2, 1) := dk_28 (dk_at dksX12_taught_0 2 rfl rfl)
theorem dX12_taught_3 : decode cX12_taught 3 = .ok (.invokevirtual 457, 3) := dk_182 1 201 (dk_at dksX12_taught_0 3 rfl rfl)
theorem dX12_taught_6 : decode cX12_taught 6 = .ok (.ifCond .ne 5, 3) := dk_154 0 5 (dk_at dksX12_taught_0 6 rfl rfl)
theorem dX12_taught_9 : decode cX12_taught 9 = .ok (.iconst (-1), 1) := dk_2 (dk_at dksX12_taught_0 9 rfl rfl)
theorem dX12_taught_10 : decode cX12_taught 10 = .ok (.ireturn, 1) := dk_172 (dk_at dksX12_taught_0 10 rfl rfl)
theorem dX12_taught_11 : decode cX12_taught 11 = .ok (.aload_n 0, 1) := dk_42 (dk_at dksX12_taught_0 11 rfl rfl)
theorem dX12_taught_12 : decode cX12_taught 12 = .ok (.iload_n 1, 1) := dk_27 (dk_at dksX12_taught_0 12 rfl rfl)
theorem dX12_taught_13 : decode cX12_taught 13 = .ok (.iload_n 2, 1) := dk_28 (dk_at dksX12_taught_0 13 rfl rfl)
theorem dX12_taught_14 : decode cX12_taught 14 = .ok (.invokevirtual 461, 3) := dk_182 1 205 (dk_at dksX12_taught_0 14 rfl rfl)
theorem dX12_taught_17 : decode cX12_taught 17 = .ok (.aload_n 0, 1) := dk_42 (dk_at dksX12_taught_0 17 rfl rfl)
theorem dX12_taught_18 : decode cX12_taught 18 = .ok (.getfield 454, 3) := dk_180 1 198 (dk_at dksX12_taught_0 18 rfl rfl)
theorem dX12_taught_21 : decode cX12_taught 21 = .ok (.ireturn, 1) := dk_172 (dk_at dksX12_taught_0 21 rfl rfl)
abbrev cX12_isSet : ByteArray := prog_24_method_94_code
def yX12_isSet : MethodName := ⟨RX12, "isSet", "(II)Z"⟩
def dkwX12_isSet_2 : List UInt8 := [180, 1, 1, 46, 158, 0, 7, 4, 167, 0, 4, 3, 172]
abbrev dktX12_isSet_2 : List UInt8 := dkwX12_isSet_2 ++ []
def dkwX12_isSet_1 : List UInt8 := [184, 1, 189, 8, 162, 0, 30, 28, 4, 17, 1, 44, 184, 1, 94, 153, 0, 19, 42, 180, 0, 49, 42]
abbrev dktX12_isSet_1 : List UInt8 := dkwX12_isSet_1 ++ dktX12_isSet_2
def dkwX12_isSet_0 : List UInt8 := [27, 4, 4, 42, 180, 0, 67, 42, 180, 1, 1, 46, 120, 4, 100, 184, 1, 94, 153, 0, 38, 27]
abbrev dktX12_isSet_0 : List UInt8 := dkwX12_isSet_0 ++ dktX12_isSet_1
theorem dksX12_isSet_0 : cX12_isSet.data.toList.drop 0 = dktX12_isSet_0 := by decide +kernel
theorem dksX12_isSet_1 : cX12_isSet.data.toList.drop 22 = dktX12_isSet_1 := dk_seg dksX12_isSet_0 22 rfl rfl
theorem dksX12_isSet_2 : cX12_isSet.data.toList.drop 45 = dktX12_isSet_2 := dk_seg dksX12_isSet_1 23 rfl rfl
theorem dX12_isSet_0 : decode cX12_isSet 0 = .ok (.iload_n 1, 1) := dk_27 (dk_at dksX12_isSet_0 0 rfl rfl)
theorem dX12_isSet_1 : decode cX12_isSet 1 = .ok (.iconst 1, 1) := dk_4 (dk_at dksX12_isSet_0 1 rfl rfl)
theorem dX12_isSet_2 : decode cX12_isSet 2 = .ok (.iconst 1, 1) := dk_4 (dk_at dksX12_isSet_0 2 rfl rfl)
theorem dX12_isSet_3 : decode cX12_isSet 3 = .ok (.aload_n 0, 1) := dk_42 (dk_at dksX12_isSet_0 3 rfl rfl)
theorem dX12_isSet_4 : decode cX12_isSet 4 = .ok (.getfield 67, 3) := dk_180 0 67 (dk_at dksX12_isSet_0 4 rfl rfl)
theorem dX12_isSet_7 : decode cX12_isSet 7 = .ok (.aload_n 0, 1) := dk_42 (dk_at dksX12_isSet_0 7 rfl rfl)
theorem dX12_isSet_8 : decode cX12_isSet 8 = .ok (.getfield 257, 3) := dk_180 1 1 (dk_at dksX12_isSet_0 8 rfl rfl)
theorem dX12_isSet_11 : decode cX12_isSet 11 = .ok (.iaload, 1) := dk_46 (dk_at dksX12_isSet_0 11 rfl rfl)
theorem dX12_isSet_12 : decode cX12_isSet 12 = .ok (.ishl, 1) := dk_120 (dk_at dksX12_isSet_0 12 rfl rfl)
theorem dX12_isSet_13 : decode cX12_isSet 13 = .ok (.iconst 1, 1) := dk_4 (dk_at dksX12_isSet_0 13 rfl rfl)
theorem dX12_isSet_14 : decode cX12_isSet 14 = .ok (.isub, 1) := dk_100 (dk_at dksX12_isSet_0 14 rfl rfl)
theorem dX12_isSet_15 : decode cX12_isSet 15 = .ok (.invokestatic 350, 3) := dk_184 1 94 (dk_at dksX12_isSet_0 15 rfl rfl)
theorem dX12_isSet_18 : decode cX12_isSet 18 = .ok (.ifCond .eq 38, 3) := dk_153 0 38 (dk_at dksX12_isSet_0 18 rfl rfl)
theorem dX12_isSet_21 : decode cX12_isSet 21 = .ok (.iload_n 1, 1) := dk_27 (dk_at dksX12_isSet_0 21 rfl rfl)
theorem dX12_isSet_22 : decode cX12_isSet 22 = .ok (.invokestatic 445, 3) := dk_184 1 189 (dk_at dksX12_isSet_1 0 rfl rfl)
theorem dX12_isSet_25 : decode cX12_isSet 25 = .ok (.iconst 5, 1) := dk_8 (dk_at dksX12_isSet_1 3 rfl rfl)
theorem dX12_isSet_26 : decode cX12_isSet 26 = .ok (.if_icmp .ge 30, 3) := dk_162 0 30 (dk_at dksX12_isSet_1 4 rfl rfl)
theorem dX12_isSet_29 : decode cX12_isSet 29 = .ok (.iload_n 2, 1) := dk_28 (dk_at dksX12_isSet_1 7 rfl rfl)
theorem dX12_isSet_30 : decode cX12_isSet 30 = .ok (.iconst 1, 1) := dk_4 (dk_at dksX12_isSet_1 8 rfl rfl)
theorem dX12_isSet_31 : decode cX12_isSet 31 = .ok (.sipush 300, 3) := dk_17 1 44 (dk_at dksX12_isSet_1 9 rfl rfl)
theorem dX12_isSet_34 : decode cX12_isSet 34 = .ok (.invokestatic 350, 3) := dk_184 1 94 (dk_at dksX12_isSet_1 12 rfl rfl)
theorem dX12_isSet_37 : decode cX12_isSet 37 = .ok (.ifCond .eq 19, 3) := dk_153 0 19 (dk_at dksX12_isSet_1 15 rfl rfl)
theorem dX12_isSet_40 : decode cX12_isSet 40 = .ok (.aload_n 0, 1) := dk_42 (dk_at dksX12_isSet_1 18 rfl rfl)
theorem dX12_isSet_41 : decode cX12_isSet 41 = .ok (.getfield 49, 3) := dk_180 0 49 (dk_at dksX12_isSet_1 19 rfl rfl)
theorem dX12_isSet_44 : decode cX12_isSet 44 = .ok (.aload_n 0, 1) := dk_42 (dk_at dksX12_isSet_1 22 rfl rfl)
theorem dX12_isSet_45 : decode cX12_isSet 45 = .ok (.getfield 257, 3) := dk_180 1 1 (dk_at dksX12_isSet_2 0 rfl rfl)
theorem dX12_isSet_48 : decode cX12_isSet 48 = .ok (.iaload, 1) := dk_46 (dk_at dksX12_isSet_2 3 rfl rfl)
theorem dX12_isSet_49 : decode cX12_isSet 49 = .ok (.ifCond .le 7, 3) := dk_158 0 7 (dk_at dksX12_isSet_2 4 rfl rfl)
theorem dX12_isSet_52 : decode cX12_isSet 52 = .ok (.iconst 1, 1) := dk_4 (dk_at dksX12_isSet_2 7 rfl rfl)
theorem dX12_isSet_53 : decode cX12_isSet 53 = .ok (.goto 4, 3) := dk_167 0 4 (dk_at dksX12_isSet_2 8 rfl rfl)
theorem dX12_isSet_56 : decode cX12_isSet 56 = .ok (.iconst 0, 1) := dk_3 (dk_at dksX12_isSet_2 11 rfl rfl)
theorem dX12_isSet_57 : decode cX12_isSet 57 = .ok (.ireturn, 1) := dk_172 (dk_at dksX12_isSet_2 12 rfl rfl)
abbrev cX12_teaches : ByteArray := prog_24_method_93_code
def yX12_teaches : MethodName := ⟨RX12, "teaches", "(II)V"⟩
def dkwX12_teaches_7 : List UInt8 := [181, 1, 198, 132, 4, 1, 167, 255, 133, 177]
abbrev dktX12_teaches_7 : List UInt8 := dkwX12_teaches_7 ++ []
def dkwX12_teaches_6 : List UInt8 := [182, 1, 176, 42, 180, 1, 198, 163, 0, 6, 167, 0, 17, 42, 21, 4, 181, 1, 195, 42, 42, 182, 1, 176]
abbrev dktX12_teaches_6 : List UInt8 := dkwX12_teaches_6 ++ dktX12_teaches_7
def dkwX12_teaches_5 : List UInt8 := [180, 0, 49, 42, 180, 1, 1, 46, 112, 79, 132, 6, 1, 167, 255, 188, 42, 28, 182, 1, 145, 42]
abbrev dktX12_teaches_5 : List UInt8 := dkwX12_teaches_5 ++ dktX12_teaches_6
def dkwX12_teaches_4 : List UInt8 := [180, 1, 1, 46, 108, 54, 5, 42, 180, 0, 146, 16, 90, 21, 6, 96, 21, 4, 21, 5, 108, 42]
abbrev dktX12_teaches_4 : List UInt8 := dkwX12_teaches_4 ++ dktX12_teaches_5
def dkwX12_teaches_3 : List UInt8 := [162, 0, 60, 27, 21, 6, 122, 4, 126, 154, 0, 6, 167, 0, 42, 21, 5, 42, 180, 0, 49, 42]
abbrev dktX12_teaches_3 : List UInt8 := dkwX12_teaches_3 ++ dktX12_teaches_4
def dkwX12_teaches_2 : List UInt8 := [162, 0, 123, 42, 182, 1, 139, 29, 54, 5, 3, 54, 6, 21, 6, 42, 180, 0, 67, 42, 180, 1, 1, 46]
abbrev dktX12_teaches_2 : List UInt8 := dkwX12_teaches_2 ++ dktX12_teaches_3
def dkwX12_teaches_1 : List UInt8 := [104, 62, 132, 4, 1, 167, 255, 232, 42, 2, 181, 1, 195, 42, 2, 181, 1, 198, 3, 54, 4, 21, 4, 29]
abbrev dktX12_teaches_1 : List UInt8 := dkwX12_teaches_1 ++ dktX12_teaches_2
def dkwX12_teaches_0 : List UInt8 := [4, 62, 3, 54, 4, 21, 4, 27, 184, 1, 189, 162, 0, 21, 29, 42, 180, 0, 49, 42, 180, 1, 1, 46]
abbrev dktX12_teaches_0 : List UInt8 := dkwX12_teaches_0 ++ dktX12_teaches_1
theorem dksX12_teaches_0 : cX12_teaches.data.toList.drop 0 = dktX12_teaches_0 := by decide +kernel
theorem dksX12_teaches_1 : cX12_teaches.data.toList.drop 24 = dktX12_teaches_1 := dk_seg dksX12_teaches_0 24 rfl rfl
theorem dksX12_teaches_2 : cX12_teaches.data.toList.drop 48 = dktX12_teaches_2 := dk_seg dksX12_teaches_1 24 rfl rfl
theorem dksX12_teaches_3 : cX12_teaches.data.toList.drop 72 = dktX12_teaches_3 := dk_seg dksX12_teaches_2 24 rfl rfl
theorem dksX12_teaches_4 : cX12_teaches.data.toList.drop 94 = dktX12_teaches_4 := dk_seg dksX12_teaches_3 22 rfl rfl
theorem dksX12_teaches_5 : cX12_teaches.data.toList.drop 116 = dktX12_teaches_5 := dk_seg dksX12_teaches_4 22 rfl rfl
theorem dksX12_teaches_6 : cX12_teaches.data.toList.drop 138 = dktX12_teaches_6 := dk_seg dksX12_teaches_5 22 rfl rfl
theorem dksX12_teaches_7 : cX12_teaches.data.toList.drop 162 = dktX12_teaches_7 := dk_seg dksX12_teaches_6 24 rfl rfl
theorem dX12_teaches_0 : decode cX12_teaches 0 = .ok (.iconst 1, 1) := dk_4 (dk_at dksX12_teaches_0 0 rfl rfl)
theorem dX12_teaches_1 : decode cX12_teaches 1 = .ok (.istore_n 3, 1) := dk_62 (dk_at dksX12_teaches_0 1 rfl rfl)
theorem dX12_teaches_2 : decode cX12_teaches 2 = .ok (.iconst 0, 1) := dk_3 (dk_at dksX12_teaches_0 2 rfl rfl)
theorem dX12_teaches_3 : decode cX12_teaches 3 = .ok (.istore 4, 2) := dk_54 4 (dk_at dksX12_teaches_0 3 rfl rfl)
theorem dX12_teaches_5 : decode cX12_teaches 5 = .ok (.iload 4, 2) := dk_21 4 (dk_at dksX12_teaches_0 5 rfl rfl)
theorem dX12_teaches_7 : decode cX12_teaches 7 = .ok (.iload_n 1, 1) := dk_27 (dk_at dksX12_teaches_0 7 rfl rfl)
theorem dX12_teaches_8 : decode cX12_teaches 8 = .ok (.invokestatic 445, 3) := dk_184 1 189 (dk_at dksX12_teaches_0 8 rfl rfl)
theorem dX12_teaches_11 : decode cX12_teaches 11 = .ok (.if_icmp .ge 21, 3) := dk_162 0 21 (dk_at dksX12_teaches_0 11 rfl rfl)
theorem dX12_teaches_14 : decode cX12_teaches 14 = .ok (.iload_n 3, 1) := dk_29 (dk_at dksX12_teaches_0 14 rfl rfl)
theorem dX12_teaches_15 : decode cX12_teaches 15 = .ok (.aload_n 0, 1) := dk_42 (dk_at dksX12_teaches_0 15 rfl rfl)
theorem dX12_teaches_16 : decode cX12_teaches 16 = .ok (.getfield 49, 3) := dk_180 0 49 (dk_at dksX12_teaches_0 16 rfl rfl)
theorem dX12_teaches_19 : decode cX12_teaches 19 = .ok (.aload_n 0, 1) := dk_42 (dk_at dksX12_teaches_0 19 rfl rfl)
theorem dX12_teaches_20 : decode cX12_teaches 20 = .ok (.getfield 257, 3) := dk_180 1 1 (dk_at dksX12_teaches_0 20 rfl rfl)
theorem dX12_teaches_23 : decode cX12_teaches 23 = .ok (.iaload, 1) := dk_46 (dk_at dksX12_teaches_0 23 rfl rfl)
theorem dX12_teaches_24 : decode cX12_teaches 24 = .ok (.imul, 1) := dk_104 (dk_at dksX12_teaches_1 0 rfl rfl)
theorem dX12_teaches_25 : decode cX12_teaches 25 = .ok (.istore_n 3, 1) := dk_62 (dk_at dksX12_teaches_1 1 rfl rfl)
theorem dX12_teaches_26 : decode cX12_teaches 26 = .ok (.iinc 4 1, 3) := dk_132 4 1 (dk_at dksX12_teaches_1 2 rfl rfl)
theorem dX12_teaches_29 : decode cX12_teaches 29 = .ok (.goto (-24), 3) := dk_167 255 232 (dk_at dksX12_teaches_1 5 rfl rfl)
theorem dX12_teaches_32 : decode cX12_teaches 32 = .ok (.aload_n 0, 1) := dk_42 (dk_at dksX12_teaches_1 8 rfl rfl)
theorem dX12_teaches_33 : decode cX12_teaches 33 = .ok (.iconst (-1), 1) := dk_2 (dk_at dksX12_teaches_1 9 rfl rfl)
theorem dX12_teaches_34 : decode cX12_teaches 34 = .ok (.putfield 451, 3) := dk_181 1 195 (dk_at dksX12_teaches_1 10 rfl rfl)
theorem dX12_teaches_37 : decode cX12_teaches 37 = .ok (.aload_n 0, 1) := dk_42 (dk_at dksX12_teaches_1 13 rfl rfl)
theorem dX12_teaches_38 : decode cX12_teaches 38 = .ok (.iconst (-1), 1) := dk_2 (dk_at dksX12_teaches_1 14 rfl rfl)
theorem dX12_teaches_39 : decode cX12_teaches 39 = .ok (.putfield 454, 3) := dk_181 1 198 (dk_at dksX12_teaches_1 15 rfl rfl)
theorem dX12_teaches_42 : decode cX12_teaches 42 = .ok (.iconst 0, 1) := dk_3 (dk_at dksX12_teaches_1 18 rfl rfl)
theorem dX12_teaches_43 : decode cX12_teaches 43 = .ok (.istore 4, 2) := dk_54 4 (dk_at dksX12_teaches_1 19 rfl rfl)
theorem dX12_teaches_45 : decode cX12_teaches 45 = .ok (.iload 4, 2) := dk_21 4 (dk_at dksX12_teaches_1 21 rfl rfl)
theorem dX12_teaches_47 : decode cX12_teaches 47 = .ok (.iload_n 3, 1) := dk_29 (dk_at dksX12_teaches_1 23 rfl rfl)
theorem dX12_teaches_48 : decode cX12_teaches 48 = .ok (.if_icmp .ge 123, 3) := dk_162 0 123 (dk_at dksX12_teaches_2 0 rfl rfl)
theorem dX12_teaches_51 : decode cX12_teaches 51 = .ok (.aload_n 0, 1) := dk_42 (dk_at dksX12_teaches_2 3 rfl rfl)
theorem dX12_teaches_52 : decode cX12_teaches 52 = .ok (.invokevirtual 395, 3) := dk_182 1 139 (dk_at dksX12_teaches_2 4 rfl rfl)
theorem dX12_teaches_55 : decode cX12_teaches 55 = .ok (.iload_n 3, 1) := dk_29 (dk_at dksX12_teaches_2 7 rfl rfl)
theorem dX12_teaches_56 : decode cX12_teaches 56 = .ok (.istore 5, 2) := dk_54 5 (dk_at dksX12_teaches_2 8 rfl rfl)
theorem dX12_teaches_58 : decode cX12_teaches 58 = .ok (.iconst 0, 1) := dk_3 (dk_at dksX12_teaches_2 10 rfl rfl)
theorem dX12_teaches_59 : decode cX12_teaches 59 = .ok (.istore 6, 2) := dk_54 6 (dk_at dksX12_teaches_2 11 rfl rfl)
theorem dX12_teaches_61 : decode cX12_teaches 61 = .ok (.iload 6, 2) := dk_21 6 (dk_at dksX12_teaches_2 13 rfl rfl)
theorem dX12_teaches_63 : decode cX12_teaches 63 = .ok (.aload_n 0, 1) := dk_42 (dk_at dksX12_teaches_2 15 rfl rfl)
theorem dX12_teaches_64 : decode cX12_teaches 64 = .ok (.getfield 67, 3) := dk_180 0 67 (dk_at dksX12_teaches_2 16 rfl rfl)
theorem dX12_teaches_67 : decode cX12_teaches 67 = .ok (.aload_n 0, 1) := dk_42 (dk_at dksX12_teaches_2 19 rfl rfl)
theorem dX12_teaches_68 : decode cX12_teaches 68 = .ok (.getfield 257, 3) := dk_180 1 1 (dk_at dksX12_teaches_2 20 rfl rfl)
theorem dX12_teaches_71 : decode cX12_teaches 71 = .ok (.iaload, 1) := dk_46 (dk_at dksX12_teaches_2 23 rfl rfl)
theorem dX12_teaches_72 : decode cX12_teaches 72 = .ok (.if_icmp .ge 60, 3) := dk_162 0 60 (dk_at dksX12_teaches_3 0 rfl rfl)
theorem dX12_teaches_75 : decode cX12_teaches 75 = .ok (.iload_n 1, 1) := dk_27 (dk_at dksX12_teaches_3 3 rfl rfl)
theorem dX12_teaches_76 : decode cX12_teaches 76 = .ok (.iload 6, 2) := dk_21 6 (dk_at dksX12_teaches_3 4 rfl rfl)
theorem dX12_teaches_78 : decode cX12_teaches 78 = .ok (.ishr, 1) := dk_122 (dk_at dksX12_teaches_3 6 rfl rfl)
theorem dX12_teaches_79 : decode cX12_teaches 79 = .ok (.iconst 1, 1) := dk_4 (dk_at dksX12_teaches_3 7 rfl rfl)
theorem dX12_teaches_80 : decode cX12_teaches 80 = .ok (.iand, 1) := dk_126 (dk_at dksX12_teaches_3 8 rfl rfl)
theorem dX12_teaches_81 : decode cX12_teaches 81 = .ok (.ifCond .ne 6, 3) := dk_154 0 6 (dk_at dksX12_teaches_3 9 rfl rfl)
theorem dX12_teaches_84 : decode cX12_teaches 84 = .ok (.goto 42, 3) := dk_167 0 42 (dk_at dksX12_teaches_3 12 rfl rfl)
theorem dX12_teaches_87 : decode cX12_teaches 87 = .ok (.iload 5, 2) := dk_21 5 (dk_at dksX12_teaches_3 15 rfl rfl)
theorem dX12_teaches_89 : decode cX12_teaches 89 = .ok (.aload_n 0, 1) := dk_42 (dk_at dksX12_teaches_3 17 rfl rfl)
theorem dX12_teaches_90 : decode cX12_teaches 90 = .ok (.getfield 49, 3) := dk_180 0 49 (dk_at dksX12_teaches_3 18 rfl rfl)
theorem dX12_teaches_93 : decode cX12_teaches 93 = .ok (.aload_n 0, 1) := dk_42 (dk_at dksX12_teaches_3 21 rfl rfl)
theorem dX12_teaches_94 : decode cX12_teaches 94 = .ok (.getfield 257, 3) := dk_180 1 1 (dk_at dksX12_teaches_4 0 rfl rfl)
theorem dX12_teaches_97 : decode cX12_teaches 97 = .ok (.iaload, 1) := dk_46 (dk_at dksX12_teaches_4 3 rfl rfl)
theorem dX12_teaches_98 : decode cX12_teaches 98 = .ok (.idiv, 1) := dk_108 (dk_at dksX12_teaches_4 4 rfl rfl)
theorem dX12_teaches_99 : decode cX12_teaches 99 = .ok (.istore 5, 2) := dk_54 5 (dk_at dksX12_teaches_4 5 rfl rfl)
theorem dX12_teaches_101 : decode cX12_teaches 101 = .ok (.aload_n 0, 1) := dk_42 (dk_at dksX12_teaches_4 7 rfl rfl)
theorem dX12_teaches_102 : decode cX12_teaches 102 = .ok (.getfield 146, 3) := dk_180 0 146 (dk_at dksX12_teaches_4 8 rfl rfl)
theorem dX12_teaches_105 : decode cX12_teaches 105 = .ok (.bipush 90, 2) := dk_16 90 (dk_at dksX12_teaches_4 11 rfl rfl)
theorem dX12_teaches_107 : decode cX12_teaches 107 = .ok (.iload 6, 2) := dk_21 6 (dk_at dksX12_teaches_4 13 rfl rfl)
theorem dX12_teaches_109 : decode cX12_teaches 109 = .ok (.iadd, 1) := dk_96 (dk_at dksX12_teaches_4 15 rfl rfl)
theorem dX12_teaches_110 : decode cX12_teaches 110 = .ok (.iload 4, 2) := dk_21 4 (dk_at dksX12_teaches_4 16 rfl rfl)
theorem dX12_teaches_112 : decode cX12_teaches 112 = .ok (.iload 5, 2) := dk_21 5 (dk_at dksX12_teaches_4 18 rfl rfl)
theorem dX12_teaches_114 : decode cX12_teaches 114 = .ok (.idiv, 1) := dk_108 (dk_at dksX12_teaches_4 20 rfl rfl)
theorem dX12_teaches_115 : decode cX12_teaches 115 = .ok (.aload_n 0, 1) := dk_42 (dk_at dksX12_teaches_4 21 rfl rfl)
theorem dX12_teaches_116 : decode cX12_teaches 116 = .ok (.getfield 49, 3) := dk_180 0 49 (dk_at dksX12_teaches_5 0 rfl rfl)
theorem dX12_teaches_119 : decode cX12_teaches 119 = .ok (.aload_n 0, 1) := dk_42 (dk_at dksX12_teaches_5 3 rfl rfl)
theorem dX12_teaches_120 : decode cX12_teaches 120 = .ok (.getfield 257, 3) := dk_180 1 1 (dk_at dksX12_teaches_5 4 rfl rfl)
theorem dX12_teaches_123 : decode cX12_teaches 123 = .ok (.iaload, 1) := dk_46 (dk_at dksX12_teaches_5 7 rfl rfl)
theorem dX12_teaches_124 : decode cX12_teaches 124 = .ok (.irem, 1) := dk_112 (dk_at dksX12_teaches_5 8 rfl rfl)
theorem dX12_teaches_125 : decode cX12_teaches 125 = .ok (.iastore, 1) := dk_79 (dk_at dksX12_teaches_5 9 rfl rfl)
theorem dX12_teaches_126 : decode cX12_teaches 126 = .ok (.iinc 6 1, 3) := dk_132 6 1 (dk_at dksX12_teaches_5 10 rfl rfl)
theorem dX12_teaches_129 : decode cX12_teaches 129 = .ok (.goto (-68), 3) := dk_167 255 188 (dk_at dksX12_teaches_5 13 rfl rfl)
theorem dX12_teaches_132 : decode cX12_teaches 132 = .ok (.aload_n 0, 1) := dk_42 (dk_at dksX12_teaches_5 16 rfl rfl)
theorem dX12_teaches_133 : decode cX12_teaches 133 = .ok (.iload_n 2, 1) := dk_28 (dk_at dksX12_teaches_5 17 rfl rfl)
theorem dX12_teaches_134 : decode cX12_teaches 134 = .ok (.invokevirtual 401, 3) := dk_182 1 145 (dk_at dksX12_teaches_5 18 rfl rfl)
theorem dX12_teaches_137 : decode cX12_teaches 137 = .ok (.aload_n 0, 1) := dk_42 (dk_at dksX12_teaches_5 21 rfl rfl)
theorem dX12_teaches_138 : decode cX12_teaches 138 = .ok (.invokevirtual 432, 3) := dk_182 1 176 (dk_at dksX12_teaches_6 0 rfl rfl)
theorem dX12_teaches_141 : decode cX12_teaches 141 = .ok (.aload_n 0, 1) := dk_42 (dk_at dksX12_teaches_6 3 rfl rfl)
theorem dX12_teaches_142 : decode cX12_teaches 142 = .ok (.getfield 454, 3) := dk_180 1 198 (dk_at dksX12_teaches_6 4 rfl rfl)
theorem dX12_teaches_145 : decode cX12_teaches 145 = .ok (.if_icmp .gt 6, 3) := dk_163 0 6 (dk_at dksX12_teaches_6 7 rfl rfl)
theorem dX12_teaches_148 : decode cX12_teaches 148 = .ok (.goto 17, 3) := dk_167 0 17 (dk_at dksX12_teaches_6 10 rfl rfl)
theorem dX12_teaches_151 : decode cX12_teaches 151 = .ok (.aload_n 0, 1) := dk_42 (dk_at dksX12_teaches_6 13 rfl rfl)
theorem dX12_teaches_152 : decode cX12_teaches 152 = .ok (.iload 4, 2) := dk_21 4 (dk_at dksX12_teaches_6 14 rfl rfl)
theorem dX12_teaches_154 : decode cX12_teaches 154 = .ok (.putfield 451, 3) := dk_181 1 195 (dk_at dksX12_teaches_6 16 rfl rfl)
theorem dX12_teaches_157 : decode cX12_teaches 157 = .ok (.aload_n 0, 1) := dk_42 (dk_at dksX12_teaches_6 19 rfl rfl)
theorem dX12_teaches_158 : decode cX12_teaches 158 = .ok (.aload_n 0, 1) := dk_42 (dk_at dksX12_teaches_6 20 rfl rfl)
theorem dX12_teaches_159 : decode cX12_teaches 159 = .ok (.invokevirtual 432, 3) := dk_182 1 176 (dk_at dksX12_teaches_6 21 rfl rfl)
theorem dX12_teaches_162 : decode cX12_teaches 162 = .ok (.putfield 454, 3) := dk_181 1 198 (dk_at dksX12_teaches_7 0 rfl rfl)
theorem dX12_teaches_165 : decode cX12_teaches 165 = .ok (.iinc 4 1, 3) := dk_132 4 1 (dk_at dksX12_teaches_7 3 rfl rfl)
theorem dX12_teaches_168 : decode cX12_teaches 168 = .ok (.goto (-123), 3) := dk_167 255 133 (dk_at dksX12_teaches_7 6 rfl rfl)
theorem dX12_teaches_171 : decode cX12_teaches 171 = .ok (.return_, 1) := dk_177 (dk_at dksX12_teaches_7 9 rfl rfl)
abbrev cX12_taughtAt : ByteArray := prog_24_method_96_code
def yX12_taughtAt : MethodName := ⟨RX12, "taughtAt", "(III)I"⟩
def dkwX12_taughtAt_3 : List UInt8 := [21, 4, 42, 180, 0, 49, 42, 180, 1, 1, 46, 112, 172]
abbrev dktX12_taughtAt_3 : List UInt8 := dkwX12_taughtAt_3 ++ []
def dkwX12_taughtAt_2 : List UInt8 := [164, 0, 23, 21, 4, 42, 180, 0, 49, 42, 180, 1, 1, 46, 108, 54, 4, 132, 5, 255, 167, 255, 233]
abbrev dktX12_taughtAt_2 : List UInt8 := dkwX12_taughtAt_2 ++ dktX12_taughtAt_3
def dkwX12_taughtAt_1 : List UInt8 := [172, 42, 27, 28, 182, 1, 205, 42, 180, 1, 195, 54, 4, 27, 184, 1, 189, 4, 100, 54, 5, 21, 5, 29]
abbrev dktX12_taughtAt_1 : List UInt8 := dkwX12_taughtAt_1 ++ dktX12_taughtAt_2
def dkwX12_taughtAt_0 : List UInt8 := [42, 27, 28, 182, 1, 201, 153, 0, 17, 29, 3, 27, 184, 1, 189, 4, 100, 184, 1, 94, 154, 0, 5, 2]
abbrev dktX12_taughtAt_0 : List UInt8 := dkwX12_taughtAt_0 ++ dktX12_taughtAt_1
theorem dksX12_taughtAt_0 : cX12_taughtAt.data.toList.drop 0 = dktX12_taughtAt_0 := by decide +kernel
theorem dksX12_taughtAt_1 : cX12_taughtAt.data.toList.drop 24 = dktX12_taughtAt_1 := dk_seg dksX12_taughtAt_0 24 rfl rfl
theorem dksX12_taughtAt_2 : cX12_taughtAt.data.toList.drop 48 = dktX12_taughtAt_2 := dk_seg dksX12_taughtAt_1 24 rfl rfl
theorem dksX12_taughtAt_3 : cX12_taughtAt.data.toList.drop 71 = dktX12_taughtAt_3 := dk_seg dksX12_taughtAt_2 23 rfl rfl
theorem dX12_taughtAt_0 : decode cX12_taughtAt 0 = .ok (.aload_n 0, 1) := dk_42 (dk_at dksX12_taughtAt_0 0 rfl rfl)
theorem dX12_taughtAt_1 : decode cX12_taughtAt 1 = .ok (.iload_n 1, 1) := dk_27 (dk_at dksX12_taughtAt_0 1 rfl rfl)
theorem dX12_taughtAt_2 : decode cX12_taughtAt 2 = .ok (.iload_n 2, 1) := dk_28 (dk_at dksX12_taughtAt_0 2 rfl rfl)
theorem dX12_taughtAt_3 : decode cX12_taughtAt 3 = .ok (.invokevirtual 457, 3) := dk_182 1 201 (dk_at dksX12_taughtAt_0 3 rfl rfl)
theorem dX12_taughtAt_6 : decode cX12_taughtAt 6 = .ok (.ifCond .eq 17, 3) := dk_153 0 17 (dk_at dksX12_taughtAt_0 6 rfl rfl)
theorem dX12_taughtAt_9 : decode cX12_taughtAt 9 = .ok (.iload_n 3, 1) := dk_29 (dk_at dksX12_taughtAt_0 9 rfl rfl)
theorem dX12_taughtAt_10 : decode cX12_taughtAt 10 = .ok (.iconst 0, 1) := dk_3 (dk_at dksX12_taughtAt_0 10 rfl rfl)
theorem dX12_taughtAt_11 : decode cX12_taughtAt 11 = .ok (.iload_n 1, 1) := dk_27 (dk_at dksX12_taughtAt_0 11 rfl rfl)
theorem dX12_taughtAt_12 : decode cX12_taughtAt 12 = .ok (.invokestatic 445, 3) := dk_184 1 189 (dk_at dksX12_taughtAt_0 12 rfl rfl)
theorem dX12_taughtAt_15 : decode cX12_taughtAt 15 = .ok (.iconst 1, 1) := dk_4 (dk_at dksX12_taughtAt_0 15 rfl rfl)
theorem dX12_taughtAt_16 : decode cX12_taughtAt 16 = .ok (.isub, 1) := dk_100 (dk_at dksX12_taughtAt_0 16 rfl rfl)
theorem dX12_taughtAt_17 : decode cX12_taughtAt 17 = .ok (.invokestatic 350, 3) := dk_184 1 94 (dk_at dksX12_taughtAt_0 17 rfl rfl)
theorem dX12_taughtAt_20 : decode cX12_taughtAt 20 = .ok (.ifCond .ne 5, 3) := dk_154 0 5 (dk_at dksX12_taughtAt_0 20 rfl rfl)
theorem dX12_taughtAt_23 : decode cX12_taughtAt 23 = .ok (.iconst (-1), 1) := dk_2 (dk_at dksX12_taughtAt_0 23 rfl rfl)
theorem dX12_taughtAt_24 : decode cX12_taughtAt 24 = .ok (.ireturn, 1) := dk_172 (dk_at dksX12_taughtAt_1 0 rfl rfl)
theorem dX12_taughtAt_25 : decode cX12_taughtAt 25 = .ok (.aload_n 0, 1) := dk_42 (dk_at dksX12_taughtAt_1 1 rfl rfl)
theorem dX12_taughtAt_26 : decode cX12_taughtAt 26 = .ok (.iload_n 1, 1) := dk_27 (dk_at dksX12_taughtAt_1 2 rfl rfl)
theorem dX12_taughtAt_27 : decode cX12_taughtAt 27 = .ok (.iload_n 2, 1) := dk_28 (dk_at dksX12_taughtAt_1 3 rfl rfl)
theorem dX12_taughtAt_28 : decode cX12_taughtAt 28 = .ok (.invokevirtual 461, 3) := dk_182 1 205 (dk_at dksX12_taughtAt_1 4 rfl rfl)
theorem dX12_taughtAt_31 : decode cX12_taughtAt 31 = .ok (.aload_n 0, 1) := dk_42 (dk_at dksX12_taughtAt_1 7 rfl rfl)
theorem dX12_taughtAt_32 : decode cX12_taughtAt 32 = .ok (.getfield 451, 3) := dk_180 1 195 (dk_at dksX12_taughtAt_1 8 rfl rfl)
theorem dX12_taughtAt_35 : decode cX12_taughtAt 35 = .ok (.istore 4, 2) := dk_54 4 (dk_at dksX12_taughtAt_1 11 rfl rfl)
theorem dX12_taughtAt_37 : decode cX12_taughtAt 37 = .ok (.iload_n 1, 1) := dk_27 (dk_at dksX12_taughtAt_1 13 rfl rfl)
theorem dX12_taughtAt_38 : decode cX12_taughtAt 38 = .ok (.invokestatic 445, 3) := dk_184 1 189 (dk_at dksX12_taughtAt_1 14 rfl rfl)
theorem dX12_taughtAt_41 : decode cX12_taughtAt 41 = .ok (.iconst 1, 1) := dk_4 (dk_at dksX12_taughtAt_1 17 rfl rfl)
theorem dX12_taughtAt_42 : decode cX12_taughtAt 42 = .ok (.isub, 1) := dk_100 (dk_at dksX12_taughtAt_1 18 rfl rfl)
theorem dX12_taughtAt_43 : decode cX12_taughtAt 43 = .ok (.istore 5, 2) := dk_54 5 (dk_at dksX12_taughtAt_1 19 rfl rfl)
theorem dX12_taughtAt_45 : decode cX12_taughtAt 45 = .ok (.iload 5, 2) := dk_21 5 (dk_at dksX12_taughtAt_1 21 rfl rfl)
theorem dX12_taughtAt_47 : decode cX12_taughtAt 47 = .ok (.iload_n 3, 1) := dk_29 (dk_at dksX12_taughtAt_1 23 rfl rfl)
theorem dX12_taughtAt_48 : decode cX12_taughtAt 48 = .ok (.if_icmp .le 23, 3) := dk_164 0 23 (dk_at dksX12_taughtAt_2 0 rfl rfl)
theorem dX12_taughtAt_51 : decode cX12_taughtAt 51 = .ok (.iload 4, 2) := dk_21 4 (dk_at dksX12_taughtAt_2 3 rfl rfl)
theorem dX12_taughtAt_53 : decode cX12_taughtAt 53 = .ok (.aload_n 0, 1) := dk_42 (dk_at dksX12_taughtAt_2 5 rfl rfl)
theorem dX12_taughtAt_54 : decode cX12_taughtAt 54 = .ok (.getfield 49, 3) := dk_180 0 49 (dk_at dksX12_taughtAt_2 6 rfl rfl)
theorem dX12_taughtAt_57 : decode cX12_taughtAt 57 = .ok (.aload_n 0, 1) := dk_42 (dk_at dksX12_taughtAt_2 9 rfl rfl)
theorem dX12_taughtAt_58 : decode cX12_taughtAt 58 = .ok (.getfield 257, 3) := dk_180 1 1 (dk_at dksX12_taughtAt_2 10 rfl rfl)
theorem dX12_taughtAt_61 : decode cX12_taughtAt 61 = .ok (.iaload, 1) := dk_46 (dk_at dksX12_taughtAt_2 13 rfl rfl)
theorem dX12_taughtAt_62 : decode cX12_taughtAt 62 = .ok (.idiv, 1) := dk_108 (dk_at dksX12_taughtAt_2 14 rfl rfl)
theorem dX12_taughtAt_63 : decode cX12_taughtAt 63 = .ok (.istore 4, 2) := dk_54 4 (dk_at dksX12_taughtAt_2 15 rfl rfl)
theorem dX12_taughtAt_65 : decode cX12_taughtAt 65 = .ok (.iinc 5 (-1), 3) := dk_132 5 255 (dk_at dksX12_taughtAt_2 17 rfl rfl)
theorem dX12_taughtAt_68 : decode cX12_taughtAt 68 = .ok (.goto (-23), 3) := dk_167 255 233 (dk_at dksX12_taughtAt_2 20 rfl rfl)
theorem dX12_taughtAt_71 : decode cX12_taughtAt 71 = .ok (.iload 4, 2) := dk_21 4 (dk_at dksX12_taughtAt_3 0 rfl rfl)
theorem dX12_taughtAt_73 : decode cX12_taughtAt 73 = .ok (.aload_n 0, 1) := dk_42 (dk_at dksX12_taughtAt_3 2 rfl rfl)
theorem dX12_taughtAt_74 : decode cX12_taughtAt 74 = .ok (.getfield 49, 3) := dk_180 0 49 (dk_at dksX12_taughtAt_3 3 rfl rfl)
theorem dX12_taughtAt_77 : decode cX12_taughtAt 77 = .ok (.aload_n 0, 1) := dk_42 (dk_at dksX12_taughtAt_3 6 rfl rfl)
theorem dX12_taughtAt_78 : decode cX12_taughtAt 78 = .ok (.getfield 257, 3) := dk_180 1 1 (dk_at dksX12_taughtAt_3 7 rfl rfl)
theorem dX12_taughtAt_81 : decode cX12_taughtAt 81 = .ok (.iaload, 1) := dk_46 (dk_at dksX12_taughtAt_3 10 rfl rfl)
theorem dX12_taughtAt_82 : decode cX12_taughtAt 82 = .ok (.irem, 1) := dk_112 (dk_at dksX12_taughtAt_3 11 rfl rfl)
theorem dX12_taughtAt_83 : decode cX12_taughtAt 83 = .ok (.ireturn, 1) := dk_172 (dk_at dksX12_taughtAt_3 12 rfl rfl)
abbrev cX12_bestSwap : ByteArray := prog_24_method_97_code
def yX12_bestSwap : MethodName := ⟨RX12, "bestSwap", "(I)I"⟩
def dkwX12_bestSwap_6 : List UInt8 := [167, 255, 141, 27, 154, 0, 7, 28, 167, 0, 4, 29, 172]
abbrev dktX12_bestSwap_6 : List UInt8 := dkwX12_bestSwap_6 ++ []
def dkwX12_bestSwap_5 : List UInt8 := [167, 0, 15, 16, 10, 21, 4, 104, 21, 5, 96, 61, 21, 7, 62, 132, 5, 1, 167, 255, 167, 132, 4, 1]
abbrev dktX12_bestSwap_5 : List UInt8 := dkwX12_bestSwap_5 ++ dktX12_bestSwap_6
def dkwX12_bestSwap_4 : List UInt8 := [79, 42, 182, 1, 170, 54, 7, 21, 7, 155, 0, 28, 29, 155, 0, 12, 21, 7, 29, 161, 0, 6]
abbrev dktX12_bestSwap_4 : List UInt8 := dkwX12_bestSwap_4 ++ dktX12_bestSwap_5
def dkwX12_bestSwap_3 : List UInt8 := [54, 6, 42, 180, 0, 149, 21, 4, 42, 180, 0, 149, 21, 5, 46, 79, 42, 180, 0, 149, 21, 5, 21, 6]
abbrev dktX12_bestSwap_3 : List UInt8 := dkwX12_bestSwap_3 ++ dktX12_bestSwap_4
def dkwX12_bestSwap_2 : List UInt8 := [42, 180, 0, 58, 42, 180, 1, 1, 46, 162, 0, 81, 42, 182, 1, 139, 42, 180, 0, 149, 21, 4, 46]
abbrev dktX12_bestSwap_2 : List UInt8 := dkwX12_bestSwap_2 ++ dktX12_bestSwap_3
def dkwX12_bestSwap_1 : List UInt8 := [54, 4, 21, 4, 42, 180, 0, 58, 42, 180, 1, 1, 46, 162, 0, 107, 21, 4, 4, 96, 54, 5, 21, 5]
abbrev dktX12_bestSwap_1 : List UInt8 := dkwX12_bestSwap_1 ++ dktX12_bestSwap_2
def dkwX12_bestSwap_0 : List UInt8 := [27, 3, 4, 184, 1, 94, 154, 0, 5, 2, 172, 42, 182, 1, 139, 16, 254, 61, 42, 182, 1, 170, 62, 3]
abbrev dktX12_bestSwap_0 : List UInt8 := dkwX12_bestSwap_0 ++ dktX12_bestSwap_1
theorem dksX12_bestSwap_0 : cX12_bestSwap.data.toList.drop 0 = dktX12_bestSwap_0 := by decide +kernel
theorem dksX12_bestSwap_1 : cX12_bestSwap.data.toList.drop 24 = dktX12_bestSwap_1 := dk_seg dksX12_bestSwap_0 24 rfl rfl
theorem dksX12_bestSwap_2 : cX12_bestSwap.data.toList.drop 48 = dktX12_bestSwap_2 := dk_seg dksX12_bestSwap_1 24 rfl rfl
theorem dksX12_bestSwap_3 : cX12_bestSwap.data.toList.drop 71 = dktX12_bestSwap_3 := dk_seg dksX12_bestSwap_2 23 rfl rfl
theorem dksX12_bestSwap_4 : cX12_bestSwap.data.toList.drop 95 = dktX12_bestSwap_4 := dk_seg dksX12_bestSwap_3 24 rfl rfl
theorem dksX12_bestSwap_5 : cX12_bestSwap.data.toList.drop 117 = dktX12_bestSwap_5 := dk_seg dksX12_bestSwap_4 22 rfl rfl
theorem dksX12_bestSwap_6 : cX12_bestSwap.data.toList.drop 141 = dktX12_bestSwap_6 := dk_seg dksX12_bestSwap_5 24 rfl rfl
theorem dX12_bestSwap_0 : decode cX12_bestSwap 0 = .ok (.iload_n 1, 1) := dk_27 (dk_at dksX12_bestSwap_0 0 rfl rfl)
theorem dX12_bestSwap_1 : decode cX12_bestSwap 1 = .ok (.iconst 0, 1) := dk_3 (dk_at dksX12_bestSwap_0 1 rfl rfl)
theorem dX12_bestSwap_2 : decode cX12_bestSwap 2 = .ok (.iconst 1, 1) := dk_4 (dk_at dksX12_bestSwap_0 2 rfl rfl)
theorem dX12_bestSwap_3 : decode cX12_bestSwap 3 = .ok (.invokestatic 350, 3) := dk_184 1 94 (dk_at dksX12_bestSwap_0 3 rfl rfl)
theorem dX12_bestSwap_6 : decode cX12_bestSwap 6 = .ok (.ifCond .ne 5, 3) := dk_154 0 5 (dk_at dksX12_bestSwap_0 6 rfl rfl)
theorem dX12_bestSwap_9 : decode cX12_bestSwap 9 = .ok (.iconst (-1), 1) := dk_2 (dk_at dksX12_bestSwap_0 9 rfl rfl)
theorem dX12_bestSwap_10 : decode cX12_bestSwap 10 = .ok (.ireturn, 1) := dk_172 (dk_at dksX12_bestSwap_0 10 rfl rfl)
theorem dX12_bestSwap_11 : decode cX12_bestSwap 11 = .ok (.aload_n 0, 1) := dk_42 (dk_at dksX12_bestSwap_0 11 rfl rfl)
theorem dX12_bestSwap_12 : decode cX12_bestSwap 12 = .ok (.invokevirtual 395, 3) := dk_182 1 139 (dk_at dksX12_bestSwap_0 12 rfl rfl)
theorem dX12_bestSwap_15 : decode cX12_bestSwap 15 = .ok (.bipush (-2), 2) := dk_16 254 (dk_at dksX12_bestSwap_0 15 rfl rfl)
theorem dX12_bestSwap_17 : decode cX12_bestSwap 17 = .ok (.istore_n 2, 1) := dk_61 (dk_at dksX12_bestSwap_0 17 rfl rfl)
theorem dX12_bestSwap_18 : decode cX12_bestSwap 18 = .ok (.aload_n 0, 1) := dk_42 (dk_at dksX12_bestSwap_0 18 rfl rfl)
theorem dX12_bestSwap_19 : decode cX12_bestSwap 19 = .ok (.invokevirtual 426, 3) := dk_182 1 170 (dk_at dksX12_bestSwap_0 19 rfl rfl)
theorem dX12_bestSwap_22 : decode cX12_bestSwap 22 = .ok (.istore_n 3, 1) := dk_62 (dk_at dksX12_bestSwap_0 22 rfl rfl)
theorem dX12_bestSwap_23 : decode cX12_bestSwap 23 = .ok (.iconst 0, 1) := dk_3 (dk_at dksX12_bestSwap_0 23 rfl rfl)
theorem dX12_bestSwap_24 : decode cX12_bestSwap 24 = .ok (.istore 4, 2) := dk_54 4 (dk_at dksX12_bestSwap_1 0 rfl rfl)
theorem dX12_bestSwap_26 : decode cX12_bestSwap 26 = .ok (.iload 4, 2) := dk_21 4 (dk_at dksX12_bestSwap_1 2 rfl rfl)
theorem dX12_bestSwap_28 : decode cX12_bestSwap 28 = .ok (.aload_n 0, 1) := dk_42 (dk_at dksX12_bestSwap_1 4 rfl rfl)
theorem dX12_bestSwap_29 : decode cX12_bestSwap 29 = .ok (.getfield 58, 3) := dk_180 0 58 (dk_at dksX12_bestSwap_1 5 rfl rfl)
theorem dX12_bestSwap_32 : decode cX12_bestSwap 32 = .ok (.aload_n 0, 1) := dk_42 (dk_at dksX12_bestSwap_1 8 rfl rfl)
theorem dX12_bestSwap_33 : decode cX12_bestSwap 33 = .ok (.getfield 257, 3) := dk_180 1 1 (dk_at dksX12_bestSwap_1 9 rfl rfl)
theorem dX12_bestSwap_36 : decode cX12_bestSwap 36 = .ok (.iaload, 1) := dk_46 (dk_at dksX12_bestSwap_1 12 rfl rfl)
theorem dX12_bestSwap_37 : decode cX12_bestSwap 37 = .ok (.if_icmp .ge 107, 3) := dk_162 0 107 (dk_at dksX12_bestSwap_1 13 rfl rfl)
theorem dX12_bestSwap_40 : decode cX12_bestSwap 40 = .ok (.iload 4, 2) := dk_21 4 (dk_at dksX12_bestSwap_1 16 rfl rfl)
theorem dX12_bestSwap_42 : decode cX12_bestSwap 42 = .ok (.iconst 1, 1) := dk_4 (dk_at dksX12_bestSwap_1 18 rfl rfl)
theorem dX12_bestSwap_43 : decode cX12_bestSwap 43 = .ok (.iadd, 1) := dk_96 (dk_at dksX12_bestSwap_1 19 rfl rfl)
theorem dX12_bestSwap_44 : decode cX12_bestSwap 44 = .ok (.istore 5, 2) := dk_54 5 (dk_at dksX12_bestSwap_1 20 rfl rfl)
theorem dX12_bestSwap_46 : decode cX12_bestSwap 46 = .ok (.iload 5, 2) := dk_21 5 (dk_at dksX12_bestSwap_1 22 rfl rfl)
theorem dX12_bestSwap_48 : decode cX12_bestSwap 48 = .ok (.aload_n 0, 1) := dk_42 (dk_at dksX12_bestSwap_2 0 rfl rfl)
theorem dX12_bestSwap_49 : decode cX12_bestSwap 49 = .ok (.getfield 58, 3) := dk_180 0 58 (dk_at dksX12_bestSwap_2 1 rfl rfl)
theorem dX12_bestSwap_52 : decode cX12_bestSwap 52 = .ok (.aload_n 0, 1) := dk_42 (dk_at dksX12_bestSwap_2 4 rfl rfl)
theorem dX12_bestSwap_53 : decode cX12_bestSwap 53 = .ok (.getfield 257, 3) := dk_180 1 1 (dk_at dksX12_bestSwap_2 5 rfl rfl)
theorem dX12_bestSwap_56 : decode cX12_bestSwap 56 = .ok (.iaload, 1) := dk_46 (dk_at dksX12_bestSwap_2 8 rfl rfl)
theorem dX12_bestSwap_57 : decode cX12_bestSwap 57 = .ok (.if_icmp .ge 81, 3) := dk_162 0 81 (dk_at dksX12_bestSwap_2 9 rfl rfl)
theorem dX12_bestSwap_60 : decode cX12_bestSwap 60 = .ok (.aload_n 0, 1) := dk_42 (dk_at dksX12_bestSwap_2 12 rfl rfl)
theorem dX12_bestSwap_61 : decode cX12_bestSwap 61 = .ok (.invokevirtual 395, 3) := dk_182 1 139 (dk_at dksX12_bestSwap_2 13 rfl rfl)
theorem dX12_bestSwap_64 : decode cX12_bestSwap 64 = .ok (.aload_n 0, 1) := dk_42 (dk_at dksX12_bestSwap_2 16 rfl rfl)
theorem dX12_bestSwap_65 : decode cX12_bestSwap 65 = .ok (.getfield 149, 3) := dk_180 0 149 (dk_at dksX12_bestSwap_2 17 rfl rfl)
theorem dX12_bestSwap_68 : decode cX12_bestSwap 68 = .ok (.iload 4, 2) := dk_21 4 (dk_at dksX12_bestSwap_2 20 rfl rfl)
theorem dX12_bestSwap_70 : decode cX12_bestSwap 70 = .ok (.iaload, 1) := dk_46 (dk_at dksX12_bestSwap_2 22 rfl rfl)
theorem dX12_bestSwap_71 : decode cX12_bestSwap 71 = .ok (.istore 6, 2) := dk_54 6 (dk_at dksX12_bestSwap_3 0 rfl rfl)
theorem dX12_bestSwap_73 : decode cX12_bestSwap 73 = .ok (.aload_n 0, 1) := dk_42 (dk_at dksX12_bestSwap_3 2 rfl rfl)
theorem dX12_bestSwap_74 : decode cX12_bestSwap 74 = .ok (.getfield 149, 3) := dk_180 0 149 (dk_at dksX12_bestSwap_3 3 rfl rfl)
theorem dX12_bestSwap_77 : decode cX12_bestSwap 77 = .ok (.iload 4, 2) := dk_21 4 (dk_at dksX12_bestSwap_3 6 rfl rfl)
theorem dX12_bestSwap_79 : decode cX12_bestSwap 79 = .ok (.aload_n 0, 1) := dk_42 (dk_at dksX12_bestSwap_3 8 rfl rfl)
theorem dX12_bestSwap_80 : decode cX12_bestSwap 80 = .ok (.getfield 149, 3) := dk_180 0 149 (dk_at dksX12_bestSwap_3 9 rfl rfl)
theorem dX12_bestSwap_83 : decode cX12_bestSwap 83 = .ok (.iload 5, 2) := dk_21 5 (dk_at dksX12_bestSwap_3 12 rfl rfl)
theorem dX12_bestSwap_85 : decode cX12_bestSwap 85 = .ok (.iaload, 1) := dk_46 (dk_at dksX12_bestSwap_3 14 rfl rfl)
theorem dX12_bestSwap_86 : decode cX12_bestSwap 86 = .ok (.iastore, 1) := dk_79 (dk_at dksX12_bestSwap_3 15 rfl rfl)
theorem dX12_bestSwap_87 : decode cX12_bestSwap 87 = .ok (.aload_n 0, 1) := dk_42 (dk_at dksX12_bestSwap_3 16 rfl rfl)
theorem dX12_bestSwap_88 : decode cX12_bestSwap 88 = .ok (.getfield 149, 3) := dk_180 0 149 (dk_at dksX12_bestSwap_3 17 rfl rfl)
theorem dX12_bestSwap_91 : decode cX12_bestSwap 91 = .ok (.iload 5, 2) := dk_21 5 (dk_at dksX12_bestSwap_3 20 rfl rfl)
theorem dX12_bestSwap_93 : decode cX12_bestSwap 93 = .ok (.iload 6, 2) := dk_21 6 (dk_at dksX12_bestSwap_3 22 rfl rfl)
theorem dX12_bestSwap_95 : decode cX12_bestSwap 95 = .ok (.iastore, 1) := dk_79 (dk_at dksX12_bestSwap_4 0 rfl rfl)
theorem dX12_bestSwap_96 : decode cX12_bestSwap 96 = .ok (.aload_n 0, 1) := dk_42 (dk_at dksX12_bestSwap_4 1 rfl rfl)
theorem dX12_bestSwap_97 : decode cX12_bestSwap 97 = .ok (.invokevirtual 426, 3) := dk_182 1 170 (dk_at dksX12_bestSwap_4 2 rfl rfl)
theorem dX12_bestSwap_100 : decode cX12_bestSwap 100 = .ok (.istore 7, 2) := dk_54 7 (dk_at dksX12_bestSwap_4 5 rfl rfl)
theorem dX12_bestSwap_102 : decode cX12_bestSwap 102 = .ok (.iload 7, 2) := dk_21 7 (dk_at dksX12_bestSwap_4 7 rfl rfl)
theorem dX12_bestSwap_104 : decode cX12_bestSwap 104 = .ok (.ifCond .lt 28, 3) := dk_155 0 28 (dk_at dksX12_bestSwap_4 9 rfl rfl)
theorem dX12_bestSwap_107 : decode cX12_bestSwap 107 = .ok (.iload_n 3, 1) := dk_29 (dk_at dksX12_bestSwap_4 12 rfl rfl)
theorem dX12_bestSwap_108 : decode cX12_bestSwap 108 = .ok (.ifCond .lt 12, 3) := dk_155 0 12 (dk_at dksX12_bestSwap_4 13 rfl rfl)
theorem dX12_bestSwap_111 : decode cX12_bestSwap 111 = .ok (.iload 7, 2) := dk_21 7 (dk_at dksX12_bestSwap_4 16 rfl rfl)
theorem dX12_bestSwap_113 : decode cX12_bestSwap 113 = .ok (.iload_n 3, 1) := dk_29 (dk_at dksX12_bestSwap_4 18 rfl rfl)
theorem dX12_bestSwap_114 : decode cX12_bestSwap 114 = .ok (.if_icmp .lt 6, 3) := dk_161 0 6 (dk_at dksX12_bestSwap_4 19 rfl rfl)
theorem dX12_bestSwap_117 : decode cX12_bestSwap 117 = .ok (.goto 15, 3) := dk_167 0 15 (dk_at dksX12_bestSwap_5 0 rfl rfl)
theorem dX12_bestSwap_120 : decode cX12_bestSwap 120 = .ok (.bipush 10, 2) := dk_16 10 (dk_at dksX12_bestSwap_5 3 rfl rfl)
theorem dX12_bestSwap_122 : decode cX12_bestSwap 122 = .ok (.iload 4, 2) := dk_21 4 (dk_at dksX12_bestSwap_5 5 rfl rfl)
theorem dX12_bestSwap_124 : decode cX12_bestSwap 124 = .ok (.imul, 1) := dk_104 (dk_at dksX12_bestSwap_5 7 rfl rfl)
theorem dX12_bestSwap_125 : decode cX12_bestSwap 125 = .ok (.iload 5, 2) := dk_21 5 (dk_at dksX12_bestSwap_5 8 rfl rfl)
theorem dX12_bestSwap_127 : decode cX12_bestSwap 127 = .ok (.iadd, 1) := dk_96 (dk_at dksX12_bestSwap_5 10 rfl rfl)
theorem dX12_bestSwap_128 : decode cX12_bestSwap 128 = .ok (.istore_n 2, 1) := dk_61 (dk_at dksX12_bestSwap_5 11 rfl rfl)
theorem dX12_bestSwap_129 : decode cX12_bestSwap 129 = .ok (.iload 7, 2) := dk_21 7 (dk_at dksX12_bestSwap_5 12 rfl rfl)
theorem dX12_bestSwap_131 : decode cX12_bestSwap 131 = .ok (.istore_n 3, 1) := dk_62 (dk_at dksX12_bestSwap_5 14 rfl rfl)
theorem dX12_bestSwap_132 : decode cX12_bestSwap 132 = .ok (.iinc 5 1, 3) := dk_132 5 1 (dk_at dksX12_bestSwap_5 15 rfl rfl)
theorem dX12_bestSwap_135 : decode cX12_bestSwap 135 = .ok (.goto (-89), 3) := dk_167 255 167 (dk_at dksX12_bestSwap_5 18 rfl rfl)
theorem dX12_bestSwap_138 : decode cX12_bestSwap 138 = .ok (.iinc 4 1, 3) := dk_132 4 1 (dk_at dksX12_bestSwap_5 21 rfl rfl)
theorem dX12_bestSwap_141 : decode cX12_bestSwap 141 = .ok (.goto (-115), 3) := dk_167 255 141 (dk_at dksX12_bestSwap_6 0 rfl rfl)
theorem dX12_bestSwap_144 : decode cX12_bestSwap 144 = .ok (.iload_n 1, 1) := dk_27 (dk_at dksX12_bestSwap_6 3 rfl rfl)
theorem dX12_bestSwap_145 : decode cX12_bestSwap 145 = .ok (.ifCond .ne 7, 3) := dk_154 0 7 (dk_at dksX12_bestSwap_6 4 rfl rfl)
theorem dX12_bestSwap_148 : decode cX12_bestSwap 148 = .ok (.iload_n 2, 1) := dk_28 (dk_at dksX12_bestSwap_6 7 rfl rfl)
theorem dX12_bestSwap_149 : decode cX12_bestSwap 149 = .ok (.goto 4, 3) := dk_167 0 4 (dk_at dksX12_bestSwap_6 8 rfl rfl)
theorem dX12_bestSwap_152 : decode cX12_bestSwap 152 = .ok (.iload_n 3, 1) := dk_29 (dk_at dksX12_bestSwap_6 11 rfl rfl)
theorem dX12_bestSwap_153 : decode cX12_bestSwap 153 = .ok (.ireturn, 1) := dk_172 (dk_at dksX12_bestSwap_6 12 rfl rfl)
abbrev cX12_missed : ByteArray := prog_24_method_98_code
def yX12_missed : MethodName := ⟨RX12, "missed", "(II)I"⟩
def dkwX12_missed_4 : List UInt8 := [21, 5, 62, 21, 6, 54, 4, 132, 5, 1, 167, 255, 180, 28, 154, 0, 7, 29, 167, 0, 5, 21, 4, 172]
abbrev dktX12_missed_4 : List UInt8 := dkwX12_missed_4 ++ []
def dkwX12_missed_3 : List UInt8 := [27, 182, 1, 145, 42, 182, 1, 176, 54, 6, 29, 155, 0, 13, 21, 6, 21, 4, 161, 0, 6, 167, 0, 10]
abbrev dktX12_missed_3 : List UInt8 := dkwX12_missed_3 ++ dktX12_missed_4
def dkwX12_missed_2 : List UInt8 := [16, 42, 21, 5, 96, 46, 6, 160, 0, 6, 167, 0, 45, 42, 182, 1, 139, 42, 21, 5, 182, 1, 154, 42]
abbrev dktX12_missed_2 : List UInt8 := dkwX12_missed_2 ++ dktX12_missed_3
def dkwX12_missed_1 : List UInt8 := [54, 4, 3, 54, 5, 21, 5, 42, 180, 0, 67, 42, 180, 1, 1, 46, 162, 0, 68, 42, 180, 0, 143]
abbrev dktX12_missed_1 : List UInt8 := dkwX12_missed_1 ++ dktX12_missed_2
def dkwX12_missed_0 : List UInt8 := [27, 184, 1, 173, 153, 0, 12, 28, 3, 4, 184, 1, 94, 154, 0, 5, 2, 172, 16, 254, 62, 16, 254]
abbrev dktX12_missed_0 : List UInt8 := dkwX12_missed_0 ++ dktX12_missed_1
theorem dksX12_missed_0 : cX12_missed.data.toList.drop 0 = dktX12_missed_0 := by decide +kernel
theorem dksX12_missed_1 : cX12_missed.data.toList.drop 23 = dktX12_missed_1 := dk_seg dksX12_missed_0 23 rfl rfl
theorem dksX12_missed_2 : cX12_missed.data.toList.drop 46 = dktX12_missed_2 := dk_seg dksX12_missed_1 23 rfl rfl
theorem dksX12_missed_3 : cX12_missed.data.toList.drop 70 = dktX12_missed_3 := dk_seg dksX12_missed_2 24 rfl rfl
theorem dksX12_missed_4 : cX12_missed.data.toList.drop 94 = dktX12_missed_4 := dk_seg dksX12_missed_3 24 rfl rfl
theorem dX12_missed_0 : decode cX12_missed 0 = .ok (.iload_n 1, 1) := dk_27 (dk_at dksX12_missed_0 0 rfl rfl)
theorem dX12_missed_1 : decode cX12_missed 1 = .ok (.invokestatic 429, 3) := dk_184 1 173 (dk_at dksX12_missed_0 1 rfl rfl)
theorem dX12_missed_4 : decode cX12_missed 4 = .ok (.ifCond .eq 12, 3) := dk_153 0 12 (dk_at dksX12_missed_0 4 rfl rfl)
theorem dX12_missed_7 : decode cX12_missed 7 = .ok (.iload_n 2, 1) := dk_28 (dk_at dksX12_missed_0 7 rfl rfl)
theorem dX12_missed_8 : decode cX12_missed 8 = .ok (.iconst 0, 1) := dk_3 (dk_at dksX12_missed_0 8 rfl rfl)
theorem dX12_missed_9 : decode cX12_missed 9 = .ok (.iconst 1, 1) := dk_4 (dk_at dksX12_missed_0 9 rfl rfl)
theorem dX12_missed_10 : decode cX12_missed 10 = .ok (.invokestatic 350, 3) := dk_184 1 94 (dk_at dksX12_missed_0 10 rfl rfl)
theorem dX12_missed_13 : decode cX12_missed 13 = .ok (.ifCond .ne 5, 3) := dk_154 0 5 (dk_at dksX12_missed_0 13 rfl rfl)
theorem dX12_missed_16 : decode cX12_missed 16 = .ok (.iconst (-1), 1) := dk_2 (dk_at dksX12_missed_0 16 rfl rfl)
theorem dX12_missed_17 : decode cX12_missed 17 = .ok (.ireturn, 1) := dk_172 (dk_at dksX12_missed_0 17 rfl rfl)
theorem dX12_missed_18 : decode cX12_missed 18 = .ok (.bipush (-2), 2) := dk_16 254 (dk_at dksX12_missed_0 18 rfl rfl)
theorem dX12_missed_20 : decode cX12_missed 20 = .ok (.istore_n 3, 1) := dk_62 (dk_at dksX12_missed_0 20 rfl rfl)
theorem dX12_missed_21 : decode cX12_missed 21 = .ok (.bipush (-2), 2) := dk_16 254 (dk_at dksX12_missed_0 21 rfl rfl)
theorem dX12_missed_23 : decode cX12_missed 23 = .ok (.istore 4, 2) := dk_54 4 (dk_at dksX12_missed_1 0 rfl rfl)
theorem dX12_missed_25 : decode cX12_missed 25 = .ok (.iconst 0, 1) := dk_3 (dk_at dksX12_missed_1 2 rfl rfl)
theorem dX12_missed_26 : decode cX12_missed 26 = .ok (.istore 5, 2) := dk_54 5 (dk_at dksX12_missed_1 3 rfl rfl)
theorem dX12_missed_28 : decode cX12_missed 28 = .ok (.iload 5, 2) := dk_21 5 (dk_at dksX12_missed_1 5 rfl rfl)
theorem dX12_missed_30 : decode cX12_missed 30 = .ok (.aload_n 0, 1) := dk_42 (dk_at dksX12_missed_1 7 rfl rfl)
theorem dX12_missed_31 : decode cX12_missed 31 = .ok (.getfield 67, 3) := dk_180 0 67 (dk_at dksX12_missed_1 8 rfl rfl)
theorem dX12_missed_34 : decode cX12_missed 34 = .ok (.aload_n 0, 1) := dk_42 (dk_at dksX12_missed_1 11 rfl rfl)
theorem dX12_missed_35 : decode cX12_missed 35 = .ok (.getfield 257, 3) := dk_180 1 1 (dk_at dksX12_missed_1 12 rfl rfl)
theorem dX12_missed_38 : decode cX12_missed 38 = .ok (.iaload, 1) := dk_46 (dk_at dksX12_missed_1 15 rfl rfl)
theorem dX12_missed_39 : decode cX12_missed 39 = .ok (.if_icmp .ge 68, 3) := dk_162 0 68 (dk_at dksX12_missed_1 16 rfl rfl)
theorem dX12_missed_42 : decode cX12_missed 42 = .ok (.aload_n 0, 1) := dk_42 (dk_at dksX12_missed_1 19 rfl rfl)
theorem dX12_missed_43 : decode cX12_missed 43 = .ok (.getfield 143, 3) := dk_180 0 143 (dk_at dksX12_missed_1 20 rfl rfl)
theorem dX12_missed_46 : decode cX12_missed 46 = .ok (.bipush 42, 2) := dk_16 42 (dk_at dksX12_missed_2 0 rfl rfl)
theorem dX12_missed_48 : decode cX12_missed 48 = .ok (.iload 5, 2) := dk_21 5 (dk_at dksX12_missed_2 2 rfl rfl)
theorem dX12_missed_50 : decode cX12_missed 50 = .ok (.iadd, 1) := dk_96 (dk_at dksX12_missed_2 4 rfl rfl)
theorem dX12_missed_51 : decode cX12_missed 51 = .ok (.iaload, 1) := dk_46 (dk_at dksX12_missed_2 5 rfl rfl)
theorem dX12_missed_52 : decode cX12_missed 52 = .ok (.iconst 3, 1) := dk_6 (dk_at dksX12_missed_2 6 rfl rfl)
theorem dX12_missed_53 : decode cX12_missed 53 = .ok (.if_icmp .ne 6, 3) := dk_160 0 6 (dk_at dksX12_missed_2 7 rfl rfl)
theorem dX12_missed_56 : decode cX12_missed 56 = .ok (.goto 45, 3) := dk_167 0 45 (dk_at dksX12_missed_2 10 rfl rfl)
theorem dX12_missed_59 : decode cX12_missed 59 = .ok (.aload_n 0, 1) := dk_42 (dk_at dksX12_missed_2 13 rfl rfl)
theorem dX12_missed_60 : decode cX12_missed 60 = .ok (.invokevirtual 395, 3) := dk_182 1 139 (dk_at dksX12_missed_2 14 rfl rfl)
theorem dX12_missed_63 : decode cX12_missed 63 = .ok (.aload_n 0, 1) := dk_42 (dk_at dksX12_missed_2 17 rfl rfl)
theorem dX12_missed_64 : decode cX12_missed 64 = .ok (.iload 5, 2) := dk_21 5 (dk_at dksX12_missed_2 18 rfl rfl)
theorem dX12_missed_66 : decode cX12_missed 66 = .ok (.invokevirtual 410, 3) := dk_182 1 154 (dk_at dksX12_missed_2 20 rfl rfl)
theorem dX12_missed_69 : decode cX12_missed 69 = .ok (.aload_n 0, 1) := dk_42 (dk_at dksX12_missed_2 23 rfl rfl)
theorem dX12_missed_70 : decode cX12_missed 70 = .ok (.iload_n 1, 1) := dk_27 (dk_at dksX12_missed_3 0 rfl rfl)
theorem dX12_missed_71 : decode cX12_missed 71 = .ok (.invokevirtual 401, 3) := dk_182 1 145 (dk_at dksX12_missed_3 1 rfl rfl)
theorem dX12_missed_74 : decode cX12_missed 74 = .ok (.aload_n 0, 1) := dk_42 (dk_at dksX12_missed_3 4 rfl rfl)
theorem dX12_missed_75 : decode cX12_missed 75 = .ok (.invokevirtual 432, 3) := dk_182 1 176 (dk_at dksX12_missed_3 5 rfl rfl)
theorem dX12_missed_78 : decode cX12_missed 78 = .ok (.istore 6, 2) := dk_54 6 (dk_at dksX12_missed_3 8 rfl rfl)
theorem dX12_missed_80 : decode cX12_missed 80 = .ok (.iload_n 3, 1) := dk_29 (dk_at dksX12_missed_3 10 rfl rfl)
theorem dX12_missed_81 : decode cX12_missed 81 = .ok (.ifCond .lt 13, 3) := dk_155 0 13 (dk_at dksX12_missed_3 11 rfl rfl)
theorem dX12_missed_84 : decode cX12_missed 84 = .ok (.iload 6, 2) := dk_21 6 (dk_at dksX12_missed_3 14 rfl rfl)
theorem dX12_missed_86 : decode cX12_missed 86 = .ok (.iload 4, 2) := dk_21 4 (dk_at dksX12_missed_3 16 rfl rfl)
theorem dX12_missed_88 : decode cX12_missed 88 = .ok (.if_icmp .lt 6, 3) := dk_161 0 6 (dk_at dksX12_missed_3 18 rfl rfl)
theorem dX12_missed_91 : decode cX12_missed 91 = .ok (.goto 10, 3) := dk_167 0 10 (dk_at dksX12_missed_3 21 rfl rfl)
theorem dX12_missed_94 : decode cX12_missed 94 = .ok (.iload 5, 2) := dk_21 5 (dk_at dksX12_missed_4 0 rfl rfl)
theorem dX12_missed_96 : decode cX12_missed 96 = .ok (.istore_n 3, 1) := dk_62 (dk_at dksX12_missed_4 2 rfl rfl)
theorem dX12_missed_97 : decode cX12_missed 97 = .ok (.iload 6, 2) := dk_21 6 (dk_at dksX12_missed_4 3 rfl rfl)
theorem dX12_missed_99 : decode cX12_missed 99 = .ok (.istore 4, 2) := dk_54 4 (dk_at dksX12_missed_4 5 rfl rfl)
theorem dX12_missed_101 : decode cX12_missed 101 = .ok (.iinc 5 1, 3) := dk_132 5 1 (dk_at dksX12_missed_4 7 rfl rfl)
theorem dX12_missed_104 : decode cX12_missed 104 = .ok (.goto (-76), 3) := dk_167 255 180 (dk_at dksX12_missed_4 10 rfl rfl)
theorem dX12_missed_107 : decode cX12_missed 107 = .ok (.iload_n 2, 1) := dk_28 (dk_at dksX12_missed_4 13 rfl rfl)
theorem dX12_missed_108 : decode cX12_missed 108 = .ok (.ifCond .ne 7, 3) := dk_154 0 7 (dk_at dksX12_missed_4 14 rfl rfl)
theorem dX12_missed_111 : decode cX12_missed 111 = .ok (.iload_n 3, 1) := dk_29 (dk_at dksX12_missed_4 17 rfl rfl)
theorem dX12_missed_112 : decode cX12_missed 112 = .ok (.goto 5, 3) := dk_167 0 5 (dk_at dksX12_missed_4 18 rfl rfl)
theorem dX12_missed_115 : decode cX12_missed 115 = .ok (.iload 4, 2) := dk_21 4 (dk_at dksX12_missed_4 21 rfl rfl)
theorem dX12_missed_117 : decode cX12_missed 117 = .ok (.ireturn, 1) := dk_172 (dk_at dksX12_missed_4 23 rfl rfl)
abbrev cX12_catAt : ByteArray := prog_24_method_99_code
def yX12_catAt : MethodName := ⟨RX12, "catAt", "(II)I"⟩
def dkwX12_catAt_4 : List UInt8 := [132, 5, 1, 167, 255, 191, 28, 154, 0, 7, 29, 167, 0, 5, 21, 4, 172]
abbrev dktX12_catAt_4 : List UInt8 := dkwX12_catAt_4 ++ []
def dkwX12_catAt_3 : List UInt8 := [182, 1, 176, 54, 6, 21, 6, 21, 4, 163, 0, 6, 167, 0, 10, 21, 5, 62, 21, 6, 54, 4]
abbrev dktX12_catAt_3 : List UInt8 := dkwX12_catAt_3 ++ dktX12_catAt_4
def dkwX12_catAt_2 : List UInt8 := [180, 0, 146, 16, 118, 92, 46, 16, 10, 96, 79, 42, 27, 16, 10, 96, 21, 5, 100, 182, 1, 145, 42]
abbrev dktX12_catAt_2 : List UInt8 := dkwX12_catAt_2 ++ dktX12_catAt_3
def dkwX12_catAt_1 : List UInt8 := [54, 4, 3, 54, 5, 21, 5, 27, 162, 0, 65, 42, 182, 1, 139, 42, 21, 5, 182, 1, 145, 42]
abbrev dktX12_catAt_1 : List UInt8 := dkwX12_catAt_1 ++ dktX12_catAt_2
def dkwX12_catAt_0 : List UInt8 := [27, 4, 16, 120, 184, 1, 94, 153, 0, 12, 28, 3, 4, 184, 1, 94, 154, 0, 5, 2, 172, 3, 62, 2]
abbrev dktX12_catAt_0 : List UInt8 := dkwX12_catAt_0 ++ dktX12_catAt_1
theorem dksX12_catAt_0 : cX12_catAt.data.toList.drop 0 = dktX12_catAt_0 := by decide +kernel
theorem dksX12_catAt_1 : cX12_catAt.data.toList.drop 24 = dktX12_catAt_1 := dk_seg dksX12_catAt_0 24 rfl rfl
theorem dksX12_catAt_2 : cX12_catAt.data.toList.drop 46 = dktX12_catAt_2 := dk_seg dksX12_catAt_1 22 rfl rfl
theorem dksX12_catAt_3 : cX12_catAt.data.toList.drop 69 = dktX12_catAt_3 := dk_seg dksX12_catAt_2 23 rfl rfl
theorem dksX12_catAt_4 : cX12_catAt.data.toList.drop 91 = dktX12_catAt_4 := dk_seg dksX12_catAt_3 22 rfl rfl
theorem dX12_catAt_0 : decode cX12_catAt 0 = .ok (.iload_n 1, 1) := dk_27 (dk_at dksX12_catAt_0 0 rfl rfl)
theorem dX12_catAt_1 : decode cX12_catAt 1 = .ok (.iconst 1, 1) := dk_4 (dk_at dksX12_catAt_0 1 rfl rfl)
theorem dX12_catAt_2 : decode cX12_catAt 2 = .ok (.bipush 120, 2) := dk_16 120 (dk_at dksX12_catAt_0 2 rfl rfl)
theorem dX12_catAt_4 : decode cX12_catAt 4 = .ok (.invokestatic 350, 3) := dk_184 1 94 (dk_at dksX12_catAt_0 4 rfl rfl)
theorem dX12_catAt_7 : decode cX12_catAt 7 = .ok (.ifCond .eq 12, 3) := dk_153 0 12 (dk_at dksX12_catAt_0 7 rfl rfl)
theorem dX12_catAt_10 : decode cX12_catAt 10 = .ok (.iload_n 2, 1) := dk_28 (dk_at dksX12_catAt_0 10 rfl rfl)
theorem dX12_catAt_11 : decode cX12_catAt 11 = .ok (.iconst 0, 1) := dk_3 (dk_at dksX12_catAt_0 11 rfl rfl)
theorem dX12_catAt_12 : decode cX12_catAt 12 = .ok (.iconst 1, 1) := dk_4 (dk_at dksX12_catAt_0 12 rfl rfl)
theorem dX12_catAt_13 : decode cX12_catAt 13 = .ok (.invokestatic 350, 3) := dk_184 1 94 (dk_at dksX12_catAt_0 13 rfl rfl)
theorem dX12_catAt_16 : decode cX12_catAt 16 = .ok (.ifCond .ne 5, 3) := dk_154 0 5 (dk_at dksX12_catAt_0 16 rfl rfl)
theorem dX12_catAt_19 : decode cX12_catAt 19 = .ok (.iconst (-1), 1) := dk_2 (dk_at dksX12_catAt_0 19 rfl rfl)
theorem dX12_catAt_20 : decode cX12_catAt 20 = .ok (.ireturn, 1) := dk_172 (dk_at dksX12_catAt_0 20 rfl rfl)
theorem dX12_catAt_21 : decode cX12_catAt 21 = .ok (.iconst 0, 1) := dk_3 (dk_at dksX12_catAt_0 21 rfl rfl)
theorem dX12_catAt_22 : decode cX12_catAt 22 = .ok (.istore_n 3, 1) := dk_62 (dk_at dksX12_catAt_0 22 rfl rfl)
theorem dX12_catAt_23 : decode cX12_catAt 23 = .ok (.iconst (-1), 1) := dk_2 (dk_at dksX12_catAt_0 23 rfl rfl)
theorem dX12_catAt_24 : decode cX12_catAt 24 = .ok (.istore 4, 2) := dk_54 4 (dk_at dksX12_catAt_1 0 rfl rfl)
theorem dX12_catAt_26 : decode cX12_catAt 26 = .ok (.iconst 0, 1) := dk_3 (dk_at dksX12_catAt_1 2 rfl rfl)
theorem dX12_catAt_27 : decode cX12_catAt 27 = .ok (.istore 5, 2) := dk_54 5 (dk_at dksX12_catAt_1 3 rfl rfl)
theorem dX12_catAt_29 : decode cX12_catAt 29 = .ok (.iload 5, 2) := dk_21 5 (dk_at dksX12_catAt_1 5 rfl rfl)
theorem dX12_catAt_31 : decode cX12_catAt 31 = .ok (.iload_n 1, 1) := dk_27 (dk_at dksX12_catAt_1 7 rfl rfl)
theorem dX12_catAt_32 : decode cX12_catAt 32 = .ok (.if_icmp .ge 65, 3) := dk_162 0 65 (dk_at dksX12_catAt_1 8 rfl rfl)
theorem dX12_catAt_35 : decode cX12_catAt 35 = .ok (.aload_n 0, 1) := dk_42 (dk_at dksX12_catAt_1 11 rfl rfl)
theorem dX12_catAt_36 : decode cX12_catAt 36 = .ok (.invokevirtual 395, 3) := dk_182 1 139 (dk_at dksX12_catAt_1 12 rfl rfl)
theorem dX12_catAt_39 : decode cX12_catAt 39 = .ok (.aload_n 0, 1) := dk_42 (dk_at dksX12_catAt_1 15 rfl rfl)
theorem dX12_catAt_40 : decode cX12_catAt 40 = .ok (.iload 5, 2) := dk_21 5 (dk_at dksX12_catAt_1 16 rfl rfl)
theorem dX12_catAt_42 : decode cX12_catAt 42 = .ok (.invokevirtual 401, 3) := dk_182 1 145 (dk_at dksX12_catAt_1 18 rfl rfl)
theorem dX12_catAt_45 : decode cX12_catAt 45 = .ok (.aload_n 0, 1) := dk_42 (dk_at dksX12_catAt_1 21 rfl rfl)
theorem dX12_catAt_46 : decode cX12_catAt 46 = .ok (.getfield 146, 3) := dk_180 0 146 (dk_at dksX12_catAt_2 0 rfl rfl)
theorem dX12_catAt_49 : decode cX12_catAt 49 = .ok (.bipush 118, 2) := dk_16 118 (dk_at dksX12_catAt_2 3 rfl rfl)
theorem dX12_catAt_51 : decode cX12_catAt 51 = .ok (.dup2, 1) := dk_92 (dk_at dksX12_catAt_2 5 rfl rfl)
theorem dX12_catAt_52 : decode cX12_catAt 52 = .ok (.iaload, 1) := dk_46 (dk_at dksX12_catAt_2 6 rfl rfl)
theorem dX12_catAt_53 : decode cX12_catAt 53 = .ok (.bipush 10, 2) := dk_16 10 (dk_at dksX12_catAt_2 7 rfl rfl)
theorem dX12_catAt_55 : decode cX12_catAt 55 = .ok (.iadd, 1) := dk_96 (dk_at dksX12_catAt_2 9 rfl rfl)
theorem dX12_catAt_56 : decode cX12_catAt 56 = .ok (.iastore, 1) := dk_79 (dk_at dksX12_catAt_2 10 rfl rfl)
theorem dX12_catAt_57 : decode cX12_catAt 57 = .ok (.aload_n 0, 1) := dk_42 (dk_at dksX12_catAt_2 11 rfl rfl)
theorem dX12_catAt_58 : decode cX12_catAt 58 = .ok (.iload_n 1, 1) := dk_27 (dk_at dksX12_catAt_2 12 rfl rfl)
theorem dX12_catAt_59 : decode cX12_catAt 59 = .ok (.bipush 10, 2) := dk_16 10 (dk_at dksX12_catAt_2 13 rfl rfl)
theorem dX12_catAt_61 : decode cX12_catAt 61 = .ok (.iadd, 1) := dk_96 (dk_at dksX12_catAt_2 15 rfl rfl)
theorem dX12_catAt_62 : decode cX12_catAt 62 = .ok (.iload 5, 2) := dk_21 5 (dk_at dksX12_catAt_2 16 rfl rfl)
theorem dX12_catAt_64 : decode cX12_catAt 64 = .ok (.isub, 1) := dk_100 (dk_at dksX12_catAt_2 18 rfl rfl)
theorem dX12_catAt_65 : decode cX12_catAt 65 = .ok (.invokevirtual 401, 3) := dk_182 1 145 (dk_at dksX12_catAt_2 19 rfl rfl)
theorem dX12_catAt_68 : decode cX12_catAt 68 = .ok (.aload_n 0, 1) := dk_42 (dk_at dksX12_catAt_2 22 rfl rfl)
theorem dX12_catAt_69 : decode cX12_catAt 69 = .ok (.invokevirtual 432, 3) := dk_182 1 176 (dk_at dksX12_catAt_3 0 rfl rfl)
theorem dX12_catAt_72 : decode cX12_catAt 72 = .ok (.istore 6, 2) := dk_54 6 (dk_at dksX12_catAt_3 3 rfl rfl)
theorem dX12_catAt_74 : decode cX12_catAt 74 = .ok (.iload 6, 2) := dk_21 6 (dk_at dksX12_catAt_3 5 rfl rfl)
theorem dX12_catAt_76 : decode cX12_catAt 76 = .ok (.iload 4, 2) := dk_21 4 (dk_at dksX12_catAt_3 7 rfl rfl)
theorem dX12_catAt_78 : decode cX12_catAt 78 = .ok (.if_icmp .gt 6, 3) := dk_163 0 6 (dk_at dksX12_catAt_3 9 rfl rfl)
theorem dX12_catAt_81 : decode cX12_catAt 81 = .ok (.goto 10, 3) := dk_167 0 10 (dk_at dksX12_catAt_3 12 rfl rfl)
theorem dX12_catAt_84 : decode cX12_catAt 84 = .ok (.iload 5, 2) := dk_21 5 (dk_at dksX12_catAt_3 15 rfl rfl)
theorem dX12_catAt_86 : decode cX12_catAt 86 = .ok (.istore_n 3, 1) := dk_62 (dk_at dksX12_catAt_3 17 rfl rfl)
theorem dX12_catAt_87 : decode cX12_catAt 87 = .ok (.iload 6, 2) := dk_21 6 (dk_at dksX12_catAt_3 18 rfl rfl)
theorem dX12_catAt_89 : decode cX12_catAt 89 = .ok (.istore 4, 2) := dk_54 4 (dk_at dksX12_catAt_3 20 rfl rfl)
theorem dX12_catAt_91 : decode cX12_catAt 91 = .ok (.iinc 5 1, 3) := dk_132 5 1 (dk_at dksX12_catAt_4 0 rfl rfl)
theorem dX12_catAt_94 : decode cX12_catAt 94 = .ok (.goto (-65), 3) := dk_167 255 191 (dk_at dksX12_catAt_4 3 rfl rfl)
theorem dX12_catAt_97 : decode cX12_catAt 97 = .ok (.iload_n 2, 1) := dk_28 (dk_at dksX12_catAt_4 6 rfl rfl)
theorem dX12_catAt_98 : decode cX12_catAt 98 = .ok (.ifCond .ne 7, 3) := dk_154 0 7 (dk_at dksX12_catAt_4 7 rfl rfl)
theorem dX12_catAt_101 : decode cX12_catAt 101 = .ok (.iload_n 3, 1) := dk_29 (dk_at dksX12_catAt_4 10 rfl rfl)
theorem dX12_catAt_102 : decode cX12_catAt 102 = .ok (.goto 5, 3) := dk_167 0 5 (dk_at dksX12_catAt_4 11 rfl rfl)
theorem dX12_catAt_105 : decode cX12_catAt 105 = .ok (.iload 4, 2) := dk_21 4 (dk_at dksX12_catAt_4 14 rfl rfl)
theorem dX12_catAt_107 : decode cX12_catAt 107 = .ok (.ireturn, 1) := dk_172 (dk_at dksX12_catAt_4 16 rfl rfl)
abbrev cX12_starves : ByteArray := prog_24_method_100_code
def yX12_starves : MethodName := ⟨RX12, "starves", "(I)I"⟩
def dkwX12_starves_2 : List UInt8 := [167, 255, 226, 16, 254, 172]
abbrev dktX12_starves_2 : List UInt8 := dkwX12_starves_2 ++ []
def dkwX12_starves_1 : List UInt8 := [180, 0, 146, 16, 74, 27, 96, 46, 16, 99, 160, 0, 5, 28, 172, 42, 182, 1, 124, 132, 2, 1]
abbrev dktX12_starves_1 : List UInt8 := dkwX12_starves_1 ++ dktX12_starves_2
def dkwX12_starves_0 : List UInt8 := [42, 27, 182, 1, 136, 154, 0, 5, 2, 172, 42, 182, 1, 139, 3, 61, 28, 17, 2, 88, 163, 0, 29, 42]
abbrev dktX12_starves_0 : List UInt8 := dkwX12_starves_0 ++ dktX12_starves_1
theorem dksX12_starves_0 : cX12_starves.data.toList.drop 0 = dktX12_starves_0 := by decide +kernel
theorem dksX12_starves_1 : cX12_starves.data.toList.drop 24 = dktX12_starves_1 := dk_seg dksX12_starves_0 24 rfl rfl
theorem dksX12_starves_2 : cX12_starves.data.toList.drop 46 = dktX12_starves_2 := dk_seg dksX12_starves_1 22 rfl rfl
theorem dX12_starves_0 : decode cX12_starves 0 = .ok (.aload_n 0, 1) := dk_42 (dk_at dksX12_starves_0 0 rfl rfl)
theorem dX12_starves_1 : decode cX12_starves 1 = .ok (.iload_n 1, 1) := dk_27 (dk_at dksX12_starves_0 1 rfl rfl)
theorem dX12_starves_2 : decode cX12_starves 2 = .ok (.invokevirtual 392, 3) := dk_182 1 136 (dk_at dksX12_starves_0 2 rfl rfl)
theorem dX12_starves_5 : decode cX12_starves 5 = .ok (.ifCond .ne 5, 3) := dk_154 0 5 (dk_at dksX12_starves_0 5 rfl rfl)
theorem dX12_starves_8 : decode cX12_starves 8 = .ok (.iconst (-1), 1) := dk_2 (dk_at dksX12_starves_0 8 rfl rfl)
theorem dX12_starves_9 : decode cX12_starves 9 = .ok (.ireturn, 1) := dk_172 (dk_at dksX12_starves_0 9 rfl rfl)
theorem dX12_starves_10 : decode cX12_starves 10 = .ok (.aload_n 0, 1) := dk_42 (dk_at dksX12_starves_0 10 rfl rfl)
theorem dX12_starves_11 : decode cX12_starves 11 = .ok (.invokevirtual 395, 3) := dk_182 1 139 (dk_at dksX12_starves_0 11 rfl rfl)
theorem dX12_starves_14 : decode cX12_starves 14 = .ok (.iconst 0, 1) := dk_3 (dk_at dksX12_starves_0 14 rfl rfl)
theorem dX12_starves_15 : decode cX12_starves 15 = .ok (.istore_n 2, 1) := dk_61 (dk_at dksX12_starves_0 15 rfl rfl)
theorem dX12_starves_16 : decode cX12_starves 16 = .ok (.iload_n 2, 1) := dk_28 (dk_at dksX12_starves_0 16 rfl rfl)
theorem dX12_starves_17 : decode cX12_starves 17 = .ok (.sipush 600, 3) := dk_17 2 88 (dk_at dksX12_starves_0 17 rfl rfl)
theorem dX12_starves_20 : decode cX12_starves 20 = .ok (.if_icmp .gt 29, 3) := dk_163 0 29 (dk_at dksX12_starves_0 20 rfl rfl)
theorem dX12_starves_23 : decode cX12_starves 23 = .ok (.aload_n 0, 1) := dk_42 (dk_at dksX12_starves_0 23 rfl rfl)
theorem dX12_starves_24 : decode cX12_starves 24 = .ok (.getfield 146, 3) := dk_180 0 146 (dk_at dksX12_starves_1 0 rfl rfl)
theorem dX12_starves_27 : decode cX12_starves 27 = .ok (.bipush 74, 2) := dk_16 74 (dk_at dksX12_starves_1 3 rfl rfl)
theorem dX12_starves_29 : decode cX12_starves 29 = .ok (.iload_n 1, 1) := dk_27 (dk_at dksX12_starves_1 5 rfl rfl)
theorem dX12_starves_30 : decode cX12_starves 30 = .ok (.iadd, 1) := dk_96 (dk_at dksX12_starves_1 6 rfl rfl)
theorem dX12_starves_31 : decode cX12_starves 31 = .ok (.iaload, 1) := dk_46 (dk_at dksX12_starves_1 7 rfl rfl)
theorem dX12_starves_32 : decode cX12_starves 32 = .ok (.bipush 99, 2) := dk_16 99 (dk_at dksX12_starves_1 8 rfl rfl)
theorem dX12_starves_34 : decode cX12_starves 34 = .ok (.if_icmp .ne 5, 3) := dk_160 0 5 (dk_at dksX12_starves_1 10 rfl rfl)
theorem dX12_starves_37 : decode cX12_starves 37 = .ok (.iload_n 2, 1) := dk_28 (dk_at dksX12_starves_1 13 rfl rfl)
theorem dX12_starves_38 : decode cX12_starves 38 = .ok (.ireturn, 1) := dk_172 (dk_at dksX12_starves_1 14 rfl rfl)
theorem dX12_starves_39 : decode cX12_starves 39 = .ok (.aload_n 0, 1) := dk_42 (dk_at dksX12_starves_1 15 rfl rfl)
theorem dX12_starves_40 : decode cX12_starves 40 = .ok (.invokevirtual 380, 3) := dk_182 1 124 (dk_at dksX12_starves_1 16 rfl rfl)
theorem dX12_starves_43 : decode cX12_starves 43 = .ok (.iinc 2 1, 3) := dk_132 2 1 (dk_at dksX12_starves_1 19 rfl rfl)
theorem dX12_starves_46 : decode cX12_starves 46 = .ok (.goto (-30), 3) := dk_167 255 226 (dk_at dksX12_starves_2 0 rfl rfl)
theorem dX12_starves_49 : decode cX12_starves 49 = .ok (.bipush (-2), 2) := dk_16 254 (dk_at dksX12_starves_2 3 rfl rfl)
theorem dX12_starves_51 : decode cX12_starves 51 = .ok (.ireturn, 1) := dk_172 (dk_at dksX12_starves_2 5 rfl rfl)
abbrev cX12_mean : ByteArray := prog_24_method_101_code
def yX12_mean : MethodName := ⟨RX12, "mean", "(II)I"⟩
def dkwX12_mean_2 : List UInt8 := [182, 1, 145, 29, 42, 3, 182, 1, 182, 96, 62, 132, 4, 1, 167, 255, 219, 29, 172]
abbrev dktX12_mean_2 : List UInt8 := dkwX12_mean_2 ++ []
def dkwX12_mean_1 : List UInt8 := [21, 4, 27, 162, 0, 37, 42, 182, 1, 139, 42, 89, 180, 1, 88, 21, 4, 96, 181, 1, 88, 42, 28]
abbrev dktX12_mean_1 : List UInt8 := dkwX12_mean_1 ++ dktX12_mean_2
def dkwX12_mean_0 : List UInt8 := [27, 4, 16, 20, 184, 1, 94, 153, 0, 10, 28, 184, 1, 173, 154, 0, 5, 2, 172, 3, 62, 3, 54, 4]
abbrev dktX12_mean_0 : List UInt8 := dkwX12_mean_0 ++ dktX12_mean_1
theorem dksX12_mean_0 : cX12_mean.data.toList.drop 0 = dktX12_mean_0 := by decide +kernel
theorem dksX12_mean_1 : cX12_mean.data.toList.drop 24 = dktX12_mean_1 := dk_seg dksX12_mean_0 24 rfl rfl
theorem dksX12_mean_2 : cX12_mean.data.toList.drop 47 = dktX12_mean_2 := dk_seg dksX12_mean_1 23 rfl rfl
theorem dX12_mean_0 : decode cX12_mean 0 = .ok (.iload_n 1, 1) := dk_27 (dk_at dksX12_mean_0 0 rfl rfl)
theorem dX12_mean_1 : decode cX12_mean 1 = .ok (.iconst 1, 1) := dk_4 (dk_at dksX12_mean_0 1 rfl rfl)
theorem dX12_mean_2 : decode cX12_mean 2 = .ok (.bipush 20, 2) := dk_16 20 (dk_at dksX12_mean_0 2 rfl rfl)
theorem dX12_mean_4 : decode cX12_mean 4 = .ok (.invokestatic 350, 3) := dk_184 1 94 (dk_at dksX12_mean_0 4 rfl rfl)
theorem dX12_mean_7 : decode cX12_mean 7 = .ok (.ifCond .eq 10, 3) := dk_153 0 10 (dk_at dksX12_mean_0 7 rfl rfl)
theorem dX12_mean_10 : decode cX12_mean 10 = .ok (.iload_n 2, 1) := dk_28 (dk_at dksX12_mean_0 10 rfl rfl)
theorem dX12_mean_11 : decode cX12_mean 11 = .ok (.invokestatic 429, 3) := dk_184 1 173 (dk_at dksX12_mean_0 11 rfl rfl)
theorem dX12_mean_14 : decode cX12_mean 14 = .ok (.ifCond .ne 5, 3) := dk_154 0 5 (dk_at dksX12_mean_0 14 rfl rfl)
theorem dX12_mean_17 : decode cX12_mean 17 = .ok (.iconst (-1), 1) := dk_2 (dk_at dksX12_mean_0 17 rfl rfl)
theorem dX12_mean_18 : decode cX12_mean 18 = .ok (.ireturn, 1) := dk_172 (dk_at dksX12_mean_0 18 rfl rfl)
theorem dX12_mean_19 : decode cX12_mean 19 = .ok (.iconst 0, 1) := dk_3 (dk_at dksX12_mean_0 19 rfl rfl)
theorem dX12_mean_20 : decode cX12_mean 20 = .ok (.istore_n 3, 1) := dk_62 (dk_at dksX12_mean_0 20 rfl rfl)
theorem dX12_mean_21 : decode cX12_mean 21 = .ok (.iconst 0, 1) := dk_3 (dk_at dksX12_mean_0 21 rfl rfl)
theorem dX12_mean_22 : decode cX12_mean 22 = .ok (.istore 4, 2) := dk_54 4 (dk_at dksX12_mean_0 22 rfl rfl)
theorem dX12_mean_24 : decode cX12_mean 24 = .ok (.iload 4, 2) := dk_21 4 (dk_at dksX12_mean_1 0 rfl rfl)
theorem dX12_mean_26 : decode cX12_mean 26 = .ok (.iload_n 1, 1) := dk_27 (dk_at dksX12_mean_1 2 rfl rfl)
theorem dX12_mean_27 : decode cX12_mean 27 = .ok (.if_icmp .ge 37, 3) := dk_162 0 37 (dk_at dksX12_mean_1 3 rfl rfl)
theorem dX12_mean_30 : decode cX12_mean 30 = .ok (.aload_n 0, 1) := dk_42 (dk_at dksX12_mean_1 6 rfl rfl)
theorem dX12_mean_31 : decode cX12_mean 31 = .ok (.invokevirtual 395, 3) := dk_182 1 139 (dk_at dksX12_mean_1 7 rfl rfl)
theorem dX12_mean_34 : decode cX12_mean 34 = .ok (.aload_n 0, 1) := dk_42 (dk_at dksX12_mean_1 10 rfl rfl)
theorem dX12_mean_35 : decode cX12_mean 35 = .ok (.dup, 1) := dk_89 (dk_at dksX12_mean_1 11 rfl rfl)
theorem dX12_mean_36 : decode cX12_mean 36 = .ok (.getfield 344, 3) := dk_180 1 88 (dk_at dksX12_mean_1 12 rfl rfl)
theorem dX12_mean_39 : decode cX12_mean 39 = .ok (.iload 4, 2) := dk_21 4 (dk_at dksX12_mean_1 15 rfl rfl)
theorem dX12_mean_41 : decode cX12_mean 41 = .ok (.iadd, 1) := dk_96 (dk_at dksX12_mean_1 17 rfl rfl)
theorem dX12_mean_42 : decode cX12_mean 42 = .ok (.putfield 344, 3) := dk_181 1 88 (dk_at dksX12_mean_1 18 rfl rfl)
theorem dX12_mean_45 : decode cX12_mean 45 = .ok (.aload_n 0, 1) := dk_42 (dk_at dksX12_mean_1 21 rfl rfl)
theorem dX12_mean_46 : decode cX12_mean 46 = .ok (.iload_n 2, 1) := dk_28 (dk_at dksX12_mean_1 22 rfl rfl)
theorem dX12_mean_47 : decode cX12_mean 47 = .ok (.invokevirtual 401, 3) := dk_182 1 145 (dk_at dksX12_mean_2 0 rfl rfl)
theorem dX12_mean_50 : decode cX12_mean 50 = .ok (.iload_n 3, 1) := dk_29 (dk_at dksX12_mean_2 3 rfl rfl)
theorem dX12_mean_51 : decode cX12_mean 51 = .ok (.aload_n 0, 1) := dk_42 (dk_at dksX12_mean_2 4 rfl rfl)
theorem dX12_mean_52 : decode cX12_mean 52 = .ok (.iconst 0, 1) := dk_3 (dk_at dksX12_mean_2 5 rfl rfl)
theorem dX12_mean_53 : decode cX12_mean 53 = .ok (.invokevirtual 438, 3) := dk_182 1 182 (dk_at dksX12_mean_2 6 rfl rfl)
theorem dX12_mean_56 : decode cX12_mean 56 = .ok (.iadd, 1) := dk_96 (dk_at dksX12_mean_2 9 rfl rfl)
theorem dX12_mean_57 : decode cX12_mean 57 = .ok (.istore_n 3, 1) := dk_62 (dk_at dksX12_mean_2 10 rfl rfl)
theorem dX12_mean_58 : decode cX12_mean 58 = .ok (.iinc 4 1, 3) := dk_132 4 1 (dk_at dksX12_mean_2 11 rfl rfl)
theorem dX12_mean_61 : decode cX12_mean 61 = .ok (.goto (-37), 3) := dk_167 255 219 (dk_at dksX12_mean_2 14 rfl rfl)
theorem dX12_mean_64 : decode cX12_mean 64 = .ok (.iload_n 3, 1) := dk_29 (dk_at dksX12_mean_2 17 rfl rfl)
theorem dX12_mean_65 : decode cX12_mean 65 = .ok (.ireturn, 1) := dk_172 (dk_at dksX12_mean_2 18 rfl rfl)
abbrev cX12_tell : ByteArray := prog_24_method_102_code
def yX12_tell : MethodName := ⟨RX12, "tell", "(IIII)I"⟩
def dkwX12_tell_4 : List UInt8 := [180, 1, 22, 4, 96, 181, 1, 22, 42, 180, 1, 22, 4, 100, 172]
abbrev dktX12_tell_4 : List UInt8 := dkwX12_tell_4 ++ []
def dkwX12_tell_3 : List UInt8 := [79, 42, 180, 0, 164, 42, 180, 1, 22, 29, 79, 42, 180, 0, 167, 42, 180, 1, 22, 21, 4, 79, 42, 89]
abbrev dktX12_tell_3 : List UInt8 := dkwX12_tell_3 ++ dktX12_tell_4
def dkwX12_tell_2 : List UInt8 := [154, 0, 5, 2, 172, 42, 180, 0, 158, 42, 180, 1, 22, 27, 79, 42, 180, 0, 161, 42, 180, 1, 22, 28]
abbrev dktX12_tell_2 : List UInt8 := dkwX12_tell_2 ++ dktX12_tell_3
def dkwX12_tell_1 : List UInt8 := [153, 0, 25, 29, 3, 16, 99, 184, 1, 94, 153, 0, 15, 21, 4, 3, 17, 39, 15, 184, 1, 94]
abbrev dktX12_tell_1 : List UInt8 := dkwX12_tell_1 ++ dktX12_tell_2
def dkwX12_tell_0 : List UInt8 := [42, 180, 1, 22, 16, 20, 159, 0, 41, 42, 27, 182, 1, 133, 153, 0, 33, 42, 28, 182, 1, 130]
abbrev dktX12_tell_0 : List UInt8 := dkwX12_tell_0 ++ dktX12_tell_1
theorem dksX12_tell_0 : cX12_tell.data.toList.drop 0 = dktX12_tell_0 := by decide +kernel
theorem dksX12_tell_1 : cX12_tell.data.toList.drop 22 = dktX12_tell_1 := dk_seg dksX12_tell_0 22 rfl rfl
theorem dksX12_tell_2 : cX12_tell.data.toList.drop 44 = dktX12_tell_2 := dk_seg dksX12_tell_1 22 rfl rfl
theorem dksX12_tell_3 : cX12_tell.data.toList.drop 68 = dktX12_tell_3 := dk_seg dksX12_tell_2 24 rfl rfl
theorem dksX12_tell_4 : cX12_tell.data.toList.drop 92 = dktX12_tell_4 := dk_seg dksX12_tell_3 24 rfl rfl
theorem dX12_tell_0 : decode cX12_tell 0 = .ok (.aload_n 0, 1) := dk_42 (dk_at dksX12_tell_0 0 rfl rfl)
theorem dX12_tell_1 : decode cX12_tell 1 = .ok (.getfield 278, 3) := dk_180 1 22 (dk_at dksX12_tell_0 1 rfl rfl)
theorem dX12_tell_4 : decode cX12_tell 4 = .ok (.bipush 20, 2) := dk_16 20 (dk_at dksX12_tell_0 4 rfl rfl)
theorem dX12_tell_6 : decode cX12_tell 6 = .ok (.if_icmp .eq 41, 3) := dk_159 0 41 (dk_at dksX12_tell_0 6 rfl rfl)
theorem dX12_tell_9 : decode cX12_tell 9 = .ok (.aload_n 0, 1) := dk_42 (dk_at dksX12_tell_0 9 rfl rfl)
theorem dX12_tell_10 : decode cX12_tell 10 = .ok (.iload_n 1, 1) := dk_27 (dk_at dksX12_tell_0 10 rfl rfl)
theorem dX12_tell_11 : decode cX12_tell 11 = .ok (.invokevirtual 389, 3) := dk_182 1 133 (dk_at dksX12_tell_0 11 rfl rfl)
theorem dX12_tell_14 : decode cX12_tell 14 = .ok (.ifCond .eq 33, 3) := dk_153 0 33 (dk_at dksX12_tell_0 14 rfl rfl)
theorem dX12_tell_17 : decode cX12_tell 17 = .ok (.aload_n 0, 1) := dk_42 (dk_at dksX12_tell_0 17 rfl rfl)
theorem dX12_tell_18 : decode cX12_tell 18 = .ok (.iload_n 2, 1) := dk_28 (dk_at dksX12_tell_0 18 rfl rfl)
theorem dX12_tell_19 : decode cX12_tell 19 = .ok (.invokevirtual 386, 3) := dk_182 1 130 (dk_at dksX12_tell_0 19 rfl rfl)
theorem dX12_tell_22 : decode cX12_tell 22 = .ok (.ifCond .eq 25, 3) := dk_153 0 25 (dk_at dksX12_tell_1 0 rfl rfl)
theorem dX12_tell_25 : decode cX12_tell 25 = .ok (.iload_n 3, 1) := dk_29 (dk_at dksX12_tell_1 3 rfl rfl)
theorem dX12_tell_26 : decode cX12_tell 26 = .ok (.iconst 0, 1) := dk_3 (dk_at dksX12_tell_1 4 rfl rfl)
theorem dX12_tell_27 : decode cX12_tell 27 = .ok (.bipush 99, 2) := dk_16 99 (dk_at dksX12_tell_1 5 rfl rfl)
theorem dX12_tell_29 : decode cX12_tell 29 = .ok (.invokestatic 350, 3) := dk_184 1 94 (dk_at dksX12_tell_1 7 rfl rfl)
theorem dX12_tell_32 : decode cX12_tell 32 = .ok (.ifCond .eq 15, 3) := dk_153 0 15 (dk_at dksX12_tell_1 10 rfl rfl)
theorem dX12_tell_35 : decode cX12_tell 35 = .ok (.iload 4, 2) := dk_21 4 (dk_at dksX12_tell_1 13 rfl rfl)
theorem dX12_tell_37 : decode cX12_tell 37 = .ok (.iconst 0, 1) := dk_3 (dk_at dksX12_tell_1 15 rfl rfl)
theorem dX12_tell_38 : decode cX12_tell 38 = .ok (.sipush 9999, 3) := dk_17 39 15 (dk_at dksX12_tell_1 16 rfl rfl)
theorem dX12_tell_41 : decode cX12_tell 41 = .ok (.invokestatic 350, 3) := dk_184 1 94 (dk_at dksX12_tell_1 19 rfl rfl)
theorem dX12_tell_44 : decode cX12_tell 44 = .ok (.ifCond .ne 5, 3) := dk_154 0 5 (dk_at dksX12_tell_2 0 rfl rfl)
theorem dX12_tell_47 : decode cX12_tell 47 = .ok (.iconst (-1), 1) := dk_2 (dk_at dksX12_tell_2 3 rfl rfl)
theorem dX12_tell_48 : decode cX12_tell 48 = .ok (.ireturn, 1) := dk_172 (dk_at dksX12_tell_2 4 rfl rfl)
theorem dX12_tell_49 : decode cX12_tell 49 = .ok (.aload_n 0, 1) := dk_42 (dk_at dksX12_tell_2 5 rfl rfl)
theorem dX12_tell_50 : decode cX12_tell 50 = .ok (.getfield 158, 3) := dk_180 0 158 (dk_at dksX12_tell_2 6 rfl rfl)
theorem dX12_tell_53 : decode cX12_tell 53 = .ok (.aload_n 0, 1) := dk_42 (dk_at dksX12_tell_2 9 rfl rfl)
theorem dX12_tell_54 : decode cX12_tell 54 = .ok (.getfield 278, 3) := dk_180 1 22 (dk_at dksX12_tell_2 10 rfl rfl)
theorem dX12_tell_57 : decode cX12_tell 57 = .ok (.iload_n 1, 1) := dk_27 (dk_at dksX12_tell_2 13 rfl rfl)
theorem dX12_tell_58 : decode cX12_tell 58 = .ok (.iastore, 1) := dk_79 (dk_at dksX12_tell_2 14 rfl rfl)
theorem dX12_tell_59 : decode cX12_tell 59 = .ok (.aload_n 0, 1) := dk_42 (dk_at dksX12_tell_2 15 rfl rfl)
theorem dX12_tell_60 : decode cX12_tell 60 = .ok (.getfield 161, 3) := dk_180 0 161 (dk_at dksX12_tell_2 16 rfl rfl)
theorem dX12_tell_63 : decode cX12_tell 63 = .ok (.aload_n 0, 1) := dk_42 (dk_at dksX12_tell_2 19 rfl rfl)
theorem dX12_tell_64 : decode cX12_tell 64 = .ok (.getfield 278, 3) := dk_180 1 22 (dk_at dksX12_tell_2 20 rfl rfl)
theorem dX12_tell_67 : decode cX12_tell 67 = .ok (.iload_n 2, 1) := dk_28 (dk_at dksX12_tell_2 23 rfl rfl)
theorem dX12_tell_68 : decode cX12_tell 68 = .ok (.iastore, 1) := dk_79 (dk_at dksX12_tell_3 0 rfl rfl)
theorem dX12_tell_69 : decode cX12_tell 69 = .ok (.aload_n 0, 1) := dk_42 (dk_at dksX12_tell_3 1 rfl rfl)
theorem dX12_tell_70 : decode cX12_tell 70 = .ok (.getfield 164, 3) := dk_180 0 164 (dk_at dksX12_tell_3 2 rfl rfl)
theorem dX12_tell_73 : decode cX12_tell 73 = .ok (.aload_n 0, 1) := dk_42 (dk_at dksX12_tell_3 5 rfl rfl)
theorem dX12_tell_74 : decode cX12_tell 74 = .ok (.getfield 278, 3) := dk_180 1 22 (dk_at dksX12_tell_3 6 rfl rfl)
theorem dX12_tell_77 : decode cX12_tell 77 = .ok (.iload_n 3, 1) := dk_29 (dk_at dksX12_tell_3 9 rfl rfl)
theorem dX12_tell_78 : decode cX12_tell 78 = .ok (.iastore, 1) := dk_79 (dk_at dksX12_tell_3 10 rfl rfl)
theorem dX12_tell_79 : decode cX12_tell 79 = .ok (.aload_n 0, 1) := dk_42 (dk_at dksX12_tell_3 11 rfl rfl)
theorem dX12_tell_80 : decode cX12_tell 80 = .ok (.getfield 167, 3) := dk_180 0 167 (dk_at dksX12_tell_3 12 rfl rfl)
theorem dX12_tell_83 : decode cX12_tell 83 = .ok (.aload_n 0, 1) := dk_42 (dk_at dksX12_tell_3 15 rfl rfl)
theorem dX12_tell_84 : decode cX12_tell 84 = .ok (.getfield 278, 3) := dk_180 1 22 (dk_at dksX12_tell_3 16 rfl rfl)
theorem dX12_tell_87 : decode cX12_tell 87 = .ok (.iload 4, 2) := dk_21 4 (dk_at dksX12_tell_3 19 rfl rfl)
theorem dX12_tell_89 : decode cX12_tell 89 = .ok (.iastore, 1) := dk_79 (dk_at dksX12_tell_3 21 rfl rfl)
theorem dX12_tell_90 : decode cX12_tell 90 = .ok (.aload_n 0, 1) := dk_42 (dk_at dksX12_tell_3 22 rfl rfl)
theorem dX12_tell_91 : decode cX12_tell 91 = .ok (.dup, 1) := dk_89 (dk_at dksX12_tell_3 23 rfl rfl)
theorem dX12_tell_92 : decode cX12_tell 92 = .ok (.getfield 278, 3) := dk_180 1 22 (dk_at dksX12_tell_4 0 rfl rfl)
theorem dX12_tell_95 : decode cX12_tell 95 = .ok (.iconst 1, 1) := dk_4 (dk_at dksX12_tell_4 3 rfl rfl)
theorem dX12_tell_96 : decode cX12_tell 96 = .ok (.iadd, 1) := dk_96 (dk_at dksX12_tell_4 4 rfl rfl)
theorem dX12_tell_97 : decode cX12_tell 97 = .ok (.putfield 278, 3) := dk_181 1 22 (dk_at dksX12_tell_4 5 rfl rfl)
theorem dX12_tell_100 : decode cX12_tell 100 = .ok (.aload_n 0, 1) := dk_42 (dk_at dksX12_tell_4 8 rfl rfl)
theorem dX12_tell_101 : decode cX12_tell 101 = .ok (.getfield 278, 3) := dk_180 1 22 (dk_at dksX12_tell_4 9 rfl rfl)
theorem dX12_tell_104 : decode cX12_tell 104 = .ok (.iconst 1, 1) := dk_4 (dk_at dksX12_tell_4 12 rfl rfl)
theorem dX12_tell_105 : decode cX12_tell 105 = .ok (.isub, 1) := dk_100 (dk_at dksX12_tell_4 13 rfl rfl)
theorem dX12_tell_106 : decode cX12_tell 106 = .ok (.ireturn, 1) := dk_172 (dk_at dksX12_tell_4 14 rfl rfl)
abbrev cX12_forget : ByteArray := prog_24_method_103_code
def yX12_forget : MethodName := ⟨RX12, "forget", "()I"⟩
def dkwX12_forget_0 : List UInt8 := [42, 180, 1, 22, 60, 42, 3, 181, 1, 22, 27, 172]
abbrev dktX12_forget_0 : List UInt8 := dkwX12_forget_0 ++ []
theorem dksX12_forget_0 : cX12_forget.data.toList.drop 0 = dktX12_forget_0 := by decide +kernel
theorem dX12_forget_0 : decode cX12_forget 0 = .ok (.aload_n 0, 1) := dk_42 (dk_at dksX12_forget_0 0 rfl rfl)
theorem dX12_forget_1 : decode cX12_forget 1 = .ok (.getfield 278, 3) := dk_180 1 22 (dk_at dksX12_forget_0 1 rfl rfl)
theorem dX12_forget_4 : decode cX12_forget 4 = .ok (.istore_n 1, 1) := dk_60 (dk_at dksX12_forget_0 4 rfl rfl)
theorem dX12_forget_5 : decode cX12_forget 5 = .ok (.aload_n 0, 1) := dk_42 (dk_at dksX12_forget_0 5 rfl rfl)
theorem dX12_forget_6 : decode cX12_forget 6 = .ok (.iconst 0, 1) := dk_3 (dk_at dksX12_forget_0 6 rfl rfl)
theorem dX12_forget_7 : decode cX12_forget 7 = .ok (.putfield 278, 3) := dk_181 1 22 (dk_at dksX12_forget_0 7 rfl rfl)
theorem dX12_forget_10 : decode cX12_forget 10 = .ok (.iload_n 1, 1) := dk_27 (dk_at dksX12_forget_0 10 rfl rfl)
theorem dX12_forget_11 : decode cX12_forget 11 = .ok (.ireturn, 1) := dk_172 (dk_at dksX12_forget_0 11 rfl rfl)
abbrev cX12_jokes : ByteArray := prog_24_method_105_code
def yX12_jokes : MethodName := ⟨RX12, "jokes", "(II)I"⟩
def dkwX12_jokes_6 : List UInt8 := [132, 4, 1, 167, 255, 156, 28, 2, 160, 0, 7, 29, 167, 0, 4, 2, 172]
abbrev dktX12_jokes_6 : List UInt8 := dkwX12_jokes_6 ++ []
def dkwX12_jokes_5 : List UInt8 := [21, 5, 104, 96, 21, 6, 96, 172, 132, 3, 1, 132, 6, 1, 167, 255, 205, 132, 5, 1, 167, 255, 182]
abbrev dktX12_jokes_5 : List UInt8 := dkwX12_jokes_5 ++ dktX12_jokes_6
def dkwX12_jokes_4 : List UInt8 := [27, 182, 1, 208, 154, 0, 6, 167, 0, 27, 29, 28, 160, 0, 19, 17, 3, 232, 21, 4, 104, 16, 100]
abbrev dktX12_jokes_4 : List UInt8 := dkwX12_jokes_4 ++ dktX12_jokes_5
def dkwX12_jokes_3 : List UInt8 := [180, 1, 1, 46, 162, 0, 66, 3, 54, 6, 21, 6, 16, 60, 163, 0, 50, 42, 21, 4, 21, 5, 21, 6]
abbrev dktX12_jokes_3 : List UInt8 := dkwX12_jokes_3 ++ dktX12_jokes_4
def dkwX12_jokes_2 : List UInt8 := [180, 0, 58, 42, 180, 1, 1, 46, 162, 0, 92, 21, 4, 4, 96, 54, 5, 21, 5, 42, 180, 0, 58, 42]
abbrev dktX12_jokes_2 : List UInt8 := dkwX12_jokes_2 ++ dktX12_jokes_3
def dkwX12_jokes_1 : List UInt8 := [3, 27, 182, 1, 208, 153, 0, 13, 28, 154, 0, 6, 16, 253, 172, 132, 3, 1, 3, 54, 4, 21, 4, 42]
abbrev dktX12_jokes_1 : List UInt8 := dkwX12_jokes_1 ++ dktX12_jokes_2
def dkwX12_jokes_0 : List UInt8 := [27, 3, 42, 180, 1, 22, 184, 1, 94, 153, 0, 8, 28, 2, 162, 0, 5, 2, 172, 3, 62, 42, 3, 3]
abbrev dktX12_jokes_0 : List UInt8 := dkwX12_jokes_0 ++ dktX12_jokes_1
theorem dksX12_jokes_0 : cX12_jokes.data.toList.drop 0 = dktX12_jokes_0 := by decide +kernel
theorem dksX12_jokes_1 : cX12_jokes.data.toList.drop 24 = dktX12_jokes_1 := dk_seg dksX12_jokes_0 24 rfl rfl
theorem dksX12_jokes_2 : cX12_jokes.data.toList.drop 48 = dktX12_jokes_2 := dk_seg dksX12_jokes_1 24 rfl rfl
theorem dksX12_jokes_3 : cX12_jokes.data.toList.drop 72 = dktX12_jokes_3 := dk_seg dksX12_jokes_2 24 rfl rfl
theorem dksX12_jokes_4 : cX12_jokes.data.toList.drop 96 = dktX12_jokes_4 := dk_seg dksX12_jokes_3 24 rfl rfl
theorem dksX12_jokes_5 : cX12_jokes.data.toList.drop 119 = dktX12_jokes_5 := dk_seg dksX12_jokes_4 23 rfl rfl
theorem dksX12_jokes_6 : cX12_jokes.data.toList.drop 142 = dktX12_jokes_6 := dk_seg dksX12_jokes_5 23 rfl rfl
theorem dX12_jokes_0 : decode cX12_jokes 0 = .ok (.iload_n 1, 1) := dk_27 (dk_at dksX12_jokes_0 0 rfl rfl)
theorem dX12_jokes_1 : decode cX12_jokes 1 = .ok (.iconst 0, 1) := dk_3 (dk_at dksX12_jokes_0 1 rfl rfl)
theorem dX12_jokes_2 : decode cX12_jokes 2 = .ok (.aload_n 0, 1) := dk_42 (dk_at dksX12_jokes_0 2 rfl rfl)
theorem dX12_jokes_3 : decode cX12_jokes 3 = .ok (.getfield 278, 3) := dk_180 1 22 (dk_at dksX12_jokes_0 3 rfl rfl)
theorem dX12_jokes_6 : decode cX12_jokes 6 = .ok (.invokestatic 350, 3) := dk_184 1 94 (dk_at dksX12_jokes_0 6 rfl rfl)
theorem dX12_jokes_9 : decode cX12_jokes 9 = .ok (.ifCond .eq 8, 3) := dk_153 0 8 (dk_at dksX12_jokes_0 9 rfl rfl)
theorem dX12_jokes_12 : decode cX12_jokes 12 = .ok (.iload_n 2, 1) := dk_28 (dk_at dksX12_jokes_0 12 rfl rfl)
theorem dX12_jokes_13 : decode cX12_jokes 13 = .ok (.iconst (-1), 1) := dk_2 (dk_at dksX12_jokes_0 13 rfl rfl)
theorem dX12_jokes_14 : decode cX12_jokes 14 = .ok (.if_icmp .ge 5, 3) := dk_162 0 5 (dk_at dksX12_jokes_0 14 rfl rfl)
theorem dX12_jokes_17 : decode cX12_jokes 17 = .ok (.iconst (-1), 1) := dk_2 (dk_at dksX12_jokes_0 17 rfl rfl)
theorem dX12_jokes_18 : decode cX12_jokes 18 = .ok (.ireturn, 1) := dk_172 (dk_at dksX12_jokes_0 18 rfl rfl)
theorem dX12_jokes_19 : decode cX12_jokes 19 = .ok (.iconst 0, 1) := dk_3 (dk_at dksX12_jokes_0 19 rfl rfl)
theorem dX12_jokes_20 : decode cX12_jokes 20 = .ok (.istore_n 3, 1) := dk_62 (dk_at dksX12_jokes_0 20 rfl rfl)
theorem dX12_jokes_21 : decode cX12_jokes 21 = .ok (.aload_n 0, 1) := dk_42 (dk_at dksX12_jokes_0 21 rfl rfl)
theorem dX12_jokes_22 : decode cX12_jokes 22 = .ok (.iconst 0, 1) := dk_3 (dk_at dksX12_jokes_0 22 rfl rfl)
theorem dX12_jokes_23 : decode cX12_jokes 23 = .ok (.iconst 0, 1) := dk_3 (dk_at dksX12_jokes_0 23 rfl rfl)
theorem dX12_jokes_24 : decode cX12_jokes 24 = .ok (.iconst 0, 1) := dk_3 (dk_at dksX12_jokes_1 0 rfl rfl)
theorem dX12_jokes_25 : decode cX12_jokes 25 = .ok (.iload_n 1, 1) := dk_27 (dk_at dksX12_jokes_1 1 rfl rfl)
theorem dX12_jokes_26 : decode cX12_jokes 26 = .ok (.invokevirtual 464, 3) := dk_182 1 208 (dk_at dksX12_jokes_1 2 rfl rfl)
theorem dX12_jokes_29 : decode cX12_jokes 29 = .ok (.ifCond .eq 13, 3) := dk_153 0 13 (dk_at dksX12_jokes_1 5 rfl rfl)
theorem dX12_jokes_32 : decode cX12_jokes 32 = .ok (.iload_n 2, 1) := dk_28 (dk_at dksX12_jokes_1 8 rfl rfl)
theorem dX12_jokes_33 : decode cX12_jokes 33 = .ok (.ifCond .ne 6, 3) := dk_154 0 6 (dk_at dksX12_jokes_1 9 rfl rfl)
theorem dX12_jokes_36 : decode cX12_jokes 36 = .ok (.bipush (-3), 2) := dk_16 253 (dk_at dksX12_jokes_1 12 rfl rfl)
theorem dX12_jokes_38 : decode cX12_jokes 38 = .ok (.ireturn, 1) := dk_172 (dk_at dksX12_jokes_1 14 rfl rfl)
theorem dX12_jokes_39 : decode cX12_jokes 39 = .ok (.iinc 3 1, 3) := dk_132 3 1 (dk_at dksX12_jokes_1 15 rfl rfl)
theorem dX12_jokes_42 : decode cX12_jokes 42 = .ok (.iconst 0, 1) := dk_3 (dk_at dksX12_jokes_1 18 rfl rfl)
theorem dX12_jokes_43 : decode cX12_jokes 43 = .ok (.istore 4, 2) := dk_54 4 (dk_at dksX12_jokes_1 19 rfl rfl)
theorem dX12_jokes_45 : decode cX12_jokes 45 = .ok (.iload 4, 2) := dk_21 4 (dk_at dksX12_jokes_1 21 rfl rfl)
theorem dX12_jokes_47 : decode cX12_jokes 47 = .ok (.aload_n 0, 1) := dk_42 (dk_at dksX12_jokes_1 23 rfl rfl)
theorem dX12_jokes_48 : decode cX12_jokes 48 = .ok (.getfield 58, 3) := dk_180 0 58 (dk_at dksX12_jokes_2 0 rfl rfl)
theorem dX12_jokes_51 : decode cX12_jokes 51 = .ok (.aload_n 0, 1) := dk_42 (dk_at dksX12_jokes_2 3 rfl rfl)
theorem dX12_jokes_52 : decode cX12_jokes 52 = .ok (.getfield 257, 3) := dk_180 1 1 (dk_at dksX12_jokes_2 4 rfl rfl)
theorem dX12_jokes_55 : decode cX12_jokes 55 = .ok (.iaload, 1) := dk_46 (dk_at dksX12_jokes_2 7 rfl rfl)
theorem dX12_jokes_56 : decode cX12_jokes 56 = .ok (.if_icmp .ge 92, 3) := dk_162 0 92 (dk_at dksX12_jokes_2 8 rfl rfl)
theorem dX12_jokes_59 : decode cX12_jokes 59 = .ok (.iload 4, 2) := dk_21 4 (dk_at dksX12_jokes_2 11 rfl rfl)
theorem dX12_jokes_61 : decode cX12_jokes 61 = .ok (.iconst 1, 1) := dk_4 (dk_at dksX12_jokes_2 13 rfl rfl)
theorem dX12_jokes_62 : decode cX12_jokes 62 = .ok (.iadd, 1) := dk_96 (dk_at dksX12_jokes_2 14 rfl rfl)
theorem dX12_jokes_63 : decode cX12_jokes 63 = .ok (.istore 5, 2) := dk_54 5 (dk_at dksX12_jokes_2 15 rfl rfl)
theorem dX12_jokes_65 : decode cX12_jokes 65 = .ok (.iload 5, 2) := dk_21 5 (dk_at dksX12_jokes_2 17 rfl rfl)
theorem dX12_jokes_67 : decode cX12_jokes 67 = .ok (.aload_n 0, 1) := dk_42 (dk_at dksX12_jokes_2 19 rfl rfl)
theorem dX12_jokes_68 : decode cX12_jokes 68 = .ok (.getfield 58, 3) := dk_180 0 58 (dk_at dksX12_jokes_2 20 rfl rfl)
theorem dX12_jokes_71 : decode cX12_jokes 71 = .ok (.aload_n 0, 1) := dk_42 (dk_at dksX12_jokes_2 23 rfl rfl)
theorem dX12_jokes_72 : decode cX12_jokes 72 = .ok (.getfield 257, 3) := dk_180 1 1 (dk_at dksX12_jokes_3 0 rfl rfl)
theorem dX12_jokes_75 : decode cX12_jokes 75 = .ok (.iaload, 1) := dk_46 (dk_at dksX12_jokes_3 3 rfl rfl)
theorem dX12_jokes_76 : decode cX12_jokes 76 = .ok (.if_icmp .ge 66, 3) := dk_162 0 66 (dk_at dksX12_jokes_3 4 rfl rfl)
theorem dX12_jokes_79 : decode cX12_jokes 79 = .ok (.iconst 0, 1) := dk_3 (dk_at dksX12_jokes_3 7 rfl rfl)
theorem dX12_jokes_80 : decode cX12_jokes 80 = .ok (.istore 6, 2) := dk_54 6 (dk_at dksX12_jokes_3 8 rfl rfl)
theorem dX12_jokes_82 : decode cX12_jokes 82 = .ok (.iload 6, 2) := dk_21 6 (dk_at dksX12_jokes_3 10 rfl rfl)
theorem dX12_jokes_84 : decode cX12_jokes 84 = .ok (.bipush 60, 2) := dk_16 60 (dk_at dksX12_jokes_3 12 rfl rfl)
theorem dX12_jokes_86 : decode cX12_jokes 86 = .ok (.if_icmp .gt 50, 3) := dk_163 0 50 (dk_at dksX12_jokes_3 14 rfl rfl)
theorem dX12_jokes_89 : decode cX12_jokes 89 = .ok (.aload_n 0, 1) := dk_42 (dk_at dksX12_jokes_3 17 rfl rfl)
theorem dX12_jokes_90 : decode cX12_jokes 90 = .ok (.iload 4, 2) := dk_21 4 (dk_at dksX12_jokes_3 18 rfl rfl)
theorem dX12_jokes_92 : decode cX12_jokes 92 = .ok (.iload 5, 2) := dk_21 5 (dk_at dksX12_jokes_3 20 rfl rfl)
theorem dX12_jokes_94 : decode cX12_jokes 94 = .ok (.iload 6, 2) := dk_21 6 (dk_at dksX12_jokes_3 22 rfl rfl)
theorem dX12_jokes_96 : decode cX12_jokes 96 = .ok (.iload_n 1, 1) := dk_27 (dk_at dksX12_jokes_4 0 rfl rfl)
theorem dX12_jokes_97 : decode cX12_jokes 97 = .ok (.invokevirtual 464, 3) := dk_182 1 208 (dk_at dksX12_jokes_4 1 rfl rfl)
theorem dX12_jokes_100 : decode cX12_jokes 100 = .ok (.ifCond .ne 6, 3) := dk_154 0 6 (dk_at dksX12_jokes_4 4 rfl rfl)
theorem dX12_jokes_103 : decode cX12_jokes 103 = .ok (.goto 27, 3) := dk_167 0 27 (dk_at dksX12_jokes_4 7 rfl rfl)
theorem dX12_jokes_106 : decode cX12_jokes 106 = .ok (.iload_n 3, 1) := dk_29 (dk_at dksX12_jokes_4 10 rfl rfl)
theorem dX12_jokes_107 : decode cX12_jokes 107 = .ok (.iload_n 2, 1) := dk_28 (dk_at dksX12_jokes_4 11 rfl rfl)
theorem dX12_jokes_108 : decode cX12_jokes 108 = .ok (.if_icmp .ne 19, 3) := dk_160 0 19 (dk_at dksX12_jokes_4 12 rfl rfl)
theorem dX12_jokes_111 : decode cX12_jokes 111 = .ok (.sipush 1000, 3) := dk_17 3 232 (dk_at dksX12_jokes_4 15 rfl rfl)
theorem dX12_jokes_114 : decode cX12_jokes 114 = .ok (.iload 4, 2) := dk_21 4 (dk_at dksX12_jokes_4 18 rfl rfl)
theorem dX12_jokes_116 : decode cX12_jokes 116 = .ok (.imul, 1) := dk_104 (dk_at dksX12_jokes_4 20 rfl rfl)
theorem dX12_jokes_117 : decode cX12_jokes 117 = .ok (.bipush 100, 2) := dk_16 100 (dk_at dksX12_jokes_4 21 rfl rfl)
theorem dX12_jokes_119 : decode cX12_jokes 119 = .ok (.iload 5, 2) := dk_21 5 (dk_at dksX12_jokes_5 0 rfl rfl)
theorem dX12_jokes_121 : decode cX12_jokes 121 = .ok (.imul, 1) := dk_104 (dk_at dksX12_jokes_5 2 rfl rfl)
theorem dX12_jokes_122 : decode cX12_jokes 122 = .ok (.iadd, 1) := dk_96 (dk_at dksX12_jokes_5 3 rfl rfl)
theorem dX12_jokes_123 : decode cX12_jokes 123 = .ok (.iload 6, 2) := dk_21 6 (dk_at dksX12_jokes_5 4 rfl rfl)
theorem dX12_jokes_125 : decode cX12_jokes 125 = .ok (.iadd, 1) := dk_96 (dk_at dksX12_jokes_5 6 rfl rfl)
theorem dX12_jokes_126 : decode cX12_jokes 126 = .ok (.ireturn, 1) := dk_172 (dk_at dksX12_jokes_5 7 rfl rfl)
theorem dX12_jokes_127 : decode cX12_jokes 127 = .ok (.iinc 3 1, 3) := dk_132 3 1 (dk_at dksX12_jokes_5 8 rfl rfl)
theorem dX12_jokes_130 : decode cX12_jokes 130 = .ok (.iinc 6 1, 3) := dk_132 6 1 (dk_at dksX12_jokes_5 11 rfl rfl)
theorem dX12_jokes_133 : decode cX12_jokes 133 = .ok (.goto (-51), 3) := dk_167 255 205 (dk_at dksX12_jokes_5 14 rfl rfl)
theorem dX12_jokes_136 : decode cX12_jokes 136 = .ok (.iinc 5 1, 3) := dk_132 5 1 (dk_at dksX12_jokes_5 17 rfl rfl)
theorem dX12_jokes_139 : decode cX12_jokes 139 = .ok (.goto (-74), 3) := dk_167 255 182 (dk_at dksX12_jokes_5 20 rfl rfl)
theorem dX12_jokes_142 : decode cX12_jokes 142 = .ok (.iinc 4 1, 3) := dk_132 4 1 (dk_at dksX12_jokes_6 0 rfl rfl)
theorem dX12_jokes_145 : decode cX12_jokes 145 = .ok (.goto (-100), 3) := dk_167 255 156 (dk_at dksX12_jokes_6 3 rfl rfl)
theorem dX12_jokes_148 : decode cX12_jokes 148 = .ok (.iload_n 2, 1) := dk_28 (dk_at dksX12_jokes_6 6 rfl rfl)
theorem dX12_jokes_149 : decode cX12_jokes 149 = .ok (.iconst (-1), 1) := dk_2 (dk_at dksX12_jokes_6 7 rfl rfl)
theorem dX12_jokes_150 : decode cX12_jokes 150 = .ok (.if_icmp .ne 7, 3) := dk_160 0 7 (dk_at dksX12_jokes_6 8 rfl rfl)
theorem dX12_jokes_153 : decode cX12_jokes 153 = .ok (.iload_n 3, 1) := dk_29 (dk_at dksX12_jokes_6 11 rfl rfl)
theorem dX12_jokes_154 : decode cX12_jokes 154 = .ok (.goto 4, 3) := dk_167 0 4 (dk_at dksX12_jokes_6 12 rfl rfl)
theorem dX12_jokes_157 : decode cX12_jokes 157 = .ok (.iconst (-1), 1) := dk_2 (dk_at dksX12_jokes_6 15 rfl rfl)
theorem dX12_jokes_158 : decode cX12_jokes 158 = .ok (.ireturn, 1) := dk_172 (dk_at dksX12_jokes_6 16 rfl rfl)
abbrev cX12_isSo : ByteArray := prog_24_method_104_code
def yX12_isSo : MethodName := ⟨RX12, "isSo", "(IIII)Z"⟩
def dkwX12_isSo_6 : List UInt8 := [132, 6, 1, 167, 255, 159, 4, 172]
abbrev dktX12_isSo_6 : List UInt8 := dkwX12_isSo_6 ++ []
def dkwX12_isSo_5 : List UInt8 := [46, 42, 180, 0, 167, 21, 7, 46, 159, 0, 5, 3, 172, 132, 7, 1, 167, 255, 196, 42, 182, 1, 124]
abbrev dktX12_isSo_5 : List UInt8 := dkwX12_isSo_5 ++ dktX12_isSo_6
def dkwX12_isSo_4 : List UInt8 := [180, 0, 146, 16, 6, 16, 6, 42, 180, 0, 158, 21, 7, 46, 104, 96, 42, 180, 0, 161, 21, 7, 46, 96]
abbrev dktX12_isSo_4 : List UInt8 := dkwX12_isSo_4 ++ dktX12_isSo_5
def dkwX12_isSo_3 : List UInt8 := [3, 54, 7, 21, 7, 21, 4, 162, 0, 59, 42, 180, 0, 164, 21, 7, 46, 21, 6, 160, 0, 41, 42]
abbrev dktX12_isSo_3 : List UInt8 := dkwX12_isSo_3 ++ dktX12_isSo_4
def dkwX12_isSo_2 : List UInt8 := [21, 6, 21, 5, 163, 0, 96, 21, 6, 29, 160, 0, 14, 27, 28, 159, 0, 9, 42, 27, 28, 182, 1, 151]
abbrev dktX12_isSo_2 : List UInt8 := dkwX12_isSo_2 ++ dktX12_isSo_3
def dkwX12_isSo_1 : List UInt8 := [21, 5, 164, 0, 12, 42, 180, 0, 164, 21, 6, 46, 54, 5, 132, 6, 1, 167, 255, 225, 3, 54, 6]
abbrev dktX12_isSo_1 : List UInt8 := dkwX12_isSo_1 ++ dktX12_isSo_2
def dkwX12_isSo_0 : List UInt8 := [42, 182, 0, 184, 2, 54, 5, 3, 54, 6, 21, 6, 21, 4, 162, 0, 30, 42, 180, 0, 164, 21, 6, 46]
abbrev dktX12_isSo_0 : List UInt8 := dkwX12_isSo_0 ++ dktX12_isSo_1
theorem dksX12_isSo_0 : cX12_isSo.data.toList.drop 0 = dktX12_isSo_0 := by decide +kernel
theorem dksX12_isSo_1 : cX12_isSo.data.toList.drop 24 = dktX12_isSo_1 := dk_seg dksX12_isSo_0 24 rfl rfl
theorem dksX12_isSo_2 : cX12_isSo.data.toList.drop 47 = dktX12_isSo_2 := dk_seg dksX12_isSo_1 23 rfl rfl
theorem dksX12_isSo_3 : cX12_isSo.data.toList.drop 71 = dktX12_isSo_3 := dk_seg dksX12_isSo_2 24 rfl rfl
theorem dksX12_isSo_4 : cX12_isSo.data.toList.drop 94 = dktX12_isSo_4 := dk_seg dksX12_isSo_3 23 rfl rfl
theorem dksX12_isSo_5 : cX12_isSo.data.toList.drop 118 = dktX12_isSo_5 := dk_seg dksX12_isSo_4 24 rfl rfl
theorem dksX12_isSo_6 : cX12_isSo.data.toList.drop 141 = dktX12_isSo_6 := dk_seg dksX12_isSo_5 23 rfl rfl
theorem dX12_isSo_0 : decode cX12_isSo 0 = .ok (.aload_n 0, 1) := dk_42 (dk_at dksX12_isSo_0 0 rfl rfl)
theorem dX12_isSo_1 : decode cX12_isSo 1 = .ok (.invokevirtual 184, 3) := dk_182 0 184 (dk_at dksX12_isSo_0 1 rfl rfl)
theorem dX12_isSo_4 : decode cX12_isSo 4 = .ok (.iconst (-1), 1) := dk_2 (dk_at dksX12_isSo_0 4 rfl rfl)
theorem dX12_isSo_5 : decode cX12_isSo 5 = .ok (.istore 5, 2) := dk_54 5 (dk_at dksX12_isSo_0 5 rfl rfl)
theorem dX12_isSo_7 : decode cX12_isSo 7 = .ok (.iconst 0, 1) := dk_3 (dk_at dksX12_isSo_0 7 rfl rfl)
theorem dX12_isSo_8 : decode cX12_isSo 8 = .ok (.istore 6, 2) := dk_54 6 (dk_at dksX12_isSo_0 8 rfl rfl)
theorem dX12_isSo_10 : decode cX12_isSo 10 = .ok (.iload 6, 2) := dk_21 6 (dk_at dksX12_isSo_0 10 rfl rfl)
theorem dX12_isSo_12 : decode cX12_isSo 12 = .ok (.iload 4, 2) := dk_21 4 (dk_at dksX12_isSo_0 12 rfl rfl)
theorem dX12_isSo_14 : decode cX12_isSo 14 = .ok (.if_icmp .ge 30, 3) := dk_162 0 30 (dk_at dksX12_isSo_0 14 rfl rfl)
theorem dX12_isSo_17 : decode cX12_isSo 17 = .ok (.aload_n 0, 1) := dk_42 (dk_at dksX12_isSo_0 17 rfl rfl)
theorem dX12_isSo_18 : decode cX12_isSo 18 = .ok (.getfield 164, 3) := dk_180 0 164 (dk_at dksX12_isSo_0 18 rfl rfl)
theorem dX12_isSo_21 : decode cX12_isSo 21 = .ok (.iload 6, 2) := dk_21 6 (dk_at dksX12_isSo_0 21 rfl rfl)
theorem dX12_isSo_23 : decode cX12_isSo 23 = .ok (.iaload, 1) := dk_46 (dk_at dksX12_isSo_0 23 rfl rfl)
theorem dX12_isSo_24 : decode cX12_isSo 24 = .ok (.iload 5, 2) := dk_21 5 (dk_at dksX12_isSo_1 0 rfl rfl)
theorem dX12_isSo_26 : decode cX12_isSo 26 = .ok (.if_icmp .le 12, 3) := dk_164 0 12 (dk_at dksX12_isSo_1 2 rfl rfl)
theorem dX12_isSo_29 : decode cX12_isSo 29 = .ok (.aload_n 0, 1) := dk_42 (dk_at dksX12_isSo_1 5 rfl rfl)
theorem dX12_isSo_30 : decode cX12_isSo 30 = .ok (.getfield 164, 3) := dk_180 0 164 (dk_at dksX12_isSo_1 6 rfl rfl)
theorem dX12_isSo_33 : decode cX12_isSo 33 = .ok (.iload 6, 2) := dk_21 6 (dk_at dksX12_isSo_1 9 rfl rfl)
theorem dX12_isSo_35 : decode cX12_isSo 35 = .ok (.iaload, 1) := dk_46 (dk_at dksX12_isSo_1 11 rfl rfl)
theorem dX12_isSo_36 : decode cX12_isSo 36 = .ok (.istore 5, 2) := dk_54 5 (dk_at dksX12_isSo_1 12 rfl rfl)
theorem dX12_isSo_38 : decode cX12_isSo 38 = .ok (.iinc 6 1, 3) := dk_132 6 1 (dk_at dksX12_isSo_1 14 rfl rfl)
theorem dX12_isSo_41 : decode cX12_isSo 41 = .ok (.goto (-31), 3) := dk_167 255 225 (dk_at dksX12_isSo_1 17 rfl rfl)
theorem dX12_isSo_44 : decode cX12_isSo 44 = .ok (.iconst 0, 1) := dk_3 (dk_at dksX12_isSo_1 20 rfl rfl)
theorem dX12_isSo_45 : decode cX12_isSo 45 = .ok (.istore 6, 2) := dk_54 6 (dk_at dksX12_isSo_1 21 rfl rfl)
theorem dX12_isSo_47 : decode cX12_isSo 47 = .ok (.iload 6, 2) := dk_21 6 (dk_at dksX12_isSo_2 0 rfl rfl)
theorem dX12_isSo_49 : decode cX12_isSo 49 = .ok (.iload 5, 2) := dk_21 5 (dk_at dksX12_isSo_2 2 rfl rfl)
theorem dX12_isSo_51 : decode cX12_isSo 51 = .ok (.if_icmp .gt 96, 3) := dk_163 0 96 (dk_at dksX12_isSo_2 4 rfl rfl)
theorem dX12_isSo_54 : decode cX12_isSo 54 = .ok (.iload 6, 2) := dk_21 6 (dk_at dksX12_isSo_2 7 rfl rfl)
theorem dX12_isSo_56 : decode cX12_isSo 56 = .ok (.iload_n 3, 1) := dk_29 (dk_at dksX12_isSo_2 9 rfl rfl)
theorem dX12_isSo_57 : decode cX12_isSo 57 = .ok (.if_icmp .ne 14, 3) := dk_160 0 14 (dk_at dksX12_isSo_2 10 rfl rfl)
theorem dX12_isSo_60 : decode cX12_isSo 60 = .ok (.iload_n 1, 1) := dk_27 (dk_at dksX12_isSo_2 13 rfl rfl)
theorem dX12_isSo_61 : decode cX12_isSo 61 = .ok (.iload_n 2, 1) := dk_28 (dk_at dksX12_isSo_2 14 rfl rfl)
theorem dX12_isSo_62 : decode cX12_isSo 62 = .ok (.if_icmp .eq 9, 3) := dk_159 0 9 (dk_at dksX12_isSo_2 15 rfl rfl)
theorem dX12_isSo_65 : decode cX12_isSo 65 = .ok (.aload_n 0, 1) := dk_42 (dk_at dksX12_isSo_2 18 rfl rfl)
theorem dX12_isSo_66 : decode cX12_isSo 66 = .ok (.iload_n 1, 1) := dk_27 (dk_at dksX12_isSo_2 19 rfl rfl)
theorem dX12_isSo_67 : decode cX12_isSo 67 = .ok (.iload_n 2, 1) := dk_28 (dk_at dksX12_isSo_2 20 rfl rfl)
theorem dX12_isSo_68 : decode cX12_isSo 68 = .ok (.invokevirtual 407, 3) := dk_182 1 151 (dk_at dksX12_isSo_2 21 rfl rfl)
theorem dX12_isSo_71 : decode cX12_isSo 71 = .ok (.iconst 0, 1) := dk_3 (dk_at dksX12_isSo_3 0 rfl rfl)
theorem dX12_isSo_72 : decode cX12_isSo 72 = .ok (.istore 7, 2) := dk_54 7 (dk_at dksX12_isSo_3 1 rfl rfl)
theorem dX12_isSo_74 : decode cX12_isSo 74 = .ok (.iload 7, 2) := dk_21 7 (dk_at dksX12_isSo_3 3 rfl rfl)
theorem dX12_isSo_76 : decode cX12_isSo 76 = .ok (.iload 4, 2) := dk_21 4 (dk_at dksX12_isSo_3 5 rfl rfl)
theorem dX12_isSo_78 : decode cX12_isSo 78 = .ok (.if_icmp .ge 59, 3) := dk_162 0 59 (dk_at dksX12_isSo_3 7 rfl rfl)
theorem dX12_isSo_81 : decode cX12_isSo 81 = .ok (.aload_n 0, 1) := dk_42 (dk_at dksX12_isSo_3 10 rfl rfl)
theorem dX12_isSo_82 : decode cX12_isSo 82 = .ok (.getfield 164, 3) := dk_180 0 164 (dk_at dksX12_isSo_3 11 rfl rfl)
theorem dX12_isSo_85 : decode cX12_isSo 85 = .ok (.iload 7, 2) := dk_21 7 (dk_at dksX12_isSo_3 14 rfl rfl)
theorem dX12_isSo_87 : decode cX12_isSo 87 = .ok (.iaload, 1) := dk_46 (dk_at dksX12_isSo_3 16 rfl rfl)
theorem dX12_isSo_88 : decode cX12_isSo 88 = .ok (.iload 6, 2) := dk_21 6 (dk_at dksX12_isSo_3 17 rfl rfl)
theorem dX12_isSo_90 : decode cX12_isSo 90 = .ok (.if_icmp .ne 41, 3) := dk_160 0 41 (dk_at dksX12_isSo_3 19 rfl rfl)
theorem dX12_isSo_93 : decode cX12_isSo 93 = .ok (.aload_n 0, 1) := dk_42 (dk_at dksX12_isSo_3 22 rfl rfl)
theorem dX12_isSo_94 : decode cX12_isSo 94 = .ok (.getfield 146, 3) := dk_180 0 146 (dk_at dksX12_isSo_4 0 rfl rfl)
theorem dX12_isSo_97 : decode cX12_isSo 97 = .ok (.bipush 6, 2) := dk_16 6 (dk_at dksX12_isSo_4 3 rfl rfl)
theorem dX12_isSo_99 : decode cX12_isSo 99 = .ok (.bipush 6, 2) := dk_16 6 (dk_at dksX12_isSo_4 5 rfl rfl)
theorem dX12_isSo_101 : decode cX12_isSo 101 = .ok (.aload_n 0, 1) := dk_42 (dk_at dksX12_isSo_4 7 rfl rfl)
theorem dX12_isSo_102 : decode cX12_isSo 102 = .ok (.getfield 158, 3) := dk_180 0 158 (dk_at dksX12_isSo_4 8 rfl rfl)
theorem dX12_isSo_105 : decode cX12_isSo 105 = .ok (.iload 7, 2) := dk_21 7 (dk_at dksX12_isSo_4 11 rfl rfl)
theorem dX12_isSo_107 : decode cX12_isSo 107 = .ok (.iaload, 1) := dk_46 (dk_at dksX12_isSo_4 13 rfl rfl)
theorem dX12_isSo_108 : decode cX12_isSo 108 = .ok (.imul, 1) := dk_104 (dk_at dksX12_isSo_4 14 rfl rfl)
theorem dX12_isSo_109 : decode cX12_isSo 109 = .ok (.iadd, 1) := dk_96 (dk_at dksX12_isSo_4 15 rfl rfl)
theorem dX12_isSo_110 : decode cX12_isSo 110 = .ok (.aload_n 0, 1) := dk_42 (dk_at dksX12_isSo_4 16 rfl rfl)
theorem dX12_isSo_111 : decode cX12_isSo 111 = .ok (.getfield 161, 3) := dk_180 0 161 (dk_at dksX12_isSo_4 17 rfl rfl)
theorem dX12_isSo_114 : decode cX12_isSo 114 = .ok (.iload 7, 2) := dk_21 7 (dk_at dksX12_isSo_4 20 rfl rfl)
theorem dX12_isSo_116 : decode cX12_isSo 116 = .ok (.iaload, 1) := dk_46 (dk_at dksX12_isSo_4 22 rfl rfl)
theorem dX12_isSo_117 : decode cX12_isSo 117 = .ok (.iadd, 1) := dk_96 (dk_at dksX12_isSo_4 23 rfl rfl)
theorem dX12_isSo_118 : decode cX12_isSo 118 = .ok (.iaload, 1) := dk_46 (dk_at dksX12_isSo_5 0 rfl rfl)
theorem dX12_isSo_119 : decode cX12_isSo 119 = .ok (.aload_n 0, 1) := dk_42 (dk_at dksX12_isSo_5 1 rfl rfl)
theorem dX12_isSo_120 : decode cX12_isSo 120 = .ok (.getfield 167, 3) := dk_180 0 167 (dk_at dksX12_isSo_5 2 rfl rfl)
theorem dX12_isSo_123 : decode cX12_isSo 123 = .ok (.iload 7, 2) := dk_21 7 (dk_at dksX12_isSo_5 5 rfl rfl)
theorem dX12_isSo_125 : decode cX12_isSo 125 = .ok (.iaload, 1) := dk_46 (dk_at dksX12_isSo_5 7 rfl rfl)
theorem dX12_isSo_126 : decode cX12_isSo 126 = .ok (.if_icmp .eq 5, 3) := dk_159 0 5 (dk_at dksX12_isSo_5 8 rfl rfl)
theorem dX12_isSo_129 : decode cX12_isSo 129 = .ok (.iconst 0, 1) := dk_3 (dk_at dksX12_isSo_5 11 rfl rfl)
theorem dX12_isSo_130 : decode cX12_isSo 130 = .ok (.ireturn, 1) := dk_172 (dk_at dksX12_isSo_5 12 rfl rfl)
theorem dX12_isSo_131 : decode cX12_isSo 131 = .ok (.iinc 7 1, 3) := dk_132 7 1 (dk_at dksX12_isSo_5 13 rfl rfl)
theorem dX12_isSo_134 : decode cX12_isSo 134 = .ok (.goto (-60), 3) := dk_167 255 196 (dk_at dksX12_isSo_5 16 rfl rfl)
theorem dX12_isSo_137 : decode cX12_isSo 137 = .ok (.aload_n 0, 1) := dk_42 (dk_at dksX12_isSo_5 19 rfl rfl)
theorem dX12_isSo_138 : decode cX12_isSo 138 = .ok (.invokevirtual 380, 3) := dk_182 1 124 (dk_at dksX12_isSo_5 20 rfl rfl)
theorem dX12_isSo_141 : decode cX12_isSo 141 = .ok (.iinc 6 1, 3) := dk_132 6 1 (dk_at dksX12_isSo_6 0 rfl rfl)
theorem dX12_isSo_144 : decode cX12_isSo 144 = .ok (.goto (-97), 3) := dk_167 255 159 (dk_at dksX12_isSo_6 3 rfl rfl)
theorem dX12_isSo_147 : decode cX12_isSo 147 = .ok (.iconst 1, 1) := dk_4 (dk_at dksX12_isSo_6 6 rfl rfl)
theorem dX12_isSo_148 : decode cX12_isSo 148 = .ok (.ireturn, 1) := dk_172 (dk_at dksX12_isSo_6 7 rfl rfl)
abbrev cX12_hold : ByteArray := prog_24_method_106_code
def yX12_hold : MethodName := ⟨RX12, "hold", "(I)Z"⟩
def dkwX12_hold_2 : List UInt8 := [167, 255, 230, 4, 172]
abbrev dktX12_hold_2 : List UInt8 := dkwX12_hold_2 ++ []
def dkwX12_hold_1 : List UInt8 := [162, 0, 26, 42, 180, 0, 173, 16, 120, 27, 104, 28, 96, 42, 180, 0, 143, 28, 46, 79, 132, 2, 1]
abbrev dktX12_hold_1 : List UInt8 := dkwX12_hold_1 ++ dktX12_hold_2
def dkwX12_hold_0 : List UInt8 := [27, 3, 5, 184, 1, 94, 154, 0, 5, 3, 172, 42, 180, 0, 170, 27, 4, 84, 3, 61, 28, 16, 120]
abbrev dktX12_hold_0 : List UInt8 := dkwX12_hold_0 ++ dktX12_hold_1
theorem dksX12_hold_0 : cX12_hold.data.toList.drop 0 = dktX12_hold_0 := by decide +kernel
theorem dksX12_hold_1 : cX12_hold.data.toList.drop 23 = dktX12_hold_1 := dk_seg dksX12_hold_0 23 rfl rfl
theorem dksX12_hold_2 : cX12_hold.data.toList.drop 46 = dktX12_hold_2 := dk_seg dksX12_hold_1 23 rfl rfl
theorem dX12_hold_0 : decode cX12_hold 0 = .ok (.iload_n 1, 1) := dk_27 (dk_at dksX12_hold_0 0 rfl rfl)
theorem dX12_hold_1 : decode cX12_hold 1 = .ok (.iconst 0, 1) := dk_3 (dk_at dksX12_hold_0 1 rfl rfl)
theorem dX12_hold_2 : decode cX12_hold 2 = .ok (.iconst 2, 1) := dk_5 (dk_at dksX12_hold_0 2 rfl rfl)
theorem dX12_hold_3 : decode cX12_hold 3 = .ok (.invokestatic 350, 3) := dk_184 1 94 (dk_at dksX12_hold_0 3 rfl rfl)
theorem dX12_hold_6 : decode cX12_hold 6 = .ok (.ifCond .ne 5, 3) := dk_154 0 5 (dk_at dksX12_hold_0 6 rfl rfl)
theorem dX12_hold_9 : decode cX12_hold 9 = .ok (.iconst 0, 1) := dk_3 (dk_at dksX12_hold_0 9 rfl rfl)
theorem dX12_hold_10 : decode cX12_hold 10 = .ok (.ireturn, 1) := dk_172 (dk_at dksX12_hold_0 10 rfl rfl)
theorem dX12_hold_11 : decode cX12_hold 11 = .ok (.aload_n 0, 1) := dk_42 (dk_at dksX12_hold_0 11 rfl rfl)
theorem dX12_hold_12 : decode cX12_hold 12 = .ok (.getfield 170, 3) := dk_180 0 170 (dk_at dksX12_hold_0 12 rfl rfl)
theorem dX12_hold_15 : decode cX12_hold 15 = .ok (.iload_n 1, 1) := dk_27 (dk_at dksX12_hold_0 15 rfl rfl)
theorem dX12_hold_16 : decode cX12_hold 16 = .ok (.iconst 1, 1) := dk_4 (dk_at dksX12_hold_0 16 rfl rfl)
theorem dX12_hold_17 : decode cX12_hold 17 = .ok (.bastore, 1) := dk_84 (dk_at dksX12_hold_0 17 rfl rfl)
theorem dX12_hold_18 : decode cX12_hold 18 = .ok (.iconst 0, 1) := dk_3 (dk_at dksX12_hold_0 18 rfl rfl)
theorem dX12_hold_19 : decode cX12_hold 19 = .ok (.istore_n 2, 1) := dk_61 (dk_at dksX12_hold_0 19 rfl rfl)
theorem dX12_hold_20 : decode cX12_hold 20 = .ok (.iload_n 2, 1) := dk_28 (dk_at dksX12_hold_0 20 rfl rfl)
theorem dX12_hold_21 : decode cX12_hold 21 = .ok (.bipush 120, 2) := dk_16 120 (dk_at dksX12_hold_0 21 rfl rfl)
theorem dX12_hold_23 : decode cX12_hold 23 = .ok (.if_icmp .ge 26, 3) := dk_162 0 26 (dk_at dksX12_hold_1 0 rfl rfl)
theorem dX12_hold_26 : decode cX12_hold 26 = .ok (.aload_n 0, 1) := dk_42 (dk_at dksX12_hold_1 3 rfl rfl)
theorem dX12_hold_27 : decode cX12_hold 27 = .ok (.getfield 173, 3) := dk_180 0 173 (dk_at dksX12_hold_1 4 rfl rfl)
theorem dX12_hold_30 : decode cX12_hold 30 = .ok (.bipush 120, 2) := dk_16 120 (dk_at dksX12_hold_1 7 rfl rfl)
theorem dX12_hold_32 : decode cX12_hold 32 = .ok (.iload_n 1, 1) := dk_27 (dk_at dksX12_hold_1 9 rfl rfl)
theorem dX12_hold_33 : decode cX12_hold 33 = .ok (.imul, 1) := dk_104 (dk_at dksX12_hold_1 10 rfl rfl)
theorem dX12_hold_34 : decode cX12_hold 34 = .ok (.iload_n 2, 1) := dk_28 (dk_at dksX12_hold_1 11 rfl rfl)
theorem dX12_hold_35 : decode cX12_hold 35 = .ok (.iadd, 1) := dk_96 (dk_at dksX12_hold_1 12 rfl rfl)
theorem dX12_hold_36 : decode cX12_hold 36 = .ok (.aload_n 0, 1) := dk_42 (dk_at dksX12_hold_1 13 rfl rfl)
theorem dX12_hold_37 : decode cX12_hold 37 = .ok (.getfield 143, 3) := dk_180 0 143 (dk_at dksX12_hold_1 14 rfl rfl)
theorem dX12_hold_40 : decode cX12_hold 40 = .ok (.iload_n 2, 1) := dk_28 (dk_at dksX12_hold_1 17 rfl rfl)
theorem dX12_hold_41 : decode cX12_hold 41 = .ok (.iaload, 1) := dk_46 (dk_at dksX12_hold_1 18 rfl rfl)
theorem dX12_hold_42 : decode cX12_hold 42 = .ok (.iastore, 1) := dk_79 (dk_at dksX12_hold_1 19 rfl rfl)
theorem dX12_hold_43 : decode cX12_hold 43 = .ok (.iinc 2 1, 3) := dk_132 2 1 (dk_at dksX12_hold_1 20 rfl rfl)
theorem dX12_hold_46 : decode cX12_hold 46 = .ok (.goto (-26), 3) := dk_167 255 230 (dk_at dksX12_hold_2 0 rfl rfl)
theorem dX12_hold_49 : decode cX12_hold 49 = .ok (.iconst 1, 1) := dk_4 (dk_at dksX12_hold_2 3 rfl rfl)
theorem dX12_hold_50 : decode cX12_hold 50 = .ok (.ireturn, 1) := dk_172 (dk_at dksX12_hold_2 4 rfl rfl)
abbrev cX12_restore : ByteArray := prog_24_method_107_code
def yX12_restore : MethodName := ⟨RX12, "restore", "(I)Z"⟩
def dkwX12_restore_2 : List UInt8 := [132, 2, 1, 167, 255, 230, 42, 3, 181, 1, 19, 4, 172]
abbrev dktX12_restore_2 : List UInt8 := dkwX12_restore_2 ++ []
def dkwX12_restore_1 : List UInt8 := [16, 120, 162, 0, 26, 42, 180, 0, 143, 28, 42, 180, 0, 173, 16, 120, 27, 104, 28, 96, 46, 79]
abbrev dktX12_restore_1 : List UInt8 := dkwX12_restore_1 ++ dktX12_restore_2
def dkwX12_restore_0 : List UInt8 := [27, 3, 5, 184, 1, 94, 153, 0, 12, 42, 180, 0, 170, 27, 51, 154, 0, 5, 3, 172, 3, 61, 28]
abbrev dktX12_restore_0 : List UInt8 := dkwX12_restore_0 ++ dktX12_restore_1
theorem dksX12_restore_0 : cX12_restore.data.toList.drop 0 = dktX12_restore_0 := by decide +kernel
theorem dksX12_restore_1 : cX12_restore.data.toList.drop 23 = dktX12_restore_1 := dk_seg dksX12_restore_0 23 rfl rfl
theorem dksX12_restore_2 : cX12_restore.data.toList.drop 45 = dktX12_restore_2 := dk_seg dksX12_restore_1 22 rfl rfl
theorem dX12_restore_0 : decode cX12_restore 0 = .ok (.iload_n 1, 1) := dk_27 (dk_at dksX12_restore_0 0 rfl rfl)
theorem dX12_restore_1 : decode cX12_restore 1 = .ok (.iconst 0, 1) := dk_3 (dk_at dksX12_restore_0 1 rfl rfl)
theorem dX12_restore_2 : decode cX12_restore 2 = .ok (.iconst 2, 1) := dk_5 (dk_at dksX12_restore_0 2 rfl rfl)
theorem dX12_restore_3 : decode cX12_restore 3 = .ok (.invokestatic 350, 3) := dk_184 1 94 (dk_at dksX12_restore_0 3 rfl rfl)
theorem dX12_restore_6 : decode cX12_restore 6 = .ok (.ifCond .eq 12, 3) := dk_153 0 12 (dk_at dksX12_restore_0 6 rfl rfl)
theorem dX12_restore_9 : decode cX12_restore 9 = .ok (.aload_n 0, 1) := dk_42 (dk_at dksX12_restore_0 9 rfl rfl)
theorem dX12_restore_10 : decode cX12_restore 10 = .ok (.getfield 170, 3) := dk_180 0 170 (dk_at dksX12_restore_0 10 rfl rfl)
theorem dX12_restore_13 : decode cX12_restore 13 = .ok (.iload_n 1, 1) := dk_27 (dk_at dksX12_restore_0 13 rfl rfl)
theorem dX12_restore_14 : decode cX12_restore 14 = .ok (.baload, 1) := dk_51 (dk_at dksX12_restore_0 14 rfl rfl)
theorem dX12_restore_15 : decode cX12_restore 15 = .ok (.ifCond .ne 5, 3) := dk_154 0 5 (dk_at dksX12_restore_0 15 rfl rfl)
theorem dX12_restore_18 : decode cX12_restore 18 = .ok (.iconst 0, 1) := dk_3 (dk_at dksX12_restore_0 18 rfl rfl)
theorem dX12_restore_19 : decode cX12_restore 19 = .ok (.ireturn, 1) := dk_172 (dk_at dksX12_restore_0 19 rfl rfl)
theorem dX12_restore_20 : decode cX12_restore 20 = .ok (.iconst 0, 1) := dk_3 (dk_at dksX12_restore_0 20 rfl rfl)
theorem dX12_restore_21 : decode cX12_restore 21 = .ok (.istore_n 2, 1) := dk_61 (dk_at dksX12_restore_0 21 rfl rfl)
theorem dX12_restore_22 : decode cX12_restore 22 = .ok (.iload_n 2, 1) := dk_28 (dk_at dksX12_restore_0 22 rfl rfl)
theorem dX12_restore_23 : decode cX12_restore 23 = .ok (.bipush 120, 2) := dk_16 120 (dk_at dksX12_restore_1 0 rfl rfl)
theorem dX12_restore_25 : decode cX12_restore 25 = .ok (.if_icmp .ge 26, 3) := dk_162 0 26 (dk_at dksX12_restore_1 2 rfl rfl)
theorem dX12_restore_28 : decode cX12_restore 28 = .ok (.aload_n 0, 1) := dk_42 (dk_at dksX12_restore_1 5 rfl rfl)
theorem dX12_restore_29 : decode cX12_restore 29 = .ok (.getfield 143, 3) := dk_180 0 143 (dk_at dksX12_restore_1 6 rfl rfl)
theorem dX12_restore_32 : decode cX12_restore 32 = .ok (.iload_n 2, 1) := dk_28 (dk_at dksX12_restore_1 9 rfl rfl)
theorem dX12_restore_33 : decode cX12_restore 33 = .ok (.aload_n 0, 1) := dk_42 (dk_at dksX12_restore_1 10 rfl rfl)
theorem dX12_restore_34 : decode cX12_restore 34 = .ok (.getfield 173, 3) := dk_180 0 173 (dk_at dksX12_restore_1 11 rfl rfl)
theorem dX12_restore_37 : decode cX12_restore 37 = .ok (.bipush 120, 2) := dk_16 120 (dk_at dksX12_restore_1 14 rfl rfl)
theorem dX12_restore_39 : decode cX12_restore 39 = .ok (.iload_n 1, 1) := dk_27 (dk_at dksX12_restore_1 16 rfl rfl)
theorem dX12_restore_40 : decode cX12_restore 40 = .ok (.imul, 1) := dk_104 (dk_at dksX12_restore_1 17 rfl rfl)
theorem dX12_restore_41 : decode cX12_restore 41 = .ok (.iload_n 2, 1) := dk_28 (dk_at dksX12_restore_1 18 rfl rfl)
theorem dX12_restore_42 : decode cX12_restore 42 = .ok (.iadd, 1) := dk_96 (dk_at dksX12_restore_1 19 rfl rfl)
theorem dX12_restore_43 : decode cX12_restore 43 = .ok (.iaload, 1) := dk_46 (dk_at dksX12_restore_1 20 rfl rfl)
theorem dX12_restore_44 : decode cX12_restore 44 = .ok (.iastore, 1) := dk_79 (dk_at dksX12_restore_1 21 rfl rfl)
theorem dX12_restore_45 : decode cX12_restore 45 = .ok (.iinc 2 1, 3) := dk_132 2 1 (dk_at dksX12_restore_2 0 rfl rfl)
theorem dX12_restore_48 : decode cX12_restore 48 = .ok (.goto (-26), 3) := dk_167 255 230 (dk_at dksX12_restore_2 3 rfl rfl)
theorem dX12_restore_51 : decode cX12_restore 51 = .ok (.aload_n 0, 1) := dk_42 (dk_at dksX12_restore_2 6 rfl rfl)
theorem dX12_restore_52 : decode cX12_restore 52 = .ok (.iconst 0, 1) := dk_3 (dk_at dksX12_restore_2 7 rfl rfl)
theorem dX12_restore_53 : decode cX12_restore 53 = .ok (.putfield 275, 3) := dk_181 1 19 (dk_at dksX12_restore_2 8 rfl rfl)
theorem dX12_restore_56 : decode cX12_restore 56 = .ok (.iconst 1, 1) := dk_4 (dk_at dksX12_restore_2 11 rfl rfl)
theorem dX12_restore_57 : decode cX12_restore 57 = .ok (.ireturn, 1) := dk_172 (dk_at dksX12_restore_2 12 rfl rfl)
abbrev cX12_count : ByteArray := prog_24_method_108_code
def yX12_count : MethodName := ⟨RX12, "count", "(I)I"⟩
def dkwX12_count_11 : List UInt8 := [46, 96, 61, 132, 3, 1, 167, 255, 228, 28, 172, 2, 172]
abbrev dktX12_count_11 : List UInt8 := dkwX12_count_11 ++ []
def dkwX12_count_10 : List UInt8 := [3, 62, 29, 42, 180, 0, 67, 42, 180, 1, 1, 46, 162, 0, 21, 28, 42, 180, 0, 146, 16, 58, 29, 96]
abbrev dktX12_count_10 : List UInt8 := dkwX12_count_10 ++ dktX12_count_11
def dkwX12_count_9 : List UInt8 := [3, 96, 172, 42, 182, 1, 139, 42, 182, 1, 179, 42, 4, 182, 1, 182, 96, 42, 3, 182, 1, 182, 96, 61]
abbrev dktX12_count_9 : List UInt8 := dkwX12_count_9 ++ dktX12_count_10
def dkwX12_count_8 : List UInt8 := [4, 51, 153, 0, 7, 4, 167, 0, 4, 3, 96, 42, 180, 0, 170, 5, 51, 153, 0, 7, 4, 167, 0, 4]
abbrev dktX12_count_8 : List UInt8 := dkwX12_count_8 ++ dktX12_count_9
def dkwX12_count_7 : List UInt8 := [172, 42, 180, 1, 22, 172, 42, 180, 0, 170, 3, 51, 153, 0, 7, 4, 167, 0, 4, 3, 42, 180, 0, 170]
abbrev dktX12_count_7 : List UInt8 := dkwX12_count_7 ++ dktX12_count_8
def dkwX12_count_6 : List UInt8 := [180, 0, 143, 16, 118, 46, 172, 42, 180, 0, 143, 16, 119, 46, 172, 42, 180, 0, 190, 172, 42, 180, 1, 19]
abbrev dktX12_count_6 : List UInt8 := dkwX12_count_6 ++ dktX12_count_7
def dkwX12_count_5 : List UInt8 := [16, 42, 29, 96, 46, 6, 160, 0, 9, 28, 4, 29, 120, 128, 61, 132, 3, 1, 167, 255, 221, 28, 172, 42]
abbrev dktX12_count_5 : List UInt8 := dkwX12_count_5 ++ dktX12_count_6
def dkwX12_count_4 : List UInt8 := [46, 172, 3, 61, 3, 62, 29, 42, 180, 0, 67, 42, 180, 1, 1, 46, 162, 0, 28, 42, 180, 0, 143]
abbrev dktX12_count_4 : List UInt8 := dkwX12_count_4 ++ dktX12_count_5
def dkwX12_count_3 : List UInt8 := [42, 180, 1, 1, 46, 172, 42, 180, 0, 82, 42, 180, 1, 1, 46, 172, 42, 180, 0, 143, 16, 110, 27, 96]
abbrev dktX12_count_3 : List UInt8 := dkwX12_count_3 ++ dktX12_count_4
def dkwX12_count_2 : List UInt8 := [42, 180, 0, 49, 42, 180, 1, 1, 46, 172, 42, 180, 0, 58, 42, 180, 1, 1, 46, 172, 42, 180, 0, 67]
abbrev dktX12_count_2 : List UInt8 := dkwX12_count_2 ++ dktX12_count_3
def dkwX12_count_1 : List UInt8 := [170, 0, 0, 0, 0, 1, 49, 0, 0, 0, 0, 0, 0, 0, 15, 0, 0, 0, 79, 0, 0, 0, 89, 0, 0, 0, 99, 0, 0, 0, 109, 0, 0, 0, 119, 0, 0, 0, 119, 0, 0, 0, 119, 0, 0, 0, 119, 0, 0, 0, 129, 0, 0, 0, 173, 0, 0, 0, 181, 0, 0, 0, 189, 0, 0, 0, 194, 0, 0, 0, 199, 0, 0, 0, 204, 0, 0, 0, 249]
abbrev dktX12_count_1 : List UInt8 := dkwX12_count_1 ++ dktX12_count_2
def dkwX12_count_0 : List UInt8 := [27]
abbrev dktX12_count_0 : List UInt8 := dkwX12_count_0 ++ dktX12_count_1
theorem dksX12_count_0 : cX12_count.data.toList.drop 0 = dktX12_count_0 := by decide +kernel
theorem dksX12_count_1 : cX12_count.data.toList.drop 1 = dktX12_count_1 := dk_seg dksX12_count_0 1 rfl rfl
theorem dksX12_count_2 : cX12_count.data.toList.drop 80 = dktX12_count_2 := dk_seg dksX12_count_1 79 rfl rfl
theorem dksX12_count_3 : cX12_count.data.toList.drop 104 = dktX12_count_3 := dk_seg dksX12_count_2 24 rfl rfl
theorem dksX12_count_4 : cX12_count.data.toList.drop 128 = dktX12_count_4 := dk_seg dksX12_count_3 24 rfl rfl
theorem dksX12_count_5 : cX12_count.data.toList.drop 151 = dktX12_count_5 := dk_seg dksX12_count_4 23 rfl rfl
theorem dksX12_count_6 : cX12_count.data.toList.drop 175 = dktX12_count_6 := dk_seg dksX12_count_5 24 rfl rfl
theorem dksX12_count_7 : cX12_count.data.toList.drop 199 = dktX12_count_7 := dk_seg dksX12_count_6 24 rfl rfl
theorem dksX12_count_8 : cX12_count.data.toList.drop 223 = dktX12_count_8 := dk_seg dksX12_count_7 24 rfl rfl
theorem dksX12_count_9 : cX12_count.data.toList.drop 247 = dktX12_count_9 := dk_seg dksX12_count_8 24 rfl rfl
theorem dksX12_count_10 : cX12_count.data.toList.drop 271 = dktX12_count_10 := dk_seg dksX12_count_9 24 rfl rfl
theorem dksX12_count_11 : cX12_count.data.toList.drop 295 = dktX12_count_11 := dk_seg dksX12_count_10 24 rfl rfl
theorem dX12_count_0 : decode cX12_count 0 = .ok (.iload_n 1, 1) := dk_27 (dk_at dksX12_count_0 0 rfl rfl)
theorem dX12_count_1 : decode cX12_count 1 = .ok (.tableswitch 305 0 15 #[79, 89, 99, 109, 119, 119, 119, 119, 129, 173, 181, 189, 194, 199, 204, 249], 79) := by decide +kernel
theorem dX12_count_80 : decode cX12_count 80 = .ok (.aload_n 0, 1) := dk_42 (dk_at dksX12_count_2 0 rfl rfl)
theorem dX12_count_81 : decode cX12_count 81 = .ok (.getfield 49, 3) := dk_180 0 49 (dk_at dksX12_count_2 1 rfl rfl)
theorem dX12_count_84 : decode cX12_count 84 = .ok (.aload_n 0, 1) := dk_42 (dk_at dksX12_count_2 4 rfl rfl)
theorem dX12_count_85 : decode cX12_count 85 = .ok (.getfield 257, 3) := dk_180 1 1 (dk_at dksX12_count_2 5 rfl rfl)
theorem dX12_count_88 : decode cX12_count 88 = .ok (.iaload, 1) := dk_46 (dk_at dksX12_count_2 8 rfl rfl)
theorem dX12_count_89 : decode cX12_count 89 = .ok (.ireturn, 1) := dk_172 (dk_at dksX12_count_2 9 rfl rfl)
theorem dX12_count_90 : decode cX12_count 90 = .ok (.aload_n 0, 1) := dk_42 (dk_at dksX12_count_2 10 rfl rfl)
theorem dX12_count_91 : decode cX12_count 91 = .ok (.getfield 58, 3) := dk_180 0 58 (dk_at dksX12_count_2 11 rfl rfl)
theorem dX12_count_94 : decode cX12_count 94 = .ok (.aload_n 0, 1) := dk_42 (dk_at dksX12_count_2 14 rfl rfl)
theorem dX12_count_95 : decode cX12_count 95 = .ok (.getfield 257, 3) := dk_180 1 1 (dk_at dksX12_count_2 15 rfl rfl)
theorem dX12_count_98 : decode cX12_count 98 = .ok (.iaload, 1) := dk_46 (dk_at dksX12_count_2 18 rfl rfl)
theorem dX12_count_99 : decode cX12_count 99 = .ok (.ireturn, 1) := dk_172 (dk_at dksX12_count_2 19 rfl rfl)
theorem dX12_count_100 : decode cX12_count 100 = .ok (.aload_n 0, 1) := dk_42 (dk_at dksX12_count_2 20 rfl rfl)
theorem dX12_count_101 : decode cX12_count 101 = .ok (.getfield 67, 3) := dk_180 0 67 (dk_at dksX12_count_2 21 rfl rfl)
theorem dX12_count_104 : decode cX12_count 104 = .ok (.aload_n 0, 1) := dk_42 (dk_at dksX12_count_3 0 rfl rfl)
theorem dX12_count_105 : decode cX12_count 105 = .ok (.getfield 257, 3) := dk_180 1 1 (dk_at dksX12_count_3 1 rfl rfl)
theorem dX12_count_108 : decode cX12_count 108 = .ok (.iaload, 1) := dk_46 (dk_at dksX12_count_3 4 rfl rfl)
theorem dX12_count_109 : decode cX12_count 109 = .ok (.ireturn, 1) := dk_172 (dk_at dksX12_count_3 5 rfl rfl)
theorem dX12_count_110 : decode cX12_count 110 = .ok (.aload_n 0, 1) := dk_42 (dk_at dksX12_count_3 6 rfl rfl)
theorem dX12_count_111 : decode cX12_count 111 = .ok (.getfield 82, 3) := dk_180 0 82 (dk_at dksX12_count_3 7 rfl rfl)
theorem dX12_count_114 : decode cX12_count 114 = .ok (.aload_n 0, 1) := dk_42 (dk_at dksX12_count_3 10 rfl rfl)
theorem dX12_count_115 : decode cX12_count 115 = .ok (.getfield 257, 3) := dk_180 1 1 (dk_at dksX12_count_3 11 rfl rfl)
theorem dX12_count_118 : decode cX12_count 118 = .ok (.iaload, 1) := dk_46 (dk_at dksX12_count_3 14 rfl rfl)
theorem dX12_count_119 : decode cX12_count 119 = .ok (.ireturn, 1) := dk_172 (dk_at dksX12_count_3 15 rfl rfl)
theorem dX12_count_120 : decode cX12_count 120 = .ok (.aload_n 0, 1) := dk_42 (dk_at dksX12_count_3 16 rfl rfl)
theorem dX12_count_121 : decode cX12_count 121 = .ok (.getfield 143, 3) := dk_180 0 143 (dk_at dksX12_count_3 17 rfl rfl)
theorem dX12_count_124 : decode cX12_count 124 = .ok (.bipush 110, 2) := dk_16 110 (dk_at dksX12_count_3 20 rfl rfl)
theorem dX12_count_126 : decode cX12_count 126 = .ok (.iload_n 1, 1) := dk_27 (dk_at dksX12_count_3 22 rfl rfl)
theorem dX12_count_127 : decode cX12_count 127 = .ok (.iadd, 1) := dk_96 (dk_at dksX12_count_3 23 rfl rfl)
theorem dX12_count_128 : decode cX12_count 128 = .ok (.iaload, 1) := dk_46 (dk_at dksX12_count_4 0 rfl rfl)
theorem dX12_count_129 : decode cX12_count 129 = .ok (.ireturn, 1) := dk_172 (dk_at dksX12_count_4 1 rfl rfl)
theorem dX12_count_130 : decode cX12_count 130 = .ok (.iconst 0, 1) := dk_3 (dk_at dksX12_count_4 2 rfl rfl)
theorem dX12_count_131 : decode cX12_count 131 = .ok (.istore_n 2, 1) := dk_61 (dk_at dksX12_count_4 3 rfl rfl)
theorem dX12_count_132 : decode cX12_count 132 = .ok (.iconst 0, 1) := dk_3 (dk_at dksX12_count_4 4 rfl rfl)
theorem dX12_count_133 : decode cX12_count 133 = .ok (.istore_n 3, 1) := dk_62 (dk_at dksX12_count_4 5 rfl rfl)
theorem dX12_count_134 : decode cX12_count 134 = .ok (.iload_n 3, 1) := dk_29 (dk_at dksX12_count_4 6 rfl rfl)
theorem dX12_count_135 : decode cX12_count 135 = .ok (.aload_n 0, 1) := dk_42 (dk_at dksX12_count_4 7 rfl rfl)
theorem dX12_count_136 : decode cX12_count 136 = .ok (.getfield 67, 3) := dk_180 0 67 (dk_at dksX12_count_4 8 rfl rfl)
theorem dX12_count_139 : decode cX12_count 139 = .ok (.aload_n 0, 1) := dk_42 (dk_at dksX12_count_4 11 rfl rfl)
theorem dX12_count_140 : decode cX12_count 140 = .ok (.getfield 257, 3) := dk_180 1 1 (dk_at dksX12_count_4 12 rfl rfl)
theorem dX12_count_143 : decode cX12_count 143 = .ok (.iaload, 1) := dk_46 (dk_at dksX12_count_4 15 rfl rfl)
theorem dX12_count_144 : decode cX12_count 144 = .ok (.if_icmp .ge 28, 3) := dk_162 0 28 (dk_at dksX12_count_4 16 rfl rfl)
theorem dX12_count_147 : decode cX12_count 147 = .ok (.aload_n 0, 1) := dk_42 (dk_at dksX12_count_4 19 rfl rfl)
theorem dX12_count_148 : decode cX12_count 148 = .ok (.getfield 143, 3) := dk_180 0 143 (dk_at dksX12_count_4 20 rfl rfl)
theorem dX12_count_151 : decode cX12_count 151 = .ok (.bipush 42, 2) := dk_16 42 (dk_at dksX12_count_5 0 rfl rfl)
theorem dX12_count_153 : decode cX12_count 153 = .ok (.iload_n 3, 1) := dk_29 (dk_at dksX12_count_5 2 rfl rfl)
theorem dX12_count_154 : decode cX12_count 154 = .ok (.iadd, 1) := dk_96 (dk_at dksX12_count_5 3 rfl rfl)
theorem dX12_count_155 : decode cX12_count 155 = .ok (.iaload, 1) := dk_46 (dk_at dksX12_count_5 4 rfl rfl)
theorem dX12_count_156 : decode cX12_count 156 = .ok (.iconst 3, 1) := dk_6 (dk_at dksX12_count_5 5 rfl rfl)
theorem dX12_count_157 : decode cX12_count 157 = .ok (.if_icmp .ne 9, 3) := dk_160 0 9 (dk_at dksX12_count_5 6 rfl rfl)
theorem dX12_count_160 : decode cX12_count 160 = .ok (.iload_n 2, 1) := dk_28 (dk_at dksX12_count_5 9 rfl rfl)
theorem dX12_count_161 : decode cX12_count 161 = .ok (.iconst 1, 1) := dk_4 (dk_at dksX12_count_5 10 rfl rfl)
theorem dX12_count_162 : decode cX12_count 162 = .ok (.iload_n 3, 1) := dk_29 (dk_at dksX12_count_5 11 rfl rfl)
theorem dX12_count_163 : decode cX12_count 163 = .ok (.ishl, 1) := dk_120 (dk_at dksX12_count_5 12 rfl rfl)
theorem dX12_count_164 : decode cX12_count 164 = .ok (.ior, 1) := dk_128 (dk_at dksX12_count_5 13 rfl rfl)
theorem dX12_count_165 : decode cX12_count 165 = .ok (.istore_n 2, 1) := dk_61 (dk_at dksX12_count_5 14 rfl rfl)
theorem dX12_count_166 : decode cX12_count 166 = .ok (.iinc 3 1, 3) := dk_132 3 1 (dk_at dksX12_count_5 15 rfl rfl)
theorem dX12_count_169 : decode cX12_count 169 = .ok (.goto (-35), 3) := dk_167 255 221 (dk_at dksX12_count_5 18 rfl rfl)
theorem dX12_count_172 : decode cX12_count 172 = .ok (.iload_n 2, 1) := dk_28 (dk_at dksX12_count_5 21 rfl rfl)
theorem dX12_count_173 : decode cX12_count 173 = .ok (.ireturn, 1) := dk_172 (dk_at dksX12_count_5 22 rfl rfl)
theorem dX12_count_174 : decode cX12_count 174 = .ok (.aload_n 0, 1) := dk_42 (dk_at dksX12_count_5 23 rfl rfl)
theorem dX12_count_175 : decode cX12_count 175 = .ok (.getfield 143, 3) := dk_180 0 143 (dk_at dksX12_count_6 0 rfl rfl)
theorem dX12_count_178 : decode cX12_count 178 = .ok (.bipush 118, 2) := dk_16 118 (dk_at dksX12_count_6 3 rfl rfl)
theorem dX12_count_180 : decode cX12_count 180 = .ok (.iaload, 1) := dk_46 (dk_at dksX12_count_6 5 rfl rfl)
theorem dX12_count_181 : decode cX12_count 181 = .ok (.ireturn, 1) := dk_172 (dk_at dksX12_count_6 6 rfl rfl)
theorem dX12_count_182 : decode cX12_count 182 = .ok (.aload_n 0, 1) := dk_42 (dk_at dksX12_count_6 7 rfl rfl)
theorem dX12_count_183 : decode cX12_count 183 = .ok (.getfield 143, 3) := dk_180 0 143 (dk_at dksX12_count_6 8 rfl rfl)
theorem dX12_count_186 : decode cX12_count 186 = .ok (.bipush 119, 2) := dk_16 119 (dk_at dksX12_count_6 11 rfl rfl)
theorem dX12_count_188 : decode cX12_count 188 = .ok (.iaload, 1) := dk_46 (dk_at dksX12_count_6 13 rfl rfl)
theorem dX12_count_189 : decode cX12_count 189 = .ok (.ireturn, 1) := dk_172 (dk_at dksX12_count_6 14 rfl rfl)
theorem dX12_count_190 : decode cX12_count 190 = .ok (.aload_n 0, 1) := dk_42 (dk_at dksX12_count_6 15 rfl rfl)
theorem dX12_count_191 : decode cX12_count 191 = .ok (.getfield 190, 3) := dk_180 0 190 (dk_at dksX12_count_6 16 rfl rfl)
theorem dX12_count_194 : decode cX12_count 194 = .ok (.ireturn, 1) := dk_172 (dk_at dksX12_count_6 19 rfl rfl)
theorem dX12_count_195 : decode cX12_count 195 = .ok (.aload_n 0, 1) := dk_42 (dk_at dksX12_count_6 20 rfl rfl)
theorem dX12_count_196 : decode cX12_count 196 = .ok (.getfield 275, 3) := dk_180 1 19 (dk_at dksX12_count_6 21 rfl rfl)
theorem dX12_count_199 : decode cX12_count 199 = .ok (.ireturn, 1) := dk_172 (dk_at dksX12_count_7 0 rfl rfl)
theorem dX12_count_200 : decode cX12_count 200 = .ok (.aload_n 0, 1) := dk_42 (dk_at dksX12_count_7 1 rfl rfl)
theorem dX12_count_201 : decode cX12_count 201 = .ok (.getfield 278, 3) := dk_180 1 22 (dk_at dksX12_count_7 2 rfl rfl)
theorem dX12_count_204 : decode cX12_count 204 = .ok (.ireturn, 1) := dk_172 (dk_at dksX12_count_7 5 rfl rfl)
theorem dX12_count_205 : decode cX12_count 205 = .ok (.aload_n 0, 1) := dk_42 (dk_at dksX12_count_7 6 rfl rfl)
theorem dX12_count_206 : decode cX12_count 206 = .ok (.getfield 170, 3) := dk_180 0 170 (dk_at dksX12_count_7 7 rfl rfl)
theorem dX12_count_209 : decode cX12_count 209 = .ok (.iconst 0, 1) := dk_3 (dk_at dksX12_count_7 10 rfl rfl)
theorem dX12_count_210 : decode cX12_count 210 = .ok (.baload, 1) := dk_51 (dk_at dksX12_count_7 11 rfl rfl)
theorem dX12_count_211 : decode cX12_count 211 = .ok (.ifCond .eq 7, 3) := dk_153 0 7 (dk_at dksX12_count_7 12 rfl rfl)
theorem dX12_count_214 : decode cX12_count 214 = .ok (.iconst 1, 1) := dk_4 (dk_at dksX12_count_7 15 rfl rfl)
theorem dX12_count_215 : decode cX12_count 215 = .ok (.goto 4, 3) := dk_167 0 4 (dk_at dksX12_count_7 16 rfl rfl)
theorem dX12_count_218 : decode cX12_count 218 = .ok (.iconst 0, 1) := dk_3 (dk_at dksX12_count_7 19 rfl rfl)
theorem dX12_count_219 : decode cX12_count 219 = .ok (.aload_n 0, 1) := dk_42 (dk_at dksX12_count_7 20 rfl rfl)
theorem dX12_count_220 : decode cX12_count 220 = .ok (.getfield 170, 3) := dk_180 0 170 (dk_at dksX12_count_7 21 rfl rfl)
theorem dX12_count_223 : decode cX12_count 223 = .ok (.iconst 1, 1) := dk_4 (dk_at dksX12_count_8 0 rfl rfl)
theorem dX12_count_224 : decode cX12_count 224 = .ok (.baload, 1) := dk_51 (dk_at dksX12_count_8 1 rfl rfl)
theorem dX12_count_225 : decode cX12_count 225 = .ok (.ifCond .eq 7, 3) := dk_153 0 7 (dk_at dksX12_count_8 2 rfl rfl)
theorem dX12_count_228 : decode cX12_count 228 = .ok (.iconst 1, 1) := dk_4 (dk_at dksX12_count_8 5 rfl rfl)
theorem dX12_count_229 : decode cX12_count 229 = .ok (.goto 4, 3) := dk_167 0 4 (dk_at dksX12_count_8 6 rfl rfl)
theorem dX12_count_232 : decode cX12_count 232 = .ok (.iconst 0, 1) := dk_3 (dk_at dksX12_count_8 9 rfl rfl)
theorem dX12_count_233 : decode cX12_count 233 = .ok (.iadd, 1) := dk_96 (dk_at dksX12_count_8 10 rfl rfl)
theorem dX12_count_234 : decode cX12_count 234 = .ok (.aload_n 0, 1) := dk_42 (dk_at dksX12_count_8 11 rfl rfl)
theorem dX12_count_235 : decode cX12_count 235 = .ok (.getfield 170, 3) := dk_180 0 170 (dk_at dksX12_count_8 12 rfl rfl)
theorem dX12_count_238 : decode cX12_count 238 = .ok (.iconst 2, 1) := dk_5 (dk_at dksX12_count_8 15 rfl rfl)
theorem dX12_count_239 : decode cX12_count 239 = .ok (.baload, 1) := dk_51 (dk_at dksX12_count_8 16 rfl rfl)
theorem dX12_count_240 : decode cX12_count 240 = .ok (.ifCond .eq 7, 3) := dk_153 0 7 (dk_at dksX12_count_8 17 rfl rfl)
theorem dX12_count_243 : decode cX12_count 243 = .ok (.iconst 1, 1) := dk_4 (dk_at dksX12_count_8 20 rfl rfl)
theorem dX12_count_244 : decode cX12_count 244 = .ok (.goto 4, 3) := dk_167 0 4 (dk_at dksX12_count_8 21 rfl rfl)
theorem dX12_count_247 : decode cX12_count 247 = .ok (.iconst 0, 1) := dk_3 (dk_at dksX12_count_9 0 rfl rfl)
theorem dX12_count_248 : decode cX12_count 248 = .ok (.iadd, 1) := dk_96 (dk_at dksX12_count_9 1 rfl rfl)
theorem dX12_count_249 : decode cX12_count 249 = .ok (.ireturn, 1) := dk_172 (dk_at dksX12_count_9 2 rfl rfl)
theorem dX12_count_250 : decode cX12_count 250 = .ok (.aload_n 0, 1) := dk_42 (dk_at dksX12_count_9 3 rfl rfl)
theorem dX12_count_251 : decode cX12_count 251 = .ok (.invokevirtual 395, 3) := dk_182 1 139 (dk_at dksX12_count_9 4 rfl rfl)
theorem dX12_count_254 : decode cX12_count 254 = .ok (.aload_n 0, 1) := dk_42 (dk_at dksX12_count_9 7 rfl rfl)
theorem dX12_count_255 : decode cX12_count 255 = .ok (.invokevirtual 435, 3) := dk_182 1 179 (dk_at dksX12_count_9 8 rfl rfl)
theorem dX12_count_258 : decode cX12_count 258 = .ok (.aload_n 0, 1) := dk_42 (dk_at dksX12_count_9 11 rfl rfl)
theorem dX12_count_259 : decode cX12_count 259 = .ok (.iconst 1, 1) := dk_4 (dk_at dksX12_count_9 12 rfl rfl)
theorem dX12_count_260 : decode cX12_count 260 = .ok (.invokevirtual 438, 3) := dk_182 1 182 (dk_at dksX12_count_9 13 rfl rfl)
theorem dX12_count_263 : decode cX12_count 263 = .ok (.iadd, 1) := dk_96 (dk_at dksX12_count_9 16 rfl rfl)
theorem dX12_count_264 : decode cX12_count 264 = .ok (.aload_n 0, 1) := dk_42 (dk_at dksX12_count_9 17 rfl rfl)
theorem dX12_count_265 : decode cX12_count 265 = .ok (.iconst 0, 1) := dk_3 (dk_at dksX12_count_9 18 rfl rfl)
theorem dX12_count_266 : decode cX12_count 266 = .ok (.invokevirtual 438, 3) := dk_182 1 182 (dk_at dksX12_count_9 19 rfl rfl)
theorem dX12_count_269 : decode cX12_count 269 = .ok (.iadd, 1) := dk_96 (dk_at dksX12_count_9 22 rfl rfl)
theorem dX12_count_270 : decode cX12_count 270 = .ok (.istore_n 2, 1) := dk_61 (dk_at dksX12_count_9 23 rfl rfl)
theorem dX12_count_271 : decode cX12_count 271 = .ok (.iconst 0, 1) := dk_3 (dk_at dksX12_count_10 0 rfl rfl)
theorem dX12_count_272 : decode cX12_count 272 = .ok (.istore_n 3, 1) := dk_62 (dk_at dksX12_count_10 1 rfl rfl)
theorem dX12_count_273 : decode cX12_count 273 = .ok (.iload_n 3, 1) := dk_29 (dk_at dksX12_count_10 2 rfl rfl)
theorem dX12_count_274 : decode cX12_count 274 = .ok (.aload_n 0, 1) := dk_42 (dk_at dksX12_count_10 3 rfl rfl)
theorem dX12_count_275 : decode cX12_count 275 = .ok (.getfield 67, 3) := dk_180 0 67 (dk_at dksX12_count_10 4 rfl rfl)
theorem dX12_count_278 : decode cX12_count 278 = .ok (.aload_n 0, 1) := dk_42 (dk_at dksX12_count_10 7 rfl rfl)
theorem dX12_count_279 : decode cX12_count 279 = .ok (.getfield 257, 3) := dk_180 1 1 (dk_at dksX12_count_10 8 rfl rfl)
theorem dX12_count_282 : decode cX12_count 282 = .ok (.iaload, 1) := dk_46 (dk_at dksX12_count_10 11 rfl rfl)
theorem dX12_count_283 : decode cX12_count 283 = .ok (.if_icmp .ge 21, 3) := dk_162 0 21 (dk_at dksX12_count_10 12 rfl rfl)
theorem dX12_count_286 : decode cX12_count 286 = .ok (.iload_n 2, 1) := dk_28 (dk_at dksX12_count_10 15 rfl rfl)
theorem dX12_count_287 : decode cX12_count 287 = .ok (.aload_n 0, 1) := dk_42 (dk_at dksX12_count_10 16 rfl rfl)
theorem dX12_count_288 : decode cX12_count 288 = .ok (.getfield 146, 3) := dk_180 0 146 (dk_at dksX12_count_10 17 rfl rfl)
theorem dX12_count_291 : decode cX12_count 291 = .ok (.bipush 58, 2) := dk_16 58 (dk_at dksX12_count_10 20 rfl rfl)
theorem dX12_count_293 : decode cX12_count 293 = .ok (.iload_n 3, 1) := dk_29 (dk_at dksX12_count_10 22 rfl rfl)
theorem dX12_count_294 : decode cX12_count 294 = .ok (.iadd, 1) := dk_96 (dk_at dksX12_count_10 23 rfl rfl)
theorem dX12_count_295 : decode cX12_count 295 = .ok (.iaload, 1) := dk_46 (dk_at dksX12_count_11 0 rfl rfl)
theorem dX12_count_296 : decode cX12_count 296 = .ok (.iadd, 1) := dk_96 (dk_at dksX12_count_11 1 rfl rfl)
theorem dX12_count_297 : decode cX12_count 297 = .ok (.istore_n 2, 1) := dk_61 (dk_at dksX12_count_11 2 rfl rfl)
theorem dX12_count_298 : decode cX12_count 298 = .ok (.iinc 3 1, 3) := dk_132 3 1 (dk_at dksX12_count_11 3 rfl rfl)
theorem dX12_count_301 : decode cX12_count 301 = .ok (.goto (-28), 3) := dk_167 255 228 (dk_at dksX12_count_11 6 rfl rfl)
theorem dX12_count_304 : decode cX12_count 304 = .ok (.iload_n 2, 1) := dk_28 (dk_at dksX12_count_11 9 rfl rfl)
theorem dX12_count_305 : decode cX12_count 305 = .ok (.ireturn, 1) := dk_172 (dk_at dksX12_count_11 10 rfl rfl)
theorem dX12_count_306 : decode cX12_count 306 = .ok (.iconst (-1), 1) := dk_2 (dk_at dksX12_count_11 11 rfl rfl)
theorem dX12_count_307 : decode cX12_count 307 = .ok (.ireturn, 1) := dk_172 (dk_at dksX12_count_11 12 rfl rfl)
theorem q133 : (Jvm.Cond.initialized "RatSortersModel") ∈ lw_all := lw_g (lw_at lw_m1 21 rfl) rfl
theorem q1050 : (Jvm.Cond.selects "RatSortersModel" ({ cls := "java/lang/Object", name := "getClass", desc := "()Ljava/lang/Class;" } : Jvm.MethodName) ({ cls := "java/lang/Object", name := "getClass", desc := "()Ljava/lang/Class;" } : Jvm.MethodName)) ∈ lw_all := lw_g (lw_at lw_m4 218 rfl) rfl
theorem q1609 : (Jvm.Cond.instantiable "RatSortersModel" (75 : Nat)) ∈ lw_all := lw_g (lw_at lw_m7 57 rfl) rfl
theorem q1611 : (Jvm.Cond.instanceMethod ({ cls := "RatSortersModel", name := "<init>", desc := "()V" } : Jvm.MethodName)) ∈ lw_all := lw_g (lw_at lw_m7 59 rfl) rfl
theorem q1612 : (Jvm.Cond.code ({ cls := "RatSortersModel", name := "<init>", desc := "()V" } : Jvm.MethodName) prog_24_method_2_code (1 : Nat) (Option.none : Option Jvm.ClassFile.FieldType)) ∈ lw_all := lw_g (lw_at lw_m7 60 rfl) rfl
theorem q1613 : (Jvm.Cond.methodLink "RatSortersModel" (7 : Nat) ({ cls := "java/lang/Object", name := "<init>", desc := "()V" } : Jvm.MethodName)) ∈ lw_all := lw_g (lw_at lw_m7 61 rfl) rfl
theorem q1614 : (Jvm.Cond.methodLink "RatSortersModel" (176 : Nat) ({ cls := "RatSortersModel", name := "plain", desc := "(I)V" } : Jvm.MethodName)) ∈ lw_all := lw_g (lw_at lw_m7 62 rfl) rfl
theorem q1615 : (Jvm.Cond.privateMethod ({ cls := "RatSortersModel", name := "plain", desc := "(I)V" } : Jvm.MethodName)) ∈ lw_tbl := lw_at lw_m7 63 rfl
theorem q1616 : (Jvm.Cond.instanceMethod ({ cls := "RatSortersModel", name := "plain", desc := "(I)V" } : Jvm.MethodName)) ∈ lw_all := lw_g (lw_at lw_m7 64 rfl) rfl
theorem q1617 : (Jvm.Cond.code ({ cls := "RatSortersModel", name := "plain", desc := "(I)V" } : Jvm.MethodName) prog_24_method_19_code (3 : Nat) (Option.none : Option Jvm.ClassFile.FieldType)) ∈ lw_all := lw_g (lw_at lw_m7 65 rfl) rfl
theorem q1618 : (Jvm.Cond.methodLink "RatSortersModel" (180 : Nat) ({ cls := "RatSortersModel", name := "word", desc := "(IIIIIII)J" } : Jvm.MethodName)) ∈ lw_all := lw_g (lw_at lw_m7 66 rfl) rfl
theorem q1619 : (Jvm.Cond.static ({ cls := "RatSortersModel", name := "word", desc := "(IIIIIII)J" } : Jvm.MethodName)) ∈ lw_all := lw_g (lw_at lw_m7 67 rfl) rfl
theorem q1620 : (Jvm.Cond.code ({ cls := "RatSortersModel", name := "word", desc := "(IIIIIII)J" } : Jvm.MethodName) prog_24_method_10_code (7 : Nat) (Option.some Jvm.ClassFile.FieldType.long)) ∈ lw_all := lw_g (lw_at lw_m7 68 rfl) rfl
theorem q1621 : (Jvm.Cond.methodLink "RatSortersModel" (201 : Nat) ({ cls := "RatSortersModel", name := "appends", desc := "(JI)J" } : Jvm.MethodName)) ∈ lw_all := lw_g (lw_at lw_m7 69 rfl) rfl
theorem q1622 : (Jvm.Cond.static ({ cls := "RatSortersModel", name := "appends", desc := "(JI)J" } : Jvm.MethodName)) ∈ lw_all := lw_g (lw_at lw_m7 70 rfl) rfl
theorem q1623 : (Jvm.Cond.code ({ cls := "RatSortersModel", name := "appends", desc := "(JI)J" } : Jvm.MethodName) prog_24_method_9_code (3 : Nat) (Option.some Jvm.ClassFile.FieldType.long)) ∈ lw_all := lw_g (lw_at lw_m7 71 rfl) rfl
theorem q1624 : (Jvm.Cond.constantLong "RatSortersModel" (199 : Nat) (27 : Int64)) ∈ lw_all := lw_g (lw_at lw_m7 72 rfl) rfl
theorem q1625 : (Jvm.Cond.methodLink "RatSortersModel" (184 : Nat) ({ cls := "RatSortersModel", name := "begins", desc := "()V" } : Jvm.MethodName)) ∈ lw_all := lw_g (lw_at lw_m7 73 rfl) rfl
theorem q1626 : (Jvm.Cond.privateMethod ({ cls := "RatSortersModel", name := "begins", desc := "()V" } : Jvm.MethodName)) ∈ lw_tbl := lw_at lw_m7 74 rfl
theorem q1627 : (Jvm.Cond.instanceMethod ({ cls := "RatSortersModel", name := "begins", desc := "()V" } : Jvm.MethodName)) ∈ lw_all := lw_g (lw_at lw_m7 75 rfl) rfl
theorem q1628 : (Jvm.Cond.code ({ cls := "RatSortersModel", name := "begins", desc := "()V" } : Jvm.MethodName) prog_24_method_41_code (2 : Nat) (Option.none : Option Jvm.ClassFile.FieldType)) ∈ lw_all := lw_g (lw_at lw_m7 76 rfl) rfl
theorem q1629 : (Jvm.Cond.methodLink "RatSortersModel" (347 : Nat) ({ cls := "RatSortersModel", name := "plainly", desc := "()V" } : Jvm.MethodName)) ∈ lw_all := lw_g (lw_at lw_m7 77 rfl) rfl
theorem q1630 : (Jvm.Cond.privateMethod ({ cls := "RatSortersModel", name := "plainly", desc := "()V" } : Jvm.MethodName)) ∈ lw_tbl := lw_at lw_m7 78 rfl
theorem q1631 : (Jvm.Cond.instanceMethod ({ cls := "RatSortersModel", name := "plainly", desc := "()V" } : Jvm.MethodName)) ∈ lw_all := lw_g (lw_at lw_m7 79 rfl) rfl
theorem q1632 : (Jvm.Cond.code ({ cls := "RatSortersModel", name := "plainly", desc := "()V" } : Jvm.MethodName) prog_24_method_40_code (2 : Nat) (Option.none : Option Jvm.ClassFile.FieldType)) ∈ lw_all := lw_g (lw_at lw_m7 80 rfl) rfl
theorem q1633 : (Jvm.Cond.methodLink "RatSortersModel" (187 : Nat) ({ cls := "RatSortersModel", name := "keepsRow", desc := "()V" } : Jvm.MethodName)) ∈ lw_all := lw_g (lw_at lw_m7 81 rfl) rfl
theorem q1634 : (Jvm.Cond.privateMethod ({ cls := "RatSortersModel", name := "keepsRow", desc := "()V" } : Jvm.MethodName)) ∈ lw_tbl := lw_at lw_m7 82 rfl
theorem q1635 : (Jvm.Cond.instanceMethod ({ cls := "RatSortersModel", name := "keepsRow", desc := "()V" } : Jvm.MethodName)) ∈ lw_all := lw_g (lw_at lw_m7 83 rfl) rfl
theorem q1636 : (Jvm.Cond.code ({ cls := "RatSortersModel", name := "keepsRow", desc := "()V" } : Jvm.MethodName) prog_24_method_42_code (2 : Nat) (Option.none : Option Jvm.ClassFile.FieldType)) ∈ lw_all := lw_g (lw_at lw_m7 84 rfl) rfl
theorem q1637 : (Jvm.Cond.fieldLink "RatSortersModel" (13 : Nat) "RatSortersModel" "tape" "[B") ∈ lw_all := lw_g (lw_at lw_m7 85 rfl) rfl
theorem q1638 : (Jvm.Cond.fieldLink "RatSortersModel" (190 : Nat) "RatSortersModel" "taped" "I") ∈ lw_all := lw_g (lw_at lw_m7 86 rfl) rfl
theorem q1639 : (Jvm.Cond.fieldLink "RatSortersModel" (17 : Nat) "RatSortersModel" "text" "[B") ∈ lw_all := lw_g (lw_at lw_m7 87 rfl) rfl
theorem q1640 : (Jvm.Cond.fieldLink "RatSortersModel" (196 : Nat) "RatSortersModel" "size" "I") ∈ lw_all := lw_g (lw_at lw_m7 88 rfl) rfl
theorem q1641 : (Jvm.Cond.fieldLink "RatSortersModel" (20 : Nat) "RatSortersModel" "tKind" "[I") ∈ lw_all := lw_g (lw_at lw_m7 89 rfl) rfl
theorem q1642 : (Jvm.Cond.fieldLink "RatSortersModel" (24 : Nat) "RatSortersModel" "tPlace" "[I") ∈ lw_all := lw_g (lw_at lw_m7 90 rfl) rfl
theorem q1643 : (Jvm.Cond.fieldLink "RatSortersModel" (27 : Nat) "RatSortersModel" "tValue" "[I") ∈ lw_all := lw_g (lw_at lw_m7 91 rfl) rfl
theorem q1644 : (Jvm.Cond.fieldLink "RatSortersModel" (30 : Nat) "RatSortersModel" "tName" "[J") ∈ lw_all := lw_g (lw_at lw_m7 92 rfl) rfl
theorem q1645 : (Jvm.Cond.fieldLink "RatSortersModel" (34 : Nat) "RatSortersModel" "keys" "[J") ∈ lw_all := lw_g (lw_at lw_m7 93 rfl) rfl
theorem q1646 : (Jvm.Cond.fieldLink "RatSortersModel" (205 : Nat) "RatSortersModel" "tokens" "I") ∈ lw_all := lw_g (lw_at lw_m7 94 rfl) rfl
theorem q1647 : (Jvm.Cond.fieldLink "RatSortersModel" (230 : Nat) "RatSortersModel" "t" "I") ∈ lw_all := lw_g (lw_at lw_m7 95 rfl) rfl
theorem q1648 : (Jvm.Cond.fieldLink "RatSortersModel" (254 : Nat) "RatSortersModel" "open" "I") ∈ lw_all := lw_g (lw_at lw_m7 96 rfl) rfl
theorem q1649 : (Jvm.Cond.fieldLink "RatSortersModel" (227 : Nat) "RatSortersModel" "fault" "I") ∈ lw_all := lw_g (lw_at lw_m7 97 rfl) rfl
theorem q1650 : (Jvm.Cond.fieldLink "RatSortersModel" (233 : Nat) "RatSortersModel" "faultPlace" "I") ∈ lw_all := lw_g (lw_at lw_m7 98 rfl) rfl
theorem q1651 : (Jvm.Cond.fieldLink "RatSortersModel" (236 : Nat) "RatSortersModel" "worst" "I") ∈ lw_all := lw_g (lw_at lw_m7 99 rfl) rfl
theorem q1652 : (Jvm.Cond.fieldLink "RatSortersModel" (239 : Nat) "RatSortersModel" "worstPlace" "I") ∈ lw_all := lw_g (lw_at lw_m7 100 rfl) rfl
theorem q1653 : (Jvm.Cond.fieldLink "RatSortersModel" (37 : Nat) "RatSortersModel" "place" "I") ∈ lw_all := lw_g (lw_at lw_m7 101 rfl) rfl
theorem q1654 : (Jvm.Cond.fieldLink "RatSortersModel" (257 : Nat) "RatSortersModel" "live" "I") ∈ lw_all := lw_g (lw_at lw_m7 102 rfl) rfl
theorem q1655 : (Jvm.Cond.fieldLink "RatSortersModel" (260 : Nat) "RatSortersModel" "side" "I") ∈ lw_all := lw_g (lw_at lw_m7 103 rfl) rfl
theorem q1656 : (Jvm.Cond.fieldLink "RatSortersModel" (263 : Nat) "RatSortersModel" "names" "I") ∈ lw_all := lw_g (lw_at lw_m7 104 rfl) rfl
theorem q1657 : (Jvm.Cond.fieldLink "RatSortersModel" (40 : Nat) "RatSortersModel" "nameOf" "[J") ∈ lw_all := lw_g (lw_at lw_m7 105 rfl) rfl
theorem q1658 : (Jvm.Cond.fieldLink "RatSortersModel" (43 : Nat) "RatSortersModel" "nameSort" "[I") ∈ lw_all := lw_g (lw_at lw_m7 106 rfl) rfl
theorem q1659 : (Jvm.Cond.fieldLink "RatSortersModel" (46 : Nat) "RatSortersModel" "nameAt" "[I") ∈ lw_all := lw_g (lw_at lw_m7 107 rfl) rfl
theorem q1660 : (Jvm.Cond.fieldLink "RatSortersModel" (49 : Nat) "RatSortersModel" "grains" "[I") ∈ lw_all := lw_g (lw_at lw_m7 108 rfl) rfl
theorem q1661 : (Jvm.Cond.fieldLink "RatSortersModel" (52 : Nat) "RatSortersModel" "poured" "[I") ∈ lw_all := lw_g (lw_at lw_m7 109 rfl) rfl
theorem q1662 : (Jvm.Cond.fieldLink "RatSortersModel" (55 : Nat) "RatSortersModel" "pence" "[I") ∈ lw_all := lw_g (lw_at lw_m7 110 rfl) rfl
theorem q1663 : (Jvm.Cond.fieldLink "RatSortersModel" (58 : Nat) "RatSortersModel" "holes" "[I") ∈ lw_all := lw_g (lw_at lw_m7 111 rfl) rfl
theorem q1664 : (Jvm.Cond.fieldLink "RatSortersModel" (61 : Nat) "RatSortersModel" "farOf" "[I") ∈ lw_all := lw_g (lw_at lw_m7 112 rfl) rfl
theorem q1665 : (Jvm.Cond.fieldLink "RatSortersModel" (64 : Nat) "RatSortersModel" "grainOf" "[I") ∈ lw_all := lw_g (lw_at lw_m7 113 rfl) rfl
theorem q1666 : (Jvm.Cond.fieldLink "RatSortersModel" (67 : Nat) "RatSortersModel" "rats" "[I") ∈ lw_all := lw_g (lw_at lw_m7 114 rfl) rfl
theorem q1667 : (Jvm.Cond.fieldLink "RatSortersModel" (70 : Nat) "RatSortersModel" "knowsTold" "[I") ∈ lw_all := lw_g (lw_at lw_m7 115 rfl) rfl
theorem q1668 : (Jvm.Cond.fieldLink "RatSortersModel" (73 : Nat) "RatSortersModel" "holeOf" "[I") ∈ lw_all := lw_g (lw_at lw_m7 116 rfl) rfl
theorem q1669 : (Jvm.Cond.fieldLink "RatSortersModel" (76 : Nat) "RatSortersModel" "fatTold" "[I") ∈ lw_all := lw_g (lw_at lw_m7 117 rfl) rfl
theorem q1670 : (Jvm.Cond.fieldLink "RatSortersModel" (79 : Nat) "RatSortersModel" "fee" "[I") ∈ lw_all := lw_g (lw_at lw_m7 118 rfl) rfl
theorem q1671 : (Jvm.Cond.fieldLink "RatSortersModel" (82 : Nat) "RatSortersModel" "merchants" "[I") ∈ lw_all := lw_g (lw_at lw_m7 119 rfl) rfl
theorem q1672 : (Jvm.Cond.fieldLink "RatSortersModel" (85 : Nat) "RatSortersModel" "pays" "[I") ∈ lw_all := lw_g (lw_at lw_m7 120 rfl) rfl
theorem q1673 : (Jvm.Cond.fieldLink "RatSortersModel" (88 : Nat) "RatSortersModel" "wants" "[I") ∈ lw_all := lw_g (lw_at lw_m7 121 rfl) rfl
theorem q1674 : (Jvm.Cond.fieldLink "RatSortersModel" (91 : Nat) "RatSortersModel" "wantGrain" "[I") ∈ lw_all := lw_g (lw_at lw_m7 122 rfl) rfl
theorem q1675 : (Jvm.Cond.fieldLink "RatSortersModel" (94 : Nat) "RatSortersModel" "wantMany" "[I") ∈ lw_all := lw_g (lw_at lw_m7 123 rfl) rfl
theorem q1676 : (Jvm.Cond.fieldLink "RatSortersModel" (97 : Nat) "RatSortersModel" "lamp" "[I") ∈ lw_all := lw_g (lw_at lw_m7 124 rfl) rfl
theorem q1677 : (Jvm.Cond.fieldLink "RatSortersModel" (100 : Nat) "RatSortersModel" "odd" "[I") ∈ lw_all := lw_g (lw_at lw_m7 125 rfl) rfl
theorem q1678 : (Jvm.Cond.fieldLink "RatSortersModel" (103 : Nat) "RatSortersModel" "seed" "[I") ∈ lw_all := lw_g (lw_at lw_m7 126 rfl) rfl
theorem q1679 : (Jvm.Cond.fieldLink "RatSortersModel" (106 : Nat) "RatSortersModel" "lawFirst" "[I") ∈ lw_all := lw_g (lw_at lw_m7 127 rfl) rfl
theorem q1680 : (Jvm.Cond.fieldLink "RatSortersModel" (109 : Nat) "RatSortersModel" "lawLast" "[I") ∈ lw_all := lw_g (lw_at lw_m7 128 rfl) rfl
theorem q1681 : (Jvm.Cond.fieldLink "RatSortersModel" (266 : Nat) "RatSortersModel" "branches" "I") ∈ lw_all := lw_g (lw_at lw_m7 129 rfl) rfl
theorem q1682 : (Jvm.Cond.fieldLink "RatSortersModel" (112 : Nat) "RatSortersModel" "hasTest" "[Z") ∈ lw_all := lw_g (lw_at lw_m7 130 rfl) rfl
theorem q1683 : (Jvm.Cond.fieldLink "RatSortersModel" (116 : Nat) "RatSortersModel" "testFrom" "[I") ∈ lw_all := lw_g (lw_at lw_m7 131 rfl) rfl
theorem q1684 : (Jvm.Cond.fieldLink "RatSortersModel" (119 : Nat) "RatSortersModel" "testMid" "[I") ∈ lw_all := lw_g (lw_at lw_m7 132 rfl) rfl
theorem q1685 : (Jvm.Cond.fieldLink "RatSortersModel" (122 : Nat) "RatSortersModel" "testTo" "[I") ∈ lw_all := lw_g (lw_at lw_m7 133 rfl) rfl
theorem q1686 : (Jvm.Cond.fieldLink "RatSortersModel" (125 : Nat) "RatSortersModel" "termTo" "[I") ∈ lw_all := lw_g (lw_at lw_m7 134 rfl) rfl
theorem q1687 : (Jvm.Cond.fieldLink "RatSortersModel" (269 : Nat) "RatSortersModel" "codes" "I") ∈ lw_all := lw_g (lw_at lw_m7 135 rfl) rfl
theorem q1688 : (Jvm.Cond.fieldLink "RatSortersModel" (128 : Nat) "RatSortersModel" "code" "[I") ∈ lw_all := lw_g (lw_at lw_m7 136 rfl) rfl
theorem q1689 : (Jvm.Cond.fieldLink "RatSortersModel" (131 : Nat) "RatSortersModel" "codeInt" "[I") ∈ lw_all := lw_g (lw_at lw_m7 137 rfl) rfl
theorem q1690 : (Jvm.Cond.fieldLink "RatSortersModel" (134 : Nat) "RatSortersModel" "waits" "[I") ∈ lw_all := lw_g (lw_at lw_m7 138 rfl) rfl
theorem q1691 : (Jvm.Cond.fieldLink "RatSortersModel" (327 : Nat) "RatSortersModel" "waiting" "I") ∈ lw_all := lw_g (lw_at lw_m7 139 rfl) rfl
theorem q1692 : (Jvm.Cond.fieldLink "RatSortersModel" (137 : Nat) "RatSortersModel" "variables" "[I") ∈ lw_all := lw_g (lw_at lw_m7 140 rfl) rfl
theorem q1693 : (Jvm.Cond.fieldLink "RatSortersModel" (140 : Nat) "RatSortersModel" "pile" "[I") ∈ lw_all := lw_g (lw_at lw_m7 141 rfl) rfl
theorem q1694 : (Jvm.Cond.fieldLink "RatSortersModel" (340 : Nat) "RatSortersModel" "isBroken" "Z") ∈ lw_all := lw_g (lw_at lw_m7 142 rfl) rfl
theorem q1695 : (Jvm.Cond.fieldLink "RatSortersModel" (143 : Nat) "RatSortersModel" "now" "[I") ∈ lw_all := lw_g (lw_at lw_m7 143 rfl) rfl
theorem q1696 : (Jvm.Cond.fieldLink "RatSortersModel" (146 : Nat) "RatSortersModel" "row" "[I") ∈ lw_all := lw_g (lw_at lw_m7 144 rfl) rfl
theorem q1697 : (Jvm.Cond.fieldLink "RatSortersModel" (344 : Nat) "RatSortersModel" "lots" "I") ∈ lw_all := lw_g (lw_at lw_m7 145 rfl) rfl
theorem q1698 : (Jvm.Cond.fieldLink "RatSortersModel" (149 : Nat) "RatSortersModel" "farNow" "[I") ∈ lw_all := lw_g (lw_at lw_m7 146 rfl) rfl
theorem q1699 : (Jvm.Cond.fieldLink "RatSortersModel" (152 : Nat) "RatSortersModel" "isLoaded" "[Z") ∈ lw_all := lw_g (lw_at lw_m7 147 rfl) rfl
theorem q1700 : (Jvm.Cond.fieldLink "RatSortersModel" (275 : Nat) "RatSortersModel" "undos" "I") ∈ lw_all := lw_g (lw_at lw_m7 148 rfl) rfl
theorem q1701 : (Jvm.Cond.fieldLink "RatSortersModel" (155 : Nat) "RatSortersModel" "history" "[I") ∈ lw_all := lw_g (lw_at lw_m7 149 rfl) rfl
theorem q1702 : (Jvm.Cond.fieldLink "RatSortersModel" (451 : Nat) "RatSortersModel" "taughtWay" "I") ∈ lw_all := lw_g (lw_at lw_m7 150 rfl) rfl
theorem q1703 : (Jvm.Cond.fieldLink "RatSortersModel" (454 : Nat) "RatSortersModel" "taughtWorth" "I") ∈ lw_all := lw_g (lw_at lw_m7 151 rfl) rfl
theorem q1704 : (Jvm.Cond.fieldLink "RatSortersModel" (278 : Nat) "RatSortersModel" "told" "I") ∈ lw_all := lw_g (lw_at lw_m7 152 rfl) rfl
theorem q1705 : (Jvm.Cond.fieldLink "RatSortersModel" (158 : Nat) "RatSortersModel" "toldHole" "[I") ∈ lw_all := lw_g (lw_at lw_m7 153 rfl) rfl
theorem q1706 : (Jvm.Cond.fieldLink "RatSortersModel" (161 : Nat) "RatSortersModel" "toldGrain" "[I") ∈ lw_all := lw_g (lw_at lw_m7 154 rfl) rfl
theorem q1707 : (Jvm.Cond.fieldLink "RatSortersModel" (164 : Nat) "RatSortersModel" "toldMinutes" "[I") ∈ lw_all := lw_g (lw_at lw_m7 155 rfl) rfl
theorem q1708 : (Jvm.Cond.fieldLink "RatSortersModel" (167 : Nat) "RatSortersModel" "toldMany" "[I") ∈ lw_all := lw_g (lw_at lw_m7 156 rfl) rfl
theorem q1709 : (Jvm.Cond.fieldLink "RatSortersModel" (170 : Nat) "RatSortersModel" "isHeld" "[Z") ∈ lw_all := lw_g (lw_at lw_m7 157 rfl) rfl
theorem q1710 : (Jvm.Cond.fieldLink "RatSortersModel" (173 : Nat) "RatSortersModel" "heldRows" "[I") ∈ lw_all := lw_g (lw_at lw_m7 158 rfl) rfl
theorem q1711 : (Jvm.Cond.lays "RatSortersModel" "RatSortersModel" "thrown" "I") ∈ lw_all := lw_g (lw_at lw_m7 159 rfl) rfl
theorem q1712 : (Jvm.Cond.soleField "RatSortersModel" "thrown") ∈ lw_all := lw_g (lw_at lw_m7 160 rfl) rfl
theorem q1713 : (Jvm.Cond.laysFinal "RatSortersModel" "RatSortersModel" "tape" "[B") ∈ lw_all := lw_g (lw_at lw_m7 161 rfl) rfl
theorem q1714 : (Jvm.Cond.soleField "RatSortersModel" "tape") ∈ lw_all := lw_g (lw_at lw_m7 162 rfl) rfl
theorem q1715 : (Jvm.Cond.lays "RatSortersModel" "RatSortersModel" "taped" "I") ∈ lw_all := lw_g (lw_at lw_m7 163 rfl) rfl
theorem q1716 : (Jvm.Cond.soleField "RatSortersModel" "taped") ∈ lw_all := lw_g (lw_at lw_m7 164 rfl) rfl
theorem q1717 : (Jvm.Cond.laysFinal "RatSortersModel" "RatSortersModel" "text" "[B") ∈ lw_all := lw_g (lw_at lw_m7 165 rfl) rfl
theorem q1718 : (Jvm.Cond.soleField "RatSortersModel" "text") ∈ lw_all := lw_g (lw_at lw_m7 166 rfl) rfl
theorem q1719 : (Jvm.Cond.lays "RatSortersModel" "RatSortersModel" "size" "I") ∈ lw_all := lw_g (lw_at lw_m7 167 rfl) rfl
theorem q1720 : (Jvm.Cond.soleField "RatSortersModel" "size") ∈ lw_all := lw_g (lw_at lw_m7 168 rfl) rfl
theorem q1721 : (Jvm.Cond.laysFinal "RatSortersModel" "RatSortersModel" "tKind" "[I") ∈ lw_all := lw_g (lw_at lw_m7 169 rfl) rfl
theorem q1722 : (Jvm.Cond.soleField "RatSortersModel" "tKind") ∈ lw_all := lw_g (lw_at lw_m7 170 rfl) rfl
theorem q1723 : (Jvm.Cond.laysFinal "RatSortersModel" "RatSortersModel" "tPlace" "[I") ∈ lw_all := lw_g (lw_at lw_m7 171 rfl) rfl
theorem q1724 : (Jvm.Cond.soleField "RatSortersModel" "tPlace") ∈ lw_all := lw_g (lw_at lw_m7 172 rfl) rfl
theorem q1725 : (Jvm.Cond.laysFinal "RatSortersModel" "RatSortersModel" "tValue" "[I") ∈ lw_all := lw_g (lw_at lw_m7 173 rfl) rfl
theorem q1726 : (Jvm.Cond.soleField "RatSortersModel" "tValue") ∈ lw_all := lw_g (lw_at lw_m7 174 rfl) rfl
theorem q1727 : (Jvm.Cond.laysFinal "RatSortersModel" "RatSortersModel" "tName" "[J") ∈ lw_all := lw_g (lw_at lw_m7 175 rfl) rfl
theorem q1728 : (Jvm.Cond.soleField "RatSortersModel" "tName") ∈ lw_all := lw_g (lw_at lw_m7 176 rfl) rfl
theorem q1729 : (Jvm.Cond.laysFinal "RatSortersModel" "RatSortersModel" "keys" "[J") ∈ lw_all := lw_g (lw_at lw_m7 177 rfl) rfl
theorem q1730 : (Jvm.Cond.soleField "RatSortersModel" "keys") ∈ lw_all := lw_g (lw_at lw_m7 178 rfl) rfl
theorem q1731 : (Jvm.Cond.lays "RatSortersModel" "RatSortersModel" "tokens" "I") ∈ lw_all := lw_g (lw_at lw_m7 179 rfl) rfl
theorem q1732 : (Jvm.Cond.soleField "RatSortersModel" "tokens") ∈ lw_all := lw_g (lw_at lw_m7 180 rfl) rfl
theorem q1733 : (Jvm.Cond.lays "RatSortersModel" "RatSortersModel" "t" "I") ∈ lw_all := lw_g (lw_at lw_m7 181 rfl) rfl
theorem q1734 : (Jvm.Cond.soleField "RatSortersModel" "t") ∈ lw_all := lw_g (lw_at lw_m7 182 rfl) rfl
theorem q1735 : (Jvm.Cond.lays "RatSortersModel" "RatSortersModel" "open" "I") ∈ lw_all := lw_g (lw_at lw_m7 183 rfl) rfl
theorem q1736 : (Jvm.Cond.soleField "RatSortersModel" "open") ∈ lw_all := lw_g (lw_at lw_m7 184 rfl) rfl
theorem q1737 : (Jvm.Cond.lays "RatSortersModel" "RatSortersModel" "fault" "I") ∈ lw_all := lw_g (lw_at lw_m7 185 rfl) rfl
theorem q1738 : (Jvm.Cond.soleField "RatSortersModel" "fault") ∈ lw_all := lw_g (lw_at lw_m7 186 rfl) rfl
theorem q1739 : (Jvm.Cond.lays "RatSortersModel" "RatSortersModel" "faultPlace" "I") ∈ lw_all := lw_g (lw_at lw_m7 187 rfl) rfl
theorem q1740 : (Jvm.Cond.soleField "RatSortersModel" "faultPlace") ∈ lw_all := lw_g (lw_at lw_m7 188 rfl) rfl
theorem q1741 : (Jvm.Cond.lays "RatSortersModel" "RatSortersModel" "worst" "I") ∈ lw_all := lw_g (lw_at lw_m7 189 rfl) rfl
theorem q1742 : (Jvm.Cond.soleField "RatSortersModel" "worst") ∈ lw_all := lw_g (lw_at lw_m7 190 rfl) rfl
theorem q1743 : (Jvm.Cond.lays "RatSortersModel" "RatSortersModel" "worstPlace" "I") ∈ lw_all := lw_g (lw_at lw_m7 191 rfl) rfl
theorem q1744 : (Jvm.Cond.soleField "RatSortersModel" "worstPlace") ∈ lw_all := lw_g (lw_at lw_m7 192 rfl) rfl
theorem q1745 : (Jvm.Cond.lays "RatSortersModel" "RatSortersModel" "place" "I") ∈ lw_all := lw_g (lw_at lw_m7 193 rfl) rfl
theorem q1746 : (Jvm.Cond.soleField "RatSortersModel" "place") ∈ lw_all := lw_g (lw_at lw_m7 194 rfl) rfl
theorem q1747 : (Jvm.Cond.lays "RatSortersModel" "RatSortersModel" "live" "I") ∈ lw_all := lw_g (lw_at lw_m7 195 rfl) rfl
theorem q1748 : (Jvm.Cond.soleField "RatSortersModel" "live") ∈ lw_all := lw_g (lw_at lw_m7 196 rfl) rfl
theorem q1749 : (Jvm.Cond.lays "RatSortersModel" "RatSortersModel" "side" "I") ∈ lw_all := lw_g (lw_at lw_m7 197 rfl) rfl
theorem q1750 : (Jvm.Cond.soleField "RatSortersModel" "side") ∈ lw_all := lw_g (lw_at lw_m7 198 rfl) rfl
theorem q1751 : (Jvm.Cond.lays "RatSortersModel" "RatSortersModel" "names" "I") ∈ lw_all := lw_g (lw_at lw_m7 199 rfl) rfl
theorem q1752 : (Jvm.Cond.soleField "RatSortersModel" "names") ∈ lw_all := lw_g (lw_at lw_m7 200 rfl) rfl
theorem q1753 : (Jvm.Cond.laysFinal "RatSortersModel" "RatSortersModel" "nameOf" "[J") ∈ lw_all := lw_g (lw_at lw_m7 201 rfl) rfl
theorem q1754 : (Jvm.Cond.soleField "RatSortersModel" "nameOf") ∈ lw_all := lw_g (lw_at lw_m7 202 rfl) rfl
theorem q1755 : (Jvm.Cond.laysFinal "RatSortersModel" "RatSortersModel" "nameSort" "[I") ∈ lw_all := lw_g (lw_at lw_m7 203 rfl) rfl
theorem q1756 : (Jvm.Cond.soleField "RatSortersModel" "nameSort") ∈ lw_all := lw_g (lw_at lw_m7 204 rfl) rfl
theorem q1757 : (Jvm.Cond.laysFinal "RatSortersModel" "RatSortersModel" "nameAt" "[I") ∈ lw_all := lw_g (lw_at lw_m7 205 rfl) rfl
theorem q1758 : (Jvm.Cond.soleField "RatSortersModel" "nameAt") ∈ lw_all := lw_g (lw_at lw_m7 206 rfl) rfl
theorem q1759 : (Jvm.Cond.laysFinal "RatSortersModel" "RatSortersModel" "grains" "[I") ∈ lw_all := lw_g (lw_at lw_m7 207 rfl) rfl
theorem q1760 : (Jvm.Cond.soleField "RatSortersModel" "grains") ∈ lw_all := lw_g (lw_at lw_m7 208 rfl) rfl
theorem q1761 : (Jvm.Cond.laysFinal "RatSortersModel" "RatSortersModel" "poured" "[I") ∈ lw_all := lw_g (lw_at lw_m7 209 rfl) rfl
theorem q1762 : (Jvm.Cond.soleField "RatSortersModel" "poured") ∈ lw_all := lw_g (lw_at lw_m7 210 rfl) rfl
theorem q1763 : (Jvm.Cond.laysFinal "RatSortersModel" "RatSortersModel" "pence" "[I") ∈ lw_all := lw_g (lw_at lw_m7 211 rfl) rfl
theorem q1764 : (Jvm.Cond.soleField "RatSortersModel" "pence") ∈ lw_all := lw_g (lw_at lw_m7 212 rfl) rfl
theorem q1765 : (Jvm.Cond.laysFinal "RatSortersModel" "RatSortersModel" "holes" "[I") ∈ lw_all := lw_g (lw_at lw_m7 213 rfl) rfl
theorem q1766 : (Jvm.Cond.soleField "RatSortersModel" "holes") ∈ lw_all := lw_g (lw_at lw_m7 214 rfl) rfl
theorem q1767 : (Jvm.Cond.laysFinal "RatSortersModel" "RatSortersModel" "farOf" "[I") ∈ lw_all := lw_g (lw_at lw_m7 215 rfl) rfl
theorem q1768 : (Jvm.Cond.soleField "RatSortersModel" "farOf") ∈ lw_all := lw_g (lw_at lw_m7 216 rfl) rfl
theorem q1769 : (Jvm.Cond.laysFinal "RatSortersModel" "RatSortersModel" "grainOf" "[I") ∈ lw_all := lw_g (lw_at lw_m7 217 rfl) rfl
theorem q1770 : (Jvm.Cond.soleField "RatSortersModel" "grainOf") ∈ lw_all := lw_g (lw_at lw_m7 218 rfl) rfl
theorem q1771 : (Jvm.Cond.laysFinal "RatSortersModel" "RatSortersModel" "rats" "[I") ∈ lw_all := lw_g (lw_at lw_m7 219 rfl) rfl
theorem q1772 : (Jvm.Cond.soleField "RatSortersModel" "rats") ∈ lw_all := lw_g (lw_at lw_m7 220 rfl) rfl
theorem q1773 : (Jvm.Cond.laysFinal "RatSortersModel" "RatSortersModel" "knowsTold" "[I") ∈ lw_all := lw_g (lw_at lw_m7 221 rfl) rfl
theorem q1774 : (Jvm.Cond.soleField "RatSortersModel" "knowsTold") ∈ lw_all := lw_g (lw_at lw_m7 222 rfl) rfl
theorem q1775 : (Jvm.Cond.laysFinal "RatSortersModel" "RatSortersModel" "holeOf" "[I") ∈ lw_all := lw_g (lw_at lw_m7 223 rfl) rfl
theorem q1776 : (Jvm.Cond.soleField "RatSortersModel" "holeOf") ∈ lw_all := lw_g (lw_at lw_m7 224 rfl) rfl
theorem q1777 : (Jvm.Cond.laysFinal "RatSortersModel" "RatSortersModel" "fatTold" "[I") ∈ lw_all := lw_g (lw_at lw_m7 225 rfl) rfl
theorem q1778 : (Jvm.Cond.soleField "RatSortersModel" "fatTold") ∈ lw_all := lw_g (lw_at lw_m7 226 rfl) rfl
theorem q1779 : (Jvm.Cond.laysFinal "RatSortersModel" "RatSortersModel" "fee" "[I") ∈ lw_all := lw_g (lw_at lw_m7 227 rfl) rfl
theorem q1780 : (Jvm.Cond.soleField "RatSortersModel" "fee") ∈ lw_all := lw_g (lw_at lw_m7 228 rfl) rfl
theorem q1781 : (Jvm.Cond.laysFinal "RatSortersModel" "RatSortersModel" "merchants" "[I") ∈ lw_all := lw_g (lw_at lw_m7 229 rfl) rfl
theorem q1782 : (Jvm.Cond.soleField "RatSortersModel" "merchants") ∈ lw_all := lw_g (lw_at lw_m7 230 rfl) rfl
theorem q1783 : (Jvm.Cond.laysFinal "RatSortersModel" "RatSortersModel" "pays" "[I") ∈ lw_all := lw_g (lw_at lw_m7 231 rfl) rfl
theorem q1784 : (Jvm.Cond.soleField "RatSortersModel" "pays") ∈ lw_all := lw_g (lw_at lw_m7 232 rfl) rfl
theorem q1785 : (Jvm.Cond.laysFinal "RatSortersModel" "RatSortersModel" "wants" "[I") ∈ lw_all := lw_g (lw_at lw_m7 233 rfl) rfl
theorem q1786 : (Jvm.Cond.soleField "RatSortersModel" "wants") ∈ lw_all := lw_g (lw_at lw_m7 234 rfl) rfl
theorem q1787 : (Jvm.Cond.laysFinal "RatSortersModel" "RatSortersModel" "wantGrain" "[I") ∈ lw_all := lw_g (lw_at lw_m7 235 rfl) rfl
theorem q1788 : (Jvm.Cond.soleField "RatSortersModel" "wantGrain") ∈ lw_all := lw_g (lw_at lw_m7 236 rfl) rfl
theorem q1789 : (Jvm.Cond.laysFinal "RatSortersModel" "RatSortersModel" "wantMany" "[I") ∈ lw_all := lw_g (lw_at lw_m7 237 rfl) rfl
theorem q1790 : (Jvm.Cond.soleField "RatSortersModel" "wantMany") ∈ lw_all := lw_g (lw_at lw_m7 238 rfl) rfl
theorem q1791 : (Jvm.Cond.laysFinal "RatSortersModel" "RatSortersModel" "lamp" "[I") ∈ lw_all := lw_g (lw_at lw_m7 239 rfl) rfl
theorem q1792 : (Jvm.Cond.soleField "RatSortersModel" "lamp") ∈ lw_all := lw_g (lw_at lw_m8 0 rfl) rfl
theorem q1793 : (Jvm.Cond.laysFinal "RatSortersModel" "RatSortersModel" "odd" "[I") ∈ lw_all := lw_g (lw_at lw_m8 1 rfl) rfl
theorem q1794 : (Jvm.Cond.soleField "RatSortersModel" "odd") ∈ lw_all := lw_g (lw_at lw_m8 2 rfl) rfl
theorem q1795 : (Jvm.Cond.laysFinal "RatSortersModel" "RatSortersModel" "seed" "[I") ∈ lw_all := lw_g (lw_at lw_m8 3 rfl) rfl
theorem q1796 : (Jvm.Cond.soleField "RatSortersModel" "seed") ∈ lw_all := lw_g (lw_at lw_m8 4 rfl) rfl
theorem q1797 : (Jvm.Cond.laysFinal "RatSortersModel" "RatSortersModel" "lawFirst" "[I") ∈ lw_all := lw_g (lw_at lw_m8 5 rfl) rfl
theorem q1798 : (Jvm.Cond.soleField "RatSortersModel" "lawFirst") ∈ lw_all := lw_g (lw_at lw_m8 6 rfl) rfl
theorem q1799 : (Jvm.Cond.laysFinal "RatSortersModel" "RatSortersModel" "lawLast" "[I") ∈ lw_all := lw_g (lw_at lw_m8 7 rfl) rfl
theorem q1800 : (Jvm.Cond.soleField "RatSortersModel" "lawLast") ∈ lw_all := lw_g (lw_at lw_m8 8 rfl) rfl
theorem q1801 : (Jvm.Cond.lays "RatSortersModel" "RatSortersModel" "branches" "I") ∈ lw_all := lw_g (lw_at lw_m8 9 rfl) rfl
theorem q1802 : (Jvm.Cond.soleField "RatSortersModel" "branches") ∈ lw_all := lw_g (lw_at lw_m8 10 rfl) rfl
theorem q1803 : (Jvm.Cond.laysFinal "RatSortersModel" "RatSortersModel" "hasTest" "[Z") ∈ lw_all := lw_g (lw_at lw_m8 11 rfl) rfl
theorem q1804 : (Jvm.Cond.soleField "RatSortersModel" "hasTest") ∈ lw_all := lw_g (lw_at lw_m8 12 rfl) rfl
theorem q1805 : (Jvm.Cond.laysFinal "RatSortersModel" "RatSortersModel" "testFrom" "[I") ∈ lw_all := lw_g (lw_at lw_m8 13 rfl) rfl
theorem q1806 : (Jvm.Cond.soleField "RatSortersModel" "testFrom") ∈ lw_all := lw_g (lw_at lw_m8 14 rfl) rfl
theorem q1807 : (Jvm.Cond.laysFinal "RatSortersModel" "RatSortersModel" "testMid" "[I") ∈ lw_all := lw_g (lw_at lw_m8 15 rfl) rfl
theorem q1808 : (Jvm.Cond.soleField "RatSortersModel" "testMid") ∈ lw_all := lw_g (lw_at lw_m8 16 rfl) rfl
theorem q1809 : (Jvm.Cond.laysFinal "RatSortersModel" "RatSortersModel" "testTo" "[I") ∈ lw_all := lw_g (lw_at lw_m8 17 rfl) rfl
theorem q1810 : (Jvm.Cond.soleField "RatSortersModel" "testTo") ∈ lw_all := lw_g (lw_at lw_m8 18 rfl) rfl
theorem q1811 : (Jvm.Cond.laysFinal "RatSortersModel" "RatSortersModel" "termTo" "[I") ∈ lw_all := lw_g (lw_at lw_m8 19 rfl) rfl
theorem q1812 : (Jvm.Cond.soleField "RatSortersModel" "termTo") ∈ lw_all := lw_g (lw_at lw_m8 20 rfl) rfl
theorem q1813 : (Jvm.Cond.lays "RatSortersModel" "RatSortersModel" "codes" "I") ∈ lw_all := lw_g (lw_at lw_m8 21 rfl) rfl
theorem q1814 : (Jvm.Cond.soleField "RatSortersModel" "codes") ∈ lw_all := lw_g (lw_at lw_m8 22 rfl) rfl
theorem q1815 : (Jvm.Cond.laysFinal "RatSortersModel" "RatSortersModel" "code" "[I") ∈ lw_all := lw_g (lw_at lw_m8 23 rfl) rfl
theorem q1816 : (Jvm.Cond.soleField "RatSortersModel" "code") ∈ lw_all := lw_g (lw_at lw_m8 24 rfl) rfl
theorem q1817 : (Jvm.Cond.laysFinal "RatSortersModel" "RatSortersModel" "codeInt" "[I") ∈ lw_all := lw_g (lw_at lw_m8 25 rfl) rfl
theorem q1818 : (Jvm.Cond.soleField "RatSortersModel" "codeInt") ∈ lw_all := lw_g (lw_at lw_m8 26 rfl) rfl
theorem q1819 : (Jvm.Cond.laysFinal "RatSortersModel" "RatSortersModel" "waits" "[I") ∈ lw_all := lw_g (lw_at lw_m8 27 rfl) rfl
theorem q1820 : (Jvm.Cond.soleField "RatSortersModel" "waits") ∈ lw_all := lw_g (lw_at lw_m8 28 rfl) rfl
theorem q1821 : (Jvm.Cond.lays "RatSortersModel" "RatSortersModel" "waiting" "I") ∈ lw_all := lw_g (lw_at lw_m8 29 rfl) rfl
theorem q1822 : (Jvm.Cond.soleField "RatSortersModel" "waiting") ∈ lw_all := lw_g (lw_at lw_m8 30 rfl) rfl
theorem q1823 : (Jvm.Cond.laysFinal "RatSortersModel" "RatSortersModel" "variables" "[I") ∈ lw_all := lw_g (lw_at lw_m8 31 rfl) rfl
theorem q1824 : (Jvm.Cond.soleField "RatSortersModel" "variables") ∈ lw_all := lw_g (lw_at lw_m8 32 rfl) rfl
theorem q1825 : (Jvm.Cond.laysFinal "RatSortersModel" "RatSortersModel" "pile" "[I") ∈ lw_all := lw_g (lw_at lw_m8 33 rfl) rfl
theorem q1826 : (Jvm.Cond.soleField "RatSortersModel" "pile") ∈ lw_all := lw_g (lw_at lw_m8 34 rfl) rfl
theorem q1827 : (Jvm.Cond.lays "RatSortersModel" "RatSortersModel" "isBroken" "Z") ∈ lw_all := lw_g (lw_at lw_m8 35 rfl) rfl
theorem q1828 : (Jvm.Cond.soleField "RatSortersModel" "isBroken") ∈ lw_all := lw_g (lw_at lw_m8 36 rfl) rfl
theorem q1829 : (Jvm.Cond.laysFinal "RatSortersModel" "RatSortersModel" "now" "[I") ∈ lw_all := lw_g (lw_at lw_m8 37 rfl) rfl
theorem q1830 : (Jvm.Cond.soleField "RatSortersModel" "now") ∈ lw_all := lw_g (lw_at lw_m8 38 rfl) rfl
theorem q1831 : (Jvm.Cond.laysFinal "RatSortersModel" "RatSortersModel" "row" "[I") ∈ lw_all := lw_g (lw_at lw_m8 39 rfl) rfl
theorem q1832 : (Jvm.Cond.soleField "RatSortersModel" "row") ∈ lw_all := lw_g (lw_at lw_m8 40 rfl) rfl
theorem q1833 : (Jvm.Cond.lays "RatSortersModel" "RatSortersModel" "lots" "I") ∈ lw_all := lw_g (lw_at lw_m8 41 rfl) rfl
theorem q1834 : (Jvm.Cond.soleField "RatSortersModel" "lots") ∈ lw_all := lw_g (lw_at lw_m8 42 rfl) rfl
theorem q1835 : (Jvm.Cond.laysFinal "RatSortersModel" "RatSortersModel" "farNow" "[I") ∈ lw_all := lw_g (lw_at lw_m8 43 rfl) rfl
theorem q1836 : (Jvm.Cond.soleField "RatSortersModel" "farNow") ∈ lw_all := lw_g (lw_at lw_m8 44 rfl) rfl
theorem q1837 : (Jvm.Cond.laysFinal "RatSortersModel" "RatSortersModel" "isLoaded" "[Z") ∈ lw_all := lw_g (lw_at lw_m8 45 rfl) rfl
theorem q1838 : (Jvm.Cond.soleField "RatSortersModel" "isLoaded") ∈ lw_all := lw_g (lw_at lw_m8 46 rfl) rfl
theorem q1839 : (Jvm.Cond.lays "RatSortersModel" "RatSortersModel" "undos" "I") ∈ lw_all := lw_g (lw_at lw_m8 47 rfl) rfl
theorem q1840 : (Jvm.Cond.soleField "RatSortersModel" "undos") ∈ lw_all := lw_g (lw_at lw_m8 48 rfl) rfl
theorem q1841 : (Jvm.Cond.laysFinal "RatSortersModel" "RatSortersModel" "history" "[I") ∈ lw_all := lw_g (lw_at lw_m8 49 rfl) rfl
theorem q1842 : (Jvm.Cond.soleField "RatSortersModel" "history") ∈ lw_all := lw_g (lw_at lw_m8 50 rfl) rfl
theorem q1843 : (Jvm.Cond.lays "RatSortersModel" "RatSortersModel" "taughtWay" "I") ∈ lw_all := lw_g (lw_at lw_m8 51 rfl) rfl
theorem q1844 : (Jvm.Cond.soleField "RatSortersModel" "taughtWay") ∈ lw_all := lw_g (lw_at lw_m8 52 rfl) rfl
theorem q1845 : (Jvm.Cond.lays "RatSortersModel" "RatSortersModel" "taughtWorth" "I") ∈ lw_all := lw_g (lw_at lw_m8 53 rfl) rfl
theorem q1846 : (Jvm.Cond.soleField "RatSortersModel" "taughtWorth") ∈ lw_all := lw_g (lw_at lw_m8 54 rfl) rfl
theorem q1847 : (Jvm.Cond.lays "RatSortersModel" "RatSortersModel" "told" "I") ∈ lw_all := lw_g (lw_at lw_m8 55 rfl) rfl
theorem q1848 : (Jvm.Cond.soleField "RatSortersModel" "told") ∈ lw_all := lw_g (lw_at lw_m8 56 rfl) rfl
theorem q1849 : (Jvm.Cond.laysFinal "RatSortersModel" "RatSortersModel" "toldHole" "[I") ∈ lw_all := lw_g (lw_at lw_m8 57 rfl) rfl
theorem q1850 : (Jvm.Cond.soleField "RatSortersModel" "toldHole") ∈ lw_all := lw_g (lw_at lw_m8 58 rfl) rfl
theorem q1851 : (Jvm.Cond.laysFinal "RatSortersModel" "RatSortersModel" "toldGrain" "[I") ∈ lw_all := lw_g (lw_at lw_m8 59 rfl) rfl
theorem q1852 : (Jvm.Cond.soleField "RatSortersModel" "toldGrain") ∈ lw_all := lw_g (lw_at lw_m8 60 rfl) rfl
theorem q1853 : (Jvm.Cond.laysFinal "RatSortersModel" "RatSortersModel" "toldMinutes" "[I") ∈ lw_all := lw_g (lw_at lw_m8 61 rfl) rfl
theorem q1854 : (Jvm.Cond.soleField "RatSortersModel" "toldMinutes") ∈ lw_all := lw_g (lw_at lw_m8 62 rfl) rfl
theorem q1855 : (Jvm.Cond.laysFinal "RatSortersModel" "RatSortersModel" "toldMany" "[I") ∈ lw_all := lw_g (lw_at lw_m8 63 rfl) rfl
theorem q1856 : (Jvm.Cond.soleField "RatSortersModel" "toldMany") ∈ lw_all := lw_g (lw_at lw_m8 64 rfl) rfl
theorem q1857 : (Jvm.Cond.laysFinal "RatSortersModel" "RatSortersModel" "isHeld" "[Z") ∈ lw_all := lw_g (lw_at lw_m8 65 rfl) rfl
theorem q1858 : (Jvm.Cond.soleField "RatSortersModel" "isHeld") ∈ lw_all := lw_g (lw_at lw_m8 66 rfl) rfl
theorem q1859 : (Jvm.Cond.laysFinal "RatSortersModel" "RatSortersModel" "heldRows" "[I") ∈ lw_all := lw_g (lw_at lw_m8 67 rfl) rfl
theorem q1860 : (Jvm.Cond.soleField "RatSortersModel" "heldRows") ∈ lw_all := lw_g (lw_at lw_m8 68 rfl) rfl
theorem q1861 : (Jvm.Cond.superclass "RatSortersModel" "java/lang/Object") ∈ lw_all := lw_g (lw_at lw_m8 69 rfl) rfl
theorem q1864 : (Jvm.Cond.instanceMethod ({ cls := "RatSortersModel", name := "feed", desc := "(IIIII)I" } : Jvm.MethodName)) ∈ lw_all := lw_g (lw_at lw_m8 72 rfl) rfl
theorem q1865 : (Jvm.Cond.selects "RatSortersModel" ({ cls := "RatSortersModel", name := "feed", desc := "(IIIII)I" } : Jvm.MethodName) ({ cls := "RatSortersModel", name := "feed", desc := "(IIIII)I" } : Jvm.MethodName)) ∈ lw_all := lw_g (lw_at lw_m8 73 rfl) rfl
theorem q1866 : (Jvm.Cond.code ({ cls := "RatSortersModel", name := "feed", desc := "(IIIII)I" } : Jvm.MethodName) prog_24_method_3_code (6 : Nat) (Option.some Jvm.ClassFile.FieldType.int)) ∈ lw_all := lw_g (lw_at lw_m8 74 rfl) rfl
theorem q1867 : (Jvm.Cond.methodLink "RatSortersModel" (193 : Nat) ({ cls := "RatSortersModel", name := "put", desc := "(I)V" } : Jvm.MethodName)) ∈ lw_all := lw_g (lw_at lw_m8 75 rfl) rfl
theorem q1868 : (Jvm.Cond.privateMethod ({ cls := "RatSortersModel", name := "put", desc := "(I)V" } : Jvm.MethodName)) ∈ lw_tbl := lw_at lw_m8 76 rfl
theorem q1869 : (Jvm.Cond.instanceMethod ({ cls := "RatSortersModel", name := "put", desc := "(I)V" } : Jvm.MethodName)) ∈ lw_all := lw_g (lw_at lw_m8 77 rfl) rfl
theorem q1870 : (Jvm.Cond.code ({ cls := "RatSortersModel", name := "put", desc := "(I)V" } : Jvm.MethodName) prog_24_method_4_code (3 : Nat) (Option.none : Option Jvm.ClassFile.FieldType)) ∈ lw_all := lw_g (lw_at lw_m8 78 rfl) rfl
theorem q1872 : (Jvm.Cond.instanceMethod ({ cls := "RatSortersModel", name := "back", desc := "(I)I" } : Jvm.MethodName)) ∈ lw_all := lw_g (lw_at lw_m8 80 rfl) rfl
theorem q1873 : (Jvm.Cond.selects "RatSortersModel" ({ cls := "RatSortersModel", name := "back", desc := "(I)I" } : Jvm.MethodName) ({ cls := "RatSortersModel", name := "back", desc := "(I)I" } : Jvm.MethodName)) ∈ lw_all := lw_g (lw_at lw_m8 81 rfl) rfl
theorem q1874 : (Jvm.Cond.code ({ cls := "RatSortersModel", name := "back", desc := "(I)I" } : Jvm.MethodName) prog_24_method_5_code (2 : Nat) (Option.some Jvm.ClassFile.FieldType.int)) ∈ lw_all := lw_g (lw_at lw_m8 82 rfl) rfl
theorem q1876 : (Jvm.Cond.instanceMethod ({ cls := "RatSortersModel", name := "read", desc := "()I" } : Jvm.MethodName)) ∈ lw_all := lw_g (lw_at lw_m8 84 rfl) rfl
theorem q1877 : (Jvm.Cond.selects "RatSortersModel" ({ cls := "RatSortersModel", name := "read", desc := "()I" } : Jvm.MethodName) ({ cls := "RatSortersModel", name := "read", desc := "()I" } : Jvm.MethodName)) ∈ lw_all := lw_g (lw_at lw_m8 85 rfl) rfl
theorem q1878 : (Jvm.Cond.code ({ cls := "RatSortersModel", name := "read", desc := "()I" } : Jvm.MethodName) prog_24_method_20_code (2 : Nat) (Option.some Jvm.ClassFile.FieldType.int)) ∈ lw_all := lw_g (lw_at lw_m8 86 rfl) rfl
theorem q1879 : (Jvm.Cond.methodLink "RatSortersModel" (251 : Nat) ({ cls := "RatSortersModel", name := "cut", desc := "()V" } : Jvm.MethodName)) ∈ lw_all := lw_g (lw_at lw_m8 87 rfl) rfl
theorem q1880 : (Jvm.Cond.privateMethod ({ cls := "RatSortersModel", name := "cut", desc := "()V" } : Jvm.MethodName)) ∈ lw_tbl := lw_at lw_m8 88 rfl
theorem q1881 : (Jvm.Cond.instanceMethod ({ cls := "RatSortersModel", name := "cut", desc := "()V" } : Jvm.MethodName)) ∈ lw_all := lw_g (lw_at lw_m8 89 rfl) rfl
theorem q1882 : (Jvm.Cond.code ({ cls := "RatSortersModel", name := "cut", desc := "()V" } : Jvm.MethodName) prog_24_method_12_code (8 : Nat) (Option.none : Option Jvm.ClassFile.FieldType)) ∈ lw_all := lw_g (lw_at lw_m8 90 rfl) rfl
theorem q1883 : (Jvm.Cond.methodLink "RatSortersModel" (208 : Nat) ({ cls := "RatSortersModel", name := "byteAt", desc := "(I)I" } : Jvm.MethodName)) ∈ lw_all := lw_g (lw_at lw_m8 91 rfl) rfl
theorem q1884 : (Jvm.Cond.privateMethod ({ cls := "RatSortersModel", name := "byteAt", desc := "(I)I" } : Jvm.MethodName)) ∈ lw_tbl := lw_at lw_m8 92 rfl
theorem q1885 : (Jvm.Cond.instanceMethod ({ cls := "RatSortersModel", name := "byteAt", desc := "(I)I" } : Jvm.MethodName)) ∈ lw_all := lw_g (lw_at lw_m8 93 rfl) rfl
theorem q1886 : (Jvm.Cond.code ({ cls := "RatSortersModel", name := "byteAt", desc := "(I)I" } : Jvm.MethodName) prog_24_method_6_code (2 : Nat) (Option.some Jvm.ClassFile.FieldType.int)) ∈ lw_all := lw_g (lw_at lw_m8 94 rfl) rfl
theorem q1887 : (Jvm.Cond.methodLink "RatSortersModel" (212 : Nat) ({ cls := "RatSortersModel", name := "token", desc := "(IIIJ)V" } : Jvm.MethodName)) ∈ lw_all := lw_g (lw_at lw_m8 95 rfl) rfl
theorem q1888 : (Jvm.Cond.privateMethod ({ cls := "RatSortersModel", name := "token", desc := "(IIIJ)V" } : Jvm.MethodName)) ∈ lw_tbl := lw_at lw_m8 96 rfl
theorem q1889 : (Jvm.Cond.instanceMethod ({ cls := "RatSortersModel", name := "token", desc := "(IIIJ)V" } : Jvm.MethodName)) ∈ lw_all := lw_g (lw_at lw_m8 97 rfl) rfl
theorem q1890 : (Jvm.Cond.code ({ cls := "RatSortersModel", name := "token", desc := "(IIIJ)V" } : Jvm.MethodName) prog_24_method_11_code (6 : Nat) (Option.none : Option Jvm.ClassFile.FieldType)) ∈ lw_all := lw_g (lw_at lw_m8 98 rfl) rfl
theorem q1891 : (Jvm.Cond.methodLink "RatSortersModel" (216 : Nat) ({ cls := "RatSortersModel", name := "isLetter", desc := "(I)Z" } : Jvm.MethodName)) ∈ lw_all := lw_g (lw_at lw_m8 99 rfl) rfl
theorem q1892 : (Jvm.Cond.static ({ cls := "RatSortersModel", name := "isLetter", desc := "(I)Z" } : Jvm.MethodName)) ∈ lw_all := lw_g (lw_at lw_m8 100 rfl) rfl
theorem q1893 : (Jvm.Cond.code ({ cls := "RatSortersModel", name := "isLetter", desc := "(I)Z" } : Jvm.MethodName) prog_24_method_8_code (1 : Nat) (Option.some Jvm.ClassFile.FieldType.boolean)) ∈ lw_all := lw_g (lw_at lw_m8 101 rfl) rfl
theorem q1894 : (Jvm.Cond.methodLink "RatSortersModel" (220 : Nat) ({ cls := "RatSortersModel", name := "isDigit", desc := "(I)Z" } : Jvm.MethodName)) ∈ lw_all := lw_g (lw_at lw_m8 102 rfl) rfl
theorem q1895 : (Jvm.Cond.static ({ cls := "RatSortersModel", name := "isDigit", desc := "(I)Z" } : Jvm.MethodName)) ∈ lw_all := lw_g (lw_at lw_m8 103 rfl) rfl
theorem q1896 : (Jvm.Cond.code ({ cls := "RatSortersModel", name := "isDigit", desc := "(I)Z" } : Jvm.MethodName) prog_24_method_7_code (1 : Nat) (Option.some Jvm.ClassFile.FieldType.boolean)) ∈ lw_all := lw_g (lw_at lw_m8 104 rfl) rfl
theorem q1897 : (Jvm.Cond.methodLink "RatSortersModel" (223 : Nat) ({ cls := "RatSortersModel", name := "sign", desc := "(III)I" } : Jvm.MethodName)) ∈ lw_all := lw_g (lw_at lw_m8 105 rfl) rfl
theorem q1898 : (Jvm.Cond.privateMethod ({ cls := "RatSortersModel", name := "sign", desc := "(III)I" } : Jvm.MethodName)) ∈ lw_tbl := lw_at lw_m8 106 rfl
theorem q1899 : (Jvm.Cond.instanceMethod ({ cls := "RatSortersModel", name := "sign", desc := "(III)I" } : Jvm.MethodName)) ∈ lw_all := lw_g (lw_at lw_m8 107 rfl) rfl
theorem q1900 : (Jvm.Cond.code ({ cls := "RatSortersModel", name := "sign", desc := "(III)I" } : Jvm.MethodName) prog_24_method_13_code (5 : Nat) (Option.some Jvm.ClassFile.FieldType.int)) ∈ lw_all := lw_g (lw_at lw_m8 108 rfl) rfl
theorem q1901 : (Jvm.Cond.methodLink "RatSortersModel" (245 : Nat) ({ cls := "RatSortersModel", name := "is", desc := "(I)Z" } : Jvm.MethodName)) ∈ lw_all := lw_g (lw_at lw_m8 109 rfl) rfl
theorem q1902 : (Jvm.Cond.privateMethod ({ cls := "RatSortersModel", name := "is", desc := "(I)Z" } : Jvm.MethodName)) ∈ lw_tbl := lw_at lw_m8 110 rfl
theorem q1903 : (Jvm.Cond.instanceMethod ({ cls := "RatSortersModel", name := "is", desc := "(I)Z" } : Jvm.MethodName)) ∈ lw_all := lw_g (lw_at lw_m8 111 rfl) rfl
theorem q1904 : (Jvm.Cond.code ({ cls := "RatSortersModel", name := "is", desc := "(I)Z" } : Jvm.MethodName) prog_24_method_14_code (2 : Nat) (Option.some Jvm.ClassFile.FieldType.boolean)) ∈ lw_all := lw_g (lw_at lw_m8 112 rfl) rfl
theorem q1905 : (Jvm.Cond.methodLink "RatSortersModel" (272 : Nat) ({ cls := "RatSortersModel", name := "tellOne", desc := "()V" } : Jvm.MethodName)) ∈ lw_all := lw_g (lw_at lw_m8 113 rfl) rfl
theorem q1906 : (Jvm.Cond.privateMethod ({ cls := "RatSortersModel", name := "tellOne", desc := "()V" } : Jvm.MethodName)) ∈ lw_tbl := lw_at lw_m8 114 rfl
theorem q1907 : (Jvm.Cond.instanceMethod ({ cls := "RatSortersModel", name := "tellOne", desc := "()V" } : Jvm.MethodName)) ∈ lw_all := lw_g (lw_at lw_m8 115 rfl) rfl
theorem q1908 : (Jvm.Cond.code ({ cls := "RatSortersModel", name := "tellOne", desc := "()V" } : Jvm.MethodName) prog_24_method_23_code (2 : Nat) (Option.none : Option Jvm.ClassFile.FieldType)) ∈ lw_all := lw_g (lw_at lw_m8 116 rfl) rfl
theorem q1909 : (Jvm.Cond.methodLink "RatSortersModel" (281 : Nat) ({ cls := "RatSortersModel", name := "roomFor", desc := "(II)V" } : Jvm.MethodName)) ∈ lw_all := lw_g (lw_at lw_m8 117 rfl) rfl
theorem q1910 : (Jvm.Cond.privateMethod ({ cls := "RatSortersModel", name := "roomFor", desc := "(II)V" } : Jvm.MethodName)) ∈ lw_tbl := lw_at lw_m8 118 rfl
theorem q1911 : (Jvm.Cond.instanceMethod ({ cls := "RatSortersModel", name := "roomFor", desc := "(II)V" } : Jvm.MethodName)) ∈ lw_all := lw_g (lw_at lw_m8 119 rfl) rfl
theorem q1912 : (Jvm.Cond.code ({ cls := "RatSortersModel", name := "roomFor", desc := "(II)V" } : Jvm.MethodName) prog_24_method_22_code (3 : Nat) (Option.none : Option Jvm.ClassFile.FieldType)) ∈ lw_all := lw_g (lw_at lw_m8 120 rfl) rfl
theorem q1913 : (Jvm.Cond.methodLink "RatSortersModel" (242 : Nat) ({ cls := "RatSortersModel", name := "fail", desc := "(I)V" } : Jvm.MethodName)) ∈ lw_all := lw_g (lw_at lw_m8 121 rfl) rfl
theorem q1914 : (Jvm.Cond.privateMethod ({ cls := "RatSortersModel", name := "fail", desc := "(I)V" } : Jvm.MethodName)) ∈ lw_tbl := lw_at lw_m8 122 rfl
theorem q1915 : (Jvm.Cond.instanceMethod ({ cls := "RatSortersModel", name := "fail", desc := "(I)V" } : Jvm.MethodName)) ∈ lw_all := lw_g (lw_at lw_m8 123 rfl) rfl
theorem q1916 : (Jvm.Cond.code ({ cls := "RatSortersModel", name := "fail", desc := "(I)V" } : Jvm.MethodName) prog_24_method_15_code (2 : Nat) (Option.none : Option Jvm.ClassFile.FieldType)) ∈ lw_all := lw_g (lw_at lw_m8 124 rfl) rfl
theorem q1917 : (Jvm.Cond.methodLink "RatSortersModel" (248 : Nat) ({ cls := "RatSortersModel", name := "goesOn", desc := "()V" } : Jvm.MethodName)) ∈ lw_all := lw_g (lw_at lw_m8 125 rfl) rfl
theorem q1918 : (Jvm.Cond.privateMethod ({ cls := "RatSortersModel", name := "goesOn", desc := "()V" } : Jvm.MethodName)) ∈ lw_tbl := lw_at lw_m8 126 rfl
theorem q1919 : (Jvm.Cond.instanceMethod ({ cls := "RatSortersModel", name := "goesOn", desc := "()V" } : Jvm.MethodName)) ∈ lw_all := lw_g (lw_at lw_m8 127 rfl) rfl
theorem q1920 : (Jvm.Cond.code ({ cls := "RatSortersModel", name := "goesOn", desc := "()V" } : Jvm.MethodName) prog_24_method_17_code (1 : Nat) (Option.none : Option Jvm.ClassFile.FieldType)) ∈ lw_all := lw_g (lw_at lw_m8 128 rfl) rfl
theorem q1921 : (Jvm.Cond.methodLink "RatSortersModel" (285 : Nat) ({ cls := "RatSortersModel", name := "tellGrain", desc := "()V" } : Jvm.MethodName)) ∈ lw_all := lw_g (lw_at lw_m8 129 rfl) rfl
theorem q1922 : (Jvm.Cond.privateMethod ({ cls := "RatSortersModel", name := "tellGrain", desc := "()V" } : Jvm.MethodName)) ∈ lw_tbl := lw_at lw_m8 130 rfl
theorem q1923 : (Jvm.Cond.instanceMethod ({ cls := "RatSortersModel", name := "tellGrain", desc := "()V" } : Jvm.MethodName)) ∈ lw_all := lw_g (lw_at lw_m8 131 rfl) rfl
theorem q1924 : (Jvm.Cond.code ({ cls := "RatSortersModel", name := "tellGrain", desc := "()V" } : Jvm.MethodName) prog_24_method_28_code (3 : Nat) (Option.none : Option Jvm.ClassFile.FieldType)) ∈ lw_all := lw_g (lw_at lw_m8 132 rfl) rfl
theorem q1925 : (Jvm.Cond.methodLink "RatSortersModel" (310 : Nat) ({ cls := "RatSortersModel", name := "named", desc := "()I" } : Jvm.MethodName)) ∈ lw_all := lw_g (lw_at lw_m8 133 rfl) rfl
theorem q1926 : (Jvm.Cond.privateMethod ({ cls := "RatSortersModel", name := "named", desc := "()I" } : Jvm.MethodName)) ∈ lw_tbl := lw_at lw_m8 134 rfl
theorem q1927 : (Jvm.Cond.instanceMethod ({ cls := "RatSortersModel", name := "named", desc := "()I" } : Jvm.MethodName)) ∈ lw_all := lw_g (lw_at lw_m8 135 rfl) rfl
theorem q1928 : (Jvm.Cond.code ({ cls := "RatSortersModel", name := "named", desc := "()I" } : Jvm.MethodName) prog_24_method_24_code (3 : Nat) (Option.some Jvm.ClassFile.FieldType.int)) ∈ lw_all := lw_g (lw_at lw_m8 136 rfl) rfl
theorem q1929 : (Jvm.Cond.methodLink "RatSortersModel" (301 : Nat) ({ cls := "RatSortersModel", name := "must", desc := "(I)V" } : Jvm.MethodName)) ∈ lw_all := lw_g (lw_at lw_m8 137 rfl) rfl
theorem q1930 : (Jvm.Cond.privateMethod ({ cls := "RatSortersModel", name := "must", desc := "(I)V" } : Jvm.MethodName)) ∈ lw_tbl := lw_at lw_m8 138 rfl
theorem q1931 : (Jvm.Cond.instanceMethod ({ cls := "RatSortersModel", name := "must", desc := "(I)V" } : Jvm.MethodName)) ∈ lw_all := lw_g (lw_at lw_m8 139 rfl) rfl
theorem q1932 : (Jvm.Cond.code ({ cls := "RatSortersModel", name := "must", desc := "(I)V" } : Jvm.MethodName) prog_24_method_18_code (2 : Nat) (Option.none : Option Jvm.ClassFile.FieldType)) ∈ lw_all := lw_g (lw_at lw_m8 140 rfl) rfl
theorem q1933 : (Jvm.Cond.methodLink "RatSortersModel" (307 : Nat) ({ cls := "RatSortersModel", name := "wrong", desc := "(II)V" } : Jvm.MethodName)) ∈ lw_all := lw_g (lw_at lw_m8 141 rfl) rfl
theorem q1934 : (Jvm.Cond.privateMethod ({ cls := "RatSortersModel", name := "wrong", desc := "(II)V" } : Jvm.MethodName)) ∈ lw_tbl := lw_at lw_m8 142 rfl
theorem q1935 : (Jvm.Cond.instanceMethod ({ cls := "RatSortersModel", name := "wrong", desc := "(II)V" } : Jvm.MethodName)) ∈ lw_all := lw_g (lw_at lw_m8 143 rfl) rfl
theorem q1936 : (Jvm.Cond.code ({ cls := "RatSortersModel", name := "wrong", desc := "(II)V" } : Jvm.MethodName) prog_24_method_16_code (4 : Nat) (Option.none : Option Jvm.ClassFile.FieldType)) ∈ lw_all := lw_g (lw_at lw_m8 144 rfl) rfl
theorem q1937 : (Jvm.Cond.methodLink "RatSortersModel" (297 : Nat) ({ cls := "RatSortersModel", name := "bounded", desc := "(II)I" } : Jvm.MethodName)) ∈ lw_all := lw_g (lw_at lw_m8 145 rfl) rfl
theorem q1938 : (Jvm.Cond.privateMethod ({ cls := "RatSortersModel", name := "bounded", desc := "(II)I" } : Jvm.MethodName)) ∈ lw_tbl := lw_at lw_m8 146 rfl
theorem q1939 : (Jvm.Cond.instanceMethod ({ cls := "RatSortersModel", name := "bounded", desc := "(II)I" } : Jvm.MethodName)) ∈ lw_all := lw_g (lw_at lw_m8 147 rfl) rfl
theorem q1940 : (Jvm.Cond.code ({ cls := "RatSortersModel", name := "bounded", desc := "(II)I" } : Jvm.MethodName) prog_24_method_27_code (4 : Nat) (Option.some Jvm.ClassFile.FieldType.int)) ∈ lw_all := lw_g (lw_at lw_m8 148 rfl) rfl
theorem q1941 : (Jvm.Cond.methodLink "RatSortersModel" (314 : Nat) ({ cls := "RatSortersModel", name := "notes", desc := "(III)V" } : Jvm.MethodName)) ∈ lw_all := lw_g (lw_at lw_m8 149 rfl) rfl
theorem q1942 : (Jvm.Cond.privateMethod ({ cls := "RatSortersModel", name := "notes", desc := "(III)V" } : Jvm.MethodName)) ∈ lw_tbl := lw_at lw_m8 150 rfl
theorem q1943 : (Jvm.Cond.instanceMethod ({ cls := "RatSortersModel", name := "notes", desc := "(III)V" } : Jvm.MethodName)) ∈ lw_all := lw_g (lw_at lw_m8 151 rfl) rfl
theorem q1944 : (Jvm.Cond.code ({ cls := "RatSortersModel", name := "notes", desc := "(III)V" } : Jvm.MethodName) prog_24_method_25_code (4 : Nat) (Option.none : Option Jvm.ClassFile.FieldType)) ∈ lw_all := lw_g (lw_at lw_m8 152 rfl) rfl
theorem q1945 : (Jvm.Cond.methodLink "RatSortersModel" (288 : Nat) ({ cls := "RatSortersModel", name := "tellHole", desc := "()V" } : Jvm.MethodName)) ∈ lw_all := lw_g (lw_at lw_m8 153 rfl) rfl
theorem q1946 : (Jvm.Cond.privateMethod ({ cls := "RatSortersModel", name := "tellHole", desc := "()V" } : Jvm.MethodName)) ∈ lw_tbl := lw_at lw_m8 154 rfl
theorem q1947 : (Jvm.Cond.instanceMethod ({ cls := "RatSortersModel", name := "tellHole", desc := "()V" } : Jvm.MethodName)) ∈ lw_all := lw_g (lw_at lw_m8 155 rfl) rfl
theorem q1948 : (Jvm.Cond.code ({ cls := "RatSortersModel", name := "tellHole", desc := "()V" } : Jvm.MethodName) prog_24_method_29_code (3 : Nat) (Option.none : Option Jvm.ClassFile.FieldType)) ∈ lw_all := lw_g (lw_at lw_m8 156 rfl) rfl
theorem q1949 : (Jvm.Cond.methodLink "RatSortersModel" (318 : Nat) ({ cls := "RatSortersModel", name := "known", desc := "(I)I" } : Jvm.MethodName)) ∈ lw_all := lw_g (lw_at lw_m8 157 rfl) rfl
theorem q1950 : (Jvm.Cond.privateMethod ({ cls := "RatSortersModel", name := "known", desc := "(I)I" } : Jvm.MethodName)) ∈ lw_tbl := lw_at lw_m8 158 rfl
theorem q1951 : (Jvm.Cond.instanceMethod ({ cls := "RatSortersModel", name := "known", desc := "(I)I" } : Jvm.MethodName)) ∈ lw_all := lw_g (lw_at lw_m8 159 rfl) rfl
theorem q1952 : (Jvm.Cond.code ({ cls := "RatSortersModel", name := "known", desc := "(I)I" } : Jvm.MethodName) prog_24_method_26_code (4 : Nat) (Option.some Jvm.ClassFile.FieldType.int)) ∈ lw_all := lw_g (lw_at lw_m8 160 rfl) rfl
theorem q1953 : (Jvm.Cond.methodLink "RatSortersModel" (291 : Nat) ({ cls := "RatSortersModel", name := "tellRat", desc := "()V" } : Jvm.MethodName)) ∈ lw_all := lw_g (lw_at lw_m8 161 rfl) rfl
theorem q1954 : (Jvm.Cond.privateMethod ({ cls := "RatSortersModel", name := "tellRat", desc := "()V" } : Jvm.MethodName)) ∈ lw_tbl := lw_at lw_m8 162 rfl
theorem q1955 : (Jvm.Cond.instanceMethod ({ cls := "RatSortersModel", name := "tellRat", desc := "()V" } : Jvm.MethodName)) ∈ lw_all := lw_g (lw_at lw_m8 163 rfl) rfl
theorem q1956 : (Jvm.Cond.code ({ cls := "RatSortersModel", name := "tellRat", desc := "()V" } : Jvm.MethodName) prog_24_method_30_code (3 : Nat) (Option.none : Option Jvm.ClassFile.FieldType)) ∈ lw_all := lw_g (lw_at lw_m8 164 rfl) rfl
theorem q1957 : (Jvm.Cond.methodLink "RatSortersModel" (294 : Nat) ({ cls := "RatSortersModel", name := "tellWants", desc := "()V" } : Jvm.MethodName)) ∈ lw_all := lw_g (lw_at lw_m8 165 rfl) rfl
theorem q1958 : (Jvm.Cond.privateMethod ({ cls := "RatSortersModel", name := "tellWants", desc := "()V" } : Jvm.MethodName)) ∈ lw_tbl := lw_at lw_m8 166 rfl
theorem q1959 : (Jvm.Cond.instanceMethod ({ cls := "RatSortersModel", name := "tellWants", desc := "()V" } : Jvm.MethodName)) ∈ lw_all := lw_g (lw_at lw_m8 167 rfl) rfl
theorem q1960 : (Jvm.Cond.code ({ cls := "RatSortersModel", name := "tellWants", desc := "()V" } : Jvm.MethodName) prog_24_method_31_code (6 : Nat) (Option.none : Option Jvm.ClassFile.FieldType)) ∈ lw_all := lw_g (lw_at lw_m8 168 rfl) rfl
theorem q1961 : (Jvm.Cond.methodLink "RatSortersModel" (304 : Nat) ({ cls := "RatSortersModel", name := "tellLaw", desc := "(I)V" } : Jvm.MethodName)) ∈ lw_all := lw_g (lw_at lw_m8 169 rfl) rfl
theorem q1962 : (Jvm.Cond.privateMethod ({ cls := "RatSortersModel", name := "tellLaw", desc := "(I)V" } : Jvm.MethodName)) ∈ lw_tbl := lw_at lw_m8 170 rfl
theorem q1963 : (Jvm.Cond.instanceMethod ({ cls := "RatSortersModel", name := "tellLaw", desc := "(I)V" } : Jvm.MethodName)) ∈ lw_all := lw_g (lw_at lw_m8 171 rfl) rfl
theorem q1964 : (Jvm.Cond.code ({ cls := "RatSortersModel", name := "tellLaw", desc := "(I)V" } : Jvm.MethodName) prog_24_method_32_code (4 : Nat) (Option.none : Option Jvm.ClassFile.FieldType)) ∈ lw_all := lw_g (lw_at lw_m8 172 rfl) rfl
theorem q1965 : (Jvm.Cond.methodLink "RatSortersModel" (321 : Nat) ({ cls := "RatSortersModel", name := "expression", desc := "()V" } : Jvm.MethodName)) ∈ lw_all := lw_g (lw_at lw_m8 173 rfl) rfl
theorem q1966 : (Jvm.Cond.privateMethod ({ cls := "RatSortersModel", name := "expression", desc := "()V" } : Jvm.MethodName)) ∈ lw_tbl := lw_at lw_m8 174 rfl
theorem q1967 : (Jvm.Cond.instanceMethod ({ cls := "RatSortersModel", name := "expression", desc := "()V" } : Jvm.MethodName)) ∈ lw_all := lw_g (lw_at lw_m8 175 rfl) rfl
theorem q1968 : (Jvm.Cond.code ({ cls := "RatSortersModel", name := "expression", desc := "()V" } : Jvm.MethodName) prog_24_method_36_code (3 : Nat) (Option.none : Option Jvm.ClassFile.FieldType)) ∈ lw_all := lw_g (lw_at lw_m8 176 rfl) rfl
theorem q1969 : (Jvm.Cond.methodLink "RatSortersModel" (333 : Nat) ({ cls := "RatSortersModel", name := "unit", desc := "()V" } : Jvm.MethodName)) ∈ lw_all := lw_g (lw_at lw_m8 177 rfl) rfl
theorem q1970 : (Jvm.Cond.privateMethod ({ cls := "RatSortersModel", name := "unit", desc := "()V" } : Jvm.MethodName)) ∈ lw_tbl := lw_at lw_m8 178 rfl
theorem q1971 : (Jvm.Cond.instanceMethod ({ cls := "RatSortersModel", name := "unit", desc := "()V" } : Jvm.MethodName)) ∈ lw_all := lw_g (lw_at lw_m8 179 rfl) rfl
theorem q1972 : (Jvm.Cond.code ({ cls := "RatSortersModel", name := "unit", desc := "()V" } : Jvm.MethodName) prog_24_method_37_code (1 : Nat) (Option.none : Option Jvm.ClassFile.FieldType)) ∈ lw_all := lw_g (lw_at lw_m8 180 rfl) rfl
theorem q1973 : (Jvm.Cond.methodLink "RatSortersModel" (330 : Nat) ({ cls := "RatSortersModel", name := "emit", desc := "(II)V" } : Jvm.MethodName)) ∈ lw_all := lw_g (lw_at lw_m8 181 rfl) rfl
theorem q1974 : (Jvm.Cond.privateMethod ({ cls := "RatSortersModel", name := "emit", desc := "(II)V" } : Jvm.MethodName)) ∈ lw_tbl := lw_at lw_m8 182 rfl
theorem q1975 : (Jvm.Cond.instanceMethod ({ cls := "RatSortersModel", name := "emit", desc := "(II)V" } : Jvm.MethodName)) ∈ lw_all := lw_g (lw_at lw_m8 183 rfl) rfl
theorem q1976 : (Jvm.Cond.code ({ cls := "RatSortersModel", name := "emit", desc := "(II)V" } : Jvm.MethodName) prog_24_method_34_code (3 : Nat) (Option.none : Option Jvm.ClassFile.FieldType)) ∈ lw_all := lw_g (lw_at lw_m8 184 rfl) rfl
theorem q1977 : (Jvm.Cond.methodLink "RatSortersModel" (336 : Nat) ({ cls := "RatSortersModel", name := "comesOut", desc := "(Z)V" } : Jvm.MethodName)) ∈ lw_all := lw_g (lw_at lw_m8 185 rfl) rfl
theorem q1978 : (Jvm.Cond.privateMethod ({ cls := "RatSortersModel", name := "comesOut", desc := "(Z)V" } : Jvm.MethodName)) ∈ lw_tbl := lw_at lw_m8 186 rfl
theorem q1979 : (Jvm.Cond.instanceMethod ({ cls := "RatSortersModel", name := "comesOut", desc := "(Z)V" } : Jvm.MethodName)) ∈ lw_all := lw_g (lw_at lw_m8 187 rfl) rfl
theorem q1980 : (Jvm.Cond.code ({ cls := "RatSortersModel", name := "comesOut", desc := "(Z)V" } : Jvm.MethodName) prog_24_method_35_code (3 : Nat) (Option.none : Option Jvm.ClassFile.FieldType)) ∈ lw_all := lw_g (lw_at lw_m8 188 rfl) rfl
theorem q1981 : (Jvm.Cond.methodLink "RatSortersModel" (324 : Nat) ({ cls := "RatSortersModel", name := "term", desc := "()V" } : Jvm.MethodName)) ∈ lw_all := lw_g (lw_at lw_m8 189 rfl) rfl
theorem q1982 : (Jvm.Cond.privateMethod ({ cls := "RatSortersModel", name := "term", desc := "()V" } : Jvm.MethodName)) ∈ lw_tbl := lw_at lw_m8 190 rfl
theorem q1983 : (Jvm.Cond.instanceMethod ({ cls := "RatSortersModel", name := "term", desc := "()V" } : Jvm.MethodName)) ∈ lw_all := lw_g (lw_at lw_m8 191 rfl) rfl
theorem q1984 : (Jvm.Cond.code ({ cls := "RatSortersModel", name := "term", desc := "()V" } : Jvm.MethodName) prog_24_method_33_code (1 : Nat) (Option.none : Option Jvm.ClassFile.FieldType)) ∈ lw_all := lw_g (lw_at lw_m8 192 rfl) rfl
theorem q1986 : (Jvm.Cond.instanceMethod ({ cls := "RatSortersModel", name := "place", desc := "()I" } : Jvm.MethodName)) ∈ lw_all := lw_g (lw_at lw_m8 194 rfl) rfl
theorem q1987 : (Jvm.Cond.selects "RatSortersModel" ({ cls := "RatSortersModel", name := "place", desc := "()I" } : Jvm.MethodName) ({ cls := "RatSortersModel", name := "place", desc := "()I" } : Jvm.MethodName)) ∈ lw_all := lw_g (lw_at lw_m8 195 rfl) rfl
theorem q1988 : (Jvm.Cond.code ({ cls := "RatSortersModel", name := "place", desc := "()I" } : Jvm.MethodName) prog_24_method_21_code (1 : Nat) (Option.some Jvm.ClassFile.FieldType.int)) ∈ lw_all := lw_g (lw_at lw_m8 196 rfl) rfl
theorem q1990 : (Jvm.Cond.instanceMethod ({ cls := "RatSortersModel", name := "heap", desc := "(I)I" } : Jvm.MethodName)) ∈ lw_all := lw_g (lw_at lw_m8 198 rfl) rfl
theorem q1991 : (Jvm.Cond.selects "RatSortersModel" ({ cls := "RatSortersModel", name := "heap", desc := "(I)I" } : Jvm.MethodName) ({ cls := "RatSortersModel", name := "heap", desc := "(I)I" } : Jvm.MethodName)) ∈ lw_all := lw_g (lw_at lw_m8 199 rfl) rfl
theorem q1992 : (Jvm.Cond.code ({ cls := "RatSortersModel", name := "heap", desc := "(I)I" } : Jvm.MethodName) prog_24_method_62_code (2 : Nat) (Option.some Jvm.ClassFile.FieldType.int)) ∈ lw_all := lw_g (lw_at lw_m8 200 rfl) rfl
theorem q1993 : (Jvm.Cond.methodLink "RatSortersModel" (386 : Nat) ({ cls := "RatSortersModel", name := "isGrain", desc := "(I)Z" } : Jvm.MethodName)) ∈ lw_all := lw_g (lw_at lw_m8 201 rfl) rfl
theorem q1994 : (Jvm.Cond.privateMethod ({ cls := "RatSortersModel", name := "isGrain", desc := "(I)Z" } : Jvm.MethodName)) ∈ lw_tbl := lw_at lw_m8 202 rfl
theorem q1995 : (Jvm.Cond.instanceMethod ({ cls := "RatSortersModel", name := "isGrain", desc := "(I)Z" } : Jvm.MethodName)) ∈ lw_all := lw_g (lw_at lw_m8 203 rfl) rfl
theorem q1996 : (Jvm.Cond.code ({ cls := "RatSortersModel", name := "isGrain", desc := "(I)Z" } : Jvm.MethodName) prog_24_method_44_code (2 : Nat) (Option.some Jvm.ClassFile.FieldType.boolean)) ∈ lw_all := lw_g (lw_at lw_m8 204 rfl) rfl
theorem q1997 : (Jvm.Cond.methodLink "RatSortersModel" (350 : Nat) ({ cls := "RatSortersModel", name := "in", desc := "(III)Z" } : Jvm.MethodName)) ∈ lw_all := lw_g (lw_at lw_m8 205 rfl) rfl
theorem q1998 : (Jvm.Cond.static ({ cls := "RatSortersModel", name := "in", desc := "(III)Z" } : Jvm.MethodName)) ∈ lw_all := lw_g (lw_at lw_m8 206 rfl) rfl
theorem q1999 : (Jvm.Cond.code ({ cls := "RatSortersModel", name := "in", desc := "(III)Z" } : Jvm.MethodName) prog_24_method_39_code (3 : Nat) (Option.some Jvm.ClassFile.FieldType.boolean)) ∈ lw_all := lw_g (lw_at lw_m8 207 rfl) rfl
theorem q2001 : (Jvm.Cond.instanceMethod ({ cls := "RatSortersModel", name := "hole", desc := "(II)I" } : Jvm.MethodName)) ∈ lw_all := lw_g (lw_at lw_m8 209 rfl) rfl
theorem q2002 : (Jvm.Cond.selects "RatSortersModel" ({ cls := "RatSortersModel", name := "hole", desc := "(II)I" } : Jvm.MethodName) ({ cls := "RatSortersModel", name := "hole", desc := "(II)I" } : Jvm.MethodName)) ∈ lw_all := lw_g (lw_at lw_m8 210 rfl) rfl
theorem q2003 : (Jvm.Cond.code ({ cls := "RatSortersModel", name := "hole", desc := "(II)I" } : Jvm.MethodName) prog_24_method_63_code (3 : Nat) (Option.some Jvm.ClassFile.FieldType.int)) ∈ lw_all := lw_g (lw_at lw_m8 211 rfl) rfl
theorem q2004 : (Jvm.Cond.methodLink "RatSortersModel" (389 : Nat) ({ cls := "RatSortersModel", name := "isHole", desc := "(I)Z" } : Jvm.MethodName)) ∈ lw_all := lw_g (lw_at lw_m8 212 rfl) rfl
theorem q2005 : (Jvm.Cond.privateMethod ({ cls := "RatSortersModel", name := "isHole", desc := "(I)Z" } : Jvm.MethodName)) ∈ lw_tbl := lw_at lw_m8 213 rfl
theorem q2006 : (Jvm.Cond.instanceMethod ({ cls := "RatSortersModel", name := "isHole", desc := "(I)Z" } : Jvm.MethodName)) ∈ lw_all := lw_g (lw_at lw_m8 214 rfl) rfl
theorem q2007 : (Jvm.Cond.code ({ cls := "RatSortersModel", name := "isHole", desc := "(I)Z" } : Jvm.MethodName) prog_24_method_45_code (2 : Nat) (Option.some Jvm.ClassFile.FieldType.boolean)) ∈ lw_all := lw_g (lw_at lw_m8 215 rfl) rfl
theorem q2009 : (Jvm.Cond.instanceMethod ({ cls := "RatSortersModel", name := "rat", desc := "(II)I" } : Jvm.MethodName)) ∈ lw_all := lw_g (lw_at lw_m8 217 rfl) rfl
theorem q2010 : (Jvm.Cond.selects "RatSortersModel" ({ cls := "RatSortersModel", name := "rat", desc := "(II)I" } : Jvm.MethodName) ({ cls := "RatSortersModel", name := "rat", desc := "(II)I" } : Jvm.MethodName)) ∈ lw_all := lw_g (lw_at lw_m8 218 rfl) rfl
theorem q2011 : (Jvm.Cond.code ({ cls := "RatSortersModel", name := "rat", desc := "(II)I" } : Jvm.MethodName) prog_24_method_64_code (3 : Nat) (Option.some Jvm.ClassFile.FieldType.int)) ∈ lw_all := lw_g (lw_at lw_m8 219 rfl) rfl
theorem q2012 : (Jvm.Cond.methodLink "RatSortersModel" (392 : Nat) ({ cls := "RatSortersModel", name := "isRat", desc := "(I)Z" } : Jvm.MethodName)) ∈ lw_all := lw_g (lw_at lw_m8 220 rfl) rfl
theorem q2013 : (Jvm.Cond.privateMethod ({ cls := "RatSortersModel", name := "isRat", desc := "(I)Z" } : Jvm.MethodName)) ∈ lw_tbl := lw_at lw_m8 221 rfl
theorem q2014 : (Jvm.Cond.instanceMethod ({ cls := "RatSortersModel", name := "isRat", desc := "(I)Z" } : Jvm.MethodName)) ∈ lw_all := lw_g (lw_at lw_m8 222 rfl) rfl
theorem q2015 : (Jvm.Cond.code ({ cls := "RatSortersModel", name := "isRat", desc := "(I)Z" } : Jvm.MethodName) prog_24_method_46_code (2 : Nat) (Option.some Jvm.ClassFile.FieldType.boolean)) ∈ lw_all := lw_g (lw_at lw_m8 223 rfl) rfl
theorem q2017 : (Jvm.Cond.instanceMethod ({ cls := "RatSortersModel", name := "worth", desc := "(I)I" } : Jvm.MethodName)) ∈ lw_all := lw_g (lw_at lw_m8 225 rfl) rfl
theorem q2018 : (Jvm.Cond.selects "RatSortersModel" ({ cls := "RatSortersModel", name := "worth", desc := "(I)I" } : Jvm.MethodName) ({ cls := "RatSortersModel", name := "worth", desc := "(I)I" } : Jvm.MethodName)) ∈ lw_all := lw_g (lw_at lw_m8 226 rfl) rfl
theorem q2019 : (Jvm.Cond.code ({ cls := "RatSortersModel", name := "worth", desc := "(I)I" } : Jvm.MethodName) prog_24_method_65_code (2 : Nat) (Option.some Jvm.ClassFile.FieldType.int)) ∈ lw_all := lw_g (lw_at lw_m8 227 rfl) rfl
theorem q2020 : (Jvm.Cond.methodLink "RatSortersModel" (395 : Nat) ({ cls := "RatSortersModel", name := "copies", desc := "()V" } : Jvm.MethodName)) ∈ lw_all := lw_g (lw_at lw_m8 228 rfl) rfl
theorem q2021 : (Jvm.Cond.privateMethod ({ cls := "RatSortersModel", name := "copies", desc := "()V" } : Jvm.MethodName)) ∈ lw_tbl := lw_at lw_m8 229 rfl
theorem q2022 : (Jvm.Cond.instanceMethod ({ cls := "RatSortersModel", name := "copies", desc := "()V" } : Jvm.MethodName)) ∈ lw_all := lw_g (lw_at lw_m8 230 rfl) rfl
theorem q2023 : (Jvm.Cond.code ({ cls := "RatSortersModel", name := "copies", desc := "()V" } : Jvm.MethodName) prog_24_method_43_code (2 : Nat) (Option.none : Option Jvm.ClassFile.FieldType)) ∈ lw_all := lw_g (lw_at lw_m8 231 rfl) rfl
theorem q2024 : (Jvm.Cond.methodLink "RatSortersModel" (383 : Nat) ({ cls := "RatSortersModel", name := "worthOf", desc := "(I)I" } : Jvm.MethodName)) ∈ lw_all := lw_g (lw_at lw_m8 232 rfl) rfl
theorem q2025 : (Jvm.Cond.privateMethod ({ cls := "RatSortersModel", name := "worthOf", desc := "(I)I" } : Jvm.MethodName)) ∈ lw_tbl := lw_at lw_m8 233 rfl
theorem q2026 : (Jvm.Cond.instanceMethod ({ cls := "RatSortersModel", name := "worthOf", desc := "(I)I" } : Jvm.MethodName)) ∈ lw_all := lw_g (lw_at lw_m8 234 rfl) rfl
theorem q2027 : (Jvm.Cond.code ({ cls := "RatSortersModel", name := "worthOf", desc := "(I)I" } : Jvm.MethodName) prog_24_method_56_code (5 : Nat) (Option.some Jvm.ClassFile.FieldType.int)) ∈ lw_all := lw_g (lw_at lw_m8 235 rfl) rfl
theorem q2029 : (Jvm.Cond.instanceMethod ({ cls := "RatSortersModel", name := "pure", desc := "(IZ)I" } : Jvm.MethodName)) ∈ lw_all := lw_g (lw_at lw_m8 237 rfl) rfl
theorem q2030 : (Jvm.Cond.selects "RatSortersModel" ({ cls := "RatSortersModel", name := "pure", desc := "(IZ)I" } : Jvm.MethodName) ({ cls := "RatSortersModel", name := "pure", desc := "(IZ)I" } : Jvm.MethodName)) ∈ lw_all := lw_g (lw_at lw_m8 238 rfl) rfl
theorem q2031 : (Jvm.Cond.code ({ cls := "RatSortersModel", name := "pure", desc := "(IZ)I" } : Jvm.MethodName) prog_24_method_67_code (6 : Nat) (Option.some Jvm.ClassFile.FieldType.int)) ∈ lw_all := lw_g (lw_at lw_m8 239 rfl) rfl
theorem q2032 : (Jvm.Cond.methodLink "RatSortersModel" (398 : Nat) ({ cls := "RatSortersModel", name := "common", desc := "(II)I" } : Jvm.MethodName)) ∈ lw_all := lw_g (lw_at lw_m9 0 rfl) rfl
theorem q2033 : (Jvm.Cond.static ({ cls := "RatSortersModel", name := "common", desc := "(II)I" } : Jvm.MethodName)) ∈ lw_all := lw_g (lw_at lw_m9 1 rfl) rfl
theorem q2034 : (Jvm.Cond.code ({ cls := "RatSortersModel", name := "common", desc := "(II)I" } : Jvm.MethodName) prog_24_method_66_code (5 : Nat) (Option.some Jvm.ClassFile.FieldType.int)) ∈ lw_all := lw_g (lw_at lw_m9 2 rfl) rfl
theorem q2036 : (Jvm.Cond.instanceMethod ({ cls := "RatSortersModel", name := "minutes", desc := "(I)I" } : Jvm.MethodName)) ∈ lw_all := lw_g (lw_at lw_m9 4 rfl) rfl
theorem q2037 : (Jvm.Cond.selects "RatSortersModel" ({ cls := "RatSortersModel", name := "minutes", desc := "(I)I" } : Jvm.MethodName) ({ cls := "RatSortersModel", name := "minutes", desc := "(I)I" } : Jvm.MethodName)) ∈ lw_all := lw_g (lw_at lw_m9 5 rfl) rfl
theorem q2038 : (Jvm.Cond.code ({ cls := "RatSortersModel", name := "minutes", desc := "(I)I" } : Jvm.MethodName) prog_24_method_69_code (2 : Nat) (Option.some Jvm.ClassFile.FieldType.int)) ∈ lw_all := lw_g (lw_at lw_m9 6 rfl) rfl
theorem q2039 : (Jvm.Cond.methodLink "RatSortersModel" (401 : Nat) ({ cls := "RatSortersModel", name := "goes", desc := "(I)V" } : Jvm.MethodName)) ∈ lw_all := lw_g (lw_at lw_m9 7 rfl) rfl
theorem q2040 : (Jvm.Cond.privateMethod ({ cls := "RatSortersModel", name := "goes", desc := "(I)V" } : Jvm.MethodName)) ∈ lw_tbl := lw_at lw_m9 8 rfl
theorem q2041 : (Jvm.Cond.instanceMethod ({ cls := "RatSortersModel", name := "goes", desc := "(I)V" } : Jvm.MethodName)) ∈ lw_all := lw_g (lw_at lw_m9 9 rfl) rfl
theorem q2042 : (Jvm.Cond.code ({ cls := "RatSortersModel", name := "goes", desc := "(I)V" } : Jvm.MethodName) prog_24_method_55_code (3 : Nat) (Option.none : Option Jvm.ClassFile.FieldType)) ∈ lw_all := lw_g (lw_at lw_m9 10 rfl) rfl
theorem q2043 : (Jvm.Cond.methodLink "RatSortersModel" (380 : Nat) ({ cls := "RatSortersModel", name := "minuteGoes", desc := "()V" } : Jvm.MethodName)) ∈ lw_all := lw_g (lw_at lw_m9 11 rfl) rfl
theorem q2044 : (Jvm.Cond.privateMethod ({ cls := "RatSortersModel", name := "minuteGoes", desc := "()V" } : Jvm.MethodName)) ∈ lw_tbl := lw_at lw_m9 12 rfl
theorem q2045 : (Jvm.Cond.instanceMethod ({ cls := "RatSortersModel", name := "minuteGoes", desc := "()V" } : Jvm.MethodName)) ∈ lw_all := lw_g (lw_at lw_m9 13 rfl) rfl
theorem q2046 : (Jvm.Cond.code ({ cls := "RatSortersModel", name := "minuteGoes", desc := "()V" } : Jvm.MethodName) prog_24_method_54_code (3 : Nat) (Option.none : Option Jvm.ClassFile.FieldType)) ∈ lw_all := lw_g (lw_at lw_m9 14 rfl) rfl
theorem q2047 : (Jvm.Cond.methodLink "RatSortersModel" (374 : Nat) ({ cls := "RatSortersModel", name := "atHeap", desc := "(I)V" } : Jvm.MethodName)) ∈ lw_all := lw_g (lw_at lw_m9 15 rfl) rfl
theorem q2048 : (Jvm.Cond.privateMethod ({ cls := "RatSortersModel", name := "atHeap", desc := "(I)V" } : Jvm.MethodName)) ∈ lw_tbl := lw_at lw_m9 16 rfl
theorem q2049 : (Jvm.Cond.instanceMethod ({ cls := "RatSortersModel", name := "atHeap", desc := "(I)V" } : Jvm.MethodName)) ∈ lw_all := lw_g (lw_at lw_m9 17 rfl) rfl
theorem q2050 : (Jvm.Cond.code ({ cls := "RatSortersModel", name := "atHeap", desc := "(I)V" } : Jvm.MethodName) prog_24_method_51_code (7 : Nat) (Option.none : Option Jvm.ClassFile.FieldType)) ∈ lw_all := lw_g (lw_at lw_m9 18 rfl) rfl
theorem q2051 : (Jvm.Cond.methodLink "RatSortersModel" (364 : Nat) ({ cls := "RatSortersModel", name := "nibbles", desc := "(I)V" } : Jvm.MethodName)) ∈ lw_all := lw_g (lw_at lw_m9 19 rfl) rfl
theorem q2052 : (Jvm.Cond.privateMethod ({ cls := "RatSortersModel", name := "nibbles", desc := "(I)V" } : Jvm.MethodName)) ∈ lw_tbl := lw_at lw_m9 20 rfl
theorem q2053 : (Jvm.Cond.instanceMethod ({ cls := "RatSortersModel", name := "nibbles", desc := "(I)V" } : Jvm.MethodName)) ∈ lw_all := lw_g (lw_at lw_m9 21 rfl) rfl
theorem q2054 : (Jvm.Cond.code ({ cls := "RatSortersModel", name := "nibbles", desc := "(I)V" } : Jvm.MethodName) prog_24_method_52_code (4 : Nat) (Option.none : Option Jvm.ClassFile.FieldType)) ∈ lw_all := lw_g (lw_at lw_m9 22 rfl) rfl
theorem q2055 : (Jvm.Cond.methodLink "RatSortersModel" (367 : Nat) ({ cls := "RatSortersModel", name := "tells", desc := "(IIIIII)I" } : Jvm.MethodName)) ∈ lw_all := lw_g (lw_at lw_m9 23 rfl) rfl
theorem q2056 : (Jvm.Cond.privateMethod ({ cls := "RatSortersModel", name := "tells", desc := "(IIIIII)I" } : Jvm.MethodName)) ∈ lw_tbl := lw_at lw_m9 24 rfl
theorem q2057 : (Jvm.Cond.instanceMethod ({ cls := "RatSortersModel", name := "tells", desc := "(IIIIII)I" } : Jvm.MethodName)) ∈ lw_all := lw_g (lw_at lw_m9 25 rfl) rfl
theorem q2058 : (Jvm.Cond.code ({ cls := "RatSortersModel", name := "tells", desc := "(IIIIII)I" } : Jvm.MethodName) prog_24_method_49_code (13 : Nat) (Option.some Jvm.ClassFile.FieldType.int)) ∈ lw_all := lw_g (lw_at lw_m9 26 rfl) rfl
theorem q2059 : (Jvm.Cond.methodLink "RatSortersModel" (358 : Nat) ({ cls := "RatSortersModel", name := "termOf", desc := "(II)I" } : Jvm.MethodName)) ∈ lw_all := lw_g (lw_at lw_m9 27 rfl) rfl
theorem q2060 : (Jvm.Cond.privateMethod ({ cls := "RatSortersModel", name := "termOf", desc := "(II)I" } : Jvm.MethodName)) ∈ lw_tbl := lw_at lw_m9 28 rfl
theorem q2061 : (Jvm.Cond.instanceMethod ({ cls := "RatSortersModel", name := "termOf", desc := "(II)I" } : Jvm.MethodName)) ∈ lw_all := lw_g (lw_at lw_m9 29 rfl) rfl
theorem q2062 : (Jvm.Cond.code ({ cls := "RatSortersModel", name := "termOf", desc := "(II)I" } : Jvm.MethodName) prog_24_method_38_code (8 : Nat) (Option.some Jvm.ClassFile.FieldType.int)) ∈ lw_all := lw_g (lw_at lw_m9 30 rfl) rfl
theorem q2063 : (Jvm.Cond.methodLink "RatSortersModel" (361 : Nat) ({ cls := "RatSortersModel", name := "held", desc := "(III)I" } : Jvm.MethodName)) ∈ lw_all := lw_g (lw_at lw_m9 31 rfl) rfl
theorem q2064 : (Jvm.Cond.static ({ cls := "RatSortersModel", name := "held", desc := "(III)I" } : Jvm.MethodName)) ∈ lw_all := lw_g (lw_at lw_m9 32 rfl) rfl
theorem q2065 : (Jvm.Cond.code ({ cls := "RatSortersModel", name := "held", desc := "(III)I" } : Jvm.MethodName) prog_24_method_50_code (3 : Nat) (Option.some Jvm.ClassFile.FieldType.int)) ∈ lw_all := lw_g (lw_at lw_m9 33 rfl) rfl
theorem q2066 : (Jvm.Cond.methodLink "RatSortersModel" (371 : Nat) ({ cls := "RatSortersModel", name := "lotOf", desc := "(I)I" } : Jvm.MethodName)) ∈ lw_all := lw_g (lw_at lw_m9 34 rfl) rfl
theorem q2067 : (Jvm.Cond.privateMethod ({ cls := "RatSortersModel", name := "lotOf", desc := "(I)I" } : Jvm.MethodName)) ∈ lw_tbl := lw_at lw_m9 35 rfl
theorem q2068 : (Jvm.Cond.instanceMethod ({ cls := "RatSortersModel", name := "lotOf", desc := "(I)I" } : Jvm.MethodName)) ∈ lw_all := lw_g (lw_at lw_m9 36 rfl) rfl
theorem q2069 : (Jvm.Cond.code ({ cls := "RatSortersModel", name := "lotOf", desc := "(I)I" } : Jvm.MethodName) prog_24_method_48_code (2 : Nat) (Option.some Jvm.ClassFile.FieldType.int)) ∈ lw_all := lw_g (lw_at lw_m9 37 rfl) rfl
theorem q2070 : (Jvm.Cond.methodLink "RatSortersModel" (355 : Nat) ({ cls := "RatSortersModel", name := "mixed", desc := "(II)I" } : Jvm.MethodName)) ∈ lw_all := lw_g (lw_at lw_m9 38 rfl) rfl
theorem q2071 : (Jvm.Cond.static ({ cls := "RatSortersModel", name := "mixed", desc := "(II)I" } : Jvm.MethodName)) ∈ lw_all := lw_g (lw_at lw_m9 39 rfl) rfl
theorem q2072 : (Jvm.Cond.code ({ cls := "RatSortersModel", name := "mixed", desc := "(II)I" } : Jvm.MethodName) prog_24_method_47_code (3 : Nat) (Option.some Jvm.ClassFile.FieldType.int)) ∈ lw_all := lw_g (lw_at lw_m9 40 rfl) rfl
theorem q2073 : (Jvm.Cond.constant "RatSortersModel" (354 : Nat) (1103515245 : Int32)) ∈ lw_all := lw_g (lw_at lw_m9 41 rfl) rfl
theorem q2074 : (Jvm.Cond.methodLink "RatSortersModel" (377 : Nat) ({ cls := "RatSortersModel", name := "drops", desc := "(I)V" } : Jvm.MethodName)) ∈ lw_all := lw_g (lw_at lw_m9 42 rfl) rfl
theorem q2075 : (Jvm.Cond.privateMethod ({ cls := "RatSortersModel", name := "drops", desc := "(I)V" } : Jvm.MethodName)) ∈ lw_tbl := lw_at lw_m9 43 rfl
theorem q2076 : (Jvm.Cond.instanceMethod ({ cls := "RatSortersModel", name := "drops", desc := "(I)V" } : Jvm.MethodName)) ∈ lw_all := lw_g (lw_at lw_m9 44 rfl) rfl
theorem q2077 : (Jvm.Cond.code ({ cls := "RatSortersModel", name := "drops", desc := "(I)V" } : Jvm.MethodName) prog_24_method_53_code (3 : Nat) (Option.none : Option Jvm.ClassFile.FieldType)) ∈ lw_all := lw_g (lw_at lw_m9 45 rfl) rfl
theorem q2078 : (Jvm.Cond.methodLink "RatSortersModel" (404 : Nat) ({ cls := "RatSortersModel", name := "keeps", desc := "()V" } : Jvm.MethodName)) ∈ lw_all := lw_g (lw_at lw_m9 46 rfl) rfl
theorem q2079 : (Jvm.Cond.privateMethod ({ cls := "RatSortersModel", name := "keeps", desc := "()V" } : Jvm.MethodName)) ∈ lw_tbl := lw_at lw_m9 47 rfl
theorem q2080 : (Jvm.Cond.instanceMethod ({ cls := "RatSortersModel", name := "keeps", desc := "()V" } : Jvm.MethodName)) ∈ lw_all := lw_g (lw_at lw_m9 48 rfl) rfl
theorem q2081 : (Jvm.Cond.code ({ cls := "RatSortersModel", name := "keeps", desc := "()V" } : Jvm.MethodName) prog_24_method_68_code (2 : Nat) (Option.none : Option Jvm.ClassFile.FieldType)) ∈ lw_all := lw_g (lw_at lw_m9 49 rfl) rfl
theorem q2083 : (Jvm.Cond.instanceMethod ({ cls := "RatSortersModel", name := "pour", desc := "(II)I" } : Jvm.MethodName)) ∈ lw_all := lw_g (lw_at lw_m9 51 rfl) rfl
theorem q2084 : (Jvm.Cond.selects "RatSortersModel" ({ cls := "RatSortersModel", name := "pour", desc := "(II)I" } : Jvm.MethodName) ({ cls := "RatSortersModel", name := "pour", desc := "(II)I" } : Jvm.MethodName)) ∈ lw_all := lw_g (lw_at lw_m9 52 rfl) rfl
theorem q2085 : (Jvm.Cond.code ({ cls := "RatSortersModel", name := "pour", desc := "(II)I" } : Jvm.MethodName) prog_24_method_70_code (3 : Nat) (Option.some Jvm.ClassFile.FieldType.int)) ∈ lw_all := lw_g (lw_at lw_m9 53 rfl) rfl
theorem q2087 : (Jvm.Cond.instanceMethod ({ cls := "RatSortersModel", name := "swap", desc := "(II)Z" } : Jvm.MethodName)) ∈ lw_all := lw_g (lw_at lw_m9 55 rfl) rfl
theorem q2088 : (Jvm.Cond.selects "RatSortersModel" ({ cls := "RatSortersModel", name := "swap", desc := "(II)Z" } : Jvm.MethodName) ({ cls := "RatSortersModel", name := "swap", desc := "(II)Z" } : Jvm.MethodName)) ∈ lw_all := lw_g (lw_at lw_m9 56 rfl) rfl
theorem q2089 : (Jvm.Cond.code ({ cls := "RatSortersModel", name := "swap", desc := "(II)Z" } : Jvm.MethodName) prog_24_method_72_code (3 : Nat) (Option.some Jvm.ClassFile.FieldType.boolean)) ∈ lw_all := lw_g (lw_at lw_m9 57 rfl) rfl
theorem q2090 : (Jvm.Cond.methodLink "RatSortersModel" (407 : Nat) ({ cls := "RatSortersModel", name := "swaps", desc := "(II)V" } : Jvm.MethodName)) ∈ lw_all := lw_g (lw_at lw_m9 58 rfl) rfl
theorem q2091 : (Jvm.Cond.privateMethod ({ cls := "RatSortersModel", name := "swaps", desc := "(II)V" } : Jvm.MethodName)) ∈ lw_tbl := lw_at lw_m9 59 rfl
theorem q2092 : (Jvm.Cond.instanceMethod ({ cls := "RatSortersModel", name := "swaps", desc := "(II)V" } : Jvm.MethodName)) ∈ lw_all := lw_g (lw_at lw_m9 60 rfl) rfl
theorem q2093 : (Jvm.Cond.code ({ cls := "RatSortersModel", name := "swaps", desc := "(II)V" } : Jvm.MethodName) prog_24_method_71_code (5 : Nat) (Option.none : Option Jvm.ClassFile.FieldType)) ∈ lw_all := lw_g (lw_at lw_m9 61 rfl) rfl
theorem q2095 : (Jvm.Cond.instanceMethod ({ cls := "RatSortersModel", name := "teach", desc := "(II)Z" } : Jvm.MethodName)) ∈ lw_all := lw_g (lw_at lw_m9 63 rfl) rfl
theorem q2096 : (Jvm.Cond.selects "RatSortersModel" ({ cls := "RatSortersModel", name := "teach", desc := "(II)Z" } : Jvm.MethodName) ({ cls := "RatSortersModel", name := "teach", desc := "(II)Z" } : Jvm.MethodName)) ∈ lw_all := lw_g (lw_at lw_m9 64 rfl) rfl
theorem q2097 : (Jvm.Cond.code ({ cls := "RatSortersModel", name := "teach", desc := "(II)Z" } : Jvm.MethodName) prog_24_method_73_code (3 : Nat) (Option.some Jvm.ClassFile.FieldType.boolean)) ∈ lw_all := lw_g (lw_at lw_m9 65 rfl) rfl
theorem q2099 : (Jvm.Cond.instanceMethod ({ cls := "RatSortersModel", name := "give", desc := "(III)Z" } : Jvm.MethodName)) ∈ lw_all := lw_g (lw_at lw_m9 67 rfl) rfl
theorem q2100 : (Jvm.Cond.selects "RatSortersModel" ({ cls := "RatSortersModel", name := "give", desc := "(III)Z" } : Jvm.MethodName) ({ cls := "RatSortersModel", name := "give", desc := "(III)Z" } : Jvm.MethodName)) ∈ lw_all := lw_g (lw_at lw_m9 68 rfl) rfl
theorem q2101 : (Jvm.Cond.code ({ cls := "RatSortersModel", name := "give", desc := "(III)Z" } : Jvm.MethodName) prog_24_method_74_code (4 : Nat) (Option.some Jvm.ClassFile.FieldType.boolean)) ∈ lw_all := lw_g (lw_at lw_m9 69 rfl) rfl
theorem q2103 : (Jvm.Cond.instanceMethod ({ cls := "RatSortersModel", name := "send", desc := "(IZ)Z" } : Jvm.MethodName)) ∈ lw_all := lw_g (lw_at lw_m9 71 rfl) rfl
theorem q2104 : (Jvm.Cond.selects "RatSortersModel" ({ cls := "RatSortersModel", name := "send", desc := "(IZ)Z" } : Jvm.MethodName) ({ cls := "RatSortersModel", name := "send", desc := "(IZ)Z" } : Jvm.MethodName)) ∈ lw_all := lw_g (lw_at lw_m9 72 rfl) rfl
theorem q2105 : (Jvm.Cond.code ({ cls := "RatSortersModel", name := "send", desc := "(IZ)Z" } : Jvm.MethodName) prog_24_method_75_code (3 : Nat) (Option.some Jvm.ClassFile.FieldType.boolean)) ∈ lw_all := lw_g (lw_at lw_m9 73 rfl) rfl
theorem q2106 : (Jvm.Cond.methodLink "RatSortersModel" (410 : Nat) ({ cls := "RatSortersModel", name := "goesHome", desc := "(I)V" } : Jvm.MethodName)) ∈ lw_all := lw_g (lw_at lw_m9 74 rfl) rfl
theorem q2107 : (Jvm.Cond.privateMethod ({ cls := "RatSortersModel", name := "goesHome", desc := "(I)V" } : Jvm.MethodName)) ∈ lw_tbl := lw_at lw_m9 75 rfl
theorem q2108 : (Jvm.Cond.instanceMethod ({ cls := "RatSortersModel", name := "goesHome", desc := "(I)V" } : Jvm.MethodName)) ∈ lw_all := lw_g (lw_at lw_m9 76 rfl) rfl
theorem q2109 : (Jvm.Cond.code ({ cls := "RatSortersModel", name := "goesHome", desc := "(I)V" } : Jvm.MethodName) prog_24_method_61_code (2 : Nat) (Option.none : Option Jvm.ClassFile.FieldType)) ∈ lw_all := lw_g (lw_at lw_m9 77 rfl) rfl
theorem q2111 : (Jvm.Cond.instanceMethod ({ cls := "RatSortersModel", name := "cat", desc := "(I)I" } : Jvm.MethodName)) ∈ lw_all := lw_g (lw_at lw_m9 79 rfl) rfl
theorem q2112 : (Jvm.Cond.selects "RatSortersModel" ({ cls := "RatSortersModel", name := "cat", desc := "(I)I" } : Jvm.MethodName) ({ cls := "RatSortersModel", name := "cat", desc := "(I)I" } : Jvm.MethodName)) ∈ lw_all := lw_g (lw_at lw_m9 80 rfl) rfl
theorem q2113 : (Jvm.Cond.code ({ cls := "RatSortersModel", name := "cat", desc := "(I)I" } : Jvm.MethodName) prog_24_method_76_code (2 : Nat) (Option.some Jvm.ClassFile.FieldType.int)) ∈ lw_all := lw_g (lw_at lw_m9 81 rfl) rfl
theorem q2115 : (Jvm.Cond.instanceMethod ({ cls := "RatSortersModel", name := "sell", desc := "(I)Z" } : Jvm.MethodName)) ∈ lw_all := lw_g (lw_at lw_m9 83 rfl) rfl
theorem q2116 : (Jvm.Cond.selects "RatSortersModel" ({ cls := "RatSortersModel", name := "sell", desc := "(I)Z" } : Jvm.MethodName) ({ cls := "RatSortersModel", name := "sell", desc := "(I)Z" } : Jvm.MethodName)) ∈ lw_all := lw_g (lw_at lw_m9 84 rfl) rfl
theorem q2117 : (Jvm.Cond.code ({ cls := "RatSortersModel", name := "sell", desc := "(I)Z" } : Jvm.MethodName) prog_24_method_79_code (6 : Nat) (Option.some Jvm.ClassFile.FieldType.boolean)) ∈ lw_all := lw_g (lw_at lw_m9 85 rfl) rfl
theorem q2118 : (Jvm.Cond.methodLink "RatSortersModel" (416 : Nat) ({ cls := "RatSortersModel", name := "isEnough", desc := "(I)Z" } : Jvm.MethodName)) ∈ lw_all := lw_g (lw_at lw_m9 86 rfl) rfl
theorem q2119 : (Jvm.Cond.privateMethod ({ cls := "RatSortersModel", name := "isEnough", desc := "(I)Z" } : Jvm.MethodName)) ∈ lw_tbl := lw_at lw_m9 87 rfl
theorem q2120 : (Jvm.Cond.instanceMethod ({ cls := "RatSortersModel", name := "isEnough", desc := "(I)Z" } : Jvm.MethodName)) ∈ lw_all := lw_g (lw_at lw_m9 88 rfl) rfl
theorem q2121 : (Jvm.Cond.code ({ cls := "RatSortersModel", name := "isEnough", desc := "(I)Z" } : Jvm.MethodName) prog_24_method_78_code (5 : Nat) (Option.some Jvm.ClassFile.FieldType.boolean)) ∈ lw_all := lw_g (lw_at lw_m9 89 rfl) rfl
theorem q2122 : (Jvm.Cond.methodLink "RatSortersModel" (413 : Nat) ({ cls := "RatSortersModel", name := "wantedBy", desc := "(II)I" } : Jvm.MethodName)) ∈ lw_all := lw_g (lw_at lw_m9 90 rfl) rfl
theorem q2123 : (Jvm.Cond.privateMethod ({ cls := "RatSortersModel", name := "wantedBy", desc := "(II)I" } : Jvm.MethodName)) ∈ lw_tbl := lw_at lw_m9 91 rfl
theorem q2124 : (Jvm.Cond.instanceMethod ({ cls := "RatSortersModel", name := "wantedBy", desc := "(II)I" } : Jvm.MethodName)) ∈ lw_all := lw_g (lw_at lw_m9 92 rfl) rfl
theorem q2125 : (Jvm.Cond.code ({ cls := "RatSortersModel", name := "wantedBy", desc := "(II)I" } : Jvm.MethodName) prog_24_method_77_code (6 : Nat) (Option.some Jvm.ClassFile.FieldType.int)) ∈ lw_all := lw_g (lw_at lw_m9 93 rfl) rfl
theorem q2127 : (Jvm.Cond.instanceMethod ({ cls := "RatSortersModel", name := "sales", desc := "(I)I" } : Jvm.MethodName)) ∈ lw_all := lw_g (lw_at lw_m9 95 rfl) rfl
theorem q2128 : (Jvm.Cond.selects "RatSortersModel" ({ cls := "RatSortersModel", name := "sales", desc := "(I)I" } : Jvm.MethodName) ({ cls := "RatSortersModel", name := "sales", desc := "(I)I" } : Jvm.MethodName)) ∈ lw_all := lw_g (lw_at lw_m9 96 rfl) rfl
theorem q2129 : (Jvm.Cond.code ({ cls := "RatSortersModel", name := "sales", desc := "(I)I" } : Jvm.MethodName) prog_24_method_81_code (4 : Nat) (Option.some Jvm.ClassFile.FieldType.int)) ∈ lw_all := lw_g (lw_at lw_m9 97 rfl) rfl
theorem q2130 : (Jvm.Cond.methodLink "RatSortersModel" (419 : Nat) ({ cls := "RatSortersModel", name := "paysOf", desc := "(I)I" } : Jvm.MethodName)) ∈ lw_all := lw_g (lw_at lw_m9 98 rfl) rfl
theorem q2131 : (Jvm.Cond.privateMethod ({ cls := "RatSortersModel", name := "paysOf", desc := "(I)I" } : Jvm.MethodName)) ∈ lw_tbl := lw_at lw_m9 99 rfl
theorem q2132 : (Jvm.Cond.instanceMethod ({ cls := "RatSortersModel", name := "paysOf", desc := "(I)I" } : Jvm.MethodName)) ∈ lw_all := lw_g (lw_at lw_m9 100 rfl) rfl
theorem q2133 : (Jvm.Cond.code ({ cls := "RatSortersModel", name := "paysOf", desc := "(I)I" } : Jvm.MethodName) prog_24_method_80_code (4 : Nat) (Option.some Jvm.ClassFile.FieldType.int)) ∈ lw_all := lw_g (lw_at lw_m9 101 rfl) rfl
theorem q2135 : (Jvm.Cond.instanceMethod ({ cls := "RatSortersModel", name := "undo", desc := "()Z" } : Jvm.MethodName)) ∈ lw_all := lw_g (lw_at lw_m9 103 rfl) rfl
theorem q2136 : (Jvm.Cond.selects "RatSortersModel" ({ cls := "RatSortersModel", name := "undo", desc := "()Z" } : Jvm.MethodName) ({ cls := "RatSortersModel", name := "undo", desc := "()Z" } : Jvm.MethodName)) ∈ lw_all := lw_g (lw_at lw_m9 104 rfl) rfl
theorem q2137 : (Jvm.Cond.code ({ cls := "RatSortersModel", name := "undo", desc := "()Z" } : Jvm.MethodName) prog_24_method_82_code (2 : Nat) (Option.some Jvm.ClassFile.FieldType.boolean)) ∈ lw_all := lw_g (lw_at lw_m9 105 rfl) rfl
theorem q2139 : (Jvm.Cond.instanceMethod ({ cls := "RatSortersModel", name := "isClean", desc := "()Z" } : Jvm.MethodName)) ∈ lw_all := lw_g (lw_at lw_m9 107 rfl) rfl
theorem q2140 : (Jvm.Cond.selects "RatSortersModel" ({ cls := "RatSortersModel", name := "isClean", desc := "()Z" } : Jvm.MethodName) ({ cls := "RatSortersModel", name := "isClean", desc := "()Z" } : Jvm.MethodName)) ∈ lw_all := lw_g (lw_at lw_m9 108 rfl) rfl
theorem q2141 : (Jvm.Cond.code ({ cls := "RatSortersModel", name := "isClean", desc := "()Z" } : Jvm.MethodName) prog_24_method_84_code (1 : Nat) (Option.some Jvm.ClassFile.FieldType.boolean)) ∈ lw_all := lw_g (lw_at lw_m9 109 rfl) rfl
theorem q2142 : (Jvm.Cond.methodLink "RatSortersModel" (422 : Nat) ({ cls := "RatSortersModel", name := "isCleanNow", desc := "(Z)Z" } : Jvm.MethodName)) ∈ lw_all := lw_g (lw_at lw_m9 110 rfl) rfl
theorem q2143 : (Jvm.Cond.privateMethod ({ cls := "RatSortersModel", name := "isCleanNow", desc := "(Z)Z" } : Jvm.MethodName)) ∈ lw_tbl := lw_at lw_m9 111 rfl
theorem q2144 : (Jvm.Cond.instanceMethod ({ cls := "RatSortersModel", name := "isCleanNow", desc := "(Z)Z" } : Jvm.MethodName)) ∈ lw_all := lw_g (lw_at lw_m9 112 rfl) rfl
theorem q2145 : (Jvm.Cond.code ({ cls := "RatSortersModel", name := "isCleanNow", desc := "(Z)Z" } : Jvm.MethodName) prog_24_method_60_code (3 : Nat) (Option.some Jvm.ClassFile.FieldType.boolean)) ∈ lw_all := lw_g (lw_at lw_m9 113 rfl) rfl
theorem q2147 : (Jvm.Cond.instanceMethod ({ cls := "RatSortersModel", name := "clean", desc := "()I" } : Jvm.MethodName)) ∈ lw_all := lw_g (lw_at lw_m9 115 rfl) rfl
theorem q2148 : (Jvm.Cond.selects "RatSortersModel" ({ cls := "RatSortersModel", name := "clean", desc := "()I" } : Jvm.MethodName) ({ cls := "RatSortersModel", name := "clean", desc := "()I" } : Jvm.MethodName)) ∈ lw_all := lw_g (lw_at lw_m9 116 rfl) rfl
theorem q2149 : (Jvm.Cond.code ({ cls := "RatSortersModel", name := "clean", desc := "()I" } : Jvm.MethodName) prog_24_method_86_code (1 : Nat) (Option.some Jvm.ClassFile.FieldType.int)) ∈ lw_all := lw_g (lw_at lw_m9 117 rfl) rfl
theorem q2150 : (Jvm.Cond.methodLink "RatSortersModel" (426 : Nat) ({ cls := "RatSortersModel", name := "cleanBy", desc := "()I" } : Jvm.MethodName)) ∈ lw_all := lw_g (lw_at lw_m9 118 rfl) rfl
theorem q2151 : (Jvm.Cond.privateMethod ({ cls := "RatSortersModel", name := "cleanBy", desc := "()I" } : Jvm.MethodName)) ∈ lw_tbl := lw_at lw_m9 119 rfl
theorem q2152 : (Jvm.Cond.instanceMethod ({ cls := "RatSortersModel", name := "cleanBy", desc := "()I" } : Jvm.MethodName)) ∈ lw_all := lw_g (lw_at lw_m9 120 rfl) rfl
theorem q2153 : (Jvm.Cond.code ({ cls := "RatSortersModel", name := "cleanBy", desc := "()I" } : Jvm.MethodName) prog_24_method_85_code (2 : Nat) (Option.some Jvm.ClassFile.FieldType.int)) ∈ lw_all := lw_g (lw_at lw_m9 121 rfl) rfl
theorem q2155 : (Jvm.Cond.instanceMethod ({ cls := "RatSortersModel", name := "then", desc := "(II)I" } : Jvm.MethodName)) ∈ lw_all := lw_g (lw_at lw_m9 123 rfl) rfl
theorem q2156 : (Jvm.Cond.selects "RatSortersModel" ({ cls := "RatSortersModel", name := "then", desc := "(II)I" } : Jvm.MethodName) ({ cls := "RatSortersModel", name := "then", desc := "(II)I" } : Jvm.MethodName)) ∈ lw_all := lw_g (lw_at lw_m9 124 rfl) rfl
theorem q2157 : (Jvm.Cond.code ({ cls := "RatSortersModel", name := "then", desc := "(II)I" } : Jvm.MethodName) prog_24_method_87_code (3 : Nat) (Option.some Jvm.ClassFile.FieldType.int)) ∈ lw_all := lw_g (lw_at lw_m9 125 rfl) rfl
theorem q2158 : (Jvm.Cond.methodLink "RatSortersModel" (429 : Nat) ({ cls := "RatSortersModel", name := "isLong", desc := "(I)Z" } : Jvm.MethodName)) ∈ lw_all := lw_g (lw_at lw_m9 126 rfl) rfl
theorem q2159 : (Jvm.Cond.static ({ cls := "RatSortersModel", name := "isLong", desc := "(I)Z" } : Jvm.MethodName)) ∈ lw_all := lw_g (lw_at lw_m9 127 rfl) rfl
theorem q2160 : (Jvm.Cond.code ({ cls := "RatSortersModel", name := "isLong", desc := "(I)Z" } : Jvm.MethodName) prog_24_method_83_code (1 : Nat) (Option.some Jvm.ClassFile.FieldType.boolean)) ∈ lw_all := lw_g (lw_at lw_m9 128 rfl) rfl
theorem q2161 : (Jvm.Cond.methodLink "RatSortersModel" (432 : Nat) ({ cls := "RatSortersModel", name := "worthAll", desc := "()I" } : Jvm.MethodName)) ∈ lw_all := lw_g (lw_at lw_m9 129 rfl) rfl
theorem q2162 : (Jvm.Cond.privateMethod ({ cls := "RatSortersModel", name := "worthAll", desc := "()I" } : Jvm.MethodName)) ∈ lw_tbl := lw_at lw_m9 130 rfl
theorem q2163 : (Jvm.Cond.instanceMethod ({ cls := "RatSortersModel", name := "worthAll", desc := "()I" } : Jvm.MethodName)) ∈ lw_all := lw_g (lw_at lw_m9 131 rfl) rfl
theorem q2164 : (Jvm.Cond.code ({ cls := "RatSortersModel", name := "worthAll", desc := "()I" } : Jvm.MethodName) prog_24_method_57_code (3 : Nat) (Option.some Jvm.ClassFile.FieldType.int)) ∈ lw_all := lw_g (lw_at lw_m9 132 rfl) rfl
theorem q2165 : (Jvm.Cond.methodLink "RatSortersModel" (435 : Nat) ({ cls := "RatSortersModel", name := "inHeap", desc := "()I" } : Jvm.MethodName)) ∈ lw_all := lw_g (lw_at lw_m9 133 rfl) rfl
theorem q2166 : (Jvm.Cond.privateMethod ({ cls := "RatSortersModel", name := "inHeap", desc := "()I" } : Jvm.MethodName)) ∈ lw_tbl := lw_at lw_m9 134 rfl
theorem q2167 : (Jvm.Cond.instanceMethod ({ cls := "RatSortersModel", name := "inHeap", desc := "()I" } : Jvm.MethodName)) ∈ lw_all := lw_g (lw_at lw_m9 135 rfl) rfl
theorem q2168 : (Jvm.Cond.code ({ cls := "RatSortersModel", name := "inHeap", desc := "()I" } : Jvm.MethodName) prog_24_method_59_code (3 : Nat) (Option.some Jvm.ClassFile.FieldType.int)) ∈ lw_all := lw_g (lw_at lw_m9 136 rfl) rfl
theorem q2169 : (Jvm.Cond.methodLink "RatSortersModel" (438 : Nat) ({ cls := "RatSortersModel", name := "inHoles", desc := "(Z)I" } : Jvm.MethodName)) ∈ lw_all := lw_g (lw_at lw_m9 137 rfl) rfl
theorem q2170 : (Jvm.Cond.privateMethod ({ cls := "RatSortersModel", name := "inHoles", desc := "(Z)I" } : Jvm.MethodName)) ∈ lw_tbl := lw_at lw_m9 138 rfl
theorem q2171 : (Jvm.Cond.instanceMethod ({ cls := "RatSortersModel", name := "inHoles", desc := "(Z)I" } : Jvm.MethodName)) ∈ lw_all := lw_g (lw_at lw_m9 139 rfl) rfl
theorem q2172 : (Jvm.Cond.code ({ cls := "RatSortersModel", name := "inHoles", desc := "(Z)I" } : Jvm.MethodName) prog_24_method_58_code (5 : Nat) (Option.some Jvm.ClassFile.FieldType.int)) ∈ lw_all := lw_g (lw_at lw_m9 140 rfl) rfl
theorem q2174 : (Jvm.Cond.instanceMethod ({ cls := "RatSortersModel", name := "lies", desc := "(III)I" } : Jvm.MethodName)) ∈ lw_all := lw_g (lw_at lw_m9 142 rfl) rfl
theorem q2175 : (Jvm.Cond.selects "RatSortersModel" ({ cls := "RatSortersModel", name := "lies", desc := "(III)I" } : Jvm.MethodName) ({ cls := "RatSortersModel", name := "lies", desc := "(III)I" } : Jvm.MethodName)) ∈ lw_all := lw_g (lw_at lw_m9 143 rfl) rfl
theorem q2176 : (Jvm.Cond.code ({ cls := "RatSortersModel", name := "lies", desc := "(III)I" } : Jvm.MethodName) prog_24_method_88_code (4 : Nat) (Option.some Jvm.ClassFile.FieldType.int)) ∈ lw_all := lw_g (lw_at lw_m9 144 rfl) rfl
theorem q2178 : (Jvm.Cond.instanceMethod ({ cls := "RatSortersModel", name := "hire", desc := "(II)I" } : Jvm.MethodName)) ∈ lw_all := lw_g (lw_at lw_m9 146 rfl) rfl
theorem q2179 : (Jvm.Cond.selects "RatSortersModel" ({ cls := "RatSortersModel", name := "hire", desc := "(II)I" } : Jvm.MethodName) ({ cls := "RatSortersModel", name := "hire", desc := "(II)I" } : Jvm.MethodName)) ∈ lw_all := lw_g (lw_at lw_m9 147 rfl) rfl
theorem q2180 : (Jvm.Cond.code ({ cls := "RatSortersModel", name := "hire", desc := "(II)I" } : Jvm.MethodName) prog_24_method_92_code (6 : Nat) (Option.some Jvm.ClassFile.FieldType.int)) ∈ lw_all := lw_g (lw_at lw_m9 148 rfl) rfl
theorem q2181 : (Jvm.Cond.methodLink "RatSortersModel" (442 : Nat) ({ cls := "RatSortersModel", name := "feesOf", desc := "(I)I" } : Jvm.MethodName)) ∈ lw_all := lw_g (lw_at lw_m9 149 rfl) rfl
theorem q2182 : (Jvm.Cond.privateMethod ({ cls := "RatSortersModel", name := "feesOf", desc := "(I)I" } : Jvm.MethodName)) ∈ lw_tbl := lw_at lw_m9 150 rfl
theorem q2183 : (Jvm.Cond.instanceMethod ({ cls := "RatSortersModel", name := "feesOf", desc := "(I)I" } : Jvm.MethodName)) ∈ lw_all := lw_g (lw_at lw_m9 151 rfl) rfl
theorem q2184 : (Jvm.Cond.code ({ cls := "RatSortersModel", name := "feesOf", desc := "(I)I" } : Jvm.MethodName) prog_24_method_90_code (4 : Nat) (Option.some Jvm.ClassFile.FieldType.int)) ∈ lw_all := lw_g (lw_at lw_m9 152 rfl) rfl
theorem q2185 : (Jvm.Cond.methodLink "RatSortersModel" (445 : Nat) ({ cls := "RatSortersModel", name := "bits", desc := "(I)I" } : Jvm.MethodName)) ∈ lw_all := lw_g (lw_at lw_m9 153 rfl) rfl
theorem q2186 : (Jvm.Cond.static ({ cls := "RatSortersModel", name := "bits", desc := "(I)I" } : Jvm.MethodName)) ∈ lw_all := lw_g (lw_at lw_m9 154 rfl) rfl
theorem q2187 : (Jvm.Cond.code ({ cls := "RatSortersModel", name := "bits", desc := "(I)I" } : Jvm.MethodName) prog_24_method_89_code (3 : Nat) (Option.some Jvm.ClassFile.FieldType.int)) ∈ lw_all := lw_g (lw_at lw_m9 155 rfl) rfl
theorem q2188 : (Jvm.Cond.methodLink "RatSortersModel" (448 : Nat) ({ cls := "RatSortersModel", name := "hires", desc := "(I)V" } : Jvm.MethodName)) ∈ lw_all := lw_g (lw_at lw_m9 156 rfl) rfl
theorem q2189 : (Jvm.Cond.privateMethod ({ cls := "RatSortersModel", name := "hires", desc := "(I)V" } : Jvm.MethodName)) ∈ lw_tbl := lw_at lw_m9 157 rfl
theorem q2190 : (Jvm.Cond.instanceMethod ({ cls := "RatSortersModel", name := "hires", desc := "(I)V" } : Jvm.MethodName)) ∈ lw_all := lw_g (lw_at lw_m9 158 rfl) rfl
theorem q2191 : (Jvm.Cond.code ({ cls := "RatSortersModel", name := "hires", desc := "(I)V" } : Jvm.MethodName) prog_24_method_91_code (4 : Nat) (Option.none : Option Jvm.ClassFile.FieldType)) ∈ lw_all := lw_g (lw_at lw_m9 159 rfl) rfl
theorem q2193 : (Jvm.Cond.instanceMethod ({ cls := "RatSortersModel", name := "taught", desc := "(II)I" } : Jvm.MethodName)) ∈ lw_all := lw_g (lw_at lw_m9 161 rfl) rfl
theorem q2194 : (Jvm.Cond.selects "RatSortersModel" ({ cls := "RatSortersModel", name := "taught", desc := "(II)I" } : Jvm.MethodName) ({ cls := "RatSortersModel", name := "taught", desc := "(II)I" } : Jvm.MethodName)) ∈ lw_all := lw_g (lw_at lw_m9 162 rfl) rfl
theorem q2195 : (Jvm.Cond.code ({ cls := "RatSortersModel", name := "taught", desc := "(II)I" } : Jvm.MethodName) prog_24_method_95_code (3 : Nat) (Option.some Jvm.ClassFile.FieldType.int)) ∈ lw_all := lw_g (lw_at lw_m9 163 rfl) rfl
theorem q2196 : (Jvm.Cond.methodLink "RatSortersModel" (457 : Nat) ({ cls := "RatSortersModel", name := "isSet", desc := "(II)Z" } : Jvm.MethodName)) ∈ lw_all := lw_g (lw_at lw_m9 164 rfl) rfl
theorem q2197 : (Jvm.Cond.privateMethod ({ cls := "RatSortersModel", name := "isSet", desc := "(II)Z" } : Jvm.MethodName)) ∈ lw_tbl := lw_at lw_m9 165 rfl
theorem q2198 : (Jvm.Cond.instanceMethod ({ cls := "RatSortersModel", name := "isSet", desc := "(II)Z" } : Jvm.MethodName)) ∈ lw_all := lw_g (lw_at lw_m9 166 rfl) rfl
theorem q2199 : (Jvm.Cond.code ({ cls := "RatSortersModel", name := "isSet", desc := "(II)Z" } : Jvm.MethodName) prog_24_method_94_code (3 : Nat) (Option.some Jvm.ClassFile.FieldType.boolean)) ∈ lw_all := lw_g (lw_at lw_m9 167 rfl) rfl
theorem q2200 : (Jvm.Cond.methodLink "RatSortersModel" (461 : Nat) ({ cls := "RatSortersModel", name := "teaches", desc := "(II)V" } : Jvm.MethodName)) ∈ lw_all := lw_g (lw_at lw_m9 168 rfl) rfl
theorem q2201 : (Jvm.Cond.privateMethod ({ cls := "RatSortersModel", name := "teaches", desc := "(II)V" } : Jvm.MethodName)) ∈ lw_tbl := lw_at lw_m9 169 rfl
theorem q2202 : (Jvm.Cond.instanceMethod ({ cls := "RatSortersModel", name := "teaches", desc := "(II)V" } : Jvm.MethodName)) ∈ lw_all := lw_g (lw_at lw_m9 170 rfl) rfl
theorem q2203 : (Jvm.Cond.code ({ cls := "RatSortersModel", name := "teaches", desc := "(II)V" } : Jvm.MethodName) prog_24_method_93_code (7 : Nat) (Option.none : Option Jvm.ClassFile.FieldType)) ∈ lw_all := lw_g (lw_at lw_m9 171 rfl) rfl
theorem q2205 : (Jvm.Cond.instanceMethod ({ cls := "RatSortersModel", name := "taughtAt", desc := "(III)I" } : Jvm.MethodName)) ∈ lw_all := lw_g (lw_at lw_m9 173 rfl) rfl
theorem q2206 : (Jvm.Cond.selects "RatSortersModel" ({ cls := "RatSortersModel", name := "taughtAt", desc := "(III)I" } : Jvm.MethodName) ({ cls := "RatSortersModel", name := "taughtAt", desc := "(III)I" } : Jvm.MethodName)) ∈ lw_all := lw_g (lw_at lw_m9 174 rfl) rfl
theorem q2207 : (Jvm.Cond.code ({ cls := "RatSortersModel", name := "taughtAt", desc := "(III)I" } : Jvm.MethodName) prog_24_method_96_code (6 : Nat) (Option.some Jvm.ClassFile.FieldType.int)) ∈ lw_all := lw_g (lw_at lw_m9 175 rfl) rfl
theorem q2209 : (Jvm.Cond.instanceMethod ({ cls := "RatSortersModel", name := "bestSwap", desc := "(I)I" } : Jvm.MethodName)) ∈ lw_all := lw_g (lw_at lw_m9 177 rfl) rfl
theorem q2210 : (Jvm.Cond.selects "RatSortersModel" ({ cls := "RatSortersModel", name := "bestSwap", desc := "(I)I" } : Jvm.MethodName) ({ cls := "RatSortersModel", name := "bestSwap", desc := "(I)I" } : Jvm.MethodName)) ∈ lw_all := lw_g (lw_at lw_m9 178 rfl) rfl
theorem q2211 : (Jvm.Cond.code ({ cls := "RatSortersModel", name := "bestSwap", desc := "(I)I" } : Jvm.MethodName) prog_24_method_97_code (8 : Nat) (Option.some Jvm.ClassFile.FieldType.int)) ∈ lw_all := lw_g (lw_at lw_m9 179 rfl) rfl
theorem q2213 : (Jvm.Cond.instanceMethod ({ cls := "RatSortersModel", name := "missed", desc := "(II)I" } : Jvm.MethodName)) ∈ lw_all := lw_g (lw_at lw_m9 181 rfl) rfl
theorem q2214 : (Jvm.Cond.selects "RatSortersModel" ({ cls := "RatSortersModel", name := "missed", desc := "(II)I" } : Jvm.MethodName) ({ cls := "RatSortersModel", name := "missed", desc := "(II)I" } : Jvm.MethodName)) ∈ lw_all := lw_g (lw_at lw_m9 182 rfl) rfl
theorem q2215 : (Jvm.Cond.code ({ cls := "RatSortersModel", name := "missed", desc := "(II)I" } : Jvm.MethodName) prog_24_method_98_code (7 : Nat) (Option.some Jvm.ClassFile.FieldType.int)) ∈ lw_all := lw_g (lw_at lw_m9 183 rfl) rfl
theorem q2217 : (Jvm.Cond.instanceMethod ({ cls := "RatSortersModel", name := "catAt", desc := "(II)I" } : Jvm.MethodName)) ∈ lw_all := lw_g (lw_at lw_m9 185 rfl) rfl
theorem q2218 : (Jvm.Cond.selects "RatSortersModel" ({ cls := "RatSortersModel", name := "catAt", desc := "(II)I" } : Jvm.MethodName) ({ cls := "RatSortersModel", name := "catAt", desc := "(II)I" } : Jvm.MethodName)) ∈ lw_all := lw_g (lw_at lw_m9 186 rfl) rfl
theorem q2219 : (Jvm.Cond.code ({ cls := "RatSortersModel", name := "catAt", desc := "(II)I" } : Jvm.MethodName) prog_24_method_99_code (7 : Nat) (Option.some Jvm.ClassFile.FieldType.int)) ∈ lw_all := lw_g (lw_at lw_m9 187 rfl) rfl
theorem q2221 : (Jvm.Cond.instanceMethod ({ cls := "RatSortersModel", name := "starves", desc := "(I)I" } : Jvm.MethodName)) ∈ lw_all := lw_g (lw_at lw_m9 189 rfl) rfl
theorem q2222 : (Jvm.Cond.selects "RatSortersModel" ({ cls := "RatSortersModel", name := "starves", desc := "(I)I" } : Jvm.MethodName) ({ cls := "RatSortersModel", name := "starves", desc := "(I)I" } : Jvm.MethodName)) ∈ lw_all := lw_g (lw_at lw_m9 190 rfl) rfl
theorem q2223 : (Jvm.Cond.code ({ cls := "RatSortersModel", name := "starves", desc := "(I)I" } : Jvm.MethodName) prog_24_method_100_code (3 : Nat) (Option.some Jvm.ClassFile.FieldType.int)) ∈ lw_all := lw_g (lw_at lw_m9 191 rfl) rfl
theorem q2225 : (Jvm.Cond.instanceMethod ({ cls := "RatSortersModel", name := "mean", desc := "(II)I" } : Jvm.MethodName)) ∈ lw_all := lw_g (lw_at lw_m9 193 rfl) rfl
theorem q2226 : (Jvm.Cond.selects "RatSortersModel" ({ cls := "RatSortersModel", name := "mean", desc := "(II)I" } : Jvm.MethodName) ({ cls := "RatSortersModel", name := "mean", desc := "(II)I" } : Jvm.MethodName)) ∈ lw_all := lw_g (lw_at lw_m9 194 rfl) rfl
theorem q2227 : (Jvm.Cond.code ({ cls := "RatSortersModel", name := "mean", desc := "(II)I" } : Jvm.MethodName) prog_24_method_101_code (5 : Nat) (Option.some Jvm.ClassFile.FieldType.int)) ∈ lw_all := lw_g (lw_at lw_m9 195 rfl) rfl
theorem q2229 : (Jvm.Cond.instanceMethod ({ cls := "RatSortersModel", name := "tell", desc := "(IIII)I" } : Jvm.MethodName)) ∈ lw_all := lw_g (lw_at lw_m9 197 rfl) rfl
theorem q2230 : (Jvm.Cond.selects "RatSortersModel" ({ cls := "RatSortersModel", name := "tell", desc := "(IIII)I" } : Jvm.MethodName) ({ cls := "RatSortersModel", name := "tell", desc := "(IIII)I" } : Jvm.MethodName)) ∈ lw_all := lw_g (lw_at lw_m9 198 rfl) rfl
theorem q2231 : (Jvm.Cond.code ({ cls := "RatSortersModel", name := "tell", desc := "(IIII)I" } : Jvm.MethodName) prog_24_method_102_code (5 : Nat) (Option.some Jvm.ClassFile.FieldType.int)) ∈ lw_all := lw_g (lw_at lw_m9 199 rfl) rfl
theorem q2233 : (Jvm.Cond.instanceMethod ({ cls := "RatSortersModel", name := "forget", desc := "()I" } : Jvm.MethodName)) ∈ lw_all := lw_g (lw_at lw_m9 201 rfl) rfl
theorem q2234 : (Jvm.Cond.selects "RatSortersModel" ({ cls := "RatSortersModel", name := "forget", desc := "()I" } : Jvm.MethodName) ({ cls := "RatSortersModel", name := "forget", desc := "()I" } : Jvm.MethodName)) ∈ lw_all := lw_g (lw_at lw_m9 202 rfl) rfl
theorem q2235 : (Jvm.Cond.code ({ cls := "RatSortersModel", name := "forget", desc := "()I" } : Jvm.MethodName) prog_24_method_103_code (2 : Nat) (Option.some Jvm.ClassFile.FieldType.int)) ∈ lw_all := lw_g (lw_at lw_m9 203 rfl) rfl
theorem q2237 : (Jvm.Cond.instanceMethod ({ cls := "RatSortersModel", name := "jokes", desc := "(II)I" } : Jvm.MethodName)) ∈ lw_all := lw_g (lw_at lw_m9 205 rfl) rfl
theorem q2238 : (Jvm.Cond.selects "RatSortersModel" ({ cls := "RatSortersModel", name := "jokes", desc := "(II)I" } : Jvm.MethodName) ({ cls := "RatSortersModel", name := "jokes", desc := "(II)I" } : Jvm.MethodName)) ∈ lw_all := lw_g (lw_at lw_m9 206 rfl) rfl
theorem q2239 : (Jvm.Cond.code ({ cls := "RatSortersModel", name := "jokes", desc := "(II)I" } : Jvm.MethodName) prog_24_method_105_code (7 : Nat) (Option.some Jvm.ClassFile.FieldType.int)) ∈ lw_all := lw_g (lw_at lw_m9 207 rfl) rfl
theorem q2240 : (Jvm.Cond.methodLink "RatSortersModel" (464 : Nat) ({ cls := "RatSortersModel", name := "isSo", desc := "(IIII)Z" } : Jvm.MethodName)) ∈ lw_all := lw_g (lw_at lw_m9 208 rfl) rfl
theorem q2241 : (Jvm.Cond.privateMethod ({ cls := "RatSortersModel", name := "isSo", desc := "(IIII)Z" } : Jvm.MethodName)) ∈ lw_tbl := lw_at lw_m9 209 rfl
theorem q2242 : (Jvm.Cond.instanceMethod ({ cls := "RatSortersModel", name := "isSo", desc := "(IIII)Z" } : Jvm.MethodName)) ∈ lw_all := lw_g (lw_at lw_m9 210 rfl) rfl
theorem q2243 : (Jvm.Cond.code ({ cls := "RatSortersModel", name := "isSo", desc := "(IIII)Z" } : Jvm.MethodName) prog_24_method_104_code (8 : Nat) (Option.some Jvm.ClassFile.FieldType.boolean)) ∈ lw_all := lw_g (lw_at lw_m9 211 rfl) rfl
theorem q2245 : (Jvm.Cond.instanceMethod ({ cls := "RatSortersModel", name := "hold", desc := "(I)Z" } : Jvm.MethodName)) ∈ lw_all := lw_g (lw_at lw_m9 213 rfl) rfl
theorem q2246 : (Jvm.Cond.selects "RatSortersModel" ({ cls := "RatSortersModel", name := "hold", desc := "(I)Z" } : Jvm.MethodName) ({ cls := "RatSortersModel", name := "hold", desc := "(I)Z" } : Jvm.MethodName)) ∈ lw_all := lw_g (lw_at lw_m9 214 rfl) rfl
theorem q2247 : (Jvm.Cond.code ({ cls := "RatSortersModel", name := "hold", desc := "(I)Z" } : Jvm.MethodName) prog_24_method_106_code (3 : Nat) (Option.some Jvm.ClassFile.FieldType.boolean)) ∈ lw_all := lw_g (lw_at lw_m9 215 rfl) rfl
theorem q2249 : (Jvm.Cond.instanceMethod ({ cls := "RatSortersModel", name := "restore", desc := "(I)Z" } : Jvm.MethodName)) ∈ lw_all := lw_g (lw_at lw_m9 217 rfl) rfl
theorem q2250 : (Jvm.Cond.selects "RatSortersModel" ({ cls := "RatSortersModel", name := "restore", desc := "(I)Z" } : Jvm.MethodName) ({ cls := "RatSortersModel", name := "restore", desc := "(I)Z" } : Jvm.MethodName)) ∈ lw_all := lw_g (lw_at lw_m9 218 rfl) rfl
theorem q2251 : (Jvm.Cond.code ({ cls := "RatSortersModel", name := "restore", desc := "(I)Z" } : Jvm.MethodName) prog_24_method_107_code (3 : Nat) (Option.some Jvm.ClassFile.FieldType.boolean)) ∈ lw_all := lw_g (lw_at lw_m9 219 rfl) rfl
theorem q2253 : (Jvm.Cond.instanceMethod ({ cls := "RatSortersModel", name := "count", desc := "(I)I" } : Jvm.MethodName)) ∈ lw_all := lw_g (lw_at lw_m9 221 rfl) rfl
theorem q2254 : (Jvm.Cond.selects "RatSortersModel" ({ cls := "RatSortersModel", name := "count", desc := "(I)I" } : Jvm.MethodName) ({ cls := "RatSortersModel", name := "count", desc := "(I)I" } : Jvm.MethodName)) ∈ lw_all := lw_g (lw_at lw_m9 222 rfl) rfl
theorem q2255 : (Jvm.Cond.code ({ cls := "RatSortersModel", name := "count", desc := "(I)I" } : Jvm.MethodName) prog_24_method_108_code (4 : Nat) (Option.some Jvm.ClassFile.FieldType.int)) ∈ lw_all := lw_g (lw_at lw_m9 223 rfl) rfl
theorem q2280 : (Jvm.Cond.castable "RatSortersModel" "java/lang/Object") ∈ lw_tbl := lw_at lw_m10 8 rfl
theorem in_X12 : ∀ w ∈ wsX120, w ∈ lw_all := lw_in wsX120 [1711, 1713, 1715, 1717, 1719, 1721, 1723, 1725, 1727, 1729, 1731, 1733, 1735, 1737, 1739, 1741, 1743, 1745, 1747, 1749, 1751, 1753, 1755, 1757, 1759, 1761, 1763, 1765, 1767, 1769, 1771, 1773, 1775, 1777, 1779, 1781, 1783, 1785, 1787, 1789, 1791, 1793, 1795, 1797, 1799, 1801, 1803, 1805, 1807, 1809, 1811, 1813, 1815, 1817, 1819, 1821, 1823, 1825, 1827, 1829, 1831, 1833, 1835, 1837, 1839, 1841, 1843, 1845, 1847, 1849, 1851, 1853, 1855, 1857, 1859] (by decide +kernel) (by decide +kernel)
