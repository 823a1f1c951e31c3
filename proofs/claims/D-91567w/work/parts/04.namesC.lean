/-! LifeRentsModel -/
set_option maxRecDepth 100000
def RX7 : String := "LifeRentsModel"
def TX7 : u_T := fun k => match k with
  | 0 => ("LifeRentsModel", "tape", "[I", true)
  | 1 => ("LifeRentsModel", "tapeSize", "I", false)
  | 2 => ("LifeRentsModel", "thrown", "I", false)
  | 3 => ("LifeRentsModel", "now", "I", false)
  | 4 => ("LifeRentsModel", "lives", "I", false)
  | 5 => ("LifeRentsModel", "born", "[I", true)
  | 6 => ("LifeRentsModel", "classOf", "[I", true)
  | 7 => ("LifeRentsModel", "rents", "I", false)
  | 8 => ("LifeRentsModel", "boughtIn", "[I", true)
  | 9 => ("LifeRentsModel", "buyer", "[I", true)
  | 10 => ("LifeRentsModel", "first", "[I", true)
  | 11 => ("LifeRentsModel", "second", "[I", true)
  | 12 => ("LifeRentsModel", "coinsOf", "[I", true)
  | 13 => ("LifeRentsModel", "costOf", "[I", true)
  | 14 => ("LifeRentsModel", "sales", "I", false)
  | 15 => ("LifeRentsModel", "sale", "[I", true)
  | 16 => ("LifeRentsModel", "notes", "I", false)
  | 17 => ("LifeRentsModel", "noteSort", "[I", true)
  | 18 => ("LifeRentsModel", "noteOf", "[I", true)
  | 19 => ("LifeRentsModel", "noteHalf", "[I", true)
  | 20 => ("LifeRentsModel", "noteTold", "[I", true)
  | 21 => ("LifeRentsModel", "table", "[I", true)
  | 22 => ("LifeRentsModel", "words", "[I", true)
  | 23 => ("LifeRentsModel", "fault", "I", false)
  | 24 => ("LifeRentsModel", "faultPlace", "I", false)
  | 25 => ("LifeRentsModel", "stop", "I", false)
  | 26 => ("LifeRentsModel", "next", "I", false)
  | 27 => ("LifeRentsModel", "kind", "I", false)
  | 28 => ("LifeRentsModel", "which", "I", false)
  | 29 => ("LifeRentsModel", "place", "I", false)
  | 30 => ("LifeRentsModel", "sort", "[I", true)
  | 31 => ("LifeRentsModel", "amount", "[I", true)
  | 32 => ("LifeRentsModel", "ageLow", "[I", true)
  | 33 => ("LifeRentsModel", "ageHigh", "[I", true)
  | 34 => ("LifeRentsModel", "classes", "[I", true)
  | 35 => ("LifeRentsModel", "halfLow", "[I", true)
  | 36 => ("LifeRentsModel", "halfHigh", "[I", true)
  | 37 => ("LifeRentsModel", "count", "[I", true)
  | 38 => ("LifeRentsModel", "lines", "I", false)
  | 39 => ("LifeRentsModel", "linesRead", "I", false)
  | 40 => ("LifeRentsModel", "number", "[I", true)
  | 41 => ("LifeRentsModel", "told", "[Z", true)
  | 42 => ("LifeRentsModel", "spanLow", "I", false)
  | 43 => ("LifeRentsModel", "spanHigh", "I", false)
  | 44 => ("LifeRentsModel", "counts", "[Z", true)
  | 45 => ("LifeRentsModel", "deadIn", "[I", true)
  | 46 => ("LifeRentsModel", "paidIn", "[I", true)
  | 47 => ("LifeRentsModel", "gotOf", "[I", true)
  | 48 => ("LifeRentsModel", "paidAll", "I", false)
  | 49 => ("LifeRentsModel", "begun", "I", false)
  | 50 => ("LifeRentsModel", "ended", "I", false)
  | 51 => ("LifeRentsModel", "by", "[I", true)
  | 52 => ("LifeRentsModel", "isNamed", "Z", false)
  | 53 => ("LifeRentsModel", "named", "[I", true)
  | 54 => ("LifeRentsModel", "tried", "[I", true)
  | 55 => ("LifeRentsModel", "open", "[I", true)
  | 56 => ("LifeRentsModel", "gain", "[I", true)
  | _ => ("LifeRentsModel", "price", "[I", true)
def tyX7 : Nat → FieldType := fun k => match k with
  | 0 => .array .int
  | 1 => .int
  | 2 => .int
  | 3 => .int
  | 4 => .int
  | 5 => .array .int
  | 6 => .array .int
  | 7 => .int
  | 8 => .array .int
  | 9 => .array .int
  | 10 => .array .int
  | 11 => .array .int
  | 12 => .array .int
  | 13 => .array .int
  | 14 => .int
  | 15 => .array .int
  | 16 => .int
  | 17 => .array .int
  | 18 => .array .int
  | 19 => .array .int
  | 20 => .array .int
  | 21 => .array .int
  | 22 => .array .int
  | 23 => .int
  | 24 => .int
  | 25 => .int
  | 26 => .int
  | 27 => .int
  | 28 => .int
  | 29 => .int
  | 30 => .array .int
  | 31 => .array .int
  | 32 => .array .int
  | 33 => .array .int
  | 34 => .array .int
  | 35 => .array .int
  | 36 => .array .int
  | 37 => .array .int
  | 38 => .int
  | 39 => .int
  | 40 => .array .int
  | 41 => .array .boolean
  | 42 => .int
  | 43 => .int
  | 44 => .array .boolean
  | 45 => .array .int
  | 46 => .array .int
  | 47 => .array .int
  | 48 => .int
  | 49 => .int
  | 50 => .int
  | 51 => .array .int
  | 52 => .boolean
  | 53 => .array .int
  | 54 => .array .int
  | 55 => .array .int
  | 56 => .array .int
  | _ => .array .int
abbrev wsX70 : List Cond := u_ws RX7 TX7 58
set_option maxRecDepth 100000 in
theorem nmX7 : ∀ a, a < 58 → ∀ b, b < 58 → a ≠ b → (TX7 a).2.1 ≠ (TX7 b).2.1 := by decide +kernel
set_option maxRecDepth 100000 in
theorem tyX7_ok : ∀ k, k < 58 → parseFieldDescriptor (TX7 k).2.2.1 = some (tyX7 k) := by decide +kernel
abbrev cX7_init : ByteArray := prog_19_method_1_code
def yX7_init : MethodName := ⟨RX7, "<init>", "()V"⟩
def dkwX7_init_32 : List UInt8 := [182, 0, 123, 42, 182, 0, 126, 177]
abbrev dktX7_init_32 : List UInt8 := dkwX7_init_32 ++ []
def dkwX7_init_31 : List UInt8 := [3, 60, 27, 16, 40, 162, 0, 18, 42, 180, 0, 52, 27, 17, 3, 132, 79, 132, 1, 1, 167, 255, 238, 42]
abbrev dktX7_init_31 : List UInt8 := dkwX7_init_31 ++ dktX7_init_32
def dkwX7_init_30 : List UInt8 := [42, 16, 12, 188, 10, 181, 0, 114, 42, 16, 12, 188, 10, 181, 0, 117, 42, 16, 12, 188, 10, 181, 0, 120]
abbrev dktX7_init_30 : List UInt8 := dkwX7_init_30 ++ dktX7_init_31
def dkwX7_init_29 : List UInt8 := [42, 16, 40, 188, 10, 181, 0, 105, 42, 16, 12, 188, 10, 181, 0, 108, 42, 16, 12, 188, 10, 181, 0, 111]
abbrev dktX7_init_29 : List UInt8 := dkwX7_init_29 ++ dktX7_init_30
def dkwX7_init_28 : List UInt8 := [16, 12, 188, 10, 181, 0, 96, 42, 17, 5, 0, 188, 10, 181, 0, 99, 42, 16, 8, 188, 10, 181, 0, 102]
abbrev dktX7_init_28 : List UInt8 := dkwX7_init_28 ++ dktX7_init_29
def dkwX7_init_27 : List UInt8 := [42, 16, 8, 188, 10, 181, 0, 86, 42, 7, 188, 4, 181, 0, 89, 42, 16, 60, 188, 4, 181, 0, 93, 42]
abbrev dktX7_init_27 : List UInt8 := dkwX7_init_27 ++ dktX7_init_28
def dkwX7_init_26 : List UInt8 := [42, 16, 48, 188, 10, 181, 0, 77, 42, 16, 48, 188, 10, 181, 0, 80, 42, 16, 48, 188, 10, 181, 0, 83]
abbrev dktX7_init_26 : List UInt8 := dkwX7_init_26 ++ dktX7_init_27
def dkwX7_init_25 : List UInt8 := [42, 16, 48, 188, 10, 181, 0, 68, 42, 16, 48, 188, 10, 181, 0, 71, 42, 16, 48, 188, 10, 181, 0, 74]
abbrev dktX7_init_25 : List UInt8 := dkwX7_init_25 ++ dktX7_init_26
def dkwX7_init_24 : List UInt8 := [181, 0, 55, 42, 2, 181, 0, 58, 42, 16, 48, 188, 10, 181, 0, 62, 42, 16, 48, 188, 10, 181, 0, 65]
abbrev dktX7_init_24 : List UInt8 := dkwX7_init_24 ++ dktX7_init_25
def dkwX7_init_23 : List UInt8 := [89, 16, 71, 16, 32, 79, 89, 16, 72, 16, 111, 79, 89, 16, 73, 16, 114, 79, 89, 16, 74, 16, 32, 79]
abbrev dktX7_init_23 : List UInt8 := dkwX7_init_23 ++ dktX7_init_24
def dkwX7_init_22 : List UInt8 := [89, 16, 67, 16, 101, 79, 89, 16, 68, 16, 32, 79, 89, 16, 69, 16, 116, 79, 89, 16, 70, 16, 111, 79]
abbrev dktX7_init_22 : List UInt8 := dkwX7_init_22 ++ dktX7_init_23
def dkwX7_init_21 : List UInt8 := [89, 16, 63, 16, 105, 79, 89, 16, 64, 16, 110, 79, 89, 16, 65, 16, 103, 79, 89, 16, 66, 16, 108, 79]
abbrev dktX7_init_21 : List UInt8 := dkwX7_init_21 ++ dktX7_init_22
def dkwX7_init_20 : List UInt8 := [89, 16, 59, 16, 110, 79, 89, 16, 60, 16, 116, 79, 89, 16, 61, 16, 32, 79, 89, 16, 62, 16, 115, 79]
abbrev dktX7_init_20 : List UInt8 := dkwX7_init_20 ++ dktX7_init_21
def dkwX7_init_19 : List UInt8 := [89, 16, 55, 16, 32, 79, 89, 16, 56, 16, 106, 79, 89, 16, 57, 16, 111, 79, 89, 16, 58, 16, 105, 79]
abbrev dktX7_init_19 : List UInt8 := dkwX7_init_19 ++ dktX7_init_20
def dkwX7_init_18 : List UInt8 := [89, 16, 51, 16, 104, 79, 89, 16, 52, 16, 97, 79, 89, 16, 53, 16, 108, 79, 89, 16, 54, 16, 102, 79]
abbrev dktX7_init_18 : List UInt8 := dkwX7_init_18 ++ dktX7_init_19
def dkwX7_init_17 : List UInt8 := [89, 16, 47, 16, 97, 79, 89, 16, 48, 16, 115, 79, 89, 16, 49, 16, 115, 79, 89, 16, 50, 16, 32, 79]
abbrev dktX7_init_17 : List UInt8 := dkwX7_init_17 ++ dktX7_init_18
def dkwX7_init_16 : List UInt8 := [89, 16, 43, 16, 101, 79, 89, 16, 44, 16, 32, 79, 89, 16, 45, 16, 99, 79, 89, 16, 46, 16, 108, 79]
abbrev dktX7_init_16 : List UInt8 := dkwX7_init_16 ++ dktX7_init_17
def dkwX7_init_15 : List UInt8 := [89, 16, 39, 16, 112, 79, 89, 16, 40, 16, 32, 79, 89, 16, 41, 16, 97, 79, 89, 16, 42, 16, 103, 79]
abbrev dktX7_init_15 : List UInt8 := dkwX7_init_15 ++ dktX7_init_16
def dkwX7_init_14 : List UInt8 := [89, 16, 35, 16, 101, 79, 89, 16, 36, 16, 32, 79, 89, 16, 37, 16, 99, 79, 89, 16, 38, 16, 97, 79]
abbrev dktX7_init_14 : List UInt8 := dkwX7_init_14 ++ dktX7_init_15
def dkwX7_init_13 : List UInt8 := [89, 16, 31, 16, 32, 79, 89, 16, 32, 16, 114, 79, 89, 16, 33, 16, 97, 79, 89, 16, 34, 16, 116, 79]
abbrev dktX7_init_13 : List UInt8 := dkwX7_init_13 ++ dktX7_init_14
def dkwX7_init_12 : List UInt8 := [89, 16, 27, 16, 119, 79, 89, 16, 28, 16, 97, 79, 89, 16, 29, 16, 105, 79, 89, 16, 30, 16, 116, 79]
abbrev dktX7_init_12 : List UInt8 := dkwX7_init_12 ++ dktX7_init_13
def dkwX7_init_11 : List UInt8 := [89, 16, 23, 16, 97, 79, 89, 16, 24, 16, 114, 79, 89, 16, 25, 16, 115, 79, 89, 16, 26, 16, 32, 79]
abbrev dktX7_init_11 : List UInt8 := dkwX7_init_11 ++ dktX7_init_12
def dkwX7_init_10 : List UInt8 := [89, 16, 19, 16, 97, 79, 89, 16, 20, 16, 114, 79, 89, 16, 21, 16, 114, 79, 89, 16, 22, 16, 101, 79]
abbrev dktX7_init_10 : List UInt8 := dkwX7_init_10 ++ dktX7_init_11
def dkwX7_init_9 : List UInt8 := [89, 16, 15, 16, 117, 79, 89, 16, 16, 16, 109, 79, 89, 16, 17, 16, 112, 79, 89, 16, 18, 16, 32, 79]
abbrev dktX7_init_9 : List UInt8 := dkwX7_init_9 ++ dktX7_init_10
def dkwX7_init_8 : List UInt8 := [89, 16, 11, 16, 99, 79, 89, 16, 12, 16, 101, 79, 89, 16, 13, 16, 32, 79, 89, 16, 14, 16, 108, 79]
abbrev dktX7_init_8 : List UInt8 := dkwX7_init_8 ++ dktX7_init_9
def dkwX7_init_7 : List UInt8 := [89, 16, 7, 16, 32, 79, 89, 16, 8, 16, 112, 79, 89, 16, 9, 16, 114, 79, 89, 16, 10, 16, 105, 79]
abbrev dktX7_init_7 : List UInt8 := dkwX7_init_7 ++ dktX7_init_8
def dkwX7_init_6 : List UInt8 := [16, 121, 79, 89, 6, 16, 32, 79, 89, 7, 16, 98, 79, 89, 8, 16, 97, 79, 89, 16, 6, 16, 114, 79]
abbrev dktX7_init_6 : List UInt8 := dkwX7_init_6 ++ dktX7_init_7
def dkwX7_init_5 : List UInt8 := [16, 40, 188, 10, 181, 0, 52, 42, 16, 75, 188, 10, 89, 3, 16, 109, 79, 89, 4, 16, 97, 79, 89, 5]
abbrev dktX7_init_5 : List UInt8 := dkwX7_init_5 ++ dktX7_init_6
def dkwX7_init_4 : List UInt8 := [16, 60, 188, 10, 181, 0, 43, 42, 16, 60, 188, 10, 181, 0, 46, 42, 16, 60, 188, 10, 181, 0, 49, 42]
abbrev dktX7_init_4 : List UInt8 := dkwX7_init_4 ++ dktX7_init_5
def dkwX7_init_3 : List UInt8 := [188, 10, 181, 0, 34, 42, 17, 0, 200, 188, 10, 181, 0, 37, 42, 16, 60, 188, 10, 181, 0, 40, 42]
abbrev dktX7_init_3 : List UInt8 := dkwX7_init_3 ++ dktX7_init_4
def dkwX7_init_2 : List UInt8 := [188, 10, 181, 0, 25, 42, 16, 16, 188, 10, 181, 0, 28, 42, 16, 16, 188, 10, 181, 0, 31, 42, 16, 16]
abbrev dktX7_init_2 : List UInt8 := dkwX7_init_2 ++ dktX7_init_3
def dkwX7_init_1 : List UInt8 := [188, 10, 181, 0, 16, 42, 16, 16, 188, 10, 181, 0, 19, 42, 16, 16, 188, 10, 181, 0, 22, 42, 16, 16]
abbrev dktX7_init_1 : List UInt8 := dkwX7_init_1 ++ dktX7_init_2
def dkwX7_init_0 : List UInt8 := [42, 183, 0, 1, 42, 17, 1, 244, 188, 10, 181, 0, 7, 42, 16, 12, 188, 10, 181, 0, 13, 42, 16, 12]
abbrev dktX7_init_0 : List UInt8 := dkwX7_init_0 ++ dktX7_init_1
theorem dksX7_init_0 : cX7_init.data.toList.drop 0 = dktX7_init_0 := by decide +kernel
theorem dksX7_init_1 : cX7_init.data.toList.drop 24 = dktX7_init_1 := dk_seg dksX7_init_0 24 rfl rfl
theorem dksX7_init_2 : cX7_init.data.toList.drop 48 = dktX7_init_2 := dk_seg dksX7_init_1 24 rfl rfl
theorem dksX7_init_3 : cX7_init.data.toList.drop 72 = dktX7_init_3 := dk_seg dksX7_init_2 24 rfl rfl
theorem dksX7_init_4 : cX7_init.data.toList.drop 95 = dktX7_init_4 := dk_seg dksX7_init_3 23 rfl rfl
theorem dksX7_init_5 : cX7_init.data.toList.drop 119 = dktX7_init_5 := dk_seg dksX7_init_4 24 rfl rfl
theorem dksX7_init_6 : cX7_init.data.toList.drop 143 = dktX7_init_6 := dk_seg dksX7_init_5 24 rfl rfl
theorem dksX7_init_7 : cX7_init.data.toList.drop 167 = dktX7_init_7 := dk_seg dksX7_init_6 24 rfl rfl
theorem dksX7_init_8 : cX7_init.data.toList.drop 191 = dktX7_init_8 := dk_seg dksX7_init_7 24 rfl rfl
theorem dksX7_init_9 : cX7_init.data.toList.drop 215 = dktX7_init_9 := dk_seg dksX7_init_8 24 rfl rfl
theorem dksX7_init_10 : cX7_init.data.toList.drop 239 = dktX7_init_10 := dk_seg dksX7_init_9 24 rfl rfl
theorem dksX7_init_11 : cX7_init.data.toList.drop 263 = dktX7_init_11 := dk_seg dksX7_init_10 24 rfl rfl
theorem dksX7_init_12 : cX7_init.data.toList.drop 287 = dktX7_init_12 := dk_seg dksX7_init_11 24 rfl rfl
theorem dksX7_init_13 : cX7_init.data.toList.drop 311 = dktX7_init_13 := dk_seg dksX7_init_12 24 rfl rfl
theorem dksX7_init_14 : cX7_init.data.toList.drop 335 = dktX7_init_14 := dk_seg dksX7_init_13 24 rfl rfl
theorem dksX7_init_15 : cX7_init.data.toList.drop 359 = dktX7_init_15 := dk_seg dksX7_init_14 24 rfl rfl
theorem dksX7_init_16 : cX7_init.data.toList.drop 383 = dktX7_init_16 := dk_seg dksX7_init_15 24 rfl rfl
theorem dksX7_init_17 : cX7_init.data.toList.drop 407 = dktX7_init_17 := dk_seg dksX7_init_16 24 rfl rfl
theorem dksX7_init_18 : cX7_init.data.toList.drop 431 = dktX7_init_18 := dk_seg dksX7_init_17 24 rfl rfl
theorem dksX7_init_19 : cX7_init.data.toList.drop 455 = dktX7_init_19 := dk_seg dksX7_init_18 24 rfl rfl
theorem dksX7_init_20 : cX7_init.data.toList.drop 479 = dktX7_init_20 := dk_seg dksX7_init_19 24 rfl rfl
theorem dksX7_init_21 : cX7_init.data.toList.drop 503 = dktX7_init_21 := dk_seg dksX7_init_20 24 rfl rfl
theorem dksX7_init_22 : cX7_init.data.toList.drop 527 = dktX7_init_22 := dk_seg dksX7_init_21 24 rfl rfl
theorem dksX7_init_23 : cX7_init.data.toList.drop 551 = dktX7_init_23 := dk_seg dksX7_init_22 24 rfl rfl
theorem dksX7_init_24 : cX7_init.data.toList.drop 575 = dktX7_init_24 := dk_seg dksX7_init_23 24 rfl rfl
theorem dksX7_init_25 : cX7_init.data.toList.drop 599 = dktX7_init_25 := dk_seg dksX7_init_24 24 rfl rfl
theorem dksX7_init_26 : cX7_init.data.toList.drop 623 = dktX7_init_26 := dk_seg dksX7_init_25 24 rfl rfl
theorem dksX7_init_27 : cX7_init.data.toList.drop 647 = dktX7_init_27 := dk_seg dksX7_init_26 24 rfl rfl
theorem dksX7_init_28 : cX7_init.data.toList.drop 671 = dktX7_init_28 := dk_seg dksX7_init_27 24 rfl rfl
theorem dksX7_init_29 : cX7_init.data.toList.drop 695 = dktX7_init_29 := dk_seg dksX7_init_28 24 rfl rfl
theorem dksX7_init_30 : cX7_init.data.toList.drop 719 = dktX7_init_30 := dk_seg dksX7_init_29 24 rfl rfl
theorem dksX7_init_31 : cX7_init.data.toList.drop 743 = dktX7_init_31 := dk_seg dksX7_init_30 24 rfl rfl
theorem dksX7_init_32 : cX7_init.data.toList.drop 767 = dktX7_init_32 := dk_seg dksX7_init_31 24 rfl rfl
theorem dX7_init_0 : decode cX7_init 0 = .ok (.aload_n 0, 1) := dk_42 (dk_at dksX7_init_0 0 rfl rfl)
theorem dX7_init_1 : decode cX7_init 1 = .ok (.invokespecial 1, 3) := dk_183 0 1 (dk_at dksX7_init_0 1 rfl rfl)
theorem dX7_init_4 : decode cX7_init 4 = .ok (.aload_n 0, 1) := dk_42 (dk_at dksX7_init_0 4 rfl rfl)
theorem dX7_init_5 : decode cX7_init 5 = .ok (.sipush 500, 3) := dk_17 1 244 (dk_at dksX7_init_0 5 rfl rfl)
theorem dX7_init_8 : decode cX7_init 8 = .ok (.newarray .int, 2) := dk_188_10 (dk_at dksX7_init_0 8 rfl rfl)
theorem dX7_init_10 : decode cX7_init 10 = .ok (.putfield 7, 3) := dk_181 0 7 (dk_at dksX7_init_0 10 rfl rfl)
theorem dX7_init_13 : decode cX7_init 13 = .ok (.aload_n 0, 1) := dk_42 (dk_at dksX7_init_0 13 rfl rfl)
theorem dX7_init_14 : decode cX7_init 14 = .ok (.bipush 12, 2) := dk_16 12 (dk_at dksX7_init_0 14 rfl rfl)
theorem dX7_init_16 : decode cX7_init 16 = .ok (.newarray .int, 2) := dk_188_10 (dk_at dksX7_init_0 16 rfl rfl)
theorem dX7_init_18 : decode cX7_init 18 = .ok (.putfield 13, 3) := dk_181 0 13 (dk_at dksX7_init_0 18 rfl rfl)
theorem dX7_init_21 : decode cX7_init 21 = .ok (.aload_n 0, 1) := dk_42 (dk_at dksX7_init_0 21 rfl rfl)
theorem dX7_init_22 : decode cX7_init 22 = .ok (.bipush 12, 2) := dk_16 12 (dk_at dksX7_init_0 22 rfl rfl)
theorem dX7_init_24 : decode cX7_init 24 = .ok (.newarray .int, 2) := dk_188_10 (dk_at dksX7_init_1 0 rfl rfl)
theorem dX7_init_26 : decode cX7_init 26 = .ok (.putfield 16, 3) := dk_181 0 16 (dk_at dksX7_init_1 2 rfl rfl)
theorem dX7_init_29 : decode cX7_init 29 = .ok (.aload_n 0, 1) := dk_42 (dk_at dksX7_init_1 5 rfl rfl)
theorem dX7_init_30 : decode cX7_init 30 = .ok (.bipush 16, 2) := dk_16 16 (dk_at dksX7_init_1 6 rfl rfl)
theorem dX7_init_32 : decode cX7_init 32 = .ok (.newarray .int, 2) := dk_188_10 (dk_at dksX7_init_1 8 rfl rfl)
theorem dX7_init_34 : decode cX7_init 34 = .ok (.putfield 19, 3) := dk_181 0 19 (dk_at dksX7_init_1 10 rfl rfl)
theorem dX7_init_37 : decode cX7_init 37 = .ok (.aload_n 0, 1) := dk_42 (dk_at dksX7_init_1 13 rfl rfl)
theorem dX7_init_38 : decode cX7_init 38 = .ok (.bipush 16, 2) := dk_16 16 (dk_at dksX7_init_1 14 rfl rfl)
theorem dX7_init_40 : decode cX7_init 40 = .ok (.newarray .int, 2) := dk_188_10 (dk_at dksX7_init_1 16 rfl rfl)
theorem dX7_init_42 : decode cX7_init 42 = .ok (.putfield 22, 3) := dk_181 0 22 (dk_at dksX7_init_1 18 rfl rfl)
theorem dX7_init_45 : decode cX7_init 45 = .ok (.aload_n 0, 1) := dk_42 (dk_at dksX7_init_1 21 rfl rfl)
theorem dX7_init_46 : decode cX7_init 46 = .ok (.bipush 16, 2) := dk_16 16 (dk_at dksX7_init_1 22 rfl rfl)
theorem dX7_init_48 : decode cX7_init 48 = .ok (.newarray .int, 2) := dk_188_10 (dk_at dksX7_init_2 0 rfl rfl)
theorem dX7_init_50 : decode cX7_init 50 = .ok (.putfield 25, 3) := dk_181 0 25 (dk_at dksX7_init_2 2 rfl rfl)
theorem dX7_init_53 : decode cX7_init 53 = .ok (.aload_n 0, 1) := dk_42 (dk_at dksX7_init_2 5 rfl rfl)
theorem dX7_init_54 : decode cX7_init 54 = .ok (.bipush 16, 2) := dk_16 16 (dk_at dksX7_init_2 6 rfl rfl)
theorem dX7_init_56 : decode cX7_init 56 = .ok (.newarray .int, 2) := dk_188_10 (dk_at dksX7_init_2 8 rfl rfl)
theorem dX7_init_58 : decode cX7_init 58 = .ok (.putfield 28, 3) := dk_181 0 28 (dk_at dksX7_init_2 10 rfl rfl)
theorem dX7_init_61 : decode cX7_init 61 = .ok (.aload_n 0, 1) := dk_42 (dk_at dksX7_init_2 13 rfl rfl)
theorem dX7_init_62 : decode cX7_init 62 = .ok (.bipush 16, 2) := dk_16 16 (dk_at dksX7_init_2 14 rfl rfl)
theorem dX7_init_64 : decode cX7_init 64 = .ok (.newarray .int, 2) := dk_188_10 (dk_at dksX7_init_2 16 rfl rfl)
theorem dX7_init_66 : decode cX7_init 66 = .ok (.putfield 31, 3) := dk_181 0 31 (dk_at dksX7_init_2 18 rfl rfl)
theorem dX7_init_69 : decode cX7_init 69 = .ok (.aload_n 0, 1) := dk_42 (dk_at dksX7_init_2 21 rfl rfl)
theorem dX7_init_70 : decode cX7_init 70 = .ok (.bipush 16, 2) := dk_16 16 (dk_at dksX7_init_2 22 rfl rfl)
theorem dX7_init_72 : decode cX7_init 72 = .ok (.newarray .int, 2) := dk_188_10 (dk_at dksX7_init_3 0 rfl rfl)
theorem dX7_init_74 : decode cX7_init 74 = .ok (.putfield 34, 3) := dk_181 0 34 (dk_at dksX7_init_3 2 rfl rfl)
theorem dX7_init_77 : decode cX7_init 77 = .ok (.aload_n 0, 1) := dk_42 (dk_at dksX7_init_3 5 rfl rfl)
theorem dX7_init_78 : decode cX7_init 78 = .ok (.sipush 200, 3) := dk_17 0 200 (dk_at dksX7_init_3 6 rfl rfl)
theorem dX7_init_81 : decode cX7_init 81 = .ok (.newarray .int, 2) := dk_188_10 (dk_at dksX7_init_3 9 rfl rfl)
theorem dX7_init_83 : decode cX7_init 83 = .ok (.putfield 37, 3) := dk_181 0 37 (dk_at dksX7_init_3 11 rfl rfl)
theorem dX7_init_86 : decode cX7_init 86 = .ok (.aload_n 0, 1) := dk_42 (dk_at dksX7_init_3 14 rfl rfl)
theorem dX7_init_87 : decode cX7_init 87 = .ok (.bipush 60, 2) := dk_16 60 (dk_at dksX7_init_3 15 rfl rfl)
theorem dX7_init_89 : decode cX7_init 89 = .ok (.newarray .int, 2) := dk_188_10 (dk_at dksX7_init_3 17 rfl rfl)
theorem dX7_init_91 : decode cX7_init 91 = .ok (.putfield 40, 3) := dk_181 0 40 (dk_at dksX7_init_3 19 rfl rfl)
theorem dX7_init_94 : decode cX7_init 94 = .ok (.aload_n 0, 1) := dk_42 (dk_at dksX7_init_3 22 rfl rfl)
theorem dX7_init_95 : decode cX7_init 95 = .ok (.bipush 60, 2) := dk_16 60 (dk_at dksX7_init_4 0 rfl rfl)
theorem dX7_init_97 : decode cX7_init 97 = .ok (.newarray .int, 2) := dk_188_10 (dk_at dksX7_init_4 2 rfl rfl)
theorem dX7_init_99 : decode cX7_init 99 = .ok (.putfield 43, 3) := dk_181 0 43 (dk_at dksX7_init_4 4 rfl rfl)
theorem dX7_init_102 : decode cX7_init 102 = .ok (.aload_n 0, 1) := dk_42 (dk_at dksX7_init_4 7 rfl rfl)
theorem dX7_init_103 : decode cX7_init 103 = .ok (.bipush 60, 2) := dk_16 60 (dk_at dksX7_init_4 8 rfl rfl)
theorem dX7_init_105 : decode cX7_init 105 = .ok (.newarray .int, 2) := dk_188_10 (dk_at dksX7_init_4 10 rfl rfl)
theorem dX7_init_107 : decode cX7_init 107 = .ok (.putfield 46, 3) := dk_181 0 46 (dk_at dksX7_init_4 12 rfl rfl)
theorem dX7_init_110 : decode cX7_init 110 = .ok (.aload_n 0, 1) := dk_42 (dk_at dksX7_init_4 15 rfl rfl)
theorem dX7_init_111 : decode cX7_init 111 = .ok (.bipush 60, 2) := dk_16 60 (dk_at dksX7_init_4 16 rfl rfl)
theorem dX7_init_113 : decode cX7_init 113 = .ok (.newarray .int, 2) := dk_188_10 (dk_at dksX7_init_4 18 rfl rfl)
theorem dX7_init_115 : decode cX7_init 115 = .ok (.putfield 49, 3) := dk_181 0 49 (dk_at dksX7_init_4 20 rfl rfl)
theorem dX7_init_118 : decode cX7_init 118 = .ok (.aload_n 0, 1) := dk_42 (dk_at dksX7_init_4 23 rfl rfl)
theorem dX7_init_119 : decode cX7_init 119 = .ok (.bipush 40, 2) := dk_16 40 (dk_at dksX7_init_5 0 rfl rfl)
theorem dX7_init_121 : decode cX7_init 121 = .ok (.newarray .int, 2) := dk_188_10 (dk_at dksX7_init_5 2 rfl rfl)
theorem dX7_init_123 : decode cX7_init 123 = .ok (.putfield 52, 3) := dk_181 0 52 (dk_at dksX7_init_5 4 rfl rfl)
theorem dX7_init_126 : decode cX7_init 126 = .ok (.aload_n 0, 1) := dk_42 (dk_at dksX7_init_5 7 rfl rfl)
theorem dX7_init_127 : decode cX7_init 127 = .ok (.bipush 75, 2) := dk_16 75 (dk_at dksX7_init_5 8 rfl rfl)
theorem dX7_init_129 : decode cX7_init 129 = .ok (.newarray .int, 2) := dk_188_10 (dk_at dksX7_init_5 10 rfl rfl)
theorem dX7_init_131 : decode cX7_init 131 = .ok (.dup, 1) := dk_89 (dk_at dksX7_init_5 12 rfl rfl)
theorem dX7_init_132 : decode cX7_init 132 = .ok (.iconst 0, 1) := dk_3 (dk_at dksX7_init_5 13 rfl rfl)
theorem dX7_init_133 : decode cX7_init 133 = .ok (.bipush 109, 2) := dk_16 109 (dk_at dksX7_init_5 14 rfl rfl)
theorem dX7_init_135 : decode cX7_init 135 = .ok (.iastore, 1) := dk_79 (dk_at dksX7_init_5 16 rfl rfl)
theorem dX7_init_136 : decode cX7_init 136 = .ok (.dup, 1) := dk_89 (dk_at dksX7_init_5 17 rfl rfl)
theorem dX7_init_137 : decode cX7_init 137 = .ok (.iconst 1, 1) := dk_4 (dk_at dksX7_init_5 18 rfl rfl)
theorem dX7_init_138 : decode cX7_init 138 = .ok (.bipush 97, 2) := dk_16 97 (dk_at dksX7_init_5 19 rfl rfl)
theorem dX7_init_140 : decode cX7_init 140 = .ok (.iastore, 1) := dk_79 (dk_at dksX7_init_5 21 rfl rfl)
theorem dX7_init_141 : decode cX7_init 141 = .ok (.dup, 1) := dk_89 (dk_at dksX7_init_5 22 rfl rfl)
theorem dX7_init_142 : decode cX7_init 142 = .ok (.iconst 2, 1) := dk_5 (dk_at dksX7_init_5 23 rfl rfl)
theorem dX7_init_143 : decode cX7_init 143 = .ok (.bipush 121, 2) := dk_16 121 (dk_at dksX7_init_6 0 rfl rfl)
theorem dX7_init_145 : decode cX7_init 145 = .ok (.iastore, 1) := dk_79 (dk_at dksX7_init_6 2 rfl rfl)
theorem dX7_init_146 : decode cX7_init 146 = .ok (.dup, 1) := dk_89 (dk_at dksX7_init_6 3 rfl rfl)
theorem dX7_init_147 : decode cX7_init 147 = .ok (.iconst 3, 1) := dk_6 (dk_at dksX7_init_6 4 rfl rfl)
theorem dX7_init_148 : decode cX7_init 148 = .ok (.bipush 32, 2) := dk_16 32 (dk_at dksX7_init_6 5 rfl rfl)
theorem dX7_init_150 : decode cX7_init 150 = .ok (.iastore, 1) := dk_79 (dk_at dksX7_init_6 7 rfl rfl)
theorem dX7_init_151 : decode cX7_init 151 = .ok (.dup, 1) := dk_89 (dk_at dksX7_init_6 8 rfl rfl)
theorem dX7_init_152 : decode cX7_init 152 = .ok (.iconst 4, 1) := dk_7 (dk_at dksX7_init_6 9 rfl rfl)
theorem dX7_init_153 : decode cX7_init 153 = .ok (.bipush 98, 2) := dk_16 98 (dk_at dksX7_init_6 10 rfl rfl)
theorem dX7_init_155 : decode cX7_init 155 = .ok (.iastore, 1) := dk_79 (dk_at dksX7_init_6 12 rfl rfl)
theorem dX7_init_156 : decode cX7_init 156 = .ok (.dup, 1) := dk_89 (dk_at dksX7_init_6 13 rfl rfl)
theorem dX7_init_157 : decode cX7_init 157 = .ok (.iconst 5, 1) := dk_8 (dk_at dksX7_init_6 14 rfl rfl)
theorem dX7_init_158 : decode cX7_init 158 = .ok (.bipush 97, 2) := dk_16 97 (dk_at dksX7_init_6 15 rfl rfl)
theorem dX7_init_160 : decode cX7_init 160 = .ok (.iastore, 1) := dk_79 (dk_at dksX7_init_6 17 rfl rfl)
theorem dX7_init_161 : decode cX7_init 161 = .ok (.dup, 1) := dk_89 (dk_at dksX7_init_6 18 rfl rfl)
theorem dX7_init_162 : decode cX7_init 162 = .ok (.bipush 6, 2) := dk_16 6 (dk_at dksX7_init_6 19 rfl rfl)
theorem dX7_init_164 : decode cX7_init 164 = .ok (.bipush 114, 2) := dk_16 114 (dk_at dksX7_init_6 21 rfl rfl)
theorem dX7_init_166 : decode cX7_init 166 = .ok (.iastore, 1) := dk_79 (dk_at dksX7_init_6 23 rfl rfl)
theorem dX7_init_167 : decode cX7_init 167 = .ok (.dup, 1) := dk_89 (dk_at dksX7_init_7 0 rfl rfl)
theorem dX7_init_168 : decode cX7_init 168 = .ok (.bipush 7, 2) := dk_16 7 (dk_at dksX7_init_7 1 rfl rfl)
theorem dX7_init_170 : decode cX7_init 170 = .ok (.bipush 32, 2) := dk_16 32 (dk_at dksX7_init_7 3 rfl rfl)
theorem dX7_init_172 : decode cX7_init 172 = .ok (.iastore, 1) := dk_79 (dk_at dksX7_init_7 5 rfl rfl)
theorem dX7_init_173 : decode cX7_init 173 = .ok (.dup, 1) := dk_89 (dk_at dksX7_init_7 6 rfl rfl)
theorem dX7_init_174 : decode cX7_init 174 = .ok (.bipush 8, 2) := dk_16 8 (dk_at dksX7_init_7 7 rfl rfl)
theorem dX7_init_176 : decode cX7_init 176 = .ok (.bipush 112, 2) := dk_16 112 (dk_at dksX7_init_7 9 rfl rfl)
theorem dX7_init_178 : decode cX7_init 178 = .ok (.iastore, 1) := dk_79 (dk_at dksX7_init_7 11 rfl rfl)
theorem dX7_init_179 : decode cX7_init 179 = .ok (.dup, 1) := dk_89 (dk_at dksX7_init_7 12 rfl rfl)
theorem dX7_init_180 : decode cX7_init 180 = .ok (.bipush 9, 2) := dk_16 9 (dk_at dksX7_init_7 13 rfl rfl)
theorem dX7_init_182 : decode cX7_init 182 = .ok (.bipush 114, 2) := dk_16 114 (dk_at dksX7_init_7 15 rfl rfl)
theorem dX7_init_184 : decode cX7_init 184 = .ok (.iastore, 1) := dk_79 (dk_at dksX7_init_7 17 rfl rfl)
theorem dX7_init_185 : decode cX7_init 185 = .ok (.dup, 1) := dk_89 (dk_at dksX7_init_7 18 rfl rfl)
theorem dX7_init_186 : decode cX7_init 186 = .ok (.bipush 10, 2) := dk_16 10 (dk_at dksX7_init_7 19 rfl rfl)
theorem dX7_init_188 : decode cX7_init 188 = .ok (.bipush 105, 2) := dk_16 105 (dk_at dksX7_init_7 21 rfl rfl)
theorem dX7_init_190 : decode cX7_init 190 = .ok (.iastore, 1) := dk_79 (dk_at dksX7_init_7 23 rfl rfl)
theorem dX7_init_191 : decode cX7_init 191 = .ok (.dup, 1) := dk_89 (dk_at dksX7_init_8 0 rfl rfl)
theorem dX7_init_192 : decode cX7_init 192 = .ok (.bipush 11, 2) := dk_16 11 (dk_at dksX7_init_8 1 rfl rfl)
theorem dX7_init_194 : decode cX7_init 194 = .ok (.bipush 99, 2) := dk_16 99 (dk_at dksX7_init_8 3 rfl rfl)
theorem dX7_init_196 : decode cX7_init 196 = .ok (.iastore, 1) := dk_79 (dk_at dksX7_init_8 5 rfl rfl)
theorem dX7_init_197 : decode cX7_init 197 = .ok (.dup, 1) := dk_89 (dk_at dksX7_init_8 6 rfl rfl)
theorem dX7_init_198 : decode cX7_init 198 = .ok (.bipush 12, 2) := dk_16 12 (dk_at dksX7_init_8 7 rfl rfl)
theorem dX7_init_200 : decode cX7_init 200 = .ok (.bipush 101, 2) := dk_16 101 (dk_at dksX7_init_8 9 rfl rfl)
theorem dX7_init_202 : decode cX7_init 202 = .ok (.iastore, 1) := dk_79 (dk_at dksX7_init_8 11 rfl rfl)
theorem dX7_init_203 : decode cX7_init 203 = .ok (.dup, 1) := dk_89 (dk_at dksX7_init_8 12 rfl rfl)
theorem dX7_init_204 : decode cX7_init 204 = .ok (.bipush 13, 2) := dk_16 13 (dk_at dksX7_init_8 13 rfl rfl)
theorem dX7_init_206 : decode cX7_init 206 = .ok (.bipush 32, 2) := dk_16 32 (dk_at dksX7_init_8 15 rfl rfl)
theorem dX7_init_208 : decode cX7_init 208 = .ok (.iastore, 1) := dk_79 (dk_at dksX7_init_8 17 rfl rfl)
theorem dX7_init_209 : decode cX7_init 209 = .ok (.dup, 1) := dk_89 (dk_at dksX7_init_8 18 rfl rfl)
theorem dX7_init_210 : decode cX7_init 210 = .ok (.bipush 14, 2) := dk_16 14 (dk_at dksX7_init_8 19 rfl rfl)
theorem dX7_init_212 : decode cX7_init 212 = .ok (.bipush 108, 2) := dk_16 108 (dk_at dksX7_init_8 21 rfl rfl)
theorem dX7_init_214 : decode cX7_init 214 = .ok (.iastore, 1) := dk_79 (dk_at dksX7_init_8 23 rfl rfl)
theorem dX7_init_215 : decode cX7_init 215 = .ok (.dup, 1) := dk_89 (dk_at dksX7_init_9 0 rfl rfl)
theorem dX7_init_216 : decode cX7_init 216 = .ok (.bipush 15, 2) := dk_16 15 (dk_at dksX7_init_9 1 rfl rfl)
theorem dX7_init_218 : decode cX7_init 218 = .ok (.bipush 117, 2) := dk_16 117 (dk_at dksX7_init_9 3 rfl rfl)
theorem dX7_init_220 : decode cX7_init 220 = .ok (.iastore, 1) := dk_79 (dk_at dksX7_init_9 5 rfl rfl)
theorem dX7_init_221 : decode cX7_init 221 = .ok (.dup, 1) := dk_89 (dk_at dksX7_init_9 6 rfl rfl)
theorem dX7_init_222 : decode cX7_init 222 = .ok (.bipush 16, 2) := dk_16 16 (dk_at dksX7_init_9 7 rfl rfl)
theorem dX7_init_224 : decode cX7_init 224 = .ok (.bipush 109, 2) := dk_16 109 (dk_at dksX7_init_9 9 rfl rfl)
theorem dX7_init_226 : decode cX7_init 226 = .ok (.iastore, 1) := dk_79 (dk_at dksX7_init_9 11 rfl rfl)
theorem dX7_init_227 : decode cX7_init 227 = .ok (.dup, 1) := dk_89 (dk_at dksX7_init_9 12 rfl rfl)
theorem dX7_init_228 : decode cX7_init 228 = .ok (.bipush 17, 2) := dk_16 17 (dk_at dksX7_init_9 13 rfl rfl)
theorem dX7_init_230 : decode cX7_init 230 = .ok (.bipush 112, 2) := dk_16 112 (dk_at dksX7_init_9 15 rfl rfl)
theorem dX7_init_232 : decode cX7_init 232 = .ok (.iastore, 1) := dk_79 (dk_at dksX7_init_9 17 rfl rfl)
theorem dX7_init_233 : decode cX7_init 233 = .ok (.dup, 1) := dk_89 (dk_at dksX7_init_9 18 rfl rfl)
theorem dX7_init_234 : decode cX7_init 234 = .ok (.bipush 18, 2) := dk_16 18 (dk_at dksX7_init_9 19 rfl rfl)
theorem dX7_init_236 : decode cX7_init 236 = .ok (.bipush 32, 2) := dk_16 32 (dk_at dksX7_init_9 21 rfl rfl)
theorem dX7_init_238 : decode cX7_init 238 = .ok (.iastore, 1) := dk_79 (dk_at dksX7_init_9 23 rfl rfl)
theorem dX7_init_239 : decode cX7_init 239 = .ok (.dup, 1) := dk_89 (dk_at dksX7_init_10 0 rfl rfl)
theorem dX7_init_240 : decode cX7_init 240 = .ok (.bipush 19, 2) := dk_16 19 (dk_at dksX7_init_10 1 rfl rfl)
theorem dX7_init_242 : decode cX7_init 242 = .ok (.bipush 97, 2) := dk_16 97 (dk_at dksX7_init_10 3 rfl rfl)
theorem dX7_init_244 : decode cX7_init 244 = .ok (.iastore, 1) := dk_79 (dk_at dksX7_init_10 5 rfl rfl)
theorem dX7_init_245 : decode cX7_init 245 = .ok (.dup, 1) := dk_89 (dk_at dksX7_init_10 6 rfl rfl)
theorem dX7_init_246 : decode cX7_init 246 = .ok (.bipush 20, 2) := dk_16 20 (dk_at dksX7_init_10 7 rfl rfl)
theorem dX7_init_248 : decode cX7_init 248 = .ok (.bipush 114, 2) := dk_16 114 (dk_at dksX7_init_10 9 rfl rfl)
theorem dX7_init_250 : decode cX7_init 250 = .ok (.iastore, 1) := dk_79 (dk_at dksX7_init_10 11 rfl rfl)
theorem dX7_init_251 : decode cX7_init 251 = .ok (.dup, 1) := dk_89 (dk_at dksX7_init_10 12 rfl rfl)
theorem dX7_init_252 : decode cX7_init 252 = .ok (.bipush 21, 2) := dk_16 21 (dk_at dksX7_init_10 13 rfl rfl)
theorem dX7_init_254 : decode cX7_init 254 = .ok (.bipush 114, 2) := dk_16 114 (dk_at dksX7_init_10 15 rfl rfl)
theorem dX7_init_256 : decode cX7_init 256 = .ok (.iastore, 1) := dk_79 (dk_at dksX7_init_10 17 rfl rfl)
theorem dX7_init_257 : decode cX7_init 257 = .ok (.dup, 1) := dk_89 (dk_at dksX7_init_10 18 rfl rfl)
theorem dX7_init_258 : decode cX7_init 258 = .ok (.bipush 22, 2) := dk_16 22 (dk_at dksX7_init_10 19 rfl rfl)
theorem dX7_init_260 : decode cX7_init 260 = .ok (.bipush 101, 2) := dk_16 101 (dk_at dksX7_init_10 21 rfl rfl)
theorem dX7_init_262 : decode cX7_init 262 = .ok (.iastore, 1) := dk_79 (dk_at dksX7_init_10 23 rfl rfl)
theorem dX7_init_263 : decode cX7_init 263 = .ok (.dup, 1) := dk_89 (dk_at dksX7_init_11 0 rfl rfl)
theorem dX7_init_264 : decode cX7_init 264 = .ok (.bipush 23, 2) := dk_16 23 (dk_at dksX7_init_11 1 rfl rfl)
theorem dX7_init_266 : decode cX7_init 266 = .ok (.bipush 97, 2) := dk_16 97 (dk_at dksX7_init_11 3 rfl rfl)
theorem dX7_init_268 : decode cX7_init 268 = .ok (.iastore, 1) := dk_79 (dk_at dksX7_init_11 5 rfl rfl)
theorem dX7_init_269 : decode cX7_init 269 = .ok (.dup, 1) := dk_89 (dk_at dksX7_init_11 6 rfl rfl)
theorem dX7_init_270 : decode cX7_init 270 = .ok (.bipush 24, 2) := dk_16 24 (dk_at dksX7_init_11 7 rfl rfl)
theorem dX7_init_272 : decode cX7_init 272 = .ok (.bipush 114, 2) := dk_16 114 (dk_at dksX7_init_11 9 rfl rfl)
theorem dX7_init_274 : decode cX7_init 274 = .ok (.iastore, 1) := dk_79 (dk_at dksX7_init_11 11 rfl rfl)
theorem dX7_init_275 : decode cX7_init 275 = .ok (.dup, 1) := dk_89 (dk_at dksX7_init_11 12 rfl rfl)
theorem dX7_init_276 : decode cX7_init 276 = .ok (.bipush 25, 2) := dk_16 25 (dk_at dksX7_init_11 13 rfl rfl)
theorem dX7_init_278 : decode cX7_init 278 = .ok (.bipush 115, 2) := dk_16 115 (dk_at dksX7_init_11 15 rfl rfl)
theorem dX7_init_280 : decode cX7_init 280 = .ok (.iastore, 1) := dk_79 (dk_at dksX7_init_11 17 rfl rfl)
theorem dX7_init_281 : decode cX7_init 281 = .ok (.dup, 1) := dk_89 (dk_at dksX7_init_11 18 rfl rfl)
theorem dX7_init_282 : decode cX7_init 282 = .ok (.bipush 26, 2) := dk_16 26 (dk_at dksX7_init_11 19 rfl rfl)
theorem dX7_init_284 : decode cX7_init 284 = .ok (.bipush 32, 2) := dk_16 32 (dk_at dksX7_init_11 21 rfl rfl)
theorem dX7_init_286 : decode cX7_init 286 = .ok (.iastore, 1) := dk_79 (dk_at dksX7_init_11 23 rfl rfl)
theorem dX7_init_287 : decode cX7_init 287 = .ok (.dup, 1) := dk_89 (dk_at dksX7_init_12 0 rfl rfl)
theorem dX7_init_288 : decode cX7_init 288 = .ok (.bipush 27, 2) := dk_16 27 (dk_at dksX7_init_12 1 rfl rfl)
theorem dX7_init_290 : decode cX7_init 290 = .ok (.bipush 119, 2) := dk_16 119 (dk_at dksX7_init_12 3 rfl rfl)
theorem dX7_init_292 : decode cX7_init 292 = .ok (.iastore, 1) := dk_79 (dk_at dksX7_init_12 5 rfl rfl)
theorem dX7_init_293 : decode cX7_init 293 = .ok (.dup, 1) := dk_89 (dk_at dksX7_init_12 6 rfl rfl)
theorem dX7_init_294 : decode cX7_init 294 = .ok (.bipush 28, 2) := dk_16 28 (dk_at dksX7_init_12 7 rfl rfl)
theorem dX7_init_296 : decode cX7_init 296 = .ok (.bipush 97, 2) := dk_16 97 (dk_at dksX7_init_12 9 rfl rfl)
theorem dX7_init_298 : decode cX7_init 298 = .ok (.iastore, 1) := dk_79 (dk_at dksX7_init_12 11 rfl rfl)
theorem dX7_init_299 : decode cX7_init 299 = .ok (.dup, 1) := dk_89 (dk_at dksX7_init_12 12 rfl rfl)
theorem dX7_init_300 : decode cX7_init 300 = .ok (.bipush 29, 2) := dk_16 29 (dk_at dksX7_init_12 13 rfl rfl)
theorem dX7_init_302 : decode cX7_init 302 = .ok (.bipush 105, 2) := dk_16 105 (dk_at dksX7_init_12 15 rfl rfl)
theorem dX7_init_304 : decode cX7_init 304 = .ok (.iastore, 1) := dk_79 (dk_at dksX7_init_12 17 rfl rfl)
theorem dX7_init_305 : decode cX7_init 305 = .ok (.dup, 1) := dk_89 (dk_at dksX7_init_12 18 rfl rfl)
theorem dX7_init_306 : decode cX7_init 306 = .ok (.bipush 30, 2) := dk_16 30 (dk_at dksX7_init_12 19 rfl rfl)
theorem dX7_init_308 : decode cX7_init 308 = .ok (.bipush 116, 2) := dk_16 116 (dk_at dksX7_init_12 21 rfl rfl)
theorem dX7_init_310 : decode cX7_init 310 = .ok (.iastore, 1) := dk_79 (dk_at dksX7_init_12 23 rfl rfl)
theorem dX7_init_311 : decode cX7_init 311 = .ok (.dup, 1) := dk_89 (dk_at dksX7_init_13 0 rfl rfl)
theorem dX7_init_312 : decode cX7_init 312 = .ok (.bipush 31, 2) := dk_16 31 (dk_at dksX7_init_13 1 rfl rfl)
theorem dX7_init_314 : decode cX7_init 314 = .ok (.bipush 32, 2) := dk_16 32 (dk_at dksX7_init_13 3 rfl rfl)
theorem dX7_init_316 : decode cX7_init 316 = .ok (.iastore, 1) := dk_79 (dk_at dksX7_init_13 5 rfl rfl)
theorem dX7_init_317 : decode cX7_init 317 = .ok (.dup, 1) := dk_89 (dk_at dksX7_init_13 6 rfl rfl)
theorem dX7_init_318 : decode cX7_init 318 = .ok (.bipush 32, 2) := dk_16 32 (dk_at dksX7_init_13 7 rfl rfl)
theorem dX7_init_320 : decode cX7_init 320 = .ok (.bipush 114, 2) := dk_16 114 (dk_at dksX7_init_13 9 rfl rfl)
theorem dX7_init_322 : decode cX7_init 322 = .ok (.iastore, 1) := dk_79 (dk_at dksX7_init_13 11 rfl rfl)
theorem dX7_init_323 : decode cX7_init 323 = .ok (.dup, 1) := dk_89 (dk_at dksX7_init_13 12 rfl rfl)
theorem dX7_init_324 : decode cX7_init 324 = .ok (.bipush 33, 2) := dk_16 33 (dk_at dksX7_init_13 13 rfl rfl)
theorem dX7_init_326 : decode cX7_init 326 = .ok (.bipush 97, 2) := dk_16 97 (dk_at dksX7_init_13 15 rfl rfl)
theorem dX7_init_328 : decode cX7_init 328 = .ok (.iastore, 1) := dk_79 (dk_at dksX7_init_13 17 rfl rfl)
theorem dX7_init_329 : decode cX7_init 329 = .ok (.dup, 1) := dk_89 (dk_at dksX7_init_13 18 rfl rfl)
theorem dX7_init_330 : decode cX7_init 330 = .ok (.bipush 34, 2) := dk_16 34 (dk_at dksX7_init_13 19 rfl rfl)
theorem dX7_init_332 : decode cX7_init 332 = .ok (.bipush 116, 2) := dk_16 116 (dk_at dksX7_init_13 21 rfl rfl)
theorem dX7_init_334 : decode cX7_init 334 = .ok (.iastore, 1) := dk_79 (dk_at dksX7_init_13 23 rfl rfl)
theorem dX7_init_335 : decode cX7_init 335 = .ok (.dup, 1) := dk_89 (dk_at dksX7_init_14 0 rfl rfl)
theorem dX7_init_336 : decode cX7_init 336 = .ok (.bipush 35, 2) := dk_16 35 (dk_at dksX7_init_14 1 rfl rfl)
theorem dX7_init_338 : decode cX7_init 338 = .ok (.bipush 101, 2) := dk_16 101 (dk_at dksX7_init_14 3 rfl rfl)
theorem dX7_init_340 : decode cX7_init 340 = .ok (.iastore, 1) := dk_79 (dk_at dksX7_init_14 5 rfl rfl)
theorem dX7_init_341 : decode cX7_init 341 = .ok (.dup, 1) := dk_89 (dk_at dksX7_init_14 6 rfl rfl)
theorem dX7_init_342 : decode cX7_init 342 = .ok (.bipush 36, 2) := dk_16 36 (dk_at dksX7_init_14 7 rfl rfl)
theorem dX7_init_344 : decode cX7_init 344 = .ok (.bipush 32, 2) := dk_16 32 (dk_at dksX7_init_14 9 rfl rfl)
theorem dX7_init_346 : decode cX7_init 346 = .ok (.iastore, 1) := dk_79 (dk_at dksX7_init_14 11 rfl rfl)
theorem dX7_init_347 : decode cX7_init 347 = .ok (.dup, 1) := dk_89 (dk_at dksX7_init_14 12 rfl rfl)
theorem dX7_init_348 : decode cX7_init 348 = .ok (.bipush 37, 2) := dk_16 37 (dk_at dksX7_init_14 13 rfl rfl)
theorem dX7_init_350 : decode cX7_init 350 = .ok (.bipush 99, 2) := dk_16 99 (dk_at dksX7_init_14 15 rfl rfl)
theorem dX7_init_352 : decode cX7_init 352 = .ok (.iastore, 1) := dk_79 (dk_at dksX7_init_14 17 rfl rfl)
theorem dX7_init_353 : decode cX7_init 353 = .ok (.dup, 1) := dk_89 (dk_at dksX7_init_14 18 rfl rfl)
theorem dX7_init_354 : decode cX7_init 354 = .ok (.bipush 38, 2) := dk_16 38 (dk_at dksX7_init_14 19 rfl rfl)
theorem dX7_init_356 : decode cX7_init 356 = .ok (.bipush 97, 2) := dk_16 97 (dk_at dksX7_init_14 21 rfl rfl)
theorem dX7_init_358 : decode cX7_init 358 = .ok (.iastore, 1) := dk_79 (dk_at dksX7_init_14 23 rfl rfl)
theorem dX7_init_359 : decode cX7_init 359 = .ok (.dup, 1) := dk_89 (dk_at dksX7_init_15 0 rfl rfl)
theorem dX7_init_360 : decode cX7_init 360 = .ok (.bipush 39, 2) := dk_16 39 (dk_at dksX7_init_15 1 rfl rfl)
theorem dX7_init_362 : decode cX7_init 362 = .ok (.bipush 112, 2) := dk_16 112 (dk_at dksX7_init_15 3 rfl rfl)
theorem dX7_init_364 : decode cX7_init 364 = .ok (.iastore, 1) := dk_79 (dk_at dksX7_init_15 5 rfl rfl)
theorem dX7_init_365 : decode cX7_init 365 = .ok (.dup, 1) := dk_89 (dk_at dksX7_init_15 6 rfl rfl)
theorem dX7_init_366 : decode cX7_init 366 = .ok (.bipush 40, 2) := dk_16 40 (dk_at dksX7_init_15 7 rfl rfl)
theorem dX7_init_368 : decode cX7_init 368 = .ok (.bipush 32, 2) := dk_16 32 (dk_at dksX7_init_15 9 rfl rfl)
theorem dX7_init_370 : decode cX7_init 370 = .ok (.iastore, 1) := dk_79 (dk_at dksX7_init_15 11 rfl rfl)
theorem dX7_init_371 : decode cX7_init 371 = .ok (.dup, 1) := dk_89 (dk_at dksX7_init_15 12 rfl rfl)
theorem dX7_init_372 : decode cX7_init 372 = .ok (.bipush 41, 2) := dk_16 41 (dk_at dksX7_init_15 13 rfl rfl)
theorem dX7_init_374 : decode cX7_init 374 = .ok (.bipush 97, 2) := dk_16 97 (dk_at dksX7_init_15 15 rfl rfl)
theorem dX7_init_376 : decode cX7_init 376 = .ok (.iastore, 1) := dk_79 (dk_at dksX7_init_15 17 rfl rfl)
theorem dX7_init_377 : decode cX7_init 377 = .ok (.dup, 1) := dk_89 (dk_at dksX7_init_15 18 rfl rfl)
theorem dX7_init_378 : decode cX7_init 378 = .ok (.bipush 42, 2) := dk_16 42 (dk_at dksX7_init_15 19 rfl rfl)
theorem dX7_init_380 : decode cX7_init 380 = .ok (.bipush 103, 2) := dk_16 103 (dk_at dksX7_init_15 21 rfl rfl)
theorem dX7_init_382 : decode cX7_init 382 = .ok (.iastore, 1) := dk_79 (dk_at dksX7_init_15 23 rfl rfl)
theorem dX7_init_383 : decode cX7_init 383 = .ok (.dup, 1) := dk_89 (dk_at dksX7_init_16 0 rfl rfl)
theorem dX7_init_384 : decode cX7_init 384 = .ok (.bipush 43, 2) := dk_16 43 (dk_at dksX7_init_16 1 rfl rfl)
theorem dX7_init_386 : decode cX7_init 386 = .ok (.bipush 101, 2) := dk_16 101 (dk_at dksX7_init_16 3 rfl rfl)
theorem dX7_init_388 : decode cX7_init 388 = .ok (.iastore, 1) := dk_79 (dk_at dksX7_init_16 5 rfl rfl)
theorem dX7_init_389 : decode cX7_init 389 = .ok (.dup, 1) := dk_89 (dk_at dksX7_init_16 6 rfl rfl)
theorem dX7_init_390 : decode cX7_init 390 = .ok (.bipush 44, 2) := dk_16 44 (dk_at dksX7_init_16 7 rfl rfl)
theorem dX7_init_392 : decode cX7_init 392 = .ok (.bipush 32, 2) := dk_16 32 (dk_at dksX7_init_16 9 rfl rfl)
theorem dX7_init_394 : decode cX7_init 394 = .ok (.iastore, 1) := dk_79 (dk_at dksX7_init_16 11 rfl rfl)
theorem dX7_init_395 : decode cX7_init 395 = .ok (.dup, 1) := dk_89 (dk_at dksX7_init_16 12 rfl rfl)
theorem dX7_init_396 : decode cX7_init 396 = .ok (.bipush 45, 2) := dk_16 45 (dk_at dksX7_init_16 13 rfl rfl)
theorem dX7_init_398 : decode cX7_init 398 = .ok (.bipush 99, 2) := dk_16 99 (dk_at dksX7_init_16 15 rfl rfl)
theorem dX7_init_400 : decode cX7_init 400 = .ok (.iastore, 1) := dk_79 (dk_at dksX7_init_16 17 rfl rfl)
theorem dX7_init_401 : decode cX7_init 401 = .ok (.dup, 1) := dk_89 (dk_at dksX7_init_16 18 rfl rfl)
theorem dX7_init_402 : decode cX7_init 402 = .ok (.bipush 46, 2) := dk_16 46 (dk_at dksX7_init_16 19 rfl rfl)
theorem dX7_init_404 : decode cX7_init 404 = .ok (.bipush 108, 2) := dk_16 108 (dk_at dksX7_init_16 21 rfl rfl)
theorem dX7_init_406 : decode cX7_init 406 = .ok (.iastore, 1) := dk_79 (dk_at dksX7_init_16 23 rfl rfl)
theorem dX7_init_407 : decode cX7_init 407 = .ok (.dup, 1) := dk_89 (dk_at dksX7_init_17 0 rfl rfl)
theorem dX7_init_408 : decode cX7_init 408 = .ok (.bipush 47, 2) := dk_16 47 (dk_at dksX7_init_17 1 rfl rfl)
theorem dX7_init_410 : decode cX7_init 410 = .ok (.bipush 97, 2) := dk_16 97 (dk_at dksX7_init_17 3 rfl rfl)
theorem dX7_init_412 : decode cX7_init 412 = .ok (.iastore, 1) := dk_79 (dk_at dksX7_init_17 5 rfl rfl)
theorem dX7_init_413 : decode cX7_init 413 = .ok (.dup, 1) := dk_89 (dk_at dksX7_init_17 6 rfl rfl)
theorem dX7_init_414 : decode cX7_init 414 = .ok (.bipush 48, 2) := dk_16 48 (dk_at dksX7_init_17 7 rfl rfl)
theorem dX7_init_416 : decode cX7_init 416 = .ok (.bipush 115, 2) := dk_16 115 (dk_at dksX7_init_17 9 rfl rfl)
theorem dX7_init_418 : decode cX7_init 418 = .ok (.iastore, 1) := dk_79 (dk_at dksX7_init_17 11 rfl rfl)
theorem dX7_init_419 : decode cX7_init 419 = .ok (.dup, 1) := dk_89 (dk_at dksX7_init_17 12 rfl rfl)
theorem dX7_init_420 : decode cX7_init 420 = .ok (.bipush 49, 2) := dk_16 49 (dk_at dksX7_init_17 13 rfl rfl)
theorem dX7_init_422 : decode cX7_init 422 = .ok (.bipush 115, 2) := dk_16 115 (dk_at dksX7_init_17 15 rfl rfl)
theorem dX7_init_424 : decode cX7_init 424 = .ok (.iastore, 1) := dk_79 (dk_at dksX7_init_17 17 rfl rfl)
theorem dX7_init_425 : decode cX7_init 425 = .ok (.dup, 1) := dk_89 (dk_at dksX7_init_17 18 rfl rfl)
theorem dX7_init_426 : decode cX7_init 426 = .ok (.bipush 50, 2) := dk_16 50 (dk_at dksX7_init_17 19 rfl rfl)
theorem dX7_init_428 : decode cX7_init 428 = .ok (.bipush 32, 2) := dk_16 32 (dk_at dksX7_init_17 21 rfl rfl)
theorem dX7_init_430 : decode cX7_init 430 = .ok (.iastore, 1) := dk_79 (dk_at dksX7_init_17 23 rfl rfl)
theorem dX7_init_431 : decode cX7_init 431 = .ok (.dup, 1) := dk_89 (dk_at dksX7_init_18 0 rfl rfl)
theorem dX7_init_432 : decode cX7_init 432 = .ok (.bipush 51, 2) := dk_16 51 (dk_at dksX7_init_18 1 rfl rfl)
theorem dX7_init_434 : decode cX7_init 434 = .ok (.bipush 104, 2) := dk_16 104 (dk_at dksX7_init_18 3 rfl rfl)
theorem dX7_init_436 : decode cX7_init 436 = .ok (.iastore, 1) := dk_79 (dk_at dksX7_init_18 5 rfl rfl)
theorem dX7_init_437 : decode cX7_init 437 = .ok (.dup, 1) := dk_89 (dk_at dksX7_init_18 6 rfl rfl)
theorem dX7_init_438 : decode cX7_init 438 = .ok (.bipush 52, 2) := dk_16 52 (dk_at dksX7_init_18 7 rfl rfl)
theorem dX7_init_440 : decode cX7_init 440 = .ok (.bipush 97, 2) := dk_16 97 (dk_at dksX7_init_18 9 rfl rfl)
theorem dX7_init_442 : decode cX7_init 442 = .ok (.iastore, 1) := dk_79 (dk_at dksX7_init_18 11 rfl rfl)
theorem dX7_init_443 : decode cX7_init 443 = .ok (.dup, 1) := dk_89 (dk_at dksX7_init_18 12 rfl rfl)
theorem dX7_init_444 : decode cX7_init 444 = .ok (.bipush 53, 2) := dk_16 53 (dk_at dksX7_init_18 13 rfl rfl)
theorem dX7_init_446 : decode cX7_init 446 = .ok (.bipush 108, 2) := dk_16 108 (dk_at dksX7_init_18 15 rfl rfl)
theorem dX7_init_448 : decode cX7_init 448 = .ok (.iastore, 1) := dk_79 (dk_at dksX7_init_18 17 rfl rfl)
theorem dX7_init_449 : decode cX7_init 449 = .ok (.dup, 1) := dk_89 (dk_at dksX7_init_18 18 rfl rfl)
theorem dX7_init_450 : decode cX7_init 450 = .ok (.bipush 54, 2) := dk_16 54 (dk_at dksX7_init_18 19 rfl rfl)
theorem dX7_init_452 : decode cX7_init 452 = .ok (.bipush 102, 2) := dk_16 102 (dk_at dksX7_init_18 21 rfl rfl)
theorem dX7_init_454 : decode cX7_init 454 = .ok (.iastore, 1) := dk_79 (dk_at dksX7_init_18 23 rfl rfl)
theorem dX7_init_455 : decode cX7_init 455 = .ok (.dup, 1) := dk_89 (dk_at dksX7_init_19 0 rfl rfl)
theorem dX7_init_456 : decode cX7_init 456 = .ok (.bipush 55, 2) := dk_16 55 (dk_at dksX7_init_19 1 rfl rfl)
theorem dX7_init_458 : decode cX7_init 458 = .ok (.bipush 32, 2) := dk_16 32 (dk_at dksX7_init_19 3 rfl rfl)
theorem dX7_init_460 : decode cX7_init 460 = .ok (.iastore, 1) := dk_79 (dk_at dksX7_init_19 5 rfl rfl)
theorem dX7_init_461 : decode cX7_init 461 = .ok (.dup, 1) := dk_89 (dk_at dksX7_init_19 6 rfl rfl)
theorem dX7_init_462 : decode cX7_init 462 = .ok (.bipush 56, 2) := dk_16 56 (dk_at dksX7_init_19 7 rfl rfl)
theorem dX7_init_464 : decode cX7_init 464 = .ok (.bipush 106, 2) := dk_16 106 (dk_at dksX7_init_19 9 rfl rfl)
theorem dX7_init_466 : decode cX7_init 466 = .ok (.iastore, 1) := dk_79 (dk_at dksX7_init_19 11 rfl rfl)
theorem dX7_init_467 : decode cX7_init 467 = .ok (.dup, 1) := dk_89 (dk_at dksX7_init_19 12 rfl rfl)
theorem dX7_init_468 : decode cX7_init 468 = .ok (.bipush 57, 2) := dk_16 57 (dk_at dksX7_init_19 13 rfl rfl)
theorem dX7_init_470 : decode cX7_init 470 = .ok (.bipush 111, 2) := dk_16 111 (dk_at dksX7_init_19 15 rfl rfl)
theorem dX7_init_472 : decode cX7_init 472 = .ok (.iastore, 1) := dk_79 (dk_at dksX7_init_19 17 rfl rfl)
theorem dX7_init_473 : decode cX7_init 473 = .ok (.dup, 1) := dk_89 (dk_at dksX7_init_19 18 rfl rfl)
theorem dX7_init_474 : decode cX7_init 474 = .ok (.bipush 58, 2) := dk_16 58 (dk_at dksX7_init_19 19 rfl rfl)
theorem dX7_init_476 : decode cX7_init 476 = .ok (.bipush 105, 2) := dk_16 105 (dk_at dksX7_init_19 21 rfl rfl)
theorem dX7_init_478 : decode cX7_init 478 = .ok (.iastore, 1) := dk_79 (dk_at dksX7_init_19 23 rfl rfl)
theorem dX7_init_479 : decode cX7_init 479 = .ok (.dup, 1) := dk_89 (dk_at dksX7_init_20 0 rfl rfl)
theorem dX7_init_480 : decode cX7_init 480 = .ok (.bipush 59, 2) := dk_16 59 (dk_at dksX7_init_20 1 rfl rfl)
theorem dX7_init_482 : decode cX7_init 482 = .ok (.bipush 110, 2) := dk_16 110 (dk_at dksX7_init_20 3 rfl rfl)
theorem dX7_init_484 : decode cX7_init 484 = .ok (.iastore, 1) := dk_79 (dk_at dksX7_init_20 5 rfl rfl)
theorem dX7_init_485 : decode cX7_init 485 = .ok (.dup, 1) := dk_89 (dk_at dksX7_init_20 6 rfl rfl)
theorem dX7_init_486 : decode cX7_init 486 = .ok (.bipush 60, 2) := dk_16 60 (dk_at dksX7_init_20 7 rfl rfl)
theorem dX7_init_488 : decode cX7_init 488 = .ok (.bipush 116, 2) := dk_16 116 (dk_at dksX7_init_20 9 rfl rfl)
theorem dX7_init_490 : decode cX7_init 490 = .ok (.iastore, 1) := dk_79 (dk_at dksX7_init_20 11 rfl rfl)
theorem dX7_init_491 : decode cX7_init 491 = .ok (.dup, 1) := dk_89 (dk_at dksX7_init_20 12 rfl rfl)
theorem dX7_init_492 : decode cX7_init 492 = .ok (.bipush 61, 2) := dk_16 61 (dk_at dksX7_init_20 13 rfl rfl)
theorem dX7_init_494 : decode cX7_init 494 = .ok (.bipush 32, 2) := dk_16 32 (dk_at dksX7_init_20 15 rfl rfl)
theorem dX7_init_496 : decode cX7_init 496 = .ok (.iastore, 1) := dk_79 (dk_at dksX7_init_20 17 rfl rfl)
theorem dX7_init_497 : decode cX7_init 497 = .ok (.dup, 1) := dk_89 (dk_at dksX7_init_20 18 rfl rfl)
theorem dX7_init_498 : decode cX7_init 498 = .ok (.bipush 62, 2) := dk_16 62 (dk_at dksX7_init_20 19 rfl rfl)
theorem dX7_init_500 : decode cX7_init 500 = .ok (.bipush 115, 2) := dk_16 115 (dk_at dksX7_init_20 21 rfl rfl)
theorem dX7_init_502 : decode cX7_init 502 = .ok (.iastore, 1) := dk_79 (dk_at dksX7_init_20 23 rfl rfl)
theorem dX7_init_503 : decode cX7_init 503 = .ok (.dup, 1) := dk_89 (dk_at dksX7_init_21 0 rfl rfl)
theorem dX7_init_504 : decode cX7_init 504 = .ok (.bipush 63, 2) := dk_16 63 (dk_at dksX7_init_21 1 rfl rfl)
theorem dX7_init_506 : decode cX7_init 506 = .ok (.bipush 105, 2) := dk_16 105 (dk_at dksX7_init_21 3 rfl rfl)
theorem dX7_init_508 : decode cX7_init 508 = .ok (.iastore, 1) := dk_79 (dk_at dksX7_init_21 5 rfl rfl)
theorem dX7_init_509 : decode cX7_init 509 = .ok (.dup, 1) := dk_89 (dk_at dksX7_init_21 6 rfl rfl)
theorem dX7_init_510 : decode cX7_init 510 = .ok (.bipush 64, 2) := dk_16 64 (dk_at dksX7_init_21 7 rfl rfl)
theorem dX7_init_512 : decode cX7_init 512 = .ok (.bipush 110, 2) := dk_16 110 (dk_at dksX7_init_21 9 rfl rfl)
theorem dX7_init_514 : decode cX7_init 514 = .ok (.iastore, 1) := dk_79 (dk_at dksX7_init_21 11 rfl rfl)
theorem dX7_init_515 : decode cX7_init 515 = .ok (.dup, 1) := dk_89 (dk_at dksX7_init_21 12 rfl rfl)
theorem dX7_init_516 : decode cX7_init 516 = .ok (.bipush 65, 2) := dk_16 65 (dk_at dksX7_init_21 13 rfl rfl)
theorem dX7_init_518 : decode cX7_init 518 = .ok (.bipush 103, 2) := dk_16 103 (dk_at dksX7_init_21 15 rfl rfl)
theorem dX7_init_520 : decode cX7_init 520 = .ok (.iastore, 1) := dk_79 (dk_at dksX7_init_21 17 rfl rfl)
theorem dX7_init_521 : decode cX7_init 521 = .ok (.dup, 1) := dk_89 (dk_at dksX7_init_21 18 rfl rfl)
theorem dX7_init_522 : decode cX7_init 522 = .ok (.bipush 66, 2) := dk_16 66 (dk_at dksX7_init_21 19 rfl rfl)
theorem dX7_init_524 : decode cX7_init 524 = .ok (.bipush 108, 2) := dk_16 108 (dk_at dksX7_init_21 21 rfl rfl)
theorem dX7_init_526 : decode cX7_init 526 = .ok (.iastore, 1) := dk_79 (dk_at dksX7_init_21 23 rfl rfl)
theorem dX7_init_527 : decode cX7_init 527 = .ok (.dup, 1) := dk_89 (dk_at dksX7_init_22 0 rfl rfl)
theorem dX7_init_528 : decode cX7_init 528 = .ok (.bipush 67, 2) := dk_16 67 (dk_at dksX7_init_22 1 rfl rfl)
theorem dX7_init_530 : decode cX7_init 530 = .ok (.bipush 101, 2) := dk_16 101 (dk_at dksX7_init_22 3 rfl rfl)
theorem dX7_init_532 : decode cX7_init 532 = .ok (.iastore, 1) := dk_79 (dk_at dksX7_init_22 5 rfl rfl)
theorem dX7_init_533 : decode cX7_init 533 = .ok (.dup, 1) := dk_89 (dk_at dksX7_init_22 6 rfl rfl)
theorem dX7_init_534 : decode cX7_init 534 = .ok (.bipush 68, 2) := dk_16 68 (dk_at dksX7_init_22 7 rfl rfl)
theorem dX7_init_536 : decode cX7_init 536 = .ok (.bipush 32, 2) := dk_16 32 (dk_at dksX7_init_22 9 rfl rfl)
theorem dX7_init_538 : decode cX7_init 538 = .ok (.iastore, 1) := dk_79 (dk_at dksX7_init_22 11 rfl rfl)
theorem dX7_init_539 : decode cX7_init 539 = .ok (.dup, 1) := dk_89 (dk_at dksX7_init_22 12 rfl rfl)
theorem dX7_init_540 : decode cX7_init 540 = .ok (.bipush 69, 2) := dk_16 69 (dk_at dksX7_init_22 13 rfl rfl)
theorem dX7_init_542 : decode cX7_init 542 = .ok (.bipush 116, 2) := dk_16 116 (dk_at dksX7_init_22 15 rfl rfl)
theorem dX7_init_544 : decode cX7_init 544 = .ok (.iastore, 1) := dk_79 (dk_at dksX7_init_22 17 rfl rfl)
theorem dX7_init_545 : decode cX7_init 545 = .ok (.dup, 1) := dk_89 (dk_at dksX7_init_22 18 rfl rfl)
theorem dX7_init_546 : decode cX7_init 546 = .ok (.bipush 70, 2) := dk_16 70 (dk_at dksX7_init_22 19 rfl rfl)
theorem dX7_init_548 : decode cX7_init 548 = .ok (.bipush 111, 2) := dk_16 111 (dk_at dksX7_init_22 21 rfl rfl)
theorem dX7_init_550 : decode cX7_init 550 = .ok (.iastore, 1) := dk_79 (dk_at dksX7_init_22 23 rfl rfl)
theorem dX7_init_551 : decode cX7_init 551 = .ok (.dup, 1) := dk_89 (dk_at dksX7_init_23 0 rfl rfl)
theorem dX7_init_552 : decode cX7_init 552 = .ok (.bipush 71, 2) := dk_16 71 (dk_at dksX7_init_23 1 rfl rfl)
theorem dX7_init_554 : decode cX7_init 554 = .ok (.bipush 32, 2) := dk_16 32 (dk_at dksX7_init_23 3 rfl rfl)
theorem dX7_init_556 : decode cX7_init 556 = .ok (.iastore, 1) := dk_79 (dk_at dksX7_init_23 5 rfl rfl)
theorem dX7_init_557 : decode cX7_init 557 = .ok (.dup, 1) := dk_89 (dk_at dksX7_init_23 6 rfl rfl)
theorem dX7_init_558 : decode cX7_init 558 = .ok (.bipush 72, 2) := dk_16 72 (dk_at dksX7_init_23 7 rfl rfl)
theorem dX7_init_560 : decode cX7_init 560 = .ok (.bipush 111, 2) := dk_16 111 (dk_at dksX7_init_23 9 rfl rfl)
theorem dX7_init_562 : decode cX7_init 562 = .ok (.iastore, 1) := dk_79 (dk_at dksX7_init_23 11 rfl rfl)
theorem dX7_init_563 : decode cX7_init 563 = .ok (.dup, 1) := dk_89 (dk_at dksX7_init_23 12 rfl rfl)
theorem dX7_init_564 : decode cX7_init 564 = .ok (.bipush 73, 2) := dk_16 73 (dk_at dksX7_init_23 13 rfl rfl)
theorem dX7_init_566 : decode cX7_init 566 = .ok (.bipush 114, 2) := dk_16 114 (dk_at dksX7_init_23 15 rfl rfl)
theorem dX7_init_568 : decode cX7_init 568 = .ok (.iastore, 1) := dk_79 (dk_at dksX7_init_23 17 rfl rfl)
theorem dX7_init_569 : decode cX7_init 569 = .ok (.dup, 1) := dk_89 (dk_at dksX7_init_23 18 rfl rfl)
theorem dX7_init_570 : decode cX7_init 570 = .ok (.bipush 74, 2) := dk_16 74 (dk_at dksX7_init_23 19 rfl rfl)
theorem dX7_init_572 : decode cX7_init 572 = .ok (.bipush 32, 2) := dk_16 32 (dk_at dksX7_init_23 21 rfl rfl)
theorem dX7_init_574 : decode cX7_init 574 = .ok (.iastore, 1) := dk_79 (dk_at dksX7_init_23 23 rfl rfl)
theorem dX7_init_575 : decode cX7_init 575 = .ok (.putfield 55, 3) := dk_181 0 55 (dk_at dksX7_init_24 0 rfl rfl)
theorem dX7_init_578 : decode cX7_init 578 = .ok (.aload_n 0, 1) := dk_42 (dk_at dksX7_init_24 3 rfl rfl)
theorem dX7_init_579 : decode cX7_init 579 = .ok (.iconst (-1), 1) := dk_2 (dk_at dksX7_init_24 4 rfl rfl)
theorem dX7_init_580 : decode cX7_init 580 = .ok (.putfield 58, 3) := dk_181 0 58 (dk_at dksX7_init_24 5 rfl rfl)
theorem dX7_init_583 : decode cX7_init 583 = .ok (.aload_n 0, 1) := dk_42 (dk_at dksX7_init_24 8 rfl rfl)
theorem dX7_init_584 : decode cX7_init 584 = .ok (.bipush 48, 2) := dk_16 48 (dk_at dksX7_init_24 9 rfl rfl)
theorem dX7_init_586 : decode cX7_init 586 = .ok (.newarray .int, 2) := dk_188_10 (dk_at dksX7_init_24 11 rfl rfl)
theorem dX7_init_588 : decode cX7_init 588 = .ok (.putfield 62, 3) := dk_181 0 62 (dk_at dksX7_init_24 13 rfl rfl)
theorem dX7_init_591 : decode cX7_init 591 = .ok (.aload_n 0, 1) := dk_42 (dk_at dksX7_init_24 16 rfl rfl)
theorem dX7_init_592 : decode cX7_init 592 = .ok (.bipush 48, 2) := dk_16 48 (dk_at dksX7_init_24 17 rfl rfl)
theorem dX7_init_594 : decode cX7_init 594 = .ok (.newarray .int, 2) := dk_188_10 (dk_at dksX7_init_24 19 rfl rfl)
theorem dX7_init_596 : decode cX7_init 596 = .ok (.putfield 65, 3) := dk_181 0 65 (dk_at dksX7_init_24 21 rfl rfl)
theorem dX7_init_599 : decode cX7_init 599 = .ok (.aload_n 0, 1) := dk_42 (dk_at dksX7_init_25 0 rfl rfl)
theorem dX7_init_600 : decode cX7_init 600 = .ok (.bipush 48, 2) := dk_16 48 (dk_at dksX7_init_25 1 rfl rfl)
theorem dX7_init_602 : decode cX7_init 602 = .ok (.newarray .int, 2) := dk_188_10 (dk_at dksX7_init_25 3 rfl rfl)
theorem dX7_init_604 : decode cX7_init 604 = .ok (.putfield 68, 3) := dk_181 0 68 (dk_at dksX7_init_25 5 rfl rfl)
theorem dX7_init_607 : decode cX7_init 607 = .ok (.aload_n 0, 1) := dk_42 (dk_at dksX7_init_25 8 rfl rfl)
theorem dX7_init_608 : decode cX7_init 608 = .ok (.bipush 48, 2) := dk_16 48 (dk_at dksX7_init_25 9 rfl rfl)
theorem dX7_init_610 : decode cX7_init 610 = .ok (.newarray .int, 2) := dk_188_10 (dk_at dksX7_init_25 11 rfl rfl)
theorem dX7_init_612 : decode cX7_init 612 = .ok (.putfield 71, 3) := dk_181 0 71 (dk_at dksX7_init_25 13 rfl rfl)
theorem dX7_init_615 : decode cX7_init 615 = .ok (.aload_n 0, 1) := dk_42 (dk_at dksX7_init_25 16 rfl rfl)
theorem dX7_init_616 : decode cX7_init 616 = .ok (.bipush 48, 2) := dk_16 48 (dk_at dksX7_init_25 17 rfl rfl)
theorem dX7_init_618 : decode cX7_init 618 = .ok (.newarray .int, 2) := dk_188_10 (dk_at dksX7_init_25 19 rfl rfl)
theorem dX7_init_620 : decode cX7_init 620 = .ok (.putfield 74, 3) := dk_181 0 74 (dk_at dksX7_init_25 21 rfl rfl)
theorem dX7_init_623 : decode cX7_init 623 = .ok (.aload_n 0, 1) := dk_42 (dk_at dksX7_init_26 0 rfl rfl)
theorem dX7_init_624 : decode cX7_init 624 = .ok (.bipush 48, 2) := dk_16 48 (dk_at dksX7_init_26 1 rfl rfl)
theorem dX7_init_626 : decode cX7_init 626 = .ok (.newarray .int, 2) := dk_188_10 (dk_at dksX7_init_26 3 rfl rfl)
theorem dX7_init_628 : decode cX7_init 628 = .ok (.putfield 77, 3) := dk_181 0 77 (dk_at dksX7_init_26 5 rfl rfl)
theorem dX7_init_631 : decode cX7_init 631 = .ok (.aload_n 0, 1) := dk_42 (dk_at dksX7_init_26 8 rfl rfl)
theorem dX7_init_632 : decode cX7_init 632 = .ok (.bipush 48, 2) := dk_16 48 (dk_at dksX7_init_26 9 rfl rfl)
theorem dX7_init_634 : decode cX7_init 634 = .ok (.newarray .int, 2) := dk_188_10 (dk_at dksX7_init_26 11 rfl rfl)
theorem dX7_init_636 : decode cX7_init 636 = .ok (.putfield 80, 3) := dk_181 0 80 (dk_at dksX7_init_26 13 rfl rfl)
theorem dX7_init_639 : decode cX7_init 639 = .ok (.aload_n 0, 1) := dk_42 (dk_at dksX7_init_26 16 rfl rfl)
theorem dX7_init_640 : decode cX7_init 640 = .ok (.bipush 48, 2) := dk_16 48 (dk_at dksX7_init_26 17 rfl rfl)
theorem dX7_init_642 : decode cX7_init 642 = .ok (.newarray .int, 2) := dk_188_10 (dk_at dksX7_init_26 19 rfl rfl)
theorem dX7_init_644 : decode cX7_init 644 = .ok (.putfield 83, 3) := dk_181 0 83 (dk_at dksX7_init_26 21 rfl rfl)
theorem dX7_init_647 : decode cX7_init 647 = .ok (.aload_n 0, 1) := dk_42 (dk_at dksX7_init_27 0 rfl rfl)
theorem dX7_init_648 : decode cX7_init 648 = .ok (.bipush 8, 2) := dk_16 8 (dk_at dksX7_init_27 1 rfl rfl)
theorem dX7_init_650 : decode cX7_init 650 = .ok (.newarray .int, 2) := dk_188_10 (dk_at dksX7_init_27 3 rfl rfl)
theorem dX7_init_652 : decode cX7_init 652 = .ok (.putfield 86, 3) := dk_181 0 86 (dk_at dksX7_init_27 5 rfl rfl)
theorem dX7_init_655 : decode cX7_init 655 = .ok (.aload_n 0, 1) := dk_42 (dk_at dksX7_init_27 8 rfl rfl)
theorem dX7_init_656 : decode cX7_init 656 = .ok (.iconst 4, 1) := dk_7 (dk_at dksX7_init_27 9 rfl rfl)
theorem dX7_init_657 : decode cX7_init 657 = .ok (.newarray .boolean, 2) := dk_188_4 (dk_at dksX7_init_27 10 rfl rfl)
theorem dX7_init_659 : decode cX7_init 659 = .ok (.putfield 89, 3) := dk_181 0 89 (dk_at dksX7_init_27 12 rfl rfl)
theorem dX7_init_662 : decode cX7_init 662 = .ok (.aload_n 0, 1) := dk_42 (dk_at dksX7_init_27 15 rfl rfl)
theorem dX7_init_663 : decode cX7_init 663 = .ok (.bipush 60, 2) := dk_16 60 (dk_at dksX7_init_27 16 rfl rfl)
theorem dX7_init_665 : decode cX7_init 665 = .ok (.newarray .boolean, 2) := dk_188_4 (dk_at dksX7_init_27 18 rfl rfl)
theorem dX7_init_667 : decode cX7_init 667 = .ok (.putfield 93, 3) := dk_181 0 93 (dk_at dksX7_init_27 20 rfl rfl)
theorem dX7_init_670 : decode cX7_init 670 = .ok (.aload_n 0, 1) := dk_42 (dk_at dksX7_init_27 23 rfl rfl)
theorem dX7_init_671 : decode cX7_init 671 = .ok (.bipush 12, 2) := dk_16 12 (dk_at dksX7_init_28 0 rfl rfl)
theorem dX7_init_673 : decode cX7_init 673 = .ok (.newarray .int, 2) := dk_188_10 (dk_at dksX7_init_28 2 rfl rfl)
theorem dX7_init_675 : decode cX7_init 675 = .ok (.putfield 96, 3) := dk_181 0 96 (dk_at dksX7_init_28 4 rfl rfl)
theorem dX7_init_678 : decode cX7_init 678 = .ok (.aload_n 0, 1) := dk_42 (dk_at dksX7_init_28 7 rfl rfl)
theorem dX7_init_679 : decode cX7_init 679 = .ok (.sipush 1280, 3) := dk_17 5 0 (dk_at dksX7_init_28 8 rfl rfl)
theorem dX7_init_682 : decode cX7_init 682 = .ok (.newarray .int, 2) := dk_188_10 (dk_at dksX7_init_28 11 rfl rfl)
theorem dX7_init_684 : decode cX7_init 684 = .ok (.putfield 99, 3) := dk_181 0 99 (dk_at dksX7_init_28 13 rfl rfl)
theorem dX7_init_687 : decode cX7_init 687 = .ok (.aload_n 0, 1) := dk_42 (dk_at dksX7_init_28 16 rfl rfl)
theorem dX7_init_688 : decode cX7_init 688 = .ok (.bipush 8, 2) := dk_16 8 (dk_at dksX7_init_28 17 rfl rfl)
theorem dX7_init_690 : decode cX7_init 690 = .ok (.newarray .int, 2) := dk_188_10 (dk_at dksX7_init_28 19 rfl rfl)
theorem dX7_init_692 : decode cX7_init 692 = .ok (.putfield 102, 3) := dk_181 0 102 (dk_at dksX7_init_28 21 rfl rfl)
theorem dX7_init_695 : decode cX7_init 695 = .ok (.aload_n 0, 1) := dk_42 (dk_at dksX7_init_29 0 rfl rfl)
theorem dX7_init_696 : decode cX7_init 696 = .ok (.bipush 40, 2) := dk_16 40 (dk_at dksX7_init_29 1 rfl rfl)
theorem dX7_init_698 : decode cX7_init 698 = .ok (.newarray .int, 2) := dk_188_10 (dk_at dksX7_init_29 3 rfl rfl)
theorem dX7_init_700 : decode cX7_init 700 = .ok (.putfield 105, 3) := dk_181 0 105 (dk_at dksX7_init_29 5 rfl rfl)
theorem dX7_init_703 : decode cX7_init 703 = .ok (.aload_n 0, 1) := dk_42 (dk_at dksX7_init_29 8 rfl rfl)
theorem dX7_init_704 : decode cX7_init 704 = .ok (.bipush 12, 2) := dk_16 12 (dk_at dksX7_init_29 9 rfl rfl)
theorem dX7_init_706 : decode cX7_init 706 = .ok (.newarray .int, 2) := dk_188_10 (dk_at dksX7_init_29 11 rfl rfl)
theorem dX7_init_708 : decode cX7_init 708 = .ok (.putfield 108, 3) := dk_181 0 108 (dk_at dksX7_init_29 13 rfl rfl)
theorem dX7_init_711 : decode cX7_init 711 = .ok (.aload_n 0, 1) := dk_42 (dk_at dksX7_init_29 16 rfl rfl)
theorem dX7_init_712 : decode cX7_init 712 = .ok (.bipush 12, 2) := dk_16 12 (dk_at dksX7_init_29 17 rfl rfl)
theorem dX7_init_714 : decode cX7_init 714 = .ok (.newarray .int, 2) := dk_188_10 (dk_at dksX7_init_29 19 rfl rfl)
theorem dX7_init_716 : decode cX7_init 716 = .ok (.putfield 111, 3) := dk_181 0 111 (dk_at dksX7_init_29 21 rfl rfl)
theorem dX7_init_719 : decode cX7_init 719 = .ok (.aload_n 0, 1) := dk_42 (dk_at dksX7_init_30 0 rfl rfl)
theorem dX7_init_720 : decode cX7_init 720 = .ok (.bipush 12, 2) := dk_16 12 (dk_at dksX7_init_30 1 rfl rfl)
theorem dX7_init_722 : decode cX7_init 722 = .ok (.newarray .int, 2) := dk_188_10 (dk_at dksX7_init_30 3 rfl rfl)
theorem dX7_init_724 : decode cX7_init 724 = .ok (.putfield 114, 3) := dk_181 0 114 (dk_at dksX7_init_30 5 rfl rfl)
theorem dX7_init_727 : decode cX7_init 727 = .ok (.aload_n 0, 1) := dk_42 (dk_at dksX7_init_30 8 rfl rfl)
theorem dX7_init_728 : decode cX7_init 728 = .ok (.bipush 12, 2) := dk_16 12 (dk_at dksX7_init_30 9 rfl rfl)
theorem dX7_init_730 : decode cX7_init 730 = .ok (.newarray .int, 2) := dk_188_10 (dk_at dksX7_init_30 11 rfl rfl)
theorem dX7_init_732 : decode cX7_init 732 = .ok (.putfield 117, 3) := dk_181 0 117 (dk_at dksX7_init_30 13 rfl rfl)
theorem dX7_init_735 : decode cX7_init 735 = .ok (.aload_n 0, 1) := dk_42 (dk_at dksX7_init_30 16 rfl rfl)
theorem dX7_init_736 : decode cX7_init 736 = .ok (.bipush 12, 2) := dk_16 12 (dk_at dksX7_init_30 17 rfl rfl)
theorem dX7_init_738 : decode cX7_init 738 = .ok (.newarray .int, 2) := dk_188_10 (dk_at dksX7_init_30 19 rfl rfl)
theorem dX7_init_740 : decode cX7_init 740 = .ok (.putfield 120, 3) := dk_181 0 120 (dk_at dksX7_init_30 21 rfl rfl)
theorem dX7_init_743 : decode cX7_init 743 = .ok (.iconst 0, 1) := dk_3 (dk_at dksX7_init_31 0 rfl rfl)
theorem dX7_init_744 : decode cX7_init 744 = .ok (.istore_n 1, 1) := dk_60 (dk_at dksX7_init_31 1 rfl rfl)
theorem dX7_init_745 : decode cX7_init 745 = .ok (.iload_n 1, 1) := dk_27 (dk_at dksX7_init_31 2 rfl rfl)
theorem dX7_init_746 : decode cX7_init 746 = .ok (.bipush 40, 2) := dk_16 40 (dk_at dksX7_init_31 3 rfl rfl)
theorem dX7_init_748 : decode cX7_init 748 = .ok (.if_icmp .ge 18, 3) := dk_162 0 18 (dk_at dksX7_init_31 5 rfl rfl)
theorem dX7_init_751 : decode cX7_init 751 = .ok (.aload_n 0, 1) := dk_42 (dk_at dksX7_init_31 8 rfl rfl)
theorem dX7_init_752 : decode cX7_init 752 = .ok (.getfield 52, 3) := dk_180 0 52 (dk_at dksX7_init_31 9 rfl rfl)
theorem dX7_init_755 : decode cX7_init 755 = .ok (.iload_n 1, 1) := dk_27 (dk_at dksX7_init_31 12 rfl rfl)
theorem dX7_init_756 : decode cX7_init 756 = .ok (.sipush 900, 3) := dk_17 3 132 (dk_at dksX7_init_31 13 rfl rfl)
theorem dX7_init_759 : decode cX7_init 759 = .ok (.iastore, 1) := dk_79 (dk_at dksX7_init_31 16 rfl rfl)
theorem dX7_init_760 : decode cX7_init 760 = .ok (.iinc 1 1, 3) := dk_132 1 1 (dk_at dksX7_init_31 17 rfl rfl)
theorem dX7_init_763 : decode cX7_init 763 = .ok (.goto (-18), 3) := dk_167 255 238 (dk_at dksX7_init_31 20 rfl rfl)
theorem dX7_init_766 : decode cX7_init 766 = .ok (.aload_n 0, 1) := dk_42 (dk_at dksX7_init_31 23 rfl rfl)
theorem dX7_init_767 : decode cX7_init 767 = .ok (.invokevirtual 123, 3) := dk_182 0 123 (dk_at dksX7_init_32 0 rfl rfl)
theorem dX7_init_770 : decode cX7_init 770 = .ok (.aload_n 0, 1) := dk_42 (dk_at dksX7_init_32 3 rfl rfl)
theorem dX7_init_771 : decode cX7_init 771 = .ok (.invokevirtual 126, 3) := dk_182 0 126 (dk_at dksX7_init_32 4 rfl rfl)
theorem dX7_init_774 : decode cX7_init 774 = .ok (.return_, 1) := dk_177 (dk_at dksX7_init_32 7 rfl rfl)
abbrev cX7_plain : ByteArray := prog_19_method_13_code
def yX7_plain : MethodName := ⟨RX7, "plain", "()V"⟩
def dkwX7_plain_2 : List UInt8 := [167, 255, 241, 42, 3, 181, 0, 167, 177]
abbrev dktX7_plain_2 : List UInt8 := dkwX7_plain_2 ++ []
def dkwX7_plain_1 : List UInt8 := [180, 0, 86, 16, 7, 6, 79, 3, 60, 27, 7, 162, 0, 16, 42, 180, 0, 89, 27, 3, 84, 132, 1, 1]
abbrev dktX7_plain_1 : List UInt8 := dkwX7_plain_1 ++ dktX7_plain_2
def dkwX7_plain_0 : List UInt8 := [42, 180, 0, 86, 7, 7, 79, 42, 180, 0, 86, 8, 3, 79, 42, 180, 0, 86, 16, 6, 16, 20, 79, 42]
abbrev dktX7_plain_0 : List UInt8 := dkwX7_plain_0 ++ dktX7_plain_1
theorem dksX7_plain_0 : cX7_plain.data.toList.drop 0 = dktX7_plain_0 := by decide +kernel
theorem dksX7_plain_1 : cX7_plain.data.toList.drop 24 = dktX7_plain_1 := dk_seg dksX7_plain_0 24 rfl rfl
theorem dksX7_plain_2 : cX7_plain.data.toList.drop 48 = dktX7_plain_2 := dk_seg dksX7_plain_1 24 rfl rfl
theorem dX7_plain_0 : decode cX7_plain 0 = .ok (.aload_n 0, 1) := dk_42 (dk_at dksX7_plain_0 0 rfl rfl)
theorem dX7_plain_1 : decode cX7_plain 1 = .ok (.getfield 86, 3) := dk_180 0 86 (dk_at dksX7_plain_0 1 rfl rfl)
theorem dX7_plain_4 : decode cX7_plain 4 = .ok (.iconst 4, 1) := dk_7 (dk_at dksX7_plain_0 4 rfl rfl)
theorem dX7_plain_5 : decode cX7_plain 5 = .ok (.iconst 4, 1) := dk_7 (dk_at dksX7_plain_0 5 rfl rfl)
theorem dX7_plain_6 : decode cX7_plain 6 = .ok (.iastore, 1) := dk_79 (dk_at dksX7_plain_0 6 rfl rfl)
theorem dX7_plain_7 : decode cX7_plain 7 = .ok (.aload_n 0, 1) := dk_42 (dk_at dksX7_plain_0 7 rfl rfl)
theorem dX7_plain_8 : decode cX7_plain 8 = .ok (.getfield 86, 3) := dk_180 0 86 (dk_at dksX7_plain_0 8 rfl rfl)
theorem dX7_plain_11 : decode cX7_plain 11 = .ok (.iconst 5, 1) := dk_8 (dk_at dksX7_plain_0 11 rfl rfl)
theorem dX7_plain_12 : decode cX7_plain 12 = .ok (.iconst 0, 1) := dk_3 (dk_at dksX7_plain_0 12 rfl rfl)
theorem dX7_plain_13 : decode cX7_plain 13 = .ok (.iastore, 1) := dk_79 (dk_at dksX7_plain_0 13 rfl rfl)
theorem dX7_plain_14 : decode cX7_plain 14 = .ok (.aload_n 0, 1) := dk_42 (dk_at dksX7_plain_0 14 rfl rfl)
theorem dX7_plain_15 : decode cX7_plain 15 = .ok (.getfield 86, 3) := dk_180 0 86 (dk_at dksX7_plain_0 15 rfl rfl)
theorem dX7_plain_18 : decode cX7_plain 18 = .ok (.bipush 6, 2) := dk_16 6 (dk_at dksX7_plain_0 18 rfl rfl)
theorem dX7_plain_20 : decode cX7_plain 20 = .ok (.bipush 20, 2) := dk_16 20 (dk_at dksX7_plain_0 20 rfl rfl)
theorem dX7_plain_22 : decode cX7_plain 22 = .ok (.iastore, 1) := dk_79 (dk_at dksX7_plain_0 22 rfl rfl)
theorem dX7_plain_23 : decode cX7_plain 23 = .ok (.aload_n 0, 1) := dk_42 (dk_at dksX7_plain_0 23 rfl rfl)
theorem dX7_plain_24 : decode cX7_plain 24 = .ok (.getfield 86, 3) := dk_180 0 86 (dk_at dksX7_plain_1 0 rfl rfl)
theorem dX7_plain_27 : decode cX7_plain 27 = .ok (.bipush 7, 2) := dk_16 7 (dk_at dksX7_plain_1 3 rfl rfl)
theorem dX7_plain_29 : decode cX7_plain 29 = .ok (.iconst 3, 1) := dk_6 (dk_at dksX7_plain_1 5 rfl rfl)
theorem dX7_plain_30 : decode cX7_plain 30 = .ok (.iastore, 1) := dk_79 (dk_at dksX7_plain_1 6 rfl rfl)
theorem dX7_plain_31 : decode cX7_plain 31 = .ok (.iconst 0, 1) := dk_3 (dk_at dksX7_plain_1 7 rfl rfl)
theorem dX7_plain_32 : decode cX7_plain 32 = .ok (.istore_n 1, 1) := dk_60 (dk_at dksX7_plain_1 8 rfl rfl)
theorem dX7_plain_33 : decode cX7_plain 33 = .ok (.iload_n 1, 1) := dk_27 (dk_at dksX7_plain_1 9 rfl rfl)
theorem dX7_plain_34 : decode cX7_plain 34 = .ok (.iconst 4, 1) := dk_7 (dk_at dksX7_plain_1 10 rfl rfl)
theorem dX7_plain_35 : decode cX7_plain 35 = .ok (.if_icmp .ge 16, 3) := dk_162 0 16 (dk_at dksX7_plain_1 11 rfl rfl)
theorem dX7_plain_38 : decode cX7_plain 38 = .ok (.aload_n 0, 1) := dk_42 (dk_at dksX7_plain_1 14 rfl rfl)
theorem dX7_plain_39 : decode cX7_plain 39 = .ok (.getfield 89, 3) := dk_180 0 89 (dk_at dksX7_plain_1 15 rfl rfl)
theorem dX7_plain_42 : decode cX7_plain 42 = .ok (.iload_n 1, 1) := dk_27 (dk_at dksX7_plain_1 18 rfl rfl)
theorem dX7_plain_43 : decode cX7_plain 43 = .ok (.iconst 0, 1) := dk_3 (dk_at dksX7_plain_1 19 rfl rfl)
theorem dX7_plain_44 : decode cX7_plain 44 = .ok (.bastore, 1) := dk_84 (dk_at dksX7_plain_1 20 rfl rfl)
theorem dX7_plain_45 : decode cX7_plain 45 = .ok (.iinc 1 1, 3) := dk_132 1 1 (dk_at dksX7_plain_1 21 rfl rfl)
theorem dX7_plain_48 : decode cX7_plain 48 = .ok (.goto (-15), 3) := dk_167 255 241 (dk_at dksX7_plain_2 0 rfl rfl)
theorem dX7_plain_51 : decode cX7_plain 51 = .ok (.aload_n 0, 1) := dk_42 (dk_at dksX7_plain_2 3 rfl rfl)
theorem dX7_plain_52 : decode cX7_plain 52 = .ok (.iconst 0, 1) := dk_3 (dk_at dksX7_plain_2 4 rfl rfl)
theorem dX7_plain_53 : decode cX7_plain 53 = .ok (.putfield 167, 3) := dk_181 0 167 (dk_at dksX7_plain_2 5 rfl rfl)
theorem dX7_plain_56 : decode cX7_plain 56 = .ok (.return_, 1) := dk_177 (dk_at dksX7_plain_2 8 rfl rfl)
abbrev cX7_keep : ByteArray := prog_19_method_14_code
def yX7_keep : MethodName := ⟨RX7, "keep", "()V"⟩
def dkwX7_keep_7 : List UInt8 := [16, 24, 27, 96, 46, 79, 132, 1, 1, 167, 255, 125, 177]
abbrev dktX7_keep_7 : List UInt8 := dkwX7_keep_7 ++ []
def dkwX7_keep_6 : List UInt8 := [180, 0, 80, 27, 42, 180, 0, 80, 16, 24, 27, 96, 46, 79, 42, 180, 0, 83, 27, 42, 180, 0, 83]
abbrev dktX7_keep_6 : List UInt8 := dkwX7_keep_6 ++ dktX7_keep_7
def dkwX7_keep_5 : List UInt8 := [16, 24, 27, 96, 46, 79, 42, 180, 0, 77, 27, 42, 180, 0, 77, 16, 24, 27, 96, 46, 79, 42]
abbrev dktX7_keep_5 : List UInt8 := dkwX7_keep_5 ++ dktX7_keep_6
def dkwX7_keep_4 : List UInt8 := [180, 0, 71, 27, 42, 180, 0, 71, 16, 24, 27, 96, 46, 79, 42, 180, 0, 74, 27, 42, 180, 0, 74]
abbrev dktX7_keep_4 : List UInt8 := dkwX7_keep_4 ++ dktX7_keep_5
def dkwX7_keep_3 : List UInt8 := [16, 24, 27, 96, 46, 79, 42, 180, 0, 68, 27, 42, 180, 0, 68, 16, 24, 27, 96, 46, 79, 42]
abbrev dktX7_keep_3 : List UInt8 := dkwX7_keep_3 ++ dktX7_keep_4
def dkwX7_keep_2 : List UInt8 := [180, 0, 62, 27, 42, 180, 0, 62, 16, 24, 27, 96, 46, 79, 42, 180, 0, 65, 27, 42, 180, 0, 65]
abbrev dktX7_keep_2 : List UInt8 := dkwX7_keep_2 ++ dktX7_keep_3
def dkwX7_keep_1 : List UInt8 := [167, 255, 234, 42, 42, 180, 0, 167, 181, 0, 170, 3, 60, 27, 42, 180, 0, 170, 162, 0, 129, 42]
abbrev dktX7_keep_1 : List UInt8 := dkwX7_keep_1 ++ dktX7_keep_2
def dkwX7_keep_0 : List UInt8 := [3, 60, 27, 7, 162, 0, 23, 42, 180, 0, 86, 27, 42, 180, 0, 86, 7, 27, 96, 46, 79, 132, 1, 1]
abbrev dktX7_keep_0 : List UInt8 := dkwX7_keep_0 ++ dktX7_keep_1
theorem dksX7_keep_0 : cX7_keep.data.toList.drop 0 = dktX7_keep_0 := by decide +kernel
theorem dksX7_keep_1 : cX7_keep.data.toList.drop 24 = dktX7_keep_1 := dk_seg dksX7_keep_0 24 rfl rfl
theorem dksX7_keep_2 : cX7_keep.data.toList.drop 46 = dktX7_keep_2 := dk_seg dksX7_keep_1 22 rfl rfl
theorem dksX7_keep_3 : cX7_keep.data.toList.drop 69 = dktX7_keep_3 := dk_seg dksX7_keep_2 23 rfl rfl
theorem dksX7_keep_4 : cX7_keep.data.toList.drop 91 = dktX7_keep_4 := dk_seg dksX7_keep_3 22 rfl rfl
theorem dksX7_keep_5 : cX7_keep.data.toList.drop 114 = dktX7_keep_5 := dk_seg dksX7_keep_4 23 rfl rfl
theorem dksX7_keep_6 : cX7_keep.data.toList.drop 136 = dktX7_keep_6 := dk_seg dksX7_keep_5 22 rfl rfl
theorem dksX7_keep_7 : cX7_keep.data.toList.drop 159 = dktX7_keep_7 := dk_seg dksX7_keep_6 23 rfl rfl
theorem dX7_keep_0 : decode cX7_keep 0 = .ok (.iconst 0, 1) := dk_3 (dk_at dksX7_keep_0 0 rfl rfl)
theorem dX7_keep_1 : decode cX7_keep 1 = .ok (.istore_n 1, 1) := dk_60 (dk_at dksX7_keep_0 1 rfl rfl)
theorem dX7_keep_2 : decode cX7_keep 2 = .ok (.iload_n 1, 1) := dk_27 (dk_at dksX7_keep_0 2 rfl rfl)
theorem dX7_keep_3 : decode cX7_keep 3 = .ok (.iconst 4, 1) := dk_7 (dk_at dksX7_keep_0 3 rfl rfl)
theorem dX7_keep_4 : decode cX7_keep 4 = .ok (.if_icmp .ge 23, 3) := dk_162 0 23 (dk_at dksX7_keep_0 4 rfl rfl)
theorem dX7_keep_7 : decode cX7_keep 7 = .ok (.aload_n 0, 1) := dk_42 (dk_at dksX7_keep_0 7 rfl rfl)
theorem dX7_keep_8 : decode cX7_keep 8 = .ok (.getfield 86, 3) := dk_180 0 86 (dk_at dksX7_keep_0 8 rfl rfl)
theorem dX7_keep_11 : decode cX7_keep 11 = .ok (.iload_n 1, 1) := dk_27 (dk_at dksX7_keep_0 11 rfl rfl)
theorem dX7_keep_12 : decode cX7_keep 12 = .ok (.aload_n 0, 1) := dk_42 (dk_at dksX7_keep_0 12 rfl rfl)
theorem dX7_keep_13 : decode cX7_keep 13 = .ok (.getfield 86, 3) := dk_180 0 86 (dk_at dksX7_keep_0 13 rfl rfl)
theorem dX7_keep_16 : decode cX7_keep 16 = .ok (.iconst 4, 1) := dk_7 (dk_at dksX7_keep_0 16 rfl rfl)
theorem dX7_keep_17 : decode cX7_keep 17 = .ok (.iload_n 1, 1) := dk_27 (dk_at dksX7_keep_0 17 rfl rfl)
theorem dX7_keep_18 : decode cX7_keep 18 = .ok (.iadd, 1) := dk_96 (dk_at dksX7_keep_0 18 rfl rfl)
theorem dX7_keep_19 : decode cX7_keep 19 = .ok (.iaload, 1) := dk_46 (dk_at dksX7_keep_0 19 rfl rfl)
theorem dX7_keep_20 : decode cX7_keep 20 = .ok (.iastore, 1) := dk_79 (dk_at dksX7_keep_0 20 rfl rfl)
theorem dX7_keep_21 : decode cX7_keep 21 = .ok (.iinc 1 1, 3) := dk_132 1 1 (dk_at dksX7_keep_0 21 rfl rfl)
theorem dX7_keep_24 : decode cX7_keep 24 = .ok (.goto (-22), 3) := dk_167 255 234 (dk_at dksX7_keep_1 0 rfl rfl)
theorem dX7_keep_27 : decode cX7_keep 27 = .ok (.aload_n 0, 1) := dk_42 (dk_at dksX7_keep_1 3 rfl rfl)
theorem dX7_keep_28 : decode cX7_keep 28 = .ok (.aload_n 0, 1) := dk_42 (dk_at dksX7_keep_1 4 rfl rfl)
theorem dX7_keep_29 : decode cX7_keep 29 = .ok (.getfield 167, 3) := dk_180 0 167 (dk_at dksX7_keep_1 5 rfl rfl)
theorem dX7_keep_32 : decode cX7_keep 32 = .ok (.putfield 170, 3) := dk_181 0 170 (dk_at dksX7_keep_1 8 rfl rfl)
theorem dX7_keep_35 : decode cX7_keep 35 = .ok (.iconst 0, 1) := dk_3 (dk_at dksX7_keep_1 11 rfl rfl)
theorem dX7_keep_36 : decode cX7_keep 36 = .ok (.istore_n 1, 1) := dk_60 (dk_at dksX7_keep_1 12 rfl rfl)
theorem dX7_keep_37 : decode cX7_keep 37 = .ok (.iload_n 1, 1) := dk_27 (dk_at dksX7_keep_1 13 rfl rfl)
theorem dX7_keep_38 : decode cX7_keep 38 = .ok (.aload_n 0, 1) := dk_42 (dk_at dksX7_keep_1 14 rfl rfl)
theorem dX7_keep_39 : decode cX7_keep 39 = .ok (.getfield 170, 3) := dk_180 0 170 (dk_at dksX7_keep_1 15 rfl rfl)
theorem dX7_keep_42 : decode cX7_keep 42 = .ok (.if_icmp .ge 129, 3) := dk_162 0 129 (dk_at dksX7_keep_1 18 rfl rfl)
theorem dX7_keep_45 : decode cX7_keep 45 = .ok (.aload_n 0, 1) := dk_42 (dk_at dksX7_keep_1 21 rfl rfl)
theorem dX7_keep_46 : decode cX7_keep 46 = .ok (.getfield 62, 3) := dk_180 0 62 (dk_at dksX7_keep_2 0 rfl rfl)
theorem dX7_keep_49 : decode cX7_keep 49 = .ok (.iload_n 1, 1) := dk_27 (dk_at dksX7_keep_2 3 rfl rfl)
theorem dX7_keep_50 : decode cX7_keep 50 = .ok (.aload_n 0, 1) := dk_42 (dk_at dksX7_keep_2 4 rfl rfl)
theorem dX7_keep_51 : decode cX7_keep 51 = .ok (.getfield 62, 3) := dk_180 0 62 (dk_at dksX7_keep_2 5 rfl rfl)
theorem dX7_keep_54 : decode cX7_keep 54 = .ok (.bipush 24, 2) := dk_16 24 (dk_at dksX7_keep_2 8 rfl rfl)
theorem dX7_keep_56 : decode cX7_keep 56 = .ok (.iload_n 1, 1) := dk_27 (dk_at dksX7_keep_2 10 rfl rfl)
theorem dX7_keep_57 : decode cX7_keep 57 = .ok (.iadd, 1) := dk_96 (dk_at dksX7_keep_2 11 rfl rfl)
theorem dX7_keep_58 : decode cX7_keep 58 = .ok (.iaload, 1) := dk_46 (dk_at dksX7_keep_2 12 rfl rfl)
theorem dX7_keep_59 : decode cX7_keep 59 = .ok (.iastore, 1) := dk_79 (dk_at dksX7_keep_2 13 rfl rfl)
theorem dX7_keep_60 : decode cX7_keep 60 = .ok (.aload_n 0, 1) := dk_42 (dk_at dksX7_keep_2 14 rfl rfl)
theorem dX7_keep_61 : decode cX7_keep 61 = .ok (.getfield 65, 3) := dk_180 0 65 (dk_at dksX7_keep_2 15 rfl rfl)
theorem dX7_keep_64 : decode cX7_keep 64 = .ok (.iload_n 1, 1) := dk_27 (dk_at dksX7_keep_2 18 rfl rfl)
theorem dX7_keep_65 : decode cX7_keep 65 = .ok (.aload_n 0, 1) := dk_42 (dk_at dksX7_keep_2 19 rfl rfl)
theorem dX7_keep_66 : decode cX7_keep 66 = .ok (.getfield 65, 3) := dk_180 0 65 (dk_at dksX7_keep_2 20 rfl rfl)
theorem dX7_keep_69 : decode cX7_keep 69 = .ok (.bipush 24, 2) := dk_16 24 (dk_at dksX7_keep_3 0 rfl rfl)
theorem dX7_keep_71 : decode cX7_keep 71 = .ok (.iload_n 1, 1) := dk_27 (dk_at dksX7_keep_3 2 rfl rfl)
theorem dX7_keep_72 : decode cX7_keep 72 = .ok (.iadd, 1) := dk_96 (dk_at dksX7_keep_3 3 rfl rfl)
theorem dX7_keep_73 : decode cX7_keep 73 = .ok (.iaload, 1) := dk_46 (dk_at dksX7_keep_3 4 rfl rfl)
theorem dX7_keep_74 : decode cX7_keep 74 = .ok (.iastore, 1) := dk_79 (dk_at dksX7_keep_3 5 rfl rfl)
theorem dX7_keep_75 : decode cX7_keep 75 = .ok (.aload_n 0, 1) := dk_42 (dk_at dksX7_keep_3 6 rfl rfl)
theorem dX7_keep_76 : decode cX7_keep 76 = .ok (.getfield 68, 3) := dk_180 0 68 (dk_at dksX7_keep_3 7 rfl rfl)
theorem dX7_keep_79 : decode cX7_keep 79 = .ok (.iload_n 1, 1) := dk_27 (dk_at dksX7_keep_3 10 rfl rfl)
theorem dX7_keep_80 : decode cX7_keep 80 = .ok (.aload_n 0, 1) := dk_42 (dk_at dksX7_keep_3 11 rfl rfl)
theorem dX7_keep_81 : decode cX7_keep 81 = .ok (.getfield 68, 3) := dk_180 0 68 (dk_at dksX7_keep_3 12 rfl rfl)
theorem dX7_keep_84 : decode cX7_keep 84 = .ok (.bipush 24, 2) := dk_16 24 (dk_at dksX7_keep_3 15 rfl rfl)
theorem dX7_keep_86 : decode cX7_keep 86 = .ok (.iload_n 1, 1) := dk_27 (dk_at dksX7_keep_3 17 rfl rfl)
theorem dX7_keep_87 : decode cX7_keep 87 = .ok (.iadd, 1) := dk_96 (dk_at dksX7_keep_3 18 rfl rfl)
theorem dX7_keep_88 : decode cX7_keep 88 = .ok (.iaload, 1) := dk_46 (dk_at dksX7_keep_3 19 rfl rfl)
theorem dX7_keep_89 : decode cX7_keep 89 = .ok (.iastore, 1) := dk_79 (dk_at dksX7_keep_3 20 rfl rfl)
theorem dX7_keep_90 : decode cX7_keep 90 = .ok (.aload_n 0, 1) := dk_42 (dk_at dksX7_keep_3 21 rfl rfl)
theorem dX7_keep_91 : decode cX7_keep 91 = .ok (.getfield 71, 3) := dk_180 0 71 (dk_at dksX7_keep_4 0 rfl rfl)
theorem dX7_keep_94 : decode cX7_keep 94 = .ok (.iload_n 1, 1) := dk_27 (dk_at dksX7_keep_4 3 rfl rfl)
theorem dX7_keep_95 : decode cX7_keep 95 = .ok (.aload_n 0, 1) := dk_42 (dk_at dksX7_keep_4 4 rfl rfl)
theorem dX7_keep_96 : decode cX7_keep 96 = .ok (.getfield 71, 3) := dk_180 0 71 (dk_at dksX7_keep_4 5 rfl rfl)
theorem dX7_keep_99 : decode cX7_keep 99 = .ok (.bipush 24, 2) := dk_16 24 (dk_at dksX7_keep_4 8 rfl rfl)
theorem dX7_keep_101 : decode cX7_keep 101 = .ok (.iload_n 1, 1) := dk_27 (dk_at dksX7_keep_4 10 rfl rfl)
theorem dX7_keep_102 : decode cX7_keep 102 = .ok (.iadd, 1) := dk_96 (dk_at dksX7_keep_4 11 rfl rfl)
theorem dX7_keep_103 : decode cX7_keep 103 = .ok (.iaload, 1) := dk_46 (dk_at dksX7_keep_4 12 rfl rfl)
theorem dX7_keep_104 : decode cX7_keep 104 = .ok (.iastore, 1) := dk_79 (dk_at dksX7_keep_4 13 rfl rfl)
theorem dX7_keep_105 : decode cX7_keep 105 = .ok (.aload_n 0, 1) := dk_42 (dk_at dksX7_keep_4 14 rfl rfl)
theorem dX7_keep_106 : decode cX7_keep 106 = .ok (.getfield 74, 3) := dk_180 0 74 (dk_at dksX7_keep_4 15 rfl rfl)
theorem dX7_keep_109 : decode cX7_keep 109 = .ok (.iload_n 1, 1) := dk_27 (dk_at dksX7_keep_4 18 rfl rfl)
theorem dX7_keep_110 : decode cX7_keep 110 = .ok (.aload_n 0, 1) := dk_42 (dk_at dksX7_keep_4 19 rfl rfl)
theorem dX7_keep_111 : decode cX7_keep 111 = .ok (.getfield 74, 3) := dk_180 0 74 (dk_at dksX7_keep_4 20 rfl rfl)
theorem dX7_keep_114 : decode cX7_keep 114 = .ok (.bipush 24, 2) := dk_16 24 (dk_at dksX7_keep_5 0 rfl rfl)
theorem dX7_keep_116 : decode cX7_keep 116 = .ok (.iload_n 1, 1) := dk_27 (dk_at dksX7_keep_5 2 rfl rfl)
theorem dX7_keep_117 : decode cX7_keep 117 = .ok (.iadd, 1) := dk_96 (dk_at dksX7_keep_5 3 rfl rfl)
theorem dX7_keep_118 : decode cX7_keep 118 = .ok (.iaload, 1) := dk_46 (dk_at dksX7_keep_5 4 rfl rfl)
theorem dX7_keep_119 : decode cX7_keep 119 = .ok (.iastore, 1) := dk_79 (dk_at dksX7_keep_5 5 rfl rfl)
theorem dX7_keep_120 : decode cX7_keep 120 = .ok (.aload_n 0, 1) := dk_42 (dk_at dksX7_keep_5 6 rfl rfl)
theorem dX7_keep_121 : decode cX7_keep 121 = .ok (.getfield 77, 3) := dk_180 0 77 (dk_at dksX7_keep_5 7 rfl rfl)
theorem dX7_keep_124 : decode cX7_keep 124 = .ok (.iload_n 1, 1) := dk_27 (dk_at dksX7_keep_5 10 rfl rfl)
theorem dX7_keep_125 : decode cX7_keep 125 = .ok (.aload_n 0, 1) := dk_42 (dk_at dksX7_keep_5 11 rfl rfl)
theorem dX7_keep_126 : decode cX7_keep 126 = .ok (.getfield 77, 3) := dk_180 0 77 (dk_at dksX7_keep_5 12 rfl rfl)
theorem dX7_keep_129 : decode cX7_keep 129 = .ok (.bipush 24, 2) := dk_16 24 (dk_at dksX7_keep_5 15 rfl rfl)
theorem dX7_keep_131 : decode cX7_keep 131 = .ok (.iload_n 1, 1) := dk_27 (dk_at dksX7_keep_5 17 rfl rfl)
theorem dX7_keep_132 : decode cX7_keep 132 = .ok (.iadd, 1) := dk_96 (dk_at dksX7_keep_5 18 rfl rfl)
theorem dX7_keep_133 : decode cX7_keep 133 = .ok (.iaload, 1) := dk_46 (dk_at dksX7_keep_5 19 rfl rfl)
theorem dX7_keep_134 : decode cX7_keep 134 = .ok (.iastore, 1) := dk_79 (dk_at dksX7_keep_5 20 rfl rfl)
theorem dX7_keep_135 : decode cX7_keep 135 = .ok (.aload_n 0, 1) := dk_42 (dk_at dksX7_keep_5 21 rfl rfl)
theorem dX7_keep_136 : decode cX7_keep 136 = .ok (.getfield 80, 3) := dk_180 0 80 (dk_at dksX7_keep_6 0 rfl rfl)
theorem dX7_keep_139 : decode cX7_keep 139 = .ok (.iload_n 1, 1) := dk_27 (dk_at dksX7_keep_6 3 rfl rfl)
theorem dX7_keep_140 : decode cX7_keep 140 = .ok (.aload_n 0, 1) := dk_42 (dk_at dksX7_keep_6 4 rfl rfl)
theorem dX7_keep_141 : decode cX7_keep 141 = .ok (.getfield 80, 3) := dk_180 0 80 (dk_at dksX7_keep_6 5 rfl rfl)
theorem dX7_keep_144 : decode cX7_keep 144 = .ok (.bipush 24, 2) := dk_16 24 (dk_at dksX7_keep_6 8 rfl rfl)
theorem dX7_keep_146 : decode cX7_keep 146 = .ok (.iload_n 1, 1) := dk_27 (dk_at dksX7_keep_6 10 rfl rfl)
theorem dX7_keep_147 : decode cX7_keep 147 = .ok (.iadd, 1) := dk_96 (dk_at dksX7_keep_6 11 rfl rfl)
theorem dX7_keep_148 : decode cX7_keep 148 = .ok (.iaload, 1) := dk_46 (dk_at dksX7_keep_6 12 rfl rfl)
theorem dX7_keep_149 : decode cX7_keep 149 = .ok (.iastore, 1) := dk_79 (dk_at dksX7_keep_6 13 rfl rfl)
theorem dX7_keep_150 : decode cX7_keep 150 = .ok (.aload_n 0, 1) := dk_42 (dk_at dksX7_keep_6 14 rfl rfl)
theorem dX7_keep_151 : decode cX7_keep 151 = .ok (.getfield 83, 3) := dk_180 0 83 (dk_at dksX7_keep_6 15 rfl rfl)
theorem dX7_keep_154 : decode cX7_keep 154 = .ok (.iload_n 1, 1) := dk_27 (dk_at dksX7_keep_6 18 rfl rfl)
theorem dX7_keep_155 : decode cX7_keep 155 = .ok (.aload_n 0, 1) := dk_42 (dk_at dksX7_keep_6 19 rfl rfl)
theorem dX7_keep_156 : decode cX7_keep 156 = .ok (.getfield 83, 3) := dk_180 0 83 (dk_at dksX7_keep_6 20 rfl rfl)
theorem dX7_keep_159 : decode cX7_keep 159 = .ok (.bipush 24, 2) := dk_16 24 (dk_at dksX7_keep_7 0 rfl rfl)
theorem dX7_keep_161 : decode cX7_keep 161 = .ok (.iload_n 1, 1) := dk_27 (dk_at dksX7_keep_7 2 rfl rfl)
theorem dX7_keep_162 : decode cX7_keep 162 = .ok (.iadd, 1) := dk_96 (dk_at dksX7_keep_7 3 rfl rfl)
theorem dX7_keep_163 : decode cX7_keep 163 = .ok (.iaload, 1) := dk_46 (dk_at dksX7_keep_7 4 rfl rfl)
theorem dX7_keep_164 : decode cX7_keep 164 = .ok (.iastore, 1) := dk_79 (dk_at dksX7_keep_7 5 rfl rfl)
theorem dX7_keep_165 : decode cX7_keep 165 = .ok (.iinc 1 1, 3) := dk_132 1 1 (dk_at dksX7_keep_7 6 rfl rfl)
theorem dX7_keep_168 : decode cX7_keep 168 = .ok (.goto (-131), 3) := dk_167 255 125 (dk_at dksX7_keep_7 9 rfl rfl)
theorem dX7_keep_171 : decode cX7_keep 171 = .ok (.return_, 1) := dk_177 (dk_at dksX7_keep_7 12 rfl rfl)
abbrev cX7_thrown : ByteArray := prog_19_method_2_code
def yX7_thrown : MethodName := ⟨RX7, "thrown", "()I"⟩
theorem dX7_thrown_0 : decode cX7_thrown 0 = .ok (.aload_n 0, 1) := by decide +kernel
theorem dX7_thrown_1 : decode cX7_thrown 1 = .ok (.getfield 129, 3) := by decide +kernel
theorem dX7_thrown_4 : decode cX7_thrown 4 = .ok (.ireturn, 1) := by decide +kernel
abbrev cX7_feed : ByteArray := prog_19_method_3_code
def yX7_feed : MethodName := ⟨RX7, "feed", "(IIIII)I"⟩
def dkwX7_feed_5 : List UInt8 := [16, 20, 96, 181, 0, 132, 42, 180, 0, 132, 172]
abbrev dktX7_feed_5 : List UInt8 := dkwX7_feed_5 ++ []
def dkwX7_feed_4 : List UInt8 := [21, 6, 7, 112, 104, 100, 122, 17, 0, 255, 126, 79, 132, 6, 1, 167, 255, 169, 42, 89, 180, 0, 132]
abbrev dktX7_feed_4 : List UInt8 := dkwX7_feed_4 ++ dktX7_feed_5
def dkwX7_feed_3 : List UInt8 := [167, 0, 5, 21, 5, 54, 7, 42, 180, 0, 7, 42, 180, 0, 132, 21, 6, 96, 21, 7, 16, 24, 16, 8]
abbrev dktX7_feed_3 : List UInt8 := dkwX7_feed_3 ++ dktX7_feed_4
def dkwX7_feed_2 : List UInt8 := [28, 167, 0, 28, 21, 6, 16, 12, 162, 0, 7, 29, 167, 0, 17, 21, 6, 16, 16, 162, 0, 8, 21, 4]
abbrev dktX7_feed_2 : List UInt8 := dkwX7_feed_2 ++ dktX7_feed_3
def dkwX7_feed_1 : List UInt8 := [21, 6, 16, 20, 162, 0, 86, 21, 6, 7, 162, 0, 7, 27, 167, 0, 39, 21, 6, 16, 8, 162, 0, 7]
abbrev dktX7_feed_1 : List UInt8 := dkwX7_feed_1 ++ dktX7_feed_2
def dkwX7_feed_0 : List UInt8 := [42, 3, 181, 0, 129, 42, 180, 0, 132, 16, 20, 96, 17, 1, 244, 164, 0, 5, 2, 172, 3, 54, 6]
abbrev dktX7_feed_0 : List UInt8 := dkwX7_feed_0 ++ dktX7_feed_1
theorem dksX7_feed_0 : cX7_feed.data.toList.drop 0 = dktX7_feed_0 := by decide +kernel
theorem dksX7_feed_1 : cX7_feed.data.toList.drop 23 = dktX7_feed_1 := dk_seg dksX7_feed_0 23 rfl rfl
theorem dksX7_feed_2 : cX7_feed.data.toList.drop 47 = dktX7_feed_2 := dk_seg dksX7_feed_1 24 rfl rfl
theorem dksX7_feed_3 : cX7_feed.data.toList.drop 71 = dktX7_feed_3 := dk_seg dksX7_feed_2 24 rfl rfl
theorem dksX7_feed_4 : cX7_feed.data.toList.drop 95 = dktX7_feed_4 := dk_seg dksX7_feed_3 24 rfl rfl
theorem dksX7_feed_5 : cX7_feed.data.toList.drop 118 = dktX7_feed_5 := dk_seg dksX7_feed_4 23 rfl rfl
theorem dX7_feed_0 : decode cX7_feed 0 = .ok (.aload_n 0, 1) := dk_42 (dk_at dksX7_feed_0 0 rfl rfl)
theorem dX7_feed_1 : decode cX7_feed 1 = .ok (.iconst 0, 1) := dk_3 (dk_at dksX7_feed_0 1 rfl rfl)
theorem dX7_feed_2 : decode cX7_feed 2 = .ok (.putfield 129, 3) := dk_181 0 129 (dk_at dksX7_feed_0 2 rfl rfl)
theorem dX7_feed_5 : decode cX7_feed 5 = .ok (.aload_n 0, 1) := dk_42 (dk_at dksX7_feed_0 5 rfl rfl)
theorem dX7_feed_6 : decode cX7_feed 6 = .ok (.getfield 132, 3) := dk_180 0 132 (dk_at dksX7_feed_0 6 rfl rfl)
theorem dX7_feed_9 : decode cX7_feed 9 = .ok (.bipush 20, 2) := dk_16 20 (dk_at dksX7_feed_0 9 rfl rfl)
theorem dX7_feed_11 : decode cX7_feed 11 = .ok (.iadd, 1) := dk_96 (dk_at dksX7_feed_0 11 rfl rfl)
theorem dX7_feed_12 : decode cX7_feed 12 = .ok (.sipush 500, 3) := dk_17 1 244 (dk_at dksX7_feed_0 12 rfl rfl)
theorem dX7_feed_15 : decode cX7_feed 15 = .ok (.if_icmp .le 5, 3) := dk_164 0 5 (dk_at dksX7_feed_0 15 rfl rfl)
theorem dX7_feed_18 : decode cX7_feed 18 = .ok (.iconst (-1), 1) := dk_2 (dk_at dksX7_feed_0 18 rfl rfl)
theorem dX7_feed_19 : decode cX7_feed 19 = .ok (.ireturn, 1) := dk_172 (dk_at dksX7_feed_0 19 rfl rfl)
theorem dX7_feed_20 : decode cX7_feed 20 = .ok (.iconst 0, 1) := dk_3 (dk_at dksX7_feed_0 20 rfl rfl)
theorem dX7_feed_21 : decode cX7_feed 21 = .ok (.istore 6, 2) := dk_54 6 (dk_at dksX7_feed_0 21 rfl rfl)
theorem dX7_feed_23 : decode cX7_feed 23 = .ok (.iload 6, 2) := dk_21 6 (dk_at dksX7_feed_1 0 rfl rfl)
theorem dX7_feed_25 : decode cX7_feed 25 = .ok (.bipush 20, 2) := dk_16 20 (dk_at dksX7_feed_1 2 rfl rfl)
theorem dX7_feed_27 : decode cX7_feed 27 = .ok (.if_icmp .ge 86, 3) := dk_162 0 86 (dk_at dksX7_feed_1 4 rfl rfl)
theorem dX7_feed_30 : decode cX7_feed 30 = .ok (.iload 6, 2) := dk_21 6 (dk_at dksX7_feed_1 7 rfl rfl)
theorem dX7_feed_32 : decode cX7_feed 32 = .ok (.iconst 4, 1) := dk_7 (dk_at dksX7_feed_1 9 rfl rfl)
theorem dX7_feed_33 : decode cX7_feed 33 = .ok (.if_icmp .ge 7, 3) := dk_162 0 7 (dk_at dksX7_feed_1 10 rfl rfl)
theorem dX7_feed_36 : decode cX7_feed 36 = .ok (.iload_n 1, 1) := dk_27 (dk_at dksX7_feed_1 13 rfl rfl)
theorem dX7_feed_37 : decode cX7_feed 37 = .ok (.goto 39, 3) := dk_167 0 39 (dk_at dksX7_feed_1 14 rfl rfl)
theorem dX7_feed_40 : decode cX7_feed 40 = .ok (.iload 6, 2) := dk_21 6 (dk_at dksX7_feed_1 17 rfl rfl)
theorem dX7_feed_42 : decode cX7_feed 42 = .ok (.bipush 8, 2) := dk_16 8 (dk_at dksX7_feed_1 19 rfl rfl)
theorem dX7_feed_44 : decode cX7_feed 44 = .ok (.if_icmp .ge 7, 3) := dk_162 0 7 (dk_at dksX7_feed_1 21 rfl rfl)
theorem dX7_feed_47 : decode cX7_feed 47 = .ok (.iload_n 2, 1) := dk_28 (dk_at dksX7_feed_2 0 rfl rfl)
theorem dX7_feed_48 : decode cX7_feed 48 = .ok (.goto 28, 3) := dk_167 0 28 (dk_at dksX7_feed_2 1 rfl rfl)
theorem dX7_feed_51 : decode cX7_feed 51 = .ok (.iload 6, 2) := dk_21 6 (dk_at dksX7_feed_2 4 rfl rfl)
theorem dX7_feed_53 : decode cX7_feed 53 = .ok (.bipush 12, 2) := dk_16 12 (dk_at dksX7_feed_2 6 rfl rfl)
theorem dX7_feed_55 : decode cX7_feed 55 = .ok (.if_icmp .ge 7, 3) := dk_162 0 7 (dk_at dksX7_feed_2 8 rfl rfl)
theorem dX7_feed_58 : decode cX7_feed 58 = .ok (.iload_n 3, 1) := dk_29 (dk_at dksX7_feed_2 11 rfl rfl)
theorem dX7_feed_59 : decode cX7_feed 59 = .ok (.goto 17, 3) := dk_167 0 17 (dk_at dksX7_feed_2 12 rfl rfl)
theorem dX7_feed_62 : decode cX7_feed 62 = .ok (.iload 6, 2) := dk_21 6 (dk_at dksX7_feed_2 15 rfl rfl)
theorem dX7_feed_64 : decode cX7_feed 64 = .ok (.bipush 16, 2) := dk_16 16 (dk_at dksX7_feed_2 17 rfl rfl)
theorem dX7_feed_66 : decode cX7_feed 66 = .ok (.if_icmp .ge 8, 3) := dk_162 0 8 (dk_at dksX7_feed_2 19 rfl rfl)
theorem dX7_feed_69 : decode cX7_feed 69 = .ok (.iload 4, 2) := dk_21 4 (dk_at dksX7_feed_2 22 rfl rfl)
theorem dX7_feed_71 : decode cX7_feed 71 = .ok (.goto 5, 3) := dk_167 0 5 (dk_at dksX7_feed_3 0 rfl rfl)
theorem dX7_feed_74 : decode cX7_feed 74 = .ok (.iload 5, 2) := dk_21 5 (dk_at dksX7_feed_3 3 rfl rfl)
theorem dX7_feed_76 : decode cX7_feed 76 = .ok (.istore 7, 2) := dk_54 7 (dk_at dksX7_feed_3 5 rfl rfl)
theorem dX7_feed_78 : decode cX7_feed 78 = .ok (.aload_n 0, 1) := dk_42 (dk_at dksX7_feed_3 7 rfl rfl)
theorem dX7_feed_79 : decode cX7_feed 79 = .ok (.getfield 7, 3) := dk_180 0 7 (dk_at dksX7_feed_3 8 rfl rfl)
theorem dX7_feed_82 : decode cX7_feed 82 = .ok (.aload_n 0, 1) := dk_42 (dk_at dksX7_feed_3 11 rfl rfl)
theorem dX7_feed_83 : decode cX7_feed 83 = .ok (.getfield 132, 3) := dk_180 0 132 (dk_at dksX7_feed_3 12 rfl rfl)
theorem dX7_feed_86 : decode cX7_feed 86 = .ok (.iload 6, 2) := dk_21 6 (dk_at dksX7_feed_3 15 rfl rfl)
theorem dX7_feed_88 : decode cX7_feed 88 = .ok (.iadd, 1) := dk_96 (dk_at dksX7_feed_3 17 rfl rfl)
theorem dX7_feed_89 : decode cX7_feed 89 = .ok (.iload 7, 2) := dk_21 7 (dk_at dksX7_feed_3 18 rfl rfl)
theorem dX7_feed_91 : decode cX7_feed 91 = .ok (.bipush 24, 2) := dk_16 24 (dk_at dksX7_feed_3 20 rfl rfl)
theorem dX7_feed_93 : decode cX7_feed 93 = .ok (.bipush 8, 2) := dk_16 8 (dk_at dksX7_feed_3 22 rfl rfl)
theorem dX7_feed_95 : decode cX7_feed 95 = .ok (.iload 6, 2) := dk_21 6 (dk_at dksX7_feed_4 0 rfl rfl)
theorem dX7_feed_97 : decode cX7_feed 97 = .ok (.iconst 4, 1) := dk_7 (dk_at dksX7_feed_4 2 rfl rfl)
theorem dX7_feed_98 : decode cX7_feed 98 = .ok (.irem, 1) := dk_112 (dk_at dksX7_feed_4 3 rfl rfl)
theorem dX7_feed_99 : decode cX7_feed 99 = .ok (.imul, 1) := dk_104 (dk_at dksX7_feed_4 4 rfl rfl)
theorem dX7_feed_100 : decode cX7_feed 100 = .ok (.isub, 1) := dk_100 (dk_at dksX7_feed_4 5 rfl rfl)
theorem dX7_feed_101 : decode cX7_feed 101 = .ok (.ishr, 1) := dk_122 (dk_at dksX7_feed_4 6 rfl rfl)
theorem dX7_feed_102 : decode cX7_feed 102 = .ok (.sipush 255, 3) := dk_17 0 255 (dk_at dksX7_feed_4 7 rfl rfl)
theorem dX7_feed_105 : decode cX7_feed 105 = .ok (.iand, 1) := dk_126 (dk_at dksX7_feed_4 10 rfl rfl)
theorem dX7_feed_106 : decode cX7_feed 106 = .ok (.iastore, 1) := dk_79 (dk_at dksX7_feed_4 11 rfl rfl)
theorem dX7_feed_107 : decode cX7_feed 107 = .ok (.iinc 6 1, 3) := dk_132 6 1 (dk_at dksX7_feed_4 12 rfl rfl)
theorem dX7_feed_110 : decode cX7_feed 110 = .ok (.goto (-87), 3) := dk_167 255 169 (dk_at dksX7_feed_4 15 rfl rfl)
theorem dX7_feed_113 : decode cX7_feed 113 = .ok (.aload_n 0, 1) := dk_42 (dk_at dksX7_feed_4 18 rfl rfl)
theorem dX7_feed_114 : decode cX7_feed 114 = .ok (.dup, 1) := dk_89 (dk_at dksX7_feed_4 19 rfl rfl)
theorem dX7_feed_115 : decode cX7_feed 115 = .ok (.getfield 132, 3) := dk_180 0 132 (dk_at dksX7_feed_4 20 rfl rfl)
theorem dX7_feed_118 : decode cX7_feed 118 = .ok (.bipush 20, 2) := dk_16 20 (dk_at dksX7_feed_5 0 rfl rfl)
theorem dX7_feed_120 : decode cX7_feed 120 = .ok (.iadd, 1) := dk_96 (dk_at dksX7_feed_5 2 rfl rfl)
theorem dX7_feed_121 : decode cX7_feed 121 = .ok (.putfield 132, 3) := dk_181 0 132 (dk_at dksX7_feed_5 3 rfl rfl)
theorem dX7_feed_124 : decode cX7_feed 124 = .ok (.aload_n 0, 1) := dk_42 (dk_at dksX7_feed_5 6 rfl rfl)
theorem dX7_feed_125 : decode cX7_feed 125 = .ok (.getfield 132, 3) := dk_180 0 132 (dk_at dksX7_feed_5 7 rfl rfl)
theorem dX7_feed_128 : decode cX7_feed 128 = .ok (.ireturn, 1) := dk_172 (dk_at dksX7_feed_5 10 rfl rfl)
abbrev cX7_acts : ByteArray := prog_19_method_20_code
def yX7_acts : MethodName := ⟨RX7, "acts", "(I)I"⟩
def dkwX7_acts_6 : List UInt8 := [182, 0, 180, 132, 2, 1, 167, 255, 165, 42, 182, 0, 126, 28, 172]
abbrev dktX7_acts_6 : List UInt8 := dkwX7_acts_6 ++ []
def dkwX7_acts_5 : List UInt8 := [62, 29, 154, 0, 5, 2, 172, 42, 180, 0, 147, 6, 159, 0, 11, 42, 4, 182, 0, 164, 87, 2, 172, 42]
abbrev dktX7_acts_5 : List UInt8 := dkwX7_acts_5 ++ dktX7_acts_6
def dkwX7_acts_4 : List UInt8 := [162, 0, 14, 42, 42, 180, 0, 158, 182, 0, 198, 167, 0, 13, 42, 42, 180, 0, 158, 7, 100, 182, 0, 201]
abbrev dktX7_acts_4 : List UInt8 := dkwX7_acts_4 ++ dktX7_acts_5
def dkwX7_acts_3 : List UInt8 := [42, 180, 0, 158, 16, 7, 164, 0, 11, 42, 4, 182, 0, 164, 87, 2, 172, 42, 180, 0, 158, 7]
abbrev dktX7_acts_3 : List UInt8 := dkwX7_acts_3 ++ dktX7_acts_4
def dkwX7_acts_2 : List UInt8 := [182, 0, 123, 3, 61, 42, 182, 0, 180, 42, 180, 0, 147, 153, 0, 90, 42, 180, 0, 147, 4, 160, 0, 12]
abbrev dktX7_acts_2 : List UInt8 := dkwX7_acts_2 ++ dktX7_acts_3
def dkwX7_acts_1 : List UInt8 := [181, 0, 141, 42, 3, 181, 0, 132, 42, 3, 181, 0, 135, 42, 2, 181, 0, 58, 42, 3, 181, 0, 144, 42]
abbrev dktX7_acts_1 : List UInt8 := dkwX7_acts_1 ++ dktX7_acts_2
def dkwX7_acts_0 : List UInt8 := [42, 3, 181, 0, 129, 27, 155, 0, 11, 27, 42, 180, 0, 132, 164, 0, 6, 16, 254, 172, 42, 27]
abbrev dktX7_acts_0 : List UInt8 := dkwX7_acts_0 ++ dktX7_acts_1
theorem dksX7_acts_0 : cX7_acts.data.toList.drop 0 = dktX7_acts_0 := by decide +kernel
theorem dksX7_acts_1 : cX7_acts.data.toList.drop 22 = dktX7_acts_1 := dk_seg dksX7_acts_0 22 rfl rfl
theorem dksX7_acts_2 : cX7_acts.data.toList.drop 46 = dktX7_acts_2 := dk_seg dksX7_acts_1 24 rfl rfl
theorem dksX7_acts_3 : cX7_acts.data.toList.drop 70 = dktX7_acts_3 := dk_seg dksX7_acts_2 24 rfl rfl
theorem dksX7_acts_4 : cX7_acts.data.toList.drop 92 = dktX7_acts_4 := dk_seg dksX7_acts_3 22 rfl rfl
theorem dksX7_acts_5 : cX7_acts.data.toList.drop 116 = dktX7_acts_5 := dk_seg dksX7_acts_4 24 rfl rfl
theorem dksX7_acts_6 : cX7_acts.data.toList.drop 140 = dktX7_acts_6 := dk_seg dksX7_acts_5 24 rfl rfl
theorem dX7_acts_0 : decode cX7_acts 0 = .ok (.aload_n 0, 1) := dk_42 (dk_at dksX7_acts_0 0 rfl rfl)
theorem dX7_acts_1 : decode cX7_acts 1 = .ok (.iconst 0, 1) := dk_3 (dk_at dksX7_acts_0 1 rfl rfl)
theorem dX7_acts_2 : decode cX7_acts 2 = .ok (.putfield 129, 3) := dk_181 0 129 (dk_at dksX7_acts_0 2 rfl rfl)
theorem dX7_acts_5 : decode cX7_acts 5 = .ok (.iload_n 1, 1) := dk_27 (dk_at dksX7_acts_0 5 rfl rfl)
theorem dX7_acts_6 : decode cX7_acts 6 = .ok (.ifCond .lt 11, 3) := dk_155 0 11 (dk_at dksX7_acts_0 6 rfl rfl)
theorem dX7_acts_9 : decode cX7_acts 9 = .ok (.iload_n 1, 1) := dk_27 (dk_at dksX7_acts_0 9 rfl rfl)
theorem dX7_acts_10 : decode cX7_acts 10 = .ok (.aload_n 0, 1) := dk_42 (dk_at dksX7_acts_0 10 rfl rfl)
theorem dX7_acts_11 : decode cX7_acts 11 = .ok (.getfield 132, 3) := dk_180 0 132 (dk_at dksX7_acts_0 11 rfl rfl)
theorem dX7_acts_14 : decode cX7_acts 14 = .ok (.if_icmp .le 6, 3) := dk_164 0 6 (dk_at dksX7_acts_0 14 rfl rfl)
theorem dX7_acts_17 : decode cX7_acts 17 = .ok (.bipush (-2), 2) := dk_16 254 (dk_at dksX7_acts_0 17 rfl rfl)
theorem dX7_acts_19 : decode cX7_acts 19 = .ok (.ireturn, 1) := dk_172 (dk_at dksX7_acts_0 19 rfl rfl)
theorem dX7_acts_20 : decode cX7_acts 20 = .ok (.aload_n 0, 1) := dk_42 (dk_at dksX7_acts_0 20 rfl rfl)
theorem dX7_acts_21 : decode cX7_acts 21 = .ok (.iload_n 1, 1) := dk_27 (dk_at dksX7_acts_0 21 rfl rfl)
theorem dX7_acts_22 : decode cX7_acts 22 = .ok (.putfield 141, 3) := dk_181 0 141 (dk_at dksX7_acts_1 0 rfl rfl)
theorem dX7_acts_25 : decode cX7_acts 25 = .ok (.aload_n 0, 1) := dk_42 (dk_at dksX7_acts_1 3 rfl rfl)
theorem dX7_acts_26 : decode cX7_acts 26 = .ok (.iconst 0, 1) := dk_3 (dk_at dksX7_acts_1 4 rfl rfl)
theorem dX7_acts_27 : decode cX7_acts 27 = .ok (.putfield 132, 3) := dk_181 0 132 (dk_at dksX7_acts_1 5 rfl rfl)
theorem dX7_acts_30 : decode cX7_acts 30 = .ok (.aload_n 0, 1) := dk_42 (dk_at dksX7_acts_1 8 rfl rfl)
theorem dX7_acts_31 : decode cX7_acts 31 = .ok (.iconst 0, 1) := dk_3 (dk_at dksX7_acts_1 9 rfl rfl)
theorem dX7_acts_32 : decode cX7_acts 32 = .ok (.putfield 135, 3) := dk_181 0 135 (dk_at dksX7_acts_1 10 rfl rfl)
theorem dX7_acts_35 : decode cX7_acts 35 = .ok (.aload_n 0, 1) := dk_42 (dk_at dksX7_acts_1 13 rfl rfl)
theorem dX7_acts_36 : decode cX7_acts 36 = .ok (.iconst (-1), 1) := dk_2 (dk_at dksX7_acts_1 14 rfl rfl)
theorem dX7_acts_37 : decode cX7_acts 37 = .ok (.putfield 58, 3) := dk_181 0 58 (dk_at dksX7_acts_1 15 rfl rfl)
theorem dX7_acts_40 : decode cX7_acts 40 = .ok (.aload_n 0, 1) := dk_42 (dk_at dksX7_acts_1 18 rfl rfl)
theorem dX7_acts_41 : decode cX7_acts 41 = .ok (.iconst 0, 1) := dk_3 (dk_at dksX7_acts_1 19 rfl rfl)
theorem dX7_acts_42 : decode cX7_acts 42 = .ok (.putfield 144, 3) := dk_181 0 144 (dk_at dksX7_acts_1 20 rfl rfl)
theorem dX7_acts_45 : decode cX7_acts 45 = .ok (.aload_n 0, 1) := dk_42 (dk_at dksX7_acts_1 23 rfl rfl)
theorem dX7_acts_46 : decode cX7_acts 46 = .ok (.invokevirtual 123, 3) := dk_182 0 123 (dk_at dksX7_acts_2 0 rfl rfl)
theorem dX7_acts_49 : decode cX7_acts 49 = .ok (.iconst 0, 1) := dk_3 (dk_at dksX7_acts_2 3 rfl rfl)
theorem dX7_acts_50 : decode cX7_acts 50 = .ok (.istore_n 2, 1) := dk_61 (dk_at dksX7_acts_2 4 rfl rfl)
theorem dX7_acts_51 : decode cX7_acts 51 = .ok (.aload_n 0, 1) := dk_42 (dk_at dksX7_acts_2 5 rfl rfl)
theorem dX7_acts_52 : decode cX7_acts 52 = .ok (.invokevirtual 180, 3) := dk_182 0 180 (dk_at dksX7_acts_2 6 rfl rfl)
theorem dX7_acts_55 : decode cX7_acts 55 = .ok (.aload_n 0, 1) := dk_42 (dk_at dksX7_acts_2 9 rfl rfl)
theorem dX7_acts_56 : decode cX7_acts 56 = .ok (.getfield 147, 3) := dk_180 0 147 (dk_at dksX7_acts_2 10 rfl rfl)
theorem dX7_acts_59 : decode cX7_acts 59 = .ok (.ifCond .eq 90, 3) := dk_153 0 90 (dk_at dksX7_acts_2 13 rfl rfl)
theorem dX7_acts_62 : decode cX7_acts 62 = .ok (.aload_n 0, 1) := dk_42 (dk_at dksX7_acts_2 16 rfl rfl)
theorem dX7_acts_63 : decode cX7_acts 63 = .ok (.getfield 147, 3) := dk_180 0 147 (dk_at dksX7_acts_2 17 rfl rfl)
theorem dX7_acts_66 : decode cX7_acts 66 = .ok (.iconst 1, 1) := dk_4 (dk_at dksX7_acts_2 20 rfl rfl)
theorem dX7_acts_67 : decode cX7_acts 67 = .ok (.if_icmp .ne 12, 3) := dk_160 0 12 (dk_at dksX7_acts_2 21 rfl rfl)
theorem dX7_acts_70 : decode cX7_acts 70 = .ok (.aload_n 0, 1) := dk_42 (dk_at dksX7_acts_3 0 rfl rfl)
theorem dX7_acts_71 : decode cX7_acts 71 = .ok (.getfield 158, 3) := dk_180 0 158 (dk_at dksX7_acts_3 1 rfl rfl)
theorem dX7_acts_74 : decode cX7_acts 74 = .ok (.bipush 7, 2) := dk_16 7 (dk_at dksX7_acts_3 4 rfl rfl)
theorem dX7_acts_76 : decode cX7_acts 76 = .ok (.if_icmp .le 11, 3) := dk_164 0 11 (dk_at dksX7_acts_3 6 rfl rfl)
theorem dX7_acts_79 : decode cX7_acts 79 = .ok (.aload_n 0, 1) := dk_42 (dk_at dksX7_acts_3 9 rfl rfl)
theorem dX7_acts_80 : decode cX7_acts 80 = .ok (.iconst 1, 1) := dk_4 (dk_at dksX7_acts_3 10 rfl rfl)
theorem dX7_acts_81 : decode cX7_acts 81 = .ok (.invokevirtual 164, 3) := dk_182 0 164 (dk_at dksX7_acts_3 11 rfl rfl)
theorem dX7_acts_84 : decode cX7_acts 84 = .ok (.pop, 1) := dk_87 (dk_at dksX7_acts_3 14 rfl rfl)
theorem dX7_acts_85 : decode cX7_acts 85 = .ok (.iconst (-1), 1) := dk_2 (dk_at dksX7_acts_3 15 rfl rfl)
theorem dX7_acts_86 : decode cX7_acts 86 = .ok (.ireturn, 1) := dk_172 (dk_at dksX7_acts_3 16 rfl rfl)
theorem dX7_acts_87 : decode cX7_acts 87 = .ok (.aload_n 0, 1) := dk_42 (dk_at dksX7_acts_3 17 rfl rfl)
theorem dX7_acts_88 : decode cX7_acts 88 = .ok (.getfield 158, 3) := dk_180 0 158 (dk_at dksX7_acts_3 18 rfl rfl)
theorem dX7_acts_91 : decode cX7_acts 91 = .ok (.iconst 4, 1) := dk_7 (dk_at dksX7_acts_3 21 rfl rfl)
theorem dX7_acts_92 : decode cX7_acts 92 = .ok (.if_icmp .ge 14, 3) := dk_162 0 14 (dk_at dksX7_acts_4 0 rfl rfl)
theorem dX7_acts_95 : decode cX7_acts 95 = .ok (.aload_n 0, 1) := dk_42 (dk_at dksX7_acts_4 3 rfl rfl)
theorem dX7_acts_96 : decode cX7_acts 96 = .ok (.aload_n 0, 1) := dk_42 (dk_at dksX7_acts_4 4 rfl rfl)
theorem dX7_acts_97 : decode cX7_acts 97 = .ok (.getfield 158, 3) := dk_180 0 158 (dk_at dksX7_acts_4 5 rfl rfl)
theorem dX7_acts_100 : decode cX7_acts 100 = .ok (.invokevirtual 198, 3) := dk_182 0 198 (dk_at dksX7_acts_4 8 rfl rfl)
theorem dX7_acts_103 : decode cX7_acts 103 = .ok (.goto 13, 3) := dk_167 0 13 (dk_at dksX7_acts_4 11 rfl rfl)
theorem dX7_acts_106 : decode cX7_acts 106 = .ok (.aload_n 0, 1) := dk_42 (dk_at dksX7_acts_4 14 rfl rfl)
theorem dX7_acts_107 : decode cX7_acts 107 = .ok (.aload_n 0, 1) := dk_42 (dk_at dksX7_acts_4 15 rfl rfl)
theorem dX7_acts_108 : decode cX7_acts 108 = .ok (.getfield 158, 3) := dk_180 0 158 (dk_at dksX7_acts_4 16 rfl rfl)
theorem dX7_acts_111 : decode cX7_acts 111 = .ok (.iconst 4, 1) := dk_7 (dk_at dksX7_acts_4 19 rfl rfl)
theorem dX7_acts_112 : decode cX7_acts 112 = .ok (.isub, 1) := dk_100 (dk_at dksX7_acts_4 20 rfl rfl)
theorem dX7_acts_113 : decode cX7_acts 113 = .ok (.invokevirtual 201, 3) := dk_182 0 201 (dk_at dksX7_acts_4 21 rfl rfl)
theorem dX7_acts_116 : decode cX7_acts 116 = .ok (.istore_n 3, 1) := dk_62 (dk_at dksX7_acts_5 0 rfl rfl)
theorem dX7_acts_117 : decode cX7_acts 117 = .ok (.iload_n 3, 1) := dk_29 (dk_at dksX7_acts_5 1 rfl rfl)
theorem dX7_acts_118 : decode cX7_acts 118 = .ok (.ifCond .ne 5, 3) := dk_154 0 5 (dk_at dksX7_acts_5 2 rfl rfl)
theorem dX7_acts_121 : decode cX7_acts 121 = .ok (.iconst (-1), 1) := dk_2 (dk_at dksX7_acts_5 5 rfl rfl)
theorem dX7_acts_122 : decode cX7_acts 122 = .ok (.ireturn, 1) := dk_172 (dk_at dksX7_acts_5 6 rfl rfl)
theorem dX7_acts_123 : decode cX7_acts 123 = .ok (.aload_n 0, 1) := dk_42 (dk_at dksX7_acts_5 7 rfl rfl)
theorem dX7_acts_124 : decode cX7_acts 124 = .ok (.getfield 147, 3) := dk_180 0 147 (dk_at dksX7_acts_5 8 rfl rfl)
theorem dX7_acts_127 : decode cX7_acts 127 = .ok (.iconst 3, 1) := dk_6 (dk_at dksX7_acts_5 11 rfl rfl)
theorem dX7_acts_128 : decode cX7_acts 128 = .ok (.if_icmp .eq 11, 3) := dk_159 0 11 (dk_at dksX7_acts_5 12 rfl rfl)
theorem dX7_acts_131 : decode cX7_acts 131 = .ok (.aload_n 0, 1) := dk_42 (dk_at dksX7_acts_5 15 rfl rfl)
theorem dX7_acts_132 : decode cX7_acts 132 = .ok (.iconst 1, 1) := dk_4 (dk_at dksX7_acts_5 16 rfl rfl)
theorem dX7_acts_133 : decode cX7_acts 133 = .ok (.invokevirtual 164, 3) := dk_182 0 164 (dk_at dksX7_acts_5 17 rfl rfl)
theorem dX7_acts_136 : decode cX7_acts 136 = .ok (.pop, 1) := dk_87 (dk_at dksX7_acts_5 20 rfl rfl)
theorem dX7_acts_137 : decode cX7_acts 137 = .ok (.iconst (-1), 1) := dk_2 (dk_at dksX7_acts_5 21 rfl rfl)
theorem dX7_acts_138 : decode cX7_acts 138 = .ok (.ireturn, 1) := dk_172 (dk_at dksX7_acts_5 22 rfl rfl)
theorem dX7_acts_139 : decode cX7_acts 139 = .ok (.aload_n 0, 1) := dk_42 (dk_at dksX7_acts_5 23 rfl rfl)
theorem dX7_acts_140 : decode cX7_acts 140 = .ok (.invokevirtual 180, 3) := dk_182 0 180 (dk_at dksX7_acts_6 0 rfl rfl)
theorem dX7_acts_143 : decode cX7_acts 143 = .ok (.iinc 2 1, 3) := dk_132 2 1 (dk_at dksX7_acts_6 3 rfl rfl)
theorem dX7_acts_146 : decode cX7_acts 146 = .ok (.goto (-91), 3) := dk_167 255 165 (dk_at dksX7_acts_6 6 rfl rfl)
theorem dX7_acts_149 : decode cX7_acts 149 = .ok (.aload_n 0, 1) := dk_42 (dk_at dksX7_acts_6 9 rfl rfl)
theorem dX7_acts_150 : decode cX7_acts 150 = .ok (.invokevirtual 126, 3) := dk_182 0 126 (dk_at dksX7_acts_6 10 rfl rfl)
theorem dX7_acts_153 : decode cX7_acts 153 = .ok (.iload_n 2, 1) := dk_28 (dk_at dksX7_acts_6 13 rfl rfl)
theorem dX7_acts_154 : decode cX7_acts 154 = .ok (.ireturn, 1) := dk_172 (dk_at dksX7_acts_6 14 rfl rfl)
abbrev cX7_take : ByteArray := prog_19_method_10_code
def yX7_take : MethodName := ⟨RX7, "take", "()V"⟩
def dkwX7_take_11 : List UInt8 := [181, 0, 147, 42, 89, 180, 0, 144, 4, 96, 181, 0, 144, 177]
abbrev dktX7_take_11 : List UInt8 := dkwX7_take_11 ++ []
def dkwX7_take_10 : List UInt8 := [167, 255, 194, 42, 42, 180, 0, 7, 42, 180, 0, 144, 46, 16, 59, 160, 0, 7, 6, 167, 0, 4, 7]
abbrev dktX7_take_10 : List UInt8 := dkwX7_take_10 ++ dktX7_take_11
def dkwX7_take_9 : List UInt8 := [42, 180, 0, 144, 46, 96, 16, 48, 100, 181, 0, 158, 42, 89, 180, 0, 144, 4, 96, 181, 0, 144]
abbrev dktX7_take_9 : List UInt8 := dkwX7_take_9 ++ dktX7_take_10
def dkwX7_take_8 : List UInt8 := [17, 39, 15, 164, 0, 10, 42, 180, 0, 158, 167, 0, 23, 16, 10, 42, 180, 0, 158, 104, 42, 180, 0, 7]
abbrev dktX7_take_8 : List UInt8 := dkwX7_take_8 ++ dktX7_take_9
def dkwX7_take_7 : List UInt8 := [181, 0, 147, 42, 3, 181, 0, 158, 42, 42, 180, 0, 144, 182, 0, 161, 153, 0, 90, 42, 42, 180, 0, 158]
abbrev dktX7_take_7 : List UInt8 := dkwX7_take_7 ++ dktX7_take_8
def dkwX7_take_6 : List UInt8 := [167, 0, 4, 4, 181, 0, 147, 167, 0, 122, 42, 42, 180, 0, 144, 182, 0, 161, 153, 0, 78, 42, 5]
abbrev dktX7_take_6 : List UInt8 := dkwX7_take_6 ++ dktX7_take_7
def dkwX7_take_5 : List UInt8 := [42, 180, 0, 138, 42, 180, 0, 144, 182, 0, 154, 181, 0, 158, 42, 42, 180, 0, 158, 156, 0, 7, 7]
abbrev dktX7_take_5 : List UInt8 := dkwX7_take_5 ++ dktX7_take_6
def dkwX7_take_4 : List UInt8 := [180, 0, 144, 182, 0, 150, 153, 0, 16, 42, 89, 180, 0, 144, 4, 96, 181, 0, 144, 167, 255, 235, 42, 42]
abbrev dktX7_take_4 : List UInt8 := dkwX7_take_4 ++ dktX7_take_5
def dkwX7_take_3 : List UInt8 := [160, 0, 11, 42, 3, 181, 0, 147, 167, 0, 192, 42, 42, 180, 0, 144, 182, 0, 150, 153, 0, 62, 42, 42]
abbrev dktX7_take_3 : List UInt8 := dkwX7_take_3 ++ dktX7_take_4
def dkwX7_take_2 : List UInt8 := [181, 0, 144, 167, 255, 207, 42, 42, 180, 0, 144, 181, 0, 138, 42, 180, 0, 144, 42, 180, 0, 141]
abbrev dktX7_take_2 : List UInt8 := dkwX7_take_2 ++ dktX7_take_3
def dkwX7_take_1 : List UInt8 := [159, 0, 17, 42, 180, 0, 7, 42, 180, 0, 144, 46, 16, 32, 160, 0, 16, 42, 89, 180, 0, 144, 4, 96]
abbrev dktX7_take_1 : List UInt8 := dkwX7_take_1 ++ dktX7_take_2
def dkwX7_take_0 : List UInt8 := [42, 180, 0, 144, 42, 180, 0, 141, 162, 0, 44, 42, 180, 0, 7, 42, 180, 0, 144, 46, 16, 10]
abbrev dktX7_take_0 : List UInt8 := dkwX7_take_0 ++ dktX7_take_1
theorem dksX7_take_0 : cX7_take.data.toList.drop 0 = dktX7_take_0 := by decide +kernel
theorem dksX7_take_1 : cX7_take.data.toList.drop 22 = dktX7_take_1 := dk_seg dksX7_take_0 22 rfl rfl
theorem dksX7_take_2 : cX7_take.data.toList.drop 46 = dktX7_take_2 := dk_seg dksX7_take_1 24 rfl rfl
theorem dksX7_take_3 : cX7_take.data.toList.drop 68 = dktX7_take_3 := dk_seg dksX7_take_2 22 rfl rfl
theorem dksX7_take_4 : cX7_take.data.toList.drop 92 = dktX7_take_4 := dk_seg dksX7_take_3 24 rfl rfl
theorem dksX7_take_5 : cX7_take.data.toList.drop 116 = dktX7_take_5 := dk_seg dksX7_take_4 24 rfl rfl
theorem dksX7_take_6 : cX7_take.data.toList.drop 139 = dktX7_take_6 := dk_seg dksX7_take_5 23 rfl rfl
theorem dksX7_take_7 : cX7_take.data.toList.drop 162 = dktX7_take_7 := dk_seg dksX7_take_6 23 rfl rfl
theorem dksX7_take_8 : cX7_take.data.toList.drop 186 = dktX7_take_8 := dk_seg dksX7_take_7 24 rfl rfl
theorem dksX7_take_9 : cX7_take.data.toList.drop 210 = dktX7_take_9 := dk_seg dksX7_take_8 24 rfl rfl
theorem dksX7_take_10 : cX7_take.data.toList.drop 232 = dktX7_take_10 := dk_seg dksX7_take_9 22 rfl rfl
theorem dksX7_take_11 : cX7_take.data.toList.drop 255 = dktX7_take_11 := dk_seg dksX7_take_10 23 rfl rfl
theorem dX7_take_0 : decode cX7_take 0 = .ok (.aload_n 0, 1) := dk_42 (dk_at dksX7_take_0 0 rfl rfl)
theorem dX7_take_1 : decode cX7_take 1 = .ok (.getfield 144, 3) := dk_180 0 144 (dk_at dksX7_take_0 1 rfl rfl)
theorem dX7_take_4 : decode cX7_take 4 = .ok (.aload_n 0, 1) := dk_42 (dk_at dksX7_take_0 4 rfl rfl)
theorem dX7_take_5 : decode cX7_take 5 = .ok (.getfield 141, 3) := dk_180 0 141 (dk_at dksX7_take_0 5 rfl rfl)
theorem dX7_take_8 : decode cX7_take 8 = .ok (.if_icmp .ge 44, 3) := dk_162 0 44 (dk_at dksX7_take_0 8 rfl rfl)
theorem dX7_take_11 : decode cX7_take 11 = .ok (.aload_n 0, 1) := dk_42 (dk_at dksX7_take_0 11 rfl rfl)
theorem dX7_take_12 : decode cX7_take 12 = .ok (.getfield 7, 3) := dk_180 0 7 (dk_at dksX7_take_0 12 rfl rfl)
theorem dX7_take_15 : decode cX7_take 15 = .ok (.aload_n 0, 1) := dk_42 (dk_at dksX7_take_0 15 rfl rfl)
theorem dX7_take_16 : decode cX7_take 16 = .ok (.getfield 144, 3) := dk_180 0 144 (dk_at dksX7_take_0 16 rfl rfl)
theorem dX7_take_19 : decode cX7_take 19 = .ok (.iaload, 1) := dk_46 (dk_at dksX7_take_0 19 rfl rfl)
theorem dX7_take_20 : decode cX7_take 20 = .ok (.bipush 10, 2) := dk_16 10 (dk_at dksX7_take_0 20 rfl rfl)
theorem dX7_take_22 : decode cX7_take 22 = .ok (.if_icmp .eq 17, 3) := dk_159 0 17 (dk_at dksX7_take_1 0 rfl rfl)
theorem dX7_take_25 : decode cX7_take 25 = .ok (.aload_n 0, 1) := dk_42 (dk_at dksX7_take_1 3 rfl rfl)
theorem dX7_take_26 : decode cX7_take 26 = .ok (.getfield 7, 3) := dk_180 0 7 (dk_at dksX7_take_1 4 rfl rfl)
theorem dX7_take_29 : decode cX7_take 29 = .ok (.aload_n 0, 1) := dk_42 (dk_at dksX7_take_1 7 rfl rfl)
theorem dX7_take_30 : decode cX7_take 30 = .ok (.getfield 144, 3) := dk_180 0 144 (dk_at dksX7_take_1 8 rfl rfl)
theorem dX7_take_33 : decode cX7_take 33 = .ok (.iaload, 1) := dk_46 (dk_at dksX7_take_1 11 rfl rfl)
theorem dX7_take_34 : decode cX7_take 34 = .ok (.bipush 32, 2) := dk_16 32 (dk_at dksX7_take_1 12 rfl rfl)
theorem dX7_take_36 : decode cX7_take 36 = .ok (.if_icmp .ne 16, 3) := dk_160 0 16 (dk_at dksX7_take_1 14 rfl rfl)
theorem dX7_take_39 : decode cX7_take 39 = .ok (.aload_n 0, 1) := dk_42 (dk_at dksX7_take_1 17 rfl rfl)
theorem dX7_take_40 : decode cX7_take 40 = .ok (.dup, 1) := dk_89 (dk_at dksX7_take_1 18 rfl rfl)
theorem dX7_take_41 : decode cX7_take 41 = .ok (.getfield 144, 3) := dk_180 0 144 (dk_at dksX7_take_1 19 rfl rfl)
theorem dX7_take_44 : decode cX7_take 44 = .ok (.iconst 1, 1) := dk_4 (dk_at dksX7_take_1 22 rfl rfl)
theorem dX7_take_45 : decode cX7_take 45 = .ok (.iadd, 1) := dk_96 (dk_at dksX7_take_1 23 rfl rfl)
theorem dX7_take_46 : decode cX7_take 46 = .ok (.putfield 144, 3) := dk_181 0 144 (dk_at dksX7_take_2 0 rfl rfl)
theorem dX7_take_49 : decode cX7_take 49 = .ok (.goto (-49), 3) := dk_167 255 207 (dk_at dksX7_take_2 3 rfl rfl)
theorem dX7_take_52 : decode cX7_take 52 = .ok (.aload_n 0, 1) := dk_42 (dk_at dksX7_take_2 6 rfl rfl)
theorem dX7_take_53 : decode cX7_take 53 = .ok (.aload_n 0, 1) := dk_42 (dk_at dksX7_take_2 7 rfl rfl)
theorem dX7_take_54 : decode cX7_take 54 = .ok (.getfield 144, 3) := dk_180 0 144 (dk_at dksX7_take_2 8 rfl rfl)
theorem dX7_take_57 : decode cX7_take 57 = .ok (.putfield 138, 3) := dk_181 0 138 (dk_at dksX7_take_2 11 rfl rfl)
theorem dX7_take_60 : decode cX7_take 60 = .ok (.aload_n 0, 1) := dk_42 (dk_at dksX7_take_2 14 rfl rfl)
theorem dX7_take_61 : decode cX7_take 61 = .ok (.getfield 144, 3) := dk_180 0 144 (dk_at dksX7_take_2 15 rfl rfl)
theorem dX7_take_64 : decode cX7_take 64 = .ok (.aload_n 0, 1) := dk_42 (dk_at dksX7_take_2 18 rfl rfl)
theorem dX7_take_65 : decode cX7_take 65 = .ok (.getfield 141, 3) := dk_180 0 141 (dk_at dksX7_take_2 19 rfl rfl)
theorem dX7_take_68 : decode cX7_take 68 = .ok (.if_icmp .ne 11, 3) := dk_160 0 11 (dk_at dksX7_take_3 0 rfl rfl)
theorem dX7_take_71 : decode cX7_take 71 = .ok (.aload_n 0, 1) := dk_42 (dk_at dksX7_take_3 3 rfl rfl)
theorem dX7_take_72 : decode cX7_take 72 = .ok (.iconst 0, 1) := dk_3 (dk_at dksX7_take_3 4 rfl rfl)
theorem dX7_take_73 : decode cX7_take 73 = .ok (.putfield 147, 3) := dk_181 0 147 (dk_at dksX7_take_3 5 rfl rfl)
theorem dX7_take_76 : decode cX7_take 76 = .ok (.goto 192, 3) := dk_167 0 192 (dk_at dksX7_take_3 8 rfl rfl)
theorem dX7_take_79 : decode cX7_take 79 = .ok (.aload_n 0, 1) := dk_42 (dk_at dksX7_take_3 11 rfl rfl)
theorem dX7_take_80 : decode cX7_take 80 = .ok (.aload_n 0, 1) := dk_42 (dk_at dksX7_take_3 12 rfl rfl)
theorem dX7_take_81 : decode cX7_take 81 = .ok (.getfield 144, 3) := dk_180 0 144 (dk_at dksX7_take_3 13 rfl rfl)
theorem dX7_take_84 : decode cX7_take 84 = .ok (.invokevirtual 150, 3) := dk_182 0 150 (dk_at dksX7_take_3 16 rfl rfl)
theorem dX7_take_87 : decode cX7_take 87 = .ok (.ifCond .eq 62, 3) := dk_153 0 62 (dk_at dksX7_take_3 19 rfl rfl)
theorem dX7_take_90 : decode cX7_take 90 = .ok (.aload_n 0, 1) := dk_42 (dk_at dksX7_take_3 22 rfl rfl)
theorem dX7_take_91 : decode cX7_take 91 = .ok (.aload_n 0, 1) := dk_42 (dk_at dksX7_take_3 23 rfl rfl)
theorem dX7_take_92 : decode cX7_take 92 = .ok (.getfield 144, 3) := dk_180 0 144 (dk_at dksX7_take_4 0 rfl rfl)
theorem dX7_take_95 : decode cX7_take 95 = .ok (.invokevirtual 150, 3) := dk_182 0 150 (dk_at dksX7_take_4 3 rfl rfl)
theorem dX7_take_98 : decode cX7_take 98 = .ok (.ifCond .eq 16, 3) := dk_153 0 16 (dk_at dksX7_take_4 6 rfl rfl)
theorem dX7_take_101 : decode cX7_take 101 = .ok (.aload_n 0, 1) := dk_42 (dk_at dksX7_take_4 9 rfl rfl)
theorem dX7_take_102 : decode cX7_take 102 = .ok (.dup, 1) := dk_89 (dk_at dksX7_take_4 10 rfl rfl)
theorem dX7_take_103 : decode cX7_take 103 = .ok (.getfield 144, 3) := dk_180 0 144 (dk_at dksX7_take_4 11 rfl rfl)
theorem dX7_take_106 : decode cX7_take 106 = .ok (.iconst 1, 1) := dk_4 (dk_at dksX7_take_4 14 rfl rfl)
theorem dX7_take_107 : decode cX7_take 107 = .ok (.iadd, 1) := dk_96 (dk_at dksX7_take_4 15 rfl rfl)
theorem dX7_take_108 : decode cX7_take 108 = .ok (.putfield 144, 3) := dk_181 0 144 (dk_at dksX7_take_4 16 rfl rfl)
theorem dX7_take_111 : decode cX7_take 111 = .ok (.goto (-21), 3) := dk_167 255 235 (dk_at dksX7_take_4 19 rfl rfl)
theorem dX7_take_114 : decode cX7_take 114 = .ok (.aload_n 0, 1) := dk_42 (dk_at dksX7_take_4 22 rfl rfl)
theorem dX7_take_115 : decode cX7_take 115 = .ok (.aload_n 0, 1) := dk_42 (dk_at dksX7_take_4 23 rfl rfl)
theorem dX7_take_116 : decode cX7_take 116 = .ok (.aload_n 0, 1) := dk_42 (dk_at dksX7_take_5 0 rfl rfl)
theorem dX7_take_117 : decode cX7_take 117 = .ok (.getfield 138, 3) := dk_180 0 138 (dk_at dksX7_take_5 1 rfl rfl)
theorem dX7_take_120 : decode cX7_take 120 = .ok (.aload_n 0, 1) := dk_42 (dk_at dksX7_take_5 4 rfl rfl)
theorem dX7_take_121 : decode cX7_take 121 = .ok (.getfield 144, 3) := dk_180 0 144 (dk_at dksX7_take_5 5 rfl rfl)
theorem dX7_take_124 : decode cX7_take 124 = .ok (.invokevirtual 154, 3) := dk_182 0 154 (dk_at dksX7_take_5 8 rfl rfl)
theorem dX7_take_127 : decode cX7_take 127 = .ok (.putfield 158, 3) := dk_181 0 158 (dk_at dksX7_take_5 11 rfl rfl)
theorem dX7_take_130 : decode cX7_take 130 = .ok (.aload_n 0, 1) := dk_42 (dk_at dksX7_take_5 14 rfl rfl)
theorem dX7_take_131 : decode cX7_take 131 = .ok (.aload_n 0, 1) := dk_42 (dk_at dksX7_take_5 15 rfl rfl)
theorem dX7_take_132 : decode cX7_take 132 = .ok (.getfield 158, 3) := dk_180 0 158 (dk_at dksX7_take_5 16 rfl rfl)
theorem dX7_take_135 : decode cX7_take 135 = .ok (.ifCond .ge 7, 3) := dk_156 0 7 (dk_at dksX7_take_5 19 rfl rfl)
theorem dX7_take_138 : decode cX7_take 138 = .ok (.iconst 4, 1) := dk_7 (dk_at dksX7_take_5 22 rfl rfl)
theorem dX7_take_139 : decode cX7_take 139 = .ok (.goto 4, 3) := dk_167 0 4 (dk_at dksX7_take_6 0 rfl rfl)
theorem dX7_take_142 : decode cX7_take 142 = .ok (.iconst 1, 1) := dk_4 (dk_at dksX7_take_6 3 rfl rfl)
theorem dX7_take_143 : decode cX7_take 143 = .ok (.putfield 147, 3) := dk_181 0 147 (dk_at dksX7_take_6 4 rfl rfl)
theorem dX7_take_146 : decode cX7_take 146 = .ok (.goto 122, 3) := dk_167 0 122 (dk_at dksX7_take_6 7 rfl rfl)
theorem dX7_take_149 : decode cX7_take 149 = .ok (.aload_n 0, 1) := dk_42 (dk_at dksX7_take_6 10 rfl rfl)
theorem dX7_take_150 : decode cX7_take 150 = .ok (.aload_n 0, 1) := dk_42 (dk_at dksX7_take_6 11 rfl rfl)
theorem dX7_take_151 : decode cX7_take 151 = .ok (.getfield 144, 3) := dk_180 0 144 (dk_at dksX7_take_6 12 rfl rfl)
theorem dX7_take_154 : decode cX7_take 154 = .ok (.invokevirtual 161, 3) := dk_182 0 161 (dk_at dksX7_take_6 15 rfl rfl)
theorem dX7_take_157 : decode cX7_take 157 = .ok (.ifCond .eq 78, 3) := dk_153 0 78 (dk_at dksX7_take_6 18 rfl rfl)
theorem dX7_take_160 : decode cX7_take 160 = .ok (.aload_n 0, 1) := dk_42 (dk_at dksX7_take_6 21 rfl rfl)
theorem dX7_take_161 : decode cX7_take 161 = .ok (.iconst 2, 1) := dk_5 (dk_at dksX7_take_6 22 rfl rfl)
theorem dX7_take_162 : decode cX7_take 162 = .ok (.putfield 147, 3) := dk_181 0 147 (dk_at dksX7_take_7 0 rfl rfl)
theorem dX7_take_165 : decode cX7_take 165 = .ok (.aload_n 0, 1) := dk_42 (dk_at dksX7_take_7 3 rfl rfl)
theorem dX7_take_166 : decode cX7_take 166 = .ok (.iconst 0, 1) := dk_3 (dk_at dksX7_take_7 4 rfl rfl)
theorem dX7_take_167 : decode cX7_take 167 = .ok (.putfield 158, 3) := dk_181 0 158 (dk_at dksX7_take_7 5 rfl rfl)
theorem dX7_take_170 : decode cX7_take 170 = .ok (.aload_n 0, 1) := dk_42 (dk_at dksX7_take_7 8 rfl rfl)
theorem dX7_take_171 : decode cX7_take 171 = .ok (.aload_n 0, 1) := dk_42 (dk_at dksX7_take_7 9 rfl rfl)
theorem dX7_take_172 : decode cX7_take 172 = .ok (.getfield 144, 3) := dk_180 0 144 (dk_at dksX7_take_7 10 rfl rfl)
theorem dX7_take_175 : decode cX7_take 175 = .ok (.invokevirtual 161, 3) := dk_182 0 161 (dk_at dksX7_take_7 13 rfl rfl)
theorem dX7_take_178 : decode cX7_take 178 = .ok (.ifCond .eq 90, 3) := dk_153 0 90 (dk_at dksX7_take_7 16 rfl rfl)
theorem dX7_take_181 : decode cX7_take 181 = .ok (.aload_n 0, 1) := dk_42 (dk_at dksX7_take_7 19 rfl rfl)
theorem dX7_take_182 : decode cX7_take 182 = .ok (.aload_n 0, 1) := dk_42 (dk_at dksX7_take_7 20 rfl rfl)
theorem dX7_take_183 : decode cX7_take 183 = .ok (.getfield 158, 3) := dk_180 0 158 (dk_at dksX7_take_7 21 rfl rfl)
theorem dX7_take_186 : decode cX7_take 186 = .ok (.sipush 9999, 3) := dk_17 39 15 (dk_at dksX7_take_8 0 rfl rfl)
theorem dX7_take_189 : decode cX7_take 189 = .ok (.if_icmp .le 10, 3) := dk_164 0 10 (dk_at dksX7_take_8 3 rfl rfl)
theorem dX7_take_192 : decode cX7_take 192 = .ok (.aload_n 0, 1) := dk_42 (dk_at dksX7_take_8 6 rfl rfl)
theorem dX7_take_193 : decode cX7_take 193 = .ok (.getfield 158, 3) := dk_180 0 158 (dk_at dksX7_take_8 7 rfl rfl)
theorem dX7_take_196 : decode cX7_take 196 = .ok (.goto 23, 3) := dk_167 0 23 (dk_at dksX7_take_8 10 rfl rfl)
theorem dX7_take_199 : decode cX7_take 199 = .ok (.bipush 10, 2) := dk_16 10 (dk_at dksX7_take_8 13 rfl rfl)
theorem dX7_take_201 : decode cX7_take 201 = .ok (.aload_n 0, 1) := dk_42 (dk_at dksX7_take_8 15 rfl rfl)
theorem dX7_take_202 : decode cX7_take 202 = .ok (.getfield 158, 3) := dk_180 0 158 (dk_at dksX7_take_8 16 rfl rfl)
theorem dX7_take_205 : decode cX7_take 205 = .ok (.imul, 1) := dk_104 (dk_at dksX7_take_8 19 rfl rfl)
theorem dX7_take_206 : decode cX7_take 206 = .ok (.aload_n 0, 1) := dk_42 (dk_at dksX7_take_8 20 rfl rfl)
theorem dX7_take_207 : decode cX7_take 207 = .ok (.getfield 7, 3) := dk_180 0 7 (dk_at dksX7_take_8 21 rfl rfl)
theorem dX7_take_210 : decode cX7_take 210 = .ok (.aload_n 0, 1) := dk_42 (dk_at dksX7_take_9 0 rfl rfl)
theorem dX7_take_211 : decode cX7_take 211 = .ok (.getfield 144, 3) := dk_180 0 144 (dk_at dksX7_take_9 1 rfl rfl)
theorem dX7_take_214 : decode cX7_take 214 = .ok (.iaload, 1) := dk_46 (dk_at dksX7_take_9 4 rfl rfl)
theorem dX7_take_215 : decode cX7_take 215 = .ok (.iadd, 1) := dk_96 (dk_at dksX7_take_9 5 rfl rfl)
theorem dX7_take_216 : decode cX7_take 216 = .ok (.bipush 48, 2) := dk_16 48 (dk_at dksX7_take_9 6 rfl rfl)
theorem dX7_take_218 : decode cX7_take 218 = .ok (.isub, 1) := dk_100 (dk_at dksX7_take_9 8 rfl rfl)
theorem dX7_take_219 : decode cX7_take 219 = .ok (.putfield 158, 3) := dk_181 0 158 (dk_at dksX7_take_9 9 rfl rfl)
theorem dX7_take_222 : decode cX7_take 222 = .ok (.aload_n 0, 1) := dk_42 (dk_at dksX7_take_9 12 rfl rfl)
theorem dX7_take_223 : decode cX7_take 223 = .ok (.dup, 1) := dk_89 (dk_at dksX7_take_9 13 rfl rfl)
theorem dX7_take_224 : decode cX7_take 224 = .ok (.getfield 144, 3) := dk_180 0 144 (dk_at dksX7_take_9 14 rfl rfl)
theorem dX7_take_227 : decode cX7_take 227 = .ok (.iconst 1, 1) := dk_4 (dk_at dksX7_take_9 17 rfl rfl)
theorem dX7_take_228 : decode cX7_take 228 = .ok (.iadd, 1) := dk_96 (dk_at dksX7_take_9 18 rfl rfl)
theorem dX7_take_229 : decode cX7_take 229 = .ok (.putfield 144, 3) := dk_181 0 144 (dk_at dksX7_take_9 19 rfl rfl)
theorem dX7_take_232 : decode cX7_take 232 = .ok (.goto (-62), 3) := dk_167 255 194 (dk_at dksX7_take_10 0 rfl rfl)
theorem dX7_take_235 : decode cX7_take 235 = .ok (.aload_n 0, 1) := dk_42 (dk_at dksX7_take_10 3 rfl rfl)
theorem dX7_take_236 : decode cX7_take 236 = .ok (.aload_n 0, 1) := dk_42 (dk_at dksX7_take_10 4 rfl rfl)
theorem dX7_take_237 : decode cX7_take 237 = .ok (.getfield 7, 3) := dk_180 0 7 (dk_at dksX7_take_10 5 rfl rfl)
theorem dX7_take_240 : decode cX7_take 240 = .ok (.aload_n 0, 1) := dk_42 (dk_at dksX7_take_10 8 rfl rfl)
theorem dX7_take_241 : decode cX7_take 241 = .ok (.getfield 144, 3) := dk_180 0 144 (dk_at dksX7_take_10 9 rfl rfl)
theorem dX7_take_244 : decode cX7_take 244 = .ok (.iaload, 1) := dk_46 (dk_at dksX7_take_10 12 rfl rfl)
theorem dX7_take_245 : decode cX7_take 245 = .ok (.bipush 59, 2) := dk_16 59 (dk_at dksX7_take_10 13 rfl rfl)
theorem dX7_take_247 : decode cX7_take 247 = .ok (.if_icmp .ne 7, 3) := dk_160 0 7 (dk_at dksX7_take_10 15 rfl rfl)
theorem dX7_take_250 : decode cX7_take 250 = .ok (.iconst 3, 1) := dk_6 (dk_at dksX7_take_10 18 rfl rfl)
theorem dX7_take_251 : decode cX7_take 251 = .ok (.goto 4, 3) := dk_167 0 4 (dk_at dksX7_take_10 19 rfl rfl)
theorem dX7_take_254 : decode cX7_take 254 = .ok (.iconst 4, 1) := dk_7 (dk_at dksX7_take_10 22 rfl rfl)
theorem dX7_take_255 : decode cX7_take 255 = .ok (.putfield 147, 3) := dk_181 0 147 (dk_at dksX7_take_11 0 rfl rfl)
theorem dX7_take_258 : decode cX7_take 258 = .ok (.aload_n 0, 1) := dk_42 (dk_at dksX7_take_11 3 rfl rfl)
theorem dX7_take_259 : decode cX7_take 259 = .ok (.dup, 1) := dk_89 (dk_at dksX7_take_11 4 rfl rfl)
theorem dX7_take_260 : decode cX7_take 260 = .ok (.getfield 144, 3) := dk_180 0 144 (dk_at dksX7_take_11 5 rfl rfl)
theorem dX7_take_263 : decode cX7_take 263 = .ok (.iconst 1, 1) := dk_4 (dk_at dksX7_take_11 8 rfl rfl)
theorem dX7_take_264 : decode cX7_take 264 = .ok (.iadd, 1) := dk_96 (dk_at dksX7_take_11 9 rfl rfl)
theorem dX7_take_265 : decode cX7_take 265 = .ok (.putfield 144, 3) := dk_181 0 144 (dk_at dksX7_take_11 10 rfl rfl)
theorem dX7_take_268 : decode cX7_take 268 = .ok (.return_, 1) := dk_177 (dk_at dksX7_take_11 13 rfl rfl)
abbrev cX7_isSmall : ByteArray := prog_19_method_8_code
def yX7_isSmall : MethodName := ⟨RX7, "isSmall", "(I)Z"⟩
def dkwX7_isSmall_1 : List UInt8 := [46, 16, 122, 163, 0, 7, 4, 167, 0, 4, 3, 172]
abbrev dktX7_isSmall_1 : List UInt8 := dkwX7_isSmall_1 ++ []
def dkwX7_isSmall_0 : List UInt8 := [27, 42, 180, 0, 141, 162, 0, 29, 42, 180, 0, 7, 27, 46, 16, 97, 161, 0, 18, 42, 180, 0, 7, 27]
abbrev dktX7_isSmall_0 : List UInt8 := dkwX7_isSmall_0 ++ dktX7_isSmall_1
theorem dksX7_isSmall_0 : cX7_isSmall.data.toList.drop 0 = dktX7_isSmall_0 := by decide +kernel
theorem dksX7_isSmall_1 : cX7_isSmall.data.toList.drop 24 = dktX7_isSmall_1 := dk_seg dksX7_isSmall_0 24 rfl rfl
theorem dX7_isSmall_0 : decode cX7_isSmall 0 = .ok (.iload_n 1, 1) := dk_27 (dk_at dksX7_isSmall_0 0 rfl rfl)
theorem dX7_isSmall_1 : decode cX7_isSmall 1 = .ok (.aload_n 0, 1) := dk_42 (dk_at dksX7_isSmall_0 1 rfl rfl)
theorem dX7_isSmall_2 : decode cX7_isSmall 2 = .ok (.getfield 141, 3) := dk_180 0 141 (dk_at dksX7_isSmall_0 2 rfl rfl)
theorem dX7_isSmall_5 : decode cX7_isSmall 5 = .ok (.if_icmp .ge 29, 3) := dk_162 0 29 (dk_at dksX7_isSmall_0 5 rfl rfl)
theorem dX7_isSmall_8 : decode cX7_isSmall 8 = .ok (.aload_n 0, 1) := dk_42 (dk_at dksX7_isSmall_0 8 rfl rfl)
theorem dX7_isSmall_9 : decode cX7_isSmall 9 = .ok (.getfield 7, 3) := dk_180 0 7 (dk_at dksX7_isSmall_0 9 rfl rfl)
theorem dX7_isSmall_12 : decode cX7_isSmall 12 = .ok (.iload_n 1, 1) := dk_27 (dk_at dksX7_isSmall_0 12 rfl rfl)
theorem dX7_isSmall_13 : decode cX7_isSmall 13 = .ok (.iaload, 1) := dk_46 (dk_at dksX7_isSmall_0 13 rfl rfl)
theorem dX7_isSmall_14 : decode cX7_isSmall 14 = .ok (.bipush 97, 2) := dk_16 97 (dk_at dksX7_isSmall_0 14 rfl rfl)
theorem dX7_isSmall_16 : decode cX7_isSmall 16 = .ok (.if_icmp .lt 18, 3) := dk_161 0 18 (dk_at dksX7_isSmall_0 16 rfl rfl)
theorem dX7_isSmall_19 : decode cX7_isSmall 19 = .ok (.aload_n 0, 1) := dk_42 (dk_at dksX7_isSmall_0 19 rfl rfl)
theorem dX7_isSmall_20 : decode cX7_isSmall 20 = .ok (.getfield 7, 3) := dk_180 0 7 (dk_at dksX7_isSmall_0 20 rfl rfl)
theorem dX7_isSmall_23 : decode cX7_isSmall 23 = .ok (.iload_n 1, 1) := dk_27 (dk_at dksX7_isSmall_0 23 rfl rfl)
theorem dX7_isSmall_24 : decode cX7_isSmall 24 = .ok (.iaload, 1) := dk_46 (dk_at dksX7_isSmall_1 0 rfl rfl)
theorem dX7_isSmall_25 : decode cX7_isSmall 25 = .ok (.bipush 122, 2) := dk_16 122 (dk_at dksX7_isSmall_1 1 rfl rfl)
theorem dX7_isSmall_27 : decode cX7_isSmall 27 = .ok (.if_icmp .gt 7, 3) := dk_163 0 7 (dk_at dksX7_isSmall_1 3 rfl rfl)
theorem dX7_isSmall_30 : decode cX7_isSmall 30 = .ok (.iconst 1, 1) := dk_4 (dk_at dksX7_isSmall_1 6 rfl rfl)
theorem dX7_isSmall_31 : decode cX7_isSmall 31 = .ok (.goto 4, 3) := dk_167 0 4 (dk_at dksX7_isSmall_1 7 rfl rfl)
theorem dX7_isSmall_34 : decode cX7_isSmall 34 = .ok (.iconst 0, 1) := dk_3 (dk_at dksX7_isSmall_1 10 rfl rfl)
theorem dX7_isSmall_35 : decode cX7_isSmall 35 = .ok (.ireturn, 1) := dk_172 (dk_at dksX7_isSmall_1 11 rfl rfl)
abbrev cX7_wordAt : ByteArray := prog_19_method_7_code
def yX7_wordAt : MethodName := ⟨RX7, "wordAt", "(II)I"⟩
def dkwX7_wordAt_5 : List UInt8 := [96, 96, 54, 4, 132, 3, 1, 167, 255, 138, 2, 172]
abbrev dktX7_wordAt_5 : List UInt8 := dkwX7_wordAt_5 ++ []
def dkwX7_wordAt_4 : List UInt8 := [167, 0, 4, 3, 54, 6, 132, 7, 1, 167, 255, 212, 21, 6, 153, 0, 5, 29, 172, 21, 4, 21, 5, 4]
abbrev dktX7_wordAt_4 : List UInt8 := dkwX7_wordAt_4 ++ dktX7_wordAt_5
def dkwX7_wordAt_3 : List UInt8 := [180, 0, 55, 21, 4, 21, 7, 96, 46, 42, 180, 0, 7, 27, 21, 7, 96, 46, 160, 0, 7, 4]
abbrev dktX7_wordAt_3 : List UInt8 := dkwX7_wordAt_3 ++ dktX7_wordAt_4
def dkwX7_wordAt_2 : List UInt8 := [167, 0, 4, 3, 54, 6, 3, 54, 7, 21, 7, 21, 5, 162, 0, 43, 21, 6, 153, 0, 38, 42]
abbrev dktX7_wordAt_2 : List UInt8 := dkwX7_wordAt_2 ++ dktX7_wordAt_3
def dkwX7_wordAt_1 : List UInt8 := [21, 5, 96, 46, 16, 32, 159, 0, 9, 132, 5, 1, 167, 255, 238, 21, 5, 28, 27, 100, 160, 0, 7, 4]
abbrev dktX7_wordAt_1 : List UInt8 := dkwX7_wordAt_1 ++ dktX7_wordAt_2
def dkwX7_wordAt_0 : List UInt8 := [3, 62, 3, 54, 4, 21, 4, 42, 180, 0, 55, 190, 162, 0, 114, 3, 54, 5, 42, 180, 0, 55, 21, 4]
abbrev dktX7_wordAt_0 : List UInt8 := dkwX7_wordAt_0 ++ dktX7_wordAt_1
theorem dksX7_wordAt_0 : cX7_wordAt.data.toList.drop 0 = dktX7_wordAt_0 := by decide +kernel
theorem dksX7_wordAt_1 : cX7_wordAt.data.toList.drop 24 = dktX7_wordAt_1 := dk_seg dksX7_wordAt_0 24 rfl rfl
theorem dksX7_wordAt_2 : cX7_wordAt.data.toList.drop 48 = dktX7_wordAt_2 := dk_seg dksX7_wordAt_1 24 rfl rfl
theorem dksX7_wordAt_3 : cX7_wordAt.data.toList.drop 70 = dktX7_wordAt_3 := dk_seg dksX7_wordAt_2 22 rfl rfl
theorem dksX7_wordAt_4 : cX7_wordAt.data.toList.drop 92 = dktX7_wordAt_4 := dk_seg dksX7_wordAt_3 22 rfl rfl
theorem dksX7_wordAt_5 : cX7_wordAt.data.toList.drop 116 = dktX7_wordAt_5 := dk_seg dksX7_wordAt_4 24 rfl rfl
theorem dX7_wordAt_0 : decode cX7_wordAt 0 = .ok (.iconst 0, 1) := dk_3 (dk_at dksX7_wordAt_0 0 rfl rfl)
theorem dX7_wordAt_1 : decode cX7_wordAt 1 = .ok (.istore_n 3, 1) := dk_62 (dk_at dksX7_wordAt_0 1 rfl rfl)
theorem dX7_wordAt_2 : decode cX7_wordAt 2 = .ok (.iconst 0, 1) := dk_3 (dk_at dksX7_wordAt_0 2 rfl rfl)
theorem dX7_wordAt_3 : decode cX7_wordAt 3 = .ok (.istore 4, 2) := dk_54 4 (dk_at dksX7_wordAt_0 3 rfl rfl)
theorem dX7_wordAt_5 : decode cX7_wordAt 5 = .ok (.iload 4, 2) := dk_21 4 (dk_at dksX7_wordAt_0 5 rfl rfl)
theorem dX7_wordAt_7 : decode cX7_wordAt 7 = .ok (.aload_n 0, 1) := dk_42 (dk_at dksX7_wordAt_0 7 rfl rfl)
theorem dX7_wordAt_8 : decode cX7_wordAt 8 = .ok (.getfield 55, 3) := dk_180 0 55 (dk_at dksX7_wordAt_0 8 rfl rfl)
theorem dX7_wordAt_11 : decode cX7_wordAt 11 = .ok (.arraylength, 1) := dk_190 (dk_at dksX7_wordAt_0 11 rfl rfl)
theorem dX7_wordAt_12 : decode cX7_wordAt 12 = .ok (.if_icmp .ge 114, 3) := dk_162 0 114 (dk_at dksX7_wordAt_0 12 rfl rfl)
theorem dX7_wordAt_15 : decode cX7_wordAt 15 = .ok (.iconst 0, 1) := dk_3 (dk_at dksX7_wordAt_0 15 rfl rfl)
theorem dX7_wordAt_16 : decode cX7_wordAt 16 = .ok (.istore 5, 2) := dk_54 5 (dk_at dksX7_wordAt_0 16 rfl rfl)
theorem dX7_wordAt_18 : decode cX7_wordAt 18 = .ok (.aload_n 0, 1) := dk_42 (dk_at dksX7_wordAt_0 18 rfl rfl)
theorem dX7_wordAt_19 : decode cX7_wordAt 19 = .ok (.getfield 55, 3) := dk_180 0 55 (dk_at dksX7_wordAt_0 19 rfl rfl)
theorem dX7_wordAt_22 : decode cX7_wordAt 22 = .ok (.iload 4, 2) := dk_21 4 (dk_at dksX7_wordAt_0 22 rfl rfl)
theorem dX7_wordAt_24 : decode cX7_wordAt 24 = .ok (.iload 5, 2) := dk_21 5 (dk_at dksX7_wordAt_1 0 rfl rfl)
theorem dX7_wordAt_26 : decode cX7_wordAt 26 = .ok (.iadd, 1) := dk_96 (dk_at dksX7_wordAt_1 2 rfl rfl)
theorem dX7_wordAt_27 : decode cX7_wordAt 27 = .ok (.iaload, 1) := dk_46 (dk_at dksX7_wordAt_1 3 rfl rfl)
theorem dX7_wordAt_28 : decode cX7_wordAt 28 = .ok (.bipush 32, 2) := dk_16 32 (dk_at dksX7_wordAt_1 4 rfl rfl)
theorem dX7_wordAt_30 : decode cX7_wordAt 30 = .ok (.if_icmp .eq 9, 3) := dk_159 0 9 (dk_at dksX7_wordAt_1 6 rfl rfl)
theorem dX7_wordAt_33 : decode cX7_wordAt 33 = .ok (.iinc 5 1, 3) := dk_132 5 1 (dk_at dksX7_wordAt_1 9 rfl rfl)
theorem dX7_wordAt_36 : decode cX7_wordAt 36 = .ok (.goto (-18), 3) := dk_167 255 238 (dk_at dksX7_wordAt_1 12 rfl rfl)
theorem dX7_wordAt_39 : decode cX7_wordAt 39 = .ok (.iload 5, 2) := dk_21 5 (dk_at dksX7_wordAt_1 15 rfl rfl)
theorem dX7_wordAt_41 : decode cX7_wordAt 41 = .ok (.iload_n 2, 1) := dk_28 (dk_at dksX7_wordAt_1 17 rfl rfl)
theorem dX7_wordAt_42 : decode cX7_wordAt 42 = .ok (.iload_n 1, 1) := dk_27 (dk_at dksX7_wordAt_1 18 rfl rfl)
theorem dX7_wordAt_43 : decode cX7_wordAt 43 = .ok (.isub, 1) := dk_100 (dk_at dksX7_wordAt_1 19 rfl rfl)
theorem dX7_wordAt_44 : decode cX7_wordAt 44 = .ok (.if_icmp .ne 7, 3) := dk_160 0 7 (dk_at dksX7_wordAt_1 20 rfl rfl)
theorem dX7_wordAt_47 : decode cX7_wordAt 47 = .ok (.iconst 1, 1) := dk_4 (dk_at dksX7_wordAt_1 23 rfl rfl)
theorem dX7_wordAt_48 : decode cX7_wordAt 48 = .ok (.goto 4, 3) := dk_167 0 4 (dk_at dksX7_wordAt_2 0 rfl rfl)
theorem dX7_wordAt_51 : decode cX7_wordAt 51 = .ok (.iconst 0, 1) := dk_3 (dk_at dksX7_wordAt_2 3 rfl rfl)
theorem dX7_wordAt_52 : decode cX7_wordAt 52 = .ok (.istore 6, 2) := dk_54 6 (dk_at dksX7_wordAt_2 4 rfl rfl)
theorem dX7_wordAt_54 : decode cX7_wordAt 54 = .ok (.iconst 0, 1) := dk_3 (dk_at dksX7_wordAt_2 6 rfl rfl)
theorem dX7_wordAt_55 : decode cX7_wordAt 55 = .ok (.istore 7, 2) := dk_54 7 (dk_at dksX7_wordAt_2 7 rfl rfl)
theorem dX7_wordAt_57 : decode cX7_wordAt 57 = .ok (.iload 7, 2) := dk_21 7 (dk_at dksX7_wordAt_2 9 rfl rfl)
theorem dX7_wordAt_59 : decode cX7_wordAt 59 = .ok (.iload 5, 2) := dk_21 5 (dk_at dksX7_wordAt_2 11 rfl rfl)
theorem dX7_wordAt_61 : decode cX7_wordAt 61 = .ok (.if_icmp .ge 43, 3) := dk_162 0 43 (dk_at dksX7_wordAt_2 13 rfl rfl)
theorem dX7_wordAt_64 : decode cX7_wordAt 64 = .ok (.iload 6, 2) := dk_21 6 (dk_at dksX7_wordAt_2 16 rfl rfl)
theorem dX7_wordAt_66 : decode cX7_wordAt 66 = .ok (.ifCond .eq 38, 3) := dk_153 0 38 (dk_at dksX7_wordAt_2 18 rfl rfl)
theorem dX7_wordAt_69 : decode cX7_wordAt 69 = .ok (.aload_n 0, 1) := dk_42 (dk_at dksX7_wordAt_2 21 rfl rfl)
theorem dX7_wordAt_70 : decode cX7_wordAt 70 = .ok (.getfield 55, 3) := dk_180 0 55 (dk_at dksX7_wordAt_3 0 rfl rfl)
theorem dX7_wordAt_73 : decode cX7_wordAt 73 = .ok (.iload 4, 2) := dk_21 4 (dk_at dksX7_wordAt_3 3 rfl rfl)
theorem dX7_wordAt_75 : decode cX7_wordAt 75 = .ok (.iload 7, 2) := dk_21 7 (dk_at dksX7_wordAt_3 5 rfl rfl)
theorem dX7_wordAt_77 : decode cX7_wordAt 77 = .ok (.iadd, 1) := dk_96 (dk_at dksX7_wordAt_3 7 rfl rfl)
theorem dX7_wordAt_78 : decode cX7_wordAt 78 = .ok (.iaload, 1) := dk_46 (dk_at dksX7_wordAt_3 8 rfl rfl)
theorem dX7_wordAt_79 : decode cX7_wordAt 79 = .ok (.aload_n 0, 1) := dk_42 (dk_at dksX7_wordAt_3 9 rfl rfl)
theorem dX7_wordAt_80 : decode cX7_wordAt 80 = .ok (.getfield 7, 3) := dk_180 0 7 (dk_at dksX7_wordAt_3 10 rfl rfl)
theorem dX7_wordAt_83 : decode cX7_wordAt 83 = .ok (.iload_n 1, 1) := dk_27 (dk_at dksX7_wordAt_3 13 rfl rfl)
theorem dX7_wordAt_84 : decode cX7_wordAt 84 = .ok (.iload 7, 2) := dk_21 7 (dk_at dksX7_wordAt_3 14 rfl rfl)
theorem dX7_wordAt_86 : decode cX7_wordAt 86 = .ok (.iadd, 1) := dk_96 (dk_at dksX7_wordAt_3 16 rfl rfl)
theorem dX7_wordAt_87 : decode cX7_wordAt 87 = .ok (.iaload, 1) := dk_46 (dk_at dksX7_wordAt_3 17 rfl rfl)
theorem dX7_wordAt_88 : decode cX7_wordAt 88 = .ok (.if_icmp .ne 7, 3) := dk_160 0 7 (dk_at dksX7_wordAt_3 18 rfl rfl)
theorem dX7_wordAt_91 : decode cX7_wordAt 91 = .ok (.iconst 1, 1) := dk_4 (dk_at dksX7_wordAt_3 21 rfl rfl)
theorem dX7_wordAt_92 : decode cX7_wordAt 92 = .ok (.goto 4, 3) := dk_167 0 4 (dk_at dksX7_wordAt_4 0 rfl rfl)
theorem dX7_wordAt_95 : decode cX7_wordAt 95 = .ok (.iconst 0, 1) := dk_3 (dk_at dksX7_wordAt_4 3 rfl rfl)
theorem dX7_wordAt_96 : decode cX7_wordAt 96 = .ok (.istore 6, 2) := dk_54 6 (dk_at dksX7_wordAt_4 4 rfl rfl)
theorem dX7_wordAt_98 : decode cX7_wordAt 98 = .ok (.iinc 7 1, 3) := dk_132 7 1 (dk_at dksX7_wordAt_4 6 rfl rfl)
theorem dX7_wordAt_101 : decode cX7_wordAt 101 = .ok (.goto (-44), 3) := dk_167 255 212 (dk_at dksX7_wordAt_4 9 rfl rfl)
theorem dX7_wordAt_104 : decode cX7_wordAt 104 = .ok (.iload 6, 2) := dk_21 6 (dk_at dksX7_wordAt_4 12 rfl rfl)
theorem dX7_wordAt_106 : decode cX7_wordAt 106 = .ok (.ifCond .eq 5, 3) := dk_153 0 5 (dk_at dksX7_wordAt_4 14 rfl rfl)
theorem dX7_wordAt_109 : decode cX7_wordAt 109 = .ok (.iload_n 3, 1) := dk_29 (dk_at dksX7_wordAt_4 17 rfl rfl)
theorem dX7_wordAt_110 : decode cX7_wordAt 110 = .ok (.ireturn, 1) := dk_172 (dk_at dksX7_wordAt_4 18 rfl rfl)
theorem dX7_wordAt_111 : decode cX7_wordAt 111 = .ok (.iload 4, 2) := dk_21 4 (dk_at dksX7_wordAt_4 19 rfl rfl)
theorem dX7_wordAt_113 : decode cX7_wordAt 113 = .ok (.iload 5, 2) := dk_21 5 (dk_at dksX7_wordAt_4 21 rfl rfl)
theorem dX7_wordAt_115 : decode cX7_wordAt 115 = .ok (.iconst 1, 1) := dk_4 (dk_at dksX7_wordAt_4 23 rfl rfl)
theorem dX7_wordAt_116 : decode cX7_wordAt 116 = .ok (.iadd, 1) := dk_96 (dk_at dksX7_wordAt_5 0 rfl rfl)
theorem dX7_wordAt_117 : decode cX7_wordAt 117 = .ok (.iadd, 1) := dk_96 (dk_at dksX7_wordAt_5 1 rfl rfl)
theorem dX7_wordAt_118 : decode cX7_wordAt 118 = .ok (.istore 4, 2) := dk_54 4 (dk_at dksX7_wordAt_5 2 rfl rfl)
theorem dX7_wordAt_120 : decode cX7_wordAt 120 = .ok (.iinc 3 1, 3) := dk_132 3 1 (dk_at dksX7_wordAt_5 4 rfl rfl)
theorem dX7_wordAt_123 : decode cX7_wordAt 123 = .ok (.goto (-118), 3) := dk_167 255 138 (dk_at dksX7_wordAt_5 7 rfl rfl)
theorem dX7_wordAt_126 : decode cX7_wordAt 126 = .ok (.iconst (-1), 1) := dk_2 (dk_at dksX7_wordAt_5 10 rfl rfl)
theorem dX7_wordAt_127 : decode cX7_wordAt 127 = .ok (.ireturn, 1) := dk_172 (dk_at dksX7_wordAt_5 11 rfl rfl)
abbrev cX7_isDigit : ByteArray := prog_19_method_9_code
def yX7_isDigit : MethodName := ⟨RX7, "isDigit", "(I)Z"⟩
def dkwX7_isDigit_1 : List UInt8 := [46, 16, 57, 163, 0, 7, 4, 167, 0, 4, 3, 172]
abbrev dktX7_isDigit_1 : List UInt8 := dkwX7_isDigit_1 ++ []
def dkwX7_isDigit_0 : List UInt8 := [27, 42, 180, 0, 141, 162, 0, 29, 42, 180, 0, 7, 27, 46, 16, 48, 161, 0, 18, 42, 180, 0, 7, 27]
abbrev dktX7_isDigit_0 : List UInt8 := dkwX7_isDigit_0 ++ dktX7_isDigit_1
theorem dksX7_isDigit_0 : cX7_isDigit.data.toList.drop 0 = dktX7_isDigit_0 := by decide +kernel
theorem dksX7_isDigit_1 : cX7_isDigit.data.toList.drop 24 = dktX7_isDigit_1 := dk_seg dksX7_isDigit_0 24 rfl rfl
theorem dX7_isDigit_0 : decode cX7_isDigit 0 = .ok (.iload_n 1, 1) := dk_27 (dk_at dksX7_isDigit_0 0 rfl rfl)
theorem dX7_isDigit_1 : decode cX7_isDigit 1 = .ok (.aload_n 0, 1) := dk_42 (dk_at dksX7_isDigit_0 1 rfl rfl)
theorem dX7_isDigit_2 : decode cX7_isDigit 2 = .ok (.getfield 141, 3) := dk_180 0 141 (dk_at dksX7_isDigit_0 2 rfl rfl)
theorem dX7_isDigit_5 : decode cX7_isDigit 5 = .ok (.if_icmp .ge 29, 3) := dk_162 0 29 (dk_at dksX7_isDigit_0 5 rfl rfl)
theorem dX7_isDigit_8 : decode cX7_isDigit 8 = .ok (.aload_n 0, 1) := dk_42 (dk_at dksX7_isDigit_0 8 rfl rfl)
theorem dX7_isDigit_9 : decode cX7_isDigit 9 = .ok (.getfield 7, 3) := dk_180 0 7 (dk_at dksX7_isDigit_0 9 rfl rfl)
theorem dX7_isDigit_12 : decode cX7_isDigit 12 = .ok (.iload_n 1, 1) := dk_27 (dk_at dksX7_isDigit_0 12 rfl rfl)
theorem dX7_isDigit_13 : decode cX7_isDigit 13 = .ok (.iaload, 1) := dk_46 (dk_at dksX7_isDigit_0 13 rfl rfl)
theorem dX7_isDigit_14 : decode cX7_isDigit 14 = .ok (.bipush 48, 2) := dk_16 48 (dk_at dksX7_isDigit_0 14 rfl rfl)
theorem dX7_isDigit_16 : decode cX7_isDigit 16 = .ok (.if_icmp .lt 18, 3) := dk_161 0 18 (dk_at dksX7_isDigit_0 16 rfl rfl)
theorem dX7_isDigit_19 : decode cX7_isDigit 19 = .ok (.aload_n 0, 1) := dk_42 (dk_at dksX7_isDigit_0 19 rfl rfl)
theorem dX7_isDigit_20 : decode cX7_isDigit 20 = .ok (.getfield 7, 3) := dk_180 0 7 (dk_at dksX7_isDigit_0 20 rfl rfl)
theorem dX7_isDigit_23 : decode cX7_isDigit 23 = .ok (.iload_n 1, 1) := dk_27 (dk_at dksX7_isDigit_0 23 rfl rfl)
theorem dX7_isDigit_24 : decode cX7_isDigit 24 = .ok (.iaload, 1) := dk_46 (dk_at dksX7_isDigit_1 0 rfl rfl)
theorem dX7_isDigit_25 : decode cX7_isDigit 25 = .ok (.bipush 57, 2) := dk_16 57 (dk_at dksX7_isDigit_1 1 rfl rfl)
theorem dX7_isDigit_27 : decode cX7_isDigit 27 = .ok (.if_icmp .gt 7, 3) := dk_163 0 7 (dk_at dksX7_isDigit_1 3 rfl rfl)
theorem dX7_isDigit_30 : decode cX7_isDigit 30 = .ok (.iconst 1, 1) := dk_4 (dk_at dksX7_isDigit_1 6 rfl rfl)
theorem dX7_isDigit_31 : decode cX7_isDigit 31 = .ok (.goto 4, 3) := dk_167 0 4 (dk_at dksX7_isDigit_1 7 rfl rfl)
theorem dX7_isDigit_34 : decode cX7_isDigit 34 = .ok (.iconst 0, 1) := dk_3 (dk_at dksX7_isDigit_1 10 rfl rfl)
theorem dX7_isDigit_35 : decode cX7_isDigit 35 = .ok (.ireturn, 1) := dk_172 (dk_at dksX7_isDigit_1 11 rfl rfl)
abbrev cX7_wrong : ByteArray := prog_19_method_6_code
def yX7_wrong : MethodName := ⟨RX7, "wrong", "(I)Z"⟩
def dkwX7_wrong_0 : List UInt8 := [42, 27, 181, 0, 135, 42, 42, 180, 0, 138, 181, 0, 58, 3, 172]
abbrev dktX7_wrong_0 : List UInt8 := dkwX7_wrong_0 ++ []
theorem dksX7_wrong_0 : cX7_wrong.data.toList.drop 0 = dktX7_wrong_0 := by decide +kernel
theorem dX7_wrong_0 : decode cX7_wrong 0 = .ok (.aload_n 0, 1) := dk_42 (dk_at dksX7_wrong_0 0 rfl rfl)
theorem dX7_wrong_1 : decode cX7_wrong 1 = .ok (.iload_n 1, 1) := dk_27 (dk_at dksX7_wrong_0 1 rfl rfl)
theorem dX7_wrong_2 : decode cX7_wrong 2 = .ok (.putfield 135, 3) := dk_181 0 135 (dk_at dksX7_wrong_0 2 rfl rfl)
theorem dX7_wrong_5 : decode cX7_wrong 5 = .ok (.aload_n 0, 1) := dk_42 (dk_at dksX7_wrong_0 5 rfl rfl)
theorem dX7_wrong_6 : decode cX7_wrong 6 = .ok (.aload_n 0, 1) := dk_42 (dk_at dksX7_wrong_0 6 rfl rfl)
theorem dX7_wrong_7 : decode cX7_wrong 7 = .ok (.getfield 138, 3) := dk_180 0 138 (dk_at dksX7_wrong_0 7 rfl rfl)
theorem dX7_wrong_10 : decode cX7_wrong 10 = .ok (.putfield 58, 3) := dk_181 0 58 (dk_at dksX7_wrong_0 10 rfl rfl)
theorem dX7_wrong_13 : decode cX7_wrong 13 = .ok (.iconst 0, 1) := dk_3 (dk_at dksX7_wrong_0 13 rfl rfl)
theorem dX7_wrong_14 : decode cX7_wrong 14 = .ok (.ireturn, 1) := dk_172 (dk_at dksX7_wrong_0 14 rfl rfl)
abbrev cX7_ofWhom : ByteArray := prog_19_method_18_code
def yX7_ofWhom : MethodName := ⟨RX7, "ofWhom", "(I)Z"⟩
def dkwX7_ofWhom_4 : List UInt8 := [182, 0, 195, 154, 0, 5, 3, 172, 42, 89, 180, 0, 167, 4, 96, 181, 0, 167, 4, 172]
abbrev dktX7_ofWhom_4 : List UInt8 := dkwX7_ofWhom_4 ++ []
def dkwX7_ofWhom_3 : List UInt8 := [182, 0, 173, 154, 0, 5, 3, 172, 42, 180, 0, 65, 28, 42, 180, 0, 158, 79, 42, 182, 0, 180, 42, 28]
abbrev dktX7_ofWhom_3 : List UInt8 := dkwX7_ofWhom_3 ++ dktX7_ofWhom_4
def dkwX7_ofWhom_2 : List UInt8 := [5, 160, 0, 7, 4, 167, 0, 4, 3, 27, 5, 160, 0, 9, 17, 39, 15, 167, 0, 6, 17, 0, 200]
abbrev dktX7_ofWhom_2 : List UInt8 := dkwX7_ofWhom_2 ++ dktX7_ofWhom_3
def dkwX7_ofWhom_1 : List UInt8 := [180, 0, 62, 28, 27, 79, 42, 180, 0, 65, 28, 3, 79, 42, 182, 0, 180, 27, 4, 164, 0, 50, 42, 27]
abbrev dktX7_ofWhom_1 : List UInt8 := dkwX7_ofWhom_1 ++ dktX7_ofWhom_2
def dkwX7_ofWhom_0 : List UInt8 := [42, 180, 0, 167, 16, 24, 160, 0, 9, 42, 5, 182, 0, 164, 172, 16, 24, 42, 180, 0, 167, 96, 61, 42]
abbrev dktX7_ofWhom_0 : List UInt8 := dkwX7_ofWhom_0 ++ dktX7_ofWhom_1
theorem dksX7_ofWhom_0 : cX7_ofWhom.data.toList.drop 0 = dktX7_ofWhom_0 := by decide +kernel
theorem dksX7_ofWhom_1 : cX7_ofWhom.data.toList.drop 24 = dktX7_ofWhom_1 := dk_seg dksX7_ofWhom_0 24 rfl rfl
theorem dksX7_ofWhom_2 : cX7_ofWhom.data.toList.drop 48 = dktX7_ofWhom_2 := dk_seg dksX7_ofWhom_1 24 rfl rfl
theorem dksX7_ofWhom_3 : cX7_ofWhom.data.toList.drop 71 = dktX7_ofWhom_3 := dk_seg dksX7_ofWhom_2 23 rfl rfl
theorem dksX7_ofWhom_4 : cX7_ofWhom.data.toList.drop 95 = dktX7_ofWhom_4 := dk_seg dksX7_ofWhom_3 24 rfl rfl
theorem dX7_ofWhom_0 : decode cX7_ofWhom 0 = .ok (.aload_n 0, 1) := dk_42 (dk_at dksX7_ofWhom_0 0 rfl rfl)
theorem dX7_ofWhom_1 : decode cX7_ofWhom 1 = .ok (.getfield 167, 3) := dk_180 0 167 (dk_at dksX7_ofWhom_0 1 rfl rfl)
theorem dX7_ofWhom_4 : decode cX7_ofWhom 4 = .ok (.bipush 24, 2) := dk_16 24 (dk_at dksX7_ofWhom_0 4 rfl rfl)
theorem dX7_ofWhom_6 : decode cX7_ofWhom 6 = .ok (.if_icmp .ne 9, 3) := dk_160 0 9 (dk_at dksX7_ofWhom_0 6 rfl rfl)
theorem dX7_ofWhom_9 : decode cX7_ofWhom 9 = .ok (.aload_n 0, 1) := dk_42 (dk_at dksX7_ofWhom_0 9 rfl rfl)
theorem dX7_ofWhom_10 : decode cX7_ofWhom 10 = .ok (.iconst 2, 1) := dk_5 (dk_at dksX7_ofWhom_0 10 rfl rfl)
theorem dX7_ofWhom_11 : decode cX7_ofWhom 11 = .ok (.invokevirtual 164, 3) := dk_182 0 164 (dk_at dksX7_ofWhom_0 11 rfl rfl)
theorem dX7_ofWhom_14 : decode cX7_ofWhom 14 = .ok (.ireturn, 1) := dk_172 (dk_at dksX7_ofWhom_0 14 rfl rfl)
theorem dX7_ofWhom_15 : decode cX7_ofWhom 15 = .ok (.bipush 24, 2) := dk_16 24 (dk_at dksX7_ofWhom_0 15 rfl rfl)
theorem dX7_ofWhom_17 : decode cX7_ofWhom 17 = .ok (.aload_n 0, 1) := dk_42 (dk_at dksX7_ofWhom_0 17 rfl rfl)
theorem dX7_ofWhom_18 : decode cX7_ofWhom 18 = .ok (.getfield 167, 3) := dk_180 0 167 (dk_at dksX7_ofWhom_0 18 rfl rfl)
theorem dX7_ofWhom_21 : decode cX7_ofWhom 21 = .ok (.iadd, 1) := dk_96 (dk_at dksX7_ofWhom_0 21 rfl rfl)
theorem dX7_ofWhom_22 : decode cX7_ofWhom 22 = .ok (.istore_n 2, 1) := dk_61 (dk_at dksX7_ofWhom_0 22 rfl rfl)
theorem dX7_ofWhom_23 : decode cX7_ofWhom 23 = .ok (.aload_n 0, 1) := dk_42 (dk_at dksX7_ofWhom_0 23 rfl rfl)
theorem dX7_ofWhom_24 : decode cX7_ofWhom 24 = .ok (.getfield 62, 3) := dk_180 0 62 (dk_at dksX7_ofWhom_1 0 rfl rfl)
theorem dX7_ofWhom_27 : decode cX7_ofWhom 27 = .ok (.iload_n 2, 1) := dk_28 (dk_at dksX7_ofWhom_1 3 rfl rfl)
theorem dX7_ofWhom_28 : decode cX7_ofWhom 28 = .ok (.iload_n 1, 1) := dk_27 (dk_at dksX7_ofWhom_1 4 rfl rfl)
theorem dX7_ofWhom_29 : decode cX7_ofWhom 29 = .ok (.iastore, 1) := dk_79 (dk_at dksX7_ofWhom_1 5 rfl rfl)
theorem dX7_ofWhom_30 : decode cX7_ofWhom 30 = .ok (.aload_n 0, 1) := dk_42 (dk_at dksX7_ofWhom_1 6 rfl rfl)
theorem dX7_ofWhom_31 : decode cX7_ofWhom 31 = .ok (.getfield 65, 3) := dk_180 0 65 (dk_at dksX7_ofWhom_1 7 rfl rfl)
theorem dX7_ofWhom_34 : decode cX7_ofWhom 34 = .ok (.iload_n 2, 1) := dk_28 (dk_at dksX7_ofWhom_1 10 rfl rfl)
theorem dX7_ofWhom_35 : decode cX7_ofWhom 35 = .ok (.iconst 0, 1) := dk_3 (dk_at dksX7_ofWhom_1 11 rfl rfl)
theorem dX7_ofWhom_36 : decode cX7_ofWhom 36 = .ok (.iastore, 1) := dk_79 (dk_at dksX7_ofWhom_1 12 rfl rfl)
theorem dX7_ofWhom_37 : decode cX7_ofWhom 37 = .ok (.aload_n 0, 1) := dk_42 (dk_at dksX7_ofWhom_1 13 rfl rfl)
theorem dX7_ofWhom_38 : decode cX7_ofWhom 38 = .ok (.invokevirtual 180, 3) := dk_182 0 180 (dk_at dksX7_ofWhom_1 14 rfl rfl)
theorem dX7_ofWhom_41 : decode cX7_ofWhom 41 = .ok (.iload_n 1, 1) := dk_27 (dk_at dksX7_ofWhom_1 17 rfl rfl)
theorem dX7_ofWhom_42 : decode cX7_ofWhom 42 = .ok (.iconst 1, 1) := dk_4 (dk_at dksX7_ofWhom_1 18 rfl rfl)
theorem dX7_ofWhom_43 : decode cX7_ofWhom 43 = .ok (.if_icmp .le 50, 3) := dk_164 0 50 (dk_at dksX7_ofWhom_1 19 rfl rfl)
theorem dX7_ofWhom_46 : decode cX7_ofWhom 46 = .ok (.aload_n 0, 1) := dk_42 (dk_at dksX7_ofWhom_1 22 rfl rfl)
theorem dX7_ofWhom_47 : decode cX7_ofWhom 47 = .ok (.iload_n 1, 1) := dk_27 (dk_at dksX7_ofWhom_1 23 rfl rfl)
theorem dX7_ofWhom_48 : decode cX7_ofWhom 48 = .ok (.iconst 2, 1) := dk_5 (dk_at dksX7_ofWhom_2 0 rfl rfl)
theorem dX7_ofWhom_49 : decode cX7_ofWhom 49 = .ok (.if_icmp .ne 7, 3) := dk_160 0 7 (dk_at dksX7_ofWhom_2 1 rfl rfl)
theorem dX7_ofWhom_52 : decode cX7_ofWhom 52 = .ok (.iconst 1, 1) := dk_4 (dk_at dksX7_ofWhom_2 4 rfl rfl)
theorem dX7_ofWhom_53 : decode cX7_ofWhom 53 = .ok (.goto 4, 3) := dk_167 0 4 (dk_at dksX7_ofWhom_2 5 rfl rfl)
theorem dX7_ofWhom_56 : decode cX7_ofWhom 56 = .ok (.iconst 0, 1) := dk_3 (dk_at dksX7_ofWhom_2 8 rfl rfl)
theorem dX7_ofWhom_57 : decode cX7_ofWhom 57 = .ok (.iload_n 1, 1) := dk_27 (dk_at dksX7_ofWhom_2 9 rfl rfl)
theorem dX7_ofWhom_58 : decode cX7_ofWhom 58 = .ok (.iconst 2, 1) := dk_5 (dk_at dksX7_ofWhom_2 10 rfl rfl)
theorem dX7_ofWhom_59 : decode cX7_ofWhom 59 = .ok (.if_icmp .ne 9, 3) := dk_160 0 9 (dk_at dksX7_ofWhom_2 11 rfl rfl)
theorem dX7_ofWhom_62 : decode cX7_ofWhom 62 = .ok (.sipush 9999, 3) := dk_17 39 15 (dk_at dksX7_ofWhom_2 14 rfl rfl)
theorem dX7_ofWhom_65 : decode cX7_ofWhom 65 = .ok (.goto 6, 3) := dk_167 0 6 (dk_at dksX7_ofWhom_2 17 rfl rfl)
theorem dX7_ofWhom_68 : decode cX7_ofWhom 68 = .ok (.sipush 200, 3) := dk_17 0 200 (dk_at dksX7_ofWhom_2 20 rfl rfl)
theorem dX7_ofWhom_71 : decode cX7_ofWhom 71 = .ok (.invokevirtual 173, 3) := dk_182 0 173 (dk_at dksX7_ofWhom_3 0 rfl rfl)
theorem dX7_ofWhom_74 : decode cX7_ofWhom 74 = .ok (.ifCond .ne 5, 3) := dk_154 0 5 (dk_at dksX7_ofWhom_3 3 rfl rfl)
theorem dX7_ofWhom_77 : decode cX7_ofWhom 77 = .ok (.iconst 0, 1) := dk_3 (dk_at dksX7_ofWhom_3 6 rfl rfl)
theorem dX7_ofWhom_78 : decode cX7_ofWhom 78 = .ok (.ireturn, 1) := dk_172 (dk_at dksX7_ofWhom_3 7 rfl rfl)
theorem dX7_ofWhom_79 : decode cX7_ofWhom 79 = .ok (.aload_n 0, 1) := dk_42 (dk_at dksX7_ofWhom_3 8 rfl rfl)
theorem dX7_ofWhom_80 : decode cX7_ofWhom 80 = .ok (.getfield 65, 3) := dk_180 0 65 (dk_at dksX7_ofWhom_3 9 rfl rfl)
theorem dX7_ofWhom_83 : decode cX7_ofWhom 83 = .ok (.iload_n 2, 1) := dk_28 (dk_at dksX7_ofWhom_3 12 rfl rfl)
theorem dX7_ofWhom_84 : decode cX7_ofWhom 84 = .ok (.aload_n 0, 1) := dk_42 (dk_at dksX7_ofWhom_3 13 rfl rfl)
theorem dX7_ofWhom_85 : decode cX7_ofWhom 85 = .ok (.getfield 158, 3) := dk_180 0 158 (dk_at dksX7_ofWhom_3 14 rfl rfl)
theorem dX7_ofWhom_88 : decode cX7_ofWhom 88 = .ok (.iastore, 1) := dk_79 (dk_at dksX7_ofWhom_3 17 rfl rfl)
theorem dX7_ofWhom_89 : decode cX7_ofWhom 89 = .ok (.aload_n 0, 1) := dk_42 (dk_at dksX7_ofWhom_3 18 rfl rfl)
theorem dX7_ofWhom_90 : decode cX7_ofWhom 90 = .ok (.invokevirtual 180, 3) := dk_182 0 180 (dk_at dksX7_ofWhom_3 19 rfl rfl)
theorem dX7_ofWhom_93 : decode cX7_ofWhom 93 = .ok (.aload_n 0, 1) := dk_42 (dk_at dksX7_ofWhom_3 22 rfl rfl)
theorem dX7_ofWhom_94 : decode cX7_ofWhom 94 = .ok (.iload_n 2, 1) := dk_28 (dk_at dksX7_ofWhom_3 23 rfl rfl)
theorem dX7_ofWhom_95 : decode cX7_ofWhom 95 = .ok (.invokevirtual 195, 3) := dk_182 0 195 (dk_at dksX7_ofWhom_4 0 rfl rfl)
theorem dX7_ofWhom_98 : decode cX7_ofWhom 98 = .ok (.ifCond .ne 5, 3) := dk_154 0 5 (dk_at dksX7_ofWhom_4 3 rfl rfl)
theorem dX7_ofWhom_101 : decode cX7_ofWhom 101 = .ok (.iconst 0, 1) := dk_3 (dk_at dksX7_ofWhom_4 6 rfl rfl)
theorem dX7_ofWhom_102 : decode cX7_ofWhom 102 = .ok (.ireturn, 1) := dk_172 (dk_at dksX7_ofWhom_4 7 rfl rfl)
theorem dX7_ofWhom_103 : decode cX7_ofWhom 103 = .ok (.aload_n 0, 1) := dk_42 (dk_at dksX7_ofWhom_4 8 rfl rfl)
theorem dX7_ofWhom_104 : decode cX7_ofWhom 104 = .ok (.dup, 1) := dk_89 (dk_at dksX7_ofWhom_4 9 rfl rfl)
theorem dX7_ofWhom_105 : decode cX7_ofWhom 105 = .ok (.getfield 167, 3) := dk_180 0 167 (dk_at dksX7_ofWhom_4 10 rfl rfl)
theorem dX7_ofWhom_108 : decode cX7_ofWhom 108 = .ok (.iconst 1, 1) := dk_4 (dk_at dksX7_ofWhom_4 13 rfl rfl)
theorem dX7_ofWhom_109 : decode cX7_ofWhom 109 = .ok (.iadd, 1) := dk_96 (dk_at dksX7_ofWhom_4 14 rfl rfl)
theorem dX7_ofWhom_110 : decode cX7_ofWhom 110 = .ok (.putfield 167, 3) := dk_181 0 167 (dk_at dksX7_ofWhom_4 15 rfl rfl)
theorem dX7_ofWhom_113 : decode cX7_ofWhom 113 = .ok (.iconst 1, 1) := dk_4 (dk_at dksX7_ofWhom_4 18 rfl rfl)
theorem dX7_ofWhom_114 : decode cX7_ofWhom 114 = .ok (.ireturn, 1) := dk_172 (dk_at dksX7_ofWhom_4 19 rfl rfl)
abbrev cX7_isNumber : ByteArray := prog_19_method_12_code
def yX7_isNumber : MethodName := ⟨RX7, "isNumber", "(II)Z"⟩
def dkwX7_isNumber_1 : List UInt8 := [180, 0, 158, 28, 164, 0, 11, 42, 5, 182, 0, 164, 153, 0, 7, 4, 167, 0, 4, 3, 172]
abbrev dktX7_isNumber_1 : List UInt8 := dkwX7_isNumber_1 ++ []
def dkwX7_isNumber_0 : List UInt8 := [42, 180, 0, 147, 5, 159, 0, 9, 42, 4, 182, 0, 164, 172, 42, 180, 0, 158, 27, 161, 0, 11, 42]
abbrev dktX7_isNumber_0 : List UInt8 := dkwX7_isNumber_0 ++ dktX7_isNumber_1
theorem dksX7_isNumber_0 : cX7_isNumber.data.toList.drop 0 = dktX7_isNumber_0 := by decide +kernel
theorem dksX7_isNumber_1 : cX7_isNumber.data.toList.drop 23 = dktX7_isNumber_1 := dk_seg dksX7_isNumber_0 23 rfl rfl
theorem dX7_isNumber_0 : decode cX7_isNumber 0 = .ok (.aload_n 0, 1) := dk_42 (dk_at dksX7_isNumber_0 0 rfl rfl)
theorem dX7_isNumber_1 : decode cX7_isNumber 1 = .ok (.getfield 147, 3) := dk_180 0 147 (dk_at dksX7_isNumber_0 1 rfl rfl)
theorem dX7_isNumber_4 : decode cX7_isNumber 4 = .ok (.iconst 2, 1) := dk_5 (dk_at dksX7_isNumber_0 4 rfl rfl)
theorem dX7_isNumber_5 : decode cX7_isNumber 5 = .ok (.if_icmp .eq 9, 3) := dk_159 0 9 (dk_at dksX7_isNumber_0 5 rfl rfl)
theorem dX7_isNumber_8 : decode cX7_isNumber 8 = .ok (.aload_n 0, 1) := dk_42 (dk_at dksX7_isNumber_0 8 rfl rfl)
theorem dX7_isNumber_9 : decode cX7_isNumber 9 = .ok (.iconst 1, 1) := dk_4 (dk_at dksX7_isNumber_0 9 rfl rfl)
theorem dX7_isNumber_10 : decode cX7_isNumber 10 = .ok (.invokevirtual 164, 3) := dk_182 0 164 (dk_at dksX7_isNumber_0 10 rfl rfl)
theorem dX7_isNumber_13 : decode cX7_isNumber 13 = .ok (.ireturn, 1) := dk_172 (dk_at dksX7_isNumber_0 13 rfl rfl)
theorem dX7_isNumber_14 : decode cX7_isNumber 14 = .ok (.aload_n 0, 1) := dk_42 (dk_at dksX7_isNumber_0 14 rfl rfl)
theorem dX7_isNumber_15 : decode cX7_isNumber 15 = .ok (.getfield 158, 3) := dk_180 0 158 (dk_at dksX7_isNumber_0 15 rfl rfl)
theorem dX7_isNumber_18 : decode cX7_isNumber 18 = .ok (.iload_n 1, 1) := dk_27 (dk_at dksX7_isNumber_0 18 rfl rfl)
theorem dX7_isNumber_19 : decode cX7_isNumber 19 = .ok (.if_icmp .lt 11, 3) := dk_161 0 11 (dk_at dksX7_isNumber_0 19 rfl rfl)
theorem dX7_isNumber_22 : decode cX7_isNumber 22 = .ok (.aload_n 0, 1) := dk_42 (dk_at dksX7_isNumber_0 22 rfl rfl)
theorem dX7_isNumber_23 : decode cX7_isNumber 23 = .ok (.getfield 158, 3) := dk_180 0 158 (dk_at dksX7_isNumber_1 0 rfl rfl)
theorem dX7_isNumber_26 : decode cX7_isNumber 26 = .ok (.iload_n 2, 1) := dk_28 (dk_at dksX7_isNumber_1 3 rfl rfl)
theorem dX7_isNumber_27 : decode cX7_isNumber 27 = .ok (.if_icmp .le 11, 3) := dk_164 0 11 (dk_at dksX7_isNumber_1 4 rfl rfl)
theorem dX7_isNumber_30 : decode cX7_isNumber 30 = .ok (.aload_n 0, 1) := dk_42 (dk_at dksX7_isNumber_1 7 rfl rfl)
theorem dX7_isNumber_31 : decode cX7_isNumber 31 = .ok (.iconst 2, 1) := dk_5 (dk_at dksX7_isNumber_1 8 rfl rfl)
theorem dX7_isNumber_32 : decode cX7_isNumber 32 = .ok (.invokevirtual 164, 3) := dk_182 0 164 (dk_at dksX7_isNumber_1 9 rfl rfl)
theorem dX7_isNumber_35 : decode cX7_isNumber 35 = .ok (.ifCond .eq 7, 3) := dk_153 0 7 (dk_at dksX7_isNumber_1 12 rfl rfl)
theorem dX7_isNumber_38 : decode cX7_isNumber 38 = .ok (.iconst 1, 1) := dk_4 (dk_at dksX7_isNumber_1 15 rfl rfl)
theorem dX7_isNumber_39 : decode cX7_isNumber 39 = .ok (.goto 4, 3) := dk_167 0 4 (dk_at dksX7_isNumber_1 16 rfl rfl)
theorem dX7_isNumber_42 : decode cX7_isNumber 42 = .ok (.iconst 0, 1) := dk_3 (dk_at dksX7_isNumber_1 19 rfl rfl)
theorem dX7_isNumber_43 : decode cX7_isNumber 43 = .ok (.ireturn, 1) := dk_172 (dk_at dksX7_isNumber_1 20 rfl rfl)
abbrev cX7_whom : ByteArray := prog_19_method_17_code
def yX7_whom : MethodName := ⟨RX7, "whom", "(I)Z"⟩
def dkwX7_whom_14 : List UInt8 := [154, 0, 11, 42, 180, 0, 74, 27, 16, 15, 79, 4, 172]
abbrev dktX7_whom_14 : List UInt8 := dkwX7_whom_14 ++ []
def dkwX7_whom_13 : List UInt8 := [27, 21, 4, 16, 11, 160, 0, 7, 4, 167, 0, 4, 5, 79, 167, 254, 243, 42, 180, 0, 74, 27, 46]
abbrev dktX7_whom_13 : List UInt8 := dkwX7_whom_13 ++ dktX7_whom_14
def dkwX7_whom_12 : List UInt8 := [167, 0, 38, 21, 4, 16, 9, 160, 0, 13, 42, 27, 182, 0, 192, 154, 0, 23, 3, 172, 42, 180, 0, 83]
abbrev dktX7_whom_12 : List UInt8 := dkwX7_whom_12 ++ dktX7_whom_13
def dkwX7_whom_11 : List UInt8 := [167, 0, 61, 42, 180, 0, 77, 27, 42, 180, 0, 177, 79, 42, 180, 0, 80, 27, 42, 180, 0, 186, 79]
abbrev dktX7_whom_11 : List UInt8 := dkwX7_whom_11 ++ dktX7_whom_12
def dkwX7_whom_10 : List UInt8 := [160, 0, 26, 42, 180, 0, 68, 27, 42, 180, 0, 177, 79, 42, 180, 0, 71, 27, 42, 180, 0, 186, 79]
abbrev dktX7_whom_10 : List UInt8 := dkwX7_whom_10 ++ dktX7_whom_11
def dkwX7_whom_9 : List UInt8 := [61, 29, 154, 0, 10, 21, 4, 16, 10, 160, 0, 7, 4, 167, 0, 4, 3, 62, 21, 4, 16, 8]
abbrev dktX7_whom_9 : List UInt8 := dkwX7_whom_9 ++ dktX7_whom_10
def dkwX7_whom_8 : List UInt8 := [182, 0, 189, 154, 0, 5, 3, 172, 28, 154, 0, 10, 21, 4, 16, 8, 160, 0, 7, 4, 167, 0, 4, 3]
abbrev dktX7_whom_8 : List UInt8 := dkwX7_whom_8 ++ dktX7_whom_9
def dkwX7_whom_7 : List UInt8 := [21, 4, 16, 10, 160, 0, 114, 42, 21, 4, 16, 8, 160, 0, 9, 17, 0, 130, 167, 0, 5, 16, 79]
abbrev dktX7_whom_7 : List UInt8 := dkwX7_whom_7 ++ dktX7_whom_8
def dkwX7_whom_6 : List UInt8 := [54, 5, 21, 5, 153, 0, 9, 42, 6, 182, 0, 164, 172, 42, 182, 0, 180, 21, 4, 16, 8, 159, 0, 10]
abbrev dktX7_whom_6 : List UInt8 := dkwX7_whom_6 ++ dktX7_whom_7
def dkwX7_whom_5 : List UInt8 := [16, 10, 160, 0, 7, 29, 167, 0, 17, 42, 180, 0, 83, 27, 46, 158, 0, 7, 4, 167, 0, 4, 3]
abbrev dktX7_whom_5 : List UInt8 := dkwX7_whom_5 ++ dktX7_whom_6
def dkwX7_whom_4 : List UInt8 := [16, 9, 160, 0, 20, 42, 180, 0, 74, 27, 46, 158, 0, 7, 4, 167, 0, 32, 3, 167, 0, 28, 21, 4]
abbrev dktX7_whom_4 : List UInt8 := dkwX7_whom_4 ++ dktX7_whom_5
def dkwX7_whom_3 : List UInt8 := [16, 12, 163, 0, 249, 42, 180, 0, 158, 54, 4, 21, 4, 16, 8, 160, 0, 7, 28, 167, 0, 52, 21, 4]
abbrev dktX7_whom_3 : List UInt8 := dkwX7_whom_3 ++ dktX7_whom_4
def dkwX7_whom_2 : List UInt8 := [3, 79, 42, 180, 0, 147, 4, 160, 1, 11, 42, 180, 0, 158, 16, 8, 161, 1, 2, 42, 180, 0, 158]
abbrev dktX7_whom_2 : List UInt8 := dkwX7_whom_2 ++ dktX7_whom_3
def dkwX7_whom_1 : List UInt8 := [27, 3, 79, 42, 180, 0, 77, 27, 3, 79, 42, 180, 0, 80, 27, 17, 3, 232, 79, 42, 180, 0, 83, 27]
abbrev dktX7_whom_1 : List UInt8 := dkwX7_whom_1 ++ dktX7_whom_2
def dkwX7_whom_0 : List UInt8 := [3, 61, 3, 62, 42, 180, 0, 68, 27, 3, 79, 42, 180, 0, 71, 27, 17, 3, 232, 79, 42, 180, 0, 74]
abbrev dktX7_whom_0 : List UInt8 := dkwX7_whom_0 ++ dktX7_whom_1
theorem dksX7_whom_0 : cX7_whom.data.toList.drop 0 = dktX7_whom_0 := by decide +kernel
theorem dksX7_whom_1 : cX7_whom.data.toList.drop 24 = dktX7_whom_1 := dk_seg dksX7_whom_0 24 rfl rfl
theorem dksX7_whom_2 : cX7_whom.data.toList.drop 48 = dktX7_whom_2 := dk_seg dksX7_whom_1 24 rfl rfl
theorem dksX7_whom_3 : cX7_whom.data.toList.drop 71 = dktX7_whom_3 := dk_seg dksX7_whom_2 23 rfl rfl
theorem dksX7_whom_4 : cX7_whom.data.toList.drop 95 = dktX7_whom_4 := dk_seg dksX7_whom_3 24 rfl rfl
theorem dksX7_whom_5 : cX7_whom.data.toList.drop 119 = dktX7_whom_5 := dk_seg dksX7_whom_4 24 rfl rfl
theorem dksX7_whom_6 : cX7_whom.data.toList.drop 142 = dktX7_whom_6 := dk_seg dksX7_whom_5 23 rfl rfl
theorem dksX7_whom_7 : cX7_whom.data.toList.drop 166 = dktX7_whom_7 := dk_seg dksX7_whom_6 24 rfl rfl
theorem dksX7_whom_8 : cX7_whom.data.toList.drop 189 = dktX7_whom_8 := dk_seg dksX7_whom_7 23 rfl rfl
theorem dksX7_whom_9 : cX7_whom.data.toList.drop 213 = dktX7_whom_9 := dk_seg dksX7_whom_8 24 rfl rfl
theorem dksX7_whom_10 : cX7_whom.data.toList.drop 235 = dktX7_whom_10 := dk_seg dksX7_whom_9 22 rfl rfl
theorem dksX7_whom_11 : cX7_whom.data.toList.drop 258 = dktX7_whom_11 := dk_seg dksX7_whom_10 23 rfl rfl
theorem dksX7_whom_12 : cX7_whom.data.toList.drop 281 = dktX7_whom_12 := dk_seg dksX7_whom_11 23 rfl rfl
theorem dksX7_whom_13 : cX7_whom.data.toList.drop 305 = dktX7_whom_13 := dk_seg dksX7_whom_12 24 rfl rfl
theorem dksX7_whom_14 : cX7_whom.data.toList.drop 328 = dktX7_whom_14 := dk_seg dksX7_whom_13 23 rfl rfl
theorem dX7_whom_0 : decode cX7_whom 0 = .ok (.iconst 0, 1) := dk_3 (dk_at dksX7_whom_0 0 rfl rfl)
theorem dX7_whom_1 : decode cX7_whom 1 = .ok (.istore_n 2, 1) := dk_61 (dk_at dksX7_whom_0 1 rfl rfl)
theorem dX7_whom_2 : decode cX7_whom 2 = .ok (.iconst 0, 1) := dk_3 (dk_at dksX7_whom_0 2 rfl rfl)
theorem dX7_whom_3 : decode cX7_whom 3 = .ok (.istore_n 3, 1) := dk_62 (dk_at dksX7_whom_0 3 rfl rfl)
theorem dX7_whom_4 : decode cX7_whom 4 = .ok (.aload_n 0, 1) := dk_42 (dk_at dksX7_whom_0 4 rfl rfl)
theorem dX7_whom_5 : decode cX7_whom 5 = .ok (.getfield 68, 3) := dk_180 0 68 (dk_at dksX7_whom_0 5 rfl rfl)
theorem dX7_whom_8 : decode cX7_whom 8 = .ok (.iload_n 1, 1) := dk_27 (dk_at dksX7_whom_0 8 rfl rfl)
theorem dX7_whom_9 : decode cX7_whom 9 = .ok (.iconst 0, 1) := dk_3 (dk_at dksX7_whom_0 9 rfl rfl)
theorem dX7_whom_10 : decode cX7_whom 10 = .ok (.iastore, 1) := dk_79 (dk_at dksX7_whom_0 10 rfl rfl)
theorem dX7_whom_11 : decode cX7_whom 11 = .ok (.aload_n 0, 1) := dk_42 (dk_at dksX7_whom_0 11 rfl rfl)
theorem dX7_whom_12 : decode cX7_whom 12 = .ok (.getfield 71, 3) := dk_180 0 71 (dk_at dksX7_whom_0 12 rfl rfl)
theorem dX7_whom_15 : decode cX7_whom 15 = .ok (.iload_n 1, 1) := dk_27 (dk_at dksX7_whom_0 15 rfl rfl)
theorem dX7_whom_16 : decode cX7_whom 16 = .ok (.sipush 1000, 3) := dk_17 3 232 (dk_at dksX7_whom_0 16 rfl rfl)
theorem dX7_whom_19 : decode cX7_whom 19 = .ok (.iastore, 1) := dk_79 (dk_at dksX7_whom_0 19 rfl rfl)
theorem dX7_whom_20 : decode cX7_whom 20 = .ok (.aload_n 0, 1) := dk_42 (dk_at dksX7_whom_0 20 rfl rfl)
theorem dX7_whom_21 : decode cX7_whom 21 = .ok (.getfield 74, 3) := dk_180 0 74 (dk_at dksX7_whom_0 21 rfl rfl)
theorem dX7_whom_24 : decode cX7_whom 24 = .ok (.iload_n 1, 1) := dk_27 (dk_at dksX7_whom_1 0 rfl rfl)
theorem dX7_whom_25 : decode cX7_whom 25 = .ok (.iconst 0, 1) := dk_3 (dk_at dksX7_whom_1 1 rfl rfl)
theorem dX7_whom_26 : decode cX7_whom 26 = .ok (.iastore, 1) := dk_79 (dk_at dksX7_whom_1 2 rfl rfl)
theorem dX7_whom_27 : decode cX7_whom 27 = .ok (.aload_n 0, 1) := dk_42 (dk_at dksX7_whom_1 3 rfl rfl)
theorem dX7_whom_28 : decode cX7_whom 28 = .ok (.getfield 77, 3) := dk_180 0 77 (dk_at dksX7_whom_1 4 rfl rfl)
theorem dX7_whom_31 : decode cX7_whom 31 = .ok (.iload_n 1, 1) := dk_27 (dk_at dksX7_whom_1 7 rfl rfl)
theorem dX7_whom_32 : decode cX7_whom 32 = .ok (.iconst 0, 1) := dk_3 (dk_at dksX7_whom_1 8 rfl rfl)
theorem dX7_whom_33 : decode cX7_whom 33 = .ok (.iastore, 1) := dk_79 (dk_at dksX7_whom_1 9 rfl rfl)
theorem dX7_whom_34 : decode cX7_whom 34 = .ok (.aload_n 0, 1) := dk_42 (dk_at dksX7_whom_1 10 rfl rfl)
theorem dX7_whom_35 : decode cX7_whom 35 = .ok (.getfield 80, 3) := dk_180 0 80 (dk_at dksX7_whom_1 11 rfl rfl)
theorem dX7_whom_38 : decode cX7_whom 38 = .ok (.iload_n 1, 1) := dk_27 (dk_at dksX7_whom_1 14 rfl rfl)
theorem dX7_whom_39 : decode cX7_whom 39 = .ok (.sipush 1000, 3) := dk_17 3 232 (dk_at dksX7_whom_1 15 rfl rfl)
theorem dX7_whom_42 : decode cX7_whom 42 = .ok (.iastore, 1) := dk_79 (dk_at dksX7_whom_1 18 rfl rfl)
theorem dX7_whom_43 : decode cX7_whom 43 = .ok (.aload_n 0, 1) := dk_42 (dk_at dksX7_whom_1 19 rfl rfl)
theorem dX7_whom_44 : decode cX7_whom 44 = .ok (.getfield 83, 3) := dk_180 0 83 (dk_at dksX7_whom_1 20 rfl rfl)
theorem dX7_whom_47 : decode cX7_whom 47 = .ok (.iload_n 1, 1) := dk_27 (dk_at dksX7_whom_1 23 rfl rfl)
theorem dX7_whom_48 : decode cX7_whom 48 = .ok (.iconst 0, 1) := dk_3 (dk_at dksX7_whom_2 0 rfl rfl)
theorem dX7_whom_49 : decode cX7_whom 49 = .ok (.iastore, 1) := dk_79 (dk_at dksX7_whom_2 1 rfl rfl)
theorem dX7_whom_50 : decode cX7_whom 50 = .ok (.aload_n 0, 1) := dk_42 (dk_at dksX7_whom_2 2 rfl rfl)
theorem dX7_whom_51 : decode cX7_whom 51 = .ok (.getfield 147, 3) := dk_180 0 147 (dk_at dksX7_whom_2 3 rfl rfl)
theorem dX7_whom_54 : decode cX7_whom 54 = .ok (.iconst 1, 1) := dk_4 (dk_at dksX7_whom_2 6 rfl rfl)
theorem dX7_whom_55 : decode cX7_whom 55 = .ok (.if_icmp .ne 267, 3) := dk_160 1 11 (dk_at dksX7_whom_2 7 rfl rfl)
theorem dX7_whom_58 : decode cX7_whom 58 = .ok (.aload_n 0, 1) := dk_42 (dk_at dksX7_whom_2 10 rfl rfl)
theorem dX7_whom_59 : decode cX7_whom 59 = .ok (.getfield 158, 3) := dk_180 0 158 (dk_at dksX7_whom_2 11 rfl rfl)
theorem dX7_whom_62 : decode cX7_whom 62 = .ok (.bipush 8, 2) := dk_16 8 (dk_at dksX7_whom_2 14 rfl rfl)
theorem dX7_whom_64 : decode cX7_whom 64 = .ok (.if_icmp .lt 258, 3) := dk_161 1 2 (dk_at dksX7_whom_2 16 rfl rfl)
theorem dX7_whom_67 : decode cX7_whom 67 = .ok (.aload_n 0, 1) := dk_42 (dk_at dksX7_whom_2 19 rfl rfl)
theorem dX7_whom_68 : decode cX7_whom 68 = .ok (.getfield 158, 3) := dk_180 0 158 (dk_at dksX7_whom_2 20 rfl rfl)
theorem dX7_whom_71 : decode cX7_whom 71 = .ok (.bipush 12, 2) := dk_16 12 (dk_at dksX7_whom_3 0 rfl rfl)
theorem dX7_whom_73 : decode cX7_whom 73 = .ok (.if_icmp .gt 249, 3) := dk_163 0 249 (dk_at dksX7_whom_3 2 rfl rfl)
theorem dX7_whom_76 : decode cX7_whom 76 = .ok (.aload_n 0, 1) := dk_42 (dk_at dksX7_whom_3 5 rfl rfl)
theorem dX7_whom_77 : decode cX7_whom 77 = .ok (.getfield 158, 3) := dk_180 0 158 (dk_at dksX7_whom_3 6 rfl rfl)
theorem dX7_whom_80 : decode cX7_whom 80 = .ok (.istore 4, 2) := dk_54 4 (dk_at dksX7_whom_3 9 rfl rfl)
theorem dX7_whom_82 : decode cX7_whom 82 = .ok (.iload 4, 2) := dk_21 4 (dk_at dksX7_whom_3 11 rfl rfl)
theorem dX7_whom_84 : decode cX7_whom 84 = .ok (.bipush 8, 2) := dk_16 8 (dk_at dksX7_whom_3 13 rfl rfl)
theorem dX7_whom_86 : decode cX7_whom 86 = .ok (.if_icmp .ne 7, 3) := dk_160 0 7 (dk_at dksX7_whom_3 15 rfl rfl)
theorem dX7_whom_89 : decode cX7_whom 89 = .ok (.iload_n 2, 1) := dk_28 (dk_at dksX7_whom_3 18 rfl rfl)
theorem dX7_whom_90 : decode cX7_whom 90 = .ok (.goto 52, 3) := dk_167 0 52 (dk_at dksX7_whom_3 19 rfl rfl)
theorem dX7_whom_93 : decode cX7_whom 93 = .ok (.iload 4, 2) := dk_21 4 (dk_at dksX7_whom_3 22 rfl rfl)
theorem dX7_whom_95 : decode cX7_whom 95 = .ok (.bipush 9, 2) := dk_16 9 (dk_at dksX7_whom_4 0 rfl rfl)
theorem dX7_whom_97 : decode cX7_whom 97 = .ok (.if_icmp .ne 20, 3) := dk_160 0 20 (dk_at dksX7_whom_4 2 rfl rfl)
theorem dX7_whom_100 : decode cX7_whom 100 = .ok (.aload_n 0, 1) := dk_42 (dk_at dksX7_whom_4 5 rfl rfl)
theorem dX7_whom_101 : decode cX7_whom 101 = .ok (.getfield 74, 3) := dk_180 0 74 (dk_at dksX7_whom_4 6 rfl rfl)
theorem dX7_whom_104 : decode cX7_whom 104 = .ok (.iload_n 1, 1) := dk_27 (dk_at dksX7_whom_4 9 rfl rfl)
theorem dX7_whom_105 : decode cX7_whom 105 = .ok (.iaload, 1) := dk_46 (dk_at dksX7_whom_4 10 rfl rfl)
theorem dX7_whom_106 : decode cX7_whom 106 = .ok (.ifCond .le 7, 3) := dk_158 0 7 (dk_at dksX7_whom_4 11 rfl rfl)
theorem dX7_whom_109 : decode cX7_whom 109 = .ok (.iconst 1, 1) := dk_4 (dk_at dksX7_whom_4 14 rfl rfl)
theorem dX7_whom_110 : decode cX7_whom 110 = .ok (.goto 32, 3) := dk_167 0 32 (dk_at dksX7_whom_4 15 rfl rfl)
theorem dX7_whom_113 : decode cX7_whom 113 = .ok (.iconst 0, 1) := dk_3 (dk_at dksX7_whom_4 18 rfl rfl)
theorem dX7_whom_114 : decode cX7_whom 114 = .ok (.goto 28, 3) := dk_167 0 28 (dk_at dksX7_whom_4 19 rfl rfl)
theorem dX7_whom_117 : decode cX7_whom 117 = .ok (.iload 4, 2) := dk_21 4 (dk_at dksX7_whom_4 22 rfl rfl)
theorem dX7_whom_119 : decode cX7_whom 119 = .ok (.bipush 10, 2) := dk_16 10 (dk_at dksX7_whom_5 0 rfl rfl)
theorem dX7_whom_121 : decode cX7_whom 121 = .ok (.if_icmp .ne 7, 3) := dk_160 0 7 (dk_at dksX7_whom_5 2 rfl rfl)
theorem dX7_whom_124 : decode cX7_whom 124 = .ok (.iload_n 3, 1) := dk_29 (dk_at dksX7_whom_5 5 rfl rfl)
theorem dX7_whom_125 : decode cX7_whom 125 = .ok (.goto 17, 3) := dk_167 0 17 (dk_at dksX7_whom_5 6 rfl rfl)
theorem dX7_whom_128 : decode cX7_whom 128 = .ok (.aload_n 0, 1) := dk_42 (dk_at dksX7_whom_5 9 rfl rfl)
theorem dX7_whom_129 : decode cX7_whom 129 = .ok (.getfield 83, 3) := dk_180 0 83 (dk_at dksX7_whom_5 10 rfl rfl)
theorem dX7_whom_132 : decode cX7_whom 132 = .ok (.iload_n 1, 1) := dk_27 (dk_at dksX7_whom_5 13 rfl rfl)
theorem dX7_whom_133 : decode cX7_whom 133 = .ok (.iaload, 1) := dk_46 (dk_at dksX7_whom_5 14 rfl rfl)
theorem dX7_whom_134 : decode cX7_whom 134 = .ok (.ifCond .le 7, 3) := dk_158 0 7 (dk_at dksX7_whom_5 15 rfl rfl)
theorem dX7_whom_137 : decode cX7_whom 137 = .ok (.iconst 1, 1) := dk_4 (dk_at dksX7_whom_5 18 rfl rfl)
theorem dX7_whom_138 : decode cX7_whom 138 = .ok (.goto 4, 3) := dk_167 0 4 (dk_at dksX7_whom_5 19 rfl rfl)
theorem dX7_whom_141 : decode cX7_whom 141 = .ok (.iconst 0, 1) := dk_3 (dk_at dksX7_whom_5 22 rfl rfl)
theorem dX7_whom_142 : decode cX7_whom 142 = .ok (.istore 5, 2) := dk_54 5 (dk_at dksX7_whom_6 0 rfl rfl)
theorem dX7_whom_144 : decode cX7_whom 144 = .ok (.iload 5, 2) := dk_21 5 (dk_at dksX7_whom_6 2 rfl rfl)
theorem dX7_whom_146 : decode cX7_whom 146 = .ok (.ifCond .eq 9, 3) := dk_153 0 9 (dk_at dksX7_whom_6 4 rfl rfl)
theorem dX7_whom_149 : decode cX7_whom 149 = .ok (.aload_n 0, 1) := dk_42 (dk_at dksX7_whom_6 7 rfl rfl)
theorem dX7_whom_150 : decode cX7_whom 150 = .ok (.iconst 3, 1) := dk_6 (dk_at dksX7_whom_6 8 rfl rfl)
theorem dX7_whom_151 : decode cX7_whom 151 = .ok (.invokevirtual 164, 3) := dk_182 0 164 (dk_at dksX7_whom_6 9 rfl rfl)
theorem dX7_whom_154 : decode cX7_whom 154 = .ok (.ireturn, 1) := dk_172 (dk_at dksX7_whom_6 12 rfl rfl)
theorem dX7_whom_155 : decode cX7_whom 155 = .ok (.aload_n 0, 1) := dk_42 (dk_at dksX7_whom_6 13 rfl rfl)
theorem dX7_whom_156 : decode cX7_whom 156 = .ok (.invokevirtual 180, 3) := dk_182 0 180 (dk_at dksX7_whom_6 14 rfl rfl)
theorem dX7_whom_159 : decode cX7_whom 159 = .ok (.iload 4, 2) := dk_21 4 (dk_at dksX7_whom_6 17 rfl rfl)
theorem dX7_whom_161 : decode cX7_whom 161 = .ok (.bipush 8, 2) := dk_16 8 (dk_at dksX7_whom_6 19 rfl rfl)
theorem dX7_whom_163 : decode cX7_whom 163 = .ok (.if_icmp .eq 10, 3) := dk_159 0 10 (dk_at dksX7_whom_6 21 rfl rfl)
theorem dX7_whom_166 : decode cX7_whom 166 = .ok (.iload 4, 2) := dk_21 4 (dk_at dksX7_whom_7 0 rfl rfl)
theorem dX7_whom_168 : decode cX7_whom 168 = .ok (.bipush 10, 2) := dk_16 10 (dk_at dksX7_whom_7 2 rfl rfl)
theorem dX7_whom_170 : decode cX7_whom 170 = .ok (.if_icmp .ne 114, 3) := dk_160 0 114 (dk_at dksX7_whom_7 4 rfl rfl)
theorem dX7_whom_173 : decode cX7_whom 173 = .ok (.aload_n 0, 1) := dk_42 (dk_at dksX7_whom_7 7 rfl rfl)
theorem dX7_whom_174 : decode cX7_whom 174 = .ok (.iload 4, 2) := dk_21 4 (dk_at dksX7_whom_7 8 rfl rfl)
theorem dX7_whom_176 : decode cX7_whom 176 = .ok (.bipush 8, 2) := dk_16 8 (dk_at dksX7_whom_7 10 rfl rfl)
theorem dX7_whom_178 : decode cX7_whom 178 = .ok (.if_icmp .ne 9, 3) := dk_160 0 9 (dk_at dksX7_whom_7 12 rfl rfl)
theorem dX7_whom_181 : decode cX7_whom 181 = .ok (.sipush 130, 3) := dk_17 0 130 (dk_at dksX7_whom_7 15 rfl rfl)
theorem dX7_whom_184 : decode cX7_whom 184 = .ok (.goto 5, 3) := dk_167 0 5 (dk_at dksX7_whom_7 18 rfl rfl)
theorem dX7_whom_187 : decode cX7_whom 187 = .ok (.bipush 79, 2) := dk_16 79 (dk_at dksX7_whom_7 21 rfl rfl)
theorem dX7_whom_189 : decode cX7_whom 189 = .ok (.invokevirtual 189, 3) := dk_182 0 189 (dk_at dksX7_whom_8 0 rfl rfl)
theorem dX7_whom_192 : decode cX7_whom 192 = .ok (.ifCond .ne 5, 3) := dk_154 0 5 (dk_at dksX7_whom_8 3 rfl rfl)
theorem dX7_whom_195 : decode cX7_whom 195 = .ok (.iconst 0, 1) := dk_3 (dk_at dksX7_whom_8 6 rfl rfl)
theorem dX7_whom_196 : decode cX7_whom 196 = .ok (.ireturn, 1) := dk_172 (dk_at dksX7_whom_8 7 rfl rfl)
theorem dX7_whom_197 : decode cX7_whom 197 = .ok (.iload_n 2, 1) := dk_28 (dk_at dksX7_whom_8 8 rfl rfl)
theorem dX7_whom_198 : decode cX7_whom 198 = .ok (.ifCond .ne 10, 3) := dk_154 0 10 (dk_at dksX7_whom_8 9 rfl rfl)
theorem dX7_whom_201 : decode cX7_whom 201 = .ok (.iload 4, 2) := dk_21 4 (dk_at dksX7_whom_8 12 rfl rfl)
theorem dX7_whom_203 : decode cX7_whom 203 = .ok (.bipush 8, 2) := dk_16 8 (dk_at dksX7_whom_8 14 rfl rfl)
theorem dX7_whom_205 : decode cX7_whom 205 = .ok (.if_icmp .ne 7, 3) := dk_160 0 7 (dk_at dksX7_whom_8 16 rfl rfl)
theorem dX7_whom_208 : decode cX7_whom 208 = .ok (.iconst 1, 1) := dk_4 (dk_at dksX7_whom_8 19 rfl rfl)
theorem dX7_whom_209 : decode cX7_whom 209 = .ok (.goto 4, 3) := dk_167 0 4 (dk_at dksX7_whom_8 20 rfl rfl)
theorem dX7_whom_212 : decode cX7_whom 212 = .ok (.iconst 0, 1) := dk_3 (dk_at dksX7_whom_8 23 rfl rfl)
theorem dX7_whom_213 : decode cX7_whom 213 = .ok (.istore_n 2, 1) := dk_61 (dk_at dksX7_whom_9 0 rfl rfl)
theorem dX7_whom_214 : decode cX7_whom 214 = .ok (.iload_n 3, 1) := dk_29 (dk_at dksX7_whom_9 1 rfl rfl)
theorem dX7_whom_215 : decode cX7_whom 215 = .ok (.ifCond .ne 10, 3) := dk_154 0 10 (dk_at dksX7_whom_9 2 rfl rfl)
theorem dX7_whom_218 : decode cX7_whom 218 = .ok (.iload 4, 2) := dk_21 4 (dk_at dksX7_whom_9 5 rfl rfl)
theorem dX7_whom_220 : decode cX7_whom 220 = .ok (.bipush 10, 2) := dk_16 10 (dk_at dksX7_whom_9 7 rfl rfl)
theorem dX7_whom_222 : decode cX7_whom 222 = .ok (.if_icmp .ne 7, 3) := dk_160 0 7 (dk_at dksX7_whom_9 9 rfl rfl)
theorem dX7_whom_225 : decode cX7_whom 225 = .ok (.iconst 1, 1) := dk_4 (dk_at dksX7_whom_9 12 rfl rfl)
theorem dX7_whom_226 : decode cX7_whom 226 = .ok (.goto 4, 3) := dk_167 0 4 (dk_at dksX7_whom_9 13 rfl rfl)
theorem dX7_whom_229 : decode cX7_whom 229 = .ok (.iconst 0, 1) := dk_3 (dk_at dksX7_whom_9 16 rfl rfl)
theorem dX7_whom_230 : decode cX7_whom 230 = .ok (.istore_n 3, 1) := dk_62 (dk_at dksX7_whom_9 17 rfl rfl)
theorem dX7_whom_231 : decode cX7_whom 231 = .ok (.iload 4, 2) := dk_21 4 (dk_at dksX7_whom_9 18 rfl rfl)
theorem dX7_whom_233 : decode cX7_whom 233 = .ok (.bipush 8, 2) := dk_16 8 (dk_at dksX7_whom_9 20 rfl rfl)
theorem dX7_whom_235 : decode cX7_whom 235 = .ok (.if_icmp .ne 26, 3) := dk_160 0 26 (dk_at dksX7_whom_10 0 rfl rfl)
theorem dX7_whom_238 : decode cX7_whom 238 = .ok (.aload_n 0, 1) := dk_42 (dk_at dksX7_whom_10 3 rfl rfl)
theorem dX7_whom_239 : decode cX7_whom 239 = .ok (.getfield 68, 3) := dk_180 0 68 (dk_at dksX7_whom_10 4 rfl rfl)
theorem dX7_whom_242 : decode cX7_whom 242 = .ok (.iload_n 1, 1) := dk_27 (dk_at dksX7_whom_10 7 rfl rfl)
theorem dX7_whom_243 : decode cX7_whom 243 = .ok (.aload_n 0, 1) := dk_42 (dk_at dksX7_whom_10 8 rfl rfl)
theorem dX7_whom_244 : decode cX7_whom 244 = .ok (.getfield 177, 3) := dk_180 0 177 (dk_at dksX7_whom_10 9 rfl rfl)
theorem dX7_whom_247 : decode cX7_whom 247 = .ok (.iastore, 1) := dk_79 (dk_at dksX7_whom_10 12 rfl rfl)
theorem dX7_whom_248 : decode cX7_whom 248 = .ok (.aload_n 0, 1) := dk_42 (dk_at dksX7_whom_10 13 rfl rfl)
theorem dX7_whom_249 : decode cX7_whom 249 = .ok (.getfield 71, 3) := dk_180 0 71 (dk_at dksX7_whom_10 14 rfl rfl)
theorem dX7_whom_252 : decode cX7_whom 252 = .ok (.iload_n 1, 1) := dk_27 (dk_at dksX7_whom_10 17 rfl rfl)
theorem dX7_whom_253 : decode cX7_whom 253 = .ok (.aload_n 0, 1) := dk_42 (dk_at dksX7_whom_10 18 rfl rfl)
theorem dX7_whom_254 : decode cX7_whom 254 = .ok (.getfield 186, 3) := dk_180 0 186 (dk_at dksX7_whom_10 19 rfl rfl)
theorem dX7_whom_257 : decode cX7_whom 257 = .ok (.iastore, 1) := dk_79 (dk_at dksX7_whom_10 22 rfl rfl)
theorem dX7_whom_258 : decode cX7_whom 258 = .ok (.goto 61, 3) := dk_167 0 61 (dk_at dksX7_whom_11 0 rfl rfl)
theorem dX7_whom_261 : decode cX7_whom 261 = .ok (.aload_n 0, 1) := dk_42 (dk_at dksX7_whom_11 3 rfl rfl)
theorem dX7_whom_262 : decode cX7_whom 262 = .ok (.getfield 77, 3) := dk_180 0 77 (dk_at dksX7_whom_11 4 rfl rfl)
theorem dX7_whom_265 : decode cX7_whom 265 = .ok (.iload_n 1, 1) := dk_27 (dk_at dksX7_whom_11 7 rfl rfl)
theorem dX7_whom_266 : decode cX7_whom 266 = .ok (.aload_n 0, 1) := dk_42 (dk_at dksX7_whom_11 8 rfl rfl)
theorem dX7_whom_267 : decode cX7_whom 267 = .ok (.getfield 177, 3) := dk_180 0 177 (dk_at dksX7_whom_11 9 rfl rfl)
theorem dX7_whom_270 : decode cX7_whom 270 = .ok (.iastore, 1) := dk_79 (dk_at dksX7_whom_11 12 rfl rfl)
theorem dX7_whom_271 : decode cX7_whom 271 = .ok (.aload_n 0, 1) := dk_42 (dk_at dksX7_whom_11 13 rfl rfl)
theorem dX7_whom_272 : decode cX7_whom 272 = .ok (.getfield 80, 3) := dk_180 0 80 (dk_at dksX7_whom_11 14 rfl rfl)
theorem dX7_whom_275 : decode cX7_whom 275 = .ok (.iload_n 1, 1) := dk_27 (dk_at dksX7_whom_11 17 rfl rfl)
theorem dX7_whom_276 : decode cX7_whom 276 = .ok (.aload_n 0, 1) := dk_42 (dk_at dksX7_whom_11 18 rfl rfl)
theorem dX7_whom_277 : decode cX7_whom 277 = .ok (.getfield 186, 3) := dk_180 0 186 (dk_at dksX7_whom_11 19 rfl rfl)
theorem dX7_whom_280 : decode cX7_whom 280 = .ok (.iastore, 1) := dk_79 (dk_at dksX7_whom_11 22 rfl rfl)
theorem dX7_whom_281 : decode cX7_whom 281 = .ok (.goto 38, 3) := dk_167 0 38 (dk_at dksX7_whom_12 0 rfl rfl)
theorem dX7_whom_284 : decode cX7_whom 284 = .ok (.iload 4, 2) := dk_21 4 (dk_at dksX7_whom_12 3 rfl rfl)
theorem dX7_whom_286 : decode cX7_whom 286 = .ok (.bipush 9, 2) := dk_16 9 (dk_at dksX7_whom_12 5 rfl rfl)
theorem dX7_whom_288 : decode cX7_whom 288 = .ok (.if_icmp .ne 13, 3) := dk_160 0 13 (dk_at dksX7_whom_12 7 rfl rfl)
theorem dX7_whom_291 : decode cX7_whom 291 = .ok (.aload_n 0, 1) := dk_42 (dk_at dksX7_whom_12 10 rfl rfl)
theorem dX7_whom_292 : decode cX7_whom 292 = .ok (.iload_n 1, 1) := dk_27 (dk_at dksX7_whom_12 11 rfl rfl)
theorem dX7_whom_293 : decode cX7_whom 293 = .ok (.invokevirtual 192, 3) := dk_182 0 192 (dk_at dksX7_whom_12 12 rfl rfl)
theorem dX7_whom_296 : decode cX7_whom 296 = .ok (.ifCond .ne 23, 3) := dk_154 0 23 (dk_at dksX7_whom_12 15 rfl rfl)
theorem dX7_whom_299 : decode cX7_whom 299 = .ok (.iconst 0, 1) := dk_3 (dk_at dksX7_whom_12 18 rfl rfl)
theorem dX7_whom_300 : decode cX7_whom 300 = .ok (.ireturn, 1) := dk_172 (dk_at dksX7_whom_12 19 rfl rfl)
theorem dX7_whom_301 : decode cX7_whom 301 = .ok (.aload_n 0, 1) := dk_42 (dk_at dksX7_whom_12 20 rfl rfl)
theorem dX7_whom_302 : decode cX7_whom 302 = .ok (.getfield 83, 3) := dk_180 0 83 (dk_at dksX7_whom_12 21 rfl rfl)
theorem dX7_whom_305 : decode cX7_whom 305 = .ok (.iload_n 1, 1) := dk_27 (dk_at dksX7_whom_13 0 rfl rfl)
theorem dX7_whom_306 : decode cX7_whom 306 = .ok (.iload 4, 2) := dk_21 4 (dk_at dksX7_whom_13 1 rfl rfl)
theorem dX7_whom_308 : decode cX7_whom 308 = .ok (.bipush 11, 2) := dk_16 11 (dk_at dksX7_whom_13 3 rfl rfl)
theorem dX7_whom_310 : decode cX7_whom 310 = .ok (.if_icmp .ne 7, 3) := dk_160 0 7 (dk_at dksX7_whom_13 5 rfl rfl)
theorem dX7_whom_313 : decode cX7_whom 313 = .ok (.iconst 1, 1) := dk_4 (dk_at dksX7_whom_13 8 rfl rfl)
theorem dX7_whom_314 : decode cX7_whom 314 = .ok (.goto 4, 3) := dk_167 0 4 (dk_at dksX7_whom_13 9 rfl rfl)
theorem dX7_whom_317 : decode cX7_whom 317 = .ok (.iconst 2, 1) := dk_5 (dk_at dksX7_whom_13 12 rfl rfl)
theorem dX7_whom_318 : decode cX7_whom 318 = .ok (.iastore, 1) := dk_79 (dk_at dksX7_whom_13 13 rfl rfl)
theorem dX7_whom_319 : decode cX7_whom 319 = .ok (.goto (-269), 3) := dk_167 254 243 (dk_at dksX7_whom_13 14 rfl rfl)
theorem dX7_whom_322 : decode cX7_whom 322 = .ok (.aload_n 0, 1) := dk_42 (dk_at dksX7_whom_13 17 rfl rfl)
theorem dX7_whom_323 : decode cX7_whom 323 = .ok (.getfield 74, 3) := dk_180 0 74 (dk_at dksX7_whom_13 18 rfl rfl)
theorem dX7_whom_326 : decode cX7_whom 326 = .ok (.iload_n 1, 1) := dk_27 (dk_at dksX7_whom_13 21 rfl rfl)
theorem dX7_whom_327 : decode cX7_whom 327 = .ok (.iaload, 1) := dk_46 (dk_at dksX7_whom_13 22 rfl rfl)
theorem dX7_whom_328 : decode cX7_whom 328 = .ok (.ifCond .ne 11, 3) := dk_154 0 11 (dk_at dksX7_whom_14 0 rfl rfl)
theorem dX7_whom_331 : decode cX7_whom 331 = .ok (.aload_n 0, 1) := dk_42 (dk_at dksX7_whom_14 3 rfl rfl)
theorem dX7_whom_332 : decode cX7_whom 332 = .ok (.getfield 74, 3) := dk_180 0 74 (dk_at dksX7_whom_14 4 rfl rfl)
theorem dX7_whom_335 : decode cX7_whom 335 = .ok (.iload_n 1, 1) := dk_27 (dk_at dksX7_whom_14 7 rfl rfl)
theorem dX7_whom_336 : decode cX7_whom 336 = .ok (.bipush 15, 2) := dk_16 15 (dk_at dksX7_whom_14 8 rfl rfl)
theorem dX7_whom_338 : decode cX7_whom 338 = .ok (.iastore, 1) := dk_79 (dk_at dksX7_whom_14 10 rfl rfl)
theorem dX7_whom_339 : decode cX7_whom 339 = .ok (.iconst 1, 1) := dk_4 (dk_at dksX7_whom_14 11 rfl rfl)
theorem dX7_whom_340 : decode cX7_whom 340 = .ok (.ireturn, 1) := dk_172 (dk_at dksX7_whom_14 12 rfl rfl)
abbrev cX7_span : ByteArray := prog_19_method_15_code
def yX7_span : MethodName := ⟨RX7, "span", "(I)Z"⟩
def dkwX7_span_2 : List UInt8 := [182, 0, 173, 154, 0, 5, 3, 172, 42, 42, 180, 0, 158, 181, 0, 186, 42, 182, 0, 180, 4, 172]
abbrev dktX7_span_2 : List UInt8 := dkwX7_span_2 ++ []
def dkwX7_span_1 : List UInt8 := [16, 13, 182, 0, 183, 154, 0, 9, 42, 4, 182, 0, 164, 172, 42, 182, 0, 180, 42, 42, 180, 0, 177, 27]
abbrev dktX7_span_1 : List UInt8 := dkwX7_span_1 ++ dktX7_span_2
def dkwX7_span_0 : List UInt8 := [42, 3, 27, 182, 0, 173, 154, 0, 5, 3, 172, 42, 42, 180, 0, 158, 181, 0, 177, 42, 182, 0, 180, 42]
abbrev dktX7_span_0 : List UInt8 := dkwX7_span_0 ++ dktX7_span_1
theorem dksX7_span_0 : cX7_span.data.toList.drop 0 = dktX7_span_0 := by decide +kernel
theorem dksX7_span_1 : cX7_span.data.toList.drop 24 = dktX7_span_1 := dk_seg dksX7_span_0 24 rfl rfl
theorem dksX7_span_2 : cX7_span.data.toList.drop 48 = dktX7_span_2 := dk_seg dksX7_span_1 24 rfl rfl
theorem dX7_span_0 : decode cX7_span 0 = .ok (.aload_n 0, 1) := dk_42 (dk_at dksX7_span_0 0 rfl rfl)
theorem dX7_span_1 : decode cX7_span 1 = .ok (.iconst 0, 1) := dk_3 (dk_at dksX7_span_0 1 rfl rfl)
theorem dX7_span_2 : decode cX7_span 2 = .ok (.iload_n 1, 1) := dk_27 (dk_at dksX7_span_0 2 rfl rfl)
theorem dX7_span_3 : decode cX7_span 3 = .ok (.invokevirtual 173, 3) := dk_182 0 173 (dk_at dksX7_span_0 3 rfl rfl)
theorem dX7_span_6 : decode cX7_span 6 = .ok (.ifCond .ne 5, 3) := dk_154 0 5 (dk_at dksX7_span_0 6 rfl rfl)
theorem dX7_span_9 : decode cX7_span 9 = .ok (.iconst 0, 1) := dk_3 (dk_at dksX7_span_0 9 rfl rfl)
theorem dX7_span_10 : decode cX7_span 10 = .ok (.ireturn, 1) := dk_172 (dk_at dksX7_span_0 10 rfl rfl)
theorem dX7_span_11 : decode cX7_span 11 = .ok (.aload_n 0, 1) := dk_42 (dk_at dksX7_span_0 11 rfl rfl)
theorem dX7_span_12 : decode cX7_span 12 = .ok (.aload_n 0, 1) := dk_42 (dk_at dksX7_span_0 12 rfl rfl)
theorem dX7_span_13 : decode cX7_span 13 = .ok (.getfield 158, 3) := dk_180 0 158 (dk_at dksX7_span_0 13 rfl rfl)
theorem dX7_span_16 : decode cX7_span 16 = .ok (.putfield 177, 3) := dk_181 0 177 (dk_at dksX7_span_0 16 rfl rfl)
theorem dX7_span_19 : decode cX7_span 19 = .ok (.aload_n 0, 1) := dk_42 (dk_at dksX7_span_0 19 rfl rfl)
theorem dX7_span_20 : decode cX7_span 20 = .ok (.invokevirtual 180, 3) := dk_182 0 180 (dk_at dksX7_span_0 20 rfl rfl)
theorem dX7_span_23 : decode cX7_span 23 = .ok (.aload_n 0, 1) := dk_42 (dk_at dksX7_span_0 23 rfl rfl)
theorem dX7_span_24 : decode cX7_span 24 = .ok (.bipush 13, 2) := dk_16 13 (dk_at dksX7_span_1 0 rfl rfl)
theorem dX7_span_26 : decode cX7_span 26 = .ok (.invokevirtual 183, 3) := dk_182 0 183 (dk_at dksX7_span_1 2 rfl rfl)
theorem dX7_span_29 : decode cX7_span 29 = .ok (.ifCond .ne 9, 3) := dk_154 0 9 (dk_at dksX7_span_1 5 rfl rfl)
theorem dX7_span_32 : decode cX7_span 32 = .ok (.aload_n 0, 1) := dk_42 (dk_at dksX7_span_1 8 rfl rfl)
theorem dX7_span_33 : decode cX7_span 33 = .ok (.iconst 1, 1) := dk_4 (dk_at dksX7_span_1 9 rfl rfl)
theorem dX7_span_34 : decode cX7_span 34 = .ok (.invokevirtual 164, 3) := dk_182 0 164 (dk_at dksX7_span_1 10 rfl rfl)
theorem dX7_span_37 : decode cX7_span 37 = .ok (.ireturn, 1) := dk_172 (dk_at dksX7_span_1 13 rfl rfl)
theorem dX7_span_38 : decode cX7_span 38 = .ok (.aload_n 0, 1) := dk_42 (dk_at dksX7_span_1 14 rfl rfl)
theorem dX7_span_39 : decode cX7_span 39 = .ok (.invokevirtual 180, 3) := dk_182 0 180 (dk_at dksX7_span_1 15 rfl rfl)
theorem dX7_span_42 : decode cX7_span 42 = .ok (.aload_n 0, 1) := dk_42 (dk_at dksX7_span_1 18 rfl rfl)
theorem dX7_span_43 : decode cX7_span 43 = .ok (.aload_n 0, 1) := dk_42 (dk_at dksX7_span_1 19 rfl rfl)
theorem dX7_span_44 : decode cX7_span 44 = .ok (.getfield 177, 3) := dk_180 0 177 (dk_at dksX7_span_1 20 rfl rfl)
theorem dX7_span_47 : decode cX7_span 47 = .ok (.iload_n 1, 1) := dk_27 (dk_at dksX7_span_1 23 rfl rfl)
theorem dX7_span_48 : decode cX7_span 48 = .ok (.invokevirtual 173, 3) := dk_182 0 173 (dk_at dksX7_span_2 0 rfl rfl)
theorem dX7_span_51 : decode cX7_span 51 = .ok (.ifCond .ne 5, 3) := dk_154 0 5 (dk_at dksX7_span_2 3 rfl rfl)
theorem dX7_span_54 : decode cX7_span 54 = .ok (.iconst 0, 1) := dk_3 (dk_at dksX7_span_2 6 rfl rfl)
theorem dX7_span_55 : decode cX7_span 55 = .ok (.ireturn, 1) := dk_172 (dk_at dksX7_span_2 7 rfl rfl)
theorem dX7_span_56 : decode cX7_span 56 = .ok (.aload_n 0, 1) := dk_42 (dk_at dksX7_span_2 8 rfl rfl)
theorem dX7_span_57 : decode cX7_span 57 = .ok (.aload_n 0, 1) := dk_42 (dk_at dksX7_span_2 9 rfl rfl)
theorem dX7_span_58 : decode cX7_span 58 = .ok (.getfield 158, 3) := dk_180 0 158 (dk_at dksX7_span_2 10 rfl rfl)
theorem dX7_span_61 : decode cX7_span 61 = .ok (.putfield 186, 3) := dk_181 0 186 (dk_at dksX7_span_2 13 rfl rfl)
theorem dX7_span_64 : decode cX7_span 64 = .ok (.aload_n 0, 1) := dk_42 (dk_at dksX7_span_2 16 rfl rfl)
theorem dX7_span_65 : decode cX7_span 65 = .ok (.invokevirtual 180, 3) := dk_182 0 180 (dk_at dksX7_span_2 17 rfl rfl)
theorem dX7_span_68 : decode cX7_span 68 = .ok (.iconst 1, 1) := dk_4 (dk_at dksX7_span_2 20 rfl rfl)
theorem dX7_span_69 : decode cX7_span 69 = .ok (.ireturn, 1) := dk_172 (dk_at dksX7_span_2 21 rfl rfl)
abbrev cX7_isWord : ByteArray := prog_19_method_11_code
def yX7_isWord : MethodName := ⟨RX7, "isWord", "(I)Z"⟩
def dkwX7_isWord_0 : List UInt8 := [42, 180, 0, 147, 4, 160, 0, 15, 42, 180, 0, 158, 27, 160, 0, 7, 4, 167, 0, 4, 3, 172]
abbrev dktX7_isWord_0 : List UInt8 := dkwX7_isWord_0 ++ []
theorem dksX7_isWord_0 : cX7_isWord.data.toList.drop 0 = dktX7_isWord_0 := by decide +kernel
theorem dX7_isWord_0 : decode cX7_isWord 0 = .ok (.aload_n 0, 1) := dk_42 (dk_at dksX7_isWord_0 0 rfl rfl)
theorem dX7_isWord_1 : decode cX7_isWord 1 = .ok (.getfield 147, 3) := dk_180 0 147 (dk_at dksX7_isWord_0 1 rfl rfl)
theorem dX7_isWord_4 : decode cX7_isWord 4 = .ok (.iconst 1, 1) := dk_4 (dk_at dksX7_isWord_0 4 rfl rfl)
theorem dX7_isWord_5 : decode cX7_isWord 5 = .ok (.if_icmp .ne 15, 3) := dk_160 0 15 (dk_at dksX7_isWord_0 5 rfl rfl)
theorem dX7_isWord_8 : decode cX7_isWord 8 = .ok (.aload_n 0, 1) := dk_42 (dk_at dksX7_isWord_0 8 rfl rfl)
theorem dX7_isWord_9 : decode cX7_isWord 9 = .ok (.getfield 158, 3) := dk_180 0 158 (dk_at dksX7_isWord_0 9 rfl rfl)
theorem dX7_isWord_12 : decode cX7_isWord 12 = .ok (.iload_n 1, 1) := dk_27 (dk_at dksX7_isWord_0 12 rfl rfl)
theorem dX7_isWord_13 : decode cX7_isWord 13 = .ok (.if_icmp .ne 7, 3) := dk_160 0 7 (dk_at dksX7_isWord_0 13 rfl rfl)
theorem dX7_isWord_16 : decode cX7_isWord 16 = .ok (.iconst 1, 1) := dk_4 (dk_at dksX7_isWord_0 16 rfl rfl)
theorem dX7_isWord_17 : decode cX7_isWord 17 = .ok (.goto 4, 3) := dk_167 0 4 (dk_at dksX7_isWord_0 17 rfl rfl)
theorem dX7_isWord_20 : decode cX7_isWord 20 = .ok (.iconst 0, 1) := dk_3 (dk_at dksX7_isWord_0 20 rfl rfl)
theorem dX7_isWord_21 : decode cX7_isWord 21 = .ok (.ireturn, 1) := dk_172 (dk_at dksX7_isWord_0 21 rfl rfl)
abbrev cX7_classRow : ByteArray := prog_19_method_16_code
def yX7_classRow : MethodName := ⟨RX7, "classRow", "(I)Z"⟩
def dkwX7_classRow_2 : List UInt8 := [79, 42, 182, 0, 180, 42, 16, 14, 182, 0, 183, 154, 0, 5, 4, 172, 42, 182, 0, 180, 167, 255, 188]
abbrev dktX7_classRow_2 : List UInt8 := dkwX7_classRow_2 ++ []
def dkwX7_classRow_1 : List UInt8 := [4, 160, 0, 9, 42, 6, 182, 0, 164, 172, 42, 180, 0, 74, 27, 92, 46, 4, 42, 180, 0, 158, 120, 128]
abbrev dktX7_classRow_1 : List UInt8 := dkwX7_classRow_1 ++ dktX7_classRow_2
def dkwX7_classRow_0 : List UInt8 := [42, 3, 6, 182, 0, 173, 154, 0, 5, 3, 172, 42, 180, 0, 74, 27, 46, 42, 180, 0, 158, 122, 4, 126]
abbrev dktX7_classRow_0 : List UInt8 := dkwX7_classRow_0 ++ dktX7_classRow_1
theorem dksX7_classRow_0 : cX7_classRow.data.toList.drop 0 = dktX7_classRow_0 := by decide +kernel
theorem dksX7_classRow_1 : cX7_classRow.data.toList.drop 24 = dktX7_classRow_1 := dk_seg dksX7_classRow_0 24 rfl rfl
theorem dksX7_classRow_2 : cX7_classRow.data.toList.drop 48 = dktX7_classRow_2 := dk_seg dksX7_classRow_1 24 rfl rfl
theorem dX7_classRow_0 : decode cX7_classRow 0 = .ok (.aload_n 0, 1) := dk_42 (dk_at dksX7_classRow_0 0 rfl rfl)
theorem dX7_classRow_1 : decode cX7_classRow 1 = .ok (.iconst 0, 1) := dk_3 (dk_at dksX7_classRow_0 1 rfl rfl)
theorem dX7_classRow_2 : decode cX7_classRow 2 = .ok (.iconst 3, 1) := dk_6 (dk_at dksX7_classRow_0 2 rfl rfl)
theorem dX7_classRow_3 : decode cX7_classRow 3 = .ok (.invokevirtual 173, 3) := dk_182 0 173 (dk_at dksX7_classRow_0 3 rfl rfl)
theorem dX7_classRow_6 : decode cX7_classRow 6 = .ok (.ifCond .ne 5, 3) := dk_154 0 5 (dk_at dksX7_classRow_0 6 rfl rfl)
theorem dX7_classRow_9 : decode cX7_classRow 9 = .ok (.iconst 0, 1) := dk_3 (dk_at dksX7_classRow_0 9 rfl rfl)
theorem dX7_classRow_10 : decode cX7_classRow 10 = .ok (.ireturn, 1) := dk_172 (dk_at dksX7_classRow_0 10 rfl rfl)
theorem dX7_classRow_11 : decode cX7_classRow 11 = .ok (.aload_n 0, 1) := dk_42 (dk_at dksX7_classRow_0 11 rfl rfl)
theorem dX7_classRow_12 : decode cX7_classRow 12 = .ok (.getfield 74, 3) := dk_180 0 74 (dk_at dksX7_classRow_0 12 rfl rfl)
theorem dX7_classRow_15 : decode cX7_classRow 15 = .ok (.iload_n 1, 1) := dk_27 (dk_at dksX7_classRow_0 15 rfl rfl)
theorem dX7_classRow_16 : decode cX7_classRow 16 = .ok (.iaload, 1) := dk_46 (dk_at dksX7_classRow_0 16 rfl rfl)
theorem dX7_classRow_17 : decode cX7_classRow 17 = .ok (.aload_n 0, 1) := dk_42 (dk_at dksX7_classRow_0 17 rfl rfl)
theorem dX7_classRow_18 : decode cX7_classRow 18 = .ok (.getfield 158, 3) := dk_180 0 158 (dk_at dksX7_classRow_0 18 rfl rfl)
theorem dX7_classRow_21 : decode cX7_classRow 21 = .ok (.ishr, 1) := dk_122 (dk_at dksX7_classRow_0 21 rfl rfl)
theorem dX7_classRow_22 : decode cX7_classRow 22 = .ok (.iconst 1, 1) := dk_4 (dk_at dksX7_classRow_0 22 rfl rfl)
theorem dX7_classRow_23 : decode cX7_classRow 23 = .ok (.iand, 1) := dk_126 (dk_at dksX7_classRow_0 23 rfl rfl)
theorem dX7_classRow_24 : decode cX7_classRow 24 = .ok (.iconst 1, 1) := dk_4 (dk_at dksX7_classRow_1 0 rfl rfl)
theorem dX7_classRow_25 : decode cX7_classRow 25 = .ok (.if_icmp .ne 9, 3) := dk_160 0 9 (dk_at dksX7_classRow_1 1 rfl rfl)
theorem dX7_classRow_28 : decode cX7_classRow 28 = .ok (.aload_n 0, 1) := dk_42 (dk_at dksX7_classRow_1 4 rfl rfl)
theorem dX7_classRow_29 : decode cX7_classRow 29 = .ok (.iconst 3, 1) := dk_6 (dk_at dksX7_classRow_1 5 rfl rfl)
theorem dX7_classRow_30 : decode cX7_classRow 30 = .ok (.invokevirtual 164, 3) := dk_182 0 164 (dk_at dksX7_classRow_1 6 rfl rfl)
theorem dX7_classRow_33 : decode cX7_classRow 33 = .ok (.ireturn, 1) := dk_172 (dk_at dksX7_classRow_1 9 rfl rfl)
theorem dX7_classRow_34 : decode cX7_classRow 34 = .ok (.aload_n 0, 1) := dk_42 (dk_at dksX7_classRow_1 10 rfl rfl)
theorem dX7_classRow_35 : decode cX7_classRow 35 = .ok (.getfield 74, 3) := dk_180 0 74 (dk_at dksX7_classRow_1 11 rfl rfl)
theorem dX7_classRow_38 : decode cX7_classRow 38 = .ok (.iload_n 1, 1) := dk_27 (dk_at dksX7_classRow_1 14 rfl rfl)
theorem dX7_classRow_39 : decode cX7_classRow 39 = .ok (.dup2, 1) := dk_92 (dk_at dksX7_classRow_1 15 rfl rfl)
theorem dX7_classRow_40 : decode cX7_classRow 40 = .ok (.iaload, 1) := dk_46 (dk_at dksX7_classRow_1 16 rfl rfl)
theorem dX7_classRow_41 : decode cX7_classRow 41 = .ok (.iconst 1, 1) := dk_4 (dk_at dksX7_classRow_1 17 rfl rfl)
theorem dX7_classRow_42 : decode cX7_classRow 42 = .ok (.aload_n 0, 1) := dk_42 (dk_at dksX7_classRow_1 18 rfl rfl)
theorem dX7_classRow_43 : decode cX7_classRow 43 = .ok (.getfield 158, 3) := dk_180 0 158 (dk_at dksX7_classRow_1 19 rfl rfl)
theorem dX7_classRow_46 : decode cX7_classRow 46 = .ok (.ishl, 1) := dk_120 (dk_at dksX7_classRow_1 22 rfl rfl)
theorem dX7_classRow_47 : decode cX7_classRow 47 = .ok (.ior, 1) := dk_128 (dk_at dksX7_classRow_1 23 rfl rfl)
theorem dX7_classRow_48 : decode cX7_classRow 48 = .ok (.iastore, 1) := dk_79 (dk_at dksX7_classRow_2 0 rfl rfl)
theorem dX7_classRow_49 : decode cX7_classRow 49 = .ok (.aload_n 0, 1) := dk_42 (dk_at dksX7_classRow_2 1 rfl rfl)
theorem dX7_classRow_50 : decode cX7_classRow 50 = .ok (.invokevirtual 180, 3) := dk_182 0 180 (dk_at dksX7_classRow_2 2 rfl rfl)
theorem dX7_classRow_53 : decode cX7_classRow 53 = .ok (.aload_n 0, 1) := dk_42 (dk_at dksX7_classRow_2 5 rfl rfl)
theorem dX7_classRow_54 : decode cX7_classRow 54 = .ok (.bipush 14, 2) := dk_16 14 (dk_at dksX7_classRow_2 6 rfl rfl)
theorem dX7_classRow_56 : decode cX7_classRow 56 = .ok (.invokevirtual 183, 3) := dk_182 0 183 (dk_at dksX7_classRow_2 8 rfl rfl)
theorem dX7_classRow_59 : decode cX7_classRow 59 = .ok (.ifCond .ne 5, 3) := dk_154 0 5 (dk_at dksX7_classRow_2 11 rfl rfl)
theorem dX7_classRow_62 : decode cX7_classRow 62 = .ok (.iconst 1, 1) := dk_4 (dk_at dksX7_classRow_2 14 rfl rfl)
theorem dX7_classRow_63 : decode cX7_classRow 63 = .ok (.ireturn, 1) := dk_172 (dk_at dksX7_classRow_2 15 rfl rfl)
theorem dX7_classRow_64 : decode cX7_classRow 64 = .ok (.aload_n 0, 1) := dk_42 (dk_at dksX7_classRow_2 16 rfl rfl)
theorem dX7_classRow_65 : decode cX7_classRow 65 = .ok (.invokevirtual 180, 3) := dk_182 0 180 (dk_at dksX7_classRow_2 17 rfl rfl)
theorem dX7_classRow_68 : decode cX7_classRow 68 = .ok (.goto (-68), 3) := dk_167 255 188 (dk_at dksX7_classRow_2 20 rfl rfl)
abbrev cX7_ofNumber : ByteArray := prog_19_method_19_code
def yX7_ofNumber : MethodName := ⟨RX7, "ofNumber", "(I)Z"⟩
def dkwX7_ofNumber_4 : List UInt8 := [96, 42, 180, 0, 158, 79, 42, 182, 0, 180, 4, 172]
abbrev dktX7_ofNumber_4 : List UInt8 := dkwX7_ofNumber_4 ++ []
def dkwX7_ofNumber_3 : List UInt8 := [16, 99, 167, 0, 4, 6, 62, 42, 28, 29, 182, 0, 173, 154, 0, 5, 3, 172, 42, 180, 0, 86, 7, 27]
abbrev dktX7_ofNumber_3 : List UInt8 := dkwX7_ofNumber_3 ++ dktX7_ofNumber_4
def dkwX7_ofNumber_2 : List UInt8 := [154, 0, 8, 16, 40, 167, 0, 24, 27, 4, 160, 0, 8, 16, 9, 167, 0, 14, 27, 5, 160, 0, 8]
abbrev dktX7_ofNumber_2 : List UInt8 := dkwX7_ofNumber_2 ++ dktX7_ofNumber_3
def dkwX7_ofNumber_1 : List UInt8 := [182, 0, 180, 27, 5, 160, 0, 7, 5, 167, 0, 13, 27, 6, 160, 0, 7, 4, 167, 0, 4, 3, 61, 27]
abbrev dktX7_ofNumber_1 : List UInt8 := dkwX7_ofNumber_1 ++ dktX7_ofNumber_2
def dkwX7_ofNumber_0 : List UInt8 := [42, 180, 0, 89, 27, 51, 153, 0, 9, 42, 6, 182, 0, 164, 172, 42, 180, 0, 89, 27, 4, 84, 42]
abbrev dktX7_ofNumber_0 : List UInt8 := dkwX7_ofNumber_0 ++ dktX7_ofNumber_1
theorem dksX7_ofNumber_0 : cX7_ofNumber.data.toList.drop 0 = dktX7_ofNumber_0 := by decide +kernel
theorem dksX7_ofNumber_1 : cX7_ofNumber.data.toList.drop 23 = dktX7_ofNumber_1 := dk_seg dksX7_ofNumber_0 23 rfl rfl
theorem dksX7_ofNumber_2 : cX7_ofNumber.data.toList.drop 47 = dktX7_ofNumber_2 := dk_seg dksX7_ofNumber_1 24 rfl rfl
theorem dksX7_ofNumber_3 : cX7_ofNumber.data.toList.drop 70 = dktX7_ofNumber_3 := dk_seg dksX7_ofNumber_2 23 rfl rfl
theorem dksX7_ofNumber_4 : cX7_ofNumber.data.toList.drop 94 = dktX7_ofNumber_4 := dk_seg dksX7_ofNumber_3 24 rfl rfl
theorem dX7_ofNumber_0 : decode cX7_ofNumber 0 = .ok (.aload_n 0, 1) := dk_42 (dk_at dksX7_ofNumber_0 0 rfl rfl)
theorem dX7_ofNumber_1 : decode cX7_ofNumber 1 = .ok (.getfield 89, 3) := dk_180 0 89 (dk_at dksX7_ofNumber_0 1 rfl rfl)
theorem dX7_ofNumber_4 : decode cX7_ofNumber 4 = .ok (.iload_n 1, 1) := dk_27 (dk_at dksX7_ofNumber_0 4 rfl rfl)
theorem dX7_ofNumber_5 : decode cX7_ofNumber 5 = .ok (.baload, 1) := dk_51 (dk_at dksX7_ofNumber_0 5 rfl rfl)
theorem dX7_ofNumber_6 : decode cX7_ofNumber 6 = .ok (.ifCond .eq 9, 3) := dk_153 0 9 (dk_at dksX7_ofNumber_0 6 rfl rfl)
theorem dX7_ofNumber_9 : decode cX7_ofNumber 9 = .ok (.aload_n 0, 1) := dk_42 (dk_at dksX7_ofNumber_0 9 rfl rfl)
theorem dX7_ofNumber_10 : decode cX7_ofNumber 10 = .ok (.iconst 3, 1) := dk_6 (dk_at dksX7_ofNumber_0 10 rfl rfl)
theorem dX7_ofNumber_11 : decode cX7_ofNumber 11 = .ok (.invokevirtual 164, 3) := dk_182 0 164 (dk_at dksX7_ofNumber_0 11 rfl rfl)
theorem dX7_ofNumber_14 : decode cX7_ofNumber 14 = .ok (.ireturn, 1) := dk_172 (dk_at dksX7_ofNumber_0 14 rfl rfl)
theorem dX7_ofNumber_15 : decode cX7_ofNumber 15 = .ok (.aload_n 0, 1) := dk_42 (dk_at dksX7_ofNumber_0 15 rfl rfl)
theorem dX7_ofNumber_16 : decode cX7_ofNumber 16 = .ok (.getfield 89, 3) := dk_180 0 89 (dk_at dksX7_ofNumber_0 16 rfl rfl)
theorem dX7_ofNumber_19 : decode cX7_ofNumber 19 = .ok (.iload_n 1, 1) := dk_27 (dk_at dksX7_ofNumber_0 19 rfl rfl)
theorem dX7_ofNumber_20 : decode cX7_ofNumber 20 = .ok (.iconst 1, 1) := dk_4 (dk_at dksX7_ofNumber_0 20 rfl rfl)
theorem dX7_ofNumber_21 : decode cX7_ofNumber 21 = .ok (.bastore, 1) := dk_84 (dk_at dksX7_ofNumber_0 21 rfl rfl)
theorem dX7_ofNumber_22 : decode cX7_ofNumber 22 = .ok (.aload_n 0, 1) := dk_42 (dk_at dksX7_ofNumber_0 22 rfl rfl)
theorem dX7_ofNumber_23 : decode cX7_ofNumber 23 = .ok (.invokevirtual 180, 3) := dk_182 0 180 (dk_at dksX7_ofNumber_1 0 rfl rfl)
theorem dX7_ofNumber_26 : decode cX7_ofNumber 26 = .ok (.iload_n 1, 1) := dk_27 (dk_at dksX7_ofNumber_1 3 rfl rfl)
theorem dX7_ofNumber_27 : decode cX7_ofNumber 27 = .ok (.iconst 2, 1) := dk_5 (dk_at dksX7_ofNumber_1 4 rfl rfl)
theorem dX7_ofNumber_28 : decode cX7_ofNumber 28 = .ok (.if_icmp .ne 7, 3) := dk_160 0 7 (dk_at dksX7_ofNumber_1 5 rfl rfl)
theorem dX7_ofNumber_31 : decode cX7_ofNumber 31 = .ok (.iconst 2, 1) := dk_5 (dk_at dksX7_ofNumber_1 8 rfl rfl)
theorem dX7_ofNumber_32 : decode cX7_ofNumber 32 = .ok (.goto 13, 3) := dk_167 0 13 (dk_at dksX7_ofNumber_1 9 rfl rfl)
theorem dX7_ofNumber_35 : decode cX7_ofNumber 35 = .ok (.iload_n 1, 1) := dk_27 (dk_at dksX7_ofNumber_1 12 rfl rfl)
theorem dX7_ofNumber_36 : decode cX7_ofNumber 36 = .ok (.iconst 3, 1) := dk_6 (dk_at dksX7_ofNumber_1 13 rfl rfl)
theorem dX7_ofNumber_37 : decode cX7_ofNumber 37 = .ok (.if_icmp .ne 7, 3) := dk_160 0 7 (dk_at dksX7_ofNumber_1 14 rfl rfl)
theorem dX7_ofNumber_40 : decode cX7_ofNumber 40 = .ok (.iconst 1, 1) := dk_4 (dk_at dksX7_ofNumber_1 17 rfl rfl)
theorem dX7_ofNumber_41 : decode cX7_ofNumber 41 = .ok (.goto 4, 3) := dk_167 0 4 (dk_at dksX7_ofNumber_1 18 rfl rfl)
theorem dX7_ofNumber_44 : decode cX7_ofNumber 44 = .ok (.iconst 0, 1) := dk_3 (dk_at dksX7_ofNumber_1 21 rfl rfl)
theorem dX7_ofNumber_45 : decode cX7_ofNumber 45 = .ok (.istore_n 2, 1) := dk_61 (dk_at dksX7_ofNumber_1 22 rfl rfl)
theorem dX7_ofNumber_46 : decode cX7_ofNumber 46 = .ok (.iload_n 1, 1) := dk_27 (dk_at dksX7_ofNumber_1 23 rfl rfl)
theorem dX7_ofNumber_47 : decode cX7_ofNumber 47 = .ok (.ifCond .ne 8, 3) := dk_154 0 8 (dk_at dksX7_ofNumber_2 0 rfl rfl)
theorem dX7_ofNumber_50 : decode cX7_ofNumber 50 = .ok (.bipush 40, 2) := dk_16 40 (dk_at dksX7_ofNumber_2 3 rfl rfl)
theorem dX7_ofNumber_52 : decode cX7_ofNumber 52 = .ok (.goto 24, 3) := dk_167 0 24 (dk_at dksX7_ofNumber_2 5 rfl rfl)
theorem dX7_ofNumber_55 : decode cX7_ofNumber 55 = .ok (.iload_n 1, 1) := dk_27 (dk_at dksX7_ofNumber_2 8 rfl rfl)
theorem dX7_ofNumber_56 : decode cX7_ofNumber 56 = .ok (.iconst 1, 1) := dk_4 (dk_at dksX7_ofNumber_2 9 rfl rfl)
theorem dX7_ofNumber_57 : decode cX7_ofNumber 57 = .ok (.if_icmp .ne 8, 3) := dk_160 0 8 (dk_at dksX7_ofNumber_2 10 rfl rfl)
theorem dX7_ofNumber_60 : decode cX7_ofNumber 60 = .ok (.bipush 9, 2) := dk_16 9 (dk_at dksX7_ofNumber_2 13 rfl rfl)
theorem dX7_ofNumber_62 : decode cX7_ofNumber 62 = .ok (.goto 14, 3) := dk_167 0 14 (dk_at dksX7_ofNumber_2 15 rfl rfl)
theorem dX7_ofNumber_65 : decode cX7_ofNumber 65 = .ok (.iload_n 1, 1) := dk_27 (dk_at dksX7_ofNumber_2 18 rfl rfl)
theorem dX7_ofNumber_66 : decode cX7_ofNumber 66 = .ok (.iconst 2, 1) := dk_5 (dk_at dksX7_ofNumber_2 19 rfl rfl)
theorem dX7_ofNumber_67 : decode cX7_ofNumber 67 = .ok (.if_icmp .ne 8, 3) := dk_160 0 8 (dk_at dksX7_ofNumber_2 20 rfl rfl)
theorem dX7_ofNumber_70 : decode cX7_ofNumber 70 = .ok (.bipush 99, 2) := dk_16 99 (dk_at dksX7_ofNumber_3 0 rfl rfl)
theorem dX7_ofNumber_72 : decode cX7_ofNumber 72 = .ok (.goto 4, 3) := dk_167 0 4 (dk_at dksX7_ofNumber_3 2 rfl rfl)
theorem dX7_ofNumber_75 : decode cX7_ofNumber 75 = .ok (.iconst 3, 1) := dk_6 (dk_at dksX7_ofNumber_3 5 rfl rfl)
theorem dX7_ofNumber_76 : decode cX7_ofNumber 76 = .ok (.istore_n 3, 1) := dk_62 (dk_at dksX7_ofNumber_3 6 rfl rfl)
theorem dX7_ofNumber_77 : decode cX7_ofNumber 77 = .ok (.aload_n 0, 1) := dk_42 (dk_at dksX7_ofNumber_3 7 rfl rfl)
theorem dX7_ofNumber_78 : decode cX7_ofNumber 78 = .ok (.iload_n 2, 1) := dk_28 (dk_at dksX7_ofNumber_3 8 rfl rfl)
theorem dX7_ofNumber_79 : decode cX7_ofNumber 79 = .ok (.iload_n 3, 1) := dk_29 (dk_at dksX7_ofNumber_3 9 rfl rfl)
theorem dX7_ofNumber_80 : decode cX7_ofNumber 80 = .ok (.invokevirtual 173, 3) := dk_182 0 173 (dk_at dksX7_ofNumber_3 10 rfl rfl)
theorem dX7_ofNumber_83 : decode cX7_ofNumber 83 = .ok (.ifCond .ne 5, 3) := dk_154 0 5 (dk_at dksX7_ofNumber_3 13 rfl rfl)
theorem dX7_ofNumber_86 : decode cX7_ofNumber 86 = .ok (.iconst 0, 1) := dk_3 (dk_at dksX7_ofNumber_3 16 rfl rfl)
theorem dX7_ofNumber_87 : decode cX7_ofNumber 87 = .ok (.ireturn, 1) := dk_172 (dk_at dksX7_ofNumber_3 17 rfl rfl)
theorem dX7_ofNumber_88 : decode cX7_ofNumber 88 = .ok (.aload_n 0, 1) := dk_42 (dk_at dksX7_ofNumber_3 18 rfl rfl)
theorem dX7_ofNumber_89 : decode cX7_ofNumber 89 = .ok (.getfield 86, 3) := dk_180 0 86 (dk_at dksX7_ofNumber_3 19 rfl rfl)
theorem dX7_ofNumber_92 : decode cX7_ofNumber 92 = .ok (.iconst 4, 1) := dk_7 (dk_at dksX7_ofNumber_3 22 rfl rfl)
theorem dX7_ofNumber_93 : decode cX7_ofNumber 93 = .ok (.iload_n 1, 1) := dk_27 (dk_at dksX7_ofNumber_3 23 rfl rfl)
theorem dX7_ofNumber_94 : decode cX7_ofNumber 94 = .ok (.iadd, 1) := dk_96 (dk_at dksX7_ofNumber_4 0 rfl rfl)
theorem dX7_ofNumber_95 : decode cX7_ofNumber 95 = .ok (.aload_n 0, 1) := dk_42 (dk_at dksX7_ofNumber_4 1 rfl rfl)
theorem dX7_ofNumber_96 : decode cX7_ofNumber 96 = .ok (.getfield 158, 3) := dk_180 0 158 (dk_at dksX7_ofNumber_4 2 rfl rfl)
theorem dX7_ofNumber_99 : decode cX7_ofNumber 99 = .ok (.iastore, 1) := dk_79 (dk_at dksX7_ofNumber_4 5 rfl rfl)
theorem dX7_ofNumber_100 : decode cX7_ofNumber 100 = .ok (.aload_n 0, 1) := dk_42 (dk_at dksX7_ofNumber_4 6 rfl rfl)
theorem dX7_ofNumber_101 : decode cX7_ofNumber 101 = .ok (.invokevirtual 180, 3) := dk_182 0 180 (dk_at dksX7_ofNumber_4 7 rfl rfl)
theorem dX7_ofNumber_104 : decode cX7_ofNumber 104 = .ok (.iconst 1, 1) := dk_4 (dk_at dksX7_ofNumber_4 10 rfl rfl)
theorem dX7_ofNumber_105 : decode cX7_ofNumber 105 = .ok (.ireturn, 1) := dk_172 (dk_at dksX7_ofNumber_4 11 rfl rfl)
abbrev cX7_fault : ByteArray := prog_19_method_21_code
def yX7_fault : MethodName := ⟨RX7, "fault", "(I)I"⟩
def dkwX7_fault_1 : List UInt8 := [180, 0, 58, 167, 0, 4, 2, 172]
abbrev dktX7_fault_1 : List UInt8 := dkwX7_fault_1 ++ []
def dkwX7_fault_0 : List UInt8 := [42, 3, 181, 0, 129, 27, 154, 0, 10, 42, 180, 0, 135, 167, 0, 16, 27, 4, 160, 0, 10, 42]
abbrev dktX7_fault_0 : List UInt8 := dkwX7_fault_0 ++ dktX7_fault_1
theorem dksX7_fault_0 : cX7_fault.data.toList.drop 0 = dktX7_fault_0 := by decide +kernel
theorem dksX7_fault_1 : cX7_fault.data.toList.drop 22 = dktX7_fault_1 := dk_seg dksX7_fault_0 22 rfl rfl
theorem dX7_fault_0 : decode cX7_fault 0 = .ok (.aload_n 0, 1) := dk_42 (dk_at dksX7_fault_0 0 rfl rfl)
theorem dX7_fault_1 : decode cX7_fault 1 = .ok (.iconst 0, 1) := dk_3 (dk_at dksX7_fault_0 1 rfl rfl)
theorem dX7_fault_2 : decode cX7_fault 2 = .ok (.putfield 129, 3) := dk_181 0 129 (dk_at dksX7_fault_0 2 rfl rfl)
theorem dX7_fault_5 : decode cX7_fault 5 = .ok (.iload_n 1, 1) := dk_27 (dk_at dksX7_fault_0 5 rfl rfl)
theorem dX7_fault_6 : decode cX7_fault 6 = .ok (.ifCond .ne 10, 3) := dk_154 0 10 (dk_at dksX7_fault_0 6 rfl rfl)
theorem dX7_fault_9 : decode cX7_fault 9 = .ok (.aload_n 0, 1) := dk_42 (dk_at dksX7_fault_0 9 rfl rfl)
theorem dX7_fault_10 : decode cX7_fault 10 = .ok (.getfield 135, 3) := dk_180 0 135 (dk_at dksX7_fault_0 10 rfl rfl)
theorem dX7_fault_13 : decode cX7_fault 13 = .ok (.goto 16, 3) := dk_167 0 16 (dk_at dksX7_fault_0 13 rfl rfl)
theorem dX7_fault_16 : decode cX7_fault 16 = .ok (.iload_n 1, 1) := dk_27 (dk_at dksX7_fault_0 16 rfl rfl)
theorem dX7_fault_17 : decode cX7_fault 17 = .ok (.iconst 1, 1) := dk_4 (dk_at dksX7_fault_0 17 rfl rfl)
theorem dX7_fault_18 : decode cX7_fault 18 = .ok (.if_icmp .ne 10, 3) := dk_160 0 10 (dk_at dksX7_fault_0 18 rfl rfl)
theorem dX7_fault_21 : decode cX7_fault 21 = .ok (.aload_n 0, 1) := dk_42 (dk_at dksX7_fault_0 21 rfl rfl)
theorem dX7_fault_22 : decode cX7_fault 22 = .ok (.getfield 58, 3) := dk_180 0 58 (dk_at dksX7_fault_1 0 rfl rfl)
theorem dX7_fault_25 : decode cX7_fault 25 = .ok (.goto 4, 3) := dk_167 0 4 (dk_at dksX7_fault_1 3 rfl rfl)
theorem dX7_fault_28 : decode cX7_fault 28 = .ok (.iconst (-1), 1) := dk_2 (dk_at dksX7_fault_1 6 rfl rfl)
theorem dX7_fault_29 : decode cX7_fault 29 = .ok (.ireturn, 1) := dk_172 (dk_at dksX7_fault_1 7 rfl rfl)
abbrev cX7_halves : ByteArray := prog_19_method_22_code
def yX7_halves : MethodName := ⟨RX7, "halves", "(I)I"⟩
def dkwX7_halves_1 : List UInt8 := [164, 0, 5, 2, 172, 42, 89, 180, 0, 208, 27, 96, 181, 0, 208, 42, 180, 0, 208, 172]
abbrev dktX7_halves_1 : List UInt8 := dkwX7_halves_1 ++ []
def dkwX7_halves_0 : List UInt8 := [42, 3, 181, 0, 129, 27, 3, 16, 79, 184, 0, 204, 153, 0, 14, 42, 180, 0, 208, 27, 96, 16, 79]
abbrev dktX7_halves_0 : List UInt8 := dkwX7_halves_0 ++ dktX7_halves_1
theorem dksX7_halves_0 : cX7_halves.data.toList.drop 0 = dktX7_halves_0 := by decide +kernel
theorem dksX7_halves_1 : cX7_halves.data.toList.drop 23 = dktX7_halves_1 := dk_seg dksX7_halves_0 23 rfl rfl
theorem dX7_halves_0 : decode cX7_halves 0 = .ok (.aload_n 0, 1) := dk_42 (dk_at dksX7_halves_0 0 rfl rfl)
theorem dX7_halves_1 : decode cX7_halves 1 = .ok (.iconst 0, 1) := dk_3 (dk_at dksX7_halves_0 1 rfl rfl)
theorem dX7_halves_2 : decode cX7_halves 2 = .ok (.putfield 129, 3) := dk_181 0 129 (dk_at dksX7_halves_0 2 rfl rfl)
theorem dX7_halves_5 : decode cX7_halves 5 = .ok (.iload_n 1, 1) := dk_27 (dk_at dksX7_halves_0 5 rfl rfl)
theorem dX7_halves_6 : decode cX7_halves 6 = .ok (.iconst 0, 1) := dk_3 (dk_at dksX7_halves_0 6 rfl rfl)
theorem dX7_halves_7 : decode cX7_halves 7 = .ok (.bipush 79, 2) := dk_16 79 (dk_at dksX7_halves_0 7 rfl rfl)
theorem dX7_halves_9 : decode cX7_halves 9 = .ok (.invokestatic 204, 3) := dk_184 0 204 (dk_at dksX7_halves_0 9 rfl rfl)
theorem dX7_halves_12 : decode cX7_halves 12 = .ok (.ifCond .eq 14, 3) := dk_153 0 14 (dk_at dksX7_halves_0 12 rfl rfl)
theorem dX7_halves_15 : decode cX7_halves 15 = .ok (.aload_n 0, 1) := dk_42 (dk_at dksX7_halves_0 15 rfl rfl)
theorem dX7_halves_16 : decode cX7_halves 16 = .ok (.getfield 208, 3) := dk_180 0 208 (dk_at dksX7_halves_0 16 rfl rfl)
theorem dX7_halves_19 : decode cX7_halves 19 = .ok (.iload_n 1, 1) := dk_27 (dk_at dksX7_halves_0 19 rfl rfl)
theorem dX7_halves_20 : decode cX7_halves 20 = .ok (.iadd, 1) := dk_96 (dk_at dksX7_halves_0 20 rfl rfl)
theorem dX7_halves_21 : decode cX7_halves 21 = .ok (.bipush 79, 2) := dk_16 79 (dk_at dksX7_halves_0 21 rfl rfl)
theorem dX7_halves_23 : decode cX7_halves 23 = .ok (.if_icmp .le 5, 3) := dk_164 0 5 (dk_at dksX7_halves_1 0 rfl rfl)
theorem dX7_halves_26 : decode cX7_halves 26 = .ok (.iconst (-1), 1) := dk_2 (dk_at dksX7_halves_1 3 rfl rfl)
theorem dX7_halves_27 : decode cX7_halves 27 = .ok (.ireturn, 1) := dk_172 (dk_at dksX7_halves_1 4 rfl rfl)
theorem dX7_halves_28 : decode cX7_halves 28 = .ok (.aload_n 0, 1) := dk_42 (dk_at dksX7_halves_1 5 rfl rfl)
theorem dX7_halves_29 : decode cX7_halves 29 = .ok (.dup, 1) := dk_89 (dk_at dksX7_halves_1 6 rfl rfl)
theorem dX7_halves_30 : decode cX7_halves 30 = .ok (.getfield 208, 3) := dk_180 0 208 (dk_at dksX7_halves_1 7 rfl rfl)
theorem dX7_halves_33 : decode cX7_halves 33 = .ok (.iload_n 1, 1) := dk_27 (dk_at dksX7_halves_1 10 rfl rfl)
theorem dX7_halves_34 : decode cX7_halves 34 = .ok (.iadd, 1) := dk_96 (dk_at dksX7_halves_1 11 rfl rfl)
theorem dX7_halves_35 : decode cX7_halves 35 = .ok (.putfield 208, 3) := dk_181 0 208 (dk_at dksX7_halves_1 12 rfl rfl)
theorem dX7_halves_38 : decode cX7_halves 38 = .ok (.aload_n 0, 1) := dk_42 (dk_at dksX7_halves_1 15 rfl rfl)
theorem dX7_halves_39 : decode cX7_halves 39 = .ok (.getfield 208, 3) := dk_180 0 208 (dk_at dksX7_halves_1 16 rfl rfl)
theorem dX7_halves_42 : decode cX7_halves 42 = .ok (.ireturn, 1) := dk_172 (dk_at dksX7_halves_1 19 rfl rfl)
abbrev cX7_isIn : ByteArray := prog_19_method_4_code
def yX7_isIn : MethodName := ⟨RX7, "isIn", "(III)Z"⟩
def dkwX7_isIn_0 : List UInt8 := [26, 27, 161, 0, 12, 26, 28, 163, 0, 7, 4, 167, 0, 4, 3, 172]
abbrev dktX7_isIn_0 : List UInt8 := dkwX7_isIn_0 ++ []
theorem dksX7_isIn_0 : cX7_isIn.data.toList.drop 0 = dktX7_isIn_0 := by decide +kernel
theorem dX7_isIn_0 : decode cX7_isIn 0 = .ok (.iload_n 0, 1) := dk_26 (dk_at dksX7_isIn_0 0 rfl rfl)
theorem dX7_isIn_1 : decode cX7_isIn 1 = .ok (.iload_n 1, 1) := dk_27 (dk_at dksX7_isIn_0 1 rfl rfl)
theorem dX7_isIn_2 : decode cX7_isIn 2 = .ok (.if_icmp .lt 12, 3) := dk_161 0 12 (dk_at dksX7_isIn_0 2 rfl rfl)
theorem dX7_isIn_5 : decode cX7_isIn 5 = .ok (.iload_n 0, 1) := dk_26 (dk_at dksX7_isIn_0 5 rfl rfl)
theorem dX7_isIn_6 : decode cX7_isIn 6 = .ok (.iload_n 2, 1) := dk_28 (dk_at dksX7_isIn_0 6 rfl rfl)
theorem dX7_isIn_7 : decode cX7_isIn 7 = .ok (.if_icmp .gt 7, 3) := dk_163 0 7 (dk_at dksX7_isIn_0 7 rfl rfl)
theorem dX7_isIn_10 : decode cX7_isIn 10 = .ok (.iconst 1, 1) := dk_4 (dk_at dksX7_isIn_0 10 rfl rfl)
theorem dX7_isIn_11 : decode cX7_isIn 11 = .ok (.goto 4, 3) := dk_167 0 4 (dk_at dksX7_isIn_0 11 rfl rfl)
theorem dX7_isIn_14 : decode cX7_isIn 14 = .ok (.iconst 0, 1) := dk_3 (dk_at dksX7_isIn_0 14 rfl rfl)
theorem dX7_isIn_15 : decode cX7_isIn 15 = .ok (.ireturn, 1) := dk_172 (dk_at dksX7_isIn_0 15 rfl rfl)
abbrev cX7_life : ByteArray := prog_19_method_23_code
def yX7_life : MethodName := ⟨RX7, "life", "(II)I"⟩
def dkwX7_life_3 : List UInt8 := [181, 0, 211, 42, 180, 0, 211, 4, 100, 172]
abbrev dktX7_life_3 : List UInt8 := dkwX7_life_3 ++ []
def dkwX7_life_2 : List UInt8 := [180, 0, 211, 27, 79, 42, 180, 0, 16, 42, 180, 0, 211, 28, 79, 42, 89, 180, 0, 211, 4, 96]
abbrev dktX7_life_2 : List UInt8 := dkwX7_life_2 ++ dktX7_life_3
def dkwX7_life_1 : List UInt8 := [184, 0, 204, 153, 0, 12, 28, 3, 6, 184, 0, 204, 154, 0, 5, 2, 172, 42, 180, 0, 13, 42]
abbrev dktX7_life_1 : List UInt8 := dkwX7_life_1 ++ dktX7_life_2
def dkwX7_life_0 : List UInt8 := [42, 3, 181, 0, 129, 42, 180, 0, 211, 16, 12, 159, 0, 26, 27, 17, 255, 96, 42, 180, 0, 208]
abbrev dktX7_life_0 : List UInt8 := dkwX7_life_0 ++ dktX7_life_1
theorem dksX7_life_0 : cX7_life.data.toList.drop 0 = dktX7_life_0 := by decide +kernel
theorem dksX7_life_1 : cX7_life.data.toList.drop 22 = dktX7_life_1 := dk_seg dksX7_life_0 22 rfl rfl
theorem dksX7_life_2 : cX7_life.data.toList.drop 44 = dktX7_life_2 := dk_seg dksX7_life_1 22 rfl rfl
theorem dksX7_life_3 : cX7_life.data.toList.drop 66 = dktX7_life_3 := dk_seg dksX7_life_2 22 rfl rfl
theorem dX7_life_0 : decode cX7_life 0 = .ok (.aload_n 0, 1) := dk_42 (dk_at dksX7_life_0 0 rfl rfl)
theorem dX7_life_1 : decode cX7_life 1 = .ok (.iconst 0, 1) := dk_3 (dk_at dksX7_life_0 1 rfl rfl)
theorem dX7_life_2 : decode cX7_life 2 = .ok (.putfield 129, 3) := dk_181 0 129 (dk_at dksX7_life_0 2 rfl rfl)
theorem dX7_life_5 : decode cX7_life 5 = .ok (.aload_n 0, 1) := dk_42 (dk_at dksX7_life_0 5 rfl rfl)
theorem dX7_life_6 : decode cX7_life 6 = .ok (.getfield 211, 3) := dk_180 0 211 (dk_at dksX7_life_0 6 rfl rfl)
theorem dX7_life_9 : decode cX7_life 9 = .ok (.bipush 12, 2) := dk_16 12 (dk_at dksX7_life_0 9 rfl rfl)
theorem dX7_life_11 : decode cX7_life 11 = .ok (.if_icmp .eq 26, 3) := dk_159 0 26 (dk_at dksX7_life_0 11 rfl rfl)
theorem dX7_life_14 : decode cX7_life 14 = .ok (.iload_n 1, 1) := dk_27 (dk_at dksX7_life_0 14 rfl rfl)
theorem dX7_life_15 : decode cX7_life 15 = .ok (.sipush (-160), 3) := dk_17 255 96 (dk_at dksX7_life_0 15 rfl rfl)
theorem dX7_life_18 : decode cX7_life 18 = .ok (.aload_n 0, 1) := dk_42 (dk_at dksX7_life_0 18 rfl rfl)
theorem dX7_life_19 : decode cX7_life 19 = .ok (.getfield 208, 3) := dk_180 0 208 (dk_at dksX7_life_0 19 rfl rfl)
theorem dX7_life_22 : decode cX7_life 22 = .ok (.invokestatic 204, 3) := dk_184 0 204 (dk_at dksX7_life_1 0 rfl rfl)
theorem dX7_life_25 : decode cX7_life 25 = .ok (.ifCond .eq 12, 3) := dk_153 0 12 (dk_at dksX7_life_1 3 rfl rfl)
theorem dX7_life_28 : decode cX7_life 28 = .ok (.iload_n 2, 1) := dk_28 (dk_at dksX7_life_1 6 rfl rfl)
theorem dX7_life_29 : decode cX7_life 29 = .ok (.iconst 0, 1) := dk_3 (dk_at dksX7_life_1 7 rfl rfl)
theorem dX7_life_30 : decode cX7_life 30 = .ok (.iconst 3, 1) := dk_6 (dk_at dksX7_life_1 8 rfl rfl)
theorem dX7_life_31 : decode cX7_life 31 = .ok (.invokestatic 204, 3) := dk_184 0 204 (dk_at dksX7_life_1 9 rfl rfl)
theorem dX7_life_34 : decode cX7_life 34 = .ok (.ifCond .ne 5, 3) := dk_154 0 5 (dk_at dksX7_life_1 12 rfl rfl)
theorem dX7_life_37 : decode cX7_life 37 = .ok (.iconst (-1), 1) := dk_2 (dk_at dksX7_life_1 15 rfl rfl)
theorem dX7_life_38 : decode cX7_life 38 = .ok (.ireturn, 1) := dk_172 (dk_at dksX7_life_1 16 rfl rfl)
theorem dX7_life_39 : decode cX7_life 39 = .ok (.aload_n 0, 1) := dk_42 (dk_at dksX7_life_1 17 rfl rfl)
theorem dX7_life_40 : decode cX7_life 40 = .ok (.getfield 13, 3) := dk_180 0 13 (dk_at dksX7_life_1 18 rfl rfl)
theorem dX7_life_43 : decode cX7_life 43 = .ok (.aload_n 0, 1) := dk_42 (dk_at dksX7_life_1 21 rfl rfl)
theorem dX7_life_44 : decode cX7_life 44 = .ok (.getfield 211, 3) := dk_180 0 211 (dk_at dksX7_life_2 0 rfl rfl)
theorem dX7_life_47 : decode cX7_life 47 = .ok (.iload_n 1, 1) := dk_27 (dk_at dksX7_life_2 3 rfl rfl)
theorem dX7_life_48 : decode cX7_life 48 = .ok (.iastore, 1) := dk_79 (dk_at dksX7_life_2 4 rfl rfl)
theorem dX7_life_49 : decode cX7_life 49 = .ok (.aload_n 0, 1) := dk_42 (dk_at dksX7_life_2 5 rfl rfl)
theorem dX7_life_50 : decode cX7_life 50 = .ok (.getfield 16, 3) := dk_180 0 16 (dk_at dksX7_life_2 6 rfl rfl)
theorem dX7_life_53 : decode cX7_life 53 = .ok (.aload_n 0, 1) := dk_42 (dk_at dksX7_life_2 9 rfl rfl)
theorem dX7_life_54 : decode cX7_life 54 = .ok (.getfield 211, 3) := dk_180 0 211 (dk_at dksX7_life_2 10 rfl rfl)
theorem dX7_life_57 : decode cX7_life 57 = .ok (.iload_n 2, 1) := dk_28 (dk_at dksX7_life_2 13 rfl rfl)
theorem dX7_life_58 : decode cX7_life 58 = .ok (.iastore, 1) := dk_79 (dk_at dksX7_life_2 14 rfl rfl)
theorem dX7_life_59 : decode cX7_life 59 = .ok (.aload_n 0, 1) := dk_42 (dk_at dksX7_life_2 15 rfl rfl)
theorem dX7_life_60 : decode cX7_life 60 = .ok (.dup, 1) := dk_89 (dk_at dksX7_life_2 16 rfl rfl)
theorem dX7_life_61 : decode cX7_life 61 = .ok (.getfield 211, 3) := dk_180 0 211 (dk_at dksX7_life_2 17 rfl rfl)
theorem dX7_life_64 : decode cX7_life 64 = .ok (.iconst 1, 1) := dk_4 (dk_at dksX7_life_2 20 rfl rfl)
theorem dX7_life_65 : decode cX7_life 65 = .ok (.iadd, 1) := dk_96 (dk_at dksX7_life_2 21 rfl rfl)
theorem dX7_life_66 : decode cX7_life 66 = .ok (.putfield 211, 3) := dk_181 0 211 (dk_at dksX7_life_3 0 rfl rfl)
theorem dX7_life_69 : decode cX7_life 69 = .ok (.aload_n 0, 1) := dk_42 (dk_at dksX7_life_3 3 rfl rfl)
theorem dX7_life_70 : decode cX7_life 70 = .ok (.getfield 211, 3) := dk_180 0 211 (dk_at dksX7_life_3 4 rfl rfl)
theorem dX7_life_73 : decode cX7_life 73 = .ok (.iconst 1, 1) := dk_4 (dk_at dksX7_life_3 7 rfl rfl)
theorem dX7_life_74 : decode cX7_life 74 = .ok (.isub, 1) := dk_100 (dk_at dksX7_life_3 8 rfl rfl)
theorem dX7_life_75 : decode cX7_life 75 = .ok (.ireturn, 1) := dk_172 (dk_at dksX7_life_3 9 rfl rfl)
abbrev cX7_asks : ByteArray := prog_19_method_30_code
def yX7_asks : MethodName := ⟨RX7, "asks", "(II)I"⟩
def dkwX7_asks_2 : List UInt8 := [160, 0, 12, 42, 27, 2, 182, 0, 227, 167, 0, 9, 42, 27, 2, 182, 0, 230, 172]
abbrev dktX7_asks_2 : List UInt8 := dkwX7_asks_2 ++ []
def dkwX7_asks_1 : List UInt8 := [28, 154, 0, 20, 42, 27, 2, 182, 0, 224, 153, 0, 7, 4, 167, 0, 27, 3, 167, 0, 23, 28, 4]
abbrev dktX7_asks_1 : List UInt8 := dkwX7_asks_1 ++ dktX7_asks_2
def dkwX7_asks_0 : List UInt8 := [42, 3, 181, 0, 129, 42, 27, 182, 0, 221, 153, 0, 12, 28, 3, 5, 184, 0, 204, 154, 0, 5, 2, 172]
abbrev dktX7_asks_0 : List UInt8 := dkwX7_asks_0 ++ dktX7_asks_1
theorem dksX7_asks_0 : cX7_asks.data.toList.drop 0 = dktX7_asks_0 := by decide +kernel
theorem dksX7_asks_1 : cX7_asks.data.toList.drop 24 = dktX7_asks_1 := dk_seg dksX7_asks_0 24 rfl rfl
theorem dksX7_asks_2 : cX7_asks.data.toList.drop 47 = dktX7_asks_2 := dk_seg dksX7_asks_1 23 rfl rfl
theorem dX7_asks_0 : decode cX7_asks 0 = .ok (.aload_n 0, 1) := dk_42 (dk_at dksX7_asks_0 0 rfl rfl)
theorem dX7_asks_1 : decode cX7_asks 1 = .ok (.iconst 0, 1) := dk_3 (dk_at dksX7_asks_0 1 rfl rfl)
theorem dX7_asks_2 : decode cX7_asks 2 = .ok (.putfield 129, 3) := dk_181 0 129 (dk_at dksX7_asks_0 2 rfl rfl)
theorem dX7_asks_5 : decode cX7_asks 5 = .ok (.aload_n 0, 1) := dk_42 (dk_at dksX7_asks_0 5 rfl rfl)
theorem dX7_asks_6 : decode cX7_asks 6 = .ok (.iload_n 1, 1) := dk_27 (dk_at dksX7_asks_0 6 rfl rfl)
theorem dX7_asks_7 : decode cX7_asks 7 = .ok (.invokevirtual 221, 3) := dk_182 0 221 (dk_at dksX7_asks_0 7 rfl rfl)
theorem dX7_asks_10 : decode cX7_asks 10 = .ok (.ifCond .eq 12, 3) := dk_153 0 12 (dk_at dksX7_asks_0 10 rfl rfl)
theorem dX7_asks_13 : decode cX7_asks 13 = .ok (.iload_n 2, 1) := dk_28 (dk_at dksX7_asks_0 13 rfl rfl)
theorem dX7_asks_14 : decode cX7_asks 14 = .ok (.iconst 0, 1) := dk_3 (dk_at dksX7_asks_0 14 rfl rfl)
theorem dX7_asks_15 : decode cX7_asks 15 = .ok (.iconst 2, 1) := dk_5 (dk_at dksX7_asks_0 15 rfl rfl)
theorem dX7_asks_16 : decode cX7_asks 16 = .ok (.invokestatic 204, 3) := dk_184 0 204 (dk_at dksX7_asks_0 16 rfl rfl)
theorem dX7_asks_19 : decode cX7_asks 19 = .ok (.ifCond .ne 5, 3) := dk_154 0 5 (dk_at dksX7_asks_0 19 rfl rfl)
theorem dX7_asks_22 : decode cX7_asks 22 = .ok (.iconst (-1), 1) := dk_2 (dk_at dksX7_asks_0 22 rfl rfl)
theorem dX7_asks_23 : decode cX7_asks 23 = .ok (.ireturn, 1) := dk_172 (dk_at dksX7_asks_0 23 rfl rfl)
theorem dX7_asks_24 : decode cX7_asks 24 = .ok (.iload_n 2, 1) := dk_28 (dk_at dksX7_asks_1 0 rfl rfl)
theorem dX7_asks_25 : decode cX7_asks 25 = .ok (.ifCond .ne 20, 3) := dk_154 0 20 (dk_at dksX7_asks_1 1 rfl rfl)
theorem dX7_asks_28 : decode cX7_asks 28 = .ok (.aload_n 0, 1) := dk_42 (dk_at dksX7_asks_1 4 rfl rfl)
theorem dX7_asks_29 : decode cX7_asks 29 = .ok (.iload_n 1, 1) := dk_27 (dk_at dksX7_asks_1 5 rfl rfl)
theorem dX7_asks_30 : decode cX7_asks 30 = .ok (.iconst (-1), 1) := dk_2 (dk_at dksX7_asks_1 6 rfl rfl)
theorem dX7_asks_31 : decode cX7_asks 31 = .ok (.invokevirtual 224, 3) := dk_182 0 224 (dk_at dksX7_asks_1 7 rfl rfl)
theorem dX7_asks_34 : decode cX7_asks 34 = .ok (.ifCond .eq 7, 3) := dk_153 0 7 (dk_at dksX7_asks_1 10 rfl rfl)
theorem dX7_asks_37 : decode cX7_asks 37 = .ok (.iconst 1, 1) := dk_4 (dk_at dksX7_asks_1 13 rfl rfl)
theorem dX7_asks_38 : decode cX7_asks 38 = .ok (.goto 27, 3) := dk_167 0 27 (dk_at dksX7_asks_1 14 rfl rfl)
theorem dX7_asks_41 : decode cX7_asks 41 = .ok (.iconst 0, 1) := dk_3 (dk_at dksX7_asks_1 17 rfl rfl)
theorem dX7_asks_42 : decode cX7_asks 42 = .ok (.goto 23, 3) := dk_167 0 23 (dk_at dksX7_asks_1 18 rfl rfl)
theorem dX7_asks_45 : decode cX7_asks 45 = .ok (.iload_n 2, 1) := dk_28 (dk_at dksX7_asks_1 21 rfl rfl)
theorem dX7_asks_46 : decode cX7_asks 46 = .ok (.iconst 1, 1) := dk_4 (dk_at dksX7_asks_1 22 rfl rfl)
theorem dX7_asks_47 : decode cX7_asks 47 = .ok (.if_icmp .ne 12, 3) := dk_160 0 12 (dk_at dksX7_asks_2 0 rfl rfl)
theorem dX7_asks_50 : decode cX7_asks 50 = .ok (.aload_n 0, 1) := dk_42 (dk_at dksX7_asks_2 3 rfl rfl)
theorem dX7_asks_51 : decode cX7_asks 51 = .ok (.iload_n 1, 1) := dk_27 (dk_at dksX7_asks_2 4 rfl rfl)
theorem dX7_asks_52 : decode cX7_asks 52 = .ok (.iconst (-1), 1) := dk_2 (dk_at dksX7_asks_2 5 rfl rfl)
theorem dX7_asks_53 : decode cX7_asks 53 = .ok (.invokevirtual 227, 3) := dk_182 0 227 (dk_at dksX7_asks_2 6 rfl rfl)
theorem dX7_asks_56 : decode cX7_asks 56 = .ok (.goto 9, 3) := dk_167 0 9 (dk_at dksX7_asks_2 9 rfl rfl)
theorem dX7_asks_59 : decode cX7_asks 59 = .ok (.aload_n 0, 1) := dk_42 (dk_at dksX7_asks_2 12 rfl rfl)
theorem dX7_asks_60 : decode cX7_asks 60 = .ok (.iload_n 1, 1) := dk_27 (dk_at dksX7_asks_2 13 rfl rfl)
theorem dX7_asks_61 : decode cX7_asks 61 = .ok (.iconst (-1), 1) := dk_2 (dk_at dksX7_asks_2 14 rfl rfl)
theorem dX7_asks_62 : decode cX7_asks 62 = .ok (.invokevirtual 230, 3) := dk_182 0 230 (dk_at dksX7_asks_2 15 rfl rfl)
theorem dX7_asks_65 : decode cX7_asks 65 = .ok (.ireturn, 1) := dk_172 (dk_at dksX7_asks_2 18 rfl rfl)
abbrev cX7_isLife : ByteArray := prog_19_method_24_code
def yX7_isLife : MethodName := ⟨RX7, "isLife", "(I)Z"⟩
def dkwX7_isLife_0 : List UInt8 := [27, 155, 0, 15, 27, 42, 180, 0, 211, 162, 0, 7, 4, 167, 0, 4, 3, 172]
abbrev dktX7_isLife_0 : List UInt8 := dkwX7_isLife_0 ++ []
theorem dksX7_isLife_0 : cX7_isLife.data.toList.drop 0 = dktX7_isLife_0 := by decide +kernel
theorem dX7_isLife_0 : decode cX7_isLife 0 = .ok (.iload_n 1, 1) := dk_27 (dk_at dksX7_isLife_0 0 rfl rfl)
theorem dX7_isLife_1 : decode cX7_isLife 1 = .ok (.ifCond .lt 15, 3) := dk_155 0 15 (dk_at dksX7_isLife_0 1 rfl rfl)
theorem dX7_isLife_4 : decode cX7_isLife 4 = .ok (.iload_n 1, 1) := dk_27 (dk_at dksX7_isLife_0 4 rfl rfl)
theorem dX7_isLife_5 : decode cX7_isLife 5 = .ok (.aload_n 0, 1) := dk_42 (dk_at dksX7_isLife_0 5 rfl rfl)
theorem dX7_isLife_6 : decode cX7_isLife 6 = .ok (.getfield 211, 3) := dk_180 0 211 (dk_at dksX7_isLife_0 6 rfl rfl)
theorem dX7_isLife_9 : decode cX7_isLife 9 = .ok (.if_icmp .ge 7, 3) := dk_162 0 7 (dk_at dksX7_isLife_0 9 rfl rfl)
theorem dX7_isLife_12 : decode cX7_isLife 12 = .ok (.iconst 1, 1) := dk_4 (dk_at dksX7_isLife_0 12 rfl rfl)
theorem dX7_isLife_13 : decode cX7_isLife 13 = .ok (.goto 4, 3) := dk_167 0 4 (dk_at dksX7_isLife_0 13 rfl rfl)
theorem dX7_isLife_16 : decode cX7_isLife 16 = .ok (.iconst 0, 1) := dk_3 (dk_at dksX7_isLife_0 16 rfl rfl)
theorem dX7_isLife_17 : decode cX7_isLife 17 = .ok (.ireturn, 1) := dk_172 (dk_at dksX7_isLife_0 17 rfl rfl)
abbrev cX7_mayBe : ByteArray := prog_19_method_27_code
def yX7_mayBe : MethodName := ⟨RX7, "mayBe", "(II)Z"⟩
def dkwX7_mayBe_0 : List UInt8 := [42, 3, 27, 28, 42, 180, 0, 208, 4, 182, 0, 217, 4, 160, 0, 7, 4, 167, 0, 4, 3, 172]
abbrev dktX7_mayBe_0 : List UInt8 := dkwX7_mayBe_0 ++ []
theorem dksX7_mayBe_0 : cX7_mayBe.data.toList.drop 0 = dktX7_mayBe_0 := by decide +kernel
theorem dX7_mayBe_0 : decode cX7_mayBe 0 = .ok (.aload_n 0, 1) := dk_42 (dk_at dksX7_mayBe_0 0 rfl rfl)
theorem dX7_mayBe_1 : decode cX7_mayBe 1 = .ok (.iconst 0, 1) := dk_3 (dk_at dksX7_mayBe_0 1 rfl rfl)
theorem dX7_mayBe_2 : decode cX7_mayBe 2 = .ok (.iload_n 1, 1) := dk_27 (dk_at dksX7_mayBe_0 2 rfl rfl)
theorem dX7_mayBe_3 : decode cX7_mayBe 3 = .ok (.iload_n 2, 1) := dk_28 (dk_at dksX7_mayBe_0 3 rfl rfl)
theorem dX7_mayBe_4 : decode cX7_mayBe 4 = .ok (.aload_n 0, 1) := dk_42 (dk_at dksX7_mayBe_0 4 rfl rfl)
theorem dX7_mayBe_5 : decode cX7_mayBe 5 = .ok (.getfield 208, 3) := dk_180 0 208 (dk_at dksX7_mayBe_0 5 rfl rfl)
theorem dX7_mayBe_8 : decode cX7_mayBe 8 = .ok (.iconst 1, 1) := dk_4 (dk_at dksX7_mayBe_0 8 rfl rfl)
theorem dX7_mayBe_9 : decode cX7_mayBe 9 = .ok (.invokevirtual 217, 3) := dk_182 0 217 (dk_at dksX7_mayBe_0 9 rfl rfl)
theorem dX7_mayBe_12 : decode cX7_mayBe 12 = .ok (.iconst 1, 1) := dk_4 (dk_at dksX7_mayBe_0 12 rfl rfl)
theorem dX7_mayBe_13 : decode cX7_mayBe 13 = .ok (.if_icmp .ne 7, 3) := dk_160 0 7 (dk_at dksX7_mayBe_0 13 rfl rfl)
theorem dX7_mayBe_16 : decode cX7_mayBe 16 = .ok (.iconst 1, 1) := dk_4 (dk_at dksX7_mayBe_0 16 rfl rfl)
theorem dX7_mayBe_17 : decode cX7_mayBe 17 = .ok (.goto 4, 3) := dk_167 0 4 (dk_at dksX7_mayBe_0 17 rfl rfl)
theorem dX7_mayBe_20 : decode cX7_mayBe 20 = .ok (.iconst 0, 1) := dk_3 (dk_at dksX7_mayBe_0 20 rfl rfl)
theorem dX7_mayBe_21 : decode cX7_mayBe 21 = .ok (.ireturn, 1) := dk_172 (dk_at dksX7_mayBe_0 21 rfl rfl)
abbrev cX7_actOf : ByteArray := prog_19_method_26_code
def yX7_actOf : MethodName := ⟨RX7, "actOf", "(IIIII)I"⟩
def dkwX7_actOf_10 : List UInt8 := [21, 8, 46, 172, 132, 8, 255, 167, 255, 62, 21, 5, 172]
abbrev dktX7_actOf_10 : List UInt8 := dkwX7_actOf_10 ++ []
def dkwX7_actOf_9 : List UInt8 := [153, 0, 27, 27, 154, 0, 15, 4, 42, 180, 0, 62, 21, 8, 46, 100, 167, 0, 10, 42, 180, 0, 65]
abbrev dktX7_actOf_9 : List UInt8 := dkwX7_actOf_9 ++ dktX7_actOf_10
def dkwX7_actOf_8 : List UInt8 := [3, 29, 2, 159, 0, 7, 4, 167, 0, 4, 3, 160, 0, 7, 4, 167, 0, 4, 3, 54, 10, 21, 10]
abbrev dktX7_actOf_8 : List UInt8 := dkwX7_actOf_8 ++ dktX7_actOf_9
def dkwX7_actOf_7 : List UInt8 := [180, 0, 83, 21, 8, 46, 153, 0, 32, 42, 180, 0, 83, 21, 8, 46, 4, 160, 0, 7, 4, 167, 0, 4]
abbrev dktX7_actOf_7 : List UInt8 := dkwX7_actOf_7 ++ dktX7_actOf_8
def dkwX7_actOf_6 : List UInt8 := [21, 4, 42, 180, 0, 77, 21, 8, 46, 42, 180, 0, 80, 21, 8, 46, 184, 0, 204, 153, 0, 46, 42]
abbrev dktX7_actOf_6 : List UInt8 := dkwX7_actOf_6 ++ dktX7_actOf_7
def dkwX7_actOf_5 : List UInt8 := [153, 0, 89, 42, 180, 0, 74, 21, 8, 46, 42, 180, 0, 16, 21, 6, 46, 122, 4, 126, 4, 160, 0, 68]
abbrev dktX7_actOf_5 : List UInt8 := dkwX7_actOf_5 ++ dktX7_actOf_6
def dkwX7_actOf_4 : List UInt8 := [153, 0, 111, 21, 7, 42, 180, 0, 68, 21, 8, 46, 42, 180, 0, 71, 21, 8, 46, 184, 0, 204]
abbrev dktX7_actOf_4 : List UInt8 := dkwX7_actOf_4 ++ dktX7_actOf_5
def dkwX7_actOf_3 : List UInt8 := [3, 167, 0, 19, 42, 180, 0, 62, 21, 8, 46, 27, 160, 0, 7, 4, 167, 0, 4, 3, 54, 9, 21, 9]
abbrev dktX7_actOf_3 : List UInt8 := dkwX7_actOf_3 ++ dktX7_actOf_4
def dkwX7_actOf_2 : List UInt8 := [21, 8, 155, 0, 195, 27, 154, 0, 22, 42, 180, 0, 62, 21, 8, 46, 4, 163, 0, 7, 4, 167, 0, 23]
abbrev dktX7_actOf_2 : List UInt8 := dkwX7_actOf_2 ++ dktX7_actOf_3
def dkwX7_actOf_1 : List UInt8 := [167, 0, 4, 29, 54, 6, 42, 21, 6, 21, 4, 182, 0, 214, 54, 7, 42, 180, 0, 170, 4, 100, 54, 8]
abbrev dktX7_actOf_1 : List UInt8 := dkwX7_actOf_1 ++ dktX7_actOf_2
def dkwX7_actOf_0 : List UInt8 := [29, 2, 159, 0, 20, 42, 28, 21, 4, 182, 0, 214, 42, 29, 21, 4, 182, 0, 214, 163, 0, 7, 28]
abbrev dktX7_actOf_0 : List UInt8 := dkwX7_actOf_0 ++ dktX7_actOf_1
theorem dksX7_actOf_0 : cX7_actOf.data.toList.drop 0 = dktX7_actOf_0 := by decide +kernel
theorem dksX7_actOf_1 : cX7_actOf.data.toList.drop 23 = dktX7_actOf_1 := dk_seg dksX7_actOf_0 23 rfl rfl
theorem dksX7_actOf_2 : cX7_actOf.data.toList.drop 47 = dktX7_actOf_2 := dk_seg dksX7_actOf_1 24 rfl rfl
theorem dksX7_actOf_3 : cX7_actOf.data.toList.drop 71 = dktX7_actOf_3 := dk_seg dksX7_actOf_2 24 rfl rfl
theorem dksX7_actOf_4 : cX7_actOf.data.toList.drop 95 = dktX7_actOf_4 := dk_seg dksX7_actOf_3 24 rfl rfl
theorem dksX7_actOf_5 : cX7_actOf.data.toList.drop 117 = dktX7_actOf_5 := dk_seg dksX7_actOf_4 22 rfl rfl
theorem dksX7_actOf_6 : cX7_actOf.data.toList.drop 141 = dktX7_actOf_6 := dk_seg dksX7_actOf_5 24 rfl rfl
theorem dksX7_actOf_7 : cX7_actOf.data.toList.drop 164 = dktX7_actOf_7 := dk_seg dksX7_actOf_6 23 rfl rfl
theorem dksX7_actOf_8 : cX7_actOf.data.toList.drop 188 = dktX7_actOf_8 := dk_seg dksX7_actOf_7 24 rfl rfl
theorem dksX7_actOf_9 : cX7_actOf.data.toList.drop 211 = dktX7_actOf_9 := dk_seg dksX7_actOf_8 23 rfl rfl
theorem dksX7_actOf_10 : cX7_actOf.data.toList.drop 234 = dktX7_actOf_10 := dk_seg dksX7_actOf_9 23 rfl rfl
theorem dX7_actOf_0 : decode cX7_actOf 0 = .ok (.iload_n 3, 1) := dk_29 (dk_at dksX7_actOf_0 0 rfl rfl)
theorem dX7_actOf_1 : decode cX7_actOf 1 = .ok (.iconst (-1), 1) := dk_2 (dk_at dksX7_actOf_0 1 rfl rfl)
theorem dX7_actOf_2 : decode cX7_actOf 2 = .ok (.if_icmp .eq 20, 3) := dk_159 0 20 (dk_at dksX7_actOf_0 2 rfl rfl)
theorem dX7_actOf_5 : decode cX7_actOf 5 = .ok (.aload_n 0, 1) := dk_42 (dk_at dksX7_actOf_0 5 rfl rfl)
theorem dX7_actOf_6 : decode cX7_actOf 6 = .ok (.iload_n 2, 1) := dk_28 (dk_at dksX7_actOf_0 6 rfl rfl)
theorem dX7_actOf_7 : decode cX7_actOf 7 = .ok (.iload 4, 2) := dk_21 4 (dk_at dksX7_actOf_0 7 rfl rfl)
theorem dX7_actOf_9 : decode cX7_actOf 9 = .ok (.invokevirtual 214, 3) := dk_182 0 214 (dk_at dksX7_actOf_0 9 rfl rfl)
theorem dX7_actOf_12 : decode cX7_actOf 12 = .ok (.aload_n 0, 1) := dk_42 (dk_at dksX7_actOf_0 12 rfl rfl)
theorem dX7_actOf_13 : decode cX7_actOf 13 = .ok (.iload_n 3, 1) := dk_29 (dk_at dksX7_actOf_0 13 rfl rfl)
theorem dX7_actOf_14 : decode cX7_actOf 14 = .ok (.iload 4, 2) := dk_21 4 (dk_at dksX7_actOf_0 14 rfl rfl)
theorem dX7_actOf_16 : decode cX7_actOf 16 = .ok (.invokevirtual 214, 3) := dk_182 0 214 (dk_at dksX7_actOf_0 16 rfl rfl)
theorem dX7_actOf_19 : decode cX7_actOf 19 = .ok (.if_icmp .gt 7, 3) := dk_163 0 7 (dk_at dksX7_actOf_0 19 rfl rfl)
theorem dX7_actOf_22 : decode cX7_actOf 22 = .ok (.iload_n 2, 1) := dk_28 (dk_at dksX7_actOf_0 22 rfl rfl)
theorem dX7_actOf_23 : decode cX7_actOf 23 = .ok (.goto 4, 3) := dk_167 0 4 (dk_at dksX7_actOf_1 0 rfl rfl)
theorem dX7_actOf_26 : decode cX7_actOf 26 = .ok (.iload_n 3, 1) := dk_29 (dk_at dksX7_actOf_1 3 rfl rfl)
theorem dX7_actOf_27 : decode cX7_actOf 27 = .ok (.istore 6, 2) := dk_54 6 (dk_at dksX7_actOf_1 4 rfl rfl)
theorem dX7_actOf_29 : decode cX7_actOf 29 = .ok (.aload_n 0, 1) := dk_42 (dk_at dksX7_actOf_1 6 rfl rfl)
theorem dX7_actOf_30 : decode cX7_actOf 30 = .ok (.iload 6, 2) := dk_21 6 (dk_at dksX7_actOf_1 7 rfl rfl)
theorem dX7_actOf_32 : decode cX7_actOf 32 = .ok (.iload 4, 2) := dk_21 4 (dk_at dksX7_actOf_1 9 rfl rfl)
theorem dX7_actOf_34 : decode cX7_actOf 34 = .ok (.invokevirtual 214, 3) := dk_182 0 214 (dk_at dksX7_actOf_1 11 rfl rfl)
theorem dX7_actOf_37 : decode cX7_actOf 37 = .ok (.istore 7, 2) := dk_54 7 (dk_at dksX7_actOf_1 14 rfl rfl)
theorem dX7_actOf_39 : decode cX7_actOf 39 = .ok (.aload_n 0, 1) := dk_42 (dk_at dksX7_actOf_1 16 rfl rfl)
theorem dX7_actOf_40 : decode cX7_actOf 40 = .ok (.getfield 170, 3) := dk_180 0 170 (dk_at dksX7_actOf_1 17 rfl rfl)
theorem dX7_actOf_43 : decode cX7_actOf 43 = .ok (.iconst 1, 1) := dk_4 (dk_at dksX7_actOf_1 20 rfl rfl)
theorem dX7_actOf_44 : decode cX7_actOf 44 = .ok (.isub, 1) := dk_100 (dk_at dksX7_actOf_1 21 rfl rfl)
theorem dX7_actOf_45 : decode cX7_actOf 45 = .ok (.istore 8, 2) := dk_54 8 (dk_at dksX7_actOf_1 22 rfl rfl)
theorem dX7_actOf_47 : decode cX7_actOf 47 = .ok (.iload 8, 2) := dk_21 8 (dk_at dksX7_actOf_2 0 rfl rfl)
theorem dX7_actOf_49 : decode cX7_actOf 49 = .ok (.ifCond .lt 195, 3) := dk_155 0 195 (dk_at dksX7_actOf_2 2 rfl rfl)
theorem dX7_actOf_52 : decode cX7_actOf 52 = .ok (.iload_n 1, 1) := dk_27 (dk_at dksX7_actOf_2 5 rfl rfl)
theorem dX7_actOf_53 : decode cX7_actOf 53 = .ok (.ifCond .ne 22, 3) := dk_154 0 22 (dk_at dksX7_actOf_2 6 rfl rfl)
theorem dX7_actOf_56 : decode cX7_actOf 56 = .ok (.aload_n 0, 1) := dk_42 (dk_at dksX7_actOf_2 9 rfl rfl)
theorem dX7_actOf_57 : decode cX7_actOf 57 = .ok (.getfield 62, 3) := dk_180 0 62 (dk_at dksX7_actOf_2 10 rfl rfl)
theorem dX7_actOf_60 : decode cX7_actOf 60 = .ok (.iload 8, 2) := dk_21 8 (dk_at dksX7_actOf_2 13 rfl rfl)
theorem dX7_actOf_62 : decode cX7_actOf 62 = .ok (.iaload, 1) := dk_46 (dk_at dksX7_actOf_2 15 rfl rfl)
theorem dX7_actOf_63 : decode cX7_actOf 63 = .ok (.iconst 1, 1) := dk_4 (dk_at dksX7_actOf_2 16 rfl rfl)
theorem dX7_actOf_64 : decode cX7_actOf 64 = .ok (.if_icmp .gt 7, 3) := dk_163 0 7 (dk_at dksX7_actOf_2 17 rfl rfl)
theorem dX7_actOf_67 : decode cX7_actOf 67 = .ok (.iconst 1, 1) := dk_4 (dk_at dksX7_actOf_2 20 rfl rfl)
theorem dX7_actOf_68 : decode cX7_actOf 68 = .ok (.goto 23, 3) := dk_167 0 23 (dk_at dksX7_actOf_2 21 rfl rfl)
theorem dX7_actOf_71 : decode cX7_actOf 71 = .ok (.iconst 0, 1) := dk_3 (dk_at dksX7_actOf_3 0 rfl rfl)
theorem dX7_actOf_72 : decode cX7_actOf 72 = .ok (.goto 19, 3) := dk_167 0 19 (dk_at dksX7_actOf_3 1 rfl rfl)
theorem dX7_actOf_75 : decode cX7_actOf 75 = .ok (.aload_n 0, 1) := dk_42 (dk_at dksX7_actOf_3 4 rfl rfl)
theorem dX7_actOf_76 : decode cX7_actOf 76 = .ok (.getfield 62, 3) := dk_180 0 62 (dk_at dksX7_actOf_3 5 rfl rfl)
theorem dX7_actOf_79 : decode cX7_actOf 79 = .ok (.iload 8, 2) := dk_21 8 (dk_at dksX7_actOf_3 8 rfl rfl)
theorem dX7_actOf_81 : decode cX7_actOf 81 = .ok (.iaload, 1) := dk_46 (dk_at dksX7_actOf_3 10 rfl rfl)
theorem dX7_actOf_82 : decode cX7_actOf 82 = .ok (.iload_n 1, 1) := dk_27 (dk_at dksX7_actOf_3 11 rfl rfl)
theorem dX7_actOf_83 : decode cX7_actOf 83 = .ok (.if_icmp .ne 7, 3) := dk_160 0 7 (dk_at dksX7_actOf_3 12 rfl rfl)
theorem dX7_actOf_86 : decode cX7_actOf 86 = .ok (.iconst 1, 1) := dk_4 (dk_at dksX7_actOf_3 15 rfl rfl)
theorem dX7_actOf_87 : decode cX7_actOf 87 = .ok (.goto 4, 3) := dk_167 0 4 (dk_at dksX7_actOf_3 16 rfl rfl)
theorem dX7_actOf_90 : decode cX7_actOf 90 = .ok (.iconst 0, 1) := dk_3 (dk_at dksX7_actOf_3 19 rfl rfl)
theorem dX7_actOf_91 : decode cX7_actOf 91 = .ok (.istore 9, 2) := dk_54 9 (dk_at dksX7_actOf_3 20 rfl rfl)
theorem dX7_actOf_93 : decode cX7_actOf 93 = .ok (.iload 9, 2) := dk_21 9 (dk_at dksX7_actOf_3 22 rfl rfl)
theorem dX7_actOf_95 : decode cX7_actOf 95 = .ok (.ifCond .eq 111, 3) := dk_153 0 111 (dk_at dksX7_actOf_4 0 rfl rfl)
theorem dX7_actOf_98 : decode cX7_actOf 98 = .ok (.iload 7, 2) := dk_21 7 (dk_at dksX7_actOf_4 3 rfl rfl)
theorem dX7_actOf_100 : decode cX7_actOf 100 = .ok (.aload_n 0, 1) := dk_42 (dk_at dksX7_actOf_4 5 rfl rfl)
theorem dX7_actOf_101 : decode cX7_actOf 101 = .ok (.getfield 68, 3) := dk_180 0 68 (dk_at dksX7_actOf_4 6 rfl rfl)
theorem dX7_actOf_104 : decode cX7_actOf 104 = .ok (.iload 8, 2) := dk_21 8 (dk_at dksX7_actOf_4 9 rfl rfl)
theorem dX7_actOf_106 : decode cX7_actOf 106 = .ok (.iaload, 1) := dk_46 (dk_at dksX7_actOf_4 11 rfl rfl)
theorem dX7_actOf_107 : decode cX7_actOf 107 = .ok (.aload_n 0, 1) := dk_42 (dk_at dksX7_actOf_4 12 rfl rfl)
theorem dX7_actOf_108 : decode cX7_actOf 108 = .ok (.getfield 71, 3) := dk_180 0 71 (dk_at dksX7_actOf_4 13 rfl rfl)
theorem dX7_actOf_111 : decode cX7_actOf 111 = .ok (.iload 8, 2) := dk_21 8 (dk_at dksX7_actOf_4 16 rfl rfl)
theorem dX7_actOf_113 : decode cX7_actOf 113 = .ok (.iaload, 1) := dk_46 (dk_at dksX7_actOf_4 18 rfl rfl)
theorem dX7_actOf_114 : decode cX7_actOf 114 = .ok (.invokestatic 204, 3) := dk_184 0 204 (dk_at dksX7_actOf_4 19 rfl rfl)
theorem dX7_actOf_117 : decode cX7_actOf 117 = .ok (.ifCond .eq 89, 3) := dk_153 0 89 (dk_at dksX7_actOf_5 0 rfl rfl)
theorem dX7_actOf_120 : decode cX7_actOf 120 = .ok (.aload_n 0, 1) := dk_42 (dk_at dksX7_actOf_5 3 rfl rfl)
theorem dX7_actOf_121 : decode cX7_actOf 121 = .ok (.getfield 74, 3) := dk_180 0 74 (dk_at dksX7_actOf_5 4 rfl rfl)
theorem dX7_actOf_124 : decode cX7_actOf 124 = .ok (.iload 8, 2) := dk_21 8 (dk_at dksX7_actOf_5 7 rfl rfl)
theorem dX7_actOf_126 : decode cX7_actOf 126 = .ok (.iaload, 1) := dk_46 (dk_at dksX7_actOf_5 9 rfl rfl)
theorem dX7_actOf_127 : decode cX7_actOf 127 = .ok (.aload_n 0, 1) := dk_42 (dk_at dksX7_actOf_5 10 rfl rfl)
theorem dX7_actOf_128 : decode cX7_actOf 128 = .ok (.getfield 16, 3) := dk_180 0 16 (dk_at dksX7_actOf_5 11 rfl rfl)
theorem dX7_actOf_131 : decode cX7_actOf 131 = .ok (.iload 6, 2) := dk_21 6 (dk_at dksX7_actOf_5 14 rfl rfl)
theorem dX7_actOf_133 : decode cX7_actOf 133 = .ok (.iaload, 1) := dk_46 (dk_at dksX7_actOf_5 16 rfl rfl)
theorem dX7_actOf_134 : decode cX7_actOf 134 = .ok (.ishr, 1) := dk_122 (dk_at dksX7_actOf_5 17 rfl rfl)
theorem dX7_actOf_135 : decode cX7_actOf 135 = .ok (.iconst 1, 1) := dk_4 (dk_at dksX7_actOf_5 18 rfl rfl)
theorem dX7_actOf_136 : decode cX7_actOf 136 = .ok (.iand, 1) := dk_126 (dk_at dksX7_actOf_5 19 rfl rfl)
theorem dX7_actOf_137 : decode cX7_actOf 137 = .ok (.iconst 1, 1) := dk_4 (dk_at dksX7_actOf_5 20 rfl rfl)
theorem dX7_actOf_138 : decode cX7_actOf 138 = .ok (.if_icmp .ne 68, 3) := dk_160 0 68 (dk_at dksX7_actOf_5 21 rfl rfl)
theorem dX7_actOf_141 : decode cX7_actOf 141 = .ok (.iload 4, 2) := dk_21 4 (dk_at dksX7_actOf_6 0 rfl rfl)
theorem dX7_actOf_143 : decode cX7_actOf 143 = .ok (.aload_n 0, 1) := dk_42 (dk_at dksX7_actOf_6 2 rfl rfl)
theorem dX7_actOf_144 : decode cX7_actOf 144 = .ok (.getfield 77, 3) := dk_180 0 77 (dk_at dksX7_actOf_6 3 rfl rfl)
theorem dX7_actOf_147 : decode cX7_actOf 147 = .ok (.iload 8, 2) := dk_21 8 (dk_at dksX7_actOf_6 6 rfl rfl)
theorem dX7_actOf_149 : decode cX7_actOf 149 = .ok (.iaload, 1) := dk_46 (dk_at dksX7_actOf_6 8 rfl rfl)
theorem dX7_actOf_150 : decode cX7_actOf 150 = .ok (.aload_n 0, 1) := dk_42 (dk_at dksX7_actOf_6 9 rfl rfl)
theorem dX7_actOf_151 : decode cX7_actOf 151 = .ok (.getfield 80, 3) := dk_180 0 80 (dk_at dksX7_actOf_6 10 rfl rfl)
theorem dX7_actOf_154 : decode cX7_actOf 154 = .ok (.iload 8, 2) := dk_21 8 (dk_at dksX7_actOf_6 13 rfl rfl)
theorem dX7_actOf_156 : decode cX7_actOf 156 = .ok (.iaload, 1) := dk_46 (dk_at dksX7_actOf_6 15 rfl rfl)
theorem dX7_actOf_157 : decode cX7_actOf 157 = .ok (.invokestatic 204, 3) := dk_184 0 204 (dk_at dksX7_actOf_6 16 rfl rfl)
theorem dX7_actOf_160 : decode cX7_actOf 160 = .ok (.ifCond .eq 46, 3) := dk_153 0 46 (dk_at dksX7_actOf_6 19 rfl rfl)
theorem dX7_actOf_163 : decode cX7_actOf 163 = .ok (.aload_n 0, 1) := dk_42 (dk_at dksX7_actOf_6 22 rfl rfl)
theorem dX7_actOf_164 : decode cX7_actOf 164 = .ok (.getfield 83, 3) := dk_180 0 83 (dk_at dksX7_actOf_7 0 rfl rfl)
theorem dX7_actOf_167 : decode cX7_actOf 167 = .ok (.iload 8, 2) := dk_21 8 (dk_at dksX7_actOf_7 3 rfl rfl)
theorem dX7_actOf_169 : decode cX7_actOf 169 = .ok (.iaload, 1) := dk_46 (dk_at dksX7_actOf_7 5 rfl rfl)
theorem dX7_actOf_170 : decode cX7_actOf 170 = .ok (.ifCond .eq 32, 3) := dk_153 0 32 (dk_at dksX7_actOf_7 6 rfl rfl)
theorem dX7_actOf_173 : decode cX7_actOf 173 = .ok (.aload_n 0, 1) := dk_42 (dk_at dksX7_actOf_7 9 rfl rfl)
theorem dX7_actOf_174 : decode cX7_actOf 174 = .ok (.getfield 83, 3) := dk_180 0 83 (dk_at dksX7_actOf_7 10 rfl rfl)
theorem dX7_actOf_177 : decode cX7_actOf 177 = .ok (.iload 8, 2) := dk_21 8 (dk_at dksX7_actOf_7 13 rfl rfl)
theorem dX7_actOf_179 : decode cX7_actOf 179 = .ok (.iaload, 1) := dk_46 (dk_at dksX7_actOf_7 15 rfl rfl)
theorem dX7_actOf_180 : decode cX7_actOf 180 = .ok (.iconst 1, 1) := dk_4 (dk_at dksX7_actOf_7 16 rfl rfl)
theorem dX7_actOf_181 : decode cX7_actOf 181 = .ok (.if_icmp .ne 7, 3) := dk_160 0 7 (dk_at dksX7_actOf_7 17 rfl rfl)
theorem dX7_actOf_184 : decode cX7_actOf 184 = .ok (.iconst 1, 1) := dk_4 (dk_at dksX7_actOf_7 20 rfl rfl)
theorem dX7_actOf_185 : decode cX7_actOf 185 = .ok (.goto 4, 3) := dk_167 0 4 (dk_at dksX7_actOf_7 21 rfl rfl)
theorem dX7_actOf_188 : decode cX7_actOf 188 = .ok (.iconst 0, 1) := dk_3 (dk_at dksX7_actOf_8 0 rfl rfl)
theorem dX7_actOf_189 : decode cX7_actOf 189 = .ok (.iload_n 3, 1) := dk_29 (dk_at dksX7_actOf_8 1 rfl rfl)
theorem dX7_actOf_190 : decode cX7_actOf 190 = .ok (.iconst (-1), 1) := dk_2 (dk_at dksX7_actOf_8 2 rfl rfl)
theorem dX7_actOf_191 : decode cX7_actOf 191 = .ok (.if_icmp .eq 7, 3) := dk_159 0 7 (dk_at dksX7_actOf_8 3 rfl rfl)
theorem dX7_actOf_194 : decode cX7_actOf 194 = .ok (.iconst 1, 1) := dk_4 (dk_at dksX7_actOf_8 6 rfl rfl)
theorem dX7_actOf_195 : decode cX7_actOf 195 = .ok (.goto 4, 3) := dk_167 0 4 (dk_at dksX7_actOf_8 7 rfl rfl)
theorem dX7_actOf_198 : decode cX7_actOf 198 = .ok (.iconst 0, 1) := dk_3 (dk_at dksX7_actOf_8 10 rfl rfl)
theorem dX7_actOf_199 : decode cX7_actOf 199 = .ok (.if_icmp .ne 7, 3) := dk_160 0 7 (dk_at dksX7_actOf_8 11 rfl rfl)
theorem dX7_actOf_202 : decode cX7_actOf 202 = .ok (.iconst 1, 1) := dk_4 (dk_at dksX7_actOf_8 14 rfl rfl)
theorem dX7_actOf_203 : decode cX7_actOf 203 = .ok (.goto 4, 3) := dk_167 0 4 (dk_at dksX7_actOf_8 15 rfl rfl)
theorem dX7_actOf_206 : decode cX7_actOf 206 = .ok (.iconst 0, 1) := dk_3 (dk_at dksX7_actOf_8 18 rfl rfl)
theorem dX7_actOf_207 : decode cX7_actOf 207 = .ok (.istore 10, 2) := dk_54 10 (dk_at dksX7_actOf_8 19 rfl rfl)
theorem dX7_actOf_209 : decode cX7_actOf 209 = .ok (.iload 10, 2) := dk_21 10 (dk_at dksX7_actOf_8 21 rfl rfl)
theorem dX7_actOf_211 : decode cX7_actOf 211 = .ok (.ifCond .eq 27, 3) := dk_153 0 27 (dk_at dksX7_actOf_9 0 rfl rfl)
theorem dX7_actOf_214 : decode cX7_actOf 214 = .ok (.iload_n 1, 1) := dk_27 (dk_at dksX7_actOf_9 3 rfl rfl)
theorem dX7_actOf_215 : decode cX7_actOf 215 = .ok (.ifCond .ne 15, 3) := dk_154 0 15 (dk_at dksX7_actOf_9 4 rfl rfl)
theorem dX7_actOf_218 : decode cX7_actOf 218 = .ok (.iconst 1, 1) := dk_4 (dk_at dksX7_actOf_9 7 rfl rfl)
theorem dX7_actOf_219 : decode cX7_actOf 219 = .ok (.aload_n 0, 1) := dk_42 (dk_at dksX7_actOf_9 8 rfl rfl)
theorem dX7_actOf_220 : decode cX7_actOf 220 = .ok (.getfield 62, 3) := dk_180 0 62 (dk_at dksX7_actOf_9 9 rfl rfl)
theorem dX7_actOf_223 : decode cX7_actOf 223 = .ok (.iload 8, 2) := dk_21 8 (dk_at dksX7_actOf_9 12 rfl rfl)
theorem dX7_actOf_225 : decode cX7_actOf 225 = .ok (.iaload, 1) := dk_46 (dk_at dksX7_actOf_9 14 rfl rfl)
theorem dX7_actOf_226 : decode cX7_actOf 226 = .ok (.isub, 1) := dk_100 (dk_at dksX7_actOf_9 15 rfl rfl)
theorem dX7_actOf_227 : decode cX7_actOf 227 = .ok (.goto 10, 3) := dk_167 0 10 (dk_at dksX7_actOf_9 16 rfl rfl)
theorem dX7_actOf_230 : decode cX7_actOf 230 = .ok (.aload_n 0, 1) := dk_42 (dk_at dksX7_actOf_9 19 rfl rfl)
theorem dX7_actOf_231 : decode cX7_actOf 231 = .ok (.getfield 65, 3) := dk_180 0 65 (dk_at dksX7_actOf_9 20 rfl rfl)
theorem dX7_actOf_234 : decode cX7_actOf 234 = .ok (.iload 8, 2) := dk_21 8 (dk_at dksX7_actOf_10 0 rfl rfl)
theorem dX7_actOf_236 : decode cX7_actOf 236 = .ok (.iaload, 1) := dk_46 (dk_at dksX7_actOf_10 2 rfl rfl)
theorem dX7_actOf_237 : decode cX7_actOf 237 = .ok (.ireturn, 1) := dk_172 (dk_at dksX7_actOf_10 3 rfl rfl)
theorem dX7_actOf_238 : decode cX7_actOf 238 = .ok (.iinc 8 (-1), 3) := dk_132 8 255 (dk_at dksX7_actOf_10 4 rfl rfl)
theorem dX7_actOf_241 : decode cX7_actOf 241 = .ok (.goto (-194), 3) := dk_167 255 62 (dk_at dksX7_actOf_10 7 rfl rfl)
theorem dX7_actOf_244 : decode cX7_actOf 244 = .ok (.iload 5, 2) := dk_21 5 (dk_at dksX7_actOf_10 10 rfl rfl)
theorem dX7_actOf_246 : decode cX7_actOf 246 = .ok (.ireturn, 1) := dk_172 (dk_at dksX7_actOf_10 12 rfl rfl)
abbrev cX7_ageIn : ByteArray := prog_19_method_25_code
def yX7_ageIn : MethodName := ⟨RX7, "ageIn", "(II)I"⟩
def dkwX7_ageIn_0 : List UInt8 := [28, 42, 180, 0, 13, 27, 46, 100, 5, 108, 172]
abbrev dktX7_ageIn_0 : List UInt8 := dkwX7_ageIn_0 ++ []
theorem dksX7_ageIn_0 : cX7_ageIn.data.toList.drop 0 = dktX7_ageIn_0 := by decide +kernel
theorem dX7_ageIn_0 : decode cX7_ageIn 0 = .ok (.iload_n 2, 1) := dk_28 (dk_at dksX7_ageIn_0 0 rfl rfl)
theorem dX7_ageIn_1 : decode cX7_ageIn 1 = .ok (.aload_n 0, 1) := dk_42 (dk_at dksX7_ageIn_0 1 rfl rfl)
theorem dX7_ageIn_2 : decode cX7_ageIn 2 = .ok (.getfield 13, 3) := dk_180 0 13 (dk_at dksX7_ageIn_0 2 rfl rfl)
theorem dX7_ageIn_5 : decode cX7_ageIn 5 = .ok (.iload_n 1, 1) := dk_27 (dk_at dksX7_ageIn_0 5 rfl rfl)
theorem dX7_ageIn_6 : decode cX7_ageIn 6 = .ok (.iaload, 1) := dk_46 (dk_at dksX7_ageIn_0 6 rfl rfl)
theorem dX7_ageIn_7 : decode cX7_ageIn 7 = .ok (.isub, 1) := dk_100 (dk_at dksX7_ageIn_0 7 rfl rfl)
theorem dX7_ageIn_8 : decode cX7_ageIn 8 = .ok (.iconst 2, 1) := dk_5 (dk_at dksX7_ageIn_0 8 rfl rfl)
theorem dX7_ageIn_9 : decode cX7_ageIn 9 = .ok (.idiv, 1) := dk_108 (dk_at dksX7_ageIn_0 9 rfl rfl)
theorem dX7_ageIn_10 : decode cX7_ageIn 10 = .ok (.ireturn, 1) := dk_172 (dk_at dksX7_ageIn_0 10 rfl rfl)
abbrev cX7_priceOf : ByteArray := prog_19_method_28_code
def yX7_priceOf : MethodName := ⟨RX7, "priceOf", "(II)I"⟩
def dkwX7_priceOf_0 : List UInt8 := [42, 5, 27, 28, 42, 180, 0, 208, 16, 10, 182, 0, 217, 172]
abbrev dktX7_priceOf_0 : List UInt8 := dkwX7_priceOf_0 ++ []
theorem dksX7_priceOf_0 : cX7_priceOf.data.toList.drop 0 = dktX7_priceOf_0 := by decide +kernel
theorem dX7_priceOf_0 : decode cX7_priceOf 0 = .ok (.aload_n 0, 1) := dk_42 (dk_at dksX7_priceOf_0 0 rfl rfl)
theorem dX7_priceOf_1 : decode cX7_priceOf 1 = .ok (.iconst 2, 1) := dk_5 (dk_at dksX7_priceOf_0 1 rfl rfl)
theorem dX7_priceOf_2 : decode cX7_priceOf 2 = .ok (.iload_n 1, 1) := dk_27 (dk_at dksX7_priceOf_0 2 rfl rfl)
theorem dX7_priceOf_3 : decode cX7_priceOf 3 = .ok (.iload_n 2, 1) := dk_28 (dk_at dksX7_priceOf_0 3 rfl rfl)
theorem dX7_priceOf_4 : decode cX7_priceOf 4 = .ok (.aload_n 0, 1) := dk_42 (dk_at dksX7_priceOf_0 4 rfl rfl)
theorem dX7_priceOf_5 : decode cX7_priceOf 5 = .ok (.getfield 208, 3) := dk_180 0 208 (dk_at dksX7_priceOf_0 5 rfl rfl)
theorem dX7_priceOf_8 : decode cX7_priceOf 8 = .ok (.bipush 10, 2) := dk_16 10 (dk_at dksX7_priceOf_0 8 rfl rfl)
theorem dX7_priceOf_10 : decode cX7_priceOf 10 = .ok (.invokevirtual 217, 3) := dk_182 0 217 (dk_at dksX7_priceOf_0 10 rfl rfl)
theorem dX7_priceOf_13 : decode cX7_priceOf 13 = .ok (.ireturn, 1) := dk_172 (dk_at dksX7_priceOf_0 13 rfl rfl)
abbrev cX7_lumpOf : ByteArray := prog_19_method_29_code
def yX7_lumpOf : MethodName := ⟨RX7, "lumpOf", "(II)I"⟩
def dkwX7_lumpOf_0 : List UInt8 := [42, 6, 27, 28, 42, 180, 0, 208, 3, 182, 0, 217, 172]
abbrev dktX7_lumpOf_0 : List UInt8 := dkwX7_lumpOf_0 ++ []
theorem dksX7_lumpOf_0 : cX7_lumpOf.data.toList.drop 0 = dktX7_lumpOf_0 := by decide +kernel
theorem dX7_lumpOf_0 : decode cX7_lumpOf 0 = .ok (.aload_n 0, 1) := dk_42 (dk_at dksX7_lumpOf_0 0 rfl rfl)
theorem dX7_lumpOf_1 : decode cX7_lumpOf 1 = .ok (.iconst 3, 1) := dk_6 (dk_at dksX7_lumpOf_0 1 rfl rfl)
theorem dX7_lumpOf_2 : decode cX7_lumpOf 2 = .ok (.iload_n 1, 1) := dk_27 (dk_at dksX7_lumpOf_0 2 rfl rfl)
theorem dX7_lumpOf_3 : decode cX7_lumpOf 3 = .ok (.iload_n 2, 1) := dk_28 (dk_at dksX7_lumpOf_0 3 rfl rfl)
theorem dX7_lumpOf_4 : decode cX7_lumpOf 4 = .ok (.aload_n 0, 1) := dk_42 (dk_at dksX7_lumpOf_0 4 rfl rfl)
theorem dX7_lumpOf_5 : decode cX7_lumpOf 5 = .ok (.getfield 208, 3) := dk_180 0 208 (dk_at dksX7_lumpOf_0 5 rfl rfl)
theorem dX7_lumpOf_8 : decode cX7_lumpOf 8 = .ok (.iconst 0, 1) := dk_3 (dk_at dksX7_lumpOf_0 8 rfl rfl)
theorem dX7_lumpOf_9 : decode cX7_lumpOf 9 = .ok (.invokevirtual 217, 3) := dk_182 0 217 (dk_at dksX7_lumpOf_0 9 rfl rfl)
theorem dX7_lumpOf_12 : decode cX7_lumpOf 12 = .ok (.ireturn, 1) := dk_172 (dk_at dksX7_lumpOf_0 12 rfl rfl)
abbrev cX7_rent : ByteArray := prog_19_method_32_code
def yX7_rent : MethodName := ⟨RX7, "rent", "(IIII)I"⟩
def dkwX7_rent_6 : List UInt8 := [42, 89, 180, 0, 233, 4, 96, 181, 0, 233, 42, 180, 0, 233, 4, 100, 172]
abbrev dktX7_rent_6 : List UInt8 := dkwX7_rent_6 ++ []
def dkwX7_rent_5 : List UInt8 := [180, 0, 233, 21, 4, 79, 42, 180, 0, 34, 42, 180, 0, 233, 21, 4, 42, 28, 29, 182, 0, 227, 104, 79]
abbrev dktX7_rent_5 : List UInt8 := dkwX7_rent_5 ++ dktX7_rent_6
def dkwX7_rent_4 : List UInt8 := [180, 0, 25, 42, 180, 0, 233, 28, 79, 42, 180, 0, 28, 42, 180, 0, 233, 29, 79, 42, 180, 0, 31, 42]
abbrev dktX7_rent_4 : List UInt8 := dkwX7_rent_4 ++ dktX7_rent_5
def dkwX7_rent_3 : List UInt8 := [180, 0, 19, 42, 180, 0, 233, 42, 180, 0, 208, 79, 42, 180, 0, 22, 42, 180, 0, 233, 27, 79, 42]
abbrev dktX7_rent_3 : List UInt8 := dkwX7_rent_3 ++ dktX7_rent_4
def dkwX7_rent_2 : List UInt8 := [21, 4, 4, 16, 99, 184, 0, 204, 153, 0, 12, 42, 28, 29, 182, 0, 224, 154, 0, 5, 2, 172, 42]
abbrev dktX7_rent_2 : List UInt8 := dkwX7_rent_2 ++ dktX7_rent_3
def dkwX7_rent_1 : List UInt8 := [182, 0, 221, 153, 0, 41, 29, 2, 159, 0, 16, 42, 29, 182, 0, 221, 153, 0, 28, 28, 29, 159, 0, 23]
abbrev dktX7_rent_1 : List UInt8 := dkwX7_rent_1 ++ dktX7_rent_2
def dkwX7_rent_0 : List UInt8 := [42, 3, 181, 0, 129, 42, 180, 0, 233, 16, 16, 159, 0, 56, 27, 184, 0, 236, 153, 0, 49, 42, 28]
abbrev dktX7_rent_0 : List UInt8 := dkwX7_rent_0 ++ dktX7_rent_1
theorem dksX7_rent_0 : cX7_rent.data.toList.drop 0 = dktX7_rent_0 := by decide +kernel
theorem dksX7_rent_1 : cX7_rent.data.toList.drop 23 = dktX7_rent_1 := dk_seg dksX7_rent_0 23 rfl rfl
theorem dksX7_rent_2 : cX7_rent.data.toList.drop 47 = dktX7_rent_2 := dk_seg dksX7_rent_1 24 rfl rfl
theorem dksX7_rent_3 : cX7_rent.data.toList.drop 70 = dktX7_rent_3 := dk_seg dksX7_rent_2 23 rfl rfl
theorem dksX7_rent_4 : cX7_rent.data.toList.drop 93 = dktX7_rent_4 := dk_seg dksX7_rent_3 23 rfl rfl
theorem dksX7_rent_5 : cX7_rent.data.toList.drop 117 = dktX7_rent_5 := dk_seg dksX7_rent_4 24 rfl rfl
theorem dksX7_rent_6 : cX7_rent.data.toList.drop 141 = dktX7_rent_6 := dk_seg dksX7_rent_5 24 rfl rfl
theorem dX7_rent_0 : decode cX7_rent 0 = .ok (.aload_n 0, 1) := dk_42 (dk_at dksX7_rent_0 0 rfl rfl)
theorem dX7_rent_1 : decode cX7_rent 1 = .ok (.iconst 0, 1) := dk_3 (dk_at dksX7_rent_0 1 rfl rfl)
theorem dX7_rent_2 : decode cX7_rent 2 = .ok (.putfield 129, 3) := dk_181 0 129 (dk_at dksX7_rent_0 2 rfl rfl)
theorem dX7_rent_5 : decode cX7_rent 5 = .ok (.aload_n 0, 1) := dk_42 (dk_at dksX7_rent_0 5 rfl rfl)
theorem dX7_rent_6 : decode cX7_rent 6 = .ok (.getfield 233, 3) := dk_180 0 233 (dk_at dksX7_rent_0 6 rfl rfl)
theorem dX7_rent_9 : decode cX7_rent 9 = .ok (.bipush 16, 2) := dk_16 16 (dk_at dksX7_rent_0 9 rfl rfl)
theorem dX7_rent_11 : decode cX7_rent 11 = .ok (.if_icmp .eq 56, 3) := dk_159 0 56 (dk_at dksX7_rent_0 11 rfl rfl)
theorem dX7_rent_14 : decode cX7_rent 14 = .ok (.iload_n 1, 1) := dk_27 (dk_at dksX7_rent_0 14 rfl rfl)
theorem dX7_rent_15 : decode cX7_rent 15 = .ok (.invokestatic 236, 3) := dk_184 0 236 (dk_at dksX7_rent_0 15 rfl rfl)
theorem dX7_rent_18 : decode cX7_rent 18 = .ok (.ifCond .eq 49, 3) := dk_153 0 49 (dk_at dksX7_rent_0 18 rfl rfl)
theorem dX7_rent_21 : decode cX7_rent 21 = .ok (.aload_n 0, 1) := dk_42 (dk_at dksX7_rent_0 21 rfl rfl)
theorem dX7_rent_22 : decode cX7_rent 22 = .ok (.iload_n 2, 1) := dk_28 (dk_at dksX7_rent_0 22 rfl rfl)
theorem dX7_rent_23 : decode cX7_rent 23 = .ok (.invokevirtual 221, 3) := dk_182 0 221 (dk_at dksX7_rent_1 0 rfl rfl)
theorem dX7_rent_26 : decode cX7_rent 26 = .ok (.ifCond .eq 41, 3) := dk_153 0 41 (dk_at dksX7_rent_1 3 rfl rfl)
theorem dX7_rent_29 : decode cX7_rent 29 = .ok (.iload_n 3, 1) := dk_29 (dk_at dksX7_rent_1 6 rfl rfl)
theorem dX7_rent_30 : decode cX7_rent 30 = .ok (.iconst (-1), 1) := dk_2 (dk_at dksX7_rent_1 7 rfl rfl)
theorem dX7_rent_31 : decode cX7_rent 31 = .ok (.if_icmp .eq 16, 3) := dk_159 0 16 (dk_at dksX7_rent_1 8 rfl rfl)
theorem dX7_rent_34 : decode cX7_rent 34 = .ok (.aload_n 0, 1) := dk_42 (dk_at dksX7_rent_1 11 rfl rfl)
theorem dX7_rent_35 : decode cX7_rent 35 = .ok (.iload_n 3, 1) := dk_29 (dk_at dksX7_rent_1 12 rfl rfl)
theorem dX7_rent_36 : decode cX7_rent 36 = .ok (.invokevirtual 221, 3) := dk_182 0 221 (dk_at dksX7_rent_1 13 rfl rfl)
theorem dX7_rent_39 : decode cX7_rent 39 = .ok (.ifCond .eq 28, 3) := dk_153 0 28 (dk_at dksX7_rent_1 16 rfl rfl)
theorem dX7_rent_42 : decode cX7_rent 42 = .ok (.iload_n 2, 1) := dk_28 (dk_at dksX7_rent_1 19 rfl rfl)
theorem dX7_rent_43 : decode cX7_rent 43 = .ok (.iload_n 3, 1) := dk_29 (dk_at dksX7_rent_1 20 rfl rfl)
theorem dX7_rent_44 : decode cX7_rent 44 = .ok (.if_icmp .eq 23, 3) := dk_159 0 23 (dk_at dksX7_rent_1 21 rfl rfl)
theorem dX7_rent_47 : decode cX7_rent 47 = .ok (.iload 4, 2) := dk_21 4 (dk_at dksX7_rent_2 0 rfl rfl)
theorem dX7_rent_49 : decode cX7_rent 49 = .ok (.iconst 1, 1) := dk_4 (dk_at dksX7_rent_2 2 rfl rfl)
theorem dX7_rent_50 : decode cX7_rent 50 = .ok (.bipush 99, 2) := dk_16 99 (dk_at dksX7_rent_2 3 rfl rfl)
theorem dX7_rent_52 : decode cX7_rent 52 = .ok (.invokestatic 204, 3) := dk_184 0 204 (dk_at dksX7_rent_2 5 rfl rfl)
theorem dX7_rent_55 : decode cX7_rent 55 = .ok (.ifCond .eq 12, 3) := dk_153 0 12 (dk_at dksX7_rent_2 8 rfl rfl)
theorem dX7_rent_58 : decode cX7_rent 58 = .ok (.aload_n 0, 1) := dk_42 (dk_at dksX7_rent_2 11 rfl rfl)
theorem dX7_rent_59 : decode cX7_rent 59 = .ok (.iload_n 2, 1) := dk_28 (dk_at dksX7_rent_2 12 rfl rfl)
theorem dX7_rent_60 : decode cX7_rent 60 = .ok (.iload_n 3, 1) := dk_29 (dk_at dksX7_rent_2 13 rfl rfl)
theorem dX7_rent_61 : decode cX7_rent 61 = .ok (.invokevirtual 224, 3) := dk_182 0 224 (dk_at dksX7_rent_2 14 rfl rfl)
theorem dX7_rent_64 : decode cX7_rent 64 = .ok (.ifCond .ne 5, 3) := dk_154 0 5 (dk_at dksX7_rent_2 17 rfl rfl)
theorem dX7_rent_67 : decode cX7_rent 67 = .ok (.iconst (-1), 1) := dk_2 (dk_at dksX7_rent_2 20 rfl rfl)
theorem dX7_rent_68 : decode cX7_rent 68 = .ok (.ireturn, 1) := dk_172 (dk_at dksX7_rent_2 21 rfl rfl)
theorem dX7_rent_69 : decode cX7_rent 69 = .ok (.aload_n 0, 1) := dk_42 (dk_at dksX7_rent_2 22 rfl rfl)
theorem dX7_rent_70 : decode cX7_rent 70 = .ok (.getfield 19, 3) := dk_180 0 19 (dk_at dksX7_rent_3 0 rfl rfl)
theorem dX7_rent_73 : decode cX7_rent 73 = .ok (.aload_n 0, 1) := dk_42 (dk_at dksX7_rent_3 3 rfl rfl)
theorem dX7_rent_74 : decode cX7_rent 74 = .ok (.getfield 233, 3) := dk_180 0 233 (dk_at dksX7_rent_3 4 rfl rfl)
theorem dX7_rent_77 : decode cX7_rent 77 = .ok (.aload_n 0, 1) := dk_42 (dk_at dksX7_rent_3 7 rfl rfl)
theorem dX7_rent_78 : decode cX7_rent 78 = .ok (.getfield 208, 3) := dk_180 0 208 (dk_at dksX7_rent_3 8 rfl rfl)
theorem dX7_rent_81 : decode cX7_rent 81 = .ok (.iastore, 1) := dk_79 (dk_at dksX7_rent_3 11 rfl rfl)
theorem dX7_rent_82 : decode cX7_rent 82 = .ok (.aload_n 0, 1) := dk_42 (dk_at dksX7_rent_3 12 rfl rfl)
theorem dX7_rent_83 : decode cX7_rent 83 = .ok (.getfield 22, 3) := dk_180 0 22 (dk_at dksX7_rent_3 13 rfl rfl)
theorem dX7_rent_86 : decode cX7_rent 86 = .ok (.aload_n 0, 1) := dk_42 (dk_at dksX7_rent_3 16 rfl rfl)
theorem dX7_rent_87 : decode cX7_rent 87 = .ok (.getfield 233, 3) := dk_180 0 233 (dk_at dksX7_rent_3 17 rfl rfl)
theorem dX7_rent_90 : decode cX7_rent 90 = .ok (.iload_n 1, 1) := dk_27 (dk_at dksX7_rent_3 20 rfl rfl)
theorem dX7_rent_91 : decode cX7_rent 91 = .ok (.iastore, 1) := dk_79 (dk_at dksX7_rent_3 21 rfl rfl)
theorem dX7_rent_92 : decode cX7_rent 92 = .ok (.aload_n 0, 1) := dk_42 (dk_at dksX7_rent_3 22 rfl rfl)
theorem dX7_rent_93 : decode cX7_rent 93 = .ok (.getfield 25, 3) := dk_180 0 25 (dk_at dksX7_rent_4 0 rfl rfl)
theorem dX7_rent_96 : decode cX7_rent 96 = .ok (.aload_n 0, 1) := dk_42 (dk_at dksX7_rent_4 3 rfl rfl)
theorem dX7_rent_97 : decode cX7_rent 97 = .ok (.getfield 233, 3) := dk_180 0 233 (dk_at dksX7_rent_4 4 rfl rfl)
theorem dX7_rent_100 : decode cX7_rent 100 = .ok (.iload_n 2, 1) := dk_28 (dk_at dksX7_rent_4 7 rfl rfl)
theorem dX7_rent_101 : decode cX7_rent 101 = .ok (.iastore, 1) := dk_79 (dk_at dksX7_rent_4 8 rfl rfl)
theorem dX7_rent_102 : decode cX7_rent 102 = .ok (.aload_n 0, 1) := dk_42 (dk_at dksX7_rent_4 9 rfl rfl)
theorem dX7_rent_103 : decode cX7_rent 103 = .ok (.getfield 28, 3) := dk_180 0 28 (dk_at dksX7_rent_4 10 rfl rfl)
theorem dX7_rent_106 : decode cX7_rent 106 = .ok (.aload_n 0, 1) := dk_42 (dk_at dksX7_rent_4 13 rfl rfl)
theorem dX7_rent_107 : decode cX7_rent 107 = .ok (.getfield 233, 3) := dk_180 0 233 (dk_at dksX7_rent_4 14 rfl rfl)
theorem dX7_rent_110 : decode cX7_rent 110 = .ok (.iload_n 3, 1) := dk_29 (dk_at dksX7_rent_4 17 rfl rfl)
theorem dX7_rent_111 : decode cX7_rent 111 = .ok (.iastore, 1) := dk_79 (dk_at dksX7_rent_4 18 rfl rfl)
theorem dX7_rent_112 : decode cX7_rent 112 = .ok (.aload_n 0, 1) := dk_42 (dk_at dksX7_rent_4 19 rfl rfl)
theorem dX7_rent_113 : decode cX7_rent 113 = .ok (.getfield 31, 3) := dk_180 0 31 (dk_at dksX7_rent_4 20 rfl rfl)
theorem dX7_rent_116 : decode cX7_rent 116 = .ok (.aload_n 0, 1) := dk_42 (dk_at dksX7_rent_4 23 rfl rfl)
theorem dX7_rent_117 : decode cX7_rent 117 = .ok (.getfield 233, 3) := dk_180 0 233 (dk_at dksX7_rent_5 0 rfl rfl)
theorem dX7_rent_120 : decode cX7_rent 120 = .ok (.iload 4, 2) := dk_21 4 (dk_at dksX7_rent_5 3 rfl rfl)
theorem dX7_rent_122 : decode cX7_rent 122 = .ok (.iastore, 1) := dk_79 (dk_at dksX7_rent_5 5 rfl rfl)
theorem dX7_rent_123 : decode cX7_rent 123 = .ok (.aload_n 0, 1) := dk_42 (dk_at dksX7_rent_5 6 rfl rfl)
theorem dX7_rent_124 : decode cX7_rent 124 = .ok (.getfield 34, 3) := dk_180 0 34 (dk_at dksX7_rent_5 7 rfl rfl)
theorem dX7_rent_127 : decode cX7_rent 127 = .ok (.aload_n 0, 1) := dk_42 (dk_at dksX7_rent_5 10 rfl rfl)
theorem dX7_rent_128 : decode cX7_rent 128 = .ok (.getfield 233, 3) := dk_180 0 233 (dk_at dksX7_rent_5 11 rfl rfl)
theorem dX7_rent_131 : decode cX7_rent 131 = .ok (.iload 4, 2) := dk_21 4 (dk_at dksX7_rent_5 14 rfl rfl)
theorem dX7_rent_133 : decode cX7_rent 133 = .ok (.aload_n 0, 1) := dk_42 (dk_at dksX7_rent_5 16 rfl rfl)
theorem dX7_rent_134 : decode cX7_rent 134 = .ok (.iload_n 2, 1) := dk_28 (dk_at dksX7_rent_5 17 rfl rfl)
theorem dX7_rent_135 : decode cX7_rent 135 = .ok (.iload_n 3, 1) := dk_29 (dk_at dksX7_rent_5 18 rfl rfl)
theorem dX7_rent_136 : decode cX7_rent 136 = .ok (.invokevirtual 227, 3) := dk_182 0 227 (dk_at dksX7_rent_5 19 rfl rfl)
theorem dX7_rent_139 : decode cX7_rent 139 = .ok (.imul, 1) := dk_104 (dk_at dksX7_rent_5 22 rfl rfl)
theorem dX7_rent_140 : decode cX7_rent 140 = .ok (.iastore, 1) := dk_79 (dk_at dksX7_rent_5 23 rfl rfl)
theorem dX7_rent_141 : decode cX7_rent 141 = .ok (.aload_n 0, 1) := dk_42 (dk_at dksX7_rent_6 0 rfl rfl)
theorem dX7_rent_142 : decode cX7_rent 142 = .ok (.dup, 1) := dk_89 (dk_at dksX7_rent_6 1 rfl rfl)
theorem dX7_rent_143 : decode cX7_rent 143 = .ok (.getfield 233, 3) := dk_180 0 233 (dk_at dksX7_rent_6 2 rfl rfl)
theorem dX7_rent_146 : decode cX7_rent 146 = .ok (.iconst 1, 1) := dk_4 (dk_at dksX7_rent_6 5 rfl rfl)
theorem dX7_rent_147 : decode cX7_rent 147 = .ok (.iadd, 1) := dk_96 (dk_at dksX7_rent_6 6 rfl rfl)
theorem dX7_rent_148 : decode cX7_rent 148 = .ok (.putfield 233, 3) := dk_181 0 233 (dk_at dksX7_rent_6 7 rfl rfl)
theorem dX7_rent_151 : decode cX7_rent 151 = .ok (.aload_n 0, 1) := dk_42 (dk_at dksX7_rent_6 10 rfl rfl)
theorem dX7_rent_152 : decode cX7_rent 152 = .ok (.getfield 233, 3) := dk_180 0 233 (dk_at dksX7_rent_6 11 rfl rfl)
theorem dX7_rent_155 : decode cX7_rent 155 = .ok (.iconst 1, 1) := dk_4 (dk_at dksX7_rent_6 14 rfl rfl)
theorem dX7_rent_156 : decode cX7_rent 156 = .ok (.isub, 1) := dk_100 (dk_at dksX7_rent_6 15 rfl rfl)
theorem dX7_rent_157 : decode cX7_rent 157 = .ok (.ireturn, 1) := dk_172 (dk_at dksX7_rent_6 16 rfl rfl)
abbrev cX7_isHolder : ByteArray := prog_19_method_31_code
def yX7_isHolder : MethodName := ⟨RX7, "isHolder", "(I)Z"⟩
def dkwX7_isHolder_0 : List UInt8 := [26, 155, 0, 13, 26, 16, 8, 162, 0, 7, 4, 167, 0, 4, 3, 172]
abbrev dktX7_isHolder_0 : List UInt8 := dkwX7_isHolder_0 ++ []
theorem dksX7_isHolder_0 : cX7_isHolder.data.toList.drop 0 = dktX7_isHolder_0 := by decide +kernel
theorem dX7_isHolder_0 : decode cX7_isHolder 0 = .ok (.iload_n 0, 1) := dk_26 (dk_at dksX7_isHolder_0 0 rfl rfl)
theorem dX7_isHolder_1 : decode cX7_isHolder 1 = .ok (.ifCond .lt 13, 3) := dk_155 0 13 (dk_at dksX7_isHolder_0 1 rfl rfl)
theorem dX7_isHolder_4 : decode cX7_isHolder 4 = .ok (.iload_n 0, 1) := dk_26 (dk_at dksX7_isHolder_0 4 rfl rfl)
theorem dX7_isHolder_5 : decode cX7_isHolder 5 = .ok (.bipush 8, 2) := dk_16 8 (dk_at dksX7_isHolder_0 5 rfl rfl)
theorem dX7_isHolder_7 : decode cX7_isHolder 7 = .ok (.if_icmp .ge 7, 3) := dk_162 0 7 (dk_at dksX7_isHolder_0 7 rfl rfl)
theorem dX7_isHolder_10 : decode cX7_isHolder 10 = .ok (.iconst 1, 1) := dk_4 (dk_at dksX7_isHolder_0 10 rfl rfl)
theorem dX7_isHolder_11 : decode cX7_isHolder 11 = .ok (.goto 4, 3) := dk_167 0 4 (dk_at dksX7_isHolder_0 11 rfl rfl)
theorem dX7_isHolder_14 : decode cX7_isHolder 14 = .ok (.iconst 0, 1) := dk_3 (dk_at dksX7_isHolder_0 14 rfl rfl)
theorem dX7_isHolder_15 : decode cX7_isHolder 15 = .ok (.ireturn, 1) := dk_172 (dk_at dksX7_isHolder_0 15 rfl rfl)
abbrev cX7_sell : ByteArray := prog_19_method_35_code
def yX7_sell : MethodName := ⟨RX7, "sell", "(IIII)Z"⟩
def dkwX7_sell_6 : List UInt8 := [96, 181, 0, 239, 4, 172]
abbrev dktX7_sell_6 : List UInt8 := dkwX7_sell_6 ++ []
def dkwX7_sell_5 : List UInt8 := [79, 42, 180, 0, 37, 8, 42, 180, 0, 239, 104, 7, 96, 42, 180, 0, 208, 79, 42, 89, 180, 0, 239, 4]
abbrev dktX7_sell_5 : List UInt8 := dkwX7_sell_5 ++ dktX7_sell_6
def dkwX7_sell_4 : List UInt8 := [8, 42, 180, 0, 239, 104, 5, 96, 29, 79, 42, 180, 0, 37, 8, 42, 180, 0, 239, 104, 6, 96, 21, 4]
abbrev dktX7_sell_4 : List UInt8 := dkwX7_sell_4 ++ dktX7_sell_5
def dkwX7_sell_3 : List UInt8 := [180, 0, 239, 104, 27, 79, 42, 180, 0, 37, 8, 42, 180, 0, 239, 104, 4, 96, 28, 79, 42, 180, 0, 37]
abbrev dktX7_sell_3 : List UInt8 := dkwX7_sell_3 ++ dktX7_sell_4
def dkwX7_sell_2 : List UInt8 := [182, 0, 245, 163, 0, 12, 42, 180, 0, 239, 16, 40, 160, 0, 5, 3, 172, 42, 180, 0, 37, 8, 42]
abbrev dktX7_sell_2 : List UInt8 := dkwX7_sell_2 ++ dktX7_sell_3
def dkwX7_sell_1 : List UInt8 := [153, 0, 38, 28, 29, 159, 0, 33, 21, 4, 4, 161, 0, 27, 21, 4, 42, 27, 28, 42, 180, 0, 208]
abbrev dktX7_sell_1 : List UInt8 := dkwX7_sell_1 ++ dktX7_sell_2
def dkwX7_sell_0 : List UInt8 := [42, 3, 181, 0, 129, 42, 27, 182, 0, 242, 153, 0, 52, 28, 184, 0, 236, 153, 0, 45, 29, 184, 0, 236]
abbrev dktX7_sell_0 : List UInt8 := dkwX7_sell_0 ++ dktX7_sell_1
theorem dksX7_sell_0 : cX7_sell.data.toList.drop 0 = dktX7_sell_0 := by decide +kernel
theorem dksX7_sell_1 : cX7_sell.data.toList.drop 24 = dktX7_sell_1 := dk_seg dksX7_sell_0 24 rfl rfl
theorem dksX7_sell_2 : cX7_sell.data.toList.drop 47 = dktX7_sell_2 := dk_seg dksX7_sell_1 23 rfl rfl
theorem dksX7_sell_3 : cX7_sell.data.toList.drop 70 = dktX7_sell_3 := dk_seg dksX7_sell_2 23 rfl rfl
theorem dksX7_sell_4 : cX7_sell.data.toList.drop 94 = dktX7_sell_4 := dk_seg dksX7_sell_3 24 rfl rfl
theorem dksX7_sell_5 : cX7_sell.data.toList.drop 118 = dktX7_sell_5 := dk_seg dksX7_sell_4 24 rfl rfl
theorem dksX7_sell_6 : cX7_sell.data.toList.drop 142 = dktX7_sell_6 := dk_seg dksX7_sell_5 24 rfl rfl
theorem dX7_sell_0 : decode cX7_sell 0 = .ok (.aload_n 0, 1) := dk_42 (dk_at dksX7_sell_0 0 rfl rfl)
theorem dX7_sell_1 : decode cX7_sell 1 = .ok (.iconst 0, 1) := dk_3 (dk_at dksX7_sell_0 1 rfl rfl)
theorem dX7_sell_2 : decode cX7_sell 2 = .ok (.putfield 129, 3) := dk_181 0 129 (dk_at dksX7_sell_0 2 rfl rfl)
theorem dX7_sell_5 : decode cX7_sell 5 = .ok (.aload_n 0, 1) := dk_42 (dk_at dksX7_sell_0 5 rfl rfl)
theorem dX7_sell_6 : decode cX7_sell 6 = .ok (.iload_n 1, 1) := dk_27 (dk_at dksX7_sell_0 6 rfl rfl)
theorem dX7_sell_7 : decode cX7_sell 7 = .ok (.invokevirtual 242, 3) := dk_182 0 242 (dk_at dksX7_sell_0 7 rfl rfl)
theorem dX7_sell_10 : decode cX7_sell 10 = .ok (.ifCond .eq 52, 3) := dk_153 0 52 (dk_at dksX7_sell_0 10 rfl rfl)
theorem dX7_sell_13 : decode cX7_sell 13 = .ok (.iload_n 2, 1) := dk_28 (dk_at dksX7_sell_0 13 rfl rfl)
theorem dX7_sell_14 : decode cX7_sell 14 = .ok (.invokestatic 236, 3) := dk_184 0 236 (dk_at dksX7_sell_0 14 rfl rfl)
theorem dX7_sell_17 : decode cX7_sell 17 = .ok (.ifCond .eq 45, 3) := dk_153 0 45 (dk_at dksX7_sell_0 17 rfl rfl)
theorem dX7_sell_20 : decode cX7_sell 20 = .ok (.iload_n 3, 1) := dk_29 (dk_at dksX7_sell_0 20 rfl rfl)
theorem dX7_sell_21 : decode cX7_sell 21 = .ok (.invokestatic 236, 3) := dk_184 0 236 (dk_at dksX7_sell_0 21 rfl rfl)
theorem dX7_sell_24 : decode cX7_sell 24 = .ok (.ifCond .eq 38, 3) := dk_153 0 38 (dk_at dksX7_sell_1 0 rfl rfl)
theorem dX7_sell_27 : decode cX7_sell 27 = .ok (.iload_n 2, 1) := dk_28 (dk_at dksX7_sell_1 3 rfl rfl)
theorem dX7_sell_28 : decode cX7_sell 28 = .ok (.iload_n 3, 1) := dk_29 (dk_at dksX7_sell_1 4 rfl rfl)
theorem dX7_sell_29 : decode cX7_sell 29 = .ok (.if_icmp .eq 33, 3) := dk_159 0 33 (dk_at dksX7_sell_1 5 rfl rfl)
theorem dX7_sell_32 : decode cX7_sell 32 = .ok (.iload 4, 2) := dk_21 4 (dk_at dksX7_sell_1 8 rfl rfl)
theorem dX7_sell_34 : decode cX7_sell 34 = .ok (.iconst 1, 1) := dk_4 (dk_at dksX7_sell_1 10 rfl rfl)
theorem dX7_sell_35 : decode cX7_sell 35 = .ok (.if_icmp .lt 27, 3) := dk_161 0 27 (dk_at dksX7_sell_1 11 rfl rfl)
theorem dX7_sell_38 : decode cX7_sell 38 = .ok (.iload 4, 2) := dk_21 4 (dk_at dksX7_sell_1 14 rfl rfl)
theorem dX7_sell_40 : decode cX7_sell 40 = .ok (.aload_n 0, 1) := dk_42 (dk_at dksX7_sell_1 16 rfl rfl)
theorem dX7_sell_41 : decode cX7_sell 41 = .ok (.iload_n 1, 1) := dk_27 (dk_at dksX7_sell_1 17 rfl rfl)
theorem dX7_sell_42 : decode cX7_sell 42 = .ok (.iload_n 2, 1) := dk_28 (dk_at dksX7_sell_1 18 rfl rfl)
theorem dX7_sell_43 : decode cX7_sell 43 = .ok (.aload_n 0, 1) := dk_42 (dk_at dksX7_sell_1 19 rfl rfl)
theorem dX7_sell_44 : decode cX7_sell 44 = .ok (.getfield 208, 3) := dk_180 0 208 (dk_at dksX7_sell_1 20 rfl rfl)
theorem dX7_sell_47 : decode cX7_sell 47 = .ok (.invokevirtual 245, 3) := dk_182 0 245 (dk_at dksX7_sell_2 0 rfl rfl)
theorem dX7_sell_50 : decode cX7_sell 50 = .ok (.if_icmp .gt 12, 3) := dk_163 0 12 (dk_at dksX7_sell_2 3 rfl rfl)
theorem dX7_sell_53 : decode cX7_sell 53 = .ok (.aload_n 0, 1) := dk_42 (dk_at dksX7_sell_2 6 rfl rfl)
theorem dX7_sell_54 : decode cX7_sell 54 = .ok (.getfield 239, 3) := dk_180 0 239 (dk_at dksX7_sell_2 7 rfl rfl)
theorem dX7_sell_57 : decode cX7_sell 57 = .ok (.bipush 40, 2) := dk_16 40 (dk_at dksX7_sell_2 10 rfl rfl)
theorem dX7_sell_59 : decode cX7_sell 59 = .ok (.if_icmp .ne 5, 3) := dk_160 0 5 (dk_at dksX7_sell_2 12 rfl rfl)
theorem dX7_sell_62 : decode cX7_sell 62 = .ok (.iconst 0, 1) := dk_3 (dk_at dksX7_sell_2 15 rfl rfl)
theorem dX7_sell_63 : decode cX7_sell 63 = .ok (.ireturn, 1) := dk_172 (dk_at dksX7_sell_2 16 rfl rfl)
theorem dX7_sell_64 : decode cX7_sell 64 = .ok (.aload_n 0, 1) := dk_42 (dk_at dksX7_sell_2 17 rfl rfl)
theorem dX7_sell_65 : decode cX7_sell 65 = .ok (.getfield 37, 3) := dk_180 0 37 (dk_at dksX7_sell_2 18 rfl rfl)
theorem dX7_sell_68 : decode cX7_sell 68 = .ok (.iconst 5, 1) := dk_8 (dk_at dksX7_sell_2 21 rfl rfl)
theorem dX7_sell_69 : decode cX7_sell 69 = .ok (.aload_n 0, 1) := dk_42 (dk_at dksX7_sell_2 22 rfl rfl)
theorem dX7_sell_70 : decode cX7_sell 70 = .ok (.getfield 239, 3) := dk_180 0 239 (dk_at dksX7_sell_3 0 rfl rfl)
theorem dX7_sell_73 : decode cX7_sell 73 = .ok (.imul, 1) := dk_104 (dk_at dksX7_sell_3 3 rfl rfl)
theorem dX7_sell_74 : decode cX7_sell 74 = .ok (.iload_n 1, 1) := dk_27 (dk_at dksX7_sell_3 4 rfl rfl)
theorem dX7_sell_75 : decode cX7_sell 75 = .ok (.iastore, 1) := dk_79 (dk_at dksX7_sell_3 5 rfl rfl)
theorem dX7_sell_76 : decode cX7_sell 76 = .ok (.aload_n 0, 1) := dk_42 (dk_at dksX7_sell_3 6 rfl rfl)
theorem dX7_sell_77 : decode cX7_sell 77 = .ok (.getfield 37, 3) := dk_180 0 37 (dk_at dksX7_sell_3 7 rfl rfl)
theorem dX7_sell_80 : decode cX7_sell 80 = .ok (.iconst 5, 1) := dk_8 (dk_at dksX7_sell_3 10 rfl rfl)
theorem dX7_sell_81 : decode cX7_sell 81 = .ok (.aload_n 0, 1) := dk_42 (dk_at dksX7_sell_3 11 rfl rfl)
theorem dX7_sell_82 : decode cX7_sell 82 = .ok (.getfield 239, 3) := dk_180 0 239 (dk_at dksX7_sell_3 12 rfl rfl)
theorem dX7_sell_85 : decode cX7_sell 85 = .ok (.imul, 1) := dk_104 (dk_at dksX7_sell_3 15 rfl rfl)
theorem dX7_sell_86 : decode cX7_sell 86 = .ok (.iconst 1, 1) := dk_4 (dk_at dksX7_sell_3 16 rfl rfl)
theorem dX7_sell_87 : decode cX7_sell 87 = .ok (.iadd, 1) := dk_96 (dk_at dksX7_sell_3 17 rfl rfl)
theorem dX7_sell_88 : decode cX7_sell 88 = .ok (.iload_n 2, 1) := dk_28 (dk_at dksX7_sell_3 18 rfl rfl)
theorem dX7_sell_89 : decode cX7_sell 89 = .ok (.iastore, 1) := dk_79 (dk_at dksX7_sell_3 19 rfl rfl)
theorem dX7_sell_90 : decode cX7_sell 90 = .ok (.aload_n 0, 1) := dk_42 (dk_at dksX7_sell_3 20 rfl rfl)
theorem dX7_sell_91 : decode cX7_sell 91 = .ok (.getfield 37, 3) := dk_180 0 37 (dk_at dksX7_sell_3 21 rfl rfl)
theorem dX7_sell_94 : decode cX7_sell 94 = .ok (.iconst 5, 1) := dk_8 (dk_at dksX7_sell_4 0 rfl rfl)
theorem dX7_sell_95 : decode cX7_sell 95 = .ok (.aload_n 0, 1) := dk_42 (dk_at dksX7_sell_4 1 rfl rfl)
theorem dX7_sell_96 : decode cX7_sell 96 = .ok (.getfield 239, 3) := dk_180 0 239 (dk_at dksX7_sell_4 2 rfl rfl)
theorem dX7_sell_99 : decode cX7_sell 99 = .ok (.imul, 1) := dk_104 (dk_at dksX7_sell_4 5 rfl rfl)
theorem dX7_sell_100 : decode cX7_sell 100 = .ok (.iconst 2, 1) := dk_5 (dk_at dksX7_sell_4 6 rfl rfl)
theorem dX7_sell_101 : decode cX7_sell 101 = .ok (.iadd, 1) := dk_96 (dk_at dksX7_sell_4 7 rfl rfl)
theorem dX7_sell_102 : decode cX7_sell 102 = .ok (.iload_n 3, 1) := dk_29 (dk_at dksX7_sell_4 8 rfl rfl)
theorem dX7_sell_103 : decode cX7_sell 103 = .ok (.iastore, 1) := dk_79 (dk_at dksX7_sell_4 9 rfl rfl)
theorem dX7_sell_104 : decode cX7_sell 104 = .ok (.aload_n 0, 1) := dk_42 (dk_at dksX7_sell_4 10 rfl rfl)
theorem dX7_sell_105 : decode cX7_sell 105 = .ok (.getfield 37, 3) := dk_180 0 37 (dk_at dksX7_sell_4 11 rfl rfl)
theorem dX7_sell_108 : decode cX7_sell 108 = .ok (.iconst 5, 1) := dk_8 (dk_at dksX7_sell_4 14 rfl rfl)
theorem dX7_sell_109 : decode cX7_sell 109 = .ok (.aload_n 0, 1) := dk_42 (dk_at dksX7_sell_4 15 rfl rfl)
theorem dX7_sell_110 : decode cX7_sell 110 = .ok (.getfield 239, 3) := dk_180 0 239 (dk_at dksX7_sell_4 16 rfl rfl)
theorem dX7_sell_113 : decode cX7_sell 113 = .ok (.imul, 1) := dk_104 (dk_at dksX7_sell_4 19 rfl rfl)
theorem dX7_sell_114 : decode cX7_sell 114 = .ok (.iconst 3, 1) := dk_6 (dk_at dksX7_sell_4 20 rfl rfl)
theorem dX7_sell_115 : decode cX7_sell 115 = .ok (.iadd, 1) := dk_96 (dk_at dksX7_sell_4 21 rfl rfl)
theorem dX7_sell_116 : decode cX7_sell 116 = .ok (.iload 4, 2) := dk_21 4 (dk_at dksX7_sell_4 22 rfl rfl)
theorem dX7_sell_118 : decode cX7_sell 118 = .ok (.iastore, 1) := dk_79 (dk_at dksX7_sell_5 0 rfl rfl)
theorem dX7_sell_119 : decode cX7_sell 119 = .ok (.aload_n 0, 1) := dk_42 (dk_at dksX7_sell_5 1 rfl rfl)
theorem dX7_sell_120 : decode cX7_sell 120 = .ok (.getfield 37, 3) := dk_180 0 37 (dk_at dksX7_sell_5 2 rfl rfl)
theorem dX7_sell_123 : decode cX7_sell 123 = .ok (.iconst 5, 1) := dk_8 (dk_at dksX7_sell_5 5 rfl rfl)
theorem dX7_sell_124 : decode cX7_sell 124 = .ok (.aload_n 0, 1) := dk_42 (dk_at dksX7_sell_5 6 rfl rfl)
theorem dX7_sell_125 : decode cX7_sell 125 = .ok (.getfield 239, 3) := dk_180 0 239 (dk_at dksX7_sell_5 7 rfl rfl)
theorem dX7_sell_128 : decode cX7_sell 128 = .ok (.imul, 1) := dk_104 (dk_at dksX7_sell_5 10 rfl rfl)
theorem dX7_sell_129 : decode cX7_sell 129 = .ok (.iconst 4, 1) := dk_7 (dk_at dksX7_sell_5 11 rfl rfl)
theorem dX7_sell_130 : decode cX7_sell 130 = .ok (.iadd, 1) := dk_96 (dk_at dksX7_sell_5 12 rfl rfl)
theorem dX7_sell_131 : decode cX7_sell 131 = .ok (.aload_n 0, 1) := dk_42 (dk_at dksX7_sell_5 13 rfl rfl)
theorem dX7_sell_132 : decode cX7_sell 132 = .ok (.getfield 208, 3) := dk_180 0 208 (dk_at dksX7_sell_5 14 rfl rfl)
theorem dX7_sell_135 : decode cX7_sell 135 = .ok (.iastore, 1) := dk_79 (dk_at dksX7_sell_5 17 rfl rfl)
theorem dX7_sell_136 : decode cX7_sell 136 = .ok (.aload_n 0, 1) := dk_42 (dk_at dksX7_sell_5 18 rfl rfl)
theorem dX7_sell_137 : decode cX7_sell 137 = .ok (.dup, 1) := dk_89 (dk_at dksX7_sell_5 19 rfl rfl)
theorem dX7_sell_138 : decode cX7_sell 138 = .ok (.getfield 239, 3) := dk_180 0 239 (dk_at dksX7_sell_5 20 rfl rfl)
theorem dX7_sell_141 : decode cX7_sell 141 = .ok (.iconst 1, 1) := dk_4 (dk_at dksX7_sell_5 23 rfl rfl)
theorem dX7_sell_142 : decode cX7_sell 142 = .ok (.iadd, 1) := dk_96 (dk_at dksX7_sell_6 0 rfl rfl)
theorem dX7_sell_143 : decode cX7_sell 143 = .ok (.putfield 239, 3) := dk_181 0 239 (dk_at dksX7_sell_6 1 rfl rfl)
theorem dX7_sell_146 : decode cX7_sell 146 = .ok (.iconst 1, 1) := dk_4 (dk_at dksX7_sell_6 4 rfl rfl)
theorem dX7_sell_147 : decode cX7_sell 147 = .ok (.ireturn, 1) := dk_172 (dk_at dksX7_sell_6 5 rfl rfl)
abbrev cX7_isRent : ByteArray := prog_19_method_33_code
def yX7_isRent : MethodName := ⟨RX7, "isRent", "(I)Z"⟩
def dkwX7_isRent_0 : List UInt8 := [27, 155, 0, 15, 27, 42, 180, 0, 233, 162, 0, 7, 4, 167, 0, 4, 3, 172]
abbrev dktX7_isRent_0 : List UInt8 := dkwX7_isRent_0 ++ []
theorem dksX7_isRent_0 : cX7_isRent.data.toList.drop 0 = dktX7_isRent_0 := by decide +kernel
theorem dX7_isRent_0 : decode cX7_isRent 0 = .ok (.iload_n 1, 1) := dk_27 (dk_at dksX7_isRent_0 0 rfl rfl)
theorem dX7_isRent_1 : decode cX7_isRent 1 = .ok (.ifCond .lt 15, 3) := dk_155 0 15 (dk_at dksX7_isRent_0 1 rfl rfl)
theorem dX7_isRent_4 : decode cX7_isRent 4 = .ok (.iload_n 1, 1) := dk_27 (dk_at dksX7_isRent_0 4 rfl rfl)
theorem dX7_isRent_5 : decode cX7_isRent 5 = .ok (.aload_n 0, 1) := dk_42 (dk_at dksX7_isRent_0 5 rfl rfl)
theorem dX7_isRent_6 : decode cX7_isRent 6 = .ok (.getfield 233, 3) := dk_180 0 233 (dk_at dksX7_isRent_0 6 rfl rfl)
theorem dX7_isRent_9 : decode cX7_isRent 9 = .ok (.if_icmp .ge 7, 3) := dk_162 0 7 (dk_at dksX7_isRent_0 9 rfl rfl)
theorem dX7_isRent_12 : decode cX7_isRent 12 = .ok (.iconst 1, 1) := dk_4 (dk_at dksX7_isRent_0 12 rfl rfl)
theorem dX7_isRent_13 : decode cX7_isRent 13 = .ok (.goto 4, 3) := dk_167 0 4 (dk_at dksX7_isRent_0 13 rfl rfl)
theorem dX7_isRent_16 : decode cX7_isRent 16 = .ok (.iconst 0, 1) := dk_3 (dk_at dksX7_isRent_0 16 rfl rfl)
theorem dX7_isRent_17 : decode cX7_isRent 17 = .ok (.ireturn, 1) := dk_172 (dk_at dksX7_isRent_0 17 rfl rfl)
abbrev cX7_partsOf : ByteArray := prog_19_method_34_code
def yX7_partsOf : MethodName := ⟨RX7, "partsOf", "(III)I"⟩
def dkwX7_partsOf_6 : List UInt8 := [132, 5, 1, 167, 255, 147, 21, 4, 172]
abbrev dktX7_partsOf_6 : List UInt8 := dkwX7_partsOf_6 ++ []
def dkwX7_partsOf_5 : List UInt8 := [160, 0, 17, 42, 180, 0, 37, 8, 21, 5, 104, 6, 96, 46, 167, 0, 4, 3, 100, 96, 54, 4]
abbrev dktX7_partsOf_5 : List UInt8 := dkwX7_partsOf_5 ++ dktX7_partsOf_6
def dkwX7_partsOf_4 : List UInt8 := [8, 21, 5, 104, 6, 96, 46, 167, 0, 4, 3, 42, 180, 0, 37, 8, 21, 5, 104, 4, 96, 46, 28]
abbrev dktX7_partsOf_4 : List UInt8 := dkwX7_partsOf_4 ++ dktX7_partsOf_5
def dkwX7_partsOf_3 : List UInt8 := [167, 0, 69, 21, 4, 42, 180, 0, 37, 8, 21, 5, 104, 5, 96, 46, 28, 160, 0, 17, 42, 180, 0, 37]
abbrev dktX7_partsOf_3 : List UInt8 := dkwX7_partsOf_3 ++ dktX7_partsOf_4
def dkwX7_partsOf_2 : List UInt8 := [21, 5, 104, 46, 27, 160, 0, 87, 42, 180, 0, 37, 8, 21, 5, 104, 7, 96, 46, 29, 164, 0, 6]
abbrev dktX7_partsOf_2 : List UInt8 := dkwX7_partsOf_2 ++ dktX7_partsOf_3
def dkwX7_partsOf_1 : List UInt8 := [167, 0, 4, 3, 54, 4, 3, 54, 5, 21, 5, 42, 180, 0, 239, 162, 0, 106, 42, 180, 0, 37, 8]
abbrev dktX7_partsOf_1 : List UInt8 := dkwX7_partsOf_1 ++ dktX7_partsOf_2
def dkwX7_partsOf_0 : List UInt8 := [29, 42, 180, 0, 19, 27, 46, 162, 0, 5, 3, 172, 28, 42, 180, 0, 22, 27, 46, 160, 0, 8, 16, 60]
abbrev dktX7_partsOf_0 : List UInt8 := dkwX7_partsOf_0 ++ dktX7_partsOf_1
theorem dksX7_partsOf_0 : cX7_partsOf.data.toList.drop 0 = dktX7_partsOf_0 := by decide +kernel
theorem dksX7_partsOf_1 : cX7_partsOf.data.toList.drop 24 = dktX7_partsOf_1 := dk_seg dksX7_partsOf_0 24 rfl rfl
theorem dksX7_partsOf_2 : cX7_partsOf.data.toList.drop 47 = dktX7_partsOf_2 := dk_seg dksX7_partsOf_1 23 rfl rfl
theorem dksX7_partsOf_3 : cX7_partsOf.data.toList.drop 70 = dktX7_partsOf_3 := dk_seg dksX7_partsOf_2 23 rfl rfl
theorem dksX7_partsOf_4 : cX7_partsOf.data.toList.drop 94 = dktX7_partsOf_4 := dk_seg dksX7_partsOf_3 24 rfl rfl
theorem dksX7_partsOf_5 : cX7_partsOf.data.toList.drop 117 = dktX7_partsOf_5 := dk_seg dksX7_partsOf_4 23 rfl rfl
theorem dksX7_partsOf_6 : cX7_partsOf.data.toList.drop 139 = dktX7_partsOf_6 := dk_seg dksX7_partsOf_5 22 rfl rfl
theorem dX7_partsOf_0 : decode cX7_partsOf 0 = .ok (.iload_n 3, 1) := dk_29 (dk_at dksX7_partsOf_0 0 rfl rfl)
theorem dX7_partsOf_1 : decode cX7_partsOf 1 = .ok (.aload_n 0, 1) := dk_42 (dk_at dksX7_partsOf_0 1 rfl rfl)
theorem dX7_partsOf_2 : decode cX7_partsOf 2 = .ok (.getfield 19, 3) := dk_180 0 19 (dk_at dksX7_partsOf_0 2 rfl rfl)
theorem dX7_partsOf_5 : decode cX7_partsOf 5 = .ok (.iload_n 1, 1) := dk_27 (dk_at dksX7_partsOf_0 5 rfl rfl)
theorem dX7_partsOf_6 : decode cX7_partsOf 6 = .ok (.iaload, 1) := dk_46 (dk_at dksX7_partsOf_0 6 rfl rfl)
theorem dX7_partsOf_7 : decode cX7_partsOf 7 = .ok (.if_icmp .ge 5, 3) := dk_162 0 5 (dk_at dksX7_partsOf_0 7 rfl rfl)
theorem dX7_partsOf_10 : decode cX7_partsOf 10 = .ok (.iconst 0, 1) := dk_3 (dk_at dksX7_partsOf_0 10 rfl rfl)
theorem dX7_partsOf_11 : decode cX7_partsOf 11 = .ok (.ireturn, 1) := dk_172 (dk_at dksX7_partsOf_0 11 rfl rfl)
theorem dX7_partsOf_12 : decode cX7_partsOf 12 = .ok (.iload_n 2, 1) := dk_28 (dk_at dksX7_partsOf_0 12 rfl rfl)
theorem dX7_partsOf_13 : decode cX7_partsOf 13 = .ok (.aload_n 0, 1) := dk_42 (dk_at dksX7_partsOf_0 13 rfl rfl)
theorem dX7_partsOf_14 : decode cX7_partsOf 14 = .ok (.getfield 22, 3) := dk_180 0 22 (dk_at dksX7_partsOf_0 14 rfl rfl)
theorem dX7_partsOf_17 : decode cX7_partsOf 17 = .ok (.iload_n 1, 1) := dk_27 (dk_at dksX7_partsOf_0 17 rfl rfl)
theorem dX7_partsOf_18 : decode cX7_partsOf 18 = .ok (.iaload, 1) := dk_46 (dk_at dksX7_partsOf_0 18 rfl rfl)
theorem dX7_partsOf_19 : decode cX7_partsOf 19 = .ok (.if_icmp .ne 8, 3) := dk_160 0 8 (dk_at dksX7_partsOf_0 19 rfl rfl)
theorem dX7_partsOf_22 : decode cX7_partsOf 22 = .ok (.bipush 60, 2) := dk_16 60 (dk_at dksX7_partsOf_0 22 rfl rfl)
theorem dX7_partsOf_24 : decode cX7_partsOf 24 = .ok (.goto 4, 3) := dk_167 0 4 (dk_at dksX7_partsOf_1 0 rfl rfl)
theorem dX7_partsOf_27 : decode cX7_partsOf 27 = .ok (.iconst 0, 1) := dk_3 (dk_at dksX7_partsOf_1 3 rfl rfl)
theorem dX7_partsOf_28 : decode cX7_partsOf 28 = .ok (.istore 4, 2) := dk_54 4 (dk_at dksX7_partsOf_1 4 rfl rfl)
theorem dX7_partsOf_30 : decode cX7_partsOf 30 = .ok (.iconst 0, 1) := dk_3 (dk_at dksX7_partsOf_1 6 rfl rfl)
theorem dX7_partsOf_31 : decode cX7_partsOf 31 = .ok (.istore 5, 2) := dk_54 5 (dk_at dksX7_partsOf_1 7 rfl rfl)
theorem dX7_partsOf_33 : decode cX7_partsOf 33 = .ok (.iload 5, 2) := dk_21 5 (dk_at dksX7_partsOf_1 9 rfl rfl)
theorem dX7_partsOf_35 : decode cX7_partsOf 35 = .ok (.aload_n 0, 1) := dk_42 (dk_at dksX7_partsOf_1 11 rfl rfl)
theorem dX7_partsOf_36 : decode cX7_partsOf 36 = .ok (.getfield 239, 3) := dk_180 0 239 (dk_at dksX7_partsOf_1 12 rfl rfl)
theorem dX7_partsOf_39 : decode cX7_partsOf 39 = .ok (.if_icmp .ge 106, 3) := dk_162 0 106 (dk_at dksX7_partsOf_1 15 rfl rfl)
theorem dX7_partsOf_42 : decode cX7_partsOf 42 = .ok (.aload_n 0, 1) := dk_42 (dk_at dksX7_partsOf_1 18 rfl rfl)
theorem dX7_partsOf_43 : decode cX7_partsOf 43 = .ok (.getfield 37, 3) := dk_180 0 37 (dk_at dksX7_partsOf_1 19 rfl rfl)
theorem dX7_partsOf_46 : decode cX7_partsOf 46 = .ok (.iconst 5, 1) := dk_8 (dk_at dksX7_partsOf_1 22 rfl rfl)
theorem dX7_partsOf_47 : decode cX7_partsOf 47 = .ok (.iload 5, 2) := dk_21 5 (dk_at dksX7_partsOf_2 0 rfl rfl)
theorem dX7_partsOf_49 : decode cX7_partsOf 49 = .ok (.imul, 1) := dk_104 (dk_at dksX7_partsOf_2 2 rfl rfl)
theorem dX7_partsOf_50 : decode cX7_partsOf 50 = .ok (.iaload, 1) := dk_46 (dk_at dksX7_partsOf_2 3 rfl rfl)
theorem dX7_partsOf_51 : decode cX7_partsOf 51 = .ok (.iload_n 1, 1) := dk_27 (dk_at dksX7_partsOf_2 4 rfl rfl)
theorem dX7_partsOf_52 : decode cX7_partsOf 52 = .ok (.if_icmp .ne 87, 3) := dk_160 0 87 (dk_at dksX7_partsOf_2 5 rfl rfl)
theorem dX7_partsOf_55 : decode cX7_partsOf 55 = .ok (.aload_n 0, 1) := dk_42 (dk_at dksX7_partsOf_2 8 rfl rfl)
theorem dX7_partsOf_56 : decode cX7_partsOf 56 = .ok (.getfield 37, 3) := dk_180 0 37 (dk_at dksX7_partsOf_2 9 rfl rfl)
theorem dX7_partsOf_59 : decode cX7_partsOf 59 = .ok (.iconst 5, 1) := dk_8 (dk_at dksX7_partsOf_2 12 rfl rfl)
theorem dX7_partsOf_60 : decode cX7_partsOf 60 = .ok (.iload 5, 2) := dk_21 5 (dk_at dksX7_partsOf_2 13 rfl rfl)
theorem dX7_partsOf_62 : decode cX7_partsOf 62 = .ok (.imul, 1) := dk_104 (dk_at dksX7_partsOf_2 15 rfl rfl)
theorem dX7_partsOf_63 : decode cX7_partsOf 63 = .ok (.iconst 4, 1) := dk_7 (dk_at dksX7_partsOf_2 16 rfl rfl)
theorem dX7_partsOf_64 : decode cX7_partsOf 64 = .ok (.iadd, 1) := dk_96 (dk_at dksX7_partsOf_2 17 rfl rfl)
theorem dX7_partsOf_65 : decode cX7_partsOf 65 = .ok (.iaload, 1) := dk_46 (dk_at dksX7_partsOf_2 18 rfl rfl)
theorem dX7_partsOf_66 : decode cX7_partsOf 66 = .ok (.iload_n 3, 1) := dk_29 (dk_at dksX7_partsOf_2 19 rfl rfl)
theorem dX7_partsOf_67 : decode cX7_partsOf 67 = .ok (.if_icmp .le 6, 3) := dk_164 0 6 (dk_at dksX7_partsOf_2 20 rfl rfl)
theorem dX7_partsOf_70 : decode cX7_partsOf 70 = .ok (.goto 69, 3) := dk_167 0 69 (dk_at dksX7_partsOf_3 0 rfl rfl)
theorem dX7_partsOf_73 : decode cX7_partsOf 73 = .ok (.iload 4, 2) := dk_21 4 (dk_at dksX7_partsOf_3 3 rfl rfl)
theorem dX7_partsOf_75 : decode cX7_partsOf 75 = .ok (.aload_n 0, 1) := dk_42 (dk_at dksX7_partsOf_3 5 rfl rfl)
theorem dX7_partsOf_76 : decode cX7_partsOf 76 = .ok (.getfield 37, 3) := dk_180 0 37 (dk_at dksX7_partsOf_3 6 rfl rfl)
theorem dX7_partsOf_79 : decode cX7_partsOf 79 = .ok (.iconst 5, 1) := dk_8 (dk_at dksX7_partsOf_3 9 rfl rfl)
theorem dX7_partsOf_80 : decode cX7_partsOf 80 = .ok (.iload 5, 2) := dk_21 5 (dk_at dksX7_partsOf_3 10 rfl rfl)
theorem dX7_partsOf_82 : decode cX7_partsOf 82 = .ok (.imul, 1) := dk_104 (dk_at dksX7_partsOf_3 12 rfl rfl)
theorem dX7_partsOf_83 : decode cX7_partsOf 83 = .ok (.iconst 2, 1) := dk_5 (dk_at dksX7_partsOf_3 13 rfl rfl)
theorem dX7_partsOf_84 : decode cX7_partsOf 84 = .ok (.iadd, 1) := dk_96 (dk_at dksX7_partsOf_3 14 rfl rfl)
theorem dX7_partsOf_85 : decode cX7_partsOf 85 = .ok (.iaload, 1) := dk_46 (dk_at dksX7_partsOf_3 15 rfl rfl)
theorem dX7_partsOf_86 : decode cX7_partsOf 86 = .ok (.iload_n 2, 1) := dk_28 (dk_at dksX7_partsOf_3 16 rfl rfl)
theorem dX7_partsOf_87 : decode cX7_partsOf 87 = .ok (.if_icmp .ne 17, 3) := dk_160 0 17 (dk_at dksX7_partsOf_3 17 rfl rfl)
theorem dX7_partsOf_90 : decode cX7_partsOf 90 = .ok (.aload_n 0, 1) := dk_42 (dk_at dksX7_partsOf_3 20 rfl rfl)
theorem dX7_partsOf_91 : decode cX7_partsOf 91 = .ok (.getfield 37, 3) := dk_180 0 37 (dk_at dksX7_partsOf_3 21 rfl rfl)
theorem dX7_partsOf_94 : decode cX7_partsOf 94 = .ok (.iconst 5, 1) := dk_8 (dk_at dksX7_partsOf_4 0 rfl rfl)
theorem dX7_partsOf_95 : decode cX7_partsOf 95 = .ok (.iload 5, 2) := dk_21 5 (dk_at dksX7_partsOf_4 1 rfl rfl)
theorem dX7_partsOf_97 : decode cX7_partsOf 97 = .ok (.imul, 1) := dk_104 (dk_at dksX7_partsOf_4 3 rfl rfl)
theorem dX7_partsOf_98 : decode cX7_partsOf 98 = .ok (.iconst 3, 1) := dk_6 (dk_at dksX7_partsOf_4 4 rfl rfl)
theorem dX7_partsOf_99 : decode cX7_partsOf 99 = .ok (.iadd, 1) := dk_96 (dk_at dksX7_partsOf_4 5 rfl rfl)
theorem dX7_partsOf_100 : decode cX7_partsOf 100 = .ok (.iaload, 1) := dk_46 (dk_at dksX7_partsOf_4 6 rfl rfl)
theorem dX7_partsOf_101 : decode cX7_partsOf 101 = .ok (.goto 4, 3) := dk_167 0 4 (dk_at dksX7_partsOf_4 7 rfl rfl)
theorem dX7_partsOf_104 : decode cX7_partsOf 104 = .ok (.iconst 0, 1) := dk_3 (dk_at dksX7_partsOf_4 10 rfl rfl)
theorem dX7_partsOf_105 : decode cX7_partsOf 105 = .ok (.aload_n 0, 1) := dk_42 (dk_at dksX7_partsOf_4 11 rfl rfl)
theorem dX7_partsOf_106 : decode cX7_partsOf 106 = .ok (.getfield 37, 3) := dk_180 0 37 (dk_at dksX7_partsOf_4 12 rfl rfl)
theorem dX7_partsOf_109 : decode cX7_partsOf 109 = .ok (.iconst 5, 1) := dk_8 (dk_at dksX7_partsOf_4 15 rfl rfl)
theorem dX7_partsOf_110 : decode cX7_partsOf 110 = .ok (.iload 5, 2) := dk_21 5 (dk_at dksX7_partsOf_4 16 rfl rfl)
theorem dX7_partsOf_112 : decode cX7_partsOf 112 = .ok (.imul, 1) := dk_104 (dk_at dksX7_partsOf_4 18 rfl rfl)
theorem dX7_partsOf_113 : decode cX7_partsOf 113 = .ok (.iconst 1, 1) := dk_4 (dk_at dksX7_partsOf_4 19 rfl rfl)
theorem dX7_partsOf_114 : decode cX7_partsOf 114 = .ok (.iadd, 1) := dk_96 (dk_at dksX7_partsOf_4 20 rfl rfl)
theorem dX7_partsOf_115 : decode cX7_partsOf 115 = .ok (.iaload, 1) := dk_46 (dk_at dksX7_partsOf_4 21 rfl rfl)
theorem dX7_partsOf_116 : decode cX7_partsOf 116 = .ok (.iload_n 2, 1) := dk_28 (dk_at dksX7_partsOf_4 22 rfl rfl)
theorem dX7_partsOf_117 : decode cX7_partsOf 117 = .ok (.if_icmp .ne 17, 3) := dk_160 0 17 (dk_at dksX7_partsOf_5 0 rfl rfl)
theorem dX7_partsOf_120 : decode cX7_partsOf 120 = .ok (.aload_n 0, 1) := dk_42 (dk_at dksX7_partsOf_5 3 rfl rfl)
theorem dX7_partsOf_121 : decode cX7_partsOf 121 = .ok (.getfield 37, 3) := dk_180 0 37 (dk_at dksX7_partsOf_5 4 rfl rfl)
theorem dX7_partsOf_124 : decode cX7_partsOf 124 = .ok (.iconst 5, 1) := dk_8 (dk_at dksX7_partsOf_5 7 rfl rfl)
theorem dX7_partsOf_125 : decode cX7_partsOf 125 = .ok (.iload 5, 2) := dk_21 5 (dk_at dksX7_partsOf_5 8 rfl rfl)
theorem dX7_partsOf_127 : decode cX7_partsOf 127 = .ok (.imul, 1) := dk_104 (dk_at dksX7_partsOf_5 10 rfl rfl)
theorem dX7_partsOf_128 : decode cX7_partsOf 128 = .ok (.iconst 3, 1) := dk_6 (dk_at dksX7_partsOf_5 11 rfl rfl)
theorem dX7_partsOf_129 : decode cX7_partsOf 129 = .ok (.iadd, 1) := dk_96 (dk_at dksX7_partsOf_5 12 rfl rfl)
theorem dX7_partsOf_130 : decode cX7_partsOf 130 = .ok (.iaload, 1) := dk_46 (dk_at dksX7_partsOf_5 13 rfl rfl)
theorem dX7_partsOf_131 : decode cX7_partsOf 131 = .ok (.goto 4, 3) := dk_167 0 4 (dk_at dksX7_partsOf_5 14 rfl rfl)
theorem dX7_partsOf_134 : decode cX7_partsOf 134 = .ok (.iconst 0, 1) := dk_3 (dk_at dksX7_partsOf_5 17 rfl rfl)
theorem dX7_partsOf_135 : decode cX7_partsOf 135 = .ok (.isub, 1) := dk_100 (dk_at dksX7_partsOf_5 18 rfl rfl)
theorem dX7_partsOf_136 : decode cX7_partsOf 136 = .ok (.iadd, 1) := dk_96 (dk_at dksX7_partsOf_5 19 rfl rfl)
theorem dX7_partsOf_137 : decode cX7_partsOf 137 = .ok (.istore 4, 2) := dk_54 4 (dk_at dksX7_partsOf_5 20 rfl rfl)
theorem dX7_partsOf_139 : decode cX7_partsOf 139 = .ok (.iinc 5 1, 3) := dk_132 5 1 (dk_at dksX7_partsOf_6 0 rfl rfl)
theorem dX7_partsOf_142 : decode cX7_partsOf 142 = .ok (.goto (-109), 3) := dk_167 255 147 (dk_at dksX7_partsOf_6 3 rfl rfl)
theorem dX7_partsOf_145 : decode cX7_partsOf 145 = .ok (.iload 4, 2) := dk_21 4 (dk_at dksX7_partsOf_6 6 rfl rfl)
theorem dX7_partsOf_147 : decode cX7_partsOf 147 = .ok (.ireturn, 1) := dk_172 (dk_at dksX7_partsOf_6 8 rfl rfl)
abbrev cX7_parts : ByteArray := prog_19_method_36_code
def yX7_parts : MethodName := ⟨RX7, "parts", "(III)I"⟩
def dkwX7_parts_1 : List UInt8 := [153, 0, 13, 42, 27, 28, 29, 182, 0, 245, 167, 0, 4, 2, 172]
abbrev dktX7_parts_1 : List UInt8 := dkwX7_parts_1 ++ []
def dkwX7_parts_0 : List UInt8 := [42, 3, 181, 0, 129, 42, 27, 182, 0, 242, 153, 0, 27, 28, 184, 0, 236, 153, 0, 20, 29, 184, 0, 249]
abbrev dktX7_parts_0 : List UInt8 := dkwX7_parts_0 ++ dktX7_parts_1
theorem dksX7_parts_0 : cX7_parts.data.toList.drop 0 = dktX7_parts_0 := by decide +kernel
theorem dksX7_parts_1 : cX7_parts.data.toList.drop 24 = dktX7_parts_1 := dk_seg dksX7_parts_0 24 rfl rfl
theorem dX7_parts_0 : decode cX7_parts 0 = .ok (.aload_n 0, 1) := dk_42 (dk_at dksX7_parts_0 0 rfl rfl)
theorem dX7_parts_1 : decode cX7_parts 1 = .ok (.iconst 0, 1) := dk_3 (dk_at dksX7_parts_0 1 rfl rfl)
theorem dX7_parts_2 : decode cX7_parts 2 = .ok (.putfield 129, 3) := dk_181 0 129 (dk_at dksX7_parts_0 2 rfl rfl)
theorem dX7_parts_5 : decode cX7_parts 5 = .ok (.aload_n 0, 1) := dk_42 (dk_at dksX7_parts_0 5 rfl rfl)
theorem dX7_parts_6 : decode cX7_parts 6 = .ok (.iload_n 1, 1) := dk_27 (dk_at dksX7_parts_0 6 rfl rfl)
theorem dX7_parts_7 : decode cX7_parts 7 = .ok (.invokevirtual 242, 3) := dk_182 0 242 (dk_at dksX7_parts_0 7 rfl rfl)
theorem dX7_parts_10 : decode cX7_parts 10 = .ok (.ifCond .eq 27, 3) := dk_153 0 27 (dk_at dksX7_parts_0 10 rfl rfl)
theorem dX7_parts_13 : decode cX7_parts 13 = .ok (.iload_n 2, 1) := dk_28 (dk_at dksX7_parts_0 13 rfl rfl)
theorem dX7_parts_14 : decode cX7_parts 14 = .ok (.invokestatic 236, 3) := dk_184 0 236 (dk_at dksX7_parts_0 14 rfl rfl)
theorem dX7_parts_17 : decode cX7_parts 17 = .ok (.ifCond .eq 20, 3) := dk_153 0 20 (dk_at dksX7_parts_0 17 rfl rfl)
theorem dX7_parts_20 : decode cX7_parts 20 = .ok (.iload_n 3, 1) := dk_29 (dk_at dksX7_parts_0 20 rfl rfl)
theorem dX7_parts_21 : decode cX7_parts 21 = .ok (.invokestatic 249, 3) := dk_184 0 249 (dk_at dksX7_parts_0 21 rfl rfl)
theorem dX7_parts_24 : decode cX7_parts 24 = .ok (.ifCond .eq 13, 3) := dk_153 0 13 (dk_at dksX7_parts_1 0 rfl rfl)
theorem dX7_parts_27 : decode cX7_parts 27 = .ok (.aload_n 0, 1) := dk_42 (dk_at dksX7_parts_1 3 rfl rfl)
theorem dX7_parts_28 : decode cX7_parts 28 = .ok (.iload_n 1, 1) := dk_27 (dk_at dksX7_parts_1 4 rfl rfl)
theorem dX7_parts_29 : decode cX7_parts 29 = .ok (.iload_n 2, 1) := dk_28 (dk_at dksX7_parts_1 5 rfl rfl)
theorem dX7_parts_30 : decode cX7_parts 30 = .ok (.iload_n 3, 1) := dk_29 (dk_at dksX7_parts_1 6 rfl rfl)
theorem dX7_parts_31 : decode cX7_parts 31 = .ok (.invokevirtual 245, 3) := dk_182 0 245 (dk_at dksX7_parts_1 7 rfl rfl)
theorem dX7_parts_34 : decode cX7_parts 34 = .ok (.goto 4, 3) := dk_167 0 4 (dk_at dksX7_parts_1 10 rfl rfl)
theorem dX7_parts_37 : decode cX7_parts 37 = .ok (.iconst (-1), 1) := dk_2 (dk_at dksX7_parts_1 13 rfl rfl)
theorem dX7_parts_38 : decode cX7_parts 38 = .ok (.ireturn, 1) := dk_172 (dk_at dksX7_parts_1 14 rfl rfl)
abbrev cX7_isHalf : ByteArray := prog_19_method_5_code
def yX7_isHalf : MethodName := ⟨RX7, "isHalf", "(I)Z"⟩
def dkwX7_isHalf_0 : List UInt8 := [26, 155, 0, 13, 26, 16, 79, 163, 0, 7, 4, 167, 0, 4, 3, 172]
abbrev dktX7_isHalf_0 : List UInt8 := dkwX7_isHalf_0 ++ []
theorem dksX7_isHalf_0 : cX7_isHalf.data.toList.drop 0 = dktX7_isHalf_0 := by decide +kernel
theorem dX7_isHalf_0 : decode cX7_isHalf 0 = .ok (.iload_n 0, 1) := dk_26 (dk_at dksX7_isHalf_0 0 rfl rfl)
theorem dX7_isHalf_1 : decode cX7_isHalf 1 = .ok (.ifCond .lt 13, 3) := dk_155 0 13 (dk_at dksX7_isHalf_0 1 rfl rfl)
theorem dX7_isHalf_4 : decode cX7_isHalf 4 = .ok (.iload_n 0, 1) := dk_26 (dk_at dksX7_isHalf_0 4 rfl rfl)
theorem dX7_isHalf_5 : decode cX7_isHalf 5 = .ok (.bipush 79, 2) := dk_16 79 (dk_at dksX7_isHalf_0 5 rfl rfl)
theorem dX7_isHalf_7 : decode cX7_isHalf 7 = .ok (.if_icmp .gt 7, 3) := dk_163 0 7 (dk_at dksX7_isHalf_0 7 rfl rfl)
theorem dX7_isHalf_10 : decode cX7_isHalf 10 = .ok (.iconst 1, 1) := dk_4 (dk_at dksX7_isHalf_0 10 rfl rfl)
theorem dX7_isHalf_11 : decode cX7_isHalf 11 = .ok (.goto 4, 3) := dk_167 0 4 (dk_at dksX7_isHalf_0 11 rfl rfl)
theorem dX7_isHalf_14 : decode cX7_isHalf 14 = .ok (.iconst 0, 1) := dk_3 (dk_at dksX7_isHalf_0 14 rfl rfl)
theorem dX7_isHalf_15 : decode cX7_isHalf 15 = .ok (.ireturn, 1) := dk_172 (dk_at dksX7_isHalf_0 15 rfl rfl)
abbrev cX7_note : ByteArray := prog_19_method_38_code
def yX7_note : MethodName := ⟨RX7, "note", "(IIZ)I"⟩
def dkwX7_note_2 : List UInt8 := [27, 28, 182, 0, 255, 172]
abbrev dktX7_note_2 : List UInt8 := dkwX7_note_2 ++ []
def dkwX7_note_1 : List UInt8 := [42, 180, 0, 208, 184, 0, 204, 154, 0, 7, 2, 167, 0, 18, 42, 29, 153, 0, 7, 4, 167, 0, 4, 3]
abbrev dktX7_note_1 : List UInt8 := dkwX7_note_1 ++ dktX7_note_2
def dkwX7_note_0 : List UInt8 := [42, 3, 181, 0, 129, 42, 180, 0, 252, 16, 60, 159, 0, 23, 42, 27, 182, 0, 221, 153, 0, 15, 28, 3]
abbrev dktX7_note_0 : List UInt8 := dkwX7_note_0 ++ dktX7_note_1
theorem dksX7_note_0 : cX7_note.data.toList.drop 0 = dktX7_note_0 := by decide +kernel
theorem dksX7_note_1 : cX7_note.data.toList.drop 24 = dktX7_note_1 := dk_seg dksX7_note_0 24 rfl rfl
theorem dksX7_note_2 : cX7_note.data.toList.drop 48 = dktX7_note_2 := dk_seg dksX7_note_1 24 rfl rfl
theorem dX7_note_0 : decode cX7_note 0 = .ok (.aload_n 0, 1) := dk_42 (dk_at dksX7_note_0 0 rfl rfl)
theorem dX7_note_1 : decode cX7_note 1 = .ok (.iconst 0, 1) := dk_3 (dk_at dksX7_note_0 1 rfl rfl)
theorem dX7_note_2 : decode cX7_note 2 = .ok (.putfield 129, 3) := dk_181 0 129 (dk_at dksX7_note_0 2 rfl rfl)
theorem dX7_note_5 : decode cX7_note 5 = .ok (.aload_n 0, 1) := dk_42 (dk_at dksX7_note_0 5 rfl rfl)
theorem dX7_note_6 : decode cX7_note 6 = .ok (.getfield 252, 3) := dk_180 0 252 (dk_at dksX7_note_0 6 rfl rfl)
theorem dX7_note_9 : decode cX7_note 9 = .ok (.bipush 60, 2) := dk_16 60 (dk_at dksX7_note_0 9 rfl rfl)
theorem dX7_note_11 : decode cX7_note 11 = .ok (.if_icmp .eq 23, 3) := dk_159 0 23 (dk_at dksX7_note_0 11 rfl rfl)
theorem dX7_note_14 : decode cX7_note 14 = .ok (.aload_n 0, 1) := dk_42 (dk_at dksX7_note_0 14 rfl rfl)
theorem dX7_note_15 : decode cX7_note 15 = .ok (.iload_n 1, 1) := dk_27 (dk_at dksX7_note_0 15 rfl rfl)
theorem dX7_note_16 : decode cX7_note 16 = .ok (.invokevirtual 221, 3) := dk_182 0 221 (dk_at dksX7_note_0 16 rfl rfl)
theorem dX7_note_19 : decode cX7_note 19 = .ok (.ifCond .eq 15, 3) := dk_153 0 15 (dk_at dksX7_note_0 19 rfl rfl)
theorem dX7_note_22 : decode cX7_note 22 = .ok (.iload_n 2, 1) := dk_28 (dk_at dksX7_note_0 22 rfl rfl)
theorem dX7_note_23 : decode cX7_note 23 = .ok (.iconst 0, 1) := dk_3 (dk_at dksX7_note_0 23 rfl rfl)
theorem dX7_note_24 : decode cX7_note 24 = .ok (.aload_n 0, 1) := dk_42 (dk_at dksX7_note_1 0 rfl rfl)
theorem dX7_note_25 : decode cX7_note 25 = .ok (.getfield 208, 3) := dk_180 0 208 (dk_at dksX7_note_1 1 rfl rfl)
theorem dX7_note_28 : decode cX7_note 28 = .ok (.invokestatic 204, 3) := dk_184 0 204 (dk_at dksX7_note_1 4 rfl rfl)
theorem dX7_note_31 : decode cX7_note 31 = .ok (.ifCond .ne 7, 3) := dk_154 0 7 (dk_at dksX7_note_1 7 rfl rfl)
theorem dX7_note_34 : decode cX7_note 34 = .ok (.iconst (-1), 1) := dk_2 (dk_at dksX7_note_1 10 rfl rfl)
theorem dX7_note_35 : decode cX7_note 35 = .ok (.goto 18, 3) := dk_167 0 18 (dk_at dksX7_note_1 11 rfl rfl)
theorem dX7_note_38 : decode cX7_note 38 = .ok (.aload_n 0, 1) := dk_42 (dk_at dksX7_note_1 14 rfl rfl)
theorem dX7_note_39 : decode cX7_note 39 = .ok (.iload_n 3, 1) := dk_29 (dk_at dksX7_note_1 15 rfl rfl)
theorem dX7_note_40 : decode cX7_note 40 = .ok (.ifCond .eq 7, 3) := dk_153 0 7 (dk_at dksX7_note_1 16 rfl rfl)
theorem dX7_note_43 : decode cX7_note 43 = .ok (.iconst 1, 1) := dk_4 (dk_at dksX7_note_1 19 rfl rfl)
theorem dX7_note_44 : decode cX7_note 44 = .ok (.goto 4, 3) := dk_167 0 4 (dk_at dksX7_note_1 20 rfl rfl)
theorem dX7_note_47 : decode cX7_note 47 = .ok (.iconst 0, 1) := dk_3 (dk_at dksX7_note_1 23 rfl rfl)
theorem dX7_note_48 : decode cX7_note 48 = .ok (.iload_n 1, 1) := dk_27 (dk_at dksX7_note_2 0 rfl rfl)
theorem dX7_note_49 : decode cX7_note 49 = .ok (.iload_n 2, 1) := dk_28 (dk_at dksX7_note_2 1 rfl rfl)
theorem dX7_note_50 : decode cX7_note 50 = .ok (.invokevirtual 255, 3) := dk_182 0 255 (dk_at dksX7_note_2 2 rfl rfl)
theorem dX7_note_53 : decode cX7_note 53 = .ok (.ireturn, 1) := dk_172 (dk_at dksX7_note_2 5 rfl rfl)
abbrev cX7_told : ByteArray := prog_19_method_37_code
def yX7_told : MethodName := ⟨RX7, "told", "(III)I"⟩
def dkwX7_told_2 : List UInt8 := [4, 96, 181, 0, 252, 42, 180, 0, 252, 4, 100, 172]
abbrev dktX7_told_2 : List UInt8 := dkwX7_told_2 ++ []
def dkwX7_told_1 : List UInt8 := [42, 180, 0, 252, 29, 79, 42, 180, 0, 49, 42, 180, 0, 252, 42, 180, 0, 208, 79, 42, 89, 180, 0, 252]
abbrev dktX7_told_1 : List UInt8 := dkwX7_told_1 ++ dktX7_told_2
def dkwX7_told_0 : List UInt8 := [42, 180, 0, 40, 42, 180, 0, 252, 27, 79, 42, 180, 0, 43, 42, 180, 0, 252, 28, 79, 42, 180, 0, 46]
abbrev dktX7_told_0 : List UInt8 := dkwX7_told_0 ++ dktX7_told_1
theorem dksX7_told_0 : cX7_told.data.toList.drop 0 = dktX7_told_0 := by decide +kernel
theorem dksX7_told_1 : cX7_told.data.toList.drop 24 = dktX7_told_1 := dk_seg dksX7_told_0 24 rfl rfl
theorem dksX7_told_2 : cX7_told.data.toList.drop 48 = dktX7_told_2 := dk_seg dksX7_told_1 24 rfl rfl
theorem dX7_told_0 : decode cX7_told 0 = .ok (.aload_n 0, 1) := dk_42 (dk_at dksX7_told_0 0 rfl rfl)
theorem dX7_told_1 : decode cX7_told 1 = .ok (.getfield 40, 3) := dk_180 0 40 (dk_at dksX7_told_0 1 rfl rfl)
theorem dX7_told_4 : decode cX7_told 4 = .ok (.aload_n 0, 1) := dk_42 (dk_at dksX7_told_0 4 rfl rfl)
theorem dX7_told_5 : decode cX7_told 5 = .ok (.getfield 252, 3) := dk_180 0 252 (dk_at dksX7_told_0 5 rfl rfl)
theorem dX7_told_8 : decode cX7_told 8 = .ok (.iload_n 1, 1) := dk_27 (dk_at dksX7_told_0 8 rfl rfl)
theorem dX7_told_9 : decode cX7_told 9 = .ok (.iastore, 1) := dk_79 (dk_at dksX7_told_0 9 rfl rfl)
theorem dX7_told_10 : decode cX7_told 10 = .ok (.aload_n 0, 1) := dk_42 (dk_at dksX7_told_0 10 rfl rfl)
theorem dX7_told_11 : decode cX7_told 11 = .ok (.getfield 43, 3) := dk_180 0 43 (dk_at dksX7_told_0 11 rfl rfl)
theorem dX7_told_14 : decode cX7_told 14 = .ok (.aload_n 0, 1) := dk_42 (dk_at dksX7_told_0 14 rfl rfl)
theorem dX7_told_15 : decode cX7_told 15 = .ok (.getfield 252, 3) := dk_180 0 252 (dk_at dksX7_told_0 15 rfl rfl)
theorem dX7_told_18 : decode cX7_told 18 = .ok (.iload_n 2, 1) := dk_28 (dk_at dksX7_told_0 18 rfl rfl)
theorem dX7_told_19 : decode cX7_told 19 = .ok (.iastore, 1) := dk_79 (dk_at dksX7_told_0 19 rfl rfl)
theorem dX7_told_20 : decode cX7_told 20 = .ok (.aload_n 0, 1) := dk_42 (dk_at dksX7_told_0 20 rfl rfl)
theorem dX7_told_21 : decode cX7_told 21 = .ok (.getfield 46, 3) := dk_180 0 46 (dk_at dksX7_told_0 21 rfl rfl)
theorem dX7_told_24 : decode cX7_told 24 = .ok (.aload_n 0, 1) := dk_42 (dk_at dksX7_told_1 0 rfl rfl)
theorem dX7_told_25 : decode cX7_told 25 = .ok (.getfield 252, 3) := dk_180 0 252 (dk_at dksX7_told_1 1 rfl rfl)
theorem dX7_told_28 : decode cX7_told 28 = .ok (.iload_n 3, 1) := dk_29 (dk_at dksX7_told_1 4 rfl rfl)
theorem dX7_told_29 : decode cX7_told 29 = .ok (.iastore, 1) := dk_79 (dk_at dksX7_told_1 5 rfl rfl)
theorem dX7_told_30 : decode cX7_told 30 = .ok (.aload_n 0, 1) := dk_42 (dk_at dksX7_told_1 6 rfl rfl)
theorem dX7_told_31 : decode cX7_told 31 = .ok (.getfield 49, 3) := dk_180 0 49 (dk_at dksX7_told_1 7 rfl rfl)
theorem dX7_told_34 : decode cX7_told 34 = .ok (.aload_n 0, 1) := dk_42 (dk_at dksX7_told_1 10 rfl rfl)
theorem dX7_told_35 : decode cX7_told 35 = .ok (.getfield 252, 3) := dk_180 0 252 (dk_at dksX7_told_1 11 rfl rfl)
theorem dX7_told_38 : decode cX7_told 38 = .ok (.aload_n 0, 1) := dk_42 (dk_at dksX7_told_1 14 rfl rfl)
theorem dX7_told_39 : decode cX7_told 39 = .ok (.getfield 208, 3) := dk_180 0 208 (dk_at dksX7_told_1 15 rfl rfl)
theorem dX7_told_42 : decode cX7_told 42 = .ok (.iastore, 1) := dk_79 (dk_at dksX7_told_1 18 rfl rfl)
theorem dX7_told_43 : decode cX7_told 43 = .ok (.aload_n 0, 1) := dk_42 (dk_at dksX7_told_1 19 rfl rfl)
theorem dX7_told_44 : decode cX7_told 44 = .ok (.dup, 1) := dk_89 (dk_at dksX7_told_1 20 rfl rfl)
theorem dX7_told_45 : decode cX7_told 45 = .ok (.getfield 252, 3) := dk_180 0 252 (dk_at dksX7_told_1 21 rfl rfl)
theorem dX7_told_48 : decode cX7_told 48 = .ok (.iconst 1, 1) := dk_4 (dk_at dksX7_told_2 0 rfl rfl)
theorem dX7_told_49 : decode cX7_told 49 = .ok (.iadd, 1) := dk_96 (dk_at dksX7_told_2 1 rfl rfl)
theorem dX7_told_50 : decode cX7_told 50 = .ok (.putfield 252, 3) := dk_181 0 252 (dk_at dksX7_told_2 2 rfl rfl)
theorem dX7_told_53 : decode cX7_told 53 = .ok (.aload_n 0, 1) := dk_42 (dk_at dksX7_told_2 5 rfl rfl)
theorem dX7_told_54 : decode cX7_told 54 = .ok (.getfield 252, 3) := dk_180 0 252 (dk_at dksX7_told_2 6 rfl rfl)
theorem dX7_told_57 : decode cX7_told 57 = .ok (.iconst 1, 1) := dk_4 (dk_at dksX7_told_2 9 rfl rfl)
theorem dX7_told_58 : decode cX7_told 58 = .ok (.isub, 1) := dk_100 (dk_at dksX7_told_2 10 rfl rfl)
theorem dX7_told_59 : decode cX7_told 59 = .ok (.ireturn, 1) := dk_172 (dk_at dksX7_told_2 11 rfl rfl)
abbrev cX7_strike : ByteArray := prog_19_method_39_code
def yX7_strike : MethodName := ⟨RX7, "strike", "(I)I"⟩
def dkwX7_strike_1 : List UInt8 := [161, 0, 7, 2, 167, 0, 10, 42, 5, 27, 3, 182, 0, 255, 172]
abbrev dktX7_strike_1 : List UInt8 := dkwX7_strike_1 ++ []
def dkwX7_strike_0 : List UInt8 := [42, 3, 181, 0, 129, 42, 180, 0, 252, 16, 60, 159, 0, 15, 27, 155, 0, 11, 27, 42, 180, 0, 252]
abbrev dktX7_strike_0 : List UInt8 := dkwX7_strike_0 ++ dktX7_strike_1
theorem dksX7_strike_0 : cX7_strike.data.toList.drop 0 = dktX7_strike_0 := by decide +kernel
theorem dksX7_strike_1 : cX7_strike.data.toList.drop 23 = dktX7_strike_1 := dk_seg dksX7_strike_0 23 rfl rfl
theorem dX7_strike_0 : decode cX7_strike 0 = .ok (.aload_n 0, 1) := dk_42 (dk_at dksX7_strike_0 0 rfl rfl)
theorem dX7_strike_1 : decode cX7_strike 1 = .ok (.iconst 0, 1) := dk_3 (dk_at dksX7_strike_0 1 rfl rfl)
theorem dX7_strike_2 : decode cX7_strike 2 = .ok (.putfield 129, 3) := dk_181 0 129 (dk_at dksX7_strike_0 2 rfl rfl)
theorem dX7_strike_5 : decode cX7_strike 5 = .ok (.aload_n 0, 1) := dk_42 (dk_at dksX7_strike_0 5 rfl rfl)
theorem dX7_strike_6 : decode cX7_strike 6 = .ok (.getfield 252, 3) := dk_180 0 252 (dk_at dksX7_strike_0 6 rfl rfl)
theorem dX7_strike_9 : decode cX7_strike 9 = .ok (.bipush 60, 2) := dk_16 60 (dk_at dksX7_strike_0 9 rfl rfl)
theorem dX7_strike_11 : decode cX7_strike 11 = .ok (.if_icmp .eq 15, 3) := dk_159 0 15 (dk_at dksX7_strike_0 11 rfl rfl)
theorem dX7_strike_14 : decode cX7_strike 14 = .ok (.iload_n 1, 1) := dk_27 (dk_at dksX7_strike_0 14 rfl rfl)
theorem dX7_strike_15 : decode cX7_strike 15 = .ok (.ifCond .lt 11, 3) := dk_155 0 11 (dk_at dksX7_strike_0 15 rfl rfl)
theorem dX7_strike_18 : decode cX7_strike 18 = .ok (.iload_n 1, 1) := dk_27 (dk_at dksX7_strike_0 18 rfl rfl)
theorem dX7_strike_19 : decode cX7_strike 19 = .ok (.aload_n 0, 1) := dk_42 (dk_at dksX7_strike_0 19 rfl rfl)
theorem dX7_strike_20 : decode cX7_strike 20 = .ok (.getfield 252, 3) := dk_180 0 252 (dk_at dksX7_strike_0 20 rfl rfl)
theorem dX7_strike_23 : decode cX7_strike 23 = .ok (.if_icmp .lt 7, 3) := dk_161 0 7 (dk_at dksX7_strike_1 0 rfl rfl)
theorem dX7_strike_26 : decode cX7_strike 26 = .ok (.iconst (-1), 1) := dk_2 (dk_at dksX7_strike_1 3 rfl rfl)
theorem dX7_strike_27 : decode cX7_strike 27 = .ok (.goto 10, 3) := dk_167 0 10 (dk_at dksX7_strike_1 4 rfl rfl)
theorem dX7_strike_30 : decode cX7_strike 30 = .ok (.aload_n 0, 1) := dk_42 (dk_at dksX7_strike_1 7 rfl rfl)
theorem dX7_strike_31 : decode cX7_strike 31 = .ok (.iconst 2, 1) := dk_5 (dk_at dksX7_strike_1 8 rfl rfl)
theorem dX7_strike_32 : decode cX7_strike 32 = .ok (.iload_n 1, 1) := dk_27 (dk_at dksX7_strike_1 9 rfl rfl)
theorem dX7_strike_33 : decode cX7_strike 33 = .ok (.iconst 0, 1) := dk_3 (dk_at dksX7_strike_1 10 rfl rfl)
theorem dX7_strike_34 : decode cX7_strike 34 = .ok (.invokevirtual 255, 3) := dk_182 0 255 (dk_at dksX7_strike_1 11 rfl rfl)
theorem dX7_strike_37 : decode cX7_strike 37 = .ok (.ireturn, 1) := dk_172 (dk_at dksX7_strike_1 14 rfl rfl)
abbrev cX7_dead : ByteArray := prog_19_method_42_code
def yX7_dead : MethodName := ⟨RX7, "dead", "(II)I"⟩
def dkwX7_dead_1 : List UInt8 := [28, 182, 1, 1, 42, 180, 0, 96, 27, 46, 172]
abbrev dktX7_dead_1 : List UInt8 := dkwX7_dead_1 ++ []
def dkwX7_dead_0 : List UInt8 := [42, 3, 181, 0, 129, 42, 27, 182, 0, 221, 153, 0, 10, 28, 184, 0, 249, 154, 0, 6, 16, 254, 172, 42]
abbrev dktX7_dead_0 : List UInt8 := dkwX7_dead_0 ++ dktX7_dead_1
theorem dksX7_dead_0 : cX7_dead.data.toList.drop 0 = dktX7_dead_0 := by decide +kernel
theorem dksX7_dead_1 : cX7_dead.data.toList.drop 24 = dktX7_dead_1 := dk_seg dksX7_dead_0 24 rfl rfl
theorem dX7_dead_0 : decode cX7_dead 0 = .ok (.aload_n 0, 1) := dk_42 (dk_at dksX7_dead_0 0 rfl rfl)
theorem dX7_dead_1 : decode cX7_dead 1 = .ok (.iconst 0, 1) := dk_3 (dk_at dksX7_dead_0 1 rfl rfl)
theorem dX7_dead_2 : decode cX7_dead 2 = .ok (.putfield 129, 3) := dk_181 0 129 (dk_at dksX7_dead_0 2 rfl rfl)
theorem dX7_dead_5 : decode cX7_dead 5 = .ok (.aload_n 0, 1) := dk_42 (dk_at dksX7_dead_0 5 rfl rfl)
theorem dX7_dead_6 : decode cX7_dead 6 = .ok (.iload_n 1, 1) := dk_27 (dk_at dksX7_dead_0 6 rfl rfl)
theorem dX7_dead_7 : decode cX7_dead 7 = .ok (.invokevirtual 221, 3) := dk_182 0 221 (dk_at dksX7_dead_0 7 rfl rfl)
theorem dX7_dead_10 : decode cX7_dead 10 = .ok (.ifCond .eq 10, 3) := dk_153 0 10 (dk_at dksX7_dead_0 10 rfl rfl)
theorem dX7_dead_13 : decode cX7_dead 13 = .ok (.iload_n 2, 1) := dk_28 (dk_at dksX7_dead_0 13 rfl rfl)
theorem dX7_dead_14 : decode cX7_dead 14 = .ok (.invokestatic 249, 3) := dk_184 0 249 (dk_at dksX7_dead_0 14 rfl rfl)
theorem dX7_dead_17 : decode cX7_dead 17 = .ok (.ifCond .ne 6, 3) := dk_154 0 6 (dk_at dksX7_dead_0 17 rfl rfl)
theorem dX7_dead_20 : decode cX7_dead 20 = .ok (.bipush (-2), 2) := dk_16 254 (dk_at dksX7_dead_0 20 rfl rfl)
theorem dX7_dead_22 : decode cX7_dead 22 = .ok (.ireturn, 1) := dk_172 (dk_at dksX7_dead_0 22 rfl rfl)
theorem dX7_dead_23 : decode cX7_dead 23 = .ok (.aload_n 0, 1) := dk_42 (dk_at dksX7_dead_0 23 rfl rfl)
theorem dX7_dead_24 : decode cX7_dead 24 = .ok (.iload_n 2, 1) := dk_28 (dk_at dksX7_dead_1 0 rfl rfl)
theorem dX7_dead_25 : decode cX7_dead 25 = .ok (.invokevirtual 257, 3) := dk_182 1 1 (dk_at dksX7_dead_1 1 rfl rfl)
theorem dX7_dead_28 : decode cX7_dead 28 = .ok (.aload_n 0, 1) := dk_42 (dk_at dksX7_dead_1 4 rfl rfl)
theorem dX7_dead_29 : decode cX7_dead 29 = .ok (.getfield 96, 3) := dk_180 0 96 (dk_at dksX7_dead_1 5 rfl rfl)
theorem dX7_dead_32 : decode cX7_dead 32 = .ok (.iload_n 1, 1) := dk_27 (dk_at dksX7_dead_1 8 rfl rfl)
theorem dX7_dead_33 : decode cX7_dead 33 = .ok (.iaload, 1) := dk_46 (dk_at dksX7_dead_1 9 rfl rfl)
theorem dX7_dead_34 : decode cX7_dead 34 = .ok (.ireturn, 1) := dk_172 (dk_at dksX7_dead_1 10 rfl rfl)
abbrev cX7_know : ByteArray := prog_19_method_40_code
def yX7_know : MethodName := ⟨RX7, "know", "(I)V"⟩
def dkwX7_know_6 : List UInt8 := [180, 0, 96, 42, 180, 0, 43, 28, 46, 42, 180, 0, 46, 28, 46, 79, 132, 2, 1, 167, 255, 209, 177]
abbrev dktX7_know_6 : List UInt8 := dkwX7_know_6 ++ []
def dkwX7_know_5 : List UInt8 := [162, 0, 45, 42, 180, 0, 40, 28, 46, 4, 160, 0, 29, 42, 180, 0, 93, 28, 51, 153, 0, 20, 42]
abbrev dktX7_know_5 : List UInt8 := dkwX7_know_5 ++ dktX7_know_6
def dkwX7_know_4 : List UInt8 := [162, 0, 16, 42, 180, 0, 96, 28, 2, 79, 132, 2, 1, 167, 255, 240, 3, 61, 28, 42, 180, 0, 252]
abbrev dktX7_know_4 : List UInt8 := dkwX7_know_4 ++ dktX7_know_5
def dkwX7_know_3 : List UInt8 := [180, 0, 93, 42, 180, 0, 43, 28, 46, 3, 84, 132, 2, 255, 167, 255, 218, 3, 61, 28, 16, 12]
abbrev dktX7_know_3 : List UInt8 := dkwX7_know_3 ++ dktX7_know_4
def dkwX7_know_2 : List UInt8 := [155, 0, 40, 42, 180, 0, 40, 28, 46, 5, 160, 0, 24, 42, 180, 0, 93, 28, 51, 153, 0, 15, 42]
abbrev dktX7_know_2 : List UInt8 := dkwX7_know_2 ++ dktX7_know_3
def dkwX7_know_1 : List UInt8 := [163, 0, 7, 4, 167, 0, 4, 3, 84, 132, 2, 1, 167, 255, 224, 42, 180, 0, 252, 4, 100, 61, 28]
abbrev dktX7_know_1 : List UInt8 := dkwX7_know_1 ++ dktX7_know_2
def dkwX7_know_0 : List UInt8 := [3, 61, 28, 42, 180, 0, 252, 162, 0, 30, 42, 180, 0, 93, 28, 42, 180, 0, 49, 28, 46, 27]
abbrev dktX7_know_0 : List UInt8 := dkwX7_know_0 ++ dktX7_know_1
theorem dksX7_know_0 : cX7_know.data.toList.drop 0 = dktX7_know_0 := by decide +kernel
theorem dksX7_know_1 : cX7_know.data.toList.drop 22 = dktX7_know_1 := dk_seg dksX7_know_0 22 rfl rfl
theorem dksX7_know_2 : cX7_know.data.toList.drop 45 = dktX7_know_2 := dk_seg dksX7_know_1 23 rfl rfl
theorem dksX7_know_3 : cX7_know.data.toList.drop 68 = dktX7_know_3 := dk_seg dksX7_know_2 23 rfl rfl
theorem dksX7_know_4 : cX7_know.data.toList.drop 90 = dktX7_know_4 := dk_seg dksX7_know_3 22 rfl rfl
theorem dksX7_know_5 : cX7_know.data.toList.drop 113 = dktX7_know_5 := dk_seg dksX7_know_4 23 rfl rfl
theorem dksX7_know_6 : cX7_know.data.toList.drop 136 = dktX7_know_6 := dk_seg dksX7_know_5 23 rfl rfl
theorem dX7_know_0 : decode cX7_know 0 = .ok (.iconst 0, 1) := dk_3 (dk_at dksX7_know_0 0 rfl rfl)
theorem dX7_know_1 : decode cX7_know 1 = .ok (.istore_n 2, 1) := dk_61 (dk_at dksX7_know_0 1 rfl rfl)
theorem dX7_know_2 : decode cX7_know 2 = .ok (.iload_n 2, 1) := dk_28 (dk_at dksX7_know_0 2 rfl rfl)
theorem dX7_know_3 : decode cX7_know 3 = .ok (.aload_n 0, 1) := dk_42 (dk_at dksX7_know_0 3 rfl rfl)
theorem dX7_know_4 : decode cX7_know 4 = .ok (.getfield 252, 3) := dk_180 0 252 (dk_at dksX7_know_0 4 rfl rfl)
theorem dX7_know_7 : decode cX7_know 7 = .ok (.if_icmp .ge 30, 3) := dk_162 0 30 (dk_at dksX7_know_0 7 rfl rfl)
theorem dX7_know_10 : decode cX7_know 10 = .ok (.aload_n 0, 1) := dk_42 (dk_at dksX7_know_0 10 rfl rfl)
theorem dX7_know_11 : decode cX7_know 11 = .ok (.getfield 93, 3) := dk_180 0 93 (dk_at dksX7_know_0 11 rfl rfl)
theorem dX7_know_14 : decode cX7_know 14 = .ok (.iload_n 2, 1) := dk_28 (dk_at dksX7_know_0 14 rfl rfl)
theorem dX7_know_15 : decode cX7_know 15 = .ok (.aload_n 0, 1) := dk_42 (dk_at dksX7_know_0 15 rfl rfl)
theorem dX7_know_16 : decode cX7_know 16 = .ok (.getfield 49, 3) := dk_180 0 49 (dk_at dksX7_know_0 16 rfl rfl)
theorem dX7_know_19 : decode cX7_know 19 = .ok (.iload_n 2, 1) := dk_28 (dk_at dksX7_know_0 19 rfl rfl)
theorem dX7_know_20 : decode cX7_know 20 = .ok (.iaload, 1) := dk_46 (dk_at dksX7_know_0 20 rfl rfl)
theorem dX7_know_21 : decode cX7_know 21 = .ok (.iload_n 1, 1) := dk_27 (dk_at dksX7_know_0 21 rfl rfl)
theorem dX7_know_22 : decode cX7_know 22 = .ok (.if_icmp .gt 7, 3) := dk_163 0 7 (dk_at dksX7_know_1 0 rfl rfl)
theorem dX7_know_25 : decode cX7_know 25 = .ok (.iconst 1, 1) := dk_4 (dk_at dksX7_know_1 3 rfl rfl)
theorem dX7_know_26 : decode cX7_know 26 = .ok (.goto 4, 3) := dk_167 0 4 (dk_at dksX7_know_1 4 rfl rfl)
theorem dX7_know_29 : decode cX7_know 29 = .ok (.iconst 0, 1) := dk_3 (dk_at dksX7_know_1 7 rfl rfl)
theorem dX7_know_30 : decode cX7_know 30 = .ok (.bastore, 1) := dk_84 (dk_at dksX7_know_1 8 rfl rfl)
theorem dX7_know_31 : decode cX7_know 31 = .ok (.iinc 2 1, 3) := dk_132 2 1 (dk_at dksX7_know_1 9 rfl rfl)
theorem dX7_know_34 : decode cX7_know 34 = .ok (.goto (-32), 3) := dk_167 255 224 (dk_at dksX7_know_1 12 rfl rfl)
theorem dX7_know_37 : decode cX7_know 37 = .ok (.aload_n 0, 1) := dk_42 (dk_at dksX7_know_1 15 rfl rfl)
theorem dX7_know_38 : decode cX7_know 38 = .ok (.getfield 252, 3) := dk_180 0 252 (dk_at dksX7_know_1 16 rfl rfl)
theorem dX7_know_41 : decode cX7_know 41 = .ok (.iconst 1, 1) := dk_4 (dk_at dksX7_know_1 19 rfl rfl)
theorem dX7_know_42 : decode cX7_know 42 = .ok (.isub, 1) := dk_100 (dk_at dksX7_know_1 20 rfl rfl)
theorem dX7_know_43 : decode cX7_know 43 = .ok (.istore_n 2, 1) := dk_61 (dk_at dksX7_know_1 21 rfl rfl)
theorem dX7_know_44 : decode cX7_know 44 = .ok (.iload_n 2, 1) := dk_28 (dk_at dksX7_know_1 22 rfl rfl)
theorem dX7_know_45 : decode cX7_know 45 = .ok (.ifCond .lt 40, 3) := dk_155 0 40 (dk_at dksX7_know_2 0 rfl rfl)
theorem dX7_know_48 : decode cX7_know 48 = .ok (.aload_n 0, 1) := dk_42 (dk_at dksX7_know_2 3 rfl rfl)
theorem dX7_know_49 : decode cX7_know 49 = .ok (.getfield 40, 3) := dk_180 0 40 (dk_at dksX7_know_2 4 rfl rfl)
theorem dX7_know_52 : decode cX7_know 52 = .ok (.iload_n 2, 1) := dk_28 (dk_at dksX7_know_2 7 rfl rfl)
theorem dX7_know_53 : decode cX7_know 53 = .ok (.iaload, 1) := dk_46 (dk_at dksX7_know_2 8 rfl rfl)
theorem dX7_know_54 : decode cX7_know 54 = .ok (.iconst 2, 1) := dk_5 (dk_at dksX7_know_2 9 rfl rfl)
theorem dX7_know_55 : decode cX7_know 55 = .ok (.if_icmp .ne 24, 3) := dk_160 0 24 (dk_at dksX7_know_2 10 rfl rfl)
theorem dX7_know_58 : decode cX7_know 58 = .ok (.aload_n 0, 1) := dk_42 (dk_at dksX7_know_2 13 rfl rfl)
theorem dX7_know_59 : decode cX7_know 59 = .ok (.getfield 93, 3) := dk_180 0 93 (dk_at dksX7_know_2 14 rfl rfl)
theorem dX7_know_62 : decode cX7_know 62 = .ok (.iload_n 2, 1) := dk_28 (dk_at dksX7_know_2 17 rfl rfl)
theorem dX7_know_63 : decode cX7_know 63 = .ok (.baload, 1) := dk_51 (dk_at dksX7_know_2 18 rfl rfl)
theorem dX7_know_64 : decode cX7_know 64 = .ok (.ifCond .eq 15, 3) := dk_153 0 15 (dk_at dksX7_know_2 19 rfl rfl)
theorem dX7_know_67 : decode cX7_know 67 = .ok (.aload_n 0, 1) := dk_42 (dk_at dksX7_know_2 22 rfl rfl)
theorem dX7_know_68 : decode cX7_know 68 = .ok (.getfield 93, 3) := dk_180 0 93 (dk_at dksX7_know_3 0 rfl rfl)
theorem dX7_know_71 : decode cX7_know 71 = .ok (.aload_n 0, 1) := dk_42 (dk_at dksX7_know_3 3 rfl rfl)
theorem dX7_know_72 : decode cX7_know 72 = .ok (.getfield 43, 3) := dk_180 0 43 (dk_at dksX7_know_3 4 rfl rfl)
theorem dX7_know_75 : decode cX7_know 75 = .ok (.iload_n 2, 1) := dk_28 (dk_at dksX7_know_3 7 rfl rfl)
theorem dX7_know_76 : decode cX7_know 76 = .ok (.iaload, 1) := dk_46 (dk_at dksX7_know_3 8 rfl rfl)
theorem dX7_know_77 : decode cX7_know 77 = .ok (.iconst 0, 1) := dk_3 (dk_at dksX7_know_3 9 rfl rfl)
theorem dX7_know_78 : decode cX7_know 78 = .ok (.bastore, 1) := dk_84 (dk_at dksX7_know_3 10 rfl rfl)
theorem dX7_know_79 : decode cX7_know 79 = .ok (.iinc 2 (-1), 3) := dk_132 2 255 (dk_at dksX7_know_3 11 rfl rfl)
theorem dX7_know_82 : decode cX7_know 82 = .ok (.goto (-38), 3) := dk_167 255 218 (dk_at dksX7_know_3 14 rfl rfl)
theorem dX7_know_85 : decode cX7_know 85 = .ok (.iconst 0, 1) := dk_3 (dk_at dksX7_know_3 17 rfl rfl)
theorem dX7_know_86 : decode cX7_know 86 = .ok (.istore_n 2, 1) := dk_61 (dk_at dksX7_know_3 18 rfl rfl)
theorem dX7_know_87 : decode cX7_know 87 = .ok (.iload_n 2, 1) := dk_28 (dk_at dksX7_know_3 19 rfl rfl)
theorem dX7_know_88 : decode cX7_know 88 = .ok (.bipush 12, 2) := dk_16 12 (dk_at dksX7_know_3 20 rfl rfl)
theorem dX7_know_90 : decode cX7_know 90 = .ok (.if_icmp .ge 16, 3) := dk_162 0 16 (dk_at dksX7_know_4 0 rfl rfl)
theorem dX7_know_93 : decode cX7_know 93 = .ok (.aload_n 0, 1) := dk_42 (dk_at dksX7_know_4 3 rfl rfl)
theorem dX7_know_94 : decode cX7_know 94 = .ok (.getfield 96, 3) := dk_180 0 96 (dk_at dksX7_know_4 4 rfl rfl)
theorem dX7_know_97 : decode cX7_know 97 = .ok (.iload_n 2, 1) := dk_28 (dk_at dksX7_know_4 7 rfl rfl)
theorem dX7_know_98 : decode cX7_know 98 = .ok (.iconst (-1), 1) := dk_2 (dk_at dksX7_know_4 8 rfl rfl)
theorem dX7_know_99 : decode cX7_know 99 = .ok (.iastore, 1) := dk_79 (dk_at dksX7_know_4 9 rfl rfl)
theorem dX7_know_100 : decode cX7_know 100 = .ok (.iinc 2 1, 3) := dk_132 2 1 (dk_at dksX7_know_4 10 rfl rfl)
theorem dX7_know_103 : decode cX7_know 103 = .ok (.goto (-16), 3) := dk_167 255 240 (dk_at dksX7_know_4 13 rfl rfl)
theorem dX7_know_106 : decode cX7_know 106 = .ok (.iconst 0, 1) := dk_3 (dk_at dksX7_know_4 16 rfl rfl)
theorem dX7_know_107 : decode cX7_know 107 = .ok (.istore_n 2, 1) := dk_61 (dk_at dksX7_know_4 17 rfl rfl)
theorem dX7_know_108 : decode cX7_know 108 = .ok (.iload_n 2, 1) := dk_28 (dk_at dksX7_know_4 18 rfl rfl)
theorem dX7_know_109 : decode cX7_know 109 = .ok (.aload_n 0, 1) := dk_42 (dk_at dksX7_know_4 19 rfl rfl)
theorem dX7_know_110 : decode cX7_know 110 = .ok (.getfield 252, 3) := dk_180 0 252 (dk_at dksX7_know_4 20 rfl rfl)
theorem dX7_know_113 : decode cX7_know 113 = .ok (.if_icmp .ge 45, 3) := dk_162 0 45 (dk_at dksX7_know_5 0 rfl rfl)
theorem dX7_know_116 : decode cX7_know 116 = .ok (.aload_n 0, 1) := dk_42 (dk_at dksX7_know_5 3 rfl rfl)
theorem dX7_know_117 : decode cX7_know 117 = .ok (.getfield 40, 3) := dk_180 0 40 (dk_at dksX7_know_5 4 rfl rfl)
theorem dX7_know_120 : decode cX7_know 120 = .ok (.iload_n 2, 1) := dk_28 (dk_at dksX7_know_5 7 rfl rfl)
theorem dX7_know_121 : decode cX7_know 121 = .ok (.iaload, 1) := dk_46 (dk_at dksX7_know_5 8 rfl rfl)
theorem dX7_know_122 : decode cX7_know 122 = .ok (.iconst 1, 1) := dk_4 (dk_at dksX7_know_5 9 rfl rfl)
theorem dX7_know_123 : decode cX7_know 123 = .ok (.if_icmp .ne 29, 3) := dk_160 0 29 (dk_at dksX7_know_5 10 rfl rfl)
theorem dX7_know_126 : decode cX7_know 126 = .ok (.aload_n 0, 1) := dk_42 (dk_at dksX7_know_5 13 rfl rfl)
theorem dX7_know_127 : decode cX7_know 127 = .ok (.getfield 93, 3) := dk_180 0 93 (dk_at dksX7_know_5 14 rfl rfl)
theorem dX7_know_130 : decode cX7_know 130 = .ok (.iload_n 2, 1) := dk_28 (dk_at dksX7_know_5 17 rfl rfl)
theorem dX7_know_131 : decode cX7_know 131 = .ok (.baload, 1) := dk_51 (dk_at dksX7_know_5 18 rfl rfl)
theorem dX7_know_132 : decode cX7_know 132 = .ok (.ifCond .eq 20, 3) := dk_153 0 20 (dk_at dksX7_know_5 19 rfl rfl)
theorem dX7_know_135 : decode cX7_know 135 = .ok (.aload_n 0, 1) := dk_42 (dk_at dksX7_know_5 22 rfl rfl)
theorem dX7_know_136 : decode cX7_know 136 = .ok (.getfield 96, 3) := dk_180 0 96 (dk_at dksX7_know_6 0 rfl rfl)
theorem dX7_know_139 : decode cX7_know 139 = .ok (.aload_n 0, 1) := dk_42 (dk_at dksX7_know_6 3 rfl rfl)
theorem dX7_know_140 : decode cX7_know 140 = .ok (.getfield 43, 3) := dk_180 0 43 (dk_at dksX7_know_6 4 rfl rfl)
theorem dX7_know_143 : decode cX7_know 143 = .ok (.iload_n 2, 1) := dk_28 (dk_at dksX7_know_6 7 rfl rfl)
theorem dX7_know_144 : decode cX7_know 144 = .ok (.iaload, 1) := dk_46 (dk_at dksX7_know_6 8 rfl rfl)
theorem dX7_know_145 : decode cX7_know 145 = .ok (.aload_n 0, 1) := dk_42 (dk_at dksX7_know_6 9 rfl rfl)
theorem dX7_know_146 : decode cX7_know 146 = .ok (.getfield 46, 3) := dk_180 0 46 (dk_at dksX7_know_6 10 rfl rfl)
theorem dX7_know_149 : decode cX7_know 149 = .ok (.iload_n 2, 1) := dk_28 (dk_at dksX7_know_6 13 rfl rfl)
theorem dX7_know_150 : decode cX7_know 150 = .ok (.iaload, 1) := dk_46 (dk_at dksX7_know_6 14 rfl rfl)
theorem dX7_know_151 : decode cX7_know 151 = .ok (.iastore, 1) := dk_79 (dk_at dksX7_know_6 15 rfl rfl)
theorem dX7_know_152 : decode cX7_know 152 = .ok (.iinc 2 1, 3) := dk_132 2 1 (dk_at dksX7_know_6 16 rfl rfl)
theorem dX7_know_155 : decode cX7_know 155 = .ok (.goto (-47), 3) := dk_167 255 209 (dk_at dksX7_know_6 19 rfl rfl)
theorem dX7_know_158 : decode cX7_know 158 = .ok (.return_, 1) := dk_177 (dk_at dksX7_know_6 22 rfl rfl)
abbrev cX7_holds : ByteArray := prog_19_method_43_code
def yX7_holds : MethodName := ⟨RX7, "holds", "(II)I"⟩
def dkwX7_holds_2 : List UInt8 := [27, 46, 154, 0, 15, 42, 27, 182, 1, 5, 153, 0, 7, 5, 167, 0, 4, 4, 172]
abbrev dktX7_holds_2 : List UInt8 := dkwX7_holds_2 ++ []
def dkwX7_holds_1 : List UInt8 := [2, 172, 42, 28, 182, 1, 1, 42, 180, 0, 93, 27, 51, 154, 0, 7, 3, 167, 0, 25, 42, 180, 0, 40]
abbrev dktX7_holds_1 : List UInt8 := dkwX7_holds_1 ++ dktX7_holds_2
def dkwX7_holds_0 : List UInt8 := [42, 3, 181, 0, 129, 27, 155, 0, 18, 27, 42, 180, 0, 252, 162, 0, 10, 28, 184, 0, 249, 154, 0, 5]
abbrev dktX7_holds_0 : List UInt8 := dkwX7_holds_0 ++ dktX7_holds_1
theorem dksX7_holds_0 : cX7_holds.data.toList.drop 0 = dktX7_holds_0 := by decide +kernel
theorem dksX7_holds_1 : cX7_holds.data.toList.drop 24 = dktX7_holds_1 := dk_seg dksX7_holds_0 24 rfl rfl
theorem dksX7_holds_2 : cX7_holds.data.toList.drop 48 = dktX7_holds_2 := dk_seg dksX7_holds_1 24 rfl rfl
theorem dX7_holds_0 : decode cX7_holds 0 = .ok (.aload_n 0, 1) := dk_42 (dk_at dksX7_holds_0 0 rfl rfl)
theorem dX7_holds_1 : decode cX7_holds 1 = .ok (.iconst 0, 1) := dk_3 (dk_at dksX7_holds_0 1 rfl rfl)
theorem dX7_holds_2 : decode cX7_holds 2 = .ok (.putfield 129, 3) := dk_181 0 129 (dk_at dksX7_holds_0 2 rfl rfl)
theorem dX7_holds_5 : decode cX7_holds 5 = .ok (.iload_n 1, 1) := dk_27 (dk_at dksX7_holds_0 5 rfl rfl)
theorem dX7_holds_6 : decode cX7_holds 6 = .ok (.ifCond .lt 18, 3) := dk_155 0 18 (dk_at dksX7_holds_0 6 rfl rfl)
theorem dX7_holds_9 : decode cX7_holds 9 = .ok (.iload_n 1, 1) := dk_27 (dk_at dksX7_holds_0 9 rfl rfl)
theorem dX7_holds_10 : decode cX7_holds 10 = .ok (.aload_n 0, 1) := dk_42 (dk_at dksX7_holds_0 10 rfl rfl)
theorem dX7_holds_11 : decode cX7_holds 11 = .ok (.getfield 252, 3) := dk_180 0 252 (dk_at dksX7_holds_0 11 rfl rfl)
theorem dX7_holds_14 : decode cX7_holds 14 = .ok (.if_icmp .ge 10, 3) := dk_162 0 10 (dk_at dksX7_holds_0 14 rfl rfl)
theorem dX7_holds_17 : decode cX7_holds 17 = .ok (.iload_n 2, 1) := dk_28 (dk_at dksX7_holds_0 17 rfl rfl)
theorem dX7_holds_18 : decode cX7_holds 18 = .ok (.invokestatic 249, 3) := dk_184 0 249 (dk_at dksX7_holds_0 18 rfl rfl)
theorem dX7_holds_21 : decode cX7_holds 21 = .ok (.ifCond .ne 5, 3) := dk_154 0 5 (dk_at dksX7_holds_0 21 rfl rfl)
theorem dX7_holds_24 : decode cX7_holds 24 = .ok (.iconst (-1), 1) := dk_2 (dk_at dksX7_holds_1 0 rfl rfl)
theorem dX7_holds_25 : decode cX7_holds 25 = .ok (.ireturn, 1) := dk_172 (dk_at dksX7_holds_1 1 rfl rfl)
theorem dX7_holds_26 : decode cX7_holds 26 = .ok (.aload_n 0, 1) := dk_42 (dk_at dksX7_holds_1 2 rfl rfl)
theorem dX7_holds_27 : decode cX7_holds 27 = .ok (.iload_n 2, 1) := dk_28 (dk_at dksX7_holds_1 3 rfl rfl)
theorem dX7_holds_28 : decode cX7_holds 28 = .ok (.invokevirtual 257, 3) := dk_182 1 1 (dk_at dksX7_holds_1 4 rfl rfl)
theorem dX7_holds_31 : decode cX7_holds 31 = .ok (.aload_n 0, 1) := dk_42 (dk_at dksX7_holds_1 7 rfl rfl)
theorem dX7_holds_32 : decode cX7_holds 32 = .ok (.getfield 93, 3) := dk_180 0 93 (dk_at dksX7_holds_1 8 rfl rfl)
theorem dX7_holds_35 : decode cX7_holds 35 = .ok (.iload_n 1, 1) := dk_27 (dk_at dksX7_holds_1 11 rfl rfl)
theorem dX7_holds_36 : decode cX7_holds 36 = .ok (.baload, 1) := dk_51 (dk_at dksX7_holds_1 12 rfl rfl)
theorem dX7_holds_37 : decode cX7_holds 37 = .ok (.ifCond .ne 7, 3) := dk_154 0 7 (dk_at dksX7_holds_1 13 rfl rfl)
theorem dX7_holds_40 : decode cX7_holds 40 = .ok (.iconst 0, 1) := dk_3 (dk_at dksX7_holds_1 16 rfl rfl)
theorem dX7_holds_41 : decode cX7_holds 41 = .ok (.goto 25, 3) := dk_167 0 25 (dk_at dksX7_holds_1 17 rfl rfl)
theorem dX7_holds_44 : decode cX7_holds 44 = .ok (.aload_n 0, 1) := dk_42 (dk_at dksX7_holds_1 20 rfl rfl)
theorem dX7_holds_45 : decode cX7_holds 45 = .ok (.getfield 40, 3) := dk_180 0 40 (dk_at dksX7_holds_1 21 rfl rfl)
theorem dX7_holds_48 : decode cX7_holds 48 = .ok (.iload_n 1, 1) := dk_27 (dk_at dksX7_holds_2 0 rfl rfl)
theorem dX7_holds_49 : decode cX7_holds 49 = .ok (.iaload, 1) := dk_46 (dk_at dksX7_holds_2 1 rfl rfl)
theorem dX7_holds_50 : decode cX7_holds 50 = .ok (.ifCond .ne 15, 3) := dk_154 0 15 (dk_at dksX7_holds_2 2 rfl rfl)
theorem dX7_holds_53 : decode cX7_holds 53 = .ok (.aload_n 0, 1) := dk_42 (dk_at dksX7_holds_2 5 rfl rfl)
theorem dX7_holds_54 : decode cX7_holds 54 = .ok (.iload_n 1, 1) := dk_27 (dk_at dksX7_holds_2 6 rfl rfl)
theorem dX7_holds_55 : decode cX7_holds 55 = .ok (.invokevirtual 261, 3) := dk_182 1 5 (dk_at dksX7_holds_2 7 rfl rfl)
theorem dX7_holds_58 : decode cX7_holds 58 = .ok (.ifCond .eq 7, 3) := dk_153 0 7 (dk_at dksX7_holds_2 10 rfl rfl)
theorem dX7_holds_61 : decode cX7_holds 61 = .ok (.iconst 2, 1) := dk_5 (dk_at dksX7_holds_2 13 rfl rfl)
theorem dX7_holds_62 : decode cX7_holds 62 = .ok (.goto 4, 3) := dk_167 0 4 (dk_at dksX7_holds_2 14 rfl rfl)
theorem dX7_holds_65 : decode cX7_holds 65 = .ok (.iconst 1, 1) := dk_4 (dk_at dksX7_holds_2 17 rfl rfl)
theorem dX7_holds_66 : decode cX7_holds 66 = .ok (.ireturn, 1) := dk_172 (dk_at dksX7_holds_2 18 rfl rfl)
abbrev cX7_isFalse : ByteArray := prog_19_method_41_code
def yX7_isFalse : MethodName := ⟨RX7, "isFalse", "(I)Z"⟩
def dkwX7_isFalse_2 : List UInt8 := [4, 167, 0, 4, 3, 172]
abbrev dktX7_isFalse_2 : List UInt8 := dkwX7_isFalse_2 ++ []
def dkwX7_isFalse_1 : List UInt8 := [180, 0, 96, 28, 46, 2, 159, 0, 22, 42, 180, 0, 46, 27, 46, 42, 180, 0, 96, 28, 46, 164, 0, 7]
abbrev dktX7_isFalse_1 : List UInt8 := dkwX7_isFalse_1 ++ dktX7_isFalse_2
def dkwX7_isFalse_0 : List UInt8 := [42, 180, 0, 43, 27, 46, 61, 42, 180, 0, 46, 27, 46, 42, 180, 0, 13, 28, 46, 161, 0, 28, 42]
abbrev dktX7_isFalse_0 : List UInt8 := dkwX7_isFalse_0 ++ dktX7_isFalse_1
theorem dksX7_isFalse_0 : cX7_isFalse.data.toList.drop 0 = dktX7_isFalse_0 := by decide +kernel
theorem dksX7_isFalse_1 : cX7_isFalse.data.toList.drop 23 = dktX7_isFalse_1 := dk_seg dksX7_isFalse_0 23 rfl rfl
theorem dksX7_isFalse_2 : cX7_isFalse.data.toList.drop 47 = dktX7_isFalse_2 := dk_seg dksX7_isFalse_1 24 rfl rfl
theorem dX7_isFalse_0 : decode cX7_isFalse 0 = .ok (.aload_n 0, 1) := dk_42 (dk_at dksX7_isFalse_0 0 rfl rfl)
theorem dX7_isFalse_1 : decode cX7_isFalse 1 = .ok (.getfield 43, 3) := dk_180 0 43 (dk_at dksX7_isFalse_0 1 rfl rfl)
theorem dX7_isFalse_4 : decode cX7_isFalse 4 = .ok (.iload_n 1, 1) := dk_27 (dk_at dksX7_isFalse_0 4 rfl rfl)
theorem dX7_isFalse_5 : decode cX7_isFalse 5 = .ok (.iaload, 1) := dk_46 (dk_at dksX7_isFalse_0 5 rfl rfl)
theorem dX7_isFalse_6 : decode cX7_isFalse 6 = .ok (.istore_n 2, 1) := dk_61 (dk_at dksX7_isFalse_0 6 rfl rfl)
theorem dX7_isFalse_7 : decode cX7_isFalse 7 = .ok (.aload_n 0, 1) := dk_42 (dk_at dksX7_isFalse_0 7 rfl rfl)
theorem dX7_isFalse_8 : decode cX7_isFalse 8 = .ok (.getfield 46, 3) := dk_180 0 46 (dk_at dksX7_isFalse_0 8 rfl rfl)
theorem dX7_isFalse_11 : decode cX7_isFalse 11 = .ok (.iload_n 1, 1) := dk_27 (dk_at dksX7_isFalse_0 11 rfl rfl)
theorem dX7_isFalse_12 : decode cX7_isFalse 12 = .ok (.iaload, 1) := dk_46 (dk_at dksX7_isFalse_0 12 rfl rfl)
theorem dX7_isFalse_13 : decode cX7_isFalse 13 = .ok (.aload_n 0, 1) := dk_42 (dk_at dksX7_isFalse_0 13 rfl rfl)
theorem dX7_isFalse_14 : decode cX7_isFalse 14 = .ok (.getfield 13, 3) := dk_180 0 13 (dk_at dksX7_isFalse_0 14 rfl rfl)
theorem dX7_isFalse_17 : decode cX7_isFalse 17 = .ok (.iload_n 2, 1) := dk_28 (dk_at dksX7_isFalse_0 17 rfl rfl)
theorem dX7_isFalse_18 : decode cX7_isFalse 18 = .ok (.iaload, 1) := dk_46 (dk_at dksX7_isFalse_0 18 rfl rfl)
theorem dX7_isFalse_19 : decode cX7_isFalse 19 = .ok (.if_icmp .lt 28, 3) := dk_161 0 28 (dk_at dksX7_isFalse_0 19 rfl rfl)
theorem dX7_isFalse_22 : decode cX7_isFalse 22 = .ok (.aload_n 0, 1) := dk_42 (dk_at dksX7_isFalse_0 22 rfl rfl)
theorem dX7_isFalse_23 : decode cX7_isFalse 23 = .ok (.getfield 96, 3) := dk_180 0 96 (dk_at dksX7_isFalse_1 0 rfl rfl)
theorem dX7_isFalse_26 : decode cX7_isFalse 26 = .ok (.iload_n 2, 1) := dk_28 (dk_at dksX7_isFalse_1 3 rfl rfl)
theorem dX7_isFalse_27 : decode cX7_isFalse 27 = .ok (.iaload, 1) := dk_46 (dk_at dksX7_isFalse_1 4 rfl rfl)
theorem dX7_isFalse_28 : decode cX7_isFalse 28 = .ok (.iconst (-1), 1) := dk_2 (dk_at dksX7_isFalse_1 5 rfl rfl)
theorem dX7_isFalse_29 : decode cX7_isFalse 29 = .ok (.if_icmp .eq 22, 3) := dk_159 0 22 (dk_at dksX7_isFalse_1 6 rfl rfl)
theorem dX7_isFalse_32 : decode cX7_isFalse 32 = .ok (.aload_n 0, 1) := dk_42 (dk_at dksX7_isFalse_1 9 rfl rfl)
theorem dX7_isFalse_33 : decode cX7_isFalse 33 = .ok (.getfield 46, 3) := dk_180 0 46 (dk_at dksX7_isFalse_1 10 rfl rfl)
theorem dX7_isFalse_36 : decode cX7_isFalse 36 = .ok (.iload_n 1, 1) := dk_27 (dk_at dksX7_isFalse_1 13 rfl rfl)
theorem dX7_isFalse_37 : decode cX7_isFalse 37 = .ok (.iaload, 1) := dk_46 (dk_at dksX7_isFalse_1 14 rfl rfl)
theorem dX7_isFalse_38 : decode cX7_isFalse 38 = .ok (.aload_n 0, 1) := dk_42 (dk_at dksX7_isFalse_1 15 rfl rfl)
theorem dX7_isFalse_39 : decode cX7_isFalse 39 = .ok (.getfield 96, 3) := dk_180 0 96 (dk_at dksX7_isFalse_1 16 rfl rfl)
theorem dX7_isFalse_42 : decode cX7_isFalse 42 = .ok (.iload_n 2, 1) := dk_28 (dk_at dksX7_isFalse_1 19 rfl rfl)
theorem dX7_isFalse_43 : decode cX7_isFalse 43 = .ok (.iaload, 1) := dk_46 (dk_at dksX7_isFalse_1 20 rfl rfl)
theorem dX7_isFalse_44 : decode cX7_isFalse 44 = .ok (.if_icmp .le 7, 3) := dk_164 0 7 (dk_at dksX7_isFalse_1 21 rfl rfl)
theorem dX7_isFalse_47 : decode cX7_isFalse 47 = .ok (.iconst 1, 1) := dk_4 (dk_at dksX7_isFalse_2 0 rfl rfl)
theorem dX7_isFalse_48 : decode cX7_isFalse 48 = .ok (.goto 4, 3) := dk_167 0 4 (dk_at dksX7_isFalse_2 1 rfl rfl)
theorem dX7_isFalse_51 : decode cX7_isFalse 51 = .ok (.iconst 0, 1) := dk_3 (dk_at dksX7_isFalse_2 4 rfl rfl)
theorem dX7_isFalse_52 : decode cX7_isFalse 52 = .ok (.ireturn, 1) := dk_172 (dk_at dksX7_isFalse_2 5 rfl rfl)
abbrev cX7_paid : ByteArray := prog_19_method_49_code
def yX7_paid : MethodName := ⟨RX7, "paid", "(III)I"⟩
def dkwX7_paid_3 : List UInt8 := [167, 0, 12, 42, 27, 28, 182, 1, 16, 153, 0, 7, 4, 167, 0, 4, 3, 172]
abbrev dktX7_paid_3 : List UInt8 := dkwX7_paid_3 ++ []
def dkwX7_paid_2 : List UInt8 := [16, 80, 27, 104, 28, 96, 46, 167, 0, 34, 29, 4, 160, 0, 15, 42, 27, 28, 182, 1, 13, 153, 0, 19]
abbrev dktX7_paid_2 : List UInt8 := dkwX7_paid_2 ++ dktX7_paid_3
def dkwX7_paid_1 : List UInt8 := [184, 0, 204, 154, 0, 5, 2, 172, 42, 42, 180, 0, 208, 182, 1, 23, 29, 154, 0, 17, 42, 180, 0, 99]
abbrev dktX7_paid_1 : List UInt8 := dkwX7_paid_1 ++ dktX7_paid_2
def dkwX7_paid_0 : List UInt8 := [42, 3, 181, 0, 129, 42, 27, 182, 0, 242, 153, 0, 19, 28, 184, 0, 249, 153, 0, 12, 29, 3, 5]
abbrev dktX7_paid_0 : List UInt8 := dkwX7_paid_0 ++ dktX7_paid_1
theorem dksX7_paid_0 : cX7_paid.data.toList.drop 0 = dktX7_paid_0 := by decide +kernel
theorem dksX7_paid_1 : cX7_paid.data.toList.drop 23 = dktX7_paid_1 := dk_seg dksX7_paid_0 23 rfl rfl
theorem dksX7_paid_2 : cX7_paid.data.toList.drop 47 = dktX7_paid_2 := dk_seg dksX7_paid_1 24 rfl rfl
theorem dksX7_paid_3 : cX7_paid.data.toList.drop 71 = dktX7_paid_3 := dk_seg dksX7_paid_2 24 rfl rfl
theorem dX7_paid_0 : decode cX7_paid 0 = .ok (.aload_n 0, 1) := dk_42 (dk_at dksX7_paid_0 0 rfl rfl)
theorem dX7_paid_1 : decode cX7_paid 1 = .ok (.iconst 0, 1) := dk_3 (dk_at dksX7_paid_0 1 rfl rfl)
theorem dX7_paid_2 : decode cX7_paid 2 = .ok (.putfield 129, 3) := dk_181 0 129 (dk_at dksX7_paid_0 2 rfl rfl)
theorem dX7_paid_5 : decode cX7_paid 5 = .ok (.aload_n 0, 1) := dk_42 (dk_at dksX7_paid_0 5 rfl rfl)
theorem dX7_paid_6 : decode cX7_paid 6 = .ok (.iload_n 1, 1) := dk_27 (dk_at dksX7_paid_0 6 rfl rfl)
theorem dX7_paid_7 : decode cX7_paid 7 = .ok (.invokevirtual 242, 3) := dk_182 0 242 (dk_at dksX7_paid_0 7 rfl rfl)
theorem dX7_paid_10 : decode cX7_paid 10 = .ok (.ifCond .eq 19, 3) := dk_153 0 19 (dk_at dksX7_paid_0 10 rfl rfl)
theorem dX7_paid_13 : decode cX7_paid 13 = .ok (.iload_n 2, 1) := dk_28 (dk_at dksX7_paid_0 13 rfl rfl)
theorem dX7_paid_14 : decode cX7_paid 14 = .ok (.invokestatic 249, 3) := dk_184 0 249 (dk_at dksX7_paid_0 14 rfl rfl)
theorem dX7_paid_17 : decode cX7_paid 17 = .ok (.ifCond .eq 12, 3) := dk_153 0 12 (dk_at dksX7_paid_0 17 rfl rfl)
theorem dX7_paid_20 : decode cX7_paid 20 = .ok (.iload_n 3, 1) := dk_29 (dk_at dksX7_paid_0 20 rfl rfl)
theorem dX7_paid_21 : decode cX7_paid 21 = .ok (.iconst 0, 1) := dk_3 (dk_at dksX7_paid_0 21 rfl rfl)
theorem dX7_paid_22 : decode cX7_paid 22 = .ok (.iconst 2, 1) := dk_5 (dk_at dksX7_paid_0 22 rfl rfl)
theorem dX7_paid_23 : decode cX7_paid 23 = .ok (.invokestatic 204, 3) := dk_184 0 204 (dk_at dksX7_paid_1 0 rfl rfl)
theorem dX7_paid_26 : decode cX7_paid 26 = .ok (.ifCond .ne 5, 3) := dk_154 0 5 (dk_at dksX7_paid_1 3 rfl rfl)
theorem dX7_paid_29 : decode cX7_paid 29 = .ok (.iconst (-1), 1) := dk_2 (dk_at dksX7_paid_1 6 rfl rfl)
theorem dX7_paid_30 : decode cX7_paid 30 = .ok (.ireturn, 1) := dk_172 (dk_at dksX7_paid_1 7 rfl rfl)
theorem dX7_paid_31 : decode cX7_paid 31 = .ok (.aload_n 0, 1) := dk_42 (dk_at dksX7_paid_1 8 rfl rfl)
theorem dX7_paid_32 : decode cX7_paid 32 = .ok (.aload_n 0, 1) := dk_42 (dk_at dksX7_paid_1 9 rfl rfl)
theorem dX7_paid_33 : decode cX7_paid 33 = .ok (.getfield 208, 3) := dk_180 0 208 (dk_at dksX7_paid_1 10 rfl rfl)
theorem dX7_paid_36 : decode cX7_paid 36 = .ok (.invokevirtual 279, 3) := dk_182 1 23 (dk_at dksX7_paid_1 13 rfl rfl)
theorem dX7_paid_39 : decode cX7_paid 39 = .ok (.iload_n 3, 1) := dk_29 (dk_at dksX7_paid_1 16 rfl rfl)
theorem dX7_paid_40 : decode cX7_paid 40 = .ok (.ifCond .ne 17, 3) := dk_154 0 17 (dk_at dksX7_paid_1 17 rfl rfl)
theorem dX7_paid_43 : decode cX7_paid 43 = .ok (.aload_n 0, 1) := dk_42 (dk_at dksX7_paid_1 20 rfl rfl)
theorem dX7_paid_44 : decode cX7_paid 44 = .ok (.getfield 99, 3) := dk_180 0 99 (dk_at dksX7_paid_1 21 rfl rfl)
theorem dX7_paid_47 : decode cX7_paid 47 = .ok (.bipush 80, 2) := dk_16 80 (dk_at dksX7_paid_2 0 rfl rfl)
theorem dX7_paid_49 : decode cX7_paid 49 = .ok (.iload_n 1, 1) := dk_27 (dk_at dksX7_paid_2 2 rfl rfl)
theorem dX7_paid_50 : decode cX7_paid 50 = .ok (.imul, 1) := dk_104 (dk_at dksX7_paid_2 3 rfl rfl)
theorem dX7_paid_51 : decode cX7_paid 51 = .ok (.iload_n 2, 1) := dk_28 (dk_at dksX7_paid_2 4 rfl rfl)
theorem dX7_paid_52 : decode cX7_paid 52 = .ok (.iadd, 1) := dk_96 (dk_at dksX7_paid_2 5 rfl rfl)
theorem dX7_paid_53 : decode cX7_paid 53 = .ok (.iaload, 1) := dk_46 (dk_at dksX7_paid_2 6 rfl rfl)
theorem dX7_paid_54 : decode cX7_paid 54 = .ok (.goto 34, 3) := dk_167 0 34 (dk_at dksX7_paid_2 7 rfl rfl)
theorem dX7_paid_57 : decode cX7_paid 57 = .ok (.iload_n 3, 1) := dk_29 (dk_at dksX7_paid_2 10 rfl rfl)
theorem dX7_paid_58 : decode cX7_paid 58 = .ok (.iconst 1, 1) := dk_4 (dk_at dksX7_paid_2 11 rfl rfl)
theorem dX7_paid_59 : decode cX7_paid 59 = .ok (.if_icmp .ne 15, 3) := dk_160 0 15 (dk_at dksX7_paid_2 12 rfl rfl)
theorem dX7_paid_62 : decode cX7_paid 62 = .ok (.aload_n 0, 1) := dk_42 (dk_at dksX7_paid_2 15 rfl rfl)
theorem dX7_paid_63 : decode cX7_paid 63 = .ok (.iload_n 1, 1) := dk_27 (dk_at dksX7_paid_2 16 rfl rfl)
theorem dX7_paid_64 : decode cX7_paid 64 = .ok (.iload_n 2, 1) := dk_28 (dk_at dksX7_paid_2 17 rfl rfl)
theorem dX7_paid_65 : decode cX7_paid 65 = .ok (.invokevirtual 269, 3) := dk_182 1 13 (dk_at dksX7_paid_2 18 rfl rfl)
theorem dX7_paid_68 : decode cX7_paid 68 = .ok (.ifCond .eq 19, 3) := dk_153 0 19 (dk_at dksX7_paid_2 21 rfl rfl)
theorem dX7_paid_71 : decode cX7_paid 71 = .ok (.goto 12, 3) := dk_167 0 12 (dk_at dksX7_paid_3 0 rfl rfl)
theorem dX7_paid_74 : decode cX7_paid 74 = .ok (.aload_n 0, 1) := dk_42 (dk_at dksX7_paid_3 3 rfl rfl)
theorem dX7_paid_75 : decode cX7_paid 75 = .ok (.iload_n 1, 1) := dk_27 (dk_at dksX7_paid_3 4 rfl rfl)
theorem dX7_paid_76 : decode cX7_paid 76 = .ok (.iload_n 2, 1) := dk_28 (dk_at dksX7_paid_3 5 rfl rfl)
theorem dX7_paid_77 : decode cX7_paid 77 = .ok (.invokevirtual 272, 3) := dk_182 1 16 (dk_at dksX7_paid_3 6 rfl rfl)
theorem dX7_paid_80 : decode cX7_paid 80 = .ok (.ifCond .eq 7, 3) := dk_153 0 7 (dk_at dksX7_paid_3 9 rfl rfl)
theorem dX7_paid_83 : decode cX7_paid 83 = .ok (.iconst 1, 1) := dk_4 (dk_at dksX7_paid_3 12 rfl rfl)
theorem dX7_paid_84 : decode cX7_paid 84 = .ok (.goto 4, 3) := dk_167 0 4 (dk_at dksX7_paid_3 13 rfl rfl)
theorem dX7_paid_87 : decode cX7_paid 87 = .ok (.iconst 0, 1) := dk_3 (dk_at dksX7_paid_3 16 rfl rfl)
theorem dX7_paid_88 : decode cX7_paid 88 = .ok (.ireturn, 1) := dk_172 (dk_at dksX7_paid_3 17 rfl rfl)
abbrev cX7_pays : ByteArray := prog_19_method_47_code
def yX7_pays : MethodName := ⟨RX7, "pays", "(I)V"⟩
def dkwX7_pays_7 : List UInt8 := [132, 3, 1, 167, 255, 150, 132, 2, 1, 167, 255, 132, 177]
abbrev dktX7_pays_7 : List UInt8 := dkwX7_pays_7 ++ []
def dkwX7_pays_6 : List UInt8 := [180, 0, 99, 16, 80, 29, 104, 21, 4, 96, 28, 79, 42, 29, 28, 182, 1, 19, 132, 4, 1, 167, 255, 189]
abbrev dktX7_pays_6 : List UInt8 := dkwX7_pays_6 ++ dktX7_pays_7
def dkwX7_pays_5 : List UInt8 := [21, 4, 182, 1, 13, 153, 0, 35, 42, 29, 21, 4, 182, 1, 16, 154, 0, 6, 167, 0, 22, 42]
abbrev dktX7_pays_5 : List UInt8 := dkwX7_pays_5 ++ dktX7_pays_6
def dkwX7_pays_4 : List UInt8 := [21, 4, 28, 163, 0, 67, 42, 180, 0, 99, 16, 80, 29, 104, 21, 4, 96, 46, 2, 160, 0, 45, 42, 29]
abbrev dktX7_pays_4 : List UInt8 := dkwX7_pays_4 ++ dktX7_pays_5
def dkwX7_pays_3 : List UInt8 := [180, 0, 86, 3, 46, 100, 156, 0, 7, 3, 167, 0, 11, 28, 42, 180, 0, 86, 3, 46, 100, 54, 4]
abbrev dktX7_pays_3 : List UInt8 := dkwX7_pays_3 ++ dktX7_pays_4
def dkwX7_pays_2 : List UInt8 := [3, 61, 28, 27, 163, 0, 125, 42, 28, 182, 1, 1, 3, 62, 29, 42, 180, 0, 233, 162, 0, 104, 28, 42]
abbrev dktX7_pays_2 : List UInt8 := dkwX7_pays_2 ++ dktX7_pays_3
def dkwX7_pays_1 : List UInt8 := [28, 16, 8, 162, 0, 16, 42, 180, 0, 102, 28, 3, 79, 132, 2, 1, 167, 255, 240, 42, 3, 181, 1, 10]
abbrev dktX7_pays_1 : List UInt8 := dkwX7_pays_1 ++ dktX7_pays_2
def dkwX7_pays_0 : List UInt8 := [3, 61, 28, 17, 5, 0, 162, 0, 16, 42, 180, 0, 99, 28, 2, 79, 132, 2, 1, 167, 255, 239, 3, 61]
abbrev dktX7_pays_0 : List UInt8 := dkwX7_pays_0 ++ dktX7_pays_1
theorem dksX7_pays_0 : cX7_pays.data.toList.drop 0 = dktX7_pays_0 := by decide +kernel
theorem dksX7_pays_1 : cX7_pays.data.toList.drop 24 = dktX7_pays_1 := dk_seg dksX7_pays_0 24 rfl rfl
theorem dksX7_pays_2 : cX7_pays.data.toList.drop 48 = dktX7_pays_2 := dk_seg dksX7_pays_1 24 rfl rfl
theorem dksX7_pays_3 : cX7_pays.data.toList.drop 72 = dktX7_pays_3 := dk_seg dksX7_pays_2 24 rfl rfl
theorem dksX7_pays_4 : cX7_pays.data.toList.drop 95 = dktX7_pays_4 := dk_seg dksX7_pays_3 23 rfl rfl
theorem dksX7_pays_5 : cX7_pays.data.toList.drop 119 = dktX7_pays_5 := dk_seg dksX7_pays_4 24 rfl rfl
theorem dksX7_pays_6 : cX7_pays.data.toList.drop 141 = dktX7_pays_6 := dk_seg dksX7_pays_5 22 rfl rfl
theorem dksX7_pays_7 : cX7_pays.data.toList.drop 165 = dktX7_pays_7 := dk_seg dksX7_pays_6 24 rfl rfl
theorem dX7_pays_0 : decode cX7_pays 0 = .ok (.iconst 0, 1) := dk_3 (dk_at dksX7_pays_0 0 rfl rfl)
theorem dX7_pays_1 : decode cX7_pays 1 = .ok (.istore_n 2, 1) := dk_61 (dk_at dksX7_pays_0 1 rfl rfl)
theorem dX7_pays_2 : decode cX7_pays 2 = .ok (.iload_n 2, 1) := dk_28 (dk_at dksX7_pays_0 2 rfl rfl)
theorem dX7_pays_3 : decode cX7_pays 3 = .ok (.sipush 1280, 3) := dk_17 5 0 (dk_at dksX7_pays_0 3 rfl rfl)
theorem dX7_pays_6 : decode cX7_pays 6 = .ok (.if_icmp .ge 16, 3) := dk_162 0 16 (dk_at dksX7_pays_0 6 rfl rfl)
theorem dX7_pays_9 : decode cX7_pays 9 = .ok (.aload_n 0, 1) := dk_42 (dk_at dksX7_pays_0 9 rfl rfl)
theorem dX7_pays_10 : decode cX7_pays 10 = .ok (.getfield 99, 3) := dk_180 0 99 (dk_at dksX7_pays_0 10 rfl rfl)
theorem dX7_pays_13 : decode cX7_pays 13 = .ok (.iload_n 2, 1) := dk_28 (dk_at dksX7_pays_0 13 rfl rfl)
theorem dX7_pays_14 : decode cX7_pays 14 = .ok (.iconst (-1), 1) := dk_2 (dk_at dksX7_pays_0 14 rfl rfl)
theorem dX7_pays_15 : decode cX7_pays 15 = .ok (.iastore, 1) := dk_79 (dk_at dksX7_pays_0 15 rfl rfl)
theorem dX7_pays_16 : decode cX7_pays 16 = .ok (.iinc 2 1, 3) := dk_132 2 1 (dk_at dksX7_pays_0 16 rfl rfl)
theorem dX7_pays_19 : decode cX7_pays 19 = .ok (.goto (-17), 3) := dk_167 255 239 (dk_at dksX7_pays_0 19 rfl rfl)
theorem dX7_pays_22 : decode cX7_pays 22 = .ok (.iconst 0, 1) := dk_3 (dk_at dksX7_pays_0 22 rfl rfl)
theorem dX7_pays_23 : decode cX7_pays 23 = .ok (.istore_n 2, 1) := dk_61 (dk_at dksX7_pays_0 23 rfl rfl)
theorem dX7_pays_24 : decode cX7_pays 24 = .ok (.iload_n 2, 1) := dk_28 (dk_at dksX7_pays_1 0 rfl rfl)
theorem dX7_pays_25 : decode cX7_pays 25 = .ok (.bipush 8, 2) := dk_16 8 (dk_at dksX7_pays_1 1 rfl rfl)
theorem dX7_pays_27 : decode cX7_pays 27 = .ok (.if_icmp .ge 16, 3) := dk_162 0 16 (dk_at dksX7_pays_1 3 rfl rfl)
theorem dX7_pays_30 : decode cX7_pays 30 = .ok (.aload_n 0, 1) := dk_42 (dk_at dksX7_pays_1 6 rfl rfl)
theorem dX7_pays_31 : decode cX7_pays 31 = .ok (.getfield 102, 3) := dk_180 0 102 (dk_at dksX7_pays_1 7 rfl rfl)
theorem dX7_pays_34 : decode cX7_pays 34 = .ok (.iload_n 2, 1) := dk_28 (dk_at dksX7_pays_1 10 rfl rfl)
theorem dX7_pays_35 : decode cX7_pays 35 = .ok (.iconst 0, 1) := dk_3 (dk_at dksX7_pays_1 11 rfl rfl)
theorem dX7_pays_36 : decode cX7_pays 36 = .ok (.iastore, 1) := dk_79 (dk_at dksX7_pays_1 12 rfl rfl)
theorem dX7_pays_37 : decode cX7_pays 37 = .ok (.iinc 2 1, 3) := dk_132 2 1 (dk_at dksX7_pays_1 13 rfl rfl)
theorem dX7_pays_40 : decode cX7_pays 40 = .ok (.goto (-16), 3) := dk_167 255 240 (dk_at dksX7_pays_1 16 rfl rfl)
theorem dX7_pays_43 : decode cX7_pays 43 = .ok (.aload_n 0, 1) := dk_42 (dk_at dksX7_pays_1 19 rfl rfl)
theorem dX7_pays_44 : decode cX7_pays 44 = .ok (.iconst 0, 1) := dk_3 (dk_at dksX7_pays_1 20 rfl rfl)
theorem dX7_pays_45 : decode cX7_pays 45 = .ok (.putfield 266, 3) := dk_181 1 10 (dk_at dksX7_pays_1 21 rfl rfl)
theorem dX7_pays_48 : decode cX7_pays 48 = .ok (.iconst 0, 1) := dk_3 (dk_at dksX7_pays_2 0 rfl rfl)
theorem dX7_pays_49 : decode cX7_pays 49 = .ok (.istore_n 2, 1) := dk_61 (dk_at dksX7_pays_2 1 rfl rfl)
theorem dX7_pays_50 : decode cX7_pays 50 = .ok (.iload_n 2, 1) := dk_28 (dk_at dksX7_pays_2 2 rfl rfl)
theorem dX7_pays_51 : decode cX7_pays 51 = .ok (.iload_n 1, 1) := dk_27 (dk_at dksX7_pays_2 3 rfl rfl)
theorem dX7_pays_52 : decode cX7_pays 52 = .ok (.if_icmp .gt 125, 3) := dk_163 0 125 (dk_at dksX7_pays_2 4 rfl rfl)
theorem dX7_pays_55 : decode cX7_pays 55 = .ok (.aload_n 0, 1) := dk_42 (dk_at dksX7_pays_2 7 rfl rfl)
theorem dX7_pays_56 : decode cX7_pays 56 = .ok (.iload_n 2, 1) := dk_28 (dk_at dksX7_pays_2 8 rfl rfl)
theorem dX7_pays_57 : decode cX7_pays 57 = .ok (.invokevirtual 257, 3) := dk_182 1 1 (dk_at dksX7_pays_2 9 rfl rfl)
theorem dX7_pays_60 : decode cX7_pays 60 = .ok (.iconst 0, 1) := dk_3 (dk_at dksX7_pays_2 12 rfl rfl)
theorem dX7_pays_61 : decode cX7_pays 61 = .ok (.istore_n 3, 1) := dk_62 (dk_at dksX7_pays_2 13 rfl rfl)
theorem dX7_pays_62 : decode cX7_pays 62 = .ok (.iload_n 3, 1) := dk_29 (dk_at dksX7_pays_2 14 rfl rfl)
theorem dX7_pays_63 : decode cX7_pays 63 = .ok (.aload_n 0, 1) := dk_42 (dk_at dksX7_pays_2 15 rfl rfl)
theorem dX7_pays_64 : decode cX7_pays 64 = .ok (.getfield 233, 3) := dk_180 0 233 (dk_at dksX7_pays_2 16 rfl rfl)
theorem dX7_pays_67 : decode cX7_pays 67 = .ok (.if_icmp .ge 104, 3) := dk_162 0 104 (dk_at dksX7_pays_2 19 rfl rfl)
theorem dX7_pays_70 : decode cX7_pays 70 = .ok (.iload_n 2, 1) := dk_28 (dk_at dksX7_pays_2 22 rfl rfl)
theorem dX7_pays_71 : decode cX7_pays 71 = .ok (.aload_n 0, 1) := dk_42 (dk_at dksX7_pays_2 23 rfl rfl)
theorem dX7_pays_72 : decode cX7_pays 72 = .ok (.getfield 86, 3) := dk_180 0 86 (dk_at dksX7_pays_3 0 rfl rfl)
theorem dX7_pays_75 : decode cX7_pays 75 = .ok (.iconst 0, 1) := dk_3 (dk_at dksX7_pays_3 3 rfl rfl)
theorem dX7_pays_76 : decode cX7_pays 76 = .ok (.iaload, 1) := dk_46 (dk_at dksX7_pays_3 4 rfl rfl)
theorem dX7_pays_77 : decode cX7_pays 77 = .ok (.isub, 1) := dk_100 (dk_at dksX7_pays_3 5 rfl rfl)
theorem dX7_pays_78 : decode cX7_pays 78 = .ok (.ifCond .ge 7, 3) := dk_156 0 7 (dk_at dksX7_pays_3 6 rfl rfl)
theorem dX7_pays_81 : decode cX7_pays 81 = .ok (.iconst 0, 1) := dk_3 (dk_at dksX7_pays_3 9 rfl rfl)
theorem dX7_pays_82 : decode cX7_pays 82 = .ok (.goto 11, 3) := dk_167 0 11 (dk_at dksX7_pays_3 10 rfl rfl)
theorem dX7_pays_85 : decode cX7_pays 85 = .ok (.iload_n 2, 1) := dk_28 (dk_at dksX7_pays_3 13 rfl rfl)
theorem dX7_pays_86 : decode cX7_pays 86 = .ok (.aload_n 0, 1) := dk_42 (dk_at dksX7_pays_3 14 rfl rfl)
theorem dX7_pays_87 : decode cX7_pays 87 = .ok (.getfield 86, 3) := dk_180 0 86 (dk_at dksX7_pays_3 15 rfl rfl)
theorem dX7_pays_90 : decode cX7_pays 90 = .ok (.iconst 0, 1) := dk_3 (dk_at dksX7_pays_3 18 rfl rfl)
theorem dX7_pays_91 : decode cX7_pays 91 = .ok (.iaload, 1) := dk_46 (dk_at dksX7_pays_3 19 rfl rfl)
theorem dX7_pays_92 : decode cX7_pays 92 = .ok (.isub, 1) := dk_100 (dk_at dksX7_pays_3 20 rfl rfl)
theorem dX7_pays_93 : decode cX7_pays 93 = .ok (.istore 4, 2) := dk_54 4 (dk_at dksX7_pays_3 21 rfl rfl)
theorem dX7_pays_95 : decode cX7_pays 95 = .ok (.iload 4, 2) := dk_21 4 (dk_at dksX7_pays_4 0 rfl rfl)
theorem dX7_pays_97 : decode cX7_pays 97 = .ok (.iload_n 2, 1) := dk_28 (dk_at dksX7_pays_4 2 rfl rfl)
theorem dX7_pays_98 : decode cX7_pays 98 = .ok (.if_icmp .gt 67, 3) := dk_163 0 67 (dk_at dksX7_pays_4 3 rfl rfl)
theorem dX7_pays_101 : decode cX7_pays 101 = .ok (.aload_n 0, 1) := dk_42 (dk_at dksX7_pays_4 6 rfl rfl)
theorem dX7_pays_102 : decode cX7_pays 102 = .ok (.getfield 99, 3) := dk_180 0 99 (dk_at dksX7_pays_4 7 rfl rfl)
theorem dX7_pays_105 : decode cX7_pays 105 = .ok (.bipush 80, 2) := dk_16 80 (dk_at dksX7_pays_4 10 rfl rfl)
theorem dX7_pays_107 : decode cX7_pays 107 = .ok (.iload_n 3, 1) := dk_29 (dk_at dksX7_pays_4 12 rfl rfl)
theorem dX7_pays_108 : decode cX7_pays 108 = .ok (.imul, 1) := dk_104 (dk_at dksX7_pays_4 13 rfl rfl)
theorem dX7_pays_109 : decode cX7_pays 109 = .ok (.iload 4, 2) := dk_21 4 (dk_at dksX7_pays_4 14 rfl rfl)
theorem dX7_pays_111 : decode cX7_pays 111 = .ok (.iadd, 1) := dk_96 (dk_at dksX7_pays_4 16 rfl rfl)
theorem dX7_pays_112 : decode cX7_pays 112 = .ok (.iaload, 1) := dk_46 (dk_at dksX7_pays_4 17 rfl rfl)
theorem dX7_pays_113 : decode cX7_pays 113 = .ok (.iconst (-1), 1) := dk_2 (dk_at dksX7_pays_4 18 rfl rfl)
theorem dX7_pays_114 : decode cX7_pays 114 = .ok (.if_icmp .ne 45, 3) := dk_160 0 45 (dk_at dksX7_pays_4 19 rfl rfl)
theorem dX7_pays_117 : decode cX7_pays 117 = .ok (.aload_n 0, 1) := dk_42 (dk_at dksX7_pays_4 22 rfl rfl)
theorem dX7_pays_118 : decode cX7_pays 118 = .ok (.iload_n 3, 1) := dk_29 (dk_at dksX7_pays_4 23 rfl rfl)
theorem dX7_pays_119 : decode cX7_pays 119 = .ok (.iload 4, 2) := dk_21 4 (dk_at dksX7_pays_5 0 rfl rfl)
theorem dX7_pays_121 : decode cX7_pays 121 = .ok (.invokevirtual 269, 3) := dk_182 1 13 (dk_at dksX7_pays_5 2 rfl rfl)
theorem dX7_pays_124 : decode cX7_pays 124 = .ok (.ifCond .eq 35, 3) := dk_153 0 35 (dk_at dksX7_pays_5 5 rfl rfl)
theorem dX7_pays_127 : decode cX7_pays 127 = .ok (.aload_n 0, 1) := dk_42 (dk_at dksX7_pays_5 8 rfl rfl)
theorem dX7_pays_128 : decode cX7_pays 128 = .ok (.iload_n 3, 1) := dk_29 (dk_at dksX7_pays_5 9 rfl rfl)
theorem dX7_pays_129 : decode cX7_pays 129 = .ok (.iload 4, 2) := dk_21 4 (dk_at dksX7_pays_5 10 rfl rfl)
theorem dX7_pays_131 : decode cX7_pays 131 = .ok (.invokevirtual 272, 3) := dk_182 1 16 (dk_at dksX7_pays_5 12 rfl rfl)
theorem dX7_pays_134 : decode cX7_pays 134 = .ok (.ifCond .ne 6, 3) := dk_154 0 6 (dk_at dksX7_pays_5 15 rfl rfl)
theorem dX7_pays_137 : decode cX7_pays 137 = .ok (.goto 22, 3) := dk_167 0 22 (dk_at dksX7_pays_5 18 rfl rfl)
theorem dX7_pays_140 : decode cX7_pays 140 = .ok (.aload_n 0, 1) := dk_42 (dk_at dksX7_pays_5 21 rfl rfl)
theorem dX7_pays_141 : decode cX7_pays 141 = .ok (.getfield 99, 3) := dk_180 0 99 (dk_at dksX7_pays_6 0 rfl rfl)
theorem dX7_pays_144 : decode cX7_pays 144 = .ok (.bipush 80, 2) := dk_16 80 (dk_at dksX7_pays_6 3 rfl rfl)
theorem dX7_pays_146 : decode cX7_pays 146 = .ok (.iload_n 3, 1) := dk_29 (dk_at dksX7_pays_6 5 rfl rfl)
theorem dX7_pays_147 : decode cX7_pays 147 = .ok (.imul, 1) := dk_104 (dk_at dksX7_pays_6 6 rfl rfl)
theorem dX7_pays_148 : decode cX7_pays 148 = .ok (.iload 4, 2) := dk_21 4 (dk_at dksX7_pays_6 7 rfl rfl)
theorem dX7_pays_150 : decode cX7_pays 150 = .ok (.iadd, 1) := dk_96 (dk_at dksX7_pays_6 9 rfl rfl)
theorem dX7_pays_151 : decode cX7_pays 151 = .ok (.iload_n 2, 1) := dk_28 (dk_at dksX7_pays_6 10 rfl rfl)
theorem dX7_pays_152 : decode cX7_pays 152 = .ok (.iastore, 1) := dk_79 (dk_at dksX7_pays_6 11 rfl rfl)
theorem dX7_pays_153 : decode cX7_pays 153 = .ok (.aload_n 0, 1) := dk_42 (dk_at dksX7_pays_6 12 rfl rfl)
theorem dX7_pays_154 : decode cX7_pays 154 = .ok (.iload_n 3, 1) := dk_29 (dk_at dksX7_pays_6 13 rfl rfl)
theorem dX7_pays_155 : decode cX7_pays 155 = .ok (.iload_n 2, 1) := dk_28 (dk_at dksX7_pays_6 14 rfl rfl)
theorem dX7_pays_156 : decode cX7_pays 156 = .ok (.invokevirtual 275, 3) := dk_182 1 19 (dk_at dksX7_pays_6 15 rfl rfl)
theorem dX7_pays_159 : decode cX7_pays 159 = .ok (.iinc 4 1, 3) := dk_132 4 1 (dk_at dksX7_pays_6 18 rfl rfl)
theorem dX7_pays_162 : decode cX7_pays 162 = .ok (.goto (-67), 3) := dk_167 255 189 (dk_at dksX7_pays_6 21 rfl rfl)
theorem dX7_pays_165 : decode cX7_pays 165 = .ok (.iinc 3 1, 3) := dk_132 3 1 (dk_at dksX7_pays_7 0 rfl rfl)
theorem dX7_pays_168 : decode cX7_pays 168 = .ok (.goto (-106), 3) := dk_167 255 150 (dk_at dksX7_pays_7 3 rfl rfl)
theorem dX7_pays_171 : decode cX7_pays 171 = .ok (.iinc 2 1, 3) := dk_132 2 1 (dk_at dksX7_pays_7 6 rfl rfl)
theorem dX7_pays_174 : decode cX7_pays 174 = .ok (.goto (-124), 3) := dk_167 255 132 (dk_at dksX7_pays_7 9 rfl rfl)
theorem dX7_pays_177 : decode cX7_pays 177 = .ok (.return_, 1) := dk_177 (dk_at dksX7_pays_7 12 rfl rfl)
abbrev cX7_isDue : ByteArray := prog_19_method_45_code
def yX7_isDue : MethodName := ⟨RX7, "isDue", "(II)Z"⟩
def dkwX7_isDue_1 : List UInt8 := [42, 42, 180, 0, 28, 27, 46, 28, 182, 1, 8, 153, 0, 7, 4, 167, 0, 4, 3, 172]
abbrev dktX7_isDue_1 : List UInt8 := dkwX7_isDue_1 ++ []
def dkwX7_isDue_0 : List UInt8 := [28, 42, 180, 0, 19, 27, 46, 164, 0, 35, 42, 42, 180, 0, 25, 27, 46, 28, 182, 1, 8, 154, 0, 17]
abbrev dktX7_isDue_0 : List UInt8 := dkwX7_isDue_0 ++ dktX7_isDue_1
theorem dksX7_isDue_0 : cX7_isDue.data.toList.drop 0 = dktX7_isDue_0 := by decide +kernel
theorem dksX7_isDue_1 : cX7_isDue.data.toList.drop 24 = dktX7_isDue_1 := dk_seg dksX7_isDue_0 24 rfl rfl
theorem dX7_isDue_0 : decode cX7_isDue 0 = .ok (.iload_n 2, 1) := dk_28 (dk_at dksX7_isDue_0 0 rfl rfl)
theorem dX7_isDue_1 : decode cX7_isDue 1 = .ok (.aload_n 0, 1) := dk_42 (dk_at dksX7_isDue_0 1 rfl rfl)
theorem dX7_isDue_2 : decode cX7_isDue 2 = .ok (.getfield 19, 3) := dk_180 0 19 (dk_at dksX7_isDue_0 2 rfl rfl)
theorem dX7_isDue_5 : decode cX7_isDue 5 = .ok (.iload_n 1, 1) := dk_27 (dk_at dksX7_isDue_0 5 rfl rfl)
theorem dX7_isDue_6 : decode cX7_isDue 6 = .ok (.iaload, 1) := dk_46 (dk_at dksX7_isDue_0 6 rfl rfl)
theorem dX7_isDue_7 : decode cX7_isDue 7 = .ok (.if_icmp .le 35, 3) := dk_164 0 35 (dk_at dksX7_isDue_0 7 rfl rfl)
theorem dX7_isDue_10 : decode cX7_isDue 10 = .ok (.aload_n 0, 1) := dk_42 (dk_at dksX7_isDue_0 10 rfl rfl)
theorem dX7_isDue_11 : decode cX7_isDue 11 = .ok (.aload_n 0, 1) := dk_42 (dk_at dksX7_isDue_0 11 rfl rfl)
theorem dX7_isDue_12 : decode cX7_isDue 12 = .ok (.getfield 25, 3) := dk_180 0 25 (dk_at dksX7_isDue_0 12 rfl rfl)
theorem dX7_isDue_15 : decode cX7_isDue 15 = .ok (.iload_n 1, 1) := dk_27 (dk_at dksX7_isDue_0 15 rfl rfl)
theorem dX7_isDue_16 : decode cX7_isDue 16 = .ok (.iaload, 1) := dk_46 (dk_at dksX7_isDue_0 16 rfl rfl)
theorem dX7_isDue_17 : decode cX7_isDue 17 = .ok (.iload_n 2, 1) := dk_28 (dk_at dksX7_isDue_0 17 rfl rfl)
theorem dX7_isDue_18 : decode cX7_isDue 18 = .ok (.invokevirtual 264, 3) := dk_182 1 8 (dk_at dksX7_isDue_0 18 rfl rfl)
theorem dX7_isDue_21 : decode cX7_isDue 21 = .ok (.ifCond .ne 17, 3) := dk_154 0 17 (dk_at dksX7_isDue_0 21 rfl rfl)
theorem dX7_isDue_24 : decode cX7_isDue 24 = .ok (.aload_n 0, 1) := dk_42 (dk_at dksX7_isDue_1 0 rfl rfl)
theorem dX7_isDue_25 : decode cX7_isDue 25 = .ok (.aload_n 0, 1) := dk_42 (dk_at dksX7_isDue_1 1 rfl rfl)
theorem dX7_isDue_26 : decode cX7_isDue 26 = .ok (.getfield 28, 3) := dk_180 0 28 (dk_at dksX7_isDue_1 2 rfl rfl)
theorem dX7_isDue_29 : decode cX7_isDue 29 = .ok (.iload_n 1, 1) := dk_27 (dk_at dksX7_isDue_1 5 rfl rfl)
theorem dX7_isDue_30 : decode cX7_isDue 30 = .ok (.iaload, 1) := dk_46 (dk_at dksX7_isDue_1 6 rfl rfl)
theorem dX7_isDue_31 : decode cX7_isDue 31 = .ok (.iload_n 2, 1) := dk_28 (dk_at dksX7_isDue_1 7 rfl rfl)
theorem dX7_isDue_32 : decode cX7_isDue 32 = .ok (.invokevirtual 264, 3) := dk_182 1 8 (dk_at dksX7_isDue_1 8 rfl rfl)
theorem dX7_isDue_35 : decode cX7_isDue 35 = .ok (.ifCond .eq 7, 3) := dk_153 0 7 (dk_at dksX7_isDue_1 11 rfl rfl)
theorem dX7_isDue_38 : decode cX7_isDue 38 = .ok (.iconst 1, 1) := dk_4 (dk_at dksX7_isDue_1 14 rfl rfl)
theorem dX7_isDue_39 : decode cX7_isDue 39 = .ok (.goto 4, 3) := dk_167 0 4 (dk_at dksX7_isDue_1 15 rfl rfl)
theorem dX7_isDue_42 : decode cX7_isDue 42 = .ok (.iconst 0, 1) := dk_3 (dk_at dksX7_isDue_1 18 rfl rfl)
theorem dX7_isDue_43 : decode cX7_isDue 43 = .ok (.ireturn, 1) := dk_172 (dk_at dksX7_isDue_1 19 rfl rfl)
abbrev cX7_lives : ByteArray := prog_19_method_44_code
def yX7_lives : MethodName := ⟨RX7, "lives", "(II)Z"⟩
def dkwX7_lives_1 : List UInt8 := [161, 0, 7, 4, 167, 0, 4, 3, 172]
abbrev dktX7_lives_1 : List UInt8 := dkwX7_lives_1 ++ []
def dkwX7_lives_0 : List UInt8 := [27, 2, 159, 0, 27, 42, 180, 0, 96, 27, 46, 2, 159, 0, 13, 42, 180, 0, 96, 27, 46, 28]
abbrev dktX7_lives_0 : List UInt8 := dkwX7_lives_0 ++ dktX7_lives_1
theorem dksX7_lives_0 : cX7_lives.data.toList.drop 0 = dktX7_lives_0 := by decide +kernel
theorem dksX7_lives_1 : cX7_lives.data.toList.drop 22 = dktX7_lives_1 := dk_seg dksX7_lives_0 22 rfl rfl
theorem dX7_lives_0 : decode cX7_lives 0 = .ok (.iload_n 1, 1) := dk_27 (dk_at dksX7_lives_0 0 rfl rfl)
theorem dX7_lives_1 : decode cX7_lives 1 = .ok (.iconst (-1), 1) := dk_2 (dk_at dksX7_lives_0 1 rfl rfl)
theorem dX7_lives_2 : decode cX7_lives 2 = .ok (.if_icmp .eq 27, 3) := dk_159 0 27 (dk_at dksX7_lives_0 2 rfl rfl)
theorem dX7_lives_5 : decode cX7_lives 5 = .ok (.aload_n 0, 1) := dk_42 (dk_at dksX7_lives_0 5 rfl rfl)
theorem dX7_lives_6 : decode cX7_lives 6 = .ok (.getfield 96, 3) := dk_180 0 96 (dk_at dksX7_lives_0 6 rfl rfl)
theorem dX7_lives_9 : decode cX7_lives 9 = .ok (.iload_n 1, 1) := dk_27 (dk_at dksX7_lives_0 9 rfl rfl)
theorem dX7_lives_10 : decode cX7_lives 10 = .ok (.iaload, 1) := dk_46 (dk_at dksX7_lives_0 10 rfl rfl)
theorem dX7_lives_11 : decode cX7_lives 11 = .ok (.iconst (-1), 1) := dk_2 (dk_at dksX7_lives_0 11 rfl rfl)
theorem dX7_lives_12 : decode cX7_lives 12 = .ok (.if_icmp .eq 13, 3) := dk_159 0 13 (dk_at dksX7_lives_0 12 rfl rfl)
theorem dX7_lives_15 : decode cX7_lives 15 = .ok (.aload_n 0, 1) := dk_42 (dk_at dksX7_lives_0 15 rfl rfl)
theorem dX7_lives_16 : decode cX7_lives 16 = .ok (.getfield 96, 3) := dk_180 0 96 (dk_at dksX7_lives_0 16 rfl rfl)
theorem dX7_lives_19 : decode cX7_lives 19 = .ok (.iload_n 1, 1) := dk_27 (dk_at dksX7_lives_0 19 rfl rfl)
theorem dX7_lives_20 : decode cX7_lives 20 = .ok (.iaload, 1) := dk_46 (dk_at dksX7_lives_0 20 rfl rfl)
theorem dX7_lives_21 : decode cX7_lives 21 = .ok (.iload_n 2, 1) := dk_28 (dk_at dksX7_lives_0 21 rfl rfl)
theorem dX7_lives_22 : decode cX7_lives 22 = .ok (.if_icmp .lt 7, 3) := dk_161 0 7 (dk_at dksX7_lives_1 0 rfl rfl)
theorem dX7_lives_25 : decode cX7_lives 25 = .ok (.iconst 1, 1) := dk_4 (dk_at dksX7_lives_1 3 rfl rfl)
theorem dX7_lives_26 : decode cX7_lives 26 = .ok (.goto 4, 3) := dk_167 0 4 (dk_at dksX7_lives_1 4 rfl rfl)
theorem dX7_lives_29 : decode cX7_lives 29 = .ok (.iconst 0, 1) := dk_3 (dk_at dksX7_lives_1 7 rfl rfl)
theorem dX7_lives_30 : decode cX7_lives 30 = .ok (.ireturn, 1) := dk_172 (dk_at dksX7_lives_1 8 rfl rfl)
abbrev cX7_isProved : ByteArray := prog_19_method_46_code
def yX7_isProved : MethodName := ⟨RX7, "isProved", "(II)Z"⟩
def dkwX7_isProved_4 : List UInt8 := [182, 1, 5, 154, 0, 5, 4, 172, 132, 3, 1, 167, 255, 154, 3, 172]
abbrev dktX7_isProved_4 : List UInt8 := dkwX7_isProved_4 ++ []
def dkwX7_isProved_3 : List UInt8 := [180, 0, 46, 29, 46, 28, 28, 42, 180, 0, 86, 4, 46, 96, 184, 0, 204, 153, 0, 13, 42, 29]
abbrev dktX7_isProved_3 : List UInt8 := dkwX7_isProved_3 ++ dktX7_isProved_4
def dkwX7_isProved_2 : List UInt8 := [46, 42, 180, 0, 28, 27, 46, 160, 0, 7, 4, 167, 0, 4, 3, 54, 4, 21, 4, 153, 0, 34, 42]
abbrev dktX7_isProved_2 : List UInt8 := dkwX7_isProved_2 ++ dktX7_isProved_3
def dkwX7_isProved_1 : List UInt8 := [51, 153, 0, 37, 42, 180, 0, 43, 29, 46, 42, 180, 0, 25, 27, 46, 159, 0, 18, 42, 180, 0, 43, 29]
abbrev dktX7_isProved_1 : List UInt8 := dkwX7_isProved_1 ++ dktX7_isProved_2
def dkwX7_isProved_0 : List UInt8 := [3, 62, 29, 42, 180, 0, 252, 162, 0, 100, 42, 180, 0, 40, 29, 46, 154, 0, 46, 42, 180, 0, 93, 29]
abbrev dktX7_isProved_0 : List UInt8 := dkwX7_isProved_0 ++ dktX7_isProved_1
theorem dksX7_isProved_0 : cX7_isProved.data.toList.drop 0 = dktX7_isProved_0 := by decide +kernel
theorem dksX7_isProved_1 : cX7_isProved.data.toList.drop 24 = dktX7_isProved_1 := dk_seg dksX7_isProved_0 24 rfl rfl
theorem dksX7_isProved_2 : cX7_isProved.data.toList.drop 48 = dktX7_isProved_2 := dk_seg dksX7_isProved_1 24 rfl rfl
theorem dksX7_isProved_3 : cX7_isProved.data.toList.drop 71 = dktX7_isProved_3 := dk_seg dksX7_isProved_2 23 rfl rfl
theorem dksX7_isProved_4 : cX7_isProved.data.toList.drop 93 = dktX7_isProved_4 := dk_seg dksX7_isProved_3 22 rfl rfl
theorem dX7_isProved_0 : decode cX7_isProved 0 = .ok (.iconst 0, 1) := dk_3 (dk_at dksX7_isProved_0 0 rfl rfl)
theorem dX7_isProved_1 : decode cX7_isProved 1 = .ok (.istore_n 3, 1) := dk_62 (dk_at dksX7_isProved_0 1 rfl rfl)
theorem dX7_isProved_2 : decode cX7_isProved 2 = .ok (.iload_n 3, 1) := dk_29 (dk_at dksX7_isProved_0 2 rfl rfl)
theorem dX7_isProved_3 : decode cX7_isProved 3 = .ok (.aload_n 0, 1) := dk_42 (dk_at dksX7_isProved_0 3 rfl rfl)
theorem dX7_isProved_4 : decode cX7_isProved 4 = .ok (.getfield 252, 3) := dk_180 0 252 (dk_at dksX7_isProved_0 4 rfl rfl)
theorem dX7_isProved_7 : decode cX7_isProved 7 = .ok (.if_icmp .ge 100, 3) := dk_162 0 100 (dk_at dksX7_isProved_0 7 rfl rfl)
theorem dX7_isProved_10 : decode cX7_isProved 10 = .ok (.aload_n 0, 1) := dk_42 (dk_at dksX7_isProved_0 10 rfl rfl)
theorem dX7_isProved_11 : decode cX7_isProved 11 = .ok (.getfield 40, 3) := dk_180 0 40 (dk_at dksX7_isProved_0 11 rfl rfl)
theorem dX7_isProved_14 : decode cX7_isProved 14 = .ok (.iload_n 3, 1) := dk_29 (dk_at dksX7_isProved_0 14 rfl rfl)
theorem dX7_isProved_15 : decode cX7_isProved 15 = .ok (.iaload, 1) := dk_46 (dk_at dksX7_isProved_0 15 rfl rfl)
theorem dX7_isProved_16 : decode cX7_isProved 16 = .ok (.ifCond .ne 46, 3) := dk_154 0 46 (dk_at dksX7_isProved_0 16 rfl rfl)
theorem dX7_isProved_19 : decode cX7_isProved 19 = .ok (.aload_n 0, 1) := dk_42 (dk_at dksX7_isProved_0 19 rfl rfl)
theorem dX7_isProved_20 : decode cX7_isProved 20 = .ok (.getfield 93, 3) := dk_180 0 93 (dk_at dksX7_isProved_0 20 rfl rfl)
theorem dX7_isProved_23 : decode cX7_isProved 23 = .ok (.iload_n 3, 1) := dk_29 (dk_at dksX7_isProved_0 23 rfl rfl)
theorem dX7_isProved_24 : decode cX7_isProved 24 = .ok (.baload, 1) := dk_51 (dk_at dksX7_isProved_1 0 rfl rfl)
theorem dX7_isProved_25 : decode cX7_isProved 25 = .ok (.ifCond .eq 37, 3) := dk_153 0 37 (dk_at dksX7_isProved_1 1 rfl rfl)
theorem dX7_isProved_28 : decode cX7_isProved 28 = .ok (.aload_n 0, 1) := dk_42 (dk_at dksX7_isProved_1 4 rfl rfl)
theorem dX7_isProved_29 : decode cX7_isProved 29 = .ok (.getfield 43, 3) := dk_180 0 43 (dk_at dksX7_isProved_1 5 rfl rfl)
theorem dX7_isProved_32 : decode cX7_isProved 32 = .ok (.iload_n 3, 1) := dk_29 (dk_at dksX7_isProved_1 8 rfl rfl)
theorem dX7_isProved_33 : decode cX7_isProved 33 = .ok (.iaload, 1) := dk_46 (dk_at dksX7_isProved_1 9 rfl rfl)
theorem dX7_isProved_34 : decode cX7_isProved 34 = .ok (.aload_n 0, 1) := dk_42 (dk_at dksX7_isProved_1 10 rfl rfl)
theorem dX7_isProved_35 : decode cX7_isProved 35 = .ok (.getfield 25, 3) := dk_180 0 25 (dk_at dksX7_isProved_1 11 rfl rfl)
theorem dX7_isProved_38 : decode cX7_isProved 38 = .ok (.iload_n 1, 1) := dk_27 (dk_at dksX7_isProved_1 14 rfl rfl)
theorem dX7_isProved_39 : decode cX7_isProved 39 = .ok (.iaload, 1) := dk_46 (dk_at dksX7_isProved_1 15 rfl rfl)
theorem dX7_isProved_40 : decode cX7_isProved 40 = .ok (.if_icmp .eq 18, 3) := dk_159 0 18 (dk_at dksX7_isProved_1 16 rfl rfl)
theorem dX7_isProved_43 : decode cX7_isProved 43 = .ok (.aload_n 0, 1) := dk_42 (dk_at dksX7_isProved_1 19 rfl rfl)
theorem dX7_isProved_44 : decode cX7_isProved 44 = .ok (.getfield 43, 3) := dk_180 0 43 (dk_at dksX7_isProved_1 20 rfl rfl)
theorem dX7_isProved_47 : decode cX7_isProved 47 = .ok (.iload_n 3, 1) := dk_29 (dk_at dksX7_isProved_1 23 rfl rfl)
theorem dX7_isProved_48 : decode cX7_isProved 48 = .ok (.iaload, 1) := dk_46 (dk_at dksX7_isProved_2 0 rfl rfl)
theorem dX7_isProved_49 : decode cX7_isProved 49 = .ok (.aload_n 0, 1) := dk_42 (dk_at dksX7_isProved_2 1 rfl rfl)
theorem dX7_isProved_50 : decode cX7_isProved 50 = .ok (.getfield 28, 3) := dk_180 0 28 (dk_at dksX7_isProved_2 2 rfl rfl)
theorem dX7_isProved_53 : decode cX7_isProved 53 = .ok (.iload_n 1, 1) := dk_27 (dk_at dksX7_isProved_2 5 rfl rfl)
theorem dX7_isProved_54 : decode cX7_isProved 54 = .ok (.iaload, 1) := dk_46 (dk_at dksX7_isProved_2 6 rfl rfl)
theorem dX7_isProved_55 : decode cX7_isProved 55 = .ok (.if_icmp .ne 7, 3) := dk_160 0 7 (dk_at dksX7_isProved_2 7 rfl rfl)
theorem dX7_isProved_58 : decode cX7_isProved 58 = .ok (.iconst 1, 1) := dk_4 (dk_at dksX7_isProved_2 10 rfl rfl)
theorem dX7_isProved_59 : decode cX7_isProved 59 = .ok (.goto 4, 3) := dk_167 0 4 (dk_at dksX7_isProved_2 11 rfl rfl)
theorem dX7_isProved_62 : decode cX7_isProved 62 = .ok (.iconst 0, 1) := dk_3 (dk_at dksX7_isProved_2 14 rfl rfl)
theorem dX7_isProved_63 : decode cX7_isProved 63 = .ok (.istore 4, 2) := dk_54 4 (dk_at dksX7_isProved_2 15 rfl rfl)
theorem dX7_isProved_65 : decode cX7_isProved 65 = .ok (.iload 4, 2) := dk_21 4 (dk_at dksX7_isProved_2 17 rfl rfl)
theorem dX7_isProved_67 : decode cX7_isProved 67 = .ok (.ifCond .eq 34, 3) := dk_153 0 34 (dk_at dksX7_isProved_2 19 rfl rfl)
theorem dX7_isProved_70 : decode cX7_isProved 70 = .ok (.aload_n 0, 1) := dk_42 (dk_at dksX7_isProved_2 22 rfl rfl)
theorem dX7_isProved_71 : decode cX7_isProved 71 = .ok (.getfield 46, 3) := dk_180 0 46 (dk_at dksX7_isProved_3 0 rfl rfl)
theorem dX7_isProved_74 : decode cX7_isProved 74 = .ok (.iload_n 3, 1) := dk_29 (dk_at dksX7_isProved_3 3 rfl rfl)
theorem dX7_isProved_75 : decode cX7_isProved 75 = .ok (.iaload, 1) := dk_46 (dk_at dksX7_isProved_3 4 rfl rfl)
theorem dX7_isProved_76 : decode cX7_isProved 76 = .ok (.iload_n 2, 1) := dk_28 (dk_at dksX7_isProved_3 5 rfl rfl)
theorem dX7_isProved_77 : decode cX7_isProved 77 = .ok (.iload_n 2, 1) := dk_28 (dk_at dksX7_isProved_3 6 rfl rfl)
theorem dX7_isProved_78 : decode cX7_isProved 78 = .ok (.aload_n 0, 1) := dk_42 (dk_at dksX7_isProved_3 7 rfl rfl)
theorem dX7_isProved_79 : decode cX7_isProved 79 = .ok (.getfield 86, 3) := dk_180 0 86 (dk_at dksX7_isProved_3 8 rfl rfl)
theorem dX7_isProved_82 : decode cX7_isProved 82 = .ok (.iconst 1, 1) := dk_4 (dk_at dksX7_isProved_3 11 rfl rfl)
theorem dX7_isProved_83 : decode cX7_isProved 83 = .ok (.iaload, 1) := dk_46 (dk_at dksX7_isProved_3 12 rfl rfl)
theorem dX7_isProved_84 : decode cX7_isProved 84 = .ok (.iadd, 1) := dk_96 (dk_at dksX7_isProved_3 13 rfl rfl)
theorem dX7_isProved_85 : decode cX7_isProved 85 = .ok (.invokestatic 204, 3) := dk_184 0 204 (dk_at dksX7_isProved_3 14 rfl rfl)
theorem dX7_isProved_88 : decode cX7_isProved 88 = .ok (.ifCond .eq 13, 3) := dk_153 0 13 (dk_at dksX7_isProved_3 17 rfl rfl)
theorem dX7_isProved_91 : decode cX7_isProved 91 = .ok (.aload_n 0, 1) := dk_42 (dk_at dksX7_isProved_3 20 rfl rfl)
theorem dX7_isProved_92 : decode cX7_isProved 92 = .ok (.iload_n 3, 1) := dk_29 (dk_at dksX7_isProved_3 21 rfl rfl)
theorem dX7_isProved_93 : decode cX7_isProved 93 = .ok (.invokevirtual 261, 3) := dk_182 1 5 (dk_at dksX7_isProved_4 0 rfl rfl)
theorem dX7_isProved_96 : decode cX7_isProved 96 = .ok (.ifCond .ne 5, 3) := dk_154 0 5 (dk_at dksX7_isProved_4 3 rfl rfl)
theorem dX7_isProved_99 : decode cX7_isProved 99 = .ok (.iconst 1, 1) := dk_4 (dk_at dksX7_isProved_4 6 rfl rfl)
theorem dX7_isProved_100 : decode cX7_isProved 100 = .ok (.ireturn, 1) := dk_172 (dk_at dksX7_isProved_4 7 rfl rfl)
theorem dX7_isProved_101 : decode cX7_isProved 101 = .ok (.iinc 3 1, 3) := dk_132 3 1 (dk_at dksX7_isProved_4 8 rfl rfl)
theorem dX7_isProved_104 : decode cX7_isProved 104 = .ok (.goto (-102), 3) := dk_167 255 154 (dk_at dksX7_isProved_4 11 rfl rfl)
theorem dX7_isProved_107 : decode cX7_isProved 107 = .ok (.iconst 0, 1) := dk_3 (dk_at dksX7_isProved_4 14 rfl rfl)
theorem dX7_isProved_108 : decode cX7_isProved 108 = .ok (.ireturn, 1) := dk_172 (dk_at dksX7_isProved_4 15 rfl rfl)
abbrev cX7_shares : ByteArray := prog_19_method_48_code
def yX7_shares : MethodName := ⟨RX7, "shares", "(II)V"⟩
def dkwX7_shares_4 : List UInt8 := [79, 42, 89, 180, 1, 10, 42, 180, 0, 31, 27, 46, 96, 181, 1, 10, 177]
abbrev dktX7_shares_4 : List UInt8 := dkwX7_shares_4 ++ []
def dkwX7_shares_3 : List UInt8 := [21, 7, 54, 4, 21, 6, 54, 5, 132, 6, 1, 167, 255, 190, 42, 180, 0, 102, 21, 5, 92, 46, 29, 96]
abbrev dktX7_shares_3 : List UInt8 := dkwX7_shares_3 ++ dktX7_shares_4
def dkwX7_shares_2 : List UInt8 := [180, 0, 102, 21, 6, 92, 46, 21, 8, 96, 79, 29, 21, 8, 100, 62, 21, 7, 21, 4, 164, 0, 11]
abbrev dktX7_shares_2 : List UInt8 := dkwX7_shares_2 ++ dktX7_shares_3
def dkwX7_shares_1 : List UInt8 := [27, 21, 6, 28, 182, 0, 245, 54, 7, 42, 180, 0, 31, 27, 46, 21, 7, 104, 16, 60, 108, 54, 8, 42]
abbrev dktX7_shares_1 : List UInt8 := dkwX7_shares_1 ++ dktX7_shares_2
def dkwX7_shares_0 : List UInt8 := [42, 180, 0, 31, 27, 46, 62, 3, 54, 4, 3, 54, 5, 3, 54, 6, 21, 6, 16, 8, 162, 0, 65, 42]
abbrev dktX7_shares_0 : List UInt8 := dkwX7_shares_0 ++ dktX7_shares_1
theorem dksX7_shares_0 : cX7_shares.data.toList.drop 0 = dktX7_shares_0 := by decide +kernel
theorem dksX7_shares_1 : cX7_shares.data.toList.drop 24 = dktX7_shares_1 := dk_seg dksX7_shares_0 24 rfl rfl
theorem dksX7_shares_2 : cX7_shares.data.toList.drop 48 = dktX7_shares_2 := dk_seg dksX7_shares_1 24 rfl rfl
theorem dksX7_shares_3 : cX7_shares.data.toList.drop 71 = dktX7_shares_3 := dk_seg dksX7_shares_2 23 rfl rfl
theorem dksX7_shares_4 : cX7_shares.data.toList.drop 95 = dktX7_shares_4 := dk_seg dksX7_shares_3 24 rfl rfl
theorem dX7_shares_0 : decode cX7_shares 0 = .ok (.aload_n 0, 1) := dk_42 (dk_at dksX7_shares_0 0 rfl rfl)
theorem dX7_shares_1 : decode cX7_shares 1 = .ok (.getfield 31, 3) := dk_180 0 31 (dk_at dksX7_shares_0 1 rfl rfl)
theorem dX7_shares_4 : decode cX7_shares 4 = .ok (.iload_n 1, 1) := dk_27 (dk_at dksX7_shares_0 4 rfl rfl)
theorem dX7_shares_5 : decode cX7_shares 5 = .ok (.iaload, 1) := dk_46 (dk_at dksX7_shares_0 5 rfl rfl)
theorem dX7_shares_6 : decode cX7_shares 6 = .ok (.istore_n 3, 1) := dk_62 (dk_at dksX7_shares_0 6 rfl rfl)
theorem dX7_shares_7 : decode cX7_shares 7 = .ok (.iconst 0, 1) := dk_3 (dk_at dksX7_shares_0 7 rfl rfl)
theorem dX7_shares_8 : decode cX7_shares 8 = .ok (.istore 4, 2) := dk_54 4 (dk_at dksX7_shares_0 8 rfl rfl)
theorem dX7_shares_10 : decode cX7_shares 10 = .ok (.iconst 0, 1) := dk_3 (dk_at dksX7_shares_0 10 rfl rfl)
theorem dX7_shares_11 : decode cX7_shares 11 = .ok (.istore 5, 2) := dk_54 5 (dk_at dksX7_shares_0 11 rfl rfl)
theorem dX7_shares_13 : decode cX7_shares 13 = .ok (.iconst 0, 1) := dk_3 (dk_at dksX7_shares_0 13 rfl rfl)
theorem dX7_shares_14 : decode cX7_shares 14 = .ok (.istore 6, 2) := dk_54 6 (dk_at dksX7_shares_0 14 rfl rfl)
theorem dX7_shares_16 : decode cX7_shares 16 = .ok (.iload 6, 2) := dk_21 6 (dk_at dksX7_shares_0 16 rfl rfl)
theorem dX7_shares_18 : decode cX7_shares 18 = .ok (.bipush 8, 2) := dk_16 8 (dk_at dksX7_shares_0 18 rfl rfl)
theorem dX7_shares_20 : decode cX7_shares 20 = .ok (.if_icmp .ge 65, 3) := dk_162 0 65 (dk_at dksX7_shares_0 20 rfl rfl)
theorem dX7_shares_23 : decode cX7_shares 23 = .ok (.aload_n 0, 1) := dk_42 (dk_at dksX7_shares_0 23 rfl rfl)
theorem dX7_shares_24 : decode cX7_shares 24 = .ok (.iload_n 1, 1) := dk_27 (dk_at dksX7_shares_1 0 rfl rfl)
theorem dX7_shares_25 : decode cX7_shares 25 = .ok (.iload 6, 2) := dk_21 6 (dk_at dksX7_shares_1 1 rfl rfl)
theorem dX7_shares_27 : decode cX7_shares 27 = .ok (.iload_n 2, 1) := dk_28 (dk_at dksX7_shares_1 3 rfl rfl)
theorem dX7_shares_28 : decode cX7_shares 28 = .ok (.invokevirtual 245, 3) := dk_182 0 245 (dk_at dksX7_shares_1 4 rfl rfl)
theorem dX7_shares_31 : decode cX7_shares 31 = .ok (.istore 7, 2) := dk_54 7 (dk_at dksX7_shares_1 7 rfl rfl)
theorem dX7_shares_33 : decode cX7_shares 33 = .ok (.aload_n 0, 1) := dk_42 (dk_at dksX7_shares_1 9 rfl rfl)
theorem dX7_shares_34 : decode cX7_shares 34 = .ok (.getfield 31, 3) := dk_180 0 31 (dk_at dksX7_shares_1 10 rfl rfl)
theorem dX7_shares_37 : decode cX7_shares 37 = .ok (.iload_n 1, 1) := dk_27 (dk_at dksX7_shares_1 13 rfl rfl)
theorem dX7_shares_38 : decode cX7_shares 38 = .ok (.iaload, 1) := dk_46 (dk_at dksX7_shares_1 14 rfl rfl)
theorem dX7_shares_39 : decode cX7_shares 39 = .ok (.iload 7, 2) := dk_21 7 (dk_at dksX7_shares_1 15 rfl rfl)
theorem dX7_shares_41 : decode cX7_shares 41 = .ok (.imul, 1) := dk_104 (dk_at dksX7_shares_1 17 rfl rfl)
theorem dX7_shares_42 : decode cX7_shares 42 = .ok (.bipush 60, 2) := dk_16 60 (dk_at dksX7_shares_1 18 rfl rfl)
theorem dX7_shares_44 : decode cX7_shares 44 = .ok (.idiv, 1) := dk_108 (dk_at dksX7_shares_1 20 rfl rfl)
theorem dX7_shares_45 : decode cX7_shares 45 = .ok (.istore 8, 2) := dk_54 8 (dk_at dksX7_shares_1 21 rfl rfl)
theorem dX7_shares_47 : decode cX7_shares 47 = .ok (.aload_n 0, 1) := dk_42 (dk_at dksX7_shares_1 23 rfl rfl)
theorem dX7_shares_48 : decode cX7_shares 48 = .ok (.getfield 102, 3) := dk_180 0 102 (dk_at dksX7_shares_2 0 rfl rfl)
theorem dX7_shares_51 : decode cX7_shares 51 = .ok (.iload 6, 2) := dk_21 6 (dk_at dksX7_shares_2 3 rfl rfl)
theorem dX7_shares_53 : decode cX7_shares 53 = .ok (.dup2, 1) := dk_92 (dk_at dksX7_shares_2 5 rfl rfl)
theorem dX7_shares_54 : decode cX7_shares 54 = .ok (.iaload, 1) := dk_46 (dk_at dksX7_shares_2 6 rfl rfl)
theorem dX7_shares_55 : decode cX7_shares 55 = .ok (.iload 8, 2) := dk_21 8 (dk_at dksX7_shares_2 7 rfl rfl)
theorem dX7_shares_57 : decode cX7_shares 57 = .ok (.iadd, 1) := dk_96 (dk_at dksX7_shares_2 9 rfl rfl)
theorem dX7_shares_58 : decode cX7_shares 58 = .ok (.iastore, 1) := dk_79 (dk_at dksX7_shares_2 10 rfl rfl)
theorem dX7_shares_59 : decode cX7_shares 59 = .ok (.iload_n 3, 1) := dk_29 (dk_at dksX7_shares_2 11 rfl rfl)
theorem dX7_shares_60 : decode cX7_shares 60 = .ok (.iload 8, 2) := dk_21 8 (dk_at dksX7_shares_2 12 rfl rfl)
theorem dX7_shares_62 : decode cX7_shares 62 = .ok (.isub, 1) := dk_100 (dk_at dksX7_shares_2 14 rfl rfl)
theorem dX7_shares_63 : decode cX7_shares 63 = .ok (.istore_n 3, 1) := dk_62 (dk_at dksX7_shares_2 15 rfl rfl)
theorem dX7_shares_64 : decode cX7_shares 64 = .ok (.iload 7, 2) := dk_21 7 (dk_at dksX7_shares_2 16 rfl rfl)
theorem dX7_shares_66 : decode cX7_shares 66 = .ok (.iload 4, 2) := dk_21 4 (dk_at dksX7_shares_2 18 rfl rfl)
theorem dX7_shares_68 : decode cX7_shares 68 = .ok (.if_icmp .le 11, 3) := dk_164 0 11 (dk_at dksX7_shares_2 20 rfl rfl)
theorem dX7_shares_71 : decode cX7_shares 71 = .ok (.iload 7, 2) := dk_21 7 (dk_at dksX7_shares_3 0 rfl rfl)
theorem dX7_shares_73 : decode cX7_shares 73 = .ok (.istore 4, 2) := dk_54 4 (dk_at dksX7_shares_3 2 rfl rfl)
theorem dX7_shares_75 : decode cX7_shares 75 = .ok (.iload 6, 2) := dk_21 6 (dk_at dksX7_shares_3 4 rfl rfl)
theorem dX7_shares_77 : decode cX7_shares 77 = .ok (.istore 5, 2) := dk_54 5 (dk_at dksX7_shares_3 6 rfl rfl)
theorem dX7_shares_79 : decode cX7_shares 79 = .ok (.iinc 6 1, 3) := dk_132 6 1 (dk_at dksX7_shares_3 8 rfl rfl)
theorem dX7_shares_82 : decode cX7_shares 82 = .ok (.goto (-66), 3) := dk_167 255 190 (dk_at dksX7_shares_3 11 rfl rfl)
theorem dX7_shares_85 : decode cX7_shares 85 = .ok (.aload_n 0, 1) := dk_42 (dk_at dksX7_shares_3 14 rfl rfl)
theorem dX7_shares_86 : decode cX7_shares 86 = .ok (.getfield 102, 3) := dk_180 0 102 (dk_at dksX7_shares_3 15 rfl rfl)
theorem dX7_shares_89 : decode cX7_shares 89 = .ok (.iload 5, 2) := dk_21 5 (dk_at dksX7_shares_3 18 rfl rfl)
theorem dX7_shares_91 : decode cX7_shares 91 = .ok (.dup2, 1) := dk_92 (dk_at dksX7_shares_3 20 rfl rfl)
theorem dX7_shares_92 : decode cX7_shares 92 = .ok (.iaload, 1) := dk_46 (dk_at dksX7_shares_3 21 rfl rfl)
theorem dX7_shares_93 : decode cX7_shares 93 = .ok (.iload_n 3, 1) := dk_29 (dk_at dksX7_shares_3 22 rfl rfl)
theorem dX7_shares_94 : decode cX7_shares 94 = .ok (.iadd, 1) := dk_96 (dk_at dksX7_shares_3 23 rfl rfl)
theorem dX7_shares_95 : decode cX7_shares 95 = .ok (.iastore, 1) := dk_79 (dk_at dksX7_shares_4 0 rfl rfl)
theorem dX7_shares_96 : decode cX7_shares 96 = .ok (.aload_n 0, 1) := dk_42 (dk_at dksX7_shares_4 1 rfl rfl)
theorem dX7_shares_97 : decode cX7_shares 97 = .ok (.dup, 1) := dk_89 (dk_at dksX7_shares_4 2 rfl rfl)
theorem dX7_shares_98 : decode cX7_shares 98 = .ok (.getfield 266, 3) := dk_180 1 10 (dk_at dksX7_shares_4 3 rfl rfl)
theorem dX7_shares_101 : decode cX7_shares 101 = .ok (.aload_n 0, 1) := dk_42 (dk_at dksX7_shares_4 6 rfl rfl)
theorem dX7_shares_102 : decode cX7_shares 102 = .ok (.getfield 31, 3) := dk_180 0 31 (dk_at dksX7_shares_4 7 rfl rfl)
theorem dX7_shares_105 : decode cX7_shares 105 = .ok (.iload_n 1, 1) := dk_27 (dk_at dksX7_shares_4 10 rfl rfl)
theorem dX7_shares_106 : decode cX7_shares 106 = .ok (.iaload, 1) := dk_46 (dk_at dksX7_shares_4 11 rfl rfl)
theorem dX7_shares_107 : decode cX7_shares 107 = .ok (.iadd, 1) := dk_96 (dk_at dksX7_shares_4 12 rfl rfl)
theorem dX7_shares_108 : decode cX7_shares 108 = .ok (.putfield 266, 3) := dk_181 1 10 (dk_at dksX7_shares_4 13 rfl rfl)
theorem dX7_shares_111 : decode cX7_shares 111 = .ok (.return_, 1) := dk_177 (dk_at dksX7_shares_4 16 rfl rfl)
abbrev cX7_got : ByteArray := prog_19_method_50_code
def yX7_got : MethodName := ⟨RX7, "got", "(II)I"⟩
def dkwX7_got_1 : List UInt8 := [2, 172, 42, 28, 182, 1, 23, 42, 180, 0, 102, 27, 46, 172]
abbrev dktX7_got_1 : List UInt8 := dkwX7_got_1 ++ []
def dkwX7_got_0 : List UInt8 := [42, 3, 181, 0, 129, 27, 184, 0, 236, 153, 0, 15, 28, 3, 42, 180, 0, 208, 184, 0, 204, 154, 0, 5]
abbrev dktX7_got_0 : List UInt8 := dkwX7_got_0 ++ dktX7_got_1
theorem dksX7_got_0 : cX7_got.data.toList.drop 0 = dktX7_got_0 := by decide +kernel
theorem dksX7_got_1 : cX7_got.data.toList.drop 24 = dktX7_got_1 := dk_seg dksX7_got_0 24 rfl rfl
theorem dX7_got_0 : decode cX7_got 0 = .ok (.aload_n 0, 1) := dk_42 (dk_at dksX7_got_0 0 rfl rfl)
theorem dX7_got_1 : decode cX7_got 1 = .ok (.iconst 0, 1) := dk_3 (dk_at dksX7_got_0 1 rfl rfl)
theorem dX7_got_2 : decode cX7_got 2 = .ok (.putfield 129, 3) := dk_181 0 129 (dk_at dksX7_got_0 2 rfl rfl)
theorem dX7_got_5 : decode cX7_got 5 = .ok (.iload_n 1, 1) := dk_27 (dk_at dksX7_got_0 5 rfl rfl)
theorem dX7_got_6 : decode cX7_got 6 = .ok (.invokestatic 236, 3) := dk_184 0 236 (dk_at dksX7_got_0 6 rfl rfl)
theorem dX7_got_9 : decode cX7_got 9 = .ok (.ifCond .eq 15, 3) := dk_153 0 15 (dk_at dksX7_got_0 9 rfl rfl)
theorem dX7_got_12 : decode cX7_got 12 = .ok (.iload_n 2, 1) := dk_28 (dk_at dksX7_got_0 12 rfl rfl)
theorem dX7_got_13 : decode cX7_got 13 = .ok (.iconst 0, 1) := dk_3 (dk_at dksX7_got_0 13 rfl rfl)
theorem dX7_got_14 : decode cX7_got 14 = .ok (.aload_n 0, 1) := dk_42 (dk_at dksX7_got_0 14 rfl rfl)
theorem dX7_got_15 : decode cX7_got 15 = .ok (.getfield 208, 3) := dk_180 0 208 (dk_at dksX7_got_0 15 rfl rfl)
theorem dX7_got_18 : decode cX7_got 18 = .ok (.invokestatic 204, 3) := dk_184 0 204 (dk_at dksX7_got_0 18 rfl rfl)
theorem dX7_got_21 : decode cX7_got 21 = .ok (.ifCond .ne 5, 3) := dk_154 0 5 (dk_at dksX7_got_0 21 rfl rfl)
theorem dX7_got_24 : decode cX7_got 24 = .ok (.iconst (-1), 1) := dk_2 (dk_at dksX7_got_1 0 rfl rfl)
theorem dX7_got_25 : decode cX7_got 25 = .ok (.ireturn, 1) := dk_172 (dk_at dksX7_got_1 1 rfl rfl)
theorem dX7_got_26 : decode cX7_got 26 = .ok (.aload_n 0, 1) := dk_42 (dk_at dksX7_got_1 2 rfl rfl)
theorem dX7_got_27 : decode cX7_got 27 = .ok (.iload_n 2, 1) := dk_28 (dk_at dksX7_got_1 3 rfl rfl)
theorem dX7_got_28 : decode cX7_got 28 = .ok (.invokevirtual 279, 3) := dk_182 1 23 (dk_at dksX7_got_1 4 rfl rfl)
theorem dX7_got_31 : decode cX7_got 31 = .ok (.aload_n 0, 1) := dk_42 (dk_at dksX7_got_1 7 rfl rfl)
theorem dX7_got_32 : decode cX7_got 32 = .ok (.getfield 102, 3) := dk_180 0 102 (dk_at dksX7_got_1 8 rfl rfl)
theorem dX7_got_35 : decode cX7_got 35 = .ok (.iload_n 1, 1) := dk_27 (dk_at dksX7_got_1 11 rfl rfl)
theorem dX7_got_36 : decode cX7_got 36 = .ok (.iaload, 1) := dk_46 (dk_at dksX7_got_1 12 rfl rfl)
theorem dX7_got_37 : decode cX7_got 37 = .ok (.ireturn, 1) := dk_172 (dk_at dksX7_got_1 13 rfl rfl)
abbrev cX7_owed : ByteArray := prog_19_method_52_code
def yX7_owed : MethodName := ⟨RX7, "owed", "(II)I"⟩
def dkwX7_owed_1 : List UInt8 := [154, 0, 5, 2, 172, 42, 28, 182, 1, 23, 42, 27, 182, 1, 26, 172]
abbrev dktX7_owed_1 : List UInt8 := dkwX7_owed_1 ++ []
def dkwX7_owed_0 : List UInt8 := [42, 3, 181, 0, 129, 42, 27, 182, 0, 242, 153, 0, 15, 28, 3, 42, 180, 0, 208, 184, 0, 204]
abbrev dktX7_owed_0 : List UInt8 := dkwX7_owed_0 ++ dktX7_owed_1
theorem dksX7_owed_0 : cX7_owed.data.toList.drop 0 = dktX7_owed_0 := by decide +kernel
theorem dksX7_owed_1 : cX7_owed.data.toList.drop 22 = dktX7_owed_1 := dk_seg dksX7_owed_0 22 rfl rfl
theorem dX7_owed_0 : decode cX7_owed 0 = .ok (.aload_n 0, 1) := dk_42 (dk_at dksX7_owed_0 0 rfl rfl)
theorem dX7_owed_1 : decode cX7_owed 1 = .ok (.iconst 0, 1) := dk_3 (dk_at dksX7_owed_0 1 rfl rfl)
theorem dX7_owed_2 : decode cX7_owed 2 = .ok (.putfield 129, 3) := dk_181 0 129 (dk_at dksX7_owed_0 2 rfl rfl)
theorem dX7_owed_5 : decode cX7_owed 5 = .ok (.aload_n 0, 1) := dk_42 (dk_at dksX7_owed_0 5 rfl rfl)
theorem dX7_owed_6 : decode cX7_owed 6 = .ok (.iload_n 1, 1) := dk_27 (dk_at dksX7_owed_0 6 rfl rfl)
theorem dX7_owed_7 : decode cX7_owed 7 = .ok (.invokevirtual 242, 3) := dk_182 0 242 (dk_at dksX7_owed_0 7 rfl rfl)
theorem dX7_owed_10 : decode cX7_owed 10 = .ok (.ifCond .eq 15, 3) := dk_153 0 15 (dk_at dksX7_owed_0 10 rfl rfl)
theorem dX7_owed_13 : decode cX7_owed 13 = .ok (.iload_n 2, 1) := dk_28 (dk_at dksX7_owed_0 13 rfl rfl)
theorem dX7_owed_14 : decode cX7_owed 14 = .ok (.iconst 0, 1) := dk_3 (dk_at dksX7_owed_0 14 rfl rfl)
theorem dX7_owed_15 : decode cX7_owed 15 = .ok (.aload_n 0, 1) := dk_42 (dk_at dksX7_owed_0 15 rfl rfl)
theorem dX7_owed_16 : decode cX7_owed 16 = .ok (.getfield 208, 3) := dk_180 0 208 (dk_at dksX7_owed_0 16 rfl rfl)
theorem dX7_owed_19 : decode cX7_owed 19 = .ok (.invokestatic 204, 3) := dk_184 0 204 (dk_at dksX7_owed_0 19 rfl rfl)
theorem dX7_owed_22 : decode cX7_owed 22 = .ok (.ifCond .ne 5, 3) := dk_154 0 5 (dk_at dksX7_owed_1 0 rfl rfl)
theorem dX7_owed_25 : decode cX7_owed 25 = .ok (.iconst (-1), 1) := dk_2 (dk_at dksX7_owed_1 3 rfl rfl)
theorem dX7_owed_26 : decode cX7_owed 26 = .ok (.ireturn, 1) := dk_172 (dk_at dksX7_owed_1 4 rfl rfl)
theorem dX7_owed_27 : decode cX7_owed 27 = .ok (.aload_n 0, 1) := dk_42 (dk_at dksX7_owed_1 5 rfl rfl)
theorem dX7_owed_28 : decode cX7_owed 28 = .ok (.iload_n 2, 1) := dk_28 (dk_at dksX7_owed_1 6 rfl rfl)
theorem dX7_owed_29 : decode cX7_owed 29 = .ok (.invokevirtual 279, 3) := dk_182 1 23 (dk_at dksX7_owed_1 7 rfl rfl)
theorem dX7_owed_32 : decode cX7_owed 32 = .ok (.aload_n 0, 1) := dk_42 (dk_at dksX7_owed_1 10 rfl rfl)
theorem dX7_owed_33 : decode cX7_owed 33 = .ok (.iload_n 1, 1) := dk_27 (dk_at dksX7_owed_1 11 rfl rfl)
theorem dX7_owed_34 : decode cX7_owed 34 = .ok (.invokevirtual 282, 3) := dk_182 1 26 (dk_at dksX7_owed_1 12 rfl rfl)
theorem dX7_owed_37 : decode cX7_owed 37 = .ok (.ireturn, 1) := dk_172 (dk_at dksX7_owed_1 15 rfl rfl)
abbrev cX7_owedOf : ByteArray := prog_19_method_51_code
def yX7_owedOf : MethodName := ⟨RX7, "owedOf", "(I)I"⟩
def dkwX7_owedOf_2 : List UInt8 := [132, 3, 1, 167, 255, 210, 28, 172]
abbrev dktX7_owedOf_2 : List UInt8 := dkwX7_owedOf_2 ++ []
def dkwX7_owedOf_1 : List UInt8 := [159, 0, 21, 42, 27, 29, 182, 1, 13, 154, 0, 12, 42, 180, 0, 31, 27, 46, 167, 0, 4, 3, 96, 61]
abbrev dktX7_owedOf_1 : List UInt8 := dkwX7_owedOf_1 ++ dktX7_owedOf_2
def dkwX7_owedOf_0 : List UInt8 := [3, 61, 3, 62, 29, 16, 80, 162, 0, 46, 28, 42, 180, 0, 99, 16, 80, 27, 104, 29, 96, 46, 2]
abbrev dktX7_owedOf_0 : List UInt8 := dkwX7_owedOf_0 ++ dktX7_owedOf_1
theorem dksX7_owedOf_0 : cX7_owedOf.data.toList.drop 0 = dktX7_owedOf_0 := by decide +kernel
theorem dksX7_owedOf_1 : cX7_owedOf.data.toList.drop 23 = dktX7_owedOf_1 := dk_seg dksX7_owedOf_0 23 rfl rfl
theorem dksX7_owedOf_2 : cX7_owedOf.data.toList.drop 47 = dktX7_owedOf_2 := dk_seg dksX7_owedOf_1 24 rfl rfl
theorem dX7_owedOf_0 : decode cX7_owedOf 0 = .ok (.iconst 0, 1) := dk_3 (dk_at dksX7_owedOf_0 0 rfl rfl)
theorem dX7_owedOf_1 : decode cX7_owedOf 1 = .ok (.istore_n 2, 1) := dk_61 (dk_at dksX7_owedOf_0 1 rfl rfl)
theorem dX7_owedOf_2 : decode cX7_owedOf 2 = .ok (.iconst 0, 1) := dk_3 (dk_at dksX7_owedOf_0 2 rfl rfl)
theorem dX7_owedOf_3 : decode cX7_owedOf 3 = .ok (.istore_n 3, 1) := dk_62 (dk_at dksX7_owedOf_0 3 rfl rfl)
theorem dX7_owedOf_4 : decode cX7_owedOf 4 = .ok (.iload_n 3, 1) := dk_29 (dk_at dksX7_owedOf_0 4 rfl rfl)
theorem dX7_owedOf_5 : decode cX7_owedOf 5 = .ok (.bipush 80, 2) := dk_16 80 (dk_at dksX7_owedOf_0 5 rfl rfl)
theorem dX7_owedOf_7 : decode cX7_owedOf 7 = .ok (.if_icmp .ge 46, 3) := dk_162 0 46 (dk_at dksX7_owedOf_0 7 rfl rfl)
theorem dX7_owedOf_10 : decode cX7_owedOf 10 = .ok (.iload_n 2, 1) := dk_28 (dk_at dksX7_owedOf_0 10 rfl rfl)
theorem dX7_owedOf_11 : decode cX7_owedOf 11 = .ok (.aload_n 0, 1) := dk_42 (dk_at dksX7_owedOf_0 11 rfl rfl)
theorem dX7_owedOf_12 : decode cX7_owedOf 12 = .ok (.getfield 99, 3) := dk_180 0 99 (dk_at dksX7_owedOf_0 12 rfl rfl)
theorem dX7_owedOf_15 : decode cX7_owedOf 15 = .ok (.bipush 80, 2) := dk_16 80 (dk_at dksX7_owedOf_0 15 rfl rfl)
theorem dX7_owedOf_17 : decode cX7_owedOf 17 = .ok (.iload_n 1, 1) := dk_27 (dk_at dksX7_owedOf_0 17 rfl rfl)
theorem dX7_owedOf_18 : decode cX7_owedOf 18 = .ok (.imul, 1) := dk_104 (dk_at dksX7_owedOf_0 18 rfl rfl)
theorem dX7_owedOf_19 : decode cX7_owedOf 19 = .ok (.iload_n 3, 1) := dk_29 (dk_at dksX7_owedOf_0 19 rfl rfl)
theorem dX7_owedOf_20 : decode cX7_owedOf 20 = .ok (.iadd, 1) := dk_96 (dk_at dksX7_owedOf_0 20 rfl rfl)
theorem dX7_owedOf_21 : decode cX7_owedOf 21 = .ok (.iaload, 1) := dk_46 (dk_at dksX7_owedOf_0 21 rfl rfl)
theorem dX7_owedOf_22 : decode cX7_owedOf 22 = .ok (.iconst (-1), 1) := dk_2 (dk_at dksX7_owedOf_0 22 rfl rfl)
theorem dX7_owedOf_23 : decode cX7_owedOf 23 = .ok (.if_icmp .eq 21, 3) := dk_159 0 21 (dk_at dksX7_owedOf_1 0 rfl rfl)
theorem dX7_owedOf_26 : decode cX7_owedOf 26 = .ok (.aload_n 0, 1) := dk_42 (dk_at dksX7_owedOf_1 3 rfl rfl)
theorem dX7_owedOf_27 : decode cX7_owedOf 27 = .ok (.iload_n 1, 1) := dk_27 (dk_at dksX7_owedOf_1 4 rfl rfl)
theorem dX7_owedOf_28 : decode cX7_owedOf 28 = .ok (.iload_n 3, 1) := dk_29 (dk_at dksX7_owedOf_1 5 rfl rfl)
theorem dX7_owedOf_29 : decode cX7_owedOf 29 = .ok (.invokevirtual 269, 3) := dk_182 1 13 (dk_at dksX7_owedOf_1 6 rfl rfl)
theorem dX7_owedOf_32 : decode cX7_owedOf 32 = .ok (.ifCond .ne 12, 3) := dk_154 0 12 (dk_at dksX7_owedOf_1 9 rfl rfl)
theorem dX7_owedOf_35 : decode cX7_owedOf 35 = .ok (.aload_n 0, 1) := dk_42 (dk_at dksX7_owedOf_1 12 rfl rfl)
theorem dX7_owedOf_36 : decode cX7_owedOf 36 = .ok (.getfield 31, 3) := dk_180 0 31 (dk_at dksX7_owedOf_1 13 rfl rfl)
theorem dX7_owedOf_39 : decode cX7_owedOf 39 = .ok (.iload_n 1, 1) := dk_27 (dk_at dksX7_owedOf_1 16 rfl rfl)
theorem dX7_owedOf_40 : decode cX7_owedOf 40 = .ok (.iaload, 1) := dk_46 (dk_at dksX7_owedOf_1 17 rfl rfl)
theorem dX7_owedOf_41 : decode cX7_owedOf 41 = .ok (.goto 4, 3) := dk_167 0 4 (dk_at dksX7_owedOf_1 18 rfl rfl)
theorem dX7_owedOf_44 : decode cX7_owedOf 44 = .ok (.iconst 0, 1) := dk_3 (dk_at dksX7_owedOf_1 21 rfl rfl)
theorem dX7_owedOf_45 : decode cX7_owedOf 45 = .ok (.iadd, 1) := dk_96 (dk_at dksX7_owedOf_1 22 rfl rfl)
theorem dX7_owedOf_46 : decode cX7_owedOf 46 = .ok (.istore_n 2, 1) := dk_61 (dk_at dksX7_owedOf_1 23 rfl rfl)
theorem dX7_owedOf_47 : decode cX7_owedOf 47 = .ok (.iinc 3 1, 3) := dk_132 3 1 (dk_at dksX7_owedOf_2 0 rfl rfl)
theorem dX7_owedOf_50 : decode cX7_owedOf 50 = .ok (.goto (-46), 3) := dk_167 255 210 (dk_at dksX7_owedOf_2 3 rfl rfl)
theorem dX7_owedOf_53 : decode cX7_owedOf 53 = .ok (.iload_n 2, 1) := dk_28 (dk_at dksX7_owedOf_2 6 rfl rfl)
theorem dX7_owedOf_54 : decode cX7_owedOf 54 = .ok (.ireturn, 1) := dk_172 (dk_at dksX7_owedOf_2 7 rfl rfl)
abbrev cX7_state : ByteArray := prog_19_method_53_code
def yX7_state : MethodName := ⟨RX7, "state", "(II)I"⟩
def dkwX7_state_4 : List UInt8 := [21, 4, 46, 167, 0, 4, 3, 96, 62, 132, 4, 1, 167, 255, 200, 29, 172]
abbrev dktX7_state_4 : List UInt8 := dkwX7_state_4 ++ []
def dkwX7_state_3 : List UInt8 := [21, 4, 182, 1, 26, 167, 0, 25, 42, 180, 0, 19, 21, 4, 46, 27, 163, 0, 13, 42, 180, 0, 34]
abbrev dktX7_state_3 : List UInt8 := dkwX7_state_3 ++ dktX7_state_4
def dkwX7_state_2 : List UInt8 := [3, 54, 4, 21, 4, 42, 180, 0, 233, 162, 0, 53, 28, 4, 159, 0, 48, 29, 28, 5, 160, 0, 12, 42]
abbrev dktX7_state_2 : List UInt8 := dkwX7_state_2 ++ dktX7_state_3
def dkwX7_state_1 : List UInt8 := [154, 0, 5, 2, 172, 42, 27, 182, 1, 23, 28, 4, 160, 0, 10, 42, 180, 1, 10, 167, 0, 4, 3, 62]
abbrev dktX7_state_1 : List UInt8 := dkwX7_state_1 ++ dktX7_state_2
def dkwX7_state_0 : List UInt8 := [42, 3, 181, 0, 129, 27, 3, 42, 180, 0, 208, 184, 0, 204, 153, 0, 12, 28, 3, 5, 184, 0, 204]
abbrev dktX7_state_0 : List UInt8 := dkwX7_state_0 ++ dktX7_state_1
theorem dksX7_state_0 : cX7_state.data.toList.drop 0 = dktX7_state_0 := by decide +kernel
theorem dksX7_state_1 : cX7_state.data.toList.drop 23 = dktX7_state_1 := dk_seg dksX7_state_0 23 rfl rfl
theorem dksX7_state_2 : cX7_state.data.toList.drop 47 = dktX7_state_2 := dk_seg dksX7_state_1 24 rfl rfl
theorem dksX7_state_3 : cX7_state.data.toList.drop 71 = dktX7_state_3 := dk_seg dksX7_state_2 24 rfl rfl
theorem dksX7_state_4 : cX7_state.data.toList.drop 94 = dktX7_state_4 := dk_seg dksX7_state_3 23 rfl rfl
theorem dX7_state_0 : decode cX7_state 0 = .ok (.aload_n 0, 1) := dk_42 (dk_at dksX7_state_0 0 rfl rfl)
theorem dX7_state_1 : decode cX7_state 1 = .ok (.iconst 0, 1) := dk_3 (dk_at dksX7_state_0 1 rfl rfl)
theorem dX7_state_2 : decode cX7_state 2 = .ok (.putfield 129, 3) := dk_181 0 129 (dk_at dksX7_state_0 2 rfl rfl)
theorem dX7_state_5 : decode cX7_state 5 = .ok (.iload_n 1, 1) := dk_27 (dk_at dksX7_state_0 5 rfl rfl)
theorem dX7_state_6 : decode cX7_state 6 = .ok (.iconst 0, 1) := dk_3 (dk_at dksX7_state_0 6 rfl rfl)
theorem dX7_state_7 : decode cX7_state 7 = .ok (.aload_n 0, 1) := dk_42 (dk_at dksX7_state_0 7 rfl rfl)
theorem dX7_state_8 : decode cX7_state 8 = .ok (.getfield 208, 3) := dk_180 0 208 (dk_at dksX7_state_0 8 rfl rfl)
theorem dX7_state_11 : decode cX7_state 11 = .ok (.invokestatic 204, 3) := dk_184 0 204 (dk_at dksX7_state_0 11 rfl rfl)
theorem dX7_state_14 : decode cX7_state 14 = .ok (.ifCond .eq 12, 3) := dk_153 0 12 (dk_at dksX7_state_0 14 rfl rfl)
theorem dX7_state_17 : decode cX7_state 17 = .ok (.iload_n 2, 1) := dk_28 (dk_at dksX7_state_0 17 rfl rfl)
theorem dX7_state_18 : decode cX7_state 18 = .ok (.iconst 0, 1) := dk_3 (dk_at dksX7_state_0 18 rfl rfl)
theorem dX7_state_19 : decode cX7_state 19 = .ok (.iconst 2, 1) := dk_5 (dk_at dksX7_state_0 19 rfl rfl)
theorem dX7_state_20 : decode cX7_state 20 = .ok (.invokestatic 204, 3) := dk_184 0 204 (dk_at dksX7_state_0 20 rfl rfl)
theorem dX7_state_23 : decode cX7_state 23 = .ok (.ifCond .ne 5, 3) := dk_154 0 5 (dk_at dksX7_state_1 0 rfl rfl)
theorem dX7_state_26 : decode cX7_state 26 = .ok (.iconst (-1), 1) := dk_2 (dk_at dksX7_state_1 3 rfl rfl)
theorem dX7_state_27 : decode cX7_state 27 = .ok (.ireturn, 1) := dk_172 (dk_at dksX7_state_1 4 rfl rfl)
theorem dX7_state_28 : decode cX7_state 28 = .ok (.aload_n 0, 1) := dk_42 (dk_at dksX7_state_1 5 rfl rfl)
theorem dX7_state_29 : decode cX7_state 29 = .ok (.iload_n 1, 1) := dk_27 (dk_at dksX7_state_1 6 rfl rfl)
theorem dX7_state_30 : decode cX7_state 30 = .ok (.invokevirtual 279, 3) := dk_182 1 23 (dk_at dksX7_state_1 7 rfl rfl)
theorem dX7_state_33 : decode cX7_state 33 = .ok (.iload_n 2, 1) := dk_28 (dk_at dksX7_state_1 10 rfl rfl)
theorem dX7_state_34 : decode cX7_state 34 = .ok (.iconst 1, 1) := dk_4 (dk_at dksX7_state_1 11 rfl rfl)
theorem dX7_state_35 : decode cX7_state 35 = .ok (.if_icmp .ne 10, 3) := dk_160 0 10 (dk_at dksX7_state_1 12 rfl rfl)
theorem dX7_state_38 : decode cX7_state 38 = .ok (.aload_n 0, 1) := dk_42 (dk_at dksX7_state_1 15 rfl rfl)
theorem dX7_state_39 : decode cX7_state 39 = .ok (.getfield 266, 3) := dk_180 1 10 (dk_at dksX7_state_1 16 rfl rfl)
theorem dX7_state_42 : decode cX7_state 42 = .ok (.goto 4, 3) := dk_167 0 4 (dk_at dksX7_state_1 19 rfl rfl)
theorem dX7_state_45 : decode cX7_state 45 = .ok (.iconst 0, 1) := dk_3 (dk_at dksX7_state_1 22 rfl rfl)
theorem dX7_state_46 : decode cX7_state 46 = .ok (.istore_n 3, 1) := dk_62 (dk_at dksX7_state_1 23 rfl rfl)
theorem dX7_state_47 : decode cX7_state 47 = .ok (.iconst 0, 1) := dk_3 (dk_at dksX7_state_2 0 rfl rfl)
theorem dX7_state_48 : decode cX7_state 48 = .ok (.istore 4, 2) := dk_54 4 (dk_at dksX7_state_2 1 rfl rfl)
theorem dX7_state_50 : decode cX7_state 50 = .ok (.iload 4, 2) := dk_21 4 (dk_at dksX7_state_2 3 rfl rfl)
theorem dX7_state_52 : decode cX7_state 52 = .ok (.aload_n 0, 1) := dk_42 (dk_at dksX7_state_2 5 rfl rfl)
theorem dX7_state_53 : decode cX7_state 53 = .ok (.getfield 233, 3) := dk_180 0 233 (dk_at dksX7_state_2 6 rfl rfl)
theorem dX7_state_56 : decode cX7_state 56 = .ok (.if_icmp .ge 53, 3) := dk_162 0 53 (dk_at dksX7_state_2 9 rfl rfl)
theorem dX7_state_59 : decode cX7_state 59 = .ok (.iload_n 2, 1) := dk_28 (dk_at dksX7_state_2 12 rfl rfl)
theorem dX7_state_60 : decode cX7_state 60 = .ok (.iconst 1, 1) := dk_4 (dk_at dksX7_state_2 13 rfl rfl)
theorem dX7_state_61 : decode cX7_state 61 = .ok (.if_icmp .eq 48, 3) := dk_159 0 48 (dk_at dksX7_state_2 14 rfl rfl)
theorem dX7_state_64 : decode cX7_state 64 = .ok (.iload_n 3, 1) := dk_29 (dk_at dksX7_state_2 17 rfl rfl)
theorem dX7_state_65 : decode cX7_state 65 = .ok (.iload_n 2, 1) := dk_28 (dk_at dksX7_state_2 18 rfl rfl)
theorem dX7_state_66 : decode cX7_state 66 = .ok (.iconst 2, 1) := dk_5 (dk_at dksX7_state_2 19 rfl rfl)
theorem dX7_state_67 : decode cX7_state 67 = .ok (.if_icmp .ne 12, 3) := dk_160 0 12 (dk_at dksX7_state_2 20 rfl rfl)
theorem dX7_state_70 : decode cX7_state 70 = .ok (.aload_n 0, 1) := dk_42 (dk_at dksX7_state_2 23 rfl rfl)
theorem dX7_state_71 : decode cX7_state 71 = .ok (.iload 4, 2) := dk_21 4 (dk_at dksX7_state_3 0 rfl rfl)
theorem dX7_state_73 : decode cX7_state 73 = .ok (.invokevirtual 282, 3) := dk_182 1 26 (dk_at dksX7_state_3 2 rfl rfl)
theorem dX7_state_76 : decode cX7_state 76 = .ok (.goto 25, 3) := dk_167 0 25 (dk_at dksX7_state_3 5 rfl rfl)
theorem dX7_state_79 : decode cX7_state 79 = .ok (.aload_n 0, 1) := dk_42 (dk_at dksX7_state_3 8 rfl rfl)
theorem dX7_state_80 : decode cX7_state 80 = .ok (.getfield 19, 3) := dk_180 0 19 (dk_at dksX7_state_3 9 rfl rfl)
theorem dX7_state_83 : decode cX7_state 83 = .ok (.iload 4, 2) := dk_21 4 (dk_at dksX7_state_3 12 rfl rfl)
theorem dX7_state_85 : decode cX7_state 85 = .ok (.iaload, 1) := dk_46 (dk_at dksX7_state_3 14 rfl rfl)
theorem dX7_state_86 : decode cX7_state 86 = .ok (.iload_n 1, 1) := dk_27 (dk_at dksX7_state_3 15 rfl rfl)
theorem dX7_state_87 : decode cX7_state 87 = .ok (.if_icmp .gt 13, 3) := dk_163 0 13 (dk_at dksX7_state_3 16 rfl rfl)
theorem dX7_state_90 : decode cX7_state 90 = .ok (.aload_n 0, 1) := dk_42 (dk_at dksX7_state_3 19 rfl rfl)
theorem dX7_state_91 : decode cX7_state 91 = .ok (.getfield 34, 3) := dk_180 0 34 (dk_at dksX7_state_3 20 rfl rfl)
theorem dX7_state_94 : decode cX7_state 94 = .ok (.iload 4, 2) := dk_21 4 (dk_at dksX7_state_4 0 rfl rfl)
theorem dX7_state_96 : decode cX7_state 96 = .ok (.iaload, 1) := dk_46 (dk_at dksX7_state_4 2 rfl rfl)
theorem dX7_state_97 : decode cX7_state 97 = .ok (.goto 4, 3) := dk_167 0 4 (dk_at dksX7_state_4 3 rfl rfl)
theorem dX7_state_100 : decode cX7_state 100 = .ok (.iconst 0, 1) := dk_3 (dk_at dksX7_state_4 6 rfl rfl)
theorem dX7_state_101 : decode cX7_state 101 = .ok (.iadd, 1) := dk_96 (dk_at dksX7_state_4 7 rfl rfl)
theorem dX7_state_102 : decode cX7_state 102 = .ok (.istore_n 3, 1) := dk_62 (dk_at dksX7_state_4 8 rfl rfl)
theorem dX7_state_103 : decode cX7_state 103 = .ok (.iinc 4 1, 3) := dk_132 4 1 (dk_at dksX7_state_4 9 rfl rfl)
theorem dX7_state_106 : decode cX7_state 106 = .ok (.goto (-56), 3) := dk_167 255 200 (dk_at dksX7_state_4 12 rfl rfl)
theorem dX7_state_109 : decode cX7_state 109 = .ok (.iload_n 3, 1) := dk_29 (dk_at dksX7_state_4 15 rfl rfl)
theorem dX7_state_110 : decode cX7_state 110 = .ok (.ireturn, 1) := dk_172 (dk_at dksX7_state_4 16 rfl rfl)
abbrev cX7_sold : ByteArray := prog_19_method_54_code
def yX7_sold : MethodName := ⟨RX7, "sold", "(III)Z"⟩
def dkwX7_sold_2 : List UInt8 := [79, 4, 172]
abbrev dktX7_sold_2 : List UInt8 := dkwX7_sold_2 ++ []
def dkwX7_sold_1 : List UInt8 := [29, 3, 17, 3, 232, 184, 0, 204, 154, 0, 5, 3, 172, 42, 180, 0, 52, 16, 10, 27, 104, 28, 96, 29]
abbrev dktX7_sold_1 : List UInt8 := dkwX7_sold_1 ++ dktX7_sold_2
def dkwX7_sold_0 : List UInt8 := [42, 3, 181, 0, 129, 27, 3, 6, 184, 0, 204, 153, 0, 24, 28, 3, 16, 9, 184, 0, 204, 153, 0, 14]
abbrev dktX7_sold_0 : List UInt8 := dkwX7_sold_0 ++ dktX7_sold_1
theorem dksX7_sold_0 : cX7_sold.data.toList.drop 0 = dktX7_sold_0 := by decide +kernel
theorem dksX7_sold_1 : cX7_sold.data.toList.drop 24 = dktX7_sold_1 := dk_seg dksX7_sold_0 24 rfl rfl
theorem dksX7_sold_2 : cX7_sold.data.toList.drop 48 = dktX7_sold_2 := dk_seg dksX7_sold_1 24 rfl rfl
theorem dX7_sold_0 : decode cX7_sold 0 = .ok (.aload_n 0, 1) := dk_42 (dk_at dksX7_sold_0 0 rfl rfl)
theorem dX7_sold_1 : decode cX7_sold 1 = .ok (.iconst 0, 1) := dk_3 (dk_at dksX7_sold_0 1 rfl rfl)
theorem dX7_sold_2 : decode cX7_sold 2 = .ok (.putfield 129, 3) := dk_181 0 129 (dk_at dksX7_sold_0 2 rfl rfl)
theorem dX7_sold_5 : decode cX7_sold 5 = .ok (.iload_n 1, 1) := dk_27 (dk_at dksX7_sold_0 5 rfl rfl)
theorem dX7_sold_6 : decode cX7_sold 6 = .ok (.iconst 0, 1) := dk_3 (dk_at dksX7_sold_0 6 rfl rfl)
theorem dX7_sold_7 : decode cX7_sold 7 = .ok (.iconst 3, 1) := dk_6 (dk_at dksX7_sold_0 7 rfl rfl)
theorem dX7_sold_8 : decode cX7_sold 8 = .ok (.invokestatic 204, 3) := dk_184 0 204 (dk_at dksX7_sold_0 8 rfl rfl)
theorem dX7_sold_11 : decode cX7_sold 11 = .ok (.ifCond .eq 24, 3) := dk_153 0 24 (dk_at dksX7_sold_0 11 rfl rfl)
theorem dX7_sold_14 : decode cX7_sold 14 = .ok (.iload_n 2, 1) := dk_28 (dk_at dksX7_sold_0 14 rfl rfl)
theorem dX7_sold_15 : decode cX7_sold 15 = .ok (.iconst 0, 1) := dk_3 (dk_at dksX7_sold_0 15 rfl rfl)
theorem dX7_sold_16 : decode cX7_sold 16 = .ok (.bipush 9, 2) := dk_16 9 (dk_at dksX7_sold_0 16 rfl rfl)
theorem dX7_sold_18 : decode cX7_sold 18 = .ok (.invokestatic 204, 3) := dk_184 0 204 (dk_at dksX7_sold_0 18 rfl rfl)
theorem dX7_sold_21 : decode cX7_sold 21 = .ok (.ifCond .eq 14, 3) := dk_153 0 14 (dk_at dksX7_sold_0 21 rfl rfl)
theorem dX7_sold_24 : decode cX7_sold 24 = .ok (.iload_n 3, 1) := dk_29 (dk_at dksX7_sold_1 0 rfl rfl)
theorem dX7_sold_25 : decode cX7_sold 25 = .ok (.iconst 0, 1) := dk_3 (dk_at dksX7_sold_1 1 rfl rfl)
theorem dX7_sold_26 : decode cX7_sold 26 = .ok (.sipush 1000, 3) := dk_17 3 232 (dk_at dksX7_sold_1 2 rfl rfl)
theorem dX7_sold_29 : decode cX7_sold 29 = .ok (.invokestatic 204, 3) := dk_184 0 204 (dk_at dksX7_sold_1 5 rfl rfl)
theorem dX7_sold_32 : decode cX7_sold 32 = .ok (.ifCond .ne 5, 3) := dk_154 0 5 (dk_at dksX7_sold_1 8 rfl rfl)
theorem dX7_sold_35 : decode cX7_sold 35 = .ok (.iconst 0, 1) := dk_3 (dk_at dksX7_sold_1 11 rfl rfl)
theorem dX7_sold_36 : decode cX7_sold 36 = .ok (.ireturn, 1) := dk_172 (dk_at dksX7_sold_1 12 rfl rfl)
theorem dX7_sold_37 : decode cX7_sold 37 = .ok (.aload_n 0, 1) := dk_42 (dk_at dksX7_sold_1 13 rfl rfl)
theorem dX7_sold_38 : decode cX7_sold 38 = .ok (.getfield 52, 3) := dk_180 0 52 (dk_at dksX7_sold_1 14 rfl rfl)
theorem dX7_sold_41 : decode cX7_sold 41 = .ok (.bipush 10, 2) := dk_16 10 (dk_at dksX7_sold_1 17 rfl rfl)
theorem dX7_sold_43 : decode cX7_sold 43 = .ok (.iload_n 1, 1) := dk_27 (dk_at dksX7_sold_1 19 rfl rfl)
theorem dX7_sold_44 : decode cX7_sold 44 = .ok (.imul, 1) := dk_104 (dk_at dksX7_sold_1 20 rfl rfl)
theorem dX7_sold_45 : decode cX7_sold 45 = .ok (.iload_n 2, 1) := dk_28 (dk_at dksX7_sold_1 21 rfl rfl)
theorem dX7_sold_46 : decode cX7_sold 46 = .ok (.iadd, 1) := dk_96 (dk_at dksX7_sold_1 22 rfl rfl)
theorem dX7_sold_47 : decode cX7_sold 47 = .ok (.iload_n 3, 1) := dk_29 (dk_at dksX7_sold_1 23 rfl rfl)
theorem dX7_sold_48 : decode cX7_sold 48 = .ok (.iastore, 1) := dk_79 (dk_at dksX7_sold_2 0 rfl rfl)
theorem dX7_sold_49 : decode cX7_sold 49 = .ok (.iconst 1, 1) := dk_4 (dk_at dksX7_sold_2 1 rfl rfl)
theorem dX7_sold_50 : decode cX7_sold 50 = .ok (.ireturn, 1) := dk_172 (dk_at dksX7_sold_2 2 rfl rfl)
abbrev cX7_own : ByteArray := prog_19_method_58_code
def yX7_own : MethodName := ⟨RX7, "own", "(IIII)I"⟩
def dkwX7_own_4 : List UInt8 := [21, 4, 6, 160, 0, 7, 4, 167, 0, 4, 2, 182, 1, 40, 172]
abbrev dktX7_own_4 : List UInt8 := dkwX7_own_4 ++ []
def dkwX7_own_3 : List UInt8 := [160, 0, 10, 42, 180, 1, 33, 167, 0, 30, 42, 27, 28, 21, 4, 5, 160, 0, 7, 3, 167, 0, 14]
abbrev dktX7_own_3 : List UInt8 := dkwX7_own_3 ++ dktX7_own_4
def dkwX7_own_2 : List UInt8 := [42, 27, 28, 29, 182, 1, 36, 21, 4, 154, 0, 10, 42, 180, 1, 30, 167, 0, 43, 21, 4, 4]
abbrev dktX7_own_2 : List UInt8 := dkwX7_own_2 ++ dktX7_own_3
def dkwX7_own_1 : List UInt8 := [29, 184, 0, 249, 153, 0, 13, 21, 4, 3, 7, 184, 0, 204, 154, 0, 5, 2, 172, 42, 29, 182, 1, 1]
abbrev dktX7_own_1 : List UInt8 := dkwX7_own_1 ++ dktX7_own_2
def dkwX7_own_0 : List UInt8 := [42, 3, 181, 0, 129, 27, 3, 6, 184, 0, 204, 153, 0, 30, 28, 3, 16, 9, 184, 0, 204, 153, 0, 20]
abbrev dktX7_own_0 : List UInt8 := dkwX7_own_0 ++ dktX7_own_1
theorem dksX7_own_0 : cX7_own.data.toList.drop 0 = dktX7_own_0 := by decide +kernel
theorem dksX7_own_1 : cX7_own.data.toList.drop 24 = dktX7_own_1 := dk_seg dksX7_own_0 24 rfl rfl
theorem dksX7_own_2 : cX7_own.data.toList.drop 48 = dktX7_own_2 := dk_seg dksX7_own_1 24 rfl rfl
theorem dksX7_own_3 : cX7_own.data.toList.drop 70 = dktX7_own_3 := dk_seg dksX7_own_2 22 rfl rfl
theorem dksX7_own_4 : cX7_own.data.toList.drop 93 = dktX7_own_4 := dk_seg dksX7_own_3 23 rfl rfl
theorem dX7_own_0 : decode cX7_own 0 = .ok (.aload_n 0, 1) := dk_42 (dk_at dksX7_own_0 0 rfl rfl)
theorem dX7_own_1 : decode cX7_own 1 = .ok (.iconst 0, 1) := dk_3 (dk_at dksX7_own_0 1 rfl rfl)
theorem dX7_own_2 : decode cX7_own 2 = .ok (.putfield 129, 3) := dk_181 0 129 (dk_at dksX7_own_0 2 rfl rfl)
theorem dX7_own_5 : decode cX7_own 5 = .ok (.iload_n 1, 1) := dk_27 (dk_at dksX7_own_0 5 rfl rfl)
theorem dX7_own_6 : decode cX7_own 6 = .ok (.iconst 0, 1) := dk_3 (dk_at dksX7_own_0 6 rfl rfl)
theorem dX7_own_7 : decode cX7_own 7 = .ok (.iconst 3, 1) := dk_6 (dk_at dksX7_own_0 7 rfl rfl)
theorem dX7_own_8 : decode cX7_own 8 = .ok (.invokestatic 204, 3) := dk_184 0 204 (dk_at dksX7_own_0 8 rfl rfl)
theorem dX7_own_11 : decode cX7_own 11 = .ok (.ifCond .eq 30, 3) := dk_153 0 30 (dk_at dksX7_own_0 11 rfl rfl)
theorem dX7_own_14 : decode cX7_own 14 = .ok (.iload_n 2, 1) := dk_28 (dk_at dksX7_own_0 14 rfl rfl)
theorem dX7_own_15 : decode cX7_own 15 = .ok (.iconst 0, 1) := dk_3 (dk_at dksX7_own_0 15 rfl rfl)
theorem dX7_own_16 : decode cX7_own 16 = .ok (.bipush 9, 2) := dk_16 9 (dk_at dksX7_own_0 16 rfl rfl)
theorem dX7_own_18 : decode cX7_own 18 = .ok (.invokestatic 204, 3) := dk_184 0 204 (dk_at dksX7_own_0 18 rfl rfl)
theorem dX7_own_21 : decode cX7_own 21 = .ok (.ifCond .eq 20, 3) := dk_153 0 20 (dk_at dksX7_own_0 21 rfl rfl)
theorem dX7_own_24 : decode cX7_own 24 = .ok (.iload_n 3, 1) := dk_29 (dk_at dksX7_own_1 0 rfl rfl)
theorem dX7_own_25 : decode cX7_own 25 = .ok (.invokestatic 249, 3) := dk_184 0 249 (dk_at dksX7_own_1 1 rfl rfl)
theorem dX7_own_28 : decode cX7_own 28 = .ok (.ifCond .eq 13, 3) := dk_153 0 13 (dk_at dksX7_own_1 4 rfl rfl)
theorem dX7_own_31 : decode cX7_own 31 = .ok (.iload 4, 2) := dk_21 4 (dk_at dksX7_own_1 7 rfl rfl)
theorem dX7_own_33 : decode cX7_own 33 = .ok (.iconst 0, 1) := dk_3 (dk_at dksX7_own_1 9 rfl rfl)
theorem dX7_own_34 : decode cX7_own 34 = .ok (.iconst 4, 1) := dk_7 (dk_at dksX7_own_1 10 rfl rfl)
theorem dX7_own_35 : decode cX7_own 35 = .ok (.invokestatic 204, 3) := dk_184 0 204 (dk_at dksX7_own_1 11 rfl rfl)
theorem dX7_own_38 : decode cX7_own 38 = .ok (.ifCond .ne 5, 3) := dk_154 0 5 (dk_at dksX7_own_1 14 rfl rfl)
theorem dX7_own_41 : decode cX7_own 41 = .ok (.iconst (-1), 1) := dk_2 (dk_at dksX7_own_1 17 rfl rfl)
theorem dX7_own_42 : decode cX7_own 42 = .ok (.ireturn, 1) := dk_172 (dk_at dksX7_own_1 18 rfl rfl)
theorem dX7_own_43 : decode cX7_own 43 = .ok (.aload_n 0, 1) := dk_42 (dk_at dksX7_own_1 19 rfl rfl)
theorem dX7_own_44 : decode cX7_own 44 = .ok (.iload_n 3, 1) := dk_29 (dk_at dksX7_own_1 20 rfl rfl)
theorem dX7_own_45 : decode cX7_own 45 = .ok (.invokevirtual 257, 3) := dk_182 1 1 (dk_at dksX7_own_1 21 rfl rfl)
theorem dX7_own_48 : decode cX7_own 48 = .ok (.aload_n 0, 1) := dk_42 (dk_at dksX7_own_2 0 rfl rfl)
theorem dX7_own_49 : decode cX7_own 49 = .ok (.iload_n 1, 1) := dk_27 (dk_at dksX7_own_2 1 rfl rfl)
theorem dX7_own_50 : decode cX7_own 50 = .ok (.iload_n 2, 1) := dk_28 (dk_at dksX7_own_2 2 rfl rfl)
theorem dX7_own_51 : decode cX7_own 51 = .ok (.iload_n 3, 1) := dk_29 (dk_at dksX7_own_2 3 rfl rfl)
theorem dX7_own_52 : decode cX7_own 52 = .ok (.invokevirtual 292, 3) := dk_182 1 36 (dk_at dksX7_own_2 4 rfl rfl)
theorem dX7_own_55 : decode cX7_own 55 = .ok (.iload 4, 2) := dk_21 4 (dk_at dksX7_own_2 7 rfl rfl)
theorem dX7_own_57 : decode cX7_own 57 = .ok (.ifCond .ne 10, 3) := dk_154 0 10 (dk_at dksX7_own_2 9 rfl rfl)
theorem dX7_own_60 : decode cX7_own 60 = .ok (.aload_n 0, 1) := dk_42 (dk_at dksX7_own_2 12 rfl rfl)
theorem dX7_own_61 : decode cX7_own 61 = .ok (.getfield 286, 3) := dk_180 1 30 (dk_at dksX7_own_2 13 rfl rfl)
theorem dX7_own_64 : decode cX7_own 64 = .ok (.goto 43, 3) := dk_167 0 43 (dk_at dksX7_own_2 16 rfl rfl)
theorem dX7_own_67 : decode cX7_own 67 = .ok (.iload 4, 2) := dk_21 4 (dk_at dksX7_own_2 19 rfl rfl)
theorem dX7_own_69 : decode cX7_own 69 = .ok (.iconst 1, 1) := dk_4 (dk_at dksX7_own_2 21 rfl rfl)
theorem dX7_own_70 : decode cX7_own 70 = .ok (.if_icmp .ne 10, 3) := dk_160 0 10 (dk_at dksX7_own_3 0 rfl rfl)
theorem dX7_own_73 : decode cX7_own 73 = .ok (.aload_n 0, 1) := dk_42 (dk_at dksX7_own_3 3 rfl rfl)
theorem dX7_own_74 : decode cX7_own 74 = .ok (.getfield 289, 3) := dk_180 1 33 (dk_at dksX7_own_3 4 rfl rfl)
theorem dX7_own_77 : decode cX7_own 77 = .ok (.goto 30, 3) := dk_167 0 30 (dk_at dksX7_own_3 7 rfl rfl)
theorem dX7_own_80 : decode cX7_own 80 = .ok (.aload_n 0, 1) := dk_42 (dk_at dksX7_own_3 10 rfl rfl)
theorem dX7_own_81 : decode cX7_own 81 = .ok (.iload_n 1, 1) := dk_27 (dk_at dksX7_own_3 11 rfl rfl)
theorem dX7_own_82 : decode cX7_own 82 = .ok (.iload_n 2, 1) := dk_28 (dk_at dksX7_own_3 12 rfl rfl)
theorem dX7_own_83 : decode cX7_own 83 = .ok (.iload 4, 2) := dk_21 4 (dk_at dksX7_own_3 13 rfl rfl)
theorem dX7_own_85 : decode cX7_own 85 = .ok (.iconst 2, 1) := dk_5 (dk_at dksX7_own_3 15 rfl rfl)
theorem dX7_own_86 : decode cX7_own 86 = .ok (.if_icmp .ne 7, 3) := dk_160 0 7 (dk_at dksX7_own_3 16 rfl rfl)
theorem dX7_own_89 : decode cX7_own 89 = .ok (.iconst 0, 1) := dk_3 (dk_at dksX7_own_3 19 rfl rfl)
theorem dX7_own_90 : decode cX7_own 90 = .ok (.goto 14, 3) := dk_167 0 14 (dk_at dksX7_own_3 20 rfl rfl)
theorem dX7_own_93 : decode cX7_own 93 = .ok (.iload 4, 2) := dk_21 4 (dk_at dksX7_own_4 0 rfl rfl)
theorem dX7_own_95 : decode cX7_own 95 = .ok (.iconst 3, 1) := dk_6 (dk_at dksX7_own_4 2 rfl rfl)
theorem dX7_own_96 : decode cX7_own 96 = .ok (.if_icmp .ne 7, 3) := dk_160 0 7 (dk_at dksX7_own_4 3 rfl rfl)
theorem dX7_own_99 : decode cX7_own 99 = .ok (.iconst 1, 1) := dk_4 (dk_at dksX7_own_4 6 rfl rfl)
theorem dX7_own_100 : decode cX7_own 100 = .ok (.goto 4, 3) := dk_167 0 4 (dk_at dksX7_own_4 7 rfl rfl)
theorem dX7_own_103 : decode cX7_own 103 = .ok (.iconst (-1), 1) := dk_2 (dk_at dksX7_own_4 10 rfl rfl)
theorem dX7_own_104 : decode cX7_own 104 = .ok (.invokevirtual 296, 3) := dk_182 1 40 (dk_at dksX7_own_4 11 rfl rfl)
theorem dX7_own_107 : decode cX7_own 107 = .ok (.ireturn, 1) := dk_172 (dk_at dksX7_own_4 14 rfl rfl)
abbrev cX7_years : ByteArray := prog_19_method_56_code
def yX7_years : MethodName := ⟨RX7, "years", "(III)V"⟩
def dkwX7_years_8 : List UInt8 := [177]
abbrev dktX7_years_8 : List UInt8 := dkwX7_years_8 ++ []
def dkwX7_years_7 : List UInt8 := [160, 0, 7, 4, 167, 0, 4, 3, 96, 181, 1, 33, 132, 5, 1, 167, 255, 123, 132, 4, 1, 167, 255, 88]
abbrev dktX7_years_7 : List UInt8 := dkwX7_years_7 ++ dktX7_years_8
def dkwX7_years_6 : List UInt8 := [180, 0, 96, 21, 4, 46, 21, 6, 159, 0, 17, 42, 180, 0, 96, 21, 4, 46, 21, 6, 4, 96]
abbrev dktX7_years_6 : List UInt8 := dkwX7_years_6 ++ dktX7_years_7
def dkwX7_years_5 : List UInt8 := [164, 0, 6, 167, 0, 53, 42, 89, 180, 1, 30, 4, 96, 181, 1, 30, 42, 89, 180, 1, 33, 42]
abbrev dktX7_years_5 : List UInt8 := dkwX7_years_5 ++ dktX7_years_6
def dkwX7_years_4 : List UInt8 := [29, 163, 0, 79, 42, 180, 0, 96, 21, 4, 46, 2, 159, 0, 18, 21, 6, 42, 180, 0, 96, 21, 4, 46]
abbrev dktX7_years_4 : List UInt8 := dkwX7_years_4 ++ dktX7_years_5
def dkwX7_years_3 : List UInt8 := [162, 0, 110, 42, 180, 0, 13, 21, 4, 46, 5, 21, 5, 104, 96, 54, 6, 21, 6, 155, 0, 85, 21, 6]
abbrev dktX7_years_3 : List UInt8 := dkwX7_years_3 ++ dktX7_years_4
def dkwX7_years_2 : List UInt8 := [160, 0, 14, 21, 5, 17, 0, 130, 162, 0, 125, 167, 0, 15, 21, 5, 16, 10, 28, 104, 16, 10, 96]
abbrev dktX7_years_2 : List UInt8 := dkwX7_years_2 ++ dktX7_years_3
def dkwX7_years_1 : List UInt8 := [180, 0, 16, 21, 4, 46, 27, 159, 0, 6, 167, 0, 145, 16, 10, 28, 104, 54, 5, 28, 16, 9]
abbrev dktX7_years_1 : List UInt8 := dkwX7_years_1 ++ dktX7_years_2
def dkwX7_years_0 : List UInt8 := [42, 3, 181, 1, 30, 42, 3, 181, 1, 33, 3, 54, 4, 21, 4, 42, 180, 0, 211, 162, 0, 165, 42]
abbrev dktX7_years_0 : List UInt8 := dkwX7_years_0 ++ dktX7_years_1
theorem dksX7_years_0 : cX7_years.data.toList.drop 0 = dktX7_years_0 := by decide +kernel
theorem dksX7_years_1 : cX7_years.data.toList.drop 23 = dktX7_years_1 := dk_seg dksX7_years_0 23 rfl rfl
theorem dksX7_years_2 : cX7_years.data.toList.drop 45 = dktX7_years_2 := dk_seg dksX7_years_1 22 rfl rfl
theorem dksX7_years_3 : cX7_years.data.toList.drop 68 = dktX7_years_3 := dk_seg dksX7_years_2 23 rfl rfl
theorem dksX7_years_4 : cX7_years.data.toList.drop 92 = dktX7_years_4 := dk_seg dksX7_years_3 24 rfl rfl
theorem dksX7_years_5 : cX7_years.data.toList.drop 116 = dktX7_years_5 := dk_seg dksX7_years_4 24 rfl rfl
theorem dksX7_years_6 : cX7_years.data.toList.drop 138 = dktX7_years_6 := dk_seg dksX7_years_5 22 rfl rfl
theorem dksX7_years_7 : cX7_years.data.toList.drop 160 = dktX7_years_7 := dk_seg dksX7_years_6 22 rfl rfl
theorem dksX7_years_8 : cX7_years.data.toList.drop 184 = dktX7_years_8 := dk_seg dksX7_years_7 24 rfl rfl
theorem dX7_years_0 : decode cX7_years 0 = .ok (.aload_n 0, 1) := dk_42 (dk_at dksX7_years_0 0 rfl rfl)
theorem dX7_years_1 : decode cX7_years 1 = .ok (.iconst 0, 1) := dk_3 (dk_at dksX7_years_0 1 rfl rfl)
theorem dX7_years_2 : decode cX7_years 2 = .ok (.putfield 286, 3) := dk_181 1 30 (dk_at dksX7_years_0 2 rfl rfl)
theorem dX7_years_5 : decode cX7_years 5 = .ok (.aload_n 0, 1) := dk_42 (dk_at dksX7_years_0 5 rfl rfl)
theorem dX7_years_6 : decode cX7_years 6 = .ok (.iconst 0, 1) := dk_3 (dk_at dksX7_years_0 6 rfl rfl)
theorem dX7_years_7 : decode cX7_years 7 = .ok (.putfield 289, 3) := dk_181 1 33 (dk_at dksX7_years_0 7 rfl rfl)
theorem dX7_years_10 : decode cX7_years 10 = .ok (.iconst 0, 1) := dk_3 (dk_at dksX7_years_0 10 rfl rfl)
theorem dX7_years_11 : decode cX7_years 11 = .ok (.istore 4, 2) := dk_54 4 (dk_at dksX7_years_0 11 rfl rfl)
theorem dX7_years_13 : decode cX7_years 13 = .ok (.iload 4, 2) := dk_21 4 (dk_at dksX7_years_0 13 rfl rfl)
theorem dX7_years_15 : decode cX7_years 15 = .ok (.aload_n 0, 1) := dk_42 (dk_at dksX7_years_0 15 rfl rfl)
theorem dX7_years_16 : decode cX7_years 16 = .ok (.getfield 211, 3) := dk_180 0 211 (dk_at dksX7_years_0 16 rfl rfl)
theorem dX7_years_19 : decode cX7_years 19 = .ok (.if_icmp .ge 165, 3) := dk_162 0 165 (dk_at dksX7_years_0 19 rfl rfl)
theorem dX7_years_22 : decode cX7_years 22 = .ok (.aload_n 0, 1) := dk_42 (dk_at dksX7_years_0 22 rfl rfl)
theorem dX7_years_23 : decode cX7_years 23 = .ok (.getfield 16, 3) := dk_180 0 16 (dk_at dksX7_years_1 0 rfl rfl)
theorem dX7_years_26 : decode cX7_years 26 = .ok (.iload 4, 2) := dk_21 4 (dk_at dksX7_years_1 3 rfl rfl)
theorem dX7_years_28 : decode cX7_years 28 = .ok (.iaload, 1) := dk_46 (dk_at dksX7_years_1 5 rfl rfl)
theorem dX7_years_29 : decode cX7_years 29 = .ok (.iload_n 1, 1) := dk_27 (dk_at dksX7_years_1 6 rfl rfl)
theorem dX7_years_30 : decode cX7_years 30 = .ok (.if_icmp .eq 6, 3) := dk_159 0 6 (dk_at dksX7_years_1 7 rfl rfl)
theorem dX7_years_33 : decode cX7_years 33 = .ok (.goto 145, 3) := dk_167 0 145 (dk_at dksX7_years_1 10 rfl rfl)
theorem dX7_years_36 : decode cX7_years 36 = .ok (.bipush 10, 2) := dk_16 10 (dk_at dksX7_years_1 13 rfl rfl)
theorem dX7_years_38 : decode cX7_years 38 = .ok (.iload_n 2, 1) := dk_28 (dk_at dksX7_years_1 15 rfl rfl)
theorem dX7_years_39 : decode cX7_years 39 = .ok (.imul, 1) := dk_104 (dk_at dksX7_years_1 16 rfl rfl)
theorem dX7_years_40 : decode cX7_years 40 = .ok (.istore 5, 2) := dk_54 5 (dk_at dksX7_years_1 17 rfl rfl)
theorem dX7_years_42 : decode cX7_years 42 = .ok (.iload_n 2, 1) := dk_28 (dk_at dksX7_years_1 19 rfl rfl)
theorem dX7_years_43 : decode cX7_years 43 = .ok (.bipush 9, 2) := dk_16 9 (dk_at dksX7_years_1 20 rfl rfl)
theorem dX7_years_45 : decode cX7_years 45 = .ok (.if_icmp .ne 14, 3) := dk_160 0 14 (dk_at dksX7_years_2 0 rfl rfl)
theorem dX7_years_48 : decode cX7_years 48 = .ok (.iload 5, 2) := dk_21 5 (dk_at dksX7_years_2 3 rfl rfl)
theorem dX7_years_50 : decode cX7_years 50 = .ok (.sipush 130, 3) := dk_17 0 130 (dk_at dksX7_years_2 5 rfl rfl)
theorem dX7_years_53 : decode cX7_years 53 = .ok (.if_icmp .ge 125, 3) := dk_162 0 125 (dk_at dksX7_years_2 8 rfl rfl)
theorem dX7_years_56 : decode cX7_years 56 = .ok (.goto 15, 3) := dk_167 0 15 (dk_at dksX7_years_2 11 rfl rfl)
theorem dX7_years_59 : decode cX7_years 59 = .ok (.iload 5, 2) := dk_21 5 (dk_at dksX7_years_2 14 rfl rfl)
theorem dX7_years_61 : decode cX7_years 61 = .ok (.bipush 10, 2) := dk_16 10 (dk_at dksX7_years_2 16 rfl rfl)
theorem dX7_years_63 : decode cX7_years 63 = .ok (.iload_n 2, 1) := dk_28 (dk_at dksX7_years_2 18 rfl rfl)
theorem dX7_years_64 : decode cX7_years 64 = .ok (.imul, 1) := dk_104 (dk_at dksX7_years_2 19 rfl rfl)
theorem dX7_years_65 : decode cX7_years 65 = .ok (.bipush 10, 2) := dk_16 10 (dk_at dksX7_years_2 20 rfl rfl)
theorem dX7_years_67 : decode cX7_years 67 = .ok (.iadd, 1) := dk_96 (dk_at dksX7_years_2 22 rfl rfl)
theorem dX7_years_68 : decode cX7_years 68 = .ok (.if_icmp .ge 110, 3) := dk_162 0 110 (dk_at dksX7_years_3 0 rfl rfl)
theorem dX7_years_71 : decode cX7_years 71 = .ok (.aload_n 0, 1) := dk_42 (dk_at dksX7_years_3 3 rfl rfl)
theorem dX7_years_72 : decode cX7_years 72 = .ok (.getfield 13, 3) := dk_180 0 13 (dk_at dksX7_years_3 4 rfl rfl)
theorem dX7_years_75 : decode cX7_years 75 = .ok (.iload 4, 2) := dk_21 4 (dk_at dksX7_years_3 7 rfl rfl)
theorem dX7_years_77 : decode cX7_years 77 = .ok (.iaload, 1) := dk_46 (dk_at dksX7_years_3 9 rfl rfl)
theorem dX7_years_78 : decode cX7_years 78 = .ok (.iconst 2, 1) := dk_5 (dk_at dksX7_years_3 10 rfl rfl)
theorem dX7_years_79 : decode cX7_years 79 = .ok (.iload 5, 2) := dk_21 5 (dk_at dksX7_years_3 11 rfl rfl)
theorem dX7_years_81 : decode cX7_years 81 = .ok (.imul, 1) := dk_104 (dk_at dksX7_years_3 13 rfl rfl)
theorem dX7_years_82 : decode cX7_years 82 = .ok (.iadd, 1) := dk_96 (dk_at dksX7_years_3 14 rfl rfl)
theorem dX7_years_83 : decode cX7_years 83 = .ok (.istore 6, 2) := dk_54 6 (dk_at dksX7_years_3 15 rfl rfl)
theorem dX7_years_85 : decode cX7_years 85 = .ok (.iload 6, 2) := dk_21 6 (dk_at dksX7_years_3 17 rfl rfl)
theorem dX7_years_87 : decode cX7_years 87 = .ok (.ifCond .lt 85, 3) := dk_155 0 85 (dk_at dksX7_years_3 19 rfl rfl)
theorem dX7_years_90 : decode cX7_years 90 = .ok (.iload 6, 2) := dk_21 6 (dk_at dksX7_years_3 22 rfl rfl)
theorem dX7_years_92 : decode cX7_years 92 = .ok (.iload_n 3, 1) := dk_29 (dk_at dksX7_years_4 0 rfl rfl)
theorem dX7_years_93 : decode cX7_years 93 = .ok (.if_icmp .gt 79, 3) := dk_163 0 79 (dk_at dksX7_years_4 1 rfl rfl)
theorem dX7_years_96 : decode cX7_years 96 = .ok (.aload_n 0, 1) := dk_42 (dk_at dksX7_years_4 4 rfl rfl)
theorem dX7_years_97 : decode cX7_years 97 = .ok (.getfield 96, 3) := dk_180 0 96 (dk_at dksX7_years_4 5 rfl rfl)
theorem dX7_years_100 : decode cX7_years 100 = .ok (.iload 4, 2) := dk_21 4 (dk_at dksX7_years_4 8 rfl rfl)
theorem dX7_years_102 : decode cX7_years 102 = .ok (.iaload, 1) := dk_46 (dk_at dksX7_years_4 10 rfl rfl)
theorem dX7_years_103 : decode cX7_years 103 = .ok (.iconst (-1), 1) := dk_2 (dk_at dksX7_years_4 11 rfl rfl)
theorem dX7_years_104 : decode cX7_years 104 = .ok (.if_icmp .eq 18, 3) := dk_159 0 18 (dk_at dksX7_years_4 12 rfl rfl)
theorem dX7_years_107 : decode cX7_years 107 = .ok (.iload 6, 2) := dk_21 6 (dk_at dksX7_years_4 15 rfl rfl)
theorem dX7_years_109 : decode cX7_years 109 = .ok (.aload_n 0, 1) := dk_42 (dk_at dksX7_years_4 17 rfl rfl)
theorem dX7_years_110 : decode cX7_years 110 = .ok (.getfield 96, 3) := dk_180 0 96 (dk_at dksX7_years_4 18 rfl rfl)
theorem dX7_years_113 : decode cX7_years 113 = .ok (.iload 4, 2) := dk_21 4 (dk_at dksX7_years_4 21 rfl rfl)
theorem dX7_years_115 : decode cX7_years 115 = .ok (.iaload, 1) := dk_46 (dk_at dksX7_years_4 23 rfl rfl)
theorem dX7_years_116 : decode cX7_years 116 = .ok (.if_icmp .le 6, 3) := dk_164 0 6 (dk_at dksX7_years_5 0 rfl rfl)
theorem dX7_years_119 : decode cX7_years 119 = .ok (.goto 53, 3) := dk_167 0 53 (dk_at dksX7_years_5 3 rfl rfl)
theorem dX7_years_122 : decode cX7_years 122 = .ok (.aload_n 0, 1) := dk_42 (dk_at dksX7_years_5 6 rfl rfl)
theorem dX7_years_123 : decode cX7_years 123 = .ok (.dup, 1) := dk_89 (dk_at dksX7_years_5 7 rfl rfl)
theorem dX7_years_124 : decode cX7_years 124 = .ok (.getfield 286, 3) := dk_180 1 30 (dk_at dksX7_years_5 8 rfl rfl)
theorem dX7_years_127 : decode cX7_years 127 = .ok (.iconst 1, 1) := dk_4 (dk_at dksX7_years_5 11 rfl rfl)
theorem dX7_years_128 : decode cX7_years 128 = .ok (.iadd, 1) := dk_96 (dk_at dksX7_years_5 12 rfl rfl)
theorem dX7_years_129 : decode cX7_years 129 = .ok (.putfield 286, 3) := dk_181 1 30 (dk_at dksX7_years_5 13 rfl rfl)
theorem dX7_years_132 : decode cX7_years 132 = .ok (.aload_n 0, 1) := dk_42 (dk_at dksX7_years_5 16 rfl rfl)
theorem dX7_years_133 : decode cX7_years 133 = .ok (.dup, 1) := dk_89 (dk_at dksX7_years_5 17 rfl rfl)
theorem dX7_years_134 : decode cX7_years 134 = .ok (.getfield 289, 3) := dk_180 1 33 (dk_at dksX7_years_5 18 rfl rfl)
theorem dX7_years_137 : decode cX7_years 137 = .ok (.aload_n 0, 1) := dk_42 (dk_at dksX7_years_5 21 rfl rfl)
theorem dX7_years_138 : decode cX7_years 138 = .ok (.getfield 96, 3) := dk_180 0 96 (dk_at dksX7_years_6 0 rfl rfl)
theorem dX7_years_141 : decode cX7_years 141 = .ok (.iload 4, 2) := dk_21 4 (dk_at dksX7_years_6 3 rfl rfl)
theorem dX7_years_143 : decode cX7_years 143 = .ok (.iaload, 1) := dk_46 (dk_at dksX7_years_6 5 rfl rfl)
theorem dX7_years_144 : decode cX7_years 144 = .ok (.iload 6, 2) := dk_21 6 (dk_at dksX7_years_6 6 rfl rfl)
theorem dX7_years_146 : decode cX7_years 146 = .ok (.if_icmp .eq 17, 3) := dk_159 0 17 (dk_at dksX7_years_6 8 rfl rfl)
theorem dX7_years_149 : decode cX7_years 149 = .ok (.aload_n 0, 1) := dk_42 (dk_at dksX7_years_6 11 rfl rfl)
theorem dX7_years_150 : decode cX7_years 150 = .ok (.getfield 96, 3) := dk_180 0 96 (dk_at dksX7_years_6 12 rfl rfl)
theorem dX7_years_153 : decode cX7_years 153 = .ok (.iload 4, 2) := dk_21 4 (dk_at dksX7_years_6 15 rfl rfl)
theorem dX7_years_155 : decode cX7_years 155 = .ok (.iaload, 1) := dk_46 (dk_at dksX7_years_6 17 rfl rfl)
theorem dX7_years_156 : decode cX7_years 156 = .ok (.iload 6, 2) := dk_21 6 (dk_at dksX7_years_6 18 rfl rfl)
theorem dX7_years_158 : decode cX7_years 158 = .ok (.iconst 1, 1) := dk_4 (dk_at dksX7_years_6 20 rfl rfl)
theorem dX7_years_159 : decode cX7_years 159 = .ok (.iadd, 1) := dk_96 (dk_at dksX7_years_6 21 rfl rfl)
theorem dX7_years_160 : decode cX7_years 160 = .ok (.if_icmp .ne 7, 3) := dk_160 0 7 (dk_at dksX7_years_7 0 rfl rfl)
theorem dX7_years_163 : decode cX7_years 163 = .ok (.iconst 1, 1) := dk_4 (dk_at dksX7_years_7 3 rfl rfl)
theorem dX7_years_164 : decode cX7_years 164 = .ok (.goto 4, 3) := dk_167 0 4 (dk_at dksX7_years_7 4 rfl rfl)
theorem dX7_years_167 : decode cX7_years 167 = .ok (.iconst 0, 1) := dk_3 (dk_at dksX7_years_7 7 rfl rfl)
theorem dX7_years_168 : decode cX7_years 168 = .ok (.iadd, 1) := dk_96 (dk_at dksX7_years_7 8 rfl rfl)
theorem dX7_years_169 : decode cX7_years 169 = .ok (.putfield 289, 3) := dk_181 1 33 (dk_at dksX7_years_7 9 rfl rfl)
theorem dX7_years_172 : decode cX7_years 172 = .ok (.iinc 5 1, 3) := dk_132 5 1 (dk_at dksX7_years_7 12 rfl rfl)
theorem dX7_years_175 : decode cX7_years 175 = .ok (.goto (-133), 3) := dk_167 255 123 (dk_at dksX7_years_7 15 rfl rfl)
theorem dX7_years_178 : decode cX7_years 178 = .ok (.iinc 4 1, 3) := dk_132 4 1 (dk_at dksX7_years_7 18 rfl rfl)
theorem dX7_years_181 : decode cX7_years 181 = .ok (.goto (-168), 3) := dk_167 255 88 (dk_at dksX7_years_7 21 rfl rfl)
theorem dX7_years_184 : decode cX7_years 184 = .ok (.return_, 1) := dk_177 (dk_at dksX7_years_8 0 rfl rfl)
abbrev cX7_lived : ByteArray := prog_19_method_57_code
def yX7_lived : MethodName := ⟨RX7, "lived", "(III)I"⟩
def dkwX7_lived_3 : List UInt8 := [180, 1, 30, 108, 172]
abbrev dktX7_lived_3 : List UInt8 := dkwX7_lived_3 ++ []
def dkwX7_lived_2 : List UInt8 := [180, 1, 30, 167, 0, 5, 21, 4, 54, 4, 17, 3, 232, 42, 180, 1, 30, 21, 4, 100, 104, 42]
abbrev dktX7_lived_2 : List UInt8 := dkwX7_lived_2 ++ dktX7_lived_3
def dkwX7_lived_1 : List UInt8 := [96, 54, 4, 21, 4, 156, 0, 7, 3, 167, 0, 21, 21, 4, 42, 180, 1, 30, 164, 0, 10, 42]
abbrev dktX7_lived_1 : List UInt8 := dkwX7_lived_1 ++ dktX7_lived_2
def dkwX7_lived_0 : List UInt8 := [42, 180, 1, 30, 154, 0, 15, 42, 180, 0, 52, 16, 10, 27, 104, 28, 96, 46, 172, 42, 180, 1, 33, 29]
abbrev dktX7_lived_0 : List UInt8 := dkwX7_lived_0 ++ dktX7_lived_1
theorem dksX7_lived_0 : cX7_lived.data.toList.drop 0 = dktX7_lived_0 := by decide +kernel
theorem dksX7_lived_1 : cX7_lived.data.toList.drop 24 = dktX7_lived_1 := dk_seg dksX7_lived_0 24 rfl rfl
theorem dksX7_lived_2 : cX7_lived.data.toList.drop 46 = dktX7_lived_2 := dk_seg dksX7_lived_1 22 rfl rfl
theorem dksX7_lived_3 : cX7_lived.data.toList.drop 68 = dktX7_lived_3 := dk_seg dksX7_lived_2 22 rfl rfl
theorem dX7_lived_0 : decode cX7_lived 0 = .ok (.aload_n 0, 1) := dk_42 (dk_at dksX7_lived_0 0 rfl rfl)
theorem dX7_lived_1 : decode cX7_lived 1 = .ok (.getfield 286, 3) := dk_180 1 30 (dk_at dksX7_lived_0 1 rfl rfl)
theorem dX7_lived_4 : decode cX7_lived 4 = .ok (.ifCond .ne 15, 3) := dk_154 0 15 (dk_at dksX7_lived_0 4 rfl rfl)
theorem dX7_lived_7 : decode cX7_lived 7 = .ok (.aload_n 0, 1) := dk_42 (dk_at dksX7_lived_0 7 rfl rfl)
theorem dX7_lived_8 : decode cX7_lived 8 = .ok (.getfield 52, 3) := dk_180 0 52 (dk_at dksX7_lived_0 8 rfl rfl)
theorem dX7_lived_11 : decode cX7_lived 11 = .ok (.bipush 10, 2) := dk_16 10 (dk_at dksX7_lived_0 11 rfl rfl)
theorem dX7_lived_13 : decode cX7_lived 13 = .ok (.iload_n 1, 1) := dk_27 (dk_at dksX7_lived_0 13 rfl rfl)
theorem dX7_lived_14 : decode cX7_lived 14 = .ok (.imul, 1) := dk_104 (dk_at dksX7_lived_0 14 rfl rfl)
theorem dX7_lived_15 : decode cX7_lived 15 = .ok (.iload_n 2, 1) := dk_28 (dk_at dksX7_lived_0 15 rfl rfl)
theorem dX7_lived_16 : decode cX7_lived 16 = .ok (.iadd, 1) := dk_96 (dk_at dksX7_lived_0 16 rfl rfl)
theorem dX7_lived_17 : decode cX7_lived 17 = .ok (.iaload, 1) := dk_46 (dk_at dksX7_lived_0 17 rfl rfl)
theorem dX7_lived_18 : decode cX7_lived 18 = .ok (.ireturn, 1) := dk_172 (dk_at dksX7_lived_0 18 rfl rfl)
theorem dX7_lived_19 : decode cX7_lived 19 = .ok (.aload_n 0, 1) := dk_42 (dk_at dksX7_lived_0 19 rfl rfl)
theorem dX7_lived_20 : decode cX7_lived 20 = .ok (.getfield 289, 3) := dk_180 1 33 (dk_at dksX7_lived_0 20 rfl rfl)
theorem dX7_lived_23 : decode cX7_lived 23 = .ok (.iload_n 3, 1) := dk_29 (dk_at dksX7_lived_0 23 rfl rfl)
theorem dX7_lived_24 : decode cX7_lived 24 = .ok (.iadd, 1) := dk_96 (dk_at dksX7_lived_1 0 rfl rfl)
theorem dX7_lived_25 : decode cX7_lived 25 = .ok (.istore 4, 2) := dk_54 4 (dk_at dksX7_lived_1 1 rfl rfl)
theorem dX7_lived_27 : decode cX7_lived 27 = .ok (.iload 4, 2) := dk_21 4 (dk_at dksX7_lived_1 3 rfl rfl)
theorem dX7_lived_29 : decode cX7_lived 29 = .ok (.ifCond .ge 7, 3) := dk_156 0 7 (dk_at dksX7_lived_1 5 rfl rfl)
theorem dX7_lived_32 : decode cX7_lived 32 = .ok (.iconst 0, 1) := dk_3 (dk_at dksX7_lived_1 8 rfl rfl)
theorem dX7_lived_33 : decode cX7_lived 33 = .ok (.goto 21, 3) := dk_167 0 21 (dk_at dksX7_lived_1 9 rfl rfl)
theorem dX7_lived_36 : decode cX7_lived 36 = .ok (.iload 4, 2) := dk_21 4 (dk_at dksX7_lived_1 12 rfl rfl)
theorem dX7_lived_38 : decode cX7_lived 38 = .ok (.aload_n 0, 1) := dk_42 (dk_at dksX7_lived_1 14 rfl rfl)
theorem dX7_lived_39 : decode cX7_lived 39 = .ok (.getfield 286, 3) := dk_180 1 30 (dk_at dksX7_lived_1 15 rfl rfl)
theorem dX7_lived_42 : decode cX7_lived 42 = .ok (.if_icmp .le 10, 3) := dk_164 0 10 (dk_at dksX7_lived_1 18 rfl rfl)
theorem dX7_lived_45 : decode cX7_lived 45 = .ok (.aload_n 0, 1) := dk_42 (dk_at dksX7_lived_1 21 rfl rfl)
theorem dX7_lived_46 : decode cX7_lived 46 = .ok (.getfield 286, 3) := dk_180 1 30 (dk_at dksX7_lived_2 0 rfl rfl)
theorem dX7_lived_49 : decode cX7_lived 49 = .ok (.goto 5, 3) := dk_167 0 5 (dk_at dksX7_lived_2 3 rfl rfl)
theorem dX7_lived_52 : decode cX7_lived 52 = .ok (.iload 4, 2) := dk_21 4 (dk_at dksX7_lived_2 6 rfl rfl)
theorem dX7_lived_54 : decode cX7_lived 54 = .ok (.istore 4, 2) := dk_54 4 (dk_at dksX7_lived_2 8 rfl rfl)
theorem dX7_lived_56 : decode cX7_lived 56 = .ok (.sipush 1000, 3) := dk_17 3 232 (dk_at dksX7_lived_2 10 rfl rfl)
theorem dX7_lived_59 : decode cX7_lived 59 = .ok (.aload_n 0, 1) := dk_42 (dk_at dksX7_lived_2 13 rfl rfl)
theorem dX7_lived_60 : decode cX7_lived 60 = .ok (.getfield 286, 3) := dk_180 1 30 (dk_at dksX7_lived_2 14 rfl rfl)
theorem dX7_lived_63 : decode cX7_lived 63 = .ok (.iload 4, 2) := dk_21 4 (dk_at dksX7_lived_2 17 rfl rfl)
theorem dX7_lived_65 : decode cX7_lived 65 = .ok (.isub, 1) := dk_100 (dk_at dksX7_lived_2 19 rfl rfl)
theorem dX7_lived_66 : decode cX7_lived 66 = .ok (.imul, 1) := dk_104 (dk_at dksX7_lived_2 20 rfl rfl)
theorem dX7_lived_67 : decode cX7_lived 67 = .ok (.aload_n 0, 1) := dk_42 (dk_at dksX7_lived_2 21 rfl rfl)
theorem dX7_lived_68 : decode cX7_lived 68 = .ok (.getfield 286, 3) := dk_180 1 30 (dk_at dksX7_lived_3 0 rfl rfl)
theorem dX7_lived_71 : decode cX7_lived 71 = .ok (.idiv, 1) := dk_108 (dk_at dksX7_lived_3 3 rfl rfl)
theorem dX7_lived_72 : decode cX7_lived 72 = .ok (.ireturn, 1) := dk_172 (dk_at dksX7_lived_3 4 rfl rfl)
abbrev cX7_worth : ByteArray := prog_19_method_65_code
def yX7_worth : MethodName := ⟨RX7, "worth", "(III)I"⟩
def dkwX7_worth_3 : List UInt8 := [164, 0, 5, 2, 172, 42, 29, 182, 1, 58, 42, 27, 28, 182, 1, 61, 172]
abbrev dktX7_worth_3 : List UInt8 := dkwX7_worth_3 ++ []
def dkwX7_worth_2 : List UInt8 := [182, 0, 214, 16, 99, 163, 0, 22, 28, 2, 159, 0, 19, 42, 28, 42, 180, 0, 208, 182, 0, 214, 16, 99]
abbrev dktX7_worth_2 : List UInt8 := dkwX7_worth_2 ++ dktX7_worth_3
def dkwX7_worth_1 : List UInt8 := [153, 0, 50, 27, 28, 159, 0, 45, 29, 3, 6, 184, 0, 204, 153, 0, 36, 42, 27, 42, 180, 0, 208]
abbrev dktX7_worth_1 : List UInt8 := dkwX7_worth_1 ++ dktX7_worth_2
def dkwX7_worth_0 : List UInt8 := [42, 3, 181, 0, 129, 42, 27, 182, 0, 221, 153, 0, 63, 28, 2, 159, 0, 16, 42, 28, 182, 0, 221]
abbrev dktX7_worth_0 : List UInt8 := dkwX7_worth_0 ++ dktX7_worth_1
theorem dksX7_worth_0 : cX7_worth.data.toList.drop 0 = dktX7_worth_0 := by decide +kernel
theorem dksX7_worth_1 : cX7_worth.data.toList.drop 23 = dktX7_worth_1 := dk_seg dksX7_worth_0 23 rfl rfl
theorem dksX7_worth_2 : cX7_worth.data.toList.drop 46 = dktX7_worth_2 := dk_seg dksX7_worth_1 23 rfl rfl
theorem dksX7_worth_3 : cX7_worth.data.toList.drop 70 = dktX7_worth_3 := dk_seg dksX7_worth_2 24 rfl rfl
theorem dX7_worth_0 : decode cX7_worth 0 = .ok (.aload_n 0, 1) := dk_42 (dk_at dksX7_worth_0 0 rfl rfl)
theorem dX7_worth_1 : decode cX7_worth 1 = .ok (.iconst 0, 1) := dk_3 (dk_at dksX7_worth_0 1 rfl rfl)
theorem dX7_worth_2 : decode cX7_worth 2 = .ok (.putfield 129, 3) := dk_181 0 129 (dk_at dksX7_worth_0 2 rfl rfl)
theorem dX7_worth_5 : decode cX7_worth 5 = .ok (.aload_n 0, 1) := dk_42 (dk_at dksX7_worth_0 5 rfl rfl)
theorem dX7_worth_6 : decode cX7_worth 6 = .ok (.iload_n 1, 1) := dk_27 (dk_at dksX7_worth_0 6 rfl rfl)
theorem dX7_worth_7 : decode cX7_worth 7 = .ok (.invokevirtual 221, 3) := dk_182 0 221 (dk_at dksX7_worth_0 7 rfl rfl)
theorem dX7_worth_10 : decode cX7_worth 10 = .ok (.ifCond .eq 63, 3) := dk_153 0 63 (dk_at dksX7_worth_0 10 rfl rfl)
theorem dX7_worth_13 : decode cX7_worth 13 = .ok (.iload_n 2, 1) := dk_28 (dk_at dksX7_worth_0 13 rfl rfl)
theorem dX7_worth_14 : decode cX7_worth 14 = .ok (.iconst (-1), 1) := dk_2 (dk_at dksX7_worth_0 14 rfl rfl)
theorem dX7_worth_15 : decode cX7_worth 15 = .ok (.if_icmp .eq 16, 3) := dk_159 0 16 (dk_at dksX7_worth_0 15 rfl rfl)
theorem dX7_worth_18 : decode cX7_worth 18 = .ok (.aload_n 0, 1) := dk_42 (dk_at dksX7_worth_0 18 rfl rfl)
theorem dX7_worth_19 : decode cX7_worth 19 = .ok (.iload_n 2, 1) := dk_28 (dk_at dksX7_worth_0 19 rfl rfl)
theorem dX7_worth_20 : decode cX7_worth 20 = .ok (.invokevirtual 221, 3) := dk_182 0 221 (dk_at dksX7_worth_0 20 rfl rfl)
theorem dX7_worth_23 : decode cX7_worth 23 = .ok (.ifCond .eq 50, 3) := dk_153 0 50 (dk_at dksX7_worth_1 0 rfl rfl)
theorem dX7_worth_26 : decode cX7_worth 26 = .ok (.iload_n 1, 1) := dk_27 (dk_at dksX7_worth_1 3 rfl rfl)
theorem dX7_worth_27 : decode cX7_worth 27 = .ok (.iload_n 2, 1) := dk_28 (dk_at dksX7_worth_1 4 rfl rfl)
theorem dX7_worth_28 : decode cX7_worth 28 = .ok (.if_icmp .eq 45, 3) := dk_159 0 45 (dk_at dksX7_worth_1 5 rfl rfl)
theorem dX7_worth_31 : decode cX7_worth 31 = .ok (.iload_n 3, 1) := dk_29 (dk_at dksX7_worth_1 8 rfl rfl)
theorem dX7_worth_32 : decode cX7_worth 32 = .ok (.iconst 0, 1) := dk_3 (dk_at dksX7_worth_1 9 rfl rfl)
theorem dX7_worth_33 : decode cX7_worth 33 = .ok (.iconst 3, 1) := dk_6 (dk_at dksX7_worth_1 10 rfl rfl)
theorem dX7_worth_34 : decode cX7_worth 34 = .ok (.invokestatic 204, 3) := dk_184 0 204 (dk_at dksX7_worth_1 11 rfl rfl)
theorem dX7_worth_37 : decode cX7_worth 37 = .ok (.ifCond .eq 36, 3) := dk_153 0 36 (dk_at dksX7_worth_1 14 rfl rfl)
theorem dX7_worth_40 : decode cX7_worth 40 = .ok (.aload_n 0, 1) := dk_42 (dk_at dksX7_worth_1 17 rfl rfl)
theorem dX7_worth_41 : decode cX7_worth 41 = .ok (.iload_n 1, 1) := dk_27 (dk_at dksX7_worth_1 18 rfl rfl)
theorem dX7_worth_42 : decode cX7_worth 42 = .ok (.aload_n 0, 1) := dk_42 (dk_at dksX7_worth_1 19 rfl rfl)
theorem dX7_worth_43 : decode cX7_worth 43 = .ok (.getfield 208, 3) := dk_180 0 208 (dk_at dksX7_worth_1 20 rfl rfl)
theorem dX7_worth_46 : decode cX7_worth 46 = .ok (.invokevirtual 214, 3) := dk_182 0 214 (dk_at dksX7_worth_2 0 rfl rfl)
theorem dX7_worth_49 : decode cX7_worth 49 = .ok (.bipush 99, 2) := dk_16 99 (dk_at dksX7_worth_2 3 rfl rfl)
theorem dX7_worth_51 : decode cX7_worth 51 = .ok (.if_icmp .gt 22, 3) := dk_163 0 22 (dk_at dksX7_worth_2 5 rfl rfl)
theorem dX7_worth_54 : decode cX7_worth 54 = .ok (.iload_n 2, 1) := dk_28 (dk_at dksX7_worth_2 8 rfl rfl)
theorem dX7_worth_55 : decode cX7_worth 55 = .ok (.iconst (-1), 1) := dk_2 (dk_at dksX7_worth_2 9 rfl rfl)
theorem dX7_worth_56 : decode cX7_worth 56 = .ok (.if_icmp .eq 19, 3) := dk_159 0 19 (dk_at dksX7_worth_2 10 rfl rfl)
theorem dX7_worth_59 : decode cX7_worth 59 = .ok (.aload_n 0, 1) := dk_42 (dk_at dksX7_worth_2 13 rfl rfl)
theorem dX7_worth_60 : decode cX7_worth 60 = .ok (.iload_n 2, 1) := dk_28 (dk_at dksX7_worth_2 14 rfl rfl)
theorem dX7_worth_61 : decode cX7_worth 61 = .ok (.aload_n 0, 1) := dk_42 (dk_at dksX7_worth_2 15 rfl rfl)
theorem dX7_worth_62 : decode cX7_worth 62 = .ok (.getfield 208, 3) := dk_180 0 208 (dk_at dksX7_worth_2 16 rfl rfl)
theorem dX7_worth_65 : decode cX7_worth 65 = .ok (.invokevirtual 214, 3) := dk_182 0 214 (dk_at dksX7_worth_2 19 rfl rfl)
theorem dX7_worth_68 : decode cX7_worth 68 = .ok (.bipush 99, 2) := dk_16 99 (dk_at dksX7_worth_2 22 rfl rfl)
theorem dX7_worth_70 : decode cX7_worth 70 = .ok (.if_icmp .le 5, 3) := dk_164 0 5 (dk_at dksX7_worth_3 0 rfl rfl)
theorem dX7_worth_73 : decode cX7_worth 73 = .ok (.iconst (-1), 1) := dk_2 (dk_at dksX7_worth_3 3 rfl rfl)
theorem dX7_worth_74 : decode cX7_worth 74 = .ok (.ireturn, 1) := dk_172 (dk_at dksX7_worth_3 4 rfl rfl)
theorem dX7_worth_75 : decode cX7_worth 75 = .ok (.aload_n 0, 1) := dk_42 (dk_at dksX7_worth_3 5 rfl rfl)
theorem dX7_worth_76 : decode cX7_worth 76 = .ok (.iload_n 3, 1) := dk_29 (dk_at dksX7_worth_3 6 rfl rfl)
theorem dX7_worth_77 : decode cX7_worth 77 = .ok (.invokevirtual 314, 3) := dk_182 1 58 (dk_at dksX7_worth_3 7 rfl rfl)
theorem dX7_worth_80 : decode cX7_worth 80 = .ok (.aload_n 0, 1) := dk_42 (dk_at dksX7_worth_3 10 rfl rfl)
theorem dX7_worth_81 : decode cX7_worth 81 = .ok (.iload_n 1, 1) := dk_27 (dk_at dksX7_worth_3 11 rfl rfl)
theorem dX7_worth_82 : decode cX7_worth 82 = .ok (.iload_n 2, 1) := dk_28 (dk_at dksX7_worth_3 12 rfl rfl)
theorem dX7_worth_83 : decode cX7_worth 83 = .ok (.invokevirtual 317, 3) := dk_182 1 61 (dk_at dksX7_worth_3 13 rfl rfl)
theorem dX7_worth_86 : decode cX7_worth 86 = .ok (.ireturn, 1) := dk_172 (dk_at dksX7_worth_3 16 rfl rfl)
abbrev cX7_lay : ByteArray := prog_19_method_59_code
def yX7_lay : MethodName := ⟨RX7, "lay", "(I)V"⟩
def dkwX7_lay_4 : List UInt8 := [132, 3, 1, 167, 255, 179, 132, 2, 1, 167, 255, 166, 177]
abbrev dktX7_lay_4 : List UInt8 := dkwX7_lay_4 ++ []
def dkwX7_lay_3 : List UInt8 := [27, 4, 160, 0, 7, 3, 167, 0, 13, 27, 5, 160, 0, 7, 4, 167, 0, 4, 2, 182, 1, 40, 79]
abbrev dktX7_lay_3 : List UInt8 := dkwX7_lay_3 ++ dktX7_lay_4
def dkwX7_lay_2 : List UInt8 := [104, 29, 96, 27, 154, 0, 17, 42, 180, 0, 52, 16, 10, 28, 104, 29, 96, 46, 167, 0, 28, 42, 28, 29]
abbrev dktX7_lay_2 : List UInt8 := dkwX7_lay_2 ++ dktX7_lay_3
def dkwX7_lay_1 : List UInt8 := [162, 0, 77, 27, 158, 0, 13, 42, 28, 29, 42, 180, 0, 208, 182, 1, 36, 42, 180, 0, 105, 16, 10, 28]
abbrev dktX7_lay_1 : List UInt8 := dkwX7_lay_1 ++ dktX7_lay_2
def dkwX7_lay_0 : List UInt8 := [27, 158, 0, 11, 42, 42, 180, 0, 208, 182, 1, 1, 3, 61, 28, 7, 162, 0, 91, 3, 62, 29, 16, 10]
abbrev dktX7_lay_0 : List UInt8 := dkwX7_lay_0 ++ dktX7_lay_1
theorem dksX7_lay_0 : cX7_lay.data.toList.drop 0 = dktX7_lay_0 := by decide +kernel
theorem dksX7_lay_1 : cX7_lay.data.toList.drop 24 = dktX7_lay_1 := dk_seg dksX7_lay_0 24 rfl rfl
theorem dksX7_lay_2 : cX7_lay.data.toList.drop 48 = dktX7_lay_2 := dk_seg dksX7_lay_1 24 rfl rfl
theorem dksX7_lay_3 : cX7_lay.data.toList.drop 72 = dktX7_lay_3 := dk_seg dksX7_lay_2 24 rfl rfl
theorem dksX7_lay_4 : cX7_lay.data.toList.drop 95 = dktX7_lay_4 := dk_seg dksX7_lay_3 23 rfl rfl
theorem dX7_lay_0 : decode cX7_lay 0 = .ok (.iload_n 1, 1) := dk_27 (dk_at dksX7_lay_0 0 rfl rfl)
theorem dX7_lay_1 : decode cX7_lay 1 = .ok (.ifCond .le 11, 3) := dk_158 0 11 (dk_at dksX7_lay_0 1 rfl rfl)
theorem dX7_lay_4 : decode cX7_lay 4 = .ok (.aload_n 0, 1) := dk_42 (dk_at dksX7_lay_0 4 rfl rfl)
theorem dX7_lay_5 : decode cX7_lay 5 = .ok (.aload_n 0, 1) := dk_42 (dk_at dksX7_lay_0 5 rfl rfl)
theorem dX7_lay_6 : decode cX7_lay 6 = .ok (.getfield 208, 3) := dk_180 0 208 (dk_at dksX7_lay_0 6 rfl rfl)
theorem dX7_lay_9 : decode cX7_lay 9 = .ok (.invokevirtual 257, 3) := dk_182 1 1 (dk_at dksX7_lay_0 9 rfl rfl)
theorem dX7_lay_12 : decode cX7_lay 12 = .ok (.iconst 0, 1) := dk_3 (dk_at dksX7_lay_0 12 rfl rfl)
theorem dX7_lay_13 : decode cX7_lay 13 = .ok (.istore_n 2, 1) := dk_61 (dk_at dksX7_lay_0 13 rfl rfl)
theorem dX7_lay_14 : decode cX7_lay 14 = .ok (.iload_n 2, 1) := dk_28 (dk_at dksX7_lay_0 14 rfl rfl)
theorem dX7_lay_15 : decode cX7_lay 15 = .ok (.iconst 4, 1) := dk_7 (dk_at dksX7_lay_0 15 rfl rfl)
theorem dX7_lay_16 : decode cX7_lay 16 = .ok (.if_icmp .ge 91, 3) := dk_162 0 91 (dk_at dksX7_lay_0 16 rfl rfl)
theorem dX7_lay_19 : decode cX7_lay 19 = .ok (.iconst 0, 1) := dk_3 (dk_at dksX7_lay_0 19 rfl rfl)
theorem dX7_lay_20 : decode cX7_lay 20 = .ok (.istore_n 3, 1) := dk_62 (dk_at dksX7_lay_0 20 rfl rfl)
theorem dX7_lay_21 : decode cX7_lay 21 = .ok (.iload_n 3, 1) := dk_29 (dk_at dksX7_lay_0 21 rfl rfl)
theorem dX7_lay_22 : decode cX7_lay 22 = .ok (.bipush 10, 2) := dk_16 10 (dk_at dksX7_lay_0 22 rfl rfl)
theorem dX7_lay_24 : decode cX7_lay 24 = .ok (.if_icmp .ge 77, 3) := dk_162 0 77 (dk_at dksX7_lay_1 0 rfl rfl)
theorem dX7_lay_27 : decode cX7_lay 27 = .ok (.iload_n 1, 1) := dk_27 (dk_at dksX7_lay_1 3 rfl rfl)
theorem dX7_lay_28 : decode cX7_lay 28 = .ok (.ifCond .le 13, 3) := dk_158 0 13 (dk_at dksX7_lay_1 4 rfl rfl)
theorem dX7_lay_31 : decode cX7_lay 31 = .ok (.aload_n 0, 1) := dk_42 (dk_at dksX7_lay_1 7 rfl rfl)
theorem dX7_lay_32 : decode cX7_lay 32 = .ok (.iload_n 2, 1) := dk_28 (dk_at dksX7_lay_1 8 rfl rfl)
theorem dX7_lay_33 : decode cX7_lay 33 = .ok (.iload_n 3, 1) := dk_29 (dk_at dksX7_lay_1 9 rfl rfl)
theorem dX7_lay_34 : decode cX7_lay 34 = .ok (.aload_n 0, 1) := dk_42 (dk_at dksX7_lay_1 10 rfl rfl)
theorem dX7_lay_35 : decode cX7_lay 35 = .ok (.getfield 208, 3) := dk_180 0 208 (dk_at dksX7_lay_1 11 rfl rfl)
theorem dX7_lay_38 : decode cX7_lay 38 = .ok (.invokevirtual 292, 3) := dk_182 1 36 (dk_at dksX7_lay_1 14 rfl rfl)
theorem dX7_lay_41 : decode cX7_lay 41 = .ok (.aload_n 0, 1) := dk_42 (dk_at dksX7_lay_1 17 rfl rfl)
theorem dX7_lay_42 : decode cX7_lay 42 = .ok (.getfield 105, 3) := dk_180 0 105 (dk_at dksX7_lay_1 18 rfl rfl)
theorem dX7_lay_45 : decode cX7_lay 45 = .ok (.bipush 10, 2) := dk_16 10 (dk_at dksX7_lay_1 21 rfl rfl)
theorem dX7_lay_47 : decode cX7_lay 47 = .ok (.iload_n 2, 1) := dk_28 (dk_at dksX7_lay_1 23 rfl rfl)
theorem dX7_lay_48 : decode cX7_lay 48 = .ok (.imul, 1) := dk_104 (dk_at dksX7_lay_2 0 rfl rfl)
theorem dX7_lay_49 : decode cX7_lay 49 = .ok (.iload_n 3, 1) := dk_29 (dk_at dksX7_lay_2 1 rfl rfl)
theorem dX7_lay_50 : decode cX7_lay 50 = .ok (.iadd, 1) := dk_96 (dk_at dksX7_lay_2 2 rfl rfl)
theorem dX7_lay_51 : decode cX7_lay 51 = .ok (.iload_n 1, 1) := dk_27 (dk_at dksX7_lay_2 3 rfl rfl)
theorem dX7_lay_52 : decode cX7_lay 52 = .ok (.ifCond .ne 17, 3) := dk_154 0 17 (dk_at dksX7_lay_2 4 rfl rfl)
theorem dX7_lay_55 : decode cX7_lay 55 = .ok (.aload_n 0, 1) := dk_42 (dk_at dksX7_lay_2 7 rfl rfl)
theorem dX7_lay_56 : decode cX7_lay 56 = .ok (.getfield 52, 3) := dk_180 0 52 (dk_at dksX7_lay_2 8 rfl rfl)
theorem dX7_lay_59 : decode cX7_lay 59 = .ok (.bipush 10, 2) := dk_16 10 (dk_at dksX7_lay_2 11 rfl rfl)
theorem dX7_lay_61 : decode cX7_lay 61 = .ok (.iload_n 2, 1) := dk_28 (dk_at dksX7_lay_2 13 rfl rfl)
theorem dX7_lay_62 : decode cX7_lay 62 = .ok (.imul, 1) := dk_104 (dk_at dksX7_lay_2 14 rfl rfl)
theorem dX7_lay_63 : decode cX7_lay 63 = .ok (.iload_n 3, 1) := dk_29 (dk_at dksX7_lay_2 15 rfl rfl)
theorem dX7_lay_64 : decode cX7_lay 64 = .ok (.iadd, 1) := dk_96 (dk_at dksX7_lay_2 16 rfl rfl)
theorem dX7_lay_65 : decode cX7_lay 65 = .ok (.iaload, 1) := dk_46 (dk_at dksX7_lay_2 17 rfl rfl)
theorem dX7_lay_66 : decode cX7_lay 66 = .ok (.goto 28, 3) := dk_167 0 28 (dk_at dksX7_lay_2 18 rfl rfl)
theorem dX7_lay_69 : decode cX7_lay 69 = .ok (.aload_n 0, 1) := dk_42 (dk_at dksX7_lay_2 21 rfl rfl)
theorem dX7_lay_70 : decode cX7_lay 70 = .ok (.iload_n 2, 1) := dk_28 (dk_at dksX7_lay_2 22 rfl rfl)
theorem dX7_lay_71 : decode cX7_lay 71 = .ok (.iload_n 3, 1) := dk_29 (dk_at dksX7_lay_2 23 rfl rfl)
theorem dX7_lay_72 : decode cX7_lay 72 = .ok (.iload_n 1, 1) := dk_27 (dk_at dksX7_lay_3 0 rfl rfl)
theorem dX7_lay_73 : decode cX7_lay 73 = .ok (.iconst 1, 1) := dk_4 (dk_at dksX7_lay_3 1 rfl rfl)
theorem dX7_lay_74 : decode cX7_lay 74 = .ok (.if_icmp .ne 7, 3) := dk_160 0 7 (dk_at dksX7_lay_3 2 rfl rfl)
theorem dX7_lay_77 : decode cX7_lay 77 = .ok (.iconst 0, 1) := dk_3 (dk_at dksX7_lay_3 5 rfl rfl)
theorem dX7_lay_78 : decode cX7_lay 78 = .ok (.goto 13, 3) := dk_167 0 13 (dk_at dksX7_lay_3 6 rfl rfl)
theorem dX7_lay_81 : decode cX7_lay 81 = .ok (.iload_n 1, 1) := dk_27 (dk_at dksX7_lay_3 9 rfl rfl)
theorem dX7_lay_82 : decode cX7_lay 82 = .ok (.iconst 2, 1) := dk_5 (dk_at dksX7_lay_3 10 rfl rfl)
theorem dX7_lay_83 : decode cX7_lay 83 = .ok (.if_icmp .ne 7, 3) := dk_160 0 7 (dk_at dksX7_lay_3 11 rfl rfl)
theorem dX7_lay_86 : decode cX7_lay 86 = .ok (.iconst 1, 1) := dk_4 (dk_at dksX7_lay_3 14 rfl rfl)
theorem dX7_lay_87 : decode cX7_lay 87 = .ok (.goto 4, 3) := dk_167 0 4 (dk_at dksX7_lay_3 15 rfl rfl)
theorem dX7_lay_90 : decode cX7_lay 90 = .ok (.iconst (-1), 1) := dk_2 (dk_at dksX7_lay_3 18 rfl rfl)
theorem dX7_lay_91 : decode cX7_lay 91 = .ok (.invokevirtual 296, 3) := dk_182 1 40 (dk_at dksX7_lay_3 19 rfl rfl)
theorem dX7_lay_94 : decode cX7_lay 94 = .ok (.iastore, 1) := dk_79 (dk_at dksX7_lay_3 22 rfl rfl)
theorem dX7_lay_95 : decode cX7_lay 95 = .ok (.iinc 3 1, 3) := dk_132 3 1 (dk_at dksX7_lay_4 0 rfl rfl)
theorem dX7_lay_98 : decode cX7_lay 98 = .ok (.goto (-77), 3) := dk_167 255 179 (dk_at dksX7_lay_4 3 rfl rfl)
theorem dX7_lay_101 : decode cX7_lay 101 = .ok (.iinc 2 1, 3) := dk_132 2 1 (dk_at dksX7_lay_4 6 rfl rfl)
theorem dX7_lay_104 : decode cX7_lay 104 = .ok (.goto (-90), 3) := dk_167 255 166 (dk_at dksX7_lay_4 9 rfl rfl)
theorem dX7_lay_107 : decode cX7_lay 107 = .ok (.return_, 1) := dk_177 (dk_at dksX7_lay_4 12 rfl rfl)
abbrev cX7_worthOn : ByteArray := prog_19_method_64_code
def yX7_worthOn : MethodName := ⟨RX7, "worthOn", "(II)I"⟩
def dkwX7_worthOn_2 : List UInt8 := [28, 182, 1, 55, 100, 172]
abbrev dktX7_worthOn_2 : List UInt8 := dkwX7_worthOn_2 ++ []
def dkwX7_worthOn_1 : List UInt8 := [160, 0, 11, 42, 27, 182, 1, 52, 167, 0, 21, 42, 27, 182, 1, 52, 42, 28, 182, 1, 52, 96, 42, 27]
abbrev dktX7_worthOn_1 : List UInt8 := dkwX7_worthOn_1 ++ dktX7_worthOn_2
def dkwX7_worthOn_0 : List UInt8 := [27, 2, 160, 0, 18, 28, 2, 160, 0, 7, 3, 167, 0, 8, 42, 28, 182, 1, 52, 172, 28, 2]
abbrev dktX7_worthOn_0 : List UInt8 := dkwX7_worthOn_0 ++ dktX7_worthOn_1
theorem dksX7_worthOn_0 : cX7_worthOn.data.toList.drop 0 = dktX7_worthOn_0 := by decide +kernel
theorem dksX7_worthOn_1 : cX7_worthOn.data.toList.drop 22 = dktX7_worthOn_1 := dk_seg dksX7_worthOn_0 22 rfl rfl
theorem dksX7_worthOn_2 : cX7_worthOn.data.toList.drop 46 = dktX7_worthOn_2 := dk_seg dksX7_worthOn_1 24 rfl rfl
theorem dX7_worthOn_0 : decode cX7_worthOn 0 = .ok (.iload_n 1, 1) := dk_27 (dk_at dksX7_worthOn_0 0 rfl rfl)
theorem dX7_worthOn_1 : decode cX7_worthOn 1 = .ok (.iconst (-1), 1) := dk_2 (dk_at dksX7_worthOn_0 1 rfl rfl)
theorem dX7_worthOn_2 : decode cX7_worthOn 2 = .ok (.if_icmp .ne 18, 3) := dk_160 0 18 (dk_at dksX7_worthOn_0 2 rfl rfl)
theorem dX7_worthOn_5 : decode cX7_worthOn 5 = .ok (.iload_n 2, 1) := dk_28 (dk_at dksX7_worthOn_0 5 rfl rfl)
theorem dX7_worthOn_6 : decode cX7_worthOn 6 = .ok (.iconst (-1), 1) := dk_2 (dk_at dksX7_worthOn_0 6 rfl rfl)
theorem dX7_worthOn_7 : decode cX7_worthOn 7 = .ok (.if_icmp .ne 7, 3) := dk_160 0 7 (dk_at dksX7_worthOn_0 7 rfl rfl)
theorem dX7_worthOn_10 : decode cX7_worthOn 10 = .ok (.iconst 0, 1) := dk_3 (dk_at dksX7_worthOn_0 10 rfl rfl)
theorem dX7_worthOn_11 : decode cX7_worthOn 11 = .ok (.goto 8, 3) := dk_167 0 8 (dk_at dksX7_worthOn_0 11 rfl rfl)
theorem dX7_worthOn_14 : decode cX7_worthOn 14 = .ok (.aload_n 0, 1) := dk_42 (dk_at dksX7_worthOn_0 14 rfl rfl)
theorem dX7_worthOn_15 : decode cX7_worthOn 15 = .ok (.iload_n 2, 1) := dk_28 (dk_at dksX7_worthOn_0 15 rfl rfl)
theorem dX7_worthOn_16 : decode cX7_worthOn 16 = .ok (.invokevirtual 308, 3) := dk_182 1 52 (dk_at dksX7_worthOn_0 16 rfl rfl)
theorem dX7_worthOn_19 : decode cX7_worthOn 19 = .ok (.ireturn, 1) := dk_172 (dk_at dksX7_worthOn_0 19 rfl rfl)
theorem dX7_worthOn_20 : decode cX7_worthOn 20 = .ok (.iload_n 2, 1) := dk_28 (dk_at dksX7_worthOn_0 20 rfl rfl)
theorem dX7_worthOn_21 : decode cX7_worthOn 21 = .ok (.iconst (-1), 1) := dk_2 (dk_at dksX7_worthOn_0 21 rfl rfl)
theorem dX7_worthOn_22 : decode cX7_worthOn 22 = .ok (.if_icmp .ne 11, 3) := dk_160 0 11 (dk_at dksX7_worthOn_1 0 rfl rfl)
theorem dX7_worthOn_25 : decode cX7_worthOn 25 = .ok (.aload_n 0, 1) := dk_42 (dk_at dksX7_worthOn_1 3 rfl rfl)
theorem dX7_worthOn_26 : decode cX7_worthOn 26 = .ok (.iload_n 1, 1) := dk_27 (dk_at dksX7_worthOn_1 4 rfl rfl)
theorem dX7_worthOn_27 : decode cX7_worthOn 27 = .ok (.invokevirtual 308, 3) := dk_182 1 52 (dk_at dksX7_worthOn_1 5 rfl rfl)
theorem dX7_worthOn_30 : decode cX7_worthOn 30 = .ok (.goto 21, 3) := dk_167 0 21 (dk_at dksX7_worthOn_1 8 rfl rfl)
theorem dX7_worthOn_33 : decode cX7_worthOn 33 = .ok (.aload_n 0, 1) := dk_42 (dk_at dksX7_worthOn_1 11 rfl rfl)
theorem dX7_worthOn_34 : decode cX7_worthOn 34 = .ok (.iload_n 1, 1) := dk_27 (dk_at dksX7_worthOn_1 12 rfl rfl)
theorem dX7_worthOn_35 : decode cX7_worthOn 35 = .ok (.invokevirtual 308, 3) := dk_182 1 52 (dk_at dksX7_worthOn_1 13 rfl rfl)
theorem dX7_worthOn_38 : decode cX7_worthOn 38 = .ok (.aload_n 0, 1) := dk_42 (dk_at dksX7_worthOn_1 16 rfl rfl)
theorem dX7_worthOn_39 : decode cX7_worthOn 39 = .ok (.iload_n 2, 1) := dk_28 (dk_at dksX7_worthOn_1 17 rfl rfl)
theorem dX7_worthOn_40 : decode cX7_worthOn 40 = .ok (.invokevirtual 308, 3) := dk_182 1 52 (dk_at dksX7_worthOn_1 18 rfl rfl)
theorem dX7_worthOn_43 : decode cX7_worthOn 43 = .ok (.iadd, 1) := dk_96 (dk_at dksX7_worthOn_1 21 rfl rfl)
theorem dX7_worthOn_44 : decode cX7_worthOn 44 = .ok (.aload_n 0, 1) := dk_42 (dk_at dksX7_worthOn_1 22 rfl rfl)
theorem dX7_worthOn_45 : decode cX7_worthOn 45 = .ok (.iload_n 1, 1) := dk_27 (dk_at dksX7_worthOn_1 23 rfl rfl)
theorem dX7_worthOn_46 : decode cX7_worthOn 46 = .ok (.iload_n 2, 1) := dk_28 (dk_at dksX7_worthOn_2 0 rfl rfl)
theorem dX7_worthOn_47 : decode cX7_worthOn 47 = .ok (.invokevirtual 311, 3) := dk_182 1 55 (dk_at dksX7_worthOn_2 1 rfl rfl)
theorem dX7_worthOn_50 : decode cX7_worthOn 50 = .ok (.isub, 1) := dk_100 (dk_at dksX7_worthOn_2 4 rfl rfl)
theorem dX7_worthOn_51 : decode cX7_worthOn 51 = .ok (.ireturn, 1) := dk_172 (dk_at dksX7_worthOn_2 5 rfl rfl)
abbrev cX7_worthOf : ByteArray := prog_19_method_62_code
def yX7_worthOf : MethodName := ⟨RX7, "worthOf", "(I)I"⟩
def dkwX7_worthOf_1 : List UInt8 := [182, 1, 46, 182, 1, 49, 61, 132, 3, 255, 167, 255, 228, 28, 172]
abbrev dktX7_worthOf_1 : List UInt8 := dkwX7_worthOf_1 ++ []
def dkwX7_worthOf_0 : List UInt8 := [3, 61, 16, 99, 62, 29, 42, 27, 42, 180, 0, 208, 182, 0, 214, 161, 0, 21, 42, 28, 42, 27, 29]
abbrev dktX7_worthOf_0 : List UInt8 := dkwX7_worthOf_0 ++ dktX7_worthOf_1
theorem dksX7_worthOf_0 : cX7_worthOf.data.toList.drop 0 = dktX7_worthOf_0 := by decide +kernel
theorem dksX7_worthOf_1 : cX7_worthOf.data.toList.drop 23 = dktX7_worthOf_1 := dk_seg dksX7_worthOf_0 23 rfl rfl
theorem dX7_worthOf_0 : decode cX7_worthOf 0 = .ok (.iconst 0, 1) := dk_3 (dk_at dksX7_worthOf_0 0 rfl rfl)
theorem dX7_worthOf_1 : decode cX7_worthOf 1 = .ok (.istore_n 2, 1) := dk_61 (dk_at dksX7_worthOf_0 1 rfl rfl)
theorem dX7_worthOf_2 : decode cX7_worthOf 2 = .ok (.bipush 99, 2) := dk_16 99 (dk_at dksX7_worthOf_0 2 rfl rfl)
theorem dX7_worthOf_4 : decode cX7_worthOf 4 = .ok (.istore_n 3, 1) := dk_62 (dk_at dksX7_worthOf_0 4 rfl rfl)
theorem dX7_worthOf_5 : decode cX7_worthOf 5 = .ok (.iload_n 3, 1) := dk_29 (dk_at dksX7_worthOf_0 5 rfl rfl)
theorem dX7_worthOf_6 : decode cX7_worthOf 6 = .ok (.aload_n 0, 1) := dk_42 (dk_at dksX7_worthOf_0 6 rfl rfl)
theorem dX7_worthOf_7 : decode cX7_worthOf 7 = .ok (.iload_n 1, 1) := dk_27 (dk_at dksX7_worthOf_0 7 rfl rfl)
theorem dX7_worthOf_8 : decode cX7_worthOf 8 = .ok (.aload_n 0, 1) := dk_42 (dk_at dksX7_worthOf_0 8 rfl rfl)
theorem dX7_worthOf_9 : decode cX7_worthOf 9 = .ok (.getfield 208, 3) := dk_180 0 208 (dk_at dksX7_worthOf_0 9 rfl rfl)
theorem dX7_worthOf_12 : decode cX7_worthOf 12 = .ok (.invokevirtual 214, 3) := dk_182 0 214 (dk_at dksX7_worthOf_0 12 rfl rfl)
theorem dX7_worthOf_15 : decode cX7_worthOf 15 = .ok (.if_icmp .lt 21, 3) := dk_161 0 21 (dk_at dksX7_worthOf_0 15 rfl rfl)
theorem dX7_worthOf_18 : decode cX7_worthOf 18 = .ok (.aload_n 0, 1) := dk_42 (dk_at dksX7_worthOf_0 18 rfl rfl)
theorem dX7_worthOf_19 : decode cX7_worthOf 19 = .ok (.iload_n 2, 1) := dk_28 (dk_at dksX7_worthOf_0 19 rfl rfl)
theorem dX7_worthOf_20 : decode cX7_worthOf 20 = .ok (.aload_n 0, 1) := dk_42 (dk_at dksX7_worthOf_0 20 rfl rfl)
theorem dX7_worthOf_21 : decode cX7_worthOf 21 = .ok (.iload_n 1, 1) := dk_27 (dk_at dksX7_worthOf_0 21 rfl rfl)
theorem dX7_worthOf_22 : decode cX7_worthOf 22 = .ok (.iload_n 3, 1) := dk_29 (dk_at dksX7_worthOf_0 22 rfl rfl)
theorem dX7_worthOf_23 : decode cX7_worthOf 23 = .ok (.invokevirtual 302, 3) := dk_182 1 46 (dk_at dksX7_worthOf_1 0 rfl rfl)
theorem dX7_worthOf_26 : decode cX7_worthOf 26 = .ok (.invokevirtual 305, 3) := dk_182 1 49 (dk_at dksX7_worthOf_1 3 rfl rfl)
theorem dX7_worthOf_29 : decode cX7_worthOf 29 = .ok (.istore_n 2, 1) := dk_61 (dk_at dksX7_worthOf_1 6 rfl rfl)
theorem dX7_worthOf_30 : decode cX7_worthOf 30 = .ok (.iinc 3 (-1), 3) := dk_132 3 255 (dk_at dksX7_worthOf_1 7 rfl rfl)
theorem dX7_worthOf_33 : decode cX7_worthOf 33 = .ok (.goto (-28), 3) := dk_167 255 228 (dk_at dksX7_worthOf_1 10 rfl rfl)
theorem dX7_worthOf_36 : decode cX7_worthOf 36 = .ok (.iload_n 2, 1) := dk_28 (dk_at dksX7_worthOf_1 13 rfl rfl)
theorem dX7_worthOf_37 : decode cX7_worthOf 37 = .ok (.ireturn, 1) := dk_172 (dk_at dksX7_worthOf_1 14 rfl rfl)
abbrev cX7_liveOf : ByteArray := prog_19_method_60_code
def yX7_liveOf : MethodName := ⟨RX7, "liveOf", "(II)I"⟩
def dkwX7_liveOf_0 : List UInt8 := [42, 180, 0, 105, 16, 10, 42, 180, 0, 16, 27, 46, 104, 28, 184, 1, 43, 96, 46, 172]
abbrev dktX7_liveOf_0 : List UInt8 := dkwX7_liveOf_0 ++ []
theorem dksX7_liveOf_0 : cX7_liveOf.data.toList.drop 0 = dktX7_liveOf_0 := by decide +kernel
theorem dX7_liveOf_0 : decode cX7_liveOf 0 = .ok (.aload_n 0, 1) := dk_42 (dk_at dksX7_liveOf_0 0 rfl rfl)
theorem dX7_liveOf_1 : decode cX7_liveOf 1 = .ok (.getfield 105, 3) := dk_180 0 105 (dk_at dksX7_liveOf_0 1 rfl rfl)
theorem dX7_liveOf_4 : decode cX7_liveOf 4 = .ok (.bipush 10, 2) := dk_16 10 (dk_at dksX7_liveOf_0 4 rfl rfl)
theorem dX7_liveOf_6 : decode cX7_liveOf 6 = .ok (.aload_n 0, 1) := dk_42 (dk_at dksX7_liveOf_0 6 rfl rfl)
theorem dX7_liveOf_7 : decode cX7_liveOf 7 = .ok (.getfield 16, 3) := dk_180 0 16 (dk_at dksX7_liveOf_0 7 rfl rfl)
theorem dX7_liveOf_10 : decode cX7_liveOf 10 = .ok (.iload_n 1, 1) := dk_27 (dk_at dksX7_liveOf_0 10 rfl rfl)
theorem dX7_liveOf_11 : decode cX7_liveOf 11 = .ok (.iaload, 1) := dk_46 (dk_at dksX7_liveOf_0 11 rfl rfl)
theorem dX7_liveOf_12 : decode cX7_liveOf 12 = .ok (.imul, 1) := dk_104 (dk_at dksX7_liveOf_0 12 rfl rfl)
theorem dX7_liveOf_13 : decode cX7_liveOf 13 = .ok (.iload_n 2, 1) := dk_28 (dk_at dksX7_liveOf_0 13 rfl rfl)
theorem dX7_liveOf_14 : decode cX7_liveOf 14 = .ok (.invokestatic 299, 3) := dk_184 1 43 (dk_at dksX7_liveOf_0 14 rfl rfl)
theorem dX7_liveOf_17 : decode cX7_liveOf 17 = .ok (.iadd, 1) := dk_96 (dk_at dksX7_liveOf_0 17 rfl rfl)
theorem dX7_liveOf_18 : decode cX7_liveOf 18 = .ok (.iaload, 1) := dk_46 (dk_at dksX7_liveOf_0 18 rfl rfl)
theorem dX7_liveOf_19 : decode cX7_liveOf 19 = .ok (.ireturn, 1) := dk_172 (dk_at dksX7_liveOf_0 19 rfl rfl)
abbrev cX7_groupOf : ByteArray := prog_19_method_55_code
def yX7_groupOf : MethodName := ⟨RX7, "groupOf", "(I)I"⟩
def dkwX7_groupOf_0 : List UInt8 := [26, 16, 99, 164, 0, 8, 16, 9, 167, 0, 7, 26, 16, 10, 108, 172]
abbrev dktX7_groupOf_0 : List UInt8 := dkwX7_groupOf_0 ++ []
theorem dksX7_groupOf_0 : cX7_groupOf.data.toList.drop 0 = dktX7_groupOf_0 := by decide +kernel
theorem dX7_groupOf_0 : decode cX7_groupOf 0 = .ok (.iload_n 0, 1) := dk_26 (dk_at dksX7_groupOf_0 0 rfl rfl)
theorem dX7_groupOf_1 : decode cX7_groupOf 1 = .ok (.bipush 99, 2) := dk_16 99 (dk_at dksX7_groupOf_0 1 rfl rfl)
theorem dX7_groupOf_3 : decode cX7_groupOf 3 = .ok (.if_icmp .le 8, 3) := dk_164 0 8 (dk_at dksX7_groupOf_0 3 rfl rfl)
theorem dX7_groupOf_6 : decode cX7_groupOf 6 = .ok (.bipush 9, 2) := dk_16 9 (dk_at dksX7_groupOf_0 6 rfl rfl)
theorem dX7_groupOf_8 : decode cX7_groupOf 8 = .ok (.goto 7, 3) := dk_167 0 7 (dk_at dksX7_groupOf_0 8 rfl rfl)
theorem dX7_groupOf_11 : decode cX7_groupOf 11 = .ok (.iload_n 0, 1) := dk_26 (dk_at dksX7_groupOf_0 11 rfl rfl)
theorem dX7_groupOf_12 : decode cX7_groupOf 12 = .ok (.bipush 10, 2) := dk_16 10 (dk_at dksX7_groupOf_0 12 rfl rfl)
theorem dX7_groupOf_14 : decode cX7_groupOf 14 = .ok (.idiv, 1) := dk_108 (dk_at dksX7_groupOf_0 14 rfl rfl)
theorem dX7_groupOf_15 : decode cX7_groupOf 15 = .ok (.ireturn, 1) := dk_172 (dk_at dksX7_groupOf_0 15 rfl rfl)
abbrev cX7_yearBack : ByteArray := prog_19_method_61_code
def yX7_yearBack : MethodName := ⟨RX7, "yearBack", "(II)I"⟩
def dkwX7_yearBack_1 : List UInt8 := [4, 96, 108, 172]
abbrev dktX7_yearBack_1 : List UInt8 := dkwX7_yearBack_1 ++ []
def dkwX7_yearBack_0 : List UInt8 := [17, 3, 232, 27, 96, 28, 104, 17, 3, 232, 108, 42, 180, 0, 86, 5, 46, 104, 42, 180, 0, 86, 5, 46]
abbrev dktX7_yearBack_0 : List UInt8 := dkwX7_yearBack_0 ++ dktX7_yearBack_1
theorem dksX7_yearBack_0 : cX7_yearBack.data.toList.drop 0 = dktX7_yearBack_0 := by decide +kernel
theorem dksX7_yearBack_1 : cX7_yearBack.data.toList.drop 24 = dktX7_yearBack_1 := dk_seg dksX7_yearBack_0 24 rfl rfl
theorem dX7_yearBack_0 : decode cX7_yearBack 0 = .ok (.sipush 1000, 3) := dk_17 3 232 (dk_at dksX7_yearBack_0 0 rfl rfl)
theorem dX7_yearBack_3 : decode cX7_yearBack 3 = .ok (.iload_n 1, 1) := dk_27 (dk_at dksX7_yearBack_0 3 rfl rfl)
theorem dX7_yearBack_4 : decode cX7_yearBack 4 = .ok (.iadd, 1) := dk_96 (dk_at dksX7_yearBack_0 4 rfl rfl)
theorem dX7_yearBack_5 : decode cX7_yearBack 5 = .ok (.iload_n 2, 1) := dk_28 (dk_at dksX7_yearBack_0 5 rfl rfl)
theorem dX7_yearBack_6 : decode cX7_yearBack 6 = .ok (.imul, 1) := dk_104 (dk_at dksX7_yearBack_0 6 rfl rfl)
theorem dX7_yearBack_7 : decode cX7_yearBack 7 = .ok (.sipush 1000, 3) := dk_17 3 232 (dk_at dksX7_yearBack_0 7 rfl rfl)
theorem dX7_yearBack_10 : decode cX7_yearBack 10 = .ok (.idiv, 1) := dk_108 (dk_at dksX7_yearBack_0 10 rfl rfl)
theorem dX7_yearBack_11 : decode cX7_yearBack 11 = .ok (.aload_n 0, 1) := dk_42 (dk_at dksX7_yearBack_0 11 rfl rfl)
theorem dX7_yearBack_12 : decode cX7_yearBack 12 = .ok (.getfield 86, 3) := dk_180 0 86 (dk_at dksX7_yearBack_0 12 rfl rfl)
theorem dX7_yearBack_15 : decode cX7_yearBack 15 = .ok (.iconst 2, 1) := dk_5 (dk_at dksX7_yearBack_0 15 rfl rfl)
theorem dX7_yearBack_16 : decode cX7_yearBack 16 = .ok (.iaload, 1) := dk_46 (dk_at dksX7_yearBack_0 16 rfl rfl)
theorem dX7_yearBack_17 : decode cX7_yearBack 17 = .ok (.imul, 1) := dk_104 (dk_at dksX7_yearBack_0 17 rfl rfl)
theorem dX7_yearBack_18 : decode cX7_yearBack 18 = .ok (.aload_n 0, 1) := dk_42 (dk_at dksX7_yearBack_0 18 rfl rfl)
theorem dX7_yearBack_19 : decode cX7_yearBack 19 = .ok (.getfield 86, 3) := dk_180 0 86 (dk_at dksX7_yearBack_0 19 rfl rfl)
theorem dX7_yearBack_22 : decode cX7_yearBack 22 = .ok (.iconst 2, 1) := dk_5 (dk_at dksX7_yearBack_0 22 rfl rfl)
theorem dX7_yearBack_23 : decode cX7_yearBack 23 = .ok (.iaload, 1) := dk_46 (dk_at dksX7_yearBack_0 23 rfl rfl)
theorem dX7_yearBack_24 : decode cX7_yearBack 24 = .ok (.iconst 1, 1) := dk_4 (dk_at dksX7_yearBack_1 0 rfl rfl)
theorem dX7_yearBack_25 : decode cX7_yearBack 25 = .ok (.iadd, 1) := dk_96 (dk_at dksX7_yearBack_1 1 rfl rfl)
theorem dX7_yearBack_26 : decode cX7_yearBack 26 = .ok (.idiv, 1) := dk_108 (dk_at dksX7_yearBack_1 2 rfl rfl)
theorem dX7_yearBack_27 : decode cX7_yearBack 27 = .ok (.ireturn, 1) := dk_172 (dk_at dksX7_yearBack_1 3 rfl rfl)
abbrev cX7_bothOf : ByteArray := prog_19_method_63_code
def yX7_bothOf : MethodName := ⟨RX7, "bothOf", "(II)I"⟩
def dkwX7_bothOf_3 : List UInt8 := [17, 3, 232, 108, 182, 1, 49, 54, 5, 132, 6, 255, 167, 255, 216, 21, 5, 172]
abbrev dktX7_bothOf_3 : List UInt8 := dkwX7_bothOf_3 ++ []
def dkwX7_bothOf_2 : List UInt8 := [21, 5, 42, 27, 29, 21, 6, 96, 182, 1, 46, 42, 28, 21, 4, 21, 6, 96, 182, 1, 46, 104]
abbrev dktX7_bothOf_2 : List UInt8 := dkwX7_bothOf_2 ++ dktX7_bothOf_3
def dkwX7_bothOf_1 : List UInt8 := [16, 99, 29, 21, 4, 164, 0, 7, 29, 167, 0, 5, 21, 4, 100, 54, 6, 21, 6, 155, 0, 41, 42]
abbrev dktX7_bothOf_1 : List UInt8 := dkwX7_bothOf_1 ++ dktX7_bothOf_2
def dkwX7_bothOf_0 : List UInt8 := [42, 27, 42, 180, 0, 208, 182, 0, 214, 62, 42, 28, 42, 180, 0, 208, 182, 0, 214, 54, 4, 3, 54, 5]
abbrev dktX7_bothOf_0 : List UInt8 := dkwX7_bothOf_0 ++ dktX7_bothOf_1
theorem dksX7_bothOf_0 : cX7_bothOf.data.toList.drop 0 = dktX7_bothOf_0 := by decide +kernel
theorem dksX7_bothOf_1 : cX7_bothOf.data.toList.drop 24 = dktX7_bothOf_1 := dk_seg dksX7_bothOf_0 24 rfl rfl
theorem dksX7_bothOf_2 : cX7_bothOf.data.toList.drop 47 = dktX7_bothOf_2 := dk_seg dksX7_bothOf_1 23 rfl rfl
theorem dksX7_bothOf_3 : cX7_bothOf.data.toList.drop 69 = dktX7_bothOf_3 := dk_seg dksX7_bothOf_2 22 rfl rfl
theorem dX7_bothOf_0 : decode cX7_bothOf 0 = .ok (.aload_n 0, 1) := dk_42 (dk_at dksX7_bothOf_0 0 rfl rfl)
theorem dX7_bothOf_1 : decode cX7_bothOf 1 = .ok (.iload_n 1, 1) := dk_27 (dk_at dksX7_bothOf_0 1 rfl rfl)
theorem dX7_bothOf_2 : decode cX7_bothOf 2 = .ok (.aload_n 0, 1) := dk_42 (dk_at dksX7_bothOf_0 2 rfl rfl)
theorem dX7_bothOf_3 : decode cX7_bothOf 3 = .ok (.getfield 208, 3) := dk_180 0 208 (dk_at dksX7_bothOf_0 3 rfl rfl)
theorem dX7_bothOf_6 : decode cX7_bothOf 6 = .ok (.invokevirtual 214, 3) := dk_182 0 214 (dk_at dksX7_bothOf_0 6 rfl rfl)
theorem dX7_bothOf_9 : decode cX7_bothOf 9 = .ok (.istore_n 3, 1) := dk_62 (dk_at dksX7_bothOf_0 9 rfl rfl)
theorem dX7_bothOf_10 : decode cX7_bothOf 10 = .ok (.aload_n 0, 1) := dk_42 (dk_at dksX7_bothOf_0 10 rfl rfl)
theorem dX7_bothOf_11 : decode cX7_bothOf 11 = .ok (.iload_n 2, 1) := dk_28 (dk_at dksX7_bothOf_0 11 rfl rfl)
theorem dX7_bothOf_12 : decode cX7_bothOf 12 = .ok (.aload_n 0, 1) := dk_42 (dk_at dksX7_bothOf_0 12 rfl rfl)
theorem dX7_bothOf_13 : decode cX7_bothOf 13 = .ok (.getfield 208, 3) := dk_180 0 208 (dk_at dksX7_bothOf_0 13 rfl rfl)
theorem dX7_bothOf_16 : decode cX7_bothOf 16 = .ok (.invokevirtual 214, 3) := dk_182 0 214 (dk_at dksX7_bothOf_0 16 rfl rfl)
theorem dX7_bothOf_19 : decode cX7_bothOf 19 = .ok (.istore 4, 2) := dk_54 4 (dk_at dksX7_bothOf_0 19 rfl rfl)
theorem dX7_bothOf_21 : decode cX7_bothOf 21 = .ok (.iconst 0, 1) := dk_3 (dk_at dksX7_bothOf_0 21 rfl rfl)
theorem dX7_bothOf_22 : decode cX7_bothOf 22 = .ok (.istore 5, 2) := dk_54 5 (dk_at dksX7_bothOf_0 22 rfl rfl)
theorem dX7_bothOf_24 : decode cX7_bothOf 24 = .ok (.bipush 99, 2) := dk_16 99 (dk_at dksX7_bothOf_1 0 rfl rfl)
theorem dX7_bothOf_26 : decode cX7_bothOf 26 = .ok (.iload_n 3, 1) := dk_29 (dk_at dksX7_bothOf_1 2 rfl rfl)
theorem dX7_bothOf_27 : decode cX7_bothOf 27 = .ok (.iload 4, 2) := dk_21 4 (dk_at dksX7_bothOf_1 3 rfl rfl)
theorem dX7_bothOf_29 : decode cX7_bothOf 29 = .ok (.if_icmp .le 7, 3) := dk_164 0 7 (dk_at dksX7_bothOf_1 5 rfl rfl)
theorem dX7_bothOf_32 : decode cX7_bothOf 32 = .ok (.iload_n 3, 1) := dk_29 (dk_at dksX7_bothOf_1 8 rfl rfl)
theorem dX7_bothOf_33 : decode cX7_bothOf 33 = .ok (.goto 5, 3) := dk_167 0 5 (dk_at dksX7_bothOf_1 9 rfl rfl)
theorem dX7_bothOf_36 : decode cX7_bothOf 36 = .ok (.iload 4, 2) := dk_21 4 (dk_at dksX7_bothOf_1 12 rfl rfl)
theorem dX7_bothOf_38 : decode cX7_bothOf 38 = .ok (.isub, 1) := dk_100 (dk_at dksX7_bothOf_1 14 rfl rfl)
theorem dX7_bothOf_39 : decode cX7_bothOf 39 = .ok (.istore 6, 2) := dk_54 6 (dk_at dksX7_bothOf_1 15 rfl rfl)
theorem dX7_bothOf_41 : decode cX7_bothOf 41 = .ok (.iload 6, 2) := dk_21 6 (dk_at dksX7_bothOf_1 17 rfl rfl)
theorem dX7_bothOf_43 : decode cX7_bothOf 43 = .ok (.ifCond .lt 41, 3) := dk_155 0 41 (dk_at dksX7_bothOf_1 19 rfl rfl)
theorem dX7_bothOf_46 : decode cX7_bothOf 46 = .ok (.aload_n 0, 1) := dk_42 (dk_at dksX7_bothOf_1 22 rfl rfl)
theorem dX7_bothOf_47 : decode cX7_bothOf 47 = .ok (.iload 5, 2) := dk_21 5 (dk_at dksX7_bothOf_2 0 rfl rfl)
theorem dX7_bothOf_49 : decode cX7_bothOf 49 = .ok (.aload_n 0, 1) := dk_42 (dk_at dksX7_bothOf_2 2 rfl rfl)
theorem dX7_bothOf_50 : decode cX7_bothOf 50 = .ok (.iload_n 1, 1) := dk_27 (dk_at dksX7_bothOf_2 3 rfl rfl)
theorem dX7_bothOf_51 : decode cX7_bothOf 51 = .ok (.iload_n 3, 1) := dk_29 (dk_at dksX7_bothOf_2 4 rfl rfl)
theorem dX7_bothOf_52 : decode cX7_bothOf 52 = .ok (.iload 6, 2) := dk_21 6 (dk_at dksX7_bothOf_2 5 rfl rfl)
theorem dX7_bothOf_54 : decode cX7_bothOf 54 = .ok (.iadd, 1) := dk_96 (dk_at dksX7_bothOf_2 7 rfl rfl)
theorem dX7_bothOf_55 : decode cX7_bothOf 55 = .ok (.invokevirtual 302, 3) := dk_182 1 46 (dk_at dksX7_bothOf_2 8 rfl rfl)
theorem dX7_bothOf_58 : decode cX7_bothOf 58 = .ok (.aload_n 0, 1) := dk_42 (dk_at dksX7_bothOf_2 11 rfl rfl)
theorem dX7_bothOf_59 : decode cX7_bothOf 59 = .ok (.iload_n 2, 1) := dk_28 (dk_at dksX7_bothOf_2 12 rfl rfl)
theorem dX7_bothOf_60 : decode cX7_bothOf 60 = .ok (.iload 4, 2) := dk_21 4 (dk_at dksX7_bothOf_2 13 rfl rfl)
theorem dX7_bothOf_62 : decode cX7_bothOf 62 = .ok (.iload 6, 2) := dk_21 6 (dk_at dksX7_bothOf_2 15 rfl rfl)
theorem dX7_bothOf_64 : decode cX7_bothOf 64 = .ok (.iadd, 1) := dk_96 (dk_at dksX7_bothOf_2 17 rfl rfl)
theorem dX7_bothOf_65 : decode cX7_bothOf 65 = .ok (.invokevirtual 302, 3) := dk_182 1 46 (dk_at dksX7_bothOf_2 18 rfl rfl)
theorem dX7_bothOf_68 : decode cX7_bothOf 68 = .ok (.imul, 1) := dk_104 (dk_at dksX7_bothOf_2 21 rfl rfl)
theorem dX7_bothOf_69 : decode cX7_bothOf 69 = .ok (.sipush 1000, 3) := dk_17 3 232 (dk_at dksX7_bothOf_3 0 rfl rfl)
theorem dX7_bothOf_72 : decode cX7_bothOf 72 = .ok (.idiv, 1) := dk_108 (dk_at dksX7_bothOf_3 3 rfl rfl)
theorem dX7_bothOf_73 : decode cX7_bothOf 73 = .ok (.invokevirtual 305, 3) := dk_182 1 49 (dk_at dksX7_bothOf_3 4 rfl rfl)
theorem dX7_bothOf_76 : decode cX7_bothOf 76 = .ok (.istore 5, 2) := dk_54 5 (dk_at dksX7_bothOf_3 7 rfl rfl)
theorem dX7_bothOf_78 : decode cX7_bothOf 78 = .ok (.iinc 6 (-1), 3) := dk_132 6 255 (dk_at dksX7_bothOf_3 9 rfl rfl)
theorem dX7_bothOf_81 : decode cX7_bothOf 81 = .ok (.goto (-40), 3) := dk_167 255 216 (dk_at dksX7_bothOf_3 12 rfl rfl)
theorem dX7_bothOf_84 : decode cX7_bothOf 84 = .ok (.iload 5, 2) := dk_21 5 (dk_at dksX7_bothOf_3 15 rfl rfl)
theorem dX7_bothOf_86 : decode cX7_bothOf 86 = .ok (.ireturn, 1) := dk_172 (dk_at dksX7_bothOf_3 17 rfl rfl)
abbrev cX7_names : ByteArray := prog_19_method_66_code
def yX7_names : MethodName := ⟨RX7, "names", "(I)I"⟩
def dkwX7_names_18 : List UInt8 := [21, 5, 172]
abbrev dktX7_names_18 : List UInt8 := dkwX7_names_18 ++ []
def dkwX7_names_17 : List UInt8 := [180, 0, 111, 21, 11, 46, 79, 132, 11, 1, 167, 255, 228, 132, 7, 1, 167, 255, 46, 42, 4, 181, 1, 66]
abbrev dktX7_names_17 : List UInt8 := dkwX7_names_17 ++ dktX7_names_18
def dkwX7_names_16 : List UInt8 := [167, 255, 238, 3, 54, 11, 21, 11, 28, 162, 0, 28, 42, 180, 0, 108, 42, 180, 0, 114, 21, 11, 46, 42]
abbrev dktX7_names_16 : List UInt8 := dkwX7_names_16 ++ dktX7_names_17
def dkwX7_names_15 : List UInt8 := [54, 6, 3, 54, 11, 21, 11, 16, 12, 162, 0, 17, 42, 180, 0, 108, 21, 11, 3, 79, 132, 11, 1]
abbrev dktX7_names_15 : List UInt8 := dkwX7_names_15 ++ dktX7_names_16
def dkwX7_names_14 : List UInt8 := [21, 5, 160, 0, 13, 21, 10, 21, 6, 161, 0, 6, 167, 0, 72, 4, 54, 4, 21, 9, 54, 5, 21, 10]
abbrev dktX7_names_14 : List UInt8 := dkwX7_names_14 ++ dktX7_names_15
def dkwX7_names_13 : List UInt8 := [167, 255, 177, 21, 10, 27, 163, 0, 101, 21, 4, 153, 0, 27, 21, 9, 21, 5, 161, 0, 89, 21, 9]
abbrev dktX7_names_13 : List UInt8 := dkwX7_names_13 ++ dktX7_names_14
def dkwX7_names_12 : List UInt8 := [21, 10, 42, 180, 0, 111, 21, 11, 46, 42, 180, 0, 120, 21, 11, 46, 104, 96, 54, 10, 132, 11, 255]
abbrev dktX7_names_12 : List UInt8 := dkwX7_names_12 ++ dktX7_names_13
def dkwX7_names_11 : List UInt8 := [108, 54, 8, 21, 9, 42, 180, 0, 111, 21, 11, 46, 42, 180, 0, 117, 21, 11, 46, 104, 96, 54, 9]
abbrev dktX7_names_11 : List UInt8 := dkwX7_names_11 ++ dktX7_names_12
def dkwX7_names_10 : List UInt8 := [21, 11, 21, 8, 42, 180, 0, 86, 6, 46, 4, 96, 112, 79, 21, 8, 42, 180, 0, 86, 6, 46, 4, 96]
abbrev dktX7_names_10 : List UInt8 := dkwX7_names_10 ++ dktX7_names_11
def dkwX7_names_9 : List UInt8 := [21, 7, 54, 8, 3, 54, 9, 3, 54, 10, 28, 4, 100, 54, 11, 21, 11, 155, 0, 80, 42, 180, 0, 111]
abbrev dktX7_names_9 : List UInt8 := dkwX7_names_9 ++ dktX7_names_10
def dkwX7_names_8 : List UInt8 := [132, 4, 1, 167, 255, 196, 3, 54, 4, 3, 54, 5, 3, 54, 6, 3, 54, 7, 21, 7, 29, 162, 0, 210]
abbrev dktX7_names_8 : List UInt8 := dkwX7_names_8 ++ dktX7_names_9
def dkwX7_names_7 : List UInt8 := [180, 0, 114, 21, 4, 46, 182, 1, 52, 104, 17, 3, 232, 42, 180, 0, 120, 21, 4, 46, 104, 100, 79]
abbrev dktX7_names_7 : List UInt8 := dkwX7_names_7 ++ dktX7_names_8
def dkwX7_names_6 : List UInt8 := [42, 42, 180, 0, 114, 21, 4, 46, 2, 182, 0, 227, 79, 42, 180, 0, 117, 21, 4, 5, 42, 42]
abbrev dktX7_names_6 : List UInt8 := dkwX7_names_6 ++ dktX7_names_7
def dkwX7_names_5 : List UInt8 := [19, 1, 65, 172, 42, 3, 182, 1, 58, 3, 54, 4, 21, 4, 28, 162, 0, 60, 42, 180, 0, 120, 21, 4]
abbrev dktX7_names_5 : List UInt8 := dkwX7_names_5 ++ dktX7_names_6
def dkwX7_names_4 : List UInt8 := [180, 0, 86, 6, 46, 4, 96, 104, 62, 132, 4, 1, 167, 255, 187, 29, 17, 19, 136, 164, 0, 7]
abbrev dktX7_names_4 : List UInt8 := dkwX7_names_4 ++ dktX7_names_5
def dkwX7_names_3 : List UInt8 := [180, 0, 114, 28, 21, 4, 79, 132, 2, 1, 29, 17, 19, 136, 164, 0, 7, 29, 167, 0, 13, 29, 42]
abbrev dktX7_names_3 : List UInt8 := dkwX7_names_3 ++ dktX7_names_4
def dkwX7_names_2 : List UInt8 := [180, 0, 96, 21, 4, 46, 2, 160, 0, 49, 42, 21, 4, 2, 182, 0, 224, 154, 0, 6, 167, 0, 36, 42]
abbrev dktX7_names_2 : List UInt8 := dkwX7_names_2 ++ dktX7_names_3
def dkwX7_names_1 : List UInt8 := [180, 0, 208, 182, 1, 1, 3, 61, 4, 62, 3, 54, 4, 21, 4, 42, 180, 0, 211, 162, 0, 66, 42]
abbrev dktX7_names_1 : List UInt8 := dkwX7_names_1 ++ dktX7_names_2
def dkwX7_names_0 : List UInt8 := [42, 3, 181, 0, 129, 27, 3, 19, 1, 64, 184, 0, 204, 154, 0, 7, 19, 1, 65, 172, 42, 42]
abbrev dktX7_names_0 : List UInt8 := dkwX7_names_0 ++ dktX7_names_1
theorem dksX7_names_0 : cX7_names.data.toList.drop 0 = dktX7_names_0 := by decide +kernel
theorem dksX7_names_1 : cX7_names.data.toList.drop 22 = dktX7_names_1 := dk_seg dksX7_names_0 22 rfl rfl
theorem dksX7_names_2 : cX7_names.data.toList.drop 45 = dktX7_names_2 := dk_seg dksX7_names_1 23 rfl rfl
theorem dksX7_names_3 : cX7_names.data.toList.drop 69 = dktX7_names_3 := dk_seg dksX7_names_2 24 rfl rfl
theorem dksX7_names_4 : cX7_names.data.toList.drop 92 = dktX7_names_4 := dk_seg dksX7_names_3 23 rfl rfl
theorem dksX7_names_5 : cX7_names.data.toList.drop 114 = dktX7_names_5 := dk_seg dksX7_names_4 22 rfl rfl
theorem dksX7_names_6 : cX7_names.data.toList.drop 138 = dktX7_names_6 := dk_seg dksX7_names_5 24 rfl rfl
theorem dksX7_names_7 : cX7_names.data.toList.drop 160 = dktX7_names_7 := dk_seg dksX7_names_6 22 rfl rfl
theorem dksX7_names_8 : cX7_names.data.toList.drop 183 = dktX7_names_8 := dk_seg dksX7_names_7 23 rfl rfl
theorem dksX7_names_9 : cX7_names.data.toList.drop 207 = dktX7_names_9 := dk_seg dksX7_names_8 24 rfl rfl
theorem dksX7_names_10 : cX7_names.data.toList.drop 231 = dktX7_names_10 := dk_seg dksX7_names_9 24 rfl rfl
theorem dksX7_names_11 : cX7_names.data.toList.drop 255 = dktX7_names_11 := dk_seg dksX7_names_10 24 rfl rfl
theorem dksX7_names_12 : cX7_names.data.toList.drop 278 = dktX7_names_12 := dk_seg dksX7_names_11 23 rfl rfl
theorem dksX7_names_13 : cX7_names.data.toList.drop 301 = dktX7_names_13 := dk_seg dksX7_names_12 23 rfl rfl
theorem dksX7_names_14 : cX7_names.data.toList.drop 324 = dktX7_names_14 := dk_seg dksX7_names_13 23 rfl rfl
theorem dksX7_names_15 : cX7_names.data.toList.drop 348 = dktX7_names_15 := dk_seg dksX7_names_14 24 rfl rfl
theorem dksX7_names_16 : cX7_names.data.toList.drop 371 = dktX7_names_16 := dk_seg dksX7_names_15 23 rfl rfl
theorem dksX7_names_17 : cX7_names.data.toList.drop 395 = dktX7_names_17 := dk_seg dksX7_names_16 24 rfl rfl
theorem dksX7_names_18 : cX7_names.data.toList.drop 419 = dktX7_names_18 := dk_seg dksX7_names_17 24 rfl rfl
theorem dX7_names_0 : decode cX7_names 0 = .ok (.aload_n 0, 1) := dk_42 (dk_at dksX7_names_0 0 rfl rfl)
theorem dX7_names_1 : decode cX7_names 1 = .ok (.iconst 0, 1) := dk_3 (dk_at dksX7_names_0 1 rfl rfl)
theorem dX7_names_2 : decode cX7_names 2 = .ok (.putfield 129, 3) := dk_181 0 129 (dk_at dksX7_names_0 2 rfl rfl)
theorem dX7_names_5 : decode cX7_names 5 = .ok (.iload_n 1, 1) := dk_27 (dk_at dksX7_names_0 5 rfl rfl)
theorem dX7_names_6 : decode cX7_names 6 = .ok (.iconst 0, 1) := dk_3 (dk_at dksX7_names_0 6 rfl rfl)
theorem dX7_names_7 : decode cX7_names 7 = .ok (.ldc_w 320, 3) := dk_19 1 64 (dk_at dksX7_names_0 7 rfl rfl)
theorem dX7_names_10 : decode cX7_names 10 = .ok (.invokestatic 204, 3) := dk_184 0 204 (dk_at dksX7_names_0 10 rfl rfl)
theorem dX7_names_13 : decode cX7_names 13 = .ok (.ifCond .ne 7, 3) := dk_154 0 7 (dk_at dksX7_names_0 13 rfl rfl)
theorem dX7_names_16 : decode cX7_names 16 = .ok (.ldc_w 321, 3) := dk_19 1 65 (dk_at dksX7_names_0 16 rfl rfl)
theorem dX7_names_19 : decode cX7_names 19 = .ok (.ireturn, 1) := dk_172 (dk_at dksX7_names_0 19 rfl rfl)
theorem dX7_names_20 : decode cX7_names 20 = .ok (.aload_n 0, 1) := dk_42 (dk_at dksX7_names_0 20 rfl rfl)
theorem dX7_names_21 : decode cX7_names 21 = .ok (.aload_n 0, 1) := dk_42 (dk_at dksX7_names_0 21 rfl rfl)
theorem dX7_names_22 : decode cX7_names 22 = .ok (.getfield 208, 3) := dk_180 0 208 (dk_at dksX7_names_1 0 rfl rfl)
theorem dX7_names_25 : decode cX7_names 25 = .ok (.invokevirtual 257, 3) := dk_182 1 1 (dk_at dksX7_names_1 3 rfl rfl)
theorem dX7_names_28 : decode cX7_names 28 = .ok (.iconst 0, 1) := dk_3 (dk_at dksX7_names_1 6 rfl rfl)
theorem dX7_names_29 : decode cX7_names 29 = .ok (.istore_n 2, 1) := dk_61 (dk_at dksX7_names_1 7 rfl rfl)
theorem dX7_names_30 : decode cX7_names 30 = .ok (.iconst 1, 1) := dk_4 (dk_at dksX7_names_1 8 rfl rfl)
theorem dX7_names_31 : decode cX7_names 31 = .ok (.istore_n 3, 1) := dk_62 (dk_at dksX7_names_1 9 rfl rfl)
theorem dX7_names_32 : decode cX7_names 32 = .ok (.iconst 0, 1) := dk_3 (dk_at dksX7_names_1 10 rfl rfl)
theorem dX7_names_33 : decode cX7_names 33 = .ok (.istore 4, 2) := dk_54 4 (dk_at dksX7_names_1 11 rfl rfl)
theorem dX7_names_35 : decode cX7_names 35 = .ok (.iload 4, 2) := dk_21 4 (dk_at dksX7_names_1 13 rfl rfl)
theorem dX7_names_37 : decode cX7_names 37 = .ok (.aload_n 0, 1) := dk_42 (dk_at dksX7_names_1 15 rfl rfl)
theorem dX7_names_38 : decode cX7_names 38 = .ok (.getfield 211, 3) := dk_180 0 211 (dk_at dksX7_names_1 16 rfl rfl)
theorem dX7_names_41 : decode cX7_names 41 = .ok (.if_icmp .ge 66, 3) := dk_162 0 66 (dk_at dksX7_names_1 19 rfl rfl)
theorem dX7_names_44 : decode cX7_names 44 = .ok (.aload_n 0, 1) := dk_42 (dk_at dksX7_names_1 22 rfl rfl)
theorem dX7_names_45 : decode cX7_names 45 = .ok (.getfield 96, 3) := dk_180 0 96 (dk_at dksX7_names_2 0 rfl rfl)
theorem dX7_names_48 : decode cX7_names 48 = .ok (.iload 4, 2) := dk_21 4 (dk_at dksX7_names_2 3 rfl rfl)
theorem dX7_names_50 : decode cX7_names 50 = .ok (.iaload, 1) := dk_46 (dk_at dksX7_names_2 5 rfl rfl)
theorem dX7_names_51 : decode cX7_names 51 = .ok (.iconst (-1), 1) := dk_2 (dk_at dksX7_names_2 6 rfl rfl)
theorem dX7_names_52 : decode cX7_names 52 = .ok (.if_icmp .ne 49, 3) := dk_160 0 49 (dk_at dksX7_names_2 7 rfl rfl)
theorem dX7_names_55 : decode cX7_names 55 = .ok (.aload_n 0, 1) := dk_42 (dk_at dksX7_names_2 10 rfl rfl)
theorem dX7_names_56 : decode cX7_names 56 = .ok (.iload 4, 2) := dk_21 4 (dk_at dksX7_names_2 11 rfl rfl)
theorem dX7_names_58 : decode cX7_names 58 = .ok (.iconst (-1), 1) := dk_2 (dk_at dksX7_names_2 13 rfl rfl)
theorem dX7_names_59 : decode cX7_names 59 = .ok (.invokevirtual 224, 3) := dk_182 0 224 (dk_at dksX7_names_2 14 rfl rfl)
theorem dX7_names_62 : decode cX7_names 62 = .ok (.ifCond .ne 6, 3) := dk_154 0 6 (dk_at dksX7_names_2 17 rfl rfl)
theorem dX7_names_65 : decode cX7_names 65 = .ok (.goto 36, 3) := dk_167 0 36 (dk_at dksX7_names_2 20 rfl rfl)
theorem dX7_names_68 : decode cX7_names 68 = .ok (.aload_n 0, 1) := dk_42 (dk_at dksX7_names_2 23 rfl rfl)
theorem dX7_names_69 : decode cX7_names 69 = .ok (.getfield 114, 3) := dk_180 0 114 (dk_at dksX7_names_3 0 rfl rfl)
theorem dX7_names_72 : decode cX7_names 72 = .ok (.iload_n 2, 1) := dk_28 (dk_at dksX7_names_3 3 rfl rfl)
theorem dX7_names_73 : decode cX7_names 73 = .ok (.iload 4, 2) := dk_21 4 (dk_at dksX7_names_3 4 rfl rfl)
theorem dX7_names_75 : decode cX7_names 75 = .ok (.iastore, 1) := dk_79 (dk_at dksX7_names_3 6 rfl rfl)
theorem dX7_names_76 : decode cX7_names 76 = .ok (.iinc 2 1, 3) := dk_132 2 1 (dk_at dksX7_names_3 7 rfl rfl)
theorem dX7_names_79 : decode cX7_names 79 = .ok (.iload_n 3, 1) := dk_29 (dk_at dksX7_names_3 10 rfl rfl)
theorem dX7_names_80 : decode cX7_names 80 = .ok (.sipush 5000, 3) := dk_17 19 136 (dk_at dksX7_names_3 11 rfl rfl)
theorem dX7_names_83 : decode cX7_names 83 = .ok (.if_icmp .le 7, 3) := dk_164 0 7 (dk_at dksX7_names_3 14 rfl rfl)
theorem dX7_names_86 : decode cX7_names 86 = .ok (.iload_n 3, 1) := dk_29 (dk_at dksX7_names_3 17 rfl rfl)
theorem dX7_names_87 : decode cX7_names 87 = .ok (.goto 13, 3) := dk_167 0 13 (dk_at dksX7_names_3 18 rfl rfl)
theorem dX7_names_90 : decode cX7_names 90 = .ok (.iload_n 3, 1) := dk_29 (dk_at dksX7_names_3 21 rfl rfl)
theorem dX7_names_91 : decode cX7_names 91 = .ok (.aload_n 0, 1) := dk_42 (dk_at dksX7_names_3 22 rfl rfl)
theorem dX7_names_92 : decode cX7_names 92 = .ok (.getfield 86, 3) := dk_180 0 86 (dk_at dksX7_names_4 0 rfl rfl)
theorem dX7_names_95 : decode cX7_names 95 = .ok (.iconst 3, 1) := dk_6 (dk_at dksX7_names_4 3 rfl rfl)
theorem dX7_names_96 : decode cX7_names 96 = .ok (.iaload, 1) := dk_46 (dk_at dksX7_names_4 4 rfl rfl)
theorem dX7_names_97 : decode cX7_names 97 = .ok (.iconst 1, 1) := dk_4 (dk_at dksX7_names_4 5 rfl rfl)
theorem dX7_names_98 : decode cX7_names 98 = .ok (.iadd, 1) := dk_96 (dk_at dksX7_names_4 6 rfl rfl)
theorem dX7_names_99 : decode cX7_names 99 = .ok (.imul, 1) := dk_104 (dk_at dksX7_names_4 7 rfl rfl)
theorem dX7_names_100 : decode cX7_names 100 = .ok (.istore_n 3, 1) := dk_62 (dk_at dksX7_names_4 8 rfl rfl)
theorem dX7_names_101 : decode cX7_names 101 = .ok (.iinc 4 1, 3) := dk_132 4 1 (dk_at dksX7_names_4 9 rfl rfl)
theorem dX7_names_104 : decode cX7_names 104 = .ok (.goto (-69), 3) := dk_167 255 187 (dk_at dksX7_names_4 12 rfl rfl)
theorem dX7_names_107 : decode cX7_names 107 = .ok (.iload_n 3, 1) := dk_29 (dk_at dksX7_names_4 15 rfl rfl)
theorem dX7_names_108 : decode cX7_names 108 = .ok (.sipush 5000, 3) := dk_17 19 136 (dk_at dksX7_names_4 16 rfl rfl)
theorem dX7_names_111 : decode cX7_names 111 = .ok (.if_icmp .le 7, 3) := dk_164 0 7 (dk_at dksX7_names_4 19 rfl rfl)
theorem dX7_names_114 : decode cX7_names 114 = .ok (.ldc_w 321, 3) := dk_19 1 65 (dk_at dksX7_names_5 0 rfl rfl)
theorem dX7_names_117 : decode cX7_names 117 = .ok (.ireturn, 1) := dk_172 (dk_at dksX7_names_5 3 rfl rfl)
theorem dX7_names_118 : decode cX7_names 118 = .ok (.aload_n 0, 1) := dk_42 (dk_at dksX7_names_5 4 rfl rfl)
theorem dX7_names_119 : decode cX7_names 119 = .ok (.iconst 0, 1) := dk_3 (dk_at dksX7_names_5 5 rfl rfl)
theorem dX7_names_120 : decode cX7_names 120 = .ok (.invokevirtual 314, 3) := dk_182 1 58 (dk_at dksX7_names_5 6 rfl rfl)
theorem dX7_names_123 : decode cX7_names 123 = .ok (.iconst 0, 1) := dk_3 (dk_at dksX7_names_5 9 rfl rfl)
theorem dX7_names_124 : decode cX7_names 124 = .ok (.istore 4, 2) := dk_54 4 (dk_at dksX7_names_5 10 rfl rfl)
theorem dX7_names_126 : decode cX7_names 126 = .ok (.iload 4, 2) := dk_21 4 (dk_at dksX7_names_5 12 rfl rfl)
theorem dX7_names_128 : decode cX7_names 128 = .ok (.iload_n 2, 1) := dk_28 (dk_at dksX7_names_5 14 rfl rfl)
theorem dX7_names_129 : decode cX7_names 129 = .ok (.if_icmp .ge 60, 3) := dk_162 0 60 (dk_at dksX7_names_5 15 rfl rfl)
theorem dX7_names_132 : decode cX7_names 132 = .ok (.aload_n 0, 1) := dk_42 (dk_at dksX7_names_5 18 rfl rfl)
theorem dX7_names_133 : decode cX7_names 133 = .ok (.getfield 120, 3) := dk_180 0 120 (dk_at dksX7_names_5 19 rfl rfl)
theorem dX7_names_136 : decode cX7_names 136 = .ok (.iload 4, 2) := dk_21 4 (dk_at dksX7_names_5 22 rfl rfl)
theorem dX7_names_138 : decode cX7_names 138 = .ok (.aload_n 0, 1) := dk_42 (dk_at dksX7_names_6 0 rfl rfl)
theorem dX7_names_139 : decode cX7_names 139 = .ok (.aload_n 0, 1) := dk_42 (dk_at dksX7_names_6 1 rfl rfl)
theorem dX7_names_140 : decode cX7_names 140 = .ok (.getfield 114, 3) := dk_180 0 114 (dk_at dksX7_names_6 2 rfl rfl)
theorem dX7_names_143 : decode cX7_names 143 = .ok (.iload 4, 2) := dk_21 4 (dk_at dksX7_names_6 5 rfl rfl)
theorem dX7_names_145 : decode cX7_names 145 = .ok (.iaload, 1) := dk_46 (dk_at dksX7_names_6 7 rfl rfl)
theorem dX7_names_146 : decode cX7_names 146 = .ok (.iconst (-1), 1) := dk_2 (dk_at dksX7_names_6 8 rfl rfl)
theorem dX7_names_147 : decode cX7_names 147 = .ok (.invokevirtual 227, 3) := dk_182 0 227 (dk_at dksX7_names_6 9 rfl rfl)
theorem dX7_names_150 : decode cX7_names 150 = .ok (.iastore, 1) := dk_79 (dk_at dksX7_names_6 12 rfl rfl)
theorem dX7_names_151 : decode cX7_names 151 = .ok (.aload_n 0, 1) := dk_42 (dk_at dksX7_names_6 13 rfl rfl)
theorem dX7_names_152 : decode cX7_names 152 = .ok (.getfield 117, 3) := dk_180 0 117 (dk_at dksX7_names_6 14 rfl rfl)
theorem dX7_names_155 : decode cX7_names 155 = .ok (.iload 4, 2) := dk_21 4 (dk_at dksX7_names_6 17 rfl rfl)
theorem dX7_names_157 : decode cX7_names 157 = .ok (.iconst 2, 1) := dk_5 (dk_at dksX7_names_6 19 rfl rfl)
theorem dX7_names_158 : decode cX7_names 158 = .ok (.aload_n 0, 1) := dk_42 (dk_at dksX7_names_6 20 rfl rfl)
theorem dX7_names_159 : decode cX7_names 159 = .ok (.aload_n 0, 1) := dk_42 (dk_at dksX7_names_6 21 rfl rfl)
theorem dX7_names_160 : decode cX7_names 160 = .ok (.getfield 114, 3) := dk_180 0 114 (dk_at dksX7_names_7 0 rfl rfl)
theorem dX7_names_163 : decode cX7_names 163 = .ok (.iload 4, 2) := dk_21 4 (dk_at dksX7_names_7 3 rfl rfl)
theorem dX7_names_165 : decode cX7_names 165 = .ok (.iaload, 1) := dk_46 (dk_at dksX7_names_7 5 rfl rfl)
theorem dX7_names_166 : decode cX7_names 166 = .ok (.invokevirtual 308, 3) := dk_182 1 52 (dk_at dksX7_names_7 6 rfl rfl)
theorem dX7_names_169 : decode cX7_names 169 = .ok (.imul, 1) := dk_104 (dk_at dksX7_names_7 9 rfl rfl)
theorem dX7_names_170 : decode cX7_names 170 = .ok (.sipush 1000, 3) := dk_17 3 232 (dk_at dksX7_names_7 10 rfl rfl)
theorem dX7_names_173 : decode cX7_names 173 = .ok (.aload_n 0, 1) := dk_42 (dk_at dksX7_names_7 13 rfl rfl)
theorem dX7_names_174 : decode cX7_names 174 = .ok (.getfield 120, 3) := dk_180 0 120 (dk_at dksX7_names_7 14 rfl rfl)
theorem dX7_names_177 : decode cX7_names 177 = .ok (.iload 4, 2) := dk_21 4 (dk_at dksX7_names_7 17 rfl rfl)
theorem dX7_names_179 : decode cX7_names 179 = .ok (.iaload, 1) := dk_46 (dk_at dksX7_names_7 19 rfl rfl)
theorem dX7_names_180 : decode cX7_names 180 = .ok (.imul, 1) := dk_104 (dk_at dksX7_names_7 20 rfl rfl)
theorem dX7_names_181 : decode cX7_names 181 = .ok (.isub, 1) := dk_100 (dk_at dksX7_names_7 21 rfl rfl)
theorem dX7_names_182 : decode cX7_names 182 = .ok (.iastore, 1) := dk_79 (dk_at dksX7_names_7 22 rfl rfl)
theorem dX7_names_183 : decode cX7_names 183 = .ok (.iinc 4 1, 3) := dk_132 4 1 (dk_at dksX7_names_8 0 rfl rfl)
theorem dX7_names_186 : decode cX7_names 186 = .ok (.goto (-60), 3) := dk_167 255 196 (dk_at dksX7_names_8 3 rfl rfl)
theorem dX7_names_189 : decode cX7_names 189 = .ok (.iconst 0, 1) := dk_3 (dk_at dksX7_names_8 6 rfl rfl)
theorem dX7_names_190 : decode cX7_names 190 = .ok (.istore 4, 2) := dk_54 4 (dk_at dksX7_names_8 7 rfl rfl)
theorem dX7_names_192 : decode cX7_names 192 = .ok (.iconst 0, 1) := dk_3 (dk_at dksX7_names_8 9 rfl rfl)
theorem dX7_names_193 : decode cX7_names 193 = .ok (.istore 5, 2) := dk_54 5 (dk_at dksX7_names_8 10 rfl rfl)
theorem dX7_names_195 : decode cX7_names 195 = .ok (.iconst 0, 1) := dk_3 (dk_at dksX7_names_8 12 rfl rfl)
theorem dX7_names_196 : decode cX7_names 196 = .ok (.istore 6, 2) := dk_54 6 (dk_at dksX7_names_8 13 rfl rfl)
theorem dX7_names_198 : decode cX7_names 198 = .ok (.iconst 0, 1) := dk_3 (dk_at dksX7_names_8 15 rfl rfl)
theorem dX7_names_199 : decode cX7_names 199 = .ok (.istore 7, 2) := dk_54 7 (dk_at dksX7_names_8 16 rfl rfl)
theorem dX7_names_201 : decode cX7_names 201 = .ok (.iload 7, 2) := dk_21 7 (dk_at dksX7_names_8 18 rfl rfl)
theorem dX7_names_203 : decode cX7_names 203 = .ok (.iload_n 3, 1) := dk_29 (dk_at dksX7_names_8 20 rfl rfl)
theorem dX7_names_204 : decode cX7_names 204 = .ok (.if_icmp .ge 210, 3) := dk_162 0 210 (dk_at dksX7_names_8 21 rfl rfl)
theorem dX7_names_207 : decode cX7_names 207 = .ok (.iload 7, 2) := dk_21 7 (dk_at dksX7_names_9 0 rfl rfl)
theorem dX7_names_209 : decode cX7_names 209 = .ok (.istore 8, 2) := dk_54 8 (dk_at dksX7_names_9 2 rfl rfl)
theorem dX7_names_211 : decode cX7_names 211 = .ok (.iconst 0, 1) := dk_3 (dk_at dksX7_names_9 4 rfl rfl)
theorem dX7_names_212 : decode cX7_names 212 = .ok (.istore 9, 2) := dk_54 9 (dk_at dksX7_names_9 5 rfl rfl)
theorem dX7_names_214 : decode cX7_names 214 = .ok (.iconst 0, 1) := dk_3 (dk_at dksX7_names_9 7 rfl rfl)
theorem dX7_names_215 : decode cX7_names 215 = .ok (.istore 10, 2) := dk_54 10 (dk_at dksX7_names_9 8 rfl rfl)
theorem dX7_names_217 : decode cX7_names 217 = .ok (.iload_n 2, 1) := dk_28 (dk_at dksX7_names_9 10 rfl rfl)
theorem dX7_names_218 : decode cX7_names 218 = .ok (.iconst 1, 1) := dk_4 (dk_at dksX7_names_9 11 rfl rfl)
theorem dX7_names_219 : decode cX7_names 219 = .ok (.isub, 1) := dk_100 (dk_at dksX7_names_9 12 rfl rfl)
theorem dX7_names_220 : decode cX7_names 220 = .ok (.istore 11, 2) := dk_54 11 (dk_at dksX7_names_9 13 rfl rfl)
theorem dX7_names_222 : decode cX7_names 222 = .ok (.iload 11, 2) := dk_21 11 (dk_at dksX7_names_9 15 rfl rfl)
theorem dX7_names_224 : decode cX7_names 224 = .ok (.ifCond .lt 80, 3) := dk_155 0 80 (dk_at dksX7_names_9 17 rfl rfl)
theorem dX7_names_227 : decode cX7_names 227 = .ok (.aload_n 0, 1) := dk_42 (dk_at dksX7_names_9 20 rfl rfl)
theorem dX7_names_228 : decode cX7_names 228 = .ok (.getfield 111, 3) := dk_180 0 111 (dk_at dksX7_names_9 21 rfl rfl)
theorem dX7_names_231 : decode cX7_names 231 = .ok (.iload 11, 2) := dk_21 11 (dk_at dksX7_names_10 0 rfl rfl)
theorem dX7_names_233 : decode cX7_names 233 = .ok (.iload 8, 2) := dk_21 8 (dk_at dksX7_names_10 2 rfl rfl)
theorem dX7_names_235 : decode cX7_names 235 = .ok (.aload_n 0, 1) := dk_42 (dk_at dksX7_names_10 4 rfl rfl)
theorem dX7_names_236 : decode cX7_names 236 = .ok (.getfield 86, 3) := dk_180 0 86 (dk_at dksX7_names_10 5 rfl rfl)
theorem dX7_names_239 : decode cX7_names 239 = .ok (.iconst 3, 1) := dk_6 (dk_at dksX7_names_10 8 rfl rfl)
theorem dX7_names_240 : decode cX7_names 240 = .ok (.iaload, 1) := dk_46 (dk_at dksX7_names_10 9 rfl rfl)
theorem dX7_names_241 : decode cX7_names 241 = .ok (.iconst 1, 1) := dk_4 (dk_at dksX7_names_10 10 rfl rfl)
theorem dX7_names_242 : decode cX7_names 242 = .ok (.iadd, 1) := dk_96 (dk_at dksX7_names_10 11 rfl rfl)
theorem dX7_names_243 : decode cX7_names 243 = .ok (.irem, 1) := dk_112 (dk_at dksX7_names_10 12 rfl rfl)
theorem dX7_names_244 : decode cX7_names 244 = .ok (.iastore, 1) := dk_79 (dk_at dksX7_names_10 13 rfl rfl)
theorem dX7_names_245 : decode cX7_names 245 = .ok (.iload 8, 2) := dk_21 8 (dk_at dksX7_names_10 14 rfl rfl)
theorem dX7_names_247 : decode cX7_names 247 = .ok (.aload_n 0, 1) := dk_42 (dk_at dksX7_names_10 16 rfl rfl)
theorem dX7_names_248 : decode cX7_names 248 = .ok (.getfield 86, 3) := dk_180 0 86 (dk_at dksX7_names_10 17 rfl rfl)
theorem dX7_names_251 : decode cX7_names 251 = .ok (.iconst 3, 1) := dk_6 (dk_at dksX7_names_10 20 rfl rfl)
theorem dX7_names_252 : decode cX7_names 252 = .ok (.iaload, 1) := dk_46 (dk_at dksX7_names_10 21 rfl rfl)
theorem dX7_names_253 : decode cX7_names 253 = .ok (.iconst 1, 1) := dk_4 (dk_at dksX7_names_10 22 rfl rfl)
theorem dX7_names_254 : decode cX7_names 254 = .ok (.iadd, 1) := dk_96 (dk_at dksX7_names_10 23 rfl rfl)
theorem dX7_names_255 : decode cX7_names 255 = .ok (.idiv, 1) := dk_108 (dk_at dksX7_names_11 0 rfl rfl)
theorem dX7_names_256 : decode cX7_names 256 = .ok (.istore 8, 2) := dk_54 8 (dk_at dksX7_names_11 1 rfl rfl)
theorem dX7_names_258 : decode cX7_names 258 = .ok (.iload 9, 2) := dk_21 9 (dk_at dksX7_names_11 3 rfl rfl)
theorem dX7_names_260 : decode cX7_names 260 = .ok (.aload_n 0, 1) := dk_42 (dk_at dksX7_names_11 5 rfl rfl)
theorem dX7_names_261 : decode cX7_names 261 = .ok (.getfield 111, 3) := dk_180 0 111 (dk_at dksX7_names_11 6 rfl rfl)
theorem dX7_names_264 : decode cX7_names 264 = .ok (.iload 11, 2) := dk_21 11 (dk_at dksX7_names_11 9 rfl rfl)
theorem dX7_names_266 : decode cX7_names 266 = .ok (.iaload, 1) := dk_46 (dk_at dksX7_names_11 11 rfl rfl)
theorem dX7_names_267 : decode cX7_names 267 = .ok (.aload_n 0, 1) := dk_42 (dk_at dksX7_names_11 12 rfl rfl)
theorem dX7_names_268 : decode cX7_names 268 = .ok (.getfield 117, 3) := dk_180 0 117 (dk_at dksX7_names_11 13 rfl rfl)
theorem dX7_names_271 : decode cX7_names 271 = .ok (.iload 11, 2) := dk_21 11 (dk_at dksX7_names_11 16 rfl rfl)
theorem dX7_names_273 : decode cX7_names 273 = .ok (.iaload, 1) := dk_46 (dk_at dksX7_names_11 18 rfl rfl)
theorem dX7_names_274 : decode cX7_names 274 = .ok (.imul, 1) := dk_104 (dk_at dksX7_names_11 19 rfl rfl)
theorem dX7_names_275 : decode cX7_names 275 = .ok (.iadd, 1) := dk_96 (dk_at dksX7_names_11 20 rfl rfl)
theorem dX7_names_276 : decode cX7_names 276 = .ok (.istore 9, 2) := dk_54 9 (dk_at dksX7_names_11 21 rfl rfl)
theorem dX7_names_278 : decode cX7_names 278 = .ok (.iload 10, 2) := dk_21 10 (dk_at dksX7_names_12 0 rfl rfl)
theorem dX7_names_280 : decode cX7_names 280 = .ok (.aload_n 0, 1) := dk_42 (dk_at dksX7_names_12 2 rfl rfl)
theorem dX7_names_281 : decode cX7_names 281 = .ok (.getfield 111, 3) := dk_180 0 111 (dk_at dksX7_names_12 3 rfl rfl)
theorem dX7_names_284 : decode cX7_names 284 = .ok (.iload 11, 2) := dk_21 11 (dk_at dksX7_names_12 6 rfl rfl)
theorem dX7_names_286 : decode cX7_names 286 = .ok (.iaload, 1) := dk_46 (dk_at dksX7_names_12 8 rfl rfl)
theorem dX7_names_287 : decode cX7_names 287 = .ok (.aload_n 0, 1) := dk_42 (dk_at dksX7_names_12 9 rfl rfl)
theorem dX7_names_288 : decode cX7_names 288 = .ok (.getfield 120, 3) := dk_180 0 120 (dk_at dksX7_names_12 10 rfl rfl)
theorem dX7_names_291 : decode cX7_names 291 = .ok (.iload 11, 2) := dk_21 11 (dk_at dksX7_names_12 13 rfl rfl)
theorem dX7_names_293 : decode cX7_names 293 = .ok (.iaload, 1) := dk_46 (dk_at dksX7_names_12 15 rfl rfl)
theorem dX7_names_294 : decode cX7_names 294 = .ok (.imul, 1) := dk_104 (dk_at dksX7_names_12 16 rfl rfl)
theorem dX7_names_295 : decode cX7_names 295 = .ok (.iadd, 1) := dk_96 (dk_at dksX7_names_12 17 rfl rfl)
theorem dX7_names_296 : decode cX7_names 296 = .ok (.istore 10, 2) := dk_54 10 (dk_at dksX7_names_12 18 rfl rfl)
theorem dX7_names_298 : decode cX7_names 298 = .ok (.iinc 11 (-1), 3) := dk_132 11 255 (dk_at dksX7_names_12 20 rfl rfl)
theorem dX7_names_301 : decode cX7_names 301 = .ok (.goto (-79), 3) := dk_167 255 177 (dk_at dksX7_names_13 0 rfl rfl)
theorem dX7_names_304 : decode cX7_names 304 = .ok (.iload 10, 2) := dk_21 10 (dk_at dksX7_names_13 3 rfl rfl)
theorem dX7_names_306 : decode cX7_names 306 = .ok (.iload_n 1, 1) := dk_27 (dk_at dksX7_names_13 5 rfl rfl)
theorem dX7_names_307 : decode cX7_names 307 = .ok (.if_icmp .gt 101, 3) := dk_163 0 101 (dk_at dksX7_names_13 6 rfl rfl)
theorem dX7_names_310 : decode cX7_names 310 = .ok (.iload 4, 2) := dk_21 4 (dk_at dksX7_names_13 9 rfl rfl)
theorem dX7_names_312 : decode cX7_names 312 = .ok (.ifCond .eq 27, 3) := dk_153 0 27 (dk_at dksX7_names_13 11 rfl rfl)
theorem dX7_names_315 : decode cX7_names 315 = .ok (.iload 9, 2) := dk_21 9 (dk_at dksX7_names_13 14 rfl rfl)
theorem dX7_names_317 : decode cX7_names 317 = .ok (.iload 5, 2) := dk_21 5 (dk_at dksX7_names_13 16 rfl rfl)
theorem dX7_names_319 : decode cX7_names 319 = .ok (.if_icmp .lt 89, 3) := dk_161 0 89 (dk_at dksX7_names_13 18 rfl rfl)
theorem dX7_names_322 : decode cX7_names 322 = .ok (.iload 9, 2) := dk_21 9 (dk_at dksX7_names_13 21 rfl rfl)
theorem dX7_names_324 : decode cX7_names 324 = .ok (.iload 5, 2) := dk_21 5 (dk_at dksX7_names_14 0 rfl rfl)
theorem dX7_names_326 : decode cX7_names 326 = .ok (.if_icmp .ne 13, 3) := dk_160 0 13 (dk_at dksX7_names_14 2 rfl rfl)
theorem dX7_names_329 : decode cX7_names 329 = .ok (.iload 10, 2) := dk_21 10 (dk_at dksX7_names_14 5 rfl rfl)
theorem dX7_names_331 : decode cX7_names 331 = .ok (.iload 6, 2) := dk_21 6 (dk_at dksX7_names_14 7 rfl rfl)
theorem dX7_names_333 : decode cX7_names 333 = .ok (.if_icmp .lt 6, 3) := dk_161 0 6 (dk_at dksX7_names_14 9 rfl rfl)
theorem dX7_names_336 : decode cX7_names 336 = .ok (.goto 72, 3) := dk_167 0 72 (dk_at dksX7_names_14 12 rfl rfl)
theorem dX7_names_339 : decode cX7_names 339 = .ok (.iconst 1, 1) := dk_4 (dk_at dksX7_names_14 15 rfl rfl)
theorem dX7_names_340 : decode cX7_names 340 = .ok (.istore 4, 2) := dk_54 4 (dk_at dksX7_names_14 16 rfl rfl)
theorem dX7_names_342 : decode cX7_names 342 = .ok (.iload 9, 2) := dk_21 9 (dk_at dksX7_names_14 18 rfl rfl)
theorem dX7_names_344 : decode cX7_names 344 = .ok (.istore 5, 2) := dk_54 5 (dk_at dksX7_names_14 20 rfl rfl)
theorem dX7_names_346 : decode cX7_names 346 = .ok (.iload 10, 2) := dk_21 10 (dk_at dksX7_names_14 22 rfl rfl)
theorem dX7_names_348 : decode cX7_names 348 = .ok (.istore 6, 2) := dk_54 6 (dk_at dksX7_names_15 0 rfl rfl)
theorem dX7_names_350 : decode cX7_names 350 = .ok (.iconst 0, 1) := dk_3 (dk_at dksX7_names_15 2 rfl rfl)
theorem dX7_names_351 : decode cX7_names 351 = .ok (.istore 11, 2) := dk_54 11 (dk_at dksX7_names_15 3 rfl rfl)
theorem dX7_names_353 : decode cX7_names 353 = .ok (.iload 11, 2) := dk_21 11 (dk_at dksX7_names_15 5 rfl rfl)
theorem dX7_names_355 : decode cX7_names 355 = .ok (.bipush 12, 2) := dk_16 12 (dk_at dksX7_names_15 7 rfl rfl)
theorem dX7_names_357 : decode cX7_names 357 = .ok (.if_icmp .ge 17, 3) := dk_162 0 17 (dk_at dksX7_names_15 9 rfl rfl)
theorem dX7_names_360 : decode cX7_names 360 = .ok (.aload_n 0, 1) := dk_42 (dk_at dksX7_names_15 12 rfl rfl)
theorem dX7_names_361 : decode cX7_names 361 = .ok (.getfield 108, 3) := dk_180 0 108 (dk_at dksX7_names_15 13 rfl rfl)
theorem dX7_names_364 : decode cX7_names 364 = .ok (.iload 11, 2) := dk_21 11 (dk_at dksX7_names_15 16 rfl rfl)
theorem dX7_names_366 : decode cX7_names 366 = .ok (.iconst 0, 1) := dk_3 (dk_at dksX7_names_15 18 rfl rfl)
theorem dX7_names_367 : decode cX7_names 367 = .ok (.iastore, 1) := dk_79 (dk_at dksX7_names_15 19 rfl rfl)
theorem dX7_names_368 : decode cX7_names 368 = .ok (.iinc 11 1, 3) := dk_132 11 1 (dk_at dksX7_names_15 20 rfl rfl)
theorem dX7_names_371 : decode cX7_names 371 = .ok (.goto (-18), 3) := dk_167 255 238 (dk_at dksX7_names_16 0 rfl rfl)
theorem dX7_names_374 : decode cX7_names 374 = .ok (.iconst 0, 1) := dk_3 (dk_at dksX7_names_16 3 rfl rfl)
theorem dX7_names_375 : decode cX7_names 375 = .ok (.istore 11, 2) := dk_54 11 (dk_at dksX7_names_16 4 rfl rfl)
theorem dX7_names_377 : decode cX7_names 377 = .ok (.iload 11, 2) := dk_21 11 (dk_at dksX7_names_16 6 rfl rfl)
theorem dX7_names_379 : decode cX7_names 379 = .ok (.iload_n 2, 1) := dk_28 (dk_at dksX7_names_16 8 rfl rfl)
theorem dX7_names_380 : decode cX7_names 380 = .ok (.if_icmp .ge 28, 3) := dk_162 0 28 (dk_at dksX7_names_16 9 rfl rfl)
theorem dX7_names_383 : decode cX7_names 383 = .ok (.aload_n 0, 1) := dk_42 (dk_at dksX7_names_16 12 rfl rfl)
theorem dX7_names_384 : decode cX7_names 384 = .ok (.getfield 108, 3) := dk_180 0 108 (dk_at dksX7_names_16 13 rfl rfl)
theorem dX7_names_387 : decode cX7_names 387 = .ok (.aload_n 0, 1) := dk_42 (dk_at dksX7_names_16 16 rfl rfl)
theorem dX7_names_388 : decode cX7_names 388 = .ok (.getfield 114, 3) := dk_180 0 114 (dk_at dksX7_names_16 17 rfl rfl)
theorem dX7_names_391 : decode cX7_names 391 = .ok (.iload 11, 2) := dk_21 11 (dk_at dksX7_names_16 20 rfl rfl)
theorem dX7_names_393 : decode cX7_names 393 = .ok (.iaload, 1) := dk_46 (dk_at dksX7_names_16 22 rfl rfl)
theorem dX7_names_394 : decode cX7_names 394 = .ok (.aload_n 0, 1) := dk_42 (dk_at dksX7_names_16 23 rfl rfl)
theorem dX7_names_395 : decode cX7_names 395 = .ok (.getfield 111, 3) := dk_180 0 111 (dk_at dksX7_names_17 0 rfl rfl)
theorem dX7_names_398 : decode cX7_names 398 = .ok (.iload 11, 2) := dk_21 11 (dk_at dksX7_names_17 3 rfl rfl)
theorem dX7_names_400 : decode cX7_names 400 = .ok (.iaload, 1) := dk_46 (dk_at dksX7_names_17 5 rfl rfl)
theorem dX7_names_401 : decode cX7_names 401 = .ok (.iastore, 1) := dk_79 (dk_at dksX7_names_17 6 rfl rfl)
theorem dX7_names_402 : decode cX7_names 402 = .ok (.iinc 11 1, 3) := dk_132 11 1 (dk_at dksX7_names_17 7 rfl rfl)
theorem dX7_names_405 : decode cX7_names 405 = .ok (.goto (-28), 3) := dk_167 255 228 (dk_at dksX7_names_17 10 rfl rfl)
theorem dX7_names_408 : decode cX7_names 408 = .ok (.iinc 7 1, 3) := dk_132 7 1 (dk_at dksX7_names_17 13 rfl rfl)
theorem dX7_names_411 : decode cX7_names 411 = .ok (.goto (-210), 3) := dk_167 255 46 (dk_at dksX7_names_17 16 rfl rfl)
theorem dX7_names_414 : decode cX7_names 414 = .ok (.aload_n 0, 1) := dk_42 (dk_at dksX7_names_17 19 rfl rfl)
theorem dX7_names_415 : decode cX7_names 415 = .ok (.iconst 1, 1) := dk_4 (dk_at dksX7_names_17 20 rfl rfl)
theorem dX7_names_416 : decode cX7_names 416 = .ok (.putfield 322, 3) := dk_181 1 66 (dk_at dksX7_names_17 21 rfl rfl)
theorem dX7_names_419 : decode cX7_names 419 = .ok (.iload 5, 2) := dk_21 5 (dk_at dksX7_names_18 0 rfl rfl)
theorem dX7_names_421 : decode cX7_names 421 = .ok (.ireturn, 1) := dk_172 (dk_at dksX7_names_18 2 rfl rfl)
abbrev cX7_named : ByteArray := prog_19_method_67_code
def yX7_named : MethodName := ⟨RX7, "named", "(I)I"⟩
def dkwX7_named_1 : List UInt8 := [27, 46, 167, 0, 4, 2, 172]
abbrev dktX7_named_1 : List UInt8 := dkwX7_named_1 ++ []
def dkwX7_named_0 : List UInt8 := [42, 3, 181, 0, 129, 42, 180, 1, 66, 153, 0, 20, 42, 27, 182, 0, 221, 153, 0, 12, 42, 180, 0, 108]
abbrev dktX7_named_0 : List UInt8 := dkwX7_named_0 ++ dktX7_named_1
theorem dksX7_named_0 : cX7_named.data.toList.drop 0 = dktX7_named_0 := by decide +kernel
theorem dksX7_named_1 : cX7_named.data.toList.drop 24 = dktX7_named_1 := dk_seg dksX7_named_0 24 rfl rfl
theorem dX7_named_0 : decode cX7_named 0 = .ok (.aload_n 0, 1) := dk_42 (dk_at dksX7_named_0 0 rfl rfl)
theorem dX7_named_1 : decode cX7_named 1 = .ok (.iconst 0, 1) := dk_3 (dk_at dksX7_named_0 1 rfl rfl)
theorem dX7_named_2 : decode cX7_named 2 = .ok (.putfield 129, 3) := dk_181 0 129 (dk_at dksX7_named_0 2 rfl rfl)
theorem dX7_named_5 : decode cX7_named 5 = .ok (.aload_n 0, 1) := dk_42 (dk_at dksX7_named_0 5 rfl rfl)
theorem dX7_named_6 : decode cX7_named 6 = .ok (.getfield 322, 3) := dk_180 1 66 (dk_at dksX7_named_0 6 rfl rfl)
theorem dX7_named_9 : decode cX7_named 9 = .ok (.ifCond .eq 20, 3) := dk_153 0 20 (dk_at dksX7_named_0 9 rfl rfl)
theorem dX7_named_12 : decode cX7_named 12 = .ok (.aload_n 0, 1) := dk_42 (dk_at dksX7_named_0 12 rfl rfl)
theorem dX7_named_13 : decode cX7_named 13 = .ok (.iload_n 1, 1) := dk_27 (dk_at dksX7_named_0 13 rfl rfl)
theorem dX7_named_14 : decode cX7_named 14 = .ok (.invokevirtual 221, 3) := dk_182 0 221 (dk_at dksX7_named_0 14 rfl rfl)
theorem dX7_named_17 : decode cX7_named 17 = .ok (.ifCond .eq 12, 3) := dk_153 0 12 (dk_at dksX7_named_0 17 rfl rfl)
theorem dX7_named_20 : decode cX7_named 20 = .ok (.aload_n 0, 1) := dk_42 (dk_at dksX7_named_0 20 rfl rfl)
theorem dX7_named_21 : decode cX7_named 21 = .ok (.getfield 108, 3) := dk_180 0 108 (dk_at dksX7_named_0 21 rfl rfl)
theorem dX7_named_24 : decode cX7_named 24 = .ok (.iload_n 1, 1) := dk_27 (dk_at dksX7_named_1 0 rfl rfl)
theorem dX7_named_25 : decode cX7_named 25 = .ok (.iaload, 1) := dk_46 (dk_at dksX7_named_1 1 rfl rfl)
theorem dX7_named_26 : decode cX7_named 26 = .ok (.goto 4, 3) := dk_167 0 4 (dk_at dksX7_named_1 2 rfl rfl)
theorem dX7_named_29 : decode cX7_named 29 = .ok (.iconst (-1), 1) := dk_2 (dk_at dksX7_named_1 5 rfl rfl)
theorem dX7_named_30 : decode cX7_named 30 = .ok (.ireturn, 1) := dk_172 (dk_at dksX7_named_1 6 rfl rfl)
abbrev cX7_look : ByteArray := prog_19_method_69_code
def yX7_look : MethodName := ⟨RX7, "look", "(I)I"⟩
def dkwX7_look_5 : List UInt8 := [3, 96, 62, 132, 4, 1, 167, 255, 179, 29, 27, 160, 0, 5, 28, 172, 132, 2, 1, 167, 255, 140, 2, 172]
abbrev dktX7_look_5 : List UInt8 := dkwX7_look_5 ++ []
def dkwX7_look_4 : List UInt8 := [22, 7, 148, 157, 0, 17, 22, 5, 22, 7, 148, 154, 0, 13, 21, 4, 28, 162, 0, 7, 4, 167, 0, 4]
abbrev dktX7_look_4 : List UInt8 := dkwX7_look_4 ++ dktX7_look_5
def dkwX7_look_3 : List UInt8 := [159, 0, 6, 167, 0, 48, 42, 21, 4, 182, 1, 70, 55, 5, 42, 28, 182, 1, 70, 55, 7, 29, 22, 5]
abbrev dktX7_look_3 : List UInt8 := dkwX7_look_3 ++ dktX7_look_4
def dkwX7_look_2 : List UInt8 := [21, 4, 42, 180, 0, 211, 162, 0, 74, 21, 4, 28, 159, 0, 62, 42, 180, 0, 96, 21, 4, 46, 2]
abbrev dktX7_look_2 : List UInt8 := dkwX7_look_2 ++ dktX7_look_3
def dkwX7_look_1 : List UInt8 := [180, 0, 211, 162, 0, 114, 42, 180, 0, 96, 28, 46, 2, 159, 0, 6, 167, 0, 95, 3, 62, 3, 54, 4]
abbrev dktX7_look_1 : List UInt8 := dkwX7_look_1 ++ dktX7_look_2
def dkwX7_look_0 : List UInt8 := [42, 3, 181, 0, 129, 27, 156, 0, 5, 2, 172, 42, 42, 180, 0, 208, 182, 1, 1, 3, 61, 28, 42]
abbrev dktX7_look_0 : List UInt8 := dkwX7_look_0 ++ dktX7_look_1
theorem dksX7_look_0 : cX7_look.data.toList.drop 0 = dktX7_look_0 := by decide +kernel
theorem dksX7_look_1 : cX7_look.data.toList.drop 23 = dktX7_look_1 := dk_seg dksX7_look_0 23 rfl rfl
theorem dksX7_look_2 : cX7_look.data.toList.drop 47 = dktX7_look_2 := dk_seg dksX7_look_1 24 rfl rfl
theorem dksX7_look_3 : cX7_look.data.toList.drop 70 = dktX7_look_3 := dk_seg dksX7_look_2 23 rfl rfl
theorem dksX7_look_4 : cX7_look.data.toList.drop 94 = dktX7_look_4 := dk_seg dksX7_look_3 24 rfl rfl
theorem dksX7_look_5 : cX7_look.data.toList.drop 118 = dktX7_look_5 := dk_seg dksX7_look_4 24 rfl rfl
theorem dX7_look_0 : decode cX7_look 0 = .ok (.aload_n 0, 1) := dk_42 (dk_at dksX7_look_0 0 rfl rfl)
theorem dX7_look_1 : decode cX7_look 1 = .ok (.iconst 0, 1) := dk_3 (dk_at dksX7_look_0 1 rfl rfl)
theorem dX7_look_2 : decode cX7_look 2 = .ok (.putfield 129, 3) := dk_181 0 129 (dk_at dksX7_look_0 2 rfl rfl)
theorem dX7_look_5 : decode cX7_look 5 = .ok (.iload_n 1, 1) := dk_27 (dk_at dksX7_look_0 5 rfl rfl)
theorem dX7_look_6 : decode cX7_look 6 = .ok (.ifCond .ge 5, 3) := dk_156 0 5 (dk_at dksX7_look_0 6 rfl rfl)
theorem dX7_look_9 : decode cX7_look 9 = .ok (.iconst (-1), 1) := dk_2 (dk_at dksX7_look_0 9 rfl rfl)
theorem dX7_look_10 : decode cX7_look 10 = .ok (.ireturn, 1) := dk_172 (dk_at dksX7_look_0 10 rfl rfl)
theorem dX7_look_11 : decode cX7_look 11 = .ok (.aload_n 0, 1) := dk_42 (dk_at dksX7_look_0 11 rfl rfl)
theorem dX7_look_12 : decode cX7_look 12 = .ok (.aload_n 0, 1) := dk_42 (dk_at dksX7_look_0 12 rfl rfl)
theorem dX7_look_13 : decode cX7_look 13 = .ok (.getfield 208, 3) := dk_180 0 208 (dk_at dksX7_look_0 13 rfl rfl)
theorem dX7_look_16 : decode cX7_look 16 = .ok (.invokevirtual 257, 3) := dk_182 1 1 (dk_at dksX7_look_0 16 rfl rfl)
theorem dX7_look_19 : decode cX7_look 19 = .ok (.iconst 0, 1) := dk_3 (dk_at dksX7_look_0 19 rfl rfl)
theorem dX7_look_20 : decode cX7_look 20 = .ok (.istore_n 2, 1) := dk_61 (dk_at dksX7_look_0 20 rfl rfl)
theorem dX7_look_21 : decode cX7_look 21 = .ok (.iload_n 2, 1) := dk_28 (dk_at dksX7_look_0 21 rfl rfl)
theorem dX7_look_22 : decode cX7_look 22 = .ok (.aload_n 0, 1) := dk_42 (dk_at dksX7_look_0 22 rfl rfl)
theorem dX7_look_23 : decode cX7_look 23 = .ok (.getfield 211, 3) := dk_180 0 211 (dk_at dksX7_look_1 0 rfl rfl)
theorem dX7_look_26 : decode cX7_look 26 = .ok (.if_icmp .ge 114, 3) := dk_162 0 114 (dk_at dksX7_look_1 3 rfl rfl)
theorem dX7_look_29 : decode cX7_look 29 = .ok (.aload_n 0, 1) := dk_42 (dk_at dksX7_look_1 6 rfl rfl)
theorem dX7_look_30 : decode cX7_look 30 = .ok (.getfield 96, 3) := dk_180 0 96 (dk_at dksX7_look_1 7 rfl rfl)
theorem dX7_look_33 : decode cX7_look 33 = .ok (.iload_n 2, 1) := dk_28 (dk_at dksX7_look_1 10 rfl rfl)
theorem dX7_look_34 : decode cX7_look 34 = .ok (.iaload, 1) := dk_46 (dk_at dksX7_look_1 11 rfl rfl)
theorem dX7_look_35 : decode cX7_look 35 = .ok (.iconst (-1), 1) := dk_2 (dk_at dksX7_look_1 12 rfl rfl)
theorem dX7_look_36 : decode cX7_look 36 = .ok (.if_icmp .eq 6, 3) := dk_159 0 6 (dk_at dksX7_look_1 13 rfl rfl)
theorem dX7_look_39 : decode cX7_look 39 = .ok (.goto 95, 3) := dk_167 0 95 (dk_at dksX7_look_1 16 rfl rfl)
theorem dX7_look_42 : decode cX7_look 42 = .ok (.iconst 0, 1) := dk_3 (dk_at dksX7_look_1 19 rfl rfl)
theorem dX7_look_43 : decode cX7_look 43 = .ok (.istore_n 3, 1) := dk_62 (dk_at dksX7_look_1 20 rfl rfl)
theorem dX7_look_44 : decode cX7_look 44 = .ok (.iconst 0, 1) := dk_3 (dk_at dksX7_look_1 21 rfl rfl)
theorem dX7_look_45 : decode cX7_look 45 = .ok (.istore 4, 2) := dk_54 4 (dk_at dksX7_look_1 22 rfl rfl)
theorem dX7_look_47 : decode cX7_look 47 = .ok (.iload 4, 2) := dk_21 4 (dk_at dksX7_look_2 0 rfl rfl)
theorem dX7_look_49 : decode cX7_look 49 = .ok (.aload_n 0, 1) := dk_42 (dk_at dksX7_look_2 2 rfl rfl)
theorem dX7_look_50 : decode cX7_look 50 = .ok (.getfield 211, 3) := dk_180 0 211 (dk_at dksX7_look_2 3 rfl rfl)
theorem dX7_look_53 : decode cX7_look 53 = .ok (.if_icmp .ge 74, 3) := dk_162 0 74 (dk_at dksX7_look_2 6 rfl rfl)
theorem dX7_look_56 : decode cX7_look 56 = .ok (.iload 4, 2) := dk_21 4 (dk_at dksX7_look_2 9 rfl rfl)
theorem dX7_look_58 : decode cX7_look 58 = .ok (.iload_n 2, 1) := dk_28 (dk_at dksX7_look_2 11 rfl rfl)
theorem dX7_look_59 : decode cX7_look 59 = .ok (.if_icmp .eq 62, 3) := dk_159 0 62 (dk_at dksX7_look_2 12 rfl rfl)
theorem dX7_look_62 : decode cX7_look 62 = .ok (.aload_n 0, 1) := dk_42 (dk_at dksX7_look_2 15 rfl rfl)
theorem dX7_look_63 : decode cX7_look 63 = .ok (.getfield 96, 3) := dk_180 0 96 (dk_at dksX7_look_2 16 rfl rfl)
theorem dX7_look_66 : decode cX7_look 66 = .ok (.iload 4, 2) := dk_21 4 (dk_at dksX7_look_2 19 rfl rfl)
theorem dX7_look_68 : decode cX7_look 68 = .ok (.iaload, 1) := dk_46 (dk_at dksX7_look_2 21 rfl rfl)
theorem dX7_look_69 : decode cX7_look 69 = .ok (.iconst (-1), 1) := dk_2 (dk_at dksX7_look_2 22 rfl rfl)
theorem dX7_look_70 : decode cX7_look 70 = .ok (.if_icmp .eq 6, 3) := dk_159 0 6 (dk_at dksX7_look_3 0 rfl rfl)
theorem dX7_look_73 : decode cX7_look 73 = .ok (.goto 48, 3) := dk_167 0 48 (dk_at dksX7_look_3 3 rfl rfl)
theorem dX7_look_76 : decode cX7_look 76 = .ok (.aload_n 0, 1) := dk_42 (dk_at dksX7_look_3 6 rfl rfl)
theorem dX7_look_77 : decode cX7_look 77 = .ok (.iload 4, 2) := dk_21 4 (dk_at dksX7_look_3 7 rfl rfl)
theorem dX7_look_79 : decode cX7_look 79 = .ok (.invokevirtual 326, 3) := dk_182 1 70 (dk_at dksX7_look_3 9 rfl rfl)
theorem dX7_look_82 : decode cX7_look 82 = .ok (.lstore 5, 2) := dk_55 5 (dk_at dksX7_look_3 12 rfl rfl)
theorem dX7_look_84 : decode cX7_look 84 = .ok (.aload_n 0, 1) := dk_42 (dk_at dksX7_look_3 14 rfl rfl)
theorem dX7_look_85 : decode cX7_look 85 = .ok (.iload_n 2, 1) := dk_28 (dk_at dksX7_look_3 15 rfl rfl)
theorem dX7_look_86 : decode cX7_look 86 = .ok (.invokevirtual 326, 3) := dk_182 1 70 (dk_at dksX7_look_3 16 rfl rfl)
theorem dX7_look_89 : decode cX7_look 89 = .ok (.lstore 7, 2) := dk_55 7 (dk_at dksX7_look_3 19 rfl rfl)
theorem dX7_look_91 : decode cX7_look 91 = .ok (.iload_n 3, 1) := dk_29 (dk_at dksX7_look_3 21 rfl rfl)
theorem dX7_look_92 : decode cX7_look 92 = .ok (.lload 5, 2) := dk_22 5 (dk_at dksX7_look_3 22 rfl rfl)
theorem dX7_look_94 : decode cX7_look 94 = .ok (.lload 7, 2) := dk_22 7 (dk_at dksX7_look_4 0 rfl rfl)
theorem dX7_look_96 : decode cX7_look 96 = .ok (.lcmp, 1) := dk_148 (dk_at dksX7_look_4 2 rfl rfl)
theorem dX7_look_97 : decode cX7_look 97 = .ok (.ifCond .gt 17, 3) := dk_157 0 17 (dk_at dksX7_look_4 3 rfl rfl)
theorem dX7_look_100 : decode cX7_look 100 = .ok (.lload 5, 2) := dk_22 5 (dk_at dksX7_look_4 6 rfl rfl)
theorem dX7_look_102 : decode cX7_look 102 = .ok (.lload 7, 2) := dk_22 7 (dk_at dksX7_look_4 8 rfl rfl)
theorem dX7_look_104 : decode cX7_look 104 = .ok (.lcmp, 1) := dk_148 (dk_at dksX7_look_4 10 rfl rfl)
theorem dX7_look_105 : decode cX7_look 105 = .ok (.ifCond .ne 13, 3) := dk_154 0 13 (dk_at dksX7_look_4 11 rfl rfl)
theorem dX7_look_108 : decode cX7_look 108 = .ok (.iload 4, 2) := dk_21 4 (dk_at dksX7_look_4 14 rfl rfl)
theorem dX7_look_110 : decode cX7_look 110 = .ok (.iload_n 2, 1) := dk_28 (dk_at dksX7_look_4 16 rfl rfl)
theorem dX7_look_111 : decode cX7_look 111 = .ok (.if_icmp .ge 7, 3) := dk_162 0 7 (dk_at dksX7_look_4 17 rfl rfl)
theorem dX7_look_114 : decode cX7_look 114 = .ok (.iconst 1, 1) := dk_4 (dk_at dksX7_look_4 20 rfl rfl)
theorem dX7_look_115 : decode cX7_look 115 = .ok (.goto 4, 3) := dk_167 0 4 (dk_at dksX7_look_4 21 rfl rfl)
theorem dX7_look_118 : decode cX7_look 118 = .ok (.iconst 0, 1) := dk_3 (dk_at dksX7_look_5 0 rfl rfl)
theorem dX7_look_119 : decode cX7_look 119 = .ok (.iadd, 1) := dk_96 (dk_at dksX7_look_5 1 rfl rfl)
theorem dX7_look_120 : decode cX7_look 120 = .ok (.istore_n 3, 1) := dk_62 (dk_at dksX7_look_5 2 rfl rfl)
theorem dX7_look_121 : decode cX7_look 121 = .ok (.iinc 4 1, 3) := dk_132 4 1 (dk_at dksX7_look_5 3 rfl rfl)
theorem dX7_look_124 : decode cX7_look 124 = .ok (.goto (-77), 3) := dk_167 255 179 (dk_at dksX7_look_5 6 rfl rfl)
theorem dX7_look_127 : decode cX7_look 127 = .ok (.iload_n 3, 1) := dk_29 (dk_at dksX7_look_5 9 rfl rfl)
theorem dX7_look_128 : decode cX7_look 128 = .ok (.iload_n 1, 1) := dk_27 (dk_at dksX7_look_5 10 rfl rfl)
theorem dX7_look_129 : decode cX7_look 129 = .ok (.if_icmp .ne 5, 3) := dk_160 0 5 (dk_at dksX7_look_5 11 rfl rfl)
theorem dX7_look_132 : decode cX7_look 132 = .ok (.iload_n 2, 1) := dk_28 (dk_at dksX7_look_5 14 rfl rfl)
theorem dX7_look_133 : decode cX7_look 133 = .ok (.ireturn, 1) := dk_172 (dk_at dksX7_look_5 15 rfl rfl)
theorem dX7_look_134 : decode cX7_look 134 = .ok (.iinc 2 1, 3) := dk_132 2 1 (dk_at dksX7_look_5 16 rfl rfl)
theorem dX7_look_137 : decode cX7_look 137 = .ok (.goto (-116), 3) := dk_167 255 140 (dk_at dksX7_look_5 19 rfl rfl)
theorem dX7_look_140 : decode cX7_look 140 = .ok (.iconst (-1), 1) := dk_2 (dk_at dksX7_look_5 22 rfl rfl)
theorem dX7_look_141 : decode cX7_look 141 = .ok (.ireturn, 1) := dk_172 (dk_at dksX7_look_5 23 rfl rfl)
abbrev cX7_riskOf : ByteArray := prog_19_method_68_code
def yX7_riskOf : MethodName := ⟨RX7, "riskOf", "(I)J"⟩
def dkwX7_riskOf_8 : List UInt8 := [182, 0, 214, 184, 1, 43, 96, 46, 100, 133, 105, 42, 180, 0, 208, 29, 100, 133, 105, 173]
abbrev dktX7_riskOf_8 : List UInt8 := dkwX7_riskOf_8 ++ []
def dkwX7_riskOf_7 : List UInt8 := [28, 133, 17, 3, 232, 42, 180, 0, 52, 16, 10, 42, 180, 0, 16, 27, 46, 104, 42, 27, 42, 180, 0, 208]
abbrev dktX7_riskOf_7 : List UInt8 := dkwX7_riskOf_7 ++ dktX7_riskOf_8
def dkwX7_riskOf_6 : List UInt8 := [42, 180, 0, 46, 21, 5, 46, 54, 4, 132, 5, 1, 167, 255, 183, 21, 4, 2, 159, 0, 6, 21, 4, 62]
abbrev dktX7_riskOf_6 : List UInt8 := dkwX7_riskOf_6 ++ dktX7_riskOf_7
def dkwX7_riskOf_5 : List UInt8 := [160, 0, 33, 42, 21, 5, 182, 1, 5, 154, 0, 24, 42, 180, 0, 46, 21, 5, 46, 21, 4, 164, 0, 12]
abbrev dktX7_riskOf_5 : List UInt8 := dkwX7_riskOf_5 ++ dktX7_riskOf_6
def dkwX7_riskOf_4 : List UInt8 := [21, 5, 46, 154, 0, 54, 42, 180, 0, 93, 21, 5, 51, 153, 0, 44, 42, 180, 0, 43, 21, 5, 46, 27]
abbrev dktX7_riskOf_4 : List UInt8 := dkwX7_riskOf_4 ++ dktX7_riskOf_5
def dkwX7_riskOf_3 : List UInt8 := [154, 0, 5, 9, 173, 2, 54, 4, 3, 54, 5, 21, 5, 42, 180, 0, 252, 162, 0, 70, 42, 180, 0, 40]
abbrev dktX7_riskOf_3 : List UInt8 := dkwX7_riskOf_3 ++ dktX7_riskOf_4
def dkwX7_riskOf_2 : List UInt8 := [46, 96, 61, 29, 2, 160, 0, 11, 42, 180, 0, 19, 21, 4, 46, 62, 132, 4, 1, 167, 255, 196, 28]
abbrev dktX7_riskOf_2 : List UInt8 := dkwX7_riskOf_2 ++ dktX7_riskOf_3
def dkwX7_riskOf_1 : List UInt8 := [160, 0, 40, 42, 180, 0, 28, 21, 4, 46, 2, 159, 0, 6, 167, 0, 26, 28, 42, 180, 0, 31, 21, 4]
abbrev dktX7_riskOf_1 : List UInt8 := dkwX7_riskOf_1 ++ dktX7_riskOf_2
def dkwX7_riskOf_0 : List UInt8 := [3, 61, 2, 62, 3, 54, 4, 21, 4, 42, 180, 0, 233, 162, 0, 57, 42, 180, 0, 25, 21, 4, 46, 27]
abbrev dktX7_riskOf_0 : List UInt8 := dkwX7_riskOf_0 ++ dktX7_riskOf_1
theorem dksX7_riskOf_0 : cX7_riskOf.data.toList.drop 0 = dktX7_riskOf_0 := by decide +kernel
theorem dksX7_riskOf_1 : cX7_riskOf.data.toList.drop 24 = dktX7_riskOf_1 := dk_seg dksX7_riskOf_0 24 rfl rfl
theorem dksX7_riskOf_2 : cX7_riskOf.data.toList.drop 48 = dktX7_riskOf_2 := dk_seg dksX7_riskOf_1 24 rfl rfl
theorem dksX7_riskOf_3 : cX7_riskOf.data.toList.drop 71 = dktX7_riskOf_3 := dk_seg dksX7_riskOf_2 23 rfl rfl
theorem dksX7_riskOf_4 : cX7_riskOf.data.toList.drop 95 = dktX7_riskOf_4 := dk_seg dksX7_riskOf_3 24 rfl rfl
theorem dksX7_riskOf_5 : cX7_riskOf.data.toList.drop 119 = dktX7_riskOf_5 := dk_seg dksX7_riskOf_4 24 rfl rfl
theorem dksX7_riskOf_6 : cX7_riskOf.data.toList.drop 143 = dktX7_riskOf_6 := dk_seg dksX7_riskOf_5 24 rfl rfl
theorem dksX7_riskOf_7 : cX7_riskOf.data.toList.drop 167 = dktX7_riskOf_7 := dk_seg dksX7_riskOf_6 24 rfl rfl
theorem dksX7_riskOf_8 : cX7_riskOf.data.toList.drop 191 = dktX7_riskOf_8 := dk_seg dksX7_riskOf_7 24 rfl rfl
theorem dX7_riskOf_0 : decode cX7_riskOf 0 = .ok (.iconst 0, 1) := dk_3 (dk_at dksX7_riskOf_0 0 rfl rfl)
theorem dX7_riskOf_1 : decode cX7_riskOf 1 = .ok (.istore_n 2, 1) := dk_61 (dk_at dksX7_riskOf_0 1 rfl rfl)
theorem dX7_riskOf_2 : decode cX7_riskOf 2 = .ok (.iconst (-1), 1) := dk_2 (dk_at dksX7_riskOf_0 2 rfl rfl)
theorem dX7_riskOf_3 : decode cX7_riskOf 3 = .ok (.istore_n 3, 1) := dk_62 (dk_at dksX7_riskOf_0 3 rfl rfl)
theorem dX7_riskOf_4 : decode cX7_riskOf 4 = .ok (.iconst 0, 1) := dk_3 (dk_at dksX7_riskOf_0 4 rfl rfl)
theorem dX7_riskOf_5 : decode cX7_riskOf 5 = .ok (.istore 4, 2) := dk_54 4 (dk_at dksX7_riskOf_0 5 rfl rfl)
theorem dX7_riskOf_7 : decode cX7_riskOf 7 = .ok (.iload 4, 2) := dk_21 4 (dk_at dksX7_riskOf_0 7 rfl rfl)
theorem dX7_riskOf_9 : decode cX7_riskOf 9 = .ok (.aload_n 0, 1) := dk_42 (dk_at dksX7_riskOf_0 9 rfl rfl)
theorem dX7_riskOf_10 : decode cX7_riskOf 10 = .ok (.getfield 233, 3) := dk_180 0 233 (dk_at dksX7_riskOf_0 10 rfl rfl)
theorem dX7_riskOf_13 : decode cX7_riskOf 13 = .ok (.if_icmp .ge 57, 3) := dk_162 0 57 (dk_at dksX7_riskOf_0 13 rfl rfl)
theorem dX7_riskOf_16 : decode cX7_riskOf 16 = .ok (.aload_n 0, 1) := dk_42 (dk_at dksX7_riskOf_0 16 rfl rfl)
theorem dX7_riskOf_17 : decode cX7_riskOf 17 = .ok (.getfield 25, 3) := dk_180 0 25 (dk_at dksX7_riskOf_0 17 rfl rfl)
theorem dX7_riskOf_20 : decode cX7_riskOf 20 = .ok (.iload 4, 2) := dk_21 4 (dk_at dksX7_riskOf_0 20 rfl rfl)
theorem dX7_riskOf_22 : decode cX7_riskOf 22 = .ok (.iaload, 1) := dk_46 (dk_at dksX7_riskOf_0 22 rfl rfl)
theorem dX7_riskOf_23 : decode cX7_riskOf 23 = .ok (.iload_n 1, 1) := dk_27 (dk_at dksX7_riskOf_0 23 rfl rfl)
theorem dX7_riskOf_24 : decode cX7_riskOf 24 = .ok (.if_icmp .ne 40, 3) := dk_160 0 40 (dk_at dksX7_riskOf_1 0 rfl rfl)
theorem dX7_riskOf_27 : decode cX7_riskOf 27 = .ok (.aload_n 0, 1) := dk_42 (dk_at dksX7_riskOf_1 3 rfl rfl)
theorem dX7_riskOf_28 : decode cX7_riskOf 28 = .ok (.getfield 28, 3) := dk_180 0 28 (dk_at dksX7_riskOf_1 4 rfl rfl)
theorem dX7_riskOf_31 : decode cX7_riskOf 31 = .ok (.iload 4, 2) := dk_21 4 (dk_at dksX7_riskOf_1 7 rfl rfl)
theorem dX7_riskOf_33 : decode cX7_riskOf 33 = .ok (.iaload, 1) := dk_46 (dk_at dksX7_riskOf_1 9 rfl rfl)
theorem dX7_riskOf_34 : decode cX7_riskOf 34 = .ok (.iconst (-1), 1) := dk_2 (dk_at dksX7_riskOf_1 10 rfl rfl)
theorem dX7_riskOf_35 : decode cX7_riskOf 35 = .ok (.if_icmp .eq 6, 3) := dk_159 0 6 (dk_at dksX7_riskOf_1 11 rfl rfl)
theorem dX7_riskOf_38 : decode cX7_riskOf 38 = .ok (.goto 26, 3) := dk_167 0 26 (dk_at dksX7_riskOf_1 14 rfl rfl)
theorem dX7_riskOf_41 : decode cX7_riskOf 41 = .ok (.iload_n 2, 1) := dk_28 (dk_at dksX7_riskOf_1 17 rfl rfl)
theorem dX7_riskOf_42 : decode cX7_riskOf 42 = .ok (.aload_n 0, 1) := dk_42 (dk_at dksX7_riskOf_1 18 rfl rfl)
theorem dX7_riskOf_43 : decode cX7_riskOf 43 = .ok (.getfield 31, 3) := dk_180 0 31 (dk_at dksX7_riskOf_1 19 rfl rfl)
theorem dX7_riskOf_46 : decode cX7_riskOf 46 = .ok (.iload 4, 2) := dk_21 4 (dk_at dksX7_riskOf_1 22 rfl rfl)
theorem dX7_riskOf_48 : decode cX7_riskOf 48 = .ok (.iaload, 1) := dk_46 (dk_at dksX7_riskOf_2 0 rfl rfl)
theorem dX7_riskOf_49 : decode cX7_riskOf 49 = .ok (.iadd, 1) := dk_96 (dk_at dksX7_riskOf_2 1 rfl rfl)
theorem dX7_riskOf_50 : decode cX7_riskOf 50 = .ok (.istore_n 2, 1) := dk_61 (dk_at dksX7_riskOf_2 2 rfl rfl)
theorem dX7_riskOf_51 : decode cX7_riskOf 51 = .ok (.iload_n 3, 1) := dk_29 (dk_at dksX7_riskOf_2 3 rfl rfl)
theorem dX7_riskOf_52 : decode cX7_riskOf 52 = .ok (.iconst (-1), 1) := dk_2 (dk_at dksX7_riskOf_2 4 rfl rfl)
theorem dX7_riskOf_53 : decode cX7_riskOf 53 = .ok (.if_icmp .ne 11, 3) := dk_160 0 11 (dk_at dksX7_riskOf_2 5 rfl rfl)
theorem dX7_riskOf_56 : decode cX7_riskOf 56 = .ok (.aload_n 0, 1) := dk_42 (dk_at dksX7_riskOf_2 8 rfl rfl)
theorem dX7_riskOf_57 : decode cX7_riskOf 57 = .ok (.getfield 19, 3) := dk_180 0 19 (dk_at dksX7_riskOf_2 9 rfl rfl)
theorem dX7_riskOf_60 : decode cX7_riskOf 60 = .ok (.iload 4, 2) := dk_21 4 (dk_at dksX7_riskOf_2 12 rfl rfl)
theorem dX7_riskOf_62 : decode cX7_riskOf 62 = .ok (.iaload, 1) := dk_46 (dk_at dksX7_riskOf_2 14 rfl rfl)
theorem dX7_riskOf_63 : decode cX7_riskOf 63 = .ok (.istore_n 3, 1) := dk_62 (dk_at dksX7_riskOf_2 15 rfl rfl)
theorem dX7_riskOf_64 : decode cX7_riskOf 64 = .ok (.iinc 4 1, 3) := dk_132 4 1 (dk_at dksX7_riskOf_2 16 rfl rfl)
theorem dX7_riskOf_67 : decode cX7_riskOf 67 = .ok (.goto (-60), 3) := dk_167 255 196 (dk_at dksX7_riskOf_2 19 rfl rfl)
theorem dX7_riskOf_70 : decode cX7_riskOf 70 = .ok (.iload_n 2, 1) := dk_28 (dk_at dksX7_riskOf_2 22 rfl rfl)
theorem dX7_riskOf_71 : decode cX7_riskOf 71 = .ok (.ifCond .ne 5, 3) := dk_154 0 5 (dk_at dksX7_riskOf_3 0 rfl rfl)
theorem dX7_riskOf_74 : decode cX7_riskOf 74 = .ok (.lconst 0, 1) := dk_9 (dk_at dksX7_riskOf_3 3 rfl rfl)
theorem dX7_riskOf_75 : decode cX7_riskOf 75 = .ok (.lreturn, 1) := dk_173 (dk_at dksX7_riskOf_3 4 rfl rfl)
theorem dX7_riskOf_76 : decode cX7_riskOf 76 = .ok (.iconst (-1), 1) := dk_2 (dk_at dksX7_riskOf_3 5 rfl rfl)
theorem dX7_riskOf_77 : decode cX7_riskOf 77 = .ok (.istore 4, 2) := dk_54 4 (dk_at dksX7_riskOf_3 6 rfl rfl)
theorem dX7_riskOf_79 : decode cX7_riskOf 79 = .ok (.iconst 0, 1) := dk_3 (dk_at dksX7_riskOf_3 8 rfl rfl)
theorem dX7_riskOf_80 : decode cX7_riskOf 80 = .ok (.istore 5, 2) := dk_54 5 (dk_at dksX7_riskOf_3 9 rfl rfl)
theorem dX7_riskOf_82 : decode cX7_riskOf 82 = .ok (.iload 5, 2) := dk_21 5 (dk_at dksX7_riskOf_3 11 rfl rfl)
theorem dX7_riskOf_84 : decode cX7_riskOf 84 = .ok (.aload_n 0, 1) := dk_42 (dk_at dksX7_riskOf_3 13 rfl rfl)
theorem dX7_riskOf_85 : decode cX7_riskOf 85 = .ok (.getfield 252, 3) := dk_180 0 252 (dk_at dksX7_riskOf_3 14 rfl rfl)
theorem dX7_riskOf_88 : decode cX7_riskOf 88 = .ok (.if_icmp .ge 70, 3) := dk_162 0 70 (dk_at dksX7_riskOf_3 17 rfl rfl)
theorem dX7_riskOf_91 : decode cX7_riskOf 91 = .ok (.aload_n 0, 1) := dk_42 (dk_at dksX7_riskOf_3 20 rfl rfl)
theorem dX7_riskOf_92 : decode cX7_riskOf 92 = .ok (.getfield 40, 3) := dk_180 0 40 (dk_at dksX7_riskOf_3 21 rfl rfl)
theorem dX7_riskOf_95 : decode cX7_riskOf 95 = .ok (.iload 5, 2) := dk_21 5 (dk_at dksX7_riskOf_4 0 rfl rfl)
theorem dX7_riskOf_97 : decode cX7_riskOf 97 = .ok (.iaload, 1) := dk_46 (dk_at dksX7_riskOf_4 2 rfl rfl)
theorem dX7_riskOf_98 : decode cX7_riskOf 98 = .ok (.ifCond .ne 54, 3) := dk_154 0 54 (dk_at dksX7_riskOf_4 3 rfl rfl)
theorem dX7_riskOf_101 : decode cX7_riskOf 101 = .ok (.aload_n 0, 1) := dk_42 (dk_at dksX7_riskOf_4 6 rfl rfl)
theorem dX7_riskOf_102 : decode cX7_riskOf 102 = .ok (.getfield 93, 3) := dk_180 0 93 (dk_at dksX7_riskOf_4 7 rfl rfl)
theorem dX7_riskOf_105 : decode cX7_riskOf 105 = .ok (.iload 5, 2) := dk_21 5 (dk_at dksX7_riskOf_4 10 rfl rfl)
theorem dX7_riskOf_107 : decode cX7_riskOf 107 = .ok (.baload, 1) := dk_51 (dk_at dksX7_riskOf_4 12 rfl rfl)
theorem dX7_riskOf_108 : decode cX7_riskOf 108 = .ok (.ifCond .eq 44, 3) := dk_153 0 44 (dk_at dksX7_riskOf_4 13 rfl rfl)
theorem dX7_riskOf_111 : decode cX7_riskOf 111 = .ok (.aload_n 0, 1) := dk_42 (dk_at dksX7_riskOf_4 16 rfl rfl)
theorem dX7_riskOf_112 : decode cX7_riskOf 112 = .ok (.getfield 43, 3) := dk_180 0 43 (dk_at dksX7_riskOf_4 17 rfl rfl)
theorem dX7_riskOf_115 : decode cX7_riskOf 115 = .ok (.iload 5, 2) := dk_21 5 (dk_at dksX7_riskOf_4 20 rfl rfl)
theorem dX7_riskOf_117 : decode cX7_riskOf 117 = .ok (.iaload, 1) := dk_46 (dk_at dksX7_riskOf_4 22 rfl rfl)
theorem dX7_riskOf_118 : decode cX7_riskOf 118 = .ok (.iload_n 1, 1) := dk_27 (dk_at dksX7_riskOf_4 23 rfl rfl)
theorem dX7_riskOf_119 : decode cX7_riskOf 119 = .ok (.if_icmp .ne 33, 3) := dk_160 0 33 (dk_at dksX7_riskOf_5 0 rfl rfl)
theorem dX7_riskOf_122 : decode cX7_riskOf 122 = .ok (.aload_n 0, 1) := dk_42 (dk_at dksX7_riskOf_5 3 rfl rfl)
theorem dX7_riskOf_123 : decode cX7_riskOf 123 = .ok (.iload 5, 2) := dk_21 5 (dk_at dksX7_riskOf_5 4 rfl rfl)
theorem dX7_riskOf_125 : decode cX7_riskOf 125 = .ok (.invokevirtual 261, 3) := dk_182 1 5 (dk_at dksX7_riskOf_5 6 rfl rfl)
theorem dX7_riskOf_128 : decode cX7_riskOf 128 = .ok (.ifCond .ne 24, 3) := dk_154 0 24 (dk_at dksX7_riskOf_5 9 rfl rfl)
theorem dX7_riskOf_131 : decode cX7_riskOf 131 = .ok (.aload_n 0, 1) := dk_42 (dk_at dksX7_riskOf_5 12 rfl rfl)
theorem dX7_riskOf_132 : decode cX7_riskOf 132 = .ok (.getfield 46, 3) := dk_180 0 46 (dk_at dksX7_riskOf_5 13 rfl rfl)
theorem dX7_riskOf_135 : decode cX7_riskOf 135 = .ok (.iload 5, 2) := dk_21 5 (dk_at dksX7_riskOf_5 16 rfl rfl)
theorem dX7_riskOf_137 : decode cX7_riskOf 137 = .ok (.iaload, 1) := dk_46 (dk_at dksX7_riskOf_5 18 rfl rfl)
theorem dX7_riskOf_138 : decode cX7_riskOf 138 = .ok (.iload 4, 2) := dk_21 4 (dk_at dksX7_riskOf_5 19 rfl rfl)
theorem dX7_riskOf_140 : decode cX7_riskOf 140 = .ok (.if_icmp .le 12, 3) := dk_164 0 12 (dk_at dksX7_riskOf_5 21 rfl rfl)
theorem dX7_riskOf_143 : decode cX7_riskOf 143 = .ok (.aload_n 0, 1) := dk_42 (dk_at dksX7_riskOf_6 0 rfl rfl)
theorem dX7_riskOf_144 : decode cX7_riskOf 144 = .ok (.getfield 46, 3) := dk_180 0 46 (dk_at dksX7_riskOf_6 1 rfl rfl)
theorem dX7_riskOf_147 : decode cX7_riskOf 147 = .ok (.iload 5, 2) := dk_21 5 (dk_at dksX7_riskOf_6 4 rfl rfl)
theorem dX7_riskOf_149 : decode cX7_riskOf 149 = .ok (.iaload, 1) := dk_46 (dk_at dksX7_riskOf_6 6 rfl rfl)
theorem dX7_riskOf_150 : decode cX7_riskOf 150 = .ok (.istore 4, 2) := dk_54 4 (dk_at dksX7_riskOf_6 7 rfl rfl)
theorem dX7_riskOf_152 : decode cX7_riskOf 152 = .ok (.iinc 5 1, 3) := dk_132 5 1 (dk_at dksX7_riskOf_6 9 rfl rfl)
theorem dX7_riskOf_155 : decode cX7_riskOf 155 = .ok (.goto (-73), 3) := dk_167 255 183 (dk_at dksX7_riskOf_6 12 rfl rfl)
theorem dX7_riskOf_158 : decode cX7_riskOf 158 = .ok (.iload 4, 2) := dk_21 4 (dk_at dksX7_riskOf_6 15 rfl rfl)
theorem dX7_riskOf_160 : decode cX7_riskOf 160 = .ok (.iconst (-1), 1) := dk_2 (dk_at dksX7_riskOf_6 17 rfl rfl)
theorem dX7_riskOf_161 : decode cX7_riskOf 161 = .ok (.if_icmp .eq 6, 3) := dk_159 0 6 (dk_at dksX7_riskOf_6 18 rfl rfl)
theorem dX7_riskOf_164 : decode cX7_riskOf 164 = .ok (.iload 4, 2) := dk_21 4 (dk_at dksX7_riskOf_6 21 rfl rfl)
theorem dX7_riskOf_166 : decode cX7_riskOf 166 = .ok (.istore_n 3, 1) := dk_62 (dk_at dksX7_riskOf_6 23 rfl rfl)
theorem dX7_riskOf_167 : decode cX7_riskOf 167 = .ok (.iload_n 2, 1) := dk_28 (dk_at dksX7_riskOf_7 0 rfl rfl)
theorem dX7_riskOf_168 : decode cX7_riskOf 168 = .ok (.i2l, 1) := dk_133 (dk_at dksX7_riskOf_7 1 rfl rfl)
theorem dX7_riskOf_169 : decode cX7_riskOf 169 = .ok (.sipush 1000, 3) := dk_17 3 232 (dk_at dksX7_riskOf_7 2 rfl rfl)
theorem dX7_riskOf_172 : decode cX7_riskOf 172 = .ok (.aload_n 0, 1) := dk_42 (dk_at dksX7_riskOf_7 5 rfl rfl)
theorem dX7_riskOf_173 : decode cX7_riskOf 173 = .ok (.getfield 52, 3) := dk_180 0 52 (dk_at dksX7_riskOf_7 6 rfl rfl)
theorem dX7_riskOf_176 : decode cX7_riskOf 176 = .ok (.bipush 10, 2) := dk_16 10 (dk_at dksX7_riskOf_7 9 rfl rfl)
theorem dX7_riskOf_178 : decode cX7_riskOf 178 = .ok (.aload_n 0, 1) := dk_42 (dk_at dksX7_riskOf_7 11 rfl rfl)
theorem dX7_riskOf_179 : decode cX7_riskOf 179 = .ok (.getfield 16, 3) := dk_180 0 16 (dk_at dksX7_riskOf_7 12 rfl rfl)
theorem dX7_riskOf_182 : decode cX7_riskOf 182 = .ok (.iload_n 1, 1) := dk_27 (dk_at dksX7_riskOf_7 15 rfl rfl)
theorem dX7_riskOf_183 : decode cX7_riskOf 183 = .ok (.iaload, 1) := dk_46 (dk_at dksX7_riskOf_7 16 rfl rfl)
theorem dX7_riskOf_184 : decode cX7_riskOf 184 = .ok (.imul, 1) := dk_104 (dk_at dksX7_riskOf_7 17 rfl rfl)
theorem dX7_riskOf_185 : decode cX7_riskOf 185 = .ok (.aload_n 0, 1) := dk_42 (dk_at dksX7_riskOf_7 18 rfl rfl)
theorem dX7_riskOf_186 : decode cX7_riskOf 186 = .ok (.iload_n 1, 1) := dk_27 (dk_at dksX7_riskOf_7 19 rfl rfl)
theorem dX7_riskOf_187 : decode cX7_riskOf 187 = .ok (.aload_n 0, 1) := dk_42 (dk_at dksX7_riskOf_7 20 rfl rfl)
theorem dX7_riskOf_188 : decode cX7_riskOf 188 = .ok (.getfield 208, 3) := dk_180 0 208 (dk_at dksX7_riskOf_7 21 rfl rfl)
theorem dX7_riskOf_191 : decode cX7_riskOf 191 = .ok (.invokevirtual 214, 3) := dk_182 0 214 (dk_at dksX7_riskOf_8 0 rfl rfl)
theorem dX7_riskOf_194 : decode cX7_riskOf 194 = .ok (.invokestatic 299, 3) := dk_184 1 43 (dk_at dksX7_riskOf_8 3 rfl rfl)
theorem dX7_riskOf_197 : decode cX7_riskOf 197 = .ok (.iadd, 1) := dk_96 (dk_at dksX7_riskOf_8 6 rfl rfl)
theorem dX7_riskOf_198 : decode cX7_riskOf 198 = .ok (.iaload, 1) := dk_46 (dk_at dksX7_riskOf_8 7 rfl rfl)
theorem dX7_riskOf_199 : decode cX7_riskOf 199 = .ok (.isub, 1) := dk_100 (dk_at dksX7_riskOf_8 8 rfl rfl)
theorem dX7_riskOf_200 : decode cX7_riskOf 200 = .ok (.i2l, 1) := dk_133 (dk_at dksX7_riskOf_8 9 rfl rfl)
theorem dX7_riskOf_201 : decode cX7_riskOf 201 = .ok (.lmul, 1) := dk_105 (dk_at dksX7_riskOf_8 10 rfl rfl)
theorem dX7_riskOf_202 : decode cX7_riskOf 202 = .ok (.aload_n 0, 1) := dk_42 (dk_at dksX7_riskOf_8 11 rfl rfl)
theorem dX7_riskOf_203 : decode cX7_riskOf 203 = .ok (.getfield 208, 3) := dk_180 0 208 (dk_at dksX7_riskOf_8 12 rfl rfl)
theorem dX7_riskOf_206 : decode cX7_riskOf 206 = .ok (.iload_n 3, 1) := dk_29 (dk_at dksX7_riskOf_8 15 rfl rfl)
theorem dX7_riskOf_207 : decode cX7_riskOf 207 = .ok (.isub, 1) := dk_100 (dk_at dksX7_riskOf_8 16 rfl rfl)
theorem dX7_riskOf_208 : decode cX7_riskOf 208 = .ok (.i2l, 1) := dk_133 (dk_at dksX7_riskOf_8 17 rfl rfl)
theorem dX7_riskOf_209 : decode cX7_riskOf 209 = .ok (.lmul, 1) := dk_105 (dk_at dksX7_riskOf_8 18 rfl rfl)
theorem dX7_riskOf_210 : decode cX7_riskOf 210 = .ok (.lreturn, 1) := dk_173 (dk_at dksX7_riskOf_8 19 rfl rfl)
abbrev cX7_risk : ByteArray := prog_19_method_71_code
def yX7_risk : MethodName := ⟨RX7, "risk", "(I)J"⟩
def dkwX7_risk_2 : List UInt8 := [182, 1, 70, 173]
abbrev dktX7_risk_2 : List UInt8 := dkwX7_risk_2 ++ []
def dkwX7_risk_1 : List UInt8 := [182, 1, 1, 42, 180, 0, 96, 27, 46, 2, 159, 0, 11, 42, 5, 182, 1, 74, 167, 0, 8, 42, 27]
abbrev dktX7_risk_1 : List UInt8 := dkwX7_risk_1 ++ dktX7_risk_2
def dkwX7_risk_0 : List UInt8 := [42, 3, 181, 0, 129, 42, 27, 182, 0, 221, 154, 0, 9, 42, 4, 182, 1, 74, 173, 42, 42, 180, 0, 208]
abbrev dktX7_risk_0 : List UInt8 := dkwX7_risk_0 ++ dktX7_risk_1
theorem dksX7_risk_0 : cX7_risk.data.toList.drop 0 = dktX7_risk_0 := by decide +kernel
theorem dksX7_risk_1 : cX7_risk.data.toList.drop 24 = dktX7_risk_1 := dk_seg dksX7_risk_0 24 rfl rfl
theorem dksX7_risk_2 : cX7_risk.data.toList.drop 47 = dktX7_risk_2 := dk_seg dksX7_risk_1 23 rfl rfl
theorem dX7_risk_0 : decode cX7_risk 0 = .ok (.aload_n 0, 1) := dk_42 (dk_at dksX7_risk_0 0 rfl rfl)
theorem dX7_risk_1 : decode cX7_risk 1 = .ok (.iconst 0, 1) := dk_3 (dk_at dksX7_risk_0 1 rfl rfl)
theorem dX7_risk_2 : decode cX7_risk 2 = .ok (.putfield 129, 3) := dk_181 0 129 (dk_at dksX7_risk_0 2 rfl rfl)
theorem dX7_risk_5 : decode cX7_risk 5 = .ok (.aload_n 0, 1) := dk_42 (dk_at dksX7_risk_0 5 rfl rfl)
theorem dX7_risk_6 : decode cX7_risk 6 = .ok (.iload_n 1, 1) := dk_27 (dk_at dksX7_risk_0 6 rfl rfl)
theorem dX7_risk_7 : decode cX7_risk 7 = .ok (.invokevirtual 221, 3) := dk_182 0 221 (dk_at dksX7_risk_0 7 rfl rfl)
theorem dX7_risk_10 : decode cX7_risk 10 = .ok (.ifCond .ne 9, 3) := dk_154 0 9 (dk_at dksX7_risk_0 10 rfl rfl)
theorem dX7_risk_13 : decode cX7_risk 13 = .ok (.aload_n 0, 1) := dk_42 (dk_at dksX7_risk_0 13 rfl rfl)
theorem dX7_risk_14 : decode cX7_risk 14 = .ok (.iconst 1, 1) := dk_4 (dk_at dksX7_risk_0 14 rfl rfl)
theorem dX7_risk_15 : decode cX7_risk 15 = .ok (.invokevirtual 330, 3) := dk_182 1 74 (dk_at dksX7_risk_0 15 rfl rfl)
theorem dX7_risk_18 : decode cX7_risk 18 = .ok (.lreturn, 1) := dk_173 (dk_at dksX7_risk_0 18 rfl rfl)
theorem dX7_risk_19 : decode cX7_risk 19 = .ok (.aload_n 0, 1) := dk_42 (dk_at dksX7_risk_0 19 rfl rfl)
theorem dX7_risk_20 : decode cX7_risk 20 = .ok (.aload_n 0, 1) := dk_42 (dk_at dksX7_risk_0 20 rfl rfl)
theorem dX7_risk_21 : decode cX7_risk 21 = .ok (.getfield 208, 3) := dk_180 0 208 (dk_at dksX7_risk_0 21 rfl rfl)
theorem dX7_risk_24 : decode cX7_risk 24 = .ok (.invokevirtual 257, 3) := dk_182 1 1 (dk_at dksX7_risk_1 0 rfl rfl)
theorem dX7_risk_27 : decode cX7_risk 27 = .ok (.aload_n 0, 1) := dk_42 (dk_at dksX7_risk_1 3 rfl rfl)
theorem dX7_risk_28 : decode cX7_risk 28 = .ok (.getfield 96, 3) := dk_180 0 96 (dk_at dksX7_risk_1 4 rfl rfl)
theorem dX7_risk_31 : decode cX7_risk 31 = .ok (.iload_n 1, 1) := dk_27 (dk_at dksX7_risk_1 7 rfl rfl)
theorem dX7_risk_32 : decode cX7_risk 32 = .ok (.iaload, 1) := dk_46 (dk_at dksX7_risk_1 8 rfl rfl)
theorem dX7_risk_33 : decode cX7_risk 33 = .ok (.iconst (-1), 1) := dk_2 (dk_at dksX7_risk_1 9 rfl rfl)
theorem dX7_risk_34 : decode cX7_risk 34 = .ok (.if_icmp .eq 11, 3) := dk_159 0 11 (dk_at dksX7_risk_1 10 rfl rfl)
theorem dX7_risk_37 : decode cX7_risk 37 = .ok (.aload_n 0, 1) := dk_42 (dk_at dksX7_risk_1 13 rfl rfl)
theorem dX7_risk_38 : decode cX7_risk 38 = .ok (.iconst 2, 1) := dk_5 (dk_at dksX7_risk_1 14 rfl rfl)
theorem dX7_risk_39 : decode cX7_risk 39 = .ok (.invokevirtual 330, 3) := dk_182 1 74 (dk_at dksX7_risk_1 15 rfl rfl)
theorem dX7_risk_42 : decode cX7_risk 42 = .ok (.goto 8, 3) := dk_167 0 8 (dk_at dksX7_risk_1 18 rfl rfl)
theorem dX7_risk_45 : decode cX7_risk 45 = .ok (.aload_n 0, 1) := dk_42 (dk_at dksX7_risk_1 21 rfl rfl)
theorem dX7_risk_46 : decode cX7_risk 46 = .ok (.iload_n 1, 1) := dk_27 (dk_at dksX7_risk_1 22 rfl rfl)
theorem dX7_risk_47 : decode cX7_risk 47 = .ok (.invokevirtual 326, 3) := dk_182 1 70 (dk_at dksX7_risk_2 0 rfl rfl)
theorem dX7_risk_50 : decode cX7_risk 50 = .ok (.lreturn, 1) := dk_173 (dk_at dksX7_risk_2 3 rfl rfl)
abbrev cX7_fails : ByteArray := prog_19_method_70_code
def yX7_fails : MethodName := ⟨RX7, "fails", "(I)J"⟩
def dkwX7_fails_0 : List UInt8 := [42, 27, 181, 0, 129, 9, 173]
abbrev dktX7_fails_0 : List UInt8 := dkwX7_fails_0 ++ []
theorem dksX7_fails_0 : cX7_fails.data.toList.drop 0 = dktX7_fails_0 := by decide +kernel
theorem dX7_fails_0 : decode cX7_fails 0 = .ok (.aload_n 0, 1) := dk_42 (dk_at dksX7_fails_0 0 rfl rfl)
theorem dX7_fails_1 : decode cX7_fails 1 = .ok (.iload_n 1, 1) := dk_27 (dk_at dksX7_fails_0 1 rfl rfl)
theorem dX7_fails_2 : decode cX7_fails 2 = .ok (.putfield 129, 3) := dk_181 0 129 (dk_at dksX7_fails_0 2 rfl rfl)
theorem dX7_fails_5 : decode cX7_fails 5 = .ok (.lconst 0, 1) := dk_9 (dk_at dksX7_fails_0 5 rfl rfl)
theorem dX7_fails_6 : decode cX7_fails 6 = .ok (.lreturn, 1) := dk_173 (dk_at dksX7_fails_0 6 rfl rfl)
abbrev cX7_converts : ByteArray := prog_19_method_73_code
def yX7_converts : MethodName := ⟨RX7, "converts", "(I)I"⟩
def dkwX7_converts_5 : List UInt8 := [167, 0, 4, 3, 172]
abbrev dktX7_converts_5 : List UInt8 := dkwX7_converts_5 ++ []
def dkwX7_converts_4 : List UInt8 := [55, 6, 42, 4, 182, 1, 58, 22, 6, 22, 4, 42, 28, 29, 182, 1, 61, 133, 105, 148, 158, 0, 7, 4]
abbrev dktX7_converts_4 : List UInt8 := dkwX7_converts_4 ++ dktX7_converts_5
def dkwX7_converts_3 : List UInt8 := [180, 0, 28, 27, 46, 182, 0, 230, 133, 22, 4, 105, 42, 28, 29, 182, 1, 61, 133, 105, 20, 1, 82, 109]
abbrev dktX7_converts_3 : List UInt8 := dkwX7_converts_3 ++ dktX7_converts_4
def dkwX7_converts_2 : List UInt8 := [42, 180, 0, 31, 27, 46, 133, 105, 55, 4, 42, 3, 182, 1, 58, 42, 42, 180, 0, 25, 27, 46, 42]
abbrev dktX7_converts_2 : List UInt8 := dkwX7_converts_2 ++ dktX7_converts_3
def dkwX7_converts_1 : List UInt8 := [42, 180, 0, 25, 27, 46, 182, 1, 77, 61, 42, 42, 180, 0, 28, 27, 46, 182, 1, 77, 62, 20, 1, 80]
abbrev dktX7_converts_1 : List UInt8 := dkwX7_converts_1 ++ dktX7_converts_2
def dkwX7_converts_0 : List UInt8 := [42, 3, 181, 0, 129, 42, 27, 182, 0, 242, 154, 0, 5, 2, 172, 42, 42, 180, 0, 208, 182, 1, 1, 42]
abbrev dktX7_converts_0 : List UInt8 := dkwX7_converts_0 ++ dktX7_converts_1
theorem dksX7_converts_0 : cX7_converts.data.toList.drop 0 = dktX7_converts_0 := by decide +kernel
theorem dksX7_converts_1 : cX7_converts.data.toList.drop 24 = dktX7_converts_1 := dk_seg dksX7_converts_0 24 rfl rfl
theorem dksX7_converts_2 : cX7_converts.data.toList.drop 48 = dktX7_converts_2 := dk_seg dksX7_converts_1 24 rfl rfl
theorem dksX7_converts_3 : cX7_converts.data.toList.drop 71 = dktX7_converts_3 := dk_seg dksX7_converts_2 23 rfl rfl
theorem dksX7_converts_4 : cX7_converts.data.toList.drop 95 = dktX7_converts_4 := dk_seg dksX7_converts_3 24 rfl rfl
theorem dksX7_converts_5 : cX7_converts.data.toList.drop 119 = dktX7_converts_5 := dk_seg dksX7_converts_4 24 rfl rfl
theorem dX7_converts_0 : decode cX7_converts 0 = .ok (.aload_n 0, 1) := dk_42 (dk_at dksX7_converts_0 0 rfl rfl)
theorem dX7_converts_1 : decode cX7_converts 1 = .ok (.iconst 0, 1) := dk_3 (dk_at dksX7_converts_0 1 rfl rfl)
theorem dX7_converts_2 : decode cX7_converts 2 = .ok (.putfield 129, 3) := dk_181 0 129 (dk_at dksX7_converts_0 2 rfl rfl)
theorem dX7_converts_5 : decode cX7_converts 5 = .ok (.aload_n 0, 1) := dk_42 (dk_at dksX7_converts_0 5 rfl rfl)
theorem dX7_converts_6 : decode cX7_converts 6 = .ok (.iload_n 1, 1) := dk_27 (dk_at dksX7_converts_0 6 rfl rfl)
theorem dX7_converts_7 : decode cX7_converts 7 = .ok (.invokevirtual 242, 3) := dk_182 0 242 (dk_at dksX7_converts_0 7 rfl rfl)
theorem dX7_converts_10 : decode cX7_converts 10 = .ok (.ifCond .ne 5, 3) := dk_154 0 5 (dk_at dksX7_converts_0 10 rfl rfl)
theorem dX7_converts_13 : decode cX7_converts 13 = .ok (.iconst (-1), 1) := dk_2 (dk_at dksX7_converts_0 13 rfl rfl)
theorem dX7_converts_14 : decode cX7_converts 14 = .ok (.ireturn, 1) := dk_172 (dk_at dksX7_converts_0 14 rfl rfl)
theorem dX7_converts_15 : decode cX7_converts 15 = .ok (.aload_n 0, 1) := dk_42 (dk_at dksX7_converts_0 15 rfl rfl)
theorem dX7_converts_16 : decode cX7_converts 16 = .ok (.aload_n 0, 1) := dk_42 (dk_at dksX7_converts_0 16 rfl rfl)
theorem dX7_converts_17 : decode cX7_converts 17 = .ok (.getfield 208, 3) := dk_180 0 208 (dk_at dksX7_converts_0 17 rfl rfl)
theorem dX7_converts_20 : decode cX7_converts 20 = .ok (.invokevirtual 257, 3) := dk_182 1 1 (dk_at dksX7_converts_0 20 rfl rfl)
theorem dX7_converts_23 : decode cX7_converts 23 = .ok (.aload_n 0, 1) := dk_42 (dk_at dksX7_converts_0 23 rfl rfl)
theorem dX7_converts_24 : decode cX7_converts 24 = .ok (.aload_n 0, 1) := dk_42 (dk_at dksX7_converts_1 0 rfl rfl)
theorem dX7_converts_25 : decode cX7_converts 25 = .ok (.getfield 25, 3) := dk_180 0 25 (dk_at dksX7_converts_1 1 rfl rfl)
theorem dX7_converts_28 : decode cX7_converts 28 = .ok (.iload_n 1, 1) := dk_27 (dk_at dksX7_converts_1 4 rfl rfl)
theorem dX7_converts_29 : decode cX7_converts 29 = .ok (.iaload, 1) := dk_46 (dk_at dksX7_converts_1 5 rfl rfl)
theorem dX7_converts_30 : decode cX7_converts 30 = .ok (.invokevirtual 333, 3) := dk_182 1 77 (dk_at dksX7_converts_1 6 rfl rfl)
theorem dX7_converts_33 : decode cX7_converts 33 = .ok (.istore_n 2, 1) := dk_61 (dk_at dksX7_converts_1 9 rfl rfl)
theorem dX7_converts_34 : decode cX7_converts 34 = .ok (.aload_n 0, 1) := dk_42 (dk_at dksX7_converts_1 10 rfl rfl)
theorem dX7_converts_35 : decode cX7_converts 35 = .ok (.aload_n 0, 1) := dk_42 (dk_at dksX7_converts_1 11 rfl rfl)
theorem dX7_converts_36 : decode cX7_converts 36 = .ok (.getfield 28, 3) := dk_180 0 28 (dk_at dksX7_converts_1 12 rfl rfl)
theorem dX7_converts_39 : decode cX7_converts 39 = .ok (.iload_n 1, 1) := dk_27 (dk_at dksX7_converts_1 15 rfl rfl)
theorem dX7_converts_40 : decode cX7_converts 40 = .ok (.iaload, 1) := dk_46 (dk_at dksX7_converts_1 16 rfl rfl)
theorem dX7_converts_41 : decode cX7_converts 41 = .ok (.invokevirtual 333, 3) := dk_182 1 77 (dk_at dksX7_converts_1 17 rfl rfl)
theorem dX7_converts_44 : decode cX7_converts 44 = .ok (.istore_n 3, 1) := dk_62 (dk_at dksX7_converts_1 20 rfl rfl)
theorem dX7_converts_45 : decode cX7_converts 45 = .ok (.ldc2_w 336, 3) := dk_20 1 80 (dk_at dksX7_converts_1 21 rfl rfl)
theorem dX7_converts_48 : decode cX7_converts 48 = .ok (.aload_n 0, 1) := dk_42 (dk_at dksX7_converts_2 0 rfl rfl)
theorem dX7_converts_49 : decode cX7_converts 49 = .ok (.getfield 31, 3) := dk_180 0 31 (dk_at dksX7_converts_2 1 rfl rfl)
theorem dX7_converts_52 : decode cX7_converts 52 = .ok (.iload_n 1, 1) := dk_27 (dk_at dksX7_converts_2 4 rfl rfl)
theorem dX7_converts_53 : decode cX7_converts 53 = .ok (.iaload, 1) := dk_46 (dk_at dksX7_converts_2 5 rfl rfl)
theorem dX7_converts_54 : decode cX7_converts 54 = .ok (.i2l, 1) := dk_133 (dk_at dksX7_converts_2 6 rfl rfl)
theorem dX7_converts_55 : decode cX7_converts 55 = .ok (.lmul, 1) := dk_105 (dk_at dksX7_converts_2 7 rfl rfl)
theorem dX7_converts_56 : decode cX7_converts 56 = .ok (.lstore 4, 2) := dk_55 4 (dk_at dksX7_converts_2 8 rfl rfl)
theorem dX7_converts_58 : decode cX7_converts 58 = .ok (.aload_n 0, 1) := dk_42 (dk_at dksX7_converts_2 10 rfl rfl)
theorem dX7_converts_59 : decode cX7_converts 59 = .ok (.iconst 0, 1) := dk_3 (dk_at dksX7_converts_2 11 rfl rfl)
theorem dX7_converts_60 : decode cX7_converts 60 = .ok (.invokevirtual 314, 3) := dk_182 1 58 (dk_at dksX7_converts_2 12 rfl rfl)
theorem dX7_converts_63 : decode cX7_converts 63 = .ok (.aload_n 0, 1) := dk_42 (dk_at dksX7_converts_2 15 rfl rfl)
theorem dX7_converts_64 : decode cX7_converts 64 = .ok (.aload_n 0, 1) := dk_42 (dk_at dksX7_converts_2 16 rfl rfl)
theorem dX7_converts_65 : decode cX7_converts 65 = .ok (.getfield 25, 3) := dk_180 0 25 (dk_at dksX7_converts_2 17 rfl rfl)
theorem dX7_converts_68 : decode cX7_converts 68 = .ok (.iload_n 1, 1) := dk_27 (dk_at dksX7_converts_2 20 rfl rfl)
theorem dX7_converts_69 : decode cX7_converts 69 = .ok (.iaload, 1) := dk_46 (dk_at dksX7_converts_2 21 rfl rfl)
theorem dX7_converts_70 : decode cX7_converts 70 = .ok (.aload_n 0, 1) := dk_42 (dk_at dksX7_converts_2 22 rfl rfl)
theorem dX7_converts_71 : decode cX7_converts 71 = .ok (.getfield 28, 3) := dk_180 0 28 (dk_at dksX7_converts_3 0 rfl rfl)
theorem dX7_converts_74 : decode cX7_converts 74 = .ok (.iload_n 1, 1) := dk_27 (dk_at dksX7_converts_3 3 rfl rfl)
theorem dX7_converts_75 : decode cX7_converts 75 = .ok (.iaload, 1) := dk_46 (dk_at dksX7_converts_3 4 rfl rfl)
theorem dX7_converts_76 : decode cX7_converts 76 = .ok (.invokevirtual 230, 3) := dk_182 0 230 (dk_at dksX7_converts_3 5 rfl rfl)
theorem dX7_converts_79 : decode cX7_converts 79 = .ok (.i2l, 1) := dk_133 (dk_at dksX7_converts_3 8 rfl rfl)
theorem dX7_converts_80 : decode cX7_converts 80 = .ok (.lload 4, 2) := dk_22 4 (dk_at dksX7_converts_3 9 rfl rfl)
theorem dX7_converts_82 : decode cX7_converts 82 = .ok (.lmul, 1) := dk_105 (dk_at dksX7_converts_3 11 rfl rfl)
theorem dX7_converts_83 : decode cX7_converts 83 = .ok (.aload_n 0, 1) := dk_42 (dk_at dksX7_converts_3 12 rfl rfl)
theorem dX7_converts_84 : decode cX7_converts 84 = .ok (.iload_n 2, 1) := dk_28 (dk_at dksX7_converts_3 13 rfl rfl)
theorem dX7_converts_85 : decode cX7_converts 85 = .ok (.iload_n 3, 1) := dk_29 (dk_at dksX7_converts_3 14 rfl rfl)
theorem dX7_converts_86 : decode cX7_converts 86 = .ok (.invokevirtual 317, 3) := dk_182 1 61 (dk_at dksX7_converts_3 15 rfl rfl)
theorem dX7_converts_89 : decode cX7_converts 89 = .ok (.i2l, 1) := dk_133 (dk_at dksX7_converts_3 18 rfl rfl)
theorem dX7_converts_90 : decode cX7_converts 90 = .ok (.lmul, 1) := dk_105 (dk_at dksX7_converts_3 19 rfl rfl)
theorem dX7_converts_91 : decode cX7_converts 91 = .ok (.ldc2_w 338, 3) := dk_20 1 82 (dk_at dksX7_converts_3 20 rfl rfl)
theorem dX7_converts_94 : decode cX7_converts 94 = .ok (.ldiv, 1) := dk_109 (dk_at dksX7_converts_3 23 rfl rfl)
theorem dX7_converts_95 : decode cX7_converts 95 = .ok (.lstore 6, 2) := dk_55 6 (dk_at dksX7_converts_4 0 rfl rfl)
theorem dX7_converts_97 : decode cX7_converts 97 = .ok (.aload_n 0, 1) := dk_42 (dk_at dksX7_converts_4 2 rfl rfl)
theorem dX7_converts_98 : decode cX7_converts 98 = .ok (.iconst 1, 1) := dk_4 (dk_at dksX7_converts_4 3 rfl rfl)
theorem dX7_converts_99 : decode cX7_converts 99 = .ok (.invokevirtual 314, 3) := dk_182 1 58 (dk_at dksX7_converts_4 4 rfl rfl)
theorem dX7_converts_102 : decode cX7_converts 102 = .ok (.lload 6, 2) := dk_22 6 (dk_at dksX7_converts_4 7 rfl rfl)
theorem dX7_converts_104 : decode cX7_converts 104 = .ok (.lload 4, 2) := dk_22 4 (dk_at dksX7_converts_4 9 rfl rfl)
theorem dX7_converts_106 : decode cX7_converts 106 = .ok (.aload_n 0, 1) := dk_42 (dk_at dksX7_converts_4 11 rfl rfl)
theorem dX7_converts_107 : decode cX7_converts 107 = .ok (.iload_n 2, 1) := dk_28 (dk_at dksX7_converts_4 12 rfl rfl)
theorem dX7_converts_108 : decode cX7_converts 108 = .ok (.iload_n 3, 1) := dk_29 (dk_at dksX7_converts_4 13 rfl rfl)
theorem dX7_converts_109 : decode cX7_converts 109 = .ok (.invokevirtual 317, 3) := dk_182 1 61 (dk_at dksX7_converts_4 14 rfl rfl)
theorem dX7_converts_112 : decode cX7_converts 112 = .ok (.i2l, 1) := dk_133 (dk_at dksX7_converts_4 17 rfl rfl)
theorem dX7_converts_113 : decode cX7_converts 113 = .ok (.lmul, 1) := dk_105 (dk_at dksX7_converts_4 18 rfl rfl)
theorem dX7_converts_114 : decode cX7_converts 114 = .ok (.lcmp, 1) := dk_148 (dk_at dksX7_converts_4 19 rfl rfl)
theorem dX7_converts_115 : decode cX7_converts 115 = .ok (.ifCond .le 7, 3) := dk_158 0 7 (dk_at dksX7_converts_4 20 rfl rfl)
theorem dX7_converts_118 : decode cX7_converts 118 = .ok (.iconst 1, 1) := dk_4 (dk_at dksX7_converts_4 23 rfl rfl)
theorem dX7_converts_119 : decode cX7_converts 119 = .ok (.goto 4, 3) := dk_167 0 4 (dk_at dksX7_converts_5 0 rfl rfl)
theorem dX7_converts_122 : decode cX7_converts 122 = .ok (.iconst 0, 1) := dk_3 (dk_at dksX7_converts_5 3 rfl rfl)
theorem dX7_converts_123 : decode cX7_converts 123 = .ok (.ireturn, 1) := dk_172 (dk_at dksX7_converts_5 4 rfl rfl)
abbrev cX7_living : ByteArray := prog_19_method_72_code
def yX7_living : MethodName := ⟨RX7, "living", "(I)I"⟩
def dkwX7_living_1 : List UInt8 := [16, 99, 164, 0, 7, 2, 167, 0, 4, 27, 172]
abbrev dktX7_living_1 : List UInt8 := dkwX7_living_1 ++ []
def dkwX7_living_0 : List UInt8 := [27, 2, 159, 0, 27, 42, 180, 0, 96, 27, 46, 2, 160, 0, 17, 42, 27, 42, 180, 0, 208, 182, 0, 214]
abbrev dktX7_living_0 : List UInt8 := dkwX7_living_0 ++ dktX7_living_1
theorem dksX7_living_0 : cX7_living.data.toList.drop 0 = dktX7_living_0 := by decide +kernel
theorem dksX7_living_1 : cX7_living.data.toList.drop 24 = dktX7_living_1 := dk_seg dksX7_living_0 24 rfl rfl
theorem dX7_living_0 : decode cX7_living 0 = .ok (.iload_n 1, 1) := dk_27 (dk_at dksX7_living_0 0 rfl rfl)
theorem dX7_living_1 : decode cX7_living 1 = .ok (.iconst (-1), 1) := dk_2 (dk_at dksX7_living_0 1 rfl rfl)
theorem dX7_living_2 : decode cX7_living 2 = .ok (.if_icmp .eq 27, 3) := dk_159 0 27 (dk_at dksX7_living_0 2 rfl rfl)
theorem dX7_living_5 : decode cX7_living 5 = .ok (.aload_n 0, 1) := dk_42 (dk_at dksX7_living_0 5 rfl rfl)
theorem dX7_living_6 : decode cX7_living 6 = .ok (.getfield 96, 3) := dk_180 0 96 (dk_at dksX7_living_0 6 rfl rfl)
theorem dX7_living_9 : decode cX7_living 9 = .ok (.iload_n 1, 1) := dk_27 (dk_at dksX7_living_0 9 rfl rfl)
theorem dX7_living_10 : decode cX7_living 10 = .ok (.iaload, 1) := dk_46 (dk_at dksX7_living_0 10 rfl rfl)
theorem dX7_living_11 : decode cX7_living 11 = .ok (.iconst (-1), 1) := dk_2 (dk_at dksX7_living_0 11 rfl rfl)
theorem dX7_living_12 : decode cX7_living 12 = .ok (.if_icmp .ne 17, 3) := dk_160 0 17 (dk_at dksX7_living_0 12 rfl rfl)
theorem dX7_living_15 : decode cX7_living 15 = .ok (.aload_n 0, 1) := dk_42 (dk_at dksX7_living_0 15 rfl rfl)
theorem dX7_living_16 : decode cX7_living 16 = .ok (.iload_n 1, 1) := dk_27 (dk_at dksX7_living_0 16 rfl rfl)
theorem dX7_living_17 : decode cX7_living 17 = .ok (.aload_n 0, 1) := dk_42 (dk_at dksX7_living_0 17 rfl rfl)
theorem dX7_living_18 : decode cX7_living 18 = .ok (.getfield 208, 3) := dk_180 0 208 (dk_at dksX7_living_0 18 rfl rfl)
theorem dX7_living_21 : decode cX7_living 21 = .ok (.invokevirtual 214, 3) := dk_182 0 214 (dk_at dksX7_living_0 21 rfl rfl)
theorem dX7_living_24 : decode cX7_living 24 = .ok (.bipush 99, 2) := dk_16 99 (dk_at dksX7_living_1 0 rfl rfl)
theorem dX7_living_26 : decode cX7_living 26 = .ok (.if_icmp .le 7, 3) := dk_164 0 7 (dk_at dksX7_living_1 2 rfl rfl)
theorem dX7_living_29 : decode cX7_living 29 = .ok (.iconst (-1), 1) := dk_2 (dk_at dksX7_living_1 5 rfl rfl)
theorem dX7_living_30 : decode cX7_living 30 = .ok (.goto 4, 3) := dk_167 0 4 (dk_at dksX7_living_1 6 rfl rfl)
theorem dX7_living_33 : decode cX7_living 33 = .ok (.iload_n 1, 1) := dk_27 (dk_at dksX7_living_1 9 rfl rfl)
theorem dX7_living_34 : decode cX7_living 34 = .ok (.ireturn, 1) := dk_172 (dk_at dksX7_living_1 10 rfl rfl)
abbrev cX7_count : ByteArray := prog_19_method_74_code
def yX7_count : MethodName := ⟨RX7, "count", "(I)I"⟩
def dkwX7_count_3 : List UInt8 := [27, 7, 100, 46, 172, 42, 180, 0, 170, 172, 2, 172]
abbrev dktX7_count_3 : List UInt8 := dkwX7_count_3 ++ []
def dkwX7_count_2 : List UInt8 := [42, 180, 0, 208, 172, 42, 180, 0, 211, 172, 42, 180, 0, 233, 172, 42, 180, 0, 252, 172, 42, 180, 0, 86]
abbrev dktX7_count_2 : List UInt8 := dkwX7_count_2 ++ dktX7_count_3
def dkwX7_count_1 : List UInt8 := [170, 0, 0, 0, 0, 84, 0, 0, 0, 0, 0, 0, 0, 8, 0, 0, 0, 50, 0, 0, 0, 55, 0, 0, 0, 60, 0, 0, 0, 65, 0, 0, 0, 70, 0, 0, 0, 70, 0, 0, 0, 70, 0, 0, 0, 70, 0, 0, 0, 79]
abbrev dktX7_count_1 : List UInt8 := dkwX7_count_1 ++ dktX7_count_2
def dkwX7_count_0 : List UInt8 := [42, 3, 181, 0, 129, 27]
abbrev dktX7_count_0 : List UInt8 := dkwX7_count_0 ++ dktX7_count_1
theorem dksX7_count_0 : cX7_count.data.toList.drop 0 = dktX7_count_0 := by decide +kernel
theorem dksX7_count_1 : cX7_count.data.toList.drop 6 = dktX7_count_1 := dk_seg dksX7_count_0 6 rfl rfl
theorem dksX7_count_2 : cX7_count.data.toList.drop 56 = dktX7_count_2 := dk_seg dksX7_count_1 50 rfl rfl
theorem dksX7_count_3 : cX7_count.data.toList.drop 80 = dktX7_count_3 := dk_seg dksX7_count_2 24 rfl rfl
theorem dX7_count_0 : decode cX7_count 0 = .ok (.aload_n 0, 1) := dk_42 (dk_at dksX7_count_0 0 rfl rfl)
theorem dX7_count_1 : decode cX7_count 1 = .ok (.iconst 0, 1) := dk_3 (dk_at dksX7_count_0 1 rfl rfl)
theorem dX7_count_2 : decode cX7_count 2 = .ok (.putfield 129, 3) := dk_181 0 129 (dk_at dksX7_count_0 2 rfl rfl)
theorem dX7_count_5 : decode cX7_count 5 = .ok (.iload_n 1, 1) := dk_27 (dk_at dksX7_count_0 5 rfl rfl)
theorem dX7_count_6 : decode cX7_count 6 = .ok (.tableswitch 84 0 8 #[50, 55, 60, 65, 70, 70, 70, 70, 79], 50) := by decide +kernel
theorem dX7_count_56 : decode cX7_count 56 = .ok (.aload_n 0, 1) := dk_42 (dk_at dksX7_count_2 0 rfl rfl)
theorem dX7_count_57 : decode cX7_count 57 = .ok (.getfield 208, 3) := dk_180 0 208 (dk_at dksX7_count_2 1 rfl rfl)
theorem dX7_count_60 : decode cX7_count 60 = .ok (.ireturn, 1) := dk_172 (dk_at dksX7_count_2 4 rfl rfl)
theorem dX7_count_61 : decode cX7_count 61 = .ok (.aload_n 0, 1) := dk_42 (dk_at dksX7_count_2 5 rfl rfl)
theorem dX7_count_62 : decode cX7_count 62 = .ok (.getfield 211, 3) := dk_180 0 211 (dk_at dksX7_count_2 6 rfl rfl)
theorem dX7_count_65 : decode cX7_count 65 = .ok (.ireturn, 1) := dk_172 (dk_at dksX7_count_2 9 rfl rfl)
theorem dX7_count_66 : decode cX7_count 66 = .ok (.aload_n 0, 1) := dk_42 (dk_at dksX7_count_2 10 rfl rfl)
theorem dX7_count_67 : decode cX7_count 67 = .ok (.getfield 233, 3) := dk_180 0 233 (dk_at dksX7_count_2 11 rfl rfl)
theorem dX7_count_70 : decode cX7_count 70 = .ok (.ireturn, 1) := dk_172 (dk_at dksX7_count_2 14 rfl rfl)
theorem dX7_count_71 : decode cX7_count 71 = .ok (.aload_n 0, 1) := dk_42 (dk_at dksX7_count_2 15 rfl rfl)
theorem dX7_count_72 : decode cX7_count 72 = .ok (.getfield 252, 3) := dk_180 0 252 (dk_at dksX7_count_2 16 rfl rfl)
theorem dX7_count_75 : decode cX7_count 75 = .ok (.ireturn, 1) := dk_172 (dk_at dksX7_count_2 19 rfl rfl)
theorem dX7_count_76 : decode cX7_count 76 = .ok (.aload_n 0, 1) := dk_42 (dk_at dksX7_count_2 20 rfl rfl)
theorem dX7_count_77 : decode cX7_count 77 = .ok (.getfield 86, 3) := dk_180 0 86 (dk_at dksX7_count_2 21 rfl rfl)
theorem dX7_count_80 : decode cX7_count 80 = .ok (.iload_n 1, 1) := dk_27 (dk_at dksX7_count_3 0 rfl rfl)
theorem dX7_count_81 : decode cX7_count 81 = .ok (.iconst 4, 1) := dk_7 (dk_at dksX7_count_3 1 rfl rfl)
theorem dX7_count_82 : decode cX7_count 82 = .ok (.isub, 1) := dk_100 (dk_at dksX7_count_3 2 rfl rfl)
theorem dX7_count_83 : decode cX7_count 83 = .ok (.iaload, 1) := dk_46 (dk_at dksX7_count_3 3 rfl rfl)
theorem dX7_count_84 : decode cX7_count 84 = .ok (.ireturn, 1) := dk_172 (dk_at dksX7_count_3 4 rfl rfl)
theorem dX7_count_85 : decode cX7_count 85 = .ok (.aload_n 0, 1) := dk_42 (dk_at dksX7_count_3 5 rfl rfl)
theorem dX7_count_86 : decode cX7_count 86 = .ok (.getfield 170, 3) := dk_180 0 170 (dk_at dksX7_count_3 6 rfl rfl)
theorem dX7_count_89 : decode cX7_count 89 = .ok (.ireturn, 1) := dk_172 (dk_at dksX7_count_3 9 rfl rfl)
theorem dX7_count_90 : decode cX7_count 90 = .ok (.iconst (-1), 1) := dk_2 (dk_at dksX7_count_3 10 rfl rfl)
theorem dX7_count_91 : decode cX7_count 91 = .ok (.ireturn, 1) := dk_172 (dk_at dksX7_count_3 11 rfl rfl)
theorem q82 : (Jvm.Cond.initialized "LifeRentsModel") ∈ lw_all := lw_g (lw_at lw_m1 10 rfl) rfl
theorem q661 : (Jvm.Cond.selects "LifeRentsModel" ({ cls := "java/lang/Object", name := "getClass", desc := "()Ljava/lang/Class;" } : Jvm.MethodName) ({ cls := "java/lang/Object", name := "getClass", desc := "()Ljava/lang/Class;" } : Jvm.MethodName)) ∈ lw_all := lw_g (lw_at lw_m3 109 rfl) rfl
theorem q1248 : (Jvm.Cond.instantiable "LifeRentsModel" (58 : Nat)) ∈ lw_all := lw_g (lw_at lw_m5 216 rfl) rfl
theorem q1250 : (Jvm.Cond.instanceMethod ({ cls := "LifeRentsModel", name := "<init>", desc := "()V" } : Jvm.MethodName)) ∈ lw_all := lw_g (lw_at lw_m5 218 rfl) rfl
theorem q1251 : (Jvm.Cond.code ({ cls := "LifeRentsModel", name := "<init>", desc := "()V" } : Jvm.MethodName) prog_19_method_1_code (2 : Nat) (Option.none : Option Jvm.ClassFile.FieldType)) ∈ lw_all := lw_g (lw_at lw_m5 219 rfl) rfl
theorem q1252 : (Jvm.Cond.methodLink "LifeRentsModel" (1 : Nat) ({ cls := "java/lang/Object", name := "<init>", desc := "()V" } : Jvm.MethodName)) ∈ lw_all := lw_g (lw_at lw_m5 220 rfl) rfl
theorem q1253 : (Jvm.Cond.methodLink "LifeRentsModel" (123 : Nat) ({ cls := "LifeRentsModel", name := "plain", desc := "()V" } : Jvm.MethodName)) ∈ lw_all := lw_g (lw_at lw_m5 221 rfl) rfl
theorem q1254 : (Jvm.Cond.privateMethod ({ cls := "LifeRentsModel", name := "plain", desc := "()V" } : Jvm.MethodName)) ∈ lw_tbl := lw_at lw_m5 222 rfl
theorem q1255 : (Jvm.Cond.instanceMethod ({ cls := "LifeRentsModel", name := "plain", desc := "()V" } : Jvm.MethodName)) ∈ lw_all := lw_g (lw_at lw_m5 223 rfl) rfl
theorem q1256 : (Jvm.Cond.code ({ cls := "LifeRentsModel", name := "plain", desc := "()V" } : Jvm.MethodName) prog_19_method_13_code (2 : Nat) (Option.none : Option Jvm.ClassFile.FieldType)) ∈ lw_all := lw_g (lw_at lw_m5 224 rfl) rfl
theorem q1257 : (Jvm.Cond.methodLink "LifeRentsModel" (126 : Nat) ({ cls := "LifeRentsModel", name := "keep", desc := "()V" } : Jvm.MethodName)) ∈ lw_all := lw_g (lw_at lw_m5 225 rfl) rfl
theorem q1258 : (Jvm.Cond.privateMethod ({ cls := "LifeRentsModel", name := "keep", desc := "()V" } : Jvm.MethodName)) ∈ lw_tbl := lw_at lw_m5 226 rfl
theorem q1259 : (Jvm.Cond.instanceMethod ({ cls := "LifeRentsModel", name := "keep", desc := "()V" } : Jvm.MethodName)) ∈ lw_all := lw_g (lw_at lw_m5 227 rfl) rfl
theorem q1260 : (Jvm.Cond.code ({ cls := "LifeRentsModel", name := "keep", desc := "()V" } : Jvm.MethodName) prog_19_method_14_code (2 : Nat) (Option.none : Option Jvm.ClassFile.FieldType)) ∈ lw_all := lw_g (lw_at lw_m5 228 rfl) rfl
theorem q1261 : (Jvm.Cond.fieldLink "LifeRentsModel" (7 : Nat) "LifeRentsModel" "tape" "[I") ∈ lw_all := lw_g (lw_at lw_m5 229 rfl) rfl
theorem q1262 : (Jvm.Cond.fieldLink "LifeRentsModel" (132 : Nat) "LifeRentsModel" "tapeSize" "I") ∈ lw_all := lw_g (lw_at lw_m5 230 rfl) rfl
theorem q1263 : (Jvm.Cond.fieldLink "LifeRentsModel" (129 : Nat) "LifeRentsModel" "thrown" "I") ∈ lw_all := lw_g (lw_at lw_m5 231 rfl) rfl
theorem q1264 : (Jvm.Cond.fieldLink "LifeRentsModel" (208 : Nat) "LifeRentsModel" "now" "I") ∈ lw_all := lw_g (lw_at lw_m5 232 rfl) rfl
theorem q1265 : (Jvm.Cond.fieldLink "LifeRentsModel" (211 : Nat) "LifeRentsModel" "lives" "I") ∈ lw_all := lw_g (lw_at lw_m5 233 rfl) rfl
theorem q1266 : (Jvm.Cond.fieldLink "LifeRentsModel" (13 : Nat) "LifeRentsModel" "born" "[I") ∈ lw_all := lw_g (lw_at lw_m5 234 rfl) rfl
theorem q1267 : (Jvm.Cond.fieldLink "LifeRentsModel" (16 : Nat) "LifeRentsModel" "classOf" "[I") ∈ lw_all := lw_g (lw_at lw_m5 235 rfl) rfl
theorem q1268 : (Jvm.Cond.fieldLink "LifeRentsModel" (233 : Nat) "LifeRentsModel" "rents" "I") ∈ lw_all := lw_g (lw_at lw_m5 236 rfl) rfl
theorem q1269 : (Jvm.Cond.fieldLink "LifeRentsModel" (19 : Nat) "LifeRentsModel" "boughtIn" "[I") ∈ lw_all := lw_g (lw_at lw_m5 237 rfl) rfl
theorem q1270 : (Jvm.Cond.fieldLink "LifeRentsModel" (22 : Nat) "LifeRentsModel" "buyer" "[I") ∈ lw_all := lw_g (lw_at lw_m5 238 rfl) rfl
theorem q1271 : (Jvm.Cond.fieldLink "LifeRentsModel" (25 : Nat) "LifeRentsModel" "first" "[I") ∈ lw_all := lw_g (lw_at lw_m5 239 rfl) rfl
theorem q1272 : (Jvm.Cond.fieldLink "LifeRentsModel" (28 : Nat) "LifeRentsModel" "second" "[I") ∈ lw_all := lw_g (lw_at lw_m6 0 rfl) rfl
theorem q1273 : (Jvm.Cond.fieldLink "LifeRentsModel" (31 : Nat) "LifeRentsModel" "coinsOf" "[I") ∈ lw_all := lw_g (lw_at lw_m6 1 rfl) rfl
theorem q1274 : (Jvm.Cond.fieldLink "LifeRentsModel" (34 : Nat) "LifeRentsModel" "costOf" "[I") ∈ lw_all := lw_g (lw_at lw_m6 2 rfl) rfl
theorem q1275 : (Jvm.Cond.fieldLink "LifeRentsModel" (239 : Nat) "LifeRentsModel" "sales" "I") ∈ lw_all := lw_g (lw_at lw_m6 3 rfl) rfl
theorem q1276 : (Jvm.Cond.fieldLink "LifeRentsModel" (37 : Nat) "LifeRentsModel" "sale" "[I") ∈ lw_all := lw_g (lw_at lw_m6 4 rfl) rfl
theorem q1277 : (Jvm.Cond.fieldLink "LifeRentsModel" (252 : Nat) "LifeRentsModel" "notes" "I") ∈ lw_all := lw_g (lw_at lw_m6 5 rfl) rfl
theorem q1278 : (Jvm.Cond.fieldLink "LifeRentsModel" (40 : Nat) "LifeRentsModel" "noteSort" "[I") ∈ lw_all := lw_g (lw_at lw_m6 6 rfl) rfl
theorem q1279 : (Jvm.Cond.fieldLink "LifeRentsModel" (43 : Nat) "LifeRentsModel" "noteOf" "[I") ∈ lw_all := lw_g (lw_at lw_m6 7 rfl) rfl
theorem q1280 : (Jvm.Cond.fieldLink "LifeRentsModel" (46 : Nat) "LifeRentsModel" "noteHalf" "[I") ∈ lw_all := lw_g (lw_at lw_m6 8 rfl) rfl
theorem q1281 : (Jvm.Cond.fieldLink "LifeRentsModel" (49 : Nat) "LifeRentsModel" "noteTold" "[I") ∈ lw_all := lw_g (lw_at lw_m6 9 rfl) rfl
theorem q1282 : (Jvm.Cond.fieldLink "LifeRentsModel" (52 : Nat) "LifeRentsModel" "table" "[I") ∈ lw_all := lw_g (lw_at lw_m6 10 rfl) rfl
theorem q1283 : (Jvm.Cond.fieldLink "LifeRentsModel" (55 : Nat) "LifeRentsModel" "words" "[I") ∈ lw_all := lw_g (lw_at lw_m6 11 rfl) rfl
theorem q1284 : (Jvm.Cond.fieldLink "LifeRentsModel" (135 : Nat) "LifeRentsModel" "fault" "I") ∈ lw_all := lw_g (lw_at lw_m6 12 rfl) rfl
theorem q1285 : (Jvm.Cond.fieldLink "LifeRentsModel" (58 : Nat) "LifeRentsModel" "faultPlace" "I") ∈ lw_all := lw_g (lw_at lw_m6 13 rfl) rfl
theorem q1286 : (Jvm.Cond.fieldLink "LifeRentsModel" (141 : Nat) "LifeRentsModel" "stop" "I") ∈ lw_all := lw_g (lw_at lw_m6 14 rfl) rfl
theorem q1287 : (Jvm.Cond.fieldLink "LifeRentsModel" (144 : Nat) "LifeRentsModel" "next" "I") ∈ lw_all := lw_g (lw_at lw_m6 15 rfl) rfl
theorem q1288 : (Jvm.Cond.fieldLink "LifeRentsModel" (147 : Nat) "LifeRentsModel" "kind" "I") ∈ lw_all := lw_g (lw_at lw_m6 16 rfl) rfl
theorem q1289 : (Jvm.Cond.fieldLink "LifeRentsModel" (158 : Nat) "LifeRentsModel" "which" "I") ∈ lw_all := lw_g (lw_at lw_m6 17 rfl) rfl
theorem q1290 : (Jvm.Cond.fieldLink "LifeRentsModel" (138 : Nat) "LifeRentsModel" "place" "I") ∈ lw_all := lw_g (lw_at lw_m6 18 rfl) rfl
theorem q1291 : (Jvm.Cond.fieldLink "LifeRentsModel" (62 : Nat) "LifeRentsModel" "sort" "[I") ∈ lw_all := lw_g (lw_at lw_m6 19 rfl) rfl
theorem q1292 : (Jvm.Cond.fieldLink "LifeRentsModel" (65 : Nat) "LifeRentsModel" "amount" "[I") ∈ lw_all := lw_g (lw_at lw_m6 20 rfl) rfl
theorem q1293 : (Jvm.Cond.fieldLink "LifeRentsModel" (68 : Nat) "LifeRentsModel" "ageLow" "[I") ∈ lw_all := lw_g (lw_at lw_m6 21 rfl) rfl
theorem q1294 : (Jvm.Cond.fieldLink "LifeRentsModel" (71 : Nat) "LifeRentsModel" "ageHigh" "[I") ∈ lw_all := lw_g (lw_at lw_m6 22 rfl) rfl
theorem q1295 : (Jvm.Cond.fieldLink "LifeRentsModel" (74 : Nat) "LifeRentsModel" "classes" "[I") ∈ lw_all := lw_g (lw_at lw_m6 23 rfl) rfl
theorem q1296 : (Jvm.Cond.fieldLink "LifeRentsModel" (77 : Nat) "LifeRentsModel" "halfLow" "[I") ∈ lw_all := lw_g (lw_at lw_m6 24 rfl) rfl
theorem q1297 : (Jvm.Cond.fieldLink "LifeRentsModel" (80 : Nat) "LifeRentsModel" "halfHigh" "[I") ∈ lw_all := lw_g (lw_at lw_m6 25 rfl) rfl
theorem q1298 : (Jvm.Cond.fieldLink "LifeRentsModel" (83 : Nat) "LifeRentsModel" "count" "[I") ∈ lw_all := lw_g (lw_at lw_m6 26 rfl) rfl
theorem q1299 : (Jvm.Cond.fieldLink "LifeRentsModel" (170 : Nat) "LifeRentsModel" "lines" "I") ∈ lw_all := lw_g (lw_at lw_m6 27 rfl) rfl
theorem q1300 : (Jvm.Cond.fieldLink "LifeRentsModel" (167 : Nat) "LifeRentsModel" "linesRead" "I") ∈ lw_all := lw_g (lw_at lw_m6 28 rfl) rfl
theorem q1301 : (Jvm.Cond.fieldLink "LifeRentsModel" (86 : Nat) "LifeRentsModel" "number" "[I") ∈ lw_all := lw_g (lw_at lw_m6 29 rfl) rfl
theorem q1302 : (Jvm.Cond.fieldLink "LifeRentsModel" (89 : Nat) "LifeRentsModel" "told" "[Z") ∈ lw_all := lw_g (lw_at lw_m6 30 rfl) rfl
theorem q1303 : (Jvm.Cond.fieldLink "LifeRentsModel" (177 : Nat) "LifeRentsModel" "spanLow" "I") ∈ lw_all := lw_g (lw_at lw_m6 31 rfl) rfl
theorem q1304 : (Jvm.Cond.fieldLink "LifeRentsModel" (186 : Nat) "LifeRentsModel" "spanHigh" "I") ∈ lw_all := lw_g (lw_at lw_m6 32 rfl) rfl
theorem q1305 : (Jvm.Cond.fieldLink "LifeRentsModel" (93 : Nat) "LifeRentsModel" "counts" "[Z") ∈ lw_all := lw_g (lw_at lw_m6 33 rfl) rfl
theorem q1306 : (Jvm.Cond.fieldLink "LifeRentsModel" (96 : Nat) "LifeRentsModel" "deadIn" "[I") ∈ lw_all := lw_g (lw_at lw_m6 34 rfl) rfl
theorem q1307 : (Jvm.Cond.fieldLink "LifeRentsModel" (99 : Nat) "LifeRentsModel" "paidIn" "[I") ∈ lw_all := lw_g (lw_at lw_m6 35 rfl) rfl
theorem q1308 : (Jvm.Cond.fieldLink "LifeRentsModel" (102 : Nat) "LifeRentsModel" "gotOf" "[I") ∈ lw_all := lw_g (lw_at lw_m6 36 rfl) rfl
theorem q1309 : (Jvm.Cond.fieldLink "LifeRentsModel" (266 : Nat) "LifeRentsModel" "paidAll" "I") ∈ lw_all := lw_g (lw_at lw_m6 37 rfl) rfl
theorem q1310 : (Jvm.Cond.fieldLink "LifeRentsModel" (286 : Nat) "LifeRentsModel" "begun" "I") ∈ lw_all := lw_g (lw_at lw_m6 38 rfl) rfl
theorem q1311 : (Jvm.Cond.fieldLink "LifeRentsModel" (289 : Nat) "LifeRentsModel" "ended" "I") ∈ lw_all := lw_g (lw_at lw_m6 39 rfl) rfl
theorem q1312 : (Jvm.Cond.fieldLink "LifeRentsModel" (105 : Nat) "LifeRentsModel" "by" "[I") ∈ lw_all := lw_g (lw_at lw_m6 40 rfl) rfl
theorem q1313 : (Jvm.Cond.fieldLink "LifeRentsModel" (322 : Nat) "LifeRentsModel" "isNamed" "Z") ∈ lw_all := lw_g (lw_at lw_m6 41 rfl) rfl
theorem q1314 : (Jvm.Cond.fieldLink "LifeRentsModel" (108 : Nat) "LifeRentsModel" "named" "[I") ∈ lw_all := lw_g (lw_at lw_m6 42 rfl) rfl
theorem q1315 : (Jvm.Cond.fieldLink "LifeRentsModel" (111 : Nat) "LifeRentsModel" "tried" "[I") ∈ lw_all := lw_g (lw_at lw_m6 43 rfl) rfl
theorem q1316 : (Jvm.Cond.fieldLink "LifeRentsModel" (114 : Nat) "LifeRentsModel" "open" "[I") ∈ lw_all := lw_g (lw_at lw_m6 44 rfl) rfl
theorem q1317 : (Jvm.Cond.fieldLink "LifeRentsModel" (117 : Nat) "LifeRentsModel" "gain" "[I") ∈ lw_all := lw_g (lw_at lw_m6 45 rfl) rfl
theorem q1318 : (Jvm.Cond.fieldLink "LifeRentsModel" (120 : Nat) "LifeRentsModel" "price" "[I") ∈ lw_all := lw_g (lw_at lw_m6 46 rfl) rfl
theorem q1319 : (Jvm.Cond.laysFinal "LifeRentsModel" "LifeRentsModel" "tape" "[I") ∈ lw_all := lw_g (lw_at lw_m6 47 rfl) rfl
theorem q1320 : (Jvm.Cond.soleField "LifeRentsModel" "tape") ∈ lw_all := lw_g (lw_at lw_m6 48 rfl) rfl
theorem q1321 : (Jvm.Cond.lays "LifeRentsModel" "LifeRentsModel" "tapeSize" "I") ∈ lw_all := lw_g (lw_at lw_m6 49 rfl) rfl
theorem q1322 : (Jvm.Cond.soleField "LifeRentsModel" "tapeSize") ∈ lw_all := lw_g (lw_at lw_m6 50 rfl) rfl
theorem q1323 : (Jvm.Cond.lays "LifeRentsModel" "LifeRentsModel" "thrown" "I") ∈ lw_all := lw_g (lw_at lw_m6 51 rfl) rfl
theorem q1324 : (Jvm.Cond.soleField "LifeRentsModel" "thrown") ∈ lw_all := lw_g (lw_at lw_m6 52 rfl) rfl
theorem q1325 : (Jvm.Cond.lays "LifeRentsModel" "LifeRentsModel" "now" "I") ∈ lw_all := lw_g (lw_at lw_m6 53 rfl) rfl
theorem q1326 : (Jvm.Cond.soleField "LifeRentsModel" "now") ∈ lw_all := lw_g (lw_at lw_m6 54 rfl) rfl
theorem q1327 : (Jvm.Cond.lays "LifeRentsModel" "LifeRentsModel" "lives" "I") ∈ lw_all := lw_g (lw_at lw_m6 55 rfl) rfl
theorem q1328 : (Jvm.Cond.soleField "LifeRentsModel" "lives") ∈ lw_all := lw_g (lw_at lw_m6 56 rfl) rfl
theorem q1329 : (Jvm.Cond.laysFinal "LifeRentsModel" "LifeRentsModel" "born" "[I") ∈ lw_all := lw_g (lw_at lw_m6 57 rfl) rfl
theorem q1330 : (Jvm.Cond.soleField "LifeRentsModel" "born") ∈ lw_all := lw_g (lw_at lw_m6 58 rfl) rfl
theorem q1331 : (Jvm.Cond.laysFinal "LifeRentsModel" "LifeRentsModel" "classOf" "[I") ∈ lw_all := lw_g (lw_at lw_m6 59 rfl) rfl
theorem q1332 : (Jvm.Cond.soleField "LifeRentsModel" "classOf") ∈ lw_all := lw_g (lw_at lw_m6 60 rfl) rfl
theorem q1333 : (Jvm.Cond.lays "LifeRentsModel" "LifeRentsModel" "rents" "I") ∈ lw_all := lw_g (lw_at lw_m6 61 rfl) rfl
theorem q1334 : (Jvm.Cond.soleField "LifeRentsModel" "rents") ∈ lw_all := lw_g (lw_at lw_m6 62 rfl) rfl
theorem q1335 : (Jvm.Cond.laysFinal "LifeRentsModel" "LifeRentsModel" "boughtIn" "[I") ∈ lw_all := lw_g (lw_at lw_m6 63 rfl) rfl
theorem q1336 : (Jvm.Cond.soleField "LifeRentsModel" "boughtIn") ∈ lw_all := lw_g (lw_at lw_m6 64 rfl) rfl
theorem q1337 : (Jvm.Cond.laysFinal "LifeRentsModel" "LifeRentsModel" "buyer" "[I") ∈ lw_all := lw_g (lw_at lw_m6 65 rfl) rfl
theorem q1338 : (Jvm.Cond.soleField "LifeRentsModel" "buyer") ∈ lw_all := lw_g (lw_at lw_m6 66 rfl) rfl
theorem q1339 : (Jvm.Cond.laysFinal "LifeRentsModel" "LifeRentsModel" "first" "[I") ∈ lw_all := lw_g (lw_at lw_m6 67 rfl) rfl
theorem q1340 : (Jvm.Cond.soleField "LifeRentsModel" "first") ∈ lw_all := lw_g (lw_at lw_m6 68 rfl) rfl
theorem q1341 : (Jvm.Cond.laysFinal "LifeRentsModel" "LifeRentsModel" "second" "[I") ∈ lw_all := lw_g (lw_at lw_m6 69 rfl) rfl
theorem q1342 : (Jvm.Cond.soleField "LifeRentsModel" "second") ∈ lw_all := lw_g (lw_at lw_m6 70 rfl) rfl
theorem q1343 : (Jvm.Cond.laysFinal "LifeRentsModel" "LifeRentsModel" "coinsOf" "[I") ∈ lw_all := lw_g (lw_at lw_m6 71 rfl) rfl
theorem q1344 : (Jvm.Cond.soleField "LifeRentsModel" "coinsOf") ∈ lw_all := lw_g (lw_at lw_m6 72 rfl) rfl
theorem q1345 : (Jvm.Cond.laysFinal "LifeRentsModel" "LifeRentsModel" "costOf" "[I") ∈ lw_all := lw_g (lw_at lw_m6 73 rfl) rfl
theorem q1346 : (Jvm.Cond.soleField "LifeRentsModel" "costOf") ∈ lw_all := lw_g (lw_at lw_m6 74 rfl) rfl
theorem q1347 : (Jvm.Cond.lays "LifeRentsModel" "LifeRentsModel" "sales" "I") ∈ lw_all := lw_g (lw_at lw_m6 75 rfl) rfl
theorem q1348 : (Jvm.Cond.soleField "LifeRentsModel" "sales") ∈ lw_all := lw_g (lw_at lw_m6 76 rfl) rfl
theorem q1349 : (Jvm.Cond.laysFinal "LifeRentsModel" "LifeRentsModel" "sale" "[I") ∈ lw_all := lw_g (lw_at lw_m6 77 rfl) rfl
theorem q1350 : (Jvm.Cond.soleField "LifeRentsModel" "sale") ∈ lw_all := lw_g (lw_at lw_m6 78 rfl) rfl
theorem q1351 : (Jvm.Cond.lays "LifeRentsModel" "LifeRentsModel" "notes" "I") ∈ lw_all := lw_g (lw_at lw_m6 79 rfl) rfl
theorem q1352 : (Jvm.Cond.soleField "LifeRentsModel" "notes") ∈ lw_all := lw_g (lw_at lw_m6 80 rfl) rfl
theorem q1353 : (Jvm.Cond.laysFinal "LifeRentsModel" "LifeRentsModel" "noteSort" "[I") ∈ lw_all := lw_g (lw_at lw_m6 81 rfl) rfl
theorem q1354 : (Jvm.Cond.soleField "LifeRentsModel" "noteSort") ∈ lw_all := lw_g (lw_at lw_m6 82 rfl) rfl
theorem q1355 : (Jvm.Cond.laysFinal "LifeRentsModel" "LifeRentsModel" "noteOf" "[I") ∈ lw_all := lw_g (lw_at lw_m6 83 rfl) rfl
theorem q1356 : (Jvm.Cond.soleField "LifeRentsModel" "noteOf") ∈ lw_all := lw_g (lw_at lw_m6 84 rfl) rfl
theorem q1357 : (Jvm.Cond.laysFinal "LifeRentsModel" "LifeRentsModel" "noteHalf" "[I") ∈ lw_all := lw_g (lw_at lw_m6 85 rfl) rfl
theorem q1358 : (Jvm.Cond.soleField "LifeRentsModel" "noteHalf") ∈ lw_all := lw_g (lw_at lw_m6 86 rfl) rfl
theorem q1359 : (Jvm.Cond.laysFinal "LifeRentsModel" "LifeRentsModel" "noteTold" "[I") ∈ lw_all := lw_g (lw_at lw_m6 87 rfl) rfl
theorem q1360 : (Jvm.Cond.soleField "LifeRentsModel" "noteTold") ∈ lw_all := lw_g (lw_at lw_m6 88 rfl) rfl
theorem q1361 : (Jvm.Cond.laysFinal "LifeRentsModel" "LifeRentsModel" "table" "[I") ∈ lw_all := lw_g (lw_at lw_m6 89 rfl) rfl
theorem q1362 : (Jvm.Cond.soleField "LifeRentsModel" "table") ∈ lw_all := lw_g (lw_at lw_m6 90 rfl) rfl
theorem q1363 : (Jvm.Cond.laysFinal "LifeRentsModel" "LifeRentsModel" "words" "[I") ∈ lw_all := lw_g (lw_at lw_m6 91 rfl) rfl
theorem q1364 : (Jvm.Cond.soleField "LifeRentsModel" "words") ∈ lw_all := lw_g (lw_at lw_m6 92 rfl) rfl
theorem q1365 : (Jvm.Cond.lays "LifeRentsModel" "LifeRentsModel" "fault" "I") ∈ lw_all := lw_g (lw_at lw_m6 93 rfl) rfl
theorem q1366 : (Jvm.Cond.soleField "LifeRentsModel" "fault") ∈ lw_all := lw_g (lw_at lw_m6 94 rfl) rfl
theorem q1367 : (Jvm.Cond.lays "LifeRentsModel" "LifeRentsModel" "faultPlace" "I") ∈ lw_all := lw_g (lw_at lw_m6 95 rfl) rfl
theorem q1368 : (Jvm.Cond.soleField "LifeRentsModel" "faultPlace") ∈ lw_all := lw_g (lw_at lw_m6 96 rfl) rfl
theorem q1369 : (Jvm.Cond.lays "LifeRentsModel" "LifeRentsModel" "stop" "I") ∈ lw_all := lw_g (lw_at lw_m6 97 rfl) rfl
theorem q1370 : (Jvm.Cond.soleField "LifeRentsModel" "stop") ∈ lw_all := lw_g (lw_at lw_m6 98 rfl) rfl
theorem q1371 : (Jvm.Cond.lays "LifeRentsModel" "LifeRentsModel" "next" "I") ∈ lw_all := lw_g (lw_at lw_m6 99 rfl) rfl
theorem q1372 : (Jvm.Cond.soleField "LifeRentsModel" "next") ∈ lw_all := lw_g (lw_at lw_m6 100 rfl) rfl
theorem q1373 : (Jvm.Cond.lays "LifeRentsModel" "LifeRentsModel" "kind" "I") ∈ lw_all := lw_g (lw_at lw_m6 101 rfl) rfl
theorem q1374 : (Jvm.Cond.soleField "LifeRentsModel" "kind") ∈ lw_all := lw_g (lw_at lw_m6 102 rfl) rfl
theorem q1375 : (Jvm.Cond.lays "LifeRentsModel" "LifeRentsModel" "which" "I") ∈ lw_all := lw_g (lw_at lw_m6 103 rfl) rfl
theorem q1376 : (Jvm.Cond.soleField "LifeRentsModel" "which") ∈ lw_all := lw_g (lw_at lw_m6 104 rfl) rfl
theorem q1377 : (Jvm.Cond.lays "LifeRentsModel" "LifeRentsModel" "place" "I") ∈ lw_all := lw_g (lw_at lw_m6 105 rfl) rfl
theorem q1378 : (Jvm.Cond.soleField "LifeRentsModel" "place") ∈ lw_all := lw_g (lw_at lw_m6 106 rfl) rfl
theorem q1379 : (Jvm.Cond.laysFinal "LifeRentsModel" "LifeRentsModel" "sort" "[I") ∈ lw_all := lw_g (lw_at lw_m6 107 rfl) rfl
theorem q1380 : (Jvm.Cond.soleField "LifeRentsModel" "sort") ∈ lw_all := lw_g (lw_at lw_m6 108 rfl) rfl
theorem q1381 : (Jvm.Cond.laysFinal "LifeRentsModel" "LifeRentsModel" "amount" "[I") ∈ lw_all := lw_g (lw_at lw_m6 109 rfl) rfl
theorem q1382 : (Jvm.Cond.soleField "LifeRentsModel" "amount") ∈ lw_all := lw_g (lw_at lw_m6 110 rfl) rfl
theorem q1383 : (Jvm.Cond.laysFinal "LifeRentsModel" "LifeRentsModel" "ageLow" "[I") ∈ lw_all := lw_g (lw_at lw_m6 111 rfl) rfl
theorem q1384 : (Jvm.Cond.soleField "LifeRentsModel" "ageLow") ∈ lw_all := lw_g (lw_at lw_m6 112 rfl) rfl
theorem q1385 : (Jvm.Cond.laysFinal "LifeRentsModel" "LifeRentsModel" "ageHigh" "[I") ∈ lw_all := lw_g (lw_at lw_m6 113 rfl) rfl
theorem q1386 : (Jvm.Cond.soleField "LifeRentsModel" "ageHigh") ∈ lw_all := lw_g (lw_at lw_m6 114 rfl) rfl
theorem q1387 : (Jvm.Cond.laysFinal "LifeRentsModel" "LifeRentsModel" "classes" "[I") ∈ lw_all := lw_g (lw_at lw_m6 115 rfl) rfl
theorem q1388 : (Jvm.Cond.soleField "LifeRentsModel" "classes") ∈ lw_all := lw_g (lw_at lw_m6 116 rfl) rfl
theorem q1389 : (Jvm.Cond.laysFinal "LifeRentsModel" "LifeRentsModel" "halfLow" "[I") ∈ lw_all := lw_g (lw_at lw_m6 117 rfl) rfl
theorem q1390 : (Jvm.Cond.soleField "LifeRentsModel" "halfLow") ∈ lw_all := lw_g (lw_at lw_m6 118 rfl) rfl
theorem q1391 : (Jvm.Cond.laysFinal "LifeRentsModel" "LifeRentsModel" "halfHigh" "[I") ∈ lw_all := lw_g (lw_at lw_m6 119 rfl) rfl
theorem q1392 : (Jvm.Cond.soleField "LifeRentsModel" "halfHigh") ∈ lw_all := lw_g (lw_at lw_m6 120 rfl) rfl
theorem q1393 : (Jvm.Cond.laysFinal "LifeRentsModel" "LifeRentsModel" "count" "[I") ∈ lw_all := lw_g (lw_at lw_m6 121 rfl) rfl
theorem q1394 : (Jvm.Cond.soleField "LifeRentsModel" "count") ∈ lw_all := lw_g (lw_at lw_m6 122 rfl) rfl
theorem q1395 : (Jvm.Cond.lays "LifeRentsModel" "LifeRentsModel" "lines" "I") ∈ lw_all := lw_g (lw_at lw_m6 123 rfl) rfl
theorem q1396 : (Jvm.Cond.soleField "LifeRentsModel" "lines") ∈ lw_all := lw_g (lw_at lw_m6 124 rfl) rfl
theorem q1397 : (Jvm.Cond.lays "LifeRentsModel" "LifeRentsModel" "linesRead" "I") ∈ lw_all := lw_g (lw_at lw_m6 125 rfl) rfl
theorem q1398 : (Jvm.Cond.soleField "LifeRentsModel" "linesRead") ∈ lw_all := lw_g (lw_at lw_m6 126 rfl) rfl
theorem q1399 : (Jvm.Cond.laysFinal "LifeRentsModel" "LifeRentsModel" "number" "[I") ∈ lw_all := lw_g (lw_at lw_m6 127 rfl) rfl
theorem q1400 : (Jvm.Cond.soleField "LifeRentsModel" "number") ∈ lw_all := lw_g (lw_at lw_m6 128 rfl) rfl
theorem q1401 : (Jvm.Cond.laysFinal "LifeRentsModel" "LifeRentsModel" "told" "[Z") ∈ lw_all := lw_g (lw_at lw_m6 129 rfl) rfl
theorem q1402 : (Jvm.Cond.soleField "LifeRentsModel" "told") ∈ lw_all := lw_g (lw_at lw_m6 130 rfl) rfl
theorem q1403 : (Jvm.Cond.lays "LifeRentsModel" "LifeRentsModel" "spanLow" "I") ∈ lw_all := lw_g (lw_at lw_m6 131 rfl) rfl
theorem q1404 : (Jvm.Cond.soleField "LifeRentsModel" "spanLow") ∈ lw_all := lw_g (lw_at lw_m6 132 rfl) rfl
theorem q1405 : (Jvm.Cond.lays "LifeRentsModel" "LifeRentsModel" "spanHigh" "I") ∈ lw_all := lw_g (lw_at lw_m6 133 rfl) rfl
theorem q1406 : (Jvm.Cond.soleField "LifeRentsModel" "spanHigh") ∈ lw_all := lw_g (lw_at lw_m6 134 rfl) rfl
theorem q1407 : (Jvm.Cond.laysFinal "LifeRentsModel" "LifeRentsModel" "counts" "[Z") ∈ lw_all := lw_g (lw_at lw_m6 135 rfl) rfl
theorem q1408 : (Jvm.Cond.soleField "LifeRentsModel" "counts") ∈ lw_all := lw_g (lw_at lw_m6 136 rfl) rfl
theorem q1409 : (Jvm.Cond.laysFinal "LifeRentsModel" "LifeRentsModel" "deadIn" "[I") ∈ lw_all := lw_g (lw_at lw_m6 137 rfl) rfl
theorem q1410 : (Jvm.Cond.soleField "LifeRentsModel" "deadIn") ∈ lw_all := lw_g (lw_at lw_m6 138 rfl) rfl
theorem q1411 : (Jvm.Cond.laysFinal "LifeRentsModel" "LifeRentsModel" "paidIn" "[I") ∈ lw_all := lw_g (lw_at lw_m6 139 rfl) rfl
theorem q1412 : (Jvm.Cond.soleField "LifeRentsModel" "paidIn") ∈ lw_all := lw_g (lw_at lw_m6 140 rfl) rfl
theorem q1413 : (Jvm.Cond.laysFinal "LifeRentsModel" "LifeRentsModel" "gotOf" "[I") ∈ lw_all := lw_g (lw_at lw_m6 141 rfl) rfl
theorem q1414 : (Jvm.Cond.soleField "LifeRentsModel" "gotOf") ∈ lw_all := lw_g (lw_at lw_m6 142 rfl) rfl
theorem q1415 : (Jvm.Cond.lays "LifeRentsModel" "LifeRentsModel" "paidAll" "I") ∈ lw_all := lw_g (lw_at lw_m6 143 rfl) rfl
theorem q1416 : (Jvm.Cond.soleField "LifeRentsModel" "paidAll") ∈ lw_all := lw_g (lw_at lw_m6 144 rfl) rfl
theorem q1417 : (Jvm.Cond.lays "LifeRentsModel" "LifeRentsModel" "begun" "I") ∈ lw_all := lw_g (lw_at lw_m6 145 rfl) rfl
theorem q1418 : (Jvm.Cond.soleField "LifeRentsModel" "begun") ∈ lw_all := lw_g (lw_at lw_m6 146 rfl) rfl
theorem q1419 : (Jvm.Cond.lays "LifeRentsModel" "LifeRentsModel" "ended" "I") ∈ lw_all := lw_g (lw_at lw_m6 147 rfl) rfl
theorem q1420 : (Jvm.Cond.soleField "LifeRentsModel" "ended") ∈ lw_all := lw_g (lw_at lw_m6 148 rfl) rfl
theorem q1421 : (Jvm.Cond.laysFinal "LifeRentsModel" "LifeRentsModel" "by" "[I") ∈ lw_all := lw_g (lw_at lw_m6 149 rfl) rfl
theorem q1422 : (Jvm.Cond.soleField "LifeRentsModel" "by") ∈ lw_all := lw_g (lw_at lw_m6 150 rfl) rfl
theorem q1423 : (Jvm.Cond.lays "LifeRentsModel" "LifeRentsModel" "isNamed" "Z") ∈ lw_all := lw_g (lw_at lw_m6 151 rfl) rfl
theorem q1424 : (Jvm.Cond.soleField "LifeRentsModel" "isNamed") ∈ lw_all := lw_g (lw_at lw_m6 152 rfl) rfl
theorem q1425 : (Jvm.Cond.laysFinal "LifeRentsModel" "LifeRentsModel" "named" "[I") ∈ lw_all := lw_g (lw_at lw_m6 153 rfl) rfl
theorem q1426 : (Jvm.Cond.soleField "LifeRentsModel" "named") ∈ lw_all := lw_g (lw_at lw_m6 154 rfl) rfl
theorem q1427 : (Jvm.Cond.laysFinal "LifeRentsModel" "LifeRentsModel" "tried" "[I") ∈ lw_all := lw_g (lw_at lw_m6 155 rfl) rfl
theorem q1428 : (Jvm.Cond.soleField "LifeRentsModel" "tried") ∈ lw_all := lw_g (lw_at lw_m6 156 rfl) rfl
theorem q1429 : (Jvm.Cond.laysFinal "LifeRentsModel" "LifeRentsModel" "open" "[I") ∈ lw_all := lw_g (lw_at lw_m6 157 rfl) rfl
theorem q1430 : (Jvm.Cond.soleField "LifeRentsModel" "open") ∈ lw_all := lw_g (lw_at lw_m6 158 rfl) rfl
theorem q1431 : (Jvm.Cond.laysFinal "LifeRentsModel" "LifeRentsModel" "gain" "[I") ∈ lw_all := lw_g (lw_at lw_m6 159 rfl) rfl
theorem q1432 : (Jvm.Cond.soleField "LifeRentsModel" "gain") ∈ lw_all := lw_g (lw_at lw_m6 160 rfl) rfl
theorem q1433 : (Jvm.Cond.laysFinal "LifeRentsModel" "LifeRentsModel" "price" "[I") ∈ lw_all := lw_g (lw_at lw_m6 161 rfl) rfl
theorem q1434 : (Jvm.Cond.soleField "LifeRentsModel" "price") ∈ lw_all := lw_g (lw_at lw_m6 162 rfl) rfl
theorem q1435 : (Jvm.Cond.superclass "LifeRentsModel" "java/lang/Object") ∈ lw_all := lw_g (lw_at lw_m6 163 rfl) rfl
theorem q1437 : (Jvm.Cond.instanceMethod ({ cls := "LifeRentsModel", name := "thrown", desc := "()I" } : Jvm.MethodName)) ∈ lw_all := lw_g (lw_at lw_m6 165 rfl) rfl
theorem q1438 : (Jvm.Cond.selects "LifeRentsModel" ({ cls := "LifeRentsModel", name := "thrown", desc := "()I" } : Jvm.MethodName) ({ cls := "LifeRentsModel", name := "thrown", desc := "()I" } : Jvm.MethodName)) ∈ lw_all := lw_g (lw_at lw_m6 166 rfl) rfl
theorem q1439 : (Jvm.Cond.code ({ cls := "LifeRentsModel", name := "thrown", desc := "()I" } : Jvm.MethodName) prog_19_method_2_code (1 : Nat) (Option.some Jvm.ClassFile.FieldType.int)) ∈ lw_all := lw_g (lw_at lw_m6 167 rfl) rfl
theorem q1441 : (Jvm.Cond.instanceMethod ({ cls := "LifeRentsModel", name := "feed", desc := "(IIIII)I" } : Jvm.MethodName)) ∈ lw_all := lw_g (lw_at lw_m6 169 rfl) rfl
theorem q1442 : (Jvm.Cond.selects "LifeRentsModel" ({ cls := "LifeRentsModel", name := "feed", desc := "(IIIII)I" } : Jvm.MethodName) ({ cls := "LifeRentsModel", name := "feed", desc := "(IIIII)I" } : Jvm.MethodName)) ∈ lw_all := lw_g (lw_at lw_m6 170 rfl) rfl
theorem q1443 : (Jvm.Cond.code ({ cls := "LifeRentsModel", name := "feed", desc := "(IIIII)I" } : Jvm.MethodName) prog_19_method_3_code (8 : Nat) (Option.some Jvm.ClassFile.FieldType.int)) ∈ lw_all := lw_g (lw_at lw_m6 171 rfl) rfl
theorem q1445 : (Jvm.Cond.instanceMethod ({ cls := "LifeRentsModel", name := "acts", desc := "(I)I" } : Jvm.MethodName)) ∈ lw_all := lw_g (lw_at lw_m6 173 rfl) rfl
theorem q1446 : (Jvm.Cond.selects "LifeRentsModel" ({ cls := "LifeRentsModel", name := "acts", desc := "(I)I" } : Jvm.MethodName) ({ cls := "LifeRentsModel", name := "acts", desc := "(I)I" } : Jvm.MethodName)) ∈ lw_all := lw_g (lw_at lw_m6 174 rfl) rfl
theorem q1447 : (Jvm.Cond.code ({ cls := "LifeRentsModel", name := "acts", desc := "(I)I" } : Jvm.MethodName) prog_19_method_20_code (4 : Nat) (Option.some Jvm.ClassFile.FieldType.int)) ∈ lw_all := lw_g (lw_at lw_m6 175 rfl) rfl
theorem q1448 : (Jvm.Cond.methodLink "LifeRentsModel" (180 : Nat) ({ cls := "LifeRentsModel", name := "take", desc := "()V" } : Jvm.MethodName)) ∈ lw_all := lw_g (lw_at lw_m6 176 rfl) rfl
theorem q1449 : (Jvm.Cond.privateMethod ({ cls := "LifeRentsModel", name := "take", desc := "()V" } : Jvm.MethodName)) ∈ lw_tbl := lw_at lw_m6 177 rfl
theorem q1450 : (Jvm.Cond.instanceMethod ({ cls := "LifeRentsModel", name := "take", desc := "()V" } : Jvm.MethodName)) ∈ lw_all := lw_g (lw_at lw_m6 178 rfl) rfl
theorem q1451 : (Jvm.Cond.code ({ cls := "LifeRentsModel", name := "take", desc := "()V" } : Jvm.MethodName) prog_19_method_10_code (1 : Nat) (Option.none : Option Jvm.ClassFile.FieldType)) ∈ lw_all := lw_g (lw_at lw_m6 179 rfl) rfl
theorem q1452 : (Jvm.Cond.methodLink "LifeRentsModel" (150 : Nat) ({ cls := "LifeRentsModel", name := "isSmall", desc := "(I)Z" } : Jvm.MethodName)) ∈ lw_all := lw_g (lw_at lw_m6 180 rfl) rfl
theorem q1453 : (Jvm.Cond.privateMethod ({ cls := "LifeRentsModel", name := "isSmall", desc := "(I)Z" } : Jvm.MethodName)) ∈ lw_tbl := lw_at lw_m6 181 rfl
theorem q1454 : (Jvm.Cond.instanceMethod ({ cls := "LifeRentsModel", name := "isSmall", desc := "(I)Z" } : Jvm.MethodName)) ∈ lw_all := lw_g (lw_at lw_m6 182 rfl) rfl
theorem q1455 : (Jvm.Cond.code ({ cls := "LifeRentsModel", name := "isSmall", desc := "(I)Z" } : Jvm.MethodName) prog_19_method_8_code (2 : Nat) (Option.some Jvm.ClassFile.FieldType.boolean)) ∈ lw_all := lw_g (lw_at lw_m6 183 rfl) rfl
theorem q1456 : (Jvm.Cond.methodLink "LifeRentsModel" (154 : Nat) ({ cls := "LifeRentsModel", name := "wordAt", desc := "(II)I" } : Jvm.MethodName)) ∈ lw_all := lw_g (lw_at lw_m6 184 rfl) rfl
theorem q1457 : (Jvm.Cond.privateMethod ({ cls := "LifeRentsModel", name := "wordAt", desc := "(II)I" } : Jvm.MethodName)) ∈ lw_tbl := lw_at lw_m6 185 rfl
theorem q1458 : (Jvm.Cond.instanceMethod ({ cls := "LifeRentsModel", name := "wordAt", desc := "(II)I" } : Jvm.MethodName)) ∈ lw_all := lw_g (lw_at lw_m6 186 rfl) rfl
theorem q1459 : (Jvm.Cond.code ({ cls := "LifeRentsModel", name := "wordAt", desc := "(II)I" } : Jvm.MethodName) prog_19_method_7_code (8 : Nat) (Option.some Jvm.ClassFile.FieldType.int)) ∈ lw_all := lw_g (lw_at lw_m6 187 rfl) rfl
theorem q1460 : (Jvm.Cond.methodLink "LifeRentsModel" (161 : Nat) ({ cls := "LifeRentsModel", name := "isDigit", desc := "(I)Z" } : Jvm.MethodName)) ∈ lw_all := lw_g (lw_at lw_m6 188 rfl) rfl
theorem q1461 : (Jvm.Cond.privateMethod ({ cls := "LifeRentsModel", name := "isDigit", desc := "(I)Z" } : Jvm.MethodName)) ∈ lw_tbl := lw_at lw_m6 189 rfl
theorem q1462 : (Jvm.Cond.instanceMethod ({ cls := "LifeRentsModel", name := "isDigit", desc := "(I)Z" } : Jvm.MethodName)) ∈ lw_all := lw_g (lw_at lw_m6 190 rfl) rfl
theorem q1463 : (Jvm.Cond.code ({ cls := "LifeRentsModel", name := "isDigit", desc := "(I)Z" } : Jvm.MethodName) prog_19_method_9_code (2 : Nat) (Option.some Jvm.ClassFile.FieldType.boolean)) ∈ lw_all := lw_g (lw_at lw_m6 191 rfl) rfl
theorem q1464 : (Jvm.Cond.methodLink "LifeRentsModel" (164 : Nat) ({ cls := "LifeRentsModel", name := "wrong", desc := "(I)Z" } : Jvm.MethodName)) ∈ lw_all := lw_g (lw_at lw_m6 192 rfl) rfl
theorem q1465 : (Jvm.Cond.privateMethod ({ cls := "LifeRentsModel", name := "wrong", desc := "(I)Z" } : Jvm.MethodName)) ∈ lw_tbl := lw_at lw_m6 193 rfl
theorem q1466 : (Jvm.Cond.instanceMethod ({ cls := "LifeRentsModel", name := "wrong", desc := "(I)Z" } : Jvm.MethodName)) ∈ lw_all := lw_g (lw_at lw_m6 194 rfl) rfl
theorem q1467 : (Jvm.Cond.code ({ cls := "LifeRentsModel", name := "wrong", desc := "(I)Z" } : Jvm.MethodName) prog_19_method_6_code (2 : Nat) (Option.some Jvm.ClassFile.FieldType.boolean)) ∈ lw_all := lw_g (lw_at lw_m6 195 rfl) rfl
theorem q1468 : (Jvm.Cond.methodLink "LifeRentsModel" (198 : Nat) ({ cls := "LifeRentsModel", name := "ofWhom", desc := "(I)Z" } : Jvm.MethodName)) ∈ lw_all := lw_g (lw_at lw_m6 196 rfl) rfl
theorem q1469 : (Jvm.Cond.privateMethod ({ cls := "LifeRentsModel", name := "ofWhom", desc := "(I)Z" } : Jvm.MethodName)) ∈ lw_tbl := lw_at lw_m6 197 rfl
theorem q1470 : (Jvm.Cond.instanceMethod ({ cls := "LifeRentsModel", name := "ofWhom", desc := "(I)Z" } : Jvm.MethodName)) ∈ lw_all := lw_g (lw_at lw_m6 198 rfl) rfl
theorem q1471 : (Jvm.Cond.code ({ cls := "LifeRentsModel", name := "ofWhom", desc := "(I)Z" } : Jvm.MethodName) prog_19_method_18_code (3 : Nat) (Option.some Jvm.ClassFile.FieldType.boolean)) ∈ lw_all := lw_g (lw_at lw_m6 199 rfl) rfl
theorem q1472 : (Jvm.Cond.methodLink "LifeRentsModel" (173 : Nat) ({ cls := "LifeRentsModel", name := "isNumber", desc := "(II)Z" } : Jvm.MethodName)) ∈ lw_all := lw_g (lw_at lw_m6 200 rfl) rfl
theorem q1473 : (Jvm.Cond.privateMethod ({ cls := "LifeRentsModel", name := "isNumber", desc := "(II)Z" } : Jvm.MethodName)) ∈ lw_tbl := lw_at lw_m6 201 rfl
theorem q1474 : (Jvm.Cond.instanceMethod ({ cls := "LifeRentsModel", name := "isNumber", desc := "(II)Z" } : Jvm.MethodName)) ∈ lw_all := lw_g (lw_at lw_m6 202 rfl) rfl
theorem q1475 : (Jvm.Cond.code ({ cls := "LifeRentsModel", name := "isNumber", desc := "(II)Z" } : Jvm.MethodName) prog_19_method_12_code (3 : Nat) (Option.some Jvm.ClassFile.FieldType.boolean)) ∈ lw_all := lw_g (lw_at lw_m6 203 rfl) rfl
theorem q1476 : (Jvm.Cond.methodLink "LifeRentsModel" (195 : Nat) ({ cls := "LifeRentsModel", name := "whom", desc := "(I)Z" } : Jvm.MethodName)) ∈ lw_all := lw_g (lw_at lw_m6 204 rfl) rfl
theorem q1477 : (Jvm.Cond.privateMethod ({ cls := "LifeRentsModel", name := "whom", desc := "(I)Z" } : Jvm.MethodName)) ∈ lw_tbl := lw_at lw_m6 205 rfl
theorem q1478 : (Jvm.Cond.instanceMethod ({ cls := "LifeRentsModel", name := "whom", desc := "(I)Z" } : Jvm.MethodName)) ∈ lw_all := lw_g (lw_at lw_m6 206 rfl) rfl
theorem q1479 : (Jvm.Cond.code ({ cls := "LifeRentsModel", name := "whom", desc := "(I)Z" } : Jvm.MethodName) prog_19_method_17_code (6 : Nat) (Option.some Jvm.ClassFile.FieldType.boolean)) ∈ lw_all := lw_g (lw_at lw_m6 207 rfl) rfl
theorem q1480 : (Jvm.Cond.methodLink "LifeRentsModel" (189 : Nat) ({ cls := "LifeRentsModel", name := "span", desc := "(I)Z" } : Jvm.MethodName)) ∈ lw_all := lw_g (lw_at lw_m6 208 rfl) rfl
theorem q1481 : (Jvm.Cond.privateMethod ({ cls := "LifeRentsModel", name := "span", desc := "(I)Z" } : Jvm.MethodName)) ∈ lw_tbl := lw_at lw_m6 209 rfl
theorem q1482 : (Jvm.Cond.instanceMethod ({ cls := "LifeRentsModel", name := "span", desc := "(I)Z" } : Jvm.MethodName)) ∈ lw_all := lw_g (lw_at lw_m6 210 rfl) rfl
theorem q1483 : (Jvm.Cond.code ({ cls := "LifeRentsModel", name := "span", desc := "(I)Z" } : Jvm.MethodName) prog_19_method_15_code (2 : Nat) (Option.some Jvm.ClassFile.FieldType.boolean)) ∈ lw_all := lw_g (lw_at lw_m6 211 rfl) rfl
theorem q1484 : (Jvm.Cond.methodLink "LifeRentsModel" (183 : Nat) ({ cls := "LifeRentsModel", name := "isWord", desc := "(I)Z" } : Jvm.MethodName)) ∈ lw_all := lw_g (lw_at lw_m6 212 rfl) rfl
theorem q1485 : (Jvm.Cond.privateMethod ({ cls := "LifeRentsModel", name := "isWord", desc := "(I)Z" } : Jvm.MethodName)) ∈ lw_tbl := lw_at lw_m6 213 rfl
theorem q1486 : (Jvm.Cond.instanceMethod ({ cls := "LifeRentsModel", name := "isWord", desc := "(I)Z" } : Jvm.MethodName)) ∈ lw_all := lw_g (lw_at lw_m6 214 rfl) rfl
theorem q1487 : (Jvm.Cond.code ({ cls := "LifeRentsModel", name := "isWord", desc := "(I)Z" } : Jvm.MethodName) prog_19_method_11_code (2 : Nat) (Option.some Jvm.ClassFile.FieldType.boolean)) ∈ lw_all := lw_g (lw_at lw_m6 215 rfl) rfl
theorem q1488 : (Jvm.Cond.methodLink "LifeRentsModel" (192 : Nat) ({ cls := "LifeRentsModel", name := "classRow", desc := "(I)Z" } : Jvm.MethodName)) ∈ lw_all := lw_g (lw_at lw_m6 216 rfl) rfl
theorem q1489 : (Jvm.Cond.privateMethod ({ cls := "LifeRentsModel", name := "classRow", desc := "(I)Z" } : Jvm.MethodName)) ∈ lw_tbl := lw_at lw_m6 217 rfl
theorem q1490 : (Jvm.Cond.instanceMethod ({ cls := "LifeRentsModel", name := "classRow", desc := "(I)Z" } : Jvm.MethodName)) ∈ lw_all := lw_g (lw_at lw_m6 218 rfl) rfl
theorem q1491 : (Jvm.Cond.code ({ cls := "LifeRentsModel", name := "classRow", desc := "(I)Z" } : Jvm.MethodName) prog_19_method_16_code (2 : Nat) (Option.some Jvm.ClassFile.FieldType.boolean)) ∈ lw_all := lw_g (lw_at lw_m6 219 rfl) rfl
theorem q1492 : (Jvm.Cond.methodLink "LifeRentsModel" (201 : Nat) ({ cls := "LifeRentsModel", name := "ofNumber", desc := "(I)Z" } : Jvm.MethodName)) ∈ lw_all := lw_g (lw_at lw_m6 220 rfl) rfl
theorem q1493 : (Jvm.Cond.privateMethod ({ cls := "LifeRentsModel", name := "ofNumber", desc := "(I)Z" } : Jvm.MethodName)) ∈ lw_tbl := lw_at lw_m6 221 rfl
theorem q1494 : (Jvm.Cond.instanceMethod ({ cls := "LifeRentsModel", name := "ofNumber", desc := "(I)Z" } : Jvm.MethodName)) ∈ lw_all := lw_g (lw_at lw_m6 222 rfl) rfl
theorem q1495 : (Jvm.Cond.code ({ cls := "LifeRentsModel", name := "ofNumber", desc := "(I)Z" } : Jvm.MethodName) prog_19_method_19_code (4 : Nat) (Option.some Jvm.ClassFile.FieldType.boolean)) ∈ lw_all := lw_g (lw_at lw_m6 223 rfl) rfl
theorem q1497 : (Jvm.Cond.instanceMethod ({ cls := "LifeRentsModel", name := "fault", desc := "(I)I" } : Jvm.MethodName)) ∈ lw_all := lw_g (lw_at lw_m6 225 rfl) rfl
theorem q1498 : (Jvm.Cond.selects "LifeRentsModel" ({ cls := "LifeRentsModel", name := "fault", desc := "(I)I" } : Jvm.MethodName) ({ cls := "LifeRentsModel", name := "fault", desc := "(I)I" } : Jvm.MethodName)) ∈ lw_all := lw_g (lw_at lw_m6 226 rfl) rfl
theorem q1499 : (Jvm.Cond.code ({ cls := "LifeRentsModel", name := "fault", desc := "(I)I" } : Jvm.MethodName) prog_19_method_21_code (2 : Nat) (Option.some Jvm.ClassFile.FieldType.int)) ∈ lw_all := lw_g (lw_at lw_m6 227 rfl) rfl
theorem q1501 : (Jvm.Cond.instanceMethod ({ cls := "LifeRentsModel", name := "halves", desc := "(I)I" } : Jvm.MethodName)) ∈ lw_all := lw_g (lw_at lw_m6 229 rfl) rfl
theorem q1502 : (Jvm.Cond.selects "LifeRentsModel" ({ cls := "LifeRentsModel", name := "halves", desc := "(I)I" } : Jvm.MethodName) ({ cls := "LifeRentsModel", name := "halves", desc := "(I)I" } : Jvm.MethodName)) ∈ lw_all := lw_g (lw_at lw_m6 230 rfl) rfl
theorem q1503 : (Jvm.Cond.code ({ cls := "LifeRentsModel", name := "halves", desc := "(I)I" } : Jvm.MethodName) prog_19_method_22_code (2 : Nat) (Option.some Jvm.ClassFile.FieldType.int)) ∈ lw_all := lw_g (lw_at lw_m6 231 rfl) rfl
theorem q1504 : (Jvm.Cond.methodLink "LifeRentsModel" (204 : Nat) ({ cls := "LifeRentsModel", name := "isIn", desc := "(III)Z" } : Jvm.MethodName)) ∈ lw_all := lw_g (lw_at lw_m6 232 rfl) rfl
theorem q1505 : (Jvm.Cond.static ({ cls := "LifeRentsModel", name := "isIn", desc := "(III)Z" } : Jvm.MethodName)) ∈ lw_all := lw_g (lw_at lw_m6 233 rfl) rfl
theorem q1506 : (Jvm.Cond.code ({ cls := "LifeRentsModel", name := "isIn", desc := "(III)Z" } : Jvm.MethodName) prog_19_method_4_code (3 : Nat) (Option.some Jvm.ClassFile.FieldType.boolean)) ∈ lw_all := lw_g (lw_at lw_m6 234 rfl) rfl
theorem q1508 : (Jvm.Cond.instanceMethod ({ cls := "LifeRentsModel", name := "life", desc := "(II)I" } : Jvm.MethodName)) ∈ lw_all := lw_g (lw_at lw_m6 236 rfl) rfl
theorem q1509 : (Jvm.Cond.selects "LifeRentsModel" ({ cls := "LifeRentsModel", name := "life", desc := "(II)I" } : Jvm.MethodName) ({ cls := "LifeRentsModel", name := "life", desc := "(II)I" } : Jvm.MethodName)) ∈ lw_all := lw_g (lw_at lw_m6 237 rfl) rfl
theorem q1510 : (Jvm.Cond.code ({ cls := "LifeRentsModel", name := "life", desc := "(II)I" } : Jvm.MethodName) prog_19_method_23_code (3 : Nat) (Option.some Jvm.ClassFile.FieldType.int)) ∈ lw_all := lw_g (lw_at lw_m6 238 rfl) rfl
theorem q1512 : (Jvm.Cond.instanceMethod ({ cls := "LifeRentsModel", name := "asks", desc := "(II)I" } : Jvm.MethodName)) ∈ lw_all := lw_g (lw_at lw_m7 0 rfl) rfl
theorem q1513 : (Jvm.Cond.selects "LifeRentsModel" ({ cls := "LifeRentsModel", name := "asks", desc := "(II)I" } : Jvm.MethodName) ({ cls := "LifeRentsModel", name := "asks", desc := "(II)I" } : Jvm.MethodName)) ∈ lw_all := lw_g (lw_at lw_m7 1 rfl) rfl
theorem q1514 : (Jvm.Cond.code ({ cls := "LifeRentsModel", name := "asks", desc := "(II)I" } : Jvm.MethodName) prog_19_method_30_code (3 : Nat) (Option.some Jvm.ClassFile.FieldType.int)) ∈ lw_all := lw_g (lw_at lw_m7 2 rfl) rfl
theorem q1515 : (Jvm.Cond.methodLink "LifeRentsModel" (221 : Nat) ({ cls := "LifeRentsModel", name := "isLife", desc := "(I)Z" } : Jvm.MethodName)) ∈ lw_all := lw_g (lw_at lw_m7 3 rfl) rfl
theorem q1516 : (Jvm.Cond.privateMethod ({ cls := "LifeRentsModel", name := "isLife", desc := "(I)Z" } : Jvm.MethodName)) ∈ lw_tbl := lw_at lw_m7 4 rfl
theorem q1517 : (Jvm.Cond.instanceMethod ({ cls := "LifeRentsModel", name := "isLife", desc := "(I)Z" } : Jvm.MethodName)) ∈ lw_all := lw_g (lw_at lw_m7 5 rfl) rfl
theorem q1518 : (Jvm.Cond.code ({ cls := "LifeRentsModel", name := "isLife", desc := "(I)Z" } : Jvm.MethodName) prog_19_method_24_code (2 : Nat) (Option.some Jvm.ClassFile.FieldType.boolean)) ∈ lw_all := lw_g (lw_at lw_m7 6 rfl) rfl
theorem q1519 : (Jvm.Cond.methodLink "LifeRentsModel" (224 : Nat) ({ cls := "LifeRentsModel", name := "mayBe", desc := "(II)Z" } : Jvm.MethodName)) ∈ lw_all := lw_g (lw_at lw_m7 7 rfl) rfl
theorem q1520 : (Jvm.Cond.privateMethod ({ cls := "LifeRentsModel", name := "mayBe", desc := "(II)Z" } : Jvm.MethodName)) ∈ lw_tbl := lw_at lw_m7 8 rfl
theorem q1521 : (Jvm.Cond.instanceMethod ({ cls := "LifeRentsModel", name := "mayBe", desc := "(II)Z" } : Jvm.MethodName)) ∈ lw_all := lw_g (lw_at lw_m7 9 rfl) rfl
theorem q1522 : (Jvm.Cond.code ({ cls := "LifeRentsModel", name := "mayBe", desc := "(II)Z" } : Jvm.MethodName) prog_19_method_27_code (3 : Nat) (Option.some Jvm.ClassFile.FieldType.boolean)) ∈ lw_all := lw_g (lw_at lw_m7 10 rfl) rfl
theorem q1523 : (Jvm.Cond.methodLink "LifeRentsModel" (217 : Nat) ({ cls := "LifeRentsModel", name := "actOf", desc := "(IIIII)I" } : Jvm.MethodName)) ∈ lw_all := lw_g (lw_at lw_m7 11 rfl) rfl
theorem q1524 : (Jvm.Cond.privateMethod ({ cls := "LifeRentsModel", name := "actOf", desc := "(IIIII)I" } : Jvm.MethodName)) ∈ lw_tbl := lw_at lw_m7 12 rfl
theorem q1525 : (Jvm.Cond.instanceMethod ({ cls := "LifeRentsModel", name := "actOf", desc := "(IIIII)I" } : Jvm.MethodName)) ∈ lw_all := lw_g (lw_at lw_m7 13 rfl) rfl
theorem q1526 : (Jvm.Cond.code ({ cls := "LifeRentsModel", name := "actOf", desc := "(IIIII)I" } : Jvm.MethodName) prog_19_method_26_code (11 : Nat) (Option.some Jvm.ClassFile.FieldType.int)) ∈ lw_all := lw_g (lw_at lw_m7 14 rfl) rfl
theorem q1527 : (Jvm.Cond.methodLink "LifeRentsModel" (214 : Nat) ({ cls := "LifeRentsModel", name := "ageIn", desc := "(II)I" } : Jvm.MethodName)) ∈ lw_all := lw_g (lw_at lw_m7 15 rfl) rfl
theorem q1528 : (Jvm.Cond.privateMethod ({ cls := "LifeRentsModel", name := "ageIn", desc := "(II)I" } : Jvm.MethodName)) ∈ lw_tbl := lw_at lw_m7 16 rfl
theorem q1529 : (Jvm.Cond.instanceMethod ({ cls := "LifeRentsModel", name := "ageIn", desc := "(II)I" } : Jvm.MethodName)) ∈ lw_all := lw_g (lw_at lw_m7 17 rfl) rfl
theorem q1530 : (Jvm.Cond.code ({ cls := "LifeRentsModel", name := "ageIn", desc := "(II)I" } : Jvm.MethodName) prog_19_method_25_code (3 : Nat) (Option.some Jvm.ClassFile.FieldType.int)) ∈ lw_all := lw_g (lw_at lw_m7 18 rfl) rfl
theorem q1531 : (Jvm.Cond.methodLink "LifeRentsModel" (227 : Nat) ({ cls := "LifeRentsModel", name := "priceOf", desc := "(II)I" } : Jvm.MethodName)) ∈ lw_all := lw_g (lw_at lw_m7 19 rfl) rfl
theorem q1532 : (Jvm.Cond.privateMethod ({ cls := "LifeRentsModel", name := "priceOf", desc := "(II)I" } : Jvm.MethodName)) ∈ lw_tbl := lw_at lw_m7 20 rfl
theorem q1533 : (Jvm.Cond.instanceMethod ({ cls := "LifeRentsModel", name := "priceOf", desc := "(II)I" } : Jvm.MethodName)) ∈ lw_all := lw_g (lw_at lw_m7 21 rfl) rfl
theorem q1534 : (Jvm.Cond.code ({ cls := "LifeRentsModel", name := "priceOf", desc := "(II)I" } : Jvm.MethodName) prog_19_method_28_code (3 : Nat) (Option.some Jvm.ClassFile.FieldType.int)) ∈ lw_all := lw_g (lw_at lw_m7 22 rfl) rfl
theorem q1535 : (Jvm.Cond.methodLink "LifeRentsModel" (230 : Nat) ({ cls := "LifeRentsModel", name := "lumpOf", desc := "(II)I" } : Jvm.MethodName)) ∈ lw_all := lw_g (lw_at lw_m7 23 rfl) rfl
theorem q1536 : (Jvm.Cond.privateMethod ({ cls := "LifeRentsModel", name := "lumpOf", desc := "(II)I" } : Jvm.MethodName)) ∈ lw_tbl := lw_at lw_m7 24 rfl
theorem q1537 : (Jvm.Cond.instanceMethod ({ cls := "LifeRentsModel", name := "lumpOf", desc := "(II)I" } : Jvm.MethodName)) ∈ lw_all := lw_g (lw_at lw_m7 25 rfl) rfl
theorem q1538 : (Jvm.Cond.code ({ cls := "LifeRentsModel", name := "lumpOf", desc := "(II)I" } : Jvm.MethodName) prog_19_method_29_code (3 : Nat) (Option.some Jvm.ClassFile.FieldType.int)) ∈ lw_all := lw_g (lw_at lw_m7 26 rfl) rfl
theorem q1540 : (Jvm.Cond.instanceMethod ({ cls := "LifeRentsModel", name := "rent", desc := "(IIII)I" } : Jvm.MethodName)) ∈ lw_all := lw_g (lw_at lw_m7 28 rfl) rfl
theorem q1541 : (Jvm.Cond.selects "LifeRentsModel" ({ cls := "LifeRentsModel", name := "rent", desc := "(IIII)I" } : Jvm.MethodName) ({ cls := "LifeRentsModel", name := "rent", desc := "(IIII)I" } : Jvm.MethodName)) ∈ lw_all := lw_g (lw_at lw_m7 29 rfl) rfl
theorem q1542 : (Jvm.Cond.code ({ cls := "LifeRentsModel", name := "rent", desc := "(IIII)I" } : Jvm.MethodName) prog_19_method_32_code (5 : Nat) (Option.some Jvm.ClassFile.FieldType.int)) ∈ lw_all := lw_g (lw_at lw_m7 30 rfl) rfl
theorem q1543 : (Jvm.Cond.methodLink "LifeRentsModel" (236 : Nat) ({ cls := "LifeRentsModel", name := "isHolder", desc := "(I)Z" } : Jvm.MethodName)) ∈ lw_all := lw_g (lw_at lw_m7 31 rfl) rfl
theorem q1544 : (Jvm.Cond.static ({ cls := "LifeRentsModel", name := "isHolder", desc := "(I)Z" } : Jvm.MethodName)) ∈ lw_all := lw_g (lw_at lw_m7 32 rfl) rfl
theorem q1545 : (Jvm.Cond.code ({ cls := "LifeRentsModel", name := "isHolder", desc := "(I)Z" } : Jvm.MethodName) prog_19_method_31_code (1 : Nat) (Option.some Jvm.ClassFile.FieldType.boolean)) ∈ lw_all := lw_g (lw_at lw_m7 33 rfl) rfl
theorem q1547 : (Jvm.Cond.instanceMethod ({ cls := "LifeRentsModel", name := "sell", desc := "(IIII)Z" } : Jvm.MethodName)) ∈ lw_all := lw_g (lw_at lw_m7 35 rfl) rfl
theorem q1548 : (Jvm.Cond.selects "LifeRentsModel" ({ cls := "LifeRentsModel", name := "sell", desc := "(IIII)Z" } : Jvm.MethodName) ({ cls := "LifeRentsModel", name := "sell", desc := "(IIII)Z" } : Jvm.MethodName)) ∈ lw_all := lw_g (lw_at lw_m7 36 rfl) rfl
theorem q1549 : (Jvm.Cond.code ({ cls := "LifeRentsModel", name := "sell", desc := "(IIII)Z" } : Jvm.MethodName) prog_19_method_35_code (5 : Nat) (Option.some Jvm.ClassFile.FieldType.boolean)) ∈ lw_all := lw_g (lw_at lw_m7 37 rfl) rfl
theorem q1550 : (Jvm.Cond.methodLink "LifeRentsModel" (242 : Nat) ({ cls := "LifeRentsModel", name := "isRent", desc := "(I)Z" } : Jvm.MethodName)) ∈ lw_all := lw_g (lw_at lw_m7 38 rfl) rfl
theorem q1551 : (Jvm.Cond.privateMethod ({ cls := "LifeRentsModel", name := "isRent", desc := "(I)Z" } : Jvm.MethodName)) ∈ lw_tbl := lw_at lw_m7 39 rfl
theorem q1552 : (Jvm.Cond.instanceMethod ({ cls := "LifeRentsModel", name := "isRent", desc := "(I)Z" } : Jvm.MethodName)) ∈ lw_all := lw_g (lw_at lw_m7 40 rfl) rfl
theorem q1553 : (Jvm.Cond.code ({ cls := "LifeRentsModel", name := "isRent", desc := "(I)Z" } : Jvm.MethodName) prog_19_method_33_code (2 : Nat) (Option.some Jvm.ClassFile.FieldType.boolean)) ∈ lw_all := lw_g (lw_at lw_m7 41 rfl) rfl
theorem q1554 : (Jvm.Cond.methodLink "LifeRentsModel" (245 : Nat) ({ cls := "LifeRentsModel", name := "partsOf", desc := "(III)I" } : Jvm.MethodName)) ∈ lw_all := lw_g (lw_at lw_m7 42 rfl) rfl
theorem q1555 : (Jvm.Cond.privateMethod ({ cls := "LifeRentsModel", name := "partsOf", desc := "(III)I" } : Jvm.MethodName)) ∈ lw_tbl := lw_at lw_m7 43 rfl
theorem q1556 : (Jvm.Cond.instanceMethod ({ cls := "LifeRentsModel", name := "partsOf", desc := "(III)I" } : Jvm.MethodName)) ∈ lw_all := lw_g (lw_at lw_m7 44 rfl) rfl
theorem q1557 : (Jvm.Cond.code ({ cls := "LifeRentsModel", name := "partsOf", desc := "(III)I" } : Jvm.MethodName) prog_19_method_34_code (6 : Nat) (Option.some Jvm.ClassFile.FieldType.int)) ∈ lw_all := lw_g (lw_at lw_m7 45 rfl) rfl
theorem q1559 : (Jvm.Cond.instanceMethod ({ cls := "LifeRentsModel", name := "parts", desc := "(III)I" } : Jvm.MethodName)) ∈ lw_all := lw_g (lw_at lw_m7 47 rfl) rfl
theorem q1560 : (Jvm.Cond.selects "LifeRentsModel" ({ cls := "LifeRentsModel", name := "parts", desc := "(III)I" } : Jvm.MethodName) ({ cls := "LifeRentsModel", name := "parts", desc := "(III)I" } : Jvm.MethodName)) ∈ lw_all := lw_g (lw_at lw_m7 48 rfl) rfl
theorem q1561 : (Jvm.Cond.code ({ cls := "LifeRentsModel", name := "parts", desc := "(III)I" } : Jvm.MethodName) prog_19_method_36_code (4 : Nat) (Option.some Jvm.ClassFile.FieldType.int)) ∈ lw_all := lw_g (lw_at lw_m7 49 rfl) rfl
theorem q1562 : (Jvm.Cond.methodLink "LifeRentsModel" (249 : Nat) ({ cls := "LifeRentsModel", name := "isHalf", desc := "(I)Z" } : Jvm.MethodName)) ∈ lw_all := lw_g (lw_at lw_m7 50 rfl) rfl
theorem q1563 : (Jvm.Cond.static ({ cls := "LifeRentsModel", name := "isHalf", desc := "(I)Z" } : Jvm.MethodName)) ∈ lw_all := lw_g (lw_at lw_m7 51 rfl) rfl
theorem q1564 : (Jvm.Cond.code ({ cls := "LifeRentsModel", name := "isHalf", desc := "(I)Z" } : Jvm.MethodName) prog_19_method_5_code (1 : Nat) (Option.some Jvm.ClassFile.FieldType.boolean)) ∈ lw_all := lw_g (lw_at lw_m7 52 rfl) rfl
theorem q1566 : (Jvm.Cond.instanceMethod ({ cls := "LifeRentsModel", name := "note", desc := "(IIZ)I" } : Jvm.MethodName)) ∈ lw_all := lw_g (lw_at lw_m7 54 rfl) rfl
theorem q1567 : (Jvm.Cond.selects "LifeRentsModel" ({ cls := "LifeRentsModel", name := "note", desc := "(IIZ)I" } : Jvm.MethodName) ({ cls := "LifeRentsModel", name := "note", desc := "(IIZ)I" } : Jvm.MethodName)) ∈ lw_all := lw_g (lw_at lw_m7 55 rfl) rfl
theorem q1568 : (Jvm.Cond.code ({ cls := "LifeRentsModel", name := "note", desc := "(IIZ)I" } : Jvm.MethodName) prog_19_method_38_code (4 : Nat) (Option.some Jvm.ClassFile.FieldType.int)) ∈ lw_all := lw_g (lw_at lw_m7 56 rfl) rfl
theorem q1569 : (Jvm.Cond.methodLink "LifeRentsModel" (255 : Nat) ({ cls := "LifeRentsModel", name := "told", desc := "(III)I" } : Jvm.MethodName)) ∈ lw_all := lw_g (lw_at lw_m7 57 rfl) rfl
theorem q1570 : (Jvm.Cond.privateMethod ({ cls := "LifeRentsModel", name := "told", desc := "(III)I" } : Jvm.MethodName)) ∈ lw_tbl := lw_at lw_m7 58 rfl
theorem q1571 : (Jvm.Cond.instanceMethod ({ cls := "LifeRentsModel", name := "told", desc := "(III)I" } : Jvm.MethodName)) ∈ lw_all := lw_g (lw_at lw_m7 59 rfl) rfl
theorem q1572 : (Jvm.Cond.code ({ cls := "LifeRentsModel", name := "told", desc := "(III)I" } : Jvm.MethodName) prog_19_method_37_code (4 : Nat) (Option.some Jvm.ClassFile.FieldType.int)) ∈ lw_all := lw_g (lw_at lw_m7 60 rfl) rfl
theorem q1574 : (Jvm.Cond.instanceMethod ({ cls := "LifeRentsModel", name := "strike", desc := "(I)I" } : Jvm.MethodName)) ∈ lw_all := lw_g (lw_at lw_m7 62 rfl) rfl
theorem q1575 : (Jvm.Cond.selects "LifeRentsModel" ({ cls := "LifeRentsModel", name := "strike", desc := "(I)I" } : Jvm.MethodName) ({ cls := "LifeRentsModel", name := "strike", desc := "(I)I" } : Jvm.MethodName)) ∈ lw_all := lw_g (lw_at lw_m7 63 rfl) rfl
theorem q1576 : (Jvm.Cond.code ({ cls := "LifeRentsModel", name := "strike", desc := "(I)I" } : Jvm.MethodName) prog_19_method_39_code (2 : Nat) (Option.some Jvm.ClassFile.FieldType.int)) ∈ lw_all := lw_g (lw_at lw_m7 64 rfl) rfl
theorem q1578 : (Jvm.Cond.instanceMethod ({ cls := "LifeRentsModel", name := "dead", desc := "(II)I" } : Jvm.MethodName)) ∈ lw_all := lw_g (lw_at lw_m7 66 rfl) rfl
theorem q1579 : (Jvm.Cond.selects "LifeRentsModel" ({ cls := "LifeRentsModel", name := "dead", desc := "(II)I" } : Jvm.MethodName) ({ cls := "LifeRentsModel", name := "dead", desc := "(II)I" } : Jvm.MethodName)) ∈ lw_all := lw_g (lw_at lw_m7 67 rfl) rfl
theorem q1580 : (Jvm.Cond.code ({ cls := "LifeRentsModel", name := "dead", desc := "(II)I" } : Jvm.MethodName) prog_19_method_42_code (3 : Nat) (Option.some Jvm.ClassFile.FieldType.int)) ∈ lw_all := lw_g (lw_at lw_m7 68 rfl) rfl
theorem q1581 : (Jvm.Cond.methodLink "LifeRentsModel" (257 : Nat) ({ cls := "LifeRentsModel", name := "know", desc := "(I)V" } : Jvm.MethodName)) ∈ lw_all := lw_g (lw_at lw_m7 69 rfl) rfl
theorem q1582 : (Jvm.Cond.privateMethod ({ cls := "LifeRentsModel", name := "know", desc := "(I)V" } : Jvm.MethodName)) ∈ lw_tbl := lw_at lw_m7 70 rfl
theorem q1583 : (Jvm.Cond.instanceMethod ({ cls := "LifeRentsModel", name := "know", desc := "(I)V" } : Jvm.MethodName)) ∈ lw_all := lw_g (lw_at lw_m7 71 rfl) rfl
theorem q1584 : (Jvm.Cond.code ({ cls := "LifeRentsModel", name := "know", desc := "(I)V" } : Jvm.MethodName) prog_19_method_40_code (3 : Nat) (Option.none : Option Jvm.ClassFile.FieldType)) ∈ lw_all := lw_g (lw_at lw_m7 72 rfl) rfl
theorem q1586 : (Jvm.Cond.instanceMethod ({ cls := "LifeRentsModel", name := "holds", desc := "(II)I" } : Jvm.MethodName)) ∈ lw_all := lw_g (lw_at lw_m7 74 rfl) rfl
theorem q1587 : (Jvm.Cond.selects "LifeRentsModel" ({ cls := "LifeRentsModel", name := "holds", desc := "(II)I" } : Jvm.MethodName) ({ cls := "LifeRentsModel", name := "holds", desc := "(II)I" } : Jvm.MethodName)) ∈ lw_all := lw_g (lw_at lw_m7 75 rfl) rfl
theorem q1588 : (Jvm.Cond.code ({ cls := "LifeRentsModel", name := "holds", desc := "(II)I" } : Jvm.MethodName) prog_19_method_43_code (3 : Nat) (Option.some Jvm.ClassFile.FieldType.int)) ∈ lw_all := lw_g (lw_at lw_m7 76 rfl) rfl
theorem q1589 : (Jvm.Cond.methodLink "LifeRentsModel" (261 : Nat) ({ cls := "LifeRentsModel", name := "isFalse", desc := "(I)Z" } : Jvm.MethodName)) ∈ lw_all := lw_g (lw_at lw_m7 77 rfl) rfl
theorem q1590 : (Jvm.Cond.privateMethod ({ cls := "LifeRentsModel", name := "isFalse", desc := "(I)Z" } : Jvm.MethodName)) ∈ lw_tbl := lw_at lw_m7 78 rfl
theorem q1591 : (Jvm.Cond.instanceMethod ({ cls := "LifeRentsModel", name := "isFalse", desc := "(I)Z" } : Jvm.MethodName)) ∈ lw_all := lw_g (lw_at lw_m7 79 rfl) rfl
theorem q1592 : (Jvm.Cond.code ({ cls := "LifeRentsModel", name := "isFalse", desc := "(I)Z" } : Jvm.MethodName) prog_19_method_41_code (3 : Nat) (Option.some Jvm.ClassFile.FieldType.boolean)) ∈ lw_all := lw_g (lw_at lw_m7 80 rfl) rfl
theorem q1594 : (Jvm.Cond.instanceMethod ({ cls := "LifeRentsModel", name := "paid", desc := "(III)I" } : Jvm.MethodName)) ∈ lw_all := lw_g (lw_at lw_m7 82 rfl) rfl
theorem q1595 : (Jvm.Cond.selects "LifeRentsModel" ({ cls := "LifeRentsModel", name := "paid", desc := "(III)I" } : Jvm.MethodName) ({ cls := "LifeRentsModel", name := "paid", desc := "(III)I" } : Jvm.MethodName)) ∈ lw_all := lw_g (lw_at lw_m7 83 rfl) rfl
theorem q1596 : (Jvm.Cond.code ({ cls := "LifeRentsModel", name := "paid", desc := "(III)I" } : Jvm.MethodName) prog_19_method_49_code (4 : Nat) (Option.some Jvm.ClassFile.FieldType.int)) ∈ lw_all := lw_g (lw_at lw_m7 84 rfl) rfl
theorem q1597 : (Jvm.Cond.methodLink "LifeRentsModel" (279 : Nat) ({ cls := "LifeRentsModel", name := "pays", desc := "(I)V" } : Jvm.MethodName)) ∈ lw_all := lw_g (lw_at lw_m7 85 rfl) rfl
theorem q1598 : (Jvm.Cond.privateMethod ({ cls := "LifeRentsModel", name := "pays", desc := "(I)V" } : Jvm.MethodName)) ∈ lw_tbl := lw_at lw_m7 86 rfl
theorem q1599 : (Jvm.Cond.instanceMethod ({ cls := "LifeRentsModel", name := "pays", desc := "(I)V" } : Jvm.MethodName)) ∈ lw_all := lw_g (lw_at lw_m7 87 rfl) rfl
theorem q1600 : (Jvm.Cond.code ({ cls := "LifeRentsModel", name := "pays", desc := "(I)V" } : Jvm.MethodName) prog_19_method_47_code (5 : Nat) (Option.none : Option Jvm.ClassFile.FieldType)) ∈ lw_all := lw_g (lw_at lw_m7 88 rfl) rfl
theorem q1601 : (Jvm.Cond.methodLink "LifeRentsModel" (269 : Nat) ({ cls := "LifeRentsModel", name := "isDue", desc := "(II)Z" } : Jvm.MethodName)) ∈ lw_all := lw_g (lw_at lw_m7 89 rfl) rfl
theorem q1602 : (Jvm.Cond.privateMethod ({ cls := "LifeRentsModel", name := "isDue", desc := "(II)Z" } : Jvm.MethodName)) ∈ lw_tbl := lw_at lw_m7 90 rfl
theorem q1603 : (Jvm.Cond.instanceMethod ({ cls := "LifeRentsModel", name := "isDue", desc := "(II)Z" } : Jvm.MethodName)) ∈ lw_all := lw_g (lw_at lw_m7 91 rfl) rfl
theorem q1604 : (Jvm.Cond.code ({ cls := "LifeRentsModel", name := "isDue", desc := "(II)Z" } : Jvm.MethodName) prog_19_method_45_code (3 : Nat) (Option.some Jvm.ClassFile.FieldType.boolean)) ∈ lw_all := lw_g (lw_at lw_m7 92 rfl) rfl
theorem q1605 : (Jvm.Cond.methodLink "LifeRentsModel" (264 : Nat) ({ cls := "LifeRentsModel", name := "lives", desc := "(II)Z" } : Jvm.MethodName)) ∈ lw_all := lw_g (lw_at lw_m7 93 rfl) rfl
theorem q1606 : (Jvm.Cond.privateMethod ({ cls := "LifeRentsModel", name := "lives", desc := "(II)Z" } : Jvm.MethodName)) ∈ lw_tbl := lw_at lw_m7 94 rfl
theorem q1607 : (Jvm.Cond.instanceMethod ({ cls := "LifeRentsModel", name := "lives", desc := "(II)Z" } : Jvm.MethodName)) ∈ lw_all := lw_g (lw_at lw_m7 95 rfl) rfl
theorem q1608 : (Jvm.Cond.code ({ cls := "LifeRentsModel", name := "lives", desc := "(II)Z" } : Jvm.MethodName) prog_19_method_44_code (3 : Nat) (Option.some Jvm.ClassFile.FieldType.boolean)) ∈ lw_all := lw_g (lw_at lw_m7 96 rfl) rfl
theorem q1609 : (Jvm.Cond.methodLink "LifeRentsModel" (272 : Nat) ({ cls := "LifeRentsModel", name := "isProved", desc := "(II)Z" } : Jvm.MethodName)) ∈ lw_all := lw_g (lw_at lw_m7 97 rfl) rfl
theorem q1610 : (Jvm.Cond.privateMethod ({ cls := "LifeRentsModel", name := "isProved", desc := "(II)Z" } : Jvm.MethodName)) ∈ lw_tbl := lw_at lw_m7 98 rfl
theorem q1611 : (Jvm.Cond.instanceMethod ({ cls := "LifeRentsModel", name := "isProved", desc := "(II)Z" } : Jvm.MethodName)) ∈ lw_all := lw_g (lw_at lw_m7 99 rfl) rfl
theorem q1612 : (Jvm.Cond.code ({ cls := "LifeRentsModel", name := "isProved", desc := "(II)Z" } : Jvm.MethodName) prog_19_method_46_code (5 : Nat) (Option.some Jvm.ClassFile.FieldType.boolean)) ∈ lw_all := lw_g (lw_at lw_m7 100 rfl) rfl
theorem q1613 : (Jvm.Cond.methodLink "LifeRentsModel" (275 : Nat) ({ cls := "LifeRentsModel", name := "shares", desc := "(II)V" } : Jvm.MethodName)) ∈ lw_all := lw_g (lw_at lw_m7 101 rfl) rfl
theorem q1614 : (Jvm.Cond.privateMethod ({ cls := "LifeRentsModel", name := "shares", desc := "(II)V" } : Jvm.MethodName)) ∈ lw_tbl := lw_at lw_m7 102 rfl
theorem q1615 : (Jvm.Cond.instanceMethod ({ cls := "LifeRentsModel", name := "shares", desc := "(II)V" } : Jvm.MethodName)) ∈ lw_all := lw_g (lw_at lw_m7 103 rfl) rfl
theorem q1616 : (Jvm.Cond.code ({ cls := "LifeRentsModel", name := "shares", desc := "(II)V" } : Jvm.MethodName) prog_19_method_48_code (9 : Nat) (Option.none : Option Jvm.ClassFile.FieldType)) ∈ lw_all := lw_g (lw_at lw_m7 104 rfl) rfl
theorem q1618 : (Jvm.Cond.instanceMethod ({ cls := "LifeRentsModel", name := "got", desc := "(II)I" } : Jvm.MethodName)) ∈ lw_all := lw_g (lw_at lw_m7 106 rfl) rfl
theorem q1619 : (Jvm.Cond.selects "LifeRentsModel" ({ cls := "LifeRentsModel", name := "got", desc := "(II)I" } : Jvm.MethodName) ({ cls := "LifeRentsModel", name := "got", desc := "(II)I" } : Jvm.MethodName)) ∈ lw_all := lw_g (lw_at lw_m7 107 rfl) rfl
theorem q1620 : (Jvm.Cond.code ({ cls := "LifeRentsModel", name := "got", desc := "(II)I" } : Jvm.MethodName) prog_19_method_50_code (3 : Nat) (Option.some Jvm.ClassFile.FieldType.int)) ∈ lw_all := lw_g (lw_at lw_m7 108 rfl) rfl
theorem q1622 : (Jvm.Cond.instanceMethod ({ cls := "LifeRentsModel", name := "owed", desc := "(II)I" } : Jvm.MethodName)) ∈ lw_all := lw_g (lw_at lw_m7 110 rfl) rfl
theorem q1623 : (Jvm.Cond.selects "LifeRentsModel" ({ cls := "LifeRentsModel", name := "owed", desc := "(II)I" } : Jvm.MethodName) ({ cls := "LifeRentsModel", name := "owed", desc := "(II)I" } : Jvm.MethodName)) ∈ lw_all := lw_g (lw_at lw_m7 111 rfl) rfl
theorem q1624 : (Jvm.Cond.code ({ cls := "LifeRentsModel", name := "owed", desc := "(II)I" } : Jvm.MethodName) prog_19_method_52_code (3 : Nat) (Option.some Jvm.ClassFile.FieldType.int)) ∈ lw_all := lw_g (lw_at lw_m7 112 rfl) rfl
theorem q1625 : (Jvm.Cond.methodLink "LifeRentsModel" (282 : Nat) ({ cls := "LifeRentsModel", name := "owedOf", desc := "(I)I" } : Jvm.MethodName)) ∈ lw_all := lw_g (lw_at lw_m7 113 rfl) rfl
theorem q1626 : (Jvm.Cond.privateMethod ({ cls := "LifeRentsModel", name := "owedOf", desc := "(I)I" } : Jvm.MethodName)) ∈ lw_tbl := lw_at lw_m7 114 rfl
theorem q1627 : (Jvm.Cond.instanceMethod ({ cls := "LifeRentsModel", name := "owedOf", desc := "(I)I" } : Jvm.MethodName)) ∈ lw_all := lw_g (lw_at lw_m7 115 rfl) rfl
theorem q1628 : (Jvm.Cond.code ({ cls := "LifeRentsModel", name := "owedOf", desc := "(I)I" } : Jvm.MethodName) prog_19_method_51_code (4 : Nat) (Option.some Jvm.ClassFile.FieldType.int)) ∈ lw_all := lw_g (lw_at lw_m7 116 rfl) rfl
theorem q1630 : (Jvm.Cond.instanceMethod ({ cls := "LifeRentsModel", name := "state", desc := "(II)I" } : Jvm.MethodName)) ∈ lw_all := lw_g (lw_at lw_m7 118 rfl) rfl
theorem q1631 : (Jvm.Cond.selects "LifeRentsModel" ({ cls := "LifeRentsModel", name := "state", desc := "(II)I" } : Jvm.MethodName) ({ cls := "LifeRentsModel", name := "state", desc := "(II)I" } : Jvm.MethodName)) ∈ lw_all := lw_g (lw_at lw_m7 119 rfl) rfl
theorem q1632 : (Jvm.Cond.code ({ cls := "LifeRentsModel", name := "state", desc := "(II)I" } : Jvm.MethodName) prog_19_method_53_code (5 : Nat) (Option.some Jvm.ClassFile.FieldType.int)) ∈ lw_all := lw_g (lw_at lw_m7 120 rfl) rfl
theorem q1634 : (Jvm.Cond.instanceMethod ({ cls := "LifeRentsModel", name := "sold", desc := "(III)Z" } : Jvm.MethodName)) ∈ lw_all := lw_g (lw_at lw_m7 122 rfl) rfl
theorem q1635 : (Jvm.Cond.selects "LifeRentsModel" ({ cls := "LifeRentsModel", name := "sold", desc := "(III)Z" } : Jvm.MethodName) ({ cls := "LifeRentsModel", name := "sold", desc := "(III)Z" } : Jvm.MethodName)) ∈ lw_all := lw_g (lw_at lw_m7 123 rfl) rfl
theorem q1636 : (Jvm.Cond.code ({ cls := "LifeRentsModel", name := "sold", desc := "(III)Z" } : Jvm.MethodName) prog_19_method_54_code (4 : Nat) (Option.some Jvm.ClassFile.FieldType.boolean)) ∈ lw_all := lw_g (lw_at lw_m7 124 rfl) rfl
theorem q1638 : (Jvm.Cond.instanceMethod ({ cls := "LifeRentsModel", name := "own", desc := "(IIII)I" } : Jvm.MethodName)) ∈ lw_all := lw_g (lw_at lw_m7 126 rfl) rfl
theorem q1639 : (Jvm.Cond.selects "LifeRentsModel" ({ cls := "LifeRentsModel", name := "own", desc := "(IIII)I" } : Jvm.MethodName) ({ cls := "LifeRentsModel", name := "own", desc := "(IIII)I" } : Jvm.MethodName)) ∈ lw_all := lw_g (lw_at lw_m7 127 rfl) rfl
theorem q1640 : (Jvm.Cond.code ({ cls := "LifeRentsModel", name := "own", desc := "(IIII)I" } : Jvm.MethodName) prog_19_method_58_code (5 : Nat) (Option.some Jvm.ClassFile.FieldType.int)) ∈ lw_all := lw_g (lw_at lw_m7 128 rfl) rfl
theorem q1641 : (Jvm.Cond.methodLink "LifeRentsModel" (292 : Nat) ({ cls := "LifeRentsModel", name := "years", desc := "(III)V" } : Jvm.MethodName)) ∈ lw_all := lw_g (lw_at lw_m7 129 rfl) rfl
theorem q1642 : (Jvm.Cond.privateMethod ({ cls := "LifeRentsModel", name := "years", desc := "(III)V" } : Jvm.MethodName)) ∈ lw_tbl := lw_at lw_m7 130 rfl
theorem q1643 : (Jvm.Cond.instanceMethod ({ cls := "LifeRentsModel", name := "years", desc := "(III)V" } : Jvm.MethodName)) ∈ lw_all := lw_g (lw_at lw_m7 131 rfl) rfl
theorem q1644 : (Jvm.Cond.code ({ cls := "LifeRentsModel", name := "years", desc := "(III)V" } : Jvm.MethodName) prog_19_method_56_code (7 : Nat) (Option.none : Option Jvm.ClassFile.FieldType)) ∈ lw_all := lw_g (lw_at lw_m7 132 rfl) rfl
theorem q1645 : (Jvm.Cond.methodLink "LifeRentsModel" (296 : Nat) ({ cls := "LifeRentsModel", name := "lived", desc := "(III)I" } : Jvm.MethodName)) ∈ lw_all := lw_g (lw_at lw_m7 133 rfl) rfl
theorem q1646 : (Jvm.Cond.privateMethod ({ cls := "LifeRentsModel", name := "lived", desc := "(III)I" } : Jvm.MethodName)) ∈ lw_tbl := lw_at lw_m7 134 rfl
theorem q1647 : (Jvm.Cond.instanceMethod ({ cls := "LifeRentsModel", name := "lived", desc := "(III)I" } : Jvm.MethodName)) ∈ lw_all := lw_g (lw_at lw_m7 135 rfl) rfl
theorem q1648 : (Jvm.Cond.code ({ cls := "LifeRentsModel", name := "lived", desc := "(III)I" } : Jvm.MethodName) prog_19_method_57_code (5 : Nat) (Option.some Jvm.ClassFile.FieldType.int)) ∈ lw_all := lw_g (lw_at lw_m7 136 rfl) rfl
theorem q1650 : (Jvm.Cond.instanceMethod ({ cls := "LifeRentsModel", name := "worth", desc := "(III)I" } : Jvm.MethodName)) ∈ lw_all := lw_g (lw_at lw_m7 138 rfl) rfl
theorem q1651 : (Jvm.Cond.selects "LifeRentsModel" ({ cls := "LifeRentsModel", name := "worth", desc := "(III)I" } : Jvm.MethodName) ({ cls := "LifeRentsModel", name := "worth", desc := "(III)I" } : Jvm.MethodName)) ∈ lw_all := lw_g (lw_at lw_m7 139 rfl) rfl
theorem q1652 : (Jvm.Cond.code ({ cls := "LifeRentsModel", name := "worth", desc := "(III)I" } : Jvm.MethodName) prog_19_method_65_code (4 : Nat) (Option.some Jvm.ClassFile.FieldType.int)) ∈ lw_all := lw_g (lw_at lw_m7 140 rfl) rfl
theorem q1653 : (Jvm.Cond.methodLink "LifeRentsModel" (314 : Nat) ({ cls := "LifeRentsModel", name := "lay", desc := "(I)V" } : Jvm.MethodName)) ∈ lw_all := lw_g (lw_at lw_m7 141 rfl) rfl
theorem q1654 : (Jvm.Cond.privateMethod ({ cls := "LifeRentsModel", name := "lay", desc := "(I)V" } : Jvm.MethodName)) ∈ lw_tbl := lw_at lw_m7 142 rfl
theorem q1655 : (Jvm.Cond.instanceMethod ({ cls := "LifeRentsModel", name := "lay", desc := "(I)V" } : Jvm.MethodName)) ∈ lw_all := lw_g (lw_at lw_m7 143 rfl) rfl
theorem q1656 : (Jvm.Cond.code ({ cls := "LifeRentsModel", name := "lay", desc := "(I)V" } : Jvm.MethodName) prog_19_method_59_code (4 : Nat) (Option.none : Option Jvm.ClassFile.FieldType)) ∈ lw_all := lw_g (lw_at lw_m7 144 rfl) rfl
theorem q1657 : (Jvm.Cond.methodLink "LifeRentsModel" (317 : Nat) ({ cls := "LifeRentsModel", name := "worthOn", desc := "(II)I" } : Jvm.MethodName)) ∈ lw_all := lw_g (lw_at lw_m7 145 rfl) rfl
theorem q1658 : (Jvm.Cond.privateMethod ({ cls := "LifeRentsModel", name := "worthOn", desc := "(II)I" } : Jvm.MethodName)) ∈ lw_tbl := lw_at lw_m7 146 rfl
theorem q1659 : (Jvm.Cond.instanceMethod ({ cls := "LifeRentsModel", name := "worthOn", desc := "(II)I" } : Jvm.MethodName)) ∈ lw_all := lw_g (lw_at lw_m7 147 rfl) rfl
theorem q1660 : (Jvm.Cond.code ({ cls := "LifeRentsModel", name := "worthOn", desc := "(II)I" } : Jvm.MethodName) prog_19_method_64_code (3 : Nat) (Option.some Jvm.ClassFile.FieldType.int)) ∈ lw_all := lw_g (lw_at lw_m7 148 rfl) rfl
theorem q1661 : (Jvm.Cond.methodLink "LifeRentsModel" (308 : Nat) ({ cls := "LifeRentsModel", name := "worthOf", desc := "(I)I" } : Jvm.MethodName)) ∈ lw_all := lw_g (lw_at lw_m7 149 rfl) rfl
theorem q1662 : (Jvm.Cond.privateMethod ({ cls := "LifeRentsModel", name := "worthOf", desc := "(I)I" } : Jvm.MethodName)) ∈ lw_tbl := lw_at lw_m7 150 rfl
theorem q1663 : (Jvm.Cond.instanceMethod ({ cls := "LifeRentsModel", name := "worthOf", desc := "(I)I" } : Jvm.MethodName)) ∈ lw_all := lw_g (lw_at lw_m7 151 rfl) rfl
theorem q1664 : (Jvm.Cond.code ({ cls := "LifeRentsModel", name := "worthOf", desc := "(I)I" } : Jvm.MethodName) prog_19_method_62_code (4 : Nat) (Option.some Jvm.ClassFile.FieldType.int)) ∈ lw_all := lw_g (lw_at lw_m7 152 rfl) rfl
theorem q1665 : (Jvm.Cond.methodLink "LifeRentsModel" (302 : Nat) ({ cls := "LifeRentsModel", name := "liveOf", desc := "(II)I" } : Jvm.MethodName)) ∈ lw_all := lw_g (lw_at lw_m7 153 rfl) rfl
theorem q1666 : (Jvm.Cond.privateMethod ({ cls := "LifeRentsModel", name := "liveOf", desc := "(II)I" } : Jvm.MethodName)) ∈ lw_tbl := lw_at lw_m7 154 rfl
theorem q1667 : (Jvm.Cond.instanceMethod ({ cls := "LifeRentsModel", name := "liveOf", desc := "(II)I" } : Jvm.MethodName)) ∈ lw_all := lw_g (lw_at lw_m7 155 rfl) rfl
theorem q1668 : (Jvm.Cond.code ({ cls := "LifeRentsModel", name := "liveOf", desc := "(II)I" } : Jvm.MethodName) prog_19_method_60_code (3 : Nat) (Option.some Jvm.ClassFile.FieldType.int)) ∈ lw_all := lw_g (lw_at lw_m7 156 rfl) rfl
theorem q1669 : (Jvm.Cond.methodLink "LifeRentsModel" (299 : Nat) ({ cls := "LifeRentsModel", name := "groupOf", desc := "(I)I" } : Jvm.MethodName)) ∈ lw_all := lw_g (lw_at lw_m7 157 rfl) rfl
theorem q1670 : (Jvm.Cond.static ({ cls := "LifeRentsModel", name := "groupOf", desc := "(I)I" } : Jvm.MethodName)) ∈ lw_all := lw_g (lw_at lw_m7 158 rfl) rfl
theorem q1671 : (Jvm.Cond.code ({ cls := "LifeRentsModel", name := "groupOf", desc := "(I)I" } : Jvm.MethodName) prog_19_method_55_code (1 : Nat) (Option.some Jvm.ClassFile.FieldType.int)) ∈ lw_all := lw_g (lw_at lw_m7 159 rfl) rfl
theorem q1672 : (Jvm.Cond.methodLink "LifeRentsModel" (305 : Nat) ({ cls := "LifeRentsModel", name := "yearBack", desc := "(II)I" } : Jvm.MethodName)) ∈ lw_all := lw_g (lw_at lw_m7 160 rfl) rfl
theorem q1673 : (Jvm.Cond.privateMethod ({ cls := "LifeRentsModel", name := "yearBack", desc := "(II)I" } : Jvm.MethodName)) ∈ lw_tbl := lw_at lw_m7 161 rfl
theorem q1674 : (Jvm.Cond.instanceMethod ({ cls := "LifeRentsModel", name := "yearBack", desc := "(II)I" } : Jvm.MethodName)) ∈ lw_all := lw_g (lw_at lw_m7 162 rfl) rfl
theorem q1675 : (Jvm.Cond.code ({ cls := "LifeRentsModel", name := "yearBack", desc := "(II)I" } : Jvm.MethodName) prog_19_method_61_code (3 : Nat) (Option.some Jvm.ClassFile.FieldType.int)) ∈ lw_all := lw_g (lw_at lw_m7 163 rfl) rfl
theorem q1676 : (Jvm.Cond.methodLink "LifeRentsModel" (311 : Nat) ({ cls := "LifeRentsModel", name := "bothOf", desc := "(II)I" } : Jvm.MethodName)) ∈ lw_all := lw_g (lw_at lw_m7 164 rfl) rfl
theorem q1677 : (Jvm.Cond.privateMethod ({ cls := "LifeRentsModel", name := "bothOf", desc := "(II)I" } : Jvm.MethodName)) ∈ lw_tbl := lw_at lw_m7 165 rfl
theorem q1678 : (Jvm.Cond.instanceMethod ({ cls := "LifeRentsModel", name := "bothOf", desc := "(II)I" } : Jvm.MethodName)) ∈ lw_all := lw_g (lw_at lw_m7 166 rfl) rfl
theorem q1679 : (Jvm.Cond.code ({ cls := "LifeRentsModel", name := "bothOf", desc := "(II)I" } : Jvm.MethodName) prog_19_method_63_code (7 : Nat) (Option.some Jvm.ClassFile.FieldType.int)) ∈ lw_all := lw_g (lw_at lw_m7 167 rfl) rfl
theorem q1681 : (Jvm.Cond.instanceMethod ({ cls := "LifeRentsModel", name := "names", desc := "(I)I" } : Jvm.MethodName)) ∈ lw_all := lw_g (lw_at lw_m7 169 rfl) rfl
theorem q1682 : (Jvm.Cond.selects "LifeRentsModel" ({ cls := "LifeRentsModel", name := "names", desc := "(I)I" } : Jvm.MethodName) ({ cls := "LifeRentsModel", name := "names", desc := "(I)I" } : Jvm.MethodName)) ∈ lw_all := lw_g (lw_at lw_m7 170 rfl) rfl
theorem q1683 : (Jvm.Cond.code ({ cls := "LifeRentsModel", name := "names", desc := "(I)I" } : Jvm.MethodName) prog_19_method_66_code (12 : Nat) (Option.some Jvm.ClassFile.FieldType.int)) ∈ lw_all := lw_g (lw_at lw_m7 171 rfl) rfl
theorem q1684 : (Jvm.Cond.constant "LifeRentsModel" (320 : Nat) (99999 : Int32)) ∈ lw_all := lw_g (lw_at lw_m7 172 rfl) rfl
theorem q1685 : (Jvm.Cond.constant "LifeRentsModel" (321 : Nat) (-2147483648 : Int32)) ∈ lw_all := lw_g (lw_at lw_m7 173 rfl) rfl
theorem q1687 : (Jvm.Cond.instanceMethod ({ cls := "LifeRentsModel", name := "named", desc := "(I)I" } : Jvm.MethodName)) ∈ lw_all := lw_g (lw_at lw_m7 175 rfl) rfl
theorem q1688 : (Jvm.Cond.selects "LifeRentsModel" ({ cls := "LifeRentsModel", name := "named", desc := "(I)I" } : Jvm.MethodName) ({ cls := "LifeRentsModel", name := "named", desc := "(I)I" } : Jvm.MethodName)) ∈ lw_all := lw_g (lw_at lw_m7 176 rfl) rfl
theorem q1689 : (Jvm.Cond.code ({ cls := "LifeRentsModel", name := "named", desc := "(I)I" } : Jvm.MethodName) prog_19_method_67_code (2 : Nat) (Option.some Jvm.ClassFile.FieldType.int)) ∈ lw_all := lw_g (lw_at lw_m7 177 rfl) rfl
theorem q1691 : (Jvm.Cond.instanceMethod ({ cls := "LifeRentsModel", name := "look", desc := "(I)I" } : Jvm.MethodName)) ∈ lw_all := lw_g (lw_at lw_m7 179 rfl) rfl
theorem q1692 : (Jvm.Cond.selects "LifeRentsModel" ({ cls := "LifeRentsModel", name := "look", desc := "(I)I" } : Jvm.MethodName) ({ cls := "LifeRentsModel", name := "look", desc := "(I)I" } : Jvm.MethodName)) ∈ lw_all := lw_g (lw_at lw_m7 180 rfl) rfl
theorem q1693 : (Jvm.Cond.code ({ cls := "LifeRentsModel", name := "look", desc := "(I)I" } : Jvm.MethodName) prog_19_method_69_code (9 : Nat) (Option.some Jvm.ClassFile.FieldType.int)) ∈ lw_all := lw_g (lw_at lw_m7 181 rfl) rfl
theorem q1694 : (Jvm.Cond.methodLink "LifeRentsModel" (326 : Nat) ({ cls := "LifeRentsModel", name := "riskOf", desc := "(I)J" } : Jvm.MethodName)) ∈ lw_all := lw_g (lw_at lw_m7 182 rfl) rfl
theorem q1695 : (Jvm.Cond.privateMethod ({ cls := "LifeRentsModel", name := "riskOf", desc := "(I)J" } : Jvm.MethodName)) ∈ lw_tbl := lw_at lw_m7 183 rfl
theorem q1696 : (Jvm.Cond.instanceMethod ({ cls := "LifeRentsModel", name := "riskOf", desc := "(I)J" } : Jvm.MethodName)) ∈ lw_all := lw_g (lw_at lw_m7 184 rfl) rfl
theorem q1697 : (Jvm.Cond.code ({ cls := "LifeRentsModel", name := "riskOf", desc := "(I)J" } : Jvm.MethodName) prog_19_method_68_code (6 : Nat) (Option.some Jvm.ClassFile.FieldType.long)) ∈ lw_all := lw_g (lw_at lw_m7 185 rfl) rfl
theorem q1699 : (Jvm.Cond.instanceMethod ({ cls := "LifeRentsModel", name := "risk", desc := "(I)J" } : Jvm.MethodName)) ∈ lw_all := lw_g (lw_at lw_m7 187 rfl) rfl
theorem q1700 : (Jvm.Cond.selects "LifeRentsModel" ({ cls := "LifeRentsModel", name := "risk", desc := "(I)J" } : Jvm.MethodName) ({ cls := "LifeRentsModel", name := "risk", desc := "(I)J" } : Jvm.MethodName)) ∈ lw_all := lw_g (lw_at lw_m7 188 rfl) rfl
theorem q1701 : (Jvm.Cond.code ({ cls := "LifeRentsModel", name := "risk", desc := "(I)J" } : Jvm.MethodName) prog_19_method_71_code (2 : Nat) (Option.some Jvm.ClassFile.FieldType.long)) ∈ lw_all := lw_g (lw_at lw_m7 189 rfl) rfl
theorem q1702 : (Jvm.Cond.methodLink "LifeRentsModel" (330 : Nat) ({ cls := "LifeRentsModel", name := "fails", desc := "(I)J" } : Jvm.MethodName)) ∈ lw_all := lw_g (lw_at lw_m7 190 rfl) rfl
theorem q1703 : (Jvm.Cond.privateMethod ({ cls := "LifeRentsModel", name := "fails", desc := "(I)J" } : Jvm.MethodName)) ∈ lw_tbl := lw_at lw_m7 191 rfl
theorem q1704 : (Jvm.Cond.instanceMethod ({ cls := "LifeRentsModel", name := "fails", desc := "(I)J" } : Jvm.MethodName)) ∈ lw_all := lw_g (lw_at lw_m7 192 rfl) rfl
theorem q1705 : (Jvm.Cond.code ({ cls := "LifeRentsModel", name := "fails", desc := "(I)J" } : Jvm.MethodName) prog_19_method_70_code (2 : Nat) (Option.some Jvm.ClassFile.FieldType.long)) ∈ lw_all := lw_g (lw_at lw_m7 193 rfl) rfl
theorem q1707 : (Jvm.Cond.instanceMethod ({ cls := "LifeRentsModel", name := "converts", desc := "(I)I" } : Jvm.MethodName)) ∈ lw_all := lw_g (lw_at lw_m7 195 rfl) rfl
theorem q1708 : (Jvm.Cond.selects "LifeRentsModel" ({ cls := "LifeRentsModel", name := "converts", desc := "(I)I" } : Jvm.MethodName) ({ cls := "LifeRentsModel", name := "converts", desc := "(I)I" } : Jvm.MethodName)) ∈ lw_all := lw_g (lw_at lw_m7 196 rfl) rfl
theorem q1709 : (Jvm.Cond.code ({ cls := "LifeRentsModel", name := "converts", desc := "(I)I" } : Jvm.MethodName) prog_19_method_73_code (8 : Nat) (Option.some Jvm.ClassFile.FieldType.int)) ∈ lw_all := lw_g (lw_at lw_m7 197 rfl) rfl
theorem q1710 : (Jvm.Cond.methodLink "LifeRentsModel" (333 : Nat) ({ cls := "LifeRentsModel", name := "living", desc := "(I)I" } : Jvm.MethodName)) ∈ lw_all := lw_g (lw_at lw_m7 198 rfl) rfl
theorem q1711 : (Jvm.Cond.privateMethod ({ cls := "LifeRentsModel", name := "living", desc := "(I)I" } : Jvm.MethodName)) ∈ lw_tbl := lw_at lw_m7 199 rfl
theorem q1712 : (Jvm.Cond.instanceMethod ({ cls := "LifeRentsModel", name := "living", desc := "(I)I" } : Jvm.MethodName)) ∈ lw_all := lw_g (lw_at lw_m7 200 rfl) rfl
theorem q1713 : (Jvm.Cond.code ({ cls := "LifeRentsModel", name := "living", desc := "(I)I" } : Jvm.MethodName) prog_19_method_72_code (2 : Nat) (Option.some Jvm.ClassFile.FieldType.int)) ∈ lw_all := lw_g (lw_at lw_m7 201 rfl) rfl
theorem q1714 : (Jvm.Cond.constantLong "LifeRentsModel" (336 : Nat) (2 : Int64)) ∈ lw_all := lw_g (lw_at lw_m7 202 rfl) rfl
theorem q1715 : (Jvm.Cond.constantLong "LifeRentsModel" (338 : Nat) (100 : Int64)) ∈ lw_all := lw_g (lw_at lw_m7 203 rfl) rfl
theorem q1717 : (Jvm.Cond.instanceMethod ({ cls := "LifeRentsModel", name := "count", desc := "(I)I" } : Jvm.MethodName)) ∈ lw_all := lw_g (lw_at lw_m7 205 rfl) rfl
theorem q1718 : (Jvm.Cond.selects "LifeRentsModel" ({ cls := "LifeRentsModel", name := "count", desc := "(I)I" } : Jvm.MethodName) ({ cls := "LifeRentsModel", name := "count", desc := "(I)I" } : Jvm.MethodName)) ∈ lw_all := lw_g (lw_at lw_m7 206 rfl) rfl
theorem q1719 : (Jvm.Cond.code ({ cls := "LifeRentsModel", name := "count", desc := "(I)I" } : Jvm.MethodName) prog_19_method_74_code (2 : Nat) (Option.some Jvm.ClassFile.FieldType.int)) ∈ lw_all := lw_g (lw_at lw_m7 207 rfl) rfl
theorem q1736 : (Jvm.Cond.castable "LifeRentsModel" "java/lang/Object") ∈ lw_tbl := lw_at lw_m7 224 rfl
theorem in_X7 : ∀ w ∈ wsX70, w ∈ lw_all := lw_in wsX70 [1319, 1321, 1323, 1325, 1327, 1329, 1331, 1333, 1335, 1337, 1339, 1341, 1343, 1345, 1347, 1349, 1351, 1353, 1355, 1357, 1359, 1361, 1363, 1365, 1367, 1369, 1371, 1373, 1375, 1377, 1379, 1381, 1383, 1385, 1387, 1389, 1391, 1393, 1395, 1397, 1399, 1401, 1403, 1405, 1407, 1409, 1411, 1413, 1415, 1417, 1419, 1421, 1423, 1425, 1427, 1429, 1431, 1433] (by decide +kernel) (by decide +kernel)
