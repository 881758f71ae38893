set_option maxRecDepth 100000
/-! BallotFruitModel -/
set_option maxRecDepth 100000
def RX5 : String := "BallotFruitModel"
def TX5 : u_T := fun k => match k with
  | 0 => ("BallotFruitModel", "told", "I", false)
  | 1 => ("BallotFruitModel", "now", "[I", true)
  | 2 => ("BallotFruitModel", "rows", "[I", true)
  | 3 => ("BallotFruitModel", "undoable", "I", false)
  | 4 => ("BallotFruitModel", "waiting", "[I", true)
  | 5 => ("BallotFruitModel", "isThought", "Z", false)
  | 6 => ("BallotFruitModel", "parties", "I", false)
  | 7 => ("BallotFruitModel", "eaters", "I", false)
  | 8 => ("BallotFruitModel", "badOdds", "I", false)
  | 9 => ("BallotFruitModel", "waspOdds", "I", false)
  | 10 => ("BallotFruitModel", "chairsBut", "I", false)
  | 11 => ("BallotFruitModel", "everyBut", "I", false)
  | 12 => ("BallotFruitModel", "book", "[I", true)
  | 13 => ("BallotFruitModel", "tape", "[I", true)
  | 14 => ("BallotFruitModel", "taped", "I", false)
  | 15 => ("BallotFruitModel", "spot", "I", false)
  | 16 => ("BallotFruitModel", "from", "I", false)
  | 17 => ("BallotFruitModel", "token", "I", false)
  | 18 => ("BallotFruitModel", "value", "I", false)
  | 19 => ("BallotFruitModel", "words", "[I", true)
  | 20 => ("BallotFruitModel", "lineMany", "[I", true)
  | 21 => ("BallotFruitModel", "lineWord", "[I", true)
  | 22 => ("BallotFruitModel", "lineFrom", "[I", true)
  | 23 => ("BallotFruitModel", "lineWhen", "[I", true)
  | 24 => ("BallotFruitModel", "lineTo", "[I", true)
  | 25 => ("BallotFruitModel", "op", "[I", true)
  | 26 => ("BallotFruitModel", "arg", "[I", true)
  | 27 => ("BallotFruitModel", "which", "I", false)
  | 28 => ("BallotFruitModel", "codes", "I", false)
  | 29 => ("BallotFruitModel", "open", "I", false)
  | 30 => ("BallotFruitModel", "pending", "[I", true)
  | 31 => ("BallotFruitModel", "pendings", "I", false)
  | 32 => ("BallotFruitModel", "readFault", "I", false)
  | 33 => ("BallotFruitModel", "readPlace", "I", false)
  | 34 => ("BallotFruitModel", "faultKind", "I", false)
  | 35 => ("BallotFruitModel", "faultPlace", "I", false)
  | 36 => ("BallotFruitModel", "pathLines", "I", false)
  | 37 => ("BallotFruitModel", "paths", "[I", true)
  | 38 => ("BallotFruitModel", "planMany", "I", false)
  | 39 => ("BallotFruitModel", "plan", "[I", true)
  | 40 => ("BallotFruitModel", "asked", "[I", true)
  | 41 => ("BallotFruitModel", "stack", "[I", true)
  | 42 => ("BallotFruitModel", "gained", "I", false)
  | 43 => ("BallotFruitModel", "gainedFor", "I", false)
  | 44 => ("BallotFruitModel", "hungryFirst", "I", false)
  | 45 => ("BallotFruitModel", "hungryWeek", "I", false)
  | 46 => ("BallotFruitModel", "given", "[I", true)
  | 47 => ("BallotFruitModel", "remains", "[I", true)
  | 48 => ("BallotFruitModel", "coreMany", "I", false)
  | 49 => ("BallotFruitModel", "cores", "[I", true)
  | 50 => ("BallotFruitModel", "ways", "[I", true)
  | 51 => ("BallotFruitModel", "waysThen", "[I", true)
  | 52 => ("BallotFruitModel", "isTaking", "Z", false)
  | 53 => ("BallotFruitModel", "hasImage", "Z", false)
  | 54 => ("BallotFruitModel", "keptAt", "I", false)
  | _ => ("BallotFruitModel", "images", "[I", true)
def tyX5 : Nat → FieldType := fun k => match k with
  | 0 => .int
  | 1 => .array .int
  | 2 => .array .int
  | 3 => .int
  | 4 => .array .int
  | 5 => .boolean
  | 6 => .int
  | 7 => .int
  | 8 => .int
  | 9 => .int
  | 10 => .int
  | 11 => .int
  | 12 => .array .int
  | 13 => .array .int
  | 14 => .int
  | 15 => .int
  | 16 => .int
  | 17 => .int
  | 18 => .int
  | 19 => .array .int
  | 20 => .array .int
  | 21 => .array .int
  | 22 => .array .int
  | 23 => .array .int
  | 24 => .array .int
  | 25 => .array .int
  | 26 => .array .int
  | 27 => .int
  | 28 => .int
  | 29 => .int
  | 30 => .array .int
  | 31 => .int
  | 32 => .int
  | 33 => .int
  | 34 => .int
  | 35 => .int
  | 36 => .int
  | 37 => .array .int
  | 38 => .int
  | 39 => .array .int
  | 40 => .array .int
  | 41 => .array .int
  | 42 => .int
  | 43 => .int
  | 44 => .int
  | 45 => .int
  | 46 => .array .int
  | 47 => .array .int
  | 48 => .int
  | 49 => .array .int
  | 50 => .array .int
  | 51 => .array .int
  | 52 => .boolean
  | 53 => .boolean
  | 54 => .int
  | _ => .array .int
abbrev wsX50 : List Cond := u_ws RX5 TX5 56
set_option maxRecDepth 100000 in
theorem nmX5 : ∀ a, a < 56 → ∀ b, b < 56 → a ≠ b → (TX5 a).2.1 ≠ (TX5 b).2.1 := by decide +kernel
set_option maxRecDepth 100000 in
theorem tyX5_ok : ∀ k, k < 56 → parseFieldDescriptor (TX5 k).2.2.1 = some (tyX5 k) := by decide +kernel
abbrev cX5_init : ByteArray := prog_22_method_1_code
def yX5_init : MethodName := ⟨RX5, "<init>", "()V"⟩
def dkwX5_init_41 : List UInt8 := [188, 10, 181, 0, 83, 177]
abbrev dktX5_init_41 : List UInt8 := dkwX5_init_41 ++ []
def dkwX5_init_40 : List UInt8 := [181, 0, 74, 42, 16, 100, 188, 10, 181, 0, 77, 42, 16, 100, 188, 10, 181, 0, 80, 42, 17, 7, 108]
abbrev dktX5_init_40 : List UInt8 := dkwX5_init_40 ++ dktX5_init_41
def dkwX5_init_39 : List UInt8 := [181, 0, 65, 42, 8, 188, 10, 181, 0, 68, 42, 8, 188, 10, 181, 0, 71, 42, 16, 16, 188, 10]
abbrev dktX5_init_39 : List UInt8 := dkwX5_init_39 ++ dktX5_init_40
def dkwX5_init_38 : List UInt8 := [17, 0, 128, 188, 10, 181, 0, 59, 42, 16, 9, 188, 10, 181, 0, 62, 42, 17, 1, 164, 188, 10]
abbrev dktX5_init_38 : List UInt8 := dkwX5_init_38 ++ dktX5_init_39
def dkwX5_init_37 : List UInt8 := [16, 40, 188, 10, 181, 0, 49, 42, 2, 181, 0, 52, 42, 17, 0, 180, 188, 10, 181, 0, 56, 42]
abbrev dktX5_init_37 : List UInt8 := dkwX5_init_37 ++ dktX5_init_38
def dkwX5_init_36 : List UInt8 := [188, 10, 181, 0, 40, 42, 17, 4, 176, 188, 10, 181, 0, 43, 42, 17, 4, 176, 188, 10, 181, 0, 46, 42]
abbrev dktX5_init_36 : List UInt8 := dkwX5_init_36 ++ dktX5_init_37
def dkwX5_init_35 : List UInt8 := [188, 10, 181, 0, 31, 42, 16, 48, 188, 10, 181, 0, 34, 42, 16, 48, 188, 10, 181, 0, 37, 42, 16, 48]
abbrev dktX5_init_35 : List UInt8 := dkwX5_init_35 ++ dktX5_init_36
def dkwX5_init_34 : List UInt8 := [16, 101, 79, 89, 17, 0, 128, 16, 32, 79, 181, 0, 25, 42, 5, 188, 10, 181, 0, 28, 42, 16, 48]
abbrev dktX5_init_34 : List UInt8 := dkwX5_init_34 ++ dktX5_init_35
def dkwX5_init_33 : List UInt8 := [16, 104, 79, 89, 16, 124, 16, 101, 79, 89, 16, 125, 16, 101, 79, 89, 16, 126, 16, 115, 79, 89, 16, 127]
abbrev dktX5_init_33 : List UInt8 := dkwX5_init_33 ++ dktX5_init_34
def dkwX5_init_32 : List UInt8 := [16, 105, 79, 89, 16, 120, 16, 108, 79, 89, 16, 121, 16, 32, 79, 89, 16, 122, 16, 99, 79, 89, 16, 123]
abbrev dktX5_init_32 : List UInt8 := dkwX5_init_32 ++ dktX5_init_33
def dkwX5_init_31 : List UInt8 := [16, 110, 79, 89, 16, 116, 16, 32, 79, 89, 16, 117, 16, 98, 79, 89, 16, 118, 16, 111, 79, 89, 16, 119]
abbrev dktX5_init_31 : List UInt8 := dkwX5_init_31 ++ dktX5_init_32
def dkwX5_init_30 : List UInt8 := [16, 32, 79, 89, 16, 112, 16, 111, 79, 89, 16, 113, 16, 112, 79, 89, 16, 114, 16, 101, 79, 89, 16, 115]
abbrev dktX5_init_30 : List UInt8 := dkwX5_init_30 ++ dktX5_init_31
def dkwX5_init_29 : List UInt8 := [16, 101, 79, 89, 16, 108, 16, 110, 79, 89, 16, 109, 16, 99, 79, 89, 16, 110, 16, 101, 79, 89, 16, 111]
abbrev dktX5_init_29 : List UInt8 := dkwX5_init_29 ++ dktX5_init_30
def dkwX5_init_28 : List UInt8 := [16, 97, 79, 89, 16, 104, 16, 116, 79, 89, 16, 105, 16, 32, 79, 89, 16, 106, 16, 102, 79, 89, 16, 107]
abbrev dktX5_init_28 : List UInt8 := dkwX5_init_28 ++ dktX5_init_29
def dkwX5_init_27 : List UInt8 := [16, 97, 79, 89, 16, 100, 16, 110, 79, 89, 16, 101, 16, 116, 79, 89, 16, 102, 16, 32, 79, 89, 16, 103]
abbrev dktX5_init_27 : List UInt8 := dkwX5_init_27 ++ dktX5_init_28
def dkwX5_init_26 : List UInt8 := [16, 110, 79, 89, 16, 96, 16, 32, 79, 89, 16, 97, 16, 112, 79, 89, 16, 98, 16, 108, 79, 89, 16, 99]
abbrev dktX5_init_26 : List UInt8 := dkwX5_init_26 ++ dktX5_init_27
def dkwX5_init_25 : List UInt8 := [16, 98, 79, 89, 16, 92, 16, 121, 79, 89, 16, 93, 16, 32, 79, 89, 16, 94, 16, 111, 79, 89, 16, 95]
abbrev dktX5_init_25 : List UInt8 := dkwX5_init_25 ++ dktX5_init_26
def dkwX5_init_24 : List UInt8 := [16, 116, 79, 89, 16, 88, 16, 101, 79, 89, 16, 89, 16, 114, 79, 89, 16, 90, 16, 32, 79, 89, 16, 91]
abbrev dktX5_init_24 : List UInt8 := dkwX5_init_24 ++ dktX5_init_25
def dkwX5_init_23 : List UInt8 := [16, 115, 79, 89, 16, 84, 16, 32, 79, 89, 16, 85, 16, 101, 79, 89, 16, 86, 16, 97, 79, 89, 16, 87]
abbrev dktX5_init_23 : List UInt8 := dkwX5_init_23 ++ dktX5_init_24
def dkwX5_init_22 : List UInt8 := [16, 115, 79, 89, 16, 80, 16, 101, 79, 89, 16, 81, 16, 97, 79, 89, 16, 82, 16, 116, 79, 89, 16, 83]
abbrev dktX5_init_22 : List UInt8 := dkwX5_init_22 ++ dktX5_init_23
def dkwX5_init_21 : List UInt8 := [16, 106, 79, 89, 16, 76, 16, 97, 79, 89, 16, 77, 16, 109, 79, 89, 16, 78, 16, 32, 79, 89, 16, 79]
abbrev dktX5_init_21 : List UInt8 := dkwX5_init_21 ++ dktX5_init_22
def dkwX5_init_20 : List UInt8 := [16, 115, 79, 89, 16, 72, 16, 116, 79, 89, 16, 73, 16, 101, 79, 89, 16, 74, 16, 32, 79, 89, 16, 75]
abbrev dktX5_init_20 : List UInt8 := dkwX5_init_20 ++ dktX5_init_21
def dkwX5_init_19 : List UInt8 := [16, 114, 79, 89, 16, 68, 16, 32, 79, 89, 16, 69, 16, 116, 79, 89, 16, 70, 16, 97, 79, 89, 16, 71]
abbrev dktX5_init_19 : List UInt8 := dkwX5_init_19 ++ dktX5_init_20
def dkwX5_init_18 : List UInt8 := [16, 117, 79, 89, 16, 64, 16, 110, 79, 89, 16, 65, 16, 103, 79, 89, 16, 66, 16, 101, 79, 89, 16, 67]
abbrev dktX5_init_18 : List UInt8 := dkwX5_init_18 ++ dktX5_init_19
def dkwX5_init_17 : List UInt8 := [16, 110, 79, 89, 16, 60, 16, 103, 79, 89, 16, 61, 16, 32, 79, 89, 16, 62, 16, 104, 79, 89, 16, 63]
abbrev dktX5_init_17 : List UInt8 := dkwX5_init_17 ++ dktX5_init_18
def dkwX5_init_16 : List UInt8 := [16, 97, 79, 89, 16, 56, 16, 110, 79, 89, 16, 57, 16, 103, 79, 89, 16, 58, 16, 105, 79, 89, 16, 59]
abbrev dktX5_init_16 : List UInt8 := dkwX5_init_16 ++ dktX5_init_17
def dkwX5_init_15 : List UInt8 := [16, 103, 79, 89, 16, 52, 16, 101, 79, 89, 16, 53, 16, 32, 79, 89, 16, 54, 16, 104, 79, 89, 16, 55]
abbrev dktX5_init_15 : List UInt8 := dkwX5_init_15 ++ dktX5_init_16
def dkwX5_init_14 : List UInt8 := [16, 99, 79, 89, 16, 48, 16, 101, 79, 89, 16, 49, 16, 32, 79, 89, 16, 50, 16, 97, 79, 89, 16, 51]
abbrev dktX5_init_14 : List UInt8 := dkwX5_init_14 ++ dktX5_init_15
def dkwX5_init_13 : List UInt8 := [16, 32, 79, 89, 16, 44, 16, 112, 79, 89, 16, 45, 16, 108, 79, 89, 16, 46, 16, 97, 79, 89, 16, 47]
abbrev dktX5_init_13 : List UInt8 := dkwX5_init_13 ++ dktX5_init_14
def dkwX5_init_12 : List UInt8 := [16, 97, 79, 89, 16, 40, 16, 114, 79, 89, 16, 41, 16, 116, 79, 89, 16, 42, 16, 121, 79, 89, 16, 43]
abbrev dktX5_init_12 : List UInt8 := dkwX5_init_12 ++ dktX5_init_13
def dkwX5_init_11 : List UInt8 := [16, 101, 79, 89, 16, 36, 16, 107, 79, 89, 16, 37, 16, 32, 79, 89, 16, 38, 16, 112, 79, 89, 16, 39]
abbrev dktX5_init_11 : List UInt8 := dkwX5_init_11 ++ dktX5_init_12
def dkwX5_init_10 : List UInt8 := [16, 116, 79, 89, 16, 32, 16, 32, 79, 89, 16, 33, 16, 119, 79, 89, 16, 34, 16, 101, 79, 89, 16, 35]
abbrev dktX5_init_10 : List UInt8 := dkwX5_init_10 ++ dktX5_init_11
def dkwX5_init_9 : List UInt8 := [16, 100, 79, 89, 16, 28, 16, 32, 79, 89, 16, 29, 16, 110, 79, 89, 16, 30, 16, 111, 79, 89, 16, 31]
abbrev dktX5_init_9 : List UInt8 := dkwX5_init_9 ++ dktX5_init_10
def dkwX5_init_8 : List UInt8 := [16, 114, 79, 89, 16, 24, 16, 32, 79, 89, 16, 25, 16, 97, 79, 89, 16, 26, 16, 110, 79, 89, 16, 27]
abbrev dktX5_init_8 : List UInt8 := dkwX5_init_8 ++ dktX5_init_9
def dkwX5_init_7 : List UInt8 := [16, 101, 79, 89, 16, 20, 16, 110, 79, 89, 16, 21, 16, 32, 79, 89, 16, 22, 16, 111, 79, 89, 16, 23]
abbrev dktX5_init_7 : List UInt8 := dkwX5_init_7 ++ dktX5_init_8
def dkwX5_init_6 : List UInt8 := [16, 116, 79, 89, 16, 16, 16, 32, 79, 89, 16, 17, 16, 119, 79, 89, 16, 18, 16, 104, 79, 89, 16, 19]
abbrev dktX5_init_6 : List UInt8 := dkwX5_init_6 ++ dktX5_init_7
def dkwX5_init_5 : List UInt8 := [16, 99, 79, 89, 16, 12, 16, 111, 79, 89, 16, 13, 16, 117, 79, 89, 16, 14, 16, 110, 79, 89, 16, 15]
abbrev dktX5_init_5 : List UInt8 := dkwX5_init_5 ++ dktX5_init_6
def dkwX5_init_4 : List UInt8 := [16, 97, 79, 89, 16, 8, 16, 110, 79, 89, 16, 9, 16, 116, 79, 89, 16, 10, 16, 32, 79, 89, 16, 11]
abbrev dktX5_init_4 : List UInt8 := dkwX5_init_4 ++ dktX5_init_5
def dkwX5_init_3 : List UInt8 := [89, 6, 16, 97, 79, 89, 7, 16, 114, 79, 89, 8, 16, 32, 79, 89, 16, 6, 16, 119, 79, 89, 16, 7]
abbrev dktX5_init_3 : List UInt8 := dkwX5_init_3 ++ dktX5_init_4
def dkwX5_init_2 : List UInt8 := [181, 0, 22, 42, 17, 0, 129, 188, 10, 89, 3, 16, 32, 79, 89, 4, 16, 98, 79, 89, 5, 16, 101, 79]
abbrev dktX5_init_2 : List UInt8 := dkwX5_init_2 ++ dktX5_init_3
def dkwX5_init_1 : List UInt8 := [17, 0, 136, 188, 10, 181, 0, 16, 42, 17, 2, 88, 188, 10, 181, 0, 19, 42, 17, 1, 144, 188, 10]
abbrev dktX5_init_1 : List UInt8 := dkwX5_init_1 ++ dktX5_init_2
def dkwX5_init_0 : List UInt8 := [42, 183, 0, 1, 42, 17, 0, 136, 188, 10, 181, 0, 7, 42, 17, 3, 48, 188, 10, 181, 0, 13, 42]
abbrev dktX5_init_0 : List UInt8 := dkwX5_init_0 ++ dktX5_init_1
theorem dksX5_init_0 : cX5_init.data.toList.drop 0 = dktX5_init_0 := by decide +kernel
theorem dksX5_init_1 : cX5_init.data.toList.drop 23 = dktX5_init_1 := dk_seg dksX5_init_0 23 rfl rfl
theorem dksX5_init_2 : cX5_init.data.toList.drop 46 = dktX5_init_2 := dk_seg dksX5_init_1 23 rfl rfl
theorem dksX5_init_3 : cX5_init.data.toList.drop 70 = dktX5_init_3 := dk_seg dksX5_init_2 24 rfl rfl
theorem dksX5_init_4 : cX5_init.data.toList.drop 94 = dktX5_init_4 := dk_seg dksX5_init_3 24 rfl rfl
theorem dksX5_init_5 : cX5_init.data.toList.drop 118 = dktX5_init_5 := dk_seg dksX5_init_4 24 rfl rfl
theorem dksX5_init_6 : cX5_init.data.toList.drop 142 = dktX5_init_6 := dk_seg dksX5_init_5 24 rfl rfl
theorem dksX5_init_7 : cX5_init.data.toList.drop 166 = dktX5_init_7 := dk_seg dksX5_init_6 24 rfl rfl
theorem dksX5_init_8 : cX5_init.data.toList.drop 190 = dktX5_init_8 := dk_seg dksX5_init_7 24 rfl rfl
theorem dksX5_init_9 : cX5_init.data.toList.drop 214 = dktX5_init_9 := dk_seg dksX5_init_8 24 rfl rfl
theorem dksX5_init_10 : cX5_init.data.toList.drop 238 = dktX5_init_10 := dk_seg dksX5_init_9 24 rfl rfl
theorem dksX5_init_11 : cX5_init.data.toList.drop 262 = dktX5_init_11 := dk_seg dksX5_init_10 24 rfl rfl
theorem dksX5_init_12 : cX5_init.data.toList.drop 286 = dktX5_init_12 := dk_seg dksX5_init_11 24 rfl rfl
theorem dksX5_init_13 : cX5_init.data.toList.drop 310 = dktX5_init_13 := dk_seg dksX5_init_12 24 rfl rfl
theorem dksX5_init_14 : cX5_init.data.toList.drop 334 = dktX5_init_14 := dk_seg dksX5_init_13 24 rfl rfl
theorem dksX5_init_15 : cX5_init.data.toList.drop 358 = dktX5_init_15 := dk_seg dksX5_init_14 24 rfl rfl
theorem dksX5_init_16 : cX5_init.data.toList.drop 382 = dktX5_init_16 := dk_seg dksX5_init_15 24 rfl rfl
theorem dksX5_init_17 : cX5_init.data.toList.drop 406 = dktX5_init_17 := dk_seg dksX5_init_16 24 rfl rfl
theorem dksX5_init_18 : cX5_init.data.toList.drop 430 = dktX5_init_18 := dk_seg dksX5_init_17 24 rfl rfl
theorem dksX5_init_19 : cX5_init.data.toList.drop 454 = dktX5_init_19 := dk_seg dksX5_init_18 24 rfl rfl
theorem dksX5_init_20 : cX5_init.data.toList.drop 478 = dktX5_init_20 := dk_seg dksX5_init_19 24 rfl rfl
theorem dksX5_init_21 : cX5_init.data.toList.drop 502 = dktX5_init_21 := dk_seg dksX5_init_20 24 rfl rfl
theorem dksX5_init_22 : cX5_init.data.toList.drop 526 = dktX5_init_22 := dk_seg dksX5_init_21 24 rfl rfl
theorem dksX5_init_23 : cX5_init.data.toList.drop 550 = dktX5_init_23 := dk_seg dksX5_init_22 24 rfl rfl
theorem dksX5_init_24 : cX5_init.data.toList.drop 574 = dktX5_init_24 := dk_seg dksX5_init_23 24 rfl rfl
theorem dksX5_init_25 : cX5_init.data.toList.drop 598 = dktX5_init_25 := dk_seg dksX5_init_24 24 rfl rfl
theorem dksX5_init_26 : cX5_init.data.toList.drop 622 = dktX5_init_26 := dk_seg dksX5_init_25 24 rfl rfl
theorem dksX5_init_27 : cX5_init.data.toList.drop 646 = dktX5_init_27 := dk_seg dksX5_init_26 24 rfl rfl
theorem dksX5_init_28 : cX5_init.data.toList.drop 670 = dktX5_init_28 := dk_seg dksX5_init_27 24 rfl rfl
theorem dksX5_init_29 : cX5_init.data.toList.drop 694 = dktX5_init_29 := dk_seg dksX5_init_28 24 rfl rfl
theorem dksX5_init_30 : cX5_init.data.toList.drop 718 = dktX5_init_30 := dk_seg dksX5_init_29 24 rfl rfl
theorem dksX5_init_31 : cX5_init.data.toList.drop 742 = dktX5_init_31 := dk_seg dksX5_init_30 24 rfl rfl
theorem dksX5_init_32 : cX5_init.data.toList.drop 766 = dktX5_init_32 := dk_seg dksX5_init_31 24 rfl rfl
theorem dksX5_init_33 : cX5_init.data.toList.drop 790 = dktX5_init_33 := dk_seg dksX5_init_32 24 rfl rfl
theorem dksX5_init_34 : cX5_init.data.toList.drop 814 = dktX5_init_34 := dk_seg dksX5_init_33 24 rfl rfl
theorem dksX5_init_35 : cX5_init.data.toList.drop 837 = dktX5_init_35 := dk_seg dksX5_init_34 23 rfl rfl
theorem dksX5_init_36 : cX5_init.data.toList.drop 861 = dktX5_init_36 := dk_seg dksX5_init_35 24 rfl rfl
theorem dksX5_init_37 : cX5_init.data.toList.drop 885 = dktX5_init_37 := dk_seg dksX5_init_36 24 rfl rfl
theorem dksX5_init_38 : cX5_init.data.toList.drop 907 = dktX5_init_38 := dk_seg dksX5_init_37 22 rfl rfl
theorem dksX5_init_39 : cX5_init.data.toList.drop 929 = dktX5_init_39 := dk_seg dksX5_init_38 22 rfl rfl
theorem dksX5_init_40 : cX5_init.data.toList.drop 951 = dktX5_init_40 := dk_seg dksX5_init_39 22 rfl rfl
theorem dksX5_init_41 : cX5_init.data.toList.drop 974 = dktX5_init_41 := dk_seg dksX5_init_40 23 rfl rfl
theorem dX5_init_0 : decode cX5_init 0 = .ok (.aload_n 0, 1) := dk_42 (dk_at dksX5_init_0 0 rfl rfl)
theorem dX5_init_1 : decode cX5_init 1 = .ok (.invokespecial 1, 3) := dk_183 0 1 (dk_at dksX5_init_0 1 rfl rfl)
theorem dX5_init_4 : decode cX5_init 4 = .ok (.aload_n 0, 1) := dk_42 (dk_at dksX5_init_0 4 rfl rfl)
theorem dX5_init_5 : decode cX5_init 5 = .ok (.sipush 136, 3) := dk_17 0 136 (dk_at dksX5_init_0 5 rfl rfl)
theorem dX5_init_8 : decode cX5_init 8 = .ok (.newarray .int, 2) := dk_188_10 (dk_at dksX5_init_0 8 rfl rfl)
theorem dX5_init_10 : decode cX5_init 10 = .ok (.putfield 7, 3) := dk_181 0 7 (dk_at dksX5_init_0 10 rfl rfl)
theorem dX5_init_13 : decode cX5_init 13 = .ok (.aload_n 0, 1) := dk_42 (dk_at dksX5_init_0 13 rfl rfl)
theorem dX5_init_14 : decode cX5_init 14 = .ok (.sipush 816, 3) := dk_17 3 48 (dk_at dksX5_init_0 14 rfl rfl)
theorem dX5_init_17 : decode cX5_init 17 = .ok (.newarray .int, 2) := dk_188_10 (dk_at dksX5_init_0 17 rfl rfl)
theorem dX5_init_19 : decode cX5_init 19 = .ok (.putfield 13, 3) := dk_181 0 13 (dk_at dksX5_init_0 19 rfl rfl)
theorem dX5_init_22 : decode cX5_init 22 = .ok (.aload_n 0, 1) := dk_42 (dk_at dksX5_init_0 22 rfl rfl)
theorem dX5_init_23 : decode cX5_init 23 = .ok (.sipush 136, 3) := dk_17 0 136 (dk_at dksX5_init_1 0 rfl rfl)
theorem dX5_init_26 : decode cX5_init 26 = .ok (.newarray .int, 2) := dk_188_10 (dk_at dksX5_init_1 3 rfl rfl)
theorem dX5_init_28 : decode cX5_init 28 = .ok (.putfield 16, 3) := dk_181 0 16 (dk_at dksX5_init_1 5 rfl rfl)
theorem dX5_init_31 : decode cX5_init 31 = .ok (.aload_n 0, 1) := dk_42 (dk_at dksX5_init_1 8 rfl rfl)
theorem dX5_init_32 : decode cX5_init 32 = .ok (.sipush 600, 3) := dk_17 2 88 (dk_at dksX5_init_1 9 rfl rfl)
theorem dX5_init_35 : decode cX5_init 35 = .ok (.newarray .int, 2) := dk_188_10 (dk_at dksX5_init_1 12 rfl rfl)
theorem dX5_init_37 : decode cX5_init 37 = .ok (.putfield 19, 3) := dk_181 0 19 (dk_at dksX5_init_1 14 rfl rfl)
theorem dX5_init_40 : decode cX5_init 40 = .ok (.aload_n 0, 1) := dk_42 (dk_at dksX5_init_1 17 rfl rfl)
theorem dX5_init_41 : decode cX5_init 41 = .ok (.sipush 400, 3) := dk_17 1 144 (dk_at dksX5_init_1 18 rfl rfl)
theorem dX5_init_44 : decode cX5_init 44 = .ok (.newarray .int, 2) := dk_188_10 (dk_at dksX5_init_1 21 rfl rfl)
theorem dX5_init_46 : decode cX5_init 46 = .ok (.putfield 22, 3) := dk_181 0 22 (dk_at dksX5_init_2 0 rfl rfl)
theorem dX5_init_49 : decode cX5_init 49 = .ok (.aload_n 0, 1) := dk_42 (dk_at dksX5_init_2 3 rfl rfl)
theorem dX5_init_50 : decode cX5_init 50 = .ok (.sipush 129, 3) := dk_17 0 129 (dk_at dksX5_init_2 4 rfl rfl)
theorem dX5_init_53 : decode cX5_init 53 = .ok (.newarray .int, 2) := dk_188_10 (dk_at dksX5_init_2 7 rfl rfl)
theorem dX5_init_55 : decode cX5_init 55 = .ok (.dup, 1) := dk_89 (dk_at dksX5_init_2 9 rfl rfl)
theorem dX5_init_56 : decode cX5_init 56 = .ok (.iconst 0, 1) := dk_3 (dk_at dksX5_init_2 10 rfl rfl)
theorem dX5_init_57 : decode cX5_init 57 = .ok (.bipush 32, 2) := dk_16 32 (dk_at dksX5_init_2 11 rfl rfl)
theorem dX5_init_59 : decode cX5_init 59 = .ok (.iastore, 1) := dk_79 (dk_at dksX5_init_2 13 rfl rfl)
theorem dX5_init_60 : decode cX5_init 60 = .ok (.dup, 1) := dk_89 (dk_at dksX5_init_2 14 rfl rfl)
theorem dX5_init_61 : decode cX5_init 61 = .ok (.iconst 1, 1) := dk_4 (dk_at dksX5_init_2 15 rfl rfl)
theorem dX5_init_62 : decode cX5_init 62 = .ok (.bipush 98, 2) := dk_16 98 (dk_at dksX5_init_2 16 rfl rfl)
theorem dX5_init_64 : decode cX5_init 64 = .ok (.iastore, 1) := dk_79 (dk_at dksX5_init_2 18 rfl rfl)
theorem dX5_init_65 : decode cX5_init 65 = .ok (.dup, 1) := dk_89 (dk_at dksX5_init_2 19 rfl rfl)
theorem dX5_init_66 : decode cX5_init 66 = .ok (.iconst 2, 1) := dk_5 (dk_at dksX5_init_2 20 rfl rfl)
theorem dX5_init_67 : decode cX5_init 67 = .ok (.bipush 101, 2) := dk_16 101 (dk_at dksX5_init_2 21 rfl rfl)
theorem dX5_init_69 : decode cX5_init 69 = .ok (.iastore, 1) := dk_79 (dk_at dksX5_init_2 23 rfl rfl)
theorem dX5_init_70 : decode cX5_init 70 = .ok (.dup, 1) := dk_89 (dk_at dksX5_init_3 0 rfl rfl)
theorem dX5_init_71 : decode cX5_init 71 = .ok (.iconst 3, 1) := dk_6 (dk_at dksX5_init_3 1 rfl rfl)
theorem dX5_init_72 : decode cX5_init 72 = .ok (.bipush 97, 2) := dk_16 97 (dk_at dksX5_init_3 2 rfl rfl)
theorem dX5_init_74 : decode cX5_init 74 = .ok (.iastore, 1) := dk_79 (dk_at dksX5_init_3 4 rfl rfl)
theorem dX5_init_75 : decode cX5_init 75 = .ok (.dup, 1) := dk_89 (dk_at dksX5_init_3 5 rfl rfl)
theorem dX5_init_76 : decode cX5_init 76 = .ok (.iconst 4, 1) := dk_7 (dk_at dksX5_init_3 6 rfl rfl)
theorem dX5_init_77 : decode cX5_init 77 = .ok (.bipush 114, 2) := dk_16 114 (dk_at dksX5_init_3 7 rfl rfl)
theorem dX5_init_79 : decode cX5_init 79 = .ok (.iastore, 1) := dk_79 (dk_at dksX5_init_3 9 rfl rfl)
theorem dX5_init_80 : decode cX5_init 80 = .ok (.dup, 1) := dk_89 (dk_at dksX5_init_3 10 rfl rfl)
theorem dX5_init_81 : decode cX5_init 81 = .ok (.iconst 5, 1) := dk_8 (dk_at dksX5_init_3 11 rfl rfl)
theorem dX5_init_82 : decode cX5_init 82 = .ok (.bipush 32, 2) := dk_16 32 (dk_at dksX5_init_3 12 rfl rfl)
theorem dX5_init_84 : decode cX5_init 84 = .ok (.iastore, 1) := dk_79 (dk_at dksX5_init_3 14 rfl rfl)
theorem dX5_init_85 : decode cX5_init 85 = .ok (.dup, 1) := dk_89 (dk_at dksX5_init_3 15 rfl rfl)
theorem dX5_init_86 : decode cX5_init 86 = .ok (.bipush 6, 2) := dk_16 6 (dk_at dksX5_init_3 16 rfl rfl)
theorem dX5_init_88 : decode cX5_init 88 = .ok (.bipush 119, 2) := dk_16 119 (dk_at dksX5_init_3 18 rfl rfl)
theorem dX5_init_90 : decode cX5_init 90 = .ok (.iastore, 1) := dk_79 (dk_at dksX5_init_3 20 rfl rfl)
theorem dX5_init_91 : decode cX5_init 91 = .ok (.dup, 1) := dk_89 (dk_at dksX5_init_3 21 rfl rfl)
theorem dX5_init_92 : decode cX5_init 92 = .ok (.bipush 7, 2) := dk_16 7 (dk_at dksX5_init_3 22 rfl rfl)
theorem dX5_init_94 : decode cX5_init 94 = .ok (.bipush 97, 2) := dk_16 97 (dk_at dksX5_init_4 0 rfl rfl)
theorem dX5_init_96 : decode cX5_init 96 = .ok (.iastore, 1) := dk_79 (dk_at dksX5_init_4 2 rfl rfl)
theorem dX5_init_97 : decode cX5_init 97 = .ok (.dup, 1) := dk_89 (dk_at dksX5_init_4 3 rfl rfl)
theorem dX5_init_98 : decode cX5_init 98 = .ok (.bipush 8, 2) := dk_16 8 (dk_at dksX5_init_4 4 rfl rfl)
theorem dX5_init_100 : decode cX5_init 100 = .ok (.bipush 110, 2) := dk_16 110 (dk_at dksX5_init_4 6 rfl rfl)
theorem dX5_init_102 : decode cX5_init 102 = .ok (.iastore, 1) := dk_79 (dk_at dksX5_init_4 8 rfl rfl)
theorem dX5_init_103 : decode cX5_init 103 = .ok (.dup, 1) := dk_89 (dk_at dksX5_init_4 9 rfl rfl)
theorem dX5_init_104 : decode cX5_init 104 = .ok (.bipush 9, 2) := dk_16 9 (dk_at dksX5_init_4 10 rfl rfl)
theorem dX5_init_106 : decode cX5_init 106 = .ok (.bipush 116, 2) := dk_16 116 (dk_at dksX5_init_4 12 rfl rfl)
theorem dX5_init_108 : decode cX5_init 108 = .ok (.iastore, 1) := dk_79 (dk_at dksX5_init_4 14 rfl rfl)
theorem dX5_init_109 : decode cX5_init 109 = .ok (.dup, 1) := dk_89 (dk_at dksX5_init_4 15 rfl rfl)
theorem dX5_init_110 : decode cX5_init 110 = .ok (.bipush 10, 2) := dk_16 10 (dk_at dksX5_init_4 16 rfl rfl)
theorem dX5_init_112 : decode cX5_init 112 = .ok (.bipush 32, 2) := dk_16 32 (dk_at dksX5_init_4 18 rfl rfl)
theorem dX5_init_114 : decode cX5_init 114 = .ok (.iastore, 1) := dk_79 (dk_at dksX5_init_4 20 rfl rfl)
theorem dX5_init_115 : decode cX5_init 115 = .ok (.dup, 1) := dk_89 (dk_at dksX5_init_4 21 rfl rfl)
theorem dX5_init_116 : decode cX5_init 116 = .ok (.bipush 11, 2) := dk_16 11 (dk_at dksX5_init_4 22 rfl rfl)
theorem dX5_init_118 : decode cX5_init 118 = .ok (.bipush 99, 2) := dk_16 99 (dk_at dksX5_init_5 0 rfl rfl)
theorem dX5_init_120 : decode cX5_init 120 = .ok (.iastore, 1) := dk_79 (dk_at dksX5_init_5 2 rfl rfl)
theorem dX5_init_121 : decode cX5_init 121 = .ok (.dup, 1) := dk_89 (dk_at dksX5_init_5 3 rfl rfl)
theorem dX5_init_122 : decode cX5_init 122 = .ok (.bipush 12, 2) := dk_16 12 (dk_at dksX5_init_5 4 rfl rfl)
theorem dX5_init_124 : decode cX5_init 124 = .ok (.bipush 111, 2) := dk_16 111 (dk_at dksX5_init_5 6 rfl rfl)
theorem dX5_init_126 : decode cX5_init 126 = .ok (.iastore, 1) := dk_79 (dk_at dksX5_init_5 8 rfl rfl)
theorem dX5_init_127 : decode cX5_init 127 = .ok (.dup, 1) := dk_89 (dk_at dksX5_init_5 9 rfl rfl)
theorem dX5_init_128 : decode cX5_init 128 = .ok (.bipush 13, 2) := dk_16 13 (dk_at dksX5_init_5 10 rfl rfl)
theorem dX5_init_130 : decode cX5_init 130 = .ok (.bipush 117, 2) := dk_16 117 (dk_at dksX5_init_5 12 rfl rfl)
theorem dX5_init_132 : decode cX5_init 132 = .ok (.iastore, 1) := dk_79 (dk_at dksX5_init_5 14 rfl rfl)
theorem dX5_init_133 : decode cX5_init 133 = .ok (.dup, 1) := dk_89 (dk_at dksX5_init_5 15 rfl rfl)
theorem dX5_init_134 : decode cX5_init 134 = .ok (.bipush 14, 2) := dk_16 14 (dk_at dksX5_init_5 16 rfl rfl)
theorem dX5_init_136 : decode cX5_init 136 = .ok (.bipush 110, 2) := dk_16 110 (dk_at dksX5_init_5 18 rfl rfl)
theorem dX5_init_138 : decode cX5_init 138 = .ok (.iastore, 1) := dk_79 (dk_at dksX5_init_5 20 rfl rfl)
theorem dX5_init_139 : decode cX5_init 139 = .ok (.dup, 1) := dk_89 (dk_at dksX5_init_5 21 rfl rfl)
theorem dX5_init_140 : decode cX5_init 140 = .ok (.bipush 15, 2) := dk_16 15 (dk_at dksX5_init_5 22 rfl rfl)
theorem dX5_init_142 : decode cX5_init 142 = .ok (.bipush 116, 2) := dk_16 116 (dk_at dksX5_init_6 0 rfl rfl)
theorem dX5_init_144 : decode cX5_init 144 = .ok (.iastore, 1) := dk_79 (dk_at dksX5_init_6 2 rfl rfl)
theorem dX5_init_145 : decode cX5_init 145 = .ok (.dup, 1) := dk_89 (dk_at dksX5_init_6 3 rfl rfl)
theorem dX5_init_146 : decode cX5_init 146 = .ok (.bipush 16, 2) := dk_16 16 (dk_at dksX5_init_6 4 rfl rfl)
theorem dX5_init_148 : decode cX5_init 148 = .ok (.bipush 32, 2) := dk_16 32 (dk_at dksX5_init_6 6 rfl rfl)
theorem dX5_init_150 : decode cX5_init 150 = .ok (.iastore, 1) := dk_79 (dk_at dksX5_init_6 8 rfl rfl)
theorem dX5_init_151 : decode cX5_init 151 = .ok (.dup, 1) := dk_89 (dk_at dksX5_init_6 9 rfl rfl)
theorem dX5_init_152 : decode cX5_init 152 = .ok (.bipush 17, 2) := dk_16 17 (dk_at dksX5_init_6 10 rfl rfl)
theorem dX5_init_154 : decode cX5_init 154 = .ok (.bipush 119, 2) := dk_16 119 (dk_at dksX5_init_6 12 rfl rfl)
theorem dX5_init_156 : decode cX5_init 156 = .ok (.iastore, 1) := dk_79 (dk_at dksX5_init_6 14 rfl rfl)
theorem dX5_init_157 : decode cX5_init 157 = .ok (.dup, 1) := dk_89 (dk_at dksX5_init_6 15 rfl rfl)
theorem dX5_init_158 : decode cX5_init 158 = .ok (.bipush 18, 2) := dk_16 18 (dk_at dksX5_init_6 16 rfl rfl)
theorem dX5_init_160 : decode cX5_init 160 = .ok (.bipush 104, 2) := dk_16 104 (dk_at dksX5_init_6 18 rfl rfl)
theorem dX5_init_162 : decode cX5_init 162 = .ok (.iastore, 1) := dk_79 (dk_at dksX5_init_6 20 rfl rfl)
theorem dX5_init_163 : decode cX5_init 163 = .ok (.dup, 1) := dk_89 (dk_at dksX5_init_6 21 rfl rfl)
theorem dX5_init_164 : decode cX5_init 164 = .ok (.bipush 19, 2) := dk_16 19 (dk_at dksX5_init_6 22 rfl rfl)
theorem dX5_init_166 : decode cX5_init 166 = .ok (.bipush 101, 2) := dk_16 101 (dk_at dksX5_init_7 0 rfl rfl)
theorem dX5_init_168 : decode cX5_init 168 = .ok (.iastore, 1) := dk_79 (dk_at dksX5_init_7 2 rfl rfl)
theorem dX5_init_169 : decode cX5_init 169 = .ok (.dup, 1) := dk_89 (dk_at dksX5_init_7 3 rfl rfl)
theorem dX5_init_170 : decode cX5_init 170 = .ok (.bipush 20, 2) := dk_16 20 (dk_at dksX5_init_7 4 rfl rfl)
theorem dX5_init_172 : decode cX5_init 172 = .ok (.bipush 110, 2) := dk_16 110 (dk_at dksX5_init_7 6 rfl rfl)
theorem dX5_init_174 : decode cX5_init 174 = .ok (.iastore, 1) := dk_79 (dk_at dksX5_init_7 8 rfl rfl)
theorem dX5_init_175 : decode cX5_init 175 = .ok (.dup, 1) := dk_89 (dk_at dksX5_init_7 9 rfl rfl)
theorem dX5_init_176 : decode cX5_init 176 = .ok (.bipush 21, 2) := dk_16 21 (dk_at dksX5_init_7 10 rfl rfl)
theorem dX5_init_178 : decode cX5_init 178 = .ok (.bipush 32, 2) := dk_16 32 (dk_at dksX5_init_7 12 rfl rfl)
theorem dX5_init_180 : decode cX5_init 180 = .ok (.iastore, 1) := dk_79 (dk_at dksX5_init_7 14 rfl rfl)
theorem dX5_init_181 : decode cX5_init 181 = .ok (.dup, 1) := dk_89 (dk_at dksX5_init_7 15 rfl rfl)
theorem dX5_init_182 : decode cX5_init 182 = .ok (.bipush 22, 2) := dk_16 22 (dk_at dksX5_init_7 16 rfl rfl)
theorem dX5_init_184 : decode cX5_init 184 = .ok (.bipush 111, 2) := dk_16 111 (dk_at dksX5_init_7 18 rfl rfl)
theorem dX5_init_186 : decode cX5_init 186 = .ok (.iastore, 1) := dk_79 (dk_at dksX5_init_7 20 rfl rfl)
theorem dX5_init_187 : decode cX5_init 187 = .ok (.dup, 1) := dk_89 (dk_at dksX5_init_7 21 rfl rfl)
theorem dX5_init_188 : decode cX5_init 188 = .ok (.bipush 23, 2) := dk_16 23 (dk_at dksX5_init_7 22 rfl rfl)
theorem dX5_init_190 : decode cX5_init 190 = .ok (.bipush 114, 2) := dk_16 114 (dk_at dksX5_init_8 0 rfl rfl)
theorem dX5_init_192 : decode cX5_init 192 = .ok (.iastore, 1) := dk_79 (dk_at dksX5_init_8 2 rfl rfl)
theorem dX5_init_193 : decode cX5_init 193 = .ok (.dup, 1) := dk_89 (dk_at dksX5_init_8 3 rfl rfl)
theorem dX5_init_194 : decode cX5_init 194 = .ok (.bipush 24, 2) := dk_16 24 (dk_at dksX5_init_8 4 rfl rfl)
theorem dX5_init_196 : decode cX5_init 196 = .ok (.bipush 32, 2) := dk_16 32 (dk_at dksX5_init_8 6 rfl rfl)
theorem dX5_init_198 : decode cX5_init 198 = .ok (.iastore, 1) := dk_79 (dk_at dksX5_init_8 8 rfl rfl)
theorem dX5_init_199 : decode cX5_init 199 = .ok (.dup, 1) := dk_89 (dk_at dksX5_init_8 9 rfl rfl)
theorem dX5_init_200 : decode cX5_init 200 = .ok (.bipush 25, 2) := dk_16 25 (dk_at dksX5_init_8 10 rfl rfl)
theorem dX5_init_202 : decode cX5_init 202 = .ok (.bipush 97, 2) := dk_16 97 (dk_at dksX5_init_8 12 rfl rfl)
theorem dX5_init_204 : decode cX5_init 204 = .ok (.iastore, 1) := dk_79 (dk_at dksX5_init_8 14 rfl rfl)
theorem dX5_init_205 : decode cX5_init 205 = .ok (.dup, 1) := dk_89 (dk_at dksX5_init_8 15 rfl rfl)
theorem dX5_init_206 : decode cX5_init 206 = .ok (.bipush 26, 2) := dk_16 26 (dk_at dksX5_init_8 16 rfl rfl)
theorem dX5_init_208 : decode cX5_init 208 = .ok (.bipush 110, 2) := dk_16 110 (dk_at dksX5_init_8 18 rfl rfl)
theorem dX5_init_210 : decode cX5_init 210 = .ok (.iastore, 1) := dk_79 (dk_at dksX5_init_8 20 rfl rfl)
theorem dX5_init_211 : decode cX5_init 211 = .ok (.dup, 1) := dk_89 (dk_at dksX5_init_8 21 rfl rfl)
theorem dX5_init_212 : decode cX5_init 212 = .ok (.bipush 27, 2) := dk_16 27 (dk_at dksX5_init_8 22 rfl rfl)
theorem dX5_init_214 : decode cX5_init 214 = .ok (.bipush 100, 2) := dk_16 100 (dk_at dksX5_init_9 0 rfl rfl)
theorem dX5_init_216 : decode cX5_init 216 = .ok (.iastore, 1) := dk_79 (dk_at dksX5_init_9 2 rfl rfl)
theorem dX5_init_217 : decode cX5_init 217 = .ok (.dup, 1) := dk_89 (dk_at dksX5_init_9 3 rfl rfl)
theorem dX5_init_218 : decode cX5_init 218 = .ok (.bipush 28, 2) := dk_16 28 (dk_at dksX5_init_9 4 rfl rfl)
theorem dX5_init_220 : decode cX5_init 220 = .ok (.bipush 32, 2) := dk_16 32 (dk_at dksX5_init_9 6 rfl rfl)
theorem dX5_init_222 : decode cX5_init 222 = .ok (.iastore, 1) := dk_79 (dk_at dksX5_init_9 8 rfl rfl)
theorem dX5_init_223 : decode cX5_init 223 = .ok (.dup, 1) := dk_89 (dk_at dksX5_init_9 9 rfl rfl)
theorem dX5_init_224 : decode cX5_init 224 = .ok (.bipush 29, 2) := dk_16 29 (dk_at dksX5_init_9 10 rfl rfl)
theorem dX5_init_226 : decode cX5_init 226 = .ok (.bipush 110, 2) := dk_16 110 (dk_at dksX5_init_9 12 rfl rfl)
theorem dX5_init_228 : decode cX5_init 228 = .ok (.iastore, 1) := dk_79 (dk_at dksX5_init_9 14 rfl rfl)
theorem dX5_init_229 : decode cX5_init 229 = .ok (.dup, 1) := dk_89 (dk_at dksX5_init_9 15 rfl rfl)
theorem dX5_init_230 : decode cX5_init 230 = .ok (.bipush 30, 2) := dk_16 30 (dk_at dksX5_init_9 16 rfl rfl)
theorem dX5_init_232 : decode cX5_init 232 = .ok (.bipush 111, 2) := dk_16 111 (dk_at dksX5_init_9 18 rfl rfl)
theorem dX5_init_234 : decode cX5_init 234 = .ok (.iastore, 1) := dk_79 (dk_at dksX5_init_9 20 rfl rfl)
theorem dX5_init_235 : decode cX5_init 235 = .ok (.dup, 1) := dk_89 (dk_at dksX5_init_9 21 rfl rfl)
theorem dX5_init_236 : decode cX5_init 236 = .ok (.bipush 31, 2) := dk_16 31 (dk_at dksX5_init_9 22 rfl rfl)
theorem dX5_init_238 : decode cX5_init 238 = .ok (.bipush 116, 2) := dk_16 116 (dk_at dksX5_init_10 0 rfl rfl)
theorem dX5_init_240 : decode cX5_init 240 = .ok (.iastore, 1) := dk_79 (dk_at dksX5_init_10 2 rfl rfl)
theorem dX5_init_241 : decode cX5_init 241 = .ok (.dup, 1) := dk_89 (dk_at dksX5_init_10 3 rfl rfl)
theorem dX5_init_242 : decode cX5_init 242 = .ok (.bipush 32, 2) := dk_16 32 (dk_at dksX5_init_10 4 rfl rfl)
theorem dX5_init_244 : decode cX5_init 244 = .ok (.bipush 32, 2) := dk_16 32 (dk_at dksX5_init_10 6 rfl rfl)
theorem dX5_init_246 : decode cX5_init 246 = .ok (.iastore, 1) := dk_79 (dk_at dksX5_init_10 8 rfl rfl)
theorem dX5_init_247 : decode cX5_init 247 = .ok (.dup, 1) := dk_89 (dk_at dksX5_init_10 9 rfl rfl)
theorem dX5_init_248 : decode cX5_init 248 = .ok (.bipush 33, 2) := dk_16 33 (dk_at dksX5_init_10 10 rfl rfl)
theorem dX5_init_250 : decode cX5_init 250 = .ok (.bipush 119, 2) := dk_16 119 (dk_at dksX5_init_10 12 rfl rfl)
theorem dX5_init_252 : decode cX5_init 252 = .ok (.iastore, 1) := dk_79 (dk_at dksX5_init_10 14 rfl rfl)
theorem dX5_init_253 : decode cX5_init 253 = .ok (.dup, 1) := dk_89 (dk_at dksX5_init_10 15 rfl rfl)
theorem dX5_init_254 : decode cX5_init 254 = .ok (.bipush 34, 2) := dk_16 34 (dk_at dksX5_init_10 16 rfl rfl)
theorem dX5_init_256 : decode cX5_init 256 = .ok (.bipush 101, 2) := dk_16 101 (dk_at dksX5_init_10 18 rfl rfl)
theorem dX5_init_258 : decode cX5_init 258 = .ok (.iastore, 1) := dk_79 (dk_at dksX5_init_10 20 rfl rfl)
theorem dX5_init_259 : decode cX5_init 259 = .ok (.dup, 1) := dk_89 (dk_at dksX5_init_10 21 rfl rfl)
theorem dX5_init_260 : decode cX5_init 260 = .ok (.bipush 35, 2) := dk_16 35 (dk_at dksX5_init_10 22 rfl rfl)
theorem dX5_init_262 : decode cX5_init 262 = .ok (.bipush 101, 2) := dk_16 101 (dk_at dksX5_init_11 0 rfl rfl)
theorem dX5_init_264 : decode cX5_init 264 = .ok (.iastore, 1) := dk_79 (dk_at dksX5_init_11 2 rfl rfl)
theorem dX5_init_265 : decode cX5_init 265 = .ok (.dup, 1) := dk_89 (dk_at dksX5_init_11 3 rfl rfl)
theorem dX5_init_266 : decode cX5_init 266 = .ok (.bipush 36, 2) := dk_16 36 (dk_at dksX5_init_11 4 rfl rfl)
theorem dX5_init_268 : decode cX5_init 268 = .ok (.bipush 107, 2) := dk_16 107 (dk_at dksX5_init_11 6 rfl rfl)
theorem dX5_init_270 : decode cX5_init 270 = .ok (.iastore, 1) := dk_79 (dk_at dksX5_init_11 8 rfl rfl)
theorem dX5_init_271 : decode cX5_init 271 = .ok (.dup, 1) := dk_89 (dk_at dksX5_init_11 9 rfl rfl)
theorem dX5_init_272 : decode cX5_init 272 = .ok (.bipush 37, 2) := dk_16 37 (dk_at dksX5_init_11 10 rfl rfl)
theorem dX5_init_274 : decode cX5_init 274 = .ok (.bipush 32, 2) := dk_16 32 (dk_at dksX5_init_11 12 rfl rfl)
theorem dX5_init_276 : decode cX5_init 276 = .ok (.iastore, 1) := dk_79 (dk_at dksX5_init_11 14 rfl rfl)
theorem dX5_init_277 : decode cX5_init 277 = .ok (.dup, 1) := dk_89 (dk_at dksX5_init_11 15 rfl rfl)
theorem dX5_init_278 : decode cX5_init 278 = .ok (.bipush 38, 2) := dk_16 38 (dk_at dksX5_init_11 16 rfl rfl)
theorem dX5_init_280 : decode cX5_init 280 = .ok (.bipush 112, 2) := dk_16 112 (dk_at dksX5_init_11 18 rfl rfl)
theorem dX5_init_282 : decode cX5_init 282 = .ok (.iastore, 1) := dk_79 (dk_at dksX5_init_11 20 rfl rfl)
theorem dX5_init_283 : decode cX5_init 283 = .ok (.dup, 1) := dk_89 (dk_at dksX5_init_11 21 rfl rfl)
theorem dX5_init_284 : decode cX5_init 284 = .ok (.bipush 39, 2) := dk_16 39 (dk_at dksX5_init_11 22 rfl rfl)
theorem dX5_init_286 : decode cX5_init 286 = .ok (.bipush 97, 2) := dk_16 97 (dk_at dksX5_init_12 0 rfl rfl)
theorem dX5_init_288 : decode cX5_init 288 = .ok (.iastore, 1) := dk_79 (dk_at dksX5_init_12 2 rfl rfl)
theorem dX5_init_289 : decode cX5_init 289 = .ok (.dup, 1) := dk_89 (dk_at dksX5_init_12 3 rfl rfl)
theorem dX5_init_290 : decode cX5_init 290 = .ok (.bipush 40, 2) := dk_16 40 (dk_at dksX5_init_12 4 rfl rfl)
theorem dX5_init_292 : decode cX5_init 292 = .ok (.bipush 114, 2) := dk_16 114 (dk_at dksX5_init_12 6 rfl rfl)
theorem dX5_init_294 : decode cX5_init 294 = .ok (.iastore, 1) := dk_79 (dk_at dksX5_init_12 8 rfl rfl)
theorem dX5_init_295 : decode cX5_init 295 = .ok (.dup, 1) := dk_89 (dk_at dksX5_init_12 9 rfl rfl)
theorem dX5_init_296 : decode cX5_init 296 = .ok (.bipush 41, 2) := dk_16 41 (dk_at dksX5_init_12 10 rfl rfl)
theorem dX5_init_298 : decode cX5_init 298 = .ok (.bipush 116, 2) := dk_16 116 (dk_at dksX5_init_12 12 rfl rfl)
theorem dX5_init_300 : decode cX5_init 300 = .ok (.iastore, 1) := dk_79 (dk_at dksX5_init_12 14 rfl rfl)
theorem dX5_init_301 : decode cX5_init 301 = .ok (.dup, 1) := dk_89 (dk_at dksX5_init_12 15 rfl rfl)
theorem dX5_init_302 : decode cX5_init 302 = .ok (.bipush 42, 2) := dk_16 42 (dk_at dksX5_init_12 16 rfl rfl)
theorem dX5_init_304 : decode cX5_init 304 = .ok (.bipush 121, 2) := dk_16 121 (dk_at dksX5_init_12 18 rfl rfl)
theorem dX5_init_306 : decode cX5_init 306 = .ok (.iastore, 1) := dk_79 (dk_at dksX5_init_12 20 rfl rfl)
theorem dX5_init_307 : decode cX5_init 307 = .ok (.dup, 1) := dk_89 (dk_at dksX5_init_12 21 rfl rfl)
theorem dX5_init_308 : decode cX5_init 308 = .ok (.bipush 43, 2) := dk_16 43 (dk_at dksX5_init_12 22 rfl rfl)
theorem dX5_init_310 : decode cX5_init 310 = .ok (.bipush 32, 2) := dk_16 32 (dk_at dksX5_init_13 0 rfl rfl)
theorem dX5_init_312 : decode cX5_init 312 = .ok (.iastore, 1) := dk_79 (dk_at dksX5_init_13 2 rfl rfl)
theorem dX5_init_313 : decode cX5_init 313 = .ok (.dup, 1) := dk_89 (dk_at dksX5_init_13 3 rfl rfl)
theorem dX5_init_314 : decode cX5_init 314 = .ok (.bipush 44, 2) := dk_16 44 (dk_at dksX5_init_13 4 rfl rfl)
theorem dX5_init_316 : decode cX5_init 316 = .ok (.bipush 112, 2) := dk_16 112 (dk_at dksX5_init_13 6 rfl rfl)
theorem dX5_init_318 : decode cX5_init 318 = .ok (.iastore, 1) := dk_79 (dk_at dksX5_init_13 8 rfl rfl)
theorem dX5_init_319 : decode cX5_init 319 = .ok (.dup, 1) := dk_89 (dk_at dksX5_init_13 9 rfl rfl)
theorem dX5_init_320 : decode cX5_init 320 = .ok (.bipush 45, 2) := dk_16 45 (dk_at dksX5_init_13 10 rfl rfl)
theorem dX5_init_322 : decode cX5_init 322 = .ok (.bipush 108, 2) := dk_16 108 (dk_at dksX5_init_13 12 rfl rfl)
theorem dX5_init_324 : decode cX5_init 324 = .ok (.iastore, 1) := dk_79 (dk_at dksX5_init_13 14 rfl rfl)
theorem dX5_init_325 : decode cX5_init 325 = .ok (.dup, 1) := dk_89 (dk_at dksX5_init_13 15 rfl rfl)
theorem dX5_init_326 : decode cX5_init 326 = .ok (.bipush 46, 2) := dk_16 46 (dk_at dksX5_init_13 16 rfl rfl)
theorem dX5_init_328 : decode cX5_init 328 = .ok (.bipush 97, 2) := dk_16 97 (dk_at dksX5_init_13 18 rfl rfl)
theorem dX5_init_330 : decode cX5_init 330 = .ok (.iastore, 1) := dk_79 (dk_at dksX5_init_13 20 rfl rfl)
theorem dX5_init_331 : decode cX5_init 331 = .ok (.dup, 1) := dk_89 (dk_at dksX5_init_13 21 rfl rfl)
theorem dX5_init_332 : decode cX5_init 332 = .ok (.bipush 47, 2) := dk_16 47 (dk_at dksX5_init_13 22 rfl rfl)
theorem dX5_init_334 : decode cX5_init 334 = .ok (.bipush 99, 2) := dk_16 99 (dk_at dksX5_init_14 0 rfl rfl)
theorem dX5_init_336 : decode cX5_init 336 = .ok (.iastore, 1) := dk_79 (dk_at dksX5_init_14 2 rfl rfl)
theorem dX5_init_337 : decode cX5_init 337 = .ok (.dup, 1) := dk_89 (dk_at dksX5_init_14 3 rfl rfl)
theorem dX5_init_338 : decode cX5_init 338 = .ok (.bipush 48, 2) := dk_16 48 (dk_at dksX5_init_14 4 rfl rfl)
theorem dX5_init_340 : decode cX5_init 340 = .ok (.bipush 101, 2) := dk_16 101 (dk_at dksX5_init_14 6 rfl rfl)
theorem dX5_init_342 : decode cX5_init 342 = .ok (.iastore, 1) := dk_79 (dk_at dksX5_init_14 8 rfl rfl)
theorem dX5_init_343 : decode cX5_init 343 = .ok (.dup, 1) := dk_89 (dk_at dksX5_init_14 9 rfl rfl)
theorem dX5_init_344 : decode cX5_init 344 = .ok (.bipush 49, 2) := dk_16 49 (dk_at dksX5_init_14 10 rfl rfl)
theorem dX5_init_346 : decode cX5_init 346 = .ok (.bipush 32, 2) := dk_16 32 (dk_at dksX5_init_14 12 rfl rfl)
theorem dX5_init_348 : decode cX5_init 348 = .ok (.iastore, 1) := dk_79 (dk_at dksX5_init_14 14 rfl rfl)
theorem dX5_init_349 : decode cX5_init 349 = .ok (.dup, 1) := dk_89 (dk_at dksX5_init_14 15 rfl rfl)
theorem dX5_init_350 : decode cX5_init 350 = .ok (.bipush 50, 2) := dk_16 50 (dk_at dksX5_init_14 16 rfl rfl)
theorem dX5_init_352 : decode cX5_init 352 = .ok (.bipush 97, 2) := dk_16 97 (dk_at dksX5_init_14 18 rfl rfl)
theorem dX5_init_354 : decode cX5_init 354 = .ok (.iastore, 1) := dk_79 (dk_at dksX5_init_14 20 rfl rfl)
theorem dX5_init_355 : decode cX5_init 355 = .ok (.dup, 1) := dk_89 (dk_at dksX5_init_14 21 rfl rfl)
theorem dX5_init_356 : decode cX5_init 356 = .ok (.bipush 51, 2) := dk_16 51 (dk_at dksX5_init_14 22 rfl rfl)
theorem dX5_init_358 : decode cX5_init 358 = .ok (.bipush 103, 2) := dk_16 103 (dk_at dksX5_init_15 0 rfl rfl)
theorem dX5_init_360 : decode cX5_init 360 = .ok (.iastore, 1) := dk_79 (dk_at dksX5_init_15 2 rfl rfl)
theorem dX5_init_361 : decode cX5_init 361 = .ok (.dup, 1) := dk_89 (dk_at dksX5_init_15 3 rfl rfl)
theorem dX5_init_362 : decode cX5_init 362 = .ok (.bipush 52, 2) := dk_16 52 (dk_at dksX5_init_15 4 rfl rfl)
theorem dX5_init_364 : decode cX5_init 364 = .ok (.bipush 101, 2) := dk_16 101 (dk_at dksX5_init_15 6 rfl rfl)
theorem dX5_init_366 : decode cX5_init 366 = .ok (.iastore, 1) := dk_79 (dk_at dksX5_init_15 8 rfl rfl)
theorem dX5_init_367 : decode cX5_init 367 = .ok (.dup, 1) := dk_89 (dk_at dksX5_init_15 9 rfl rfl)
theorem dX5_init_368 : decode cX5_init 368 = .ok (.bipush 53, 2) := dk_16 53 (dk_at dksX5_init_15 10 rfl rfl)
theorem dX5_init_370 : decode cX5_init 370 = .ok (.bipush 32, 2) := dk_16 32 (dk_at dksX5_init_15 12 rfl rfl)
theorem dX5_init_372 : decode cX5_init 372 = .ok (.iastore, 1) := dk_79 (dk_at dksX5_init_15 14 rfl rfl)
theorem dX5_init_373 : decode cX5_init 373 = .ok (.dup, 1) := dk_89 (dk_at dksX5_init_15 15 rfl rfl)
theorem dX5_init_374 : decode cX5_init 374 = .ok (.bipush 54, 2) := dk_16 54 (dk_at dksX5_init_15 16 rfl rfl)
theorem dX5_init_376 : decode cX5_init 376 = .ok (.bipush 104, 2) := dk_16 104 (dk_at dksX5_init_15 18 rfl rfl)
theorem dX5_init_378 : decode cX5_init 378 = .ok (.iastore, 1) := dk_79 (dk_at dksX5_init_15 20 rfl rfl)
theorem dX5_init_379 : decode cX5_init 379 = .ok (.dup, 1) := dk_89 (dk_at dksX5_init_15 21 rfl rfl)
theorem dX5_init_380 : decode cX5_init 380 = .ok (.bipush 55, 2) := dk_16 55 (dk_at dksX5_init_15 22 rfl rfl)
theorem dX5_init_382 : decode cX5_init 382 = .ok (.bipush 97, 2) := dk_16 97 (dk_at dksX5_init_16 0 rfl rfl)
theorem dX5_init_384 : decode cX5_init 384 = .ok (.iastore, 1) := dk_79 (dk_at dksX5_init_16 2 rfl rfl)
theorem dX5_init_385 : decode cX5_init 385 = .ok (.dup, 1) := dk_89 (dk_at dksX5_init_16 3 rfl rfl)
theorem dX5_init_386 : decode cX5_init 386 = .ok (.bipush 56, 2) := dk_16 56 (dk_at dksX5_init_16 4 rfl rfl)
theorem dX5_init_388 : decode cX5_init 388 = .ok (.bipush 110, 2) := dk_16 110 (dk_at dksX5_init_16 6 rfl rfl)
theorem dX5_init_390 : decode cX5_init 390 = .ok (.iastore, 1) := dk_79 (dk_at dksX5_init_16 8 rfl rfl)
theorem dX5_init_391 : decode cX5_init 391 = .ok (.dup, 1) := dk_89 (dk_at dksX5_init_16 9 rfl rfl)
theorem dX5_init_392 : decode cX5_init 392 = .ok (.bipush 57, 2) := dk_16 57 (dk_at dksX5_init_16 10 rfl rfl)
theorem dX5_init_394 : decode cX5_init 394 = .ok (.bipush 103, 2) := dk_16 103 (dk_at dksX5_init_16 12 rfl rfl)
theorem dX5_init_396 : decode cX5_init 396 = .ok (.iastore, 1) := dk_79 (dk_at dksX5_init_16 14 rfl rfl)
theorem dX5_init_397 : decode cX5_init 397 = .ok (.dup, 1) := dk_89 (dk_at dksX5_init_16 15 rfl rfl)
theorem dX5_init_398 : decode cX5_init 398 = .ok (.bipush 58, 2) := dk_16 58 (dk_at dksX5_init_16 16 rfl rfl)
theorem dX5_init_400 : decode cX5_init 400 = .ok (.bipush 105, 2) := dk_16 105 (dk_at dksX5_init_16 18 rfl rfl)
theorem dX5_init_402 : decode cX5_init 402 = .ok (.iastore, 1) := dk_79 (dk_at dksX5_init_16 20 rfl rfl)
theorem dX5_init_403 : decode cX5_init 403 = .ok (.dup, 1) := dk_89 (dk_at dksX5_init_16 21 rfl rfl)
theorem dX5_init_404 : decode cX5_init 404 = .ok (.bipush 59, 2) := dk_16 59 (dk_at dksX5_init_16 22 rfl rfl)
theorem dX5_init_406 : decode cX5_init 406 = .ok (.bipush 110, 2) := dk_16 110 (dk_at dksX5_init_17 0 rfl rfl)
theorem dX5_init_408 : decode cX5_init 408 = .ok (.iastore, 1) := dk_79 (dk_at dksX5_init_17 2 rfl rfl)
theorem dX5_init_409 : decode cX5_init 409 = .ok (.dup, 1) := dk_89 (dk_at dksX5_init_17 3 rfl rfl)
theorem dX5_init_410 : decode cX5_init 410 = .ok (.bipush 60, 2) := dk_16 60 (dk_at dksX5_init_17 4 rfl rfl)
theorem dX5_init_412 : decode cX5_init 412 = .ok (.bipush 103, 2) := dk_16 103 (dk_at dksX5_init_17 6 rfl rfl)
theorem dX5_init_414 : decode cX5_init 414 = .ok (.iastore, 1) := dk_79 (dk_at dksX5_init_17 8 rfl rfl)
theorem dX5_init_415 : decode cX5_init 415 = .ok (.dup, 1) := dk_89 (dk_at dksX5_init_17 9 rfl rfl)
theorem dX5_init_416 : decode cX5_init 416 = .ok (.bipush 61, 2) := dk_16 61 (dk_at dksX5_init_17 10 rfl rfl)
theorem dX5_init_418 : decode cX5_init 418 = .ok (.bipush 32, 2) := dk_16 32 (dk_at dksX5_init_17 12 rfl rfl)
theorem dX5_init_420 : decode cX5_init 420 = .ok (.iastore, 1) := dk_79 (dk_at dksX5_init_17 14 rfl rfl)
theorem dX5_init_421 : decode cX5_init 421 = .ok (.dup, 1) := dk_89 (dk_at dksX5_init_17 15 rfl rfl)
theorem dX5_init_422 : decode cX5_init 422 = .ok (.bipush 62, 2) := dk_16 62 (dk_at dksX5_init_17 16 rfl rfl)
theorem dX5_init_424 : decode cX5_init 424 = .ok (.bipush 104, 2) := dk_16 104 (dk_at dksX5_init_17 18 rfl rfl)
theorem dX5_init_426 : decode cX5_init 426 = .ok (.iastore, 1) := dk_79 (dk_at dksX5_init_17 20 rfl rfl)
theorem dX5_init_427 : decode cX5_init 427 = .ok (.dup, 1) := dk_89 (dk_at dksX5_init_17 21 rfl rfl)
theorem dX5_init_428 : decode cX5_init 428 = .ok (.bipush 63, 2) := dk_16 63 (dk_at dksX5_init_17 22 rfl rfl)
theorem dX5_init_430 : decode cX5_init 430 = .ok (.bipush 117, 2) := dk_16 117 (dk_at dksX5_init_18 0 rfl rfl)
theorem dX5_init_432 : decode cX5_init 432 = .ok (.iastore, 1) := dk_79 (dk_at dksX5_init_18 2 rfl rfl)
theorem dX5_init_433 : decode cX5_init 433 = .ok (.dup, 1) := dk_89 (dk_at dksX5_init_18 3 rfl rfl)
theorem dX5_init_434 : decode cX5_init 434 = .ok (.bipush 64, 2) := dk_16 64 (dk_at dksX5_init_18 4 rfl rfl)
theorem dX5_init_436 : decode cX5_init 436 = .ok (.bipush 110, 2) := dk_16 110 (dk_at dksX5_init_18 6 rfl rfl)
theorem dX5_init_438 : decode cX5_init 438 = .ok (.iastore, 1) := dk_79 (dk_at dksX5_init_18 8 rfl rfl)
theorem dX5_init_439 : decode cX5_init 439 = .ok (.dup, 1) := dk_89 (dk_at dksX5_init_18 9 rfl rfl)
theorem dX5_init_440 : decode cX5_init 440 = .ok (.bipush 65, 2) := dk_16 65 (dk_at dksX5_init_18 10 rfl rfl)
theorem dX5_init_442 : decode cX5_init 442 = .ok (.bipush 103, 2) := dk_16 103 (dk_at dksX5_init_18 12 rfl rfl)
theorem dX5_init_444 : decode cX5_init 444 = .ok (.iastore, 1) := dk_79 (dk_at dksX5_init_18 14 rfl rfl)
theorem dX5_init_445 : decode cX5_init 445 = .ok (.dup, 1) := dk_89 (dk_at dksX5_init_18 15 rfl rfl)
theorem dX5_init_446 : decode cX5_init 446 = .ok (.bipush 66, 2) := dk_16 66 (dk_at dksX5_init_18 16 rfl rfl)
theorem dX5_init_448 : decode cX5_init 448 = .ok (.bipush 101, 2) := dk_16 101 (dk_at dksX5_init_18 18 rfl rfl)
theorem dX5_init_450 : decode cX5_init 450 = .ok (.iastore, 1) := dk_79 (dk_at dksX5_init_18 20 rfl rfl)
theorem dX5_init_451 : decode cX5_init 451 = .ok (.dup, 1) := dk_89 (dk_at dksX5_init_18 21 rfl rfl)
theorem dX5_init_452 : decode cX5_init 452 = .ok (.bipush 67, 2) := dk_16 67 (dk_at dksX5_init_18 22 rfl rfl)
theorem dX5_init_454 : decode cX5_init 454 = .ok (.bipush 114, 2) := dk_16 114 (dk_at dksX5_init_19 0 rfl rfl)
theorem dX5_init_456 : decode cX5_init 456 = .ok (.iastore, 1) := dk_79 (dk_at dksX5_init_19 2 rfl rfl)
theorem dX5_init_457 : decode cX5_init 457 = .ok (.dup, 1) := dk_89 (dk_at dksX5_init_19 3 rfl rfl)
theorem dX5_init_458 : decode cX5_init 458 = .ok (.bipush 68, 2) := dk_16 68 (dk_at dksX5_init_19 4 rfl rfl)
theorem dX5_init_460 : decode cX5_init 460 = .ok (.bipush 32, 2) := dk_16 32 (dk_at dksX5_init_19 6 rfl rfl)
theorem dX5_init_462 : decode cX5_init 462 = .ok (.iastore, 1) := dk_79 (dk_at dksX5_init_19 8 rfl rfl)
theorem dX5_init_463 : decode cX5_init 463 = .ok (.dup, 1) := dk_89 (dk_at dksX5_init_19 9 rfl rfl)
theorem dX5_init_464 : decode cX5_init 464 = .ok (.bipush 69, 2) := dk_16 69 (dk_at dksX5_init_19 10 rfl rfl)
theorem dX5_init_466 : decode cX5_init 466 = .ok (.bipush 116, 2) := dk_16 116 (dk_at dksX5_init_19 12 rfl rfl)
theorem dX5_init_468 : decode cX5_init 468 = .ok (.iastore, 1) := dk_79 (dk_at dksX5_init_19 14 rfl rfl)
theorem dX5_init_469 : decode cX5_init 469 = .ok (.dup, 1) := dk_89 (dk_at dksX5_init_19 15 rfl rfl)
theorem dX5_init_470 : decode cX5_init 470 = .ok (.bipush 70, 2) := dk_16 70 (dk_at dksX5_init_19 16 rfl rfl)
theorem dX5_init_472 : decode cX5_init 472 = .ok (.bipush 97, 2) := dk_16 97 (dk_at dksX5_init_19 18 rfl rfl)
theorem dX5_init_474 : decode cX5_init 474 = .ok (.iastore, 1) := dk_79 (dk_at dksX5_init_19 20 rfl rfl)
theorem dX5_init_475 : decode cX5_init 475 = .ok (.dup, 1) := dk_89 (dk_at dksX5_init_19 21 rfl rfl)
theorem dX5_init_476 : decode cX5_init 476 = .ok (.bipush 71, 2) := dk_16 71 (dk_at dksX5_init_19 22 rfl rfl)
theorem dX5_init_478 : decode cX5_init 478 = .ok (.bipush 115, 2) := dk_16 115 (dk_at dksX5_init_20 0 rfl rfl)
theorem dX5_init_480 : decode cX5_init 480 = .ok (.iastore, 1) := dk_79 (dk_at dksX5_init_20 2 rfl rfl)
theorem dX5_init_481 : decode cX5_init 481 = .ok (.dup, 1) := dk_89 (dk_at dksX5_init_20 3 rfl rfl)
theorem dX5_init_482 : decode cX5_init 482 = .ok (.bipush 72, 2) := dk_16 72 (dk_at dksX5_init_20 4 rfl rfl)
theorem dX5_init_484 : decode cX5_init 484 = .ok (.bipush 116, 2) := dk_16 116 (dk_at dksX5_init_20 6 rfl rfl)
theorem dX5_init_486 : decode cX5_init 486 = .ok (.iastore, 1) := dk_79 (dk_at dksX5_init_20 8 rfl rfl)
theorem dX5_init_487 : decode cX5_init 487 = .ok (.dup, 1) := dk_89 (dk_at dksX5_init_20 9 rfl rfl)
theorem dX5_init_488 : decode cX5_init 488 = .ok (.bipush 73, 2) := dk_16 73 (dk_at dksX5_init_20 10 rfl rfl)
theorem dX5_init_490 : decode cX5_init 490 = .ok (.bipush 101, 2) := dk_16 101 (dk_at dksX5_init_20 12 rfl rfl)
theorem dX5_init_492 : decode cX5_init 492 = .ok (.iastore, 1) := dk_79 (dk_at dksX5_init_20 14 rfl rfl)
theorem dX5_init_493 : decode cX5_init 493 = .ok (.dup, 1) := dk_89 (dk_at dksX5_init_20 15 rfl rfl)
theorem dX5_init_494 : decode cX5_init 494 = .ok (.bipush 74, 2) := dk_16 74 (dk_at dksX5_init_20 16 rfl rfl)
theorem dX5_init_496 : decode cX5_init 496 = .ok (.bipush 32, 2) := dk_16 32 (dk_at dksX5_init_20 18 rfl rfl)
theorem dX5_init_498 : decode cX5_init 498 = .ok (.iastore, 1) := dk_79 (dk_at dksX5_init_20 20 rfl rfl)
theorem dX5_init_499 : decode cX5_init 499 = .ok (.dup, 1) := dk_89 (dk_at dksX5_init_20 21 rfl rfl)
theorem dX5_init_500 : decode cX5_init 500 = .ok (.bipush 75, 2) := dk_16 75 (dk_at dksX5_init_20 22 rfl rfl)
theorem dX5_init_502 : decode cX5_init 502 = .ok (.bipush 106, 2) := dk_16 106 (dk_at dksX5_init_21 0 rfl rfl)
theorem dX5_init_504 : decode cX5_init 504 = .ok (.iastore, 1) := dk_79 (dk_at dksX5_init_21 2 rfl rfl)
theorem dX5_init_505 : decode cX5_init 505 = .ok (.dup, 1) := dk_89 (dk_at dksX5_init_21 3 rfl rfl)
theorem dX5_init_506 : decode cX5_init 506 = .ok (.bipush 76, 2) := dk_16 76 (dk_at dksX5_init_21 4 rfl rfl)
theorem dX5_init_508 : decode cX5_init 508 = .ok (.bipush 97, 2) := dk_16 97 (dk_at dksX5_init_21 6 rfl rfl)
theorem dX5_init_510 : decode cX5_init 510 = .ok (.iastore, 1) := dk_79 (dk_at dksX5_init_21 8 rfl rfl)
theorem dX5_init_511 : decode cX5_init 511 = .ok (.dup, 1) := dk_89 (dk_at dksX5_init_21 9 rfl rfl)
theorem dX5_init_512 : decode cX5_init 512 = .ok (.bipush 77, 2) := dk_16 77 (dk_at dksX5_init_21 10 rfl rfl)
theorem dX5_init_514 : decode cX5_init 514 = .ok (.bipush 109, 2) := dk_16 109 (dk_at dksX5_init_21 12 rfl rfl)
theorem dX5_init_516 : decode cX5_init 516 = .ok (.iastore, 1) := dk_79 (dk_at dksX5_init_21 14 rfl rfl)
theorem dX5_init_517 : decode cX5_init 517 = .ok (.dup, 1) := dk_89 (dk_at dksX5_init_21 15 rfl rfl)
theorem dX5_init_518 : decode cX5_init 518 = .ok (.bipush 78, 2) := dk_16 78 (dk_at dksX5_init_21 16 rfl rfl)
theorem dX5_init_520 : decode cX5_init 520 = .ok (.bipush 32, 2) := dk_16 32 (dk_at dksX5_init_21 18 rfl rfl)
theorem dX5_init_522 : decode cX5_init 522 = .ok (.iastore, 1) := dk_79 (dk_at dksX5_init_21 20 rfl rfl)
theorem dX5_init_523 : decode cX5_init 523 = .ok (.dup, 1) := dk_89 (dk_at dksX5_init_21 21 rfl rfl)
theorem dX5_init_524 : decode cX5_init 524 = .ok (.bipush 79, 2) := dk_16 79 (dk_at dksX5_init_21 22 rfl rfl)
theorem dX5_init_526 : decode cX5_init 526 = .ok (.bipush 115, 2) := dk_16 115 (dk_at dksX5_init_22 0 rfl rfl)
theorem dX5_init_528 : decode cX5_init 528 = .ok (.iastore, 1) := dk_79 (dk_at dksX5_init_22 2 rfl rfl)
theorem dX5_init_529 : decode cX5_init 529 = .ok (.dup, 1) := dk_89 (dk_at dksX5_init_22 3 rfl rfl)
theorem dX5_init_530 : decode cX5_init 530 = .ok (.bipush 80, 2) := dk_16 80 (dk_at dksX5_init_22 4 rfl rfl)
theorem dX5_init_532 : decode cX5_init 532 = .ok (.bipush 101, 2) := dk_16 101 (dk_at dksX5_init_22 6 rfl rfl)
theorem dX5_init_534 : decode cX5_init 534 = .ok (.iastore, 1) := dk_79 (dk_at dksX5_init_22 8 rfl rfl)
theorem dX5_init_535 : decode cX5_init 535 = .ok (.dup, 1) := dk_89 (dk_at dksX5_init_22 9 rfl rfl)
theorem dX5_init_536 : decode cX5_init 536 = .ok (.bipush 81, 2) := dk_16 81 (dk_at dksX5_init_22 10 rfl rfl)
theorem dX5_init_538 : decode cX5_init 538 = .ok (.bipush 97, 2) := dk_16 97 (dk_at dksX5_init_22 12 rfl rfl)
theorem dX5_init_540 : decode cX5_init 540 = .ok (.iastore, 1) := dk_79 (dk_at dksX5_init_22 14 rfl rfl)
theorem dX5_init_541 : decode cX5_init 541 = .ok (.dup, 1) := dk_89 (dk_at dksX5_init_22 15 rfl rfl)
theorem dX5_init_542 : decode cX5_init 542 = .ok (.bipush 82, 2) := dk_16 82 (dk_at dksX5_init_22 16 rfl rfl)
theorem dX5_init_544 : decode cX5_init 544 = .ok (.bipush 116, 2) := dk_16 116 (dk_at dksX5_init_22 18 rfl rfl)
theorem dX5_init_546 : decode cX5_init 546 = .ok (.iastore, 1) := dk_79 (dk_at dksX5_init_22 20 rfl rfl)
theorem dX5_init_547 : decode cX5_init 547 = .ok (.dup, 1) := dk_89 (dk_at dksX5_init_22 21 rfl rfl)
theorem dX5_init_548 : decode cX5_init 548 = .ok (.bipush 83, 2) := dk_16 83 (dk_at dksX5_init_22 22 rfl rfl)
theorem dX5_init_550 : decode cX5_init 550 = .ok (.bipush 115, 2) := dk_16 115 (dk_at dksX5_init_23 0 rfl rfl)
theorem dX5_init_552 : decode cX5_init 552 = .ok (.iastore, 1) := dk_79 (dk_at dksX5_init_23 2 rfl rfl)
theorem dX5_init_553 : decode cX5_init 553 = .ok (.dup, 1) := dk_89 (dk_at dksX5_init_23 3 rfl rfl)
theorem dX5_init_554 : decode cX5_init 554 = .ok (.bipush 84, 2) := dk_16 84 (dk_at dksX5_init_23 4 rfl rfl)
theorem dX5_init_556 : decode cX5_init 556 = .ok (.bipush 32, 2) := dk_16 32 (dk_at dksX5_init_23 6 rfl rfl)
theorem dX5_init_558 : decode cX5_init 558 = .ok (.iastore, 1) := dk_79 (dk_at dksX5_init_23 8 rfl rfl)
theorem dX5_init_559 : decode cX5_init 559 = .ok (.dup, 1) := dk_89 (dk_at dksX5_init_23 9 rfl rfl)
theorem dX5_init_560 : decode cX5_init 560 = .ok (.bipush 85, 2) := dk_16 85 (dk_at dksX5_init_23 10 rfl rfl)
theorem dX5_init_562 : decode cX5_init 562 = .ok (.bipush 101, 2) := dk_16 101 (dk_at dksX5_init_23 12 rfl rfl)
theorem dX5_init_564 : decode cX5_init 564 = .ok (.iastore, 1) := dk_79 (dk_at dksX5_init_23 14 rfl rfl)
theorem dX5_init_565 : decode cX5_init 565 = .ok (.dup, 1) := dk_89 (dk_at dksX5_init_23 15 rfl rfl)
theorem dX5_init_566 : decode cX5_init 566 = .ok (.bipush 86, 2) := dk_16 86 (dk_at dksX5_init_23 16 rfl rfl)
theorem dX5_init_568 : decode cX5_init 568 = .ok (.bipush 97, 2) := dk_16 97 (dk_at dksX5_init_23 18 rfl rfl)
theorem dX5_init_570 : decode cX5_init 570 = .ok (.iastore, 1) := dk_79 (dk_at dksX5_init_23 20 rfl rfl)
theorem dX5_init_571 : decode cX5_init 571 = .ok (.dup, 1) := dk_89 (dk_at dksX5_init_23 21 rfl rfl)
theorem dX5_init_572 : decode cX5_init 572 = .ok (.bipush 87, 2) := dk_16 87 (dk_at dksX5_init_23 22 rfl rfl)
theorem dX5_init_574 : decode cX5_init 574 = .ok (.bipush 116, 2) := dk_16 116 (dk_at dksX5_init_24 0 rfl rfl)
theorem dX5_init_576 : decode cX5_init 576 = .ok (.iastore, 1) := dk_79 (dk_at dksX5_init_24 2 rfl rfl)
theorem dX5_init_577 : decode cX5_init 577 = .ok (.dup, 1) := dk_89 (dk_at dksX5_init_24 3 rfl rfl)
theorem dX5_init_578 : decode cX5_init 578 = .ok (.bipush 88, 2) := dk_16 88 (dk_at dksX5_init_24 4 rfl rfl)
theorem dX5_init_580 : decode cX5_init 580 = .ok (.bipush 101, 2) := dk_16 101 (dk_at dksX5_init_24 6 rfl rfl)
theorem dX5_init_582 : decode cX5_init 582 = .ok (.iastore, 1) := dk_79 (dk_at dksX5_init_24 8 rfl rfl)
theorem dX5_init_583 : decode cX5_init 583 = .ok (.dup, 1) := dk_89 (dk_at dksX5_init_24 9 rfl rfl)
theorem dX5_init_584 : decode cX5_init 584 = .ok (.bipush 89, 2) := dk_16 89 (dk_at dksX5_init_24 10 rfl rfl)
theorem dX5_init_586 : decode cX5_init 586 = .ok (.bipush 114, 2) := dk_16 114 (dk_at dksX5_init_24 12 rfl rfl)
theorem dX5_init_588 : decode cX5_init 588 = .ok (.iastore, 1) := dk_79 (dk_at dksX5_init_24 14 rfl rfl)
theorem dX5_init_589 : decode cX5_init 589 = .ok (.dup, 1) := dk_89 (dk_at dksX5_init_24 15 rfl rfl)
theorem dX5_init_590 : decode cX5_init 590 = .ok (.bipush 90, 2) := dk_16 90 (dk_at dksX5_init_24 16 rfl rfl)
theorem dX5_init_592 : decode cX5_init 592 = .ok (.bipush 32, 2) := dk_16 32 (dk_at dksX5_init_24 18 rfl rfl)
theorem dX5_init_594 : decode cX5_init 594 = .ok (.iastore, 1) := dk_79 (dk_at dksX5_init_24 20 rfl rfl)
theorem dX5_init_595 : decode cX5_init 595 = .ok (.dup, 1) := dk_89 (dk_at dksX5_init_24 21 rfl rfl)
theorem dX5_init_596 : decode cX5_init 596 = .ok (.bipush 91, 2) := dk_16 91 (dk_at dksX5_init_24 22 rfl rfl)
theorem dX5_init_598 : decode cX5_init 598 = .ok (.bipush 98, 2) := dk_16 98 (dk_at dksX5_init_25 0 rfl rfl)
theorem dX5_init_600 : decode cX5_init 600 = .ok (.iastore, 1) := dk_79 (dk_at dksX5_init_25 2 rfl rfl)
theorem dX5_init_601 : decode cX5_init 601 = .ok (.dup, 1) := dk_89 (dk_at dksX5_init_25 3 rfl rfl)
theorem dX5_init_602 : decode cX5_init 602 = .ok (.bipush 92, 2) := dk_16 92 (dk_at dksX5_init_25 4 rfl rfl)
theorem dX5_init_604 : decode cX5_init 604 = .ok (.bipush 121, 2) := dk_16 121 (dk_at dksX5_init_25 6 rfl rfl)
theorem dX5_init_606 : decode cX5_init 606 = .ok (.iastore, 1) := dk_79 (dk_at dksX5_init_25 8 rfl rfl)
theorem dX5_init_607 : decode cX5_init 607 = .ok (.dup, 1) := dk_89 (dk_at dksX5_init_25 9 rfl rfl)
theorem dX5_init_608 : decode cX5_init 608 = .ok (.bipush 93, 2) := dk_16 93 (dk_at dksX5_init_25 10 rfl rfl)
theorem dX5_init_610 : decode cX5_init 610 = .ok (.bipush 32, 2) := dk_16 32 (dk_at dksX5_init_25 12 rfl rfl)
theorem dX5_init_612 : decode cX5_init 612 = .ok (.iastore, 1) := dk_79 (dk_at dksX5_init_25 14 rfl rfl)
theorem dX5_init_613 : decode cX5_init 613 = .ok (.dup, 1) := dk_89 (dk_at dksX5_init_25 15 rfl rfl)
theorem dX5_init_614 : decode cX5_init 614 = .ok (.bipush 94, 2) := dk_16 94 (dk_at dksX5_init_25 16 rfl rfl)
theorem dX5_init_616 : decode cX5_init 616 = .ok (.bipush 111, 2) := dk_16 111 (dk_at dksX5_init_25 18 rfl rfl)
theorem dX5_init_618 : decode cX5_init 618 = .ok (.iastore, 1) := dk_79 (dk_at dksX5_init_25 20 rfl rfl)
theorem dX5_init_619 : decode cX5_init 619 = .ok (.dup, 1) := dk_89 (dk_at dksX5_init_25 21 rfl rfl)
theorem dX5_init_620 : decode cX5_init 620 = .ok (.bipush 95, 2) := dk_16 95 (dk_at dksX5_init_25 22 rfl rfl)
theorem dX5_init_622 : decode cX5_init 622 = .ok (.bipush 110, 2) := dk_16 110 (dk_at dksX5_init_26 0 rfl rfl)
theorem dX5_init_624 : decode cX5_init 624 = .ok (.iastore, 1) := dk_79 (dk_at dksX5_init_26 2 rfl rfl)
theorem dX5_init_625 : decode cX5_init 625 = .ok (.dup, 1) := dk_89 (dk_at dksX5_init_26 3 rfl rfl)
theorem dX5_init_626 : decode cX5_init 626 = .ok (.bipush 96, 2) := dk_16 96 (dk_at dksX5_init_26 4 rfl rfl)
theorem dX5_init_628 : decode cX5_init 628 = .ok (.bipush 32, 2) := dk_16 32 (dk_at dksX5_init_26 6 rfl rfl)
theorem dX5_init_630 : decode cX5_init 630 = .ok (.iastore, 1) := dk_79 (dk_at dksX5_init_26 8 rfl rfl)
theorem dX5_init_631 : decode cX5_init 631 = .ok (.dup, 1) := dk_89 (dk_at dksX5_init_26 9 rfl rfl)
theorem dX5_init_632 : decode cX5_init 632 = .ok (.bipush 97, 2) := dk_16 97 (dk_at dksX5_init_26 10 rfl rfl)
theorem dX5_init_634 : decode cX5_init 634 = .ok (.bipush 112, 2) := dk_16 112 (dk_at dksX5_init_26 12 rfl rfl)
theorem dX5_init_636 : decode cX5_init 636 = .ok (.iastore, 1) := dk_79 (dk_at dksX5_init_26 14 rfl rfl)
theorem dX5_init_637 : decode cX5_init 637 = .ok (.dup, 1) := dk_89 (dk_at dksX5_init_26 15 rfl rfl)
theorem dX5_init_638 : decode cX5_init 638 = .ok (.bipush 98, 2) := dk_16 98 (dk_at dksX5_init_26 16 rfl rfl)
theorem dX5_init_640 : decode cX5_init 640 = .ok (.bipush 108, 2) := dk_16 108 (dk_at dksX5_init_26 18 rfl rfl)
theorem dX5_init_642 : decode cX5_init 642 = .ok (.iastore, 1) := dk_79 (dk_at dksX5_init_26 20 rfl rfl)
theorem dX5_init_643 : decode cX5_init 643 = .ok (.dup, 1) := dk_89 (dk_at dksX5_init_26 21 rfl rfl)
theorem dX5_init_644 : decode cX5_init 644 = .ok (.bipush 99, 2) := dk_16 99 (dk_at dksX5_init_26 22 rfl rfl)
theorem dX5_init_646 : decode cX5_init 646 = .ok (.bipush 97, 2) := dk_16 97 (dk_at dksX5_init_27 0 rfl rfl)
theorem dX5_init_648 : decode cX5_init 648 = .ok (.iastore, 1) := dk_79 (dk_at dksX5_init_27 2 rfl rfl)
theorem dX5_init_649 : decode cX5_init 649 = .ok (.dup, 1) := dk_89 (dk_at dksX5_init_27 3 rfl rfl)
theorem dX5_init_650 : decode cX5_init 650 = .ok (.bipush 100, 2) := dk_16 100 (dk_at dksX5_init_27 4 rfl rfl)
theorem dX5_init_652 : decode cX5_init 652 = .ok (.bipush 110, 2) := dk_16 110 (dk_at dksX5_init_27 6 rfl rfl)
theorem dX5_init_654 : decode cX5_init 654 = .ok (.iastore, 1) := dk_79 (dk_at dksX5_init_27 8 rfl rfl)
theorem dX5_init_655 : decode cX5_init 655 = .ok (.dup, 1) := dk_89 (dk_at dksX5_init_27 9 rfl rfl)
theorem dX5_init_656 : decode cX5_init 656 = .ok (.bipush 101, 2) := dk_16 101 (dk_at dksX5_init_27 10 rfl rfl)
theorem dX5_init_658 : decode cX5_init 658 = .ok (.bipush 116, 2) := dk_16 116 (dk_at dksX5_init_27 12 rfl rfl)
theorem dX5_init_660 : decode cX5_init 660 = .ok (.iastore, 1) := dk_79 (dk_at dksX5_init_27 14 rfl rfl)
theorem dX5_init_661 : decode cX5_init 661 = .ok (.dup, 1) := dk_89 (dk_at dksX5_init_27 15 rfl rfl)
theorem dX5_init_662 : decode cX5_init 662 = .ok (.bipush 102, 2) := dk_16 102 (dk_at dksX5_init_27 16 rfl rfl)
theorem dX5_init_664 : decode cX5_init 664 = .ok (.bipush 32, 2) := dk_16 32 (dk_at dksX5_init_27 18 rfl rfl)
theorem dX5_init_666 : decode cX5_init 666 = .ok (.iastore, 1) := dk_79 (dk_at dksX5_init_27 20 rfl rfl)
theorem dX5_init_667 : decode cX5_init 667 = .ok (.dup, 1) := dk_89 (dk_at dksX5_init_27 21 rfl rfl)
theorem dX5_init_668 : decode cX5_init 668 = .ok (.bipush 103, 2) := dk_16 103 (dk_at dksX5_init_27 22 rfl rfl)
theorem dX5_init_670 : decode cX5_init 670 = .ok (.bipush 97, 2) := dk_16 97 (dk_at dksX5_init_28 0 rfl rfl)
theorem dX5_init_672 : decode cX5_init 672 = .ok (.iastore, 1) := dk_79 (dk_at dksX5_init_28 2 rfl rfl)
theorem dX5_init_673 : decode cX5_init 673 = .ok (.dup, 1) := dk_89 (dk_at dksX5_init_28 3 rfl rfl)
theorem dX5_init_674 : decode cX5_init 674 = .ok (.bipush 104, 2) := dk_16 104 (dk_at dksX5_init_28 4 rfl rfl)
theorem dX5_init_676 : decode cX5_init 676 = .ok (.bipush 116, 2) := dk_16 116 (dk_at dksX5_init_28 6 rfl rfl)
theorem dX5_init_678 : decode cX5_init 678 = .ok (.iastore, 1) := dk_79 (dk_at dksX5_init_28 8 rfl rfl)
theorem dX5_init_679 : decode cX5_init 679 = .ok (.dup, 1) := dk_89 (dk_at dksX5_init_28 9 rfl rfl)
theorem dX5_init_680 : decode cX5_init 680 = .ok (.bipush 105, 2) := dk_16 105 (dk_at dksX5_init_28 10 rfl rfl)
theorem dX5_init_682 : decode cX5_init 682 = .ok (.bipush 32, 2) := dk_16 32 (dk_at dksX5_init_28 12 rfl rfl)
theorem dX5_init_684 : decode cX5_init 684 = .ok (.iastore, 1) := dk_79 (dk_at dksX5_init_28 14 rfl rfl)
theorem dX5_init_685 : decode cX5_init 685 = .ok (.dup, 1) := dk_89 (dk_at dksX5_init_28 15 rfl rfl)
theorem dX5_init_686 : decode cX5_init 686 = .ok (.bipush 106, 2) := dk_16 106 (dk_at dksX5_init_28 16 rfl rfl)
theorem dX5_init_688 : decode cX5_init 688 = .ok (.bipush 102, 2) := dk_16 102 (dk_at dksX5_init_28 18 rfl rfl)
theorem dX5_init_690 : decode cX5_init 690 = .ok (.iastore, 1) := dk_79 (dk_at dksX5_init_28 20 rfl rfl)
theorem dX5_init_691 : decode cX5_init 691 = .ok (.dup, 1) := dk_89 (dk_at dksX5_init_28 21 rfl rfl)
theorem dX5_init_692 : decode cX5_init 692 = .ok (.bipush 107, 2) := dk_16 107 (dk_at dksX5_init_28 22 rfl rfl)
theorem dX5_init_694 : decode cX5_init 694 = .ok (.bipush 101, 2) := dk_16 101 (dk_at dksX5_init_29 0 rfl rfl)
theorem dX5_init_696 : decode cX5_init 696 = .ok (.iastore, 1) := dk_79 (dk_at dksX5_init_29 2 rfl rfl)
theorem dX5_init_697 : decode cX5_init 697 = .ok (.dup, 1) := dk_89 (dk_at dksX5_init_29 3 rfl rfl)
theorem dX5_init_698 : decode cX5_init 698 = .ok (.bipush 108, 2) := dk_16 108 (dk_at dksX5_init_29 4 rfl rfl)
theorem dX5_init_700 : decode cX5_init 700 = .ok (.bipush 110, 2) := dk_16 110 (dk_at dksX5_init_29 6 rfl rfl)
theorem dX5_init_702 : decode cX5_init 702 = .ok (.iastore, 1) := dk_79 (dk_at dksX5_init_29 8 rfl rfl)
theorem dX5_init_703 : decode cX5_init 703 = .ok (.dup, 1) := dk_89 (dk_at dksX5_init_29 9 rfl rfl)
theorem dX5_init_704 : decode cX5_init 704 = .ok (.bipush 109, 2) := dk_16 109 (dk_at dksX5_init_29 10 rfl rfl)
theorem dX5_init_706 : decode cX5_init 706 = .ok (.bipush 99, 2) := dk_16 99 (dk_at dksX5_init_29 12 rfl rfl)
theorem dX5_init_708 : decode cX5_init 708 = .ok (.iastore, 1) := dk_79 (dk_at dksX5_init_29 14 rfl rfl)
theorem dX5_init_709 : decode cX5_init 709 = .ok (.dup, 1) := dk_89 (dk_at dksX5_init_29 15 rfl rfl)
theorem dX5_init_710 : decode cX5_init 710 = .ok (.bipush 110, 2) := dk_16 110 (dk_at dksX5_init_29 16 rfl rfl)
theorem dX5_init_712 : decode cX5_init 712 = .ok (.bipush 101, 2) := dk_16 101 (dk_at dksX5_init_29 18 rfl rfl)
theorem dX5_init_714 : decode cX5_init 714 = .ok (.iastore, 1) := dk_79 (dk_at dksX5_init_29 20 rfl rfl)
theorem dX5_init_715 : decode cX5_init 715 = .ok (.dup, 1) := dk_89 (dk_at dksX5_init_29 21 rfl rfl)
theorem dX5_init_716 : decode cX5_init 716 = .ok (.bipush 111, 2) := dk_16 111 (dk_at dksX5_init_29 22 rfl rfl)
theorem dX5_init_718 : decode cX5_init 718 = .ok (.bipush 32, 2) := dk_16 32 (dk_at dksX5_init_30 0 rfl rfl)
theorem dX5_init_720 : decode cX5_init 720 = .ok (.iastore, 1) := dk_79 (dk_at dksX5_init_30 2 rfl rfl)
theorem dX5_init_721 : decode cX5_init 721 = .ok (.dup, 1) := dk_89 (dk_at dksX5_init_30 3 rfl rfl)
theorem dX5_init_722 : decode cX5_init 722 = .ok (.bipush 112, 2) := dk_16 112 (dk_at dksX5_init_30 4 rfl rfl)
theorem dX5_init_724 : decode cX5_init 724 = .ok (.bipush 111, 2) := dk_16 111 (dk_at dksX5_init_30 6 rfl rfl)
theorem dX5_init_726 : decode cX5_init 726 = .ok (.iastore, 1) := dk_79 (dk_at dksX5_init_30 8 rfl rfl)
theorem dX5_init_727 : decode cX5_init 727 = .ok (.dup, 1) := dk_89 (dk_at dksX5_init_30 9 rfl rfl)
theorem dX5_init_728 : decode cX5_init 728 = .ok (.bipush 113, 2) := dk_16 113 (dk_at dksX5_init_30 10 rfl rfl)
theorem dX5_init_730 : decode cX5_init 730 = .ok (.bipush 112, 2) := dk_16 112 (dk_at dksX5_init_30 12 rfl rfl)
theorem dX5_init_732 : decode cX5_init 732 = .ok (.iastore, 1) := dk_79 (dk_at dksX5_init_30 14 rfl rfl)
theorem dX5_init_733 : decode cX5_init 733 = .ok (.dup, 1) := dk_89 (dk_at dksX5_init_30 15 rfl rfl)
theorem dX5_init_734 : decode cX5_init 734 = .ok (.bipush 114, 2) := dk_16 114 (dk_at dksX5_init_30 16 rfl rfl)
theorem dX5_init_736 : decode cX5_init 736 = .ok (.bipush 101, 2) := dk_16 101 (dk_at dksX5_init_30 18 rfl rfl)
theorem dX5_init_738 : decode cX5_init 738 = .ok (.iastore, 1) := dk_79 (dk_at dksX5_init_30 20 rfl rfl)
theorem dX5_init_739 : decode cX5_init 739 = .ok (.dup, 1) := dk_89 (dk_at dksX5_init_30 21 rfl rfl)
theorem dX5_init_740 : decode cX5_init 740 = .ok (.bipush 115, 2) := dk_16 115 (dk_at dksX5_init_30 22 rfl rfl)
theorem dX5_init_742 : decode cX5_init 742 = .ok (.bipush 110, 2) := dk_16 110 (dk_at dksX5_init_31 0 rfl rfl)
theorem dX5_init_744 : decode cX5_init 744 = .ok (.iastore, 1) := dk_79 (dk_at dksX5_init_31 2 rfl rfl)
theorem dX5_init_745 : decode cX5_init 745 = .ok (.dup, 1) := dk_89 (dk_at dksX5_init_31 3 rfl rfl)
theorem dX5_init_746 : decode cX5_init 746 = .ok (.bipush 116, 2) := dk_16 116 (dk_at dksX5_init_31 4 rfl rfl)
theorem dX5_init_748 : decode cX5_init 748 = .ok (.bipush 32, 2) := dk_16 32 (dk_at dksX5_init_31 6 rfl rfl)
theorem dX5_init_750 : decode cX5_init 750 = .ok (.iastore, 1) := dk_79 (dk_at dksX5_init_31 8 rfl rfl)
theorem dX5_init_751 : decode cX5_init 751 = .ok (.dup, 1) := dk_89 (dk_at dksX5_init_31 9 rfl rfl)
theorem dX5_init_752 : decode cX5_init 752 = .ok (.bipush 117, 2) := dk_16 117 (dk_at dksX5_init_31 10 rfl rfl)
theorem dX5_init_754 : decode cX5_init 754 = .ok (.bipush 98, 2) := dk_16 98 (dk_at dksX5_init_31 12 rfl rfl)
theorem dX5_init_756 : decode cX5_init 756 = .ok (.iastore, 1) := dk_79 (dk_at dksX5_init_31 14 rfl rfl)
theorem dX5_init_757 : decode cX5_init 757 = .ok (.dup, 1) := dk_89 (dk_at dksX5_init_31 15 rfl rfl)
theorem dX5_init_758 : decode cX5_init 758 = .ok (.bipush 118, 2) := dk_16 118 (dk_at dksX5_init_31 16 rfl rfl)
theorem dX5_init_760 : decode cX5_init 760 = .ok (.bipush 111, 2) := dk_16 111 (dk_at dksX5_init_31 18 rfl rfl)
theorem dX5_init_762 : decode cX5_init 762 = .ok (.iastore, 1) := dk_79 (dk_at dksX5_init_31 20 rfl rfl)
theorem dX5_init_763 : decode cX5_init 763 = .ok (.dup, 1) := dk_89 (dk_at dksX5_init_31 21 rfl rfl)
theorem dX5_init_764 : decode cX5_init 764 = .ok (.bipush 119, 2) := dk_16 119 (dk_at dksX5_init_31 22 rfl rfl)
theorem dX5_init_766 : decode cX5_init 766 = .ok (.bipush 105, 2) := dk_16 105 (dk_at dksX5_init_32 0 rfl rfl)
theorem dX5_init_768 : decode cX5_init 768 = .ok (.iastore, 1) := dk_79 (dk_at dksX5_init_32 2 rfl rfl)
theorem dX5_init_769 : decode cX5_init 769 = .ok (.dup, 1) := dk_89 (dk_at dksX5_init_32 3 rfl rfl)
theorem dX5_init_770 : decode cX5_init 770 = .ok (.bipush 120, 2) := dk_16 120 (dk_at dksX5_init_32 4 rfl rfl)
theorem dX5_init_772 : decode cX5_init 772 = .ok (.bipush 108, 2) := dk_16 108 (dk_at dksX5_init_32 6 rfl rfl)
theorem dX5_init_774 : decode cX5_init 774 = .ok (.iastore, 1) := dk_79 (dk_at dksX5_init_32 8 rfl rfl)
theorem dX5_init_775 : decode cX5_init 775 = .ok (.dup, 1) := dk_89 (dk_at dksX5_init_32 9 rfl rfl)
theorem dX5_init_776 : decode cX5_init 776 = .ok (.bipush 121, 2) := dk_16 121 (dk_at dksX5_init_32 10 rfl rfl)
theorem dX5_init_778 : decode cX5_init 778 = .ok (.bipush 32, 2) := dk_16 32 (dk_at dksX5_init_32 12 rfl rfl)
theorem dX5_init_780 : decode cX5_init 780 = .ok (.iastore, 1) := dk_79 (dk_at dksX5_init_32 14 rfl rfl)
theorem dX5_init_781 : decode cX5_init 781 = .ok (.dup, 1) := dk_89 (dk_at dksX5_init_32 15 rfl rfl)
theorem dX5_init_782 : decode cX5_init 782 = .ok (.bipush 122, 2) := dk_16 122 (dk_at dksX5_init_32 16 rfl rfl)
theorem dX5_init_784 : decode cX5_init 784 = .ok (.bipush 99, 2) := dk_16 99 (dk_at dksX5_init_32 18 rfl rfl)
theorem dX5_init_786 : decode cX5_init 786 = .ok (.iastore, 1) := dk_79 (dk_at dksX5_init_32 20 rfl rfl)
theorem dX5_init_787 : decode cX5_init 787 = .ok (.dup, 1) := dk_89 (dk_at dksX5_init_32 21 rfl rfl)
theorem dX5_init_788 : decode cX5_init 788 = .ok (.bipush 123, 2) := dk_16 123 (dk_at dksX5_init_32 22 rfl rfl)
theorem dX5_init_790 : decode cX5_init 790 = .ok (.bipush 104, 2) := dk_16 104 (dk_at dksX5_init_33 0 rfl rfl)
theorem dX5_init_792 : decode cX5_init 792 = .ok (.iastore, 1) := dk_79 (dk_at dksX5_init_33 2 rfl rfl)
theorem dX5_init_793 : decode cX5_init 793 = .ok (.dup, 1) := dk_89 (dk_at dksX5_init_33 3 rfl rfl)
theorem dX5_init_794 : decode cX5_init 794 = .ok (.bipush 124, 2) := dk_16 124 (dk_at dksX5_init_33 4 rfl rfl)
theorem dX5_init_796 : decode cX5_init 796 = .ok (.bipush 101, 2) := dk_16 101 (dk_at dksX5_init_33 6 rfl rfl)
theorem dX5_init_798 : decode cX5_init 798 = .ok (.iastore, 1) := dk_79 (dk_at dksX5_init_33 8 rfl rfl)
theorem dX5_init_799 : decode cX5_init 799 = .ok (.dup, 1) := dk_89 (dk_at dksX5_init_33 9 rfl rfl)
theorem dX5_init_800 : decode cX5_init 800 = .ok (.bipush 125, 2) := dk_16 125 (dk_at dksX5_init_33 10 rfl rfl)
theorem dX5_init_802 : decode cX5_init 802 = .ok (.bipush 101, 2) := dk_16 101 (dk_at dksX5_init_33 12 rfl rfl)
theorem dX5_init_804 : decode cX5_init 804 = .ok (.iastore, 1) := dk_79 (dk_at dksX5_init_33 14 rfl rfl)
theorem dX5_init_805 : decode cX5_init 805 = .ok (.dup, 1) := dk_89 (dk_at dksX5_init_33 15 rfl rfl)
theorem dX5_init_806 : decode cX5_init 806 = .ok (.bipush 126, 2) := dk_16 126 (dk_at dksX5_init_33 16 rfl rfl)
theorem dX5_init_808 : decode cX5_init 808 = .ok (.bipush 115, 2) := dk_16 115 (dk_at dksX5_init_33 18 rfl rfl)
theorem dX5_init_810 : decode cX5_init 810 = .ok (.iastore, 1) := dk_79 (dk_at dksX5_init_33 20 rfl rfl)
theorem dX5_init_811 : decode cX5_init 811 = .ok (.dup, 1) := dk_89 (dk_at dksX5_init_33 21 rfl rfl)
theorem dX5_init_812 : decode cX5_init 812 = .ok (.bipush 127, 2) := dk_16 127 (dk_at dksX5_init_33 22 rfl rfl)
theorem dX5_init_814 : decode cX5_init 814 = .ok (.bipush 101, 2) := dk_16 101 (dk_at dksX5_init_34 0 rfl rfl)
theorem dX5_init_816 : decode cX5_init 816 = .ok (.iastore, 1) := dk_79 (dk_at dksX5_init_34 2 rfl rfl)
theorem dX5_init_817 : decode cX5_init 817 = .ok (.dup, 1) := dk_89 (dk_at dksX5_init_34 3 rfl rfl)
theorem dX5_init_818 : decode cX5_init 818 = .ok (.sipush 128, 3) := dk_17 0 128 (dk_at dksX5_init_34 4 rfl rfl)
theorem dX5_init_821 : decode cX5_init 821 = .ok (.bipush 32, 2) := dk_16 32 (dk_at dksX5_init_34 7 rfl rfl)
theorem dX5_init_823 : decode cX5_init 823 = .ok (.iastore, 1) := dk_79 (dk_at dksX5_init_34 9 rfl rfl)
theorem dX5_init_824 : decode cX5_init 824 = .ok (.putfield 25, 3) := dk_181 0 25 (dk_at dksX5_init_34 10 rfl rfl)
theorem dX5_init_827 : decode cX5_init 827 = .ok (.aload_n 0, 1) := dk_42 (dk_at dksX5_init_34 13 rfl rfl)
theorem dX5_init_828 : decode cX5_init 828 = .ok (.iconst 2, 1) := dk_5 (dk_at dksX5_init_34 14 rfl rfl)
theorem dX5_init_829 : decode cX5_init 829 = .ok (.newarray .int, 2) := dk_188_10 (dk_at dksX5_init_34 15 rfl rfl)
theorem dX5_init_831 : decode cX5_init 831 = .ok (.putfield 28, 3) := dk_181 0 28 (dk_at dksX5_init_34 17 rfl rfl)
theorem dX5_init_834 : decode cX5_init 834 = .ok (.aload_n 0, 1) := dk_42 (dk_at dksX5_init_34 20 rfl rfl)
theorem dX5_init_835 : decode cX5_init 835 = .ok (.bipush 48, 2) := dk_16 48 (dk_at dksX5_init_34 21 rfl rfl)
theorem dX5_init_837 : decode cX5_init 837 = .ok (.newarray .int, 2) := dk_188_10 (dk_at dksX5_init_35 0 rfl rfl)
theorem dX5_init_839 : decode cX5_init 839 = .ok (.putfield 31, 3) := dk_181 0 31 (dk_at dksX5_init_35 2 rfl rfl)
theorem dX5_init_842 : decode cX5_init 842 = .ok (.aload_n 0, 1) := dk_42 (dk_at dksX5_init_35 5 rfl rfl)
theorem dX5_init_843 : decode cX5_init 843 = .ok (.bipush 48, 2) := dk_16 48 (dk_at dksX5_init_35 6 rfl rfl)
theorem dX5_init_845 : decode cX5_init 845 = .ok (.newarray .int, 2) := dk_188_10 (dk_at dksX5_init_35 8 rfl rfl)
theorem dX5_init_847 : decode cX5_init 847 = .ok (.putfield 34, 3) := dk_181 0 34 (dk_at dksX5_init_35 10 rfl rfl)
theorem dX5_init_850 : decode cX5_init 850 = .ok (.aload_n 0, 1) := dk_42 (dk_at dksX5_init_35 13 rfl rfl)
theorem dX5_init_851 : decode cX5_init 851 = .ok (.bipush 48, 2) := dk_16 48 (dk_at dksX5_init_35 14 rfl rfl)
theorem dX5_init_853 : decode cX5_init 853 = .ok (.newarray .int, 2) := dk_188_10 (dk_at dksX5_init_35 16 rfl rfl)
theorem dX5_init_855 : decode cX5_init 855 = .ok (.putfield 37, 3) := dk_181 0 37 (dk_at dksX5_init_35 18 rfl rfl)
theorem dX5_init_858 : decode cX5_init 858 = .ok (.aload_n 0, 1) := dk_42 (dk_at dksX5_init_35 21 rfl rfl)
theorem dX5_init_859 : decode cX5_init 859 = .ok (.bipush 48, 2) := dk_16 48 (dk_at dksX5_init_35 22 rfl rfl)
theorem dX5_init_861 : decode cX5_init 861 = .ok (.newarray .int, 2) := dk_188_10 (dk_at dksX5_init_36 0 rfl rfl)
theorem dX5_init_863 : decode cX5_init 863 = .ok (.putfield 40, 3) := dk_181 0 40 (dk_at dksX5_init_36 2 rfl rfl)
theorem dX5_init_866 : decode cX5_init 866 = .ok (.aload_n 0, 1) := dk_42 (dk_at dksX5_init_36 5 rfl rfl)
theorem dX5_init_867 : decode cX5_init 867 = .ok (.sipush 1200, 3) := dk_17 4 176 (dk_at dksX5_init_36 6 rfl rfl)
theorem dX5_init_870 : decode cX5_init 870 = .ok (.newarray .int, 2) := dk_188_10 (dk_at dksX5_init_36 9 rfl rfl)
theorem dX5_init_872 : decode cX5_init 872 = .ok (.putfield 43, 3) := dk_181 0 43 (dk_at dksX5_init_36 11 rfl rfl)
theorem dX5_init_875 : decode cX5_init 875 = .ok (.aload_n 0, 1) := dk_42 (dk_at dksX5_init_36 14 rfl rfl)
theorem dX5_init_876 : decode cX5_init 876 = .ok (.sipush 1200, 3) := dk_17 4 176 (dk_at dksX5_init_36 15 rfl rfl)
theorem dX5_init_879 : decode cX5_init 879 = .ok (.newarray .int, 2) := dk_188_10 (dk_at dksX5_init_36 18 rfl rfl)
theorem dX5_init_881 : decode cX5_init 881 = .ok (.putfield 46, 3) := dk_181 0 46 (dk_at dksX5_init_36 20 rfl rfl)
theorem dX5_init_884 : decode cX5_init 884 = .ok (.aload_n 0, 1) := dk_42 (dk_at dksX5_init_36 23 rfl rfl)
theorem dX5_init_885 : decode cX5_init 885 = .ok (.bipush 40, 2) := dk_16 40 (dk_at dksX5_init_37 0 rfl rfl)
theorem dX5_init_887 : decode cX5_init 887 = .ok (.newarray .int, 2) := dk_188_10 (dk_at dksX5_init_37 2 rfl rfl)
theorem dX5_init_889 : decode cX5_init 889 = .ok (.putfield 49, 3) := dk_181 0 49 (dk_at dksX5_init_37 4 rfl rfl)
theorem dX5_init_892 : decode cX5_init 892 = .ok (.aload_n 0, 1) := dk_42 (dk_at dksX5_init_37 7 rfl rfl)
theorem dX5_init_893 : decode cX5_init 893 = .ok (.iconst (-1), 1) := dk_2 (dk_at dksX5_init_37 8 rfl rfl)
theorem dX5_init_894 : decode cX5_init 894 = .ok (.putfield 52, 3) := dk_181 0 52 (dk_at dksX5_init_37 9 rfl rfl)
theorem dX5_init_897 : decode cX5_init 897 = .ok (.aload_n 0, 1) := dk_42 (dk_at dksX5_init_37 12 rfl rfl)
theorem dX5_init_898 : decode cX5_init 898 = .ok (.sipush 180, 3) := dk_17 0 180 (dk_at dksX5_init_37 13 rfl rfl)
theorem dX5_init_901 : decode cX5_init 901 = .ok (.newarray .int, 2) := dk_188_10 (dk_at dksX5_init_37 16 rfl rfl)
theorem dX5_init_903 : decode cX5_init 903 = .ok (.putfield 56, 3) := dk_181 0 56 (dk_at dksX5_init_37 18 rfl rfl)
theorem dX5_init_906 : decode cX5_init 906 = .ok (.aload_n 0, 1) := dk_42 (dk_at dksX5_init_37 21 rfl rfl)
theorem dX5_init_907 : decode cX5_init 907 = .ok (.sipush 128, 3) := dk_17 0 128 (dk_at dksX5_init_38 0 rfl rfl)
theorem dX5_init_910 : decode cX5_init 910 = .ok (.newarray .int, 2) := dk_188_10 (dk_at dksX5_init_38 3 rfl rfl)
theorem dX5_init_912 : decode cX5_init 912 = .ok (.putfield 59, 3) := dk_181 0 59 (dk_at dksX5_init_38 5 rfl rfl)
theorem dX5_init_915 : decode cX5_init 915 = .ok (.aload_n 0, 1) := dk_42 (dk_at dksX5_init_38 8 rfl rfl)
theorem dX5_init_916 : decode cX5_init 916 = .ok (.bipush 9, 2) := dk_16 9 (dk_at dksX5_init_38 9 rfl rfl)
theorem dX5_init_918 : decode cX5_init 918 = .ok (.newarray .int, 2) := dk_188_10 (dk_at dksX5_init_38 11 rfl rfl)
theorem dX5_init_920 : decode cX5_init 920 = .ok (.putfield 62, 3) := dk_181 0 62 (dk_at dksX5_init_38 13 rfl rfl)
theorem dX5_init_923 : decode cX5_init 923 = .ok (.aload_n 0, 1) := dk_42 (dk_at dksX5_init_38 16 rfl rfl)
theorem dX5_init_924 : decode cX5_init 924 = .ok (.sipush 420, 3) := dk_17 1 164 (dk_at dksX5_init_38 17 rfl rfl)
theorem dX5_init_927 : decode cX5_init 927 = .ok (.newarray .int, 2) := dk_188_10 (dk_at dksX5_init_38 20 rfl rfl)
theorem dX5_init_929 : decode cX5_init 929 = .ok (.putfield 65, 3) := dk_181 0 65 (dk_at dksX5_init_39 0 rfl rfl)
theorem dX5_init_932 : decode cX5_init 932 = .ok (.aload_n 0, 1) := dk_42 (dk_at dksX5_init_39 3 rfl rfl)
theorem dX5_init_933 : decode cX5_init 933 = .ok (.iconst 5, 1) := dk_8 (dk_at dksX5_init_39 4 rfl rfl)
theorem dX5_init_934 : decode cX5_init 934 = .ok (.newarray .int, 2) := dk_188_10 (dk_at dksX5_init_39 5 rfl rfl)
theorem dX5_init_936 : decode cX5_init 936 = .ok (.putfield 68, 3) := dk_181 0 68 (dk_at dksX5_init_39 7 rfl rfl)
theorem dX5_init_939 : decode cX5_init 939 = .ok (.aload_n 0, 1) := dk_42 (dk_at dksX5_init_39 10 rfl rfl)
theorem dX5_init_940 : decode cX5_init 940 = .ok (.iconst 5, 1) := dk_8 (dk_at dksX5_init_39 11 rfl rfl)
theorem dX5_init_941 : decode cX5_init 941 = .ok (.newarray .int, 2) := dk_188_10 (dk_at dksX5_init_39 12 rfl rfl)
theorem dX5_init_943 : decode cX5_init 943 = .ok (.putfield 71, 3) := dk_181 0 71 (dk_at dksX5_init_39 14 rfl rfl)
theorem dX5_init_946 : decode cX5_init 946 = .ok (.aload_n 0, 1) := dk_42 (dk_at dksX5_init_39 17 rfl rfl)
theorem dX5_init_947 : decode cX5_init 947 = .ok (.bipush 16, 2) := dk_16 16 (dk_at dksX5_init_39 18 rfl rfl)
theorem dX5_init_949 : decode cX5_init 949 = .ok (.newarray .int, 2) := dk_188_10 (dk_at dksX5_init_39 20 rfl rfl)
theorem dX5_init_951 : decode cX5_init 951 = .ok (.putfield 74, 3) := dk_181 0 74 (dk_at dksX5_init_40 0 rfl rfl)
theorem dX5_init_954 : decode cX5_init 954 = .ok (.aload_n 0, 1) := dk_42 (dk_at dksX5_init_40 3 rfl rfl)
theorem dX5_init_955 : decode cX5_init 955 = .ok (.bipush 100, 2) := dk_16 100 (dk_at dksX5_init_40 4 rfl rfl)
theorem dX5_init_957 : decode cX5_init 957 = .ok (.newarray .int, 2) := dk_188_10 (dk_at dksX5_init_40 6 rfl rfl)
theorem dX5_init_959 : decode cX5_init 959 = .ok (.putfield 77, 3) := dk_181 0 77 (dk_at dksX5_init_40 8 rfl rfl)
theorem dX5_init_962 : decode cX5_init 962 = .ok (.aload_n 0, 1) := dk_42 (dk_at dksX5_init_40 11 rfl rfl)
theorem dX5_init_963 : decode cX5_init 963 = .ok (.bipush 100, 2) := dk_16 100 (dk_at dksX5_init_40 12 rfl rfl)
theorem dX5_init_965 : decode cX5_init 965 = .ok (.newarray .int, 2) := dk_188_10 (dk_at dksX5_init_40 14 rfl rfl)
theorem dX5_init_967 : decode cX5_init 967 = .ok (.putfield 80, 3) := dk_181 0 80 (dk_at dksX5_init_40 16 rfl rfl)
theorem dX5_init_970 : decode cX5_init 970 = .ok (.aload_n 0, 1) := dk_42 (dk_at dksX5_init_40 19 rfl rfl)
theorem dX5_init_971 : decode cX5_init 971 = .ok (.sipush 1900, 3) := dk_17 7 108 (dk_at dksX5_init_40 20 rfl rfl)
theorem dX5_init_974 : decode cX5_init 974 = .ok (.newarray .int, 2) := dk_188_10 (dk_at dksX5_init_41 0 rfl rfl)
theorem dX5_init_976 : decode cX5_init 976 = .ok (.putfield 83, 3) := dk_181 0 83 (dk_at dksX5_init_41 2 rfl rfl)
theorem dX5_init_979 : decode cX5_init 979 = .ok (.return_, 1) := dk_177 (dk_at dksX5_init_41 5 rfl rfl)
abbrev cX5_undo : ByteArray := prog_22_method_10_code
def yX5_undo : MethodName := ⟨RX5, "undo", "()Z"⟩
def dkwX5_undo_2 : List UInt8 := [180, 0, 89, 104, 27, 96, 46, 79, 132, 1, 1, 167, 255, 225, 4, 172]
abbrev dktX5_undo_2 : List UInt8 := dkwX5_undo_2 ++ []
def dkwX5_undo_1 : List UInt8 := [3, 60, 27, 17, 0, 136, 162, 0, 30, 42, 180, 0, 7, 27, 42, 180, 0, 13, 17, 0, 136, 42]
abbrev dktX5_undo_1 : List UInt8 := dkwX5_undo_1 ++ dktX5_undo_2
def dkwX5_undo_0 : List UInt8 := [42, 3, 181, 0, 86, 42, 180, 0, 89, 154, 0, 5, 3, 172, 42, 42, 180, 0, 89, 4, 100, 181, 0, 89]
abbrev dktX5_undo_0 : List UInt8 := dkwX5_undo_0 ++ dktX5_undo_1
theorem dksX5_undo_0 : cX5_undo.data.toList.drop 0 = dktX5_undo_0 := by decide +kernel
theorem dksX5_undo_1 : cX5_undo.data.toList.drop 24 = dktX5_undo_1 := dk_seg dksX5_undo_0 24 rfl rfl
theorem dksX5_undo_2 : cX5_undo.data.toList.drop 46 = dktX5_undo_2 := dk_seg dksX5_undo_1 22 rfl rfl
theorem dX5_undo_0 : decode cX5_undo 0 = .ok (.aload_n 0, 1) := dk_42 (dk_at dksX5_undo_0 0 rfl rfl)
theorem dX5_undo_1 : decode cX5_undo 1 = .ok (.iconst 0, 1) := dk_3 (dk_at dksX5_undo_0 1 rfl rfl)
theorem dX5_undo_2 : decode cX5_undo 2 = .ok (.putfield 86, 3) := dk_181 0 86 (dk_at dksX5_undo_0 2 rfl rfl)
theorem dX5_undo_5 : decode cX5_undo 5 = .ok (.aload_n 0, 1) := dk_42 (dk_at dksX5_undo_0 5 rfl rfl)
theorem dX5_undo_6 : decode cX5_undo 6 = .ok (.getfield 89, 3) := dk_180 0 89 (dk_at dksX5_undo_0 6 rfl rfl)
theorem dX5_undo_9 : decode cX5_undo 9 = .ok (.ifCond .ne 5, 3) := dk_154 0 5 (dk_at dksX5_undo_0 9 rfl rfl)
theorem dX5_undo_12 : decode cX5_undo 12 = .ok (.iconst 0, 1) := dk_3 (dk_at dksX5_undo_0 12 rfl rfl)
theorem dX5_undo_13 : decode cX5_undo 13 = .ok (.ireturn, 1) := dk_172 (dk_at dksX5_undo_0 13 rfl rfl)
theorem dX5_undo_14 : decode cX5_undo 14 = .ok (.aload_n 0, 1) := dk_42 (dk_at dksX5_undo_0 14 rfl rfl)
theorem dX5_undo_15 : decode cX5_undo 15 = .ok (.aload_n 0, 1) := dk_42 (dk_at dksX5_undo_0 15 rfl rfl)
theorem dX5_undo_16 : decode cX5_undo 16 = .ok (.getfield 89, 3) := dk_180 0 89 (dk_at dksX5_undo_0 16 rfl rfl)
theorem dX5_undo_19 : decode cX5_undo 19 = .ok (.iconst 1, 1) := dk_4 (dk_at dksX5_undo_0 19 rfl rfl)
theorem dX5_undo_20 : decode cX5_undo 20 = .ok (.isub, 1) := dk_100 (dk_at dksX5_undo_0 20 rfl rfl)
theorem dX5_undo_21 : decode cX5_undo 21 = .ok (.putfield 89, 3) := dk_181 0 89 (dk_at dksX5_undo_0 21 rfl rfl)
theorem dX5_undo_24 : decode cX5_undo 24 = .ok (.iconst 0, 1) := dk_3 (dk_at dksX5_undo_1 0 rfl rfl)
theorem dX5_undo_25 : decode cX5_undo 25 = .ok (.istore_n 1, 1) := dk_60 (dk_at dksX5_undo_1 1 rfl rfl)
theorem dX5_undo_26 : decode cX5_undo 26 = .ok (.iload_n 1, 1) := dk_27 (dk_at dksX5_undo_1 2 rfl rfl)
theorem dX5_undo_27 : decode cX5_undo 27 = .ok (.sipush 136, 3) := dk_17 0 136 (dk_at dksX5_undo_1 3 rfl rfl)
theorem dX5_undo_30 : decode cX5_undo 30 = .ok (.if_icmp .ge 30, 3) := dk_162 0 30 (dk_at dksX5_undo_1 6 rfl rfl)
theorem dX5_undo_33 : decode cX5_undo 33 = .ok (.aload_n 0, 1) := dk_42 (dk_at dksX5_undo_1 9 rfl rfl)
theorem dX5_undo_34 : decode cX5_undo 34 = .ok (.getfield 7, 3) := dk_180 0 7 (dk_at dksX5_undo_1 10 rfl rfl)
theorem dX5_undo_37 : decode cX5_undo 37 = .ok (.iload_n 1, 1) := dk_27 (dk_at dksX5_undo_1 13 rfl rfl)
theorem dX5_undo_38 : decode cX5_undo 38 = .ok (.aload_n 0, 1) := dk_42 (dk_at dksX5_undo_1 14 rfl rfl)
theorem dX5_undo_39 : decode cX5_undo 39 = .ok (.getfield 13, 3) := dk_180 0 13 (dk_at dksX5_undo_1 15 rfl rfl)
theorem dX5_undo_42 : decode cX5_undo 42 = .ok (.sipush 136, 3) := dk_17 0 136 (dk_at dksX5_undo_1 18 rfl rfl)
theorem dX5_undo_45 : decode cX5_undo 45 = .ok (.aload_n 0, 1) := dk_42 (dk_at dksX5_undo_1 21 rfl rfl)
theorem dX5_undo_46 : decode cX5_undo 46 = .ok (.getfield 89, 3) := dk_180 0 89 (dk_at dksX5_undo_2 0 rfl rfl)
theorem dX5_undo_49 : decode cX5_undo 49 = .ok (.imul, 1) := dk_104 (dk_at dksX5_undo_2 3 rfl rfl)
theorem dX5_undo_50 : decode cX5_undo 50 = .ok (.iload_n 1, 1) := dk_27 (dk_at dksX5_undo_2 4 rfl rfl)
theorem dX5_undo_51 : decode cX5_undo 51 = .ok (.iadd, 1) := dk_96 (dk_at dksX5_undo_2 5 rfl rfl)
theorem dX5_undo_52 : decode cX5_undo 52 = .ok (.iaload, 1) := dk_46 (dk_at dksX5_undo_2 6 rfl rfl)
theorem dX5_undo_53 : decode cX5_undo 53 = .ok (.iastore, 1) := dk_79 (dk_at dksX5_undo_2 7 rfl rfl)
theorem dX5_undo_54 : decode cX5_undo 54 = .ok (.iinc 1 1, 3) := dk_132 1 1 (dk_at dksX5_undo_2 8 rfl rfl)
theorem dX5_undo_57 : decode cX5_undo 57 = .ok (.goto (-31), 3) := dk_167 255 225 (dk_at dksX5_undo_2 11 rfl rfl)
theorem dX5_undo_60 : decode cX5_undo 60 = .ok (.iconst 1, 1) := dk_4 (dk_at dksX5_undo_2 14 rfl rfl)
theorem dX5_undo_61 : decode cX5_undo 61 = .ok (.ireturn, 1) := dk_172 (dk_at dksX5_undo_2 15 rfl rfl)
abbrev cX5_state : ByteArray := prog_22_method_14_code
def yX5_state : MethodName := ⟨RX5, "state", "(I)I"⟩
def dkwX5_state_1 : List UInt8 := [28, 172]
abbrev dktX5_state_1 : List UInt8 := dkwX5_state_1 ++ []
def dkwX5_state_0 : List UInt8 := [42, 3, 181, 0, 86, 42, 180, 0, 7, 4, 46, 61, 42, 180, 0, 7, 4, 27, 79, 42, 3, 181, 0, 89]
abbrev dktX5_state_0 : List UInt8 := dkwX5_state_0 ++ dktX5_state_1
theorem dksX5_state_0 : cX5_state.data.toList.drop 0 = dktX5_state_0 := by decide +kernel
theorem dksX5_state_1 : cX5_state.data.toList.drop 24 = dktX5_state_1 := dk_seg dksX5_state_0 24 rfl rfl
theorem dX5_state_0 : decode cX5_state 0 = .ok (.aload_n 0, 1) := dk_42 (dk_at dksX5_state_0 0 rfl rfl)
theorem dX5_state_1 : decode cX5_state 1 = .ok (.iconst 0, 1) := dk_3 (dk_at dksX5_state_0 1 rfl rfl)
theorem dX5_state_2 : decode cX5_state 2 = .ok (.putfield 86, 3) := dk_181 0 86 (dk_at dksX5_state_0 2 rfl rfl)
theorem dX5_state_5 : decode cX5_state 5 = .ok (.aload_n 0, 1) := dk_42 (dk_at dksX5_state_0 5 rfl rfl)
theorem dX5_state_6 : decode cX5_state 6 = .ok (.getfield 7, 3) := dk_180 0 7 (dk_at dksX5_state_0 6 rfl rfl)
theorem dX5_state_9 : decode cX5_state 9 = .ok (.iconst 1, 1) := dk_4 (dk_at dksX5_state_0 9 rfl rfl)
theorem dX5_state_10 : decode cX5_state 10 = .ok (.iaload, 1) := dk_46 (dk_at dksX5_state_0 10 rfl rfl)
theorem dX5_state_11 : decode cX5_state 11 = .ok (.istore_n 2, 1) := dk_61 (dk_at dksX5_state_0 11 rfl rfl)
theorem dX5_state_12 : decode cX5_state 12 = .ok (.aload_n 0, 1) := dk_42 (dk_at dksX5_state_0 12 rfl rfl)
theorem dX5_state_13 : decode cX5_state 13 = .ok (.getfield 7, 3) := dk_180 0 7 (dk_at dksX5_state_0 13 rfl rfl)
theorem dX5_state_16 : decode cX5_state 16 = .ok (.iconst 1, 1) := dk_4 (dk_at dksX5_state_0 16 rfl rfl)
theorem dX5_state_17 : decode cX5_state 17 = .ok (.iload_n 1, 1) := dk_27 (dk_at dksX5_state_0 17 rfl rfl)
theorem dX5_state_18 : decode cX5_state 18 = .ok (.iastore, 1) := dk_79 (dk_at dksX5_state_0 18 rfl rfl)
theorem dX5_state_19 : decode cX5_state 19 = .ok (.aload_n 0, 1) := dk_42 (dk_at dksX5_state_0 19 rfl rfl)
theorem dX5_state_20 : decode cX5_state 20 = .ok (.iconst 0, 1) := dk_3 (dk_at dksX5_state_0 20 rfl rfl)
theorem dX5_state_21 : decode cX5_state 21 = .ok (.putfield 89, 3) := dk_181 0 89 (dk_at dksX5_state_0 21 rfl rfl)
theorem dX5_state_24 : decode cX5_state 24 = .ok (.iload_n 2, 1) := dk_28 (dk_at dksX5_state_1 0 rfl rfl)
theorem dX5_state_25 : decode cX5_state 25 = .ok (.ireturn, 1) := dk_172 (dk_at dksX5_state_1 1 rfl rfl)
abbrev cX5_party : ByteArray := prog_22_method_24_code
def yX5_party : MethodName := ⟨RX5, "party", "(I)I"⟩
def dkwX5_party_2 : List UInt8 := [96, 181, 0, 116, 42, 3, 181, 0, 89, 42, 180, 0, 116, 4, 100, 172]
abbrev dktX5_party_2 : List UInt8 := dkwX5_party_2 ++ []
def dkwX5_party_1 : List UInt8 := [160, 0, 5, 2, 172, 42, 180, 0, 7, 16, 15, 42, 180, 0, 116, 96, 27, 79, 42, 42, 180, 0, 116, 4]
abbrev dktX5_party_1 : List UInt8 := dkwX5_party_1 ++ dktX5_party_2
def dkwX5_party_0 : List UInt8 := [42, 3, 181, 0, 86, 42, 27, 3, 17, 3, 231, 182, 0, 126, 153, 0, 11, 42, 180, 0, 116, 8]
abbrev dktX5_party_0 : List UInt8 := dkwX5_party_0 ++ dktX5_party_1
theorem dksX5_party_0 : cX5_party.data.toList.drop 0 = dktX5_party_0 := by decide +kernel
theorem dksX5_party_1 : cX5_party.data.toList.drop 22 = dktX5_party_1 := dk_seg dksX5_party_0 22 rfl rfl
theorem dksX5_party_2 : cX5_party.data.toList.drop 46 = dktX5_party_2 := dk_seg dksX5_party_1 24 rfl rfl
theorem dX5_party_0 : decode cX5_party 0 = .ok (.aload_n 0, 1) := dk_42 (dk_at dksX5_party_0 0 rfl rfl)
theorem dX5_party_1 : decode cX5_party 1 = .ok (.iconst 0, 1) := dk_3 (dk_at dksX5_party_0 1 rfl rfl)
theorem dX5_party_2 : decode cX5_party 2 = .ok (.putfield 86, 3) := dk_181 0 86 (dk_at dksX5_party_0 2 rfl rfl)
theorem dX5_party_5 : decode cX5_party 5 = .ok (.aload_n 0, 1) := dk_42 (dk_at dksX5_party_0 5 rfl rfl)
theorem dX5_party_6 : decode cX5_party 6 = .ok (.iload_n 1, 1) := dk_27 (dk_at dksX5_party_0 6 rfl rfl)
theorem dX5_party_7 : decode cX5_party 7 = .ok (.iconst 0, 1) := dk_3 (dk_at dksX5_party_0 7 rfl rfl)
theorem dX5_party_8 : decode cX5_party 8 = .ok (.sipush 999, 3) := dk_17 3 231 (dk_at dksX5_party_0 8 rfl rfl)
theorem dX5_party_11 : decode cX5_party 11 = .ok (.invokevirtual 126, 3) := dk_182 0 126 (dk_at dksX5_party_0 11 rfl rfl)
theorem dX5_party_14 : decode cX5_party 14 = .ok (.ifCond .eq 11, 3) := dk_153 0 11 (dk_at dksX5_party_0 14 rfl rfl)
theorem dX5_party_17 : decode cX5_party 17 = .ok (.aload_n 0, 1) := dk_42 (dk_at dksX5_party_0 17 rfl rfl)
theorem dX5_party_18 : decode cX5_party 18 = .ok (.getfield 116, 3) := dk_180 0 116 (dk_at dksX5_party_0 18 rfl rfl)
theorem dX5_party_21 : decode cX5_party 21 = .ok (.iconst 5, 1) := dk_8 (dk_at dksX5_party_0 21 rfl rfl)
theorem dX5_party_22 : decode cX5_party 22 = .ok (.if_icmp .ne 5, 3) := dk_160 0 5 (dk_at dksX5_party_1 0 rfl rfl)
theorem dX5_party_25 : decode cX5_party 25 = .ok (.iconst (-1), 1) := dk_2 (dk_at dksX5_party_1 3 rfl rfl)
theorem dX5_party_26 : decode cX5_party 26 = .ok (.ireturn, 1) := dk_172 (dk_at dksX5_party_1 4 rfl rfl)
theorem dX5_party_27 : decode cX5_party 27 = .ok (.aload_n 0, 1) := dk_42 (dk_at dksX5_party_1 5 rfl rfl)
theorem dX5_party_28 : decode cX5_party 28 = .ok (.getfield 7, 3) := dk_180 0 7 (dk_at dksX5_party_1 6 rfl rfl)
theorem dX5_party_31 : decode cX5_party 31 = .ok (.bipush 15, 2) := dk_16 15 (dk_at dksX5_party_1 9 rfl rfl)
theorem dX5_party_33 : decode cX5_party 33 = .ok (.aload_n 0, 1) := dk_42 (dk_at dksX5_party_1 11 rfl rfl)
theorem dX5_party_34 : decode cX5_party 34 = .ok (.getfield 116, 3) := dk_180 0 116 (dk_at dksX5_party_1 12 rfl rfl)
theorem dX5_party_37 : decode cX5_party 37 = .ok (.iadd, 1) := dk_96 (dk_at dksX5_party_1 15 rfl rfl)
theorem dX5_party_38 : decode cX5_party 38 = .ok (.iload_n 1, 1) := dk_27 (dk_at dksX5_party_1 16 rfl rfl)
theorem dX5_party_39 : decode cX5_party 39 = .ok (.iastore, 1) := dk_79 (dk_at dksX5_party_1 17 rfl rfl)
theorem dX5_party_40 : decode cX5_party 40 = .ok (.aload_n 0, 1) := dk_42 (dk_at dksX5_party_1 18 rfl rfl)
theorem dX5_party_41 : decode cX5_party 41 = .ok (.aload_n 0, 1) := dk_42 (dk_at dksX5_party_1 19 rfl rfl)
theorem dX5_party_42 : decode cX5_party 42 = .ok (.getfield 116, 3) := dk_180 0 116 (dk_at dksX5_party_1 20 rfl rfl)
theorem dX5_party_45 : decode cX5_party 45 = .ok (.iconst 1, 1) := dk_4 (dk_at dksX5_party_1 23 rfl rfl)
theorem dX5_party_46 : decode cX5_party 46 = .ok (.iadd, 1) := dk_96 (dk_at dksX5_party_2 0 rfl rfl)
theorem dX5_party_47 : decode cX5_party 47 = .ok (.putfield 116, 3) := dk_181 0 116 (dk_at dksX5_party_2 1 rfl rfl)
theorem dX5_party_50 : decode cX5_party 50 = .ok (.aload_n 0, 1) := dk_42 (dk_at dksX5_party_2 4 rfl rfl)
theorem dX5_party_51 : decode cX5_party 51 = .ok (.iconst 0, 1) := dk_3 (dk_at dksX5_party_2 5 rfl rfl)
theorem dX5_party_52 : decode cX5_party 52 = .ok (.putfield 89, 3) := dk_181 0 89 (dk_at dksX5_party_2 6 rfl rfl)
theorem dX5_party_55 : decode cX5_party 55 = .ok (.aload_n 0, 1) := dk_42 (dk_at dksX5_party_2 9 rfl rfl)
theorem dX5_party_56 : decode cX5_party 56 = .ok (.getfield 116, 3) := dk_180 0 116 (dk_at dksX5_party_2 10 rfl rfl)
theorem dX5_party_59 : decode cX5_party 59 = .ok (.iconst 1, 1) := dk_4 (dk_at dksX5_party_2 13 rfl rfl)
theorem dX5_party_60 : decode cX5_party 60 = .ok (.isub, 1) := dk_100 (dk_at dksX5_party_2 14 rfl rfl)
theorem dX5_party_61 : decode cX5_party 61 = .ok (.ireturn, 1) := dk_172 (dk_at dksX5_party_2 15 rfl rfl)
abbrev cX5_isIn : ByteArray := prog_22_method_3_code
def yX5_isIn : MethodName := ⟨RX5, "isIn", "(III)Z"⟩
def dkwX5_isIn_0 : List UInt8 := [27, 28, 161, 0, 12, 27, 29, 163, 0, 7, 4, 167, 0, 4, 3, 172]
abbrev dktX5_isIn_0 : List UInt8 := dkwX5_isIn_0 ++ []
theorem dksX5_isIn_0 : cX5_isIn.data.toList.drop 0 = dktX5_isIn_0 := by decide +kernel
theorem dX5_isIn_0 : decode cX5_isIn 0 = .ok (.iload_n 1, 1) := dk_27 (dk_at dksX5_isIn_0 0 rfl rfl)
theorem dX5_isIn_1 : decode cX5_isIn 1 = .ok (.iload_n 2, 1) := dk_28 (dk_at dksX5_isIn_0 1 rfl rfl)
theorem dX5_isIn_2 : decode cX5_isIn 2 = .ok (.if_icmp .lt 12, 3) := dk_161 0 12 (dk_at dksX5_isIn_0 2 rfl rfl)
theorem dX5_isIn_5 : decode cX5_isIn 5 = .ok (.iload_n 1, 1) := dk_27 (dk_at dksX5_isIn_0 5 rfl rfl)
theorem dX5_isIn_6 : decode cX5_isIn 6 = .ok (.iload_n 3, 1) := dk_29 (dk_at dksX5_isIn_0 6 rfl rfl)
theorem dX5_isIn_7 : decode cX5_isIn 7 = .ok (.if_icmp .gt 7, 3) := dk_163 0 7 (dk_at dksX5_isIn_0 7 rfl rfl)
theorem dX5_isIn_10 : decode cX5_isIn 10 = .ok (.iconst 1, 1) := dk_4 (dk_at dksX5_isIn_0 10 rfl rfl)
theorem dX5_isIn_11 : decode cX5_isIn 11 = .ok (.goto 4, 3) := dk_167 0 4 (dk_at dksX5_isIn_0 11 rfl rfl)
theorem dX5_isIn_14 : decode cX5_isIn 14 = .ok (.iconst 0, 1) := dk_3 (dk_at dksX5_isIn_0 14 rfl rfl)
theorem dX5_isIn_15 : decode cX5_isIn 15 = .ok (.ireturn, 1) := dk_172 (dk_at dksX5_isIn_0 15 rfl rfl)
abbrev cX5_eater : ByteArray := prog_22_method_25_code
def yX5_eater : MethodName := ⟨RX5, "eater", "(I)I"⟩
def dkwX5_eater_2 : List UInt8 := [96, 181, 0, 119, 42, 3, 181, 0, 89, 42, 180, 0, 119, 4, 100, 172]
abbrev dktX5_eater_2 : List UInt8 := dkwX5_eater_2 ++ []
def dkwX5_eater_1 : List UInt8 := [160, 0, 5, 2, 172, 42, 180, 0, 7, 16, 76, 42, 180, 0, 119, 96, 27, 79, 42, 42, 180, 0, 119, 4]
abbrev dktX5_eater_1 : List UInt8 := dkwX5_eater_1 ++ dktX5_eater_2
def dkwX5_eater_0 : List UInt8 := [42, 3, 181, 0, 86, 42, 27, 3, 16, 20, 182, 0, 126, 153, 0, 12, 42, 180, 0, 119, 16, 10]
abbrev dktX5_eater_0 : List UInt8 := dkwX5_eater_0 ++ dktX5_eater_1
theorem dksX5_eater_0 : cX5_eater.data.toList.drop 0 = dktX5_eater_0 := by decide +kernel
theorem dksX5_eater_1 : cX5_eater.data.toList.drop 22 = dktX5_eater_1 := dk_seg dksX5_eater_0 22 rfl rfl
theorem dksX5_eater_2 : cX5_eater.data.toList.drop 46 = dktX5_eater_2 := dk_seg dksX5_eater_1 24 rfl rfl
theorem dX5_eater_0 : decode cX5_eater 0 = .ok (.aload_n 0, 1) := dk_42 (dk_at dksX5_eater_0 0 rfl rfl)
theorem dX5_eater_1 : decode cX5_eater 1 = .ok (.iconst 0, 1) := dk_3 (dk_at dksX5_eater_0 1 rfl rfl)
theorem dX5_eater_2 : decode cX5_eater 2 = .ok (.putfield 86, 3) := dk_181 0 86 (dk_at dksX5_eater_0 2 rfl rfl)
theorem dX5_eater_5 : decode cX5_eater 5 = .ok (.aload_n 0, 1) := dk_42 (dk_at dksX5_eater_0 5 rfl rfl)
theorem dX5_eater_6 : decode cX5_eater 6 = .ok (.iload_n 1, 1) := dk_27 (dk_at dksX5_eater_0 6 rfl rfl)
theorem dX5_eater_7 : decode cX5_eater 7 = .ok (.iconst 0, 1) := dk_3 (dk_at dksX5_eater_0 7 rfl rfl)
theorem dX5_eater_8 : decode cX5_eater 8 = .ok (.bipush 20, 2) := dk_16 20 (dk_at dksX5_eater_0 8 rfl rfl)
theorem dX5_eater_10 : decode cX5_eater 10 = .ok (.invokevirtual 126, 3) := dk_182 0 126 (dk_at dksX5_eater_0 10 rfl rfl)
theorem dX5_eater_13 : decode cX5_eater 13 = .ok (.ifCond .eq 12, 3) := dk_153 0 12 (dk_at dksX5_eater_0 13 rfl rfl)
theorem dX5_eater_16 : decode cX5_eater 16 = .ok (.aload_n 0, 1) := dk_42 (dk_at dksX5_eater_0 16 rfl rfl)
theorem dX5_eater_17 : decode cX5_eater 17 = .ok (.getfield 119, 3) := dk_180 0 119 (dk_at dksX5_eater_0 17 rfl rfl)
theorem dX5_eater_20 : decode cX5_eater 20 = .ok (.bipush 10, 2) := dk_16 10 (dk_at dksX5_eater_0 20 rfl rfl)
theorem dX5_eater_22 : decode cX5_eater 22 = .ok (.if_icmp .ne 5, 3) := dk_160 0 5 (dk_at dksX5_eater_1 0 rfl rfl)
theorem dX5_eater_25 : decode cX5_eater 25 = .ok (.iconst (-1), 1) := dk_2 (dk_at dksX5_eater_1 3 rfl rfl)
theorem dX5_eater_26 : decode cX5_eater 26 = .ok (.ireturn, 1) := dk_172 (dk_at dksX5_eater_1 4 rfl rfl)
theorem dX5_eater_27 : decode cX5_eater 27 = .ok (.aload_n 0, 1) := dk_42 (dk_at dksX5_eater_1 5 rfl rfl)
theorem dX5_eater_28 : decode cX5_eater 28 = .ok (.getfield 7, 3) := dk_180 0 7 (dk_at dksX5_eater_1 6 rfl rfl)
theorem dX5_eater_31 : decode cX5_eater 31 = .ok (.bipush 76, 2) := dk_16 76 (dk_at dksX5_eater_1 9 rfl rfl)
theorem dX5_eater_33 : decode cX5_eater 33 = .ok (.aload_n 0, 1) := dk_42 (dk_at dksX5_eater_1 11 rfl rfl)
theorem dX5_eater_34 : decode cX5_eater 34 = .ok (.getfield 119, 3) := dk_180 0 119 (dk_at dksX5_eater_1 12 rfl rfl)
theorem dX5_eater_37 : decode cX5_eater 37 = .ok (.iadd, 1) := dk_96 (dk_at dksX5_eater_1 15 rfl rfl)
theorem dX5_eater_38 : decode cX5_eater 38 = .ok (.iload_n 1, 1) := dk_27 (dk_at dksX5_eater_1 16 rfl rfl)
theorem dX5_eater_39 : decode cX5_eater 39 = .ok (.iastore, 1) := dk_79 (dk_at dksX5_eater_1 17 rfl rfl)
theorem dX5_eater_40 : decode cX5_eater 40 = .ok (.aload_n 0, 1) := dk_42 (dk_at dksX5_eater_1 18 rfl rfl)
theorem dX5_eater_41 : decode cX5_eater 41 = .ok (.aload_n 0, 1) := dk_42 (dk_at dksX5_eater_1 19 rfl rfl)
theorem dX5_eater_42 : decode cX5_eater 42 = .ok (.getfield 119, 3) := dk_180 0 119 (dk_at dksX5_eater_1 20 rfl rfl)
theorem dX5_eater_45 : decode cX5_eater 45 = .ok (.iconst 1, 1) := dk_4 (dk_at dksX5_eater_1 23 rfl rfl)
theorem dX5_eater_46 : decode cX5_eater 46 = .ok (.iadd, 1) := dk_96 (dk_at dksX5_eater_2 0 rfl rfl)
theorem dX5_eater_47 : decode cX5_eater 47 = .ok (.putfield 119, 3) := dk_181 0 119 (dk_at dksX5_eater_2 1 rfl rfl)
theorem dX5_eater_50 : decode cX5_eater 50 = .ok (.aload_n 0, 1) := dk_42 (dk_at dksX5_eater_2 4 rfl rfl)
theorem dX5_eater_51 : decode cX5_eater 51 = .ok (.iconst 0, 1) := dk_3 (dk_at dksX5_eater_2 5 rfl rfl)
theorem dX5_eater_52 : decode cX5_eater 52 = .ok (.putfield 89, 3) := dk_181 0 89 (dk_at dksX5_eater_2 6 rfl rfl)
theorem dX5_eater_55 : decode cX5_eater 55 = .ok (.aload_n 0, 1) := dk_42 (dk_at dksX5_eater_2 9 rfl rfl)
theorem dX5_eater_56 : decode cX5_eater 56 = .ok (.getfield 119, 3) := dk_180 0 119 (dk_at dksX5_eater_2 10 rfl rfl)
theorem dX5_eater_59 : decode cX5_eater 59 = .ok (.iconst 1, 1) := dk_4 (dk_at dksX5_eater_2 13 rfl rfl)
theorem dX5_eater_60 : decode cX5_eater 60 = .ok (.isub, 1) := dk_100 (dk_at dksX5_eater_2 14 rfl rfl)
theorem dX5_eater_61 : decode cX5_eater 61 = .ok (.ireturn, 1) := dk_172 (dk_at dksX5_eater_2 15 rfl rfl)
abbrev cX5_taste : ByteArray := prog_22_method_26_code
def yX5_taste : MethodName := ⟨RX5, "taste", "(III)Z"⟩
def dkwX5_taste_1 : List UInt8 := [16, 9, 182, 0, 126, 154, 0, 5, 3, 172, 42, 27, 28, 29, 182, 0, 137, 42, 3, 181, 0, 89, 4, 172]
abbrev dktX5_taste_1 : List UInt8 := dkwX5_taste_1 ++ []
def dkwX5_taste_0 : List UInt8 := [42, 3, 181, 0, 86, 42, 27, 182, 0, 130, 153, 0, 22, 42, 28, 182, 0, 134, 153, 0, 14, 42, 29, 3]
abbrev dktX5_taste_0 : List UInt8 := dkwX5_taste_0 ++ dktX5_taste_1
theorem dksX5_taste_0 : cX5_taste.data.toList.drop 0 = dktX5_taste_0 := by decide +kernel
theorem dksX5_taste_1 : cX5_taste.data.toList.drop 24 = dktX5_taste_1 := dk_seg dksX5_taste_0 24 rfl rfl
theorem dX5_taste_0 : decode cX5_taste 0 = .ok (.aload_n 0, 1) := dk_42 (dk_at dksX5_taste_0 0 rfl rfl)
theorem dX5_taste_1 : decode cX5_taste 1 = .ok (.iconst 0, 1) := dk_3 (dk_at dksX5_taste_0 1 rfl rfl)
theorem dX5_taste_2 : decode cX5_taste 2 = .ok (.putfield 86, 3) := dk_181 0 86 (dk_at dksX5_taste_0 2 rfl rfl)
theorem dX5_taste_5 : decode cX5_taste 5 = .ok (.aload_n 0, 1) := dk_42 (dk_at dksX5_taste_0 5 rfl rfl)
theorem dX5_taste_6 : decode cX5_taste 6 = .ok (.iload_n 1, 1) := dk_27 (dk_at dksX5_taste_0 6 rfl rfl)
theorem dX5_taste_7 : decode cX5_taste 7 = .ok (.invokevirtual 130, 3) := dk_182 0 130 (dk_at dksX5_taste_0 7 rfl rfl)
theorem dX5_taste_10 : decode cX5_taste 10 = .ok (.ifCond .eq 22, 3) := dk_153 0 22 (dk_at dksX5_taste_0 10 rfl rfl)
theorem dX5_taste_13 : decode cX5_taste 13 = .ok (.aload_n 0, 1) := dk_42 (dk_at dksX5_taste_0 13 rfl rfl)
theorem dX5_taste_14 : decode cX5_taste 14 = .ok (.iload_n 2, 1) := dk_28 (dk_at dksX5_taste_0 14 rfl rfl)
theorem dX5_taste_15 : decode cX5_taste 15 = .ok (.invokevirtual 134, 3) := dk_182 0 134 (dk_at dksX5_taste_0 15 rfl rfl)
theorem dX5_taste_18 : decode cX5_taste 18 = .ok (.ifCond .eq 14, 3) := dk_153 0 14 (dk_at dksX5_taste_0 18 rfl rfl)
theorem dX5_taste_21 : decode cX5_taste 21 = .ok (.aload_n 0, 1) := dk_42 (dk_at dksX5_taste_0 21 rfl rfl)
theorem dX5_taste_22 : decode cX5_taste 22 = .ok (.iload_n 3, 1) := dk_29 (dk_at dksX5_taste_0 22 rfl rfl)
theorem dX5_taste_23 : decode cX5_taste 23 = .ok (.iconst 0, 1) := dk_3 (dk_at dksX5_taste_0 23 rfl rfl)
theorem dX5_taste_24 : decode cX5_taste 24 = .ok (.bipush 9, 2) := dk_16 9 (dk_at dksX5_taste_1 0 rfl rfl)
theorem dX5_taste_26 : decode cX5_taste 26 = .ok (.invokevirtual 126, 3) := dk_182 0 126 (dk_at dksX5_taste_1 2 rfl rfl)
theorem dX5_taste_29 : decode cX5_taste 29 = .ok (.ifCond .ne 5, 3) := dk_154 0 5 (dk_at dksX5_taste_1 5 rfl rfl)
theorem dX5_taste_32 : decode cX5_taste 32 = .ok (.iconst 0, 1) := dk_3 (dk_at dksX5_taste_1 8 rfl rfl)
theorem dX5_taste_33 : decode cX5_taste 33 = .ok (.ireturn, 1) := dk_172 (dk_at dksX5_taste_1 9 rfl rfl)
theorem dX5_taste_34 : decode cX5_taste 34 = .ok (.aload_n 0, 1) := dk_42 (dk_at dksX5_taste_1 10 rfl rfl)
theorem dX5_taste_35 : decode cX5_taste 35 = .ok (.iload_n 1, 1) := dk_27 (dk_at dksX5_taste_1 11 rfl rfl)
theorem dX5_taste_36 : decode cX5_taste 36 = .ok (.iload_n 2, 1) := dk_28 (dk_at dksX5_taste_1 12 rfl rfl)
theorem dX5_taste_37 : decode cX5_taste 37 = .ok (.iload_n 3, 1) := dk_29 (dk_at dksX5_taste_1 13 rfl rfl)
theorem dX5_taste_38 : decode cX5_taste 38 = .ok (.invokevirtual 137, 3) := dk_182 0 137 (dk_at dksX5_taste_1 14 rfl rfl)
theorem dX5_taste_41 : decode cX5_taste 41 = .ok (.aload_n 0, 1) := dk_42 (dk_at dksX5_taste_1 17 rfl rfl)
theorem dX5_taste_42 : decode cX5_taste 42 = .ok (.iconst 0, 1) := dk_3 (dk_at dksX5_taste_1 18 rfl rfl)
theorem dX5_taste_43 : decode cX5_taste 43 = .ok (.putfield 89, 3) := dk_181 0 89 (dk_at dksX5_taste_1 19 rfl rfl)
theorem dX5_taste_46 : decode cX5_taste 46 = .ok (.iconst 1, 1) := dk_4 (dk_at dksX5_taste_1 22 rfl rfl)
theorem dX5_taste_47 : decode cX5_taste 47 = .ok (.ireturn, 1) := dk_172 (dk_at dksX5_taste_1 23 rfl rfl)
abbrev cX5_isEater : ByteArray := prog_22_method_19_code
def yX5_isEater : MethodName := ⟨RX5, "isEater", "(I)Z"⟩
def dkwX5_isEater_0 : List UInt8 := [27, 155, 0, 15, 27, 42, 180, 0, 119, 162, 0, 7, 4, 167, 0, 4, 3, 172]
abbrev dktX5_isEater_0 : List UInt8 := dkwX5_isEater_0 ++ []
theorem dksX5_isEater_0 : cX5_isEater.data.toList.drop 0 = dktX5_isEater_0 := by decide +kernel
theorem dX5_isEater_0 : decode cX5_isEater 0 = .ok (.iload_n 1, 1) := dk_27 (dk_at dksX5_isEater_0 0 rfl rfl)
theorem dX5_isEater_1 : decode cX5_isEater 1 = .ok (.ifCond .lt 15, 3) := dk_155 0 15 (dk_at dksX5_isEater_0 1 rfl rfl)
theorem dX5_isEater_4 : decode cX5_isEater 4 = .ok (.iload_n 1, 1) := dk_27 (dk_at dksX5_isEater_0 4 rfl rfl)
theorem dX5_isEater_5 : decode cX5_isEater 5 = .ok (.aload_n 0, 1) := dk_42 (dk_at dksX5_isEater_0 5 rfl rfl)
theorem dX5_isEater_6 : decode cX5_isEater 6 = .ok (.getfield 119, 3) := dk_180 0 119 (dk_at dksX5_isEater_0 6 rfl rfl)
theorem dX5_isEater_9 : decode cX5_isEater 9 = .ok (.if_icmp .ge 7, 3) := dk_162 0 7 (dk_at dksX5_isEater_0 9 rfl rfl)
theorem dX5_isEater_12 : decode cX5_isEater 12 = .ok (.iconst 1, 1) := dk_4 (dk_at dksX5_isEater_0 12 rfl rfl)
theorem dX5_isEater_13 : decode cX5_isEater 13 = .ok (.goto 4, 3) := dk_167 0 4 (dk_at dksX5_isEater_0 13 rfl rfl)
theorem dX5_isEater_16 : decode cX5_isEater 16 = .ok (.iconst 0, 1) := dk_3 (dk_at dksX5_isEater_0 16 rfl rfl)
theorem dX5_isEater_17 : decode cX5_isEater 17 = .ok (.ireturn, 1) := dk_172 (dk_at dksX5_isEater_0 17 rfl rfl)
abbrev cX5_isParty : ByteArray := prog_22_method_18_code
def yX5_isParty : MethodName := ⟨RX5, "isParty", "(I)Z"⟩
def dkwX5_isParty_0 : List UInt8 := [27, 155, 0, 15, 27, 42, 180, 0, 116, 162, 0, 7, 4, 167, 0, 4, 3, 172]
abbrev dktX5_isParty_0 : List UInt8 := dkwX5_isParty_0 ++ []
theorem dksX5_isParty_0 : cX5_isParty.data.toList.drop 0 = dktX5_isParty_0 := by decide +kernel
theorem dX5_isParty_0 : decode cX5_isParty 0 = .ok (.iload_n 1, 1) := dk_27 (dk_at dksX5_isParty_0 0 rfl rfl)
theorem dX5_isParty_1 : decode cX5_isParty 1 = .ok (.ifCond .lt 15, 3) := dk_155 0 15 (dk_at dksX5_isParty_0 1 rfl rfl)
theorem dX5_isParty_4 : decode cX5_isParty 4 = .ok (.iload_n 1, 1) := dk_27 (dk_at dksX5_isParty_0 4 rfl rfl)
theorem dX5_isParty_5 : decode cX5_isParty 5 = .ok (.aload_n 0, 1) := dk_42 (dk_at dksX5_isParty_0 5 rfl rfl)
theorem dX5_isParty_6 : decode cX5_isParty 6 = .ok (.getfield 116, 3) := dk_180 0 116 (dk_at dksX5_isParty_0 6 rfl rfl)
theorem dX5_isParty_9 : decode cX5_isParty 9 = .ok (.if_icmp .ge 7, 3) := dk_162 0 7 (dk_at dksX5_isParty_0 9 rfl rfl)
theorem dX5_isParty_12 : decode cX5_isParty 12 = .ok (.iconst 1, 1) := dk_4 (dk_at dksX5_isParty_0 12 rfl rfl)
theorem dX5_isParty_13 : decode cX5_isParty 13 = .ok (.goto 4, 3) := dk_167 0 4 (dk_at dksX5_isParty_0 13 rfl rfl)
theorem dX5_isParty_16 : decode cX5_isParty 16 = .ok (.iconst 0, 1) := dk_3 (dk_at dksX5_isParty_0 16 rfl rfl)
theorem dX5_isParty_17 : decode cX5_isParty 17 = .ok (.ireturn, 1) := dk_172 (dk_at dksX5_isParty_0 17 rfl rfl)
abbrev cX5_tasteBe : ByteArray := prog_22_method_23_code
def yX5_tasteBe : MethodName := ⟨RX5, "tasteBe", "(III)V"⟩
def dkwX5_tasteBe_0 : List UInt8 := [42, 180, 0, 7, 16, 86, 8, 27, 104, 96, 28, 96, 42, 29, 3, 16, 9, 182, 0, 122, 8, 100, 79, 177]
abbrev dktX5_tasteBe_0 : List UInt8 := dkwX5_tasteBe_0 ++ []
theorem dksX5_tasteBe_0 : cX5_tasteBe.data.toList.drop 0 = dktX5_tasteBe_0 := by decide +kernel
theorem dX5_tasteBe_0 : decode cX5_tasteBe 0 = .ok (.aload_n 0, 1) := dk_42 (dk_at dksX5_tasteBe_0 0 rfl rfl)
theorem dX5_tasteBe_1 : decode cX5_tasteBe 1 = .ok (.getfield 7, 3) := dk_180 0 7 (dk_at dksX5_tasteBe_0 1 rfl rfl)
theorem dX5_tasteBe_4 : decode cX5_tasteBe 4 = .ok (.bipush 86, 2) := dk_16 86 (dk_at dksX5_tasteBe_0 4 rfl rfl)
theorem dX5_tasteBe_6 : decode cX5_tasteBe 6 = .ok (.iconst 5, 1) := dk_8 (dk_at dksX5_tasteBe_0 6 rfl rfl)
theorem dX5_tasteBe_7 : decode cX5_tasteBe 7 = .ok (.iload_n 1, 1) := dk_27 (dk_at dksX5_tasteBe_0 7 rfl rfl)
theorem dX5_tasteBe_8 : decode cX5_tasteBe 8 = .ok (.imul, 1) := dk_104 (dk_at dksX5_tasteBe_0 8 rfl rfl)
theorem dX5_tasteBe_9 : decode cX5_tasteBe 9 = .ok (.iadd, 1) := dk_96 (dk_at dksX5_tasteBe_0 9 rfl rfl)
theorem dX5_tasteBe_10 : decode cX5_tasteBe 10 = .ok (.iload_n 2, 1) := dk_28 (dk_at dksX5_tasteBe_0 10 rfl rfl)
theorem dX5_tasteBe_11 : decode cX5_tasteBe 11 = .ok (.iadd, 1) := dk_96 (dk_at dksX5_tasteBe_0 11 rfl rfl)
theorem dX5_tasteBe_12 : decode cX5_tasteBe 12 = .ok (.aload_n 0, 1) := dk_42 (dk_at dksX5_tasteBe_0 12 rfl rfl)
theorem dX5_tasteBe_13 : decode cX5_tasteBe 13 = .ok (.iload_n 3, 1) := dk_29 (dk_at dksX5_tasteBe_0 13 rfl rfl)
theorem dX5_tasteBe_14 : decode cX5_tasteBe 14 = .ok (.iconst 0, 1) := dk_3 (dk_at dksX5_tasteBe_0 14 rfl rfl)
theorem dX5_tasteBe_15 : decode cX5_tasteBe 15 = .ok (.bipush 9, 2) := dk_16 9 (dk_at dksX5_tasteBe_0 15 rfl rfl)
theorem dX5_tasteBe_17 : decode cX5_tasteBe 17 = .ok (.invokevirtual 122, 3) := dk_182 0 122 (dk_at dksX5_tasteBe_0 17 rfl rfl)
theorem dX5_tasteBe_20 : decode cX5_tasteBe 20 = .ok (.iconst 5, 1) := dk_8 (dk_at dksX5_tasteBe_0 20 rfl rfl)
theorem dX5_tasteBe_21 : decode cX5_tasteBe 21 = .ok (.isub, 1) := dk_100 (dk_at dksX5_tasteBe_0 21 rfl rfl)
theorem dX5_tasteBe_22 : decode cX5_tasteBe 22 = .ok (.iastore, 1) := dk_79 (dk_at dksX5_tasteBe_0 22 rfl rfl)
theorem dX5_tasteBe_23 : decode cX5_tasteBe 23 = .ok (.return_, 1) := dk_177 (dk_at dksX5_tasteBe_0 23 rfl rfl)
abbrev cX5_held : ByteArray := prog_22_method_4_code
def yX5_held : MethodName := ⟨RX5, "held", "(III)I"⟩
def dkwX5_held_0 : List UInt8 := [27, 28, 162, 0, 7, 28, 167, 0, 13, 27, 29, 164, 0, 7, 29, 167, 0, 4, 27, 172]
abbrev dktX5_held_0 : List UInt8 := dkwX5_held_0 ++ []
theorem dksX5_held_0 : cX5_held.data.toList.drop 0 = dktX5_held_0 := by decide +kernel
theorem dX5_held_0 : decode cX5_held 0 = .ok (.iload_n 1, 1) := dk_27 (dk_at dksX5_held_0 0 rfl rfl)
theorem dX5_held_1 : decode cX5_held 1 = .ok (.iload_n 2, 1) := dk_28 (dk_at dksX5_held_0 1 rfl rfl)
theorem dX5_held_2 : decode cX5_held 2 = .ok (.if_icmp .ge 7, 3) := dk_162 0 7 (dk_at dksX5_held_0 2 rfl rfl)
theorem dX5_held_5 : decode cX5_held 5 = .ok (.iload_n 2, 1) := dk_28 (dk_at dksX5_held_0 5 rfl rfl)
theorem dX5_held_6 : decode cX5_held 6 = .ok (.goto 13, 3) := dk_167 0 13 (dk_at dksX5_held_0 6 rfl rfl)
theorem dX5_held_9 : decode cX5_held 9 = .ok (.iload_n 1, 1) := dk_27 (dk_at dksX5_held_0 9 rfl rfl)
theorem dX5_held_10 : decode cX5_held 10 = .ok (.iload_n 3, 1) := dk_29 (dk_at dksX5_held_0 10 rfl rfl)
theorem dX5_held_11 : decode cX5_held 11 = .ok (.if_icmp .le 7, 3) := dk_164 0 7 (dk_at dksX5_held_0 11 rfl rfl)
theorem dX5_held_14 : decode cX5_held 14 = .ok (.iload_n 3, 1) := dk_29 (dk_at dksX5_held_0 14 rfl rfl)
theorem dX5_held_15 : decode cX5_held 15 = .ok (.goto 4, 3) := dk_167 0 4 (dk_at dksX5_held_0 15 rfl rfl)
theorem dX5_held_18 : decode cX5_held 18 = .ok (.iload_n 1, 1) := dk_27 (dk_at dksX5_held_0 18 rfl rfl)
theorem dX5_held_19 : decode cX5_held 19 = .ok (.ireturn, 1) := dk_172 (dk_at dksX5_held_0 19 rfl rfl)
abbrev cX5_set : ByteArray := prog_22_method_28_code
def yX5_set : MethodName := ⟨RX5, "set", "(III)Z"⟩
def dkwX5_set_5 : List UInt8 := [28, 96, 29, 79, 42, 3, 181, 0, 89, 4, 172]
abbrev dktX5_set_5 : List UInt8 := dkwX5_set_5 ++ []
def dkwX5_set_4 : List UInt8 := [160, 0, 13, 42, 180, 0, 7, 16, 15, 28, 96, 29, 79, 27, 16, 7, 160, 0, 12, 42, 180, 0, 7, 8]
abbrev dktX5_set_4 : List UInt8 := dkwX5_set_4 ++ dktX5_set_5
def dkwX5_set_3 : List UInt8 := [16, 62, 28, 96, 29, 79, 27, 8, 160, 0, 13, 42, 180, 0, 7, 16, 76, 28, 96, 29, 79, 27, 16, 6]
abbrev dktX5_set_3 : List UInt8 := dkwX5_set_3 ++ dktX5_set_4
def dkwX5_set_2 : List UInt8 := [181, 0, 110, 27, 6, 160, 0, 10, 42, 29, 7, 100, 181, 0, 113, 27, 7, 160, 0, 13, 42, 180, 0, 7]
abbrev dktX5_set_2 : List UInt8 := dkwX5_set_2 ++ dktX5_set_3
def dkwX5_set_1 : List UInt8 := [181, 0, 147, 27, 4, 160, 0, 8, 42, 29, 181, 0, 150, 27, 5, 160, 0, 11, 42, 29, 16, 9, 100]
abbrev dktX5_set_1 : List UInt8 := dkwX5_set_1 ++ dktX5_set_2
def dkwX5_set_0 : List UInt8 := [42, 3, 181, 0, 86, 42, 27, 28, 29, 182, 0, 144, 154, 0, 5, 3, 172, 27, 154, 0, 8, 42, 29]
abbrev dktX5_set_0 : List UInt8 := dkwX5_set_0 ++ dktX5_set_1
theorem dksX5_set_0 : cX5_set.data.toList.drop 0 = dktX5_set_0 := by decide +kernel
theorem dksX5_set_1 : cX5_set.data.toList.drop 23 = dktX5_set_1 := dk_seg dksX5_set_0 23 rfl rfl
theorem dksX5_set_2 : cX5_set.data.toList.drop 46 = dktX5_set_2 := dk_seg dksX5_set_1 23 rfl rfl
theorem dksX5_set_3 : cX5_set.data.toList.drop 70 = dktX5_set_3 := dk_seg dksX5_set_2 24 rfl rfl
theorem dksX5_set_4 : cX5_set.data.toList.drop 94 = dktX5_set_4 := dk_seg dksX5_set_3 24 rfl rfl
theorem dksX5_set_5 : cX5_set.data.toList.drop 118 = dktX5_set_5 := dk_seg dksX5_set_4 24 rfl rfl
theorem dX5_set_0 : decode cX5_set 0 = .ok (.aload_n 0, 1) := dk_42 (dk_at dksX5_set_0 0 rfl rfl)
theorem dX5_set_1 : decode cX5_set 1 = .ok (.iconst 0, 1) := dk_3 (dk_at dksX5_set_0 1 rfl rfl)
theorem dX5_set_2 : decode cX5_set 2 = .ok (.putfield 86, 3) := dk_181 0 86 (dk_at dksX5_set_0 2 rfl rfl)
theorem dX5_set_5 : decode cX5_set 5 = .ok (.aload_n 0, 1) := dk_42 (dk_at dksX5_set_0 5 rfl rfl)
theorem dX5_set_6 : decode cX5_set 6 = .ok (.iload_n 1, 1) := dk_27 (dk_at dksX5_set_0 6 rfl rfl)
theorem dX5_set_7 : decode cX5_set 7 = .ok (.iload_n 2, 1) := dk_28 (dk_at dksX5_set_0 7 rfl rfl)
theorem dX5_set_8 : decode cX5_set 8 = .ok (.iload_n 3, 1) := dk_29 (dk_at dksX5_set_0 8 rfl rfl)
theorem dX5_set_9 : decode cX5_set 9 = .ok (.invokevirtual 144, 3) := dk_182 0 144 (dk_at dksX5_set_0 9 rfl rfl)
theorem dX5_set_12 : decode cX5_set 12 = .ok (.ifCond .ne 5, 3) := dk_154 0 5 (dk_at dksX5_set_0 12 rfl rfl)
theorem dX5_set_15 : decode cX5_set 15 = .ok (.iconst 0, 1) := dk_3 (dk_at dksX5_set_0 15 rfl rfl)
theorem dX5_set_16 : decode cX5_set 16 = .ok (.ireturn, 1) := dk_172 (dk_at dksX5_set_0 16 rfl rfl)
theorem dX5_set_17 : decode cX5_set 17 = .ok (.iload_n 1, 1) := dk_27 (dk_at dksX5_set_0 17 rfl rfl)
theorem dX5_set_18 : decode cX5_set 18 = .ok (.ifCond .ne 8, 3) := dk_154 0 8 (dk_at dksX5_set_0 18 rfl rfl)
theorem dX5_set_21 : decode cX5_set 21 = .ok (.aload_n 0, 1) := dk_42 (dk_at dksX5_set_0 21 rfl rfl)
theorem dX5_set_22 : decode cX5_set 22 = .ok (.iload_n 3, 1) := dk_29 (dk_at dksX5_set_0 22 rfl rfl)
theorem dX5_set_23 : decode cX5_set 23 = .ok (.putfield 147, 3) := dk_181 0 147 (dk_at dksX5_set_1 0 rfl rfl)
theorem dX5_set_26 : decode cX5_set 26 = .ok (.iload_n 1, 1) := dk_27 (dk_at dksX5_set_1 3 rfl rfl)
theorem dX5_set_27 : decode cX5_set 27 = .ok (.iconst 1, 1) := dk_4 (dk_at dksX5_set_1 4 rfl rfl)
theorem dX5_set_28 : decode cX5_set 28 = .ok (.if_icmp .ne 8, 3) := dk_160 0 8 (dk_at dksX5_set_1 5 rfl rfl)
theorem dX5_set_31 : decode cX5_set 31 = .ok (.aload_n 0, 1) := dk_42 (dk_at dksX5_set_1 8 rfl rfl)
theorem dX5_set_32 : decode cX5_set 32 = .ok (.iload_n 3, 1) := dk_29 (dk_at dksX5_set_1 9 rfl rfl)
theorem dX5_set_33 : decode cX5_set 33 = .ok (.putfield 150, 3) := dk_181 0 150 (dk_at dksX5_set_1 10 rfl rfl)
theorem dX5_set_36 : decode cX5_set 36 = .ok (.iload_n 1, 1) := dk_27 (dk_at dksX5_set_1 13 rfl rfl)
theorem dX5_set_37 : decode cX5_set 37 = .ok (.iconst 2, 1) := dk_5 (dk_at dksX5_set_1 14 rfl rfl)
theorem dX5_set_38 : decode cX5_set 38 = .ok (.if_icmp .ne 11, 3) := dk_160 0 11 (dk_at dksX5_set_1 15 rfl rfl)
theorem dX5_set_41 : decode cX5_set 41 = .ok (.aload_n 0, 1) := dk_42 (dk_at dksX5_set_1 18 rfl rfl)
theorem dX5_set_42 : decode cX5_set 42 = .ok (.iload_n 3, 1) := dk_29 (dk_at dksX5_set_1 19 rfl rfl)
theorem dX5_set_43 : decode cX5_set 43 = .ok (.bipush 9, 2) := dk_16 9 (dk_at dksX5_set_1 20 rfl rfl)
theorem dX5_set_45 : decode cX5_set 45 = .ok (.isub, 1) := dk_100 (dk_at dksX5_set_1 22 rfl rfl)
theorem dX5_set_46 : decode cX5_set 46 = .ok (.putfield 110, 3) := dk_181 0 110 (dk_at dksX5_set_2 0 rfl rfl)
theorem dX5_set_49 : decode cX5_set 49 = .ok (.iload_n 1, 1) := dk_27 (dk_at dksX5_set_2 3 rfl rfl)
theorem dX5_set_50 : decode cX5_set 50 = .ok (.iconst 3, 1) := dk_6 (dk_at dksX5_set_2 4 rfl rfl)
theorem dX5_set_51 : decode cX5_set 51 = .ok (.if_icmp .ne 10, 3) := dk_160 0 10 (dk_at dksX5_set_2 5 rfl rfl)
theorem dX5_set_54 : decode cX5_set 54 = .ok (.aload_n 0, 1) := dk_42 (dk_at dksX5_set_2 8 rfl rfl)
theorem dX5_set_55 : decode cX5_set 55 = .ok (.iload_n 3, 1) := dk_29 (dk_at dksX5_set_2 9 rfl rfl)
theorem dX5_set_56 : decode cX5_set 56 = .ok (.iconst 4, 1) := dk_7 (dk_at dksX5_set_2 10 rfl rfl)
theorem dX5_set_57 : decode cX5_set 57 = .ok (.isub, 1) := dk_100 (dk_at dksX5_set_2 11 rfl rfl)
theorem dX5_set_58 : decode cX5_set 58 = .ok (.putfield 113, 3) := dk_181 0 113 (dk_at dksX5_set_2 12 rfl rfl)
theorem dX5_set_61 : decode cX5_set 61 = .ok (.iload_n 1, 1) := dk_27 (dk_at dksX5_set_2 15 rfl rfl)
theorem dX5_set_62 : decode cX5_set 62 = .ok (.iconst 4, 1) := dk_7 (dk_at dksX5_set_2 16 rfl rfl)
theorem dX5_set_63 : decode cX5_set 63 = .ok (.if_icmp .ne 13, 3) := dk_160 0 13 (dk_at dksX5_set_2 17 rfl rfl)
theorem dX5_set_66 : decode cX5_set 66 = .ok (.aload_n 0, 1) := dk_42 (dk_at dksX5_set_2 20 rfl rfl)
theorem dX5_set_67 : decode cX5_set 67 = .ok (.getfield 7, 3) := dk_180 0 7 (dk_at dksX5_set_2 21 rfl rfl)
theorem dX5_set_70 : decode cX5_set 70 = .ok (.bipush 62, 2) := dk_16 62 (dk_at dksX5_set_3 0 rfl rfl)
theorem dX5_set_72 : decode cX5_set 72 = .ok (.iload_n 2, 1) := dk_28 (dk_at dksX5_set_3 2 rfl rfl)
theorem dX5_set_73 : decode cX5_set 73 = .ok (.iadd, 1) := dk_96 (dk_at dksX5_set_3 3 rfl rfl)
theorem dX5_set_74 : decode cX5_set 74 = .ok (.iload_n 3, 1) := dk_29 (dk_at dksX5_set_3 4 rfl rfl)
theorem dX5_set_75 : decode cX5_set 75 = .ok (.iastore, 1) := dk_79 (dk_at dksX5_set_3 5 rfl rfl)
theorem dX5_set_76 : decode cX5_set 76 = .ok (.iload_n 1, 1) := dk_27 (dk_at dksX5_set_3 6 rfl rfl)
theorem dX5_set_77 : decode cX5_set 77 = .ok (.iconst 5, 1) := dk_8 (dk_at dksX5_set_3 7 rfl rfl)
theorem dX5_set_78 : decode cX5_set 78 = .ok (.if_icmp .ne 13, 3) := dk_160 0 13 (dk_at dksX5_set_3 8 rfl rfl)
theorem dX5_set_81 : decode cX5_set 81 = .ok (.aload_n 0, 1) := dk_42 (dk_at dksX5_set_3 11 rfl rfl)
theorem dX5_set_82 : decode cX5_set 82 = .ok (.getfield 7, 3) := dk_180 0 7 (dk_at dksX5_set_3 12 rfl rfl)
theorem dX5_set_85 : decode cX5_set 85 = .ok (.bipush 76, 2) := dk_16 76 (dk_at dksX5_set_3 15 rfl rfl)
theorem dX5_set_87 : decode cX5_set 87 = .ok (.iload_n 2, 1) := dk_28 (dk_at dksX5_set_3 17 rfl rfl)
theorem dX5_set_88 : decode cX5_set 88 = .ok (.iadd, 1) := dk_96 (dk_at dksX5_set_3 18 rfl rfl)
theorem dX5_set_89 : decode cX5_set 89 = .ok (.iload_n 3, 1) := dk_29 (dk_at dksX5_set_3 19 rfl rfl)
theorem dX5_set_90 : decode cX5_set 90 = .ok (.iastore, 1) := dk_79 (dk_at dksX5_set_3 20 rfl rfl)
theorem dX5_set_91 : decode cX5_set 91 = .ok (.iload_n 1, 1) := dk_27 (dk_at dksX5_set_3 21 rfl rfl)
theorem dX5_set_92 : decode cX5_set 92 = .ok (.bipush 6, 2) := dk_16 6 (dk_at dksX5_set_3 22 rfl rfl)
theorem dX5_set_94 : decode cX5_set 94 = .ok (.if_icmp .ne 13, 3) := dk_160 0 13 (dk_at dksX5_set_4 0 rfl rfl)
theorem dX5_set_97 : decode cX5_set 97 = .ok (.aload_n 0, 1) := dk_42 (dk_at dksX5_set_4 3 rfl rfl)
theorem dX5_set_98 : decode cX5_set 98 = .ok (.getfield 7, 3) := dk_180 0 7 (dk_at dksX5_set_4 4 rfl rfl)
theorem dX5_set_101 : decode cX5_set 101 = .ok (.bipush 15, 2) := dk_16 15 (dk_at dksX5_set_4 7 rfl rfl)
theorem dX5_set_103 : decode cX5_set 103 = .ok (.iload_n 2, 1) := dk_28 (dk_at dksX5_set_4 9 rfl rfl)
theorem dX5_set_104 : decode cX5_set 104 = .ok (.iadd, 1) := dk_96 (dk_at dksX5_set_4 10 rfl rfl)
theorem dX5_set_105 : decode cX5_set 105 = .ok (.iload_n 3, 1) := dk_29 (dk_at dksX5_set_4 11 rfl rfl)
theorem dX5_set_106 : decode cX5_set 106 = .ok (.iastore, 1) := dk_79 (dk_at dksX5_set_4 12 rfl rfl)
theorem dX5_set_107 : decode cX5_set 107 = .ok (.iload_n 1, 1) := dk_27 (dk_at dksX5_set_4 13 rfl rfl)
theorem dX5_set_108 : decode cX5_set 108 = .ok (.bipush 7, 2) := dk_16 7 (dk_at dksX5_set_4 14 rfl rfl)
theorem dX5_set_110 : decode cX5_set 110 = .ok (.if_icmp .ne 12, 3) := dk_160 0 12 (dk_at dksX5_set_4 16 rfl rfl)
theorem dX5_set_113 : decode cX5_set 113 = .ok (.aload_n 0, 1) := dk_42 (dk_at dksX5_set_4 19 rfl rfl)
theorem dX5_set_114 : decode cX5_set 114 = .ok (.getfield 7, 3) := dk_180 0 7 (dk_at dksX5_set_4 20 rfl rfl)
theorem dX5_set_117 : decode cX5_set 117 = .ok (.iconst 5, 1) := dk_8 (dk_at dksX5_set_4 23 rfl rfl)
theorem dX5_set_118 : decode cX5_set 118 = .ok (.iload_n 2, 1) := dk_28 (dk_at dksX5_set_5 0 rfl rfl)
theorem dX5_set_119 : decode cX5_set 119 = .ok (.iadd, 1) := dk_96 (dk_at dksX5_set_5 1 rfl rfl)
theorem dX5_set_120 : decode cX5_set 120 = .ok (.iload_n 3, 1) := dk_29 (dk_at dksX5_set_5 2 rfl rfl)
theorem dX5_set_121 : decode cX5_set 121 = .ok (.iastore, 1) := dk_79 (dk_at dksX5_set_5 3 rfl rfl)
theorem dX5_set_122 : decode cX5_set 122 = .ok (.aload_n 0, 1) := dk_42 (dk_at dksX5_set_5 4 rfl rfl)
theorem dX5_set_123 : decode cX5_set 123 = .ok (.iconst 0, 1) := dk_3 (dk_at dksX5_set_5 5 rfl rfl)
theorem dX5_set_124 : decode cX5_set 124 = .ok (.putfield 89, 3) := dk_181 0 89 (dk_at dksX5_set_5 6 rfl rfl)
theorem dX5_set_127 : decode cX5_set 127 = .ok (.iconst 1, 1) := dk_4 (dk_at dksX5_set_5 9 rfl rfl)
theorem dX5_set_128 : decode cX5_set 128 = .ok (.ireturn, 1) := dk_172 (dk_at dksX5_set_5 10 rfl rfl)
abbrev cX5_canSet : ByteArray := prog_22_method_27_code
def yX5_canSet : MethodName := ⟨RX5, "canSet", "(III)Z"⟩
def dkwX5_canSet_6 : List UInt8 := [17, 39, 15, 182, 0, 126, 153, 0, 7, 4, 167, 0, 4, 3, 172]
abbrev dktX5_canSet_6 : List UInt8 := dkwX5_canSet_6 ++ []
def dkwX5_canSet_5 : List UInt8 := [42, 28, 182, 0, 134, 153, 0, 31, 42, 29, 3, 27, 16, 6, 160, 0, 9, 17, 3, 231, 167, 0, 6]
abbrev dktX5_canSet_5 : List UInt8 := dkwX5_canSet_5 ++ dktX5_canSet_6
def dkwX5_canSet_4 : List UInt8 := [182, 0, 126, 153, 0, 7, 4, 167, 0, 4, 3, 172, 42, 27, 16, 6, 16, 7, 182, 0, 126, 153, 0, 39]
abbrev dktX5_canSet_4 : List UInt8 := dkwX5_canSet_4 ++ dktX5_canSet_5
def dkwX5_canSet_3 : List UInt8 := [167, 0, 4, 3, 172, 27, 8, 160, 0, 28, 42, 28, 182, 0, 130, 153, 0, 18, 42, 29, 3, 16, 20]
abbrev dktX5_canSet_3 : List UInt8 := dkwX5_canSet_3 ++ dktX5_canSet_4
def dkwX5_canSet_2 : List UInt8 := [7, 160, 0, 28, 42, 28, 182, 0, 141, 153, 0, 18, 42, 29, 3, 16, 99, 182, 0, 126, 153, 0, 7, 4]
abbrev dktX5_canSet_2 : List UInt8 := dkwX5_canSet_2 ++ dktX5_canSet_3
def dkwX5_canSet_1 : List UInt8 := [42, 29, 4, 16, 99, 182, 0, 126, 172, 27, 6, 160, 0, 12, 42, 29, 4, 16, 52, 182, 0, 126, 172, 27]
abbrev dktX5_canSet_1 : List UInt8 := dkwX5_canSet_1 ++ dktX5_canSet_2
def dkwX5_canSet_0 : List UInt8 := [27, 153, 0, 8, 27, 4, 160, 0, 13, 42, 29, 3, 17, 3, 232, 182, 0, 126, 172, 27, 5, 160, 0, 12]
abbrev dktX5_canSet_0 : List UInt8 := dkwX5_canSet_0 ++ dktX5_canSet_1
theorem dksX5_canSet_0 : cX5_canSet.data.toList.drop 0 = dktX5_canSet_0 := by decide +kernel
theorem dksX5_canSet_1 : cX5_canSet.data.toList.drop 24 = dktX5_canSet_1 := dk_seg dksX5_canSet_0 24 rfl rfl
theorem dksX5_canSet_2 : cX5_canSet.data.toList.drop 48 = dktX5_canSet_2 := dk_seg dksX5_canSet_1 24 rfl rfl
theorem dksX5_canSet_3 : cX5_canSet.data.toList.drop 72 = dktX5_canSet_3 := dk_seg dksX5_canSet_2 24 rfl rfl
theorem dksX5_canSet_4 : cX5_canSet.data.toList.drop 95 = dktX5_canSet_4 := dk_seg dksX5_canSet_3 23 rfl rfl
theorem dksX5_canSet_5 : cX5_canSet.data.toList.drop 119 = dktX5_canSet_5 := dk_seg dksX5_canSet_4 24 rfl rfl
theorem dksX5_canSet_6 : cX5_canSet.data.toList.drop 142 = dktX5_canSet_6 := dk_seg dksX5_canSet_5 23 rfl rfl
theorem dX5_canSet_0 : decode cX5_canSet 0 = .ok (.iload_n 1, 1) := dk_27 (dk_at dksX5_canSet_0 0 rfl rfl)
theorem dX5_canSet_1 : decode cX5_canSet 1 = .ok (.ifCond .eq 8, 3) := dk_153 0 8 (dk_at dksX5_canSet_0 1 rfl rfl)
theorem dX5_canSet_4 : decode cX5_canSet 4 = .ok (.iload_n 1, 1) := dk_27 (dk_at dksX5_canSet_0 4 rfl rfl)
theorem dX5_canSet_5 : decode cX5_canSet 5 = .ok (.iconst 1, 1) := dk_4 (dk_at dksX5_canSet_0 5 rfl rfl)
theorem dX5_canSet_6 : decode cX5_canSet 6 = .ok (.if_icmp .ne 13, 3) := dk_160 0 13 (dk_at dksX5_canSet_0 6 rfl rfl)
theorem dX5_canSet_9 : decode cX5_canSet 9 = .ok (.aload_n 0, 1) := dk_42 (dk_at dksX5_canSet_0 9 rfl rfl)
theorem dX5_canSet_10 : decode cX5_canSet 10 = .ok (.iload_n 3, 1) := dk_29 (dk_at dksX5_canSet_0 10 rfl rfl)
theorem dX5_canSet_11 : decode cX5_canSet 11 = .ok (.iconst 0, 1) := dk_3 (dk_at dksX5_canSet_0 11 rfl rfl)
theorem dX5_canSet_12 : decode cX5_canSet 12 = .ok (.sipush 1000, 3) := dk_17 3 232 (dk_at dksX5_canSet_0 12 rfl rfl)
theorem dX5_canSet_15 : decode cX5_canSet 15 = .ok (.invokevirtual 126, 3) := dk_182 0 126 (dk_at dksX5_canSet_0 15 rfl rfl)
theorem dX5_canSet_18 : decode cX5_canSet 18 = .ok (.ireturn, 1) := dk_172 (dk_at dksX5_canSet_0 18 rfl rfl)
theorem dX5_canSet_19 : decode cX5_canSet 19 = .ok (.iload_n 1, 1) := dk_27 (dk_at dksX5_canSet_0 19 rfl rfl)
theorem dX5_canSet_20 : decode cX5_canSet 20 = .ok (.iconst 2, 1) := dk_5 (dk_at dksX5_canSet_0 20 rfl rfl)
theorem dX5_canSet_21 : decode cX5_canSet 21 = .ok (.if_icmp .ne 12, 3) := dk_160 0 12 (dk_at dksX5_canSet_0 21 rfl rfl)
theorem dX5_canSet_24 : decode cX5_canSet 24 = .ok (.aload_n 0, 1) := dk_42 (dk_at dksX5_canSet_1 0 rfl rfl)
theorem dX5_canSet_25 : decode cX5_canSet 25 = .ok (.iload_n 3, 1) := dk_29 (dk_at dksX5_canSet_1 1 rfl rfl)
theorem dX5_canSet_26 : decode cX5_canSet 26 = .ok (.iconst 1, 1) := dk_4 (dk_at dksX5_canSet_1 2 rfl rfl)
theorem dX5_canSet_27 : decode cX5_canSet 27 = .ok (.bipush 99, 2) := dk_16 99 (dk_at dksX5_canSet_1 3 rfl rfl)
theorem dX5_canSet_29 : decode cX5_canSet 29 = .ok (.invokevirtual 126, 3) := dk_182 0 126 (dk_at dksX5_canSet_1 5 rfl rfl)
theorem dX5_canSet_32 : decode cX5_canSet 32 = .ok (.ireturn, 1) := dk_172 (dk_at dksX5_canSet_1 8 rfl rfl)
theorem dX5_canSet_33 : decode cX5_canSet 33 = .ok (.iload_n 1, 1) := dk_27 (dk_at dksX5_canSet_1 9 rfl rfl)
theorem dX5_canSet_34 : decode cX5_canSet 34 = .ok (.iconst 3, 1) := dk_6 (dk_at dksX5_canSet_1 10 rfl rfl)
theorem dX5_canSet_35 : decode cX5_canSet 35 = .ok (.if_icmp .ne 12, 3) := dk_160 0 12 (dk_at dksX5_canSet_1 11 rfl rfl)
theorem dX5_canSet_38 : decode cX5_canSet 38 = .ok (.aload_n 0, 1) := dk_42 (dk_at dksX5_canSet_1 14 rfl rfl)
theorem dX5_canSet_39 : decode cX5_canSet 39 = .ok (.iload_n 3, 1) := dk_29 (dk_at dksX5_canSet_1 15 rfl rfl)
theorem dX5_canSet_40 : decode cX5_canSet 40 = .ok (.iconst 1, 1) := dk_4 (dk_at dksX5_canSet_1 16 rfl rfl)
theorem dX5_canSet_41 : decode cX5_canSet 41 = .ok (.bipush 52, 2) := dk_16 52 (dk_at dksX5_canSet_1 17 rfl rfl)
theorem dX5_canSet_43 : decode cX5_canSet 43 = .ok (.invokevirtual 126, 3) := dk_182 0 126 (dk_at dksX5_canSet_1 19 rfl rfl)
theorem dX5_canSet_46 : decode cX5_canSet 46 = .ok (.ireturn, 1) := dk_172 (dk_at dksX5_canSet_1 22 rfl rfl)
theorem dX5_canSet_47 : decode cX5_canSet 47 = .ok (.iload_n 1, 1) := dk_27 (dk_at dksX5_canSet_1 23 rfl rfl)
theorem dX5_canSet_48 : decode cX5_canSet 48 = .ok (.iconst 4, 1) := dk_7 (dk_at dksX5_canSet_2 0 rfl rfl)
theorem dX5_canSet_49 : decode cX5_canSet 49 = .ok (.if_icmp .ne 28, 3) := dk_160 0 28 (dk_at dksX5_canSet_2 1 rfl rfl)
theorem dX5_canSet_52 : decode cX5_canSet 52 = .ok (.aload_n 0, 1) := dk_42 (dk_at dksX5_canSet_2 4 rfl rfl)
theorem dX5_canSet_53 : decode cX5_canSet 53 = .ok (.iload_n 2, 1) := dk_28 (dk_at dksX5_canSet_2 5 rfl rfl)
theorem dX5_canSet_54 : decode cX5_canSet 54 = .ok (.invokevirtual 141, 3) := dk_182 0 141 (dk_at dksX5_canSet_2 6 rfl rfl)
theorem dX5_canSet_57 : decode cX5_canSet 57 = .ok (.ifCond .eq 18, 3) := dk_153 0 18 (dk_at dksX5_canSet_2 9 rfl rfl)
theorem dX5_canSet_60 : decode cX5_canSet 60 = .ok (.aload_n 0, 1) := dk_42 (dk_at dksX5_canSet_2 12 rfl rfl)
theorem dX5_canSet_61 : decode cX5_canSet 61 = .ok (.iload_n 3, 1) := dk_29 (dk_at dksX5_canSet_2 13 rfl rfl)
theorem dX5_canSet_62 : decode cX5_canSet 62 = .ok (.iconst 0, 1) := dk_3 (dk_at dksX5_canSet_2 14 rfl rfl)
theorem dX5_canSet_63 : decode cX5_canSet 63 = .ok (.bipush 99, 2) := dk_16 99 (dk_at dksX5_canSet_2 15 rfl rfl)
theorem dX5_canSet_65 : decode cX5_canSet 65 = .ok (.invokevirtual 126, 3) := dk_182 0 126 (dk_at dksX5_canSet_2 17 rfl rfl)
theorem dX5_canSet_68 : decode cX5_canSet 68 = .ok (.ifCond .eq 7, 3) := dk_153 0 7 (dk_at dksX5_canSet_2 20 rfl rfl)
theorem dX5_canSet_71 : decode cX5_canSet 71 = .ok (.iconst 1, 1) := dk_4 (dk_at dksX5_canSet_2 23 rfl rfl)
theorem dX5_canSet_72 : decode cX5_canSet 72 = .ok (.goto 4, 3) := dk_167 0 4 (dk_at dksX5_canSet_3 0 rfl rfl)
theorem dX5_canSet_75 : decode cX5_canSet 75 = .ok (.iconst 0, 1) := dk_3 (dk_at dksX5_canSet_3 3 rfl rfl)
theorem dX5_canSet_76 : decode cX5_canSet 76 = .ok (.ireturn, 1) := dk_172 (dk_at dksX5_canSet_3 4 rfl rfl)
theorem dX5_canSet_77 : decode cX5_canSet 77 = .ok (.iload_n 1, 1) := dk_27 (dk_at dksX5_canSet_3 5 rfl rfl)
theorem dX5_canSet_78 : decode cX5_canSet 78 = .ok (.iconst 5, 1) := dk_8 (dk_at dksX5_canSet_3 6 rfl rfl)
theorem dX5_canSet_79 : decode cX5_canSet 79 = .ok (.if_icmp .ne 28, 3) := dk_160 0 28 (dk_at dksX5_canSet_3 7 rfl rfl)
theorem dX5_canSet_82 : decode cX5_canSet 82 = .ok (.aload_n 0, 1) := dk_42 (dk_at dksX5_canSet_3 10 rfl rfl)
theorem dX5_canSet_83 : decode cX5_canSet 83 = .ok (.iload_n 2, 1) := dk_28 (dk_at dksX5_canSet_3 11 rfl rfl)
theorem dX5_canSet_84 : decode cX5_canSet 84 = .ok (.invokevirtual 130, 3) := dk_182 0 130 (dk_at dksX5_canSet_3 12 rfl rfl)
theorem dX5_canSet_87 : decode cX5_canSet 87 = .ok (.ifCond .eq 18, 3) := dk_153 0 18 (dk_at dksX5_canSet_3 15 rfl rfl)
theorem dX5_canSet_90 : decode cX5_canSet 90 = .ok (.aload_n 0, 1) := dk_42 (dk_at dksX5_canSet_3 18 rfl rfl)
theorem dX5_canSet_91 : decode cX5_canSet 91 = .ok (.iload_n 3, 1) := dk_29 (dk_at dksX5_canSet_3 19 rfl rfl)
theorem dX5_canSet_92 : decode cX5_canSet 92 = .ok (.iconst 0, 1) := dk_3 (dk_at dksX5_canSet_3 20 rfl rfl)
theorem dX5_canSet_93 : decode cX5_canSet 93 = .ok (.bipush 20, 2) := dk_16 20 (dk_at dksX5_canSet_3 21 rfl rfl)
theorem dX5_canSet_95 : decode cX5_canSet 95 = .ok (.invokevirtual 126, 3) := dk_182 0 126 (dk_at dksX5_canSet_4 0 rfl rfl)
theorem dX5_canSet_98 : decode cX5_canSet 98 = .ok (.ifCond .eq 7, 3) := dk_153 0 7 (dk_at dksX5_canSet_4 3 rfl rfl)
theorem dX5_canSet_101 : decode cX5_canSet 101 = .ok (.iconst 1, 1) := dk_4 (dk_at dksX5_canSet_4 6 rfl rfl)
theorem dX5_canSet_102 : decode cX5_canSet 102 = .ok (.goto 4, 3) := dk_167 0 4 (dk_at dksX5_canSet_4 7 rfl rfl)
theorem dX5_canSet_105 : decode cX5_canSet 105 = .ok (.iconst 0, 1) := dk_3 (dk_at dksX5_canSet_4 10 rfl rfl)
theorem dX5_canSet_106 : decode cX5_canSet 106 = .ok (.ireturn, 1) := dk_172 (dk_at dksX5_canSet_4 11 rfl rfl)
theorem dX5_canSet_107 : decode cX5_canSet 107 = .ok (.aload_n 0, 1) := dk_42 (dk_at dksX5_canSet_4 12 rfl rfl)
theorem dX5_canSet_108 : decode cX5_canSet 108 = .ok (.iload_n 1, 1) := dk_27 (dk_at dksX5_canSet_4 13 rfl rfl)
theorem dX5_canSet_109 : decode cX5_canSet 109 = .ok (.bipush 6, 2) := dk_16 6 (dk_at dksX5_canSet_4 14 rfl rfl)
theorem dX5_canSet_111 : decode cX5_canSet 111 = .ok (.bipush 7, 2) := dk_16 7 (dk_at dksX5_canSet_4 16 rfl rfl)
theorem dX5_canSet_113 : decode cX5_canSet 113 = .ok (.invokevirtual 126, 3) := dk_182 0 126 (dk_at dksX5_canSet_4 18 rfl rfl)
theorem dX5_canSet_116 : decode cX5_canSet 116 = .ok (.ifCond .eq 39, 3) := dk_153 0 39 (dk_at dksX5_canSet_4 21 rfl rfl)
theorem dX5_canSet_119 : decode cX5_canSet 119 = .ok (.aload_n 0, 1) := dk_42 (dk_at dksX5_canSet_5 0 rfl rfl)
theorem dX5_canSet_120 : decode cX5_canSet 120 = .ok (.iload_n 2, 1) := dk_28 (dk_at dksX5_canSet_5 1 rfl rfl)
theorem dX5_canSet_121 : decode cX5_canSet 121 = .ok (.invokevirtual 134, 3) := dk_182 0 134 (dk_at dksX5_canSet_5 2 rfl rfl)
theorem dX5_canSet_124 : decode cX5_canSet 124 = .ok (.ifCond .eq 31, 3) := dk_153 0 31 (dk_at dksX5_canSet_5 5 rfl rfl)
theorem dX5_canSet_127 : decode cX5_canSet 127 = .ok (.aload_n 0, 1) := dk_42 (dk_at dksX5_canSet_5 8 rfl rfl)
theorem dX5_canSet_128 : decode cX5_canSet 128 = .ok (.iload_n 3, 1) := dk_29 (dk_at dksX5_canSet_5 9 rfl rfl)
theorem dX5_canSet_129 : decode cX5_canSet 129 = .ok (.iconst 0, 1) := dk_3 (dk_at dksX5_canSet_5 10 rfl rfl)
theorem dX5_canSet_130 : decode cX5_canSet 130 = .ok (.iload_n 1, 1) := dk_27 (dk_at dksX5_canSet_5 11 rfl rfl)
theorem dX5_canSet_131 : decode cX5_canSet 131 = .ok (.bipush 6, 2) := dk_16 6 (dk_at dksX5_canSet_5 12 rfl rfl)
theorem dX5_canSet_133 : decode cX5_canSet 133 = .ok (.if_icmp .ne 9, 3) := dk_160 0 9 (dk_at dksX5_canSet_5 14 rfl rfl)
theorem dX5_canSet_136 : decode cX5_canSet 136 = .ok (.sipush 999, 3) := dk_17 3 231 (dk_at dksX5_canSet_5 17 rfl rfl)
theorem dX5_canSet_139 : decode cX5_canSet 139 = .ok (.goto 6, 3) := dk_167 0 6 (dk_at dksX5_canSet_5 20 rfl rfl)
theorem dX5_canSet_142 : decode cX5_canSet 142 = .ok (.sipush 9999, 3) := dk_17 39 15 (dk_at dksX5_canSet_6 0 rfl rfl)
theorem dX5_canSet_145 : decode cX5_canSet 145 = .ok (.invokevirtual 126, 3) := dk_182 0 126 (dk_at dksX5_canSet_6 3 rfl rfl)
theorem dX5_canSet_148 : decode cX5_canSet 148 = .ok (.ifCond .eq 7, 3) := dk_153 0 7 (dk_at dksX5_canSet_6 6 rfl rfl)
theorem dX5_canSet_151 : decode cX5_canSet 151 = .ok (.iconst 1, 1) := dk_4 (dk_at dksX5_canSet_6 9 rfl rfl)
theorem dX5_canSet_152 : decode cX5_canSet 152 = .ok (.goto 4, 3) := dk_167 0 4 (dk_at dksX5_canSet_6 10 rfl rfl)
theorem dX5_canSet_155 : decode cX5_canSet 155 = .ok (.iconst 0, 1) := dk_3 (dk_at dksX5_canSet_6 13 rfl rfl)
theorem dX5_canSet_156 : decode cX5_canSet 156 = .ok (.ireturn, 1) := dk_172 (dk_at dksX5_canSet_6 14 rfl rfl)
abbrev cX5_isTree : ByteArray := prog_22_method_21_code
def yX5_isTree : MethodName := ⟨RX5, "isTree", "(I)Z"⟩
def dkwX5_isTree_0 : List UInt8 := [27, 155, 0, 17, 27, 42, 180, 0, 7, 7, 46, 162, 0, 7, 4, 167, 0, 4, 3, 172]
abbrev dktX5_isTree_0 : List UInt8 := dkwX5_isTree_0 ++ []
theorem dksX5_isTree_0 : cX5_isTree.data.toList.drop 0 = dktX5_isTree_0 := by decide +kernel
theorem dX5_isTree_0 : decode cX5_isTree 0 = .ok (.iload_n 1, 1) := dk_27 (dk_at dksX5_isTree_0 0 rfl rfl)
theorem dX5_isTree_1 : decode cX5_isTree 1 = .ok (.ifCond .lt 17, 3) := dk_155 0 17 (dk_at dksX5_isTree_0 1 rfl rfl)
theorem dX5_isTree_4 : decode cX5_isTree 4 = .ok (.iload_n 1, 1) := dk_27 (dk_at dksX5_isTree_0 4 rfl rfl)
theorem dX5_isTree_5 : decode cX5_isTree 5 = .ok (.aload_n 0, 1) := dk_42 (dk_at dksX5_isTree_0 5 rfl rfl)
theorem dX5_isTree_6 : decode cX5_isTree 6 = .ok (.getfield 7, 3) := dk_180 0 7 (dk_at dksX5_isTree_0 6 rfl rfl)
theorem dX5_isTree_9 : decode cX5_isTree 9 = .ok (.iconst 4, 1) := dk_7 (dk_at dksX5_isTree_0 9 rfl rfl)
theorem dX5_isTree_10 : decode cX5_isTree 10 = .ok (.iaload, 1) := dk_46 (dk_at dksX5_isTree_0 10 rfl rfl)
theorem dX5_isTree_11 : decode cX5_isTree 11 = .ok (.if_icmp .ge 7, 3) := dk_162 0 7 (dk_at dksX5_isTree_0 11 rfl rfl)
theorem dX5_isTree_14 : decode cX5_isTree 14 = .ok (.iconst 1, 1) := dk_4 (dk_at dksX5_isTree_0 14 rfl rfl)
theorem dX5_isTree_15 : decode cX5_isTree 15 = .ok (.goto 4, 3) := dk_167 0 4 (dk_at dksX5_isTree_0 15 rfl rfl)
theorem dX5_isTree_18 : decode cX5_isTree 18 = .ok (.iconst 0, 1) := dk_3 (dk_at dksX5_isTree_0 18 rfl rfl)
theorem dX5_isTree_19 : decode cX5_isTree 19 = .ok (.ireturn, 1) := dk_172 (dk_at dksX5_isTree_0 19 rfl rfl)
abbrev cX5_feed : ByteArray := prog_22_method_30_code
def yX5_feed : MethodName := ⟨RX5, "feed", "(IIIII)I"⟩
def dkwX5_feed_2 : List UInt8 := [172]
abbrev dktX5_feed_2 : List UInt8 := dkwX5_feed_2 ++ []
def dkwX5_feed_1 : List UInt8 := [182, 0, 156, 42, 29, 182, 0, 156, 42, 21, 4, 182, 0, 156, 42, 21, 5, 182, 0, 156, 42, 180, 0, 153]
abbrev dktX5_feed_1 : List UInt8 := dkwX5_feed_1 ++ dktX5_feed_2
def dkwX5_feed_0 : List UInt8 := [42, 3, 181, 0, 86, 42, 180, 0, 153, 17, 1, 124, 164, 0, 5, 2, 172, 42, 27, 182, 0, 156, 42, 28]
abbrev dktX5_feed_0 : List UInt8 := dkwX5_feed_0 ++ dktX5_feed_1
theorem dksX5_feed_0 : cX5_feed.data.toList.drop 0 = dktX5_feed_0 := by decide +kernel
theorem dksX5_feed_1 : cX5_feed.data.toList.drop 24 = dktX5_feed_1 := dk_seg dksX5_feed_0 24 rfl rfl
theorem dksX5_feed_2 : cX5_feed.data.toList.drop 48 = dktX5_feed_2 := dk_seg dksX5_feed_1 24 rfl rfl
theorem dX5_feed_0 : decode cX5_feed 0 = .ok (.aload_n 0, 1) := dk_42 (dk_at dksX5_feed_0 0 rfl rfl)
theorem dX5_feed_1 : decode cX5_feed 1 = .ok (.iconst 0, 1) := dk_3 (dk_at dksX5_feed_0 1 rfl rfl)
theorem dX5_feed_2 : decode cX5_feed 2 = .ok (.putfield 86, 3) := dk_181 0 86 (dk_at dksX5_feed_0 2 rfl rfl)
theorem dX5_feed_5 : decode cX5_feed 5 = .ok (.aload_n 0, 1) := dk_42 (dk_at dksX5_feed_0 5 rfl rfl)
theorem dX5_feed_6 : decode cX5_feed 6 = .ok (.getfield 153, 3) := dk_180 0 153 (dk_at dksX5_feed_0 6 rfl rfl)
theorem dX5_feed_9 : decode cX5_feed 9 = .ok (.sipush 380, 3) := dk_17 1 124 (dk_at dksX5_feed_0 9 rfl rfl)
theorem dX5_feed_12 : decode cX5_feed 12 = .ok (.if_icmp .le 5, 3) := dk_164 0 5 (dk_at dksX5_feed_0 12 rfl rfl)
theorem dX5_feed_15 : decode cX5_feed 15 = .ok (.iconst (-1), 1) := dk_2 (dk_at dksX5_feed_0 15 rfl rfl)
theorem dX5_feed_16 : decode cX5_feed 16 = .ok (.ireturn, 1) := dk_172 (dk_at dksX5_feed_0 16 rfl rfl)
theorem dX5_feed_17 : decode cX5_feed 17 = .ok (.aload_n 0, 1) := dk_42 (dk_at dksX5_feed_0 17 rfl rfl)
theorem dX5_feed_18 : decode cX5_feed 18 = .ok (.iload_n 1, 1) := dk_27 (dk_at dksX5_feed_0 18 rfl rfl)
theorem dX5_feed_19 : decode cX5_feed 19 = .ok (.invokevirtual 156, 3) := dk_182 0 156 (dk_at dksX5_feed_0 19 rfl rfl)
theorem dX5_feed_22 : decode cX5_feed 22 = .ok (.aload_n 0, 1) := dk_42 (dk_at dksX5_feed_0 22 rfl rfl)
theorem dX5_feed_23 : decode cX5_feed 23 = .ok (.iload_n 2, 1) := dk_28 (dk_at dksX5_feed_0 23 rfl rfl)
theorem dX5_feed_24 : decode cX5_feed 24 = .ok (.invokevirtual 156, 3) := dk_182 0 156 (dk_at dksX5_feed_1 0 rfl rfl)
theorem dX5_feed_27 : decode cX5_feed 27 = .ok (.aload_n 0, 1) := dk_42 (dk_at dksX5_feed_1 3 rfl rfl)
theorem dX5_feed_28 : decode cX5_feed 28 = .ok (.iload_n 3, 1) := dk_29 (dk_at dksX5_feed_1 4 rfl rfl)
theorem dX5_feed_29 : decode cX5_feed 29 = .ok (.invokevirtual 156, 3) := dk_182 0 156 (dk_at dksX5_feed_1 5 rfl rfl)
theorem dX5_feed_32 : decode cX5_feed 32 = .ok (.aload_n 0, 1) := dk_42 (dk_at dksX5_feed_1 8 rfl rfl)
theorem dX5_feed_33 : decode cX5_feed 33 = .ok (.iload 4, 2) := dk_21 4 (dk_at dksX5_feed_1 9 rfl rfl)
theorem dX5_feed_35 : decode cX5_feed 35 = .ok (.invokevirtual 156, 3) := dk_182 0 156 (dk_at dksX5_feed_1 11 rfl rfl)
theorem dX5_feed_38 : decode cX5_feed 38 = .ok (.aload_n 0, 1) := dk_42 (dk_at dksX5_feed_1 14 rfl rfl)
theorem dX5_feed_39 : decode cX5_feed 39 = .ok (.iload 5, 2) := dk_21 5 (dk_at dksX5_feed_1 15 rfl rfl)
theorem dX5_feed_41 : decode cX5_feed 41 = .ok (.invokevirtual 156, 3) := dk_182 0 156 (dk_at dksX5_feed_1 17 rfl rfl)
theorem dX5_feed_44 : decode cX5_feed 44 = .ok (.aload_n 0, 1) := dk_42 (dk_at dksX5_feed_1 20 rfl rfl)
theorem dX5_feed_45 : decode cX5_feed 45 = .ok (.getfield 153, 3) := dk_180 0 153 (dk_at dksX5_feed_1 21 rfl rfl)
theorem dX5_feed_48 : decode cX5_feed 48 = .ok (.ireturn, 1) := dk_172 (dk_at dksX5_feed_2 0 rfl rfl)
abbrev cX5_types : ByteArray := prog_22_method_29_code
def yX5_types : MethodName := ⟨RX5, "types", "(I)V"⟩
def dkwX5_types_1 : List UInt8 := [42, 180, 0, 153, 4, 96, 181, 0, 153, 132, 2, 248, 167, 255, 223, 177]
abbrev dktX5_types_1 : List UInt8 := dkwX5_types_1 ++ []
def dkwX5_types_0 : List UInt8 := [16, 24, 61, 28, 155, 0, 35, 42, 180, 0, 22, 42, 180, 0, 153, 27, 28, 122, 17, 0, 255, 126, 79, 42]
abbrev dktX5_types_0 : List UInt8 := dkwX5_types_0 ++ dktX5_types_1
theorem dksX5_types_0 : cX5_types.data.toList.drop 0 = dktX5_types_0 := by decide +kernel
theorem dksX5_types_1 : cX5_types.data.toList.drop 24 = dktX5_types_1 := dk_seg dksX5_types_0 24 rfl rfl
theorem dX5_types_0 : decode cX5_types 0 = .ok (.bipush 24, 2) := dk_16 24 (dk_at dksX5_types_0 0 rfl rfl)
theorem dX5_types_2 : decode cX5_types 2 = .ok (.istore_n 2, 1) := dk_61 (dk_at dksX5_types_0 2 rfl rfl)
theorem dX5_types_3 : decode cX5_types 3 = .ok (.iload_n 2, 1) := dk_28 (dk_at dksX5_types_0 3 rfl rfl)
theorem dX5_types_4 : decode cX5_types 4 = .ok (.ifCond .lt 35, 3) := dk_155 0 35 (dk_at dksX5_types_0 4 rfl rfl)
theorem dX5_types_7 : decode cX5_types 7 = .ok (.aload_n 0, 1) := dk_42 (dk_at dksX5_types_0 7 rfl rfl)
theorem dX5_types_8 : decode cX5_types 8 = .ok (.getfield 22, 3) := dk_180 0 22 (dk_at dksX5_types_0 8 rfl rfl)
theorem dX5_types_11 : decode cX5_types 11 = .ok (.aload_n 0, 1) := dk_42 (dk_at dksX5_types_0 11 rfl rfl)
theorem dX5_types_12 : decode cX5_types 12 = .ok (.getfield 153, 3) := dk_180 0 153 (dk_at dksX5_types_0 12 rfl rfl)
theorem dX5_types_15 : decode cX5_types 15 = .ok (.iload_n 1, 1) := dk_27 (dk_at dksX5_types_0 15 rfl rfl)
theorem dX5_types_16 : decode cX5_types 16 = .ok (.iload_n 2, 1) := dk_28 (dk_at dksX5_types_0 16 rfl rfl)
theorem dX5_types_17 : decode cX5_types 17 = .ok (.ishr, 1) := dk_122 (dk_at dksX5_types_0 17 rfl rfl)
theorem dX5_types_18 : decode cX5_types 18 = .ok (.sipush 255, 3) := dk_17 0 255 (dk_at dksX5_types_0 18 rfl rfl)
theorem dX5_types_21 : decode cX5_types 21 = .ok (.iand, 1) := dk_126 (dk_at dksX5_types_0 21 rfl rfl)
theorem dX5_types_22 : decode cX5_types 22 = .ok (.iastore, 1) := dk_79 (dk_at dksX5_types_0 22 rfl rfl)
theorem dX5_types_23 : decode cX5_types 23 = .ok (.aload_n 0, 1) := dk_42 (dk_at dksX5_types_0 23 rfl rfl)
theorem dX5_types_24 : decode cX5_types 24 = .ok (.aload_n 0, 1) := dk_42 (dk_at dksX5_types_1 0 rfl rfl)
theorem dX5_types_25 : decode cX5_types 25 = .ok (.getfield 153, 3) := dk_180 0 153 (dk_at dksX5_types_1 1 rfl rfl)
theorem dX5_types_28 : decode cX5_types 28 = .ok (.iconst 1, 1) := dk_4 (dk_at dksX5_types_1 4 rfl rfl)
theorem dX5_types_29 : decode cX5_types 29 = .ok (.iadd, 1) := dk_96 (dk_at dksX5_types_1 5 rfl rfl)
theorem dX5_types_30 : decode cX5_types 30 = .ok (.putfield 153, 3) := dk_181 0 153 (dk_at dksX5_types_1 6 rfl rfl)
theorem dX5_types_33 : decode cX5_types 33 = .ok (.iinc 2 (-8), 3) := dk_132 2 248 (dk_at dksX5_types_1 9 rfl rfl)
theorem dX5_types_36 : decode cX5_types 36 = .ok (.goto (-33), 3) := dk_167 255 223 (dk_at dksX5_types_1 12 rfl rfl)
theorem dX5_types_39 : decode cX5_types 39 = .ok (.return_, 1) := dk_177 (dk_at dksX5_types_1 15 rfl rfl)
abbrev cX5_end : ByteArray := prog_22_method_31_code
def yX5_end : MethodName := ⟨RX5, "end", "(I)Z"⟩
def dkwX5_end_1 : List UInt8 := [181, 0, 153, 4, 172]
abbrev dktX5_end_1 : List UInt8 := dkwX5_end_1 ++ []
def dkwX5_end_0 : List UInt8 := [42, 3, 181, 0, 86, 42, 27, 3, 42, 180, 0, 153, 182, 0, 126, 154, 0, 5, 3, 172, 42, 27]
abbrev dktX5_end_0 : List UInt8 := dkwX5_end_0 ++ dktX5_end_1
theorem dksX5_end_0 : cX5_end.data.toList.drop 0 = dktX5_end_0 := by decide +kernel
theorem dksX5_end_1 : cX5_end.data.toList.drop 22 = dktX5_end_1 := dk_seg dksX5_end_0 22 rfl rfl
theorem dX5_end_0 : decode cX5_end 0 = .ok (.aload_n 0, 1) := dk_42 (dk_at dksX5_end_0 0 rfl rfl)
theorem dX5_end_1 : decode cX5_end 1 = .ok (.iconst 0, 1) := dk_3 (dk_at dksX5_end_0 1 rfl rfl)
theorem dX5_end_2 : decode cX5_end 2 = .ok (.putfield 86, 3) := dk_181 0 86 (dk_at dksX5_end_0 2 rfl rfl)
theorem dX5_end_5 : decode cX5_end 5 = .ok (.aload_n 0, 1) := dk_42 (dk_at dksX5_end_0 5 rfl rfl)
theorem dX5_end_6 : decode cX5_end 6 = .ok (.iload_n 1, 1) := dk_27 (dk_at dksX5_end_0 6 rfl rfl)
theorem dX5_end_7 : decode cX5_end 7 = .ok (.iconst 0, 1) := dk_3 (dk_at dksX5_end_0 7 rfl rfl)
theorem dX5_end_8 : decode cX5_end 8 = .ok (.aload_n 0, 1) := dk_42 (dk_at dksX5_end_0 8 rfl rfl)
theorem dX5_end_9 : decode cX5_end 9 = .ok (.getfield 153, 3) := dk_180 0 153 (dk_at dksX5_end_0 9 rfl rfl)
theorem dX5_end_12 : decode cX5_end 12 = .ok (.invokevirtual 126, 3) := dk_182 0 126 (dk_at dksX5_end_0 12 rfl rfl)
theorem dX5_end_15 : decode cX5_end 15 = .ok (.ifCond .ne 5, 3) := dk_154 0 5 (dk_at dksX5_end_0 15 rfl rfl)
theorem dX5_end_18 : decode cX5_end 18 = .ok (.iconst 0, 1) := dk_3 (dk_at dksX5_end_0 18 rfl rfl)
theorem dX5_end_19 : decode cX5_end 19 = .ok (.ireturn, 1) := dk_172 (dk_at dksX5_end_0 19 rfl rfl)
theorem dX5_end_20 : decode cX5_end 20 = .ok (.aload_n 0, 1) := dk_42 (dk_at dksX5_end_0 20 rfl rfl)
theorem dX5_end_21 : decode cX5_end 21 = .ok (.iload_n 1, 1) := dk_27 (dk_at dksX5_end_0 21 rfl rfl)
theorem dX5_end_22 : decode cX5_end 22 = .ok (.putfield 153, 3) := dk_181 0 153 (dk_at dksX5_end_1 0 rfl rfl)
theorem dX5_end_25 : decode cX5_end 25 = .ok (.iconst 1, 1) := dk_4 (dk_at dksX5_end_1 3 rfl rfl)
theorem dX5_end_26 : decode cX5_end 26 = .ok (.ireturn, 1) := dk_172 (dk_at dksX5_end_1 4 rfl rfl)
abbrev cX5_text : ByteArray := prog_22_method_63_code
def yX5_text : MethodName := ⟨RX5, "text", "(I)I"⟩
def dkwX5_text_4 : List UInt8 := [167, 0, 9, 42, 27, 28, 182, 1, 38, 28, 172]
abbrev dktX5_text_4 : List UInt8 := dkwX5_text_4 ++ []
def dkwX5_text_3 : List UInt8 := [181, 0, 52, 42, 3, 181, 0, 153, 28, 2, 160, 0, 5, 2, 172, 27, 154, 0, 11, 42, 28, 182, 1, 35]
abbrev dktX5_text_3 : List UInt8 := dkwX5_text_3 ++ dktX5_text_4
def dkwX5_text_2 : List UInt8 := [182, 1, 32, 61, 28, 2, 160, 0, 19, 42, 42, 180, 0, 189, 181, 1, 29, 42, 42, 180, 0, 192]
abbrev dktX5_text_2 : List UInt8 := dkwX5_text_2 ++ dktX5_text_3
def dkwX5_text_1 : List UInt8 := [181, 0, 195, 42, 3, 181, 0, 227, 2, 61, 42, 27, 3, 5, 182, 0, 126, 153, 0, 30, 42, 27]
abbrev dktX5_text_1 : List UInt8 := dkwX5_text_1 ++ dktX5_text_2
def dkwX5_text_0 : List UInt8 := [42, 3, 181, 0, 86, 42, 3, 181, 1, 29, 42, 2, 181, 0, 52, 42, 3, 181, 0, 160, 42, 3]
abbrev dktX5_text_0 : List UInt8 := dkwX5_text_0 ++ dktX5_text_1
theorem dksX5_text_0 : cX5_text.data.toList.drop 0 = dktX5_text_0 := by decide +kernel
theorem dksX5_text_1 : cX5_text.data.toList.drop 22 = dktX5_text_1 := dk_seg dksX5_text_0 22 rfl rfl
theorem dksX5_text_2 : cX5_text.data.toList.drop 44 = dktX5_text_2 := dk_seg dksX5_text_1 22 rfl rfl
theorem dksX5_text_3 : cX5_text.data.toList.drop 66 = dktX5_text_3 := dk_seg dksX5_text_2 22 rfl rfl
theorem dksX5_text_4 : cX5_text.data.toList.drop 90 = dktX5_text_4 := dk_seg dksX5_text_3 24 rfl rfl
theorem dX5_text_0 : decode cX5_text 0 = .ok (.aload_n 0, 1) := dk_42 (dk_at dksX5_text_0 0 rfl rfl)
theorem dX5_text_1 : decode cX5_text 1 = .ok (.iconst 0, 1) := dk_3 (dk_at dksX5_text_0 1 rfl rfl)
theorem dX5_text_2 : decode cX5_text 2 = .ok (.putfield 86, 3) := dk_181 0 86 (dk_at dksX5_text_0 2 rfl rfl)
theorem dX5_text_5 : decode cX5_text 5 = .ok (.aload_n 0, 1) := dk_42 (dk_at dksX5_text_0 5 rfl rfl)
theorem dX5_text_6 : decode cX5_text 6 = .ok (.iconst 0, 1) := dk_3 (dk_at dksX5_text_0 6 rfl rfl)
theorem dX5_text_7 : decode cX5_text 7 = .ok (.putfield 285, 3) := dk_181 1 29 (dk_at dksX5_text_0 7 rfl rfl)
theorem dX5_text_10 : decode cX5_text 10 = .ok (.aload_n 0, 1) := dk_42 (dk_at dksX5_text_0 10 rfl rfl)
theorem dX5_text_11 : decode cX5_text 11 = .ok (.iconst (-1), 1) := dk_2 (dk_at dksX5_text_0 11 rfl rfl)
theorem dX5_text_12 : decode cX5_text 12 = .ok (.putfield 52, 3) := dk_181 0 52 (dk_at dksX5_text_0 12 rfl rfl)
theorem dX5_text_15 : decode cX5_text 15 = .ok (.aload_n 0, 1) := dk_42 (dk_at dksX5_text_0 15 rfl rfl)
theorem dX5_text_16 : decode cX5_text 16 = .ok (.iconst 0, 1) := dk_3 (dk_at dksX5_text_0 16 rfl rfl)
theorem dX5_text_17 : decode cX5_text 17 = .ok (.putfield 160, 3) := dk_181 0 160 (dk_at dksX5_text_0 17 rfl rfl)
theorem dX5_text_20 : decode cX5_text 20 = .ok (.aload_n 0, 1) := dk_42 (dk_at dksX5_text_0 20 rfl rfl)
theorem dX5_text_21 : decode cX5_text 21 = .ok (.iconst 0, 1) := dk_3 (dk_at dksX5_text_0 21 rfl rfl)
theorem dX5_text_22 : decode cX5_text 22 = .ok (.putfield 195, 3) := dk_181 0 195 (dk_at dksX5_text_1 0 rfl rfl)
theorem dX5_text_25 : decode cX5_text 25 = .ok (.aload_n 0, 1) := dk_42 (dk_at dksX5_text_1 3 rfl rfl)
theorem dX5_text_26 : decode cX5_text 26 = .ok (.iconst 0, 1) := dk_3 (dk_at dksX5_text_1 4 rfl rfl)
theorem dX5_text_27 : decode cX5_text 27 = .ok (.putfield 227, 3) := dk_181 0 227 (dk_at dksX5_text_1 5 rfl rfl)
theorem dX5_text_30 : decode cX5_text 30 = .ok (.iconst (-1), 1) := dk_2 (dk_at dksX5_text_1 8 rfl rfl)
theorem dX5_text_31 : decode cX5_text 31 = .ok (.istore_n 2, 1) := dk_61 (dk_at dksX5_text_1 9 rfl rfl)
theorem dX5_text_32 : decode cX5_text 32 = .ok (.aload_n 0, 1) := dk_42 (dk_at dksX5_text_1 10 rfl rfl)
theorem dX5_text_33 : decode cX5_text 33 = .ok (.iload_n 1, 1) := dk_27 (dk_at dksX5_text_1 11 rfl rfl)
theorem dX5_text_34 : decode cX5_text 34 = .ok (.iconst 0, 1) := dk_3 (dk_at dksX5_text_1 12 rfl rfl)
theorem dX5_text_35 : decode cX5_text 35 = .ok (.iconst 2, 1) := dk_5 (dk_at dksX5_text_1 13 rfl rfl)
theorem dX5_text_36 : decode cX5_text 36 = .ok (.invokevirtual 126, 3) := dk_182 0 126 (dk_at dksX5_text_1 14 rfl rfl)
theorem dX5_text_39 : decode cX5_text 39 = .ok (.ifCond .eq 30, 3) := dk_153 0 30 (dk_at dksX5_text_1 17 rfl rfl)
theorem dX5_text_42 : decode cX5_text 42 = .ok (.aload_n 0, 1) := dk_42 (dk_at dksX5_text_1 20 rfl rfl)
theorem dX5_text_43 : decode cX5_text 43 = .ok (.iload_n 1, 1) := dk_27 (dk_at dksX5_text_1 21 rfl rfl)
theorem dX5_text_44 : decode cX5_text 44 = .ok (.invokevirtual 288, 3) := dk_182 1 32 (dk_at dksX5_text_2 0 rfl rfl)
theorem dX5_text_47 : decode cX5_text 47 = .ok (.istore_n 2, 1) := dk_61 (dk_at dksX5_text_2 3 rfl rfl)
theorem dX5_text_48 : decode cX5_text 48 = .ok (.iload_n 2, 1) := dk_28 (dk_at dksX5_text_2 4 rfl rfl)
theorem dX5_text_49 : decode cX5_text 49 = .ok (.iconst (-1), 1) := dk_2 (dk_at dksX5_text_2 5 rfl rfl)
theorem dX5_text_50 : decode cX5_text 50 = .ok (.if_icmp .ne 19, 3) := dk_160 0 19 (dk_at dksX5_text_2 6 rfl rfl)
theorem dX5_text_53 : decode cX5_text 53 = .ok (.aload_n 0, 1) := dk_42 (dk_at dksX5_text_2 9 rfl rfl)
theorem dX5_text_54 : decode cX5_text 54 = .ok (.aload_n 0, 1) := dk_42 (dk_at dksX5_text_2 10 rfl rfl)
theorem dX5_text_55 : decode cX5_text 55 = .ok (.getfield 189, 3) := dk_180 0 189 (dk_at dksX5_text_2 11 rfl rfl)
theorem dX5_text_58 : decode cX5_text 58 = .ok (.putfield 285, 3) := dk_181 1 29 (dk_at dksX5_text_2 14 rfl rfl)
theorem dX5_text_61 : decode cX5_text 61 = .ok (.aload_n 0, 1) := dk_42 (dk_at dksX5_text_2 17 rfl rfl)
theorem dX5_text_62 : decode cX5_text 62 = .ok (.aload_n 0, 1) := dk_42 (dk_at dksX5_text_2 18 rfl rfl)
theorem dX5_text_63 : decode cX5_text 63 = .ok (.getfield 192, 3) := dk_180 0 192 (dk_at dksX5_text_2 19 rfl rfl)
theorem dX5_text_66 : decode cX5_text 66 = .ok (.putfield 52, 3) := dk_181 0 52 (dk_at dksX5_text_3 0 rfl rfl)
theorem dX5_text_69 : decode cX5_text 69 = .ok (.aload_n 0, 1) := dk_42 (dk_at dksX5_text_3 3 rfl rfl)
theorem dX5_text_70 : decode cX5_text 70 = .ok (.iconst 0, 1) := dk_3 (dk_at dksX5_text_3 4 rfl rfl)
theorem dX5_text_71 : decode cX5_text 71 = .ok (.putfield 153, 3) := dk_181 0 153 (dk_at dksX5_text_3 5 rfl rfl)
theorem dX5_text_74 : decode cX5_text 74 = .ok (.iload_n 2, 1) := dk_28 (dk_at dksX5_text_3 8 rfl rfl)
theorem dX5_text_75 : decode cX5_text 75 = .ok (.iconst (-1), 1) := dk_2 (dk_at dksX5_text_3 9 rfl rfl)
theorem dX5_text_76 : decode cX5_text 76 = .ok (.if_icmp .ne 5, 3) := dk_160 0 5 (dk_at dksX5_text_3 10 rfl rfl)
theorem dX5_text_79 : decode cX5_text 79 = .ok (.iconst (-1), 1) := dk_2 (dk_at dksX5_text_3 13 rfl rfl)
theorem dX5_text_80 : decode cX5_text 80 = .ok (.ireturn, 1) := dk_172 (dk_at dksX5_text_3 14 rfl rfl)
theorem dX5_text_81 : decode cX5_text 81 = .ok (.iload_n 1, 1) := dk_27 (dk_at dksX5_text_3 15 rfl rfl)
theorem dX5_text_82 : decode cX5_text 82 = .ok (.ifCond .ne 11, 3) := dk_154 0 11 (dk_at dksX5_text_3 16 rfl rfl)
theorem dX5_text_85 : decode cX5_text 85 = .ok (.aload_n 0, 1) := dk_42 (dk_at dksX5_text_3 19 rfl rfl)
theorem dX5_text_86 : decode cX5_text 86 = .ok (.iload_n 2, 1) := dk_28 (dk_at dksX5_text_3 20 rfl rfl)
theorem dX5_text_87 : decode cX5_text 87 = .ok (.invokevirtual 291, 3) := dk_182 1 35 (dk_at dksX5_text_3 21 rfl rfl)
theorem dX5_text_90 : decode cX5_text 90 = .ok (.goto 9, 3) := dk_167 0 9 (dk_at dksX5_text_4 0 rfl rfl)
theorem dX5_text_93 : decode cX5_text 93 = .ok (.aload_n 0, 1) := dk_42 (dk_at dksX5_text_4 3 rfl rfl)
theorem dX5_text_94 : decode cX5_text 94 = .ok (.iload_n 1, 1) := dk_27 (dk_at dksX5_text_4 4 rfl rfl)
theorem dX5_text_95 : decode cX5_text 95 = .ok (.iload_n 2, 1) := dk_28 (dk_at dksX5_text_4 5 rfl rfl)
theorem dX5_text_96 : decode cX5_text 96 = .ok (.invokevirtual 294, 3) := dk_182 1 38 (dk_at dksX5_text_4 6 rfl rfl)
theorem dX5_text_99 : decode cX5_text 99 = .ok (.iload_n 2, 1) := dk_28 (dk_at dksX5_text_4 9 rfl rfl)
theorem dX5_text_100 : decode cX5_text 100 = .ok (.ireturn, 1) := dk_172 (dk_at dksX5_text_4 10 rfl rfl)
abbrev cX5_readsText : ByteArray := prog_22_method_61_code
def yX5_readsText : MethodName := ⟨RX5, "readsText", "(I)I"⟩
def dkwX5_readsText_1 : List UInt8 := [42, 182, 1, 17, 167, 0, 7, 42, 182, 1, 20, 172]
abbrev dktX5_readsText_1 : List UInt8 := dkwX5_readsText_1 ++ []
def dkwX5_readsText_0 : List UInt8 := [42, 3, 181, 0, 249, 42, 182, 0, 208, 27, 4, 160, 0, 8, 42, 182, 1, 14, 172, 27, 5, 160, 0, 10]
abbrev dktX5_readsText_0 : List UInt8 := dkwX5_readsText_0 ++ dktX5_readsText_1
theorem dksX5_readsText_0 : cX5_readsText.data.toList.drop 0 = dktX5_readsText_0 := by decide +kernel
theorem dksX5_readsText_1 : cX5_readsText.data.toList.drop 24 = dktX5_readsText_1 := dk_seg dksX5_readsText_0 24 rfl rfl
theorem dX5_readsText_0 : decode cX5_readsText 0 = .ok (.aload_n 0, 1) := dk_42 (dk_at dksX5_readsText_0 0 rfl rfl)
theorem dX5_readsText_1 : decode cX5_readsText 1 = .ok (.iconst 0, 1) := dk_3 (dk_at dksX5_readsText_0 1 rfl rfl)
theorem dX5_readsText_2 : decode cX5_readsText 2 = .ok (.putfield 249, 3) := dk_181 0 249 (dk_at dksX5_readsText_0 2 rfl rfl)
theorem dX5_readsText_5 : decode cX5_readsText 5 = .ok (.aload_n 0, 1) := dk_42 (dk_at dksX5_readsText_0 5 rfl rfl)
theorem dX5_readsText_6 : decode cX5_readsText 6 = .ok (.invokevirtual 208, 3) := dk_182 0 208 (dk_at dksX5_readsText_0 6 rfl rfl)
theorem dX5_readsText_9 : decode cX5_readsText 9 = .ok (.iload_n 1, 1) := dk_27 (dk_at dksX5_readsText_0 9 rfl rfl)
theorem dX5_readsText_10 : decode cX5_readsText 10 = .ok (.iconst 1, 1) := dk_4 (dk_at dksX5_readsText_0 10 rfl rfl)
theorem dX5_readsText_11 : decode cX5_readsText 11 = .ok (.if_icmp .ne 8, 3) := dk_160 0 8 (dk_at dksX5_readsText_0 11 rfl rfl)
theorem dX5_readsText_14 : decode cX5_readsText 14 = .ok (.aload_n 0, 1) := dk_42 (dk_at dksX5_readsText_0 14 rfl rfl)
theorem dX5_readsText_15 : decode cX5_readsText 15 = .ok (.invokevirtual 270, 3) := dk_182 1 14 (dk_at dksX5_readsText_0 15 rfl rfl)
theorem dX5_readsText_18 : decode cX5_readsText 18 = .ok (.ireturn, 1) := dk_172 (dk_at dksX5_readsText_0 18 rfl rfl)
theorem dX5_readsText_19 : decode cX5_readsText 19 = .ok (.iload_n 1, 1) := dk_27 (dk_at dksX5_readsText_0 19 rfl rfl)
theorem dX5_readsText_20 : decode cX5_readsText 20 = .ok (.iconst 2, 1) := dk_5 (dk_at dksX5_readsText_0 20 rfl rfl)
theorem dX5_readsText_21 : decode cX5_readsText 21 = .ok (.if_icmp .ne 10, 3) := dk_160 0 10 (dk_at dksX5_readsText_0 21 rfl rfl)
theorem dX5_readsText_24 : decode cX5_readsText 24 = .ok (.aload_n 0, 1) := dk_42 (dk_at dksX5_readsText_1 0 rfl rfl)
theorem dX5_readsText_25 : decode cX5_readsText 25 = .ok (.invokevirtual 273, 3) := dk_182 1 17 (dk_at dksX5_readsText_1 1 rfl rfl)
theorem dX5_readsText_28 : decode cX5_readsText 28 = .ok (.goto 7, 3) := dk_167 0 7 (dk_at dksX5_readsText_1 4 rfl rfl)
theorem dX5_readsText_31 : decode cX5_readsText 31 = .ok (.aload_n 0, 1) := dk_42 (dk_at dksX5_readsText_1 7 rfl rfl)
theorem dX5_readsText_32 : decode cX5_readsText 32 = .ok (.invokevirtual 276, 3) := dk_182 1 20 (dk_at dksX5_readsText_1 8 rfl rfl)
theorem dX5_readsText_35 : decode cX5_readsText 35 = .ok (.ireturn, 1) := dk_172 (dk_at dksX5_readsText_1 11 rfl rfl)
abbrev cX5_reads : ByteArray := prog_22_method_37_code
def yX5_reads : MethodName := ⟨RX5, "reads", "()V"⟩
def dkwX5_reads_11 : List UInt8 := [42, 27, 182, 0, 186, 153, 0, 8, 42, 7, 181, 0, 170, 177]
abbrev dktX5_reads_11 : List UInt8 := dkwX5_reads_11 ++ []
def dkwX5_reads_10 : List UInt8 := [167, 255, 191, 42, 180, 0, 160, 42, 180, 0, 167, 100, 8, 162, 0, 24, 42, 6, 181, 0, 170, 167, 0, 16]
abbrev dktX5_reads_10 : List UInt8 := dkwX5_reads_10 ++ dktX5_reads_11
def dkwX5_reads_9 : List UInt8 := [96, 16, 48, 100, 167, 0, 7, 42, 180, 0, 173, 181, 0, 173, 42, 42, 180, 0, 160, 4, 96, 181, 0, 160]
abbrev dktX5_reads_9 : List UInt8 := dkwX5_reads_9 ++ dktX5_reads_10
def dkwX5_reads_8 : List UInt8 := [180, 0, 173, 17, 39, 16, 162, 0, 25, 16, 10, 42, 180, 0, 173, 104, 42, 42, 180, 0, 160, 182, 0, 163]
abbrev dktX5_reads_8 : List UInt8 := dkwX5_reads_8 ++ dktX5_reads_9
def dkwX5_reads_7 : List UInt8 := [27, 16, 48, 100, 181, 0, 173, 42, 42, 42, 180, 0, 160, 182, 0, 163, 182, 0, 183, 153, 0, 56, 42, 42]
abbrev dktX5_reads_7 : List UInt8 := dkwX5_reads_7 ++ dktX5_reads_8
def dkwX5_reads_6 : List UInt8 := [180, 0, 173, 2, 159, 0, 129, 42, 5, 181, 0, 170, 167, 0, 121, 42, 27, 182, 0, 183, 153, 0, 100, 42]
abbrev dktX5_reads_6 : List UInt8 := dkwX5_reads_6 ++ dktX5_reads_7
def dkwX5_reads_5 : List UInt8 := [181, 0, 160, 167, 255, 231, 42, 42, 42, 180, 0, 167, 42, 180, 0, 160, 182, 0, 179, 181, 0, 173, 42]
abbrev dktX5_reads_5 : List UInt8 := dkwX5_reads_5 ++ dktX5_reads_6
def dkwX5_reads_4 : List UInt8 := [42, 42, 42, 180, 0, 160, 182, 0, 163, 182, 0, 176, 153, 0, 16, 42, 42, 180, 0, 160, 4, 96]
abbrev dktX5_reads_4 : List UInt8 := dkwX5_reads_4 ++ dktX5_reads_5
def dkwX5_reads_3 : List UInt8 := [177, 42, 42, 180, 0, 160, 4, 96, 181, 0, 160, 42, 27, 181, 0, 173, 42, 27, 182, 0, 176, 153, 0, 63]
abbrev dktX5_reads_3 : List UInt8 := dkwX5_reads_3 ++ dktX5_reads_4
def dkwX5_reads_2 : List UInt8 := [42, 4, 181, 0, 170, 42, 42, 180, 0, 160, 182, 0, 163, 60, 27, 2, 160, 0, 9, 42, 3, 181, 0, 170]
abbrev dktX5_reads_2 : List UInt8 := dkwX5_reads_2 ++ dktX5_reads_3
def dkwX5_reads_1 : List UInt8 := [160, 0, 16, 42, 42, 180, 0, 160, 4, 96, 181, 0, 160, 167, 255, 220, 42, 42, 180, 0, 160, 181, 0, 167]
abbrev dktX5_reads_1 : List UInt8 := dkwX5_reads_1 ++ dktX5_reads_2
def dkwX5_reads_0 : List UInt8 := [42, 42, 180, 0, 160, 182, 0, 163, 16, 32, 159, 0, 16, 42, 42, 180, 0, 160, 182, 0, 163, 16, 10]
abbrev dktX5_reads_0 : List UInt8 := dkwX5_reads_0 ++ dktX5_reads_1
theorem dksX5_reads_0 : cX5_reads.data.toList.drop 0 = dktX5_reads_0 := by decide +kernel
theorem dksX5_reads_1 : cX5_reads.data.toList.drop 23 = dktX5_reads_1 := dk_seg dksX5_reads_0 23 rfl rfl
theorem dksX5_reads_2 : cX5_reads.data.toList.drop 47 = dktX5_reads_2 := dk_seg dksX5_reads_1 24 rfl rfl
theorem dksX5_reads_3 : cX5_reads.data.toList.drop 71 = dktX5_reads_3 := dk_seg dksX5_reads_2 24 rfl rfl
theorem dksX5_reads_4 : cX5_reads.data.toList.drop 95 = dktX5_reads_4 := dk_seg dksX5_reads_3 24 rfl rfl
theorem dksX5_reads_5 : cX5_reads.data.toList.drop 117 = dktX5_reads_5 := dk_seg dksX5_reads_4 22 rfl rfl
theorem dksX5_reads_6 : cX5_reads.data.toList.drop 140 = dktX5_reads_6 := dk_seg dksX5_reads_5 23 rfl rfl
theorem dksX5_reads_7 : cX5_reads.data.toList.drop 164 = dktX5_reads_7 := dk_seg dksX5_reads_6 24 rfl rfl
theorem dksX5_reads_8 : cX5_reads.data.toList.drop 188 = dktX5_reads_8 := dk_seg dksX5_reads_7 24 rfl rfl
theorem dksX5_reads_9 : cX5_reads.data.toList.drop 212 = dktX5_reads_9 := dk_seg dksX5_reads_8 24 rfl rfl
theorem dksX5_reads_10 : cX5_reads.data.toList.drop 236 = dktX5_reads_10 := dk_seg dksX5_reads_9 24 rfl rfl
theorem dksX5_reads_11 : cX5_reads.data.toList.drop 260 = dktX5_reads_11 := dk_seg dksX5_reads_10 24 rfl rfl
theorem dX5_reads_0 : decode cX5_reads 0 = .ok (.aload_n 0, 1) := dk_42 (dk_at dksX5_reads_0 0 rfl rfl)
theorem dX5_reads_1 : decode cX5_reads 1 = .ok (.aload_n 0, 1) := dk_42 (dk_at dksX5_reads_0 1 rfl rfl)
theorem dX5_reads_2 : decode cX5_reads 2 = .ok (.getfield 160, 3) := dk_180 0 160 (dk_at dksX5_reads_0 2 rfl rfl)
theorem dX5_reads_5 : decode cX5_reads 5 = .ok (.invokevirtual 163, 3) := dk_182 0 163 (dk_at dksX5_reads_0 5 rfl rfl)
theorem dX5_reads_8 : decode cX5_reads 8 = .ok (.bipush 32, 2) := dk_16 32 (dk_at dksX5_reads_0 8 rfl rfl)
theorem dX5_reads_10 : decode cX5_reads 10 = .ok (.if_icmp .eq 16, 3) := dk_159 0 16 (dk_at dksX5_reads_0 10 rfl rfl)
theorem dX5_reads_13 : decode cX5_reads 13 = .ok (.aload_n 0, 1) := dk_42 (dk_at dksX5_reads_0 13 rfl rfl)
theorem dX5_reads_14 : decode cX5_reads 14 = .ok (.aload_n 0, 1) := dk_42 (dk_at dksX5_reads_0 14 rfl rfl)
theorem dX5_reads_15 : decode cX5_reads 15 = .ok (.getfield 160, 3) := dk_180 0 160 (dk_at dksX5_reads_0 15 rfl rfl)
theorem dX5_reads_18 : decode cX5_reads 18 = .ok (.invokevirtual 163, 3) := dk_182 0 163 (dk_at dksX5_reads_0 18 rfl rfl)
theorem dX5_reads_21 : decode cX5_reads 21 = .ok (.bipush 10, 2) := dk_16 10 (dk_at dksX5_reads_0 21 rfl rfl)
theorem dX5_reads_23 : decode cX5_reads 23 = .ok (.if_icmp .ne 16, 3) := dk_160 0 16 (dk_at dksX5_reads_1 0 rfl rfl)
theorem dX5_reads_26 : decode cX5_reads 26 = .ok (.aload_n 0, 1) := dk_42 (dk_at dksX5_reads_1 3 rfl rfl)
theorem dX5_reads_27 : decode cX5_reads 27 = .ok (.aload_n 0, 1) := dk_42 (dk_at dksX5_reads_1 4 rfl rfl)
theorem dX5_reads_28 : decode cX5_reads 28 = .ok (.getfield 160, 3) := dk_180 0 160 (dk_at dksX5_reads_1 5 rfl rfl)
theorem dX5_reads_31 : decode cX5_reads 31 = .ok (.iconst 1, 1) := dk_4 (dk_at dksX5_reads_1 8 rfl rfl)
theorem dX5_reads_32 : decode cX5_reads 32 = .ok (.iadd, 1) := dk_96 (dk_at dksX5_reads_1 9 rfl rfl)
theorem dX5_reads_33 : decode cX5_reads 33 = .ok (.putfield 160, 3) := dk_181 0 160 (dk_at dksX5_reads_1 10 rfl rfl)
theorem dX5_reads_36 : decode cX5_reads 36 = .ok (.goto (-36), 3) := dk_167 255 220 (dk_at dksX5_reads_1 13 rfl rfl)
theorem dX5_reads_39 : decode cX5_reads 39 = .ok (.aload_n 0, 1) := dk_42 (dk_at dksX5_reads_1 16 rfl rfl)
theorem dX5_reads_40 : decode cX5_reads 40 = .ok (.aload_n 0, 1) := dk_42 (dk_at dksX5_reads_1 17 rfl rfl)
theorem dX5_reads_41 : decode cX5_reads 41 = .ok (.getfield 160, 3) := dk_180 0 160 (dk_at dksX5_reads_1 18 rfl rfl)
theorem dX5_reads_44 : decode cX5_reads 44 = .ok (.putfield 167, 3) := dk_181 0 167 (dk_at dksX5_reads_1 21 rfl rfl)
theorem dX5_reads_47 : decode cX5_reads 47 = .ok (.aload_n 0, 1) := dk_42 (dk_at dksX5_reads_2 0 rfl rfl)
theorem dX5_reads_48 : decode cX5_reads 48 = .ok (.iconst 1, 1) := dk_4 (dk_at dksX5_reads_2 1 rfl rfl)
theorem dX5_reads_49 : decode cX5_reads 49 = .ok (.putfield 170, 3) := dk_181 0 170 (dk_at dksX5_reads_2 2 rfl rfl)
theorem dX5_reads_52 : decode cX5_reads 52 = .ok (.aload_n 0, 1) := dk_42 (dk_at dksX5_reads_2 5 rfl rfl)
theorem dX5_reads_53 : decode cX5_reads 53 = .ok (.aload_n 0, 1) := dk_42 (dk_at dksX5_reads_2 6 rfl rfl)
theorem dX5_reads_54 : decode cX5_reads 54 = .ok (.getfield 160, 3) := dk_180 0 160 (dk_at dksX5_reads_2 7 rfl rfl)
theorem dX5_reads_57 : decode cX5_reads 57 = .ok (.invokevirtual 163, 3) := dk_182 0 163 (dk_at dksX5_reads_2 10 rfl rfl)
theorem dX5_reads_60 : decode cX5_reads 60 = .ok (.istore_n 1, 1) := dk_60 (dk_at dksX5_reads_2 13 rfl rfl)
theorem dX5_reads_61 : decode cX5_reads 61 = .ok (.iload_n 1, 1) := dk_27 (dk_at dksX5_reads_2 14 rfl rfl)
theorem dX5_reads_62 : decode cX5_reads 62 = .ok (.iconst (-1), 1) := dk_2 (dk_at dksX5_reads_2 15 rfl rfl)
theorem dX5_reads_63 : decode cX5_reads 63 = .ok (.if_icmp .ne 9, 3) := dk_160 0 9 (dk_at dksX5_reads_2 16 rfl rfl)
theorem dX5_reads_66 : decode cX5_reads 66 = .ok (.aload_n 0, 1) := dk_42 (dk_at dksX5_reads_2 19 rfl rfl)
theorem dX5_reads_67 : decode cX5_reads 67 = .ok (.iconst 0, 1) := dk_3 (dk_at dksX5_reads_2 20 rfl rfl)
theorem dX5_reads_68 : decode cX5_reads 68 = .ok (.putfield 170, 3) := dk_181 0 170 (dk_at dksX5_reads_2 21 rfl rfl)
theorem dX5_reads_71 : decode cX5_reads 71 = .ok (.return_, 1) := dk_177 (dk_at dksX5_reads_3 0 rfl rfl)
theorem dX5_reads_72 : decode cX5_reads 72 = .ok (.aload_n 0, 1) := dk_42 (dk_at dksX5_reads_3 1 rfl rfl)
theorem dX5_reads_73 : decode cX5_reads 73 = .ok (.aload_n 0, 1) := dk_42 (dk_at dksX5_reads_3 2 rfl rfl)
theorem dX5_reads_74 : decode cX5_reads 74 = .ok (.getfield 160, 3) := dk_180 0 160 (dk_at dksX5_reads_3 3 rfl rfl)
theorem dX5_reads_77 : decode cX5_reads 77 = .ok (.iconst 1, 1) := dk_4 (dk_at dksX5_reads_3 6 rfl rfl)
theorem dX5_reads_78 : decode cX5_reads 78 = .ok (.iadd, 1) := dk_96 (dk_at dksX5_reads_3 7 rfl rfl)
theorem dX5_reads_79 : decode cX5_reads 79 = .ok (.putfield 160, 3) := dk_181 0 160 (dk_at dksX5_reads_3 8 rfl rfl)
theorem dX5_reads_82 : decode cX5_reads 82 = .ok (.aload_n 0, 1) := dk_42 (dk_at dksX5_reads_3 11 rfl rfl)
theorem dX5_reads_83 : decode cX5_reads 83 = .ok (.iload_n 1, 1) := dk_27 (dk_at dksX5_reads_3 12 rfl rfl)
theorem dX5_reads_84 : decode cX5_reads 84 = .ok (.putfield 173, 3) := dk_181 0 173 (dk_at dksX5_reads_3 13 rfl rfl)
theorem dX5_reads_87 : decode cX5_reads 87 = .ok (.aload_n 0, 1) := dk_42 (dk_at dksX5_reads_3 16 rfl rfl)
theorem dX5_reads_88 : decode cX5_reads 88 = .ok (.iload_n 1, 1) := dk_27 (dk_at dksX5_reads_3 17 rfl rfl)
theorem dX5_reads_89 : decode cX5_reads 89 = .ok (.invokevirtual 176, 3) := dk_182 0 176 (dk_at dksX5_reads_3 18 rfl rfl)
theorem dX5_reads_92 : decode cX5_reads 92 = .ok (.ifCond .eq 63, 3) := dk_153 0 63 (dk_at dksX5_reads_3 21 rfl rfl)
theorem dX5_reads_95 : decode cX5_reads 95 = .ok (.aload_n 0, 1) := dk_42 (dk_at dksX5_reads_4 0 rfl rfl)
theorem dX5_reads_96 : decode cX5_reads 96 = .ok (.aload_n 0, 1) := dk_42 (dk_at dksX5_reads_4 1 rfl rfl)
theorem dX5_reads_97 : decode cX5_reads 97 = .ok (.aload_n 0, 1) := dk_42 (dk_at dksX5_reads_4 2 rfl rfl)
theorem dX5_reads_98 : decode cX5_reads 98 = .ok (.getfield 160, 3) := dk_180 0 160 (dk_at dksX5_reads_4 3 rfl rfl)
theorem dX5_reads_101 : decode cX5_reads 101 = .ok (.invokevirtual 163, 3) := dk_182 0 163 (dk_at dksX5_reads_4 6 rfl rfl)
theorem dX5_reads_104 : decode cX5_reads 104 = .ok (.invokevirtual 176, 3) := dk_182 0 176 (dk_at dksX5_reads_4 9 rfl rfl)
theorem dX5_reads_107 : decode cX5_reads 107 = .ok (.ifCond .eq 16, 3) := dk_153 0 16 (dk_at dksX5_reads_4 12 rfl rfl)
theorem dX5_reads_110 : decode cX5_reads 110 = .ok (.aload_n 0, 1) := dk_42 (dk_at dksX5_reads_4 15 rfl rfl)
theorem dX5_reads_111 : decode cX5_reads 111 = .ok (.aload_n 0, 1) := dk_42 (dk_at dksX5_reads_4 16 rfl rfl)
theorem dX5_reads_112 : decode cX5_reads 112 = .ok (.getfield 160, 3) := dk_180 0 160 (dk_at dksX5_reads_4 17 rfl rfl)
theorem dX5_reads_115 : decode cX5_reads 115 = .ok (.iconst 1, 1) := dk_4 (dk_at dksX5_reads_4 20 rfl rfl)
theorem dX5_reads_116 : decode cX5_reads 116 = .ok (.iadd, 1) := dk_96 (dk_at dksX5_reads_4 21 rfl rfl)
theorem dX5_reads_117 : decode cX5_reads 117 = .ok (.putfield 160, 3) := dk_181 0 160 (dk_at dksX5_reads_5 0 rfl rfl)
theorem dX5_reads_120 : decode cX5_reads 120 = .ok (.goto (-25), 3) := dk_167 255 231 (dk_at dksX5_reads_5 3 rfl rfl)
theorem dX5_reads_123 : decode cX5_reads 123 = .ok (.aload_n 0, 1) := dk_42 (dk_at dksX5_reads_5 6 rfl rfl)
theorem dX5_reads_124 : decode cX5_reads 124 = .ok (.aload_n 0, 1) := dk_42 (dk_at dksX5_reads_5 7 rfl rfl)
theorem dX5_reads_125 : decode cX5_reads 125 = .ok (.aload_n 0, 1) := dk_42 (dk_at dksX5_reads_5 8 rfl rfl)
theorem dX5_reads_126 : decode cX5_reads 126 = .ok (.getfield 167, 3) := dk_180 0 167 (dk_at dksX5_reads_5 9 rfl rfl)
theorem dX5_reads_129 : decode cX5_reads 129 = .ok (.aload_n 0, 1) := dk_42 (dk_at dksX5_reads_5 12 rfl rfl)
theorem dX5_reads_130 : decode cX5_reads 130 = .ok (.getfield 160, 3) := dk_180 0 160 (dk_at dksX5_reads_5 13 rfl rfl)
theorem dX5_reads_133 : decode cX5_reads 133 = .ok (.invokevirtual 179, 3) := dk_182 0 179 (dk_at dksX5_reads_5 16 rfl rfl)
theorem dX5_reads_136 : decode cX5_reads 136 = .ok (.putfield 173, 3) := dk_181 0 173 (dk_at dksX5_reads_5 19 rfl rfl)
theorem dX5_reads_139 : decode cX5_reads 139 = .ok (.aload_n 0, 1) := dk_42 (dk_at dksX5_reads_5 22 rfl rfl)
theorem dX5_reads_140 : decode cX5_reads 140 = .ok (.getfield 173, 3) := dk_180 0 173 (dk_at dksX5_reads_6 0 rfl rfl)
theorem dX5_reads_143 : decode cX5_reads 143 = .ok (.iconst (-1), 1) := dk_2 (dk_at dksX5_reads_6 3 rfl rfl)
theorem dX5_reads_144 : decode cX5_reads 144 = .ok (.if_icmp .eq 129, 3) := dk_159 0 129 (dk_at dksX5_reads_6 4 rfl rfl)
theorem dX5_reads_147 : decode cX5_reads 147 = .ok (.aload_n 0, 1) := dk_42 (dk_at dksX5_reads_6 7 rfl rfl)
theorem dX5_reads_148 : decode cX5_reads 148 = .ok (.iconst 2, 1) := dk_5 (dk_at dksX5_reads_6 8 rfl rfl)
theorem dX5_reads_149 : decode cX5_reads 149 = .ok (.putfield 170, 3) := dk_181 0 170 (dk_at dksX5_reads_6 9 rfl rfl)
theorem dX5_reads_152 : decode cX5_reads 152 = .ok (.goto 121, 3) := dk_167 0 121 (dk_at dksX5_reads_6 12 rfl rfl)
theorem dX5_reads_155 : decode cX5_reads 155 = .ok (.aload_n 0, 1) := dk_42 (dk_at dksX5_reads_6 15 rfl rfl)
theorem dX5_reads_156 : decode cX5_reads 156 = .ok (.iload_n 1, 1) := dk_27 (dk_at dksX5_reads_6 16 rfl rfl)
theorem dX5_reads_157 : decode cX5_reads 157 = .ok (.invokevirtual 183, 3) := dk_182 0 183 (dk_at dksX5_reads_6 17 rfl rfl)
theorem dX5_reads_160 : decode cX5_reads 160 = .ok (.ifCond .eq 100, 3) := dk_153 0 100 (dk_at dksX5_reads_6 20 rfl rfl)
theorem dX5_reads_163 : decode cX5_reads 163 = .ok (.aload_n 0, 1) := dk_42 (dk_at dksX5_reads_6 23 rfl rfl)
theorem dX5_reads_164 : decode cX5_reads 164 = .ok (.iload_n 1, 1) := dk_27 (dk_at dksX5_reads_7 0 rfl rfl)
theorem dX5_reads_165 : decode cX5_reads 165 = .ok (.bipush 48, 2) := dk_16 48 (dk_at dksX5_reads_7 1 rfl rfl)
theorem dX5_reads_167 : decode cX5_reads 167 = .ok (.isub, 1) := dk_100 (dk_at dksX5_reads_7 3 rfl rfl)
theorem dX5_reads_168 : decode cX5_reads 168 = .ok (.putfield 173, 3) := dk_181 0 173 (dk_at dksX5_reads_7 4 rfl rfl)
theorem dX5_reads_171 : decode cX5_reads 171 = .ok (.aload_n 0, 1) := dk_42 (dk_at dksX5_reads_7 7 rfl rfl)
theorem dX5_reads_172 : decode cX5_reads 172 = .ok (.aload_n 0, 1) := dk_42 (dk_at dksX5_reads_7 8 rfl rfl)
theorem dX5_reads_173 : decode cX5_reads 173 = .ok (.aload_n 0, 1) := dk_42 (dk_at dksX5_reads_7 9 rfl rfl)
theorem dX5_reads_174 : decode cX5_reads 174 = .ok (.getfield 160, 3) := dk_180 0 160 (dk_at dksX5_reads_7 10 rfl rfl)
theorem dX5_reads_177 : decode cX5_reads 177 = .ok (.invokevirtual 163, 3) := dk_182 0 163 (dk_at dksX5_reads_7 13 rfl rfl)
theorem dX5_reads_180 : decode cX5_reads 180 = .ok (.invokevirtual 183, 3) := dk_182 0 183 (dk_at dksX5_reads_7 16 rfl rfl)
theorem dX5_reads_183 : decode cX5_reads 183 = .ok (.ifCond .eq 56, 3) := dk_153 0 56 (dk_at dksX5_reads_7 19 rfl rfl)
theorem dX5_reads_186 : decode cX5_reads 186 = .ok (.aload_n 0, 1) := dk_42 (dk_at dksX5_reads_7 22 rfl rfl)
theorem dX5_reads_187 : decode cX5_reads 187 = .ok (.aload_n 0, 1) := dk_42 (dk_at dksX5_reads_7 23 rfl rfl)
theorem dX5_reads_188 : decode cX5_reads 188 = .ok (.getfield 173, 3) := dk_180 0 173 (dk_at dksX5_reads_8 0 rfl rfl)
theorem dX5_reads_191 : decode cX5_reads 191 = .ok (.sipush 10000, 3) := dk_17 39 16 (dk_at dksX5_reads_8 3 rfl rfl)
theorem dX5_reads_194 : decode cX5_reads 194 = .ok (.if_icmp .ge 25, 3) := dk_162 0 25 (dk_at dksX5_reads_8 6 rfl rfl)
theorem dX5_reads_197 : decode cX5_reads 197 = .ok (.bipush 10, 2) := dk_16 10 (dk_at dksX5_reads_8 9 rfl rfl)
theorem dX5_reads_199 : decode cX5_reads 199 = .ok (.aload_n 0, 1) := dk_42 (dk_at dksX5_reads_8 11 rfl rfl)
theorem dX5_reads_200 : decode cX5_reads 200 = .ok (.getfield 173, 3) := dk_180 0 173 (dk_at dksX5_reads_8 12 rfl rfl)
theorem dX5_reads_203 : decode cX5_reads 203 = .ok (.imul, 1) := dk_104 (dk_at dksX5_reads_8 15 rfl rfl)
theorem dX5_reads_204 : decode cX5_reads 204 = .ok (.aload_n 0, 1) := dk_42 (dk_at dksX5_reads_8 16 rfl rfl)
theorem dX5_reads_205 : decode cX5_reads 205 = .ok (.aload_n 0, 1) := dk_42 (dk_at dksX5_reads_8 17 rfl rfl)
theorem dX5_reads_206 : decode cX5_reads 206 = .ok (.getfield 160, 3) := dk_180 0 160 (dk_at dksX5_reads_8 18 rfl rfl)
theorem dX5_reads_209 : decode cX5_reads 209 = .ok (.invokevirtual 163, 3) := dk_182 0 163 (dk_at dksX5_reads_8 21 rfl rfl)
theorem dX5_reads_212 : decode cX5_reads 212 = .ok (.iadd, 1) := dk_96 (dk_at dksX5_reads_9 0 rfl rfl)
theorem dX5_reads_213 : decode cX5_reads 213 = .ok (.bipush 48, 2) := dk_16 48 (dk_at dksX5_reads_9 1 rfl rfl)
theorem dX5_reads_215 : decode cX5_reads 215 = .ok (.isub, 1) := dk_100 (dk_at dksX5_reads_9 3 rfl rfl)
theorem dX5_reads_216 : decode cX5_reads 216 = .ok (.goto 7, 3) := dk_167 0 7 (dk_at dksX5_reads_9 4 rfl rfl)
theorem dX5_reads_219 : decode cX5_reads 219 = .ok (.aload_n 0, 1) := dk_42 (dk_at dksX5_reads_9 7 rfl rfl)
theorem dX5_reads_220 : decode cX5_reads 220 = .ok (.getfield 173, 3) := dk_180 0 173 (dk_at dksX5_reads_9 8 rfl rfl)
theorem dX5_reads_223 : decode cX5_reads 223 = .ok (.putfield 173, 3) := dk_181 0 173 (dk_at dksX5_reads_9 11 rfl rfl)
theorem dX5_reads_226 : decode cX5_reads 226 = .ok (.aload_n 0, 1) := dk_42 (dk_at dksX5_reads_9 14 rfl rfl)
theorem dX5_reads_227 : decode cX5_reads 227 = .ok (.aload_n 0, 1) := dk_42 (dk_at dksX5_reads_9 15 rfl rfl)
theorem dX5_reads_228 : decode cX5_reads 228 = .ok (.getfield 160, 3) := dk_180 0 160 (dk_at dksX5_reads_9 16 rfl rfl)
theorem dX5_reads_231 : decode cX5_reads 231 = .ok (.iconst 1, 1) := dk_4 (dk_at dksX5_reads_9 19 rfl rfl)
theorem dX5_reads_232 : decode cX5_reads 232 = .ok (.iadd, 1) := dk_96 (dk_at dksX5_reads_9 20 rfl rfl)
theorem dX5_reads_233 : decode cX5_reads 233 = .ok (.putfield 160, 3) := dk_181 0 160 (dk_at dksX5_reads_9 21 rfl rfl)
theorem dX5_reads_236 : decode cX5_reads 236 = .ok (.goto (-65), 3) := dk_167 255 191 (dk_at dksX5_reads_10 0 rfl rfl)
theorem dX5_reads_239 : decode cX5_reads 239 = .ok (.aload_n 0, 1) := dk_42 (dk_at dksX5_reads_10 3 rfl rfl)
theorem dX5_reads_240 : decode cX5_reads 240 = .ok (.getfield 160, 3) := dk_180 0 160 (dk_at dksX5_reads_10 4 rfl rfl)
theorem dX5_reads_243 : decode cX5_reads 243 = .ok (.aload_n 0, 1) := dk_42 (dk_at dksX5_reads_10 7 rfl rfl)
theorem dX5_reads_244 : decode cX5_reads 244 = .ok (.getfield 167, 3) := dk_180 0 167 (dk_at dksX5_reads_10 8 rfl rfl)
theorem dX5_reads_247 : decode cX5_reads 247 = .ok (.isub, 1) := dk_100 (dk_at dksX5_reads_10 11 rfl rfl)
theorem dX5_reads_248 : decode cX5_reads 248 = .ok (.iconst 5, 1) := dk_8 (dk_at dksX5_reads_10 12 rfl rfl)
theorem dX5_reads_249 : decode cX5_reads 249 = .ok (.if_icmp .ge 24, 3) := dk_162 0 24 (dk_at dksX5_reads_10 13 rfl rfl)
theorem dX5_reads_252 : decode cX5_reads 252 = .ok (.aload_n 0, 1) := dk_42 (dk_at dksX5_reads_10 16 rfl rfl)
theorem dX5_reads_253 : decode cX5_reads 253 = .ok (.iconst 3, 1) := dk_6 (dk_at dksX5_reads_10 17 rfl rfl)
theorem dX5_reads_254 : decode cX5_reads 254 = .ok (.putfield 170, 3) := dk_181 0 170 (dk_at dksX5_reads_10 18 rfl rfl)
theorem dX5_reads_257 : decode cX5_reads 257 = .ok (.goto 16, 3) := dk_167 0 16 (dk_at dksX5_reads_10 21 rfl rfl)
theorem dX5_reads_260 : decode cX5_reads 260 = .ok (.aload_n 0, 1) := dk_42 (dk_at dksX5_reads_11 0 rfl rfl)
theorem dX5_reads_261 : decode cX5_reads 261 = .ok (.iload_n 1, 1) := dk_27 (dk_at dksX5_reads_11 1 rfl rfl)
theorem dX5_reads_262 : decode cX5_reads 262 = .ok (.invokevirtual 186, 3) := dk_182 0 186 (dk_at dksX5_reads_11 2 rfl rfl)
theorem dX5_reads_265 : decode cX5_reads 265 = .ok (.ifCond .eq 8, 3) := dk_153 0 8 (dk_at dksX5_reads_11 5 rfl rfl)
theorem dX5_reads_268 : decode cX5_reads 268 = .ok (.aload_n 0, 1) := dk_42 (dk_at dksX5_reads_11 8 rfl rfl)
theorem dX5_reads_269 : decode cX5_reads 269 = .ok (.iconst 4, 1) := dk_7 (dk_at dksX5_reads_11 9 rfl rfl)
theorem dX5_reads_270 : decode cX5_reads 270 = .ok (.putfield 170, 3) := dk_181 0 170 (dk_at dksX5_reads_11 10 rfl rfl)
theorem dX5_reads_273 : decode cX5_reads 273 = .ok (.return_, 1) := dk_177 (dk_at dksX5_reads_11 13 rfl rfl)
abbrev cX5_raw : ByteArray := prog_22_method_32_code
def yX5_raw : MethodName := ⟨RX5, "raw", "(I)I"⟩
def dkwX5_raw_0 : List UInt8 := [27, 42, 180, 0, 153, 162, 0, 12, 42, 180, 0, 22, 27, 46, 167, 0, 4, 2, 172]
abbrev dktX5_raw_0 : List UInt8 := dkwX5_raw_0 ++ []
theorem dksX5_raw_0 : cX5_raw.data.toList.drop 0 = dktX5_raw_0 := by decide +kernel
theorem dX5_raw_0 : decode cX5_raw 0 = .ok (.iload_n 1, 1) := dk_27 (dk_at dksX5_raw_0 0 rfl rfl)
theorem dX5_raw_1 : decode cX5_raw 1 = .ok (.aload_n 0, 1) := dk_42 (dk_at dksX5_raw_0 1 rfl rfl)
theorem dX5_raw_2 : decode cX5_raw 2 = .ok (.getfield 153, 3) := dk_180 0 153 (dk_at dksX5_raw_0 2 rfl rfl)
theorem dX5_raw_5 : decode cX5_raw 5 = .ok (.if_icmp .ge 12, 3) := dk_162 0 12 (dk_at dksX5_raw_0 5 rfl rfl)
theorem dX5_raw_8 : decode cX5_raw 8 = .ok (.aload_n 0, 1) := dk_42 (dk_at dksX5_raw_0 8 rfl rfl)
theorem dX5_raw_9 : decode cX5_raw 9 = .ok (.getfield 22, 3) := dk_180 0 22 (dk_at dksX5_raw_0 9 rfl rfl)
theorem dX5_raw_12 : decode cX5_raw 12 = .ok (.iload_n 1, 1) := dk_27 (dk_at dksX5_raw_0 12 rfl rfl)
theorem dX5_raw_13 : decode cX5_raw 13 = .ok (.iaload, 1) := dk_46 (dk_at dksX5_raw_0 13 rfl rfl)
theorem dX5_raw_14 : decode cX5_raw 14 = .ok (.goto 4, 3) := dk_167 0 4 (dk_at dksX5_raw_0 14 rfl rfl)
theorem dX5_raw_17 : decode cX5_raw 17 = .ok (.iconst (-1), 1) := dk_2 (dk_at dksX5_raw_0 17 rfl rfl)
theorem dX5_raw_18 : decode cX5_raw 18 = .ok (.ireturn, 1) := dk_172 (dk_at dksX5_raw_0 18 rfl rfl)
abbrev cX5_isLetter : ByteArray := prog_22_method_33_code
def yX5_isLetter : MethodName := ⟨RX5, "isLetter", "(I)Z"⟩
def dkwX5_isLetter_1 : List UInt8 := [4, 167, 0, 4, 3, 172]
abbrev dktX5_isLetter_1 : List UInt8 := dkwX5_isLetter_1 ++ []
def dkwX5_isLetter_0 : List UInt8 := [42, 27, 16, 97, 16, 122, 182, 0, 126, 154, 0, 15, 42, 27, 16, 65, 16, 90, 182, 0, 126, 153, 0, 7]
abbrev dktX5_isLetter_0 : List UInt8 := dkwX5_isLetter_0 ++ dktX5_isLetter_1
theorem dksX5_isLetter_0 : cX5_isLetter.data.toList.drop 0 = dktX5_isLetter_0 := by decide +kernel
theorem dksX5_isLetter_1 : cX5_isLetter.data.toList.drop 24 = dktX5_isLetter_1 := dk_seg dksX5_isLetter_0 24 rfl rfl
theorem dX5_isLetter_0 : decode cX5_isLetter 0 = .ok (.aload_n 0, 1) := dk_42 (dk_at dksX5_isLetter_0 0 rfl rfl)
theorem dX5_isLetter_1 : decode cX5_isLetter 1 = .ok (.iload_n 1, 1) := dk_27 (dk_at dksX5_isLetter_0 1 rfl rfl)
theorem dX5_isLetter_2 : decode cX5_isLetter 2 = .ok (.bipush 97, 2) := dk_16 97 (dk_at dksX5_isLetter_0 2 rfl rfl)
theorem dX5_isLetter_4 : decode cX5_isLetter 4 = .ok (.bipush 122, 2) := dk_16 122 (dk_at dksX5_isLetter_0 4 rfl rfl)
theorem dX5_isLetter_6 : decode cX5_isLetter 6 = .ok (.invokevirtual 126, 3) := dk_182 0 126 (dk_at dksX5_isLetter_0 6 rfl rfl)
theorem dX5_isLetter_9 : decode cX5_isLetter 9 = .ok (.ifCond .ne 15, 3) := dk_154 0 15 (dk_at dksX5_isLetter_0 9 rfl rfl)
theorem dX5_isLetter_12 : decode cX5_isLetter 12 = .ok (.aload_n 0, 1) := dk_42 (dk_at dksX5_isLetter_0 12 rfl rfl)
theorem dX5_isLetter_13 : decode cX5_isLetter 13 = .ok (.iload_n 1, 1) := dk_27 (dk_at dksX5_isLetter_0 13 rfl rfl)
theorem dX5_isLetter_14 : decode cX5_isLetter 14 = .ok (.bipush 65, 2) := dk_16 65 (dk_at dksX5_isLetter_0 14 rfl rfl)
theorem dX5_isLetter_16 : decode cX5_isLetter 16 = .ok (.bipush 90, 2) := dk_16 90 (dk_at dksX5_isLetter_0 16 rfl rfl)
theorem dX5_isLetter_18 : decode cX5_isLetter 18 = .ok (.invokevirtual 126, 3) := dk_182 0 126 (dk_at dksX5_isLetter_0 18 rfl rfl)
theorem dX5_isLetter_21 : decode cX5_isLetter 21 = .ok (.ifCond .eq 7, 3) := dk_153 0 7 (dk_at dksX5_isLetter_0 21 rfl rfl)
theorem dX5_isLetter_24 : decode cX5_isLetter 24 = .ok (.iconst 1, 1) := dk_4 (dk_at dksX5_isLetter_1 0 rfl rfl)
theorem dX5_isLetter_25 : decode cX5_isLetter 25 = .ok (.goto 4, 3) := dk_167 0 4 (dk_at dksX5_isLetter_1 1 rfl rfl)
theorem dX5_isLetter_28 : decode cX5_isLetter 28 = .ok (.iconst 0, 1) := dk_3 (dk_at dksX5_isLetter_1 4 rfl rfl)
theorem dX5_isLetter_29 : decode cX5_isLetter 29 = .ok (.ireturn, 1) := dk_172 (dk_at dksX5_isLetter_1 5 rfl rfl)
abbrev cX5_wordAt : ByteArray := prog_22_method_36_code
def yX5_wordAt : MethodName := ⟨RX5, "wordAt", "(II)I"⟩
def dkwX5_wordAt_5 : List UInt8 := [2, 172]
abbrev dktX5_wordAt_5 : List UInt8 := dkwX5_wordAt_5 ++ []
def dkwX5_wordAt_4 : List UInt8 := [42, 180, 0, 25, 21, 4, 46, 16, 32, 159, 0, 12, 21, 4, 4, 96, 54, 4, 167, 255, 238, 167, 255, 146]
abbrev dktX5_wordAt_4 : List UInt8 := dkwX5_wordAt_4 ++ dktX5_wordAt_5
def dkwX5_wordAt_3 : List UInt8 := [180, 0, 25, 21, 4, 4, 96, 21, 5, 96, 46, 16, 32, 160, 0, 5, 29, 172, 21, 4, 4, 96, 54, 4]
abbrev dktX5_wordAt_3 : List UInt8 := dkwX5_wordAt_3 ++ dktX5_wordAt_4
def dkwX5_wordAt_2 : List UInt8 := [46, 160, 0, 12, 21, 5, 4, 96, 54, 5, 167, 255, 218, 27, 21, 5, 96, 28, 160, 0, 22, 42]
abbrev dktX5_wordAt_2 : List UInt8 := dkwX5_wordAt_2 ++ dktX5_wordAt_3
def dkwX5_wordAt_1 : List UInt8 := [28, 162, 0, 36, 42, 180, 0, 25, 21, 4, 4, 96, 21, 5, 96, 46, 42, 180, 0, 22, 27, 21, 5, 96]
abbrev dktX5_wordAt_1 : List UInt8 := dkwX5_wordAt_1 ++ dktX5_wordAt_2
def dkwX5_wordAt_0 : List UInt8 := [2, 62, 3, 54, 4, 21, 4, 17, 0, 128, 162, 0, 108, 3, 54, 5, 29, 4, 96, 62, 27, 21, 5, 96]
abbrev dktX5_wordAt_0 : List UInt8 := dkwX5_wordAt_0 ++ dktX5_wordAt_1
theorem dksX5_wordAt_0 : cX5_wordAt.data.toList.drop 0 = dktX5_wordAt_0 := by decide +kernel
theorem dksX5_wordAt_1 : cX5_wordAt.data.toList.drop 24 = dktX5_wordAt_1 := dk_seg dksX5_wordAt_0 24 rfl rfl
theorem dksX5_wordAt_2 : cX5_wordAt.data.toList.drop 48 = dktX5_wordAt_2 := dk_seg dksX5_wordAt_1 24 rfl rfl
theorem dksX5_wordAt_3 : cX5_wordAt.data.toList.drop 70 = dktX5_wordAt_3 := dk_seg dksX5_wordAt_2 22 rfl rfl
theorem dksX5_wordAt_4 : cX5_wordAt.data.toList.drop 94 = dktX5_wordAt_4 := dk_seg dksX5_wordAt_3 24 rfl rfl
theorem dksX5_wordAt_5 : cX5_wordAt.data.toList.drop 118 = dktX5_wordAt_5 := dk_seg dksX5_wordAt_4 24 rfl rfl
theorem dX5_wordAt_0 : decode cX5_wordAt 0 = .ok (.iconst (-1), 1) := dk_2 (dk_at dksX5_wordAt_0 0 rfl rfl)
theorem dX5_wordAt_1 : decode cX5_wordAt 1 = .ok (.istore_n 3, 1) := dk_62 (dk_at dksX5_wordAt_0 1 rfl rfl)
theorem dX5_wordAt_2 : decode cX5_wordAt 2 = .ok (.iconst 0, 1) := dk_3 (dk_at dksX5_wordAt_0 2 rfl rfl)
theorem dX5_wordAt_3 : decode cX5_wordAt 3 = .ok (.istore 4, 2) := dk_54 4 (dk_at dksX5_wordAt_0 3 rfl rfl)
theorem dX5_wordAt_5 : decode cX5_wordAt 5 = .ok (.iload 4, 2) := dk_21 4 (dk_at dksX5_wordAt_0 5 rfl rfl)
theorem dX5_wordAt_7 : decode cX5_wordAt 7 = .ok (.sipush 128, 3) := dk_17 0 128 (dk_at dksX5_wordAt_0 7 rfl rfl)
theorem dX5_wordAt_10 : decode cX5_wordAt 10 = .ok (.if_icmp .ge 108, 3) := dk_162 0 108 (dk_at dksX5_wordAt_0 10 rfl rfl)
theorem dX5_wordAt_13 : decode cX5_wordAt 13 = .ok (.iconst 0, 1) := dk_3 (dk_at dksX5_wordAt_0 13 rfl rfl)
theorem dX5_wordAt_14 : decode cX5_wordAt 14 = .ok (.istore 5, 2) := dk_54 5 (dk_at dksX5_wordAt_0 14 rfl rfl)
theorem dX5_wordAt_16 : decode cX5_wordAt 16 = .ok (.iload_n 3, 1) := dk_29 (dk_at dksX5_wordAt_0 16 rfl rfl)
theorem dX5_wordAt_17 : decode cX5_wordAt 17 = .ok (.iconst 1, 1) := dk_4 (dk_at dksX5_wordAt_0 17 rfl rfl)
theorem dX5_wordAt_18 : decode cX5_wordAt 18 = .ok (.iadd, 1) := dk_96 (dk_at dksX5_wordAt_0 18 rfl rfl)
theorem dX5_wordAt_19 : decode cX5_wordAt 19 = .ok (.istore_n 3, 1) := dk_62 (dk_at dksX5_wordAt_0 19 rfl rfl)
theorem dX5_wordAt_20 : decode cX5_wordAt 20 = .ok (.iload_n 1, 1) := dk_27 (dk_at dksX5_wordAt_0 20 rfl rfl)
theorem dX5_wordAt_21 : decode cX5_wordAt 21 = .ok (.iload 5, 2) := dk_21 5 (dk_at dksX5_wordAt_0 21 rfl rfl)
theorem dX5_wordAt_23 : decode cX5_wordAt 23 = .ok (.iadd, 1) := dk_96 (dk_at dksX5_wordAt_0 23 rfl rfl)
theorem dX5_wordAt_24 : decode cX5_wordAt 24 = .ok (.iload_n 2, 1) := dk_28 (dk_at dksX5_wordAt_1 0 rfl rfl)
theorem dX5_wordAt_25 : decode cX5_wordAt 25 = .ok (.if_icmp .ge 36, 3) := dk_162 0 36 (dk_at dksX5_wordAt_1 1 rfl rfl)
theorem dX5_wordAt_28 : decode cX5_wordAt 28 = .ok (.aload_n 0, 1) := dk_42 (dk_at dksX5_wordAt_1 4 rfl rfl)
theorem dX5_wordAt_29 : decode cX5_wordAt 29 = .ok (.getfield 25, 3) := dk_180 0 25 (dk_at dksX5_wordAt_1 5 rfl rfl)
theorem dX5_wordAt_32 : decode cX5_wordAt 32 = .ok (.iload 4, 2) := dk_21 4 (dk_at dksX5_wordAt_1 8 rfl rfl)
theorem dX5_wordAt_34 : decode cX5_wordAt 34 = .ok (.iconst 1, 1) := dk_4 (dk_at dksX5_wordAt_1 10 rfl rfl)
theorem dX5_wordAt_35 : decode cX5_wordAt 35 = .ok (.iadd, 1) := dk_96 (dk_at dksX5_wordAt_1 11 rfl rfl)
theorem dX5_wordAt_36 : decode cX5_wordAt 36 = .ok (.iload 5, 2) := dk_21 5 (dk_at dksX5_wordAt_1 12 rfl rfl)
theorem dX5_wordAt_38 : decode cX5_wordAt 38 = .ok (.iadd, 1) := dk_96 (dk_at dksX5_wordAt_1 14 rfl rfl)
theorem dX5_wordAt_39 : decode cX5_wordAt 39 = .ok (.iaload, 1) := dk_46 (dk_at dksX5_wordAt_1 15 rfl rfl)
theorem dX5_wordAt_40 : decode cX5_wordAt 40 = .ok (.aload_n 0, 1) := dk_42 (dk_at dksX5_wordAt_1 16 rfl rfl)
theorem dX5_wordAt_41 : decode cX5_wordAt 41 = .ok (.getfield 22, 3) := dk_180 0 22 (dk_at dksX5_wordAt_1 17 rfl rfl)
theorem dX5_wordAt_44 : decode cX5_wordAt 44 = .ok (.iload_n 1, 1) := dk_27 (dk_at dksX5_wordAt_1 20 rfl rfl)
theorem dX5_wordAt_45 : decode cX5_wordAt 45 = .ok (.iload 5, 2) := dk_21 5 (dk_at dksX5_wordAt_1 21 rfl rfl)
theorem dX5_wordAt_47 : decode cX5_wordAt 47 = .ok (.iadd, 1) := dk_96 (dk_at dksX5_wordAt_1 23 rfl rfl)
theorem dX5_wordAt_48 : decode cX5_wordAt 48 = .ok (.iaload, 1) := dk_46 (dk_at dksX5_wordAt_2 0 rfl rfl)
theorem dX5_wordAt_49 : decode cX5_wordAt 49 = .ok (.if_icmp .ne 12, 3) := dk_160 0 12 (dk_at dksX5_wordAt_2 1 rfl rfl)
theorem dX5_wordAt_52 : decode cX5_wordAt 52 = .ok (.iload 5, 2) := dk_21 5 (dk_at dksX5_wordAt_2 4 rfl rfl)
theorem dX5_wordAt_54 : decode cX5_wordAt 54 = .ok (.iconst 1, 1) := dk_4 (dk_at dksX5_wordAt_2 6 rfl rfl)
theorem dX5_wordAt_55 : decode cX5_wordAt 55 = .ok (.iadd, 1) := dk_96 (dk_at dksX5_wordAt_2 7 rfl rfl)
theorem dX5_wordAt_56 : decode cX5_wordAt 56 = .ok (.istore 5, 2) := dk_54 5 (dk_at dksX5_wordAt_2 8 rfl rfl)
theorem dX5_wordAt_58 : decode cX5_wordAt 58 = .ok (.goto (-38), 3) := dk_167 255 218 (dk_at dksX5_wordAt_2 10 rfl rfl)
theorem dX5_wordAt_61 : decode cX5_wordAt 61 = .ok (.iload_n 1, 1) := dk_27 (dk_at dksX5_wordAt_2 13 rfl rfl)
theorem dX5_wordAt_62 : decode cX5_wordAt 62 = .ok (.iload 5, 2) := dk_21 5 (dk_at dksX5_wordAt_2 14 rfl rfl)
theorem dX5_wordAt_64 : decode cX5_wordAt 64 = .ok (.iadd, 1) := dk_96 (dk_at dksX5_wordAt_2 16 rfl rfl)
theorem dX5_wordAt_65 : decode cX5_wordAt 65 = .ok (.iload_n 2, 1) := dk_28 (dk_at dksX5_wordAt_2 17 rfl rfl)
theorem dX5_wordAt_66 : decode cX5_wordAt 66 = .ok (.if_icmp .ne 22, 3) := dk_160 0 22 (dk_at dksX5_wordAt_2 18 rfl rfl)
theorem dX5_wordAt_69 : decode cX5_wordAt 69 = .ok (.aload_n 0, 1) := dk_42 (dk_at dksX5_wordAt_2 21 rfl rfl)
theorem dX5_wordAt_70 : decode cX5_wordAt 70 = .ok (.getfield 25, 3) := dk_180 0 25 (dk_at dksX5_wordAt_3 0 rfl rfl)
theorem dX5_wordAt_73 : decode cX5_wordAt 73 = .ok (.iload 4, 2) := dk_21 4 (dk_at dksX5_wordAt_3 3 rfl rfl)
theorem dX5_wordAt_75 : decode cX5_wordAt 75 = .ok (.iconst 1, 1) := dk_4 (dk_at dksX5_wordAt_3 5 rfl rfl)
theorem dX5_wordAt_76 : decode cX5_wordAt 76 = .ok (.iadd, 1) := dk_96 (dk_at dksX5_wordAt_3 6 rfl rfl)
theorem dX5_wordAt_77 : decode cX5_wordAt 77 = .ok (.iload 5, 2) := dk_21 5 (dk_at dksX5_wordAt_3 7 rfl rfl)
theorem dX5_wordAt_79 : decode cX5_wordAt 79 = .ok (.iadd, 1) := dk_96 (dk_at dksX5_wordAt_3 9 rfl rfl)
theorem dX5_wordAt_80 : decode cX5_wordAt 80 = .ok (.iaload, 1) := dk_46 (dk_at dksX5_wordAt_3 10 rfl rfl)
theorem dX5_wordAt_81 : decode cX5_wordAt 81 = .ok (.bipush 32, 2) := dk_16 32 (dk_at dksX5_wordAt_3 11 rfl rfl)
theorem dX5_wordAt_83 : decode cX5_wordAt 83 = .ok (.if_icmp .ne 5, 3) := dk_160 0 5 (dk_at dksX5_wordAt_3 13 rfl rfl)
theorem dX5_wordAt_86 : decode cX5_wordAt 86 = .ok (.iload_n 3, 1) := dk_29 (dk_at dksX5_wordAt_3 16 rfl rfl)
theorem dX5_wordAt_87 : decode cX5_wordAt 87 = .ok (.ireturn, 1) := dk_172 (dk_at dksX5_wordAt_3 17 rfl rfl)
theorem dX5_wordAt_88 : decode cX5_wordAt 88 = .ok (.iload 4, 2) := dk_21 4 (dk_at dksX5_wordAt_3 18 rfl rfl)
theorem dX5_wordAt_90 : decode cX5_wordAt 90 = .ok (.iconst 1, 1) := dk_4 (dk_at dksX5_wordAt_3 20 rfl rfl)
theorem dX5_wordAt_91 : decode cX5_wordAt 91 = .ok (.iadd, 1) := dk_96 (dk_at dksX5_wordAt_3 21 rfl rfl)
theorem dX5_wordAt_92 : decode cX5_wordAt 92 = .ok (.istore 4, 2) := dk_54 4 (dk_at dksX5_wordAt_3 22 rfl rfl)
theorem dX5_wordAt_94 : decode cX5_wordAt 94 = .ok (.aload_n 0, 1) := dk_42 (dk_at dksX5_wordAt_4 0 rfl rfl)
theorem dX5_wordAt_95 : decode cX5_wordAt 95 = .ok (.getfield 25, 3) := dk_180 0 25 (dk_at dksX5_wordAt_4 1 rfl rfl)
theorem dX5_wordAt_98 : decode cX5_wordAt 98 = .ok (.iload 4, 2) := dk_21 4 (dk_at dksX5_wordAt_4 4 rfl rfl)
theorem dX5_wordAt_100 : decode cX5_wordAt 100 = .ok (.iaload, 1) := dk_46 (dk_at dksX5_wordAt_4 6 rfl rfl)
theorem dX5_wordAt_101 : decode cX5_wordAt 101 = .ok (.bipush 32, 2) := dk_16 32 (dk_at dksX5_wordAt_4 7 rfl rfl)
theorem dX5_wordAt_103 : decode cX5_wordAt 103 = .ok (.if_icmp .eq 12, 3) := dk_159 0 12 (dk_at dksX5_wordAt_4 9 rfl rfl)
theorem dX5_wordAt_106 : decode cX5_wordAt 106 = .ok (.iload 4, 2) := dk_21 4 (dk_at dksX5_wordAt_4 12 rfl rfl)
theorem dX5_wordAt_108 : decode cX5_wordAt 108 = .ok (.iconst 1, 1) := dk_4 (dk_at dksX5_wordAt_4 14 rfl rfl)
theorem dX5_wordAt_109 : decode cX5_wordAt 109 = .ok (.iadd, 1) := dk_96 (dk_at dksX5_wordAt_4 15 rfl rfl)
theorem dX5_wordAt_110 : decode cX5_wordAt 110 = .ok (.istore 4, 2) := dk_54 4 (dk_at dksX5_wordAt_4 16 rfl rfl)
theorem dX5_wordAt_112 : decode cX5_wordAt 112 = .ok (.goto (-18), 3) := dk_167 255 238 (dk_at dksX5_wordAt_4 18 rfl rfl)
theorem dX5_wordAt_115 : decode cX5_wordAt 115 = .ok (.goto (-110), 3) := dk_167 255 146 (dk_at dksX5_wordAt_4 21 rfl rfl)
theorem dX5_wordAt_118 : decode cX5_wordAt 118 = .ok (.iconst (-1), 1) := dk_2 (dk_at dksX5_wordAt_5 0 rfl rfl)
theorem dX5_wordAt_119 : decode cX5_wordAt 119 = .ok (.ireturn, 1) := dk_172 (dk_at dksX5_wordAt_5 1 rfl rfl)
abbrev cX5_isDigit : ByteArray := prog_22_method_34_code
def yX5_isDigit : MethodName := ⟨RX5, "isDigit", "(I)Z"⟩
def dkwX5_isDigit_0 : List UInt8 := [42, 27, 16, 48, 16, 57, 182, 0, 126, 172]
abbrev dktX5_isDigit_0 : List UInt8 := dkwX5_isDigit_0 ++ []
theorem dksX5_isDigit_0 : cX5_isDigit.data.toList.drop 0 = dktX5_isDigit_0 := by decide +kernel
theorem dX5_isDigit_0 : decode cX5_isDigit 0 = .ok (.aload_n 0, 1) := dk_42 (dk_at dksX5_isDigit_0 0 rfl rfl)
theorem dX5_isDigit_1 : decode cX5_isDigit 1 = .ok (.iload_n 1, 1) := dk_27 (dk_at dksX5_isDigit_0 1 rfl rfl)
theorem dX5_isDigit_2 : decode cX5_isDigit 2 = .ok (.bipush 48, 2) := dk_16 48 (dk_at dksX5_isDigit_0 2 rfl rfl)
theorem dX5_isDigit_4 : decode cX5_isDigit 4 = .ok (.bipush 57, 2) := dk_16 57 (dk_at dksX5_isDigit_0 4 rfl rfl)
theorem dX5_isDigit_6 : decode cX5_isDigit 6 = .ok (.invokevirtual 126, 3) := dk_182 0 126 (dk_at dksX5_isDigit_0 6 rfl rfl)
theorem dX5_isDigit_9 : decode cX5_isDigit 9 = .ok (.ireturn, 1) := dk_172 (dk_at dksX5_isDigit_0 9 rfl rfl)
abbrev cX5_isMarkSign : ByteArray := prog_22_method_35_code
def yX5_isMarkSign : MethodName := ⟨RX5, "isMarkSign", "(I)Z"⟩
def dkwX5_isMarkSign_2 : List UInt8 := [27, 16, 61, 159, 0, 9, 27, 16, 62, 160, 0, 7, 4, 167, 0, 4, 3, 172]
abbrev dktX5_isMarkSign_2 : List UInt8 := dkwX5_isMarkSign_2 ++ []
def dkwX5_isMarkSign_1 : List UInt8 := [27, 16, 47, 159, 0, 33, 27, 16, 40, 159, 0, 27, 27, 16, 41, 159, 0, 21, 27, 16, 60, 159, 0, 15]
abbrev dktX5_isMarkSign_1 : List UInt8 := dkwX5_isMarkSign_1 ++ dktX5_isMarkSign_2
def dkwX5_isMarkSign_0 : List UInt8 := [27, 16, 59, 159, 0, 57, 27, 16, 43, 159, 0, 51, 27, 16, 45, 159, 0, 45, 27, 16, 42, 159, 0, 39]
abbrev dktX5_isMarkSign_0 : List UInt8 := dkwX5_isMarkSign_0 ++ dktX5_isMarkSign_1
theorem dksX5_isMarkSign_0 : cX5_isMarkSign.data.toList.drop 0 = dktX5_isMarkSign_0 := by decide +kernel
theorem dksX5_isMarkSign_1 : cX5_isMarkSign.data.toList.drop 24 = dktX5_isMarkSign_1 := dk_seg dksX5_isMarkSign_0 24 rfl rfl
theorem dksX5_isMarkSign_2 : cX5_isMarkSign.data.toList.drop 48 = dktX5_isMarkSign_2 := dk_seg dksX5_isMarkSign_1 24 rfl rfl
theorem dX5_isMarkSign_0 : decode cX5_isMarkSign 0 = .ok (.iload_n 1, 1) := dk_27 (dk_at dksX5_isMarkSign_0 0 rfl rfl)
theorem dX5_isMarkSign_1 : decode cX5_isMarkSign 1 = .ok (.bipush 59, 2) := dk_16 59 (dk_at dksX5_isMarkSign_0 1 rfl rfl)
theorem dX5_isMarkSign_3 : decode cX5_isMarkSign 3 = .ok (.if_icmp .eq 57, 3) := dk_159 0 57 (dk_at dksX5_isMarkSign_0 3 rfl rfl)
theorem dX5_isMarkSign_6 : decode cX5_isMarkSign 6 = .ok (.iload_n 1, 1) := dk_27 (dk_at dksX5_isMarkSign_0 6 rfl rfl)
theorem dX5_isMarkSign_7 : decode cX5_isMarkSign 7 = .ok (.bipush 43, 2) := dk_16 43 (dk_at dksX5_isMarkSign_0 7 rfl rfl)
theorem dX5_isMarkSign_9 : decode cX5_isMarkSign 9 = .ok (.if_icmp .eq 51, 3) := dk_159 0 51 (dk_at dksX5_isMarkSign_0 9 rfl rfl)
theorem dX5_isMarkSign_12 : decode cX5_isMarkSign 12 = .ok (.iload_n 1, 1) := dk_27 (dk_at dksX5_isMarkSign_0 12 rfl rfl)
theorem dX5_isMarkSign_13 : decode cX5_isMarkSign 13 = .ok (.bipush 45, 2) := dk_16 45 (dk_at dksX5_isMarkSign_0 13 rfl rfl)
theorem dX5_isMarkSign_15 : decode cX5_isMarkSign 15 = .ok (.if_icmp .eq 45, 3) := dk_159 0 45 (dk_at dksX5_isMarkSign_0 15 rfl rfl)
theorem dX5_isMarkSign_18 : decode cX5_isMarkSign 18 = .ok (.iload_n 1, 1) := dk_27 (dk_at dksX5_isMarkSign_0 18 rfl rfl)
theorem dX5_isMarkSign_19 : decode cX5_isMarkSign 19 = .ok (.bipush 42, 2) := dk_16 42 (dk_at dksX5_isMarkSign_0 19 rfl rfl)
theorem dX5_isMarkSign_21 : decode cX5_isMarkSign 21 = .ok (.if_icmp .eq 39, 3) := dk_159 0 39 (dk_at dksX5_isMarkSign_0 21 rfl rfl)
theorem dX5_isMarkSign_24 : decode cX5_isMarkSign 24 = .ok (.iload_n 1, 1) := dk_27 (dk_at dksX5_isMarkSign_1 0 rfl rfl)
theorem dX5_isMarkSign_25 : decode cX5_isMarkSign 25 = .ok (.bipush 47, 2) := dk_16 47 (dk_at dksX5_isMarkSign_1 1 rfl rfl)
theorem dX5_isMarkSign_27 : decode cX5_isMarkSign 27 = .ok (.if_icmp .eq 33, 3) := dk_159 0 33 (dk_at dksX5_isMarkSign_1 3 rfl rfl)
theorem dX5_isMarkSign_30 : decode cX5_isMarkSign 30 = .ok (.iload_n 1, 1) := dk_27 (dk_at dksX5_isMarkSign_1 6 rfl rfl)
theorem dX5_isMarkSign_31 : decode cX5_isMarkSign 31 = .ok (.bipush 40, 2) := dk_16 40 (dk_at dksX5_isMarkSign_1 7 rfl rfl)
theorem dX5_isMarkSign_33 : decode cX5_isMarkSign 33 = .ok (.if_icmp .eq 27, 3) := dk_159 0 27 (dk_at dksX5_isMarkSign_1 9 rfl rfl)
theorem dX5_isMarkSign_36 : decode cX5_isMarkSign 36 = .ok (.iload_n 1, 1) := dk_27 (dk_at dksX5_isMarkSign_1 12 rfl rfl)
theorem dX5_isMarkSign_37 : decode cX5_isMarkSign 37 = .ok (.bipush 41, 2) := dk_16 41 (dk_at dksX5_isMarkSign_1 13 rfl rfl)
theorem dX5_isMarkSign_39 : decode cX5_isMarkSign 39 = .ok (.if_icmp .eq 21, 3) := dk_159 0 21 (dk_at dksX5_isMarkSign_1 15 rfl rfl)
theorem dX5_isMarkSign_42 : decode cX5_isMarkSign 42 = .ok (.iload_n 1, 1) := dk_27 (dk_at dksX5_isMarkSign_1 18 rfl rfl)
theorem dX5_isMarkSign_43 : decode cX5_isMarkSign 43 = .ok (.bipush 60, 2) := dk_16 60 (dk_at dksX5_isMarkSign_1 19 rfl rfl)
theorem dX5_isMarkSign_45 : decode cX5_isMarkSign 45 = .ok (.if_icmp .eq 15, 3) := dk_159 0 15 (dk_at dksX5_isMarkSign_1 21 rfl rfl)
theorem dX5_isMarkSign_48 : decode cX5_isMarkSign 48 = .ok (.iload_n 1, 1) := dk_27 (dk_at dksX5_isMarkSign_2 0 rfl rfl)
theorem dX5_isMarkSign_49 : decode cX5_isMarkSign 49 = .ok (.bipush 61, 2) := dk_16 61 (dk_at dksX5_isMarkSign_2 1 rfl rfl)
theorem dX5_isMarkSign_51 : decode cX5_isMarkSign 51 = .ok (.if_icmp .eq 9, 3) := dk_159 0 9 (dk_at dksX5_isMarkSign_2 3 rfl rfl)
theorem dX5_isMarkSign_54 : decode cX5_isMarkSign 54 = .ok (.iload_n 1, 1) := dk_27 (dk_at dksX5_isMarkSign_2 6 rfl rfl)
theorem dX5_isMarkSign_55 : decode cX5_isMarkSign 55 = .ok (.bipush 62, 2) := dk_16 62 (dk_at dksX5_isMarkSign_2 7 rfl rfl)
theorem dX5_isMarkSign_57 : decode cX5_isMarkSign 57 = .ok (.if_icmp .ne 7, 3) := dk_160 0 7 (dk_at dksX5_isMarkSign_2 9 rfl rfl)
theorem dX5_isMarkSign_60 : decode cX5_isMarkSign 60 = .ok (.iconst 1, 1) := dk_4 (dk_at dksX5_isMarkSign_2 12 rfl rfl)
theorem dX5_isMarkSign_61 : decode cX5_isMarkSign 61 = .ok (.goto 4, 3) := dk_167 0 4 (dk_at dksX5_isMarkSign_2 13 rfl rfl)
theorem dX5_isMarkSign_64 : decode cX5_isMarkSign 64 = .ok (.iconst 0, 1) := dk_3 (dk_at dksX5_isMarkSign_2 16 rfl rfl)
theorem dX5_isMarkSign_65 : decode cX5_isMarkSign 65 = .ok (.ireturn, 1) := dk_172 (dk_at dksX5_isMarkSign_2 17 rfl rfl)
abbrev cX5_readPaths : ByteArray := prog_22_method_57_code
def yX5_readPaths : MethodName := ⟨RX5, "readPaths", "()I"⟩
def dkwX5_readPaths_3 : List UInt8 := [180, 0, 170, 154, 0, 7, 27, 167, 0, 8, 42, 4, 182, 0, 201, 172]
abbrev dktX5_readPaths_3 : List UInt8 := dkwX5_readPaths_3 ++ []
def dkwX5_readPaths_2 : List UInt8 := [182, 0, 201, 172, 42, 182, 1, 5, 2, 160, 0, 5, 2, 172, 27, 4, 96, 60, 167, 255, 221, 42]
abbrev dktX5_readPaths_2 : List UInt8 := dkwX5_readPaths_2 ++ dktX5_readPaths_3
def dkwX5_readPaths_1 : List UInt8 := [167, 255, 234, 3, 60, 42, 16, 16, 182, 0, 230, 153, 0, 32, 27, 16, 16, 160, 0, 9, 42, 6]
abbrev dktX5_readPaths_1 : List UInt8 := dkwX5_readPaths_1 ++ dktX5_readPaths_2
def dkwX5_readPaths_0 : List UInt8 := [3, 60, 27, 16, 10, 162, 0, 22, 42, 180, 0, 56, 16, 90, 16, 9, 27, 104, 96, 3, 79, 132, 1, 1]
abbrev dktX5_readPaths_0 : List UInt8 := dkwX5_readPaths_0 ++ dktX5_readPaths_1
theorem dksX5_readPaths_0 : cX5_readPaths.data.toList.drop 0 = dktX5_readPaths_0 := by decide +kernel
theorem dksX5_readPaths_1 : cX5_readPaths.data.toList.drop 24 = dktX5_readPaths_1 := dk_seg dksX5_readPaths_0 24 rfl rfl
theorem dksX5_readPaths_2 : cX5_readPaths.data.toList.drop 46 = dktX5_readPaths_2 := dk_seg dksX5_readPaths_1 22 rfl rfl
theorem dksX5_readPaths_3 : cX5_readPaths.data.toList.drop 68 = dktX5_readPaths_3 := dk_seg dksX5_readPaths_2 22 rfl rfl
theorem dX5_readPaths_0 : decode cX5_readPaths 0 = .ok (.iconst 0, 1) := dk_3 (dk_at dksX5_readPaths_0 0 rfl rfl)
theorem dX5_readPaths_1 : decode cX5_readPaths 1 = .ok (.istore_n 1, 1) := dk_60 (dk_at dksX5_readPaths_0 1 rfl rfl)
theorem dX5_readPaths_2 : decode cX5_readPaths 2 = .ok (.iload_n 1, 1) := dk_27 (dk_at dksX5_readPaths_0 2 rfl rfl)
theorem dX5_readPaths_3 : decode cX5_readPaths 3 = .ok (.bipush 10, 2) := dk_16 10 (dk_at dksX5_readPaths_0 3 rfl rfl)
theorem dX5_readPaths_5 : decode cX5_readPaths 5 = .ok (.if_icmp .ge 22, 3) := dk_162 0 22 (dk_at dksX5_readPaths_0 5 rfl rfl)
theorem dX5_readPaths_8 : decode cX5_readPaths 8 = .ok (.aload_n 0, 1) := dk_42 (dk_at dksX5_readPaths_0 8 rfl rfl)
theorem dX5_readPaths_9 : decode cX5_readPaths 9 = .ok (.getfield 56, 3) := dk_180 0 56 (dk_at dksX5_readPaths_0 9 rfl rfl)
theorem dX5_readPaths_12 : decode cX5_readPaths 12 = .ok (.bipush 90, 2) := dk_16 90 (dk_at dksX5_readPaths_0 12 rfl rfl)
theorem dX5_readPaths_14 : decode cX5_readPaths 14 = .ok (.bipush 9, 2) := dk_16 9 (dk_at dksX5_readPaths_0 14 rfl rfl)
theorem dX5_readPaths_16 : decode cX5_readPaths 16 = .ok (.iload_n 1, 1) := dk_27 (dk_at dksX5_readPaths_0 16 rfl rfl)
theorem dX5_readPaths_17 : decode cX5_readPaths 17 = .ok (.imul, 1) := dk_104 (dk_at dksX5_readPaths_0 17 rfl rfl)
theorem dX5_readPaths_18 : decode cX5_readPaths 18 = .ok (.iadd, 1) := dk_96 (dk_at dksX5_readPaths_0 18 rfl rfl)
theorem dX5_readPaths_19 : decode cX5_readPaths 19 = .ok (.iconst 0, 1) := dk_3 (dk_at dksX5_readPaths_0 19 rfl rfl)
theorem dX5_readPaths_20 : decode cX5_readPaths 20 = .ok (.iastore, 1) := dk_79 (dk_at dksX5_readPaths_0 20 rfl rfl)
theorem dX5_readPaths_21 : decode cX5_readPaths 21 = .ok (.iinc 1 1, 3) := dk_132 1 1 (dk_at dksX5_readPaths_0 21 rfl rfl)
theorem dX5_readPaths_24 : decode cX5_readPaths 24 = .ok (.goto (-22), 3) := dk_167 255 234 (dk_at dksX5_readPaths_1 0 rfl rfl)
theorem dX5_readPaths_27 : decode cX5_readPaths 27 = .ok (.iconst 0, 1) := dk_3 (dk_at dksX5_readPaths_1 3 rfl rfl)
theorem dX5_readPaths_28 : decode cX5_readPaths 28 = .ok (.istore_n 1, 1) := dk_60 (dk_at dksX5_readPaths_1 4 rfl rfl)
theorem dX5_readPaths_29 : decode cX5_readPaths 29 = .ok (.aload_n 0, 1) := dk_42 (dk_at dksX5_readPaths_1 5 rfl rfl)
theorem dX5_readPaths_30 : decode cX5_readPaths 30 = .ok (.bipush 16, 2) := dk_16 16 (dk_at dksX5_readPaths_1 6 rfl rfl)
theorem dX5_readPaths_32 : decode cX5_readPaths 32 = .ok (.invokevirtual 230, 3) := dk_182 0 230 (dk_at dksX5_readPaths_1 8 rfl rfl)
theorem dX5_readPaths_35 : decode cX5_readPaths 35 = .ok (.ifCond .eq 32, 3) := dk_153 0 32 (dk_at dksX5_readPaths_1 11 rfl rfl)
theorem dX5_readPaths_38 : decode cX5_readPaths 38 = .ok (.iload_n 1, 1) := dk_27 (dk_at dksX5_readPaths_1 14 rfl rfl)
theorem dX5_readPaths_39 : decode cX5_readPaths 39 = .ok (.bipush 16, 2) := dk_16 16 (dk_at dksX5_readPaths_1 15 rfl rfl)
theorem dX5_readPaths_41 : decode cX5_readPaths 41 = .ok (.if_icmp .ne 9, 3) := dk_160 0 9 (dk_at dksX5_readPaths_1 17 rfl rfl)
theorem dX5_readPaths_44 : decode cX5_readPaths 44 = .ok (.aload_n 0, 1) := dk_42 (dk_at dksX5_readPaths_1 20 rfl rfl)
theorem dX5_readPaths_45 : decode cX5_readPaths 45 = .ok (.iconst 3, 1) := dk_6 (dk_at dksX5_readPaths_1 21 rfl rfl)
theorem dX5_readPaths_46 : decode cX5_readPaths 46 = .ok (.invokevirtual 201, 3) := dk_182 0 201 (dk_at dksX5_readPaths_2 0 rfl rfl)
theorem dX5_readPaths_49 : decode cX5_readPaths 49 = .ok (.ireturn, 1) := dk_172 (dk_at dksX5_readPaths_2 3 rfl rfl)
theorem dX5_readPaths_50 : decode cX5_readPaths 50 = .ok (.aload_n 0, 1) := dk_42 (dk_at dksX5_readPaths_2 4 rfl rfl)
theorem dX5_readPaths_51 : decode cX5_readPaths 51 = .ok (.invokevirtual 261, 3) := dk_182 1 5 (dk_at dksX5_readPaths_2 5 rfl rfl)
theorem dX5_readPaths_54 : decode cX5_readPaths 54 = .ok (.iconst (-1), 1) := dk_2 (dk_at dksX5_readPaths_2 8 rfl rfl)
theorem dX5_readPaths_55 : decode cX5_readPaths 55 = .ok (.if_icmp .ne 5, 3) := dk_160 0 5 (dk_at dksX5_readPaths_2 9 rfl rfl)
theorem dX5_readPaths_58 : decode cX5_readPaths 58 = .ok (.iconst (-1), 1) := dk_2 (dk_at dksX5_readPaths_2 12 rfl rfl)
theorem dX5_readPaths_59 : decode cX5_readPaths 59 = .ok (.ireturn, 1) := dk_172 (dk_at dksX5_readPaths_2 13 rfl rfl)
theorem dX5_readPaths_60 : decode cX5_readPaths 60 = .ok (.iload_n 1, 1) := dk_27 (dk_at dksX5_readPaths_2 14 rfl rfl)
theorem dX5_readPaths_61 : decode cX5_readPaths 61 = .ok (.iconst 1, 1) := dk_4 (dk_at dksX5_readPaths_2 15 rfl rfl)
theorem dX5_readPaths_62 : decode cX5_readPaths 62 = .ok (.iadd, 1) := dk_96 (dk_at dksX5_readPaths_2 16 rfl rfl)
theorem dX5_readPaths_63 : decode cX5_readPaths 63 = .ok (.istore_n 1, 1) := dk_60 (dk_at dksX5_readPaths_2 17 rfl rfl)
theorem dX5_readPaths_64 : decode cX5_readPaths 64 = .ok (.goto (-35), 3) := dk_167 255 221 (dk_at dksX5_readPaths_2 18 rfl rfl)
theorem dX5_readPaths_67 : decode cX5_readPaths 67 = .ok (.aload_n 0, 1) := dk_42 (dk_at dksX5_readPaths_2 21 rfl rfl)
theorem dX5_readPaths_68 : decode cX5_readPaths 68 = .ok (.getfield 170, 3) := dk_180 0 170 (dk_at dksX5_readPaths_3 0 rfl rfl)
theorem dX5_readPaths_71 : decode cX5_readPaths 71 = .ok (.ifCond .ne 7, 3) := dk_154 0 7 (dk_at dksX5_readPaths_3 3 rfl rfl)
theorem dX5_readPaths_74 : decode cX5_readPaths 74 = .ok (.iload_n 1, 1) := dk_27 (dk_at dksX5_readPaths_3 6 rfl rfl)
theorem dX5_readPaths_75 : decode cX5_readPaths 75 = .ok (.goto 8, 3) := dk_167 0 8 (dk_at dksX5_readPaths_3 7 rfl rfl)
theorem dX5_readPaths_78 : decode cX5_readPaths 78 = .ok (.aload_n 0, 1) := dk_42 (dk_at dksX5_readPaths_3 10 rfl rfl)
theorem dX5_readPaths_79 : decode cX5_readPaths 79 = .ok (.iconst 1, 1) := dk_4 (dk_at dksX5_readPaths_3 11 rfl rfl)
theorem dX5_readPaths_80 : decode cX5_readPaths 80 = .ok (.invokevirtual 201, 3) := dk_182 0 201 (dk_at dksX5_readPaths_3 12 rfl rfl)
theorem dX5_readPaths_83 : decode cX5_readPaths 83 = .ok (.ireturn, 1) := dk_172 (dk_at dksX5_readPaths_3 15 rfl rfl)
