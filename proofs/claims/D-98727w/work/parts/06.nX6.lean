section
/-! BallotFruit$Reader -/
set_option maxRecDepth 100000
def RX6 : String := "BallotFruit$Reader"
def TX6 : u_T := fun k => match k with
  | 0 => ("BallotFruit$Reader", "which", "I", true)
  | 1 => ("BallotFruit$Reader", "paths", "[LBallotFruit$Path;", true)
  | 2 => ("BallotFruit$Reader", "row", "[I", true)
  | 3 => ("BallotFruit$Reader", "at", "I", false)
  | 4 => ("BallotFruit$Reader", "start", "I", false)
  | 5 => ("BallotFruit$Reader", "token", "I", false)
  | 6 => ("BallotFruit$Reader", "value", "I", false)
  | 7 => ("BallotFruit$Reader", "open", "I", false)
  | 8 => ("BallotFruit$Reader", "told", "I", false)
  | _ => ("BallotFruit$Reader", "this$0", "LBallotFruit;", true)
def tyX6 : Nat → FieldType := fun k => match k with
  | 0 => .int
  | 1 => .array (.object "BallotFruit$Path")
  | 2 => .array .int
  | 3 => .int
  | 4 => .int
  | 5 => .int
  | 6 => .int
  | 7 => .int
  | 8 => .int
  | _ => .object "BallotFruit"
abbrev wsX60 : List Cond := u_ws RX6 TX6 10
theorem nmX6 : ∀ a, a < 10 → ∀ b, b < 10 → a ≠ b → (TX6 a).2.1 ≠ (TX6 b).2.1 := by decide +kernel
theorem tyX6_ok : ∀ k, k < 10 → parseFieldDescriptor (TX6 k).2.2.1 = some (tyX6 k) := by decide +kernel
abbrev cX6_init : ByteArray := prog_18_method_1_code
def yX6_init : MethodName := ⟨RX6, "<init>", "(LBallotFruit;I)V"⟩
def dkwX6_init_1 : List UInt8 := [181, 0, 21, 42, 28, 181, 0, 25, 177]
abbrev dktX6_init_1 : List UInt8 := dkwX6_init_1 ++ []
def dkwX6_init_0 : List UInt8 := [42, 43, 181, 0, 3, 42, 183, 0, 9, 42, 16, 10, 189, 0, 15, 181, 0, 17, 42, 16, 8, 188, 10]
abbrev dktX6_init_0 : List UInt8 := dkwX6_init_0 ++ dktX6_init_1
theorem dksX6_init_0 : cX6_init.data.toList.drop 0 = dktX6_init_0 := by decide +kernel
theorem dksX6_init_1 : cX6_init.data.toList.drop 23 = dktX6_init_1 := dk_seg dksX6_init_0 23 rfl rfl
theorem dX6_init_0 : decode cX6_init 0 = .ok (.aload_n 0, 1) := dk_42 (dk_at dksX6_init_0 0 rfl rfl)
theorem dX6_init_1 : decode cX6_init 1 = .ok (.aload_n 1, 1) := dk_43 (dk_at dksX6_init_0 1 rfl rfl)
theorem dX6_init_2 : decode cX6_init 2 = .ok (.putfield 3, 3) := dk_181 0 3 (dk_at dksX6_init_0 2 rfl rfl)
theorem dX6_init_5 : decode cX6_init 5 = .ok (.aload_n 0, 1) := dk_42 (dk_at dksX6_init_0 5 rfl rfl)
theorem dX6_init_6 : decode cX6_init 6 = .ok (.invokespecial 9, 3) := dk_183 0 9 (dk_at dksX6_init_0 6 rfl rfl)
theorem dX6_init_9 : decode cX6_init 9 = .ok (.aload_n 0, 1) := dk_42 (dk_at dksX6_init_0 9 rfl rfl)
theorem dX6_init_10 : decode cX6_init 10 = .ok (.bipush 10, 2) := dk_16 10 (dk_at dksX6_init_0 10 rfl rfl)
theorem dX6_init_12 : decode cX6_init 12 = .ok (.anewarray 15, 3) := dk_189 0 15 (dk_at dksX6_init_0 12 rfl rfl)
theorem dX6_init_15 : decode cX6_init 15 = .ok (.putfield 17, 3) := dk_181 0 17 (dk_at dksX6_init_0 15 rfl rfl)
theorem dX6_init_18 : decode cX6_init 18 = .ok (.aload_n 0, 1) := dk_42 (dk_at dksX6_init_0 18 rfl rfl)
theorem dX6_init_19 : decode cX6_init 19 = .ok (.bipush 8, 2) := dk_16 8 (dk_at dksX6_init_0 19 rfl rfl)
theorem dX6_init_21 : decode cX6_init 21 = .ok (.newarray .int, 2) := dk_188_10 (dk_at dksX6_init_0 21 rfl rfl)
theorem dX6_init_23 : decode cX6_init 23 = .ok (.putfield 21, 3) := dk_181 0 21 (dk_at dksX6_init_1 0 rfl rfl)
theorem dX6_init_26 : decode cX6_init 26 = .ok (.aload_n 0, 1) := dk_42 (dk_at dksX6_init_1 3 rfl rfl)
theorem dX6_init_27 : decode cX6_init 27 = .ok (.iload_n 2, 1) := dk_28 (dk_at dksX6_init_1 4 rfl rfl)
theorem dX6_init_28 : decode cX6_init 28 = .ok (.putfield 25, 3) := dk_181 0 25 (dk_at dksX6_init_1 5 rfl rfl)
theorem dX6_init_31 : decode cX6_init 31 = .ok (.return_, 1) := dk_177 (dk_at dksX6_init_1 8 rfl rfl)
abbrev cX6_law : ByteArray := prog_18_method_22_code
def yX6_law : MethodName := ⟨RX6, "law", "()Ljava/util/ArrayList;"⟩
def dkwX6_law_5 : List UInt8 := [187, 0, 204, 89, 28, 45, 25, 4, 183, 0, 206, 182, 0, 209, 87, 167, 255, 138, 43, 176]
abbrev dktX6_law_5 : List UInt8 := dkwX6_law_5 ++ []
def dkwX6_law_4 : List UInt8 := [180, 0, 121, 6, 160, 0, 13, 42, 182, 0, 132, 42, 182, 0, 192, 58, 4, 42, 16, 59, 182, 0, 135, 43]
abbrev dktX6_law_4 : List UInt8 := dkwX6_law_4 ++ dktX6_law_5
def dkwX6_law_3 : List UInt8 := [180, 0, 121, 61, 42, 3, 181, 0, 157, 42, 182, 0, 132, 42, 182, 0, 195, 78, 1, 58, 4, 42]
abbrev dktX6_law_3 : List UInt8 := dkwX6_law_3 ++ dktX6_law_4
def dkwX6_law_2 : List UInt8 := [182, 0, 201, 16, 16, 160, 0, 16, 187, 0, 124, 89, 6, 42, 180, 0, 47, 183, 0, 126, 191, 42]
abbrev dktX6_law_2 : List UInt8 := dkwX6_law_2 ++ dktX6_law_3
def dkwX6_law_1 : List UInt8 := [16, 7, 16, 9, 184, 0, 43, 154, 0, 16, 187, 0, 124, 89, 4, 42, 180, 0, 47, 183, 0, 126, 191, 43]
abbrev dktX6_law_1 : List UInt8 := dkwX6_law_1 ++ dktX6_law_2
def dkwX6_law_0 : List UInt8 := [187, 0, 198, 89, 183, 0, 200, 76, 42, 182, 0, 132, 42, 180, 0, 121, 153, 0, 117, 42, 180, 0, 121]
abbrev dktX6_law_0 : List UInt8 := dkwX6_law_0 ++ dktX6_law_1
theorem dksX6_law_0 : cX6_law.data.toList.drop 0 = dktX6_law_0 := by decide +kernel
theorem dksX6_law_1 : cX6_law.data.toList.drop 23 = dktX6_law_1 := dk_seg dksX6_law_0 23 rfl rfl
theorem dksX6_law_2 : cX6_law.data.toList.drop 47 = dktX6_law_2 := dk_seg dksX6_law_1 24 rfl rfl
theorem dksX6_law_3 : cX6_law.data.toList.drop 69 = dktX6_law_3 := dk_seg dksX6_law_2 22 rfl rfl
theorem dksX6_law_4 : cX6_law.data.toList.drop 91 = dktX6_law_4 := dk_seg dksX6_law_3 22 rfl rfl
theorem dksX6_law_5 : cX6_law.data.toList.drop 115 = dktX6_law_5 := dk_seg dksX6_law_4 24 rfl rfl
theorem dX6_law_0 : decode cX6_law 0 = .ok (.new 198, 3) := dk_187 0 198 (dk_at dksX6_law_0 0 rfl rfl)
theorem dX6_law_3 : decode cX6_law 3 = .ok (.dup, 1) := dk_89 (dk_at dksX6_law_0 3 rfl rfl)
theorem dX6_law_4 : decode cX6_law 4 = .ok (.invokespecial 200, 3) := dk_183 0 200 (dk_at dksX6_law_0 4 rfl rfl)
theorem dX6_law_7 : decode cX6_law 7 = .ok (.astore_n 1, 1) := dk_76 (dk_at dksX6_law_0 7 rfl rfl)
theorem dX6_law_8 : decode cX6_law 8 = .ok (.aload_n 0, 1) := dk_42 (dk_at dksX6_law_0 8 rfl rfl)
theorem dX6_law_9 : decode cX6_law 9 = .ok (.invokevirtual 132, 3) := dk_182 0 132 (dk_at dksX6_law_0 9 rfl rfl)
theorem dX6_law_12 : decode cX6_law 12 = .ok (.aload_n 0, 1) := dk_42 (dk_at dksX6_law_0 12 rfl rfl)
theorem dX6_law_13 : decode cX6_law 13 = .ok (.getfield 121, 3) := dk_180 0 121 (dk_at dksX6_law_0 13 rfl rfl)
theorem dX6_law_16 : decode cX6_law 16 = .ok (.ifCond .eq 117, 3) := dk_153 0 117 (dk_at dksX6_law_0 16 rfl rfl)
theorem dX6_law_19 : decode cX6_law 19 = .ok (.aload_n 0, 1) := dk_42 (dk_at dksX6_law_0 19 rfl rfl)
theorem dX6_law_20 : decode cX6_law 20 = .ok (.getfield 121, 3) := dk_180 0 121 (dk_at dksX6_law_0 20 rfl rfl)
theorem dX6_law_23 : decode cX6_law 23 = .ok (.bipush 7, 2) := dk_16 7 (dk_at dksX6_law_1 0 rfl rfl)
theorem dX6_law_25 : decode cX6_law 25 = .ok (.bipush 9, 2) := dk_16 9 (dk_at dksX6_law_1 2 rfl rfl)
theorem dX6_law_27 : decode cX6_law 27 = .ok (.invokestatic 43, 3) := dk_184 0 43 (dk_at dksX6_law_1 4 rfl rfl)
theorem dX6_law_30 : decode cX6_law 30 = .ok (.ifCond .ne 16, 3) := dk_154 0 16 (dk_at dksX6_law_1 7 rfl rfl)
theorem dX6_law_33 : decode cX6_law 33 = .ok (.new 124, 3) := dk_187 0 124 (dk_at dksX6_law_1 10 rfl rfl)
theorem dX6_law_36 : decode cX6_law 36 = .ok (.dup, 1) := dk_89 (dk_at dksX6_law_1 13 rfl rfl)
theorem dX6_law_37 : decode cX6_law 37 = .ok (.iconst 1, 1) := dk_4 (dk_at dksX6_law_1 14 rfl rfl)
theorem dX6_law_38 : decode cX6_law 38 = .ok (.aload_n 0, 1) := dk_42 (dk_at dksX6_law_1 15 rfl rfl)
theorem dX6_law_39 : decode cX6_law 39 = .ok (.getfield 47, 3) := dk_180 0 47 (dk_at dksX6_law_1 16 rfl rfl)
theorem dX6_law_42 : decode cX6_law 42 = .ok (.invokespecial 126, 3) := dk_183 0 126 (dk_at dksX6_law_1 19 rfl rfl)
theorem dX6_law_45 : decode cX6_law 45 = .ok (.athrow, 1) := dk_191 (dk_at dksX6_law_1 22 rfl rfl)
theorem dX6_law_46 : decode cX6_law 46 = .ok (.aload_n 1, 1) := dk_43 (dk_at dksX6_law_1 23 rfl rfl)
theorem dX6_law_47 : decode cX6_law 47 = .ok (.invokevirtual 201, 3) := dk_182 0 201 (dk_at dksX6_law_2 0 rfl rfl)
theorem dX6_law_50 : decode cX6_law 50 = .ok (.bipush 16, 2) := dk_16 16 (dk_at dksX6_law_2 3 rfl rfl)
theorem dX6_law_52 : decode cX6_law 52 = .ok (.if_icmp .ne 16, 3) := dk_160 0 16 (dk_at dksX6_law_2 5 rfl rfl)
theorem dX6_law_55 : decode cX6_law 55 = .ok (.new 124, 3) := dk_187 0 124 (dk_at dksX6_law_2 8 rfl rfl)
theorem dX6_law_58 : decode cX6_law 58 = .ok (.dup, 1) := dk_89 (dk_at dksX6_law_2 11 rfl rfl)
theorem dX6_law_59 : decode cX6_law 59 = .ok (.iconst 3, 1) := dk_6 (dk_at dksX6_law_2 12 rfl rfl)
theorem dX6_law_60 : decode cX6_law 60 = .ok (.aload_n 0, 1) := dk_42 (dk_at dksX6_law_2 13 rfl rfl)
theorem dX6_law_61 : decode cX6_law 61 = .ok (.getfield 47, 3) := dk_180 0 47 (dk_at dksX6_law_2 14 rfl rfl)
theorem dX6_law_64 : decode cX6_law 64 = .ok (.invokespecial 126, 3) := dk_183 0 126 (dk_at dksX6_law_2 17 rfl rfl)
theorem dX6_law_67 : decode cX6_law 67 = .ok (.athrow, 1) := dk_191 (dk_at dksX6_law_2 20 rfl rfl)
theorem dX6_law_68 : decode cX6_law 68 = .ok (.aload_n 0, 1) := dk_42 (dk_at dksX6_law_2 21 rfl rfl)
theorem dX6_law_69 : decode cX6_law 69 = .ok (.getfield 121, 3) := dk_180 0 121 (dk_at dksX6_law_3 0 rfl rfl)
theorem dX6_law_72 : decode cX6_law 72 = .ok (.istore_n 2, 1) := dk_61 (dk_at dksX6_law_3 3 rfl rfl)
theorem dX6_law_73 : decode cX6_law 73 = .ok (.aload_n 0, 1) := dk_42 (dk_at dksX6_law_3 4 rfl rfl)
theorem dX6_law_74 : decode cX6_law 74 = .ok (.iconst 0, 1) := dk_3 (dk_at dksX6_law_3 5 rfl rfl)
theorem dX6_law_75 : decode cX6_law 75 = .ok (.putfield 157, 3) := dk_181 0 157 (dk_at dksX6_law_3 6 rfl rfl)
theorem dX6_law_78 : decode cX6_law 78 = .ok (.aload_n 0, 1) := dk_42 (dk_at dksX6_law_3 9 rfl rfl)
theorem dX6_law_79 : decode cX6_law 79 = .ok (.invokevirtual 132, 3) := dk_182 0 132 (dk_at dksX6_law_3 10 rfl rfl)
theorem dX6_law_82 : decode cX6_law 82 = .ok (.aload_n 0, 1) := dk_42 (dk_at dksX6_law_3 13 rfl rfl)
theorem dX6_law_83 : decode cX6_law 83 = .ok (.invokevirtual 195, 3) := dk_182 0 195 (dk_at dksX6_law_3 14 rfl rfl)
theorem dX6_law_86 : decode cX6_law 86 = .ok (.astore_n 3, 1) := dk_78 (dk_at dksX6_law_3 17 rfl rfl)
theorem dX6_law_87 : decode cX6_law 87 = .ok (.aconst_null, 1) := dk_1 (dk_at dksX6_law_3 18 rfl rfl)
theorem dX6_law_88 : decode cX6_law 88 = .ok (.astore 4, 2) := dk_58 4 (dk_at dksX6_law_3 19 rfl rfl)
theorem dX6_law_90 : decode cX6_law 90 = .ok (.aload_n 0, 1) := dk_42 (dk_at dksX6_law_3 21 rfl rfl)
theorem dX6_law_91 : decode cX6_law 91 = .ok (.getfield 121, 3) := dk_180 0 121 (dk_at dksX6_law_4 0 rfl rfl)
theorem dX6_law_94 : decode cX6_law 94 = .ok (.iconst 3, 1) := dk_6 (dk_at dksX6_law_4 3 rfl rfl)
theorem dX6_law_95 : decode cX6_law 95 = .ok (.if_icmp .ne 13, 3) := dk_160 0 13 (dk_at dksX6_law_4 4 rfl rfl)
theorem dX6_law_98 : decode cX6_law 98 = .ok (.aload_n 0, 1) := dk_42 (dk_at dksX6_law_4 7 rfl rfl)
theorem dX6_law_99 : decode cX6_law 99 = .ok (.invokevirtual 132, 3) := dk_182 0 132 (dk_at dksX6_law_4 8 rfl rfl)
theorem dX6_law_102 : decode cX6_law 102 = .ok (.aload_n 0, 1) := dk_42 (dk_at dksX6_law_4 11 rfl rfl)
theorem dX6_law_103 : decode cX6_law 103 = .ok (.invokevirtual 192, 3) := dk_182 0 192 (dk_at dksX6_law_4 12 rfl rfl)
theorem dX6_law_106 : decode cX6_law 106 = .ok (.astore 4, 2) := dk_58 4 (dk_at dksX6_law_4 15 rfl rfl)
theorem dX6_law_108 : decode cX6_law 108 = .ok (.aload_n 0, 1) := dk_42 (dk_at dksX6_law_4 17 rfl rfl)
theorem dX6_law_109 : decode cX6_law 109 = .ok (.bipush 59, 2) := dk_16 59 (dk_at dksX6_law_4 18 rfl rfl)
theorem dX6_law_111 : decode cX6_law 111 = .ok (.invokevirtual 135, 3) := dk_182 0 135 (dk_at dksX6_law_4 20 rfl rfl)
theorem dX6_law_114 : decode cX6_law 114 = .ok (.aload_n 1, 1) := dk_43 (dk_at dksX6_law_4 23 rfl rfl)
theorem dX6_law_115 : decode cX6_law 115 = .ok (.new 204, 3) := dk_187 0 204 (dk_at dksX6_law_5 0 rfl rfl)
theorem dX6_law_118 : decode cX6_law 118 = .ok (.dup, 1) := dk_89 (dk_at dksX6_law_5 3 rfl rfl)
theorem dX6_law_119 : decode cX6_law 119 = .ok (.iload_n 2, 1) := dk_28 (dk_at dksX6_law_5 4 rfl rfl)
theorem dX6_law_120 : decode cX6_law 120 = .ok (.aload_n 3, 1) := dk_45 (dk_at dksX6_law_5 5 rfl rfl)
theorem dX6_law_121 : decode cX6_law 121 = .ok (.aload 4, 2) := dk_25 4 (dk_at dksX6_law_5 6 rfl rfl)
theorem dX6_law_123 : decode cX6_law 123 = .ok (.invokespecial 206, 3) := dk_183 0 206 (dk_at dksX6_law_5 8 rfl rfl)
theorem dX6_law_126 : decode cX6_law 126 = .ok (.invokevirtual 209, 3) := dk_182 0 209 (dk_at dksX6_law_5 11 rfl rfl)
theorem dX6_law_129 : decode cX6_law 129 = .ok (.pop, 1) := dk_87 (dk_at dksX6_law_5 14 rfl rfl)
theorem dX6_law_130 : decode cX6_law 130 = .ok (.goto (-118), 3) := dk_167 255 138 (dk_at dksX6_law_5 15 rfl rfl)
theorem dX6_law_133 : decode cX6_law 133 = .ok (.aload_n 1, 1) := dk_43 (dk_at dksX6_law_5 18 rfl rfl)
theorem dX6_law_134 : decode cX6_law 134 = .ok (.areturn, 1) := dk_176 (dk_at dksX6_law_5 19 rfl rfl)
abbrev cX6_next : ByteArray := prog_18_method_13_code
def yX6_next : MethodName := ⟨RX6, "next", "()V"⟩
def dkwX6_next_9 : List UInt8 := [180, 0, 29, 4, 96, 181, 0, 29, 177]
abbrev dktX6_next_9 : List UInt8 := dkwX6_next_9 ++ []
def dkwX6_next_8 : List UInt8 := [182, 0, 39, 182, 0, 153, 153, 0, 10, 42, 182, 0, 39, 167, 0, 4, 4, 181, 0, 121, 42, 89]
abbrev dktX6_next_8 : List UInt8 := dkwX6_next_8 ++ dktX6_next_9
def dkwX6_next_7 : List UInt8 := [180, 0, 47, 100, 8, 162, 0, 7, 5, 167, 0, 4, 4, 181, 0, 121, 167, 0, 36, 42, 42, 42]
abbrev dktX6_next_7 : List UInt8 := dkwX6_next_7 ++ dktX6_next_8
def dkwX6_next_6 : List UInt8 := [181, 0, 129, 42, 89, 180, 0, 29, 4, 96, 181, 0, 29, 167, 255, 207, 42, 42, 180, 0, 29, 42]
abbrev dktX6_next_6 : List UInt8 := dkwX6_next_6 ++ dktX6_next_7
def dkwX6_next_5 : List UInt8 := [180, 0, 47, 7, 96, 162, 0, 22, 42, 16, 10, 42, 180, 0, 129, 104, 42, 182, 0, 39, 96, 16, 48, 100]
abbrev dktX6_next_5 : List UInt8 := dkwX6_next_5 ++ dktX6_next_6
def dkwX6_next_4 : List UInt8 := [182, 0, 150, 153, 0, 85, 42, 3, 181, 0, 129, 42, 182, 0, 150, 153, 0, 48, 42, 180, 0, 29, 42]
abbrev dktX6_next_4 : List UInt8 := dkwX6_next_4 ++ dktX6_next_5
def dkwX6_next_3 : List UInt8 := [180, 0, 29, 4, 96, 181, 0, 29, 167, 255, 239, 42, 42, 182, 0, 147, 181, 0, 121, 167, 0, 125, 42]
abbrev dktX6_next_3 : List UInt8 := dkwX6_next_3 ++ dktX6_next_4
def dkwX6_next_2 : List UInt8 := [3, 181, 0, 121, 167, 0, 163, 42, 182, 0, 143, 153, 0, 34, 42, 182, 0, 143, 153, 0, 16, 42, 89]
abbrev dktX6_next_2 : List UInt8 := dkwX6_next_2 ++ dktX6_next_3
def dkwX6_next_1 : List UInt8 := [96, 181, 0, 29, 167, 255, 228, 42, 42, 180, 0, 29, 181, 0, 47, 42, 182, 0, 39, 2, 160, 0, 11, 42]
abbrev dktX6_next_1 : List UInt8 := dkwX6_next_1 ++ dktX6_next_2
def dkwX6_next_0 : List UInt8 := [42, 182, 0, 39, 16, 32, 159, 0, 12, 42, 182, 0, 39, 16, 10, 160, 0, 16, 42, 89, 180, 0, 29, 4]
abbrev dktX6_next_0 : List UInt8 := dkwX6_next_0 ++ dktX6_next_1
theorem dksX6_next_0 : cX6_next.data.toList.drop 0 = dktX6_next_0 := by decide +kernel
theorem dksX6_next_1 : cX6_next.data.toList.drop 24 = dktX6_next_1 := dk_seg dksX6_next_0 24 rfl rfl
theorem dksX6_next_2 : cX6_next.data.toList.drop 48 = dktX6_next_2 := dk_seg dksX6_next_1 24 rfl rfl
theorem dksX6_next_3 : cX6_next.data.toList.drop 71 = dktX6_next_3 := dk_seg dksX6_next_2 23 rfl rfl
theorem dksX6_next_4 : cX6_next.data.toList.drop 94 = dktX6_next_4 := dk_seg dksX6_next_3 23 rfl rfl
theorem dksX6_next_5 : cX6_next.data.toList.drop 117 = dktX6_next_5 := dk_seg dksX6_next_4 23 rfl rfl
theorem dksX6_next_6 : cX6_next.data.toList.drop 141 = dktX6_next_6 := dk_seg dksX6_next_5 24 rfl rfl
theorem dksX6_next_7 : cX6_next.data.toList.drop 163 = dktX6_next_7 := dk_seg dksX6_next_6 22 rfl rfl
theorem dksX6_next_8 : cX6_next.data.toList.drop 185 = dktX6_next_8 := dk_seg dksX6_next_7 22 rfl rfl
theorem dksX6_next_9 : cX6_next.data.toList.drop 207 = dktX6_next_9 := dk_seg dksX6_next_8 22 rfl rfl
theorem dX6_next_0 : decode cX6_next 0 = .ok (.aload_n 0, 1) := dk_42 (dk_at dksX6_next_0 0 rfl rfl)
theorem dX6_next_1 : decode cX6_next 1 = .ok (.invokevirtual 39, 3) := dk_182 0 39 (dk_at dksX6_next_0 1 rfl rfl)
theorem dX6_next_4 : decode cX6_next 4 = .ok (.bipush 32, 2) := dk_16 32 (dk_at dksX6_next_0 4 rfl rfl)
theorem dX6_next_6 : decode cX6_next 6 = .ok (.if_icmp .eq 12, 3) := dk_159 0 12 (dk_at dksX6_next_0 6 rfl rfl)
theorem dX6_next_9 : decode cX6_next 9 = .ok (.aload_n 0, 1) := dk_42 (dk_at dksX6_next_0 9 rfl rfl)
theorem dX6_next_10 : decode cX6_next 10 = .ok (.invokevirtual 39, 3) := dk_182 0 39 (dk_at dksX6_next_0 10 rfl rfl)
theorem dX6_next_13 : decode cX6_next 13 = .ok (.bipush 10, 2) := dk_16 10 (dk_at dksX6_next_0 13 rfl rfl)
theorem dX6_next_15 : decode cX6_next 15 = .ok (.if_icmp .ne 16, 3) := dk_160 0 16 (dk_at dksX6_next_0 15 rfl rfl)
theorem dX6_next_18 : decode cX6_next 18 = .ok (.aload_n 0, 1) := dk_42 (dk_at dksX6_next_0 18 rfl rfl)
theorem dX6_next_19 : decode cX6_next 19 = .ok (.dup, 1) := dk_89 (dk_at dksX6_next_0 19 rfl rfl)
theorem dX6_next_20 : decode cX6_next 20 = .ok (.getfield 29, 3) := dk_180 0 29 (dk_at dksX6_next_0 20 rfl rfl)
theorem dX6_next_23 : decode cX6_next 23 = .ok (.iconst 1, 1) := dk_4 (dk_at dksX6_next_0 23 rfl rfl)
theorem dX6_next_24 : decode cX6_next 24 = .ok (.iadd, 1) := dk_96 (dk_at dksX6_next_1 0 rfl rfl)
theorem dX6_next_25 : decode cX6_next 25 = .ok (.putfield 29, 3) := dk_181 0 29 (dk_at dksX6_next_1 1 rfl rfl)
theorem dX6_next_28 : decode cX6_next 28 = .ok (.goto (-28), 3) := dk_167 255 228 (dk_at dksX6_next_1 4 rfl rfl)
theorem dX6_next_31 : decode cX6_next 31 = .ok (.aload_n 0, 1) := dk_42 (dk_at dksX6_next_1 7 rfl rfl)
theorem dX6_next_32 : decode cX6_next 32 = .ok (.aload_n 0, 1) := dk_42 (dk_at dksX6_next_1 8 rfl rfl)
theorem dX6_next_33 : decode cX6_next 33 = .ok (.getfield 29, 3) := dk_180 0 29 (dk_at dksX6_next_1 9 rfl rfl)
theorem dX6_next_36 : decode cX6_next 36 = .ok (.putfield 47, 3) := dk_181 0 47 (dk_at dksX6_next_1 12 rfl rfl)
theorem dX6_next_39 : decode cX6_next 39 = .ok (.aload_n 0, 1) := dk_42 (dk_at dksX6_next_1 15 rfl rfl)
theorem dX6_next_40 : decode cX6_next 40 = .ok (.invokevirtual 39, 3) := dk_182 0 39 (dk_at dksX6_next_1 16 rfl rfl)
theorem dX6_next_43 : decode cX6_next 43 = .ok (.iconst (-1), 1) := dk_2 (dk_at dksX6_next_1 19 rfl rfl)
theorem dX6_next_44 : decode cX6_next 44 = .ok (.if_icmp .ne 11, 3) := dk_160 0 11 (dk_at dksX6_next_1 20 rfl rfl)
theorem dX6_next_47 : decode cX6_next 47 = .ok (.aload_n 0, 1) := dk_42 (dk_at dksX6_next_1 23 rfl rfl)
theorem dX6_next_48 : decode cX6_next 48 = .ok (.iconst 0, 1) := dk_3 (dk_at dksX6_next_2 0 rfl rfl)
theorem dX6_next_49 : decode cX6_next 49 = .ok (.putfield 121, 3) := dk_181 0 121 (dk_at dksX6_next_2 1 rfl rfl)
theorem dX6_next_52 : decode cX6_next 52 = .ok (.goto 163, 3) := dk_167 0 163 (dk_at dksX6_next_2 4 rfl rfl)
theorem dX6_next_55 : decode cX6_next 55 = .ok (.aload_n 0, 1) := dk_42 (dk_at dksX6_next_2 7 rfl rfl)
theorem dX6_next_56 : decode cX6_next 56 = .ok (.invokevirtual 143, 3) := dk_182 0 143 (dk_at dksX6_next_2 8 rfl rfl)
theorem dX6_next_59 : decode cX6_next 59 = .ok (.ifCond .eq 34, 3) := dk_153 0 34 (dk_at dksX6_next_2 11 rfl rfl)
theorem dX6_next_62 : decode cX6_next 62 = .ok (.aload_n 0, 1) := dk_42 (dk_at dksX6_next_2 14 rfl rfl)
theorem dX6_next_63 : decode cX6_next 63 = .ok (.invokevirtual 143, 3) := dk_182 0 143 (dk_at dksX6_next_2 15 rfl rfl)
theorem dX6_next_66 : decode cX6_next 66 = .ok (.ifCond .eq 16, 3) := dk_153 0 16 (dk_at dksX6_next_2 18 rfl rfl)
theorem dX6_next_69 : decode cX6_next 69 = .ok (.aload_n 0, 1) := dk_42 (dk_at dksX6_next_2 21 rfl rfl)
theorem dX6_next_70 : decode cX6_next 70 = .ok (.dup, 1) := dk_89 (dk_at dksX6_next_2 22 rfl rfl)
theorem dX6_next_71 : decode cX6_next 71 = .ok (.getfield 29, 3) := dk_180 0 29 (dk_at dksX6_next_3 0 rfl rfl)
theorem dX6_next_74 : decode cX6_next 74 = .ok (.iconst 1, 1) := dk_4 (dk_at dksX6_next_3 3 rfl rfl)
theorem dX6_next_75 : decode cX6_next 75 = .ok (.iadd, 1) := dk_96 (dk_at dksX6_next_3 4 rfl rfl)
theorem dX6_next_76 : decode cX6_next 76 = .ok (.putfield 29, 3) := dk_181 0 29 (dk_at dksX6_next_3 5 rfl rfl)
theorem dX6_next_79 : decode cX6_next 79 = .ok (.goto (-17), 3) := dk_167 255 239 (dk_at dksX6_next_3 8 rfl rfl)
theorem dX6_next_82 : decode cX6_next 82 = .ok (.aload_n 0, 1) := dk_42 (dk_at dksX6_next_3 11 rfl rfl)
theorem dX6_next_83 : decode cX6_next 83 = .ok (.aload_n 0, 1) := dk_42 (dk_at dksX6_next_3 12 rfl rfl)
theorem dX6_next_84 : decode cX6_next 84 = .ok (.invokevirtual 147, 3) := dk_182 0 147 (dk_at dksX6_next_3 13 rfl rfl)
theorem dX6_next_87 : decode cX6_next 87 = .ok (.putfield 121, 3) := dk_181 0 121 (dk_at dksX6_next_3 16 rfl rfl)
theorem dX6_next_90 : decode cX6_next 90 = .ok (.goto 125, 3) := dk_167 0 125 (dk_at dksX6_next_3 19 rfl rfl)
theorem dX6_next_93 : decode cX6_next 93 = .ok (.aload_n 0, 1) := dk_42 (dk_at dksX6_next_3 22 rfl rfl)
theorem dX6_next_94 : decode cX6_next 94 = .ok (.invokevirtual 150, 3) := dk_182 0 150 (dk_at dksX6_next_4 0 rfl rfl)
theorem dX6_next_97 : decode cX6_next 97 = .ok (.ifCond .eq 85, 3) := dk_153 0 85 (dk_at dksX6_next_4 3 rfl rfl)
theorem dX6_next_100 : decode cX6_next 100 = .ok (.aload_n 0, 1) := dk_42 (dk_at dksX6_next_4 6 rfl rfl)
theorem dX6_next_101 : decode cX6_next 101 = .ok (.iconst 0, 1) := dk_3 (dk_at dksX6_next_4 7 rfl rfl)
theorem dX6_next_102 : decode cX6_next 102 = .ok (.putfield 129, 3) := dk_181 0 129 (dk_at dksX6_next_4 8 rfl rfl)
theorem dX6_next_105 : decode cX6_next 105 = .ok (.aload_n 0, 1) := dk_42 (dk_at dksX6_next_4 11 rfl rfl)
theorem dX6_next_106 : decode cX6_next 106 = .ok (.invokevirtual 150, 3) := dk_182 0 150 (dk_at dksX6_next_4 12 rfl rfl)
theorem dX6_next_109 : decode cX6_next 109 = .ok (.ifCond .eq 48, 3) := dk_153 0 48 (dk_at dksX6_next_4 15 rfl rfl)
theorem dX6_next_112 : decode cX6_next 112 = .ok (.aload_n 0, 1) := dk_42 (dk_at dksX6_next_4 18 rfl rfl)
theorem dX6_next_113 : decode cX6_next 113 = .ok (.getfield 29, 3) := dk_180 0 29 (dk_at dksX6_next_4 19 rfl rfl)
theorem dX6_next_116 : decode cX6_next 116 = .ok (.aload_n 0, 1) := dk_42 (dk_at dksX6_next_4 22 rfl rfl)
theorem dX6_next_117 : decode cX6_next 117 = .ok (.getfield 47, 3) := dk_180 0 47 (dk_at dksX6_next_5 0 rfl rfl)
theorem dX6_next_120 : decode cX6_next 120 = .ok (.iconst 4, 1) := dk_7 (dk_at dksX6_next_5 3 rfl rfl)
theorem dX6_next_121 : decode cX6_next 121 = .ok (.iadd, 1) := dk_96 (dk_at dksX6_next_5 4 rfl rfl)
theorem dX6_next_122 : decode cX6_next 122 = .ok (.if_icmp .ge 22, 3) := dk_162 0 22 (dk_at dksX6_next_5 5 rfl rfl)
theorem dX6_next_125 : decode cX6_next 125 = .ok (.aload_n 0, 1) := dk_42 (dk_at dksX6_next_5 8 rfl rfl)
theorem dX6_next_126 : decode cX6_next 126 = .ok (.bipush 10, 2) := dk_16 10 (dk_at dksX6_next_5 9 rfl rfl)
theorem dX6_next_128 : decode cX6_next 128 = .ok (.aload_n 0, 1) := dk_42 (dk_at dksX6_next_5 11 rfl rfl)
theorem dX6_next_129 : decode cX6_next 129 = .ok (.getfield 129, 3) := dk_180 0 129 (dk_at dksX6_next_5 12 rfl rfl)
theorem dX6_next_132 : decode cX6_next 132 = .ok (.imul, 1) := dk_104 (dk_at dksX6_next_5 15 rfl rfl)
theorem dX6_next_133 : decode cX6_next 133 = .ok (.aload_n 0, 1) := dk_42 (dk_at dksX6_next_5 16 rfl rfl)
theorem dX6_next_134 : decode cX6_next 134 = .ok (.invokevirtual 39, 3) := dk_182 0 39 (dk_at dksX6_next_5 17 rfl rfl)
theorem dX6_next_137 : decode cX6_next 137 = .ok (.iadd, 1) := dk_96 (dk_at dksX6_next_5 20 rfl rfl)
theorem dX6_next_138 : decode cX6_next 138 = .ok (.bipush 48, 2) := dk_16 48 (dk_at dksX6_next_5 21 rfl rfl)
theorem dX6_next_140 : decode cX6_next 140 = .ok (.isub, 1) := dk_100 (dk_at dksX6_next_5 23 rfl rfl)
theorem dX6_next_141 : decode cX6_next 141 = .ok (.putfield 129, 3) := dk_181 0 129 (dk_at dksX6_next_6 0 rfl rfl)
theorem dX6_next_144 : decode cX6_next 144 = .ok (.aload_n 0, 1) := dk_42 (dk_at dksX6_next_6 3 rfl rfl)
theorem dX6_next_145 : decode cX6_next 145 = .ok (.dup, 1) := dk_89 (dk_at dksX6_next_6 4 rfl rfl)
theorem dX6_next_146 : decode cX6_next 146 = .ok (.getfield 29, 3) := dk_180 0 29 (dk_at dksX6_next_6 5 rfl rfl)
theorem dX6_next_149 : decode cX6_next 149 = .ok (.iconst 1, 1) := dk_4 (dk_at dksX6_next_6 8 rfl rfl)
theorem dX6_next_150 : decode cX6_next 150 = .ok (.iadd, 1) := dk_96 (dk_at dksX6_next_6 9 rfl rfl)
theorem dX6_next_151 : decode cX6_next 151 = .ok (.putfield 29, 3) := dk_181 0 29 (dk_at dksX6_next_6 10 rfl rfl)
theorem dX6_next_154 : decode cX6_next 154 = .ok (.goto (-49), 3) := dk_167 255 207 (dk_at dksX6_next_6 13 rfl rfl)
theorem dX6_next_157 : decode cX6_next 157 = .ok (.aload_n 0, 1) := dk_42 (dk_at dksX6_next_6 16 rfl rfl)
theorem dX6_next_158 : decode cX6_next 158 = .ok (.aload_n 0, 1) := dk_42 (dk_at dksX6_next_6 17 rfl rfl)
theorem dX6_next_159 : decode cX6_next 159 = .ok (.getfield 29, 3) := dk_180 0 29 (dk_at dksX6_next_6 18 rfl rfl)
theorem dX6_next_162 : decode cX6_next 162 = .ok (.aload_n 0, 1) := dk_42 (dk_at dksX6_next_6 21 rfl rfl)
theorem dX6_next_163 : decode cX6_next 163 = .ok (.getfield 47, 3) := dk_180 0 47 (dk_at dksX6_next_7 0 rfl rfl)
theorem dX6_next_166 : decode cX6_next 166 = .ok (.isub, 1) := dk_100 (dk_at dksX6_next_7 3 rfl rfl)
theorem dX6_next_167 : decode cX6_next 167 = .ok (.iconst 5, 1) := dk_8 (dk_at dksX6_next_7 4 rfl rfl)
theorem dX6_next_168 : decode cX6_next 168 = .ok (.if_icmp .ge 7, 3) := dk_162 0 7 (dk_at dksX6_next_7 5 rfl rfl)
theorem dX6_next_171 : decode cX6_next 171 = .ok (.iconst 2, 1) := dk_5 (dk_at dksX6_next_7 8 rfl rfl)
theorem dX6_next_172 : decode cX6_next 172 = .ok (.goto 4, 3) := dk_167 0 4 (dk_at dksX6_next_7 9 rfl rfl)
theorem dX6_next_175 : decode cX6_next 175 = .ok (.iconst 1, 1) := dk_4 (dk_at dksX6_next_7 12 rfl rfl)
theorem dX6_next_176 : decode cX6_next 176 = .ok (.putfield 121, 3) := dk_181 0 121 (dk_at dksX6_next_7 13 rfl rfl)
theorem dX6_next_179 : decode cX6_next 179 = .ok (.goto 36, 3) := dk_167 0 36 (dk_at dksX6_next_7 16 rfl rfl)
theorem dX6_next_182 : decode cX6_next 182 = .ok (.aload_n 0, 1) := dk_42 (dk_at dksX6_next_7 19 rfl rfl)
theorem dX6_next_183 : decode cX6_next 183 = .ok (.aload_n 0, 1) := dk_42 (dk_at dksX6_next_7 20 rfl rfl)
theorem dX6_next_184 : decode cX6_next 184 = .ok (.aload_n 0, 1) := dk_42 (dk_at dksX6_next_7 21 rfl rfl)
theorem dX6_next_185 : decode cX6_next 185 = .ok (.invokevirtual 39, 3) := dk_182 0 39 (dk_at dksX6_next_8 0 rfl rfl)
theorem dX6_next_188 : decode cX6_next 188 = .ok (.invokevirtual 153, 3) := dk_182 0 153 (dk_at dksX6_next_8 3 rfl rfl)
theorem dX6_next_191 : decode cX6_next 191 = .ok (.ifCond .eq 10, 3) := dk_153 0 10 (dk_at dksX6_next_8 6 rfl rfl)
theorem dX6_next_194 : decode cX6_next 194 = .ok (.aload_n 0, 1) := dk_42 (dk_at dksX6_next_8 9 rfl rfl)
theorem dX6_next_195 : decode cX6_next 195 = .ok (.invokevirtual 39, 3) := dk_182 0 39 (dk_at dksX6_next_8 10 rfl rfl)
theorem dX6_next_198 : decode cX6_next 198 = .ok (.goto 4, 3) := dk_167 0 4 (dk_at dksX6_next_8 13 rfl rfl)
theorem dX6_next_201 : decode cX6_next 201 = .ok (.iconst 1, 1) := dk_4 (dk_at dksX6_next_8 16 rfl rfl)
theorem dX6_next_202 : decode cX6_next 202 = .ok (.putfield 121, 3) := dk_181 0 121 (dk_at dksX6_next_8 17 rfl rfl)
theorem dX6_next_205 : decode cX6_next 205 = .ok (.aload_n 0, 1) := dk_42 (dk_at dksX6_next_8 20 rfl rfl)
theorem dX6_next_206 : decode cX6_next 206 = .ok (.dup, 1) := dk_89 (dk_at dksX6_next_8 21 rfl rfl)
theorem dX6_next_207 : decode cX6_next 207 = .ok (.getfield 29, 3) := dk_180 0 29 (dk_at dksX6_next_9 0 rfl rfl)
theorem dX6_next_210 : decode cX6_next 210 = .ok (.iconst 1, 1) := dk_4 (dk_at dksX6_next_9 3 rfl rfl)
theorem dX6_next_211 : decode cX6_next 211 = .ok (.iadd, 1) := dk_96 (dk_at dksX6_next_9 4 rfl rfl)
theorem dX6_next_212 : decode cX6_next 212 = .ok (.putfield 29, 3) := dk_181 0 29 (dk_at dksX6_next_9 5 rfl rfl)
theorem dX6_next_215 : decode cX6_next 215 = .ok (.return_, 1) := dk_177 (dk_at dksX6_next_9 8 rfl rfl)
abbrev cX6_see : ByteArray := prog_18_method_2_code
def yX6_see : MethodName := ⟨RX6, "see", "()I"⟩
def dkwX6_see_1 : List UInt8 := [180, 0, 29, 51, 17, 0, 255, 126, 167, 0, 4, 2, 172]
abbrev dktX6_see_1 : List UInt8 := dkwX6_see_1 ++ []
def dkwX6_see_0 : List UInt8 := [42, 180, 0, 29, 42, 180, 0, 3, 180, 0, 32, 162, 0, 22, 42, 180, 0, 3, 180, 0, 35, 42]
abbrev dktX6_see_0 : List UInt8 := dkwX6_see_0 ++ dktX6_see_1
theorem dksX6_see_0 : cX6_see.data.toList.drop 0 = dktX6_see_0 := by decide +kernel
theorem dksX6_see_1 : cX6_see.data.toList.drop 22 = dktX6_see_1 := dk_seg dksX6_see_0 22 rfl rfl
theorem dX6_see_0 : decode cX6_see 0 = .ok (.aload_n 0, 1) := dk_42 (dk_at dksX6_see_0 0 rfl rfl)
theorem dX6_see_1 : decode cX6_see 1 = .ok (.getfield 29, 3) := dk_180 0 29 (dk_at dksX6_see_0 1 rfl rfl)
theorem dX6_see_4 : decode cX6_see 4 = .ok (.aload_n 0, 1) := dk_42 (dk_at dksX6_see_0 4 rfl rfl)
theorem dX6_see_5 : decode cX6_see 5 = .ok (.getfield 3, 3) := dk_180 0 3 (dk_at dksX6_see_0 5 rfl rfl)
theorem dX6_see_8 : decode cX6_see 8 = .ok (.getfield 32, 3) := dk_180 0 32 (dk_at dksX6_see_0 8 rfl rfl)
theorem dX6_see_11 : decode cX6_see 11 = .ok (.if_icmp .ge 22, 3) := dk_162 0 22 (dk_at dksX6_see_0 11 rfl rfl)
theorem dX6_see_14 : decode cX6_see 14 = .ok (.aload_n 0, 1) := dk_42 (dk_at dksX6_see_0 14 rfl rfl)
theorem dX6_see_15 : decode cX6_see 15 = .ok (.getfield 3, 3) := dk_180 0 3 (dk_at dksX6_see_0 15 rfl rfl)
theorem dX6_see_18 : decode cX6_see 18 = .ok (.getfield 35, 3) := dk_180 0 35 (dk_at dksX6_see_0 18 rfl rfl)
theorem dX6_see_21 : decode cX6_see 21 = .ok (.aload_n 0, 1) := dk_42 (dk_at dksX6_see_0 21 rfl rfl)
theorem dX6_see_22 : decode cX6_see 22 = .ok (.getfield 29, 3) := dk_180 0 29 (dk_at dksX6_see_1 0 rfl rfl)
theorem dX6_see_25 : decode cX6_see 25 = .ok (.baload, 1) := dk_51 (dk_at dksX6_see_1 3 rfl rfl)
theorem dX6_see_26 : decode cX6_see 26 = .ok (.sipush 255, 3) := dk_17 0 255 (dk_at dksX6_see_1 4 rfl rfl)
theorem dX6_see_29 : decode cX6_see 29 = .ok (.iand, 1) := dk_126 (dk_at dksX6_see_1 7 rfl rfl)
theorem dX6_see_30 : decode cX6_see 30 = .ok (.goto 4, 3) := dk_167 0 4 (dk_at dksX6_see_1 8 rfl rfl)
theorem dX6_see_33 : decode cX6_see 33 = .ok (.iconst (-1), 1) := dk_2 (dk_at dksX6_see_1 11 rfl rfl)
theorem dX6_see_34 : decode cX6_see 34 = .ok (.ireturn, 1) := dk_172 (dk_at dksX6_see_1 12 rfl rfl)
abbrev cX6_isLetter : ByteArray := prog_18_method_3_code
def yX6_isLetter : MethodName := ⟨RX6, "isLetter", "()Z"⟩
def dkwX6_isLetter_1 : List UInt8 := [184, 0, 43, 153, 0, 7, 4, 167, 0, 4, 3, 172]
abbrev dktX6_isLetter_1 : List UInt8 := dkwX6_isLetter_1 ++ []
def dkwX6_isLetter_0 : List UInt8 := [42, 182, 0, 39, 16, 97, 16, 122, 184, 0, 43, 154, 0, 17, 42, 182, 0, 39, 16, 65, 16, 90]
abbrev dktX6_isLetter_0 : List UInt8 := dkwX6_isLetter_0 ++ dktX6_isLetter_1
theorem dksX6_isLetter_0 : cX6_isLetter.data.toList.drop 0 = dktX6_isLetter_0 := by decide +kernel
theorem dksX6_isLetter_1 : cX6_isLetter.data.toList.drop 22 = dktX6_isLetter_1 := dk_seg dksX6_isLetter_0 22 rfl rfl
theorem dX6_isLetter_0 : decode cX6_isLetter 0 = .ok (.aload_n 0, 1) := dk_42 (dk_at dksX6_isLetter_0 0 rfl rfl)
theorem dX6_isLetter_1 : decode cX6_isLetter 1 = .ok (.invokevirtual 39, 3) := dk_182 0 39 (dk_at dksX6_isLetter_0 1 rfl rfl)
theorem dX6_isLetter_4 : decode cX6_isLetter 4 = .ok (.bipush 97, 2) := dk_16 97 (dk_at dksX6_isLetter_0 4 rfl rfl)
theorem dX6_isLetter_6 : decode cX6_isLetter 6 = .ok (.bipush 122, 2) := dk_16 122 (dk_at dksX6_isLetter_0 6 rfl rfl)
theorem dX6_isLetter_8 : decode cX6_isLetter 8 = .ok (.invokestatic 43, 3) := dk_184 0 43 (dk_at dksX6_isLetter_0 8 rfl rfl)
theorem dX6_isLetter_11 : decode cX6_isLetter 11 = .ok (.ifCond .ne 17, 3) := dk_154 0 17 (dk_at dksX6_isLetter_0 11 rfl rfl)
theorem dX6_isLetter_14 : decode cX6_isLetter 14 = .ok (.aload_n 0, 1) := dk_42 (dk_at dksX6_isLetter_0 14 rfl rfl)
theorem dX6_isLetter_15 : decode cX6_isLetter 15 = .ok (.invokevirtual 39, 3) := dk_182 0 39 (dk_at dksX6_isLetter_0 15 rfl rfl)
theorem dX6_isLetter_18 : decode cX6_isLetter 18 = .ok (.bipush 65, 2) := dk_16 65 (dk_at dksX6_isLetter_0 18 rfl rfl)
theorem dX6_isLetter_20 : decode cX6_isLetter 20 = .ok (.bipush 90, 2) := dk_16 90 (dk_at dksX6_isLetter_0 20 rfl rfl)
theorem dX6_isLetter_22 : decode cX6_isLetter 22 = .ok (.invokestatic 43, 3) := dk_184 0 43 (dk_at dksX6_isLetter_1 0 rfl rfl)
theorem dX6_isLetter_25 : decode cX6_isLetter 25 = .ok (.ifCond .eq 7, 3) := dk_153 0 7 (dk_at dksX6_isLetter_1 3 rfl rfl)
theorem dX6_isLetter_28 : decode cX6_isLetter 28 = .ok (.iconst 1, 1) := dk_4 (dk_at dksX6_isLetter_1 6 rfl rfl)
theorem dX6_isLetter_29 : decode cX6_isLetter 29 = .ok (.goto 4, 3) := dk_167 0 4 (dk_at dksX6_isLetter_1 7 rfl rfl)
theorem dX6_isLetter_32 : decode cX6_isLetter 32 = .ok (.iconst 0, 1) := dk_3 (dk_at dksX6_isLetter_1 10 rfl rfl)
theorem dX6_isLetter_33 : decode cX6_isLetter 33 = .ok (.ireturn, 1) := dk_172 (dk_at dksX6_isLetter_1 11 rfl rfl)
abbrev cX6_keyword : ByteArray := prog_18_method_9_code
def yX6_keyword : MethodName := ⟨RX6, "keyword", "()I"⟩
def dkwX6_keyword_2 : List UInt8 := [182, 0, 61, 153, 0, 8, 16, 11, 167, 0, 4, 4, 172]
abbrev dktX6_keyword_2 : List UInt8 := dkwX6_keyword_2 ++ []
def dkwX6_keyword_1 : List UInt8 := [182, 0, 114, 167, 0, 32, 42, 18, 117, 182, 0, 61, 153, 0, 8, 16, 10, 167, 0, 18, 42, 18, 119]
abbrev dktX6_keyword_1 : List UInt8 := dkwX6_keyword_1 ++ dktX6_keyword_2
def dkwX6_keyword_0 : List UInt8 := [42, 180, 0, 25, 154, 0, 10, 42, 182, 0, 111, 167, 0, 47, 42, 180, 0, 25, 5, 160, 0, 10, 42]
abbrev dktX6_keyword_0 : List UInt8 := dkwX6_keyword_0 ++ dktX6_keyword_1
theorem dksX6_keyword_0 : cX6_keyword.data.toList.drop 0 = dktX6_keyword_0 := by decide +kernel
theorem dksX6_keyword_1 : cX6_keyword.data.toList.drop 23 = dktX6_keyword_1 := dk_seg dksX6_keyword_0 23 rfl rfl
theorem dksX6_keyword_2 : cX6_keyword.data.toList.drop 46 = dktX6_keyword_2 := dk_seg dksX6_keyword_1 23 rfl rfl
theorem dX6_keyword_0 : decode cX6_keyword 0 = .ok (.aload_n 0, 1) := dk_42 (dk_at dksX6_keyword_0 0 rfl rfl)
theorem dX6_keyword_1 : decode cX6_keyword 1 = .ok (.getfield 25, 3) := dk_180 0 25 (dk_at dksX6_keyword_0 1 rfl rfl)
theorem dX6_keyword_4 : decode cX6_keyword 4 = .ok (.ifCond .ne 10, 3) := dk_154 0 10 (dk_at dksX6_keyword_0 4 rfl rfl)
theorem dX6_keyword_7 : decode cX6_keyword 7 = .ok (.aload_n 0, 1) := dk_42 (dk_at dksX6_keyword_0 7 rfl rfl)
theorem dX6_keyword_8 : decode cX6_keyword 8 = .ok (.invokevirtual 111, 3) := dk_182 0 111 (dk_at dksX6_keyword_0 8 rfl rfl)
theorem dX6_keyword_11 : decode cX6_keyword 11 = .ok (.goto 47, 3) := dk_167 0 47 (dk_at dksX6_keyword_0 11 rfl rfl)
theorem dX6_keyword_14 : decode cX6_keyword 14 = .ok (.aload_n 0, 1) := dk_42 (dk_at dksX6_keyword_0 14 rfl rfl)
theorem dX6_keyword_15 : decode cX6_keyword 15 = .ok (.getfield 25, 3) := dk_180 0 25 (dk_at dksX6_keyword_0 15 rfl rfl)
theorem dX6_keyword_18 : decode cX6_keyword 18 = .ok (.iconst 2, 1) := dk_5 (dk_at dksX6_keyword_0 18 rfl rfl)
theorem dX6_keyword_19 : decode cX6_keyword 19 = .ok (.if_icmp .ne 10, 3) := dk_160 0 10 (dk_at dksX6_keyword_0 19 rfl rfl)
theorem dX6_keyword_22 : decode cX6_keyword 22 = .ok (.aload_n 0, 1) := dk_42 (dk_at dksX6_keyword_0 22 rfl rfl)
theorem dX6_keyword_23 : decode cX6_keyword 23 = .ok (.invokevirtual 114, 3) := dk_182 0 114 (dk_at dksX6_keyword_1 0 rfl rfl)
theorem dX6_keyword_26 : decode cX6_keyword 26 = .ok (.goto 32, 3) := dk_167 0 32 (dk_at dksX6_keyword_1 3 rfl rfl)
theorem dX6_keyword_29 : decode cX6_keyword 29 = .ok (.aload_n 0, 1) := dk_42 (dk_at dksX6_keyword_1 6 rfl rfl)
theorem dX6_keyword_30 : decode cX6_keyword 30 = .ok (.ldc 117, 2) := dk_18 117 (dk_at dksX6_keyword_1 7 rfl rfl)
theorem dX6_keyword_32 : decode cX6_keyword 32 = .ok (.invokevirtual 61, 3) := dk_182 0 61 (dk_at dksX6_keyword_1 9 rfl rfl)
theorem dX6_keyword_35 : decode cX6_keyword 35 = .ok (.ifCond .eq 8, 3) := dk_153 0 8 (dk_at dksX6_keyword_1 12 rfl rfl)
theorem dX6_keyword_38 : decode cX6_keyword 38 = .ok (.bipush 10, 2) := dk_16 10 (dk_at dksX6_keyword_1 15 rfl rfl)
theorem dX6_keyword_40 : decode cX6_keyword 40 = .ok (.goto 18, 3) := dk_167 0 18 (dk_at dksX6_keyword_1 17 rfl rfl)
theorem dX6_keyword_43 : decode cX6_keyword 43 = .ok (.aload_n 0, 1) := dk_42 (dk_at dksX6_keyword_1 20 rfl rfl)
theorem dX6_keyword_44 : decode cX6_keyword 44 = .ok (.ldc 119, 2) := dk_18 119 (dk_at dksX6_keyword_1 21 rfl rfl)
theorem dX6_keyword_46 : decode cX6_keyword 46 = .ok (.invokevirtual 61, 3) := dk_182 0 61 (dk_at dksX6_keyword_2 0 rfl rfl)
theorem dX6_keyword_49 : decode cX6_keyword 49 = .ok (.ifCond .eq 8, 3) := dk_153 0 8 (dk_at dksX6_keyword_2 3 rfl rfl)
theorem dX6_keyword_52 : decode cX6_keyword 52 = .ok (.bipush 11, 2) := dk_16 11 (dk_at dksX6_keyword_2 6 rfl rfl)
theorem dX6_keyword_54 : decode cX6_keyword 54 = .ok (.goto 4, 3) := dk_167 0 4 (dk_at dksX6_keyword_2 8 rfl rfl)
theorem dX6_keyword_57 : decode cX6_keyword 57 = .ok (.iconst 1, 1) := dk_4 (dk_at dksX6_keyword_2 11 rfl rfl)
theorem dX6_keyword_58 : decode cX6_keyword 58 = .ok (.ireturn, 1) := dk_172 (dk_at dksX6_keyword_2 12 rfl rfl)
abbrev cX6_lawWord : ByteArray := prog_18_method_7_code
def yX6_lawWord : MethodName := ⟨RX6, "lawWord", "()I"⟩
def dkwX6_lawWord_3 : List UInt8 := [18, 93, 182, 0, 61, 153, 0, 8, 16, 9, 167, 0, 7, 42, 182, 0, 95, 172]
abbrev dktX6_lawWord_3 : List UInt8 := dkwX6_lawWord_3 ++ []
def dkwX6_lawWord_2 : List UInt8 := [18, 89, 182, 0, 61, 153, 0, 6, 16, 7, 172, 42, 18, 91, 182, 0, 61, 153, 0, 6, 16, 8, 172, 42]
abbrev dktX6_lawWord_2 : List UInt8 := dkwX6_lawWord_2 ++ dktX6_lawWord_3
def dkwX6_lawWord_1 : List UInt8 := [18, 85, 182, 0, 61, 153, 0, 5, 8, 172, 42, 18, 87, 182, 0, 61, 153, 0, 6, 16, 6, 172, 42]
abbrev dktX6_lawWord_1 : List UInt8 := dkwX6_lawWord_1 ++ dktX6_lawWord_2
def dkwX6_lawWord_0 : List UInt8 := [42, 18, 81, 182, 0, 61, 153, 0, 5, 6, 172, 42, 18, 83, 182, 0, 61, 153, 0, 5, 7, 172, 42]
abbrev dktX6_lawWord_0 : List UInt8 := dkwX6_lawWord_0 ++ dktX6_lawWord_1
theorem dksX6_lawWord_0 : cX6_lawWord.data.toList.drop 0 = dktX6_lawWord_0 := by decide +kernel
theorem dksX6_lawWord_1 : cX6_lawWord.data.toList.drop 23 = dktX6_lawWord_1 := dk_seg dksX6_lawWord_0 23 rfl rfl
theorem dksX6_lawWord_2 : cX6_lawWord.data.toList.drop 46 = dktX6_lawWord_2 := dk_seg dksX6_lawWord_1 23 rfl rfl
theorem dksX6_lawWord_3 : cX6_lawWord.data.toList.drop 70 = dktX6_lawWord_3 := dk_seg dksX6_lawWord_2 24 rfl rfl
theorem dX6_lawWord_0 : decode cX6_lawWord 0 = .ok (.aload_n 0, 1) := dk_42 (dk_at dksX6_lawWord_0 0 rfl rfl)
theorem dX6_lawWord_1 : decode cX6_lawWord 1 = .ok (.ldc 81, 2) := dk_18 81 (dk_at dksX6_lawWord_0 1 rfl rfl)
theorem dX6_lawWord_3 : decode cX6_lawWord 3 = .ok (.invokevirtual 61, 3) := dk_182 0 61 (dk_at dksX6_lawWord_0 3 rfl rfl)
theorem dX6_lawWord_6 : decode cX6_lawWord 6 = .ok (.ifCond .eq 5, 3) := dk_153 0 5 (dk_at dksX6_lawWord_0 6 rfl rfl)
theorem dX6_lawWord_9 : decode cX6_lawWord 9 = .ok (.iconst 3, 1) := dk_6 (dk_at dksX6_lawWord_0 9 rfl rfl)
theorem dX6_lawWord_10 : decode cX6_lawWord 10 = .ok (.ireturn, 1) := dk_172 (dk_at dksX6_lawWord_0 10 rfl rfl)
theorem dX6_lawWord_11 : decode cX6_lawWord 11 = .ok (.aload_n 0, 1) := dk_42 (dk_at dksX6_lawWord_0 11 rfl rfl)
theorem dX6_lawWord_12 : decode cX6_lawWord 12 = .ok (.ldc 83, 2) := dk_18 83 (dk_at dksX6_lawWord_0 12 rfl rfl)
theorem dX6_lawWord_14 : decode cX6_lawWord 14 = .ok (.invokevirtual 61, 3) := dk_182 0 61 (dk_at dksX6_lawWord_0 14 rfl rfl)
theorem dX6_lawWord_17 : decode cX6_lawWord 17 = .ok (.ifCond .eq 5, 3) := dk_153 0 5 (dk_at dksX6_lawWord_0 17 rfl rfl)
theorem dX6_lawWord_20 : decode cX6_lawWord 20 = .ok (.iconst 4, 1) := dk_7 (dk_at dksX6_lawWord_0 20 rfl rfl)
theorem dX6_lawWord_21 : decode cX6_lawWord 21 = .ok (.ireturn, 1) := dk_172 (dk_at dksX6_lawWord_0 21 rfl rfl)
theorem dX6_lawWord_22 : decode cX6_lawWord 22 = .ok (.aload_n 0, 1) := dk_42 (dk_at dksX6_lawWord_0 22 rfl rfl)
theorem dX6_lawWord_23 : decode cX6_lawWord 23 = .ok (.ldc 85, 2) := dk_18 85 (dk_at dksX6_lawWord_1 0 rfl rfl)
theorem dX6_lawWord_25 : decode cX6_lawWord 25 = .ok (.invokevirtual 61, 3) := dk_182 0 61 (dk_at dksX6_lawWord_1 2 rfl rfl)
theorem dX6_lawWord_28 : decode cX6_lawWord 28 = .ok (.ifCond .eq 5, 3) := dk_153 0 5 (dk_at dksX6_lawWord_1 5 rfl rfl)
theorem dX6_lawWord_31 : decode cX6_lawWord 31 = .ok (.iconst 5, 1) := dk_8 (dk_at dksX6_lawWord_1 8 rfl rfl)
theorem dX6_lawWord_32 : decode cX6_lawWord 32 = .ok (.ireturn, 1) := dk_172 (dk_at dksX6_lawWord_1 9 rfl rfl)
theorem dX6_lawWord_33 : decode cX6_lawWord 33 = .ok (.aload_n 0, 1) := dk_42 (dk_at dksX6_lawWord_1 10 rfl rfl)
theorem dX6_lawWord_34 : decode cX6_lawWord 34 = .ok (.ldc 87, 2) := dk_18 87 (dk_at dksX6_lawWord_1 11 rfl rfl)
theorem dX6_lawWord_36 : decode cX6_lawWord 36 = .ok (.invokevirtual 61, 3) := dk_182 0 61 (dk_at dksX6_lawWord_1 13 rfl rfl)
theorem dX6_lawWord_39 : decode cX6_lawWord 39 = .ok (.ifCond .eq 6, 3) := dk_153 0 6 (dk_at dksX6_lawWord_1 16 rfl rfl)
theorem dX6_lawWord_42 : decode cX6_lawWord 42 = .ok (.bipush 6, 2) := dk_16 6 (dk_at dksX6_lawWord_1 19 rfl rfl)
theorem dX6_lawWord_44 : decode cX6_lawWord 44 = .ok (.ireturn, 1) := dk_172 (dk_at dksX6_lawWord_1 21 rfl rfl)
theorem dX6_lawWord_45 : decode cX6_lawWord 45 = .ok (.aload_n 0, 1) := dk_42 (dk_at dksX6_lawWord_1 22 rfl rfl)
theorem dX6_lawWord_46 : decode cX6_lawWord 46 = .ok (.ldc 89, 2) := dk_18 89 (dk_at dksX6_lawWord_2 0 rfl rfl)
theorem dX6_lawWord_48 : decode cX6_lawWord 48 = .ok (.invokevirtual 61, 3) := dk_182 0 61 (dk_at dksX6_lawWord_2 2 rfl rfl)
theorem dX6_lawWord_51 : decode cX6_lawWord 51 = .ok (.ifCond .eq 6, 3) := dk_153 0 6 (dk_at dksX6_lawWord_2 5 rfl rfl)
theorem dX6_lawWord_54 : decode cX6_lawWord 54 = .ok (.bipush 7, 2) := dk_16 7 (dk_at dksX6_lawWord_2 8 rfl rfl)
theorem dX6_lawWord_56 : decode cX6_lawWord 56 = .ok (.ireturn, 1) := dk_172 (dk_at dksX6_lawWord_2 10 rfl rfl)
theorem dX6_lawWord_57 : decode cX6_lawWord 57 = .ok (.aload_n 0, 1) := dk_42 (dk_at dksX6_lawWord_2 11 rfl rfl)
theorem dX6_lawWord_58 : decode cX6_lawWord 58 = .ok (.ldc 91, 2) := dk_18 91 (dk_at dksX6_lawWord_2 12 rfl rfl)
theorem dX6_lawWord_60 : decode cX6_lawWord 60 = .ok (.invokevirtual 61, 3) := dk_182 0 61 (dk_at dksX6_lawWord_2 14 rfl rfl)
theorem dX6_lawWord_63 : decode cX6_lawWord 63 = .ok (.ifCond .eq 6, 3) := dk_153 0 6 (dk_at dksX6_lawWord_2 17 rfl rfl)
theorem dX6_lawWord_66 : decode cX6_lawWord 66 = .ok (.bipush 8, 2) := dk_16 8 (dk_at dksX6_lawWord_2 20 rfl rfl)
theorem dX6_lawWord_68 : decode cX6_lawWord 68 = .ok (.ireturn, 1) := dk_172 (dk_at dksX6_lawWord_2 22 rfl rfl)
theorem dX6_lawWord_69 : decode cX6_lawWord 69 = .ok (.aload_n 0, 1) := dk_42 (dk_at dksX6_lawWord_2 23 rfl rfl)
theorem dX6_lawWord_70 : decode cX6_lawWord 70 = .ok (.ldc 93, 2) := dk_18 93 (dk_at dksX6_lawWord_3 0 rfl rfl)
theorem dX6_lawWord_72 : decode cX6_lawWord 72 = .ok (.invokevirtual 61, 3) := dk_182 0 61 (dk_at dksX6_lawWord_3 2 rfl rfl)
theorem dX6_lawWord_75 : decode cX6_lawWord 75 = .ok (.ifCond .eq 8, 3) := dk_153 0 8 (dk_at dksX6_lawWord_3 5 rfl rfl)
theorem dX6_lawWord_78 : decode cX6_lawWord 78 = .ok (.bipush 9, 2) := dk_16 9 (dk_at dksX6_lawWord_3 8 rfl rfl)
theorem dX6_lawWord_80 : decode cX6_lawWord 80 = .ok (.goto 7, 3) := dk_167 0 7 (dk_at dksX6_lawWord_3 10 rfl rfl)
theorem dX6_lawWord_83 : decode cX6_lawWord 83 = .ok (.aload_n 0, 1) := dk_42 (dk_at dksX6_lawWord_3 13 rfl rfl)
theorem dX6_lawWord_84 : decode cX6_lawWord 84 = .ok (.invokevirtual 95, 3) := dk_182 0 95 (dk_at dksX6_lawWord_3 14 rfl rfl)
theorem dX6_lawWord_87 : decode cX6_lawWord 87 = .ok (.ireturn, 1) := dk_172 (dk_at dksX6_lawWord_3 17 rfl rfl)
abbrev cX6_is : ByteArray := prog_18_method_5_code
def yX6_is : MethodName := ⟨RX6, "is", "(Ljava/lang/String;)Z"⟩
def dkwX6_is_2 : List UInt8 := [96, 51, 43, 29, 182, 0, 55, 160, 0, 7, 4, 167, 0, 4, 3, 61, 132, 3, 1, 167, 255, 213, 28, 172]
abbrev dktX6_is_2 : List UInt8 := dkwX6_is_2 ++ []
def dkwX6_is_1 : List UInt8 := [29, 43, 182, 0, 50, 162, 0, 41, 28, 153, 0, 37, 42, 180, 0, 3, 180, 0, 35, 42, 180, 0, 47, 29]
abbrev dktX6_is_1 : List UInt8 := dkwX6_is_1 ++ dktX6_is_2
def dkwX6_is_0 : List UInt8 := [42, 180, 0, 29, 42, 180, 0, 47, 100, 43, 182, 0, 50, 160, 0, 7, 4, 167, 0, 4, 3, 61, 3, 62]
abbrev dktX6_is_0 : List UInt8 := dkwX6_is_0 ++ dktX6_is_1
theorem dksX6_is_0 : cX6_is.data.toList.drop 0 = dktX6_is_0 := by decide +kernel
theorem dksX6_is_1 : cX6_is.data.toList.drop 24 = dktX6_is_1 := dk_seg dksX6_is_0 24 rfl rfl
theorem dksX6_is_2 : cX6_is.data.toList.drop 48 = dktX6_is_2 := dk_seg dksX6_is_1 24 rfl rfl
theorem dX6_is_0 : decode cX6_is 0 = .ok (.aload_n 0, 1) := dk_42 (dk_at dksX6_is_0 0 rfl rfl)
theorem dX6_is_1 : decode cX6_is 1 = .ok (.getfield 29, 3) := dk_180 0 29 (dk_at dksX6_is_0 1 rfl rfl)
theorem dX6_is_4 : decode cX6_is 4 = .ok (.aload_n 0, 1) := dk_42 (dk_at dksX6_is_0 4 rfl rfl)
theorem dX6_is_5 : decode cX6_is 5 = .ok (.getfield 47, 3) := dk_180 0 47 (dk_at dksX6_is_0 5 rfl rfl)
theorem dX6_is_8 : decode cX6_is 8 = .ok (.isub, 1) := dk_100 (dk_at dksX6_is_0 8 rfl rfl)
theorem dX6_is_9 : decode cX6_is 9 = .ok (.aload_n 1, 1) := dk_43 (dk_at dksX6_is_0 9 rfl rfl)
theorem dX6_is_10 : decode cX6_is 10 = .ok (.invokevirtual 50, 3) := dk_182 0 50 (dk_at dksX6_is_0 10 rfl rfl)
theorem dX6_is_13 : decode cX6_is 13 = .ok (.if_icmp .ne 7, 3) := dk_160 0 7 (dk_at dksX6_is_0 13 rfl rfl)
theorem dX6_is_16 : decode cX6_is 16 = .ok (.iconst 1, 1) := dk_4 (dk_at dksX6_is_0 16 rfl rfl)
theorem dX6_is_17 : decode cX6_is 17 = .ok (.goto 4, 3) := dk_167 0 4 (dk_at dksX6_is_0 17 rfl rfl)
theorem dX6_is_20 : decode cX6_is 20 = .ok (.iconst 0, 1) := dk_3 (dk_at dksX6_is_0 20 rfl rfl)
theorem dX6_is_21 : decode cX6_is 21 = .ok (.istore_n 2, 1) := dk_61 (dk_at dksX6_is_0 21 rfl rfl)
theorem dX6_is_22 : decode cX6_is 22 = .ok (.iconst 0, 1) := dk_3 (dk_at dksX6_is_0 22 rfl rfl)
theorem dX6_is_23 : decode cX6_is 23 = .ok (.istore_n 3, 1) := dk_62 (dk_at dksX6_is_0 23 rfl rfl)
theorem dX6_is_24 : decode cX6_is 24 = .ok (.iload_n 3, 1) := dk_29 (dk_at dksX6_is_1 0 rfl rfl)
theorem dX6_is_25 : decode cX6_is 25 = .ok (.aload_n 1, 1) := dk_43 (dk_at dksX6_is_1 1 rfl rfl)
theorem dX6_is_26 : decode cX6_is 26 = .ok (.invokevirtual 50, 3) := dk_182 0 50 (dk_at dksX6_is_1 2 rfl rfl)
theorem dX6_is_29 : decode cX6_is 29 = .ok (.if_icmp .ge 41, 3) := dk_162 0 41 (dk_at dksX6_is_1 5 rfl rfl)
theorem dX6_is_32 : decode cX6_is 32 = .ok (.iload_n 2, 1) := dk_28 (dk_at dksX6_is_1 8 rfl rfl)
theorem dX6_is_33 : decode cX6_is 33 = .ok (.ifCond .eq 37, 3) := dk_153 0 37 (dk_at dksX6_is_1 9 rfl rfl)
theorem dX6_is_36 : decode cX6_is 36 = .ok (.aload_n 0, 1) := dk_42 (dk_at dksX6_is_1 12 rfl rfl)
theorem dX6_is_37 : decode cX6_is 37 = .ok (.getfield 3, 3) := dk_180 0 3 (dk_at dksX6_is_1 13 rfl rfl)
theorem dX6_is_40 : decode cX6_is 40 = .ok (.getfield 35, 3) := dk_180 0 35 (dk_at dksX6_is_1 16 rfl rfl)
theorem dX6_is_43 : decode cX6_is 43 = .ok (.aload_n 0, 1) := dk_42 (dk_at dksX6_is_1 19 rfl rfl)
theorem dX6_is_44 : decode cX6_is 44 = .ok (.getfield 47, 3) := dk_180 0 47 (dk_at dksX6_is_1 20 rfl rfl)
theorem dX6_is_47 : decode cX6_is 47 = .ok (.iload_n 3, 1) := dk_29 (dk_at dksX6_is_1 23 rfl rfl)
theorem dX6_is_48 : decode cX6_is 48 = .ok (.iadd, 1) := dk_96 (dk_at dksX6_is_2 0 rfl rfl)
theorem dX6_is_49 : decode cX6_is 49 = .ok (.baload, 1) := dk_51 (dk_at dksX6_is_2 1 rfl rfl)
theorem dX6_is_50 : decode cX6_is 50 = .ok (.aload_n 1, 1) := dk_43 (dk_at dksX6_is_2 2 rfl rfl)
theorem dX6_is_51 : decode cX6_is 51 = .ok (.iload_n 3, 1) := dk_29 (dk_at dksX6_is_2 3 rfl rfl)
theorem dX6_is_52 : decode cX6_is 52 = .ok (.invokevirtual 55, 3) := dk_182 0 55 (dk_at dksX6_is_2 4 rfl rfl)
theorem dX6_is_55 : decode cX6_is 55 = .ok (.if_icmp .ne 7, 3) := dk_160 0 7 (dk_at dksX6_is_2 7 rfl rfl)
theorem dX6_is_58 : decode cX6_is 58 = .ok (.iconst 1, 1) := dk_4 (dk_at dksX6_is_2 10 rfl rfl)
theorem dX6_is_59 : decode cX6_is 59 = .ok (.goto 4, 3) := dk_167 0 4 (dk_at dksX6_is_2 11 rfl rfl)
theorem dX6_is_62 : decode cX6_is 62 = .ok (.iconst 0, 1) := dk_3 (dk_at dksX6_is_2 14 rfl rfl)
theorem dX6_is_63 : decode cX6_is 63 = .ok (.istore_n 2, 1) := dk_61 (dk_at dksX6_is_2 15 rfl rfl)
theorem dX6_is_64 : decode cX6_is 64 = .ok (.iinc 3 1, 3) := dk_132 3 1 (dk_at dksX6_is_2 16 rfl rfl)
theorem dX6_is_67 : decode cX6_is 67 = .ok (.goto (-43), 3) := dk_167 255 213 (dk_at dksX6_is_2 19 rfl rfl)
theorem dX6_is_70 : decode cX6_is 70 = .ok (.iload_n 2, 1) := dk_28 (dk_at dksX6_is_2 22 rfl rfl)
theorem dX6_is_71 : decode cX6_is 71 = .ok (.ireturn, 1) := dk_172 (dk_at dksX6_is_2 23 rfl rfl)
abbrev cX6_asked : ByteArray := prog_18_method_6_code
def yX6_asked : MethodName := ⟨RX6, "asked", "()I"⟩
def dkwX6_asked_5 : List UInt8 := [167, 0, 4, 4, 172]
abbrev dktX6_asked_5 : List UInt8 := dkwX6_asked_5 ++ []
def dkwX6_asked_4 : List UInt8 := [18, 77, 182, 0, 61, 153, 0, 7, 17, 0, 187, 172, 42, 18, 79, 182, 0, 61, 153, 0, 9, 17, 0, 188]
abbrev dktX6_asked_4 : List UInt8 := dkwX6_asked_4 ++ dktX6_asked_5
def dkwX6_asked_3 : List UInt8 := [182, 0, 61, 153, 0, 7, 17, 0, 185, 172, 42, 18, 75, 182, 0, 61, 153, 0, 7, 17, 0, 186, 172, 42]
abbrev dktX6_asked_3 : List UInt8 := dkwX6_asked_3 ++ dktX6_asked_4
def dkwX6_asked_2 : List UInt8 := [153, 0, 7, 17, 0, 183, 172, 42, 18, 71, 182, 0, 61, 153, 0, 7, 17, 0, 184, 172, 42, 18, 73]
abbrev dktX6_asked_2 : List UInt8 := dkwX6_asked_2 ++ dktX6_asked_3
def dkwX6_asked_1 : List UInt8 := [17, 0, 181, 172, 42, 18, 67, 182, 0, 61, 153, 0, 7, 17, 0, 182, 172, 42, 18, 69, 182, 0, 61]
abbrev dktX6_asked_1 : List UInt8 := dkwX6_asked_1 ++ dktX6_asked_2
def dkwX6_asked_0 : List UInt8 := [42, 18, 59, 182, 0, 61, 153, 0, 7, 17, 0, 180, 172, 42, 18, 65, 182, 0, 61, 153, 0, 7]
abbrev dktX6_asked_0 : List UInt8 := dkwX6_asked_0 ++ dktX6_asked_1
theorem dksX6_asked_0 : cX6_asked.data.toList.drop 0 = dktX6_asked_0 := by decide +kernel
theorem dksX6_asked_1 : cX6_asked.data.toList.drop 22 = dktX6_asked_1 := dk_seg dksX6_asked_0 22 rfl rfl
theorem dksX6_asked_2 : cX6_asked.data.toList.drop 45 = dktX6_asked_2 := dk_seg dksX6_asked_1 23 rfl rfl
theorem dksX6_asked_3 : cX6_asked.data.toList.drop 68 = dktX6_asked_3 := dk_seg dksX6_asked_2 23 rfl rfl
theorem dksX6_asked_4 : cX6_asked.data.toList.drop 92 = dktX6_asked_4 := dk_seg dksX6_asked_3 24 rfl rfl
theorem dksX6_asked_5 : cX6_asked.data.toList.drop 116 = dktX6_asked_5 := dk_seg dksX6_asked_4 24 rfl rfl
theorem dX6_asked_0 : decode cX6_asked 0 = .ok (.aload_n 0, 1) := dk_42 (dk_at dksX6_asked_0 0 rfl rfl)
theorem dX6_asked_1 : decode cX6_asked 1 = .ok (.ldc 59, 2) := dk_18 59 (dk_at dksX6_asked_0 1 rfl rfl)
theorem dX6_asked_3 : decode cX6_asked 3 = .ok (.invokevirtual 61, 3) := dk_182 0 61 (dk_at dksX6_asked_0 3 rfl rfl)
theorem dX6_asked_6 : decode cX6_asked 6 = .ok (.ifCond .eq 7, 3) := dk_153 0 7 (dk_at dksX6_asked_0 6 rfl rfl)
theorem dX6_asked_9 : decode cX6_asked 9 = .ok (.sipush 180, 3) := dk_17 0 180 (dk_at dksX6_asked_0 9 rfl rfl)
theorem dX6_asked_12 : decode cX6_asked 12 = .ok (.ireturn, 1) := dk_172 (dk_at dksX6_asked_0 12 rfl rfl)
theorem dX6_asked_13 : decode cX6_asked 13 = .ok (.aload_n 0, 1) := dk_42 (dk_at dksX6_asked_0 13 rfl rfl)
theorem dX6_asked_14 : decode cX6_asked 14 = .ok (.ldc 65, 2) := dk_18 65 (dk_at dksX6_asked_0 14 rfl rfl)
theorem dX6_asked_16 : decode cX6_asked 16 = .ok (.invokevirtual 61, 3) := dk_182 0 61 (dk_at dksX6_asked_0 16 rfl rfl)
theorem dX6_asked_19 : decode cX6_asked 19 = .ok (.ifCond .eq 7, 3) := dk_153 0 7 (dk_at dksX6_asked_0 19 rfl rfl)
theorem dX6_asked_22 : decode cX6_asked 22 = .ok (.sipush 181, 3) := dk_17 0 181 (dk_at dksX6_asked_1 0 rfl rfl)
theorem dX6_asked_25 : decode cX6_asked 25 = .ok (.ireturn, 1) := dk_172 (dk_at dksX6_asked_1 3 rfl rfl)
theorem dX6_asked_26 : decode cX6_asked 26 = .ok (.aload_n 0, 1) := dk_42 (dk_at dksX6_asked_1 4 rfl rfl)
theorem dX6_asked_27 : decode cX6_asked 27 = .ok (.ldc 67, 2) := dk_18 67 (dk_at dksX6_asked_1 5 rfl rfl)
theorem dX6_asked_29 : decode cX6_asked 29 = .ok (.invokevirtual 61, 3) := dk_182 0 61 (dk_at dksX6_asked_1 7 rfl rfl)
theorem dX6_asked_32 : decode cX6_asked 32 = .ok (.ifCond .eq 7, 3) := dk_153 0 7 (dk_at dksX6_asked_1 10 rfl rfl)
theorem dX6_asked_35 : decode cX6_asked 35 = .ok (.sipush 182, 3) := dk_17 0 182 (dk_at dksX6_asked_1 13 rfl rfl)
theorem dX6_asked_38 : decode cX6_asked 38 = .ok (.ireturn, 1) := dk_172 (dk_at dksX6_asked_1 16 rfl rfl)
theorem dX6_asked_39 : decode cX6_asked 39 = .ok (.aload_n 0, 1) := dk_42 (dk_at dksX6_asked_1 17 rfl rfl)
theorem dX6_asked_40 : decode cX6_asked 40 = .ok (.ldc 69, 2) := dk_18 69 (dk_at dksX6_asked_1 18 rfl rfl)
theorem dX6_asked_42 : decode cX6_asked 42 = .ok (.invokevirtual 61, 3) := dk_182 0 61 (dk_at dksX6_asked_1 20 rfl rfl)
theorem dX6_asked_45 : decode cX6_asked 45 = .ok (.ifCond .eq 7, 3) := dk_153 0 7 (dk_at dksX6_asked_2 0 rfl rfl)
theorem dX6_asked_48 : decode cX6_asked 48 = .ok (.sipush 183, 3) := dk_17 0 183 (dk_at dksX6_asked_2 3 rfl rfl)
theorem dX6_asked_51 : decode cX6_asked 51 = .ok (.ireturn, 1) := dk_172 (dk_at dksX6_asked_2 6 rfl rfl)
theorem dX6_asked_52 : decode cX6_asked 52 = .ok (.aload_n 0, 1) := dk_42 (dk_at dksX6_asked_2 7 rfl rfl)
theorem dX6_asked_53 : decode cX6_asked 53 = .ok (.ldc 71, 2) := dk_18 71 (dk_at dksX6_asked_2 8 rfl rfl)
theorem dX6_asked_55 : decode cX6_asked 55 = .ok (.invokevirtual 61, 3) := dk_182 0 61 (dk_at dksX6_asked_2 10 rfl rfl)
theorem dX6_asked_58 : decode cX6_asked 58 = .ok (.ifCond .eq 7, 3) := dk_153 0 7 (dk_at dksX6_asked_2 13 rfl rfl)
theorem dX6_asked_61 : decode cX6_asked 61 = .ok (.sipush 184, 3) := dk_17 0 184 (dk_at dksX6_asked_2 16 rfl rfl)
theorem dX6_asked_64 : decode cX6_asked 64 = .ok (.ireturn, 1) := dk_172 (dk_at dksX6_asked_2 19 rfl rfl)
theorem dX6_asked_65 : decode cX6_asked 65 = .ok (.aload_n 0, 1) := dk_42 (dk_at dksX6_asked_2 20 rfl rfl)
theorem dX6_asked_66 : decode cX6_asked 66 = .ok (.ldc 73, 2) := dk_18 73 (dk_at dksX6_asked_2 21 rfl rfl)
theorem dX6_asked_68 : decode cX6_asked 68 = .ok (.invokevirtual 61, 3) := dk_182 0 61 (dk_at dksX6_asked_3 0 rfl rfl)
theorem dX6_asked_71 : decode cX6_asked 71 = .ok (.ifCond .eq 7, 3) := dk_153 0 7 (dk_at dksX6_asked_3 3 rfl rfl)
theorem dX6_asked_74 : decode cX6_asked 74 = .ok (.sipush 185, 3) := dk_17 0 185 (dk_at dksX6_asked_3 6 rfl rfl)
theorem dX6_asked_77 : decode cX6_asked 77 = .ok (.ireturn, 1) := dk_172 (dk_at dksX6_asked_3 9 rfl rfl)
theorem dX6_asked_78 : decode cX6_asked 78 = .ok (.aload_n 0, 1) := dk_42 (dk_at dksX6_asked_3 10 rfl rfl)
theorem dX6_asked_79 : decode cX6_asked 79 = .ok (.ldc 75, 2) := dk_18 75 (dk_at dksX6_asked_3 11 rfl rfl)
theorem dX6_asked_81 : decode cX6_asked 81 = .ok (.invokevirtual 61, 3) := dk_182 0 61 (dk_at dksX6_asked_3 13 rfl rfl)
theorem dX6_asked_84 : decode cX6_asked 84 = .ok (.ifCond .eq 7, 3) := dk_153 0 7 (dk_at dksX6_asked_3 16 rfl rfl)
theorem dX6_asked_87 : decode cX6_asked 87 = .ok (.sipush 186, 3) := dk_17 0 186 (dk_at dksX6_asked_3 19 rfl rfl)
theorem dX6_asked_90 : decode cX6_asked 90 = .ok (.ireturn, 1) := dk_172 (dk_at dksX6_asked_3 22 rfl rfl)
theorem dX6_asked_91 : decode cX6_asked 91 = .ok (.aload_n 0, 1) := dk_42 (dk_at dksX6_asked_3 23 rfl rfl)
theorem dX6_asked_92 : decode cX6_asked 92 = .ok (.ldc 77, 2) := dk_18 77 (dk_at dksX6_asked_4 0 rfl rfl)
theorem dX6_asked_94 : decode cX6_asked 94 = .ok (.invokevirtual 61, 3) := dk_182 0 61 (dk_at dksX6_asked_4 2 rfl rfl)
theorem dX6_asked_97 : decode cX6_asked 97 = .ok (.ifCond .eq 7, 3) := dk_153 0 7 (dk_at dksX6_asked_4 5 rfl rfl)
theorem dX6_asked_100 : decode cX6_asked 100 = .ok (.sipush 187, 3) := dk_17 0 187 (dk_at dksX6_asked_4 8 rfl rfl)
theorem dX6_asked_103 : decode cX6_asked 103 = .ok (.ireturn, 1) := dk_172 (dk_at dksX6_asked_4 11 rfl rfl)
theorem dX6_asked_104 : decode cX6_asked 104 = .ok (.aload_n 0, 1) := dk_42 (dk_at dksX6_asked_4 12 rfl rfl)
theorem dX6_asked_105 : decode cX6_asked 105 = .ok (.ldc 79, 2) := dk_18 79 (dk_at dksX6_asked_4 13 rfl rfl)
theorem dX6_asked_107 : decode cX6_asked 107 = .ok (.invokevirtual 61, 3) := dk_182 0 61 (dk_at dksX6_asked_4 15 rfl rfl)
theorem dX6_asked_110 : decode cX6_asked 110 = .ok (.ifCond .eq 9, 3) := dk_153 0 9 (dk_at dksX6_asked_4 18 rfl rfl)
theorem dX6_asked_113 : decode cX6_asked 113 = .ok (.sipush 188, 3) := dk_17 0 188 (dk_at dksX6_asked_4 21 rfl rfl)
theorem dX6_asked_116 : decode cX6_asked 116 = .ok (.goto 4, 3) := dk_167 0 4 (dk_at dksX6_asked_5 0 rfl rfl)
theorem dX6_asked_119 : decode cX6_asked 119 = .ok (.iconst 1, 1) := dk_4 (dk_at dksX6_asked_5 3 rfl rfl)
theorem dX6_asked_120 : decode cX6_asked 120 = .ok (.ireturn, 1) := dk_172 (dk_at dksX6_asked_5 4 rfl rfl)
abbrev cX6_planWord : ByteArray := prog_18_method_8_code
def yX6_planWord : MethodName := ⟨RX6, "planWord", "()I"⟩
def dkwX6_planWord_3 : List UInt8 := [42, 18, 110, 182, 0, 61, 153, 0, 8, 16, 18, 167, 0, 4, 4, 172]
abbrev dktX6_planWord_3 : List UInt8 := dkwX6_planWord_3 ++ []
def dkwX6_planWord_2 : List UInt8 := [42, 18, 106, 182, 0, 61, 153, 0, 6, 16, 16, 172, 42, 18, 108, 182, 0, 61, 153, 0, 6, 16, 17, 172]
abbrev dktX6_planWord_2 : List UInt8 := dkwX6_planWord_2 ++ dktX6_planWord_3
def dkwX6_planWord_1 : List UInt8 := [42, 18, 102, 182, 0, 61, 153, 0, 6, 16, 14, 172, 42, 18, 104, 182, 0, 61, 153, 0, 6, 16, 15, 172]
abbrev dktX6_planWord_1 : List UInt8 := dkwX6_planWord_1 ++ dktX6_planWord_2
def dkwX6_planWord_0 : List UInt8 := [42, 18, 98, 182, 0, 61, 153, 0, 6, 16, 12, 172, 42, 18, 100, 182, 0, 61, 153, 0, 6, 16, 13, 172]
abbrev dktX6_planWord_0 : List UInt8 := dkwX6_planWord_0 ++ dktX6_planWord_1
theorem dksX6_planWord_0 : cX6_planWord.data.toList.drop 0 = dktX6_planWord_0 := by decide +kernel
theorem dksX6_planWord_1 : cX6_planWord.data.toList.drop 24 = dktX6_planWord_1 := dk_seg dksX6_planWord_0 24 rfl rfl
theorem dksX6_planWord_2 : cX6_planWord.data.toList.drop 48 = dktX6_planWord_2 := dk_seg dksX6_planWord_1 24 rfl rfl
theorem dksX6_planWord_3 : cX6_planWord.data.toList.drop 72 = dktX6_planWord_3 := dk_seg dksX6_planWord_2 24 rfl rfl
theorem dX6_planWord_0 : decode cX6_planWord 0 = .ok (.aload_n 0, 1) := dk_42 (dk_at dksX6_planWord_0 0 rfl rfl)
theorem dX6_planWord_1 : decode cX6_planWord 1 = .ok (.ldc 98, 2) := dk_18 98 (dk_at dksX6_planWord_0 1 rfl rfl)
theorem dX6_planWord_3 : decode cX6_planWord 3 = .ok (.invokevirtual 61, 3) := dk_182 0 61 (dk_at dksX6_planWord_0 3 rfl rfl)
theorem dX6_planWord_6 : decode cX6_planWord 6 = .ok (.ifCond .eq 6, 3) := dk_153 0 6 (dk_at dksX6_planWord_0 6 rfl rfl)
theorem dX6_planWord_9 : decode cX6_planWord 9 = .ok (.bipush 12, 2) := dk_16 12 (dk_at dksX6_planWord_0 9 rfl rfl)
theorem dX6_planWord_11 : decode cX6_planWord 11 = .ok (.ireturn, 1) := dk_172 (dk_at dksX6_planWord_0 11 rfl rfl)
theorem dX6_planWord_12 : decode cX6_planWord 12 = .ok (.aload_n 0, 1) := dk_42 (dk_at dksX6_planWord_0 12 rfl rfl)
theorem dX6_planWord_13 : decode cX6_planWord 13 = .ok (.ldc 100, 2) := dk_18 100 (dk_at dksX6_planWord_0 13 rfl rfl)
theorem dX6_planWord_15 : decode cX6_planWord 15 = .ok (.invokevirtual 61, 3) := dk_182 0 61 (dk_at dksX6_planWord_0 15 rfl rfl)
theorem dX6_planWord_18 : decode cX6_planWord 18 = .ok (.ifCond .eq 6, 3) := dk_153 0 6 (dk_at dksX6_planWord_0 18 rfl rfl)
theorem dX6_planWord_21 : decode cX6_planWord 21 = .ok (.bipush 13, 2) := dk_16 13 (dk_at dksX6_planWord_0 21 rfl rfl)
theorem dX6_planWord_23 : decode cX6_planWord 23 = .ok (.ireturn, 1) := dk_172 (dk_at dksX6_planWord_0 23 rfl rfl)
theorem dX6_planWord_24 : decode cX6_planWord 24 = .ok (.aload_n 0, 1) := dk_42 (dk_at dksX6_planWord_1 0 rfl rfl)
theorem dX6_planWord_25 : decode cX6_planWord 25 = .ok (.ldc 102, 2) := dk_18 102 (dk_at dksX6_planWord_1 1 rfl rfl)
theorem dX6_planWord_27 : decode cX6_planWord 27 = .ok (.invokevirtual 61, 3) := dk_182 0 61 (dk_at dksX6_planWord_1 3 rfl rfl)
theorem dX6_planWord_30 : decode cX6_planWord 30 = .ok (.ifCond .eq 6, 3) := dk_153 0 6 (dk_at dksX6_planWord_1 6 rfl rfl)
theorem dX6_planWord_33 : decode cX6_planWord 33 = .ok (.bipush 14, 2) := dk_16 14 (dk_at dksX6_planWord_1 9 rfl rfl)
theorem dX6_planWord_35 : decode cX6_planWord 35 = .ok (.ireturn, 1) := dk_172 (dk_at dksX6_planWord_1 11 rfl rfl)
theorem dX6_planWord_36 : decode cX6_planWord 36 = .ok (.aload_n 0, 1) := dk_42 (dk_at dksX6_planWord_1 12 rfl rfl)
theorem dX6_planWord_37 : decode cX6_planWord 37 = .ok (.ldc 104, 2) := dk_18 104 (dk_at dksX6_planWord_1 13 rfl rfl)
theorem dX6_planWord_39 : decode cX6_planWord 39 = .ok (.invokevirtual 61, 3) := dk_182 0 61 (dk_at dksX6_planWord_1 15 rfl rfl)
theorem dX6_planWord_42 : decode cX6_planWord 42 = .ok (.ifCond .eq 6, 3) := dk_153 0 6 (dk_at dksX6_planWord_1 18 rfl rfl)
theorem dX6_planWord_45 : decode cX6_planWord 45 = .ok (.bipush 15, 2) := dk_16 15 (dk_at dksX6_planWord_1 21 rfl rfl)
theorem dX6_planWord_47 : decode cX6_planWord 47 = .ok (.ireturn, 1) := dk_172 (dk_at dksX6_planWord_1 23 rfl rfl)
theorem dX6_planWord_48 : decode cX6_planWord 48 = .ok (.aload_n 0, 1) := dk_42 (dk_at dksX6_planWord_2 0 rfl rfl)
theorem dX6_planWord_49 : decode cX6_planWord 49 = .ok (.ldc 106, 2) := dk_18 106 (dk_at dksX6_planWord_2 1 rfl rfl)
theorem dX6_planWord_51 : decode cX6_planWord 51 = .ok (.invokevirtual 61, 3) := dk_182 0 61 (dk_at dksX6_planWord_2 3 rfl rfl)
theorem dX6_planWord_54 : decode cX6_planWord 54 = .ok (.ifCond .eq 6, 3) := dk_153 0 6 (dk_at dksX6_planWord_2 6 rfl rfl)
theorem dX6_planWord_57 : decode cX6_planWord 57 = .ok (.bipush 16, 2) := dk_16 16 (dk_at dksX6_planWord_2 9 rfl rfl)
theorem dX6_planWord_59 : decode cX6_planWord 59 = .ok (.ireturn, 1) := dk_172 (dk_at dksX6_planWord_2 11 rfl rfl)
theorem dX6_planWord_60 : decode cX6_planWord 60 = .ok (.aload_n 0, 1) := dk_42 (dk_at dksX6_planWord_2 12 rfl rfl)
theorem dX6_planWord_61 : decode cX6_planWord 61 = .ok (.ldc 108, 2) := dk_18 108 (dk_at dksX6_planWord_2 13 rfl rfl)
theorem dX6_planWord_63 : decode cX6_planWord 63 = .ok (.invokevirtual 61, 3) := dk_182 0 61 (dk_at dksX6_planWord_2 15 rfl rfl)
theorem dX6_planWord_66 : decode cX6_planWord 66 = .ok (.ifCond .eq 6, 3) := dk_153 0 6 (dk_at dksX6_planWord_2 18 rfl rfl)
theorem dX6_planWord_69 : decode cX6_planWord 69 = .ok (.bipush 17, 2) := dk_16 17 (dk_at dksX6_planWord_2 21 rfl rfl)
theorem dX6_planWord_71 : decode cX6_planWord 71 = .ok (.ireturn, 1) := dk_172 (dk_at dksX6_planWord_2 23 rfl rfl)
theorem dX6_planWord_72 : decode cX6_planWord 72 = .ok (.aload_n 0, 1) := dk_42 (dk_at dksX6_planWord_3 0 rfl rfl)
theorem dX6_planWord_73 : decode cX6_planWord 73 = .ok (.ldc 110, 2) := dk_18 110 (dk_at dksX6_planWord_3 1 rfl rfl)
theorem dX6_planWord_75 : decode cX6_planWord 75 = .ok (.invokevirtual 61, 3) := dk_182 0 61 (dk_at dksX6_planWord_3 3 rfl rfl)
theorem dX6_planWord_78 : decode cX6_planWord 78 = .ok (.ifCond .eq 8, 3) := dk_153 0 8 (dk_at dksX6_planWord_3 6 rfl rfl)
theorem dX6_planWord_81 : decode cX6_planWord 81 = .ok (.bipush 18, 2) := dk_16 18 (dk_at dksX6_planWord_3 9 rfl rfl)
theorem dX6_planWord_83 : decode cX6_planWord 83 = .ok (.goto 4, 3) := dk_167 0 4 (dk_at dksX6_planWord_3 11 rfl rfl)
theorem dX6_planWord_86 : decode cX6_planWord 86 = .ok (.iconst 1, 1) := dk_4 (dk_at dksX6_planWord_3 14 rfl rfl)
theorem dX6_planWord_87 : decode cX6_planWord 87 = .ok (.ireturn, 1) := dk_172 (dk_at dksX6_planWord_3 15 rfl rfl)
abbrev cX6_isDigit : ByteArray := prog_18_method_4_code
def yX6_isDigit : MethodName := ⟨RX6, "isDigit", "()Z"⟩
def dkwX6_isDigit_0 : List UInt8 := [42, 182, 0, 39, 16, 48, 16, 57, 184, 0, 43, 172]
abbrev dktX6_isDigit_0 : List UInt8 := dkwX6_isDigit_0 ++ []
theorem dksX6_isDigit_0 : cX6_isDigit.data.toList.drop 0 = dktX6_isDigit_0 := by decide +kernel
theorem dX6_isDigit_0 : decode cX6_isDigit 0 = .ok (.aload_n 0, 1) := dk_42 (dk_at dksX6_isDigit_0 0 rfl rfl)
theorem dX6_isDigit_1 : decode cX6_isDigit 1 = .ok (.invokevirtual 39, 3) := dk_182 0 39 (dk_at dksX6_isDigit_0 1 rfl rfl)
theorem dX6_isDigit_4 : decode cX6_isDigit 4 = .ok (.bipush 48, 2) := dk_16 48 (dk_at dksX6_isDigit_0 4 rfl rfl)
theorem dX6_isDigit_6 : decode cX6_isDigit 6 = .ok (.bipush 57, 2) := dk_16 57 (dk_at dksX6_isDigit_0 6 rfl rfl)
theorem dX6_isDigit_8 : decode cX6_isDigit 8 = .ok (.invokestatic 43, 3) := dk_184 0 43 (dk_at dksX6_isDigit_0 8 rfl rfl)
theorem dX6_isDigit_11 : decode cX6_isDigit 11 = .ok (.ireturn, 1) := dk_172 (dk_at dksX6_isDigit_0 11 rfl rfl)
abbrev cX6_isMark : ByteArray := prog_18_method_12_code
def yX6_isMark : MethodName := ⟨RX6, "isMark", "(I)Z"⟩
def dkwX6_isMark_2 : List UInt8 := [27, 16, 61, 159, 0, 9, 27, 16, 62, 160, 0, 7, 4, 167, 0, 4, 3, 172]
abbrev dktX6_isMark_2 : List UInt8 := dkwX6_isMark_2 ++ []
def dkwX6_isMark_1 : List UInt8 := [27, 16, 47, 159, 0, 33, 27, 16, 40, 159, 0, 27, 27, 16, 41, 159, 0, 21, 27, 16, 60, 159, 0, 15]
abbrev dktX6_isMark_1 : List UInt8 := dkwX6_isMark_1 ++ dktX6_isMark_2
def dkwX6_isMark_0 : List UInt8 := [27, 16, 59, 159, 0, 57, 27, 16, 43, 159, 0, 51, 27, 16, 45, 159, 0, 45, 27, 16, 42, 159, 0, 39]
abbrev dktX6_isMark_0 : List UInt8 := dkwX6_isMark_0 ++ dktX6_isMark_1
theorem dksX6_isMark_0 : cX6_isMark.data.toList.drop 0 = dktX6_isMark_0 := by decide +kernel
theorem dksX6_isMark_1 : cX6_isMark.data.toList.drop 24 = dktX6_isMark_1 := dk_seg dksX6_isMark_0 24 rfl rfl
theorem dksX6_isMark_2 : cX6_isMark.data.toList.drop 48 = dktX6_isMark_2 := dk_seg dksX6_isMark_1 24 rfl rfl
theorem dX6_isMark_0 : decode cX6_isMark 0 = .ok (.iload_n 1, 1) := dk_27 (dk_at dksX6_isMark_0 0 rfl rfl)
theorem dX6_isMark_1 : decode cX6_isMark 1 = .ok (.bipush 59, 2) := dk_16 59 (dk_at dksX6_isMark_0 1 rfl rfl)
theorem dX6_isMark_3 : decode cX6_isMark 3 = .ok (.if_icmp .eq 57, 3) := dk_159 0 57 (dk_at dksX6_isMark_0 3 rfl rfl)
theorem dX6_isMark_6 : decode cX6_isMark 6 = .ok (.iload_n 1, 1) := dk_27 (dk_at dksX6_isMark_0 6 rfl rfl)
theorem dX6_isMark_7 : decode cX6_isMark 7 = .ok (.bipush 43, 2) := dk_16 43 (dk_at dksX6_isMark_0 7 rfl rfl)
theorem dX6_isMark_9 : decode cX6_isMark 9 = .ok (.if_icmp .eq 51, 3) := dk_159 0 51 (dk_at dksX6_isMark_0 9 rfl rfl)
theorem dX6_isMark_12 : decode cX6_isMark 12 = .ok (.iload_n 1, 1) := dk_27 (dk_at dksX6_isMark_0 12 rfl rfl)
theorem dX6_isMark_13 : decode cX6_isMark 13 = .ok (.bipush 45, 2) := dk_16 45 (dk_at dksX6_isMark_0 13 rfl rfl)
theorem dX6_isMark_15 : decode cX6_isMark 15 = .ok (.if_icmp .eq 45, 3) := dk_159 0 45 (dk_at dksX6_isMark_0 15 rfl rfl)
theorem dX6_isMark_18 : decode cX6_isMark 18 = .ok (.iload_n 1, 1) := dk_27 (dk_at dksX6_isMark_0 18 rfl rfl)
theorem dX6_isMark_19 : decode cX6_isMark 19 = .ok (.bipush 42, 2) := dk_16 42 (dk_at dksX6_isMark_0 19 rfl rfl)
theorem dX6_isMark_21 : decode cX6_isMark 21 = .ok (.if_icmp .eq 39, 3) := dk_159 0 39 (dk_at dksX6_isMark_0 21 rfl rfl)
theorem dX6_isMark_24 : decode cX6_isMark 24 = .ok (.iload_n 1, 1) := dk_27 (dk_at dksX6_isMark_1 0 rfl rfl)
theorem dX6_isMark_25 : decode cX6_isMark 25 = .ok (.bipush 47, 2) := dk_16 47 (dk_at dksX6_isMark_1 1 rfl rfl)
theorem dX6_isMark_27 : decode cX6_isMark 27 = .ok (.if_icmp .eq 33, 3) := dk_159 0 33 (dk_at dksX6_isMark_1 3 rfl rfl)
theorem dX6_isMark_30 : decode cX6_isMark 30 = .ok (.iload_n 1, 1) := dk_27 (dk_at dksX6_isMark_1 6 rfl rfl)
theorem dX6_isMark_31 : decode cX6_isMark 31 = .ok (.bipush 40, 2) := dk_16 40 (dk_at dksX6_isMark_1 7 rfl rfl)
theorem dX6_isMark_33 : decode cX6_isMark 33 = .ok (.if_icmp .eq 27, 3) := dk_159 0 27 (dk_at dksX6_isMark_1 9 rfl rfl)
theorem dX6_isMark_36 : decode cX6_isMark 36 = .ok (.iload_n 1, 1) := dk_27 (dk_at dksX6_isMark_1 12 rfl rfl)
theorem dX6_isMark_37 : decode cX6_isMark 37 = .ok (.bipush 41, 2) := dk_16 41 (dk_at dksX6_isMark_1 13 rfl rfl)
theorem dX6_isMark_39 : decode cX6_isMark 39 = .ok (.if_icmp .eq 21, 3) := dk_159 0 21 (dk_at dksX6_isMark_1 15 rfl rfl)
theorem dX6_isMark_42 : decode cX6_isMark 42 = .ok (.iload_n 1, 1) := dk_27 (dk_at dksX6_isMark_1 18 rfl rfl)
theorem dX6_isMark_43 : decode cX6_isMark 43 = .ok (.bipush 60, 2) := dk_16 60 (dk_at dksX6_isMark_1 19 rfl rfl)
theorem dX6_isMark_45 : decode cX6_isMark 45 = .ok (.if_icmp .eq 15, 3) := dk_159 0 15 (dk_at dksX6_isMark_1 21 rfl rfl)
theorem dX6_isMark_48 : decode cX6_isMark 48 = .ok (.iload_n 1, 1) := dk_27 (dk_at dksX6_isMark_2 0 rfl rfl)
theorem dX6_isMark_49 : decode cX6_isMark 49 = .ok (.bipush 61, 2) := dk_16 61 (dk_at dksX6_isMark_2 1 rfl rfl)
theorem dX6_isMark_51 : decode cX6_isMark 51 = .ok (.if_icmp .eq 9, 3) := dk_159 0 9 (dk_at dksX6_isMark_2 3 rfl rfl)
theorem dX6_isMark_54 : decode cX6_isMark 54 = .ok (.iload_n 1, 1) := dk_27 (dk_at dksX6_isMark_2 6 rfl rfl)
theorem dX6_isMark_55 : decode cX6_isMark 55 = .ok (.bipush 62, 2) := dk_16 62 (dk_at dksX6_isMark_2 7 rfl rfl)
theorem dX6_isMark_57 : decode cX6_isMark 57 = .ok (.if_icmp .ne 7, 3) := dk_160 0 7 (dk_at dksX6_isMark_2 9 rfl rfl)
theorem dX6_isMark_60 : decode cX6_isMark 60 = .ok (.iconst 1, 1) := dk_4 (dk_at dksX6_isMark_2 12 rfl rfl)
theorem dX6_isMark_61 : decode cX6_isMark 61 = .ok (.goto 4, 3) := dk_167 0 4 (dk_at dksX6_isMark_2 13 rfl rfl)
theorem dX6_isMark_64 : decode cX6_isMark 64 = .ok (.iconst 0, 1) := dk_3 (dk_at dksX6_isMark_2 16 rfl rfl)
theorem dX6_isMark_65 : decode cX6_isMark 65 = .ok (.ireturn, 1) := dk_172 (dk_at dksX6_isMark_2 17 rfl rfl)
abbrev cX6_sum : ByteArray := prog_18_method_16_code
def yX6_sum : MethodName := ⟨RX6, "sum", "()LBallotFruit$Term;"⟩
def dkwX6_sum_2 : List UInt8 := [167, 255, 215, 43, 176]
abbrev dktX6_sum_2 : List UInt8 := dkwX6_sum_2 ++ []
def dkwX6_sum_1 : List UInt8 := [180, 0, 121, 61, 42, 182, 0, 132, 187, 0, 163, 89, 43, 28, 42, 182, 0, 159, 183, 0, 165, 76]
abbrev dktX6_sum_1 : List UInt8 := dkwX6_sum_1 ++ dktX6_sum_2
def dkwX6_sum_0 : List UInt8 := [42, 182, 0, 159, 76, 42, 180, 0, 121, 16, 43, 159, 0, 12, 42, 180, 0, 121, 16, 45, 160, 0, 29, 42]
abbrev dktX6_sum_0 : List UInt8 := dkwX6_sum_0 ++ dktX6_sum_1
theorem dksX6_sum_0 : cX6_sum.data.toList.drop 0 = dktX6_sum_0 := by decide +kernel
theorem dksX6_sum_1 : cX6_sum.data.toList.drop 24 = dktX6_sum_1 := dk_seg dksX6_sum_0 24 rfl rfl
theorem dksX6_sum_2 : cX6_sum.data.toList.drop 46 = dktX6_sum_2 := dk_seg dksX6_sum_1 22 rfl rfl
theorem dX6_sum_0 : decode cX6_sum 0 = .ok (.aload_n 0, 1) := dk_42 (dk_at dksX6_sum_0 0 rfl rfl)
theorem dX6_sum_1 : decode cX6_sum 1 = .ok (.invokevirtual 159, 3) := dk_182 0 159 (dk_at dksX6_sum_0 1 rfl rfl)
theorem dX6_sum_4 : decode cX6_sum 4 = .ok (.astore_n 1, 1) := dk_76 (dk_at dksX6_sum_0 4 rfl rfl)
theorem dX6_sum_5 : decode cX6_sum 5 = .ok (.aload_n 0, 1) := dk_42 (dk_at dksX6_sum_0 5 rfl rfl)
theorem dX6_sum_6 : decode cX6_sum 6 = .ok (.getfield 121, 3) := dk_180 0 121 (dk_at dksX6_sum_0 6 rfl rfl)
theorem dX6_sum_9 : decode cX6_sum 9 = .ok (.bipush 43, 2) := dk_16 43 (dk_at dksX6_sum_0 9 rfl rfl)
theorem dX6_sum_11 : decode cX6_sum 11 = .ok (.if_icmp .eq 12, 3) := dk_159 0 12 (dk_at dksX6_sum_0 11 rfl rfl)
theorem dX6_sum_14 : decode cX6_sum 14 = .ok (.aload_n 0, 1) := dk_42 (dk_at dksX6_sum_0 14 rfl rfl)
theorem dX6_sum_15 : decode cX6_sum 15 = .ok (.getfield 121, 3) := dk_180 0 121 (dk_at dksX6_sum_0 15 rfl rfl)
theorem dX6_sum_18 : decode cX6_sum 18 = .ok (.bipush 45, 2) := dk_16 45 (dk_at dksX6_sum_0 18 rfl rfl)
theorem dX6_sum_20 : decode cX6_sum 20 = .ok (.if_icmp .ne 29, 3) := dk_160 0 29 (dk_at dksX6_sum_0 20 rfl rfl)
theorem dX6_sum_23 : decode cX6_sum 23 = .ok (.aload_n 0, 1) := dk_42 (dk_at dksX6_sum_0 23 rfl rfl)
theorem dX6_sum_24 : decode cX6_sum 24 = .ok (.getfield 121, 3) := dk_180 0 121 (dk_at dksX6_sum_1 0 rfl rfl)
theorem dX6_sum_27 : decode cX6_sum 27 = .ok (.istore_n 2, 1) := dk_61 (dk_at dksX6_sum_1 3 rfl rfl)
theorem dX6_sum_28 : decode cX6_sum 28 = .ok (.aload_n 0, 1) := dk_42 (dk_at dksX6_sum_1 4 rfl rfl)
theorem dX6_sum_29 : decode cX6_sum 29 = .ok (.invokevirtual 132, 3) := dk_182 0 132 (dk_at dksX6_sum_1 5 rfl rfl)
theorem dX6_sum_32 : decode cX6_sum 32 = .ok (.new 163, 3) := dk_187 0 163 (dk_at dksX6_sum_1 8 rfl rfl)
theorem dX6_sum_35 : decode cX6_sum 35 = .ok (.dup, 1) := dk_89 (dk_at dksX6_sum_1 11 rfl rfl)
theorem dX6_sum_36 : decode cX6_sum 36 = .ok (.aload_n 1, 1) := dk_43 (dk_at dksX6_sum_1 12 rfl rfl)
theorem dX6_sum_37 : decode cX6_sum 37 = .ok (.iload_n 2, 1) := dk_28 (dk_at dksX6_sum_1 13 rfl rfl)
theorem dX6_sum_38 : decode cX6_sum 38 = .ok (.aload_n 0, 1) := dk_42 (dk_at dksX6_sum_1 14 rfl rfl)
theorem dX6_sum_39 : decode cX6_sum 39 = .ok (.invokevirtual 159, 3) := dk_182 0 159 (dk_at dksX6_sum_1 15 rfl rfl)
theorem dX6_sum_42 : decode cX6_sum 42 = .ok (.invokespecial 165, 3) := dk_183 0 165 (dk_at dksX6_sum_1 18 rfl rfl)
theorem dX6_sum_45 : decode cX6_sum 45 = .ok (.astore_n 1, 1) := dk_76 (dk_at dksX6_sum_1 21 rfl rfl)
theorem dX6_sum_46 : decode cX6_sum 46 = .ok (.goto (-41), 3) := dk_167 255 215 (dk_at dksX6_sum_2 0 rfl rfl)
theorem dX6_sum_49 : decode cX6_sum 49 = .ok (.aload_n 1, 1) := dk_43 (dk_at dksX6_sum_2 3 rfl rfl)
theorem dX6_sum_50 : decode cX6_sum 50 = .ok (.areturn, 1) := dk_176 (dk_at dksX6_sum_2 4 rfl rfl)
abbrev cX6_product : ByteArray := prog_18_method_17_code
def yX6_product : MethodName := ⟨RX6, "product", "()LBallotFruit$Term;"⟩
def dkwX6_product_3 : List UInt8 := [167, 255, 191, 43, 176]
abbrev dktX6_product_3 : List UInt8 := dkwX6_product_3 ++ []
def dkwX6_product_2 : List UInt8 := [42, 4, 17, 39, 15, 182, 0, 139, 183, 0, 173, 167, 0, 7, 42, 182, 0, 168, 183, 0, 165, 76]
abbrev dktX6_product_2 : List UInt8 := dkwX6_product_2 ++ dktX6_product_3
def dkwX6_product_1 : List UInt8 := [180, 0, 121, 61, 42, 182, 0, 132, 187, 0, 163, 89, 43, 28, 28, 16, 47, 160, 0, 21, 187, 0, 171, 89]
abbrev dktX6_product_1 : List UInt8 := dkwX6_product_1 ++ dktX6_product_2
def dkwX6_product_0 : List UInt8 := [42, 182, 0, 168, 76, 42, 180, 0, 121, 16, 42, 159, 0, 12, 42, 180, 0, 121, 16, 47, 160, 0, 53, 42]
abbrev dktX6_product_0 : List UInt8 := dkwX6_product_0 ++ dktX6_product_1
theorem dksX6_product_0 : cX6_product.data.toList.drop 0 = dktX6_product_0 := by decide +kernel
theorem dksX6_product_1 : cX6_product.data.toList.drop 24 = dktX6_product_1 := dk_seg dksX6_product_0 24 rfl rfl
theorem dksX6_product_2 : cX6_product.data.toList.drop 48 = dktX6_product_2 := dk_seg dksX6_product_1 24 rfl rfl
theorem dksX6_product_3 : cX6_product.data.toList.drop 70 = dktX6_product_3 := dk_seg dksX6_product_2 22 rfl rfl
theorem dX6_product_0 : decode cX6_product 0 = .ok (.aload_n 0, 1) := dk_42 (dk_at dksX6_product_0 0 rfl rfl)
theorem dX6_product_1 : decode cX6_product 1 = .ok (.invokevirtual 168, 3) := dk_182 0 168 (dk_at dksX6_product_0 1 rfl rfl)
theorem dX6_product_4 : decode cX6_product 4 = .ok (.astore_n 1, 1) := dk_76 (dk_at dksX6_product_0 4 rfl rfl)
theorem dX6_product_5 : decode cX6_product 5 = .ok (.aload_n 0, 1) := dk_42 (dk_at dksX6_product_0 5 rfl rfl)
theorem dX6_product_6 : decode cX6_product 6 = .ok (.getfield 121, 3) := dk_180 0 121 (dk_at dksX6_product_0 6 rfl rfl)
theorem dX6_product_9 : decode cX6_product 9 = .ok (.bipush 42, 2) := dk_16 42 (dk_at dksX6_product_0 9 rfl rfl)
theorem dX6_product_11 : decode cX6_product 11 = .ok (.if_icmp .eq 12, 3) := dk_159 0 12 (dk_at dksX6_product_0 11 rfl rfl)
theorem dX6_product_14 : decode cX6_product 14 = .ok (.aload_n 0, 1) := dk_42 (dk_at dksX6_product_0 14 rfl rfl)
theorem dX6_product_15 : decode cX6_product 15 = .ok (.getfield 121, 3) := dk_180 0 121 (dk_at dksX6_product_0 15 rfl rfl)
theorem dX6_product_18 : decode cX6_product 18 = .ok (.bipush 47, 2) := dk_16 47 (dk_at dksX6_product_0 18 rfl rfl)
theorem dX6_product_20 : decode cX6_product 20 = .ok (.if_icmp .ne 53, 3) := dk_160 0 53 (dk_at dksX6_product_0 20 rfl rfl)
theorem dX6_product_23 : decode cX6_product 23 = .ok (.aload_n 0, 1) := dk_42 (dk_at dksX6_product_0 23 rfl rfl)
theorem dX6_product_24 : decode cX6_product 24 = .ok (.getfield 121, 3) := dk_180 0 121 (dk_at dksX6_product_1 0 rfl rfl)
theorem dX6_product_27 : decode cX6_product 27 = .ok (.istore_n 2, 1) := dk_61 (dk_at dksX6_product_1 3 rfl rfl)
theorem dX6_product_28 : decode cX6_product 28 = .ok (.aload_n 0, 1) := dk_42 (dk_at dksX6_product_1 4 rfl rfl)
theorem dX6_product_29 : decode cX6_product 29 = .ok (.invokevirtual 132, 3) := dk_182 0 132 (dk_at dksX6_product_1 5 rfl rfl)
theorem dX6_product_32 : decode cX6_product 32 = .ok (.new 163, 3) := dk_187 0 163 (dk_at dksX6_product_1 8 rfl rfl)
theorem dX6_product_35 : decode cX6_product 35 = .ok (.dup, 1) := dk_89 (dk_at dksX6_product_1 11 rfl rfl)
theorem dX6_product_36 : decode cX6_product 36 = .ok (.aload_n 1, 1) := dk_43 (dk_at dksX6_product_1 12 rfl rfl)
theorem dX6_product_37 : decode cX6_product 37 = .ok (.iload_n 2, 1) := dk_28 (dk_at dksX6_product_1 13 rfl rfl)
theorem dX6_product_38 : decode cX6_product 38 = .ok (.iload_n 2, 1) := dk_28 (dk_at dksX6_product_1 14 rfl rfl)
theorem dX6_product_39 : decode cX6_product 39 = .ok (.bipush 47, 2) := dk_16 47 (dk_at dksX6_product_1 15 rfl rfl)
theorem dX6_product_41 : decode cX6_product 41 = .ok (.if_icmp .ne 21, 3) := dk_160 0 21 (dk_at dksX6_product_1 17 rfl rfl)
theorem dX6_product_44 : decode cX6_product 44 = .ok (.new 171, 3) := dk_187 0 171 (dk_at dksX6_product_1 20 rfl rfl)
theorem dX6_product_47 : decode cX6_product 47 = .ok (.dup, 1) := dk_89 (dk_at dksX6_product_1 23 rfl rfl)
theorem dX6_product_48 : decode cX6_product 48 = .ok (.aload_n 0, 1) := dk_42 (dk_at dksX6_product_2 0 rfl rfl)
theorem dX6_product_49 : decode cX6_product 49 = .ok (.iconst 1, 1) := dk_4 (dk_at dksX6_product_2 1 rfl rfl)
theorem dX6_product_50 : decode cX6_product 50 = .ok (.sipush 9999, 3) := dk_17 39 15 (dk_at dksX6_product_2 2 rfl rfl)
theorem dX6_product_53 : decode cX6_product 53 = .ok (.invokevirtual 139, 3) := dk_182 0 139 (dk_at dksX6_product_2 5 rfl rfl)
theorem dX6_product_56 : decode cX6_product 56 = .ok (.invokespecial 173, 3) := dk_183 0 173 (dk_at dksX6_product_2 8 rfl rfl)
theorem dX6_product_59 : decode cX6_product 59 = .ok (.goto 7, 3) := dk_167 0 7 (dk_at dksX6_product_2 11 rfl rfl)
theorem dX6_product_62 : decode cX6_product 62 = .ok (.aload_n 0, 1) := dk_42 (dk_at dksX6_product_2 14 rfl rfl)
theorem dX6_product_63 : decode cX6_product 63 = .ok (.invokevirtual 168, 3) := dk_182 0 168 (dk_at dksX6_product_2 15 rfl rfl)
theorem dX6_product_66 : decode cX6_product 66 = .ok (.invokespecial 165, 3) := dk_183 0 165 (dk_at dksX6_product_2 18 rfl rfl)
theorem dX6_product_69 : decode cX6_product 69 = .ok (.astore_n 1, 1) := dk_76 (dk_at dksX6_product_2 21 rfl rfl)
theorem dX6_product_70 : decode cX6_product 70 = .ok (.goto (-65), 3) := dk_167 255 191 (dk_at dksX6_product_3 0 rfl rfl)
theorem dX6_product_73 : decode cX6_product 73 = .ok (.aload_n 1, 1) := dk_43 (dk_at dksX6_product_3 3 rfl rfl)
theorem dX6_product_74 : decode cX6_product 74 = .ok (.areturn, 1) := dk_176 (dk_at dksX6_product_3 4 rfl rfl)
abbrev cX6_unit : ByteArray := prog_18_method_18_code
def yX6_unit : MethodName := ⟨RX6, "unit", "()LBallotFruit$Term;"⟩
def dkwX6_unit_3 : List UInt8 := [27, 183, 0, 177, 176]
abbrev dktX6_unit_3 : List UInt8 := dkwX6_unit_3 ++ []
def dkwX6_unit_2 : List UInt8 := [180, 0, 47, 183, 0, 126, 191, 42, 180, 0, 121, 17, 0, 180, 100, 60, 42, 182, 0, 132, 187, 0, 175, 89]
abbrev dktX6_unit_2 : List UInt8 := dkwX6_unit_2 ++ dktX6_unit_3
def dkwX6_unit_1 : List UInt8 := [42, 180, 0, 121, 17, 0, 180, 17, 0, 188, 184, 0, 43, 154, 0, 16, 187, 0, 124, 89, 4, 42]
abbrev dktX6_unit_1 : List UInt8 := dkwX6_unit_1 ++ dktX6_unit_2
def dkwX6_unit_0 : List UInt8 := [42, 180, 0, 121, 5, 160, 0, 19, 187, 0, 171, 89, 42, 3, 17, 39, 15, 182, 0, 139, 183, 0, 173, 176]
abbrev dktX6_unit_0 : List UInt8 := dkwX6_unit_0 ++ dktX6_unit_1
theorem dksX6_unit_0 : cX6_unit.data.toList.drop 0 = dktX6_unit_0 := by decide +kernel
theorem dksX6_unit_1 : cX6_unit.data.toList.drop 24 = dktX6_unit_1 := dk_seg dksX6_unit_0 24 rfl rfl
theorem dksX6_unit_2 : cX6_unit.data.toList.drop 46 = dktX6_unit_2 := dk_seg dksX6_unit_1 22 rfl rfl
theorem dksX6_unit_3 : cX6_unit.data.toList.drop 70 = dktX6_unit_3 := dk_seg dksX6_unit_2 24 rfl rfl
theorem dX6_unit_0 : decode cX6_unit 0 = .ok (.aload_n 0, 1) := dk_42 (dk_at dksX6_unit_0 0 rfl rfl)
theorem dX6_unit_1 : decode cX6_unit 1 = .ok (.getfield 121, 3) := dk_180 0 121 (dk_at dksX6_unit_0 1 rfl rfl)
theorem dX6_unit_4 : decode cX6_unit 4 = .ok (.iconst 2, 1) := dk_5 (dk_at dksX6_unit_0 4 rfl rfl)
theorem dX6_unit_5 : decode cX6_unit 5 = .ok (.if_icmp .ne 19, 3) := dk_160 0 19 (dk_at dksX6_unit_0 5 rfl rfl)
theorem dX6_unit_8 : decode cX6_unit 8 = .ok (.new 171, 3) := dk_187 0 171 (dk_at dksX6_unit_0 8 rfl rfl)
theorem dX6_unit_11 : decode cX6_unit 11 = .ok (.dup, 1) := dk_89 (dk_at dksX6_unit_0 11 rfl rfl)
theorem dX6_unit_12 : decode cX6_unit 12 = .ok (.aload_n 0, 1) := dk_42 (dk_at dksX6_unit_0 12 rfl rfl)
theorem dX6_unit_13 : decode cX6_unit 13 = .ok (.iconst 0, 1) := dk_3 (dk_at dksX6_unit_0 13 rfl rfl)
theorem dX6_unit_14 : decode cX6_unit 14 = .ok (.sipush 9999, 3) := dk_17 39 15 (dk_at dksX6_unit_0 14 rfl rfl)
theorem dX6_unit_17 : decode cX6_unit 17 = .ok (.invokevirtual 139, 3) := dk_182 0 139 (dk_at dksX6_unit_0 17 rfl rfl)
theorem dX6_unit_20 : decode cX6_unit 20 = .ok (.invokespecial 173, 3) := dk_183 0 173 (dk_at dksX6_unit_0 20 rfl rfl)
theorem dX6_unit_23 : decode cX6_unit 23 = .ok (.areturn, 1) := dk_176 (dk_at dksX6_unit_0 23 rfl rfl)
theorem dX6_unit_24 : decode cX6_unit 24 = .ok (.aload_n 0, 1) := dk_42 (dk_at dksX6_unit_1 0 rfl rfl)
theorem dX6_unit_25 : decode cX6_unit 25 = .ok (.getfield 121, 3) := dk_180 0 121 (dk_at dksX6_unit_1 1 rfl rfl)
theorem dX6_unit_28 : decode cX6_unit 28 = .ok (.sipush 180, 3) := dk_17 0 180 (dk_at dksX6_unit_1 4 rfl rfl)
theorem dX6_unit_31 : decode cX6_unit 31 = .ok (.sipush 188, 3) := dk_17 0 188 (dk_at dksX6_unit_1 7 rfl rfl)
theorem dX6_unit_34 : decode cX6_unit 34 = .ok (.invokestatic 43, 3) := dk_184 0 43 (dk_at dksX6_unit_1 10 rfl rfl)
theorem dX6_unit_37 : decode cX6_unit 37 = .ok (.ifCond .ne 16, 3) := dk_154 0 16 (dk_at dksX6_unit_1 13 rfl rfl)
theorem dX6_unit_40 : decode cX6_unit 40 = .ok (.new 124, 3) := dk_187 0 124 (dk_at dksX6_unit_1 16 rfl rfl)
theorem dX6_unit_43 : decode cX6_unit 43 = .ok (.dup, 1) := dk_89 (dk_at dksX6_unit_1 19 rfl rfl)
theorem dX6_unit_44 : decode cX6_unit 44 = .ok (.iconst 1, 1) := dk_4 (dk_at dksX6_unit_1 20 rfl rfl)
theorem dX6_unit_45 : decode cX6_unit 45 = .ok (.aload_n 0, 1) := dk_42 (dk_at dksX6_unit_1 21 rfl rfl)
theorem dX6_unit_46 : decode cX6_unit 46 = .ok (.getfield 47, 3) := dk_180 0 47 (dk_at dksX6_unit_2 0 rfl rfl)
theorem dX6_unit_49 : decode cX6_unit 49 = .ok (.invokespecial 126, 3) := dk_183 0 126 (dk_at dksX6_unit_2 3 rfl rfl)
theorem dX6_unit_52 : decode cX6_unit 52 = .ok (.athrow, 1) := dk_191 (dk_at dksX6_unit_2 6 rfl rfl)
theorem dX6_unit_53 : decode cX6_unit 53 = .ok (.aload_n 0, 1) := dk_42 (dk_at dksX6_unit_2 7 rfl rfl)
theorem dX6_unit_54 : decode cX6_unit 54 = .ok (.getfield 121, 3) := dk_180 0 121 (dk_at dksX6_unit_2 8 rfl rfl)
theorem dX6_unit_57 : decode cX6_unit 57 = .ok (.sipush 180, 3) := dk_17 0 180 (dk_at dksX6_unit_2 11 rfl rfl)
theorem dX6_unit_60 : decode cX6_unit 60 = .ok (.isub, 1) := dk_100 (dk_at dksX6_unit_2 14 rfl rfl)
theorem dX6_unit_61 : decode cX6_unit 61 = .ok (.istore_n 1, 1) := dk_60 (dk_at dksX6_unit_2 15 rfl rfl)
theorem dX6_unit_62 : decode cX6_unit 62 = .ok (.aload_n 0, 1) := dk_42 (dk_at dksX6_unit_2 16 rfl rfl)
theorem dX6_unit_63 : decode cX6_unit 63 = .ok (.invokevirtual 132, 3) := dk_182 0 132 (dk_at dksX6_unit_2 17 rfl rfl)
theorem dX6_unit_66 : decode cX6_unit 66 = .ok (.new 175, 3) := dk_187 0 175 (dk_at dksX6_unit_2 20 rfl rfl)
theorem dX6_unit_69 : decode cX6_unit 69 = .ok (.dup, 1) := dk_89 (dk_at dksX6_unit_2 23 rfl rfl)
theorem dX6_unit_70 : decode cX6_unit 70 = .ok (.iload_n 1, 1) := dk_27 (dk_at dksX6_unit_3 0 rfl rfl)
theorem dX6_unit_71 : decode cX6_unit 71 = .ok (.invokespecial 177, 3) := dk_183 0 177 (dk_at dksX6_unit_3 1 rfl rfl)
theorem dX6_unit_74 : decode cX6_unit 74 = .ok (.areturn, 1) := dk_176 (dk_at dksX6_unit_3 4 rfl rfl)
abbrev cX6_number : ByteArray := prog_18_method_10_code
def yX6_number : MethodName := ⟨RX6, "number", "(II)I"⟩
def dkwX6_number_2 : List UInt8 := [42, 180, 0, 129, 62, 42, 182, 0, 132, 29, 172]
abbrev dktX6_number_2 : List UInt8 := dkwX6_number_2 ++ []
def dkwX6_number_1 : List UInt8 := [180, 0, 129, 27, 28, 184, 0, 43, 154, 0, 16, 187, 0, 124, 89, 5, 42, 180, 0, 47, 183, 0, 126, 191]
abbrev dktX6_number_1 : List UInt8 := dkwX6_number_1 ++ dktX6_number_2
def dkwX6_number_0 : List UInt8 := [42, 180, 0, 121, 5, 159, 0, 16, 187, 0, 124, 89, 4, 42, 180, 0, 47, 183, 0, 126, 191, 42]
abbrev dktX6_number_0 : List UInt8 := dkwX6_number_0 ++ dktX6_number_1
theorem dksX6_number_0 : cX6_number.data.toList.drop 0 = dktX6_number_0 := by decide +kernel
theorem dksX6_number_1 : cX6_number.data.toList.drop 22 = dktX6_number_1 := dk_seg dksX6_number_0 22 rfl rfl
theorem dksX6_number_2 : cX6_number.data.toList.drop 46 = dktX6_number_2 := dk_seg dksX6_number_1 24 rfl rfl
theorem dX6_number_0 : decode cX6_number 0 = .ok (.aload_n 0, 1) := dk_42 (dk_at dksX6_number_0 0 rfl rfl)
theorem dX6_number_1 : decode cX6_number 1 = .ok (.getfield 121, 3) := dk_180 0 121 (dk_at dksX6_number_0 1 rfl rfl)
theorem dX6_number_4 : decode cX6_number 4 = .ok (.iconst 2, 1) := dk_5 (dk_at dksX6_number_0 4 rfl rfl)
theorem dX6_number_5 : decode cX6_number 5 = .ok (.if_icmp .eq 16, 3) := dk_159 0 16 (dk_at dksX6_number_0 5 rfl rfl)
theorem dX6_number_8 : decode cX6_number 8 = .ok (.new 124, 3) := dk_187 0 124 (dk_at dksX6_number_0 8 rfl rfl)
theorem dX6_number_11 : decode cX6_number 11 = .ok (.dup, 1) := dk_89 (dk_at dksX6_number_0 11 rfl rfl)
theorem dX6_number_12 : decode cX6_number 12 = .ok (.iconst 1, 1) := dk_4 (dk_at dksX6_number_0 12 rfl rfl)
theorem dX6_number_13 : decode cX6_number 13 = .ok (.aload_n 0, 1) := dk_42 (dk_at dksX6_number_0 13 rfl rfl)
theorem dX6_number_14 : decode cX6_number 14 = .ok (.getfield 47, 3) := dk_180 0 47 (dk_at dksX6_number_0 14 rfl rfl)
theorem dX6_number_17 : decode cX6_number 17 = .ok (.invokespecial 126, 3) := dk_183 0 126 (dk_at dksX6_number_0 17 rfl rfl)
theorem dX6_number_20 : decode cX6_number 20 = .ok (.athrow, 1) := dk_191 (dk_at dksX6_number_0 20 rfl rfl)
theorem dX6_number_21 : decode cX6_number 21 = .ok (.aload_n 0, 1) := dk_42 (dk_at dksX6_number_0 21 rfl rfl)
theorem dX6_number_22 : decode cX6_number 22 = .ok (.getfield 129, 3) := dk_180 0 129 (dk_at dksX6_number_1 0 rfl rfl)
theorem dX6_number_25 : decode cX6_number 25 = .ok (.iload_n 1, 1) := dk_27 (dk_at dksX6_number_1 3 rfl rfl)
theorem dX6_number_26 : decode cX6_number 26 = .ok (.iload_n 2, 1) := dk_28 (dk_at dksX6_number_1 4 rfl rfl)
theorem dX6_number_27 : decode cX6_number 27 = .ok (.invokestatic 43, 3) := dk_184 0 43 (dk_at dksX6_number_1 5 rfl rfl)
theorem dX6_number_30 : decode cX6_number 30 = .ok (.ifCond .ne 16, 3) := dk_154 0 16 (dk_at dksX6_number_1 8 rfl rfl)
theorem dX6_number_33 : decode cX6_number 33 = .ok (.new 124, 3) := dk_187 0 124 (dk_at dksX6_number_1 11 rfl rfl)
theorem dX6_number_36 : decode cX6_number 36 = .ok (.dup, 1) := dk_89 (dk_at dksX6_number_1 14 rfl rfl)
theorem dX6_number_37 : decode cX6_number 37 = .ok (.iconst 2, 1) := dk_5 (dk_at dksX6_number_1 15 rfl rfl)
theorem dX6_number_38 : decode cX6_number 38 = .ok (.aload_n 0, 1) := dk_42 (dk_at dksX6_number_1 16 rfl rfl)
theorem dX6_number_39 : decode cX6_number 39 = .ok (.getfield 47, 3) := dk_180 0 47 (dk_at dksX6_number_1 17 rfl rfl)
theorem dX6_number_42 : decode cX6_number 42 = .ok (.invokespecial 126, 3) := dk_183 0 126 (dk_at dksX6_number_1 20 rfl rfl)
theorem dX6_number_45 : decode cX6_number 45 = .ok (.athrow, 1) := dk_191 (dk_at dksX6_number_1 23 rfl rfl)
theorem dX6_number_46 : decode cX6_number 46 = .ok (.aload_n 0, 1) := dk_42 (dk_at dksX6_number_2 0 rfl rfl)
theorem dX6_number_47 : decode cX6_number 47 = .ok (.getfield 129, 3) := dk_180 0 129 (dk_at dksX6_number_2 1 rfl rfl)
theorem dX6_number_50 : decode cX6_number 50 = .ok (.istore_n 3, 1) := dk_62 (dk_at dksX6_number_2 4 rfl rfl)
theorem dX6_number_51 : decode cX6_number 51 = .ok (.aload_n 0, 1) := dk_42 (dk_at dksX6_number_2 5 rfl rfl)
theorem dX6_number_52 : decode cX6_number 52 = .ok (.invokevirtual 132, 3) := dk_182 0 132 (dk_at dksX6_number_2 6 rfl rfl)
theorem dX6_number_55 : decode cX6_number 55 = .ok (.iload_n 3, 1) := dk_29 (dk_at dksX6_number_2 9 rfl rfl)
theorem dX6_number_56 : decode cX6_number 56 = .ok (.ireturn, 1) := dk_172 (dk_at dksX6_number_2 10 rfl rfl)
abbrev cX6_any : ByteArray := prog_18_method_19_code
def yX6_any : MethodName := ⟨RX6, "any", "()LBallotFruit$Term;"⟩
def dkwX6_any_1 : List UInt8 := [182, 0, 178, 183, 0, 165, 76, 167, 255, 230, 43, 176]
abbrev dktX6_any_1 : List UInt8 := dkwX6_any_1 ++ []
def dkwX6_any_0 : List UInt8 := [42, 182, 0, 178, 76, 42, 180, 0, 121, 7, 160, 0, 24, 42, 182, 0, 132, 187, 0, 163, 89, 43, 7, 42]
abbrev dktX6_any_0 : List UInt8 := dkwX6_any_0 ++ dktX6_any_1
theorem dksX6_any_0 : cX6_any.data.toList.drop 0 = dktX6_any_0 := by decide +kernel
theorem dksX6_any_1 : cX6_any.data.toList.drop 24 = dktX6_any_1 := dk_seg dksX6_any_0 24 rfl rfl
theorem dX6_any_0 : decode cX6_any 0 = .ok (.aload_n 0, 1) := dk_42 (dk_at dksX6_any_0 0 rfl rfl)
theorem dX6_any_1 : decode cX6_any 1 = .ok (.invokevirtual 178, 3) := dk_182 0 178 (dk_at dksX6_any_0 1 rfl rfl)
theorem dX6_any_4 : decode cX6_any 4 = .ok (.astore_n 1, 1) := dk_76 (dk_at dksX6_any_0 4 rfl rfl)
theorem dX6_any_5 : decode cX6_any 5 = .ok (.aload_n 0, 1) := dk_42 (dk_at dksX6_any_0 5 rfl rfl)
theorem dX6_any_6 : decode cX6_any 6 = .ok (.getfield 121, 3) := dk_180 0 121 (dk_at dksX6_any_0 6 rfl rfl)
theorem dX6_any_9 : decode cX6_any 9 = .ok (.iconst 4, 1) := dk_7 (dk_at dksX6_any_0 9 rfl rfl)
theorem dX6_any_10 : decode cX6_any 10 = .ok (.if_icmp .ne 24, 3) := dk_160 0 24 (dk_at dksX6_any_0 10 rfl rfl)
theorem dX6_any_13 : decode cX6_any 13 = .ok (.aload_n 0, 1) := dk_42 (dk_at dksX6_any_0 13 rfl rfl)
theorem dX6_any_14 : decode cX6_any 14 = .ok (.invokevirtual 132, 3) := dk_182 0 132 (dk_at dksX6_any_0 14 rfl rfl)
theorem dX6_any_17 : decode cX6_any 17 = .ok (.new 163, 3) := dk_187 0 163 (dk_at dksX6_any_0 17 rfl rfl)
theorem dX6_any_20 : decode cX6_any 20 = .ok (.dup, 1) := dk_89 (dk_at dksX6_any_0 20 rfl rfl)
theorem dX6_any_21 : decode cX6_any 21 = .ok (.aload_n 1, 1) := dk_43 (dk_at dksX6_any_0 21 rfl rfl)
theorem dX6_any_22 : decode cX6_any 22 = .ok (.iconst 4, 1) := dk_7 (dk_at dksX6_any_0 22 rfl rfl)
theorem dX6_any_23 : decode cX6_any 23 = .ok (.aload_n 0, 1) := dk_42 (dk_at dksX6_any_0 23 rfl rfl)
theorem dX6_any_24 : decode cX6_any 24 = .ok (.invokevirtual 178, 3) := dk_182 0 178 (dk_at dksX6_any_1 0 rfl rfl)
theorem dX6_any_27 : decode cX6_any 27 = .ok (.invokespecial 165, 3) := dk_183 0 165 (dk_at dksX6_any_1 3 rfl rfl)
theorem dX6_any_30 : decode cX6_any 30 = .ok (.astore_n 1, 1) := dk_76 (dk_at dksX6_any_1 6 rfl rfl)
theorem dX6_any_31 : decode cX6_any 31 = .ok (.goto (-26), 3) := dk_167 255 230 (dk_at dksX6_any_1 7 rfl rfl)
theorem dX6_any_34 : decode cX6_any 34 = .ok (.aload_n 1, 1) := dk_43 (dk_at dksX6_any_1 10 rfl rfl)
theorem dX6_any_35 : decode cX6_any 35 = .ok (.areturn, 1) := dk_176 (dk_at dksX6_any_1 11 rfl rfl)
abbrev cX6_all : ByteArray := prog_18_method_20_code
def yX6_all : MethodName := ⟨RX6, "all", "()LBallotFruit$Term;"⟩
def dkwX6_all_1 : List UInt8 := [182, 0, 181, 183, 0, 165, 76, 167, 255, 230, 43, 176]
abbrev dktX6_all_1 : List UInt8 := dkwX6_all_1 ++ []
def dkwX6_all_0 : List UInt8 := [42, 182, 0, 181, 76, 42, 180, 0, 121, 8, 160, 0, 24, 42, 182, 0, 132, 187, 0, 163, 89, 43, 8, 42]
abbrev dktX6_all_0 : List UInt8 := dkwX6_all_0 ++ dktX6_all_1
theorem dksX6_all_0 : cX6_all.data.toList.drop 0 = dktX6_all_0 := by decide +kernel
theorem dksX6_all_1 : cX6_all.data.toList.drop 24 = dktX6_all_1 := dk_seg dksX6_all_0 24 rfl rfl
theorem dX6_all_0 : decode cX6_all 0 = .ok (.aload_n 0, 1) := dk_42 (dk_at dksX6_all_0 0 rfl rfl)
theorem dX6_all_1 : decode cX6_all 1 = .ok (.invokevirtual 181, 3) := dk_182 0 181 (dk_at dksX6_all_0 1 rfl rfl)
theorem dX6_all_4 : decode cX6_all 4 = .ok (.astore_n 1, 1) := dk_76 (dk_at dksX6_all_0 4 rfl rfl)
theorem dX6_all_5 : decode cX6_all 5 = .ok (.aload_n 0, 1) := dk_42 (dk_at dksX6_all_0 5 rfl rfl)
theorem dX6_all_6 : decode cX6_all 6 = .ok (.getfield 121, 3) := dk_180 0 121 (dk_at dksX6_all_0 6 rfl rfl)
theorem dX6_all_9 : decode cX6_all 9 = .ok (.iconst 5, 1) := dk_8 (dk_at dksX6_all_0 9 rfl rfl)
theorem dX6_all_10 : decode cX6_all 10 = .ok (.if_icmp .ne 24, 3) := dk_160 0 24 (dk_at dksX6_all_0 10 rfl rfl)
theorem dX6_all_13 : decode cX6_all 13 = .ok (.aload_n 0, 1) := dk_42 (dk_at dksX6_all_0 13 rfl rfl)
theorem dX6_all_14 : decode cX6_all 14 = .ok (.invokevirtual 132, 3) := dk_182 0 132 (dk_at dksX6_all_0 14 rfl rfl)
theorem dX6_all_17 : decode cX6_all 17 = .ok (.new 163, 3) := dk_187 0 163 (dk_at dksX6_all_0 17 rfl rfl)
theorem dX6_all_20 : decode cX6_all 20 = .ok (.dup, 1) := dk_89 (dk_at dksX6_all_0 20 rfl rfl)
theorem dX6_all_21 : decode cX6_all 21 = .ok (.aload_n 1, 1) := dk_43 (dk_at dksX6_all_0 21 rfl rfl)
theorem dX6_all_22 : decode cX6_all 22 = .ok (.iconst 5, 1) := dk_8 (dk_at dksX6_all_0 22 rfl rfl)
theorem dX6_all_23 : decode cX6_all 23 = .ok (.aload_n 0, 1) := dk_42 (dk_at dksX6_all_0 23 rfl rfl)
theorem dX6_all_24 : decode cX6_all 24 = .ok (.invokevirtual 181, 3) := dk_182 0 181 (dk_at dksX6_all_1 0 rfl rfl)
theorem dX6_all_27 : decode cX6_all 27 = .ok (.invokespecial 165, 3) := dk_183 0 165 (dk_at dksX6_all_1 3 rfl rfl)
theorem dX6_all_30 : decode cX6_all 30 = .ok (.astore_n 1, 1) := dk_76 (dk_at dksX6_all_1 6 rfl rfl)
theorem dX6_all_31 : decode cX6_all 31 = .ok (.goto (-26), 3) := dk_167 255 230 (dk_at dksX6_all_1 7 rfl rfl)
theorem dX6_all_34 : decode cX6_all 34 = .ok (.aload_n 1, 1) := dk_43 (dk_at dksX6_all_1 10 rfl rfl)
theorem dX6_all_35 : decode cX6_all 35 = .ok (.areturn, 1) := dk_176 (dk_at dksX6_all_1 11 rfl rfl)
abbrev cX6_one : ByteArray := prog_18_method_21_code
def yX6_one : MethodName := ⟨RX6, "one", "()LBallotFruit$Term;"⟩
def dkwX6_one_6 : List UInt8 := [176]
abbrev dktX6_one_6 : List UInt8 := dkwX6_one_6 ++ []
def dkwX6_one_5 : List UInt8 := [180, 0, 47, 183, 0, 126, 191, 42, 182, 0, 132, 187, 0, 163, 89, 43, 28, 42, 182, 0, 195, 183, 0, 165]
abbrev dktX6_one_5 : List UInt8 := dkwX6_one_5 ++ dktX6_one_6
def dkwX6_one_4 : List UInt8 := [16, 60, 159, 0, 28, 28, 16, 61, 159, 0, 22, 28, 16, 62, 159, 0, 16, 187, 0, 124, 89, 4, 42]
abbrev dktX6_one_4 : List UInt8 := dkwX6_one_4 ++ dktX6_one_5
def dkwX6_one_3 : List UInt8 := [42, 89, 180, 0, 157, 4, 100, 181, 0, 157, 44, 176, 42, 182, 0, 195, 76, 42, 180, 0, 121, 61, 28]
abbrev dktX6_one_3 : List UInt8 := dkwX6_one_3 ++ dktX6_one_4
def dkwX6_one_2 : List UInt8 := [182, 0, 181, 183, 0, 189, 167, 0, 7, 42, 182, 0, 192, 77, 27, 154, 0, 9, 42, 16, 41, 182, 0, 135]
abbrev dktX6_one_2 : List UInt8 := dkwX6_one_2 ++ dktX6_one_3
def dkwX6_one_1 : List UInt8 := [160, 0, 7, 4, 167, 0, 4, 3, 60, 42, 182, 0, 184, 27, 153, 0, 17, 187, 0, 187, 89, 42]
abbrev dktX6_one_1 : List UInt8 := dkwX6_one_1 ++ dktX6_one_2
def dkwX6_one_0 : List UInt8 := [42, 180, 0, 121, 16, 6, 159, 0, 12, 42, 180, 0, 121, 16, 40, 160, 0, 67, 42, 180, 0, 121, 16, 6]
abbrev dktX6_one_0 : List UInt8 := dkwX6_one_0 ++ dktX6_one_1
theorem dksX6_one_0 : cX6_one.data.toList.drop 0 = dktX6_one_0 := by decide +kernel
theorem dksX6_one_1 : cX6_one.data.toList.drop 24 = dktX6_one_1 := dk_seg dksX6_one_0 24 rfl rfl
theorem dksX6_one_2 : cX6_one.data.toList.drop 46 = dktX6_one_2 := dk_seg dksX6_one_1 22 rfl rfl
theorem dksX6_one_3 : cX6_one.data.toList.drop 70 = dktX6_one_3 := dk_seg dksX6_one_2 24 rfl rfl
theorem dksX6_one_4 : cX6_one.data.toList.drop 93 = dktX6_one_4 := dk_seg dksX6_one_3 23 rfl rfl
theorem dksX6_one_5 : cX6_one.data.toList.drop 116 = dktX6_one_5 := dk_seg dksX6_one_4 23 rfl rfl
theorem dksX6_one_6 : cX6_one.data.toList.drop 140 = dktX6_one_6 := dk_seg dksX6_one_5 24 rfl rfl
theorem dX6_one_0 : decode cX6_one 0 = .ok (.aload_n 0, 1) := dk_42 (dk_at dksX6_one_0 0 rfl rfl)
theorem dX6_one_1 : decode cX6_one 1 = .ok (.getfield 121, 3) := dk_180 0 121 (dk_at dksX6_one_0 1 rfl rfl)
theorem dX6_one_4 : decode cX6_one 4 = .ok (.bipush 6, 2) := dk_16 6 (dk_at dksX6_one_0 4 rfl rfl)
theorem dX6_one_6 : decode cX6_one 6 = .ok (.if_icmp .eq 12, 3) := dk_159 0 12 (dk_at dksX6_one_0 6 rfl rfl)
theorem dX6_one_9 : decode cX6_one 9 = .ok (.aload_n 0, 1) := dk_42 (dk_at dksX6_one_0 9 rfl rfl)
theorem dX6_one_10 : decode cX6_one 10 = .ok (.getfield 121, 3) := dk_180 0 121 (dk_at dksX6_one_0 10 rfl rfl)
theorem dX6_one_13 : decode cX6_one 13 = .ok (.bipush 40, 2) := dk_16 40 (dk_at dksX6_one_0 13 rfl rfl)
theorem dX6_one_15 : decode cX6_one 15 = .ok (.if_icmp .ne 67, 3) := dk_160 0 67 (dk_at dksX6_one_0 15 rfl rfl)
theorem dX6_one_18 : decode cX6_one 18 = .ok (.aload_n 0, 1) := dk_42 (dk_at dksX6_one_0 18 rfl rfl)
theorem dX6_one_19 : decode cX6_one 19 = .ok (.getfield 121, 3) := dk_180 0 121 (dk_at dksX6_one_0 19 rfl rfl)
theorem dX6_one_22 : decode cX6_one 22 = .ok (.bipush 6, 2) := dk_16 6 (dk_at dksX6_one_0 22 rfl rfl)
theorem dX6_one_24 : decode cX6_one 24 = .ok (.if_icmp .ne 7, 3) := dk_160 0 7 (dk_at dksX6_one_1 0 rfl rfl)
theorem dX6_one_27 : decode cX6_one 27 = .ok (.iconst 1, 1) := dk_4 (dk_at dksX6_one_1 3 rfl rfl)
theorem dX6_one_28 : decode cX6_one 28 = .ok (.goto 4, 3) := dk_167 0 4 (dk_at dksX6_one_1 4 rfl rfl)
theorem dX6_one_31 : decode cX6_one 31 = .ok (.iconst 0, 1) := dk_3 (dk_at dksX6_one_1 7 rfl rfl)
theorem dX6_one_32 : decode cX6_one 32 = .ok (.istore_n 1, 1) := dk_60 (dk_at dksX6_one_1 8 rfl rfl)
theorem dX6_one_33 : decode cX6_one 33 = .ok (.aload_n 0, 1) := dk_42 (dk_at dksX6_one_1 9 rfl rfl)
theorem dX6_one_34 : decode cX6_one 34 = .ok (.invokevirtual 184, 3) := dk_182 0 184 (dk_at dksX6_one_1 10 rfl rfl)
theorem dX6_one_37 : decode cX6_one 37 = .ok (.iload_n 1, 1) := dk_27 (dk_at dksX6_one_1 13 rfl rfl)
theorem dX6_one_38 : decode cX6_one 38 = .ok (.ifCond .eq 17, 3) := dk_153 0 17 (dk_at dksX6_one_1 14 rfl rfl)
theorem dX6_one_41 : decode cX6_one 41 = .ok (.new 187, 3) := dk_187 0 187 (dk_at dksX6_one_1 17 rfl rfl)
theorem dX6_one_44 : decode cX6_one 44 = .ok (.dup, 1) := dk_89 (dk_at dksX6_one_1 20 rfl rfl)
theorem dX6_one_45 : decode cX6_one 45 = .ok (.aload_n 0, 1) := dk_42 (dk_at dksX6_one_1 21 rfl rfl)
theorem dX6_one_46 : decode cX6_one 46 = .ok (.invokevirtual 181, 3) := dk_182 0 181 (dk_at dksX6_one_2 0 rfl rfl)
theorem dX6_one_49 : decode cX6_one 49 = .ok (.invokespecial 189, 3) := dk_183 0 189 (dk_at dksX6_one_2 3 rfl rfl)
theorem dX6_one_52 : decode cX6_one 52 = .ok (.goto 7, 3) := dk_167 0 7 (dk_at dksX6_one_2 6 rfl rfl)
theorem dX6_one_55 : decode cX6_one 55 = .ok (.aload_n 0, 1) := dk_42 (dk_at dksX6_one_2 9 rfl rfl)
theorem dX6_one_56 : decode cX6_one 56 = .ok (.invokevirtual 192, 3) := dk_182 0 192 (dk_at dksX6_one_2 10 rfl rfl)
theorem dX6_one_59 : decode cX6_one 59 = .ok (.astore_n 2, 1) := dk_77 (dk_at dksX6_one_2 13 rfl rfl)
theorem dX6_one_60 : decode cX6_one 60 = .ok (.iload_n 1, 1) := dk_27 (dk_at dksX6_one_2 14 rfl rfl)
theorem dX6_one_61 : decode cX6_one 61 = .ok (.ifCond .ne 9, 3) := dk_154 0 9 (dk_at dksX6_one_2 15 rfl rfl)
theorem dX6_one_64 : decode cX6_one 64 = .ok (.aload_n 0, 1) := dk_42 (dk_at dksX6_one_2 18 rfl rfl)
theorem dX6_one_65 : decode cX6_one 65 = .ok (.bipush 41, 2) := dk_16 41 (dk_at dksX6_one_2 19 rfl rfl)
theorem dX6_one_67 : decode cX6_one 67 = .ok (.invokevirtual 135, 3) := dk_182 0 135 (dk_at dksX6_one_2 21 rfl rfl)
theorem dX6_one_70 : decode cX6_one 70 = .ok (.aload_n 0, 1) := dk_42 (dk_at dksX6_one_3 0 rfl rfl)
theorem dX6_one_71 : decode cX6_one 71 = .ok (.dup, 1) := dk_89 (dk_at dksX6_one_3 1 rfl rfl)
theorem dX6_one_72 : decode cX6_one 72 = .ok (.getfield 157, 3) := dk_180 0 157 (dk_at dksX6_one_3 2 rfl rfl)
theorem dX6_one_75 : decode cX6_one 75 = .ok (.iconst 1, 1) := dk_4 (dk_at dksX6_one_3 5 rfl rfl)
theorem dX6_one_76 : decode cX6_one 76 = .ok (.isub, 1) := dk_100 (dk_at dksX6_one_3 6 rfl rfl)
theorem dX6_one_77 : decode cX6_one 77 = .ok (.putfield 157, 3) := dk_181 0 157 (dk_at dksX6_one_3 7 rfl rfl)
theorem dX6_one_80 : decode cX6_one 80 = .ok (.aload_n 2, 1) := dk_44 (dk_at dksX6_one_3 10 rfl rfl)
theorem dX6_one_81 : decode cX6_one 81 = .ok (.areturn, 1) := dk_176 (dk_at dksX6_one_3 11 rfl rfl)
theorem dX6_one_82 : decode cX6_one 82 = .ok (.aload_n 0, 1) := dk_42 (dk_at dksX6_one_3 12 rfl rfl)
theorem dX6_one_83 : decode cX6_one 83 = .ok (.invokevirtual 195, 3) := dk_182 0 195 (dk_at dksX6_one_3 13 rfl rfl)
theorem dX6_one_86 : decode cX6_one 86 = .ok (.astore_n 1, 1) := dk_76 (dk_at dksX6_one_3 16 rfl rfl)
theorem dX6_one_87 : decode cX6_one 87 = .ok (.aload_n 0, 1) := dk_42 (dk_at dksX6_one_3 17 rfl rfl)
theorem dX6_one_88 : decode cX6_one 88 = .ok (.getfield 121, 3) := dk_180 0 121 (dk_at dksX6_one_3 18 rfl rfl)
theorem dX6_one_91 : decode cX6_one 91 = .ok (.istore_n 2, 1) := dk_61 (dk_at dksX6_one_3 21 rfl rfl)
theorem dX6_one_92 : decode cX6_one 92 = .ok (.iload_n 2, 1) := dk_28 (dk_at dksX6_one_3 22 rfl rfl)
theorem dX6_one_93 : decode cX6_one 93 = .ok (.bipush 60, 2) := dk_16 60 (dk_at dksX6_one_4 0 rfl rfl)
theorem dX6_one_95 : decode cX6_one 95 = .ok (.if_icmp .eq 28, 3) := dk_159 0 28 (dk_at dksX6_one_4 2 rfl rfl)
theorem dX6_one_98 : decode cX6_one 98 = .ok (.iload_n 2, 1) := dk_28 (dk_at dksX6_one_4 5 rfl rfl)
theorem dX6_one_99 : decode cX6_one 99 = .ok (.bipush 61, 2) := dk_16 61 (dk_at dksX6_one_4 6 rfl rfl)
theorem dX6_one_101 : decode cX6_one 101 = .ok (.if_icmp .eq 22, 3) := dk_159 0 22 (dk_at dksX6_one_4 8 rfl rfl)
theorem dX6_one_104 : decode cX6_one 104 = .ok (.iload_n 2, 1) := dk_28 (dk_at dksX6_one_4 11 rfl rfl)
theorem dX6_one_105 : decode cX6_one 105 = .ok (.bipush 62, 2) := dk_16 62 (dk_at dksX6_one_4 12 rfl rfl)
theorem dX6_one_107 : decode cX6_one 107 = .ok (.if_icmp .eq 16, 3) := dk_159 0 16 (dk_at dksX6_one_4 14 rfl rfl)
theorem dX6_one_110 : decode cX6_one 110 = .ok (.new 124, 3) := dk_187 0 124 (dk_at dksX6_one_4 17 rfl rfl)
theorem dX6_one_113 : decode cX6_one 113 = .ok (.dup, 1) := dk_89 (dk_at dksX6_one_4 20 rfl rfl)
theorem dX6_one_114 : decode cX6_one 114 = .ok (.iconst 1, 1) := dk_4 (dk_at dksX6_one_4 21 rfl rfl)
theorem dX6_one_115 : decode cX6_one 115 = .ok (.aload_n 0, 1) := dk_42 (dk_at dksX6_one_4 22 rfl rfl)
theorem dX6_one_116 : decode cX6_one 116 = .ok (.getfield 47, 3) := dk_180 0 47 (dk_at dksX6_one_5 0 rfl rfl)
theorem dX6_one_119 : decode cX6_one 119 = .ok (.invokespecial 126, 3) := dk_183 0 126 (dk_at dksX6_one_5 3 rfl rfl)
theorem dX6_one_122 : decode cX6_one 122 = .ok (.athrow, 1) := dk_191 (dk_at dksX6_one_5 6 rfl rfl)
theorem dX6_one_123 : decode cX6_one 123 = .ok (.aload_n 0, 1) := dk_42 (dk_at dksX6_one_5 7 rfl rfl)
theorem dX6_one_124 : decode cX6_one 124 = .ok (.invokevirtual 132, 3) := dk_182 0 132 (dk_at dksX6_one_5 8 rfl rfl)
theorem dX6_one_127 : decode cX6_one 127 = .ok (.new 163, 3) := dk_187 0 163 (dk_at dksX6_one_5 11 rfl rfl)
theorem dX6_one_130 : decode cX6_one 130 = .ok (.dup, 1) := dk_89 (dk_at dksX6_one_5 14 rfl rfl)
theorem dX6_one_131 : decode cX6_one 131 = .ok (.aload_n 1, 1) := dk_43 (dk_at dksX6_one_5 15 rfl rfl)
theorem dX6_one_132 : decode cX6_one 132 = .ok (.iload_n 2, 1) := dk_28 (dk_at dksX6_one_5 16 rfl rfl)
theorem dX6_one_133 : decode cX6_one 133 = .ok (.aload_n 0, 1) := dk_42 (dk_at dksX6_one_5 17 rfl rfl)
theorem dX6_one_134 : decode cX6_one 134 = .ok (.invokevirtual 195, 3) := dk_182 0 195 (dk_at dksX6_one_5 18 rfl rfl)
theorem dX6_one_137 : decode cX6_one 137 = .ok (.invokespecial 165, 3) := dk_183 0 165 (dk_at dksX6_one_5 21 rfl rfl)
theorem dX6_one_140 : decode cX6_one 140 = .ok (.areturn, 1) := dk_176 (dk_at dksX6_one_6 0 rfl rfl)
abbrev cX6_opens : ByteArray := prog_18_method_15_code
def yX6_opens : MethodName := ⟨RX6, "opens", "()V"⟩
def dkwX6_opens_1 : List UInt8 := [180, 0, 157, 4, 96, 181, 0, 157, 42, 182, 0, 132, 177]
abbrev dktX6_opens_1 : List UInt8 := dkwX6_opens_1 ++ []
def dkwX6_opens_0 : List UInt8 := [42, 180, 0, 157, 16, 8, 160, 0, 16, 187, 0, 124, 89, 6, 42, 180, 0, 47, 183, 0, 126, 191, 42, 89]
abbrev dktX6_opens_0 : List UInt8 := dkwX6_opens_0 ++ dktX6_opens_1
theorem dksX6_opens_0 : cX6_opens.data.toList.drop 0 = dktX6_opens_0 := by decide +kernel
theorem dksX6_opens_1 : cX6_opens.data.toList.drop 24 = dktX6_opens_1 := dk_seg dksX6_opens_0 24 rfl rfl
theorem dX6_opens_0 : decode cX6_opens 0 = .ok (.aload_n 0, 1) := dk_42 (dk_at dksX6_opens_0 0 rfl rfl)
theorem dX6_opens_1 : decode cX6_opens 1 = .ok (.getfield 157, 3) := dk_180 0 157 (dk_at dksX6_opens_0 1 rfl rfl)
theorem dX6_opens_4 : decode cX6_opens 4 = .ok (.bipush 8, 2) := dk_16 8 (dk_at dksX6_opens_0 4 rfl rfl)
theorem dX6_opens_6 : decode cX6_opens 6 = .ok (.if_icmp .ne 16, 3) := dk_160 0 16 (dk_at dksX6_opens_0 6 rfl rfl)
theorem dX6_opens_9 : decode cX6_opens 9 = .ok (.new 124, 3) := dk_187 0 124 (dk_at dksX6_opens_0 9 rfl rfl)
theorem dX6_opens_12 : decode cX6_opens 12 = .ok (.dup, 1) := dk_89 (dk_at dksX6_opens_0 12 rfl rfl)
theorem dX6_opens_13 : decode cX6_opens 13 = .ok (.iconst 3, 1) := dk_6 (dk_at dksX6_opens_0 13 rfl rfl)
theorem dX6_opens_14 : decode cX6_opens 14 = .ok (.aload_n 0, 1) := dk_42 (dk_at dksX6_opens_0 14 rfl rfl)
theorem dX6_opens_15 : decode cX6_opens 15 = .ok (.getfield 47, 3) := dk_180 0 47 (dk_at dksX6_opens_0 15 rfl rfl)
theorem dX6_opens_18 : decode cX6_opens 18 = .ok (.invokespecial 126, 3) := dk_183 0 126 (dk_at dksX6_opens_0 18 rfl rfl)
theorem dX6_opens_21 : decode cX6_opens 21 = .ok (.athrow, 1) := dk_191 (dk_at dksX6_opens_0 21 rfl rfl)
theorem dX6_opens_22 : decode cX6_opens 22 = .ok (.aload_n 0, 1) := dk_42 (dk_at dksX6_opens_0 22 rfl rfl)
theorem dX6_opens_23 : decode cX6_opens 23 = .ok (.dup, 1) := dk_89 (dk_at dksX6_opens_0 23 rfl rfl)
theorem dX6_opens_24 : decode cX6_opens 24 = .ok (.getfield 157, 3) := dk_180 0 157 (dk_at dksX6_opens_1 0 rfl rfl)
theorem dX6_opens_27 : decode cX6_opens 27 = .ok (.iconst 1, 1) := dk_4 (dk_at dksX6_opens_1 3 rfl rfl)
theorem dX6_opens_28 : decode cX6_opens 28 = .ok (.iadd, 1) := dk_96 (dk_at dksX6_opens_1 4 rfl rfl)
theorem dX6_opens_29 : decode cX6_opens 29 = .ok (.putfield 157, 3) := dk_181 0 157 (dk_at dksX6_opens_1 5 rfl rfl)
theorem dX6_opens_32 : decode cX6_opens 32 = .ok (.aload_n 0, 1) := dk_42 (dk_at dksX6_opens_1 8 rfl rfl)
theorem dX6_opens_33 : decode cX6_opens 33 = .ok (.invokevirtual 132, 3) := dk_182 0 132 (dk_at dksX6_opens_1 9 rfl rfl)
theorem dX6_opens_36 : decode cX6_opens 36 = .ok (.return_, 1) := dk_177 (dk_at dksX6_opens_1 12 rfl rfl)
abbrev cX6_must : ByteArray := prog_18_method_14_code
def yX6_must : MethodName := ⟨RX6, "must", "(I)V"⟩
def dkwX6_must_1 : List UInt8 := [182, 0, 132, 177]
abbrev dktX6_must_1 : List UInt8 := dkwX6_must_1 ++ []
def dkwX6_must_0 : List UInt8 := [42, 180, 0, 121, 27, 159, 0, 16, 187, 0, 124, 89, 4, 42, 180, 0, 47, 183, 0, 126, 191, 42]
abbrev dktX6_must_0 : List UInt8 := dkwX6_must_0 ++ dktX6_must_1
theorem dksX6_must_0 : cX6_must.data.toList.drop 0 = dktX6_must_0 := by decide +kernel
theorem dksX6_must_1 : cX6_must.data.toList.drop 22 = dktX6_must_1 := dk_seg dksX6_must_0 22 rfl rfl
theorem dX6_must_0 : decode cX6_must 0 = .ok (.aload_n 0, 1) := dk_42 (dk_at dksX6_must_0 0 rfl rfl)
theorem dX6_must_1 : decode cX6_must 1 = .ok (.getfield 121, 3) := dk_180 0 121 (dk_at dksX6_must_0 1 rfl rfl)
theorem dX6_must_4 : decode cX6_must 4 = .ok (.iload_n 1, 1) := dk_27 (dk_at dksX6_must_0 4 rfl rfl)
theorem dX6_must_5 : decode cX6_must 5 = .ok (.if_icmp .eq 16, 3) := dk_159 0 16 (dk_at dksX6_must_0 5 rfl rfl)
theorem dX6_must_8 : decode cX6_must 8 = .ok (.new 124, 3) := dk_187 0 124 (dk_at dksX6_must_0 8 rfl rfl)
theorem dX6_must_11 : decode cX6_must 11 = .ok (.dup, 1) := dk_89 (dk_at dksX6_must_0 11 rfl rfl)
theorem dX6_must_12 : decode cX6_must 12 = .ok (.iconst 1, 1) := dk_4 (dk_at dksX6_must_0 12 rfl rfl)
theorem dX6_must_13 : decode cX6_must 13 = .ok (.aload_n 0, 1) := dk_42 (dk_at dksX6_must_0 13 rfl rfl)
theorem dX6_must_14 : decode cX6_must 14 = .ok (.getfield 47, 3) := dk_180 0 47 (dk_at dksX6_must_0 14 rfl rfl)
theorem dX6_must_17 : decode cX6_must 17 = .ok (.invokespecial 126, 3) := dk_183 0 126 (dk_at dksX6_must_0 17 rfl rfl)
theorem dX6_must_20 : decode cX6_must 20 = .ok (.athrow, 1) := dk_191 (dk_at dksX6_must_0 20 rfl rfl)
theorem dX6_must_21 : decode cX6_must 21 = .ok (.aload_n 0, 1) := dk_42 (dk_at dksX6_must_0 21 rfl rfl)
theorem dX6_must_22 : decode cX6_must 22 = .ok (.invokevirtual 132, 3) := dk_182 0 132 (dk_at dksX6_must_1 0 rfl rfl)
theorem dX6_must_25 : decode cX6_must 25 = .ok (.return_, 1) := dk_177 (dk_at dksX6_must_1 3 rfl rfl)
abbrev cX6_paths : ByteArray := prog_18_method_24_code
def yX6_paths : MethodName := ⟨RX6, "paths", "()[LBallotFruit$Path;"⟩
def dkwX6_paths_3 : List UInt8 := [42, 180, 0, 17, 176]
abbrev dktX6_paths_3 : List UInt8 := dkwX6_paths_3 ++ []
def dkwX6_paths_2 : List UInt8 := [180, 0, 47, 183, 0, 126, 191, 42, 182, 0, 228, 42, 89, 180, 0, 225, 4, 96, 181, 0, 225, 167, 255, 191]
abbrev dktX6_paths_2 : List UInt8 := dkwX6_paths_2 ++ dktX6_paths_3
def dkwX6_paths_1 : List UInt8 := [4, 42, 180, 0, 47, 183, 0, 126, 191, 42, 180, 0, 225, 16, 16, 160, 0, 16, 187, 0, 124, 89, 6, 42]
abbrev dktX6_paths_1 : List UInt8 := dkwX6_paths_1 ++ dktX6_paths_2
def dkwX6_paths_0 : List UInt8 := [42, 182, 0, 132, 42, 180, 0, 121, 153, 0, 64, 42, 180, 0, 121, 16, 10, 159, 0, 16, 187, 0, 124, 89]
abbrev dktX6_paths_0 : List UInt8 := dkwX6_paths_0 ++ dktX6_paths_1
theorem dksX6_paths_0 : cX6_paths.data.toList.drop 0 = dktX6_paths_0 := by decide +kernel
theorem dksX6_paths_1 : cX6_paths.data.toList.drop 24 = dktX6_paths_1 := dk_seg dksX6_paths_0 24 rfl rfl
theorem dksX6_paths_2 : cX6_paths.data.toList.drop 48 = dktX6_paths_2 := dk_seg dksX6_paths_1 24 rfl rfl
theorem dksX6_paths_3 : cX6_paths.data.toList.drop 72 = dktX6_paths_3 := dk_seg dksX6_paths_2 24 rfl rfl
theorem dX6_paths_0 : decode cX6_paths 0 = .ok (.aload_n 0, 1) := dk_42 (dk_at dksX6_paths_0 0 rfl rfl)
theorem dX6_paths_1 : decode cX6_paths 1 = .ok (.invokevirtual 132, 3) := dk_182 0 132 (dk_at dksX6_paths_0 1 rfl rfl)
theorem dX6_paths_4 : decode cX6_paths 4 = .ok (.aload_n 0, 1) := dk_42 (dk_at dksX6_paths_0 4 rfl rfl)
theorem dX6_paths_5 : decode cX6_paths 5 = .ok (.getfield 121, 3) := dk_180 0 121 (dk_at dksX6_paths_0 5 rfl rfl)
theorem dX6_paths_8 : decode cX6_paths 8 = .ok (.ifCond .eq 64, 3) := dk_153 0 64 (dk_at dksX6_paths_0 8 rfl rfl)
theorem dX6_paths_11 : decode cX6_paths 11 = .ok (.aload_n 0, 1) := dk_42 (dk_at dksX6_paths_0 11 rfl rfl)
theorem dX6_paths_12 : decode cX6_paths 12 = .ok (.getfield 121, 3) := dk_180 0 121 (dk_at dksX6_paths_0 12 rfl rfl)
theorem dX6_paths_15 : decode cX6_paths 15 = .ok (.bipush 10, 2) := dk_16 10 (dk_at dksX6_paths_0 15 rfl rfl)
theorem dX6_paths_17 : decode cX6_paths 17 = .ok (.if_icmp .eq 16, 3) := dk_159 0 16 (dk_at dksX6_paths_0 17 rfl rfl)
theorem dX6_paths_20 : decode cX6_paths 20 = .ok (.new 124, 3) := dk_187 0 124 (dk_at dksX6_paths_0 20 rfl rfl)
theorem dX6_paths_23 : decode cX6_paths 23 = .ok (.dup, 1) := dk_89 (dk_at dksX6_paths_0 23 rfl rfl)
theorem dX6_paths_24 : decode cX6_paths 24 = .ok (.iconst 1, 1) := dk_4 (dk_at dksX6_paths_1 0 rfl rfl)
theorem dX6_paths_25 : decode cX6_paths 25 = .ok (.aload_n 0, 1) := dk_42 (dk_at dksX6_paths_1 1 rfl rfl)
theorem dX6_paths_26 : decode cX6_paths 26 = .ok (.getfield 47, 3) := dk_180 0 47 (dk_at dksX6_paths_1 2 rfl rfl)
theorem dX6_paths_29 : decode cX6_paths 29 = .ok (.invokespecial 126, 3) := dk_183 0 126 (dk_at dksX6_paths_1 5 rfl rfl)
theorem dX6_paths_32 : decode cX6_paths 32 = .ok (.athrow, 1) := dk_191 (dk_at dksX6_paths_1 8 rfl rfl)
theorem dX6_paths_33 : decode cX6_paths 33 = .ok (.aload_n 0, 1) := dk_42 (dk_at dksX6_paths_1 9 rfl rfl)
theorem dX6_paths_34 : decode cX6_paths 34 = .ok (.getfield 225, 3) := dk_180 0 225 (dk_at dksX6_paths_1 10 rfl rfl)
theorem dX6_paths_37 : decode cX6_paths 37 = .ok (.bipush 16, 2) := dk_16 16 (dk_at dksX6_paths_1 13 rfl rfl)
theorem dX6_paths_39 : decode cX6_paths 39 = .ok (.if_icmp .ne 16, 3) := dk_160 0 16 (dk_at dksX6_paths_1 15 rfl rfl)
theorem dX6_paths_42 : decode cX6_paths 42 = .ok (.new 124, 3) := dk_187 0 124 (dk_at dksX6_paths_1 18 rfl rfl)
theorem dX6_paths_45 : decode cX6_paths 45 = .ok (.dup, 1) := dk_89 (dk_at dksX6_paths_1 21 rfl rfl)
theorem dX6_paths_46 : decode cX6_paths 46 = .ok (.iconst 3, 1) := dk_6 (dk_at dksX6_paths_1 22 rfl rfl)
theorem dX6_paths_47 : decode cX6_paths 47 = .ok (.aload_n 0, 1) := dk_42 (dk_at dksX6_paths_1 23 rfl rfl)
theorem dX6_paths_48 : decode cX6_paths 48 = .ok (.getfield 47, 3) := dk_180 0 47 (dk_at dksX6_paths_2 0 rfl rfl)
theorem dX6_paths_51 : decode cX6_paths 51 = .ok (.invokespecial 126, 3) := dk_183 0 126 (dk_at dksX6_paths_2 3 rfl rfl)
theorem dX6_paths_54 : decode cX6_paths 54 = .ok (.athrow, 1) := dk_191 (dk_at dksX6_paths_2 6 rfl rfl)
theorem dX6_paths_55 : decode cX6_paths 55 = .ok (.aload_n 0, 1) := dk_42 (dk_at dksX6_paths_2 7 rfl rfl)
theorem dX6_paths_56 : decode cX6_paths 56 = .ok (.invokevirtual 228, 3) := dk_182 0 228 (dk_at dksX6_paths_2 8 rfl rfl)
theorem dX6_paths_59 : decode cX6_paths 59 = .ok (.aload_n 0, 1) := dk_42 (dk_at dksX6_paths_2 11 rfl rfl)
theorem dX6_paths_60 : decode cX6_paths 60 = .ok (.dup, 1) := dk_89 (dk_at dksX6_paths_2 12 rfl rfl)
theorem dX6_paths_61 : decode cX6_paths 61 = .ok (.getfield 225, 3) := dk_180 0 225 (dk_at dksX6_paths_2 13 rfl rfl)
theorem dX6_paths_64 : decode cX6_paths 64 = .ok (.iconst 1, 1) := dk_4 (dk_at dksX6_paths_2 16 rfl rfl)
theorem dX6_paths_65 : decode cX6_paths 65 = .ok (.iadd, 1) := dk_96 (dk_at dksX6_paths_2 17 rfl rfl)
theorem dX6_paths_66 : decode cX6_paths 66 = .ok (.putfield 225, 3) := dk_181 0 225 (dk_at dksX6_paths_2 18 rfl rfl)
theorem dX6_paths_69 : decode cX6_paths 69 = .ok (.goto (-65), 3) := dk_167 255 191 (dk_at dksX6_paths_2 21 rfl rfl)
theorem dX6_paths_72 : decode cX6_paths 72 = .ok (.aload_n 0, 1) := dk_42 (dk_at dksX6_paths_3 0 rfl rfl)
theorem dX6_paths_73 : decode cX6_paths 73 = .ok (.getfield 17, 3) := dk_180 0 17 (dk_at dksX6_paths_3 1 rfl rfl)
theorem dX6_paths_76 : decode cX6_paths 76 = .ok (.areturn, 1) := dk_176 (dk_at dksX6_paths_3 4 rfl rfl)
abbrev cX6_path : ByteArray := prog_18_method_23_code
def yX6_path : MethodName := ⟨RX6, "path", "()V"⟩
def dkwX6_path_5 : List UInt8 := [187, 0, 15, 89, 42, 180, 0, 21, 28, 183, 0, 222, 83, 177]
abbrev dktX6_path_5 : List UInt8 := dkwX6_path_5 ++ []
def dkwX6_path_4 : List UInt8 := [5, 160, 0, 7, 4, 167, 0, 4, 3, 62, 167, 255, 186, 42, 16, 59, 182, 0, 135, 42, 180, 0, 17, 27]
abbrev dktX6_path_4 : List UInt8 := dkwX6_path_4 ++ dktX6_path_5
def dkwX6_path_3 : List UInt8 := [183, 0, 126, 191, 42, 180, 0, 21, 28, 42, 3, 16, 9, 182, 0, 139, 79, 132, 2, 1, 42, 180, 0, 121]
abbrev dktX6_path_3 : List UInt8 := dkwX6_path_3 ++ dktX6_path_4
def dkwX6_path_2 : List UInt8 := [180, 0, 129, 16, 10, 162, 0, 22, 28, 16, 8, 160, 0, 16, 187, 0, 124, 89, 6, 42, 180, 0, 47]
abbrev dktX6_path_2 : List UInt8 := dkwX6_path_2 ++ dktX6_path_3
def dkwX6_path_1 : List UInt8 := [16, 11, 182, 0, 135, 3, 61, 4, 62, 29, 153, 0, 72, 42, 180, 0, 121, 5, 160, 0, 31, 42]
abbrev dktX6_path_1 : List UInt8 := dkwX6_path_1 ++ dktX6_path_2
def dkwX6_path_0 : List UInt8 := [42, 182, 0, 132, 42, 3, 42, 180, 0, 3, 180, 0, 213, 180, 0, 217, 4, 100, 182, 0, 139, 60, 42]
abbrev dktX6_path_0 : List UInt8 := dkwX6_path_0 ++ dktX6_path_1
theorem dksX6_path_0 : cX6_path.data.toList.drop 0 = dktX6_path_0 := by decide +kernel
theorem dksX6_path_1 : cX6_path.data.toList.drop 23 = dktX6_path_1 := dk_seg dksX6_path_0 23 rfl rfl
theorem dksX6_path_2 : cX6_path.data.toList.drop 45 = dktX6_path_2 := dk_seg dksX6_path_1 22 rfl rfl
theorem dksX6_path_3 : cX6_path.data.toList.drop 68 = dktX6_path_3 := dk_seg dksX6_path_2 23 rfl rfl
theorem dksX6_path_4 : cX6_path.data.toList.drop 92 = dktX6_path_4 := dk_seg dksX6_path_3 24 rfl rfl
theorem dksX6_path_5 : cX6_path.data.toList.drop 116 = dktX6_path_5 := dk_seg dksX6_path_4 24 rfl rfl
theorem dX6_path_0 : decode cX6_path 0 = .ok (.aload_n 0, 1) := dk_42 (dk_at dksX6_path_0 0 rfl rfl)
theorem dX6_path_1 : decode cX6_path 1 = .ok (.invokevirtual 132, 3) := dk_182 0 132 (dk_at dksX6_path_0 1 rfl rfl)
theorem dX6_path_4 : decode cX6_path 4 = .ok (.aload_n 0, 1) := dk_42 (dk_at dksX6_path_0 4 rfl rfl)
theorem dX6_path_5 : decode cX6_path 5 = .ok (.iconst 0, 1) := dk_3 (dk_at dksX6_path_0 5 rfl rfl)
theorem dX6_path_6 : decode cX6_path 6 = .ok (.aload_n 0, 1) := dk_42 (dk_at dksX6_path_0 6 rfl rfl)
theorem dX6_path_7 : decode cX6_path 7 = .ok (.getfield 3, 3) := dk_180 0 3 (dk_at dksX6_path_0 7 rfl rfl)
theorem dX6_path_10 : decode cX6_path 10 = .ok (.getfield 213, 3) := dk_180 0 213 (dk_at dksX6_path_0 10 rfl rfl)
theorem dX6_path_13 : decode cX6_path 13 = .ok (.getfield 217, 3) := dk_180 0 217 (dk_at dksX6_path_0 13 rfl rfl)
theorem dX6_path_16 : decode cX6_path 16 = .ok (.iconst 1, 1) := dk_4 (dk_at dksX6_path_0 16 rfl rfl)
theorem dX6_path_17 : decode cX6_path 17 = .ok (.isub, 1) := dk_100 (dk_at dksX6_path_0 17 rfl rfl)
theorem dX6_path_18 : decode cX6_path 18 = .ok (.invokevirtual 139, 3) := dk_182 0 139 (dk_at dksX6_path_0 18 rfl rfl)
theorem dX6_path_21 : decode cX6_path 21 = .ok (.istore_n 1, 1) := dk_60 (dk_at dksX6_path_0 21 rfl rfl)
theorem dX6_path_22 : decode cX6_path 22 = .ok (.aload_n 0, 1) := dk_42 (dk_at dksX6_path_0 22 rfl rfl)
theorem dX6_path_23 : decode cX6_path 23 = .ok (.bipush 11, 2) := dk_16 11 (dk_at dksX6_path_1 0 rfl rfl)
theorem dX6_path_25 : decode cX6_path 25 = .ok (.invokevirtual 135, 3) := dk_182 0 135 (dk_at dksX6_path_1 2 rfl rfl)
theorem dX6_path_28 : decode cX6_path 28 = .ok (.iconst 0, 1) := dk_3 (dk_at dksX6_path_1 5 rfl rfl)
theorem dX6_path_29 : decode cX6_path 29 = .ok (.istore_n 2, 1) := dk_61 (dk_at dksX6_path_1 6 rfl rfl)
theorem dX6_path_30 : decode cX6_path 30 = .ok (.iconst 1, 1) := dk_4 (dk_at dksX6_path_1 7 rfl rfl)
theorem dX6_path_31 : decode cX6_path 31 = .ok (.istore_n 3, 1) := dk_62 (dk_at dksX6_path_1 8 rfl rfl)
theorem dX6_path_32 : decode cX6_path 32 = .ok (.iload_n 3, 1) := dk_29 (dk_at dksX6_path_1 9 rfl rfl)
theorem dX6_path_33 : decode cX6_path 33 = .ok (.ifCond .eq 72, 3) := dk_153 0 72 (dk_at dksX6_path_1 10 rfl rfl)
theorem dX6_path_36 : decode cX6_path 36 = .ok (.aload_n 0, 1) := dk_42 (dk_at dksX6_path_1 13 rfl rfl)
theorem dX6_path_37 : decode cX6_path 37 = .ok (.getfield 121, 3) := dk_180 0 121 (dk_at dksX6_path_1 14 rfl rfl)
theorem dX6_path_40 : decode cX6_path 40 = .ok (.iconst 2, 1) := dk_5 (dk_at dksX6_path_1 17 rfl rfl)
theorem dX6_path_41 : decode cX6_path 41 = .ok (.if_icmp .ne 31, 3) := dk_160 0 31 (dk_at dksX6_path_1 18 rfl rfl)
theorem dX6_path_44 : decode cX6_path 44 = .ok (.aload_n 0, 1) := dk_42 (dk_at dksX6_path_1 21 rfl rfl)
theorem dX6_path_45 : decode cX6_path 45 = .ok (.getfield 129, 3) := dk_180 0 129 (dk_at dksX6_path_2 0 rfl rfl)
theorem dX6_path_48 : decode cX6_path 48 = .ok (.bipush 10, 2) := dk_16 10 (dk_at dksX6_path_2 3 rfl rfl)
theorem dX6_path_50 : decode cX6_path 50 = .ok (.if_icmp .ge 22, 3) := dk_162 0 22 (dk_at dksX6_path_2 5 rfl rfl)
theorem dX6_path_53 : decode cX6_path 53 = .ok (.iload_n 2, 1) := dk_28 (dk_at dksX6_path_2 8 rfl rfl)
theorem dX6_path_54 : decode cX6_path 54 = .ok (.bipush 8, 2) := dk_16 8 (dk_at dksX6_path_2 9 rfl rfl)
theorem dX6_path_56 : decode cX6_path 56 = .ok (.if_icmp .ne 16, 3) := dk_160 0 16 (dk_at dksX6_path_2 11 rfl rfl)
theorem dX6_path_59 : decode cX6_path 59 = .ok (.new 124, 3) := dk_187 0 124 (dk_at dksX6_path_2 14 rfl rfl)
theorem dX6_path_62 : decode cX6_path 62 = .ok (.dup, 1) := dk_89 (dk_at dksX6_path_2 17 rfl rfl)
theorem dX6_path_63 : decode cX6_path 63 = .ok (.iconst 3, 1) := dk_6 (dk_at dksX6_path_2 18 rfl rfl)
theorem dX6_path_64 : decode cX6_path 64 = .ok (.aload_n 0, 1) := dk_42 (dk_at dksX6_path_2 19 rfl rfl)
theorem dX6_path_65 : decode cX6_path 65 = .ok (.getfield 47, 3) := dk_180 0 47 (dk_at dksX6_path_2 20 rfl rfl)
theorem dX6_path_68 : decode cX6_path 68 = .ok (.invokespecial 126, 3) := dk_183 0 126 (dk_at dksX6_path_3 0 rfl rfl)
theorem dX6_path_71 : decode cX6_path 71 = .ok (.athrow, 1) := dk_191 (dk_at dksX6_path_3 3 rfl rfl)
theorem dX6_path_72 : decode cX6_path 72 = .ok (.aload_n 0, 1) := dk_42 (dk_at dksX6_path_3 4 rfl rfl)
theorem dX6_path_73 : decode cX6_path 73 = .ok (.getfield 21, 3) := dk_180 0 21 (dk_at dksX6_path_3 5 rfl rfl)
theorem dX6_path_76 : decode cX6_path 76 = .ok (.iload_n 2, 1) := dk_28 (dk_at dksX6_path_3 8 rfl rfl)
theorem dX6_path_77 : decode cX6_path 77 = .ok (.aload_n 0, 1) := dk_42 (dk_at dksX6_path_3 9 rfl rfl)
theorem dX6_path_78 : decode cX6_path 78 = .ok (.iconst 0, 1) := dk_3 (dk_at dksX6_path_3 10 rfl rfl)
theorem dX6_path_79 : decode cX6_path 79 = .ok (.bipush 9, 2) := dk_16 9 (dk_at dksX6_path_3 11 rfl rfl)
theorem dX6_path_81 : decode cX6_path 81 = .ok (.invokevirtual 139, 3) := dk_182 0 139 (dk_at dksX6_path_3 13 rfl rfl)
theorem dX6_path_84 : decode cX6_path 84 = .ok (.iastore, 1) := dk_79 (dk_at dksX6_path_3 16 rfl rfl)
theorem dX6_path_85 : decode cX6_path 85 = .ok (.iinc 2 1, 3) := dk_132 2 1 (dk_at dksX6_path_3 17 rfl rfl)
theorem dX6_path_88 : decode cX6_path 88 = .ok (.aload_n 0, 1) := dk_42 (dk_at dksX6_path_3 20 rfl rfl)
theorem dX6_path_89 : decode cX6_path 89 = .ok (.getfield 121, 3) := dk_180 0 121 (dk_at dksX6_path_3 21 rfl rfl)
theorem dX6_path_92 : decode cX6_path 92 = .ok (.iconst 2, 1) := dk_5 (dk_at dksX6_path_4 0 rfl rfl)
theorem dX6_path_93 : decode cX6_path 93 = .ok (.if_icmp .ne 7, 3) := dk_160 0 7 (dk_at dksX6_path_4 1 rfl rfl)
theorem dX6_path_96 : decode cX6_path 96 = .ok (.iconst 1, 1) := dk_4 (dk_at dksX6_path_4 4 rfl rfl)
theorem dX6_path_97 : decode cX6_path 97 = .ok (.goto 4, 3) := dk_167 0 4 (dk_at dksX6_path_4 5 rfl rfl)
theorem dX6_path_100 : decode cX6_path 100 = .ok (.iconst 0, 1) := dk_3 (dk_at dksX6_path_4 8 rfl rfl)
theorem dX6_path_101 : decode cX6_path 101 = .ok (.istore_n 3, 1) := dk_62 (dk_at dksX6_path_4 9 rfl rfl)
theorem dX6_path_102 : decode cX6_path 102 = .ok (.goto (-70), 3) := dk_167 255 186 (dk_at dksX6_path_4 10 rfl rfl)
theorem dX6_path_105 : decode cX6_path 105 = .ok (.aload_n 0, 1) := dk_42 (dk_at dksX6_path_4 13 rfl rfl)
theorem dX6_path_106 : decode cX6_path 106 = .ok (.bipush 59, 2) := dk_16 59 (dk_at dksX6_path_4 14 rfl rfl)
theorem dX6_path_108 : decode cX6_path 108 = .ok (.invokevirtual 135, 3) := dk_182 0 135 (dk_at dksX6_path_4 16 rfl rfl)
theorem dX6_path_111 : decode cX6_path 111 = .ok (.aload_n 0, 1) := dk_42 (dk_at dksX6_path_4 19 rfl rfl)
theorem dX6_path_112 : decode cX6_path 112 = .ok (.getfield 17, 3) := dk_180 0 17 (dk_at dksX6_path_4 20 rfl rfl)
theorem dX6_path_115 : decode cX6_path 115 = .ok (.iload_n 1, 1) := dk_27 (dk_at dksX6_path_4 23 rfl rfl)
theorem dX6_path_116 : decode cX6_path 116 = .ok (.new 15, 3) := dk_187 0 15 (dk_at dksX6_path_5 0 rfl rfl)
theorem dX6_path_119 : decode cX6_path 119 = .ok (.dup, 1) := dk_89 (dk_at dksX6_path_5 3 rfl rfl)
theorem dX6_path_120 : decode cX6_path 120 = .ok (.aload_n 0, 1) := dk_42 (dk_at dksX6_path_5 4 rfl rfl)
theorem dX6_path_121 : decode cX6_path 121 = .ok (.getfield 21, 3) := dk_180 0 21 (dk_at dksX6_path_5 5 rfl rfl)
theorem dX6_path_124 : decode cX6_path 124 = .ok (.iload_n 2, 1) := dk_28 (dk_at dksX6_path_5 8 rfl rfl)
theorem dX6_path_125 : decode cX6_path 125 = .ok (.invokespecial 222, 3) := dk_183 0 222 (dk_at dksX6_path_5 9 rfl rfl)
theorem dX6_path_128 : decode cX6_path 128 = .ok (.aastore, 1) := dk_83 (dk_at dksX6_path_5 12 rfl rfl)
theorem dX6_path_129 : decode cX6_path 129 = .ok (.return_, 1) := dk_177 (dk_at dksX6_path_5 13 rfl rfl)
abbrev cX6_plan : ByteArray := prog_18_method_26_code
def yX6_plan : MethodName := ⟨RX6, "plan", "()Ljava/util/ArrayList;"⟩
def dkwX6_plan_3 : List UInt8 := [17, 3, 231, 182, 0, 139, 182, 0, 254, 182, 0, 209, 87, 42, 16, 59, 182, 0, 135, 167, 255, 178, 43, 176]
abbrev dktX6_plan_3 : List UInt8 := dkwX6_plan_3 ++ []
def dkwX6_plan_2 : List UInt8 := [160, 0, 16, 187, 0, 124, 89, 6, 42, 180, 0, 47, 183, 0, 126, 191, 42, 182, 0, 132, 43, 42, 42, 3]
abbrev dktX6_plan_2 : List UInt8 := dkwX6_plan_2 ++ dktX6_plan_3
def dkwX6_plan_1 : List UInt8 := [16, 12, 159, 0, 16, 187, 0, 124, 89, 4, 42, 180, 0, 47, 183, 0, 126, 191, 43, 182, 0, 201, 16, 16]
abbrev dktX6_plan_1 : List UInt8 := dkwX6_plan_1 ++ dktX6_plan_2
def dkwX6_plan_0 : List UInt8 := [187, 0, 198, 89, 183, 0, 200, 76, 42, 182, 0, 132, 42, 180, 0, 121, 153, 0, 77, 42, 180, 0, 121]
abbrev dktX6_plan_0 : List UInt8 := dkwX6_plan_0 ++ dktX6_plan_1
theorem dksX6_plan_0 : cX6_plan.data.toList.drop 0 = dktX6_plan_0 := by decide +kernel
theorem dksX6_plan_1 : cX6_plan.data.toList.drop 23 = dktX6_plan_1 := dk_seg dksX6_plan_0 23 rfl rfl
theorem dksX6_plan_2 : cX6_plan.data.toList.drop 47 = dktX6_plan_2 := dk_seg dksX6_plan_1 24 rfl rfl
theorem dksX6_plan_3 : cX6_plan.data.toList.drop 71 = dktX6_plan_3 := dk_seg dksX6_plan_2 24 rfl rfl
theorem dX6_plan_0 : decode cX6_plan 0 = .ok (.new 198, 3) := dk_187 0 198 (dk_at dksX6_plan_0 0 rfl rfl)
theorem dX6_plan_3 : decode cX6_plan 3 = .ok (.dup, 1) := dk_89 (dk_at dksX6_plan_0 3 rfl rfl)
theorem dX6_plan_4 : decode cX6_plan 4 = .ok (.invokespecial 200, 3) := dk_183 0 200 (dk_at dksX6_plan_0 4 rfl rfl)
theorem dX6_plan_7 : decode cX6_plan 7 = .ok (.astore_n 1, 1) := dk_76 (dk_at dksX6_plan_0 7 rfl rfl)
theorem dX6_plan_8 : decode cX6_plan 8 = .ok (.aload_n 0, 1) := dk_42 (dk_at dksX6_plan_0 8 rfl rfl)
theorem dX6_plan_9 : decode cX6_plan 9 = .ok (.invokevirtual 132, 3) := dk_182 0 132 (dk_at dksX6_plan_0 9 rfl rfl)
theorem dX6_plan_12 : decode cX6_plan 12 = .ok (.aload_n 0, 1) := dk_42 (dk_at dksX6_plan_0 12 rfl rfl)
theorem dX6_plan_13 : decode cX6_plan 13 = .ok (.getfield 121, 3) := dk_180 0 121 (dk_at dksX6_plan_0 13 rfl rfl)
theorem dX6_plan_16 : decode cX6_plan 16 = .ok (.ifCond .eq 77, 3) := dk_153 0 77 (dk_at dksX6_plan_0 16 rfl rfl)
theorem dX6_plan_19 : decode cX6_plan 19 = .ok (.aload_n 0, 1) := dk_42 (dk_at dksX6_plan_0 19 rfl rfl)
theorem dX6_plan_20 : decode cX6_plan 20 = .ok (.getfield 121, 3) := dk_180 0 121 (dk_at dksX6_plan_0 20 rfl rfl)
theorem dX6_plan_23 : decode cX6_plan 23 = .ok (.bipush 12, 2) := dk_16 12 (dk_at dksX6_plan_1 0 rfl rfl)
theorem dX6_plan_25 : decode cX6_plan 25 = .ok (.if_icmp .eq 16, 3) := dk_159 0 16 (dk_at dksX6_plan_1 2 rfl rfl)
theorem dX6_plan_28 : decode cX6_plan 28 = .ok (.new 124, 3) := dk_187 0 124 (dk_at dksX6_plan_1 5 rfl rfl)
theorem dX6_plan_31 : decode cX6_plan 31 = .ok (.dup, 1) := dk_89 (dk_at dksX6_plan_1 8 rfl rfl)
theorem dX6_plan_32 : decode cX6_plan 32 = .ok (.iconst 1, 1) := dk_4 (dk_at dksX6_plan_1 9 rfl rfl)
theorem dX6_plan_33 : decode cX6_plan 33 = .ok (.aload_n 0, 1) := dk_42 (dk_at dksX6_plan_1 10 rfl rfl)
theorem dX6_plan_34 : decode cX6_plan 34 = .ok (.getfield 47, 3) := dk_180 0 47 (dk_at dksX6_plan_1 11 rfl rfl)
theorem dX6_plan_37 : decode cX6_plan 37 = .ok (.invokespecial 126, 3) := dk_183 0 126 (dk_at dksX6_plan_1 14 rfl rfl)
theorem dX6_plan_40 : decode cX6_plan 40 = .ok (.athrow, 1) := dk_191 (dk_at dksX6_plan_1 17 rfl rfl)
theorem dX6_plan_41 : decode cX6_plan 41 = .ok (.aload_n 1, 1) := dk_43 (dk_at dksX6_plan_1 18 rfl rfl)
theorem dX6_plan_42 : decode cX6_plan 42 = .ok (.invokevirtual 201, 3) := dk_182 0 201 (dk_at dksX6_plan_1 19 rfl rfl)
theorem dX6_plan_45 : decode cX6_plan 45 = .ok (.bipush 16, 2) := dk_16 16 (dk_at dksX6_plan_1 22 rfl rfl)
theorem dX6_plan_47 : decode cX6_plan 47 = .ok (.if_icmp .ne 16, 3) := dk_160 0 16 (dk_at dksX6_plan_2 0 rfl rfl)
theorem dX6_plan_50 : decode cX6_plan 50 = .ok (.new 124, 3) := dk_187 0 124 (dk_at dksX6_plan_2 3 rfl rfl)
theorem dX6_plan_53 : decode cX6_plan 53 = .ok (.dup, 1) := dk_89 (dk_at dksX6_plan_2 6 rfl rfl)
theorem dX6_plan_54 : decode cX6_plan 54 = .ok (.iconst 3, 1) := dk_6 (dk_at dksX6_plan_2 7 rfl rfl)
theorem dX6_plan_55 : decode cX6_plan 55 = .ok (.aload_n 0, 1) := dk_42 (dk_at dksX6_plan_2 8 rfl rfl)
theorem dX6_plan_56 : decode cX6_plan 56 = .ok (.getfield 47, 3) := dk_180 0 47 (dk_at dksX6_plan_2 9 rfl rfl)
theorem dX6_plan_59 : decode cX6_plan 59 = .ok (.invokespecial 126, 3) := dk_183 0 126 (dk_at dksX6_plan_2 12 rfl rfl)
theorem dX6_plan_62 : decode cX6_plan 62 = .ok (.athrow, 1) := dk_191 (dk_at dksX6_plan_2 15 rfl rfl)
theorem dX6_plan_63 : decode cX6_plan 63 = .ok (.aload_n 0, 1) := dk_42 (dk_at dksX6_plan_2 16 rfl rfl)
theorem dX6_plan_64 : decode cX6_plan 64 = .ok (.invokevirtual 132, 3) := dk_182 0 132 (dk_at dksX6_plan_2 17 rfl rfl)
theorem dX6_plan_67 : decode cX6_plan 67 = .ok (.aload_n 1, 1) := dk_43 (dk_at dksX6_plan_2 20 rfl rfl)
theorem dX6_plan_68 : decode cX6_plan 68 = .ok (.aload_n 0, 1) := dk_42 (dk_at dksX6_plan_2 21 rfl rfl)
theorem dX6_plan_69 : decode cX6_plan 69 = .ok (.aload_n 0, 1) := dk_42 (dk_at dksX6_plan_2 22 rfl rfl)
theorem dX6_plan_70 : decode cX6_plan 70 = .ok (.iconst 0, 1) := dk_3 (dk_at dksX6_plan_2 23 rfl rfl)
theorem dX6_plan_71 : decode cX6_plan 71 = .ok (.sipush 999, 3) := dk_17 3 231 (dk_at dksX6_plan_3 0 rfl rfl)
theorem dX6_plan_74 : decode cX6_plan 74 = .ok (.invokevirtual 139, 3) := dk_182 0 139 (dk_at dksX6_plan_3 3 rfl rfl)
theorem dX6_plan_77 : decode cX6_plan 77 = .ok (.invokevirtual 254, 3) := dk_182 0 254 (dk_at dksX6_plan_3 6 rfl rfl)
theorem dX6_plan_80 : decode cX6_plan 80 = .ok (.invokevirtual 209, 3) := dk_182 0 209 (dk_at dksX6_plan_3 9 rfl rfl)
theorem dX6_plan_83 : decode cX6_plan 83 = .ok (.pop, 1) := dk_87 (dk_at dksX6_plan_3 12 rfl rfl)
theorem dX6_plan_84 : decode cX6_plan 84 = .ok (.aload_n 0, 1) := dk_42 (dk_at dksX6_plan_3 13 rfl rfl)
theorem dX6_plan_85 : decode cX6_plan 85 = .ok (.bipush 59, 2) := dk_16 59 (dk_at dksX6_plan_3 14 rfl rfl)
theorem dX6_plan_87 : decode cX6_plan 87 = .ok (.invokevirtual 135, 3) := dk_182 0 135 (dk_at dksX6_plan_3 16 rfl rfl)
theorem dX6_plan_90 : decode cX6_plan 90 = .ok (.goto (-78), 3) := dk_167 255 178 (dk_at dksX6_plan_3 19 rfl rfl)
theorem dX6_plan_93 : decode cX6_plan 93 = .ok (.aload_n 1, 1) := dk_43 (dk_at dksX6_plan_3 22 rfl rfl)
theorem dX6_plan_94 : decode cX6_plan 94 = .ok (.areturn, 1) := dk_176 (dk_at dksX6_plan_3 23 rfl rfl)
abbrev cX6_deed : ByteArray := prog_18_method_25_code
def yX6_deed : MethodName := ⟨RX6, "deed", "(I)LBallotFruit$Deed;"⟩
def dkwX6_deed_8 : List UInt8 := [180, 0, 3, 180, 0, 213, 180, 0, 217, 4, 100, 182, 0, 139, 183, 0, 253, 176]
abbrev dktX6_deed_8 : List UInt8 := dkwX6_deed_8 ++ []
def dkwX6_deed_7 : List UInt8 := [27, 21, 4, 42, 4, 16, 99, 182, 0, 139, 183, 0, 250, 176, 187, 0, 251, 89, 27, 42, 3, 42]
abbrev dktX6_deed_7 : List UInt8 := dkwX6_deed_7 ++ dktX6_deed_8
def dkwX6_deed_6 : List UInt8 := [176, 42, 3, 42, 180, 0, 3, 180, 0, 213, 180, 0, 231, 4, 100, 182, 0, 139, 54, 4, 187, 0, 248, 89]
abbrev dktX6_deed_6 : List UInt8 := dkwX6_deed_6 ++ dktX6_deed_7
def dkwX6_deed_5 : List UInt8 := [182, 0, 139, 4, 183, 0, 245, 176, 187, 0, 243, 89, 27, 42, 3, 16, 9, 182, 0, 139, 3, 183, 0, 245]
abbrev dktX6_deed_5 : List UInt8 := dkwX6_deed_5 ++ dktX6_deed_6
def dkwX6_deed_4 : List UInt8 := [42, 16, 18, 3, 16, 9, 182, 0, 236, 183, 0, 240, 176, 187, 0, 243, 89, 27, 42, 3, 16, 9]
abbrev dktX6_deed_4 : List UInt8 := dkwX6_deed_4 ++ dktX6_deed_5
def dkwX6_deed_3 : List UInt8 := [42, 3, 42, 180, 0, 3, 180, 0, 213, 180, 0, 231, 4, 100, 182, 0, 139, 62, 187, 0, 234, 89, 27, 29]
abbrev dktX6_deed_3 : List UInt8 := dkwX6_deed_3 ++ dktX6_deed_4
def dkwX6_deed_2 : List UInt8 := [170, 0, 0, 0, 0, 138, 0, 0, 0, 13, 0, 0, 0, 16, 0, 0, 0, 30, 0, 0, 0, 67, 0, 0, 0, 84, 0, 0, 0, 101]
abbrev dktX6_deed_2 : List UInt8 := dkwX6_deed_2 ++ dktX6_deed_3
def dkwX6_deed_1 : List UInt8 := [180, 0, 47, 183, 0, 126, 191, 42, 182, 0, 132, 28]
abbrev dktX6_deed_1 : List UInt8 := dkwX6_deed_1 ++ dktX6_deed_2
def dkwX6_deed_0 : List UInt8 := [42, 180, 0, 121, 61, 28, 16, 13, 16, 17, 184, 0, 43, 154, 0, 16, 187, 0, 124, 89, 4, 42]
abbrev dktX6_deed_0 : List UInt8 := dkwX6_deed_0 ++ dktX6_deed_1
theorem dksX6_deed_0 : cX6_deed.data.toList.drop 0 = dktX6_deed_0 := by decide +kernel
theorem dksX6_deed_1 : cX6_deed.data.toList.drop 22 = dktX6_deed_1 := dk_seg dksX6_deed_0 22 rfl rfl
theorem dksX6_deed_2 : cX6_deed.data.toList.drop 34 = dktX6_deed_2 := dk_seg dksX6_deed_1 12 rfl rfl
theorem dksX6_deed_3 : cX6_deed.data.toList.drop 64 = dktX6_deed_3 := dk_seg dksX6_deed_2 30 rfl rfl
theorem dksX6_deed_4 : cX6_deed.data.toList.drop 88 = dktX6_deed_4 := dk_seg dksX6_deed_3 24 rfl rfl
theorem dksX6_deed_5 : cX6_deed.data.toList.drop 110 = dktX6_deed_5 := dk_seg dksX6_deed_4 22 rfl rfl
theorem dksX6_deed_6 : cX6_deed.data.toList.drop 134 = dktX6_deed_6 := dk_seg dksX6_deed_5 24 rfl rfl
theorem dksX6_deed_7 : cX6_deed.data.toList.drop 158 = dktX6_deed_7 := dk_seg dksX6_deed_6 24 rfl rfl
theorem dksX6_deed_8 : cX6_deed.data.toList.drop 180 = dktX6_deed_8 := dk_seg dksX6_deed_7 22 rfl rfl
theorem dX6_deed_0 : decode cX6_deed 0 = .ok (.aload_n 0, 1) := dk_42 (dk_at dksX6_deed_0 0 rfl rfl)
theorem dX6_deed_1 : decode cX6_deed 1 = .ok (.getfield 121, 3) := dk_180 0 121 (dk_at dksX6_deed_0 1 rfl rfl)
theorem dX6_deed_4 : decode cX6_deed 4 = .ok (.istore_n 2, 1) := dk_61 (dk_at dksX6_deed_0 4 rfl rfl)
theorem dX6_deed_5 : decode cX6_deed 5 = .ok (.iload_n 2, 1) := dk_28 (dk_at dksX6_deed_0 5 rfl rfl)
theorem dX6_deed_6 : decode cX6_deed 6 = .ok (.bipush 13, 2) := dk_16 13 (dk_at dksX6_deed_0 6 rfl rfl)
theorem dX6_deed_8 : decode cX6_deed 8 = .ok (.bipush 17, 2) := dk_16 17 (dk_at dksX6_deed_0 8 rfl rfl)
theorem dX6_deed_10 : decode cX6_deed 10 = .ok (.invokestatic 43, 3) := dk_184 0 43 (dk_at dksX6_deed_0 10 rfl rfl)
theorem dX6_deed_13 : decode cX6_deed 13 = .ok (.ifCond .ne 16, 3) := dk_154 0 16 (dk_at dksX6_deed_0 13 rfl rfl)
theorem dX6_deed_16 : decode cX6_deed 16 = .ok (.new 124, 3) := dk_187 0 124 (dk_at dksX6_deed_0 16 rfl rfl)
theorem dX6_deed_19 : decode cX6_deed 19 = .ok (.dup, 1) := dk_89 (dk_at dksX6_deed_0 19 rfl rfl)
theorem dX6_deed_20 : decode cX6_deed 20 = .ok (.iconst 1, 1) := dk_4 (dk_at dksX6_deed_0 20 rfl rfl)
theorem dX6_deed_21 : decode cX6_deed 21 = .ok (.aload_n 0, 1) := dk_42 (dk_at dksX6_deed_0 21 rfl rfl)
theorem dX6_deed_22 : decode cX6_deed 22 = .ok (.getfield 47, 3) := dk_180 0 47 (dk_at dksX6_deed_1 0 rfl rfl)
theorem dX6_deed_25 : decode cX6_deed 25 = .ok (.invokespecial 126, 3) := dk_183 0 126 (dk_at dksX6_deed_1 3 rfl rfl)
theorem dX6_deed_28 : decode cX6_deed 28 = .ok (.athrow, 1) := dk_191 (dk_at dksX6_deed_1 6 rfl rfl)
theorem dX6_deed_29 : decode cX6_deed 29 = .ok (.aload_n 0, 1) := dk_42 (dk_at dksX6_deed_1 7 rfl rfl)
theorem dX6_deed_30 : decode cX6_deed 30 = .ok (.invokevirtual 132, 3) := dk_182 0 132 (dk_at dksX6_deed_1 8 rfl rfl)
theorem dX6_deed_33 : decode cX6_deed 33 = .ok (.iload_n 2, 1) := dk_28 (dk_at dksX6_deed_1 11 rfl rfl)
theorem dX6_deed_34 : decode cX6_deed 34 = .ok (.tableswitch 138 13 16 #[30, 67, 84, 101], 30) := by decide +kernel
theorem dX6_deed_64 : decode cX6_deed 64 = .ok (.aload_n 0, 1) := dk_42 (dk_at dksX6_deed_3 0 rfl rfl)
theorem dX6_deed_65 : decode cX6_deed 65 = .ok (.iconst 0, 1) := dk_3 (dk_at dksX6_deed_3 1 rfl rfl)
theorem dX6_deed_66 : decode cX6_deed 66 = .ok (.aload_n 0, 1) := dk_42 (dk_at dksX6_deed_3 2 rfl rfl)
theorem dX6_deed_67 : decode cX6_deed 67 = .ok (.getfield 3, 3) := dk_180 0 3 (dk_at dksX6_deed_3 3 rfl rfl)
theorem dX6_deed_70 : decode cX6_deed 70 = .ok (.getfield 213, 3) := dk_180 0 213 (dk_at dksX6_deed_3 6 rfl rfl)
theorem dX6_deed_73 : decode cX6_deed 73 = .ok (.getfield 231, 3) := dk_180 0 231 (dk_at dksX6_deed_3 9 rfl rfl)
theorem dX6_deed_76 : decode cX6_deed 76 = .ok (.iconst 1, 1) := dk_4 (dk_at dksX6_deed_3 12 rfl rfl)
theorem dX6_deed_77 : decode cX6_deed 77 = .ok (.isub, 1) := dk_100 (dk_at dksX6_deed_3 13 rfl rfl)
theorem dX6_deed_78 : decode cX6_deed 78 = .ok (.invokevirtual 139, 3) := dk_182 0 139 (dk_at dksX6_deed_3 14 rfl rfl)
theorem dX6_deed_81 : decode cX6_deed 81 = .ok (.istore_n 3, 1) := dk_62 (dk_at dksX6_deed_3 17 rfl rfl)
theorem dX6_deed_82 : decode cX6_deed 82 = .ok (.new 234, 3) := dk_187 0 234 (dk_at dksX6_deed_3 18 rfl rfl)
theorem dX6_deed_85 : decode cX6_deed 85 = .ok (.dup, 1) := dk_89 (dk_at dksX6_deed_3 21 rfl rfl)
theorem dX6_deed_86 : decode cX6_deed 86 = .ok (.iload_n 1, 1) := dk_27 (dk_at dksX6_deed_3 22 rfl rfl)
theorem dX6_deed_87 : decode cX6_deed 87 = .ok (.iload_n 3, 1) := dk_29 (dk_at dksX6_deed_3 23 rfl rfl)
theorem dX6_deed_88 : decode cX6_deed 88 = .ok (.aload_n 0, 1) := dk_42 (dk_at dksX6_deed_4 0 rfl rfl)
theorem dX6_deed_89 : decode cX6_deed 89 = .ok (.bipush 18, 2) := dk_16 18 (dk_at dksX6_deed_4 1 rfl rfl)
theorem dX6_deed_91 : decode cX6_deed 91 = .ok (.iconst 0, 1) := dk_3 (dk_at dksX6_deed_4 3 rfl rfl)
theorem dX6_deed_92 : decode cX6_deed 92 = .ok (.bipush 9, 2) := dk_16 9 (dk_at dksX6_deed_4 4 rfl rfl)
theorem dX6_deed_94 : decode cX6_deed 94 = .ok (.invokevirtual 236, 3) := dk_182 0 236 (dk_at dksX6_deed_4 6 rfl rfl)
theorem dX6_deed_97 : decode cX6_deed 97 = .ok (.invokespecial 240, 3) := dk_183 0 240 (dk_at dksX6_deed_4 9 rfl rfl)
theorem dX6_deed_100 : decode cX6_deed 100 = .ok (.areturn, 1) := dk_176 (dk_at dksX6_deed_4 12 rfl rfl)
theorem dX6_deed_101 : decode cX6_deed 101 = .ok (.new 243, 3) := dk_187 0 243 (dk_at dksX6_deed_4 13 rfl rfl)
theorem dX6_deed_104 : decode cX6_deed 104 = .ok (.dup, 1) := dk_89 (dk_at dksX6_deed_4 16 rfl rfl)
theorem dX6_deed_105 : decode cX6_deed 105 = .ok (.iload_n 1, 1) := dk_27 (dk_at dksX6_deed_4 17 rfl rfl)
theorem dX6_deed_106 : decode cX6_deed 106 = .ok (.aload_n 0, 1) := dk_42 (dk_at dksX6_deed_4 18 rfl rfl)
theorem dX6_deed_107 : decode cX6_deed 107 = .ok (.iconst 0, 1) := dk_3 (dk_at dksX6_deed_4 19 rfl rfl)
theorem dX6_deed_108 : decode cX6_deed 108 = .ok (.bipush 9, 2) := dk_16 9 (dk_at dksX6_deed_4 20 rfl rfl)
theorem dX6_deed_110 : decode cX6_deed 110 = .ok (.invokevirtual 139, 3) := dk_182 0 139 (dk_at dksX6_deed_5 0 rfl rfl)
theorem dX6_deed_113 : decode cX6_deed 113 = .ok (.iconst 1, 1) := dk_4 (dk_at dksX6_deed_5 3 rfl rfl)
theorem dX6_deed_114 : decode cX6_deed 114 = .ok (.invokespecial 245, 3) := dk_183 0 245 (dk_at dksX6_deed_5 4 rfl rfl)
theorem dX6_deed_117 : decode cX6_deed 117 = .ok (.areturn, 1) := dk_176 (dk_at dksX6_deed_5 7 rfl rfl)
theorem dX6_deed_118 : decode cX6_deed 118 = .ok (.new 243, 3) := dk_187 0 243 (dk_at dksX6_deed_5 8 rfl rfl)
theorem dX6_deed_121 : decode cX6_deed 121 = .ok (.dup, 1) := dk_89 (dk_at dksX6_deed_5 11 rfl rfl)
theorem dX6_deed_122 : decode cX6_deed 122 = .ok (.iload_n 1, 1) := dk_27 (dk_at dksX6_deed_5 12 rfl rfl)
theorem dX6_deed_123 : decode cX6_deed 123 = .ok (.aload_n 0, 1) := dk_42 (dk_at dksX6_deed_5 13 rfl rfl)
theorem dX6_deed_124 : decode cX6_deed 124 = .ok (.iconst 0, 1) := dk_3 (dk_at dksX6_deed_5 14 rfl rfl)
theorem dX6_deed_125 : decode cX6_deed 125 = .ok (.bipush 9, 2) := dk_16 9 (dk_at dksX6_deed_5 15 rfl rfl)
theorem dX6_deed_127 : decode cX6_deed 127 = .ok (.invokevirtual 139, 3) := dk_182 0 139 (dk_at dksX6_deed_5 17 rfl rfl)
theorem dX6_deed_130 : decode cX6_deed 130 = .ok (.iconst 0, 1) := dk_3 (dk_at dksX6_deed_5 20 rfl rfl)
theorem dX6_deed_131 : decode cX6_deed 131 = .ok (.invokespecial 245, 3) := dk_183 0 245 (dk_at dksX6_deed_5 21 rfl rfl)
theorem dX6_deed_134 : decode cX6_deed 134 = .ok (.areturn, 1) := dk_176 (dk_at dksX6_deed_6 0 rfl rfl)
theorem dX6_deed_135 : decode cX6_deed 135 = .ok (.aload_n 0, 1) := dk_42 (dk_at dksX6_deed_6 1 rfl rfl)
theorem dX6_deed_136 : decode cX6_deed 136 = .ok (.iconst 0, 1) := dk_3 (dk_at dksX6_deed_6 2 rfl rfl)
theorem dX6_deed_137 : decode cX6_deed 137 = .ok (.aload_n 0, 1) := dk_42 (dk_at dksX6_deed_6 3 rfl rfl)
theorem dX6_deed_138 : decode cX6_deed 138 = .ok (.getfield 3, 3) := dk_180 0 3 (dk_at dksX6_deed_6 4 rfl rfl)
theorem dX6_deed_141 : decode cX6_deed 141 = .ok (.getfield 213, 3) := dk_180 0 213 (dk_at dksX6_deed_6 7 rfl rfl)
theorem dX6_deed_144 : decode cX6_deed 144 = .ok (.getfield 231, 3) := dk_180 0 231 (dk_at dksX6_deed_6 10 rfl rfl)
theorem dX6_deed_147 : decode cX6_deed 147 = .ok (.iconst 1, 1) := dk_4 (dk_at dksX6_deed_6 13 rfl rfl)
theorem dX6_deed_148 : decode cX6_deed 148 = .ok (.isub, 1) := dk_100 (dk_at dksX6_deed_6 14 rfl rfl)
theorem dX6_deed_149 : decode cX6_deed 149 = .ok (.invokevirtual 139, 3) := dk_182 0 139 (dk_at dksX6_deed_6 15 rfl rfl)
theorem dX6_deed_152 : decode cX6_deed 152 = .ok (.istore 4, 2) := dk_54 4 (dk_at dksX6_deed_6 18 rfl rfl)
theorem dX6_deed_154 : decode cX6_deed 154 = .ok (.new 248, 3) := dk_187 0 248 (dk_at dksX6_deed_6 20 rfl rfl)
theorem dX6_deed_157 : decode cX6_deed 157 = .ok (.dup, 1) := dk_89 (dk_at dksX6_deed_6 23 rfl rfl)
theorem dX6_deed_158 : decode cX6_deed 158 = .ok (.iload_n 1, 1) := dk_27 (dk_at dksX6_deed_7 0 rfl rfl)
theorem dX6_deed_159 : decode cX6_deed 159 = .ok (.iload 4, 2) := dk_21 4 (dk_at dksX6_deed_7 1 rfl rfl)
theorem dX6_deed_161 : decode cX6_deed 161 = .ok (.aload_n 0, 1) := dk_42 (dk_at dksX6_deed_7 3 rfl rfl)
theorem dX6_deed_162 : decode cX6_deed 162 = .ok (.iconst 1, 1) := dk_4 (dk_at dksX6_deed_7 4 rfl rfl)
theorem dX6_deed_163 : decode cX6_deed 163 = .ok (.bipush 99, 2) := dk_16 99 (dk_at dksX6_deed_7 5 rfl rfl)
theorem dX6_deed_165 : decode cX6_deed 165 = .ok (.invokevirtual 139, 3) := dk_182 0 139 (dk_at dksX6_deed_7 7 rfl rfl)
theorem dX6_deed_168 : decode cX6_deed 168 = .ok (.invokespecial 250, 3) := dk_183 0 250 (dk_at dksX6_deed_7 10 rfl rfl)
theorem dX6_deed_171 : decode cX6_deed 171 = .ok (.areturn, 1) := dk_176 (dk_at dksX6_deed_7 13 rfl rfl)
theorem dX6_deed_172 : decode cX6_deed 172 = .ok (.new 251, 3) := dk_187 0 251 (dk_at dksX6_deed_7 14 rfl rfl)
theorem dX6_deed_175 : decode cX6_deed 175 = .ok (.dup, 1) := dk_89 (dk_at dksX6_deed_7 17 rfl rfl)
theorem dX6_deed_176 : decode cX6_deed 176 = .ok (.iload_n 1, 1) := dk_27 (dk_at dksX6_deed_7 18 rfl rfl)
theorem dX6_deed_177 : decode cX6_deed 177 = .ok (.aload_n 0, 1) := dk_42 (dk_at dksX6_deed_7 19 rfl rfl)
theorem dX6_deed_178 : decode cX6_deed 178 = .ok (.iconst 0, 1) := dk_3 (dk_at dksX6_deed_7 20 rfl rfl)
theorem dX6_deed_179 : decode cX6_deed 179 = .ok (.aload_n 0, 1) := dk_42 (dk_at dksX6_deed_7 21 rfl rfl)
theorem dX6_deed_180 : decode cX6_deed 180 = .ok (.getfield 3, 3) := dk_180 0 3 (dk_at dksX6_deed_8 0 rfl rfl)
theorem dX6_deed_183 : decode cX6_deed 183 = .ok (.getfield 213, 3) := dk_180 0 213 (dk_at dksX6_deed_8 3 rfl rfl)
theorem dX6_deed_186 : decode cX6_deed 186 = .ok (.getfield 217, 3) := dk_180 0 217 (dk_at dksX6_deed_8 6 rfl rfl)
theorem dX6_deed_189 : decode cX6_deed 189 = .ok (.iconst 1, 1) := dk_4 (dk_at dksX6_deed_8 9 rfl rfl)
theorem dX6_deed_190 : decode cX6_deed 190 = .ok (.isub, 1) := dk_100 (dk_at dksX6_deed_8 10 rfl rfl)
theorem dX6_deed_191 : decode cX6_deed 191 = .ok (.invokevirtual 139, 3) := dk_182 0 139 (dk_at dksX6_deed_8 11 rfl rfl)
theorem dX6_deed_194 : decode cX6_deed 194 = .ok (.invokespecial 253, 3) := dk_183 0 253 (dk_at dksX6_deed_8 14 rfl rfl)
theorem dX6_deed_197 : decode cX6_deed 197 = .ok (.areturn, 1) := dk_176 (dk_at dksX6_deed_8 17 rfl rfl)
abbrev cX6_behind : ByteArray := prog_18_method_11_code
def yX6_behind : MethodName := ⟨RX6, "behind", "(III)I"⟩
def dkwX6_behind_0 : List UInt8 := [42, 27, 182, 0, 135, 42, 28, 29, 182, 0, 139, 172]
abbrev dktX6_behind_0 : List UInt8 := dkwX6_behind_0 ++ []
theorem dksX6_behind_0 : cX6_behind.data.toList.drop 0 = dktX6_behind_0 := by decide +kernel
theorem dX6_behind_0 : decode cX6_behind 0 = .ok (.aload_n 0, 1) := dk_42 (dk_at dksX6_behind_0 0 rfl rfl)
theorem dX6_behind_1 : decode cX6_behind 1 = .ok (.iload_n 1, 1) := dk_27 (dk_at dksX6_behind_0 1 rfl rfl)
theorem dX6_behind_2 : decode cX6_behind 2 = .ok (.invokevirtual 135, 3) := dk_182 0 135 (dk_at dksX6_behind_0 2 rfl rfl)
theorem dX6_behind_5 : decode cX6_behind 5 = .ok (.aload_n 0, 1) := dk_42 (dk_at dksX6_behind_0 5 rfl rfl)
theorem dX6_behind_6 : decode cX6_behind 6 = .ok (.iload_n 2, 1) := dk_28 (dk_at dksX6_behind_0 6 rfl rfl)
theorem dX6_behind_7 : decode cX6_behind 7 = .ok (.iload_n 3, 1) := dk_29 (dk_at dksX6_behind_0 7 rfl rfl)
theorem dX6_behind_8 : decode cX6_behind 8 = .ok (.invokevirtual 139, 3) := dk_182 0 139 (dk_at dksX6_behind_0 8 rfl rfl)
theorem dX6_behind_11 : decode cX6_behind 11 = .ok (.ireturn, 1) := dk_172 (dk_at dksX6_behind_0 11 rfl rfl)
theorem q160 : (Jvm.Cond.initialized "BallotFruit$Reader") ∈ lw_all := lw_g (lw_at lw_m1 13 rfl) rfl
theorem q322 : (Jvm.Cond.fieldLinkNest "BallotFruit$Reader" (231 : Nat) "BallotFruit$Commune" "parties" "I" "BallotFruit") ∈ lw_tbl := lw_at lw_m1 175 rfl
theorem q328 : (Jvm.Cond.fieldLinkNest "BallotFruit$Reader" (217 : Nat) "BallotFruit$Commune" "eaters" "I" "BallotFruit") ∈ lw_tbl := lw_at lw_m1 181 rfl
theorem q425 : (Jvm.Cond.fieldLinkNest "BallotFruit$Reader" (35 : Nat) "BallotFruit" "tape" "[B" "BallotFruit") ∈ lw_tbl := lw_at lw_m2 38 rfl
theorem q426 : (Jvm.Cond.fieldLinkNest "BallotFruit$Reader" (32 : Nat) "BallotFruit" "taped" "I" "BallotFruit") ∈ lw_tbl := lw_at lw_m2 39 rfl
theorem q431 : (Jvm.Cond.fieldLinkNest "BallotFruit$Reader" (213 : Nat) "BallotFruit" "commune" "LBallotFruit$Commune;" "BallotFruit") ∈ lw_tbl := lw_at lw_m2 44 rfl
theorem q486 : (Jvm.Cond.instantiable "BallotFruit$Reader" (10 : Nat)) ∈ lw_all := lw_g (lw_at lw_m2 99 rfl) rfl
theorem q488 : (Jvm.Cond.instanceMethod ({ cls := "BallotFruit$Reader", name := "<init>", desc := "(LBallotFruit;I)V" } : Jvm.MethodName)) ∈ lw_all := lw_g (lw_at lw_m2 101 rfl) rfl
theorem q489 : (Jvm.Cond.code ({ cls := "BallotFruit$Reader", name := "<init>", desc := "(LBallotFruit;I)V" } : Jvm.MethodName) prog_18_method_1_code (3 : Nat) (Option.none : Option Jvm.ClassFile.FieldType)) ∈ lw_all := lw_g (lw_at lw_m2 102 rfl) rfl
theorem q490 : (Jvm.Cond.methodLink "BallotFruit$Reader" (9 : Nat) ({ cls := "java/lang/Object", name := "<init>", desc := "()V" } : Jvm.MethodName)) ∈ lw_all := lw_g (lw_at lw_m2 103 rfl) rfl
theorem q491 : (Jvm.Cond.classLink "BallotFruit$Reader" (15 : Nat) "BallotFruit$Path") ∈ lw_all := lw_g (lw_at lw_m2 104 rfl) rfl
theorem q492 : (Jvm.Cond.fieldLink "BallotFruit$Reader" (25 : Nat) "BallotFruit$Reader" "which" "I") ∈ lw_all := lw_g (lw_at lw_m2 105 rfl) rfl
theorem q493 : (Jvm.Cond.fieldLink "BallotFruit$Reader" (17 : Nat) "BallotFruit$Reader" "paths" "[LBallotFruit$Path;") ∈ lw_all := lw_g (lw_at lw_m2 106 rfl) rfl
theorem q494 : (Jvm.Cond.fieldLink "BallotFruit$Reader" (21 : Nat) "BallotFruit$Reader" "row" "[I") ∈ lw_all := lw_g (lw_at lw_m2 107 rfl) rfl
theorem q495 : (Jvm.Cond.fieldLink "BallotFruit$Reader" (29 : Nat) "BallotFruit$Reader" "at" "I") ∈ lw_all := lw_g (lw_at lw_m2 108 rfl) rfl
theorem q496 : (Jvm.Cond.fieldLink "BallotFruit$Reader" (47 : Nat) "BallotFruit$Reader" "start" "I") ∈ lw_all := lw_g (lw_at lw_m2 109 rfl) rfl
theorem q497 : (Jvm.Cond.fieldLink "BallotFruit$Reader" (121 : Nat) "BallotFruit$Reader" "token" "I") ∈ lw_all := lw_g (lw_at lw_m2 110 rfl) rfl
theorem q498 : (Jvm.Cond.fieldLink "BallotFruit$Reader" (129 : Nat) "BallotFruit$Reader" "value" "I") ∈ lw_all := lw_g (lw_at lw_m2 111 rfl) rfl
theorem q499 : (Jvm.Cond.fieldLink "BallotFruit$Reader" (157 : Nat) "BallotFruit$Reader" "open" "I") ∈ lw_all := lw_g (lw_at lw_m2 112 rfl) rfl
theorem q501 : (Jvm.Cond.fieldLink "BallotFruit$Reader" (225 : Nat) "BallotFruit$Reader" "told" "I") ∈ lw_all := lw_g (lw_at lw_m2 114 rfl) rfl
theorem q502 : (Jvm.Cond.fieldLink "BallotFruit$Reader" (3 : Nat) "BallotFruit$Reader" "this$0" "LBallotFruit;") ∈ lw_all := lw_g (lw_at lw_m2 115 rfl) rfl
theorem q503 : (Jvm.Cond.laysFinal "BallotFruit$Reader" "BallotFruit$Reader" "which" "I") ∈ lw_all := lw_g (lw_at lw_m2 116 rfl) rfl
theorem q504 : (Jvm.Cond.soleField "BallotFruit$Reader" "which") ∈ lw_all := lw_g (lw_at lw_m2 117 rfl) rfl
theorem q505 : (Jvm.Cond.laysFinal "BallotFruit$Reader" "BallotFruit$Reader" "paths" "[LBallotFruit$Path;") ∈ lw_all := lw_g (lw_at lw_m2 118 rfl) rfl
theorem q506 : (Jvm.Cond.soleField "BallotFruit$Reader" "paths") ∈ lw_all := lw_g (lw_at lw_m2 119 rfl) rfl
theorem q507 : (Jvm.Cond.laysFinal "BallotFruit$Reader" "BallotFruit$Reader" "row" "[I") ∈ lw_all := lw_g (lw_at lw_m2 120 rfl) rfl
theorem q508 : (Jvm.Cond.soleField "BallotFruit$Reader" "row") ∈ lw_all := lw_g (lw_at lw_m2 121 rfl) rfl
theorem q509 : (Jvm.Cond.lays "BallotFruit$Reader" "BallotFruit$Reader" "at" "I") ∈ lw_all := lw_g (lw_at lw_m2 122 rfl) rfl
theorem q510 : (Jvm.Cond.soleField "BallotFruit$Reader" "at") ∈ lw_all := lw_g (lw_at lw_m2 123 rfl) rfl
theorem q511 : (Jvm.Cond.lays "BallotFruit$Reader" "BallotFruit$Reader" "start" "I") ∈ lw_all := lw_g (lw_at lw_m2 124 rfl) rfl
theorem q512 : (Jvm.Cond.soleField "BallotFruit$Reader" "start") ∈ lw_all := lw_g (lw_at lw_m2 125 rfl) rfl
theorem q513 : (Jvm.Cond.lays "BallotFruit$Reader" "BallotFruit$Reader" "token" "I") ∈ lw_all := lw_g (lw_at lw_m2 126 rfl) rfl
theorem q514 : (Jvm.Cond.soleField "BallotFruit$Reader" "token") ∈ lw_all := lw_g (lw_at lw_m2 127 rfl) rfl
theorem q515 : (Jvm.Cond.lays "BallotFruit$Reader" "BallotFruit$Reader" "value" "I") ∈ lw_all := lw_g (lw_at lw_m2 128 rfl) rfl
theorem q516 : (Jvm.Cond.soleField "BallotFruit$Reader" "value") ∈ lw_all := lw_g (lw_at lw_m2 129 rfl) rfl
theorem q517 : (Jvm.Cond.lays "BallotFruit$Reader" "BallotFruit$Reader" "open" "I") ∈ lw_all := lw_g (lw_at lw_m2 130 rfl) rfl
theorem q518 : (Jvm.Cond.soleField "BallotFruit$Reader" "open") ∈ lw_all := lw_g (lw_at lw_m2 131 rfl) rfl
theorem q519 : (Jvm.Cond.lays "BallotFruit$Reader" "BallotFruit$Reader" "told" "I") ∈ lw_all := lw_g (lw_at lw_m2 132 rfl) rfl
theorem q520 : (Jvm.Cond.soleField "BallotFruit$Reader" "told") ∈ lw_all := lw_g (lw_at lw_m2 133 rfl) rfl
theorem q521 : (Jvm.Cond.laysFinal "BallotFruit$Reader" "BallotFruit$Reader" "this$0" "LBallotFruit;") ∈ lw_all := lw_g (lw_at lw_m2 134 rfl) rfl
theorem q522 : (Jvm.Cond.soleField "BallotFruit$Reader" "this$0") ∈ lw_all := lw_g (lw_at lw_m2 135 rfl) rfl
theorem q523 : (Jvm.Cond.superclass "BallotFruit$Reader" "java/lang/Object") ∈ lw_all := lw_g (lw_at lw_m2 136 rfl) rfl
theorem q525 : (Jvm.Cond.instanceMethod ({ cls := "BallotFruit$Reader", name := "law", desc := "()Ljava/util/ArrayList;" } : Jvm.MethodName)) ∈ lw_all := lw_g (lw_at lw_m2 138 rfl) rfl
theorem q526 : (Jvm.Cond.selects "BallotFruit$Reader" ({ cls := "BallotFruit$Reader", name := "law", desc := "()Ljava/util/ArrayList;" } : Jvm.MethodName) ({ cls := "BallotFruit$Reader", name := "law", desc := "()Ljava/util/ArrayList;" } : Jvm.MethodName)) ∈ lw_all := lw_g (lw_at lw_m2 139 rfl) rfl
theorem q527 : (Jvm.Cond.code ({ cls := "BallotFruit$Reader", name := "law", desc := "()Ljava/util/ArrayList;" } : Jvm.MethodName) prog_18_method_22_code (5 : Nat) (Option.some (Jvm.ClassFile.FieldType.object "java/util/ArrayList"))) ∈ lw_all := lw_g (lw_at lw_m2 140 rfl) rfl
theorem q528 : (Jvm.Cond.classLink "BallotFruit$Reader" (198 : Nat) "java/util/ArrayList") ∈ lw_all := lw_g (lw_at lw_m2 141 rfl) rfl
theorem q529 : (Jvm.Cond.methodLink "BallotFruit$Reader" (200 : Nat) ({ cls := "java/util/ArrayList", name := "<init>", desc := "()V" } : Jvm.MethodName)) ∈ lw_all := lw_g (lw_at lw_m2 142 rfl) rfl
theorem q530 : (Jvm.Cond.methodLink "BallotFruit$Reader" (132 : Nat) ({ cls := "BallotFruit$Reader", name := "next", desc := "()V" } : Jvm.MethodName)) ∈ lw_all := lw_g (lw_at lw_m2 143 rfl) rfl
theorem q531 : (Jvm.Cond.privateMethod ({ cls := "BallotFruit$Reader", name := "next", desc := "()V" } : Jvm.MethodName)) ∈ lw_tbl := lw_at lw_m2 144 rfl
theorem q532 : (Jvm.Cond.instanceMethod ({ cls := "BallotFruit$Reader", name := "next", desc := "()V" } : Jvm.MethodName)) ∈ lw_all := lw_g (lw_at lw_m2 145 rfl) rfl
theorem q533 : (Jvm.Cond.code ({ cls := "BallotFruit$Reader", name := "next", desc := "()V" } : Jvm.MethodName) prog_18_method_13_code (1 : Nat) (Option.none : Option Jvm.ClassFile.FieldType)) ∈ lw_all := lw_g (lw_at lw_m2 146 rfl) rfl
theorem q534 : (Jvm.Cond.methodLink "BallotFruit$Reader" (39 : Nat) ({ cls := "BallotFruit$Reader", name := "see", desc := "()I" } : Jvm.MethodName)) ∈ lw_all := lw_g (lw_at lw_m2 147 rfl) rfl
theorem q535 : (Jvm.Cond.privateMethod ({ cls := "BallotFruit$Reader", name := "see", desc := "()I" } : Jvm.MethodName)) ∈ lw_tbl := lw_at lw_m2 148 rfl
theorem q536 : (Jvm.Cond.instanceMethod ({ cls := "BallotFruit$Reader", name := "see", desc := "()I" } : Jvm.MethodName)) ∈ lw_all := lw_g (lw_at lw_m2 149 rfl) rfl
theorem q537 : (Jvm.Cond.code ({ cls := "BallotFruit$Reader", name := "see", desc := "()I" } : Jvm.MethodName) prog_18_method_2_code (1 : Nat) (Option.some Jvm.ClassFile.FieldType.int)) ∈ lw_all := lw_g (lw_at lw_m2 150 rfl) rfl
theorem q538 : (Jvm.Cond.methodLink "BallotFruit$Reader" (143 : Nat) ({ cls := "BallotFruit$Reader", name := "isLetter", desc := "()Z" } : Jvm.MethodName)) ∈ lw_all := lw_g (lw_at lw_m2 151 rfl) rfl
theorem q539 : (Jvm.Cond.privateMethod ({ cls := "BallotFruit$Reader", name := "isLetter", desc := "()Z" } : Jvm.MethodName)) ∈ lw_tbl := lw_at lw_m2 152 rfl
theorem q540 : (Jvm.Cond.instanceMethod ({ cls := "BallotFruit$Reader", name := "isLetter", desc := "()Z" } : Jvm.MethodName)) ∈ lw_all := lw_g (lw_at lw_m2 153 rfl) rfl
theorem q541 : (Jvm.Cond.code ({ cls := "BallotFruit$Reader", name := "isLetter", desc := "()Z" } : Jvm.MethodName) prog_18_method_3_code (1 : Nat) (Option.some Jvm.ClassFile.FieldType.boolean)) ∈ lw_all := lw_g (lw_at lw_m2 154 rfl) rfl
theorem q542 : (Jvm.Cond.methodLinkNest "BallotFruit$Reader" (43 : Nat) ({ cls := "BallotFruit", name := "isIn", desc := "(III)Z" } : Jvm.MethodName) "BallotFruit") ∈ lw_tbl := lw_at lw_m2 155 rfl
theorem q543 : (Jvm.Cond.methodLink "BallotFruit$Reader" (147 : Nat) ({ cls := "BallotFruit$Reader", name := "keyword", desc := "()I" } : Jvm.MethodName)) ∈ lw_all := lw_g (lw_at lw_m2 156 rfl) rfl
theorem q544 : (Jvm.Cond.privateMethod ({ cls := "BallotFruit$Reader", name := "keyword", desc := "()I" } : Jvm.MethodName)) ∈ lw_tbl := lw_at lw_m2 157 rfl
theorem q545 : (Jvm.Cond.instanceMethod ({ cls := "BallotFruit$Reader", name := "keyword", desc := "()I" } : Jvm.MethodName)) ∈ lw_all := lw_g (lw_at lw_m2 158 rfl) rfl
theorem q546 : (Jvm.Cond.code ({ cls := "BallotFruit$Reader", name := "keyword", desc := "()I" } : Jvm.MethodName) prog_18_method_9_code (1 : Nat) (Option.some Jvm.ClassFile.FieldType.int)) ∈ lw_all := lw_g (lw_at lw_m2 159 rfl) rfl
theorem q547 : (Jvm.Cond.methodLink "BallotFruit$Reader" (111 : Nat) ({ cls := "BallotFruit$Reader", name := "lawWord", desc := "()I" } : Jvm.MethodName)) ∈ lw_all := lw_g (lw_at lw_m2 160 rfl) rfl
theorem q548 : (Jvm.Cond.privateMethod ({ cls := "BallotFruit$Reader", name := "lawWord", desc := "()I" } : Jvm.MethodName)) ∈ lw_tbl := lw_at lw_m2 161 rfl
theorem q549 : (Jvm.Cond.instanceMethod ({ cls := "BallotFruit$Reader", name := "lawWord", desc := "()I" } : Jvm.MethodName)) ∈ lw_all := lw_g (lw_at lw_m2 162 rfl) rfl
theorem q550 : (Jvm.Cond.code ({ cls := "BallotFruit$Reader", name := "lawWord", desc := "()I" } : Jvm.MethodName) prog_18_method_7_code (1 : Nat) (Option.some Jvm.ClassFile.FieldType.int)) ∈ lw_all := lw_g (lw_at lw_m2 163 rfl) rfl
theorem q551 : (Jvm.Cond.stringRef "BallotFruit$Reader" (81 : Nat) "when") ∈ lw_tbl := lw_at lw_m2 164 rfl
theorem q552 : (Jvm.Cond.methodLink "BallotFruit$Reader" (61 : Nat) ({ cls := "BallotFruit$Reader", name := "is", desc := "(Ljava/lang/String;)Z" } : Jvm.MethodName)) ∈ lw_all := lw_g (lw_at lw_m2 165 rfl) rfl
theorem q553 : (Jvm.Cond.privateMethod ({ cls := "BallotFruit$Reader", name := "is", desc := "(Ljava/lang/String;)Z" } : Jvm.MethodName)) ∈ lw_tbl := lw_at lw_m2 166 rfl
theorem q554 : (Jvm.Cond.instanceMethod ({ cls := "BallotFruit$Reader", name := "is", desc := "(Ljava/lang/String;)Z" } : Jvm.MethodName)) ∈ lw_all := lw_g (lw_at lw_m2 167 rfl) rfl
theorem q555 : (Jvm.Cond.code ({ cls := "BallotFruit$Reader", name := "is", desc := "(Ljava/lang/String;)Z" } : Jvm.MethodName) prog_18_method_5_code (4 : Nat) (Option.some Jvm.ClassFile.FieldType.boolean)) ∈ lw_all := lw_g (lw_at lw_m2 168 rfl) rfl
theorem q556 : (Jvm.Cond.methodLink "BallotFruit$Reader" (50 : Nat) ({ cls := "java/lang/String", name := "length", desc := "()I" } : Jvm.MethodName)) ∈ lw_all := lw_g (lw_at lw_m2 169 rfl) rfl
theorem q566 : (Jvm.Cond.methodLink "BallotFruit$Reader" (55 : Nat) ({ cls := "java/lang/String", name := "charAt", desc := "(I)C" } : Jvm.MethodName)) ∈ lw_all := lw_g (lw_at lw_m2 179 rfl) rfl
theorem q604 : (Jvm.Cond.stringRef "BallotFruit$Reader" (83 : Nat) "or") ∈ lw_tbl := lw_at lw_m2 217 rfl
theorem q605 : (Jvm.Cond.stringRef "BallotFruit$Reader" (85 : Nat) "and") ∈ lw_tbl := lw_at lw_m2 218 rfl
theorem q606 : (Jvm.Cond.stringRef "BallotFruit$Reader" (87 : Nat) "not") ∈ lw_tbl := lw_at lw_m2 219 rfl
theorem q607 : (Jvm.Cond.stringRef "BallotFruit$Reader" (89 : Nat) "bear") ∈ lw_tbl := lw_at lw_m2 220 rfl
theorem q608 : (Jvm.Cond.stringRef "BallotFruit$Reader" (91 : Nat) "want") ∈ lw_tbl := lw_at lw_m2 221 rfl
theorem q609 : (Jvm.Cond.stringRef "BallotFruit$Reader" (93 : Nat) "count") ∈ lw_tbl := lw_at lw_m2 222 rfl
theorem q610 : (Jvm.Cond.methodLink "BallotFruit$Reader" (95 : Nat) ({ cls := "BallotFruit$Reader", name := "asked", desc := "()I" } : Jvm.MethodName)) ∈ lw_all := lw_g (lw_at lw_m2 223 rfl) rfl
theorem q611 : (Jvm.Cond.privateMethod ({ cls := "BallotFruit$Reader", name := "asked", desc := "()I" } : Jvm.MethodName)) ∈ lw_tbl := lw_at lw_m2 224 rfl
theorem q612 : (Jvm.Cond.instanceMethod ({ cls := "BallotFruit$Reader", name := "asked", desc := "()I" } : Jvm.MethodName)) ∈ lw_all := lw_g (lw_at lw_m2 225 rfl) rfl
theorem q613 : (Jvm.Cond.code ({ cls := "BallotFruit$Reader", name := "asked", desc := "()I" } : Jvm.MethodName) prog_18_method_6_code (1 : Nat) (Option.some Jvm.ClassFile.FieldType.int)) ∈ lw_all := lw_g (lw_at lw_m2 226 rfl) rfl
theorem q614 : (Jvm.Cond.stringRef "BallotFruit$Reader" (59 : Nat) "week") ∈ lw_tbl := lw_at lw_m2 227 rfl
theorem q615 : (Jvm.Cond.stringRef "BallotFruit$Reader" (65 : Nat) "party") ∈ lw_tbl := lw_at lw_m2 228 rfl
theorem q616 : (Jvm.Cond.stringRef "BallotFruit$Reader" (67 : Nat) "place") ∈ lw_tbl := lw_at lw_m2 229 rfl
theorem q617 : (Jvm.Cond.stringRef "BallotFruit$Reader" (69 : Nat) "age") ∈ lw_tbl := lw_at lw_m2 230 rfl
theorem q618 : (Jvm.Cond.stringRef "BallotFruit$Reader" (71 : Nat) "hanging") ∈ lw_tbl := lw_at lw_m2 231 rfl
theorem q619 : (Jvm.Cond.stringRef "BallotFruit$Reader" (73 : Nat) "hunger") ∈ lw_tbl := lw_at lw_m2 232 rfl
theorem q620 : (Jvm.Cond.stringRef "BallotFruit$Reader" (75 : Nat) "taste") ∈ lw_tbl := lw_at lw_m2 233 rfl
theorem q621 : (Jvm.Cond.stringRef "BallotFruit$Reader" (77 : Nat) "jam") ∈ lw_tbl := lw_at lw_m2 234 rfl
theorem q622 : (Jvm.Cond.stringRef "BallotFruit$Reader" (79 : Nat) "seats") ∈ lw_tbl := lw_at lw_m2 235 rfl
theorem q623 : (Jvm.Cond.methodLink "BallotFruit$Reader" (114 : Nat) ({ cls := "BallotFruit$Reader", name := "planWord", desc := "()I" } : Jvm.MethodName)) ∈ lw_all := lw_g (lw_at lw_m2 236 rfl) rfl
theorem q624 : (Jvm.Cond.privateMethod ({ cls := "BallotFruit$Reader", name := "planWord", desc := "()I" } : Jvm.MethodName)) ∈ lw_tbl := lw_at lw_m2 237 rfl
theorem q625 : (Jvm.Cond.instanceMethod ({ cls := "BallotFruit$Reader", name := "planWord", desc := "()I" } : Jvm.MethodName)) ∈ lw_all := lw_g (lw_at lw_m2 238 rfl) rfl
theorem q626 : (Jvm.Cond.code ({ cls := "BallotFruit$Reader", name := "planWord", desc := "()I" } : Jvm.MethodName) prog_18_method_8_code (1 : Nat) (Option.some Jvm.ClassFile.FieldType.int)) ∈ lw_all := lw_g (lw_at lw_m2 239 rfl) rfl
theorem q627 : (Jvm.Cond.stringRef "BallotFruit$Reader" (98 : Nat) "on") ∈ lw_tbl := lw_at lw_m3 0 rfl
theorem q628 : (Jvm.Cond.stringRef "BallotFruit$Reader" (100 : Nat) "plant") ∈ lw_tbl := lw_at lw_m3 1 rfl
theorem q629 : (Jvm.Cond.stringRef "BallotFruit$Reader" (102 : Nat) "fence") ∈ lw_tbl := lw_at lw_m3 2 rfl
theorem q630 : (Jvm.Cond.stringRef "BallotFruit$Reader" (104 : Nat) "open") ∈ lw_tbl := lw_at lw_m3 3 rfl
theorem q631 : (Jvm.Cond.stringRef "BallotFruit$Reader" (106 : Nat) "boil") ∈ lw_tbl := lw_at lw_m3 4 rfl
theorem q632 : (Jvm.Cond.stringRef "BallotFruit$Reader" (108 : Nat) "cheese") ∈ lw_tbl := lw_at lw_m3 5 rfl
theorem q633 : (Jvm.Cond.stringRef "BallotFruit$Reader" (110 : Nat) "at") ∈ lw_tbl := lw_at lw_m3 6 rfl
theorem q634 : (Jvm.Cond.stringRef "BallotFruit$Reader" (117 : Nat) "eater") ∈ lw_tbl := lw_at lw_m3 7 rfl
theorem q635 : (Jvm.Cond.stringRef "BallotFruit$Reader" (119 : Nat) "by") ∈ lw_tbl := lw_at lw_m3 8 rfl
theorem q636 : (Jvm.Cond.methodLink "BallotFruit$Reader" (150 : Nat) ({ cls := "BallotFruit$Reader", name := "isDigit", desc := "()Z" } : Jvm.MethodName)) ∈ lw_all := lw_g (lw_at lw_m3 9 rfl) rfl
theorem q637 : (Jvm.Cond.privateMethod ({ cls := "BallotFruit$Reader", name := "isDigit", desc := "()Z" } : Jvm.MethodName)) ∈ lw_tbl := lw_at lw_m3 10 rfl
theorem q638 : (Jvm.Cond.instanceMethod ({ cls := "BallotFruit$Reader", name := "isDigit", desc := "()Z" } : Jvm.MethodName)) ∈ lw_all := lw_g (lw_at lw_m3 11 rfl) rfl
theorem q639 : (Jvm.Cond.code ({ cls := "BallotFruit$Reader", name := "isDigit", desc := "()Z" } : Jvm.MethodName) prog_18_method_4_code (1 : Nat) (Option.some Jvm.ClassFile.FieldType.boolean)) ∈ lw_all := lw_g (lw_at lw_m3 12 rfl) rfl
theorem q640 : (Jvm.Cond.methodLink "BallotFruit$Reader" (153 : Nat) ({ cls := "BallotFruit$Reader", name := "isMark", desc := "(I)Z" } : Jvm.MethodName)) ∈ lw_all := lw_g (lw_at lw_m3 13 rfl) rfl
theorem q641 : (Jvm.Cond.privateMethod ({ cls := "BallotFruit$Reader", name := "isMark", desc := "(I)Z" } : Jvm.MethodName)) ∈ lw_tbl := lw_at lw_m3 14 rfl
theorem q642 : (Jvm.Cond.instanceMethod ({ cls := "BallotFruit$Reader", name := "isMark", desc := "(I)Z" } : Jvm.MethodName)) ∈ lw_all := lw_g (lw_at lw_m3 15 rfl) rfl
theorem q643 : (Jvm.Cond.code ({ cls := "BallotFruit$Reader", name := "isMark", desc := "(I)Z" } : Jvm.MethodName) prog_18_method_12_code (2 : Nat) (Option.some Jvm.ClassFile.FieldType.boolean)) ∈ lw_all := lw_g (lw_at lw_m3 16 rfl) rfl
theorem q644 : (Jvm.Cond.classLink "BallotFruit$Reader" (124 : Nat) "BallotFruit$Fault") ∈ lw_all := lw_g (lw_at lw_m3 17 rfl) rfl
theorem q681 : (Jvm.Cond.methodLink "BallotFruit$Reader" (126 : Nat) ({ cls := "BallotFruit$Fault", name := "<init>", desc := "(II)V" } : Jvm.MethodName)) ∈ lw_all := lw_g (lw_at lw_m3 54 rfl) rfl
theorem q708 : (Jvm.Cond.methodLink "BallotFruit$Reader" (201 : Nat) ({ cls := "java/util/ArrayList", name := "size", desc := "()I" } : Jvm.MethodName)) ∈ lw_all := lw_g (lw_at lw_m3 81 rfl) rfl
theorem q712 : (Jvm.Cond.methodLink "BallotFruit$Reader" (195 : Nat) ({ cls := "BallotFruit$Reader", name := "sum", desc := "()LBallotFruit$Term;" } : Jvm.MethodName)) ∈ lw_all := lw_g (lw_at lw_m3 85 rfl) rfl
theorem q713 : (Jvm.Cond.privateMethod ({ cls := "BallotFruit$Reader", name := "sum", desc := "()LBallotFruit$Term;" } : Jvm.MethodName)) ∈ lw_tbl := lw_at lw_m3 86 rfl
theorem q714 : (Jvm.Cond.instanceMethod ({ cls := "BallotFruit$Reader", name := "sum", desc := "()LBallotFruit$Term;" } : Jvm.MethodName)) ∈ lw_all := lw_g (lw_at lw_m3 87 rfl) rfl
theorem q715 : (Jvm.Cond.code ({ cls := "BallotFruit$Reader", name := "sum", desc := "()LBallotFruit$Term;" } : Jvm.MethodName) prog_18_method_16_code (3 : Nat) (Option.some (Jvm.ClassFile.FieldType.object "BallotFruit$Term"))) ∈ lw_all := lw_g (lw_at lw_m3 88 rfl) rfl
theorem q716 : (Jvm.Cond.methodLink "BallotFruit$Reader" (159 : Nat) ({ cls := "BallotFruit$Reader", name := "product", desc := "()LBallotFruit$Term;" } : Jvm.MethodName)) ∈ lw_all := lw_g (lw_at lw_m3 89 rfl) rfl
theorem q717 : (Jvm.Cond.privateMethod ({ cls := "BallotFruit$Reader", name := "product", desc := "()LBallotFruit$Term;" } : Jvm.MethodName)) ∈ lw_tbl := lw_at lw_m3 90 rfl
theorem q718 : (Jvm.Cond.instanceMethod ({ cls := "BallotFruit$Reader", name := "product", desc := "()LBallotFruit$Term;" } : Jvm.MethodName)) ∈ lw_all := lw_g (lw_at lw_m3 91 rfl) rfl
theorem q719 : (Jvm.Cond.code ({ cls := "BallotFruit$Reader", name := "product", desc := "()LBallotFruit$Term;" } : Jvm.MethodName) prog_18_method_17_code (3 : Nat) (Option.some (Jvm.ClassFile.FieldType.object "BallotFruit$Term"))) ∈ lw_all := lw_g (lw_at lw_m3 92 rfl) rfl
theorem q720 : (Jvm.Cond.methodLink "BallotFruit$Reader" (168 : Nat) ({ cls := "BallotFruit$Reader", name := "unit", desc := "()LBallotFruit$Term;" } : Jvm.MethodName)) ∈ lw_all := lw_g (lw_at lw_m3 93 rfl) rfl
theorem q721 : (Jvm.Cond.privateMethod ({ cls := "BallotFruit$Reader", name := "unit", desc := "()LBallotFruit$Term;" } : Jvm.MethodName)) ∈ lw_tbl := lw_at lw_m3 94 rfl
theorem q722 : (Jvm.Cond.instanceMethod ({ cls := "BallotFruit$Reader", name := "unit", desc := "()LBallotFruit$Term;" } : Jvm.MethodName)) ∈ lw_all := lw_g (lw_at lw_m3 95 rfl) rfl
theorem q723 : (Jvm.Cond.code ({ cls := "BallotFruit$Reader", name := "unit", desc := "()LBallotFruit$Term;" } : Jvm.MethodName) prog_18_method_18_code (2 : Nat) (Option.some (Jvm.ClassFile.FieldType.object "BallotFruit$Term"))) ∈ lw_all := lw_g (lw_at lw_m3 96 rfl) rfl
theorem q724 : (Jvm.Cond.classLink "BallotFruit$Reader" (171 : Nat) "BallotFruit$Fixed") ∈ lw_all := lw_g (lw_at lw_m3 97 rfl) rfl
theorem q726 : (Jvm.Cond.methodLink "BallotFruit$Reader" (139 : Nat) ({ cls := "BallotFruit$Reader", name := "number", desc := "(II)I" } : Jvm.MethodName)) ∈ lw_all := lw_g (lw_at lw_m3 99 rfl) rfl
theorem q727 : (Jvm.Cond.privateMethod ({ cls := "BallotFruit$Reader", name := "number", desc := "(II)I" } : Jvm.MethodName)) ∈ lw_tbl := lw_at lw_m3 100 rfl
theorem q728 : (Jvm.Cond.instanceMethod ({ cls := "BallotFruit$Reader", name := "number", desc := "(II)I" } : Jvm.MethodName)) ∈ lw_all := lw_g (lw_at lw_m3 101 rfl) rfl
theorem q729 : (Jvm.Cond.code ({ cls := "BallotFruit$Reader", name := "number", desc := "(II)I" } : Jvm.MethodName) prog_18_method_10_code (4 : Nat) (Option.some Jvm.ClassFile.FieldType.int)) ∈ lw_all := lw_g (lw_at lw_m3 102 rfl) rfl
theorem q730 : (Jvm.Cond.methodLink "BallotFruit$Reader" (173 : Nat) ({ cls := "BallotFruit$Fixed", name := "<init>", desc := "(I)V" } : Jvm.MethodName)) ∈ lw_all := lw_g (lw_at lw_m3 103 rfl) rfl
theorem q741 : (Jvm.Cond.classLink "BallotFruit$Reader" (175 : Nat) "BallotFruit$Known") ∈ lw_all := lw_g (lw_at lw_m3 114 rfl) rfl
theorem q743 : (Jvm.Cond.methodLink "BallotFruit$Reader" (177 : Nat) ({ cls := "BallotFruit$Known", name := "<init>", desc := "(I)V" } : Jvm.MethodName)) ∈ lw_all := lw_g (lw_at lw_m3 116 rfl) rfl
theorem q751 : (Jvm.Cond.classLink "BallotFruit$Reader" (163 : Nat) "BallotFruit$Joined") ∈ lw_all := lw_g (lw_at lw_m3 124 rfl) rfl
theorem q753 : (Jvm.Cond.methodLink "BallotFruit$Reader" (165 : Nat) ({ cls := "BallotFruit$Joined", name := "<init>", desc := "(LBallotFruit$Term;ILBallotFruit$Term;)V" } : Jvm.MethodName)) ∈ lw_all := lw_g (lw_at lw_m3 126 rfl) rfl
theorem q767 : (Jvm.Cond.methodLink "BallotFruit$Reader" (192 : Nat) ({ cls := "BallotFruit$Reader", name := "any", desc := "()LBallotFruit$Term;" } : Jvm.MethodName)) ∈ lw_all := lw_g (lw_at lw_m3 140 rfl) rfl
theorem q768 : (Jvm.Cond.privateMethod ({ cls := "BallotFruit$Reader", name := "any", desc := "()LBallotFruit$Term;" } : Jvm.MethodName)) ∈ lw_tbl := lw_at lw_m3 141 rfl
theorem q769 : (Jvm.Cond.instanceMethod ({ cls := "BallotFruit$Reader", name := "any", desc := "()LBallotFruit$Term;" } : Jvm.MethodName)) ∈ lw_all := lw_g (lw_at lw_m3 142 rfl) rfl
theorem q770 : (Jvm.Cond.code ({ cls := "BallotFruit$Reader", name := "any", desc := "()LBallotFruit$Term;" } : Jvm.MethodName) prog_18_method_19_code (2 : Nat) (Option.some (Jvm.ClassFile.FieldType.object "BallotFruit$Term"))) ∈ lw_all := lw_g (lw_at lw_m3 143 rfl) rfl
theorem q771 : (Jvm.Cond.methodLink "BallotFruit$Reader" (178 : Nat) ({ cls := "BallotFruit$Reader", name := "all", desc := "()LBallotFruit$Term;" } : Jvm.MethodName)) ∈ lw_all := lw_g (lw_at lw_m3 144 rfl) rfl
theorem q772 : (Jvm.Cond.privateMethod ({ cls := "BallotFruit$Reader", name := "all", desc := "()LBallotFruit$Term;" } : Jvm.MethodName)) ∈ lw_tbl := lw_at lw_m3 145 rfl
theorem q773 : (Jvm.Cond.instanceMethod ({ cls := "BallotFruit$Reader", name := "all", desc := "()LBallotFruit$Term;" } : Jvm.MethodName)) ∈ lw_all := lw_g (lw_at lw_m3 146 rfl) rfl
theorem q774 : (Jvm.Cond.code ({ cls := "BallotFruit$Reader", name := "all", desc := "()LBallotFruit$Term;" } : Jvm.MethodName) prog_18_method_20_code (2 : Nat) (Option.some (Jvm.ClassFile.FieldType.object "BallotFruit$Term"))) ∈ lw_all := lw_g (lw_at lw_m3 147 rfl) rfl
theorem q775 : (Jvm.Cond.methodLink "BallotFruit$Reader" (181 : Nat) ({ cls := "BallotFruit$Reader", name := "one", desc := "()LBallotFruit$Term;" } : Jvm.MethodName)) ∈ lw_all := lw_g (lw_at lw_m3 148 rfl) rfl
theorem q776 : (Jvm.Cond.privateMethod ({ cls := "BallotFruit$Reader", name := "one", desc := "()LBallotFruit$Term;" } : Jvm.MethodName)) ∈ lw_tbl := lw_at lw_m3 149 rfl
theorem q777 : (Jvm.Cond.instanceMethod ({ cls := "BallotFruit$Reader", name := "one", desc := "()LBallotFruit$Term;" } : Jvm.MethodName)) ∈ lw_all := lw_g (lw_at lw_m3 150 rfl) rfl
theorem q778 : (Jvm.Cond.code ({ cls := "BallotFruit$Reader", name := "one", desc := "()LBallotFruit$Term;" } : Jvm.MethodName) prog_18_method_21_code (3 : Nat) (Option.some (Jvm.ClassFile.FieldType.object "BallotFruit$Term"))) ∈ lw_all := lw_g (lw_at lw_m3 151 rfl) rfl
theorem q779 : (Jvm.Cond.methodLink "BallotFruit$Reader" (184 : Nat) ({ cls := "BallotFruit$Reader", name := "opens", desc := "()V" } : Jvm.MethodName)) ∈ lw_all := lw_g (lw_at lw_m3 152 rfl) rfl
theorem q780 : (Jvm.Cond.privateMethod ({ cls := "BallotFruit$Reader", name := "opens", desc := "()V" } : Jvm.MethodName)) ∈ lw_tbl := lw_at lw_m3 153 rfl
theorem q781 : (Jvm.Cond.instanceMethod ({ cls := "BallotFruit$Reader", name := "opens", desc := "()V" } : Jvm.MethodName)) ∈ lw_all := lw_g (lw_at lw_m3 154 rfl) rfl
theorem q782 : (Jvm.Cond.code ({ cls := "BallotFruit$Reader", name := "opens", desc := "()V" } : Jvm.MethodName) prog_18_method_15_code (1 : Nat) (Option.none : Option Jvm.ClassFile.FieldType)) ∈ lw_all := lw_g (lw_at lw_m3 155 rfl) rfl
theorem q783 : (Jvm.Cond.classLink "BallotFruit$Reader" (187 : Nat) "BallotFruit$Not") ∈ lw_all := lw_g (lw_at lw_m3 156 rfl) rfl
theorem q785 : (Jvm.Cond.methodLink "BallotFruit$Reader" (189 : Nat) ({ cls := "BallotFruit$Not", name := "<init>", desc := "(LBallotFruit$Term;)V" } : Jvm.MethodName)) ∈ lw_all := lw_g (lw_at lw_m3 158 rfl) rfl
theorem q793 : (Jvm.Cond.methodLink "BallotFruit$Reader" (135 : Nat) ({ cls := "BallotFruit$Reader", name := "must", desc := "(I)V" } : Jvm.MethodName)) ∈ lw_all := lw_g (lw_at lw_m3 166 rfl) rfl
theorem q794 : (Jvm.Cond.privateMethod ({ cls := "BallotFruit$Reader", name := "must", desc := "(I)V" } : Jvm.MethodName)) ∈ lw_tbl := lw_at lw_m3 167 rfl
theorem q795 : (Jvm.Cond.instanceMethod ({ cls := "BallotFruit$Reader", name := "must", desc := "(I)V" } : Jvm.MethodName)) ∈ lw_all := lw_g (lw_at lw_m3 168 rfl) rfl
theorem q796 : (Jvm.Cond.code ({ cls := "BallotFruit$Reader", name := "must", desc := "(I)V" } : Jvm.MethodName) prog_18_method_14_code (2 : Nat) (Option.none : Option Jvm.ClassFile.FieldType)) ∈ lw_all := lw_g (lw_at lw_m3 169 rfl) rfl
theorem q797 : (Jvm.Cond.classLink "BallotFruit$Reader" (204 : Nat) "BallotFruit$Line") ∈ lw_all := lw_g (lw_at lw_m3 170 rfl) rfl
theorem q799 : (Jvm.Cond.methodLink "BallotFruit$Reader" (206 : Nat) ({ cls := "BallotFruit$Line", name := "<init>", desc := "(ILBallotFruit$Term;LBallotFruit$Term;)V" } : Jvm.MethodName)) ∈ lw_all := lw_g (lw_at lw_m3 172 rfl) rfl
theorem q816 : (Jvm.Cond.methodLink "BallotFruit$Reader" (209 : Nat) ({ cls := "java/util/ArrayList", name := "add", desc := "(Ljava/lang/Object;)Z" } : Jvm.MethodName)) ∈ lw_all := lw_g (lw_at lw_m3 189 rfl) rfl
theorem q863 : (Jvm.Cond.selects "BallotFruit$Reader" ({ cls := "java/lang/Object", name := "getClass", desc := "()Ljava/lang/Class;" } : Jvm.MethodName) ({ cls := "java/lang/Object", name := "getClass", desc := "()Ljava/lang/Class;" } : Jvm.MethodName)) ∈ lw_all := lw_g (lw_at lw_m3 236 rfl) rfl
theorem q884 : (Jvm.Cond.instanceMethod ({ cls := "BallotFruit$Reader", name := "paths", desc := "()[LBallotFruit$Path;" } : Jvm.MethodName)) ∈ lw_all := lw_g (lw_at lw_m4 17 rfl) rfl
theorem q885 : (Jvm.Cond.selects "BallotFruit$Reader" ({ cls := "BallotFruit$Reader", name := "paths", desc := "()[LBallotFruit$Path;" } : Jvm.MethodName) ({ cls := "BallotFruit$Reader", name := "paths", desc := "()[LBallotFruit$Path;" } : Jvm.MethodName)) ∈ lw_all := lw_g (lw_at lw_m4 18 rfl) rfl
theorem q886 : (Jvm.Cond.code ({ cls := "BallotFruit$Reader", name := "paths", desc := "()[LBallotFruit$Path;" } : Jvm.MethodName) prog_18_method_24_code (1 : Nat) (Option.some (Jvm.ClassFile.FieldType.array (Jvm.ClassFile.FieldType.object "BallotFruit$Path")))) ∈ lw_all := lw_g (lw_at lw_m4 19 rfl) rfl
theorem q887 : (Jvm.Cond.methodLink "BallotFruit$Reader" (228 : Nat) ({ cls := "BallotFruit$Reader", name := "path", desc := "()V" } : Jvm.MethodName)) ∈ lw_all := lw_g (lw_at lw_m4 20 rfl) rfl
theorem q888 : (Jvm.Cond.privateMethod ({ cls := "BallotFruit$Reader", name := "path", desc := "()V" } : Jvm.MethodName)) ∈ lw_tbl := lw_at lw_m4 21 rfl
theorem q889 : (Jvm.Cond.instanceMethod ({ cls := "BallotFruit$Reader", name := "path", desc := "()V" } : Jvm.MethodName)) ∈ lw_all := lw_g (lw_at lw_m4 22 rfl) rfl
theorem q890 : (Jvm.Cond.code ({ cls := "BallotFruit$Reader", name := "path", desc := "()V" } : Jvm.MethodName) prog_18_method_23_code (4 : Nat) (Option.none : Option Jvm.ClassFile.FieldType)) ∈ lw_all := lw_g (lw_at lw_m4 23 rfl) rfl
theorem q892 : (Jvm.Cond.methodLink "BallotFruit$Reader" (222 : Nat) ({ cls := "BallotFruit$Path", name := "<init>", desc := "([II)V" } : Jvm.MethodName)) ∈ lw_all := lw_g (lw_at lw_m4 25 rfl) rfl
theorem q907 : (Jvm.Cond.instanceMethod ({ cls := "BallotFruit$Reader", name := "plan", desc := "()Ljava/util/ArrayList;" } : Jvm.MethodName)) ∈ lw_all := lw_g (lw_at lw_m4 40 rfl) rfl
theorem q908 : (Jvm.Cond.selects "BallotFruit$Reader" ({ cls := "BallotFruit$Reader", name := "plan", desc := "()Ljava/util/ArrayList;" } : Jvm.MethodName) ({ cls := "BallotFruit$Reader", name := "plan", desc := "()Ljava/util/ArrayList;" } : Jvm.MethodName)) ∈ lw_all := lw_g (lw_at lw_m4 41 rfl) rfl
theorem q909 : (Jvm.Cond.code ({ cls := "BallotFruit$Reader", name := "plan", desc := "()Ljava/util/ArrayList;" } : Jvm.MethodName) prog_18_method_26_code (2 : Nat) (Option.some (Jvm.ClassFile.FieldType.object "java/util/ArrayList"))) ∈ lw_all := lw_g (lw_at lw_m4 42 rfl) rfl
theorem q910 : (Jvm.Cond.methodLink "BallotFruit$Reader" (254 : Nat) ({ cls := "BallotFruit$Reader", name := "deed", desc := "(I)LBallotFruit$Deed;" } : Jvm.MethodName)) ∈ lw_all := lw_g (lw_at lw_m4 43 rfl) rfl
theorem q911 : (Jvm.Cond.privateMethod ({ cls := "BallotFruit$Reader", name := "deed", desc := "(I)LBallotFruit$Deed;" } : Jvm.MethodName)) ∈ lw_tbl := lw_at lw_m4 44 rfl
theorem q912 : (Jvm.Cond.instanceMethod ({ cls := "BallotFruit$Reader", name := "deed", desc := "(I)LBallotFruit$Deed;" } : Jvm.MethodName)) ∈ lw_all := lw_g (lw_at lw_m4 45 rfl) rfl
theorem q913 : (Jvm.Cond.code ({ cls := "BallotFruit$Reader", name := "deed", desc := "(I)LBallotFruit$Deed;" } : Jvm.MethodName) prog_18_method_25_code (5 : Nat) (Option.some (Jvm.ClassFile.FieldType.object "BallotFruit$Deed"))) ∈ lw_all := lw_g (lw_at lw_m4 46 rfl) rfl
theorem q914 : (Jvm.Cond.classLink "BallotFruit$Reader" (234 : Nat) "BallotFruit$Plant") ∈ lw_all := lw_g (lw_at lw_m4 47 rfl) rfl
theorem q916 : (Jvm.Cond.methodLink "BallotFruit$Reader" (236 : Nat) ({ cls := "BallotFruit$Reader", name := "behind", desc := "(III)I" } : Jvm.MethodName)) ∈ lw_all := lw_g (lw_at lw_m4 49 rfl) rfl
theorem q917 : (Jvm.Cond.privateMethod ({ cls := "BallotFruit$Reader", name := "behind", desc := "(III)I" } : Jvm.MethodName)) ∈ lw_tbl := lw_at lw_m4 50 rfl
theorem q918 : (Jvm.Cond.instanceMethod ({ cls := "BallotFruit$Reader", name := "behind", desc := "(III)I" } : Jvm.MethodName)) ∈ lw_all := lw_g (lw_at lw_m4 51 rfl) rfl
theorem q919 : (Jvm.Cond.code ({ cls := "BallotFruit$Reader", name := "behind", desc := "(III)I" } : Jvm.MethodName) prog_18_method_11_code (4 : Nat) (Option.some Jvm.ClassFile.FieldType.int)) ∈ lw_all := lw_g (lw_at lw_m4 52 rfl) rfl
theorem q920 : (Jvm.Cond.methodLink "BallotFruit$Reader" (240 : Nat) ({ cls := "BallotFruit$Plant", name := "<init>", desc := "(III)V" } : Jvm.MethodName)) ∈ lw_all := lw_g (lw_at lw_m4 53 rfl) rfl
theorem q937 : (Jvm.Cond.classLink "BallotFruit$Reader" (243 : Nat) "BallotFruit$Fence") ∈ lw_all := lw_g (lw_at lw_m4 70 rfl) rfl
theorem q939 : (Jvm.Cond.methodLink "BallotFruit$Reader" (245 : Nat) ({ cls := "BallotFruit$Fence", name := "<init>", desc := "(IIZ)V" } : Jvm.MethodName)) ∈ lw_all := lw_g (lw_at lw_m4 72 rfl) rfl
theorem q949 : (Jvm.Cond.classLink "BallotFruit$Reader" (248 : Nat) "BallotFruit$Boil") ∈ lw_all := lw_g (lw_at lw_m4 82 rfl) rfl
theorem q951 : (Jvm.Cond.methodLink "BallotFruit$Reader" (250 : Nat) ({ cls := "BallotFruit$Boil", name := "<init>", desc := "(III)V" } : Jvm.MethodName)) ∈ lw_all := lw_g (lw_at lw_m4 84 rfl) rfl
theorem q961 : (Jvm.Cond.classLink "BallotFruit$Reader" (251 : Nat) "BallotFruit$Cheese") ∈ lw_all := lw_g (lw_at lw_m4 94 rfl) rfl
theorem q963 : (Jvm.Cond.methodLink "BallotFruit$Reader" (253 : Nat) ({ cls := "BallotFruit$Cheese", name := "<init>", desc := "(II)V" } : Jvm.MethodName)) ∈ lw_all := lw_g (lw_at lw_m4 96 rfl) rfl
theorem q2070 : (Jvm.Cond.castable "BallotFruit$Reader" "java/lang/Object") ∈ lw_tbl := lw_at lw_m9 3 rfl
theorem in_X6 : ∀ w ∈ wsX60, w ∈ lw_all := lw_in wsX60 [503, 505, 507, 509, 511, 513, 515, 517, 519, 521] (by decide +kernel) (by decide +kernel)
end
