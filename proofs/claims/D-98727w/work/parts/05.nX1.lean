section
/-! BallotFruit$Commune -/
set_option maxRecDepth 100000
def RX1 : String := "BallotFruit$Commune"
def TX1 : u_T := fun k => match k with
  | 0 => ("BallotFruit$Commune", "party", "[LBallotFruit$Party;", true)
  | 1 => ("BallotFruit$Commune", "tree", "[LBallotFruit$Tree;", true)
  | 2 => ("BallotFruit$Commune", "eater", "[LBallotFruit$Eater;", true)
  | 3 => ("BallotFruit$Commune", "book", "[[I", true)
  | 4 => ("BallotFruit$Commune", "coreParty", "[I", true)
  | 5 => ("BallotFruit$Commune", "corePlace", "[I", true)
  | 6 => ("BallotFruit$Commune", "gained", "[I", true)
  | 7 => ("BallotFruit$Commune", "paths", "[LBallotFruit$Path;", false)
  | 8 => ("BallotFruit$Commune", "law", "Ljava/util/ArrayList;", false)
  | 9 => ("BallotFruit$Commune", "plan", "Ljava/util/ArrayList;", false)
  | 10 => ("BallotFruit$Commune", "parties", "I", false)
  | 11 => ("BallotFruit$Commune", "trees", "I", false)
  | 12 => ("BallotFruit$Commune", "eaters", "I", false)
  | 13 => ("BallotFruit$Commune", "bad", "I", false)
  | 14 => ("BallotFruit$Commune", "wasps", "I", false)
  | 15 => ("BallotFruit$Commune", "chairs", "I", false)
  | 16 => ("BallotFruit$Commune", "every", "I", false)
  | 17 => ("BallotFruit$Commune", "fenced", "I", false)
  | 18 => ("BallotFruit$Commune", "week", "I", false)
  | 19 => ("BallotFruit$Commune", "state", "I", false)
  | 20 => ("BallotFruit$Commune", "lines", "I", false)
  | 21 => ("BallotFruit$Commune", "told", "I", false)
  | 22 => ("BallotFruit$Commune", "cores", "I", false)
  | 23 => ("BallotFruit$Commune", "hungry", "I", false)
  | 24 => ("BallotFruit$Commune", "hungryWeek", "I", false)
  | 25 => ("BallotFruit$Commune", "isThought", "Z", false)
  | 26 => ("BallotFruit$Commune", "askedTree", "LBallotFruit$Tree;", false)
  | 27 => ("BallotFruit$Commune", "askedParty", "I", false)
  | 28 => ("BallotFruit$Commune", "askedHunger", "I", false)
  | 29 => ("BallotFruit$Commune", "askedTaste", "I", false)
  | _ => ("BallotFruit$Commune", "askedJam", "I", false)
def tyX1 : Nat → FieldType := fun k => match k with
  | 0 => .array (.object "BallotFruit$Party")
  | 1 => .array (.object "BallotFruit$Tree")
  | 2 => .array (.object "BallotFruit$Eater")
  | 3 => .array (.array .int)
  | 4 => .array .int
  | 5 => .array .int
  | 6 => .array .int
  | 7 => .array (.object "BallotFruit$Path")
  | 8 => .object "java/util/ArrayList"
  | 9 => .object "java/util/ArrayList"
  | 10 => .int
  | 11 => .int
  | 12 => .int
  | 13 => .int
  | 14 => .int
  | 15 => .int
  | 16 => .int
  | 17 => .int
  | 18 => .int
  | 19 => .int
  | 20 => .int
  | 21 => .int
  | 22 => .int
  | 23 => .int
  | 24 => .int
  | 25 => .boolean
  | 26 => .object "BallotFruit$Tree"
  | 27 => .int
  | 28 => .int
  | 29 => .int
  | _ => .int
abbrev wsX10 : List Cond := u_ws RX1 TX1 31
set_option maxRecDepth 100000 in
theorem nmX1 : ∀ a, a < 31 → ∀ b, b < 31 → a ≠ b → (TX1 a).2.1 ≠ (TX1 b).2.1 := by decide +kernel
set_option maxRecDepth 100000 in
theorem tyX1_ok : ∀ k, k < 31 → parseFieldDescriptor (TX1 k).2.2.1 = some (tyX1 k) := by decide +kernel
abbrev cX1_init : ByteArray := prog_5_method_1_code
def yX1_init : MethodName := ⟨RX1, "<init>", "()V"⟩
def dkwX1_init_8 : List UInt8 := [167, 255, 234, 177]
abbrev dktX1_init_8 : List UInt8 := dkwX1_init_8 ++ []
def dkwX1_init_7 : List UInt8 := [27, 16, 10, 162, 0, 22, 42, 180, 0, 25, 27, 187, 0, 23, 89, 183, 0, 69, 83, 132, 1, 1]
abbrev dktX1_init_7 : List UInt8 := dkwX1_init_7 ++ dktX1_init_8
def dkwX1_init_6 : List UInt8 := [162, 0, 22, 42, 180, 0, 19, 27, 187, 0, 17, 89, 183, 0, 68, 83, 132, 1, 1, 167, 255, 234, 3, 60]
abbrev dktX1_init_6 : List UInt8 := dkwX1_init_6 ++ dktX1_init_7
def dkwX1_init_5 : List UInt8 := [180, 0, 11, 27, 187, 0, 9, 89, 183, 0, 67, 83, 132, 1, 1, 167, 255, 235, 3, 60, 27, 16, 14]
abbrev dktX1_init_5 : List UInt8 := dkwX1_init_5 ++ dktX1_init_6
def dkwX1_init_4 : List UInt8 := [181, 0, 57, 42, 16, 9, 181, 0, 60, 42, 7, 181, 0, 64, 3, 60, 27, 8, 162, 0, 22, 42]
abbrev dktX1_init_4 : List UInt8 := dkwX1_init_4 ++ dktX1_init_5
def dkwX1_init_3 : List UInt8 := [181, 0, 46, 42, 187, 0, 50, 89, 183, 0, 52, 181, 0, 53, 42, 187, 0, 50, 89, 183, 0, 52]
abbrev dktX1_init_3 : List UInt8 := dkwX1_init_3 ++ dktX1_init_4
def dkwX1_init_2 : List UInt8 := [181, 0, 34, 42, 16, 8, 188, 10, 181, 0, 38, 42, 8, 188, 10, 181, 0, 41, 42, 16, 10, 189, 0, 44]
abbrev dktX1_init_2 : List UInt8 := dkwX1_init_2 ++ dktX1_init_3
def dkwX1_init_1 : List UInt8 := [189, 0, 23, 181, 0, 25, 42, 17, 0, 150, 7, 197, 0, 29, 2, 181, 0, 31, 42, 16, 8, 188, 10]
abbrev dktX1_init_1 : List UInt8 := dkwX1_init_1 ++ dktX1_init_2
def dkwX1_init_0 : List UInt8 := [42, 183, 0, 3, 42, 8, 189, 0, 9, 181, 0, 11, 42, 16, 14, 189, 0, 17, 181, 0, 19, 42, 16, 10]
abbrev dktX1_init_0 : List UInt8 := dkwX1_init_0 ++ dktX1_init_1
theorem dksX1_init_0 : cX1_init.data.toList.drop 0 = dktX1_init_0 := by decide +kernel
theorem dksX1_init_1 : cX1_init.data.toList.drop 24 = dktX1_init_1 := dk_seg dksX1_init_0 24 rfl rfl
theorem dksX1_init_2 : cX1_init.data.toList.drop 47 = dktX1_init_2 := dk_seg dksX1_init_1 23 rfl rfl
theorem dksX1_init_3 : cX1_init.data.toList.drop 71 = dktX1_init_3 := dk_seg dksX1_init_2 24 rfl rfl
theorem dksX1_init_4 : cX1_init.data.toList.drop 93 = dktX1_init_4 := dk_seg dksX1_init_3 22 rfl rfl
theorem dksX1_init_5 : cX1_init.data.toList.drop 115 = dktX1_init_5 := dk_seg dksX1_init_4 22 rfl rfl
theorem dksX1_init_6 : cX1_init.data.toList.drop 138 = dktX1_init_6 := dk_seg dksX1_init_5 23 rfl rfl
theorem dksX1_init_7 : cX1_init.data.toList.drop 162 = dktX1_init_7 := dk_seg dksX1_init_6 24 rfl rfl
theorem dksX1_init_8 : cX1_init.data.toList.drop 184 = dktX1_init_8 := dk_seg dksX1_init_7 22 rfl rfl
theorem dX1_init_0 : decode cX1_init 0 = .ok (.aload_n 0, 1) := dk_42 (dk_at dksX1_init_0 0 rfl rfl)
theorem dX1_init_1 : decode cX1_init 1 = .ok (.invokespecial 3, 3) := dk_183 0 3 (dk_at dksX1_init_0 1 rfl rfl)
theorem dX1_init_4 : decode cX1_init 4 = .ok (.aload_n 0, 1) := dk_42 (dk_at dksX1_init_0 4 rfl rfl)
theorem dX1_init_5 : decode cX1_init 5 = .ok (.iconst 5, 1) := dk_8 (dk_at dksX1_init_0 5 rfl rfl)
theorem dX1_init_6 : decode cX1_init 6 = .ok (.anewarray 9, 3) := dk_189 0 9 (dk_at dksX1_init_0 6 rfl rfl)
theorem dX1_init_9 : decode cX1_init 9 = .ok (.putfield 11, 3) := dk_181 0 11 (dk_at dksX1_init_0 9 rfl rfl)
theorem dX1_init_12 : decode cX1_init 12 = .ok (.aload_n 0, 1) := dk_42 (dk_at dksX1_init_0 12 rfl rfl)
theorem dX1_init_13 : decode cX1_init 13 = .ok (.bipush 14, 2) := dk_16 14 (dk_at dksX1_init_0 13 rfl rfl)
theorem dX1_init_15 : decode cX1_init 15 = .ok (.anewarray 17, 3) := dk_189 0 17 (dk_at dksX1_init_0 15 rfl rfl)
theorem dX1_init_18 : decode cX1_init 18 = .ok (.putfield 19, 3) := dk_181 0 19 (dk_at dksX1_init_0 18 rfl rfl)
theorem dX1_init_21 : decode cX1_init 21 = .ok (.aload_n 0, 1) := dk_42 (dk_at dksX1_init_0 21 rfl rfl)
theorem dX1_init_22 : decode cX1_init 22 = .ok (.bipush 10, 2) := dk_16 10 (dk_at dksX1_init_0 22 rfl rfl)
theorem dX1_init_24 : decode cX1_init 24 = .ok (.anewarray 23, 3) := dk_189 0 23 (dk_at dksX1_init_1 0 rfl rfl)
theorem dX1_init_27 : decode cX1_init 27 = .ok (.putfield 25, 3) := dk_181 0 25 (dk_at dksX1_init_1 3 rfl rfl)
theorem dX1_init_30 : decode cX1_init 30 = .ok (.aload_n 0, 1) := dk_42 (dk_at dksX1_init_1 6 rfl rfl)
theorem dX1_init_31 : decode cX1_init 31 = .ok (.sipush 150, 3) := dk_17 0 150 (dk_at dksX1_init_1 7 rfl rfl)
theorem dX1_init_34 : decode cX1_init 34 = .ok (.iconst 4, 1) := dk_7 (dk_at dksX1_init_1 10 rfl rfl)
theorem dX1_init_35 : decode cX1_init 35 = .ok (.multianewarray 29 2, 4) := by decide +kernel
theorem dX1_init_39 : decode cX1_init 39 = .ok (.putfield 31, 3) := dk_181 0 31 (dk_at dksX1_init_1 15 rfl rfl)
theorem dX1_init_42 : decode cX1_init 42 = .ok (.aload_n 0, 1) := dk_42 (dk_at dksX1_init_1 18 rfl rfl)
theorem dX1_init_43 : decode cX1_init 43 = .ok (.bipush 8, 2) := dk_16 8 (dk_at dksX1_init_1 19 rfl rfl)
theorem dX1_init_45 : decode cX1_init 45 = .ok (.newarray .int, 2) := dk_188_10 (dk_at dksX1_init_1 21 rfl rfl)
theorem dX1_init_47 : decode cX1_init 47 = .ok (.putfield 34, 3) := dk_181 0 34 (dk_at dksX1_init_2 0 rfl rfl)
theorem dX1_init_50 : decode cX1_init 50 = .ok (.aload_n 0, 1) := dk_42 (dk_at dksX1_init_2 3 rfl rfl)
theorem dX1_init_51 : decode cX1_init 51 = .ok (.bipush 8, 2) := dk_16 8 (dk_at dksX1_init_2 4 rfl rfl)
theorem dX1_init_53 : decode cX1_init 53 = .ok (.newarray .int, 2) := dk_188_10 (dk_at dksX1_init_2 6 rfl rfl)
theorem dX1_init_55 : decode cX1_init 55 = .ok (.putfield 38, 3) := dk_181 0 38 (dk_at dksX1_init_2 8 rfl rfl)
theorem dX1_init_58 : decode cX1_init 58 = .ok (.aload_n 0, 1) := dk_42 (dk_at dksX1_init_2 11 rfl rfl)
theorem dX1_init_59 : decode cX1_init 59 = .ok (.iconst 5, 1) := dk_8 (dk_at dksX1_init_2 12 rfl rfl)
theorem dX1_init_60 : decode cX1_init 60 = .ok (.newarray .int, 2) := dk_188_10 (dk_at dksX1_init_2 13 rfl rfl)
theorem dX1_init_62 : decode cX1_init 62 = .ok (.putfield 41, 3) := dk_181 0 41 (dk_at dksX1_init_2 15 rfl rfl)
theorem dX1_init_65 : decode cX1_init 65 = .ok (.aload_n 0, 1) := dk_42 (dk_at dksX1_init_2 18 rfl rfl)
theorem dX1_init_66 : decode cX1_init 66 = .ok (.bipush 10, 2) := dk_16 10 (dk_at dksX1_init_2 19 rfl rfl)
theorem dX1_init_68 : decode cX1_init 68 = .ok (.anewarray 44, 3) := dk_189 0 44 (dk_at dksX1_init_2 21 rfl rfl)
theorem dX1_init_71 : decode cX1_init 71 = .ok (.putfield 46, 3) := dk_181 0 46 (dk_at dksX1_init_3 0 rfl rfl)
theorem dX1_init_74 : decode cX1_init 74 = .ok (.aload_n 0, 1) := dk_42 (dk_at dksX1_init_3 3 rfl rfl)
theorem dX1_init_75 : decode cX1_init 75 = .ok (.new 50, 3) := dk_187 0 50 (dk_at dksX1_init_3 4 rfl rfl)
theorem dX1_init_78 : decode cX1_init 78 = .ok (.dup, 1) := dk_89 (dk_at dksX1_init_3 7 rfl rfl)
theorem dX1_init_79 : decode cX1_init 79 = .ok (.invokespecial 52, 3) := dk_183 0 52 (dk_at dksX1_init_3 8 rfl rfl)
theorem dX1_init_82 : decode cX1_init 82 = .ok (.putfield 53, 3) := dk_181 0 53 (dk_at dksX1_init_3 11 rfl rfl)
theorem dX1_init_85 : decode cX1_init 85 = .ok (.aload_n 0, 1) := dk_42 (dk_at dksX1_init_3 14 rfl rfl)
theorem dX1_init_86 : decode cX1_init 86 = .ok (.new 50, 3) := dk_187 0 50 (dk_at dksX1_init_3 15 rfl rfl)
theorem dX1_init_89 : decode cX1_init 89 = .ok (.dup, 1) := dk_89 (dk_at dksX1_init_3 18 rfl rfl)
theorem dX1_init_90 : decode cX1_init 90 = .ok (.invokespecial 52, 3) := dk_183 0 52 (dk_at dksX1_init_3 19 rfl rfl)
theorem dX1_init_93 : decode cX1_init 93 = .ok (.putfield 57, 3) := dk_181 0 57 (dk_at dksX1_init_4 0 rfl rfl)
theorem dX1_init_96 : decode cX1_init 96 = .ok (.aload_n 0, 1) := dk_42 (dk_at dksX1_init_4 3 rfl rfl)
theorem dX1_init_97 : decode cX1_init 97 = .ok (.bipush 9, 2) := dk_16 9 (dk_at dksX1_init_4 4 rfl rfl)
theorem dX1_init_99 : decode cX1_init 99 = .ok (.putfield 60, 3) := dk_181 0 60 (dk_at dksX1_init_4 6 rfl rfl)
theorem dX1_init_102 : decode cX1_init 102 = .ok (.aload_n 0, 1) := dk_42 (dk_at dksX1_init_4 9 rfl rfl)
theorem dX1_init_103 : decode cX1_init 103 = .ok (.iconst 4, 1) := dk_7 (dk_at dksX1_init_4 10 rfl rfl)
theorem dX1_init_104 : decode cX1_init 104 = .ok (.putfield 64, 3) := dk_181 0 64 (dk_at dksX1_init_4 11 rfl rfl)
theorem dX1_init_107 : decode cX1_init 107 = .ok (.iconst 0, 1) := dk_3 (dk_at dksX1_init_4 14 rfl rfl)
theorem dX1_init_108 : decode cX1_init 108 = .ok (.istore_n 1, 1) := dk_60 (dk_at dksX1_init_4 15 rfl rfl)
theorem dX1_init_109 : decode cX1_init 109 = .ok (.iload_n 1, 1) := dk_27 (dk_at dksX1_init_4 16 rfl rfl)
theorem dX1_init_110 : decode cX1_init 110 = .ok (.iconst 5, 1) := dk_8 (dk_at dksX1_init_4 17 rfl rfl)
theorem dX1_init_111 : decode cX1_init 111 = .ok (.if_icmp .ge 22, 3) := dk_162 0 22 (dk_at dksX1_init_4 18 rfl rfl)
theorem dX1_init_114 : decode cX1_init 114 = .ok (.aload_n 0, 1) := dk_42 (dk_at dksX1_init_4 21 rfl rfl)
theorem dX1_init_115 : decode cX1_init 115 = .ok (.getfield 11, 3) := dk_180 0 11 (dk_at dksX1_init_5 0 rfl rfl)
theorem dX1_init_118 : decode cX1_init 118 = .ok (.iload_n 1, 1) := dk_27 (dk_at dksX1_init_5 3 rfl rfl)
theorem dX1_init_119 : decode cX1_init 119 = .ok (.new 9, 3) := dk_187 0 9 (dk_at dksX1_init_5 4 rfl rfl)
theorem dX1_init_122 : decode cX1_init 122 = .ok (.dup, 1) := dk_89 (dk_at dksX1_init_5 7 rfl rfl)
theorem dX1_init_123 : decode cX1_init 123 = .ok (.invokespecial 67, 3) := dk_183 0 67 (dk_at dksX1_init_5 8 rfl rfl)
theorem dX1_init_126 : decode cX1_init 126 = .ok (.aastore, 1) := dk_83 (dk_at dksX1_init_5 11 rfl rfl)
theorem dX1_init_127 : decode cX1_init 127 = .ok (.iinc 1 1, 3) := dk_132 1 1 (dk_at dksX1_init_5 12 rfl rfl)
theorem dX1_init_130 : decode cX1_init 130 = .ok (.goto (-21), 3) := dk_167 255 235 (dk_at dksX1_init_5 15 rfl rfl)
theorem dX1_init_133 : decode cX1_init 133 = .ok (.iconst 0, 1) := dk_3 (dk_at dksX1_init_5 18 rfl rfl)
theorem dX1_init_134 : decode cX1_init 134 = .ok (.istore_n 1, 1) := dk_60 (dk_at dksX1_init_5 19 rfl rfl)
theorem dX1_init_135 : decode cX1_init 135 = .ok (.iload_n 1, 1) := dk_27 (dk_at dksX1_init_5 20 rfl rfl)
theorem dX1_init_136 : decode cX1_init 136 = .ok (.bipush 14, 2) := dk_16 14 (dk_at dksX1_init_5 21 rfl rfl)
theorem dX1_init_138 : decode cX1_init 138 = .ok (.if_icmp .ge 22, 3) := dk_162 0 22 (dk_at dksX1_init_6 0 rfl rfl)
theorem dX1_init_141 : decode cX1_init 141 = .ok (.aload_n 0, 1) := dk_42 (dk_at dksX1_init_6 3 rfl rfl)
theorem dX1_init_142 : decode cX1_init 142 = .ok (.getfield 19, 3) := dk_180 0 19 (dk_at dksX1_init_6 4 rfl rfl)
theorem dX1_init_145 : decode cX1_init 145 = .ok (.iload_n 1, 1) := dk_27 (dk_at dksX1_init_6 7 rfl rfl)
theorem dX1_init_146 : decode cX1_init 146 = .ok (.new 17, 3) := dk_187 0 17 (dk_at dksX1_init_6 8 rfl rfl)
theorem dX1_init_149 : decode cX1_init 149 = .ok (.dup, 1) := dk_89 (dk_at dksX1_init_6 11 rfl rfl)
theorem dX1_init_150 : decode cX1_init 150 = .ok (.invokespecial 68, 3) := dk_183 0 68 (dk_at dksX1_init_6 12 rfl rfl)
theorem dX1_init_153 : decode cX1_init 153 = .ok (.aastore, 1) := dk_83 (dk_at dksX1_init_6 15 rfl rfl)
theorem dX1_init_154 : decode cX1_init 154 = .ok (.iinc 1 1, 3) := dk_132 1 1 (dk_at dksX1_init_6 16 rfl rfl)
theorem dX1_init_157 : decode cX1_init 157 = .ok (.goto (-22), 3) := dk_167 255 234 (dk_at dksX1_init_6 19 rfl rfl)
theorem dX1_init_160 : decode cX1_init 160 = .ok (.iconst 0, 1) := dk_3 (dk_at dksX1_init_6 22 rfl rfl)
theorem dX1_init_161 : decode cX1_init 161 = .ok (.istore_n 1, 1) := dk_60 (dk_at dksX1_init_6 23 rfl rfl)
theorem dX1_init_162 : decode cX1_init 162 = .ok (.iload_n 1, 1) := dk_27 (dk_at dksX1_init_7 0 rfl rfl)
theorem dX1_init_163 : decode cX1_init 163 = .ok (.bipush 10, 2) := dk_16 10 (dk_at dksX1_init_7 1 rfl rfl)
theorem dX1_init_165 : decode cX1_init 165 = .ok (.if_icmp .ge 22, 3) := dk_162 0 22 (dk_at dksX1_init_7 3 rfl rfl)
theorem dX1_init_168 : decode cX1_init 168 = .ok (.aload_n 0, 1) := dk_42 (dk_at dksX1_init_7 6 rfl rfl)
theorem dX1_init_169 : decode cX1_init 169 = .ok (.getfield 25, 3) := dk_180 0 25 (dk_at dksX1_init_7 7 rfl rfl)
theorem dX1_init_172 : decode cX1_init 172 = .ok (.iload_n 1, 1) := dk_27 (dk_at dksX1_init_7 10 rfl rfl)
theorem dX1_init_173 : decode cX1_init 173 = .ok (.new 23, 3) := dk_187 0 23 (dk_at dksX1_init_7 11 rfl rfl)
theorem dX1_init_176 : decode cX1_init 176 = .ok (.dup, 1) := dk_89 (dk_at dksX1_init_7 14 rfl rfl)
theorem dX1_init_177 : decode cX1_init 177 = .ok (.invokespecial 69, 3) := dk_183 0 69 (dk_at dksX1_init_7 15 rfl rfl)
theorem dX1_init_180 : decode cX1_init 180 = .ok (.aastore, 1) := dk_83 (dk_at dksX1_init_7 18 rfl rfl)
theorem dX1_init_181 : decode cX1_init 181 = .ok (.iinc 1 1, 3) := dk_132 1 1 (dk_at dksX1_init_7 19 rfl rfl)
theorem dX1_init_184 : decode cX1_init 184 = .ok (.goto (-22), 3) := dk_167 255 234 (dk_at dksX1_init_8 0 rfl rfl)
theorem dX1_init_187 : decode cX1_init 187 = .ok (.return_, 1) := dk_177 (dk_at dksX1_init_8 3 rfl rfl)
abbrev cX1_moves : ByteArray := prog_5_method_2_code
def yX1_moves : MethodName := ⟨RX1, "moves", "(LBallotFruit$Commune;)V"⟩
def dkwX1_moves_5 : List UInt8 := [181, 0, 89, 42, 43, 180, 0, 92, 181, 0, 92, 177]
abbrev dktX1_moves_5 : List UInt8 := dkwX1_moves_5 ++ []
def dkwX1_moves_4 : List UInt8 := [167, 255, 232, 42, 43, 180, 0, 83, 181, 0, 83, 42, 43, 180, 0, 86, 181, 0, 86, 42, 43, 180, 0, 89]
abbrev dktX1_moves_4 : List UInt8 := dkwX1_moves_4 ++ dktX1_moves_5
def dkwX1_moves_3 : List UInt8 := [16, 10, 162, 0, 24, 42, 180, 0, 25, 28, 50, 43, 180, 0, 25, 28, 50, 182, 0, 80, 132, 2, 1]
abbrev dktX1_moves_3 : List UInt8 := dkwX1_moves_3 ++ dktX1_moves_4
def dkwX1_moves_2 : List UInt8 := [42, 180, 0, 19, 28, 50, 43, 180, 0, 19, 28, 50, 182, 0, 77, 132, 2, 1, 167, 255, 230, 3, 61, 28]
abbrev dktX1_moves_2 : List UInt8 := dkwX1_moves_2 ++ dktX1_moves_3
def dkwX1_moves_1 : List UInt8 := [132, 2, 1, 167, 255, 233, 42, 43, 180, 0, 74, 181, 0, 74, 3, 61, 28, 42, 180, 0, 74, 162, 0, 24]
abbrev dktX1_moves_1 : List UInt8 := dkwX1_moves_1 ++ dktX1_moves_2
def dkwX1_moves_0 : List UInt8 := [3, 61, 28, 8, 162, 0, 24, 42, 180, 0, 11, 28, 50, 43, 180, 0, 11, 28, 50, 182, 0, 70]
abbrev dktX1_moves_0 : List UInt8 := dkwX1_moves_0 ++ dktX1_moves_1
theorem dksX1_moves_0 : cX1_moves.data.toList.drop 0 = dktX1_moves_0 := by decide +kernel
theorem dksX1_moves_1 : cX1_moves.data.toList.drop 22 = dktX1_moves_1 := dk_seg dksX1_moves_0 22 rfl rfl
theorem dksX1_moves_2 : cX1_moves.data.toList.drop 46 = dktX1_moves_2 := dk_seg dksX1_moves_1 24 rfl rfl
theorem dksX1_moves_3 : cX1_moves.data.toList.drop 70 = dktX1_moves_3 := dk_seg dksX1_moves_2 24 rfl rfl
theorem dksX1_moves_4 : cX1_moves.data.toList.drop 93 = dktX1_moves_4 := dk_seg dksX1_moves_3 23 rfl rfl
theorem dksX1_moves_5 : cX1_moves.data.toList.drop 117 = dktX1_moves_5 := dk_seg dksX1_moves_4 24 rfl rfl
theorem dX1_moves_0 : decode cX1_moves 0 = .ok (.iconst 0, 1) := dk_3 (dk_at dksX1_moves_0 0 rfl rfl)
theorem dX1_moves_1 : decode cX1_moves 1 = .ok (.istore_n 2, 1) := dk_61 (dk_at dksX1_moves_0 1 rfl rfl)
theorem dX1_moves_2 : decode cX1_moves 2 = .ok (.iload_n 2, 1) := dk_28 (dk_at dksX1_moves_0 2 rfl rfl)
theorem dX1_moves_3 : decode cX1_moves 3 = .ok (.iconst 5, 1) := dk_8 (dk_at dksX1_moves_0 3 rfl rfl)
theorem dX1_moves_4 : decode cX1_moves 4 = .ok (.if_icmp .ge 24, 3) := dk_162 0 24 (dk_at dksX1_moves_0 4 rfl rfl)
theorem dX1_moves_7 : decode cX1_moves 7 = .ok (.aload_n 0, 1) := dk_42 (dk_at dksX1_moves_0 7 rfl rfl)
theorem dX1_moves_8 : decode cX1_moves 8 = .ok (.getfield 11, 3) := dk_180 0 11 (dk_at dksX1_moves_0 8 rfl rfl)
theorem dX1_moves_11 : decode cX1_moves 11 = .ok (.iload_n 2, 1) := dk_28 (dk_at dksX1_moves_0 11 rfl rfl)
theorem dX1_moves_12 : decode cX1_moves 12 = .ok (.aaload, 1) := dk_50 (dk_at dksX1_moves_0 12 rfl rfl)
theorem dX1_moves_13 : decode cX1_moves 13 = .ok (.aload_n 1, 1) := dk_43 (dk_at dksX1_moves_0 13 rfl rfl)
theorem dX1_moves_14 : decode cX1_moves 14 = .ok (.getfield 11, 3) := dk_180 0 11 (dk_at dksX1_moves_0 14 rfl rfl)
theorem dX1_moves_17 : decode cX1_moves 17 = .ok (.iload_n 2, 1) := dk_28 (dk_at dksX1_moves_0 17 rfl rfl)
theorem dX1_moves_18 : decode cX1_moves 18 = .ok (.aaload, 1) := dk_50 (dk_at dksX1_moves_0 18 rfl rfl)
theorem dX1_moves_19 : decode cX1_moves 19 = .ok (.invokevirtual 70, 3) := dk_182 0 70 (dk_at dksX1_moves_0 19 rfl rfl)
theorem dX1_moves_22 : decode cX1_moves 22 = .ok (.iinc 2 1, 3) := dk_132 2 1 (dk_at dksX1_moves_1 0 rfl rfl)
theorem dX1_moves_25 : decode cX1_moves 25 = .ok (.goto (-23), 3) := dk_167 255 233 (dk_at dksX1_moves_1 3 rfl rfl)
theorem dX1_moves_28 : decode cX1_moves 28 = .ok (.aload_n 0, 1) := dk_42 (dk_at dksX1_moves_1 6 rfl rfl)
theorem dX1_moves_29 : decode cX1_moves 29 = .ok (.aload_n 1, 1) := dk_43 (dk_at dksX1_moves_1 7 rfl rfl)
theorem dX1_moves_30 : decode cX1_moves 30 = .ok (.getfield 74, 3) := dk_180 0 74 (dk_at dksX1_moves_1 8 rfl rfl)
theorem dX1_moves_33 : decode cX1_moves 33 = .ok (.putfield 74, 3) := dk_181 0 74 (dk_at dksX1_moves_1 11 rfl rfl)
theorem dX1_moves_36 : decode cX1_moves 36 = .ok (.iconst 0, 1) := dk_3 (dk_at dksX1_moves_1 14 rfl rfl)
theorem dX1_moves_37 : decode cX1_moves 37 = .ok (.istore_n 2, 1) := dk_61 (dk_at dksX1_moves_1 15 rfl rfl)
theorem dX1_moves_38 : decode cX1_moves 38 = .ok (.iload_n 2, 1) := dk_28 (dk_at dksX1_moves_1 16 rfl rfl)
theorem dX1_moves_39 : decode cX1_moves 39 = .ok (.aload_n 0, 1) := dk_42 (dk_at dksX1_moves_1 17 rfl rfl)
theorem dX1_moves_40 : decode cX1_moves 40 = .ok (.getfield 74, 3) := dk_180 0 74 (dk_at dksX1_moves_1 18 rfl rfl)
theorem dX1_moves_43 : decode cX1_moves 43 = .ok (.if_icmp .ge 24, 3) := dk_162 0 24 (dk_at dksX1_moves_1 21 rfl rfl)
theorem dX1_moves_46 : decode cX1_moves 46 = .ok (.aload_n 0, 1) := dk_42 (dk_at dksX1_moves_2 0 rfl rfl)
theorem dX1_moves_47 : decode cX1_moves 47 = .ok (.getfield 19, 3) := dk_180 0 19 (dk_at dksX1_moves_2 1 rfl rfl)
theorem dX1_moves_50 : decode cX1_moves 50 = .ok (.iload_n 2, 1) := dk_28 (dk_at dksX1_moves_2 4 rfl rfl)
theorem dX1_moves_51 : decode cX1_moves 51 = .ok (.aaload, 1) := dk_50 (dk_at dksX1_moves_2 5 rfl rfl)
theorem dX1_moves_52 : decode cX1_moves 52 = .ok (.aload_n 1, 1) := dk_43 (dk_at dksX1_moves_2 6 rfl rfl)
theorem dX1_moves_53 : decode cX1_moves 53 = .ok (.getfield 19, 3) := dk_180 0 19 (dk_at dksX1_moves_2 7 rfl rfl)
theorem dX1_moves_56 : decode cX1_moves 56 = .ok (.iload_n 2, 1) := dk_28 (dk_at dksX1_moves_2 10 rfl rfl)
theorem dX1_moves_57 : decode cX1_moves 57 = .ok (.aaload, 1) := dk_50 (dk_at dksX1_moves_2 11 rfl rfl)
theorem dX1_moves_58 : decode cX1_moves 58 = .ok (.invokevirtual 77, 3) := dk_182 0 77 (dk_at dksX1_moves_2 12 rfl rfl)
theorem dX1_moves_61 : decode cX1_moves 61 = .ok (.iinc 2 1, 3) := dk_132 2 1 (dk_at dksX1_moves_2 15 rfl rfl)
theorem dX1_moves_64 : decode cX1_moves 64 = .ok (.goto (-26), 3) := dk_167 255 230 (dk_at dksX1_moves_2 18 rfl rfl)
theorem dX1_moves_67 : decode cX1_moves 67 = .ok (.iconst 0, 1) := dk_3 (dk_at dksX1_moves_2 21 rfl rfl)
theorem dX1_moves_68 : decode cX1_moves 68 = .ok (.istore_n 2, 1) := dk_61 (dk_at dksX1_moves_2 22 rfl rfl)
theorem dX1_moves_69 : decode cX1_moves 69 = .ok (.iload_n 2, 1) := dk_28 (dk_at dksX1_moves_2 23 rfl rfl)
theorem dX1_moves_70 : decode cX1_moves 70 = .ok (.bipush 10, 2) := dk_16 10 (dk_at dksX1_moves_3 0 rfl rfl)
theorem dX1_moves_72 : decode cX1_moves 72 = .ok (.if_icmp .ge 24, 3) := dk_162 0 24 (dk_at dksX1_moves_3 2 rfl rfl)
theorem dX1_moves_75 : decode cX1_moves 75 = .ok (.aload_n 0, 1) := dk_42 (dk_at dksX1_moves_3 5 rfl rfl)
theorem dX1_moves_76 : decode cX1_moves 76 = .ok (.getfield 25, 3) := dk_180 0 25 (dk_at dksX1_moves_3 6 rfl rfl)
theorem dX1_moves_79 : decode cX1_moves 79 = .ok (.iload_n 2, 1) := dk_28 (dk_at dksX1_moves_3 9 rfl rfl)
theorem dX1_moves_80 : decode cX1_moves 80 = .ok (.aaload, 1) := dk_50 (dk_at dksX1_moves_3 10 rfl rfl)
theorem dX1_moves_81 : decode cX1_moves 81 = .ok (.aload_n 1, 1) := dk_43 (dk_at dksX1_moves_3 11 rfl rfl)
theorem dX1_moves_82 : decode cX1_moves 82 = .ok (.getfield 25, 3) := dk_180 0 25 (dk_at dksX1_moves_3 12 rfl rfl)
theorem dX1_moves_85 : decode cX1_moves 85 = .ok (.iload_n 2, 1) := dk_28 (dk_at dksX1_moves_3 15 rfl rfl)
theorem dX1_moves_86 : decode cX1_moves 86 = .ok (.aaload, 1) := dk_50 (dk_at dksX1_moves_3 16 rfl rfl)
theorem dX1_moves_87 : decode cX1_moves 87 = .ok (.invokevirtual 80, 3) := dk_182 0 80 (dk_at dksX1_moves_3 17 rfl rfl)
theorem dX1_moves_90 : decode cX1_moves 90 = .ok (.iinc 2 1, 3) := dk_132 2 1 (dk_at dksX1_moves_3 20 rfl rfl)
theorem dX1_moves_93 : decode cX1_moves 93 = .ok (.goto (-24), 3) := dk_167 255 232 (dk_at dksX1_moves_4 0 rfl rfl)
theorem dX1_moves_96 : decode cX1_moves 96 = .ok (.aload_n 0, 1) := dk_42 (dk_at dksX1_moves_4 3 rfl rfl)
theorem dX1_moves_97 : decode cX1_moves 97 = .ok (.aload_n 1, 1) := dk_43 (dk_at dksX1_moves_4 4 rfl rfl)
theorem dX1_moves_98 : decode cX1_moves 98 = .ok (.getfield 83, 3) := dk_180 0 83 (dk_at dksX1_moves_4 5 rfl rfl)
theorem dX1_moves_101 : decode cX1_moves 101 = .ok (.putfield 83, 3) := dk_181 0 83 (dk_at dksX1_moves_4 8 rfl rfl)
theorem dX1_moves_104 : decode cX1_moves 104 = .ok (.aload_n 0, 1) := dk_42 (dk_at dksX1_moves_4 11 rfl rfl)
theorem dX1_moves_105 : decode cX1_moves 105 = .ok (.aload_n 1, 1) := dk_43 (dk_at dksX1_moves_4 12 rfl rfl)
theorem dX1_moves_106 : decode cX1_moves 106 = .ok (.getfield 86, 3) := dk_180 0 86 (dk_at dksX1_moves_4 13 rfl rfl)
theorem dX1_moves_109 : decode cX1_moves 109 = .ok (.putfield 86, 3) := dk_181 0 86 (dk_at dksX1_moves_4 16 rfl rfl)
theorem dX1_moves_112 : decode cX1_moves 112 = .ok (.aload_n 0, 1) := dk_42 (dk_at dksX1_moves_4 19 rfl rfl)
theorem dX1_moves_113 : decode cX1_moves 113 = .ok (.aload_n 1, 1) := dk_43 (dk_at dksX1_moves_4 20 rfl rfl)
theorem dX1_moves_114 : decode cX1_moves 114 = .ok (.getfield 89, 3) := dk_180 0 89 (dk_at dksX1_moves_4 21 rfl rfl)
theorem dX1_moves_117 : decode cX1_moves 117 = .ok (.putfield 89, 3) := dk_181 0 89 (dk_at dksX1_moves_5 0 rfl rfl)
theorem dX1_moves_120 : decode cX1_moves 120 = .ok (.aload_n 0, 1) := dk_42 (dk_at dksX1_moves_5 3 rfl rfl)
theorem dX1_moves_121 : decode cX1_moves 121 = .ok (.aload_n 1, 1) := dk_43 (dk_at dksX1_moves_5 4 rfl rfl)
theorem dX1_moves_122 : decode cX1_moves 122 = .ok (.getfield 92, 3) := dk_180 0 92 (dk_at dksX1_moves_5 5 rfl rfl)
theorem dX1_moves_125 : decode cX1_moves 125 = .ok (.putfield 92, 3) := dk_181 0 92 (dk_at dksX1_moves_5 8 rfl rfl)
theorem dX1_moves_128 : decode cX1_moves 128 = .ok (.return_, 1) := dk_177 (dk_at dksX1_moves_5 11 rfl rfl)
abbrev cX1_plants : ByteArray := prog_5_method_14_code
def yX1_plants : MethodName := ⟨RX1, "plants", "(III)I"⟩
def dkwX1_plants_2 : List UInt8 := [42, 180, 0, 74, 4, 100, 3, 182, 0, 211, 42, 180, 0, 74, 4, 100, 172]
abbrev dktX1_plants_2 : List UInt8 := dkwX1_plants_2 ++ []
def dkwX1_plants_1 : List UInt8 := [25, 4, 29, 181, 0, 142, 25, 4, 3, 181, 0, 145, 42, 89, 180, 0, 74, 4, 96, 181, 0, 74, 42, 3]
abbrev dktX1_plants_1 : List UInt8 := dkwX1_plants_1 ++ dktX1_plants_2
def dkwX1_plants_0 : List UInt8 := [42, 180, 0, 19, 42, 180, 0, 74, 50, 58, 4, 25, 4, 27, 181, 0, 195, 25, 4, 28, 181, 0, 139]
abbrev dktX1_plants_0 : List UInt8 := dkwX1_plants_0 ++ dktX1_plants_1
theorem dksX1_plants_0 : cX1_plants.data.toList.drop 0 = dktX1_plants_0 := by decide +kernel
theorem dksX1_plants_1 : cX1_plants.data.toList.drop 23 = dktX1_plants_1 := dk_seg dksX1_plants_0 23 rfl rfl
theorem dksX1_plants_2 : cX1_plants.data.toList.drop 47 = dktX1_plants_2 := dk_seg dksX1_plants_1 24 rfl rfl
theorem dX1_plants_0 : decode cX1_plants 0 = .ok (.aload_n 0, 1) := dk_42 (dk_at dksX1_plants_0 0 rfl rfl)
theorem dX1_plants_1 : decode cX1_plants 1 = .ok (.getfield 19, 3) := dk_180 0 19 (dk_at dksX1_plants_0 1 rfl rfl)
theorem dX1_plants_4 : decode cX1_plants 4 = .ok (.aload_n 0, 1) := dk_42 (dk_at dksX1_plants_0 4 rfl rfl)
theorem dX1_plants_5 : decode cX1_plants 5 = .ok (.getfield 74, 3) := dk_180 0 74 (dk_at dksX1_plants_0 5 rfl rfl)
theorem dX1_plants_8 : decode cX1_plants 8 = .ok (.aaload, 1) := dk_50 (dk_at dksX1_plants_0 8 rfl rfl)
theorem dX1_plants_9 : decode cX1_plants 9 = .ok (.astore 4, 2) := dk_58 4 (dk_at dksX1_plants_0 9 rfl rfl)
theorem dX1_plants_11 : decode cX1_plants 11 = .ok (.aload 4, 2) := dk_25 4 (dk_at dksX1_plants_0 11 rfl rfl)
theorem dX1_plants_13 : decode cX1_plants 13 = .ok (.iload_n 1, 1) := dk_27 (dk_at dksX1_plants_0 13 rfl rfl)
theorem dX1_plants_14 : decode cX1_plants 14 = .ok (.putfield 195, 3) := dk_181 0 195 (dk_at dksX1_plants_0 14 rfl rfl)
theorem dX1_plants_17 : decode cX1_plants 17 = .ok (.aload 4, 2) := dk_25 4 (dk_at dksX1_plants_0 17 rfl rfl)
theorem dX1_plants_19 : decode cX1_plants 19 = .ok (.iload_n 2, 1) := dk_28 (dk_at dksX1_plants_0 19 rfl rfl)
theorem dX1_plants_20 : decode cX1_plants 20 = .ok (.putfield 139, 3) := dk_181 0 139 (dk_at dksX1_plants_0 20 rfl rfl)
theorem dX1_plants_23 : decode cX1_plants 23 = .ok (.aload 4, 2) := dk_25 4 (dk_at dksX1_plants_1 0 rfl rfl)
theorem dX1_plants_25 : decode cX1_plants 25 = .ok (.iload_n 3, 1) := dk_29 (dk_at dksX1_plants_1 2 rfl rfl)
theorem dX1_plants_26 : decode cX1_plants 26 = .ok (.putfield 142, 3) := dk_181 0 142 (dk_at dksX1_plants_1 3 rfl rfl)
theorem dX1_plants_29 : decode cX1_plants 29 = .ok (.aload 4, 2) := dk_25 4 (dk_at dksX1_plants_1 6 rfl rfl)
theorem dX1_plants_31 : decode cX1_plants 31 = .ok (.iconst 0, 1) := dk_3 (dk_at dksX1_plants_1 8 rfl rfl)
theorem dX1_plants_32 : decode cX1_plants 32 = .ok (.putfield 145, 3) := dk_181 0 145 (dk_at dksX1_plants_1 9 rfl rfl)
theorem dX1_plants_35 : decode cX1_plants 35 = .ok (.aload_n 0, 1) := dk_42 (dk_at dksX1_plants_1 12 rfl rfl)
theorem dX1_plants_36 : decode cX1_plants 36 = .ok (.dup, 1) := dk_89 (dk_at dksX1_plants_1 13 rfl rfl)
theorem dX1_plants_37 : decode cX1_plants 37 = .ok (.getfield 74, 3) := dk_180 0 74 (dk_at dksX1_plants_1 14 rfl rfl)
theorem dX1_plants_40 : decode cX1_plants 40 = .ok (.iconst 1, 1) := dk_4 (dk_at dksX1_plants_1 17 rfl rfl)
theorem dX1_plants_41 : decode cX1_plants 41 = .ok (.iadd, 1) := dk_96 (dk_at dksX1_plants_1 18 rfl rfl)
theorem dX1_plants_42 : decode cX1_plants 42 = .ok (.putfield 74, 3) := dk_181 0 74 (dk_at dksX1_plants_1 19 rfl rfl)
theorem dX1_plants_45 : decode cX1_plants 45 = .ok (.aload_n 0, 1) := dk_42 (dk_at dksX1_plants_1 22 rfl rfl)
theorem dX1_plants_46 : decode cX1_plants 46 = .ok (.iconst 0, 1) := dk_3 (dk_at dksX1_plants_1 23 rfl rfl)
theorem dX1_plants_47 : decode cX1_plants 47 = .ok (.aload_n 0, 1) := dk_42 (dk_at dksX1_plants_2 0 rfl rfl)
theorem dX1_plants_48 : decode cX1_plants 48 = .ok (.getfield 74, 3) := dk_180 0 74 (dk_at dksX1_plants_2 1 rfl rfl)
theorem dX1_plants_51 : decode cX1_plants 51 = .ok (.iconst 1, 1) := dk_4 (dk_at dksX1_plants_2 4 rfl rfl)
theorem dX1_plants_52 : decode cX1_plants 52 = .ok (.isub, 1) := dk_100 (dk_at dksX1_plants_2 5 rfl rfl)
theorem dX1_plants_53 : decode cX1_plants 53 = .ok (.iconst 0, 1) := dk_3 (dk_at dksX1_plants_2 6 rfl rfl)
theorem dX1_plants_54 : decode cX1_plants 54 = .ok (.invokevirtual 211, 3) := dk_182 0 211 (dk_at dksX1_plants_2 7 rfl rfl)
theorem dX1_plants_57 : decode cX1_plants 57 = .ok (.aload_n 0, 1) := dk_42 (dk_at dksX1_plants_2 10 rfl rfl)
theorem dX1_plants_58 : decode cX1_plants 58 = .ok (.getfield 74, 3) := dk_180 0 74 (dk_at dksX1_plants_2 11 rfl rfl)
theorem dX1_plants_61 : decode cX1_plants 61 = .ok (.iconst 1, 1) := dk_4 (dk_at dksX1_plants_2 14 rfl rfl)
theorem dX1_plants_62 : decode cX1_plants 62 = .ok (.isub, 1) := dk_100 (dk_at dksX1_plants_2 15 rfl rfl)
theorem dX1_plants_63 : decode cX1_plants 63 = .ok (.ireturn, 1) := dk_172 (dk_at dksX1_plants_2 16 rfl rfl)
abbrev cX1_notes : ByteArray := prog_5_method_6_code
def yX1_notes : MethodName := ⟨RX1, "notes", "(III)V"⟩
def dkwX1_notes_2 : List UInt8 := [25, 4, 6, 29, 79, 42, 89, 180, 0, 92, 4, 96, 181, 0, 92, 177]
abbrev dktX1_notes_2 : List UInt8 := dkwX1_notes_2 ++ []
def dkwX1_notes_1 : List UInt8 := [180, 0, 92, 50, 58, 4, 25, 4, 3, 42, 180, 0, 86, 79, 25, 4, 4, 27, 79, 25, 4, 5, 28, 79]
abbrev dktX1_notes_1 : List UInt8 := dkwX1_notes_1 ++ dktX1_notes_2
def dkwX1_notes_0 : List UInt8 := [42, 180, 0, 128, 154, 0, 13, 42, 180, 0, 92, 17, 0, 150, 160, 0, 4, 177, 42, 180, 0, 31, 42]
abbrev dktX1_notes_0 : List UInt8 := dkwX1_notes_0 ++ dktX1_notes_1
theorem dksX1_notes_0 : cX1_notes.data.toList.drop 0 = dktX1_notes_0 := by decide +kernel
theorem dksX1_notes_1 : cX1_notes.data.toList.drop 23 = dktX1_notes_1 := dk_seg dksX1_notes_0 23 rfl rfl
theorem dksX1_notes_2 : cX1_notes.data.toList.drop 47 = dktX1_notes_2 := dk_seg dksX1_notes_1 24 rfl rfl
theorem dX1_notes_0 : decode cX1_notes 0 = .ok (.aload_n 0, 1) := dk_42 (dk_at dksX1_notes_0 0 rfl rfl)
theorem dX1_notes_1 : decode cX1_notes 1 = .ok (.getfield 128, 3) := dk_180 0 128 (dk_at dksX1_notes_0 1 rfl rfl)
theorem dX1_notes_4 : decode cX1_notes 4 = .ok (.ifCond .ne 13, 3) := dk_154 0 13 (dk_at dksX1_notes_0 4 rfl rfl)
theorem dX1_notes_7 : decode cX1_notes 7 = .ok (.aload_n 0, 1) := dk_42 (dk_at dksX1_notes_0 7 rfl rfl)
theorem dX1_notes_8 : decode cX1_notes 8 = .ok (.getfield 92, 3) := dk_180 0 92 (dk_at dksX1_notes_0 8 rfl rfl)
theorem dX1_notes_11 : decode cX1_notes 11 = .ok (.sipush 150, 3) := dk_17 0 150 (dk_at dksX1_notes_0 11 rfl rfl)
theorem dX1_notes_14 : decode cX1_notes 14 = .ok (.if_icmp .ne 4, 3) := dk_160 0 4 (dk_at dksX1_notes_0 14 rfl rfl)
theorem dX1_notes_17 : decode cX1_notes 17 = .ok (.return_, 1) := dk_177 (dk_at dksX1_notes_0 17 rfl rfl)
theorem dX1_notes_18 : decode cX1_notes 18 = .ok (.aload_n 0, 1) := dk_42 (dk_at dksX1_notes_0 18 rfl rfl)
theorem dX1_notes_19 : decode cX1_notes 19 = .ok (.getfield 31, 3) := dk_180 0 31 (dk_at dksX1_notes_0 19 rfl rfl)
theorem dX1_notes_22 : decode cX1_notes 22 = .ok (.aload_n 0, 1) := dk_42 (dk_at dksX1_notes_0 22 rfl rfl)
theorem dX1_notes_23 : decode cX1_notes 23 = .ok (.getfield 92, 3) := dk_180 0 92 (dk_at dksX1_notes_1 0 rfl rfl)
theorem dX1_notes_26 : decode cX1_notes 26 = .ok (.aaload, 1) := dk_50 (dk_at dksX1_notes_1 3 rfl rfl)
theorem dX1_notes_27 : decode cX1_notes 27 = .ok (.astore 4, 2) := dk_58 4 (dk_at dksX1_notes_1 4 rfl rfl)
theorem dX1_notes_29 : decode cX1_notes 29 = .ok (.aload 4, 2) := dk_25 4 (dk_at dksX1_notes_1 6 rfl rfl)
theorem dX1_notes_31 : decode cX1_notes 31 = .ok (.iconst 0, 1) := dk_3 (dk_at dksX1_notes_1 8 rfl rfl)
theorem dX1_notes_32 : decode cX1_notes 32 = .ok (.aload_n 0, 1) := dk_42 (dk_at dksX1_notes_1 9 rfl rfl)
theorem dX1_notes_33 : decode cX1_notes 33 = .ok (.getfield 86, 3) := dk_180 0 86 (dk_at dksX1_notes_1 10 rfl rfl)
theorem dX1_notes_36 : decode cX1_notes 36 = .ok (.iastore, 1) := dk_79 (dk_at dksX1_notes_1 13 rfl rfl)
theorem dX1_notes_37 : decode cX1_notes 37 = .ok (.aload 4, 2) := dk_25 4 (dk_at dksX1_notes_1 14 rfl rfl)
theorem dX1_notes_39 : decode cX1_notes 39 = .ok (.iconst 1, 1) := dk_4 (dk_at dksX1_notes_1 16 rfl rfl)
theorem dX1_notes_40 : decode cX1_notes 40 = .ok (.iload_n 1, 1) := dk_27 (dk_at dksX1_notes_1 17 rfl rfl)
theorem dX1_notes_41 : decode cX1_notes 41 = .ok (.iastore, 1) := dk_79 (dk_at dksX1_notes_1 18 rfl rfl)
theorem dX1_notes_42 : decode cX1_notes 42 = .ok (.aload 4, 2) := dk_25 4 (dk_at dksX1_notes_1 19 rfl rfl)
theorem dX1_notes_44 : decode cX1_notes 44 = .ok (.iconst 2, 1) := dk_5 (dk_at dksX1_notes_1 21 rfl rfl)
theorem dX1_notes_45 : decode cX1_notes 45 = .ok (.iload_n 2, 1) := dk_28 (dk_at dksX1_notes_1 22 rfl rfl)
theorem dX1_notes_46 : decode cX1_notes 46 = .ok (.iastore, 1) := dk_79 (dk_at dksX1_notes_1 23 rfl rfl)
theorem dX1_notes_47 : decode cX1_notes 47 = .ok (.aload 4, 2) := dk_25 4 (dk_at dksX1_notes_2 0 rfl rfl)
theorem dX1_notes_49 : decode cX1_notes 49 = .ok (.iconst 3, 1) := dk_6 (dk_at dksX1_notes_2 2 rfl rfl)
theorem dX1_notes_50 : decode cX1_notes 50 = .ok (.iload_n 3, 1) := dk_29 (dk_at dksX1_notes_2 3 rfl rfl)
theorem dX1_notes_51 : decode cX1_notes 51 = .ok (.iastore, 1) := dk_79 (dk_at dksX1_notes_2 4 rfl rfl)
theorem dX1_notes_52 : decode cX1_notes 52 = .ok (.aload_n 0, 1) := dk_42 (dk_at dksX1_notes_2 5 rfl rfl)
theorem dX1_notes_53 : decode cX1_notes 53 = .ok (.dup, 1) := dk_89 (dk_at dksX1_notes_2 6 rfl rfl)
theorem dX1_notes_54 : decode cX1_notes 54 = .ok (.getfield 92, 3) := dk_180 0 92 (dk_at dksX1_notes_2 7 rfl rfl)
theorem dX1_notes_57 : decode cX1_notes 57 = .ok (.iconst 1, 1) := dk_4 (dk_at dksX1_notes_2 10 rfl rfl)
theorem dX1_notes_58 : decode cX1_notes 58 = .ok (.iadd, 1) := dk_96 (dk_at dksX1_notes_2 11 rfl rfl)
theorem dX1_notes_59 : decode cX1_notes 59 = .ok (.putfield 92, 3) := dk_181 0 92 (dk_at dksX1_notes_2 12 rfl rfl)
theorem dX1_notes_62 : decode cX1_notes 62 = .ok (.return_, 1) := dk_177 (dk_at dksX1_notes_2 15 rfl rfl)
abbrev cX1_isFenced : ByteArray := prog_5_method_13_code
def yX1_isFenced : MethodName := ⟨RX1, "isFenced", "(I)Z"⟩
def dkwX1_isFenced_0 : List UInt8 := [42, 180, 0, 83, 27, 122, 4, 126, 4, 160, 0, 7, 4, 167, 0, 4, 3, 172]
abbrev dktX1_isFenced_0 : List UInt8 := dkwX1_isFenced_0 ++ []
theorem dksX1_isFenced_0 : cX1_isFenced.data.toList.drop 0 = dktX1_isFenced_0 := by decide +kernel
theorem dX1_isFenced_0 : decode cX1_isFenced 0 = .ok (.aload_n 0, 1) := dk_42 (dk_at dksX1_isFenced_0 0 rfl rfl)
theorem dX1_isFenced_1 : decode cX1_isFenced 1 = .ok (.getfield 83, 3) := dk_180 0 83 (dk_at dksX1_isFenced_0 1 rfl rfl)
theorem dX1_isFenced_4 : decode cX1_isFenced 4 = .ok (.iload_n 1, 1) := dk_27 (dk_at dksX1_isFenced_0 4 rfl rfl)
theorem dX1_isFenced_5 : decode cX1_isFenced 5 = .ok (.ishr, 1) := dk_122 (dk_at dksX1_isFenced_0 5 rfl rfl)
theorem dX1_isFenced_6 : decode cX1_isFenced 6 = .ok (.iconst 1, 1) := dk_4 (dk_at dksX1_isFenced_0 6 rfl rfl)
theorem dX1_isFenced_7 : decode cX1_isFenced 7 = .ok (.iand, 1) := dk_126 (dk_at dksX1_isFenced_0 7 rfl rfl)
theorem dX1_isFenced_8 : decode cX1_isFenced 8 = .ok (.iconst 1, 1) := dk_4 (dk_at dksX1_isFenced_0 8 rfl rfl)
theorem dX1_isFenced_9 : decode cX1_isFenced 9 = .ok (.if_icmp .ne 7, 3) := dk_160 0 7 (dk_at dksX1_isFenced_0 9 rfl rfl)
theorem dX1_isFenced_12 : decode cX1_isFenced 12 = .ok (.iconst 1, 1) := dk_4 (dk_at dksX1_isFenced_0 12 rfl rfl)
theorem dX1_isFenced_13 : decode cX1_isFenced 13 = .ok (.goto 4, 3) := dk_167 0 4 (dk_at dksX1_isFenced_0 13 rfl rfl)
theorem dX1_isFenced_16 : decode cX1_isFenced 16 = .ok (.iconst 0, 1) := dk_3 (dk_at dksX1_isFenced_0 16 rfl rfl)
theorem dX1_isFenced_17 : decode cX1_isFenced 17 = .ok (.ireturn, 1) := dk_172 (dk_at dksX1_isFenced_0 17 rfl rfl)
abbrev cX1_fences : ByteArray := prog_5_method_15_code
def yX1_fences : MethodName := ⟨RX1, "fences", "(IZ)V"⟩
def dkwX1_fences_1 : List UInt8 := [130, 126, 181, 0, 83, 42, 28, 153, 0, 7, 4, 167, 0, 4, 5, 27, 3, 182, 0, 211, 177]
abbrev dktX1_fences_1 : List UInt8 := dkwX1_fences_1 ++ []
def dkwX1_fences_0 : List UInt8 := [42, 28, 153, 0, 14, 42, 180, 0, 83, 4, 27, 120, 128, 167, 0, 13, 42, 180, 0, 83, 4, 27, 120, 2]
abbrev dktX1_fences_0 : List UInt8 := dkwX1_fences_0 ++ dktX1_fences_1
theorem dksX1_fences_0 : cX1_fences.data.toList.drop 0 = dktX1_fences_0 := by decide +kernel
theorem dksX1_fences_1 : cX1_fences.data.toList.drop 24 = dktX1_fences_1 := dk_seg dksX1_fences_0 24 rfl rfl
theorem dX1_fences_0 : decode cX1_fences 0 = .ok (.aload_n 0, 1) := dk_42 (dk_at dksX1_fences_0 0 rfl rfl)
theorem dX1_fences_1 : decode cX1_fences 1 = .ok (.iload_n 2, 1) := dk_28 (dk_at dksX1_fences_0 1 rfl rfl)
theorem dX1_fences_2 : decode cX1_fences 2 = .ok (.ifCond .eq 14, 3) := dk_153 0 14 (dk_at dksX1_fences_0 2 rfl rfl)
theorem dX1_fences_5 : decode cX1_fences 5 = .ok (.aload_n 0, 1) := dk_42 (dk_at dksX1_fences_0 5 rfl rfl)
theorem dX1_fences_6 : decode cX1_fences 6 = .ok (.getfield 83, 3) := dk_180 0 83 (dk_at dksX1_fences_0 6 rfl rfl)
theorem dX1_fences_9 : decode cX1_fences 9 = .ok (.iconst 1, 1) := dk_4 (dk_at dksX1_fences_0 9 rfl rfl)
theorem dX1_fences_10 : decode cX1_fences 10 = .ok (.iload_n 1, 1) := dk_27 (dk_at dksX1_fences_0 10 rfl rfl)
theorem dX1_fences_11 : decode cX1_fences 11 = .ok (.ishl, 1) := dk_120 (dk_at dksX1_fences_0 11 rfl rfl)
theorem dX1_fences_12 : decode cX1_fences 12 = .ok (.ior, 1) := dk_128 (dk_at dksX1_fences_0 12 rfl rfl)
theorem dX1_fences_13 : decode cX1_fences 13 = .ok (.goto 13, 3) := dk_167 0 13 (dk_at dksX1_fences_0 13 rfl rfl)
theorem dX1_fences_16 : decode cX1_fences 16 = .ok (.aload_n 0, 1) := dk_42 (dk_at dksX1_fences_0 16 rfl rfl)
theorem dX1_fences_17 : decode cX1_fences 17 = .ok (.getfield 83, 3) := dk_180 0 83 (dk_at dksX1_fences_0 17 rfl rfl)
theorem dX1_fences_20 : decode cX1_fences 20 = .ok (.iconst 1, 1) := dk_4 (dk_at dksX1_fences_0 20 rfl rfl)
theorem dX1_fences_21 : decode cX1_fences 21 = .ok (.iload_n 1, 1) := dk_27 (dk_at dksX1_fences_0 21 rfl rfl)
theorem dX1_fences_22 : decode cX1_fences 22 = .ok (.ishl, 1) := dk_120 (dk_at dksX1_fences_0 22 rfl rfl)
theorem dX1_fences_23 : decode cX1_fences 23 = .ok (.iconst (-1), 1) := dk_2 (dk_at dksX1_fences_0 23 rfl rfl)
theorem dX1_fences_24 : decode cX1_fences 24 = .ok (.ixor, 1) := dk_130 (dk_at dksX1_fences_1 0 rfl rfl)
theorem dX1_fences_25 : decode cX1_fences 25 = .ok (.iand, 1) := dk_126 (dk_at dksX1_fences_1 1 rfl rfl)
theorem dX1_fences_26 : decode cX1_fences 26 = .ok (.putfield 83, 3) := dk_181 0 83 (dk_at dksX1_fences_1 2 rfl rfl)
theorem dX1_fences_29 : decode cX1_fences 29 = .ok (.aload_n 0, 1) := dk_42 (dk_at dksX1_fences_1 5 rfl rfl)
theorem dX1_fences_30 : decode cX1_fences 30 = .ok (.iload_n 2, 1) := dk_28 (dk_at dksX1_fences_1 6 rfl rfl)
theorem dX1_fences_31 : decode cX1_fences 31 = .ok (.ifCond .eq 7, 3) := dk_153 0 7 (dk_at dksX1_fences_1 7 rfl rfl)
theorem dX1_fences_34 : decode cX1_fences 34 = .ok (.iconst 1, 1) := dk_4 (dk_at dksX1_fences_1 10 rfl rfl)
theorem dX1_fences_35 : decode cX1_fences 35 = .ok (.goto 4, 3) := dk_167 0 4 (dk_at dksX1_fences_1 11 rfl rfl)
theorem dX1_fences_38 : decode cX1_fences 38 = .ok (.iconst 2, 1) := dk_5 (dk_at dksX1_fences_1 14 rfl rfl)
theorem dX1_fences_39 : decode cX1_fences 39 = .ok (.iload_n 1, 1) := dk_27 (dk_at dksX1_fences_1 15 rfl rfl)
theorem dX1_fences_40 : decode cX1_fences 40 = .ok (.iconst 0, 1) := dk_3 (dk_at dksX1_fences_1 16 rfl rfl)
theorem dX1_fences_41 : decode cX1_fences 41 = .ok (.invokevirtual 211, 3) := dk_182 0 211 (dk_at dksX1_fences_1 17 rfl rfl)
theorem dX1_fences_44 : decode cX1_fences 44 = .ok (.return_, 1) := dk_177 (dk_at dksX1_fences_1 20 rfl rfl)
abbrev cX1_boils : ByteArray := prog_5_method_16_code
def yX1_boils : MethodName := ⟨RX1, "boils", "(II)I"⟩
def dkwX1_boils_4 : List UInt8 := [100, 184, 0, 186, 181, 0, 215, 42, 6, 27, 28, 29, 100, 182, 0, 211, 28, 29, 100, 172]
abbrev dktX1_boils_4 : List UInt8 := dkwX1_boils_4 ++ []
def dkwX1_boils_3 : List UInt8 := [167, 255, 189, 42, 180, 0, 11, 27, 50, 17, 3, 231, 42, 180, 0, 11, 27, 50, 180, 0, 215, 28, 96, 29]
abbrev dktX1_boils_3 : List UInt8 := dkwX1_boils_3 ++ dktX1_boils_4
def dkwX1_boils_2 : List UInt8 := [180, 0, 19, 21, 4, 50, 89, 180, 0, 145, 21, 5, 100, 181, 0, 145, 29, 21, 5, 100, 62, 132, 4, 1]
abbrev dktX1_boils_2 : List UInt8 := dkwX1_boils_2 ++ dktX1_boils_3
def dkwX1_boils_1 : List UInt8 := [27, 159, 0, 6, 167, 0, 41, 29, 42, 180, 0, 19, 21, 4, 50, 180, 0, 145, 184, 0, 186, 54, 5, 42]
abbrev dktX1_boils_1 : List UInt8 := dkwX1_boils_1 ++ dktX1_boils_2
def dkwX1_boils_0 : List UInt8 := [28, 62, 3, 54, 4, 21, 4, 42, 180, 0, 74, 162, 0, 64, 42, 180, 0, 19, 21, 4, 50, 180, 0, 195]
abbrev dktX1_boils_0 : List UInt8 := dkwX1_boils_0 ++ dktX1_boils_1
theorem dksX1_boils_0 : cX1_boils.data.toList.drop 0 = dktX1_boils_0 := by decide +kernel
theorem dksX1_boils_1 : cX1_boils.data.toList.drop 24 = dktX1_boils_1 := dk_seg dksX1_boils_0 24 rfl rfl
theorem dksX1_boils_2 : cX1_boils.data.toList.drop 48 = dktX1_boils_2 := dk_seg dksX1_boils_1 24 rfl rfl
theorem dksX1_boils_3 : cX1_boils.data.toList.drop 72 = dktX1_boils_3 := dk_seg dksX1_boils_2 24 rfl rfl
theorem dksX1_boils_4 : cX1_boils.data.toList.drop 96 = dktX1_boils_4 := dk_seg dksX1_boils_3 24 rfl rfl
theorem dX1_boils_0 : decode cX1_boils 0 = .ok (.iload_n 2, 1) := dk_28 (dk_at dksX1_boils_0 0 rfl rfl)
theorem dX1_boils_1 : decode cX1_boils 1 = .ok (.istore_n 3, 1) := dk_62 (dk_at dksX1_boils_0 1 rfl rfl)
theorem dX1_boils_2 : decode cX1_boils 2 = .ok (.iconst 0, 1) := dk_3 (dk_at dksX1_boils_0 2 rfl rfl)
theorem dX1_boils_3 : decode cX1_boils 3 = .ok (.istore 4, 2) := dk_54 4 (dk_at dksX1_boils_0 3 rfl rfl)
theorem dX1_boils_5 : decode cX1_boils 5 = .ok (.iload 4, 2) := dk_21 4 (dk_at dksX1_boils_0 5 rfl rfl)
theorem dX1_boils_7 : decode cX1_boils 7 = .ok (.aload_n 0, 1) := dk_42 (dk_at dksX1_boils_0 7 rfl rfl)
theorem dX1_boils_8 : decode cX1_boils 8 = .ok (.getfield 74, 3) := dk_180 0 74 (dk_at dksX1_boils_0 8 rfl rfl)
theorem dX1_boils_11 : decode cX1_boils 11 = .ok (.if_icmp .ge 64, 3) := dk_162 0 64 (dk_at dksX1_boils_0 11 rfl rfl)
theorem dX1_boils_14 : decode cX1_boils 14 = .ok (.aload_n 0, 1) := dk_42 (dk_at dksX1_boils_0 14 rfl rfl)
theorem dX1_boils_15 : decode cX1_boils 15 = .ok (.getfield 19, 3) := dk_180 0 19 (dk_at dksX1_boils_0 15 rfl rfl)
theorem dX1_boils_18 : decode cX1_boils 18 = .ok (.iload 4, 2) := dk_21 4 (dk_at dksX1_boils_0 18 rfl rfl)
theorem dX1_boils_20 : decode cX1_boils 20 = .ok (.aaload, 1) := dk_50 (dk_at dksX1_boils_0 20 rfl rfl)
theorem dX1_boils_21 : decode cX1_boils 21 = .ok (.getfield 195, 3) := dk_180 0 195 (dk_at dksX1_boils_0 21 rfl rfl)
theorem dX1_boils_24 : decode cX1_boils 24 = .ok (.iload_n 1, 1) := dk_27 (dk_at dksX1_boils_1 0 rfl rfl)
theorem dX1_boils_25 : decode cX1_boils 25 = .ok (.if_icmp .eq 6, 3) := dk_159 0 6 (dk_at dksX1_boils_1 1 rfl rfl)
theorem dX1_boils_28 : decode cX1_boils 28 = .ok (.goto 41, 3) := dk_167 0 41 (dk_at dksX1_boils_1 4 rfl rfl)
theorem dX1_boils_31 : decode cX1_boils 31 = .ok (.iload_n 3, 1) := dk_29 (dk_at dksX1_boils_1 7 rfl rfl)
theorem dX1_boils_32 : decode cX1_boils 32 = .ok (.aload_n 0, 1) := dk_42 (dk_at dksX1_boils_1 8 rfl rfl)
theorem dX1_boils_33 : decode cX1_boils 33 = .ok (.getfield 19, 3) := dk_180 0 19 (dk_at dksX1_boils_1 9 rfl rfl)
theorem dX1_boils_36 : decode cX1_boils 36 = .ok (.iload 4, 2) := dk_21 4 (dk_at dksX1_boils_1 12 rfl rfl)
theorem dX1_boils_38 : decode cX1_boils 38 = .ok (.aaload, 1) := dk_50 (dk_at dksX1_boils_1 14 rfl rfl)
theorem dX1_boils_39 : decode cX1_boils 39 = .ok (.getfield 145, 3) := dk_180 0 145 (dk_at dksX1_boils_1 15 rfl rfl)
theorem dX1_boils_42 : decode cX1_boils 42 = .ok (.invokestatic 186, 3) := dk_184 0 186 (dk_at dksX1_boils_1 18 rfl rfl)
theorem dX1_boils_45 : decode cX1_boils 45 = .ok (.istore 5, 2) := dk_54 5 (dk_at dksX1_boils_1 21 rfl rfl)
theorem dX1_boils_47 : decode cX1_boils 47 = .ok (.aload_n 0, 1) := dk_42 (dk_at dksX1_boils_1 23 rfl rfl)
theorem dX1_boils_48 : decode cX1_boils 48 = .ok (.getfield 19, 3) := dk_180 0 19 (dk_at dksX1_boils_2 0 rfl rfl)
theorem dX1_boils_51 : decode cX1_boils 51 = .ok (.iload 4, 2) := dk_21 4 (dk_at dksX1_boils_2 3 rfl rfl)
theorem dX1_boils_53 : decode cX1_boils 53 = .ok (.aaload, 1) := dk_50 (dk_at dksX1_boils_2 5 rfl rfl)
theorem dX1_boils_54 : decode cX1_boils 54 = .ok (.dup, 1) := dk_89 (dk_at dksX1_boils_2 6 rfl rfl)
theorem dX1_boils_55 : decode cX1_boils 55 = .ok (.getfield 145, 3) := dk_180 0 145 (dk_at dksX1_boils_2 7 rfl rfl)
theorem dX1_boils_58 : decode cX1_boils 58 = .ok (.iload 5, 2) := dk_21 5 (dk_at dksX1_boils_2 10 rfl rfl)
theorem dX1_boils_60 : decode cX1_boils 60 = .ok (.isub, 1) := dk_100 (dk_at dksX1_boils_2 12 rfl rfl)
theorem dX1_boils_61 : decode cX1_boils 61 = .ok (.putfield 145, 3) := dk_181 0 145 (dk_at dksX1_boils_2 13 rfl rfl)
theorem dX1_boils_64 : decode cX1_boils 64 = .ok (.iload_n 3, 1) := dk_29 (dk_at dksX1_boils_2 16 rfl rfl)
theorem dX1_boils_65 : decode cX1_boils 65 = .ok (.iload 5, 2) := dk_21 5 (dk_at dksX1_boils_2 17 rfl rfl)
theorem dX1_boils_67 : decode cX1_boils 67 = .ok (.isub, 1) := dk_100 (dk_at dksX1_boils_2 19 rfl rfl)
theorem dX1_boils_68 : decode cX1_boils 68 = .ok (.istore_n 3, 1) := dk_62 (dk_at dksX1_boils_2 20 rfl rfl)
theorem dX1_boils_69 : decode cX1_boils 69 = .ok (.iinc 4 1, 3) := dk_132 4 1 (dk_at dksX1_boils_2 21 rfl rfl)
theorem dX1_boils_72 : decode cX1_boils 72 = .ok (.goto (-67), 3) := dk_167 255 189 (dk_at dksX1_boils_3 0 rfl rfl)
theorem dX1_boils_75 : decode cX1_boils 75 = .ok (.aload_n 0, 1) := dk_42 (dk_at dksX1_boils_3 3 rfl rfl)
theorem dX1_boils_76 : decode cX1_boils 76 = .ok (.getfield 11, 3) := dk_180 0 11 (dk_at dksX1_boils_3 4 rfl rfl)
theorem dX1_boils_79 : decode cX1_boils 79 = .ok (.iload_n 1, 1) := dk_27 (dk_at dksX1_boils_3 7 rfl rfl)
theorem dX1_boils_80 : decode cX1_boils 80 = .ok (.aaload, 1) := dk_50 (dk_at dksX1_boils_3 8 rfl rfl)
theorem dX1_boils_81 : decode cX1_boils 81 = .ok (.sipush 999, 3) := dk_17 3 231 (dk_at dksX1_boils_3 9 rfl rfl)
theorem dX1_boils_84 : decode cX1_boils 84 = .ok (.aload_n 0, 1) := dk_42 (dk_at dksX1_boils_3 12 rfl rfl)
theorem dX1_boils_85 : decode cX1_boils 85 = .ok (.getfield 11, 3) := dk_180 0 11 (dk_at dksX1_boils_3 13 rfl rfl)
theorem dX1_boils_88 : decode cX1_boils 88 = .ok (.iload_n 1, 1) := dk_27 (dk_at dksX1_boils_3 16 rfl rfl)
theorem dX1_boils_89 : decode cX1_boils 89 = .ok (.aaload, 1) := dk_50 (dk_at dksX1_boils_3 17 rfl rfl)
theorem dX1_boils_90 : decode cX1_boils 90 = .ok (.getfield 215, 3) := dk_180 0 215 (dk_at dksX1_boils_3 18 rfl rfl)
theorem dX1_boils_93 : decode cX1_boils 93 = .ok (.iload_n 2, 1) := dk_28 (dk_at dksX1_boils_3 21 rfl rfl)
theorem dX1_boils_94 : decode cX1_boils 94 = .ok (.iadd, 1) := dk_96 (dk_at dksX1_boils_3 22 rfl rfl)
theorem dX1_boils_95 : decode cX1_boils 95 = .ok (.iload_n 3, 1) := dk_29 (dk_at dksX1_boils_3 23 rfl rfl)
theorem dX1_boils_96 : decode cX1_boils 96 = .ok (.isub, 1) := dk_100 (dk_at dksX1_boils_4 0 rfl rfl)
theorem dX1_boils_97 : decode cX1_boils 97 = .ok (.invokestatic 186, 3) := dk_184 0 186 (dk_at dksX1_boils_4 1 rfl rfl)
theorem dX1_boils_100 : decode cX1_boils 100 = .ok (.putfield 215, 3) := dk_181 0 215 (dk_at dksX1_boils_4 4 rfl rfl)
theorem dX1_boils_103 : decode cX1_boils 103 = .ok (.aload_n 0, 1) := dk_42 (dk_at dksX1_boils_4 7 rfl rfl)
theorem dX1_boils_104 : decode cX1_boils 104 = .ok (.iconst 3, 1) := dk_6 (dk_at dksX1_boils_4 8 rfl rfl)
theorem dX1_boils_105 : decode cX1_boils 105 = .ok (.iload_n 1, 1) := dk_27 (dk_at dksX1_boils_4 9 rfl rfl)
theorem dX1_boils_106 : decode cX1_boils 106 = .ok (.iload_n 2, 1) := dk_28 (dk_at dksX1_boils_4 10 rfl rfl)
theorem dX1_boils_107 : decode cX1_boils 107 = .ok (.iload_n 3, 1) := dk_29 (dk_at dksX1_boils_4 11 rfl rfl)
theorem dX1_boils_108 : decode cX1_boils 108 = .ok (.isub, 1) := dk_100 (dk_at dksX1_boils_4 12 rfl rfl)
theorem dX1_boils_109 : decode cX1_boils 109 = .ok (.invokevirtual 211, 3) := dk_182 0 211 (dk_at dksX1_boils_4 13 rfl rfl)
theorem dX1_boils_112 : decode cX1_boils 112 = .ok (.iload_n 2, 1) := dk_28 (dk_at dksX1_boils_4 16 rfl rfl)
theorem dX1_boils_113 : decode cX1_boils 113 = .ok (.iload_n 3, 1) := dk_29 (dk_at dksX1_boils_4 17 rfl rfl)
theorem dX1_boils_114 : decode cX1_boils 114 = .ok (.isub, 1) := dk_100 (dk_at dksX1_boils_4 18 rfl rfl)
theorem dX1_boils_115 : decode cX1_boils 115 = .ok (.ireturn, 1) := dk_172 (dk_at dksX1_boils_4 19 rfl rfl)
abbrev cX1_passes : ByteArray := prog_5_method_28_code
def yX1_passes : MethodName := ⟨RX1, "passes", "()I"⟩
def dkwX1_passes_8 : List UInt8 := [180, 0, 19, 28, 50, 180, 0, 142, 4, 96, 184, 0, 186, 181, 0, 142, 132, 2, 1, 167, 255, 210, 27, 172]
abbrev dktX1_passes_8 : List UInt8 := dkwX1_passes_8 ++ []
def dkwX1_passes_7 : List UInt8 := [162, 0, 44, 42, 180, 0, 86, 16, 52, 112, 154, 0, 34, 42, 180, 0, 19, 28, 50, 16, 99, 42]
abbrev dktX1_passes_7 : List UInt8 := dkwX1_passes_7 ++ dktX1_passes_8
def dkwX1_passes_6 : List UInt8 := [182, 1, 25, 42, 182, 1, 28, 42, 89, 180, 0, 86, 4, 96, 181, 0, 86, 3, 61, 28, 42, 180, 0, 74]
abbrev dktX1_passes_6 : List UInt8 := dkwX1_passes_6 ++ dktX1_passes_7
def dkwX1_passes_5 : List UInt8 := [27, 42, 28, 182, 1, 22, 153, 0, 7, 4, 167, 0, 4, 3, 96, 60, 132, 2, 1, 167, 255, 229, 42]
abbrev dktX1_passes_5 : List UInt8 := dkwX1_passes_5 ++ dktX1_passes_6
def dkwX1_passes_4 : List UInt8 := [184, 0, 186, 181, 0, 145, 132, 1, 1, 167, 255, 211, 3, 60, 3, 61, 28, 42, 180, 0, 102, 162, 0, 25]
abbrev dktX1_passes_4 : List UInt8 := dkwX1_passes_4 ++ dktX1_passes_5
def dkwX1_passes_3 : List UInt8 := [50, 16, 99, 42, 180, 0, 19, 27, 50, 180, 0, 145, 42, 42, 180, 0, 19, 27, 50, 182, 1, 18, 96]
abbrev dktX1_passes_3 : List UInt8 := dkwX1_passes_3 ++ dktX1_passes_4
def dkwX1_passes_2 : List UInt8 := [182, 1, 15, 132, 1, 1, 167, 255, 206, 3, 60, 27, 42, 180, 0, 74, 162, 0, 43, 42, 180, 0, 19, 27]
abbrev dktX1_passes_2 : List UInt8 := dkwX1_passes_2 ++ dktX1_passes_3
def dkwX1_passes_1 : List UInt8 := [42, 180, 0, 86, 182, 1, 12, 153, 0, 18, 42, 180, 0, 57, 27, 182, 0, 164, 192, 1, 10, 42]
abbrev dktX1_passes_1 : List UInt8 := dkwX1_passes_1 ++ dktX1_passes_2
def dkwX1_passes_0 : List UInt8 := [3, 60, 27, 42, 180, 0, 57, 182, 0, 160, 162, 0, 45, 42, 180, 0, 57, 27, 182, 0, 164, 192, 1, 10]
abbrev dktX1_passes_0 : List UInt8 := dkwX1_passes_0 ++ dktX1_passes_1
theorem dksX1_passes_0 : cX1_passes.data.toList.drop 0 = dktX1_passes_0 := by decide +kernel
theorem dksX1_passes_1 : cX1_passes.data.toList.drop 24 = dktX1_passes_1 := dk_seg dksX1_passes_0 24 rfl rfl
theorem dksX1_passes_2 : cX1_passes.data.toList.drop 46 = dktX1_passes_2 := dk_seg dksX1_passes_1 22 rfl rfl
theorem dksX1_passes_3 : cX1_passes.data.toList.drop 70 = dktX1_passes_3 := dk_seg dksX1_passes_2 24 rfl rfl
theorem dksX1_passes_4 : cX1_passes.data.toList.drop 93 = dktX1_passes_4 := dk_seg dksX1_passes_3 23 rfl rfl
theorem dksX1_passes_5 : cX1_passes.data.toList.drop 117 = dktX1_passes_5 := dk_seg dksX1_passes_4 24 rfl rfl
theorem dksX1_passes_6 : cX1_passes.data.toList.drop 140 = dktX1_passes_6 := dk_seg dksX1_passes_5 23 rfl rfl
theorem dksX1_passes_7 : cX1_passes.data.toList.drop 164 = dktX1_passes_7 := dk_seg dksX1_passes_6 24 rfl rfl
theorem dksX1_passes_8 : cX1_passes.data.toList.drop 186 = dktX1_passes_8 := dk_seg dksX1_passes_7 22 rfl rfl
theorem dX1_passes_0 : decode cX1_passes 0 = .ok (.iconst 0, 1) := dk_3 (dk_at dksX1_passes_0 0 rfl rfl)
theorem dX1_passes_1 : decode cX1_passes 1 = .ok (.istore_n 1, 1) := dk_60 (dk_at dksX1_passes_0 1 rfl rfl)
theorem dX1_passes_2 : decode cX1_passes 2 = .ok (.iload_n 1, 1) := dk_27 (dk_at dksX1_passes_0 2 rfl rfl)
theorem dX1_passes_3 : decode cX1_passes 3 = .ok (.aload_n 0, 1) := dk_42 (dk_at dksX1_passes_0 3 rfl rfl)
theorem dX1_passes_4 : decode cX1_passes 4 = .ok (.getfield 57, 3) := dk_180 0 57 (dk_at dksX1_passes_0 4 rfl rfl)
theorem dX1_passes_7 : decode cX1_passes 7 = .ok (.invokevirtual 160, 3) := dk_182 0 160 (dk_at dksX1_passes_0 7 rfl rfl)
theorem dX1_passes_10 : decode cX1_passes 10 = .ok (.if_icmp .ge 45, 3) := dk_162 0 45 (dk_at dksX1_passes_0 10 rfl rfl)
theorem dX1_passes_13 : decode cX1_passes 13 = .ok (.aload_n 0, 1) := dk_42 (dk_at dksX1_passes_0 13 rfl rfl)
theorem dX1_passes_14 : decode cX1_passes 14 = .ok (.getfield 57, 3) := dk_180 0 57 (dk_at dksX1_passes_0 14 rfl rfl)
theorem dX1_passes_17 : decode cX1_passes 17 = .ok (.iload_n 1, 1) := dk_27 (dk_at dksX1_passes_0 17 rfl rfl)
theorem dX1_passes_18 : decode cX1_passes 18 = .ok (.invokevirtual 164, 3) := dk_182 0 164 (dk_at dksX1_passes_0 18 rfl rfl)
theorem dX1_passes_21 : decode cX1_passes 21 = .ok (.checkcast 266, 3) := dk_192 1 10 (dk_at dksX1_passes_0 21 rfl rfl)
theorem dX1_passes_24 : decode cX1_passes 24 = .ok (.aload_n 0, 1) := dk_42 (dk_at dksX1_passes_1 0 rfl rfl)
theorem dX1_passes_25 : decode cX1_passes 25 = .ok (.getfield 86, 3) := dk_180 0 86 (dk_at dksX1_passes_1 1 rfl rfl)
theorem dX1_passes_28 : decode cX1_passes 28 = .ok (.invokevirtual 268, 3) := dk_182 1 12 (dk_at dksX1_passes_1 4 rfl rfl)
theorem dX1_passes_31 : decode cX1_passes 31 = .ok (.ifCond .eq 18, 3) := dk_153 0 18 (dk_at dksX1_passes_1 7 rfl rfl)
theorem dX1_passes_34 : decode cX1_passes 34 = .ok (.aload_n 0, 1) := dk_42 (dk_at dksX1_passes_1 10 rfl rfl)
theorem dX1_passes_35 : decode cX1_passes 35 = .ok (.getfield 57, 3) := dk_180 0 57 (dk_at dksX1_passes_1 11 rfl rfl)
theorem dX1_passes_38 : decode cX1_passes 38 = .ok (.iload_n 1, 1) := dk_27 (dk_at dksX1_passes_1 14 rfl rfl)
theorem dX1_passes_39 : decode cX1_passes 39 = .ok (.invokevirtual 164, 3) := dk_182 0 164 (dk_at dksX1_passes_1 15 rfl rfl)
theorem dX1_passes_42 : decode cX1_passes 42 = .ok (.checkcast 266, 3) := dk_192 1 10 (dk_at dksX1_passes_1 18 rfl rfl)
theorem dX1_passes_45 : decode cX1_passes 45 = .ok (.aload_n 0, 1) := dk_42 (dk_at dksX1_passes_1 21 rfl rfl)
theorem dX1_passes_46 : decode cX1_passes 46 = .ok (.invokevirtual 271, 3) := dk_182 1 15 (dk_at dksX1_passes_2 0 rfl rfl)
theorem dX1_passes_49 : decode cX1_passes 49 = .ok (.iinc 1 1, 3) := dk_132 1 1 (dk_at dksX1_passes_2 3 rfl rfl)
theorem dX1_passes_52 : decode cX1_passes 52 = .ok (.goto (-50), 3) := dk_167 255 206 (dk_at dksX1_passes_2 6 rfl rfl)
theorem dX1_passes_55 : decode cX1_passes 55 = .ok (.iconst 0, 1) := dk_3 (dk_at dksX1_passes_2 9 rfl rfl)
theorem dX1_passes_56 : decode cX1_passes 56 = .ok (.istore_n 1, 1) := dk_60 (dk_at dksX1_passes_2 10 rfl rfl)
theorem dX1_passes_57 : decode cX1_passes 57 = .ok (.iload_n 1, 1) := dk_27 (dk_at dksX1_passes_2 11 rfl rfl)
theorem dX1_passes_58 : decode cX1_passes 58 = .ok (.aload_n 0, 1) := dk_42 (dk_at dksX1_passes_2 12 rfl rfl)
theorem dX1_passes_59 : decode cX1_passes 59 = .ok (.getfield 74, 3) := dk_180 0 74 (dk_at dksX1_passes_2 13 rfl rfl)
theorem dX1_passes_62 : decode cX1_passes 62 = .ok (.if_icmp .ge 43, 3) := dk_162 0 43 (dk_at dksX1_passes_2 16 rfl rfl)
theorem dX1_passes_65 : decode cX1_passes 65 = .ok (.aload_n 0, 1) := dk_42 (dk_at dksX1_passes_2 19 rfl rfl)
theorem dX1_passes_66 : decode cX1_passes 66 = .ok (.getfield 19, 3) := dk_180 0 19 (dk_at dksX1_passes_2 20 rfl rfl)
theorem dX1_passes_69 : decode cX1_passes 69 = .ok (.iload_n 1, 1) := dk_27 (dk_at dksX1_passes_2 23 rfl rfl)
theorem dX1_passes_70 : decode cX1_passes 70 = .ok (.aaload, 1) := dk_50 (dk_at dksX1_passes_3 0 rfl rfl)
theorem dX1_passes_71 : decode cX1_passes 71 = .ok (.bipush 99, 2) := dk_16 99 (dk_at dksX1_passes_3 1 rfl rfl)
theorem dX1_passes_73 : decode cX1_passes 73 = .ok (.aload_n 0, 1) := dk_42 (dk_at dksX1_passes_3 3 rfl rfl)
theorem dX1_passes_74 : decode cX1_passes 74 = .ok (.getfield 19, 3) := dk_180 0 19 (dk_at dksX1_passes_3 4 rfl rfl)
theorem dX1_passes_77 : decode cX1_passes 77 = .ok (.iload_n 1, 1) := dk_27 (dk_at dksX1_passes_3 7 rfl rfl)
theorem dX1_passes_78 : decode cX1_passes 78 = .ok (.aaload, 1) := dk_50 (dk_at dksX1_passes_3 8 rfl rfl)
theorem dX1_passes_79 : decode cX1_passes 79 = .ok (.getfield 145, 3) := dk_180 0 145 (dk_at dksX1_passes_3 9 rfl rfl)
theorem dX1_passes_82 : decode cX1_passes 82 = .ok (.aload_n 0, 1) := dk_42 (dk_at dksX1_passes_3 12 rfl rfl)
theorem dX1_passes_83 : decode cX1_passes 83 = .ok (.aload_n 0, 1) := dk_42 (dk_at dksX1_passes_3 13 rfl rfl)
theorem dX1_passes_84 : decode cX1_passes 84 = .ok (.getfield 19, 3) := dk_180 0 19 (dk_at dksX1_passes_3 14 rfl rfl)
theorem dX1_passes_87 : decode cX1_passes 87 = .ok (.iload_n 1, 1) := dk_27 (dk_at dksX1_passes_3 17 rfl rfl)
theorem dX1_passes_88 : decode cX1_passes 88 = .ok (.aaload, 1) := dk_50 (dk_at dksX1_passes_3 18 rfl rfl)
theorem dX1_passes_89 : decode cX1_passes 89 = .ok (.invokevirtual 274, 3) := dk_182 1 18 (dk_at dksX1_passes_3 19 rfl rfl)
theorem dX1_passes_92 : decode cX1_passes 92 = .ok (.iadd, 1) := dk_96 (dk_at dksX1_passes_3 22 rfl rfl)
theorem dX1_passes_93 : decode cX1_passes 93 = .ok (.invokestatic 186, 3) := dk_184 0 186 (dk_at dksX1_passes_4 0 rfl rfl)
theorem dX1_passes_96 : decode cX1_passes 96 = .ok (.putfield 145, 3) := dk_181 0 145 (dk_at dksX1_passes_4 3 rfl rfl)
theorem dX1_passes_99 : decode cX1_passes 99 = .ok (.iinc 1 1, 3) := dk_132 1 1 (dk_at dksX1_passes_4 6 rfl rfl)
theorem dX1_passes_102 : decode cX1_passes 102 = .ok (.goto (-45), 3) := dk_167 255 211 (dk_at dksX1_passes_4 9 rfl rfl)
theorem dX1_passes_105 : decode cX1_passes 105 = .ok (.iconst 0, 1) := dk_3 (dk_at dksX1_passes_4 12 rfl rfl)
theorem dX1_passes_106 : decode cX1_passes 106 = .ok (.istore_n 1, 1) := dk_60 (dk_at dksX1_passes_4 13 rfl rfl)
theorem dX1_passes_107 : decode cX1_passes 107 = .ok (.iconst 0, 1) := dk_3 (dk_at dksX1_passes_4 14 rfl rfl)
theorem dX1_passes_108 : decode cX1_passes 108 = .ok (.istore_n 2, 1) := dk_61 (dk_at dksX1_passes_4 15 rfl rfl)
theorem dX1_passes_109 : decode cX1_passes 109 = .ok (.iload_n 2, 1) := dk_28 (dk_at dksX1_passes_4 16 rfl rfl)
theorem dX1_passes_110 : decode cX1_passes 110 = .ok (.aload_n 0, 1) := dk_42 (dk_at dksX1_passes_4 17 rfl rfl)
theorem dX1_passes_111 : decode cX1_passes 111 = .ok (.getfield 102, 3) := dk_180 0 102 (dk_at dksX1_passes_4 18 rfl rfl)
theorem dX1_passes_114 : decode cX1_passes 114 = .ok (.if_icmp .ge 25, 3) := dk_162 0 25 (dk_at dksX1_passes_4 21 rfl rfl)
theorem dX1_passes_117 : decode cX1_passes 117 = .ok (.iload_n 1, 1) := dk_27 (dk_at dksX1_passes_5 0 rfl rfl)
theorem dX1_passes_118 : decode cX1_passes 118 = .ok (.aload_n 0, 1) := dk_42 (dk_at dksX1_passes_5 1 rfl rfl)
theorem dX1_passes_119 : decode cX1_passes 119 = .ok (.iload_n 2, 1) := dk_28 (dk_at dksX1_passes_5 2 rfl rfl)
theorem dX1_passes_120 : decode cX1_passes 120 = .ok (.invokevirtual 278, 3) := dk_182 1 22 (dk_at dksX1_passes_5 3 rfl rfl)
theorem dX1_passes_123 : decode cX1_passes 123 = .ok (.ifCond .eq 7, 3) := dk_153 0 7 (dk_at dksX1_passes_5 6 rfl rfl)
theorem dX1_passes_126 : decode cX1_passes 126 = .ok (.iconst 1, 1) := dk_4 (dk_at dksX1_passes_5 9 rfl rfl)
theorem dX1_passes_127 : decode cX1_passes 127 = .ok (.goto 4, 3) := dk_167 0 4 (dk_at dksX1_passes_5 10 rfl rfl)
theorem dX1_passes_130 : decode cX1_passes 130 = .ok (.iconst 0, 1) := dk_3 (dk_at dksX1_passes_5 13 rfl rfl)
theorem dX1_passes_131 : decode cX1_passes 131 = .ok (.iadd, 1) := dk_96 (dk_at dksX1_passes_5 14 rfl rfl)
theorem dX1_passes_132 : decode cX1_passes 132 = .ok (.istore_n 1, 1) := dk_60 (dk_at dksX1_passes_5 15 rfl rfl)
theorem dX1_passes_133 : decode cX1_passes 133 = .ok (.iinc 2 1, 3) := dk_132 2 1 (dk_at dksX1_passes_5 16 rfl rfl)
theorem dX1_passes_136 : decode cX1_passes 136 = .ok (.goto (-27), 3) := dk_167 255 229 (dk_at dksX1_passes_5 19 rfl rfl)
theorem dX1_passes_139 : decode cX1_passes 139 = .ok (.aload_n 0, 1) := dk_42 (dk_at dksX1_passes_5 22 rfl rfl)
theorem dX1_passes_140 : decode cX1_passes 140 = .ok (.invokevirtual 281, 3) := dk_182 1 25 (dk_at dksX1_passes_6 0 rfl rfl)
theorem dX1_passes_143 : decode cX1_passes 143 = .ok (.aload_n 0, 1) := dk_42 (dk_at dksX1_passes_6 3 rfl rfl)
theorem dX1_passes_144 : decode cX1_passes 144 = .ok (.invokevirtual 284, 3) := dk_182 1 28 (dk_at dksX1_passes_6 4 rfl rfl)
theorem dX1_passes_147 : decode cX1_passes 147 = .ok (.aload_n 0, 1) := dk_42 (dk_at dksX1_passes_6 7 rfl rfl)
theorem dX1_passes_148 : decode cX1_passes 148 = .ok (.dup, 1) := dk_89 (dk_at dksX1_passes_6 8 rfl rfl)
theorem dX1_passes_149 : decode cX1_passes 149 = .ok (.getfield 86, 3) := dk_180 0 86 (dk_at dksX1_passes_6 9 rfl rfl)
theorem dX1_passes_152 : decode cX1_passes 152 = .ok (.iconst 1, 1) := dk_4 (dk_at dksX1_passes_6 12 rfl rfl)
theorem dX1_passes_153 : decode cX1_passes 153 = .ok (.iadd, 1) := dk_96 (dk_at dksX1_passes_6 13 rfl rfl)
theorem dX1_passes_154 : decode cX1_passes 154 = .ok (.putfield 86, 3) := dk_181 0 86 (dk_at dksX1_passes_6 14 rfl rfl)
theorem dX1_passes_157 : decode cX1_passes 157 = .ok (.iconst 0, 1) := dk_3 (dk_at dksX1_passes_6 17 rfl rfl)
theorem dX1_passes_158 : decode cX1_passes 158 = .ok (.istore_n 2, 1) := dk_61 (dk_at dksX1_passes_6 18 rfl rfl)
theorem dX1_passes_159 : decode cX1_passes 159 = .ok (.iload_n 2, 1) := dk_28 (dk_at dksX1_passes_6 19 rfl rfl)
theorem dX1_passes_160 : decode cX1_passes 160 = .ok (.aload_n 0, 1) := dk_42 (dk_at dksX1_passes_6 20 rfl rfl)
theorem dX1_passes_161 : decode cX1_passes 161 = .ok (.getfield 74, 3) := dk_180 0 74 (dk_at dksX1_passes_6 21 rfl rfl)
theorem dX1_passes_164 : decode cX1_passes 164 = .ok (.if_icmp .ge 44, 3) := dk_162 0 44 (dk_at dksX1_passes_7 0 rfl rfl)
theorem dX1_passes_167 : decode cX1_passes 167 = .ok (.aload_n 0, 1) := dk_42 (dk_at dksX1_passes_7 3 rfl rfl)
theorem dX1_passes_168 : decode cX1_passes 168 = .ok (.getfield 86, 3) := dk_180 0 86 (dk_at dksX1_passes_7 4 rfl rfl)
theorem dX1_passes_171 : decode cX1_passes 171 = .ok (.bipush 52, 2) := dk_16 52 (dk_at dksX1_passes_7 7 rfl rfl)
theorem dX1_passes_173 : decode cX1_passes 173 = .ok (.irem, 1) := dk_112 (dk_at dksX1_passes_7 9 rfl rfl)
theorem dX1_passes_174 : decode cX1_passes 174 = .ok (.ifCond .ne 34, 3) := dk_154 0 34 (dk_at dksX1_passes_7 10 rfl rfl)
theorem dX1_passes_177 : decode cX1_passes 177 = .ok (.aload_n 0, 1) := dk_42 (dk_at dksX1_passes_7 13 rfl rfl)
theorem dX1_passes_178 : decode cX1_passes 178 = .ok (.getfield 19, 3) := dk_180 0 19 (dk_at dksX1_passes_7 14 rfl rfl)
theorem dX1_passes_181 : decode cX1_passes 181 = .ok (.iload_n 2, 1) := dk_28 (dk_at dksX1_passes_7 17 rfl rfl)
theorem dX1_passes_182 : decode cX1_passes 182 = .ok (.aaload, 1) := dk_50 (dk_at dksX1_passes_7 18 rfl rfl)
theorem dX1_passes_183 : decode cX1_passes 183 = .ok (.bipush 99, 2) := dk_16 99 (dk_at dksX1_passes_7 19 rfl rfl)
theorem dX1_passes_185 : decode cX1_passes 185 = .ok (.aload_n 0, 1) := dk_42 (dk_at dksX1_passes_7 21 rfl rfl)
theorem dX1_passes_186 : decode cX1_passes 186 = .ok (.getfield 19, 3) := dk_180 0 19 (dk_at dksX1_passes_8 0 rfl rfl)
theorem dX1_passes_189 : decode cX1_passes 189 = .ok (.iload_n 2, 1) := dk_28 (dk_at dksX1_passes_8 3 rfl rfl)
theorem dX1_passes_190 : decode cX1_passes 190 = .ok (.aaload, 1) := dk_50 (dk_at dksX1_passes_8 4 rfl rfl)
theorem dX1_passes_191 : decode cX1_passes 191 = .ok (.getfield 142, 3) := dk_180 0 142 (dk_at dksX1_passes_8 5 rfl rfl)
theorem dX1_passes_194 : decode cX1_passes 194 = .ok (.iconst 1, 1) := dk_4 (dk_at dksX1_passes_8 8 rfl rfl)
theorem dX1_passes_195 : decode cX1_passes 195 = .ok (.iadd, 1) := dk_96 (dk_at dksX1_passes_8 9 rfl rfl)
theorem dX1_passes_196 : decode cX1_passes 196 = .ok (.invokestatic 186, 3) := dk_184 0 186 (dk_at dksX1_passes_8 10 rfl rfl)
theorem dX1_passes_199 : decode cX1_passes 199 = .ok (.putfield 142, 3) := dk_181 0 142 (dk_at dksX1_passes_8 13 rfl rfl)
theorem dX1_passes_202 : decode cX1_passes 202 = .ok (.iinc 2 1, 3) := dk_132 2 1 (dk_at dksX1_passes_8 16 rfl rfl)
theorem dX1_passes_205 : decode cX1_passes 205 = .ok (.goto (-46), 3) := dk_167 255 210 (dk_at dksX1_passes_8 19 rfl rfl)
theorem dX1_passes_208 : decode cX1_passes 208 = .ok (.iload_n 1, 1) := dk_27 (dk_at dksX1_passes_8 22 rfl rfl)
theorem dX1_passes_209 : decode cX1_passes 209 = .ok (.ireturn, 1) := dk_172 (dk_at dksX1_passes_8 23 rfl rfl)
abbrev cX1_bear : ByteArray := prog_5_method_10_code
def yX1_bear : MethodName := ⟨RX1, "bear", "(LBallotFruit$Tree;)I"⟩
def dkwX1_bear_1 : List UInt8 := [182, 0, 201, 172]
abbrev dktX1_bear_1 : List UInt8 := dkwX1_bear_1 ++ []
def dkwX1_bear_0 : List UInt8 := [42, 43, 43, 180, 0, 195, 3, 3, 3, 182, 0, 197, 42, 16, 7, 43, 180, 0, 142, 8, 108, 16, 99]
abbrev dktX1_bear_0 : List UInt8 := dkwX1_bear_0 ++ dktX1_bear_1
theorem dksX1_bear_0 : cX1_bear.data.toList.drop 0 = dktX1_bear_0 := by decide +kernel
theorem dksX1_bear_1 : cX1_bear.data.toList.drop 23 = dktX1_bear_1 := dk_seg dksX1_bear_0 23 rfl rfl
theorem dX1_bear_0 : decode cX1_bear 0 = .ok (.aload_n 0, 1) := dk_42 (dk_at dksX1_bear_0 0 rfl rfl)
theorem dX1_bear_1 : decode cX1_bear 1 = .ok (.aload_n 1, 1) := dk_43 (dk_at dksX1_bear_0 1 rfl rfl)
theorem dX1_bear_2 : decode cX1_bear 2 = .ok (.aload_n 1, 1) := dk_43 (dk_at dksX1_bear_0 2 rfl rfl)
theorem dX1_bear_3 : decode cX1_bear 3 = .ok (.getfield 195, 3) := dk_180 0 195 (dk_at dksX1_bear_0 3 rfl rfl)
theorem dX1_bear_6 : decode cX1_bear 6 = .ok (.iconst 0, 1) := dk_3 (dk_at dksX1_bear_0 6 rfl rfl)
theorem dX1_bear_7 : decode cX1_bear 7 = .ok (.iconst 0, 1) := dk_3 (dk_at dksX1_bear_0 7 rfl rfl)
theorem dX1_bear_8 : decode cX1_bear 8 = .ok (.iconst 0, 1) := dk_3 (dk_at dksX1_bear_0 8 rfl rfl)
theorem dX1_bear_9 : decode cX1_bear 9 = .ok (.invokevirtual 197, 3) := dk_182 0 197 (dk_at dksX1_bear_0 9 rfl rfl)
theorem dX1_bear_12 : decode cX1_bear 12 = .ok (.aload_n 0, 1) := dk_42 (dk_at dksX1_bear_0 12 rfl rfl)
theorem dX1_bear_13 : decode cX1_bear 13 = .ok (.bipush 7, 2) := dk_16 7 (dk_at dksX1_bear_0 13 rfl rfl)
theorem dX1_bear_15 : decode cX1_bear 15 = .ok (.aload_n 1, 1) := dk_43 (dk_at dksX1_bear_0 15 rfl rfl)
theorem dX1_bear_16 : decode cX1_bear 16 = .ok (.getfield 142, 3) := dk_180 0 142 (dk_at dksX1_bear_0 16 rfl rfl)
theorem dX1_bear_19 : decode cX1_bear 19 = .ok (.iconst 5, 1) := dk_8 (dk_at dksX1_bear_0 19 rfl rfl)
theorem dX1_bear_20 : decode cX1_bear 20 = .ok (.idiv, 1) := dk_108 (dk_at dksX1_bear_0 20 rfl rfl)
theorem dX1_bear_21 : decode cX1_bear 21 = .ok (.bipush 99, 2) := dk_16 99 (dk_at dksX1_bear_0 21 rfl rfl)
theorem dX1_bear_23 : decode cX1_bear 23 = .ok (.invokevirtual 201, 3) := dk_182 0 201 (dk_at dksX1_bear_1 0 rfl rfl)
theorem dX1_bear_26 : decode cX1_bear 26 = .ok (.ireturn, 1) := dk_172 (dk_at dksX1_bear_1 3 rfl rfl)
abbrev cX1_asks : ByteArray := prog_5_method_9_code
def yX1_asks : MethodName := ⟨RX1, "asks", "(LBallotFruit$Tree;IIII)V"⟩
def dkwX1_asks_1 : List UInt8 := [181, 0, 154, 177]
abbrev dktX1_asks_1 : List UInt8 := dkwX1_asks_1 ++ []
def dkwX1_asks_0 : List UInt8 := [42, 43, 181, 0, 135, 42, 28, 181, 0, 132, 42, 29, 181, 0, 148, 42, 21, 4, 181, 0, 151, 42, 21, 5]
abbrev dktX1_asks_0 : List UInt8 := dkwX1_asks_0 ++ dktX1_asks_1
theorem dksX1_asks_0 : cX1_asks.data.toList.drop 0 = dktX1_asks_0 := by decide +kernel
theorem dksX1_asks_1 : cX1_asks.data.toList.drop 24 = dktX1_asks_1 := dk_seg dksX1_asks_0 24 rfl rfl
theorem dX1_asks_0 : decode cX1_asks 0 = .ok (.aload_n 0, 1) := dk_42 (dk_at dksX1_asks_0 0 rfl rfl)
theorem dX1_asks_1 : decode cX1_asks 1 = .ok (.aload_n 1, 1) := dk_43 (dk_at dksX1_asks_0 1 rfl rfl)
theorem dX1_asks_2 : decode cX1_asks 2 = .ok (.putfield 135, 3) := dk_181 0 135 (dk_at dksX1_asks_0 2 rfl rfl)
theorem dX1_asks_5 : decode cX1_asks 5 = .ok (.aload_n 0, 1) := dk_42 (dk_at dksX1_asks_0 5 rfl rfl)
theorem dX1_asks_6 : decode cX1_asks 6 = .ok (.iload_n 2, 1) := dk_28 (dk_at dksX1_asks_0 6 rfl rfl)
theorem dX1_asks_7 : decode cX1_asks 7 = .ok (.putfield 132, 3) := dk_181 0 132 (dk_at dksX1_asks_0 7 rfl rfl)
theorem dX1_asks_10 : decode cX1_asks 10 = .ok (.aload_n 0, 1) := dk_42 (dk_at dksX1_asks_0 10 rfl rfl)
theorem dX1_asks_11 : decode cX1_asks 11 = .ok (.iload_n 3, 1) := dk_29 (dk_at dksX1_asks_0 11 rfl rfl)
theorem dX1_asks_12 : decode cX1_asks 12 = .ok (.putfield 148, 3) := dk_181 0 148 (dk_at dksX1_asks_0 12 rfl rfl)
theorem dX1_asks_15 : decode cX1_asks 15 = .ok (.aload_n 0, 1) := dk_42 (dk_at dksX1_asks_0 15 rfl rfl)
theorem dX1_asks_16 : decode cX1_asks 16 = .ok (.iload 4, 2) := dk_21 4 (dk_at dksX1_asks_0 16 rfl rfl)
theorem dX1_asks_18 : decode cX1_asks 18 = .ok (.putfield 151, 3) := dk_181 0 151 (dk_at dksX1_asks_0 18 rfl rfl)
theorem dX1_asks_21 : decode cX1_asks 21 = .ok (.aload_n 0, 1) := dk_42 (dk_at dksX1_asks_0 21 rfl rfl)
theorem dX1_asks_22 : decode cX1_asks 22 = .ok (.iload 5, 2) := dk_21 5 (dk_at dksX1_asks_0 22 rfl rfl)
theorem dX1_asks_24 : decode cX1_asks 24 = .ok (.putfield 154, 3) := dk_181 0 154 (dk_at dksX1_asks_1 0 rfl rfl)
theorem dX1_asks_27 : decode cX1_asks 27 = .ok (.return_, 1) := dk_177 (dk_at dksX1_asks_1 3 rfl rfl)
abbrev cX1_tells : ByteArray := prog_5_method_8_code
def yX1_tells : MethodName := ⟨RX1, "tells", "(III)I"⟩
def dkwX1_tells_3 : List UInt8 := [184, 0, 186, 184, 0, 192, 172, 132, 4, 1, 167, 255, 179, 3, 29, 28, 184, 0, 186, 184, 0, 192, 172]
abbrev dktX1_tells_3 : List UInt8 := dkwX1_tells_3 ++ []
def dkwX1_tells_2 : List UInt8 := [180, 0, 173, 42, 182, 0, 177, 4, 160, 0, 21, 3, 29, 25, 5, 180, 0, 183, 42, 182, 0, 177]
abbrev dktX1_tells_2 : List UInt8 := dkwX1_tells_2 ++ dktX1_tells_3
def dkwX1_tells_1 : List UInt8 := [192, 0, 168, 58, 5, 25, 5, 180, 0, 170, 27, 160, 0, 42, 25, 5, 180, 0, 173, 198, 0, 16, 25, 5]
abbrev dktX1_tells_1 : List UInt8 := dkwX1_tells_1 ++ dktX1_tells_2
def dkwX1_tells_0 : List UInt8 := [3, 54, 4, 21, 4, 42, 180, 0, 53, 182, 0, 160, 162, 0, 71, 42, 180, 0, 53, 21, 4, 182, 0, 164]
abbrev dktX1_tells_0 : List UInt8 := dkwX1_tells_0 ++ dktX1_tells_1
theorem dksX1_tells_0 : cX1_tells.data.toList.drop 0 = dktX1_tells_0 := by decide +kernel
theorem dksX1_tells_1 : cX1_tells.data.toList.drop 24 = dktX1_tells_1 := dk_seg dksX1_tells_0 24 rfl rfl
theorem dksX1_tells_2 : cX1_tells.data.toList.drop 48 = dktX1_tells_2 := dk_seg dksX1_tells_1 24 rfl rfl
theorem dksX1_tells_3 : cX1_tells.data.toList.drop 70 = dktX1_tells_3 := dk_seg dksX1_tells_2 22 rfl rfl
theorem dX1_tells_0 : decode cX1_tells 0 = .ok (.iconst 0, 1) := dk_3 (dk_at dksX1_tells_0 0 rfl rfl)
theorem dX1_tells_1 : decode cX1_tells 1 = .ok (.istore 4, 2) := dk_54 4 (dk_at dksX1_tells_0 1 rfl rfl)
theorem dX1_tells_3 : decode cX1_tells 3 = .ok (.iload 4, 2) := dk_21 4 (dk_at dksX1_tells_0 3 rfl rfl)
theorem dX1_tells_5 : decode cX1_tells 5 = .ok (.aload_n 0, 1) := dk_42 (dk_at dksX1_tells_0 5 rfl rfl)
theorem dX1_tells_6 : decode cX1_tells 6 = .ok (.getfield 53, 3) := dk_180 0 53 (dk_at dksX1_tells_0 6 rfl rfl)
theorem dX1_tells_9 : decode cX1_tells 9 = .ok (.invokevirtual 160, 3) := dk_182 0 160 (dk_at dksX1_tells_0 9 rfl rfl)
theorem dX1_tells_12 : decode cX1_tells 12 = .ok (.if_icmp .ge 71, 3) := dk_162 0 71 (dk_at dksX1_tells_0 12 rfl rfl)
theorem dX1_tells_15 : decode cX1_tells 15 = .ok (.aload_n 0, 1) := dk_42 (dk_at dksX1_tells_0 15 rfl rfl)
theorem dX1_tells_16 : decode cX1_tells 16 = .ok (.getfield 53, 3) := dk_180 0 53 (dk_at dksX1_tells_0 16 rfl rfl)
theorem dX1_tells_19 : decode cX1_tells 19 = .ok (.iload 4, 2) := dk_21 4 (dk_at dksX1_tells_0 19 rfl rfl)
theorem dX1_tells_21 : decode cX1_tells 21 = .ok (.invokevirtual 164, 3) := dk_182 0 164 (dk_at dksX1_tells_0 21 rfl rfl)
theorem dX1_tells_24 : decode cX1_tells 24 = .ok (.checkcast 168, 3) := dk_192 0 168 (dk_at dksX1_tells_1 0 rfl rfl)
theorem dX1_tells_27 : decode cX1_tells 27 = .ok (.astore 5, 2) := dk_58 5 (dk_at dksX1_tells_1 3 rfl rfl)
theorem dX1_tells_29 : decode cX1_tells 29 = .ok (.aload 5, 2) := dk_25 5 (dk_at dksX1_tells_1 5 rfl rfl)
theorem dX1_tells_31 : decode cX1_tells 31 = .ok (.getfield 170, 3) := dk_180 0 170 (dk_at dksX1_tells_1 7 rfl rfl)
theorem dX1_tells_34 : decode cX1_tells 34 = .ok (.iload_n 1, 1) := dk_27 (dk_at dksX1_tells_1 10 rfl rfl)
theorem dX1_tells_35 : decode cX1_tells 35 = .ok (.if_icmp .ne 42, 3) := dk_160 0 42 (dk_at dksX1_tells_1 11 rfl rfl)
theorem dX1_tells_38 : decode cX1_tells 38 = .ok (.aload 5, 2) := dk_25 5 (dk_at dksX1_tells_1 14 rfl rfl)
theorem dX1_tells_40 : decode cX1_tells 40 = .ok (.getfield 173, 3) := dk_180 0 173 (dk_at dksX1_tells_1 16 rfl rfl)
theorem dX1_tells_43 : decode cX1_tells 43 = .ok (.ifnull 16, 3) := dk_198 0 16 (dk_at dksX1_tells_1 19 rfl rfl)
theorem dX1_tells_46 : decode cX1_tells 46 = .ok (.aload 5, 2) := dk_25 5 (dk_at dksX1_tells_1 22 rfl rfl)
theorem dX1_tells_48 : decode cX1_tells 48 = .ok (.getfield 173, 3) := dk_180 0 173 (dk_at dksX1_tells_2 0 rfl rfl)
theorem dX1_tells_51 : decode cX1_tells 51 = .ok (.aload_n 0, 1) := dk_42 (dk_at dksX1_tells_2 3 rfl rfl)
theorem dX1_tells_52 : decode cX1_tells 52 = .ok (.invokevirtual 177, 3) := dk_182 0 177 (dk_at dksX1_tells_2 4 rfl rfl)
theorem dX1_tells_55 : decode cX1_tells 55 = .ok (.iconst 1, 1) := dk_4 (dk_at dksX1_tells_2 7 rfl rfl)
theorem dX1_tells_56 : decode cX1_tells 56 = .ok (.if_icmp .ne 21, 3) := dk_160 0 21 (dk_at dksX1_tells_2 8 rfl rfl)
theorem dX1_tells_59 : decode cX1_tells 59 = .ok (.iconst 0, 1) := dk_3 (dk_at dksX1_tells_2 11 rfl rfl)
theorem dX1_tells_60 : decode cX1_tells 60 = .ok (.iload_n 3, 1) := dk_29 (dk_at dksX1_tells_2 12 rfl rfl)
theorem dX1_tells_61 : decode cX1_tells 61 = .ok (.aload 5, 2) := dk_25 5 (dk_at dksX1_tells_2 13 rfl rfl)
theorem dX1_tells_63 : decode cX1_tells 63 = .ok (.getfield 183, 3) := dk_180 0 183 (dk_at dksX1_tells_2 15 rfl rfl)
theorem dX1_tells_66 : decode cX1_tells 66 = .ok (.aload_n 0, 1) := dk_42 (dk_at dksX1_tells_2 18 rfl rfl)
theorem dX1_tells_67 : decode cX1_tells 67 = .ok (.invokevirtual 177, 3) := dk_182 0 177 (dk_at dksX1_tells_2 19 rfl rfl)
theorem dX1_tells_70 : decode cX1_tells 70 = .ok (.invokestatic 186, 3) := dk_184 0 186 (dk_at dksX1_tells_3 0 rfl rfl)
theorem dX1_tells_73 : decode cX1_tells 73 = .ok (.invokestatic 192, 3) := dk_184 0 192 (dk_at dksX1_tells_3 3 rfl rfl)
theorem dX1_tells_76 : decode cX1_tells 76 = .ok (.ireturn, 1) := dk_172 (dk_at dksX1_tells_3 6 rfl rfl)
theorem dX1_tells_77 : decode cX1_tells 77 = .ok (.iinc 4 1, 3) := dk_132 4 1 (dk_at dksX1_tells_3 7 rfl rfl)
theorem dX1_tells_80 : decode cX1_tells 80 = .ok (.goto (-77), 3) := dk_167 255 179 (dk_at dksX1_tells_3 10 rfl rfl)
theorem dX1_tells_83 : decode cX1_tells 83 = .ok (.iconst 0, 1) := dk_3 (dk_at dksX1_tells_3 13 rfl rfl)
theorem dX1_tells_84 : decode cX1_tells 84 = .ok (.iload_n 3, 1) := dk_29 (dk_at dksX1_tells_3 14 rfl rfl)
theorem dX1_tells_85 : decode cX1_tells 85 = .ok (.iload_n 2, 1) := dk_28 (dk_at dksX1_tells_3 15 rfl rfl)
theorem dX1_tells_86 : decode cX1_tells 86 = .ok (.invokestatic 186, 3) := dk_184 0 186 (dk_at dksX1_tells_3 16 rfl rfl)
theorem dX1_tells_89 : decode cX1_tells 89 = .ok (.invokestatic 192, 3) := dk_184 0 192 (dk_at dksX1_tells_3 19 rfl rfl)
theorem dX1_tells_92 : decode cX1_tells 92 = .ok (.ireturn, 1) := dk_172 (dk_at dksX1_tells_3 22 rfl rfl)
abbrev cX1_fact : ByteArray := prog_5_method_7_code
def yX1_fact : MethodName := ⟨RX1, "fact", "(I)I"⟩
def dkwX1_fact_7 : List UInt8 := [50, 180, 0, 157, 172]
abbrev dktX1_fact_7 : List UInt8 := dkwX1_fact_7 ++ []
def dkwX1_fact_6 : List UInt8 := [180, 0, 154, 172, 42, 180, 0, 132, 2, 160, 0, 7, 3, 167, 0, 15, 42, 180, 0, 11, 42, 180, 0, 132]
abbrev dktX1_fact_6 : List UInt8 := dkwX1_fact_6 ++ dktX1_fact_7
def dkwX1_fact_5 : List UInt8 := [167, 0, 10, 42, 180, 0, 135, 180, 0, 145, 172, 42, 180, 0, 148, 172, 42, 180, 0, 151, 172, 42]
abbrev dktX1_fact_5 : List UInt8 := dkwX1_fact_5 ++ dktX1_fact_6
def dkwX1_fact_4 : List UInt8 := [199, 0, 7, 3, 167, 0, 10, 42, 180, 0, 135, 180, 0, 142, 172, 42, 180, 0, 135, 199, 0, 7, 3]
abbrev dktX1_fact_4 : List UInt8 := dkwX1_fact_4 ++ dktX1_fact_5
def dkwX1_fact_3 : List UInt8 := [172, 42, 180, 0, 135, 199, 0, 7, 3, 167, 0, 10, 42, 180, 0, 135, 180, 0, 139, 172, 42, 180, 0, 135]
abbrev dktX1_fact_3 : List UInt8 := dkwX1_fact_3 ++ dktX1_fact_4
def dkwX1_fact_2 : List UInt8 := [42, 180, 0, 86, 16, 52, 112, 172, 42, 180, 0, 132, 2, 160, 0, 7, 3, 167, 0, 7, 42, 180, 0, 132]
abbrev dktX1_fact_2 : List UInt8 := dkwX1_fact_2 ++ dktX1_fact_3
def dkwX1_fact_1 : List UInt8 := [170, 0, 0, 0, 0, 0, 144, 0, 0, 0, 0, 0, 0, 0, 7, 0, 0, 0, 47, 0, 0, 0, 55, 0, 0, 0, 72, 0, 0, 0, 91, 0, 0, 0, 110, 0, 0, 0, 129, 0, 0, 0, 134, 0, 0, 0, 139]
abbrev dktX1_fact_1 : List UInt8 := dkwX1_fact_1 ++ dktX1_fact_2
def dkwX1_fact_0 : List UInt8 := [27]
abbrev dktX1_fact_0 : List UInt8 := dkwX1_fact_0 ++ dktX1_fact_1
theorem dksX1_fact_0 : cX1_fact.data.toList.drop 0 = dktX1_fact_0 := by decide +kernel
theorem dksX1_fact_1 : cX1_fact.data.toList.drop 1 = dktX1_fact_1 := dk_seg dksX1_fact_0 1 rfl rfl
theorem dksX1_fact_2 : cX1_fact.data.toList.drop 48 = dktX1_fact_2 := dk_seg dksX1_fact_1 47 rfl rfl
theorem dksX1_fact_3 : cX1_fact.data.toList.drop 72 = dktX1_fact_3 := dk_seg dksX1_fact_2 24 rfl rfl
theorem dksX1_fact_4 : cX1_fact.data.toList.drop 96 = dktX1_fact_4 := dk_seg dksX1_fact_3 24 rfl rfl
theorem dksX1_fact_5 : cX1_fact.data.toList.drop 119 = dktX1_fact_5 := dk_seg dksX1_fact_4 23 rfl rfl
theorem dksX1_fact_6 : cX1_fact.data.toList.drop 141 = dktX1_fact_6 := dk_seg dksX1_fact_5 22 rfl rfl
theorem dksX1_fact_7 : cX1_fact.data.toList.drop 165 = dktX1_fact_7 := dk_seg dksX1_fact_6 24 rfl rfl
theorem dX1_fact_0 : decode cX1_fact 0 = .ok (.iload_n 1, 1) := dk_27 (dk_at dksX1_fact_0 0 rfl rfl)
theorem dX1_fact_1 : decode cX1_fact 1 = .ok (.tableswitch 144 0 7 #[47, 55, 72, 91, 110, 129, 134, 139], 47) := by decide +kernel
theorem dX1_fact_48 : decode cX1_fact 48 = .ok (.aload_n 0, 1) := dk_42 (dk_at dksX1_fact_2 0 rfl rfl)
theorem dX1_fact_49 : decode cX1_fact 49 = .ok (.getfield 86, 3) := dk_180 0 86 (dk_at dksX1_fact_2 1 rfl rfl)
theorem dX1_fact_52 : decode cX1_fact 52 = .ok (.bipush 52, 2) := dk_16 52 (dk_at dksX1_fact_2 4 rfl rfl)
theorem dX1_fact_54 : decode cX1_fact 54 = .ok (.irem, 1) := dk_112 (dk_at dksX1_fact_2 6 rfl rfl)
theorem dX1_fact_55 : decode cX1_fact 55 = .ok (.ireturn, 1) := dk_172 (dk_at dksX1_fact_2 7 rfl rfl)
theorem dX1_fact_56 : decode cX1_fact 56 = .ok (.aload_n 0, 1) := dk_42 (dk_at dksX1_fact_2 8 rfl rfl)
theorem dX1_fact_57 : decode cX1_fact 57 = .ok (.getfield 132, 3) := dk_180 0 132 (dk_at dksX1_fact_2 9 rfl rfl)
theorem dX1_fact_60 : decode cX1_fact 60 = .ok (.iconst (-1), 1) := dk_2 (dk_at dksX1_fact_2 12 rfl rfl)
theorem dX1_fact_61 : decode cX1_fact 61 = .ok (.if_icmp .ne 7, 3) := dk_160 0 7 (dk_at dksX1_fact_2 13 rfl rfl)
theorem dX1_fact_64 : decode cX1_fact 64 = .ok (.iconst 0, 1) := dk_3 (dk_at dksX1_fact_2 16 rfl rfl)
theorem dX1_fact_65 : decode cX1_fact 65 = .ok (.goto 7, 3) := dk_167 0 7 (dk_at dksX1_fact_2 17 rfl rfl)
theorem dX1_fact_68 : decode cX1_fact 68 = .ok (.aload_n 0, 1) := dk_42 (dk_at dksX1_fact_2 20 rfl rfl)
theorem dX1_fact_69 : decode cX1_fact 69 = .ok (.getfield 132, 3) := dk_180 0 132 (dk_at dksX1_fact_2 21 rfl rfl)
theorem dX1_fact_72 : decode cX1_fact 72 = .ok (.ireturn, 1) := dk_172 (dk_at dksX1_fact_3 0 rfl rfl)
theorem dX1_fact_73 : decode cX1_fact 73 = .ok (.aload_n 0, 1) := dk_42 (dk_at dksX1_fact_3 1 rfl rfl)
theorem dX1_fact_74 : decode cX1_fact 74 = .ok (.getfield 135, 3) := dk_180 0 135 (dk_at dksX1_fact_3 2 rfl rfl)
theorem dX1_fact_77 : decode cX1_fact 77 = .ok (.ifnonnull 7, 3) := dk_199 0 7 (dk_at dksX1_fact_3 5 rfl rfl)
theorem dX1_fact_80 : decode cX1_fact 80 = .ok (.iconst 0, 1) := dk_3 (dk_at dksX1_fact_3 8 rfl rfl)
theorem dX1_fact_81 : decode cX1_fact 81 = .ok (.goto 10, 3) := dk_167 0 10 (dk_at dksX1_fact_3 9 rfl rfl)
theorem dX1_fact_84 : decode cX1_fact 84 = .ok (.aload_n 0, 1) := dk_42 (dk_at dksX1_fact_3 12 rfl rfl)
theorem dX1_fact_85 : decode cX1_fact 85 = .ok (.getfield 135, 3) := dk_180 0 135 (dk_at dksX1_fact_3 13 rfl rfl)
theorem dX1_fact_88 : decode cX1_fact 88 = .ok (.getfield 139, 3) := dk_180 0 139 (dk_at dksX1_fact_3 16 rfl rfl)
theorem dX1_fact_91 : decode cX1_fact 91 = .ok (.ireturn, 1) := dk_172 (dk_at dksX1_fact_3 19 rfl rfl)
theorem dX1_fact_92 : decode cX1_fact 92 = .ok (.aload_n 0, 1) := dk_42 (dk_at dksX1_fact_3 20 rfl rfl)
theorem dX1_fact_93 : decode cX1_fact 93 = .ok (.getfield 135, 3) := dk_180 0 135 (dk_at dksX1_fact_3 21 rfl rfl)
theorem dX1_fact_96 : decode cX1_fact 96 = .ok (.ifnonnull 7, 3) := dk_199 0 7 (dk_at dksX1_fact_4 0 rfl rfl)
theorem dX1_fact_99 : decode cX1_fact 99 = .ok (.iconst 0, 1) := dk_3 (dk_at dksX1_fact_4 3 rfl rfl)
theorem dX1_fact_100 : decode cX1_fact 100 = .ok (.goto 10, 3) := dk_167 0 10 (dk_at dksX1_fact_4 4 rfl rfl)
theorem dX1_fact_103 : decode cX1_fact 103 = .ok (.aload_n 0, 1) := dk_42 (dk_at dksX1_fact_4 7 rfl rfl)
theorem dX1_fact_104 : decode cX1_fact 104 = .ok (.getfield 135, 3) := dk_180 0 135 (dk_at dksX1_fact_4 8 rfl rfl)
theorem dX1_fact_107 : decode cX1_fact 107 = .ok (.getfield 142, 3) := dk_180 0 142 (dk_at dksX1_fact_4 11 rfl rfl)
theorem dX1_fact_110 : decode cX1_fact 110 = .ok (.ireturn, 1) := dk_172 (dk_at dksX1_fact_4 14 rfl rfl)
theorem dX1_fact_111 : decode cX1_fact 111 = .ok (.aload_n 0, 1) := dk_42 (dk_at dksX1_fact_4 15 rfl rfl)
theorem dX1_fact_112 : decode cX1_fact 112 = .ok (.getfield 135, 3) := dk_180 0 135 (dk_at dksX1_fact_4 16 rfl rfl)
theorem dX1_fact_115 : decode cX1_fact 115 = .ok (.ifnonnull 7, 3) := dk_199 0 7 (dk_at dksX1_fact_4 19 rfl rfl)
theorem dX1_fact_118 : decode cX1_fact 118 = .ok (.iconst 0, 1) := dk_3 (dk_at dksX1_fact_4 22 rfl rfl)
theorem dX1_fact_119 : decode cX1_fact 119 = .ok (.goto 10, 3) := dk_167 0 10 (dk_at dksX1_fact_5 0 rfl rfl)
theorem dX1_fact_122 : decode cX1_fact 122 = .ok (.aload_n 0, 1) := dk_42 (dk_at dksX1_fact_5 3 rfl rfl)
theorem dX1_fact_123 : decode cX1_fact 123 = .ok (.getfield 135, 3) := dk_180 0 135 (dk_at dksX1_fact_5 4 rfl rfl)
theorem dX1_fact_126 : decode cX1_fact 126 = .ok (.getfield 145, 3) := dk_180 0 145 (dk_at dksX1_fact_5 7 rfl rfl)
theorem dX1_fact_129 : decode cX1_fact 129 = .ok (.ireturn, 1) := dk_172 (dk_at dksX1_fact_5 10 rfl rfl)
theorem dX1_fact_130 : decode cX1_fact 130 = .ok (.aload_n 0, 1) := dk_42 (dk_at dksX1_fact_5 11 rfl rfl)
theorem dX1_fact_131 : decode cX1_fact 131 = .ok (.getfield 148, 3) := dk_180 0 148 (dk_at dksX1_fact_5 12 rfl rfl)
theorem dX1_fact_134 : decode cX1_fact 134 = .ok (.ireturn, 1) := dk_172 (dk_at dksX1_fact_5 15 rfl rfl)
theorem dX1_fact_135 : decode cX1_fact 135 = .ok (.aload_n 0, 1) := dk_42 (dk_at dksX1_fact_5 16 rfl rfl)
theorem dX1_fact_136 : decode cX1_fact 136 = .ok (.getfield 151, 3) := dk_180 0 151 (dk_at dksX1_fact_5 17 rfl rfl)
theorem dX1_fact_139 : decode cX1_fact 139 = .ok (.ireturn, 1) := dk_172 (dk_at dksX1_fact_5 20 rfl rfl)
theorem dX1_fact_140 : decode cX1_fact 140 = .ok (.aload_n 0, 1) := dk_42 (dk_at dksX1_fact_5 21 rfl rfl)
theorem dX1_fact_141 : decode cX1_fact 141 = .ok (.getfield 154, 3) := dk_180 0 154 (dk_at dksX1_fact_6 0 rfl rfl)
theorem dX1_fact_144 : decode cX1_fact 144 = .ok (.ireturn, 1) := dk_172 (dk_at dksX1_fact_6 3 rfl rfl)
theorem dX1_fact_145 : decode cX1_fact 145 = .ok (.aload_n 0, 1) := dk_42 (dk_at dksX1_fact_6 4 rfl rfl)
theorem dX1_fact_146 : decode cX1_fact 146 = .ok (.getfield 132, 3) := dk_180 0 132 (dk_at dksX1_fact_6 5 rfl rfl)
theorem dX1_fact_149 : decode cX1_fact 149 = .ok (.iconst (-1), 1) := dk_2 (dk_at dksX1_fact_6 8 rfl rfl)
theorem dX1_fact_150 : decode cX1_fact 150 = .ok (.if_icmp .ne 7, 3) := dk_160 0 7 (dk_at dksX1_fact_6 9 rfl rfl)
theorem dX1_fact_153 : decode cX1_fact 153 = .ok (.iconst 0, 1) := dk_3 (dk_at dksX1_fact_6 12 rfl rfl)
theorem dX1_fact_154 : decode cX1_fact 154 = .ok (.goto 15, 3) := dk_167 0 15 (dk_at dksX1_fact_6 13 rfl rfl)
theorem dX1_fact_157 : decode cX1_fact 157 = .ok (.aload_n 0, 1) := dk_42 (dk_at dksX1_fact_6 16 rfl rfl)
theorem dX1_fact_158 : decode cX1_fact 158 = .ok (.getfield 11, 3) := dk_180 0 11 (dk_at dksX1_fact_6 17 rfl rfl)
theorem dX1_fact_161 : decode cX1_fact 161 = .ok (.aload_n 0, 1) := dk_42 (dk_at dksX1_fact_6 20 rfl rfl)
theorem dX1_fact_162 : decode cX1_fact 162 = .ok (.getfield 132, 3) := dk_180 0 132 (dk_at dksX1_fact_6 21 rfl rfl)
theorem dX1_fact_165 : decode cX1_fact 165 = .ok (.aaload, 1) := dk_50 (dk_at dksX1_fact_7 0 rfl rfl)
theorem dX1_fact_166 : decode cX1_fact 166 = .ok (.getfield 157, 3) := dk_180 0 157 (dk_at dksX1_fact_7 1 rfl rfl)
theorem dX1_fact_169 : decode cX1_fact 169 = .ok (.ireturn, 1) := dk_172 (dk_at dksX1_fact_7 4 rfl rfl)
abbrev cX1_isHungry : ByteArray := prog_5_method_22_code
def yX1_isHungry : MethodName := ⟨RX1, "isHungry", "(I)Z"⟩
def dkwX1_isHungry_5 : List UInt8 := [181, 0, 114, 42, 42, 180, 0, 86, 181, 0, 117, 4, 172]
abbrev dktX1_isHungry_5 : List UInt8 := dkwX1_isHungry_5 ++ []
def dkwX1_isHungry_4 : List UInt8 := [154, 0, 5, 3, 172, 42, 8, 27, 29, 182, 0, 211, 42, 180, 0, 114, 2, 160, 0, 16, 42, 27]
abbrev dktX1_isHungry_4 : List UInt8 := dkwX1_isHungry_4 ++ dktX1_isHungry_5
def dkwX1_isHungry_3 : List UInt8 := [132, 3, 255, 29, 154, 0, 7, 2, 167, 0, 8, 42, 44, 182, 0, 253, 54, 4, 167, 255, 202, 29]
abbrev dktX1_isHungry_3 : List UInt8 := dkwX1_isHungry_3 ++ dktX1_isHungry_4
def dkwX1_isHungry_2 : List UInt8 := [182, 0, 221, 182, 0, 225, 42, 180, 0, 11, 21, 4, 50, 89, 180, 0, 215, 4, 100, 181, 0, 215]
abbrev dktX1_isHungry_2 : List UInt8 := dkwX1_isHungry_2 ++ dktX1_isHungry_3
def dkwX1_isHungry_1 : List UInt8 := [167, 0, 8, 42, 44, 182, 0, 253, 54, 4, 21, 4, 2, 159, 0, 54, 42, 21, 4, 42, 44, 21, 4, 1]
abbrev dktX1_isHungry_1 : List UInt8 := dkwX1_isHungry_1 ++ dktX1_isHungry_2
def dkwX1_isHungry_0 : List UInt8 := [42, 180, 0, 25, 27, 50, 77, 42, 27, 42, 44, 182, 0, 246, 182, 0, 250, 62, 29, 154, 0, 7, 2]
abbrev dktX1_isHungry_0 : List UInt8 := dkwX1_isHungry_0 ++ dktX1_isHungry_1
theorem dksX1_isHungry_0 : cX1_isHungry.data.toList.drop 0 = dktX1_isHungry_0 := by decide +kernel
theorem dksX1_isHungry_1 : cX1_isHungry.data.toList.drop 23 = dktX1_isHungry_1 := dk_seg dksX1_isHungry_0 23 rfl rfl
theorem dksX1_isHungry_2 : cX1_isHungry.data.toList.drop 47 = dktX1_isHungry_2 := dk_seg dksX1_isHungry_1 24 rfl rfl
theorem dksX1_isHungry_3 : cX1_isHungry.data.toList.drop 69 = dktX1_isHungry_3 := dk_seg dksX1_isHungry_2 22 rfl rfl
theorem dksX1_isHungry_4 : cX1_isHungry.data.toList.drop 91 = dktX1_isHungry_4 := dk_seg dksX1_isHungry_3 22 rfl rfl
theorem dksX1_isHungry_5 : cX1_isHungry.data.toList.drop 113 = dktX1_isHungry_5 := dk_seg dksX1_isHungry_4 22 rfl rfl
theorem dX1_isHungry_0 : decode cX1_isHungry 0 = .ok (.aload_n 0, 1) := dk_42 (dk_at dksX1_isHungry_0 0 rfl rfl)
theorem dX1_isHungry_1 : decode cX1_isHungry 1 = .ok (.getfield 25, 3) := dk_180 0 25 (dk_at dksX1_isHungry_0 1 rfl rfl)
theorem dX1_isHungry_4 : decode cX1_isHungry 4 = .ok (.iload_n 1, 1) := dk_27 (dk_at dksX1_isHungry_0 4 rfl rfl)
theorem dX1_isHungry_5 : decode cX1_isHungry 5 = .ok (.aaload, 1) := dk_50 (dk_at dksX1_isHungry_0 5 rfl rfl)
theorem dX1_isHungry_6 : decode cX1_isHungry 6 = .ok (.astore_n 2, 1) := dk_77 (dk_at dksX1_isHungry_0 6 rfl rfl)
theorem dX1_isHungry_7 : decode cX1_isHungry 7 = .ok (.aload_n 0, 1) := dk_42 (dk_at dksX1_isHungry_0 7 rfl rfl)
theorem dX1_isHungry_8 : decode cX1_isHungry 8 = .ok (.iload_n 1, 1) := dk_27 (dk_at dksX1_isHungry_0 8 rfl rfl)
theorem dX1_isHungry_9 : decode cX1_isHungry 9 = .ok (.aload_n 0, 1) := dk_42 (dk_at dksX1_isHungry_0 9 rfl rfl)
theorem dX1_isHungry_10 : decode cX1_isHungry 10 = .ok (.aload_n 2, 1) := dk_44 (dk_at dksX1_isHungry_0 10 rfl rfl)
theorem dX1_isHungry_11 : decode cX1_isHungry 11 = .ok (.invokevirtual 246, 3) := dk_182 0 246 (dk_at dksX1_isHungry_0 11 rfl rfl)
theorem dX1_isHungry_14 : decode cX1_isHungry 14 = .ok (.invokevirtual 250, 3) := dk_182 0 250 (dk_at dksX1_isHungry_0 14 rfl rfl)
theorem dX1_isHungry_17 : decode cX1_isHungry 17 = .ok (.istore_n 3, 1) := dk_62 (dk_at dksX1_isHungry_0 17 rfl rfl)
theorem dX1_isHungry_18 : decode cX1_isHungry 18 = .ok (.iload_n 3, 1) := dk_29 (dk_at dksX1_isHungry_0 18 rfl rfl)
theorem dX1_isHungry_19 : decode cX1_isHungry 19 = .ok (.ifCond .ne 7, 3) := dk_154 0 7 (dk_at dksX1_isHungry_0 19 rfl rfl)
theorem dX1_isHungry_22 : decode cX1_isHungry 22 = .ok (.iconst (-1), 1) := dk_2 (dk_at dksX1_isHungry_0 22 rfl rfl)
theorem dX1_isHungry_23 : decode cX1_isHungry 23 = .ok (.goto 8, 3) := dk_167 0 8 (dk_at dksX1_isHungry_1 0 rfl rfl)
theorem dX1_isHungry_26 : decode cX1_isHungry 26 = .ok (.aload_n 0, 1) := dk_42 (dk_at dksX1_isHungry_1 3 rfl rfl)
theorem dX1_isHungry_27 : decode cX1_isHungry 27 = .ok (.aload_n 2, 1) := dk_44 (dk_at dksX1_isHungry_1 4 rfl rfl)
theorem dX1_isHungry_28 : decode cX1_isHungry 28 = .ok (.invokevirtual 253, 3) := dk_182 0 253 (dk_at dksX1_isHungry_1 5 rfl rfl)
theorem dX1_isHungry_31 : decode cX1_isHungry 31 = .ok (.istore 4, 2) := dk_54 4 (dk_at dksX1_isHungry_1 8 rfl rfl)
theorem dX1_isHungry_33 : decode cX1_isHungry 33 = .ok (.iload 4, 2) := dk_21 4 (dk_at dksX1_isHungry_1 10 rfl rfl)
theorem dX1_isHungry_35 : decode cX1_isHungry 35 = .ok (.iconst (-1), 1) := dk_2 (dk_at dksX1_isHungry_1 12 rfl rfl)
theorem dX1_isHungry_36 : decode cX1_isHungry 36 = .ok (.if_icmp .eq 54, 3) := dk_159 0 54 (dk_at dksX1_isHungry_1 13 rfl rfl)
theorem dX1_isHungry_39 : decode cX1_isHungry 39 = .ok (.aload_n 0, 1) := dk_42 (dk_at dksX1_isHungry_1 16 rfl rfl)
theorem dX1_isHungry_40 : decode cX1_isHungry 40 = .ok (.iload 4, 2) := dk_21 4 (dk_at dksX1_isHungry_1 17 rfl rfl)
theorem dX1_isHungry_42 : decode cX1_isHungry 42 = .ok (.aload_n 0, 1) := dk_42 (dk_at dksX1_isHungry_1 19 rfl rfl)
theorem dX1_isHungry_43 : decode cX1_isHungry 43 = .ok (.aload_n 2, 1) := dk_44 (dk_at dksX1_isHungry_1 20 rfl rfl)
theorem dX1_isHungry_44 : decode cX1_isHungry 44 = .ok (.iload 4, 2) := dk_21 4 (dk_at dksX1_isHungry_1 21 rfl rfl)
theorem dX1_isHungry_46 : decode cX1_isHungry 46 = .ok (.aconst_null, 1) := dk_1 (dk_at dksX1_isHungry_1 23 rfl rfl)
theorem dX1_isHungry_47 : decode cX1_isHungry 47 = .ok (.invokevirtual 221, 3) := dk_182 0 221 (dk_at dksX1_isHungry_2 0 rfl rfl)
theorem dX1_isHungry_50 : decode cX1_isHungry 50 = .ok (.invokevirtual 225, 3) := dk_182 0 225 (dk_at dksX1_isHungry_2 3 rfl rfl)
theorem dX1_isHungry_53 : decode cX1_isHungry 53 = .ok (.aload_n 0, 1) := dk_42 (dk_at dksX1_isHungry_2 6 rfl rfl)
theorem dX1_isHungry_54 : decode cX1_isHungry 54 = .ok (.getfield 11, 3) := dk_180 0 11 (dk_at dksX1_isHungry_2 7 rfl rfl)
theorem dX1_isHungry_57 : decode cX1_isHungry 57 = .ok (.iload 4, 2) := dk_21 4 (dk_at dksX1_isHungry_2 10 rfl rfl)
theorem dX1_isHungry_59 : decode cX1_isHungry 59 = .ok (.aaload, 1) := dk_50 (dk_at dksX1_isHungry_2 12 rfl rfl)
theorem dX1_isHungry_60 : decode cX1_isHungry 60 = .ok (.dup, 1) := dk_89 (dk_at dksX1_isHungry_2 13 rfl rfl)
theorem dX1_isHungry_61 : decode cX1_isHungry 61 = .ok (.getfield 215, 3) := dk_180 0 215 (dk_at dksX1_isHungry_2 14 rfl rfl)
theorem dX1_isHungry_64 : decode cX1_isHungry 64 = .ok (.iconst 1, 1) := dk_4 (dk_at dksX1_isHungry_2 17 rfl rfl)
theorem dX1_isHungry_65 : decode cX1_isHungry 65 = .ok (.isub, 1) := dk_100 (dk_at dksX1_isHungry_2 18 rfl rfl)
theorem dX1_isHungry_66 : decode cX1_isHungry 66 = .ok (.putfield 215, 3) := dk_181 0 215 (dk_at dksX1_isHungry_2 19 rfl rfl)
theorem dX1_isHungry_69 : decode cX1_isHungry 69 = .ok (.iinc 3 (-1), 3) := dk_132 3 255 (dk_at dksX1_isHungry_3 0 rfl rfl)
theorem dX1_isHungry_72 : decode cX1_isHungry 72 = .ok (.iload_n 3, 1) := dk_29 (dk_at dksX1_isHungry_3 3 rfl rfl)
theorem dX1_isHungry_73 : decode cX1_isHungry 73 = .ok (.ifCond .ne 7, 3) := dk_154 0 7 (dk_at dksX1_isHungry_3 4 rfl rfl)
theorem dX1_isHungry_76 : decode cX1_isHungry 76 = .ok (.iconst (-1), 1) := dk_2 (dk_at dksX1_isHungry_3 7 rfl rfl)
theorem dX1_isHungry_77 : decode cX1_isHungry 77 = .ok (.goto 8, 3) := dk_167 0 8 (dk_at dksX1_isHungry_3 8 rfl rfl)
theorem dX1_isHungry_80 : decode cX1_isHungry 80 = .ok (.aload_n 0, 1) := dk_42 (dk_at dksX1_isHungry_3 11 rfl rfl)
theorem dX1_isHungry_81 : decode cX1_isHungry 81 = .ok (.aload_n 2, 1) := dk_44 (dk_at dksX1_isHungry_3 12 rfl rfl)
theorem dX1_isHungry_82 : decode cX1_isHungry 82 = .ok (.invokevirtual 253, 3) := dk_182 0 253 (dk_at dksX1_isHungry_3 13 rfl rfl)
theorem dX1_isHungry_85 : decode cX1_isHungry 85 = .ok (.istore 4, 2) := dk_54 4 (dk_at dksX1_isHungry_3 16 rfl rfl)
theorem dX1_isHungry_87 : decode cX1_isHungry 87 = .ok (.goto (-54), 3) := dk_167 255 202 (dk_at dksX1_isHungry_3 18 rfl rfl)
theorem dX1_isHungry_90 : decode cX1_isHungry 90 = .ok (.iload_n 3, 1) := dk_29 (dk_at dksX1_isHungry_3 21 rfl rfl)
theorem dX1_isHungry_91 : decode cX1_isHungry 91 = .ok (.ifCond .ne 5, 3) := dk_154 0 5 (dk_at dksX1_isHungry_4 0 rfl rfl)
theorem dX1_isHungry_94 : decode cX1_isHungry 94 = .ok (.iconst 0, 1) := dk_3 (dk_at dksX1_isHungry_4 3 rfl rfl)
theorem dX1_isHungry_95 : decode cX1_isHungry 95 = .ok (.ireturn, 1) := dk_172 (dk_at dksX1_isHungry_4 4 rfl rfl)
theorem dX1_isHungry_96 : decode cX1_isHungry 96 = .ok (.aload_n 0, 1) := dk_42 (dk_at dksX1_isHungry_4 5 rfl rfl)
theorem dX1_isHungry_97 : decode cX1_isHungry 97 = .ok (.iconst 5, 1) := dk_8 (dk_at dksX1_isHungry_4 6 rfl rfl)
theorem dX1_isHungry_98 : decode cX1_isHungry 98 = .ok (.iload_n 1, 1) := dk_27 (dk_at dksX1_isHungry_4 7 rfl rfl)
theorem dX1_isHungry_99 : decode cX1_isHungry 99 = .ok (.iload_n 3, 1) := dk_29 (dk_at dksX1_isHungry_4 8 rfl rfl)
theorem dX1_isHungry_100 : decode cX1_isHungry 100 = .ok (.invokevirtual 211, 3) := dk_182 0 211 (dk_at dksX1_isHungry_4 9 rfl rfl)
theorem dX1_isHungry_103 : decode cX1_isHungry 103 = .ok (.aload_n 0, 1) := dk_42 (dk_at dksX1_isHungry_4 12 rfl rfl)
theorem dX1_isHungry_104 : decode cX1_isHungry 104 = .ok (.getfield 114, 3) := dk_180 0 114 (dk_at dksX1_isHungry_4 13 rfl rfl)
theorem dX1_isHungry_107 : decode cX1_isHungry 107 = .ok (.iconst (-1), 1) := dk_2 (dk_at dksX1_isHungry_4 16 rfl rfl)
theorem dX1_isHungry_108 : decode cX1_isHungry 108 = .ok (.if_icmp .ne 16, 3) := dk_160 0 16 (dk_at dksX1_isHungry_4 17 rfl rfl)
theorem dX1_isHungry_111 : decode cX1_isHungry 111 = .ok (.aload_n 0, 1) := dk_42 (dk_at dksX1_isHungry_4 20 rfl rfl)
theorem dX1_isHungry_112 : decode cX1_isHungry 112 = .ok (.iload_n 1, 1) := dk_27 (dk_at dksX1_isHungry_4 21 rfl rfl)
theorem dX1_isHungry_113 : decode cX1_isHungry 113 = .ok (.putfield 114, 3) := dk_181 0 114 (dk_at dksX1_isHungry_5 0 rfl rfl)
theorem dX1_isHungry_116 : decode cX1_isHungry 116 = .ok (.aload_n 0, 1) := dk_42 (dk_at dksX1_isHungry_5 3 rfl rfl)
theorem dX1_isHungry_117 : decode cX1_isHungry 117 = .ok (.aload_n 0, 1) := dk_42 (dk_at dksX1_isHungry_5 4 rfl rfl)
theorem dX1_isHungry_118 : decode cX1_isHungry 118 = .ok (.getfield 86, 3) := dk_180 0 86 (dk_at dksX1_isHungry_5 5 rfl rfl)
theorem dX1_isHungry_121 : decode cX1_isHungry 121 = .ok (.putfield 117, 3) := dk_181 0 117 (dk_at dksX1_isHungry_5 8 rfl rfl)
theorem dX1_isHungry_124 : decode cX1_isHungry 124 = .ok (.iconst 1, 1) := dk_4 (dk_at dksX1_isHungry_5 11 rfl rfl)
theorem dX1_isHungry_125 : decode cX1_isHungry 125 = .ok (.ireturn, 1) := dk_172 (dk_at dksX1_isHungry_5 12 rfl rfl)
abbrev cX1_want : ByteArray := prog_5_method_11_code
def yX1_want : MethodName := ⟨RX1, "want", "(LBallotFruit$Eater;)I"⟩
def dkwX1_want_1 : List UInt8 := [172]
abbrev dktX1_want_1 : List UInt8 := dkwX1_want_1 ++ []
def dkwX1_want_0 : List UInt8 := [42, 1, 2, 43, 180, 0, 205, 3, 3, 182, 0, 197, 42, 16, 8, 43, 180, 0, 205, 16, 20, 182, 0, 201]
abbrev dktX1_want_0 : List UInt8 := dkwX1_want_0 ++ dktX1_want_1
theorem dksX1_want_0 : cX1_want.data.toList.drop 0 = dktX1_want_0 := by decide +kernel
theorem dksX1_want_1 : cX1_want.data.toList.drop 24 = dktX1_want_1 := dk_seg dksX1_want_0 24 rfl rfl
theorem dX1_want_0 : decode cX1_want 0 = .ok (.aload_n 0, 1) := dk_42 (dk_at dksX1_want_0 0 rfl rfl)
theorem dX1_want_1 : decode cX1_want 1 = .ok (.aconst_null, 1) := dk_1 (dk_at dksX1_want_0 1 rfl rfl)
theorem dX1_want_2 : decode cX1_want 2 = .ok (.iconst (-1), 1) := dk_2 (dk_at dksX1_want_0 2 rfl rfl)
theorem dX1_want_3 : decode cX1_want 3 = .ok (.aload_n 1, 1) := dk_43 (dk_at dksX1_want_0 3 rfl rfl)
theorem dX1_want_4 : decode cX1_want 4 = .ok (.getfield 205, 3) := dk_180 0 205 (dk_at dksX1_want_0 4 rfl rfl)
theorem dX1_want_7 : decode cX1_want 7 = .ok (.iconst 0, 1) := dk_3 (dk_at dksX1_want_0 7 rfl rfl)
theorem dX1_want_8 : decode cX1_want 8 = .ok (.iconst 0, 1) := dk_3 (dk_at dksX1_want_0 8 rfl rfl)
theorem dX1_want_9 : decode cX1_want 9 = .ok (.invokevirtual 197, 3) := dk_182 0 197 (dk_at dksX1_want_0 9 rfl rfl)
theorem dX1_want_12 : decode cX1_want 12 = .ok (.aload_n 0, 1) := dk_42 (dk_at dksX1_want_0 12 rfl rfl)
theorem dX1_want_13 : decode cX1_want 13 = .ok (.bipush 8, 2) := dk_16 8 (dk_at dksX1_want_0 13 rfl rfl)
theorem dX1_want_15 : decode cX1_want 15 = .ok (.aload_n 1, 1) := dk_43 (dk_at dksX1_want_0 15 rfl rfl)
theorem dX1_want_16 : decode cX1_want 16 = .ok (.getfield 205, 3) := dk_180 0 205 (dk_at dksX1_want_0 16 rfl rfl)
theorem dX1_want_19 : decode cX1_want 19 = .ok (.bipush 20, 2) := dk_16 20 (dk_at dksX1_want_0 19 rfl rfl)
theorem dX1_want_21 : decode cX1_want 21 = .ok (.invokevirtual 201, 3) := dk_182 0 201 (dk_at dksX1_want_0 21 rfl rfl)
theorem dX1_want_24 : decode cX1_want 24 = .ok (.ireturn, 1) := dk_172 (dk_at dksX1_want_1 0 rfl rfl)
abbrev cX1_passes_2 : ByteArray := prog_5_method_21_code
def yX1_passes_2 : MethodName := ⟨RX1, "passes", "(II)I"⟩
def dkwX1_passes_2_5 : List UInt8 := [21, 5, 46, 182, 0, 238, 58, 6, 167, 255, 208, 132, 5, 1, 167, 255, 143, 29, 172]
abbrev dktX1_passes_2_5 : List UInt8 := dkwX1_passes_2_5 ++ []
def dkwX1_passes_2_4 : List UInt8 := [132, 3, 255, 29, 154, 0, 7, 1, 167, 0, 21, 42, 42, 180, 0, 25, 27, 50, 25, 4, 180, 0, 232]
abbrev dktX1_passes_2_4 : List UInt8 := dkwX1_passes_2_4 ++ dktX1_passes_2_5
def dkwX1_passes_2_3 : List UInt8 := [182, 0, 238, 58, 6, 25, 6, 198, 0, 49, 42, 27, 25, 6, 182, 0, 242, 154, 0, 5, 3, 172]
abbrev dktX1_passes_2_3 : List UInt8 := dkwX1_passes_2_3 ++ dktX1_passes_2_4
def dkwX1_passes_2_2 : List UInt8 := [154, 0, 7, 1, 167, 0, 21, 42, 42, 180, 0, 25, 27, 50, 25, 4, 180, 0, 232, 21, 5, 46]
abbrev dktX1_passes_2_2 : List UInt8 := dkwX1_passes_2_2 ++ dktX1_passes_2_3
def dkwX1_passes_2_1 : List UInt8 := [180, 0, 232, 190, 162, 0, 103, 42, 25, 4, 180, 0, 232, 21, 5, 46, 182, 0, 234, 154, 0, 7, 29]
abbrev dktX1_passes_2_1 : List UInt8 := dkwX1_passes_2_1 ++ dktX1_passes_2_2
def dkwX1_passes_2_0 : List UInt8 := [28, 62, 42, 180, 0, 46, 27, 50, 58, 4, 3, 54, 5, 25, 4, 198, 0, 114, 21, 5, 25, 4]
abbrev dktX1_passes_2_0 : List UInt8 := dkwX1_passes_2_0 ++ dktX1_passes_2_1
theorem dksX1_passes_2_0 : cX1_passes_2.data.toList.drop 0 = dktX1_passes_2_0 := by decide +kernel
theorem dksX1_passes_2_1 : cX1_passes_2.data.toList.drop 22 = dktX1_passes_2_1 := dk_seg dksX1_passes_2_0 22 rfl rfl
theorem dksX1_passes_2_2 : cX1_passes_2.data.toList.drop 45 = dktX1_passes_2_2 := dk_seg dksX1_passes_2_1 23 rfl rfl
theorem dksX1_passes_2_3 : cX1_passes_2.data.toList.drop 67 = dktX1_passes_2_3 := dk_seg dksX1_passes_2_2 22 rfl rfl
theorem dksX1_passes_2_4 : cX1_passes_2.data.toList.drop 89 = dktX1_passes_2_4 := dk_seg dksX1_passes_2_3 22 rfl rfl
theorem dksX1_passes_2_5 : cX1_passes_2.data.toList.drop 112 = dktX1_passes_2_5 := dk_seg dksX1_passes_2_4 23 rfl rfl
theorem dX1_passes_2_0 : decode cX1_passes_2 0 = .ok (.iload_n 2, 1) := dk_28 (dk_at dksX1_passes_2_0 0 rfl rfl)
theorem dX1_passes_2_1 : decode cX1_passes_2 1 = .ok (.istore_n 3, 1) := dk_62 (dk_at dksX1_passes_2_0 1 rfl rfl)
theorem dX1_passes_2_2 : decode cX1_passes_2 2 = .ok (.aload_n 0, 1) := dk_42 (dk_at dksX1_passes_2_0 2 rfl rfl)
theorem dX1_passes_2_3 : decode cX1_passes_2 3 = .ok (.getfield 46, 3) := dk_180 0 46 (dk_at dksX1_passes_2_0 3 rfl rfl)
theorem dX1_passes_2_6 : decode cX1_passes_2 6 = .ok (.iload_n 1, 1) := dk_27 (dk_at dksX1_passes_2_0 6 rfl rfl)
theorem dX1_passes_2_7 : decode cX1_passes_2 7 = .ok (.aaload, 1) := dk_50 (dk_at dksX1_passes_2_0 7 rfl rfl)
theorem dX1_passes_2_8 : decode cX1_passes_2 8 = .ok (.astore 4, 2) := dk_58 4 (dk_at dksX1_passes_2_0 8 rfl rfl)
theorem dX1_passes_2_10 : decode cX1_passes_2 10 = .ok (.iconst 0, 1) := dk_3 (dk_at dksX1_passes_2_0 10 rfl rfl)
theorem dX1_passes_2_11 : decode cX1_passes_2 11 = .ok (.istore 5, 2) := dk_54 5 (dk_at dksX1_passes_2_0 11 rfl rfl)
theorem dX1_passes_2_13 : decode cX1_passes_2 13 = .ok (.aload 4, 2) := dk_25 4 (dk_at dksX1_passes_2_0 13 rfl rfl)
theorem dX1_passes_2_15 : decode cX1_passes_2 15 = .ok (.ifnull 114, 3) := dk_198 0 114 (dk_at dksX1_passes_2_0 15 rfl rfl)
theorem dX1_passes_2_18 : decode cX1_passes_2 18 = .ok (.iload 5, 2) := dk_21 5 (dk_at dksX1_passes_2_0 18 rfl rfl)
theorem dX1_passes_2_20 : decode cX1_passes_2 20 = .ok (.aload 4, 2) := dk_25 4 (dk_at dksX1_passes_2_0 20 rfl rfl)
theorem dX1_passes_2_22 : decode cX1_passes_2 22 = .ok (.getfield 232, 3) := dk_180 0 232 (dk_at dksX1_passes_2_1 0 rfl rfl)
theorem dX1_passes_2_25 : decode cX1_passes_2 25 = .ok (.arraylength, 1) := dk_190 (dk_at dksX1_passes_2_1 3 rfl rfl)
theorem dX1_passes_2_26 : decode cX1_passes_2 26 = .ok (.if_icmp .ge 103, 3) := dk_162 0 103 (dk_at dksX1_passes_2_1 4 rfl rfl)
theorem dX1_passes_2_29 : decode cX1_passes_2 29 = .ok (.aload_n 0, 1) := dk_42 (dk_at dksX1_passes_2_1 7 rfl rfl)
theorem dX1_passes_2_30 : decode cX1_passes_2 30 = .ok (.aload 4, 2) := dk_25 4 (dk_at dksX1_passes_2_1 8 rfl rfl)
theorem dX1_passes_2_32 : decode cX1_passes_2 32 = .ok (.getfield 232, 3) := dk_180 0 232 (dk_at dksX1_passes_2_1 10 rfl rfl)
theorem dX1_passes_2_35 : decode cX1_passes_2 35 = .ok (.iload 5, 2) := dk_21 5 (dk_at dksX1_passes_2_1 13 rfl rfl)
theorem dX1_passes_2_37 : decode cX1_passes_2 37 = .ok (.iaload, 1) := dk_46 (dk_at dksX1_passes_2_1 15 rfl rfl)
theorem dX1_passes_2_38 : decode cX1_passes_2 38 = .ok (.invokevirtual 234, 3) := dk_182 0 234 (dk_at dksX1_passes_2_1 16 rfl rfl)
theorem dX1_passes_2_41 : decode cX1_passes_2 41 = .ok (.ifCond .ne 7, 3) := dk_154 0 7 (dk_at dksX1_passes_2_1 19 rfl rfl)
theorem dX1_passes_2_44 : decode cX1_passes_2 44 = .ok (.iload_n 3, 1) := dk_29 (dk_at dksX1_passes_2_1 22 rfl rfl)
theorem dX1_passes_2_45 : decode cX1_passes_2 45 = .ok (.ifCond .ne 7, 3) := dk_154 0 7 (dk_at dksX1_passes_2_2 0 rfl rfl)
theorem dX1_passes_2_48 : decode cX1_passes_2 48 = .ok (.aconst_null, 1) := dk_1 (dk_at dksX1_passes_2_2 3 rfl rfl)
theorem dX1_passes_2_49 : decode cX1_passes_2 49 = .ok (.goto 21, 3) := dk_167 0 21 (dk_at dksX1_passes_2_2 4 rfl rfl)
theorem dX1_passes_2_52 : decode cX1_passes_2 52 = .ok (.aload_n 0, 1) := dk_42 (dk_at dksX1_passes_2_2 7 rfl rfl)
theorem dX1_passes_2_53 : decode cX1_passes_2 53 = .ok (.aload_n 0, 1) := dk_42 (dk_at dksX1_passes_2_2 8 rfl rfl)
theorem dX1_passes_2_54 : decode cX1_passes_2 54 = .ok (.getfield 25, 3) := dk_180 0 25 (dk_at dksX1_passes_2_2 9 rfl rfl)
theorem dX1_passes_2_57 : decode cX1_passes_2 57 = .ok (.iload_n 1, 1) := dk_27 (dk_at dksX1_passes_2_2 12 rfl rfl)
theorem dX1_passes_2_58 : decode cX1_passes_2 58 = .ok (.aaload, 1) := dk_50 (dk_at dksX1_passes_2_2 13 rfl rfl)
theorem dX1_passes_2_59 : decode cX1_passes_2 59 = .ok (.aload 4, 2) := dk_25 4 (dk_at dksX1_passes_2_2 14 rfl rfl)
theorem dX1_passes_2_61 : decode cX1_passes_2 61 = .ok (.getfield 232, 3) := dk_180 0 232 (dk_at dksX1_passes_2_2 16 rfl rfl)
theorem dX1_passes_2_64 : decode cX1_passes_2 64 = .ok (.iload 5, 2) := dk_21 5 (dk_at dksX1_passes_2_2 19 rfl rfl)
theorem dX1_passes_2_66 : decode cX1_passes_2 66 = .ok (.iaload, 1) := dk_46 (dk_at dksX1_passes_2_2 21 rfl rfl)
theorem dX1_passes_2_67 : decode cX1_passes_2 67 = .ok (.invokevirtual 238, 3) := dk_182 0 238 (dk_at dksX1_passes_2_3 0 rfl rfl)
theorem dX1_passes_2_70 : decode cX1_passes_2 70 = .ok (.astore 6, 2) := dk_58 6 (dk_at dksX1_passes_2_3 3 rfl rfl)
theorem dX1_passes_2_72 : decode cX1_passes_2 72 = .ok (.aload 6, 2) := dk_25 6 (dk_at dksX1_passes_2_3 5 rfl rfl)
theorem dX1_passes_2_74 : decode cX1_passes_2 74 = .ok (.ifnull 49, 3) := dk_198 0 49 (dk_at dksX1_passes_2_3 7 rfl rfl)
theorem dX1_passes_2_77 : decode cX1_passes_2 77 = .ok (.aload_n 0, 1) := dk_42 (dk_at dksX1_passes_2_3 10 rfl rfl)
theorem dX1_passes_2_78 : decode cX1_passes_2 78 = .ok (.iload_n 1, 1) := dk_27 (dk_at dksX1_passes_2_3 11 rfl rfl)
theorem dX1_passes_2_79 : decode cX1_passes_2 79 = .ok (.aload 6, 2) := dk_25 6 (dk_at dksX1_passes_2_3 12 rfl rfl)
theorem dX1_passes_2_81 : decode cX1_passes_2 81 = .ok (.invokevirtual 242, 3) := dk_182 0 242 (dk_at dksX1_passes_2_3 14 rfl rfl)
theorem dX1_passes_2_84 : decode cX1_passes_2 84 = .ok (.ifCond .ne 5, 3) := dk_154 0 5 (dk_at dksX1_passes_2_3 17 rfl rfl)
theorem dX1_passes_2_87 : decode cX1_passes_2 87 = .ok (.iconst 0, 1) := dk_3 (dk_at dksX1_passes_2_3 20 rfl rfl)
theorem dX1_passes_2_88 : decode cX1_passes_2 88 = .ok (.ireturn, 1) := dk_172 (dk_at dksX1_passes_2_3 21 rfl rfl)
theorem dX1_passes_2_89 : decode cX1_passes_2 89 = .ok (.iinc 3 (-1), 3) := dk_132 3 255 (dk_at dksX1_passes_2_4 0 rfl rfl)
theorem dX1_passes_2_92 : decode cX1_passes_2 92 = .ok (.iload_n 3, 1) := dk_29 (dk_at dksX1_passes_2_4 3 rfl rfl)
theorem dX1_passes_2_93 : decode cX1_passes_2 93 = .ok (.ifCond .ne 7, 3) := dk_154 0 7 (dk_at dksX1_passes_2_4 4 rfl rfl)
theorem dX1_passes_2_96 : decode cX1_passes_2 96 = .ok (.aconst_null, 1) := dk_1 (dk_at dksX1_passes_2_4 7 rfl rfl)
theorem dX1_passes_2_97 : decode cX1_passes_2 97 = .ok (.goto 21, 3) := dk_167 0 21 (dk_at dksX1_passes_2_4 8 rfl rfl)
theorem dX1_passes_2_100 : decode cX1_passes_2 100 = .ok (.aload_n 0, 1) := dk_42 (dk_at dksX1_passes_2_4 11 rfl rfl)
theorem dX1_passes_2_101 : decode cX1_passes_2 101 = .ok (.aload_n 0, 1) := dk_42 (dk_at dksX1_passes_2_4 12 rfl rfl)
theorem dX1_passes_2_102 : decode cX1_passes_2 102 = .ok (.getfield 25, 3) := dk_180 0 25 (dk_at dksX1_passes_2_4 13 rfl rfl)
theorem dX1_passes_2_105 : decode cX1_passes_2 105 = .ok (.iload_n 1, 1) := dk_27 (dk_at dksX1_passes_2_4 16 rfl rfl)
theorem dX1_passes_2_106 : decode cX1_passes_2 106 = .ok (.aaload, 1) := dk_50 (dk_at dksX1_passes_2_4 17 rfl rfl)
theorem dX1_passes_2_107 : decode cX1_passes_2 107 = .ok (.aload 4, 2) := dk_25 4 (dk_at dksX1_passes_2_4 18 rfl rfl)
theorem dX1_passes_2_109 : decode cX1_passes_2 109 = .ok (.getfield 232, 3) := dk_180 0 232 (dk_at dksX1_passes_2_4 20 rfl rfl)
theorem dX1_passes_2_112 : decode cX1_passes_2 112 = .ok (.iload 5, 2) := dk_21 5 (dk_at dksX1_passes_2_5 0 rfl rfl)
theorem dX1_passes_2_114 : decode cX1_passes_2 114 = .ok (.iaload, 1) := dk_46 (dk_at dksX1_passes_2_5 2 rfl rfl)
theorem dX1_passes_2_115 : decode cX1_passes_2 115 = .ok (.invokevirtual 238, 3) := dk_182 0 238 (dk_at dksX1_passes_2_5 3 rfl rfl)
theorem dX1_passes_2_118 : decode cX1_passes_2 118 = .ok (.astore 6, 2) := dk_58 6 (dk_at dksX1_passes_2_5 6 rfl rfl)
theorem dX1_passes_2_120 : decode cX1_passes_2 120 = .ok (.goto (-48), 3) := dk_167 255 208 (dk_at dksX1_passes_2_5 8 rfl rfl)
theorem dX1_passes_2_123 : decode cX1_passes_2 123 = .ok (.iinc 5 1, 3) := dk_132 5 1 (dk_at dksX1_passes_2_5 11 rfl rfl)
theorem dX1_passes_2_126 : decode cX1_passes_2 126 = .ok (.goto (-113), 3) := dk_167 255 143 (dk_at dksX1_passes_2_5 14 rfl rfl)
theorem dX1_passes_2_129 : decode cX1_passes_2 129 = .ok (.iload_n 3, 1) := dk_29 (dk_at dksX1_passes_2_5 17 rfl rfl)
theorem dX1_passes_2_130 : decode cX1_passes_2 130 = .ok (.ireturn, 1) := dk_172 (dk_at dksX1_passes_2_5 18 rfl rfl)
abbrev cX1_best : ByteArray := prog_5_method_17_code
def yX1_best : MethodName := ⟨RX1, "best", "(LBallotFruit$Eater;I)LBallotFruit$Tree;"⟩
def dkwX1_best_3 : List UInt8 := [180, 0, 208, 45, 180, 0, 195, 46, 164, 0, 6, 25, 5, 78, 132, 4, 1, 167, 255, 176, 45, 176]
abbrev dktX1_best_3 : List UInt8 := dkwX1_best_3 ++ []
def dkwX1_best_2 : List UInt8 := [180, 0, 195, 46, 158, 0, 32, 45, 198, 0, 25, 43, 180, 0, 208, 25, 5, 180, 0, 195, 46, 43]
abbrev dktX1_best_2 : List UInt8 := dkwX1_best_2 ++ dktX1_best_3
def dkwX1_best_1 : List UInt8 := [25, 5, 180, 0, 139, 28, 160, 0, 53, 25, 5, 180, 0, 145, 158, 0, 45, 43, 180, 0, 208, 25, 5]
abbrev dktX1_best_1 : List UInt8 := dkwX1_best_1 ++ dktX1_best_2
def dkwX1_best_0 : List UInt8 := [1, 78, 3, 54, 4, 21, 4, 42, 180, 0, 74, 162, 0, 77, 42, 180, 0, 19, 21, 4, 50, 58, 5]
abbrev dktX1_best_0 : List UInt8 := dkwX1_best_0 ++ dktX1_best_1
theorem dksX1_best_0 : cX1_best.data.toList.drop 0 = dktX1_best_0 := by decide +kernel
theorem dksX1_best_1 : cX1_best.data.toList.drop 23 = dktX1_best_1 := dk_seg dksX1_best_0 23 rfl rfl
theorem dksX1_best_2 : cX1_best.data.toList.drop 46 = dktX1_best_2 := dk_seg dksX1_best_1 23 rfl rfl
theorem dksX1_best_3 : cX1_best.data.toList.drop 68 = dktX1_best_3 := dk_seg dksX1_best_2 22 rfl rfl
theorem dX1_best_0 : decode cX1_best 0 = .ok (.aconst_null, 1) := dk_1 (dk_at dksX1_best_0 0 rfl rfl)
theorem dX1_best_1 : decode cX1_best 1 = .ok (.astore_n 3, 1) := dk_78 (dk_at dksX1_best_0 1 rfl rfl)
theorem dX1_best_2 : decode cX1_best 2 = .ok (.iconst 0, 1) := dk_3 (dk_at dksX1_best_0 2 rfl rfl)
theorem dX1_best_3 : decode cX1_best 3 = .ok (.istore 4, 2) := dk_54 4 (dk_at dksX1_best_0 3 rfl rfl)
theorem dX1_best_5 : decode cX1_best 5 = .ok (.iload 4, 2) := dk_21 4 (dk_at dksX1_best_0 5 rfl rfl)
theorem dX1_best_7 : decode cX1_best 7 = .ok (.aload_n 0, 1) := dk_42 (dk_at dksX1_best_0 7 rfl rfl)
theorem dX1_best_8 : decode cX1_best 8 = .ok (.getfield 74, 3) := dk_180 0 74 (dk_at dksX1_best_0 8 rfl rfl)
theorem dX1_best_11 : decode cX1_best 11 = .ok (.if_icmp .ge 77, 3) := dk_162 0 77 (dk_at dksX1_best_0 11 rfl rfl)
theorem dX1_best_14 : decode cX1_best 14 = .ok (.aload_n 0, 1) := dk_42 (dk_at dksX1_best_0 14 rfl rfl)
theorem dX1_best_15 : decode cX1_best 15 = .ok (.getfield 19, 3) := dk_180 0 19 (dk_at dksX1_best_0 15 rfl rfl)
theorem dX1_best_18 : decode cX1_best 18 = .ok (.iload 4, 2) := dk_21 4 (dk_at dksX1_best_0 18 rfl rfl)
theorem dX1_best_20 : decode cX1_best 20 = .ok (.aaload, 1) := dk_50 (dk_at dksX1_best_0 20 rfl rfl)
theorem dX1_best_21 : decode cX1_best 21 = .ok (.astore 5, 2) := dk_58 5 (dk_at dksX1_best_0 21 rfl rfl)
theorem dX1_best_23 : decode cX1_best 23 = .ok (.aload 5, 2) := dk_25 5 (dk_at dksX1_best_1 0 rfl rfl)
theorem dX1_best_25 : decode cX1_best 25 = .ok (.getfield 139, 3) := dk_180 0 139 (dk_at dksX1_best_1 2 rfl rfl)
theorem dX1_best_28 : decode cX1_best 28 = .ok (.iload_n 2, 1) := dk_28 (dk_at dksX1_best_1 5 rfl rfl)
theorem dX1_best_29 : decode cX1_best 29 = .ok (.if_icmp .ne 53, 3) := dk_160 0 53 (dk_at dksX1_best_1 6 rfl rfl)
theorem dX1_best_32 : decode cX1_best 32 = .ok (.aload 5, 2) := dk_25 5 (dk_at dksX1_best_1 9 rfl rfl)
theorem dX1_best_34 : decode cX1_best 34 = .ok (.getfield 145, 3) := dk_180 0 145 (dk_at dksX1_best_1 11 rfl rfl)
theorem dX1_best_37 : decode cX1_best 37 = .ok (.ifCond .le 45, 3) := dk_158 0 45 (dk_at dksX1_best_1 14 rfl rfl)
theorem dX1_best_40 : decode cX1_best 40 = .ok (.aload_n 1, 1) := dk_43 (dk_at dksX1_best_1 17 rfl rfl)
theorem dX1_best_41 : decode cX1_best 41 = .ok (.getfield 208, 3) := dk_180 0 208 (dk_at dksX1_best_1 18 rfl rfl)
theorem dX1_best_44 : decode cX1_best 44 = .ok (.aload 5, 2) := dk_25 5 (dk_at dksX1_best_1 21 rfl rfl)
theorem dX1_best_46 : decode cX1_best 46 = .ok (.getfield 195, 3) := dk_180 0 195 (dk_at dksX1_best_2 0 rfl rfl)
theorem dX1_best_49 : decode cX1_best 49 = .ok (.iaload, 1) := dk_46 (dk_at dksX1_best_2 3 rfl rfl)
theorem dX1_best_50 : decode cX1_best 50 = .ok (.ifCond .le 32, 3) := dk_158 0 32 (dk_at dksX1_best_2 4 rfl rfl)
theorem dX1_best_53 : decode cX1_best 53 = .ok (.aload_n 3, 1) := dk_45 (dk_at dksX1_best_2 7 rfl rfl)
theorem dX1_best_54 : decode cX1_best 54 = .ok (.ifnull 25, 3) := dk_198 0 25 (dk_at dksX1_best_2 8 rfl rfl)
theorem dX1_best_57 : decode cX1_best 57 = .ok (.aload_n 1, 1) := dk_43 (dk_at dksX1_best_2 11 rfl rfl)
theorem dX1_best_58 : decode cX1_best 58 = .ok (.getfield 208, 3) := dk_180 0 208 (dk_at dksX1_best_2 12 rfl rfl)
theorem dX1_best_61 : decode cX1_best 61 = .ok (.aload 5, 2) := dk_25 5 (dk_at dksX1_best_2 15 rfl rfl)
theorem dX1_best_63 : decode cX1_best 63 = .ok (.getfield 195, 3) := dk_180 0 195 (dk_at dksX1_best_2 17 rfl rfl)
theorem dX1_best_66 : decode cX1_best 66 = .ok (.iaload, 1) := dk_46 (dk_at dksX1_best_2 20 rfl rfl)
theorem dX1_best_67 : decode cX1_best 67 = .ok (.aload_n 1, 1) := dk_43 (dk_at dksX1_best_2 21 rfl rfl)
theorem dX1_best_68 : decode cX1_best 68 = .ok (.getfield 208, 3) := dk_180 0 208 (dk_at dksX1_best_3 0 rfl rfl)
theorem dX1_best_71 : decode cX1_best 71 = .ok (.aload_n 3, 1) := dk_45 (dk_at dksX1_best_3 3 rfl rfl)
theorem dX1_best_72 : decode cX1_best 72 = .ok (.getfield 195, 3) := dk_180 0 195 (dk_at dksX1_best_3 4 rfl rfl)
theorem dX1_best_75 : decode cX1_best 75 = .ok (.iaload, 1) := dk_46 (dk_at dksX1_best_3 7 rfl rfl)
theorem dX1_best_76 : decode cX1_best 76 = .ok (.if_icmp .le 6, 3) := dk_164 0 6 (dk_at dksX1_best_3 8 rfl rfl)
theorem dX1_best_79 : decode cX1_best 79 = .ok (.aload 5, 2) := dk_25 5 (dk_at dksX1_best_3 11 rfl rfl)
theorem dX1_best_81 : decode cX1_best 81 = .ok (.astore_n 3, 1) := dk_78 (dk_at dksX1_best_3 13 rfl rfl)
theorem dX1_best_82 : decode cX1_best 82 = .ok (.iinc 4 1, 3) := dk_132 4 1 (dk_at dksX1_best_3 14 rfl rfl)
theorem dX1_best_85 : decode cX1_best 85 = .ok (.goto (-80), 3) := dk_167 255 176 (dk_at dksX1_best_3 17 rfl rfl)
theorem dX1_best_88 : decode cX1_best 88 = .ok (.aload_n 3, 1) := dk_45 (dk_at dksX1_best_3 20 rfl rfl)
theorem dX1_best_89 : decode cX1_best 89 = .ok (.areturn, 1) := dk_176 (dk_at dksX1_best_3 21 rfl rfl)
abbrev cX1_eats : ByteArray := prog_5_method_19_code
def yX1_eats : MethodName := ⟨RX1, "eats", "(ILBallotFruit$Tree;)Z"⟩
def dkwX1_eats_4 : List UInt8 := [180, 0, 195, 182, 0, 211, 3, 172]
abbrev dktX1_eats_4 : List UInt8 := dkwX1_eats_4 ++ []
def dkwX1_eats_3 : List UInt8 := [180, 0, 195, 3, 45, 180, 0, 208, 44, 180, 0, 195, 46, 5, 100, 184, 0, 192, 79, 42, 7, 27, 44]
abbrev dktX1_eats_3 : List UInt8 := dkwX1_eats_3 ++ dktX1_eats_4
def dkwX1_eats_2 : List UInt8 := [153, 0, 17, 42, 17, 3, 232, 182, 0, 228, 42, 180, 0, 105, 161, 0, 5, 4, 172, 45, 180, 0, 208, 44]
abbrev dktX1_eats_2 : List UInt8 := dkwX1_eats_2 ++ dktX1_eats_3
def dkwX1_eats_1 : List UInt8 := [182, 0, 225, 44, 89, 180, 0, 145, 4, 100, 181, 0, 145, 42, 180, 0, 128, 154, 0, 24, 42, 180, 0, 105]
abbrev dktX1_eats_1 : List UInt8 := dkwX1_eats_1 ++ dktX1_eats_2
def dkwX1_eats_0 : List UInt8 := [42, 180, 0, 25, 27, 50, 78, 42, 44, 180, 0, 195, 42, 45, 44, 180, 0, 195, 44, 182, 0, 221]
abbrev dktX1_eats_0 : List UInt8 := dkwX1_eats_0 ++ dktX1_eats_1
theorem dksX1_eats_0 : cX1_eats.data.toList.drop 0 = dktX1_eats_0 := by decide +kernel
theorem dksX1_eats_1 : cX1_eats.data.toList.drop 22 = dktX1_eats_1 := dk_seg dksX1_eats_0 22 rfl rfl
theorem dksX1_eats_2 : cX1_eats.data.toList.drop 46 = dktX1_eats_2 := dk_seg dksX1_eats_1 24 rfl rfl
theorem dksX1_eats_3 : cX1_eats.data.toList.drop 70 = dktX1_eats_3 := dk_seg dksX1_eats_2 24 rfl rfl
theorem dksX1_eats_4 : cX1_eats.data.toList.drop 93 = dktX1_eats_4 := dk_seg dksX1_eats_3 23 rfl rfl
theorem dX1_eats_0 : decode cX1_eats 0 = .ok (.aload_n 0, 1) := dk_42 (dk_at dksX1_eats_0 0 rfl rfl)
theorem dX1_eats_1 : decode cX1_eats 1 = .ok (.getfield 25, 3) := dk_180 0 25 (dk_at dksX1_eats_0 1 rfl rfl)
theorem dX1_eats_4 : decode cX1_eats 4 = .ok (.iload_n 1, 1) := dk_27 (dk_at dksX1_eats_0 4 rfl rfl)
theorem dX1_eats_5 : decode cX1_eats 5 = .ok (.aaload, 1) := dk_50 (dk_at dksX1_eats_0 5 rfl rfl)
theorem dX1_eats_6 : decode cX1_eats 6 = .ok (.astore_n 3, 1) := dk_78 (dk_at dksX1_eats_0 6 rfl rfl)
theorem dX1_eats_7 : decode cX1_eats 7 = .ok (.aload_n 0, 1) := dk_42 (dk_at dksX1_eats_0 7 rfl rfl)
theorem dX1_eats_8 : decode cX1_eats 8 = .ok (.aload_n 2, 1) := dk_44 (dk_at dksX1_eats_0 8 rfl rfl)
theorem dX1_eats_9 : decode cX1_eats 9 = .ok (.getfield 195, 3) := dk_180 0 195 (dk_at dksX1_eats_0 9 rfl rfl)
theorem dX1_eats_12 : decode cX1_eats 12 = .ok (.aload_n 0, 1) := dk_42 (dk_at dksX1_eats_0 12 rfl rfl)
theorem dX1_eats_13 : decode cX1_eats 13 = .ok (.aload_n 3, 1) := dk_45 (dk_at dksX1_eats_0 13 rfl rfl)
theorem dX1_eats_14 : decode cX1_eats 14 = .ok (.aload_n 2, 1) := dk_44 (dk_at dksX1_eats_0 14 rfl rfl)
theorem dX1_eats_15 : decode cX1_eats 15 = .ok (.getfield 195, 3) := dk_180 0 195 (dk_at dksX1_eats_0 15 rfl rfl)
theorem dX1_eats_18 : decode cX1_eats 18 = .ok (.aload_n 2, 1) := dk_44 (dk_at dksX1_eats_0 18 rfl rfl)
theorem dX1_eats_19 : decode cX1_eats 19 = .ok (.invokevirtual 221, 3) := dk_182 0 221 (dk_at dksX1_eats_0 19 rfl rfl)
theorem dX1_eats_22 : decode cX1_eats 22 = .ok (.invokevirtual 225, 3) := dk_182 0 225 (dk_at dksX1_eats_1 0 rfl rfl)
theorem dX1_eats_25 : decode cX1_eats 25 = .ok (.aload_n 2, 1) := dk_44 (dk_at dksX1_eats_1 3 rfl rfl)
theorem dX1_eats_26 : decode cX1_eats 26 = .ok (.dup, 1) := dk_89 (dk_at dksX1_eats_1 4 rfl rfl)
theorem dX1_eats_27 : decode cX1_eats 27 = .ok (.getfield 145, 3) := dk_180 0 145 (dk_at dksX1_eats_1 5 rfl rfl)
theorem dX1_eats_30 : decode cX1_eats 30 = .ok (.iconst 1, 1) := dk_4 (dk_at dksX1_eats_1 8 rfl rfl)
theorem dX1_eats_31 : decode cX1_eats 31 = .ok (.isub, 1) := dk_100 (dk_at dksX1_eats_1 9 rfl rfl)
theorem dX1_eats_32 : decode cX1_eats 32 = .ok (.putfield 145, 3) := dk_181 0 145 (dk_at dksX1_eats_1 10 rfl rfl)
theorem dX1_eats_35 : decode cX1_eats 35 = .ok (.aload_n 0, 1) := dk_42 (dk_at dksX1_eats_1 13 rfl rfl)
theorem dX1_eats_36 : decode cX1_eats 36 = .ok (.getfield 128, 3) := dk_180 0 128 (dk_at dksX1_eats_1 14 rfl rfl)
theorem dX1_eats_39 : decode cX1_eats 39 = .ok (.ifCond .ne 24, 3) := dk_154 0 24 (dk_at dksX1_eats_1 17 rfl rfl)
theorem dX1_eats_42 : decode cX1_eats 42 = .ok (.aload_n 0, 1) := dk_42 (dk_at dksX1_eats_1 20 rfl rfl)
theorem dX1_eats_43 : decode cX1_eats 43 = .ok (.getfield 105, 3) := dk_180 0 105 (dk_at dksX1_eats_1 21 rfl rfl)
theorem dX1_eats_46 : decode cX1_eats 46 = .ok (.ifCond .eq 17, 3) := dk_153 0 17 (dk_at dksX1_eats_2 0 rfl rfl)
theorem dX1_eats_49 : decode cX1_eats 49 = .ok (.aload_n 0, 1) := dk_42 (dk_at dksX1_eats_2 3 rfl rfl)
theorem dX1_eats_50 : decode cX1_eats 50 = .ok (.sipush 1000, 3) := dk_17 3 232 (dk_at dksX1_eats_2 4 rfl rfl)
theorem dX1_eats_53 : decode cX1_eats 53 = .ok (.invokevirtual 228, 3) := dk_182 0 228 (dk_at dksX1_eats_2 7 rfl rfl)
theorem dX1_eats_56 : decode cX1_eats 56 = .ok (.aload_n 0, 1) := dk_42 (dk_at dksX1_eats_2 10 rfl rfl)
theorem dX1_eats_57 : decode cX1_eats 57 = .ok (.getfield 105, 3) := dk_180 0 105 (dk_at dksX1_eats_2 11 rfl rfl)
theorem dX1_eats_60 : decode cX1_eats 60 = .ok (.if_icmp .lt 5, 3) := dk_161 0 5 (dk_at dksX1_eats_2 14 rfl rfl)
theorem dX1_eats_63 : decode cX1_eats 63 = .ok (.iconst 1, 1) := dk_4 (dk_at dksX1_eats_2 17 rfl rfl)
theorem dX1_eats_64 : decode cX1_eats 64 = .ok (.ireturn, 1) := dk_172 (dk_at dksX1_eats_2 18 rfl rfl)
theorem dX1_eats_65 : decode cX1_eats 65 = .ok (.aload_n 3, 1) := dk_45 (dk_at dksX1_eats_2 19 rfl rfl)
theorem dX1_eats_66 : decode cX1_eats 66 = .ok (.getfield 208, 3) := dk_180 0 208 (dk_at dksX1_eats_2 20 rfl rfl)
theorem dX1_eats_69 : decode cX1_eats 69 = .ok (.aload_n 2, 1) := dk_44 (dk_at dksX1_eats_2 23 rfl rfl)
theorem dX1_eats_70 : decode cX1_eats 70 = .ok (.getfield 195, 3) := dk_180 0 195 (dk_at dksX1_eats_3 0 rfl rfl)
theorem dX1_eats_73 : decode cX1_eats 73 = .ok (.iconst 0, 1) := dk_3 (dk_at dksX1_eats_3 3 rfl rfl)
theorem dX1_eats_74 : decode cX1_eats 74 = .ok (.aload_n 3, 1) := dk_45 (dk_at dksX1_eats_3 4 rfl rfl)
theorem dX1_eats_75 : decode cX1_eats 75 = .ok (.getfield 208, 3) := dk_180 0 208 (dk_at dksX1_eats_3 5 rfl rfl)
theorem dX1_eats_78 : decode cX1_eats 78 = .ok (.aload_n 2, 1) := dk_44 (dk_at dksX1_eats_3 8 rfl rfl)
theorem dX1_eats_79 : decode cX1_eats 79 = .ok (.getfield 195, 3) := dk_180 0 195 (dk_at dksX1_eats_3 9 rfl rfl)
theorem dX1_eats_82 : decode cX1_eats 82 = .ok (.iaload, 1) := dk_46 (dk_at dksX1_eats_3 12 rfl rfl)
theorem dX1_eats_83 : decode cX1_eats 83 = .ok (.iconst 2, 1) := dk_5 (dk_at dksX1_eats_3 13 rfl rfl)
theorem dX1_eats_84 : decode cX1_eats 84 = .ok (.isub, 1) := dk_100 (dk_at dksX1_eats_3 14 rfl rfl)
theorem dX1_eats_85 : decode cX1_eats 85 = .ok (.invokestatic 192, 3) := dk_184 0 192 (dk_at dksX1_eats_3 15 rfl rfl)
theorem dX1_eats_88 : decode cX1_eats 88 = .ok (.iastore, 1) := dk_79 (dk_at dksX1_eats_3 18 rfl rfl)
theorem dX1_eats_89 : decode cX1_eats 89 = .ok (.aload_n 0, 1) := dk_42 (dk_at dksX1_eats_3 19 rfl rfl)
theorem dX1_eats_90 : decode cX1_eats 90 = .ok (.iconst 4, 1) := dk_7 (dk_at dksX1_eats_3 20 rfl rfl)
theorem dX1_eats_91 : decode cX1_eats 91 = .ok (.iload_n 1, 1) := dk_27 (dk_at dksX1_eats_3 21 rfl rfl)
theorem dX1_eats_92 : decode cX1_eats 92 = .ok (.aload_n 2, 1) := dk_44 (dk_at dksX1_eats_3 22 rfl rfl)
theorem dX1_eats_93 : decode cX1_eats 93 = .ok (.getfield 195, 3) := dk_180 0 195 (dk_at dksX1_eats_4 0 rfl rfl)
theorem dX1_eats_96 : decode cX1_eats 96 = .ok (.invokevirtual 211, 3) := dk_182 0 211 (dk_at dksX1_eats_4 3 rfl rfl)
theorem dX1_eats_99 : decode cX1_eats 99 = .ok (.iconst 0, 1) := dk_3 (dk_at dksX1_eats_4 6 rfl rfl)
theorem dX1_eats_100 : decode cX1_eats 100 = .ok (.ireturn, 1) := dk_172 (dk_at dksX1_eats_4 7 rfl rfl)
abbrev cX1_count : ByteArray := prog_5_method_12_code
def yX1_count : MethodName := ⟨RX1, "count", "(LBallotFruit$Eater;ILBallotFruit$Tree;)I"⟩
def dkwX1_count_1 : List UInt8 := [182, 0, 197, 42, 16, 9, 4, 16, 9, 182, 0, 201, 172]
abbrev dktX1_count_1 : List UInt8 := dkwX1_count_1 ++ []
def dkwX1_count_0 : List UInt8 := [42, 45, 28, 43, 180, 0, 205, 43, 180, 0, 208, 28, 46, 45, 199, 0, 7, 4, 167, 0, 4, 3]
abbrev dktX1_count_0 : List UInt8 := dkwX1_count_0 ++ dktX1_count_1
theorem dksX1_count_0 : cX1_count.data.toList.drop 0 = dktX1_count_0 := by decide +kernel
theorem dksX1_count_1 : cX1_count.data.toList.drop 22 = dktX1_count_1 := dk_seg dksX1_count_0 22 rfl rfl
theorem dX1_count_0 : decode cX1_count 0 = .ok (.aload_n 0, 1) := dk_42 (dk_at dksX1_count_0 0 rfl rfl)
theorem dX1_count_1 : decode cX1_count 1 = .ok (.aload_n 3, 1) := dk_45 (dk_at dksX1_count_0 1 rfl rfl)
theorem dX1_count_2 : decode cX1_count 2 = .ok (.iload_n 2, 1) := dk_28 (dk_at dksX1_count_0 2 rfl rfl)
theorem dX1_count_3 : decode cX1_count 3 = .ok (.aload_n 1, 1) := dk_43 (dk_at dksX1_count_0 3 rfl rfl)
theorem dX1_count_4 : decode cX1_count 4 = .ok (.getfield 205, 3) := dk_180 0 205 (dk_at dksX1_count_0 4 rfl rfl)
theorem dX1_count_7 : decode cX1_count 7 = .ok (.aload_n 1, 1) := dk_43 (dk_at dksX1_count_0 7 rfl rfl)
theorem dX1_count_8 : decode cX1_count 8 = .ok (.getfield 208, 3) := dk_180 0 208 (dk_at dksX1_count_0 8 rfl rfl)
theorem dX1_count_11 : decode cX1_count 11 = .ok (.iload_n 2, 1) := dk_28 (dk_at dksX1_count_0 11 rfl rfl)
theorem dX1_count_12 : decode cX1_count 12 = .ok (.iaload, 1) := dk_46 (dk_at dksX1_count_0 12 rfl rfl)
theorem dX1_count_13 : decode cX1_count 13 = .ok (.aload_n 3, 1) := dk_45 (dk_at dksX1_count_0 13 rfl rfl)
theorem dX1_count_14 : decode cX1_count 14 = .ok (.ifnonnull 7, 3) := dk_199 0 7 (dk_at dksX1_count_0 14 rfl rfl)
theorem dX1_count_17 : decode cX1_count 17 = .ok (.iconst 1, 1) := dk_4 (dk_at dksX1_count_0 17 rfl rfl)
theorem dX1_count_18 : decode cX1_count 18 = .ok (.goto 4, 3) := dk_167 0 4 (dk_at dksX1_count_0 18 rfl rfl)
theorem dX1_count_21 : decode cX1_count 21 = .ok (.iconst 0, 1) := dk_3 (dk_at dksX1_count_0 21 rfl rfl)
theorem dX1_count_22 : decode cX1_count 22 = .ok (.invokevirtual 197, 3) := dk_182 0 197 (dk_at dksX1_count_1 0 rfl rfl)
theorem dX1_count_25 : decode cX1_count 25 = .ok (.aload_n 0, 1) := dk_42 (dk_at dksX1_count_1 3 rfl rfl)
theorem dX1_count_26 : decode cX1_count 26 = .ok (.bipush 9, 2) := dk_16 9 (dk_at dksX1_count_1 4 rfl rfl)
theorem dX1_count_28 : decode cX1_count 28 = .ok (.iconst 1, 1) := dk_4 (dk_at dksX1_count_1 6 rfl rfl)
theorem dX1_count_29 : decode cX1_count 29 = .ok (.bipush 9, 2) := dk_16 9 (dk_at dksX1_count_1 7 rfl rfl)
theorem dX1_count_31 : decode cX1_count 31 = .ok (.invokevirtual 201, 3) := dk_182 0 201 (dk_at dksX1_count_1 9 rfl rfl)
theorem dX1_count_34 : decode cX1_count 34 = .ok (.ireturn, 1) := dk_172 (dk_at dksX1_count_1 12 rfl rfl)
abbrev cX1_votes : ByteArray := prog_5_method_18_code
def yX1_votes : MethodName := ⟨RX1, "votes", "(II)V"⟩
def dkwX1_votes_2 : List UInt8 := [96, 79, 177]
abbrev dktX1_votes_2 : List UInt8 := dkwX1_votes_2 ++ []
def dkwX1_votes_1 : List UInt8 := [184, 0, 186, 181, 0, 218, 42, 180, 0, 41, 27, 92, 46, 42, 180, 0, 11, 27, 50, 180, 0, 218, 29, 100]
abbrev dktX1_votes_1 : List UInt8 := dkwX1_votes_1 ++ dktX1_votes_2
def dkwX1_votes_0 : List UInt8 := [42, 180, 0, 11, 27, 50, 180, 0, 218, 62, 42, 180, 0, 11, 27, 50, 17, 39, 15, 29, 28, 96]
abbrev dktX1_votes_0 : List UInt8 := dkwX1_votes_0 ++ dktX1_votes_1
theorem dksX1_votes_0 : cX1_votes.data.toList.drop 0 = dktX1_votes_0 := by decide +kernel
theorem dksX1_votes_1 : cX1_votes.data.toList.drop 22 = dktX1_votes_1 := dk_seg dksX1_votes_0 22 rfl rfl
theorem dksX1_votes_2 : cX1_votes.data.toList.drop 46 = dktX1_votes_2 := dk_seg dksX1_votes_1 24 rfl rfl
theorem dX1_votes_0 : decode cX1_votes 0 = .ok (.aload_n 0, 1) := dk_42 (dk_at dksX1_votes_0 0 rfl rfl)
theorem dX1_votes_1 : decode cX1_votes 1 = .ok (.getfield 11, 3) := dk_180 0 11 (dk_at dksX1_votes_0 1 rfl rfl)
theorem dX1_votes_4 : decode cX1_votes 4 = .ok (.iload_n 1, 1) := dk_27 (dk_at dksX1_votes_0 4 rfl rfl)
theorem dX1_votes_5 : decode cX1_votes 5 = .ok (.aaload, 1) := dk_50 (dk_at dksX1_votes_0 5 rfl rfl)
theorem dX1_votes_6 : decode cX1_votes 6 = .ok (.getfield 218, 3) := dk_180 0 218 (dk_at dksX1_votes_0 6 rfl rfl)
theorem dX1_votes_9 : decode cX1_votes 9 = .ok (.istore_n 3, 1) := dk_62 (dk_at dksX1_votes_0 9 rfl rfl)
theorem dX1_votes_10 : decode cX1_votes 10 = .ok (.aload_n 0, 1) := dk_42 (dk_at dksX1_votes_0 10 rfl rfl)
theorem dX1_votes_11 : decode cX1_votes 11 = .ok (.getfield 11, 3) := dk_180 0 11 (dk_at dksX1_votes_0 11 rfl rfl)
theorem dX1_votes_14 : decode cX1_votes 14 = .ok (.iload_n 1, 1) := dk_27 (dk_at dksX1_votes_0 14 rfl rfl)
theorem dX1_votes_15 : decode cX1_votes 15 = .ok (.aaload, 1) := dk_50 (dk_at dksX1_votes_0 15 rfl rfl)
theorem dX1_votes_16 : decode cX1_votes 16 = .ok (.sipush 9999, 3) := dk_17 39 15 (dk_at dksX1_votes_0 16 rfl rfl)
theorem dX1_votes_19 : decode cX1_votes 19 = .ok (.iload_n 3, 1) := dk_29 (dk_at dksX1_votes_0 19 rfl rfl)
theorem dX1_votes_20 : decode cX1_votes 20 = .ok (.iload_n 2, 1) := dk_28 (dk_at dksX1_votes_0 20 rfl rfl)
theorem dX1_votes_21 : decode cX1_votes 21 = .ok (.iadd, 1) := dk_96 (dk_at dksX1_votes_0 21 rfl rfl)
theorem dX1_votes_22 : decode cX1_votes 22 = .ok (.invokestatic 186, 3) := dk_184 0 186 (dk_at dksX1_votes_1 0 rfl rfl)
theorem dX1_votes_25 : decode cX1_votes 25 = .ok (.putfield 218, 3) := dk_181 0 218 (dk_at dksX1_votes_1 3 rfl rfl)
theorem dX1_votes_28 : decode cX1_votes 28 = .ok (.aload_n 0, 1) := dk_42 (dk_at dksX1_votes_1 6 rfl rfl)
theorem dX1_votes_29 : decode cX1_votes 29 = .ok (.getfield 41, 3) := dk_180 0 41 (dk_at dksX1_votes_1 7 rfl rfl)
theorem dX1_votes_32 : decode cX1_votes 32 = .ok (.iload_n 1, 1) := dk_27 (dk_at dksX1_votes_1 10 rfl rfl)
theorem dX1_votes_33 : decode cX1_votes 33 = .ok (.dup2, 1) := dk_92 (dk_at dksX1_votes_1 11 rfl rfl)
theorem dX1_votes_34 : decode cX1_votes 34 = .ok (.iaload, 1) := dk_46 (dk_at dksX1_votes_1 12 rfl rfl)
theorem dX1_votes_35 : decode cX1_votes 35 = .ok (.aload_n 0, 1) := dk_42 (dk_at dksX1_votes_1 13 rfl rfl)
theorem dX1_votes_36 : decode cX1_votes 36 = .ok (.getfield 11, 3) := dk_180 0 11 (dk_at dksX1_votes_1 14 rfl rfl)
theorem dX1_votes_39 : decode cX1_votes 39 = .ok (.iload_n 1, 1) := dk_27 (dk_at dksX1_votes_1 17 rfl rfl)
theorem dX1_votes_40 : decode cX1_votes 40 = .ok (.aaload, 1) := dk_50 (dk_at dksX1_votes_1 18 rfl rfl)
theorem dX1_votes_41 : decode cX1_votes 41 = .ok (.getfield 218, 3) := dk_180 0 218 (dk_at dksX1_votes_1 19 rfl rfl)
theorem dX1_votes_44 : decode cX1_votes 44 = .ok (.iload_n 3, 1) := dk_29 (dk_at dksX1_votes_1 22 rfl rfl)
theorem dX1_votes_45 : decode cX1_votes 45 = .ok (.isub, 1) := dk_100 (dk_at dksX1_votes_1 23 rfl rfl)
theorem dX1_votes_46 : decode cX1_votes 46 = .ok (.iadd, 1) := dk_96 (dk_at dksX1_votes_2 0 rfl rfl)
theorem dX1_votes_47 : decode cX1_votes 47 = .ok (.iastore, 1) := dk_79 (dk_at dksX1_votes_2 1 rfl rfl)
theorem dX1_votes_48 : decode cX1_votes 48 = .ok (.return_, 1) := dk_177 (dk_at dksX1_votes_2 2 rfl rfl)
abbrev cX1_draw : ByteArray := prog_5_method_5_code
def yX1_draw : MethodName := ⟨RX1, "draw", "(I)I"⟩
def dkwX1_draw_0 : List UInt8 := [42, 18, 126, 42, 180, 0, 89, 104, 18, 127, 96, 181, 0, 89, 42, 180, 0, 89, 16, 8, 124, 27, 112, 172]
abbrev dktX1_draw_0 : List UInt8 := dkwX1_draw_0 ++ []
theorem dksX1_draw_0 : cX1_draw.data.toList.drop 0 = dktX1_draw_0 := by decide +kernel
theorem dX1_draw_0 : decode cX1_draw 0 = .ok (.aload_n 0, 1) := dk_42 (dk_at dksX1_draw_0 0 rfl rfl)
theorem dX1_draw_1 : decode cX1_draw 1 = .ok (.ldc 126, 2) := dk_18 126 (dk_at dksX1_draw_0 1 rfl rfl)
theorem dX1_draw_3 : decode cX1_draw 3 = .ok (.aload_n 0, 1) := dk_42 (dk_at dksX1_draw_0 3 rfl rfl)
theorem dX1_draw_4 : decode cX1_draw 4 = .ok (.getfield 89, 3) := dk_180 0 89 (dk_at dksX1_draw_0 4 rfl rfl)
theorem dX1_draw_7 : decode cX1_draw 7 = .ok (.imul, 1) := dk_104 (dk_at dksX1_draw_0 7 rfl rfl)
theorem dX1_draw_8 : decode cX1_draw 8 = .ok (.ldc 127, 2) := dk_18 127 (dk_at dksX1_draw_0 8 rfl rfl)
theorem dX1_draw_10 : decode cX1_draw 10 = .ok (.iadd, 1) := dk_96 (dk_at dksX1_draw_0 10 rfl rfl)
theorem dX1_draw_11 : decode cX1_draw 11 = .ok (.putfield 89, 3) := dk_181 0 89 (dk_at dksX1_draw_0 11 rfl rfl)
theorem dX1_draw_14 : decode cX1_draw 14 = .ok (.aload_n 0, 1) := dk_42 (dk_at dksX1_draw_0 14 rfl rfl)
theorem dX1_draw_15 : decode cX1_draw 15 = .ok (.getfield 89, 3) := dk_180 0 89 (dk_at dksX1_draw_0 15 rfl rfl)
theorem dX1_draw_18 : decode cX1_draw 18 = .ok (.bipush 8, 2) := dk_16 8 (dk_at dksX1_draw_0 18 rfl rfl)
theorem dX1_draw_20 : decode cX1_draw 20 = .ok (.iushr, 1) := dk_124 (dk_at dksX1_draw_0 20 rfl rfl)
theorem dX1_draw_21 : decode cX1_draw 21 = .ok (.iload_n 1, 1) := dk_27 (dk_at dksX1_draw_0 21 rfl rfl)
theorem dX1_draw_22 : decode cX1_draw 22 = .ok (.irem, 1) := dk_112 (dk_at dksX1_draw_0 22 rfl rfl)
theorem dX1_draw_23 : decode cX1_draw 23 = .ok (.ireturn, 1) := dk_172 (dk_at dksX1_draw_0 23 rfl rfl)
abbrev cX1_jamOf : ByteArray := prog_5_method_20_code
def yX1_jamOf : MethodName := ⟨RX1, "jamOf", "(LBallotFruit$Eater;)I"⟩
def dkwX1_jamOf_2 : List UInt8 := [28, 46, 164, 0, 5, 29, 61, 132, 3, 1, 167, 255, 202, 28, 172]
abbrev dktX1_jamOf_2 : List UInt8 := dkwX1_jamOf_2 ++ []
def dkwX1_jamOf_1 : List UInt8 := [43, 180, 0, 208, 29, 46, 158, 0, 25, 28, 2, 159, 0, 18, 43, 180, 0, 208, 29, 46, 43, 180, 0, 208]
abbrev dktX1_jamOf_1 : List UInt8 := dkwX1_jamOf_1 ++ dktX1_jamOf_2
def dkwX1_jamOf_0 : List UInt8 := [2, 61, 3, 62, 29, 42, 180, 0, 99, 162, 0, 52, 42, 180, 0, 11, 29, 50, 180, 0, 215, 158, 0, 34]
abbrev dktX1_jamOf_0 : List UInt8 := dkwX1_jamOf_0 ++ dktX1_jamOf_1
theorem dksX1_jamOf_0 : cX1_jamOf.data.toList.drop 0 = dktX1_jamOf_0 := by decide +kernel
theorem dksX1_jamOf_1 : cX1_jamOf.data.toList.drop 24 = dktX1_jamOf_1 := dk_seg dksX1_jamOf_0 24 rfl rfl
theorem dksX1_jamOf_2 : cX1_jamOf.data.toList.drop 48 = dktX1_jamOf_2 := dk_seg dksX1_jamOf_1 24 rfl rfl
theorem dX1_jamOf_0 : decode cX1_jamOf 0 = .ok (.iconst (-1), 1) := dk_2 (dk_at dksX1_jamOf_0 0 rfl rfl)
theorem dX1_jamOf_1 : decode cX1_jamOf 1 = .ok (.istore_n 2, 1) := dk_61 (dk_at dksX1_jamOf_0 1 rfl rfl)
theorem dX1_jamOf_2 : decode cX1_jamOf 2 = .ok (.iconst 0, 1) := dk_3 (dk_at dksX1_jamOf_0 2 rfl rfl)
theorem dX1_jamOf_3 : decode cX1_jamOf 3 = .ok (.istore_n 3, 1) := dk_62 (dk_at dksX1_jamOf_0 3 rfl rfl)
theorem dX1_jamOf_4 : decode cX1_jamOf 4 = .ok (.iload_n 3, 1) := dk_29 (dk_at dksX1_jamOf_0 4 rfl rfl)
theorem dX1_jamOf_5 : decode cX1_jamOf 5 = .ok (.aload_n 0, 1) := dk_42 (dk_at dksX1_jamOf_0 5 rfl rfl)
theorem dX1_jamOf_6 : decode cX1_jamOf 6 = .ok (.getfield 99, 3) := dk_180 0 99 (dk_at dksX1_jamOf_0 6 rfl rfl)
theorem dX1_jamOf_9 : decode cX1_jamOf 9 = .ok (.if_icmp .ge 52, 3) := dk_162 0 52 (dk_at dksX1_jamOf_0 9 rfl rfl)
theorem dX1_jamOf_12 : decode cX1_jamOf 12 = .ok (.aload_n 0, 1) := dk_42 (dk_at dksX1_jamOf_0 12 rfl rfl)
theorem dX1_jamOf_13 : decode cX1_jamOf 13 = .ok (.getfield 11, 3) := dk_180 0 11 (dk_at dksX1_jamOf_0 13 rfl rfl)
theorem dX1_jamOf_16 : decode cX1_jamOf 16 = .ok (.iload_n 3, 1) := dk_29 (dk_at dksX1_jamOf_0 16 rfl rfl)
theorem dX1_jamOf_17 : decode cX1_jamOf 17 = .ok (.aaload, 1) := dk_50 (dk_at dksX1_jamOf_0 17 rfl rfl)
theorem dX1_jamOf_18 : decode cX1_jamOf 18 = .ok (.getfield 215, 3) := dk_180 0 215 (dk_at dksX1_jamOf_0 18 rfl rfl)
theorem dX1_jamOf_21 : decode cX1_jamOf 21 = .ok (.ifCond .le 34, 3) := dk_158 0 34 (dk_at dksX1_jamOf_0 21 rfl rfl)
theorem dX1_jamOf_24 : decode cX1_jamOf 24 = .ok (.aload_n 1, 1) := dk_43 (dk_at dksX1_jamOf_1 0 rfl rfl)
theorem dX1_jamOf_25 : decode cX1_jamOf 25 = .ok (.getfield 208, 3) := dk_180 0 208 (dk_at dksX1_jamOf_1 1 rfl rfl)
theorem dX1_jamOf_28 : decode cX1_jamOf 28 = .ok (.iload_n 3, 1) := dk_29 (dk_at dksX1_jamOf_1 4 rfl rfl)
theorem dX1_jamOf_29 : decode cX1_jamOf 29 = .ok (.iaload, 1) := dk_46 (dk_at dksX1_jamOf_1 5 rfl rfl)
theorem dX1_jamOf_30 : decode cX1_jamOf 30 = .ok (.ifCond .le 25, 3) := dk_158 0 25 (dk_at dksX1_jamOf_1 6 rfl rfl)
theorem dX1_jamOf_33 : decode cX1_jamOf 33 = .ok (.iload_n 2, 1) := dk_28 (dk_at dksX1_jamOf_1 9 rfl rfl)
theorem dX1_jamOf_34 : decode cX1_jamOf 34 = .ok (.iconst (-1), 1) := dk_2 (dk_at dksX1_jamOf_1 10 rfl rfl)
theorem dX1_jamOf_35 : decode cX1_jamOf 35 = .ok (.if_icmp .eq 18, 3) := dk_159 0 18 (dk_at dksX1_jamOf_1 11 rfl rfl)
theorem dX1_jamOf_38 : decode cX1_jamOf 38 = .ok (.aload_n 1, 1) := dk_43 (dk_at dksX1_jamOf_1 14 rfl rfl)
theorem dX1_jamOf_39 : decode cX1_jamOf 39 = .ok (.getfield 208, 3) := dk_180 0 208 (dk_at dksX1_jamOf_1 15 rfl rfl)
theorem dX1_jamOf_42 : decode cX1_jamOf 42 = .ok (.iload_n 3, 1) := dk_29 (dk_at dksX1_jamOf_1 18 rfl rfl)
theorem dX1_jamOf_43 : decode cX1_jamOf 43 = .ok (.iaload, 1) := dk_46 (dk_at dksX1_jamOf_1 19 rfl rfl)
theorem dX1_jamOf_44 : decode cX1_jamOf 44 = .ok (.aload_n 1, 1) := dk_43 (dk_at dksX1_jamOf_1 20 rfl rfl)
theorem dX1_jamOf_45 : decode cX1_jamOf 45 = .ok (.getfield 208, 3) := dk_180 0 208 (dk_at dksX1_jamOf_1 21 rfl rfl)
theorem dX1_jamOf_48 : decode cX1_jamOf 48 = .ok (.iload_n 2, 1) := dk_28 (dk_at dksX1_jamOf_2 0 rfl rfl)
theorem dX1_jamOf_49 : decode cX1_jamOf 49 = .ok (.iaload, 1) := dk_46 (dk_at dksX1_jamOf_2 1 rfl rfl)
theorem dX1_jamOf_50 : decode cX1_jamOf 50 = .ok (.if_icmp .le 5, 3) := dk_164 0 5 (dk_at dksX1_jamOf_2 2 rfl rfl)
theorem dX1_jamOf_53 : decode cX1_jamOf 53 = .ok (.iload_n 3, 1) := dk_29 (dk_at dksX1_jamOf_2 5 rfl rfl)
theorem dX1_jamOf_54 : decode cX1_jamOf 54 = .ok (.istore_n 2, 1) := dk_61 (dk_at dksX1_jamOf_2 6 rfl rfl)
theorem dX1_jamOf_55 : decode cX1_jamOf 55 = .ok (.iinc 3 1, 3) := dk_132 3 1 (dk_at dksX1_jamOf_2 7 rfl rfl)
theorem dX1_jamOf_58 : decode cX1_jamOf 58 = .ok (.goto (-54), 3) := dk_167 255 202 (dk_at dksX1_jamOf_2 10 rfl rfl)
theorem dX1_jamOf_61 : decode cX1_jamOf 61 = .ok (.iload_n 2, 1) := dk_28 (dk_at dksX1_jamOf_2 13 rfl rfl)
theorem dX1_jamOf_62 : decode cX1_jamOf 62 = .ok (.ireturn, 1) := dk_172 (dk_at dksX1_jamOf_2 14 rfl rfl)
abbrev cX1_stings : ByteArray := prog_5_method_23_code
def yX1_stings : MethodName := ⟨RX1, "stings", "()V"⟩
def dkwX1_stings_3 : List UInt8 := [89, 180, 0, 145, 44, 180, 0, 145, 16, 10, 108, 100, 181, 0, 145, 132, 1, 1, 167, 255, 168, 177]
abbrev dktX1_stings_3 : List UInt8 := dkwX1_stings_3 ++ []
def dkwX1_stings_2 : List UInt8 := [180, 0, 108, 161, 0, 6, 167, 0, 33, 42, 16, 6, 27, 44, 180, 0, 145, 16, 10, 108, 182, 0, 211, 44]
abbrev dktX1_stings_2 : List UInt8 := dkwX1_stings_2 ++ dktX1_stings_3
def dkwX1_stings_1 : List UInt8 := [42, 180, 0, 19, 27, 50, 77, 44, 180, 0, 145, 16, 10, 161, 0, 50, 42, 17, 3, 232, 182, 0, 228, 42]
abbrev dktX1_stings_1 : List UInt8 := dkwX1_stings_1 ++ dktX1_stings_2
def dkwX1_stings_0 : List UInt8 := [3, 60, 27, 42, 180, 0, 74, 162, 0, 86, 42, 180, 0, 108, 158, 0, 79, 42, 180, 0, 128, 154, 0, 72]
abbrev dktX1_stings_0 : List UInt8 := dkwX1_stings_0 ++ dktX1_stings_1
theorem dksX1_stings_0 : cX1_stings.data.toList.drop 0 = dktX1_stings_0 := by decide +kernel
theorem dksX1_stings_1 : cX1_stings.data.toList.drop 24 = dktX1_stings_1 := dk_seg dksX1_stings_0 24 rfl rfl
theorem dksX1_stings_2 : cX1_stings.data.toList.drop 48 = dktX1_stings_2 := dk_seg dksX1_stings_1 24 rfl rfl
theorem dksX1_stings_3 : cX1_stings.data.toList.drop 72 = dktX1_stings_3 := dk_seg dksX1_stings_2 24 rfl rfl
theorem dX1_stings_0 : decode cX1_stings 0 = .ok (.iconst 0, 1) := dk_3 (dk_at dksX1_stings_0 0 rfl rfl)
theorem dX1_stings_1 : decode cX1_stings 1 = .ok (.istore_n 1, 1) := dk_60 (dk_at dksX1_stings_0 1 rfl rfl)
theorem dX1_stings_2 : decode cX1_stings 2 = .ok (.iload_n 1, 1) := dk_27 (dk_at dksX1_stings_0 2 rfl rfl)
theorem dX1_stings_3 : decode cX1_stings 3 = .ok (.aload_n 0, 1) := dk_42 (dk_at dksX1_stings_0 3 rfl rfl)
theorem dX1_stings_4 : decode cX1_stings 4 = .ok (.getfield 74, 3) := dk_180 0 74 (dk_at dksX1_stings_0 4 rfl rfl)
theorem dX1_stings_7 : decode cX1_stings 7 = .ok (.if_icmp .ge 86, 3) := dk_162 0 86 (dk_at dksX1_stings_0 7 rfl rfl)
theorem dX1_stings_10 : decode cX1_stings 10 = .ok (.aload_n 0, 1) := dk_42 (dk_at dksX1_stings_0 10 rfl rfl)
theorem dX1_stings_11 : decode cX1_stings 11 = .ok (.getfield 108, 3) := dk_180 0 108 (dk_at dksX1_stings_0 11 rfl rfl)
theorem dX1_stings_14 : decode cX1_stings 14 = .ok (.ifCond .le 79, 3) := dk_158 0 79 (dk_at dksX1_stings_0 14 rfl rfl)
theorem dX1_stings_17 : decode cX1_stings 17 = .ok (.aload_n 0, 1) := dk_42 (dk_at dksX1_stings_0 17 rfl rfl)
theorem dX1_stings_18 : decode cX1_stings 18 = .ok (.getfield 128, 3) := dk_180 0 128 (dk_at dksX1_stings_0 18 rfl rfl)
theorem dX1_stings_21 : decode cX1_stings 21 = .ok (.ifCond .ne 72, 3) := dk_154 0 72 (dk_at dksX1_stings_0 21 rfl rfl)
theorem dX1_stings_24 : decode cX1_stings 24 = .ok (.aload_n 0, 1) := dk_42 (dk_at dksX1_stings_1 0 rfl rfl)
theorem dX1_stings_25 : decode cX1_stings 25 = .ok (.getfield 19, 3) := dk_180 0 19 (dk_at dksX1_stings_1 1 rfl rfl)
theorem dX1_stings_28 : decode cX1_stings 28 = .ok (.iload_n 1, 1) := dk_27 (dk_at dksX1_stings_1 4 rfl rfl)
theorem dX1_stings_29 : decode cX1_stings 29 = .ok (.aaload, 1) := dk_50 (dk_at dksX1_stings_1 5 rfl rfl)
theorem dX1_stings_30 : decode cX1_stings 30 = .ok (.astore_n 2, 1) := dk_77 (dk_at dksX1_stings_1 6 rfl rfl)
theorem dX1_stings_31 : decode cX1_stings 31 = .ok (.aload_n 2, 1) := dk_44 (dk_at dksX1_stings_1 7 rfl rfl)
theorem dX1_stings_32 : decode cX1_stings 32 = .ok (.getfield 145, 3) := dk_180 0 145 (dk_at dksX1_stings_1 8 rfl rfl)
theorem dX1_stings_35 : decode cX1_stings 35 = .ok (.bipush 10, 2) := dk_16 10 (dk_at dksX1_stings_1 11 rfl rfl)
theorem dX1_stings_37 : decode cX1_stings 37 = .ok (.if_icmp .lt 50, 3) := dk_161 0 50 (dk_at dksX1_stings_1 13 rfl rfl)
theorem dX1_stings_40 : decode cX1_stings 40 = .ok (.aload_n 0, 1) := dk_42 (dk_at dksX1_stings_1 16 rfl rfl)
theorem dX1_stings_41 : decode cX1_stings 41 = .ok (.sipush 1000, 3) := dk_17 3 232 (dk_at dksX1_stings_1 17 rfl rfl)
theorem dX1_stings_44 : decode cX1_stings 44 = .ok (.invokevirtual 228, 3) := dk_182 0 228 (dk_at dksX1_stings_1 20 rfl rfl)
theorem dX1_stings_47 : decode cX1_stings 47 = .ok (.aload_n 0, 1) := dk_42 (dk_at dksX1_stings_1 23 rfl rfl)
theorem dX1_stings_48 : decode cX1_stings 48 = .ok (.getfield 108, 3) := dk_180 0 108 (dk_at dksX1_stings_2 0 rfl rfl)
theorem dX1_stings_51 : decode cX1_stings 51 = .ok (.if_icmp .lt 6, 3) := dk_161 0 6 (dk_at dksX1_stings_2 3 rfl rfl)
theorem dX1_stings_54 : decode cX1_stings 54 = .ok (.goto 33, 3) := dk_167 0 33 (dk_at dksX1_stings_2 6 rfl rfl)
theorem dX1_stings_57 : decode cX1_stings 57 = .ok (.aload_n 0, 1) := dk_42 (dk_at dksX1_stings_2 9 rfl rfl)
theorem dX1_stings_58 : decode cX1_stings 58 = .ok (.bipush 6, 2) := dk_16 6 (dk_at dksX1_stings_2 10 rfl rfl)
theorem dX1_stings_60 : decode cX1_stings 60 = .ok (.iload_n 1, 1) := dk_27 (dk_at dksX1_stings_2 12 rfl rfl)
theorem dX1_stings_61 : decode cX1_stings 61 = .ok (.aload_n 2, 1) := dk_44 (dk_at dksX1_stings_2 13 rfl rfl)
theorem dX1_stings_62 : decode cX1_stings 62 = .ok (.getfield 145, 3) := dk_180 0 145 (dk_at dksX1_stings_2 14 rfl rfl)
theorem dX1_stings_65 : decode cX1_stings 65 = .ok (.bipush 10, 2) := dk_16 10 (dk_at dksX1_stings_2 17 rfl rfl)
theorem dX1_stings_67 : decode cX1_stings 67 = .ok (.idiv, 1) := dk_108 (dk_at dksX1_stings_2 19 rfl rfl)
theorem dX1_stings_68 : decode cX1_stings 68 = .ok (.invokevirtual 211, 3) := dk_182 0 211 (dk_at dksX1_stings_2 20 rfl rfl)
theorem dX1_stings_71 : decode cX1_stings 71 = .ok (.aload_n 2, 1) := dk_44 (dk_at dksX1_stings_2 23 rfl rfl)
theorem dX1_stings_72 : decode cX1_stings 72 = .ok (.dup, 1) := dk_89 (dk_at dksX1_stings_3 0 rfl rfl)
theorem dX1_stings_73 : decode cX1_stings 73 = .ok (.getfield 145, 3) := dk_180 0 145 (dk_at dksX1_stings_3 1 rfl rfl)
theorem dX1_stings_76 : decode cX1_stings 76 = .ok (.aload_n 2, 1) := dk_44 (dk_at dksX1_stings_3 4 rfl rfl)
theorem dX1_stings_77 : decode cX1_stings 77 = .ok (.getfield 145, 3) := dk_180 0 145 (dk_at dksX1_stings_3 5 rfl rfl)
theorem dX1_stings_80 : decode cX1_stings 80 = .ok (.bipush 10, 2) := dk_16 10 (dk_at dksX1_stings_3 8 rfl rfl)
theorem dX1_stings_82 : decode cX1_stings 82 = .ok (.idiv, 1) := dk_108 (dk_at dksX1_stings_3 10 rfl rfl)
theorem dX1_stings_83 : decode cX1_stings 83 = .ok (.isub, 1) := dk_100 (dk_at dksX1_stings_3 11 rfl rfl)
theorem dX1_stings_84 : decode cX1_stings 84 = .ok (.putfield 145, 3) := dk_181 0 145 (dk_at dksX1_stings_3 12 rfl rfl)
theorem dX1_stings_87 : decode cX1_stings 87 = .ok (.iinc 1 1, 3) := dk_132 1 1 (dk_at dksX1_stings_3 15 rfl rfl)
theorem dX1_stings_90 : decode cX1_stings 90 = .ok (.goto (-88), 3) := dk_167 255 168 (dk_at dksX1_stings_3 18 rfl rfl)
theorem dX1_stings_93 : decode cX1_stings 93 = .ok (.return_, 1) := dk_177 (dk_at dksX1_stings_3 21 rfl rfl)
abbrev cX1_seats : ByteArray := prog_5_method_27_code
def yX1_seats : MethodName := ⟨RX1, "seats", "()V"⟩
def dkwX1_seats_3 : List UInt8 := [180, 0, 157, 182, 0, 211, 177]
abbrev dktX1_seats_3 : List UInt8 := dkwX1_seats_3 ++ []
def dkwX1_seats_2 : List UInt8 := [182, 1, 7, 60, 42, 16, 7, 27, 27, 2, 160, 0, 7, 3, 167, 0, 12, 42, 180, 0, 11, 27, 50]
abbrev dktX1_seats_2 : List UInt8 := dkwX1_seats_2 ++ dktX1_seats_3
def dkwX1_seats_1 : List UInt8 := [180, 0, 99, 162, 0, 19, 42, 180, 0, 11, 27, 50, 3, 181, 0, 218, 132, 1, 1, 167, 255, 235, 42]
abbrev dktX1_seats_1 : List UInt8 := dkwX1_seats_1 ++ dktX1_seats_2
def dkwX1_seats_0 : List UInt8 := [42, 180, 0, 86, 4, 96, 42, 180, 0, 64, 112, 153, 0, 4, 177, 42, 182, 1, 4, 3, 60, 27, 42]
abbrev dktX1_seats_0 : List UInt8 := dkwX1_seats_0 ++ dktX1_seats_1
theorem dksX1_seats_0 : cX1_seats.data.toList.drop 0 = dktX1_seats_0 := by decide +kernel
theorem dksX1_seats_1 : cX1_seats.data.toList.drop 23 = dktX1_seats_1 := dk_seg dksX1_seats_0 23 rfl rfl
theorem dksX1_seats_2 : cX1_seats.data.toList.drop 46 = dktX1_seats_2 := dk_seg dksX1_seats_1 23 rfl rfl
theorem dksX1_seats_3 : cX1_seats.data.toList.drop 69 = dktX1_seats_3 := dk_seg dksX1_seats_2 23 rfl rfl
theorem dX1_seats_0 : decode cX1_seats 0 = .ok (.aload_n 0, 1) := dk_42 (dk_at dksX1_seats_0 0 rfl rfl)
theorem dX1_seats_1 : decode cX1_seats 1 = .ok (.getfield 86, 3) := dk_180 0 86 (dk_at dksX1_seats_0 1 rfl rfl)
theorem dX1_seats_4 : decode cX1_seats 4 = .ok (.iconst 1, 1) := dk_4 (dk_at dksX1_seats_0 4 rfl rfl)
theorem dX1_seats_5 : decode cX1_seats 5 = .ok (.iadd, 1) := dk_96 (dk_at dksX1_seats_0 5 rfl rfl)
theorem dX1_seats_6 : decode cX1_seats 6 = .ok (.aload_n 0, 1) := dk_42 (dk_at dksX1_seats_0 6 rfl rfl)
theorem dX1_seats_7 : decode cX1_seats 7 = .ok (.getfield 64, 3) := dk_180 0 64 (dk_at dksX1_seats_0 7 rfl rfl)
theorem dX1_seats_10 : decode cX1_seats 10 = .ok (.irem, 1) := dk_112 (dk_at dksX1_seats_0 10 rfl rfl)
theorem dX1_seats_11 : decode cX1_seats 11 = .ok (.ifCond .eq 4, 3) := dk_153 0 4 (dk_at dksX1_seats_0 11 rfl rfl)
theorem dX1_seats_14 : decode cX1_seats 14 = .ok (.return_, 1) := dk_177 (dk_at dksX1_seats_0 14 rfl rfl)
theorem dX1_seats_15 : decode cX1_seats 15 = .ok (.aload_n 0, 1) := dk_42 (dk_at dksX1_seats_0 15 rfl rfl)
theorem dX1_seats_16 : decode cX1_seats 16 = .ok (.invokevirtual 260, 3) := dk_182 1 4 (dk_at dksX1_seats_0 16 rfl rfl)
theorem dX1_seats_19 : decode cX1_seats 19 = .ok (.iconst 0, 1) := dk_3 (dk_at dksX1_seats_0 19 rfl rfl)
theorem dX1_seats_20 : decode cX1_seats 20 = .ok (.istore_n 1, 1) := dk_60 (dk_at dksX1_seats_0 20 rfl rfl)
theorem dX1_seats_21 : decode cX1_seats 21 = .ok (.iload_n 1, 1) := dk_27 (dk_at dksX1_seats_0 21 rfl rfl)
theorem dX1_seats_22 : decode cX1_seats 22 = .ok (.aload_n 0, 1) := dk_42 (dk_at dksX1_seats_0 22 rfl rfl)
theorem dX1_seats_23 : decode cX1_seats 23 = .ok (.getfield 99, 3) := dk_180 0 99 (dk_at dksX1_seats_1 0 rfl rfl)
theorem dX1_seats_26 : decode cX1_seats 26 = .ok (.if_icmp .ge 19, 3) := dk_162 0 19 (dk_at dksX1_seats_1 3 rfl rfl)
theorem dX1_seats_29 : decode cX1_seats 29 = .ok (.aload_n 0, 1) := dk_42 (dk_at dksX1_seats_1 6 rfl rfl)
theorem dX1_seats_30 : decode cX1_seats 30 = .ok (.getfield 11, 3) := dk_180 0 11 (dk_at dksX1_seats_1 7 rfl rfl)
theorem dX1_seats_33 : decode cX1_seats 33 = .ok (.iload_n 1, 1) := dk_27 (dk_at dksX1_seats_1 10 rfl rfl)
theorem dX1_seats_34 : decode cX1_seats 34 = .ok (.aaload, 1) := dk_50 (dk_at dksX1_seats_1 11 rfl rfl)
theorem dX1_seats_35 : decode cX1_seats 35 = .ok (.iconst 0, 1) := dk_3 (dk_at dksX1_seats_1 12 rfl rfl)
theorem dX1_seats_36 : decode cX1_seats 36 = .ok (.putfield 218, 3) := dk_181 0 218 (dk_at dksX1_seats_1 13 rfl rfl)
theorem dX1_seats_39 : decode cX1_seats 39 = .ok (.iinc 1 1, 3) := dk_132 1 1 (dk_at dksX1_seats_1 16 rfl rfl)
theorem dX1_seats_42 : decode cX1_seats 42 = .ok (.goto (-21), 3) := dk_167 255 235 (dk_at dksX1_seats_1 19 rfl rfl)
theorem dX1_seats_45 : decode cX1_seats 45 = .ok (.aload_n 0, 1) := dk_42 (dk_at dksX1_seats_1 22 rfl rfl)
theorem dX1_seats_46 : decode cX1_seats 46 = .ok (.invokevirtual 263, 3) := dk_182 1 7 (dk_at dksX1_seats_2 0 rfl rfl)
theorem dX1_seats_49 : decode cX1_seats 49 = .ok (.istore_n 1, 1) := dk_60 (dk_at dksX1_seats_2 3 rfl rfl)
theorem dX1_seats_50 : decode cX1_seats 50 = .ok (.aload_n 0, 1) := dk_42 (dk_at dksX1_seats_2 4 rfl rfl)
theorem dX1_seats_51 : decode cX1_seats 51 = .ok (.bipush 7, 2) := dk_16 7 (dk_at dksX1_seats_2 5 rfl rfl)
theorem dX1_seats_53 : decode cX1_seats 53 = .ok (.iload_n 1, 1) := dk_27 (dk_at dksX1_seats_2 7 rfl rfl)
theorem dX1_seats_54 : decode cX1_seats 54 = .ok (.iload_n 1, 1) := dk_27 (dk_at dksX1_seats_2 8 rfl rfl)
theorem dX1_seats_55 : decode cX1_seats 55 = .ok (.iconst (-1), 1) := dk_2 (dk_at dksX1_seats_2 9 rfl rfl)
theorem dX1_seats_56 : decode cX1_seats 56 = .ok (.if_icmp .ne 7, 3) := dk_160 0 7 (dk_at dksX1_seats_2 10 rfl rfl)
theorem dX1_seats_59 : decode cX1_seats 59 = .ok (.iconst 0, 1) := dk_3 (dk_at dksX1_seats_2 13 rfl rfl)
theorem dX1_seats_60 : decode cX1_seats 60 = .ok (.goto 12, 3) := dk_167 0 12 (dk_at dksX1_seats_2 14 rfl rfl)
theorem dX1_seats_63 : decode cX1_seats 63 = .ok (.aload_n 0, 1) := dk_42 (dk_at dksX1_seats_2 17 rfl rfl)
theorem dX1_seats_64 : decode cX1_seats 64 = .ok (.getfield 11, 3) := dk_180 0 11 (dk_at dksX1_seats_2 18 rfl rfl)
theorem dX1_seats_67 : decode cX1_seats 67 = .ok (.iload_n 1, 1) := dk_27 (dk_at dksX1_seats_2 21 rfl rfl)
theorem dX1_seats_68 : decode cX1_seats 68 = .ok (.aaload, 1) := dk_50 (dk_at dksX1_seats_2 22 rfl rfl)
theorem dX1_seats_69 : decode cX1_seats 69 = .ok (.getfield 157, 3) := dk_180 0 157 (dk_at dksX1_seats_3 0 rfl rfl)
theorem dX1_seats_72 : decode cX1_seats 72 = .ok (.invokevirtual 211, 3) := dk_182 0 211 (dk_at dksX1_seats_3 3 rfl rfl)
theorem dX1_seats_75 : decode cX1_seats 75 = .ok (.return_, 1) := dk_177 (dk_at dksX1_seats_3 6 rfl rfl)
abbrev cX1_falls : ByteArray := prog_5_method_25_code
def yX1_falls : MethodName := ⟨RX1, "falls", "()V"⟩
def dkwX1_falls_7 : List UInt8 := [180, 0, 11, 21, 4, 50, 89, 180, 0, 157, 4, 96, 181, 0, 157, 132, 2, 255, 167, 255, 174, 177]
abbrev dktX1_falls_7 : List UInt8 := dkwX1_falls_7 ++ []
def dkwX1_falls_6 : List UInt8 := [182, 1, 0, 153, 0, 7, 21, 5, 54, 4, 132, 5, 1, 167, 255, 213, 29, 4, 21, 4, 120, 128, 62, 42]
abbrev dktX1_falls_6 : List UInt8 := dkwX1_falls_6 ++ dktX1_falls_7
def dkwX1_falls_5 : List UInt8 := [162, 0, 40, 29, 21, 5, 122, 4, 126, 154, 0, 25, 21, 4, 2, 159, 0, 15, 42, 21, 5, 21, 4, 27]
abbrev dktX1_falls_5 : List UInt8 := dkwX1_falls_5 ++ dktX1_falls_6
def dkwX1_falls_4 : List UInt8 := [132, 4, 1, 167, 255, 204, 28, 158, 0, 84, 2, 54, 4, 3, 54, 5, 21, 5, 42, 180, 0, 99]
abbrev dktX1_falls_4 : List UInt8 := dkwX1_falls_4 ++ dktX1_falls_5
def dkwX1_falls_3 : List UInt8 := [180, 0, 60, 104, 27, 108, 181, 0, 157, 28, 42, 180, 0, 11, 21, 4, 50, 180, 0, 157, 100, 61]
abbrev dktX1_falls_3 : List UInt8 := dkwX1_falls_3 ++ dktX1_falls_4
def dkwX1_falls_2 : List UInt8 := [180, 0, 99, 162, 0, 49, 42, 180, 0, 11, 21, 4, 50, 42, 180, 0, 11, 21, 4, 50, 180, 0, 218, 42]
abbrev dktX1_falls_2 : List UInt8 := dkwX1_falls_2 ++ dktX1_falls_3
def dkwX1_falls_1 : List UInt8 := [132, 2, 1, 167, 255, 233, 27, 154, 0, 4, 177, 42, 180, 0, 60, 61, 3, 62, 3, 54, 4, 21, 4, 42]
abbrev dktX1_falls_1 : List UInt8 := dkwX1_falls_1 ++ dktX1_falls_2
def dkwX1_falls_0 : List UInt8 := [3, 60, 3, 61, 28, 42, 180, 0, 99, 162, 0, 21, 27, 42, 180, 0, 11, 28, 50, 180, 0, 218, 96, 60]
abbrev dktX1_falls_0 : List UInt8 := dkwX1_falls_0 ++ dktX1_falls_1
theorem dksX1_falls_0 : cX1_falls.data.toList.drop 0 = dktX1_falls_0 := by decide +kernel
theorem dksX1_falls_1 : cX1_falls.data.toList.drop 24 = dktX1_falls_1 := dk_seg dksX1_falls_0 24 rfl rfl
theorem dksX1_falls_2 : cX1_falls.data.toList.drop 48 = dktX1_falls_2 := dk_seg dksX1_falls_1 24 rfl rfl
theorem dksX1_falls_3 : cX1_falls.data.toList.drop 72 = dktX1_falls_3 := dk_seg dksX1_falls_2 24 rfl rfl
theorem dksX1_falls_4 : cX1_falls.data.toList.drop 94 = dktX1_falls_4 := dk_seg dksX1_falls_3 22 rfl rfl
theorem dksX1_falls_5 : cX1_falls.data.toList.drop 116 = dktX1_falls_5 := dk_seg dksX1_falls_4 22 rfl rfl
theorem dksX1_falls_6 : cX1_falls.data.toList.drop 140 = dktX1_falls_6 := dk_seg dksX1_falls_5 24 rfl rfl
theorem dksX1_falls_7 : cX1_falls.data.toList.drop 164 = dktX1_falls_7 := dk_seg dksX1_falls_6 24 rfl rfl
theorem dX1_falls_0 : decode cX1_falls 0 = .ok (.iconst 0, 1) := dk_3 (dk_at dksX1_falls_0 0 rfl rfl)
theorem dX1_falls_1 : decode cX1_falls 1 = .ok (.istore_n 1, 1) := dk_60 (dk_at dksX1_falls_0 1 rfl rfl)
theorem dX1_falls_2 : decode cX1_falls 2 = .ok (.iconst 0, 1) := dk_3 (dk_at dksX1_falls_0 2 rfl rfl)
theorem dX1_falls_3 : decode cX1_falls 3 = .ok (.istore_n 2, 1) := dk_61 (dk_at dksX1_falls_0 3 rfl rfl)
theorem dX1_falls_4 : decode cX1_falls 4 = .ok (.iload_n 2, 1) := dk_28 (dk_at dksX1_falls_0 4 rfl rfl)
theorem dX1_falls_5 : decode cX1_falls 5 = .ok (.aload_n 0, 1) := dk_42 (dk_at dksX1_falls_0 5 rfl rfl)
theorem dX1_falls_6 : decode cX1_falls 6 = .ok (.getfield 99, 3) := dk_180 0 99 (dk_at dksX1_falls_0 6 rfl rfl)
theorem dX1_falls_9 : decode cX1_falls 9 = .ok (.if_icmp .ge 21, 3) := dk_162 0 21 (dk_at dksX1_falls_0 9 rfl rfl)
theorem dX1_falls_12 : decode cX1_falls 12 = .ok (.iload_n 1, 1) := dk_27 (dk_at dksX1_falls_0 12 rfl rfl)
theorem dX1_falls_13 : decode cX1_falls 13 = .ok (.aload_n 0, 1) := dk_42 (dk_at dksX1_falls_0 13 rfl rfl)
theorem dX1_falls_14 : decode cX1_falls 14 = .ok (.getfield 11, 3) := dk_180 0 11 (dk_at dksX1_falls_0 14 rfl rfl)
theorem dX1_falls_17 : decode cX1_falls 17 = .ok (.iload_n 2, 1) := dk_28 (dk_at dksX1_falls_0 17 rfl rfl)
theorem dX1_falls_18 : decode cX1_falls 18 = .ok (.aaload, 1) := dk_50 (dk_at dksX1_falls_0 18 rfl rfl)
theorem dX1_falls_19 : decode cX1_falls 19 = .ok (.getfield 218, 3) := dk_180 0 218 (dk_at dksX1_falls_0 19 rfl rfl)
theorem dX1_falls_22 : decode cX1_falls 22 = .ok (.iadd, 1) := dk_96 (dk_at dksX1_falls_0 22 rfl rfl)
theorem dX1_falls_23 : decode cX1_falls 23 = .ok (.istore_n 1, 1) := dk_60 (dk_at dksX1_falls_0 23 rfl rfl)
theorem dX1_falls_24 : decode cX1_falls 24 = .ok (.iinc 2 1, 3) := dk_132 2 1 (dk_at dksX1_falls_1 0 rfl rfl)
theorem dX1_falls_27 : decode cX1_falls 27 = .ok (.goto (-23), 3) := dk_167 255 233 (dk_at dksX1_falls_1 3 rfl rfl)
theorem dX1_falls_30 : decode cX1_falls 30 = .ok (.iload_n 1, 1) := dk_27 (dk_at dksX1_falls_1 6 rfl rfl)
theorem dX1_falls_31 : decode cX1_falls 31 = .ok (.ifCond .ne 4, 3) := dk_154 0 4 (dk_at dksX1_falls_1 7 rfl rfl)
theorem dX1_falls_34 : decode cX1_falls 34 = .ok (.return_, 1) := dk_177 (dk_at dksX1_falls_1 10 rfl rfl)
theorem dX1_falls_35 : decode cX1_falls 35 = .ok (.aload_n 0, 1) := dk_42 (dk_at dksX1_falls_1 11 rfl rfl)
theorem dX1_falls_36 : decode cX1_falls 36 = .ok (.getfield 60, 3) := dk_180 0 60 (dk_at dksX1_falls_1 12 rfl rfl)
theorem dX1_falls_39 : decode cX1_falls 39 = .ok (.istore_n 2, 1) := dk_61 (dk_at dksX1_falls_1 15 rfl rfl)
theorem dX1_falls_40 : decode cX1_falls 40 = .ok (.iconst 0, 1) := dk_3 (dk_at dksX1_falls_1 16 rfl rfl)
theorem dX1_falls_41 : decode cX1_falls 41 = .ok (.istore_n 3, 1) := dk_62 (dk_at dksX1_falls_1 17 rfl rfl)
theorem dX1_falls_42 : decode cX1_falls 42 = .ok (.iconst 0, 1) := dk_3 (dk_at dksX1_falls_1 18 rfl rfl)
theorem dX1_falls_43 : decode cX1_falls 43 = .ok (.istore 4, 2) := dk_54 4 (dk_at dksX1_falls_1 19 rfl rfl)
theorem dX1_falls_45 : decode cX1_falls 45 = .ok (.iload 4, 2) := dk_21 4 (dk_at dksX1_falls_1 21 rfl rfl)
theorem dX1_falls_47 : decode cX1_falls 47 = .ok (.aload_n 0, 1) := dk_42 (dk_at dksX1_falls_1 23 rfl rfl)
theorem dX1_falls_48 : decode cX1_falls 48 = .ok (.getfield 99, 3) := dk_180 0 99 (dk_at dksX1_falls_2 0 rfl rfl)
theorem dX1_falls_51 : decode cX1_falls 51 = .ok (.if_icmp .ge 49, 3) := dk_162 0 49 (dk_at dksX1_falls_2 3 rfl rfl)
theorem dX1_falls_54 : decode cX1_falls 54 = .ok (.aload_n 0, 1) := dk_42 (dk_at dksX1_falls_2 6 rfl rfl)
theorem dX1_falls_55 : decode cX1_falls 55 = .ok (.getfield 11, 3) := dk_180 0 11 (dk_at dksX1_falls_2 7 rfl rfl)
theorem dX1_falls_58 : decode cX1_falls 58 = .ok (.iload 4, 2) := dk_21 4 (dk_at dksX1_falls_2 10 rfl rfl)
theorem dX1_falls_60 : decode cX1_falls 60 = .ok (.aaload, 1) := dk_50 (dk_at dksX1_falls_2 12 rfl rfl)
theorem dX1_falls_61 : decode cX1_falls 61 = .ok (.aload_n 0, 1) := dk_42 (dk_at dksX1_falls_2 13 rfl rfl)
theorem dX1_falls_62 : decode cX1_falls 62 = .ok (.getfield 11, 3) := dk_180 0 11 (dk_at dksX1_falls_2 14 rfl rfl)
theorem dX1_falls_65 : decode cX1_falls 65 = .ok (.iload 4, 2) := dk_21 4 (dk_at dksX1_falls_2 17 rfl rfl)
theorem dX1_falls_67 : decode cX1_falls 67 = .ok (.aaload, 1) := dk_50 (dk_at dksX1_falls_2 19 rfl rfl)
theorem dX1_falls_68 : decode cX1_falls 68 = .ok (.getfield 218, 3) := dk_180 0 218 (dk_at dksX1_falls_2 20 rfl rfl)
theorem dX1_falls_71 : decode cX1_falls 71 = .ok (.aload_n 0, 1) := dk_42 (dk_at dksX1_falls_2 23 rfl rfl)
theorem dX1_falls_72 : decode cX1_falls 72 = .ok (.getfield 60, 3) := dk_180 0 60 (dk_at dksX1_falls_3 0 rfl rfl)
theorem dX1_falls_75 : decode cX1_falls 75 = .ok (.imul, 1) := dk_104 (dk_at dksX1_falls_3 3 rfl rfl)
theorem dX1_falls_76 : decode cX1_falls 76 = .ok (.iload_n 1, 1) := dk_27 (dk_at dksX1_falls_3 4 rfl rfl)
theorem dX1_falls_77 : decode cX1_falls 77 = .ok (.idiv, 1) := dk_108 (dk_at dksX1_falls_3 5 rfl rfl)
theorem dX1_falls_78 : decode cX1_falls 78 = .ok (.putfield 157, 3) := dk_181 0 157 (dk_at dksX1_falls_3 6 rfl rfl)
theorem dX1_falls_81 : decode cX1_falls 81 = .ok (.iload_n 2, 1) := dk_28 (dk_at dksX1_falls_3 9 rfl rfl)
theorem dX1_falls_82 : decode cX1_falls 82 = .ok (.aload_n 0, 1) := dk_42 (dk_at dksX1_falls_3 10 rfl rfl)
theorem dX1_falls_83 : decode cX1_falls 83 = .ok (.getfield 11, 3) := dk_180 0 11 (dk_at dksX1_falls_3 11 rfl rfl)
theorem dX1_falls_86 : decode cX1_falls 86 = .ok (.iload 4, 2) := dk_21 4 (dk_at dksX1_falls_3 14 rfl rfl)
theorem dX1_falls_88 : decode cX1_falls 88 = .ok (.aaload, 1) := dk_50 (dk_at dksX1_falls_3 16 rfl rfl)
theorem dX1_falls_89 : decode cX1_falls 89 = .ok (.getfield 157, 3) := dk_180 0 157 (dk_at dksX1_falls_3 17 rfl rfl)
theorem dX1_falls_92 : decode cX1_falls 92 = .ok (.isub, 1) := dk_100 (dk_at dksX1_falls_3 20 rfl rfl)
theorem dX1_falls_93 : decode cX1_falls 93 = .ok (.istore_n 2, 1) := dk_61 (dk_at dksX1_falls_3 21 rfl rfl)
theorem dX1_falls_94 : decode cX1_falls 94 = .ok (.iinc 4 1, 3) := dk_132 4 1 (dk_at dksX1_falls_4 0 rfl rfl)
theorem dX1_falls_97 : decode cX1_falls 97 = .ok (.goto (-52), 3) := dk_167 255 204 (dk_at dksX1_falls_4 3 rfl rfl)
theorem dX1_falls_100 : decode cX1_falls 100 = .ok (.iload_n 2, 1) := dk_28 (dk_at dksX1_falls_4 6 rfl rfl)
theorem dX1_falls_101 : decode cX1_falls 101 = .ok (.ifCond .le 84, 3) := dk_158 0 84 (dk_at dksX1_falls_4 7 rfl rfl)
theorem dX1_falls_104 : decode cX1_falls 104 = .ok (.iconst (-1), 1) := dk_2 (dk_at dksX1_falls_4 10 rfl rfl)
theorem dX1_falls_105 : decode cX1_falls 105 = .ok (.istore 4, 2) := dk_54 4 (dk_at dksX1_falls_4 11 rfl rfl)
theorem dX1_falls_107 : decode cX1_falls 107 = .ok (.iconst 0, 1) := dk_3 (dk_at dksX1_falls_4 13 rfl rfl)
theorem dX1_falls_108 : decode cX1_falls 108 = .ok (.istore 5, 2) := dk_54 5 (dk_at dksX1_falls_4 14 rfl rfl)
theorem dX1_falls_110 : decode cX1_falls 110 = .ok (.iload 5, 2) := dk_21 5 (dk_at dksX1_falls_4 16 rfl rfl)
theorem dX1_falls_112 : decode cX1_falls 112 = .ok (.aload_n 0, 1) := dk_42 (dk_at dksX1_falls_4 18 rfl rfl)
theorem dX1_falls_113 : decode cX1_falls 113 = .ok (.getfield 99, 3) := dk_180 0 99 (dk_at dksX1_falls_4 19 rfl rfl)
theorem dX1_falls_116 : decode cX1_falls 116 = .ok (.if_icmp .ge 40, 3) := dk_162 0 40 (dk_at dksX1_falls_5 0 rfl rfl)
theorem dX1_falls_119 : decode cX1_falls 119 = .ok (.iload_n 3, 1) := dk_29 (dk_at dksX1_falls_5 3 rfl rfl)
theorem dX1_falls_120 : decode cX1_falls 120 = .ok (.iload 5, 2) := dk_21 5 (dk_at dksX1_falls_5 4 rfl rfl)
theorem dX1_falls_122 : decode cX1_falls 122 = .ok (.ishr, 1) := dk_122 (dk_at dksX1_falls_5 6 rfl rfl)
theorem dX1_falls_123 : decode cX1_falls 123 = .ok (.iconst 1, 1) := dk_4 (dk_at dksX1_falls_5 7 rfl rfl)
theorem dX1_falls_124 : decode cX1_falls 124 = .ok (.iand, 1) := dk_126 (dk_at dksX1_falls_5 8 rfl rfl)
theorem dX1_falls_125 : decode cX1_falls 125 = .ok (.ifCond .ne 25, 3) := dk_154 0 25 (dk_at dksX1_falls_5 9 rfl rfl)
theorem dX1_falls_128 : decode cX1_falls 128 = .ok (.iload 4, 2) := dk_21 4 (dk_at dksX1_falls_5 12 rfl rfl)
theorem dX1_falls_130 : decode cX1_falls 130 = .ok (.iconst (-1), 1) := dk_2 (dk_at dksX1_falls_5 14 rfl rfl)
theorem dX1_falls_131 : decode cX1_falls 131 = .ok (.if_icmp .eq 15, 3) := dk_159 0 15 (dk_at dksX1_falls_5 15 rfl rfl)
theorem dX1_falls_134 : decode cX1_falls 134 = .ok (.aload_n 0, 1) := dk_42 (dk_at dksX1_falls_5 18 rfl rfl)
theorem dX1_falls_135 : decode cX1_falls 135 = .ok (.iload 5, 2) := dk_21 5 (dk_at dksX1_falls_5 19 rfl rfl)
theorem dX1_falls_137 : decode cX1_falls 137 = .ok (.iload 4, 2) := dk_21 4 (dk_at dksX1_falls_5 21 rfl rfl)
theorem dX1_falls_139 : decode cX1_falls 139 = .ok (.iload_n 1, 1) := dk_27 (dk_at dksX1_falls_5 23 rfl rfl)
theorem dX1_falls_140 : decode cX1_falls 140 = .ok (.invokevirtual 256, 3) := dk_182 1 0 (dk_at dksX1_falls_6 0 rfl rfl)
theorem dX1_falls_143 : decode cX1_falls 143 = .ok (.ifCond .eq 7, 3) := dk_153 0 7 (dk_at dksX1_falls_6 3 rfl rfl)
theorem dX1_falls_146 : decode cX1_falls 146 = .ok (.iload 5, 2) := dk_21 5 (dk_at dksX1_falls_6 6 rfl rfl)
theorem dX1_falls_148 : decode cX1_falls 148 = .ok (.istore 4, 2) := dk_54 4 (dk_at dksX1_falls_6 8 rfl rfl)
theorem dX1_falls_150 : decode cX1_falls 150 = .ok (.iinc 5 1, 3) := dk_132 5 1 (dk_at dksX1_falls_6 10 rfl rfl)
theorem dX1_falls_153 : decode cX1_falls 153 = .ok (.goto (-43), 3) := dk_167 255 213 (dk_at dksX1_falls_6 13 rfl rfl)
theorem dX1_falls_156 : decode cX1_falls 156 = .ok (.iload_n 3, 1) := dk_29 (dk_at dksX1_falls_6 16 rfl rfl)
theorem dX1_falls_157 : decode cX1_falls 157 = .ok (.iconst 1, 1) := dk_4 (dk_at dksX1_falls_6 17 rfl rfl)
theorem dX1_falls_158 : decode cX1_falls 158 = .ok (.iload 4, 2) := dk_21 4 (dk_at dksX1_falls_6 18 rfl rfl)
theorem dX1_falls_160 : decode cX1_falls 160 = .ok (.ishl, 1) := dk_120 (dk_at dksX1_falls_6 20 rfl rfl)
theorem dX1_falls_161 : decode cX1_falls 161 = .ok (.ior, 1) := dk_128 (dk_at dksX1_falls_6 21 rfl rfl)
theorem dX1_falls_162 : decode cX1_falls 162 = .ok (.istore_n 3, 1) := dk_62 (dk_at dksX1_falls_6 22 rfl rfl)
theorem dX1_falls_163 : decode cX1_falls 163 = .ok (.aload_n 0, 1) := dk_42 (dk_at dksX1_falls_6 23 rfl rfl)
theorem dX1_falls_164 : decode cX1_falls 164 = .ok (.getfield 11, 3) := dk_180 0 11 (dk_at dksX1_falls_7 0 rfl rfl)
theorem dX1_falls_167 : decode cX1_falls 167 = .ok (.iload 4, 2) := dk_21 4 (dk_at dksX1_falls_7 3 rfl rfl)
theorem dX1_falls_169 : decode cX1_falls 169 = .ok (.aaload, 1) := dk_50 (dk_at dksX1_falls_7 5 rfl rfl)
theorem dX1_falls_170 : decode cX1_falls 170 = .ok (.dup, 1) := dk_89 (dk_at dksX1_falls_7 6 rfl rfl)
theorem dX1_falls_171 : decode cX1_falls 171 = .ok (.getfield 157, 3) := dk_180 0 157 (dk_at dksX1_falls_7 7 rfl rfl)
theorem dX1_falls_174 : decode cX1_falls 174 = .ok (.iconst 1, 1) := dk_4 (dk_at dksX1_falls_7 10 rfl rfl)
theorem dX1_falls_175 : decode cX1_falls 175 = .ok (.iadd, 1) := dk_96 (dk_at dksX1_falls_7 11 rfl rfl)
theorem dX1_falls_176 : decode cX1_falls 176 = .ok (.putfield 157, 3) := dk_181 0 157 (dk_at dksX1_falls_7 12 rfl rfl)
theorem dX1_falls_179 : decode cX1_falls 179 = .ok (.iinc 2 (-1), 3) := dk_132 2 255 (dk_at dksX1_falls_7 15 rfl rfl)
theorem dX1_falls_182 : decode cX1_falls 182 = .ok (.goto (-82), 3) := dk_167 255 174 (dk_at dksX1_falls_7 18 rfl rfl)
theorem dX1_falls_185 : decode cX1_falls 185 = .ok (.return_, 1) := dk_177 (dk_at dksX1_falls_7 21 rfl rfl)
abbrev cX1_isAhead : ByteArray := prog_5_method_26_code
def yX1_isAhead : MethodName := ⟨RX1, "isAhead", "(III)Z"⟩
def dkwX1_isAhead_3 : List UInt8 := [3, 172]
abbrev dktX1_isAhead_3 : List UInt8 := dkwX1_isAhead_3 ++ []
def dkwX1_isAhead_2 : List UInt8 := [180, 0, 11, 27, 50, 180, 0, 157, 42, 180, 0, 11, 28, 50, 180, 0, 157, 164, 0, 7, 4, 167, 0, 4]
abbrev dktX1_isAhead_2 : List UInt8 := dkwX1_isAhead_2 ++ dktX1_isAhead_3
def dkwX1_isAhead_1 : List UInt8 := [180, 0, 218, 42, 180, 0, 60, 104, 29, 112, 100, 54, 4, 21, 4, 157, 0, 29, 21, 4, 154, 0, 28, 42]
abbrev dktX1_isAhead_1 : List UInt8 := dkwX1_isAhead_1 ++ dktX1_isAhead_2
def dkwX1_isAhead_0 : List UInt8 := [42, 180, 0, 11, 27, 50, 180, 0, 218, 42, 180, 0, 60, 104, 29, 112, 42, 180, 0, 11, 28, 50]
abbrev dktX1_isAhead_0 : List UInt8 := dkwX1_isAhead_0 ++ dktX1_isAhead_1
theorem dksX1_isAhead_0 : cX1_isAhead.data.toList.drop 0 = dktX1_isAhead_0 := by decide +kernel
theorem dksX1_isAhead_1 : cX1_isAhead.data.toList.drop 22 = dktX1_isAhead_1 := dk_seg dksX1_isAhead_0 22 rfl rfl
theorem dksX1_isAhead_2 : cX1_isAhead.data.toList.drop 46 = dktX1_isAhead_2 := dk_seg dksX1_isAhead_1 24 rfl rfl
theorem dksX1_isAhead_3 : cX1_isAhead.data.toList.drop 70 = dktX1_isAhead_3 := dk_seg dksX1_isAhead_2 24 rfl rfl
theorem dX1_isAhead_0 : decode cX1_isAhead 0 = .ok (.aload_n 0, 1) := dk_42 (dk_at dksX1_isAhead_0 0 rfl rfl)
theorem dX1_isAhead_1 : decode cX1_isAhead 1 = .ok (.getfield 11, 3) := dk_180 0 11 (dk_at dksX1_isAhead_0 1 rfl rfl)
theorem dX1_isAhead_4 : decode cX1_isAhead 4 = .ok (.iload_n 1, 1) := dk_27 (dk_at dksX1_isAhead_0 4 rfl rfl)
theorem dX1_isAhead_5 : decode cX1_isAhead 5 = .ok (.aaload, 1) := dk_50 (dk_at dksX1_isAhead_0 5 rfl rfl)
theorem dX1_isAhead_6 : decode cX1_isAhead 6 = .ok (.getfield 218, 3) := dk_180 0 218 (dk_at dksX1_isAhead_0 6 rfl rfl)
theorem dX1_isAhead_9 : decode cX1_isAhead 9 = .ok (.aload_n 0, 1) := dk_42 (dk_at dksX1_isAhead_0 9 rfl rfl)
theorem dX1_isAhead_10 : decode cX1_isAhead 10 = .ok (.getfield 60, 3) := dk_180 0 60 (dk_at dksX1_isAhead_0 10 rfl rfl)
theorem dX1_isAhead_13 : decode cX1_isAhead 13 = .ok (.imul, 1) := dk_104 (dk_at dksX1_isAhead_0 13 rfl rfl)
theorem dX1_isAhead_14 : decode cX1_isAhead 14 = .ok (.iload_n 3, 1) := dk_29 (dk_at dksX1_isAhead_0 14 rfl rfl)
theorem dX1_isAhead_15 : decode cX1_isAhead 15 = .ok (.irem, 1) := dk_112 (dk_at dksX1_isAhead_0 15 rfl rfl)
theorem dX1_isAhead_16 : decode cX1_isAhead 16 = .ok (.aload_n 0, 1) := dk_42 (dk_at dksX1_isAhead_0 16 rfl rfl)
theorem dX1_isAhead_17 : decode cX1_isAhead 17 = .ok (.getfield 11, 3) := dk_180 0 11 (dk_at dksX1_isAhead_0 17 rfl rfl)
theorem dX1_isAhead_20 : decode cX1_isAhead 20 = .ok (.iload_n 2, 1) := dk_28 (dk_at dksX1_isAhead_0 20 rfl rfl)
theorem dX1_isAhead_21 : decode cX1_isAhead 21 = .ok (.aaload, 1) := dk_50 (dk_at dksX1_isAhead_0 21 rfl rfl)
theorem dX1_isAhead_22 : decode cX1_isAhead 22 = .ok (.getfield 218, 3) := dk_180 0 218 (dk_at dksX1_isAhead_1 0 rfl rfl)
theorem dX1_isAhead_25 : decode cX1_isAhead 25 = .ok (.aload_n 0, 1) := dk_42 (dk_at dksX1_isAhead_1 3 rfl rfl)
theorem dX1_isAhead_26 : decode cX1_isAhead 26 = .ok (.getfield 60, 3) := dk_180 0 60 (dk_at dksX1_isAhead_1 4 rfl rfl)
theorem dX1_isAhead_29 : decode cX1_isAhead 29 = .ok (.imul, 1) := dk_104 (dk_at dksX1_isAhead_1 7 rfl rfl)
theorem dX1_isAhead_30 : decode cX1_isAhead 30 = .ok (.iload_n 3, 1) := dk_29 (dk_at dksX1_isAhead_1 8 rfl rfl)
theorem dX1_isAhead_31 : decode cX1_isAhead 31 = .ok (.irem, 1) := dk_112 (dk_at dksX1_isAhead_1 9 rfl rfl)
theorem dX1_isAhead_32 : decode cX1_isAhead 32 = .ok (.isub, 1) := dk_100 (dk_at dksX1_isAhead_1 10 rfl rfl)
theorem dX1_isAhead_33 : decode cX1_isAhead 33 = .ok (.istore 4, 2) := dk_54 4 (dk_at dksX1_isAhead_1 11 rfl rfl)
theorem dX1_isAhead_35 : decode cX1_isAhead 35 = .ok (.iload 4, 2) := dk_21 4 (dk_at dksX1_isAhead_1 13 rfl rfl)
theorem dX1_isAhead_37 : decode cX1_isAhead 37 = .ok (.ifCond .gt 29, 3) := dk_157 0 29 (dk_at dksX1_isAhead_1 15 rfl rfl)
theorem dX1_isAhead_40 : decode cX1_isAhead 40 = .ok (.iload 4, 2) := dk_21 4 (dk_at dksX1_isAhead_1 18 rfl rfl)
theorem dX1_isAhead_42 : decode cX1_isAhead 42 = .ok (.ifCond .ne 28, 3) := dk_154 0 28 (dk_at dksX1_isAhead_1 20 rfl rfl)
theorem dX1_isAhead_45 : decode cX1_isAhead 45 = .ok (.aload_n 0, 1) := dk_42 (dk_at dksX1_isAhead_1 23 rfl rfl)
theorem dX1_isAhead_46 : decode cX1_isAhead 46 = .ok (.getfield 11, 3) := dk_180 0 11 (dk_at dksX1_isAhead_2 0 rfl rfl)
theorem dX1_isAhead_49 : decode cX1_isAhead 49 = .ok (.iload_n 1, 1) := dk_27 (dk_at dksX1_isAhead_2 3 rfl rfl)
theorem dX1_isAhead_50 : decode cX1_isAhead 50 = .ok (.aaload, 1) := dk_50 (dk_at dksX1_isAhead_2 4 rfl rfl)
theorem dX1_isAhead_51 : decode cX1_isAhead 51 = .ok (.getfield 157, 3) := dk_180 0 157 (dk_at dksX1_isAhead_2 5 rfl rfl)
theorem dX1_isAhead_54 : decode cX1_isAhead 54 = .ok (.aload_n 0, 1) := dk_42 (dk_at dksX1_isAhead_2 8 rfl rfl)
theorem dX1_isAhead_55 : decode cX1_isAhead 55 = .ok (.getfield 11, 3) := dk_180 0 11 (dk_at dksX1_isAhead_2 9 rfl rfl)
theorem dX1_isAhead_58 : decode cX1_isAhead 58 = .ok (.iload_n 2, 1) := dk_28 (dk_at dksX1_isAhead_2 12 rfl rfl)
theorem dX1_isAhead_59 : decode cX1_isAhead 59 = .ok (.aaload, 1) := dk_50 (dk_at dksX1_isAhead_2 13 rfl rfl)
theorem dX1_isAhead_60 : decode cX1_isAhead 60 = .ok (.getfield 157, 3) := dk_180 0 157 (dk_at dksX1_isAhead_2 14 rfl rfl)
theorem dX1_isAhead_63 : decode cX1_isAhead 63 = .ok (.if_icmp .le 7, 3) := dk_164 0 7 (dk_at dksX1_isAhead_2 17 rfl rfl)
theorem dX1_isAhead_66 : decode cX1_isAhead 66 = .ok (.iconst 1, 1) := dk_4 (dk_at dksX1_isAhead_2 20 rfl rfl)
theorem dX1_isAhead_67 : decode cX1_isAhead 67 = .ok (.goto 4, 3) := dk_167 0 4 (dk_at dksX1_isAhead_2 21 rfl rfl)
theorem dX1_isAhead_70 : decode cX1_isAhead 70 = .ok (.iconst 0, 1) := dk_3 (dk_at dksX1_isAhead_3 0 rfl rfl)
theorem dX1_isAhead_71 : decode cX1_isAhead 71 = .ok (.ireturn, 1) := dk_172 (dk_at dksX1_isAhead_3 1 rfl rfl)
abbrev cX1_mostSeated : ByteArray := prog_5_method_24_code
def yX1_mostSeated : MethodName := ⟨RX1, "mostSeated", "()I"⟩
def dkwX1_mostSeated_2 : List UInt8 := [132, 2, 1, 167, 255, 222, 27, 172]
abbrev dktX1_mostSeated_2 : List UInt8 := dkwX1_mostSeated_2 ++ []
def dkwX1_mostSeated_1 : List UInt8 := [180, 0, 11, 28, 50, 180, 0, 157, 42, 180, 0, 11, 27, 50, 180, 0, 157, 164, 0, 5, 28, 60]
abbrev dktX1_mostSeated_1 : List UInt8 := dkwX1_mostSeated_1 ++ dktX1_mostSeated_2
def dkwX1_mostSeated_0 : List UInt8 := [42, 180, 0, 99, 154, 0, 7, 2, 167, 0, 4, 3, 60, 4, 61, 28, 42, 180, 0, 99, 162, 0, 32, 42]
abbrev dktX1_mostSeated_0 : List UInt8 := dkwX1_mostSeated_0 ++ dktX1_mostSeated_1
theorem dksX1_mostSeated_0 : cX1_mostSeated.data.toList.drop 0 = dktX1_mostSeated_0 := by decide +kernel
theorem dksX1_mostSeated_1 : cX1_mostSeated.data.toList.drop 24 = dktX1_mostSeated_1 := dk_seg dksX1_mostSeated_0 24 rfl rfl
theorem dksX1_mostSeated_2 : cX1_mostSeated.data.toList.drop 46 = dktX1_mostSeated_2 := dk_seg dksX1_mostSeated_1 22 rfl rfl
theorem dX1_mostSeated_0 : decode cX1_mostSeated 0 = .ok (.aload_n 0, 1) := dk_42 (dk_at dksX1_mostSeated_0 0 rfl rfl)
theorem dX1_mostSeated_1 : decode cX1_mostSeated 1 = .ok (.getfield 99, 3) := dk_180 0 99 (dk_at dksX1_mostSeated_0 1 rfl rfl)
theorem dX1_mostSeated_4 : decode cX1_mostSeated 4 = .ok (.ifCond .ne 7, 3) := dk_154 0 7 (dk_at dksX1_mostSeated_0 4 rfl rfl)
theorem dX1_mostSeated_7 : decode cX1_mostSeated 7 = .ok (.iconst (-1), 1) := dk_2 (dk_at dksX1_mostSeated_0 7 rfl rfl)
theorem dX1_mostSeated_8 : decode cX1_mostSeated 8 = .ok (.goto 4, 3) := dk_167 0 4 (dk_at dksX1_mostSeated_0 8 rfl rfl)
theorem dX1_mostSeated_11 : decode cX1_mostSeated 11 = .ok (.iconst 0, 1) := dk_3 (dk_at dksX1_mostSeated_0 11 rfl rfl)
theorem dX1_mostSeated_12 : decode cX1_mostSeated 12 = .ok (.istore_n 1, 1) := dk_60 (dk_at dksX1_mostSeated_0 12 rfl rfl)
theorem dX1_mostSeated_13 : decode cX1_mostSeated 13 = .ok (.iconst 1, 1) := dk_4 (dk_at dksX1_mostSeated_0 13 rfl rfl)
theorem dX1_mostSeated_14 : decode cX1_mostSeated 14 = .ok (.istore_n 2, 1) := dk_61 (dk_at dksX1_mostSeated_0 14 rfl rfl)
theorem dX1_mostSeated_15 : decode cX1_mostSeated 15 = .ok (.iload_n 2, 1) := dk_28 (dk_at dksX1_mostSeated_0 15 rfl rfl)
theorem dX1_mostSeated_16 : decode cX1_mostSeated 16 = .ok (.aload_n 0, 1) := dk_42 (dk_at dksX1_mostSeated_0 16 rfl rfl)
theorem dX1_mostSeated_17 : decode cX1_mostSeated 17 = .ok (.getfield 99, 3) := dk_180 0 99 (dk_at dksX1_mostSeated_0 17 rfl rfl)
theorem dX1_mostSeated_20 : decode cX1_mostSeated 20 = .ok (.if_icmp .ge 32, 3) := dk_162 0 32 (dk_at dksX1_mostSeated_0 20 rfl rfl)
theorem dX1_mostSeated_23 : decode cX1_mostSeated 23 = .ok (.aload_n 0, 1) := dk_42 (dk_at dksX1_mostSeated_0 23 rfl rfl)
theorem dX1_mostSeated_24 : decode cX1_mostSeated 24 = .ok (.getfield 11, 3) := dk_180 0 11 (dk_at dksX1_mostSeated_1 0 rfl rfl)
theorem dX1_mostSeated_27 : decode cX1_mostSeated 27 = .ok (.iload_n 2, 1) := dk_28 (dk_at dksX1_mostSeated_1 3 rfl rfl)
theorem dX1_mostSeated_28 : decode cX1_mostSeated 28 = .ok (.aaload, 1) := dk_50 (dk_at dksX1_mostSeated_1 4 rfl rfl)
theorem dX1_mostSeated_29 : decode cX1_mostSeated 29 = .ok (.getfield 157, 3) := dk_180 0 157 (dk_at dksX1_mostSeated_1 5 rfl rfl)
theorem dX1_mostSeated_32 : decode cX1_mostSeated 32 = .ok (.aload_n 0, 1) := dk_42 (dk_at dksX1_mostSeated_1 8 rfl rfl)
theorem dX1_mostSeated_33 : decode cX1_mostSeated 33 = .ok (.getfield 11, 3) := dk_180 0 11 (dk_at dksX1_mostSeated_1 9 rfl rfl)
theorem dX1_mostSeated_36 : decode cX1_mostSeated 36 = .ok (.iload_n 1, 1) := dk_27 (dk_at dksX1_mostSeated_1 12 rfl rfl)
theorem dX1_mostSeated_37 : decode cX1_mostSeated 37 = .ok (.aaload, 1) := dk_50 (dk_at dksX1_mostSeated_1 13 rfl rfl)
theorem dX1_mostSeated_38 : decode cX1_mostSeated 38 = .ok (.getfield 157, 3) := dk_180 0 157 (dk_at dksX1_mostSeated_1 14 rfl rfl)
theorem dX1_mostSeated_41 : decode cX1_mostSeated 41 = .ok (.if_icmp .le 5, 3) := dk_164 0 5 (dk_at dksX1_mostSeated_1 17 rfl rfl)
theorem dX1_mostSeated_44 : decode cX1_mostSeated 44 = .ok (.iload_n 2, 1) := dk_28 (dk_at dksX1_mostSeated_1 20 rfl rfl)
theorem dX1_mostSeated_45 : decode cX1_mostSeated 45 = .ok (.istore_n 1, 1) := dk_60 (dk_at dksX1_mostSeated_1 21 rfl rfl)
theorem dX1_mostSeated_46 : decode cX1_mostSeated 46 = .ok (.iinc 2 1, 3) := dk_132 2 1 (dk_at dksX1_mostSeated_2 0 rfl rfl)
theorem dX1_mostSeated_49 : decode cX1_mostSeated 49 = .ok (.goto (-34), 3) := dk_167 255 222 (dk_at dksX1_mostSeated_2 3 rfl rfl)
theorem dX1_mostSeated_52 : decode cX1_mostSeated 52 = .ok (.iload_n 1, 1) := dk_27 (dk_at dksX1_mostSeated_2 6 rfl rfl)
theorem dX1_mostSeated_53 : decode cX1_mostSeated 53 = .ok (.ireturn, 1) := dk_172 (dk_at dksX1_mostSeated_2 7 rfl rfl)
abbrev cX1_thinks : ByteArray := prog_5_method_3_code
def yX1_thinks : MethodName := ⟨RX1, "thinks", "(LBallotFruit$Commune;)V"⟩
def dkwX1_thinks_4 : List UInt8 := [3, 61, 28, 8, 162, 0, 16, 42, 180, 0, 41, 28, 3, 79, 132, 2, 1, 167, 255, 241, 177]
abbrev dktX1_thinks_4 : List UInt8 := dkwX1_thinks_4 ++ []
def dkwX1_thinks_3 : List UInt8 := [180, 0, 53, 181, 0, 53, 42, 43, 180, 0, 57, 181, 0, 57, 42, 2, 181, 0, 114, 42, 2, 181, 0, 117]
abbrev dktX1_thinks_3 : List UInt8 := dkwX1_thinks_3 ++ dktX1_thinks_4
def dkwX1_thinks_2 : List UInt8 := [180, 0, 64, 181, 0, 64, 42, 43, 180, 0, 111, 181, 0, 111, 42, 43, 180, 0, 46, 181, 0, 46, 42, 43]
abbrev dktX1_thinks_2 : List UInt8 := dkwX1_thinks_2 ++ dktX1_thinks_3
def dkwX1_thinks_1 : List UInt8 := [180, 0, 105, 181, 0, 105, 42, 43, 180, 0, 108, 181, 0, 108, 42, 43, 180, 0, 60, 181, 0, 60, 42, 43]
abbrev dktX1_thinks_1 : List UInt8 := dkwX1_thinks_1 ++ dktX1_thinks_2
def dkwX1_thinks_0 : List UInt8 := [42, 43, 182, 0, 95, 42, 43, 180, 0, 99, 181, 0, 99, 42, 43, 180, 0, 102, 181, 0, 102, 42, 43]
abbrev dktX1_thinks_0 : List UInt8 := dkwX1_thinks_0 ++ dktX1_thinks_1
theorem dksX1_thinks_0 : cX1_thinks.data.toList.drop 0 = dktX1_thinks_0 := by decide +kernel
theorem dksX1_thinks_1 : cX1_thinks.data.toList.drop 23 = dktX1_thinks_1 := dk_seg dksX1_thinks_0 23 rfl rfl
theorem dksX1_thinks_2 : cX1_thinks.data.toList.drop 47 = dktX1_thinks_2 := dk_seg dksX1_thinks_1 24 rfl rfl
theorem dksX1_thinks_3 : cX1_thinks.data.toList.drop 71 = dktX1_thinks_3 := dk_seg dksX1_thinks_2 24 rfl rfl
theorem dksX1_thinks_4 : cX1_thinks.data.toList.drop 95 = dktX1_thinks_4 := dk_seg dksX1_thinks_3 24 rfl rfl
theorem dX1_thinks_0 : decode cX1_thinks 0 = .ok (.aload_n 0, 1) := dk_42 (dk_at dksX1_thinks_0 0 rfl rfl)
theorem dX1_thinks_1 : decode cX1_thinks 1 = .ok (.aload_n 1, 1) := dk_43 (dk_at dksX1_thinks_0 1 rfl rfl)
theorem dX1_thinks_2 : decode cX1_thinks 2 = .ok (.invokevirtual 95, 3) := dk_182 0 95 (dk_at dksX1_thinks_0 2 rfl rfl)
theorem dX1_thinks_5 : decode cX1_thinks 5 = .ok (.aload_n 0, 1) := dk_42 (dk_at dksX1_thinks_0 5 rfl rfl)
theorem dX1_thinks_6 : decode cX1_thinks 6 = .ok (.aload_n 1, 1) := dk_43 (dk_at dksX1_thinks_0 6 rfl rfl)
theorem dX1_thinks_7 : decode cX1_thinks 7 = .ok (.getfield 99, 3) := dk_180 0 99 (dk_at dksX1_thinks_0 7 rfl rfl)
theorem dX1_thinks_10 : decode cX1_thinks 10 = .ok (.putfield 99, 3) := dk_181 0 99 (dk_at dksX1_thinks_0 10 rfl rfl)
theorem dX1_thinks_13 : decode cX1_thinks 13 = .ok (.aload_n 0, 1) := dk_42 (dk_at dksX1_thinks_0 13 rfl rfl)
theorem dX1_thinks_14 : decode cX1_thinks 14 = .ok (.aload_n 1, 1) := dk_43 (dk_at dksX1_thinks_0 14 rfl rfl)
theorem dX1_thinks_15 : decode cX1_thinks 15 = .ok (.getfield 102, 3) := dk_180 0 102 (dk_at dksX1_thinks_0 15 rfl rfl)
theorem dX1_thinks_18 : decode cX1_thinks 18 = .ok (.putfield 102, 3) := dk_181 0 102 (dk_at dksX1_thinks_0 18 rfl rfl)
theorem dX1_thinks_21 : decode cX1_thinks 21 = .ok (.aload_n 0, 1) := dk_42 (dk_at dksX1_thinks_0 21 rfl rfl)
theorem dX1_thinks_22 : decode cX1_thinks 22 = .ok (.aload_n 1, 1) := dk_43 (dk_at dksX1_thinks_0 22 rfl rfl)
theorem dX1_thinks_23 : decode cX1_thinks 23 = .ok (.getfield 105, 3) := dk_180 0 105 (dk_at dksX1_thinks_1 0 rfl rfl)
theorem dX1_thinks_26 : decode cX1_thinks 26 = .ok (.putfield 105, 3) := dk_181 0 105 (dk_at dksX1_thinks_1 3 rfl rfl)
theorem dX1_thinks_29 : decode cX1_thinks 29 = .ok (.aload_n 0, 1) := dk_42 (dk_at dksX1_thinks_1 6 rfl rfl)
theorem dX1_thinks_30 : decode cX1_thinks 30 = .ok (.aload_n 1, 1) := dk_43 (dk_at dksX1_thinks_1 7 rfl rfl)
theorem dX1_thinks_31 : decode cX1_thinks 31 = .ok (.getfield 108, 3) := dk_180 0 108 (dk_at dksX1_thinks_1 8 rfl rfl)
theorem dX1_thinks_34 : decode cX1_thinks 34 = .ok (.putfield 108, 3) := dk_181 0 108 (dk_at dksX1_thinks_1 11 rfl rfl)
theorem dX1_thinks_37 : decode cX1_thinks 37 = .ok (.aload_n 0, 1) := dk_42 (dk_at dksX1_thinks_1 14 rfl rfl)
theorem dX1_thinks_38 : decode cX1_thinks 38 = .ok (.aload_n 1, 1) := dk_43 (dk_at dksX1_thinks_1 15 rfl rfl)
theorem dX1_thinks_39 : decode cX1_thinks 39 = .ok (.getfield 60, 3) := dk_180 0 60 (dk_at dksX1_thinks_1 16 rfl rfl)
theorem dX1_thinks_42 : decode cX1_thinks 42 = .ok (.putfield 60, 3) := dk_181 0 60 (dk_at dksX1_thinks_1 19 rfl rfl)
theorem dX1_thinks_45 : decode cX1_thinks 45 = .ok (.aload_n 0, 1) := dk_42 (dk_at dksX1_thinks_1 22 rfl rfl)
theorem dX1_thinks_46 : decode cX1_thinks 46 = .ok (.aload_n 1, 1) := dk_43 (dk_at dksX1_thinks_1 23 rfl rfl)
theorem dX1_thinks_47 : decode cX1_thinks 47 = .ok (.getfield 64, 3) := dk_180 0 64 (dk_at dksX1_thinks_2 0 rfl rfl)
theorem dX1_thinks_50 : decode cX1_thinks 50 = .ok (.putfield 64, 3) := dk_181 0 64 (dk_at dksX1_thinks_2 3 rfl rfl)
theorem dX1_thinks_53 : decode cX1_thinks 53 = .ok (.aload_n 0, 1) := dk_42 (dk_at dksX1_thinks_2 6 rfl rfl)
theorem dX1_thinks_54 : decode cX1_thinks 54 = .ok (.aload_n 1, 1) := dk_43 (dk_at dksX1_thinks_2 7 rfl rfl)
theorem dX1_thinks_55 : decode cX1_thinks 55 = .ok (.getfield 111, 3) := dk_180 0 111 (dk_at dksX1_thinks_2 8 rfl rfl)
theorem dX1_thinks_58 : decode cX1_thinks 58 = .ok (.putfield 111, 3) := dk_181 0 111 (dk_at dksX1_thinks_2 11 rfl rfl)
theorem dX1_thinks_61 : decode cX1_thinks 61 = .ok (.aload_n 0, 1) := dk_42 (dk_at dksX1_thinks_2 14 rfl rfl)
theorem dX1_thinks_62 : decode cX1_thinks 62 = .ok (.aload_n 1, 1) := dk_43 (dk_at dksX1_thinks_2 15 rfl rfl)
theorem dX1_thinks_63 : decode cX1_thinks 63 = .ok (.getfield 46, 3) := dk_180 0 46 (dk_at dksX1_thinks_2 16 rfl rfl)
theorem dX1_thinks_66 : decode cX1_thinks 66 = .ok (.putfield 46, 3) := dk_181 0 46 (dk_at dksX1_thinks_2 19 rfl rfl)
theorem dX1_thinks_69 : decode cX1_thinks 69 = .ok (.aload_n 0, 1) := dk_42 (dk_at dksX1_thinks_2 22 rfl rfl)
theorem dX1_thinks_70 : decode cX1_thinks 70 = .ok (.aload_n 1, 1) := dk_43 (dk_at dksX1_thinks_2 23 rfl rfl)
theorem dX1_thinks_71 : decode cX1_thinks 71 = .ok (.getfield 53, 3) := dk_180 0 53 (dk_at dksX1_thinks_3 0 rfl rfl)
theorem dX1_thinks_74 : decode cX1_thinks 74 = .ok (.putfield 53, 3) := dk_181 0 53 (dk_at dksX1_thinks_3 3 rfl rfl)
theorem dX1_thinks_77 : decode cX1_thinks 77 = .ok (.aload_n 0, 1) := dk_42 (dk_at dksX1_thinks_3 6 rfl rfl)
theorem dX1_thinks_78 : decode cX1_thinks 78 = .ok (.aload_n 1, 1) := dk_43 (dk_at dksX1_thinks_3 7 rfl rfl)
theorem dX1_thinks_79 : decode cX1_thinks 79 = .ok (.getfield 57, 3) := dk_180 0 57 (dk_at dksX1_thinks_3 8 rfl rfl)
theorem dX1_thinks_82 : decode cX1_thinks 82 = .ok (.putfield 57, 3) := dk_181 0 57 (dk_at dksX1_thinks_3 11 rfl rfl)
theorem dX1_thinks_85 : decode cX1_thinks 85 = .ok (.aload_n 0, 1) := dk_42 (dk_at dksX1_thinks_3 14 rfl rfl)
theorem dX1_thinks_86 : decode cX1_thinks 86 = .ok (.iconst (-1), 1) := dk_2 (dk_at dksX1_thinks_3 15 rfl rfl)
theorem dX1_thinks_87 : decode cX1_thinks 87 = .ok (.putfield 114, 3) := dk_181 0 114 (dk_at dksX1_thinks_3 16 rfl rfl)
theorem dX1_thinks_90 : decode cX1_thinks 90 = .ok (.aload_n 0, 1) := dk_42 (dk_at dksX1_thinks_3 19 rfl rfl)
theorem dX1_thinks_91 : decode cX1_thinks 91 = .ok (.iconst (-1), 1) := dk_2 (dk_at dksX1_thinks_3 20 rfl rfl)
theorem dX1_thinks_92 : decode cX1_thinks 92 = .ok (.putfield 117, 3) := dk_181 0 117 (dk_at dksX1_thinks_3 21 rfl rfl)
theorem dX1_thinks_95 : decode cX1_thinks 95 = .ok (.iconst 0, 1) := dk_3 (dk_at dksX1_thinks_4 0 rfl rfl)
theorem dX1_thinks_96 : decode cX1_thinks 96 = .ok (.istore_n 2, 1) := dk_61 (dk_at dksX1_thinks_4 1 rfl rfl)
theorem dX1_thinks_97 : decode cX1_thinks 97 = .ok (.iload_n 2, 1) := dk_28 (dk_at dksX1_thinks_4 2 rfl rfl)
theorem dX1_thinks_98 : decode cX1_thinks 98 = .ok (.iconst 5, 1) := dk_8 (dk_at dksX1_thinks_4 3 rfl rfl)
theorem dX1_thinks_99 : decode cX1_thinks 99 = .ok (.if_icmp .ge 16, 3) := dk_162 0 16 (dk_at dksX1_thinks_4 4 rfl rfl)
theorem dX1_thinks_102 : decode cX1_thinks 102 = .ok (.aload_n 0, 1) := dk_42 (dk_at dksX1_thinks_4 7 rfl rfl)
theorem dX1_thinks_103 : decode cX1_thinks 103 = .ok (.getfield 41, 3) := dk_180 0 41 (dk_at dksX1_thinks_4 8 rfl rfl)
theorem dX1_thinks_106 : decode cX1_thinks 106 = .ok (.iload_n 2, 1) := dk_28 (dk_at dksX1_thinks_4 11 rfl rfl)
theorem dX1_thinks_107 : decode cX1_thinks 107 = .ok (.iconst 0, 1) := dk_3 (dk_at dksX1_thinks_4 12 rfl rfl)
theorem dX1_thinks_108 : decode cX1_thinks 108 = .ok (.iastore, 1) := dk_79 (dk_at dksX1_thinks_4 13 rfl rfl)
theorem dX1_thinks_109 : decode cX1_thinks 109 = .ok (.iinc 2 1, 3) := dk_132 2 1 (dk_at dksX1_thinks_4 14 rfl rfl)
theorem dX1_thinks_112 : decode cX1_thinks 112 = .ok (.goto (-15), 3) := dk_167 255 241 (dk_at dksX1_thinks_4 17 rfl rfl)
theorem dX1_thinks_115 : decode cX1_thinks 115 = .ok (.return_, 1) := dk_177 (dk_at dksX1_thinks_4 20 rfl rfl)
abbrev cX1_takes : ByteArray := prog_5_method_4_code
def yX1_takes : MethodName := ⟨RX1, "takes", "(LBallotFruit$Commune;)V"⟩
def dkwX1_takes_4 : List UInt8 := [132, 2, 1, 167, 255, 221, 177]
abbrev dktX1_takes_4 : List UInt8 := dkwX1_takes_4 ++ []
def dkwX1_takes_3 : List UInt8 := [180, 0, 34, 28, 43, 180, 0, 34, 28, 46, 79, 42, 180, 0, 38, 28, 43, 180, 0, 38, 28, 46, 79]
abbrev dktX1_takes_3 : List UInt8 := dkwX1_takes_3 ++ dktX1_takes_4
def dkwX1_takes_2 : List UInt8 := [167, 255, 216, 42, 43, 180, 0, 123, 181, 0, 123, 3, 61, 28, 42, 180, 0, 123, 162, 0, 33, 42]
abbrev dktX1_takes_2 : List UInt8 := dkwX1_takes_2 ++ dktX1_takes_3
def dkwX1_takes_1 : List UInt8 := [180, 0, 31, 28, 50, 29, 43, 180, 0, 31, 28, 50, 29, 46, 79, 132, 3, 1, 167, 255, 232, 132, 2, 1]
abbrev dktX1_takes_1 : List UInt8 := dkwX1_takes_1 ++ dktX1_takes_2
def dkwX1_takes_0 : List UInt8 := [42, 43, 182, 0, 120, 3, 61, 28, 42, 180, 0, 92, 162, 0, 38, 3, 62, 29, 7, 162, 0, 25, 42]
abbrev dktX1_takes_0 : List UInt8 := dkwX1_takes_0 ++ dktX1_takes_1
theorem dksX1_takes_0 : cX1_takes.data.toList.drop 0 = dktX1_takes_0 := by decide +kernel
theorem dksX1_takes_1 : cX1_takes.data.toList.drop 23 = dktX1_takes_1 := dk_seg dksX1_takes_0 23 rfl rfl
theorem dksX1_takes_2 : cX1_takes.data.toList.drop 47 = dktX1_takes_2 := dk_seg dksX1_takes_1 24 rfl rfl
theorem dksX1_takes_3 : cX1_takes.data.toList.drop 69 = dktX1_takes_3 := dk_seg dksX1_takes_2 22 rfl rfl
theorem dksX1_takes_4 : cX1_takes.data.toList.drop 92 = dktX1_takes_4 := dk_seg dksX1_takes_3 23 rfl rfl
theorem dX1_takes_0 : decode cX1_takes 0 = .ok (.aload_n 0, 1) := dk_42 (dk_at dksX1_takes_0 0 rfl rfl)
theorem dX1_takes_1 : decode cX1_takes 1 = .ok (.aload_n 1, 1) := dk_43 (dk_at dksX1_takes_0 1 rfl rfl)
theorem dX1_takes_2 : decode cX1_takes 2 = .ok (.invokevirtual 120, 3) := dk_182 0 120 (dk_at dksX1_takes_0 2 rfl rfl)
theorem dX1_takes_5 : decode cX1_takes 5 = .ok (.iconst 0, 1) := dk_3 (dk_at dksX1_takes_0 5 rfl rfl)
theorem dX1_takes_6 : decode cX1_takes 6 = .ok (.istore_n 2, 1) := dk_61 (dk_at dksX1_takes_0 6 rfl rfl)
theorem dX1_takes_7 : decode cX1_takes 7 = .ok (.iload_n 2, 1) := dk_28 (dk_at dksX1_takes_0 7 rfl rfl)
theorem dX1_takes_8 : decode cX1_takes 8 = .ok (.aload_n 0, 1) := dk_42 (dk_at dksX1_takes_0 8 rfl rfl)
theorem dX1_takes_9 : decode cX1_takes 9 = .ok (.getfield 92, 3) := dk_180 0 92 (dk_at dksX1_takes_0 9 rfl rfl)
theorem dX1_takes_12 : decode cX1_takes 12 = .ok (.if_icmp .ge 38, 3) := dk_162 0 38 (dk_at dksX1_takes_0 12 rfl rfl)
theorem dX1_takes_15 : decode cX1_takes 15 = .ok (.iconst 0, 1) := dk_3 (dk_at dksX1_takes_0 15 rfl rfl)
theorem dX1_takes_16 : decode cX1_takes 16 = .ok (.istore_n 3, 1) := dk_62 (dk_at dksX1_takes_0 16 rfl rfl)
theorem dX1_takes_17 : decode cX1_takes 17 = .ok (.iload_n 3, 1) := dk_29 (dk_at dksX1_takes_0 17 rfl rfl)
theorem dX1_takes_18 : decode cX1_takes 18 = .ok (.iconst 4, 1) := dk_7 (dk_at dksX1_takes_0 18 rfl rfl)
theorem dX1_takes_19 : decode cX1_takes 19 = .ok (.if_icmp .ge 25, 3) := dk_162 0 25 (dk_at dksX1_takes_0 19 rfl rfl)
theorem dX1_takes_22 : decode cX1_takes 22 = .ok (.aload_n 0, 1) := dk_42 (dk_at dksX1_takes_0 22 rfl rfl)
theorem dX1_takes_23 : decode cX1_takes 23 = .ok (.getfield 31, 3) := dk_180 0 31 (dk_at dksX1_takes_1 0 rfl rfl)
theorem dX1_takes_26 : decode cX1_takes 26 = .ok (.iload_n 2, 1) := dk_28 (dk_at dksX1_takes_1 3 rfl rfl)
theorem dX1_takes_27 : decode cX1_takes 27 = .ok (.aaload, 1) := dk_50 (dk_at dksX1_takes_1 4 rfl rfl)
theorem dX1_takes_28 : decode cX1_takes 28 = .ok (.iload_n 3, 1) := dk_29 (dk_at dksX1_takes_1 5 rfl rfl)
theorem dX1_takes_29 : decode cX1_takes 29 = .ok (.aload_n 1, 1) := dk_43 (dk_at dksX1_takes_1 6 rfl rfl)
theorem dX1_takes_30 : decode cX1_takes 30 = .ok (.getfield 31, 3) := dk_180 0 31 (dk_at dksX1_takes_1 7 rfl rfl)
theorem dX1_takes_33 : decode cX1_takes 33 = .ok (.iload_n 2, 1) := dk_28 (dk_at dksX1_takes_1 10 rfl rfl)
theorem dX1_takes_34 : decode cX1_takes 34 = .ok (.aaload, 1) := dk_50 (dk_at dksX1_takes_1 11 rfl rfl)
theorem dX1_takes_35 : decode cX1_takes 35 = .ok (.iload_n 3, 1) := dk_29 (dk_at dksX1_takes_1 12 rfl rfl)
theorem dX1_takes_36 : decode cX1_takes 36 = .ok (.iaload, 1) := dk_46 (dk_at dksX1_takes_1 13 rfl rfl)
theorem dX1_takes_37 : decode cX1_takes 37 = .ok (.iastore, 1) := dk_79 (dk_at dksX1_takes_1 14 rfl rfl)
theorem dX1_takes_38 : decode cX1_takes 38 = .ok (.iinc 3 1, 3) := dk_132 3 1 (dk_at dksX1_takes_1 15 rfl rfl)
theorem dX1_takes_41 : decode cX1_takes 41 = .ok (.goto (-24), 3) := dk_167 255 232 (dk_at dksX1_takes_1 18 rfl rfl)
theorem dX1_takes_44 : decode cX1_takes 44 = .ok (.iinc 2 1, 3) := dk_132 2 1 (dk_at dksX1_takes_1 21 rfl rfl)
theorem dX1_takes_47 : decode cX1_takes 47 = .ok (.goto (-40), 3) := dk_167 255 216 (dk_at dksX1_takes_2 0 rfl rfl)
theorem dX1_takes_50 : decode cX1_takes 50 = .ok (.aload_n 0, 1) := dk_42 (dk_at dksX1_takes_2 3 rfl rfl)
theorem dX1_takes_51 : decode cX1_takes 51 = .ok (.aload_n 1, 1) := dk_43 (dk_at dksX1_takes_2 4 rfl rfl)
theorem dX1_takes_52 : decode cX1_takes 52 = .ok (.getfield 123, 3) := dk_180 0 123 (dk_at dksX1_takes_2 5 rfl rfl)
theorem dX1_takes_55 : decode cX1_takes 55 = .ok (.putfield 123, 3) := dk_181 0 123 (dk_at dksX1_takes_2 8 rfl rfl)
theorem dX1_takes_58 : decode cX1_takes 58 = .ok (.iconst 0, 1) := dk_3 (dk_at dksX1_takes_2 11 rfl rfl)
theorem dX1_takes_59 : decode cX1_takes 59 = .ok (.istore_n 2, 1) := dk_61 (dk_at dksX1_takes_2 12 rfl rfl)
theorem dX1_takes_60 : decode cX1_takes 60 = .ok (.iload_n 2, 1) := dk_28 (dk_at dksX1_takes_2 13 rfl rfl)
theorem dX1_takes_61 : decode cX1_takes 61 = .ok (.aload_n 0, 1) := dk_42 (dk_at dksX1_takes_2 14 rfl rfl)
theorem dX1_takes_62 : decode cX1_takes 62 = .ok (.getfield 123, 3) := dk_180 0 123 (dk_at dksX1_takes_2 15 rfl rfl)
theorem dX1_takes_65 : decode cX1_takes 65 = .ok (.if_icmp .ge 33, 3) := dk_162 0 33 (dk_at dksX1_takes_2 18 rfl rfl)
theorem dX1_takes_68 : decode cX1_takes 68 = .ok (.aload_n 0, 1) := dk_42 (dk_at dksX1_takes_2 21 rfl rfl)
theorem dX1_takes_69 : decode cX1_takes 69 = .ok (.getfield 34, 3) := dk_180 0 34 (dk_at dksX1_takes_3 0 rfl rfl)
theorem dX1_takes_72 : decode cX1_takes 72 = .ok (.iload_n 2, 1) := dk_28 (dk_at dksX1_takes_3 3 rfl rfl)
theorem dX1_takes_73 : decode cX1_takes 73 = .ok (.aload_n 1, 1) := dk_43 (dk_at dksX1_takes_3 4 rfl rfl)
theorem dX1_takes_74 : decode cX1_takes 74 = .ok (.getfield 34, 3) := dk_180 0 34 (dk_at dksX1_takes_3 5 rfl rfl)
theorem dX1_takes_77 : decode cX1_takes 77 = .ok (.iload_n 2, 1) := dk_28 (dk_at dksX1_takes_3 8 rfl rfl)
theorem dX1_takes_78 : decode cX1_takes 78 = .ok (.iaload, 1) := dk_46 (dk_at dksX1_takes_3 9 rfl rfl)
theorem dX1_takes_79 : decode cX1_takes 79 = .ok (.iastore, 1) := dk_79 (dk_at dksX1_takes_3 10 rfl rfl)
theorem dX1_takes_80 : decode cX1_takes 80 = .ok (.aload_n 0, 1) := dk_42 (dk_at dksX1_takes_3 11 rfl rfl)
theorem dX1_takes_81 : decode cX1_takes 81 = .ok (.getfield 38, 3) := dk_180 0 38 (dk_at dksX1_takes_3 12 rfl rfl)
theorem dX1_takes_84 : decode cX1_takes 84 = .ok (.iload_n 2, 1) := dk_28 (dk_at dksX1_takes_3 15 rfl rfl)
theorem dX1_takes_85 : decode cX1_takes 85 = .ok (.aload_n 1, 1) := dk_43 (dk_at dksX1_takes_3 16 rfl rfl)
theorem dX1_takes_86 : decode cX1_takes 86 = .ok (.getfield 38, 3) := dk_180 0 38 (dk_at dksX1_takes_3 17 rfl rfl)
theorem dX1_takes_89 : decode cX1_takes 89 = .ok (.iload_n 2, 1) := dk_28 (dk_at dksX1_takes_3 20 rfl rfl)
theorem dX1_takes_90 : decode cX1_takes 90 = .ok (.iaload, 1) := dk_46 (dk_at dksX1_takes_3 21 rfl rfl)
theorem dX1_takes_91 : decode cX1_takes 91 = .ok (.iastore, 1) := dk_79 (dk_at dksX1_takes_3 22 rfl rfl)
theorem dX1_takes_92 : decode cX1_takes 92 = .ok (.iinc 2 1, 3) := dk_132 2 1 (dk_at dksX1_takes_4 0 rfl rfl)
theorem dX1_takes_95 : decode cX1_takes 95 = .ok (.goto (-35), 3) := dk_167 255 221 (dk_at dksX1_takes_4 3 rfl rfl)
theorem dX1_takes_98 : decode cX1_takes 98 = .ok (.return_, 1) := dk_177 (dk_at dksX1_takes_4 6 rfl rfl)
theorem q149 : (Jvm.Cond.initialized "BallotFruit$Commune") ∈ lw_all := lw_g (lw_at lw_m1 2 rfl) rfl
theorem q192 : (Jvm.Cond.instantiable "BallotFruit$Commune" (31 : Nat)) ∈ lw_all := lw_g (lw_at lw_m1 45 rfl) rfl
theorem q194 : (Jvm.Cond.instanceMethod ({ cls := "BallotFruit$Commune", name := "<init>", desc := "()V" } : Jvm.MethodName)) ∈ lw_all := lw_g (lw_at lw_m1 47 rfl) rfl
theorem q195 : (Jvm.Cond.code ({ cls := "BallotFruit$Commune", name := "<init>", desc := "()V" } : Jvm.MethodName) prog_5_method_1_code (2 : Nat) (Option.none : Option Jvm.ClassFile.FieldType)) ∈ lw_all := lw_g (lw_at lw_m1 48 rfl) rfl
theorem q196 : (Jvm.Cond.methodLink "BallotFruit$Commune" (3 : Nat) ({ cls := "java/lang/Object", name := "<init>", desc := "()V" } : Jvm.MethodName)) ∈ lw_all := lw_g (lw_at lw_m1 49 rfl) rfl
theorem q197 : (Jvm.Cond.classLink "BallotFruit$Commune" (9 : Nat) "BallotFruit$Party") ∈ lw_all := lw_g (lw_at lw_m1 50 rfl) rfl
theorem q199 : (Jvm.Cond.classLink "BallotFruit$Commune" (17 : Nat) "BallotFruit$Tree") ∈ lw_all := lw_g (lw_at lw_m1 52 rfl) rfl
theorem q201 : (Jvm.Cond.classLink "BallotFruit$Commune" (23 : Nat) "BallotFruit$Eater") ∈ lw_all := lw_g (lw_at lw_m1 54 rfl) rfl
theorem q203 : (Jvm.Cond.classLink "BallotFruit$Commune" (29 : Nat) "[[I") ∈ lw_all := lw_g (lw_at lw_m1 56 rfl) rfl
theorem q205 : (Jvm.Cond.classLink "BallotFruit$Commune" (44 : Nat) "BallotFruit$Path") ∈ lw_all := lw_g (lw_at lw_m1 58 rfl) rfl
theorem q207 : (Jvm.Cond.classLink "BallotFruit$Commune" (50 : Nat) "java/util/ArrayList") ∈ lw_all := lw_g (lw_at lw_m1 60 rfl) rfl
theorem q209 : (Jvm.Cond.methodLink "BallotFruit$Commune" (52 : Nat) ({ cls := "java/util/ArrayList", name := "<init>", desc := "()V" } : Jvm.MethodName)) ∈ lw_all := lw_g (lw_at lw_m1 62 rfl) rfl
theorem q236 : (Jvm.Cond.methodLinkNest "BallotFruit$Commune" (67 : Nat) ({ cls := "BallotFruit$Party", name := "<init>", desc := "()V" } : Jvm.MethodName) "BallotFruit") ∈ lw_tbl := lw_at lw_m1 89 rfl
theorem q242 : (Jvm.Cond.fieldLinkNest "BallotFruit$Commune" (215 : Nat) "BallotFruit$Party" "store" "I" "BallotFruit") ∈ lw_tbl := lw_at lw_m1 95 rfl
theorem q245 : (Jvm.Cond.fieldLinkNest "BallotFruit$Commune" (218 : Nat) "BallotFruit$Party" "votes" "I" "BallotFruit") ∈ lw_tbl := lw_at lw_m1 98 rfl
theorem q247 : (Jvm.Cond.fieldLinkNest "BallotFruit$Commune" (157 : Nat) "BallotFruit$Party" "seats" "I" "BallotFruit") ∈ lw_tbl := lw_at lw_m1 100 rfl
theorem q257 : (Jvm.Cond.methodLinkNest "BallotFruit$Commune" (68 : Nat) ({ cls := "BallotFruit$Tree", name := "<init>", desc := "()V" } : Jvm.MethodName) "BallotFruit") ∈ lw_tbl := lw_at lw_m1 110 rfl
theorem q262 : (Jvm.Cond.fieldLinkNest "BallotFruit$Commune" (195 : Nat) "BallotFruit$Tree" "party" "I" "BallotFruit") ∈ lw_tbl := lw_at lw_m1 115 rfl
theorem q265 : (Jvm.Cond.fieldLinkNest "BallotFruit$Commune" (139 : Nat) "BallotFruit$Tree" "place" "I" "BallotFruit") ∈ lw_tbl := lw_at lw_m1 118 rfl
theorem q268 : (Jvm.Cond.fieldLinkNest "BallotFruit$Commune" (142 : Nat) "BallotFruit$Tree" "age" "I" "BallotFruit") ∈ lw_tbl := lw_at lw_m1 121 rfl
theorem q271 : (Jvm.Cond.fieldLinkNest "BallotFruit$Commune" (145 : Nat) "BallotFruit$Tree" "hanging" "I" "BallotFruit") ∈ lw_tbl := lw_at lw_m1 124 rfl
theorem q283 : (Jvm.Cond.methodLinkNest "BallotFruit$Commune" (69 : Nat) ({ cls := "BallotFruit$Eater", name := "<init>", desc := "()V" } : Jvm.MethodName) "BallotFruit") ∈ lw_tbl := lw_at lw_m1 136 rfl
theorem q288 : (Jvm.Cond.fieldLinkNest "BallotFruit$Commune" (208 : Nat) "BallotFruit$Eater" "taste" "[I" "BallotFruit") ∈ lw_tbl := lw_at lw_m1 141 rfl
theorem q292 : (Jvm.Cond.fieldLinkNest "BallotFruit$Commune" (205 : Nat) "BallotFruit$Eater" "hunger" "I" "BallotFruit") ∈ lw_tbl := lw_at lw_m1 145 rfl
theorem q299 : (Jvm.Cond.fieldLink "BallotFruit$Commune" (11 : Nat) "BallotFruit$Commune" "party" "[LBallotFruit$Party;") ∈ lw_all := lw_g (lw_at lw_m1 152 rfl) rfl
theorem q301 : (Jvm.Cond.fieldLink "BallotFruit$Commune" (19 : Nat) "BallotFruit$Commune" "tree" "[LBallotFruit$Tree;") ∈ lw_all := lw_g (lw_at lw_m1 154 rfl) rfl
theorem q303 : (Jvm.Cond.fieldLink "BallotFruit$Commune" (25 : Nat) "BallotFruit$Commune" "eater" "[LBallotFruit$Eater;") ∈ lw_all := lw_g (lw_at lw_m1 156 rfl) rfl
theorem q306 : (Jvm.Cond.fieldLink "BallotFruit$Commune" (31 : Nat) "BallotFruit$Commune" "book" "[[I") ∈ lw_all := lw_g (lw_at lw_m1 159 rfl) rfl
theorem q308 : (Jvm.Cond.fieldLink "BallotFruit$Commune" (34 : Nat) "BallotFruit$Commune" "coreParty" "[I") ∈ lw_all := lw_g (lw_at lw_m1 161 rfl) rfl
theorem q310 : (Jvm.Cond.fieldLink "BallotFruit$Commune" (38 : Nat) "BallotFruit$Commune" "corePlace" "[I") ∈ lw_all := lw_g (lw_at lw_m1 163 rfl) rfl
theorem q312 : (Jvm.Cond.fieldLink "BallotFruit$Commune" (41 : Nat) "BallotFruit$Commune" "gained" "[I") ∈ lw_all := lw_g (lw_at lw_m1 165 rfl) rfl
theorem q314 : (Jvm.Cond.fieldLink "BallotFruit$Commune" (46 : Nat) "BallotFruit$Commune" "paths" "[LBallotFruit$Path;") ∈ lw_all := lw_g (lw_at lw_m1 167 rfl) rfl
theorem q316 : (Jvm.Cond.fieldLink "BallotFruit$Commune" (53 : Nat) "BallotFruit$Commune" "law" "Ljava/util/ArrayList;") ∈ lw_all := lw_g (lw_at lw_m1 169 rfl) rfl
theorem q318 : (Jvm.Cond.fieldLink "BallotFruit$Commune" (57 : Nat) "BallotFruit$Commune" "plan" "Ljava/util/ArrayList;") ∈ lw_all := lw_g (lw_at lw_m1 171 rfl) rfl
theorem q320 : (Jvm.Cond.fieldLink "BallotFruit$Commune" (99 : Nat) "BallotFruit$Commune" "parties" "I") ∈ lw_all := lw_g (lw_at lw_m1 173 rfl) rfl
theorem q324 : (Jvm.Cond.fieldLink "BallotFruit$Commune" (74 : Nat) "BallotFruit$Commune" "trees" "I") ∈ lw_all := lw_g (lw_at lw_m1 177 rfl) rfl
theorem q326 : (Jvm.Cond.fieldLink "BallotFruit$Commune" (102 : Nat) "BallotFruit$Commune" "eaters" "I") ∈ lw_all := lw_g (lw_at lw_m1 179 rfl) rfl
theorem q329 : (Jvm.Cond.fieldLink "BallotFruit$Commune" (105 : Nat) "BallotFruit$Commune" "bad" "I") ∈ lw_all := lw_g (lw_at lw_m1 182 rfl) rfl
theorem q331 : (Jvm.Cond.fieldLink "BallotFruit$Commune" (108 : Nat) "BallotFruit$Commune" "wasps" "I") ∈ lw_all := lw_g (lw_at lw_m1 184 rfl) rfl
theorem q333 : (Jvm.Cond.fieldLink "BallotFruit$Commune" (60 : Nat) "BallotFruit$Commune" "chairs" "I") ∈ lw_all := lw_g (lw_at lw_m1 186 rfl) rfl
theorem q335 : (Jvm.Cond.fieldLink "BallotFruit$Commune" (64 : Nat) "BallotFruit$Commune" "every" "I") ∈ lw_all := lw_g (lw_at lw_m1 188 rfl) rfl
theorem q337 : (Jvm.Cond.fieldLink "BallotFruit$Commune" (83 : Nat) "BallotFruit$Commune" "fenced" "I") ∈ lw_all := lw_g (lw_at lw_m1 190 rfl) rfl
theorem q339 : (Jvm.Cond.fieldLink "BallotFruit$Commune" (86 : Nat) "BallotFruit$Commune" "week" "I") ∈ lw_all := lw_g (lw_at lw_m1 192 rfl) rfl
theorem q341 : (Jvm.Cond.fieldLink "BallotFruit$Commune" (89 : Nat) "BallotFruit$Commune" "state" "I") ∈ lw_all := lw_g (lw_at lw_m1 194 rfl) rfl
theorem q343 : (Jvm.Cond.fieldLink "BallotFruit$Commune" (92 : Nat) "BallotFruit$Commune" "lines" "I") ∈ lw_all := lw_g (lw_at lw_m1 196 rfl) rfl
theorem q345 : (Jvm.Cond.fieldLink "BallotFruit$Commune" (111 : Nat) "BallotFruit$Commune" "told" "I") ∈ lw_all := lw_g (lw_at lw_m1 198 rfl) rfl
theorem q347 : (Jvm.Cond.fieldLink "BallotFruit$Commune" (123 : Nat) "BallotFruit$Commune" "cores" "I") ∈ lw_all := lw_g (lw_at lw_m1 200 rfl) rfl
theorem q349 : (Jvm.Cond.fieldLink "BallotFruit$Commune" (114 : Nat) "BallotFruit$Commune" "hungry" "I") ∈ lw_all := lw_g (lw_at lw_m1 202 rfl) rfl
theorem q351 : (Jvm.Cond.fieldLink "BallotFruit$Commune" (117 : Nat) "BallotFruit$Commune" "hungryWeek" "I") ∈ lw_all := lw_g (lw_at lw_m1 204 rfl) rfl
theorem q354 : (Jvm.Cond.fieldLink "BallotFruit$Commune" (128 : Nat) "BallotFruit$Commune" "isThought" "Z") ∈ lw_all := lw_g (lw_at lw_m1 207 rfl) rfl
theorem q355 : (Jvm.Cond.fieldLink "BallotFruit$Commune" (135 : Nat) "BallotFruit$Commune" "askedTree" "LBallotFruit$Tree;") ∈ lw_all := lw_g (lw_at lw_m1 208 rfl) rfl
theorem q356 : (Jvm.Cond.fieldLink "BallotFruit$Commune" (132 : Nat) "BallotFruit$Commune" "askedParty" "I") ∈ lw_all := lw_g (lw_at lw_m1 209 rfl) rfl
theorem q357 : (Jvm.Cond.fieldLink "BallotFruit$Commune" (148 : Nat) "BallotFruit$Commune" "askedHunger" "I") ∈ lw_all := lw_g (lw_at lw_m1 210 rfl) rfl
theorem q358 : (Jvm.Cond.fieldLink "BallotFruit$Commune" (151 : Nat) "BallotFruit$Commune" "askedTaste" "I") ∈ lw_all := lw_g (lw_at lw_m1 211 rfl) rfl
theorem q359 : (Jvm.Cond.fieldLink "BallotFruit$Commune" (154 : Nat) "BallotFruit$Commune" "askedJam" "I") ∈ lw_all := lw_g (lw_at lw_m1 212 rfl) rfl
theorem q360 : (Jvm.Cond.laysFinal "BallotFruit$Commune" "BallotFruit$Commune" "party" "[LBallotFruit$Party;") ∈ lw_all := lw_g (lw_at lw_m1 213 rfl) rfl
theorem q361 : (Jvm.Cond.soleField "BallotFruit$Commune" "party") ∈ lw_all := lw_g (lw_at lw_m1 214 rfl) rfl
theorem q362 : (Jvm.Cond.laysFinal "BallotFruit$Commune" "BallotFruit$Commune" "tree" "[LBallotFruit$Tree;") ∈ lw_all := lw_g (lw_at lw_m1 215 rfl) rfl
theorem q363 : (Jvm.Cond.soleField "BallotFruit$Commune" "tree") ∈ lw_all := lw_g (lw_at lw_m1 216 rfl) rfl
theorem q364 : (Jvm.Cond.laysFinal "BallotFruit$Commune" "BallotFruit$Commune" "eater" "[LBallotFruit$Eater;") ∈ lw_all := lw_g (lw_at lw_m1 217 rfl) rfl
theorem q365 : (Jvm.Cond.soleField "BallotFruit$Commune" "eater") ∈ lw_all := lw_g (lw_at lw_m1 218 rfl) rfl
theorem q366 : (Jvm.Cond.laysFinal "BallotFruit$Commune" "BallotFruit$Commune" "book" "[[I") ∈ lw_all := lw_g (lw_at lw_m1 219 rfl) rfl
theorem q367 : (Jvm.Cond.soleField "BallotFruit$Commune" "book") ∈ lw_all := lw_g (lw_at lw_m1 220 rfl) rfl
theorem q368 : (Jvm.Cond.laysFinal "BallotFruit$Commune" "BallotFruit$Commune" "coreParty" "[I") ∈ lw_all := lw_g (lw_at lw_m1 221 rfl) rfl
theorem q369 : (Jvm.Cond.soleField "BallotFruit$Commune" "coreParty") ∈ lw_all := lw_g (lw_at lw_m1 222 rfl) rfl
theorem q370 : (Jvm.Cond.laysFinal "BallotFruit$Commune" "BallotFruit$Commune" "corePlace" "[I") ∈ lw_all := lw_g (lw_at lw_m1 223 rfl) rfl
theorem q371 : (Jvm.Cond.soleField "BallotFruit$Commune" "corePlace") ∈ lw_all := lw_g (lw_at lw_m1 224 rfl) rfl
theorem q372 : (Jvm.Cond.laysFinal "BallotFruit$Commune" "BallotFruit$Commune" "gained" "[I") ∈ lw_all := lw_g (lw_at lw_m1 225 rfl) rfl
theorem q373 : (Jvm.Cond.soleField "BallotFruit$Commune" "gained") ∈ lw_all := lw_g (lw_at lw_m1 226 rfl) rfl
theorem q374 : (Jvm.Cond.lays "BallotFruit$Commune" "BallotFruit$Commune" "paths" "[LBallotFruit$Path;") ∈ lw_all := lw_g (lw_at lw_m1 227 rfl) rfl
theorem q375 : (Jvm.Cond.soleField "BallotFruit$Commune" "paths") ∈ lw_all := lw_g (lw_at lw_m1 228 rfl) rfl
theorem q376 : (Jvm.Cond.lays "BallotFruit$Commune" "BallotFruit$Commune" "law" "Ljava/util/ArrayList;") ∈ lw_all := lw_g (lw_at lw_m1 229 rfl) rfl
theorem q377 : (Jvm.Cond.soleField "BallotFruit$Commune" "law") ∈ lw_all := lw_g (lw_at lw_m1 230 rfl) rfl
theorem q378 : (Jvm.Cond.lays "BallotFruit$Commune" "BallotFruit$Commune" "plan" "Ljava/util/ArrayList;") ∈ lw_all := lw_g (lw_at lw_m1 231 rfl) rfl
theorem q379 : (Jvm.Cond.soleField "BallotFruit$Commune" "plan") ∈ lw_all := lw_g (lw_at lw_m1 232 rfl) rfl
theorem q380 : (Jvm.Cond.lays "BallotFruit$Commune" "BallotFruit$Commune" "parties" "I") ∈ lw_all := lw_g (lw_at lw_m1 233 rfl) rfl
theorem q381 : (Jvm.Cond.soleField "BallotFruit$Commune" "parties") ∈ lw_all := lw_g (lw_at lw_m1 234 rfl) rfl
theorem q382 : (Jvm.Cond.lays "BallotFruit$Commune" "BallotFruit$Commune" "trees" "I") ∈ lw_all := lw_g (lw_at lw_m1 235 rfl) rfl
theorem q383 : (Jvm.Cond.soleField "BallotFruit$Commune" "trees") ∈ lw_all := lw_g (lw_at lw_m1 236 rfl) rfl
theorem q384 : (Jvm.Cond.lays "BallotFruit$Commune" "BallotFruit$Commune" "eaters" "I") ∈ lw_all := lw_g (lw_at lw_m1 237 rfl) rfl
theorem q385 : (Jvm.Cond.soleField "BallotFruit$Commune" "eaters") ∈ lw_all := lw_g (lw_at lw_m1 238 rfl) rfl
theorem q386 : (Jvm.Cond.lays "BallotFruit$Commune" "BallotFruit$Commune" "bad" "I") ∈ lw_all := lw_g (lw_at lw_m1 239 rfl) rfl
theorem q387 : (Jvm.Cond.soleField "BallotFruit$Commune" "bad") ∈ lw_all := lw_g (lw_at lw_m2 0 rfl) rfl
theorem q388 : (Jvm.Cond.lays "BallotFruit$Commune" "BallotFruit$Commune" "wasps" "I") ∈ lw_all := lw_g (lw_at lw_m2 1 rfl) rfl
theorem q389 : (Jvm.Cond.soleField "BallotFruit$Commune" "wasps") ∈ lw_all := lw_g (lw_at lw_m2 2 rfl) rfl
theorem q390 : (Jvm.Cond.lays "BallotFruit$Commune" "BallotFruit$Commune" "chairs" "I") ∈ lw_all := lw_g (lw_at lw_m2 3 rfl) rfl
theorem q391 : (Jvm.Cond.soleField "BallotFruit$Commune" "chairs") ∈ lw_all := lw_g (lw_at lw_m2 4 rfl) rfl
theorem q392 : (Jvm.Cond.lays "BallotFruit$Commune" "BallotFruit$Commune" "every" "I") ∈ lw_all := lw_g (lw_at lw_m2 5 rfl) rfl
theorem q393 : (Jvm.Cond.soleField "BallotFruit$Commune" "every") ∈ lw_all := lw_g (lw_at lw_m2 6 rfl) rfl
theorem q394 : (Jvm.Cond.lays "BallotFruit$Commune" "BallotFruit$Commune" "fenced" "I") ∈ lw_all := lw_g (lw_at lw_m2 7 rfl) rfl
theorem q395 : (Jvm.Cond.soleField "BallotFruit$Commune" "fenced") ∈ lw_all := lw_g (lw_at lw_m2 8 rfl) rfl
theorem q396 : (Jvm.Cond.lays "BallotFruit$Commune" "BallotFruit$Commune" "week" "I") ∈ lw_all := lw_g (lw_at lw_m2 9 rfl) rfl
theorem q397 : (Jvm.Cond.soleField "BallotFruit$Commune" "week") ∈ lw_all := lw_g (lw_at lw_m2 10 rfl) rfl
theorem q398 : (Jvm.Cond.lays "BallotFruit$Commune" "BallotFruit$Commune" "state" "I") ∈ lw_all := lw_g (lw_at lw_m2 11 rfl) rfl
theorem q399 : (Jvm.Cond.soleField "BallotFruit$Commune" "state") ∈ lw_all := lw_g (lw_at lw_m2 12 rfl) rfl
theorem q400 : (Jvm.Cond.lays "BallotFruit$Commune" "BallotFruit$Commune" "lines" "I") ∈ lw_all := lw_g (lw_at lw_m2 13 rfl) rfl
theorem q401 : (Jvm.Cond.soleField "BallotFruit$Commune" "lines") ∈ lw_all := lw_g (lw_at lw_m2 14 rfl) rfl
theorem q402 : (Jvm.Cond.lays "BallotFruit$Commune" "BallotFruit$Commune" "told" "I") ∈ lw_all := lw_g (lw_at lw_m2 15 rfl) rfl
theorem q403 : (Jvm.Cond.soleField "BallotFruit$Commune" "told") ∈ lw_all := lw_g (lw_at lw_m2 16 rfl) rfl
theorem q404 : (Jvm.Cond.lays "BallotFruit$Commune" "BallotFruit$Commune" "cores" "I") ∈ lw_all := lw_g (lw_at lw_m2 17 rfl) rfl
theorem q405 : (Jvm.Cond.soleField "BallotFruit$Commune" "cores") ∈ lw_all := lw_g (lw_at lw_m2 18 rfl) rfl
theorem q406 : (Jvm.Cond.lays "BallotFruit$Commune" "BallotFruit$Commune" "hungry" "I") ∈ lw_all := lw_g (lw_at lw_m2 19 rfl) rfl
theorem q407 : (Jvm.Cond.soleField "BallotFruit$Commune" "hungry") ∈ lw_all := lw_g (lw_at lw_m2 20 rfl) rfl
theorem q408 : (Jvm.Cond.lays "BallotFruit$Commune" "BallotFruit$Commune" "hungryWeek" "I") ∈ lw_all := lw_g (lw_at lw_m2 21 rfl) rfl
theorem q409 : (Jvm.Cond.soleField "BallotFruit$Commune" "hungryWeek") ∈ lw_all := lw_g (lw_at lw_m2 22 rfl) rfl
theorem q410 : (Jvm.Cond.lays "BallotFruit$Commune" "BallotFruit$Commune" "isThought" "Z") ∈ lw_all := lw_g (lw_at lw_m2 23 rfl) rfl
theorem q411 : (Jvm.Cond.soleField "BallotFruit$Commune" "isThought") ∈ lw_all := lw_g (lw_at lw_m2 24 rfl) rfl
theorem q412 : (Jvm.Cond.lays "BallotFruit$Commune" "BallotFruit$Commune" "askedTree" "LBallotFruit$Tree;") ∈ lw_all := lw_g (lw_at lw_m2 25 rfl) rfl
theorem q413 : (Jvm.Cond.soleField "BallotFruit$Commune" "askedTree") ∈ lw_all := lw_g (lw_at lw_m2 26 rfl) rfl
theorem q414 : (Jvm.Cond.lays "BallotFruit$Commune" "BallotFruit$Commune" "askedParty" "I") ∈ lw_all := lw_g (lw_at lw_m2 27 rfl) rfl
theorem q415 : (Jvm.Cond.soleField "BallotFruit$Commune" "askedParty") ∈ lw_all := lw_g (lw_at lw_m2 28 rfl) rfl
theorem q416 : (Jvm.Cond.lays "BallotFruit$Commune" "BallotFruit$Commune" "askedHunger" "I") ∈ lw_all := lw_g (lw_at lw_m2 29 rfl) rfl
theorem q417 : (Jvm.Cond.soleField "BallotFruit$Commune" "askedHunger") ∈ lw_all := lw_g (lw_at lw_m2 30 rfl) rfl
theorem q418 : (Jvm.Cond.lays "BallotFruit$Commune" "BallotFruit$Commune" "askedTaste" "I") ∈ lw_all := lw_g (lw_at lw_m2 31 rfl) rfl
theorem q419 : (Jvm.Cond.soleField "BallotFruit$Commune" "askedTaste") ∈ lw_all := lw_g (lw_at lw_m2 32 rfl) rfl
theorem q420 : (Jvm.Cond.lays "BallotFruit$Commune" "BallotFruit$Commune" "askedJam" "I") ∈ lw_all := lw_g (lw_at lw_m2 33 rfl) rfl
theorem q421 : (Jvm.Cond.soleField "BallotFruit$Commune" "askedJam") ∈ lw_all := lw_g (lw_at lw_m2 34 rfl) rfl
theorem q422 : (Jvm.Cond.superclass "BallotFruit$Commune" "java/lang/Object") ∈ lw_all := lw_g (lw_at lw_m2 35 rfl) rfl
theorem q804 : (Jvm.Cond.fieldLinkNest "BallotFruit$Commune" (170 : Nat) "BallotFruit$Line" "word" "I" "BallotFruit") ∈ lw_tbl := lw_at lw_m3 177 rfl
theorem q806 : (Jvm.Cond.fieldLinkNest "BallotFruit$Commune" (183 : Nat) "BallotFruit$Line" "comesTo" "LBallotFruit$Term;" "BallotFruit") ∈ lw_tbl := lw_at lw_m3 179 rfl
theorem q808 : (Jvm.Cond.fieldLinkNest "BallotFruit$Commune" (173 : Nat) "BallotFruit$Line" "when" "LBallotFruit$Term;" "BallotFruit") ∈ lw_tbl := lw_at lw_m3 181 rfl
theorem q851 : (Jvm.Cond.selects "BallotFruit$Commune" ({ cls := "java/lang/Object", name := "getClass", desc := "()Ljava/lang/Class;" } : Jvm.MethodName) ({ cls := "java/lang/Object", name := "getClass", desc := "()Ljava/lang/Class;" } : Jvm.MethodName)) ∈ lw_all := lw_g (lw_at lw_m3 224 rfl) rfl
theorem q897 : (Jvm.Cond.fieldLinkNest "BallotFruit$Commune" (232 : Nat) "BallotFruit$Path" "place" "[I" "BallotFruit") ∈ lw_tbl := lw_at lw_m4 30 rfl
theorem q979 : (Jvm.Cond.instanceMethod ({ cls := "BallotFruit$Commune", name := "moves", desc := "(LBallotFruit$Commune;)V" } : Jvm.MethodName)) ∈ lw_all := lw_g (lw_at lw_m4 112 rfl) rfl
theorem q980 : (Jvm.Cond.selects "BallotFruit$Commune" ({ cls := "BallotFruit$Commune", name := "moves", desc := "(LBallotFruit$Commune;)V" } : Jvm.MethodName) ({ cls := "BallotFruit$Commune", name := "moves", desc := "(LBallotFruit$Commune;)V" } : Jvm.MethodName)) ∈ lw_all := lw_g (lw_at lw_m4 113 rfl) rfl
theorem q981 : (Jvm.Cond.code ({ cls := "BallotFruit$Commune", name := "moves", desc := "(LBallotFruit$Commune;)V" } : Jvm.MethodName) prog_5_method_2_code (3 : Nat) (Option.none : Option Jvm.ClassFile.FieldType)) ∈ lw_all := lw_g (lw_at lw_m4 114 rfl) rfl
theorem q982 : (Jvm.Cond.methodLink "BallotFruit$Commune" (70 : Nat) ({ cls := "BallotFruit$Party", name := "takes", desc := "(LBallotFruit$Party;)V" } : Jvm.MethodName)) ∈ lw_all := lw_g (lw_at lw_m4 115 rfl) rfl
theorem q986 : (Jvm.Cond.methodLink "BallotFruit$Commune" (77 : Nat) ({ cls := "BallotFruit$Tree", name := "takes", desc := "(LBallotFruit$Tree;)V" } : Jvm.MethodName)) ∈ lw_all := lw_g (lw_at lw_m4 119 rfl) rfl
theorem q990 : (Jvm.Cond.methodLink "BallotFruit$Commune" (80 : Nat) ({ cls := "BallotFruit$Eater", name := "takes", desc := "(LBallotFruit$Eater;)V" } : Jvm.MethodName)) ∈ lw_all := lw_g (lw_at lw_m4 123 rfl) rfl
theorem q1038 : (Jvm.Cond.instanceMethod ({ cls := "BallotFruit$Commune", name := "plants", desc := "(III)I" } : Jvm.MethodName)) ∈ lw_all := lw_g (lw_at lw_m4 171 rfl) rfl
theorem q1039 : (Jvm.Cond.selects "BallotFruit$Commune" ({ cls := "BallotFruit$Commune", name := "plants", desc := "(III)I" } : Jvm.MethodName) ({ cls := "BallotFruit$Commune", name := "plants", desc := "(III)I" } : Jvm.MethodName)) ∈ lw_all := lw_g (lw_at lw_m4 172 rfl) rfl
theorem q1040 : (Jvm.Cond.code ({ cls := "BallotFruit$Commune", name := "plants", desc := "(III)I" } : Jvm.MethodName) prog_5_method_14_code (5 : Nat) (Option.some Jvm.ClassFile.FieldType.int)) ∈ lw_all := lw_g (lw_at lw_m4 173 rfl) rfl
theorem q1041 : (Jvm.Cond.methodLink "BallotFruit$Commune" (211 : Nat) ({ cls := "BallotFruit$Commune", name := "notes", desc := "(III)V" } : Jvm.MethodName)) ∈ lw_all := lw_g (lw_at lw_m4 174 rfl) rfl
theorem q1042 : (Jvm.Cond.privateMethod ({ cls := "BallotFruit$Commune", name := "notes", desc := "(III)V" } : Jvm.MethodName)) ∈ lw_tbl := lw_at lw_m4 175 rfl
theorem q1043 : (Jvm.Cond.instanceMethod ({ cls := "BallotFruit$Commune", name := "notes", desc := "(III)V" } : Jvm.MethodName)) ∈ lw_all := lw_g (lw_at lw_m4 176 rfl) rfl
theorem q1044 : (Jvm.Cond.code ({ cls := "BallotFruit$Commune", name := "notes", desc := "(III)V" } : Jvm.MethodName) prog_5_method_6_code (5 : Nat) (Option.none : Option Jvm.ClassFile.FieldType)) ∈ lw_all := lw_g (lw_at lw_m4 177 rfl) rfl
theorem q1050 : (Jvm.Cond.instanceMethod ({ cls := "BallotFruit$Commune", name := "isFenced", desc := "(I)Z" } : Jvm.MethodName)) ∈ lw_all := lw_g (lw_at lw_m4 183 rfl) rfl
theorem q1051 : (Jvm.Cond.selects "BallotFruit$Commune" ({ cls := "BallotFruit$Commune", name := "isFenced", desc := "(I)Z" } : Jvm.MethodName) ({ cls := "BallotFruit$Commune", name := "isFenced", desc := "(I)Z" } : Jvm.MethodName)) ∈ lw_all := lw_g (lw_at lw_m4 184 rfl) rfl
theorem q1052 : (Jvm.Cond.code ({ cls := "BallotFruit$Commune", name := "isFenced", desc := "(I)Z" } : Jvm.MethodName) prog_5_method_13_code (2 : Nat) (Option.some Jvm.ClassFile.FieldType.boolean)) ∈ lw_all := lw_g (lw_at lw_m4 185 rfl) rfl
theorem q1054 : (Jvm.Cond.instanceMethod ({ cls := "BallotFruit$Commune", name := "fences", desc := "(IZ)V" } : Jvm.MethodName)) ∈ lw_all := lw_g (lw_at lw_m4 187 rfl) rfl
theorem q1055 : (Jvm.Cond.selects "BallotFruit$Commune" ({ cls := "BallotFruit$Commune", name := "fences", desc := "(IZ)V" } : Jvm.MethodName) ({ cls := "BallotFruit$Commune", name := "fences", desc := "(IZ)V" } : Jvm.MethodName)) ∈ lw_all := lw_g (lw_at lw_m4 188 rfl) rfl
theorem q1056 : (Jvm.Cond.code ({ cls := "BallotFruit$Commune", name := "fences", desc := "(IZ)V" } : Jvm.MethodName) prog_5_method_15_code (3 : Nat) (Option.none : Option Jvm.ClassFile.FieldType)) ∈ lw_all := lw_g (lw_at lw_m4 189 rfl) rfl
theorem q1062 : (Jvm.Cond.instanceMethod ({ cls := "BallotFruit$Commune", name := "boils", desc := "(II)I" } : Jvm.MethodName)) ∈ lw_all := lw_g (lw_at lw_m4 195 rfl) rfl
theorem q1063 : (Jvm.Cond.selects "BallotFruit$Commune" ({ cls := "BallotFruit$Commune", name := "boils", desc := "(II)I" } : Jvm.MethodName) ({ cls := "BallotFruit$Commune", name := "boils", desc := "(II)I" } : Jvm.MethodName)) ∈ lw_all := lw_g (lw_at lw_m4 196 rfl) rfl
theorem q1064 : (Jvm.Cond.code ({ cls := "BallotFruit$Commune", name := "boils", desc := "(II)I" } : Jvm.MethodName) prog_5_method_16_code (6 : Nat) (Option.some Jvm.ClassFile.FieldType.int)) ∈ lw_all := lw_g (lw_at lw_m4 197 rfl) rfl
theorem q1065 : (Jvm.Cond.methodLink "BallotFruit$Commune" (186 : Nat) ({ cls := "java/lang/Math", name := "min", desc := "(II)I" } : Jvm.MethodName)) ∈ lw_all := lw_g (lw_at lw_m4 198 rfl) rfl
theorem q1071 : (Jvm.Cond.instanceMethod ({ cls := "BallotFruit$Commune", name := "passes", desc := "()I" } : Jvm.MethodName)) ∈ lw_all := lw_g (lw_at lw_m4 204 rfl) rfl
theorem q1072 : (Jvm.Cond.selects "BallotFruit$Commune" ({ cls := "BallotFruit$Commune", name := "passes", desc := "()I" } : Jvm.MethodName) ({ cls := "BallotFruit$Commune", name := "passes", desc := "()I" } : Jvm.MethodName)) ∈ lw_all := lw_g (lw_at lw_m4 205 rfl) rfl
theorem q1073 : (Jvm.Cond.code ({ cls := "BallotFruit$Commune", name := "passes", desc := "()I" } : Jvm.MethodName) prog_5_method_28_code (3 : Nat) (Option.some Jvm.ClassFile.FieldType.int)) ∈ lw_all := lw_g (lw_at lw_m4 206 rfl) rfl
theorem q1074 : (Jvm.Cond.methodLink "BallotFruit$Commune" (160 : Nat) ({ cls := "java/util/ArrayList", name := "size", desc := "()I" } : Jvm.MethodName)) ∈ lw_all := lw_g (lw_at lw_m4 207 rfl) rfl
theorem q1075 : (Jvm.Cond.methodLink "BallotFruit$Commune" (164 : Nat) ({ cls := "java/util/ArrayList", name := "get", desc := "(I)Ljava/lang/Object;" } : Jvm.MethodName)) ∈ lw_all := lw_g (lw_at lw_m4 208 rfl) rfl
theorem q1087 : (Jvm.Cond.classLink "BallotFruit$Commune" (266 : Nat) "BallotFruit$Deed") ∈ lw_all := lw_g (lw_at lw_m4 220 rfl) rfl
theorem q1088 : (Jvm.Cond.methodLink "BallotFruit$Commune" (268 : Nat) ({ cls := "BallotFruit$Deed", name := "isOf", desc := "(I)Z" } : Jvm.MethodName)) ∈ lw_all := lw_g (lw_at lw_m4 221 rfl) rfl
theorem q1096 : (Jvm.Cond.methodLink "BallotFruit$Commune" (271 : Nat) ({ cls := "BallotFruit$Deed", name := "does", desc := "(LBallotFruit$Commune;)V" } : Jvm.MethodName)) ∈ lw_all := lw_g (lw_at lw_m4 229 rfl) rfl
theorem q1131 : (Jvm.Cond.methodLink "BallotFruit$Commune" (274 : Nat) ({ cls := "BallotFruit$Commune", name := "bear", desc := "(LBallotFruit$Tree;)I" } : Jvm.MethodName)) ∈ lw_all := lw_g (lw_at lw_m5 24 rfl) rfl
theorem q1132 : (Jvm.Cond.instanceMethod ({ cls := "BallotFruit$Commune", name := "bear", desc := "(LBallotFruit$Tree;)I" } : Jvm.MethodName)) ∈ lw_all := lw_g (lw_at lw_m5 25 rfl) rfl
theorem q1133 : (Jvm.Cond.selects "BallotFruit$Commune" ({ cls := "BallotFruit$Commune", name := "bear", desc := "(LBallotFruit$Tree;)I" } : Jvm.MethodName) ({ cls := "BallotFruit$Commune", name := "bear", desc := "(LBallotFruit$Tree;)I" } : Jvm.MethodName)) ∈ lw_all := lw_g (lw_at lw_m5 26 rfl) rfl
theorem q1134 : (Jvm.Cond.code ({ cls := "BallotFruit$Commune", name := "bear", desc := "(LBallotFruit$Tree;)I" } : Jvm.MethodName) prog_5_method_10_code (2 : Nat) (Option.some Jvm.ClassFile.FieldType.int)) ∈ lw_all := lw_g (lw_at lw_m5 27 rfl) rfl
theorem q1135 : (Jvm.Cond.methodLink "BallotFruit$Commune" (197 : Nat) ({ cls := "BallotFruit$Commune", name := "asks", desc := "(LBallotFruit$Tree;IIII)V" } : Jvm.MethodName)) ∈ lw_all := lw_g (lw_at lw_m5 28 rfl) rfl
theorem q1136 : (Jvm.Cond.privateMethod ({ cls := "BallotFruit$Commune", name := "asks", desc := "(LBallotFruit$Tree;IIII)V" } : Jvm.MethodName)) ∈ lw_tbl := lw_at lw_m5 29 rfl
theorem q1137 : (Jvm.Cond.instanceMethod ({ cls := "BallotFruit$Commune", name := "asks", desc := "(LBallotFruit$Tree;IIII)V" } : Jvm.MethodName)) ∈ lw_all := lw_g (lw_at lw_m5 30 rfl) rfl
theorem q1138 : (Jvm.Cond.code ({ cls := "BallotFruit$Commune", name := "asks", desc := "(LBallotFruit$Tree;IIII)V" } : Jvm.MethodName) prog_5_method_9_code (6 : Nat) (Option.none : Option Jvm.ClassFile.FieldType)) ∈ lw_all := lw_g (lw_at lw_m5 31 rfl) rfl
theorem q1139 : (Jvm.Cond.methodLink "BallotFruit$Commune" (201 : Nat) ({ cls := "BallotFruit$Commune", name := "tells", desc := "(III)I" } : Jvm.MethodName)) ∈ lw_all := lw_g (lw_at lw_m5 32 rfl) rfl
theorem q1140 : (Jvm.Cond.privateMethod ({ cls := "BallotFruit$Commune", name := "tells", desc := "(III)I" } : Jvm.MethodName)) ∈ lw_tbl := lw_at lw_m5 33 rfl
theorem q1141 : (Jvm.Cond.instanceMethod ({ cls := "BallotFruit$Commune", name := "tells", desc := "(III)I" } : Jvm.MethodName)) ∈ lw_all := lw_g (lw_at lw_m5 34 rfl) rfl
theorem q1142 : (Jvm.Cond.code ({ cls := "BallotFruit$Commune", name := "tells", desc := "(III)I" } : Jvm.MethodName) prog_5_method_8_code (6 : Nat) (Option.some Jvm.ClassFile.FieldType.int)) ∈ lw_all := lw_g (lw_at lw_m5 35 rfl) rfl
theorem q1143 : (Jvm.Cond.classLink "BallotFruit$Commune" (168 : Nat) "BallotFruit$Line") ∈ lw_all := lw_g (lw_at lw_m5 36 rfl) rfl
theorem q1144 : (Jvm.Cond.methodLink "BallotFruit$Commune" (177 : Nat) ({ cls := "BallotFruit$Term", name := "of", desc := "(LBallotFruit$Asker;)I" } : Jvm.MethodName)) ∈ lw_all := lw_g (lw_at lw_m5 37 rfl) rfl
theorem q1160 : (Jvm.Cond.castable "BallotFruit$Commune" "BallotFruit$Asker") ∈ lw_tbl := lw_at lw_m5 53 rfl
theorem q1161 : (Jvm.Cond.selects "BallotFruit$Commune" ({ cls := "BallotFruit$Asker", name := "fact", desc := "(I)I" } : Jvm.MethodName) ({ cls := "BallotFruit$Commune", name := "fact", desc := "(I)I" } : Jvm.MethodName)) ∈ lw_all := lw_g (lw_at lw_m5 54 rfl) rfl
theorem q1162 : (Jvm.Cond.unhidden "BallotFruit$Commune" "fact" "(I)I") ∈ lw_tbl := lw_at lw_m5 55 rfl
theorem q1163 : (Jvm.Cond.instanceMethod ({ cls := "BallotFruit$Commune", name := "fact", desc := "(I)I" } : Jvm.MethodName)) ∈ lw_all := lw_g (lw_at lw_m5 56 rfl) rfl
theorem q1164 : (Jvm.Cond.publicMethod ({ cls := "BallotFruit$Commune", name := "fact", desc := "(I)I" } : Jvm.MethodName)) ∈ lw_tbl := lw_at lw_m5 57 rfl
theorem q1165 : (Jvm.Cond.code ({ cls := "BallotFruit$Commune", name := "fact", desc := "(I)I" } : Jvm.MethodName) prog_5_method_7_code (2 : Nat) (Option.some Jvm.ClassFile.FieldType.int)) ∈ lw_all := lw_g (lw_at lw_m5 58 rfl) rfl
theorem q1171 : (Jvm.Cond.methodLink "BallotFruit$Commune" (192 : Nat) ({ cls := "java/lang/Math", name := "max", desc := "(II)I" } : Jvm.MethodName)) ∈ lw_all := lw_g (lw_at lw_m5 64 rfl) rfl
theorem q1172 : (Jvm.Cond.methodLink "BallotFruit$Commune" (278 : Nat) ({ cls := "BallotFruit$Commune", name := "isHungry", desc := "(I)Z" } : Jvm.MethodName)) ∈ lw_all := lw_g (lw_at lw_m5 65 rfl) rfl
theorem q1173 : (Jvm.Cond.privateMethod ({ cls := "BallotFruit$Commune", name := "isHungry", desc := "(I)Z" } : Jvm.MethodName)) ∈ lw_tbl := lw_at lw_m5 66 rfl
theorem q1174 : (Jvm.Cond.instanceMethod ({ cls := "BallotFruit$Commune", name := "isHungry", desc := "(I)Z" } : Jvm.MethodName)) ∈ lw_all := lw_g (lw_at lw_m5 67 rfl) rfl
theorem q1175 : (Jvm.Cond.code ({ cls := "BallotFruit$Commune", name := "isHungry", desc := "(I)Z" } : Jvm.MethodName) prog_5_method_22_code (5 : Nat) (Option.some Jvm.ClassFile.FieldType.boolean)) ∈ lw_all := lw_g (lw_at lw_m5 68 rfl) rfl
theorem q1176 : (Jvm.Cond.methodLink "BallotFruit$Commune" (246 : Nat) ({ cls := "BallotFruit$Commune", name := "want", desc := "(LBallotFruit$Eater;)I" } : Jvm.MethodName)) ∈ lw_all := lw_g (lw_at lw_m5 69 rfl) rfl
theorem q1177 : (Jvm.Cond.instanceMethod ({ cls := "BallotFruit$Commune", name := "want", desc := "(LBallotFruit$Eater;)I" } : Jvm.MethodName)) ∈ lw_all := lw_g (lw_at lw_m5 70 rfl) rfl
theorem q1178 : (Jvm.Cond.selects "BallotFruit$Commune" ({ cls := "BallotFruit$Commune", name := "want", desc := "(LBallotFruit$Eater;)I" } : Jvm.MethodName) ({ cls := "BallotFruit$Commune", name := "want", desc := "(LBallotFruit$Eater;)I" } : Jvm.MethodName)) ∈ lw_all := lw_g (lw_at lw_m5 71 rfl) rfl
theorem q1179 : (Jvm.Cond.code ({ cls := "BallotFruit$Commune", name := "want", desc := "(LBallotFruit$Eater;)I" } : Jvm.MethodName) prog_5_method_11_code (2 : Nat) (Option.some Jvm.ClassFile.FieldType.int)) ∈ lw_all := lw_g (lw_at lw_m5 72 rfl) rfl
theorem q1180 : (Jvm.Cond.methodLink "BallotFruit$Commune" (250 : Nat) ({ cls := "BallotFruit$Commune", name := "passes", desc := "(II)I" } : Jvm.MethodName)) ∈ lw_all := lw_g (lw_at lw_m5 73 rfl) rfl
theorem q1181 : (Jvm.Cond.privateMethod ({ cls := "BallotFruit$Commune", name := "passes", desc := "(II)I" } : Jvm.MethodName)) ∈ lw_tbl := lw_at lw_m5 74 rfl
theorem q1182 : (Jvm.Cond.instanceMethod ({ cls := "BallotFruit$Commune", name := "passes", desc := "(II)I" } : Jvm.MethodName)) ∈ lw_all := lw_g (lw_at lw_m5 75 rfl) rfl
theorem q1183 : (Jvm.Cond.code ({ cls := "BallotFruit$Commune", name := "passes", desc := "(II)I" } : Jvm.MethodName) prog_5_method_21_code (7 : Nat) (Option.some Jvm.ClassFile.FieldType.int)) ∈ lw_all := lw_g (lw_at lw_m5 76 rfl) rfl
theorem q1184 : (Jvm.Cond.methodLink "BallotFruit$Commune" (234 : Nat) ({ cls := "BallotFruit$Commune", name := "isFenced", desc := "(I)Z" } : Jvm.MethodName)) ∈ lw_all := lw_g (lw_at lw_m5 77 rfl) rfl
theorem q1185 : (Jvm.Cond.methodLink "BallotFruit$Commune" (238 : Nat) ({ cls := "BallotFruit$Commune", name := "best", desc := "(LBallotFruit$Eater;I)LBallotFruit$Tree;" } : Jvm.MethodName)) ∈ lw_all := lw_g (lw_at lw_m5 78 rfl) rfl
theorem q1186 : (Jvm.Cond.privateMethod ({ cls := "BallotFruit$Commune", name := "best", desc := "(LBallotFruit$Eater;I)LBallotFruit$Tree;" } : Jvm.MethodName)) ∈ lw_tbl := lw_at lw_m5 79 rfl
theorem q1187 : (Jvm.Cond.instanceMethod ({ cls := "BallotFruit$Commune", name := "best", desc := "(LBallotFruit$Eater;I)LBallotFruit$Tree;" } : Jvm.MethodName)) ∈ lw_all := lw_g (lw_at lw_m5 80 rfl) rfl
theorem q1188 : (Jvm.Cond.code ({ cls := "BallotFruit$Commune", name := "best", desc := "(LBallotFruit$Eater;I)LBallotFruit$Tree;" } : Jvm.MethodName) prog_5_method_17_code (6 : Nat) (Option.some (Jvm.ClassFile.FieldType.object "BallotFruit$Tree"))) ∈ lw_all := lw_g (lw_at lw_m5 81 rfl) rfl
theorem q1189 : (Jvm.Cond.methodLink "BallotFruit$Commune" (242 : Nat) ({ cls := "BallotFruit$Commune", name := "eats", desc := "(ILBallotFruit$Tree;)Z" } : Jvm.MethodName)) ∈ lw_all := lw_g (lw_at lw_m5 82 rfl) rfl
theorem q1190 : (Jvm.Cond.privateMethod ({ cls := "BallotFruit$Commune", name := "eats", desc := "(ILBallotFruit$Tree;)Z" } : Jvm.MethodName)) ∈ lw_tbl := lw_at lw_m5 83 rfl
theorem q1191 : (Jvm.Cond.instanceMethod ({ cls := "BallotFruit$Commune", name := "eats", desc := "(ILBallotFruit$Tree;)Z" } : Jvm.MethodName)) ∈ lw_all := lw_g (lw_at lw_m5 84 rfl) rfl
theorem q1192 : (Jvm.Cond.code ({ cls := "BallotFruit$Commune", name := "eats", desc := "(ILBallotFruit$Tree;)Z" } : Jvm.MethodName) prog_5_method_19_code (4 : Nat) (Option.some Jvm.ClassFile.FieldType.boolean)) ∈ lw_all := lw_g (lw_at lw_m5 85 rfl) rfl
theorem q1193 : (Jvm.Cond.methodLink "BallotFruit$Commune" (221 : Nat) ({ cls := "BallotFruit$Commune", name := "count", desc := "(LBallotFruit$Eater;ILBallotFruit$Tree;)I" } : Jvm.MethodName)) ∈ lw_all := lw_g (lw_at lw_m5 86 rfl) rfl
theorem q1194 : (Jvm.Cond.privateMethod ({ cls := "BallotFruit$Commune", name := "count", desc := "(LBallotFruit$Eater;ILBallotFruit$Tree;)I" } : Jvm.MethodName)) ∈ lw_tbl := lw_at lw_m5 87 rfl
theorem q1195 : (Jvm.Cond.instanceMethod ({ cls := "BallotFruit$Commune", name := "count", desc := "(LBallotFruit$Eater;ILBallotFruit$Tree;)I" } : Jvm.MethodName)) ∈ lw_all := lw_g (lw_at lw_m5 88 rfl) rfl
theorem q1196 : (Jvm.Cond.code ({ cls := "BallotFruit$Commune", name := "count", desc := "(LBallotFruit$Eater;ILBallotFruit$Tree;)I" } : Jvm.MethodName) prog_5_method_12_code (4 : Nat) (Option.some Jvm.ClassFile.FieldType.int)) ∈ lw_all := lw_g (lw_at lw_m5 89 rfl) rfl
theorem q1197 : (Jvm.Cond.methodLink "BallotFruit$Commune" (225 : Nat) ({ cls := "BallotFruit$Commune", name := "votes", desc := "(II)V" } : Jvm.MethodName)) ∈ lw_all := lw_g (lw_at lw_m5 90 rfl) rfl
theorem q1198 : (Jvm.Cond.privateMethod ({ cls := "BallotFruit$Commune", name := "votes", desc := "(II)V" } : Jvm.MethodName)) ∈ lw_tbl := lw_at lw_m5 91 rfl
theorem q1199 : (Jvm.Cond.instanceMethod ({ cls := "BallotFruit$Commune", name := "votes", desc := "(II)V" } : Jvm.MethodName)) ∈ lw_all := lw_g (lw_at lw_m5 92 rfl) rfl
theorem q1200 : (Jvm.Cond.code ({ cls := "BallotFruit$Commune", name := "votes", desc := "(II)V" } : Jvm.MethodName) prog_5_method_18_code (4 : Nat) (Option.none : Option Jvm.ClassFile.FieldType)) ∈ lw_all := lw_g (lw_at lw_m5 93 rfl) rfl
theorem q1201 : (Jvm.Cond.methodLink "BallotFruit$Commune" (228 : Nat) ({ cls := "BallotFruit$Commune", name := "draw", desc := "(I)I" } : Jvm.MethodName)) ∈ lw_all := lw_g (lw_at lw_m5 94 rfl) rfl
theorem q1202 : (Jvm.Cond.instanceMethod ({ cls := "BallotFruit$Commune", name := "draw", desc := "(I)I" } : Jvm.MethodName)) ∈ lw_all := lw_g (lw_at lw_m5 95 rfl) rfl
theorem q1203 : (Jvm.Cond.selects "BallotFruit$Commune" ({ cls := "BallotFruit$Commune", name := "draw", desc := "(I)I" } : Jvm.MethodName) ({ cls := "BallotFruit$Commune", name := "draw", desc := "(I)I" } : Jvm.MethodName)) ∈ lw_all := lw_g (lw_at lw_m5 96 rfl) rfl
theorem q1204 : (Jvm.Cond.code ({ cls := "BallotFruit$Commune", name := "draw", desc := "(I)I" } : Jvm.MethodName) prog_5_method_5_code (2 : Nat) (Option.some Jvm.ClassFile.FieldType.int)) ∈ lw_all := lw_g (lw_at lw_m5 97 rfl) rfl
theorem q1205 : (Jvm.Cond.constant "BallotFruit$Commune" (126 : Nat) (1664525 : Int32)) ∈ lw_all := lw_g (lw_at lw_m5 98 rfl) rfl
theorem q1206 : (Jvm.Cond.constant "BallotFruit$Commune" (127 : Nat) (1013904223 : Int32)) ∈ lw_all := lw_g (lw_at lw_m5 99 rfl) rfl
theorem q1207 : (Jvm.Cond.methodLink "BallotFruit$Commune" (253 : Nat) ({ cls := "BallotFruit$Commune", name := "jamOf", desc := "(LBallotFruit$Eater;)I" } : Jvm.MethodName)) ∈ lw_all := lw_g (lw_at lw_m5 100 rfl) rfl
theorem q1208 : (Jvm.Cond.privateMethod ({ cls := "BallotFruit$Commune", name := "jamOf", desc := "(LBallotFruit$Eater;)I" } : Jvm.MethodName)) ∈ lw_tbl := lw_at lw_m5 101 rfl
theorem q1209 : (Jvm.Cond.instanceMethod ({ cls := "BallotFruit$Commune", name := "jamOf", desc := "(LBallotFruit$Eater;)I" } : Jvm.MethodName)) ∈ lw_all := lw_g (lw_at lw_m5 102 rfl) rfl
theorem q1210 : (Jvm.Cond.code ({ cls := "BallotFruit$Commune", name := "jamOf", desc := "(LBallotFruit$Eater;)I" } : Jvm.MethodName) prog_5_method_20_code (4 : Nat) (Option.some Jvm.ClassFile.FieldType.int)) ∈ lw_all := lw_g (lw_at lw_m5 103 rfl) rfl
theorem q1211 : (Jvm.Cond.methodLink "BallotFruit$Commune" (281 : Nat) ({ cls := "BallotFruit$Commune", name := "stings", desc := "()V" } : Jvm.MethodName)) ∈ lw_all := lw_g (lw_at lw_m5 104 rfl) rfl
theorem q1212 : (Jvm.Cond.privateMethod ({ cls := "BallotFruit$Commune", name := "stings", desc := "()V" } : Jvm.MethodName)) ∈ lw_tbl := lw_at lw_m5 105 rfl
theorem q1213 : (Jvm.Cond.instanceMethod ({ cls := "BallotFruit$Commune", name := "stings", desc := "()V" } : Jvm.MethodName)) ∈ lw_all := lw_g (lw_at lw_m5 106 rfl) rfl
theorem q1214 : (Jvm.Cond.code ({ cls := "BallotFruit$Commune", name := "stings", desc := "()V" } : Jvm.MethodName) prog_5_method_23_code (3 : Nat) (Option.none : Option Jvm.ClassFile.FieldType)) ∈ lw_all := lw_g (lw_at lw_m5 107 rfl) rfl
theorem q1215 : (Jvm.Cond.methodLink "BallotFruit$Commune" (284 : Nat) ({ cls := "BallotFruit$Commune", name := "seats", desc := "()V" } : Jvm.MethodName)) ∈ lw_all := lw_g (lw_at lw_m5 108 rfl) rfl
theorem q1216 : (Jvm.Cond.privateMethod ({ cls := "BallotFruit$Commune", name := "seats", desc := "()V" } : Jvm.MethodName)) ∈ lw_tbl := lw_at lw_m5 109 rfl
theorem q1217 : (Jvm.Cond.instanceMethod ({ cls := "BallotFruit$Commune", name := "seats", desc := "()V" } : Jvm.MethodName)) ∈ lw_all := lw_g (lw_at lw_m5 110 rfl) rfl
theorem q1218 : (Jvm.Cond.code ({ cls := "BallotFruit$Commune", name := "seats", desc := "()V" } : Jvm.MethodName) prog_5_method_27_code (2 : Nat) (Option.none : Option Jvm.ClassFile.FieldType)) ∈ lw_all := lw_g (lw_at lw_m5 111 rfl) rfl
theorem q1219 : (Jvm.Cond.methodLink "BallotFruit$Commune" (260 : Nat) ({ cls := "BallotFruit$Commune", name := "falls", desc := "()V" } : Jvm.MethodName)) ∈ lw_all := lw_g (lw_at lw_m5 112 rfl) rfl
theorem q1220 : (Jvm.Cond.instanceMethod ({ cls := "BallotFruit$Commune", name := "falls", desc := "()V" } : Jvm.MethodName)) ∈ lw_all := lw_g (lw_at lw_m5 113 rfl) rfl
theorem q1221 : (Jvm.Cond.selects "BallotFruit$Commune" ({ cls := "BallotFruit$Commune", name := "falls", desc := "()V" } : Jvm.MethodName) ({ cls := "BallotFruit$Commune", name := "falls", desc := "()V" } : Jvm.MethodName)) ∈ lw_all := lw_g (lw_at lw_m5 114 rfl) rfl
theorem q1222 : (Jvm.Cond.code ({ cls := "BallotFruit$Commune", name := "falls", desc := "()V" } : Jvm.MethodName) prog_5_method_25_code (6 : Nat) (Option.none : Option Jvm.ClassFile.FieldType)) ∈ lw_all := lw_g (lw_at lw_m5 115 rfl) rfl
theorem q1223 : (Jvm.Cond.methodLink "BallotFruit$Commune" (256 : Nat) ({ cls := "BallotFruit$Commune", name := "isAhead", desc := "(III)Z" } : Jvm.MethodName)) ∈ lw_all := lw_g (lw_at lw_m5 116 rfl) rfl
theorem q1224 : (Jvm.Cond.privateMethod ({ cls := "BallotFruit$Commune", name := "isAhead", desc := "(III)Z" } : Jvm.MethodName)) ∈ lw_tbl := lw_at lw_m5 117 rfl
theorem q1225 : (Jvm.Cond.instanceMethod ({ cls := "BallotFruit$Commune", name := "isAhead", desc := "(III)Z" } : Jvm.MethodName)) ∈ lw_all := lw_g (lw_at lw_m5 118 rfl) rfl
theorem q1226 : (Jvm.Cond.code ({ cls := "BallotFruit$Commune", name := "isAhead", desc := "(III)Z" } : Jvm.MethodName) prog_5_method_26_code (5 : Nat) (Option.some Jvm.ClassFile.FieldType.boolean)) ∈ lw_all := lw_g (lw_at lw_m5 119 rfl) rfl
theorem q1227 : (Jvm.Cond.methodLink "BallotFruit$Commune" (263 : Nat) ({ cls := "BallotFruit$Commune", name := "mostSeated", desc := "()I" } : Jvm.MethodName)) ∈ lw_all := lw_g (lw_at lw_m5 120 rfl) rfl
theorem q1228 : (Jvm.Cond.instanceMethod ({ cls := "BallotFruit$Commune", name := "mostSeated", desc := "()I" } : Jvm.MethodName)) ∈ lw_all := lw_g (lw_at lw_m5 121 rfl) rfl
theorem q1229 : (Jvm.Cond.selects "BallotFruit$Commune" ({ cls := "BallotFruit$Commune", name := "mostSeated", desc := "()I" } : Jvm.MethodName) ({ cls := "BallotFruit$Commune", name := "mostSeated", desc := "()I" } : Jvm.MethodName)) ∈ lw_all := lw_g (lw_at lw_m5 122 rfl) rfl
theorem q1230 : (Jvm.Cond.code ({ cls := "BallotFruit$Commune", name := "mostSeated", desc := "()I" } : Jvm.MethodName) prog_5_method_24_code (3 : Nat) (Option.some Jvm.ClassFile.FieldType.int)) ∈ lw_all := lw_g (lw_at lw_m5 123 rfl) rfl
theorem q1266 : (Jvm.Cond.instanceMethod ({ cls := "BallotFruit$Commune", name := "thinks", desc := "(LBallotFruit$Commune;)V" } : Jvm.MethodName)) ∈ lw_all := lw_g (lw_at lw_m5 159 rfl) rfl
theorem q1267 : (Jvm.Cond.selects "BallotFruit$Commune" ({ cls := "BallotFruit$Commune", name := "thinks", desc := "(LBallotFruit$Commune;)V" } : Jvm.MethodName) ({ cls := "BallotFruit$Commune", name := "thinks", desc := "(LBallotFruit$Commune;)V" } : Jvm.MethodName)) ∈ lw_all := lw_g (lw_at lw_m5 160 rfl) rfl
theorem q1268 : (Jvm.Cond.code ({ cls := "BallotFruit$Commune", name := "thinks", desc := "(LBallotFruit$Commune;)V" } : Jvm.MethodName) prog_5_method_3_code (3 : Nat) (Option.none : Option Jvm.ClassFile.FieldType)) ∈ lw_all := lw_g (lw_at lw_m5 161 rfl) rfl
theorem q1269 : (Jvm.Cond.methodLink "BallotFruit$Commune" (95 : Nat) ({ cls := "BallotFruit$Commune", name := "moves", desc := "(LBallotFruit$Commune;)V" } : Jvm.MethodName)) ∈ lw_all := lw_g (lw_at lw_m5 162 rfl) rfl
theorem q1369 : (Jvm.Cond.instanceMethod ({ cls := "BallotFruit$Commune", name := "takes", desc := "(LBallotFruit$Commune;)V" } : Jvm.MethodName)) ∈ lw_all := lw_g (lw_at lw_m6 22 rfl) rfl
theorem q1370 : (Jvm.Cond.selects "BallotFruit$Commune" ({ cls := "BallotFruit$Commune", name := "takes", desc := "(LBallotFruit$Commune;)V" } : Jvm.MethodName) ({ cls := "BallotFruit$Commune", name := "takes", desc := "(LBallotFruit$Commune;)V" } : Jvm.MethodName)) ∈ lw_all := lw_g (lw_at lw_m6 23 rfl) rfl
theorem q1371 : (Jvm.Cond.code ({ cls := "BallotFruit$Commune", name := "takes", desc := "(LBallotFruit$Commune;)V" } : Jvm.MethodName) prog_5_method_4_code (4 : Nat) (Option.none : Option Jvm.ClassFile.FieldType)) ∈ lw_all := lw_g (lw_at lw_m6 24 rfl) rfl
theorem q1372 : (Jvm.Cond.methodLink "BallotFruit$Commune" (120 : Nat) ({ cls := "BallotFruit$Commune", name := "thinks", desc := "(LBallotFruit$Commune;)V" } : Jvm.MethodName)) ∈ lw_all := lw_g (lw_at lw_m6 25 rfl) rfl
theorem q2066 : (Jvm.Cond.castable "BallotFruit$Commune" "java/lang/Object") ∈ lw_tbl := lw_at lw_m8 239 rfl
theorem in_X1 : ∀ w ∈ wsX10, w ∈ lw_all := lw_in wsX10 [360, 362, 364, 366, 368, 370, 372, 374, 376, 378, 380, 382, 384, 386, 388, 390, 392, 394, 396, 398, 400, 402, 404, 406, 408, 410, 412, 414, 416, 418, 420] (by decide +kernel) (by decide +kernel)
end
