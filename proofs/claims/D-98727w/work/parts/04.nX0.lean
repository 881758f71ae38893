section
/-! BallotFruit -/
set_option maxRecDepth 100000
def RX0 : String := "BallotFruit"
def TX0 : u_T := fun k => match k with
  | 0 => ("BallotFruit", "tape", "[B", true)
  | 1 => ("BallotFruit", "taped", "I", false)
  | 2 => ("BallotFruit", "faultKind", "I", false)
  | 3 => ("BallotFruit", "faultPlace", "I", false)
  | 4 => ("BallotFruit", "commune", "LBallotFruit$Commune;", true)
  | 5 => ("BallotFruit", "kept", "LBallotFruit$Commune;", true)
  | 6 => ("BallotFruit", "thought", "LBallotFruit$Commune;", true)
  | 7 => ("BallotFruit", "back", "[LBallotFruit$Commune;", true)
  | 8 => ("BallotFruit", "backMany", "I", false)
  | 9 => ("BallotFruit", "hasImage", "Z", false)
  | _ => ("BallotFruit", "ways", "[I", true)
def tyX0 : Nat → FieldType := fun k => match k with
  | 0 => .array .byte
  | 1 => .int
  | 2 => .int
  | 3 => .int
  | 4 => .object "BallotFruit$Commune"
  | 5 => .object "BallotFruit$Commune"
  | 6 => .object "BallotFruit$Commune"
  | 7 => .array (.object "BallotFruit$Commune")
  | 8 => .int
  | 9 => .boolean
  | _ => .array .int
abbrev wsX00 : List Cond := u_ws RX0 TX0 11
theorem nmX0 : ∀ a, a < 11 → ∀ b, b < 11 → a ≠ b → (TX0 a).2.1 ≠ (TX0 b).2.1 := by decide +kernel
theorem tyX0_ok : ∀ k, k < 11 → parseFieldDescriptor (TX0 k).2.2.1 = some (tyX0 k) := by decide +kernel
abbrev cX0_init : ByteArray := prog_1_method_1_code
def yX0_init : MethodName := ⟨RX0, "<init>", "()V"⟩
def dkwX0_init_4 : List UInt8 := [167, 255, 234, 42, 16, 100, 188, 10, 181, 0, 38, 177]
abbrev dktX0_init_4 : List UInt8 := dkwX0_init_4 ++ []
def dkwX0_init_3 : List UInt8 := [60, 27, 16, 6, 162, 0, 22, 42, 180, 0, 30, 27, 187, 0, 17, 89, 183, 0, 19, 83, 132, 1, 1]
abbrev dktX0_init_3 : List UInt8 := dkwX0_init_3 ++ dktX0_init_4
def dkwX0_init_2 : List UInt8 := [183, 0, 19, 181, 0, 27, 42, 16, 6, 189, 0, 17, 181, 0, 30, 42, 180, 0, 27, 4, 181, 0, 34, 3]
abbrev dktX0_init_2 : List UInt8 := dkwX0_init_2 ++ dktX0_init_3
def dkwX0_init_1 : List UInt8 := [183, 0, 19, 181, 0, 20, 42, 187, 0, 17, 89, 183, 0, 19, 181, 0, 24, 42, 187, 0, 17, 89]
abbrev dktX0_init_1 : List UInt8 := dkwX0_init_1 ++ dktX0_init_2
def dkwX0_init_0 : List UInt8 := [42, 183, 0, 1, 42, 17, 1, 144, 188, 8, 181, 0, 9, 42, 2, 181, 0, 13, 42, 187, 0, 17, 89]
abbrev dktX0_init_0 : List UInt8 := dkwX0_init_0 ++ dktX0_init_1
theorem dksX0_init_0 : cX0_init.data.toList.drop 0 = dktX0_init_0 := by decide +kernel
theorem dksX0_init_1 : cX0_init.data.toList.drop 23 = dktX0_init_1 := dk_seg dksX0_init_0 23 rfl rfl
theorem dksX0_init_2 : cX0_init.data.toList.drop 45 = dktX0_init_2 := dk_seg dksX0_init_1 22 rfl rfl
theorem dksX0_init_3 : cX0_init.data.toList.drop 69 = dktX0_init_3 := dk_seg dksX0_init_2 24 rfl rfl
theorem dksX0_init_4 : cX0_init.data.toList.drop 92 = dktX0_init_4 := dk_seg dksX0_init_3 23 rfl rfl
theorem dX0_init_0 : decode cX0_init 0 = .ok (.aload_n 0, 1) := dk_42 (dk_at dksX0_init_0 0 rfl rfl)
theorem dX0_init_1 : decode cX0_init 1 = .ok (.invokespecial 1, 3) := dk_183 0 1 (dk_at dksX0_init_0 1 rfl rfl)
theorem dX0_init_4 : decode cX0_init 4 = .ok (.aload_n 0, 1) := dk_42 (dk_at dksX0_init_0 4 rfl rfl)
theorem dX0_init_5 : decode cX0_init 5 = .ok (.sipush 400, 3) := dk_17 1 144 (dk_at dksX0_init_0 5 rfl rfl)
theorem dX0_init_8 : decode cX0_init 8 = .ok (.newarray .byte, 2) := dk_188_8 (dk_at dksX0_init_0 8 rfl rfl)
theorem dX0_init_10 : decode cX0_init 10 = .ok (.putfield 9, 3) := dk_181 0 9 (dk_at dksX0_init_0 10 rfl rfl)
theorem dX0_init_13 : decode cX0_init 13 = .ok (.aload_n 0, 1) := dk_42 (dk_at dksX0_init_0 13 rfl rfl)
theorem dX0_init_14 : decode cX0_init 14 = .ok (.iconst (-1), 1) := dk_2 (dk_at dksX0_init_0 14 rfl rfl)
theorem dX0_init_15 : decode cX0_init 15 = .ok (.putfield 13, 3) := dk_181 0 13 (dk_at dksX0_init_0 15 rfl rfl)
theorem dX0_init_18 : decode cX0_init 18 = .ok (.aload_n 0, 1) := dk_42 (dk_at dksX0_init_0 18 rfl rfl)
theorem dX0_init_19 : decode cX0_init 19 = .ok (.new 17, 3) := dk_187 0 17 (dk_at dksX0_init_0 19 rfl rfl)
theorem dX0_init_22 : decode cX0_init 22 = .ok (.dup, 1) := dk_89 (dk_at dksX0_init_0 22 rfl rfl)
theorem dX0_init_23 : decode cX0_init 23 = .ok (.invokespecial 19, 3) := dk_183 0 19 (dk_at dksX0_init_1 0 rfl rfl)
theorem dX0_init_26 : decode cX0_init 26 = .ok (.putfield 20, 3) := dk_181 0 20 (dk_at dksX0_init_1 3 rfl rfl)
theorem dX0_init_29 : decode cX0_init 29 = .ok (.aload_n 0, 1) := dk_42 (dk_at dksX0_init_1 6 rfl rfl)
theorem dX0_init_30 : decode cX0_init 30 = .ok (.new 17, 3) := dk_187 0 17 (dk_at dksX0_init_1 7 rfl rfl)
theorem dX0_init_33 : decode cX0_init 33 = .ok (.dup, 1) := dk_89 (dk_at dksX0_init_1 10 rfl rfl)
theorem dX0_init_34 : decode cX0_init 34 = .ok (.invokespecial 19, 3) := dk_183 0 19 (dk_at dksX0_init_1 11 rfl rfl)
theorem dX0_init_37 : decode cX0_init 37 = .ok (.putfield 24, 3) := dk_181 0 24 (dk_at dksX0_init_1 14 rfl rfl)
theorem dX0_init_40 : decode cX0_init 40 = .ok (.aload_n 0, 1) := dk_42 (dk_at dksX0_init_1 17 rfl rfl)
theorem dX0_init_41 : decode cX0_init 41 = .ok (.new 17, 3) := dk_187 0 17 (dk_at dksX0_init_1 18 rfl rfl)
theorem dX0_init_44 : decode cX0_init 44 = .ok (.dup, 1) := dk_89 (dk_at dksX0_init_1 21 rfl rfl)
theorem dX0_init_45 : decode cX0_init 45 = .ok (.invokespecial 19, 3) := dk_183 0 19 (dk_at dksX0_init_2 0 rfl rfl)
theorem dX0_init_48 : decode cX0_init 48 = .ok (.putfield 27, 3) := dk_181 0 27 (dk_at dksX0_init_2 3 rfl rfl)
theorem dX0_init_51 : decode cX0_init 51 = .ok (.aload_n 0, 1) := dk_42 (dk_at dksX0_init_2 6 rfl rfl)
theorem dX0_init_52 : decode cX0_init 52 = .ok (.bipush 6, 2) := dk_16 6 (dk_at dksX0_init_2 7 rfl rfl)
theorem dX0_init_54 : decode cX0_init 54 = .ok (.anewarray 17, 3) := dk_189 0 17 (dk_at dksX0_init_2 9 rfl rfl)
theorem dX0_init_57 : decode cX0_init 57 = .ok (.putfield 30, 3) := dk_181 0 30 (dk_at dksX0_init_2 12 rfl rfl)
theorem dX0_init_60 : decode cX0_init 60 = .ok (.aload_n 0, 1) := dk_42 (dk_at dksX0_init_2 15 rfl rfl)
theorem dX0_init_61 : decode cX0_init 61 = .ok (.getfield 27, 3) := dk_180 0 27 (dk_at dksX0_init_2 16 rfl rfl)
theorem dX0_init_64 : decode cX0_init 64 = .ok (.iconst 1, 1) := dk_4 (dk_at dksX0_init_2 19 rfl rfl)
theorem dX0_init_65 : decode cX0_init 65 = .ok (.putfield 34, 3) := dk_181 0 34 (dk_at dksX0_init_2 20 rfl rfl)
theorem dX0_init_68 : decode cX0_init 68 = .ok (.iconst 0, 1) := dk_3 (dk_at dksX0_init_2 23 rfl rfl)
theorem dX0_init_69 : decode cX0_init 69 = .ok (.istore_n 1, 1) := dk_60 (dk_at dksX0_init_3 0 rfl rfl)
theorem dX0_init_70 : decode cX0_init 70 = .ok (.iload_n 1, 1) := dk_27 (dk_at dksX0_init_3 1 rfl rfl)
theorem dX0_init_71 : decode cX0_init 71 = .ok (.bipush 6, 2) := dk_16 6 (dk_at dksX0_init_3 2 rfl rfl)
theorem dX0_init_73 : decode cX0_init 73 = .ok (.if_icmp .ge 22, 3) := dk_162 0 22 (dk_at dksX0_init_3 4 rfl rfl)
theorem dX0_init_76 : decode cX0_init 76 = .ok (.aload_n 0, 1) := dk_42 (dk_at dksX0_init_3 7 rfl rfl)
theorem dX0_init_77 : decode cX0_init 77 = .ok (.getfield 30, 3) := dk_180 0 30 (dk_at dksX0_init_3 8 rfl rfl)
theorem dX0_init_80 : decode cX0_init 80 = .ok (.iload_n 1, 1) := dk_27 (dk_at dksX0_init_3 11 rfl rfl)
theorem dX0_init_81 : decode cX0_init 81 = .ok (.new 17, 3) := dk_187 0 17 (dk_at dksX0_init_3 12 rfl rfl)
theorem dX0_init_84 : decode cX0_init 84 = .ok (.dup, 1) := dk_89 (dk_at dksX0_init_3 15 rfl rfl)
theorem dX0_init_85 : decode cX0_init 85 = .ok (.invokespecial 19, 3) := dk_183 0 19 (dk_at dksX0_init_3 16 rfl rfl)
theorem dX0_init_88 : decode cX0_init 88 = .ok (.aastore, 1) := dk_83 (dk_at dksX0_init_3 19 rfl rfl)
theorem dX0_init_89 : decode cX0_init 89 = .ok (.iinc 1 1, 3) := dk_132 1 1 (dk_at dksX0_init_3 20 rfl rfl)
theorem dX0_init_92 : decode cX0_init 92 = .ok (.goto (-22), 3) := dk_167 255 234 (dk_at dksX0_init_4 0 rfl rfl)
theorem dX0_init_95 : decode cX0_init 95 = .ok (.aload_n 0, 1) := dk_42 (dk_at dksX0_init_4 3 rfl rfl)
theorem dX0_init_96 : decode cX0_init 96 = .ok (.bipush 100, 2) := dk_16 100 (dk_at dksX0_init_4 4 rfl rfl)
theorem dX0_init_98 : decode cX0_init 98 = .ok (.newarray .int, 2) := dk_188_10 (dk_at dksX0_init_4 6 rfl rfl)
theorem dX0_init_100 : decode cX0_init 100 = .ok (.putfield 38, 3) := dk_181 0 38 (dk_at dksX0_init_4 8 rfl rfl)
theorem dX0_init_103 : decode cX0_init 103 = .ok (.return_, 1) := dk_177 (dk_at dksX0_init_4 11 rfl rfl)
abbrev cX0_feed : ByteArray := prog_1_method_3_code
def yX0_feed : MethodName := ⟨RX0, "feed", "(IIIII)I"⟩
def dkwX0_feed_2 : List UInt8 := [172]
abbrev dktX0_feed_2 : List UInt8 := dkwX0_feed_2 ++ []
def dkwX0_feed_1 : List UInt8 := [182, 0, 45, 42, 29, 182, 0, 45, 42, 21, 4, 182, 0, 45, 42, 21, 5, 182, 0, 45, 42, 180, 0, 42]
abbrev dktX0_feed_1 : List UInt8 := dkwX0_feed_1 ++ dktX0_feed_2
def dkwX0_feed_0 : List UInt8 := [42, 180, 0, 42, 16, 20, 96, 17, 1, 144, 164, 0, 5, 2, 172, 42, 27, 182, 0, 45, 42, 28]
abbrev dktX0_feed_0 : List UInt8 := dkwX0_feed_0 ++ dktX0_feed_1
theorem dksX0_feed_0 : cX0_feed.data.toList.drop 0 = dktX0_feed_0 := by decide +kernel
theorem dksX0_feed_1 : cX0_feed.data.toList.drop 22 = dktX0_feed_1 := dk_seg dksX0_feed_0 22 rfl rfl
theorem dksX0_feed_2 : cX0_feed.data.toList.drop 46 = dktX0_feed_2 := dk_seg dksX0_feed_1 24 rfl rfl
theorem dX0_feed_0 : decode cX0_feed 0 = .ok (.aload_n 0, 1) := dk_42 (dk_at dksX0_feed_0 0 rfl rfl)
theorem dX0_feed_1 : decode cX0_feed 1 = .ok (.getfield 42, 3) := dk_180 0 42 (dk_at dksX0_feed_0 1 rfl rfl)
theorem dX0_feed_4 : decode cX0_feed 4 = .ok (.bipush 20, 2) := dk_16 20 (dk_at dksX0_feed_0 4 rfl rfl)
theorem dX0_feed_6 : decode cX0_feed 6 = .ok (.iadd, 1) := dk_96 (dk_at dksX0_feed_0 6 rfl rfl)
theorem dX0_feed_7 : decode cX0_feed 7 = .ok (.sipush 400, 3) := dk_17 1 144 (dk_at dksX0_feed_0 7 rfl rfl)
theorem dX0_feed_10 : decode cX0_feed 10 = .ok (.if_icmp .le 5, 3) := dk_164 0 5 (dk_at dksX0_feed_0 10 rfl rfl)
theorem dX0_feed_13 : decode cX0_feed 13 = .ok (.iconst (-1), 1) := dk_2 (dk_at dksX0_feed_0 13 rfl rfl)
theorem dX0_feed_14 : decode cX0_feed 14 = .ok (.ireturn, 1) := dk_172 (dk_at dksX0_feed_0 14 rfl rfl)
theorem dX0_feed_15 : decode cX0_feed 15 = .ok (.aload_n 0, 1) := dk_42 (dk_at dksX0_feed_0 15 rfl rfl)
theorem dX0_feed_16 : decode cX0_feed 16 = .ok (.iload_n 1, 1) := dk_27 (dk_at dksX0_feed_0 16 rfl rfl)
theorem dX0_feed_17 : decode cX0_feed 17 = .ok (.invokevirtual 45, 3) := dk_182 0 45 (dk_at dksX0_feed_0 17 rfl rfl)
theorem dX0_feed_20 : decode cX0_feed 20 = .ok (.aload_n 0, 1) := dk_42 (dk_at dksX0_feed_0 20 rfl rfl)
theorem dX0_feed_21 : decode cX0_feed 21 = .ok (.iload_n 2, 1) := dk_28 (dk_at dksX0_feed_0 21 rfl rfl)
theorem dX0_feed_22 : decode cX0_feed 22 = .ok (.invokevirtual 45, 3) := dk_182 0 45 (dk_at dksX0_feed_1 0 rfl rfl)
theorem dX0_feed_25 : decode cX0_feed 25 = .ok (.aload_n 0, 1) := dk_42 (dk_at dksX0_feed_1 3 rfl rfl)
theorem dX0_feed_26 : decode cX0_feed 26 = .ok (.iload_n 3, 1) := dk_29 (dk_at dksX0_feed_1 4 rfl rfl)
theorem dX0_feed_27 : decode cX0_feed 27 = .ok (.invokevirtual 45, 3) := dk_182 0 45 (dk_at dksX0_feed_1 5 rfl rfl)
theorem dX0_feed_30 : decode cX0_feed 30 = .ok (.aload_n 0, 1) := dk_42 (dk_at dksX0_feed_1 8 rfl rfl)
theorem dX0_feed_31 : decode cX0_feed 31 = .ok (.iload 4, 2) := dk_21 4 (dk_at dksX0_feed_1 9 rfl rfl)
theorem dX0_feed_33 : decode cX0_feed 33 = .ok (.invokevirtual 45, 3) := dk_182 0 45 (dk_at dksX0_feed_1 11 rfl rfl)
theorem dX0_feed_36 : decode cX0_feed 36 = .ok (.aload_n 0, 1) := dk_42 (dk_at dksX0_feed_1 14 rfl rfl)
theorem dX0_feed_37 : decode cX0_feed 37 = .ok (.iload 5, 2) := dk_21 5 (dk_at dksX0_feed_1 15 rfl rfl)
theorem dX0_feed_39 : decode cX0_feed 39 = .ok (.invokevirtual 45, 3) := dk_182 0 45 (dk_at dksX0_feed_1 17 rfl rfl)
theorem dX0_feed_42 : decode cX0_feed 42 = .ok (.aload_n 0, 1) := dk_42 (dk_at dksX0_feed_1 20 rfl rfl)
theorem dX0_feed_43 : decode cX0_feed 43 = .ok (.getfield 42, 3) := dk_180 0 42 (dk_at dksX0_feed_1 21 rfl rfl)
theorem dX0_feed_46 : decode cX0_feed 46 = .ok (.ireturn, 1) := dk_172 (dk_at dksX0_feed_2 0 rfl rfl)
abbrev cX0_word : ByteArray := prog_1_method_4_code
def yX0_word : MethodName := ⟨RX0, "word", "(I)V"⟩
def dkwX0_word_1 : List UInt8 := [180, 0, 42, 4, 96, 181, 0, 42, 132, 2, 248, 167, 255, 226, 177]
abbrev dktX0_word_1 : List UInt8 := dkwX0_word_1 ++ []
def dkwX0_word_0 : List UInt8 := [16, 24, 61, 28, 155, 0, 32, 42, 180, 0, 9, 42, 180, 0, 42, 27, 28, 122, 145, 84, 42, 89]
abbrev dktX0_word_0 : List UInt8 := dkwX0_word_0 ++ dktX0_word_1
theorem dksX0_word_0 : cX0_word.data.toList.drop 0 = dktX0_word_0 := by decide +kernel
theorem dksX0_word_1 : cX0_word.data.toList.drop 22 = dktX0_word_1 := dk_seg dksX0_word_0 22 rfl rfl
theorem dX0_word_0 : decode cX0_word 0 = .ok (.bipush 24, 2) := dk_16 24 (dk_at dksX0_word_0 0 rfl rfl)
theorem dX0_word_2 : decode cX0_word 2 = .ok (.istore_n 2, 1) := dk_61 (dk_at dksX0_word_0 2 rfl rfl)
theorem dX0_word_3 : decode cX0_word 3 = .ok (.iload_n 2, 1) := dk_28 (dk_at dksX0_word_0 3 rfl rfl)
theorem dX0_word_4 : decode cX0_word 4 = .ok (.ifCond .lt 32, 3) := dk_155 0 32 (dk_at dksX0_word_0 4 rfl rfl)
theorem dX0_word_7 : decode cX0_word 7 = .ok (.aload_n 0, 1) := dk_42 (dk_at dksX0_word_0 7 rfl rfl)
theorem dX0_word_8 : decode cX0_word 8 = .ok (.getfield 9, 3) := dk_180 0 9 (dk_at dksX0_word_0 8 rfl rfl)
theorem dX0_word_11 : decode cX0_word 11 = .ok (.aload_n 0, 1) := dk_42 (dk_at dksX0_word_0 11 rfl rfl)
theorem dX0_word_12 : decode cX0_word 12 = .ok (.getfield 42, 3) := dk_180 0 42 (dk_at dksX0_word_0 12 rfl rfl)
theorem dX0_word_15 : decode cX0_word 15 = .ok (.iload_n 1, 1) := dk_27 (dk_at dksX0_word_0 15 rfl rfl)
theorem dX0_word_16 : decode cX0_word 16 = .ok (.iload_n 2, 1) := dk_28 (dk_at dksX0_word_0 16 rfl rfl)
theorem dX0_word_17 : decode cX0_word 17 = .ok (.ishr, 1) := dk_122 (dk_at dksX0_word_0 17 rfl rfl)
theorem dX0_word_18 : decode cX0_word 18 = .ok (.i2b, 1) := dk_145 (dk_at dksX0_word_0 18 rfl rfl)
theorem dX0_word_19 : decode cX0_word 19 = .ok (.bastore, 1) := dk_84 (dk_at dksX0_word_0 19 rfl rfl)
theorem dX0_word_20 : decode cX0_word 20 = .ok (.aload_n 0, 1) := dk_42 (dk_at dksX0_word_0 20 rfl rfl)
theorem dX0_word_21 : decode cX0_word 21 = .ok (.dup, 1) := dk_89 (dk_at dksX0_word_0 21 rfl rfl)
theorem dX0_word_22 : decode cX0_word 22 = .ok (.getfield 42, 3) := dk_180 0 42 (dk_at dksX0_word_1 0 rfl rfl)
theorem dX0_word_25 : decode cX0_word 25 = .ok (.iconst 1, 1) := dk_4 (dk_at dksX0_word_1 3 rfl rfl)
theorem dX0_word_26 : decode cX0_word 26 = .ok (.iadd, 1) := dk_96 (dk_at dksX0_word_1 4 rfl rfl)
theorem dX0_word_27 : decode cX0_word 27 = .ok (.putfield 42, 3) := dk_181 0 42 (dk_at dksX0_word_1 5 rfl rfl)
theorem dX0_word_30 : decode cX0_word 30 = .ok (.iinc 2 (-8), 3) := dk_132 2 248 (dk_at dksX0_word_1 8 rfl rfl)
theorem dX0_word_33 : decode cX0_word 33 = .ok (.goto (-30), 3) := dk_167 255 226 (dk_at dksX0_word_1 11 rfl rfl)
theorem dX0_word_36 : decode cX0_word 36 = .ok (.return_, 1) := dk_177 (dk_at dksX0_word_1 14 rfl rfl)
abbrev cX0_end : ByteArray := prog_1_method_5_code
def yX0_end : MethodName := ⟨RX0, "end", "(I)Z"⟩
def dkwX0_end_0 : List UInt8 := [27, 3, 42, 180, 0, 42, 184, 0, 49, 154, 0, 5, 3, 172, 42, 27, 181, 0, 42, 4, 172]
abbrev dktX0_end_0 : List UInt8 := dkwX0_end_0 ++ []
theorem dksX0_end_0 : cX0_end.data.toList.drop 0 = dktX0_end_0 := by decide +kernel
theorem dX0_end_0 : decode cX0_end 0 = .ok (.iload_n 1, 1) := dk_27 (dk_at dksX0_end_0 0 rfl rfl)
theorem dX0_end_1 : decode cX0_end 1 = .ok (.iconst 0, 1) := dk_3 (dk_at dksX0_end_0 1 rfl rfl)
theorem dX0_end_2 : decode cX0_end 2 = .ok (.aload_n 0, 1) := dk_42 (dk_at dksX0_end_0 2 rfl rfl)
theorem dX0_end_3 : decode cX0_end 3 = .ok (.getfield 42, 3) := dk_180 0 42 (dk_at dksX0_end_0 3 rfl rfl)
theorem dX0_end_6 : decode cX0_end 6 = .ok (.invokestatic 49, 3) := dk_184 0 49 (dk_at dksX0_end_0 6 rfl rfl)
theorem dX0_end_9 : decode cX0_end 9 = .ok (.ifCond .ne 5, 3) := dk_154 0 5 (dk_at dksX0_end_0 9 rfl rfl)
theorem dX0_end_12 : decode cX0_end 12 = .ok (.iconst 0, 1) := dk_3 (dk_at dksX0_end_0 12 rfl rfl)
theorem dX0_end_13 : decode cX0_end 13 = .ok (.ireturn, 1) := dk_172 (dk_at dksX0_end_0 13 rfl rfl)
theorem dX0_end_14 : decode cX0_end 14 = .ok (.aload_n 0, 1) := dk_42 (dk_at dksX0_end_0 14 rfl rfl)
theorem dX0_end_15 : decode cX0_end 15 = .ok (.iload_n 1, 1) := dk_27 (dk_at dksX0_end_0 15 rfl rfl)
theorem dX0_end_16 : decode cX0_end 16 = .ok (.putfield 42, 3) := dk_181 0 42 (dk_at dksX0_end_0 16 rfl rfl)
theorem dX0_end_19 : decode cX0_end 19 = .ok (.iconst 1, 1) := dk_4 (dk_at dksX0_end_0 19 rfl rfl)
theorem dX0_end_20 : decode cX0_end 20 = .ok (.ireturn, 1) := dk_172 (dk_at dksX0_end_0 20 rfl rfl)
abbrev cX0_isIn : ByteArray := prog_1_method_2_code
def yX0_isIn : MethodName := ⟨RX0, "isIn", "(III)Z"⟩
def dkwX0_isIn_0 : List UInt8 := [26, 27, 161, 0, 12, 26, 28, 163, 0, 7, 4, 167, 0, 4, 3, 172]
abbrev dktX0_isIn_0 : List UInt8 := dkwX0_isIn_0 ++ []
theorem dksX0_isIn_0 : cX0_isIn.data.toList.drop 0 = dktX0_isIn_0 := by decide +kernel
theorem dX0_isIn_0 : decode cX0_isIn 0 = .ok (.iload_n 0, 1) := dk_26 (dk_at dksX0_isIn_0 0 rfl rfl)
theorem dX0_isIn_1 : decode cX0_isIn 1 = .ok (.iload_n 1, 1) := dk_27 (dk_at dksX0_isIn_0 1 rfl rfl)
theorem dX0_isIn_2 : decode cX0_isIn 2 = .ok (.if_icmp .lt 12, 3) := dk_161 0 12 (dk_at dksX0_isIn_0 2 rfl rfl)
theorem dX0_isIn_5 : decode cX0_isIn 5 = .ok (.iload_n 0, 1) := dk_26 (dk_at dksX0_isIn_0 5 rfl rfl)
theorem dX0_isIn_6 : decode cX0_isIn 6 = .ok (.iload_n 2, 1) := dk_28 (dk_at dksX0_isIn_0 6 rfl rfl)
theorem dX0_isIn_7 : decode cX0_isIn 7 = .ok (.if_icmp .gt 7, 3) := dk_163 0 7 (dk_at dksX0_isIn_0 7 rfl rfl)
theorem dX0_isIn_10 : decode cX0_isIn 10 = .ok (.iconst 1, 1) := dk_4 (dk_at dksX0_isIn_0 10 rfl rfl)
theorem dX0_isIn_11 : decode cX0_isIn 11 = .ok (.goto 4, 3) := dk_167 0 4 (dk_at dksX0_isIn_0 11 rfl rfl)
theorem dX0_isIn_14 : decode cX0_isIn 14 = .ok (.iconst 0, 1) := dk_3 (dk_at dksX0_isIn_0 14 rfl rfl)
theorem dX0_isIn_15 : decode cX0_isIn 15 = .ok (.ireturn, 1) := dk_172 (dk_at dksX0_isIn_0 15 rfl rfl)
abbrev cX0_text : ByteArray := prog_1_method_7_code
def yX0_text : MethodName := ⟨RX0, "text", "(I)I"⟩
def dkwX0_text_3 : List UInt8 := [191]
abbrev dktX0_text_3 : List UInt8 := dkwX0_text_3 ++ []
def dkwX0_text_2 : List UInt8 := [180, 0, 103, 181, 0, 13, 2, 62, 42, 3, 181, 0, 42, 29, 172, 58, 4, 42, 3, 181, 0, 42, 25, 4]
abbrev dktX0_text_2 : List UInt8 := dkwX0_text_2 ++ dktX0_text_3
def dkwX0_text_1 : List UInt8 := [167, 0, 4, 2, 61, 42, 3, 181, 0, 42, 28, 172, 77, 42, 44, 180, 0, 100, 181, 0, 91, 42, 44]
abbrev dktX0_text_1 : List UInt8 := dkwX0_text_1 ++ dktX0_text_2
def dkwX0_text_0 : List UInt8 := [42, 3, 181, 0, 91, 42, 2, 181, 0, 13, 27, 3, 5, 184, 0, 49, 153, 0, 11, 42, 27, 182, 0, 94]
abbrev dktX0_text_0 : List UInt8 := dkwX0_text_0 ++ dktX0_text_1
theorem dksX0_text_0 : cX0_text.data.toList.drop 0 = dktX0_text_0 := by decide +kernel
theorem dksX0_text_1 : cX0_text.data.toList.drop 24 = dktX0_text_1 := dk_seg dksX0_text_0 24 rfl rfl
theorem dksX0_text_2 : cX0_text.data.toList.drop 47 = dktX0_text_2 := dk_seg dksX0_text_1 23 rfl rfl
theorem dksX0_text_3 : cX0_text.data.toList.drop 71 = dktX0_text_3 := dk_seg dksX0_text_2 24 rfl rfl
theorem dX0_text_0 : decode cX0_text 0 = .ok (.aload_n 0, 1) := dk_42 (dk_at dksX0_text_0 0 rfl rfl)
theorem dX0_text_1 : decode cX0_text 1 = .ok (.iconst 0, 1) := dk_3 (dk_at dksX0_text_0 1 rfl rfl)
theorem dX0_text_2 : decode cX0_text 2 = .ok (.putfield 91, 3) := dk_181 0 91 (dk_at dksX0_text_0 2 rfl rfl)
theorem dX0_text_5 : decode cX0_text 5 = .ok (.aload_n 0, 1) := dk_42 (dk_at dksX0_text_0 5 rfl rfl)
theorem dX0_text_6 : decode cX0_text 6 = .ok (.iconst (-1), 1) := dk_2 (dk_at dksX0_text_0 6 rfl rfl)
theorem dX0_text_7 : decode cX0_text 7 = .ok (.putfield 13, 3) := dk_181 0 13 (dk_at dksX0_text_0 7 rfl rfl)
theorem dX0_text_10 : decode cX0_text 10 = .ok (.iload_n 1, 1) := dk_27 (dk_at dksX0_text_0 10 rfl rfl)
theorem dX0_text_11 : decode cX0_text 11 = .ok (.iconst 0, 1) := dk_3 (dk_at dksX0_text_0 11 rfl rfl)
theorem dX0_text_12 : decode cX0_text 12 = .ok (.iconst 2, 1) := dk_5 (dk_at dksX0_text_0 12 rfl rfl)
theorem dX0_text_13 : decode cX0_text 13 = .ok (.invokestatic 49, 3) := dk_184 0 49 (dk_at dksX0_text_0 13 rfl rfl)
theorem dX0_text_16 : decode cX0_text 16 = .ok (.ifCond .eq 11, 3) := dk_153 0 11 (dk_at dksX0_text_0 16 rfl rfl)
theorem dX0_text_19 : decode cX0_text 19 = .ok (.aload_n 0, 1) := dk_42 (dk_at dksX0_text_0 19 rfl rfl)
theorem dX0_text_20 : decode cX0_text 20 = .ok (.iload_n 1, 1) := dk_27 (dk_at dksX0_text_0 20 rfl rfl)
theorem dX0_text_21 : decode cX0_text 21 = .ok (.invokevirtual 94, 3) := dk_182 0 94 (dk_at dksX0_text_0 21 rfl rfl)
theorem dX0_text_24 : decode cX0_text 24 = .ok (.goto 4, 3) := dk_167 0 4 (dk_at dksX0_text_1 0 rfl rfl)
theorem dX0_text_27 : decode cX0_text 27 = .ok (.iconst (-1), 1) := dk_2 (dk_at dksX0_text_1 3 rfl rfl)
theorem dX0_text_28 : decode cX0_text 28 = .ok (.istore_n 2, 1) := dk_61 (dk_at dksX0_text_1 4 rfl rfl)
theorem dX0_text_29 : decode cX0_text 29 = .ok (.aload_n 0, 1) := dk_42 (dk_at dksX0_text_1 5 rfl rfl)
theorem dX0_text_30 : decode cX0_text 30 = .ok (.iconst 0, 1) := dk_3 (dk_at dksX0_text_1 6 rfl rfl)
theorem dX0_text_31 : decode cX0_text 31 = .ok (.putfield 42, 3) := dk_181 0 42 (dk_at dksX0_text_1 7 rfl rfl)
theorem dX0_text_34 : decode cX0_text 34 = .ok (.iload_n 2, 1) := dk_28 (dk_at dksX0_text_1 10 rfl rfl)
theorem dX0_text_35 : decode cX0_text 35 = .ok (.ireturn, 1) := dk_172 (dk_at dksX0_text_1 11 rfl rfl)
theorem dX0_text_36 : decode cX0_text 36 = .ok (.astore_n 2, 1) := dk_77 (dk_at dksX0_text_1 12 rfl rfl)
theorem dX0_text_37 : decode cX0_text 37 = .ok (.aload_n 0, 1) := dk_42 (dk_at dksX0_text_1 13 rfl rfl)
theorem dX0_text_38 : decode cX0_text 38 = .ok (.aload_n 2, 1) := dk_44 (dk_at dksX0_text_1 14 rfl rfl)
theorem dX0_text_39 : decode cX0_text 39 = .ok (.getfield 100, 3) := dk_180 0 100 (dk_at dksX0_text_1 15 rfl rfl)
theorem dX0_text_42 : decode cX0_text 42 = .ok (.putfield 91, 3) := dk_181 0 91 (dk_at dksX0_text_1 18 rfl rfl)
theorem dX0_text_45 : decode cX0_text 45 = .ok (.aload_n 0, 1) := dk_42 (dk_at dksX0_text_1 21 rfl rfl)
theorem dX0_text_46 : decode cX0_text 46 = .ok (.aload_n 2, 1) := dk_44 (dk_at dksX0_text_1 22 rfl rfl)
theorem dX0_text_47 : decode cX0_text 47 = .ok (.getfield 103, 3) := dk_180 0 103 (dk_at dksX0_text_2 0 rfl rfl)
theorem dX0_text_50 : decode cX0_text 50 = .ok (.putfield 13, 3) := dk_181 0 13 (dk_at dksX0_text_2 3 rfl rfl)
theorem dX0_text_53 : decode cX0_text 53 = .ok (.iconst (-1), 1) := dk_2 (dk_at dksX0_text_2 6 rfl rfl)
theorem dX0_text_54 : decode cX0_text 54 = .ok (.istore_n 3, 1) := dk_62 (dk_at dksX0_text_2 7 rfl rfl)
theorem dX0_text_55 : decode cX0_text 55 = .ok (.aload_n 0, 1) := dk_42 (dk_at dksX0_text_2 8 rfl rfl)
theorem dX0_text_56 : decode cX0_text 56 = .ok (.iconst 0, 1) := dk_3 (dk_at dksX0_text_2 9 rfl rfl)
theorem dX0_text_57 : decode cX0_text 57 = .ok (.putfield 42, 3) := dk_181 0 42 (dk_at dksX0_text_2 10 rfl rfl)
theorem dX0_text_60 : decode cX0_text 60 = .ok (.iload_n 3, 1) := dk_29 (dk_at dksX0_text_2 13 rfl rfl)
theorem dX0_text_61 : decode cX0_text 61 = .ok (.ireturn, 1) := dk_172 (dk_at dksX0_text_2 14 rfl rfl)
theorem dX0_text_62 : decode cX0_text 62 = .ok (.astore 4, 2) := dk_58 4 (dk_at dksX0_text_2 15 rfl rfl)
theorem dX0_text_64 : decode cX0_text 64 = .ok (.aload_n 0, 1) := dk_42 (dk_at dksX0_text_2 17 rfl rfl)
theorem dX0_text_65 : decode cX0_text 65 = .ok (.iconst 0, 1) := dk_3 (dk_at dksX0_text_2 18 rfl rfl)
theorem dX0_text_66 : decode cX0_text 66 = .ok (.putfield 42, 3) := dk_181 0 42 (dk_at dksX0_text_2 19 rfl rfl)
theorem dX0_text_69 : decode cX0_text 69 = .ok (.aload 4, 2) := dk_25 4 (dk_at dksX0_text_2 22 rfl rfl)
theorem dX0_text_71 : decode cX0_text 71 = .ok (.athrow, 1) := dk_191 (dk_at dksX0_text_3 0 rfl rfl)
abbrev cX0_reads : ByteArray := prog_1_method_6_code
def yX0_reads : MethodName := ⟨RX0, "reads", "(I)I"⟩
def dkwX0_reads_5 : List UInt8 := [182, 0, 82, 87, 42, 180, 0, 20, 180, 0, 89, 182, 0, 65, 172]
abbrev dktX0_reads_5 : List UInt8 := dkwX0_reads_5 ++ []
def dkwX0_reads_4 : List UInt8 := [182, 0, 82, 87, 42, 180, 0, 20, 180, 0, 81, 172, 42, 180, 0, 20, 44, 182, 0, 86, 181, 0, 89, 42]
abbrev dktX0_reads_4 : List UInt8 := dkwX0_reads_4 ++ dktX0_reads_5
def dkwX0_reads_3 : List UInt8 := [180, 0, 20, 44, 182, 0, 71, 181, 0, 75, 42, 180, 0, 20, 44, 180, 0, 78, 181, 0, 81, 42]
abbrev dktX0_reads_3 : List UInt8 := dkwX0_reads_3 ++ dktX0_reads_4
def dkwX0_reads_2 : List UInt8 := [42, 180, 0, 20, 44, 182, 0, 58, 181, 0, 62, 42, 180, 0, 20, 180, 0, 62, 182, 0, 65, 172, 42]
abbrev dktX0_reads_2 : List UInt8 := dkwX0_reads_2 ++ dktX0_reads_3
def dkwX0_reads_1 : List UInt8 := [171, 0, 0, 0, 82, 0, 0, 0, 2, 0, 0, 0, 0, 0, 0, 0, 25, 0, 0, 0, 1, 0, 0, 0, 47]
abbrev dktX0_reads_1 : List UInt8 := dkwX0_reads_1 ++ dktX0_reads_2
def dkwX0_reads_0 : List UInt8 := [187, 0, 53, 89, 42, 27, 183, 0, 55, 77, 27]
abbrev dktX0_reads_0 : List UInt8 := dkwX0_reads_0 ++ dktX0_reads_1
theorem dksX0_reads_0 : cX0_reads.data.toList.drop 0 = dktX0_reads_0 := by decide +kernel
theorem dksX0_reads_1 : cX0_reads.data.toList.drop 11 = dktX0_reads_1 := dk_seg dksX0_reads_0 11 rfl rfl
theorem dksX0_reads_2 : cX0_reads.data.toList.drop 36 = dktX0_reads_2 := dk_seg dksX0_reads_1 25 rfl rfl
theorem dksX0_reads_3 : cX0_reads.data.toList.drop 59 = dktX0_reads_3 := dk_seg dksX0_reads_2 23 rfl rfl
theorem dksX0_reads_4 : cX0_reads.data.toList.drop 81 = dktX0_reads_4 := dk_seg dksX0_reads_3 22 rfl rfl
theorem dksX0_reads_5 : cX0_reads.data.toList.drop 105 = dktX0_reads_5 := dk_seg dksX0_reads_4 24 rfl rfl
theorem dX0_reads_0 : decode cX0_reads 0 = .ok (.new 53, 3) := dk_187 0 53 (dk_at dksX0_reads_0 0 rfl rfl)
theorem dX0_reads_3 : decode cX0_reads 3 = .ok (.dup, 1) := dk_89 (dk_at dksX0_reads_0 3 rfl rfl)
theorem dX0_reads_4 : decode cX0_reads 4 = .ok (.aload_n 0, 1) := dk_42 (dk_at dksX0_reads_0 4 rfl rfl)
theorem dX0_reads_5 : decode cX0_reads 5 = .ok (.iload_n 1, 1) := dk_27 (dk_at dksX0_reads_0 5 rfl rfl)
theorem dX0_reads_6 : decode cX0_reads 6 = .ok (.invokespecial 55, 3) := dk_183 0 55 (dk_at dksX0_reads_0 6 rfl rfl)
theorem dX0_reads_9 : decode cX0_reads 9 = .ok (.astore_n 2, 1) := dk_77 (dk_at dksX0_reads_0 9 rfl rfl)
theorem dX0_reads_10 : decode cX0_reads 10 = .ok (.iload_n 1, 1) := dk_27 (dk_at dksX0_reads_0 10 rfl rfl)
theorem dX0_reads_11 : decode cX0_reads 11 = .ok (.lookupswitch 82 #[(0, 25), (1, 47)], 25) := by decide +kernel
theorem dX0_reads_36 : decode cX0_reads 36 = .ok (.aload_n 0, 1) := dk_42 (dk_at dksX0_reads_2 0 rfl rfl)
theorem dX0_reads_37 : decode cX0_reads 37 = .ok (.getfield 20, 3) := dk_180 0 20 (dk_at dksX0_reads_2 1 rfl rfl)
theorem dX0_reads_40 : decode cX0_reads 40 = .ok (.aload_n 2, 1) := dk_44 (dk_at dksX0_reads_2 4 rfl rfl)
theorem dX0_reads_41 : decode cX0_reads 41 = .ok (.invokevirtual 58, 3) := dk_182 0 58 (dk_at dksX0_reads_2 5 rfl rfl)
theorem dX0_reads_44 : decode cX0_reads 44 = .ok (.putfield 62, 3) := dk_181 0 62 (dk_at dksX0_reads_2 8 rfl rfl)
theorem dX0_reads_47 : decode cX0_reads 47 = .ok (.aload_n 0, 1) := dk_42 (dk_at dksX0_reads_2 11 rfl rfl)
theorem dX0_reads_48 : decode cX0_reads 48 = .ok (.getfield 20, 3) := dk_180 0 20 (dk_at dksX0_reads_2 12 rfl rfl)
theorem dX0_reads_51 : decode cX0_reads 51 = .ok (.getfield 62, 3) := dk_180 0 62 (dk_at dksX0_reads_2 15 rfl rfl)
theorem dX0_reads_54 : decode cX0_reads 54 = .ok (.invokevirtual 65, 3) := dk_182 0 65 (dk_at dksX0_reads_2 18 rfl rfl)
theorem dX0_reads_57 : decode cX0_reads 57 = .ok (.ireturn, 1) := dk_172 (dk_at dksX0_reads_2 21 rfl rfl)
theorem dX0_reads_58 : decode cX0_reads 58 = .ok (.aload_n 0, 1) := dk_42 (dk_at dksX0_reads_2 22 rfl rfl)
theorem dX0_reads_59 : decode cX0_reads 59 = .ok (.getfield 20, 3) := dk_180 0 20 (dk_at dksX0_reads_3 0 rfl rfl)
theorem dX0_reads_62 : decode cX0_reads 62 = .ok (.aload_n 2, 1) := dk_44 (dk_at dksX0_reads_3 3 rfl rfl)
theorem dX0_reads_63 : decode cX0_reads 63 = .ok (.invokevirtual 71, 3) := dk_182 0 71 (dk_at dksX0_reads_3 4 rfl rfl)
theorem dX0_reads_66 : decode cX0_reads 66 = .ok (.putfield 75, 3) := dk_181 0 75 (dk_at dksX0_reads_3 7 rfl rfl)
theorem dX0_reads_69 : decode cX0_reads 69 = .ok (.aload_n 0, 1) := dk_42 (dk_at dksX0_reads_3 10 rfl rfl)
theorem dX0_reads_70 : decode cX0_reads 70 = .ok (.getfield 20, 3) := dk_180 0 20 (dk_at dksX0_reads_3 11 rfl rfl)
theorem dX0_reads_73 : decode cX0_reads 73 = .ok (.aload_n 2, 1) := dk_44 (dk_at dksX0_reads_3 14 rfl rfl)
theorem dX0_reads_74 : decode cX0_reads 74 = .ok (.getfield 78, 3) := dk_180 0 78 (dk_at dksX0_reads_3 15 rfl rfl)
theorem dX0_reads_77 : decode cX0_reads 77 = .ok (.putfield 81, 3) := dk_181 0 81 (dk_at dksX0_reads_3 18 rfl rfl)
theorem dX0_reads_80 : decode cX0_reads 80 = .ok (.aload_n 0, 1) := dk_42 (dk_at dksX0_reads_3 21 rfl rfl)
theorem dX0_reads_81 : decode cX0_reads 81 = .ok (.invokevirtual 82, 3) := dk_182 0 82 (dk_at dksX0_reads_4 0 rfl rfl)
theorem dX0_reads_84 : decode cX0_reads 84 = .ok (.pop, 1) := dk_87 (dk_at dksX0_reads_4 3 rfl rfl)
theorem dX0_reads_85 : decode cX0_reads 85 = .ok (.aload_n 0, 1) := dk_42 (dk_at dksX0_reads_4 4 rfl rfl)
theorem dX0_reads_86 : decode cX0_reads 86 = .ok (.getfield 20, 3) := dk_180 0 20 (dk_at dksX0_reads_4 5 rfl rfl)
theorem dX0_reads_89 : decode cX0_reads 89 = .ok (.getfield 81, 3) := dk_180 0 81 (dk_at dksX0_reads_4 8 rfl rfl)
theorem dX0_reads_92 : decode cX0_reads 92 = .ok (.ireturn, 1) := dk_172 (dk_at dksX0_reads_4 11 rfl rfl)
theorem dX0_reads_93 : decode cX0_reads 93 = .ok (.aload_n 0, 1) := dk_42 (dk_at dksX0_reads_4 12 rfl rfl)
theorem dX0_reads_94 : decode cX0_reads 94 = .ok (.getfield 20, 3) := dk_180 0 20 (dk_at dksX0_reads_4 13 rfl rfl)
theorem dX0_reads_97 : decode cX0_reads 97 = .ok (.aload_n 2, 1) := dk_44 (dk_at dksX0_reads_4 16 rfl rfl)
theorem dX0_reads_98 : decode cX0_reads 98 = .ok (.invokevirtual 86, 3) := dk_182 0 86 (dk_at dksX0_reads_4 17 rfl rfl)
theorem dX0_reads_101 : decode cX0_reads 101 = .ok (.putfield 89, 3) := dk_181 0 89 (dk_at dksX0_reads_4 20 rfl rfl)
theorem dX0_reads_104 : decode cX0_reads 104 = .ok (.aload_n 0, 1) := dk_42 (dk_at dksX0_reads_4 23 rfl rfl)
theorem dX0_reads_105 : decode cX0_reads 105 = .ok (.invokevirtual 82, 3) := dk_182 0 82 (dk_at dksX0_reads_5 0 rfl rfl)
theorem dX0_reads_108 : decode cX0_reads 108 = .ok (.pop, 1) := dk_87 (dk_at dksX0_reads_5 3 rfl rfl)
theorem dX0_reads_109 : decode cX0_reads 109 = .ok (.aload_n 0, 1) := dk_42 (dk_at dksX0_reads_5 4 rfl rfl)
theorem dX0_reads_110 : decode cX0_reads 110 = .ok (.getfield 20, 3) := dk_180 0 20 (dk_at dksX0_reads_5 5 rfl rfl)
theorem dX0_reads_113 : decode cX0_reads 113 = .ok (.getfield 89, 3) := dk_180 0 89 (dk_at dksX0_reads_5 8 rfl rfl)
theorem dX0_reads_116 : decode cX0_reads 116 = .ok (.invokevirtual 65, 3) := dk_182 0 65 (dk_at dksX0_reads_5 11 rfl rfl)
theorem dX0_reads_119 : decode cX0_reads 119 = .ok (.ireturn, 1) := dk_172 (dk_at dksX0_reads_5 14 rfl rfl)
abbrev cX0_forgets : ByteArray := prog_1_method_9_code
def yX0_forgets : MethodName := ⟨RX0, "forgets", "()Z"⟩
def dkwX0_forgets_0 : List UInt8 := [42, 3, 181, 0, 106, 4, 172]
abbrev dktX0_forgets_0 : List UInt8 := dkwX0_forgets_0 ++ []
theorem dksX0_forgets_0 : cX0_forgets.data.toList.drop 0 = dktX0_forgets_0 := by decide +kernel
theorem dX0_forgets_0 : decode cX0_forgets 0 = .ok (.aload_n 0, 1) := dk_42 (dk_at dksX0_forgets_0 0 rfl rfl)
theorem dX0_forgets_1 : decode cX0_forgets 1 = .ok (.iconst 0, 1) := dk_3 (dk_at dksX0_forgets_0 1 rfl rfl)
theorem dX0_forgets_2 : decode cX0_forgets 2 = .ok (.putfield 106, 3) := dk_181 0 106 (dk_at dksX0_forgets_0 2 rfl rfl)
theorem dX0_forgets_5 : decode cX0_forgets 5 = .ok (.iconst 1, 1) := dk_4 (dk_at dksX0_forgets_0 5 rfl rfl)
theorem dX0_forgets_6 : decode cX0_forgets 6 = .ok (.ireturn, 1) := dk_172 (dk_at dksX0_forgets_0 6 rfl rfl)
abbrev cX0_fault : ByteArray := prog_1_method_8_code
def yX0_fault : MethodName := ⟨RX0, "fault", "(I)I"⟩
def dkwX0_fault_1 : List UInt8 := [172]
abbrev dktX0_fault_1 : List UInt8 := dkwX0_fault_1 ++ []
def dkwX0_fault_0 : List UInt8 := [27, 154, 0, 10, 42, 180, 0, 91, 167, 0, 16, 27, 4, 160, 0, 10, 42, 180, 0, 13, 167, 0, 4, 2]
abbrev dktX0_fault_0 : List UInt8 := dkwX0_fault_0 ++ dktX0_fault_1
theorem dksX0_fault_0 : cX0_fault.data.toList.drop 0 = dktX0_fault_0 := by decide +kernel
theorem dksX0_fault_1 : cX0_fault.data.toList.drop 24 = dktX0_fault_1 := dk_seg dksX0_fault_0 24 rfl rfl
theorem dX0_fault_0 : decode cX0_fault 0 = .ok (.iload_n 1, 1) := dk_27 (dk_at dksX0_fault_0 0 rfl rfl)
theorem dX0_fault_1 : decode cX0_fault 1 = .ok (.ifCond .ne 10, 3) := dk_154 0 10 (dk_at dksX0_fault_0 1 rfl rfl)
theorem dX0_fault_4 : decode cX0_fault 4 = .ok (.aload_n 0, 1) := dk_42 (dk_at dksX0_fault_0 4 rfl rfl)
theorem dX0_fault_5 : decode cX0_fault 5 = .ok (.getfield 91, 3) := dk_180 0 91 (dk_at dksX0_fault_0 5 rfl rfl)
theorem dX0_fault_8 : decode cX0_fault 8 = .ok (.goto 16, 3) := dk_167 0 16 (dk_at dksX0_fault_0 8 rfl rfl)
theorem dX0_fault_11 : decode cX0_fault 11 = .ok (.iload_n 1, 1) := dk_27 (dk_at dksX0_fault_0 11 rfl rfl)
theorem dX0_fault_12 : decode cX0_fault 12 = .ok (.iconst 1, 1) := dk_4 (dk_at dksX0_fault_0 12 rfl rfl)
theorem dX0_fault_13 : decode cX0_fault 13 = .ok (.if_icmp .ne 10, 3) := dk_160 0 10 (dk_at dksX0_fault_0 13 rfl rfl)
theorem dX0_fault_16 : decode cX0_fault 16 = .ok (.aload_n 0, 1) := dk_42 (dk_at dksX0_fault_0 16 rfl rfl)
theorem dX0_fault_17 : decode cX0_fault 17 = .ok (.getfield 13, 3) := dk_180 0 13 (dk_at dksX0_fault_0 17 rfl rfl)
theorem dX0_fault_20 : decode cX0_fault 20 = .ok (.goto 4, 3) := dk_167 0 4 (dk_at dksX0_fault_0 20 rfl rfl)
theorem dX0_fault_23 : decode cX0_fault 23 = .ok (.iconst (-1), 1) := dk_2 (dk_at dksX0_fault_0 23 rfl rfl)
theorem dX0_fault_24 : decode cX0_fault 24 = .ok (.ireturn, 1) := dk_172 (dk_at dksX0_fault_1 0 rfl rfl)
abbrev cX0_undo : ByteArray := prog_1_method_11_code
def yX0_undo : MethodName := ⟨RX0, "undo", "()Z"⟩
def dkwX0_undo_1 : List UInt8 := [180, 0, 30, 42, 180, 0, 106, 50, 182, 0, 109, 4, 172]
abbrev dktX0_undo_1 : List UInt8 := dkwX0_undo_1 ++ []
def dkwX0_undo_0 : List UInt8 := [42, 180, 0, 106, 154, 0, 5, 3, 172, 42, 89, 180, 0, 106, 4, 100, 181, 0, 106, 42, 180, 0, 20, 42]
abbrev dktX0_undo_0 : List UInt8 := dkwX0_undo_0 ++ dktX0_undo_1
theorem dksX0_undo_0 : cX0_undo.data.toList.drop 0 = dktX0_undo_0 := by decide +kernel
theorem dksX0_undo_1 : cX0_undo.data.toList.drop 24 = dktX0_undo_1 := dk_seg dksX0_undo_0 24 rfl rfl
theorem dX0_undo_0 : decode cX0_undo 0 = .ok (.aload_n 0, 1) := dk_42 (dk_at dksX0_undo_0 0 rfl rfl)
theorem dX0_undo_1 : decode cX0_undo 1 = .ok (.getfield 106, 3) := dk_180 0 106 (dk_at dksX0_undo_0 1 rfl rfl)
theorem dX0_undo_4 : decode cX0_undo 4 = .ok (.ifCond .ne 5, 3) := dk_154 0 5 (dk_at dksX0_undo_0 4 rfl rfl)
theorem dX0_undo_7 : decode cX0_undo 7 = .ok (.iconst 0, 1) := dk_3 (dk_at dksX0_undo_0 7 rfl rfl)
theorem dX0_undo_8 : decode cX0_undo 8 = .ok (.ireturn, 1) := dk_172 (dk_at dksX0_undo_0 8 rfl rfl)
theorem dX0_undo_9 : decode cX0_undo 9 = .ok (.aload_n 0, 1) := dk_42 (dk_at dksX0_undo_0 9 rfl rfl)
theorem dX0_undo_10 : decode cX0_undo 10 = .ok (.dup, 1) := dk_89 (dk_at dksX0_undo_0 10 rfl rfl)
theorem dX0_undo_11 : decode cX0_undo 11 = .ok (.getfield 106, 3) := dk_180 0 106 (dk_at dksX0_undo_0 11 rfl rfl)
theorem dX0_undo_14 : decode cX0_undo 14 = .ok (.iconst 1, 1) := dk_4 (dk_at dksX0_undo_0 14 rfl rfl)
theorem dX0_undo_15 : decode cX0_undo 15 = .ok (.isub, 1) := dk_100 (dk_at dksX0_undo_0 15 rfl rfl)
theorem dX0_undo_16 : decode cX0_undo 16 = .ok (.putfield 106, 3) := dk_181 0 106 (dk_at dksX0_undo_0 16 rfl rfl)
theorem dX0_undo_19 : decode cX0_undo 19 = .ok (.aload_n 0, 1) := dk_42 (dk_at dksX0_undo_0 19 rfl rfl)
theorem dX0_undo_20 : decode cX0_undo 20 = .ok (.getfield 20, 3) := dk_180 0 20 (dk_at dksX0_undo_0 20 rfl rfl)
theorem dX0_undo_23 : decode cX0_undo 23 = .ok (.aload_n 0, 1) := dk_42 (dk_at dksX0_undo_0 23 rfl rfl)
theorem dX0_undo_24 : decode cX0_undo 24 = .ok (.getfield 30, 3) := dk_180 0 30 (dk_at dksX0_undo_1 0 rfl rfl)
theorem dX0_undo_27 : decode cX0_undo 27 = .ok (.aload_n 0, 1) := dk_42 (dk_at dksX0_undo_1 3 rfl rfl)
theorem dX0_undo_28 : decode cX0_undo 28 = .ok (.getfield 106, 3) := dk_180 0 106 (dk_at dksX0_undo_1 4 rfl rfl)
theorem dX0_undo_31 : decode cX0_undo 31 = .ok (.aaload, 1) := dk_50 (dk_at dksX0_undo_1 7 rfl rfl)
theorem dX0_undo_32 : decode cX0_undo 32 = .ok (.invokevirtual 109, 3) := dk_182 0 109 (dk_at dksX0_undo_1 8 rfl rfl)
theorem dX0_undo_35 : decode cX0_undo 35 = .ok (.iconst 1, 1) := dk_4 (dk_at dksX0_undo_1 11 rfl rfl)
theorem dX0_undo_36 : decode cX0_undo 36 = .ok (.ireturn, 1) := dk_172 (dk_at dksX0_undo_1 12 rfl rfl)
abbrev cX0_state : ByteArray := prog_1_method_15_code
def yX0_state : MethodName := ⟨RX0, "state", "(I)I"⟩
def dkwX0_state_0 : List UInt8 := [42, 180, 0, 20, 180, 0, 119, 61, 42, 180, 0, 20, 27, 181, 0, 119, 42, 182, 0, 82, 87, 28, 172]
abbrev dktX0_state_0 : List UInt8 := dkwX0_state_0 ++ []
theorem dksX0_state_0 : cX0_state.data.toList.drop 0 = dktX0_state_0 := by decide +kernel
theorem dX0_state_0 : decode cX0_state 0 = .ok (.aload_n 0, 1) := dk_42 (dk_at dksX0_state_0 0 rfl rfl)
theorem dX0_state_1 : decode cX0_state 1 = .ok (.getfield 20, 3) := dk_180 0 20 (dk_at dksX0_state_0 1 rfl rfl)
theorem dX0_state_4 : decode cX0_state 4 = .ok (.getfield 119, 3) := dk_180 0 119 (dk_at dksX0_state_0 4 rfl rfl)
theorem dX0_state_7 : decode cX0_state 7 = .ok (.istore_n 2, 1) := dk_61 (dk_at dksX0_state_0 7 rfl rfl)
theorem dX0_state_8 : decode cX0_state 8 = .ok (.aload_n 0, 1) := dk_42 (dk_at dksX0_state_0 8 rfl rfl)
theorem dX0_state_9 : decode cX0_state 9 = .ok (.getfield 20, 3) := dk_180 0 20 (dk_at dksX0_state_0 9 rfl rfl)
theorem dX0_state_12 : decode cX0_state 12 = .ok (.iload_n 1, 1) := dk_27 (dk_at dksX0_state_0 12 rfl rfl)
theorem dX0_state_13 : decode cX0_state 13 = .ok (.putfield 119, 3) := dk_181 0 119 (dk_at dksX0_state_0 13 rfl rfl)
theorem dX0_state_16 : decode cX0_state 16 = .ok (.aload_n 0, 1) := dk_42 (dk_at dksX0_state_0 16 rfl rfl)
theorem dX0_state_17 : decode cX0_state 17 = .ok (.invokevirtual 82, 3) := dk_182 0 82 (dk_at dksX0_state_0 17 rfl rfl)
theorem dX0_state_20 : decode cX0_state 20 = .ok (.pop, 1) := dk_87 (dk_at dksX0_state_0 20 rfl rfl)
theorem dX0_state_21 : decode cX0_state 21 = .ok (.iload_n 2, 1) := dk_28 (dk_at dksX0_state_0 21 rfl rfl)
theorem dX0_state_22 : decode cX0_state 22 = .ok (.ireturn, 1) := dk_172 (dk_at dksX0_state_0 22 rfl rfl)
abbrev cX0_party : ByteArray := prog_1_method_16_code
def yX0_party : MethodName := ⟨RX0, "party", "(I)I"⟩
def dkwX0_party_4 : List UInt8 := [180, 0, 113, 4, 96, 181, 0, 113, 42, 182, 0, 82, 87, 42, 180, 0, 20, 180, 0, 113, 4, 100, 172]
abbrev dktX0_party_4 : List UInt8 := dkwX0_party_4 ++ []
def dkwX0_party_3 : List UInt8 := [50, 180, 0, 141, 42, 180, 0, 20, 180, 0, 113, 8, 79, 132, 3, 1, 167, 255, 226, 42, 180, 0, 20, 89]
abbrev dktX0_party_3 : List UInt8 := dkwX0_party_3 ++ dktX0_party_4
def dkwX0_party_2 : List UInt8 := [181, 0, 131, 44, 3, 181, 0, 134, 3, 62, 29, 16, 10, 162, 0, 30, 42, 180, 0, 20, 180, 0, 137, 29]
abbrev dktX0_party_2 : List UInt8 := dkwX0_party_2 ++ dktX0_party_3
def dkwX0_party_1 : List UInt8 := [42, 180, 0, 20, 180, 0, 122, 42, 180, 0, 20, 180, 0, 113, 50, 77, 44, 27, 181, 0, 126, 44, 3]
abbrev dktX0_party_1 : List UInt8 := dkwX0_party_1 ++ dktX0_party_2
def dkwX0_party_0 : List UInt8 := [27, 3, 17, 3, 231, 184, 0, 49, 153, 0, 14, 42, 180, 0, 20, 180, 0, 113, 8, 160, 0, 5, 2, 172]
abbrev dktX0_party_0 : List UInt8 := dkwX0_party_0 ++ dktX0_party_1
theorem dksX0_party_0 : cX0_party.data.toList.drop 0 = dktX0_party_0 := by decide +kernel
theorem dksX0_party_1 : cX0_party.data.toList.drop 24 = dktX0_party_1 := dk_seg dksX0_party_0 24 rfl rfl
theorem dksX0_party_2 : cX0_party.data.toList.drop 47 = dktX0_party_2 := dk_seg dksX0_party_1 23 rfl rfl
theorem dksX0_party_3 : cX0_party.data.toList.drop 71 = dktX0_party_3 := dk_seg dksX0_party_2 24 rfl rfl
theorem dksX0_party_4 : cX0_party.data.toList.drop 95 = dktX0_party_4 := dk_seg dksX0_party_3 24 rfl rfl
theorem dX0_party_0 : decode cX0_party 0 = .ok (.iload_n 1, 1) := dk_27 (dk_at dksX0_party_0 0 rfl rfl)
theorem dX0_party_1 : decode cX0_party 1 = .ok (.iconst 0, 1) := dk_3 (dk_at dksX0_party_0 1 rfl rfl)
theorem dX0_party_2 : decode cX0_party 2 = .ok (.sipush 999, 3) := dk_17 3 231 (dk_at dksX0_party_0 2 rfl rfl)
theorem dX0_party_5 : decode cX0_party 5 = .ok (.invokestatic 49, 3) := dk_184 0 49 (dk_at dksX0_party_0 5 rfl rfl)
theorem dX0_party_8 : decode cX0_party 8 = .ok (.ifCond .eq 14, 3) := dk_153 0 14 (dk_at dksX0_party_0 8 rfl rfl)
theorem dX0_party_11 : decode cX0_party 11 = .ok (.aload_n 0, 1) := dk_42 (dk_at dksX0_party_0 11 rfl rfl)
theorem dX0_party_12 : decode cX0_party 12 = .ok (.getfield 20, 3) := dk_180 0 20 (dk_at dksX0_party_0 12 rfl rfl)
theorem dX0_party_15 : decode cX0_party 15 = .ok (.getfield 113, 3) := dk_180 0 113 (dk_at dksX0_party_0 15 rfl rfl)
theorem dX0_party_18 : decode cX0_party 18 = .ok (.iconst 5, 1) := dk_8 (dk_at dksX0_party_0 18 rfl rfl)
theorem dX0_party_19 : decode cX0_party 19 = .ok (.if_icmp .ne 5, 3) := dk_160 0 5 (dk_at dksX0_party_0 19 rfl rfl)
theorem dX0_party_22 : decode cX0_party 22 = .ok (.iconst (-1), 1) := dk_2 (dk_at dksX0_party_0 22 rfl rfl)
theorem dX0_party_23 : decode cX0_party 23 = .ok (.ireturn, 1) := dk_172 (dk_at dksX0_party_0 23 rfl rfl)
theorem dX0_party_24 : decode cX0_party 24 = .ok (.aload_n 0, 1) := dk_42 (dk_at dksX0_party_1 0 rfl rfl)
theorem dX0_party_25 : decode cX0_party 25 = .ok (.getfield 20, 3) := dk_180 0 20 (dk_at dksX0_party_1 1 rfl rfl)
theorem dX0_party_28 : decode cX0_party 28 = .ok (.getfield 122, 3) := dk_180 0 122 (dk_at dksX0_party_1 4 rfl rfl)
theorem dX0_party_31 : decode cX0_party 31 = .ok (.aload_n 0, 1) := dk_42 (dk_at dksX0_party_1 7 rfl rfl)
theorem dX0_party_32 : decode cX0_party 32 = .ok (.getfield 20, 3) := dk_180 0 20 (dk_at dksX0_party_1 8 rfl rfl)
theorem dX0_party_35 : decode cX0_party 35 = .ok (.getfield 113, 3) := dk_180 0 113 (dk_at dksX0_party_1 11 rfl rfl)
theorem dX0_party_38 : decode cX0_party 38 = .ok (.aaload, 1) := dk_50 (dk_at dksX0_party_1 14 rfl rfl)
theorem dX0_party_39 : decode cX0_party 39 = .ok (.astore_n 2, 1) := dk_77 (dk_at dksX0_party_1 15 rfl rfl)
theorem dX0_party_40 : decode cX0_party 40 = .ok (.aload_n 2, 1) := dk_44 (dk_at dksX0_party_1 16 rfl rfl)
theorem dX0_party_41 : decode cX0_party 41 = .ok (.iload_n 1, 1) := dk_27 (dk_at dksX0_party_1 17 rfl rfl)
theorem dX0_party_42 : decode cX0_party 42 = .ok (.putfield 126, 3) := dk_181 0 126 (dk_at dksX0_party_1 18 rfl rfl)
theorem dX0_party_45 : decode cX0_party 45 = .ok (.aload_n 2, 1) := dk_44 (dk_at dksX0_party_1 21 rfl rfl)
theorem dX0_party_46 : decode cX0_party 46 = .ok (.iconst 0, 1) := dk_3 (dk_at dksX0_party_1 22 rfl rfl)
theorem dX0_party_47 : decode cX0_party 47 = .ok (.putfield 131, 3) := dk_181 0 131 (dk_at dksX0_party_2 0 rfl rfl)
theorem dX0_party_50 : decode cX0_party 50 = .ok (.aload_n 2, 1) := dk_44 (dk_at dksX0_party_2 3 rfl rfl)
theorem dX0_party_51 : decode cX0_party 51 = .ok (.iconst 0, 1) := dk_3 (dk_at dksX0_party_2 4 rfl rfl)
theorem dX0_party_52 : decode cX0_party 52 = .ok (.putfield 134, 3) := dk_181 0 134 (dk_at dksX0_party_2 5 rfl rfl)
theorem dX0_party_55 : decode cX0_party 55 = .ok (.iconst 0, 1) := dk_3 (dk_at dksX0_party_2 8 rfl rfl)
theorem dX0_party_56 : decode cX0_party 56 = .ok (.istore_n 3, 1) := dk_62 (dk_at dksX0_party_2 9 rfl rfl)
theorem dX0_party_57 : decode cX0_party 57 = .ok (.iload_n 3, 1) := dk_29 (dk_at dksX0_party_2 10 rfl rfl)
theorem dX0_party_58 : decode cX0_party 58 = .ok (.bipush 10, 2) := dk_16 10 (dk_at dksX0_party_2 11 rfl rfl)
theorem dX0_party_60 : decode cX0_party 60 = .ok (.if_icmp .ge 30, 3) := dk_162 0 30 (dk_at dksX0_party_2 13 rfl rfl)
theorem dX0_party_63 : decode cX0_party 63 = .ok (.aload_n 0, 1) := dk_42 (dk_at dksX0_party_2 16 rfl rfl)
theorem dX0_party_64 : decode cX0_party 64 = .ok (.getfield 20, 3) := dk_180 0 20 (dk_at dksX0_party_2 17 rfl rfl)
theorem dX0_party_67 : decode cX0_party 67 = .ok (.getfield 137, 3) := dk_180 0 137 (dk_at dksX0_party_2 20 rfl rfl)
theorem dX0_party_70 : decode cX0_party 70 = .ok (.iload_n 3, 1) := dk_29 (dk_at dksX0_party_2 23 rfl rfl)
theorem dX0_party_71 : decode cX0_party 71 = .ok (.aaload, 1) := dk_50 (dk_at dksX0_party_3 0 rfl rfl)
theorem dX0_party_72 : decode cX0_party 72 = .ok (.getfield 141, 3) := dk_180 0 141 (dk_at dksX0_party_3 1 rfl rfl)
theorem dX0_party_75 : decode cX0_party 75 = .ok (.aload_n 0, 1) := dk_42 (dk_at dksX0_party_3 4 rfl rfl)
theorem dX0_party_76 : decode cX0_party 76 = .ok (.getfield 20, 3) := dk_180 0 20 (dk_at dksX0_party_3 5 rfl rfl)
theorem dX0_party_79 : decode cX0_party 79 = .ok (.getfield 113, 3) := dk_180 0 113 (dk_at dksX0_party_3 8 rfl rfl)
theorem dX0_party_82 : decode cX0_party 82 = .ok (.iconst 5, 1) := dk_8 (dk_at dksX0_party_3 11 rfl rfl)
theorem dX0_party_83 : decode cX0_party 83 = .ok (.iastore, 1) := dk_79 (dk_at dksX0_party_3 12 rfl rfl)
theorem dX0_party_84 : decode cX0_party 84 = .ok (.iinc 3 1, 3) := dk_132 3 1 (dk_at dksX0_party_3 13 rfl rfl)
theorem dX0_party_87 : decode cX0_party 87 = .ok (.goto (-30), 3) := dk_167 255 226 (dk_at dksX0_party_3 16 rfl rfl)
theorem dX0_party_90 : decode cX0_party 90 = .ok (.aload_n 0, 1) := dk_42 (dk_at dksX0_party_3 19 rfl rfl)
theorem dX0_party_91 : decode cX0_party 91 = .ok (.getfield 20, 3) := dk_180 0 20 (dk_at dksX0_party_3 20 rfl rfl)
theorem dX0_party_94 : decode cX0_party 94 = .ok (.dup, 1) := dk_89 (dk_at dksX0_party_3 23 rfl rfl)
theorem dX0_party_95 : decode cX0_party 95 = .ok (.getfield 113, 3) := dk_180 0 113 (dk_at dksX0_party_4 0 rfl rfl)
theorem dX0_party_98 : decode cX0_party 98 = .ok (.iconst 1, 1) := dk_4 (dk_at dksX0_party_4 3 rfl rfl)
theorem dX0_party_99 : decode cX0_party 99 = .ok (.iadd, 1) := dk_96 (dk_at dksX0_party_4 4 rfl rfl)
theorem dX0_party_100 : decode cX0_party 100 = .ok (.putfield 113, 3) := dk_181 0 113 (dk_at dksX0_party_4 5 rfl rfl)
theorem dX0_party_103 : decode cX0_party 103 = .ok (.aload_n 0, 1) := dk_42 (dk_at dksX0_party_4 8 rfl rfl)
theorem dX0_party_104 : decode cX0_party 104 = .ok (.invokevirtual 82, 3) := dk_182 0 82 (dk_at dksX0_party_4 9 rfl rfl)
theorem dX0_party_107 : decode cX0_party 107 = .ok (.pop, 1) := dk_87 (dk_at dksX0_party_4 12 rfl rfl)
theorem dX0_party_108 : decode cX0_party 108 = .ok (.aload_n 0, 1) := dk_42 (dk_at dksX0_party_4 13 rfl rfl)
theorem dX0_party_109 : decode cX0_party 109 = .ok (.getfield 20, 3) := dk_180 0 20 (dk_at dksX0_party_4 14 rfl rfl)
theorem dX0_party_112 : decode cX0_party 112 = .ok (.getfield 113, 3) := dk_180 0 113 (dk_at dksX0_party_4 17 rfl rfl)
theorem dX0_party_115 : decode cX0_party 115 = .ok (.iconst 1, 1) := dk_4 (dk_at dksX0_party_4 20 rfl rfl)
theorem dX0_party_116 : decode cX0_party 116 = .ok (.isub, 1) := dk_100 (dk_at dksX0_party_4 21 rfl rfl)
theorem dX0_party_117 : decode cX0_party 117 = .ok (.ireturn, 1) := dk_172 (dk_at dksX0_party_4 22 rfl rfl)
abbrev cX0_eater : ByteArray := prog_1_method_17_code
def yX0_eater : MethodName := ⟨RX0, "eater", "(I)I"⟩
def dkwX0_eater_3 : List UInt8 := [180, 0, 116, 4, 96, 181, 0, 116, 42, 182, 0, 82, 87, 42, 180, 0, 20, 180, 0, 116, 4, 100, 172]
abbrev dktX0_eater_3 : List UInt8 := dkwX0_eater_3 ++ []
def dkwX0_eater_2 : List UInt8 := [8, 162, 0, 16, 44, 180, 0, 141, 29, 8, 79, 132, 3, 1, 167, 255, 241, 42, 180, 0, 20, 89]
abbrev dktX0_eater_2 : List UInt8 := dkwX0_eater_2 ++ dktX0_eater_3
def dkwX0_eater_1 : List UInt8 := [42, 180, 0, 20, 180, 0, 137, 42, 180, 0, 20, 180, 0, 116, 50, 77, 44, 27, 181, 0, 146, 3, 62, 29]
abbrev dktX0_eater_1 : List UInt8 := dkwX0_eater_1 ++ dktX0_eater_2
def dkwX0_eater_0 : List UInt8 := [27, 3, 16, 20, 184, 0, 49, 153, 0, 15, 42, 180, 0, 20, 180, 0, 116, 16, 10, 160, 0, 5, 2, 172]
abbrev dktX0_eater_0 : List UInt8 := dkwX0_eater_0 ++ dktX0_eater_1
theorem dksX0_eater_0 : cX0_eater.data.toList.drop 0 = dktX0_eater_0 := by decide +kernel
theorem dksX0_eater_1 : cX0_eater.data.toList.drop 24 = dktX0_eater_1 := dk_seg dksX0_eater_0 24 rfl rfl
theorem dksX0_eater_2 : cX0_eater.data.toList.drop 48 = dktX0_eater_2 := dk_seg dksX0_eater_1 24 rfl rfl
theorem dksX0_eater_3 : cX0_eater.data.toList.drop 70 = dktX0_eater_3 := dk_seg dksX0_eater_2 22 rfl rfl
theorem dX0_eater_0 : decode cX0_eater 0 = .ok (.iload_n 1, 1) := dk_27 (dk_at dksX0_eater_0 0 rfl rfl)
theorem dX0_eater_1 : decode cX0_eater 1 = .ok (.iconst 0, 1) := dk_3 (dk_at dksX0_eater_0 1 rfl rfl)
theorem dX0_eater_2 : decode cX0_eater 2 = .ok (.bipush 20, 2) := dk_16 20 (dk_at dksX0_eater_0 2 rfl rfl)
theorem dX0_eater_4 : decode cX0_eater 4 = .ok (.invokestatic 49, 3) := dk_184 0 49 (dk_at dksX0_eater_0 4 rfl rfl)
theorem dX0_eater_7 : decode cX0_eater 7 = .ok (.ifCond .eq 15, 3) := dk_153 0 15 (dk_at dksX0_eater_0 7 rfl rfl)
theorem dX0_eater_10 : decode cX0_eater 10 = .ok (.aload_n 0, 1) := dk_42 (dk_at dksX0_eater_0 10 rfl rfl)
theorem dX0_eater_11 : decode cX0_eater 11 = .ok (.getfield 20, 3) := dk_180 0 20 (dk_at dksX0_eater_0 11 rfl rfl)
theorem dX0_eater_14 : decode cX0_eater 14 = .ok (.getfield 116, 3) := dk_180 0 116 (dk_at dksX0_eater_0 14 rfl rfl)
theorem dX0_eater_17 : decode cX0_eater 17 = .ok (.bipush 10, 2) := dk_16 10 (dk_at dksX0_eater_0 17 rfl rfl)
theorem dX0_eater_19 : decode cX0_eater 19 = .ok (.if_icmp .ne 5, 3) := dk_160 0 5 (dk_at dksX0_eater_0 19 rfl rfl)
theorem dX0_eater_22 : decode cX0_eater 22 = .ok (.iconst (-1), 1) := dk_2 (dk_at dksX0_eater_0 22 rfl rfl)
theorem dX0_eater_23 : decode cX0_eater 23 = .ok (.ireturn, 1) := dk_172 (dk_at dksX0_eater_0 23 rfl rfl)
theorem dX0_eater_24 : decode cX0_eater 24 = .ok (.aload_n 0, 1) := dk_42 (dk_at dksX0_eater_1 0 rfl rfl)
theorem dX0_eater_25 : decode cX0_eater 25 = .ok (.getfield 20, 3) := dk_180 0 20 (dk_at dksX0_eater_1 1 rfl rfl)
theorem dX0_eater_28 : decode cX0_eater 28 = .ok (.getfield 137, 3) := dk_180 0 137 (dk_at dksX0_eater_1 4 rfl rfl)
theorem dX0_eater_31 : decode cX0_eater 31 = .ok (.aload_n 0, 1) := dk_42 (dk_at dksX0_eater_1 7 rfl rfl)
theorem dX0_eater_32 : decode cX0_eater 32 = .ok (.getfield 20, 3) := dk_180 0 20 (dk_at dksX0_eater_1 8 rfl rfl)
theorem dX0_eater_35 : decode cX0_eater 35 = .ok (.getfield 116, 3) := dk_180 0 116 (dk_at dksX0_eater_1 11 rfl rfl)
theorem dX0_eater_38 : decode cX0_eater 38 = .ok (.aaload, 1) := dk_50 (dk_at dksX0_eater_1 14 rfl rfl)
theorem dX0_eater_39 : decode cX0_eater 39 = .ok (.astore_n 2, 1) := dk_77 (dk_at dksX0_eater_1 15 rfl rfl)
theorem dX0_eater_40 : decode cX0_eater 40 = .ok (.aload_n 2, 1) := dk_44 (dk_at dksX0_eater_1 16 rfl rfl)
theorem dX0_eater_41 : decode cX0_eater 41 = .ok (.iload_n 1, 1) := dk_27 (dk_at dksX0_eater_1 17 rfl rfl)
theorem dX0_eater_42 : decode cX0_eater 42 = .ok (.putfield 146, 3) := dk_181 0 146 (dk_at dksX0_eater_1 18 rfl rfl)
theorem dX0_eater_45 : decode cX0_eater 45 = .ok (.iconst 0, 1) := dk_3 (dk_at dksX0_eater_1 21 rfl rfl)
theorem dX0_eater_46 : decode cX0_eater 46 = .ok (.istore_n 3, 1) := dk_62 (dk_at dksX0_eater_1 22 rfl rfl)
theorem dX0_eater_47 : decode cX0_eater 47 = .ok (.iload_n 3, 1) := dk_29 (dk_at dksX0_eater_1 23 rfl rfl)
theorem dX0_eater_48 : decode cX0_eater 48 = .ok (.iconst 5, 1) := dk_8 (dk_at dksX0_eater_2 0 rfl rfl)
theorem dX0_eater_49 : decode cX0_eater 49 = .ok (.if_icmp .ge 16, 3) := dk_162 0 16 (dk_at dksX0_eater_2 1 rfl rfl)
theorem dX0_eater_52 : decode cX0_eater 52 = .ok (.aload_n 2, 1) := dk_44 (dk_at dksX0_eater_2 4 rfl rfl)
theorem dX0_eater_53 : decode cX0_eater 53 = .ok (.getfield 141, 3) := dk_180 0 141 (dk_at dksX0_eater_2 5 rfl rfl)
theorem dX0_eater_56 : decode cX0_eater 56 = .ok (.iload_n 3, 1) := dk_29 (dk_at dksX0_eater_2 8 rfl rfl)
theorem dX0_eater_57 : decode cX0_eater 57 = .ok (.iconst 5, 1) := dk_8 (dk_at dksX0_eater_2 9 rfl rfl)
theorem dX0_eater_58 : decode cX0_eater 58 = .ok (.iastore, 1) := dk_79 (dk_at dksX0_eater_2 10 rfl rfl)
theorem dX0_eater_59 : decode cX0_eater 59 = .ok (.iinc 3 1, 3) := dk_132 3 1 (dk_at dksX0_eater_2 11 rfl rfl)
theorem dX0_eater_62 : decode cX0_eater 62 = .ok (.goto (-15), 3) := dk_167 255 241 (dk_at dksX0_eater_2 14 rfl rfl)
theorem dX0_eater_65 : decode cX0_eater 65 = .ok (.aload_n 0, 1) := dk_42 (dk_at dksX0_eater_2 17 rfl rfl)
theorem dX0_eater_66 : decode cX0_eater 66 = .ok (.getfield 20, 3) := dk_180 0 20 (dk_at dksX0_eater_2 18 rfl rfl)
theorem dX0_eater_69 : decode cX0_eater 69 = .ok (.dup, 1) := dk_89 (dk_at dksX0_eater_2 21 rfl rfl)
theorem dX0_eater_70 : decode cX0_eater 70 = .ok (.getfield 116, 3) := dk_180 0 116 (dk_at dksX0_eater_3 0 rfl rfl)
theorem dX0_eater_73 : decode cX0_eater 73 = .ok (.iconst 1, 1) := dk_4 (dk_at dksX0_eater_3 3 rfl rfl)
theorem dX0_eater_74 : decode cX0_eater 74 = .ok (.iadd, 1) := dk_96 (dk_at dksX0_eater_3 4 rfl rfl)
theorem dX0_eater_75 : decode cX0_eater 75 = .ok (.putfield 116, 3) := dk_181 0 116 (dk_at dksX0_eater_3 5 rfl rfl)
theorem dX0_eater_78 : decode cX0_eater 78 = .ok (.aload_n 0, 1) := dk_42 (dk_at dksX0_eater_3 8 rfl rfl)
theorem dX0_eater_79 : decode cX0_eater 79 = .ok (.invokevirtual 82, 3) := dk_182 0 82 (dk_at dksX0_eater_3 9 rfl rfl)
theorem dX0_eater_82 : decode cX0_eater 82 = .ok (.pop, 1) := dk_87 (dk_at dksX0_eater_3 12 rfl rfl)
theorem dX0_eater_83 : decode cX0_eater 83 = .ok (.aload_n 0, 1) := dk_42 (dk_at dksX0_eater_3 13 rfl rfl)
theorem dX0_eater_84 : decode cX0_eater 84 = .ok (.getfield 20, 3) := dk_180 0 20 (dk_at dksX0_eater_3 14 rfl rfl)
theorem dX0_eater_87 : decode cX0_eater 87 = .ok (.getfield 116, 3) := dk_180 0 116 (dk_at dksX0_eater_3 17 rfl rfl)
theorem dX0_eater_90 : decode cX0_eater 90 = .ok (.iconst 1, 1) := dk_4 (dk_at dksX0_eater_3 20 rfl rfl)
theorem dX0_eater_91 : decode cX0_eater 91 = .ok (.isub, 1) := dk_100 (dk_at dksX0_eater_3 21 rfl rfl)
theorem dX0_eater_92 : decode cX0_eater 92 = .ok (.ireturn, 1) := dk_172 (dk_at dksX0_eater_3 22 rfl rfl)
abbrev cX0_taste : ByteArray := prog_1_method_18_code
def yX0_taste : MethodName := ⟨RX0, "taste", "(III)Z"⟩
def dkwX0_taste_2 : List UInt8 := [172]
abbrev dktX0_taste_2 : List UInt8 := dkwX0_taste_2 ++ []
def dkwX0_taste_1 : List UInt8 := [154, 0, 5, 3, 172, 42, 180, 0, 20, 180, 0, 137, 27, 50, 180, 0, 141, 28, 29, 79, 42, 182, 0, 82]
abbrev dktX0_taste_1 : List UInt8 := dkwX0_taste_1 ++ dktX0_taste_2
def dkwX0_taste_0 : List UInt8 := [42, 27, 182, 0, 149, 153, 0, 21, 42, 28, 182, 0, 153, 153, 0, 13, 29, 3, 16, 9, 184, 0, 49]
abbrev dktX0_taste_0 : List UInt8 := dkwX0_taste_0 ++ dktX0_taste_1
theorem dksX0_taste_0 : cX0_taste.data.toList.drop 0 = dktX0_taste_0 := by decide +kernel
theorem dksX0_taste_1 : cX0_taste.data.toList.drop 23 = dktX0_taste_1 := dk_seg dksX0_taste_0 23 rfl rfl
theorem dksX0_taste_2 : cX0_taste.data.toList.drop 47 = dktX0_taste_2 := dk_seg dksX0_taste_1 24 rfl rfl
theorem dX0_taste_0 : decode cX0_taste 0 = .ok (.aload_n 0, 1) := dk_42 (dk_at dksX0_taste_0 0 rfl rfl)
theorem dX0_taste_1 : decode cX0_taste 1 = .ok (.iload_n 1, 1) := dk_27 (dk_at dksX0_taste_0 1 rfl rfl)
theorem dX0_taste_2 : decode cX0_taste 2 = .ok (.invokevirtual 149, 3) := dk_182 0 149 (dk_at dksX0_taste_0 2 rfl rfl)
theorem dX0_taste_5 : decode cX0_taste 5 = .ok (.ifCond .eq 21, 3) := dk_153 0 21 (dk_at dksX0_taste_0 5 rfl rfl)
theorem dX0_taste_8 : decode cX0_taste 8 = .ok (.aload_n 0, 1) := dk_42 (dk_at dksX0_taste_0 8 rfl rfl)
theorem dX0_taste_9 : decode cX0_taste 9 = .ok (.iload_n 2, 1) := dk_28 (dk_at dksX0_taste_0 9 rfl rfl)
theorem dX0_taste_10 : decode cX0_taste 10 = .ok (.invokevirtual 153, 3) := dk_182 0 153 (dk_at dksX0_taste_0 10 rfl rfl)
theorem dX0_taste_13 : decode cX0_taste 13 = .ok (.ifCond .eq 13, 3) := dk_153 0 13 (dk_at dksX0_taste_0 13 rfl rfl)
theorem dX0_taste_16 : decode cX0_taste 16 = .ok (.iload_n 3, 1) := dk_29 (dk_at dksX0_taste_0 16 rfl rfl)
theorem dX0_taste_17 : decode cX0_taste 17 = .ok (.iconst 0, 1) := dk_3 (dk_at dksX0_taste_0 17 rfl rfl)
theorem dX0_taste_18 : decode cX0_taste 18 = .ok (.bipush 9, 2) := dk_16 9 (dk_at dksX0_taste_0 18 rfl rfl)
theorem dX0_taste_20 : decode cX0_taste 20 = .ok (.invokestatic 49, 3) := dk_184 0 49 (dk_at dksX0_taste_0 20 rfl rfl)
theorem dX0_taste_23 : decode cX0_taste 23 = .ok (.ifCond .ne 5, 3) := dk_154 0 5 (dk_at dksX0_taste_1 0 rfl rfl)
theorem dX0_taste_26 : decode cX0_taste 26 = .ok (.iconst 0, 1) := dk_3 (dk_at dksX0_taste_1 3 rfl rfl)
theorem dX0_taste_27 : decode cX0_taste 27 = .ok (.ireturn, 1) := dk_172 (dk_at dksX0_taste_1 4 rfl rfl)
theorem dX0_taste_28 : decode cX0_taste 28 = .ok (.aload_n 0, 1) := dk_42 (dk_at dksX0_taste_1 5 rfl rfl)
theorem dX0_taste_29 : decode cX0_taste 29 = .ok (.getfield 20, 3) := dk_180 0 20 (dk_at dksX0_taste_1 6 rfl rfl)
theorem dX0_taste_32 : decode cX0_taste 32 = .ok (.getfield 137, 3) := dk_180 0 137 (dk_at dksX0_taste_1 9 rfl rfl)
theorem dX0_taste_35 : decode cX0_taste 35 = .ok (.iload_n 1, 1) := dk_27 (dk_at dksX0_taste_1 12 rfl rfl)
theorem dX0_taste_36 : decode cX0_taste 36 = .ok (.aaload, 1) := dk_50 (dk_at dksX0_taste_1 13 rfl rfl)
theorem dX0_taste_37 : decode cX0_taste 37 = .ok (.getfield 141, 3) := dk_180 0 141 (dk_at dksX0_taste_1 14 rfl rfl)
theorem dX0_taste_40 : decode cX0_taste 40 = .ok (.iload_n 2, 1) := dk_28 (dk_at dksX0_taste_1 17 rfl rfl)
theorem dX0_taste_41 : decode cX0_taste 41 = .ok (.iload_n 3, 1) := dk_29 (dk_at dksX0_taste_1 18 rfl rfl)
theorem dX0_taste_42 : decode cX0_taste 42 = .ok (.iastore, 1) := dk_79 (dk_at dksX0_taste_1 19 rfl rfl)
theorem dX0_taste_43 : decode cX0_taste 43 = .ok (.aload_n 0, 1) := dk_42 (dk_at dksX0_taste_1 20 rfl rfl)
theorem dX0_taste_44 : decode cX0_taste 44 = .ok (.invokevirtual 82, 3) := dk_182 0 82 (dk_at dksX0_taste_1 21 rfl rfl)
theorem dX0_taste_47 : decode cX0_taste 47 = .ok (.ireturn, 1) := dk_172 (dk_at dksX0_taste_2 0 rfl rfl)
abbrev cX0_isEater : ByteArray := prog_1_method_13_code
def yX0_isEater : MethodName := ⟨RX0, "isEater", "(I)Z"⟩
def dkwX0_isEater_0 : List UInt8 := [27, 3, 42, 180, 0, 20, 180, 0, 116, 4, 100, 184, 0, 49, 172]
abbrev dktX0_isEater_0 : List UInt8 := dkwX0_isEater_0 ++ []
theorem dksX0_isEater_0 : cX0_isEater.data.toList.drop 0 = dktX0_isEater_0 := by decide +kernel
theorem dX0_isEater_0 : decode cX0_isEater 0 = .ok (.iload_n 1, 1) := dk_27 (dk_at dksX0_isEater_0 0 rfl rfl)
theorem dX0_isEater_1 : decode cX0_isEater 1 = .ok (.iconst 0, 1) := dk_3 (dk_at dksX0_isEater_0 1 rfl rfl)
theorem dX0_isEater_2 : decode cX0_isEater 2 = .ok (.aload_n 0, 1) := dk_42 (dk_at dksX0_isEater_0 2 rfl rfl)
theorem dX0_isEater_3 : decode cX0_isEater 3 = .ok (.getfield 20, 3) := dk_180 0 20 (dk_at dksX0_isEater_0 3 rfl rfl)
theorem dX0_isEater_6 : decode cX0_isEater 6 = .ok (.getfield 116, 3) := dk_180 0 116 (dk_at dksX0_isEater_0 6 rfl rfl)
theorem dX0_isEater_9 : decode cX0_isEater 9 = .ok (.iconst 1, 1) := dk_4 (dk_at dksX0_isEater_0 9 rfl rfl)
theorem dX0_isEater_10 : decode cX0_isEater 10 = .ok (.isub, 1) := dk_100 (dk_at dksX0_isEater_0 10 rfl rfl)
theorem dX0_isEater_11 : decode cX0_isEater 11 = .ok (.invokestatic 49, 3) := dk_184 0 49 (dk_at dksX0_isEater_0 11 rfl rfl)
theorem dX0_isEater_14 : decode cX0_isEater 14 = .ok (.ireturn, 1) := dk_172 (dk_at dksX0_isEater_0 14 rfl rfl)
abbrev cX0_isParty : ByteArray := prog_1_method_12_code
def yX0_isParty : MethodName := ⟨RX0, "isParty", "(I)Z"⟩
def dkwX0_isParty_0 : List UInt8 := [27, 3, 42, 180, 0, 20, 180, 0, 113, 4, 100, 184, 0, 49, 172]
abbrev dktX0_isParty_0 : List UInt8 := dkwX0_isParty_0 ++ []
theorem dksX0_isParty_0 : cX0_isParty.data.toList.drop 0 = dktX0_isParty_0 := by decide +kernel
theorem dX0_isParty_0 : decode cX0_isParty 0 = .ok (.iload_n 1, 1) := dk_27 (dk_at dksX0_isParty_0 0 rfl rfl)
theorem dX0_isParty_1 : decode cX0_isParty 1 = .ok (.iconst 0, 1) := dk_3 (dk_at dksX0_isParty_0 1 rfl rfl)
theorem dX0_isParty_2 : decode cX0_isParty 2 = .ok (.aload_n 0, 1) := dk_42 (dk_at dksX0_isParty_0 2 rfl rfl)
theorem dX0_isParty_3 : decode cX0_isParty 3 = .ok (.getfield 20, 3) := dk_180 0 20 (dk_at dksX0_isParty_0 3 rfl rfl)
theorem dX0_isParty_6 : decode cX0_isParty 6 = .ok (.getfield 113, 3) := dk_180 0 113 (dk_at dksX0_isParty_0 6 rfl rfl)
theorem dX0_isParty_9 : decode cX0_isParty 9 = .ok (.iconst 1, 1) := dk_4 (dk_at dksX0_isParty_0 9 rfl rfl)
theorem dX0_isParty_10 : decode cX0_isParty 10 = .ok (.isub, 1) := dk_100 (dk_at dksX0_isParty_0 10 rfl rfl)
theorem dX0_isParty_11 : decode cX0_isParty 11 = .ok (.invokestatic 49, 3) := dk_184 0 49 (dk_at dksX0_isParty_0 11 rfl rfl)
theorem dX0_isParty_14 : decode cX0_isParty 14 = .ok (.ireturn, 1) := dk_172 (dk_at dksX0_isParty_0 14 rfl rfl)
abbrev cX0_set : ByteArray := prog_1_method_20_code
def yX0_set : MethodName := ⟨RX0, "set", "(III)Z"⟩
def dkwX0_set_6 : List UInt8 := [180, 0, 20, 180, 0, 122, 28, 50, 29, 181, 0, 131, 42, 182, 0, 82, 172]
abbrev dktX0_set_6 : List UInt8 := dkwX0_set_6 ++ []
def dkwX0_set_5 : List UInt8 := [29, 181, 0, 146, 167, 0, 32, 42, 180, 0, 20, 180, 0, 122, 28, 50, 29, 181, 0, 126, 167, 0, 16, 42]
abbrev dktX0_set_5 : List UInt8 := dkwX0_set_5 ++ dktX0_set_6
def dkwX0_set_4 : List UInt8 := [180, 0, 20, 180, 0, 174, 28, 50, 29, 181, 0, 178, 167, 0, 48, 42, 180, 0, 20, 180, 0, 137, 28, 50]
abbrev dktX0_set_4 : List UInt8 := dkwX0_set_4 ++ dktX0_set_5
def dkwX0_set_3 : List UInt8 := [180, 0, 20, 29, 181, 0, 168, 167, 0, 75, 42, 180, 0, 20, 29, 181, 0, 171, 167, 0, 64, 42]
abbrev dktX0_set_3 : List UInt8 := dkwX0_set_3 ++ dktX0_set_4
def dkwX0_set_2 : List UInt8 := [42, 180, 0, 20, 29, 181, 0, 162, 167, 0, 97, 42, 180, 0, 20, 29, 181, 0, 165, 167, 0, 86, 42]
abbrev dktX0_set_2 : List UInt8 := dkwX0_set_2 ++ dktX0_set_3
def dkwX0_set_1 : List UInt8 := [170, 0, 0, 0, 0, 0, 135, 0, 0, 0, 0, 0, 0, 0, 6, 0, 0, 0, 43, 0, 0, 0, 54, 0, 0, 0, 65, 0, 0, 0, 76, 0, 0, 0, 87, 0, 0, 0, 103, 0, 0, 0, 119]
abbrev dktX0_set_1 : List UInt8 := dkwX0_set_1 ++ dktX0_set_2
def dkwX0_set_0 : List UInt8 := [42, 27, 28, 29, 182, 0, 159, 154, 0, 5, 3, 172, 27]
abbrev dktX0_set_0 : List UInt8 := dkwX0_set_0 ++ dktX0_set_1
theorem dksX0_set_0 : cX0_set.data.toList.drop 0 = dktX0_set_0 := by decide +kernel
theorem dksX0_set_1 : cX0_set.data.toList.drop 13 = dktX0_set_1 := dk_seg dksX0_set_0 13 rfl rfl
theorem dksX0_set_2 : cX0_set.data.toList.drop 56 = dktX0_set_2 := dk_seg dksX0_set_1 43 rfl rfl
theorem dksX0_set_3 : cX0_set.data.toList.drop 79 = dktX0_set_3 := dk_seg dksX0_set_2 23 rfl rfl
theorem dksX0_set_4 : cX0_set.data.toList.drop 101 = dktX0_set_4 := dk_seg dksX0_set_3 22 rfl rfl
theorem dksX0_set_5 : cX0_set.data.toList.drop 125 = dktX0_set_5 := dk_seg dksX0_set_4 24 rfl rfl
theorem dksX0_set_6 : cX0_set.data.toList.drop 149 = dktX0_set_6 := dk_seg dksX0_set_5 24 rfl rfl
theorem dX0_set_0 : decode cX0_set 0 = .ok (.aload_n 0, 1) := dk_42 (dk_at dksX0_set_0 0 rfl rfl)
theorem dX0_set_1 : decode cX0_set 1 = .ok (.iload_n 1, 1) := dk_27 (dk_at dksX0_set_0 1 rfl rfl)
theorem dX0_set_2 : decode cX0_set 2 = .ok (.iload_n 2, 1) := dk_28 (dk_at dksX0_set_0 2 rfl rfl)
theorem dX0_set_3 : decode cX0_set 3 = .ok (.iload_n 3, 1) := dk_29 (dk_at dksX0_set_0 3 rfl rfl)
theorem dX0_set_4 : decode cX0_set 4 = .ok (.invokevirtual 159, 3) := dk_182 0 159 (dk_at dksX0_set_0 4 rfl rfl)
theorem dX0_set_7 : decode cX0_set 7 = .ok (.ifCond .ne 5, 3) := dk_154 0 5 (dk_at dksX0_set_0 7 rfl rfl)
theorem dX0_set_10 : decode cX0_set 10 = .ok (.iconst 0, 1) := dk_3 (dk_at dksX0_set_0 10 rfl rfl)
theorem dX0_set_11 : decode cX0_set 11 = .ok (.ireturn, 1) := dk_172 (dk_at dksX0_set_0 11 rfl rfl)
theorem dX0_set_12 : decode cX0_set 12 = .ok (.iload_n 1, 1) := dk_27 (dk_at dksX0_set_0 12 rfl rfl)
theorem dX0_set_13 : decode cX0_set 13 = .ok (.tableswitch 135 0 6 #[43, 54, 65, 76, 87, 103, 119], 43) := by decide +kernel
theorem dX0_set_56 : decode cX0_set 56 = .ok (.aload_n 0, 1) := dk_42 (dk_at dksX0_set_2 0 rfl rfl)
theorem dX0_set_57 : decode cX0_set 57 = .ok (.getfield 20, 3) := dk_180 0 20 (dk_at dksX0_set_2 1 rfl rfl)
theorem dX0_set_60 : decode cX0_set 60 = .ok (.iload_n 3, 1) := dk_29 (dk_at dksX0_set_2 4 rfl rfl)
theorem dX0_set_61 : decode cX0_set 61 = .ok (.putfield 162, 3) := dk_181 0 162 (dk_at dksX0_set_2 5 rfl rfl)
theorem dX0_set_64 : decode cX0_set 64 = .ok (.goto 97, 3) := dk_167 0 97 (dk_at dksX0_set_2 8 rfl rfl)
theorem dX0_set_67 : decode cX0_set 67 = .ok (.aload_n 0, 1) := dk_42 (dk_at dksX0_set_2 11 rfl rfl)
theorem dX0_set_68 : decode cX0_set 68 = .ok (.getfield 20, 3) := dk_180 0 20 (dk_at dksX0_set_2 12 rfl rfl)
theorem dX0_set_71 : decode cX0_set 71 = .ok (.iload_n 3, 1) := dk_29 (dk_at dksX0_set_2 15 rfl rfl)
theorem dX0_set_72 : decode cX0_set 72 = .ok (.putfield 165, 3) := dk_181 0 165 (dk_at dksX0_set_2 16 rfl rfl)
theorem dX0_set_75 : decode cX0_set 75 = .ok (.goto 86, 3) := dk_167 0 86 (dk_at dksX0_set_2 19 rfl rfl)
theorem dX0_set_78 : decode cX0_set 78 = .ok (.aload_n 0, 1) := dk_42 (dk_at dksX0_set_2 22 rfl rfl)
theorem dX0_set_79 : decode cX0_set 79 = .ok (.getfield 20, 3) := dk_180 0 20 (dk_at dksX0_set_3 0 rfl rfl)
theorem dX0_set_82 : decode cX0_set 82 = .ok (.iload_n 3, 1) := dk_29 (dk_at dksX0_set_3 3 rfl rfl)
theorem dX0_set_83 : decode cX0_set 83 = .ok (.putfield 168, 3) := dk_181 0 168 (dk_at dksX0_set_3 4 rfl rfl)
theorem dX0_set_86 : decode cX0_set 86 = .ok (.goto 75, 3) := dk_167 0 75 (dk_at dksX0_set_3 7 rfl rfl)
theorem dX0_set_89 : decode cX0_set 89 = .ok (.aload_n 0, 1) := dk_42 (dk_at dksX0_set_3 10 rfl rfl)
theorem dX0_set_90 : decode cX0_set 90 = .ok (.getfield 20, 3) := dk_180 0 20 (dk_at dksX0_set_3 11 rfl rfl)
theorem dX0_set_93 : decode cX0_set 93 = .ok (.iload_n 3, 1) := dk_29 (dk_at dksX0_set_3 14 rfl rfl)
theorem dX0_set_94 : decode cX0_set 94 = .ok (.putfield 171, 3) := dk_181 0 171 (dk_at dksX0_set_3 15 rfl rfl)
theorem dX0_set_97 : decode cX0_set 97 = .ok (.goto 64, 3) := dk_167 0 64 (dk_at dksX0_set_3 18 rfl rfl)
theorem dX0_set_100 : decode cX0_set 100 = .ok (.aload_n 0, 1) := dk_42 (dk_at dksX0_set_3 21 rfl rfl)
theorem dX0_set_101 : decode cX0_set 101 = .ok (.getfield 20, 3) := dk_180 0 20 (dk_at dksX0_set_4 0 rfl rfl)
theorem dX0_set_104 : decode cX0_set 104 = .ok (.getfield 174, 3) := dk_180 0 174 (dk_at dksX0_set_4 3 rfl rfl)
theorem dX0_set_107 : decode cX0_set 107 = .ok (.iload_n 2, 1) := dk_28 (dk_at dksX0_set_4 6 rfl rfl)
theorem dX0_set_108 : decode cX0_set 108 = .ok (.aaload, 1) := dk_50 (dk_at dksX0_set_4 7 rfl rfl)
theorem dX0_set_109 : decode cX0_set 109 = .ok (.iload_n 3, 1) := dk_29 (dk_at dksX0_set_4 8 rfl rfl)
theorem dX0_set_110 : decode cX0_set 110 = .ok (.putfield 178, 3) := dk_181 0 178 (dk_at dksX0_set_4 9 rfl rfl)
theorem dX0_set_113 : decode cX0_set 113 = .ok (.goto 48, 3) := dk_167 0 48 (dk_at dksX0_set_4 12 rfl rfl)
theorem dX0_set_116 : decode cX0_set 116 = .ok (.aload_n 0, 1) := dk_42 (dk_at dksX0_set_4 15 rfl rfl)
theorem dX0_set_117 : decode cX0_set 117 = .ok (.getfield 20, 3) := dk_180 0 20 (dk_at dksX0_set_4 16 rfl rfl)
theorem dX0_set_120 : decode cX0_set 120 = .ok (.getfield 137, 3) := dk_180 0 137 (dk_at dksX0_set_4 19 rfl rfl)
theorem dX0_set_123 : decode cX0_set 123 = .ok (.iload_n 2, 1) := dk_28 (dk_at dksX0_set_4 22 rfl rfl)
theorem dX0_set_124 : decode cX0_set 124 = .ok (.aaload, 1) := dk_50 (dk_at dksX0_set_4 23 rfl rfl)
theorem dX0_set_125 : decode cX0_set 125 = .ok (.iload_n 3, 1) := dk_29 (dk_at dksX0_set_5 0 rfl rfl)
theorem dX0_set_126 : decode cX0_set 126 = .ok (.putfield 146, 3) := dk_181 0 146 (dk_at dksX0_set_5 1 rfl rfl)
theorem dX0_set_129 : decode cX0_set 129 = .ok (.goto 32, 3) := dk_167 0 32 (dk_at dksX0_set_5 4 rfl rfl)
theorem dX0_set_132 : decode cX0_set 132 = .ok (.aload_n 0, 1) := dk_42 (dk_at dksX0_set_5 7 rfl rfl)
theorem dX0_set_133 : decode cX0_set 133 = .ok (.getfield 20, 3) := dk_180 0 20 (dk_at dksX0_set_5 8 rfl rfl)
theorem dX0_set_136 : decode cX0_set 136 = .ok (.getfield 122, 3) := dk_180 0 122 (dk_at dksX0_set_5 11 rfl rfl)
theorem dX0_set_139 : decode cX0_set 139 = .ok (.iload_n 2, 1) := dk_28 (dk_at dksX0_set_5 14 rfl rfl)
theorem dX0_set_140 : decode cX0_set 140 = .ok (.aaload, 1) := dk_50 (dk_at dksX0_set_5 15 rfl rfl)
theorem dX0_set_141 : decode cX0_set 141 = .ok (.iload_n 3, 1) := dk_29 (dk_at dksX0_set_5 16 rfl rfl)
theorem dX0_set_142 : decode cX0_set 142 = .ok (.putfield 126, 3) := dk_181 0 126 (dk_at dksX0_set_5 17 rfl rfl)
theorem dX0_set_145 : decode cX0_set 145 = .ok (.goto 16, 3) := dk_167 0 16 (dk_at dksX0_set_5 20 rfl rfl)
theorem dX0_set_148 : decode cX0_set 148 = .ok (.aload_n 0, 1) := dk_42 (dk_at dksX0_set_5 23 rfl rfl)
theorem dX0_set_149 : decode cX0_set 149 = .ok (.getfield 20, 3) := dk_180 0 20 (dk_at dksX0_set_6 0 rfl rfl)
theorem dX0_set_152 : decode cX0_set 152 = .ok (.getfield 122, 3) := dk_180 0 122 (dk_at dksX0_set_6 3 rfl rfl)
theorem dX0_set_155 : decode cX0_set 155 = .ok (.iload_n 2, 1) := dk_28 (dk_at dksX0_set_6 6 rfl rfl)
theorem dX0_set_156 : decode cX0_set 156 = .ok (.aaload, 1) := dk_50 (dk_at dksX0_set_6 7 rfl rfl)
theorem dX0_set_157 : decode cX0_set 157 = .ok (.iload_n 3, 1) := dk_29 (dk_at dksX0_set_6 8 rfl rfl)
theorem dX0_set_158 : decode cX0_set 158 = .ok (.putfield 131, 3) := dk_181 0 131 (dk_at dksX0_set_6 9 rfl rfl)
theorem dX0_set_161 : decode cX0_set 161 = .ok (.aload_n 0, 1) := dk_42 (dk_at dksX0_set_6 12 rfl rfl)
theorem dX0_set_162 : decode cX0_set 162 = .ok (.invokevirtual 82, 3) := dk_182 0 82 (dk_at dksX0_set_6 13 rfl rfl)
theorem dX0_set_165 : decode cX0_set 165 = .ok (.ireturn, 1) := dk_172 (dk_at dksX0_set_6 16 rfl rfl)
abbrev cX0_canSet : ByteArray := prog_1_method_19_code
def yX0_canSet : MethodName := ⟨RX0, "canSet", "(III)Z"⟩
def dkwX0_canSet_7 : List UInt8 := [3, 17, 39, 15, 184, 0, 49, 153, 0, 7, 4, 167, 0, 4, 3, 172, 3, 172]
abbrev dktX0_canSet_7 : List UInt8 := dkwX0_canSet_7 ++ []
def dkwX0_canSet_6 : List UInt8 := [17, 3, 231, 184, 0, 49, 153, 0, 7, 4, 167, 0, 4, 3, 172, 42, 28, 182, 0, 153, 153, 0, 18, 29]
abbrev dktX0_canSet_6 : List UInt8 := dkwX0_canSet_6 ++ dktX0_canSet_7
def dkwX0_canSet_5 : List UInt8 := [184, 0, 49, 153, 0, 7, 4, 167, 0, 4, 3, 172, 42, 28, 182, 0, 153, 153, 0, 18, 29, 3]
abbrev dktX0_canSet_5 : List UInt8 := dkwX0_canSet_5 ++ dktX0_canSet_6
def dkwX0_canSet_4 : List UInt8 := [184, 0, 49, 153, 0, 7, 4, 167, 0, 4, 3, 172, 42, 28, 182, 0, 149, 153, 0, 17, 29, 3, 16, 20]
abbrev dktX0_canSet_4 : List UInt8 := dkwX0_canSet_4 ++ dktX0_canSet_5
def dkwX0_canSet_3 : List UInt8 := [172, 28, 3, 42, 180, 0, 20, 180, 0, 156, 4, 100, 184, 0, 49, 153, 0, 17, 29, 3, 16, 99]
abbrev dktX0_canSet_3 : List UInt8 := dkwX0_canSet_3 ++ dktX0_canSet_4
def dkwX0_canSet_2 : List UInt8 := [29, 3, 17, 3, 232, 184, 0, 49, 172, 29, 4, 16, 99, 184, 0, 49, 172, 29, 4, 16, 52, 184, 0, 49]
abbrev dktX0_canSet_2 : List UInt8 := dkwX0_canSet_2 ++ dktX0_canSet_3
def dkwX0_canSet_1 : List UInt8 := [170, 0, 0, 0, 0, 0, 179, 0, 0, 0, 0, 0, 0, 0, 7, 0, 0, 0, 47, 0, 0, 0, 47, 0, 0, 0, 56, 0, 0, 0, 64, 0, 0, 0, 72, 0, 0, 0, 105, 0, 0, 0, 129, 0, 0, 0, 154]
abbrev dktX0_canSet_1 : List UInt8 := dkwX0_canSet_1 ++ dktX0_canSet_2
def dkwX0_canSet_0 : List UInt8 := [27]
abbrev dktX0_canSet_0 : List UInt8 := dkwX0_canSet_0 ++ dktX0_canSet_1
theorem dksX0_canSet_0 : cX0_canSet.data.toList.drop 0 = dktX0_canSet_0 := by decide +kernel
theorem dksX0_canSet_1 : cX0_canSet.data.toList.drop 1 = dktX0_canSet_1 := dk_seg dksX0_canSet_0 1 rfl rfl
theorem dksX0_canSet_2 : cX0_canSet.data.toList.drop 48 = dktX0_canSet_2 := dk_seg dksX0_canSet_1 47 rfl rfl
theorem dksX0_canSet_3 : cX0_canSet.data.toList.drop 72 = dktX0_canSet_3 := dk_seg dksX0_canSet_2 24 rfl rfl
theorem dksX0_canSet_4 : cX0_canSet.data.toList.drop 94 = dktX0_canSet_4 := dk_seg dksX0_canSet_3 22 rfl rfl
theorem dksX0_canSet_5 : cX0_canSet.data.toList.drop 118 = dktX0_canSet_5 := dk_seg dksX0_canSet_4 24 rfl rfl
theorem dksX0_canSet_6 : cX0_canSet.data.toList.drop 140 = dktX0_canSet_6 := dk_seg dksX0_canSet_5 22 rfl rfl
theorem dksX0_canSet_7 : cX0_canSet.data.toList.drop 164 = dktX0_canSet_7 := dk_seg dksX0_canSet_6 24 rfl rfl
theorem dX0_canSet_0 : decode cX0_canSet 0 = .ok (.iload_n 1, 1) := dk_27 (dk_at dksX0_canSet_0 0 rfl rfl)
theorem dX0_canSet_1 : decode cX0_canSet 1 = .ok (.tableswitch 179 0 7 #[47, 47, 56, 64, 72, 105, 129, 154], 47) := by decide +kernel
theorem dX0_canSet_48 : decode cX0_canSet 48 = .ok (.iload_n 3, 1) := dk_29 (dk_at dksX0_canSet_2 0 rfl rfl)
theorem dX0_canSet_49 : decode cX0_canSet 49 = .ok (.iconst 0, 1) := dk_3 (dk_at dksX0_canSet_2 1 rfl rfl)
theorem dX0_canSet_50 : decode cX0_canSet 50 = .ok (.sipush 1000, 3) := dk_17 3 232 (dk_at dksX0_canSet_2 2 rfl rfl)
theorem dX0_canSet_53 : decode cX0_canSet 53 = .ok (.invokestatic 49, 3) := dk_184 0 49 (dk_at dksX0_canSet_2 5 rfl rfl)
theorem dX0_canSet_56 : decode cX0_canSet 56 = .ok (.ireturn, 1) := dk_172 (dk_at dksX0_canSet_2 8 rfl rfl)
theorem dX0_canSet_57 : decode cX0_canSet 57 = .ok (.iload_n 3, 1) := dk_29 (dk_at dksX0_canSet_2 9 rfl rfl)
theorem dX0_canSet_58 : decode cX0_canSet 58 = .ok (.iconst 1, 1) := dk_4 (dk_at dksX0_canSet_2 10 rfl rfl)
theorem dX0_canSet_59 : decode cX0_canSet 59 = .ok (.bipush 99, 2) := dk_16 99 (dk_at dksX0_canSet_2 11 rfl rfl)
theorem dX0_canSet_61 : decode cX0_canSet 61 = .ok (.invokestatic 49, 3) := dk_184 0 49 (dk_at dksX0_canSet_2 13 rfl rfl)
theorem dX0_canSet_64 : decode cX0_canSet 64 = .ok (.ireturn, 1) := dk_172 (dk_at dksX0_canSet_2 16 rfl rfl)
theorem dX0_canSet_65 : decode cX0_canSet 65 = .ok (.iload_n 3, 1) := dk_29 (dk_at dksX0_canSet_2 17 rfl rfl)
theorem dX0_canSet_66 : decode cX0_canSet 66 = .ok (.iconst 1, 1) := dk_4 (dk_at dksX0_canSet_2 18 rfl rfl)
theorem dX0_canSet_67 : decode cX0_canSet 67 = .ok (.bipush 52, 2) := dk_16 52 (dk_at dksX0_canSet_2 19 rfl rfl)
theorem dX0_canSet_69 : decode cX0_canSet 69 = .ok (.invokestatic 49, 3) := dk_184 0 49 (dk_at dksX0_canSet_2 21 rfl rfl)
theorem dX0_canSet_72 : decode cX0_canSet 72 = .ok (.ireturn, 1) := dk_172 (dk_at dksX0_canSet_3 0 rfl rfl)
theorem dX0_canSet_73 : decode cX0_canSet 73 = .ok (.iload_n 2, 1) := dk_28 (dk_at dksX0_canSet_3 1 rfl rfl)
theorem dX0_canSet_74 : decode cX0_canSet 74 = .ok (.iconst 0, 1) := dk_3 (dk_at dksX0_canSet_3 2 rfl rfl)
theorem dX0_canSet_75 : decode cX0_canSet 75 = .ok (.aload_n 0, 1) := dk_42 (dk_at dksX0_canSet_3 3 rfl rfl)
theorem dX0_canSet_76 : decode cX0_canSet 76 = .ok (.getfield 20, 3) := dk_180 0 20 (dk_at dksX0_canSet_3 4 rfl rfl)
theorem dX0_canSet_79 : decode cX0_canSet 79 = .ok (.getfield 156, 3) := dk_180 0 156 (dk_at dksX0_canSet_3 7 rfl rfl)
theorem dX0_canSet_82 : decode cX0_canSet 82 = .ok (.iconst 1, 1) := dk_4 (dk_at dksX0_canSet_3 10 rfl rfl)
theorem dX0_canSet_83 : decode cX0_canSet 83 = .ok (.isub, 1) := dk_100 (dk_at dksX0_canSet_3 11 rfl rfl)
theorem dX0_canSet_84 : decode cX0_canSet 84 = .ok (.invokestatic 49, 3) := dk_184 0 49 (dk_at dksX0_canSet_3 12 rfl rfl)
theorem dX0_canSet_87 : decode cX0_canSet 87 = .ok (.ifCond .eq 17, 3) := dk_153 0 17 (dk_at dksX0_canSet_3 15 rfl rfl)
theorem dX0_canSet_90 : decode cX0_canSet 90 = .ok (.iload_n 3, 1) := dk_29 (dk_at dksX0_canSet_3 18 rfl rfl)
theorem dX0_canSet_91 : decode cX0_canSet 91 = .ok (.iconst 0, 1) := dk_3 (dk_at dksX0_canSet_3 19 rfl rfl)
theorem dX0_canSet_92 : decode cX0_canSet 92 = .ok (.bipush 99, 2) := dk_16 99 (dk_at dksX0_canSet_3 20 rfl rfl)
theorem dX0_canSet_94 : decode cX0_canSet 94 = .ok (.invokestatic 49, 3) := dk_184 0 49 (dk_at dksX0_canSet_4 0 rfl rfl)
theorem dX0_canSet_97 : decode cX0_canSet 97 = .ok (.ifCond .eq 7, 3) := dk_153 0 7 (dk_at dksX0_canSet_4 3 rfl rfl)
theorem dX0_canSet_100 : decode cX0_canSet 100 = .ok (.iconst 1, 1) := dk_4 (dk_at dksX0_canSet_4 6 rfl rfl)
theorem dX0_canSet_101 : decode cX0_canSet 101 = .ok (.goto 4, 3) := dk_167 0 4 (dk_at dksX0_canSet_4 7 rfl rfl)
theorem dX0_canSet_104 : decode cX0_canSet 104 = .ok (.iconst 0, 1) := dk_3 (dk_at dksX0_canSet_4 10 rfl rfl)
theorem dX0_canSet_105 : decode cX0_canSet 105 = .ok (.ireturn, 1) := dk_172 (dk_at dksX0_canSet_4 11 rfl rfl)
theorem dX0_canSet_106 : decode cX0_canSet 106 = .ok (.aload_n 0, 1) := dk_42 (dk_at dksX0_canSet_4 12 rfl rfl)
theorem dX0_canSet_107 : decode cX0_canSet 107 = .ok (.iload_n 2, 1) := dk_28 (dk_at dksX0_canSet_4 13 rfl rfl)
theorem dX0_canSet_108 : decode cX0_canSet 108 = .ok (.invokevirtual 149, 3) := dk_182 0 149 (dk_at dksX0_canSet_4 14 rfl rfl)
theorem dX0_canSet_111 : decode cX0_canSet 111 = .ok (.ifCond .eq 17, 3) := dk_153 0 17 (dk_at dksX0_canSet_4 17 rfl rfl)
theorem dX0_canSet_114 : decode cX0_canSet 114 = .ok (.iload_n 3, 1) := dk_29 (dk_at dksX0_canSet_4 20 rfl rfl)
theorem dX0_canSet_115 : decode cX0_canSet 115 = .ok (.iconst 0, 1) := dk_3 (dk_at dksX0_canSet_4 21 rfl rfl)
theorem dX0_canSet_116 : decode cX0_canSet 116 = .ok (.bipush 20, 2) := dk_16 20 (dk_at dksX0_canSet_4 22 rfl rfl)
theorem dX0_canSet_118 : decode cX0_canSet 118 = .ok (.invokestatic 49, 3) := dk_184 0 49 (dk_at dksX0_canSet_5 0 rfl rfl)
theorem dX0_canSet_121 : decode cX0_canSet 121 = .ok (.ifCond .eq 7, 3) := dk_153 0 7 (dk_at dksX0_canSet_5 3 rfl rfl)
theorem dX0_canSet_124 : decode cX0_canSet 124 = .ok (.iconst 1, 1) := dk_4 (dk_at dksX0_canSet_5 6 rfl rfl)
theorem dX0_canSet_125 : decode cX0_canSet 125 = .ok (.goto 4, 3) := dk_167 0 4 (dk_at dksX0_canSet_5 7 rfl rfl)
theorem dX0_canSet_128 : decode cX0_canSet 128 = .ok (.iconst 0, 1) := dk_3 (dk_at dksX0_canSet_5 10 rfl rfl)
theorem dX0_canSet_129 : decode cX0_canSet 129 = .ok (.ireturn, 1) := dk_172 (dk_at dksX0_canSet_5 11 rfl rfl)
theorem dX0_canSet_130 : decode cX0_canSet 130 = .ok (.aload_n 0, 1) := dk_42 (dk_at dksX0_canSet_5 12 rfl rfl)
theorem dX0_canSet_131 : decode cX0_canSet 131 = .ok (.iload_n 2, 1) := dk_28 (dk_at dksX0_canSet_5 13 rfl rfl)
theorem dX0_canSet_132 : decode cX0_canSet 132 = .ok (.invokevirtual 153, 3) := dk_182 0 153 (dk_at dksX0_canSet_5 14 rfl rfl)
theorem dX0_canSet_135 : decode cX0_canSet 135 = .ok (.ifCond .eq 18, 3) := dk_153 0 18 (dk_at dksX0_canSet_5 17 rfl rfl)
theorem dX0_canSet_138 : decode cX0_canSet 138 = .ok (.iload_n 3, 1) := dk_29 (dk_at dksX0_canSet_5 20 rfl rfl)
theorem dX0_canSet_139 : decode cX0_canSet 139 = .ok (.iconst 0, 1) := dk_3 (dk_at dksX0_canSet_5 21 rfl rfl)
theorem dX0_canSet_140 : decode cX0_canSet 140 = .ok (.sipush 999, 3) := dk_17 3 231 (dk_at dksX0_canSet_6 0 rfl rfl)
theorem dX0_canSet_143 : decode cX0_canSet 143 = .ok (.invokestatic 49, 3) := dk_184 0 49 (dk_at dksX0_canSet_6 3 rfl rfl)
theorem dX0_canSet_146 : decode cX0_canSet 146 = .ok (.ifCond .eq 7, 3) := dk_153 0 7 (dk_at dksX0_canSet_6 6 rfl rfl)
theorem dX0_canSet_149 : decode cX0_canSet 149 = .ok (.iconst 1, 1) := dk_4 (dk_at dksX0_canSet_6 9 rfl rfl)
theorem dX0_canSet_150 : decode cX0_canSet 150 = .ok (.goto 4, 3) := dk_167 0 4 (dk_at dksX0_canSet_6 10 rfl rfl)
theorem dX0_canSet_153 : decode cX0_canSet 153 = .ok (.iconst 0, 1) := dk_3 (dk_at dksX0_canSet_6 13 rfl rfl)
theorem dX0_canSet_154 : decode cX0_canSet 154 = .ok (.ireturn, 1) := dk_172 (dk_at dksX0_canSet_6 14 rfl rfl)
theorem dX0_canSet_155 : decode cX0_canSet 155 = .ok (.aload_n 0, 1) := dk_42 (dk_at dksX0_canSet_6 15 rfl rfl)
theorem dX0_canSet_156 : decode cX0_canSet 156 = .ok (.iload_n 2, 1) := dk_28 (dk_at dksX0_canSet_6 16 rfl rfl)
theorem dX0_canSet_157 : decode cX0_canSet 157 = .ok (.invokevirtual 153, 3) := dk_182 0 153 (dk_at dksX0_canSet_6 17 rfl rfl)
theorem dX0_canSet_160 : decode cX0_canSet 160 = .ok (.ifCond .eq 18, 3) := dk_153 0 18 (dk_at dksX0_canSet_6 20 rfl rfl)
theorem dX0_canSet_163 : decode cX0_canSet 163 = .ok (.iload_n 3, 1) := dk_29 (dk_at dksX0_canSet_6 23 rfl rfl)
theorem dX0_canSet_164 : decode cX0_canSet 164 = .ok (.iconst 0, 1) := dk_3 (dk_at dksX0_canSet_7 0 rfl rfl)
theorem dX0_canSet_165 : decode cX0_canSet 165 = .ok (.sipush 9999, 3) := dk_17 39 15 (dk_at dksX0_canSet_7 1 rfl rfl)
theorem dX0_canSet_168 : decode cX0_canSet 168 = .ok (.invokestatic 49, 3) := dk_184 0 49 (dk_at dksX0_canSet_7 4 rfl rfl)
theorem dX0_canSet_171 : decode cX0_canSet 171 = .ok (.ifCond .eq 7, 3) := dk_153 0 7 (dk_at dksX0_canSet_7 7 rfl rfl)
theorem dX0_canSet_174 : decode cX0_canSet 174 = .ok (.iconst 1, 1) := dk_4 (dk_at dksX0_canSet_7 10 rfl rfl)
theorem dX0_canSet_175 : decode cX0_canSet 175 = .ok (.goto 4, 3) := dk_167 0 4 (dk_at dksX0_canSet_7 11 rfl rfl)
theorem dX0_canSet_178 : decode cX0_canSet 178 = .ok (.iconst 0, 1) := dk_3 (dk_at dksX0_canSet_7 14 rfl rfl)
theorem dX0_canSet_179 : decode cX0_canSet 179 = .ok (.ireturn, 1) := dk_172 (dk_at dksX0_canSet_7 15 rfl rfl)
theorem dX0_canSet_180 : decode cX0_canSet 180 = .ok (.iconst 0, 1) := dk_3 (dk_at dksX0_canSet_7 16 rfl rfl)
theorem dX0_canSet_181 : decode cX0_canSet 181 = .ok (.ireturn, 1) := dk_172 (dk_at dksX0_canSet_7 17 rfl rfl)
abbrev cX0_plant : ByteArray := prog_1_method_21_code
def yX0_plant : MethodName := ⟨RX0, "plant", "(III)I"⟩
def dkwX0_plant_2 : List UInt8 := [180, 0, 20, 27, 28, 29, 182, 0, 189, 172]
abbrev dktX0_plant_2 : List UInt8 := dkwX0_plant_2 ++ []
def dkwX0_plant_1 : List UInt8 := [153, 0, 15, 42, 180, 0, 20, 180, 0, 156, 16, 14, 160, 0, 5, 2, 172, 42, 182, 0, 186, 42]
abbrev dktX0_plant_1 : List UInt8 := dkwX0_plant_1 ++ dktX0_plant_2
def dkwX0_plant_0 : List UInt8 := [42, 27, 182, 0, 153, 153, 0, 32, 28, 184, 0, 183, 153, 0, 25, 29, 3, 16, 99, 184, 0, 49]
abbrev dktX0_plant_0 : List UInt8 := dkwX0_plant_0 ++ dktX0_plant_1
theorem dksX0_plant_0 : cX0_plant.data.toList.drop 0 = dktX0_plant_0 := by decide +kernel
theorem dksX0_plant_1 : cX0_plant.data.toList.drop 22 = dktX0_plant_1 := dk_seg dksX0_plant_0 22 rfl rfl
theorem dksX0_plant_2 : cX0_plant.data.toList.drop 44 = dktX0_plant_2 := dk_seg dksX0_plant_1 22 rfl rfl
theorem dX0_plant_0 : decode cX0_plant 0 = .ok (.aload_n 0, 1) := dk_42 (dk_at dksX0_plant_0 0 rfl rfl)
theorem dX0_plant_1 : decode cX0_plant 1 = .ok (.iload_n 1, 1) := dk_27 (dk_at dksX0_plant_0 1 rfl rfl)
theorem dX0_plant_2 : decode cX0_plant 2 = .ok (.invokevirtual 153, 3) := dk_182 0 153 (dk_at dksX0_plant_0 2 rfl rfl)
theorem dX0_plant_5 : decode cX0_plant 5 = .ok (.ifCond .eq 32, 3) := dk_153 0 32 (dk_at dksX0_plant_0 5 rfl rfl)
theorem dX0_plant_8 : decode cX0_plant 8 = .ok (.iload_n 2, 1) := dk_28 (dk_at dksX0_plant_0 8 rfl rfl)
theorem dX0_plant_9 : decode cX0_plant 9 = .ok (.invokestatic 183, 3) := dk_184 0 183 (dk_at dksX0_plant_0 9 rfl rfl)
theorem dX0_plant_12 : decode cX0_plant 12 = .ok (.ifCond .eq 25, 3) := dk_153 0 25 (dk_at dksX0_plant_0 12 rfl rfl)
theorem dX0_plant_15 : decode cX0_plant 15 = .ok (.iload_n 3, 1) := dk_29 (dk_at dksX0_plant_0 15 rfl rfl)
theorem dX0_plant_16 : decode cX0_plant 16 = .ok (.iconst 0, 1) := dk_3 (dk_at dksX0_plant_0 16 rfl rfl)
theorem dX0_plant_17 : decode cX0_plant 17 = .ok (.bipush 99, 2) := dk_16 99 (dk_at dksX0_plant_0 17 rfl rfl)
theorem dX0_plant_19 : decode cX0_plant 19 = .ok (.invokestatic 49, 3) := dk_184 0 49 (dk_at dksX0_plant_0 19 rfl rfl)
theorem dX0_plant_22 : decode cX0_plant 22 = .ok (.ifCond .eq 15, 3) := dk_153 0 15 (dk_at dksX0_plant_1 0 rfl rfl)
theorem dX0_plant_25 : decode cX0_plant 25 = .ok (.aload_n 0, 1) := dk_42 (dk_at dksX0_plant_1 3 rfl rfl)
theorem dX0_plant_26 : decode cX0_plant 26 = .ok (.getfield 20, 3) := dk_180 0 20 (dk_at dksX0_plant_1 4 rfl rfl)
theorem dX0_plant_29 : decode cX0_plant 29 = .ok (.getfield 156, 3) := dk_180 0 156 (dk_at dksX0_plant_1 7 rfl rfl)
theorem dX0_plant_32 : decode cX0_plant 32 = .ok (.bipush 14, 2) := dk_16 14 (dk_at dksX0_plant_1 10 rfl rfl)
theorem dX0_plant_34 : decode cX0_plant 34 = .ok (.if_icmp .ne 5, 3) := dk_160 0 5 (dk_at dksX0_plant_1 12 rfl rfl)
theorem dX0_plant_37 : decode cX0_plant 37 = .ok (.iconst (-1), 1) := dk_2 (dk_at dksX0_plant_1 15 rfl rfl)
theorem dX0_plant_38 : decode cX0_plant 38 = .ok (.ireturn, 1) := dk_172 (dk_at dksX0_plant_1 16 rfl rfl)
theorem dX0_plant_39 : decode cX0_plant 39 = .ok (.aload_n 0, 1) := dk_42 (dk_at dksX0_plant_1 17 rfl rfl)
theorem dX0_plant_40 : decode cX0_plant 40 = .ok (.invokevirtual 186, 3) := dk_182 0 186 (dk_at dksX0_plant_1 18 rfl rfl)
theorem dX0_plant_43 : decode cX0_plant 43 = .ok (.aload_n 0, 1) := dk_42 (dk_at dksX0_plant_1 21 rfl rfl)
theorem dX0_plant_44 : decode cX0_plant 44 = .ok (.getfield 20, 3) := dk_180 0 20 (dk_at dksX0_plant_2 0 rfl rfl)
theorem dX0_plant_47 : decode cX0_plant 47 = .ok (.iload_n 1, 1) := dk_27 (dk_at dksX0_plant_2 3 rfl rfl)
theorem dX0_plant_48 : decode cX0_plant 48 = .ok (.iload_n 2, 1) := dk_28 (dk_at dksX0_plant_2 4 rfl rfl)
theorem dX0_plant_49 : decode cX0_plant 49 = .ok (.iload_n 3, 1) := dk_29 (dk_at dksX0_plant_2 5 rfl rfl)
theorem dX0_plant_50 : decode cX0_plant 50 = .ok (.invokevirtual 189, 3) := dk_182 0 189 (dk_at dksX0_plant_2 6 rfl rfl)
theorem dX0_plant_53 : decode cX0_plant 53 = .ok (.ireturn, 1) := dk_172 (dk_at dksX0_plant_2 9 rfl rfl)
abbrev cX0_isPlace : ByteArray := prog_1_method_14_code
def yX0_isPlace : MethodName := ⟨RX0, "isPlace", "(I)Z"⟩
def dkwX0_isPlace_0 : List UInt8 := [26, 3, 16, 9, 184, 0, 49, 172]
abbrev dktX0_isPlace_0 : List UInt8 := dkwX0_isPlace_0 ++ []
theorem dksX0_isPlace_0 : cX0_isPlace.data.toList.drop 0 = dktX0_isPlace_0 := by decide +kernel
theorem dX0_isPlace_0 : decode cX0_isPlace 0 = .ok (.iload_n 0, 1) := dk_26 (dk_at dksX0_isPlace_0 0 rfl rfl)
theorem dX0_isPlace_1 : decode cX0_isPlace 1 = .ok (.iconst 0, 1) := dk_3 (dk_at dksX0_isPlace_0 1 rfl rfl)
theorem dX0_isPlace_2 : decode cX0_isPlace 2 = .ok (.bipush 9, 2) := dk_16 9 (dk_at dksX0_isPlace_0 2 rfl rfl)
theorem dX0_isPlace_4 : decode cX0_isPlace 4 = .ok (.invokestatic 49, 3) := dk_184 0 49 (dk_at dksX0_isPlace_0 4 rfl rfl)
theorem dX0_isPlace_7 : decode cX0_isPlace 7 = .ok (.ireturn, 1) := dk_172 (dk_at dksX0_isPlace_0 7 rfl rfl)
abbrev cX0_keeps : ByteArray := prog_1_method_10_code
def yX0_keeps : MethodName := ⟨RX0, "keeps", "()V"⟩
def dkwX0_keeps_3 : List UInt8 := [180, 0, 20, 182, 0, 109, 42, 89, 180, 0, 106, 4, 96, 181, 0, 106, 177]
abbrev dktX0_keeps_3 : List UInt8 := dkwX0_keeps_3 ++ []
def dkwX0_keeps_2 : List UInt8 := [8, 43, 83, 42, 89, 180, 0, 106, 4, 100, 181, 0, 106, 42, 180, 0, 30, 42, 180, 0, 106, 50, 42]
abbrev dktX0_keeps_2 : List UInt8 := dkwX0_keeps_2 ++ dktX0_keeps_3
def dkwX0_keeps_1 : List UInt8 := [42, 180, 0, 30, 28, 4, 100, 42, 180, 0, 30, 28, 50, 83, 132, 2, 1, 167, 255, 233, 42, 180, 0, 30]
abbrev dktX0_keeps_1 : List UInt8 := dkwX0_keeps_1 ++ dktX0_keeps_2
def dkwX0_keeps_0 : List UInt8 := [42, 180, 0, 106, 16, 6, 160, 0, 55, 42, 180, 0, 30, 3, 50, 76, 4, 61, 28, 16, 6, 162, 0, 23]
abbrev dktX0_keeps_0 : List UInt8 := dkwX0_keeps_0 ++ dktX0_keeps_1
theorem dksX0_keeps_0 : cX0_keeps.data.toList.drop 0 = dktX0_keeps_0 := by decide +kernel
theorem dksX0_keeps_1 : cX0_keeps.data.toList.drop 24 = dktX0_keeps_1 := dk_seg dksX0_keeps_0 24 rfl rfl
theorem dksX0_keeps_2 : cX0_keeps.data.toList.drop 48 = dktX0_keeps_2 := dk_seg dksX0_keeps_1 24 rfl rfl
theorem dksX0_keeps_3 : cX0_keeps.data.toList.drop 71 = dktX0_keeps_3 := dk_seg dksX0_keeps_2 23 rfl rfl
theorem dX0_keeps_0 : decode cX0_keeps 0 = .ok (.aload_n 0, 1) := dk_42 (dk_at dksX0_keeps_0 0 rfl rfl)
theorem dX0_keeps_1 : decode cX0_keeps 1 = .ok (.getfield 106, 3) := dk_180 0 106 (dk_at dksX0_keeps_0 1 rfl rfl)
theorem dX0_keeps_4 : decode cX0_keeps 4 = .ok (.bipush 6, 2) := dk_16 6 (dk_at dksX0_keeps_0 4 rfl rfl)
theorem dX0_keeps_6 : decode cX0_keeps 6 = .ok (.if_icmp .ne 55, 3) := dk_160 0 55 (dk_at dksX0_keeps_0 6 rfl rfl)
theorem dX0_keeps_9 : decode cX0_keeps 9 = .ok (.aload_n 0, 1) := dk_42 (dk_at dksX0_keeps_0 9 rfl rfl)
theorem dX0_keeps_10 : decode cX0_keeps 10 = .ok (.getfield 30, 3) := dk_180 0 30 (dk_at dksX0_keeps_0 10 rfl rfl)
theorem dX0_keeps_13 : decode cX0_keeps 13 = .ok (.iconst 0, 1) := dk_3 (dk_at dksX0_keeps_0 13 rfl rfl)
theorem dX0_keeps_14 : decode cX0_keeps 14 = .ok (.aaload, 1) := dk_50 (dk_at dksX0_keeps_0 14 rfl rfl)
theorem dX0_keeps_15 : decode cX0_keeps 15 = .ok (.astore_n 1, 1) := dk_76 (dk_at dksX0_keeps_0 15 rfl rfl)
theorem dX0_keeps_16 : decode cX0_keeps 16 = .ok (.iconst 1, 1) := dk_4 (dk_at dksX0_keeps_0 16 rfl rfl)
theorem dX0_keeps_17 : decode cX0_keeps 17 = .ok (.istore_n 2, 1) := dk_61 (dk_at dksX0_keeps_0 17 rfl rfl)
theorem dX0_keeps_18 : decode cX0_keeps 18 = .ok (.iload_n 2, 1) := dk_28 (dk_at dksX0_keeps_0 18 rfl rfl)
theorem dX0_keeps_19 : decode cX0_keeps 19 = .ok (.bipush 6, 2) := dk_16 6 (dk_at dksX0_keeps_0 19 rfl rfl)
theorem dX0_keeps_21 : decode cX0_keeps 21 = .ok (.if_icmp .ge 23, 3) := dk_162 0 23 (dk_at dksX0_keeps_0 21 rfl rfl)
theorem dX0_keeps_24 : decode cX0_keeps 24 = .ok (.aload_n 0, 1) := dk_42 (dk_at dksX0_keeps_1 0 rfl rfl)
theorem dX0_keeps_25 : decode cX0_keeps 25 = .ok (.getfield 30, 3) := dk_180 0 30 (dk_at dksX0_keeps_1 1 rfl rfl)
theorem dX0_keeps_28 : decode cX0_keeps 28 = .ok (.iload_n 2, 1) := dk_28 (dk_at dksX0_keeps_1 4 rfl rfl)
theorem dX0_keeps_29 : decode cX0_keeps 29 = .ok (.iconst 1, 1) := dk_4 (dk_at dksX0_keeps_1 5 rfl rfl)
theorem dX0_keeps_30 : decode cX0_keeps 30 = .ok (.isub, 1) := dk_100 (dk_at dksX0_keeps_1 6 rfl rfl)
theorem dX0_keeps_31 : decode cX0_keeps 31 = .ok (.aload_n 0, 1) := dk_42 (dk_at dksX0_keeps_1 7 rfl rfl)
theorem dX0_keeps_32 : decode cX0_keeps 32 = .ok (.getfield 30, 3) := dk_180 0 30 (dk_at dksX0_keeps_1 8 rfl rfl)
theorem dX0_keeps_35 : decode cX0_keeps 35 = .ok (.iload_n 2, 1) := dk_28 (dk_at dksX0_keeps_1 11 rfl rfl)
theorem dX0_keeps_36 : decode cX0_keeps 36 = .ok (.aaload, 1) := dk_50 (dk_at dksX0_keeps_1 12 rfl rfl)
theorem dX0_keeps_37 : decode cX0_keeps 37 = .ok (.aastore, 1) := dk_83 (dk_at dksX0_keeps_1 13 rfl rfl)
theorem dX0_keeps_38 : decode cX0_keeps 38 = .ok (.iinc 2 1, 3) := dk_132 2 1 (dk_at dksX0_keeps_1 14 rfl rfl)
theorem dX0_keeps_41 : decode cX0_keeps 41 = .ok (.goto (-23), 3) := dk_167 255 233 (dk_at dksX0_keeps_1 17 rfl rfl)
theorem dX0_keeps_44 : decode cX0_keeps 44 = .ok (.aload_n 0, 1) := dk_42 (dk_at dksX0_keeps_1 20 rfl rfl)
theorem dX0_keeps_45 : decode cX0_keeps 45 = .ok (.getfield 30, 3) := dk_180 0 30 (dk_at dksX0_keeps_1 21 rfl rfl)
theorem dX0_keeps_48 : decode cX0_keeps 48 = .ok (.iconst 5, 1) := dk_8 (dk_at dksX0_keeps_2 0 rfl rfl)
theorem dX0_keeps_49 : decode cX0_keeps 49 = .ok (.aload_n 1, 1) := dk_43 (dk_at dksX0_keeps_2 1 rfl rfl)
theorem dX0_keeps_50 : decode cX0_keeps 50 = .ok (.aastore, 1) := dk_83 (dk_at dksX0_keeps_2 2 rfl rfl)
theorem dX0_keeps_51 : decode cX0_keeps 51 = .ok (.aload_n 0, 1) := dk_42 (dk_at dksX0_keeps_2 3 rfl rfl)
theorem dX0_keeps_52 : decode cX0_keeps 52 = .ok (.dup, 1) := dk_89 (dk_at dksX0_keeps_2 4 rfl rfl)
theorem dX0_keeps_53 : decode cX0_keeps 53 = .ok (.getfield 106, 3) := dk_180 0 106 (dk_at dksX0_keeps_2 5 rfl rfl)
theorem dX0_keeps_56 : decode cX0_keeps 56 = .ok (.iconst 1, 1) := dk_4 (dk_at dksX0_keeps_2 8 rfl rfl)
theorem dX0_keeps_57 : decode cX0_keeps 57 = .ok (.isub, 1) := dk_100 (dk_at dksX0_keeps_2 9 rfl rfl)
theorem dX0_keeps_58 : decode cX0_keeps 58 = .ok (.putfield 106, 3) := dk_181 0 106 (dk_at dksX0_keeps_2 10 rfl rfl)
theorem dX0_keeps_61 : decode cX0_keeps 61 = .ok (.aload_n 0, 1) := dk_42 (dk_at dksX0_keeps_2 13 rfl rfl)
theorem dX0_keeps_62 : decode cX0_keeps 62 = .ok (.getfield 30, 3) := dk_180 0 30 (dk_at dksX0_keeps_2 14 rfl rfl)
theorem dX0_keeps_65 : decode cX0_keeps 65 = .ok (.aload_n 0, 1) := dk_42 (dk_at dksX0_keeps_2 17 rfl rfl)
theorem dX0_keeps_66 : decode cX0_keeps 66 = .ok (.getfield 106, 3) := dk_180 0 106 (dk_at dksX0_keeps_2 18 rfl rfl)
theorem dX0_keeps_69 : decode cX0_keeps 69 = .ok (.aaload, 1) := dk_50 (dk_at dksX0_keeps_2 21 rfl rfl)
theorem dX0_keeps_70 : decode cX0_keeps 70 = .ok (.aload_n 0, 1) := dk_42 (dk_at dksX0_keeps_2 22 rfl rfl)
theorem dX0_keeps_71 : decode cX0_keeps 71 = .ok (.getfield 20, 3) := dk_180 0 20 (dk_at dksX0_keeps_3 0 rfl rfl)
theorem dX0_keeps_74 : decode cX0_keeps 74 = .ok (.invokevirtual 109, 3) := dk_182 0 109 (dk_at dksX0_keeps_3 3 rfl rfl)
theorem dX0_keeps_77 : decode cX0_keeps 77 = .ok (.aload_n 0, 1) := dk_42 (dk_at dksX0_keeps_3 6 rfl rfl)
theorem dX0_keeps_78 : decode cX0_keeps 78 = .ok (.dup, 1) := dk_89 (dk_at dksX0_keeps_3 7 rfl rfl)
theorem dX0_keeps_79 : decode cX0_keeps 79 = .ok (.getfield 106, 3) := dk_180 0 106 (dk_at dksX0_keeps_3 8 rfl rfl)
theorem dX0_keeps_82 : decode cX0_keeps 82 = .ok (.iconst 1, 1) := dk_4 (dk_at dksX0_keeps_3 11 rfl rfl)
theorem dX0_keeps_83 : decode cX0_keeps 83 = .ok (.iadd, 1) := dk_96 (dk_at dksX0_keeps_3 12 rfl rfl)
theorem dX0_keeps_84 : decode cX0_keeps 84 = .ok (.putfield 106, 3) := dk_181 0 106 (dk_at dksX0_keeps_3 13 rfl rfl)
theorem dX0_keeps_87 : decode cX0_keeps 87 = .ok (.return_, 1) := dk_177 (dk_at dksX0_keeps_3 16 rfl rfl)
abbrev cX0_fence : ByteArray := prog_1_method_22_code
def yX0_fence : MethodName := ⟨RX0, "fence", "(IZ)Z"⟩
def dkwX0_fence_1 : List UInt8 := [182, 0, 186, 42, 180, 0, 20, 27, 28, 182, 0, 196, 4, 172]
abbrev dktX0_fence_1 : List UInt8 := dkwX0_fence_1 ++ []
def dkwX0_fence_0 : List UInt8 := [27, 184, 0, 183, 153, 0, 15, 42, 180, 0, 20, 27, 182, 0, 193, 28, 160, 0, 5, 3, 172, 42]
abbrev dktX0_fence_0 : List UInt8 := dkwX0_fence_0 ++ dktX0_fence_1
theorem dksX0_fence_0 : cX0_fence.data.toList.drop 0 = dktX0_fence_0 := by decide +kernel
theorem dksX0_fence_1 : cX0_fence.data.toList.drop 22 = dktX0_fence_1 := dk_seg dksX0_fence_0 22 rfl rfl
theorem dX0_fence_0 : decode cX0_fence 0 = .ok (.iload_n 1, 1) := dk_27 (dk_at dksX0_fence_0 0 rfl rfl)
theorem dX0_fence_1 : decode cX0_fence 1 = .ok (.invokestatic 183, 3) := dk_184 0 183 (dk_at dksX0_fence_0 1 rfl rfl)
theorem dX0_fence_4 : decode cX0_fence 4 = .ok (.ifCond .eq 15, 3) := dk_153 0 15 (dk_at dksX0_fence_0 4 rfl rfl)
theorem dX0_fence_7 : decode cX0_fence 7 = .ok (.aload_n 0, 1) := dk_42 (dk_at dksX0_fence_0 7 rfl rfl)
theorem dX0_fence_8 : decode cX0_fence 8 = .ok (.getfield 20, 3) := dk_180 0 20 (dk_at dksX0_fence_0 8 rfl rfl)
theorem dX0_fence_11 : decode cX0_fence 11 = .ok (.iload_n 1, 1) := dk_27 (dk_at dksX0_fence_0 11 rfl rfl)
theorem dX0_fence_12 : decode cX0_fence 12 = .ok (.invokevirtual 193, 3) := dk_182 0 193 (dk_at dksX0_fence_0 12 rfl rfl)
theorem dX0_fence_15 : decode cX0_fence 15 = .ok (.iload_n 2, 1) := dk_28 (dk_at dksX0_fence_0 15 rfl rfl)
theorem dX0_fence_16 : decode cX0_fence 16 = .ok (.if_icmp .ne 5, 3) := dk_160 0 5 (dk_at dksX0_fence_0 16 rfl rfl)
theorem dX0_fence_19 : decode cX0_fence 19 = .ok (.iconst 0, 1) := dk_3 (dk_at dksX0_fence_0 19 rfl rfl)
theorem dX0_fence_20 : decode cX0_fence 20 = .ok (.ireturn, 1) := dk_172 (dk_at dksX0_fence_0 20 rfl rfl)
theorem dX0_fence_21 : decode cX0_fence 21 = .ok (.aload_n 0, 1) := dk_42 (dk_at dksX0_fence_0 21 rfl rfl)
theorem dX0_fence_22 : decode cX0_fence 22 = .ok (.invokevirtual 186, 3) := dk_182 0 186 (dk_at dksX0_fence_1 0 rfl rfl)
theorem dX0_fence_25 : decode cX0_fence 25 = .ok (.aload_n 0, 1) := dk_42 (dk_at dksX0_fence_1 3 rfl rfl)
theorem dX0_fence_26 : decode cX0_fence 26 = .ok (.getfield 20, 3) := dk_180 0 20 (dk_at dksX0_fence_1 4 rfl rfl)
theorem dX0_fence_29 : decode cX0_fence 29 = .ok (.iload_n 1, 1) := dk_27 (dk_at dksX0_fence_1 7 rfl rfl)
theorem dX0_fence_30 : decode cX0_fence 30 = .ok (.iload_n 2, 1) := dk_28 (dk_at dksX0_fence_1 8 rfl rfl)
theorem dX0_fence_31 : decode cX0_fence 31 = .ok (.invokevirtual 196, 3) := dk_182 0 196 (dk_at dksX0_fence_1 9 rfl rfl)
theorem dX0_fence_34 : decode cX0_fence 34 = .ok (.iconst 1, 1) := dk_4 (dk_at dksX0_fence_1 12 rfl rfl)
theorem dX0_fence_35 : decode cX0_fence 35 = .ok (.ireturn, 1) := dk_172 (dk_at dksX0_fence_1 13 rfl rfl)
abbrev cX0_boil : ByteArray := prog_1_method_23_code
def yX0_boil : MethodName := ⟨RX0, "boil", "(II)I"⟩
def dkwX0_boil_1 : List UInt8 := [42, 180, 0, 20, 27, 28, 182, 0, 200, 172]
abbrev dktX0_boil_1 : List UInt8 := dkwX0_boil_1 ++ []
def dkwX0_boil_0 : List UInt8 := [42, 27, 182, 0, 153, 153, 0, 13, 28, 4, 16, 99, 184, 0, 49, 154, 0, 5, 2, 172, 42, 182, 0, 186]
abbrev dktX0_boil_0 : List UInt8 := dkwX0_boil_0 ++ dktX0_boil_1
theorem dksX0_boil_0 : cX0_boil.data.toList.drop 0 = dktX0_boil_0 := by decide +kernel
theorem dksX0_boil_1 : cX0_boil.data.toList.drop 24 = dktX0_boil_1 := dk_seg dksX0_boil_0 24 rfl rfl
theorem dX0_boil_0 : decode cX0_boil 0 = .ok (.aload_n 0, 1) := dk_42 (dk_at dksX0_boil_0 0 rfl rfl)
theorem dX0_boil_1 : decode cX0_boil 1 = .ok (.iload_n 1, 1) := dk_27 (dk_at dksX0_boil_0 1 rfl rfl)
theorem dX0_boil_2 : decode cX0_boil 2 = .ok (.invokevirtual 153, 3) := dk_182 0 153 (dk_at dksX0_boil_0 2 rfl rfl)
theorem dX0_boil_5 : decode cX0_boil 5 = .ok (.ifCond .eq 13, 3) := dk_153 0 13 (dk_at dksX0_boil_0 5 rfl rfl)
theorem dX0_boil_8 : decode cX0_boil 8 = .ok (.iload_n 2, 1) := dk_28 (dk_at dksX0_boil_0 8 rfl rfl)
theorem dX0_boil_9 : decode cX0_boil 9 = .ok (.iconst 1, 1) := dk_4 (dk_at dksX0_boil_0 9 rfl rfl)
theorem dX0_boil_10 : decode cX0_boil 10 = .ok (.bipush 99, 2) := dk_16 99 (dk_at dksX0_boil_0 10 rfl rfl)
theorem dX0_boil_12 : decode cX0_boil 12 = .ok (.invokestatic 49, 3) := dk_184 0 49 (dk_at dksX0_boil_0 12 rfl rfl)
theorem dX0_boil_15 : decode cX0_boil 15 = .ok (.ifCond .ne 5, 3) := dk_154 0 5 (dk_at dksX0_boil_0 15 rfl rfl)
theorem dX0_boil_18 : decode cX0_boil 18 = .ok (.iconst (-1), 1) := dk_2 (dk_at dksX0_boil_0 18 rfl rfl)
theorem dX0_boil_19 : decode cX0_boil 19 = .ok (.ireturn, 1) := dk_172 (dk_at dksX0_boil_0 19 rfl rfl)
theorem dX0_boil_20 : decode cX0_boil 20 = .ok (.aload_n 0, 1) := dk_42 (dk_at dksX0_boil_0 20 rfl rfl)
theorem dX0_boil_21 : decode cX0_boil 21 = .ok (.invokevirtual 186, 3) := dk_182 0 186 (dk_at dksX0_boil_0 21 rfl rfl)
theorem dX0_boil_24 : decode cX0_boil 24 = .ok (.aload_n 0, 1) := dk_42 (dk_at dksX0_boil_1 0 rfl rfl)
theorem dX0_boil_25 : decode cX0_boil 25 = .ok (.getfield 20, 3) := dk_180 0 20 (dk_at dksX0_boil_1 1 rfl rfl)
theorem dX0_boil_28 : decode cX0_boil 28 = .ok (.iload_n 1, 1) := dk_27 (dk_at dksX0_boil_1 4 rfl rfl)
theorem dX0_boil_29 : decode cX0_boil 29 = .ok (.iload_n 2, 1) := dk_28 (dk_at dksX0_boil_1 5 rfl rfl)
theorem dX0_boil_30 : decode cX0_boil 30 = .ok (.invokevirtual 200, 3) := dk_182 0 200 (dk_at dksX0_boil_1 6 rfl rfl)
theorem dX0_boil_33 : decode cX0_boil 33 = .ok (.ireturn, 1) := dk_172 (dk_at dksX0_boil_1 9 rfl rfl)
abbrev cX0_weeks : ByteArray := prog_1_method_24_code
def yX0_weeks : MethodName := ⟨RX0, "weeks", "(I)I"⟩
def dkwX0_weeks_2 : List UInt8 := [182, 0, 207, 96, 61, 132, 3, 1, 167, 255, 234, 28, 172]
abbrev dktX0_weeks_2 : List UInt8 := dkwX0_weeks_2 ++ []
def dkwX0_weeks_1 : List UInt8 := [164, 0, 5, 2, 172, 3, 61, 3, 62, 29, 27, 162, 0, 23, 42, 182, 0, 186, 28, 42, 180, 0, 20]
abbrev dktX0_weeks_1 : List UInt8 := dkwX0_weeks_1 ++ dktX0_weeks_2
def dkwX0_weeks_0 : List UInt8 := [27, 4, 16, 60, 184, 0, 49, 153, 0, 18, 42, 180, 0, 20, 180, 0, 204, 27, 96, 17, 39, 15]
abbrev dktX0_weeks_0 : List UInt8 := dkwX0_weeks_0 ++ dktX0_weeks_1
theorem dksX0_weeks_0 : cX0_weeks.data.toList.drop 0 = dktX0_weeks_0 := by decide +kernel
theorem dksX0_weeks_1 : cX0_weeks.data.toList.drop 22 = dktX0_weeks_1 := dk_seg dksX0_weeks_0 22 rfl rfl
theorem dksX0_weeks_2 : cX0_weeks.data.toList.drop 45 = dktX0_weeks_2 := dk_seg dksX0_weeks_1 23 rfl rfl
theorem dX0_weeks_0 : decode cX0_weeks 0 = .ok (.iload_n 1, 1) := dk_27 (dk_at dksX0_weeks_0 0 rfl rfl)
theorem dX0_weeks_1 : decode cX0_weeks 1 = .ok (.iconst 1, 1) := dk_4 (dk_at dksX0_weeks_0 1 rfl rfl)
theorem dX0_weeks_2 : decode cX0_weeks 2 = .ok (.bipush 60, 2) := dk_16 60 (dk_at dksX0_weeks_0 2 rfl rfl)
theorem dX0_weeks_4 : decode cX0_weeks 4 = .ok (.invokestatic 49, 3) := dk_184 0 49 (dk_at dksX0_weeks_0 4 rfl rfl)
theorem dX0_weeks_7 : decode cX0_weeks 7 = .ok (.ifCond .eq 18, 3) := dk_153 0 18 (dk_at dksX0_weeks_0 7 rfl rfl)
theorem dX0_weeks_10 : decode cX0_weeks 10 = .ok (.aload_n 0, 1) := dk_42 (dk_at dksX0_weeks_0 10 rfl rfl)
theorem dX0_weeks_11 : decode cX0_weeks 11 = .ok (.getfield 20, 3) := dk_180 0 20 (dk_at dksX0_weeks_0 11 rfl rfl)
theorem dX0_weeks_14 : decode cX0_weeks 14 = .ok (.getfield 204, 3) := dk_180 0 204 (dk_at dksX0_weeks_0 14 rfl rfl)
theorem dX0_weeks_17 : decode cX0_weeks 17 = .ok (.iload_n 1, 1) := dk_27 (dk_at dksX0_weeks_0 17 rfl rfl)
theorem dX0_weeks_18 : decode cX0_weeks 18 = .ok (.iadd, 1) := dk_96 (dk_at dksX0_weeks_0 18 rfl rfl)
theorem dX0_weeks_19 : decode cX0_weeks 19 = .ok (.sipush 9999, 3) := dk_17 39 15 (dk_at dksX0_weeks_0 19 rfl rfl)
theorem dX0_weeks_22 : decode cX0_weeks 22 = .ok (.if_icmp .le 5, 3) := dk_164 0 5 (dk_at dksX0_weeks_1 0 rfl rfl)
theorem dX0_weeks_25 : decode cX0_weeks 25 = .ok (.iconst (-1), 1) := dk_2 (dk_at dksX0_weeks_1 3 rfl rfl)
theorem dX0_weeks_26 : decode cX0_weeks 26 = .ok (.ireturn, 1) := dk_172 (dk_at dksX0_weeks_1 4 rfl rfl)
theorem dX0_weeks_27 : decode cX0_weeks 27 = .ok (.iconst 0, 1) := dk_3 (dk_at dksX0_weeks_1 5 rfl rfl)
theorem dX0_weeks_28 : decode cX0_weeks 28 = .ok (.istore_n 2, 1) := dk_61 (dk_at dksX0_weeks_1 6 rfl rfl)
theorem dX0_weeks_29 : decode cX0_weeks 29 = .ok (.iconst 0, 1) := dk_3 (dk_at dksX0_weeks_1 7 rfl rfl)
theorem dX0_weeks_30 : decode cX0_weeks 30 = .ok (.istore_n 3, 1) := dk_62 (dk_at dksX0_weeks_1 8 rfl rfl)
theorem dX0_weeks_31 : decode cX0_weeks 31 = .ok (.iload_n 3, 1) := dk_29 (dk_at dksX0_weeks_1 9 rfl rfl)
theorem dX0_weeks_32 : decode cX0_weeks 32 = .ok (.iload_n 1, 1) := dk_27 (dk_at dksX0_weeks_1 10 rfl rfl)
theorem dX0_weeks_33 : decode cX0_weeks 33 = .ok (.if_icmp .ge 23, 3) := dk_162 0 23 (dk_at dksX0_weeks_1 11 rfl rfl)
theorem dX0_weeks_36 : decode cX0_weeks 36 = .ok (.aload_n 0, 1) := dk_42 (dk_at dksX0_weeks_1 14 rfl rfl)
theorem dX0_weeks_37 : decode cX0_weeks 37 = .ok (.invokevirtual 186, 3) := dk_182 0 186 (dk_at dksX0_weeks_1 15 rfl rfl)
theorem dX0_weeks_40 : decode cX0_weeks 40 = .ok (.iload_n 2, 1) := dk_28 (dk_at dksX0_weeks_1 18 rfl rfl)
theorem dX0_weeks_41 : decode cX0_weeks 41 = .ok (.aload_n 0, 1) := dk_42 (dk_at dksX0_weeks_1 19 rfl rfl)
theorem dX0_weeks_42 : decode cX0_weeks 42 = .ok (.getfield 20, 3) := dk_180 0 20 (dk_at dksX0_weeks_1 20 rfl rfl)
theorem dX0_weeks_45 : decode cX0_weeks 45 = .ok (.invokevirtual 207, 3) := dk_182 0 207 (dk_at dksX0_weeks_2 0 rfl rfl)
theorem dX0_weeks_48 : decode cX0_weeks 48 = .ok (.iadd, 1) := dk_96 (dk_at dksX0_weeks_2 3 rfl rfl)
theorem dX0_weeks_49 : decode cX0_weeks 49 = .ok (.istore_n 2, 1) := dk_61 (dk_at dksX0_weeks_2 4 rfl rfl)
theorem dX0_weeks_50 : decode cX0_weeks 50 = .ok (.iinc 3 1, 3) := dk_132 3 1 (dk_at dksX0_weeks_2 5 rfl rfl)
theorem dX0_weeks_53 : decode cX0_weeks 53 = .ok (.goto (-22), 3) := dk_167 255 234 (dk_at dksX0_weeks_2 8 rfl rfl)
theorem dX0_weeks_56 : decode cX0_weeks 56 = .ok (.iload_n 2, 1) := dk_28 (dk_at dksX0_weeks_2 11 rfl rfl)
theorem dX0_weeks_57 : decode cX0_weeks 57 = .ok (.ireturn, 1) := dk_172 (dk_at dksX0_weeks_2 12 rfl rfl)
abbrev cX0_of : ByteArray := prog_1_method_26_code
def yX0_of : MethodName := ⟨RX0, "of", "(II)I"⟩
def dkwX0_of_2 : List UInt8 := [45, 180, 0, 134, 167, 0, 17, 28, 6, 160, 0, 11, 42, 27, 182, 0, 212, 167, 0, 4, 2, 172]
abbrev dktX0_of_2 : List UInt8 := dkwX0_of_2 ++ []
def dkwX0_of_1 : List UInt8 := [45, 180, 0, 126, 167, 0, 41, 28, 4, 160, 0, 10, 45, 180, 0, 131, 167, 0, 29, 28, 5, 160, 0, 10]
abbrev dktX0_of_1 : List UInt8 := dkwX0_of_1 ++ dktX0_of_2
def dkwX0_of_0 : List UInt8 := [42, 27, 182, 0, 153, 154, 0, 5, 2, 172, 42, 180, 0, 20, 180, 0, 122, 27, 50, 78, 28, 154, 0, 10]
abbrev dktX0_of_0 : List UInt8 := dkwX0_of_0 ++ dktX0_of_1
theorem dksX0_of_0 : cX0_of.data.toList.drop 0 = dktX0_of_0 := by decide +kernel
theorem dksX0_of_1 : cX0_of.data.toList.drop 24 = dktX0_of_1 := dk_seg dksX0_of_0 24 rfl rfl
theorem dksX0_of_2 : cX0_of.data.toList.drop 48 = dktX0_of_2 := dk_seg dksX0_of_1 24 rfl rfl
theorem dX0_of_0 : decode cX0_of 0 = .ok (.aload_n 0, 1) := dk_42 (dk_at dksX0_of_0 0 rfl rfl)
theorem dX0_of_1 : decode cX0_of 1 = .ok (.iload_n 1, 1) := dk_27 (dk_at dksX0_of_0 1 rfl rfl)
theorem dX0_of_2 : decode cX0_of 2 = .ok (.invokevirtual 153, 3) := dk_182 0 153 (dk_at dksX0_of_0 2 rfl rfl)
theorem dX0_of_5 : decode cX0_of 5 = .ok (.ifCond .ne 5, 3) := dk_154 0 5 (dk_at dksX0_of_0 5 rfl rfl)
theorem dX0_of_8 : decode cX0_of 8 = .ok (.iconst (-1), 1) := dk_2 (dk_at dksX0_of_0 8 rfl rfl)
theorem dX0_of_9 : decode cX0_of 9 = .ok (.ireturn, 1) := dk_172 (dk_at dksX0_of_0 9 rfl rfl)
theorem dX0_of_10 : decode cX0_of 10 = .ok (.aload_n 0, 1) := dk_42 (dk_at dksX0_of_0 10 rfl rfl)
theorem dX0_of_11 : decode cX0_of 11 = .ok (.getfield 20, 3) := dk_180 0 20 (dk_at dksX0_of_0 11 rfl rfl)
theorem dX0_of_14 : decode cX0_of 14 = .ok (.getfield 122, 3) := dk_180 0 122 (dk_at dksX0_of_0 14 rfl rfl)
theorem dX0_of_17 : decode cX0_of 17 = .ok (.iload_n 1, 1) := dk_27 (dk_at dksX0_of_0 17 rfl rfl)
theorem dX0_of_18 : decode cX0_of 18 = .ok (.aaload, 1) := dk_50 (dk_at dksX0_of_0 18 rfl rfl)
theorem dX0_of_19 : decode cX0_of 19 = .ok (.astore_n 3, 1) := dk_78 (dk_at dksX0_of_0 19 rfl rfl)
theorem dX0_of_20 : decode cX0_of 20 = .ok (.iload_n 2, 1) := dk_28 (dk_at dksX0_of_0 20 rfl rfl)
theorem dX0_of_21 : decode cX0_of 21 = .ok (.ifCond .ne 10, 3) := dk_154 0 10 (dk_at dksX0_of_0 21 rfl rfl)
theorem dX0_of_24 : decode cX0_of 24 = .ok (.aload_n 3, 1) := dk_45 (dk_at dksX0_of_1 0 rfl rfl)
theorem dX0_of_25 : decode cX0_of 25 = .ok (.getfield 126, 3) := dk_180 0 126 (dk_at dksX0_of_1 1 rfl rfl)
theorem dX0_of_28 : decode cX0_of 28 = .ok (.goto 41, 3) := dk_167 0 41 (dk_at dksX0_of_1 4 rfl rfl)
theorem dX0_of_31 : decode cX0_of 31 = .ok (.iload_n 2, 1) := dk_28 (dk_at dksX0_of_1 7 rfl rfl)
theorem dX0_of_32 : decode cX0_of 32 = .ok (.iconst 1, 1) := dk_4 (dk_at dksX0_of_1 8 rfl rfl)
theorem dX0_of_33 : decode cX0_of 33 = .ok (.if_icmp .ne 10, 3) := dk_160 0 10 (dk_at dksX0_of_1 9 rfl rfl)
theorem dX0_of_36 : decode cX0_of 36 = .ok (.aload_n 3, 1) := dk_45 (dk_at dksX0_of_1 12 rfl rfl)
theorem dX0_of_37 : decode cX0_of 37 = .ok (.getfield 131, 3) := dk_180 0 131 (dk_at dksX0_of_1 13 rfl rfl)
theorem dX0_of_40 : decode cX0_of 40 = .ok (.goto 29, 3) := dk_167 0 29 (dk_at dksX0_of_1 16 rfl rfl)
theorem dX0_of_43 : decode cX0_of 43 = .ok (.iload_n 2, 1) := dk_28 (dk_at dksX0_of_1 19 rfl rfl)
theorem dX0_of_44 : decode cX0_of 44 = .ok (.iconst 2, 1) := dk_5 (dk_at dksX0_of_1 20 rfl rfl)
theorem dX0_of_45 : decode cX0_of 45 = .ok (.if_icmp .ne 10, 3) := dk_160 0 10 (dk_at dksX0_of_1 21 rfl rfl)
theorem dX0_of_48 : decode cX0_of 48 = .ok (.aload_n 3, 1) := dk_45 (dk_at dksX0_of_2 0 rfl rfl)
theorem dX0_of_49 : decode cX0_of 49 = .ok (.getfield 134, 3) := dk_180 0 134 (dk_at dksX0_of_2 1 rfl rfl)
theorem dX0_of_52 : decode cX0_of 52 = .ok (.goto 17, 3) := dk_167 0 17 (dk_at dksX0_of_2 4 rfl rfl)
theorem dX0_of_55 : decode cX0_of 55 = .ok (.iload_n 2, 1) := dk_28 (dk_at dksX0_of_2 7 rfl rfl)
theorem dX0_of_56 : decode cX0_of 56 = .ok (.iconst 3, 1) := dk_6 (dk_at dksX0_of_2 8 rfl rfl)
theorem dX0_of_57 : decode cX0_of 57 = .ok (.if_icmp .ne 11, 3) := dk_160 0 11 (dk_at dksX0_of_2 9 rfl rfl)
theorem dX0_of_60 : decode cX0_of 60 = .ok (.aload_n 0, 1) := dk_42 (dk_at dksX0_of_2 12 rfl rfl)
theorem dX0_of_61 : decode cX0_of 61 = .ok (.iload_n 1, 1) := dk_27 (dk_at dksX0_of_2 13 rfl rfl)
theorem dX0_of_62 : decode cX0_of 62 = .ok (.invokevirtual 212, 3) := dk_182 0 212 (dk_at dksX0_of_2 14 rfl rfl)
theorem dX0_of_65 : decode cX0_of 65 = .ok (.goto 4, 3) := dk_167 0 4 (dk_at dksX0_of_2 17 rfl rfl)
theorem dX0_of_68 : decode cX0_of 68 = .ok (.iconst (-1), 1) := dk_2 (dk_at dksX0_of_2 20 rfl rfl)
theorem dX0_of_69 : decode cX0_of 69 = .ok (.ireturn, 1) := dk_172 (dk_at dksX0_of_2 21 rfl rfl)
abbrev cX0_hangingOf : ByteArray := prog_1_method_25_code
def yX0_hangingOf : MethodName := ⟨RX0, "hangingOf", "(I)I"⟩
def dkwX0_hangingOf_2 : List UInt8 := [96, 61, 132, 3, 1, 167, 255, 207, 28, 172]
abbrev dktX0_hangingOf_2 : List UInt8 := dkwX0_hangingOf_2 ++ []
def dkwX0_hangingOf_1 : List UInt8 := [50, 180, 0, 210, 27, 160, 0, 18, 42, 180, 0, 20, 180, 0, 174, 29, 50, 180, 0, 178, 167, 0, 4, 3]
abbrev dktX0_hangingOf_1 : List UInt8 := dkwX0_hangingOf_1 ++ dktX0_hangingOf_2
def dkwX0_hangingOf_0 : List UInt8 := [3, 61, 3, 62, 29, 42, 180, 0, 20, 180, 0, 156, 162, 0, 44, 28, 42, 180, 0, 20, 180, 0, 174, 29]
abbrev dktX0_hangingOf_0 : List UInt8 := dkwX0_hangingOf_0 ++ dktX0_hangingOf_1
theorem dksX0_hangingOf_0 : cX0_hangingOf.data.toList.drop 0 = dktX0_hangingOf_0 := by decide +kernel
theorem dksX0_hangingOf_1 : cX0_hangingOf.data.toList.drop 24 = dktX0_hangingOf_1 := dk_seg dksX0_hangingOf_0 24 rfl rfl
theorem dksX0_hangingOf_2 : cX0_hangingOf.data.toList.drop 48 = dktX0_hangingOf_2 := dk_seg dksX0_hangingOf_1 24 rfl rfl
theorem dX0_hangingOf_0 : decode cX0_hangingOf 0 = .ok (.iconst 0, 1) := dk_3 (dk_at dksX0_hangingOf_0 0 rfl rfl)
theorem dX0_hangingOf_1 : decode cX0_hangingOf 1 = .ok (.istore_n 2, 1) := dk_61 (dk_at dksX0_hangingOf_0 1 rfl rfl)
theorem dX0_hangingOf_2 : decode cX0_hangingOf 2 = .ok (.iconst 0, 1) := dk_3 (dk_at dksX0_hangingOf_0 2 rfl rfl)
theorem dX0_hangingOf_3 : decode cX0_hangingOf 3 = .ok (.istore_n 3, 1) := dk_62 (dk_at dksX0_hangingOf_0 3 rfl rfl)
theorem dX0_hangingOf_4 : decode cX0_hangingOf 4 = .ok (.iload_n 3, 1) := dk_29 (dk_at dksX0_hangingOf_0 4 rfl rfl)
theorem dX0_hangingOf_5 : decode cX0_hangingOf 5 = .ok (.aload_n 0, 1) := dk_42 (dk_at dksX0_hangingOf_0 5 rfl rfl)
theorem dX0_hangingOf_6 : decode cX0_hangingOf 6 = .ok (.getfield 20, 3) := dk_180 0 20 (dk_at dksX0_hangingOf_0 6 rfl rfl)
theorem dX0_hangingOf_9 : decode cX0_hangingOf 9 = .ok (.getfield 156, 3) := dk_180 0 156 (dk_at dksX0_hangingOf_0 9 rfl rfl)
theorem dX0_hangingOf_12 : decode cX0_hangingOf 12 = .ok (.if_icmp .ge 44, 3) := dk_162 0 44 (dk_at dksX0_hangingOf_0 12 rfl rfl)
theorem dX0_hangingOf_15 : decode cX0_hangingOf 15 = .ok (.iload_n 2, 1) := dk_28 (dk_at dksX0_hangingOf_0 15 rfl rfl)
theorem dX0_hangingOf_16 : decode cX0_hangingOf 16 = .ok (.aload_n 0, 1) := dk_42 (dk_at dksX0_hangingOf_0 16 rfl rfl)
theorem dX0_hangingOf_17 : decode cX0_hangingOf 17 = .ok (.getfield 20, 3) := dk_180 0 20 (dk_at dksX0_hangingOf_0 17 rfl rfl)
theorem dX0_hangingOf_20 : decode cX0_hangingOf 20 = .ok (.getfield 174, 3) := dk_180 0 174 (dk_at dksX0_hangingOf_0 20 rfl rfl)
theorem dX0_hangingOf_23 : decode cX0_hangingOf 23 = .ok (.iload_n 3, 1) := dk_29 (dk_at dksX0_hangingOf_0 23 rfl rfl)
theorem dX0_hangingOf_24 : decode cX0_hangingOf 24 = .ok (.aaload, 1) := dk_50 (dk_at dksX0_hangingOf_1 0 rfl rfl)
theorem dX0_hangingOf_25 : decode cX0_hangingOf 25 = .ok (.getfield 210, 3) := dk_180 0 210 (dk_at dksX0_hangingOf_1 1 rfl rfl)
theorem dX0_hangingOf_28 : decode cX0_hangingOf 28 = .ok (.iload_n 1, 1) := dk_27 (dk_at dksX0_hangingOf_1 4 rfl rfl)
theorem dX0_hangingOf_29 : decode cX0_hangingOf 29 = .ok (.if_icmp .ne 18, 3) := dk_160 0 18 (dk_at dksX0_hangingOf_1 5 rfl rfl)
theorem dX0_hangingOf_32 : decode cX0_hangingOf 32 = .ok (.aload_n 0, 1) := dk_42 (dk_at dksX0_hangingOf_1 8 rfl rfl)
theorem dX0_hangingOf_33 : decode cX0_hangingOf 33 = .ok (.getfield 20, 3) := dk_180 0 20 (dk_at dksX0_hangingOf_1 9 rfl rfl)
theorem dX0_hangingOf_36 : decode cX0_hangingOf 36 = .ok (.getfield 174, 3) := dk_180 0 174 (dk_at dksX0_hangingOf_1 12 rfl rfl)
theorem dX0_hangingOf_39 : decode cX0_hangingOf 39 = .ok (.iload_n 3, 1) := dk_29 (dk_at dksX0_hangingOf_1 15 rfl rfl)
theorem dX0_hangingOf_40 : decode cX0_hangingOf 40 = .ok (.aaload, 1) := dk_50 (dk_at dksX0_hangingOf_1 16 rfl rfl)
theorem dX0_hangingOf_41 : decode cX0_hangingOf 41 = .ok (.getfield 178, 3) := dk_180 0 178 (dk_at dksX0_hangingOf_1 17 rfl rfl)
theorem dX0_hangingOf_44 : decode cX0_hangingOf 44 = .ok (.goto 4, 3) := dk_167 0 4 (dk_at dksX0_hangingOf_1 20 rfl rfl)
theorem dX0_hangingOf_47 : decode cX0_hangingOf 47 = .ok (.iconst 0, 1) := dk_3 (dk_at dksX0_hangingOf_1 23 rfl rfl)
theorem dX0_hangingOf_48 : decode cX0_hangingOf 48 = .ok (.iadd, 1) := dk_96 (dk_at dksX0_hangingOf_2 0 rfl rfl)
theorem dX0_hangingOf_49 : decode cX0_hangingOf 49 = .ok (.istore_n 2, 1) := dk_61 (dk_at dksX0_hangingOf_2 1 rfl rfl)
theorem dX0_hangingOf_50 : decode cX0_hangingOf 50 = .ok (.iinc 3 1, 3) := dk_132 3 1 (dk_at dksX0_hangingOf_2 2 rfl rfl)
theorem dX0_hangingOf_53 : decode cX0_hangingOf 53 = .ok (.goto (-49), 3) := dk_167 255 207 (dk_at dksX0_hangingOf_2 5 rfl rfl)
theorem dX0_hangingOf_56 : decode cX0_hangingOf 56 = .ok (.iload_n 2, 1) := dk_28 (dk_at dksX0_hangingOf_2 8 rfl rfl)
theorem dX0_hangingOf_57 : decode cX0_hangingOf 57 = .ok (.ireturn, 1) := dk_172 (dk_at dksX0_hangingOf_2 9 rfl rfl)
abbrev cX0_tree : ByteArray := prog_1_method_27_code
def yX0_tree : MethodName := ⟨RX0, "tree", "(II)I"⟩
def dkwX0_tree_4 : List UInt8 := [45, 182, 0, 219, 172, 2, 172]
abbrev dktX0_tree_4 : List UInt8 := dkwX0_tree_4 ++ []
def dkwX0_tree_3 : List UInt8 := [45, 180, 0, 210, 172, 45, 180, 0, 215, 172, 45, 180, 0, 216, 172, 45, 180, 0, 178, 172, 42, 180, 0, 20]
abbrev dktX0_tree_3 : List UInt8 := dkwX0_tree_3 ++ dktX0_tree_4
def dkwX0_tree_2 : List UInt8 := [170, 0, 0, 0, 0, 63, 0, 0, 0, 0, 0, 0, 0, 4, 0, 0, 0, 34, 0, 0, 0, 39, 0, 0, 0, 44, 0, 0, 0, 49, 0, 0, 0, 54]
abbrev dktX0_tree_2 : List UInt8 := dkwX0_tree_2 ++ dktX0_tree_3
def dkwX0_tree_1 : List UInt8 := [180, 0, 174, 27, 50, 78, 28]
abbrev dktX0_tree_1 : List UInt8 := dkwX0_tree_1 ++ dktX0_tree_2
def dkwX0_tree_0 : List UInt8 := [27, 3, 42, 180, 0, 20, 180, 0, 156, 4, 100, 184, 0, 49, 154, 0, 5, 2, 172, 42, 180, 0, 20]
abbrev dktX0_tree_0 : List UInt8 := dkwX0_tree_0 ++ dktX0_tree_1
theorem dksX0_tree_0 : cX0_tree.data.toList.drop 0 = dktX0_tree_0 := by decide +kernel
theorem dksX0_tree_1 : cX0_tree.data.toList.drop 23 = dktX0_tree_1 := dk_seg dksX0_tree_0 23 rfl rfl
theorem dksX0_tree_2 : cX0_tree.data.toList.drop 30 = dktX0_tree_2 := dk_seg dksX0_tree_1 7 rfl rfl
theorem dksX0_tree_3 : cX0_tree.data.toList.drop 64 = dktX0_tree_3 := dk_seg dksX0_tree_2 34 rfl rfl
theorem dksX0_tree_4 : cX0_tree.data.toList.drop 88 = dktX0_tree_4 := dk_seg dksX0_tree_3 24 rfl rfl
theorem dX0_tree_0 : decode cX0_tree 0 = .ok (.iload_n 1, 1) := dk_27 (dk_at dksX0_tree_0 0 rfl rfl)
theorem dX0_tree_1 : decode cX0_tree 1 = .ok (.iconst 0, 1) := dk_3 (dk_at dksX0_tree_0 1 rfl rfl)
theorem dX0_tree_2 : decode cX0_tree 2 = .ok (.aload_n 0, 1) := dk_42 (dk_at dksX0_tree_0 2 rfl rfl)
theorem dX0_tree_3 : decode cX0_tree 3 = .ok (.getfield 20, 3) := dk_180 0 20 (dk_at dksX0_tree_0 3 rfl rfl)
theorem dX0_tree_6 : decode cX0_tree 6 = .ok (.getfield 156, 3) := dk_180 0 156 (dk_at dksX0_tree_0 6 rfl rfl)
theorem dX0_tree_9 : decode cX0_tree 9 = .ok (.iconst 1, 1) := dk_4 (dk_at dksX0_tree_0 9 rfl rfl)
theorem dX0_tree_10 : decode cX0_tree 10 = .ok (.isub, 1) := dk_100 (dk_at dksX0_tree_0 10 rfl rfl)
theorem dX0_tree_11 : decode cX0_tree 11 = .ok (.invokestatic 49, 3) := dk_184 0 49 (dk_at dksX0_tree_0 11 rfl rfl)
theorem dX0_tree_14 : decode cX0_tree 14 = .ok (.ifCond .ne 5, 3) := dk_154 0 5 (dk_at dksX0_tree_0 14 rfl rfl)
theorem dX0_tree_17 : decode cX0_tree 17 = .ok (.iconst (-1), 1) := dk_2 (dk_at dksX0_tree_0 17 rfl rfl)
theorem dX0_tree_18 : decode cX0_tree 18 = .ok (.ireturn, 1) := dk_172 (dk_at dksX0_tree_0 18 rfl rfl)
theorem dX0_tree_19 : decode cX0_tree 19 = .ok (.aload_n 0, 1) := dk_42 (dk_at dksX0_tree_0 19 rfl rfl)
theorem dX0_tree_20 : decode cX0_tree 20 = .ok (.getfield 20, 3) := dk_180 0 20 (dk_at dksX0_tree_0 20 rfl rfl)
theorem dX0_tree_23 : decode cX0_tree 23 = .ok (.getfield 174, 3) := dk_180 0 174 (dk_at dksX0_tree_1 0 rfl rfl)
theorem dX0_tree_26 : decode cX0_tree 26 = .ok (.iload_n 1, 1) := dk_27 (dk_at dksX0_tree_1 3 rfl rfl)
theorem dX0_tree_27 : decode cX0_tree 27 = .ok (.aaload, 1) := dk_50 (dk_at dksX0_tree_1 4 rfl rfl)
theorem dX0_tree_28 : decode cX0_tree 28 = .ok (.astore_n 3, 1) := dk_78 (dk_at dksX0_tree_1 5 rfl rfl)
theorem dX0_tree_29 : decode cX0_tree 29 = .ok (.iload_n 2, 1) := dk_28 (dk_at dksX0_tree_1 6 rfl rfl)
theorem dX0_tree_30 : decode cX0_tree 30 = .ok (.tableswitch 63 0 4 #[34, 39, 44, 49, 54], 34) := by decide +kernel
theorem dX0_tree_64 : decode cX0_tree 64 = .ok (.aload_n 3, 1) := dk_45 (dk_at dksX0_tree_3 0 rfl rfl)
theorem dX0_tree_65 : decode cX0_tree 65 = .ok (.getfield 210, 3) := dk_180 0 210 (dk_at dksX0_tree_3 1 rfl rfl)
theorem dX0_tree_68 : decode cX0_tree 68 = .ok (.ireturn, 1) := dk_172 (dk_at dksX0_tree_3 4 rfl rfl)
theorem dX0_tree_69 : decode cX0_tree 69 = .ok (.aload_n 3, 1) := dk_45 (dk_at dksX0_tree_3 5 rfl rfl)
theorem dX0_tree_70 : decode cX0_tree 70 = .ok (.getfield 215, 3) := dk_180 0 215 (dk_at dksX0_tree_3 6 rfl rfl)
theorem dX0_tree_73 : decode cX0_tree 73 = .ok (.ireturn, 1) := dk_172 (dk_at dksX0_tree_3 9 rfl rfl)
theorem dX0_tree_74 : decode cX0_tree 74 = .ok (.aload_n 3, 1) := dk_45 (dk_at dksX0_tree_3 10 rfl rfl)
theorem dX0_tree_75 : decode cX0_tree 75 = .ok (.getfield 216, 3) := dk_180 0 216 (dk_at dksX0_tree_3 11 rfl rfl)
theorem dX0_tree_78 : decode cX0_tree 78 = .ok (.ireturn, 1) := dk_172 (dk_at dksX0_tree_3 14 rfl rfl)
theorem dX0_tree_79 : decode cX0_tree 79 = .ok (.aload_n 3, 1) := dk_45 (dk_at dksX0_tree_3 15 rfl rfl)
theorem dX0_tree_80 : decode cX0_tree 80 = .ok (.getfield 178, 3) := dk_180 0 178 (dk_at dksX0_tree_3 16 rfl rfl)
theorem dX0_tree_83 : decode cX0_tree 83 = .ok (.ireturn, 1) := dk_172 (dk_at dksX0_tree_3 19 rfl rfl)
theorem dX0_tree_84 : decode cX0_tree 84 = .ok (.aload_n 0, 1) := dk_42 (dk_at dksX0_tree_3 20 rfl rfl)
theorem dX0_tree_85 : decode cX0_tree 85 = .ok (.getfield 20, 3) := dk_180 0 20 (dk_at dksX0_tree_3 21 rfl rfl)
theorem dX0_tree_88 : decode cX0_tree 88 = .ok (.aload_n 3, 1) := dk_45 (dk_at dksX0_tree_4 0 rfl rfl)
theorem dX0_tree_89 : decode cX0_tree 89 = .ok (.invokevirtual 219, 3) := dk_182 0 219 (dk_at dksX0_tree_4 1 rfl rfl)
theorem dX0_tree_92 : decode cX0_tree 92 = .ok (.ireturn, 1) := dk_172 (dk_at dksX0_tree_4 4 rfl rfl)
theorem dX0_tree_93 : decode cX0_tree 93 = .ok (.iconst (-1), 1) := dk_2 (dk_at dksX0_tree_4 5 rfl rfl)
theorem dX0_tree_94 : decode cX0_tree 94 = .ok (.ireturn, 1) := dk_172 (dk_at dksX0_tree_4 6 rfl rfl)
abbrev cX0_who : ByteArray := prog_1_method_29_code
def yX0_who : MethodName := ⟨RX0, "who", "(II)I"⟩
def dkwX0_who_5 : List UInt8 := [28, 16, 20, 100, 46, 167, 0, 4, 2, 172]
abbrev dktX0_who_5 : List UInt8 := dkwX0_who_5 ++ []
def dkwX0_who_4 : List UInt8 := [180, 0, 223, 28, 16, 10, 100, 46, 172, 42, 28, 16, 20, 100, 182, 0, 153, 153, 0, 15, 45, 180, 0, 141]
abbrev dktX0_who_4 : List UInt8 := dkwX0_who_4 ++ dktX0_who_5
def dkwX0_who_3 : List UInt8 := [16, 9, 42, 27, 182, 0, 231, 96, 184, 0, 49, 153, 0, 21, 42, 180, 0, 20, 180, 0, 75, 27, 50]
abbrev dktX0_who_3 : List UInt8 := dkwX0_who_3 ++ dktX0_who_4
def dkwX0_who_2 : List UInt8 := [45, 180, 0, 146, 172, 42, 180, 0, 20, 45, 182, 0, 227, 172, 42, 27, 182, 0, 231, 172, 28, 16, 10]
abbrev dktX0_who_2 : List UInt8 := dkwX0_who_2 ++ dktX0_who_3
def dkwX0_who_1 : List UInt8 := [170, 0, 0, 0, 0, 0, 47, 0, 0, 0, 0, 0, 0, 0, 2, 0, 0, 0, 27, 0, 0, 0, 32, 0, 0, 0, 41]
abbrev dktX0_who_1 : List UInt8 := dkwX0_who_1 ++ dktX0_who_2
def dkwX0_who_0 : List UInt8 := [42, 27, 182, 0, 149, 154, 0, 5, 2, 172, 42, 180, 0, 20, 180, 0, 137, 27, 50, 78, 28]
abbrev dktX0_who_0 : List UInt8 := dkwX0_who_0 ++ dktX0_who_1
theorem dksX0_who_0 : cX0_who.data.toList.drop 0 = dktX0_who_0 := by decide +kernel
theorem dksX0_who_1 : cX0_who.data.toList.drop 21 = dktX0_who_1 := dk_seg dksX0_who_0 21 rfl rfl
theorem dksX0_who_2 : cX0_who.data.toList.drop 48 = dktX0_who_2 := dk_seg dksX0_who_1 27 rfl rfl
theorem dksX0_who_3 : cX0_who.data.toList.drop 71 = dktX0_who_3 := dk_seg dksX0_who_2 23 rfl rfl
theorem dksX0_who_4 : cX0_who.data.toList.drop 94 = dktX0_who_4 := dk_seg dksX0_who_3 23 rfl rfl
theorem dksX0_who_5 : cX0_who.data.toList.drop 118 = dktX0_who_5 := dk_seg dksX0_who_4 24 rfl rfl
theorem dX0_who_0 : decode cX0_who 0 = .ok (.aload_n 0, 1) := dk_42 (dk_at dksX0_who_0 0 rfl rfl)
theorem dX0_who_1 : decode cX0_who 1 = .ok (.iload_n 1, 1) := dk_27 (dk_at dksX0_who_0 1 rfl rfl)
theorem dX0_who_2 : decode cX0_who 2 = .ok (.invokevirtual 149, 3) := dk_182 0 149 (dk_at dksX0_who_0 2 rfl rfl)
theorem dX0_who_5 : decode cX0_who 5 = .ok (.ifCond .ne 5, 3) := dk_154 0 5 (dk_at dksX0_who_0 5 rfl rfl)
theorem dX0_who_8 : decode cX0_who 8 = .ok (.iconst (-1), 1) := dk_2 (dk_at dksX0_who_0 8 rfl rfl)
theorem dX0_who_9 : decode cX0_who 9 = .ok (.ireturn, 1) := dk_172 (dk_at dksX0_who_0 9 rfl rfl)
theorem dX0_who_10 : decode cX0_who 10 = .ok (.aload_n 0, 1) := dk_42 (dk_at dksX0_who_0 10 rfl rfl)
theorem dX0_who_11 : decode cX0_who 11 = .ok (.getfield 20, 3) := dk_180 0 20 (dk_at dksX0_who_0 11 rfl rfl)
theorem dX0_who_14 : decode cX0_who 14 = .ok (.getfield 137, 3) := dk_180 0 137 (dk_at dksX0_who_0 14 rfl rfl)
theorem dX0_who_17 : decode cX0_who 17 = .ok (.iload_n 1, 1) := dk_27 (dk_at dksX0_who_0 17 rfl rfl)
theorem dX0_who_18 : decode cX0_who 18 = .ok (.aaload, 1) := dk_50 (dk_at dksX0_who_0 18 rfl rfl)
theorem dX0_who_19 : decode cX0_who 19 = .ok (.astore_n 3, 1) := dk_78 (dk_at dksX0_who_0 19 rfl rfl)
theorem dX0_who_20 : decode cX0_who 20 = .ok (.iload_n 2, 1) := dk_28 (dk_at dksX0_who_0 20 rfl rfl)
theorem dX0_who_21 : decode cX0_who 21 = .ok (.tableswitch 47 0 2 #[27, 32, 41], 27) := by decide +kernel
theorem dX0_who_48 : decode cX0_who 48 = .ok (.aload_n 3, 1) := dk_45 (dk_at dksX0_who_2 0 rfl rfl)
theorem dX0_who_49 : decode cX0_who 49 = .ok (.getfield 146, 3) := dk_180 0 146 (dk_at dksX0_who_2 1 rfl rfl)
theorem dX0_who_52 : decode cX0_who 52 = .ok (.ireturn, 1) := dk_172 (dk_at dksX0_who_2 4 rfl rfl)
theorem dX0_who_53 : decode cX0_who 53 = .ok (.aload_n 0, 1) := dk_42 (dk_at dksX0_who_2 5 rfl rfl)
theorem dX0_who_54 : decode cX0_who 54 = .ok (.getfield 20, 3) := dk_180 0 20 (dk_at dksX0_who_2 6 rfl rfl)
theorem dX0_who_57 : decode cX0_who 57 = .ok (.aload_n 3, 1) := dk_45 (dk_at dksX0_who_2 9 rfl rfl)
theorem dX0_who_58 : decode cX0_who 58 = .ok (.invokevirtual 227, 3) := dk_182 0 227 (dk_at dksX0_who_2 10 rfl rfl)
theorem dX0_who_61 : decode cX0_who 61 = .ok (.ireturn, 1) := dk_172 (dk_at dksX0_who_2 13 rfl rfl)
theorem dX0_who_62 : decode cX0_who 62 = .ok (.aload_n 0, 1) := dk_42 (dk_at dksX0_who_2 14 rfl rfl)
theorem dX0_who_63 : decode cX0_who 63 = .ok (.iload_n 1, 1) := dk_27 (dk_at dksX0_who_2 15 rfl rfl)
theorem dX0_who_64 : decode cX0_who 64 = .ok (.invokevirtual 231, 3) := dk_182 0 231 (dk_at dksX0_who_2 16 rfl rfl)
theorem dX0_who_67 : decode cX0_who 67 = .ok (.ireturn, 1) := dk_172 (dk_at dksX0_who_2 19 rfl rfl)
theorem dX0_who_68 : decode cX0_who 68 = .ok (.iload_n 2, 1) := dk_28 (dk_at dksX0_who_2 20 rfl rfl)
theorem dX0_who_69 : decode cX0_who 69 = .ok (.bipush 10, 2) := dk_16 10 (dk_at dksX0_who_2 21 rfl rfl)
theorem dX0_who_71 : decode cX0_who 71 = .ok (.bipush 9, 2) := dk_16 9 (dk_at dksX0_who_3 0 rfl rfl)
theorem dX0_who_73 : decode cX0_who 73 = .ok (.aload_n 0, 1) := dk_42 (dk_at dksX0_who_3 2 rfl rfl)
theorem dX0_who_74 : decode cX0_who 74 = .ok (.iload_n 1, 1) := dk_27 (dk_at dksX0_who_3 3 rfl rfl)
theorem dX0_who_75 : decode cX0_who 75 = .ok (.invokevirtual 231, 3) := dk_182 0 231 (dk_at dksX0_who_3 4 rfl rfl)
theorem dX0_who_78 : decode cX0_who 78 = .ok (.iadd, 1) := dk_96 (dk_at dksX0_who_3 7 rfl rfl)
theorem dX0_who_79 : decode cX0_who 79 = .ok (.invokestatic 49, 3) := dk_184 0 49 (dk_at dksX0_who_3 8 rfl rfl)
theorem dX0_who_82 : decode cX0_who 82 = .ok (.ifCond .eq 21, 3) := dk_153 0 21 (dk_at dksX0_who_3 11 rfl rfl)
theorem dX0_who_85 : decode cX0_who 85 = .ok (.aload_n 0, 1) := dk_42 (dk_at dksX0_who_3 14 rfl rfl)
theorem dX0_who_86 : decode cX0_who 86 = .ok (.getfield 20, 3) := dk_180 0 20 (dk_at dksX0_who_3 15 rfl rfl)
theorem dX0_who_89 : decode cX0_who 89 = .ok (.getfield 75, 3) := dk_180 0 75 (dk_at dksX0_who_3 18 rfl rfl)
theorem dX0_who_92 : decode cX0_who 92 = .ok (.iload_n 1, 1) := dk_27 (dk_at dksX0_who_3 21 rfl rfl)
theorem dX0_who_93 : decode cX0_who 93 = .ok (.aaload, 1) := dk_50 (dk_at dksX0_who_3 22 rfl rfl)
theorem dX0_who_94 : decode cX0_who 94 = .ok (.getfield 223, 3) := dk_180 0 223 (dk_at dksX0_who_4 0 rfl rfl)
theorem dX0_who_97 : decode cX0_who 97 = .ok (.iload_n 2, 1) := dk_28 (dk_at dksX0_who_4 3 rfl rfl)
theorem dX0_who_98 : decode cX0_who 98 = .ok (.bipush 10, 2) := dk_16 10 (dk_at dksX0_who_4 4 rfl rfl)
theorem dX0_who_100 : decode cX0_who 100 = .ok (.isub, 1) := dk_100 (dk_at dksX0_who_4 6 rfl rfl)
theorem dX0_who_101 : decode cX0_who 101 = .ok (.iaload, 1) := dk_46 (dk_at dksX0_who_4 7 rfl rfl)
theorem dX0_who_102 : decode cX0_who 102 = .ok (.ireturn, 1) := dk_172 (dk_at dksX0_who_4 8 rfl rfl)
theorem dX0_who_103 : decode cX0_who 103 = .ok (.aload_n 0, 1) := dk_42 (dk_at dksX0_who_4 9 rfl rfl)
theorem dX0_who_104 : decode cX0_who 104 = .ok (.iload_n 2, 1) := dk_28 (dk_at dksX0_who_4 10 rfl rfl)
theorem dX0_who_105 : decode cX0_who 105 = .ok (.bipush 20, 2) := dk_16 20 (dk_at dksX0_who_4 11 rfl rfl)
theorem dX0_who_107 : decode cX0_who 107 = .ok (.isub, 1) := dk_100 (dk_at dksX0_who_4 13 rfl rfl)
theorem dX0_who_108 : decode cX0_who 108 = .ok (.invokevirtual 153, 3) := dk_182 0 153 (dk_at dksX0_who_4 14 rfl rfl)
theorem dX0_who_111 : decode cX0_who 111 = .ok (.ifCond .eq 15, 3) := dk_153 0 15 (dk_at dksX0_who_4 17 rfl rfl)
theorem dX0_who_114 : decode cX0_who 114 = .ok (.aload_n 3, 1) := dk_45 (dk_at dksX0_who_4 20 rfl rfl)
theorem dX0_who_115 : decode cX0_who 115 = .ok (.getfield 141, 3) := dk_180 0 141 (dk_at dksX0_who_4 21 rfl rfl)
theorem dX0_who_118 : decode cX0_who 118 = .ok (.iload_n 2, 1) := dk_28 (dk_at dksX0_who_5 0 rfl rfl)
theorem dX0_who_119 : decode cX0_who 119 = .ok (.bipush 20, 2) := dk_16 20 (dk_at dksX0_who_5 1 rfl rfl)
theorem dX0_who_121 : decode cX0_who 121 = .ok (.isub, 1) := dk_100 (dk_at dksX0_who_5 3 rfl rfl)
theorem dX0_who_122 : decode cX0_who 122 = .ok (.iaload, 1) := dk_46 (dk_at dksX0_who_5 4 rfl rfl)
theorem dX0_who_123 : decode cX0_who 123 = .ok (.goto 4, 3) := dk_167 0 4 (dk_at dksX0_who_5 5 rfl rfl)
theorem dX0_who_126 : decode cX0_who 126 = .ok (.iconst (-1), 1) := dk_2 (dk_at dksX0_who_5 8 rfl rfl)
theorem dX0_who_127 : decode cX0_who 127 = .ok (.ireturn, 1) := dk_172 (dk_at dksX0_who_5 9 rfl rfl)
abbrev cX0_placesOf : ByteArray := prog_1_method_28_code
def yX0_placesOf : MethodName := ⟨RX0, "placesOf", "(I)I"⟩
def dkwX0_placesOf_1 : List UInt8 := [50, 180, 0, 223, 190, 172]
abbrev dktX0_placesOf_1 : List UInt8 := dkwX0_placesOf_1 ++ []
def dkwX0_placesOf_0 : List UInt8 := [42, 180, 0, 20, 180, 0, 75, 27, 50, 199, 0, 7, 3, 167, 0, 16, 42, 180, 0, 20, 180, 0, 75, 27]
abbrev dktX0_placesOf_0 : List UInt8 := dkwX0_placesOf_0 ++ dktX0_placesOf_1
theorem dksX0_placesOf_0 : cX0_placesOf.data.toList.drop 0 = dktX0_placesOf_0 := by decide +kernel
theorem dksX0_placesOf_1 : cX0_placesOf.data.toList.drop 24 = dktX0_placesOf_1 := dk_seg dksX0_placesOf_0 24 rfl rfl
theorem dX0_placesOf_0 : decode cX0_placesOf 0 = .ok (.aload_n 0, 1) := dk_42 (dk_at dksX0_placesOf_0 0 rfl rfl)
theorem dX0_placesOf_1 : decode cX0_placesOf 1 = .ok (.getfield 20, 3) := dk_180 0 20 (dk_at dksX0_placesOf_0 1 rfl rfl)
theorem dX0_placesOf_4 : decode cX0_placesOf 4 = .ok (.getfield 75, 3) := dk_180 0 75 (dk_at dksX0_placesOf_0 4 rfl rfl)
theorem dX0_placesOf_7 : decode cX0_placesOf 7 = .ok (.iload_n 1, 1) := dk_27 (dk_at dksX0_placesOf_0 7 rfl rfl)
theorem dX0_placesOf_8 : decode cX0_placesOf 8 = .ok (.aaload, 1) := dk_50 (dk_at dksX0_placesOf_0 8 rfl rfl)
theorem dX0_placesOf_9 : decode cX0_placesOf 9 = .ok (.ifnonnull 7, 3) := dk_199 0 7 (dk_at dksX0_placesOf_0 9 rfl rfl)
theorem dX0_placesOf_12 : decode cX0_placesOf 12 = .ok (.iconst 0, 1) := dk_3 (dk_at dksX0_placesOf_0 12 rfl rfl)
theorem dX0_placesOf_13 : decode cX0_placesOf 13 = .ok (.goto 16, 3) := dk_167 0 16 (dk_at dksX0_placesOf_0 13 rfl rfl)
theorem dX0_placesOf_16 : decode cX0_placesOf 16 = .ok (.aload_n 0, 1) := dk_42 (dk_at dksX0_placesOf_0 16 rfl rfl)
theorem dX0_placesOf_17 : decode cX0_placesOf 17 = .ok (.getfield 20, 3) := dk_180 0 20 (dk_at dksX0_placesOf_0 17 rfl rfl)
theorem dX0_placesOf_20 : decode cX0_placesOf 20 = .ok (.getfield 75, 3) := dk_180 0 75 (dk_at dksX0_placesOf_0 20 rfl rfl)
theorem dX0_placesOf_23 : decode cX0_placesOf 23 = .ok (.iload_n 1, 1) := dk_27 (dk_at dksX0_placesOf_0 23 rfl rfl)
theorem dX0_placesOf_24 : decode cX0_placesOf 24 = .ok (.aaload, 1) := dk_50 (dk_at dksX0_placesOf_1 0 rfl rfl)
theorem dX0_placesOf_25 : decode cX0_placesOf 25 = .ok (.getfield 223, 3) := dk_180 0 223 (dk_at dksX0_placesOf_1 1 rfl rfl)
theorem dX0_placesOf_28 : decode cX0_placesOf 28 = .ok (.arraylength, 1) := dk_190 (dk_at dksX0_placesOf_1 4 rfl rfl)
theorem dX0_placesOf_29 : decode cX0_placesOf 29 = .ok (.ireturn, 1) := dk_172 (dk_at dksX0_placesOf_1 5 rfl rfl)
abbrev cX0_at : ByteArray := prog_1_method_30_code
def yX0_at : MethodName := ⟨RX0, "at", "(I)I"⟩
def dkwX0_at_1 : List UInt8 := [167, 0, 4, 2, 172]
abbrev dktX0_at_1 : List UInt8 := dkwX0_at_1 ++ []
def dkwX0_at_0 : List UInt8 := [27, 184, 0, 183, 153, 0, 22, 42, 180, 0, 20, 27, 182, 0, 193, 153, 0, 7, 4, 167, 0, 8, 3]
abbrev dktX0_at_0 : List UInt8 := dkwX0_at_0 ++ dktX0_at_1
theorem dksX0_at_0 : cX0_at.data.toList.drop 0 = dktX0_at_0 := by decide +kernel
theorem dksX0_at_1 : cX0_at.data.toList.drop 23 = dktX0_at_1 := dk_seg dksX0_at_0 23 rfl rfl
theorem dX0_at_0 : decode cX0_at 0 = .ok (.iload_n 1, 1) := dk_27 (dk_at dksX0_at_0 0 rfl rfl)
theorem dX0_at_1 : decode cX0_at 1 = .ok (.invokestatic 183, 3) := dk_184 0 183 (dk_at dksX0_at_0 1 rfl rfl)
theorem dX0_at_4 : decode cX0_at 4 = .ok (.ifCond .eq 22, 3) := dk_153 0 22 (dk_at dksX0_at_0 4 rfl rfl)
theorem dX0_at_7 : decode cX0_at 7 = .ok (.aload_n 0, 1) := dk_42 (dk_at dksX0_at_0 7 rfl rfl)
theorem dX0_at_8 : decode cX0_at 8 = .ok (.getfield 20, 3) := dk_180 0 20 (dk_at dksX0_at_0 8 rfl rfl)
theorem dX0_at_11 : decode cX0_at 11 = .ok (.iload_n 1, 1) := dk_27 (dk_at dksX0_at_0 11 rfl rfl)
theorem dX0_at_12 : decode cX0_at 12 = .ok (.invokevirtual 193, 3) := dk_182 0 193 (dk_at dksX0_at_0 12 rfl rfl)
theorem dX0_at_15 : decode cX0_at 15 = .ok (.ifCond .eq 7, 3) := dk_153 0 7 (dk_at dksX0_at_0 15 rfl rfl)
theorem dX0_at_18 : decode cX0_at 18 = .ok (.iconst 1, 1) := dk_4 (dk_at dksX0_at_0 18 rfl rfl)
theorem dX0_at_19 : decode cX0_at 19 = .ok (.goto 8, 3) := dk_167 0 8 (dk_at dksX0_at_0 19 rfl rfl)
theorem dX0_at_22 : decode cX0_at 22 = .ok (.iconst 0, 1) := dk_3 (dk_at dksX0_at_0 22 rfl rfl)
theorem dX0_at_23 : decode cX0_at 23 = .ok (.goto 4, 3) := dk_167 0 4 (dk_at dksX0_at_1 0 rfl rfl)
theorem dX0_at_26 : decode cX0_at 26 = .ok (.iconst (-1), 1) := dk_2 (dk_at dksX0_at_1 3 rfl rfl)
theorem dX0_at_27 : decode cX0_at 27 = .ok (.ireturn, 1) := dk_172 (dk_at dksX0_at_1 4 rfl rfl)
abbrev cX0_book : ByteArray := prog_1_method_31_code
def yX0_book : MethodName := ⟨RX0, "book", "(II)I"⟩
def dkwX0_book_1 : List UInt8 := [153, 0, 17, 42, 180, 0, 20, 180, 0, 237, 27, 50, 28, 46, 167, 0, 4, 2, 172]
abbrev dktX0_book_1 : List UInt8 := dkwX0_book_1 ++ []
def dkwX0_book_0 : List UInt8 := [27, 3, 42, 180, 0, 20, 180, 0, 234, 4, 100, 184, 0, 49, 153, 0, 26, 28, 3, 6, 184, 0, 49]
abbrev dktX0_book_0 : List UInt8 := dkwX0_book_0 ++ dktX0_book_1
theorem dksX0_book_0 : cX0_book.data.toList.drop 0 = dktX0_book_0 := by decide +kernel
theorem dksX0_book_1 : cX0_book.data.toList.drop 23 = dktX0_book_1 := dk_seg dksX0_book_0 23 rfl rfl
theorem dX0_book_0 : decode cX0_book 0 = .ok (.iload_n 1, 1) := dk_27 (dk_at dksX0_book_0 0 rfl rfl)
theorem dX0_book_1 : decode cX0_book 1 = .ok (.iconst 0, 1) := dk_3 (dk_at dksX0_book_0 1 rfl rfl)
theorem dX0_book_2 : decode cX0_book 2 = .ok (.aload_n 0, 1) := dk_42 (dk_at dksX0_book_0 2 rfl rfl)
theorem dX0_book_3 : decode cX0_book 3 = .ok (.getfield 20, 3) := dk_180 0 20 (dk_at dksX0_book_0 3 rfl rfl)
theorem dX0_book_6 : decode cX0_book 6 = .ok (.getfield 234, 3) := dk_180 0 234 (dk_at dksX0_book_0 6 rfl rfl)
theorem dX0_book_9 : decode cX0_book 9 = .ok (.iconst 1, 1) := dk_4 (dk_at dksX0_book_0 9 rfl rfl)
theorem dX0_book_10 : decode cX0_book 10 = .ok (.isub, 1) := dk_100 (dk_at dksX0_book_0 10 rfl rfl)
theorem dX0_book_11 : decode cX0_book 11 = .ok (.invokestatic 49, 3) := dk_184 0 49 (dk_at dksX0_book_0 11 rfl rfl)
theorem dX0_book_14 : decode cX0_book 14 = .ok (.ifCond .eq 26, 3) := dk_153 0 26 (dk_at dksX0_book_0 14 rfl rfl)
theorem dX0_book_17 : decode cX0_book 17 = .ok (.iload_n 2, 1) := dk_28 (dk_at dksX0_book_0 17 rfl rfl)
theorem dX0_book_18 : decode cX0_book 18 = .ok (.iconst 0, 1) := dk_3 (dk_at dksX0_book_0 18 rfl rfl)
theorem dX0_book_19 : decode cX0_book 19 = .ok (.iconst 3, 1) := dk_6 (dk_at dksX0_book_0 19 rfl rfl)
theorem dX0_book_20 : decode cX0_book 20 = .ok (.invokestatic 49, 3) := dk_184 0 49 (dk_at dksX0_book_0 20 rfl rfl)
theorem dX0_book_23 : decode cX0_book 23 = .ok (.ifCond .eq 17, 3) := dk_153 0 17 (dk_at dksX0_book_1 0 rfl rfl)
theorem dX0_book_26 : decode cX0_book 26 = .ok (.aload_n 0, 1) := dk_42 (dk_at dksX0_book_1 3 rfl rfl)
theorem dX0_book_27 : decode cX0_book 27 = .ok (.getfield 20, 3) := dk_180 0 20 (dk_at dksX0_book_1 4 rfl rfl)
theorem dX0_book_30 : decode cX0_book 30 = .ok (.getfield 237, 3) := dk_180 0 237 (dk_at dksX0_book_1 7 rfl rfl)
theorem dX0_book_33 : decode cX0_book 33 = .ok (.iload_n 1, 1) := dk_27 (dk_at dksX0_book_1 10 rfl rfl)
theorem dX0_book_34 : decode cX0_book 34 = .ok (.aaload, 1) := dk_50 (dk_at dksX0_book_1 11 rfl rfl)
theorem dX0_book_35 : decode cX0_book 35 = .ok (.iload_n 2, 1) := dk_28 (dk_at dksX0_book_1 12 rfl rfl)
theorem dX0_book_36 : decode cX0_book 36 = .ok (.iaload, 1) := dk_46 (dk_at dksX0_book_1 13 rfl rfl)
theorem dX0_book_37 : decode cX0_book 37 = .ok (.goto 4, 3) := dk_167 0 4 (dk_at dksX0_book_1 14 rfl rfl)
theorem dX0_book_40 : decode cX0_book 40 = .ok (.iconst (-1), 1) := dk_2 (dk_at dksX0_book_1 17 rfl rfl)
theorem dX0_book_41 : decode cX0_book 41 = .ok (.ireturn, 1) := dk_172 (dk_at dksX0_book_1 18 rfl rfl)
abbrev cX0_goes : ByteArray := prog_1_method_33_code
def yX0_goes : MethodName := ⟨RX0, "goes", "(III)I"⟩
def dkwX0_goes_4 : List UInt8 := [180, 0, 27, 180, 0, 246, 167, 0, 10, 42, 180, 0, 27, 180, 0, 249, 172]
abbrev dktX0_goes_4 : List UInt8 := dkwX0_goes_4 ++ []
def dkwX0_goes_3 : List UInt8 := [160, 0, 18, 42, 180, 0, 27, 180, 0, 122, 28, 50, 180, 0, 131, 167, 0, 25, 29, 5, 160, 0, 13, 42]
abbrev dktX0_goes_3 : List UInt8 := dkwX0_goes_3 ++ dktX0_goes_4
def dkwX0_goes_2 : List UInt8 := [182, 0, 244, 29, 154, 0, 18, 42, 180, 0, 27, 180, 0, 122, 28, 50, 180, 0, 134, 167, 0, 45, 29, 4]
abbrev dktX0_goes_2 : List UInt8 := dkwX0_goes_2 ++ dktX0_goes_3
def dkwX0_goes_1 : List UInt8 := [42, 28, 182, 0, 153, 154, 0, 6, 16, 254, 172, 42, 180, 0, 27, 42, 180, 0, 20, 182, 0, 241, 42, 27]
abbrev dktX0_goes_1 : List UInt8 := dkwX0_goes_1 ++ dktX0_goes_2
def dkwX0_goes_0 : List UInt8 := [27, 4, 16, 60, 184, 0, 49, 153, 0, 25, 29, 3, 6, 184, 0, 49, 153, 0, 16, 29, 5, 162, 0, 14]
abbrev dktX0_goes_0 : List UInt8 := dkwX0_goes_0 ++ dktX0_goes_1
theorem dksX0_goes_0 : cX0_goes.data.toList.drop 0 = dktX0_goes_0 := by decide +kernel
theorem dksX0_goes_1 : cX0_goes.data.toList.drop 24 = dktX0_goes_1 := dk_seg dksX0_goes_0 24 rfl rfl
theorem dksX0_goes_2 : cX0_goes.data.toList.drop 48 = dktX0_goes_2 := dk_seg dksX0_goes_1 24 rfl rfl
theorem dksX0_goes_3 : cX0_goes.data.toList.drop 72 = dktX0_goes_3 := dk_seg dksX0_goes_2 24 rfl rfl
theorem dksX0_goes_4 : cX0_goes.data.toList.drop 96 = dktX0_goes_4 := dk_seg dksX0_goes_3 24 rfl rfl
theorem dX0_goes_0 : decode cX0_goes 0 = .ok (.iload_n 1, 1) := dk_27 (dk_at dksX0_goes_0 0 rfl rfl)
theorem dX0_goes_1 : decode cX0_goes 1 = .ok (.iconst 1, 1) := dk_4 (dk_at dksX0_goes_0 1 rfl rfl)
theorem dX0_goes_2 : decode cX0_goes 2 = .ok (.bipush 60, 2) := dk_16 60 (dk_at dksX0_goes_0 2 rfl rfl)
theorem dX0_goes_4 : decode cX0_goes 4 = .ok (.invokestatic 49, 3) := dk_184 0 49 (dk_at dksX0_goes_0 4 rfl rfl)
theorem dX0_goes_7 : decode cX0_goes 7 = .ok (.ifCond .eq 25, 3) := dk_153 0 25 (dk_at dksX0_goes_0 7 rfl rfl)
theorem dX0_goes_10 : decode cX0_goes 10 = .ok (.iload_n 3, 1) := dk_29 (dk_at dksX0_goes_0 10 rfl rfl)
theorem dX0_goes_11 : decode cX0_goes 11 = .ok (.iconst 0, 1) := dk_3 (dk_at dksX0_goes_0 11 rfl rfl)
theorem dX0_goes_12 : decode cX0_goes 12 = .ok (.iconst 3, 1) := dk_6 (dk_at dksX0_goes_0 12 rfl rfl)
theorem dX0_goes_13 : decode cX0_goes 13 = .ok (.invokestatic 49, 3) := dk_184 0 49 (dk_at dksX0_goes_0 13 rfl rfl)
theorem dX0_goes_16 : decode cX0_goes 16 = .ok (.ifCond .eq 16, 3) := dk_153 0 16 (dk_at dksX0_goes_0 16 rfl rfl)
theorem dX0_goes_19 : decode cX0_goes 19 = .ok (.iload_n 3, 1) := dk_29 (dk_at dksX0_goes_0 19 rfl rfl)
theorem dX0_goes_20 : decode cX0_goes 20 = .ok (.iconst 2, 1) := dk_5 (dk_at dksX0_goes_0 20 rfl rfl)
theorem dX0_goes_21 : decode cX0_goes 21 = .ok (.if_icmp .ge 14, 3) := dk_162 0 14 (dk_at dksX0_goes_0 21 rfl rfl)
theorem dX0_goes_24 : decode cX0_goes 24 = .ok (.aload_n 0, 1) := dk_42 (dk_at dksX0_goes_1 0 rfl rfl)
theorem dX0_goes_25 : decode cX0_goes 25 = .ok (.iload_n 2, 1) := dk_28 (dk_at dksX0_goes_1 1 rfl rfl)
theorem dX0_goes_26 : decode cX0_goes 26 = .ok (.invokevirtual 153, 3) := dk_182 0 153 (dk_at dksX0_goes_1 2 rfl rfl)
theorem dX0_goes_29 : decode cX0_goes 29 = .ok (.ifCond .ne 6, 3) := dk_154 0 6 (dk_at dksX0_goes_1 5 rfl rfl)
theorem dX0_goes_32 : decode cX0_goes 32 = .ok (.bipush (-2), 2) := dk_16 254 (dk_at dksX0_goes_1 8 rfl rfl)
theorem dX0_goes_34 : decode cX0_goes 34 = .ok (.ireturn, 1) := dk_172 (dk_at dksX0_goes_1 10 rfl rfl)
theorem dX0_goes_35 : decode cX0_goes 35 = .ok (.aload_n 0, 1) := dk_42 (dk_at dksX0_goes_1 11 rfl rfl)
theorem dX0_goes_36 : decode cX0_goes 36 = .ok (.getfield 27, 3) := dk_180 0 27 (dk_at dksX0_goes_1 12 rfl rfl)
theorem dX0_goes_39 : decode cX0_goes 39 = .ok (.aload_n 0, 1) := dk_42 (dk_at dksX0_goes_1 15 rfl rfl)
theorem dX0_goes_40 : decode cX0_goes 40 = .ok (.getfield 20, 3) := dk_180 0 20 (dk_at dksX0_goes_1 16 rfl rfl)
theorem dX0_goes_43 : decode cX0_goes 43 = .ok (.invokevirtual 241, 3) := dk_182 0 241 (dk_at dksX0_goes_1 19 rfl rfl)
theorem dX0_goes_46 : decode cX0_goes 46 = .ok (.aload_n 0, 1) := dk_42 (dk_at dksX0_goes_1 22 rfl rfl)
theorem dX0_goes_47 : decode cX0_goes 47 = .ok (.iload_n 1, 1) := dk_27 (dk_at dksX0_goes_1 23 rfl rfl)
theorem dX0_goes_48 : decode cX0_goes 48 = .ok (.invokevirtual 244, 3) := dk_182 0 244 (dk_at dksX0_goes_2 0 rfl rfl)
theorem dX0_goes_51 : decode cX0_goes 51 = .ok (.iload_n 3, 1) := dk_29 (dk_at dksX0_goes_2 3 rfl rfl)
theorem dX0_goes_52 : decode cX0_goes 52 = .ok (.ifCond .ne 18, 3) := dk_154 0 18 (dk_at dksX0_goes_2 4 rfl rfl)
theorem dX0_goes_55 : decode cX0_goes 55 = .ok (.aload_n 0, 1) := dk_42 (dk_at dksX0_goes_2 7 rfl rfl)
theorem dX0_goes_56 : decode cX0_goes 56 = .ok (.getfield 27, 3) := dk_180 0 27 (dk_at dksX0_goes_2 8 rfl rfl)
theorem dX0_goes_59 : decode cX0_goes 59 = .ok (.getfield 122, 3) := dk_180 0 122 (dk_at dksX0_goes_2 11 rfl rfl)
theorem dX0_goes_62 : decode cX0_goes 62 = .ok (.iload_n 2, 1) := dk_28 (dk_at dksX0_goes_2 14 rfl rfl)
theorem dX0_goes_63 : decode cX0_goes 63 = .ok (.aaload, 1) := dk_50 (dk_at dksX0_goes_2 15 rfl rfl)
theorem dX0_goes_64 : decode cX0_goes 64 = .ok (.getfield 134, 3) := dk_180 0 134 (dk_at dksX0_goes_2 16 rfl rfl)
theorem dX0_goes_67 : decode cX0_goes 67 = .ok (.goto 45, 3) := dk_167 0 45 (dk_at dksX0_goes_2 19 rfl rfl)
theorem dX0_goes_70 : decode cX0_goes 70 = .ok (.iload_n 3, 1) := dk_29 (dk_at dksX0_goes_2 22 rfl rfl)
theorem dX0_goes_71 : decode cX0_goes 71 = .ok (.iconst 1, 1) := dk_4 (dk_at dksX0_goes_2 23 rfl rfl)
theorem dX0_goes_72 : decode cX0_goes 72 = .ok (.if_icmp .ne 18, 3) := dk_160 0 18 (dk_at dksX0_goes_3 0 rfl rfl)
theorem dX0_goes_75 : decode cX0_goes 75 = .ok (.aload_n 0, 1) := dk_42 (dk_at dksX0_goes_3 3 rfl rfl)
theorem dX0_goes_76 : decode cX0_goes 76 = .ok (.getfield 27, 3) := dk_180 0 27 (dk_at dksX0_goes_3 4 rfl rfl)
theorem dX0_goes_79 : decode cX0_goes 79 = .ok (.getfield 122, 3) := dk_180 0 122 (dk_at dksX0_goes_3 7 rfl rfl)
theorem dX0_goes_82 : decode cX0_goes 82 = .ok (.iload_n 2, 1) := dk_28 (dk_at dksX0_goes_3 10 rfl rfl)
theorem dX0_goes_83 : decode cX0_goes 83 = .ok (.aaload, 1) := dk_50 (dk_at dksX0_goes_3 11 rfl rfl)
theorem dX0_goes_84 : decode cX0_goes 84 = .ok (.getfield 131, 3) := dk_180 0 131 (dk_at dksX0_goes_3 12 rfl rfl)
theorem dX0_goes_87 : decode cX0_goes 87 = .ok (.goto 25, 3) := dk_167 0 25 (dk_at dksX0_goes_3 15 rfl rfl)
theorem dX0_goes_90 : decode cX0_goes 90 = .ok (.iload_n 3, 1) := dk_29 (dk_at dksX0_goes_3 18 rfl rfl)
theorem dX0_goes_91 : decode cX0_goes 91 = .ok (.iconst 2, 1) := dk_5 (dk_at dksX0_goes_3 19 rfl rfl)
theorem dX0_goes_92 : decode cX0_goes 92 = .ok (.if_icmp .ne 13, 3) := dk_160 0 13 (dk_at dksX0_goes_3 20 rfl rfl)
theorem dX0_goes_95 : decode cX0_goes 95 = .ok (.aload_n 0, 1) := dk_42 (dk_at dksX0_goes_3 23 rfl rfl)
theorem dX0_goes_96 : decode cX0_goes 96 = .ok (.getfield 27, 3) := dk_180 0 27 (dk_at dksX0_goes_4 0 rfl rfl)
theorem dX0_goes_99 : decode cX0_goes 99 = .ok (.getfield 246, 3) := dk_180 0 246 (dk_at dksX0_goes_4 3 rfl rfl)
theorem dX0_goes_102 : decode cX0_goes 102 = .ok (.goto 10, 3) := dk_167 0 10 (dk_at dksX0_goes_4 6 rfl rfl)
theorem dX0_goes_105 : decode cX0_goes 105 = .ok (.aload_n 0, 1) := dk_42 (dk_at dksX0_goes_4 9 rfl rfl)
theorem dX0_goes_106 : decode cX0_goes 106 = .ok (.getfield 27, 3) := dk_180 0 27 (dk_at dksX0_goes_4 10 rfl rfl)
theorem dX0_goes_109 : decode cX0_goes 109 = .ok (.getfield 249, 3) := dk_180 0 249 (dk_at dksX0_goes_4 13 rfl rfl)
theorem dX0_goes_112 : decode cX0_goes 112 = .ok (.ireturn, 1) := dk_172 (dk_at dksX0_goes_4 16 rfl rfl)
abbrev cX0_thinks : ByteArray := prog_1_method_32_code
def yX0_thinks : MethodName := ⟨RX0, "thinks", "(I)V"⟩
def dkwX0_thinks_0 : List UInt8 := [3, 61, 28, 27, 162, 0, 17, 42, 180, 0, 27, 182, 0, 207, 87, 132, 2, 1, 167, 255, 240, 177]
abbrev dktX0_thinks_0 : List UInt8 := dkwX0_thinks_0 ++ []
theorem dksX0_thinks_0 : cX0_thinks.data.toList.drop 0 = dktX0_thinks_0 := by decide +kernel
theorem dX0_thinks_0 : decode cX0_thinks 0 = .ok (.iconst 0, 1) := dk_3 (dk_at dksX0_thinks_0 0 rfl rfl)
theorem dX0_thinks_1 : decode cX0_thinks 1 = .ok (.istore_n 2, 1) := dk_61 (dk_at dksX0_thinks_0 1 rfl rfl)
theorem dX0_thinks_2 : decode cX0_thinks 2 = .ok (.iload_n 2, 1) := dk_28 (dk_at dksX0_thinks_0 2 rfl rfl)
theorem dX0_thinks_3 : decode cX0_thinks 3 = .ok (.iload_n 1, 1) := dk_27 (dk_at dksX0_thinks_0 3 rfl rfl)
theorem dX0_thinks_4 : decode cX0_thinks 4 = .ok (.if_icmp .ge 17, 3) := dk_162 0 17 (dk_at dksX0_thinks_0 4 rfl rfl)
theorem dX0_thinks_7 : decode cX0_thinks 7 = .ok (.aload_n 0, 1) := dk_42 (dk_at dksX0_thinks_0 7 rfl rfl)
theorem dX0_thinks_8 : decode cX0_thinks 8 = .ok (.getfield 27, 3) := dk_180 0 27 (dk_at dksX0_thinks_0 8 rfl rfl)
theorem dX0_thinks_11 : decode cX0_thinks 11 = .ok (.invokevirtual 207, 3) := dk_182 0 207 (dk_at dksX0_thinks_0 11 rfl rfl)
theorem dX0_thinks_14 : decode cX0_thinks 14 = .ok (.pop, 1) := dk_87 (dk_at dksX0_thinks_0 14 rfl rfl)
theorem dX0_thinks_15 : decode cX0_thinks 15 = .ok (.iinc 2 1, 3) := dk_132 2 1 (dk_at dksX0_thinks_0 15 rfl rfl)
theorem dX0_thinks_18 : decode cX0_thinks 18 = .ok (.goto (-16), 3) := dk_167 255 240 (dk_at dksX0_thinks_0 18 rfl rfl)
theorem dX0_thinks_21 : decode cX0_thinks 21 = .ok (.return_, 1) := dk_177 (dk_at dksX0_thinks_0 21 rfl rfl)
abbrev cX0_falls : ByteArray := prog_1_method_34_code
def yX0_falls : MethodName := ⟨RX0, "falls", "(I)I"⟩
def dkwX0_falls_1 : List UInt8 := [180, 0, 27, 182, 0, 252, 42, 180, 0, 27, 180, 0, 122, 27, 50, 180, 0, 134, 172]
abbrev dktX0_falls_1 : List UInt8 := dkwX0_falls_1 ++ []
def dkwX0_falls_0 : List UInt8 := [42, 27, 182, 0, 153, 154, 0, 5, 2, 172, 42, 180, 0, 27, 42, 180, 0, 20, 182, 0, 241, 42]
abbrev dktX0_falls_0 : List UInt8 := dkwX0_falls_0 ++ dktX0_falls_1
theorem dksX0_falls_0 : cX0_falls.data.toList.drop 0 = dktX0_falls_0 := by decide +kernel
theorem dksX0_falls_1 : cX0_falls.data.toList.drop 22 = dktX0_falls_1 := dk_seg dksX0_falls_0 22 rfl rfl
theorem dX0_falls_0 : decode cX0_falls 0 = .ok (.aload_n 0, 1) := dk_42 (dk_at dksX0_falls_0 0 rfl rfl)
theorem dX0_falls_1 : decode cX0_falls 1 = .ok (.iload_n 1, 1) := dk_27 (dk_at dksX0_falls_0 1 rfl rfl)
theorem dX0_falls_2 : decode cX0_falls 2 = .ok (.invokevirtual 153, 3) := dk_182 0 153 (dk_at dksX0_falls_0 2 rfl rfl)
theorem dX0_falls_5 : decode cX0_falls 5 = .ok (.ifCond .ne 5, 3) := dk_154 0 5 (dk_at dksX0_falls_0 5 rfl rfl)
theorem dX0_falls_8 : decode cX0_falls 8 = .ok (.iconst (-1), 1) := dk_2 (dk_at dksX0_falls_0 8 rfl rfl)
theorem dX0_falls_9 : decode cX0_falls 9 = .ok (.ireturn, 1) := dk_172 (dk_at dksX0_falls_0 9 rfl rfl)
theorem dX0_falls_10 : decode cX0_falls 10 = .ok (.aload_n 0, 1) := dk_42 (dk_at dksX0_falls_0 10 rfl rfl)
theorem dX0_falls_11 : decode cX0_falls 11 = .ok (.getfield 27, 3) := dk_180 0 27 (dk_at dksX0_falls_0 11 rfl rfl)
theorem dX0_falls_14 : decode cX0_falls 14 = .ok (.aload_n 0, 1) := dk_42 (dk_at dksX0_falls_0 14 rfl rfl)
theorem dX0_falls_15 : decode cX0_falls 15 = .ok (.getfield 20, 3) := dk_180 0 20 (dk_at dksX0_falls_0 15 rfl rfl)
theorem dX0_falls_18 : decode cX0_falls 18 = .ok (.invokevirtual 241, 3) := dk_182 0 241 (dk_at dksX0_falls_0 18 rfl rfl)
theorem dX0_falls_21 : decode cX0_falls 21 = .ok (.aload_n 0, 1) := dk_42 (dk_at dksX0_falls_0 21 rfl rfl)
theorem dX0_falls_22 : decode cX0_falls 22 = .ok (.getfield 27, 3) := dk_180 0 27 (dk_at dksX0_falls_1 0 rfl rfl)
theorem dX0_falls_25 : decode cX0_falls 25 = .ok (.invokevirtual 252, 3) := dk_182 0 252 (dk_at dksX0_falls_1 3 rfl rfl)
theorem dX0_falls_28 : decode cX0_falls 28 = .ok (.aload_n 0, 1) := dk_42 (dk_at dksX0_falls_1 6 rfl rfl)
theorem dX0_falls_29 : decode cX0_falls 29 = .ok (.getfield 27, 3) := dk_180 0 27 (dk_at dksX0_falls_1 7 rfl rfl)
theorem dX0_falls_32 : decode cX0_falls 32 = .ok (.getfield 122, 3) := dk_180 0 122 (dk_at dksX0_falls_1 10 rfl rfl)
theorem dX0_falls_35 : decode cX0_falls 35 = .ok (.iload_n 1, 1) := dk_27 (dk_at dksX0_falls_1 13 rfl rfl)
theorem dX0_falls_36 : decode cX0_falls 36 = .ok (.aaload, 1) := dk_50 (dk_at dksX0_falls_1 14 rfl rfl)
theorem dX0_falls_37 : decode cX0_falls 37 = .ok (.getfield 134, 3) := dk_180 0 134 (dk_at dksX0_falls_1 15 rfl rfl)
theorem dX0_falls_40 : decode cX0_falls 40 = .ok (.ireturn, 1) := dk_172 (dk_at dksX0_falls_1 18 rfl rfl)
abbrev cX0_brings : ByteArray := prog_1_method_35_code
def yX0_brings : MethodName := ⟨RX0, "brings", "(III)I"⟩
def dkwX0_brings_5 : List UInt8 := [132, 6, 1, 167, 255, 185, 29, 154, 0, 8, 21, 4, 167, 0, 5, 21, 5, 172]
abbrev dktX0_brings_5 : List UInt8 := dkwX0_brings_5 ++ []
def dkwX0_brings_4 : List UInt8 := [21, 5, 163, 0, 6, 167, 0, 18, 42, 180, 0, 27, 180, 0, 255, 27, 46, 54, 5, 21, 6, 54, 4]
abbrev dktX0_brings_4 : List UInt8 := dkwX0_brings_4 ++ dktX0_brings_5
def dkwX0_brings_3 : List UInt8 := [27, 21, 6, 16, 10, 182, 0, 189, 87, 42, 28, 182, 0, 244, 42, 180, 0, 27, 180, 0, 255, 27, 46]
abbrev dktX0_brings_3 : List UInt8 := dkwX0_brings_3 ++ dktX0_brings_4
def dkwX0_brings_2 : List UInt8 := [54, 6, 21, 6, 16, 10, 162, 0, 70, 42, 180, 0, 27, 42, 180, 0, 20, 182, 0, 241, 42, 180, 0, 27]
abbrev dktX0_brings_2 : List UInt8 := dkwX0_brings_2 ++ dktX0_brings_3
def dkwX0_brings_1 : List UInt8 := [153, 0, 15, 42, 180, 0, 20, 180, 0, 156, 16, 14, 160, 0, 5, 2, 172, 2, 54, 4, 2, 54, 5, 3]
abbrev dktX0_brings_1 : List UInt8 := dkwX0_brings_1 ++ dktX0_brings_2
def dkwX0_brings_0 : List UInt8 := [42, 27, 182, 0, 153, 153, 0, 34, 28, 4, 16, 20, 184, 0, 49, 153, 0, 24, 29, 3, 4, 184, 0, 49]
abbrev dktX0_brings_0 : List UInt8 := dkwX0_brings_0 ++ dktX0_brings_1
theorem dksX0_brings_0 : cX0_brings.data.toList.drop 0 = dktX0_brings_0 := by decide +kernel
theorem dksX0_brings_1 : cX0_brings.data.toList.drop 24 = dktX0_brings_1 := dk_seg dksX0_brings_0 24 rfl rfl
theorem dksX0_brings_2 : cX0_brings.data.toList.drop 48 = dktX0_brings_2 := dk_seg dksX0_brings_1 24 rfl rfl
theorem dksX0_brings_3 : cX0_brings.data.toList.drop 72 = dktX0_brings_3 := dk_seg dksX0_brings_2 24 rfl rfl
theorem dksX0_brings_4 : cX0_brings.data.toList.drop 95 = dktX0_brings_4 := dk_seg dksX0_brings_3 23 rfl rfl
theorem dksX0_brings_5 : cX0_brings.data.toList.drop 118 = dktX0_brings_5 := dk_seg dksX0_brings_4 23 rfl rfl
theorem dX0_brings_0 : decode cX0_brings 0 = .ok (.aload_n 0, 1) := dk_42 (dk_at dksX0_brings_0 0 rfl rfl)
theorem dX0_brings_1 : decode cX0_brings 1 = .ok (.iload_n 1, 1) := dk_27 (dk_at dksX0_brings_0 1 rfl rfl)
theorem dX0_brings_2 : decode cX0_brings 2 = .ok (.invokevirtual 153, 3) := dk_182 0 153 (dk_at dksX0_brings_0 2 rfl rfl)
theorem dX0_brings_5 : decode cX0_brings 5 = .ok (.ifCond .eq 34, 3) := dk_153 0 34 (dk_at dksX0_brings_0 5 rfl rfl)
theorem dX0_brings_8 : decode cX0_brings 8 = .ok (.iload_n 2, 1) := dk_28 (dk_at dksX0_brings_0 8 rfl rfl)
theorem dX0_brings_9 : decode cX0_brings 9 = .ok (.iconst 1, 1) := dk_4 (dk_at dksX0_brings_0 9 rfl rfl)
theorem dX0_brings_10 : decode cX0_brings 10 = .ok (.bipush 20, 2) := dk_16 20 (dk_at dksX0_brings_0 10 rfl rfl)
theorem dX0_brings_12 : decode cX0_brings 12 = .ok (.invokestatic 49, 3) := dk_184 0 49 (dk_at dksX0_brings_0 12 rfl rfl)
theorem dX0_brings_15 : decode cX0_brings 15 = .ok (.ifCond .eq 24, 3) := dk_153 0 24 (dk_at dksX0_brings_0 15 rfl rfl)
theorem dX0_brings_18 : decode cX0_brings 18 = .ok (.iload_n 3, 1) := dk_29 (dk_at dksX0_brings_0 18 rfl rfl)
theorem dX0_brings_19 : decode cX0_brings 19 = .ok (.iconst 0, 1) := dk_3 (dk_at dksX0_brings_0 19 rfl rfl)
theorem dX0_brings_20 : decode cX0_brings 20 = .ok (.iconst 1, 1) := dk_4 (dk_at dksX0_brings_0 20 rfl rfl)
theorem dX0_brings_21 : decode cX0_brings 21 = .ok (.invokestatic 49, 3) := dk_184 0 49 (dk_at dksX0_brings_0 21 rfl rfl)
theorem dX0_brings_24 : decode cX0_brings 24 = .ok (.ifCond .eq 15, 3) := dk_153 0 15 (dk_at dksX0_brings_1 0 rfl rfl)
theorem dX0_brings_27 : decode cX0_brings 27 = .ok (.aload_n 0, 1) := dk_42 (dk_at dksX0_brings_1 3 rfl rfl)
theorem dX0_brings_28 : decode cX0_brings 28 = .ok (.getfield 20, 3) := dk_180 0 20 (dk_at dksX0_brings_1 4 rfl rfl)
theorem dX0_brings_31 : decode cX0_brings 31 = .ok (.getfield 156, 3) := dk_180 0 156 (dk_at dksX0_brings_1 7 rfl rfl)
theorem dX0_brings_34 : decode cX0_brings 34 = .ok (.bipush 14, 2) := dk_16 14 (dk_at dksX0_brings_1 10 rfl rfl)
theorem dX0_brings_36 : decode cX0_brings 36 = .ok (.if_icmp .ne 5, 3) := dk_160 0 5 (dk_at dksX0_brings_1 12 rfl rfl)
theorem dX0_brings_39 : decode cX0_brings 39 = .ok (.iconst (-1), 1) := dk_2 (dk_at dksX0_brings_1 15 rfl rfl)
theorem dX0_brings_40 : decode cX0_brings 40 = .ok (.ireturn, 1) := dk_172 (dk_at dksX0_brings_1 16 rfl rfl)
theorem dX0_brings_41 : decode cX0_brings 41 = .ok (.iconst (-1), 1) := dk_2 (dk_at dksX0_brings_1 17 rfl rfl)
theorem dX0_brings_42 : decode cX0_brings 42 = .ok (.istore 4, 2) := dk_54 4 (dk_at dksX0_brings_1 18 rfl rfl)
theorem dX0_brings_44 : decode cX0_brings 44 = .ok (.iconst (-1), 1) := dk_2 (dk_at dksX0_brings_1 20 rfl rfl)
theorem dX0_brings_45 : decode cX0_brings 45 = .ok (.istore 5, 2) := dk_54 5 (dk_at dksX0_brings_1 21 rfl rfl)
theorem dX0_brings_47 : decode cX0_brings 47 = .ok (.iconst 0, 1) := dk_3 (dk_at dksX0_brings_1 23 rfl rfl)
theorem dX0_brings_48 : decode cX0_brings 48 = .ok (.istore 6, 2) := dk_54 6 (dk_at dksX0_brings_2 0 rfl rfl)
theorem dX0_brings_50 : decode cX0_brings 50 = .ok (.iload 6, 2) := dk_21 6 (dk_at dksX0_brings_2 2 rfl rfl)
theorem dX0_brings_52 : decode cX0_brings 52 = .ok (.bipush 10, 2) := dk_16 10 (dk_at dksX0_brings_2 4 rfl rfl)
theorem dX0_brings_54 : decode cX0_brings 54 = .ok (.if_icmp .ge 70, 3) := dk_162 0 70 (dk_at dksX0_brings_2 6 rfl rfl)
theorem dX0_brings_57 : decode cX0_brings 57 = .ok (.aload_n 0, 1) := dk_42 (dk_at dksX0_brings_2 9 rfl rfl)
theorem dX0_brings_58 : decode cX0_brings 58 = .ok (.getfield 27, 3) := dk_180 0 27 (dk_at dksX0_brings_2 10 rfl rfl)
theorem dX0_brings_61 : decode cX0_brings 61 = .ok (.aload_n 0, 1) := dk_42 (dk_at dksX0_brings_2 13 rfl rfl)
theorem dX0_brings_62 : decode cX0_brings 62 = .ok (.getfield 20, 3) := dk_180 0 20 (dk_at dksX0_brings_2 14 rfl rfl)
theorem dX0_brings_65 : decode cX0_brings 65 = .ok (.invokevirtual 241, 3) := dk_182 0 241 (dk_at dksX0_brings_2 17 rfl rfl)
theorem dX0_brings_68 : decode cX0_brings 68 = .ok (.aload_n 0, 1) := dk_42 (dk_at dksX0_brings_2 20 rfl rfl)
theorem dX0_brings_69 : decode cX0_brings 69 = .ok (.getfield 27, 3) := dk_180 0 27 (dk_at dksX0_brings_2 21 rfl rfl)
theorem dX0_brings_72 : decode cX0_brings 72 = .ok (.iload_n 1, 1) := dk_27 (dk_at dksX0_brings_3 0 rfl rfl)
theorem dX0_brings_73 : decode cX0_brings 73 = .ok (.iload 6, 2) := dk_21 6 (dk_at dksX0_brings_3 1 rfl rfl)
theorem dX0_brings_75 : decode cX0_brings 75 = .ok (.bipush 10, 2) := dk_16 10 (dk_at dksX0_brings_3 3 rfl rfl)
theorem dX0_brings_77 : decode cX0_brings 77 = .ok (.invokevirtual 189, 3) := dk_182 0 189 (dk_at dksX0_brings_3 5 rfl rfl)
theorem dX0_brings_80 : decode cX0_brings 80 = .ok (.pop, 1) := dk_87 (dk_at dksX0_brings_3 8 rfl rfl)
theorem dX0_brings_81 : decode cX0_brings 81 = .ok (.aload_n 0, 1) := dk_42 (dk_at dksX0_brings_3 9 rfl rfl)
theorem dX0_brings_82 : decode cX0_brings 82 = .ok (.iload_n 2, 1) := dk_28 (dk_at dksX0_brings_3 10 rfl rfl)
theorem dX0_brings_83 : decode cX0_brings 83 = .ok (.invokevirtual 244, 3) := dk_182 0 244 (dk_at dksX0_brings_3 11 rfl rfl)
theorem dX0_brings_86 : decode cX0_brings 86 = .ok (.aload_n 0, 1) := dk_42 (dk_at dksX0_brings_3 14 rfl rfl)
theorem dX0_brings_87 : decode cX0_brings 87 = .ok (.getfield 27, 3) := dk_180 0 27 (dk_at dksX0_brings_3 15 rfl rfl)
theorem dX0_brings_90 : decode cX0_brings 90 = .ok (.getfield 255, 3) := dk_180 0 255 (dk_at dksX0_brings_3 18 rfl rfl)
theorem dX0_brings_93 : decode cX0_brings 93 = .ok (.iload_n 1, 1) := dk_27 (dk_at dksX0_brings_3 21 rfl rfl)
theorem dX0_brings_94 : decode cX0_brings 94 = .ok (.iaload, 1) := dk_46 (dk_at dksX0_brings_3 22 rfl rfl)
theorem dX0_brings_95 : decode cX0_brings 95 = .ok (.iload 5, 2) := dk_21 5 (dk_at dksX0_brings_4 0 rfl rfl)
theorem dX0_brings_97 : decode cX0_brings 97 = .ok (.if_icmp .gt 6, 3) := dk_163 0 6 (dk_at dksX0_brings_4 2 rfl rfl)
theorem dX0_brings_100 : decode cX0_brings 100 = .ok (.goto 18, 3) := dk_167 0 18 (dk_at dksX0_brings_4 5 rfl rfl)
theorem dX0_brings_103 : decode cX0_brings 103 = .ok (.aload_n 0, 1) := dk_42 (dk_at dksX0_brings_4 8 rfl rfl)
theorem dX0_brings_104 : decode cX0_brings 104 = .ok (.getfield 27, 3) := dk_180 0 27 (dk_at dksX0_brings_4 9 rfl rfl)
theorem dX0_brings_107 : decode cX0_brings 107 = .ok (.getfield 255, 3) := dk_180 0 255 (dk_at dksX0_brings_4 12 rfl rfl)
theorem dX0_brings_110 : decode cX0_brings 110 = .ok (.iload_n 1, 1) := dk_27 (dk_at dksX0_brings_4 15 rfl rfl)
theorem dX0_brings_111 : decode cX0_brings 111 = .ok (.iaload, 1) := dk_46 (dk_at dksX0_brings_4 16 rfl rfl)
theorem dX0_brings_112 : decode cX0_brings 112 = .ok (.istore 5, 2) := dk_54 5 (dk_at dksX0_brings_4 17 rfl rfl)
theorem dX0_brings_114 : decode cX0_brings 114 = .ok (.iload 6, 2) := dk_21 6 (dk_at dksX0_brings_4 19 rfl rfl)
theorem dX0_brings_116 : decode cX0_brings 116 = .ok (.istore 4, 2) := dk_54 4 (dk_at dksX0_brings_4 21 rfl rfl)
theorem dX0_brings_118 : decode cX0_brings 118 = .ok (.iinc 6 1, 3) := dk_132 6 1 (dk_at dksX0_brings_5 0 rfl rfl)
theorem dX0_brings_121 : decode cX0_brings 121 = .ok (.goto (-71), 3) := dk_167 255 185 (dk_at dksX0_brings_5 3 rfl rfl)
theorem dX0_brings_124 : decode cX0_brings 124 = .ok (.iload_n 3, 1) := dk_29 (dk_at dksX0_brings_5 6 rfl rfl)
theorem dX0_brings_125 : decode cX0_brings 125 = .ok (.ifCond .ne 8, 3) := dk_154 0 8 (dk_at dksX0_brings_5 7 rfl rfl)
theorem dX0_brings_128 : decode cX0_brings 128 = .ok (.iload 4, 2) := dk_21 4 (dk_at dksX0_brings_5 10 rfl rfl)
theorem dX0_brings_130 : decode cX0_brings 130 = .ok (.goto 5, 3) := dk_167 0 5 (dk_at dksX0_brings_5 12 rfl rfl)
theorem dX0_brings_133 : decode cX0_brings 133 = .ok (.iload 5, 2) := dk_21 5 (dk_at dksX0_brings_5 15 rfl rfl)
theorem dX0_brings_135 : decode cX0_brings 135 = .ok (.ireturn, 1) := dk_172 (dk_at dksX0_brings_5 17 rfl rfl)
abbrev cX0_swings : ByteArray := prog_1_method_37_code
def yX0_swings : MethodName := ⟨RX0, "swings", "(II)I"⟩
def dkwX0_swings_3 : List UInt8 := [21, 4, 172, 132, 4, 1, 167, 255, 221, 2, 172]
abbrev dktX0_swings_3 : List UInt8 := dkwX0_swings_3 ++ []
def dkwX0_swings_2 : List UInt8 := [180, 0, 174, 27, 50, 180, 0, 178, 163, 0, 24, 42, 27, 21, 4, 28, 182, 1, 5, 29, 159, 0, 6]
abbrev dktX0_swings_2 : List UInt8 := dkwX0_swings_2 ++ dktX0_swings_3
def dkwX0_swings_1 : List UInt8 := [154, 0, 5, 2, 172, 42, 27, 3, 28, 182, 1, 5, 62, 4, 54, 4, 21, 4, 42, 180, 0, 20]
abbrev dktX0_swings_1 : List UInt8 := dkwX0_swings_1 ++ dktX0_swings_2
def dkwX0_swings_0 : List UInt8 := [27, 3, 42, 180, 0, 20, 180, 0, 156, 4, 100, 184, 0, 49, 153, 0, 13, 28, 4, 16, 20, 184, 0, 49]
abbrev dktX0_swings_0 : List UInt8 := dkwX0_swings_0 ++ dktX0_swings_1
theorem dksX0_swings_0 : cX0_swings.data.toList.drop 0 = dktX0_swings_0 := by decide +kernel
theorem dksX0_swings_1 : cX0_swings.data.toList.drop 24 = dktX0_swings_1 := dk_seg dksX0_swings_0 24 rfl rfl
theorem dksX0_swings_2 : cX0_swings.data.toList.drop 46 = dktX0_swings_2 := dk_seg dksX0_swings_1 22 rfl rfl
theorem dksX0_swings_3 : cX0_swings.data.toList.drop 69 = dktX0_swings_3 := dk_seg dksX0_swings_2 23 rfl rfl
theorem dX0_swings_0 : decode cX0_swings 0 = .ok (.iload_n 1, 1) := dk_27 (dk_at dksX0_swings_0 0 rfl rfl)
theorem dX0_swings_1 : decode cX0_swings 1 = .ok (.iconst 0, 1) := dk_3 (dk_at dksX0_swings_0 1 rfl rfl)
theorem dX0_swings_2 : decode cX0_swings 2 = .ok (.aload_n 0, 1) := dk_42 (dk_at dksX0_swings_0 2 rfl rfl)
theorem dX0_swings_3 : decode cX0_swings 3 = .ok (.getfield 20, 3) := dk_180 0 20 (dk_at dksX0_swings_0 3 rfl rfl)
theorem dX0_swings_6 : decode cX0_swings 6 = .ok (.getfield 156, 3) := dk_180 0 156 (dk_at dksX0_swings_0 6 rfl rfl)
theorem dX0_swings_9 : decode cX0_swings 9 = .ok (.iconst 1, 1) := dk_4 (dk_at dksX0_swings_0 9 rfl rfl)
theorem dX0_swings_10 : decode cX0_swings 10 = .ok (.isub, 1) := dk_100 (dk_at dksX0_swings_0 10 rfl rfl)
theorem dX0_swings_11 : decode cX0_swings 11 = .ok (.invokestatic 49, 3) := dk_184 0 49 (dk_at dksX0_swings_0 11 rfl rfl)
theorem dX0_swings_14 : decode cX0_swings 14 = .ok (.ifCond .eq 13, 3) := dk_153 0 13 (dk_at dksX0_swings_0 14 rfl rfl)
theorem dX0_swings_17 : decode cX0_swings 17 = .ok (.iload_n 2, 1) := dk_28 (dk_at dksX0_swings_0 17 rfl rfl)
theorem dX0_swings_18 : decode cX0_swings 18 = .ok (.iconst 1, 1) := dk_4 (dk_at dksX0_swings_0 18 rfl rfl)
theorem dX0_swings_19 : decode cX0_swings 19 = .ok (.bipush 20, 2) := dk_16 20 (dk_at dksX0_swings_0 19 rfl rfl)
theorem dX0_swings_21 : decode cX0_swings 21 = .ok (.invokestatic 49, 3) := dk_184 0 49 (dk_at dksX0_swings_0 21 rfl rfl)
theorem dX0_swings_24 : decode cX0_swings 24 = .ok (.ifCond .ne 5, 3) := dk_154 0 5 (dk_at dksX0_swings_1 0 rfl rfl)
theorem dX0_swings_27 : decode cX0_swings 27 = .ok (.iconst (-1), 1) := dk_2 (dk_at dksX0_swings_1 3 rfl rfl)
theorem dX0_swings_28 : decode cX0_swings 28 = .ok (.ireturn, 1) := dk_172 (dk_at dksX0_swings_1 4 rfl rfl)
theorem dX0_swings_29 : decode cX0_swings 29 = .ok (.aload_n 0, 1) := dk_42 (dk_at dksX0_swings_1 5 rfl rfl)
theorem dX0_swings_30 : decode cX0_swings 30 = .ok (.iload_n 1, 1) := dk_27 (dk_at dksX0_swings_1 6 rfl rfl)
theorem dX0_swings_31 : decode cX0_swings 31 = .ok (.iconst 0, 1) := dk_3 (dk_at dksX0_swings_1 7 rfl rfl)
theorem dX0_swings_32 : decode cX0_swings 32 = .ok (.iload_n 2, 1) := dk_28 (dk_at dksX0_swings_1 8 rfl rfl)
theorem dX0_swings_33 : decode cX0_swings 33 = .ok (.invokevirtual 261, 3) := dk_182 1 5 (dk_at dksX0_swings_1 9 rfl rfl)
theorem dX0_swings_36 : decode cX0_swings 36 = .ok (.istore_n 3, 1) := dk_62 (dk_at dksX0_swings_1 12 rfl rfl)
theorem dX0_swings_37 : decode cX0_swings 37 = .ok (.iconst 1, 1) := dk_4 (dk_at dksX0_swings_1 13 rfl rfl)
theorem dX0_swings_38 : decode cX0_swings 38 = .ok (.istore 4, 2) := dk_54 4 (dk_at dksX0_swings_1 14 rfl rfl)
theorem dX0_swings_40 : decode cX0_swings 40 = .ok (.iload 4, 2) := dk_21 4 (dk_at dksX0_swings_1 16 rfl rfl)
theorem dX0_swings_42 : decode cX0_swings 42 = .ok (.aload_n 0, 1) := dk_42 (dk_at dksX0_swings_1 18 rfl rfl)
theorem dX0_swings_43 : decode cX0_swings 43 = .ok (.getfield 20, 3) := dk_180 0 20 (dk_at dksX0_swings_1 19 rfl rfl)
theorem dX0_swings_46 : decode cX0_swings 46 = .ok (.getfield 174, 3) := dk_180 0 174 (dk_at dksX0_swings_2 0 rfl rfl)
theorem dX0_swings_49 : decode cX0_swings 49 = .ok (.iload_n 1, 1) := dk_27 (dk_at dksX0_swings_2 3 rfl rfl)
theorem dX0_swings_50 : decode cX0_swings 50 = .ok (.aaload, 1) := dk_50 (dk_at dksX0_swings_2 4 rfl rfl)
theorem dX0_swings_51 : decode cX0_swings 51 = .ok (.getfield 178, 3) := dk_180 0 178 (dk_at dksX0_swings_2 5 rfl rfl)
theorem dX0_swings_54 : decode cX0_swings 54 = .ok (.if_icmp .gt 24, 3) := dk_163 0 24 (dk_at dksX0_swings_2 8 rfl rfl)
theorem dX0_swings_57 : decode cX0_swings 57 = .ok (.aload_n 0, 1) := dk_42 (dk_at dksX0_swings_2 11 rfl rfl)
theorem dX0_swings_58 : decode cX0_swings 58 = .ok (.iload_n 1, 1) := dk_27 (dk_at dksX0_swings_2 12 rfl rfl)
theorem dX0_swings_59 : decode cX0_swings 59 = .ok (.iload 4, 2) := dk_21 4 (dk_at dksX0_swings_2 13 rfl rfl)
theorem dX0_swings_61 : decode cX0_swings 61 = .ok (.iload_n 2, 1) := dk_28 (dk_at dksX0_swings_2 15 rfl rfl)
theorem dX0_swings_62 : decode cX0_swings 62 = .ok (.invokevirtual 261, 3) := dk_182 1 5 (dk_at dksX0_swings_2 16 rfl rfl)
theorem dX0_swings_65 : decode cX0_swings 65 = .ok (.iload_n 3, 1) := dk_29 (dk_at dksX0_swings_2 19 rfl rfl)
theorem dX0_swings_66 : decode cX0_swings 66 = .ok (.if_icmp .eq 6, 3) := dk_159 0 6 (dk_at dksX0_swings_2 20 rfl rfl)
theorem dX0_swings_69 : decode cX0_swings 69 = .ok (.iload 4, 2) := dk_21 4 (dk_at dksX0_swings_3 0 rfl rfl)
theorem dX0_swings_71 : decode cX0_swings 71 = .ok (.ireturn, 1) := dk_172 (dk_at dksX0_swings_3 2 rfl rfl)
theorem dX0_swings_72 : decode cX0_swings 72 = .ok (.iinc 4 1, 3) := dk_132 4 1 (dk_at dksX0_swings_3 3 rfl rfl)
theorem dX0_swings_75 : decode cX0_swings 75 = .ok (.goto (-35), 3) := dk_167 255 221 (dk_at dksX0_swings_3 6 rfl rfl)
theorem dX0_swings_78 : decode cX0_swings 78 = .ok (.iconst (-1), 1) := dk_2 (dk_at dksX0_swings_3 9 rfl rfl)
theorem dX0_swings_79 : decode cX0_swings 79 = .ok (.ireturn, 1) := dk_172 (dk_at dksX0_swings_3 10 rfl rfl)
abbrev cX0_mostSeatedWith : ByteArray := prog_1_method_36_code
def yX0_mostSeatedWith : MethodName := ⟨RX0, "mostSeatedWith", "(III)I"⟩
def dkwX0_mostSeatedWith_1 : List UInt8 := [28, 100, 181, 0, 178, 42, 29, 182, 0, 244, 42, 180, 0, 27, 182, 1, 2, 172]
abbrev dktX0_mostSeatedWith_1 : List UInt8 := dkwX0_mostSeatedWith_1 ++ []
def dkwX0_mostSeatedWith_0 : List UInt8 := [42, 180, 0, 27, 42, 180, 0, 20, 182, 0, 241, 42, 180, 0, 27, 180, 0, 174, 27, 50, 89, 180, 0, 178]
abbrev dktX0_mostSeatedWith_0 : List UInt8 := dkwX0_mostSeatedWith_0 ++ dktX0_mostSeatedWith_1
theorem dksX0_mostSeatedWith_0 : cX0_mostSeatedWith.data.toList.drop 0 = dktX0_mostSeatedWith_0 := by decide +kernel
theorem dksX0_mostSeatedWith_1 : cX0_mostSeatedWith.data.toList.drop 24 = dktX0_mostSeatedWith_1 := dk_seg dksX0_mostSeatedWith_0 24 rfl rfl
theorem dX0_mostSeatedWith_0 : decode cX0_mostSeatedWith 0 = .ok (.aload_n 0, 1) := dk_42 (dk_at dksX0_mostSeatedWith_0 0 rfl rfl)
theorem dX0_mostSeatedWith_1 : decode cX0_mostSeatedWith 1 = .ok (.getfield 27, 3) := dk_180 0 27 (dk_at dksX0_mostSeatedWith_0 1 rfl rfl)
theorem dX0_mostSeatedWith_4 : decode cX0_mostSeatedWith 4 = .ok (.aload_n 0, 1) := dk_42 (dk_at dksX0_mostSeatedWith_0 4 rfl rfl)
theorem dX0_mostSeatedWith_5 : decode cX0_mostSeatedWith 5 = .ok (.getfield 20, 3) := dk_180 0 20 (dk_at dksX0_mostSeatedWith_0 5 rfl rfl)
theorem dX0_mostSeatedWith_8 : decode cX0_mostSeatedWith 8 = .ok (.invokevirtual 241, 3) := dk_182 0 241 (dk_at dksX0_mostSeatedWith_0 8 rfl rfl)
theorem dX0_mostSeatedWith_11 : decode cX0_mostSeatedWith 11 = .ok (.aload_n 0, 1) := dk_42 (dk_at dksX0_mostSeatedWith_0 11 rfl rfl)
theorem dX0_mostSeatedWith_12 : decode cX0_mostSeatedWith 12 = .ok (.getfield 27, 3) := dk_180 0 27 (dk_at dksX0_mostSeatedWith_0 12 rfl rfl)
theorem dX0_mostSeatedWith_15 : decode cX0_mostSeatedWith 15 = .ok (.getfield 174, 3) := dk_180 0 174 (dk_at dksX0_mostSeatedWith_0 15 rfl rfl)
theorem dX0_mostSeatedWith_18 : decode cX0_mostSeatedWith 18 = .ok (.iload_n 1, 1) := dk_27 (dk_at dksX0_mostSeatedWith_0 18 rfl rfl)
theorem dX0_mostSeatedWith_19 : decode cX0_mostSeatedWith 19 = .ok (.aaload, 1) := dk_50 (dk_at dksX0_mostSeatedWith_0 19 rfl rfl)
theorem dX0_mostSeatedWith_20 : decode cX0_mostSeatedWith 20 = .ok (.dup, 1) := dk_89 (dk_at dksX0_mostSeatedWith_0 20 rfl rfl)
theorem dX0_mostSeatedWith_21 : decode cX0_mostSeatedWith 21 = .ok (.getfield 178, 3) := dk_180 0 178 (dk_at dksX0_mostSeatedWith_0 21 rfl rfl)
theorem dX0_mostSeatedWith_24 : decode cX0_mostSeatedWith 24 = .ok (.iload_n 2, 1) := dk_28 (dk_at dksX0_mostSeatedWith_1 0 rfl rfl)
theorem dX0_mostSeatedWith_25 : decode cX0_mostSeatedWith 25 = .ok (.isub, 1) := dk_100 (dk_at dksX0_mostSeatedWith_1 1 rfl rfl)
theorem dX0_mostSeatedWith_26 : decode cX0_mostSeatedWith 26 = .ok (.putfield 178, 3) := dk_181 0 178 (dk_at dksX0_mostSeatedWith_1 2 rfl rfl)
theorem dX0_mostSeatedWith_29 : decode cX0_mostSeatedWith 29 = .ok (.aload_n 0, 1) := dk_42 (dk_at dksX0_mostSeatedWith_1 5 rfl rfl)
theorem dX0_mostSeatedWith_30 : decode cX0_mostSeatedWith 30 = .ok (.iload_n 3, 1) := dk_29 (dk_at dksX0_mostSeatedWith_1 6 rfl rfl)
theorem dX0_mostSeatedWith_31 : decode cX0_mostSeatedWith 31 = .ok (.invokevirtual 244, 3) := dk_182 0 244 (dk_at dksX0_mostSeatedWith_1 7 rfl rfl)
theorem dX0_mostSeatedWith_34 : decode cX0_mostSeatedWith 34 = .ok (.aload_n 0, 1) := dk_42 (dk_at dksX0_mostSeatedWith_1 10 rfl rfl)
theorem dX0_mostSeatedWith_35 : decode cX0_mostSeatedWith 35 = .ok (.getfield 27, 3) := dk_180 0 27 (dk_at dksX0_mostSeatedWith_1 11 rfl rfl)
theorem dX0_mostSeatedWith_38 : decode cX0_mostSeatedWith 38 = .ok (.invokevirtual 258, 3) := dk_182 1 2 (dk_at dksX0_mostSeatedWith_1 14 rfl rfl)
theorem dX0_mostSeatedWith_41 : decode cX0_mostSeatedWith 41 = .ok (.ireturn, 1) := dk_172 (dk_at dksX0_mostSeatedWith_1 17 rfl rfl)
abbrev cX0_feeds : ByteArray := prog_1_method_40_code
def yX0_feeds : MethodName := ⟨RX0, "feeds", "(I)I"⟩
def dkwX0_feeds_2 : List UInt8 := [132, 3, 1, 167, 255, 220, 27, 154, 0, 10, 28, 184, 1, 14, 167, 0, 4, 28, 172]
abbrev dktX0_feeds_2 : List UInt8 := dkwX0_feeds_2 ++ []
def dkwX0_feeds_1 : List UInt8 := [159, 0, 14, 29, 184, 1, 14, 28, 184, 1, 14, 162, 0, 13, 42, 29, 182, 1, 19, 153, 0, 5, 29, 61]
abbrev dktX0_feeds_1 : List UInt8 := dkwX0_feeds_1 ++ dktX0_feeds_2
def dkwX0_feeds_0 : List UInt8 := [27, 3, 4, 184, 0, 49, 154, 0, 5, 2, 172, 2, 61, 3, 62, 29, 17, 4, 0, 162, 0, 35, 28, 2]
abbrev dktX0_feeds_0 : List UInt8 := dkwX0_feeds_0 ++ dktX0_feeds_1
theorem dksX0_feeds_0 : cX0_feeds.data.toList.drop 0 = dktX0_feeds_0 := by decide +kernel
theorem dksX0_feeds_1 : cX0_feeds.data.toList.drop 24 = dktX0_feeds_1 := dk_seg dksX0_feeds_0 24 rfl rfl
theorem dksX0_feeds_2 : cX0_feeds.data.toList.drop 48 = dktX0_feeds_2 := dk_seg dksX0_feeds_1 24 rfl rfl
theorem dX0_feeds_0 : decode cX0_feeds 0 = .ok (.iload_n 1, 1) := dk_27 (dk_at dksX0_feeds_0 0 rfl rfl)
theorem dX0_feeds_1 : decode cX0_feeds 1 = .ok (.iconst 0, 1) := dk_3 (dk_at dksX0_feeds_0 1 rfl rfl)
theorem dX0_feeds_2 : decode cX0_feeds 2 = .ok (.iconst 1, 1) := dk_4 (dk_at dksX0_feeds_0 2 rfl rfl)
theorem dX0_feeds_3 : decode cX0_feeds 3 = .ok (.invokestatic 49, 3) := dk_184 0 49 (dk_at dksX0_feeds_0 3 rfl rfl)
theorem dX0_feeds_6 : decode cX0_feeds 6 = .ok (.ifCond .ne 5, 3) := dk_154 0 5 (dk_at dksX0_feeds_0 6 rfl rfl)
theorem dX0_feeds_9 : decode cX0_feeds 9 = .ok (.iconst (-1), 1) := dk_2 (dk_at dksX0_feeds_0 9 rfl rfl)
theorem dX0_feeds_10 : decode cX0_feeds 10 = .ok (.ireturn, 1) := dk_172 (dk_at dksX0_feeds_0 10 rfl rfl)
theorem dX0_feeds_11 : decode cX0_feeds 11 = .ok (.iconst (-1), 1) := dk_2 (dk_at dksX0_feeds_0 11 rfl rfl)
theorem dX0_feeds_12 : decode cX0_feeds 12 = .ok (.istore_n 2, 1) := dk_61 (dk_at dksX0_feeds_0 12 rfl rfl)
theorem dX0_feeds_13 : decode cX0_feeds 13 = .ok (.iconst 0, 1) := dk_3 (dk_at dksX0_feeds_0 13 rfl rfl)
theorem dX0_feeds_14 : decode cX0_feeds 14 = .ok (.istore_n 3, 1) := dk_62 (dk_at dksX0_feeds_0 14 rfl rfl)
theorem dX0_feeds_15 : decode cX0_feeds 15 = .ok (.iload_n 3, 1) := dk_29 (dk_at dksX0_feeds_0 15 rfl rfl)
theorem dX0_feeds_16 : decode cX0_feeds 16 = .ok (.sipush 1024, 3) := dk_17 4 0 (dk_at dksX0_feeds_0 16 rfl rfl)
theorem dX0_feeds_19 : decode cX0_feeds 19 = .ok (.if_icmp .ge 35, 3) := dk_162 0 35 (dk_at dksX0_feeds_0 19 rfl rfl)
theorem dX0_feeds_22 : decode cX0_feeds 22 = .ok (.iload_n 2, 1) := dk_28 (dk_at dksX0_feeds_0 22 rfl rfl)
theorem dX0_feeds_23 : decode cX0_feeds 23 = .ok (.iconst (-1), 1) := dk_2 (dk_at dksX0_feeds_0 23 rfl rfl)
theorem dX0_feeds_24 : decode cX0_feeds 24 = .ok (.if_icmp .eq 14, 3) := dk_159 0 14 (dk_at dksX0_feeds_1 0 rfl rfl)
theorem dX0_feeds_27 : decode cX0_feeds 27 = .ok (.iload_n 3, 1) := dk_29 (dk_at dksX0_feeds_1 3 rfl rfl)
theorem dX0_feeds_28 : decode cX0_feeds 28 = .ok (.invokestatic 270, 3) := dk_184 1 14 (dk_at dksX0_feeds_1 4 rfl rfl)
theorem dX0_feeds_31 : decode cX0_feeds 31 = .ok (.iload_n 2, 1) := dk_28 (dk_at dksX0_feeds_1 7 rfl rfl)
theorem dX0_feeds_32 : decode cX0_feeds 32 = .ok (.invokestatic 270, 3) := dk_184 1 14 (dk_at dksX0_feeds_1 8 rfl rfl)
theorem dX0_feeds_35 : decode cX0_feeds 35 = .ok (.if_icmp .ge 13, 3) := dk_162 0 13 (dk_at dksX0_feeds_1 11 rfl rfl)
theorem dX0_feeds_38 : decode cX0_feeds 38 = .ok (.aload_n 0, 1) := dk_42 (dk_at dksX0_feeds_1 14 rfl rfl)
theorem dX0_feeds_39 : decode cX0_feeds 39 = .ok (.iload_n 3, 1) := dk_29 (dk_at dksX0_feeds_1 15 rfl rfl)
theorem dX0_feeds_40 : decode cX0_feeds 40 = .ok (.invokevirtual 275, 3) := dk_182 1 19 (dk_at dksX0_feeds_1 16 rfl rfl)
theorem dX0_feeds_43 : decode cX0_feeds 43 = .ok (.ifCond .eq 5, 3) := dk_153 0 5 (dk_at dksX0_feeds_1 19 rfl rfl)
theorem dX0_feeds_46 : decode cX0_feeds 46 = .ok (.iload_n 3, 1) := dk_29 (dk_at dksX0_feeds_1 22 rfl rfl)
theorem dX0_feeds_47 : decode cX0_feeds 47 = .ok (.istore_n 2, 1) := dk_61 (dk_at dksX0_feeds_1 23 rfl rfl)
theorem dX0_feeds_48 : decode cX0_feeds 48 = .ok (.iinc 3 1, 3) := dk_132 3 1 (dk_at dksX0_feeds_2 0 rfl rfl)
theorem dX0_feeds_51 : decode cX0_feeds 51 = .ok (.goto (-36), 3) := dk_167 255 220 (dk_at dksX0_feeds_2 3 rfl rfl)
theorem dX0_feeds_54 : decode cX0_feeds 54 = .ok (.iload_n 1, 1) := dk_27 (dk_at dksX0_feeds_2 6 rfl rfl)
theorem dX0_feeds_55 : decode cX0_feeds 55 = .ok (.ifCond .ne 10, 3) := dk_154 0 10 (dk_at dksX0_feeds_2 7 rfl rfl)
theorem dX0_feeds_58 : decode cX0_feeds 58 = .ok (.iload_n 2, 1) := dk_28 (dk_at dksX0_feeds_2 10 rfl rfl)
theorem dX0_feeds_59 : decode cX0_feeds 59 = .ok (.invokestatic 270, 3) := dk_184 1 14 (dk_at dksX0_feeds_2 11 rfl rfl)
theorem dX0_feeds_62 : decode cX0_feeds 62 = .ok (.goto 4, 3) := dk_167 0 4 (dk_at dksX0_feeds_2 14 rfl rfl)
theorem dX0_feeds_65 : decode cX0_feeds 65 = .ok (.iload_n 2, 1) := dk_28 (dk_at dksX0_feeds_2 17 rfl rfl)
theorem dX0_feeds_66 : decode cX0_feeds 66 = .ok (.ireturn, 1) := dk_172 (dk_at dksX0_feeds_2 18 rfl rfl)
abbrev cX0_feedsAll : ByteArray := prog_1_method_39_code
def yX0_feedsAll : MethodName := ⟨RX0, "feedsAll", "(I)Z"⟩
def dkwX0_feedsAll_1 : List UInt8 := [182, 1, 11, 27, 126, 154, 0, 5, 3, 172, 132, 2, 1, 167, 255, 222, 4, 172]
abbrev dktX0_feedsAll_1 : List UInt8 := dkwX0_feedsAll_1 ++ []
def dkwX0_feedsAll_0 : List UInt8 := [3, 61, 28, 42, 180, 0, 20, 180, 0, 116, 162, 0, 29, 42, 28, 182, 1, 11, 153, 0, 15, 42, 28]
abbrev dktX0_feedsAll_0 : List UInt8 := dkwX0_feedsAll_0 ++ dktX0_feedsAll_1
theorem dksX0_feedsAll_0 : cX0_feedsAll.data.toList.drop 0 = dktX0_feedsAll_0 := by decide +kernel
theorem dksX0_feedsAll_1 : cX0_feedsAll.data.toList.drop 23 = dktX0_feedsAll_1 := dk_seg dksX0_feedsAll_0 23 rfl rfl
theorem dX0_feedsAll_0 : decode cX0_feedsAll 0 = .ok (.iconst 0, 1) := dk_3 (dk_at dksX0_feedsAll_0 0 rfl rfl)
theorem dX0_feedsAll_1 : decode cX0_feedsAll 1 = .ok (.istore_n 2, 1) := dk_61 (dk_at dksX0_feedsAll_0 1 rfl rfl)
theorem dX0_feedsAll_2 : decode cX0_feedsAll 2 = .ok (.iload_n 2, 1) := dk_28 (dk_at dksX0_feedsAll_0 2 rfl rfl)
theorem dX0_feedsAll_3 : decode cX0_feedsAll 3 = .ok (.aload_n 0, 1) := dk_42 (dk_at dksX0_feedsAll_0 3 rfl rfl)
theorem dX0_feedsAll_4 : decode cX0_feedsAll 4 = .ok (.getfield 20, 3) := dk_180 0 20 (dk_at dksX0_feedsAll_0 4 rfl rfl)
theorem dX0_feedsAll_7 : decode cX0_feedsAll 7 = .ok (.getfield 116, 3) := dk_180 0 116 (dk_at dksX0_feedsAll_0 7 rfl rfl)
theorem dX0_feedsAll_10 : decode cX0_feedsAll 10 = .ok (.if_icmp .ge 29, 3) := dk_162 0 29 (dk_at dksX0_feedsAll_0 10 rfl rfl)
theorem dX0_feedsAll_13 : decode cX0_feedsAll 13 = .ok (.aload_n 0, 1) := dk_42 (dk_at dksX0_feedsAll_0 13 rfl rfl)
theorem dX0_feedsAll_14 : decode cX0_feedsAll 14 = .ok (.iload_n 2, 1) := dk_28 (dk_at dksX0_feedsAll_0 14 rfl rfl)
theorem dX0_feedsAll_15 : decode cX0_feedsAll 15 = .ok (.invokevirtual 267, 3) := dk_182 1 11 (dk_at dksX0_feedsAll_0 15 rfl rfl)
theorem dX0_feedsAll_18 : decode cX0_feedsAll 18 = .ok (.ifCond .eq 15, 3) := dk_153 0 15 (dk_at dksX0_feedsAll_0 18 rfl rfl)
theorem dX0_feedsAll_21 : decode cX0_feedsAll 21 = .ok (.aload_n 0, 1) := dk_42 (dk_at dksX0_feedsAll_0 21 rfl rfl)
theorem dX0_feedsAll_22 : decode cX0_feedsAll 22 = .ok (.iload_n 2, 1) := dk_28 (dk_at dksX0_feedsAll_0 22 rfl rfl)
theorem dX0_feedsAll_23 : decode cX0_feedsAll 23 = .ok (.invokevirtual 267, 3) := dk_182 1 11 (dk_at dksX0_feedsAll_1 0 rfl rfl)
theorem dX0_feedsAll_26 : decode cX0_feedsAll 26 = .ok (.iload_n 1, 1) := dk_27 (dk_at dksX0_feedsAll_1 3 rfl rfl)
theorem dX0_feedsAll_27 : decode cX0_feedsAll 27 = .ok (.iand, 1) := dk_126 (dk_at dksX0_feedsAll_1 4 rfl rfl)
theorem dX0_feedsAll_28 : decode cX0_feedsAll 28 = .ok (.ifCond .ne 5, 3) := dk_154 0 5 (dk_at dksX0_feedsAll_1 5 rfl rfl)
theorem dX0_feedsAll_31 : decode cX0_feedsAll 31 = .ok (.iconst 0, 1) := dk_3 (dk_at dksX0_feedsAll_1 8 rfl rfl)
theorem dX0_feedsAll_32 : decode cX0_feedsAll 32 = .ok (.ireturn, 1) := dk_172 (dk_at dksX0_feedsAll_1 9 rfl rfl)
theorem dX0_feedsAll_33 : decode cX0_feedsAll 33 = .ok (.iinc 2 1, 3) := dk_132 2 1 (dk_at dksX0_feedsAll_1 10 rfl rfl)
theorem dX0_feedsAll_36 : decode cX0_feedsAll 36 = .ok (.goto (-34), 3) := dk_167 255 222 (dk_at dksX0_feedsAll_1 13 rfl rfl)
theorem dX0_feedsAll_39 : decode cX0_feedsAll 39 = .ok (.iconst 1, 1) := dk_4 (dk_at dksX0_feedsAll_1 16 rfl rfl)
theorem dX0_feedsAll_40 : decode cX0_feedsAll 40 = .ok (.ireturn, 1) := dk_172 (dk_at dksX0_feedsAll_1 17 rfl rfl)
abbrev cX0_placesBy : ByteArray := prog_1_method_38_code
def yX0_placesBy : MethodName := ⟨RX0, "placesBy", "(I)I"⟩
def dkwX0_placesBy_1 : List UInt8 := [50, 182, 1, 8, 172]
abbrev dktX0_placesBy_1 : List UInt8 := dkwX0_placesBy_1 ++ []
def dkwX0_placesBy_0 : List UInt8 := [42, 180, 0, 20, 180, 0, 75, 27, 50, 199, 0, 7, 3, 167, 0, 15, 42, 180, 0, 20, 180, 0, 75, 27]
abbrev dktX0_placesBy_0 : List UInt8 := dkwX0_placesBy_0 ++ dktX0_placesBy_1
theorem dksX0_placesBy_0 : cX0_placesBy.data.toList.drop 0 = dktX0_placesBy_0 := by decide +kernel
theorem dksX0_placesBy_1 : cX0_placesBy.data.toList.drop 24 = dktX0_placesBy_1 := dk_seg dksX0_placesBy_0 24 rfl rfl
theorem dX0_placesBy_0 : decode cX0_placesBy 0 = .ok (.aload_n 0, 1) := dk_42 (dk_at dksX0_placesBy_0 0 rfl rfl)
theorem dX0_placesBy_1 : decode cX0_placesBy 1 = .ok (.getfield 20, 3) := dk_180 0 20 (dk_at dksX0_placesBy_0 1 rfl rfl)
theorem dX0_placesBy_4 : decode cX0_placesBy 4 = .ok (.getfield 75, 3) := dk_180 0 75 (dk_at dksX0_placesBy_0 4 rfl rfl)
theorem dX0_placesBy_7 : decode cX0_placesBy 7 = .ok (.iload_n 1, 1) := dk_27 (dk_at dksX0_placesBy_0 7 rfl rfl)
theorem dX0_placesBy_8 : decode cX0_placesBy 8 = .ok (.aaload, 1) := dk_50 (dk_at dksX0_placesBy_0 8 rfl rfl)
theorem dX0_placesBy_9 : decode cX0_placesBy 9 = .ok (.ifnonnull 7, 3) := dk_199 0 7 (dk_at dksX0_placesBy_0 9 rfl rfl)
theorem dX0_placesBy_12 : decode cX0_placesBy 12 = .ok (.iconst 0, 1) := dk_3 (dk_at dksX0_placesBy_0 12 rfl rfl)
theorem dX0_placesBy_13 : decode cX0_placesBy 13 = .ok (.goto 15, 3) := dk_167 0 15 (dk_at dksX0_placesBy_0 13 rfl rfl)
theorem dX0_placesBy_16 : decode cX0_placesBy 16 = .ok (.aload_n 0, 1) := dk_42 (dk_at dksX0_placesBy_0 16 rfl rfl)
theorem dX0_placesBy_17 : decode cX0_placesBy 17 = .ok (.getfield 20, 3) := dk_180 0 20 (dk_at dksX0_placesBy_0 17 rfl rfl)
theorem dX0_placesBy_20 : decode cX0_placesBy 20 = .ok (.getfield 75, 3) := dk_180 0 75 (dk_at dksX0_placesBy_0 20 rfl rfl)
theorem dX0_placesBy_23 : decode cX0_placesBy 23 = .ok (.iload_n 1, 1) := dk_27 (dk_at dksX0_placesBy_0 23 rfl rfl)
theorem dX0_placesBy_24 : decode cX0_placesBy 24 = .ok (.aaload, 1) := dk_50 (dk_at dksX0_placesBy_1 0 rfl rfl)
theorem dX0_placesBy_25 : decode cX0_placesBy 25 = .ok (.invokevirtual 264, 3) := dk_182 1 8 (dk_at dksX0_placesBy_1 1 rfl rfl)
theorem dX0_placesBy_28 : decode cX0_placesBy 28 = .ok (.ireturn, 1) := dk_172 (dk_at dksX0_placesBy_1 4 rfl rfl)
abbrev cX0_core : ByteArray := prog_1_method_41_code
def yX0_core : MethodName := ⟨RX0, "core", "(II)I"⟩
def dkwX0_core_4 : List UInt8 := [180, 1, 22, 172]
abbrev dktX0_core_4 : List UInt8 := dkwX0_core_4 ++ []
def dkwX0_core_3 : List UInt8 := [180, 1, 22, 28, 79, 42, 180, 0, 20, 89, 180, 1, 22, 4, 96, 181, 1, 22, 42, 180, 0, 20]
abbrev dktX0_core_3 : List UInt8 := dkwX0_core_3 ++ dktX0_core_4
def dkwX0_core_2 : List UInt8 := [180, 1, 25, 42, 180, 0, 20, 180, 1, 22, 27, 79, 42, 180, 0, 20, 180, 1, 28, 42, 180, 0, 20]
abbrev dktX0_core_2 : List UInt8 := dkwX0_core_2 ++ dktX0_core_3
def dkwX0_core_1 : List UInt8 := [184, 0, 183, 153, 0, 15, 42, 180, 0, 20, 180, 1, 22, 16, 8, 160, 0, 5, 2, 172, 42, 180, 0, 20]
abbrev dktX0_core_1 : List UInt8 := dkwX0_core_1 ++ dktX0_core_2
def dkwX0_core_0 : List UInt8 := [27, 2, 160, 0, 13, 42, 180, 0, 20, 3, 181, 1, 22, 3, 172, 42, 27, 182, 0, 153, 153, 0, 22, 28]
abbrev dktX0_core_0 : List UInt8 := dkwX0_core_0 ++ dktX0_core_1
theorem dksX0_core_0 : cX0_core.data.toList.drop 0 = dktX0_core_0 := by decide +kernel
theorem dksX0_core_1 : cX0_core.data.toList.drop 24 = dktX0_core_1 := dk_seg dksX0_core_0 24 rfl rfl
theorem dksX0_core_2 : cX0_core.data.toList.drop 48 = dktX0_core_2 := dk_seg dksX0_core_1 24 rfl rfl
theorem dksX0_core_3 : cX0_core.data.toList.drop 71 = dktX0_core_3 := dk_seg dksX0_core_2 23 rfl rfl
theorem dksX0_core_4 : cX0_core.data.toList.drop 93 = dktX0_core_4 := dk_seg dksX0_core_3 22 rfl rfl
theorem dX0_core_0 : decode cX0_core 0 = .ok (.iload_n 1, 1) := dk_27 (dk_at dksX0_core_0 0 rfl rfl)
theorem dX0_core_1 : decode cX0_core 1 = .ok (.iconst (-1), 1) := dk_2 (dk_at dksX0_core_0 1 rfl rfl)
theorem dX0_core_2 : decode cX0_core 2 = .ok (.if_icmp .ne 13, 3) := dk_160 0 13 (dk_at dksX0_core_0 2 rfl rfl)
theorem dX0_core_5 : decode cX0_core 5 = .ok (.aload_n 0, 1) := dk_42 (dk_at dksX0_core_0 5 rfl rfl)
theorem dX0_core_6 : decode cX0_core 6 = .ok (.getfield 20, 3) := dk_180 0 20 (dk_at dksX0_core_0 6 rfl rfl)
theorem dX0_core_9 : decode cX0_core 9 = .ok (.iconst 0, 1) := dk_3 (dk_at dksX0_core_0 9 rfl rfl)
theorem dX0_core_10 : decode cX0_core 10 = .ok (.putfield 278, 3) := dk_181 1 22 (dk_at dksX0_core_0 10 rfl rfl)
theorem dX0_core_13 : decode cX0_core 13 = .ok (.iconst 0, 1) := dk_3 (dk_at dksX0_core_0 13 rfl rfl)
theorem dX0_core_14 : decode cX0_core 14 = .ok (.ireturn, 1) := dk_172 (dk_at dksX0_core_0 14 rfl rfl)
theorem dX0_core_15 : decode cX0_core 15 = .ok (.aload_n 0, 1) := dk_42 (dk_at dksX0_core_0 15 rfl rfl)
theorem dX0_core_16 : decode cX0_core 16 = .ok (.iload_n 1, 1) := dk_27 (dk_at dksX0_core_0 16 rfl rfl)
theorem dX0_core_17 : decode cX0_core 17 = .ok (.invokevirtual 153, 3) := dk_182 0 153 (dk_at dksX0_core_0 17 rfl rfl)
theorem dX0_core_20 : decode cX0_core 20 = .ok (.ifCond .eq 22, 3) := dk_153 0 22 (dk_at dksX0_core_0 20 rfl rfl)
theorem dX0_core_23 : decode cX0_core 23 = .ok (.iload_n 2, 1) := dk_28 (dk_at dksX0_core_0 23 rfl rfl)
theorem dX0_core_24 : decode cX0_core 24 = .ok (.invokestatic 183, 3) := dk_184 0 183 (dk_at dksX0_core_1 0 rfl rfl)
theorem dX0_core_27 : decode cX0_core 27 = .ok (.ifCond .eq 15, 3) := dk_153 0 15 (dk_at dksX0_core_1 3 rfl rfl)
theorem dX0_core_30 : decode cX0_core 30 = .ok (.aload_n 0, 1) := dk_42 (dk_at dksX0_core_1 6 rfl rfl)
theorem dX0_core_31 : decode cX0_core 31 = .ok (.getfield 20, 3) := dk_180 0 20 (dk_at dksX0_core_1 7 rfl rfl)
theorem dX0_core_34 : decode cX0_core 34 = .ok (.getfield 278, 3) := dk_180 1 22 (dk_at dksX0_core_1 10 rfl rfl)
theorem dX0_core_37 : decode cX0_core 37 = .ok (.bipush 8, 2) := dk_16 8 (dk_at dksX0_core_1 13 rfl rfl)
theorem dX0_core_39 : decode cX0_core 39 = .ok (.if_icmp .ne 5, 3) := dk_160 0 5 (dk_at dksX0_core_1 15 rfl rfl)
theorem dX0_core_42 : decode cX0_core 42 = .ok (.iconst (-1), 1) := dk_2 (dk_at dksX0_core_1 18 rfl rfl)
theorem dX0_core_43 : decode cX0_core 43 = .ok (.ireturn, 1) := dk_172 (dk_at dksX0_core_1 19 rfl rfl)
theorem dX0_core_44 : decode cX0_core 44 = .ok (.aload_n 0, 1) := dk_42 (dk_at dksX0_core_1 20 rfl rfl)
theorem dX0_core_45 : decode cX0_core 45 = .ok (.getfield 20, 3) := dk_180 0 20 (dk_at dksX0_core_1 21 rfl rfl)
theorem dX0_core_48 : decode cX0_core 48 = .ok (.getfield 281, 3) := dk_180 1 25 (dk_at dksX0_core_2 0 rfl rfl)
theorem dX0_core_51 : decode cX0_core 51 = .ok (.aload_n 0, 1) := dk_42 (dk_at dksX0_core_2 3 rfl rfl)
theorem dX0_core_52 : decode cX0_core 52 = .ok (.getfield 20, 3) := dk_180 0 20 (dk_at dksX0_core_2 4 rfl rfl)
theorem dX0_core_55 : decode cX0_core 55 = .ok (.getfield 278, 3) := dk_180 1 22 (dk_at dksX0_core_2 7 rfl rfl)
theorem dX0_core_58 : decode cX0_core 58 = .ok (.iload_n 1, 1) := dk_27 (dk_at dksX0_core_2 10 rfl rfl)
theorem dX0_core_59 : decode cX0_core 59 = .ok (.iastore, 1) := dk_79 (dk_at dksX0_core_2 11 rfl rfl)
theorem dX0_core_60 : decode cX0_core 60 = .ok (.aload_n 0, 1) := dk_42 (dk_at dksX0_core_2 12 rfl rfl)
theorem dX0_core_61 : decode cX0_core 61 = .ok (.getfield 20, 3) := dk_180 0 20 (dk_at dksX0_core_2 13 rfl rfl)
theorem dX0_core_64 : decode cX0_core 64 = .ok (.getfield 284, 3) := dk_180 1 28 (dk_at dksX0_core_2 16 rfl rfl)
theorem dX0_core_67 : decode cX0_core 67 = .ok (.aload_n 0, 1) := dk_42 (dk_at dksX0_core_2 19 rfl rfl)
theorem dX0_core_68 : decode cX0_core 68 = .ok (.getfield 20, 3) := dk_180 0 20 (dk_at dksX0_core_2 20 rfl rfl)
theorem dX0_core_71 : decode cX0_core 71 = .ok (.getfield 278, 3) := dk_180 1 22 (dk_at dksX0_core_3 0 rfl rfl)
theorem dX0_core_74 : decode cX0_core 74 = .ok (.iload_n 2, 1) := dk_28 (dk_at dksX0_core_3 3 rfl rfl)
theorem dX0_core_75 : decode cX0_core 75 = .ok (.iastore, 1) := dk_79 (dk_at dksX0_core_3 4 rfl rfl)
theorem dX0_core_76 : decode cX0_core 76 = .ok (.aload_n 0, 1) := dk_42 (dk_at dksX0_core_3 5 rfl rfl)
theorem dX0_core_77 : decode cX0_core 77 = .ok (.getfield 20, 3) := dk_180 0 20 (dk_at dksX0_core_3 6 rfl rfl)
theorem dX0_core_80 : decode cX0_core 80 = .ok (.dup, 1) := dk_89 (dk_at dksX0_core_3 9 rfl rfl)
theorem dX0_core_81 : decode cX0_core 81 = .ok (.getfield 278, 3) := dk_180 1 22 (dk_at dksX0_core_3 10 rfl rfl)
theorem dX0_core_84 : decode cX0_core 84 = .ok (.iconst 1, 1) := dk_4 (dk_at dksX0_core_3 13 rfl rfl)
theorem dX0_core_85 : decode cX0_core 85 = .ok (.iadd, 1) := dk_96 (dk_at dksX0_core_3 14 rfl rfl)
theorem dX0_core_86 : decode cX0_core 86 = .ok (.putfield 278, 3) := dk_181 1 22 (dk_at dksX0_core_3 15 rfl rfl)
theorem dX0_core_89 : decode cX0_core 89 = .ok (.aload_n 0, 1) := dk_42 (dk_at dksX0_core_3 18 rfl rfl)
theorem dX0_core_90 : decode cX0_core 90 = .ok (.getfield 20, 3) := dk_180 0 20 (dk_at dksX0_core_3 19 rfl rfl)
theorem dX0_core_93 : decode cX0_core 93 = .ok (.getfield 278, 3) := dk_180 1 22 (dk_at dksX0_core_4 0 rfl rfl)
theorem dX0_core_96 : decode cX0_core 96 = .ok (.ireturn, 1) := dk_172 (dk_at dksX0_core_4 3 rfl rfl)
abbrev cX0_whose : ByteArray := prog_1_method_44_code
def yX0_whose : MethodName := ⟨RX0, "whose", "(I)I"⟩
def dkwX0_whose_5 : List UInt8 := [29, 172]
abbrev dktX0_whose_5 : List UInt8 := dkwX0_whose_5 ++ []
def dkwX0_whose_4 : List UInt8 := [21, 4, 28, 182, 1, 39, 42, 29, 28, 182, 1, 39, 162, 0, 6, 21, 4, 62, 132, 4, 1, 167, 255, 222]
abbrev dktX0_whose_4 : List UInt8 := dkwX0_whose_4 ++ dktX0_whose_5
def dkwX0_whose_3 : List UInt8 := [154, 0, 5, 2, 172, 3, 62, 4, 54, 4, 21, 4, 42, 180, 0, 20, 180, 0, 113, 162, 0, 28, 42]
abbrev dktX0_whose_3 : List UInt8 := dkwX0_whose_3 ++ dktX0_whose_4
def dkwX0_whose_2 : List UInt8 := [167, 255, 224, 27, 154, 0, 5, 28, 172, 28, 184, 1, 14, 5, 161, 0, 13, 42, 180, 0, 20, 180, 0, 113]
abbrev dktX0_whose_2 : List UInt8 := dkwX0_whose_2 ++ dktX0_whose_3
def dkwX0_whose_1 : List UInt8 := [162, 0, 27, 28, 42, 29, 182, 1, 36, 153, 0, 9, 4, 29, 120, 167, 0, 4, 3, 128, 61, 132, 3, 1]
abbrev dktX0_whose_1 : List UInt8 := dkwX0_whose_1 ++ dktX0_whose_2
def dkwX0_whose_0 : List UInt8 := [27, 3, 4, 184, 0, 49, 154, 0, 5, 2, 172, 3, 61, 3, 62, 29, 42, 180, 0, 20, 180, 0, 116]
abbrev dktX0_whose_0 : List UInt8 := dkwX0_whose_0 ++ dktX0_whose_1
theorem dksX0_whose_0 : cX0_whose.data.toList.drop 0 = dktX0_whose_0 := by decide +kernel
theorem dksX0_whose_1 : cX0_whose.data.toList.drop 23 = dktX0_whose_1 := dk_seg dksX0_whose_0 23 rfl rfl
theorem dksX0_whose_2 : cX0_whose.data.toList.drop 47 = dktX0_whose_2 := dk_seg dksX0_whose_1 24 rfl rfl
theorem dksX0_whose_3 : cX0_whose.data.toList.drop 71 = dktX0_whose_3 := dk_seg dksX0_whose_2 24 rfl rfl
theorem dksX0_whose_4 : cX0_whose.data.toList.drop 94 = dktX0_whose_4 := dk_seg dksX0_whose_3 23 rfl rfl
theorem dksX0_whose_5 : cX0_whose.data.toList.drop 118 = dktX0_whose_5 := dk_seg dksX0_whose_4 24 rfl rfl
theorem dX0_whose_0 : decode cX0_whose 0 = .ok (.iload_n 1, 1) := dk_27 (dk_at dksX0_whose_0 0 rfl rfl)
theorem dX0_whose_1 : decode cX0_whose 1 = .ok (.iconst 0, 1) := dk_3 (dk_at dksX0_whose_0 1 rfl rfl)
theorem dX0_whose_2 : decode cX0_whose 2 = .ok (.iconst 1, 1) := dk_4 (dk_at dksX0_whose_0 2 rfl rfl)
theorem dX0_whose_3 : decode cX0_whose 3 = .ok (.invokestatic 49, 3) := dk_184 0 49 (dk_at dksX0_whose_0 3 rfl rfl)
theorem dX0_whose_6 : decode cX0_whose 6 = .ok (.ifCond .ne 5, 3) := dk_154 0 5 (dk_at dksX0_whose_0 6 rfl rfl)
theorem dX0_whose_9 : decode cX0_whose 9 = .ok (.iconst (-1), 1) := dk_2 (dk_at dksX0_whose_0 9 rfl rfl)
theorem dX0_whose_10 : decode cX0_whose 10 = .ok (.ireturn, 1) := dk_172 (dk_at dksX0_whose_0 10 rfl rfl)
theorem dX0_whose_11 : decode cX0_whose 11 = .ok (.iconst 0, 1) := dk_3 (dk_at dksX0_whose_0 11 rfl rfl)
theorem dX0_whose_12 : decode cX0_whose 12 = .ok (.istore_n 2, 1) := dk_61 (dk_at dksX0_whose_0 12 rfl rfl)
theorem dX0_whose_13 : decode cX0_whose 13 = .ok (.iconst 0, 1) := dk_3 (dk_at dksX0_whose_0 13 rfl rfl)
theorem dX0_whose_14 : decode cX0_whose 14 = .ok (.istore_n 3, 1) := dk_62 (dk_at dksX0_whose_0 14 rfl rfl)
theorem dX0_whose_15 : decode cX0_whose 15 = .ok (.iload_n 3, 1) := dk_29 (dk_at dksX0_whose_0 15 rfl rfl)
theorem dX0_whose_16 : decode cX0_whose 16 = .ok (.aload_n 0, 1) := dk_42 (dk_at dksX0_whose_0 16 rfl rfl)
theorem dX0_whose_17 : decode cX0_whose 17 = .ok (.getfield 20, 3) := dk_180 0 20 (dk_at dksX0_whose_0 17 rfl rfl)
theorem dX0_whose_20 : decode cX0_whose 20 = .ok (.getfield 116, 3) := dk_180 0 116 (dk_at dksX0_whose_0 20 rfl rfl)
theorem dX0_whose_23 : decode cX0_whose 23 = .ok (.if_icmp .ge 27, 3) := dk_162 0 27 (dk_at dksX0_whose_1 0 rfl rfl)
theorem dX0_whose_26 : decode cX0_whose 26 = .ok (.iload_n 2, 1) := dk_28 (dk_at dksX0_whose_1 3 rfl rfl)
theorem dX0_whose_27 : decode cX0_whose 27 = .ok (.aload_n 0, 1) := dk_42 (dk_at dksX0_whose_1 4 rfl rfl)
theorem dX0_whose_28 : decode cX0_whose 28 = .ok (.iload_n 3, 1) := dk_29 (dk_at dksX0_whose_1 5 rfl rfl)
theorem dX0_whose_29 : decode cX0_whose 29 = .ok (.invokevirtual 292, 3) := dk_182 1 36 (dk_at dksX0_whose_1 6 rfl rfl)
theorem dX0_whose_32 : decode cX0_whose 32 = .ok (.ifCond .eq 9, 3) := dk_153 0 9 (dk_at dksX0_whose_1 9 rfl rfl)
theorem dX0_whose_35 : decode cX0_whose 35 = .ok (.iconst 1, 1) := dk_4 (dk_at dksX0_whose_1 12 rfl rfl)
theorem dX0_whose_36 : decode cX0_whose 36 = .ok (.iload_n 3, 1) := dk_29 (dk_at dksX0_whose_1 13 rfl rfl)
theorem dX0_whose_37 : decode cX0_whose 37 = .ok (.ishl, 1) := dk_120 (dk_at dksX0_whose_1 14 rfl rfl)
theorem dX0_whose_38 : decode cX0_whose 38 = .ok (.goto 4, 3) := dk_167 0 4 (dk_at dksX0_whose_1 15 rfl rfl)
theorem dX0_whose_41 : decode cX0_whose 41 = .ok (.iconst 0, 1) := dk_3 (dk_at dksX0_whose_1 18 rfl rfl)
theorem dX0_whose_42 : decode cX0_whose 42 = .ok (.ior, 1) := dk_128 (dk_at dksX0_whose_1 19 rfl rfl)
theorem dX0_whose_43 : decode cX0_whose 43 = .ok (.istore_n 2, 1) := dk_61 (dk_at dksX0_whose_1 20 rfl rfl)
theorem dX0_whose_44 : decode cX0_whose 44 = .ok (.iinc 3 1, 3) := dk_132 3 1 (dk_at dksX0_whose_1 21 rfl rfl)
theorem dX0_whose_47 : decode cX0_whose 47 = .ok (.goto (-32), 3) := dk_167 255 224 (dk_at dksX0_whose_2 0 rfl rfl)
theorem dX0_whose_50 : decode cX0_whose 50 = .ok (.iload_n 1, 1) := dk_27 (dk_at dksX0_whose_2 3 rfl rfl)
theorem dX0_whose_51 : decode cX0_whose 51 = .ok (.ifCond .ne 5, 3) := dk_154 0 5 (dk_at dksX0_whose_2 4 rfl rfl)
theorem dX0_whose_54 : decode cX0_whose 54 = .ok (.iload_n 2, 1) := dk_28 (dk_at dksX0_whose_2 7 rfl rfl)
theorem dX0_whose_55 : decode cX0_whose 55 = .ok (.ireturn, 1) := dk_172 (dk_at dksX0_whose_2 8 rfl rfl)
theorem dX0_whose_56 : decode cX0_whose 56 = .ok (.iload_n 2, 1) := dk_28 (dk_at dksX0_whose_2 9 rfl rfl)
theorem dX0_whose_57 : decode cX0_whose 57 = .ok (.invokestatic 270, 3) := dk_184 1 14 (dk_at dksX0_whose_2 10 rfl rfl)
theorem dX0_whose_60 : decode cX0_whose 60 = .ok (.iconst 2, 1) := dk_5 (dk_at dksX0_whose_2 13 rfl rfl)
theorem dX0_whose_61 : decode cX0_whose 61 = .ok (.if_icmp .lt 13, 3) := dk_161 0 13 (dk_at dksX0_whose_2 14 rfl rfl)
theorem dX0_whose_64 : decode cX0_whose 64 = .ok (.aload_n 0, 1) := dk_42 (dk_at dksX0_whose_2 17 rfl rfl)
theorem dX0_whose_65 : decode cX0_whose 65 = .ok (.getfield 20, 3) := dk_180 0 20 (dk_at dksX0_whose_2 18 rfl rfl)
theorem dX0_whose_68 : decode cX0_whose 68 = .ok (.getfield 113, 3) := dk_180 0 113 (dk_at dksX0_whose_2 21 rfl rfl)
theorem dX0_whose_71 : decode cX0_whose 71 = .ok (.ifCond .ne 5, 3) := dk_154 0 5 (dk_at dksX0_whose_3 0 rfl rfl)
theorem dX0_whose_74 : decode cX0_whose 74 = .ok (.iconst (-1), 1) := dk_2 (dk_at dksX0_whose_3 3 rfl rfl)
theorem dX0_whose_75 : decode cX0_whose 75 = .ok (.ireturn, 1) := dk_172 (dk_at dksX0_whose_3 4 rfl rfl)
theorem dX0_whose_76 : decode cX0_whose 76 = .ok (.iconst 0, 1) := dk_3 (dk_at dksX0_whose_3 5 rfl rfl)
theorem dX0_whose_77 : decode cX0_whose 77 = .ok (.istore_n 3, 1) := dk_62 (dk_at dksX0_whose_3 6 rfl rfl)
theorem dX0_whose_78 : decode cX0_whose 78 = .ok (.iconst 1, 1) := dk_4 (dk_at dksX0_whose_3 7 rfl rfl)
theorem dX0_whose_79 : decode cX0_whose 79 = .ok (.istore 4, 2) := dk_54 4 (dk_at dksX0_whose_3 8 rfl rfl)
theorem dX0_whose_81 : decode cX0_whose 81 = .ok (.iload 4, 2) := dk_21 4 (dk_at dksX0_whose_3 10 rfl rfl)
theorem dX0_whose_83 : decode cX0_whose 83 = .ok (.aload_n 0, 1) := dk_42 (dk_at dksX0_whose_3 12 rfl rfl)
theorem dX0_whose_84 : decode cX0_whose 84 = .ok (.getfield 20, 3) := dk_180 0 20 (dk_at dksX0_whose_3 13 rfl rfl)
theorem dX0_whose_87 : decode cX0_whose 87 = .ok (.getfield 113, 3) := dk_180 0 113 (dk_at dksX0_whose_3 16 rfl rfl)
theorem dX0_whose_90 : decode cX0_whose 90 = .ok (.if_icmp .ge 28, 3) := dk_162 0 28 (dk_at dksX0_whose_3 19 rfl rfl)
theorem dX0_whose_93 : decode cX0_whose 93 = .ok (.aload_n 0, 1) := dk_42 (dk_at dksX0_whose_3 22 rfl rfl)
theorem dX0_whose_94 : decode cX0_whose 94 = .ok (.iload 4, 2) := dk_21 4 (dk_at dksX0_whose_4 0 rfl rfl)
theorem dX0_whose_96 : decode cX0_whose 96 = .ok (.iload_n 2, 1) := dk_28 (dk_at dksX0_whose_4 2 rfl rfl)
theorem dX0_whose_97 : decode cX0_whose 97 = .ok (.invokevirtual 295, 3) := dk_182 1 39 (dk_at dksX0_whose_4 3 rfl rfl)
theorem dX0_whose_100 : decode cX0_whose 100 = .ok (.aload_n 0, 1) := dk_42 (dk_at dksX0_whose_4 6 rfl rfl)
theorem dX0_whose_101 : decode cX0_whose 101 = .ok (.iload_n 3, 1) := dk_29 (dk_at dksX0_whose_4 7 rfl rfl)
theorem dX0_whose_102 : decode cX0_whose 102 = .ok (.iload_n 2, 1) := dk_28 (dk_at dksX0_whose_4 8 rfl rfl)
theorem dX0_whose_103 : decode cX0_whose 103 = .ok (.invokevirtual 295, 3) := dk_182 1 39 (dk_at dksX0_whose_4 9 rfl rfl)
theorem dX0_whose_106 : decode cX0_whose 106 = .ok (.if_icmp .ge 6, 3) := dk_162 0 6 (dk_at dksX0_whose_4 12 rfl rfl)
theorem dX0_whose_109 : decode cX0_whose 109 = .ok (.iload 4, 2) := dk_21 4 (dk_at dksX0_whose_4 15 rfl rfl)
theorem dX0_whose_111 : decode cX0_whose 111 = .ok (.istore_n 3, 1) := dk_62 (dk_at dksX0_whose_4 17 rfl rfl)
theorem dX0_whose_112 : decode cX0_whose 112 = .ok (.iinc 4 1, 3) := dk_132 4 1 (dk_at dksX0_whose_4 18 rfl rfl)
theorem dX0_whose_115 : decode cX0_whose 115 = .ok (.goto (-34), 3) := dk_167 255 222 (dk_at dksX0_whose_4 21 rfl rfl)
theorem dX0_whose_118 : decode cX0_whose 118 = .ok (.iload_n 3, 1) := dk_29 (dk_at dksX0_whose_5 0 rfl rfl)
theorem dX0_whose_119 : decode cX0_whose 119 = .ok (.ireturn, 1) := dk_172 (dk_at dksX0_whose_5 1 rfl rfl)
abbrev cX0_canHaveEaten : ByteArray := prog_1_method_42_code
def yX0_canHaveEaten : MethodName := ⟨RX0, "canHaveEaten", "(I)Z"⟩
def dkwX0_canHaveEaten_2 : List UInt8 := [180, 0, 20, 180, 1, 25, 28, 46, 46, 154, 0, 5, 3, 172, 132, 2, 1, 167, 255, 195, 4, 172]
abbrev dktX0_canHaveEaten_2 : List UInt8 := dkwX0_canHaveEaten_2 ++ []
def dkwX0_canHaveEaten_1 : List UInt8 := [180, 1, 28, 28, 46, 122, 4, 126, 153, 0, 28, 42, 180, 0, 20, 180, 0, 137, 27, 50, 180, 0, 141, 42]
abbrev dktX0_canHaveEaten_1 : List UInt8 := dkwX0_canHaveEaten_1 ++ dktX0_canHaveEaten_2
def dkwX0_canHaveEaten_0 : List UInt8 := [3, 61, 28, 42, 180, 0, 20, 180, 1, 22, 162, 0, 56, 42, 27, 182, 1, 11, 42, 180, 0, 20]
abbrev dktX0_canHaveEaten_0 : List UInt8 := dkwX0_canHaveEaten_0 ++ dktX0_canHaveEaten_1
theorem dksX0_canHaveEaten_0 : cX0_canHaveEaten.data.toList.drop 0 = dktX0_canHaveEaten_0 := by decide +kernel
theorem dksX0_canHaveEaten_1 : cX0_canHaveEaten.data.toList.drop 22 = dktX0_canHaveEaten_1 := dk_seg dksX0_canHaveEaten_0 22 rfl rfl
theorem dksX0_canHaveEaten_2 : cX0_canHaveEaten.data.toList.drop 46 = dktX0_canHaveEaten_2 := dk_seg dksX0_canHaveEaten_1 24 rfl rfl
theorem dX0_canHaveEaten_0 : decode cX0_canHaveEaten 0 = .ok (.iconst 0, 1) := dk_3 (dk_at dksX0_canHaveEaten_0 0 rfl rfl)
theorem dX0_canHaveEaten_1 : decode cX0_canHaveEaten 1 = .ok (.istore_n 2, 1) := dk_61 (dk_at dksX0_canHaveEaten_0 1 rfl rfl)
theorem dX0_canHaveEaten_2 : decode cX0_canHaveEaten 2 = .ok (.iload_n 2, 1) := dk_28 (dk_at dksX0_canHaveEaten_0 2 rfl rfl)
theorem dX0_canHaveEaten_3 : decode cX0_canHaveEaten 3 = .ok (.aload_n 0, 1) := dk_42 (dk_at dksX0_canHaveEaten_0 3 rfl rfl)
theorem dX0_canHaveEaten_4 : decode cX0_canHaveEaten 4 = .ok (.getfield 20, 3) := dk_180 0 20 (dk_at dksX0_canHaveEaten_0 4 rfl rfl)
theorem dX0_canHaveEaten_7 : decode cX0_canHaveEaten 7 = .ok (.getfield 278, 3) := dk_180 1 22 (dk_at dksX0_canHaveEaten_0 7 rfl rfl)
theorem dX0_canHaveEaten_10 : decode cX0_canHaveEaten 10 = .ok (.if_icmp .ge 56, 3) := dk_162 0 56 (dk_at dksX0_canHaveEaten_0 10 rfl rfl)
theorem dX0_canHaveEaten_13 : decode cX0_canHaveEaten 13 = .ok (.aload_n 0, 1) := dk_42 (dk_at dksX0_canHaveEaten_0 13 rfl rfl)
theorem dX0_canHaveEaten_14 : decode cX0_canHaveEaten 14 = .ok (.iload_n 1, 1) := dk_27 (dk_at dksX0_canHaveEaten_0 14 rfl rfl)
theorem dX0_canHaveEaten_15 : decode cX0_canHaveEaten 15 = .ok (.invokevirtual 267, 3) := dk_182 1 11 (dk_at dksX0_canHaveEaten_0 15 rfl rfl)
theorem dX0_canHaveEaten_18 : decode cX0_canHaveEaten 18 = .ok (.aload_n 0, 1) := dk_42 (dk_at dksX0_canHaveEaten_0 18 rfl rfl)
theorem dX0_canHaveEaten_19 : decode cX0_canHaveEaten 19 = .ok (.getfield 20, 3) := dk_180 0 20 (dk_at dksX0_canHaveEaten_0 19 rfl rfl)
theorem dX0_canHaveEaten_22 : decode cX0_canHaveEaten 22 = .ok (.getfield 284, 3) := dk_180 1 28 (dk_at dksX0_canHaveEaten_1 0 rfl rfl)
theorem dX0_canHaveEaten_25 : decode cX0_canHaveEaten 25 = .ok (.iload_n 2, 1) := dk_28 (dk_at dksX0_canHaveEaten_1 3 rfl rfl)
theorem dX0_canHaveEaten_26 : decode cX0_canHaveEaten 26 = .ok (.iaload, 1) := dk_46 (dk_at dksX0_canHaveEaten_1 4 rfl rfl)
theorem dX0_canHaveEaten_27 : decode cX0_canHaveEaten 27 = .ok (.ishr, 1) := dk_122 (dk_at dksX0_canHaveEaten_1 5 rfl rfl)
theorem dX0_canHaveEaten_28 : decode cX0_canHaveEaten 28 = .ok (.iconst 1, 1) := dk_4 (dk_at dksX0_canHaveEaten_1 6 rfl rfl)
theorem dX0_canHaveEaten_29 : decode cX0_canHaveEaten 29 = .ok (.iand, 1) := dk_126 (dk_at dksX0_canHaveEaten_1 7 rfl rfl)
theorem dX0_canHaveEaten_30 : decode cX0_canHaveEaten 30 = .ok (.ifCond .eq 28, 3) := dk_153 0 28 (dk_at dksX0_canHaveEaten_1 8 rfl rfl)
theorem dX0_canHaveEaten_33 : decode cX0_canHaveEaten 33 = .ok (.aload_n 0, 1) := dk_42 (dk_at dksX0_canHaveEaten_1 11 rfl rfl)
theorem dX0_canHaveEaten_34 : decode cX0_canHaveEaten 34 = .ok (.getfield 20, 3) := dk_180 0 20 (dk_at dksX0_canHaveEaten_1 12 rfl rfl)
theorem dX0_canHaveEaten_37 : decode cX0_canHaveEaten 37 = .ok (.getfield 137, 3) := dk_180 0 137 (dk_at dksX0_canHaveEaten_1 15 rfl rfl)
theorem dX0_canHaveEaten_40 : decode cX0_canHaveEaten 40 = .ok (.iload_n 1, 1) := dk_27 (dk_at dksX0_canHaveEaten_1 18 rfl rfl)
theorem dX0_canHaveEaten_41 : decode cX0_canHaveEaten 41 = .ok (.aaload, 1) := dk_50 (dk_at dksX0_canHaveEaten_1 19 rfl rfl)
theorem dX0_canHaveEaten_42 : decode cX0_canHaveEaten 42 = .ok (.getfield 141, 3) := dk_180 0 141 (dk_at dksX0_canHaveEaten_1 20 rfl rfl)
theorem dX0_canHaveEaten_45 : decode cX0_canHaveEaten 45 = .ok (.aload_n 0, 1) := dk_42 (dk_at dksX0_canHaveEaten_1 23 rfl rfl)
theorem dX0_canHaveEaten_46 : decode cX0_canHaveEaten 46 = .ok (.getfield 20, 3) := dk_180 0 20 (dk_at dksX0_canHaveEaten_2 0 rfl rfl)
theorem dX0_canHaveEaten_49 : decode cX0_canHaveEaten 49 = .ok (.getfield 281, 3) := dk_180 1 25 (dk_at dksX0_canHaveEaten_2 3 rfl rfl)
theorem dX0_canHaveEaten_52 : decode cX0_canHaveEaten 52 = .ok (.iload_n 2, 1) := dk_28 (dk_at dksX0_canHaveEaten_2 6 rfl rfl)
theorem dX0_canHaveEaten_53 : decode cX0_canHaveEaten 53 = .ok (.iaload, 1) := dk_46 (dk_at dksX0_canHaveEaten_2 7 rfl rfl)
theorem dX0_canHaveEaten_54 : decode cX0_canHaveEaten 54 = .ok (.iaload, 1) := dk_46 (dk_at dksX0_canHaveEaten_2 8 rfl rfl)
theorem dX0_canHaveEaten_55 : decode cX0_canHaveEaten 55 = .ok (.ifCond .ne 5, 3) := dk_154 0 5 (dk_at dksX0_canHaveEaten_2 9 rfl rfl)
theorem dX0_canHaveEaten_58 : decode cX0_canHaveEaten 58 = .ok (.iconst 0, 1) := dk_3 (dk_at dksX0_canHaveEaten_2 12 rfl rfl)
theorem dX0_canHaveEaten_59 : decode cX0_canHaveEaten 59 = .ok (.ireturn, 1) := dk_172 (dk_at dksX0_canHaveEaten_2 13 rfl rfl)
theorem dX0_canHaveEaten_60 : decode cX0_canHaveEaten 60 = .ok (.iinc 2 1, 3) := dk_132 2 1 (dk_at dksX0_canHaveEaten_2 14 rfl rfl)
theorem dX0_canHaveEaten_63 : decode cX0_canHaveEaten 63 = .ok (.goto (-61), 3) := dk_167 255 195 (dk_at dksX0_canHaveEaten_2 17 rfl rfl)
theorem dX0_canHaveEaten_66 : decode cX0_canHaveEaten 66 = .ok (.iconst 1, 1) := dk_4 (dk_at dksX0_canHaveEaten_2 20 rfl rfl)
theorem dX0_canHaveEaten_67 : decode cX0_canHaveEaten 67 = .ok (.ireturn, 1) := dk_172 (dk_at dksX0_canHaveEaten_2 21 rfl rfl)
abbrev cX0_greaterBy : ByteArray := prog_1_method_43_code
def yX0_greaterBy : MethodName := ⟨RX0, "greaterBy", "(II)I"⟩
def dkwX0_greaterBy_2 : List UInt8 := [167, 0, 4, 3, 96, 62, 132, 4, 1, 167, 255, 204, 29, 28, 184, 1, 14, 29, 100, 184, 1, 31, 172]
abbrev dktX0_greaterBy_2 : List UInt8 := dkwX0_greaterBy_2 ++ []
def dkwX0_greaterBy_1 : List UInt8 := [4, 160, 0, 26, 42, 180, 0, 20, 180, 0, 137, 21, 4, 50, 180, 0, 141, 27, 46, 8, 161, 0, 7, 4]
abbrev dktX0_greaterBy_1 : List UInt8 := dkwX0_greaterBy_1 ++ dktX0_greaterBy_2
def dkwX0_greaterBy_0 : List UInt8 := [3, 62, 3, 54, 4, 21, 4, 42, 180, 0, 20, 180, 0, 116, 162, 0, 46, 29, 28, 21, 4, 122, 4, 126]
abbrev dktX0_greaterBy_0 : List UInt8 := dkwX0_greaterBy_0 ++ dktX0_greaterBy_1
theorem dksX0_greaterBy_0 : cX0_greaterBy.data.toList.drop 0 = dktX0_greaterBy_0 := by decide +kernel
theorem dksX0_greaterBy_1 : cX0_greaterBy.data.toList.drop 24 = dktX0_greaterBy_1 := dk_seg dksX0_greaterBy_0 24 rfl rfl
theorem dksX0_greaterBy_2 : cX0_greaterBy.data.toList.drop 48 = dktX0_greaterBy_2 := dk_seg dksX0_greaterBy_1 24 rfl rfl
theorem dX0_greaterBy_0 : decode cX0_greaterBy 0 = .ok (.iconst 0, 1) := dk_3 (dk_at dksX0_greaterBy_0 0 rfl rfl)
theorem dX0_greaterBy_1 : decode cX0_greaterBy 1 = .ok (.istore_n 3, 1) := dk_62 (dk_at dksX0_greaterBy_0 1 rfl rfl)
theorem dX0_greaterBy_2 : decode cX0_greaterBy 2 = .ok (.iconst 0, 1) := dk_3 (dk_at dksX0_greaterBy_0 2 rfl rfl)
theorem dX0_greaterBy_3 : decode cX0_greaterBy 3 = .ok (.istore 4, 2) := dk_54 4 (dk_at dksX0_greaterBy_0 3 rfl rfl)
theorem dX0_greaterBy_5 : decode cX0_greaterBy 5 = .ok (.iload 4, 2) := dk_21 4 (dk_at dksX0_greaterBy_0 5 rfl rfl)
theorem dX0_greaterBy_7 : decode cX0_greaterBy 7 = .ok (.aload_n 0, 1) := dk_42 (dk_at dksX0_greaterBy_0 7 rfl rfl)
theorem dX0_greaterBy_8 : decode cX0_greaterBy 8 = .ok (.getfield 20, 3) := dk_180 0 20 (dk_at dksX0_greaterBy_0 8 rfl rfl)
theorem dX0_greaterBy_11 : decode cX0_greaterBy 11 = .ok (.getfield 116, 3) := dk_180 0 116 (dk_at dksX0_greaterBy_0 11 rfl rfl)
theorem dX0_greaterBy_14 : decode cX0_greaterBy 14 = .ok (.if_icmp .ge 46, 3) := dk_162 0 46 (dk_at dksX0_greaterBy_0 14 rfl rfl)
theorem dX0_greaterBy_17 : decode cX0_greaterBy 17 = .ok (.iload_n 3, 1) := dk_29 (dk_at dksX0_greaterBy_0 17 rfl rfl)
theorem dX0_greaterBy_18 : decode cX0_greaterBy 18 = .ok (.iload_n 2, 1) := dk_28 (dk_at dksX0_greaterBy_0 18 rfl rfl)
theorem dX0_greaterBy_19 : decode cX0_greaterBy 19 = .ok (.iload 4, 2) := dk_21 4 (dk_at dksX0_greaterBy_0 19 rfl rfl)
theorem dX0_greaterBy_21 : decode cX0_greaterBy 21 = .ok (.ishr, 1) := dk_122 (dk_at dksX0_greaterBy_0 21 rfl rfl)
theorem dX0_greaterBy_22 : decode cX0_greaterBy 22 = .ok (.iconst 1, 1) := dk_4 (dk_at dksX0_greaterBy_0 22 rfl rfl)
theorem dX0_greaterBy_23 : decode cX0_greaterBy 23 = .ok (.iand, 1) := dk_126 (dk_at dksX0_greaterBy_0 23 rfl rfl)
theorem dX0_greaterBy_24 : decode cX0_greaterBy 24 = .ok (.iconst 1, 1) := dk_4 (dk_at dksX0_greaterBy_1 0 rfl rfl)
theorem dX0_greaterBy_25 : decode cX0_greaterBy 25 = .ok (.if_icmp .ne 26, 3) := dk_160 0 26 (dk_at dksX0_greaterBy_1 1 rfl rfl)
theorem dX0_greaterBy_28 : decode cX0_greaterBy 28 = .ok (.aload_n 0, 1) := dk_42 (dk_at dksX0_greaterBy_1 4 rfl rfl)
theorem dX0_greaterBy_29 : decode cX0_greaterBy 29 = .ok (.getfield 20, 3) := dk_180 0 20 (dk_at dksX0_greaterBy_1 5 rfl rfl)
theorem dX0_greaterBy_32 : decode cX0_greaterBy 32 = .ok (.getfield 137, 3) := dk_180 0 137 (dk_at dksX0_greaterBy_1 8 rfl rfl)
theorem dX0_greaterBy_35 : decode cX0_greaterBy 35 = .ok (.iload 4, 2) := dk_21 4 (dk_at dksX0_greaterBy_1 11 rfl rfl)
theorem dX0_greaterBy_37 : decode cX0_greaterBy 37 = .ok (.aaload, 1) := dk_50 (dk_at dksX0_greaterBy_1 13 rfl rfl)
theorem dX0_greaterBy_38 : decode cX0_greaterBy 38 = .ok (.getfield 141, 3) := dk_180 0 141 (dk_at dksX0_greaterBy_1 14 rfl rfl)
theorem dX0_greaterBy_41 : decode cX0_greaterBy 41 = .ok (.iload_n 1, 1) := dk_27 (dk_at dksX0_greaterBy_1 17 rfl rfl)
theorem dX0_greaterBy_42 : decode cX0_greaterBy 42 = .ok (.iaload, 1) := dk_46 (dk_at dksX0_greaterBy_1 18 rfl rfl)
theorem dX0_greaterBy_43 : decode cX0_greaterBy 43 = .ok (.iconst 5, 1) := dk_8 (dk_at dksX0_greaterBy_1 19 rfl rfl)
theorem dX0_greaterBy_44 : decode cX0_greaterBy 44 = .ok (.if_icmp .lt 7, 3) := dk_161 0 7 (dk_at dksX0_greaterBy_1 20 rfl rfl)
theorem dX0_greaterBy_47 : decode cX0_greaterBy 47 = .ok (.iconst 1, 1) := dk_4 (dk_at dksX0_greaterBy_1 23 rfl rfl)
theorem dX0_greaterBy_48 : decode cX0_greaterBy 48 = .ok (.goto 4, 3) := dk_167 0 4 (dk_at dksX0_greaterBy_2 0 rfl rfl)
theorem dX0_greaterBy_51 : decode cX0_greaterBy 51 = .ok (.iconst 0, 1) := dk_3 (dk_at dksX0_greaterBy_2 3 rfl rfl)
theorem dX0_greaterBy_52 : decode cX0_greaterBy 52 = .ok (.iadd, 1) := dk_96 (dk_at dksX0_greaterBy_2 4 rfl rfl)
theorem dX0_greaterBy_53 : decode cX0_greaterBy 53 = .ok (.istore_n 3, 1) := dk_62 (dk_at dksX0_greaterBy_2 5 rfl rfl)
theorem dX0_greaterBy_54 : decode cX0_greaterBy 54 = .ok (.iinc 4 1, 3) := dk_132 4 1 (dk_at dksX0_greaterBy_2 6 rfl rfl)
theorem dX0_greaterBy_57 : decode cX0_greaterBy 57 = .ok (.goto (-52), 3) := dk_167 255 204 (dk_at dksX0_greaterBy_2 9 rfl rfl)
theorem dX0_greaterBy_60 : decode cX0_greaterBy 60 = .ok (.iload_n 3, 1) := dk_29 (dk_at dksX0_greaterBy_2 12 rfl rfl)
theorem dX0_greaterBy_61 : decode cX0_greaterBy 61 = .ok (.iload_n 2, 1) := dk_28 (dk_at dksX0_greaterBy_2 13 rfl rfl)
theorem dX0_greaterBy_62 : decode cX0_greaterBy 62 = .ok (.invokestatic 270, 3) := dk_184 1 14 (dk_at dksX0_greaterBy_2 14 rfl rfl)
theorem dX0_greaterBy_65 : decode cX0_greaterBy 65 = .ok (.iload_n 3, 1) := dk_29 (dk_at dksX0_greaterBy_2 17 rfl rfl)
theorem dX0_greaterBy_66 : decode cX0_greaterBy 66 = .ok (.isub, 1) := dk_100 (dk_at dksX0_greaterBy_2 18 rfl rfl)
theorem dX0_greaterBy_67 : decode cX0_greaterBy 67 = .ok (.invokestatic 287, 3) := dk_184 1 31 (dk_at dksX0_greaterBy_2 19 rfl rfl)
theorem dX0_greaterBy_70 : decode cX0_greaterBy 70 = .ok (.ireturn, 1) := dk_172 (dk_at dksX0_greaterBy_2 22 rfl rfl)
abbrev cX0_left : ByteArray := prog_1_method_45_code
def yX0_left : MethodName := ⟨RX0, "left", "(I)I"⟩
def dkwX0_left_6 : List UInt8 := [132, 2, 1, 167, 255, 155, 42, 180, 0, 38, 27, 46, 172]
abbrev dktX0_left_6 : List UInt8 := dkwX0_left_6 ++ []
def dkwX0_left_5 : List UInt8 := [167, 255, 224, 42, 180, 0, 38, 21, 4, 22, 5, 20, 1, 42, 113, 136, 79, 132, 4, 255, 167, 255, 193]
abbrev dktX0_left_5 : List UInt8 := dkwX0_left_5 ++ dktX0_left_6
def dkwX0_left_4 : List UInt8 := [21, 4, 163, 0, 25, 22, 5, 42, 180, 0, 38, 21, 4, 21, 7, 100, 46, 133, 97, 55, 5, 132, 7, 1]
abbrev dktX0_left_4 : List UInt8 := dkwX0_left_4 ++ dktX0_left_5
def dkwX0_left_3 : List UInt8 := [16, 99, 54, 4, 21, 4, 155, 0, 64, 9, 55, 5, 3, 54, 7, 21, 7, 29, 163, 0, 32, 21, 7]
abbrev dktX0_left_3 : List UInt8 := dkwX0_left_3 ++ dktX0_left_4
def dkwX0_left_2 : List UInt8 := [180, 0, 116, 162, 0, 96, 42, 180, 0, 20, 42, 180, 0, 20, 180, 0, 137, 28, 50, 182, 0, 227, 62]
abbrev dktX0_left_2 : List UInt8 := dkwX0_left_2 ++ dktX0_left_3
def dkwX0_left_1 : List UInt8 := [28, 28, 154, 0, 7, 4, 167, 0, 4, 3, 79, 132, 2, 1, 167, 255, 232, 3, 61, 28, 42, 180, 0, 20]
abbrev dktX0_left_1 : List UInt8 := dkwX0_left_1 ++ dktX0_left_2
def dkwX0_left_0 : List UInt8 := [27, 3, 16, 99, 184, 0, 49, 154, 0, 5, 2, 172, 3, 61, 28, 16, 99, 163, 0, 24, 42, 180, 0, 38]
abbrev dktX0_left_0 : List UInt8 := dkwX0_left_0 ++ dktX0_left_1
theorem dksX0_left_0 : cX0_left.data.toList.drop 0 = dktX0_left_0 := by decide +kernel
theorem dksX0_left_1 : cX0_left.data.toList.drop 24 = dktX0_left_1 := dk_seg dksX0_left_0 24 rfl rfl
theorem dksX0_left_2 : cX0_left.data.toList.drop 48 = dktX0_left_2 := dk_seg dksX0_left_1 24 rfl rfl
theorem dksX0_left_3 : cX0_left.data.toList.drop 71 = dktX0_left_3 := dk_seg dksX0_left_2 23 rfl rfl
theorem dksX0_left_4 : cX0_left.data.toList.drop 94 = dktX0_left_4 := dk_seg dksX0_left_3 23 rfl rfl
theorem dksX0_left_5 : cX0_left.data.toList.drop 118 = dktX0_left_5 := dk_seg dksX0_left_4 24 rfl rfl
theorem dksX0_left_6 : cX0_left.data.toList.drop 141 = dktX0_left_6 := dk_seg dksX0_left_5 23 rfl rfl
theorem dX0_left_0 : decode cX0_left 0 = .ok (.iload_n 1, 1) := dk_27 (dk_at dksX0_left_0 0 rfl rfl)
theorem dX0_left_1 : decode cX0_left 1 = .ok (.iconst 0, 1) := dk_3 (dk_at dksX0_left_0 1 rfl rfl)
theorem dX0_left_2 : decode cX0_left 2 = .ok (.bipush 99, 2) := dk_16 99 (dk_at dksX0_left_0 2 rfl rfl)
theorem dX0_left_4 : decode cX0_left 4 = .ok (.invokestatic 49, 3) := dk_184 0 49 (dk_at dksX0_left_0 4 rfl rfl)
theorem dX0_left_7 : decode cX0_left 7 = .ok (.ifCond .ne 5, 3) := dk_154 0 5 (dk_at dksX0_left_0 7 rfl rfl)
theorem dX0_left_10 : decode cX0_left 10 = .ok (.iconst (-1), 1) := dk_2 (dk_at dksX0_left_0 10 rfl rfl)
theorem dX0_left_11 : decode cX0_left 11 = .ok (.ireturn, 1) := dk_172 (dk_at dksX0_left_0 11 rfl rfl)
theorem dX0_left_12 : decode cX0_left 12 = .ok (.iconst 0, 1) := dk_3 (dk_at dksX0_left_0 12 rfl rfl)
theorem dX0_left_13 : decode cX0_left 13 = .ok (.istore_n 2, 1) := dk_61 (dk_at dksX0_left_0 13 rfl rfl)
theorem dX0_left_14 : decode cX0_left 14 = .ok (.iload_n 2, 1) := dk_28 (dk_at dksX0_left_0 14 rfl rfl)
theorem dX0_left_15 : decode cX0_left 15 = .ok (.bipush 99, 2) := dk_16 99 (dk_at dksX0_left_0 15 rfl rfl)
theorem dX0_left_17 : decode cX0_left 17 = .ok (.if_icmp .gt 24, 3) := dk_163 0 24 (dk_at dksX0_left_0 17 rfl rfl)
theorem dX0_left_20 : decode cX0_left 20 = .ok (.aload_n 0, 1) := dk_42 (dk_at dksX0_left_0 20 rfl rfl)
theorem dX0_left_21 : decode cX0_left 21 = .ok (.getfield 38, 3) := dk_180 0 38 (dk_at dksX0_left_0 21 rfl rfl)
theorem dX0_left_24 : decode cX0_left 24 = .ok (.iload_n 2, 1) := dk_28 (dk_at dksX0_left_1 0 rfl rfl)
theorem dX0_left_25 : decode cX0_left 25 = .ok (.iload_n 2, 1) := dk_28 (dk_at dksX0_left_1 1 rfl rfl)
theorem dX0_left_26 : decode cX0_left 26 = .ok (.ifCond .ne 7, 3) := dk_154 0 7 (dk_at dksX0_left_1 2 rfl rfl)
theorem dX0_left_29 : decode cX0_left 29 = .ok (.iconst 1, 1) := dk_4 (dk_at dksX0_left_1 5 rfl rfl)
theorem dX0_left_30 : decode cX0_left 30 = .ok (.goto 4, 3) := dk_167 0 4 (dk_at dksX0_left_1 6 rfl rfl)
theorem dX0_left_33 : decode cX0_left 33 = .ok (.iconst 0, 1) := dk_3 (dk_at dksX0_left_1 9 rfl rfl)
theorem dX0_left_34 : decode cX0_left 34 = .ok (.iastore, 1) := dk_79 (dk_at dksX0_left_1 10 rfl rfl)
theorem dX0_left_35 : decode cX0_left 35 = .ok (.iinc 2 1, 3) := dk_132 2 1 (dk_at dksX0_left_1 11 rfl rfl)
theorem dX0_left_38 : decode cX0_left 38 = .ok (.goto (-24), 3) := dk_167 255 232 (dk_at dksX0_left_1 14 rfl rfl)
theorem dX0_left_41 : decode cX0_left 41 = .ok (.iconst 0, 1) := dk_3 (dk_at dksX0_left_1 17 rfl rfl)
theorem dX0_left_42 : decode cX0_left 42 = .ok (.istore_n 2, 1) := dk_61 (dk_at dksX0_left_1 18 rfl rfl)
theorem dX0_left_43 : decode cX0_left 43 = .ok (.iload_n 2, 1) := dk_28 (dk_at dksX0_left_1 19 rfl rfl)
theorem dX0_left_44 : decode cX0_left 44 = .ok (.aload_n 0, 1) := dk_42 (dk_at dksX0_left_1 20 rfl rfl)
theorem dX0_left_45 : decode cX0_left 45 = .ok (.getfield 20, 3) := dk_180 0 20 (dk_at dksX0_left_1 21 rfl rfl)
theorem dX0_left_48 : decode cX0_left 48 = .ok (.getfield 116, 3) := dk_180 0 116 (dk_at dksX0_left_2 0 rfl rfl)
theorem dX0_left_51 : decode cX0_left 51 = .ok (.if_icmp .ge 96, 3) := dk_162 0 96 (dk_at dksX0_left_2 3 rfl rfl)
theorem dX0_left_54 : decode cX0_left 54 = .ok (.aload_n 0, 1) := dk_42 (dk_at dksX0_left_2 6 rfl rfl)
theorem dX0_left_55 : decode cX0_left 55 = .ok (.getfield 20, 3) := dk_180 0 20 (dk_at dksX0_left_2 7 rfl rfl)
theorem dX0_left_58 : decode cX0_left 58 = .ok (.aload_n 0, 1) := dk_42 (dk_at dksX0_left_2 10 rfl rfl)
theorem dX0_left_59 : decode cX0_left 59 = .ok (.getfield 20, 3) := dk_180 0 20 (dk_at dksX0_left_2 11 rfl rfl)
theorem dX0_left_62 : decode cX0_left 62 = .ok (.getfield 137, 3) := dk_180 0 137 (dk_at dksX0_left_2 14 rfl rfl)
theorem dX0_left_65 : decode cX0_left 65 = .ok (.iload_n 2, 1) := dk_28 (dk_at dksX0_left_2 17 rfl rfl)
theorem dX0_left_66 : decode cX0_left 66 = .ok (.aaload, 1) := dk_50 (dk_at dksX0_left_2 18 rfl rfl)
theorem dX0_left_67 : decode cX0_left 67 = .ok (.invokevirtual 227, 3) := dk_182 0 227 (dk_at dksX0_left_2 19 rfl rfl)
theorem dX0_left_70 : decode cX0_left 70 = .ok (.istore_n 3, 1) := dk_62 (dk_at dksX0_left_2 22 rfl rfl)
theorem dX0_left_71 : decode cX0_left 71 = .ok (.bipush 99, 2) := dk_16 99 (dk_at dksX0_left_3 0 rfl rfl)
theorem dX0_left_73 : decode cX0_left 73 = .ok (.istore 4, 2) := dk_54 4 (dk_at dksX0_left_3 2 rfl rfl)
theorem dX0_left_75 : decode cX0_left 75 = .ok (.iload 4, 2) := dk_21 4 (dk_at dksX0_left_3 4 rfl rfl)
theorem dX0_left_77 : decode cX0_left 77 = .ok (.ifCond .lt 64, 3) := dk_155 0 64 (dk_at dksX0_left_3 6 rfl rfl)
theorem dX0_left_80 : decode cX0_left 80 = .ok (.lconst 0, 1) := dk_9 (dk_at dksX0_left_3 9 rfl rfl)
theorem dX0_left_81 : decode cX0_left 81 = .ok (.lstore 5, 2) := dk_55 5 (dk_at dksX0_left_3 10 rfl rfl)
theorem dX0_left_83 : decode cX0_left 83 = .ok (.iconst 0, 1) := dk_3 (dk_at dksX0_left_3 12 rfl rfl)
theorem dX0_left_84 : decode cX0_left 84 = .ok (.istore 7, 2) := dk_54 7 (dk_at dksX0_left_3 13 rfl rfl)
theorem dX0_left_86 : decode cX0_left 86 = .ok (.iload 7, 2) := dk_21 7 (dk_at dksX0_left_3 15 rfl rfl)
theorem dX0_left_88 : decode cX0_left 88 = .ok (.iload_n 3, 1) := dk_29 (dk_at dksX0_left_3 17 rfl rfl)
theorem dX0_left_89 : decode cX0_left 89 = .ok (.if_icmp .gt 32, 3) := dk_163 0 32 (dk_at dksX0_left_3 18 rfl rfl)
theorem dX0_left_92 : decode cX0_left 92 = .ok (.iload 7, 2) := dk_21 7 (dk_at dksX0_left_3 21 rfl rfl)
theorem dX0_left_94 : decode cX0_left 94 = .ok (.iload 4, 2) := dk_21 4 (dk_at dksX0_left_4 0 rfl rfl)
theorem dX0_left_96 : decode cX0_left 96 = .ok (.if_icmp .gt 25, 3) := dk_163 0 25 (dk_at dksX0_left_4 2 rfl rfl)
theorem dX0_left_99 : decode cX0_left 99 = .ok (.lload 5, 2) := dk_22 5 (dk_at dksX0_left_4 5 rfl rfl)
theorem dX0_left_101 : decode cX0_left 101 = .ok (.aload_n 0, 1) := dk_42 (dk_at dksX0_left_4 7 rfl rfl)
theorem dX0_left_102 : decode cX0_left 102 = .ok (.getfield 38, 3) := dk_180 0 38 (dk_at dksX0_left_4 8 rfl rfl)
theorem dX0_left_105 : decode cX0_left 105 = .ok (.iload 4, 2) := dk_21 4 (dk_at dksX0_left_4 11 rfl rfl)
theorem dX0_left_107 : decode cX0_left 107 = .ok (.iload 7, 2) := dk_21 7 (dk_at dksX0_left_4 13 rfl rfl)
theorem dX0_left_109 : decode cX0_left 109 = .ok (.isub, 1) := dk_100 (dk_at dksX0_left_4 15 rfl rfl)
theorem dX0_left_110 : decode cX0_left 110 = .ok (.iaload, 1) := dk_46 (dk_at dksX0_left_4 16 rfl rfl)
theorem dX0_left_111 : decode cX0_left 111 = .ok (.i2l, 1) := dk_133 (dk_at dksX0_left_4 17 rfl rfl)
theorem dX0_left_112 : decode cX0_left 112 = .ok (.ladd, 1) := dk_97 (dk_at dksX0_left_4 18 rfl rfl)
theorem dX0_left_113 : decode cX0_left 113 = .ok (.lstore 5, 2) := dk_55 5 (dk_at dksX0_left_4 19 rfl rfl)
theorem dX0_left_115 : decode cX0_left 115 = .ok (.iinc 7 1, 3) := dk_132 7 1 (dk_at dksX0_left_4 21 rfl rfl)
theorem dX0_left_118 : decode cX0_left 118 = .ok (.goto (-32), 3) := dk_167 255 224 (dk_at dksX0_left_5 0 rfl rfl)
theorem dX0_left_121 : decode cX0_left 121 = .ok (.aload_n 0, 1) := dk_42 (dk_at dksX0_left_5 3 rfl rfl)
theorem dX0_left_122 : decode cX0_left 122 = .ok (.getfield 38, 3) := dk_180 0 38 (dk_at dksX0_left_5 4 rfl rfl)
theorem dX0_left_125 : decode cX0_left 125 = .ok (.iload 4, 2) := dk_21 4 (dk_at dksX0_left_5 7 rfl rfl)
theorem dX0_left_127 : decode cX0_left 127 = .ok (.lload 5, 2) := dk_22 5 (dk_at dksX0_left_5 9 rfl rfl)
theorem dX0_left_129 : decode cX0_left 129 = .ok (.ldc2_w 298, 3) := dk_20 1 42 (dk_at dksX0_left_5 11 rfl rfl)
theorem dX0_left_132 : decode cX0_left 132 = .ok (.lrem, 1) := dk_113 (dk_at dksX0_left_5 14 rfl rfl)
theorem dX0_left_133 : decode cX0_left 133 = .ok (.l2i, 1) := dk_136 (dk_at dksX0_left_5 15 rfl rfl)
theorem dX0_left_134 : decode cX0_left 134 = .ok (.iastore, 1) := dk_79 (dk_at dksX0_left_5 16 rfl rfl)
theorem dX0_left_135 : decode cX0_left 135 = .ok (.iinc 4 (-1), 3) := dk_132 4 255 (dk_at dksX0_left_5 17 rfl rfl)
theorem dX0_left_138 : decode cX0_left 138 = .ok (.goto (-63), 3) := dk_167 255 193 (dk_at dksX0_left_5 20 rfl rfl)
theorem dX0_left_141 : decode cX0_left 141 = .ok (.iinc 2 1, 3) := dk_132 2 1 (dk_at dksX0_left_6 0 rfl rfl)
theorem dX0_left_144 : decode cX0_left 144 = .ok (.goto (-101), 3) := dk_167 255 155 (dk_at dksX0_left_6 3 rfl rfl)
theorem dX0_left_147 : decode cX0_left 147 = .ok (.aload_n 0, 1) := dk_42 (dk_at dksX0_left_6 6 rfl rfl)
theorem dX0_left_148 : decode cX0_left 148 = .ok (.getfield 38, 3) := dk_180 0 38 (dk_at dksX0_left_6 7 rfl rfl)
theorem dX0_left_151 : decode cX0_left 151 = .ok (.iload_n 1, 1) := dk_27 (dk_at dksX0_left_6 10 rfl rfl)
theorem dX0_left_152 : decode cX0_left 152 = .ok (.iaload, 1) := dk_46 (dk_at dksX0_left_6 11 rfl rfl)
theorem dX0_left_153 : decode cX0_left 153 = .ok (.ireturn, 1) := dk_172 (dk_at dksX0_left_6 12 rfl rfl)
abbrev cX0_rules : ByteArray := prog_1_method_48_code
def yX0_rules : MethodName := ⟨RX0, "rules", "(I)I"⟩
def dkwX0_rules_3 : List UInt8 := [28, 167, 0, 7, 28, 184, 1, 14, 172]
abbrev dktX0_rules_3 : List UInt8 := dkwX0_rules_3 ++ []
def dkwX0_rules_2 : List UInt8 := [182, 1, 47, 153, 0, 5, 29, 61, 132, 3, 1, 167, 255, 214, 28, 2, 159, 0, 8, 27, 4, 160, 0, 7]
abbrev dktX0_rules_2 : List UInt8 := dkwX0_rules_2 ++ dktX0_rules_3
def dkwX0_rules_1 : List UInt8 := [120, 162, 0, 35, 28, 2, 159, 0, 14, 29, 184, 1, 14, 28, 184, 1, 14, 162, 0, 13, 42, 29]
abbrev dktX0_rules_1 : List UInt8 := dkwX0_rules_1 ++ dktX0_rules_2
def dkwX0_rules_0 : List UInt8 := [27, 3, 4, 184, 0, 49, 154, 0, 5, 2, 172, 2, 61, 3, 62, 29, 4, 42, 180, 0, 20, 180, 0, 113]
abbrev dktX0_rules_0 : List UInt8 := dkwX0_rules_0 ++ dktX0_rules_1
theorem dksX0_rules_0 : cX0_rules.data.toList.drop 0 = dktX0_rules_0 := by decide +kernel
theorem dksX0_rules_1 : cX0_rules.data.toList.drop 24 = dktX0_rules_1 := dk_seg dksX0_rules_0 24 rfl rfl
theorem dksX0_rules_2 : cX0_rules.data.toList.drop 46 = dktX0_rules_2 := dk_seg dksX0_rules_1 22 rfl rfl
theorem dksX0_rules_3 : cX0_rules.data.toList.drop 70 = dktX0_rules_3 := dk_seg dksX0_rules_2 24 rfl rfl
theorem dX0_rules_0 : decode cX0_rules 0 = .ok (.iload_n 1, 1) := dk_27 (dk_at dksX0_rules_0 0 rfl rfl)
theorem dX0_rules_1 : decode cX0_rules 1 = .ok (.iconst 0, 1) := dk_3 (dk_at dksX0_rules_0 1 rfl rfl)
theorem dX0_rules_2 : decode cX0_rules 2 = .ok (.iconst 1, 1) := dk_4 (dk_at dksX0_rules_0 2 rfl rfl)
theorem dX0_rules_3 : decode cX0_rules 3 = .ok (.invokestatic 49, 3) := dk_184 0 49 (dk_at dksX0_rules_0 3 rfl rfl)
theorem dX0_rules_6 : decode cX0_rules 6 = .ok (.ifCond .ne 5, 3) := dk_154 0 5 (dk_at dksX0_rules_0 6 rfl rfl)
theorem dX0_rules_9 : decode cX0_rules 9 = .ok (.iconst (-1), 1) := dk_2 (dk_at dksX0_rules_0 9 rfl rfl)
theorem dX0_rules_10 : decode cX0_rules 10 = .ok (.ireturn, 1) := dk_172 (dk_at dksX0_rules_0 10 rfl rfl)
theorem dX0_rules_11 : decode cX0_rules 11 = .ok (.iconst (-1), 1) := dk_2 (dk_at dksX0_rules_0 11 rfl rfl)
theorem dX0_rules_12 : decode cX0_rules 12 = .ok (.istore_n 2, 1) := dk_61 (dk_at dksX0_rules_0 12 rfl rfl)
theorem dX0_rules_13 : decode cX0_rules 13 = .ok (.iconst 0, 1) := dk_3 (dk_at dksX0_rules_0 13 rfl rfl)
theorem dX0_rules_14 : decode cX0_rules 14 = .ok (.istore_n 3, 1) := dk_62 (dk_at dksX0_rules_0 14 rfl rfl)
theorem dX0_rules_15 : decode cX0_rules 15 = .ok (.iload_n 3, 1) := dk_29 (dk_at dksX0_rules_0 15 rfl rfl)
theorem dX0_rules_16 : decode cX0_rules 16 = .ok (.iconst 1, 1) := dk_4 (dk_at dksX0_rules_0 16 rfl rfl)
theorem dX0_rules_17 : decode cX0_rules 17 = .ok (.aload_n 0, 1) := dk_42 (dk_at dksX0_rules_0 17 rfl rfl)
theorem dX0_rules_18 : decode cX0_rules 18 = .ok (.getfield 20, 3) := dk_180 0 20 (dk_at dksX0_rules_0 18 rfl rfl)
theorem dX0_rules_21 : decode cX0_rules 21 = .ok (.getfield 113, 3) := dk_180 0 113 (dk_at dksX0_rules_0 21 rfl rfl)
theorem dX0_rules_24 : decode cX0_rules 24 = .ok (.ishl, 1) := dk_120 (dk_at dksX0_rules_1 0 rfl rfl)
theorem dX0_rules_25 : decode cX0_rules 25 = .ok (.if_icmp .ge 35, 3) := dk_162 0 35 (dk_at dksX0_rules_1 1 rfl rfl)
theorem dX0_rules_28 : decode cX0_rules 28 = .ok (.iload_n 2, 1) := dk_28 (dk_at dksX0_rules_1 4 rfl rfl)
theorem dX0_rules_29 : decode cX0_rules 29 = .ok (.iconst (-1), 1) := dk_2 (dk_at dksX0_rules_1 5 rfl rfl)
theorem dX0_rules_30 : decode cX0_rules 30 = .ok (.if_icmp .eq 14, 3) := dk_159 0 14 (dk_at dksX0_rules_1 6 rfl rfl)
theorem dX0_rules_33 : decode cX0_rules 33 = .ok (.iload_n 3, 1) := dk_29 (dk_at dksX0_rules_1 9 rfl rfl)
theorem dX0_rules_34 : decode cX0_rules 34 = .ok (.invokestatic 270, 3) := dk_184 1 14 (dk_at dksX0_rules_1 10 rfl rfl)
theorem dX0_rules_37 : decode cX0_rules 37 = .ok (.iload_n 2, 1) := dk_28 (dk_at dksX0_rules_1 13 rfl rfl)
theorem dX0_rules_38 : decode cX0_rules 38 = .ok (.invokestatic 270, 3) := dk_184 1 14 (dk_at dksX0_rules_1 14 rfl rfl)
theorem dX0_rules_41 : decode cX0_rules 41 = .ok (.if_icmp .ge 13, 3) := dk_162 0 13 (dk_at dksX0_rules_1 17 rfl rfl)
theorem dX0_rules_44 : decode cX0_rules 44 = .ok (.aload_n 0, 1) := dk_42 (dk_at dksX0_rules_1 20 rfl rfl)
theorem dX0_rules_45 : decode cX0_rules 45 = .ok (.iload_n 3, 1) := dk_29 (dk_at dksX0_rules_1 21 rfl rfl)
theorem dX0_rules_46 : decode cX0_rules 46 = .ok (.invokevirtual 303, 3) := dk_182 1 47 (dk_at dksX0_rules_2 0 rfl rfl)
theorem dX0_rules_49 : decode cX0_rules 49 = .ok (.ifCond .eq 5, 3) := dk_153 0 5 (dk_at dksX0_rules_2 3 rfl rfl)
theorem dX0_rules_52 : decode cX0_rules 52 = .ok (.iload_n 3, 1) := dk_29 (dk_at dksX0_rules_2 6 rfl rfl)
theorem dX0_rules_53 : decode cX0_rules 53 = .ok (.istore_n 2, 1) := dk_61 (dk_at dksX0_rules_2 7 rfl rfl)
theorem dX0_rules_54 : decode cX0_rules 54 = .ok (.iinc 3 1, 3) := dk_132 3 1 (dk_at dksX0_rules_2 8 rfl rfl)
theorem dX0_rules_57 : decode cX0_rules 57 = .ok (.goto (-42), 3) := dk_167 255 214 (dk_at dksX0_rules_2 11 rfl rfl)
theorem dX0_rules_60 : decode cX0_rules 60 = .ok (.iload_n 2, 1) := dk_28 (dk_at dksX0_rules_2 14 rfl rfl)
theorem dX0_rules_61 : decode cX0_rules 61 = .ok (.iconst (-1), 1) := dk_2 (dk_at dksX0_rules_2 15 rfl rfl)
theorem dX0_rules_62 : decode cX0_rules 62 = .ok (.if_icmp .eq 8, 3) := dk_159 0 8 (dk_at dksX0_rules_2 16 rfl rfl)
theorem dX0_rules_65 : decode cX0_rules 65 = .ok (.iload_n 1, 1) := dk_27 (dk_at dksX0_rules_2 19 rfl rfl)
theorem dX0_rules_66 : decode cX0_rules 66 = .ok (.iconst 1, 1) := dk_4 (dk_at dksX0_rules_2 20 rfl rfl)
theorem dX0_rules_67 : decode cX0_rules 67 = .ok (.if_icmp .ne 7, 3) := dk_160 0 7 (dk_at dksX0_rules_2 21 rfl rfl)
theorem dX0_rules_70 : decode cX0_rules 70 = .ok (.iload_n 2, 1) := dk_28 (dk_at dksX0_rules_3 0 rfl rfl)
theorem dX0_rules_71 : decode cX0_rules 71 = .ok (.goto 7, 3) := dk_167 0 7 (dk_at dksX0_rules_3 1 rfl rfl)
theorem dX0_rules_74 : decode cX0_rules 74 = .ok (.iload_n 2, 1) := dk_28 (dk_at dksX0_rules_3 4 rfl rfl)
theorem dX0_rules_75 : decode cX0_rules 75 = .ok (.invokestatic 270, 3) := dk_184 1 14 (dk_at dksX0_rules_3 5 rfl rfl)
theorem dX0_rules_78 : decode cX0_rules 78 = .ok (.ireturn, 1) := dk_172 (dk_at dksX0_rules_3 8 rfl rfl)
abbrev cX0_rule : ByteArray := prog_1_method_47_code
def yX0_rule : MethodName := ⟨RX0, "rule", "(I)Z"⟩
def dkwX0_rule_1 : List UInt8 := [164, 0, 7, 4, 167, 0, 4, 3, 172]
abbrev dktX0_rule_1 : List UInt8 := dkwX0_rule_1 ++ []
def dkwX0_rule_0 : List UInt8 := [5, 42, 27, 182, 1, 44, 104, 42, 4, 42, 180, 0, 20, 180, 0, 113, 120, 4, 100, 182, 1, 44]
abbrev dktX0_rule_0 : List UInt8 := dkwX0_rule_0 ++ dktX0_rule_1
theorem dksX0_rule_0 : cX0_rule.data.toList.drop 0 = dktX0_rule_0 := by decide +kernel
theorem dksX0_rule_1 : cX0_rule.data.toList.drop 22 = dktX0_rule_1 := dk_seg dksX0_rule_0 22 rfl rfl
theorem dX0_rule_0 : decode cX0_rule 0 = .ok (.iconst 2, 1) := dk_5 (dk_at dksX0_rule_0 0 rfl rfl)
theorem dX0_rule_1 : decode cX0_rule 1 = .ok (.aload_n 0, 1) := dk_42 (dk_at dksX0_rule_0 1 rfl rfl)
theorem dX0_rule_2 : decode cX0_rule 2 = .ok (.iload_n 1, 1) := dk_27 (dk_at dksX0_rule_0 2 rfl rfl)
theorem dX0_rule_3 : decode cX0_rule 3 = .ok (.invokevirtual 300, 3) := dk_182 1 44 (dk_at dksX0_rule_0 3 rfl rfl)
theorem dX0_rule_6 : decode cX0_rule 6 = .ok (.imul, 1) := dk_104 (dk_at dksX0_rule_0 6 rfl rfl)
theorem dX0_rule_7 : decode cX0_rule 7 = .ok (.aload_n 0, 1) := dk_42 (dk_at dksX0_rule_0 7 rfl rfl)
theorem dX0_rule_8 : decode cX0_rule 8 = .ok (.iconst 1, 1) := dk_4 (dk_at dksX0_rule_0 8 rfl rfl)
theorem dX0_rule_9 : decode cX0_rule 9 = .ok (.aload_n 0, 1) := dk_42 (dk_at dksX0_rule_0 9 rfl rfl)
theorem dX0_rule_10 : decode cX0_rule 10 = .ok (.getfield 20, 3) := dk_180 0 20 (dk_at dksX0_rule_0 10 rfl rfl)
theorem dX0_rule_13 : decode cX0_rule 13 = .ok (.getfield 113, 3) := dk_180 0 113 (dk_at dksX0_rule_0 13 rfl rfl)
theorem dX0_rule_16 : decode cX0_rule 16 = .ok (.ishl, 1) := dk_120 (dk_at dksX0_rule_0 16 rfl rfl)
theorem dX0_rule_17 : decode cX0_rule 17 = .ok (.iconst 1, 1) := dk_4 (dk_at dksX0_rule_0 17 rfl rfl)
theorem dX0_rule_18 : decode cX0_rule 18 = .ok (.isub, 1) := dk_100 (dk_at dksX0_rule_0 18 rfl rfl)
theorem dX0_rule_19 : decode cX0_rule 19 = .ok (.invokevirtual 300, 3) := dk_182 1 44 (dk_at dksX0_rule_0 19 rfl rfl)
theorem dX0_rule_22 : decode cX0_rule 22 = .ok (.if_icmp .le 7, 3) := dk_164 0 7 (dk_at dksX0_rule_1 0 rfl rfl)
theorem dX0_rule_25 : decode cX0_rule 25 = .ok (.iconst 1, 1) := dk_4 (dk_at dksX0_rule_1 3 rfl rfl)
theorem dX0_rule_26 : decode cX0_rule 26 = .ok (.goto 4, 3) := dk_167 0 4 (dk_at dksX0_rule_1 4 rfl rfl)
theorem dX0_rule_29 : decode cX0_rule 29 = .ok (.iconst 0, 1) := dk_3 (dk_at dksX0_rule_1 7 rfl rfl)
theorem dX0_rule_30 : decode cX0_rule 30 = .ok (.ireturn, 1) := dk_172 (dk_at dksX0_rule_1 8 rfl rfl)
abbrev cX0_seatsOf : ByteArray := prog_1_method_46_code
def yX0_seatsOf : MethodName := ⟨RX0, "seatsOf", "(I)I"⟩
def dkwX0_seatsOf_2 : List UInt8 := [167, 255, 214, 28, 172]
abbrev dktX0_seatsOf_2 : List UInt8 := dkwX0_seatsOf_2 ++ []
def dkwX0_seatsOf_1 : List UInt8 := [160, 0, 18, 42, 180, 0, 20, 180, 0, 122, 29, 50, 180, 0, 134, 167, 0, 4, 3, 96, 61, 132, 3, 1]
abbrev dktX0_seatsOf_1 : List UInt8 := dkwX0_seatsOf_1 ++ dktX0_seatsOf_2
def dkwX0_seatsOf_0 : List UInt8 := [3, 61, 3, 62, 29, 42, 180, 0, 20, 180, 0, 113, 162, 0, 37, 28, 27, 29, 122, 4, 126, 4]
abbrev dktX0_seatsOf_0 : List UInt8 := dkwX0_seatsOf_0 ++ dktX0_seatsOf_1
theorem dksX0_seatsOf_0 : cX0_seatsOf.data.toList.drop 0 = dktX0_seatsOf_0 := by decide +kernel
theorem dksX0_seatsOf_1 : cX0_seatsOf.data.toList.drop 22 = dktX0_seatsOf_1 := dk_seg dksX0_seatsOf_0 22 rfl rfl
theorem dksX0_seatsOf_2 : cX0_seatsOf.data.toList.drop 46 = dktX0_seatsOf_2 := dk_seg dksX0_seatsOf_1 24 rfl rfl
theorem dX0_seatsOf_0 : decode cX0_seatsOf 0 = .ok (.iconst 0, 1) := dk_3 (dk_at dksX0_seatsOf_0 0 rfl rfl)
theorem dX0_seatsOf_1 : decode cX0_seatsOf 1 = .ok (.istore_n 2, 1) := dk_61 (dk_at dksX0_seatsOf_0 1 rfl rfl)
theorem dX0_seatsOf_2 : decode cX0_seatsOf 2 = .ok (.iconst 0, 1) := dk_3 (dk_at dksX0_seatsOf_0 2 rfl rfl)
theorem dX0_seatsOf_3 : decode cX0_seatsOf 3 = .ok (.istore_n 3, 1) := dk_62 (dk_at dksX0_seatsOf_0 3 rfl rfl)
theorem dX0_seatsOf_4 : decode cX0_seatsOf 4 = .ok (.iload_n 3, 1) := dk_29 (dk_at dksX0_seatsOf_0 4 rfl rfl)
theorem dX0_seatsOf_5 : decode cX0_seatsOf 5 = .ok (.aload_n 0, 1) := dk_42 (dk_at dksX0_seatsOf_0 5 rfl rfl)
theorem dX0_seatsOf_6 : decode cX0_seatsOf 6 = .ok (.getfield 20, 3) := dk_180 0 20 (dk_at dksX0_seatsOf_0 6 rfl rfl)
theorem dX0_seatsOf_9 : decode cX0_seatsOf 9 = .ok (.getfield 113, 3) := dk_180 0 113 (dk_at dksX0_seatsOf_0 9 rfl rfl)
theorem dX0_seatsOf_12 : decode cX0_seatsOf 12 = .ok (.if_icmp .ge 37, 3) := dk_162 0 37 (dk_at dksX0_seatsOf_0 12 rfl rfl)
theorem dX0_seatsOf_15 : decode cX0_seatsOf 15 = .ok (.iload_n 2, 1) := dk_28 (dk_at dksX0_seatsOf_0 15 rfl rfl)
theorem dX0_seatsOf_16 : decode cX0_seatsOf 16 = .ok (.iload_n 1, 1) := dk_27 (dk_at dksX0_seatsOf_0 16 rfl rfl)
theorem dX0_seatsOf_17 : decode cX0_seatsOf 17 = .ok (.iload_n 3, 1) := dk_29 (dk_at dksX0_seatsOf_0 17 rfl rfl)
theorem dX0_seatsOf_18 : decode cX0_seatsOf 18 = .ok (.ishr, 1) := dk_122 (dk_at dksX0_seatsOf_0 18 rfl rfl)
theorem dX0_seatsOf_19 : decode cX0_seatsOf 19 = .ok (.iconst 1, 1) := dk_4 (dk_at dksX0_seatsOf_0 19 rfl rfl)
theorem dX0_seatsOf_20 : decode cX0_seatsOf 20 = .ok (.iand, 1) := dk_126 (dk_at dksX0_seatsOf_0 20 rfl rfl)
theorem dX0_seatsOf_21 : decode cX0_seatsOf 21 = .ok (.iconst 1, 1) := dk_4 (dk_at dksX0_seatsOf_0 21 rfl rfl)
theorem dX0_seatsOf_22 : decode cX0_seatsOf 22 = .ok (.if_icmp .ne 18, 3) := dk_160 0 18 (dk_at dksX0_seatsOf_1 0 rfl rfl)
theorem dX0_seatsOf_25 : decode cX0_seatsOf 25 = .ok (.aload_n 0, 1) := dk_42 (dk_at dksX0_seatsOf_1 3 rfl rfl)
theorem dX0_seatsOf_26 : decode cX0_seatsOf 26 = .ok (.getfield 20, 3) := dk_180 0 20 (dk_at dksX0_seatsOf_1 4 rfl rfl)
theorem dX0_seatsOf_29 : decode cX0_seatsOf 29 = .ok (.getfield 122, 3) := dk_180 0 122 (dk_at dksX0_seatsOf_1 7 rfl rfl)
theorem dX0_seatsOf_32 : decode cX0_seatsOf 32 = .ok (.iload_n 3, 1) := dk_29 (dk_at dksX0_seatsOf_1 10 rfl rfl)
theorem dX0_seatsOf_33 : decode cX0_seatsOf 33 = .ok (.aaload, 1) := dk_50 (dk_at dksX0_seatsOf_1 11 rfl rfl)
theorem dX0_seatsOf_34 : decode cX0_seatsOf 34 = .ok (.getfield 134, 3) := dk_180 0 134 (dk_at dksX0_seatsOf_1 12 rfl rfl)
theorem dX0_seatsOf_37 : decode cX0_seatsOf 37 = .ok (.goto 4, 3) := dk_167 0 4 (dk_at dksX0_seatsOf_1 15 rfl rfl)
theorem dX0_seatsOf_40 : decode cX0_seatsOf 40 = .ok (.iconst 0, 1) := dk_3 (dk_at dksX0_seatsOf_1 18 rfl rfl)
theorem dX0_seatsOf_41 : decode cX0_seatsOf 41 = .ok (.iadd, 1) := dk_96 (dk_at dksX0_seatsOf_1 19 rfl rfl)
theorem dX0_seatsOf_42 : decode cX0_seatsOf 42 = .ok (.istore_n 2, 1) := dk_61 (dk_at dksX0_seatsOf_1 20 rfl rfl)
theorem dX0_seatsOf_43 : decode cX0_seatsOf 43 = .ok (.iinc 3 1, 3) := dk_132 3 1 (dk_at dksX0_seatsOf_1 21 rfl rfl)
theorem dX0_seatsOf_46 : decode cX0_seatsOf 46 = .ok (.goto (-42), 3) := dk_167 255 214 (dk_at dksX0_seatsOf_2 0 rfl rfl)
theorem dX0_seatsOf_49 : decode cX0_seatsOf 49 = .ok (.iload_n 2, 1) := dk_28 (dk_at dksX0_seatsOf_2 3 rfl rfl)
theorem dX0_seatsOf_50 : decode cX0_seatsOf 50 = .ok (.ireturn, 1) := dk_172 (dk_at dksX0_seatsOf_2 4 rfl rfl)
abbrev cX0_weighs : ByteArray := prog_1_method_49_code
def yX0_weighs : MethodName := ⟨RX0, "weighs", "(I)I"⟩
def dkwX0_weighs_2 : List UInt8 := [120, 128, 182, 1, 47, 153, 0, 7, 4, 167, 0, 4, 3, 96, 61, 132, 3, 1, 167, 255, 204, 28, 172]
abbrev dktX0_weighs_2 : List UInt8 := dkwX0_weighs_2 ++ []
def dkwX0_weighs_1 : List UInt8 := [162, 0, 45, 28, 29, 27, 122, 4, 126, 154, 0, 27, 42, 29, 182, 1, 47, 154, 0, 19, 42, 29, 4, 27]
abbrev dktX0_weighs_1 : List UInt8 := dkwX0_weighs_1 ++ dktX0_weighs_2
def dkwX0_weighs_0 : List UInt8 := [42, 27, 182, 0, 153, 154, 0, 5, 2, 172, 3, 61, 3, 62, 29, 4, 42, 180, 0, 20, 180, 0, 113, 120]
abbrev dktX0_weighs_0 : List UInt8 := dkwX0_weighs_0 ++ dktX0_weighs_1
theorem dksX0_weighs_0 : cX0_weighs.data.toList.drop 0 = dktX0_weighs_0 := by decide +kernel
theorem dksX0_weighs_1 : cX0_weighs.data.toList.drop 24 = dktX0_weighs_1 := dk_seg dksX0_weighs_0 24 rfl rfl
theorem dksX0_weighs_2 : cX0_weighs.data.toList.drop 48 = dktX0_weighs_2 := dk_seg dksX0_weighs_1 24 rfl rfl
theorem dX0_weighs_0 : decode cX0_weighs 0 = .ok (.aload_n 0, 1) := dk_42 (dk_at dksX0_weighs_0 0 rfl rfl)
theorem dX0_weighs_1 : decode cX0_weighs 1 = .ok (.iload_n 1, 1) := dk_27 (dk_at dksX0_weighs_0 1 rfl rfl)
theorem dX0_weighs_2 : decode cX0_weighs 2 = .ok (.invokevirtual 153, 3) := dk_182 0 153 (dk_at dksX0_weighs_0 2 rfl rfl)
theorem dX0_weighs_5 : decode cX0_weighs 5 = .ok (.ifCond .ne 5, 3) := dk_154 0 5 (dk_at dksX0_weighs_0 5 rfl rfl)
theorem dX0_weighs_8 : decode cX0_weighs 8 = .ok (.iconst (-1), 1) := dk_2 (dk_at dksX0_weighs_0 8 rfl rfl)
theorem dX0_weighs_9 : decode cX0_weighs 9 = .ok (.ireturn, 1) := dk_172 (dk_at dksX0_weighs_0 9 rfl rfl)
theorem dX0_weighs_10 : decode cX0_weighs 10 = .ok (.iconst 0, 1) := dk_3 (dk_at dksX0_weighs_0 10 rfl rfl)
theorem dX0_weighs_11 : decode cX0_weighs 11 = .ok (.istore_n 2, 1) := dk_61 (dk_at dksX0_weighs_0 11 rfl rfl)
theorem dX0_weighs_12 : decode cX0_weighs 12 = .ok (.iconst 0, 1) := dk_3 (dk_at dksX0_weighs_0 12 rfl rfl)
theorem dX0_weighs_13 : decode cX0_weighs 13 = .ok (.istore_n 3, 1) := dk_62 (dk_at dksX0_weighs_0 13 rfl rfl)
theorem dX0_weighs_14 : decode cX0_weighs 14 = .ok (.iload_n 3, 1) := dk_29 (dk_at dksX0_weighs_0 14 rfl rfl)
theorem dX0_weighs_15 : decode cX0_weighs 15 = .ok (.iconst 1, 1) := dk_4 (dk_at dksX0_weighs_0 15 rfl rfl)
theorem dX0_weighs_16 : decode cX0_weighs 16 = .ok (.aload_n 0, 1) := dk_42 (dk_at dksX0_weighs_0 16 rfl rfl)
theorem dX0_weighs_17 : decode cX0_weighs 17 = .ok (.getfield 20, 3) := dk_180 0 20 (dk_at dksX0_weighs_0 17 rfl rfl)
theorem dX0_weighs_20 : decode cX0_weighs 20 = .ok (.getfield 113, 3) := dk_180 0 113 (dk_at dksX0_weighs_0 20 rfl rfl)
theorem dX0_weighs_23 : decode cX0_weighs 23 = .ok (.ishl, 1) := dk_120 (dk_at dksX0_weighs_0 23 rfl rfl)
theorem dX0_weighs_24 : decode cX0_weighs 24 = .ok (.if_icmp .ge 45, 3) := dk_162 0 45 (dk_at dksX0_weighs_1 0 rfl rfl)
theorem dX0_weighs_27 : decode cX0_weighs 27 = .ok (.iload_n 2, 1) := dk_28 (dk_at dksX0_weighs_1 3 rfl rfl)
theorem dX0_weighs_28 : decode cX0_weighs 28 = .ok (.iload_n 3, 1) := dk_29 (dk_at dksX0_weighs_1 4 rfl rfl)
theorem dX0_weighs_29 : decode cX0_weighs 29 = .ok (.iload_n 1, 1) := dk_27 (dk_at dksX0_weighs_1 5 rfl rfl)
theorem dX0_weighs_30 : decode cX0_weighs 30 = .ok (.ishr, 1) := dk_122 (dk_at dksX0_weighs_1 6 rfl rfl)
theorem dX0_weighs_31 : decode cX0_weighs 31 = .ok (.iconst 1, 1) := dk_4 (dk_at dksX0_weighs_1 7 rfl rfl)
theorem dX0_weighs_32 : decode cX0_weighs 32 = .ok (.iand, 1) := dk_126 (dk_at dksX0_weighs_1 8 rfl rfl)
theorem dX0_weighs_33 : decode cX0_weighs 33 = .ok (.ifCond .ne 27, 3) := dk_154 0 27 (dk_at dksX0_weighs_1 9 rfl rfl)
theorem dX0_weighs_36 : decode cX0_weighs 36 = .ok (.aload_n 0, 1) := dk_42 (dk_at dksX0_weighs_1 12 rfl rfl)
theorem dX0_weighs_37 : decode cX0_weighs 37 = .ok (.iload_n 3, 1) := dk_29 (dk_at dksX0_weighs_1 13 rfl rfl)
theorem dX0_weighs_38 : decode cX0_weighs 38 = .ok (.invokevirtual 303, 3) := dk_182 1 47 (dk_at dksX0_weighs_1 14 rfl rfl)
theorem dX0_weighs_41 : decode cX0_weighs 41 = .ok (.ifCond .ne 19, 3) := dk_154 0 19 (dk_at dksX0_weighs_1 17 rfl rfl)
theorem dX0_weighs_44 : decode cX0_weighs 44 = .ok (.aload_n 0, 1) := dk_42 (dk_at dksX0_weighs_1 20 rfl rfl)
theorem dX0_weighs_45 : decode cX0_weighs 45 = .ok (.iload_n 3, 1) := dk_29 (dk_at dksX0_weighs_1 21 rfl rfl)
theorem dX0_weighs_46 : decode cX0_weighs 46 = .ok (.iconst 1, 1) := dk_4 (dk_at dksX0_weighs_1 22 rfl rfl)
theorem dX0_weighs_47 : decode cX0_weighs 47 = .ok (.iload_n 1, 1) := dk_27 (dk_at dksX0_weighs_1 23 rfl rfl)
theorem dX0_weighs_48 : decode cX0_weighs 48 = .ok (.ishl, 1) := dk_120 (dk_at dksX0_weighs_2 0 rfl rfl)
theorem dX0_weighs_49 : decode cX0_weighs 49 = .ok (.ior, 1) := dk_128 (dk_at dksX0_weighs_2 1 rfl rfl)
theorem dX0_weighs_50 : decode cX0_weighs 50 = .ok (.invokevirtual 303, 3) := dk_182 1 47 (dk_at dksX0_weighs_2 2 rfl rfl)
theorem dX0_weighs_53 : decode cX0_weighs 53 = .ok (.ifCond .eq 7, 3) := dk_153 0 7 (dk_at dksX0_weighs_2 5 rfl rfl)
theorem dX0_weighs_56 : decode cX0_weighs 56 = .ok (.iconst 1, 1) := dk_4 (dk_at dksX0_weighs_2 8 rfl rfl)
theorem dX0_weighs_57 : decode cX0_weighs 57 = .ok (.goto 4, 3) := dk_167 0 4 (dk_at dksX0_weighs_2 9 rfl rfl)
theorem dX0_weighs_60 : decode cX0_weighs 60 = .ok (.iconst 0, 1) := dk_3 (dk_at dksX0_weighs_2 12 rfl rfl)
theorem dX0_weighs_61 : decode cX0_weighs 61 = .ok (.iadd, 1) := dk_96 (dk_at dksX0_weighs_2 13 rfl rfl)
theorem dX0_weighs_62 : decode cX0_weighs 62 = .ok (.istore_n 2, 1) := dk_61 (dk_at dksX0_weighs_2 14 rfl rfl)
theorem dX0_weighs_63 : decode cX0_weighs 63 = .ok (.iinc 3 1, 3) := dk_132 3 1 (dk_at dksX0_weighs_2 15 rfl rfl)
theorem dX0_weighs_66 : decode cX0_weighs 66 = .ok (.goto (-52), 3) := dk_167 255 204 (dk_at dksX0_weighs_2 18 rfl rfl)
theorem dX0_weighs_69 : decode cX0_weighs 69 = .ok (.iload_n 2, 1) := dk_28 (dk_at dksX0_weighs_2 21 rfl rfl)
theorem dX0_weighs_70 : decode cX0_weighs 70 = .ok (.ireturn, 1) := dk_172 (dk_at dksX0_weighs_2 22 rfl rfl)
abbrev cX0_lasts : ByteArray := prog_1_method_50_code
def yX0_lasts : MethodName := ⟨RX0, "lasts", "(I)I"⟩
def dkwX0_lasts_4 : List UInt8 := [96, 4, 100, 28, 108, 172]
abbrev dktX0_lasts_4 : List UInt8 := dkwX0_lasts_4 ++ []
def dkwX0_lasts_3 : List UInt8 := [167, 255, 202, 28, 154, 0, 7, 2, 167, 0, 21, 42, 180, 0, 20, 180, 0, 122, 27, 50, 180, 0, 126, 28]
abbrev dktX0_lasts_3 : List UInt8 := dkwX0_lasts_3 ++ dktX0_lasts_4
def dkwX0_lasts_2 : List UInt8 := [180, 0, 20, 42, 180, 0, 20, 180, 0, 137, 29, 50, 182, 0, 227, 167, 0, 4, 3, 96, 61, 132, 3, 1]
abbrev dktX0_lasts_2 : List UInt8 := dkwX0_lasts_2 ++ dktX0_lasts_3
def dkwX0_lasts_1 : List UInt8 := [162, 0, 49, 28, 42, 180, 0, 20, 180, 0, 137, 29, 50, 180, 0, 141, 27, 46, 158, 0, 22, 42]
abbrev dktX0_lasts_1 : List UInt8 := dkwX0_lasts_1 ++ dktX0_lasts_2
def dkwX0_lasts_0 : List UInt8 := [42, 27, 182, 0, 153, 154, 0, 5, 2, 172, 3, 61, 3, 62, 29, 42, 180, 0, 20, 180, 0, 116]
abbrev dktX0_lasts_0 : List UInt8 := dkwX0_lasts_0 ++ dktX0_lasts_1
theorem dksX0_lasts_0 : cX0_lasts.data.toList.drop 0 = dktX0_lasts_0 := by decide +kernel
theorem dksX0_lasts_1 : cX0_lasts.data.toList.drop 22 = dktX0_lasts_1 := dk_seg dksX0_lasts_0 22 rfl rfl
theorem dksX0_lasts_2 : cX0_lasts.data.toList.drop 44 = dktX0_lasts_2 := dk_seg dksX0_lasts_1 22 rfl rfl
theorem dksX0_lasts_3 : cX0_lasts.data.toList.drop 68 = dktX0_lasts_3 := dk_seg dksX0_lasts_2 24 rfl rfl
theorem dksX0_lasts_4 : cX0_lasts.data.toList.drop 92 = dktX0_lasts_4 := dk_seg dksX0_lasts_3 24 rfl rfl
theorem dX0_lasts_0 : decode cX0_lasts 0 = .ok (.aload_n 0, 1) := dk_42 (dk_at dksX0_lasts_0 0 rfl rfl)
theorem dX0_lasts_1 : decode cX0_lasts 1 = .ok (.iload_n 1, 1) := dk_27 (dk_at dksX0_lasts_0 1 rfl rfl)
theorem dX0_lasts_2 : decode cX0_lasts 2 = .ok (.invokevirtual 153, 3) := dk_182 0 153 (dk_at dksX0_lasts_0 2 rfl rfl)
theorem dX0_lasts_5 : decode cX0_lasts 5 = .ok (.ifCond .ne 5, 3) := dk_154 0 5 (dk_at dksX0_lasts_0 5 rfl rfl)
theorem dX0_lasts_8 : decode cX0_lasts 8 = .ok (.iconst (-1), 1) := dk_2 (dk_at dksX0_lasts_0 8 rfl rfl)
theorem dX0_lasts_9 : decode cX0_lasts 9 = .ok (.ireturn, 1) := dk_172 (dk_at dksX0_lasts_0 9 rfl rfl)
theorem dX0_lasts_10 : decode cX0_lasts 10 = .ok (.iconst 0, 1) := dk_3 (dk_at dksX0_lasts_0 10 rfl rfl)
theorem dX0_lasts_11 : decode cX0_lasts 11 = .ok (.istore_n 2, 1) := dk_61 (dk_at dksX0_lasts_0 11 rfl rfl)
theorem dX0_lasts_12 : decode cX0_lasts 12 = .ok (.iconst 0, 1) := dk_3 (dk_at dksX0_lasts_0 12 rfl rfl)
theorem dX0_lasts_13 : decode cX0_lasts 13 = .ok (.istore_n 3, 1) := dk_62 (dk_at dksX0_lasts_0 13 rfl rfl)
theorem dX0_lasts_14 : decode cX0_lasts 14 = .ok (.iload_n 3, 1) := dk_29 (dk_at dksX0_lasts_0 14 rfl rfl)
theorem dX0_lasts_15 : decode cX0_lasts 15 = .ok (.aload_n 0, 1) := dk_42 (dk_at dksX0_lasts_0 15 rfl rfl)
theorem dX0_lasts_16 : decode cX0_lasts 16 = .ok (.getfield 20, 3) := dk_180 0 20 (dk_at dksX0_lasts_0 16 rfl rfl)
theorem dX0_lasts_19 : decode cX0_lasts 19 = .ok (.getfield 116, 3) := dk_180 0 116 (dk_at dksX0_lasts_0 19 rfl rfl)
theorem dX0_lasts_22 : decode cX0_lasts 22 = .ok (.if_icmp .ge 49, 3) := dk_162 0 49 (dk_at dksX0_lasts_1 0 rfl rfl)
theorem dX0_lasts_25 : decode cX0_lasts 25 = .ok (.iload_n 2, 1) := dk_28 (dk_at dksX0_lasts_1 3 rfl rfl)
theorem dX0_lasts_26 : decode cX0_lasts 26 = .ok (.aload_n 0, 1) := dk_42 (dk_at dksX0_lasts_1 4 rfl rfl)
theorem dX0_lasts_27 : decode cX0_lasts 27 = .ok (.getfield 20, 3) := dk_180 0 20 (dk_at dksX0_lasts_1 5 rfl rfl)
theorem dX0_lasts_30 : decode cX0_lasts 30 = .ok (.getfield 137, 3) := dk_180 0 137 (dk_at dksX0_lasts_1 8 rfl rfl)
theorem dX0_lasts_33 : decode cX0_lasts 33 = .ok (.iload_n 3, 1) := dk_29 (dk_at dksX0_lasts_1 11 rfl rfl)
theorem dX0_lasts_34 : decode cX0_lasts 34 = .ok (.aaload, 1) := dk_50 (dk_at dksX0_lasts_1 12 rfl rfl)
theorem dX0_lasts_35 : decode cX0_lasts 35 = .ok (.getfield 141, 3) := dk_180 0 141 (dk_at dksX0_lasts_1 13 rfl rfl)
theorem dX0_lasts_38 : decode cX0_lasts 38 = .ok (.iload_n 1, 1) := dk_27 (dk_at dksX0_lasts_1 16 rfl rfl)
theorem dX0_lasts_39 : decode cX0_lasts 39 = .ok (.iaload, 1) := dk_46 (dk_at dksX0_lasts_1 17 rfl rfl)
theorem dX0_lasts_40 : decode cX0_lasts 40 = .ok (.ifCond .le 22, 3) := dk_158 0 22 (dk_at dksX0_lasts_1 18 rfl rfl)
theorem dX0_lasts_43 : decode cX0_lasts 43 = .ok (.aload_n 0, 1) := dk_42 (dk_at dksX0_lasts_1 21 rfl rfl)
theorem dX0_lasts_44 : decode cX0_lasts 44 = .ok (.getfield 20, 3) := dk_180 0 20 (dk_at dksX0_lasts_2 0 rfl rfl)
theorem dX0_lasts_47 : decode cX0_lasts 47 = .ok (.aload_n 0, 1) := dk_42 (dk_at dksX0_lasts_2 3 rfl rfl)
theorem dX0_lasts_48 : decode cX0_lasts 48 = .ok (.getfield 20, 3) := dk_180 0 20 (dk_at dksX0_lasts_2 4 rfl rfl)
theorem dX0_lasts_51 : decode cX0_lasts 51 = .ok (.getfield 137, 3) := dk_180 0 137 (dk_at dksX0_lasts_2 7 rfl rfl)
theorem dX0_lasts_54 : decode cX0_lasts 54 = .ok (.iload_n 3, 1) := dk_29 (dk_at dksX0_lasts_2 10 rfl rfl)
theorem dX0_lasts_55 : decode cX0_lasts 55 = .ok (.aaload, 1) := dk_50 (dk_at dksX0_lasts_2 11 rfl rfl)
theorem dX0_lasts_56 : decode cX0_lasts 56 = .ok (.invokevirtual 227, 3) := dk_182 0 227 (dk_at dksX0_lasts_2 12 rfl rfl)
theorem dX0_lasts_59 : decode cX0_lasts 59 = .ok (.goto 4, 3) := dk_167 0 4 (dk_at dksX0_lasts_2 15 rfl rfl)
theorem dX0_lasts_62 : decode cX0_lasts 62 = .ok (.iconst 0, 1) := dk_3 (dk_at dksX0_lasts_2 18 rfl rfl)
theorem dX0_lasts_63 : decode cX0_lasts 63 = .ok (.iadd, 1) := dk_96 (dk_at dksX0_lasts_2 19 rfl rfl)
theorem dX0_lasts_64 : decode cX0_lasts 64 = .ok (.istore_n 2, 1) := dk_61 (dk_at dksX0_lasts_2 20 rfl rfl)
theorem dX0_lasts_65 : decode cX0_lasts 65 = .ok (.iinc 3 1, 3) := dk_132 3 1 (dk_at dksX0_lasts_2 21 rfl rfl)
theorem dX0_lasts_68 : decode cX0_lasts 68 = .ok (.goto (-54), 3) := dk_167 255 202 (dk_at dksX0_lasts_3 0 rfl rfl)
theorem dX0_lasts_71 : decode cX0_lasts 71 = .ok (.iload_n 2, 1) := dk_28 (dk_at dksX0_lasts_3 3 rfl rfl)
theorem dX0_lasts_72 : decode cX0_lasts 72 = .ok (.ifCond .ne 7, 3) := dk_154 0 7 (dk_at dksX0_lasts_3 4 rfl rfl)
theorem dX0_lasts_75 : decode cX0_lasts 75 = .ok (.iconst (-1), 1) := dk_2 (dk_at dksX0_lasts_3 7 rfl rfl)
theorem dX0_lasts_76 : decode cX0_lasts 76 = .ok (.goto 21, 3) := dk_167 0 21 (dk_at dksX0_lasts_3 8 rfl rfl)
theorem dX0_lasts_79 : decode cX0_lasts 79 = .ok (.aload_n 0, 1) := dk_42 (dk_at dksX0_lasts_3 11 rfl rfl)
theorem dX0_lasts_80 : decode cX0_lasts 80 = .ok (.getfield 20, 3) := dk_180 0 20 (dk_at dksX0_lasts_3 12 rfl rfl)
theorem dX0_lasts_83 : decode cX0_lasts 83 = .ok (.getfield 122, 3) := dk_180 0 122 (dk_at dksX0_lasts_3 15 rfl rfl)
theorem dX0_lasts_86 : decode cX0_lasts 86 = .ok (.iload_n 1, 1) := dk_27 (dk_at dksX0_lasts_3 18 rfl rfl)
theorem dX0_lasts_87 : decode cX0_lasts 87 = .ok (.aaload, 1) := dk_50 (dk_at dksX0_lasts_3 19 rfl rfl)
theorem dX0_lasts_88 : decode cX0_lasts 88 = .ok (.getfield 126, 3) := dk_180 0 126 (dk_at dksX0_lasts_3 20 rfl rfl)
theorem dX0_lasts_91 : decode cX0_lasts 91 = .ok (.iload_n 2, 1) := dk_28 (dk_at dksX0_lasts_3 23 rfl rfl)
theorem dX0_lasts_92 : decode cX0_lasts 92 = .ok (.iadd, 1) := dk_96 (dk_at dksX0_lasts_4 0 rfl rfl)
theorem dX0_lasts_93 : decode cX0_lasts 93 = .ok (.iconst 1, 1) := dk_4 (dk_at dksX0_lasts_4 1 rfl rfl)
theorem dX0_lasts_94 : decode cX0_lasts 94 = .ok (.isub, 1) := dk_100 (dk_at dksX0_lasts_4 2 rfl rfl)
theorem dX0_lasts_95 : decode cX0_lasts 95 = .ok (.iload_n 2, 1) := dk_28 (dk_at dksX0_lasts_4 3 rfl rfl)
theorem dX0_lasts_96 : decode cX0_lasts 96 = .ok (.idiv, 1) := dk_108 (dk_at dksX0_lasts_4 4 rfl rfl)
theorem dX0_lasts_97 : decode cX0_lasts 97 = .ok (.ireturn, 1) := dk_172 (dk_at dksX0_lasts_4 5 rfl rfl)
abbrev cX0_meets : ByteArray := prog_1_method_51_code
def yX0_meets : MethodName := ⟨RX0, "meets", "(II)I"⟩
def dkwX0_meets_1 : List UInt8 := [182, 1, 11, 126, 167, 0, 4, 2, 172]
abbrev dktX0_meets_1 : List UInt8 := dkwX0_meets_1 ++ []
def dkwX0_meets_0 : List UInt8 := [42, 27, 182, 0, 149, 153, 0, 25, 42, 28, 182, 0, 149, 153, 0, 17, 42, 27, 182, 1, 11, 42, 28]
abbrev dktX0_meets_0 : List UInt8 := dkwX0_meets_0 ++ dktX0_meets_1
theorem dksX0_meets_0 : cX0_meets.data.toList.drop 0 = dktX0_meets_0 := by decide +kernel
theorem dksX0_meets_1 : cX0_meets.data.toList.drop 23 = dktX0_meets_1 := dk_seg dksX0_meets_0 23 rfl rfl
theorem dX0_meets_0 : decode cX0_meets 0 = .ok (.aload_n 0, 1) := dk_42 (dk_at dksX0_meets_0 0 rfl rfl)
theorem dX0_meets_1 : decode cX0_meets 1 = .ok (.iload_n 1, 1) := dk_27 (dk_at dksX0_meets_0 1 rfl rfl)
theorem dX0_meets_2 : decode cX0_meets 2 = .ok (.invokevirtual 149, 3) := dk_182 0 149 (dk_at dksX0_meets_0 2 rfl rfl)
theorem dX0_meets_5 : decode cX0_meets 5 = .ok (.ifCond .eq 25, 3) := dk_153 0 25 (dk_at dksX0_meets_0 5 rfl rfl)
theorem dX0_meets_8 : decode cX0_meets 8 = .ok (.aload_n 0, 1) := dk_42 (dk_at dksX0_meets_0 8 rfl rfl)
theorem dX0_meets_9 : decode cX0_meets 9 = .ok (.iload_n 2, 1) := dk_28 (dk_at dksX0_meets_0 9 rfl rfl)
theorem dX0_meets_10 : decode cX0_meets 10 = .ok (.invokevirtual 149, 3) := dk_182 0 149 (dk_at dksX0_meets_0 10 rfl rfl)
theorem dX0_meets_13 : decode cX0_meets 13 = .ok (.ifCond .eq 17, 3) := dk_153 0 17 (dk_at dksX0_meets_0 13 rfl rfl)
theorem dX0_meets_16 : decode cX0_meets 16 = .ok (.aload_n 0, 1) := dk_42 (dk_at dksX0_meets_0 16 rfl rfl)
theorem dX0_meets_17 : decode cX0_meets 17 = .ok (.iload_n 1, 1) := dk_27 (dk_at dksX0_meets_0 17 rfl rfl)
theorem dX0_meets_18 : decode cX0_meets 18 = .ok (.invokevirtual 267, 3) := dk_182 1 11 (dk_at dksX0_meets_0 18 rfl rfl)
theorem dX0_meets_21 : decode cX0_meets 21 = .ok (.aload_n 0, 1) := dk_42 (dk_at dksX0_meets_0 21 rfl rfl)
theorem dX0_meets_22 : decode cX0_meets 22 = .ok (.iload_n 2, 1) := dk_28 (dk_at dksX0_meets_0 22 rfl rfl)
theorem dX0_meets_23 : decode cX0_meets 23 = .ok (.invokevirtual 267, 3) := dk_182 1 11 (dk_at dksX0_meets_1 0 rfl rfl)
theorem dX0_meets_26 : decode cX0_meets 26 = .ok (.iand, 1) := dk_126 (dk_at dksX0_meets_1 3 rfl rfl)
theorem dX0_meets_27 : decode cX0_meets 27 = .ok (.goto 4, 3) := dk_167 0 4 (dk_at dksX0_meets_1 4 rfl rfl)
theorem dX0_meets_30 : decode cX0_meets 30 = .ok (.iconst (-1), 1) := dk_2 (dk_at dksX0_meets_1 7 rfl rfl)
theorem dX0_meets_31 : decode cX0_meets 31 = .ok (.ireturn, 1) := dk_172 (dk_at dksX0_meets_1 8 rfl rfl)
abbrev cX0_game : ByteArray := prog_1_method_52_code
def yX0_game : MethodName := ⟨RX0, "game", "(I)I"⟩
def dkwX0_game_5 : List UInt8 := [21, 5, 172, 132, 5, 1, 167, 255, 213, 132, 3, 1, 167, 255, 179, 2, 172]
abbrev dktX0_game_5 : List UInt8 := dkwX0_game_5 ++ []
def dkwX0_game_4 : List UInt8 := [21, 4, 7, 112, 130, 21, 4, 21, 5, 100, 7, 112, 160, 0, 14, 27, 154, 0, 7, 29, 167, 0, 5]
abbrev dktX0_game_4 : List UInt8 := dkwX0_game_4 ++ dktX0_game_5
def dkwX0_game_3 : List UInt8 := [50, 180, 0, 178, 54, 4, 4, 54, 5, 21, 5, 7, 162, 0, 43, 21, 5, 21, 4, 163, 0, 36, 28]
abbrev dktX0_game_3 : List UInt8 := dkwX0_game_3 ++ dktX0_game_4
def dkwX0_game_2 : List UInt8 := [167, 255, 225, 3, 62, 29, 42, 180, 0, 20, 180, 0, 156, 162, 0, 72, 42, 180, 0, 20, 180, 0, 174, 29]
abbrev dktX0_game_2 : List UInt8 := dkwX0_game_2 ++ dktX0_game_3
def dkwX0_game_1 : List UInt8 := [162, 0, 26, 28, 42, 180, 0, 20, 180, 0, 174, 29, 50, 180, 0, 178, 7, 112, 130, 61, 132, 3, 1]
abbrev dktX0_game_1 : List UInt8 := dkwX0_game_1 ++ dktX0_game_2
def dkwX0_game_0 : List UInt8 := [27, 3, 4, 184, 0, 49, 154, 0, 5, 2, 172, 3, 61, 3, 62, 29, 42, 180, 0, 20, 180, 0, 156]
abbrev dktX0_game_0 : List UInt8 := dkwX0_game_0 ++ dktX0_game_1
theorem dksX0_game_0 : cX0_game.data.toList.drop 0 = dktX0_game_0 := by decide +kernel
theorem dksX0_game_1 : cX0_game.data.toList.drop 23 = dktX0_game_1 := dk_seg dksX0_game_0 23 rfl rfl
theorem dksX0_game_2 : cX0_game.data.toList.drop 46 = dktX0_game_2 := dk_seg dksX0_game_1 23 rfl rfl
theorem dksX0_game_3 : cX0_game.data.toList.drop 70 = dktX0_game_3 := dk_seg dksX0_game_2 24 rfl rfl
theorem dksX0_game_4 : cX0_game.data.toList.drop 93 = dktX0_game_4 := dk_seg dksX0_game_3 23 rfl rfl
theorem dksX0_game_5 : cX0_game.data.toList.drop 116 = dktX0_game_5 := dk_seg dksX0_game_4 23 rfl rfl
theorem dX0_game_0 : decode cX0_game 0 = .ok (.iload_n 1, 1) := dk_27 (dk_at dksX0_game_0 0 rfl rfl)
theorem dX0_game_1 : decode cX0_game 1 = .ok (.iconst 0, 1) := dk_3 (dk_at dksX0_game_0 1 rfl rfl)
theorem dX0_game_2 : decode cX0_game 2 = .ok (.iconst 1, 1) := dk_4 (dk_at dksX0_game_0 2 rfl rfl)
theorem dX0_game_3 : decode cX0_game 3 = .ok (.invokestatic 49, 3) := dk_184 0 49 (dk_at dksX0_game_0 3 rfl rfl)
theorem dX0_game_6 : decode cX0_game 6 = .ok (.ifCond .ne 5, 3) := dk_154 0 5 (dk_at dksX0_game_0 6 rfl rfl)
theorem dX0_game_9 : decode cX0_game 9 = .ok (.iconst (-1), 1) := dk_2 (dk_at dksX0_game_0 9 rfl rfl)
theorem dX0_game_10 : decode cX0_game 10 = .ok (.ireturn, 1) := dk_172 (dk_at dksX0_game_0 10 rfl rfl)
theorem dX0_game_11 : decode cX0_game 11 = .ok (.iconst 0, 1) := dk_3 (dk_at dksX0_game_0 11 rfl rfl)
theorem dX0_game_12 : decode cX0_game 12 = .ok (.istore_n 2, 1) := dk_61 (dk_at dksX0_game_0 12 rfl rfl)
theorem dX0_game_13 : decode cX0_game 13 = .ok (.iconst 0, 1) := dk_3 (dk_at dksX0_game_0 13 rfl rfl)
theorem dX0_game_14 : decode cX0_game 14 = .ok (.istore_n 3, 1) := dk_62 (dk_at dksX0_game_0 14 rfl rfl)
theorem dX0_game_15 : decode cX0_game 15 = .ok (.iload_n 3, 1) := dk_29 (dk_at dksX0_game_0 15 rfl rfl)
theorem dX0_game_16 : decode cX0_game 16 = .ok (.aload_n 0, 1) := dk_42 (dk_at dksX0_game_0 16 rfl rfl)
theorem dX0_game_17 : decode cX0_game 17 = .ok (.getfield 20, 3) := dk_180 0 20 (dk_at dksX0_game_0 17 rfl rfl)
theorem dX0_game_20 : decode cX0_game 20 = .ok (.getfield 156, 3) := dk_180 0 156 (dk_at dksX0_game_0 20 rfl rfl)
theorem dX0_game_23 : decode cX0_game 23 = .ok (.if_icmp .ge 26, 3) := dk_162 0 26 (dk_at dksX0_game_1 0 rfl rfl)
theorem dX0_game_26 : decode cX0_game 26 = .ok (.iload_n 2, 1) := dk_28 (dk_at dksX0_game_1 3 rfl rfl)
theorem dX0_game_27 : decode cX0_game 27 = .ok (.aload_n 0, 1) := dk_42 (dk_at dksX0_game_1 4 rfl rfl)
theorem dX0_game_28 : decode cX0_game 28 = .ok (.getfield 20, 3) := dk_180 0 20 (dk_at dksX0_game_1 5 rfl rfl)
theorem dX0_game_31 : decode cX0_game 31 = .ok (.getfield 174, 3) := dk_180 0 174 (dk_at dksX0_game_1 8 rfl rfl)
theorem dX0_game_34 : decode cX0_game 34 = .ok (.iload_n 3, 1) := dk_29 (dk_at dksX0_game_1 11 rfl rfl)
theorem dX0_game_35 : decode cX0_game 35 = .ok (.aaload, 1) := dk_50 (dk_at dksX0_game_1 12 rfl rfl)
theorem dX0_game_36 : decode cX0_game 36 = .ok (.getfield 178, 3) := dk_180 0 178 (dk_at dksX0_game_1 13 rfl rfl)
theorem dX0_game_39 : decode cX0_game 39 = .ok (.iconst 4, 1) := dk_7 (dk_at dksX0_game_1 16 rfl rfl)
theorem dX0_game_40 : decode cX0_game 40 = .ok (.irem, 1) := dk_112 (dk_at dksX0_game_1 17 rfl rfl)
theorem dX0_game_41 : decode cX0_game 41 = .ok (.ixor, 1) := dk_130 (dk_at dksX0_game_1 18 rfl rfl)
theorem dX0_game_42 : decode cX0_game 42 = .ok (.istore_n 2, 1) := dk_61 (dk_at dksX0_game_1 19 rfl rfl)
theorem dX0_game_43 : decode cX0_game 43 = .ok (.iinc 3 1, 3) := dk_132 3 1 (dk_at dksX0_game_1 20 rfl rfl)
theorem dX0_game_46 : decode cX0_game 46 = .ok (.goto (-31), 3) := dk_167 255 225 (dk_at dksX0_game_2 0 rfl rfl)
theorem dX0_game_49 : decode cX0_game 49 = .ok (.iconst 0, 1) := dk_3 (dk_at dksX0_game_2 3 rfl rfl)
theorem dX0_game_50 : decode cX0_game 50 = .ok (.istore_n 3, 1) := dk_62 (dk_at dksX0_game_2 4 rfl rfl)
theorem dX0_game_51 : decode cX0_game 51 = .ok (.iload_n 3, 1) := dk_29 (dk_at dksX0_game_2 5 rfl rfl)
theorem dX0_game_52 : decode cX0_game 52 = .ok (.aload_n 0, 1) := dk_42 (dk_at dksX0_game_2 6 rfl rfl)
theorem dX0_game_53 : decode cX0_game 53 = .ok (.getfield 20, 3) := dk_180 0 20 (dk_at dksX0_game_2 7 rfl rfl)
theorem dX0_game_56 : decode cX0_game 56 = .ok (.getfield 156, 3) := dk_180 0 156 (dk_at dksX0_game_2 10 rfl rfl)
theorem dX0_game_59 : decode cX0_game 59 = .ok (.if_icmp .ge 72, 3) := dk_162 0 72 (dk_at dksX0_game_2 13 rfl rfl)
theorem dX0_game_62 : decode cX0_game 62 = .ok (.aload_n 0, 1) := dk_42 (dk_at dksX0_game_2 16 rfl rfl)
theorem dX0_game_63 : decode cX0_game 63 = .ok (.getfield 20, 3) := dk_180 0 20 (dk_at dksX0_game_2 17 rfl rfl)
theorem dX0_game_66 : decode cX0_game 66 = .ok (.getfield 174, 3) := dk_180 0 174 (dk_at dksX0_game_2 20 rfl rfl)
theorem dX0_game_69 : decode cX0_game 69 = .ok (.iload_n 3, 1) := dk_29 (dk_at dksX0_game_2 23 rfl rfl)
theorem dX0_game_70 : decode cX0_game 70 = .ok (.aaload, 1) := dk_50 (dk_at dksX0_game_3 0 rfl rfl)
theorem dX0_game_71 : decode cX0_game 71 = .ok (.getfield 178, 3) := dk_180 0 178 (dk_at dksX0_game_3 1 rfl rfl)
theorem dX0_game_74 : decode cX0_game 74 = .ok (.istore 4, 2) := dk_54 4 (dk_at dksX0_game_3 4 rfl rfl)
theorem dX0_game_76 : decode cX0_game 76 = .ok (.iconst 1, 1) := dk_4 (dk_at dksX0_game_3 6 rfl rfl)
theorem dX0_game_77 : decode cX0_game 77 = .ok (.istore 5, 2) := dk_54 5 (dk_at dksX0_game_3 7 rfl rfl)
theorem dX0_game_79 : decode cX0_game 79 = .ok (.iload 5, 2) := dk_21 5 (dk_at dksX0_game_3 9 rfl rfl)
theorem dX0_game_81 : decode cX0_game 81 = .ok (.iconst 4, 1) := dk_7 (dk_at dksX0_game_3 11 rfl rfl)
theorem dX0_game_82 : decode cX0_game 82 = .ok (.if_icmp .ge 43, 3) := dk_162 0 43 (dk_at dksX0_game_3 12 rfl rfl)
theorem dX0_game_85 : decode cX0_game 85 = .ok (.iload 5, 2) := dk_21 5 (dk_at dksX0_game_3 15 rfl rfl)
theorem dX0_game_87 : decode cX0_game 87 = .ok (.iload 4, 2) := dk_21 4 (dk_at dksX0_game_3 17 rfl rfl)
theorem dX0_game_89 : decode cX0_game 89 = .ok (.if_icmp .gt 36, 3) := dk_163 0 36 (dk_at dksX0_game_3 19 rfl rfl)
theorem dX0_game_92 : decode cX0_game 92 = .ok (.iload_n 2, 1) := dk_28 (dk_at dksX0_game_3 22 rfl rfl)
theorem dX0_game_93 : decode cX0_game 93 = .ok (.iload 4, 2) := dk_21 4 (dk_at dksX0_game_4 0 rfl rfl)
theorem dX0_game_95 : decode cX0_game 95 = .ok (.iconst 4, 1) := dk_7 (dk_at dksX0_game_4 2 rfl rfl)
theorem dX0_game_96 : decode cX0_game 96 = .ok (.irem, 1) := dk_112 (dk_at dksX0_game_4 3 rfl rfl)
theorem dX0_game_97 : decode cX0_game 97 = .ok (.ixor, 1) := dk_130 (dk_at dksX0_game_4 4 rfl rfl)
theorem dX0_game_98 : decode cX0_game 98 = .ok (.iload 4, 2) := dk_21 4 (dk_at dksX0_game_4 5 rfl rfl)
theorem dX0_game_100 : decode cX0_game 100 = .ok (.iload 5, 2) := dk_21 5 (dk_at dksX0_game_4 7 rfl rfl)
theorem dX0_game_102 : decode cX0_game 102 = .ok (.isub, 1) := dk_100 (dk_at dksX0_game_4 9 rfl rfl)
theorem dX0_game_103 : decode cX0_game 103 = .ok (.iconst 4, 1) := dk_7 (dk_at dksX0_game_4 10 rfl rfl)
theorem dX0_game_104 : decode cX0_game 104 = .ok (.irem, 1) := dk_112 (dk_at dksX0_game_4 11 rfl rfl)
theorem dX0_game_105 : decode cX0_game 105 = .ok (.if_icmp .ne 14, 3) := dk_160 0 14 (dk_at dksX0_game_4 12 rfl rfl)
theorem dX0_game_108 : decode cX0_game 108 = .ok (.iload_n 1, 1) := dk_27 (dk_at dksX0_game_4 15 rfl rfl)
theorem dX0_game_109 : decode cX0_game 109 = .ok (.ifCond .ne 7, 3) := dk_154 0 7 (dk_at dksX0_game_4 16 rfl rfl)
theorem dX0_game_112 : decode cX0_game 112 = .ok (.iload_n 3, 1) := dk_29 (dk_at dksX0_game_4 19 rfl rfl)
theorem dX0_game_113 : decode cX0_game 113 = .ok (.goto 5, 3) := dk_167 0 5 (dk_at dksX0_game_4 20 rfl rfl)
theorem dX0_game_116 : decode cX0_game 116 = .ok (.iload 5, 2) := dk_21 5 (dk_at dksX0_game_5 0 rfl rfl)
theorem dX0_game_118 : decode cX0_game 118 = .ok (.ireturn, 1) := dk_172 (dk_at dksX0_game_5 2 rfl rfl)
theorem dX0_game_119 : decode cX0_game 119 = .ok (.iinc 5 1, 3) := dk_132 5 1 (dk_at dksX0_game_5 3 rfl rfl)
theorem dX0_game_122 : decode cX0_game 122 = .ok (.goto (-43), 3) := dk_167 255 213 (dk_at dksX0_game_5 6 rfl rfl)
theorem dX0_game_125 : decode cX0_game 125 = .ok (.iinc 3 1, 3) := dk_132 3 1 (dk_at dksX0_game_5 9 rfl rfl)
theorem dX0_game_128 : decode cX0_game 128 = .ok (.goto (-77), 3) := dk_167 255 179 (dk_at dksX0_game_5 12 rfl rfl)
theorem dX0_game_131 : decode cX0_game 131 = .ok (.iconst (-1), 1) := dk_2 (dk_at dksX0_game_5 15 rfl rfl)
theorem dX0_game_132 : decode cX0_game 132 = .ok (.ireturn, 1) := dk_172 (dk_at dksX0_game_5 16 rfl rfl)
abbrev cX0_image : ByteArray := prog_1_method_53_code
def yX0_image : MethodName := ⟨RX0, "image", "(Z)Z"⟩
def dkwX0_image_2 : List UInt8 := [42, 182, 0, 82, 87, 42, 4, 181, 1, 50, 4, 172]
abbrev dktX0_image_2 : List UInt8 := dkwX0_image_2 ++ []
def dkwX0_image_1 : List UInt8 := [180, 0, 20, 182, 1, 53, 167, 0, 14, 42, 180, 0, 20, 42, 180, 0, 24, 182, 1, 53, 27, 154, 0, 8]
abbrev dktX0_image_1 : List UInt8 := dkwX0_image_1 ++ dktX0_image_2
def dkwX0_image_0 : List UInt8 := [27, 154, 0, 12, 42, 180, 1, 50, 154, 0, 5, 3, 172, 27, 153, 0, 17, 42, 180, 0, 24, 42]
abbrev dktX0_image_0 : List UInt8 := dkwX0_image_0 ++ dktX0_image_1
theorem dksX0_image_0 : cX0_image.data.toList.drop 0 = dktX0_image_0 := by decide +kernel
theorem dksX0_image_1 : cX0_image.data.toList.drop 22 = dktX0_image_1 := dk_seg dksX0_image_0 22 rfl rfl
theorem dksX0_image_2 : cX0_image.data.toList.drop 46 = dktX0_image_2 := dk_seg dksX0_image_1 24 rfl rfl
theorem dX0_image_0 : decode cX0_image 0 = .ok (.iload_n 1, 1) := dk_27 (dk_at dksX0_image_0 0 rfl rfl)
theorem dX0_image_1 : decode cX0_image 1 = .ok (.ifCond .ne 12, 3) := dk_154 0 12 (dk_at dksX0_image_0 1 rfl rfl)
theorem dX0_image_4 : decode cX0_image 4 = .ok (.aload_n 0, 1) := dk_42 (dk_at dksX0_image_0 4 rfl rfl)
theorem dX0_image_5 : decode cX0_image 5 = .ok (.getfield 306, 3) := dk_180 1 50 (dk_at dksX0_image_0 5 rfl rfl)
theorem dX0_image_8 : decode cX0_image 8 = .ok (.ifCond .ne 5, 3) := dk_154 0 5 (dk_at dksX0_image_0 8 rfl rfl)
theorem dX0_image_11 : decode cX0_image 11 = .ok (.iconst 0, 1) := dk_3 (dk_at dksX0_image_0 11 rfl rfl)
theorem dX0_image_12 : decode cX0_image 12 = .ok (.ireturn, 1) := dk_172 (dk_at dksX0_image_0 12 rfl rfl)
theorem dX0_image_13 : decode cX0_image 13 = .ok (.iload_n 1, 1) := dk_27 (dk_at dksX0_image_0 13 rfl rfl)
theorem dX0_image_14 : decode cX0_image 14 = .ok (.ifCond .eq 17, 3) := dk_153 0 17 (dk_at dksX0_image_0 14 rfl rfl)
theorem dX0_image_17 : decode cX0_image 17 = .ok (.aload_n 0, 1) := dk_42 (dk_at dksX0_image_0 17 rfl rfl)
theorem dX0_image_18 : decode cX0_image 18 = .ok (.getfield 24, 3) := dk_180 0 24 (dk_at dksX0_image_0 18 rfl rfl)
theorem dX0_image_21 : decode cX0_image 21 = .ok (.aload_n 0, 1) := dk_42 (dk_at dksX0_image_0 21 rfl rfl)
theorem dX0_image_22 : decode cX0_image 22 = .ok (.getfield 20, 3) := dk_180 0 20 (dk_at dksX0_image_1 0 rfl rfl)
theorem dX0_image_25 : decode cX0_image 25 = .ok (.invokevirtual 309, 3) := dk_182 1 53 (dk_at dksX0_image_1 3 rfl rfl)
theorem dX0_image_28 : decode cX0_image 28 = .ok (.goto 14, 3) := dk_167 0 14 (dk_at dksX0_image_1 6 rfl rfl)
theorem dX0_image_31 : decode cX0_image 31 = .ok (.aload_n 0, 1) := dk_42 (dk_at dksX0_image_1 9 rfl rfl)
theorem dX0_image_32 : decode cX0_image 32 = .ok (.getfield 20, 3) := dk_180 0 20 (dk_at dksX0_image_1 10 rfl rfl)
theorem dX0_image_35 : decode cX0_image 35 = .ok (.aload_n 0, 1) := dk_42 (dk_at dksX0_image_1 13 rfl rfl)
theorem dX0_image_36 : decode cX0_image 36 = .ok (.getfield 24, 3) := dk_180 0 24 (dk_at dksX0_image_1 14 rfl rfl)
theorem dX0_image_39 : decode cX0_image 39 = .ok (.invokevirtual 309, 3) := dk_182 1 53 (dk_at dksX0_image_1 17 rfl rfl)
theorem dX0_image_42 : decode cX0_image 42 = .ok (.iload_n 1, 1) := dk_27 (dk_at dksX0_image_1 20 rfl rfl)
theorem dX0_image_43 : decode cX0_image 43 = .ok (.ifCond .ne 8, 3) := dk_154 0 8 (dk_at dksX0_image_1 21 rfl rfl)
theorem dX0_image_46 : decode cX0_image 46 = .ok (.aload_n 0, 1) := dk_42 (dk_at dksX0_image_2 0 rfl rfl)
theorem dX0_image_47 : decode cX0_image 47 = .ok (.invokevirtual 82, 3) := dk_182 0 82 (dk_at dksX0_image_2 1 rfl rfl)
theorem dX0_image_50 : decode cX0_image 50 = .ok (.pop, 1) := dk_87 (dk_at dksX0_image_2 4 rfl rfl)
theorem dX0_image_51 : decode cX0_image 51 = .ok (.aload_n 0, 1) := dk_42 (dk_at dksX0_image_2 5 rfl rfl)
theorem dX0_image_52 : decode cX0_image 52 = .ok (.iconst 1, 1) := dk_4 (dk_at dksX0_image_2 6 rfl rfl)
theorem dX0_image_53 : decode cX0_image 53 = .ok (.putfield 306, 3) := dk_181 1 50 (dk_at dksX0_image_2 7 rfl rfl)
theorem dX0_image_56 : decode cX0_image 56 = .ok (.iconst 1, 1) := dk_4 (dk_at dksX0_image_2 10 rfl rfl)
theorem dX0_image_57 : decode cX0_image 57 = .ok (.ireturn, 1) := dk_172 (dk_at dksX0_image_2 11 rfl rfl)
abbrev cX0_look : ByteArray := prog_1_method_54_code
def yX0_look : MethodName := ⟨RX0, "look", "(I)I"⟩
def dkwX0_look_7 : List UInt8 := [180, 0, 106, 172, 42, 180, 0, 20, 180, 1, 56, 172, 2, 172]
abbrev dktX0_look_7 : List UInt8 := dkwX0_look_7 ++ []
def dkwX0_look_6 : List UInt8 := [180, 0, 81, 172, 42, 180, 0, 20, 180, 0, 89, 182, 0, 65, 172, 42, 180, 0, 20, 180, 1, 22, 172, 42]
abbrev dktX0_look_6 : List UInt8 := dkwX0_look_6 ++ dktX0_look_7
def dkwX0_look_5 : List UInt8 := [42, 180, 0, 20, 180, 0, 119, 172, 42, 180, 0, 20, 180, 0, 62, 182, 0, 65, 172, 42, 180, 0, 20]
abbrev dktX0_look_5 : List UInt8 := dkwX0_look_5 ++ dktX0_look_6
def dkwX0_look_4 : List UInt8 := [42, 180, 0, 20, 180, 0, 168, 172, 42, 180, 0, 20, 180, 0, 171, 172, 42, 180, 0, 20, 180, 0, 234, 172]
abbrev dktX0_look_4 : List UInt8 := dkwX0_look_4 ++ dktX0_look_5
def dkwX0_look_3 : List UInt8 := [42, 180, 0, 20, 180, 0, 204, 172, 42, 180, 0, 20, 180, 0, 162, 172, 42, 180, 0, 20, 180, 0, 165, 172]
abbrev dktX0_look_3 : List UInt8 := dkwX0_look_3 ++ dktX0_look_4
def dkwX0_look_2 : List UInt8 := [42, 180, 0, 20, 180, 0, 113, 172, 42, 180, 0, 20, 180, 0, 156, 172, 42, 180, 0, 20, 180, 0, 116, 172]
abbrev dktX0_look_2 : List UInt8 := dkwX0_look_2 ++ dktX0_look_3
def dkwX0_look_1 : List UInt8 := [170, 0, 0, 0, 0, 0, 210, 0, 0, 0, 0, 0, 0, 0, 15, 0, 0, 0, 79, 0, 0, 0, 87, 0, 0, 0, 95, 0, 0, 0, 103, 0, 0, 0, 111, 0, 0, 0, 119, 0, 0, 0, 127, 0, 0, 0, 135, 0, 0, 0, 143, 0, 0, 0, 151, 0, 0, 0, 159, 0, 0, 0, 170, 0, 0, 0, 178, 0, 0, 0, 189, 0, 0, 0, 197, 0, 0, 0, 202]
abbrev dktX0_look_1 : List UInt8 := dkwX0_look_1 ++ dktX0_look_2
def dkwX0_look_0 : List UInt8 := [27]
abbrev dktX0_look_0 : List UInt8 := dkwX0_look_0 ++ dktX0_look_1
theorem dksX0_look_0 : cX0_look.data.toList.drop 0 = dktX0_look_0 := by decide +kernel
theorem dksX0_look_1 : cX0_look.data.toList.drop 1 = dktX0_look_1 := dk_seg dksX0_look_0 1 rfl rfl
theorem dksX0_look_2 : cX0_look.data.toList.drop 80 = dktX0_look_2 := dk_seg dksX0_look_1 79 rfl rfl
theorem dksX0_look_3 : cX0_look.data.toList.drop 104 = dktX0_look_3 := dk_seg dksX0_look_2 24 rfl rfl
theorem dksX0_look_4 : cX0_look.data.toList.drop 128 = dktX0_look_4 := dk_seg dksX0_look_3 24 rfl rfl
theorem dksX0_look_5 : cX0_look.data.toList.drop 152 = dktX0_look_5 := dk_seg dksX0_look_4 24 rfl rfl
theorem dksX0_look_6 : cX0_look.data.toList.drop 175 = dktX0_look_6 := dk_seg dksX0_look_5 23 rfl rfl
theorem dksX0_look_7 : cX0_look.data.toList.drop 199 = dktX0_look_7 := dk_seg dksX0_look_6 24 rfl rfl
theorem dX0_look_0 : decode cX0_look 0 = .ok (.iload_n 1, 1) := dk_27 (dk_at dksX0_look_0 0 rfl rfl)
theorem dX0_look_1 : decode cX0_look 1 = .ok (.tableswitch 210 0 15 #[79, 87, 95, 103, 111, 119, 127, 135, 143, 151, 159, 170, 178, 189, 197, 202], 79) := by decide +kernel
theorem dX0_look_80 : decode cX0_look 80 = .ok (.aload_n 0, 1) := dk_42 (dk_at dksX0_look_2 0 rfl rfl)
theorem dX0_look_81 : decode cX0_look 81 = .ok (.getfield 20, 3) := dk_180 0 20 (dk_at dksX0_look_2 1 rfl rfl)
theorem dX0_look_84 : decode cX0_look 84 = .ok (.getfield 113, 3) := dk_180 0 113 (dk_at dksX0_look_2 4 rfl rfl)
theorem dX0_look_87 : decode cX0_look 87 = .ok (.ireturn, 1) := dk_172 (dk_at dksX0_look_2 7 rfl rfl)
theorem dX0_look_88 : decode cX0_look 88 = .ok (.aload_n 0, 1) := dk_42 (dk_at dksX0_look_2 8 rfl rfl)
theorem dX0_look_89 : decode cX0_look 89 = .ok (.getfield 20, 3) := dk_180 0 20 (dk_at dksX0_look_2 9 rfl rfl)
theorem dX0_look_92 : decode cX0_look 92 = .ok (.getfield 156, 3) := dk_180 0 156 (dk_at dksX0_look_2 12 rfl rfl)
theorem dX0_look_95 : decode cX0_look 95 = .ok (.ireturn, 1) := dk_172 (dk_at dksX0_look_2 15 rfl rfl)
theorem dX0_look_96 : decode cX0_look 96 = .ok (.aload_n 0, 1) := dk_42 (dk_at dksX0_look_2 16 rfl rfl)
theorem dX0_look_97 : decode cX0_look 97 = .ok (.getfield 20, 3) := dk_180 0 20 (dk_at dksX0_look_2 17 rfl rfl)
theorem dX0_look_100 : decode cX0_look 100 = .ok (.getfield 116, 3) := dk_180 0 116 (dk_at dksX0_look_2 20 rfl rfl)
theorem dX0_look_103 : decode cX0_look 103 = .ok (.ireturn, 1) := dk_172 (dk_at dksX0_look_2 23 rfl rfl)
theorem dX0_look_104 : decode cX0_look 104 = .ok (.aload_n 0, 1) := dk_42 (dk_at dksX0_look_3 0 rfl rfl)
theorem dX0_look_105 : decode cX0_look 105 = .ok (.getfield 20, 3) := dk_180 0 20 (dk_at dksX0_look_3 1 rfl rfl)
theorem dX0_look_108 : decode cX0_look 108 = .ok (.getfield 204, 3) := dk_180 0 204 (dk_at dksX0_look_3 4 rfl rfl)
theorem dX0_look_111 : decode cX0_look 111 = .ok (.ireturn, 1) := dk_172 (dk_at dksX0_look_3 7 rfl rfl)
theorem dX0_look_112 : decode cX0_look 112 = .ok (.aload_n 0, 1) := dk_42 (dk_at dksX0_look_3 8 rfl rfl)
theorem dX0_look_113 : decode cX0_look 113 = .ok (.getfield 20, 3) := dk_180 0 20 (dk_at dksX0_look_3 9 rfl rfl)
theorem dX0_look_116 : decode cX0_look 116 = .ok (.getfield 162, 3) := dk_180 0 162 (dk_at dksX0_look_3 12 rfl rfl)
theorem dX0_look_119 : decode cX0_look 119 = .ok (.ireturn, 1) := dk_172 (dk_at dksX0_look_3 15 rfl rfl)
theorem dX0_look_120 : decode cX0_look 120 = .ok (.aload_n 0, 1) := dk_42 (dk_at dksX0_look_3 16 rfl rfl)
theorem dX0_look_121 : decode cX0_look 121 = .ok (.getfield 20, 3) := dk_180 0 20 (dk_at dksX0_look_3 17 rfl rfl)
theorem dX0_look_124 : decode cX0_look 124 = .ok (.getfield 165, 3) := dk_180 0 165 (dk_at dksX0_look_3 20 rfl rfl)
theorem dX0_look_127 : decode cX0_look 127 = .ok (.ireturn, 1) := dk_172 (dk_at dksX0_look_3 23 rfl rfl)
theorem dX0_look_128 : decode cX0_look 128 = .ok (.aload_n 0, 1) := dk_42 (dk_at dksX0_look_4 0 rfl rfl)
theorem dX0_look_129 : decode cX0_look 129 = .ok (.getfield 20, 3) := dk_180 0 20 (dk_at dksX0_look_4 1 rfl rfl)
theorem dX0_look_132 : decode cX0_look 132 = .ok (.getfield 168, 3) := dk_180 0 168 (dk_at dksX0_look_4 4 rfl rfl)
theorem dX0_look_135 : decode cX0_look 135 = .ok (.ireturn, 1) := dk_172 (dk_at dksX0_look_4 7 rfl rfl)
theorem dX0_look_136 : decode cX0_look 136 = .ok (.aload_n 0, 1) := dk_42 (dk_at dksX0_look_4 8 rfl rfl)
theorem dX0_look_137 : decode cX0_look 137 = .ok (.getfield 20, 3) := dk_180 0 20 (dk_at dksX0_look_4 9 rfl rfl)
theorem dX0_look_140 : decode cX0_look 140 = .ok (.getfield 171, 3) := dk_180 0 171 (dk_at dksX0_look_4 12 rfl rfl)
theorem dX0_look_143 : decode cX0_look 143 = .ok (.ireturn, 1) := dk_172 (dk_at dksX0_look_4 15 rfl rfl)
theorem dX0_look_144 : decode cX0_look 144 = .ok (.aload_n 0, 1) := dk_42 (dk_at dksX0_look_4 16 rfl rfl)
theorem dX0_look_145 : decode cX0_look 145 = .ok (.getfield 20, 3) := dk_180 0 20 (dk_at dksX0_look_4 17 rfl rfl)
theorem dX0_look_148 : decode cX0_look 148 = .ok (.getfield 234, 3) := dk_180 0 234 (dk_at dksX0_look_4 20 rfl rfl)
theorem dX0_look_151 : decode cX0_look 151 = .ok (.ireturn, 1) := dk_172 (dk_at dksX0_look_4 23 rfl rfl)
theorem dX0_look_152 : decode cX0_look 152 = .ok (.aload_n 0, 1) := dk_42 (dk_at dksX0_look_5 0 rfl rfl)
theorem dX0_look_153 : decode cX0_look 153 = .ok (.getfield 20, 3) := dk_180 0 20 (dk_at dksX0_look_5 1 rfl rfl)
theorem dX0_look_156 : decode cX0_look 156 = .ok (.getfield 119, 3) := dk_180 0 119 (dk_at dksX0_look_5 4 rfl rfl)
theorem dX0_look_159 : decode cX0_look 159 = .ok (.ireturn, 1) := dk_172 (dk_at dksX0_look_5 7 rfl rfl)
theorem dX0_look_160 : decode cX0_look 160 = .ok (.aload_n 0, 1) := dk_42 (dk_at dksX0_look_5 8 rfl rfl)
theorem dX0_look_161 : decode cX0_look 161 = .ok (.getfield 20, 3) := dk_180 0 20 (dk_at dksX0_look_5 9 rfl rfl)
theorem dX0_look_164 : decode cX0_look 164 = .ok (.getfield 62, 3) := dk_180 0 62 (dk_at dksX0_look_5 12 rfl rfl)
theorem dX0_look_167 : decode cX0_look 167 = .ok (.invokevirtual 65, 3) := dk_182 0 65 (dk_at dksX0_look_5 15 rfl rfl)
theorem dX0_look_170 : decode cX0_look 170 = .ok (.ireturn, 1) := dk_172 (dk_at dksX0_look_5 18 rfl rfl)
theorem dX0_look_171 : decode cX0_look 171 = .ok (.aload_n 0, 1) := dk_42 (dk_at dksX0_look_5 19 rfl rfl)
theorem dX0_look_172 : decode cX0_look 172 = .ok (.getfield 20, 3) := dk_180 0 20 (dk_at dksX0_look_5 20 rfl rfl)
theorem dX0_look_175 : decode cX0_look 175 = .ok (.getfield 81, 3) := dk_180 0 81 (dk_at dksX0_look_6 0 rfl rfl)
theorem dX0_look_178 : decode cX0_look 178 = .ok (.ireturn, 1) := dk_172 (dk_at dksX0_look_6 3 rfl rfl)
theorem dX0_look_179 : decode cX0_look 179 = .ok (.aload_n 0, 1) := dk_42 (dk_at dksX0_look_6 4 rfl rfl)
theorem dX0_look_180 : decode cX0_look 180 = .ok (.getfield 20, 3) := dk_180 0 20 (dk_at dksX0_look_6 5 rfl rfl)
theorem dX0_look_183 : decode cX0_look 183 = .ok (.getfield 89, 3) := dk_180 0 89 (dk_at dksX0_look_6 8 rfl rfl)
theorem dX0_look_186 : decode cX0_look 186 = .ok (.invokevirtual 65, 3) := dk_182 0 65 (dk_at dksX0_look_6 11 rfl rfl)
theorem dX0_look_189 : decode cX0_look 189 = .ok (.ireturn, 1) := dk_172 (dk_at dksX0_look_6 14 rfl rfl)
theorem dX0_look_190 : decode cX0_look 190 = .ok (.aload_n 0, 1) := dk_42 (dk_at dksX0_look_6 15 rfl rfl)
theorem dX0_look_191 : decode cX0_look 191 = .ok (.getfield 20, 3) := dk_180 0 20 (dk_at dksX0_look_6 16 rfl rfl)
theorem dX0_look_194 : decode cX0_look 194 = .ok (.getfield 278, 3) := dk_180 1 22 (dk_at dksX0_look_6 19 rfl rfl)
theorem dX0_look_197 : decode cX0_look 197 = .ok (.ireturn, 1) := dk_172 (dk_at dksX0_look_6 22 rfl rfl)
theorem dX0_look_198 : decode cX0_look 198 = .ok (.aload_n 0, 1) := dk_42 (dk_at dksX0_look_6 23 rfl rfl)
theorem dX0_look_199 : decode cX0_look 199 = .ok (.getfield 106, 3) := dk_180 0 106 (dk_at dksX0_look_7 0 rfl rfl)
theorem dX0_look_202 : decode cX0_look 202 = .ok (.ireturn, 1) := dk_172 (dk_at dksX0_look_7 3 rfl rfl)
theorem dX0_look_203 : decode cX0_look 203 = .ok (.aload_n 0, 1) := dk_42 (dk_at dksX0_look_7 4 rfl rfl)
theorem dX0_look_204 : decode cX0_look 204 = .ok (.getfield 20, 3) := dk_180 0 20 (dk_at dksX0_look_7 5 rfl rfl)
theorem dX0_look_207 : decode cX0_look 207 = .ok (.getfield 312, 3) := dk_180 1 56 (dk_at dksX0_look_7 8 rfl rfl)
theorem dX0_look_210 : decode cX0_look 210 = .ok (.ireturn, 1) := dk_172 (dk_at dksX0_look_7 11 rfl rfl)
theorem dX0_look_211 : decode cX0_look 211 = .ok (.iconst (-1), 1) := dk_2 (dk_at dksX0_look_7 12 rfl rfl)
theorem dX0_look_212 : decode cX0_look 212 = .ok (.ireturn, 1) := dk_172 (dk_at dksX0_look_7 13 rfl rfl)
theorem q148 : (Jvm.Cond.initialized "BallotFruit") ∈ lw_all := lw_g (lw_at lw_m1 1 rfl) rfl
theorem q184 : (Jvm.Cond.instantiable "BallotFruit" (11 : Nat)) ∈ lw_all := lw_g (lw_at lw_m1 37 rfl) rfl
theorem q186 : (Jvm.Cond.instanceMethod ({ cls := "BallotFruit", name := "<init>", desc := "()V" } : Jvm.MethodName)) ∈ lw_all := lw_g (lw_at lw_m1 39 rfl) rfl
theorem q187 : (Jvm.Cond.code ({ cls := "BallotFruit", name := "<init>", desc := "()V" } : Jvm.MethodName) prog_1_method_1_code (2 : Nat) (Option.none : Option Jvm.ClassFile.FieldType)) ∈ lw_all := lw_g (lw_at lw_m1 40 rfl) rfl
theorem q188 : (Jvm.Cond.methodLink "BallotFruit" (1 : Nat) ({ cls := "java/lang/Object", name := "<init>", desc := "()V" } : Jvm.MethodName)) ∈ lw_all := lw_g (lw_at lw_m1 41 rfl) rfl
theorem q191 : (Jvm.Cond.classLink "BallotFruit" (17 : Nat) "BallotFruit$Commune") ∈ lw_all := lw_g (lw_at lw_m1 44 rfl) rfl
theorem q193 : (Jvm.Cond.methodLink "BallotFruit" (19 : Nat) ({ cls := "BallotFruit$Commune", name := "<init>", desc := "()V" } : Jvm.MethodName)) ∈ lw_all := lw_g (lw_at lw_m1 46 rfl) rfl
theorem q241 : (Jvm.Cond.fieldLinkNest "BallotFruit" (126 : Nat) "BallotFruit$Party" "store" "I" "BallotFruit") ∈ lw_tbl := lw_at lw_m1 94 rfl
theorem q244 : (Jvm.Cond.fieldLinkNest "BallotFruit" (131 : Nat) "BallotFruit$Party" "votes" "I" "BallotFruit") ∈ lw_tbl := lw_at lw_m1 97 rfl
theorem q248 : (Jvm.Cond.fieldLinkNest "BallotFruit" (134 : Nat) "BallotFruit$Party" "seats" "I" "BallotFruit") ∈ lw_tbl := lw_at lw_m1 101 rfl
theorem q263 : (Jvm.Cond.fieldLinkNest "BallotFruit" (210 : Nat) "BallotFruit$Tree" "party" "I" "BallotFruit") ∈ lw_tbl := lw_at lw_m1 116 rfl
theorem q266 : (Jvm.Cond.fieldLinkNest "BallotFruit" (215 : Nat) "BallotFruit$Tree" "place" "I" "BallotFruit") ∈ lw_tbl := lw_at lw_m1 119 rfl
theorem q269 : (Jvm.Cond.fieldLinkNest "BallotFruit" (216 : Nat) "BallotFruit$Tree" "age" "I" "BallotFruit") ∈ lw_tbl := lw_at lw_m1 122 rfl
theorem q272 : (Jvm.Cond.fieldLinkNest "BallotFruit" (178 : Nat) "BallotFruit$Tree" "hanging" "I" "BallotFruit") ∈ lw_tbl := lw_at lw_m1 125 rfl
theorem q289 : (Jvm.Cond.fieldLinkNest "BallotFruit" (141 : Nat) "BallotFruit$Eater" "taste" "[I" "BallotFruit") ∈ lw_tbl := lw_at lw_m1 142 rfl
theorem q293 : (Jvm.Cond.fieldLinkNest "BallotFruit" (146 : Nat) "BallotFruit$Eater" "hunger" "I" "BallotFruit") ∈ lw_tbl := lw_at lw_m1 146 rfl
theorem q300 : (Jvm.Cond.fieldLinkNest "BallotFruit" (122 : Nat) "BallotFruit$Commune" "party" "[LBallotFruit$Party;" "BallotFruit") ∈ lw_tbl := lw_at lw_m1 153 rfl
theorem q302 : (Jvm.Cond.fieldLinkNest "BallotFruit" (174 : Nat) "BallotFruit$Commune" "tree" "[LBallotFruit$Tree;" "BallotFruit") ∈ lw_tbl := lw_at lw_m1 155 rfl
theorem q305 : (Jvm.Cond.fieldLinkNest "BallotFruit" (137 : Nat) "BallotFruit$Commune" "eater" "[LBallotFruit$Eater;" "BallotFruit") ∈ lw_tbl := lw_at lw_m1 158 rfl
theorem q307 : (Jvm.Cond.fieldLinkNest "BallotFruit" (237 : Nat) "BallotFruit$Commune" "book" "[[I" "BallotFruit") ∈ lw_tbl := lw_at lw_m1 160 rfl
theorem q309 : (Jvm.Cond.fieldLinkNest "BallotFruit" (281 : Nat) "BallotFruit$Commune" "coreParty" "[I" "BallotFruit") ∈ lw_tbl := lw_at lw_m1 162 rfl
theorem q311 : (Jvm.Cond.fieldLinkNest "BallotFruit" (284 : Nat) "BallotFruit$Commune" "corePlace" "[I" "BallotFruit") ∈ lw_tbl := lw_at lw_m1 164 rfl
theorem q313 : (Jvm.Cond.fieldLinkNest "BallotFruit" (255 : Nat) "BallotFruit$Commune" "gained" "[I" "BallotFruit") ∈ lw_tbl := lw_at lw_m1 166 rfl
theorem q315 : (Jvm.Cond.fieldLinkNest "BallotFruit" (75 : Nat) "BallotFruit$Commune" "paths" "[LBallotFruit$Path;" "BallotFruit") ∈ lw_tbl := lw_at lw_m1 168 rfl
theorem q317 : (Jvm.Cond.fieldLinkNest "BallotFruit" (62 : Nat) "BallotFruit$Commune" "law" "Ljava/util/ArrayList;" "BallotFruit") ∈ lw_tbl := lw_at lw_m1 170 rfl
theorem q319 : (Jvm.Cond.fieldLinkNest "BallotFruit" (89 : Nat) "BallotFruit$Commune" "plan" "Ljava/util/ArrayList;" "BallotFruit") ∈ lw_tbl := lw_at lw_m1 172 rfl
theorem q321 : (Jvm.Cond.fieldLinkNest "BallotFruit" (113 : Nat) "BallotFruit$Commune" "parties" "I" "BallotFruit") ∈ lw_tbl := lw_at lw_m1 174 rfl
theorem q325 : (Jvm.Cond.fieldLinkNest "BallotFruit" (156 : Nat) "BallotFruit$Commune" "trees" "I" "BallotFruit") ∈ lw_tbl := lw_at lw_m1 178 rfl
theorem q327 : (Jvm.Cond.fieldLinkNest "BallotFruit" (116 : Nat) "BallotFruit$Commune" "eaters" "I" "BallotFruit") ∈ lw_tbl := lw_at lw_m1 180 rfl
theorem q330 : (Jvm.Cond.fieldLinkNest "BallotFruit" (162 : Nat) "BallotFruit$Commune" "bad" "I" "BallotFruit") ∈ lw_tbl := lw_at lw_m1 183 rfl
theorem q332 : (Jvm.Cond.fieldLinkNest "BallotFruit" (165 : Nat) "BallotFruit$Commune" "wasps" "I" "BallotFruit") ∈ lw_tbl := lw_at lw_m1 185 rfl
theorem q334 : (Jvm.Cond.fieldLinkNest "BallotFruit" (168 : Nat) "BallotFruit$Commune" "chairs" "I" "BallotFruit") ∈ lw_tbl := lw_at lw_m1 187 rfl
theorem q336 : (Jvm.Cond.fieldLinkNest "BallotFruit" (171 : Nat) "BallotFruit$Commune" "every" "I" "BallotFruit") ∈ lw_tbl := lw_at lw_m1 189 rfl
theorem q338 : (Jvm.Cond.fieldLinkNest "BallotFruit" (312 : Nat) "BallotFruit$Commune" "fenced" "I" "BallotFruit") ∈ lw_tbl := lw_at lw_m1 191 rfl
theorem q340 : (Jvm.Cond.fieldLinkNest "BallotFruit" (204 : Nat) "BallotFruit$Commune" "week" "I" "BallotFruit") ∈ lw_tbl := lw_at lw_m1 193 rfl
theorem q342 : (Jvm.Cond.fieldLinkNest "BallotFruit" (119 : Nat) "BallotFruit$Commune" "state" "I" "BallotFruit") ∈ lw_tbl := lw_at lw_m1 195 rfl
theorem q344 : (Jvm.Cond.fieldLinkNest "BallotFruit" (234 : Nat) "BallotFruit$Commune" "lines" "I" "BallotFruit") ∈ lw_tbl := lw_at lw_m1 197 rfl
theorem q346 : (Jvm.Cond.fieldLinkNest "BallotFruit" (81 : Nat) "BallotFruit$Commune" "told" "I" "BallotFruit") ∈ lw_tbl := lw_at lw_m1 199 rfl
theorem q348 : (Jvm.Cond.fieldLinkNest "BallotFruit" (278 : Nat) "BallotFruit$Commune" "cores" "I" "BallotFruit") ∈ lw_tbl := lw_at lw_m1 201 rfl
theorem q350 : (Jvm.Cond.fieldLinkNest "BallotFruit" (246 : Nat) "BallotFruit$Commune" "hungry" "I" "BallotFruit") ∈ lw_tbl := lw_at lw_m1 203 rfl
theorem q352 : (Jvm.Cond.fieldLinkNest "BallotFruit" (249 : Nat) "BallotFruit$Commune" "hungryWeek" "I" "BallotFruit") ∈ lw_tbl := lw_at lw_m1 205 rfl
theorem q353 : (Jvm.Cond.fieldLinkNest "BallotFruit" (34 : Nat) "BallotFruit$Commune" "isThought" "Z" "BallotFruit") ∈ lw_tbl := lw_at lw_m1 206 rfl
theorem q424 : (Jvm.Cond.fieldLink "BallotFruit" (9 : Nat) "BallotFruit" "tape" "[B") ∈ lw_all := lw_g (lw_at lw_m2 37 rfl) rfl
theorem q427 : (Jvm.Cond.fieldLink "BallotFruit" (42 : Nat) "BallotFruit" "taped" "I") ∈ lw_all := lw_g (lw_at lw_m2 40 rfl) rfl
theorem q428 : (Jvm.Cond.fieldLink "BallotFruit" (91 : Nat) "BallotFruit" "faultKind" "I") ∈ lw_all := lw_g (lw_at lw_m2 41 rfl) rfl
theorem q429 : (Jvm.Cond.fieldLink "BallotFruit" (13 : Nat) "BallotFruit" "faultPlace" "I") ∈ lw_all := lw_g (lw_at lw_m2 42 rfl) rfl
theorem q430 : (Jvm.Cond.fieldLink "BallotFruit" (20 : Nat) "BallotFruit" "commune" "LBallotFruit$Commune;") ∈ lw_all := lw_g (lw_at lw_m2 43 rfl) rfl
theorem q432 : (Jvm.Cond.fieldLink "BallotFruit" (24 : Nat) "BallotFruit" "kept" "LBallotFruit$Commune;") ∈ lw_all := lw_g (lw_at lw_m2 45 rfl) rfl
theorem q433 : (Jvm.Cond.fieldLink "BallotFruit" (27 : Nat) "BallotFruit" "thought" "LBallotFruit$Commune;") ∈ lw_all := lw_g (lw_at lw_m2 46 rfl) rfl
theorem q434 : (Jvm.Cond.fieldLink "BallotFruit" (30 : Nat) "BallotFruit" "back" "[LBallotFruit$Commune;") ∈ lw_all := lw_g (lw_at lw_m2 47 rfl) rfl
theorem q435 : (Jvm.Cond.fieldLink "BallotFruit" (106 : Nat) "BallotFruit" "backMany" "I") ∈ lw_all := lw_g (lw_at lw_m2 48 rfl) rfl
theorem q436 : (Jvm.Cond.fieldLink "BallotFruit" (306 : Nat) "BallotFruit" "hasImage" "Z") ∈ lw_all := lw_g (lw_at lw_m2 49 rfl) rfl
theorem q437 : (Jvm.Cond.fieldLink "BallotFruit" (38 : Nat) "BallotFruit" "ways" "[I") ∈ lw_all := lw_g (lw_at lw_m2 50 rfl) rfl
theorem q438 : (Jvm.Cond.laysFinal "BallotFruit" "BallotFruit" "tape" "[B") ∈ lw_all := lw_g (lw_at lw_m2 51 rfl) rfl
theorem q439 : (Jvm.Cond.soleField "BallotFruit" "tape") ∈ lw_all := lw_g (lw_at lw_m2 52 rfl) rfl
theorem q440 : (Jvm.Cond.lays "BallotFruit" "BallotFruit" "taped" "I") ∈ lw_all := lw_g (lw_at lw_m2 53 rfl) rfl
theorem q441 : (Jvm.Cond.soleField "BallotFruit" "taped") ∈ lw_all := lw_g (lw_at lw_m2 54 rfl) rfl
theorem q442 : (Jvm.Cond.lays "BallotFruit" "BallotFruit" "faultKind" "I") ∈ lw_all := lw_g (lw_at lw_m2 55 rfl) rfl
theorem q443 : (Jvm.Cond.soleField "BallotFruit" "faultKind") ∈ lw_all := lw_g (lw_at lw_m2 56 rfl) rfl
theorem q444 : (Jvm.Cond.lays "BallotFruit" "BallotFruit" "faultPlace" "I") ∈ lw_all := lw_g (lw_at lw_m2 57 rfl) rfl
theorem q445 : (Jvm.Cond.soleField "BallotFruit" "faultPlace") ∈ lw_all := lw_g (lw_at lw_m2 58 rfl) rfl
theorem q446 : (Jvm.Cond.laysFinal "BallotFruit" "BallotFruit" "commune" "LBallotFruit$Commune;") ∈ lw_all := lw_g (lw_at lw_m2 59 rfl) rfl
theorem q447 : (Jvm.Cond.soleField "BallotFruit" "commune") ∈ lw_all := lw_g (lw_at lw_m2 60 rfl) rfl
theorem q448 : (Jvm.Cond.laysFinal "BallotFruit" "BallotFruit" "kept" "LBallotFruit$Commune;") ∈ lw_all := lw_g (lw_at lw_m2 61 rfl) rfl
theorem q449 : (Jvm.Cond.soleField "BallotFruit" "kept") ∈ lw_all := lw_g (lw_at lw_m2 62 rfl) rfl
theorem q450 : (Jvm.Cond.laysFinal "BallotFruit" "BallotFruit" "thought" "LBallotFruit$Commune;") ∈ lw_all := lw_g (lw_at lw_m2 63 rfl) rfl
theorem q451 : (Jvm.Cond.soleField "BallotFruit" "thought") ∈ lw_all := lw_g (lw_at lw_m2 64 rfl) rfl
theorem q452 : (Jvm.Cond.laysFinal "BallotFruit" "BallotFruit" "back" "[LBallotFruit$Commune;") ∈ lw_all := lw_g (lw_at lw_m2 65 rfl) rfl
theorem q453 : (Jvm.Cond.soleField "BallotFruit" "back") ∈ lw_all := lw_g (lw_at lw_m2 66 rfl) rfl
theorem q454 : (Jvm.Cond.lays "BallotFruit" "BallotFruit" "backMany" "I") ∈ lw_all := lw_g (lw_at lw_m2 67 rfl) rfl
theorem q455 : (Jvm.Cond.soleField "BallotFruit" "backMany") ∈ lw_all := lw_g (lw_at lw_m2 68 rfl) rfl
theorem q456 : (Jvm.Cond.lays "BallotFruit" "BallotFruit" "hasImage" "Z") ∈ lw_all := lw_g (lw_at lw_m2 69 rfl) rfl
theorem q457 : (Jvm.Cond.soleField "BallotFruit" "hasImage") ∈ lw_all := lw_g (lw_at lw_m2 70 rfl) rfl
theorem q458 : (Jvm.Cond.laysFinal "BallotFruit" "BallotFruit" "ways" "[I") ∈ lw_all := lw_g (lw_at lw_m2 71 rfl) rfl
theorem q459 : (Jvm.Cond.soleField "BallotFruit" "ways") ∈ lw_all := lw_g (lw_at lw_m2 72 rfl) rfl
theorem q460 : (Jvm.Cond.superclass "BallotFruit" "java/lang/Object") ∈ lw_all := lw_g (lw_at lw_m2 73 rfl) rfl
theorem q462 : (Jvm.Cond.instanceMethod ({ cls := "BallotFruit", name := "feed", desc := "(IIIII)I" } : Jvm.MethodName)) ∈ lw_all := lw_g (lw_at lw_m2 75 rfl) rfl
theorem q463 : (Jvm.Cond.selects "BallotFruit" ({ cls := "BallotFruit", name := "feed", desc := "(IIIII)I" } : Jvm.MethodName) ({ cls := "BallotFruit", name := "feed", desc := "(IIIII)I" } : Jvm.MethodName)) ∈ lw_all := lw_g (lw_at lw_m2 76 rfl) rfl
theorem q464 : (Jvm.Cond.code ({ cls := "BallotFruit", name := "feed", desc := "(IIIII)I" } : Jvm.MethodName) prog_1_method_3_code (6 : Nat) (Option.some Jvm.ClassFile.FieldType.int)) ∈ lw_all := lw_g (lw_at lw_m2 77 rfl) rfl
theorem q465 : (Jvm.Cond.methodLink "BallotFruit" (45 : Nat) ({ cls := "BallotFruit", name := "word", desc := "(I)V" } : Jvm.MethodName)) ∈ lw_all := lw_g (lw_at lw_m2 78 rfl) rfl
theorem q466 : (Jvm.Cond.privateMethod ({ cls := "BallotFruit", name := "word", desc := "(I)V" } : Jvm.MethodName)) ∈ lw_tbl := lw_at lw_m2 79 rfl
theorem q467 : (Jvm.Cond.instanceMethod ({ cls := "BallotFruit", name := "word", desc := "(I)V" } : Jvm.MethodName)) ∈ lw_all := lw_g (lw_at lw_m2 80 rfl) rfl
theorem q468 : (Jvm.Cond.code ({ cls := "BallotFruit", name := "word", desc := "(I)V" } : Jvm.MethodName) prog_1_method_4_code (3 : Nat) (Option.none : Option Jvm.ClassFile.FieldType)) ∈ lw_all := lw_g (lw_at lw_m2 81 rfl) rfl
theorem q470 : (Jvm.Cond.instanceMethod ({ cls := "BallotFruit", name := "end", desc := "(I)Z" } : Jvm.MethodName)) ∈ lw_all := lw_g (lw_at lw_m2 83 rfl) rfl
theorem q471 : (Jvm.Cond.selects "BallotFruit" ({ cls := "BallotFruit", name := "end", desc := "(I)Z" } : Jvm.MethodName) ({ cls := "BallotFruit", name := "end", desc := "(I)Z" } : Jvm.MethodName)) ∈ lw_all := lw_g (lw_at lw_m2 84 rfl) rfl
theorem q472 : (Jvm.Cond.code ({ cls := "BallotFruit", name := "end", desc := "(I)Z" } : Jvm.MethodName) prog_1_method_5_code (2 : Nat) (Option.some Jvm.ClassFile.FieldType.boolean)) ∈ lw_all := lw_g (lw_at lw_m2 85 rfl) rfl
theorem q473 : (Jvm.Cond.methodLink "BallotFruit" (49 : Nat) ({ cls := "BallotFruit", name := "isIn", desc := "(III)Z" } : Jvm.MethodName)) ∈ lw_all := lw_g (lw_at lw_m2 86 rfl) rfl
theorem q474 : (Jvm.Cond.static ({ cls := "BallotFruit", name := "isIn", desc := "(III)Z" } : Jvm.MethodName)) ∈ lw_all := lw_g (lw_at lw_m2 87 rfl) rfl
theorem q475 : (Jvm.Cond.code ({ cls := "BallotFruit", name := "isIn", desc := "(III)Z" } : Jvm.MethodName) prog_1_method_2_code (3 : Nat) (Option.some Jvm.ClassFile.FieldType.boolean)) ∈ lw_all := lw_g (lw_at lw_m2 88 rfl) rfl
theorem q477 : (Jvm.Cond.instanceMethod ({ cls := "BallotFruit", name := "text", desc := "(I)I" } : Jvm.MethodName)) ∈ lw_all := lw_g (lw_at lw_m2 90 rfl) rfl
theorem q478 : (Jvm.Cond.selects "BallotFruit" ({ cls := "BallotFruit", name := "text", desc := "(I)I" } : Jvm.MethodName) ({ cls := "BallotFruit", name := "text", desc := "(I)I" } : Jvm.MethodName)) ∈ lw_all := lw_g (lw_at lw_m2 91 rfl) rfl
theorem q479 : (Jvm.Cond.codeWith ({ cls := "BallotFruit", name := "text", desc := "(I)I" } : Jvm.MethodName) prog_1_method_7_code (5 : Nat) (Option.some Jvm.ClassFile.FieldType.int) [((10 : Nat), (29 : Nat), (36 : Nat), (98 : Nat)), ((10 : Nat), (29 : Nat), (62 : Nat), (0 : Nat)), ((36 : Nat), (55 : Nat), (62 : Nat), (0 : Nat)), ((62 : Nat), (64 : Nat), (62 : Nat), (0 : Nat))]) ∈ lw_all := lw_g (lw_at lw_m2 92 rfl) rfl
theorem q480 : (Jvm.Cond.classLink "BallotFruit" (98 : Nat) "BallotFruit$Fault") ∈ lw_all := lw_g (lw_at lw_m2 93 rfl) rfl
theorem q481 : (Jvm.Cond.methodLink "BallotFruit" (94 : Nat) ({ cls := "BallotFruit", name := "reads", desc := "(I)I" } : Jvm.MethodName)) ∈ lw_all := lw_g (lw_at lw_m2 94 rfl) rfl
theorem q482 : (Jvm.Cond.privateMethod ({ cls := "BallotFruit", name := "reads", desc := "(I)I" } : Jvm.MethodName)) ∈ lw_tbl := lw_at lw_m2 95 rfl
theorem q483 : (Jvm.Cond.instanceMethod ({ cls := "BallotFruit", name := "reads", desc := "(I)I" } : Jvm.MethodName)) ∈ lw_all := lw_g (lw_at lw_m2 96 rfl) rfl
theorem q484 : (Jvm.Cond.code ({ cls := "BallotFruit", name := "reads", desc := "(I)I" } : Jvm.MethodName) prog_1_method_6_code (3 : Nat) (Option.some Jvm.ClassFile.FieldType.int)) ∈ lw_all := lw_g (lw_at lw_m2 97 rfl) rfl
theorem q485 : (Jvm.Cond.classLink "BallotFruit" (53 : Nat) "BallotFruit$Reader") ∈ lw_all := lw_g (lw_at lw_m2 98 rfl) rfl
theorem q487 : (Jvm.Cond.methodLink "BallotFruit" (55 : Nat) ({ cls := "BallotFruit$Reader", name := "<init>", desc := "(LBallotFruit;I)V" } : Jvm.MethodName)) ∈ lw_all := lw_g (lw_at lw_m2 100 rfl) rfl
theorem q500 : (Jvm.Cond.fieldLinkNest "BallotFruit" (78 : Nat) "BallotFruit$Reader" "told" "I" "BallotFruit") ∈ lw_tbl := lw_at lw_m2 113 rfl
theorem q524 : (Jvm.Cond.methodLink "BallotFruit" (58 : Nat) ({ cls := "BallotFruit$Reader", name := "law", desc := "()Ljava/util/ArrayList;" } : Jvm.MethodName)) ∈ lw_all := lw_g (lw_at lw_m2 137 rfl) rfl
theorem q689 : (Jvm.Cond.fieldLinkNest "BallotFruit" (100 : Nat) "BallotFruit$Fault" "kind" "I" "BallotFruit") ∈ lw_tbl := lw_at lw_m3 62 rfl
theorem q691 : (Jvm.Cond.fieldLinkNest "BallotFruit" (103 : Nat) "BallotFruit$Fault" "place" "I" "BallotFruit") ∈ lw_tbl := lw_at lw_m3 64 rfl
theorem q848 : (Jvm.Cond.selects "BallotFruit" ({ cls := "java/lang/Object", name := "getClass", desc := "()Ljava/lang/Class;" } : Jvm.MethodName) ({ cls := "java/lang/Object", name := "getClass", desc := "()Ljava/lang/Class;" } : Jvm.MethodName)) ∈ lw_all := lw_g (lw_at lw_m3 221 rfl) rfl
theorem q882 : (Jvm.Cond.methodLink "BallotFruit" (65 : Nat) ({ cls := "java/util/ArrayList", name := "size", desc := "()I" } : Jvm.MethodName)) ∈ lw_all := lw_g (lw_at lw_m4 15 rfl) rfl
theorem q883 : (Jvm.Cond.methodLink "BallotFruit" (71 : Nat) ({ cls := "BallotFruit$Reader", name := "paths", desc := "()[LBallotFruit$Path;" } : Jvm.MethodName)) ∈ lw_all := lw_g (lw_at lw_m4 16 rfl) rfl
theorem q898 : (Jvm.Cond.fieldLinkNest "BallotFruit" (223 : Nat) "BallotFruit$Path" "place" "[I" "BallotFruit") ∈ lw_tbl := lw_at lw_m4 31 rfl
theorem q902 : (Jvm.Cond.methodLink "BallotFruit" (82 : Nat) ({ cls := "BallotFruit", name := "forgets", desc := "()Z" } : Jvm.MethodName)) ∈ lw_all := lw_g (lw_at lw_m4 35 rfl) rfl
theorem q903 : (Jvm.Cond.privateMethod ({ cls := "BallotFruit", name := "forgets", desc := "()Z" } : Jvm.MethodName)) ∈ lw_tbl := lw_at lw_m4 36 rfl
theorem q904 : (Jvm.Cond.instanceMethod ({ cls := "BallotFruit", name := "forgets", desc := "()Z" } : Jvm.MethodName)) ∈ lw_all := lw_g (lw_at lw_m4 37 rfl) rfl
theorem q905 : (Jvm.Cond.code ({ cls := "BallotFruit", name := "forgets", desc := "()Z" } : Jvm.MethodName) prog_1_method_9_code (1 : Nat) (Option.some Jvm.ClassFile.FieldType.boolean)) ∈ lw_all := lw_g (lw_at lw_m4 38 rfl) rfl
theorem q906 : (Jvm.Cond.methodLink "BallotFruit" (86 : Nat) ({ cls := "BallotFruit$Reader", name := "plan", desc := "()Ljava/util/ArrayList;" } : Jvm.MethodName)) ∈ lw_all := lw_g (lw_at lw_m4 39 rfl) rfl
theorem q971 : (Jvm.Cond.instanceMethod ({ cls := "BallotFruit", name := "fault", desc := "(I)I" } : Jvm.MethodName)) ∈ lw_all := lw_g (lw_at lw_m4 104 rfl) rfl
theorem q972 : (Jvm.Cond.selects "BallotFruit" ({ cls := "BallotFruit", name := "fault", desc := "(I)I" } : Jvm.MethodName) ({ cls := "BallotFruit", name := "fault", desc := "(I)I" } : Jvm.MethodName)) ∈ lw_all := lw_g (lw_at lw_m4 105 rfl) rfl
theorem q973 : (Jvm.Cond.code ({ cls := "BallotFruit", name := "fault", desc := "(I)I" } : Jvm.MethodName) prog_1_method_8_code (2 : Nat) (Option.some Jvm.ClassFile.FieldType.int)) ∈ lw_all := lw_g (lw_at lw_m4 106 rfl) rfl
theorem q975 : (Jvm.Cond.instanceMethod ({ cls := "BallotFruit", name := "undo", desc := "()Z" } : Jvm.MethodName)) ∈ lw_all := lw_g (lw_at lw_m4 108 rfl) rfl
theorem q976 : (Jvm.Cond.selects "BallotFruit" ({ cls := "BallotFruit", name := "undo", desc := "()Z" } : Jvm.MethodName) ({ cls := "BallotFruit", name := "undo", desc := "()Z" } : Jvm.MethodName)) ∈ lw_all := lw_g (lw_at lw_m4 109 rfl) rfl
theorem q977 : (Jvm.Cond.code ({ cls := "BallotFruit", name := "undo", desc := "()Z" } : Jvm.MethodName) prog_1_method_11_code (1 : Nat) (Option.some Jvm.ClassFile.FieldType.boolean)) ∈ lw_all := lw_g (lw_at lw_m4 110 rfl) rfl
theorem q978 : (Jvm.Cond.methodLink "BallotFruit" (109 : Nat) ({ cls := "BallotFruit$Commune", name := "moves", desc := "(LBallotFruit$Commune;)V" } : Jvm.MethodName)) ∈ lw_all := lw_g (lw_at lw_m4 111 rfl) rfl
theorem q995 : (Jvm.Cond.instanceMethod ({ cls := "BallotFruit", name := "state", desc := "(I)I" } : Jvm.MethodName)) ∈ lw_all := lw_g (lw_at lw_m4 128 rfl) rfl
theorem q996 : (Jvm.Cond.selects "BallotFruit" ({ cls := "BallotFruit", name := "state", desc := "(I)I" } : Jvm.MethodName) ({ cls := "BallotFruit", name := "state", desc := "(I)I" } : Jvm.MethodName)) ∈ lw_all := lw_g (lw_at lw_m4 129 rfl) rfl
theorem q997 : (Jvm.Cond.code ({ cls := "BallotFruit", name := "state", desc := "(I)I" } : Jvm.MethodName) prog_1_method_15_code (3 : Nat) (Option.some Jvm.ClassFile.FieldType.int)) ∈ lw_all := lw_g (lw_at lw_m4 130 rfl) rfl
theorem q999 : (Jvm.Cond.instanceMethod ({ cls := "BallotFruit", name := "party", desc := "(I)I" } : Jvm.MethodName)) ∈ lw_all := lw_g (lw_at lw_m4 132 rfl) rfl
theorem q1000 : (Jvm.Cond.selects "BallotFruit" ({ cls := "BallotFruit", name := "party", desc := "(I)I" } : Jvm.MethodName) ({ cls := "BallotFruit", name := "party", desc := "(I)I" } : Jvm.MethodName)) ∈ lw_all := lw_g (lw_at lw_m4 133 rfl) rfl
theorem q1001 : (Jvm.Cond.code ({ cls := "BallotFruit", name := "party", desc := "(I)I" } : Jvm.MethodName) prog_1_method_16_code (4 : Nat) (Option.some Jvm.ClassFile.FieldType.int)) ∈ lw_all := lw_g (lw_at lw_m4 134 rfl) rfl
theorem q1003 : (Jvm.Cond.instanceMethod ({ cls := "BallotFruit", name := "eater", desc := "(I)I" } : Jvm.MethodName)) ∈ lw_all := lw_g (lw_at lw_m4 136 rfl) rfl
theorem q1004 : (Jvm.Cond.selects "BallotFruit" ({ cls := "BallotFruit", name := "eater", desc := "(I)I" } : Jvm.MethodName) ({ cls := "BallotFruit", name := "eater", desc := "(I)I" } : Jvm.MethodName)) ∈ lw_all := lw_g (lw_at lw_m4 137 rfl) rfl
theorem q1005 : (Jvm.Cond.code ({ cls := "BallotFruit", name := "eater", desc := "(I)I" } : Jvm.MethodName) prog_1_method_17_code (4 : Nat) (Option.some Jvm.ClassFile.FieldType.int)) ∈ lw_all := lw_g (lw_at lw_m4 138 rfl) rfl
theorem q1007 : (Jvm.Cond.instanceMethod ({ cls := "BallotFruit", name := "taste", desc := "(III)Z" } : Jvm.MethodName)) ∈ lw_all := lw_g (lw_at lw_m4 140 rfl) rfl
theorem q1008 : (Jvm.Cond.selects "BallotFruit" ({ cls := "BallotFruit", name := "taste", desc := "(III)Z" } : Jvm.MethodName) ({ cls := "BallotFruit", name := "taste", desc := "(III)Z" } : Jvm.MethodName)) ∈ lw_all := lw_g (lw_at lw_m4 141 rfl) rfl
theorem q1009 : (Jvm.Cond.code ({ cls := "BallotFruit", name := "taste", desc := "(III)Z" } : Jvm.MethodName) prog_1_method_18_code (4 : Nat) (Option.some Jvm.ClassFile.FieldType.boolean)) ∈ lw_all := lw_g (lw_at lw_m4 142 rfl) rfl
theorem q1010 : (Jvm.Cond.methodLink "BallotFruit" (149 : Nat) ({ cls := "BallotFruit", name := "isEater", desc := "(I)Z" } : Jvm.MethodName)) ∈ lw_all := lw_g (lw_at lw_m4 143 rfl) rfl
theorem q1011 : (Jvm.Cond.privateMethod ({ cls := "BallotFruit", name := "isEater", desc := "(I)Z" } : Jvm.MethodName)) ∈ lw_tbl := lw_at lw_m4 144 rfl
theorem q1012 : (Jvm.Cond.instanceMethod ({ cls := "BallotFruit", name := "isEater", desc := "(I)Z" } : Jvm.MethodName)) ∈ lw_all := lw_g (lw_at lw_m4 145 rfl) rfl
theorem q1013 : (Jvm.Cond.code ({ cls := "BallotFruit", name := "isEater", desc := "(I)Z" } : Jvm.MethodName) prog_1_method_13_code (2 : Nat) (Option.some Jvm.ClassFile.FieldType.boolean)) ∈ lw_all := lw_g (lw_at lw_m4 146 rfl) rfl
theorem q1014 : (Jvm.Cond.methodLink "BallotFruit" (153 : Nat) ({ cls := "BallotFruit", name := "isParty", desc := "(I)Z" } : Jvm.MethodName)) ∈ lw_all := lw_g (lw_at lw_m4 147 rfl) rfl
theorem q1015 : (Jvm.Cond.privateMethod ({ cls := "BallotFruit", name := "isParty", desc := "(I)Z" } : Jvm.MethodName)) ∈ lw_tbl := lw_at lw_m4 148 rfl
theorem q1016 : (Jvm.Cond.instanceMethod ({ cls := "BallotFruit", name := "isParty", desc := "(I)Z" } : Jvm.MethodName)) ∈ lw_all := lw_g (lw_at lw_m4 149 rfl) rfl
theorem q1017 : (Jvm.Cond.code ({ cls := "BallotFruit", name := "isParty", desc := "(I)Z" } : Jvm.MethodName) prog_1_method_12_code (2 : Nat) (Option.some Jvm.ClassFile.FieldType.boolean)) ∈ lw_all := lw_g (lw_at lw_m4 150 rfl) rfl
theorem q1019 : (Jvm.Cond.instanceMethod ({ cls := "BallotFruit", name := "set", desc := "(III)Z" } : Jvm.MethodName)) ∈ lw_all := lw_g (lw_at lw_m4 152 rfl) rfl
theorem q1020 : (Jvm.Cond.selects "BallotFruit" ({ cls := "BallotFruit", name := "set", desc := "(III)Z" } : Jvm.MethodName) ({ cls := "BallotFruit", name := "set", desc := "(III)Z" } : Jvm.MethodName)) ∈ lw_all := lw_g (lw_at lw_m4 153 rfl) rfl
theorem q1021 : (Jvm.Cond.code ({ cls := "BallotFruit", name := "set", desc := "(III)Z" } : Jvm.MethodName) prog_1_method_20_code (4 : Nat) (Option.some Jvm.ClassFile.FieldType.boolean)) ∈ lw_all := lw_g (lw_at lw_m4 154 rfl) rfl
theorem q1022 : (Jvm.Cond.methodLink "BallotFruit" (159 : Nat) ({ cls := "BallotFruit", name := "canSet", desc := "(III)Z" } : Jvm.MethodName)) ∈ lw_all := lw_g (lw_at lw_m4 155 rfl) rfl
theorem q1023 : (Jvm.Cond.privateMethod ({ cls := "BallotFruit", name := "canSet", desc := "(III)Z" } : Jvm.MethodName)) ∈ lw_tbl := lw_at lw_m4 156 rfl
theorem q1024 : (Jvm.Cond.instanceMethod ({ cls := "BallotFruit", name := "canSet", desc := "(III)Z" } : Jvm.MethodName)) ∈ lw_all := lw_g (lw_at lw_m4 157 rfl) rfl
theorem q1025 : (Jvm.Cond.code ({ cls := "BallotFruit", name := "canSet", desc := "(III)Z" } : Jvm.MethodName) prog_1_method_19_code (4 : Nat) (Option.some Jvm.ClassFile.FieldType.boolean)) ∈ lw_all := lw_g (lw_at lw_m4 158 rfl) rfl
theorem q1027 : (Jvm.Cond.instanceMethod ({ cls := "BallotFruit", name := "plant", desc := "(III)I" } : Jvm.MethodName)) ∈ lw_all := lw_g (lw_at lw_m4 160 rfl) rfl
theorem q1028 : (Jvm.Cond.selects "BallotFruit" ({ cls := "BallotFruit", name := "plant", desc := "(III)I" } : Jvm.MethodName) ({ cls := "BallotFruit", name := "plant", desc := "(III)I" } : Jvm.MethodName)) ∈ lw_all := lw_g (lw_at lw_m4 161 rfl) rfl
theorem q1029 : (Jvm.Cond.code ({ cls := "BallotFruit", name := "plant", desc := "(III)I" } : Jvm.MethodName) prog_1_method_21_code (4 : Nat) (Option.some Jvm.ClassFile.FieldType.int)) ∈ lw_all := lw_g (lw_at lw_m4 162 rfl) rfl
theorem q1030 : (Jvm.Cond.methodLink "BallotFruit" (183 : Nat) ({ cls := "BallotFruit", name := "isPlace", desc := "(I)Z" } : Jvm.MethodName)) ∈ lw_all := lw_g (lw_at lw_m4 163 rfl) rfl
theorem q1031 : (Jvm.Cond.static ({ cls := "BallotFruit", name := "isPlace", desc := "(I)Z" } : Jvm.MethodName)) ∈ lw_all := lw_g (lw_at lw_m4 164 rfl) rfl
theorem q1032 : (Jvm.Cond.code ({ cls := "BallotFruit", name := "isPlace", desc := "(I)Z" } : Jvm.MethodName) prog_1_method_14_code (1 : Nat) (Option.some Jvm.ClassFile.FieldType.boolean)) ∈ lw_all := lw_g (lw_at lw_m4 165 rfl) rfl
theorem q1033 : (Jvm.Cond.methodLink "BallotFruit" (186 : Nat) ({ cls := "BallotFruit", name := "keeps", desc := "()V" } : Jvm.MethodName)) ∈ lw_all := lw_g (lw_at lw_m4 166 rfl) rfl
theorem q1034 : (Jvm.Cond.privateMethod ({ cls := "BallotFruit", name := "keeps", desc := "()V" } : Jvm.MethodName)) ∈ lw_tbl := lw_at lw_m4 167 rfl
theorem q1035 : (Jvm.Cond.instanceMethod ({ cls := "BallotFruit", name := "keeps", desc := "()V" } : Jvm.MethodName)) ∈ lw_all := lw_g (lw_at lw_m4 168 rfl) rfl
theorem q1036 : (Jvm.Cond.code ({ cls := "BallotFruit", name := "keeps", desc := "()V" } : Jvm.MethodName) prog_1_method_10_code (3 : Nat) (Option.none : Option Jvm.ClassFile.FieldType)) ∈ lw_all := lw_g (lw_at lw_m4 169 rfl) rfl
theorem q1037 : (Jvm.Cond.methodLink "BallotFruit" (189 : Nat) ({ cls := "BallotFruit$Commune", name := "plants", desc := "(III)I" } : Jvm.MethodName)) ∈ lw_all := lw_g (lw_at lw_m4 170 rfl) rfl
theorem q1046 : (Jvm.Cond.instanceMethod ({ cls := "BallotFruit", name := "fence", desc := "(IZ)Z" } : Jvm.MethodName)) ∈ lw_all := lw_g (lw_at lw_m4 179 rfl) rfl
theorem q1047 : (Jvm.Cond.selects "BallotFruit" ({ cls := "BallotFruit", name := "fence", desc := "(IZ)Z" } : Jvm.MethodName) ({ cls := "BallotFruit", name := "fence", desc := "(IZ)Z" } : Jvm.MethodName)) ∈ lw_all := lw_g (lw_at lw_m4 180 rfl) rfl
theorem q1048 : (Jvm.Cond.code ({ cls := "BallotFruit", name := "fence", desc := "(IZ)Z" } : Jvm.MethodName) prog_1_method_22_code (3 : Nat) (Option.some Jvm.ClassFile.FieldType.boolean)) ∈ lw_all := lw_g (lw_at lw_m4 181 rfl) rfl
theorem q1049 : (Jvm.Cond.methodLink "BallotFruit" (193 : Nat) ({ cls := "BallotFruit$Commune", name := "isFenced", desc := "(I)Z" } : Jvm.MethodName)) ∈ lw_all := lw_g (lw_at lw_m4 182 rfl) rfl
theorem q1053 : (Jvm.Cond.methodLink "BallotFruit" (196 : Nat) ({ cls := "BallotFruit$Commune", name := "fences", desc := "(IZ)V" } : Jvm.MethodName)) ∈ lw_all := lw_g (lw_at lw_m4 186 rfl) rfl
theorem q1058 : (Jvm.Cond.instanceMethod ({ cls := "BallotFruit", name := "boil", desc := "(II)I" } : Jvm.MethodName)) ∈ lw_all := lw_g (lw_at lw_m4 191 rfl) rfl
theorem q1059 : (Jvm.Cond.selects "BallotFruit" ({ cls := "BallotFruit", name := "boil", desc := "(II)I" } : Jvm.MethodName) ({ cls := "BallotFruit", name := "boil", desc := "(II)I" } : Jvm.MethodName)) ∈ lw_all := lw_g (lw_at lw_m4 192 rfl) rfl
theorem q1060 : (Jvm.Cond.code ({ cls := "BallotFruit", name := "boil", desc := "(II)I" } : Jvm.MethodName) prog_1_method_23_code (3 : Nat) (Option.some Jvm.ClassFile.FieldType.int)) ∈ lw_all := lw_g (lw_at lw_m4 193 rfl) rfl
theorem q1061 : (Jvm.Cond.methodLink "BallotFruit" (200 : Nat) ({ cls := "BallotFruit$Commune", name := "boils", desc := "(II)I" } : Jvm.MethodName)) ∈ lw_all := lw_g (lw_at lw_m4 194 rfl) rfl
theorem q1067 : (Jvm.Cond.instanceMethod ({ cls := "BallotFruit", name := "weeks", desc := "(I)I" } : Jvm.MethodName)) ∈ lw_all := lw_g (lw_at lw_m4 200 rfl) rfl
theorem q1068 : (Jvm.Cond.selects "BallotFruit" ({ cls := "BallotFruit", name := "weeks", desc := "(I)I" } : Jvm.MethodName) ({ cls := "BallotFruit", name := "weeks", desc := "(I)I" } : Jvm.MethodName)) ∈ lw_all := lw_g (lw_at lw_m4 201 rfl) rfl
theorem q1069 : (Jvm.Cond.code ({ cls := "BallotFruit", name := "weeks", desc := "(I)I" } : Jvm.MethodName) prog_1_method_24_code (4 : Nat) (Option.some Jvm.ClassFile.FieldType.int)) ∈ lw_all := lw_g (lw_at lw_m4 202 rfl) rfl
theorem q1070 : (Jvm.Cond.methodLink "BallotFruit" (207 : Nat) ({ cls := "BallotFruit$Commune", name := "passes", desc := "()I" } : Jvm.MethodName)) ∈ lw_all := lw_g (lw_at lw_m4 203 rfl) rfl
theorem q1232 : (Jvm.Cond.instanceMethod ({ cls := "BallotFruit", name := "of", desc := "(II)I" } : Jvm.MethodName)) ∈ lw_all := lw_g (lw_at lw_m5 125 rfl) rfl
theorem q1233 : (Jvm.Cond.selects "BallotFruit" ({ cls := "BallotFruit", name := "of", desc := "(II)I" } : Jvm.MethodName) ({ cls := "BallotFruit", name := "of", desc := "(II)I" } : Jvm.MethodName)) ∈ lw_all := lw_g (lw_at lw_m5 126 rfl) rfl
theorem q1234 : (Jvm.Cond.code ({ cls := "BallotFruit", name := "of", desc := "(II)I" } : Jvm.MethodName) prog_1_method_26_code (4 : Nat) (Option.some Jvm.ClassFile.FieldType.int)) ∈ lw_all := lw_g (lw_at lw_m5 127 rfl) rfl
theorem q1235 : (Jvm.Cond.methodLink "BallotFruit" (212 : Nat) ({ cls := "BallotFruit", name := "hangingOf", desc := "(I)I" } : Jvm.MethodName)) ∈ lw_all := lw_g (lw_at lw_m5 128 rfl) rfl
theorem q1236 : (Jvm.Cond.privateMethod ({ cls := "BallotFruit", name := "hangingOf", desc := "(I)I" } : Jvm.MethodName)) ∈ lw_tbl := lw_at lw_m5 129 rfl
theorem q1237 : (Jvm.Cond.instanceMethod ({ cls := "BallotFruit", name := "hangingOf", desc := "(I)I" } : Jvm.MethodName)) ∈ lw_all := lw_g (lw_at lw_m5 130 rfl) rfl
theorem q1238 : (Jvm.Cond.code ({ cls := "BallotFruit", name := "hangingOf", desc := "(I)I" } : Jvm.MethodName) prog_1_method_25_code (4 : Nat) (Option.some Jvm.ClassFile.FieldType.int)) ∈ lw_all := lw_g (lw_at lw_m5 131 rfl) rfl
theorem q1240 : (Jvm.Cond.instanceMethod ({ cls := "BallotFruit", name := "tree", desc := "(II)I" } : Jvm.MethodName)) ∈ lw_all := lw_g (lw_at lw_m5 133 rfl) rfl
theorem q1241 : (Jvm.Cond.selects "BallotFruit" ({ cls := "BallotFruit", name := "tree", desc := "(II)I" } : Jvm.MethodName) ({ cls := "BallotFruit", name := "tree", desc := "(II)I" } : Jvm.MethodName)) ∈ lw_all := lw_g (lw_at lw_m5 134 rfl) rfl
theorem q1242 : (Jvm.Cond.code ({ cls := "BallotFruit", name := "tree", desc := "(II)I" } : Jvm.MethodName) prog_1_method_27_code (4 : Nat) (Option.some Jvm.ClassFile.FieldType.int)) ∈ lw_all := lw_g (lw_at lw_m5 135 rfl) rfl
theorem q1243 : (Jvm.Cond.methodLink "BallotFruit" (219 : Nat) ({ cls := "BallotFruit$Commune", name := "bear", desc := "(LBallotFruit$Tree;)I" } : Jvm.MethodName)) ∈ lw_all := lw_g (lw_at lw_m5 136 rfl) rfl
theorem q1245 : (Jvm.Cond.instanceMethod ({ cls := "BallotFruit", name := "who", desc := "(II)I" } : Jvm.MethodName)) ∈ lw_all := lw_g (lw_at lw_m5 138 rfl) rfl
theorem q1246 : (Jvm.Cond.selects "BallotFruit" ({ cls := "BallotFruit", name := "who", desc := "(II)I" } : Jvm.MethodName) ({ cls := "BallotFruit", name := "who", desc := "(II)I" } : Jvm.MethodName)) ∈ lw_all := lw_g (lw_at lw_m5 139 rfl) rfl
theorem q1247 : (Jvm.Cond.code ({ cls := "BallotFruit", name := "who", desc := "(II)I" } : Jvm.MethodName) prog_1_method_29_code (4 : Nat) (Option.some Jvm.ClassFile.FieldType.int)) ∈ lw_all := lw_g (lw_at lw_m5 140 rfl) rfl
theorem q1248 : (Jvm.Cond.methodLink "BallotFruit" (227 : Nat) ({ cls := "BallotFruit$Commune", name := "want", desc := "(LBallotFruit$Eater;)I" } : Jvm.MethodName)) ∈ lw_all := lw_g (lw_at lw_m5 141 rfl) rfl
theorem q1249 : (Jvm.Cond.methodLink "BallotFruit" (231 : Nat) ({ cls := "BallotFruit", name := "placesOf", desc := "(I)I" } : Jvm.MethodName)) ∈ lw_all := lw_g (lw_at lw_m5 142 rfl) rfl
theorem q1250 : (Jvm.Cond.privateMethod ({ cls := "BallotFruit", name := "placesOf", desc := "(I)I" } : Jvm.MethodName)) ∈ lw_tbl := lw_at lw_m5 143 rfl
theorem q1251 : (Jvm.Cond.instanceMethod ({ cls := "BallotFruit", name := "placesOf", desc := "(I)I" } : Jvm.MethodName)) ∈ lw_all := lw_g (lw_at lw_m5 144 rfl) rfl
theorem q1252 : (Jvm.Cond.code ({ cls := "BallotFruit", name := "placesOf", desc := "(I)I" } : Jvm.MethodName) prog_1_method_28_code (2 : Nat) (Option.some Jvm.ClassFile.FieldType.int)) ∈ lw_all := lw_g (lw_at lw_m5 145 rfl) rfl
theorem q1254 : (Jvm.Cond.instanceMethod ({ cls := "BallotFruit", name := "at", desc := "(I)I" } : Jvm.MethodName)) ∈ lw_all := lw_g (lw_at lw_m5 147 rfl) rfl
theorem q1255 : (Jvm.Cond.selects "BallotFruit" ({ cls := "BallotFruit", name := "at", desc := "(I)I" } : Jvm.MethodName) ({ cls := "BallotFruit", name := "at", desc := "(I)I" } : Jvm.MethodName)) ∈ lw_all := lw_g (lw_at lw_m5 148 rfl) rfl
theorem q1256 : (Jvm.Cond.code ({ cls := "BallotFruit", name := "at", desc := "(I)I" } : Jvm.MethodName) prog_1_method_30_code (2 : Nat) (Option.some Jvm.ClassFile.FieldType.int)) ∈ lw_all := lw_g (lw_at lw_m5 149 rfl) rfl
theorem q1258 : (Jvm.Cond.instanceMethod ({ cls := "BallotFruit", name := "book", desc := "(II)I" } : Jvm.MethodName)) ∈ lw_all := lw_g (lw_at lw_m5 151 rfl) rfl
theorem q1259 : (Jvm.Cond.selects "BallotFruit" ({ cls := "BallotFruit", name := "book", desc := "(II)I" } : Jvm.MethodName) ({ cls := "BallotFruit", name := "book", desc := "(II)I" } : Jvm.MethodName)) ∈ lw_all := lw_g (lw_at lw_m5 152 rfl) rfl
theorem q1260 : (Jvm.Cond.code ({ cls := "BallotFruit", name := "book", desc := "(II)I" } : Jvm.MethodName) prog_1_method_31_code (3 : Nat) (Option.some Jvm.ClassFile.FieldType.int)) ∈ lw_all := lw_g (lw_at lw_m5 153 rfl) rfl
theorem q1262 : (Jvm.Cond.instanceMethod ({ cls := "BallotFruit", name := "goes", desc := "(III)I" } : Jvm.MethodName)) ∈ lw_all := lw_g (lw_at lw_m5 155 rfl) rfl
theorem q1263 : (Jvm.Cond.selects "BallotFruit" ({ cls := "BallotFruit", name := "goes", desc := "(III)I" } : Jvm.MethodName) ({ cls := "BallotFruit", name := "goes", desc := "(III)I" } : Jvm.MethodName)) ∈ lw_all := lw_g (lw_at lw_m5 156 rfl) rfl
theorem q1264 : (Jvm.Cond.code ({ cls := "BallotFruit", name := "goes", desc := "(III)I" } : Jvm.MethodName) prog_1_method_33_code (4 : Nat) (Option.some Jvm.ClassFile.FieldType.int)) ∈ lw_all := lw_g (lw_at lw_m5 157 rfl) rfl
theorem q1265 : (Jvm.Cond.methodLink "BallotFruit" (241 : Nat) ({ cls := "BallotFruit$Commune", name := "thinks", desc := "(LBallotFruit$Commune;)V" } : Jvm.MethodName)) ∈ lw_all := lw_g (lw_at lw_m5 158 rfl) rfl
theorem q1270 : (Jvm.Cond.methodLink "BallotFruit" (244 : Nat) ({ cls := "BallotFruit", name := "thinks", desc := "(I)V" } : Jvm.MethodName)) ∈ lw_all := lw_g (lw_at lw_m5 163 rfl) rfl
theorem q1271 : (Jvm.Cond.privateMethod ({ cls := "BallotFruit", name := "thinks", desc := "(I)V" } : Jvm.MethodName)) ∈ lw_tbl := lw_at lw_m5 164 rfl
theorem q1272 : (Jvm.Cond.instanceMethod ({ cls := "BallotFruit", name := "thinks", desc := "(I)V" } : Jvm.MethodName)) ∈ lw_all := lw_g (lw_at lw_m5 165 rfl) rfl
theorem q1273 : (Jvm.Cond.code ({ cls := "BallotFruit", name := "thinks", desc := "(I)V" } : Jvm.MethodName) prog_1_method_32_code (3 : Nat) (Option.none : Option Jvm.ClassFile.FieldType)) ∈ lw_all := lw_g (lw_at lw_m5 166 rfl) rfl
theorem q1275 : (Jvm.Cond.instanceMethod ({ cls := "BallotFruit", name := "falls", desc := "(I)I" } : Jvm.MethodName)) ∈ lw_all := lw_g (lw_at lw_m5 168 rfl) rfl
theorem q1276 : (Jvm.Cond.selects "BallotFruit" ({ cls := "BallotFruit", name := "falls", desc := "(I)I" } : Jvm.MethodName) ({ cls := "BallotFruit", name := "falls", desc := "(I)I" } : Jvm.MethodName)) ∈ lw_all := lw_g (lw_at lw_m5 169 rfl) rfl
theorem q1277 : (Jvm.Cond.code ({ cls := "BallotFruit", name := "falls", desc := "(I)I" } : Jvm.MethodName) prog_1_method_34_code (2 : Nat) (Option.some Jvm.ClassFile.FieldType.int)) ∈ lw_all := lw_g (lw_at lw_m5 170 rfl) rfl
theorem q1278 : (Jvm.Cond.methodLink "BallotFruit" (252 : Nat) ({ cls := "BallotFruit$Commune", name := "falls", desc := "()V" } : Jvm.MethodName)) ∈ lw_all := lw_g (lw_at lw_m5 171 rfl) rfl
theorem q1280 : (Jvm.Cond.instanceMethod ({ cls := "BallotFruit", name := "brings", desc := "(III)I" } : Jvm.MethodName)) ∈ lw_all := lw_g (lw_at lw_m5 173 rfl) rfl
theorem q1281 : (Jvm.Cond.selects "BallotFruit" ({ cls := "BallotFruit", name := "brings", desc := "(III)I" } : Jvm.MethodName) ({ cls := "BallotFruit", name := "brings", desc := "(III)I" } : Jvm.MethodName)) ∈ lw_all := lw_g (lw_at lw_m5 174 rfl) rfl
theorem q1282 : (Jvm.Cond.code ({ cls := "BallotFruit", name := "brings", desc := "(III)I" } : Jvm.MethodName) prog_1_method_35_code (7 : Nat) (Option.some Jvm.ClassFile.FieldType.int)) ∈ lw_all := lw_g (lw_at lw_m5 175 rfl) rfl
theorem q1284 : (Jvm.Cond.instanceMethod ({ cls := "BallotFruit", name := "swings", desc := "(II)I" } : Jvm.MethodName)) ∈ lw_all := lw_g (lw_at lw_m5 177 rfl) rfl
theorem q1285 : (Jvm.Cond.selects "BallotFruit" ({ cls := "BallotFruit", name := "swings", desc := "(II)I" } : Jvm.MethodName) ({ cls := "BallotFruit", name := "swings", desc := "(II)I" } : Jvm.MethodName)) ∈ lw_all := lw_g (lw_at lw_m5 178 rfl) rfl
theorem q1286 : (Jvm.Cond.code ({ cls := "BallotFruit", name := "swings", desc := "(II)I" } : Jvm.MethodName) prog_1_method_37_code (5 : Nat) (Option.some Jvm.ClassFile.FieldType.int)) ∈ lw_all := lw_g (lw_at lw_m5 179 rfl) rfl
theorem q1287 : (Jvm.Cond.methodLink "BallotFruit" (261 : Nat) ({ cls := "BallotFruit", name := "mostSeatedWith", desc := "(III)I" } : Jvm.MethodName)) ∈ lw_all := lw_g (lw_at lw_m5 180 rfl) rfl
theorem q1288 : (Jvm.Cond.privateMethod ({ cls := "BallotFruit", name := "mostSeatedWith", desc := "(III)I" } : Jvm.MethodName)) ∈ lw_tbl := lw_at lw_m5 181 rfl
theorem q1289 : (Jvm.Cond.instanceMethod ({ cls := "BallotFruit", name := "mostSeatedWith", desc := "(III)I" } : Jvm.MethodName)) ∈ lw_all := lw_g (lw_at lw_m5 182 rfl) rfl
theorem q1290 : (Jvm.Cond.code ({ cls := "BallotFruit", name := "mostSeatedWith", desc := "(III)I" } : Jvm.MethodName) prog_1_method_36_code (4 : Nat) (Option.some Jvm.ClassFile.FieldType.int)) ∈ lw_all := lw_g (lw_at lw_m5 183 rfl) rfl
theorem q1291 : (Jvm.Cond.methodLink "BallotFruit" (258 : Nat) ({ cls := "BallotFruit$Commune", name := "mostSeated", desc := "()I" } : Jvm.MethodName)) ∈ lw_all := lw_g (lw_at lw_m5 184 rfl) rfl
theorem q1293 : (Jvm.Cond.instanceMethod ({ cls := "BallotFruit", name := "feeds", desc := "(I)I" } : Jvm.MethodName)) ∈ lw_all := lw_g (lw_at lw_m5 186 rfl) rfl
theorem q1294 : (Jvm.Cond.selects "BallotFruit" ({ cls := "BallotFruit", name := "feeds", desc := "(I)I" } : Jvm.MethodName) ({ cls := "BallotFruit", name := "feeds", desc := "(I)I" } : Jvm.MethodName)) ∈ lw_all := lw_g (lw_at lw_m5 187 rfl) rfl
theorem q1295 : (Jvm.Cond.code ({ cls := "BallotFruit", name := "feeds", desc := "(I)I" } : Jvm.MethodName) prog_1_method_40_code (4 : Nat) (Option.some Jvm.ClassFile.FieldType.int)) ∈ lw_all := lw_g (lw_at lw_m5 188 rfl) rfl
theorem q1296 : (Jvm.Cond.methodLink "BallotFruit" (270 : Nat) ({ cls := "java/lang/Integer", name := "bitCount", desc := "(I)I" } : Jvm.MethodName)) ∈ lw_all := lw_g (lw_at lw_m5 189 rfl) rfl
theorem q1302 : (Jvm.Cond.methodLink "BallotFruit" (275 : Nat) ({ cls := "BallotFruit", name := "feedsAll", desc := "(I)Z" } : Jvm.MethodName)) ∈ lw_all := lw_g (lw_at lw_m5 195 rfl) rfl
theorem q1303 : (Jvm.Cond.privateMethod ({ cls := "BallotFruit", name := "feedsAll", desc := "(I)Z" } : Jvm.MethodName)) ∈ lw_tbl := lw_at lw_m5 196 rfl
theorem q1304 : (Jvm.Cond.instanceMethod ({ cls := "BallotFruit", name := "feedsAll", desc := "(I)Z" } : Jvm.MethodName)) ∈ lw_all := lw_g (lw_at lw_m5 197 rfl) rfl
theorem q1305 : (Jvm.Cond.code ({ cls := "BallotFruit", name := "feedsAll", desc := "(I)Z" } : Jvm.MethodName) prog_1_method_39_code (3 : Nat) (Option.some Jvm.ClassFile.FieldType.boolean)) ∈ lw_all := lw_g (lw_at lw_m5 198 rfl) rfl
theorem q1306 : (Jvm.Cond.methodLink "BallotFruit" (267 : Nat) ({ cls := "BallotFruit", name := "placesBy", desc := "(I)I" } : Jvm.MethodName)) ∈ lw_all := lw_g (lw_at lw_m5 199 rfl) rfl
theorem q1307 : (Jvm.Cond.privateMethod ({ cls := "BallotFruit", name := "placesBy", desc := "(I)I" } : Jvm.MethodName)) ∈ lw_tbl := lw_at lw_m5 200 rfl
theorem q1308 : (Jvm.Cond.instanceMethod ({ cls := "BallotFruit", name := "placesBy", desc := "(I)I" } : Jvm.MethodName)) ∈ lw_all := lw_g (lw_at lw_m5 201 rfl) rfl
theorem q1309 : (Jvm.Cond.code ({ cls := "BallotFruit", name := "placesBy", desc := "(I)I" } : Jvm.MethodName) prog_1_method_38_code (2 : Nat) (Option.some Jvm.ClassFile.FieldType.int)) ∈ lw_all := lw_g (lw_at lw_m5 202 rfl) rfl
theorem q1310 : (Jvm.Cond.methodLink "BallotFruit" (264 : Nat) ({ cls := "BallotFruit$Path", name := "places", desc := "()I" } : Jvm.MethodName)) ∈ lw_all := lw_g (lw_at lw_m5 203 rfl) rfl
theorem q1315 : (Jvm.Cond.instanceMethod ({ cls := "BallotFruit", name := "core", desc := "(II)I" } : Jvm.MethodName)) ∈ lw_all := lw_g (lw_at lw_m5 208 rfl) rfl
theorem q1316 : (Jvm.Cond.selects "BallotFruit" ({ cls := "BallotFruit", name := "core", desc := "(II)I" } : Jvm.MethodName) ({ cls := "BallotFruit", name := "core", desc := "(II)I" } : Jvm.MethodName)) ∈ lw_all := lw_g (lw_at lw_m5 209 rfl) rfl
theorem q1317 : (Jvm.Cond.code ({ cls := "BallotFruit", name := "core", desc := "(II)I" } : Jvm.MethodName) prog_1_method_41_code (3 : Nat) (Option.some Jvm.ClassFile.FieldType.int)) ∈ lw_all := lw_g (lw_at lw_m5 210 rfl) rfl
theorem q1319 : (Jvm.Cond.instanceMethod ({ cls := "BallotFruit", name := "whose", desc := "(I)I" } : Jvm.MethodName)) ∈ lw_all := lw_g (lw_at lw_m5 212 rfl) rfl
theorem q1320 : (Jvm.Cond.selects "BallotFruit" ({ cls := "BallotFruit", name := "whose", desc := "(I)I" } : Jvm.MethodName) ({ cls := "BallotFruit", name := "whose", desc := "(I)I" } : Jvm.MethodName)) ∈ lw_all := lw_g (lw_at lw_m5 213 rfl) rfl
theorem q1321 : (Jvm.Cond.code ({ cls := "BallotFruit", name := "whose", desc := "(I)I" } : Jvm.MethodName) prog_1_method_44_code (5 : Nat) (Option.some Jvm.ClassFile.FieldType.int)) ∈ lw_all := lw_g (lw_at lw_m5 214 rfl) rfl
theorem q1322 : (Jvm.Cond.methodLink "BallotFruit" (292 : Nat) ({ cls := "BallotFruit", name := "canHaveEaten", desc := "(I)Z" } : Jvm.MethodName)) ∈ lw_all := lw_g (lw_at lw_m5 215 rfl) rfl
theorem q1323 : (Jvm.Cond.privateMethod ({ cls := "BallotFruit", name := "canHaveEaten", desc := "(I)Z" } : Jvm.MethodName)) ∈ lw_tbl := lw_at lw_m5 216 rfl
theorem q1324 : (Jvm.Cond.instanceMethod ({ cls := "BallotFruit", name := "canHaveEaten", desc := "(I)Z" } : Jvm.MethodName)) ∈ lw_all := lw_g (lw_at lw_m5 217 rfl) rfl
theorem q1325 : (Jvm.Cond.code ({ cls := "BallotFruit", name := "canHaveEaten", desc := "(I)Z" } : Jvm.MethodName) prog_1_method_42_code (3 : Nat) (Option.some Jvm.ClassFile.FieldType.boolean)) ∈ lw_all := lw_g (lw_at lw_m5 218 rfl) rfl
theorem q1326 : (Jvm.Cond.methodLink "BallotFruit" (295 : Nat) ({ cls := "BallotFruit", name := "greaterBy", desc := "(II)I" } : Jvm.MethodName)) ∈ lw_all := lw_g (lw_at lw_m5 219 rfl) rfl
theorem q1327 : (Jvm.Cond.privateMethod ({ cls := "BallotFruit", name := "greaterBy", desc := "(II)I" } : Jvm.MethodName)) ∈ lw_tbl := lw_at lw_m5 220 rfl
theorem q1328 : (Jvm.Cond.instanceMethod ({ cls := "BallotFruit", name := "greaterBy", desc := "(II)I" } : Jvm.MethodName)) ∈ lw_all := lw_g (lw_at lw_m5 221 rfl) rfl
theorem q1329 : (Jvm.Cond.code ({ cls := "BallotFruit", name := "greaterBy", desc := "(II)I" } : Jvm.MethodName) prog_1_method_43_code (5 : Nat) (Option.some Jvm.ClassFile.FieldType.int)) ∈ lw_all := lw_g (lw_at lw_m5 222 rfl) rfl
theorem q1330 : (Jvm.Cond.methodLink "BallotFruit" (287 : Nat) ({ cls := "java/lang/Math", name := "max", desc := "(II)I" } : Jvm.MethodName)) ∈ lw_all := lw_g (lw_at lw_m5 223 rfl) rfl
theorem q1332 : (Jvm.Cond.instanceMethod ({ cls := "BallotFruit", name := "left", desc := "(I)I" } : Jvm.MethodName)) ∈ lw_all := lw_g (lw_at lw_m5 225 rfl) rfl
theorem q1333 : (Jvm.Cond.selects "BallotFruit" ({ cls := "BallotFruit", name := "left", desc := "(I)I" } : Jvm.MethodName) ({ cls := "BallotFruit", name := "left", desc := "(I)I" } : Jvm.MethodName)) ∈ lw_all := lw_g (lw_at lw_m5 226 rfl) rfl
theorem q1334 : (Jvm.Cond.code ({ cls := "BallotFruit", name := "left", desc := "(I)I" } : Jvm.MethodName) prog_1_method_45_code (8 : Nat) (Option.some Jvm.ClassFile.FieldType.int)) ∈ lw_all := lw_g (lw_at lw_m5 227 rfl) rfl
theorem q1335 : (Jvm.Cond.constantLong "BallotFruit" (298 : Nat) (1000000007 : Int64)) ∈ lw_all := lw_g (lw_at lw_m5 228 rfl) rfl
theorem q1337 : (Jvm.Cond.instanceMethod ({ cls := "BallotFruit", name := "rules", desc := "(I)I" } : Jvm.MethodName)) ∈ lw_all := lw_g (lw_at lw_m5 230 rfl) rfl
theorem q1338 : (Jvm.Cond.selects "BallotFruit" ({ cls := "BallotFruit", name := "rules", desc := "(I)I" } : Jvm.MethodName) ({ cls := "BallotFruit", name := "rules", desc := "(I)I" } : Jvm.MethodName)) ∈ lw_all := lw_g (lw_at lw_m5 231 rfl) rfl
theorem q1339 : (Jvm.Cond.code ({ cls := "BallotFruit", name := "rules", desc := "(I)I" } : Jvm.MethodName) prog_1_method_48_code (4 : Nat) (Option.some Jvm.ClassFile.FieldType.int)) ∈ lw_all := lw_g (lw_at lw_m5 232 rfl) rfl
theorem q1340 : (Jvm.Cond.methodLink "BallotFruit" (303 : Nat) ({ cls := "BallotFruit", name := "rule", desc := "(I)Z" } : Jvm.MethodName)) ∈ lw_all := lw_g (lw_at lw_m5 233 rfl) rfl
theorem q1341 : (Jvm.Cond.privateMethod ({ cls := "BallotFruit", name := "rule", desc := "(I)Z" } : Jvm.MethodName)) ∈ lw_tbl := lw_at lw_m5 234 rfl
theorem q1342 : (Jvm.Cond.instanceMethod ({ cls := "BallotFruit", name := "rule", desc := "(I)Z" } : Jvm.MethodName)) ∈ lw_all := lw_g (lw_at lw_m5 235 rfl) rfl
theorem q1343 : (Jvm.Cond.code ({ cls := "BallotFruit", name := "rule", desc := "(I)Z" } : Jvm.MethodName) prog_1_method_47_code (2 : Nat) (Option.some Jvm.ClassFile.FieldType.boolean)) ∈ lw_all := lw_g (lw_at lw_m5 236 rfl) rfl
theorem q1344 : (Jvm.Cond.methodLink "BallotFruit" (300 : Nat) ({ cls := "BallotFruit", name := "seatsOf", desc := "(I)I" } : Jvm.MethodName)) ∈ lw_all := lw_g (lw_at lw_m5 237 rfl) rfl
theorem q1345 : (Jvm.Cond.privateMethod ({ cls := "BallotFruit", name := "seatsOf", desc := "(I)I" } : Jvm.MethodName)) ∈ lw_tbl := lw_at lw_m5 238 rfl
theorem q1346 : (Jvm.Cond.instanceMethod ({ cls := "BallotFruit", name := "seatsOf", desc := "(I)I" } : Jvm.MethodName)) ∈ lw_all := lw_g (lw_at lw_m5 239 rfl) rfl
theorem q1347 : (Jvm.Cond.code ({ cls := "BallotFruit", name := "seatsOf", desc := "(I)I" } : Jvm.MethodName) prog_1_method_46_code (4 : Nat) (Option.some Jvm.ClassFile.FieldType.int)) ∈ lw_all := lw_g (lw_at lw_m6 0 rfl) rfl
theorem q1349 : (Jvm.Cond.instanceMethod ({ cls := "BallotFruit", name := "weighs", desc := "(I)I" } : Jvm.MethodName)) ∈ lw_all := lw_g (lw_at lw_m6 2 rfl) rfl
theorem q1350 : (Jvm.Cond.selects "BallotFruit" ({ cls := "BallotFruit", name := "weighs", desc := "(I)I" } : Jvm.MethodName) ({ cls := "BallotFruit", name := "weighs", desc := "(I)I" } : Jvm.MethodName)) ∈ lw_all := lw_g (lw_at lw_m6 3 rfl) rfl
theorem q1351 : (Jvm.Cond.code ({ cls := "BallotFruit", name := "weighs", desc := "(I)I" } : Jvm.MethodName) prog_1_method_49_code (4 : Nat) (Option.some Jvm.ClassFile.FieldType.int)) ∈ lw_all := lw_g (lw_at lw_m6 4 rfl) rfl
theorem q1353 : (Jvm.Cond.instanceMethod ({ cls := "BallotFruit", name := "lasts", desc := "(I)I" } : Jvm.MethodName)) ∈ lw_all := lw_g (lw_at lw_m6 6 rfl) rfl
theorem q1354 : (Jvm.Cond.selects "BallotFruit" ({ cls := "BallotFruit", name := "lasts", desc := "(I)I" } : Jvm.MethodName) ({ cls := "BallotFruit", name := "lasts", desc := "(I)I" } : Jvm.MethodName)) ∈ lw_all := lw_g (lw_at lw_m6 7 rfl) rfl
theorem q1355 : (Jvm.Cond.code ({ cls := "BallotFruit", name := "lasts", desc := "(I)I" } : Jvm.MethodName) prog_1_method_50_code (4 : Nat) (Option.some Jvm.ClassFile.FieldType.int)) ∈ lw_all := lw_g (lw_at lw_m6 8 rfl) rfl
theorem q1357 : (Jvm.Cond.instanceMethod ({ cls := "BallotFruit", name := "meets", desc := "(II)I" } : Jvm.MethodName)) ∈ lw_all := lw_g (lw_at lw_m6 10 rfl) rfl
theorem q1358 : (Jvm.Cond.selects "BallotFruit" ({ cls := "BallotFruit", name := "meets", desc := "(II)I" } : Jvm.MethodName) ({ cls := "BallotFruit", name := "meets", desc := "(II)I" } : Jvm.MethodName)) ∈ lw_all := lw_g (lw_at lw_m6 11 rfl) rfl
theorem q1359 : (Jvm.Cond.code ({ cls := "BallotFruit", name := "meets", desc := "(II)I" } : Jvm.MethodName) prog_1_method_51_code (3 : Nat) (Option.some Jvm.ClassFile.FieldType.int)) ∈ lw_all := lw_g (lw_at lw_m6 12 rfl) rfl
theorem q1361 : (Jvm.Cond.instanceMethod ({ cls := "BallotFruit", name := "game", desc := "(I)I" } : Jvm.MethodName)) ∈ lw_all := lw_g (lw_at lw_m6 14 rfl) rfl
theorem q1362 : (Jvm.Cond.selects "BallotFruit" ({ cls := "BallotFruit", name := "game", desc := "(I)I" } : Jvm.MethodName) ({ cls := "BallotFruit", name := "game", desc := "(I)I" } : Jvm.MethodName)) ∈ lw_all := lw_g (lw_at lw_m6 15 rfl) rfl
theorem q1363 : (Jvm.Cond.code ({ cls := "BallotFruit", name := "game", desc := "(I)I" } : Jvm.MethodName) prog_1_method_52_code (6 : Nat) (Option.some Jvm.ClassFile.FieldType.int)) ∈ lw_all := lw_g (lw_at lw_m6 16 rfl) rfl
theorem q1365 : (Jvm.Cond.instanceMethod ({ cls := "BallotFruit", name := "image", desc := "(Z)Z" } : Jvm.MethodName)) ∈ lw_all := lw_g (lw_at lw_m6 18 rfl) rfl
theorem q1366 : (Jvm.Cond.selects "BallotFruit" ({ cls := "BallotFruit", name := "image", desc := "(Z)Z" } : Jvm.MethodName) ({ cls := "BallotFruit", name := "image", desc := "(Z)Z" } : Jvm.MethodName)) ∈ lw_all := lw_g (lw_at lw_m6 19 rfl) rfl
theorem q1367 : (Jvm.Cond.code ({ cls := "BallotFruit", name := "image", desc := "(Z)Z" } : Jvm.MethodName) prog_1_method_53_code (2 : Nat) (Option.some Jvm.ClassFile.FieldType.boolean)) ∈ lw_all := lw_g (lw_at lw_m6 20 rfl) rfl
theorem q1368 : (Jvm.Cond.methodLink "BallotFruit" (309 : Nat) ({ cls := "BallotFruit$Commune", name := "takes", desc := "(LBallotFruit$Commune;)V" } : Jvm.MethodName)) ∈ lw_all := lw_g (lw_at lw_m6 21 rfl) rfl
theorem q1374 : (Jvm.Cond.instanceMethod ({ cls := "BallotFruit", name := "look", desc := "(I)I" } : Jvm.MethodName)) ∈ lw_all := lw_g (lw_at lw_m6 27 rfl) rfl
theorem q1375 : (Jvm.Cond.selects "BallotFruit" ({ cls := "BallotFruit", name := "look", desc := "(I)I" } : Jvm.MethodName) ({ cls := "BallotFruit", name := "look", desc := "(I)I" } : Jvm.MethodName)) ∈ lw_all := lw_g (lw_at lw_m6 28 rfl) rfl
theorem q1376 : (Jvm.Cond.code ({ cls := "BallotFruit", name := "look", desc := "(I)I" } : Jvm.MethodName) prog_1_method_54_code (2 : Nat) (Option.some Jvm.ClassFile.FieldType.int)) ∈ lw_all := lw_g (lw_at lw_m6 29 rfl) rfl
theorem q2067 : (Jvm.Cond.castable "BallotFruit" "java/lang/Object") ∈ lw_tbl := lw_at lw_m9 0 rfl
theorem in_X0 : ∀ w ∈ wsX00, w ∈ lw_all := lw_in wsX00 [438, 440, 442, 444, 446, 448, 450, 452, 454, 456, 458] (by decide +kernel) (by decide +kernel)
end
