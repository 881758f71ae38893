set_option maxRecDepth 100000
abbrev cX5_goesFor : ByteArray := prog_22_method_96_code
def yX5_goesFor : MethodName := ⟨RX5, "goesFor", "(I)V"⟩
def dkwX5_goesFor_0 : List UInt8 := [3, 61, 28, 27, 162, 0, 14, 42, 182, 1, 152, 87, 132, 2, 1, 167, 255, 243, 177]
abbrev dktX5_goesFor_0 : List UInt8 := dkwX5_goesFor_0 ++ []
theorem dksX5_goesFor_0 : cX5_goesFor.data.toList.drop 0 = dktX5_goesFor_0 := by decide +kernel
theorem dX5_goesFor_0 : decode cX5_goesFor 0 = .ok (.iconst 0, 1) := dk_3 (dk_at dksX5_goesFor_0 0 rfl rfl)
theorem dX5_goesFor_1 : decode cX5_goesFor 1 = .ok (.istore_n 2, 1) := dk_61 (dk_at dksX5_goesFor_0 1 rfl rfl)
theorem dX5_goesFor_2 : decode cX5_goesFor 2 = .ok (.iload_n 2, 1) := dk_28 (dk_at dksX5_goesFor_0 2 rfl rfl)
theorem dX5_goesFor_3 : decode cX5_goesFor 3 = .ok (.iload_n 1, 1) := dk_27 (dk_at dksX5_goesFor_0 3 rfl rfl)
theorem dX5_goesFor_4 : decode cX5_goesFor 4 = .ok (.if_icmp .ge 14, 3) := dk_162 0 14 (dk_at dksX5_goesFor_0 4 rfl rfl)
theorem dX5_goesFor_7 : decode cX5_goesFor 7 = .ok (.aload_n 0, 1) := dk_42 (dk_at dksX5_goesFor_0 7 rfl rfl)
theorem dX5_goesFor_8 : decode cX5_goesFor 8 = .ok (.invokevirtual 408, 3) := dk_182 1 152 (dk_at dksX5_goesFor_0 8 rfl rfl)
theorem dX5_goesFor_11 : decode cX5_goesFor 11 = .ok (.pop, 1) := dk_87 (dk_at dksX5_goesFor_0 11 rfl rfl)
theorem dX5_goesFor_12 : decode cX5_goesFor 12 = .ok (.iinc 2 1, 3) := dk_132 2 1 (dk_at dksX5_goesFor_0 12 rfl rfl)
theorem dX5_goesFor_15 : decode cX5_goesFor 15 = .ok (.goto (-13), 3) := dk_167 255 243 (dk_at dksX5_goesFor_0 15 rfl rfl)
theorem dX5_goesFor_18 : decode cX5_goesFor 18 = .ok (.return_, 1) := dk_177 (dk_at dksX5_goesFor_0 18 rfl rfl)
abbrev cX5_endsThought : ByteArray := prog_22_method_13_code
def yX5_endsThought : MethodName := ⟨RX5, "endsThought", "()V"⟩
def dkwX5_endsThought_0 : List UInt8 := [42, 182, 0, 105, 42, 3, 181, 0, 92, 177]
abbrev dktX5_endsThought_0 : List UInt8 := dkwX5_endsThought_0 ++ []
theorem dksX5_endsThought_0 : cX5_endsThought.data.toList.drop 0 = dktX5_endsThought_0 := by decide +kernel
theorem dX5_endsThought_0 : decode cX5_endsThought 0 = .ok (.aload_n 0, 1) := dk_42 (dk_at dksX5_endsThought_0 0 rfl rfl)
theorem dX5_endsThought_1 : decode cX5_endsThought 1 = .ok (.invokevirtual 105, 3) := dk_182 0 105 (dk_at dksX5_endsThought_0 1 rfl rfl)
theorem dX5_endsThought_4 : decode cX5_endsThought 4 = .ok (.aload_n 0, 1) := dk_42 (dk_at dksX5_endsThought_0 4 rfl rfl)
theorem dX5_endsThought_5 : decode cX5_endsThought 5 = .ok (.iconst 0, 1) := dk_3 (dk_at dksX5_endsThought_0 5 rfl rfl)
theorem dX5_endsThought_6 : decode cX5_endsThought 6 = .ok (.putfield 92, 3) := dk_181 0 92 (dk_at dksX5_endsThought_0 6 rfl rfl)
theorem dX5_endsThought_9 : decode cX5_endsThought 9 = .ok (.return_, 1) := dk_177 (dk_at dksX5_endsThought_0 9 rfl rfl)
abbrev cX5_thinksAnew : ByteArray := prog_22_method_12_code
def yX5_thinksAnew : MethodName := ⟨RX5, "thinksAnew", "()V"⟩
def dkwX5_thinksAnew_1 : List UInt8 := [167, 255, 234, 177]
abbrev dktX5_thinksAnew_1 : List UInt8 := dkwX5_thinksAnew_1 ++ []
def dkwX5_thinksAnew_0 : List UInt8 := [3, 60, 27, 17, 0, 136, 162, 0, 21, 42, 180, 0, 7, 27, 42, 180, 0, 16, 27, 46, 79, 132, 1, 1]
abbrev dktX5_thinksAnew_0 : List UInt8 := dkwX5_thinksAnew_0 ++ dktX5_thinksAnew_1
theorem dksX5_thinksAnew_0 : cX5_thinksAnew.data.toList.drop 0 = dktX5_thinksAnew_0 := by decide +kernel
theorem dksX5_thinksAnew_1 : cX5_thinksAnew.data.toList.drop 24 = dktX5_thinksAnew_1 := dk_seg dksX5_thinksAnew_0 24 rfl rfl
theorem dX5_thinksAnew_0 : decode cX5_thinksAnew 0 = .ok (.iconst 0, 1) := dk_3 (dk_at dksX5_thinksAnew_0 0 rfl rfl)
theorem dX5_thinksAnew_1 : decode cX5_thinksAnew 1 = .ok (.istore_n 1, 1) := dk_60 (dk_at dksX5_thinksAnew_0 1 rfl rfl)
theorem dX5_thinksAnew_2 : decode cX5_thinksAnew 2 = .ok (.iload_n 1, 1) := dk_27 (dk_at dksX5_thinksAnew_0 2 rfl rfl)
theorem dX5_thinksAnew_3 : decode cX5_thinksAnew 3 = .ok (.sipush 136, 3) := dk_17 0 136 (dk_at dksX5_thinksAnew_0 3 rfl rfl)
theorem dX5_thinksAnew_6 : decode cX5_thinksAnew 6 = .ok (.if_icmp .ge 21, 3) := dk_162 0 21 (dk_at dksX5_thinksAnew_0 6 rfl rfl)
theorem dX5_thinksAnew_9 : decode cX5_thinksAnew 9 = .ok (.aload_n 0, 1) := dk_42 (dk_at dksX5_thinksAnew_0 9 rfl rfl)
theorem dX5_thinksAnew_10 : decode cX5_thinksAnew 10 = .ok (.getfield 7, 3) := dk_180 0 7 (dk_at dksX5_thinksAnew_0 10 rfl rfl)
theorem dX5_thinksAnew_13 : decode cX5_thinksAnew 13 = .ok (.iload_n 1, 1) := dk_27 (dk_at dksX5_thinksAnew_0 13 rfl rfl)
theorem dX5_thinksAnew_14 : decode cX5_thinksAnew 14 = .ok (.aload_n 0, 1) := dk_42 (dk_at dksX5_thinksAnew_0 14 rfl rfl)
theorem dX5_thinksAnew_15 : decode cX5_thinksAnew 15 = .ok (.getfield 16, 3) := dk_180 0 16 (dk_at dksX5_thinksAnew_0 15 rfl rfl)
theorem dX5_thinksAnew_18 : decode cX5_thinksAnew 18 = .ok (.iload_n 1, 1) := dk_27 (dk_at dksX5_thinksAnew_0 18 rfl rfl)
theorem dX5_thinksAnew_19 : decode cX5_thinksAnew 19 = .ok (.iaload, 1) := dk_46 (dk_at dksX5_thinksAnew_0 19 rfl rfl)
theorem dX5_thinksAnew_20 : decode cX5_thinksAnew 20 = .ok (.iastore, 1) := dk_79 (dk_at dksX5_thinksAnew_0 20 rfl rfl)
theorem dX5_thinksAnew_21 : decode cX5_thinksAnew 21 = .ok (.iinc 1 1, 3) := dk_132 1 1 (dk_at dksX5_thinksAnew_0 21 rfl rfl)
theorem dX5_thinksAnew_24 : decode cX5_thinksAnew 24 = .ok (.goto (-22), 3) := dk_167 255 234 (dk_at dksX5_thinksAnew_1 0 rfl rfl)
theorem dX5_thinksAnew_27 : decode cX5_thinksAnew 27 = .ok (.return_, 1) := dk_177 (dk_at dksX5_thinksAnew_1 3 rfl rfl)
abbrev cX5_falls : ByteArray := prog_22_method_104_code
def yX5_falls : MethodName := ⟨RX5, "falls", "(I)I"⟩
def dkwX5_falls_1 : List UInt8 := [46, 172]
abbrev dktX5_falls_1 : List UInt8 := dkwX5_falls_1 ++ []
def dkwX5_falls_0 : List UInt8 := [42, 3, 181, 0, 86, 42, 27, 182, 0, 134, 154, 0, 5, 2, 172, 42, 182, 1, 125, 42, 180, 0, 68, 27]
abbrev dktX5_falls_0 : List UInt8 := dkwX5_falls_0 ++ dktX5_falls_1
theorem dksX5_falls_0 : cX5_falls.data.toList.drop 0 = dktX5_falls_0 := by decide +kernel
theorem dksX5_falls_1 : cX5_falls.data.toList.drop 24 = dktX5_falls_1 := dk_seg dksX5_falls_0 24 rfl rfl
theorem dX5_falls_0 : decode cX5_falls 0 = .ok (.aload_n 0, 1) := dk_42 (dk_at dksX5_falls_0 0 rfl rfl)
theorem dX5_falls_1 : decode cX5_falls 1 = .ok (.iconst 0, 1) := dk_3 (dk_at dksX5_falls_0 1 rfl rfl)
theorem dX5_falls_2 : decode cX5_falls 2 = .ok (.putfield 86, 3) := dk_181 0 86 (dk_at dksX5_falls_0 2 rfl rfl)
theorem dX5_falls_5 : decode cX5_falls 5 = .ok (.aload_n 0, 1) := dk_42 (dk_at dksX5_falls_0 5 rfl rfl)
theorem dX5_falls_6 : decode cX5_falls 6 = .ok (.iload_n 1, 1) := dk_27 (dk_at dksX5_falls_0 6 rfl rfl)
theorem dX5_falls_7 : decode cX5_falls 7 = .ok (.invokevirtual 134, 3) := dk_182 0 134 (dk_at dksX5_falls_0 7 rfl rfl)
theorem dX5_falls_10 : decode cX5_falls 10 = .ok (.ifCond .ne 5, 3) := dk_154 0 5 (dk_at dksX5_falls_0 10 rfl rfl)
theorem dX5_falls_13 : decode cX5_falls 13 = .ok (.iconst (-1), 1) := dk_2 (dk_at dksX5_falls_0 13 rfl rfl)
theorem dX5_falls_14 : decode cX5_falls 14 = .ok (.ireturn, 1) := dk_172 (dk_at dksX5_falls_0 14 rfl rfl)
theorem dX5_falls_15 : decode cX5_falls 15 = .ok (.aload_n 0, 1) := dk_42 (dk_at dksX5_falls_0 15 rfl rfl)
theorem dX5_falls_16 : decode cX5_falls 16 = .ok (.invokevirtual 381, 3) := dk_182 1 125 (dk_at dksX5_falls_0 16 rfl rfl)
theorem dX5_falls_19 : decode cX5_falls 19 = .ok (.aload_n 0, 1) := dk_42 (dk_at dksX5_falls_0 19 rfl rfl)
theorem dX5_falls_20 : decode cX5_falls 20 = .ok (.getfield 68, 3) := dk_180 0 68 (dk_at dksX5_falls_0 20 rfl rfl)
theorem dX5_falls_23 : decode cX5_falls 23 = .ok (.iload_n 1, 1) := dk_27 (dk_at dksX5_falls_0 23 rfl rfl)
theorem dX5_falls_24 : decode cX5_falls 24 = .ok (.iaload, 1) := dk_46 (dk_at dksX5_falls_1 0 rfl rfl)
theorem dX5_falls_25 : decode cX5_falls 25 = .ok (.ireturn, 1) := dk_172 (dk_at dksX5_falls_1 1 rfl rfl)
abbrev cX5_brings : ByteArray := prog_22_method_105_code
def yX5_brings : MethodName := ⟨RX5, "brings", "(III)I"⟩
def dkwX5_brings_6 : List UInt8 := [167, 0, 5, 21, 5, 172]
abbrev dktX5_brings_6 : List UInt8 := dkwX5_brings_6 ++ []
def dkwX5_brings_5 : List UInt8 := [180, 0, 96, 182, 1, 164, 54, 5, 132, 6, 1, 167, 255, 192, 42, 182, 1, 161, 29, 154, 0, 8, 21, 4]
abbrev dktX5_brings_5 : List UInt8 := dkwX5_brings_5 ++ dktX5_brings_6
def dkwX5_brings_4 : List UInt8 := [42, 180, 0, 96, 21, 5, 164, 0, 8, 21, 6, 167, 0, 5, 21, 4, 54, 4, 42, 21, 5, 42]
abbrev dktX5_brings_4 : List UInt8 := dkwX5_brings_4 ++ dktX5_brings_5
def dkwX5_brings_3 : List UInt8 := [42, 182, 0, 105, 42, 3, 181, 0, 96, 42, 27, 21, 6, 16, 10, 182, 1, 76, 87, 42, 28, 182, 1, 158]
abbrev dktX5_brings_3 : List UInt8 := dkwX5_brings_3 ++ dktX5_brings_4
def dkwX5_brings_2 : List UInt8 := [54, 4, 2, 54, 5, 42, 182, 1, 155, 42, 27, 181, 1, 89, 3, 54, 6, 21, 6, 16, 10, 162, 0, 63]
abbrev dktX5_brings_2 : List UInt8 := dkwX5_brings_2 ++ dktX5_brings_3
def dkwX5_brings_1 : List UInt8 := [42, 29, 3, 4, 182, 0, 126, 153, 0, 14, 42, 180, 0, 7, 7, 46, 16, 14, 160, 0, 5, 2, 172, 2]
abbrev dktX5_brings_1 : List UInt8 := dkwX5_brings_1 ++ dktX5_brings_2
def dkwX5_brings_0 : List UInt8 := [42, 3, 181, 0, 86, 42, 27, 182, 0, 134, 153, 0, 35, 42, 28, 4, 16, 20, 182, 0, 126, 153, 0, 24]
abbrev dktX5_brings_0 : List UInt8 := dkwX5_brings_0 ++ dktX5_brings_1
theorem dksX5_brings_0 : cX5_brings.data.toList.drop 0 = dktX5_brings_0 := by decide +kernel
theorem dksX5_brings_1 : cX5_brings.data.toList.drop 24 = dktX5_brings_1 := dk_seg dksX5_brings_0 24 rfl rfl
theorem dksX5_brings_2 : cX5_brings.data.toList.drop 48 = dktX5_brings_2 := dk_seg dksX5_brings_1 24 rfl rfl
theorem dksX5_brings_3 : cX5_brings.data.toList.drop 72 = dktX5_brings_3 := dk_seg dksX5_brings_2 24 rfl rfl
theorem dksX5_brings_4 : cX5_brings.data.toList.drop 96 = dktX5_brings_4 := dk_seg dksX5_brings_3 24 rfl rfl
theorem dksX5_brings_5 : cX5_brings.data.toList.drop 118 = dktX5_brings_5 := dk_seg dksX5_brings_4 22 rfl rfl
theorem dksX5_brings_6 : cX5_brings.data.toList.drop 142 = dktX5_brings_6 := dk_seg dksX5_brings_5 24 rfl rfl
theorem dX5_brings_0 : decode cX5_brings 0 = .ok (.aload_n 0, 1) := dk_42 (dk_at dksX5_brings_0 0 rfl rfl)
theorem dX5_brings_1 : decode cX5_brings 1 = .ok (.iconst 0, 1) := dk_3 (dk_at dksX5_brings_0 1 rfl rfl)
theorem dX5_brings_2 : decode cX5_brings 2 = .ok (.putfield 86, 3) := dk_181 0 86 (dk_at dksX5_brings_0 2 rfl rfl)
theorem dX5_brings_5 : decode cX5_brings 5 = .ok (.aload_n 0, 1) := dk_42 (dk_at dksX5_brings_0 5 rfl rfl)
theorem dX5_brings_6 : decode cX5_brings 6 = .ok (.iload_n 1, 1) := dk_27 (dk_at dksX5_brings_0 6 rfl rfl)
theorem dX5_brings_7 : decode cX5_brings 7 = .ok (.invokevirtual 134, 3) := dk_182 0 134 (dk_at dksX5_brings_0 7 rfl rfl)
theorem dX5_brings_10 : decode cX5_brings 10 = .ok (.ifCond .eq 35, 3) := dk_153 0 35 (dk_at dksX5_brings_0 10 rfl rfl)
theorem dX5_brings_13 : decode cX5_brings 13 = .ok (.aload_n 0, 1) := dk_42 (dk_at dksX5_brings_0 13 rfl rfl)
theorem dX5_brings_14 : decode cX5_brings 14 = .ok (.iload_n 2, 1) := dk_28 (dk_at dksX5_brings_0 14 rfl rfl)
theorem dX5_brings_15 : decode cX5_brings 15 = .ok (.iconst 1, 1) := dk_4 (dk_at dksX5_brings_0 15 rfl rfl)
theorem dX5_brings_16 : decode cX5_brings 16 = .ok (.bipush 20, 2) := dk_16 20 (dk_at dksX5_brings_0 16 rfl rfl)
theorem dX5_brings_18 : decode cX5_brings 18 = .ok (.invokevirtual 126, 3) := dk_182 0 126 (dk_at dksX5_brings_0 18 rfl rfl)
theorem dX5_brings_21 : decode cX5_brings 21 = .ok (.ifCond .eq 24, 3) := dk_153 0 24 (dk_at dksX5_brings_0 21 rfl rfl)
theorem dX5_brings_24 : decode cX5_brings 24 = .ok (.aload_n 0, 1) := dk_42 (dk_at dksX5_brings_1 0 rfl rfl)
theorem dX5_brings_25 : decode cX5_brings 25 = .ok (.iload_n 3, 1) := dk_29 (dk_at dksX5_brings_1 1 rfl rfl)
theorem dX5_brings_26 : decode cX5_brings 26 = .ok (.iconst 0, 1) := dk_3 (dk_at dksX5_brings_1 2 rfl rfl)
theorem dX5_brings_27 : decode cX5_brings 27 = .ok (.iconst 1, 1) := dk_4 (dk_at dksX5_brings_1 3 rfl rfl)
theorem dX5_brings_28 : decode cX5_brings 28 = .ok (.invokevirtual 126, 3) := dk_182 0 126 (dk_at dksX5_brings_1 4 rfl rfl)
theorem dX5_brings_31 : decode cX5_brings 31 = .ok (.ifCond .eq 14, 3) := dk_153 0 14 (dk_at dksX5_brings_1 7 rfl rfl)
theorem dX5_brings_34 : decode cX5_brings 34 = .ok (.aload_n 0, 1) := dk_42 (dk_at dksX5_brings_1 10 rfl rfl)
theorem dX5_brings_35 : decode cX5_brings 35 = .ok (.getfield 7, 3) := dk_180 0 7 (dk_at dksX5_brings_1 11 rfl rfl)
theorem dX5_brings_38 : decode cX5_brings 38 = .ok (.iconst 4, 1) := dk_7 (dk_at dksX5_brings_1 14 rfl rfl)
theorem dX5_brings_39 : decode cX5_brings 39 = .ok (.iaload, 1) := dk_46 (dk_at dksX5_brings_1 15 rfl rfl)
theorem dX5_brings_40 : decode cX5_brings 40 = .ok (.bipush 14, 2) := dk_16 14 (dk_at dksX5_brings_1 16 rfl rfl)
theorem dX5_brings_42 : decode cX5_brings 42 = .ok (.if_icmp .ne 5, 3) := dk_160 0 5 (dk_at dksX5_brings_1 18 rfl rfl)
theorem dX5_brings_45 : decode cX5_brings 45 = .ok (.iconst (-1), 1) := dk_2 (dk_at dksX5_brings_1 21 rfl rfl)
theorem dX5_brings_46 : decode cX5_brings 46 = .ok (.ireturn, 1) := dk_172 (dk_at dksX5_brings_1 22 rfl rfl)
theorem dX5_brings_47 : decode cX5_brings 47 = .ok (.iconst (-1), 1) := dk_2 (dk_at dksX5_brings_1 23 rfl rfl)
theorem dX5_brings_48 : decode cX5_brings 48 = .ok (.istore 4, 2) := dk_54 4 (dk_at dksX5_brings_2 0 rfl rfl)
theorem dX5_brings_50 : decode cX5_brings 50 = .ok (.iconst (-1), 1) := dk_2 (dk_at dksX5_brings_2 2 rfl rfl)
theorem dX5_brings_51 : decode cX5_brings 51 = .ok (.istore 5, 2) := dk_54 5 (dk_at dksX5_brings_2 3 rfl rfl)
theorem dX5_brings_53 : decode cX5_brings 53 = .ok (.aload_n 0, 1) := dk_42 (dk_at dksX5_brings_2 5 rfl rfl)
theorem dX5_brings_54 : decode cX5_brings 54 = .ok (.invokevirtual 411, 3) := dk_182 1 155 (dk_at dksX5_brings_2 6 rfl rfl)
theorem dX5_brings_57 : decode cX5_brings 57 = .ok (.aload_n 0, 1) := dk_42 (dk_at dksX5_brings_2 9 rfl rfl)
theorem dX5_brings_58 : decode cX5_brings 58 = .ok (.iload_n 1, 1) := dk_27 (dk_at dksX5_brings_2 10 rfl rfl)
theorem dX5_brings_59 : decode cX5_brings 59 = .ok (.putfield 345, 3) := dk_181 1 89 (dk_at dksX5_brings_2 11 rfl rfl)
theorem dX5_brings_62 : decode cX5_brings 62 = .ok (.iconst 0, 1) := dk_3 (dk_at dksX5_brings_2 14 rfl rfl)
theorem dX5_brings_63 : decode cX5_brings 63 = .ok (.istore 6, 2) := dk_54 6 (dk_at dksX5_brings_2 15 rfl rfl)
theorem dX5_brings_65 : decode cX5_brings 65 = .ok (.iload 6, 2) := dk_21 6 (dk_at dksX5_brings_2 17 rfl rfl)
theorem dX5_brings_67 : decode cX5_brings 67 = .ok (.bipush 10, 2) := dk_16 10 (dk_at dksX5_brings_2 19 rfl rfl)
theorem dX5_brings_69 : decode cX5_brings 69 = .ok (.if_icmp .ge 63, 3) := dk_162 0 63 (dk_at dksX5_brings_2 21 rfl rfl)
theorem dX5_brings_72 : decode cX5_brings 72 = .ok (.aload_n 0, 1) := dk_42 (dk_at dksX5_brings_3 0 rfl rfl)
theorem dX5_brings_73 : decode cX5_brings 73 = .ok (.invokevirtual 105, 3) := dk_182 0 105 (dk_at dksX5_brings_3 1 rfl rfl)
theorem dX5_brings_76 : decode cX5_brings 76 = .ok (.aload_n 0, 1) := dk_42 (dk_at dksX5_brings_3 4 rfl rfl)
theorem dX5_brings_77 : decode cX5_brings 77 = .ok (.iconst 0, 1) := dk_3 (dk_at dksX5_brings_3 5 rfl rfl)
theorem dX5_brings_78 : decode cX5_brings 78 = .ok (.putfield 96, 3) := dk_181 0 96 (dk_at dksX5_brings_3 6 rfl rfl)
theorem dX5_brings_81 : decode cX5_brings 81 = .ok (.aload_n 0, 1) := dk_42 (dk_at dksX5_brings_3 9 rfl rfl)
theorem dX5_brings_82 : decode cX5_brings 82 = .ok (.iload_n 1, 1) := dk_27 (dk_at dksX5_brings_3 10 rfl rfl)
theorem dX5_brings_83 : decode cX5_brings 83 = .ok (.iload 6, 2) := dk_21 6 (dk_at dksX5_brings_3 11 rfl rfl)
theorem dX5_brings_85 : decode cX5_brings 85 = .ok (.bipush 10, 2) := dk_16 10 (dk_at dksX5_brings_3 13 rfl rfl)
theorem dX5_brings_87 : decode cX5_brings 87 = .ok (.invokevirtual 332, 3) := dk_182 1 76 (dk_at dksX5_brings_3 15 rfl rfl)
theorem dX5_brings_90 : decode cX5_brings 90 = .ok (.pop, 1) := dk_87 (dk_at dksX5_brings_3 18 rfl rfl)
theorem dX5_brings_91 : decode cX5_brings 91 = .ok (.aload_n 0, 1) := dk_42 (dk_at dksX5_brings_3 19 rfl rfl)
theorem dX5_brings_92 : decode cX5_brings 92 = .ok (.iload_n 2, 1) := dk_28 (dk_at dksX5_brings_3 20 rfl rfl)
theorem dX5_brings_93 : decode cX5_brings 93 = .ok (.invokevirtual 414, 3) := dk_182 1 158 (dk_at dksX5_brings_3 21 rfl rfl)
theorem dX5_brings_96 : decode cX5_brings 96 = .ok (.aload_n 0, 1) := dk_42 (dk_at dksX5_brings_4 0 rfl rfl)
theorem dX5_brings_97 : decode cX5_brings 97 = .ok (.getfield 96, 3) := dk_180 0 96 (dk_at dksX5_brings_4 1 rfl rfl)
theorem dX5_brings_100 : decode cX5_brings 100 = .ok (.iload 5, 2) := dk_21 5 (dk_at dksX5_brings_4 4 rfl rfl)
theorem dX5_brings_102 : decode cX5_brings 102 = .ok (.if_icmp .le 8, 3) := dk_164 0 8 (dk_at dksX5_brings_4 6 rfl rfl)
theorem dX5_brings_105 : decode cX5_brings 105 = .ok (.iload 6, 2) := dk_21 6 (dk_at dksX5_brings_4 9 rfl rfl)
theorem dX5_brings_107 : decode cX5_brings 107 = .ok (.goto 5, 3) := dk_167 0 5 (dk_at dksX5_brings_4 11 rfl rfl)
theorem dX5_brings_110 : decode cX5_brings 110 = .ok (.iload 4, 2) := dk_21 4 (dk_at dksX5_brings_4 14 rfl rfl)
theorem dX5_brings_112 : decode cX5_brings 112 = .ok (.istore 4, 2) := dk_54 4 (dk_at dksX5_brings_4 16 rfl rfl)
theorem dX5_brings_114 : decode cX5_brings 114 = .ok (.aload_n 0, 1) := dk_42 (dk_at dksX5_brings_4 18 rfl rfl)
theorem dX5_brings_115 : decode cX5_brings 115 = .ok (.iload 5, 2) := dk_21 5 (dk_at dksX5_brings_4 19 rfl rfl)
theorem dX5_brings_117 : decode cX5_brings 117 = .ok (.aload_n 0, 1) := dk_42 (dk_at dksX5_brings_4 21 rfl rfl)
theorem dX5_brings_118 : decode cX5_brings 118 = .ok (.getfield 96, 3) := dk_180 0 96 (dk_at dksX5_brings_5 0 rfl rfl)
theorem dX5_brings_121 : decode cX5_brings 121 = .ok (.invokevirtual 420, 3) := dk_182 1 164 (dk_at dksX5_brings_5 3 rfl rfl)
theorem dX5_brings_124 : decode cX5_brings 124 = .ok (.istore 5, 2) := dk_54 5 (dk_at dksX5_brings_5 6 rfl rfl)
theorem dX5_brings_126 : decode cX5_brings 126 = .ok (.iinc 6 1, 3) := dk_132 6 1 (dk_at dksX5_brings_5 8 rfl rfl)
theorem dX5_brings_129 : decode cX5_brings 129 = .ok (.goto (-64), 3) := dk_167 255 192 (dk_at dksX5_brings_5 11 rfl rfl)
theorem dX5_brings_132 : decode cX5_brings 132 = .ok (.aload_n 0, 1) := dk_42 (dk_at dksX5_brings_5 14 rfl rfl)
theorem dX5_brings_133 : decode cX5_brings 133 = .ok (.invokevirtual 417, 3) := dk_182 1 161 (dk_at dksX5_brings_5 15 rfl rfl)
theorem dX5_brings_136 : decode cX5_brings 136 = .ok (.iload_n 3, 1) := dk_29 (dk_at dksX5_brings_5 18 rfl rfl)
theorem dX5_brings_137 : decode cX5_brings 137 = .ok (.ifCond .ne 8, 3) := dk_154 0 8 (dk_at dksX5_brings_5 19 rfl rfl)
theorem dX5_brings_140 : decode cX5_brings 140 = .ok (.iload 4, 2) := dk_21 4 (dk_at dksX5_brings_5 22 rfl rfl)
theorem dX5_brings_142 : decode cX5_brings 142 = .ok (.goto 5, 3) := dk_167 0 5 (dk_at dksX5_brings_6 0 rfl rfl)
theorem dX5_brings_145 : decode cX5_brings 145 = .ok (.iload 5, 2) := dk_21 5 (dk_at dksX5_brings_6 3 rfl rfl)
theorem dX5_brings_147 : decode cX5_brings 147 = .ok (.ireturn, 1) := dk_172 (dk_at dksX5_brings_6 5 rfl rfl)
abbrev cX5_greater : ByteArray := prog_22_method_5_code
def yX5_greater : MethodName := ⟨RX5, "greater", "(II)I"⟩
def dkwX5_greater_0 : List UInt8 := [27, 28, 164, 0, 7, 27, 167, 0, 4, 28, 172]
abbrev dktX5_greater_0 : List UInt8 := dkwX5_greater_0 ++ []
theorem dksX5_greater_0 : cX5_greater.data.toList.drop 0 = dktX5_greater_0 := by decide +kernel
theorem dX5_greater_0 : decode cX5_greater 0 = .ok (.iload_n 1, 1) := dk_27 (dk_at dksX5_greater_0 0 rfl rfl)
theorem dX5_greater_1 : decode cX5_greater 1 = .ok (.iload_n 2, 1) := dk_28 (dk_at dksX5_greater_0 1 rfl rfl)
theorem dX5_greater_2 : decode cX5_greater 2 = .ok (.if_icmp .le 7, 3) := dk_164 0 7 (dk_at dksX5_greater_0 2 rfl rfl)
theorem dX5_greater_5 : decode cX5_greater 5 = .ok (.iload_n 1, 1) := dk_27 (dk_at dksX5_greater_0 5 rfl rfl)
theorem dX5_greater_6 : decode cX5_greater 6 = .ok (.goto 4, 3) := dk_167 0 4 (dk_at dksX5_greater_0 6 rfl rfl)
theorem dX5_greater_9 : decode cX5_greater 9 = .ok (.iload_n 2, 1) := dk_28 (dk_at dksX5_greater_0 9 rfl rfl)
theorem dX5_greater_10 : decode cX5_greater 10 = .ok (.ireturn, 1) := dk_172 (dk_at dksX5_greater_0 10 rfl rfl)
abbrev cX5_swings : ByteArray := prog_22_method_107_code
def yX5_swings : MethodName := ⟨RX5, "swings", "(II)I"⟩
def dkwX5_swings_4 : List UInt8 := [21, 4, 172]
abbrev dktX5_swings_4 : List UInt8 := dkwX5_swings_4 ++ []
def dkwX5_swings_3 : List UInt8 := [28, 182, 1, 167, 21, 5, 159, 0, 7, 21, 6, 54, 4, 132, 6, 1, 167, 255, 224, 42, 182, 1, 161]
abbrev dktX5_swings_3 : List UInt8 := dkwX5_swings_3 ++ dktX5_swings_4
def dkwX5_swings_2 : List UInt8 := [182, 1, 167, 54, 5, 4, 54, 6, 21, 6, 29, 163, 0, 32, 21, 4, 2, 160, 0, 26, 42, 27, 21, 6]
abbrev dktX5_swings_2 : List UInt8 := dkwX5_swings_2 ++ dktX5_swings_3
def dkwX5_swings_1 : List UInt8 := [2, 172, 42, 180, 0, 7, 16, 62, 27, 96, 46, 62, 2, 54, 4, 42, 182, 1, 155, 42, 27, 3, 28]
abbrev dktX5_swings_1 : List UInt8 := dkwX5_swings_1 ++ dktX5_swings_2
def dkwX5_swings_0 : List UInt8 := [42, 3, 181, 0, 86, 42, 27, 182, 0, 141, 153, 0, 14, 42, 28, 4, 16, 20, 182, 0, 126, 154, 0, 5]
abbrev dktX5_swings_0 : List UInt8 := dkwX5_swings_0 ++ dktX5_swings_1
theorem dksX5_swings_0 : cX5_swings.data.toList.drop 0 = dktX5_swings_0 := by decide +kernel
theorem dksX5_swings_1 : cX5_swings.data.toList.drop 24 = dktX5_swings_1 := dk_seg dksX5_swings_0 24 rfl rfl
theorem dksX5_swings_2 : cX5_swings.data.toList.drop 47 = dktX5_swings_2 := dk_seg dksX5_swings_1 23 rfl rfl
theorem dksX5_swings_3 : cX5_swings.data.toList.drop 71 = dktX5_swings_3 := dk_seg dksX5_swings_2 24 rfl rfl
theorem dksX5_swings_4 : cX5_swings.data.toList.drop 94 = dktX5_swings_4 := dk_seg dksX5_swings_3 23 rfl rfl
theorem dX5_swings_0 : decode cX5_swings 0 = .ok (.aload_n 0, 1) := dk_42 (dk_at dksX5_swings_0 0 rfl rfl)
theorem dX5_swings_1 : decode cX5_swings 1 = .ok (.iconst 0, 1) := dk_3 (dk_at dksX5_swings_0 1 rfl rfl)
theorem dX5_swings_2 : decode cX5_swings 2 = .ok (.putfield 86, 3) := dk_181 0 86 (dk_at dksX5_swings_0 2 rfl rfl)
theorem dX5_swings_5 : decode cX5_swings 5 = .ok (.aload_n 0, 1) := dk_42 (dk_at dksX5_swings_0 5 rfl rfl)
theorem dX5_swings_6 : decode cX5_swings 6 = .ok (.iload_n 1, 1) := dk_27 (dk_at dksX5_swings_0 6 rfl rfl)
theorem dX5_swings_7 : decode cX5_swings 7 = .ok (.invokevirtual 141, 3) := dk_182 0 141 (dk_at dksX5_swings_0 7 rfl rfl)
theorem dX5_swings_10 : decode cX5_swings 10 = .ok (.ifCond .eq 14, 3) := dk_153 0 14 (dk_at dksX5_swings_0 10 rfl rfl)
theorem dX5_swings_13 : decode cX5_swings 13 = .ok (.aload_n 0, 1) := dk_42 (dk_at dksX5_swings_0 13 rfl rfl)
theorem dX5_swings_14 : decode cX5_swings 14 = .ok (.iload_n 2, 1) := dk_28 (dk_at dksX5_swings_0 14 rfl rfl)
theorem dX5_swings_15 : decode cX5_swings 15 = .ok (.iconst 1, 1) := dk_4 (dk_at dksX5_swings_0 15 rfl rfl)
theorem dX5_swings_16 : decode cX5_swings 16 = .ok (.bipush 20, 2) := dk_16 20 (dk_at dksX5_swings_0 16 rfl rfl)
theorem dX5_swings_18 : decode cX5_swings 18 = .ok (.invokevirtual 126, 3) := dk_182 0 126 (dk_at dksX5_swings_0 18 rfl rfl)
theorem dX5_swings_21 : decode cX5_swings 21 = .ok (.ifCond .ne 5, 3) := dk_154 0 5 (dk_at dksX5_swings_0 21 rfl rfl)
theorem dX5_swings_24 : decode cX5_swings 24 = .ok (.iconst (-1), 1) := dk_2 (dk_at dksX5_swings_1 0 rfl rfl)
theorem dX5_swings_25 : decode cX5_swings 25 = .ok (.ireturn, 1) := dk_172 (dk_at dksX5_swings_1 1 rfl rfl)
theorem dX5_swings_26 : decode cX5_swings 26 = .ok (.aload_n 0, 1) := dk_42 (dk_at dksX5_swings_1 2 rfl rfl)
theorem dX5_swings_27 : decode cX5_swings 27 = .ok (.getfield 7, 3) := dk_180 0 7 (dk_at dksX5_swings_1 3 rfl rfl)
theorem dX5_swings_30 : decode cX5_swings 30 = .ok (.bipush 62, 2) := dk_16 62 (dk_at dksX5_swings_1 6 rfl rfl)
theorem dX5_swings_32 : decode cX5_swings 32 = .ok (.iload_n 1, 1) := dk_27 (dk_at dksX5_swings_1 8 rfl rfl)
theorem dX5_swings_33 : decode cX5_swings 33 = .ok (.iadd, 1) := dk_96 (dk_at dksX5_swings_1 9 rfl rfl)
theorem dX5_swings_34 : decode cX5_swings 34 = .ok (.iaload, 1) := dk_46 (dk_at dksX5_swings_1 10 rfl rfl)
theorem dX5_swings_35 : decode cX5_swings 35 = .ok (.istore_n 3, 1) := dk_62 (dk_at dksX5_swings_1 11 rfl rfl)
theorem dX5_swings_36 : decode cX5_swings 36 = .ok (.iconst (-1), 1) := dk_2 (dk_at dksX5_swings_1 12 rfl rfl)
theorem dX5_swings_37 : decode cX5_swings 37 = .ok (.istore 4, 2) := dk_54 4 (dk_at dksX5_swings_1 13 rfl rfl)
theorem dX5_swings_39 : decode cX5_swings 39 = .ok (.aload_n 0, 1) := dk_42 (dk_at dksX5_swings_1 15 rfl rfl)
theorem dX5_swings_40 : decode cX5_swings 40 = .ok (.invokevirtual 411, 3) := dk_182 1 155 (dk_at dksX5_swings_1 16 rfl rfl)
theorem dX5_swings_43 : decode cX5_swings 43 = .ok (.aload_n 0, 1) := dk_42 (dk_at dksX5_swings_1 19 rfl rfl)
theorem dX5_swings_44 : decode cX5_swings 44 = .ok (.iload_n 1, 1) := dk_27 (dk_at dksX5_swings_1 20 rfl rfl)
theorem dX5_swings_45 : decode cX5_swings 45 = .ok (.iconst 0, 1) := dk_3 (dk_at dksX5_swings_1 21 rfl rfl)
theorem dX5_swings_46 : decode cX5_swings 46 = .ok (.iload_n 2, 1) := dk_28 (dk_at dksX5_swings_1 22 rfl rfl)
theorem dX5_swings_47 : decode cX5_swings 47 = .ok (.invokevirtual 423, 3) := dk_182 1 167 (dk_at dksX5_swings_2 0 rfl rfl)
theorem dX5_swings_50 : decode cX5_swings 50 = .ok (.istore 5, 2) := dk_54 5 (dk_at dksX5_swings_2 3 rfl rfl)
theorem dX5_swings_52 : decode cX5_swings 52 = .ok (.iconst 1, 1) := dk_4 (dk_at dksX5_swings_2 5 rfl rfl)
theorem dX5_swings_53 : decode cX5_swings 53 = .ok (.istore 6, 2) := dk_54 6 (dk_at dksX5_swings_2 6 rfl rfl)
theorem dX5_swings_55 : decode cX5_swings 55 = .ok (.iload 6, 2) := dk_21 6 (dk_at dksX5_swings_2 8 rfl rfl)
theorem dX5_swings_57 : decode cX5_swings 57 = .ok (.iload_n 3, 1) := dk_29 (dk_at dksX5_swings_2 10 rfl rfl)
theorem dX5_swings_58 : decode cX5_swings 58 = .ok (.if_icmp .gt 32, 3) := dk_163 0 32 (dk_at dksX5_swings_2 11 rfl rfl)
theorem dX5_swings_61 : decode cX5_swings 61 = .ok (.iload 4, 2) := dk_21 4 (dk_at dksX5_swings_2 14 rfl rfl)
theorem dX5_swings_63 : decode cX5_swings 63 = .ok (.iconst (-1), 1) := dk_2 (dk_at dksX5_swings_2 16 rfl rfl)
theorem dX5_swings_64 : decode cX5_swings 64 = .ok (.if_icmp .ne 26, 3) := dk_160 0 26 (dk_at dksX5_swings_2 17 rfl rfl)
theorem dX5_swings_67 : decode cX5_swings 67 = .ok (.aload_n 0, 1) := dk_42 (dk_at dksX5_swings_2 20 rfl rfl)
theorem dX5_swings_68 : decode cX5_swings 68 = .ok (.iload_n 1, 1) := dk_27 (dk_at dksX5_swings_2 21 rfl rfl)
theorem dX5_swings_69 : decode cX5_swings 69 = .ok (.iload 6, 2) := dk_21 6 (dk_at dksX5_swings_2 22 rfl rfl)
theorem dX5_swings_71 : decode cX5_swings 71 = .ok (.iload_n 2, 1) := dk_28 (dk_at dksX5_swings_3 0 rfl rfl)
theorem dX5_swings_72 : decode cX5_swings 72 = .ok (.invokevirtual 423, 3) := dk_182 1 167 (dk_at dksX5_swings_3 1 rfl rfl)
theorem dX5_swings_75 : decode cX5_swings 75 = .ok (.iload 5, 2) := dk_21 5 (dk_at dksX5_swings_3 4 rfl rfl)
theorem dX5_swings_77 : decode cX5_swings 77 = .ok (.if_icmp .eq 7, 3) := dk_159 0 7 (dk_at dksX5_swings_3 6 rfl rfl)
theorem dX5_swings_80 : decode cX5_swings 80 = .ok (.iload 6, 2) := dk_21 6 (dk_at dksX5_swings_3 9 rfl rfl)
theorem dX5_swings_82 : decode cX5_swings 82 = .ok (.istore 4, 2) := dk_54 4 (dk_at dksX5_swings_3 11 rfl rfl)
theorem dX5_swings_84 : decode cX5_swings 84 = .ok (.iinc 6 1, 3) := dk_132 6 1 (dk_at dksX5_swings_3 13 rfl rfl)
theorem dX5_swings_87 : decode cX5_swings 87 = .ok (.goto (-32), 3) := dk_167 255 224 (dk_at dksX5_swings_3 16 rfl rfl)
theorem dX5_swings_90 : decode cX5_swings 90 = .ok (.aload_n 0, 1) := dk_42 (dk_at dksX5_swings_3 19 rfl rfl)
theorem dX5_swings_91 : decode cX5_swings 91 = .ok (.invokevirtual 417, 3) := dk_182 1 161 (dk_at dksX5_swings_3 20 rfl rfl)
theorem dX5_swings_94 : decode cX5_swings 94 = .ok (.iload 4, 2) := dk_21 4 (dk_at dksX5_swings_4 0 rfl rfl)
theorem dX5_swings_96 : decode cX5_swings 96 = .ok (.ireturn, 1) := dk_172 (dk_at dksX5_swings_4 2 rfl rfl)
abbrev cX5_strongestBehind : ByteArray := prog_22_method_106_code
def yX5_strongestBehind : MethodName := ⟨RX5, "strongestBehind", "(III)I"⟩
def dkwX5_strongestBehind_1 : List UInt8 := [42, 29, 182, 1, 158, 42, 182, 1, 128, 172]
abbrev dktX5_strongestBehind_1 : List UInt8 := dkwX5_strongestBehind_1 ++ []
def dkwX5_strongestBehind_0 : List UInt8 := [42, 182, 0, 105, 42, 180, 0, 7, 16, 62, 27, 96, 42, 180, 0, 7, 16, 62, 27, 96, 46, 28, 100, 79]
abbrev dktX5_strongestBehind_0 : List UInt8 := dkwX5_strongestBehind_0 ++ dktX5_strongestBehind_1
theorem dksX5_strongestBehind_0 : cX5_strongestBehind.data.toList.drop 0 = dktX5_strongestBehind_0 := by decide +kernel
theorem dksX5_strongestBehind_1 : cX5_strongestBehind.data.toList.drop 24 = dktX5_strongestBehind_1 := dk_seg dksX5_strongestBehind_0 24 rfl rfl
theorem dX5_strongestBehind_0 : decode cX5_strongestBehind 0 = .ok (.aload_n 0, 1) := dk_42 (dk_at dksX5_strongestBehind_0 0 rfl rfl)
theorem dX5_strongestBehind_1 : decode cX5_strongestBehind 1 = .ok (.invokevirtual 105, 3) := dk_182 0 105 (dk_at dksX5_strongestBehind_0 1 rfl rfl)
theorem dX5_strongestBehind_4 : decode cX5_strongestBehind 4 = .ok (.aload_n 0, 1) := dk_42 (dk_at dksX5_strongestBehind_0 4 rfl rfl)
theorem dX5_strongestBehind_5 : decode cX5_strongestBehind 5 = .ok (.getfield 7, 3) := dk_180 0 7 (dk_at dksX5_strongestBehind_0 5 rfl rfl)
theorem dX5_strongestBehind_8 : decode cX5_strongestBehind 8 = .ok (.bipush 62, 2) := dk_16 62 (dk_at dksX5_strongestBehind_0 8 rfl rfl)
theorem dX5_strongestBehind_10 : decode cX5_strongestBehind 10 = .ok (.iload_n 1, 1) := dk_27 (dk_at dksX5_strongestBehind_0 10 rfl rfl)
theorem dX5_strongestBehind_11 : decode cX5_strongestBehind 11 = .ok (.iadd, 1) := dk_96 (dk_at dksX5_strongestBehind_0 11 rfl rfl)
theorem dX5_strongestBehind_12 : decode cX5_strongestBehind 12 = .ok (.aload_n 0, 1) := dk_42 (dk_at dksX5_strongestBehind_0 12 rfl rfl)
theorem dX5_strongestBehind_13 : decode cX5_strongestBehind 13 = .ok (.getfield 7, 3) := dk_180 0 7 (dk_at dksX5_strongestBehind_0 13 rfl rfl)
theorem dX5_strongestBehind_16 : decode cX5_strongestBehind 16 = .ok (.bipush 62, 2) := dk_16 62 (dk_at dksX5_strongestBehind_0 16 rfl rfl)
theorem dX5_strongestBehind_18 : decode cX5_strongestBehind 18 = .ok (.iload_n 1, 1) := dk_27 (dk_at dksX5_strongestBehind_0 18 rfl rfl)
theorem dX5_strongestBehind_19 : decode cX5_strongestBehind 19 = .ok (.iadd, 1) := dk_96 (dk_at dksX5_strongestBehind_0 19 rfl rfl)
theorem dX5_strongestBehind_20 : decode cX5_strongestBehind 20 = .ok (.iaload, 1) := dk_46 (dk_at dksX5_strongestBehind_0 20 rfl rfl)
theorem dX5_strongestBehind_21 : decode cX5_strongestBehind 21 = .ok (.iload_n 2, 1) := dk_28 (dk_at dksX5_strongestBehind_0 21 rfl rfl)
theorem dX5_strongestBehind_22 : decode cX5_strongestBehind 22 = .ok (.isub, 1) := dk_100 (dk_at dksX5_strongestBehind_0 22 rfl rfl)
theorem dX5_strongestBehind_23 : decode cX5_strongestBehind 23 = .ok (.iastore, 1) := dk_79 (dk_at dksX5_strongestBehind_0 23 rfl rfl)
theorem dX5_strongestBehind_24 : decode cX5_strongestBehind 24 = .ok (.aload_n 0, 1) := dk_42 (dk_at dksX5_strongestBehind_1 0 rfl rfl)
theorem dX5_strongestBehind_25 : decode cX5_strongestBehind 25 = .ok (.iload_n 3, 1) := dk_29 (dk_at dksX5_strongestBehind_1 1 rfl rfl)
theorem dX5_strongestBehind_26 : decode cX5_strongestBehind 26 = .ok (.invokevirtual 414, 3) := dk_182 1 158 (dk_at dksX5_strongestBehind_1 2 rfl rfl)
theorem dX5_strongestBehind_29 : decode cX5_strongestBehind 29 = .ok (.aload_n 0, 1) := dk_42 (dk_at dksX5_strongestBehind_1 5 rfl rfl)
theorem dX5_strongestBehind_30 : decode cX5_strongestBehind 30 = .ok (.invokevirtual 384, 3) := dk_182 1 128 (dk_at dksX5_strongestBehind_1 6 rfl rfl)
theorem dX5_strongestBehind_33 : decode cX5_strongestBehind 33 = .ok (.ireturn, 1) := dk_172 (dk_at dksX5_strongestBehind_1 9 rfl rfl)
abbrev cX5_feeds : ByteArray := prog_22_method_110_code
def yX5_feeds : MethodName := ⟨RX5, "feeds", "(I)I"⟩
def dkwX5_feeds_3 : List UInt8 := [182, 1, 173, 167, 0, 4, 28, 172]
abbrev dktX5_feeds_3 : List UInt8 := dkwX5_feeds_3 ++ []
def dkwX5_feeds_2 : List UInt8 := [42, 29, 182, 1, 176, 153, 0, 5, 29, 61, 132, 3, 1, 167, 255, 218, 27, 154, 0, 11, 42, 28]
abbrev dktX5_feeds_2 : List UInt8 := dkwX5_feeds_2 ++ dktX5_feeds_3
def dkwX5_feeds_1 : List UInt8 := [17, 4, 0, 162, 0, 37, 28, 2, 159, 0, 16, 42, 29, 182, 1, 173, 42, 28, 182, 1, 173, 162, 0, 13]
abbrev dktX5_feeds_1 : List UInt8 := dkwX5_feeds_1 ++ dktX5_feeds_2
def dkwX5_feeds_0 : List UInt8 := [42, 3, 181, 0, 86, 42, 27, 3, 4, 182, 0, 126, 154, 0, 5, 2, 172, 2, 61, 3, 62, 29]
abbrev dktX5_feeds_0 : List UInt8 := dkwX5_feeds_0 ++ dktX5_feeds_1
theorem dksX5_feeds_0 : cX5_feeds.data.toList.drop 0 = dktX5_feeds_0 := by decide +kernel
theorem dksX5_feeds_1 : cX5_feeds.data.toList.drop 22 = dktX5_feeds_1 := dk_seg dksX5_feeds_0 22 rfl rfl
theorem dksX5_feeds_2 : cX5_feeds.data.toList.drop 46 = dktX5_feeds_2 := dk_seg dksX5_feeds_1 24 rfl rfl
theorem dksX5_feeds_3 : cX5_feeds.data.toList.drop 68 = dktX5_feeds_3 := dk_seg dksX5_feeds_2 22 rfl rfl
theorem dX5_feeds_0 : decode cX5_feeds 0 = .ok (.aload_n 0, 1) := dk_42 (dk_at dksX5_feeds_0 0 rfl rfl)
theorem dX5_feeds_1 : decode cX5_feeds 1 = .ok (.iconst 0, 1) := dk_3 (dk_at dksX5_feeds_0 1 rfl rfl)
theorem dX5_feeds_2 : decode cX5_feeds 2 = .ok (.putfield 86, 3) := dk_181 0 86 (dk_at dksX5_feeds_0 2 rfl rfl)
theorem dX5_feeds_5 : decode cX5_feeds 5 = .ok (.aload_n 0, 1) := dk_42 (dk_at dksX5_feeds_0 5 rfl rfl)
theorem dX5_feeds_6 : decode cX5_feeds 6 = .ok (.iload_n 1, 1) := dk_27 (dk_at dksX5_feeds_0 6 rfl rfl)
theorem dX5_feeds_7 : decode cX5_feeds 7 = .ok (.iconst 0, 1) := dk_3 (dk_at dksX5_feeds_0 7 rfl rfl)
theorem dX5_feeds_8 : decode cX5_feeds 8 = .ok (.iconst 1, 1) := dk_4 (dk_at dksX5_feeds_0 8 rfl rfl)
theorem dX5_feeds_9 : decode cX5_feeds 9 = .ok (.invokevirtual 126, 3) := dk_182 0 126 (dk_at dksX5_feeds_0 9 rfl rfl)
theorem dX5_feeds_12 : decode cX5_feeds 12 = .ok (.ifCond .ne 5, 3) := dk_154 0 5 (dk_at dksX5_feeds_0 12 rfl rfl)
theorem dX5_feeds_15 : decode cX5_feeds 15 = .ok (.iconst (-1), 1) := dk_2 (dk_at dksX5_feeds_0 15 rfl rfl)
theorem dX5_feeds_16 : decode cX5_feeds 16 = .ok (.ireturn, 1) := dk_172 (dk_at dksX5_feeds_0 16 rfl rfl)
theorem dX5_feeds_17 : decode cX5_feeds 17 = .ok (.iconst (-1), 1) := dk_2 (dk_at dksX5_feeds_0 17 rfl rfl)
theorem dX5_feeds_18 : decode cX5_feeds 18 = .ok (.istore_n 2, 1) := dk_61 (dk_at dksX5_feeds_0 18 rfl rfl)
theorem dX5_feeds_19 : decode cX5_feeds 19 = .ok (.iconst 0, 1) := dk_3 (dk_at dksX5_feeds_0 19 rfl rfl)
theorem dX5_feeds_20 : decode cX5_feeds 20 = .ok (.istore_n 3, 1) := dk_62 (dk_at dksX5_feeds_0 20 rfl rfl)
theorem dX5_feeds_21 : decode cX5_feeds 21 = .ok (.iload_n 3, 1) := dk_29 (dk_at dksX5_feeds_0 21 rfl rfl)
theorem dX5_feeds_22 : decode cX5_feeds 22 = .ok (.sipush 1024, 3) := dk_17 4 0 (dk_at dksX5_feeds_1 0 rfl rfl)
theorem dX5_feeds_25 : decode cX5_feeds 25 = .ok (.if_icmp .ge 37, 3) := dk_162 0 37 (dk_at dksX5_feeds_1 3 rfl rfl)
theorem dX5_feeds_28 : decode cX5_feeds 28 = .ok (.iload_n 2, 1) := dk_28 (dk_at dksX5_feeds_1 6 rfl rfl)
theorem dX5_feeds_29 : decode cX5_feeds 29 = .ok (.iconst (-1), 1) := dk_2 (dk_at dksX5_feeds_1 7 rfl rfl)
theorem dX5_feeds_30 : decode cX5_feeds 30 = .ok (.if_icmp .eq 16, 3) := dk_159 0 16 (dk_at dksX5_feeds_1 8 rfl rfl)
theorem dX5_feeds_33 : decode cX5_feeds 33 = .ok (.aload_n 0, 1) := dk_42 (dk_at dksX5_feeds_1 11 rfl rfl)
theorem dX5_feeds_34 : decode cX5_feeds 34 = .ok (.iload_n 3, 1) := dk_29 (dk_at dksX5_feeds_1 12 rfl rfl)
theorem dX5_feeds_35 : decode cX5_feeds 35 = .ok (.invokevirtual 429, 3) := dk_182 1 173 (dk_at dksX5_feeds_1 13 rfl rfl)
theorem dX5_feeds_38 : decode cX5_feeds 38 = .ok (.aload_n 0, 1) := dk_42 (dk_at dksX5_feeds_1 16 rfl rfl)
theorem dX5_feeds_39 : decode cX5_feeds 39 = .ok (.iload_n 2, 1) := dk_28 (dk_at dksX5_feeds_1 17 rfl rfl)
theorem dX5_feeds_40 : decode cX5_feeds 40 = .ok (.invokevirtual 429, 3) := dk_182 1 173 (dk_at dksX5_feeds_1 18 rfl rfl)
theorem dX5_feeds_43 : decode cX5_feeds 43 = .ok (.if_icmp .ge 13, 3) := dk_162 0 13 (dk_at dksX5_feeds_1 21 rfl rfl)
theorem dX5_feeds_46 : decode cX5_feeds 46 = .ok (.aload_n 0, 1) := dk_42 (dk_at dksX5_feeds_2 0 rfl rfl)
theorem dX5_feeds_47 : decode cX5_feeds 47 = .ok (.iload_n 3, 1) := dk_29 (dk_at dksX5_feeds_2 1 rfl rfl)
theorem dX5_feeds_48 : decode cX5_feeds 48 = .ok (.invokevirtual 432, 3) := dk_182 1 176 (dk_at dksX5_feeds_2 2 rfl rfl)
theorem dX5_feeds_51 : decode cX5_feeds 51 = .ok (.ifCond .eq 5, 3) := dk_153 0 5 (dk_at dksX5_feeds_2 5 rfl rfl)
theorem dX5_feeds_54 : decode cX5_feeds 54 = .ok (.iload_n 3, 1) := dk_29 (dk_at dksX5_feeds_2 8 rfl rfl)
theorem dX5_feeds_55 : decode cX5_feeds 55 = .ok (.istore_n 2, 1) := dk_61 (dk_at dksX5_feeds_2 9 rfl rfl)
theorem dX5_feeds_56 : decode cX5_feeds 56 = .ok (.iinc 3 1, 3) := dk_132 3 1 (dk_at dksX5_feeds_2 10 rfl rfl)
theorem dX5_feeds_59 : decode cX5_feeds 59 = .ok (.goto (-38), 3) := dk_167 255 218 (dk_at dksX5_feeds_2 13 rfl rfl)
theorem dX5_feeds_62 : decode cX5_feeds 62 = .ok (.iload_n 1, 1) := dk_27 (dk_at dksX5_feeds_2 16 rfl rfl)
theorem dX5_feeds_63 : decode cX5_feeds 63 = .ok (.ifCond .ne 11, 3) := dk_154 0 11 (dk_at dksX5_feeds_2 17 rfl rfl)
theorem dX5_feeds_66 : decode cX5_feeds 66 = .ok (.aload_n 0, 1) := dk_42 (dk_at dksX5_feeds_2 20 rfl rfl)
theorem dX5_feeds_67 : decode cX5_feeds 67 = .ok (.iload_n 2, 1) := dk_28 (dk_at dksX5_feeds_2 21 rfl rfl)
theorem dX5_feeds_68 : decode cX5_feeds 68 = .ok (.invokevirtual 429, 3) := dk_182 1 173 (dk_at dksX5_feeds_3 0 rfl rfl)
theorem dX5_feeds_71 : decode cX5_feeds 71 = .ok (.goto 4, 3) := dk_167 0 4 (dk_at dksX5_feeds_3 3 rfl rfl)
theorem dX5_feeds_74 : decode cX5_feeds 74 = .ok (.iload_n 2, 1) := dk_28 (dk_at dksX5_feeds_3 6 rfl rfl)
theorem dX5_feeds_75 : decode cX5_feeds 75 = .ok (.ireturn, 1) := dk_172 (dk_at dksX5_feeds_3 7 rfl rfl)
abbrev cX5_onesOf : ByteArray := prog_22_method_7_code
def yX5_onesOf : MethodName := ⟨RX5, "onesOf", "(I)I"⟩
def dkwX5_onesOf_0 : List UInt8 := [3, 61, 27, 62, 29, 153, 0, 16, 28, 4, 96, 61, 29, 29, 4, 100, 126, 62, 167, 255, 242, 28, 172]
abbrev dktX5_onesOf_0 : List UInt8 := dkwX5_onesOf_0 ++ []
theorem dksX5_onesOf_0 : cX5_onesOf.data.toList.drop 0 = dktX5_onesOf_0 := by decide +kernel
theorem dX5_onesOf_0 : decode cX5_onesOf 0 = .ok (.iconst 0, 1) := dk_3 (dk_at dksX5_onesOf_0 0 rfl rfl)
theorem dX5_onesOf_1 : decode cX5_onesOf 1 = .ok (.istore_n 2, 1) := dk_61 (dk_at dksX5_onesOf_0 1 rfl rfl)
theorem dX5_onesOf_2 : decode cX5_onesOf 2 = .ok (.iload_n 1, 1) := dk_27 (dk_at dksX5_onesOf_0 2 rfl rfl)
theorem dX5_onesOf_3 : decode cX5_onesOf 3 = .ok (.istore_n 3, 1) := dk_62 (dk_at dksX5_onesOf_0 3 rfl rfl)
theorem dX5_onesOf_4 : decode cX5_onesOf 4 = .ok (.iload_n 3, 1) := dk_29 (dk_at dksX5_onesOf_0 4 rfl rfl)
theorem dX5_onesOf_5 : decode cX5_onesOf 5 = .ok (.ifCond .eq 16, 3) := dk_153 0 16 (dk_at dksX5_onesOf_0 5 rfl rfl)
theorem dX5_onesOf_8 : decode cX5_onesOf 8 = .ok (.iload_n 2, 1) := dk_28 (dk_at dksX5_onesOf_0 8 rfl rfl)
theorem dX5_onesOf_9 : decode cX5_onesOf 9 = .ok (.iconst 1, 1) := dk_4 (dk_at dksX5_onesOf_0 9 rfl rfl)
theorem dX5_onesOf_10 : decode cX5_onesOf 10 = .ok (.iadd, 1) := dk_96 (dk_at dksX5_onesOf_0 10 rfl rfl)
theorem dX5_onesOf_11 : decode cX5_onesOf 11 = .ok (.istore_n 2, 1) := dk_61 (dk_at dksX5_onesOf_0 11 rfl rfl)
theorem dX5_onesOf_12 : decode cX5_onesOf 12 = .ok (.iload_n 3, 1) := dk_29 (dk_at dksX5_onesOf_0 12 rfl rfl)
theorem dX5_onesOf_13 : decode cX5_onesOf 13 = .ok (.iload_n 3, 1) := dk_29 (dk_at dksX5_onesOf_0 13 rfl rfl)
theorem dX5_onesOf_14 : decode cX5_onesOf 14 = .ok (.iconst 1, 1) := dk_4 (dk_at dksX5_onesOf_0 14 rfl rfl)
theorem dX5_onesOf_15 : decode cX5_onesOf 15 = .ok (.isub, 1) := dk_100 (dk_at dksX5_onesOf_0 15 rfl rfl)
theorem dX5_onesOf_16 : decode cX5_onesOf 16 = .ok (.iand, 1) := dk_126 (dk_at dksX5_onesOf_0 16 rfl rfl)
theorem dX5_onesOf_17 : decode cX5_onesOf 17 = .ok (.istore_n 3, 1) := dk_62 (dk_at dksX5_onesOf_0 17 rfl rfl)
theorem dX5_onesOf_18 : decode cX5_onesOf 18 = .ok (.goto (-14), 3) := dk_167 255 242 (dk_at dksX5_onesOf_0 18 rfl rfl)
theorem dX5_onesOf_21 : decode cX5_onesOf 21 = .ok (.iload_n 2, 1) := dk_28 (dk_at dksX5_onesOf_0 21 rfl rfl)
theorem dX5_onesOf_22 : decode cX5_onesOf 22 = .ok (.ireturn, 1) := dk_172 (dk_at dksX5_onesOf_0 22 rfl rfl)
abbrev cX5_feedsAll : ByteArray := prog_22_method_109_code
def yX5_feedsAll : MethodName := ⟨RX5, "feedsAll", "(I)Z"⟩
def dkwX5_feedsAll_1 : List UInt8 := [126, 154, 0, 5, 3, 172, 132, 2, 1, 167, 255, 225, 4, 172]
abbrev dktX5_feedsAll_1 : List UInt8 := dkwX5_feedsAll_1 ++ []
def dkwX5_feedsAll_0 : List UInt8 := [3, 61, 28, 42, 180, 0, 119, 162, 0, 29, 42, 28, 182, 1, 170, 153, 0, 15, 42, 28, 182, 1, 170, 27]
abbrev dktX5_feedsAll_0 : List UInt8 := dkwX5_feedsAll_0 ++ dktX5_feedsAll_1
theorem dksX5_feedsAll_0 : cX5_feedsAll.data.toList.drop 0 = dktX5_feedsAll_0 := by decide +kernel
theorem dksX5_feedsAll_1 : cX5_feedsAll.data.toList.drop 24 = dktX5_feedsAll_1 := dk_seg dksX5_feedsAll_0 24 rfl rfl
theorem dX5_feedsAll_0 : decode cX5_feedsAll 0 = .ok (.iconst 0, 1) := dk_3 (dk_at dksX5_feedsAll_0 0 rfl rfl)
theorem dX5_feedsAll_1 : decode cX5_feedsAll 1 = .ok (.istore_n 2, 1) := dk_61 (dk_at dksX5_feedsAll_0 1 rfl rfl)
theorem dX5_feedsAll_2 : decode cX5_feedsAll 2 = .ok (.iload_n 2, 1) := dk_28 (dk_at dksX5_feedsAll_0 2 rfl rfl)
theorem dX5_feedsAll_3 : decode cX5_feedsAll 3 = .ok (.aload_n 0, 1) := dk_42 (dk_at dksX5_feedsAll_0 3 rfl rfl)
theorem dX5_feedsAll_4 : decode cX5_feedsAll 4 = .ok (.getfield 119, 3) := dk_180 0 119 (dk_at dksX5_feedsAll_0 4 rfl rfl)
theorem dX5_feedsAll_7 : decode cX5_feedsAll 7 = .ok (.if_icmp .ge 29, 3) := dk_162 0 29 (dk_at dksX5_feedsAll_0 7 rfl rfl)
theorem dX5_feedsAll_10 : decode cX5_feedsAll 10 = .ok (.aload_n 0, 1) := dk_42 (dk_at dksX5_feedsAll_0 10 rfl rfl)
theorem dX5_feedsAll_11 : decode cX5_feedsAll 11 = .ok (.iload_n 2, 1) := dk_28 (dk_at dksX5_feedsAll_0 11 rfl rfl)
theorem dX5_feedsAll_12 : decode cX5_feedsAll 12 = .ok (.invokevirtual 426, 3) := dk_182 1 170 (dk_at dksX5_feedsAll_0 12 rfl rfl)
theorem dX5_feedsAll_15 : decode cX5_feedsAll 15 = .ok (.ifCond .eq 15, 3) := dk_153 0 15 (dk_at dksX5_feedsAll_0 15 rfl rfl)
theorem dX5_feedsAll_18 : decode cX5_feedsAll 18 = .ok (.aload_n 0, 1) := dk_42 (dk_at dksX5_feedsAll_0 18 rfl rfl)
theorem dX5_feedsAll_19 : decode cX5_feedsAll 19 = .ok (.iload_n 2, 1) := dk_28 (dk_at dksX5_feedsAll_0 19 rfl rfl)
theorem dX5_feedsAll_20 : decode cX5_feedsAll 20 = .ok (.invokevirtual 426, 3) := dk_182 1 170 (dk_at dksX5_feedsAll_0 20 rfl rfl)
theorem dX5_feedsAll_23 : decode cX5_feedsAll 23 = .ok (.iload_n 1, 1) := dk_27 (dk_at dksX5_feedsAll_0 23 rfl rfl)
theorem dX5_feedsAll_24 : decode cX5_feedsAll 24 = .ok (.iand, 1) := dk_126 (dk_at dksX5_feedsAll_1 0 rfl rfl)
theorem dX5_feedsAll_25 : decode cX5_feedsAll 25 = .ok (.ifCond .ne 5, 3) := dk_154 0 5 (dk_at dksX5_feedsAll_1 1 rfl rfl)
theorem dX5_feedsAll_28 : decode cX5_feedsAll 28 = .ok (.iconst 0, 1) := dk_3 (dk_at dksX5_feedsAll_1 4 rfl rfl)
theorem dX5_feedsAll_29 : decode cX5_feedsAll 29 = .ok (.ireturn, 1) := dk_172 (dk_at dksX5_feedsAll_1 5 rfl rfl)
theorem dX5_feedsAll_30 : decode cX5_feedsAll 30 = .ok (.iinc 2 1, 3) := dk_132 2 1 (dk_at dksX5_feedsAll_1 6 rfl rfl)
theorem dX5_feedsAll_33 : decode cX5_feedsAll 33 = .ok (.goto (-31), 3) := dk_167 255 225 (dk_at dksX5_feedsAll_1 9 rfl rfl)
theorem dX5_feedsAll_36 : decode cX5_feedsAll 36 = .ok (.iconst 1, 1) := dk_4 (dk_at dksX5_feedsAll_1 12 rfl rfl)
theorem dX5_feedsAll_37 : decode cX5_feedsAll 37 = .ok (.ireturn, 1) := dk_172 (dk_at dksX5_feedsAll_1 13 rfl rfl)
abbrev cX5_placesOf : ByteArray := prog_22_method_108_code
def yX5_placesOf : MethodName := ⟨RX5, "placesOf", "(I)I"⟩
def dkwX5_placesOf_1 : List UInt8 := [16, 9, 27, 104, 29, 96, 46, 120, 128, 61, 132, 3, 1, 167, 255, 224, 28, 172]
abbrev dktX5_placesOf_1 : List UInt8 := dkwX5_placesOf_1 ++ []
def dkwX5_placesOf_0 : List UInt8 := [3, 61, 4, 62, 29, 42, 180, 0, 56, 16, 9, 27, 104, 46, 163, 0, 25, 28, 4, 42, 180, 0, 56]
abbrev dktX5_placesOf_0 : List UInt8 := dkwX5_placesOf_0 ++ dktX5_placesOf_1
theorem dksX5_placesOf_0 : cX5_placesOf.data.toList.drop 0 = dktX5_placesOf_0 := by decide +kernel
theorem dksX5_placesOf_1 : cX5_placesOf.data.toList.drop 23 = dktX5_placesOf_1 := dk_seg dksX5_placesOf_0 23 rfl rfl
theorem dX5_placesOf_0 : decode cX5_placesOf 0 = .ok (.iconst 0, 1) := dk_3 (dk_at dksX5_placesOf_0 0 rfl rfl)
theorem dX5_placesOf_1 : decode cX5_placesOf 1 = .ok (.istore_n 2, 1) := dk_61 (dk_at dksX5_placesOf_0 1 rfl rfl)
theorem dX5_placesOf_2 : decode cX5_placesOf 2 = .ok (.iconst 1, 1) := dk_4 (dk_at dksX5_placesOf_0 2 rfl rfl)
theorem dX5_placesOf_3 : decode cX5_placesOf 3 = .ok (.istore_n 3, 1) := dk_62 (dk_at dksX5_placesOf_0 3 rfl rfl)
theorem dX5_placesOf_4 : decode cX5_placesOf 4 = .ok (.iload_n 3, 1) := dk_29 (dk_at dksX5_placesOf_0 4 rfl rfl)
theorem dX5_placesOf_5 : decode cX5_placesOf 5 = .ok (.aload_n 0, 1) := dk_42 (dk_at dksX5_placesOf_0 5 rfl rfl)
theorem dX5_placesOf_6 : decode cX5_placesOf 6 = .ok (.getfield 56, 3) := dk_180 0 56 (dk_at dksX5_placesOf_0 6 rfl rfl)
theorem dX5_placesOf_9 : decode cX5_placesOf 9 = .ok (.bipush 9, 2) := dk_16 9 (dk_at dksX5_placesOf_0 9 rfl rfl)
theorem dX5_placesOf_11 : decode cX5_placesOf 11 = .ok (.iload_n 1, 1) := dk_27 (dk_at dksX5_placesOf_0 11 rfl rfl)
theorem dX5_placesOf_12 : decode cX5_placesOf 12 = .ok (.imul, 1) := dk_104 (dk_at dksX5_placesOf_0 12 rfl rfl)
theorem dX5_placesOf_13 : decode cX5_placesOf 13 = .ok (.iaload, 1) := dk_46 (dk_at dksX5_placesOf_0 13 rfl rfl)
theorem dX5_placesOf_14 : decode cX5_placesOf 14 = .ok (.if_icmp .gt 25, 3) := dk_163 0 25 (dk_at dksX5_placesOf_0 14 rfl rfl)
theorem dX5_placesOf_17 : decode cX5_placesOf 17 = .ok (.iload_n 2, 1) := dk_28 (dk_at dksX5_placesOf_0 17 rfl rfl)
theorem dX5_placesOf_18 : decode cX5_placesOf 18 = .ok (.iconst 1, 1) := dk_4 (dk_at dksX5_placesOf_0 18 rfl rfl)
theorem dX5_placesOf_19 : decode cX5_placesOf 19 = .ok (.aload_n 0, 1) := dk_42 (dk_at dksX5_placesOf_0 19 rfl rfl)
theorem dX5_placesOf_20 : decode cX5_placesOf 20 = .ok (.getfield 56, 3) := dk_180 0 56 (dk_at dksX5_placesOf_0 20 rfl rfl)
theorem dX5_placesOf_23 : decode cX5_placesOf 23 = .ok (.bipush 9, 2) := dk_16 9 (dk_at dksX5_placesOf_1 0 rfl rfl)
theorem dX5_placesOf_25 : decode cX5_placesOf 25 = .ok (.iload_n 1, 1) := dk_27 (dk_at dksX5_placesOf_1 2 rfl rfl)
theorem dX5_placesOf_26 : decode cX5_placesOf 26 = .ok (.imul, 1) := dk_104 (dk_at dksX5_placesOf_1 3 rfl rfl)
theorem dX5_placesOf_27 : decode cX5_placesOf 27 = .ok (.iload_n 3, 1) := dk_29 (dk_at dksX5_placesOf_1 4 rfl rfl)
theorem dX5_placesOf_28 : decode cX5_placesOf 28 = .ok (.iadd, 1) := dk_96 (dk_at dksX5_placesOf_1 5 rfl rfl)
theorem dX5_placesOf_29 : decode cX5_placesOf 29 = .ok (.iaload, 1) := dk_46 (dk_at dksX5_placesOf_1 6 rfl rfl)
theorem dX5_placesOf_30 : decode cX5_placesOf 30 = .ok (.ishl, 1) := dk_120 (dk_at dksX5_placesOf_1 7 rfl rfl)
theorem dX5_placesOf_31 : decode cX5_placesOf 31 = .ok (.ior, 1) := dk_128 (dk_at dksX5_placesOf_1 8 rfl rfl)
theorem dX5_placesOf_32 : decode cX5_placesOf 32 = .ok (.istore_n 2, 1) := dk_61 (dk_at dksX5_placesOf_1 9 rfl rfl)
theorem dX5_placesOf_33 : decode cX5_placesOf 33 = .ok (.iinc 3 1, 3) := dk_132 3 1 (dk_at dksX5_placesOf_1 10 rfl rfl)
theorem dX5_placesOf_36 : decode cX5_placesOf 36 = .ok (.goto (-32), 3) := dk_167 255 224 (dk_at dksX5_placesOf_1 13 rfl rfl)
theorem dX5_placesOf_39 : decode cX5_placesOf 39 = .ok (.iload_n 2, 1) := dk_28 (dk_at dksX5_placesOf_1 16 rfl rfl)
theorem dX5_placesOf_40 : decode cX5_placesOf 40 = .ok (.ireturn, 1) := dk_172 (dk_at dksX5_placesOf_1 17 rfl rfl)
abbrev cX5_core : ByteArray := prog_22_method_111_code
def yX5_core : MethodName := ⟨RX5, "core", "(II)I"⟩
def dkwX5_core_3 : List UInt8 := [79, 42, 42, 180, 1, 179, 4, 96, 181, 1, 179, 42, 180, 1, 179, 172]
abbrev dktX5_core_3 : List UInt8 := dkwX5_core_3 ++ []
def dkwX5_core_2 : List UInt8 := [180, 0, 74, 5, 42, 180, 1, 179, 104, 27, 79, 42, 180, 0, 74, 5, 42, 180, 1, 179, 104, 4, 96, 28]
abbrev dktX5_core_2 : List UInt8 := dkwX5_core_2 ++ dktX5_core_3
def dkwX5_core_1 : List UInt8 := [153, 0, 20, 42, 28, 182, 1, 70, 153, 0, 12, 42, 180, 1, 179, 16, 8, 160, 0, 5, 2, 172, 42]
abbrev dktX5_core_1 : List UInt8 := dkwX5_core_1 ++ dktX5_core_2
def dkwX5_core_0 : List UInt8 := [42, 3, 181, 0, 86, 27, 2, 160, 0, 10, 42, 3, 181, 1, 179, 3, 172, 42, 27, 182, 0, 134]
abbrev dktX5_core_0 : List UInt8 := dkwX5_core_0 ++ dktX5_core_1
theorem dksX5_core_0 : cX5_core.data.toList.drop 0 = dktX5_core_0 := by decide +kernel
theorem dksX5_core_1 : cX5_core.data.toList.drop 22 = dktX5_core_1 := dk_seg dksX5_core_0 22 rfl rfl
theorem dksX5_core_2 : cX5_core.data.toList.drop 45 = dktX5_core_2 := dk_seg dksX5_core_1 23 rfl rfl
theorem dksX5_core_3 : cX5_core.data.toList.drop 69 = dktX5_core_3 := dk_seg dksX5_core_2 24 rfl rfl
theorem dX5_core_0 : decode cX5_core 0 = .ok (.aload_n 0, 1) := dk_42 (dk_at dksX5_core_0 0 rfl rfl)
theorem dX5_core_1 : decode cX5_core 1 = .ok (.iconst 0, 1) := dk_3 (dk_at dksX5_core_0 1 rfl rfl)
theorem dX5_core_2 : decode cX5_core 2 = .ok (.putfield 86, 3) := dk_181 0 86 (dk_at dksX5_core_0 2 rfl rfl)
theorem dX5_core_5 : decode cX5_core 5 = .ok (.iload_n 1, 1) := dk_27 (dk_at dksX5_core_0 5 rfl rfl)
theorem dX5_core_6 : decode cX5_core 6 = .ok (.iconst (-1), 1) := dk_2 (dk_at dksX5_core_0 6 rfl rfl)
theorem dX5_core_7 : decode cX5_core 7 = .ok (.if_icmp .ne 10, 3) := dk_160 0 10 (dk_at dksX5_core_0 7 rfl rfl)
theorem dX5_core_10 : decode cX5_core 10 = .ok (.aload_n 0, 1) := dk_42 (dk_at dksX5_core_0 10 rfl rfl)
theorem dX5_core_11 : decode cX5_core 11 = .ok (.iconst 0, 1) := dk_3 (dk_at dksX5_core_0 11 rfl rfl)
theorem dX5_core_12 : decode cX5_core 12 = .ok (.putfield 435, 3) := dk_181 1 179 (dk_at dksX5_core_0 12 rfl rfl)
theorem dX5_core_15 : decode cX5_core 15 = .ok (.iconst 0, 1) := dk_3 (dk_at dksX5_core_0 15 rfl rfl)
theorem dX5_core_16 : decode cX5_core 16 = .ok (.ireturn, 1) := dk_172 (dk_at dksX5_core_0 16 rfl rfl)
theorem dX5_core_17 : decode cX5_core 17 = .ok (.aload_n 0, 1) := dk_42 (dk_at dksX5_core_0 17 rfl rfl)
theorem dX5_core_18 : decode cX5_core 18 = .ok (.iload_n 1, 1) := dk_27 (dk_at dksX5_core_0 18 rfl rfl)
theorem dX5_core_19 : decode cX5_core 19 = .ok (.invokevirtual 134, 3) := dk_182 0 134 (dk_at dksX5_core_0 19 rfl rfl)
theorem dX5_core_22 : decode cX5_core 22 = .ok (.ifCond .eq 20, 3) := dk_153 0 20 (dk_at dksX5_core_1 0 rfl rfl)
theorem dX5_core_25 : decode cX5_core 25 = .ok (.aload_n 0, 1) := dk_42 (dk_at dksX5_core_1 3 rfl rfl)
theorem dX5_core_26 : decode cX5_core 26 = .ok (.iload_n 2, 1) := dk_28 (dk_at dksX5_core_1 4 rfl rfl)
theorem dX5_core_27 : decode cX5_core 27 = .ok (.invokevirtual 326, 3) := dk_182 1 70 (dk_at dksX5_core_1 5 rfl rfl)
theorem dX5_core_30 : decode cX5_core 30 = .ok (.ifCond .eq 12, 3) := dk_153 0 12 (dk_at dksX5_core_1 8 rfl rfl)
theorem dX5_core_33 : decode cX5_core 33 = .ok (.aload_n 0, 1) := dk_42 (dk_at dksX5_core_1 11 rfl rfl)
theorem dX5_core_34 : decode cX5_core 34 = .ok (.getfield 435, 3) := dk_180 1 179 (dk_at dksX5_core_1 12 rfl rfl)
theorem dX5_core_37 : decode cX5_core 37 = .ok (.bipush 8, 2) := dk_16 8 (dk_at dksX5_core_1 15 rfl rfl)
theorem dX5_core_39 : decode cX5_core 39 = .ok (.if_icmp .ne 5, 3) := dk_160 0 5 (dk_at dksX5_core_1 17 rfl rfl)
theorem dX5_core_42 : decode cX5_core 42 = .ok (.iconst (-1), 1) := dk_2 (dk_at dksX5_core_1 20 rfl rfl)
theorem dX5_core_43 : decode cX5_core 43 = .ok (.ireturn, 1) := dk_172 (dk_at dksX5_core_1 21 rfl rfl)
theorem dX5_core_44 : decode cX5_core 44 = .ok (.aload_n 0, 1) := dk_42 (dk_at dksX5_core_1 22 rfl rfl)
theorem dX5_core_45 : decode cX5_core 45 = .ok (.getfield 74, 3) := dk_180 0 74 (dk_at dksX5_core_2 0 rfl rfl)
theorem dX5_core_48 : decode cX5_core 48 = .ok (.iconst 2, 1) := dk_5 (dk_at dksX5_core_2 3 rfl rfl)
theorem dX5_core_49 : decode cX5_core 49 = .ok (.aload_n 0, 1) := dk_42 (dk_at dksX5_core_2 4 rfl rfl)
theorem dX5_core_50 : decode cX5_core 50 = .ok (.getfield 435, 3) := dk_180 1 179 (dk_at dksX5_core_2 5 rfl rfl)
theorem dX5_core_53 : decode cX5_core 53 = .ok (.imul, 1) := dk_104 (dk_at dksX5_core_2 8 rfl rfl)
theorem dX5_core_54 : decode cX5_core 54 = .ok (.iload_n 1, 1) := dk_27 (dk_at dksX5_core_2 9 rfl rfl)
theorem dX5_core_55 : decode cX5_core 55 = .ok (.iastore, 1) := dk_79 (dk_at dksX5_core_2 10 rfl rfl)
theorem dX5_core_56 : decode cX5_core 56 = .ok (.aload_n 0, 1) := dk_42 (dk_at dksX5_core_2 11 rfl rfl)
theorem dX5_core_57 : decode cX5_core 57 = .ok (.getfield 74, 3) := dk_180 0 74 (dk_at dksX5_core_2 12 rfl rfl)
theorem dX5_core_60 : decode cX5_core 60 = .ok (.iconst 2, 1) := dk_5 (dk_at dksX5_core_2 15 rfl rfl)
theorem dX5_core_61 : decode cX5_core 61 = .ok (.aload_n 0, 1) := dk_42 (dk_at dksX5_core_2 16 rfl rfl)
theorem dX5_core_62 : decode cX5_core 62 = .ok (.getfield 435, 3) := dk_180 1 179 (dk_at dksX5_core_2 17 rfl rfl)
theorem dX5_core_65 : decode cX5_core 65 = .ok (.imul, 1) := dk_104 (dk_at dksX5_core_2 20 rfl rfl)
theorem dX5_core_66 : decode cX5_core 66 = .ok (.iconst 1, 1) := dk_4 (dk_at dksX5_core_2 21 rfl rfl)
theorem dX5_core_67 : decode cX5_core 67 = .ok (.iadd, 1) := dk_96 (dk_at dksX5_core_2 22 rfl rfl)
theorem dX5_core_68 : decode cX5_core 68 = .ok (.iload_n 2, 1) := dk_28 (dk_at dksX5_core_2 23 rfl rfl)
theorem dX5_core_69 : decode cX5_core 69 = .ok (.iastore, 1) := dk_79 (dk_at dksX5_core_3 0 rfl rfl)
theorem dX5_core_70 : decode cX5_core 70 = .ok (.aload_n 0, 1) := dk_42 (dk_at dksX5_core_3 1 rfl rfl)
theorem dX5_core_71 : decode cX5_core 71 = .ok (.aload_n 0, 1) := dk_42 (dk_at dksX5_core_3 2 rfl rfl)
theorem dX5_core_72 : decode cX5_core 72 = .ok (.getfield 435, 3) := dk_180 1 179 (dk_at dksX5_core_3 3 rfl rfl)
theorem dX5_core_75 : decode cX5_core 75 = .ok (.iconst 1, 1) := dk_4 (dk_at dksX5_core_3 6 rfl rfl)
theorem dX5_core_76 : decode cX5_core 76 = .ok (.iadd, 1) := dk_96 (dk_at dksX5_core_3 7 rfl rfl)
theorem dX5_core_77 : decode cX5_core 77 = .ok (.putfield 435, 3) := dk_181 1 179 (dk_at dksX5_core_3 8 rfl rfl)
theorem dX5_core_80 : decode cX5_core 80 = .ok (.aload_n 0, 1) := dk_42 (dk_at dksX5_core_3 11 rfl rfl)
theorem dX5_core_81 : decode cX5_core 81 = .ok (.getfield 435, 3) := dk_180 1 179 (dk_at dksX5_core_3 12 rfl rfl)
theorem dX5_core_84 : decode cX5_core 84 = .ok (.ireturn, 1) := dk_172 (dk_at dksX5_core_3 15 rfl rfl)
abbrev cX5_whose : ByteArray := prog_22_method_114_code
def yX5_whose : MethodName := ⟨RX5, "whose", "(I)I"⟩
def dkwX5_whose_4 : List UInt8 := [21, 4, 54, 4, 42, 21, 5, 21, 8, 182, 1, 67, 54, 5, 132, 6, 1, 167, 255, 197, 21, 4, 172]
abbrev dktX5_whose_4 : List UInt8 := dkwX5_whose_4 ++ []
def dkwX5_whose_3 : List UInt8 := [21, 7, 29, 21, 7, 100, 182, 1, 164, 54, 8, 21, 8, 21, 5, 162, 0, 8, 21, 6, 167, 0, 5]
abbrev dktX5_whose_3 : List UInt8 := dkwX5_whose_3 ++ dktX5_whose_4
def dkwX5_whose_2 : List UInt8 := [54, 5, 3, 54, 6, 21, 6, 42, 180, 0, 116, 162, 0, 56, 42, 28, 21, 6, 182, 1, 186, 54, 7, 42]
abbrev dktX5_whose_2 : List UInt8 := dkwX5_whose_2 ++ dktX5_whose_3
def dkwX5_whose_1 : List UInt8 := [154, 0, 5, 28, 172, 42, 28, 182, 1, 173, 62, 29, 5, 162, 0, 5, 2, 172, 2, 54, 4, 19, 1, 185]
abbrev dktX5_whose_1 : List UInt8 := dkwX5_whose_1 ++ dktX5_whose_2
def dkwX5_whose_0 : List UInt8 := [42, 3, 181, 0, 86, 42, 27, 3, 4, 182, 0, 126, 154, 0, 5, 2, 172, 42, 182, 1, 182, 61, 27]
abbrev dktX5_whose_0 : List UInt8 := dkwX5_whose_0 ++ dktX5_whose_1
theorem dksX5_whose_0 : cX5_whose.data.toList.drop 0 = dktX5_whose_0 := by decide +kernel
theorem dksX5_whose_1 : cX5_whose.data.toList.drop 23 = dktX5_whose_1 := dk_seg dksX5_whose_0 23 rfl rfl
theorem dksX5_whose_2 : cX5_whose.data.toList.drop 47 = dktX5_whose_2 := dk_seg dksX5_whose_1 24 rfl rfl
theorem dksX5_whose_3 : cX5_whose.data.toList.drop 71 = dktX5_whose_3 := dk_seg dksX5_whose_2 24 rfl rfl
theorem dksX5_whose_4 : cX5_whose.data.toList.drop 94 = dktX5_whose_4 := dk_seg dksX5_whose_3 23 rfl rfl
theorem dX5_whose_0 : decode cX5_whose 0 = .ok (.aload_n 0, 1) := dk_42 (dk_at dksX5_whose_0 0 rfl rfl)
theorem dX5_whose_1 : decode cX5_whose 1 = .ok (.iconst 0, 1) := dk_3 (dk_at dksX5_whose_0 1 rfl rfl)
theorem dX5_whose_2 : decode cX5_whose 2 = .ok (.putfield 86, 3) := dk_181 0 86 (dk_at dksX5_whose_0 2 rfl rfl)
theorem dX5_whose_5 : decode cX5_whose 5 = .ok (.aload_n 0, 1) := dk_42 (dk_at dksX5_whose_0 5 rfl rfl)
theorem dX5_whose_6 : decode cX5_whose 6 = .ok (.iload_n 1, 1) := dk_27 (dk_at dksX5_whose_0 6 rfl rfl)
theorem dX5_whose_7 : decode cX5_whose 7 = .ok (.iconst 0, 1) := dk_3 (dk_at dksX5_whose_0 7 rfl rfl)
theorem dX5_whose_8 : decode cX5_whose 8 = .ok (.iconst 1, 1) := dk_4 (dk_at dksX5_whose_0 8 rfl rfl)
theorem dX5_whose_9 : decode cX5_whose 9 = .ok (.invokevirtual 126, 3) := dk_182 0 126 (dk_at dksX5_whose_0 9 rfl rfl)
theorem dX5_whose_12 : decode cX5_whose 12 = .ok (.ifCond .ne 5, 3) := dk_154 0 5 (dk_at dksX5_whose_0 12 rfl rfl)
theorem dX5_whose_15 : decode cX5_whose 15 = .ok (.iconst (-1), 1) := dk_2 (dk_at dksX5_whose_0 15 rfl rfl)
theorem dX5_whose_16 : decode cX5_whose 16 = .ok (.ireturn, 1) := dk_172 (dk_at dksX5_whose_0 16 rfl rfl)
theorem dX5_whose_17 : decode cX5_whose 17 = .ok (.aload_n 0, 1) := dk_42 (dk_at dksX5_whose_0 17 rfl rfl)
theorem dX5_whose_18 : decode cX5_whose 18 = .ok (.invokevirtual 438, 3) := dk_182 1 182 (dk_at dksX5_whose_0 18 rfl rfl)
theorem dX5_whose_21 : decode cX5_whose 21 = .ok (.istore_n 2, 1) := dk_61 (dk_at dksX5_whose_0 21 rfl rfl)
theorem dX5_whose_22 : decode cX5_whose 22 = .ok (.iload_n 1, 1) := dk_27 (dk_at dksX5_whose_0 22 rfl rfl)
theorem dX5_whose_23 : decode cX5_whose 23 = .ok (.ifCond .ne 5, 3) := dk_154 0 5 (dk_at dksX5_whose_1 0 rfl rfl)
theorem dX5_whose_26 : decode cX5_whose 26 = .ok (.iload_n 2, 1) := dk_28 (dk_at dksX5_whose_1 3 rfl rfl)
theorem dX5_whose_27 : decode cX5_whose 27 = .ok (.ireturn, 1) := dk_172 (dk_at dksX5_whose_1 4 rfl rfl)
theorem dX5_whose_28 : decode cX5_whose 28 = .ok (.aload_n 0, 1) := dk_42 (dk_at dksX5_whose_1 5 rfl rfl)
theorem dX5_whose_29 : decode cX5_whose 29 = .ok (.iload_n 2, 1) := dk_28 (dk_at dksX5_whose_1 6 rfl rfl)
theorem dX5_whose_30 : decode cX5_whose 30 = .ok (.invokevirtual 429, 3) := dk_182 1 173 (dk_at dksX5_whose_1 7 rfl rfl)
theorem dX5_whose_33 : decode cX5_whose 33 = .ok (.istore_n 3, 1) := dk_62 (dk_at dksX5_whose_1 10 rfl rfl)
theorem dX5_whose_34 : decode cX5_whose 34 = .ok (.iload_n 3, 1) := dk_29 (dk_at dksX5_whose_1 11 rfl rfl)
theorem dX5_whose_35 : decode cX5_whose 35 = .ok (.iconst 2, 1) := dk_5 (dk_at dksX5_whose_1 12 rfl rfl)
theorem dX5_whose_36 : decode cX5_whose 36 = .ok (.if_icmp .ge 5, 3) := dk_162 0 5 (dk_at dksX5_whose_1 13 rfl rfl)
theorem dX5_whose_39 : decode cX5_whose 39 = .ok (.iconst (-1), 1) := dk_2 (dk_at dksX5_whose_1 16 rfl rfl)
theorem dX5_whose_40 : decode cX5_whose 40 = .ok (.ireturn, 1) := dk_172 (dk_at dksX5_whose_1 17 rfl rfl)
theorem dX5_whose_41 : decode cX5_whose 41 = .ok (.iconst (-1), 1) := dk_2 (dk_at dksX5_whose_1 18 rfl rfl)
theorem dX5_whose_42 : decode cX5_whose 42 = .ok (.istore 4, 2) := dk_54 4 (dk_at dksX5_whose_1 19 rfl rfl)
theorem dX5_whose_44 : decode cX5_whose 44 = .ok (.ldc_w 441, 3) := dk_19 1 185 (dk_at dksX5_whose_1 21 rfl rfl)
theorem dX5_whose_47 : decode cX5_whose 47 = .ok (.istore 5, 2) := dk_54 5 (dk_at dksX5_whose_2 0 rfl rfl)
theorem dX5_whose_49 : decode cX5_whose 49 = .ok (.iconst 0, 1) := dk_3 (dk_at dksX5_whose_2 2 rfl rfl)
theorem dX5_whose_50 : decode cX5_whose 50 = .ok (.istore 6, 2) := dk_54 6 (dk_at dksX5_whose_2 3 rfl rfl)
theorem dX5_whose_52 : decode cX5_whose 52 = .ok (.iload 6, 2) := dk_21 6 (dk_at dksX5_whose_2 5 rfl rfl)
theorem dX5_whose_54 : decode cX5_whose 54 = .ok (.aload_n 0, 1) := dk_42 (dk_at dksX5_whose_2 7 rfl rfl)
theorem dX5_whose_55 : decode cX5_whose 55 = .ok (.getfield 116, 3) := dk_180 0 116 (dk_at dksX5_whose_2 8 rfl rfl)
theorem dX5_whose_58 : decode cX5_whose 58 = .ok (.if_icmp .ge 56, 3) := dk_162 0 56 (dk_at dksX5_whose_2 11 rfl rfl)
theorem dX5_whose_61 : decode cX5_whose 61 = .ok (.aload_n 0, 1) := dk_42 (dk_at dksX5_whose_2 14 rfl rfl)
theorem dX5_whose_62 : decode cX5_whose 62 = .ok (.iload_n 2, 1) := dk_28 (dk_at dksX5_whose_2 15 rfl rfl)
theorem dX5_whose_63 : decode cX5_whose 63 = .ok (.iload 6, 2) := dk_21 6 (dk_at dksX5_whose_2 16 rfl rfl)
theorem dX5_whose_65 : decode cX5_whose 65 = .ok (.invokevirtual 442, 3) := dk_182 1 186 (dk_at dksX5_whose_2 18 rfl rfl)
theorem dX5_whose_68 : decode cX5_whose 68 = .ok (.istore 7, 2) := dk_54 7 (dk_at dksX5_whose_2 21 rfl rfl)
theorem dX5_whose_70 : decode cX5_whose 70 = .ok (.aload_n 0, 1) := dk_42 (dk_at dksX5_whose_2 23 rfl rfl)
theorem dX5_whose_71 : decode cX5_whose 71 = .ok (.iload 7, 2) := dk_21 7 (dk_at dksX5_whose_3 0 rfl rfl)
theorem dX5_whose_73 : decode cX5_whose 73 = .ok (.iload_n 3, 1) := dk_29 (dk_at dksX5_whose_3 2 rfl rfl)
theorem dX5_whose_74 : decode cX5_whose 74 = .ok (.iload 7, 2) := dk_21 7 (dk_at dksX5_whose_3 3 rfl rfl)
theorem dX5_whose_76 : decode cX5_whose 76 = .ok (.isub, 1) := dk_100 (dk_at dksX5_whose_3 5 rfl rfl)
theorem dX5_whose_77 : decode cX5_whose 77 = .ok (.invokevirtual 420, 3) := dk_182 1 164 (dk_at dksX5_whose_3 6 rfl rfl)
theorem dX5_whose_80 : decode cX5_whose 80 = .ok (.istore 8, 2) := dk_54 8 (dk_at dksX5_whose_3 9 rfl rfl)
theorem dX5_whose_82 : decode cX5_whose 82 = .ok (.iload 8, 2) := dk_21 8 (dk_at dksX5_whose_3 11 rfl rfl)
theorem dX5_whose_84 : decode cX5_whose 84 = .ok (.iload 5, 2) := dk_21 5 (dk_at dksX5_whose_3 13 rfl rfl)
theorem dX5_whose_86 : decode cX5_whose 86 = .ok (.if_icmp .ge 8, 3) := dk_162 0 8 (dk_at dksX5_whose_3 15 rfl rfl)
theorem dX5_whose_89 : decode cX5_whose 89 = .ok (.iload 6, 2) := dk_21 6 (dk_at dksX5_whose_3 18 rfl rfl)
theorem dX5_whose_91 : decode cX5_whose 91 = .ok (.goto 5, 3) := dk_167 0 5 (dk_at dksX5_whose_3 20 rfl rfl)
theorem dX5_whose_94 : decode cX5_whose 94 = .ok (.iload 4, 2) := dk_21 4 (dk_at dksX5_whose_4 0 rfl rfl)
theorem dX5_whose_96 : decode cX5_whose 96 = .ok (.istore 4, 2) := dk_54 4 (dk_at dksX5_whose_4 2 rfl rfl)
theorem dX5_whose_98 : decode cX5_whose 98 = .ok (.aload_n 0, 1) := dk_42 (dk_at dksX5_whose_4 4 rfl rfl)
theorem dX5_whose_99 : decode cX5_whose 99 = .ok (.iload 5, 2) := dk_21 5 (dk_at dksX5_whose_4 5 rfl rfl)
theorem dX5_whose_101 : decode cX5_whose 101 = .ok (.iload 8, 2) := dk_21 8 (dk_at dksX5_whose_4 7 rfl rfl)
theorem dX5_whose_103 : decode cX5_whose 103 = .ok (.invokevirtual 323, 3) := dk_182 1 67 (dk_at dksX5_whose_4 9 rfl rfl)
theorem dX5_whose_106 : decode cX5_whose 106 = .ok (.istore 5, 2) := dk_54 5 (dk_at dksX5_whose_4 12 rfl rfl)
theorem dX5_whose_108 : decode cX5_whose 108 = .ok (.iinc 6 1, 3) := dk_132 6 1 (dk_at dksX5_whose_4 14 rfl rfl)
theorem dX5_whose_111 : decode cX5_whose 111 = .ok (.goto (-59), 3) := dk_167 255 197 (dk_at dksX5_whose_4 17 rfl rfl)
theorem dX5_whose_114 : decode cX5_whose 114 = .ok (.iload 4, 2) := dk_21 4 (dk_at dksX5_whose_4 20 rfl rfl)
theorem dX5_whose_116 : decode cX5_whose 116 = .ok (.ireturn, 1) := dk_172 (dk_at dksX5_whose_4 22 rfl rfl)
abbrev cX5_eatersOfAll : ByteArray := prog_22_method_112_code
def yX5_eatersOfAll : MethodName := ⟨RX5, "eatersOfAll", "()I"⟩
def dkwX5_eatersOfAll_3 : List UInt8 := [132, 4, 1, 167, 255, 202, 29, 153, 0, 9, 27, 4, 28, 120, 128, 60, 132, 2, 1, 167, 255, 173, 27, 172]
abbrev dktX5_eatersOfAll_3 : List UInt8 := dkwX5_eatersOfAll_3 ++ []
def dkwX5_eatersOfAll_2 : List UInt8 := [182, 1, 170, 42, 180, 0, 74, 5, 21, 4, 104, 4, 96, 46, 182, 1, 63, 154, 0, 5, 3, 62]
abbrev dktX5_eatersOfAll_2 : List UInt8 := dkwX5_eatersOfAll_2 ++ dktX5_eatersOfAll_3
def dkwX5_eatersOfAll_1 : List UInt8 := [162, 0, 51, 42, 28, 42, 180, 0, 74, 5, 21, 4, 104, 46, 182, 1, 57, 153, 0, 26, 42, 42, 28]
abbrev dktX5_eatersOfAll_1 : List UInt8 := dkwX5_eatersOfAll_1 ++ dktX5_eatersOfAll_2
def dkwX5_eatersOfAll_0 : List UInt8 := [3, 60, 3, 61, 28, 42, 180, 0, 119, 162, 0, 81, 4, 62, 3, 54, 4, 21, 4, 42, 180, 1, 179]
abbrev dktX5_eatersOfAll_0 : List UInt8 := dkwX5_eatersOfAll_0 ++ dktX5_eatersOfAll_1
theorem dksX5_eatersOfAll_0 : cX5_eatersOfAll.data.toList.drop 0 = dktX5_eatersOfAll_0 := by decide +kernel
theorem dksX5_eatersOfAll_1 : cX5_eatersOfAll.data.toList.drop 23 = dktX5_eatersOfAll_1 := dk_seg dksX5_eatersOfAll_0 23 rfl rfl
theorem dksX5_eatersOfAll_2 : cX5_eatersOfAll.data.toList.drop 46 = dktX5_eatersOfAll_2 := dk_seg dksX5_eatersOfAll_1 23 rfl rfl
theorem dksX5_eatersOfAll_3 : cX5_eatersOfAll.data.toList.drop 68 = dktX5_eatersOfAll_3 := dk_seg dksX5_eatersOfAll_2 22 rfl rfl
theorem dX5_eatersOfAll_0 : decode cX5_eatersOfAll 0 = .ok (.iconst 0, 1) := dk_3 (dk_at dksX5_eatersOfAll_0 0 rfl rfl)
theorem dX5_eatersOfAll_1 : decode cX5_eatersOfAll 1 = .ok (.istore_n 1, 1) := dk_60 (dk_at dksX5_eatersOfAll_0 1 rfl rfl)
theorem dX5_eatersOfAll_2 : decode cX5_eatersOfAll 2 = .ok (.iconst 0, 1) := dk_3 (dk_at dksX5_eatersOfAll_0 2 rfl rfl)
theorem dX5_eatersOfAll_3 : decode cX5_eatersOfAll 3 = .ok (.istore_n 2, 1) := dk_61 (dk_at dksX5_eatersOfAll_0 3 rfl rfl)
theorem dX5_eatersOfAll_4 : decode cX5_eatersOfAll 4 = .ok (.iload_n 2, 1) := dk_28 (dk_at dksX5_eatersOfAll_0 4 rfl rfl)
theorem dX5_eatersOfAll_5 : decode cX5_eatersOfAll 5 = .ok (.aload_n 0, 1) := dk_42 (dk_at dksX5_eatersOfAll_0 5 rfl rfl)
theorem dX5_eatersOfAll_6 : decode cX5_eatersOfAll 6 = .ok (.getfield 119, 3) := dk_180 0 119 (dk_at dksX5_eatersOfAll_0 6 rfl rfl)
theorem dX5_eatersOfAll_9 : decode cX5_eatersOfAll 9 = .ok (.if_icmp .ge 81, 3) := dk_162 0 81 (dk_at dksX5_eatersOfAll_0 9 rfl rfl)
theorem dX5_eatersOfAll_12 : decode cX5_eatersOfAll 12 = .ok (.iconst 1, 1) := dk_4 (dk_at dksX5_eatersOfAll_0 12 rfl rfl)
theorem dX5_eatersOfAll_13 : decode cX5_eatersOfAll 13 = .ok (.istore_n 3, 1) := dk_62 (dk_at dksX5_eatersOfAll_0 13 rfl rfl)
theorem dX5_eatersOfAll_14 : decode cX5_eatersOfAll 14 = .ok (.iconst 0, 1) := dk_3 (dk_at dksX5_eatersOfAll_0 14 rfl rfl)
theorem dX5_eatersOfAll_15 : decode cX5_eatersOfAll 15 = .ok (.istore 4, 2) := dk_54 4 (dk_at dksX5_eatersOfAll_0 15 rfl rfl)
theorem dX5_eatersOfAll_17 : decode cX5_eatersOfAll 17 = .ok (.iload 4, 2) := dk_21 4 (dk_at dksX5_eatersOfAll_0 17 rfl rfl)
theorem dX5_eatersOfAll_19 : decode cX5_eatersOfAll 19 = .ok (.aload_n 0, 1) := dk_42 (dk_at dksX5_eatersOfAll_0 19 rfl rfl)
theorem dX5_eatersOfAll_20 : decode cX5_eatersOfAll 20 = .ok (.getfield 435, 3) := dk_180 1 179 (dk_at dksX5_eatersOfAll_0 20 rfl rfl)
theorem dX5_eatersOfAll_23 : decode cX5_eatersOfAll 23 = .ok (.if_icmp .ge 51, 3) := dk_162 0 51 (dk_at dksX5_eatersOfAll_1 0 rfl rfl)
theorem dX5_eatersOfAll_26 : decode cX5_eatersOfAll 26 = .ok (.aload_n 0, 1) := dk_42 (dk_at dksX5_eatersOfAll_1 3 rfl rfl)
theorem dX5_eatersOfAll_27 : decode cX5_eatersOfAll 27 = .ok (.iload_n 2, 1) := dk_28 (dk_at dksX5_eatersOfAll_1 4 rfl rfl)
theorem dX5_eatersOfAll_28 : decode cX5_eatersOfAll 28 = .ok (.aload_n 0, 1) := dk_42 (dk_at dksX5_eatersOfAll_1 5 rfl rfl)
theorem dX5_eatersOfAll_29 : decode cX5_eatersOfAll 29 = .ok (.getfield 74, 3) := dk_180 0 74 (dk_at dksX5_eatersOfAll_1 6 rfl rfl)
theorem dX5_eatersOfAll_32 : decode cX5_eatersOfAll 32 = .ok (.iconst 2, 1) := dk_5 (dk_at dksX5_eatersOfAll_1 9 rfl rfl)
theorem dX5_eatersOfAll_33 : decode cX5_eatersOfAll 33 = .ok (.iload 4, 2) := dk_21 4 (dk_at dksX5_eatersOfAll_1 10 rfl rfl)
theorem dX5_eatersOfAll_35 : decode cX5_eatersOfAll 35 = .ok (.imul, 1) := dk_104 (dk_at dksX5_eatersOfAll_1 12 rfl rfl)
theorem dX5_eatersOfAll_36 : decode cX5_eatersOfAll 36 = .ok (.iaload, 1) := dk_46 (dk_at dksX5_eatersOfAll_1 13 rfl rfl)
theorem dX5_eatersOfAll_37 : decode cX5_eatersOfAll 37 = .ok (.invokevirtual 313, 3) := dk_182 1 57 (dk_at dksX5_eatersOfAll_1 14 rfl rfl)
theorem dX5_eatersOfAll_40 : decode cX5_eatersOfAll 40 = .ok (.ifCond .eq 26, 3) := dk_153 0 26 (dk_at dksX5_eatersOfAll_1 17 rfl rfl)
theorem dX5_eatersOfAll_43 : decode cX5_eatersOfAll 43 = .ok (.aload_n 0, 1) := dk_42 (dk_at dksX5_eatersOfAll_1 20 rfl rfl)
theorem dX5_eatersOfAll_44 : decode cX5_eatersOfAll 44 = .ok (.aload_n 0, 1) := dk_42 (dk_at dksX5_eatersOfAll_1 21 rfl rfl)
theorem dX5_eatersOfAll_45 : decode cX5_eatersOfAll 45 = .ok (.iload_n 2, 1) := dk_28 (dk_at dksX5_eatersOfAll_1 22 rfl rfl)
theorem dX5_eatersOfAll_46 : decode cX5_eatersOfAll 46 = .ok (.invokevirtual 426, 3) := dk_182 1 170 (dk_at dksX5_eatersOfAll_2 0 rfl rfl)
theorem dX5_eatersOfAll_49 : decode cX5_eatersOfAll 49 = .ok (.aload_n 0, 1) := dk_42 (dk_at dksX5_eatersOfAll_2 3 rfl rfl)
theorem dX5_eatersOfAll_50 : decode cX5_eatersOfAll 50 = .ok (.getfield 74, 3) := dk_180 0 74 (dk_at dksX5_eatersOfAll_2 4 rfl rfl)
theorem dX5_eatersOfAll_53 : decode cX5_eatersOfAll 53 = .ok (.iconst 2, 1) := dk_5 (dk_at dksX5_eatersOfAll_2 7 rfl rfl)
theorem dX5_eatersOfAll_54 : decode cX5_eatersOfAll 54 = .ok (.iload 4, 2) := dk_21 4 (dk_at dksX5_eatersOfAll_2 8 rfl rfl)
theorem dX5_eatersOfAll_56 : decode cX5_eatersOfAll 56 = .ok (.imul, 1) := dk_104 (dk_at dksX5_eatersOfAll_2 10 rfl rfl)
theorem dX5_eatersOfAll_57 : decode cX5_eatersOfAll 57 = .ok (.iconst 1, 1) := dk_4 (dk_at dksX5_eatersOfAll_2 11 rfl rfl)
theorem dX5_eatersOfAll_58 : decode cX5_eatersOfAll 58 = .ok (.iadd, 1) := dk_96 (dk_at dksX5_eatersOfAll_2 12 rfl rfl)
theorem dX5_eatersOfAll_59 : decode cX5_eatersOfAll 59 = .ok (.iaload, 1) := dk_46 (dk_at dksX5_eatersOfAll_2 13 rfl rfl)
theorem dX5_eatersOfAll_60 : decode cX5_eatersOfAll 60 = .ok (.invokevirtual 319, 3) := dk_182 1 63 (dk_at dksX5_eatersOfAll_2 14 rfl rfl)
theorem dX5_eatersOfAll_63 : decode cX5_eatersOfAll 63 = .ok (.ifCond .ne 5, 3) := dk_154 0 5 (dk_at dksX5_eatersOfAll_2 17 rfl rfl)
theorem dX5_eatersOfAll_66 : decode cX5_eatersOfAll 66 = .ok (.iconst 0, 1) := dk_3 (dk_at dksX5_eatersOfAll_2 20 rfl rfl)
theorem dX5_eatersOfAll_67 : decode cX5_eatersOfAll 67 = .ok (.istore_n 3, 1) := dk_62 (dk_at dksX5_eatersOfAll_2 21 rfl rfl)
theorem dX5_eatersOfAll_68 : decode cX5_eatersOfAll 68 = .ok (.iinc 4 1, 3) := dk_132 4 1 (dk_at dksX5_eatersOfAll_3 0 rfl rfl)
theorem dX5_eatersOfAll_71 : decode cX5_eatersOfAll 71 = .ok (.goto (-54), 3) := dk_167 255 202 (dk_at dksX5_eatersOfAll_3 3 rfl rfl)
theorem dX5_eatersOfAll_74 : decode cX5_eatersOfAll 74 = .ok (.iload_n 3, 1) := dk_29 (dk_at dksX5_eatersOfAll_3 6 rfl rfl)
theorem dX5_eatersOfAll_75 : decode cX5_eatersOfAll 75 = .ok (.ifCond .eq 9, 3) := dk_153 0 9 (dk_at dksX5_eatersOfAll_3 7 rfl rfl)
theorem dX5_eatersOfAll_78 : decode cX5_eatersOfAll 78 = .ok (.iload_n 1, 1) := dk_27 (dk_at dksX5_eatersOfAll_3 10 rfl rfl)
theorem dX5_eatersOfAll_79 : decode cX5_eatersOfAll 79 = .ok (.iconst 1, 1) := dk_4 (dk_at dksX5_eatersOfAll_3 11 rfl rfl)
theorem dX5_eatersOfAll_80 : decode cX5_eatersOfAll 80 = .ok (.iload_n 2, 1) := dk_28 (dk_at dksX5_eatersOfAll_3 12 rfl rfl)
theorem dX5_eatersOfAll_81 : decode cX5_eatersOfAll 81 = .ok (.ishl, 1) := dk_120 (dk_at dksX5_eatersOfAll_3 13 rfl rfl)
theorem dX5_eatersOfAll_82 : decode cX5_eatersOfAll 82 = .ok (.ior, 1) := dk_128 (dk_at dksX5_eatersOfAll_3 14 rfl rfl)
theorem dX5_eatersOfAll_83 : decode cX5_eatersOfAll 83 = .ok (.istore_n 1, 1) := dk_60 (dk_at dksX5_eatersOfAll_3 15 rfl rfl)
theorem dX5_eatersOfAll_84 : decode cX5_eatersOfAll 84 = .ok (.iinc 2 1, 3) := dk_132 2 1 (dk_at dksX5_eatersOfAll_3 16 rfl rfl)
theorem dX5_eatersOfAll_87 : decode cX5_eatersOfAll 87 = .ok (.goto (-83), 3) := dk_167 255 173 (dk_at dksX5_eatersOfAll_3 19 rfl rfl)
theorem dX5_eatersOfAll_90 : decode cX5_eatersOfAll 90 = .ok (.iload_n 1, 1) := dk_27 (dk_at dksX5_eatersOfAll_3 22 rfl rfl)
theorem dX5_eatersOfAll_91 : decode cX5_eatersOfAll 91 = .ok (.ireturn, 1) := dk_172 (dk_at dksX5_eatersOfAll_3 23 rfl rfl)
abbrev cX5_likersOf : ByteArray := prog_22_method_113_code
def yX5_likersOf : MethodName := ⟨RX5, "likersOf", "(II)I"⟩
def dkwX5_likersOf_1 : List UInt8 := [42, 21, 4, 28, 182, 1, 57, 8, 161, 0, 7, 29, 4, 96, 62, 132, 4, 1, 167, 255, 219, 29, 172]
abbrev dktX5_likersOf_1 : List UInt8 := dkwX5_likersOf_1 ++ []
def dkwX5_likersOf_0 : List UInt8 := [3, 62, 3, 54, 4, 21, 4, 42, 180, 0, 119, 162, 0, 34, 42, 27, 21, 4, 182, 1, 63, 153, 0, 18]
abbrev dktX5_likersOf_0 : List UInt8 := dkwX5_likersOf_0 ++ dktX5_likersOf_1
theorem dksX5_likersOf_0 : cX5_likersOf.data.toList.drop 0 = dktX5_likersOf_0 := by decide +kernel
theorem dksX5_likersOf_1 : cX5_likersOf.data.toList.drop 24 = dktX5_likersOf_1 := dk_seg dksX5_likersOf_0 24 rfl rfl
theorem dX5_likersOf_0 : decode cX5_likersOf 0 = .ok (.iconst 0, 1) := dk_3 (dk_at dksX5_likersOf_0 0 rfl rfl)
theorem dX5_likersOf_1 : decode cX5_likersOf 1 = .ok (.istore_n 3, 1) := dk_62 (dk_at dksX5_likersOf_0 1 rfl rfl)
theorem dX5_likersOf_2 : decode cX5_likersOf 2 = .ok (.iconst 0, 1) := dk_3 (dk_at dksX5_likersOf_0 2 rfl rfl)
theorem dX5_likersOf_3 : decode cX5_likersOf 3 = .ok (.istore 4, 2) := dk_54 4 (dk_at dksX5_likersOf_0 3 rfl rfl)
theorem dX5_likersOf_5 : decode cX5_likersOf 5 = .ok (.iload 4, 2) := dk_21 4 (dk_at dksX5_likersOf_0 5 rfl rfl)
theorem dX5_likersOf_7 : decode cX5_likersOf 7 = .ok (.aload_n 0, 1) := dk_42 (dk_at dksX5_likersOf_0 7 rfl rfl)
theorem dX5_likersOf_8 : decode cX5_likersOf 8 = .ok (.getfield 119, 3) := dk_180 0 119 (dk_at dksX5_likersOf_0 8 rfl rfl)
theorem dX5_likersOf_11 : decode cX5_likersOf 11 = .ok (.if_icmp .ge 34, 3) := dk_162 0 34 (dk_at dksX5_likersOf_0 11 rfl rfl)
theorem dX5_likersOf_14 : decode cX5_likersOf 14 = .ok (.aload_n 0, 1) := dk_42 (dk_at dksX5_likersOf_0 14 rfl rfl)
theorem dX5_likersOf_15 : decode cX5_likersOf 15 = .ok (.iload_n 1, 1) := dk_27 (dk_at dksX5_likersOf_0 15 rfl rfl)
theorem dX5_likersOf_16 : decode cX5_likersOf 16 = .ok (.iload 4, 2) := dk_21 4 (dk_at dksX5_likersOf_0 16 rfl rfl)
theorem dX5_likersOf_18 : decode cX5_likersOf 18 = .ok (.invokevirtual 319, 3) := dk_182 1 63 (dk_at dksX5_likersOf_0 18 rfl rfl)
theorem dX5_likersOf_21 : decode cX5_likersOf 21 = .ok (.ifCond .eq 18, 3) := dk_153 0 18 (dk_at dksX5_likersOf_0 21 rfl rfl)
theorem dX5_likersOf_24 : decode cX5_likersOf 24 = .ok (.aload_n 0, 1) := dk_42 (dk_at dksX5_likersOf_1 0 rfl rfl)
theorem dX5_likersOf_25 : decode cX5_likersOf 25 = .ok (.iload 4, 2) := dk_21 4 (dk_at dksX5_likersOf_1 1 rfl rfl)
theorem dX5_likersOf_27 : decode cX5_likersOf 27 = .ok (.iload_n 2, 1) := dk_28 (dk_at dksX5_likersOf_1 3 rfl rfl)
theorem dX5_likersOf_28 : decode cX5_likersOf 28 = .ok (.invokevirtual 313, 3) := dk_182 1 57 (dk_at dksX5_likersOf_1 4 rfl rfl)
theorem dX5_likersOf_31 : decode cX5_likersOf 31 = .ok (.iconst 5, 1) := dk_8 (dk_at dksX5_likersOf_1 7 rfl rfl)
theorem dX5_likersOf_32 : decode cX5_likersOf 32 = .ok (.if_icmp .lt 7, 3) := dk_161 0 7 (dk_at dksX5_likersOf_1 8 rfl rfl)
theorem dX5_likersOf_35 : decode cX5_likersOf 35 = .ok (.iload_n 3, 1) := dk_29 (dk_at dksX5_likersOf_1 11 rfl rfl)
theorem dX5_likersOf_36 : decode cX5_likersOf 36 = .ok (.iconst 1, 1) := dk_4 (dk_at dksX5_likersOf_1 12 rfl rfl)
theorem dX5_likersOf_37 : decode cX5_likersOf 37 = .ok (.iadd, 1) := dk_96 (dk_at dksX5_likersOf_1 13 rfl rfl)
theorem dX5_likersOf_38 : decode cX5_likersOf 38 = .ok (.istore_n 3, 1) := dk_62 (dk_at dksX5_likersOf_1 14 rfl rfl)
theorem dX5_likersOf_39 : decode cX5_likersOf 39 = .ok (.iinc 4 1, 3) := dk_132 4 1 (dk_at dksX5_likersOf_1 15 rfl rfl)
theorem dX5_likersOf_42 : decode cX5_likersOf 42 = .ok (.goto (-37), 3) := dk_167 255 219 (dk_at dksX5_likersOf_1 18 rfl rfl)
theorem dX5_likersOf_45 : decode cX5_likersOf 45 = .ok (.iload_n 3, 1) := dk_29 (dk_at dksX5_likersOf_1 21 rfl rfl)
theorem dX5_likersOf_46 : decode cX5_likersOf 46 = .ok (.ireturn, 1) := dk_172 (dk_at dksX5_likersOf_1 22 rfl rfl)
abbrev cX5_left : ByteArray := prog_22_method_115_code
def yX5_left : MethodName := ⟨RX5, "left", "(I)I"⟩
def dkwX5_left_7 : List UInt8 := [167, 255, 233, 132, 2, 1, 167, 255, 136, 42, 180, 0, 77, 27, 46, 172]
abbrev dktX5_left_7 : List UInt8 := dkwX5_left_7 ++ []
def dkwX5_left_6 : List UInt8 := [21, 4, 27, 163, 0, 23, 42, 180, 0, 77, 21, 4, 42, 180, 0, 80, 21, 4, 46, 79, 132, 4, 1]
abbrev dktX5_left_6 : List UInt8 := dkwX5_left_6 ++ dktX5_left_7
def dkwX5_left_5 : List UInt8 := [100, 46, 96, 19, 1, 189, 112, 79, 132, 5, 1, 167, 255, 211, 132, 4, 1, 167, 255, 188, 3, 54, 4]
abbrev dktX5_left_5 : List UInt8 := dkwX5_left_5 ++ dktX5_left_6
def dkwX5_left_4 : List UInt8 := [163, 0, 38, 42, 180, 0, 80, 21, 4, 42, 180, 0, 80, 21, 4, 46, 42, 180, 0, 77, 21, 4, 21, 5]
abbrev dktX5_left_4 : List UInt8 := dkwX5_left_4 ++ dktX5_left_5
def dkwX5_left_3 : List UInt8 := [163, 0, 68, 42, 180, 0, 80, 21, 4, 3, 79, 3, 54, 5, 21, 5, 29, 163, 0, 45, 21, 5, 21, 4]
abbrev dktX5_left_3 : List UInt8 := dkwX5_left_3 ++ dktX5_left_4
def dkwX5_left_2 : List UInt8 := [3, 61, 28, 42, 180, 0, 119, 162, 0, 118, 42, 28, 182, 1, 107, 62, 3, 54, 4, 21, 4, 27]
abbrev dktX5_left_2 : List UInt8 := dkwX5_left_2 ++ dktX5_left_3
def dkwX5_left_1 : List UInt8 := [163, 0, 24, 42, 180, 0, 77, 28, 28, 154, 0, 7, 4, 167, 0, 4, 3, 79, 132, 2, 1, 167, 255, 233]
abbrev dktX5_left_1 : List UInt8 := dkwX5_left_1 ++ dktX5_left_2
def dkwX5_left_0 : List UInt8 := [42, 3, 181, 0, 86, 42, 27, 3, 16, 99, 182, 0, 126, 154, 0, 5, 2, 172, 3, 61, 28, 27]
abbrev dktX5_left_0 : List UInt8 := dkwX5_left_0 ++ dktX5_left_1
theorem dksX5_left_0 : cX5_left.data.toList.drop 0 = dktX5_left_0 := by decide +kernel
theorem dksX5_left_1 : cX5_left.data.toList.drop 22 = dktX5_left_1 := dk_seg dksX5_left_0 22 rfl rfl
theorem dksX5_left_2 : cX5_left.data.toList.drop 46 = dktX5_left_2 := dk_seg dksX5_left_1 24 rfl rfl
theorem dksX5_left_3 : cX5_left.data.toList.drop 68 = dktX5_left_3 := dk_seg dksX5_left_2 22 rfl rfl
theorem dksX5_left_4 : cX5_left.data.toList.drop 92 = dktX5_left_4 := dk_seg dksX5_left_3 24 rfl rfl
theorem dksX5_left_5 : cX5_left.data.toList.drop 116 = dktX5_left_5 := dk_seg dksX5_left_4 24 rfl rfl
theorem dksX5_left_6 : cX5_left.data.toList.drop 139 = dktX5_left_6 := dk_seg dksX5_left_5 23 rfl rfl
theorem dksX5_left_7 : cX5_left.data.toList.drop 162 = dktX5_left_7 := dk_seg dksX5_left_6 23 rfl rfl
theorem dX5_left_0 : decode cX5_left 0 = .ok (.aload_n 0, 1) := dk_42 (dk_at dksX5_left_0 0 rfl rfl)
theorem dX5_left_1 : decode cX5_left 1 = .ok (.iconst 0, 1) := dk_3 (dk_at dksX5_left_0 1 rfl rfl)
theorem dX5_left_2 : decode cX5_left 2 = .ok (.putfield 86, 3) := dk_181 0 86 (dk_at dksX5_left_0 2 rfl rfl)
theorem dX5_left_5 : decode cX5_left 5 = .ok (.aload_n 0, 1) := dk_42 (dk_at dksX5_left_0 5 rfl rfl)
theorem dX5_left_6 : decode cX5_left 6 = .ok (.iload_n 1, 1) := dk_27 (dk_at dksX5_left_0 6 rfl rfl)
theorem dX5_left_7 : decode cX5_left 7 = .ok (.iconst 0, 1) := dk_3 (dk_at dksX5_left_0 7 rfl rfl)
theorem dX5_left_8 : decode cX5_left 8 = .ok (.bipush 99, 2) := dk_16 99 (dk_at dksX5_left_0 8 rfl rfl)
theorem dX5_left_10 : decode cX5_left 10 = .ok (.invokevirtual 126, 3) := dk_182 0 126 (dk_at dksX5_left_0 10 rfl rfl)
theorem dX5_left_13 : decode cX5_left 13 = .ok (.ifCond .ne 5, 3) := dk_154 0 5 (dk_at dksX5_left_0 13 rfl rfl)
theorem dX5_left_16 : decode cX5_left 16 = .ok (.iconst (-1), 1) := dk_2 (dk_at dksX5_left_0 16 rfl rfl)
theorem dX5_left_17 : decode cX5_left 17 = .ok (.ireturn, 1) := dk_172 (dk_at dksX5_left_0 17 rfl rfl)
theorem dX5_left_18 : decode cX5_left 18 = .ok (.iconst 0, 1) := dk_3 (dk_at dksX5_left_0 18 rfl rfl)
theorem dX5_left_19 : decode cX5_left 19 = .ok (.istore_n 2, 1) := dk_61 (dk_at dksX5_left_0 19 rfl rfl)
theorem dX5_left_20 : decode cX5_left 20 = .ok (.iload_n 2, 1) := dk_28 (dk_at dksX5_left_0 20 rfl rfl)
theorem dX5_left_21 : decode cX5_left 21 = .ok (.iload_n 1, 1) := dk_27 (dk_at dksX5_left_0 21 rfl rfl)
theorem dX5_left_22 : decode cX5_left 22 = .ok (.if_icmp .gt 24, 3) := dk_163 0 24 (dk_at dksX5_left_1 0 rfl rfl)
theorem dX5_left_25 : decode cX5_left 25 = .ok (.aload_n 0, 1) := dk_42 (dk_at dksX5_left_1 3 rfl rfl)
theorem dX5_left_26 : decode cX5_left 26 = .ok (.getfield 77, 3) := dk_180 0 77 (dk_at dksX5_left_1 4 rfl rfl)
theorem dX5_left_29 : decode cX5_left 29 = .ok (.iload_n 2, 1) := dk_28 (dk_at dksX5_left_1 7 rfl rfl)
theorem dX5_left_30 : decode cX5_left 30 = .ok (.iload_n 2, 1) := dk_28 (dk_at dksX5_left_1 8 rfl rfl)
theorem dX5_left_31 : decode cX5_left 31 = .ok (.ifCond .ne 7, 3) := dk_154 0 7 (dk_at dksX5_left_1 9 rfl rfl)
theorem dX5_left_34 : decode cX5_left 34 = .ok (.iconst 1, 1) := dk_4 (dk_at dksX5_left_1 12 rfl rfl)
theorem dX5_left_35 : decode cX5_left 35 = .ok (.goto 4, 3) := dk_167 0 4 (dk_at dksX5_left_1 13 rfl rfl)
theorem dX5_left_38 : decode cX5_left 38 = .ok (.iconst 0, 1) := dk_3 (dk_at dksX5_left_1 16 rfl rfl)
theorem dX5_left_39 : decode cX5_left 39 = .ok (.iastore, 1) := dk_79 (dk_at dksX5_left_1 17 rfl rfl)
theorem dX5_left_40 : decode cX5_left 40 = .ok (.iinc 2 1, 3) := dk_132 2 1 (dk_at dksX5_left_1 18 rfl rfl)
theorem dX5_left_43 : decode cX5_left 43 = .ok (.goto (-23), 3) := dk_167 255 233 (dk_at dksX5_left_1 21 rfl rfl)
theorem dX5_left_46 : decode cX5_left 46 = .ok (.iconst 0, 1) := dk_3 (dk_at dksX5_left_2 0 rfl rfl)
theorem dX5_left_47 : decode cX5_left 47 = .ok (.istore_n 2, 1) := dk_61 (dk_at dksX5_left_2 1 rfl rfl)
theorem dX5_left_48 : decode cX5_left 48 = .ok (.iload_n 2, 1) := dk_28 (dk_at dksX5_left_2 2 rfl rfl)
theorem dX5_left_49 : decode cX5_left 49 = .ok (.aload_n 0, 1) := dk_42 (dk_at dksX5_left_2 3 rfl rfl)
theorem dX5_left_50 : decode cX5_left 50 = .ok (.getfield 119, 3) := dk_180 0 119 (dk_at dksX5_left_2 4 rfl rfl)
theorem dX5_left_53 : decode cX5_left 53 = .ok (.if_icmp .ge 118, 3) := dk_162 0 118 (dk_at dksX5_left_2 7 rfl rfl)
theorem dX5_left_56 : decode cX5_left 56 = .ok (.aload_n 0, 1) := dk_42 (dk_at dksX5_left_2 10 rfl rfl)
theorem dX5_left_57 : decode cX5_left 57 = .ok (.iload_n 2, 1) := dk_28 (dk_at dksX5_left_2 11 rfl rfl)
theorem dX5_left_58 : decode cX5_left 58 = .ok (.invokevirtual 363, 3) := dk_182 1 107 (dk_at dksX5_left_2 12 rfl rfl)
theorem dX5_left_61 : decode cX5_left 61 = .ok (.istore_n 3, 1) := dk_62 (dk_at dksX5_left_2 15 rfl rfl)
theorem dX5_left_62 : decode cX5_left 62 = .ok (.iconst 0, 1) := dk_3 (dk_at dksX5_left_2 16 rfl rfl)
theorem dX5_left_63 : decode cX5_left 63 = .ok (.istore 4, 2) := dk_54 4 (dk_at dksX5_left_2 17 rfl rfl)
theorem dX5_left_65 : decode cX5_left 65 = .ok (.iload 4, 2) := dk_21 4 (dk_at dksX5_left_2 19 rfl rfl)
theorem dX5_left_67 : decode cX5_left 67 = .ok (.iload_n 1, 1) := dk_27 (dk_at dksX5_left_2 21 rfl rfl)
theorem dX5_left_68 : decode cX5_left 68 = .ok (.if_icmp .gt 68, 3) := dk_163 0 68 (dk_at dksX5_left_3 0 rfl rfl)
theorem dX5_left_71 : decode cX5_left 71 = .ok (.aload_n 0, 1) := dk_42 (dk_at dksX5_left_3 3 rfl rfl)
theorem dX5_left_72 : decode cX5_left 72 = .ok (.getfield 80, 3) := dk_180 0 80 (dk_at dksX5_left_3 4 rfl rfl)
theorem dX5_left_75 : decode cX5_left 75 = .ok (.iload 4, 2) := dk_21 4 (dk_at dksX5_left_3 7 rfl rfl)
theorem dX5_left_77 : decode cX5_left 77 = .ok (.iconst 0, 1) := dk_3 (dk_at dksX5_left_3 9 rfl rfl)
theorem dX5_left_78 : decode cX5_left 78 = .ok (.iastore, 1) := dk_79 (dk_at dksX5_left_3 10 rfl rfl)
theorem dX5_left_79 : decode cX5_left 79 = .ok (.iconst 0, 1) := dk_3 (dk_at dksX5_left_3 11 rfl rfl)
theorem dX5_left_80 : decode cX5_left 80 = .ok (.istore 5, 2) := dk_54 5 (dk_at dksX5_left_3 12 rfl rfl)
theorem dX5_left_82 : decode cX5_left 82 = .ok (.iload 5, 2) := dk_21 5 (dk_at dksX5_left_3 14 rfl rfl)
theorem dX5_left_84 : decode cX5_left 84 = .ok (.iload_n 3, 1) := dk_29 (dk_at dksX5_left_3 16 rfl rfl)
theorem dX5_left_85 : decode cX5_left 85 = .ok (.if_icmp .gt 45, 3) := dk_163 0 45 (dk_at dksX5_left_3 17 rfl rfl)
theorem dX5_left_88 : decode cX5_left 88 = .ok (.iload 5, 2) := dk_21 5 (dk_at dksX5_left_3 20 rfl rfl)
theorem dX5_left_90 : decode cX5_left 90 = .ok (.iload 4, 2) := dk_21 4 (dk_at dksX5_left_3 22 rfl rfl)
theorem dX5_left_92 : decode cX5_left 92 = .ok (.if_icmp .gt 38, 3) := dk_163 0 38 (dk_at dksX5_left_4 0 rfl rfl)
theorem dX5_left_95 : decode cX5_left 95 = .ok (.aload_n 0, 1) := dk_42 (dk_at dksX5_left_4 3 rfl rfl)
theorem dX5_left_96 : decode cX5_left 96 = .ok (.getfield 80, 3) := dk_180 0 80 (dk_at dksX5_left_4 4 rfl rfl)
theorem dX5_left_99 : decode cX5_left 99 = .ok (.iload 4, 2) := dk_21 4 (dk_at dksX5_left_4 7 rfl rfl)
theorem dX5_left_101 : decode cX5_left 101 = .ok (.aload_n 0, 1) := dk_42 (dk_at dksX5_left_4 9 rfl rfl)
theorem dX5_left_102 : decode cX5_left 102 = .ok (.getfield 80, 3) := dk_180 0 80 (dk_at dksX5_left_4 10 rfl rfl)
theorem dX5_left_105 : decode cX5_left 105 = .ok (.iload 4, 2) := dk_21 4 (dk_at dksX5_left_4 13 rfl rfl)
theorem dX5_left_107 : decode cX5_left 107 = .ok (.iaload, 1) := dk_46 (dk_at dksX5_left_4 15 rfl rfl)
theorem dX5_left_108 : decode cX5_left 108 = .ok (.aload_n 0, 1) := dk_42 (dk_at dksX5_left_4 16 rfl rfl)
theorem dX5_left_109 : decode cX5_left 109 = .ok (.getfield 77, 3) := dk_180 0 77 (dk_at dksX5_left_4 17 rfl rfl)
theorem dX5_left_112 : decode cX5_left 112 = .ok (.iload 4, 2) := dk_21 4 (dk_at dksX5_left_4 20 rfl rfl)
theorem dX5_left_114 : decode cX5_left 114 = .ok (.iload 5, 2) := dk_21 5 (dk_at dksX5_left_4 22 rfl rfl)
theorem dX5_left_116 : decode cX5_left 116 = .ok (.isub, 1) := dk_100 (dk_at dksX5_left_5 0 rfl rfl)
theorem dX5_left_117 : decode cX5_left 117 = .ok (.iaload, 1) := dk_46 (dk_at dksX5_left_5 1 rfl rfl)
theorem dX5_left_118 : decode cX5_left 118 = .ok (.iadd, 1) := dk_96 (dk_at dksX5_left_5 2 rfl rfl)
theorem dX5_left_119 : decode cX5_left 119 = .ok (.ldc_w 445, 3) := dk_19 1 189 (dk_at dksX5_left_5 3 rfl rfl)
theorem dX5_left_122 : decode cX5_left 122 = .ok (.irem, 1) := dk_112 (dk_at dksX5_left_5 6 rfl rfl)
theorem dX5_left_123 : decode cX5_left 123 = .ok (.iastore, 1) := dk_79 (dk_at dksX5_left_5 7 rfl rfl)
theorem dX5_left_124 : decode cX5_left 124 = .ok (.iinc 5 1, 3) := dk_132 5 1 (dk_at dksX5_left_5 8 rfl rfl)
theorem dX5_left_127 : decode cX5_left 127 = .ok (.goto (-45), 3) := dk_167 255 211 (dk_at dksX5_left_5 11 rfl rfl)
theorem dX5_left_130 : decode cX5_left 130 = .ok (.iinc 4 1, 3) := dk_132 4 1 (dk_at dksX5_left_5 14 rfl rfl)
theorem dX5_left_133 : decode cX5_left 133 = .ok (.goto (-68), 3) := dk_167 255 188 (dk_at dksX5_left_5 17 rfl rfl)
theorem dX5_left_136 : decode cX5_left 136 = .ok (.iconst 0, 1) := dk_3 (dk_at dksX5_left_5 20 rfl rfl)
theorem dX5_left_137 : decode cX5_left 137 = .ok (.istore 4, 2) := dk_54 4 (dk_at dksX5_left_5 21 rfl rfl)
theorem dX5_left_139 : decode cX5_left 139 = .ok (.iload 4, 2) := dk_21 4 (dk_at dksX5_left_6 0 rfl rfl)
theorem dX5_left_141 : decode cX5_left 141 = .ok (.iload_n 1, 1) := dk_27 (dk_at dksX5_left_6 2 rfl rfl)
theorem dX5_left_142 : decode cX5_left 142 = .ok (.if_icmp .gt 23, 3) := dk_163 0 23 (dk_at dksX5_left_6 3 rfl rfl)
theorem dX5_left_145 : decode cX5_left 145 = .ok (.aload_n 0, 1) := dk_42 (dk_at dksX5_left_6 6 rfl rfl)
theorem dX5_left_146 : decode cX5_left 146 = .ok (.getfield 77, 3) := dk_180 0 77 (dk_at dksX5_left_6 7 rfl rfl)
theorem dX5_left_149 : decode cX5_left 149 = .ok (.iload 4, 2) := dk_21 4 (dk_at dksX5_left_6 10 rfl rfl)
theorem dX5_left_151 : decode cX5_left 151 = .ok (.aload_n 0, 1) := dk_42 (dk_at dksX5_left_6 12 rfl rfl)
theorem dX5_left_152 : decode cX5_left 152 = .ok (.getfield 80, 3) := dk_180 0 80 (dk_at dksX5_left_6 13 rfl rfl)
theorem dX5_left_155 : decode cX5_left 155 = .ok (.iload 4, 2) := dk_21 4 (dk_at dksX5_left_6 16 rfl rfl)
theorem dX5_left_157 : decode cX5_left 157 = .ok (.iaload, 1) := dk_46 (dk_at dksX5_left_6 18 rfl rfl)
theorem dX5_left_158 : decode cX5_left 158 = .ok (.iastore, 1) := dk_79 (dk_at dksX5_left_6 19 rfl rfl)
theorem dX5_left_159 : decode cX5_left 159 = .ok (.iinc 4 1, 3) := dk_132 4 1 (dk_at dksX5_left_6 20 rfl rfl)
theorem dX5_left_162 : decode cX5_left 162 = .ok (.goto (-23), 3) := dk_167 255 233 (dk_at dksX5_left_7 0 rfl rfl)
theorem dX5_left_165 : decode cX5_left 165 = .ok (.iinc 2 1, 3) := dk_132 2 1 (dk_at dksX5_left_7 3 rfl rfl)
theorem dX5_left_168 : decode cX5_left 168 = .ok (.goto (-120), 3) := dk_167 255 136 (dk_at dksX5_left_7 6 rfl rfl)
theorem dX5_left_171 : decode cX5_left 171 = .ok (.aload_n 0, 1) := dk_42 (dk_at dksX5_left_7 9 rfl rfl)
theorem dX5_left_172 : decode cX5_left 172 = .ok (.getfield 77, 3) := dk_180 0 77 (dk_at dksX5_left_7 10 rfl rfl)
theorem dX5_left_175 : decode cX5_left 175 = .ok (.iload_n 1, 1) := dk_27 (dk_at dksX5_left_7 13 rfl rfl)
theorem dX5_left_176 : decode cX5_left 176 = .ok (.iaload, 1) := dk_46 (dk_at dksX5_left_7 14 rfl rfl)
theorem dX5_left_177 : decode cX5_left 177 = .ok (.ireturn, 1) := dk_172 (dk_at dksX5_left_7 15 rfl rfl)
abbrev cX5_rules : ByteArray := prog_22_method_118_code
def yX5_rules : MethodName := ⟨RX5, "rules", "(I)I"⟩
def dkwX5_rules_3 : List UInt8 := [27, 4, 160, 0, 7, 28, 167, 0, 8, 42, 28, 182, 1, 173, 172]
abbrev dktX5_rules_3 : List UInt8 := dkwX5_rules_3 ++ []
def dkwX5_rules_2 : List UInt8 := [162, 0, 13, 42, 29, 182, 1, 193, 153, 0, 5, 29, 61, 132, 3, 1, 167, 255, 215, 28, 2, 159, 0, 8]
abbrev dktX5_rules_2 : List UInt8 := dkwX5_rules_2 ++ dktX5_rules_3
def dkwX5_rules_1 : List UInt8 := [180, 0, 116, 120, 162, 0, 37, 28, 2, 159, 0, 16, 42, 29, 182, 1, 173, 42, 28, 182, 1, 173]
abbrev dktX5_rules_1 : List UInt8 := dkwX5_rules_1 ++ dktX5_rules_2
def dkwX5_rules_0 : List UInt8 := [42, 3, 181, 0, 86, 42, 27, 3, 4, 182, 0, 126, 154, 0, 5, 2, 172, 2, 61, 3, 62, 29, 4, 42]
abbrev dktX5_rules_0 : List UInt8 := dkwX5_rules_0 ++ dktX5_rules_1
theorem dksX5_rules_0 : cX5_rules.data.toList.drop 0 = dktX5_rules_0 := by decide +kernel
theorem dksX5_rules_1 : cX5_rules.data.toList.drop 24 = dktX5_rules_1 := dk_seg dksX5_rules_0 24 rfl rfl
theorem dksX5_rules_2 : cX5_rules.data.toList.drop 46 = dktX5_rules_2 := dk_seg dksX5_rules_1 22 rfl rfl
theorem dksX5_rules_3 : cX5_rules.data.toList.drop 70 = dktX5_rules_3 := dk_seg dksX5_rules_2 24 rfl rfl
theorem dX5_rules_0 : decode cX5_rules 0 = .ok (.aload_n 0, 1) := dk_42 (dk_at dksX5_rules_0 0 rfl rfl)
theorem dX5_rules_1 : decode cX5_rules 1 = .ok (.iconst 0, 1) := dk_3 (dk_at dksX5_rules_0 1 rfl rfl)
theorem dX5_rules_2 : decode cX5_rules 2 = .ok (.putfield 86, 3) := dk_181 0 86 (dk_at dksX5_rules_0 2 rfl rfl)
theorem dX5_rules_5 : decode cX5_rules 5 = .ok (.aload_n 0, 1) := dk_42 (dk_at dksX5_rules_0 5 rfl rfl)
theorem dX5_rules_6 : decode cX5_rules 6 = .ok (.iload_n 1, 1) := dk_27 (dk_at dksX5_rules_0 6 rfl rfl)
theorem dX5_rules_7 : decode cX5_rules 7 = .ok (.iconst 0, 1) := dk_3 (dk_at dksX5_rules_0 7 rfl rfl)
theorem dX5_rules_8 : decode cX5_rules 8 = .ok (.iconst 1, 1) := dk_4 (dk_at dksX5_rules_0 8 rfl rfl)
theorem dX5_rules_9 : decode cX5_rules 9 = .ok (.invokevirtual 126, 3) := dk_182 0 126 (dk_at dksX5_rules_0 9 rfl rfl)
theorem dX5_rules_12 : decode cX5_rules 12 = .ok (.ifCond .ne 5, 3) := dk_154 0 5 (dk_at dksX5_rules_0 12 rfl rfl)
theorem dX5_rules_15 : decode cX5_rules 15 = .ok (.iconst (-1), 1) := dk_2 (dk_at dksX5_rules_0 15 rfl rfl)
theorem dX5_rules_16 : decode cX5_rules 16 = .ok (.ireturn, 1) := dk_172 (dk_at dksX5_rules_0 16 rfl rfl)
theorem dX5_rules_17 : decode cX5_rules 17 = .ok (.iconst (-1), 1) := dk_2 (dk_at dksX5_rules_0 17 rfl rfl)
theorem dX5_rules_18 : decode cX5_rules 18 = .ok (.istore_n 2, 1) := dk_61 (dk_at dksX5_rules_0 18 rfl rfl)
theorem dX5_rules_19 : decode cX5_rules 19 = .ok (.iconst 0, 1) := dk_3 (dk_at dksX5_rules_0 19 rfl rfl)
theorem dX5_rules_20 : decode cX5_rules 20 = .ok (.istore_n 3, 1) := dk_62 (dk_at dksX5_rules_0 20 rfl rfl)
theorem dX5_rules_21 : decode cX5_rules 21 = .ok (.iload_n 3, 1) := dk_29 (dk_at dksX5_rules_0 21 rfl rfl)
theorem dX5_rules_22 : decode cX5_rules 22 = .ok (.iconst 1, 1) := dk_4 (dk_at dksX5_rules_0 22 rfl rfl)
theorem dX5_rules_23 : decode cX5_rules 23 = .ok (.aload_n 0, 1) := dk_42 (dk_at dksX5_rules_0 23 rfl rfl)
theorem dX5_rules_24 : decode cX5_rules 24 = .ok (.getfield 116, 3) := dk_180 0 116 (dk_at dksX5_rules_1 0 rfl rfl)
theorem dX5_rules_27 : decode cX5_rules 27 = .ok (.ishl, 1) := dk_120 (dk_at dksX5_rules_1 3 rfl rfl)
theorem dX5_rules_28 : decode cX5_rules 28 = .ok (.if_icmp .ge 37, 3) := dk_162 0 37 (dk_at dksX5_rules_1 4 rfl rfl)
theorem dX5_rules_31 : decode cX5_rules 31 = .ok (.iload_n 2, 1) := dk_28 (dk_at dksX5_rules_1 7 rfl rfl)
theorem dX5_rules_32 : decode cX5_rules 32 = .ok (.iconst (-1), 1) := dk_2 (dk_at dksX5_rules_1 8 rfl rfl)
theorem dX5_rules_33 : decode cX5_rules 33 = .ok (.if_icmp .eq 16, 3) := dk_159 0 16 (dk_at dksX5_rules_1 9 rfl rfl)
theorem dX5_rules_36 : decode cX5_rules 36 = .ok (.aload_n 0, 1) := dk_42 (dk_at dksX5_rules_1 12 rfl rfl)
theorem dX5_rules_37 : decode cX5_rules 37 = .ok (.iload_n 3, 1) := dk_29 (dk_at dksX5_rules_1 13 rfl rfl)
theorem dX5_rules_38 : decode cX5_rules 38 = .ok (.invokevirtual 429, 3) := dk_182 1 173 (dk_at dksX5_rules_1 14 rfl rfl)
theorem dX5_rules_41 : decode cX5_rules 41 = .ok (.aload_n 0, 1) := dk_42 (dk_at dksX5_rules_1 17 rfl rfl)
theorem dX5_rules_42 : decode cX5_rules 42 = .ok (.iload_n 2, 1) := dk_28 (dk_at dksX5_rules_1 18 rfl rfl)
theorem dX5_rules_43 : decode cX5_rules 43 = .ok (.invokevirtual 429, 3) := dk_182 1 173 (dk_at dksX5_rules_1 19 rfl rfl)
theorem dX5_rules_46 : decode cX5_rules 46 = .ok (.if_icmp .ge 13, 3) := dk_162 0 13 (dk_at dksX5_rules_2 0 rfl rfl)
theorem dX5_rules_49 : decode cX5_rules 49 = .ok (.aload_n 0, 1) := dk_42 (dk_at dksX5_rules_2 3 rfl rfl)
theorem dX5_rules_50 : decode cX5_rules 50 = .ok (.iload_n 3, 1) := dk_29 (dk_at dksX5_rules_2 4 rfl rfl)
theorem dX5_rules_51 : decode cX5_rules 51 = .ok (.invokevirtual 449, 3) := dk_182 1 193 (dk_at dksX5_rules_2 5 rfl rfl)
theorem dX5_rules_54 : decode cX5_rules 54 = .ok (.ifCond .eq 5, 3) := dk_153 0 5 (dk_at dksX5_rules_2 8 rfl rfl)
theorem dX5_rules_57 : decode cX5_rules 57 = .ok (.iload_n 3, 1) := dk_29 (dk_at dksX5_rules_2 11 rfl rfl)
theorem dX5_rules_58 : decode cX5_rules 58 = .ok (.istore_n 2, 1) := dk_61 (dk_at dksX5_rules_2 12 rfl rfl)
theorem dX5_rules_59 : decode cX5_rules 59 = .ok (.iinc 3 1, 3) := dk_132 3 1 (dk_at dksX5_rules_2 13 rfl rfl)
theorem dX5_rules_62 : decode cX5_rules 62 = .ok (.goto (-41), 3) := dk_167 255 215 (dk_at dksX5_rules_2 16 rfl rfl)
theorem dX5_rules_65 : decode cX5_rules 65 = .ok (.iload_n 2, 1) := dk_28 (dk_at dksX5_rules_2 19 rfl rfl)
theorem dX5_rules_66 : decode cX5_rules 66 = .ok (.iconst (-1), 1) := dk_2 (dk_at dksX5_rules_2 20 rfl rfl)
theorem dX5_rules_67 : decode cX5_rules 67 = .ok (.if_icmp .eq 8, 3) := dk_159 0 8 (dk_at dksX5_rules_2 21 rfl rfl)
theorem dX5_rules_70 : decode cX5_rules 70 = .ok (.iload_n 1, 1) := dk_27 (dk_at dksX5_rules_3 0 rfl rfl)
theorem dX5_rules_71 : decode cX5_rules 71 = .ok (.iconst 1, 1) := dk_4 (dk_at dksX5_rules_3 1 rfl rfl)
theorem dX5_rules_72 : decode cX5_rules 72 = .ok (.if_icmp .ne 7, 3) := dk_160 0 7 (dk_at dksX5_rules_3 2 rfl rfl)
theorem dX5_rules_75 : decode cX5_rules 75 = .ok (.iload_n 2, 1) := dk_28 (dk_at dksX5_rules_3 5 rfl rfl)
theorem dX5_rules_76 : decode cX5_rules 76 = .ok (.goto 8, 3) := dk_167 0 8 (dk_at dksX5_rules_3 6 rfl rfl)
theorem dX5_rules_79 : decode cX5_rules 79 = .ok (.aload_n 0, 1) := dk_42 (dk_at dksX5_rules_3 9 rfl rfl)
theorem dX5_rules_80 : decode cX5_rules 80 = .ok (.iload_n 2, 1) := dk_28 (dk_at dksX5_rules_3 10 rfl rfl)
theorem dX5_rules_81 : decode cX5_rules 81 = .ok (.invokevirtual 429, 3) := dk_182 1 173 (dk_at dksX5_rules_3 11 rfl rfl)
theorem dX5_rules_84 : decode cX5_rules 84 = .ok (.ireturn, 1) := dk_172 (dk_at dksX5_rules_3 14 rfl rfl)
abbrev cX5_doesRule : ByteArray := prog_22_method_117_code
def yX5_doesRule : MethodName := ⟨RX5, "doesRule", "(I)Z"⟩
def dkwX5_doesRule_1 : List UInt8 := [167, 0, 4, 3, 172]
abbrev dktX5_doesRule_1 : List UInt8 := dkwX5_doesRule_1 ++ []
def dkwX5_doesRule_0 : List UInt8 := [5, 42, 27, 182, 1, 190, 104, 42, 4, 42, 180, 0, 116, 120, 4, 100, 182, 1, 190, 164, 0, 7, 4]
abbrev dktX5_doesRule_0 : List UInt8 := dkwX5_doesRule_0 ++ dktX5_doesRule_1
theorem dksX5_doesRule_0 : cX5_doesRule.data.toList.drop 0 = dktX5_doesRule_0 := by decide +kernel
theorem dksX5_doesRule_1 : cX5_doesRule.data.toList.drop 23 = dktX5_doesRule_1 := dk_seg dksX5_doesRule_0 23 rfl rfl
theorem dX5_doesRule_0 : decode cX5_doesRule 0 = .ok (.iconst 2, 1) := dk_5 (dk_at dksX5_doesRule_0 0 rfl rfl)
theorem dX5_doesRule_1 : decode cX5_doesRule 1 = .ok (.aload_n 0, 1) := dk_42 (dk_at dksX5_doesRule_0 1 rfl rfl)
theorem dX5_doesRule_2 : decode cX5_doesRule 2 = .ok (.iload_n 1, 1) := dk_27 (dk_at dksX5_doesRule_0 2 rfl rfl)
theorem dX5_doesRule_3 : decode cX5_doesRule 3 = .ok (.invokevirtual 446, 3) := dk_182 1 190 (dk_at dksX5_doesRule_0 3 rfl rfl)
theorem dX5_doesRule_6 : decode cX5_doesRule 6 = .ok (.imul, 1) := dk_104 (dk_at dksX5_doesRule_0 6 rfl rfl)
theorem dX5_doesRule_7 : decode cX5_doesRule 7 = .ok (.aload_n 0, 1) := dk_42 (dk_at dksX5_doesRule_0 7 rfl rfl)
theorem dX5_doesRule_8 : decode cX5_doesRule 8 = .ok (.iconst 1, 1) := dk_4 (dk_at dksX5_doesRule_0 8 rfl rfl)
theorem dX5_doesRule_9 : decode cX5_doesRule 9 = .ok (.aload_n 0, 1) := dk_42 (dk_at dksX5_doesRule_0 9 rfl rfl)
theorem dX5_doesRule_10 : decode cX5_doesRule 10 = .ok (.getfield 116, 3) := dk_180 0 116 (dk_at dksX5_doesRule_0 10 rfl rfl)
theorem dX5_doesRule_13 : decode cX5_doesRule 13 = .ok (.ishl, 1) := dk_120 (dk_at dksX5_doesRule_0 13 rfl rfl)
theorem dX5_doesRule_14 : decode cX5_doesRule 14 = .ok (.iconst 1, 1) := dk_4 (dk_at dksX5_doesRule_0 14 rfl rfl)
theorem dX5_doesRule_15 : decode cX5_doesRule 15 = .ok (.isub, 1) := dk_100 (dk_at dksX5_doesRule_0 15 rfl rfl)
theorem dX5_doesRule_16 : decode cX5_doesRule 16 = .ok (.invokevirtual 446, 3) := dk_182 1 190 (dk_at dksX5_doesRule_0 16 rfl rfl)
theorem dX5_doesRule_19 : decode cX5_doesRule 19 = .ok (.if_icmp .le 7, 3) := dk_164 0 7 (dk_at dksX5_doesRule_0 19 rfl rfl)
theorem dX5_doesRule_22 : decode cX5_doesRule 22 = .ok (.iconst 1, 1) := dk_4 (dk_at dksX5_doesRule_0 22 rfl rfl)
theorem dX5_doesRule_23 : decode cX5_doesRule 23 = .ok (.goto 4, 3) := dk_167 0 4 (dk_at dksX5_doesRule_1 0 rfl rfl)
theorem dX5_doesRule_26 : decode cX5_doesRule 26 = .ok (.iconst 0, 1) := dk_3 (dk_at dksX5_doesRule_1 3 rfl rfl)
theorem dX5_doesRule_27 : decode cX5_doesRule 27 = .ok (.ireturn, 1) := dk_172 (dk_at dksX5_doesRule_1 4 rfl rfl)
abbrev cX5_seatsOf : ByteArray := prog_22_method_116_code
def yX5_seatsOf : MethodName := ⟨RX5, "seatsOf", "(I)I"⟩
def dkwX5_seatsOf_1 : List UInt8 := [180, 0, 7, 16, 10, 29, 96, 46, 96, 61, 132, 3, 1, 167, 255, 224, 28, 172]
abbrev dktX5_seatsOf_1 : List UInt8 := dkwX5_seatsOf_1 ++ []
def dkwX5_seatsOf_0 : List UInt8 := [3, 61, 3, 62, 29, 42, 180, 0, 116, 162, 0, 30, 42, 27, 29, 182, 1, 63, 153, 0, 15, 28, 42]
abbrev dktX5_seatsOf_0 : List UInt8 := dkwX5_seatsOf_0 ++ dktX5_seatsOf_1
theorem dksX5_seatsOf_0 : cX5_seatsOf.data.toList.drop 0 = dktX5_seatsOf_0 := by decide +kernel
theorem dksX5_seatsOf_1 : cX5_seatsOf.data.toList.drop 23 = dktX5_seatsOf_1 := dk_seg dksX5_seatsOf_0 23 rfl rfl
theorem dX5_seatsOf_0 : decode cX5_seatsOf 0 = .ok (.iconst 0, 1) := dk_3 (dk_at dksX5_seatsOf_0 0 rfl rfl)
theorem dX5_seatsOf_1 : decode cX5_seatsOf 1 = .ok (.istore_n 2, 1) := dk_61 (dk_at dksX5_seatsOf_0 1 rfl rfl)
theorem dX5_seatsOf_2 : decode cX5_seatsOf 2 = .ok (.iconst 0, 1) := dk_3 (dk_at dksX5_seatsOf_0 2 rfl rfl)
theorem dX5_seatsOf_3 : decode cX5_seatsOf 3 = .ok (.istore_n 3, 1) := dk_62 (dk_at dksX5_seatsOf_0 3 rfl rfl)
theorem dX5_seatsOf_4 : decode cX5_seatsOf 4 = .ok (.iload_n 3, 1) := dk_29 (dk_at dksX5_seatsOf_0 4 rfl rfl)
theorem dX5_seatsOf_5 : decode cX5_seatsOf 5 = .ok (.aload_n 0, 1) := dk_42 (dk_at dksX5_seatsOf_0 5 rfl rfl)
theorem dX5_seatsOf_6 : decode cX5_seatsOf 6 = .ok (.getfield 116, 3) := dk_180 0 116 (dk_at dksX5_seatsOf_0 6 rfl rfl)
theorem dX5_seatsOf_9 : decode cX5_seatsOf 9 = .ok (.if_icmp .ge 30, 3) := dk_162 0 30 (dk_at dksX5_seatsOf_0 9 rfl rfl)
theorem dX5_seatsOf_12 : decode cX5_seatsOf 12 = .ok (.aload_n 0, 1) := dk_42 (dk_at dksX5_seatsOf_0 12 rfl rfl)
theorem dX5_seatsOf_13 : decode cX5_seatsOf 13 = .ok (.iload_n 1, 1) := dk_27 (dk_at dksX5_seatsOf_0 13 rfl rfl)
theorem dX5_seatsOf_14 : decode cX5_seatsOf 14 = .ok (.iload_n 3, 1) := dk_29 (dk_at dksX5_seatsOf_0 14 rfl rfl)
theorem dX5_seatsOf_15 : decode cX5_seatsOf 15 = .ok (.invokevirtual 319, 3) := dk_182 1 63 (dk_at dksX5_seatsOf_0 15 rfl rfl)
theorem dX5_seatsOf_18 : decode cX5_seatsOf 18 = .ok (.ifCond .eq 15, 3) := dk_153 0 15 (dk_at dksX5_seatsOf_0 18 rfl rfl)
theorem dX5_seatsOf_21 : decode cX5_seatsOf 21 = .ok (.iload_n 2, 1) := dk_28 (dk_at dksX5_seatsOf_0 21 rfl rfl)
theorem dX5_seatsOf_22 : decode cX5_seatsOf 22 = .ok (.aload_n 0, 1) := dk_42 (dk_at dksX5_seatsOf_0 22 rfl rfl)
theorem dX5_seatsOf_23 : decode cX5_seatsOf 23 = .ok (.getfield 7, 3) := dk_180 0 7 (dk_at dksX5_seatsOf_1 0 rfl rfl)
theorem dX5_seatsOf_26 : decode cX5_seatsOf 26 = .ok (.bipush 10, 2) := dk_16 10 (dk_at dksX5_seatsOf_1 3 rfl rfl)
theorem dX5_seatsOf_28 : decode cX5_seatsOf 28 = .ok (.iload_n 3, 1) := dk_29 (dk_at dksX5_seatsOf_1 5 rfl rfl)
theorem dX5_seatsOf_29 : decode cX5_seatsOf 29 = .ok (.iadd, 1) := dk_96 (dk_at dksX5_seatsOf_1 6 rfl rfl)
theorem dX5_seatsOf_30 : decode cX5_seatsOf 30 = .ok (.iaload, 1) := dk_46 (dk_at dksX5_seatsOf_1 7 rfl rfl)
theorem dX5_seatsOf_31 : decode cX5_seatsOf 31 = .ok (.iadd, 1) := dk_96 (dk_at dksX5_seatsOf_1 8 rfl rfl)
theorem dX5_seatsOf_32 : decode cX5_seatsOf 32 = .ok (.istore_n 2, 1) := dk_61 (dk_at dksX5_seatsOf_1 9 rfl rfl)
theorem dX5_seatsOf_33 : decode cX5_seatsOf 33 = .ok (.iinc 3 1, 3) := dk_132 3 1 (dk_at dksX5_seatsOf_1 10 rfl rfl)
theorem dX5_seatsOf_36 : decode cX5_seatsOf 36 = .ok (.goto (-32), 3) := dk_167 255 224 (dk_at dksX5_seatsOf_1 13 rfl rfl)
theorem dX5_seatsOf_39 : decode cX5_seatsOf 39 = .ok (.iload_n 2, 1) := dk_28 (dk_at dksX5_seatsOf_1 16 rfl rfl)
theorem dX5_seatsOf_40 : decode cX5_seatsOf 40 = .ok (.ireturn, 1) := dk_172 (dk_at dksX5_seatsOf_1 17 rfl rfl)
abbrev cX5_weighs : ByteArray := prog_22_method_119_code
def yX5_weighs : MethodName := ⟨RX5, "weighs", "(I)I"⟩
def dkwX5_weighs_2 : List UInt8 := [42, 29, 4, 27, 120, 128, 182, 1, 193, 153, 0, 7, 28, 4, 96, 61, 132, 3, 1, 167, 255, 210, 28, 172]
abbrev dktX5_weighs_2 : List UInt8 := dkwX5_weighs_2 ++ []
def dkwX5_weighs_1 : List UInt8 := [180, 0, 116, 120, 162, 0, 42, 42, 29, 27, 182, 1, 63, 154, 0, 27, 42, 29, 182, 1, 193, 154, 0, 19]
abbrev dktX5_weighs_1 : List UInt8 := dkwX5_weighs_1 ++ dktX5_weighs_2
def dkwX5_weighs_0 : List UInt8 := [42, 3, 181, 0, 86, 42, 27, 182, 0, 134, 154, 0, 5, 2, 172, 3, 61, 3, 62, 29, 4, 42]
abbrev dktX5_weighs_0 : List UInt8 := dkwX5_weighs_0 ++ dktX5_weighs_1
theorem dksX5_weighs_0 : cX5_weighs.data.toList.drop 0 = dktX5_weighs_0 := by decide +kernel
theorem dksX5_weighs_1 : cX5_weighs.data.toList.drop 22 = dktX5_weighs_1 := dk_seg dksX5_weighs_0 22 rfl rfl
theorem dksX5_weighs_2 : cX5_weighs.data.toList.drop 46 = dktX5_weighs_2 := dk_seg dksX5_weighs_1 24 rfl rfl
theorem dX5_weighs_0 : decode cX5_weighs 0 = .ok (.aload_n 0, 1) := dk_42 (dk_at dksX5_weighs_0 0 rfl rfl)
theorem dX5_weighs_1 : decode cX5_weighs 1 = .ok (.iconst 0, 1) := dk_3 (dk_at dksX5_weighs_0 1 rfl rfl)
theorem dX5_weighs_2 : decode cX5_weighs 2 = .ok (.putfield 86, 3) := dk_181 0 86 (dk_at dksX5_weighs_0 2 rfl rfl)
theorem dX5_weighs_5 : decode cX5_weighs 5 = .ok (.aload_n 0, 1) := dk_42 (dk_at dksX5_weighs_0 5 rfl rfl)
theorem dX5_weighs_6 : decode cX5_weighs 6 = .ok (.iload_n 1, 1) := dk_27 (dk_at dksX5_weighs_0 6 rfl rfl)
theorem dX5_weighs_7 : decode cX5_weighs 7 = .ok (.invokevirtual 134, 3) := dk_182 0 134 (dk_at dksX5_weighs_0 7 rfl rfl)
theorem dX5_weighs_10 : decode cX5_weighs 10 = .ok (.ifCond .ne 5, 3) := dk_154 0 5 (dk_at dksX5_weighs_0 10 rfl rfl)
theorem dX5_weighs_13 : decode cX5_weighs 13 = .ok (.iconst (-1), 1) := dk_2 (dk_at dksX5_weighs_0 13 rfl rfl)
theorem dX5_weighs_14 : decode cX5_weighs 14 = .ok (.ireturn, 1) := dk_172 (dk_at dksX5_weighs_0 14 rfl rfl)
theorem dX5_weighs_15 : decode cX5_weighs 15 = .ok (.iconst 0, 1) := dk_3 (dk_at dksX5_weighs_0 15 rfl rfl)
theorem dX5_weighs_16 : decode cX5_weighs 16 = .ok (.istore_n 2, 1) := dk_61 (dk_at dksX5_weighs_0 16 rfl rfl)
theorem dX5_weighs_17 : decode cX5_weighs 17 = .ok (.iconst 0, 1) := dk_3 (dk_at dksX5_weighs_0 17 rfl rfl)
theorem dX5_weighs_18 : decode cX5_weighs 18 = .ok (.istore_n 3, 1) := dk_62 (dk_at dksX5_weighs_0 18 rfl rfl)
theorem dX5_weighs_19 : decode cX5_weighs 19 = .ok (.iload_n 3, 1) := dk_29 (dk_at dksX5_weighs_0 19 rfl rfl)
theorem dX5_weighs_20 : decode cX5_weighs 20 = .ok (.iconst 1, 1) := dk_4 (dk_at dksX5_weighs_0 20 rfl rfl)
theorem dX5_weighs_21 : decode cX5_weighs 21 = .ok (.aload_n 0, 1) := dk_42 (dk_at dksX5_weighs_0 21 rfl rfl)
theorem dX5_weighs_22 : decode cX5_weighs 22 = .ok (.getfield 116, 3) := dk_180 0 116 (dk_at dksX5_weighs_1 0 rfl rfl)
theorem dX5_weighs_25 : decode cX5_weighs 25 = .ok (.ishl, 1) := dk_120 (dk_at dksX5_weighs_1 3 rfl rfl)
theorem dX5_weighs_26 : decode cX5_weighs 26 = .ok (.if_icmp .ge 42, 3) := dk_162 0 42 (dk_at dksX5_weighs_1 4 rfl rfl)
theorem dX5_weighs_29 : decode cX5_weighs 29 = .ok (.aload_n 0, 1) := dk_42 (dk_at dksX5_weighs_1 7 rfl rfl)
theorem dX5_weighs_30 : decode cX5_weighs 30 = .ok (.iload_n 3, 1) := dk_29 (dk_at dksX5_weighs_1 8 rfl rfl)
theorem dX5_weighs_31 : decode cX5_weighs 31 = .ok (.iload_n 1, 1) := dk_27 (dk_at dksX5_weighs_1 9 rfl rfl)
theorem dX5_weighs_32 : decode cX5_weighs 32 = .ok (.invokevirtual 319, 3) := dk_182 1 63 (dk_at dksX5_weighs_1 10 rfl rfl)
theorem dX5_weighs_35 : decode cX5_weighs 35 = .ok (.ifCond .ne 27, 3) := dk_154 0 27 (dk_at dksX5_weighs_1 13 rfl rfl)
theorem dX5_weighs_38 : decode cX5_weighs 38 = .ok (.aload_n 0, 1) := dk_42 (dk_at dksX5_weighs_1 16 rfl rfl)
theorem dX5_weighs_39 : decode cX5_weighs 39 = .ok (.iload_n 3, 1) := dk_29 (dk_at dksX5_weighs_1 17 rfl rfl)
theorem dX5_weighs_40 : decode cX5_weighs 40 = .ok (.invokevirtual 449, 3) := dk_182 1 193 (dk_at dksX5_weighs_1 18 rfl rfl)
theorem dX5_weighs_43 : decode cX5_weighs 43 = .ok (.ifCond .ne 19, 3) := dk_154 0 19 (dk_at dksX5_weighs_1 21 rfl rfl)
theorem dX5_weighs_46 : decode cX5_weighs 46 = .ok (.aload_n 0, 1) := dk_42 (dk_at dksX5_weighs_2 0 rfl rfl)
theorem dX5_weighs_47 : decode cX5_weighs 47 = .ok (.iload_n 3, 1) := dk_29 (dk_at dksX5_weighs_2 1 rfl rfl)
theorem dX5_weighs_48 : decode cX5_weighs 48 = .ok (.iconst 1, 1) := dk_4 (dk_at dksX5_weighs_2 2 rfl rfl)
theorem dX5_weighs_49 : decode cX5_weighs 49 = .ok (.iload_n 1, 1) := dk_27 (dk_at dksX5_weighs_2 3 rfl rfl)
theorem dX5_weighs_50 : decode cX5_weighs 50 = .ok (.ishl, 1) := dk_120 (dk_at dksX5_weighs_2 4 rfl rfl)
theorem dX5_weighs_51 : decode cX5_weighs 51 = .ok (.ior, 1) := dk_128 (dk_at dksX5_weighs_2 5 rfl rfl)
theorem dX5_weighs_52 : decode cX5_weighs 52 = .ok (.invokevirtual 449, 3) := dk_182 1 193 (dk_at dksX5_weighs_2 6 rfl rfl)
theorem dX5_weighs_55 : decode cX5_weighs 55 = .ok (.ifCond .eq 7, 3) := dk_153 0 7 (dk_at dksX5_weighs_2 9 rfl rfl)
theorem dX5_weighs_58 : decode cX5_weighs 58 = .ok (.iload_n 2, 1) := dk_28 (dk_at dksX5_weighs_2 12 rfl rfl)
theorem dX5_weighs_59 : decode cX5_weighs 59 = .ok (.iconst 1, 1) := dk_4 (dk_at dksX5_weighs_2 13 rfl rfl)
theorem dX5_weighs_60 : decode cX5_weighs 60 = .ok (.iadd, 1) := dk_96 (dk_at dksX5_weighs_2 14 rfl rfl)
theorem dX5_weighs_61 : decode cX5_weighs 61 = .ok (.istore_n 2, 1) := dk_61 (dk_at dksX5_weighs_2 15 rfl rfl)
theorem dX5_weighs_62 : decode cX5_weighs 62 = .ok (.iinc 3 1, 3) := dk_132 3 1 (dk_at dksX5_weighs_2 16 rfl rfl)
theorem dX5_weighs_65 : decode cX5_weighs 65 = .ok (.goto (-46), 3) := dk_167 255 210 (dk_at dksX5_weighs_2 19 rfl rfl)
theorem dX5_weighs_68 : decode cX5_weighs 68 = .ok (.iload_n 2, 1) := dk_28 (dk_at dksX5_weighs_2 22 rfl rfl)
theorem dX5_weighs_69 : decode cX5_weighs 69 = .ok (.ireturn, 1) := dk_172 (dk_at dksX5_weighs_2 23 rfl rfl)
abbrev cX5_lasts : ByteArray := prog_22_method_120_code
def yX5_lasts : MethodName := ⟨RX5, "lasts", "(I)I"⟩
def dkwX5_lasts_3 : List UInt8 := [28, 108, 172]
abbrev dktX5_lasts_3 : List UInt8 := dkwX5_lasts_3 ++ []
def dkwX5_lasts_2 : List UInt8 := [167, 255, 228, 28, 154, 0, 7, 2, 167, 0, 18, 42, 180, 0, 7, 16, 15, 27, 96, 46, 28, 96, 4, 100]
abbrev dktX5_lasts_2 : List UInt8 := dkwX5_lasts_2 ++ dktX5_lasts_3
def dkwX5_lasts_1 : List UInt8 := [162, 0, 26, 42, 29, 27, 182, 1, 57, 158, 0, 11, 28, 42, 29, 182, 1, 107, 96, 61, 132, 3, 1]
abbrev dktX5_lasts_1 : List UInt8 := dkwX5_lasts_1 ++ dktX5_lasts_2
def dkwX5_lasts_0 : List UInt8 := [42, 3, 181, 0, 86, 42, 27, 182, 0, 134, 154, 0, 5, 2, 172, 3, 61, 3, 62, 29, 42, 180, 0, 119]
abbrev dktX5_lasts_0 : List UInt8 := dkwX5_lasts_0 ++ dktX5_lasts_1
theorem dksX5_lasts_0 : cX5_lasts.data.toList.drop 0 = dktX5_lasts_0 := by decide +kernel
theorem dksX5_lasts_1 : cX5_lasts.data.toList.drop 24 = dktX5_lasts_1 := dk_seg dksX5_lasts_0 24 rfl rfl
theorem dksX5_lasts_2 : cX5_lasts.data.toList.drop 47 = dktX5_lasts_2 := dk_seg dksX5_lasts_1 23 rfl rfl
theorem dksX5_lasts_3 : cX5_lasts.data.toList.drop 71 = dktX5_lasts_3 := dk_seg dksX5_lasts_2 24 rfl rfl
theorem dX5_lasts_0 : decode cX5_lasts 0 = .ok (.aload_n 0, 1) := dk_42 (dk_at dksX5_lasts_0 0 rfl rfl)
theorem dX5_lasts_1 : decode cX5_lasts 1 = .ok (.iconst 0, 1) := dk_3 (dk_at dksX5_lasts_0 1 rfl rfl)
theorem dX5_lasts_2 : decode cX5_lasts 2 = .ok (.putfield 86, 3) := dk_181 0 86 (dk_at dksX5_lasts_0 2 rfl rfl)
theorem dX5_lasts_5 : decode cX5_lasts 5 = .ok (.aload_n 0, 1) := dk_42 (dk_at dksX5_lasts_0 5 rfl rfl)
theorem dX5_lasts_6 : decode cX5_lasts 6 = .ok (.iload_n 1, 1) := dk_27 (dk_at dksX5_lasts_0 6 rfl rfl)
theorem dX5_lasts_7 : decode cX5_lasts 7 = .ok (.invokevirtual 134, 3) := dk_182 0 134 (dk_at dksX5_lasts_0 7 rfl rfl)
theorem dX5_lasts_10 : decode cX5_lasts 10 = .ok (.ifCond .ne 5, 3) := dk_154 0 5 (dk_at dksX5_lasts_0 10 rfl rfl)
theorem dX5_lasts_13 : decode cX5_lasts 13 = .ok (.iconst (-1), 1) := dk_2 (dk_at dksX5_lasts_0 13 rfl rfl)
theorem dX5_lasts_14 : decode cX5_lasts 14 = .ok (.ireturn, 1) := dk_172 (dk_at dksX5_lasts_0 14 rfl rfl)
theorem dX5_lasts_15 : decode cX5_lasts 15 = .ok (.iconst 0, 1) := dk_3 (dk_at dksX5_lasts_0 15 rfl rfl)
theorem dX5_lasts_16 : decode cX5_lasts 16 = .ok (.istore_n 2, 1) := dk_61 (dk_at dksX5_lasts_0 16 rfl rfl)
theorem dX5_lasts_17 : decode cX5_lasts 17 = .ok (.iconst 0, 1) := dk_3 (dk_at dksX5_lasts_0 17 rfl rfl)
theorem dX5_lasts_18 : decode cX5_lasts 18 = .ok (.istore_n 3, 1) := dk_62 (dk_at dksX5_lasts_0 18 rfl rfl)
theorem dX5_lasts_19 : decode cX5_lasts 19 = .ok (.iload_n 3, 1) := dk_29 (dk_at dksX5_lasts_0 19 rfl rfl)
theorem dX5_lasts_20 : decode cX5_lasts 20 = .ok (.aload_n 0, 1) := dk_42 (dk_at dksX5_lasts_0 20 rfl rfl)
theorem dX5_lasts_21 : decode cX5_lasts 21 = .ok (.getfield 119, 3) := dk_180 0 119 (dk_at dksX5_lasts_0 21 rfl rfl)
theorem dX5_lasts_24 : decode cX5_lasts 24 = .ok (.if_icmp .ge 26, 3) := dk_162 0 26 (dk_at dksX5_lasts_1 0 rfl rfl)
theorem dX5_lasts_27 : decode cX5_lasts 27 = .ok (.aload_n 0, 1) := dk_42 (dk_at dksX5_lasts_1 3 rfl rfl)
theorem dX5_lasts_28 : decode cX5_lasts 28 = .ok (.iload_n 3, 1) := dk_29 (dk_at dksX5_lasts_1 4 rfl rfl)
theorem dX5_lasts_29 : decode cX5_lasts 29 = .ok (.iload_n 1, 1) := dk_27 (dk_at dksX5_lasts_1 5 rfl rfl)
theorem dX5_lasts_30 : decode cX5_lasts 30 = .ok (.invokevirtual 313, 3) := dk_182 1 57 (dk_at dksX5_lasts_1 6 rfl rfl)
theorem dX5_lasts_33 : decode cX5_lasts 33 = .ok (.ifCond .le 11, 3) := dk_158 0 11 (dk_at dksX5_lasts_1 9 rfl rfl)
theorem dX5_lasts_36 : decode cX5_lasts 36 = .ok (.iload_n 2, 1) := dk_28 (dk_at dksX5_lasts_1 12 rfl rfl)
theorem dX5_lasts_37 : decode cX5_lasts 37 = .ok (.aload_n 0, 1) := dk_42 (dk_at dksX5_lasts_1 13 rfl rfl)
theorem dX5_lasts_38 : decode cX5_lasts 38 = .ok (.iload_n 3, 1) := dk_29 (dk_at dksX5_lasts_1 14 rfl rfl)
theorem dX5_lasts_39 : decode cX5_lasts 39 = .ok (.invokevirtual 363, 3) := dk_182 1 107 (dk_at dksX5_lasts_1 15 rfl rfl)
theorem dX5_lasts_42 : decode cX5_lasts 42 = .ok (.iadd, 1) := dk_96 (dk_at dksX5_lasts_1 18 rfl rfl)
theorem dX5_lasts_43 : decode cX5_lasts 43 = .ok (.istore_n 2, 1) := dk_61 (dk_at dksX5_lasts_1 19 rfl rfl)
theorem dX5_lasts_44 : decode cX5_lasts 44 = .ok (.iinc 3 1, 3) := dk_132 3 1 (dk_at dksX5_lasts_1 20 rfl rfl)
theorem dX5_lasts_47 : decode cX5_lasts 47 = .ok (.goto (-28), 3) := dk_167 255 228 (dk_at dksX5_lasts_2 0 rfl rfl)
theorem dX5_lasts_50 : decode cX5_lasts 50 = .ok (.iload_n 2, 1) := dk_28 (dk_at dksX5_lasts_2 3 rfl rfl)
theorem dX5_lasts_51 : decode cX5_lasts 51 = .ok (.ifCond .ne 7, 3) := dk_154 0 7 (dk_at dksX5_lasts_2 4 rfl rfl)
theorem dX5_lasts_54 : decode cX5_lasts 54 = .ok (.iconst (-1), 1) := dk_2 (dk_at dksX5_lasts_2 7 rfl rfl)
theorem dX5_lasts_55 : decode cX5_lasts 55 = .ok (.goto 18, 3) := dk_167 0 18 (dk_at dksX5_lasts_2 8 rfl rfl)
theorem dX5_lasts_58 : decode cX5_lasts 58 = .ok (.aload_n 0, 1) := dk_42 (dk_at dksX5_lasts_2 11 rfl rfl)
theorem dX5_lasts_59 : decode cX5_lasts 59 = .ok (.getfield 7, 3) := dk_180 0 7 (dk_at dksX5_lasts_2 12 rfl rfl)
theorem dX5_lasts_62 : decode cX5_lasts 62 = .ok (.bipush 15, 2) := dk_16 15 (dk_at dksX5_lasts_2 15 rfl rfl)
theorem dX5_lasts_64 : decode cX5_lasts 64 = .ok (.iload_n 1, 1) := dk_27 (dk_at dksX5_lasts_2 17 rfl rfl)
theorem dX5_lasts_65 : decode cX5_lasts 65 = .ok (.iadd, 1) := dk_96 (dk_at dksX5_lasts_2 18 rfl rfl)
theorem dX5_lasts_66 : decode cX5_lasts 66 = .ok (.iaload, 1) := dk_46 (dk_at dksX5_lasts_2 19 rfl rfl)
theorem dX5_lasts_67 : decode cX5_lasts 67 = .ok (.iload_n 2, 1) := dk_28 (dk_at dksX5_lasts_2 20 rfl rfl)
theorem dX5_lasts_68 : decode cX5_lasts 68 = .ok (.iadd, 1) := dk_96 (dk_at dksX5_lasts_2 21 rfl rfl)
theorem dX5_lasts_69 : decode cX5_lasts 69 = .ok (.iconst 1, 1) := dk_4 (dk_at dksX5_lasts_2 22 rfl rfl)
theorem dX5_lasts_70 : decode cX5_lasts 70 = .ok (.isub, 1) := dk_100 (dk_at dksX5_lasts_2 23 rfl rfl)
theorem dX5_lasts_71 : decode cX5_lasts 71 = .ok (.iload_n 2, 1) := dk_28 (dk_at dksX5_lasts_3 0 rfl rfl)
theorem dX5_lasts_72 : decode cX5_lasts 72 = .ok (.idiv, 1) := dk_108 (dk_at dksX5_lasts_3 1 rfl rfl)
theorem dX5_lasts_73 : decode cX5_lasts 73 = .ok (.ireturn, 1) := dk_172 (dk_at dksX5_lasts_3 2 rfl rfl)
abbrev cX5_meets : ByteArray := prog_22_method_121_code
def yX5_meets : MethodName := ⟨RX5, "meets", "(II)I"⟩
def dkwX5_meets_1 : List UInt8 := [182, 1, 170, 42, 28, 182, 1, 170, 126, 167, 0, 4, 2, 172]
abbrev dktX5_meets_1 : List UInt8 := dkwX5_meets_1 ++ []
def dkwX5_meets_0 : List UInt8 := [42, 3, 181, 0, 86, 42, 27, 182, 0, 130, 153, 0, 25, 42, 28, 182, 0, 130, 153, 0, 17, 42, 27]
abbrev dktX5_meets_0 : List UInt8 := dkwX5_meets_0 ++ dktX5_meets_1
theorem dksX5_meets_0 : cX5_meets.data.toList.drop 0 = dktX5_meets_0 := by decide +kernel
theorem dksX5_meets_1 : cX5_meets.data.toList.drop 23 = dktX5_meets_1 := dk_seg dksX5_meets_0 23 rfl rfl
theorem dX5_meets_0 : decode cX5_meets 0 = .ok (.aload_n 0, 1) := dk_42 (dk_at dksX5_meets_0 0 rfl rfl)
theorem dX5_meets_1 : decode cX5_meets 1 = .ok (.iconst 0, 1) := dk_3 (dk_at dksX5_meets_0 1 rfl rfl)
theorem dX5_meets_2 : decode cX5_meets 2 = .ok (.putfield 86, 3) := dk_181 0 86 (dk_at dksX5_meets_0 2 rfl rfl)
theorem dX5_meets_5 : decode cX5_meets 5 = .ok (.aload_n 0, 1) := dk_42 (dk_at dksX5_meets_0 5 rfl rfl)
theorem dX5_meets_6 : decode cX5_meets 6 = .ok (.iload_n 1, 1) := dk_27 (dk_at dksX5_meets_0 6 rfl rfl)
theorem dX5_meets_7 : decode cX5_meets 7 = .ok (.invokevirtual 130, 3) := dk_182 0 130 (dk_at dksX5_meets_0 7 rfl rfl)
theorem dX5_meets_10 : decode cX5_meets 10 = .ok (.ifCond .eq 25, 3) := dk_153 0 25 (dk_at dksX5_meets_0 10 rfl rfl)
theorem dX5_meets_13 : decode cX5_meets 13 = .ok (.aload_n 0, 1) := dk_42 (dk_at dksX5_meets_0 13 rfl rfl)
theorem dX5_meets_14 : decode cX5_meets 14 = .ok (.iload_n 2, 1) := dk_28 (dk_at dksX5_meets_0 14 rfl rfl)
theorem dX5_meets_15 : decode cX5_meets 15 = .ok (.invokevirtual 130, 3) := dk_182 0 130 (dk_at dksX5_meets_0 15 rfl rfl)
theorem dX5_meets_18 : decode cX5_meets 18 = .ok (.ifCond .eq 17, 3) := dk_153 0 17 (dk_at dksX5_meets_0 18 rfl rfl)
theorem dX5_meets_21 : decode cX5_meets 21 = .ok (.aload_n 0, 1) := dk_42 (dk_at dksX5_meets_0 21 rfl rfl)
theorem dX5_meets_22 : decode cX5_meets 22 = .ok (.iload_n 1, 1) := dk_27 (dk_at dksX5_meets_0 22 rfl rfl)
theorem dX5_meets_23 : decode cX5_meets 23 = .ok (.invokevirtual 426, 3) := dk_182 1 170 (dk_at dksX5_meets_1 0 rfl rfl)
theorem dX5_meets_26 : decode cX5_meets 26 = .ok (.aload_n 0, 1) := dk_42 (dk_at dksX5_meets_1 3 rfl rfl)
theorem dX5_meets_27 : decode cX5_meets 27 = .ok (.iload_n 2, 1) := dk_28 (dk_at dksX5_meets_1 4 rfl rfl)
theorem dX5_meets_28 : decode cX5_meets 28 = .ok (.invokevirtual 426, 3) := dk_182 1 170 (dk_at dksX5_meets_1 5 rfl rfl)
theorem dX5_meets_31 : decode cX5_meets 31 = .ok (.iand, 1) := dk_126 (dk_at dksX5_meets_1 8 rfl rfl)
theorem dX5_meets_32 : decode cX5_meets 32 = .ok (.goto 4, 3) := dk_167 0 4 (dk_at dksX5_meets_1 9 rfl rfl)
theorem dX5_meets_35 : decode cX5_meets 35 = .ok (.iconst (-1), 1) := dk_2 (dk_at dksX5_meets_1 12 rfl rfl)
theorem dX5_meets_36 : decode cX5_meets 36 = .ok (.ireturn, 1) := dk_172 (dk_at dksX5_meets_1 13 rfl rfl)
abbrev cX5_game : ByteArray := prog_22_method_122_code
def yX5_game : MethodName := ⟨RX5, "game", "(I)I"⟩
def dkwX5_game_5 : List UInt8 := [132, 5, 1, 167, 255, 213, 132, 3, 1, 167, 255, 183, 2, 172]
abbrev dktX5_game_5 : List UInt8 := dkwX5_game_5 ++ []
def dkwX5_game_4 : List UInt8 := [112, 130, 21, 4, 21, 5, 100, 7, 112, 130, 154, 0, 14, 27, 154, 0, 7, 29, 167, 0, 5, 21, 5, 172]
abbrev dktX5_game_4 : List UInt8 := dkwX5_game_4 ++ dktX5_game_5
def dkwX5_game_3 : List UInt8 := [29, 96, 46, 54, 4, 4, 54, 5, 21, 5, 42, 6, 21, 4, 182, 1, 67, 163, 0, 37, 28, 21, 4, 7]
abbrev dktX5_game_3 : List UInt8 := dkwX5_game_3 ++ dktX5_game_4
def dkwX5_game_2 : List UInt8 := [132, 3, 1, 167, 255, 229, 3, 62, 29, 42, 180, 0, 7, 7, 46, 162, 0, 69, 42, 180, 0, 7, 16, 62]
abbrev dktX5_game_2 : List UInt8 := dkwX5_game_2 ++ dktX5_game_3
def dkwX5_game_1 : List UInt8 := [180, 0, 7, 7, 46, 162, 0, 23, 28, 42, 180, 0, 7, 16, 62, 29, 96, 46, 7, 112, 130, 61]
abbrev dktX5_game_1 : List UInt8 := dkwX5_game_1 ++ dktX5_game_2
def dkwX5_game_0 : List UInt8 := [42, 3, 181, 0, 86, 42, 27, 3, 4, 182, 0, 126, 154, 0, 5, 2, 172, 3, 61, 3, 62, 29, 42]
abbrev dktX5_game_0 : List UInt8 := dkwX5_game_0 ++ dktX5_game_1
theorem dksX5_game_0 : cX5_game.data.toList.drop 0 = dktX5_game_0 := by decide +kernel
theorem dksX5_game_1 : cX5_game.data.toList.drop 23 = dktX5_game_1 := dk_seg dksX5_game_0 23 rfl rfl
theorem dksX5_game_2 : cX5_game.data.toList.drop 45 = dktX5_game_2 := dk_seg dksX5_game_1 22 rfl rfl
theorem dksX5_game_3 : cX5_game.data.toList.drop 69 = dktX5_game_3 := dk_seg dksX5_game_2 24 rfl rfl
theorem dksX5_game_4 : cX5_game.data.toList.drop 93 = dktX5_game_4 := dk_seg dksX5_game_3 24 rfl rfl
theorem dksX5_game_5 : cX5_game.data.toList.drop 117 = dktX5_game_5 := dk_seg dksX5_game_4 24 rfl rfl
theorem dX5_game_0 : decode cX5_game 0 = .ok (.aload_n 0, 1) := dk_42 (dk_at dksX5_game_0 0 rfl rfl)
theorem dX5_game_1 : decode cX5_game 1 = .ok (.iconst 0, 1) := dk_3 (dk_at dksX5_game_0 1 rfl rfl)
theorem dX5_game_2 : decode cX5_game 2 = .ok (.putfield 86, 3) := dk_181 0 86 (dk_at dksX5_game_0 2 rfl rfl)
theorem dX5_game_5 : decode cX5_game 5 = .ok (.aload_n 0, 1) := dk_42 (dk_at dksX5_game_0 5 rfl rfl)
theorem dX5_game_6 : decode cX5_game 6 = .ok (.iload_n 1, 1) := dk_27 (dk_at dksX5_game_0 6 rfl rfl)
theorem dX5_game_7 : decode cX5_game 7 = .ok (.iconst 0, 1) := dk_3 (dk_at dksX5_game_0 7 rfl rfl)
theorem dX5_game_8 : decode cX5_game 8 = .ok (.iconst 1, 1) := dk_4 (dk_at dksX5_game_0 8 rfl rfl)
theorem dX5_game_9 : decode cX5_game 9 = .ok (.invokevirtual 126, 3) := dk_182 0 126 (dk_at dksX5_game_0 9 rfl rfl)
theorem dX5_game_12 : decode cX5_game 12 = .ok (.ifCond .ne 5, 3) := dk_154 0 5 (dk_at dksX5_game_0 12 rfl rfl)
theorem dX5_game_15 : decode cX5_game 15 = .ok (.iconst (-1), 1) := dk_2 (dk_at dksX5_game_0 15 rfl rfl)
theorem dX5_game_16 : decode cX5_game 16 = .ok (.ireturn, 1) := dk_172 (dk_at dksX5_game_0 16 rfl rfl)
theorem dX5_game_17 : decode cX5_game 17 = .ok (.iconst 0, 1) := dk_3 (dk_at dksX5_game_0 17 rfl rfl)
theorem dX5_game_18 : decode cX5_game 18 = .ok (.istore_n 2, 1) := dk_61 (dk_at dksX5_game_0 18 rfl rfl)
theorem dX5_game_19 : decode cX5_game 19 = .ok (.iconst 0, 1) := dk_3 (dk_at dksX5_game_0 19 rfl rfl)
theorem dX5_game_20 : decode cX5_game 20 = .ok (.istore_n 3, 1) := dk_62 (dk_at dksX5_game_0 20 rfl rfl)
theorem dX5_game_21 : decode cX5_game 21 = .ok (.iload_n 3, 1) := dk_29 (dk_at dksX5_game_0 21 rfl rfl)
theorem dX5_game_22 : decode cX5_game 22 = .ok (.aload_n 0, 1) := dk_42 (dk_at dksX5_game_0 22 rfl rfl)
theorem dX5_game_23 : decode cX5_game 23 = .ok (.getfield 7, 3) := dk_180 0 7 (dk_at dksX5_game_1 0 rfl rfl)
theorem dX5_game_26 : decode cX5_game 26 = .ok (.iconst 4, 1) := dk_7 (dk_at dksX5_game_1 3 rfl rfl)
theorem dX5_game_27 : decode cX5_game 27 = .ok (.iaload, 1) := dk_46 (dk_at dksX5_game_1 4 rfl rfl)
theorem dX5_game_28 : decode cX5_game 28 = .ok (.if_icmp .ge 23, 3) := dk_162 0 23 (dk_at dksX5_game_1 5 rfl rfl)
theorem dX5_game_31 : decode cX5_game 31 = .ok (.iload_n 2, 1) := dk_28 (dk_at dksX5_game_1 8 rfl rfl)
theorem dX5_game_32 : decode cX5_game 32 = .ok (.aload_n 0, 1) := dk_42 (dk_at dksX5_game_1 9 rfl rfl)
theorem dX5_game_33 : decode cX5_game 33 = .ok (.getfield 7, 3) := dk_180 0 7 (dk_at dksX5_game_1 10 rfl rfl)
theorem dX5_game_36 : decode cX5_game 36 = .ok (.bipush 62, 2) := dk_16 62 (dk_at dksX5_game_1 13 rfl rfl)
theorem dX5_game_38 : decode cX5_game 38 = .ok (.iload_n 3, 1) := dk_29 (dk_at dksX5_game_1 15 rfl rfl)
theorem dX5_game_39 : decode cX5_game 39 = .ok (.iadd, 1) := dk_96 (dk_at dksX5_game_1 16 rfl rfl)
theorem dX5_game_40 : decode cX5_game 40 = .ok (.iaload, 1) := dk_46 (dk_at dksX5_game_1 17 rfl rfl)
theorem dX5_game_41 : decode cX5_game 41 = .ok (.iconst 4, 1) := dk_7 (dk_at dksX5_game_1 18 rfl rfl)
theorem dX5_game_42 : decode cX5_game 42 = .ok (.irem, 1) := dk_112 (dk_at dksX5_game_1 19 rfl rfl)
theorem dX5_game_43 : decode cX5_game 43 = .ok (.ixor, 1) := dk_130 (dk_at dksX5_game_1 20 rfl rfl)
theorem dX5_game_44 : decode cX5_game 44 = .ok (.istore_n 2, 1) := dk_61 (dk_at dksX5_game_1 21 rfl rfl)
theorem dX5_game_45 : decode cX5_game 45 = .ok (.iinc 3 1, 3) := dk_132 3 1 (dk_at dksX5_game_2 0 rfl rfl)
theorem dX5_game_48 : decode cX5_game 48 = .ok (.goto (-27), 3) := dk_167 255 229 (dk_at dksX5_game_2 3 rfl rfl)
theorem dX5_game_51 : decode cX5_game 51 = .ok (.iconst 0, 1) := dk_3 (dk_at dksX5_game_2 6 rfl rfl)
theorem dX5_game_52 : decode cX5_game 52 = .ok (.istore_n 3, 1) := dk_62 (dk_at dksX5_game_2 7 rfl rfl)
theorem dX5_game_53 : decode cX5_game 53 = .ok (.iload_n 3, 1) := dk_29 (dk_at dksX5_game_2 8 rfl rfl)
theorem dX5_game_54 : decode cX5_game 54 = .ok (.aload_n 0, 1) := dk_42 (dk_at dksX5_game_2 9 rfl rfl)
theorem dX5_game_55 : decode cX5_game 55 = .ok (.getfield 7, 3) := dk_180 0 7 (dk_at dksX5_game_2 10 rfl rfl)
theorem dX5_game_58 : decode cX5_game 58 = .ok (.iconst 4, 1) := dk_7 (dk_at dksX5_game_2 13 rfl rfl)
theorem dX5_game_59 : decode cX5_game 59 = .ok (.iaload, 1) := dk_46 (dk_at dksX5_game_2 14 rfl rfl)
theorem dX5_game_60 : decode cX5_game 60 = .ok (.if_icmp .ge 69, 3) := dk_162 0 69 (dk_at dksX5_game_2 15 rfl rfl)
theorem dX5_game_63 : decode cX5_game 63 = .ok (.aload_n 0, 1) := dk_42 (dk_at dksX5_game_2 18 rfl rfl)
theorem dX5_game_64 : decode cX5_game 64 = .ok (.getfield 7, 3) := dk_180 0 7 (dk_at dksX5_game_2 19 rfl rfl)
theorem dX5_game_67 : decode cX5_game 67 = .ok (.bipush 62, 2) := dk_16 62 (dk_at dksX5_game_2 22 rfl rfl)
theorem dX5_game_69 : decode cX5_game 69 = .ok (.iload_n 3, 1) := dk_29 (dk_at dksX5_game_3 0 rfl rfl)
theorem dX5_game_70 : decode cX5_game 70 = .ok (.iadd, 1) := dk_96 (dk_at dksX5_game_3 1 rfl rfl)
theorem dX5_game_71 : decode cX5_game 71 = .ok (.iaload, 1) := dk_46 (dk_at dksX5_game_3 2 rfl rfl)
theorem dX5_game_72 : decode cX5_game 72 = .ok (.istore 4, 2) := dk_54 4 (dk_at dksX5_game_3 3 rfl rfl)
theorem dX5_game_74 : decode cX5_game 74 = .ok (.iconst 1, 1) := dk_4 (dk_at dksX5_game_3 5 rfl rfl)
theorem dX5_game_75 : decode cX5_game 75 = .ok (.istore 5, 2) := dk_54 5 (dk_at dksX5_game_3 6 rfl rfl)
theorem dX5_game_77 : decode cX5_game 77 = .ok (.iload 5, 2) := dk_21 5 (dk_at dksX5_game_3 8 rfl rfl)
theorem dX5_game_79 : decode cX5_game 79 = .ok (.aload_n 0, 1) := dk_42 (dk_at dksX5_game_3 10 rfl rfl)
theorem dX5_game_80 : decode cX5_game 80 = .ok (.iconst 3, 1) := dk_6 (dk_at dksX5_game_3 11 rfl rfl)
theorem dX5_game_81 : decode cX5_game 81 = .ok (.iload 4, 2) := dk_21 4 (dk_at dksX5_game_3 12 rfl rfl)
theorem dX5_game_83 : decode cX5_game 83 = .ok (.invokevirtual 323, 3) := dk_182 1 67 (dk_at dksX5_game_3 14 rfl rfl)
theorem dX5_game_86 : decode cX5_game 86 = .ok (.if_icmp .gt 37, 3) := dk_163 0 37 (dk_at dksX5_game_3 17 rfl rfl)
theorem dX5_game_89 : decode cX5_game 89 = .ok (.iload_n 2, 1) := dk_28 (dk_at dksX5_game_3 20 rfl rfl)
theorem dX5_game_90 : decode cX5_game 90 = .ok (.iload 4, 2) := dk_21 4 (dk_at dksX5_game_3 21 rfl rfl)
theorem dX5_game_92 : decode cX5_game 92 = .ok (.iconst 4, 1) := dk_7 (dk_at dksX5_game_3 23 rfl rfl)
theorem dX5_game_93 : decode cX5_game 93 = .ok (.irem, 1) := dk_112 (dk_at dksX5_game_4 0 rfl rfl)
theorem dX5_game_94 : decode cX5_game 94 = .ok (.ixor, 1) := dk_130 (dk_at dksX5_game_4 1 rfl rfl)
theorem dX5_game_95 : decode cX5_game 95 = .ok (.iload 4, 2) := dk_21 4 (dk_at dksX5_game_4 2 rfl rfl)
theorem dX5_game_97 : decode cX5_game 97 = .ok (.iload 5, 2) := dk_21 5 (dk_at dksX5_game_4 4 rfl rfl)
theorem dX5_game_99 : decode cX5_game 99 = .ok (.isub, 1) := dk_100 (dk_at dksX5_game_4 6 rfl rfl)
theorem dX5_game_100 : decode cX5_game 100 = .ok (.iconst 4, 1) := dk_7 (dk_at dksX5_game_4 7 rfl rfl)
theorem dX5_game_101 : decode cX5_game 101 = .ok (.irem, 1) := dk_112 (dk_at dksX5_game_4 8 rfl rfl)
theorem dX5_game_102 : decode cX5_game 102 = .ok (.ixor, 1) := dk_130 (dk_at dksX5_game_4 9 rfl rfl)
theorem dX5_game_103 : decode cX5_game 103 = .ok (.ifCond .ne 14, 3) := dk_154 0 14 (dk_at dksX5_game_4 10 rfl rfl)
theorem dX5_game_106 : decode cX5_game 106 = .ok (.iload_n 1, 1) := dk_27 (dk_at dksX5_game_4 13 rfl rfl)
theorem dX5_game_107 : decode cX5_game 107 = .ok (.ifCond .ne 7, 3) := dk_154 0 7 (dk_at dksX5_game_4 14 rfl rfl)
theorem dX5_game_110 : decode cX5_game 110 = .ok (.iload_n 3, 1) := dk_29 (dk_at dksX5_game_4 17 rfl rfl)
theorem dX5_game_111 : decode cX5_game 111 = .ok (.goto 5, 3) := dk_167 0 5 (dk_at dksX5_game_4 18 rfl rfl)
theorem dX5_game_114 : decode cX5_game 114 = .ok (.iload 5, 2) := dk_21 5 (dk_at dksX5_game_4 21 rfl rfl)
theorem dX5_game_116 : decode cX5_game 116 = .ok (.ireturn, 1) := dk_172 (dk_at dksX5_game_4 23 rfl rfl)
theorem dX5_game_117 : decode cX5_game 117 = .ok (.iinc 5 1, 3) := dk_132 5 1 (dk_at dksX5_game_5 0 rfl rfl)
theorem dX5_game_120 : decode cX5_game 120 = .ok (.goto (-43), 3) := dk_167 255 213 (dk_at dksX5_game_5 3 rfl rfl)
theorem dX5_game_123 : decode cX5_game 123 = .ok (.iinc 3 1, 3) := dk_132 3 1 (dk_at dksX5_game_5 6 rfl rfl)
theorem dX5_game_126 : decode cX5_game 126 = .ok (.goto (-73), 3) := dk_167 255 183 (dk_at dksX5_game_5 9 rfl rfl)
theorem dX5_game_129 : decode cX5_game 129 = .ok (.iconst (-1), 1) := dk_2 (dk_at dksX5_game_5 12 rfl rfl)
theorem dX5_game_130 : decode cX5_game 130 = .ok (.ireturn, 1) := dk_172 (dk_at dksX5_game_5 13 rfl rfl)
abbrev cX5_image : ByteArray := prog_22_method_126_code
def yX5_image : MethodName := ⟨RX5, "image", "(Z)Z"⟩
def dkwX5_image_4 : List UInt8 := [132, 2, 1, 167, 255, 230, 42, 182, 1, 211, 27, 154, 0, 8, 42, 3, 181, 0, 89, 4, 172]
abbrev dktX5_image_4 : List UInt8 := dkwX5_image_4 ++ []
def dkwX5_image_3 : List UInt8 := [17, 2, 88, 162, 0, 25, 42, 180, 0, 19, 28, 42, 42, 180, 0, 19, 28, 46, 182, 1, 202, 79]
abbrev dktX5_image_3 : List UInt8 := dkwX5_image_3 ++ dktX5_image_4
def dkwX5_image_2 : List UInt8 := [42, 180, 0, 7, 28, 46, 182, 1, 202, 79, 132, 2, 1, 167, 255, 230, 42, 182, 1, 208, 3, 61, 28]
abbrev dktX5_image_2 : List UInt8 := dkwX5_image_2 ++ dktX5_image_3
def dkwX5_image_1 : List UInt8 := [4, 181, 1, 205, 42, 3, 181, 1, 196, 3, 61, 28, 17, 0, 136, 162, 0, 25, 42, 180, 0, 7, 28, 42]
abbrev dktX5_image_1 : List UInt8 := dkwX5_image_1 ++ dktX5_image_2
def dkwX5_image_0 : List UInt8 := [42, 3, 181, 0, 86, 27, 154, 0, 12, 42, 180, 1, 205, 154, 0, 5, 3, 172, 42, 27, 181, 1, 199, 42]
abbrev dktX5_image_0 : List UInt8 := dkwX5_image_0 ++ dktX5_image_1
theorem dksX5_image_0 : cX5_image.data.toList.drop 0 = dktX5_image_0 := by decide +kernel
theorem dksX5_image_1 : cX5_image.data.toList.drop 24 = dktX5_image_1 := dk_seg dksX5_image_0 24 rfl rfl
theorem dksX5_image_2 : cX5_image.data.toList.drop 48 = dktX5_image_2 := dk_seg dksX5_image_1 24 rfl rfl
theorem dksX5_image_3 : cX5_image.data.toList.drop 71 = dktX5_image_3 := dk_seg dksX5_image_2 23 rfl rfl
theorem dksX5_image_4 : cX5_image.data.toList.drop 93 = dktX5_image_4 := dk_seg dksX5_image_3 22 rfl rfl
theorem dX5_image_0 : decode cX5_image 0 = .ok (.aload_n 0, 1) := dk_42 (dk_at dksX5_image_0 0 rfl rfl)
theorem dX5_image_1 : decode cX5_image 1 = .ok (.iconst 0, 1) := dk_3 (dk_at dksX5_image_0 1 rfl rfl)
theorem dX5_image_2 : decode cX5_image 2 = .ok (.putfield 86, 3) := dk_181 0 86 (dk_at dksX5_image_0 2 rfl rfl)
theorem dX5_image_5 : decode cX5_image 5 = .ok (.iload_n 1, 1) := dk_27 (dk_at dksX5_image_0 5 rfl rfl)
theorem dX5_image_6 : decode cX5_image 6 = .ok (.ifCond .ne 12, 3) := dk_154 0 12 (dk_at dksX5_image_0 6 rfl rfl)
theorem dX5_image_9 : decode cX5_image 9 = .ok (.aload_n 0, 1) := dk_42 (dk_at dksX5_image_0 9 rfl rfl)
theorem dX5_image_10 : decode cX5_image 10 = .ok (.getfield 461, 3) := dk_180 1 205 (dk_at dksX5_image_0 10 rfl rfl)
theorem dX5_image_13 : decode cX5_image 13 = .ok (.ifCond .ne 5, 3) := dk_154 0 5 (dk_at dksX5_image_0 13 rfl rfl)
theorem dX5_image_16 : decode cX5_image 16 = .ok (.iconst 0, 1) := dk_3 (dk_at dksX5_image_0 16 rfl rfl)
theorem dX5_image_17 : decode cX5_image 17 = .ok (.ireturn, 1) := dk_172 (dk_at dksX5_image_0 17 rfl rfl)
theorem dX5_image_18 : decode cX5_image 18 = .ok (.aload_n 0, 1) := dk_42 (dk_at dksX5_image_0 18 rfl rfl)
theorem dX5_image_19 : decode cX5_image 19 = .ok (.iload_n 1, 1) := dk_27 (dk_at dksX5_image_0 19 rfl rfl)
theorem dX5_image_20 : decode cX5_image 20 = .ok (.putfield 455, 3) := dk_181 1 199 (dk_at dksX5_image_0 20 rfl rfl)
theorem dX5_image_23 : decode cX5_image 23 = .ok (.aload_n 0, 1) := dk_42 (dk_at dksX5_image_0 23 rfl rfl)
theorem dX5_image_24 : decode cX5_image 24 = .ok (.iconst 1, 1) := dk_4 (dk_at dksX5_image_1 0 rfl rfl)
theorem dX5_image_25 : decode cX5_image 25 = .ok (.putfield 461, 3) := dk_181 1 205 (dk_at dksX5_image_1 1 rfl rfl)
theorem dX5_image_28 : decode cX5_image 28 = .ok (.aload_n 0, 1) := dk_42 (dk_at dksX5_image_1 4 rfl rfl)
theorem dX5_image_29 : decode cX5_image 29 = .ok (.iconst 0, 1) := dk_3 (dk_at dksX5_image_1 5 rfl rfl)
theorem dX5_image_30 : decode cX5_image 30 = .ok (.putfield 452, 3) := dk_181 1 196 (dk_at dksX5_image_1 6 rfl rfl)
theorem dX5_image_33 : decode cX5_image 33 = .ok (.iconst 0, 1) := dk_3 (dk_at dksX5_image_1 9 rfl rfl)
theorem dX5_image_34 : decode cX5_image 34 = .ok (.istore_n 2, 1) := dk_61 (dk_at dksX5_image_1 10 rfl rfl)
theorem dX5_image_35 : decode cX5_image 35 = .ok (.iload_n 2, 1) := dk_28 (dk_at dksX5_image_1 11 rfl rfl)
theorem dX5_image_36 : decode cX5_image 36 = .ok (.sipush 136, 3) := dk_17 0 136 (dk_at dksX5_image_1 12 rfl rfl)
theorem dX5_image_39 : decode cX5_image 39 = .ok (.if_icmp .ge 25, 3) := dk_162 0 25 (dk_at dksX5_image_1 15 rfl rfl)
theorem dX5_image_42 : decode cX5_image 42 = .ok (.aload_n 0, 1) := dk_42 (dk_at dksX5_image_1 18 rfl rfl)
theorem dX5_image_43 : decode cX5_image 43 = .ok (.getfield 7, 3) := dk_180 0 7 (dk_at dksX5_image_1 19 rfl rfl)
theorem dX5_image_46 : decode cX5_image 46 = .ok (.iload_n 2, 1) := dk_28 (dk_at dksX5_image_1 22 rfl rfl)
theorem dX5_image_47 : decode cX5_image 47 = .ok (.aload_n 0, 1) := dk_42 (dk_at dksX5_image_1 23 rfl rfl)
theorem dX5_image_48 : decode cX5_image 48 = .ok (.aload_n 0, 1) := dk_42 (dk_at dksX5_image_2 0 rfl rfl)
theorem dX5_image_49 : decode cX5_image 49 = .ok (.getfield 7, 3) := dk_180 0 7 (dk_at dksX5_image_2 1 rfl rfl)
theorem dX5_image_52 : decode cX5_image 52 = .ok (.iload_n 2, 1) := dk_28 (dk_at dksX5_image_2 4 rfl rfl)
theorem dX5_image_53 : decode cX5_image 53 = .ok (.iaload, 1) := dk_46 (dk_at dksX5_image_2 5 rfl rfl)
theorem dX5_image_54 : decode cX5_image 54 = .ok (.invokevirtual 458, 3) := dk_182 1 202 (dk_at dksX5_image_2 6 rfl rfl)
theorem dX5_image_57 : decode cX5_image 57 = .ok (.iastore, 1) := dk_79 (dk_at dksX5_image_2 9 rfl rfl)
theorem dX5_image_58 : decode cX5_image 58 = .ok (.iinc 2 1, 3) := dk_132 2 1 (dk_at dksX5_image_2 10 rfl rfl)
theorem dX5_image_61 : decode cX5_image 61 = .ok (.goto (-26), 3) := dk_167 255 230 (dk_at dksX5_image_2 13 rfl rfl)
theorem dX5_image_64 : decode cX5_image 64 = .ok (.aload_n 0, 1) := dk_42 (dk_at dksX5_image_2 16 rfl rfl)
theorem dX5_image_65 : decode cX5_image 65 = .ok (.invokevirtual 464, 3) := dk_182 1 208 (dk_at dksX5_image_2 17 rfl rfl)
theorem dX5_image_68 : decode cX5_image 68 = .ok (.iconst 0, 1) := dk_3 (dk_at dksX5_image_2 20 rfl rfl)
theorem dX5_image_69 : decode cX5_image 69 = .ok (.istore_n 2, 1) := dk_61 (dk_at dksX5_image_2 21 rfl rfl)
theorem dX5_image_70 : decode cX5_image 70 = .ok (.iload_n 2, 1) := dk_28 (dk_at dksX5_image_2 22 rfl rfl)
theorem dX5_image_71 : decode cX5_image 71 = .ok (.sipush 600, 3) := dk_17 2 88 (dk_at dksX5_image_3 0 rfl rfl)
theorem dX5_image_74 : decode cX5_image 74 = .ok (.if_icmp .ge 25, 3) := dk_162 0 25 (dk_at dksX5_image_3 3 rfl rfl)
theorem dX5_image_77 : decode cX5_image 77 = .ok (.aload_n 0, 1) := dk_42 (dk_at dksX5_image_3 6 rfl rfl)
theorem dX5_image_78 : decode cX5_image 78 = .ok (.getfield 19, 3) := dk_180 0 19 (dk_at dksX5_image_3 7 rfl rfl)
theorem dX5_image_81 : decode cX5_image 81 = .ok (.iload_n 2, 1) := dk_28 (dk_at dksX5_image_3 10 rfl rfl)
theorem dX5_image_82 : decode cX5_image 82 = .ok (.aload_n 0, 1) := dk_42 (dk_at dksX5_image_3 11 rfl rfl)
theorem dX5_image_83 : decode cX5_image 83 = .ok (.aload_n 0, 1) := dk_42 (dk_at dksX5_image_3 12 rfl rfl)
theorem dX5_image_84 : decode cX5_image 84 = .ok (.getfield 19, 3) := dk_180 0 19 (dk_at dksX5_image_3 13 rfl rfl)
theorem dX5_image_87 : decode cX5_image 87 = .ok (.iload_n 2, 1) := dk_28 (dk_at dksX5_image_3 16 rfl rfl)
theorem dX5_image_88 : decode cX5_image 88 = .ok (.iaload, 1) := dk_46 (dk_at dksX5_image_3 17 rfl rfl)
theorem dX5_image_89 : decode cX5_image 89 = .ok (.invokevirtual 458, 3) := dk_182 1 202 (dk_at dksX5_image_3 18 rfl rfl)
theorem dX5_image_92 : decode cX5_image 92 = .ok (.iastore, 1) := dk_79 (dk_at dksX5_image_3 21 rfl rfl)
theorem dX5_image_93 : decode cX5_image 93 = .ok (.iinc 2 1, 3) := dk_132 2 1 (dk_at dksX5_image_4 0 rfl rfl)
theorem dX5_image_96 : decode cX5_image 96 = .ok (.goto (-26), 3) := dk_167 255 230 (dk_at dksX5_image_4 3 rfl rfl)
theorem dX5_image_99 : decode cX5_image 99 = .ok (.aload_n 0, 1) := dk_42 (dk_at dksX5_image_4 6 rfl rfl)
theorem dX5_image_100 : decode cX5_image 100 = .ok (.invokevirtual 467, 3) := dk_182 1 211 (dk_at dksX5_image_4 7 rfl rfl)
theorem dX5_image_103 : decode cX5_image 103 = .ok (.iload_n 1, 1) := dk_27 (dk_at dksX5_image_4 10 rfl rfl)
theorem dX5_image_104 : decode cX5_image 104 = .ok (.ifCond .ne 8, 3) := dk_154 0 8 (dk_at dksX5_image_4 11 rfl rfl)
theorem dX5_image_107 : decode cX5_image 107 = .ok (.aload_n 0, 1) := dk_42 (dk_at dksX5_image_4 14 rfl rfl)
theorem dX5_image_108 : decode cX5_image 108 = .ok (.iconst 0, 1) := dk_3 (dk_at dksX5_image_4 15 rfl rfl)
theorem dX5_image_109 : decode cX5_image 109 = .ok (.putfield 89, 3) := dk_181 0 89 (dk_at dksX5_image_4 16 rfl rfl)
theorem dX5_image_112 : decode cX5_image 112 = .ok (.iconst 1, 1) := dk_4 (dk_at dksX5_image_4 19 rfl rfl)
theorem dX5_image_113 : decode cX5_image 113 = .ok (.ireturn, 1) := dk_172 (dk_at dksX5_image_4 20 rfl rfl)
abbrev cX5_keeps : ByteArray := prog_22_method_123_code
def yX5_keeps : MethodName := ⟨RX5, "keeps", "(I)I"⟩
def dkwX5_keeps_1 : List UInt8 := [180, 1, 196, 4, 100, 46, 172, 42, 180, 0, 83, 42, 180, 1, 196, 4, 100, 27, 79, 27, 172]
abbrev dktX5_keeps_1 : List UInt8 := dkwX5_keeps_1 ++ []
def dkwX5_keeps_0 : List UInt8 := [42, 42, 180, 1, 196, 4, 96, 181, 1, 196, 42, 180, 1, 199, 154, 0, 15, 42, 180, 0, 83, 42]
abbrev dktX5_keeps_0 : List UInt8 := dkwX5_keeps_0 ++ dktX5_keeps_1
theorem dksX5_keeps_0 : cX5_keeps.data.toList.drop 0 = dktX5_keeps_0 := by decide +kernel
theorem dksX5_keeps_1 : cX5_keeps.data.toList.drop 22 = dktX5_keeps_1 := dk_seg dksX5_keeps_0 22 rfl rfl
theorem dX5_keeps_0 : decode cX5_keeps 0 = .ok (.aload_n 0, 1) := dk_42 (dk_at dksX5_keeps_0 0 rfl rfl)
theorem dX5_keeps_1 : decode cX5_keeps 1 = .ok (.aload_n 0, 1) := dk_42 (dk_at dksX5_keeps_0 1 rfl rfl)
theorem dX5_keeps_2 : decode cX5_keeps 2 = .ok (.getfield 452, 3) := dk_180 1 196 (dk_at dksX5_keeps_0 2 rfl rfl)
theorem dX5_keeps_5 : decode cX5_keeps 5 = .ok (.iconst 1, 1) := dk_4 (dk_at dksX5_keeps_0 5 rfl rfl)
theorem dX5_keeps_6 : decode cX5_keeps 6 = .ok (.iadd, 1) := dk_96 (dk_at dksX5_keeps_0 6 rfl rfl)
theorem dX5_keeps_7 : decode cX5_keeps 7 = .ok (.putfield 452, 3) := dk_181 1 196 (dk_at dksX5_keeps_0 7 rfl rfl)
theorem dX5_keeps_10 : decode cX5_keeps 10 = .ok (.aload_n 0, 1) := dk_42 (dk_at dksX5_keeps_0 10 rfl rfl)
theorem dX5_keeps_11 : decode cX5_keeps 11 = .ok (.getfield 455, 3) := dk_180 1 199 (dk_at dksX5_keeps_0 11 rfl rfl)
theorem dX5_keeps_14 : decode cX5_keeps 14 = .ok (.ifCond .ne 15, 3) := dk_154 0 15 (dk_at dksX5_keeps_0 14 rfl rfl)
theorem dX5_keeps_17 : decode cX5_keeps 17 = .ok (.aload_n 0, 1) := dk_42 (dk_at dksX5_keeps_0 17 rfl rfl)
theorem dX5_keeps_18 : decode cX5_keeps 18 = .ok (.getfield 83, 3) := dk_180 0 83 (dk_at dksX5_keeps_0 18 rfl rfl)
theorem dX5_keeps_21 : decode cX5_keeps 21 = .ok (.aload_n 0, 1) := dk_42 (dk_at dksX5_keeps_0 21 rfl rfl)
theorem dX5_keeps_22 : decode cX5_keeps 22 = .ok (.getfield 452, 3) := dk_180 1 196 (dk_at dksX5_keeps_1 0 rfl rfl)
theorem dX5_keeps_25 : decode cX5_keeps 25 = .ok (.iconst 1, 1) := dk_4 (dk_at dksX5_keeps_1 3 rfl rfl)
theorem dX5_keeps_26 : decode cX5_keeps 26 = .ok (.isub, 1) := dk_100 (dk_at dksX5_keeps_1 4 rfl rfl)
theorem dX5_keeps_27 : decode cX5_keeps 27 = .ok (.iaload, 1) := dk_46 (dk_at dksX5_keeps_1 5 rfl rfl)
theorem dX5_keeps_28 : decode cX5_keeps 28 = .ok (.ireturn, 1) := dk_172 (dk_at dksX5_keeps_1 6 rfl rfl)
theorem dX5_keeps_29 : decode cX5_keeps 29 = .ok (.aload_n 0, 1) := dk_42 (dk_at dksX5_keeps_1 7 rfl rfl)
theorem dX5_keeps_30 : decode cX5_keeps 30 = .ok (.getfield 83, 3) := dk_180 0 83 (dk_at dksX5_keeps_1 8 rfl rfl)
theorem dX5_keeps_33 : decode cX5_keeps 33 = .ok (.aload_n 0, 1) := dk_42 (dk_at dksX5_keeps_1 11 rfl rfl)
theorem dX5_keeps_34 : decode cX5_keeps 34 = .ok (.getfield 452, 3) := dk_180 1 196 (dk_at dksX5_keeps_1 12 rfl rfl)
theorem dX5_keeps_37 : decode cX5_keeps 37 = .ok (.iconst 1, 1) := dk_4 (dk_at dksX5_keeps_1 15 rfl rfl)
theorem dX5_keeps_38 : decode cX5_keeps 38 = .ok (.isub, 1) := dk_100 (dk_at dksX5_keeps_1 16 rfl rfl)
theorem dX5_keeps_39 : decode cX5_keeps 39 = .ok (.iload_n 1, 1) := dk_27 (dk_at dksX5_keeps_1 17 rfl rfl)
theorem dX5_keeps_40 : decode cX5_keeps 40 = .ok (.iastore, 1) := dk_79 (dk_at dksX5_keeps_1 18 rfl rfl)
theorem dX5_keeps_41 : decode cX5_keeps 41 = .ok (.iload_n 1, 1) := dk_27 (dk_at dksX5_keeps_1 19 rfl rfl)
theorem dX5_keeps_42 : decode cX5_keeps 42 = .ok (.ireturn, 1) := dk_172 (dk_at dksX5_keeps_1 20 rfl rfl)
abbrev cX5_keepsTold : ByteArray := prog_22_method_125_code
def yX5_keepsTold : MethodName := ⟨RX5, "keepsTold", "()V"⟩
def dkwX5_keepsTold_8 : List UInt8 := [182, 1, 202, 79, 132, 1, 1, 167, 255, 231, 177]
abbrev dktX5_keepsTold_8 : List UInt8 := dkwX5_keepsTold_8 ++ []
def dkwX5_keepsTold_7 : List UInt8 := [167, 255, 231, 3, 60, 27, 16, 64, 162, 0, 25, 42, 180, 0, 59, 27, 42, 42, 180, 0, 59, 27, 46]
abbrev dktX5_keepsTold_7 : List UInt8 := dkwX5_keepsTold_7 ++ dktX5_keepsTold_8
def dkwX5_keepsTold_6 : List UInt8 := [162, 0, 25, 42, 180, 0, 56, 27, 42, 42, 180, 0, 56, 27, 46, 182, 1, 202, 79, 132, 1, 1]
abbrev dktX5_keepsTold_6 : List UInt8 := dkwX5_keepsTold_6 ++ dktX5_keepsTold_7
def dkwX5_keepsTold_5 : List UInt8 := [27, 42, 42, 180, 0, 74, 27, 46, 182, 1, 202, 79, 132, 1, 1, 167, 255, 231, 3, 60, 27, 16, 90]
abbrev dktX5_keepsTold_5 : List UInt8 := dkwX5_keepsTold_5 ++ dktX5_keepsTold_6
def dkwX5_keepsTold_4 : List UInt8 := [42, 42, 42, 180, 1, 179, 182, 1, 202, 181, 1, 179, 3, 60, 27, 16, 16, 162, 0, 25, 42, 180, 0, 74]
abbrev dktX5_keepsTold_4 : List UInt8 := dkwX5_keepsTold_4 ++ dktX5_keepsTold_5
def dkwX5_keepsTold_3 : List UInt8 := [42, 42, 42, 180, 1, 23, 182, 1, 202, 181, 1, 23, 42, 42, 42, 180, 1, 26, 182, 1, 202, 181, 1, 26]
abbrev dktX5_keepsTold_3 : List UInt8 := dkwX5_keepsTold_3 ++ dktX5_keepsTold_4
def dkwX5_keepsTold_2 : List UInt8 := [42, 42, 42, 180, 0, 110, 182, 1, 202, 181, 0, 110, 42, 42, 42, 180, 0, 113, 182, 1, 202, 181, 0, 113]
abbrev dktX5_keepsTold_2 : List UInt8 := dkwX5_keepsTold_2 ++ dktX5_keepsTold_3
def dkwX5_keepsTold_1 : List UInt8 := [42, 42, 42, 180, 0, 147, 182, 1, 202, 181, 0, 147, 42, 42, 42, 180, 0, 150, 182, 1, 202, 181, 0, 150]
abbrev dktX5_keepsTold_1 : List UInt8 := dkwX5_keepsTold_1 ++ dktX5_keepsTold_2
def dkwX5_keepsTold_0 : List UInt8 := [42, 42, 42, 180, 0, 116, 182, 1, 202, 181, 0, 116, 42, 42, 42, 180, 0, 119, 182, 1, 202, 181, 0, 119]
abbrev dktX5_keepsTold_0 : List UInt8 := dkwX5_keepsTold_0 ++ dktX5_keepsTold_1
theorem dksX5_keepsTold_0 : cX5_keepsTold.data.toList.drop 0 = dktX5_keepsTold_0 := by decide +kernel
theorem dksX5_keepsTold_1 : cX5_keepsTold.data.toList.drop 24 = dktX5_keepsTold_1 := dk_seg dksX5_keepsTold_0 24 rfl rfl
theorem dksX5_keepsTold_2 : cX5_keepsTold.data.toList.drop 48 = dktX5_keepsTold_2 := dk_seg dksX5_keepsTold_1 24 rfl rfl
theorem dksX5_keepsTold_3 : cX5_keepsTold.data.toList.drop 72 = dktX5_keepsTold_3 := dk_seg dksX5_keepsTold_2 24 rfl rfl
theorem dksX5_keepsTold_4 : cX5_keepsTold.data.toList.drop 96 = dktX5_keepsTold_4 := dk_seg dksX5_keepsTold_3 24 rfl rfl
theorem dksX5_keepsTold_5 : cX5_keepsTold.data.toList.drop 120 = dktX5_keepsTold_5 := dk_seg dksX5_keepsTold_4 24 rfl rfl
theorem dksX5_keepsTold_6 : cX5_keepsTold.data.toList.drop 143 = dktX5_keepsTold_6 := dk_seg dksX5_keepsTold_5 23 rfl rfl
theorem dksX5_keepsTold_7 : cX5_keepsTold.data.toList.drop 165 = dktX5_keepsTold_7 := dk_seg dksX5_keepsTold_6 22 rfl rfl
theorem dksX5_keepsTold_8 : cX5_keepsTold.data.toList.drop 188 = dktX5_keepsTold_8 := dk_seg dksX5_keepsTold_7 23 rfl rfl
theorem dX5_keepsTold_0 : decode cX5_keepsTold 0 = .ok (.aload_n 0, 1) := dk_42 (dk_at dksX5_keepsTold_0 0 rfl rfl)
theorem dX5_keepsTold_1 : decode cX5_keepsTold 1 = .ok (.aload_n 0, 1) := dk_42 (dk_at dksX5_keepsTold_0 1 rfl rfl)
theorem dX5_keepsTold_2 : decode cX5_keepsTold 2 = .ok (.aload_n 0, 1) := dk_42 (dk_at dksX5_keepsTold_0 2 rfl rfl)
theorem dX5_keepsTold_3 : decode cX5_keepsTold 3 = .ok (.getfield 116, 3) := dk_180 0 116 (dk_at dksX5_keepsTold_0 3 rfl rfl)
theorem dX5_keepsTold_6 : decode cX5_keepsTold 6 = .ok (.invokevirtual 458, 3) := dk_182 1 202 (dk_at dksX5_keepsTold_0 6 rfl rfl)
theorem dX5_keepsTold_9 : decode cX5_keepsTold 9 = .ok (.putfield 116, 3) := dk_181 0 116 (dk_at dksX5_keepsTold_0 9 rfl rfl)
theorem dX5_keepsTold_12 : decode cX5_keepsTold 12 = .ok (.aload_n 0, 1) := dk_42 (dk_at dksX5_keepsTold_0 12 rfl rfl)
theorem dX5_keepsTold_13 : decode cX5_keepsTold 13 = .ok (.aload_n 0, 1) := dk_42 (dk_at dksX5_keepsTold_0 13 rfl rfl)
theorem dX5_keepsTold_14 : decode cX5_keepsTold 14 = .ok (.aload_n 0, 1) := dk_42 (dk_at dksX5_keepsTold_0 14 rfl rfl)
theorem dX5_keepsTold_15 : decode cX5_keepsTold 15 = .ok (.getfield 119, 3) := dk_180 0 119 (dk_at dksX5_keepsTold_0 15 rfl rfl)
theorem dX5_keepsTold_18 : decode cX5_keepsTold 18 = .ok (.invokevirtual 458, 3) := dk_182 1 202 (dk_at dksX5_keepsTold_0 18 rfl rfl)
theorem dX5_keepsTold_21 : decode cX5_keepsTold 21 = .ok (.putfield 119, 3) := dk_181 0 119 (dk_at dksX5_keepsTold_0 21 rfl rfl)
theorem dX5_keepsTold_24 : decode cX5_keepsTold 24 = .ok (.aload_n 0, 1) := dk_42 (dk_at dksX5_keepsTold_1 0 rfl rfl)
theorem dX5_keepsTold_25 : decode cX5_keepsTold 25 = .ok (.aload_n 0, 1) := dk_42 (dk_at dksX5_keepsTold_1 1 rfl rfl)
theorem dX5_keepsTold_26 : decode cX5_keepsTold 26 = .ok (.aload_n 0, 1) := dk_42 (dk_at dksX5_keepsTold_1 2 rfl rfl)
theorem dX5_keepsTold_27 : decode cX5_keepsTold 27 = .ok (.getfield 147, 3) := dk_180 0 147 (dk_at dksX5_keepsTold_1 3 rfl rfl)
theorem dX5_keepsTold_30 : decode cX5_keepsTold 30 = .ok (.invokevirtual 458, 3) := dk_182 1 202 (dk_at dksX5_keepsTold_1 6 rfl rfl)
theorem dX5_keepsTold_33 : decode cX5_keepsTold 33 = .ok (.putfield 147, 3) := dk_181 0 147 (dk_at dksX5_keepsTold_1 9 rfl rfl)
theorem dX5_keepsTold_36 : decode cX5_keepsTold 36 = .ok (.aload_n 0, 1) := dk_42 (dk_at dksX5_keepsTold_1 12 rfl rfl)
theorem dX5_keepsTold_37 : decode cX5_keepsTold 37 = .ok (.aload_n 0, 1) := dk_42 (dk_at dksX5_keepsTold_1 13 rfl rfl)
theorem dX5_keepsTold_38 : decode cX5_keepsTold 38 = .ok (.aload_n 0, 1) := dk_42 (dk_at dksX5_keepsTold_1 14 rfl rfl)
theorem dX5_keepsTold_39 : decode cX5_keepsTold 39 = .ok (.getfield 150, 3) := dk_180 0 150 (dk_at dksX5_keepsTold_1 15 rfl rfl)
theorem dX5_keepsTold_42 : decode cX5_keepsTold 42 = .ok (.invokevirtual 458, 3) := dk_182 1 202 (dk_at dksX5_keepsTold_1 18 rfl rfl)
theorem dX5_keepsTold_45 : decode cX5_keepsTold 45 = .ok (.putfield 150, 3) := dk_181 0 150 (dk_at dksX5_keepsTold_1 21 rfl rfl)
theorem dX5_keepsTold_48 : decode cX5_keepsTold 48 = .ok (.aload_n 0, 1) := dk_42 (dk_at dksX5_keepsTold_2 0 rfl rfl)
theorem dX5_keepsTold_49 : decode cX5_keepsTold 49 = .ok (.aload_n 0, 1) := dk_42 (dk_at dksX5_keepsTold_2 1 rfl rfl)
theorem dX5_keepsTold_50 : decode cX5_keepsTold 50 = .ok (.aload_n 0, 1) := dk_42 (dk_at dksX5_keepsTold_2 2 rfl rfl)
theorem dX5_keepsTold_51 : decode cX5_keepsTold 51 = .ok (.getfield 110, 3) := dk_180 0 110 (dk_at dksX5_keepsTold_2 3 rfl rfl)
theorem dX5_keepsTold_54 : decode cX5_keepsTold 54 = .ok (.invokevirtual 458, 3) := dk_182 1 202 (dk_at dksX5_keepsTold_2 6 rfl rfl)
theorem dX5_keepsTold_57 : decode cX5_keepsTold 57 = .ok (.putfield 110, 3) := dk_181 0 110 (dk_at dksX5_keepsTold_2 9 rfl rfl)
theorem dX5_keepsTold_60 : decode cX5_keepsTold 60 = .ok (.aload_n 0, 1) := dk_42 (dk_at dksX5_keepsTold_2 12 rfl rfl)
theorem dX5_keepsTold_61 : decode cX5_keepsTold 61 = .ok (.aload_n 0, 1) := dk_42 (dk_at dksX5_keepsTold_2 13 rfl rfl)
theorem dX5_keepsTold_62 : decode cX5_keepsTold 62 = .ok (.aload_n 0, 1) := dk_42 (dk_at dksX5_keepsTold_2 14 rfl rfl)
theorem dX5_keepsTold_63 : decode cX5_keepsTold 63 = .ok (.getfield 113, 3) := dk_180 0 113 (dk_at dksX5_keepsTold_2 15 rfl rfl)
theorem dX5_keepsTold_66 : decode cX5_keepsTold 66 = .ok (.invokevirtual 458, 3) := dk_182 1 202 (dk_at dksX5_keepsTold_2 18 rfl rfl)
theorem dX5_keepsTold_69 : decode cX5_keepsTold 69 = .ok (.putfield 113, 3) := dk_181 0 113 (dk_at dksX5_keepsTold_2 21 rfl rfl)
theorem dX5_keepsTold_72 : decode cX5_keepsTold 72 = .ok (.aload_n 0, 1) := dk_42 (dk_at dksX5_keepsTold_3 0 rfl rfl)
theorem dX5_keepsTold_73 : decode cX5_keepsTold 73 = .ok (.aload_n 0, 1) := dk_42 (dk_at dksX5_keepsTold_3 1 rfl rfl)
theorem dX5_keepsTold_74 : decode cX5_keepsTold 74 = .ok (.aload_n 0, 1) := dk_42 (dk_at dksX5_keepsTold_3 2 rfl rfl)
theorem dX5_keepsTold_75 : decode cX5_keepsTold 75 = .ok (.getfield 279, 3) := dk_180 1 23 (dk_at dksX5_keepsTold_3 3 rfl rfl)
theorem dX5_keepsTold_78 : decode cX5_keepsTold 78 = .ok (.invokevirtual 458, 3) := dk_182 1 202 (dk_at dksX5_keepsTold_3 6 rfl rfl)
theorem dX5_keepsTold_81 : decode cX5_keepsTold 81 = .ok (.putfield 279, 3) := dk_181 1 23 (dk_at dksX5_keepsTold_3 9 rfl rfl)
theorem dX5_keepsTold_84 : decode cX5_keepsTold 84 = .ok (.aload_n 0, 1) := dk_42 (dk_at dksX5_keepsTold_3 12 rfl rfl)
theorem dX5_keepsTold_85 : decode cX5_keepsTold 85 = .ok (.aload_n 0, 1) := dk_42 (dk_at dksX5_keepsTold_3 13 rfl rfl)
theorem dX5_keepsTold_86 : decode cX5_keepsTold 86 = .ok (.aload_n 0, 1) := dk_42 (dk_at dksX5_keepsTold_3 14 rfl rfl)
theorem dX5_keepsTold_87 : decode cX5_keepsTold 87 = .ok (.getfield 282, 3) := dk_180 1 26 (dk_at dksX5_keepsTold_3 15 rfl rfl)
theorem dX5_keepsTold_90 : decode cX5_keepsTold 90 = .ok (.invokevirtual 458, 3) := dk_182 1 202 (dk_at dksX5_keepsTold_3 18 rfl rfl)
theorem dX5_keepsTold_93 : decode cX5_keepsTold 93 = .ok (.putfield 282, 3) := dk_181 1 26 (dk_at dksX5_keepsTold_3 21 rfl rfl)
theorem dX5_keepsTold_96 : decode cX5_keepsTold 96 = .ok (.aload_n 0, 1) := dk_42 (dk_at dksX5_keepsTold_4 0 rfl rfl)
theorem dX5_keepsTold_97 : decode cX5_keepsTold 97 = .ok (.aload_n 0, 1) := dk_42 (dk_at dksX5_keepsTold_4 1 rfl rfl)
theorem dX5_keepsTold_98 : decode cX5_keepsTold 98 = .ok (.aload_n 0, 1) := dk_42 (dk_at dksX5_keepsTold_4 2 rfl rfl)
theorem dX5_keepsTold_99 : decode cX5_keepsTold 99 = .ok (.getfield 435, 3) := dk_180 1 179 (dk_at dksX5_keepsTold_4 3 rfl rfl)
theorem dX5_keepsTold_102 : decode cX5_keepsTold 102 = .ok (.invokevirtual 458, 3) := dk_182 1 202 (dk_at dksX5_keepsTold_4 6 rfl rfl)
theorem dX5_keepsTold_105 : decode cX5_keepsTold 105 = .ok (.putfield 435, 3) := dk_181 1 179 (dk_at dksX5_keepsTold_4 9 rfl rfl)
theorem dX5_keepsTold_108 : decode cX5_keepsTold 108 = .ok (.iconst 0, 1) := dk_3 (dk_at dksX5_keepsTold_4 12 rfl rfl)
theorem dX5_keepsTold_109 : decode cX5_keepsTold 109 = .ok (.istore_n 1, 1) := dk_60 (dk_at dksX5_keepsTold_4 13 rfl rfl)
theorem dX5_keepsTold_110 : decode cX5_keepsTold 110 = .ok (.iload_n 1, 1) := dk_27 (dk_at dksX5_keepsTold_4 14 rfl rfl)
theorem dX5_keepsTold_111 : decode cX5_keepsTold 111 = .ok (.bipush 16, 2) := dk_16 16 (dk_at dksX5_keepsTold_4 15 rfl rfl)
theorem dX5_keepsTold_113 : decode cX5_keepsTold 113 = .ok (.if_icmp .ge 25, 3) := dk_162 0 25 (dk_at dksX5_keepsTold_4 17 rfl rfl)
theorem dX5_keepsTold_116 : decode cX5_keepsTold 116 = .ok (.aload_n 0, 1) := dk_42 (dk_at dksX5_keepsTold_4 20 rfl rfl)
theorem dX5_keepsTold_117 : decode cX5_keepsTold 117 = .ok (.getfield 74, 3) := dk_180 0 74 (dk_at dksX5_keepsTold_4 21 rfl rfl)
theorem dX5_keepsTold_120 : decode cX5_keepsTold 120 = .ok (.iload_n 1, 1) := dk_27 (dk_at dksX5_keepsTold_5 0 rfl rfl)
theorem dX5_keepsTold_121 : decode cX5_keepsTold 121 = .ok (.aload_n 0, 1) := dk_42 (dk_at dksX5_keepsTold_5 1 rfl rfl)
theorem dX5_keepsTold_122 : decode cX5_keepsTold 122 = .ok (.aload_n 0, 1) := dk_42 (dk_at dksX5_keepsTold_5 2 rfl rfl)
theorem dX5_keepsTold_123 : decode cX5_keepsTold 123 = .ok (.getfield 74, 3) := dk_180 0 74 (dk_at dksX5_keepsTold_5 3 rfl rfl)
theorem dX5_keepsTold_126 : decode cX5_keepsTold 126 = .ok (.iload_n 1, 1) := dk_27 (dk_at dksX5_keepsTold_5 6 rfl rfl)
theorem dX5_keepsTold_127 : decode cX5_keepsTold 127 = .ok (.iaload, 1) := dk_46 (dk_at dksX5_keepsTold_5 7 rfl rfl)
theorem dX5_keepsTold_128 : decode cX5_keepsTold 128 = .ok (.invokevirtual 458, 3) := dk_182 1 202 (dk_at dksX5_keepsTold_5 8 rfl rfl)
theorem dX5_keepsTold_131 : decode cX5_keepsTold 131 = .ok (.iastore, 1) := dk_79 (dk_at dksX5_keepsTold_5 11 rfl rfl)
theorem dX5_keepsTold_132 : decode cX5_keepsTold 132 = .ok (.iinc 1 1, 3) := dk_132 1 1 (dk_at dksX5_keepsTold_5 12 rfl rfl)
theorem dX5_keepsTold_135 : decode cX5_keepsTold 135 = .ok (.goto (-25), 3) := dk_167 255 231 (dk_at dksX5_keepsTold_5 15 rfl rfl)
theorem dX5_keepsTold_138 : decode cX5_keepsTold 138 = .ok (.iconst 0, 1) := dk_3 (dk_at dksX5_keepsTold_5 18 rfl rfl)
theorem dX5_keepsTold_139 : decode cX5_keepsTold 139 = .ok (.istore_n 1, 1) := dk_60 (dk_at dksX5_keepsTold_5 19 rfl rfl)
theorem dX5_keepsTold_140 : decode cX5_keepsTold 140 = .ok (.iload_n 1, 1) := dk_27 (dk_at dksX5_keepsTold_5 20 rfl rfl)
theorem dX5_keepsTold_141 : decode cX5_keepsTold 141 = .ok (.bipush 90, 2) := dk_16 90 (dk_at dksX5_keepsTold_5 21 rfl rfl)
theorem dX5_keepsTold_143 : decode cX5_keepsTold 143 = .ok (.if_icmp .ge 25, 3) := dk_162 0 25 (dk_at dksX5_keepsTold_6 0 rfl rfl)
theorem dX5_keepsTold_146 : decode cX5_keepsTold 146 = .ok (.aload_n 0, 1) := dk_42 (dk_at dksX5_keepsTold_6 3 rfl rfl)
theorem dX5_keepsTold_147 : decode cX5_keepsTold 147 = .ok (.getfield 56, 3) := dk_180 0 56 (dk_at dksX5_keepsTold_6 4 rfl rfl)
theorem dX5_keepsTold_150 : decode cX5_keepsTold 150 = .ok (.iload_n 1, 1) := dk_27 (dk_at dksX5_keepsTold_6 7 rfl rfl)
theorem dX5_keepsTold_151 : decode cX5_keepsTold 151 = .ok (.aload_n 0, 1) := dk_42 (dk_at dksX5_keepsTold_6 8 rfl rfl)
theorem dX5_keepsTold_152 : decode cX5_keepsTold 152 = .ok (.aload_n 0, 1) := dk_42 (dk_at dksX5_keepsTold_6 9 rfl rfl)
theorem dX5_keepsTold_153 : decode cX5_keepsTold 153 = .ok (.getfield 56, 3) := dk_180 0 56 (dk_at dksX5_keepsTold_6 10 rfl rfl)
theorem dX5_keepsTold_156 : decode cX5_keepsTold 156 = .ok (.iload_n 1, 1) := dk_27 (dk_at dksX5_keepsTold_6 13 rfl rfl)
theorem dX5_keepsTold_157 : decode cX5_keepsTold 157 = .ok (.iaload, 1) := dk_46 (dk_at dksX5_keepsTold_6 14 rfl rfl)
theorem dX5_keepsTold_158 : decode cX5_keepsTold 158 = .ok (.invokevirtual 458, 3) := dk_182 1 202 (dk_at dksX5_keepsTold_6 15 rfl rfl)
theorem dX5_keepsTold_161 : decode cX5_keepsTold 161 = .ok (.iastore, 1) := dk_79 (dk_at dksX5_keepsTold_6 18 rfl rfl)
theorem dX5_keepsTold_162 : decode cX5_keepsTold 162 = .ok (.iinc 1 1, 3) := dk_132 1 1 (dk_at dksX5_keepsTold_6 19 rfl rfl)
theorem dX5_keepsTold_165 : decode cX5_keepsTold 165 = .ok (.goto (-25), 3) := dk_167 255 231 (dk_at dksX5_keepsTold_7 0 rfl rfl)
theorem dX5_keepsTold_168 : decode cX5_keepsTold 168 = .ok (.iconst 0, 1) := dk_3 (dk_at dksX5_keepsTold_7 3 rfl rfl)
theorem dX5_keepsTold_169 : decode cX5_keepsTold 169 = .ok (.istore_n 1, 1) := dk_60 (dk_at dksX5_keepsTold_7 4 rfl rfl)
theorem dX5_keepsTold_170 : decode cX5_keepsTold 170 = .ok (.iload_n 1, 1) := dk_27 (dk_at dksX5_keepsTold_7 5 rfl rfl)
theorem dX5_keepsTold_171 : decode cX5_keepsTold 171 = .ok (.bipush 64, 2) := dk_16 64 (dk_at dksX5_keepsTold_7 6 rfl rfl)
theorem dX5_keepsTold_173 : decode cX5_keepsTold 173 = .ok (.if_icmp .ge 25, 3) := dk_162 0 25 (dk_at dksX5_keepsTold_7 8 rfl rfl)
theorem dX5_keepsTold_176 : decode cX5_keepsTold 176 = .ok (.aload_n 0, 1) := dk_42 (dk_at dksX5_keepsTold_7 11 rfl rfl)
theorem dX5_keepsTold_177 : decode cX5_keepsTold 177 = .ok (.getfield 59, 3) := dk_180 0 59 (dk_at dksX5_keepsTold_7 12 rfl rfl)
theorem dX5_keepsTold_180 : decode cX5_keepsTold 180 = .ok (.iload_n 1, 1) := dk_27 (dk_at dksX5_keepsTold_7 15 rfl rfl)
theorem dX5_keepsTold_181 : decode cX5_keepsTold 181 = .ok (.aload_n 0, 1) := dk_42 (dk_at dksX5_keepsTold_7 16 rfl rfl)
theorem dX5_keepsTold_182 : decode cX5_keepsTold 182 = .ok (.aload_n 0, 1) := dk_42 (dk_at dksX5_keepsTold_7 17 rfl rfl)
theorem dX5_keepsTold_183 : decode cX5_keepsTold 183 = .ok (.getfield 59, 3) := dk_180 0 59 (dk_at dksX5_keepsTold_7 18 rfl rfl)
theorem dX5_keepsTold_186 : decode cX5_keepsTold 186 = .ok (.iload_n 1, 1) := dk_27 (dk_at dksX5_keepsTold_7 21 rfl rfl)
theorem dX5_keepsTold_187 : decode cX5_keepsTold 187 = .ok (.iaload, 1) := dk_46 (dk_at dksX5_keepsTold_7 22 rfl rfl)
theorem dX5_keepsTold_188 : decode cX5_keepsTold 188 = .ok (.invokevirtual 458, 3) := dk_182 1 202 (dk_at dksX5_keepsTold_8 0 rfl rfl)
theorem dX5_keepsTold_191 : decode cX5_keepsTold 191 = .ok (.iastore, 1) := dk_79 (dk_at dksX5_keepsTold_8 3 rfl rfl)
theorem dX5_keepsTold_192 : decode cX5_keepsTold 192 = .ok (.iinc 1 1, 3) := dk_132 1 1 (dk_at dksX5_keepsTold_8 4 rfl rfl)
theorem dX5_keepsTold_195 : decode cX5_keepsTold 195 = .ok (.goto (-25), 3) := dk_167 255 231 (dk_at dksX5_keepsTold_8 7 rfl rfl)
theorem dX5_keepsTold_198 : decode cX5_keepsTold 198 = .ok (.return_, 1) := dk_177 (dk_at dksX5_keepsTold_8 10 rfl rfl)
abbrev cX5_keepsLaw : ByteArray := prog_22_method_124_code
def yX5_keepsLaw : MethodName := ⟨RX5, "keepsLaw", "()V"⟩
def dkwX5_keepsLaw_5 : List UInt8 := [42, 180, 0, 46, 27, 42, 42, 180, 0, 46, 27, 46, 182, 1, 202, 79, 132, 1, 1, 167, 255, 214, 177]
abbrev dktX5_keepsLaw_5 : List UInt8 := dkwX5_keepsLaw_5 ++ []
def dkwX5_keepsLaw_4 : List UInt8 := [60, 27, 17, 1, 144, 162, 0, 41, 42, 180, 0, 43, 27, 42, 42, 180, 0, 43, 27, 46, 182, 1, 202, 79]
abbrev dktX5_keepsLaw_4 : List UInt8 := dkwX5_keepsLaw_4 ++ dktX5_keepsLaw_5
def dkwX5_keepsLaw_3 : List UInt8 := [79, 42, 180, 0, 40, 27, 42, 42, 180, 0, 40, 27, 46, 182, 1, 202, 79, 132, 1, 1, 167, 255, 183, 3]
abbrev dktX5_keepsLaw_3 : List UInt8 := dkwX5_keepsLaw_3 ++ dktX5_keepsLaw_4
def dkwX5_keepsLaw_2 : List UInt8 := [180, 0, 34, 27, 46, 182, 1, 202, 79, 42, 180, 0, 37, 27, 42, 42, 180, 0, 37, 27, 46, 182, 1, 202]
abbrev dktX5_keepsLaw_2 : List UInt8 := dkwX5_keepsLaw_2 ++ dktX5_keepsLaw_3
def dkwX5_keepsLaw_1 : List UInt8 := [42, 180, 0, 31, 27, 42, 42, 180, 0, 31, 27, 46, 182, 1, 202, 79, 42, 180, 0, 34, 27, 42, 42]
abbrev dktX5_keepsLaw_1 : List UInt8 := dkwX5_keepsLaw_1 ++ dktX5_keepsLaw_2
def dkwX5_keepsLaw_0 : List UInt8 := [42, 180, 0, 28, 3, 42, 42, 180, 0, 28, 3, 46, 182, 1, 202, 79, 3, 60, 27, 16, 16, 162, 0, 73]
abbrev dktX5_keepsLaw_0 : List UInt8 := dkwX5_keepsLaw_0 ++ dktX5_keepsLaw_1
theorem dksX5_keepsLaw_0 : cX5_keepsLaw.data.toList.drop 0 = dktX5_keepsLaw_0 := by decide +kernel
theorem dksX5_keepsLaw_1 : cX5_keepsLaw.data.toList.drop 24 = dktX5_keepsLaw_1 := dk_seg dksX5_keepsLaw_0 24 rfl rfl
theorem dksX5_keepsLaw_2 : cX5_keepsLaw.data.toList.drop 47 = dktX5_keepsLaw_2 := dk_seg dksX5_keepsLaw_1 23 rfl rfl
theorem dksX5_keepsLaw_3 : cX5_keepsLaw.data.toList.drop 71 = dktX5_keepsLaw_3 := dk_seg dksX5_keepsLaw_2 24 rfl rfl
theorem dksX5_keepsLaw_4 : cX5_keepsLaw.data.toList.drop 95 = dktX5_keepsLaw_4 := dk_seg dksX5_keepsLaw_3 24 rfl rfl
theorem dksX5_keepsLaw_5 : cX5_keepsLaw.data.toList.drop 119 = dktX5_keepsLaw_5 := dk_seg dksX5_keepsLaw_4 24 rfl rfl
theorem dX5_keepsLaw_0 : decode cX5_keepsLaw 0 = .ok (.aload_n 0, 1) := dk_42 (dk_at dksX5_keepsLaw_0 0 rfl rfl)
theorem dX5_keepsLaw_1 : decode cX5_keepsLaw 1 = .ok (.getfield 28, 3) := dk_180 0 28 (dk_at dksX5_keepsLaw_0 1 rfl rfl)
theorem dX5_keepsLaw_4 : decode cX5_keepsLaw 4 = .ok (.iconst 0, 1) := dk_3 (dk_at dksX5_keepsLaw_0 4 rfl rfl)
theorem dX5_keepsLaw_5 : decode cX5_keepsLaw 5 = .ok (.aload_n 0, 1) := dk_42 (dk_at dksX5_keepsLaw_0 5 rfl rfl)
theorem dX5_keepsLaw_6 : decode cX5_keepsLaw 6 = .ok (.aload_n 0, 1) := dk_42 (dk_at dksX5_keepsLaw_0 6 rfl rfl)
theorem dX5_keepsLaw_7 : decode cX5_keepsLaw 7 = .ok (.getfield 28, 3) := dk_180 0 28 (dk_at dksX5_keepsLaw_0 7 rfl rfl)
theorem dX5_keepsLaw_10 : decode cX5_keepsLaw 10 = .ok (.iconst 0, 1) := dk_3 (dk_at dksX5_keepsLaw_0 10 rfl rfl)
theorem dX5_keepsLaw_11 : decode cX5_keepsLaw 11 = .ok (.iaload, 1) := dk_46 (dk_at dksX5_keepsLaw_0 11 rfl rfl)
theorem dX5_keepsLaw_12 : decode cX5_keepsLaw 12 = .ok (.invokevirtual 458, 3) := dk_182 1 202 (dk_at dksX5_keepsLaw_0 12 rfl rfl)
theorem dX5_keepsLaw_15 : decode cX5_keepsLaw 15 = .ok (.iastore, 1) := dk_79 (dk_at dksX5_keepsLaw_0 15 rfl rfl)
theorem dX5_keepsLaw_16 : decode cX5_keepsLaw 16 = .ok (.iconst 0, 1) := dk_3 (dk_at dksX5_keepsLaw_0 16 rfl rfl)
theorem dX5_keepsLaw_17 : decode cX5_keepsLaw 17 = .ok (.istore_n 1, 1) := dk_60 (dk_at dksX5_keepsLaw_0 17 rfl rfl)
theorem dX5_keepsLaw_18 : decode cX5_keepsLaw 18 = .ok (.iload_n 1, 1) := dk_27 (dk_at dksX5_keepsLaw_0 18 rfl rfl)
theorem dX5_keepsLaw_19 : decode cX5_keepsLaw 19 = .ok (.bipush 16, 2) := dk_16 16 (dk_at dksX5_keepsLaw_0 19 rfl rfl)
theorem dX5_keepsLaw_21 : decode cX5_keepsLaw 21 = .ok (.if_icmp .ge 73, 3) := dk_162 0 73 (dk_at dksX5_keepsLaw_0 21 rfl rfl)
theorem dX5_keepsLaw_24 : decode cX5_keepsLaw 24 = .ok (.aload_n 0, 1) := dk_42 (dk_at dksX5_keepsLaw_1 0 rfl rfl)
theorem dX5_keepsLaw_25 : decode cX5_keepsLaw 25 = .ok (.getfield 31, 3) := dk_180 0 31 (dk_at dksX5_keepsLaw_1 1 rfl rfl)
theorem dX5_keepsLaw_28 : decode cX5_keepsLaw 28 = .ok (.iload_n 1, 1) := dk_27 (dk_at dksX5_keepsLaw_1 4 rfl rfl)
theorem dX5_keepsLaw_29 : decode cX5_keepsLaw 29 = .ok (.aload_n 0, 1) := dk_42 (dk_at dksX5_keepsLaw_1 5 rfl rfl)
theorem dX5_keepsLaw_30 : decode cX5_keepsLaw 30 = .ok (.aload_n 0, 1) := dk_42 (dk_at dksX5_keepsLaw_1 6 rfl rfl)
theorem dX5_keepsLaw_31 : decode cX5_keepsLaw 31 = .ok (.getfield 31, 3) := dk_180 0 31 (dk_at dksX5_keepsLaw_1 7 rfl rfl)
theorem dX5_keepsLaw_34 : decode cX5_keepsLaw 34 = .ok (.iload_n 1, 1) := dk_27 (dk_at dksX5_keepsLaw_1 10 rfl rfl)
theorem dX5_keepsLaw_35 : decode cX5_keepsLaw 35 = .ok (.iaload, 1) := dk_46 (dk_at dksX5_keepsLaw_1 11 rfl rfl)
theorem dX5_keepsLaw_36 : decode cX5_keepsLaw 36 = .ok (.invokevirtual 458, 3) := dk_182 1 202 (dk_at dksX5_keepsLaw_1 12 rfl rfl)
theorem dX5_keepsLaw_39 : decode cX5_keepsLaw 39 = .ok (.iastore, 1) := dk_79 (dk_at dksX5_keepsLaw_1 15 rfl rfl)
theorem dX5_keepsLaw_40 : decode cX5_keepsLaw 40 = .ok (.aload_n 0, 1) := dk_42 (dk_at dksX5_keepsLaw_1 16 rfl rfl)
theorem dX5_keepsLaw_41 : decode cX5_keepsLaw 41 = .ok (.getfield 34, 3) := dk_180 0 34 (dk_at dksX5_keepsLaw_1 17 rfl rfl)
theorem dX5_keepsLaw_44 : decode cX5_keepsLaw 44 = .ok (.iload_n 1, 1) := dk_27 (dk_at dksX5_keepsLaw_1 20 rfl rfl)
theorem dX5_keepsLaw_45 : decode cX5_keepsLaw 45 = .ok (.aload_n 0, 1) := dk_42 (dk_at dksX5_keepsLaw_1 21 rfl rfl)
theorem dX5_keepsLaw_46 : decode cX5_keepsLaw 46 = .ok (.aload_n 0, 1) := dk_42 (dk_at dksX5_keepsLaw_1 22 rfl rfl)
theorem dX5_keepsLaw_47 : decode cX5_keepsLaw 47 = .ok (.getfield 34, 3) := dk_180 0 34 (dk_at dksX5_keepsLaw_2 0 rfl rfl)
theorem dX5_keepsLaw_50 : decode cX5_keepsLaw 50 = .ok (.iload_n 1, 1) := dk_27 (dk_at dksX5_keepsLaw_2 3 rfl rfl)
theorem dX5_keepsLaw_51 : decode cX5_keepsLaw 51 = .ok (.iaload, 1) := dk_46 (dk_at dksX5_keepsLaw_2 4 rfl rfl)
theorem dX5_keepsLaw_52 : decode cX5_keepsLaw 52 = .ok (.invokevirtual 458, 3) := dk_182 1 202 (dk_at dksX5_keepsLaw_2 5 rfl rfl)
theorem dX5_keepsLaw_55 : decode cX5_keepsLaw 55 = .ok (.iastore, 1) := dk_79 (dk_at dksX5_keepsLaw_2 8 rfl rfl)
theorem dX5_keepsLaw_56 : decode cX5_keepsLaw 56 = .ok (.aload_n 0, 1) := dk_42 (dk_at dksX5_keepsLaw_2 9 rfl rfl)
theorem dX5_keepsLaw_57 : decode cX5_keepsLaw 57 = .ok (.getfield 37, 3) := dk_180 0 37 (dk_at dksX5_keepsLaw_2 10 rfl rfl)
theorem dX5_keepsLaw_60 : decode cX5_keepsLaw 60 = .ok (.iload_n 1, 1) := dk_27 (dk_at dksX5_keepsLaw_2 13 rfl rfl)
theorem dX5_keepsLaw_61 : decode cX5_keepsLaw 61 = .ok (.aload_n 0, 1) := dk_42 (dk_at dksX5_keepsLaw_2 14 rfl rfl)
theorem dX5_keepsLaw_62 : decode cX5_keepsLaw 62 = .ok (.aload_n 0, 1) := dk_42 (dk_at dksX5_keepsLaw_2 15 rfl rfl)
theorem dX5_keepsLaw_63 : decode cX5_keepsLaw 63 = .ok (.getfield 37, 3) := dk_180 0 37 (dk_at dksX5_keepsLaw_2 16 rfl rfl)
theorem dX5_keepsLaw_66 : decode cX5_keepsLaw 66 = .ok (.iload_n 1, 1) := dk_27 (dk_at dksX5_keepsLaw_2 19 rfl rfl)
theorem dX5_keepsLaw_67 : decode cX5_keepsLaw 67 = .ok (.iaload, 1) := dk_46 (dk_at dksX5_keepsLaw_2 20 rfl rfl)
theorem dX5_keepsLaw_68 : decode cX5_keepsLaw 68 = .ok (.invokevirtual 458, 3) := dk_182 1 202 (dk_at dksX5_keepsLaw_2 21 rfl rfl)
theorem dX5_keepsLaw_71 : decode cX5_keepsLaw 71 = .ok (.iastore, 1) := dk_79 (dk_at dksX5_keepsLaw_3 0 rfl rfl)
theorem dX5_keepsLaw_72 : decode cX5_keepsLaw 72 = .ok (.aload_n 0, 1) := dk_42 (dk_at dksX5_keepsLaw_3 1 rfl rfl)
theorem dX5_keepsLaw_73 : decode cX5_keepsLaw 73 = .ok (.getfield 40, 3) := dk_180 0 40 (dk_at dksX5_keepsLaw_3 2 rfl rfl)
theorem dX5_keepsLaw_76 : decode cX5_keepsLaw 76 = .ok (.iload_n 1, 1) := dk_27 (dk_at dksX5_keepsLaw_3 5 rfl rfl)
theorem dX5_keepsLaw_77 : decode cX5_keepsLaw 77 = .ok (.aload_n 0, 1) := dk_42 (dk_at dksX5_keepsLaw_3 6 rfl rfl)
theorem dX5_keepsLaw_78 : decode cX5_keepsLaw 78 = .ok (.aload_n 0, 1) := dk_42 (dk_at dksX5_keepsLaw_3 7 rfl rfl)
theorem dX5_keepsLaw_79 : decode cX5_keepsLaw 79 = .ok (.getfield 40, 3) := dk_180 0 40 (dk_at dksX5_keepsLaw_3 8 rfl rfl)
theorem dX5_keepsLaw_82 : decode cX5_keepsLaw 82 = .ok (.iload_n 1, 1) := dk_27 (dk_at dksX5_keepsLaw_3 11 rfl rfl)
theorem dX5_keepsLaw_83 : decode cX5_keepsLaw 83 = .ok (.iaload, 1) := dk_46 (dk_at dksX5_keepsLaw_3 12 rfl rfl)
theorem dX5_keepsLaw_84 : decode cX5_keepsLaw 84 = .ok (.invokevirtual 458, 3) := dk_182 1 202 (dk_at dksX5_keepsLaw_3 13 rfl rfl)
theorem dX5_keepsLaw_87 : decode cX5_keepsLaw 87 = .ok (.iastore, 1) := dk_79 (dk_at dksX5_keepsLaw_3 16 rfl rfl)
theorem dX5_keepsLaw_88 : decode cX5_keepsLaw 88 = .ok (.iinc 1 1, 3) := dk_132 1 1 (dk_at dksX5_keepsLaw_3 17 rfl rfl)
theorem dX5_keepsLaw_91 : decode cX5_keepsLaw 91 = .ok (.goto (-73), 3) := dk_167 255 183 (dk_at dksX5_keepsLaw_3 20 rfl rfl)
theorem dX5_keepsLaw_94 : decode cX5_keepsLaw 94 = .ok (.iconst 0, 1) := dk_3 (dk_at dksX5_keepsLaw_3 23 rfl rfl)
theorem dX5_keepsLaw_95 : decode cX5_keepsLaw 95 = .ok (.istore_n 1, 1) := dk_60 (dk_at dksX5_keepsLaw_4 0 rfl rfl)
theorem dX5_keepsLaw_96 : decode cX5_keepsLaw 96 = .ok (.iload_n 1, 1) := dk_27 (dk_at dksX5_keepsLaw_4 1 rfl rfl)
theorem dX5_keepsLaw_97 : decode cX5_keepsLaw 97 = .ok (.sipush 400, 3) := dk_17 1 144 (dk_at dksX5_keepsLaw_4 2 rfl rfl)
theorem dX5_keepsLaw_100 : decode cX5_keepsLaw 100 = .ok (.if_icmp .ge 41, 3) := dk_162 0 41 (dk_at dksX5_keepsLaw_4 5 rfl rfl)
theorem dX5_keepsLaw_103 : decode cX5_keepsLaw 103 = .ok (.aload_n 0, 1) := dk_42 (dk_at dksX5_keepsLaw_4 8 rfl rfl)
theorem dX5_keepsLaw_104 : decode cX5_keepsLaw 104 = .ok (.getfield 43, 3) := dk_180 0 43 (dk_at dksX5_keepsLaw_4 9 rfl rfl)
theorem dX5_keepsLaw_107 : decode cX5_keepsLaw 107 = .ok (.iload_n 1, 1) := dk_27 (dk_at dksX5_keepsLaw_4 12 rfl rfl)
theorem dX5_keepsLaw_108 : decode cX5_keepsLaw 108 = .ok (.aload_n 0, 1) := dk_42 (dk_at dksX5_keepsLaw_4 13 rfl rfl)
theorem dX5_keepsLaw_109 : decode cX5_keepsLaw 109 = .ok (.aload_n 0, 1) := dk_42 (dk_at dksX5_keepsLaw_4 14 rfl rfl)
theorem dX5_keepsLaw_110 : decode cX5_keepsLaw 110 = .ok (.getfield 43, 3) := dk_180 0 43 (dk_at dksX5_keepsLaw_4 15 rfl rfl)
theorem dX5_keepsLaw_113 : decode cX5_keepsLaw 113 = .ok (.iload_n 1, 1) := dk_27 (dk_at dksX5_keepsLaw_4 18 rfl rfl)
theorem dX5_keepsLaw_114 : decode cX5_keepsLaw 114 = .ok (.iaload, 1) := dk_46 (dk_at dksX5_keepsLaw_4 19 rfl rfl)
theorem dX5_keepsLaw_115 : decode cX5_keepsLaw 115 = .ok (.invokevirtual 458, 3) := dk_182 1 202 (dk_at dksX5_keepsLaw_4 20 rfl rfl)
theorem dX5_keepsLaw_118 : decode cX5_keepsLaw 118 = .ok (.iastore, 1) := dk_79 (dk_at dksX5_keepsLaw_4 23 rfl rfl)
theorem dX5_keepsLaw_119 : decode cX5_keepsLaw 119 = .ok (.aload_n 0, 1) := dk_42 (dk_at dksX5_keepsLaw_5 0 rfl rfl)
theorem dX5_keepsLaw_120 : decode cX5_keepsLaw 120 = .ok (.getfield 46, 3) := dk_180 0 46 (dk_at dksX5_keepsLaw_5 1 rfl rfl)
theorem dX5_keepsLaw_123 : decode cX5_keepsLaw 123 = .ok (.iload_n 1, 1) := dk_27 (dk_at dksX5_keepsLaw_5 4 rfl rfl)
theorem dX5_keepsLaw_124 : decode cX5_keepsLaw 124 = .ok (.aload_n 0, 1) := dk_42 (dk_at dksX5_keepsLaw_5 5 rfl rfl)
theorem dX5_keepsLaw_125 : decode cX5_keepsLaw 125 = .ok (.aload_n 0, 1) := dk_42 (dk_at dksX5_keepsLaw_5 6 rfl rfl)
theorem dX5_keepsLaw_126 : decode cX5_keepsLaw 126 = .ok (.getfield 46, 3) := dk_180 0 46 (dk_at dksX5_keepsLaw_5 7 rfl rfl)
theorem dX5_keepsLaw_129 : decode cX5_keepsLaw 129 = .ok (.iload_n 1, 1) := dk_27 (dk_at dksX5_keepsLaw_5 10 rfl rfl)
theorem dX5_keepsLaw_130 : decode cX5_keepsLaw 130 = .ok (.iaload, 1) := dk_46 (dk_at dksX5_keepsLaw_5 11 rfl rfl)
theorem dX5_keepsLaw_131 : decode cX5_keepsLaw 131 = .ok (.invokevirtual 458, 3) := dk_182 1 202 (dk_at dksX5_keepsLaw_5 12 rfl rfl)
theorem dX5_keepsLaw_134 : decode cX5_keepsLaw 134 = .ok (.iastore, 1) := dk_79 (dk_at dksX5_keepsLaw_5 15 rfl rfl)
theorem dX5_keepsLaw_135 : decode cX5_keepsLaw 135 = .ok (.iinc 1 1, 3) := dk_132 1 1 (dk_at dksX5_keepsLaw_5 16 rfl rfl)
theorem dX5_keepsLaw_138 : decode cX5_keepsLaw 138 = .ok (.goto (-42), 3) := dk_167 255 214 (dk_at dksX5_keepsLaw_5 19 rfl rfl)
theorem dX5_keepsLaw_141 : decode cX5_keepsLaw 141 = .ok (.return_, 1) := dk_177 (dk_at dksX5_keepsLaw_5 22 rfl rfl)
abbrev cX5_look : ByteArray := prog_22_method_127_code
def yX5_look : MethodName := ⟨RX5, "look", "(I)I"⟩
def dkwX5_look_8 : List UInt8 := [167, 0, 4, 2, 172]
abbrev dktX5_look_8 : List UInt8 := dkwX5_look_8 ++ []
def dkwX5_look_7 : List UInt8 := [160, 0, 10, 42, 180, 0, 89, 167, 0, 19, 27, 16, 15, 160, 0, 12, 42, 180, 0, 7, 6, 46]
abbrev dktX5_look_7 : List UInt8 := dkwX5_look_7 ++ dktX5_look_8
def dkwX5_look_6 : List UInt8 := [16, 12, 160, 0, 8, 42, 180, 1, 26, 172, 27, 16, 13, 160, 0, 8, 42, 180, 1, 179, 172, 27, 16, 14]
abbrev dktX5_look_6 : List UInt8 := dkwX5_look_6 ++ dktX5_look_7
def dkwX5_look_5 : List UInt8 := [16, 10, 160, 0, 10, 42, 180, 0, 28, 3, 46, 172, 27, 16, 11, 160, 0, 8, 42, 180, 1, 23, 172, 27]
abbrev dktX5_look_5 : List UInt8 := dkwX5_look_5 ++ dktX5_look_6
def dkwX5_look_4 : List UInt8 := [160, 0, 10, 42, 180, 0, 7, 5, 46, 172, 27, 16, 9, 160, 0, 10, 42, 180, 0, 7, 4, 46, 172, 27]
abbrev dktX5_look_4 : List UInt8 := dkwX5_look_4 ++ dktX5_look_5
def dkwX5_look_3 : List UInt8 := [160, 0, 8, 42, 182, 1, 119, 172, 27, 16, 7, 160, 0, 8, 42, 182, 1, 146, 172, 27, 16, 8]
abbrev dktX5_look_3 : List UInt8 := dkwX5_look_3 ++ dktX5_look_4
def dkwX5_look_2 : List UInt8 := [27, 7, 160, 0, 8, 42, 180, 0, 147, 172, 27, 8, 160, 0, 8, 42, 180, 0, 150, 172, 27, 16, 6]
abbrev dktX5_look_2 : List UInt8 := dkwX5_look_2 ++ dktX5_look_3
def dkwX5_look_1 : List UInt8 := [46, 172, 27, 5, 160, 0, 8, 42, 180, 0, 119, 172, 27, 6, 160, 0, 10, 42, 180, 0, 7, 3, 46, 172]
abbrev dktX5_look_1 : List UInt8 := dkwX5_look_1 ++ dktX5_look_2
def dkwX5_look_0 : List UInt8 := [42, 3, 181, 0, 86, 27, 154, 0, 8, 42, 180, 0, 116, 172, 27, 4, 160, 0, 10, 42, 180, 0, 7, 7]
abbrev dktX5_look_0 : List UInt8 := dkwX5_look_0 ++ dktX5_look_1
theorem dksX5_look_0 : cX5_look.data.toList.drop 0 = dktX5_look_0 := by decide +kernel
theorem dksX5_look_1 : cX5_look.data.toList.drop 24 = dktX5_look_1 := dk_seg dksX5_look_0 24 rfl rfl
theorem dksX5_look_2 : cX5_look.data.toList.drop 48 = dktX5_look_2 := dk_seg dksX5_look_1 24 rfl rfl
theorem dksX5_look_3 : cX5_look.data.toList.drop 71 = dktX5_look_3 := dk_seg dksX5_look_2 23 rfl rfl
theorem dksX5_look_4 : cX5_look.data.toList.drop 93 = dktX5_look_4 := dk_seg dksX5_look_3 22 rfl rfl
theorem dksX5_look_5 : cX5_look.data.toList.drop 117 = dktX5_look_5 := dk_seg dksX5_look_4 24 rfl rfl
theorem dksX5_look_6 : cX5_look.data.toList.drop 141 = dktX5_look_6 := dk_seg dksX5_look_5 24 rfl rfl
theorem dksX5_look_7 : cX5_look.data.toList.drop 165 = dktX5_look_7 := dk_seg dksX5_look_6 24 rfl rfl
theorem dksX5_look_8 : cX5_look.data.toList.drop 187 = dktX5_look_8 := dk_seg dksX5_look_7 22 rfl rfl
theorem dX5_look_0 : decode cX5_look 0 = .ok (.aload_n 0, 1) := dk_42 (dk_at dksX5_look_0 0 rfl rfl)
theorem dX5_look_1 : decode cX5_look 1 = .ok (.iconst 0, 1) := dk_3 (dk_at dksX5_look_0 1 rfl rfl)
theorem dX5_look_2 : decode cX5_look 2 = .ok (.putfield 86, 3) := dk_181 0 86 (dk_at dksX5_look_0 2 rfl rfl)
theorem dX5_look_5 : decode cX5_look 5 = .ok (.iload_n 1, 1) := dk_27 (dk_at dksX5_look_0 5 rfl rfl)
theorem dX5_look_6 : decode cX5_look 6 = .ok (.ifCond .ne 8, 3) := dk_154 0 8 (dk_at dksX5_look_0 6 rfl rfl)
theorem dX5_look_9 : decode cX5_look 9 = .ok (.aload_n 0, 1) := dk_42 (dk_at dksX5_look_0 9 rfl rfl)
theorem dX5_look_10 : decode cX5_look 10 = .ok (.getfield 116, 3) := dk_180 0 116 (dk_at dksX5_look_0 10 rfl rfl)
theorem dX5_look_13 : decode cX5_look 13 = .ok (.ireturn, 1) := dk_172 (dk_at dksX5_look_0 13 rfl rfl)
theorem dX5_look_14 : decode cX5_look 14 = .ok (.iload_n 1, 1) := dk_27 (dk_at dksX5_look_0 14 rfl rfl)
theorem dX5_look_15 : decode cX5_look 15 = .ok (.iconst 1, 1) := dk_4 (dk_at dksX5_look_0 15 rfl rfl)
theorem dX5_look_16 : decode cX5_look 16 = .ok (.if_icmp .ne 10, 3) := dk_160 0 10 (dk_at dksX5_look_0 16 rfl rfl)
theorem dX5_look_19 : decode cX5_look 19 = .ok (.aload_n 0, 1) := dk_42 (dk_at dksX5_look_0 19 rfl rfl)
theorem dX5_look_20 : decode cX5_look 20 = .ok (.getfield 7, 3) := dk_180 0 7 (dk_at dksX5_look_0 20 rfl rfl)
theorem dX5_look_23 : decode cX5_look 23 = .ok (.iconst 4, 1) := dk_7 (dk_at dksX5_look_0 23 rfl rfl)
theorem dX5_look_24 : decode cX5_look 24 = .ok (.iaload, 1) := dk_46 (dk_at dksX5_look_1 0 rfl rfl)
theorem dX5_look_25 : decode cX5_look 25 = .ok (.ireturn, 1) := dk_172 (dk_at dksX5_look_1 1 rfl rfl)
theorem dX5_look_26 : decode cX5_look 26 = .ok (.iload_n 1, 1) := dk_27 (dk_at dksX5_look_1 2 rfl rfl)
theorem dX5_look_27 : decode cX5_look 27 = .ok (.iconst 2, 1) := dk_5 (dk_at dksX5_look_1 3 rfl rfl)
theorem dX5_look_28 : decode cX5_look 28 = .ok (.if_icmp .ne 8, 3) := dk_160 0 8 (dk_at dksX5_look_1 4 rfl rfl)
theorem dX5_look_31 : decode cX5_look 31 = .ok (.aload_n 0, 1) := dk_42 (dk_at dksX5_look_1 7 rfl rfl)
theorem dX5_look_32 : decode cX5_look 32 = .ok (.getfield 119, 3) := dk_180 0 119 (dk_at dksX5_look_1 8 rfl rfl)
theorem dX5_look_35 : decode cX5_look 35 = .ok (.ireturn, 1) := dk_172 (dk_at dksX5_look_1 11 rfl rfl)
theorem dX5_look_36 : decode cX5_look 36 = .ok (.iload_n 1, 1) := dk_27 (dk_at dksX5_look_1 12 rfl rfl)
theorem dX5_look_37 : decode cX5_look 37 = .ok (.iconst 3, 1) := dk_6 (dk_at dksX5_look_1 13 rfl rfl)
theorem dX5_look_38 : decode cX5_look 38 = .ok (.if_icmp .ne 10, 3) := dk_160 0 10 (dk_at dksX5_look_1 14 rfl rfl)
theorem dX5_look_41 : decode cX5_look 41 = .ok (.aload_n 0, 1) := dk_42 (dk_at dksX5_look_1 17 rfl rfl)
theorem dX5_look_42 : decode cX5_look 42 = .ok (.getfield 7, 3) := dk_180 0 7 (dk_at dksX5_look_1 18 rfl rfl)
theorem dX5_look_45 : decode cX5_look 45 = .ok (.iconst 0, 1) := dk_3 (dk_at dksX5_look_1 21 rfl rfl)
theorem dX5_look_46 : decode cX5_look 46 = .ok (.iaload, 1) := dk_46 (dk_at dksX5_look_1 22 rfl rfl)
theorem dX5_look_47 : decode cX5_look 47 = .ok (.ireturn, 1) := dk_172 (dk_at dksX5_look_1 23 rfl rfl)
theorem dX5_look_48 : decode cX5_look 48 = .ok (.iload_n 1, 1) := dk_27 (dk_at dksX5_look_2 0 rfl rfl)
theorem dX5_look_49 : decode cX5_look 49 = .ok (.iconst 4, 1) := dk_7 (dk_at dksX5_look_2 1 rfl rfl)
theorem dX5_look_50 : decode cX5_look 50 = .ok (.if_icmp .ne 8, 3) := dk_160 0 8 (dk_at dksX5_look_2 2 rfl rfl)
theorem dX5_look_53 : decode cX5_look 53 = .ok (.aload_n 0, 1) := dk_42 (dk_at dksX5_look_2 5 rfl rfl)
theorem dX5_look_54 : decode cX5_look 54 = .ok (.getfield 147, 3) := dk_180 0 147 (dk_at dksX5_look_2 6 rfl rfl)
theorem dX5_look_57 : decode cX5_look 57 = .ok (.ireturn, 1) := dk_172 (dk_at dksX5_look_2 9 rfl rfl)
theorem dX5_look_58 : decode cX5_look 58 = .ok (.iload_n 1, 1) := dk_27 (dk_at dksX5_look_2 10 rfl rfl)
theorem dX5_look_59 : decode cX5_look 59 = .ok (.iconst 5, 1) := dk_8 (dk_at dksX5_look_2 11 rfl rfl)
theorem dX5_look_60 : decode cX5_look 60 = .ok (.if_icmp .ne 8, 3) := dk_160 0 8 (dk_at dksX5_look_2 12 rfl rfl)
theorem dX5_look_63 : decode cX5_look 63 = .ok (.aload_n 0, 1) := dk_42 (dk_at dksX5_look_2 15 rfl rfl)
theorem dX5_look_64 : decode cX5_look 64 = .ok (.getfield 150, 3) := dk_180 0 150 (dk_at dksX5_look_2 16 rfl rfl)
theorem dX5_look_67 : decode cX5_look 67 = .ok (.ireturn, 1) := dk_172 (dk_at dksX5_look_2 19 rfl rfl)
theorem dX5_look_68 : decode cX5_look 68 = .ok (.iload_n 1, 1) := dk_27 (dk_at dksX5_look_2 20 rfl rfl)
theorem dX5_look_69 : decode cX5_look 69 = .ok (.bipush 6, 2) := dk_16 6 (dk_at dksX5_look_2 21 rfl rfl)
theorem dX5_look_71 : decode cX5_look 71 = .ok (.if_icmp .ne 8, 3) := dk_160 0 8 (dk_at dksX5_look_3 0 rfl rfl)
theorem dX5_look_74 : decode cX5_look 74 = .ok (.aload_n 0, 1) := dk_42 (dk_at dksX5_look_3 3 rfl rfl)
theorem dX5_look_75 : decode cX5_look 75 = .ok (.invokevirtual 375, 3) := dk_182 1 119 (dk_at dksX5_look_3 4 rfl rfl)
theorem dX5_look_78 : decode cX5_look 78 = .ok (.ireturn, 1) := dk_172 (dk_at dksX5_look_3 7 rfl rfl)
theorem dX5_look_79 : decode cX5_look 79 = .ok (.iload_n 1, 1) := dk_27 (dk_at dksX5_look_3 8 rfl rfl)
theorem dX5_look_80 : decode cX5_look 80 = .ok (.bipush 7, 2) := dk_16 7 (dk_at dksX5_look_3 9 rfl rfl)
theorem dX5_look_82 : decode cX5_look 82 = .ok (.if_icmp .ne 8, 3) := dk_160 0 8 (dk_at dksX5_look_3 11 rfl rfl)
theorem dX5_look_85 : decode cX5_look 85 = .ok (.aload_n 0, 1) := dk_42 (dk_at dksX5_look_3 14 rfl rfl)
theorem dX5_look_86 : decode cX5_look 86 = .ok (.invokevirtual 402, 3) := dk_182 1 146 (dk_at dksX5_look_3 15 rfl rfl)
theorem dX5_look_89 : decode cX5_look 89 = .ok (.ireturn, 1) := dk_172 (dk_at dksX5_look_3 18 rfl rfl)
theorem dX5_look_90 : decode cX5_look 90 = .ok (.iload_n 1, 1) := dk_27 (dk_at dksX5_look_3 19 rfl rfl)
theorem dX5_look_91 : decode cX5_look 91 = .ok (.bipush 8, 2) := dk_16 8 (dk_at dksX5_look_3 20 rfl rfl)
theorem dX5_look_93 : decode cX5_look 93 = .ok (.if_icmp .ne 10, 3) := dk_160 0 10 (dk_at dksX5_look_4 0 rfl rfl)
theorem dX5_look_96 : decode cX5_look 96 = .ok (.aload_n 0, 1) := dk_42 (dk_at dksX5_look_4 3 rfl rfl)
theorem dX5_look_97 : decode cX5_look 97 = .ok (.getfield 7, 3) := dk_180 0 7 (dk_at dksX5_look_4 4 rfl rfl)
theorem dX5_look_100 : decode cX5_look 100 = .ok (.iconst 2, 1) := dk_5 (dk_at dksX5_look_4 7 rfl rfl)
theorem dX5_look_101 : decode cX5_look 101 = .ok (.iaload, 1) := dk_46 (dk_at dksX5_look_4 8 rfl rfl)
theorem dX5_look_102 : decode cX5_look 102 = .ok (.ireturn, 1) := dk_172 (dk_at dksX5_look_4 9 rfl rfl)
theorem dX5_look_103 : decode cX5_look 103 = .ok (.iload_n 1, 1) := dk_27 (dk_at dksX5_look_4 10 rfl rfl)
theorem dX5_look_104 : decode cX5_look 104 = .ok (.bipush 9, 2) := dk_16 9 (dk_at dksX5_look_4 11 rfl rfl)
theorem dX5_look_106 : decode cX5_look 106 = .ok (.if_icmp .ne 10, 3) := dk_160 0 10 (dk_at dksX5_look_4 13 rfl rfl)
theorem dX5_look_109 : decode cX5_look 109 = .ok (.aload_n 0, 1) := dk_42 (dk_at dksX5_look_4 16 rfl rfl)
theorem dX5_look_110 : decode cX5_look 110 = .ok (.getfield 7, 3) := dk_180 0 7 (dk_at dksX5_look_4 17 rfl rfl)
theorem dX5_look_113 : decode cX5_look 113 = .ok (.iconst 1, 1) := dk_4 (dk_at dksX5_look_4 20 rfl rfl)
theorem dX5_look_114 : decode cX5_look 114 = .ok (.iaload, 1) := dk_46 (dk_at dksX5_look_4 21 rfl rfl)
theorem dX5_look_115 : decode cX5_look 115 = .ok (.ireturn, 1) := dk_172 (dk_at dksX5_look_4 22 rfl rfl)
theorem dX5_look_116 : decode cX5_look 116 = .ok (.iload_n 1, 1) := dk_27 (dk_at dksX5_look_4 23 rfl rfl)
theorem dX5_look_117 : decode cX5_look 117 = .ok (.bipush 10, 2) := dk_16 10 (dk_at dksX5_look_5 0 rfl rfl)
theorem dX5_look_119 : decode cX5_look 119 = .ok (.if_icmp .ne 10, 3) := dk_160 0 10 (dk_at dksX5_look_5 2 rfl rfl)
theorem dX5_look_122 : decode cX5_look 122 = .ok (.aload_n 0, 1) := dk_42 (dk_at dksX5_look_5 5 rfl rfl)
theorem dX5_look_123 : decode cX5_look 123 = .ok (.getfield 28, 3) := dk_180 0 28 (dk_at dksX5_look_5 6 rfl rfl)
theorem dX5_look_126 : decode cX5_look 126 = .ok (.iconst 0, 1) := dk_3 (dk_at dksX5_look_5 9 rfl rfl)
theorem dX5_look_127 : decode cX5_look 127 = .ok (.iaload, 1) := dk_46 (dk_at dksX5_look_5 10 rfl rfl)
theorem dX5_look_128 : decode cX5_look 128 = .ok (.ireturn, 1) := dk_172 (dk_at dksX5_look_5 11 rfl rfl)
theorem dX5_look_129 : decode cX5_look 129 = .ok (.iload_n 1, 1) := dk_27 (dk_at dksX5_look_5 12 rfl rfl)
theorem dX5_look_130 : decode cX5_look 130 = .ok (.bipush 11, 2) := dk_16 11 (dk_at dksX5_look_5 13 rfl rfl)
theorem dX5_look_132 : decode cX5_look 132 = .ok (.if_icmp .ne 8, 3) := dk_160 0 8 (dk_at dksX5_look_5 15 rfl rfl)
theorem dX5_look_135 : decode cX5_look 135 = .ok (.aload_n 0, 1) := dk_42 (dk_at dksX5_look_5 18 rfl rfl)
theorem dX5_look_136 : decode cX5_look 136 = .ok (.getfield 279, 3) := dk_180 1 23 (dk_at dksX5_look_5 19 rfl rfl)
theorem dX5_look_139 : decode cX5_look 139 = .ok (.ireturn, 1) := dk_172 (dk_at dksX5_look_5 22 rfl rfl)
theorem dX5_look_140 : decode cX5_look 140 = .ok (.iload_n 1, 1) := dk_27 (dk_at dksX5_look_5 23 rfl rfl)
theorem dX5_look_141 : decode cX5_look 141 = .ok (.bipush 12, 2) := dk_16 12 (dk_at dksX5_look_6 0 rfl rfl)
theorem dX5_look_143 : decode cX5_look 143 = .ok (.if_icmp .ne 8, 3) := dk_160 0 8 (dk_at dksX5_look_6 2 rfl rfl)
theorem dX5_look_146 : decode cX5_look 146 = .ok (.aload_n 0, 1) := dk_42 (dk_at dksX5_look_6 5 rfl rfl)
theorem dX5_look_147 : decode cX5_look 147 = .ok (.getfield 282, 3) := dk_180 1 26 (dk_at dksX5_look_6 6 rfl rfl)
theorem dX5_look_150 : decode cX5_look 150 = .ok (.ireturn, 1) := dk_172 (dk_at dksX5_look_6 9 rfl rfl)
theorem dX5_look_151 : decode cX5_look 151 = .ok (.iload_n 1, 1) := dk_27 (dk_at dksX5_look_6 10 rfl rfl)
theorem dX5_look_152 : decode cX5_look 152 = .ok (.bipush 13, 2) := dk_16 13 (dk_at dksX5_look_6 11 rfl rfl)
theorem dX5_look_154 : decode cX5_look 154 = .ok (.if_icmp .ne 8, 3) := dk_160 0 8 (dk_at dksX5_look_6 13 rfl rfl)
theorem dX5_look_157 : decode cX5_look 157 = .ok (.aload_n 0, 1) := dk_42 (dk_at dksX5_look_6 16 rfl rfl)
theorem dX5_look_158 : decode cX5_look 158 = .ok (.getfield 435, 3) := dk_180 1 179 (dk_at dksX5_look_6 17 rfl rfl)
theorem dX5_look_161 : decode cX5_look 161 = .ok (.ireturn, 1) := dk_172 (dk_at dksX5_look_6 20 rfl rfl)
theorem dX5_look_162 : decode cX5_look 162 = .ok (.iload_n 1, 1) := dk_27 (dk_at dksX5_look_6 21 rfl rfl)
theorem dX5_look_163 : decode cX5_look 163 = .ok (.bipush 14, 2) := dk_16 14 (dk_at dksX5_look_6 22 rfl rfl)
theorem dX5_look_165 : decode cX5_look 165 = .ok (.if_icmp .ne 10, 3) := dk_160 0 10 (dk_at dksX5_look_7 0 rfl rfl)
theorem dX5_look_168 : decode cX5_look 168 = .ok (.aload_n 0, 1) := dk_42 (dk_at dksX5_look_7 3 rfl rfl)
theorem dX5_look_169 : decode cX5_look 169 = .ok (.getfield 89, 3) := dk_180 0 89 (dk_at dksX5_look_7 4 rfl rfl)
theorem dX5_look_172 : decode cX5_look 172 = .ok (.goto 19, 3) := dk_167 0 19 (dk_at dksX5_look_7 7 rfl rfl)
theorem dX5_look_175 : decode cX5_look 175 = .ok (.iload_n 1, 1) := dk_27 (dk_at dksX5_look_7 10 rfl rfl)
theorem dX5_look_176 : decode cX5_look 176 = .ok (.bipush 15, 2) := dk_16 15 (dk_at dksX5_look_7 11 rfl rfl)
theorem dX5_look_178 : decode cX5_look 178 = .ok (.if_icmp .ne 12, 3) := dk_160 0 12 (dk_at dksX5_look_7 13 rfl rfl)
theorem dX5_look_181 : decode cX5_look 181 = .ok (.aload_n 0, 1) := dk_42 (dk_at dksX5_look_7 16 rfl rfl)
theorem dX5_look_182 : decode cX5_look 182 = .ok (.getfield 7, 3) := dk_180 0 7 (dk_at dksX5_look_7 17 rfl rfl)
theorem dX5_look_185 : decode cX5_look 185 = .ok (.iconst 3, 1) := dk_6 (dk_at dksX5_look_7 20 rfl rfl)
theorem dX5_look_186 : decode cX5_look 186 = .ok (.iaload, 1) := dk_46 (dk_at dksX5_look_7 21 rfl rfl)
theorem dX5_look_187 : decode cX5_look 187 = .ok (.goto 4, 3) := dk_167 0 4 (dk_at dksX5_look_8 0 rfl rfl)
theorem dX5_look_190 : decode cX5_look 190 = .ok (.iconst (-1), 1) := dk_2 (dk_at dksX5_look_8 3 rfl rfl)
theorem dX5_look_191 : decode cX5_look 191 = .ok (.ireturn, 1) := dk_172 (dk_at dksX5_look_8 4 rfl rfl)
theorem q156 : (Jvm.Cond.initialized "BallotFruitModel") ∈ lw_all := lw_g (lw_at lw_m1 9 rfl) rfl
theorem q865 : (Jvm.Cond.selects "BallotFruitModel" ({ cls := "java/lang/Object", name := "getClass", desc := "()Ljava/lang/Class;" } : Jvm.MethodName) ({ cls := "java/lang/Object", name := "getClass", desc := "()Ljava/lang/Class;" } : Jvm.MethodName)) ∈ lw_all := lw_g (lw_at lw_m3 238 rfl) rfl
theorem q1378 : (Jvm.Cond.instantiable "BallotFruitModel" (56 : Nat)) ∈ lw_all := lw_g (lw_at lw_m6 31 rfl) rfl
theorem q1380 : (Jvm.Cond.instanceMethod ({ cls := "BallotFruitModel", name := "<init>", desc := "()V" } : Jvm.MethodName)) ∈ lw_all := lw_g (lw_at lw_m6 33 rfl) rfl
theorem q1381 : (Jvm.Cond.code ({ cls := "BallotFruitModel", name := "<init>", desc := "()V" } : Jvm.MethodName) prog_22_method_1_code (1 : Nat) (Option.none : Option Jvm.ClassFile.FieldType)) ∈ lw_all := lw_g (lw_at lw_m6 34 rfl) rfl
theorem q1382 : (Jvm.Cond.methodLink "BallotFruitModel" (1 : Nat) ({ cls := "java/lang/Object", name := "<init>", desc := "()V" } : Jvm.MethodName)) ∈ lw_all := lw_g (lw_at lw_m6 35 rfl) rfl
theorem q1383 : (Jvm.Cond.fieldLink "BallotFruitModel" (86 : Nat) "BallotFruitModel" "told" "I") ∈ lw_all := lw_g (lw_at lw_m6 36 rfl) rfl
theorem q1384 : (Jvm.Cond.fieldLink "BallotFruitModel" (7 : Nat) "BallotFruitModel" "now" "[I") ∈ lw_all := lw_g (lw_at lw_m6 37 rfl) rfl
theorem q1385 : (Jvm.Cond.fieldLink "BallotFruitModel" (13 : Nat) "BallotFruitModel" "rows" "[I") ∈ lw_all := lw_g (lw_at lw_m6 38 rfl) rfl
theorem q1386 : (Jvm.Cond.fieldLink "BallotFruitModel" (89 : Nat) "BallotFruitModel" "undoable" "I") ∈ lw_all := lw_g (lw_at lw_m6 39 rfl) rfl
theorem q1387 : (Jvm.Cond.fieldLink "BallotFruitModel" (16 : Nat) "BallotFruitModel" "waiting" "[I") ∈ lw_all := lw_g (lw_at lw_m6 40 rfl) rfl
theorem q1388 : (Jvm.Cond.fieldLink "BallotFruitModel" (92 : Nat) "BallotFruitModel" "isThought" "Z") ∈ lw_all := lw_g (lw_at lw_m6 41 rfl) rfl
theorem q1389 : (Jvm.Cond.fieldLink "BallotFruitModel" (116 : Nat) "BallotFruitModel" "parties" "I") ∈ lw_all := lw_g (lw_at lw_m6 42 rfl) rfl
theorem q1390 : (Jvm.Cond.fieldLink "BallotFruitModel" (119 : Nat) "BallotFruitModel" "eaters" "I") ∈ lw_all := lw_g (lw_at lw_m6 43 rfl) rfl
theorem q1391 : (Jvm.Cond.fieldLink "BallotFruitModel" (147 : Nat) "BallotFruitModel" "badOdds" "I") ∈ lw_all := lw_g (lw_at lw_m6 44 rfl) rfl
theorem q1392 : (Jvm.Cond.fieldLink "BallotFruitModel" (150 : Nat) "BallotFruitModel" "waspOdds" "I") ∈ lw_all := lw_g (lw_at lw_m6 45 rfl) rfl
theorem q1393 : (Jvm.Cond.fieldLink "BallotFruitModel" (110 : Nat) "BallotFruitModel" "chairsBut" "I") ∈ lw_all := lw_g (lw_at lw_m6 46 rfl) rfl
theorem q1394 : (Jvm.Cond.fieldLink "BallotFruitModel" (113 : Nat) "BallotFruitModel" "everyBut" "I") ∈ lw_all := lw_g (lw_at lw_m6 47 rfl) rfl
theorem q1395 : (Jvm.Cond.fieldLink "BallotFruitModel" (19 : Nat) "BallotFruitModel" "book" "[I") ∈ lw_all := lw_g (lw_at lw_m6 48 rfl) rfl
theorem q1396 : (Jvm.Cond.fieldLink "BallotFruitModel" (22 : Nat) "BallotFruitModel" "tape" "[I") ∈ lw_all := lw_g (lw_at lw_m6 49 rfl) rfl
theorem q1397 : (Jvm.Cond.fieldLink "BallotFruitModel" (153 : Nat) "BallotFruitModel" "taped" "I") ∈ lw_all := lw_g (lw_at lw_m6 50 rfl) rfl
theorem q1398 : (Jvm.Cond.fieldLink "BallotFruitModel" (160 : Nat) "BallotFruitModel" "spot" "I") ∈ lw_all := lw_g (lw_at lw_m6 51 rfl) rfl
theorem q1399 : (Jvm.Cond.fieldLink "BallotFruitModel" (167 : Nat) "BallotFruitModel" "from" "I") ∈ lw_all := lw_g (lw_at lw_m6 52 rfl) rfl
theorem q1400 : (Jvm.Cond.fieldLink "BallotFruitModel" (170 : Nat) "BallotFruitModel" "token" "I") ∈ lw_all := lw_g (lw_at lw_m6 53 rfl) rfl
theorem q1401 : (Jvm.Cond.fieldLink "BallotFruitModel" (173 : Nat) "BallotFruitModel" "value" "I") ∈ lw_all := lw_g (lw_at lw_m6 54 rfl) rfl
theorem q1402 : (Jvm.Cond.fieldLink "BallotFruitModel" (25 : Nat) "BallotFruitModel" "words" "[I") ∈ lw_all := lw_g (lw_at lw_m6 55 rfl) rfl
theorem q1403 : (Jvm.Cond.fieldLink "BallotFruitModel" (28 : Nat) "BallotFruitModel" "lineMany" "[I") ∈ lw_all := lw_g (lw_at lw_m6 56 rfl) rfl
theorem q1404 : (Jvm.Cond.fieldLink "BallotFruitModel" (31 : Nat) "BallotFruitModel" "lineWord" "[I") ∈ lw_all := lw_g (lw_at lw_m6 57 rfl) rfl
theorem q1405 : (Jvm.Cond.fieldLink "BallotFruitModel" (34 : Nat) "BallotFruitModel" "lineFrom" "[I") ∈ lw_all := lw_g (lw_at lw_m6 58 rfl) rfl
theorem q1406 : (Jvm.Cond.fieldLink "BallotFruitModel" (37 : Nat) "BallotFruitModel" "lineWhen" "[I") ∈ lw_all := lw_g (lw_at lw_m6 59 rfl) rfl
theorem q1407 : (Jvm.Cond.fieldLink "BallotFruitModel" (40 : Nat) "BallotFruitModel" "lineTo" "[I") ∈ lw_all := lw_g (lw_at lw_m6 60 rfl) rfl
theorem q1408 : (Jvm.Cond.fieldLink "BallotFruitModel" (43 : Nat) "BallotFruitModel" "op" "[I") ∈ lw_all := lw_g (lw_at lw_m6 61 rfl) rfl
theorem q1409 : (Jvm.Cond.fieldLink "BallotFruitModel" (46 : Nat) "BallotFruitModel" "arg" "[I") ∈ lw_all := lw_g (lw_at lw_m6 62 rfl) rfl
theorem q1410 : (Jvm.Cond.fieldLink "BallotFruitModel" (249 : Nat) "BallotFruitModel" "which" "I") ∈ lw_all := lw_g (lw_at lw_m6 63 rfl) rfl
theorem q1411 : (Jvm.Cond.fieldLink "BallotFruitModel" (195 : Nat) "BallotFruitModel" "codes" "I") ∈ lw_all := lw_g (lw_at lw_m6 64 rfl) rfl
theorem q1412 : (Jvm.Cond.fieldLink "BallotFruitModel" (227 : Nat) "BallotFruitModel" "open" "I") ∈ lw_all := lw_g (lw_at lw_m6 65 rfl) rfl
theorem q1413 : (Jvm.Cond.fieldLink "BallotFruitModel" (49 : Nat) "BallotFruitModel" "pending" "[I") ∈ lw_all := lw_g (lw_at lw_m6 66 rfl) rfl
theorem q1414 : (Jvm.Cond.fieldLink "BallotFruitModel" (224 : Nat) "BallotFruitModel" "pendings" "I") ∈ lw_all := lw_g (lw_at lw_m6 67 rfl) rfl
theorem q1415 : (Jvm.Cond.fieldLink "BallotFruitModel" (189 : Nat) "BallotFruitModel" "readFault" "I") ∈ lw_all := lw_g (lw_at lw_m6 68 rfl) rfl
theorem q1416 : (Jvm.Cond.fieldLink "BallotFruitModel" (192 : Nat) "BallotFruitModel" "readPlace" "I") ∈ lw_all := lw_g (lw_at lw_m6 69 rfl) rfl
theorem q1417 : (Jvm.Cond.fieldLink "BallotFruitModel" (285 : Nat) "BallotFruitModel" "faultKind" "I") ∈ lw_all := lw_g (lw_at lw_m6 70 rfl) rfl
theorem q1418 : (Jvm.Cond.fieldLink "BallotFruitModel" (52 : Nat) "BallotFruitModel" "faultPlace" "I") ∈ lw_all := lw_g (lw_at lw_m6 71 rfl) rfl
theorem q1419 : (Jvm.Cond.fieldLink "BallotFruitModel" (279 : Nat) "BallotFruitModel" "pathLines" "I") ∈ lw_all := lw_g (lw_at lw_m6 72 rfl) rfl
theorem q1420 : (Jvm.Cond.fieldLink "BallotFruitModel" (56 : Nat) "BallotFruitModel" "paths" "[I") ∈ lw_all := lw_g (lw_at lw_m6 73 rfl) rfl
theorem q1421 : (Jvm.Cond.fieldLink "BallotFruitModel" (282 : Nat) "BallotFruitModel" "planMany" "I") ∈ lw_all := lw_g (lw_at lw_m6 74 rfl) rfl
theorem q1422 : (Jvm.Cond.fieldLink "BallotFruitModel" (59 : Nat) "BallotFruitModel" "plan" "[I") ∈ lw_all := lw_g (lw_at lw_m6 75 rfl) rfl
theorem q1423 : (Jvm.Cond.fieldLink "BallotFruitModel" (62 : Nat) "BallotFruitModel" "asked" "[I") ∈ lw_all := lw_g (lw_at lw_m6 76 rfl) rfl
theorem q1424 : (Jvm.Cond.fieldLink "BallotFruitModel" (65 : Nat) "BallotFruitModel" "stack" "[I") ∈ lw_all := lw_g (lw_at lw_m6 77 rfl) rfl
theorem q1425 : (Jvm.Cond.fieldLink "BallotFruitModel" (96 : Nat) "BallotFruitModel" "gained" "I") ∈ lw_all := lw_g (lw_at lw_m6 78 rfl) rfl
theorem q1426 : (Jvm.Cond.fieldLink "BallotFruitModel" (345 : Nat) "BallotFruitModel" "gainedFor" "I") ∈ lw_all := lw_g (lw_at lw_m6 79 rfl) rfl
theorem q1427 : (Jvm.Cond.fieldLink "BallotFruitModel" (99 : Nat) "BallotFruitModel" "hungryFirst" "I") ∈ lw_all := lw_g (lw_at lw_m6 80 rfl) rfl
theorem q1428 : (Jvm.Cond.fieldLink "BallotFruitModel" (102 : Nat) "BallotFruitModel" "hungryWeek" "I") ∈ lw_all := lw_g (lw_at lw_m6 81 rfl) rfl
theorem q1429 : (Jvm.Cond.fieldLink "BallotFruitModel" (68 : Nat) "BallotFruitModel" "given" "[I") ∈ lw_all := lw_g (lw_at lw_m6 82 rfl) rfl
theorem q1430 : (Jvm.Cond.fieldLink "BallotFruitModel" (71 : Nat) "BallotFruitModel" "remains" "[I") ∈ lw_all := lw_g (lw_at lw_m6 83 rfl) rfl
theorem q1431 : (Jvm.Cond.fieldLink "BallotFruitModel" (435 : Nat) "BallotFruitModel" "coreMany" "I") ∈ lw_all := lw_g (lw_at lw_m6 84 rfl) rfl
theorem q1432 : (Jvm.Cond.fieldLink "BallotFruitModel" (74 : Nat) "BallotFruitModel" "cores" "[I") ∈ lw_all := lw_g (lw_at lw_m6 85 rfl) rfl
theorem q1433 : (Jvm.Cond.fieldLink "BallotFruitModel" (77 : Nat) "BallotFruitModel" "ways" "[I") ∈ lw_all := lw_g (lw_at lw_m6 86 rfl) rfl
theorem q1434 : (Jvm.Cond.fieldLink "BallotFruitModel" (80 : Nat) "BallotFruitModel" "waysThen" "[I") ∈ lw_all := lw_g (lw_at lw_m6 87 rfl) rfl
theorem q1435 : (Jvm.Cond.fieldLink "BallotFruitModel" (455 : Nat) "BallotFruitModel" "isTaking" "Z") ∈ lw_all := lw_g (lw_at lw_m6 88 rfl) rfl
theorem q1436 : (Jvm.Cond.fieldLink "BallotFruitModel" (461 : Nat) "BallotFruitModel" "hasImage" "Z") ∈ lw_all := lw_g (lw_at lw_m6 89 rfl) rfl
theorem q1437 : (Jvm.Cond.fieldLink "BallotFruitModel" (452 : Nat) "BallotFruitModel" "keptAt" "I") ∈ lw_all := lw_g (lw_at lw_m6 90 rfl) rfl
theorem q1438 : (Jvm.Cond.fieldLink "BallotFruitModel" (83 : Nat) "BallotFruitModel" "images" "[I") ∈ lw_all := lw_g (lw_at lw_m6 91 rfl) rfl
theorem q1439 : (Jvm.Cond.lays "BallotFruitModel" "BallotFruitModel" "told" "I") ∈ lw_all := lw_g (lw_at lw_m6 92 rfl) rfl
theorem q1440 : (Jvm.Cond.soleField "BallotFruitModel" "told") ∈ lw_all := lw_g (lw_at lw_m6 93 rfl) rfl
theorem q1441 : (Jvm.Cond.laysFinal "BallotFruitModel" "BallotFruitModel" "now" "[I") ∈ lw_all := lw_g (lw_at lw_m6 94 rfl) rfl
theorem q1442 : (Jvm.Cond.soleField "BallotFruitModel" "now") ∈ lw_all := lw_g (lw_at lw_m6 95 rfl) rfl
theorem q1443 : (Jvm.Cond.laysFinal "BallotFruitModel" "BallotFruitModel" "rows" "[I") ∈ lw_all := lw_g (lw_at lw_m6 96 rfl) rfl
theorem q1444 : (Jvm.Cond.soleField "BallotFruitModel" "rows") ∈ lw_all := lw_g (lw_at lw_m6 97 rfl) rfl
theorem q1445 : (Jvm.Cond.lays "BallotFruitModel" "BallotFruitModel" "undoable" "I") ∈ lw_all := lw_g (lw_at lw_m6 98 rfl) rfl
theorem q1446 : (Jvm.Cond.soleField "BallotFruitModel" "undoable") ∈ lw_all := lw_g (lw_at lw_m6 99 rfl) rfl
theorem q1447 : (Jvm.Cond.laysFinal "BallotFruitModel" "BallotFruitModel" "waiting" "[I") ∈ lw_all := lw_g (lw_at lw_m6 100 rfl) rfl
theorem q1448 : (Jvm.Cond.soleField "BallotFruitModel" "waiting") ∈ lw_all := lw_g (lw_at lw_m6 101 rfl) rfl
theorem q1449 : (Jvm.Cond.lays "BallotFruitModel" "BallotFruitModel" "isThought" "Z") ∈ lw_all := lw_g (lw_at lw_m6 102 rfl) rfl
theorem q1450 : (Jvm.Cond.soleField "BallotFruitModel" "isThought") ∈ lw_all := lw_g (lw_at lw_m6 103 rfl) rfl
theorem q1451 : (Jvm.Cond.lays "BallotFruitModel" "BallotFruitModel" "parties" "I") ∈ lw_all := lw_g (lw_at lw_m6 104 rfl) rfl
theorem q1452 : (Jvm.Cond.soleField "BallotFruitModel" "parties") ∈ lw_all := lw_g (lw_at lw_m6 105 rfl) rfl
theorem q1453 : (Jvm.Cond.lays "BallotFruitModel" "BallotFruitModel" "eaters" "I") ∈ lw_all := lw_g (lw_at lw_m6 106 rfl) rfl
theorem q1454 : (Jvm.Cond.soleField "BallotFruitModel" "eaters") ∈ lw_all := lw_g (lw_at lw_m6 107 rfl) rfl
theorem q1455 : (Jvm.Cond.lays "BallotFruitModel" "BallotFruitModel" "badOdds" "I") ∈ lw_all := lw_g (lw_at lw_m6 108 rfl) rfl
theorem q1456 : (Jvm.Cond.soleField "BallotFruitModel" "badOdds") ∈ lw_all := lw_g (lw_at lw_m6 109 rfl) rfl
theorem q1457 : (Jvm.Cond.lays "BallotFruitModel" "BallotFruitModel" "waspOdds" "I") ∈ lw_all := lw_g (lw_at lw_m6 110 rfl) rfl
theorem q1458 : (Jvm.Cond.soleField "BallotFruitModel" "waspOdds") ∈ lw_all := lw_g (lw_at lw_m6 111 rfl) rfl
theorem q1459 : (Jvm.Cond.lays "BallotFruitModel" "BallotFruitModel" "chairsBut" "I") ∈ lw_all := lw_g (lw_at lw_m6 112 rfl) rfl
theorem q1460 : (Jvm.Cond.soleField "BallotFruitModel" "chairsBut") ∈ lw_all := lw_g (lw_at lw_m6 113 rfl) rfl
theorem q1461 : (Jvm.Cond.lays "BallotFruitModel" "BallotFruitModel" "everyBut" "I") ∈ lw_all := lw_g (lw_at lw_m6 114 rfl) rfl
theorem q1462 : (Jvm.Cond.soleField "BallotFruitModel" "everyBut") ∈ lw_all := lw_g (lw_at lw_m6 115 rfl) rfl
theorem q1463 : (Jvm.Cond.laysFinal "BallotFruitModel" "BallotFruitModel" "book" "[I") ∈ lw_all := lw_g (lw_at lw_m6 116 rfl) rfl
theorem q1464 : (Jvm.Cond.soleField "BallotFruitModel" "book") ∈ lw_all := lw_g (lw_at lw_m6 117 rfl) rfl
theorem q1465 : (Jvm.Cond.laysFinal "BallotFruitModel" "BallotFruitModel" "tape" "[I") ∈ lw_all := lw_g (lw_at lw_m6 118 rfl) rfl
theorem q1466 : (Jvm.Cond.soleField "BallotFruitModel" "tape") ∈ lw_all := lw_g (lw_at lw_m6 119 rfl) rfl
theorem q1467 : (Jvm.Cond.lays "BallotFruitModel" "BallotFruitModel" "taped" "I") ∈ lw_all := lw_g (lw_at lw_m6 120 rfl) rfl
theorem q1468 : (Jvm.Cond.soleField "BallotFruitModel" "taped") ∈ lw_all := lw_g (lw_at lw_m6 121 rfl) rfl
theorem q1469 : (Jvm.Cond.lays "BallotFruitModel" "BallotFruitModel" "spot" "I") ∈ lw_all := lw_g (lw_at lw_m6 122 rfl) rfl
theorem q1470 : (Jvm.Cond.soleField "BallotFruitModel" "spot") ∈ lw_all := lw_g (lw_at lw_m6 123 rfl) rfl
theorem q1471 : (Jvm.Cond.lays "BallotFruitModel" "BallotFruitModel" "from" "I") ∈ lw_all := lw_g (lw_at lw_m6 124 rfl) rfl
theorem q1472 : (Jvm.Cond.soleField "BallotFruitModel" "from") ∈ lw_all := lw_g (lw_at lw_m6 125 rfl) rfl
theorem q1473 : (Jvm.Cond.lays "BallotFruitModel" "BallotFruitModel" "token" "I") ∈ lw_all := lw_g (lw_at lw_m6 126 rfl) rfl
theorem q1474 : (Jvm.Cond.soleField "BallotFruitModel" "token") ∈ lw_all := lw_g (lw_at lw_m6 127 rfl) rfl
theorem q1475 : (Jvm.Cond.lays "BallotFruitModel" "BallotFruitModel" "value" "I") ∈ lw_all := lw_g (lw_at lw_m6 128 rfl) rfl
theorem q1476 : (Jvm.Cond.soleField "BallotFruitModel" "value") ∈ lw_all := lw_g (lw_at lw_m6 129 rfl) rfl
theorem q1477 : (Jvm.Cond.laysFinal "BallotFruitModel" "BallotFruitModel" "words" "[I") ∈ lw_all := lw_g (lw_at lw_m6 130 rfl) rfl
theorem q1478 : (Jvm.Cond.soleField "BallotFruitModel" "words") ∈ lw_all := lw_g (lw_at lw_m6 131 rfl) rfl
theorem q1479 : (Jvm.Cond.laysFinal "BallotFruitModel" "BallotFruitModel" "lineMany" "[I") ∈ lw_all := lw_g (lw_at lw_m6 132 rfl) rfl
theorem q1480 : (Jvm.Cond.soleField "BallotFruitModel" "lineMany") ∈ lw_all := lw_g (lw_at lw_m6 133 rfl) rfl
theorem q1481 : (Jvm.Cond.laysFinal "BallotFruitModel" "BallotFruitModel" "lineWord" "[I") ∈ lw_all := lw_g (lw_at lw_m6 134 rfl) rfl
theorem q1482 : (Jvm.Cond.soleField "BallotFruitModel" "lineWord") ∈ lw_all := lw_g (lw_at lw_m6 135 rfl) rfl
theorem q1483 : (Jvm.Cond.laysFinal "BallotFruitModel" "BallotFruitModel" "lineFrom" "[I") ∈ lw_all := lw_g (lw_at lw_m6 136 rfl) rfl
theorem q1484 : (Jvm.Cond.soleField "BallotFruitModel" "lineFrom") ∈ lw_all := lw_g (lw_at lw_m6 137 rfl) rfl
theorem q1485 : (Jvm.Cond.laysFinal "BallotFruitModel" "BallotFruitModel" "lineWhen" "[I") ∈ lw_all := lw_g (lw_at lw_m6 138 rfl) rfl
theorem q1486 : (Jvm.Cond.soleField "BallotFruitModel" "lineWhen") ∈ lw_all := lw_g (lw_at lw_m6 139 rfl) rfl
theorem q1487 : (Jvm.Cond.laysFinal "BallotFruitModel" "BallotFruitModel" "lineTo" "[I") ∈ lw_all := lw_g (lw_at lw_m6 140 rfl) rfl
theorem q1488 : (Jvm.Cond.soleField "BallotFruitModel" "lineTo") ∈ lw_all := lw_g (lw_at lw_m6 141 rfl) rfl
theorem q1489 : (Jvm.Cond.laysFinal "BallotFruitModel" "BallotFruitModel" "op" "[I") ∈ lw_all := lw_g (lw_at lw_m6 142 rfl) rfl
theorem q1490 : (Jvm.Cond.soleField "BallotFruitModel" "op") ∈ lw_all := lw_g (lw_at lw_m6 143 rfl) rfl
theorem q1491 : (Jvm.Cond.laysFinal "BallotFruitModel" "BallotFruitModel" "arg" "[I") ∈ lw_all := lw_g (lw_at lw_m6 144 rfl) rfl
theorem q1492 : (Jvm.Cond.soleField "BallotFruitModel" "arg") ∈ lw_all := lw_g (lw_at lw_m6 145 rfl) rfl
theorem q1493 : (Jvm.Cond.lays "BallotFruitModel" "BallotFruitModel" "which" "I") ∈ lw_all := lw_g (lw_at lw_m6 146 rfl) rfl
theorem q1494 : (Jvm.Cond.soleField "BallotFruitModel" "which") ∈ lw_all := lw_g (lw_at lw_m6 147 rfl) rfl
theorem q1495 : (Jvm.Cond.lays "BallotFruitModel" "BallotFruitModel" "codes" "I") ∈ lw_all := lw_g (lw_at lw_m6 148 rfl) rfl
theorem q1496 : (Jvm.Cond.soleField "BallotFruitModel" "codes") ∈ lw_all := lw_g (lw_at lw_m6 149 rfl) rfl
theorem q1497 : (Jvm.Cond.lays "BallotFruitModel" "BallotFruitModel" "open" "I") ∈ lw_all := lw_g (lw_at lw_m6 150 rfl) rfl
theorem q1498 : (Jvm.Cond.soleField "BallotFruitModel" "open") ∈ lw_all := lw_g (lw_at lw_m6 151 rfl) rfl
theorem q1499 : (Jvm.Cond.laysFinal "BallotFruitModel" "BallotFruitModel" "pending" "[I") ∈ lw_all := lw_g (lw_at lw_m6 152 rfl) rfl
theorem q1500 : (Jvm.Cond.soleField "BallotFruitModel" "pending") ∈ lw_all := lw_g (lw_at lw_m6 153 rfl) rfl
theorem q1501 : (Jvm.Cond.lays "BallotFruitModel" "BallotFruitModel" "pendings" "I") ∈ lw_all := lw_g (lw_at lw_m6 154 rfl) rfl
theorem q1502 : (Jvm.Cond.soleField "BallotFruitModel" "pendings") ∈ lw_all := lw_g (lw_at lw_m6 155 rfl) rfl
theorem q1503 : (Jvm.Cond.lays "BallotFruitModel" "BallotFruitModel" "readFault" "I") ∈ lw_all := lw_g (lw_at lw_m6 156 rfl) rfl
theorem q1504 : (Jvm.Cond.soleField "BallotFruitModel" "readFault") ∈ lw_all := lw_g (lw_at lw_m6 157 rfl) rfl
theorem q1505 : (Jvm.Cond.lays "BallotFruitModel" "BallotFruitModel" "readPlace" "I") ∈ lw_all := lw_g (lw_at lw_m6 158 rfl) rfl
theorem q1506 : (Jvm.Cond.soleField "BallotFruitModel" "readPlace") ∈ lw_all := lw_g (lw_at lw_m6 159 rfl) rfl
theorem q1507 : (Jvm.Cond.lays "BallotFruitModel" "BallotFruitModel" "faultKind" "I") ∈ lw_all := lw_g (lw_at lw_m6 160 rfl) rfl
theorem q1508 : (Jvm.Cond.soleField "BallotFruitModel" "faultKind") ∈ lw_all := lw_g (lw_at lw_m6 161 rfl) rfl
theorem q1509 : (Jvm.Cond.lays "BallotFruitModel" "BallotFruitModel" "faultPlace" "I") ∈ lw_all := lw_g (lw_at lw_m6 162 rfl) rfl
theorem q1510 : (Jvm.Cond.soleField "BallotFruitModel" "faultPlace") ∈ lw_all := lw_g (lw_at lw_m6 163 rfl) rfl
theorem q1511 : (Jvm.Cond.lays "BallotFruitModel" "BallotFruitModel" "pathLines" "I") ∈ lw_all := lw_g (lw_at lw_m6 164 rfl) rfl
theorem q1512 : (Jvm.Cond.soleField "BallotFruitModel" "pathLines") ∈ lw_all := lw_g (lw_at lw_m6 165 rfl) rfl
theorem q1513 : (Jvm.Cond.laysFinal "BallotFruitModel" "BallotFruitModel" "paths" "[I") ∈ lw_all := lw_g (lw_at lw_m6 166 rfl) rfl
theorem q1514 : (Jvm.Cond.soleField "BallotFruitModel" "paths") ∈ lw_all := lw_g (lw_at lw_m6 167 rfl) rfl
theorem q1515 : (Jvm.Cond.lays "BallotFruitModel" "BallotFruitModel" "planMany" "I") ∈ lw_all := lw_g (lw_at lw_m6 168 rfl) rfl
theorem q1516 : (Jvm.Cond.soleField "BallotFruitModel" "planMany") ∈ lw_all := lw_g (lw_at lw_m6 169 rfl) rfl
theorem q1517 : (Jvm.Cond.laysFinal "BallotFruitModel" "BallotFruitModel" "plan" "[I") ∈ lw_all := lw_g (lw_at lw_m6 170 rfl) rfl
theorem q1518 : (Jvm.Cond.soleField "BallotFruitModel" "plan") ∈ lw_all := lw_g (lw_at lw_m6 171 rfl) rfl
theorem q1519 : (Jvm.Cond.laysFinal "BallotFruitModel" "BallotFruitModel" "asked" "[I") ∈ lw_all := lw_g (lw_at lw_m6 172 rfl) rfl
theorem q1520 : (Jvm.Cond.soleField "BallotFruitModel" "asked") ∈ lw_all := lw_g (lw_at lw_m6 173 rfl) rfl
theorem q1521 : (Jvm.Cond.laysFinal "BallotFruitModel" "BallotFruitModel" "stack" "[I") ∈ lw_all := lw_g (lw_at lw_m6 174 rfl) rfl
theorem q1522 : (Jvm.Cond.soleField "BallotFruitModel" "stack") ∈ lw_all := lw_g (lw_at lw_m6 175 rfl) rfl
theorem q1523 : (Jvm.Cond.lays "BallotFruitModel" "BallotFruitModel" "gained" "I") ∈ lw_all := lw_g (lw_at lw_m6 176 rfl) rfl
theorem q1524 : (Jvm.Cond.soleField "BallotFruitModel" "gained") ∈ lw_all := lw_g (lw_at lw_m6 177 rfl) rfl
theorem q1525 : (Jvm.Cond.lays "BallotFruitModel" "BallotFruitModel" "gainedFor" "I") ∈ lw_all := lw_g (lw_at lw_m6 178 rfl) rfl
theorem q1526 : (Jvm.Cond.soleField "BallotFruitModel" "gainedFor") ∈ lw_all := lw_g (lw_at lw_m6 179 rfl) rfl
theorem q1527 : (Jvm.Cond.lays "BallotFruitModel" "BallotFruitModel" "hungryFirst" "I") ∈ lw_all := lw_g (lw_at lw_m6 180 rfl) rfl
theorem q1528 : (Jvm.Cond.soleField "BallotFruitModel" "hungryFirst") ∈ lw_all := lw_g (lw_at lw_m6 181 rfl) rfl
theorem q1529 : (Jvm.Cond.lays "BallotFruitModel" "BallotFruitModel" "hungryWeek" "I") ∈ lw_all := lw_g (lw_at lw_m6 182 rfl) rfl
theorem q1530 : (Jvm.Cond.soleField "BallotFruitModel" "hungryWeek") ∈ lw_all := lw_g (lw_at lw_m6 183 rfl) rfl
theorem q1531 : (Jvm.Cond.laysFinal "BallotFruitModel" "BallotFruitModel" "given" "[I") ∈ lw_all := lw_g (lw_at lw_m6 184 rfl) rfl
theorem q1532 : (Jvm.Cond.soleField "BallotFruitModel" "given") ∈ lw_all := lw_g (lw_at lw_m6 185 rfl) rfl
theorem q1533 : (Jvm.Cond.laysFinal "BallotFruitModel" "BallotFruitModel" "remains" "[I") ∈ lw_all := lw_g (lw_at lw_m6 186 rfl) rfl
theorem q1534 : (Jvm.Cond.soleField "BallotFruitModel" "remains") ∈ lw_all := lw_g (lw_at lw_m6 187 rfl) rfl
theorem q1535 : (Jvm.Cond.lays "BallotFruitModel" "BallotFruitModel" "coreMany" "I") ∈ lw_all := lw_g (lw_at lw_m6 188 rfl) rfl
theorem q1536 : (Jvm.Cond.soleField "BallotFruitModel" "coreMany") ∈ lw_all := lw_g (lw_at lw_m6 189 rfl) rfl
theorem q1537 : (Jvm.Cond.laysFinal "BallotFruitModel" "BallotFruitModel" "cores" "[I") ∈ lw_all := lw_g (lw_at lw_m6 190 rfl) rfl
theorem q1538 : (Jvm.Cond.soleField "BallotFruitModel" "cores") ∈ lw_all := lw_g (lw_at lw_m6 191 rfl) rfl
theorem q1539 : (Jvm.Cond.laysFinal "BallotFruitModel" "BallotFruitModel" "ways" "[I") ∈ lw_all := lw_g (lw_at lw_m6 192 rfl) rfl
theorem q1540 : (Jvm.Cond.soleField "BallotFruitModel" "ways") ∈ lw_all := lw_g (lw_at lw_m6 193 rfl) rfl
theorem q1541 : (Jvm.Cond.laysFinal "BallotFruitModel" "BallotFruitModel" "waysThen" "[I") ∈ lw_all := lw_g (lw_at lw_m6 194 rfl) rfl
theorem q1542 : (Jvm.Cond.soleField "BallotFruitModel" "waysThen") ∈ lw_all := lw_g (lw_at lw_m6 195 rfl) rfl
theorem q1543 : (Jvm.Cond.lays "BallotFruitModel" "BallotFruitModel" "isTaking" "Z") ∈ lw_all := lw_g (lw_at lw_m6 196 rfl) rfl
theorem q1544 : (Jvm.Cond.soleField "BallotFruitModel" "isTaking") ∈ lw_all := lw_g (lw_at lw_m6 197 rfl) rfl
theorem q1545 : (Jvm.Cond.lays "BallotFruitModel" "BallotFruitModel" "hasImage" "Z") ∈ lw_all := lw_g (lw_at lw_m6 198 rfl) rfl
theorem q1546 : (Jvm.Cond.soleField "BallotFruitModel" "hasImage") ∈ lw_all := lw_g (lw_at lw_m6 199 rfl) rfl
theorem q1547 : (Jvm.Cond.lays "BallotFruitModel" "BallotFruitModel" "keptAt" "I") ∈ lw_all := lw_g (lw_at lw_m6 200 rfl) rfl
theorem q1548 : (Jvm.Cond.soleField "BallotFruitModel" "keptAt") ∈ lw_all := lw_g (lw_at lw_m6 201 rfl) rfl
theorem q1549 : (Jvm.Cond.laysFinal "BallotFruitModel" "BallotFruitModel" "images" "[I") ∈ lw_all := lw_g (lw_at lw_m6 202 rfl) rfl
theorem q1550 : (Jvm.Cond.soleField "BallotFruitModel" "images") ∈ lw_all := lw_g (lw_at lw_m6 203 rfl) rfl
theorem q1551 : (Jvm.Cond.superclass "BallotFruitModel" "java/lang/Object") ∈ lw_all := lw_g (lw_at lw_m6 204 rfl) rfl
theorem q1553 : (Jvm.Cond.instanceMethod ({ cls := "BallotFruitModel", name := "undo", desc := "()Z" } : Jvm.MethodName)) ∈ lw_all := lw_g (lw_at lw_m6 206 rfl) rfl
theorem q1554 : (Jvm.Cond.selects "BallotFruitModel" ({ cls := "BallotFruitModel", name := "undo", desc := "()Z" } : Jvm.MethodName) ({ cls := "BallotFruitModel", name := "undo", desc := "()Z" } : Jvm.MethodName)) ∈ lw_all := lw_g (lw_at lw_m6 207 rfl) rfl
theorem q1555 : (Jvm.Cond.code ({ cls := "BallotFruitModel", name := "undo", desc := "()Z" } : Jvm.MethodName) prog_22_method_10_code (2 : Nat) (Option.some Jvm.ClassFile.FieldType.boolean)) ∈ lw_all := lw_g (lw_at lw_m6 208 rfl) rfl
theorem q1557 : (Jvm.Cond.instanceMethod ({ cls := "BallotFruitModel", name := "state", desc := "(I)I" } : Jvm.MethodName)) ∈ lw_all := lw_g (lw_at lw_m6 210 rfl) rfl
theorem q1558 : (Jvm.Cond.selects "BallotFruitModel" ({ cls := "BallotFruitModel", name := "state", desc := "(I)I" } : Jvm.MethodName) ({ cls := "BallotFruitModel", name := "state", desc := "(I)I" } : Jvm.MethodName)) ∈ lw_all := lw_g (lw_at lw_m6 211 rfl) rfl
theorem q1559 : (Jvm.Cond.code ({ cls := "BallotFruitModel", name := "state", desc := "(I)I" } : Jvm.MethodName) prog_22_method_14_code (3 : Nat) (Option.some Jvm.ClassFile.FieldType.int)) ∈ lw_all := lw_g (lw_at lw_m6 212 rfl) rfl
theorem q1561 : (Jvm.Cond.instanceMethod ({ cls := "BallotFruitModel", name := "party", desc := "(I)I" } : Jvm.MethodName)) ∈ lw_all := lw_g (lw_at lw_m6 214 rfl) rfl
theorem q1562 : (Jvm.Cond.selects "BallotFruitModel" ({ cls := "BallotFruitModel", name := "party", desc := "(I)I" } : Jvm.MethodName) ({ cls := "BallotFruitModel", name := "party", desc := "(I)I" } : Jvm.MethodName)) ∈ lw_all := lw_g (lw_at lw_m6 215 rfl) rfl
theorem q1563 : (Jvm.Cond.code ({ cls := "BallotFruitModel", name := "party", desc := "(I)I" } : Jvm.MethodName) prog_22_method_24_code (2 : Nat) (Option.some Jvm.ClassFile.FieldType.int)) ∈ lw_all := lw_g (lw_at lw_m6 216 rfl) rfl
theorem q1564 : (Jvm.Cond.methodLink "BallotFruitModel" (126 : Nat) ({ cls := "BallotFruitModel", name := "isIn", desc := "(III)Z" } : Jvm.MethodName)) ∈ lw_all := lw_g (lw_at lw_m6 217 rfl) rfl
theorem q1565 : (Jvm.Cond.privateMethod ({ cls := "BallotFruitModel", name := "isIn", desc := "(III)Z" } : Jvm.MethodName)) ∈ lw_tbl := lw_at lw_m6 218 rfl
theorem q1566 : (Jvm.Cond.instanceMethod ({ cls := "BallotFruitModel", name := "isIn", desc := "(III)Z" } : Jvm.MethodName)) ∈ lw_all := lw_g (lw_at lw_m6 219 rfl) rfl
theorem q1567 : (Jvm.Cond.code ({ cls := "BallotFruitModel", name := "isIn", desc := "(III)Z" } : Jvm.MethodName) prog_22_method_3_code (4 : Nat) (Option.some Jvm.ClassFile.FieldType.boolean)) ∈ lw_all := lw_g (lw_at lw_m6 220 rfl) rfl
theorem q1569 : (Jvm.Cond.instanceMethod ({ cls := "BallotFruitModel", name := "eater", desc := "(I)I" } : Jvm.MethodName)) ∈ lw_all := lw_g (lw_at lw_m6 222 rfl) rfl
theorem q1570 : (Jvm.Cond.selects "BallotFruitModel" ({ cls := "BallotFruitModel", name := "eater", desc := "(I)I" } : Jvm.MethodName) ({ cls := "BallotFruitModel", name := "eater", desc := "(I)I" } : Jvm.MethodName)) ∈ lw_all := lw_g (lw_at lw_m6 223 rfl) rfl
theorem q1571 : (Jvm.Cond.code ({ cls := "BallotFruitModel", name := "eater", desc := "(I)I" } : Jvm.MethodName) prog_22_method_25_code (2 : Nat) (Option.some Jvm.ClassFile.FieldType.int)) ∈ lw_all := lw_g (lw_at lw_m6 224 rfl) rfl
theorem q1573 : (Jvm.Cond.instanceMethod ({ cls := "BallotFruitModel", name := "taste", desc := "(III)Z" } : Jvm.MethodName)) ∈ lw_all := lw_g (lw_at lw_m6 226 rfl) rfl
theorem q1574 : (Jvm.Cond.selects "BallotFruitModel" ({ cls := "BallotFruitModel", name := "taste", desc := "(III)Z" } : Jvm.MethodName) ({ cls := "BallotFruitModel", name := "taste", desc := "(III)Z" } : Jvm.MethodName)) ∈ lw_all := lw_g (lw_at lw_m6 227 rfl) rfl
theorem q1575 : (Jvm.Cond.code ({ cls := "BallotFruitModel", name := "taste", desc := "(III)Z" } : Jvm.MethodName) prog_22_method_26_code (4 : Nat) (Option.some Jvm.ClassFile.FieldType.boolean)) ∈ lw_all := lw_g (lw_at lw_m6 228 rfl) rfl
theorem q1576 : (Jvm.Cond.methodLink "BallotFruitModel" (130 : Nat) ({ cls := "BallotFruitModel", name := "isEater", desc := "(I)Z" } : Jvm.MethodName)) ∈ lw_all := lw_g (lw_at lw_m6 229 rfl) rfl
theorem q1577 : (Jvm.Cond.privateMethod ({ cls := "BallotFruitModel", name := "isEater", desc := "(I)Z" } : Jvm.MethodName)) ∈ lw_tbl := lw_at lw_m6 230 rfl
theorem q1578 : (Jvm.Cond.instanceMethod ({ cls := "BallotFruitModel", name := "isEater", desc := "(I)Z" } : Jvm.MethodName)) ∈ lw_all := lw_g (lw_at lw_m6 231 rfl) rfl
theorem q1579 : (Jvm.Cond.code ({ cls := "BallotFruitModel", name := "isEater", desc := "(I)Z" } : Jvm.MethodName) prog_22_method_19_code (2 : Nat) (Option.some Jvm.ClassFile.FieldType.boolean)) ∈ lw_all := lw_g (lw_at lw_m6 232 rfl) rfl
theorem q1580 : (Jvm.Cond.methodLink "BallotFruitModel" (134 : Nat) ({ cls := "BallotFruitModel", name := "isParty", desc := "(I)Z" } : Jvm.MethodName)) ∈ lw_all := lw_g (lw_at lw_m6 233 rfl) rfl
theorem q1581 : (Jvm.Cond.privateMethod ({ cls := "BallotFruitModel", name := "isParty", desc := "(I)Z" } : Jvm.MethodName)) ∈ lw_tbl := lw_at lw_m6 234 rfl
theorem q1582 : (Jvm.Cond.instanceMethod ({ cls := "BallotFruitModel", name := "isParty", desc := "(I)Z" } : Jvm.MethodName)) ∈ lw_all := lw_g (lw_at lw_m6 235 rfl) rfl
theorem q1583 : (Jvm.Cond.code ({ cls := "BallotFruitModel", name := "isParty", desc := "(I)Z" } : Jvm.MethodName) prog_22_method_18_code (2 : Nat) (Option.some Jvm.ClassFile.FieldType.boolean)) ∈ lw_all := lw_g (lw_at lw_m6 236 rfl) rfl
theorem q1584 : (Jvm.Cond.methodLink "BallotFruitModel" (137 : Nat) ({ cls := "BallotFruitModel", name := "tasteBe", desc := "(III)V" } : Jvm.MethodName)) ∈ lw_all := lw_g (lw_at lw_m6 237 rfl) rfl
theorem q1585 : (Jvm.Cond.privateMethod ({ cls := "BallotFruitModel", name := "tasteBe", desc := "(III)V" } : Jvm.MethodName)) ∈ lw_tbl := lw_at lw_m6 238 rfl
theorem q1586 : (Jvm.Cond.instanceMethod ({ cls := "BallotFruitModel", name := "tasteBe", desc := "(III)V" } : Jvm.MethodName)) ∈ lw_all := lw_g (lw_at lw_m6 239 rfl) rfl
theorem q1587 : (Jvm.Cond.code ({ cls := "BallotFruitModel", name := "tasteBe", desc := "(III)V" } : Jvm.MethodName) prog_22_method_23_code (4 : Nat) (Option.none : Option Jvm.ClassFile.FieldType)) ∈ lw_all := lw_g (lw_at lw_m7 0 rfl) rfl
theorem q1588 : (Jvm.Cond.methodLink "BallotFruitModel" (122 : Nat) ({ cls := "BallotFruitModel", name := "held", desc := "(III)I" } : Jvm.MethodName)) ∈ lw_all := lw_g (lw_at lw_m7 1 rfl) rfl
theorem q1589 : (Jvm.Cond.privateMethod ({ cls := "BallotFruitModel", name := "held", desc := "(III)I" } : Jvm.MethodName)) ∈ lw_tbl := lw_at lw_m7 2 rfl
theorem q1590 : (Jvm.Cond.instanceMethod ({ cls := "BallotFruitModel", name := "held", desc := "(III)I" } : Jvm.MethodName)) ∈ lw_all := lw_g (lw_at lw_m7 3 rfl) rfl
theorem q1591 : (Jvm.Cond.code ({ cls := "BallotFruitModel", name := "held", desc := "(III)I" } : Jvm.MethodName) prog_22_method_4_code (4 : Nat) (Option.some Jvm.ClassFile.FieldType.int)) ∈ lw_all := lw_g (lw_at lw_m7 4 rfl) rfl
theorem q1593 : (Jvm.Cond.instanceMethod ({ cls := "BallotFruitModel", name := "set", desc := "(III)Z" } : Jvm.MethodName)) ∈ lw_all := lw_g (lw_at lw_m7 6 rfl) rfl
theorem q1594 : (Jvm.Cond.selects "BallotFruitModel" ({ cls := "BallotFruitModel", name := "set", desc := "(III)Z" } : Jvm.MethodName) ({ cls := "BallotFruitModel", name := "set", desc := "(III)Z" } : Jvm.MethodName)) ∈ lw_all := lw_g (lw_at lw_m7 7 rfl) rfl
theorem q1595 : (Jvm.Cond.code ({ cls := "BallotFruitModel", name := "set", desc := "(III)Z" } : Jvm.MethodName) prog_22_method_28_code (4 : Nat) (Option.some Jvm.ClassFile.FieldType.boolean)) ∈ lw_all := lw_g (lw_at lw_m7 8 rfl) rfl
theorem q1596 : (Jvm.Cond.methodLink "BallotFruitModel" (144 : Nat) ({ cls := "BallotFruitModel", name := "canSet", desc := "(III)Z" } : Jvm.MethodName)) ∈ lw_all := lw_g (lw_at lw_m7 9 rfl) rfl
theorem q1597 : (Jvm.Cond.privateMethod ({ cls := "BallotFruitModel", name := "canSet", desc := "(III)Z" } : Jvm.MethodName)) ∈ lw_tbl := lw_at lw_m7 10 rfl
theorem q1598 : (Jvm.Cond.instanceMethod ({ cls := "BallotFruitModel", name := "canSet", desc := "(III)Z" } : Jvm.MethodName)) ∈ lw_all := lw_g (lw_at lw_m7 11 rfl) rfl
theorem q1599 : (Jvm.Cond.code ({ cls := "BallotFruitModel", name := "canSet", desc := "(III)Z" } : Jvm.MethodName) prog_22_method_27_code (4 : Nat) (Option.some Jvm.ClassFile.FieldType.boolean)) ∈ lw_all := lw_g (lw_at lw_m7 12 rfl) rfl
theorem q1600 : (Jvm.Cond.methodLink "BallotFruitModel" (141 : Nat) ({ cls := "BallotFruitModel", name := "isTree", desc := "(I)Z" } : Jvm.MethodName)) ∈ lw_all := lw_g (lw_at lw_m7 13 rfl) rfl
theorem q1601 : (Jvm.Cond.privateMethod ({ cls := "BallotFruitModel", name := "isTree", desc := "(I)Z" } : Jvm.MethodName)) ∈ lw_tbl := lw_at lw_m7 14 rfl
theorem q1602 : (Jvm.Cond.instanceMethod ({ cls := "BallotFruitModel", name := "isTree", desc := "(I)Z" } : Jvm.MethodName)) ∈ lw_all := lw_g (lw_at lw_m7 15 rfl) rfl
theorem q1603 : (Jvm.Cond.code ({ cls := "BallotFruitModel", name := "isTree", desc := "(I)Z" } : Jvm.MethodName) prog_22_method_21_code (2 : Nat) (Option.some Jvm.ClassFile.FieldType.boolean)) ∈ lw_all := lw_g (lw_at lw_m7 16 rfl) rfl
theorem q1605 : (Jvm.Cond.instanceMethod ({ cls := "BallotFruitModel", name := "feed", desc := "(IIIII)I" } : Jvm.MethodName)) ∈ lw_all := lw_g (lw_at lw_m7 18 rfl) rfl
theorem q1606 : (Jvm.Cond.selects "BallotFruitModel" ({ cls := "BallotFruitModel", name := "feed", desc := "(IIIII)I" } : Jvm.MethodName) ({ cls := "BallotFruitModel", name := "feed", desc := "(IIIII)I" } : Jvm.MethodName)) ∈ lw_all := lw_g (lw_at lw_m7 19 rfl) rfl
theorem q1607 : (Jvm.Cond.code ({ cls := "BallotFruitModel", name := "feed", desc := "(IIIII)I" } : Jvm.MethodName) prog_22_method_30_code (6 : Nat) (Option.some Jvm.ClassFile.FieldType.int)) ∈ lw_all := lw_g (lw_at lw_m7 20 rfl) rfl
theorem q1608 : (Jvm.Cond.methodLink "BallotFruitModel" (156 : Nat) ({ cls := "BallotFruitModel", name := "types", desc := "(I)V" } : Jvm.MethodName)) ∈ lw_all := lw_g (lw_at lw_m7 21 rfl) rfl
theorem q1609 : (Jvm.Cond.privateMethod ({ cls := "BallotFruitModel", name := "types", desc := "(I)V" } : Jvm.MethodName)) ∈ lw_tbl := lw_at lw_m7 22 rfl
theorem q1610 : (Jvm.Cond.instanceMethod ({ cls := "BallotFruitModel", name := "types", desc := "(I)V" } : Jvm.MethodName)) ∈ lw_all := lw_g (lw_at lw_m7 23 rfl) rfl
theorem q1611 : (Jvm.Cond.code ({ cls := "BallotFruitModel", name := "types", desc := "(I)V" } : Jvm.MethodName) prog_22_method_29_code (3 : Nat) (Option.none : Option Jvm.ClassFile.FieldType)) ∈ lw_all := lw_g (lw_at lw_m7 24 rfl) rfl
theorem q1613 : (Jvm.Cond.instanceMethod ({ cls := "BallotFruitModel", name := "end", desc := "(I)Z" } : Jvm.MethodName)) ∈ lw_all := lw_g (lw_at lw_m7 26 rfl) rfl
theorem q1614 : (Jvm.Cond.selects "BallotFruitModel" ({ cls := "BallotFruitModel", name := "end", desc := "(I)Z" } : Jvm.MethodName) ({ cls := "BallotFruitModel", name := "end", desc := "(I)Z" } : Jvm.MethodName)) ∈ lw_all := lw_g (lw_at lw_m7 27 rfl) rfl
theorem q1615 : (Jvm.Cond.code ({ cls := "BallotFruitModel", name := "end", desc := "(I)Z" } : Jvm.MethodName) prog_22_method_31_code (2 : Nat) (Option.some Jvm.ClassFile.FieldType.boolean)) ∈ lw_all := lw_g (lw_at lw_m7 28 rfl) rfl
theorem q1617 : (Jvm.Cond.instanceMethod ({ cls := "BallotFruitModel", name := "text", desc := "(I)I" } : Jvm.MethodName)) ∈ lw_all := lw_g (lw_at lw_m7 30 rfl) rfl
theorem q1618 : (Jvm.Cond.selects "BallotFruitModel" ({ cls := "BallotFruitModel", name := "text", desc := "(I)I" } : Jvm.MethodName) ({ cls := "BallotFruitModel", name := "text", desc := "(I)I" } : Jvm.MethodName)) ∈ lw_all := lw_g (lw_at lw_m7 31 rfl) rfl
theorem q1619 : (Jvm.Cond.code ({ cls := "BallotFruitModel", name := "text", desc := "(I)I" } : Jvm.MethodName) prog_22_method_63_code (3 : Nat) (Option.some Jvm.ClassFile.FieldType.int)) ∈ lw_all := lw_g (lw_at lw_m7 32 rfl) rfl
theorem q1620 : (Jvm.Cond.methodLink "BallotFruitModel" (288 : Nat) ({ cls := "BallotFruitModel", name := "readsText", desc := "(I)I" } : Jvm.MethodName)) ∈ lw_all := lw_g (lw_at lw_m7 33 rfl) rfl
theorem q1621 : (Jvm.Cond.privateMethod ({ cls := "BallotFruitModel", name := "readsText", desc := "(I)I" } : Jvm.MethodName)) ∈ lw_tbl := lw_at lw_m7 34 rfl
theorem q1622 : (Jvm.Cond.instanceMethod ({ cls := "BallotFruitModel", name := "readsText", desc := "(I)I" } : Jvm.MethodName)) ∈ lw_all := lw_g (lw_at lw_m7 35 rfl) rfl
theorem q1623 : (Jvm.Cond.code ({ cls := "BallotFruitModel", name := "readsText", desc := "(I)I" } : Jvm.MethodName) prog_22_method_61_code (2 : Nat) (Option.some Jvm.ClassFile.FieldType.int)) ∈ lw_all := lw_g (lw_at lw_m7 36 rfl) rfl
theorem q1624 : (Jvm.Cond.methodLink "BallotFruitModel" (208 : Nat) ({ cls := "BallotFruitModel", name := "reads", desc := "()V" } : Jvm.MethodName)) ∈ lw_all := lw_g (lw_at lw_m7 37 rfl) rfl
theorem q1625 : (Jvm.Cond.privateMethod ({ cls := "BallotFruitModel", name := "reads", desc := "()V" } : Jvm.MethodName)) ∈ lw_tbl := lw_at lw_m7 38 rfl
theorem q1626 : (Jvm.Cond.instanceMethod ({ cls := "BallotFruitModel", name := "reads", desc := "()V" } : Jvm.MethodName)) ∈ lw_all := lw_g (lw_at lw_m7 39 rfl) rfl
theorem q1627 : (Jvm.Cond.code ({ cls := "BallotFruitModel", name := "reads", desc := "()V" } : Jvm.MethodName) prog_22_method_37_code (2 : Nat) (Option.none : Option Jvm.ClassFile.FieldType)) ∈ lw_all := lw_g (lw_at lw_m7 40 rfl) rfl
theorem q1628 : (Jvm.Cond.methodLink "BallotFruitModel" (163 : Nat) ({ cls := "BallotFruitModel", name := "raw", desc := "(I)I" } : Jvm.MethodName)) ∈ lw_all := lw_g (lw_at lw_m7 41 rfl) rfl
theorem q1629 : (Jvm.Cond.privateMethod ({ cls := "BallotFruitModel", name := "raw", desc := "(I)I" } : Jvm.MethodName)) ∈ lw_tbl := lw_at lw_m7 42 rfl
theorem q1630 : (Jvm.Cond.instanceMethod ({ cls := "BallotFruitModel", name := "raw", desc := "(I)I" } : Jvm.MethodName)) ∈ lw_all := lw_g (lw_at lw_m7 43 rfl) rfl
theorem q1631 : (Jvm.Cond.code ({ cls := "BallotFruitModel", name := "raw", desc := "(I)I" } : Jvm.MethodName) prog_22_method_32_code (2 : Nat) (Option.some Jvm.ClassFile.FieldType.int)) ∈ lw_all := lw_g (lw_at lw_m7 44 rfl) rfl
theorem q1632 : (Jvm.Cond.methodLink "BallotFruitModel" (176 : Nat) ({ cls := "BallotFruitModel", name := "isLetter", desc := "(I)Z" } : Jvm.MethodName)) ∈ lw_all := lw_g (lw_at lw_m7 45 rfl) rfl
theorem q1633 : (Jvm.Cond.privateMethod ({ cls := "BallotFruitModel", name := "isLetter", desc := "(I)Z" } : Jvm.MethodName)) ∈ lw_tbl := lw_at lw_m7 46 rfl
theorem q1634 : (Jvm.Cond.instanceMethod ({ cls := "BallotFruitModel", name := "isLetter", desc := "(I)Z" } : Jvm.MethodName)) ∈ lw_all := lw_g (lw_at lw_m7 47 rfl) rfl
theorem q1635 : (Jvm.Cond.code ({ cls := "BallotFruitModel", name := "isLetter", desc := "(I)Z" } : Jvm.MethodName) prog_22_method_33_code (2 : Nat) (Option.some Jvm.ClassFile.FieldType.boolean)) ∈ lw_all := lw_g (lw_at lw_m7 48 rfl) rfl
theorem q1636 : (Jvm.Cond.methodLink "BallotFruitModel" (179 : Nat) ({ cls := "BallotFruitModel", name := "wordAt", desc := "(II)I" } : Jvm.MethodName)) ∈ lw_all := lw_g (lw_at lw_m7 49 rfl) rfl
theorem q1637 : (Jvm.Cond.privateMethod ({ cls := "BallotFruitModel", name := "wordAt", desc := "(II)I" } : Jvm.MethodName)) ∈ lw_tbl := lw_at lw_m7 50 rfl
theorem q1638 : (Jvm.Cond.instanceMethod ({ cls := "BallotFruitModel", name := "wordAt", desc := "(II)I" } : Jvm.MethodName)) ∈ lw_all := lw_g (lw_at lw_m7 51 rfl) rfl
theorem q1639 : (Jvm.Cond.code ({ cls := "BallotFruitModel", name := "wordAt", desc := "(II)I" } : Jvm.MethodName) prog_22_method_36_code (6 : Nat) (Option.some Jvm.ClassFile.FieldType.int)) ∈ lw_all := lw_g (lw_at lw_m7 52 rfl) rfl
theorem q1640 : (Jvm.Cond.methodLink "BallotFruitModel" (183 : Nat) ({ cls := "BallotFruitModel", name := "isDigit", desc := "(I)Z" } : Jvm.MethodName)) ∈ lw_all := lw_g (lw_at lw_m7 53 rfl) rfl
theorem q1641 : (Jvm.Cond.privateMethod ({ cls := "BallotFruitModel", name := "isDigit", desc := "(I)Z" } : Jvm.MethodName)) ∈ lw_tbl := lw_at lw_m7 54 rfl
theorem q1642 : (Jvm.Cond.instanceMethod ({ cls := "BallotFruitModel", name := "isDigit", desc := "(I)Z" } : Jvm.MethodName)) ∈ lw_all := lw_g (lw_at lw_m7 55 rfl) rfl
theorem q1643 : (Jvm.Cond.code ({ cls := "BallotFruitModel", name := "isDigit", desc := "(I)Z" } : Jvm.MethodName) prog_22_method_34_code (2 : Nat) (Option.some Jvm.ClassFile.FieldType.boolean)) ∈ lw_all := lw_g (lw_at lw_m7 56 rfl) rfl
theorem q1644 : (Jvm.Cond.methodLink "BallotFruitModel" (186 : Nat) ({ cls := "BallotFruitModel", name := "isMarkSign", desc := "(I)Z" } : Jvm.MethodName)) ∈ lw_all := lw_g (lw_at lw_m7 57 rfl) rfl
theorem q1645 : (Jvm.Cond.privateMethod ({ cls := "BallotFruitModel", name := "isMarkSign", desc := "(I)Z" } : Jvm.MethodName)) ∈ lw_tbl := lw_at lw_m7 58 rfl
theorem q1646 : (Jvm.Cond.instanceMethod ({ cls := "BallotFruitModel", name := "isMarkSign", desc := "(I)Z" } : Jvm.MethodName)) ∈ lw_all := lw_g (lw_at lw_m7 59 rfl) rfl
theorem q1647 : (Jvm.Cond.code ({ cls := "BallotFruitModel", name := "isMarkSign", desc := "(I)Z" } : Jvm.MethodName) prog_22_method_35_code (2 : Nat) (Option.some Jvm.ClassFile.FieldType.boolean)) ∈ lw_all := lw_g (lw_at lw_m7 60 rfl) rfl
theorem q1648 : (Jvm.Cond.methodLink "BallotFruitModel" (270 : Nat) ({ cls := "BallotFruitModel", name := "readPaths", desc := "()I" } : Jvm.MethodName)) ∈ lw_all := lw_g (lw_at lw_m7 61 rfl) rfl
theorem q1649 : (Jvm.Cond.privateMethod ({ cls := "BallotFruitModel", name := "readPaths", desc := "()I" } : Jvm.MethodName)) ∈ lw_tbl := lw_at lw_m7 62 rfl
theorem q1650 : (Jvm.Cond.instanceMethod ({ cls := "BallotFruitModel", name := "readPaths", desc := "()I" } : Jvm.MethodName)) ∈ lw_all := lw_g (lw_at lw_m7 63 rfl) rfl
theorem q1651 : (Jvm.Cond.code ({ cls := "BallotFruitModel", name := "readPaths", desc := "()I" } : Jvm.MethodName) prog_22_method_57_code (2 : Nat) (Option.some Jvm.ClassFile.FieldType.int)) ∈ lw_all := lw_g (lw_at lw_m7 64 rfl) rfl
theorem q1652 : (Jvm.Cond.methodLink "BallotFruitModel" (230 : Nat) ({ cls := "BallotFruitModel", name := "isWord", desc := "(I)Z" } : Jvm.MethodName)) ∈ lw_all := lw_g (lw_at lw_m7 65 rfl) rfl
theorem q1653 : (Jvm.Cond.privateMethod ({ cls := "BallotFruitModel", name := "isWord", desc := "(I)Z" } : Jvm.MethodName)) ∈ lw_tbl := lw_at lw_m7 66 rfl
theorem q1654 : (Jvm.Cond.instanceMethod ({ cls := "BallotFruitModel", name := "isWord", desc := "(I)Z" } : Jvm.MethodName)) ∈ lw_all := lw_g (lw_at lw_m7 67 rfl) rfl
theorem q1655 : (Jvm.Cond.code ({ cls := "BallotFruitModel", name := "isWord", desc := "(I)Z" } : Jvm.MethodName) prog_22_method_39_code (2 : Nat) (Option.some Jvm.ClassFile.FieldType.boolean)) ∈ lw_all := lw_g (lw_at lw_m7 68 rfl) rfl
theorem q1656 : (Jvm.Cond.methodLink "BallotFruitModel" (201 : Nat) ({ cls := "BallotFruitModel", name := "errs", desc := "(I)I" } : Jvm.MethodName)) ∈ lw_all := lw_g (lw_at lw_m7 69 rfl) rfl
theorem q1657 : (Jvm.Cond.privateMethod ({ cls := "BallotFruitModel", name := "errs", desc := "(I)I" } : Jvm.MethodName)) ∈ lw_tbl := lw_at lw_m7 70 rfl
theorem q1658 : (Jvm.Cond.instanceMethod ({ cls := "BallotFruitModel", name := "errs", desc := "(I)I" } : Jvm.MethodName)) ∈ lw_all := lw_g (lw_at lw_m7 71 rfl) rfl
theorem q1659 : (Jvm.Cond.code ({ cls := "BallotFruitModel", name := "errs", desc := "(I)I" } : Jvm.MethodName) prog_22_method_38_code (2 : Nat) (Option.some Jvm.ClassFile.FieldType.int)) ∈ lw_all := lw_g (lw_at lw_m7 72 rfl) rfl
theorem q1660 : (Jvm.Cond.methodLink "BallotFruitModel" (261 : Nat) ({ cls := "BallotFruitModel", name := "readPath", desc := "()I" } : Jvm.MethodName)) ∈ lw_all := lw_g (lw_at lw_m7 73 rfl) rfl
theorem q1661 : (Jvm.Cond.privateMethod ({ cls := "BallotFruitModel", name := "readPath", desc := "()I" } : Jvm.MethodName)) ∈ lw_tbl := lw_at lw_m7 74 rfl
theorem q1662 : (Jvm.Cond.instanceMethod ({ cls := "BallotFruitModel", name := "readPath", desc := "()I" } : Jvm.MethodName)) ∈ lw_all := lw_g (lw_at lw_m7 75 rfl) rfl
theorem q1663 : (Jvm.Cond.code ({ cls := "BallotFruitModel", name := "readPath", desc := "()I" } : Jvm.MethodName) prog_22_method_56_code (4 : Nat) (Option.some Jvm.ClassFile.FieldType.int)) ∈ lw_all := lw_g (lw_at lw_m7 76 rfl) rfl
theorem q1664 : (Jvm.Cond.methodLink "BallotFruitModel" (255 : Nat) ({ cls := "BallotFruitModel", name := "readTold", desc := "(III)I" } : Jvm.MethodName)) ∈ lw_all := lw_g (lw_at lw_m7 77 rfl) rfl
theorem q1665 : (Jvm.Cond.privateMethod ({ cls := "BallotFruitModel", name := "readTold", desc := "(III)I" } : Jvm.MethodName)) ∈ lw_tbl := lw_at lw_m7 78 rfl
theorem q1666 : (Jvm.Cond.instanceMethod ({ cls := "BallotFruitModel", name := "readTold", desc := "(III)I" } : Jvm.MethodName)) ∈ lw_all := lw_g (lw_at lw_m7 79 rfl) rfl
theorem q1667 : (Jvm.Cond.code ({ cls := "BallotFruitModel", name := "readTold", desc := "(III)I" } : Jvm.MethodName) prog_22_method_55_code (4 : Nat) (Option.some Jvm.ClassFile.FieldType.int)) ∈ lw_all := lw_g (lw_at lw_m7 80 rfl) rfl
theorem q1668 : (Jvm.Cond.methodLink "BallotFruitModel" (252 : Nat) ({ cls := "BallotFruitModel", name := "readNumber", desc := "(II)I" } : Jvm.MethodName)) ∈ lw_all := lw_g (lw_at lw_m7 81 rfl) rfl
theorem q1669 : (Jvm.Cond.privateMethod ({ cls := "BallotFruitModel", name := "readNumber", desc := "(II)I" } : Jvm.MethodName)) ∈ lw_tbl := lw_at lw_m7 82 rfl
theorem q1670 : (Jvm.Cond.instanceMethod ({ cls := "BallotFruitModel", name := "readNumber", desc := "(II)I" } : Jvm.MethodName)) ∈ lw_all := lw_g (lw_at lw_m7 83 rfl) rfl
theorem q1671 : (Jvm.Cond.code ({ cls := "BallotFruitModel", name := "readNumber", desc := "(II)I" } : Jvm.MethodName) prog_22_method_53_code (4 : Nat) (Option.some Jvm.ClassFile.FieldType.int)) ∈ lw_all := lw_g (lw_at lw_m7 84 rfl) rfl
theorem q1672 : (Jvm.Cond.methodLink "BallotFruitModel" (258 : Nat) ({ cls := "BallotFruitModel", name := "readMark", desc := "(I)I" } : Jvm.MethodName)) ∈ lw_all := lw_g (lw_at lw_m7 85 rfl) rfl
theorem q1673 : (Jvm.Cond.privateMethod ({ cls := "BallotFruitModel", name := "readMark", desc := "(I)I" } : Jvm.MethodName)) ∈ lw_tbl := lw_at lw_m7 86 rfl
theorem q1674 : (Jvm.Cond.instanceMethod ({ cls := "BallotFruitModel", name := "readMark", desc := "(I)I" } : Jvm.MethodName)) ∈ lw_all := lw_g (lw_at lw_m7 87 rfl) rfl
theorem q1675 : (Jvm.Cond.code ({ cls := "BallotFruitModel", name := "readMark", desc := "(I)I" } : Jvm.MethodName) prog_22_method_54_code (2 : Nat) (Option.some Jvm.ClassFile.FieldType.int)) ∈ lw_all := lw_g (lw_at lw_m7 88 rfl) rfl
theorem q1676 : (Jvm.Cond.methodLink "BallotFruitModel" (215 : Nat) ({ cls := "BallotFruitModel", name := "isSign", desc := "(I)Z" } : Jvm.MethodName)) ∈ lw_all := lw_g (lw_at lw_m7 89 rfl) rfl
theorem q1677 : (Jvm.Cond.privateMethod ({ cls := "BallotFruitModel", name := "isSign", desc := "(I)Z" } : Jvm.MethodName)) ∈ lw_tbl := lw_at lw_m7 90 rfl
theorem q1678 : (Jvm.Cond.instanceMethod ({ cls := "BallotFruitModel", name := "isSign", desc := "(I)Z" } : Jvm.MethodName)) ∈ lw_all := lw_g (lw_at lw_m7 91 rfl) rfl
theorem q1679 : (Jvm.Cond.code ({ cls := "BallotFruitModel", name := "isSign", desc := "(I)Z" } : Jvm.MethodName) prog_22_method_40_code (2 : Nat) (Option.some Jvm.ClassFile.FieldType.boolean)) ∈ lw_all := lw_g (lw_at lw_m7 92 rfl) rfl
theorem q1680 : (Jvm.Cond.methodLink "BallotFruitModel" (273 : Nat) ({ cls := "BallotFruitModel", name := "readPlan", desc := "()I" } : Jvm.MethodName)) ∈ lw_all := lw_g (lw_at lw_m7 93 rfl) rfl
theorem q1681 : (Jvm.Cond.privateMethod ({ cls := "BallotFruitModel", name := "readPlan", desc := "()I" } : Jvm.MethodName)) ∈ lw_tbl := lw_at lw_m7 94 rfl
theorem q1682 : (Jvm.Cond.instanceMethod ({ cls := "BallotFruitModel", name := "readPlan", desc := "()I" } : Jvm.MethodName)) ∈ lw_all := lw_g (lw_at lw_m7 95 rfl) rfl
theorem q1683 : (Jvm.Cond.code ({ cls := "BallotFruitModel", name := "readPlan", desc := "()I" } : Jvm.MethodName) prog_22_method_60_code (2 : Nat) (Option.some Jvm.ClassFile.FieldType.int)) ∈ lw_all := lw_g (lw_at lw_m7 96 rfl) rfl
theorem q1684 : (Jvm.Cond.methodLink "BallotFruitModel" (267 : Nat) ({ cls := "BallotFruitModel", name := "readPlanLine", desc := "(I)I" } : Jvm.MethodName)) ∈ lw_all := lw_g (lw_at lw_m7 97 rfl) rfl
theorem q1685 : (Jvm.Cond.privateMethod ({ cls := "BallotFruitModel", name := "readPlanLine", desc := "(I)I" } : Jvm.MethodName)) ∈ lw_tbl := lw_at lw_m7 98 rfl
theorem q1686 : (Jvm.Cond.instanceMethod ({ cls := "BallotFruitModel", name := "readPlanLine", desc := "(I)I" } : Jvm.MethodName)) ∈ lw_all := lw_g (lw_at lw_m7 99 rfl) rfl
theorem q1687 : (Jvm.Cond.code ({ cls := "BallotFruitModel", name := "readPlanLine", desc := "(I)I" } : Jvm.MethodName) prog_22_method_59_code (3 : Nat) (Option.some Jvm.ClassFile.FieldType.int)) ∈ lw_all := lw_g (lw_at lw_m7 100 rfl) rfl
theorem q1688 : (Jvm.Cond.methodLink "BallotFruitModel" (264 : Nat) ({ cls := "BallotFruitModel", name := "readDeed", desc := "(II)I" } : Jvm.MethodName)) ∈ lw_all := lw_g (lw_at lw_m7 101 rfl) rfl
theorem q1689 : (Jvm.Cond.privateMethod ({ cls := "BallotFruitModel", name := "readDeed", desc := "(II)I" } : Jvm.MethodName)) ∈ lw_tbl := lw_at lw_m7 102 rfl
theorem q1690 : (Jvm.Cond.instanceMethod ({ cls := "BallotFruitModel", name := "readDeed", desc := "(II)I" } : Jvm.MethodName)) ∈ lw_all := lw_g (lw_at lw_m7 103 rfl) rfl
theorem q1691 : (Jvm.Cond.code ({ cls := "BallotFruitModel", name := "readDeed", desc := "(II)I" } : Jvm.MethodName) prog_22_method_58_code (3 : Nat) (Option.some Jvm.ClassFile.FieldType.int)) ∈ lw_all := lw_g (lw_at lw_m7 104 rfl) rfl
theorem q1692 : (Jvm.Cond.methodLink "BallotFruitModel" (276 : Nat) ({ cls := "BallotFruitModel", name := "readLaw", desc := "()I" } : Jvm.MethodName)) ∈ lw_all := lw_g (lw_at lw_m7 105 rfl) rfl
theorem q1693 : (Jvm.Cond.privateMethod ({ cls := "BallotFruitModel", name := "readLaw", desc := "()I" } : Jvm.MethodName)) ∈ lw_tbl := lw_at lw_m7 106 rfl
theorem q1694 : (Jvm.Cond.instanceMethod ({ cls := "BallotFruitModel", name := "readLaw", desc := "()I" } : Jvm.MethodName)) ∈ lw_all := lw_g (lw_at lw_m7 107 rfl) rfl
theorem q1695 : (Jvm.Cond.code ({ cls := "BallotFruitModel", name := "readLaw", desc := "()I" } : Jvm.MethodName) prog_22_method_51_code (3 : Nat) (Option.some Jvm.ClassFile.FieldType.int)) ∈ lw_all := lw_g (lw_at lw_m7 108 rfl) rfl
theorem q1696 : (Jvm.Cond.methodLink "BallotFruitModel" (242 : Nat) ({ cls := "BallotFruitModel", name := "isLineWord", desc := "()Z" } : Jvm.MethodName)) ∈ lw_all := lw_g (lw_at lw_m7 109 rfl) rfl
theorem q1697 : (Jvm.Cond.privateMethod ({ cls := "BallotFruitModel", name := "isLineWord", desc := "()Z" } : Jvm.MethodName)) ∈ lw_tbl := lw_at lw_m7 110 rfl
theorem q1698 : (Jvm.Cond.instanceMethod ({ cls := "BallotFruitModel", name := "isLineWord", desc := "()Z" } : Jvm.MethodName)) ∈ lw_all := lw_g (lw_at lw_m7 111 rfl) rfl
theorem q1699 : (Jvm.Cond.code ({ cls := "BallotFruitModel", name := "isLineWord", desc := "()Z" } : Jvm.MethodName) prog_22_method_50_code (1 : Nat) (Option.some Jvm.ClassFile.FieldType.boolean)) ∈ lw_all := lw_g (lw_at lw_m7 112 rfl) rfl
theorem q1700 : (Jvm.Cond.methodLink "BallotFruitModel" (221 : Nat) ({ cls := "BallotFruitModel", name := "readSum", desc := "()I" } : Jvm.MethodName)) ∈ lw_all := lw_g (lw_at lw_m7 113 rfl) rfl
theorem q1701 : (Jvm.Cond.privateMethod ({ cls := "BallotFruitModel", name := "readSum", desc := "()I" } : Jvm.MethodName)) ∈ lw_tbl := lw_at lw_m7 114 rfl
theorem q1702 : (Jvm.Cond.instanceMethod ({ cls := "BallotFruitModel", name := "readSum", desc := "()I" } : Jvm.MethodName)) ∈ lw_all := lw_g (lw_at lw_m7 115 rfl) rfl
theorem q1703 : (Jvm.Cond.code ({ cls := "BallotFruitModel", name := "readSum", desc := "()I" } : Jvm.MethodName) prog_22_method_45_code (2 : Nat) (Option.some Jvm.ClassFile.FieldType.int)) ∈ lw_all := lw_g (lw_at lw_m7 116 rfl) rfl
theorem q1704 : (Jvm.Cond.methodLink "BallotFruitModel" (218 : Nat) ({ cls := "BallotFruitModel", name := "readProduct", desc := "()I" } : Jvm.MethodName)) ∈ lw_all := lw_g (lw_at lw_m7 117 rfl) rfl
theorem q1705 : (Jvm.Cond.privateMethod ({ cls := "BallotFruitModel", name := "readProduct", desc := "()I" } : Jvm.MethodName)) ∈ lw_tbl := lw_at lw_m7 118 rfl
theorem q1706 : (Jvm.Cond.instanceMethod ({ cls := "BallotFruitModel", name := "readProduct", desc := "()I" } : Jvm.MethodName)) ∈ lw_all := lw_g (lw_at lw_m7 119 rfl) rfl
theorem q1707 : (Jvm.Cond.code ({ cls := "BallotFruitModel", name := "readProduct", desc := "()I" } : Jvm.MethodName) prog_22_method_44_code (2 : Nat) (Option.some Jvm.ClassFile.FieldType.int)) ∈ lw_all := lw_g (lw_at lw_m7 120 rfl) rfl
theorem q1708 : (Jvm.Cond.methodLink "BallotFruitModel" (211 : Nat) ({ cls := "BallotFruitModel", name := "readUnit", desc := "()I" } : Jvm.MethodName)) ∈ lw_all := lw_g (lw_at lw_m7 121 rfl) rfl
theorem q1709 : (Jvm.Cond.privateMethod ({ cls := "BallotFruitModel", name := "readUnit", desc := "()I" } : Jvm.MethodName)) ∈ lw_tbl := lw_at lw_m7 122 rfl
theorem q1710 : (Jvm.Cond.instanceMethod ({ cls := "BallotFruitModel", name := "readUnit", desc := "()I" } : Jvm.MethodName)) ∈ lw_all := lw_g (lw_at lw_m7 123 rfl) rfl
theorem q1711 : (Jvm.Cond.code ({ cls := "BallotFruitModel", name := "readUnit", desc := "()I" } : Jvm.MethodName) prog_22_method_43_code (2 : Nat) (Option.some Jvm.ClassFile.FieldType.int)) ∈ lw_all := lw_g (lw_at lw_m7 124 rfl) rfl
theorem q1712 : (Jvm.Cond.methodLink "BallotFruitModel" (198 : Nat) ({ cls := "BallotFruitModel", name := "canAsk", desc := "(I)Z" } : Jvm.MethodName)) ∈ lw_all := lw_g (lw_at lw_m7 125 rfl) rfl
theorem q1713 : (Jvm.Cond.privateMethod ({ cls := "BallotFruitModel", name := "canAsk", desc := "(I)Z" } : Jvm.MethodName)) ∈ lw_tbl := lw_at lw_m7 126 rfl
theorem q1714 : (Jvm.Cond.instanceMethod ({ cls := "BallotFruitModel", name := "canAsk", desc := "(I)Z" } : Jvm.MethodName)) ∈ lw_all := lw_g (lw_at lw_m7 127 rfl) rfl
theorem q1715 : (Jvm.Cond.code ({ cls := "BallotFruitModel", name := "canAsk", desc := "(I)Z" } : Jvm.MethodName) prog_22_method_42_code (2 : Nat) (Option.some Jvm.ClassFile.FieldType.boolean)) ∈ lw_all := lw_g (lw_at lw_m7 128 rfl) rfl
theorem q1716 : (Jvm.Cond.methodLink "BallotFruitModel" (204 : Nat) ({ cls := "BallotFruitModel", name := "emits", desc := "(II)V" } : Jvm.MethodName)) ∈ lw_all := lw_g (lw_at lw_m7 129 rfl) rfl
theorem q1717 : (Jvm.Cond.privateMethod ({ cls := "BallotFruitModel", name := "emits", desc := "(II)V" } : Jvm.MethodName)) ∈ lw_tbl := lw_at lw_m7 130 rfl
theorem q1718 : (Jvm.Cond.instanceMethod ({ cls := "BallotFruitModel", name := "emits", desc := "(II)V" } : Jvm.MethodName)) ∈ lw_all := lw_g (lw_at lw_m7 131 rfl) rfl
theorem q1719 : (Jvm.Cond.code ({ cls := "BallotFruitModel", name := "emits", desc := "(II)V" } : Jvm.MethodName) prog_22_method_41_code (3 : Nat) (Option.none : Option Jvm.ClassFile.FieldType)) ∈ lw_all := lw_g (lw_at lw_m7 132 rfl) rfl
theorem q1720 : (Jvm.Cond.methodLink "BallotFruitModel" (246 : Nat) ({ cls := "BallotFruitModel", name := "readAny", desc := "()I" } : Jvm.MethodName)) ∈ lw_all := lw_g (lw_at lw_m7 133 rfl) rfl
theorem q1721 : (Jvm.Cond.privateMethod ({ cls := "BallotFruitModel", name := "readAny", desc := "()I" } : Jvm.MethodName)) ∈ lw_tbl := lw_at lw_m7 134 rfl
theorem q1722 : (Jvm.Cond.instanceMethod ({ cls := "BallotFruitModel", name := "readAny", desc := "()I" } : Jvm.MethodName)) ∈ lw_all := lw_g (lw_at lw_m7 135 rfl) rfl
theorem q1723 : (Jvm.Cond.code ({ cls := "BallotFruitModel", name := "readAny", desc := "()I" } : Jvm.MethodName) prog_22_method_49_code (4 : Nat) (Option.some Jvm.ClassFile.FieldType.int)) ∈ lw_all := lw_g (lw_at lw_m7 136 rfl) rfl
theorem q1724 : (Jvm.Cond.methodLink "BallotFruitModel" (233 : Nat) ({ cls := "BallotFruitModel", name := "waits", desc := "(I)V" } : Jvm.MethodName)) ∈ lw_all := lw_g (lw_at lw_m7 137 rfl) rfl
theorem q1725 : (Jvm.Cond.privateMethod ({ cls := "BallotFruitModel", name := "waits", desc := "(I)V" } : Jvm.MethodName)) ∈ lw_tbl := lw_at lw_m7 138 rfl
theorem q1726 : (Jvm.Cond.instanceMethod ({ cls := "BallotFruitModel", name := "waits", desc := "(I)V" } : Jvm.MethodName)) ∈ lw_all := lw_g (lw_at lw_m7 139 rfl) rfl
theorem q1727 : (Jvm.Cond.code ({ cls := "BallotFruitModel", name := "waits", desc := "(I)V" } : Jvm.MethodName) prog_22_method_47_code (2 : Nat) (Option.none : Option Jvm.ClassFile.FieldType)) ∈ lw_all := lw_g (lw_at lw_m7 140 rfl) rfl
theorem q1728 : (Jvm.Cond.methodLink "BallotFruitModel" (236 : Nat) ({ cls := "BallotFruitModel", name := "readCompared", desc := "()I" } : Jvm.MethodName)) ∈ lw_all := lw_g (lw_at lw_m7 141 rfl) rfl
theorem q1729 : (Jvm.Cond.privateMethod ({ cls := "BallotFruitModel", name := "readCompared", desc := "()I" } : Jvm.MethodName)) ∈ lw_tbl := lw_at lw_m7 142 rfl
theorem q1730 : (Jvm.Cond.instanceMethod ({ cls := "BallotFruitModel", name := "readCompared", desc := "()I" } : Jvm.MethodName)) ∈ lw_all := lw_g (lw_at lw_m7 143 rfl) rfl
theorem q1731 : (Jvm.Cond.code ({ cls := "BallotFruitModel", name := "readCompared", desc := "()I" } : Jvm.MethodName) prog_22_method_46_code (2 : Nat) (Option.some Jvm.ClassFile.FieldType.int)) ∈ lw_all := lw_g (lw_at lw_m7 144 rfl) rfl
theorem q1732 : (Jvm.Cond.methodLink "BallotFruitModel" (239 : Nat) ({ cls := "BallotFruitModel", name := "settles", desc := "(I)V" } : Jvm.MethodName)) ∈ lw_all := lw_g (lw_at lw_m7 145 rfl) rfl
theorem q1733 : (Jvm.Cond.privateMethod ({ cls := "BallotFruitModel", name := "settles", desc := "(I)V" } : Jvm.MethodName)) ∈ lw_tbl := lw_at lw_m7 146 rfl
theorem q1734 : (Jvm.Cond.instanceMethod ({ cls := "BallotFruitModel", name := "settles", desc := "(I)V" } : Jvm.MethodName)) ∈ lw_all := lw_g (lw_at lw_m7 147 rfl) rfl
theorem q1735 : (Jvm.Cond.code ({ cls := "BallotFruitModel", name := "settles", desc := "(I)V" } : Jvm.MethodName) prog_22_method_48_code (2 : Nat) (Option.none : Option Jvm.ClassFile.FieldType)) ∈ lw_all := lw_g (lw_at lw_m7 148 rfl) rfl
theorem q1736 : (Jvm.Cond.methodLink "BallotFruitModel" (291 : Nat) ({ cls := "BallotFruitModel", name := "takesLaw", desc := "(I)V" } : Jvm.MethodName)) ∈ lw_all := lw_g (lw_at lw_m7 149 rfl) rfl
theorem q1737 : (Jvm.Cond.privateMethod ({ cls := "BallotFruitModel", name := "takesLaw", desc := "(I)V" } : Jvm.MethodName)) ∈ lw_tbl := lw_at lw_m7 150 rfl
theorem q1738 : (Jvm.Cond.instanceMethod ({ cls := "BallotFruitModel", name := "takesLaw", desc := "(I)V" } : Jvm.MethodName)) ∈ lw_all := lw_g (lw_at lw_m7 151 rfl) rfl
theorem q1739 : (Jvm.Cond.code ({ cls := "BallotFruitModel", name := "takesLaw", desc := "(I)V" } : Jvm.MethodName) prog_22_method_52_code (3 : Nat) (Option.none : Option Jvm.ClassFile.FieldType)) ∈ lw_all := lw_g (lw_at lw_m7 152 rfl) rfl
theorem q1740 : (Jvm.Cond.methodLink "BallotFruitModel" (294 : Nat) ({ cls := "BallotFruitModel", name := "takesOther", desc := "(II)V" } : Jvm.MethodName)) ∈ lw_all := lw_g (lw_at lw_m7 153 rfl) rfl
theorem q1741 : (Jvm.Cond.privateMethod ({ cls := "BallotFruitModel", name := "takesOther", desc := "(II)V" } : Jvm.MethodName)) ∈ lw_tbl := lw_at lw_m7 154 rfl
theorem q1742 : (Jvm.Cond.instanceMethod ({ cls := "BallotFruitModel", name := "takesOther", desc := "(II)V" } : Jvm.MethodName)) ∈ lw_all := lw_g (lw_at lw_m7 155 rfl) rfl
theorem q1743 : (Jvm.Cond.code ({ cls := "BallotFruitModel", name := "takesOther", desc := "(II)V" } : Jvm.MethodName) prog_22_method_62_code (4 : Nat) (Option.none : Option Jvm.ClassFile.FieldType)) ∈ lw_all := lw_g (lw_at lw_m7 156 rfl) rfl
theorem q1745 : (Jvm.Cond.instanceMethod ({ cls := "BallotFruitModel", name := "fault", desc := "(I)I" } : Jvm.MethodName)) ∈ lw_all := lw_g (lw_at lw_m7 158 rfl) rfl
theorem q1746 : (Jvm.Cond.selects "BallotFruitModel" ({ cls := "BallotFruitModel", name := "fault", desc := "(I)I" } : Jvm.MethodName) ({ cls := "BallotFruitModel", name := "fault", desc := "(I)I" } : Jvm.MethodName)) ∈ lw_all := lw_g (lw_at lw_m7 159 rfl) rfl
theorem q1747 : (Jvm.Cond.code ({ cls := "BallotFruitModel", name := "fault", desc := "(I)I" } : Jvm.MethodName) prog_22_method_64_code (2 : Nat) (Option.some Jvm.ClassFile.FieldType.int)) ∈ lw_all := lw_g (lw_at lw_m7 160 rfl) rfl
theorem q1749 : (Jvm.Cond.instanceMethod ({ cls := "BallotFruitModel", name := "plant", desc := "(III)I" } : Jvm.MethodName)) ∈ lw_all := lw_g (lw_at lw_m7 162 rfl) rfl
theorem q1750 : (Jvm.Cond.selects "BallotFruitModel" ({ cls := "BallotFruitModel", name := "plant", desc := "(III)I" } : Jvm.MethodName) ({ cls := "BallotFruitModel", name := "plant", desc := "(III)I" } : Jvm.MethodName)) ∈ lw_all := lw_g (lw_at lw_m7 163 rfl) rfl
theorem q1751 : (Jvm.Cond.code ({ cls := "BallotFruitModel", name := "plant", desc := "(III)I" } : Jvm.MethodName) prog_22_method_78_code (4 : Nat) (Option.some Jvm.ClassFile.FieldType.int)) ∈ lw_all := lw_g (lw_at lw_m7 164 rfl) rfl
theorem q1752 : (Jvm.Cond.methodLink "BallotFruitModel" (326 : Nat) ({ cls := "BallotFruitModel", name := "isPlace", desc := "(I)Z" } : Jvm.MethodName)) ∈ lw_all := lw_g (lw_at lw_m7 165 rfl) rfl
theorem q1753 : (Jvm.Cond.privateMethod ({ cls := "BallotFruitModel", name := "isPlace", desc := "(I)Z" } : Jvm.MethodName)) ∈ lw_tbl := lw_at lw_m7 166 rfl
theorem q1754 : (Jvm.Cond.instanceMethod ({ cls := "BallotFruitModel", name := "isPlace", desc := "(I)Z" } : Jvm.MethodName)) ∈ lw_all := lw_g (lw_at lw_m7 167 rfl) rfl
theorem q1755 : (Jvm.Cond.code ({ cls := "BallotFruitModel", name := "isPlace", desc := "(I)Z" } : Jvm.MethodName) prog_22_method_20_code (2 : Nat) (Option.some Jvm.ClassFile.FieldType.boolean)) ∈ lw_all := lw_g (lw_at lw_m7 168 rfl) rfl
theorem q1756 : (Jvm.Cond.methodLink "BallotFruitModel" (329 : Nat) ({ cls := "BallotFruitModel", name := "keepsAhead", desc := "()V" } : Jvm.MethodName)) ∈ lw_all := lw_g (lw_at lw_m7 169 rfl) rfl
theorem q1757 : (Jvm.Cond.privateMethod ({ cls := "BallotFruitModel", name := "keepsAhead", desc := "()V" } : Jvm.MethodName)) ∈ lw_tbl := lw_at lw_m7 170 rfl
theorem q1758 : (Jvm.Cond.instanceMethod ({ cls := "BallotFruitModel", name := "keepsAhead", desc := "()V" } : Jvm.MethodName)) ∈ lw_all := lw_g (lw_at lw_m7 171 rfl) rfl
theorem q1759 : (Jvm.Cond.code ({ cls := "BallotFruitModel", name := "keepsAhead", desc := "()V" } : Jvm.MethodName) prog_22_method_9_code (2 : Nat) (Option.none : Option Jvm.ClassFile.FieldType)) ∈ lw_all := lw_g (lw_at lw_m7 172 rfl) rfl
theorem q1760 : (Jvm.Cond.methodLink "BallotFruitModel" (332 : Nat) ({ cls := "BallotFruitModel", name := "plants", desc := "(III)I" } : Jvm.MethodName)) ∈ lw_all := lw_g (lw_at lw_m7 173 rfl) rfl
theorem q1761 : (Jvm.Cond.privateMethod ({ cls := "BallotFruitModel", name := "plants", desc := "(III)I" } : Jvm.MethodName)) ∈ lw_tbl := lw_at lw_m7 174 rfl
theorem q1762 : (Jvm.Cond.instanceMethod ({ cls := "BallotFruitModel", name := "plants", desc := "(III)I" } : Jvm.MethodName)) ∈ lw_all := lw_g (lw_at lw_m7 175 rfl) rfl
theorem q1763 : (Jvm.Cond.code ({ cls := "BallotFruitModel", name := "plants", desc := "(III)I" } : Jvm.MethodName) prog_22_method_74_code (5 : Nat) (Option.some Jvm.ClassFile.FieldType.int)) ∈ lw_all := lw_g (lw_at lw_m7 176 rfl) rfl
theorem q1764 : (Jvm.Cond.methodLink "BallotFruitModel" (316 : Nat) ({ cls := "BallotFruitModel", name := "notes", desc := "(III)V" } : Jvm.MethodName)) ∈ lw_all := lw_g (lw_at lw_m7 177 rfl) rfl
theorem q1765 : (Jvm.Cond.privateMethod ({ cls := "BallotFruitModel", name := "notes", desc := "(III)V" } : Jvm.MethodName)) ∈ lw_tbl := lw_at lw_m7 178 rfl
theorem q1766 : (Jvm.Cond.instanceMethod ({ cls := "BallotFruitModel", name := "notes", desc := "(III)V" } : Jvm.MethodName)) ∈ lw_all := lw_g (lw_at lw_m7 179 rfl) rfl
theorem q1767 : (Jvm.Cond.code ({ cls := "BallotFruitModel", name := "notes", desc := "(III)V" } : Jvm.MethodName) prog_22_method_73_code (5 : Nat) (Option.none : Option Jvm.ClassFile.FieldType)) ∈ lw_all := lw_g (lw_at lw_m7 180 rfl) rfl
theorem q1769 : (Jvm.Cond.instanceMethod ({ cls := "BallotFruitModel", name := "fence", desc := "(IZ)Z" } : Jvm.MethodName)) ∈ lw_all := lw_g (lw_at lw_m7 182 rfl) rfl
theorem q1770 : (Jvm.Cond.selects "BallotFruitModel" ({ cls := "BallotFruitModel", name := "fence", desc := "(IZ)Z" } : Jvm.MethodName) ({ cls := "BallotFruitModel", name := "fence", desc := "(IZ)Z" } : Jvm.MethodName)) ∈ lw_all := lw_g (lw_at lw_m7 183 rfl) rfl
theorem q1771 : (Jvm.Cond.code ({ cls := "BallotFruitModel", name := "fence", desc := "(IZ)Z" } : Jvm.MethodName) prog_22_method_79_code (3 : Nat) (Option.some Jvm.ClassFile.FieldType.boolean)) ∈ lw_all := lw_g (lw_at lw_m7 184 rfl) rfl
theorem q1772 : (Jvm.Cond.methodLink "BallotFruitModel" (335 : Nat) ({ cls := "BallotFruitModel", name := "isFenced", desc := "(I)Z" } : Jvm.MethodName)) ∈ lw_all := lw_g (lw_at lw_m7 185 rfl) rfl
theorem q1773 : (Jvm.Cond.privateMethod ({ cls := "BallotFruitModel", name := "isFenced", desc := "(I)Z" } : Jvm.MethodName)) ∈ lw_tbl := lw_at lw_m7 186 rfl
theorem q1774 : (Jvm.Cond.instanceMethod ({ cls := "BallotFruitModel", name := "isFenced", desc := "(I)Z" } : Jvm.MethodName)) ∈ lw_all := lw_g (lw_at lw_m7 187 rfl) rfl
theorem q1775 : (Jvm.Cond.code ({ cls := "BallotFruitModel", name := "isFenced", desc := "(I)Z" } : Jvm.MethodName) prog_22_method_75_code (2 : Nat) (Option.some Jvm.ClassFile.FieldType.boolean)) ∈ lw_all := lw_g (lw_at lw_m7 188 rfl) rfl
theorem q1776 : (Jvm.Cond.methodLink "BallotFruitModel" (319 : Nat) ({ cls := "BallotFruitModel", name := "has", desc := "(II)Z" } : Jvm.MethodName)) ∈ lw_all := lw_g (lw_at lw_m7 189 rfl) rfl
theorem q1777 : (Jvm.Cond.privateMethod ({ cls := "BallotFruitModel", name := "has", desc := "(II)Z" } : Jvm.MethodName)) ∈ lw_tbl := lw_at lw_m7 190 rfl
theorem q1778 : (Jvm.Cond.instanceMethod ({ cls := "BallotFruitModel", name := "has", desc := "(II)Z" } : Jvm.MethodName)) ∈ lw_all := lw_g (lw_at lw_m7 191 rfl) rfl
theorem q1779 : (Jvm.Cond.code ({ cls := "BallotFruitModel", name := "has", desc := "(II)Z" } : Jvm.MethodName) prog_22_method_8_code (3 : Nat) (Option.some Jvm.ClassFile.FieldType.boolean)) ∈ lw_all := lw_g (lw_at lw_m7 192 rfl) rfl
theorem q1780 : (Jvm.Cond.methodLink "BallotFruitModel" (338 : Nat) ({ cls := "BallotFruitModel", name := "fences", desc := "(IZ)V" } : Jvm.MethodName)) ∈ lw_all := lw_g (lw_at lw_m7 193 rfl) rfl
theorem q1781 : (Jvm.Cond.privateMethod ({ cls := "BallotFruitModel", name := "fences", desc := "(IZ)V" } : Jvm.MethodName)) ∈ lw_tbl := lw_at lw_m7 194 rfl
theorem q1782 : (Jvm.Cond.instanceMethod ({ cls := "BallotFruitModel", name := "fences", desc := "(IZ)V" } : Jvm.MethodName)) ∈ lw_all := lw_g (lw_at lw_m7 195 rfl) rfl
theorem q1783 : (Jvm.Cond.code ({ cls := "BallotFruitModel", name := "fences", desc := "(IZ)V" } : Jvm.MethodName) prog_22_method_76_code (3 : Nat) (Option.none : Option Jvm.ClassFile.FieldType)) ∈ lw_all := lw_g (lw_at lw_m7 196 rfl) rfl
theorem q1785 : (Jvm.Cond.instanceMethod ({ cls := "BallotFruitModel", name := "boil", desc := "(II)I" } : Jvm.MethodName)) ∈ lw_all := lw_g (lw_at lw_m7 198 rfl) rfl
theorem q1786 : (Jvm.Cond.selects "BallotFruitModel" ({ cls := "BallotFruitModel", name := "boil", desc := "(II)I" } : Jvm.MethodName) ({ cls := "BallotFruitModel", name := "boil", desc := "(II)I" } : Jvm.MethodName)) ∈ lw_all := lw_g (lw_at lw_m7 199 rfl) rfl
theorem q1787 : (Jvm.Cond.code ({ cls := "BallotFruitModel", name := "boil", desc := "(II)I" } : Jvm.MethodName) prog_22_method_80_code (3 : Nat) (Option.some Jvm.ClassFile.FieldType.int)) ∈ lw_all := lw_g (lw_at lw_m7 200 rfl) rfl
theorem q1788 : (Jvm.Cond.methodLink "BallotFruitModel" (342 : Nat) ({ cls := "BallotFruitModel", name := "boils", desc := "(II)I" } : Jvm.MethodName)) ∈ lw_all := lw_g (lw_at lw_m7 201 rfl) rfl
theorem q1789 : (Jvm.Cond.privateMethod ({ cls := "BallotFruitModel", name := "boils", desc := "(II)I" } : Jvm.MethodName)) ∈ lw_tbl := lw_at lw_m7 202 rfl
theorem q1790 : (Jvm.Cond.instanceMethod ({ cls := "BallotFruitModel", name := "boils", desc := "(II)I" } : Jvm.MethodName)) ∈ lw_all := lw_g (lw_at lw_m7 203 rfl) rfl
theorem q1791 : (Jvm.Cond.code ({ cls := "BallotFruitModel", name := "boils", desc := "(II)I" } : Jvm.MethodName) prog_22_method_77_code (6 : Nat) (Option.some Jvm.ClassFile.FieldType.int)) ∈ lw_all := lw_g (lw_at lw_m7 204 rfl) rfl
theorem q1792 : (Jvm.Cond.methodLink "BallotFruitModel" (323 : Nat) ({ cls := "BallotFruitModel", name := "lesser", desc := "(II)I" } : Jvm.MethodName)) ∈ lw_all := lw_g (lw_at lw_m7 205 rfl) rfl
theorem q1793 : (Jvm.Cond.privateMethod ({ cls := "BallotFruitModel", name := "lesser", desc := "(II)I" } : Jvm.MethodName)) ∈ lw_tbl := lw_at lw_m7 206 rfl
theorem q1794 : (Jvm.Cond.instanceMethod ({ cls := "BallotFruitModel", name := "lesser", desc := "(II)I" } : Jvm.MethodName)) ∈ lw_all := lw_g (lw_at lw_m7 207 rfl) rfl
theorem q1795 : (Jvm.Cond.code ({ cls := "BallotFruitModel", name := "lesser", desc := "(II)I" } : Jvm.MethodName) prog_22_method_6_code (3 : Nat) (Option.some Jvm.ClassFile.FieldType.int)) ∈ lw_all := lw_g (lw_at lw_m7 208 rfl) rfl
theorem q1797 : (Jvm.Cond.instanceMethod ({ cls := "BallotFruitModel", name := "weeks", desc := "(I)I" } : Jvm.MethodName)) ∈ lw_all := lw_g (lw_at lw_m7 210 rfl) rfl
theorem q1798 : (Jvm.Cond.selects "BallotFruitModel" ({ cls := "BallotFruitModel", name := "weeks", desc := "(I)I" } : Jvm.MethodName) ({ cls := "BallotFruitModel", name := "weeks", desc := "(I)I" } : Jvm.MethodName)) ∈ lw_all := lw_g (lw_at lw_m7 211 rfl) rfl
theorem q1799 : (Jvm.Cond.code ({ cls := "BallotFruitModel", name := "weeks", desc := "(I)I" } : Jvm.MethodName) prog_22_method_97_code (4 : Nat) (Option.some Jvm.ClassFile.FieldType.int)) ∈ lw_all := lw_g (lw_at lw_m7 212 rfl) rfl
theorem q1800 : (Jvm.Cond.methodLink "BallotFruitModel" (408 : Nat) ({ cls := "BallotFruitModel", name := "goesBy", desc := "()I" } : Jvm.MethodName)) ∈ lw_all := lw_g (lw_at lw_m7 213 rfl) rfl
theorem q1801 : (Jvm.Cond.privateMethod ({ cls := "BallotFruitModel", name := "goesBy", desc := "()I" } : Jvm.MethodName)) ∈ lw_tbl := lw_at lw_m7 214 rfl
theorem q1802 : (Jvm.Cond.instanceMethod ({ cls := "BallotFruitModel", name := "goesBy", desc := "()I" } : Jvm.MethodName)) ∈ lw_all := lw_g (lw_at lw_m7 215 rfl) rfl
theorem q1803 : (Jvm.Cond.code ({ cls := "BallotFruitModel", name := "goesBy", desc := "()I" } : Jvm.MethodName) prog_22_method_95_code (3 : Nat) (Option.some Jvm.ClassFile.FieldType.int)) ∈ lw_all := lw_g (lw_at lw_m7 216 rfl) rfl
theorem q1804 : (Jvm.Cond.methodLink "BallotFruitModel" (390 : Nat) ({ cls := "BallotFruitModel", name := "does", desc := "(I)V" } : Jvm.MethodName)) ∈ lw_all := lw_g (lw_at lw_m7 217 rfl) rfl
theorem q1805 : (Jvm.Cond.privateMethod ({ cls := "BallotFruitModel", name := "does", desc := "(I)V" } : Jvm.MethodName)) ∈ lw_tbl := lw_at lw_m7 218 rfl
theorem q1806 : (Jvm.Cond.instanceMethod ({ cls := "BallotFruitModel", name := "does", desc := "(I)V" } : Jvm.MethodName)) ∈ lw_all := lw_g (lw_at lw_m7 219 rfl) rfl
theorem q1807 : (Jvm.Cond.code ({ cls := "BallotFruitModel", name := "does", desc := "(I)V" } : Jvm.MethodName) prog_22_method_92_code (3 : Nat) (Option.none : Option Jvm.ClassFile.FieldType)) ∈ lw_all := lw_g (lw_at lw_m7 220 rfl) rfl
theorem q1808 : (Jvm.Cond.methodLink "BallotFruitModel" (393 : Nat) ({ cls := "BallotFruitModel", name := "bearOf", desc := "(I)I" } : Jvm.MethodName)) ∈ lw_all := lw_g (lw_at lw_m7 221 rfl) rfl
theorem q1809 : (Jvm.Cond.privateMethod ({ cls := "BallotFruitModel", name := "bearOf", desc := "(I)I" } : Jvm.MethodName)) ∈ lw_tbl := lw_at lw_m7 222 rfl
theorem q1810 : (Jvm.Cond.instanceMethod ({ cls := "BallotFruitModel", name := "bearOf", desc := "(I)I" } : Jvm.MethodName)) ∈ lw_all := lw_g (lw_at lw_m7 223 rfl) rfl
theorem q1811 : (Jvm.Cond.code ({ cls := "BallotFruitModel", name := "bearOf", desc := "(I)I" } : Jvm.MethodName) prog_22_method_70_code (2 : Nat) (Option.some Jvm.ClassFile.FieldType.int)) ∈ lw_all := lw_g (lw_at lw_m7 224 rfl) rfl
theorem q1812 : (Jvm.Cond.methodLink "BallotFruitModel" (306 : Nat) ({ cls := "BallotFruitModel", name := "asks", desc := "(IIII)V" } : Jvm.MethodName)) ∈ lw_all := lw_g (lw_at lw_m7 225 rfl) rfl
theorem q1813 : (Jvm.Cond.privateMethod ({ cls := "BallotFruitModel", name := "asks", desc := "(IIII)V" } : Jvm.MethodName)) ∈ lw_tbl := lw_at lw_m7 226 rfl
theorem q1814 : (Jvm.Cond.instanceMethod ({ cls := "BallotFruitModel", name := "asks", desc := "(IIII)V" } : Jvm.MethodName)) ∈ lw_all := lw_g (lw_at lw_m7 227 rfl) rfl
theorem q1815 : (Jvm.Cond.code ({ cls := "BallotFruitModel", name := "asks", desc := "(IIII)V" } : Jvm.MethodName) prog_22_method_68_code (5 : Nat) (Option.none : Option Jvm.ClassFile.FieldType)) ∈ lw_all := lw_g (lw_at lw_m7 228 rfl) rfl
theorem q1816 : (Jvm.Cond.methodLink "BallotFruitModel" (310 : Nat) ({ cls := "BallotFruitModel", name := "lawTells", desc := "(III)I" } : Jvm.MethodName)) ∈ lw_all := lw_g (lw_at lw_m7 229 rfl) rfl
theorem q1817 : (Jvm.Cond.privateMethod ({ cls := "BallotFruitModel", name := "lawTells", desc := "(III)I" } : Jvm.MethodName)) ∈ lw_tbl := lw_at lw_m7 230 rfl
theorem q1818 : (Jvm.Cond.instanceMethod ({ cls := "BallotFruitModel", name := "lawTells", desc := "(III)I" } : Jvm.MethodName)) ∈ lw_all := lw_g (lw_at lw_m7 231 rfl) rfl
theorem q1819 : (Jvm.Cond.code ({ cls := "BallotFruitModel", name := "lawTells", desc := "(III)I" } : Jvm.MethodName) prog_22_method_69_code (5 : Nat) (Option.some Jvm.ClassFile.FieldType.int)) ∈ lw_all := lw_g (lw_at lw_m7 232 rfl) rfl
theorem q1820 : (Jvm.Cond.methodLink "BallotFruitModel" (303 : Nat) ({ cls := "BallotFruitModel", name := "lineOf", desc := "(I)I" } : Jvm.MethodName)) ∈ lw_all := lw_g (lw_at lw_m7 233 rfl) rfl
theorem q1821 : (Jvm.Cond.privateMethod ({ cls := "BallotFruitModel", name := "lineOf", desc := "(I)I" } : Jvm.MethodName)) ∈ lw_tbl := lw_at lw_m7 234 rfl
theorem q1822 : (Jvm.Cond.instanceMethod ({ cls := "BallotFruitModel", name := "lineOf", desc := "(I)I" } : Jvm.MethodName)) ∈ lw_all := lw_g (lw_at lw_m7 235 rfl) rfl
theorem q1823 : (Jvm.Cond.code ({ cls := "BallotFruitModel", name := "lineOf", desc := "(I)I" } : Jvm.MethodName) prog_22_method_67_code (3 : Nat) (Option.some Jvm.ClassFile.FieldType.int)) ∈ lw_all := lw_g (lw_at lw_m7 236 rfl) rfl
theorem q1824 : (Jvm.Cond.methodLink "BallotFruitModel" (300 : Nat) ({ cls := "BallotFruitModel", name := "runs", desc := "(III)I" } : Jvm.MethodName)) ∈ lw_all := lw_g (lw_at lw_m7 237 rfl) rfl
theorem q1825 : (Jvm.Cond.privateMethod ({ cls := "BallotFruitModel", name := "runs", desc := "(III)I" } : Jvm.MethodName)) ∈ lw_tbl := lw_at lw_m7 238 rfl
theorem q1826 : (Jvm.Cond.instanceMethod ({ cls := "BallotFruitModel", name := "runs", desc := "(III)I" } : Jvm.MethodName)) ∈ lw_all := lw_g (lw_at lw_m7 239 rfl) rfl
theorem q1827 : (Jvm.Cond.code ({ cls := "BallotFruitModel", name := "runs", desc := "(III)I" } : Jvm.MethodName) prog_22_method_66_code (6 : Nat) (Option.some Jvm.ClassFile.FieldType.int)) ∈ lw_all := lw_g (lw_at lw_m8 0 rfl) rfl
theorem q1828 : (Jvm.Cond.methodLink "BallotFruitModel" (297 : Nat) ({ cls := "BallotFruitModel", name := "twoOf", desc := "(III)I" } : Jvm.MethodName)) ∈ lw_all := lw_g (lw_at lw_m8 1 rfl) rfl
theorem q1829 : (Jvm.Cond.privateMethod ({ cls := "BallotFruitModel", name := "twoOf", desc := "(III)I" } : Jvm.MethodName)) ∈ lw_tbl := lw_at lw_m8 2 rfl
theorem q1830 : (Jvm.Cond.instanceMethod ({ cls := "BallotFruitModel", name := "twoOf", desc := "(III)I" } : Jvm.MethodName)) ∈ lw_all := lw_g (lw_at lw_m8 3 rfl) rfl
theorem q1831 : (Jvm.Cond.code ({ cls := "BallotFruitModel", name := "twoOf", desc := "(III)I" } : Jvm.MethodName) prog_22_method_65_code (4 : Nat) (Option.some Jvm.ClassFile.FieldType.int)) ∈ lw_all := lw_g (lw_at lw_m8 4 rfl) rfl
theorem q1832 : (Jvm.Cond.methodLink "BallotFruitModel" (396 : Nat) ({ cls := "BallotFruitModel", name := "eats", desc := "()I" } : Jvm.MethodName)) ∈ lw_all := lw_g (lw_at lw_m8 5 rfl) rfl
theorem q1833 : (Jvm.Cond.privateMethod ({ cls := "BallotFruitModel", name := "eats", desc := "()I" } : Jvm.MethodName)) ∈ lw_tbl := lw_at lw_m8 6 rfl
theorem q1834 : (Jvm.Cond.instanceMethod ({ cls := "BallotFruitModel", name := "eats", desc := "()I" } : Jvm.MethodName)) ∈ lw_all := lw_g (lw_at lw_m8 7 rfl) rfl
theorem q1835 : (Jvm.Cond.code ({ cls := "BallotFruitModel", name := "eats", desc := "()I" } : Jvm.MethodName) prog_22_method_94_code (3 : Nat) (Option.some Jvm.ClassFile.FieldType.int)) ∈ lw_all := lw_g (lw_at lw_m8 8 rfl) rfl
theorem q1836 : (Jvm.Cond.methodLink "BallotFruitModel" (387 : Nat) ({ cls := "BallotFruitModel", name := "isHungry", desc := "(I)Z" } : Jvm.MethodName)) ∈ lw_all := lw_g (lw_at lw_m8 9 rfl) rfl
theorem q1837 : (Jvm.Cond.privateMethod ({ cls := "BallotFruitModel", name := "isHungry", desc := "(I)Z" } : Jvm.MethodName)) ∈ lw_tbl := lw_at lw_m8 10 rfl
theorem q1838 : (Jvm.Cond.instanceMethod ({ cls := "BallotFruitModel", name := "isHungry", desc := "(I)Z" } : Jvm.MethodName)) ∈ lw_all := lw_g (lw_at lw_m8 11 rfl) rfl
theorem q1839 : (Jvm.Cond.code ({ cls := "BallotFruitModel", name := "isHungry", desc := "(I)Z" } : Jvm.MethodName) prog_22_method_86_code (4 : Nat) (Option.some Jvm.ClassFile.FieldType.boolean)) ∈ lw_all := lw_g (lw_at lw_m8 12 rfl) rfl
theorem q1840 : (Jvm.Cond.methodLink "BallotFruitModel" (363 : Nat) ({ cls := "BallotFruitModel", name := "wantOf", desc := "(I)I" } : Jvm.MethodName)) ∈ lw_all := lw_g (lw_at lw_m8 13 rfl) rfl
theorem q1841 : (Jvm.Cond.privateMethod ({ cls := "BallotFruitModel", name := "wantOf", desc := "(I)I" } : Jvm.MethodName)) ∈ lw_tbl := lw_at lw_m8 14 rfl
theorem q1842 : (Jvm.Cond.instanceMethod ({ cls := "BallotFruitModel", name := "wantOf", desc := "(I)I" } : Jvm.MethodName)) ∈ lw_all := lw_g (lw_at lw_m8 15 rfl) rfl
theorem q1843 : (Jvm.Cond.code ({ cls := "BallotFruitModel", name := "wantOf", desc := "(I)I" } : Jvm.MethodName) prog_22_method_71_code (2 : Nat) (Option.some Jvm.ClassFile.FieldType.int)) ∈ lw_all := lw_g (lw_at lw_m8 16 rfl) rfl
theorem q1844 : (Jvm.Cond.methodLink "BallotFruitModel" (366 : Nat) ({ cls := "BallotFruitModel", name := "leftByPath", desc := "(II)I" } : Jvm.MethodName)) ∈ lw_all := lw_g (lw_at lw_m8 17 rfl) rfl
theorem q1845 : (Jvm.Cond.privateMethod ({ cls := "BallotFruitModel", name := "leftByPath", desc := "(II)I" } : Jvm.MethodName)) ∈ lw_tbl := lw_at lw_m8 18 rfl
theorem q1846 : (Jvm.Cond.instanceMethod ({ cls := "BallotFruitModel", name := "leftByPath", desc := "(II)I" } : Jvm.MethodName)) ∈ lw_all := lw_g (lw_at lw_m8 19 rfl) rfl
theorem q1847 : (Jvm.Cond.code ({ cls := "BallotFruitModel", name := "leftByPath", desc := "(II)I" } : Jvm.MethodName) prog_22_method_85_code (8 : Nat) (Option.some Jvm.ClassFile.FieldType.int)) ∈ lw_all := lw_g (lw_at lw_m8 20 rfl) rfl
theorem q1848 : (Jvm.Cond.methodLink "BallotFruitModel" (357 : Nat) ({ cls := "BallotFruitModel", name := "treeFor", desc := "(II)I" } : Jvm.MethodName)) ∈ lw_all := lw_g (lw_at lw_m8 21 rfl) rfl
theorem q1849 : (Jvm.Cond.privateMethod ({ cls := "BallotFruitModel", name := "treeFor", desc := "(II)I" } : Jvm.MethodName)) ∈ lw_tbl := lw_at lw_m8 22 rfl
theorem q1850 : (Jvm.Cond.instanceMethod ({ cls := "BallotFruitModel", name := "treeFor", desc := "(II)I" } : Jvm.MethodName)) ∈ lw_all := lw_g (lw_at lw_m8 23 rfl) rfl
theorem q1851 : (Jvm.Cond.code ({ cls := "BallotFruitModel", name := "treeFor", desc := "(II)I" } : Jvm.MethodName) prog_22_method_82_code (5 : Nat) (Option.some Jvm.ClassFile.FieldType.int)) ∈ lw_all := lw_g (lw_at lw_m8 24 rfl) rfl
theorem q1852 : (Jvm.Cond.methodLink "BallotFruitModel" (313 : Nat) ({ cls := "BallotFruitModel", name := "tasteOf", desc := "(II)I" } : Jvm.MethodName)) ∈ lw_all := lw_g (lw_at lw_m8 25 rfl) rfl
theorem q1853 : (Jvm.Cond.privateMethod ({ cls := "BallotFruitModel", name := "tasteOf", desc := "(II)I" } : Jvm.MethodName)) ∈ lw_tbl := lw_at lw_m8 26 rfl
theorem q1854 : (Jvm.Cond.instanceMethod ({ cls := "BallotFruitModel", name := "tasteOf", desc := "(II)I" } : Jvm.MethodName)) ∈ lw_all := lw_g (lw_at lw_m8 27 rfl) rfl
theorem q1855 : (Jvm.Cond.code ({ cls := "BallotFruitModel", name := "tasteOf", desc := "(II)I" } : Jvm.MethodName) prog_22_method_22_code (3 : Nat) (Option.some Jvm.ClassFile.FieldType.int)) ∈ lw_all := lw_g (lw_at lw_m8 28 rfl) rfl
theorem q1856 : (Jvm.Cond.methodLink "BallotFruitModel" (360 : Nat) ({ cls := "BallotFruitModel", name := "isGood", desc := "(II)Z" } : Jvm.MethodName)) ∈ lw_all := lw_g (lw_at lw_m8 29 rfl) rfl
theorem q1857 : (Jvm.Cond.privateMethod ({ cls := "BallotFruitModel", name := "isGood", desc := "(II)Z" } : Jvm.MethodName)) ∈ lw_tbl := lw_at lw_m8 30 rfl
theorem q1858 : (Jvm.Cond.instanceMethod ({ cls := "BallotFruitModel", name := "isGood", desc := "(II)Z" } : Jvm.MethodName)) ∈ lw_all := lw_g (lw_at lw_m8 31 rfl) rfl
theorem q1859 : (Jvm.Cond.code ({ cls := "BallotFruitModel", name := "isGood", desc := "(II)Z" } : Jvm.MethodName) prog_22_method_84_code (4 : Nat) (Option.some Jvm.ClassFile.FieldType.boolean)) ∈ lw_all := lw_g (lw_at lw_m8 32 rfl) rfl
theorem q1860 : (Jvm.Cond.methodLink "BallotFruitModel" (348 : Nat) ({ cls := "BallotFruitModel", name := "countOf", desc := "(III)I" } : Jvm.MethodName)) ∈ lw_all := lw_g (lw_at lw_m8 33 rfl) rfl
theorem q1861 : (Jvm.Cond.privateMethod ({ cls := "BallotFruitModel", name := "countOf", desc := "(III)I" } : Jvm.MethodName)) ∈ lw_tbl := lw_at lw_m8 34 rfl
theorem q1862 : (Jvm.Cond.instanceMethod ({ cls := "BallotFruitModel", name := "countOf", desc := "(III)I" } : Jvm.MethodName)) ∈ lw_all := lw_g (lw_at lw_m8 35 rfl) rfl
theorem q1863 : (Jvm.Cond.code ({ cls := "BallotFruitModel", name := "countOf", desc := "(III)I" } : Jvm.MethodName) prog_22_method_72_code (4 : Nat) (Option.some Jvm.ClassFile.FieldType.int)) ∈ lw_all := lw_g (lw_at lw_m8 36 rfl) rfl
theorem q1864 : (Jvm.Cond.methodLink "BallotFruitModel" (351 : Nat) ({ cls := "BallotFruitModel", name := "counts", desc := "(II)V" } : Jvm.MethodName)) ∈ lw_all := lw_g (lw_at lw_m8 37 rfl) rfl
theorem q1865 : (Jvm.Cond.privateMethod ({ cls := "BallotFruitModel", name := "counts", desc := "(II)V" } : Jvm.MethodName)) ∈ lw_tbl := lw_at lw_m8 38 rfl
theorem q1866 : (Jvm.Cond.instanceMethod ({ cls := "BallotFruitModel", name := "counts", desc := "(II)V" } : Jvm.MethodName)) ∈ lw_all := lw_g (lw_at lw_m8 39 rfl) rfl
theorem q1867 : (Jvm.Cond.code ({ cls := "BallotFruitModel", name := "counts", desc := "(II)V" } : Jvm.MethodName) prog_22_method_81_code (4 : Nat) (Option.none : Option Jvm.ClassFile.FieldType)) ∈ lw_all := lw_g (lw_at lw_m8 40 rfl) rfl
theorem q1868 : (Jvm.Cond.methodLink "BallotFruitModel" (354 : Nat) ({ cls := "BallotFruitModel", name := "draw", desc := "(I)I" } : Jvm.MethodName)) ∈ lw_all := lw_g (lw_at lw_m8 41 rfl) rfl
theorem q1869 : (Jvm.Cond.privateMethod ({ cls := "BallotFruitModel", name := "draw", desc := "(I)I" } : Jvm.MethodName)) ∈ lw_tbl := lw_at lw_m8 42 rfl
theorem q1870 : (Jvm.Cond.instanceMethod ({ cls := "BallotFruitModel", name := "draw", desc := "(I)I" } : Jvm.MethodName)) ∈ lw_all := lw_g (lw_at lw_m8 43 rfl) rfl
theorem q1871 : (Jvm.Cond.code ({ cls := "BallotFruitModel", name := "draw", desc := "(I)I" } : Jvm.MethodName) prog_22_method_15_code (2 : Nat) (Option.some Jvm.ClassFile.FieldType.int)) ∈ lw_all := lw_g (lw_at lw_m8 44 rfl) rfl
theorem q1872 : (Jvm.Cond.constant "BallotFruitModel" (108 : Nat) (1664525 : Int32)) ∈ lw_all := lw_g (lw_at lw_m8 45 rfl) rfl
theorem q1873 : (Jvm.Cond.constant "BallotFruitModel" (109 : Nat) (1013904223 : Int32)) ∈ lw_all := lw_g (lw_at lw_m8 46 rfl) rfl
theorem q1874 : (Jvm.Cond.methodLink "BallotFruitModel" (369 : Nat) ({ cls := "BallotFruitModel", name := "jamFor", desc := "(I)I" } : Jvm.MethodName)) ∈ lw_all := lw_g (lw_at lw_m8 47 rfl) rfl
theorem q1875 : (Jvm.Cond.privateMethod ({ cls := "BallotFruitModel", name := "jamFor", desc := "(I)I" } : Jvm.MethodName)) ∈ lw_tbl := lw_at lw_m8 48 rfl
theorem q1876 : (Jvm.Cond.instanceMethod ({ cls := "BallotFruitModel", name := "jamFor", desc := "(I)I" } : Jvm.MethodName)) ∈ lw_all := lw_g (lw_at lw_m8 49 rfl) rfl
theorem q1877 : (Jvm.Cond.code ({ cls := "BallotFruitModel", name := "jamFor", desc := "(I)I" } : Jvm.MethodName) prog_22_method_83_code (4 : Nat) (Option.some Jvm.ClassFile.FieldType.int)) ∈ lw_all := lw_g (lw_at lw_m8 50 rfl) rfl
theorem q1878 : (Jvm.Cond.methodLink "BallotFruitModel" (399 : Nat) ({ cls := "BallotFruitModel", name := "stings", desc := "()V" } : Jvm.MethodName)) ∈ lw_all := lw_g (lw_at lw_m8 51 rfl) rfl
theorem q1879 : (Jvm.Cond.privateMethod ({ cls := "BallotFruitModel", name := "stings", desc := "()V" } : Jvm.MethodName)) ∈ lw_tbl := lw_at lw_m8 52 rfl
theorem q1880 : (Jvm.Cond.instanceMethod ({ cls := "BallotFruitModel", name := "stings", desc := "()V" } : Jvm.MethodName)) ∈ lw_all := lw_g (lw_at lw_m8 53 rfl) rfl
theorem q1881 : (Jvm.Cond.code ({ cls := "BallotFruitModel", name := "stings", desc := "()V" } : Jvm.MethodName) prog_22_method_93_code (3 : Nat) (Option.none : Option Jvm.ClassFile.FieldType)) ∈ lw_all := lw_g (lw_at lw_m8 54 rfl) rfl
theorem q1882 : (Jvm.Cond.methodLink "BallotFruitModel" (402 : Nat) ({ cls := "BallotFruitModel", name := "every", desc := "()I" } : Jvm.MethodName)) ∈ lw_all := lw_g (lw_at lw_m8 55 rfl) rfl
theorem q1883 : (Jvm.Cond.privateMethod ({ cls := "BallotFruitModel", name := "every", desc := "()I" } : Jvm.MethodName)) ∈ lw_tbl := lw_at lw_m8 56 rfl
theorem q1884 : (Jvm.Cond.instanceMethod ({ cls := "BallotFruitModel", name := "every", desc := "()I" } : Jvm.MethodName)) ∈ lw_all := lw_g (lw_at lw_m8 57 rfl) rfl
theorem q1885 : (Jvm.Cond.code ({ cls := "BallotFruitModel", name := "every", desc := "()I" } : Jvm.MethodName) prog_22_method_17_code (1 : Nat) (Option.some Jvm.ClassFile.FieldType.int)) ∈ lw_all := lw_g (lw_at lw_m8 58 rfl) rfl
theorem q1886 : (Jvm.Cond.methodLink "BallotFruitModel" (405 : Nat) ({ cls := "BallotFruitModel", name := "elects", desc := "()V" } : Jvm.MethodName)) ∈ lw_all := lw_g (lw_at lw_m8 59 rfl) rfl
theorem q1887 : (Jvm.Cond.privateMethod ({ cls := "BallotFruitModel", name := "elects", desc := "()V" } : Jvm.MethodName)) ∈ lw_tbl := lw_at lw_m8 60 rfl
theorem q1888 : (Jvm.Cond.instanceMethod ({ cls := "BallotFruitModel", name := "elects", desc := "()V" } : Jvm.MethodName)) ∈ lw_all := lw_g (lw_at lw_m8 61 rfl) rfl
theorem q1889 : (Jvm.Cond.code ({ cls := "BallotFruitModel", name := "elects", desc := "()V" } : Jvm.MethodName) prog_22_method_91_code (2 : Nat) (Option.none : Option Jvm.ClassFile.FieldType)) ∈ lw_all := lw_g (lw_at lw_m8 62 rfl) rfl
theorem q1890 : (Jvm.Cond.methodLink "BallotFruitModel" (381 : Nat) ({ cls := "BallotFruitModel", name := "findsGiven", desc := "()V" } : Jvm.MethodName)) ∈ lw_all := lw_g (lw_at lw_m8 63 rfl) rfl
theorem q1891 : (Jvm.Cond.privateMethod ({ cls := "BallotFruitModel", name := "findsGiven", desc := "()V" } : Jvm.MethodName)) ∈ lw_tbl := lw_at lw_m8 64 rfl
theorem q1892 : (Jvm.Cond.instanceMethod ({ cls := "BallotFruitModel", name := "findsGiven", desc := "()V" } : Jvm.MethodName)) ∈ lw_all := lw_g (lw_at lw_m8 65 rfl) rfl
theorem q1893 : (Jvm.Cond.code ({ cls := "BallotFruitModel", name := "findsGiven", desc := "()V" } : Jvm.MethodName) prog_22_method_89_code (7 : Nat) (Option.none : Option Jvm.ClassFile.FieldType)) ∈ lw_all := lw_g (lw_at lw_m8 66 rfl) rfl
theorem q1894 : (Jvm.Cond.methodLink "BallotFruitModel" (372 : Nat) ({ cls := "BallotFruitModel", name := "votesInAll", desc := "()I" } : Jvm.MethodName)) ∈ lw_all := lw_g (lw_at lw_m8 67 rfl) rfl
theorem q1895 : (Jvm.Cond.privateMethod ({ cls := "BallotFruitModel", name := "votesInAll", desc := "()I" } : Jvm.MethodName)) ∈ lw_tbl := lw_at lw_m8 68 rfl
theorem q1896 : (Jvm.Cond.instanceMethod ({ cls := "BallotFruitModel", name := "votesInAll", desc := "()I" } : Jvm.MethodName)) ∈ lw_all := lw_g (lw_at lw_m8 69 rfl) rfl
theorem q1897 : (Jvm.Cond.code ({ cls := "BallotFruitModel", name := "votesInAll", desc := "()I" } : Jvm.MethodName) prog_22_method_87_code (3 : Nat) (Option.some Jvm.ClassFile.FieldType.int)) ∈ lw_all := lw_g (lw_at lw_m8 70 rfl) rfl
theorem q1898 : (Jvm.Cond.methodLink "BallotFruitModel" (375 : Nat) ({ cls := "BallotFruitModel", name := "chairs", desc := "()I" } : Jvm.MethodName)) ∈ lw_all := lw_g (lw_at lw_m8 71 rfl) rfl
theorem q1899 : (Jvm.Cond.privateMethod ({ cls := "BallotFruitModel", name := "chairs", desc := "()I" } : Jvm.MethodName)) ∈ lw_tbl := lw_at lw_m8 72 rfl
theorem q1900 : (Jvm.Cond.instanceMethod ({ cls := "BallotFruitModel", name := "chairs", desc := "()I" } : Jvm.MethodName)) ∈ lw_all := lw_g (lw_at lw_m8 73 rfl) rfl
theorem q1901 : (Jvm.Cond.code ({ cls := "BallotFruitModel", name := "chairs", desc := "()I" } : Jvm.MethodName) prog_22_method_16_code (1 : Nat) (Option.some Jvm.ClassFile.FieldType.int)) ∈ lw_all := lw_g (lw_at lw_m8 74 rfl) rfl
theorem q1902 : (Jvm.Cond.methodLink "BallotFruitModel" (378 : Nat) ({ cls := "BallotFruitModel", name := "isAhead", desc := "(II)Z" } : Jvm.MethodName)) ∈ lw_all := lw_g (lw_at lw_m8 75 rfl) rfl
theorem q1903 : (Jvm.Cond.privateMethod ({ cls := "BallotFruitModel", name := "isAhead", desc := "(II)Z" } : Jvm.MethodName)) ∈ lw_tbl := lw_at lw_m8 76 rfl
theorem q1904 : (Jvm.Cond.instanceMethod ({ cls := "BallotFruitModel", name := "isAhead", desc := "(II)Z" } : Jvm.MethodName)) ∈ lw_all := lw_g (lw_at lw_m8 77 rfl) rfl
theorem q1905 : (Jvm.Cond.code ({ cls := "BallotFruitModel", name := "isAhead", desc := "(II)Z" } : Jvm.MethodName) prog_22_method_88_code (3 : Nat) (Option.some Jvm.ClassFile.FieldType.boolean)) ∈ lw_all := lw_g (lw_at lw_m8 78 rfl) rfl
theorem q1906 : (Jvm.Cond.methodLink "BallotFruitModel" (384 : Nat) ({ cls := "BallotFruitModel", name := "strongest", desc := "()I" } : Jvm.MethodName)) ∈ lw_all := lw_g (lw_at lw_m8 79 rfl) rfl
theorem q1907 : (Jvm.Cond.privateMethod ({ cls := "BallotFruitModel", name := "strongest", desc := "()I" } : Jvm.MethodName)) ∈ lw_tbl := lw_at lw_m8 80 rfl
theorem q1908 : (Jvm.Cond.instanceMethod ({ cls := "BallotFruitModel", name := "strongest", desc := "()I" } : Jvm.MethodName)) ∈ lw_all := lw_g (lw_at lw_m8 81 rfl) rfl
theorem q1909 : (Jvm.Cond.code ({ cls := "BallotFruitModel", name := "strongest", desc := "()I" } : Jvm.MethodName) prog_22_method_90_code (3 : Nat) (Option.some Jvm.ClassFile.FieldType.int)) ∈ lw_all := lw_g (lw_at lw_m8 82 rfl) rfl
theorem q1911 : (Jvm.Cond.instanceMethod ({ cls := "BallotFruitModel", name := "of", desc := "(II)I" } : Jvm.MethodName)) ∈ lw_all := lw_g (lw_at lw_m8 84 rfl) rfl
theorem q1912 : (Jvm.Cond.selects "BallotFruitModel" ({ cls := "BallotFruitModel", name := "of", desc := "(II)I" } : Jvm.MethodName) ({ cls := "BallotFruitModel", name := "of", desc := "(II)I" } : Jvm.MethodName)) ∈ lw_all := lw_g (lw_at lw_m8 85 rfl) rfl
theorem q1913 : (Jvm.Cond.code ({ cls := "BallotFruitModel", name := "of", desc := "(II)I" } : Jvm.MethodName) prog_22_method_98_code (5 : Nat) (Option.some Jvm.ClassFile.FieldType.int)) ∈ lw_all := lw_g (lw_at lw_m8 86 rfl) rfl
theorem q1915 : (Jvm.Cond.instanceMethod ({ cls := "BallotFruitModel", name := "tree", desc := "(II)I" } : Jvm.MethodName)) ∈ lw_all := lw_g (lw_at lw_m8 88 rfl) rfl
theorem q1916 : (Jvm.Cond.selects "BallotFruitModel" ({ cls := "BallotFruitModel", name := "tree", desc := "(II)I" } : Jvm.MethodName) ({ cls := "BallotFruitModel", name := "tree", desc := "(II)I" } : Jvm.MethodName)) ∈ lw_all := lw_g (lw_at lw_m8 89 rfl) rfl
theorem q1917 : (Jvm.Cond.code ({ cls := "BallotFruitModel", name := "tree", desc := "(II)I" } : Jvm.MethodName) prog_22_method_99_code (3 : Nat) (Option.some Jvm.ClassFile.FieldType.int)) ∈ lw_all := lw_g (lw_at lw_m8 90 rfl) rfl
theorem q1919 : (Jvm.Cond.instanceMethod ({ cls := "BallotFruitModel", name := "who", desc := "(II)I" } : Jvm.MethodName)) ∈ lw_all := lw_g (lw_at lw_m8 92 rfl) rfl
theorem q1920 : (Jvm.Cond.selects "BallotFruitModel" ({ cls := "BallotFruitModel", name := "who", desc := "(II)I" } : Jvm.MethodName) ({ cls := "BallotFruitModel", name := "who", desc := "(II)I" } : Jvm.MethodName)) ∈ lw_all := lw_g (lw_at lw_m8 93 rfl) rfl
theorem q1921 : (Jvm.Cond.code ({ cls := "BallotFruitModel", name := "who", desc := "(II)I" } : Jvm.MethodName) prog_22_method_100_code (4 : Nat) (Option.some Jvm.ClassFile.FieldType.int)) ∈ lw_all := lw_g (lw_at lw_m8 94 rfl) rfl
theorem q1923 : (Jvm.Cond.instanceMethod ({ cls := "BallotFruitModel", name := "at", desc := "(I)I" } : Jvm.MethodName)) ∈ lw_all := lw_g (lw_at lw_m8 96 rfl) rfl
theorem q1924 : (Jvm.Cond.selects "BallotFruitModel" ({ cls := "BallotFruitModel", name := "at", desc := "(I)I" } : Jvm.MethodName) ({ cls := "BallotFruitModel", name := "at", desc := "(I)I" } : Jvm.MethodName)) ∈ lw_all := lw_g (lw_at lw_m8 97 rfl) rfl
theorem q1925 : (Jvm.Cond.code ({ cls := "BallotFruitModel", name := "at", desc := "(I)I" } : Jvm.MethodName) prog_22_method_101_code (2 : Nat) (Option.some Jvm.ClassFile.FieldType.int)) ∈ lw_all := lw_g (lw_at lw_m8 98 rfl) rfl
theorem q1927 : (Jvm.Cond.instanceMethod ({ cls := "BallotFruitModel", name := "book", desc := "(II)I" } : Jvm.MethodName)) ∈ lw_all := lw_g (lw_at lw_m8 100 rfl) rfl
theorem q1928 : (Jvm.Cond.selects "BallotFruitModel" ({ cls := "BallotFruitModel", name := "book", desc := "(II)I" } : Jvm.MethodName) ({ cls := "BallotFruitModel", name := "book", desc := "(II)I" } : Jvm.MethodName)) ∈ lw_all := lw_g (lw_at lw_m8 101 rfl) rfl
theorem q1929 : (Jvm.Cond.code ({ cls := "BallotFruitModel", name := "book", desc := "(II)I" } : Jvm.MethodName) prog_22_method_102_code (3 : Nat) (Option.some Jvm.ClassFile.FieldType.int)) ∈ lw_all := lw_g (lw_at lw_m8 102 rfl) rfl
theorem q1931 : (Jvm.Cond.instanceMethod ({ cls := "BallotFruitModel", name := "goes", desc := "(III)I" } : Jvm.MethodName)) ∈ lw_all := lw_g (lw_at lw_m8 104 rfl) rfl
theorem q1932 : (Jvm.Cond.selects "BallotFruitModel" ({ cls := "BallotFruitModel", name := "goes", desc := "(III)I" } : Jvm.MethodName) ({ cls := "BallotFruitModel", name := "goes", desc := "(III)I" } : Jvm.MethodName)) ∈ lw_all := lw_g (lw_at lw_m8 105 rfl) rfl
theorem q1933 : (Jvm.Cond.code ({ cls := "BallotFruitModel", name := "goes", desc := "(III)I" } : Jvm.MethodName) prog_22_method_103_code (5 : Nat) (Option.some Jvm.ClassFile.FieldType.int)) ∈ lw_all := lw_g (lw_at lw_m8 106 rfl) rfl
theorem q1934 : (Jvm.Cond.methodLink "BallotFruitModel" (411 : Nat) ({ cls := "BallotFruitModel", name := "thinks", desc := "()V" } : Jvm.MethodName)) ∈ lw_all := lw_g (lw_at lw_m8 107 rfl) rfl
theorem q1935 : (Jvm.Cond.privateMethod ({ cls := "BallotFruitModel", name := "thinks", desc := "()V" } : Jvm.MethodName)) ∈ lw_tbl := lw_at lw_m8 108 rfl
theorem q1936 : (Jvm.Cond.instanceMethod ({ cls := "BallotFruitModel", name := "thinks", desc := "()V" } : Jvm.MethodName)) ∈ lw_all := lw_g (lw_at lw_m8 109 rfl) rfl
theorem q1937 : (Jvm.Cond.code ({ cls := "BallotFruitModel", name := "thinks", desc := "()V" } : Jvm.MethodName) prog_22_method_11_code (2 : Nat) (Option.none : Option Jvm.ClassFile.FieldType)) ∈ lw_all := lw_g (lw_at lw_m8 110 rfl) rfl
theorem q1938 : (Jvm.Cond.methodLink "BallotFruitModel" (414 : Nat) ({ cls := "BallotFruitModel", name := "goesFor", desc := "(I)V" } : Jvm.MethodName)) ∈ lw_all := lw_g (lw_at lw_m8 111 rfl) rfl
theorem q1939 : (Jvm.Cond.privateMethod ({ cls := "BallotFruitModel", name := "goesFor", desc := "(I)V" } : Jvm.MethodName)) ∈ lw_tbl := lw_at lw_m8 112 rfl
theorem q1940 : (Jvm.Cond.instanceMethod ({ cls := "BallotFruitModel", name := "goesFor", desc := "(I)V" } : Jvm.MethodName)) ∈ lw_all := lw_g (lw_at lw_m8 113 rfl) rfl
theorem q1941 : (Jvm.Cond.code ({ cls := "BallotFruitModel", name := "goesFor", desc := "(I)V" } : Jvm.MethodName) prog_22_method_96_code (3 : Nat) (Option.none : Option Jvm.ClassFile.FieldType)) ∈ lw_all := lw_g (lw_at lw_m8 114 rfl) rfl
theorem q1942 : (Jvm.Cond.methodLink "BallotFruitModel" (417 : Nat) ({ cls := "BallotFruitModel", name := "endsThought", desc := "()V" } : Jvm.MethodName)) ∈ lw_all := lw_g (lw_at lw_m8 115 rfl) rfl
theorem q1943 : (Jvm.Cond.privateMethod ({ cls := "BallotFruitModel", name := "endsThought", desc := "()V" } : Jvm.MethodName)) ∈ lw_tbl := lw_at lw_m8 116 rfl
theorem q1944 : (Jvm.Cond.instanceMethod ({ cls := "BallotFruitModel", name := "endsThought", desc := "()V" } : Jvm.MethodName)) ∈ lw_all := lw_g (lw_at lw_m8 117 rfl) rfl
theorem q1945 : (Jvm.Cond.code ({ cls := "BallotFruitModel", name := "endsThought", desc := "()V" } : Jvm.MethodName) prog_22_method_13_code (1 : Nat) (Option.none : Option Jvm.ClassFile.FieldType)) ∈ lw_all := lw_g (lw_at lw_m8 118 rfl) rfl
theorem q1946 : (Jvm.Cond.methodLink "BallotFruitModel" (105 : Nat) ({ cls := "BallotFruitModel", name := "thinksAnew", desc := "()V" } : Jvm.MethodName)) ∈ lw_all := lw_g (lw_at lw_m8 119 rfl) rfl
theorem q1947 : (Jvm.Cond.privateMethod ({ cls := "BallotFruitModel", name := "thinksAnew", desc := "()V" } : Jvm.MethodName)) ∈ lw_tbl := lw_at lw_m8 120 rfl
theorem q1948 : (Jvm.Cond.instanceMethod ({ cls := "BallotFruitModel", name := "thinksAnew", desc := "()V" } : Jvm.MethodName)) ∈ lw_all := lw_g (lw_at lw_m8 121 rfl) rfl
theorem q1949 : (Jvm.Cond.code ({ cls := "BallotFruitModel", name := "thinksAnew", desc := "()V" } : Jvm.MethodName) prog_22_method_12_code (2 : Nat) (Option.none : Option Jvm.ClassFile.FieldType)) ∈ lw_all := lw_g (lw_at lw_m8 122 rfl) rfl
theorem q1951 : (Jvm.Cond.instanceMethod ({ cls := "BallotFruitModel", name := "falls", desc := "(I)I" } : Jvm.MethodName)) ∈ lw_all := lw_g (lw_at lw_m8 124 rfl) rfl
theorem q1952 : (Jvm.Cond.selects "BallotFruitModel" ({ cls := "BallotFruitModel", name := "falls", desc := "(I)I" } : Jvm.MethodName) ({ cls := "BallotFruitModel", name := "falls", desc := "(I)I" } : Jvm.MethodName)) ∈ lw_all := lw_g (lw_at lw_m8 125 rfl) rfl
theorem q1953 : (Jvm.Cond.code ({ cls := "BallotFruitModel", name := "falls", desc := "(I)I" } : Jvm.MethodName) prog_22_method_104_code (2 : Nat) (Option.some Jvm.ClassFile.FieldType.int)) ∈ lw_all := lw_g (lw_at lw_m8 126 rfl) rfl
theorem q1955 : (Jvm.Cond.instanceMethod ({ cls := "BallotFruitModel", name := "brings", desc := "(III)I" } : Jvm.MethodName)) ∈ lw_all := lw_g (lw_at lw_m8 128 rfl) rfl
theorem q1956 : (Jvm.Cond.selects "BallotFruitModel" ({ cls := "BallotFruitModel", name := "brings", desc := "(III)I" } : Jvm.MethodName) ({ cls := "BallotFruitModel", name := "brings", desc := "(III)I" } : Jvm.MethodName)) ∈ lw_all := lw_g (lw_at lw_m8 129 rfl) rfl
theorem q1957 : (Jvm.Cond.code ({ cls := "BallotFruitModel", name := "brings", desc := "(III)I" } : Jvm.MethodName) prog_22_method_105_code (7 : Nat) (Option.some Jvm.ClassFile.FieldType.int)) ∈ lw_all := lw_g (lw_at lw_m8 130 rfl) rfl
theorem q1958 : (Jvm.Cond.methodLink "BallotFruitModel" (420 : Nat) ({ cls := "BallotFruitModel", name := "greater", desc := "(II)I" } : Jvm.MethodName)) ∈ lw_all := lw_g (lw_at lw_m8 131 rfl) rfl
theorem q1959 : (Jvm.Cond.privateMethod ({ cls := "BallotFruitModel", name := "greater", desc := "(II)I" } : Jvm.MethodName)) ∈ lw_tbl := lw_at lw_m8 132 rfl
theorem q1960 : (Jvm.Cond.instanceMethod ({ cls := "BallotFruitModel", name := "greater", desc := "(II)I" } : Jvm.MethodName)) ∈ lw_all := lw_g (lw_at lw_m8 133 rfl) rfl
theorem q1961 : (Jvm.Cond.code ({ cls := "BallotFruitModel", name := "greater", desc := "(II)I" } : Jvm.MethodName) prog_22_method_5_code (3 : Nat) (Option.some Jvm.ClassFile.FieldType.int)) ∈ lw_all := lw_g (lw_at lw_m8 134 rfl) rfl
theorem q1963 : (Jvm.Cond.instanceMethod ({ cls := "BallotFruitModel", name := "swings", desc := "(II)I" } : Jvm.MethodName)) ∈ lw_all := lw_g (lw_at lw_m8 136 rfl) rfl
theorem q1964 : (Jvm.Cond.selects "BallotFruitModel" ({ cls := "BallotFruitModel", name := "swings", desc := "(II)I" } : Jvm.MethodName) ({ cls := "BallotFruitModel", name := "swings", desc := "(II)I" } : Jvm.MethodName)) ∈ lw_all := lw_g (lw_at lw_m8 137 rfl) rfl
theorem q1965 : (Jvm.Cond.code ({ cls := "BallotFruitModel", name := "swings", desc := "(II)I" } : Jvm.MethodName) prog_22_method_107_code (7 : Nat) (Option.some Jvm.ClassFile.FieldType.int)) ∈ lw_all := lw_g (lw_at lw_m8 138 rfl) rfl
theorem q1966 : (Jvm.Cond.methodLink "BallotFruitModel" (423 : Nat) ({ cls := "BallotFruitModel", name := "strongestBehind", desc := "(III)I" } : Jvm.MethodName)) ∈ lw_all := lw_g (lw_at lw_m8 139 rfl) rfl
theorem q1967 : (Jvm.Cond.privateMethod ({ cls := "BallotFruitModel", name := "strongestBehind", desc := "(III)I" } : Jvm.MethodName)) ∈ lw_tbl := lw_at lw_m8 140 rfl
theorem q1968 : (Jvm.Cond.instanceMethod ({ cls := "BallotFruitModel", name := "strongestBehind", desc := "(III)I" } : Jvm.MethodName)) ∈ lw_all := lw_g (lw_at lw_m8 141 rfl) rfl
theorem q1969 : (Jvm.Cond.code ({ cls := "BallotFruitModel", name := "strongestBehind", desc := "(III)I" } : Jvm.MethodName) prog_22_method_106_code (4 : Nat) (Option.some Jvm.ClassFile.FieldType.int)) ∈ lw_all := lw_g (lw_at lw_m8 142 rfl) rfl
theorem q1971 : (Jvm.Cond.instanceMethod ({ cls := "BallotFruitModel", name := "feeds", desc := "(I)I" } : Jvm.MethodName)) ∈ lw_all := lw_g (lw_at lw_m8 144 rfl) rfl
theorem q1972 : (Jvm.Cond.selects "BallotFruitModel" ({ cls := "BallotFruitModel", name := "feeds", desc := "(I)I" } : Jvm.MethodName) ({ cls := "BallotFruitModel", name := "feeds", desc := "(I)I" } : Jvm.MethodName)) ∈ lw_all := lw_g (lw_at lw_m8 145 rfl) rfl
theorem q1973 : (Jvm.Cond.code ({ cls := "BallotFruitModel", name := "feeds", desc := "(I)I" } : Jvm.MethodName) prog_22_method_110_code (4 : Nat) (Option.some Jvm.ClassFile.FieldType.int)) ∈ lw_all := lw_g (lw_at lw_m8 146 rfl) rfl
theorem q1974 : (Jvm.Cond.methodLink "BallotFruitModel" (429 : Nat) ({ cls := "BallotFruitModel", name := "onesOf", desc := "(I)I" } : Jvm.MethodName)) ∈ lw_all := lw_g (lw_at lw_m8 147 rfl) rfl
theorem q1975 : (Jvm.Cond.privateMethod ({ cls := "BallotFruitModel", name := "onesOf", desc := "(I)I" } : Jvm.MethodName)) ∈ lw_tbl := lw_at lw_m8 148 rfl
theorem q1976 : (Jvm.Cond.instanceMethod ({ cls := "BallotFruitModel", name := "onesOf", desc := "(I)I" } : Jvm.MethodName)) ∈ lw_all := lw_g (lw_at lw_m8 149 rfl) rfl
theorem q1977 : (Jvm.Cond.code ({ cls := "BallotFruitModel", name := "onesOf", desc := "(I)I" } : Jvm.MethodName) prog_22_method_7_code (4 : Nat) (Option.some Jvm.ClassFile.FieldType.int)) ∈ lw_all := lw_g (lw_at lw_m8 150 rfl) rfl
theorem q1978 : (Jvm.Cond.methodLink "BallotFruitModel" (432 : Nat) ({ cls := "BallotFruitModel", name := "feedsAll", desc := "(I)Z" } : Jvm.MethodName)) ∈ lw_all := lw_g (lw_at lw_m8 151 rfl) rfl
theorem q1979 : (Jvm.Cond.privateMethod ({ cls := "BallotFruitModel", name := "feedsAll", desc := "(I)Z" } : Jvm.MethodName)) ∈ lw_tbl := lw_at lw_m8 152 rfl
theorem q1980 : (Jvm.Cond.instanceMethod ({ cls := "BallotFruitModel", name := "feedsAll", desc := "(I)Z" } : Jvm.MethodName)) ∈ lw_all := lw_g (lw_at lw_m8 153 rfl) rfl
theorem q1981 : (Jvm.Cond.code ({ cls := "BallotFruitModel", name := "feedsAll", desc := "(I)Z" } : Jvm.MethodName) prog_22_method_109_code (3 : Nat) (Option.some Jvm.ClassFile.FieldType.boolean)) ∈ lw_all := lw_g (lw_at lw_m8 154 rfl) rfl
theorem q1982 : (Jvm.Cond.methodLink "BallotFruitModel" (426 : Nat) ({ cls := "BallotFruitModel", name := "placesOf", desc := "(I)I" } : Jvm.MethodName)) ∈ lw_all := lw_g (lw_at lw_m8 155 rfl) rfl
theorem q1983 : (Jvm.Cond.privateMethod ({ cls := "BallotFruitModel", name := "placesOf", desc := "(I)I" } : Jvm.MethodName)) ∈ lw_tbl := lw_at lw_m8 156 rfl
theorem q1984 : (Jvm.Cond.instanceMethod ({ cls := "BallotFruitModel", name := "placesOf", desc := "(I)I" } : Jvm.MethodName)) ∈ lw_all := lw_g (lw_at lw_m8 157 rfl) rfl
theorem q1985 : (Jvm.Cond.code ({ cls := "BallotFruitModel", name := "placesOf", desc := "(I)I" } : Jvm.MethodName) prog_22_method_108_code (4 : Nat) (Option.some Jvm.ClassFile.FieldType.int)) ∈ lw_all := lw_g (lw_at lw_m8 158 rfl) rfl
theorem q1987 : (Jvm.Cond.instanceMethod ({ cls := "BallotFruitModel", name := "core", desc := "(II)I" } : Jvm.MethodName)) ∈ lw_all := lw_g (lw_at lw_m8 160 rfl) rfl
theorem q1988 : (Jvm.Cond.selects "BallotFruitModel" ({ cls := "BallotFruitModel", name := "core", desc := "(II)I" } : Jvm.MethodName) ({ cls := "BallotFruitModel", name := "core", desc := "(II)I" } : Jvm.MethodName)) ∈ lw_all := lw_g (lw_at lw_m8 161 rfl) rfl
theorem q1989 : (Jvm.Cond.code ({ cls := "BallotFruitModel", name := "core", desc := "(II)I" } : Jvm.MethodName) prog_22_method_111_code (3 : Nat) (Option.some Jvm.ClassFile.FieldType.int)) ∈ lw_all := lw_g (lw_at lw_m8 162 rfl) rfl
theorem q1991 : (Jvm.Cond.instanceMethod ({ cls := "BallotFruitModel", name := "whose", desc := "(I)I" } : Jvm.MethodName)) ∈ lw_all := lw_g (lw_at lw_m8 164 rfl) rfl
theorem q1992 : (Jvm.Cond.selects "BallotFruitModel" ({ cls := "BallotFruitModel", name := "whose", desc := "(I)I" } : Jvm.MethodName) ({ cls := "BallotFruitModel", name := "whose", desc := "(I)I" } : Jvm.MethodName)) ∈ lw_all := lw_g (lw_at lw_m8 165 rfl) rfl
theorem q1993 : (Jvm.Cond.code ({ cls := "BallotFruitModel", name := "whose", desc := "(I)I" } : Jvm.MethodName) prog_22_method_114_code (9 : Nat) (Option.some Jvm.ClassFile.FieldType.int)) ∈ lw_all := lw_g (lw_at lw_m8 166 rfl) rfl
theorem q1994 : (Jvm.Cond.methodLink "BallotFruitModel" (438 : Nat) ({ cls := "BallotFruitModel", name := "eatersOfAll", desc := "()I" } : Jvm.MethodName)) ∈ lw_all := lw_g (lw_at lw_m8 167 rfl) rfl
theorem q1995 : (Jvm.Cond.privateMethod ({ cls := "BallotFruitModel", name := "eatersOfAll", desc := "()I" } : Jvm.MethodName)) ∈ lw_tbl := lw_at lw_m8 168 rfl
theorem q1996 : (Jvm.Cond.instanceMethod ({ cls := "BallotFruitModel", name := "eatersOfAll", desc := "()I" } : Jvm.MethodName)) ∈ lw_all := lw_g (lw_at lw_m8 169 rfl) rfl
theorem q1997 : (Jvm.Cond.code ({ cls := "BallotFruitModel", name := "eatersOfAll", desc := "()I" } : Jvm.MethodName) prog_22_method_112_code (5 : Nat) (Option.some Jvm.ClassFile.FieldType.int)) ∈ lw_all := lw_g (lw_at lw_m8 170 rfl) rfl
theorem q1998 : (Jvm.Cond.constant "BallotFruitModel" (441 : Nat) (100000 : Int32)) ∈ lw_all := lw_g (lw_at lw_m8 171 rfl) rfl
theorem q1999 : (Jvm.Cond.methodLink "BallotFruitModel" (442 : Nat) ({ cls := "BallotFruitModel", name := "likersOf", desc := "(II)I" } : Jvm.MethodName)) ∈ lw_all := lw_g (lw_at lw_m8 172 rfl) rfl
theorem q2000 : (Jvm.Cond.privateMethod ({ cls := "BallotFruitModel", name := "likersOf", desc := "(II)I" } : Jvm.MethodName)) ∈ lw_tbl := lw_at lw_m8 173 rfl
theorem q2001 : (Jvm.Cond.instanceMethod ({ cls := "BallotFruitModel", name := "likersOf", desc := "(II)I" } : Jvm.MethodName)) ∈ lw_all := lw_g (lw_at lw_m8 174 rfl) rfl
theorem q2002 : (Jvm.Cond.code ({ cls := "BallotFruitModel", name := "likersOf", desc := "(II)I" } : Jvm.MethodName) prog_22_method_113_code (5 : Nat) (Option.some Jvm.ClassFile.FieldType.int)) ∈ lw_all := lw_g (lw_at lw_m8 175 rfl) rfl
theorem q2004 : (Jvm.Cond.instanceMethod ({ cls := "BallotFruitModel", name := "left", desc := "(I)I" } : Jvm.MethodName)) ∈ lw_all := lw_g (lw_at lw_m8 177 rfl) rfl
theorem q2005 : (Jvm.Cond.selects "BallotFruitModel" ({ cls := "BallotFruitModel", name := "left", desc := "(I)I" } : Jvm.MethodName) ({ cls := "BallotFruitModel", name := "left", desc := "(I)I" } : Jvm.MethodName)) ∈ lw_all := lw_g (lw_at lw_m8 178 rfl) rfl
theorem q2006 : (Jvm.Cond.code ({ cls := "BallotFruitModel", name := "left", desc := "(I)I" } : Jvm.MethodName) prog_22_method_115_code (6 : Nat) (Option.some Jvm.ClassFile.FieldType.int)) ∈ lw_all := lw_g (lw_at lw_m8 179 rfl) rfl
theorem q2007 : (Jvm.Cond.constant "BallotFruitModel" (445 : Nat) (1000000007 : Int32)) ∈ lw_all := lw_g (lw_at lw_m8 180 rfl) rfl
theorem q2009 : (Jvm.Cond.instanceMethod ({ cls := "BallotFruitModel", name := "rules", desc := "(I)I" } : Jvm.MethodName)) ∈ lw_all := lw_g (lw_at lw_m8 182 rfl) rfl
theorem q2010 : (Jvm.Cond.selects "BallotFruitModel" ({ cls := "BallotFruitModel", name := "rules", desc := "(I)I" } : Jvm.MethodName) ({ cls := "BallotFruitModel", name := "rules", desc := "(I)I" } : Jvm.MethodName)) ∈ lw_all := lw_g (lw_at lw_m8 183 rfl) rfl
theorem q2011 : (Jvm.Cond.code ({ cls := "BallotFruitModel", name := "rules", desc := "(I)I" } : Jvm.MethodName) prog_22_method_118_code (4 : Nat) (Option.some Jvm.ClassFile.FieldType.int)) ∈ lw_all := lw_g (lw_at lw_m8 184 rfl) rfl
theorem q2012 : (Jvm.Cond.methodLink "BallotFruitModel" (449 : Nat) ({ cls := "BallotFruitModel", name := "doesRule", desc := "(I)Z" } : Jvm.MethodName)) ∈ lw_all := lw_g (lw_at lw_m8 185 rfl) rfl
theorem q2013 : (Jvm.Cond.privateMethod ({ cls := "BallotFruitModel", name := "doesRule", desc := "(I)Z" } : Jvm.MethodName)) ∈ lw_tbl := lw_at lw_m8 186 rfl
theorem q2014 : (Jvm.Cond.instanceMethod ({ cls := "BallotFruitModel", name := "doesRule", desc := "(I)Z" } : Jvm.MethodName)) ∈ lw_all := lw_g (lw_at lw_m8 187 rfl) rfl
theorem q2015 : (Jvm.Cond.code ({ cls := "BallotFruitModel", name := "doesRule", desc := "(I)Z" } : Jvm.MethodName) prog_22_method_117_code (2 : Nat) (Option.some Jvm.ClassFile.FieldType.boolean)) ∈ lw_all := lw_g (lw_at lw_m8 188 rfl) rfl
theorem q2016 : (Jvm.Cond.methodLink "BallotFruitModel" (446 : Nat) ({ cls := "BallotFruitModel", name := "seatsOf", desc := "(I)I" } : Jvm.MethodName)) ∈ lw_all := lw_g (lw_at lw_m8 189 rfl) rfl
theorem q2017 : (Jvm.Cond.privateMethod ({ cls := "BallotFruitModel", name := "seatsOf", desc := "(I)I" } : Jvm.MethodName)) ∈ lw_tbl := lw_at lw_m8 190 rfl
theorem q2018 : (Jvm.Cond.instanceMethod ({ cls := "BallotFruitModel", name := "seatsOf", desc := "(I)I" } : Jvm.MethodName)) ∈ lw_all := lw_g (lw_at lw_m8 191 rfl) rfl
theorem q2019 : (Jvm.Cond.code ({ cls := "BallotFruitModel", name := "seatsOf", desc := "(I)I" } : Jvm.MethodName) prog_22_method_116_code (4 : Nat) (Option.some Jvm.ClassFile.FieldType.int)) ∈ lw_all := lw_g (lw_at lw_m8 192 rfl) rfl
theorem q2021 : (Jvm.Cond.instanceMethod ({ cls := "BallotFruitModel", name := "weighs", desc := "(I)I" } : Jvm.MethodName)) ∈ lw_all := lw_g (lw_at lw_m8 194 rfl) rfl
theorem q2022 : (Jvm.Cond.selects "BallotFruitModel" ({ cls := "BallotFruitModel", name := "weighs", desc := "(I)I" } : Jvm.MethodName) ({ cls := "BallotFruitModel", name := "weighs", desc := "(I)I" } : Jvm.MethodName)) ∈ lw_all := lw_g (lw_at lw_m8 195 rfl) rfl
theorem q2023 : (Jvm.Cond.code ({ cls := "BallotFruitModel", name := "weighs", desc := "(I)I" } : Jvm.MethodName) prog_22_method_119_code (4 : Nat) (Option.some Jvm.ClassFile.FieldType.int)) ∈ lw_all := lw_g (lw_at lw_m8 196 rfl) rfl
theorem q2025 : (Jvm.Cond.instanceMethod ({ cls := "BallotFruitModel", name := "lasts", desc := "(I)I" } : Jvm.MethodName)) ∈ lw_all := lw_g (lw_at lw_m8 198 rfl) rfl
theorem q2026 : (Jvm.Cond.selects "BallotFruitModel" ({ cls := "BallotFruitModel", name := "lasts", desc := "(I)I" } : Jvm.MethodName) ({ cls := "BallotFruitModel", name := "lasts", desc := "(I)I" } : Jvm.MethodName)) ∈ lw_all := lw_g (lw_at lw_m8 199 rfl) rfl
theorem q2027 : (Jvm.Cond.code ({ cls := "BallotFruitModel", name := "lasts", desc := "(I)I" } : Jvm.MethodName) prog_22_method_120_code (4 : Nat) (Option.some Jvm.ClassFile.FieldType.int)) ∈ lw_all := lw_g (lw_at lw_m8 200 rfl) rfl
theorem q2029 : (Jvm.Cond.instanceMethod ({ cls := "BallotFruitModel", name := "meets", desc := "(II)I" } : Jvm.MethodName)) ∈ lw_all := lw_g (lw_at lw_m8 202 rfl) rfl
theorem q2030 : (Jvm.Cond.selects "BallotFruitModel" ({ cls := "BallotFruitModel", name := "meets", desc := "(II)I" } : Jvm.MethodName) ({ cls := "BallotFruitModel", name := "meets", desc := "(II)I" } : Jvm.MethodName)) ∈ lw_all := lw_g (lw_at lw_m8 203 rfl) rfl
theorem q2031 : (Jvm.Cond.code ({ cls := "BallotFruitModel", name := "meets", desc := "(II)I" } : Jvm.MethodName) prog_22_method_121_code (3 : Nat) (Option.some Jvm.ClassFile.FieldType.int)) ∈ lw_all := lw_g (lw_at lw_m8 204 rfl) rfl
theorem q2033 : (Jvm.Cond.instanceMethod ({ cls := "BallotFruitModel", name := "game", desc := "(I)I" } : Jvm.MethodName)) ∈ lw_all := lw_g (lw_at lw_m8 206 rfl) rfl
theorem q2034 : (Jvm.Cond.selects "BallotFruitModel" ({ cls := "BallotFruitModel", name := "game", desc := "(I)I" } : Jvm.MethodName) ({ cls := "BallotFruitModel", name := "game", desc := "(I)I" } : Jvm.MethodName)) ∈ lw_all := lw_g (lw_at lw_m8 207 rfl) rfl
theorem q2035 : (Jvm.Cond.code ({ cls := "BallotFruitModel", name := "game", desc := "(I)I" } : Jvm.MethodName) prog_22_method_122_code (6 : Nat) (Option.some Jvm.ClassFile.FieldType.int)) ∈ lw_all := lw_g (lw_at lw_m8 208 rfl) rfl
theorem q2037 : (Jvm.Cond.instanceMethod ({ cls := "BallotFruitModel", name := "image", desc := "(Z)Z" } : Jvm.MethodName)) ∈ lw_all := lw_g (lw_at lw_m8 210 rfl) rfl
theorem q2038 : (Jvm.Cond.selects "BallotFruitModel" ({ cls := "BallotFruitModel", name := "image", desc := "(Z)Z" } : Jvm.MethodName) ({ cls := "BallotFruitModel", name := "image", desc := "(Z)Z" } : Jvm.MethodName)) ∈ lw_all := lw_g (lw_at lw_m8 211 rfl) rfl
theorem q2039 : (Jvm.Cond.code ({ cls := "BallotFruitModel", name := "image", desc := "(Z)Z" } : Jvm.MethodName) prog_22_method_126_code (3 : Nat) (Option.some Jvm.ClassFile.FieldType.boolean)) ∈ lw_all := lw_g (lw_at lw_m8 212 rfl) rfl
theorem q2040 : (Jvm.Cond.methodLink "BallotFruitModel" (458 : Nat) ({ cls := "BallotFruitModel", name := "keeps", desc := "(I)I" } : Jvm.MethodName)) ∈ lw_all := lw_g (lw_at lw_m8 213 rfl) rfl
theorem q2041 : (Jvm.Cond.privateMethod ({ cls := "BallotFruitModel", name := "keeps", desc := "(I)I" } : Jvm.MethodName)) ∈ lw_tbl := lw_at lw_m8 214 rfl
theorem q2042 : (Jvm.Cond.instanceMethod ({ cls := "BallotFruitModel", name := "keeps", desc := "(I)I" } : Jvm.MethodName)) ∈ lw_all := lw_g (lw_at lw_m8 215 rfl) rfl
theorem q2043 : (Jvm.Cond.code ({ cls := "BallotFruitModel", name := "keeps", desc := "(I)I" } : Jvm.MethodName) prog_22_method_123_code (2 : Nat) (Option.some Jvm.ClassFile.FieldType.int)) ∈ lw_all := lw_g (lw_at lw_m8 216 rfl) rfl
theorem q2044 : (Jvm.Cond.methodLink "BallotFruitModel" (464 : Nat) ({ cls := "BallotFruitModel", name := "keepsTold", desc := "()V" } : Jvm.MethodName)) ∈ lw_all := lw_g (lw_at lw_m8 217 rfl) rfl
theorem q2045 : (Jvm.Cond.privateMethod ({ cls := "BallotFruitModel", name := "keepsTold", desc := "()V" } : Jvm.MethodName)) ∈ lw_tbl := lw_at lw_m8 218 rfl
theorem q2046 : (Jvm.Cond.instanceMethod ({ cls := "BallotFruitModel", name := "keepsTold", desc := "()V" } : Jvm.MethodName)) ∈ lw_all := lw_g (lw_at lw_m8 219 rfl) rfl
theorem q2047 : (Jvm.Cond.code ({ cls := "BallotFruitModel", name := "keepsTold", desc := "()V" } : Jvm.MethodName) prog_22_method_125_code (2 : Nat) (Option.none : Option Jvm.ClassFile.FieldType)) ∈ lw_all := lw_g (lw_at lw_m8 220 rfl) rfl
theorem q2048 : (Jvm.Cond.methodLink "BallotFruitModel" (467 : Nat) ({ cls := "BallotFruitModel", name := "keepsLaw", desc := "()V" } : Jvm.MethodName)) ∈ lw_all := lw_g (lw_at lw_m8 221 rfl) rfl
theorem q2049 : (Jvm.Cond.privateMethod ({ cls := "BallotFruitModel", name := "keepsLaw", desc := "()V" } : Jvm.MethodName)) ∈ lw_tbl := lw_at lw_m8 222 rfl
theorem q2050 : (Jvm.Cond.instanceMethod ({ cls := "BallotFruitModel", name := "keepsLaw", desc := "()V" } : Jvm.MethodName)) ∈ lw_all := lw_g (lw_at lw_m8 223 rfl) rfl
theorem q2051 : (Jvm.Cond.code ({ cls := "BallotFruitModel", name := "keepsLaw", desc := "()V" } : Jvm.MethodName) prog_22_method_124_code (2 : Nat) (Option.none : Option Jvm.ClassFile.FieldType)) ∈ lw_all := lw_g (lw_at lw_m8 224 rfl) rfl
theorem q2053 : (Jvm.Cond.instanceMethod ({ cls := "BallotFruitModel", name := "look", desc := "(I)I" } : Jvm.MethodName)) ∈ lw_all := lw_g (lw_at lw_m8 226 rfl) rfl
theorem q2054 : (Jvm.Cond.selects "BallotFruitModel" ({ cls := "BallotFruitModel", name := "look", desc := "(I)I" } : Jvm.MethodName) ({ cls := "BallotFruitModel", name := "look", desc := "(I)I" } : Jvm.MethodName)) ∈ lw_all := lw_g (lw_at lw_m8 227 rfl) rfl
theorem q2055 : (Jvm.Cond.code ({ cls := "BallotFruitModel", name := "look", desc := "(I)I" } : Jvm.MethodName) prog_22_method_127_code (2 : Nat) (Option.some Jvm.ClassFile.FieldType.int)) ∈ lw_all := lw_g (lw_at lw_m8 228 rfl) rfl
theorem q2069 : (Jvm.Cond.castable "BallotFruitModel" "java/lang/Object") ∈ lw_tbl := lw_at lw_m9 2 rfl
theorem in_X5 : ∀ w ∈ wsX50, w ∈ lw_all := lw_in wsX50 [1439, 1441, 1443, 1445, 1447, 1449, 1451, 1453, 1455, 1457, 1459, 1461, 1463, 1465, 1467, 1469, 1471, 1473, 1475, 1477, 1479, 1481, 1483, 1485, 1487, 1489, 1491, 1493, 1495, 1497, 1499, 1501, 1503, 1505, 1507, 1509, 1511, 1513, 1515, 1517, 1519, 1521, 1523, 1525, 1527, 1529, 1531, 1533, 1535, 1537, 1539, 1541, 1543, 1545, 1547, 1549] (by decide +kernel) (by decide +kernel)
