set_option maxRecDepth 100000
abbrev cX5_does : ByteArray := prog_22_method_92_code
def yX5_does : MethodName := ⟨RX5, "does", "(I)V"⟩
def dkwX5_does_6 : List UInt8 := [16, 76, 28, 96, 42, 5, 42, 180, 0, 7, 16, 76, 28, 96, 46, 104, 3, 16, 20, 182, 0, 122, 79, 177]
abbrev dktX5_does_6 : List UInt8 := dkwX5_does_6 ++ []
def dkwX5_does_5 : List UInt8 := [6, 96, 46, 182, 1, 86, 87, 42, 180, 0, 59, 27, 4, 96, 46, 7, 160, 0, 30, 42, 180, 0, 7]
abbrev dktX5_does_5 : List UInt8 := dkwX5_does_5 ++ dktX5_does_6
def dkwX5_does_4 : List UInt8 := [28, 3, 182, 1, 82, 42, 180, 0, 59, 27, 4, 96, 46, 6, 160, 0, 17, 42, 28, 42, 180, 0, 59, 27]
abbrev dktX5_does_4 : List UInt8 := dkwX5_does_4 ++ dktX5_does_5
def dkwX5_does_3 : List UInt8 := [182, 1, 82, 42, 180, 0, 59, 27, 4, 96, 46, 5, 160, 0, 17, 42, 28, 182, 1, 79, 153, 0, 9, 42]
abbrev dktX5_does_3 : List UInt8 := dkwX5_does_3 ++ dktX5_does_4
def dkwX5_does_2 : List UInt8 := [180, 0, 59, 27, 4, 96, 46, 4, 160, 0, 17, 42, 28, 182, 1, 79, 154, 0, 9, 42, 28, 4]
abbrev dktX5_does_2 : List UInt8 := dkwX5_does_2 ++ dktX5_does_3
def dkwX5_does_1 : List UInt8 := [7, 46, 16, 14, 162, 0, 18, 42, 28, 42, 180, 0, 59, 27, 6, 96, 46, 3, 182, 1, 76, 87, 42]
abbrev dktX5_does_1 : List UInt8 := dkwX5_does_1 ++ dktX5_does_2
def dkwX5_does_0 : List UInt8 := [42, 180, 0, 59, 27, 5, 96, 46, 61, 42, 180, 0, 59, 27, 4, 96, 46, 154, 0, 29, 42, 180, 0, 7]
abbrev dktX5_does_0 : List UInt8 := dkwX5_does_0 ++ dktX5_does_1
theorem dksX5_does_0 : cX5_does.data.toList.drop 0 = dktX5_does_0 := by decide +kernel
theorem dksX5_does_1 : cX5_does.data.toList.drop 24 = dktX5_does_1 := dk_seg dksX5_does_0 24 rfl rfl
theorem dksX5_does_2 : cX5_does.data.toList.drop 47 = dktX5_does_2 := dk_seg dksX5_does_1 23 rfl rfl
theorem dksX5_does_3 : cX5_does.data.toList.drop 69 = dktX5_does_3 := dk_seg dksX5_does_2 22 rfl rfl
theorem dksX5_does_4 : cX5_does.data.toList.drop 93 = dktX5_does_4 := dk_seg dksX5_does_3 24 rfl rfl
theorem dksX5_does_5 : cX5_does.data.toList.drop 117 = dktX5_does_5 := dk_seg dksX5_does_4 24 rfl rfl
theorem dksX5_does_6 : cX5_does.data.toList.drop 140 = dktX5_does_6 := dk_seg dksX5_does_5 23 rfl rfl
theorem dX5_does_0 : decode cX5_does 0 = .ok (.aload_n 0, 1) := dk_42 (dk_at dksX5_does_0 0 rfl rfl)
theorem dX5_does_1 : decode cX5_does 1 = .ok (.getfield 59, 3) := dk_180 0 59 (dk_at dksX5_does_0 1 rfl rfl)
theorem dX5_does_4 : decode cX5_does 4 = .ok (.iload_n 1, 1) := dk_27 (dk_at dksX5_does_0 4 rfl rfl)
theorem dX5_does_5 : decode cX5_does 5 = .ok (.iconst 2, 1) := dk_5 (dk_at dksX5_does_0 5 rfl rfl)
theorem dX5_does_6 : decode cX5_does 6 = .ok (.iadd, 1) := dk_96 (dk_at dksX5_does_0 6 rfl rfl)
theorem dX5_does_7 : decode cX5_does 7 = .ok (.iaload, 1) := dk_46 (dk_at dksX5_does_0 7 rfl rfl)
theorem dX5_does_8 : decode cX5_does 8 = .ok (.istore_n 2, 1) := dk_61 (dk_at dksX5_does_0 8 rfl rfl)
theorem dX5_does_9 : decode cX5_does 9 = .ok (.aload_n 0, 1) := dk_42 (dk_at dksX5_does_0 9 rfl rfl)
theorem dX5_does_10 : decode cX5_does 10 = .ok (.getfield 59, 3) := dk_180 0 59 (dk_at dksX5_does_0 10 rfl rfl)
theorem dX5_does_13 : decode cX5_does 13 = .ok (.iload_n 1, 1) := dk_27 (dk_at dksX5_does_0 13 rfl rfl)
theorem dX5_does_14 : decode cX5_does 14 = .ok (.iconst 1, 1) := dk_4 (dk_at dksX5_does_0 14 rfl rfl)
theorem dX5_does_15 : decode cX5_does 15 = .ok (.iadd, 1) := dk_96 (dk_at dksX5_does_0 15 rfl rfl)
theorem dX5_does_16 : decode cX5_does 16 = .ok (.iaload, 1) := dk_46 (dk_at dksX5_does_0 16 rfl rfl)
theorem dX5_does_17 : decode cX5_does 17 = .ok (.ifCond .ne 29, 3) := dk_154 0 29 (dk_at dksX5_does_0 17 rfl rfl)
theorem dX5_does_20 : decode cX5_does 20 = .ok (.aload_n 0, 1) := dk_42 (dk_at dksX5_does_0 20 rfl rfl)
theorem dX5_does_21 : decode cX5_does 21 = .ok (.getfield 7, 3) := dk_180 0 7 (dk_at dksX5_does_0 21 rfl rfl)
theorem dX5_does_24 : decode cX5_does 24 = .ok (.iconst 4, 1) := dk_7 (dk_at dksX5_does_1 0 rfl rfl)
theorem dX5_does_25 : decode cX5_does 25 = .ok (.iaload, 1) := dk_46 (dk_at dksX5_does_1 1 rfl rfl)
theorem dX5_does_26 : decode cX5_does 26 = .ok (.bipush 14, 2) := dk_16 14 (dk_at dksX5_does_1 2 rfl rfl)
theorem dX5_does_28 : decode cX5_does 28 = .ok (.if_icmp .ge 18, 3) := dk_162 0 18 (dk_at dksX5_does_1 4 rfl rfl)
theorem dX5_does_31 : decode cX5_does 31 = .ok (.aload_n 0, 1) := dk_42 (dk_at dksX5_does_1 7 rfl rfl)
theorem dX5_does_32 : decode cX5_does 32 = .ok (.iload_n 2, 1) := dk_28 (dk_at dksX5_does_1 8 rfl rfl)
theorem dX5_does_33 : decode cX5_does 33 = .ok (.aload_n 0, 1) := dk_42 (dk_at dksX5_does_1 9 rfl rfl)
theorem dX5_does_34 : decode cX5_does 34 = .ok (.getfield 59, 3) := dk_180 0 59 (dk_at dksX5_does_1 10 rfl rfl)
theorem dX5_does_37 : decode cX5_does 37 = .ok (.iload_n 1, 1) := dk_27 (dk_at dksX5_does_1 13 rfl rfl)
theorem dX5_does_38 : decode cX5_does 38 = .ok (.iconst 3, 1) := dk_6 (dk_at dksX5_does_1 14 rfl rfl)
theorem dX5_does_39 : decode cX5_does 39 = .ok (.iadd, 1) := dk_96 (dk_at dksX5_does_1 15 rfl rfl)
theorem dX5_does_40 : decode cX5_does 40 = .ok (.iaload, 1) := dk_46 (dk_at dksX5_does_1 16 rfl rfl)
theorem dX5_does_41 : decode cX5_does 41 = .ok (.iconst 0, 1) := dk_3 (dk_at dksX5_does_1 17 rfl rfl)
theorem dX5_does_42 : decode cX5_does 42 = .ok (.invokevirtual 332, 3) := dk_182 1 76 (dk_at dksX5_does_1 18 rfl rfl)
theorem dX5_does_45 : decode cX5_does 45 = .ok (.pop, 1) := dk_87 (dk_at dksX5_does_1 21 rfl rfl)
theorem dX5_does_46 : decode cX5_does 46 = .ok (.aload_n 0, 1) := dk_42 (dk_at dksX5_does_1 22 rfl rfl)
theorem dX5_does_47 : decode cX5_does 47 = .ok (.getfield 59, 3) := dk_180 0 59 (dk_at dksX5_does_2 0 rfl rfl)
theorem dX5_does_50 : decode cX5_does 50 = .ok (.iload_n 1, 1) := dk_27 (dk_at dksX5_does_2 3 rfl rfl)
theorem dX5_does_51 : decode cX5_does 51 = .ok (.iconst 1, 1) := dk_4 (dk_at dksX5_does_2 4 rfl rfl)
theorem dX5_does_52 : decode cX5_does 52 = .ok (.iadd, 1) := dk_96 (dk_at dksX5_does_2 5 rfl rfl)
theorem dX5_does_53 : decode cX5_does 53 = .ok (.iaload, 1) := dk_46 (dk_at dksX5_does_2 6 rfl rfl)
theorem dX5_does_54 : decode cX5_does 54 = .ok (.iconst 1, 1) := dk_4 (dk_at dksX5_does_2 7 rfl rfl)
theorem dX5_does_55 : decode cX5_does 55 = .ok (.if_icmp .ne 17, 3) := dk_160 0 17 (dk_at dksX5_does_2 8 rfl rfl)
theorem dX5_does_58 : decode cX5_does 58 = .ok (.aload_n 0, 1) := dk_42 (dk_at dksX5_does_2 11 rfl rfl)
theorem dX5_does_59 : decode cX5_does 59 = .ok (.iload_n 2, 1) := dk_28 (dk_at dksX5_does_2 12 rfl rfl)
theorem dX5_does_60 : decode cX5_does 60 = .ok (.invokevirtual 335, 3) := dk_182 1 79 (dk_at dksX5_does_2 13 rfl rfl)
theorem dX5_does_63 : decode cX5_does 63 = .ok (.ifCond .ne 9, 3) := dk_154 0 9 (dk_at dksX5_does_2 16 rfl rfl)
theorem dX5_does_66 : decode cX5_does 66 = .ok (.aload_n 0, 1) := dk_42 (dk_at dksX5_does_2 19 rfl rfl)
theorem dX5_does_67 : decode cX5_does 67 = .ok (.iload_n 2, 1) := dk_28 (dk_at dksX5_does_2 20 rfl rfl)
theorem dX5_does_68 : decode cX5_does 68 = .ok (.iconst 1, 1) := dk_4 (dk_at dksX5_does_2 21 rfl rfl)
theorem dX5_does_69 : decode cX5_does 69 = .ok (.invokevirtual 338, 3) := dk_182 1 82 (dk_at dksX5_does_3 0 rfl rfl)
theorem dX5_does_72 : decode cX5_does 72 = .ok (.aload_n 0, 1) := dk_42 (dk_at dksX5_does_3 3 rfl rfl)
theorem dX5_does_73 : decode cX5_does 73 = .ok (.getfield 59, 3) := dk_180 0 59 (dk_at dksX5_does_3 4 rfl rfl)
theorem dX5_does_76 : decode cX5_does 76 = .ok (.iload_n 1, 1) := dk_27 (dk_at dksX5_does_3 7 rfl rfl)
theorem dX5_does_77 : decode cX5_does 77 = .ok (.iconst 1, 1) := dk_4 (dk_at dksX5_does_3 8 rfl rfl)
theorem dX5_does_78 : decode cX5_does 78 = .ok (.iadd, 1) := dk_96 (dk_at dksX5_does_3 9 rfl rfl)
theorem dX5_does_79 : decode cX5_does 79 = .ok (.iaload, 1) := dk_46 (dk_at dksX5_does_3 10 rfl rfl)
theorem dX5_does_80 : decode cX5_does 80 = .ok (.iconst 2, 1) := dk_5 (dk_at dksX5_does_3 11 rfl rfl)
theorem dX5_does_81 : decode cX5_does 81 = .ok (.if_icmp .ne 17, 3) := dk_160 0 17 (dk_at dksX5_does_3 12 rfl rfl)
theorem dX5_does_84 : decode cX5_does 84 = .ok (.aload_n 0, 1) := dk_42 (dk_at dksX5_does_3 15 rfl rfl)
theorem dX5_does_85 : decode cX5_does 85 = .ok (.iload_n 2, 1) := dk_28 (dk_at dksX5_does_3 16 rfl rfl)
theorem dX5_does_86 : decode cX5_does 86 = .ok (.invokevirtual 335, 3) := dk_182 1 79 (dk_at dksX5_does_3 17 rfl rfl)
theorem dX5_does_89 : decode cX5_does 89 = .ok (.ifCond .eq 9, 3) := dk_153 0 9 (dk_at dksX5_does_3 20 rfl rfl)
theorem dX5_does_92 : decode cX5_does 92 = .ok (.aload_n 0, 1) := dk_42 (dk_at dksX5_does_3 23 rfl rfl)
theorem dX5_does_93 : decode cX5_does 93 = .ok (.iload_n 2, 1) := dk_28 (dk_at dksX5_does_4 0 rfl rfl)
theorem dX5_does_94 : decode cX5_does 94 = .ok (.iconst 0, 1) := dk_3 (dk_at dksX5_does_4 1 rfl rfl)
theorem dX5_does_95 : decode cX5_does 95 = .ok (.invokevirtual 338, 3) := dk_182 1 82 (dk_at dksX5_does_4 2 rfl rfl)
theorem dX5_does_98 : decode cX5_does 98 = .ok (.aload_n 0, 1) := dk_42 (dk_at dksX5_does_4 5 rfl rfl)
theorem dX5_does_99 : decode cX5_does 99 = .ok (.getfield 59, 3) := dk_180 0 59 (dk_at dksX5_does_4 6 rfl rfl)
theorem dX5_does_102 : decode cX5_does 102 = .ok (.iload_n 1, 1) := dk_27 (dk_at dksX5_does_4 9 rfl rfl)
theorem dX5_does_103 : decode cX5_does 103 = .ok (.iconst 1, 1) := dk_4 (dk_at dksX5_does_4 10 rfl rfl)
theorem dX5_does_104 : decode cX5_does 104 = .ok (.iadd, 1) := dk_96 (dk_at dksX5_does_4 11 rfl rfl)
theorem dX5_does_105 : decode cX5_does 105 = .ok (.iaload, 1) := dk_46 (dk_at dksX5_does_4 12 rfl rfl)
theorem dX5_does_106 : decode cX5_does 106 = .ok (.iconst 3, 1) := dk_6 (dk_at dksX5_does_4 13 rfl rfl)
theorem dX5_does_107 : decode cX5_does 107 = .ok (.if_icmp .ne 17, 3) := dk_160 0 17 (dk_at dksX5_does_4 14 rfl rfl)
theorem dX5_does_110 : decode cX5_does 110 = .ok (.aload_n 0, 1) := dk_42 (dk_at dksX5_does_4 17 rfl rfl)
theorem dX5_does_111 : decode cX5_does 111 = .ok (.iload_n 2, 1) := dk_28 (dk_at dksX5_does_4 18 rfl rfl)
theorem dX5_does_112 : decode cX5_does 112 = .ok (.aload_n 0, 1) := dk_42 (dk_at dksX5_does_4 19 rfl rfl)
theorem dX5_does_113 : decode cX5_does 113 = .ok (.getfield 59, 3) := dk_180 0 59 (dk_at dksX5_does_4 20 rfl rfl)
theorem dX5_does_116 : decode cX5_does 116 = .ok (.iload_n 1, 1) := dk_27 (dk_at dksX5_does_4 23 rfl rfl)
theorem dX5_does_117 : decode cX5_does 117 = .ok (.iconst 3, 1) := dk_6 (dk_at dksX5_does_5 0 rfl rfl)
theorem dX5_does_118 : decode cX5_does 118 = .ok (.iadd, 1) := dk_96 (dk_at dksX5_does_5 1 rfl rfl)
theorem dX5_does_119 : decode cX5_does 119 = .ok (.iaload, 1) := dk_46 (dk_at dksX5_does_5 2 rfl rfl)
theorem dX5_does_120 : decode cX5_does 120 = .ok (.invokevirtual 342, 3) := dk_182 1 86 (dk_at dksX5_does_5 3 rfl rfl)
theorem dX5_does_123 : decode cX5_does 123 = .ok (.pop, 1) := dk_87 (dk_at dksX5_does_5 6 rfl rfl)
theorem dX5_does_124 : decode cX5_does 124 = .ok (.aload_n 0, 1) := dk_42 (dk_at dksX5_does_5 7 rfl rfl)
theorem dX5_does_125 : decode cX5_does 125 = .ok (.getfield 59, 3) := dk_180 0 59 (dk_at dksX5_does_5 8 rfl rfl)
theorem dX5_does_128 : decode cX5_does 128 = .ok (.iload_n 1, 1) := dk_27 (dk_at dksX5_does_5 11 rfl rfl)
theorem dX5_does_129 : decode cX5_does 129 = .ok (.iconst 1, 1) := dk_4 (dk_at dksX5_does_5 12 rfl rfl)
theorem dX5_does_130 : decode cX5_does 130 = .ok (.iadd, 1) := dk_96 (dk_at dksX5_does_5 13 rfl rfl)
theorem dX5_does_131 : decode cX5_does 131 = .ok (.iaload, 1) := dk_46 (dk_at dksX5_does_5 14 rfl rfl)
theorem dX5_does_132 : decode cX5_does 132 = .ok (.iconst 4, 1) := dk_7 (dk_at dksX5_does_5 15 rfl rfl)
theorem dX5_does_133 : decode cX5_does 133 = .ok (.if_icmp .ne 30, 3) := dk_160 0 30 (dk_at dksX5_does_5 16 rfl rfl)
theorem dX5_does_136 : decode cX5_does 136 = .ok (.aload_n 0, 1) := dk_42 (dk_at dksX5_does_5 19 rfl rfl)
theorem dX5_does_137 : decode cX5_does 137 = .ok (.getfield 7, 3) := dk_180 0 7 (dk_at dksX5_does_5 20 rfl rfl)
theorem dX5_does_140 : decode cX5_does 140 = .ok (.bipush 76, 2) := dk_16 76 (dk_at dksX5_does_6 0 rfl rfl)
theorem dX5_does_142 : decode cX5_does 142 = .ok (.iload_n 2, 1) := dk_28 (dk_at dksX5_does_6 2 rfl rfl)
theorem dX5_does_143 : decode cX5_does 143 = .ok (.iadd, 1) := dk_96 (dk_at dksX5_does_6 3 rfl rfl)
theorem dX5_does_144 : decode cX5_does 144 = .ok (.aload_n 0, 1) := dk_42 (dk_at dksX5_does_6 4 rfl rfl)
theorem dX5_does_145 : decode cX5_does 145 = .ok (.iconst 2, 1) := dk_5 (dk_at dksX5_does_6 5 rfl rfl)
theorem dX5_does_146 : decode cX5_does 146 = .ok (.aload_n 0, 1) := dk_42 (dk_at dksX5_does_6 6 rfl rfl)
theorem dX5_does_147 : decode cX5_does 147 = .ok (.getfield 7, 3) := dk_180 0 7 (dk_at dksX5_does_6 7 rfl rfl)
theorem dX5_does_150 : decode cX5_does 150 = .ok (.bipush 76, 2) := dk_16 76 (dk_at dksX5_does_6 10 rfl rfl)
theorem dX5_does_152 : decode cX5_does 152 = .ok (.iload_n 2, 1) := dk_28 (dk_at dksX5_does_6 12 rfl rfl)
theorem dX5_does_153 : decode cX5_does 153 = .ok (.iadd, 1) := dk_96 (dk_at dksX5_does_6 13 rfl rfl)
theorem dX5_does_154 : decode cX5_does 154 = .ok (.iaload, 1) := dk_46 (dk_at dksX5_does_6 14 rfl rfl)
theorem dX5_does_155 : decode cX5_does 155 = .ok (.imul, 1) := dk_104 (dk_at dksX5_does_6 15 rfl rfl)
theorem dX5_does_156 : decode cX5_does 156 = .ok (.iconst 0, 1) := dk_3 (dk_at dksX5_does_6 16 rfl rfl)
theorem dX5_does_157 : decode cX5_does 157 = .ok (.bipush 20, 2) := dk_16 20 (dk_at dksX5_does_6 17 rfl rfl)
theorem dX5_does_159 : decode cX5_does 159 = .ok (.invokevirtual 122, 3) := dk_182 0 122 (dk_at dksX5_does_6 19 rfl rfl)
theorem dX5_does_162 : decode cX5_does 162 = .ok (.iastore, 1) := dk_79 (dk_at dksX5_does_6 22 rfl rfl)
theorem dX5_does_163 : decode cX5_does 163 = .ok (.return_, 1) := dk_177 (dk_at dksX5_does_6 23 rfl rfl)
abbrev cX5_bearOf : ByteArray := prog_22_method_70_code
def yX5_bearOf : MethodName := ⟨RX5, "bearOf", "(I)I"⟩
def dkwX5_bearOf_3 : List UInt8 := [16, 48, 27, 96, 46, 8, 108, 16, 99, 182, 1, 54, 172]
abbrev dktX5_bearOf_3 : List UInt8 := dkwX5_bearOf_3 ++ []
def dkwX5_bearOf_2 : List UInt8 := [180, 0, 7, 16, 10, 42, 180, 0, 7, 16, 20, 27, 96, 46, 96, 46, 79, 42, 3, 42, 180, 0, 7]
abbrev dktX5_bearOf_2 : List UInt8 := dkwX5_bearOf_2 ++ dktX5_bearOf_3
def dkwX5_bearOf_1 : List UInt8 := [16, 48, 27, 96, 46, 42, 180, 0, 7, 16, 62, 27, 96, 46, 182, 1, 50, 42, 180, 0, 62, 16, 8, 42]
abbrev dktX5_bearOf_1 : List UInt8 := dkwX5_bearOf_1 ++ dktX5_bearOf_2
def dkwX5_bearOf_0 : List UInt8 := [42, 42, 180, 0, 7, 16, 20, 27, 96, 46, 42, 180, 0, 7, 16, 34, 27, 96, 46, 42, 180, 0, 7]
abbrev dktX5_bearOf_0 : List UInt8 := dkwX5_bearOf_0 ++ dktX5_bearOf_1
theorem dksX5_bearOf_0 : cX5_bearOf.data.toList.drop 0 = dktX5_bearOf_0 := by decide +kernel
theorem dksX5_bearOf_1 : cX5_bearOf.data.toList.drop 23 = dktX5_bearOf_1 := dk_seg dksX5_bearOf_0 23 rfl rfl
theorem dksX5_bearOf_2 : cX5_bearOf.data.toList.drop 47 = dktX5_bearOf_2 := dk_seg dksX5_bearOf_1 24 rfl rfl
theorem dksX5_bearOf_3 : cX5_bearOf.data.toList.drop 70 = dktX5_bearOf_3 := dk_seg dksX5_bearOf_2 23 rfl rfl
theorem dX5_bearOf_0 : decode cX5_bearOf 0 = .ok (.aload_n 0, 1) := dk_42 (dk_at dksX5_bearOf_0 0 rfl rfl)
theorem dX5_bearOf_1 : decode cX5_bearOf 1 = .ok (.aload_n 0, 1) := dk_42 (dk_at dksX5_bearOf_0 1 rfl rfl)
theorem dX5_bearOf_2 : decode cX5_bearOf 2 = .ok (.getfield 7, 3) := dk_180 0 7 (dk_at dksX5_bearOf_0 2 rfl rfl)
theorem dX5_bearOf_5 : decode cX5_bearOf 5 = .ok (.bipush 20, 2) := dk_16 20 (dk_at dksX5_bearOf_0 5 rfl rfl)
theorem dX5_bearOf_7 : decode cX5_bearOf 7 = .ok (.iload_n 1, 1) := dk_27 (dk_at dksX5_bearOf_0 7 rfl rfl)
theorem dX5_bearOf_8 : decode cX5_bearOf 8 = .ok (.iadd, 1) := dk_96 (dk_at dksX5_bearOf_0 8 rfl rfl)
theorem dX5_bearOf_9 : decode cX5_bearOf 9 = .ok (.iaload, 1) := dk_46 (dk_at dksX5_bearOf_0 9 rfl rfl)
theorem dX5_bearOf_10 : decode cX5_bearOf 10 = .ok (.aload_n 0, 1) := dk_42 (dk_at dksX5_bearOf_0 10 rfl rfl)
theorem dX5_bearOf_11 : decode cX5_bearOf 11 = .ok (.getfield 7, 3) := dk_180 0 7 (dk_at dksX5_bearOf_0 11 rfl rfl)
theorem dX5_bearOf_14 : decode cX5_bearOf 14 = .ok (.bipush 34, 2) := dk_16 34 (dk_at dksX5_bearOf_0 14 rfl rfl)
theorem dX5_bearOf_16 : decode cX5_bearOf 16 = .ok (.iload_n 1, 1) := dk_27 (dk_at dksX5_bearOf_0 16 rfl rfl)
theorem dX5_bearOf_17 : decode cX5_bearOf 17 = .ok (.iadd, 1) := dk_96 (dk_at dksX5_bearOf_0 17 rfl rfl)
theorem dX5_bearOf_18 : decode cX5_bearOf 18 = .ok (.iaload, 1) := dk_46 (dk_at dksX5_bearOf_0 18 rfl rfl)
theorem dX5_bearOf_19 : decode cX5_bearOf 19 = .ok (.aload_n 0, 1) := dk_42 (dk_at dksX5_bearOf_0 19 rfl rfl)
theorem dX5_bearOf_20 : decode cX5_bearOf 20 = .ok (.getfield 7, 3) := dk_180 0 7 (dk_at dksX5_bearOf_0 20 rfl rfl)
theorem dX5_bearOf_23 : decode cX5_bearOf 23 = .ok (.bipush 48, 2) := dk_16 48 (dk_at dksX5_bearOf_1 0 rfl rfl)
theorem dX5_bearOf_25 : decode cX5_bearOf 25 = .ok (.iload_n 1, 1) := dk_27 (dk_at dksX5_bearOf_1 2 rfl rfl)
theorem dX5_bearOf_26 : decode cX5_bearOf 26 = .ok (.iadd, 1) := dk_96 (dk_at dksX5_bearOf_1 3 rfl rfl)
theorem dX5_bearOf_27 : decode cX5_bearOf 27 = .ok (.iaload, 1) := dk_46 (dk_at dksX5_bearOf_1 4 rfl rfl)
theorem dX5_bearOf_28 : decode cX5_bearOf 28 = .ok (.aload_n 0, 1) := dk_42 (dk_at dksX5_bearOf_1 5 rfl rfl)
theorem dX5_bearOf_29 : decode cX5_bearOf 29 = .ok (.getfield 7, 3) := dk_180 0 7 (dk_at dksX5_bearOf_1 6 rfl rfl)
theorem dX5_bearOf_32 : decode cX5_bearOf 32 = .ok (.bipush 62, 2) := dk_16 62 (dk_at dksX5_bearOf_1 9 rfl rfl)
theorem dX5_bearOf_34 : decode cX5_bearOf 34 = .ok (.iload_n 1, 1) := dk_27 (dk_at dksX5_bearOf_1 11 rfl rfl)
theorem dX5_bearOf_35 : decode cX5_bearOf 35 = .ok (.iadd, 1) := dk_96 (dk_at dksX5_bearOf_1 12 rfl rfl)
theorem dX5_bearOf_36 : decode cX5_bearOf 36 = .ok (.iaload, 1) := dk_46 (dk_at dksX5_bearOf_1 13 rfl rfl)
theorem dX5_bearOf_37 : decode cX5_bearOf 37 = .ok (.invokevirtual 306, 3) := dk_182 1 50 (dk_at dksX5_bearOf_1 14 rfl rfl)
theorem dX5_bearOf_40 : decode cX5_bearOf 40 = .ok (.aload_n 0, 1) := dk_42 (dk_at dksX5_bearOf_1 17 rfl rfl)
theorem dX5_bearOf_41 : decode cX5_bearOf 41 = .ok (.getfield 62, 3) := dk_180 0 62 (dk_at dksX5_bearOf_1 18 rfl rfl)
theorem dX5_bearOf_44 : decode cX5_bearOf 44 = .ok (.bipush 8, 2) := dk_16 8 (dk_at dksX5_bearOf_1 21 rfl rfl)
theorem dX5_bearOf_46 : decode cX5_bearOf 46 = .ok (.aload_n 0, 1) := dk_42 (dk_at dksX5_bearOf_1 23 rfl rfl)
theorem dX5_bearOf_47 : decode cX5_bearOf 47 = .ok (.getfield 7, 3) := dk_180 0 7 (dk_at dksX5_bearOf_2 0 rfl rfl)
theorem dX5_bearOf_50 : decode cX5_bearOf 50 = .ok (.bipush 10, 2) := dk_16 10 (dk_at dksX5_bearOf_2 3 rfl rfl)
theorem dX5_bearOf_52 : decode cX5_bearOf 52 = .ok (.aload_n 0, 1) := dk_42 (dk_at dksX5_bearOf_2 5 rfl rfl)
theorem dX5_bearOf_53 : decode cX5_bearOf 53 = .ok (.getfield 7, 3) := dk_180 0 7 (dk_at dksX5_bearOf_2 6 rfl rfl)
theorem dX5_bearOf_56 : decode cX5_bearOf 56 = .ok (.bipush 20, 2) := dk_16 20 (dk_at dksX5_bearOf_2 9 rfl rfl)
theorem dX5_bearOf_58 : decode cX5_bearOf 58 = .ok (.iload_n 1, 1) := dk_27 (dk_at dksX5_bearOf_2 11 rfl rfl)
theorem dX5_bearOf_59 : decode cX5_bearOf 59 = .ok (.iadd, 1) := dk_96 (dk_at dksX5_bearOf_2 12 rfl rfl)
theorem dX5_bearOf_60 : decode cX5_bearOf 60 = .ok (.iaload, 1) := dk_46 (dk_at dksX5_bearOf_2 13 rfl rfl)
theorem dX5_bearOf_61 : decode cX5_bearOf 61 = .ok (.iadd, 1) := dk_96 (dk_at dksX5_bearOf_2 14 rfl rfl)
theorem dX5_bearOf_62 : decode cX5_bearOf 62 = .ok (.iaload, 1) := dk_46 (dk_at dksX5_bearOf_2 15 rfl rfl)
theorem dX5_bearOf_63 : decode cX5_bearOf 63 = .ok (.iastore, 1) := dk_79 (dk_at dksX5_bearOf_2 16 rfl rfl)
theorem dX5_bearOf_64 : decode cX5_bearOf 64 = .ok (.aload_n 0, 1) := dk_42 (dk_at dksX5_bearOf_2 17 rfl rfl)
theorem dX5_bearOf_65 : decode cX5_bearOf 65 = .ok (.iconst 0, 1) := dk_3 (dk_at dksX5_bearOf_2 18 rfl rfl)
theorem dX5_bearOf_66 : decode cX5_bearOf 66 = .ok (.aload_n 0, 1) := dk_42 (dk_at dksX5_bearOf_2 19 rfl rfl)
theorem dX5_bearOf_67 : decode cX5_bearOf 67 = .ok (.getfield 7, 3) := dk_180 0 7 (dk_at dksX5_bearOf_2 20 rfl rfl)
theorem dX5_bearOf_70 : decode cX5_bearOf 70 = .ok (.bipush 48, 2) := dk_16 48 (dk_at dksX5_bearOf_3 0 rfl rfl)
theorem dX5_bearOf_72 : decode cX5_bearOf 72 = .ok (.iload_n 1, 1) := dk_27 (dk_at dksX5_bearOf_3 2 rfl rfl)
theorem dX5_bearOf_73 : decode cX5_bearOf 73 = .ok (.iadd, 1) := dk_96 (dk_at dksX5_bearOf_3 3 rfl rfl)
theorem dX5_bearOf_74 : decode cX5_bearOf 74 = .ok (.iaload, 1) := dk_46 (dk_at dksX5_bearOf_3 4 rfl rfl)
theorem dX5_bearOf_75 : decode cX5_bearOf 75 = .ok (.iconst 5, 1) := dk_8 (dk_at dksX5_bearOf_3 5 rfl rfl)
theorem dX5_bearOf_76 : decode cX5_bearOf 76 = .ok (.idiv, 1) := dk_108 (dk_at dksX5_bearOf_3 6 rfl rfl)
theorem dX5_bearOf_77 : decode cX5_bearOf 77 = .ok (.bipush 99, 2) := dk_16 99 (dk_at dksX5_bearOf_3 7 rfl rfl)
theorem dX5_bearOf_79 : decode cX5_bearOf 79 = .ok (.invokevirtual 310, 3) := dk_182 1 54 (dk_at dksX5_bearOf_3 9 rfl rfl)
theorem dX5_bearOf_82 : decode cX5_bearOf 82 = .ok (.ireturn, 1) := dk_172 (dk_at dksX5_bearOf_3 12 rfl rfl)
abbrev cX5_asks : ByteArray := prog_22_method_68_code
def yX5_asks : MethodName := ⟨RX5, "asks", "(IIII)V"⟩
def dkwX5_asks_3 : List UInt8 := [180, 0, 62, 16, 8, 3, 79, 177]
abbrev dktX5_asks_3 : List UInt8 := dkwX5_asks_3 ++ []
def dkwX5_asks_2 : List UInt8 := [180, 0, 62, 8, 3, 79, 42, 180, 0, 62, 16, 6, 3, 79, 42, 180, 0, 62, 16, 7, 3, 79, 42]
abbrev dktX5_asks_2 : List UInt8 := dkwX5_asks_2 ++ dktX5_asks_3
def dkwX5_asks_1 : List UInt8 := [180, 0, 62, 5, 28, 79, 42, 180, 0, 62, 6, 29, 79, 42, 180, 0, 62, 7, 21, 4, 79, 42]
abbrev dktX5_asks_1 : List UInt8 := dkwX5_asks_1 ++ dktX5_asks_2
def dkwX5_asks_0 : List UInt8 := [42, 180, 0, 62, 3, 42, 180, 0, 7, 3, 46, 16, 52, 112, 79, 42, 180, 0, 62, 4, 27, 79, 42]
abbrev dktX5_asks_0 : List UInt8 := dkwX5_asks_0 ++ dktX5_asks_1
theorem dksX5_asks_0 : cX5_asks.data.toList.drop 0 = dktX5_asks_0 := by decide +kernel
theorem dksX5_asks_1 : cX5_asks.data.toList.drop 23 = dktX5_asks_1 := dk_seg dksX5_asks_0 23 rfl rfl
theorem dksX5_asks_2 : cX5_asks.data.toList.drop 45 = dktX5_asks_2 := dk_seg dksX5_asks_1 22 rfl rfl
theorem dksX5_asks_3 : cX5_asks.data.toList.drop 68 = dktX5_asks_3 := dk_seg dksX5_asks_2 23 rfl rfl
theorem dX5_asks_0 : decode cX5_asks 0 = .ok (.aload_n 0, 1) := dk_42 (dk_at dksX5_asks_0 0 rfl rfl)
theorem dX5_asks_1 : decode cX5_asks 1 = .ok (.getfield 62, 3) := dk_180 0 62 (dk_at dksX5_asks_0 1 rfl rfl)
theorem dX5_asks_4 : decode cX5_asks 4 = .ok (.iconst 0, 1) := dk_3 (dk_at dksX5_asks_0 4 rfl rfl)
theorem dX5_asks_5 : decode cX5_asks 5 = .ok (.aload_n 0, 1) := dk_42 (dk_at dksX5_asks_0 5 rfl rfl)
theorem dX5_asks_6 : decode cX5_asks 6 = .ok (.getfield 7, 3) := dk_180 0 7 (dk_at dksX5_asks_0 6 rfl rfl)
theorem dX5_asks_9 : decode cX5_asks 9 = .ok (.iconst 0, 1) := dk_3 (dk_at dksX5_asks_0 9 rfl rfl)
theorem dX5_asks_10 : decode cX5_asks 10 = .ok (.iaload, 1) := dk_46 (dk_at dksX5_asks_0 10 rfl rfl)
theorem dX5_asks_11 : decode cX5_asks 11 = .ok (.bipush 52, 2) := dk_16 52 (dk_at dksX5_asks_0 11 rfl rfl)
theorem dX5_asks_13 : decode cX5_asks 13 = .ok (.irem, 1) := dk_112 (dk_at dksX5_asks_0 13 rfl rfl)
theorem dX5_asks_14 : decode cX5_asks 14 = .ok (.iastore, 1) := dk_79 (dk_at dksX5_asks_0 14 rfl rfl)
theorem dX5_asks_15 : decode cX5_asks 15 = .ok (.aload_n 0, 1) := dk_42 (dk_at dksX5_asks_0 15 rfl rfl)
theorem dX5_asks_16 : decode cX5_asks 16 = .ok (.getfield 62, 3) := dk_180 0 62 (dk_at dksX5_asks_0 16 rfl rfl)
theorem dX5_asks_19 : decode cX5_asks 19 = .ok (.iconst 1, 1) := dk_4 (dk_at dksX5_asks_0 19 rfl rfl)
theorem dX5_asks_20 : decode cX5_asks 20 = .ok (.iload_n 1, 1) := dk_27 (dk_at dksX5_asks_0 20 rfl rfl)
theorem dX5_asks_21 : decode cX5_asks 21 = .ok (.iastore, 1) := dk_79 (dk_at dksX5_asks_0 21 rfl rfl)
theorem dX5_asks_22 : decode cX5_asks 22 = .ok (.aload_n 0, 1) := dk_42 (dk_at dksX5_asks_0 22 rfl rfl)
theorem dX5_asks_23 : decode cX5_asks 23 = .ok (.getfield 62, 3) := dk_180 0 62 (dk_at dksX5_asks_1 0 rfl rfl)
theorem dX5_asks_26 : decode cX5_asks 26 = .ok (.iconst 2, 1) := dk_5 (dk_at dksX5_asks_1 3 rfl rfl)
theorem dX5_asks_27 : decode cX5_asks 27 = .ok (.iload_n 2, 1) := dk_28 (dk_at dksX5_asks_1 4 rfl rfl)
theorem dX5_asks_28 : decode cX5_asks 28 = .ok (.iastore, 1) := dk_79 (dk_at dksX5_asks_1 5 rfl rfl)
theorem dX5_asks_29 : decode cX5_asks 29 = .ok (.aload_n 0, 1) := dk_42 (dk_at dksX5_asks_1 6 rfl rfl)
theorem dX5_asks_30 : decode cX5_asks 30 = .ok (.getfield 62, 3) := dk_180 0 62 (dk_at dksX5_asks_1 7 rfl rfl)
theorem dX5_asks_33 : decode cX5_asks 33 = .ok (.iconst 3, 1) := dk_6 (dk_at dksX5_asks_1 10 rfl rfl)
theorem dX5_asks_34 : decode cX5_asks 34 = .ok (.iload_n 3, 1) := dk_29 (dk_at dksX5_asks_1 11 rfl rfl)
theorem dX5_asks_35 : decode cX5_asks 35 = .ok (.iastore, 1) := dk_79 (dk_at dksX5_asks_1 12 rfl rfl)
theorem dX5_asks_36 : decode cX5_asks 36 = .ok (.aload_n 0, 1) := dk_42 (dk_at dksX5_asks_1 13 rfl rfl)
theorem dX5_asks_37 : decode cX5_asks 37 = .ok (.getfield 62, 3) := dk_180 0 62 (dk_at dksX5_asks_1 14 rfl rfl)
theorem dX5_asks_40 : decode cX5_asks 40 = .ok (.iconst 4, 1) := dk_7 (dk_at dksX5_asks_1 17 rfl rfl)
theorem dX5_asks_41 : decode cX5_asks 41 = .ok (.iload 4, 2) := dk_21 4 (dk_at dksX5_asks_1 18 rfl rfl)
theorem dX5_asks_43 : decode cX5_asks 43 = .ok (.iastore, 1) := dk_79 (dk_at dksX5_asks_1 20 rfl rfl)
theorem dX5_asks_44 : decode cX5_asks 44 = .ok (.aload_n 0, 1) := dk_42 (dk_at dksX5_asks_1 21 rfl rfl)
theorem dX5_asks_45 : decode cX5_asks 45 = .ok (.getfield 62, 3) := dk_180 0 62 (dk_at dksX5_asks_2 0 rfl rfl)
theorem dX5_asks_48 : decode cX5_asks 48 = .ok (.iconst 5, 1) := dk_8 (dk_at dksX5_asks_2 3 rfl rfl)
theorem dX5_asks_49 : decode cX5_asks 49 = .ok (.iconst 0, 1) := dk_3 (dk_at dksX5_asks_2 4 rfl rfl)
theorem dX5_asks_50 : decode cX5_asks 50 = .ok (.iastore, 1) := dk_79 (dk_at dksX5_asks_2 5 rfl rfl)
theorem dX5_asks_51 : decode cX5_asks 51 = .ok (.aload_n 0, 1) := dk_42 (dk_at dksX5_asks_2 6 rfl rfl)
theorem dX5_asks_52 : decode cX5_asks 52 = .ok (.getfield 62, 3) := dk_180 0 62 (dk_at dksX5_asks_2 7 rfl rfl)
theorem dX5_asks_55 : decode cX5_asks 55 = .ok (.bipush 6, 2) := dk_16 6 (dk_at dksX5_asks_2 10 rfl rfl)
theorem dX5_asks_57 : decode cX5_asks 57 = .ok (.iconst 0, 1) := dk_3 (dk_at dksX5_asks_2 12 rfl rfl)
theorem dX5_asks_58 : decode cX5_asks 58 = .ok (.iastore, 1) := dk_79 (dk_at dksX5_asks_2 13 rfl rfl)
theorem dX5_asks_59 : decode cX5_asks 59 = .ok (.aload_n 0, 1) := dk_42 (dk_at dksX5_asks_2 14 rfl rfl)
theorem dX5_asks_60 : decode cX5_asks 60 = .ok (.getfield 62, 3) := dk_180 0 62 (dk_at dksX5_asks_2 15 rfl rfl)
theorem dX5_asks_63 : decode cX5_asks 63 = .ok (.bipush 7, 2) := dk_16 7 (dk_at dksX5_asks_2 18 rfl rfl)
theorem dX5_asks_65 : decode cX5_asks 65 = .ok (.iconst 0, 1) := dk_3 (dk_at dksX5_asks_2 20 rfl rfl)
theorem dX5_asks_66 : decode cX5_asks 66 = .ok (.iastore, 1) := dk_79 (dk_at dksX5_asks_2 21 rfl rfl)
theorem dX5_asks_67 : decode cX5_asks 67 = .ok (.aload_n 0, 1) := dk_42 (dk_at dksX5_asks_2 22 rfl rfl)
theorem dX5_asks_68 : decode cX5_asks 68 = .ok (.getfield 62, 3) := dk_180 0 62 (dk_at dksX5_asks_3 0 rfl rfl)
theorem dX5_asks_71 : decode cX5_asks 71 = .ok (.bipush 8, 2) := dk_16 8 (dk_at dksX5_asks_3 3 rfl rfl)
theorem dX5_asks_73 : decode cX5_asks 73 = .ok (.iconst 0, 1) := dk_3 (dk_at dksX5_asks_3 5 rfl rfl)
theorem dX5_asks_74 : decode cX5_asks 74 = .ok (.iastore, 1) := dk_79 (dk_at dksX5_asks_3 6 rfl rfl)
theorem dX5_asks_75 : decode cX5_asks 75 = .ok (.return_, 1) := dk_177 (dk_at dksX5_asks_3 7 rfl rfl)
abbrev cX5_lawTells : ByteArray := prog_22_method_69_code
def yX5_lawTells : MethodName := ⟨RX5, "lawTells", "(III)I"⟩
def dkwX5_lawTells_1 : List UInt8 := [21, 4, 46, 42, 180, 0, 37, 21, 4, 46, 182, 1, 44, 3, 29, 182, 0, 122, 172]
abbrev dktX5_lawTells_1 : List UInt8 := dkwX5_lawTells_1 ++ []
def dkwX5_lawTells_0 : List UInt8 := [42, 27, 182, 1, 47, 54, 4, 42, 21, 4, 2, 160, 0, 7, 28, 167, 0, 22, 42, 3, 42, 180, 0, 34]
abbrev dktX5_lawTells_0 : List UInt8 := dkwX5_lawTells_0 ++ dktX5_lawTells_1
theorem dksX5_lawTells_0 : cX5_lawTells.data.toList.drop 0 = dktX5_lawTells_0 := by decide +kernel
theorem dksX5_lawTells_1 : cX5_lawTells.data.toList.drop 24 = dktX5_lawTells_1 := dk_seg dksX5_lawTells_0 24 rfl rfl
theorem dX5_lawTells_0 : decode cX5_lawTells 0 = .ok (.aload_n 0, 1) := dk_42 (dk_at dksX5_lawTells_0 0 rfl rfl)
theorem dX5_lawTells_1 : decode cX5_lawTells 1 = .ok (.iload_n 1, 1) := dk_27 (dk_at dksX5_lawTells_0 1 rfl rfl)
theorem dX5_lawTells_2 : decode cX5_lawTells 2 = .ok (.invokevirtual 303, 3) := dk_182 1 47 (dk_at dksX5_lawTells_0 2 rfl rfl)
theorem dX5_lawTells_5 : decode cX5_lawTells 5 = .ok (.istore 4, 2) := dk_54 4 (dk_at dksX5_lawTells_0 5 rfl rfl)
theorem dX5_lawTells_7 : decode cX5_lawTells 7 = .ok (.aload_n 0, 1) := dk_42 (dk_at dksX5_lawTells_0 7 rfl rfl)
theorem dX5_lawTells_8 : decode cX5_lawTells 8 = .ok (.iload 4, 2) := dk_21 4 (dk_at dksX5_lawTells_0 8 rfl rfl)
theorem dX5_lawTells_10 : decode cX5_lawTells 10 = .ok (.iconst (-1), 1) := dk_2 (dk_at dksX5_lawTells_0 10 rfl rfl)
theorem dX5_lawTells_11 : decode cX5_lawTells 11 = .ok (.if_icmp .ne 7, 3) := dk_160 0 7 (dk_at dksX5_lawTells_0 11 rfl rfl)
theorem dX5_lawTells_14 : decode cX5_lawTells 14 = .ok (.iload_n 2, 1) := dk_28 (dk_at dksX5_lawTells_0 14 rfl rfl)
theorem dX5_lawTells_15 : decode cX5_lawTells 15 = .ok (.goto 22, 3) := dk_167 0 22 (dk_at dksX5_lawTells_0 15 rfl rfl)
theorem dX5_lawTells_18 : decode cX5_lawTells 18 = .ok (.aload_n 0, 1) := dk_42 (dk_at dksX5_lawTells_0 18 rfl rfl)
theorem dX5_lawTells_19 : decode cX5_lawTells 19 = .ok (.iconst 0, 1) := dk_3 (dk_at dksX5_lawTells_0 19 rfl rfl)
theorem dX5_lawTells_20 : decode cX5_lawTells 20 = .ok (.aload_n 0, 1) := dk_42 (dk_at dksX5_lawTells_0 20 rfl rfl)
theorem dX5_lawTells_21 : decode cX5_lawTells 21 = .ok (.getfield 34, 3) := dk_180 0 34 (dk_at dksX5_lawTells_0 21 rfl rfl)
theorem dX5_lawTells_24 : decode cX5_lawTells 24 = .ok (.iload 4, 2) := dk_21 4 (dk_at dksX5_lawTells_1 0 rfl rfl)
theorem dX5_lawTells_26 : decode cX5_lawTells 26 = .ok (.iaload, 1) := dk_46 (dk_at dksX5_lawTells_1 2 rfl rfl)
theorem dX5_lawTells_27 : decode cX5_lawTells 27 = .ok (.aload_n 0, 1) := dk_42 (dk_at dksX5_lawTells_1 3 rfl rfl)
theorem dX5_lawTells_28 : decode cX5_lawTells 28 = .ok (.getfield 37, 3) := dk_180 0 37 (dk_at dksX5_lawTells_1 4 rfl rfl)
theorem dX5_lawTells_31 : decode cX5_lawTells 31 = .ok (.iload 4, 2) := dk_21 4 (dk_at dksX5_lawTells_1 7 rfl rfl)
theorem dX5_lawTells_33 : decode cX5_lawTells 33 = .ok (.iaload, 1) := dk_46 (dk_at dksX5_lawTells_1 9 rfl rfl)
theorem dX5_lawTells_34 : decode cX5_lawTells 34 = .ok (.invokevirtual 300, 3) := dk_182 1 44 (dk_at dksX5_lawTells_1 10 rfl rfl)
theorem dX5_lawTells_37 : decode cX5_lawTells 37 = .ok (.iconst 0, 1) := dk_3 (dk_at dksX5_lawTells_1 13 rfl rfl)
theorem dX5_lawTells_38 : decode cX5_lawTells 38 = .ok (.iload_n 3, 1) := dk_29 (dk_at dksX5_lawTells_1 14 rfl rfl)
theorem dX5_lawTells_39 : decode cX5_lawTells 39 = .ok (.invokevirtual 122, 3) := dk_182 0 122 (dk_at dksX5_lawTells_1 15 rfl rfl)
theorem dX5_lawTells_42 : decode cX5_lawTells 42 = .ok (.ireturn, 1) := dk_172 (dk_at dksX5_lawTells_1 18 rfl rfl)
abbrev cX5_lineOf : ByteArray := prog_22_method_67_code
def yX5_lineOf : MethodName := ⟨RX5, "lineOf", "(I)I"⟩
def dkwX5_lineOf_2 : List UInt8 := [180, 0, 40, 28, 46, 182, 1, 44, 153, 0, 5, 28, 172, 132, 2, 1, 167, 255, 196, 2, 172]
abbrev dktX5_lineOf_2 : List UInt8 := dkwX5_lineOf_2 ++ []
def dkwX5_lineOf_1 : List UInt8 := [180, 0, 37, 28, 46, 42, 180, 0, 40, 28, 46, 159, 0, 23, 42, 3, 42, 180, 0, 37, 28, 46, 42]
abbrev dktX5_lineOf_1 : List UInt8 := dkwX5_lineOf_1 ++ dktX5_lineOf_2
def dkwX5_lineOf_0 : List UInt8 := [3, 61, 28, 42, 180, 0, 28, 3, 46, 162, 0, 56, 42, 180, 0, 31, 28, 46, 27, 160, 0, 40, 42]
abbrev dktX5_lineOf_0 : List UInt8 := dkwX5_lineOf_0 ++ dktX5_lineOf_1
theorem dksX5_lineOf_0 : cX5_lineOf.data.toList.drop 0 = dktX5_lineOf_0 := by decide +kernel
theorem dksX5_lineOf_1 : cX5_lineOf.data.toList.drop 23 = dktX5_lineOf_1 := dk_seg dksX5_lineOf_0 23 rfl rfl
theorem dksX5_lineOf_2 : cX5_lineOf.data.toList.drop 46 = dktX5_lineOf_2 := dk_seg dksX5_lineOf_1 23 rfl rfl
theorem dX5_lineOf_0 : decode cX5_lineOf 0 = .ok (.iconst 0, 1) := dk_3 (dk_at dksX5_lineOf_0 0 rfl rfl)
theorem dX5_lineOf_1 : decode cX5_lineOf 1 = .ok (.istore_n 2, 1) := dk_61 (dk_at dksX5_lineOf_0 1 rfl rfl)
theorem dX5_lineOf_2 : decode cX5_lineOf 2 = .ok (.iload_n 2, 1) := dk_28 (dk_at dksX5_lineOf_0 2 rfl rfl)
theorem dX5_lineOf_3 : decode cX5_lineOf 3 = .ok (.aload_n 0, 1) := dk_42 (dk_at dksX5_lineOf_0 3 rfl rfl)
theorem dX5_lineOf_4 : decode cX5_lineOf 4 = .ok (.getfield 28, 3) := dk_180 0 28 (dk_at dksX5_lineOf_0 4 rfl rfl)
theorem dX5_lineOf_7 : decode cX5_lineOf 7 = .ok (.iconst 0, 1) := dk_3 (dk_at dksX5_lineOf_0 7 rfl rfl)
theorem dX5_lineOf_8 : decode cX5_lineOf 8 = .ok (.iaload, 1) := dk_46 (dk_at dksX5_lineOf_0 8 rfl rfl)
theorem dX5_lineOf_9 : decode cX5_lineOf 9 = .ok (.if_icmp .ge 56, 3) := dk_162 0 56 (dk_at dksX5_lineOf_0 9 rfl rfl)
theorem dX5_lineOf_12 : decode cX5_lineOf 12 = .ok (.aload_n 0, 1) := dk_42 (dk_at dksX5_lineOf_0 12 rfl rfl)
theorem dX5_lineOf_13 : decode cX5_lineOf 13 = .ok (.getfield 31, 3) := dk_180 0 31 (dk_at dksX5_lineOf_0 13 rfl rfl)
theorem dX5_lineOf_16 : decode cX5_lineOf 16 = .ok (.iload_n 2, 1) := dk_28 (dk_at dksX5_lineOf_0 16 rfl rfl)
theorem dX5_lineOf_17 : decode cX5_lineOf 17 = .ok (.iaload, 1) := dk_46 (dk_at dksX5_lineOf_0 17 rfl rfl)
theorem dX5_lineOf_18 : decode cX5_lineOf 18 = .ok (.iload_n 1, 1) := dk_27 (dk_at dksX5_lineOf_0 18 rfl rfl)
theorem dX5_lineOf_19 : decode cX5_lineOf 19 = .ok (.if_icmp .ne 40, 3) := dk_160 0 40 (dk_at dksX5_lineOf_0 19 rfl rfl)
theorem dX5_lineOf_22 : decode cX5_lineOf 22 = .ok (.aload_n 0, 1) := dk_42 (dk_at dksX5_lineOf_0 22 rfl rfl)
theorem dX5_lineOf_23 : decode cX5_lineOf 23 = .ok (.getfield 37, 3) := dk_180 0 37 (dk_at dksX5_lineOf_1 0 rfl rfl)
theorem dX5_lineOf_26 : decode cX5_lineOf 26 = .ok (.iload_n 2, 1) := dk_28 (dk_at dksX5_lineOf_1 3 rfl rfl)
theorem dX5_lineOf_27 : decode cX5_lineOf 27 = .ok (.iaload, 1) := dk_46 (dk_at dksX5_lineOf_1 4 rfl rfl)
theorem dX5_lineOf_28 : decode cX5_lineOf 28 = .ok (.aload_n 0, 1) := dk_42 (dk_at dksX5_lineOf_1 5 rfl rfl)
theorem dX5_lineOf_29 : decode cX5_lineOf 29 = .ok (.getfield 40, 3) := dk_180 0 40 (dk_at dksX5_lineOf_1 6 rfl rfl)
theorem dX5_lineOf_32 : decode cX5_lineOf 32 = .ok (.iload_n 2, 1) := dk_28 (dk_at dksX5_lineOf_1 9 rfl rfl)
theorem dX5_lineOf_33 : decode cX5_lineOf 33 = .ok (.iaload, 1) := dk_46 (dk_at dksX5_lineOf_1 10 rfl rfl)
theorem dX5_lineOf_34 : decode cX5_lineOf 34 = .ok (.if_icmp .eq 23, 3) := dk_159 0 23 (dk_at dksX5_lineOf_1 11 rfl rfl)
theorem dX5_lineOf_37 : decode cX5_lineOf 37 = .ok (.aload_n 0, 1) := dk_42 (dk_at dksX5_lineOf_1 14 rfl rfl)
theorem dX5_lineOf_38 : decode cX5_lineOf 38 = .ok (.iconst 0, 1) := dk_3 (dk_at dksX5_lineOf_1 15 rfl rfl)
theorem dX5_lineOf_39 : decode cX5_lineOf 39 = .ok (.aload_n 0, 1) := dk_42 (dk_at dksX5_lineOf_1 16 rfl rfl)
theorem dX5_lineOf_40 : decode cX5_lineOf 40 = .ok (.getfield 37, 3) := dk_180 0 37 (dk_at dksX5_lineOf_1 17 rfl rfl)
theorem dX5_lineOf_43 : decode cX5_lineOf 43 = .ok (.iload_n 2, 1) := dk_28 (dk_at dksX5_lineOf_1 20 rfl rfl)
theorem dX5_lineOf_44 : decode cX5_lineOf 44 = .ok (.iaload, 1) := dk_46 (dk_at dksX5_lineOf_1 21 rfl rfl)
theorem dX5_lineOf_45 : decode cX5_lineOf 45 = .ok (.aload_n 0, 1) := dk_42 (dk_at dksX5_lineOf_1 22 rfl rfl)
theorem dX5_lineOf_46 : decode cX5_lineOf 46 = .ok (.getfield 40, 3) := dk_180 0 40 (dk_at dksX5_lineOf_2 0 rfl rfl)
theorem dX5_lineOf_49 : decode cX5_lineOf 49 = .ok (.iload_n 2, 1) := dk_28 (dk_at dksX5_lineOf_2 3 rfl rfl)
theorem dX5_lineOf_50 : decode cX5_lineOf 50 = .ok (.iaload, 1) := dk_46 (dk_at dksX5_lineOf_2 4 rfl rfl)
theorem dX5_lineOf_51 : decode cX5_lineOf 51 = .ok (.invokevirtual 300, 3) := dk_182 1 44 (dk_at dksX5_lineOf_2 5 rfl rfl)
theorem dX5_lineOf_54 : decode cX5_lineOf 54 = .ok (.ifCond .eq 5, 3) := dk_153 0 5 (dk_at dksX5_lineOf_2 8 rfl rfl)
theorem dX5_lineOf_57 : decode cX5_lineOf 57 = .ok (.iload_n 2, 1) := dk_28 (dk_at dksX5_lineOf_2 11 rfl rfl)
theorem dX5_lineOf_58 : decode cX5_lineOf 58 = .ok (.ireturn, 1) := dk_172 (dk_at dksX5_lineOf_2 12 rfl rfl)
theorem dX5_lineOf_59 : decode cX5_lineOf 59 = .ok (.iinc 2 1, 3) := dk_132 2 1 (dk_at dksX5_lineOf_2 13 rfl rfl)
theorem dX5_lineOf_62 : decode cX5_lineOf 62 = .ok (.goto (-60), 3) := dk_167 255 196 (dk_at dksX5_lineOf_2 16 rfl rfl)
theorem dX5_lineOf_65 : decode cX5_lineOf 65 = .ok (.iconst (-1), 1) := dk_2 (dk_at dksX5_lineOf_2 19 rfl rfl)
theorem dX5_lineOf_66 : decode cX5_lineOf 66 = .ok (.ireturn, 1) := dk_172 (dk_at dksX5_lineOf_2 20 rfl rfl)
abbrev cX5_runs : ByteArray := prog_22_method_66_code
def yX5_runs : MethodName := ⟨RX5, "runs", "(III)I"⟩
def dkwX5_runs_7 : List UInt8 := [180, 0, 65, 21, 4, 46, 182, 1, 41, 79, 132, 5, 1, 167, 255, 95, 42, 180, 0, 65, 3, 46, 172]
abbrev dktX5_runs_7 : List UInt8 := dkwX5_runs_7 ++ []
def dkwX5_runs_6 : List UInt8 := [21, 4, 4, 100, 42, 42, 180, 0, 43, 21, 5, 46, 42, 180, 0, 65, 21, 4, 4, 100, 46, 42]
abbrev dktX5_runs_6 : List UInt8 := dkwX5_runs_6 ++ dktX5_runs_7
def dkwX5_runs_5 : List UInt8 := [42, 180, 0, 65, 21, 4, 4, 100, 46, 100, 79, 167, 0, 45, 21, 4, 4, 100, 54, 4, 42, 180, 0, 65]
abbrev dktX5_runs_5 : List UInt8 := dkwX5_runs_5 ++ dktX5_runs_6
def dkwX5_runs_4 : List UInt8 := [167, 0, 80, 42, 180, 0, 43, 21, 5, 46, 16, 9, 160, 0, 26, 42, 180, 0, 65, 21, 4, 4, 100, 4]
abbrev dktX5_runs_4 : List UInt8 := dkwX5_runs_4 ++ dktX5_runs_5
def dkwX5_runs_3 : List UInt8 := [167, 0, 15, 42, 180, 0, 62, 42, 180, 0, 46, 21, 5, 46, 46, 79, 21, 4, 4, 96, 54, 4]
abbrev dktX5_runs_3 : List UInt8 := dkwX5_runs_3 ++ dktX5_runs_4
def dkwX5_runs_2 : List UInt8 := [180, 0, 65, 21, 4, 42, 180, 0, 43, 21, 5, 46, 154, 0, 13, 42, 180, 0, 46, 21, 5, 46]
abbrev dktX5_runs_2 : List UInt8 := dkwX5_runs_2 ++ dktX5_runs_3
def dkwX5_runs_1 : List UInt8 := [42, 180, 0, 43, 21, 5, 46, 153, 0, 14, 42, 180, 0, 43, 21, 5, 46, 4, 160, 0, 51, 42]
abbrev dktX5_runs_1 : List UInt8 := dkwX5_runs_1 ++ dktX5_runs_2
def dkwX5_runs_0 : List UInt8 := [3, 54, 4, 17, 1, 144, 27, 104, 28, 96, 54, 5, 21, 5, 17, 1, 144, 27, 104, 29, 96, 162, 0, 155]
abbrev dktX5_runs_0 : List UInt8 := dkwX5_runs_0 ++ dktX5_runs_1
theorem dksX5_runs_0 : cX5_runs.data.toList.drop 0 = dktX5_runs_0 := by decide +kernel
theorem dksX5_runs_1 : cX5_runs.data.toList.drop 24 = dktX5_runs_1 := dk_seg dksX5_runs_0 24 rfl rfl
theorem dksX5_runs_2 : cX5_runs.data.toList.drop 46 = dktX5_runs_2 := dk_seg dksX5_runs_1 22 rfl rfl
theorem dksX5_runs_3 : cX5_runs.data.toList.drop 68 = dktX5_runs_3 := dk_seg dksX5_runs_2 22 rfl rfl
theorem dksX5_runs_4 : cX5_runs.data.toList.drop 90 = dktX5_runs_4 := dk_seg dksX5_runs_3 22 rfl rfl
theorem dksX5_runs_5 : cX5_runs.data.toList.drop 114 = dktX5_runs_5 := dk_seg dksX5_runs_4 24 rfl rfl
theorem dksX5_runs_6 : cX5_runs.data.toList.drop 138 = dktX5_runs_6 := dk_seg dksX5_runs_5 24 rfl rfl
theorem dksX5_runs_7 : cX5_runs.data.toList.drop 160 = dktX5_runs_7 := dk_seg dksX5_runs_6 22 rfl rfl
theorem dX5_runs_0 : decode cX5_runs 0 = .ok (.iconst 0, 1) := dk_3 (dk_at dksX5_runs_0 0 rfl rfl)
theorem dX5_runs_1 : decode cX5_runs 1 = .ok (.istore 4, 2) := dk_54 4 (dk_at dksX5_runs_0 1 rfl rfl)
theorem dX5_runs_3 : decode cX5_runs 3 = .ok (.sipush 400, 3) := dk_17 1 144 (dk_at dksX5_runs_0 3 rfl rfl)
theorem dX5_runs_6 : decode cX5_runs 6 = .ok (.iload_n 1, 1) := dk_27 (dk_at dksX5_runs_0 6 rfl rfl)
theorem dX5_runs_7 : decode cX5_runs 7 = .ok (.imul, 1) := dk_104 (dk_at dksX5_runs_0 7 rfl rfl)
theorem dX5_runs_8 : decode cX5_runs 8 = .ok (.iload_n 2, 1) := dk_28 (dk_at dksX5_runs_0 8 rfl rfl)
theorem dX5_runs_9 : decode cX5_runs 9 = .ok (.iadd, 1) := dk_96 (dk_at dksX5_runs_0 9 rfl rfl)
theorem dX5_runs_10 : decode cX5_runs 10 = .ok (.istore 5, 2) := dk_54 5 (dk_at dksX5_runs_0 10 rfl rfl)
theorem dX5_runs_12 : decode cX5_runs 12 = .ok (.iload 5, 2) := dk_21 5 (dk_at dksX5_runs_0 12 rfl rfl)
theorem dX5_runs_14 : decode cX5_runs 14 = .ok (.sipush 400, 3) := dk_17 1 144 (dk_at dksX5_runs_0 14 rfl rfl)
theorem dX5_runs_17 : decode cX5_runs 17 = .ok (.iload_n 1, 1) := dk_27 (dk_at dksX5_runs_0 17 rfl rfl)
theorem dX5_runs_18 : decode cX5_runs 18 = .ok (.imul, 1) := dk_104 (dk_at dksX5_runs_0 18 rfl rfl)
theorem dX5_runs_19 : decode cX5_runs 19 = .ok (.iload_n 3, 1) := dk_29 (dk_at dksX5_runs_0 19 rfl rfl)
theorem dX5_runs_20 : decode cX5_runs 20 = .ok (.iadd, 1) := dk_96 (dk_at dksX5_runs_0 20 rfl rfl)
theorem dX5_runs_21 : decode cX5_runs 21 = .ok (.if_icmp .ge 155, 3) := dk_162 0 155 (dk_at dksX5_runs_0 21 rfl rfl)
theorem dX5_runs_24 : decode cX5_runs 24 = .ok (.aload_n 0, 1) := dk_42 (dk_at dksX5_runs_1 0 rfl rfl)
theorem dX5_runs_25 : decode cX5_runs 25 = .ok (.getfield 43, 3) := dk_180 0 43 (dk_at dksX5_runs_1 1 rfl rfl)
theorem dX5_runs_28 : decode cX5_runs 28 = .ok (.iload 5, 2) := dk_21 5 (dk_at dksX5_runs_1 4 rfl rfl)
theorem dX5_runs_30 : decode cX5_runs 30 = .ok (.iaload, 1) := dk_46 (dk_at dksX5_runs_1 6 rfl rfl)
theorem dX5_runs_31 : decode cX5_runs 31 = .ok (.ifCond .eq 14, 3) := dk_153 0 14 (dk_at dksX5_runs_1 7 rfl rfl)
theorem dX5_runs_34 : decode cX5_runs 34 = .ok (.aload_n 0, 1) := dk_42 (dk_at dksX5_runs_1 10 rfl rfl)
theorem dX5_runs_35 : decode cX5_runs 35 = .ok (.getfield 43, 3) := dk_180 0 43 (dk_at dksX5_runs_1 11 rfl rfl)
theorem dX5_runs_38 : decode cX5_runs 38 = .ok (.iload 5, 2) := dk_21 5 (dk_at dksX5_runs_1 14 rfl rfl)
theorem dX5_runs_40 : decode cX5_runs 40 = .ok (.iaload, 1) := dk_46 (dk_at dksX5_runs_1 16 rfl rfl)
theorem dX5_runs_41 : decode cX5_runs 41 = .ok (.iconst 1, 1) := dk_4 (dk_at dksX5_runs_1 17 rfl rfl)
theorem dX5_runs_42 : decode cX5_runs 42 = .ok (.if_icmp .ne 51, 3) := dk_160 0 51 (dk_at dksX5_runs_1 18 rfl rfl)
theorem dX5_runs_45 : decode cX5_runs 45 = .ok (.aload_n 0, 1) := dk_42 (dk_at dksX5_runs_1 21 rfl rfl)
theorem dX5_runs_46 : decode cX5_runs 46 = .ok (.getfield 65, 3) := dk_180 0 65 (dk_at dksX5_runs_2 0 rfl rfl)
theorem dX5_runs_49 : decode cX5_runs 49 = .ok (.iload 4, 2) := dk_21 4 (dk_at dksX5_runs_2 3 rfl rfl)
theorem dX5_runs_51 : decode cX5_runs 51 = .ok (.aload_n 0, 1) := dk_42 (dk_at dksX5_runs_2 5 rfl rfl)
theorem dX5_runs_52 : decode cX5_runs 52 = .ok (.getfield 43, 3) := dk_180 0 43 (dk_at dksX5_runs_2 6 rfl rfl)
theorem dX5_runs_55 : decode cX5_runs 55 = .ok (.iload 5, 2) := dk_21 5 (dk_at dksX5_runs_2 9 rfl rfl)
theorem dX5_runs_57 : decode cX5_runs 57 = .ok (.iaload, 1) := dk_46 (dk_at dksX5_runs_2 11 rfl rfl)
theorem dX5_runs_58 : decode cX5_runs 58 = .ok (.ifCond .ne 13, 3) := dk_154 0 13 (dk_at dksX5_runs_2 12 rfl rfl)
theorem dX5_runs_61 : decode cX5_runs 61 = .ok (.aload_n 0, 1) := dk_42 (dk_at dksX5_runs_2 15 rfl rfl)
theorem dX5_runs_62 : decode cX5_runs 62 = .ok (.getfield 46, 3) := dk_180 0 46 (dk_at dksX5_runs_2 16 rfl rfl)
theorem dX5_runs_65 : decode cX5_runs 65 = .ok (.iload 5, 2) := dk_21 5 (dk_at dksX5_runs_2 19 rfl rfl)
theorem dX5_runs_67 : decode cX5_runs 67 = .ok (.iaload, 1) := dk_46 (dk_at dksX5_runs_2 21 rfl rfl)
theorem dX5_runs_68 : decode cX5_runs 68 = .ok (.goto 15, 3) := dk_167 0 15 (dk_at dksX5_runs_3 0 rfl rfl)
theorem dX5_runs_71 : decode cX5_runs 71 = .ok (.aload_n 0, 1) := dk_42 (dk_at dksX5_runs_3 3 rfl rfl)
theorem dX5_runs_72 : decode cX5_runs 72 = .ok (.getfield 62, 3) := dk_180 0 62 (dk_at dksX5_runs_3 4 rfl rfl)
theorem dX5_runs_75 : decode cX5_runs 75 = .ok (.aload_n 0, 1) := dk_42 (dk_at dksX5_runs_3 7 rfl rfl)
theorem dX5_runs_76 : decode cX5_runs 76 = .ok (.getfield 46, 3) := dk_180 0 46 (dk_at dksX5_runs_3 8 rfl rfl)
theorem dX5_runs_79 : decode cX5_runs 79 = .ok (.iload 5, 2) := dk_21 5 (dk_at dksX5_runs_3 11 rfl rfl)
theorem dX5_runs_81 : decode cX5_runs 81 = .ok (.iaload, 1) := dk_46 (dk_at dksX5_runs_3 13 rfl rfl)
theorem dX5_runs_82 : decode cX5_runs 82 = .ok (.iaload, 1) := dk_46 (dk_at dksX5_runs_3 14 rfl rfl)
theorem dX5_runs_83 : decode cX5_runs 83 = .ok (.iastore, 1) := dk_79 (dk_at dksX5_runs_3 15 rfl rfl)
theorem dX5_runs_84 : decode cX5_runs 84 = .ok (.iload 4, 2) := dk_21 4 (dk_at dksX5_runs_3 16 rfl rfl)
theorem dX5_runs_86 : decode cX5_runs 86 = .ok (.iconst 1, 1) := dk_4 (dk_at dksX5_runs_3 18 rfl rfl)
theorem dX5_runs_87 : decode cX5_runs 87 = .ok (.iadd, 1) := dk_96 (dk_at dksX5_runs_3 19 rfl rfl)
theorem dX5_runs_88 : decode cX5_runs 88 = .ok (.istore 4, 2) := dk_54 4 (dk_at dksX5_runs_3 20 rfl rfl)
theorem dX5_runs_90 : decode cX5_runs 90 = .ok (.goto 80, 3) := dk_167 0 80 (dk_at dksX5_runs_4 0 rfl rfl)
theorem dX5_runs_93 : decode cX5_runs 93 = .ok (.aload_n 0, 1) := dk_42 (dk_at dksX5_runs_4 3 rfl rfl)
theorem dX5_runs_94 : decode cX5_runs 94 = .ok (.getfield 43, 3) := dk_180 0 43 (dk_at dksX5_runs_4 4 rfl rfl)
theorem dX5_runs_97 : decode cX5_runs 97 = .ok (.iload 5, 2) := dk_21 5 (dk_at dksX5_runs_4 7 rfl rfl)
theorem dX5_runs_99 : decode cX5_runs 99 = .ok (.iaload, 1) := dk_46 (dk_at dksX5_runs_4 9 rfl rfl)
theorem dX5_runs_100 : decode cX5_runs 100 = .ok (.bipush 9, 2) := dk_16 9 (dk_at dksX5_runs_4 10 rfl rfl)
theorem dX5_runs_102 : decode cX5_runs 102 = .ok (.if_icmp .ne 26, 3) := dk_160 0 26 (dk_at dksX5_runs_4 12 rfl rfl)
theorem dX5_runs_105 : decode cX5_runs 105 = .ok (.aload_n 0, 1) := dk_42 (dk_at dksX5_runs_4 15 rfl rfl)
theorem dX5_runs_106 : decode cX5_runs 106 = .ok (.getfield 65, 3) := dk_180 0 65 (dk_at dksX5_runs_4 16 rfl rfl)
theorem dX5_runs_109 : decode cX5_runs 109 = .ok (.iload 4, 2) := dk_21 4 (dk_at dksX5_runs_4 19 rfl rfl)
theorem dX5_runs_111 : decode cX5_runs 111 = .ok (.iconst 1, 1) := dk_4 (dk_at dksX5_runs_4 21 rfl rfl)
theorem dX5_runs_112 : decode cX5_runs 112 = .ok (.isub, 1) := dk_100 (dk_at dksX5_runs_4 22 rfl rfl)
theorem dX5_runs_113 : decode cX5_runs 113 = .ok (.iconst 1, 1) := dk_4 (dk_at dksX5_runs_4 23 rfl rfl)
theorem dX5_runs_114 : decode cX5_runs 114 = .ok (.aload_n 0, 1) := dk_42 (dk_at dksX5_runs_5 0 rfl rfl)
theorem dX5_runs_115 : decode cX5_runs 115 = .ok (.getfield 65, 3) := dk_180 0 65 (dk_at dksX5_runs_5 1 rfl rfl)
theorem dX5_runs_118 : decode cX5_runs 118 = .ok (.iload 4, 2) := dk_21 4 (dk_at dksX5_runs_5 4 rfl rfl)
theorem dX5_runs_120 : decode cX5_runs 120 = .ok (.iconst 1, 1) := dk_4 (dk_at dksX5_runs_5 6 rfl rfl)
theorem dX5_runs_121 : decode cX5_runs 121 = .ok (.isub, 1) := dk_100 (dk_at dksX5_runs_5 7 rfl rfl)
theorem dX5_runs_122 : decode cX5_runs 122 = .ok (.iaload, 1) := dk_46 (dk_at dksX5_runs_5 8 rfl rfl)
theorem dX5_runs_123 : decode cX5_runs 123 = .ok (.isub, 1) := dk_100 (dk_at dksX5_runs_5 9 rfl rfl)
theorem dX5_runs_124 : decode cX5_runs 124 = .ok (.iastore, 1) := dk_79 (dk_at dksX5_runs_5 10 rfl rfl)
theorem dX5_runs_125 : decode cX5_runs 125 = .ok (.goto 45, 3) := dk_167 0 45 (dk_at dksX5_runs_5 11 rfl rfl)
theorem dX5_runs_128 : decode cX5_runs 128 = .ok (.iload 4, 2) := dk_21 4 (dk_at dksX5_runs_5 14 rfl rfl)
theorem dX5_runs_130 : decode cX5_runs 130 = .ok (.iconst 1, 1) := dk_4 (dk_at dksX5_runs_5 16 rfl rfl)
theorem dX5_runs_131 : decode cX5_runs 131 = .ok (.isub, 1) := dk_100 (dk_at dksX5_runs_5 17 rfl rfl)
theorem dX5_runs_132 : decode cX5_runs 132 = .ok (.istore 4, 2) := dk_54 4 (dk_at dksX5_runs_5 18 rfl rfl)
theorem dX5_runs_134 : decode cX5_runs 134 = .ok (.aload_n 0, 1) := dk_42 (dk_at dksX5_runs_5 20 rfl rfl)
theorem dX5_runs_135 : decode cX5_runs 135 = .ok (.getfield 65, 3) := dk_180 0 65 (dk_at dksX5_runs_5 21 rfl rfl)
theorem dX5_runs_138 : decode cX5_runs 138 = .ok (.iload 4, 2) := dk_21 4 (dk_at dksX5_runs_6 0 rfl rfl)
theorem dX5_runs_140 : decode cX5_runs 140 = .ok (.iconst 1, 1) := dk_4 (dk_at dksX5_runs_6 2 rfl rfl)
theorem dX5_runs_141 : decode cX5_runs 141 = .ok (.isub, 1) := dk_100 (dk_at dksX5_runs_6 3 rfl rfl)
theorem dX5_runs_142 : decode cX5_runs 142 = .ok (.aload_n 0, 1) := dk_42 (dk_at dksX5_runs_6 4 rfl rfl)
theorem dX5_runs_143 : decode cX5_runs 143 = .ok (.aload_n 0, 1) := dk_42 (dk_at dksX5_runs_6 5 rfl rfl)
theorem dX5_runs_144 : decode cX5_runs 144 = .ok (.getfield 43, 3) := dk_180 0 43 (dk_at dksX5_runs_6 6 rfl rfl)
theorem dX5_runs_147 : decode cX5_runs 147 = .ok (.iload 5, 2) := dk_21 5 (dk_at dksX5_runs_6 9 rfl rfl)
theorem dX5_runs_149 : decode cX5_runs 149 = .ok (.iaload, 1) := dk_46 (dk_at dksX5_runs_6 11 rfl rfl)
theorem dX5_runs_150 : decode cX5_runs 150 = .ok (.aload_n 0, 1) := dk_42 (dk_at dksX5_runs_6 12 rfl rfl)
theorem dX5_runs_151 : decode cX5_runs 151 = .ok (.getfield 65, 3) := dk_180 0 65 (dk_at dksX5_runs_6 13 rfl rfl)
theorem dX5_runs_154 : decode cX5_runs 154 = .ok (.iload 4, 2) := dk_21 4 (dk_at dksX5_runs_6 16 rfl rfl)
theorem dX5_runs_156 : decode cX5_runs 156 = .ok (.iconst 1, 1) := dk_4 (dk_at dksX5_runs_6 18 rfl rfl)
theorem dX5_runs_157 : decode cX5_runs 157 = .ok (.isub, 1) := dk_100 (dk_at dksX5_runs_6 19 rfl rfl)
theorem dX5_runs_158 : decode cX5_runs 158 = .ok (.iaload, 1) := dk_46 (dk_at dksX5_runs_6 20 rfl rfl)
theorem dX5_runs_159 : decode cX5_runs 159 = .ok (.aload_n 0, 1) := dk_42 (dk_at dksX5_runs_6 21 rfl rfl)
theorem dX5_runs_160 : decode cX5_runs 160 = .ok (.getfield 65, 3) := dk_180 0 65 (dk_at dksX5_runs_7 0 rfl rfl)
theorem dX5_runs_163 : decode cX5_runs 163 = .ok (.iload 4, 2) := dk_21 4 (dk_at dksX5_runs_7 3 rfl rfl)
theorem dX5_runs_165 : decode cX5_runs 165 = .ok (.iaload, 1) := dk_46 (dk_at dksX5_runs_7 5 rfl rfl)
theorem dX5_runs_166 : decode cX5_runs 166 = .ok (.invokevirtual 297, 3) := dk_182 1 41 (dk_at dksX5_runs_7 6 rfl rfl)
theorem dX5_runs_169 : decode cX5_runs 169 = .ok (.iastore, 1) := dk_79 (dk_at dksX5_runs_7 9 rfl rfl)
theorem dX5_runs_170 : decode cX5_runs 170 = .ok (.iinc 5 1, 3) := dk_132 5 1 (dk_at dksX5_runs_7 10 rfl rfl)
theorem dX5_runs_173 : decode cX5_runs 173 = .ok (.goto (-161), 3) := dk_167 255 95 (dk_at dksX5_runs_7 13 rfl rfl)
theorem dX5_runs_176 : decode cX5_runs 176 = .ok (.aload_n 0, 1) := dk_42 (dk_at dksX5_runs_7 16 rfl rfl)
theorem dX5_runs_177 : decode cX5_runs 177 = .ok (.getfield 65, 3) := dk_180 0 65 (dk_at dksX5_runs_7 17 rfl rfl)
theorem dX5_runs_180 : decode cX5_runs 180 = .ok (.iconst 0, 1) := dk_3 (dk_at dksX5_runs_7 20 rfl rfl)
theorem dX5_runs_181 : decode cX5_runs 181 = .ok (.iaload, 1) := dk_46 (dk_at dksX5_runs_7 21 rfl rfl)
theorem dX5_runs_182 : decode cX5_runs 182 = .ok (.ireturn, 1) := dk_172 (dk_at dksX5_runs_7 22 rfl rfl)
abbrev cX5_twoOf : ByteArray := prog_22_method_65_code
def yX5_twoOf : MethodName := ⟨RX5, "twoOf", "(III)I"⟩
def dkwX5_twoOf_4 : List UInt8 := [104, 167, 0, 14, 28, 29, 96, 158, 0, 7, 4, 167, 0, 4, 3, 172]
abbrev dktX5_twoOf_4 : List UInt8 := dkwX5_twoOf_4 ++ []
def dkwX5_twoOf_3 : List UInt8 := [16, 8, 160, 0, 14, 28, 29, 164, 0, 7, 4, 167, 0, 4, 3, 172, 27, 16, 10, 160, 0, 9, 28, 29]
abbrev dktX5_twoOf_3 : List UInt8 := dkwX5_twoOf_3 ++ dktX5_twoOf_4
def dkwX5_twoOf_2 : List UInt8 := [167, 0, 4, 3, 172, 27, 16, 7, 160, 0, 14, 28, 29, 160, 0, 7, 4, 167, 0, 4, 3, 172, 27]
abbrev dktX5_twoOf_2 : List UInt8 := dkwX5_twoOf_2 ++ dktX5_twoOf_3
def dkwX5_twoOf_1 : List UInt8 := [29, 104, 172, 27, 8, 160, 0, 7, 28, 29, 108, 172, 27, 16, 6, 160, 0, 14, 28, 29, 162, 0, 7, 4]
abbrev dktX5_twoOf_1 : List UInt8 := dkwX5_twoOf_1 ++ dktX5_twoOf_2
def dkwX5_twoOf_0 : List UInt8 := [27, 5, 160, 0, 7, 28, 29, 96, 172, 27, 6, 160, 0, 7, 28, 29, 100, 172, 27, 7, 160, 0, 7, 28]
abbrev dktX5_twoOf_0 : List UInt8 := dkwX5_twoOf_0 ++ dktX5_twoOf_1
theorem dksX5_twoOf_0 : cX5_twoOf.data.toList.drop 0 = dktX5_twoOf_0 := by decide +kernel
theorem dksX5_twoOf_1 : cX5_twoOf.data.toList.drop 24 = dktX5_twoOf_1 := dk_seg dksX5_twoOf_0 24 rfl rfl
theorem dksX5_twoOf_2 : cX5_twoOf.data.toList.drop 48 = dktX5_twoOf_2 := dk_seg dksX5_twoOf_1 24 rfl rfl
theorem dksX5_twoOf_3 : cX5_twoOf.data.toList.drop 71 = dktX5_twoOf_3 := dk_seg dksX5_twoOf_2 23 rfl rfl
theorem dksX5_twoOf_4 : cX5_twoOf.data.toList.drop 95 = dktX5_twoOf_4 := dk_seg dksX5_twoOf_3 24 rfl rfl
theorem dX5_twoOf_0 : decode cX5_twoOf 0 = .ok (.iload_n 1, 1) := dk_27 (dk_at dksX5_twoOf_0 0 rfl rfl)
theorem dX5_twoOf_1 : decode cX5_twoOf 1 = .ok (.iconst 2, 1) := dk_5 (dk_at dksX5_twoOf_0 1 rfl rfl)
theorem dX5_twoOf_2 : decode cX5_twoOf 2 = .ok (.if_icmp .ne 7, 3) := dk_160 0 7 (dk_at dksX5_twoOf_0 2 rfl rfl)
theorem dX5_twoOf_5 : decode cX5_twoOf 5 = .ok (.iload_n 2, 1) := dk_28 (dk_at dksX5_twoOf_0 5 rfl rfl)
theorem dX5_twoOf_6 : decode cX5_twoOf 6 = .ok (.iload_n 3, 1) := dk_29 (dk_at dksX5_twoOf_0 6 rfl rfl)
theorem dX5_twoOf_7 : decode cX5_twoOf 7 = .ok (.iadd, 1) := dk_96 (dk_at dksX5_twoOf_0 7 rfl rfl)
theorem dX5_twoOf_8 : decode cX5_twoOf 8 = .ok (.ireturn, 1) := dk_172 (dk_at dksX5_twoOf_0 8 rfl rfl)
theorem dX5_twoOf_9 : decode cX5_twoOf 9 = .ok (.iload_n 1, 1) := dk_27 (dk_at dksX5_twoOf_0 9 rfl rfl)
theorem dX5_twoOf_10 : decode cX5_twoOf 10 = .ok (.iconst 3, 1) := dk_6 (dk_at dksX5_twoOf_0 10 rfl rfl)
theorem dX5_twoOf_11 : decode cX5_twoOf 11 = .ok (.if_icmp .ne 7, 3) := dk_160 0 7 (dk_at dksX5_twoOf_0 11 rfl rfl)
theorem dX5_twoOf_14 : decode cX5_twoOf 14 = .ok (.iload_n 2, 1) := dk_28 (dk_at dksX5_twoOf_0 14 rfl rfl)
theorem dX5_twoOf_15 : decode cX5_twoOf 15 = .ok (.iload_n 3, 1) := dk_29 (dk_at dksX5_twoOf_0 15 rfl rfl)
theorem dX5_twoOf_16 : decode cX5_twoOf 16 = .ok (.isub, 1) := dk_100 (dk_at dksX5_twoOf_0 16 rfl rfl)
theorem dX5_twoOf_17 : decode cX5_twoOf 17 = .ok (.ireturn, 1) := dk_172 (dk_at dksX5_twoOf_0 17 rfl rfl)
theorem dX5_twoOf_18 : decode cX5_twoOf 18 = .ok (.iload_n 1, 1) := dk_27 (dk_at dksX5_twoOf_0 18 rfl rfl)
theorem dX5_twoOf_19 : decode cX5_twoOf 19 = .ok (.iconst 4, 1) := dk_7 (dk_at dksX5_twoOf_0 19 rfl rfl)
theorem dX5_twoOf_20 : decode cX5_twoOf 20 = .ok (.if_icmp .ne 7, 3) := dk_160 0 7 (dk_at dksX5_twoOf_0 20 rfl rfl)
theorem dX5_twoOf_23 : decode cX5_twoOf 23 = .ok (.iload_n 2, 1) := dk_28 (dk_at dksX5_twoOf_0 23 rfl rfl)
theorem dX5_twoOf_24 : decode cX5_twoOf 24 = .ok (.iload_n 3, 1) := dk_29 (dk_at dksX5_twoOf_1 0 rfl rfl)
theorem dX5_twoOf_25 : decode cX5_twoOf 25 = .ok (.imul, 1) := dk_104 (dk_at dksX5_twoOf_1 1 rfl rfl)
theorem dX5_twoOf_26 : decode cX5_twoOf 26 = .ok (.ireturn, 1) := dk_172 (dk_at dksX5_twoOf_1 2 rfl rfl)
theorem dX5_twoOf_27 : decode cX5_twoOf 27 = .ok (.iload_n 1, 1) := dk_27 (dk_at dksX5_twoOf_1 3 rfl rfl)
theorem dX5_twoOf_28 : decode cX5_twoOf 28 = .ok (.iconst 5, 1) := dk_8 (dk_at dksX5_twoOf_1 4 rfl rfl)
theorem dX5_twoOf_29 : decode cX5_twoOf 29 = .ok (.if_icmp .ne 7, 3) := dk_160 0 7 (dk_at dksX5_twoOf_1 5 rfl rfl)
theorem dX5_twoOf_32 : decode cX5_twoOf 32 = .ok (.iload_n 2, 1) := dk_28 (dk_at dksX5_twoOf_1 8 rfl rfl)
theorem dX5_twoOf_33 : decode cX5_twoOf 33 = .ok (.iload_n 3, 1) := dk_29 (dk_at dksX5_twoOf_1 9 rfl rfl)
theorem dX5_twoOf_34 : decode cX5_twoOf 34 = .ok (.idiv, 1) := dk_108 (dk_at dksX5_twoOf_1 10 rfl rfl)
theorem dX5_twoOf_35 : decode cX5_twoOf 35 = .ok (.ireturn, 1) := dk_172 (dk_at dksX5_twoOf_1 11 rfl rfl)
theorem dX5_twoOf_36 : decode cX5_twoOf 36 = .ok (.iload_n 1, 1) := dk_27 (dk_at dksX5_twoOf_1 12 rfl rfl)
theorem dX5_twoOf_37 : decode cX5_twoOf 37 = .ok (.bipush 6, 2) := dk_16 6 (dk_at dksX5_twoOf_1 13 rfl rfl)
theorem dX5_twoOf_39 : decode cX5_twoOf 39 = .ok (.if_icmp .ne 14, 3) := dk_160 0 14 (dk_at dksX5_twoOf_1 15 rfl rfl)
theorem dX5_twoOf_42 : decode cX5_twoOf 42 = .ok (.iload_n 2, 1) := dk_28 (dk_at dksX5_twoOf_1 18 rfl rfl)
theorem dX5_twoOf_43 : decode cX5_twoOf 43 = .ok (.iload_n 3, 1) := dk_29 (dk_at dksX5_twoOf_1 19 rfl rfl)
theorem dX5_twoOf_44 : decode cX5_twoOf 44 = .ok (.if_icmp .ge 7, 3) := dk_162 0 7 (dk_at dksX5_twoOf_1 20 rfl rfl)
theorem dX5_twoOf_47 : decode cX5_twoOf 47 = .ok (.iconst 1, 1) := dk_4 (dk_at dksX5_twoOf_1 23 rfl rfl)
theorem dX5_twoOf_48 : decode cX5_twoOf 48 = .ok (.goto 4, 3) := dk_167 0 4 (dk_at dksX5_twoOf_2 0 rfl rfl)
theorem dX5_twoOf_51 : decode cX5_twoOf 51 = .ok (.iconst 0, 1) := dk_3 (dk_at dksX5_twoOf_2 3 rfl rfl)
theorem dX5_twoOf_52 : decode cX5_twoOf 52 = .ok (.ireturn, 1) := dk_172 (dk_at dksX5_twoOf_2 4 rfl rfl)
theorem dX5_twoOf_53 : decode cX5_twoOf 53 = .ok (.iload_n 1, 1) := dk_27 (dk_at dksX5_twoOf_2 5 rfl rfl)
theorem dX5_twoOf_54 : decode cX5_twoOf 54 = .ok (.bipush 7, 2) := dk_16 7 (dk_at dksX5_twoOf_2 6 rfl rfl)
theorem dX5_twoOf_56 : decode cX5_twoOf 56 = .ok (.if_icmp .ne 14, 3) := dk_160 0 14 (dk_at dksX5_twoOf_2 8 rfl rfl)
theorem dX5_twoOf_59 : decode cX5_twoOf 59 = .ok (.iload_n 2, 1) := dk_28 (dk_at dksX5_twoOf_2 11 rfl rfl)
theorem dX5_twoOf_60 : decode cX5_twoOf 60 = .ok (.iload_n 3, 1) := dk_29 (dk_at dksX5_twoOf_2 12 rfl rfl)
theorem dX5_twoOf_61 : decode cX5_twoOf 61 = .ok (.if_icmp .ne 7, 3) := dk_160 0 7 (dk_at dksX5_twoOf_2 13 rfl rfl)
theorem dX5_twoOf_64 : decode cX5_twoOf 64 = .ok (.iconst 1, 1) := dk_4 (dk_at dksX5_twoOf_2 16 rfl rfl)
theorem dX5_twoOf_65 : decode cX5_twoOf 65 = .ok (.goto 4, 3) := dk_167 0 4 (dk_at dksX5_twoOf_2 17 rfl rfl)
theorem dX5_twoOf_68 : decode cX5_twoOf 68 = .ok (.iconst 0, 1) := dk_3 (dk_at dksX5_twoOf_2 20 rfl rfl)
theorem dX5_twoOf_69 : decode cX5_twoOf 69 = .ok (.ireturn, 1) := dk_172 (dk_at dksX5_twoOf_2 21 rfl rfl)
theorem dX5_twoOf_70 : decode cX5_twoOf 70 = .ok (.iload_n 1, 1) := dk_27 (dk_at dksX5_twoOf_2 22 rfl rfl)
theorem dX5_twoOf_71 : decode cX5_twoOf 71 = .ok (.bipush 8, 2) := dk_16 8 (dk_at dksX5_twoOf_3 0 rfl rfl)
theorem dX5_twoOf_73 : decode cX5_twoOf 73 = .ok (.if_icmp .ne 14, 3) := dk_160 0 14 (dk_at dksX5_twoOf_3 2 rfl rfl)
theorem dX5_twoOf_76 : decode cX5_twoOf 76 = .ok (.iload_n 2, 1) := dk_28 (dk_at dksX5_twoOf_3 5 rfl rfl)
theorem dX5_twoOf_77 : decode cX5_twoOf 77 = .ok (.iload_n 3, 1) := dk_29 (dk_at dksX5_twoOf_3 6 rfl rfl)
theorem dX5_twoOf_78 : decode cX5_twoOf 78 = .ok (.if_icmp .le 7, 3) := dk_164 0 7 (dk_at dksX5_twoOf_3 7 rfl rfl)
theorem dX5_twoOf_81 : decode cX5_twoOf 81 = .ok (.iconst 1, 1) := dk_4 (dk_at dksX5_twoOf_3 10 rfl rfl)
theorem dX5_twoOf_82 : decode cX5_twoOf 82 = .ok (.goto 4, 3) := dk_167 0 4 (dk_at dksX5_twoOf_3 11 rfl rfl)
theorem dX5_twoOf_85 : decode cX5_twoOf 85 = .ok (.iconst 0, 1) := dk_3 (dk_at dksX5_twoOf_3 14 rfl rfl)
theorem dX5_twoOf_86 : decode cX5_twoOf 86 = .ok (.ireturn, 1) := dk_172 (dk_at dksX5_twoOf_3 15 rfl rfl)
theorem dX5_twoOf_87 : decode cX5_twoOf 87 = .ok (.iload_n 1, 1) := dk_27 (dk_at dksX5_twoOf_3 16 rfl rfl)
theorem dX5_twoOf_88 : decode cX5_twoOf 88 = .ok (.bipush 10, 2) := dk_16 10 (dk_at dksX5_twoOf_3 17 rfl rfl)
theorem dX5_twoOf_90 : decode cX5_twoOf 90 = .ok (.if_icmp .ne 9, 3) := dk_160 0 9 (dk_at dksX5_twoOf_3 19 rfl rfl)
theorem dX5_twoOf_93 : decode cX5_twoOf 93 = .ok (.iload_n 2, 1) := dk_28 (dk_at dksX5_twoOf_3 22 rfl rfl)
theorem dX5_twoOf_94 : decode cX5_twoOf 94 = .ok (.iload_n 3, 1) := dk_29 (dk_at dksX5_twoOf_3 23 rfl rfl)
theorem dX5_twoOf_95 : decode cX5_twoOf 95 = .ok (.imul, 1) := dk_104 (dk_at dksX5_twoOf_4 0 rfl rfl)
theorem dX5_twoOf_96 : decode cX5_twoOf 96 = .ok (.goto 14, 3) := dk_167 0 14 (dk_at dksX5_twoOf_4 1 rfl rfl)
theorem dX5_twoOf_99 : decode cX5_twoOf 99 = .ok (.iload_n 2, 1) := dk_28 (dk_at dksX5_twoOf_4 4 rfl rfl)
theorem dX5_twoOf_100 : decode cX5_twoOf 100 = .ok (.iload_n 3, 1) := dk_29 (dk_at dksX5_twoOf_4 5 rfl rfl)
theorem dX5_twoOf_101 : decode cX5_twoOf 101 = .ok (.iadd, 1) := dk_96 (dk_at dksX5_twoOf_4 6 rfl rfl)
theorem dX5_twoOf_102 : decode cX5_twoOf 102 = .ok (.ifCond .le 7, 3) := dk_158 0 7 (dk_at dksX5_twoOf_4 7 rfl rfl)
theorem dX5_twoOf_105 : decode cX5_twoOf 105 = .ok (.iconst 1, 1) := dk_4 (dk_at dksX5_twoOf_4 10 rfl rfl)
theorem dX5_twoOf_106 : decode cX5_twoOf 106 = .ok (.goto 4, 3) := dk_167 0 4 (dk_at dksX5_twoOf_4 11 rfl rfl)
theorem dX5_twoOf_109 : decode cX5_twoOf 109 = .ok (.iconst 0, 1) := dk_3 (dk_at dksX5_twoOf_4 14 rfl rfl)
theorem dX5_twoOf_110 : decode cX5_twoOf 110 = .ok (.ireturn, 1) := dk_172 (dk_at dksX5_twoOf_4 15 rfl rfl)
abbrev cX5_eats : ByteArray := prog_22_method_94_code
def yX5_eats : MethodName := ⟨RX5, "eats", "()I"⟩
def dkwX5_eats_2 : List UInt8 := [3, 46, 181, 0, 102, 132, 2, 1, 167, 255, 204, 27, 172]
abbrev dktX5_eats_2 : List UInt8 := dkwX5_eats_2 ++ []
def dkwX5_eats_1 : List UInt8 := [4, 96, 60, 42, 180, 0, 99, 2, 159, 0, 6, 167, 0, 18, 42, 28, 181, 0, 99, 42, 42, 180, 0, 7]
abbrev dktX5_eats_1 : List UInt8 := dkwX5_eats_1 ++ dktX5_eats_2
def dkwX5_eats_0 : List UInt8 := [3, 60, 3, 61, 28, 42, 180, 0, 119, 162, 0, 50, 42, 28, 182, 1, 131, 154, 0, 6, 167, 0, 33, 27]
abbrev dktX5_eats_0 : List UInt8 := dkwX5_eats_0 ++ dktX5_eats_1
theorem dksX5_eats_0 : cX5_eats.data.toList.drop 0 = dktX5_eats_0 := by decide +kernel
theorem dksX5_eats_1 : cX5_eats.data.toList.drop 24 = dktX5_eats_1 := dk_seg dksX5_eats_0 24 rfl rfl
theorem dksX5_eats_2 : cX5_eats.data.toList.drop 48 = dktX5_eats_2 := dk_seg dksX5_eats_1 24 rfl rfl
theorem dX5_eats_0 : decode cX5_eats 0 = .ok (.iconst 0, 1) := dk_3 (dk_at dksX5_eats_0 0 rfl rfl)
theorem dX5_eats_1 : decode cX5_eats 1 = .ok (.istore_n 1, 1) := dk_60 (dk_at dksX5_eats_0 1 rfl rfl)
theorem dX5_eats_2 : decode cX5_eats 2 = .ok (.iconst 0, 1) := dk_3 (dk_at dksX5_eats_0 2 rfl rfl)
theorem dX5_eats_3 : decode cX5_eats 3 = .ok (.istore_n 2, 1) := dk_61 (dk_at dksX5_eats_0 3 rfl rfl)
theorem dX5_eats_4 : decode cX5_eats 4 = .ok (.iload_n 2, 1) := dk_28 (dk_at dksX5_eats_0 4 rfl rfl)
theorem dX5_eats_5 : decode cX5_eats 5 = .ok (.aload_n 0, 1) := dk_42 (dk_at dksX5_eats_0 5 rfl rfl)
theorem dX5_eats_6 : decode cX5_eats 6 = .ok (.getfield 119, 3) := dk_180 0 119 (dk_at dksX5_eats_0 6 rfl rfl)
theorem dX5_eats_9 : decode cX5_eats 9 = .ok (.if_icmp .ge 50, 3) := dk_162 0 50 (dk_at dksX5_eats_0 9 rfl rfl)
theorem dX5_eats_12 : decode cX5_eats 12 = .ok (.aload_n 0, 1) := dk_42 (dk_at dksX5_eats_0 12 rfl rfl)
theorem dX5_eats_13 : decode cX5_eats 13 = .ok (.iload_n 2, 1) := dk_28 (dk_at dksX5_eats_0 13 rfl rfl)
theorem dX5_eats_14 : decode cX5_eats 14 = .ok (.invokevirtual 387, 3) := dk_182 1 131 (dk_at dksX5_eats_0 14 rfl rfl)
theorem dX5_eats_17 : decode cX5_eats 17 = .ok (.ifCond .ne 6, 3) := dk_154 0 6 (dk_at dksX5_eats_0 17 rfl rfl)
theorem dX5_eats_20 : decode cX5_eats 20 = .ok (.goto 33, 3) := dk_167 0 33 (dk_at dksX5_eats_0 20 rfl rfl)
theorem dX5_eats_23 : decode cX5_eats 23 = .ok (.iload_n 1, 1) := dk_27 (dk_at dksX5_eats_0 23 rfl rfl)
theorem dX5_eats_24 : decode cX5_eats 24 = .ok (.iconst 1, 1) := dk_4 (dk_at dksX5_eats_1 0 rfl rfl)
theorem dX5_eats_25 : decode cX5_eats 25 = .ok (.iadd, 1) := dk_96 (dk_at dksX5_eats_1 1 rfl rfl)
theorem dX5_eats_26 : decode cX5_eats 26 = .ok (.istore_n 1, 1) := dk_60 (dk_at dksX5_eats_1 2 rfl rfl)
theorem dX5_eats_27 : decode cX5_eats 27 = .ok (.aload_n 0, 1) := dk_42 (dk_at dksX5_eats_1 3 rfl rfl)
theorem dX5_eats_28 : decode cX5_eats 28 = .ok (.getfield 99, 3) := dk_180 0 99 (dk_at dksX5_eats_1 4 rfl rfl)
theorem dX5_eats_31 : decode cX5_eats 31 = .ok (.iconst (-1), 1) := dk_2 (dk_at dksX5_eats_1 7 rfl rfl)
theorem dX5_eats_32 : decode cX5_eats 32 = .ok (.if_icmp .eq 6, 3) := dk_159 0 6 (dk_at dksX5_eats_1 8 rfl rfl)
theorem dX5_eats_35 : decode cX5_eats 35 = .ok (.goto 18, 3) := dk_167 0 18 (dk_at dksX5_eats_1 11 rfl rfl)
theorem dX5_eats_38 : decode cX5_eats 38 = .ok (.aload_n 0, 1) := dk_42 (dk_at dksX5_eats_1 14 rfl rfl)
theorem dX5_eats_39 : decode cX5_eats 39 = .ok (.iload_n 2, 1) := dk_28 (dk_at dksX5_eats_1 15 rfl rfl)
theorem dX5_eats_40 : decode cX5_eats 40 = .ok (.putfield 99, 3) := dk_181 0 99 (dk_at dksX5_eats_1 16 rfl rfl)
theorem dX5_eats_43 : decode cX5_eats 43 = .ok (.aload_n 0, 1) := dk_42 (dk_at dksX5_eats_1 19 rfl rfl)
theorem dX5_eats_44 : decode cX5_eats 44 = .ok (.aload_n 0, 1) := dk_42 (dk_at dksX5_eats_1 20 rfl rfl)
theorem dX5_eats_45 : decode cX5_eats 45 = .ok (.getfield 7, 3) := dk_180 0 7 (dk_at dksX5_eats_1 21 rfl rfl)
theorem dX5_eats_48 : decode cX5_eats 48 = .ok (.iconst 0, 1) := dk_3 (dk_at dksX5_eats_2 0 rfl rfl)
theorem dX5_eats_49 : decode cX5_eats 49 = .ok (.iaload, 1) := dk_46 (dk_at dksX5_eats_2 1 rfl rfl)
theorem dX5_eats_50 : decode cX5_eats 50 = .ok (.putfield 102, 3) := dk_181 0 102 (dk_at dksX5_eats_2 2 rfl rfl)
theorem dX5_eats_53 : decode cX5_eats 53 = .ok (.iinc 2 1, 3) := dk_132 2 1 (dk_at dksX5_eats_2 5 rfl rfl)
theorem dX5_eats_56 : decode cX5_eats 56 = .ok (.goto (-52), 3) := dk_167 255 204 (dk_at dksX5_eats_2 8 rfl rfl)
theorem dX5_eats_59 : decode cX5_eats 59 = .ok (.iload_n 1, 1) := dk_27 (dk_at dksX5_eats_2 11 rfl rfl)
theorem dX5_eats_60 : decode cX5_eats 60 = .ok (.ireturn, 1) := dk_172 (dk_at dksX5_eats_2 12 rfl rfl)
abbrev cX5_isHungry : ByteArray := prog_22_method_86_code
def yX5_isHungry : MethodName := ⟨RX5, "isHungry", "(I)Z"⟩
def dkwX5_isHungry_3 : List UInt8 := [27, 182, 1, 113, 62, 167, 255, 205, 28, 157, 0, 5, 3, 172, 42, 8, 27, 28, 182, 1, 60, 4, 172]
abbrev dktX5_isHungry_3 : List UInt8 := dkwX5_isHungry_3 ++ []
def dkwX5_isHungry_2 : List UInt8 := [180, 0, 7, 16, 15, 29, 96, 42, 180, 0, 7, 16, 15, 29, 96, 46, 4, 100, 79, 28, 4, 100, 61, 42]
abbrev dktX5_isHungry_2 : List UInt8 := dkwX5_isHungry_2 ++ dktX5_isHungry_3
def dkwX5_isHungry_1 : List UInt8 := [62, 28, 158, 0, 53, 29, 2, 159, 0, 48, 42, 29, 42, 27, 29, 2, 182, 1, 92, 182, 1, 95, 42]
abbrev dktX5_isHungry_1 : List UInt8 := dkwX5_isHungry_1 ++ dktX5_isHungry_2
def dkwX5_isHungry_0 : List UInt8 := [42, 27, 42, 27, 182, 1, 107, 182, 1, 110, 61, 28, 158, 0, 11, 42, 27, 182, 1, 113, 167, 0, 4, 2]
abbrev dktX5_isHungry_0 : List UInt8 := dkwX5_isHungry_0 ++ dktX5_isHungry_1
theorem dksX5_isHungry_0 : cX5_isHungry.data.toList.drop 0 = dktX5_isHungry_0 := by decide +kernel
theorem dksX5_isHungry_1 : cX5_isHungry.data.toList.drop 24 = dktX5_isHungry_1 := dk_seg dksX5_isHungry_0 24 rfl rfl
theorem dksX5_isHungry_2 : cX5_isHungry.data.toList.drop 47 = dktX5_isHungry_2 := dk_seg dksX5_isHungry_1 23 rfl rfl
theorem dksX5_isHungry_3 : cX5_isHungry.data.toList.drop 71 = dktX5_isHungry_3 := dk_seg dksX5_isHungry_2 24 rfl rfl
theorem dX5_isHungry_0 : decode cX5_isHungry 0 = .ok (.aload_n 0, 1) := dk_42 (dk_at dksX5_isHungry_0 0 rfl rfl)
theorem dX5_isHungry_1 : decode cX5_isHungry 1 = .ok (.iload_n 1, 1) := dk_27 (dk_at dksX5_isHungry_0 1 rfl rfl)
theorem dX5_isHungry_2 : decode cX5_isHungry 2 = .ok (.aload_n 0, 1) := dk_42 (dk_at dksX5_isHungry_0 2 rfl rfl)
theorem dX5_isHungry_3 : decode cX5_isHungry 3 = .ok (.iload_n 1, 1) := dk_27 (dk_at dksX5_isHungry_0 3 rfl rfl)
theorem dX5_isHungry_4 : decode cX5_isHungry 4 = .ok (.invokevirtual 363, 3) := dk_182 1 107 (dk_at dksX5_isHungry_0 4 rfl rfl)
theorem dX5_isHungry_7 : decode cX5_isHungry 7 = .ok (.invokevirtual 366, 3) := dk_182 1 110 (dk_at dksX5_isHungry_0 7 rfl rfl)
theorem dX5_isHungry_10 : decode cX5_isHungry 10 = .ok (.istore_n 2, 1) := dk_61 (dk_at dksX5_isHungry_0 10 rfl rfl)
theorem dX5_isHungry_11 : decode cX5_isHungry 11 = .ok (.iload_n 2, 1) := dk_28 (dk_at dksX5_isHungry_0 11 rfl rfl)
theorem dX5_isHungry_12 : decode cX5_isHungry 12 = .ok (.ifCond .le 11, 3) := dk_158 0 11 (dk_at dksX5_isHungry_0 12 rfl rfl)
theorem dX5_isHungry_15 : decode cX5_isHungry 15 = .ok (.aload_n 0, 1) := dk_42 (dk_at dksX5_isHungry_0 15 rfl rfl)
theorem dX5_isHungry_16 : decode cX5_isHungry 16 = .ok (.iload_n 1, 1) := dk_27 (dk_at dksX5_isHungry_0 16 rfl rfl)
theorem dX5_isHungry_17 : decode cX5_isHungry 17 = .ok (.invokevirtual 369, 3) := dk_182 1 113 (dk_at dksX5_isHungry_0 17 rfl rfl)
theorem dX5_isHungry_20 : decode cX5_isHungry 20 = .ok (.goto 4, 3) := dk_167 0 4 (dk_at dksX5_isHungry_0 20 rfl rfl)
theorem dX5_isHungry_23 : decode cX5_isHungry 23 = .ok (.iconst (-1), 1) := dk_2 (dk_at dksX5_isHungry_0 23 rfl rfl)
theorem dX5_isHungry_24 : decode cX5_isHungry 24 = .ok (.istore_n 3, 1) := dk_62 (dk_at dksX5_isHungry_1 0 rfl rfl)
theorem dX5_isHungry_25 : decode cX5_isHungry 25 = .ok (.iload_n 2, 1) := dk_28 (dk_at dksX5_isHungry_1 1 rfl rfl)
theorem dX5_isHungry_26 : decode cX5_isHungry 26 = .ok (.ifCond .le 53, 3) := dk_158 0 53 (dk_at dksX5_isHungry_1 2 rfl rfl)
theorem dX5_isHungry_29 : decode cX5_isHungry 29 = .ok (.iload_n 3, 1) := dk_29 (dk_at dksX5_isHungry_1 5 rfl rfl)
theorem dX5_isHungry_30 : decode cX5_isHungry 30 = .ok (.iconst (-1), 1) := dk_2 (dk_at dksX5_isHungry_1 6 rfl rfl)
theorem dX5_isHungry_31 : decode cX5_isHungry 31 = .ok (.if_icmp .eq 48, 3) := dk_159 0 48 (dk_at dksX5_isHungry_1 7 rfl rfl)
theorem dX5_isHungry_34 : decode cX5_isHungry 34 = .ok (.aload_n 0, 1) := dk_42 (dk_at dksX5_isHungry_1 10 rfl rfl)
theorem dX5_isHungry_35 : decode cX5_isHungry 35 = .ok (.iload_n 3, 1) := dk_29 (dk_at dksX5_isHungry_1 11 rfl rfl)
theorem dX5_isHungry_36 : decode cX5_isHungry 36 = .ok (.aload_n 0, 1) := dk_42 (dk_at dksX5_isHungry_1 12 rfl rfl)
theorem dX5_isHungry_37 : decode cX5_isHungry 37 = .ok (.iload_n 1, 1) := dk_27 (dk_at dksX5_isHungry_1 13 rfl rfl)
theorem dX5_isHungry_38 : decode cX5_isHungry 38 = .ok (.iload_n 3, 1) := dk_29 (dk_at dksX5_isHungry_1 14 rfl rfl)
theorem dX5_isHungry_39 : decode cX5_isHungry 39 = .ok (.iconst (-1), 1) := dk_2 (dk_at dksX5_isHungry_1 15 rfl rfl)
theorem dX5_isHungry_40 : decode cX5_isHungry 40 = .ok (.invokevirtual 348, 3) := dk_182 1 92 (dk_at dksX5_isHungry_1 16 rfl rfl)
theorem dX5_isHungry_43 : decode cX5_isHungry 43 = .ok (.invokevirtual 351, 3) := dk_182 1 95 (dk_at dksX5_isHungry_1 19 rfl rfl)
theorem dX5_isHungry_46 : decode cX5_isHungry 46 = .ok (.aload_n 0, 1) := dk_42 (dk_at dksX5_isHungry_1 22 rfl rfl)
theorem dX5_isHungry_47 : decode cX5_isHungry 47 = .ok (.getfield 7, 3) := dk_180 0 7 (dk_at dksX5_isHungry_2 0 rfl rfl)
theorem dX5_isHungry_50 : decode cX5_isHungry 50 = .ok (.bipush 15, 2) := dk_16 15 (dk_at dksX5_isHungry_2 3 rfl rfl)
theorem dX5_isHungry_52 : decode cX5_isHungry 52 = .ok (.iload_n 3, 1) := dk_29 (dk_at dksX5_isHungry_2 5 rfl rfl)
theorem dX5_isHungry_53 : decode cX5_isHungry 53 = .ok (.iadd, 1) := dk_96 (dk_at dksX5_isHungry_2 6 rfl rfl)
theorem dX5_isHungry_54 : decode cX5_isHungry 54 = .ok (.aload_n 0, 1) := dk_42 (dk_at dksX5_isHungry_2 7 rfl rfl)
theorem dX5_isHungry_55 : decode cX5_isHungry 55 = .ok (.getfield 7, 3) := dk_180 0 7 (dk_at dksX5_isHungry_2 8 rfl rfl)
theorem dX5_isHungry_58 : decode cX5_isHungry 58 = .ok (.bipush 15, 2) := dk_16 15 (dk_at dksX5_isHungry_2 11 rfl rfl)
theorem dX5_isHungry_60 : decode cX5_isHungry 60 = .ok (.iload_n 3, 1) := dk_29 (dk_at dksX5_isHungry_2 13 rfl rfl)
theorem dX5_isHungry_61 : decode cX5_isHungry 61 = .ok (.iadd, 1) := dk_96 (dk_at dksX5_isHungry_2 14 rfl rfl)
theorem dX5_isHungry_62 : decode cX5_isHungry 62 = .ok (.iaload, 1) := dk_46 (dk_at dksX5_isHungry_2 15 rfl rfl)
theorem dX5_isHungry_63 : decode cX5_isHungry 63 = .ok (.iconst 1, 1) := dk_4 (dk_at dksX5_isHungry_2 16 rfl rfl)
theorem dX5_isHungry_64 : decode cX5_isHungry 64 = .ok (.isub, 1) := dk_100 (dk_at dksX5_isHungry_2 17 rfl rfl)
theorem dX5_isHungry_65 : decode cX5_isHungry 65 = .ok (.iastore, 1) := dk_79 (dk_at dksX5_isHungry_2 18 rfl rfl)
theorem dX5_isHungry_66 : decode cX5_isHungry 66 = .ok (.iload_n 2, 1) := dk_28 (dk_at dksX5_isHungry_2 19 rfl rfl)
theorem dX5_isHungry_67 : decode cX5_isHungry 67 = .ok (.iconst 1, 1) := dk_4 (dk_at dksX5_isHungry_2 20 rfl rfl)
theorem dX5_isHungry_68 : decode cX5_isHungry 68 = .ok (.isub, 1) := dk_100 (dk_at dksX5_isHungry_2 21 rfl rfl)
theorem dX5_isHungry_69 : decode cX5_isHungry 69 = .ok (.istore_n 2, 1) := dk_61 (dk_at dksX5_isHungry_2 22 rfl rfl)
theorem dX5_isHungry_70 : decode cX5_isHungry 70 = .ok (.aload_n 0, 1) := dk_42 (dk_at dksX5_isHungry_2 23 rfl rfl)
theorem dX5_isHungry_71 : decode cX5_isHungry 71 = .ok (.iload_n 1, 1) := dk_27 (dk_at dksX5_isHungry_3 0 rfl rfl)
theorem dX5_isHungry_72 : decode cX5_isHungry 72 = .ok (.invokevirtual 369, 3) := dk_182 1 113 (dk_at dksX5_isHungry_3 1 rfl rfl)
theorem dX5_isHungry_75 : decode cX5_isHungry 75 = .ok (.istore_n 3, 1) := dk_62 (dk_at dksX5_isHungry_3 4 rfl rfl)
theorem dX5_isHungry_76 : decode cX5_isHungry 76 = .ok (.goto (-51), 3) := dk_167 255 205 (dk_at dksX5_isHungry_3 5 rfl rfl)
theorem dX5_isHungry_79 : decode cX5_isHungry 79 = .ok (.iload_n 2, 1) := dk_28 (dk_at dksX5_isHungry_3 8 rfl rfl)
theorem dX5_isHungry_80 : decode cX5_isHungry 80 = .ok (.ifCond .gt 5, 3) := dk_157 0 5 (dk_at dksX5_isHungry_3 9 rfl rfl)
theorem dX5_isHungry_83 : decode cX5_isHungry 83 = .ok (.iconst 0, 1) := dk_3 (dk_at dksX5_isHungry_3 12 rfl rfl)
theorem dX5_isHungry_84 : decode cX5_isHungry 84 = .ok (.ireturn, 1) := dk_172 (dk_at dksX5_isHungry_3 13 rfl rfl)
theorem dX5_isHungry_85 : decode cX5_isHungry 85 = .ok (.aload_n 0, 1) := dk_42 (dk_at dksX5_isHungry_3 14 rfl rfl)
theorem dX5_isHungry_86 : decode cX5_isHungry 86 = .ok (.iconst 5, 1) := dk_8 (dk_at dksX5_isHungry_3 15 rfl rfl)
theorem dX5_isHungry_87 : decode cX5_isHungry 87 = .ok (.iload_n 1, 1) := dk_27 (dk_at dksX5_isHungry_3 16 rfl rfl)
theorem dX5_isHungry_88 : decode cX5_isHungry 88 = .ok (.iload_n 2, 1) := dk_28 (dk_at dksX5_isHungry_3 17 rfl rfl)
theorem dX5_isHungry_89 : decode cX5_isHungry 89 = .ok (.invokevirtual 316, 3) := dk_182 1 60 (dk_at dksX5_isHungry_3 18 rfl rfl)
theorem dX5_isHungry_92 : decode cX5_isHungry 92 = .ok (.iconst 1, 1) := dk_4 (dk_at dksX5_isHungry_3 21 rfl rfl)
theorem dX5_isHungry_93 : decode cX5_isHungry 93 = .ok (.ireturn, 1) := dk_172 (dk_at dksX5_isHungry_3 22 rfl rfl)
abbrev cX5_wantOf : ByteArray := prog_22_method_71_code
def yX5_wantOf : MethodName := ⟨RX5, "wantOf", "(I)I"⟩
def dkwX5_wantOf_1 : List UInt8 := [4, 42, 180, 0, 7, 16, 76, 27, 96, 46, 16, 20, 182, 1, 54, 172]
abbrev dktX5_wantOf_1 : List UInt8 := dkwX5_wantOf_1 ++ []
def dkwX5_wantOf_0 : List UInt8 := [42, 3, 3, 3, 3, 182, 1, 50, 42, 180, 0, 62, 8, 42, 180, 0, 7, 16, 76, 27, 96, 46, 79, 42]
abbrev dktX5_wantOf_0 : List UInt8 := dkwX5_wantOf_0 ++ dktX5_wantOf_1
theorem dksX5_wantOf_0 : cX5_wantOf.data.toList.drop 0 = dktX5_wantOf_0 := by decide +kernel
theorem dksX5_wantOf_1 : cX5_wantOf.data.toList.drop 24 = dktX5_wantOf_1 := dk_seg dksX5_wantOf_0 24 rfl rfl
theorem dX5_wantOf_0 : decode cX5_wantOf 0 = .ok (.aload_n 0, 1) := dk_42 (dk_at dksX5_wantOf_0 0 rfl rfl)
theorem dX5_wantOf_1 : decode cX5_wantOf 1 = .ok (.iconst 0, 1) := dk_3 (dk_at dksX5_wantOf_0 1 rfl rfl)
theorem dX5_wantOf_2 : decode cX5_wantOf 2 = .ok (.iconst 0, 1) := dk_3 (dk_at dksX5_wantOf_0 2 rfl rfl)
theorem dX5_wantOf_3 : decode cX5_wantOf 3 = .ok (.iconst 0, 1) := dk_3 (dk_at dksX5_wantOf_0 3 rfl rfl)
theorem dX5_wantOf_4 : decode cX5_wantOf 4 = .ok (.iconst 0, 1) := dk_3 (dk_at dksX5_wantOf_0 4 rfl rfl)
theorem dX5_wantOf_5 : decode cX5_wantOf 5 = .ok (.invokevirtual 306, 3) := dk_182 1 50 (dk_at dksX5_wantOf_0 5 rfl rfl)
theorem dX5_wantOf_8 : decode cX5_wantOf 8 = .ok (.aload_n 0, 1) := dk_42 (dk_at dksX5_wantOf_0 8 rfl rfl)
theorem dX5_wantOf_9 : decode cX5_wantOf 9 = .ok (.getfield 62, 3) := dk_180 0 62 (dk_at dksX5_wantOf_0 9 rfl rfl)
theorem dX5_wantOf_12 : decode cX5_wantOf 12 = .ok (.iconst 5, 1) := dk_8 (dk_at dksX5_wantOf_0 12 rfl rfl)
theorem dX5_wantOf_13 : decode cX5_wantOf 13 = .ok (.aload_n 0, 1) := dk_42 (dk_at dksX5_wantOf_0 13 rfl rfl)
theorem dX5_wantOf_14 : decode cX5_wantOf 14 = .ok (.getfield 7, 3) := dk_180 0 7 (dk_at dksX5_wantOf_0 14 rfl rfl)
theorem dX5_wantOf_17 : decode cX5_wantOf 17 = .ok (.bipush 76, 2) := dk_16 76 (dk_at dksX5_wantOf_0 17 rfl rfl)
theorem dX5_wantOf_19 : decode cX5_wantOf 19 = .ok (.iload_n 1, 1) := dk_27 (dk_at dksX5_wantOf_0 19 rfl rfl)
theorem dX5_wantOf_20 : decode cX5_wantOf 20 = .ok (.iadd, 1) := dk_96 (dk_at dksX5_wantOf_0 20 rfl rfl)
theorem dX5_wantOf_21 : decode cX5_wantOf 21 = .ok (.iaload, 1) := dk_46 (dk_at dksX5_wantOf_0 21 rfl rfl)
theorem dX5_wantOf_22 : decode cX5_wantOf 22 = .ok (.iastore, 1) := dk_79 (dk_at dksX5_wantOf_0 22 rfl rfl)
theorem dX5_wantOf_23 : decode cX5_wantOf 23 = .ok (.aload_n 0, 1) := dk_42 (dk_at dksX5_wantOf_0 23 rfl rfl)
theorem dX5_wantOf_24 : decode cX5_wantOf 24 = .ok (.iconst 1, 1) := dk_4 (dk_at dksX5_wantOf_1 0 rfl rfl)
theorem dX5_wantOf_25 : decode cX5_wantOf 25 = .ok (.aload_n 0, 1) := dk_42 (dk_at dksX5_wantOf_1 1 rfl rfl)
theorem dX5_wantOf_26 : decode cX5_wantOf 26 = .ok (.getfield 7, 3) := dk_180 0 7 (dk_at dksX5_wantOf_1 2 rfl rfl)
theorem dX5_wantOf_29 : decode cX5_wantOf 29 = .ok (.bipush 76, 2) := dk_16 76 (dk_at dksX5_wantOf_1 5 rfl rfl)
theorem dX5_wantOf_31 : decode cX5_wantOf 31 = .ok (.iload_n 1, 1) := dk_27 (dk_at dksX5_wantOf_1 7 rfl rfl)
theorem dX5_wantOf_32 : decode cX5_wantOf 32 = .ok (.iadd, 1) := dk_96 (dk_at dksX5_wantOf_1 8 rfl rfl)
theorem dX5_wantOf_33 : decode cX5_wantOf 33 = .ok (.iaload, 1) := dk_46 (dk_at dksX5_wantOf_1 9 rfl rfl)
theorem dX5_wantOf_34 : decode cX5_wantOf 34 = .ok (.bipush 20, 2) := dk_16 20 (dk_at dksX5_wantOf_1 10 rfl rfl)
theorem dX5_wantOf_36 : decode cX5_wantOf 36 = .ok (.invokevirtual 310, 3) := dk_182 1 54 (dk_at dksX5_wantOf_1 12 rfl rfl)
theorem dX5_wantOf_39 : decode cX5_wantOf 39 = .ok (.ireturn, 1) := dk_172 (dk_at dksX5_wantOf_1 15 rfl rfl)
abbrev cX5_leftByPath : ByteArray := prog_22_method_85_code
def yX5_leftByPath : MethodName := ⟨RX5, "leftByPath", "(II)I"⟩
def dkwX5_leftByPath_4 : List UInt8 := [132, 5, 1, 167, 255, 169, 29, 172]
abbrev dktX5_leftByPath_4 : List UInt8 := dkwX5_leftByPath_4 ++ []
def dkwX5_leftByPath_3 : List UInt8 := [27, 21, 7, 182, 1, 104, 154, 0, 5, 2, 172, 42, 27, 21, 6, 182, 1, 101, 54, 7, 167, 255, 221]
abbrev dktX5_leftByPath_3 : List UInt8 := dkwX5_leftByPath_3 ++ dktX5_leftByPath_4
def dkwX5_leftByPath_2 : List UInt8 := [42, 27, 21, 6, 182, 1, 101, 54, 7, 29, 158, 0, 37, 21, 7, 2, 159, 0, 31, 29, 4, 100, 62, 42]
abbrev dktX5_leftByPath_2 : List UInt8 := dkwX5_leftByPath_2 ++ dktX5_leftByPath_3
def dkwX5_leftByPath_1 : List UInt8 := [180, 0, 56, 21, 4, 21, 5, 96, 46, 54, 6, 42, 21, 6, 182, 1, 79, 153, 0, 7, 2, 167, 0, 10]
abbrev dktX5_leftByPath_1 : List UInt8 := dkwX5_leftByPath_1 ++ dktX5_leftByPath_2
def dkwX5_leftByPath_0 : List UInt8 := [28, 62, 16, 9, 27, 104, 54, 4, 4, 54, 5, 21, 5, 42, 180, 0, 56, 21, 4, 46, 163, 0, 81, 42]
abbrev dktX5_leftByPath_0 : List UInt8 := dkwX5_leftByPath_0 ++ dktX5_leftByPath_1
theorem dksX5_leftByPath_0 : cX5_leftByPath.data.toList.drop 0 = dktX5_leftByPath_0 := by decide +kernel
theorem dksX5_leftByPath_1 : cX5_leftByPath.data.toList.drop 24 = dktX5_leftByPath_1 := dk_seg dksX5_leftByPath_0 24 rfl rfl
theorem dksX5_leftByPath_2 : cX5_leftByPath.data.toList.drop 48 = dktX5_leftByPath_2 := dk_seg dksX5_leftByPath_1 24 rfl rfl
theorem dksX5_leftByPath_3 : cX5_leftByPath.data.toList.drop 72 = dktX5_leftByPath_3 := dk_seg dksX5_leftByPath_2 24 rfl rfl
theorem dksX5_leftByPath_4 : cX5_leftByPath.data.toList.drop 95 = dktX5_leftByPath_4 := dk_seg dksX5_leftByPath_3 23 rfl rfl
theorem dX5_leftByPath_0 : decode cX5_leftByPath 0 = .ok (.iload_n 2, 1) := dk_28 (dk_at dksX5_leftByPath_0 0 rfl rfl)
theorem dX5_leftByPath_1 : decode cX5_leftByPath 1 = .ok (.istore_n 3, 1) := dk_62 (dk_at dksX5_leftByPath_0 1 rfl rfl)
theorem dX5_leftByPath_2 : decode cX5_leftByPath 2 = .ok (.bipush 9, 2) := dk_16 9 (dk_at dksX5_leftByPath_0 2 rfl rfl)
theorem dX5_leftByPath_4 : decode cX5_leftByPath 4 = .ok (.iload_n 1, 1) := dk_27 (dk_at dksX5_leftByPath_0 4 rfl rfl)
theorem dX5_leftByPath_5 : decode cX5_leftByPath 5 = .ok (.imul, 1) := dk_104 (dk_at dksX5_leftByPath_0 5 rfl rfl)
theorem dX5_leftByPath_6 : decode cX5_leftByPath 6 = .ok (.istore 4, 2) := dk_54 4 (dk_at dksX5_leftByPath_0 6 rfl rfl)
theorem dX5_leftByPath_8 : decode cX5_leftByPath 8 = .ok (.iconst 1, 1) := dk_4 (dk_at dksX5_leftByPath_0 8 rfl rfl)
theorem dX5_leftByPath_9 : decode cX5_leftByPath 9 = .ok (.istore 5, 2) := dk_54 5 (dk_at dksX5_leftByPath_0 9 rfl rfl)
theorem dX5_leftByPath_11 : decode cX5_leftByPath 11 = .ok (.iload 5, 2) := dk_21 5 (dk_at dksX5_leftByPath_0 11 rfl rfl)
theorem dX5_leftByPath_13 : decode cX5_leftByPath 13 = .ok (.aload_n 0, 1) := dk_42 (dk_at dksX5_leftByPath_0 13 rfl rfl)
theorem dX5_leftByPath_14 : decode cX5_leftByPath 14 = .ok (.getfield 56, 3) := dk_180 0 56 (dk_at dksX5_leftByPath_0 14 rfl rfl)
theorem dX5_leftByPath_17 : decode cX5_leftByPath 17 = .ok (.iload 4, 2) := dk_21 4 (dk_at dksX5_leftByPath_0 17 rfl rfl)
theorem dX5_leftByPath_19 : decode cX5_leftByPath 19 = .ok (.iaload, 1) := dk_46 (dk_at dksX5_leftByPath_0 19 rfl rfl)
theorem dX5_leftByPath_20 : decode cX5_leftByPath 20 = .ok (.if_icmp .gt 81, 3) := dk_163 0 81 (dk_at dksX5_leftByPath_0 20 rfl rfl)
theorem dX5_leftByPath_23 : decode cX5_leftByPath 23 = .ok (.aload_n 0, 1) := dk_42 (dk_at dksX5_leftByPath_0 23 rfl rfl)
theorem dX5_leftByPath_24 : decode cX5_leftByPath 24 = .ok (.getfield 56, 3) := dk_180 0 56 (dk_at dksX5_leftByPath_1 0 rfl rfl)
theorem dX5_leftByPath_27 : decode cX5_leftByPath 27 = .ok (.iload 4, 2) := dk_21 4 (dk_at dksX5_leftByPath_1 3 rfl rfl)
theorem dX5_leftByPath_29 : decode cX5_leftByPath 29 = .ok (.iload 5, 2) := dk_21 5 (dk_at dksX5_leftByPath_1 5 rfl rfl)
theorem dX5_leftByPath_31 : decode cX5_leftByPath 31 = .ok (.iadd, 1) := dk_96 (dk_at dksX5_leftByPath_1 7 rfl rfl)
theorem dX5_leftByPath_32 : decode cX5_leftByPath 32 = .ok (.iaload, 1) := dk_46 (dk_at dksX5_leftByPath_1 8 rfl rfl)
theorem dX5_leftByPath_33 : decode cX5_leftByPath 33 = .ok (.istore 6, 2) := dk_54 6 (dk_at dksX5_leftByPath_1 9 rfl rfl)
theorem dX5_leftByPath_35 : decode cX5_leftByPath 35 = .ok (.aload_n 0, 1) := dk_42 (dk_at dksX5_leftByPath_1 11 rfl rfl)
theorem dX5_leftByPath_36 : decode cX5_leftByPath 36 = .ok (.iload 6, 2) := dk_21 6 (dk_at dksX5_leftByPath_1 12 rfl rfl)
theorem dX5_leftByPath_38 : decode cX5_leftByPath 38 = .ok (.invokevirtual 335, 3) := dk_182 1 79 (dk_at dksX5_leftByPath_1 14 rfl rfl)
theorem dX5_leftByPath_41 : decode cX5_leftByPath 41 = .ok (.ifCond .eq 7, 3) := dk_153 0 7 (dk_at dksX5_leftByPath_1 17 rfl rfl)
theorem dX5_leftByPath_44 : decode cX5_leftByPath 44 = .ok (.iconst (-1), 1) := dk_2 (dk_at dksX5_leftByPath_1 20 rfl rfl)
theorem dX5_leftByPath_45 : decode cX5_leftByPath 45 = .ok (.goto 10, 3) := dk_167 0 10 (dk_at dksX5_leftByPath_1 21 rfl rfl)
theorem dX5_leftByPath_48 : decode cX5_leftByPath 48 = .ok (.aload_n 0, 1) := dk_42 (dk_at dksX5_leftByPath_2 0 rfl rfl)
theorem dX5_leftByPath_49 : decode cX5_leftByPath 49 = .ok (.iload_n 1, 1) := dk_27 (dk_at dksX5_leftByPath_2 1 rfl rfl)
theorem dX5_leftByPath_50 : decode cX5_leftByPath 50 = .ok (.iload 6, 2) := dk_21 6 (dk_at dksX5_leftByPath_2 2 rfl rfl)
theorem dX5_leftByPath_52 : decode cX5_leftByPath 52 = .ok (.invokevirtual 357, 3) := dk_182 1 101 (dk_at dksX5_leftByPath_2 4 rfl rfl)
theorem dX5_leftByPath_55 : decode cX5_leftByPath 55 = .ok (.istore 7, 2) := dk_54 7 (dk_at dksX5_leftByPath_2 7 rfl rfl)
theorem dX5_leftByPath_57 : decode cX5_leftByPath 57 = .ok (.iload_n 3, 1) := dk_29 (dk_at dksX5_leftByPath_2 9 rfl rfl)
theorem dX5_leftByPath_58 : decode cX5_leftByPath 58 = .ok (.ifCond .le 37, 3) := dk_158 0 37 (dk_at dksX5_leftByPath_2 10 rfl rfl)
theorem dX5_leftByPath_61 : decode cX5_leftByPath 61 = .ok (.iload 7, 2) := dk_21 7 (dk_at dksX5_leftByPath_2 13 rfl rfl)
theorem dX5_leftByPath_63 : decode cX5_leftByPath 63 = .ok (.iconst (-1), 1) := dk_2 (dk_at dksX5_leftByPath_2 15 rfl rfl)
theorem dX5_leftByPath_64 : decode cX5_leftByPath 64 = .ok (.if_icmp .eq 31, 3) := dk_159 0 31 (dk_at dksX5_leftByPath_2 16 rfl rfl)
theorem dX5_leftByPath_67 : decode cX5_leftByPath 67 = .ok (.iload_n 3, 1) := dk_29 (dk_at dksX5_leftByPath_2 19 rfl rfl)
theorem dX5_leftByPath_68 : decode cX5_leftByPath 68 = .ok (.iconst 1, 1) := dk_4 (dk_at dksX5_leftByPath_2 20 rfl rfl)
theorem dX5_leftByPath_69 : decode cX5_leftByPath 69 = .ok (.isub, 1) := dk_100 (dk_at dksX5_leftByPath_2 21 rfl rfl)
theorem dX5_leftByPath_70 : decode cX5_leftByPath 70 = .ok (.istore_n 3, 1) := dk_62 (dk_at dksX5_leftByPath_2 22 rfl rfl)
theorem dX5_leftByPath_71 : decode cX5_leftByPath 71 = .ok (.aload_n 0, 1) := dk_42 (dk_at dksX5_leftByPath_2 23 rfl rfl)
theorem dX5_leftByPath_72 : decode cX5_leftByPath 72 = .ok (.iload_n 1, 1) := dk_27 (dk_at dksX5_leftByPath_3 0 rfl rfl)
theorem dX5_leftByPath_73 : decode cX5_leftByPath 73 = .ok (.iload 7, 2) := dk_21 7 (dk_at dksX5_leftByPath_3 1 rfl rfl)
theorem dX5_leftByPath_75 : decode cX5_leftByPath 75 = .ok (.invokevirtual 360, 3) := dk_182 1 104 (dk_at dksX5_leftByPath_3 3 rfl rfl)
theorem dX5_leftByPath_78 : decode cX5_leftByPath 78 = .ok (.ifCond .ne 5, 3) := dk_154 0 5 (dk_at dksX5_leftByPath_3 6 rfl rfl)
theorem dX5_leftByPath_81 : decode cX5_leftByPath 81 = .ok (.iconst (-1), 1) := dk_2 (dk_at dksX5_leftByPath_3 9 rfl rfl)
theorem dX5_leftByPath_82 : decode cX5_leftByPath 82 = .ok (.ireturn, 1) := dk_172 (dk_at dksX5_leftByPath_3 10 rfl rfl)
theorem dX5_leftByPath_83 : decode cX5_leftByPath 83 = .ok (.aload_n 0, 1) := dk_42 (dk_at dksX5_leftByPath_3 11 rfl rfl)
theorem dX5_leftByPath_84 : decode cX5_leftByPath 84 = .ok (.iload_n 1, 1) := dk_27 (dk_at dksX5_leftByPath_3 12 rfl rfl)
theorem dX5_leftByPath_85 : decode cX5_leftByPath 85 = .ok (.iload 6, 2) := dk_21 6 (dk_at dksX5_leftByPath_3 13 rfl rfl)
theorem dX5_leftByPath_87 : decode cX5_leftByPath 87 = .ok (.invokevirtual 357, 3) := dk_182 1 101 (dk_at dksX5_leftByPath_3 15 rfl rfl)
theorem dX5_leftByPath_90 : decode cX5_leftByPath 90 = .ok (.istore 7, 2) := dk_54 7 (dk_at dksX5_leftByPath_3 18 rfl rfl)
theorem dX5_leftByPath_92 : decode cX5_leftByPath 92 = .ok (.goto (-35), 3) := dk_167 255 221 (dk_at dksX5_leftByPath_3 20 rfl rfl)
theorem dX5_leftByPath_95 : decode cX5_leftByPath 95 = .ok (.iinc 5 1, 3) := dk_132 5 1 (dk_at dksX5_leftByPath_4 0 rfl rfl)
theorem dX5_leftByPath_98 : decode cX5_leftByPath 98 = .ok (.goto (-87), 3) := dk_167 255 169 (dk_at dksX5_leftByPath_4 3 rfl rfl)
theorem dX5_leftByPath_101 : decode cX5_leftByPath 101 = .ok (.iload_n 3, 1) := dk_29 (dk_at dksX5_leftByPath_4 6 rfl rfl)
theorem dX5_leftByPath_102 : decode cX5_leftByPath 102 = .ok (.ireturn, 1) := dk_172 (dk_at dksX5_leftByPath_4 7 rfl rfl)
abbrev cX5_treeFor : ByteArray := prog_22_method_82_code
def yX5_treeFor : MethodName := ⟨RX5, "treeFor", "(II)I"⟩
def dkwX5_treeFor_4 : List UInt8 := [46, 182, 1, 57, 164, 0, 6, 21, 4, 62, 132, 4, 1, 167, 255, 154, 29, 172]
abbrev dktX5_treeFor_4 : List UInt8 := dkwX5_treeFor_4 ++ []
def dkwX5_treeFor_3 : List UInt8 := [27, 42, 180, 0, 7, 16, 20, 21, 4, 96, 46, 182, 1, 57, 42, 27, 42, 180, 0, 7, 16, 20, 29, 96]
abbrev dktX5_treeFor_3 : List UInt8 := dkwX5_treeFor_3 ++ dktX5_treeFor_4
def dkwX5_treeFor_2 : List UInt8 := [180, 0, 7, 16, 20, 21, 4, 96, 46, 182, 1, 57, 154, 0, 6, 167, 0, 43, 29, 2, 159, 0, 35, 42]
abbrev dktX5_treeFor_2 : List UInt8 := dkwX5_treeFor_2 ++ dktX5_treeFor_3
def dkwX5_treeFor_1 : List UInt8 := [96, 46, 28, 160, 0, 77, 42, 180, 0, 7, 16, 62, 21, 4, 96, 46, 153, 0, 64, 42, 27, 42]
abbrev dktX5_treeFor_1 : List UInt8 := dkwX5_treeFor_1 ++ dktX5_treeFor_2
def dkwX5_treeFor_0 : List UInt8 := [2, 62, 3, 54, 4, 21, 4, 42, 180, 0, 7, 7, 46, 162, 0, 97, 42, 180, 0, 7, 16, 34, 21, 4]
abbrev dktX5_treeFor_0 : List UInt8 := dkwX5_treeFor_0 ++ dktX5_treeFor_1
theorem dksX5_treeFor_0 : cX5_treeFor.data.toList.drop 0 = dktX5_treeFor_0 := by decide +kernel
theorem dksX5_treeFor_1 : cX5_treeFor.data.toList.drop 24 = dktX5_treeFor_1 := dk_seg dksX5_treeFor_0 24 rfl rfl
theorem dksX5_treeFor_2 : cX5_treeFor.data.toList.drop 46 = dktX5_treeFor_2 := dk_seg dksX5_treeFor_1 22 rfl rfl
theorem dksX5_treeFor_3 : cX5_treeFor.data.toList.drop 70 = dktX5_treeFor_3 := dk_seg dksX5_treeFor_2 24 rfl rfl
theorem dksX5_treeFor_4 : cX5_treeFor.data.toList.drop 94 = dktX5_treeFor_4 := dk_seg dksX5_treeFor_3 24 rfl rfl
theorem dX5_treeFor_0 : decode cX5_treeFor 0 = .ok (.iconst (-1), 1) := dk_2 (dk_at dksX5_treeFor_0 0 rfl rfl)
theorem dX5_treeFor_1 : decode cX5_treeFor 1 = .ok (.istore_n 3, 1) := dk_62 (dk_at dksX5_treeFor_0 1 rfl rfl)
theorem dX5_treeFor_2 : decode cX5_treeFor 2 = .ok (.iconst 0, 1) := dk_3 (dk_at dksX5_treeFor_0 2 rfl rfl)
theorem dX5_treeFor_3 : decode cX5_treeFor 3 = .ok (.istore 4, 2) := dk_54 4 (dk_at dksX5_treeFor_0 3 rfl rfl)
theorem dX5_treeFor_5 : decode cX5_treeFor 5 = .ok (.iload 4, 2) := dk_21 4 (dk_at dksX5_treeFor_0 5 rfl rfl)
theorem dX5_treeFor_7 : decode cX5_treeFor 7 = .ok (.aload_n 0, 1) := dk_42 (dk_at dksX5_treeFor_0 7 rfl rfl)
theorem dX5_treeFor_8 : decode cX5_treeFor 8 = .ok (.getfield 7, 3) := dk_180 0 7 (dk_at dksX5_treeFor_0 8 rfl rfl)
theorem dX5_treeFor_11 : decode cX5_treeFor 11 = .ok (.iconst 4, 1) := dk_7 (dk_at dksX5_treeFor_0 11 rfl rfl)
theorem dX5_treeFor_12 : decode cX5_treeFor 12 = .ok (.iaload, 1) := dk_46 (dk_at dksX5_treeFor_0 12 rfl rfl)
theorem dX5_treeFor_13 : decode cX5_treeFor 13 = .ok (.if_icmp .ge 97, 3) := dk_162 0 97 (dk_at dksX5_treeFor_0 13 rfl rfl)
theorem dX5_treeFor_16 : decode cX5_treeFor 16 = .ok (.aload_n 0, 1) := dk_42 (dk_at dksX5_treeFor_0 16 rfl rfl)
theorem dX5_treeFor_17 : decode cX5_treeFor 17 = .ok (.getfield 7, 3) := dk_180 0 7 (dk_at dksX5_treeFor_0 17 rfl rfl)
theorem dX5_treeFor_20 : decode cX5_treeFor 20 = .ok (.bipush 34, 2) := dk_16 34 (dk_at dksX5_treeFor_0 20 rfl rfl)
theorem dX5_treeFor_22 : decode cX5_treeFor 22 = .ok (.iload 4, 2) := dk_21 4 (dk_at dksX5_treeFor_0 22 rfl rfl)
theorem dX5_treeFor_24 : decode cX5_treeFor 24 = .ok (.iadd, 1) := dk_96 (dk_at dksX5_treeFor_1 0 rfl rfl)
theorem dX5_treeFor_25 : decode cX5_treeFor 25 = .ok (.iaload, 1) := dk_46 (dk_at dksX5_treeFor_1 1 rfl rfl)
theorem dX5_treeFor_26 : decode cX5_treeFor 26 = .ok (.iload_n 2, 1) := dk_28 (dk_at dksX5_treeFor_1 2 rfl rfl)
theorem dX5_treeFor_27 : decode cX5_treeFor 27 = .ok (.if_icmp .ne 77, 3) := dk_160 0 77 (dk_at dksX5_treeFor_1 3 rfl rfl)
theorem dX5_treeFor_30 : decode cX5_treeFor 30 = .ok (.aload_n 0, 1) := dk_42 (dk_at dksX5_treeFor_1 6 rfl rfl)
theorem dX5_treeFor_31 : decode cX5_treeFor 31 = .ok (.getfield 7, 3) := dk_180 0 7 (dk_at dksX5_treeFor_1 7 rfl rfl)
theorem dX5_treeFor_34 : decode cX5_treeFor 34 = .ok (.bipush 62, 2) := dk_16 62 (dk_at dksX5_treeFor_1 10 rfl rfl)
theorem dX5_treeFor_36 : decode cX5_treeFor 36 = .ok (.iload 4, 2) := dk_21 4 (dk_at dksX5_treeFor_1 12 rfl rfl)
theorem dX5_treeFor_38 : decode cX5_treeFor 38 = .ok (.iadd, 1) := dk_96 (dk_at dksX5_treeFor_1 14 rfl rfl)
theorem dX5_treeFor_39 : decode cX5_treeFor 39 = .ok (.iaload, 1) := dk_46 (dk_at dksX5_treeFor_1 15 rfl rfl)
theorem dX5_treeFor_40 : decode cX5_treeFor 40 = .ok (.ifCond .eq 64, 3) := dk_153 0 64 (dk_at dksX5_treeFor_1 16 rfl rfl)
theorem dX5_treeFor_43 : decode cX5_treeFor 43 = .ok (.aload_n 0, 1) := dk_42 (dk_at dksX5_treeFor_1 19 rfl rfl)
theorem dX5_treeFor_44 : decode cX5_treeFor 44 = .ok (.iload_n 1, 1) := dk_27 (dk_at dksX5_treeFor_1 20 rfl rfl)
theorem dX5_treeFor_45 : decode cX5_treeFor 45 = .ok (.aload_n 0, 1) := dk_42 (dk_at dksX5_treeFor_1 21 rfl rfl)
theorem dX5_treeFor_46 : decode cX5_treeFor 46 = .ok (.getfield 7, 3) := dk_180 0 7 (dk_at dksX5_treeFor_2 0 rfl rfl)
theorem dX5_treeFor_49 : decode cX5_treeFor 49 = .ok (.bipush 20, 2) := dk_16 20 (dk_at dksX5_treeFor_2 3 rfl rfl)
theorem dX5_treeFor_51 : decode cX5_treeFor 51 = .ok (.iload 4, 2) := dk_21 4 (dk_at dksX5_treeFor_2 5 rfl rfl)
theorem dX5_treeFor_53 : decode cX5_treeFor 53 = .ok (.iadd, 1) := dk_96 (dk_at dksX5_treeFor_2 7 rfl rfl)
theorem dX5_treeFor_54 : decode cX5_treeFor 54 = .ok (.iaload, 1) := dk_46 (dk_at dksX5_treeFor_2 8 rfl rfl)
theorem dX5_treeFor_55 : decode cX5_treeFor 55 = .ok (.invokevirtual 313, 3) := dk_182 1 57 (dk_at dksX5_treeFor_2 9 rfl rfl)
theorem dX5_treeFor_58 : decode cX5_treeFor 58 = .ok (.ifCond .ne 6, 3) := dk_154 0 6 (dk_at dksX5_treeFor_2 12 rfl rfl)
theorem dX5_treeFor_61 : decode cX5_treeFor 61 = .ok (.goto 43, 3) := dk_167 0 43 (dk_at dksX5_treeFor_2 15 rfl rfl)
theorem dX5_treeFor_64 : decode cX5_treeFor 64 = .ok (.iload_n 3, 1) := dk_29 (dk_at dksX5_treeFor_2 18 rfl rfl)
theorem dX5_treeFor_65 : decode cX5_treeFor 65 = .ok (.iconst (-1), 1) := dk_2 (dk_at dksX5_treeFor_2 19 rfl rfl)
theorem dX5_treeFor_66 : decode cX5_treeFor 66 = .ok (.if_icmp .eq 35, 3) := dk_159 0 35 (dk_at dksX5_treeFor_2 20 rfl rfl)
theorem dX5_treeFor_69 : decode cX5_treeFor 69 = .ok (.aload_n 0, 1) := dk_42 (dk_at dksX5_treeFor_2 23 rfl rfl)
theorem dX5_treeFor_70 : decode cX5_treeFor 70 = .ok (.iload_n 1, 1) := dk_27 (dk_at dksX5_treeFor_3 0 rfl rfl)
theorem dX5_treeFor_71 : decode cX5_treeFor 71 = .ok (.aload_n 0, 1) := dk_42 (dk_at dksX5_treeFor_3 1 rfl rfl)
theorem dX5_treeFor_72 : decode cX5_treeFor 72 = .ok (.getfield 7, 3) := dk_180 0 7 (dk_at dksX5_treeFor_3 2 rfl rfl)
theorem dX5_treeFor_75 : decode cX5_treeFor 75 = .ok (.bipush 20, 2) := dk_16 20 (dk_at dksX5_treeFor_3 5 rfl rfl)
theorem dX5_treeFor_77 : decode cX5_treeFor 77 = .ok (.iload 4, 2) := dk_21 4 (dk_at dksX5_treeFor_3 7 rfl rfl)
theorem dX5_treeFor_79 : decode cX5_treeFor 79 = .ok (.iadd, 1) := dk_96 (dk_at dksX5_treeFor_3 9 rfl rfl)
theorem dX5_treeFor_80 : decode cX5_treeFor 80 = .ok (.iaload, 1) := dk_46 (dk_at dksX5_treeFor_3 10 rfl rfl)
theorem dX5_treeFor_81 : decode cX5_treeFor 81 = .ok (.invokevirtual 313, 3) := dk_182 1 57 (dk_at dksX5_treeFor_3 11 rfl rfl)
theorem dX5_treeFor_84 : decode cX5_treeFor 84 = .ok (.aload_n 0, 1) := dk_42 (dk_at dksX5_treeFor_3 14 rfl rfl)
theorem dX5_treeFor_85 : decode cX5_treeFor 85 = .ok (.iload_n 1, 1) := dk_27 (dk_at dksX5_treeFor_3 15 rfl rfl)
theorem dX5_treeFor_86 : decode cX5_treeFor 86 = .ok (.aload_n 0, 1) := dk_42 (dk_at dksX5_treeFor_3 16 rfl rfl)
theorem dX5_treeFor_87 : decode cX5_treeFor 87 = .ok (.getfield 7, 3) := dk_180 0 7 (dk_at dksX5_treeFor_3 17 rfl rfl)
theorem dX5_treeFor_90 : decode cX5_treeFor 90 = .ok (.bipush 20, 2) := dk_16 20 (dk_at dksX5_treeFor_3 20 rfl rfl)
theorem dX5_treeFor_92 : decode cX5_treeFor 92 = .ok (.iload_n 3, 1) := dk_29 (dk_at dksX5_treeFor_3 22 rfl rfl)
theorem dX5_treeFor_93 : decode cX5_treeFor 93 = .ok (.iadd, 1) := dk_96 (dk_at dksX5_treeFor_3 23 rfl rfl)
theorem dX5_treeFor_94 : decode cX5_treeFor 94 = .ok (.iaload, 1) := dk_46 (dk_at dksX5_treeFor_4 0 rfl rfl)
theorem dX5_treeFor_95 : decode cX5_treeFor 95 = .ok (.invokevirtual 313, 3) := dk_182 1 57 (dk_at dksX5_treeFor_4 1 rfl rfl)
theorem dX5_treeFor_98 : decode cX5_treeFor 98 = .ok (.if_icmp .le 6, 3) := dk_164 0 6 (dk_at dksX5_treeFor_4 4 rfl rfl)
theorem dX5_treeFor_101 : decode cX5_treeFor 101 = .ok (.iload 4, 2) := dk_21 4 (dk_at dksX5_treeFor_4 7 rfl rfl)
theorem dX5_treeFor_103 : decode cX5_treeFor 103 = .ok (.istore_n 3, 1) := dk_62 (dk_at dksX5_treeFor_4 9 rfl rfl)
theorem dX5_treeFor_104 : decode cX5_treeFor 104 = .ok (.iinc 4 1, 3) := dk_132 4 1 (dk_at dksX5_treeFor_4 10 rfl rfl)
theorem dX5_treeFor_107 : decode cX5_treeFor 107 = .ok (.goto (-102), 3) := dk_167 255 154 (dk_at dksX5_treeFor_4 13 rfl rfl)
theorem dX5_treeFor_110 : decode cX5_treeFor 110 = .ok (.iload_n 3, 1) := dk_29 (dk_at dksX5_treeFor_4 16 rfl rfl)
theorem dX5_treeFor_111 : decode cX5_treeFor 111 = .ok (.ireturn, 1) := dk_172 (dk_at dksX5_treeFor_4 17 rfl rfl)
abbrev cX5_tasteOf : ByteArray := prog_22_method_22_code
def yX5_tasteOf : MethodName := ⟨RX5, "tasteOf", "(II)I"⟩
def dkwX5_tasteOf_0 : List UInt8 := [42, 180, 0, 7, 16, 86, 8, 27, 104, 96, 28, 96, 46, 8, 96, 172]
abbrev dktX5_tasteOf_0 : List UInt8 := dkwX5_tasteOf_0 ++ []
theorem dksX5_tasteOf_0 : cX5_tasteOf.data.toList.drop 0 = dktX5_tasteOf_0 := by decide +kernel
theorem dX5_tasteOf_0 : decode cX5_tasteOf 0 = .ok (.aload_n 0, 1) := dk_42 (dk_at dksX5_tasteOf_0 0 rfl rfl)
theorem dX5_tasteOf_1 : decode cX5_tasteOf 1 = .ok (.getfield 7, 3) := dk_180 0 7 (dk_at dksX5_tasteOf_0 1 rfl rfl)
theorem dX5_tasteOf_4 : decode cX5_tasteOf 4 = .ok (.bipush 86, 2) := dk_16 86 (dk_at dksX5_tasteOf_0 4 rfl rfl)
theorem dX5_tasteOf_6 : decode cX5_tasteOf 6 = .ok (.iconst 5, 1) := dk_8 (dk_at dksX5_tasteOf_0 6 rfl rfl)
theorem dX5_tasteOf_7 : decode cX5_tasteOf 7 = .ok (.iload_n 1, 1) := dk_27 (dk_at dksX5_tasteOf_0 7 rfl rfl)
theorem dX5_tasteOf_8 : decode cX5_tasteOf 8 = .ok (.imul, 1) := dk_104 (dk_at dksX5_tasteOf_0 8 rfl rfl)
theorem dX5_tasteOf_9 : decode cX5_tasteOf 9 = .ok (.iadd, 1) := dk_96 (dk_at dksX5_tasteOf_0 9 rfl rfl)
theorem dX5_tasteOf_10 : decode cX5_tasteOf 10 = .ok (.iload_n 2, 1) := dk_28 (dk_at dksX5_tasteOf_0 10 rfl rfl)
theorem dX5_tasteOf_11 : decode cX5_tasteOf 11 = .ok (.iadd, 1) := dk_96 (dk_at dksX5_tasteOf_0 11 rfl rfl)
theorem dX5_tasteOf_12 : decode cX5_tasteOf 12 = .ok (.iaload, 1) := dk_46 (dk_at dksX5_tasteOf_0 12 rfl rfl)
theorem dX5_tasteOf_13 : decode cX5_tasteOf 13 = .ok (.iconst 5, 1) := dk_8 (dk_at dksX5_tasteOf_0 13 rfl rfl)
theorem dX5_tasteOf_14 : decode cX5_tasteOf 14 = .ok (.iadd, 1) := dk_96 (dk_at dksX5_tasteOf_0 14 rfl rfl)
theorem dX5_tasteOf_15 : decode cX5_tasteOf 15 = .ok (.ireturn, 1) := dk_172 (dk_at dksX5_tasteOf_0 15 rfl rfl)
abbrev cX5_isGood : ByteArray := prog_22_method_84_code
def yX5_isGood : MethodName := ⟨RX5, "isGood", "(II)Z"⟩
def dkwX5_isGood_4 : List UInt8 := [172]
abbrev dktX5_isGood_4 : List UInt8 := dkwX5_isGood_4 ++ []
def dkwX5_isGood_3 : List UInt8 := [4, 172, 42, 27, 29, 42, 27, 29, 182, 1, 57, 5, 100, 182, 0, 137, 42, 7, 27, 29, 182, 1, 60, 3]
abbrev dktX5_isGood_3 : List UInt8 := dkwX5_isGood_3 ++ dktX5_isGood_4
def dkwX5_isGood_2 : List UInt8 := [154, 0, 24, 42, 180, 0, 147, 153, 0, 17, 42, 17, 3, 232, 182, 1, 98, 42, 180, 0, 147, 161, 0, 5]
abbrev dktX5_isGood_2 : List UInt8 := dkwX5_isGood_2 ++ dktX5_isGood_3
def dkwX5_isGood_1 : List UInt8 := [180, 0, 7, 16, 62, 28, 96, 42, 180, 0, 7, 16, 62, 28, 96, 46, 4, 100, 79, 42, 180, 0, 92]
abbrev dktX5_isGood_1 : List UInt8 := dkwX5_isGood_1 ++ dktX5_isGood_2
def dkwX5_isGood_0 : List UInt8 := [42, 180, 0, 7, 16, 20, 28, 96, 46, 62, 42, 29, 42, 27, 29, 28, 182, 1, 92, 182, 1, 95, 42]
abbrev dktX5_isGood_0 : List UInt8 := dkwX5_isGood_0 ++ dktX5_isGood_1
theorem dksX5_isGood_0 : cX5_isGood.data.toList.drop 0 = dktX5_isGood_0 := by decide +kernel
theorem dksX5_isGood_1 : cX5_isGood.data.toList.drop 23 = dktX5_isGood_1 := dk_seg dksX5_isGood_0 23 rfl rfl
theorem dksX5_isGood_2 : cX5_isGood.data.toList.drop 46 = dktX5_isGood_2 := dk_seg dksX5_isGood_1 23 rfl rfl
theorem dksX5_isGood_3 : cX5_isGood.data.toList.drop 70 = dktX5_isGood_3 := dk_seg dksX5_isGood_2 24 rfl rfl
theorem dksX5_isGood_4 : cX5_isGood.data.toList.drop 94 = dktX5_isGood_4 := dk_seg dksX5_isGood_3 24 rfl rfl
theorem dX5_isGood_0 : decode cX5_isGood 0 = .ok (.aload_n 0, 1) := dk_42 (dk_at dksX5_isGood_0 0 rfl rfl)
theorem dX5_isGood_1 : decode cX5_isGood 1 = .ok (.getfield 7, 3) := dk_180 0 7 (dk_at dksX5_isGood_0 1 rfl rfl)
theorem dX5_isGood_4 : decode cX5_isGood 4 = .ok (.bipush 20, 2) := dk_16 20 (dk_at dksX5_isGood_0 4 rfl rfl)
theorem dX5_isGood_6 : decode cX5_isGood 6 = .ok (.iload_n 2, 1) := dk_28 (dk_at dksX5_isGood_0 6 rfl rfl)
theorem dX5_isGood_7 : decode cX5_isGood 7 = .ok (.iadd, 1) := dk_96 (dk_at dksX5_isGood_0 7 rfl rfl)
theorem dX5_isGood_8 : decode cX5_isGood 8 = .ok (.iaload, 1) := dk_46 (dk_at dksX5_isGood_0 8 rfl rfl)
theorem dX5_isGood_9 : decode cX5_isGood 9 = .ok (.istore_n 3, 1) := dk_62 (dk_at dksX5_isGood_0 9 rfl rfl)
theorem dX5_isGood_10 : decode cX5_isGood 10 = .ok (.aload_n 0, 1) := dk_42 (dk_at dksX5_isGood_0 10 rfl rfl)
theorem dX5_isGood_11 : decode cX5_isGood 11 = .ok (.iload_n 3, 1) := dk_29 (dk_at dksX5_isGood_0 11 rfl rfl)
theorem dX5_isGood_12 : decode cX5_isGood 12 = .ok (.aload_n 0, 1) := dk_42 (dk_at dksX5_isGood_0 12 rfl rfl)
theorem dX5_isGood_13 : decode cX5_isGood 13 = .ok (.iload_n 1, 1) := dk_27 (dk_at dksX5_isGood_0 13 rfl rfl)
theorem dX5_isGood_14 : decode cX5_isGood 14 = .ok (.iload_n 3, 1) := dk_29 (dk_at dksX5_isGood_0 14 rfl rfl)
theorem dX5_isGood_15 : decode cX5_isGood 15 = .ok (.iload_n 2, 1) := dk_28 (dk_at dksX5_isGood_0 15 rfl rfl)
theorem dX5_isGood_16 : decode cX5_isGood 16 = .ok (.invokevirtual 348, 3) := dk_182 1 92 (dk_at dksX5_isGood_0 16 rfl rfl)
theorem dX5_isGood_19 : decode cX5_isGood 19 = .ok (.invokevirtual 351, 3) := dk_182 1 95 (dk_at dksX5_isGood_0 19 rfl rfl)
theorem dX5_isGood_22 : decode cX5_isGood 22 = .ok (.aload_n 0, 1) := dk_42 (dk_at dksX5_isGood_0 22 rfl rfl)
theorem dX5_isGood_23 : decode cX5_isGood 23 = .ok (.getfield 7, 3) := dk_180 0 7 (dk_at dksX5_isGood_1 0 rfl rfl)
theorem dX5_isGood_26 : decode cX5_isGood 26 = .ok (.bipush 62, 2) := dk_16 62 (dk_at dksX5_isGood_1 3 rfl rfl)
theorem dX5_isGood_28 : decode cX5_isGood 28 = .ok (.iload_n 2, 1) := dk_28 (dk_at dksX5_isGood_1 5 rfl rfl)
theorem dX5_isGood_29 : decode cX5_isGood 29 = .ok (.iadd, 1) := dk_96 (dk_at dksX5_isGood_1 6 rfl rfl)
theorem dX5_isGood_30 : decode cX5_isGood 30 = .ok (.aload_n 0, 1) := dk_42 (dk_at dksX5_isGood_1 7 rfl rfl)
theorem dX5_isGood_31 : decode cX5_isGood 31 = .ok (.getfield 7, 3) := dk_180 0 7 (dk_at dksX5_isGood_1 8 rfl rfl)
theorem dX5_isGood_34 : decode cX5_isGood 34 = .ok (.bipush 62, 2) := dk_16 62 (dk_at dksX5_isGood_1 11 rfl rfl)
theorem dX5_isGood_36 : decode cX5_isGood 36 = .ok (.iload_n 2, 1) := dk_28 (dk_at dksX5_isGood_1 13 rfl rfl)
theorem dX5_isGood_37 : decode cX5_isGood 37 = .ok (.iadd, 1) := dk_96 (dk_at dksX5_isGood_1 14 rfl rfl)
theorem dX5_isGood_38 : decode cX5_isGood 38 = .ok (.iaload, 1) := dk_46 (dk_at dksX5_isGood_1 15 rfl rfl)
theorem dX5_isGood_39 : decode cX5_isGood 39 = .ok (.iconst 1, 1) := dk_4 (dk_at dksX5_isGood_1 16 rfl rfl)
theorem dX5_isGood_40 : decode cX5_isGood 40 = .ok (.isub, 1) := dk_100 (dk_at dksX5_isGood_1 17 rfl rfl)
theorem dX5_isGood_41 : decode cX5_isGood 41 = .ok (.iastore, 1) := dk_79 (dk_at dksX5_isGood_1 18 rfl rfl)
theorem dX5_isGood_42 : decode cX5_isGood 42 = .ok (.aload_n 0, 1) := dk_42 (dk_at dksX5_isGood_1 19 rfl rfl)
theorem dX5_isGood_43 : decode cX5_isGood 43 = .ok (.getfield 92, 3) := dk_180 0 92 (dk_at dksX5_isGood_1 20 rfl rfl)
theorem dX5_isGood_46 : decode cX5_isGood 46 = .ok (.ifCond .ne 24, 3) := dk_154 0 24 (dk_at dksX5_isGood_2 0 rfl rfl)
theorem dX5_isGood_49 : decode cX5_isGood 49 = .ok (.aload_n 0, 1) := dk_42 (dk_at dksX5_isGood_2 3 rfl rfl)
theorem dX5_isGood_50 : decode cX5_isGood 50 = .ok (.getfield 147, 3) := dk_180 0 147 (dk_at dksX5_isGood_2 4 rfl rfl)
theorem dX5_isGood_53 : decode cX5_isGood 53 = .ok (.ifCond .eq 17, 3) := dk_153 0 17 (dk_at dksX5_isGood_2 7 rfl rfl)
theorem dX5_isGood_56 : decode cX5_isGood 56 = .ok (.aload_n 0, 1) := dk_42 (dk_at dksX5_isGood_2 10 rfl rfl)
theorem dX5_isGood_57 : decode cX5_isGood 57 = .ok (.sipush 1000, 3) := dk_17 3 232 (dk_at dksX5_isGood_2 11 rfl rfl)
theorem dX5_isGood_60 : decode cX5_isGood 60 = .ok (.invokevirtual 354, 3) := dk_182 1 98 (dk_at dksX5_isGood_2 14 rfl rfl)
theorem dX5_isGood_63 : decode cX5_isGood 63 = .ok (.aload_n 0, 1) := dk_42 (dk_at dksX5_isGood_2 17 rfl rfl)
theorem dX5_isGood_64 : decode cX5_isGood 64 = .ok (.getfield 147, 3) := dk_180 0 147 (dk_at dksX5_isGood_2 18 rfl rfl)
theorem dX5_isGood_67 : decode cX5_isGood 67 = .ok (.if_icmp .lt 5, 3) := dk_161 0 5 (dk_at dksX5_isGood_2 21 rfl rfl)
theorem dX5_isGood_70 : decode cX5_isGood 70 = .ok (.iconst 1, 1) := dk_4 (dk_at dksX5_isGood_3 0 rfl rfl)
theorem dX5_isGood_71 : decode cX5_isGood 71 = .ok (.ireturn, 1) := dk_172 (dk_at dksX5_isGood_3 1 rfl rfl)
theorem dX5_isGood_72 : decode cX5_isGood 72 = .ok (.aload_n 0, 1) := dk_42 (dk_at dksX5_isGood_3 2 rfl rfl)
theorem dX5_isGood_73 : decode cX5_isGood 73 = .ok (.iload_n 1, 1) := dk_27 (dk_at dksX5_isGood_3 3 rfl rfl)
theorem dX5_isGood_74 : decode cX5_isGood 74 = .ok (.iload_n 3, 1) := dk_29 (dk_at dksX5_isGood_3 4 rfl rfl)
theorem dX5_isGood_75 : decode cX5_isGood 75 = .ok (.aload_n 0, 1) := dk_42 (dk_at dksX5_isGood_3 5 rfl rfl)
theorem dX5_isGood_76 : decode cX5_isGood 76 = .ok (.iload_n 1, 1) := dk_27 (dk_at dksX5_isGood_3 6 rfl rfl)
theorem dX5_isGood_77 : decode cX5_isGood 77 = .ok (.iload_n 3, 1) := dk_29 (dk_at dksX5_isGood_3 7 rfl rfl)
theorem dX5_isGood_78 : decode cX5_isGood 78 = .ok (.invokevirtual 313, 3) := dk_182 1 57 (dk_at dksX5_isGood_3 8 rfl rfl)
theorem dX5_isGood_81 : decode cX5_isGood 81 = .ok (.iconst 2, 1) := dk_5 (dk_at dksX5_isGood_3 11 rfl rfl)
theorem dX5_isGood_82 : decode cX5_isGood 82 = .ok (.isub, 1) := dk_100 (dk_at dksX5_isGood_3 12 rfl rfl)
theorem dX5_isGood_83 : decode cX5_isGood 83 = .ok (.invokevirtual 137, 3) := dk_182 0 137 (dk_at dksX5_isGood_3 13 rfl rfl)
theorem dX5_isGood_86 : decode cX5_isGood 86 = .ok (.aload_n 0, 1) := dk_42 (dk_at dksX5_isGood_3 16 rfl rfl)
theorem dX5_isGood_87 : decode cX5_isGood 87 = .ok (.iconst 4, 1) := dk_7 (dk_at dksX5_isGood_3 17 rfl rfl)
theorem dX5_isGood_88 : decode cX5_isGood 88 = .ok (.iload_n 1, 1) := dk_27 (dk_at dksX5_isGood_3 18 rfl rfl)
theorem dX5_isGood_89 : decode cX5_isGood 89 = .ok (.iload_n 3, 1) := dk_29 (dk_at dksX5_isGood_3 19 rfl rfl)
theorem dX5_isGood_90 : decode cX5_isGood 90 = .ok (.invokevirtual 316, 3) := dk_182 1 60 (dk_at dksX5_isGood_3 20 rfl rfl)
theorem dX5_isGood_93 : decode cX5_isGood 93 = .ok (.iconst 0, 1) := dk_3 (dk_at dksX5_isGood_3 23 rfl rfl)
theorem dX5_isGood_94 : decode cX5_isGood 94 = .ok (.ireturn, 1) := dk_172 (dk_at dksX5_isGood_4 0 rfl rfl)
abbrev cX5_countOf : ByteArray := prog_22_method_72_code
def yX5_countOf : MethodName := ⟨RX5, "countOf", "(III)I"⟩
def dkwX5_countOf_4 : List UInt8 := [180, 0, 62, 16, 8, 42, 180, 0, 7, 16, 10, 28, 96, 46, 79, 42, 5, 4, 16, 9, 182, 1, 54, 172]
abbrev dktX5_countOf_4 : List UInt8 := dkwX5_countOf_4 ++ []
def dkwX5_countOf_3 : List UInt8 := [182, 1, 57, 79, 42, 180, 0, 62, 16, 7, 29, 2, 160, 0, 7, 4, 167, 0, 4, 3, 79, 42]
abbrev dktX5_countOf_3 : List UInt8 := dkwX5_countOf_3 ++ dktX5_countOf_4
def dkwX5_countOf_2 : List UInt8 := [42, 180, 0, 62, 8, 42, 180, 0, 7, 16, 76, 27, 96, 46, 79, 42, 180, 0, 62, 16, 6, 42, 27, 28]
abbrev dktX5_countOf_2 : List UInt8 := dkwX5_countOf_2 ++ dktX5_countOf_3
def dkwX5_countOf_1 : List UInt8 := [29, 96, 46, 42, 180, 0, 7, 16, 48, 29, 96, 46, 42, 180, 0, 7, 16, 62, 29, 96, 46, 182, 1, 50]
abbrev dktX5_countOf_1 : List UInt8 := dkwX5_countOf_1 ++ dktX5_countOf_2
def dkwX5_countOf_0 : List UInt8 := [29, 2, 160, 0, 14, 42, 28, 3, 3, 3, 182, 1, 50, 167, 0, 35, 42, 28, 42, 180, 0, 7, 16, 34]
abbrev dktX5_countOf_0 : List UInt8 := dkwX5_countOf_0 ++ dktX5_countOf_1
theorem dksX5_countOf_0 : cX5_countOf.data.toList.drop 0 = dktX5_countOf_0 := by decide +kernel
theorem dksX5_countOf_1 : cX5_countOf.data.toList.drop 24 = dktX5_countOf_1 := dk_seg dksX5_countOf_0 24 rfl rfl
theorem dksX5_countOf_2 : cX5_countOf.data.toList.drop 48 = dktX5_countOf_2 := dk_seg dksX5_countOf_1 24 rfl rfl
theorem dksX5_countOf_3 : cX5_countOf.data.toList.drop 72 = dktX5_countOf_3 := dk_seg dksX5_countOf_2 24 rfl rfl
theorem dksX5_countOf_4 : cX5_countOf.data.toList.drop 94 = dktX5_countOf_4 := dk_seg dksX5_countOf_3 22 rfl rfl
theorem dX5_countOf_0 : decode cX5_countOf 0 = .ok (.iload_n 3, 1) := dk_29 (dk_at dksX5_countOf_0 0 rfl rfl)
theorem dX5_countOf_1 : decode cX5_countOf 1 = .ok (.iconst (-1), 1) := dk_2 (dk_at dksX5_countOf_0 1 rfl rfl)
theorem dX5_countOf_2 : decode cX5_countOf 2 = .ok (.if_icmp .ne 14, 3) := dk_160 0 14 (dk_at dksX5_countOf_0 2 rfl rfl)
theorem dX5_countOf_5 : decode cX5_countOf 5 = .ok (.aload_n 0, 1) := dk_42 (dk_at dksX5_countOf_0 5 rfl rfl)
theorem dX5_countOf_6 : decode cX5_countOf 6 = .ok (.iload_n 2, 1) := dk_28 (dk_at dksX5_countOf_0 6 rfl rfl)
theorem dX5_countOf_7 : decode cX5_countOf 7 = .ok (.iconst 0, 1) := dk_3 (dk_at dksX5_countOf_0 7 rfl rfl)
theorem dX5_countOf_8 : decode cX5_countOf 8 = .ok (.iconst 0, 1) := dk_3 (dk_at dksX5_countOf_0 8 rfl rfl)
theorem dX5_countOf_9 : decode cX5_countOf 9 = .ok (.iconst 0, 1) := dk_3 (dk_at dksX5_countOf_0 9 rfl rfl)
theorem dX5_countOf_10 : decode cX5_countOf 10 = .ok (.invokevirtual 306, 3) := dk_182 1 50 (dk_at dksX5_countOf_0 10 rfl rfl)
theorem dX5_countOf_13 : decode cX5_countOf 13 = .ok (.goto 35, 3) := dk_167 0 35 (dk_at dksX5_countOf_0 13 rfl rfl)
theorem dX5_countOf_16 : decode cX5_countOf 16 = .ok (.aload_n 0, 1) := dk_42 (dk_at dksX5_countOf_0 16 rfl rfl)
theorem dX5_countOf_17 : decode cX5_countOf 17 = .ok (.iload_n 2, 1) := dk_28 (dk_at dksX5_countOf_0 17 rfl rfl)
theorem dX5_countOf_18 : decode cX5_countOf 18 = .ok (.aload_n 0, 1) := dk_42 (dk_at dksX5_countOf_0 18 rfl rfl)
theorem dX5_countOf_19 : decode cX5_countOf 19 = .ok (.getfield 7, 3) := dk_180 0 7 (dk_at dksX5_countOf_0 19 rfl rfl)
theorem dX5_countOf_22 : decode cX5_countOf 22 = .ok (.bipush 34, 2) := dk_16 34 (dk_at dksX5_countOf_0 22 rfl rfl)
theorem dX5_countOf_24 : decode cX5_countOf 24 = .ok (.iload_n 3, 1) := dk_29 (dk_at dksX5_countOf_1 0 rfl rfl)
theorem dX5_countOf_25 : decode cX5_countOf 25 = .ok (.iadd, 1) := dk_96 (dk_at dksX5_countOf_1 1 rfl rfl)
theorem dX5_countOf_26 : decode cX5_countOf 26 = .ok (.iaload, 1) := dk_46 (dk_at dksX5_countOf_1 2 rfl rfl)
theorem dX5_countOf_27 : decode cX5_countOf 27 = .ok (.aload_n 0, 1) := dk_42 (dk_at dksX5_countOf_1 3 rfl rfl)
theorem dX5_countOf_28 : decode cX5_countOf 28 = .ok (.getfield 7, 3) := dk_180 0 7 (dk_at dksX5_countOf_1 4 rfl rfl)
theorem dX5_countOf_31 : decode cX5_countOf 31 = .ok (.bipush 48, 2) := dk_16 48 (dk_at dksX5_countOf_1 7 rfl rfl)
theorem dX5_countOf_33 : decode cX5_countOf 33 = .ok (.iload_n 3, 1) := dk_29 (dk_at dksX5_countOf_1 9 rfl rfl)
theorem dX5_countOf_34 : decode cX5_countOf 34 = .ok (.iadd, 1) := dk_96 (dk_at dksX5_countOf_1 10 rfl rfl)
theorem dX5_countOf_35 : decode cX5_countOf 35 = .ok (.iaload, 1) := dk_46 (dk_at dksX5_countOf_1 11 rfl rfl)
theorem dX5_countOf_36 : decode cX5_countOf 36 = .ok (.aload_n 0, 1) := dk_42 (dk_at dksX5_countOf_1 12 rfl rfl)
theorem dX5_countOf_37 : decode cX5_countOf 37 = .ok (.getfield 7, 3) := dk_180 0 7 (dk_at dksX5_countOf_1 13 rfl rfl)
theorem dX5_countOf_40 : decode cX5_countOf 40 = .ok (.bipush 62, 2) := dk_16 62 (dk_at dksX5_countOf_1 16 rfl rfl)
theorem dX5_countOf_42 : decode cX5_countOf 42 = .ok (.iload_n 3, 1) := dk_29 (dk_at dksX5_countOf_1 18 rfl rfl)
theorem dX5_countOf_43 : decode cX5_countOf 43 = .ok (.iadd, 1) := dk_96 (dk_at dksX5_countOf_1 19 rfl rfl)
theorem dX5_countOf_44 : decode cX5_countOf 44 = .ok (.iaload, 1) := dk_46 (dk_at dksX5_countOf_1 20 rfl rfl)
theorem dX5_countOf_45 : decode cX5_countOf 45 = .ok (.invokevirtual 306, 3) := dk_182 1 50 (dk_at dksX5_countOf_1 21 rfl rfl)
theorem dX5_countOf_48 : decode cX5_countOf 48 = .ok (.aload_n 0, 1) := dk_42 (dk_at dksX5_countOf_2 0 rfl rfl)
theorem dX5_countOf_49 : decode cX5_countOf 49 = .ok (.getfield 62, 3) := dk_180 0 62 (dk_at dksX5_countOf_2 1 rfl rfl)
theorem dX5_countOf_52 : decode cX5_countOf 52 = .ok (.iconst 5, 1) := dk_8 (dk_at dksX5_countOf_2 4 rfl rfl)
theorem dX5_countOf_53 : decode cX5_countOf 53 = .ok (.aload_n 0, 1) := dk_42 (dk_at dksX5_countOf_2 5 rfl rfl)
theorem dX5_countOf_54 : decode cX5_countOf 54 = .ok (.getfield 7, 3) := dk_180 0 7 (dk_at dksX5_countOf_2 6 rfl rfl)
theorem dX5_countOf_57 : decode cX5_countOf 57 = .ok (.bipush 76, 2) := dk_16 76 (dk_at dksX5_countOf_2 9 rfl rfl)
theorem dX5_countOf_59 : decode cX5_countOf 59 = .ok (.iload_n 1, 1) := dk_27 (dk_at dksX5_countOf_2 11 rfl rfl)
theorem dX5_countOf_60 : decode cX5_countOf 60 = .ok (.iadd, 1) := dk_96 (dk_at dksX5_countOf_2 12 rfl rfl)
theorem dX5_countOf_61 : decode cX5_countOf 61 = .ok (.iaload, 1) := dk_46 (dk_at dksX5_countOf_2 13 rfl rfl)
theorem dX5_countOf_62 : decode cX5_countOf 62 = .ok (.iastore, 1) := dk_79 (dk_at dksX5_countOf_2 14 rfl rfl)
theorem dX5_countOf_63 : decode cX5_countOf 63 = .ok (.aload_n 0, 1) := dk_42 (dk_at dksX5_countOf_2 15 rfl rfl)
theorem dX5_countOf_64 : decode cX5_countOf 64 = .ok (.getfield 62, 3) := dk_180 0 62 (dk_at dksX5_countOf_2 16 rfl rfl)
theorem dX5_countOf_67 : decode cX5_countOf 67 = .ok (.bipush 6, 2) := dk_16 6 (dk_at dksX5_countOf_2 19 rfl rfl)
theorem dX5_countOf_69 : decode cX5_countOf 69 = .ok (.aload_n 0, 1) := dk_42 (dk_at dksX5_countOf_2 21 rfl rfl)
theorem dX5_countOf_70 : decode cX5_countOf 70 = .ok (.iload_n 1, 1) := dk_27 (dk_at dksX5_countOf_2 22 rfl rfl)
theorem dX5_countOf_71 : decode cX5_countOf 71 = .ok (.iload_n 2, 1) := dk_28 (dk_at dksX5_countOf_2 23 rfl rfl)
theorem dX5_countOf_72 : decode cX5_countOf 72 = .ok (.invokevirtual 313, 3) := dk_182 1 57 (dk_at dksX5_countOf_3 0 rfl rfl)
theorem dX5_countOf_75 : decode cX5_countOf 75 = .ok (.iastore, 1) := dk_79 (dk_at dksX5_countOf_3 3 rfl rfl)
theorem dX5_countOf_76 : decode cX5_countOf 76 = .ok (.aload_n 0, 1) := dk_42 (dk_at dksX5_countOf_3 4 rfl rfl)
theorem dX5_countOf_77 : decode cX5_countOf 77 = .ok (.getfield 62, 3) := dk_180 0 62 (dk_at dksX5_countOf_3 5 rfl rfl)
theorem dX5_countOf_80 : decode cX5_countOf 80 = .ok (.bipush 7, 2) := dk_16 7 (dk_at dksX5_countOf_3 8 rfl rfl)
theorem dX5_countOf_82 : decode cX5_countOf 82 = .ok (.iload_n 3, 1) := dk_29 (dk_at dksX5_countOf_3 10 rfl rfl)
theorem dX5_countOf_83 : decode cX5_countOf 83 = .ok (.iconst (-1), 1) := dk_2 (dk_at dksX5_countOf_3 11 rfl rfl)
theorem dX5_countOf_84 : decode cX5_countOf 84 = .ok (.if_icmp .ne 7, 3) := dk_160 0 7 (dk_at dksX5_countOf_3 12 rfl rfl)
theorem dX5_countOf_87 : decode cX5_countOf 87 = .ok (.iconst 1, 1) := dk_4 (dk_at dksX5_countOf_3 15 rfl rfl)
theorem dX5_countOf_88 : decode cX5_countOf 88 = .ok (.goto 4, 3) := dk_167 0 4 (dk_at dksX5_countOf_3 16 rfl rfl)
theorem dX5_countOf_91 : decode cX5_countOf 91 = .ok (.iconst 0, 1) := dk_3 (dk_at dksX5_countOf_3 19 rfl rfl)
theorem dX5_countOf_92 : decode cX5_countOf 92 = .ok (.iastore, 1) := dk_79 (dk_at dksX5_countOf_3 20 rfl rfl)
theorem dX5_countOf_93 : decode cX5_countOf 93 = .ok (.aload_n 0, 1) := dk_42 (dk_at dksX5_countOf_3 21 rfl rfl)
theorem dX5_countOf_94 : decode cX5_countOf 94 = .ok (.getfield 62, 3) := dk_180 0 62 (dk_at dksX5_countOf_4 0 rfl rfl)
theorem dX5_countOf_97 : decode cX5_countOf 97 = .ok (.bipush 8, 2) := dk_16 8 (dk_at dksX5_countOf_4 3 rfl rfl)
theorem dX5_countOf_99 : decode cX5_countOf 99 = .ok (.aload_n 0, 1) := dk_42 (dk_at dksX5_countOf_4 5 rfl rfl)
theorem dX5_countOf_100 : decode cX5_countOf 100 = .ok (.getfield 7, 3) := dk_180 0 7 (dk_at dksX5_countOf_4 6 rfl rfl)
theorem dX5_countOf_103 : decode cX5_countOf 103 = .ok (.bipush 10, 2) := dk_16 10 (dk_at dksX5_countOf_4 9 rfl rfl)
theorem dX5_countOf_105 : decode cX5_countOf 105 = .ok (.iload_n 2, 1) := dk_28 (dk_at dksX5_countOf_4 11 rfl rfl)
theorem dX5_countOf_106 : decode cX5_countOf 106 = .ok (.iadd, 1) := dk_96 (dk_at dksX5_countOf_4 12 rfl rfl)
theorem dX5_countOf_107 : decode cX5_countOf 107 = .ok (.iaload, 1) := dk_46 (dk_at dksX5_countOf_4 13 rfl rfl)
theorem dX5_countOf_108 : decode cX5_countOf 108 = .ok (.iastore, 1) := dk_79 (dk_at dksX5_countOf_4 14 rfl rfl)
theorem dX5_countOf_109 : decode cX5_countOf 109 = .ok (.aload_n 0, 1) := dk_42 (dk_at dksX5_countOf_4 15 rfl rfl)
theorem dX5_countOf_110 : decode cX5_countOf 110 = .ok (.iconst 2, 1) := dk_5 (dk_at dksX5_countOf_4 16 rfl rfl)
theorem dX5_countOf_111 : decode cX5_countOf 111 = .ok (.iconst 1, 1) := dk_4 (dk_at dksX5_countOf_4 17 rfl rfl)
theorem dX5_countOf_112 : decode cX5_countOf 112 = .ok (.bipush 9, 2) := dk_16 9 (dk_at dksX5_countOf_4 18 rfl rfl)
theorem dX5_countOf_114 : decode cX5_countOf 114 = .ok (.invokevirtual 310, 3) := dk_182 1 54 (dk_at dksX5_countOf_4 20 rfl rfl)
theorem dX5_countOf_117 : decode cX5_countOf 117 = .ok (.ireturn, 1) := dk_172 (dk_at dksX5_countOf_4 23 rfl rfl)
abbrev cX5_counts : ByteArray := prog_22_method_81_code
def yX5_counts : MethodName := ⟨RX5, "counts", "(II)V"⟩
def dkwX5_counts_2 : List UInt8 := [46, 96, 29, 100, 181, 0, 96, 177]
abbrev dktX5_counts_2 : List UInt8 := dkwX5_counts_2 ++ []
def dkwX5_counts_1 : List UInt8 := [182, 0, 122, 79, 27, 42, 180, 1, 89, 160, 0, 22, 42, 42, 180, 0, 96, 42, 180, 0, 7, 8, 27, 96]
abbrev dktX5_counts_1 : List UInt8 := dkwX5_counts_1 ++ dktX5_counts_2
def dkwX5_counts_0 : List UInt8 := [42, 180, 0, 7, 8, 27, 96, 46, 62, 42, 180, 0, 7, 8, 27, 96, 42, 29, 28, 96, 3, 17, 39, 15]
abbrev dktX5_counts_0 : List UInt8 := dkwX5_counts_0 ++ dktX5_counts_1
theorem dksX5_counts_0 : cX5_counts.data.toList.drop 0 = dktX5_counts_0 := by decide +kernel
theorem dksX5_counts_1 : cX5_counts.data.toList.drop 24 = dktX5_counts_1 := dk_seg dksX5_counts_0 24 rfl rfl
theorem dksX5_counts_2 : cX5_counts.data.toList.drop 48 = dktX5_counts_2 := dk_seg dksX5_counts_1 24 rfl rfl
theorem dX5_counts_0 : decode cX5_counts 0 = .ok (.aload_n 0, 1) := dk_42 (dk_at dksX5_counts_0 0 rfl rfl)
theorem dX5_counts_1 : decode cX5_counts 1 = .ok (.getfield 7, 3) := dk_180 0 7 (dk_at dksX5_counts_0 1 rfl rfl)
theorem dX5_counts_4 : decode cX5_counts 4 = .ok (.iconst 5, 1) := dk_8 (dk_at dksX5_counts_0 4 rfl rfl)
theorem dX5_counts_5 : decode cX5_counts 5 = .ok (.iload_n 1, 1) := dk_27 (dk_at dksX5_counts_0 5 rfl rfl)
theorem dX5_counts_6 : decode cX5_counts 6 = .ok (.iadd, 1) := dk_96 (dk_at dksX5_counts_0 6 rfl rfl)
theorem dX5_counts_7 : decode cX5_counts 7 = .ok (.iaload, 1) := dk_46 (dk_at dksX5_counts_0 7 rfl rfl)
theorem dX5_counts_8 : decode cX5_counts 8 = .ok (.istore_n 3, 1) := dk_62 (dk_at dksX5_counts_0 8 rfl rfl)
theorem dX5_counts_9 : decode cX5_counts 9 = .ok (.aload_n 0, 1) := dk_42 (dk_at dksX5_counts_0 9 rfl rfl)
theorem dX5_counts_10 : decode cX5_counts 10 = .ok (.getfield 7, 3) := dk_180 0 7 (dk_at dksX5_counts_0 10 rfl rfl)
theorem dX5_counts_13 : decode cX5_counts 13 = .ok (.iconst 5, 1) := dk_8 (dk_at dksX5_counts_0 13 rfl rfl)
theorem dX5_counts_14 : decode cX5_counts 14 = .ok (.iload_n 1, 1) := dk_27 (dk_at dksX5_counts_0 14 rfl rfl)
theorem dX5_counts_15 : decode cX5_counts 15 = .ok (.iadd, 1) := dk_96 (dk_at dksX5_counts_0 15 rfl rfl)
theorem dX5_counts_16 : decode cX5_counts 16 = .ok (.aload_n 0, 1) := dk_42 (dk_at dksX5_counts_0 16 rfl rfl)
theorem dX5_counts_17 : decode cX5_counts 17 = .ok (.iload_n 3, 1) := dk_29 (dk_at dksX5_counts_0 17 rfl rfl)
theorem dX5_counts_18 : decode cX5_counts 18 = .ok (.iload_n 2, 1) := dk_28 (dk_at dksX5_counts_0 18 rfl rfl)
theorem dX5_counts_19 : decode cX5_counts 19 = .ok (.iadd, 1) := dk_96 (dk_at dksX5_counts_0 19 rfl rfl)
theorem dX5_counts_20 : decode cX5_counts 20 = .ok (.iconst 0, 1) := dk_3 (dk_at dksX5_counts_0 20 rfl rfl)
theorem dX5_counts_21 : decode cX5_counts 21 = .ok (.sipush 9999, 3) := dk_17 39 15 (dk_at dksX5_counts_0 21 rfl rfl)
theorem dX5_counts_24 : decode cX5_counts 24 = .ok (.invokevirtual 122, 3) := dk_182 0 122 (dk_at dksX5_counts_1 0 rfl rfl)
theorem dX5_counts_27 : decode cX5_counts 27 = .ok (.iastore, 1) := dk_79 (dk_at dksX5_counts_1 3 rfl rfl)
theorem dX5_counts_28 : decode cX5_counts 28 = .ok (.iload_n 1, 1) := dk_27 (dk_at dksX5_counts_1 4 rfl rfl)
theorem dX5_counts_29 : decode cX5_counts 29 = .ok (.aload_n 0, 1) := dk_42 (dk_at dksX5_counts_1 5 rfl rfl)
theorem dX5_counts_30 : decode cX5_counts 30 = .ok (.getfield 345, 3) := dk_180 1 89 (dk_at dksX5_counts_1 6 rfl rfl)
theorem dX5_counts_33 : decode cX5_counts 33 = .ok (.if_icmp .ne 22, 3) := dk_160 0 22 (dk_at dksX5_counts_1 9 rfl rfl)
theorem dX5_counts_36 : decode cX5_counts 36 = .ok (.aload_n 0, 1) := dk_42 (dk_at dksX5_counts_1 12 rfl rfl)
theorem dX5_counts_37 : decode cX5_counts 37 = .ok (.aload_n 0, 1) := dk_42 (dk_at dksX5_counts_1 13 rfl rfl)
theorem dX5_counts_38 : decode cX5_counts 38 = .ok (.getfield 96, 3) := dk_180 0 96 (dk_at dksX5_counts_1 14 rfl rfl)
theorem dX5_counts_41 : decode cX5_counts 41 = .ok (.aload_n 0, 1) := dk_42 (dk_at dksX5_counts_1 17 rfl rfl)
theorem dX5_counts_42 : decode cX5_counts 42 = .ok (.getfield 7, 3) := dk_180 0 7 (dk_at dksX5_counts_1 18 rfl rfl)
theorem dX5_counts_45 : decode cX5_counts 45 = .ok (.iconst 5, 1) := dk_8 (dk_at dksX5_counts_1 21 rfl rfl)
theorem dX5_counts_46 : decode cX5_counts 46 = .ok (.iload_n 1, 1) := dk_27 (dk_at dksX5_counts_1 22 rfl rfl)
theorem dX5_counts_47 : decode cX5_counts 47 = .ok (.iadd, 1) := dk_96 (dk_at dksX5_counts_1 23 rfl rfl)
theorem dX5_counts_48 : decode cX5_counts 48 = .ok (.iaload, 1) := dk_46 (dk_at dksX5_counts_2 0 rfl rfl)
theorem dX5_counts_49 : decode cX5_counts 49 = .ok (.iadd, 1) := dk_96 (dk_at dksX5_counts_2 1 rfl rfl)
theorem dX5_counts_50 : decode cX5_counts 50 = .ok (.iload_n 3, 1) := dk_29 (dk_at dksX5_counts_2 2 rfl rfl)
theorem dX5_counts_51 : decode cX5_counts 51 = .ok (.isub, 1) := dk_100 (dk_at dksX5_counts_2 3 rfl rfl)
theorem dX5_counts_52 : decode cX5_counts 52 = .ok (.putfield 96, 3) := dk_181 0 96 (dk_at dksX5_counts_2 4 rfl rfl)
theorem dX5_counts_55 : decode cX5_counts 55 = .ok (.return_, 1) := dk_177 (dk_at dksX5_counts_2 7 rfl rfl)
abbrev cX5_draw : ByteArray := prog_22_method_15_code
def yX5_draw : MethodName := ⟨RX5, "draw", "(I)I"⟩
def dkwX5_draw_1 : List UInt8 := [16, 8, 124, 27, 112, 172]
abbrev dktX5_draw_1 : List UInt8 := dkwX5_draw_1 ++ []
def dkwX5_draw_0 : List UInt8 := [42, 180, 0, 7, 4, 18, 108, 42, 180, 0, 7, 4, 46, 104, 18, 109, 96, 79, 42, 180, 0, 7, 4, 46]
abbrev dktX5_draw_0 : List UInt8 := dkwX5_draw_0 ++ dktX5_draw_1
theorem dksX5_draw_0 : cX5_draw.data.toList.drop 0 = dktX5_draw_0 := by decide +kernel
theorem dksX5_draw_1 : cX5_draw.data.toList.drop 24 = dktX5_draw_1 := dk_seg dksX5_draw_0 24 rfl rfl
theorem dX5_draw_0 : decode cX5_draw 0 = .ok (.aload_n 0, 1) := dk_42 (dk_at dksX5_draw_0 0 rfl rfl)
theorem dX5_draw_1 : decode cX5_draw 1 = .ok (.getfield 7, 3) := dk_180 0 7 (dk_at dksX5_draw_0 1 rfl rfl)
theorem dX5_draw_4 : decode cX5_draw 4 = .ok (.iconst 1, 1) := dk_4 (dk_at dksX5_draw_0 4 rfl rfl)
theorem dX5_draw_5 : decode cX5_draw 5 = .ok (.ldc 108, 2) := dk_18 108 (dk_at dksX5_draw_0 5 rfl rfl)
theorem dX5_draw_7 : decode cX5_draw 7 = .ok (.aload_n 0, 1) := dk_42 (dk_at dksX5_draw_0 7 rfl rfl)
theorem dX5_draw_8 : decode cX5_draw 8 = .ok (.getfield 7, 3) := dk_180 0 7 (dk_at dksX5_draw_0 8 rfl rfl)
theorem dX5_draw_11 : decode cX5_draw 11 = .ok (.iconst 1, 1) := dk_4 (dk_at dksX5_draw_0 11 rfl rfl)
theorem dX5_draw_12 : decode cX5_draw 12 = .ok (.iaload, 1) := dk_46 (dk_at dksX5_draw_0 12 rfl rfl)
theorem dX5_draw_13 : decode cX5_draw 13 = .ok (.imul, 1) := dk_104 (dk_at dksX5_draw_0 13 rfl rfl)
theorem dX5_draw_14 : decode cX5_draw 14 = .ok (.ldc 109, 2) := dk_18 109 (dk_at dksX5_draw_0 14 rfl rfl)
theorem dX5_draw_16 : decode cX5_draw 16 = .ok (.iadd, 1) := dk_96 (dk_at dksX5_draw_0 16 rfl rfl)
theorem dX5_draw_17 : decode cX5_draw 17 = .ok (.iastore, 1) := dk_79 (dk_at dksX5_draw_0 17 rfl rfl)
theorem dX5_draw_18 : decode cX5_draw 18 = .ok (.aload_n 0, 1) := dk_42 (dk_at dksX5_draw_0 18 rfl rfl)
theorem dX5_draw_19 : decode cX5_draw 19 = .ok (.getfield 7, 3) := dk_180 0 7 (dk_at dksX5_draw_0 19 rfl rfl)
theorem dX5_draw_22 : decode cX5_draw 22 = .ok (.iconst 1, 1) := dk_4 (dk_at dksX5_draw_0 22 rfl rfl)
theorem dX5_draw_23 : decode cX5_draw 23 = .ok (.iaload, 1) := dk_46 (dk_at dksX5_draw_0 23 rfl rfl)
theorem dX5_draw_24 : decode cX5_draw 24 = .ok (.bipush 8, 2) := dk_16 8 (dk_at dksX5_draw_1 0 rfl rfl)
theorem dX5_draw_26 : decode cX5_draw 26 = .ok (.iushr, 1) := dk_124 (dk_at dksX5_draw_1 2 rfl rfl)
theorem dX5_draw_27 : decode cX5_draw 27 = .ok (.iload_n 1, 1) := dk_27 (dk_at dksX5_draw_1 3 rfl rfl)
theorem dX5_draw_28 : decode cX5_draw 28 = .ok (.irem, 1) := dk_112 (dk_at dksX5_draw_1 4 rfl rfl)
theorem dX5_draw_29 : decode cX5_draw 29 = .ok (.ireturn, 1) := dk_172 (dk_at dksX5_draw_1 5 rfl rfl)
abbrev cX5_jamFor : ByteArray := prog_22_method_83_code
def yX5_jamFor : MethodName := ⟨RX5, "jamFor", "(I)I"⟩
def dkwX5_jamFor_2 : List UInt8 := [182, 1, 57, 164, 0, 5, 29, 61, 132, 3, 1, 167, 255, 202, 28, 172]
abbrev dktX5_jamFor_2 : List UInt8 := dkwX5_jamFor_2 ++ []
def dkwX5_jamFor_1 : List UInt8 := [42, 27, 29, 182, 1, 57, 158, 0, 25, 28, 2, 159, 0, 18, 42, 27, 29, 182, 1, 57, 42, 27, 28]
abbrev dktX5_jamFor_1 : List UInt8 := dkwX5_jamFor_1 ++ dktX5_jamFor_2
def dkwX5_jamFor_0 : List UInt8 := [2, 61, 3, 62, 29, 42, 180, 0, 116, 162, 0, 52, 42, 180, 0, 7, 16, 15, 29, 96, 46, 158, 0, 34]
abbrev dktX5_jamFor_0 : List UInt8 := dkwX5_jamFor_0 ++ dktX5_jamFor_1
theorem dksX5_jamFor_0 : cX5_jamFor.data.toList.drop 0 = dktX5_jamFor_0 := by decide +kernel
theorem dksX5_jamFor_1 : cX5_jamFor.data.toList.drop 24 = dktX5_jamFor_1 := dk_seg dksX5_jamFor_0 24 rfl rfl
theorem dksX5_jamFor_2 : cX5_jamFor.data.toList.drop 47 = dktX5_jamFor_2 := dk_seg dksX5_jamFor_1 23 rfl rfl
theorem dX5_jamFor_0 : decode cX5_jamFor 0 = .ok (.iconst (-1), 1) := dk_2 (dk_at dksX5_jamFor_0 0 rfl rfl)
theorem dX5_jamFor_1 : decode cX5_jamFor 1 = .ok (.istore_n 2, 1) := dk_61 (dk_at dksX5_jamFor_0 1 rfl rfl)
theorem dX5_jamFor_2 : decode cX5_jamFor 2 = .ok (.iconst 0, 1) := dk_3 (dk_at dksX5_jamFor_0 2 rfl rfl)
theorem dX5_jamFor_3 : decode cX5_jamFor 3 = .ok (.istore_n 3, 1) := dk_62 (dk_at dksX5_jamFor_0 3 rfl rfl)
theorem dX5_jamFor_4 : decode cX5_jamFor 4 = .ok (.iload_n 3, 1) := dk_29 (dk_at dksX5_jamFor_0 4 rfl rfl)
theorem dX5_jamFor_5 : decode cX5_jamFor 5 = .ok (.aload_n 0, 1) := dk_42 (dk_at dksX5_jamFor_0 5 rfl rfl)
theorem dX5_jamFor_6 : decode cX5_jamFor 6 = .ok (.getfield 116, 3) := dk_180 0 116 (dk_at dksX5_jamFor_0 6 rfl rfl)
theorem dX5_jamFor_9 : decode cX5_jamFor 9 = .ok (.if_icmp .ge 52, 3) := dk_162 0 52 (dk_at dksX5_jamFor_0 9 rfl rfl)
theorem dX5_jamFor_12 : decode cX5_jamFor 12 = .ok (.aload_n 0, 1) := dk_42 (dk_at dksX5_jamFor_0 12 rfl rfl)
theorem dX5_jamFor_13 : decode cX5_jamFor 13 = .ok (.getfield 7, 3) := dk_180 0 7 (dk_at dksX5_jamFor_0 13 rfl rfl)
theorem dX5_jamFor_16 : decode cX5_jamFor 16 = .ok (.bipush 15, 2) := dk_16 15 (dk_at dksX5_jamFor_0 16 rfl rfl)
theorem dX5_jamFor_18 : decode cX5_jamFor 18 = .ok (.iload_n 3, 1) := dk_29 (dk_at dksX5_jamFor_0 18 rfl rfl)
theorem dX5_jamFor_19 : decode cX5_jamFor 19 = .ok (.iadd, 1) := dk_96 (dk_at dksX5_jamFor_0 19 rfl rfl)
theorem dX5_jamFor_20 : decode cX5_jamFor 20 = .ok (.iaload, 1) := dk_46 (dk_at dksX5_jamFor_0 20 rfl rfl)
theorem dX5_jamFor_21 : decode cX5_jamFor 21 = .ok (.ifCond .le 34, 3) := dk_158 0 34 (dk_at dksX5_jamFor_0 21 rfl rfl)
theorem dX5_jamFor_24 : decode cX5_jamFor 24 = .ok (.aload_n 0, 1) := dk_42 (dk_at dksX5_jamFor_1 0 rfl rfl)
theorem dX5_jamFor_25 : decode cX5_jamFor 25 = .ok (.iload_n 1, 1) := dk_27 (dk_at dksX5_jamFor_1 1 rfl rfl)
theorem dX5_jamFor_26 : decode cX5_jamFor 26 = .ok (.iload_n 3, 1) := dk_29 (dk_at dksX5_jamFor_1 2 rfl rfl)
theorem dX5_jamFor_27 : decode cX5_jamFor 27 = .ok (.invokevirtual 313, 3) := dk_182 1 57 (dk_at dksX5_jamFor_1 3 rfl rfl)
theorem dX5_jamFor_30 : decode cX5_jamFor 30 = .ok (.ifCond .le 25, 3) := dk_158 0 25 (dk_at dksX5_jamFor_1 6 rfl rfl)
theorem dX5_jamFor_33 : decode cX5_jamFor 33 = .ok (.iload_n 2, 1) := dk_28 (dk_at dksX5_jamFor_1 9 rfl rfl)
theorem dX5_jamFor_34 : decode cX5_jamFor 34 = .ok (.iconst (-1), 1) := dk_2 (dk_at dksX5_jamFor_1 10 rfl rfl)
theorem dX5_jamFor_35 : decode cX5_jamFor 35 = .ok (.if_icmp .eq 18, 3) := dk_159 0 18 (dk_at dksX5_jamFor_1 11 rfl rfl)
theorem dX5_jamFor_38 : decode cX5_jamFor 38 = .ok (.aload_n 0, 1) := dk_42 (dk_at dksX5_jamFor_1 14 rfl rfl)
theorem dX5_jamFor_39 : decode cX5_jamFor 39 = .ok (.iload_n 1, 1) := dk_27 (dk_at dksX5_jamFor_1 15 rfl rfl)
theorem dX5_jamFor_40 : decode cX5_jamFor 40 = .ok (.iload_n 3, 1) := dk_29 (dk_at dksX5_jamFor_1 16 rfl rfl)
theorem dX5_jamFor_41 : decode cX5_jamFor 41 = .ok (.invokevirtual 313, 3) := dk_182 1 57 (dk_at dksX5_jamFor_1 17 rfl rfl)
theorem dX5_jamFor_44 : decode cX5_jamFor 44 = .ok (.aload_n 0, 1) := dk_42 (dk_at dksX5_jamFor_1 20 rfl rfl)
theorem dX5_jamFor_45 : decode cX5_jamFor 45 = .ok (.iload_n 1, 1) := dk_27 (dk_at dksX5_jamFor_1 21 rfl rfl)
theorem dX5_jamFor_46 : decode cX5_jamFor 46 = .ok (.iload_n 2, 1) := dk_28 (dk_at dksX5_jamFor_1 22 rfl rfl)
theorem dX5_jamFor_47 : decode cX5_jamFor 47 = .ok (.invokevirtual 313, 3) := dk_182 1 57 (dk_at dksX5_jamFor_2 0 rfl rfl)
theorem dX5_jamFor_50 : decode cX5_jamFor 50 = .ok (.if_icmp .le 5, 3) := dk_164 0 5 (dk_at dksX5_jamFor_2 3 rfl rfl)
theorem dX5_jamFor_53 : decode cX5_jamFor 53 = .ok (.iload_n 3, 1) := dk_29 (dk_at dksX5_jamFor_2 6 rfl rfl)
theorem dX5_jamFor_54 : decode cX5_jamFor 54 = .ok (.istore_n 2, 1) := dk_61 (dk_at dksX5_jamFor_2 7 rfl rfl)
theorem dX5_jamFor_55 : decode cX5_jamFor 55 = .ok (.iinc 3 1, 3) := dk_132 3 1 (dk_at dksX5_jamFor_2 8 rfl rfl)
theorem dX5_jamFor_58 : decode cX5_jamFor 58 = .ok (.goto (-54), 3) := dk_167 255 202 (dk_at dksX5_jamFor_2 11 rfl rfl)
theorem dX5_jamFor_61 : decode cX5_jamFor 61 = .ok (.iload_n 2, 1) := dk_28 (dk_at dksX5_jamFor_2 14 rfl rfl)
theorem dX5_jamFor_62 : decode cX5_jamFor 62 = .ok (.ireturn, 1) := dk_172 (dk_at dksX5_jamFor_2 15 rfl rfl)
abbrev cX5_stings : ByteArray := prog_22_method_93_code
def yX5_stings : MethodName := ⟨RX5, "stings", "()V"⟩
def dkwX5_stings_4 : List UInt8 := [182, 1, 60, 132, 1, 1, 167, 255, 171, 177]
abbrev dktX5_stings_4 : List UInt8 := dkwX5_stings_4 ++ []
def dkwX5_stings_3 : List UInt8 := [180, 0, 7, 16, 62, 27, 96, 42, 180, 0, 7, 16, 62, 27, 96, 46, 28, 100, 79, 42, 16, 6, 27, 28]
abbrev dktX5_stings_3 : List UInt8 := dkwX5_stings_3 ++ dktX5_stings_4
def dkwX5_stings_2 : List UInt8 := [42, 180, 0, 150, 161, 0, 6, 167, 0, 44, 42, 180, 0, 7, 16, 62, 27, 96, 46, 16, 10, 108, 61, 42]
abbrev dktX5_stings_2 : List UInt8 := dkwX5_stings_2 ++ dktX5_stings_3
def dkwX5_stings_1 : List UInt8 := [162, 0, 81, 42, 180, 0, 7, 16, 62, 27, 96, 46, 16, 10, 161, 0, 61, 42, 17, 3, 232, 182, 1, 98]
abbrev dktX5_stings_1 : List UInt8 := dkwX5_stings_1 ++ dktX5_stings_2
def dkwX5_stings_0 : List UInt8 := [42, 180, 0, 92, 154, 0, 10, 42, 180, 0, 150, 154, 0, 4, 177, 3, 60, 27, 42, 180, 0, 7, 7, 46]
abbrev dktX5_stings_0 : List UInt8 := dkwX5_stings_0 ++ dktX5_stings_1
theorem dksX5_stings_0 : cX5_stings.data.toList.drop 0 = dktX5_stings_0 := by decide +kernel
theorem dksX5_stings_1 : cX5_stings.data.toList.drop 24 = dktX5_stings_1 := dk_seg dksX5_stings_0 24 rfl rfl
theorem dksX5_stings_2 : cX5_stings.data.toList.drop 48 = dktX5_stings_2 := dk_seg dksX5_stings_1 24 rfl rfl
theorem dksX5_stings_3 : cX5_stings.data.toList.drop 72 = dktX5_stings_3 := dk_seg dksX5_stings_2 24 rfl rfl
theorem dksX5_stings_4 : cX5_stings.data.toList.drop 96 = dktX5_stings_4 := dk_seg dksX5_stings_3 24 rfl rfl
theorem dX5_stings_0 : decode cX5_stings 0 = .ok (.aload_n 0, 1) := dk_42 (dk_at dksX5_stings_0 0 rfl rfl)
theorem dX5_stings_1 : decode cX5_stings 1 = .ok (.getfield 92, 3) := dk_180 0 92 (dk_at dksX5_stings_0 1 rfl rfl)
theorem dX5_stings_4 : decode cX5_stings 4 = .ok (.ifCond .ne 10, 3) := dk_154 0 10 (dk_at dksX5_stings_0 4 rfl rfl)
theorem dX5_stings_7 : decode cX5_stings 7 = .ok (.aload_n 0, 1) := dk_42 (dk_at dksX5_stings_0 7 rfl rfl)
theorem dX5_stings_8 : decode cX5_stings 8 = .ok (.getfield 150, 3) := dk_180 0 150 (dk_at dksX5_stings_0 8 rfl rfl)
theorem dX5_stings_11 : decode cX5_stings 11 = .ok (.ifCond .ne 4, 3) := dk_154 0 4 (dk_at dksX5_stings_0 11 rfl rfl)
theorem dX5_stings_14 : decode cX5_stings 14 = .ok (.return_, 1) := dk_177 (dk_at dksX5_stings_0 14 rfl rfl)
theorem dX5_stings_15 : decode cX5_stings 15 = .ok (.iconst 0, 1) := dk_3 (dk_at dksX5_stings_0 15 rfl rfl)
theorem dX5_stings_16 : decode cX5_stings 16 = .ok (.istore_n 1, 1) := dk_60 (dk_at dksX5_stings_0 16 rfl rfl)
theorem dX5_stings_17 : decode cX5_stings 17 = .ok (.iload_n 1, 1) := dk_27 (dk_at dksX5_stings_0 17 rfl rfl)
theorem dX5_stings_18 : decode cX5_stings 18 = .ok (.aload_n 0, 1) := dk_42 (dk_at dksX5_stings_0 18 rfl rfl)
theorem dX5_stings_19 : decode cX5_stings 19 = .ok (.getfield 7, 3) := dk_180 0 7 (dk_at dksX5_stings_0 19 rfl rfl)
theorem dX5_stings_22 : decode cX5_stings 22 = .ok (.iconst 4, 1) := dk_7 (dk_at dksX5_stings_0 22 rfl rfl)
theorem dX5_stings_23 : decode cX5_stings 23 = .ok (.iaload, 1) := dk_46 (dk_at dksX5_stings_0 23 rfl rfl)
theorem dX5_stings_24 : decode cX5_stings 24 = .ok (.if_icmp .ge 81, 3) := dk_162 0 81 (dk_at dksX5_stings_1 0 rfl rfl)
theorem dX5_stings_27 : decode cX5_stings 27 = .ok (.aload_n 0, 1) := dk_42 (dk_at dksX5_stings_1 3 rfl rfl)
theorem dX5_stings_28 : decode cX5_stings 28 = .ok (.getfield 7, 3) := dk_180 0 7 (dk_at dksX5_stings_1 4 rfl rfl)
theorem dX5_stings_31 : decode cX5_stings 31 = .ok (.bipush 62, 2) := dk_16 62 (dk_at dksX5_stings_1 7 rfl rfl)
theorem dX5_stings_33 : decode cX5_stings 33 = .ok (.iload_n 1, 1) := dk_27 (dk_at dksX5_stings_1 9 rfl rfl)
theorem dX5_stings_34 : decode cX5_stings 34 = .ok (.iadd, 1) := dk_96 (dk_at dksX5_stings_1 10 rfl rfl)
theorem dX5_stings_35 : decode cX5_stings 35 = .ok (.iaload, 1) := dk_46 (dk_at dksX5_stings_1 11 rfl rfl)
theorem dX5_stings_36 : decode cX5_stings 36 = .ok (.bipush 10, 2) := dk_16 10 (dk_at dksX5_stings_1 12 rfl rfl)
theorem dX5_stings_38 : decode cX5_stings 38 = .ok (.if_icmp .lt 61, 3) := dk_161 0 61 (dk_at dksX5_stings_1 14 rfl rfl)
theorem dX5_stings_41 : decode cX5_stings 41 = .ok (.aload_n 0, 1) := dk_42 (dk_at dksX5_stings_1 17 rfl rfl)
theorem dX5_stings_42 : decode cX5_stings 42 = .ok (.sipush 1000, 3) := dk_17 3 232 (dk_at dksX5_stings_1 18 rfl rfl)
theorem dX5_stings_45 : decode cX5_stings 45 = .ok (.invokevirtual 354, 3) := dk_182 1 98 (dk_at dksX5_stings_1 21 rfl rfl)
theorem dX5_stings_48 : decode cX5_stings 48 = .ok (.aload_n 0, 1) := dk_42 (dk_at dksX5_stings_2 0 rfl rfl)
theorem dX5_stings_49 : decode cX5_stings 49 = .ok (.getfield 150, 3) := dk_180 0 150 (dk_at dksX5_stings_2 1 rfl rfl)
theorem dX5_stings_52 : decode cX5_stings 52 = .ok (.if_icmp .lt 6, 3) := dk_161 0 6 (dk_at dksX5_stings_2 4 rfl rfl)
theorem dX5_stings_55 : decode cX5_stings 55 = .ok (.goto 44, 3) := dk_167 0 44 (dk_at dksX5_stings_2 7 rfl rfl)
theorem dX5_stings_58 : decode cX5_stings 58 = .ok (.aload_n 0, 1) := dk_42 (dk_at dksX5_stings_2 10 rfl rfl)
theorem dX5_stings_59 : decode cX5_stings 59 = .ok (.getfield 7, 3) := dk_180 0 7 (dk_at dksX5_stings_2 11 rfl rfl)
theorem dX5_stings_62 : decode cX5_stings 62 = .ok (.bipush 62, 2) := dk_16 62 (dk_at dksX5_stings_2 14 rfl rfl)
theorem dX5_stings_64 : decode cX5_stings 64 = .ok (.iload_n 1, 1) := dk_27 (dk_at dksX5_stings_2 16 rfl rfl)
theorem dX5_stings_65 : decode cX5_stings 65 = .ok (.iadd, 1) := dk_96 (dk_at dksX5_stings_2 17 rfl rfl)
theorem dX5_stings_66 : decode cX5_stings 66 = .ok (.iaload, 1) := dk_46 (dk_at dksX5_stings_2 18 rfl rfl)
theorem dX5_stings_67 : decode cX5_stings 67 = .ok (.bipush 10, 2) := dk_16 10 (dk_at dksX5_stings_2 19 rfl rfl)
theorem dX5_stings_69 : decode cX5_stings 69 = .ok (.idiv, 1) := dk_108 (dk_at dksX5_stings_2 21 rfl rfl)
theorem dX5_stings_70 : decode cX5_stings 70 = .ok (.istore_n 2, 1) := dk_61 (dk_at dksX5_stings_2 22 rfl rfl)
theorem dX5_stings_71 : decode cX5_stings 71 = .ok (.aload_n 0, 1) := dk_42 (dk_at dksX5_stings_2 23 rfl rfl)
theorem dX5_stings_72 : decode cX5_stings 72 = .ok (.getfield 7, 3) := dk_180 0 7 (dk_at dksX5_stings_3 0 rfl rfl)
theorem dX5_stings_75 : decode cX5_stings 75 = .ok (.bipush 62, 2) := dk_16 62 (dk_at dksX5_stings_3 3 rfl rfl)
theorem dX5_stings_77 : decode cX5_stings 77 = .ok (.iload_n 1, 1) := dk_27 (dk_at dksX5_stings_3 5 rfl rfl)
theorem dX5_stings_78 : decode cX5_stings 78 = .ok (.iadd, 1) := dk_96 (dk_at dksX5_stings_3 6 rfl rfl)
theorem dX5_stings_79 : decode cX5_stings 79 = .ok (.aload_n 0, 1) := dk_42 (dk_at dksX5_stings_3 7 rfl rfl)
theorem dX5_stings_80 : decode cX5_stings 80 = .ok (.getfield 7, 3) := dk_180 0 7 (dk_at dksX5_stings_3 8 rfl rfl)
theorem dX5_stings_83 : decode cX5_stings 83 = .ok (.bipush 62, 2) := dk_16 62 (dk_at dksX5_stings_3 11 rfl rfl)
theorem dX5_stings_85 : decode cX5_stings 85 = .ok (.iload_n 1, 1) := dk_27 (dk_at dksX5_stings_3 13 rfl rfl)
theorem dX5_stings_86 : decode cX5_stings 86 = .ok (.iadd, 1) := dk_96 (dk_at dksX5_stings_3 14 rfl rfl)
theorem dX5_stings_87 : decode cX5_stings 87 = .ok (.iaload, 1) := dk_46 (dk_at dksX5_stings_3 15 rfl rfl)
theorem dX5_stings_88 : decode cX5_stings 88 = .ok (.iload_n 2, 1) := dk_28 (dk_at dksX5_stings_3 16 rfl rfl)
theorem dX5_stings_89 : decode cX5_stings 89 = .ok (.isub, 1) := dk_100 (dk_at dksX5_stings_3 17 rfl rfl)
theorem dX5_stings_90 : decode cX5_stings 90 = .ok (.iastore, 1) := dk_79 (dk_at dksX5_stings_3 18 rfl rfl)
theorem dX5_stings_91 : decode cX5_stings 91 = .ok (.aload_n 0, 1) := dk_42 (dk_at dksX5_stings_3 19 rfl rfl)
theorem dX5_stings_92 : decode cX5_stings 92 = .ok (.bipush 6, 2) := dk_16 6 (dk_at dksX5_stings_3 20 rfl rfl)
theorem dX5_stings_94 : decode cX5_stings 94 = .ok (.iload_n 1, 1) := dk_27 (dk_at dksX5_stings_3 22 rfl rfl)
theorem dX5_stings_95 : decode cX5_stings 95 = .ok (.iload_n 2, 1) := dk_28 (dk_at dksX5_stings_3 23 rfl rfl)
theorem dX5_stings_96 : decode cX5_stings 96 = .ok (.invokevirtual 316, 3) := dk_182 1 60 (dk_at dksX5_stings_4 0 rfl rfl)
theorem dX5_stings_99 : decode cX5_stings 99 = .ok (.iinc 1 1, 3) := dk_132 1 1 (dk_at dksX5_stings_4 3 rfl rfl)
theorem dX5_stings_102 : decode cX5_stings 102 = .ok (.goto (-85), 3) := dk_167 255 171 (dk_at dksX5_stings_4 6 rfl rfl)
theorem dX5_stings_105 : decode cX5_stings 105 = .ok (.return_, 1) := dk_177 (dk_at dksX5_stings_4 9 rfl rfl)
abbrev cX5_every : ByteArray := prog_22_method_17_code
def yX5_every : MethodName := ⟨RX5, "every", "()I"⟩
def dkwX5_every_0 : List UInt8 := [42, 180, 0, 113, 7, 96, 172]
abbrev dktX5_every_0 : List UInt8 := dkwX5_every_0 ++ []
theorem dksX5_every_0 : cX5_every.data.toList.drop 0 = dktX5_every_0 := by decide +kernel
theorem dX5_every_0 : decode cX5_every 0 = .ok (.aload_n 0, 1) := dk_42 (dk_at dksX5_every_0 0 rfl rfl)
theorem dX5_every_1 : decode cX5_every 1 = .ok (.getfield 113, 3) := dk_180 0 113 (dk_at dksX5_every_0 1 rfl rfl)
theorem dX5_every_4 : decode cX5_every 4 = .ok (.iconst 4, 1) := dk_7 (dk_at dksX5_every_0 4 rfl rfl)
theorem dX5_every_5 : decode cX5_every 5 = .ok (.iadd, 1) := dk_96 (dk_at dksX5_every_0 5 rfl rfl)
theorem dX5_every_6 : decode cX5_every 6 = .ok (.ireturn, 1) := dk_172 (dk_at dksX5_every_0 6 rfl rfl)
abbrev cX5_elects : ByteArray := prog_22_method_91_code
def yX5_elects : MethodName := ⟨RX5, "elects", "()V"⟩
def dkwX5_elects_3 : List UInt8 := [96, 46, 182, 1, 60, 177]
abbrev dktX5_elects_3 : List UInt8 := dkwX5_elects_3 ++ []
def dkwX5_elects_2 : List UInt8 := [182, 1, 128, 60, 42, 16, 7, 27, 27, 2, 160, 0, 7, 3, 167, 0, 12, 42, 180, 0, 7, 16, 10, 27]
abbrev dktX5_elects_2 : List UInt8 := dkwX5_elects_2 ++ dktX5_elects_3
def dkwX5_elects_1 : List UInt8 := [180, 0, 68, 27, 46, 79, 42, 180, 0, 7, 8, 27, 96, 3, 79, 132, 1, 1, 167, 255, 221, 42]
abbrev dktX5_elects_1 : List UInt8 := dkwX5_elects_1 ++ dktX5_elects_2
def dkwX5_elects_0 : List UInt8 := [42, 182, 1, 125, 3, 60, 27, 42, 180, 0, 116, 162, 0, 33, 42, 180, 0, 7, 16, 10, 27, 96, 42]
abbrev dktX5_elects_0 : List UInt8 := dkwX5_elects_0 ++ dktX5_elects_1
theorem dksX5_elects_0 : cX5_elects.data.toList.drop 0 = dktX5_elects_0 := by decide +kernel
theorem dksX5_elects_1 : cX5_elects.data.toList.drop 23 = dktX5_elects_1 := dk_seg dksX5_elects_0 23 rfl rfl
theorem dksX5_elects_2 : cX5_elects.data.toList.drop 45 = dktX5_elects_2 := dk_seg dksX5_elects_1 22 rfl rfl
theorem dksX5_elects_3 : cX5_elects.data.toList.drop 69 = dktX5_elects_3 := dk_seg dksX5_elects_2 24 rfl rfl
theorem dX5_elects_0 : decode cX5_elects 0 = .ok (.aload_n 0, 1) := dk_42 (dk_at dksX5_elects_0 0 rfl rfl)
theorem dX5_elects_1 : decode cX5_elects 1 = .ok (.invokevirtual 381, 3) := dk_182 1 125 (dk_at dksX5_elects_0 1 rfl rfl)
theorem dX5_elects_4 : decode cX5_elects 4 = .ok (.iconst 0, 1) := dk_3 (dk_at dksX5_elects_0 4 rfl rfl)
theorem dX5_elects_5 : decode cX5_elects 5 = .ok (.istore_n 1, 1) := dk_60 (dk_at dksX5_elects_0 5 rfl rfl)
theorem dX5_elects_6 : decode cX5_elects 6 = .ok (.iload_n 1, 1) := dk_27 (dk_at dksX5_elects_0 6 rfl rfl)
theorem dX5_elects_7 : decode cX5_elects 7 = .ok (.aload_n 0, 1) := dk_42 (dk_at dksX5_elects_0 7 rfl rfl)
theorem dX5_elects_8 : decode cX5_elects 8 = .ok (.getfield 116, 3) := dk_180 0 116 (dk_at dksX5_elects_0 8 rfl rfl)
theorem dX5_elects_11 : decode cX5_elects 11 = .ok (.if_icmp .ge 33, 3) := dk_162 0 33 (dk_at dksX5_elects_0 11 rfl rfl)
theorem dX5_elects_14 : decode cX5_elects 14 = .ok (.aload_n 0, 1) := dk_42 (dk_at dksX5_elects_0 14 rfl rfl)
theorem dX5_elects_15 : decode cX5_elects 15 = .ok (.getfield 7, 3) := dk_180 0 7 (dk_at dksX5_elects_0 15 rfl rfl)
theorem dX5_elects_18 : decode cX5_elects 18 = .ok (.bipush 10, 2) := dk_16 10 (dk_at dksX5_elects_0 18 rfl rfl)
theorem dX5_elects_20 : decode cX5_elects 20 = .ok (.iload_n 1, 1) := dk_27 (dk_at dksX5_elects_0 20 rfl rfl)
theorem dX5_elects_21 : decode cX5_elects 21 = .ok (.iadd, 1) := dk_96 (dk_at dksX5_elects_0 21 rfl rfl)
theorem dX5_elects_22 : decode cX5_elects 22 = .ok (.aload_n 0, 1) := dk_42 (dk_at dksX5_elects_0 22 rfl rfl)
theorem dX5_elects_23 : decode cX5_elects 23 = .ok (.getfield 68, 3) := dk_180 0 68 (dk_at dksX5_elects_1 0 rfl rfl)
theorem dX5_elects_26 : decode cX5_elects 26 = .ok (.iload_n 1, 1) := dk_27 (dk_at dksX5_elects_1 3 rfl rfl)
theorem dX5_elects_27 : decode cX5_elects 27 = .ok (.iaload, 1) := dk_46 (dk_at dksX5_elects_1 4 rfl rfl)
theorem dX5_elects_28 : decode cX5_elects 28 = .ok (.iastore, 1) := dk_79 (dk_at dksX5_elects_1 5 rfl rfl)
theorem dX5_elects_29 : decode cX5_elects 29 = .ok (.aload_n 0, 1) := dk_42 (dk_at dksX5_elects_1 6 rfl rfl)
theorem dX5_elects_30 : decode cX5_elects 30 = .ok (.getfield 7, 3) := dk_180 0 7 (dk_at dksX5_elects_1 7 rfl rfl)
theorem dX5_elects_33 : decode cX5_elects 33 = .ok (.iconst 5, 1) := dk_8 (dk_at dksX5_elects_1 10 rfl rfl)
theorem dX5_elects_34 : decode cX5_elects 34 = .ok (.iload_n 1, 1) := dk_27 (dk_at dksX5_elects_1 11 rfl rfl)
theorem dX5_elects_35 : decode cX5_elects 35 = .ok (.iadd, 1) := dk_96 (dk_at dksX5_elects_1 12 rfl rfl)
theorem dX5_elects_36 : decode cX5_elects 36 = .ok (.iconst 0, 1) := dk_3 (dk_at dksX5_elects_1 13 rfl rfl)
theorem dX5_elects_37 : decode cX5_elects 37 = .ok (.iastore, 1) := dk_79 (dk_at dksX5_elects_1 14 rfl rfl)
theorem dX5_elects_38 : decode cX5_elects 38 = .ok (.iinc 1 1, 3) := dk_132 1 1 (dk_at dksX5_elects_1 15 rfl rfl)
theorem dX5_elects_41 : decode cX5_elects 41 = .ok (.goto (-35), 3) := dk_167 255 221 (dk_at dksX5_elects_1 18 rfl rfl)
theorem dX5_elects_44 : decode cX5_elects 44 = .ok (.aload_n 0, 1) := dk_42 (dk_at dksX5_elects_1 21 rfl rfl)
theorem dX5_elects_45 : decode cX5_elects 45 = .ok (.invokevirtual 384, 3) := dk_182 1 128 (dk_at dksX5_elects_2 0 rfl rfl)
theorem dX5_elects_48 : decode cX5_elects 48 = .ok (.istore_n 1, 1) := dk_60 (dk_at dksX5_elects_2 3 rfl rfl)
theorem dX5_elects_49 : decode cX5_elects 49 = .ok (.aload_n 0, 1) := dk_42 (dk_at dksX5_elects_2 4 rfl rfl)
theorem dX5_elects_50 : decode cX5_elects 50 = .ok (.bipush 7, 2) := dk_16 7 (dk_at dksX5_elects_2 5 rfl rfl)
theorem dX5_elects_52 : decode cX5_elects 52 = .ok (.iload_n 1, 1) := dk_27 (dk_at dksX5_elects_2 7 rfl rfl)
theorem dX5_elects_53 : decode cX5_elects 53 = .ok (.iload_n 1, 1) := dk_27 (dk_at dksX5_elects_2 8 rfl rfl)
theorem dX5_elects_54 : decode cX5_elects 54 = .ok (.iconst (-1), 1) := dk_2 (dk_at dksX5_elects_2 9 rfl rfl)
theorem dX5_elects_55 : decode cX5_elects 55 = .ok (.if_icmp .ne 7, 3) := dk_160 0 7 (dk_at dksX5_elects_2 10 rfl rfl)
theorem dX5_elects_58 : decode cX5_elects 58 = .ok (.iconst 0, 1) := dk_3 (dk_at dksX5_elects_2 13 rfl rfl)
theorem dX5_elects_59 : decode cX5_elects 59 = .ok (.goto 12, 3) := dk_167 0 12 (dk_at dksX5_elects_2 14 rfl rfl)
theorem dX5_elects_62 : decode cX5_elects 62 = .ok (.aload_n 0, 1) := dk_42 (dk_at dksX5_elects_2 17 rfl rfl)
theorem dX5_elects_63 : decode cX5_elects 63 = .ok (.getfield 7, 3) := dk_180 0 7 (dk_at dksX5_elects_2 18 rfl rfl)
theorem dX5_elects_66 : decode cX5_elects 66 = .ok (.bipush 10, 2) := dk_16 10 (dk_at dksX5_elects_2 21 rfl rfl)
theorem dX5_elects_68 : decode cX5_elects 68 = .ok (.iload_n 1, 1) := dk_27 (dk_at dksX5_elects_2 23 rfl rfl)
theorem dX5_elects_69 : decode cX5_elects 69 = .ok (.iadd, 1) := dk_96 (dk_at dksX5_elects_3 0 rfl rfl)
theorem dX5_elects_70 : decode cX5_elects 70 = .ok (.iaload, 1) := dk_46 (dk_at dksX5_elects_3 1 rfl rfl)
theorem dX5_elects_71 : decode cX5_elects 71 = .ok (.invokevirtual 316, 3) := dk_182 1 60 (dk_at dksX5_elects_3 2 rfl rfl)
theorem dX5_elects_74 : decode cX5_elects 74 = .ok (.return_, 1) := dk_177 (dk_at dksX5_elects_3 5 rfl rfl)
abbrev cX5_findsGiven : ByteArray := prog_22_method_89_code
def yX5_findsGiven : MethodName := ⟨RX5, "findsGiven", "()V"⟩
def dkwX5_findsGiven_9 : List UInt8 := [180, 0, 68, 21, 4, 42, 180, 0, 68, 21, 4, 46, 4, 96, 79, 132, 4, 1, 167, 255, 218, 177]
abbrev dktX5_findsGiven_9 : List UInt8 := dkwX5_findsGiven_9 ++ []
def dkwX5_findsGiven_8 : List UInt8 := [54, 4, 21, 4, 42, 180, 0, 116, 162, 0, 35, 42, 29, 21, 4, 182, 1, 63, 153, 0, 19, 42]
abbrev dktX5_findsGiven_8 : List UInt8 := dkwX5_findsGiven_8 ++ dktX5_findsGiven_9
def dkwX5_findsGiven_7 : List UInt8 := [167, 255, 213, 21, 5, 2, 159, 0, 10, 29, 4, 21, 5, 120, 128, 62, 132, 4, 1, 167, 255, 178, 3]
abbrev dktX5_findsGiven_7 : List UInt8 := dkwX5_findsGiven_7 ++ dktX5_findsGiven_8
def dkwX5_findsGiven_6 : List UInt8 := [2, 159, 0, 14, 42, 21, 6, 21, 5, 182, 1, 122, 153, 0, 7, 21, 6, 54, 5, 132, 6, 1]
abbrev dktX5_findsGiven_6 : List UInt8 := dkwX5_findsGiven_6 ++ dktX5_findsGiven_7
def dkwX5_findsGiven_5 : List UInt8 := [3, 54, 6, 21, 6, 42, 180, 0, 116, 162, 0, 40, 42, 29, 21, 6, 182, 1, 63, 154, 0, 24, 21, 5]
abbrev dktX5_findsGiven_5 : List UInt8 := dkwX5_findsGiven_5 ++ dktX5_findsGiven_6
def dkwX5_findsGiven_4 : List UInt8 := [132, 3, 1, 167, 255, 170, 3, 62, 3, 54, 4, 21, 4, 28, 162, 0, 78, 27, 158, 0, 74, 2, 54, 5]
abbrev dktX5_findsGiven_4 : List UInt8 := dkwX5_findsGiven_4 ++ dktX5_findsGiven_5
def dkwX5_findsGiven_3 : List UInt8 := [180, 0, 7, 8, 29, 96, 46, 42, 182, 1, 119, 104, 27, 112, 79, 28, 42, 180, 0, 68, 29, 46, 100, 61]
abbrev dktX5_findsGiven_3 : List UInt8 := dkwX5_findsGiven_3 ++ dktX5_findsGiven_4
def dkwX5_findsGiven_2 : List UInt8 := [46, 42, 182, 1, 119, 104, 27, 108, 79, 42, 180, 0, 71, 29, 27, 154, 0, 7, 3, 167, 0, 18, 42]
abbrev dktX5_findsGiven_2 : List UInt8 := dkwX5_findsGiven_2 ++ dktX5_findsGiven_3
def dkwX5_findsGiven_1 : List UInt8 := [29, 27, 154, 0, 15, 42, 180, 0, 7, 16, 10, 29, 96, 46, 167, 0, 18, 42, 180, 0, 7, 8, 29, 96]
abbrev dktX5_findsGiven_1 : List UInt8 := dkwX5_findsGiven_1 ++ dktX5_findsGiven_2
def dkwX5_findsGiven_0 : List UInt8 := [42, 182, 1, 116, 60, 42, 182, 1, 119, 61, 3, 62, 29, 42, 180, 0, 116, 162, 0, 84, 42, 180, 0, 68]
abbrev dktX5_findsGiven_0 : List UInt8 := dkwX5_findsGiven_0 ++ dktX5_findsGiven_1
theorem dksX5_findsGiven_0 : cX5_findsGiven.data.toList.drop 0 = dktX5_findsGiven_0 := by decide +kernel
theorem dksX5_findsGiven_1 : cX5_findsGiven.data.toList.drop 24 = dktX5_findsGiven_1 := dk_seg dksX5_findsGiven_0 24 rfl rfl
theorem dksX5_findsGiven_2 : cX5_findsGiven.data.toList.drop 48 = dktX5_findsGiven_2 := dk_seg dksX5_findsGiven_1 24 rfl rfl
theorem dksX5_findsGiven_3 : cX5_findsGiven.data.toList.drop 71 = dktX5_findsGiven_3 := dk_seg dksX5_findsGiven_2 23 rfl rfl
theorem dksX5_findsGiven_4 : cX5_findsGiven.data.toList.drop 95 = dktX5_findsGiven_4 := dk_seg dksX5_findsGiven_3 24 rfl rfl
theorem dksX5_findsGiven_5 : cX5_findsGiven.data.toList.drop 119 = dktX5_findsGiven_5 := dk_seg dksX5_findsGiven_4 24 rfl rfl
theorem dksX5_findsGiven_6 : cX5_findsGiven.data.toList.drop 143 = dktX5_findsGiven_6 := dk_seg dksX5_findsGiven_5 24 rfl rfl
theorem dksX5_findsGiven_7 : cX5_findsGiven.data.toList.drop 165 = dktX5_findsGiven_7 := dk_seg dksX5_findsGiven_6 22 rfl rfl
theorem dksX5_findsGiven_8 : cX5_findsGiven.data.toList.drop 188 = dktX5_findsGiven_8 := dk_seg dksX5_findsGiven_7 23 rfl rfl
theorem dksX5_findsGiven_9 : cX5_findsGiven.data.toList.drop 210 = dktX5_findsGiven_9 := dk_seg dksX5_findsGiven_8 22 rfl rfl
theorem dX5_findsGiven_0 : decode cX5_findsGiven 0 = .ok (.aload_n 0, 1) := dk_42 (dk_at dksX5_findsGiven_0 0 rfl rfl)
theorem dX5_findsGiven_1 : decode cX5_findsGiven 1 = .ok (.invokevirtual 372, 3) := dk_182 1 116 (dk_at dksX5_findsGiven_0 1 rfl rfl)
theorem dX5_findsGiven_4 : decode cX5_findsGiven 4 = .ok (.istore_n 1, 1) := dk_60 (dk_at dksX5_findsGiven_0 4 rfl rfl)
theorem dX5_findsGiven_5 : decode cX5_findsGiven 5 = .ok (.aload_n 0, 1) := dk_42 (dk_at dksX5_findsGiven_0 5 rfl rfl)
theorem dX5_findsGiven_6 : decode cX5_findsGiven 6 = .ok (.invokevirtual 375, 3) := dk_182 1 119 (dk_at dksX5_findsGiven_0 6 rfl rfl)
theorem dX5_findsGiven_9 : decode cX5_findsGiven 9 = .ok (.istore_n 2, 1) := dk_61 (dk_at dksX5_findsGiven_0 9 rfl rfl)
theorem dX5_findsGiven_10 : decode cX5_findsGiven 10 = .ok (.iconst 0, 1) := dk_3 (dk_at dksX5_findsGiven_0 10 rfl rfl)
theorem dX5_findsGiven_11 : decode cX5_findsGiven 11 = .ok (.istore_n 3, 1) := dk_62 (dk_at dksX5_findsGiven_0 11 rfl rfl)
theorem dX5_findsGiven_12 : decode cX5_findsGiven 12 = .ok (.iload_n 3, 1) := dk_29 (dk_at dksX5_findsGiven_0 12 rfl rfl)
theorem dX5_findsGiven_13 : decode cX5_findsGiven 13 = .ok (.aload_n 0, 1) := dk_42 (dk_at dksX5_findsGiven_0 13 rfl rfl)
theorem dX5_findsGiven_14 : decode cX5_findsGiven 14 = .ok (.getfield 116, 3) := dk_180 0 116 (dk_at dksX5_findsGiven_0 14 rfl rfl)
theorem dX5_findsGiven_17 : decode cX5_findsGiven 17 = .ok (.if_icmp .ge 84, 3) := dk_162 0 84 (dk_at dksX5_findsGiven_0 17 rfl rfl)
theorem dX5_findsGiven_20 : decode cX5_findsGiven 20 = .ok (.aload_n 0, 1) := dk_42 (dk_at dksX5_findsGiven_0 20 rfl rfl)
theorem dX5_findsGiven_21 : decode cX5_findsGiven 21 = .ok (.getfield 68, 3) := dk_180 0 68 (dk_at dksX5_findsGiven_0 21 rfl rfl)
theorem dX5_findsGiven_24 : decode cX5_findsGiven 24 = .ok (.iload_n 3, 1) := dk_29 (dk_at dksX5_findsGiven_1 0 rfl rfl)
theorem dX5_findsGiven_25 : decode cX5_findsGiven 25 = .ok (.iload_n 1, 1) := dk_27 (dk_at dksX5_findsGiven_1 1 rfl rfl)
theorem dX5_findsGiven_26 : decode cX5_findsGiven 26 = .ok (.ifCond .ne 15, 3) := dk_154 0 15 (dk_at dksX5_findsGiven_1 2 rfl rfl)
theorem dX5_findsGiven_29 : decode cX5_findsGiven 29 = .ok (.aload_n 0, 1) := dk_42 (dk_at dksX5_findsGiven_1 5 rfl rfl)
theorem dX5_findsGiven_30 : decode cX5_findsGiven 30 = .ok (.getfield 7, 3) := dk_180 0 7 (dk_at dksX5_findsGiven_1 6 rfl rfl)
theorem dX5_findsGiven_33 : decode cX5_findsGiven 33 = .ok (.bipush 10, 2) := dk_16 10 (dk_at dksX5_findsGiven_1 9 rfl rfl)
theorem dX5_findsGiven_35 : decode cX5_findsGiven 35 = .ok (.iload_n 3, 1) := dk_29 (dk_at dksX5_findsGiven_1 11 rfl rfl)
theorem dX5_findsGiven_36 : decode cX5_findsGiven 36 = .ok (.iadd, 1) := dk_96 (dk_at dksX5_findsGiven_1 12 rfl rfl)
theorem dX5_findsGiven_37 : decode cX5_findsGiven 37 = .ok (.iaload, 1) := dk_46 (dk_at dksX5_findsGiven_1 13 rfl rfl)
theorem dX5_findsGiven_38 : decode cX5_findsGiven 38 = .ok (.goto 18, 3) := dk_167 0 18 (dk_at dksX5_findsGiven_1 14 rfl rfl)
theorem dX5_findsGiven_41 : decode cX5_findsGiven 41 = .ok (.aload_n 0, 1) := dk_42 (dk_at dksX5_findsGiven_1 17 rfl rfl)
theorem dX5_findsGiven_42 : decode cX5_findsGiven 42 = .ok (.getfield 7, 3) := dk_180 0 7 (dk_at dksX5_findsGiven_1 18 rfl rfl)
theorem dX5_findsGiven_45 : decode cX5_findsGiven 45 = .ok (.iconst 5, 1) := dk_8 (dk_at dksX5_findsGiven_1 21 rfl rfl)
theorem dX5_findsGiven_46 : decode cX5_findsGiven 46 = .ok (.iload_n 3, 1) := dk_29 (dk_at dksX5_findsGiven_1 22 rfl rfl)
theorem dX5_findsGiven_47 : decode cX5_findsGiven 47 = .ok (.iadd, 1) := dk_96 (dk_at dksX5_findsGiven_1 23 rfl rfl)
theorem dX5_findsGiven_48 : decode cX5_findsGiven 48 = .ok (.iaload, 1) := dk_46 (dk_at dksX5_findsGiven_2 0 rfl rfl)
theorem dX5_findsGiven_49 : decode cX5_findsGiven 49 = .ok (.aload_n 0, 1) := dk_42 (dk_at dksX5_findsGiven_2 1 rfl rfl)
theorem dX5_findsGiven_50 : decode cX5_findsGiven 50 = .ok (.invokevirtual 375, 3) := dk_182 1 119 (dk_at dksX5_findsGiven_2 2 rfl rfl)
theorem dX5_findsGiven_53 : decode cX5_findsGiven 53 = .ok (.imul, 1) := dk_104 (dk_at dksX5_findsGiven_2 5 rfl rfl)
theorem dX5_findsGiven_54 : decode cX5_findsGiven 54 = .ok (.iload_n 1, 1) := dk_27 (dk_at dksX5_findsGiven_2 6 rfl rfl)
theorem dX5_findsGiven_55 : decode cX5_findsGiven 55 = .ok (.idiv, 1) := dk_108 (dk_at dksX5_findsGiven_2 7 rfl rfl)
theorem dX5_findsGiven_56 : decode cX5_findsGiven 56 = .ok (.iastore, 1) := dk_79 (dk_at dksX5_findsGiven_2 8 rfl rfl)
theorem dX5_findsGiven_57 : decode cX5_findsGiven 57 = .ok (.aload_n 0, 1) := dk_42 (dk_at dksX5_findsGiven_2 9 rfl rfl)
theorem dX5_findsGiven_58 : decode cX5_findsGiven 58 = .ok (.getfield 71, 3) := dk_180 0 71 (dk_at dksX5_findsGiven_2 10 rfl rfl)
theorem dX5_findsGiven_61 : decode cX5_findsGiven 61 = .ok (.iload_n 3, 1) := dk_29 (dk_at dksX5_findsGiven_2 13 rfl rfl)
theorem dX5_findsGiven_62 : decode cX5_findsGiven 62 = .ok (.iload_n 1, 1) := dk_27 (dk_at dksX5_findsGiven_2 14 rfl rfl)
theorem dX5_findsGiven_63 : decode cX5_findsGiven 63 = .ok (.ifCond .ne 7, 3) := dk_154 0 7 (dk_at dksX5_findsGiven_2 15 rfl rfl)
theorem dX5_findsGiven_66 : decode cX5_findsGiven 66 = .ok (.iconst 0, 1) := dk_3 (dk_at dksX5_findsGiven_2 18 rfl rfl)
theorem dX5_findsGiven_67 : decode cX5_findsGiven 67 = .ok (.goto 18, 3) := dk_167 0 18 (dk_at dksX5_findsGiven_2 19 rfl rfl)
theorem dX5_findsGiven_70 : decode cX5_findsGiven 70 = .ok (.aload_n 0, 1) := dk_42 (dk_at dksX5_findsGiven_2 22 rfl rfl)
theorem dX5_findsGiven_71 : decode cX5_findsGiven 71 = .ok (.getfield 7, 3) := dk_180 0 7 (dk_at dksX5_findsGiven_3 0 rfl rfl)
theorem dX5_findsGiven_74 : decode cX5_findsGiven 74 = .ok (.iconst 5, 1) := dk_8 (dk_at dksX5_findsGiven_3 3 rfl rfl)
theorem dX5_findsGiven_75 : decode cX5_findsGiven 75 = .ok (.iload_n 3, 1) := dk_29 (dk_at dksX5_findsGiven_3 4 rfl rfl)
theorem dX5_findsGiven_76 : decode cX5_findsGiven 76 = .ok (.iadd, 1) := dk_96 (dk_at dksX5_findsGiven_3 5 rfl rfl)
theorem dX5_findsGiven_77 : decode cX5_findsGiven 77 = .ok (.iaload, 1) := dk_46 (dk_at dksX5_findsGiven_3 6 rfl rfl)
theorem dX5_findsGiven_78 : decode cX5_findsGiven 78 = .ok (.aload_n 0, 1) := dk_42 (dk_at dksX5_findsGiven_3 7 rfl rfl)
theorem dX5_findsGiven_79 : decode cX5_findsGiven 79 = .ok (.invokevirtual 375, 3) := dk_182 1 119 (dk_at dksX5_findsGiven_3 8 rfl rfl)
theorem dX5_findsGiven_82 : decode cX5_findsGiven 82 = .ok (.imul, 1) := dk_104 (dk_at dksX5_findsGiven_3 11 rfl rfl)
theorem dX5_findsGiven_83 : decode cX5_findsGiven 83 = .ok (.iload_n 1, 1) := dk_27 (dk_at dksX5_findsGiven_3 12 rfl rfl)
theorem dX5_findsGiven_84 : decode cX5_findsGiven 84 = .ok (.irem, 1) := dk_112 (dk_at dksX5_findsGiven_3 13 rfl rfl)
theorem dX5_findsGiven_85 : decode cX5_findsGiven 85 = .ok (.iastore, 1) := dk_79 (dk_at dksX5_findsGiven_3 14 rfl rfl)
theorem dX5_findsGiven_86 : decode cX5_findsGiven 86 = .ok (.iload_n 2, 1) := dk_28 (dk_at dksX5_findsGiven_3 15 rfl rfl)
theorem dX5_findsGiven_87 : decode cX5_findsGiven 87 = .ok (.aload_n 0, 1) := dk_42 (dk_at dksX5_findsGiven_3 16 rfl rfl)
theorem dX5_findsGiven_88 : decode cX5_findsGiven 88 = .ok (.getfield 68, 3) := dk_180 0 68 (dk_at dksX5_findsGiven_3 17 rfl rfl)
theorem dX5_findsGiven_91 : decode cX5_findsGiven 91 = .ok (.iload_n 3, 1) := dk_29 (dk_at dksX5_findsGiven_3 20 rfl rfl)
theorem dX5_findsGiven_92 : decode cX5_findsGiven 92 = .ok (.iaload, 1) := dk_46 (dk_at dksX5_findsGiven_3 21 rfl rfl)
theorem dX5_findsGiven_93 : decode cX5_findsGiven 93 = .ok (.isub, 1) := dk_100 (dk_at dksX5_findsGiven_3 22 rfl rfl)
theorem dX5_findsGiven_94 : decode cX5_findsGiven 94 = .ok (.istore_n 2, 1) := dk_61 (dk_at dksX5_findsGiven_3 23 rfl rfl)
theorem dX5_findsGiven_95 : decode cX5_findsGiven 95 = .ok (.iinc 3 1, 3) := dk_132 3 1 (dk_at dksX5_findsGiven_4 0 rfl rfl)
theorem dX5_findsGiven_98 : decode cX5_findsGiven 98 = .ok (.goto (-86), 3) := dk_167 255 170 (dk_at dksX5_findsGiven_4 3 rfl rfl)
theorem dX5_findsGiven_101 : decode cX5_findsGiven 101 = .ok (.iconst 0, 1) := dk_3 (dk_at dksX5_findsGiven_4 6 rfl rfl)
theorem dX5_findsGiven_102 : decode cX5_findsGiven 102 = .ok (.istore_n 3, 1) := dk_62 (dk_at dksX5_findsGiven_4 7 rfl rfl)
theorem dX5_findsGiven_103 : decode cX5_findsGiven 103 = .ok (.iconst 0, 1) := dk_3 (dk_at dksX5_findsGiven_4 8 rfl rfl)
theorem dX5_findsGiven_104 : decode cX5_findsGiven 104 = .ok (.istore 4, 2) := dk_54 4 (dk_at dksX5_findsGiven_4 9 rfl rfl)
theorem dX5_findsGiven_106 : decode cX5_findsGiven 106 = .ok (.iload 4, 2) := dk_21 4 (dk_at dksX5_findsGiven_4 11 rfl rfl)
theorem dX5_findsGiven_108 : decode cX5_findsGiven 108 = .ok (.iload_n 2, 1) := dk_28 (dk_at dksX5_findsGiven_4 13 rfl rfl)
theorem dX5_findsGiven_109 : decode cX5_findsGiven 109 = .ok (.if_icmp .ge 78, 3) := dk_162 0 78 (dk_at dksX5_findsGiven_4 14 rfl rfl)
theorem dX5_findsGiven_112 : decode cX5_findsGiven 112 = .ok (.iload_n 1, 1) := dk_27 (dk_at dksX5_findsGiven_4 17 rfl rfl)
theorem dX5_findsGiven_113 : decode cX5_findsGiven 113 = .ok (.ifCond .le 74, 3) := dk_158 0 74 (dk_at dksX5_findsGiven_4 18 rfl rfl)
theorem dX5_findsGiven_116 : decode cX5_findsGiven 116 = .ok (.iconst (-1), 1) := dk_2 (dk_at dksX5_findsGiven_4 21 rfl rfl)
theorem dX5_findsGiven_117 : decode cX5_findsGiven 117 = .ok (.istore 5, 2) := dk_54 5 (dk_at dksX5_findsGiven_4 22 rfl rfl)
theorem dX5_findsGiven_119 : decode cX5_findsGiven 119 = .ok (.iconst 0, 1) := dk_3 (dk_at dksX5_findsGiven_5 0 rfl rfl)
theorem dX5_findsGiven_120 : decode cX5_findsGiven 120 = .ok (.istore 6, 2) := dk_54 6 (dk_at dksX5_findsGiven_5 1 rfl rfl)
theorem dX5_findsGiven_122 : decode cX5_findsGiven 122 = .ok (.iload 6, 2) := dk_21 6 (dk_at dksX5_findsGiven_5 3 rfl rfl)
theorem dX5_findsGiven_124 : decode cX5_findsGiven 124 = .ok (.aload_n 0, 1) := dk_42 (dk_at dksX5_findsGiven_5 5 rfl rfl)
theorem dX5_findsGiven_125 : decode cX5_findsGiven 125 = .ok (.getfield 116, 3) := dk_180 0 116 (dk_at dksX5_findsGiven_5 6 rfl rfl)
theorem dX5_findsGiven_128 : decode cX5_findsGiven 128 = .ok (.if_icmp .ge 40, 3) := dk_162 0 40 (dk_at dksX5_findsGiven_5 9 rfl rfl)
theorem dX5_findsGiven_131 : decode cX5_findsGiven 131 = .ok (.aload_n 0, 1) := dk_42 (dk_at dksX5_findsGiven_5 12 rfl rfl)
theorem dX5_findsGiven_132 : decode cX5_findsGiven 132 = .ok (.iload_n 3, 1) := dk_29 (dk_at dksX5_findsGiven_5 13 rfl rfl)
theorem dX5_findsGiven_133 : decode cX5_findsGiven 133 = .ok (.iload 6, 2) := dk_21 6 (dk_at dksX5_findsGiven_5 14 rfl rfl)
theorem dX5_findsGiven_135 : decode cX5_findsGiven 135 = .ok (.invokevirtual 319, 3) := dk_182 1 63 (dk_at dksX5_findsGiven_5 16 rfl rfl)
theorem dX5_findsGiven_138 : decode cX5_findsGiven 138 = .ok (.ifCond .ne 24, 3) := dk_154 0 24 (dk_at dksX5_findsGiven_5 19 rfl rfl)
theorem dX5_findsGiven_141 : decode cX5_findsGiven 141 = .ok (.iload 5, 2) := dk_21 5 (dk_at dksX5_findsGiven_5 22 rfl rfl)
theorem dX5_findsGiven_143 : decode cX5_findsGiven 143 = .ok (.iconst (-1), 1) := dk_2 (dk_at dksX5_findsGiven_6 0 rfl rfl)
theorem dX5_findsGiven_144 : decode cX5_findsGiven 144 = .ok (.if_icmp .eq 14, 3) := dk_159 0 14 (dk_at dksX5_findsGiven_6 1 rfl rfl)
theorem dX5_findsGiven_147 : decode cX5_findsGiven 147 = .ok (.aload_n 0, 1) := dk_42 (dk_at dksX5_findsGiven_6 4 rfl rfl)
theorem dX5_findsGiven_148 : decode cX5_findsGiven 148 = .ok (.iload 6, 2) := dk_21 6 (dk_at dksX5_findsGiven_6 5 rfl rfl)
theorem dX5_findsGiven_150 : decode cX5_findsGiven 150 = .ok (.iload 5, 2) := dk_21 5 (dk_at dksX5_findsGiven_6 7 rfl rfl)
theorem dX5_findsGiven_152 : decode cX5_findsGiven 152 = .ok (.invokevirtual 378, 3) := dk_182 1 122 (dk_at dksX5_findsGiven_6 9 rfl rfl)
theorem dX5_findsGiven_155 : decode cX5_findsGiven 155 = .ok (.ifCond .eq 7, 3) := dk_153 0 7 (dk_at dksX5_findsGiven_6 12 rfl rfl)
theorem dX5_findsGiven_158 : decode cX5_findsGiven 158 = .ok (.iload 6, 2) := dk_21 6 (dk_at dksX5_findsGiven_6 15 rfl rfl)
theorem dX5_findsGiven_160 : decode cX5_findsGiven 160 = .ok (.istore 5, 2) := dk_54 5 (dk_at dksX5_findsGiven_6 17 rfl rfl)
theorem dX5_findsGiven_162 : decode cX5_findsGiven 162 = .ok (.iinc 6 1, 3) := dk_132 6 1 (dk_at dksX5_findsGiven_6 19 rfl rfl)
theorem dX5_findsGiven_165 : decode cX5_findsGiven 165 = .ok (.goto (-43), 3) := dk_167 255 213 (dk_at dksX5_findsGiven_7 0 rfl rfl)
theorem dX5_findsGiven_168 : decode cX5_findsGiven 168 = .ok (.iload 5, 2) := dk_21 5 (dk_at dksX5_findsGiven_7 3 rfl rfl)
theorem dX5_findsGiven_170 : decode cX5_findsGiven 170 = .ok (.iconst (-1), 1) := dk_2 (dk_at dksX5_findsGiven_7 5 rfl rfl)
theorem dX5_findsGiven_171 : decode cX5_findsGiven 171 = .ok (.if_icmp .eq 10, 3) := dk_159 0 10 (dk_at dksX5_findsGiven_7 6 rfl rfl)
theorem dX5_findsGiven_174 : decode cX5_findsGiven 174 = .ok (.iload_n 3, 1) := dk_29 (dk_at dksX5_findsGiven_7 9 rfl rfl)
theorem dX5_findsGiven_175 : decode cX5_findsGiven 175 = .ok (.iconst 1, 1) := dk_4 (dk_at dksX5_findsGiven_7 10 rfl rfl)
theorem dX5_findsGiven_176 : decode cX5_findsGiven 176 = .ok (.iload 5, 2) := dk_21 5 (dk_at dksX5_findsGiven_7 11 rfl rfl)
theorem dX5_findsGiven_178 : decode cX5_findsGiven 178 = .ok (.ishl, 1) := dk_120 (dk_at dksX5_findsGiven_7 13 rfl rfl)
theorem dX5_findsGiven_179 : decode cX5_findsGiven 179 = .ok (.ior, 1) := dk_128 (dk_at dksX5_findsGiven_7 14 rfl rfl)
theorem dX5_findsGiven_180 : decode cX5_findsGiven 180 = .ok (.istore_n 3, 1) := dk_62 (dk_at dksX5_findsGiven_7 15 rfl rfl)
theorem dX5_findsGiven_181 : decode cX5_findsGiven 181 = .ok (.iinc 4 1, 3) := dk_132 4 1 (dk_at dksX5_findsGiven_7 16 rfl rfl)
theorem dX5_findsGiven_184 : decode cX5_findsGiven 184 = .ok (.goto (-78), 3) := dk_167 255 178 (dk_at dksX5_findsGiven_7 19 rfl rfl)
theorem dX5_findsGiven_187 : decode cX5_findsGiven 187 = .ok (.iconst 0, 1) := dk_3 (dk_at dksX5_findsGiven_7 22 rfl rfl)
theorem dX5_findsGiven_188 : decode cX5_findsGiven 188 = .ok (.istore 4, 2) := dk_54 4 (dk_at dksX5_findsGiven_8 0 rfl rfl)
theorem dX5_findsGiven_190 : decode cX5_findsGiven 190 = .ok (.iload 4, 2) := dk_21 4 (dk_at dksX5_findsGiven_8 2 rfl rfl)
theorem dX5_findsGiven_192 : decode cX5_findsGiven 192 = .ok (.aload_n 0, 1) := dk_42 (dk_at dksX5_findsGiven_8 4 rfl rfl)
theorem dX5_findsGiven_193 : decode cX5_findsGiven 193 = .ok (.getfield 116, 3) := dk_180 0 116 (dk_at dksX5_findsGiven_8 5 rfl rfl)
theorem dX5_findsGiven_196 : decode cX5_findsGiven 196 = .ok (.if_icmp .ge 35, 3) := dk_162 0 35 (dk_at dksX5_findsGiven_8 8 rfl rfl)
theorem dX5_findsGiven_199 : decode cX5_findsGiven 199 = .ok (.aload_n 0, 1) := dk_42 (dk_at dksX5_findsGiven_8 11 rfl rfl)
theorem dX5_findsGiven_200 : decode cX5_findsGiven 200 = .ok (.iload_n 3, 1) := dk_29 (dk_at dksX5_findsGiven_8 12 rfl rfl)
theorem dX5_findsGiven_201 : decode cX5_findsGiven 201 = .ok (.iload 4, 2) := dk_21 4 (dk_at dksX5_findsGiven_8 13 rfl rfl)
theorem dX5_findsGiven_203 : decode cX5_findsGiven 203 = .ok (.invokevirtual 319, 3) := dk_182 1 63 (dk_at dksX5_findsGiven_8 15 rfl rfl)
theorem dX5_findsGiven_206 : decode cX5_findsGiven 206 = .ok (.ifCond .eq 19, 3) := dk_153 0 19 (dk_at dksX5_findsGiven_8 18 rfl rfl)
theorem dX5_findsGiven_209 : decode cX5_findsGiven 209 = .ok (.aload_n 0, 1) := dk_42 (dk_at dksX5_findsGiven_8 21 rfl rfl)
theorem dX5_findsGiven_210 : decode cX5_findsGiven 210 = .ok (.getfield 68, 3) := dk_180 0 68 (dk_at dksX5_findsGiven_9 0 rfl rfl)
theorem dX5_findsGiven_213 : decode cX5_findsGiven 213 = .ok (.iload 4, 2) := dk_21 4 (dk_at dksX5_findsGiven_9 3 rfl rfl)
theorem dX5_findsGiven_215 : decode cX5_findsGiven 215 = .ok (.aload_n 0, 1) := dk_42 (dk_at dksX5_findsGiven_9 5 rfl rfl)
theorem dX5_findsGiven_216 : decode cX5_findsGiven 216 = .ok (.getfield 68, 3) := dk_180 0 68 (dk_at dksX5_findsGiven_9 6 rfl rfl)
theorem dX5_findsGiven_219 : decode cX5_findsGiven 219 = .ok (.iload 4, 2) := dk_21 4 (dk_at dksX5_findsGiven_9 9 rfl rfl)
theorem dX5_findsGiven_221 : decode cX5_findsGiven 221 = .ok (.iaload, 1) := dk_46 (dk_at dksX5_findsGiven_9 11 rfl rfl)
theorem dX5_findsGiven_222 : decode cX5_findsGiven 222 = .ok (.iconst 1, 1) := dk_4 (dk_at dksX5_findsGiven_9 12 rfl rfl)
theorem dX5_findsGiven_223 : decode cX5_findsGiven 223 = .ok (.iadd, 1) := dk_96 (dk_at dksX5_findsGiven_9 13 rfl rfl)
theorem dX5_findsGiven_224 : decode cX5_findsGiven 224 = .ok (.iastore, 1) := dk_79 (dk_at dksX5_findsGiven_9 14 rfl rfl)
theorem dX5_findsGiven_225 : decode cX5_findsGiven 225 = .ok (.iinc 4 1, 3) := dk_132 4 1 (dk_at dksX5_findsGiven_9 15 rfl rfl)
theorem dX5_findsGiven_228 : decode cX5_findsGiven 228 = .ok (.goto (-38), 3) := dk_167 255 218 (dk_at dksX5_findsGiven_9 18 rfl rfl)
theorem dX5_findsGiven_231 : decode cX5_findsGiven 231 = .ok (.return_, 1) := dk_177 (dk_at dksX5_findsGiven_9 21 rfl rfl)
abbrev cX5_votesInAll : ByteArray := prog_22_method_87_code
def yX5_votesInAll : MethodName := ⟨RX5, "votesInAll", "()I"⟩
def dkwX5_votesInAll_1 : List UInt8 := [132, 2, 1, 167, 255, 234, 27, 172]
abbrev dktX5_votesInAll_1 : List UInt8 := dkwX5_votesInAll_1 ++ []
def dkwX5_votesInAll_0 : List UInt8 := [3, 60, 3, 61, 28, 42, 180, 0, 116, 162, 0, 20, 27, 42, 180, 0, 7, 8, 28, 96, 46, 96, 60]
abbrev dktX5_votesInAll_0 : List UInt8 := dkwX5_votesInAll_0 ++ dktX5_votesInAll_1
theorem dksX5_votesInAll_0 : cX5_votesInAll.data.toList.drop 0 = dktX5_votesInAll_0 := by decide +kernel
theorem dksX5_votesInAll_1 : cX5_votesInAll.data.toList.drop 23 = dktX5_votesInAll_1 := dk_seg dksX5_votesInAll_0 23 rfl rfl
theorem dX5_votesInAll_0 : decode cX5_votesInAll 0 = .ok (.iconst 0, 1) := dk_3 (dk_at dksX5_votesInAll_0 0 rfl rfl)
theorem dX5_votesInAll_1 : decode cX5_votesInAll 1 = .ok (.istore_n 1, 1) := dk_60 (dk_at dksX5_votesInAll_0 1 rfl rfl)
theorem dX5_votesInAll_2 : decode cX5_votesInAll 2 = .ok (.iconst 0, 1) := dk_3 (dk_at dksX5_votesInAll_0 2 rfl rfl)
theorem dX5_votesInAll_3 : decode cX5_votesInAll 3 = .ok (.istore_n 2, 1) := dk_61 (dk_at dksX5_votesInAll_0 3 rfl rfl)
theorem dX5_votesInAll_4 : decode cX5_votesInAll 4 = .ok (.iload_n 2, 1) := dk_28 (dk_at dksX5_votesInAll_0 4 rfl rfl)
theorem dX5_votesInAll_5 : decode cX5_votesInAll 5 = .ok (.aload_n 0, 1) := dk_42 (dk_at dksX5_votesInAll_0 5 rfl rfl)
theorem dX5_votesInAll_6 : decode cX5_votesInAll 6 = .ok (.getfield 116, 3) := dk_180 0 116 (dk_at dksX5_votesInAll_0 6 rfl rfl)
theorem dX5_votesInAll_9 : decode cX5_votesInAll 9 = .ok (.if_icmp .ge 20, 3) := dk_162 0 20 (dk_at dksX5_votesInAll_0 9 rfl rfl)
theorem dX5_votesInAll_12 : decode cX5_votesInAll 12 = .ok (.iload_n 1, 1) := dk_27 (dk_at dksX5_votesInAll_0 12 rfl rfl)
theorem dX5_votesInAll_13 : decode cX5_votesInAll 13 = .ok (.aload_n 0, 1) := dk_42 (dk_at dksX5_votesInAll_0 13 rfl rfl)
theorem dX5_votesInAll_14 : decode cX5_votesInAll 14 = .ok (.getfield 7, 3) := dk_180 0 7 (dk_at dksX5_votesInAll_0 14 rfl rfl)
theorem dX5_votesInAll_17 : decode cX5_votesInAll 17 = .ok (.iconst 5, 1) := dk_8 (dk_at dksX5_votesInAll_0 17 rfl rfl)
theorem dX5_votesInAll_18 : decode cX5_votesInAll 18 = .ok (.iload_n 2, 1) := dk_28 (dk_at dksX5_votesInAll_0 18 rfl rfl)
theorem dX5_votesInAll_19 : decode cX5_votesInAll 19 = .ok (.iadd, 1) := dk_96 (dk_at dksX5_votesInAll_0 19 rfl rfl)
theorem dX5_votesInAll_20 : decode cX5_votesInAll 20 = .ok (.iaload, 1) := dk_46 (dk_at dksX5_votesInAll_0 20 rfl rfl)
theorem dX5_votesInAll_21 : decode cX5_votesInAll 21 = .ok (.iadd, 1) := dk_96 (dk_at dksX5_votesInAll_0 21 rfl rfl)
theorem dX5_votesInAll_22 : decode cX5_votesInAll 22 = .ok (.istore_n 1, 1) := dk_60 (dk_at dksX5_votesInAll_0 22 rfl rfl)
theorem dX5_votesInAll_23 : decode cX5_votesInAll 23 = .ok (.iinc 2 1, 3) := dk_132 2 1 (dk_at dksX5_votesInAll_1 0 rfl rfl)
theorem dX5_votesInAll_26 : decode cX5_votesInAll 26 = .ok (.goto (-22), 3) := dk_167 255 234 (dk_at dksX5_votesInAll_1 3 rfl rfl)
theorem dX5_votesInAll_29 : decode cX5_votesInAll 29 = .ok (.iload_n 1, 1) := dk_27 (dk_at dksX5_votesInAll_1 6 rfl rfl)
theorem dX5_votesInAll_30 : decode cX5_votesInAll 30 = .ok (.ireturn, 1) := dk_172 (dk_at dksX5_votesInAll_1 7 rfl rfl)
abbrev cX5_chairs : ByteArray := prog_22_method_16_code
def yX5_chairs : MethodName := ⟨RX5, "chairs", "()I"⟩
def dkwX5_chairs_0 : List UInt8 := [42, 180, 0, 110, 16, 9, 96, 172]
abbrev dktX5_chairs_0 : List UInt8 := dkwX5_chairs_0 ++ []
theorem dksX5_chairs_0 : cX5_chairs.data.toList.drop 0 = dktX5_chairs_0 := by decide +kernel
theorem dX5_chairs_0 : decode cX5_chairs 0 = .ok (.aload_n 0, 1) := dk_42 (dk_at dksX5_chairs_0 0 rfl rfl)
theorem dX5_chairs_1 : decode cX5_chairs 1 = .ok (.getfield 110, 3) := dk_180 0 110 (dk_at dksX5_chairs_0 1 rfl rfl)
theorem dX5_chairs_4 : decode cX5_chairs 4 = .ok (.bipush 9, 2) := dk_16 9 (dk_at dksX5_chairs_0 4 rfl rfl)
theorem dX5_chairs_6 : decode cX5_chairs 6 = .ok (.iadd, 1) := dk_96 (dk_at dksX5_chairs_0 6 rfl rfl)
theorem dX5_chairs_7 : decode cX5_chairs 7 = .ok (.ireturn, 1) := dk_172 (dk_at dksX5_chairs_0 7 rfl rfl)
abbrev cX5_isAhead : ByteArray := prog_22_method_88_code
def yX5_isAhead : MethodName := ⟨RX5, "isAhead", "(II)Z"⟩
def dkwX5_isAhead_2 : List UInt8 := [167, 0, 4, 3, 172]
abbrev dktX5_isAhead_2 : List UInt8 := dkwX5_isAhead_2 ++ []
def dkwX5_isAhead_1 : List UInt8 := [180, 0, 71, 28, 46, 160, 0, 22, 42, 180, 0, 68, 27, 46, 42, 180, 0, 68, 28, 46, 164, 0, 7, 4]
abbrev dktX5_isAhead_1 : List UInt8 := dkwX5_isAhead_1 ++ dktX5_isAhead_2
def dkwX5_isAhead_0 : List UInt8 := [42, 180, 0, 71, 27, 46, 42, 180, 0, 71, 28, 46, 163, 0, 33, 42, 180, 0, 71, 27, 46, 42]
abbrev dktX5_isAhead_0 : List UInt8 := dkwX5_isAhead_0 ++ dktX5_isAhead_1
theorem dksX5_isAhead_0 : cX5_isAhead.data.toList.drop 0 = dktX5_isAhead_0 := by decide +kernel
theorem dksX5_isAhead_1 : cX5_isAhead.data.toList.drop 22 = dktX5_isAhead_1 := dk_seg dksX5_isAhead_0 22 rfl rfl
theorem dksX5_isAhead_2 : cX5_isAhead.data.toList.drop 46 = dktX5_isAhead_2 := dk_seg dksX5_isAhead_1 24 rfl rfl
theorem dX5_isAhead_0 : decode cX5_isAhead 0 = .ok (.aload_n 0, 1) := dk_42 (dk_at dksX5_isAhead_0 0 rfl rfl)
theorem dX5_isAhead_1 : decode cX5_isAhead 1 = .ok (.getfield 71, 3) := dk_180 0 71 (dk_at dksX5_isAhead_0 1 rfl rfl)
theorem dX5_isAhead_4 : decode cX5_isAhead 4 = .ok (.iload_n 1, 1) := dk_27 (dk_at dksX5_isAhead_0 4 rfl rfl)
theorem dX5_isAhead_5 : decode cX5_isAhead 5 = .ok (.iaload, 1) := dk_46 (dk_at dksX5_isAhead_0 5 rfl rfl)
theorem dX5_isAhead_6 : decode cX5_isAhead 6 = .ok (.aload_n 0, 1) := dk_42 (dk_at dksX5_isAhead_0 6 rfl rfl)
theorem dX5_isAhead_7 : decode cX5_isAhead 7 = .ok (.getfield 71, 3) := dk_180 0 71 (dk_at dksX5_isAhead_0 7 rfl rfl)
theorem dX5_isAhead_10 : decode cX5_isAhead 10 = .ok (.iload_n 2, 1) := dk_28 (dk_at dksX5_isAhead_0 10 rfl rfl)
theorem dX5_isAhead_11 : decode cX5_isAhead 11 = .ok (.iaload, 1) := dk_46 (dk_at dksX5_isAhead_0 11 rfl rfl)
theorem dX5_isAhead_12 : decode cX5_isAhead 12 = .ok (.if_icmp .gt 33, 3) := dk_163 0 33 (dk_at dksX5_isAhead_0 12 rfl rfl)
theorem dX5_isAhead_15 : decode cX5_isAhead 15 = .ok (.aload_n 0, 1) := dk_42 (dk_at dksX5_isAhead_0 15 rfl rfl)
theorem dX5_isAhead_16 : decode cX5_isAhead 16 = .ok (.getfield 71, 3) := dk_180 0 71 (dk_at dksX5_isAhead_0 16 rfl rfl)
theorem dX5_isAhead_19 : decode cX5_isAhead 19 = .ok (.iload_n 1, 1) := dk_27 (dk_at dksX5_isAhead_0 19 rfl rfl)
theorem dX5_isAhead_20 : decode cX5_isAhead 20 = .ok (.iaload, 1) := dk_46 (dk_at dksX5_isAhead_0 20 rfl rfl)
theorem dX5_isAhead_21 : decode cX5_isAhead 21 = .ok (.aload_n 0, 1) := dk_42 (dk_at dksX5_isAhead_0 21 rfl rfl)
theorem dX5_isAhead_22 : decode cX5_isAhead 22 = .ok (.getfield 71, 3) := dk_180 0 71 (dk_at dksX5_isAhead_1 0 rfl rfl)
theorem dX5_isAhead_25 : decode cX5_isAhead 25 = .ok (.iload_n 2, 1) := dk_28 (dk_at dksX5_isAhead_1 3 rfl rfl)
theorem dX5_isAhead_26 : decode cX5_isAhead 26 = .ok (.iaload, 1) := dk_46 (dk_at dksX5_isAhead_1 4 rfl rfl)
theorem dX5_isAhead_27 : decode cX5_isAhead 27 = .ok (.if_icmp .ne 22, 3) := dk_160 0 22 (dk_at dksX5_isAhead_1 5 rfl rfl)
theorem dX5_isAhead_30 : decode cX5_isAhead 30 = .ok (.aload_n 0, 1) := dk_42 (dk_at dksX5_isAhead_1 8 rfl rfl)
theorem dX5_isAhead_31 : decode cX5_isAhead 31 = .ok (.getfield 68, 3) := dk_180 0 68 (dk_at dksX5_isAhead_1 9 rfl rfl)
theorem dX5_isAhead_34 : decode cX5_isAhead 34 = .ok (.iload_n 1, 1) := dk_27 (dk_at dksX5_isAhead_1 12 rfl rfl)
theorem dX5_isAhead_35 : decode cX5_isAhead 35 = .ok (.iaload, 1) := dk_46 (dk_at dksX5_isAhead_1 13 rfl rfl)
theorem dX5_isAhead_36 : decode cX5_isAhead 36 = .ok (.aload_n 0, 1) := dk_42 (dk_at dksX5_isAhead_1 14 rfl rfl)
theorem dX5_isAhead_37 : decode cX5_isAhead 37 = .ok (.getfield 68, 3) := dk_180 0 68 (dk_at dksX5_isAhead_1 15 rfl rfl)
theorem dX5_isAhead_40 : decode cX5_isAhead 40 = .ok (.iload_n 2, 1) := dk_28 (dk_at dksX5_isAhead_1 18 rfl rfl)
theorem dX5_isAhead_41 : decode cX5_isAhead 41 = .ok (.iaload, 1) := dk_46 (dk_at dksX5_isAhead_1 19 rfl rfl)
theorem dX5_isAhead_42 : decode cX5_isAhead 42 = .ok (.if_icmp .le 7, 3) := dk_164 0 7 (dk_at dksX5_isAhead_1 20 rfl rfl)
theorem dX5_isAhead_45 : decode cX5_isAhead 45 = .ok (.iconst 1, 1) := dk_4 (dk_at dksX5_isAhead_1 23 rfl rfl)
theorem dX5_isAhead_46 : decode cX5_isAhead 46 = .ok (.goto 4, 3) := dk_167 0 4 (dk_at dksX5_isAhead_2 0 rfl rfl)
theorem dX5_isAhead_49 : decode cX5_isAhead 49 = .ok (.iconst 0, 1) := dk_3 (dk_at dksX5_isAhead_2 3 rfl rfl)
theorem dX5_isAhead_50 : decode cX5_isAhead 50 = .ok (.ireturn, 1) := dk_172 (dk_at dksX5_isAhead_2 4 rfl rfl)
abbrev cX5_strongest : ByteArray := prog_22_method_90_code
def yX5_strongest : MethodName := ⟨RX5, "strongest", "()I"⟩
def dkwX5_strongest_2 : List UInt8 := [132, 2, 1, 167, 255, 222, 27, 172]
abbrev dktX5_strongest_2 : List UInt8 := dkwX5_strongest_2 ++ []
def dkwX5_strongest_1 : List UInt8 := [180, 0, 7, 16, 10, 28, 96, 46, 42, 180, 0, 7, 16, 10, 27, 96, 46, 164, 0, 5, 28, 60]
abbrev dktX5_strongest_1 : List UInt8 := dkwX5_strongest_1 ++ dktX5_strongest_2
def dkwX5_strongest_0 : List UInt8 := [42, 180, 0, 116, 158, 0, 7, 3, 167, 0, 4, 2, 60, 4, 61, 28, 42, 180, 0, 116, 162, 0, 32, 42]
abbrev dktX5_strongest_0 : List UInt8 := dkwX5_strongest_0 ++ dktX5_strongest_1
theorem dksX5_strongest_0 : cX5_strongest.data.toList.drop 0 = dktX5_strongest_0 := by decide +kernel
theorem dksX5_strongest_1 : cX5_strongest.data.toList.drop 24 = dktX5_strongest_1 := dk_seg dksX5_strongest_0 24 rfl rfl
theorem dksX5_strongest_2 : cX5_strongest.data.toList.drop 46 = dktX5_strongest_2 := dk_seg dksX5_strongest_1 22 rfl rfl
theorem dX5_strongest_0 : decode cX5_strongest 0 = .ok (.aload_n 0, 1) := dk_42 (dk_at dksX5_strongest_0 0 rfl rfl)
theorem dX5_strongest_1 : decode cX5_strongest 1 = .ok (.getfield 116, 3) := dk_180 0 116 (dk_at dksX5_strongest_0 1 rfl rfl)
theorem dX5_strongest_4 : decode cX5_strongest 4 = .ok (.ifCond .le 7, 3) := dk_158 0 7 (dk_at dksX5_strongest_0 4 rfl rfl)
theorem dX5_strongest_7 : decode cX5_strongest 7 = .ok (.iconst 0, 1) := dk_3 (dk_at dksX5_strongest_0 7 rfl rfl)
theorem dX5_strongest_8 : decode cX5_strongest 8 = .ok (.goto 4, 3) := dk_167 0 4 (dk_at dksX5_strongest_0 8 rfl rfl)
theorem dX5_strongest_11 : decode cX5_strongest 11 = .ok (.iconst (-1), 1) := dk_2 (dk_at dksX5_strongest_0 11 rfl rfl)
theorem dX5_strongest_12 : decode cX5_strongest 12 = .ok (.istore_n 1, 1) := dk_60 (dk_at dksX5_strongest_0 12 rfl rfl)
theorem dX5_strongest_13 : decode cX5_strongest 13 = .ok (.iconst 1, 1) := dk_4 (dk_at dksX5_strongest_0 13 rfl rfl)
theorem dX5_strongest_14 : decode cX5_strongest 14 = .ok (.istore_n 2, 1) := dk_61 (dk_at dksX5_strongest_0 14 rfl rfl)
theorem dX5_strongest_15 : decode cX5_strongest 15 = .ok (.iload_n 2, 1) := dk_28 (dk_at dksX5_strongest_0 15 rfl rfl)
theorem dX5_strongest_16 : decode cX5_strongest 16 = .ok (.aload_n 0, 1) := dk_42 (dk_at dksX5_strongest_0 16 rfl rfl)
theorem dX5_strongest_17 : decode cX5_strongest 17 = .ok (.getfield 116, 3) := dk_180 0 116 (dk_at dksX5_strongest_0 17 rfl rfl)
theorem dX5_strongest_20 : decode cX5_strongest 20 = .ok (.if_icmp .ge 32, 3) := dk_162 0 32 (dk_at dksX5_strongest_0 20 rfl rfl)
theorem dX5_strongest_23 : decode cX5_strongest 23 = .ok (.aload_n 0, 1) := dk_42 (dk_at dksX5_strongest_0 23 rfl rfl)
theorem dX5_strongest_24 : decode cX5_strongest 24 = .ok (.getfield 7, 3) := dk_180 0 7 (dk_at dksX5_strongest_1 0 rfl rfl)
theorem dX5_strongest_27 : decode cX5_strongest 27 = .ok (.bipush 10, 2) := dk_16 10 (dk_at dksX5_strongest_1 3 rfl rfl)
theorem dX5_strongest_29 : decode cX5_strongest 29 = .ok (.iload_n 2, 1) := dk_28 (dk_at dksX5_strongest_1 5 rfl rfl)
theorem dX5_strongest_30 : decode cX5_strongest 30 = .ok (.iadd, 1) := dk_96 (dk_at dksX5_strongest_1 6 rfl rfl)
theorem dX5_strongest_31 : decode cX5_strongest 31 = .ok (.iaload, 1) := dk_46 (dk_at dksX5_strongest_1 7 rfl rfl)
theorem dX5_strongest_32 : decode cX5_strongest 32 = .ok (.aload_n 0, 1) := dk_42 (dk_at dksX5_strongest_1 8 rfl rfl)
theorem dX5_strongest_33 : decode cX5_strongest 33 = .ok (.getfield 7, 3) := dk_180 0 7 (dk_at dksX5_strongest_1 9 rfl rfl)
theorem dX5_strongest_36 : decode cX5_strongest 36 = .ok (.bipush 10, 2) := dk_16 10 (dk_at dksX5_strongest_1 12 rfl rfl)
theorem dX5_strongest_38 : decode cX5_strongest 38 = .ok (.iload_n 1, 1) := dk_27 (dk_at dksX5_strongest_1 14 rfl rfl)
theorem dX5_strongest_39 : decode cX5_strongest 39 = .ok (.iadd, 1) := dk_96 (dk_at dksX5_strongest_1 15 rfl rfl)
theorem dX5_strongest_40 : decode cX5_strongest 40 = .ok (.iaload, 1) := dk_46 (dk_at dksX5_strongest_1 16 rfl rfl)
theorem dX5_strongest_41 : decode cX5_strongest 41 = .ok (.if_icmp .le 5, 3) := dk_164 0 5 (dk_at dksX5_strongest_1 17 rfl rfl)
theorem dX5_strongest_44 : decode cX5_strongest 44 = .ok (.iload_n 2, 1) := dk_28 (dk_at dksX5_strongest_1 20 rfl rfl)
theorem dX5_strongest_45 : decode cX5_strongest 45 = .ok (.istore_n 1, 1) := dk_60 (dk_at dksX5_strongest_1 21 rfl rfl)
theorem dX5_strongest_46 : decode cX5_strongest 46 = .ok (.iinc 2 1, 3) := dk_132 2 1 (dk_at dksX5_strongest_2 0 rfl rfl)
theorem dX5_strongest_49 : decode cX5_strongest 49 = .ok (.goto (-34), 3) := dk_167 255 222 (dk_at dksX5_strongest_2 3 rfl rfl)
theorem dX5_strongest_52 : decode cX5_strongest 52 = .ok (.iload_n 1, 1) := dk_27 (dk_at dksX5_strongest_2 6 rfl rfl)
theorem dX5_strongest_53 : decode cX5_strongest 53 = .ok (.ireturn, 1) := dk_172 (dk_at dksX5_strongest_2 7 rfl rfl)
abbrev cX5_of : ByteArray := prog_22_method_98_code
def yX5_of : MethodName := ⟨RX5, "of", "(II)I"⟩
def dkwX5_of_4 : List UInt8 := [16, 62, 21, 4, 96, 46, 96, 62, 132, 4, 1, 167, 255, 215, 29, 172]
abbrev dktX5_of_4 : List UInt8 := dkwX5_of_4 ++ []
def dkwX5_of_3 : List UInt8 := [46, 162, 0, 36, 42, 180, 0, 7, 16, 20, 21, 4, 96, 46, 27, 160, 0, 16, 29, 42, 180, 0, 7]
abbrev dktX5_of_3 : List UInt8 := dkwX5_of_3 ++ dktX5_of_4
def dkwX5_of_2 : List UInt8 := [160, 0, 7, 8, 167, 0, 5, 16, 10, 96, 46, 172, 3, 62, 3, 54, 4, 21, 4, 42, 180, 0, 7, 7]
abbrev dktX5_of_2 : List UInt8 := dkwX5_of_2 ++ dktX5_of_3
def dkwX5_of_1 : List UInt8 := [172, 28, 6, 162, 0, 31, 42, 180, 0, 7, 27, 28, 154, 0, 8, 16, 15, 167, 0, 14, 28, 4]
abbrev dktX5_of_1 : List UInt8 := dkwX5_of_1 ++ dktX5_of_2
def dkwX5_of_0 : List UInt8 := [42, 3, 181, 0, 86, 42, 27, 182, 0, 134, 153, 0, 13, 42, 28, 3, 6, 182, 0, 126, 154, 0, 5, 2]
abbrev dktX5_of_0 : List UInt8 := dkwX5_of_0 ++ dktX5_of_1
theorem dksX5_of_0 : cX5_of.data.toList.drop 0 = dktX5_of_0 := by decide +kernel
theorem dksX5_of_1 : cX5_of.data.toList.drop 24 = dktX5_of_1 := dk_seg dksX5_of_0 24 rfl rfl
theorem dksX5_of_2 : cX5_of.data.toList.drop 46 = dktX5_of_2 := dk_seg dksX5_of_1 22 rfl rfl
theorem dksX5_of_3 : cX5_of.data.toList.drop 70 = dktX5_of_3 := dk_seg dksX5_of_2 24 rfl rfl
theorem dksX5_of_4 : cX5_of.data.toList.drop 93 = dktX5_of_4 := dk_seg dksX5_of_3 23 rfl rfl
theorem dX5_of_0 : decode cX5_of 0 = .ok (.aload_n 0, 1) := dk_42 (dk_at dksX5_of_0 0 rfl rfl)
theorem dX5_of_1 : decode cX5_of 1 = .ok (.iconst 0, 1) := dk_3 (dk_at dksX5_of_0 1 rfl rfl)
theorem dX5_of_2 : decode cX5_of 2 = .ok (.putfield 86, 3) := dk_181 0 86 (dk_at dksX5_of_0 2 rfl rfl)
theorem dX5_of_5 : decode cX5_of 5 = .ok (.aload_n 0, 1) := dk_42 (dk_at dksX5_of_0 5 rfl rfl)
theorem dX5_of_6 : decode cX5_of 6 = .ok (.iload_n 1, 1) := dk_27 (dk_at dksX5_of_0 6 rfl rfl)
theorem dX5_of_7 : decode cX5_of 7 = .ok (.invokevirtual 134, 3) := dk_182 0 134 (dk_at dksX5_of_0 7 rfl rfl)
theorem dX5_of_10 : decode cX5_of 10 = .ok (.ifCond .eq 13, 3) := dk_153 0 13 (dk_at dksX5_of_0 10 rfl rfl)
theorem dX5_of_13 : decode cX5_of 13 = .ok (.aload_n 0, 1) := dk_42 (dk_at dksX5_of_0 13 rfl rfl)
theorem dX5_of_14 : decode cX5_of 14 = .ok (.iload_n 2, 1) := dk_28 (dk_at dksX5_of_0 14 rfl rfl)
theorem dX5_of_15 : decode cX5_of 15 = .ok (.iconst 0, 1) := dk_3 (dk_at dksX5_of_0 15 rfl rfl)
theorem dX5_of_16 : decode cX5_of 16 = .ok (.iconst 3, 1) := dk_6 (dk_at dksX5_of_0 16 rfl rfl)
theorem dX5_of_17 : decode cX5_of 17 = .ok (.invokevirtual 126, 3) := dk_182 0 126 (dk_at dksX5_of_0 17 rfl rfl)
theorem dX5_of_20 : decode cX5_of 20 = .ok (.ifCond .ne 5, 3) := dk_154 0 5 (dk_at dksX5_of_0 20 rfl rfl)
theorem dX5_of_23 : decode cX5_of 23 = .ok (.iconst (-1), 1) := dk_2 (dk_at dksX5_of_0 23 rfl rfl)
theorem dX5_of_24 : decode cX5_of 24 = .ok (.ireturn, 1) := dk_172 (dk_at dksX5_of_1 0 rfl rfl)
theorem dX5_of_25 : decode cX5_of 25 = .ok (.iload_n 2, 1) := dk_28 (dk_at dksX5_of_1 1 rfl rfl)
theorem dX5_of_26 : decode cX5_of 26 = .ok (.iconst 3, 1) := dk_6 (dk_at dksX5_of_1 2 rfl rfl)
theorem dX5_of_27 : decode cX5_of 27 = .ok (.if_icmp .ge 31, 3) := dk_162 0 31 (dk_at dksX5_of_1 3 rfl rfl)
theorem dX5_of_30 : decode cX5_of 30 = .ok (.aload_n 0, 1) := dk_42 (dk_at dksX5_of_1 6 rfl rfl)
theorem dX5_of_31 : decode cX5_of 31 = .ok (.getfield 7, 3) := dk_180 0 7 (dk_at dksX5_of_1 7 rfl rfl)
theorem dX5_of_34 : decode cX5_of 34 = .ok (.iload_n 1, 1) := dk_27 (dk_at dksX5_of_1 10 rfl rfl)
theorem dX5_of_35 : decode cX5_of 35 = .ok (.iload_n 2, 1) := dk_28 (dk_at dksX5_of_1 11 rfl rfl)
theorem dX5_of_36 : decode cX5_of 36 = .ok (.ifCond .ne 8, 3) := dk_154 0 8 (dk_at dksX5_of_1 12 rfl rfl)
theorem dX5_of_39 : decode cX5_of 39 = .ok (.bipush 15, 2) := dk_16 15 (dk_at dksX5_of_1 15 rfl rfl)
theorem dX5_of_41 : decode cX5_of 41 = .ok (.goto 14, 3) := dk_167 0 14 (dk_at dksX5_of_1 17 rfl rfl)
theorem dX5_of_44 : decode cX5_of 44 = .ok (.iload_n 2, 1) := dk_28 (dk_at dksX5_of_1 20 rfl rfl)
theorem dX5_of_45 : decode cX5_of 45 = .ok (.iconst 1, 1) := dk_4 (dk_at dksX5_of_1 21 rfl rfl)
theorem dX5_of_46 : decode cX5_of 46 = .ok (.if_icmp .ne 7, 3) := dk_160 0 7 (dk_at dksX5_of_2 0 rfl rfl)
theorem dX5_of_49 : decode cX5_of 49 = .ok (.iconst 5, 1) := dk_8 (dk_at dksX5_of_2 3 rfl rfl)
theorem dX5_of_50 : decode cX5_of 50 = .ok (.goto 5, 3) := dk_167 0 5 (dk_at dksX5_of_2 4 rfl rfl)
theorem dX5_of_53 : decode cX5_of 53 = .ok (.bipush 10, 2) := dk_16 10 (dk_at dksX5_of_2 7 rfl rfl)
theorem dX5_of_55 : decode cX5_of 55 = .ok (.iadd, 1) := dk_96 (dk_at dksX5_of_2 9 rfl rfl)
theorem dX5_of_56 : decode cX5_of 56 = .ok (.iaload, 1) := dk_46 (dk_at dksX5_of_2 10 rfl rfl)
theorem dX5_of_57 : decode cX5_of 57 = .ok (.ireturn, 1) := dk_172 (dk_at dksX5_of_2 11 rfl rfl)
theorem dX5_of_58 : decode cX5_of 58 = .ok (.iconst 0, 1) := dk_3 (dk_at dksX5_of_2 12 rfl rfl)
theorem dX5_of_59 : decode cX5_of 59 = .ok (.istore_n 3, 1) := dk_62 (dk_at dksX5_of_2 13 rfl rfl)
theorem dX5_of_60 : decode cX5_of 60 = .ok (.iconst 0, 1) := dk_3 (dk_at dksX5_of_2 14 rfl rfl)
theorem dX5_of_61 : decode cX5_of 61 = .ok (.istore 4, 2) := dk_54 4 (dk_at dksX5_of_2 15 rfl rfl)
theorem dX5_of_63 : decode cX5_of 63 = .ok (.iload 4, 2) := dk_21 4 (dk_at dksX5_of_2 17 rfl rfl)
theorem dX5_of_65 : decode cX5_of 65 = .ok (.aload_n 0, 1) := dk_42 (dk_at dksX5_of_2 19 rfl rfl)
theorem dX5_of_66 : decode cX5_of 66 = .ok (.getfield 7, 3) := dk_180 0 7 (dk_at dksX5_of_2 20 rfl rfl)
theorem dX5_of_69 : decode cX5_of 69 = .ok (.iconst 4, 1) := dk_7 (dk_at dksX5_of_2 23 rfl rfl)
theorem dX5_of_70 : decode cX5_of 70 = .ok (.iaload, 1) := dk_46 (dk_at dksX5_of_3 0 rfl rfl)
theorem dX5_of_71 : decode cX5_of 71 = .ok (.if_icmp .ge 36, 3) := dk_162 0 36 (dk_at dksX5_of_3 1 rfl rfl)
theorem dX5_of_74 : decode cX5_of 74 = .ok (.aload_n 0, 1) := dk_42 (dk_at dksX5_of_3 4 rfl rfl)
theorem dX5_of_75 : decode cX5_of 75 = .ok (.getfield 7, 3) := dk_180 0 7 (dk_at dksX5_of_3 5 rfl rfl)
theorem dX5_of_78 : decode cX5_of 78 = .ok (.bipush 20, 2) := dk_16 20 (dk_at dksX5_of_3 8 rfl rfl)
theorem dX5_of_80 : decode cX5_of 80 = .ok (.iload 4, 2) := dk_21 4 (dk_at dksX5_of_3 10 rfl rfl)
theorem dX5_of_82 : decode cX5_of 82 = .ok (.iadd, 1) := dk_96 (dk_at dksX5_of_3 12 rfl rfl)
theorem dX5_of_83 : decode cX5_of 83 = .ok (.iaload, 1) := dk_46 (dk_at dksX5_of_3 13 rfl rfl)
theorem dX5_of_84 : decode cX5_of 84 = .ok (.iload_n 1, 1) := dk_27 (dk_at dksX5_of_3 14 rfl rfl)
theorem dX5_of_85 : decode cX5_of 85 = .ok (.if_icmp .ne 16, 3) := dk_160 0 16 (dk_at dksX5_of_3 15 rfl rfl)
theorem dX5_of_88 : decode cX5_of 88 = .ok (.iload_n 3, 1) := dk_29 (dk_at dksX5_of_3 18 rfl rfl)
theorem dX5_of_89 : decode cX5_of 89 = .ok (.aload_n 0, 1) := dk_42 (dk_at dksX5_of_3 19 rfl rfl)
theorem dX5_of_90 : decode cX5_of 90 = .ok (.getfield 7, 3) := dk_180 0 7 (dk_at dksX5_of_3 20 rfl rfl)
theorem dX5_of_93 : decode cX5_of 93 = .ok (.bipush 62, 2) := dk_16 62 (dk_at dksX5_of_4 0 rfl rfl)
theorem dX5_of_95 : decode cX5_of 95 = .ok (.iload 4, 2) := dk_21 4 (dk_at dksX5_of_4 2 rfl rfl)
theorem dX5_of_97 : decode cX5_of 97 = .ok (.iadd, 1) := dk_96 (dk_at dksX5_of_4 4 rfl rfl)
theorem dX5_of_98 : decode cX5_of 98 = .ok (.iaload, 1) := dk_46 (dk_at dksX5_of_4 5 rfl rfl)
theorem dX5_of_99 : decode cX5_of 99 = .ok (.iadd, 1) := dk_96 (dk_at dksX5_of_4 6 rfl rfl)
theorem dX5_of_100 : decode cX5_of 100 = .ok (.istore_n 3, 1) := dk_62 (dk_at dksX5_of_4 7 rfl rfl)
theorem dX5_of_101 : decode cX5_of 101 = .ok (.iinc 4 1, 3) := dk_132 4 1 (dk_at dksX5_of_4 8 rfl rfl)
theorem dX5_of_104 : decode cX5_of 104 = .ok (.goto (-41), 3) := dk_167 255 215 (dk_at dksX5_of_4 11 rfl rfl)
theorem dX5_of_107 : decode cX5_of 107 = .ok (.iload_n 3, 1) := dk_29 (dk_at dksX5_of_4 14 rfl rfl)
theorem dX5_of_108 : decode cX5_of 108 = .ok (.ireturn, 1) := dk_172 (dk_at dksX5_of_4 15 rfl rfl)
abbrev cX5_tree : ByteArray := prog_22_method_99_code
def yX5_tree : MethodName := ⟨RX5, "tree", "(II)I"⟩
def dkwX5_tree_2 : List UInt8 := [96, 27, 96, 46, 172]
abbrev dktX5_tree_2 : List UInt8 := dkwX5_tree_2 ++ []
def dkwX5_tree_1 : List UInt8 := [172, 28, 7, 160, 0, 11, 42, 27, 182, 1, 137, 167, 0, 17, 42, 180, 0, 7, 16, 20, 16, 14, 28, 104]
abbrev dktX5_tree_1 : List UInt8 := dkwX5_tree_1 ++ dktX5_tree_2
def dkwX5_tree_0 : List UInt8 := [42, 3, 181, 0, 86, 42, 27, 182, 0, 141, 153, 0, 13, 42, 28, 3, 7, 182, 0, 126, 154, 0, 5, 2]
abbrev dktX5_tree_0 : List UInt8 := dkwX5_tree_0 ++ dktX5_tree_1
theorem dksX5_tree_0 : cX5_tree.data.toList.drop 0 = dktX5_tree_0 := by decide +kernel
theorem dksX5_tree_1 : cX5_tree.data.toList.drop 24 = dktX5_tree_1 := dk_seg dksX5_tree_0 24 rfl rfl
theorem dksX5_tree_2 : cX5_tree.data.toList.drop 48 = dktX5_tree_2 := dk_seg dksX5_tree_1 24 rfl rfl
theorem dX5_tree_0 : decode cX5_tree 0 = .ok (.aload_n 0, 1) := dk_42 (dk_at dksX5_tree_0 0 rfl rfl)
theorem dX5_tree_1 : decode cX5_tree 1 = .ok (.iconst 0, 1) := dk_3 (dk_at dksX5_tree_0 1 rfl rfl)
theorem dX5_tree_2 : decode cX5_tree 2 = .ok (.putfield 86, 3) := dk_181 0 86 (dk_at dksX5_tree_0 2 rfl rfl)
theorem dX5_tree_5 : decode cX5_tree 5 = .ok (.aload_n 0, 1) := dk_42 (dk_at dksX5_tree_0 5 rfl rfl)
theorem dX5_tree_6 : decode cX5_tree 6 = .ok (.iload_n 1, 1) := dk_27 (dk_at dksX5_tree_0 6 rfl rfl)
theorem dX5_tree_7 : decode cX5_tree 7 = .ok (.invokevirtual 141, 3) := dk_182 0 141 (dk_at dksX5_tree_0 7 rfl rfl)
theorem dX5_tree_10 : decode cX5_tree 10 = .ok (.ifCond .eq 13, 3) := dk_153 0 13 (dk_at dksX5_tree_0 10 rfl rfl)
theorem dX5_tree_13 : decode cX5_tree 13 = .ok (.aload_n 0, 1) := dk_42 (dk_at dksX5_tree_0 13 rfl rfl)
theorem dX5_tree_14 : decode cX5_tree 14 = .ok (.iload_n 2, 1) := dk_28 (dk_at dksX5_tree_0 14 rfl rfl)
theorem dX5_tree_15 : decode cX5_tree 15 = .ok (.iconst 0, 1) := dk_3 (dk_at dksX5_tree_0 15 rfl rfl)
theorem dX5_tree_16 : decode cX5_tree 16 = .ok (.iconst 4, 1) := dk_7 (dk_at dksX5_tree_0 16 rfl rfl)
theorem dX5_tree_17 : decode cX5_tree 17 = .ok (.invokevirtual 126, 3) := dk_182 0 126 (dk_at dksX5_tree_0 17 rfl rfl)
theorem dX5_tree_20 : decode cX5_tree 20 = .ok (.ifCond .ne 5, 3) := dk_154 0 5 (dk_at dksX5_tree_0 20 rfl rfl)
theorem dX5_tree_23 : decode cX5_tree 23 = .ok (.iconst (-1), 1) := dk_2 (dk_at dksX5_tree_0 23 rfl rfl)
theorem dX5_tree_24 : decode cX5_tree 24 = .ok (.ireturn, 1) := dk_172 (dk_at dksX5_tree_1 0 rfl rfl)
theorem dX5_tree_25 : decode cX5_tree 25 = .ok (.iload_n 2, 1) := dk_28 (dk_at dksX5_tree_1 1 rfl rfl)
theorem dX5_tree_26 : decode cX5_tree 26 = .ok (.iconst 4, 1) := dk_7 (dk_at dksX5_tree_1 2 rfl rfl)
theorem dX5_tree_27 : decode cX5_tree 27 = .ok (.if_icmp .ne 11, 3) := dk_160 0 11 (dk_at dksX5_tree_1 3 rfl rfl)
theorem dX5_tree_30 : decode cX5_tree 30 = .ok (.aload_n 0, 1) := dk_42 (dk_at dksX5_tree_1 6 rfl rfl)
theorem dX5_tree_31 : decode cX5_tree 31 = .ok (.iload_n 1, 1) := dk_27 (dk_at dksX5_tree_1 7 rfl rfl)
theorem dX5_tree_32 : decode cX5_tree 32 = .ok (.invokevirtual 393, 3) := dk_182 1 137 (dk_at dksX5_tree_1 8 rfl rfl)
theorem dX5_tree_35 : decode cX5_tree 35 = .ok (.goto 17, 3) := dk_167 0 17 (dk_at dksX5_tree_1 11 rfl rfl)
theorem dX5_tree_38 : decode cX5_tree 38 = .ok (.aload_n 0, 1) := dk_42 (dk_at dksX5_tree_1 14 rfl rfl)
theorem dX5_tree_39 : decode cX5_tree 39 = .ok (.getfield 7, 3) := dk_180 0 7 (dk_at dksX5_tree_1 15 rfl rfl)
theorem dX5_tree_42 : decode cX5_tree 42 = .ok (.bipush 20, 2) := dk_16 20 (dk_at dksX5_tree_1 18 rfl rfl)
theorem dX5_tree_44 : decode cX5_tree 44 = .ok (.bipush 14, 2) := dk_16 14 (dk_at dksX5_tree_1 20 rfl rfl)
theorem dX5_tree_46 : decode cX5_tree 46 = .ok (.iload_n 2, 1) := dk_28 (dk_at dksX5_tree_1 22 rfl rfl)
theorem dX5_tree_47 : decode cX5_tree 47 = .ok (.imul, 1) := dk_104 (dk_at dksX5_tree_1 23 rfl rfl)
theorem dX5_tree_48 : decode cX5_tree 48 = .ok (.iadd, 1) := dk_96 (dk_at dksX5_tree_2 0 rfl rfl)
theorem dX5_tree_49 : decode cX5_tree 49 = .ok (.iload_n 1, 1) := dk_27 (dk_at dksX5_tree_2 1 rfl rfl)
theorem dX5_tree_50 : decode cX5_tree 50 = .ok (.iadd, 1) := dk_96 (dk_at dksX5_tree_2 2 rfl rfl)
theorem dX5_tree_51 : decode cX5_tree 51 = .ok (.iaload, 1) := dk_46 (dk_at dksX5_tree_2 3 rfl rfl)
theorem dX5_tree_52 : decode cX5_tree 52 = .ok (.ireturn, 1) := dk_172 (dk_at dksX5_tree_2 4 rfl rfl)
abbrev cX5_who : ByteArray := prog_22_method_100_code
def yX5_who : MethodName := ⟨RX5, "who", "(II)I"⟩
def dkwX5_who_5 : List UInt8 := [172]
abbrev dktX5_who_5 : List UInt8 := dkwX5_who_5 ++ []
def dkwX5_who_4 : List UInt8 := [42, 180, 0, 116, 96, 182, 0, 126, 153, 0, 15, 42, 27, 28, 16, 20, 100, 182, 1, 57, 167, 0, 4, 2]
abbrev dktX5_who_4 : List UInt8 := dkwX5_who_4 ++ dktX5_who_5
def dkwX5_who_3 : List UInt8 := [153, 0, 18, 42, 180, 0, 56, 16, 9, 27, 104, 28, 96, 16, 9, 100, 46, 172, 42, 28, 16, 20, 16, 19]
abbrev dktX5_who_3 : List UInt8 := dkwX5_who_3 ++ dktX5_who_4
def dkwX5_who_2 : List UInt8 := [182, 1, 107, 172, 28, 5, 160, 0, 5, 29, 172, 42, 28, 16, 10, 16, 9, 29, 96, 182, 0, 126]
abbrev dktX5_who_2 : List UInt8 := dkwX5_who_2 ++ dktX5_who_3
def dkwX5_who_1 : List UInt8 := [62, 28, 154, 0, 13, 42, 180, 0, 7, 16, 76, 27, 96, 46, 172, 28, 4, 160, 0, 9, 42, 27]
abbrev dktX5_who_1 : List UInt8 := dkwX5_who_1 ++ dktX5_who_2
def dkwX5_who_0 : List UInt8 := [42, 3, 181, 0, 86, 42, 27, 182, 0, 130, 154, 0, 5, 2, 172, 42, 180, 0, 56, 16, 9, 27, 104, 46]
abbrev dktX5_who_0 : List UInt8 := dkwX5_who_0 ++ dktX5_who_1
theorem dksX5_who_0 : cX5_who.data.toList.drop 0 = dktX5_who_0 := by decide +kernel
theorem dksX5_who_1 : cX5_who.data.toList.drop 24 = dktX5_who_1 := dk_seg dksX5_who_0 24 rfl rfl
theorem dksX5_who_2 : cX5_who.data.toList.drop 46 = dktX5_who_2 := dk_seg dksX5_who_1 22 rfl rfl
theorem dksX5_who_3 : cX5_who.data.toList.drop 68 = dktX5_who_3 := dk_seg dksX5_who_2 22 rfl rfl
theorem dksX5_who_4 : cX5_who.data.toList.drop 92 = dktX5_who_4 := dk_seg dksX5_who_3 24 rfl rfl
theorem dksX5_who_5 : cX5_who.data.toList.drop 116 = dktX5_who_5 := dk_seg dksX5_who_4 24 rfl rfl
theorem dX5_who_0 : decode cX5_who 0 = .ok (.aload_n 0, 1) := dk_42 (dk_at dksX5_who_0 0 rfl rfl)
theorem dX5_who_1 : decode cX5_who 1 = .ok (.iconst 0, 1) := dk_3 (dk_at dksX5_who_0 1 rfl rfl)
theorem dX5_who_2 : decode cX5_who 2 = .ok (.putfield 86, 3) := dk_181 0 86 (dk_at dksX5_who_0 2 rfl rfl)
theorem dX5_who_5 : decode cX5_who 5 = .ok (.aload_n 0, 1) := dk_42 (dk_at dksX5_who_0 5 rfl rfl)
theorem dX5_who_6 : decode cX5_who 6 = .ok (.iload_n 1, 1) := dk_27 (dk_at dksX5_who_0 6 rfl rfl)
theorem dX5_who_7 : decode cX5_who 7 = .ok (.invokevirtual 130, 3) := dk_182 0 130 (dk_at dksX5_who_0 7 rfl rfl)
theorem dX5_who_10 : decode cX5_who 10 = .ok (.ifCond .ne 5, 3) := dk_154 0 5 (dk_at dksX5_who_0 10 rfl rfl)
theorem dX5_who_13 : decode cX5_who 13 = .ok (.iconst (-1), 1) := dk_2 (dk_at dksX5_who_0 13 rfl rfl)
theorem dX5_who_14 : decode cX5_who 14 = .ok (.ireturn, 1) := dk_172 (dk_at dksX5_who_0 14 rfl rfl)
theorem dX5_who_15 : decode cX5_who 15 = .ok (.aload_n 0, 1) := dk_42 (dk_at dksX5_who_0 15 rfl rfl)
theorem dX5_who_16 : decode cX5_who 16 = .ok (.getfield 56, 3) := dk_180 0 56 (dk_at dksX5_who_0 16 rfl rfl)
theorem dX5_who_19 : decode cX5_who 19 = .ok (.bipush 9, 2) := dk_16 9 (dk_at dksX5_who_0 19 rfl rfl)
theorem dX5_who_21 : decode cX5_who 21 = .ok (.iload_n 1, 1) := dk_27 (dk_at dksX5_who_0 21 rfl rfl)
theorem dX5_who_22 : decode cX5_who 22 = .ok (.imul, 1) := dk_104 (dk_at dksX5_who_0 22 rfl rfl)
theorem dX5_who_23 : decode cX5_who 23 = .ok (.iaload, 1) := dk_46 (dk_at dksX5_who_0 23 rfl rfl)
theorem dX5_who_24 : decode cX5_who 24 = .ok (.istore_n 3, 1) := dk_62 (dk_at dksX5_who_1 0 rfl rfl)
theorem dX5_who_25 : decode cX5_who 25 = .ok (.iload_n 2, 1) := dk_28 (dk_at dksX5_who_1 1 rfl rfl)
theorem dX5_who_26 : decode cX5_who 26 = .ok (.ifCond .ne 13, 3) := dk_154 0 13 (dk_at dksX5_who_1 2 rfl rfl)
theorem dX5_who_29 : decode cX5_who 29 = .ok (.aload_n 0, 1) := dk_42 (dk_at dksX5_who_1 5 rfl rfl)
theorem dX5_who_30 : decode cX5_who 30 = .ok (.getfield 7, 3) := dk_180 0 7 (dk_at dksX5_who_1 6 rfl rfl)
theorem dX5_who_33 : decode cX5_who 33 = .ok (.bipush 76, 2) := dk_16 76 (dk_at dksX5_who_1 9 rfl rfl)
theorem dX5_who_35 : decode cX5_who 35 = .ok (.iload_n 1, 1) := dk_27 (dk_at dksX5_who_1 11 rfl rfl)
theorem dX5_who_36 : decode cX5_who 36 = .ok (.iadd, 1) := dk_96 (dk_at dksX5_who_1 12 rfl rfl)
theorem dX5_who_37 : decode cX5_who 37 = .ok (.iaload, 1) := dk_46 (dk_at dksX5_who_1 13 rfl rfl)
theorem dX5_who_38 : decode cX5_who 38 = .ok (.ireturn, 1) := dk_172 (dk_at dksX5_who_1 14 rfl rfl)
theorem dX5_who_39 : decode cX5_who 39 = .ok (.iload_n 2, 1) := dk_28 (dk_at dksX5_who_1 15 rfl rfl)
theorem dX5_who_40 : decode cX5_who 40 = .ok (.iconst 1, 1) := dk_4 (dk_at dksX5_who_1 16 rfl rfl)
theorem dX5_who_41 : decode cX5_who 41 = .ok (.if_icmp .ne 9, 3) := dk_160 0 9 (dk_at dksX5_who_1 17 rfl rfl)
theorem dX5_who_44 : decode cX5_who 44 = .ok (.aload_n 0, 1) := dk_42 (dk_at dksX5_who_1 20 rfl rfl)
theorem dX5_who_45 : decode cX5_who 45 = .ok (.iload_n 1, 1) := dk_27 (dk_at dksX5_who_1 21 rfl rfl)
theorem dX5_who_46 : decode cX5_who 46 = .ok (.invokevirtual 363, 3) := dk_182 1 107 (dk_at dksX5_who_2 0 rfl rfl)
theorem dX5_who_49 : decode cX5_who 49 = .ok (.ireturn, 1) := dk_172 (dk_at dksX5_who_2 3 rfl rfl)
theorem dX5_who_50 : decode cX5_who 50 = .ok (.iload_n 2, 1) := dk_28 (dk_at dksX5_who_2 4 rfl rfl)
theorem dX5_who_51 : decode cX5_who 51 = .ok (.iconst 2, 1) := dk_5 (dk_at dksX5_who_2 5 rfl rfl)
theorem dX5_who_52 : decode cX5_who 52 = .ok (.if_icmp .ne 5, 3) := dk_160 0 5 (dk_at dksX5_who_2 6 rfl rfl)
theorem dX5_who_55 : decode cX5_who 55 = .ok (.iload_n 3, 1) := dk_29 (dk_at dksX5_who_2 9 rfl rfl)
theorem dX5_who_56 : decode cX5_who 56 = .ok (.ireturn, 1) := dk_172 (dk_at dksX5_who_2 10 rfl rfl)
theorem dX5_who_57 : decode cX5_who 57 = .ok (.aload_n 0, 1) := dk_42 (dk_at dksX5_who_2 11 rfl rfl)
theorem dX5_who_58 : decode cX5_who 58 = .ok (.iload_n 2, 1) := dk_28 (dk_at dksX5_who_2 12 rfl rfl)
theorem dX5_who_59 : decode cX5_who 59 = .ok (.bipush 10, 2) := dk_16 10 (dk_at dksX5_who_2 13 rfl rfl)
theorem dX5_who_61 : decode cX5_who 61 = .ok (.bipush 9, 2) := dk_16 9 (dk_at dksX5_who_2 15 rfl rfl)
theorem dX5_who_63 : decode cX5_who 63 = .ok (.iload_n 3, 1) := dk_29 (dk_at dksX5_who_2 17 rfl rfl)
theorem dX5_who_64 : decode cX5_who 64 = .ok (.iadd, 1) := dk_96 (dk_at dksX5_who_2 18 rfl rfl)
theorem dX5_who_65 : decode cX5_who 65 = .ok (.invokevirtual 126, 3) := dk_182 0 126 (dk_at dksX5_who_2 19 rfl rfl)
theorem dX5_who_68 : decode cX5_who 68 = .ok (.ifCond .eq 18, 3) := dk_153 0 18 (dk_at dksX5_who_3 0 rfl rfl)
theorem dX5_who_71 : decode cX5_who 71 = .ok (.aload_n 0, 1) := dk_42 (dk_at dksX5_who_3 3 rfl rfl)
theorem dX5_who_72 : decode cX5_who 72 = .ok (.getfield 56, 3) := dk_180 0 56 (dk_at dksX5_who_3 4 rfl rfl)
theorem dX5_who_75 : decode cX5_who 75 = .ok (.bipush 9, 2) := dk_16 9 (dk_at dksX5_who_3 7 rfl rfl)
theorem dX5_who_77 : decode cX5_who 77 = .ok (.iload_n 1, 1) := dk_27 (dk_at dksX5_who_3 9 rfl rfl)
theorem dX5_who_78 : decode cX5_who 78 = .ok (.imul, 1) := dk_104 (dk_at dksX5_who_3 10 rfl rfl)
theorem dX5_who_79 : decode cX5_who 79 = .ok (.iload_n 2, 1) := dk_28 (dk_at dksX5_who_3 11 rfl rfl)
theorem dX5_who_80 : decode cX5_who 80 = .ok (.iadd, 1) := dk_96 (dk_at dksX5_who_3 12 rfl rfl)
theorem dX5_who_81 : decode cX5_who 81 = .ok (.bipush 9, 2) := dk_16 9 (dk_at dksX5_who_3 13 rfl rfl)
theorem dX5_who_83 : decode cX5_who 83 = .ok (.isub, 1) := dk_100 (dk_at dksX5_who_3 15 rfl rfl)
theorem dX5_who_84 : decode cX5_who 84 = .ok (.iaload, 1) := dk_46 (dk_at dksX5_who_3 16 rfl rfl)
theorem dX5_who_85 : decode cX5_who 85 = .ok (.ireturn, 1) := dk_172 (dk_at dksX5_who_3 17 rfl rfl)
theorem dX5_who_86 : decode cX5_who 86 = .ok (.aload_n 0, 1) := dk_42 (dk_at dksX5_who_3 18 rfl rfl)
theorem dX5_who_87 : decode cX5_who 87 = .ok (.iload_n 2, 1) := dk_28 (dk_at dksX5_who_3 19 rfl rfl)
theorem dX5_who_88 : decode cX5_who 88 = .ok (.bipush 20, 2) := dk_16 20 (dk_at dksX5_who_3 20 rfl rfl)
theorem dX5_who_90 : decode cX5_who 90 = .ok (.bipush 19, 2) := dk_16 19 (dk_at dksX5_who_3 22 rfl rfl)
theorem dX5_who_92 : decode cX5_who 92 = .ok (.aload_n 0, 1) := dk_42 (dk_at dksX5_who_4 0 rfl rfl)
theorem dX5_who_93 : decode cX5_who 93 = .ok (.getfield 116, 3) := dk_180 0 116 (dk_at dksX5_who_4 1 rfl rfl)
theorem dX5_who_96 : decode cX5_who 96 = .ok (.iadd, 1) := dk_96 (dk_at dksX5_who_4 4 rfl rfl)
theorem dX5_who_97 : decode cX5_who 97 = .ok (.invokevirtual 126, 3) := dk_182 0 126 (dk_at dksX5_who_4 5 rfl rfl)
theorem dX5_who_100 : decode cX5_who 100 = .ok (.ifCond .eq 15, 3) := dk_153 0 15 (dk_at dksX5_who_4 8 rfl rfl)
theorem dX5_who_103 : decode cX5_who 103 = .ok (.aload_n 0, 1) := dk_42 (dk_at dksX5_who_4 11 rfl rfl)
theorem dX5_who_104 : decode cX5_who 104 = .ok (.iload_n 1, 1) := dk_27 (dk_at dksX5_who_4 12 rfl rfl)
theorem dX5_who_105 : decode cX5_who 105 = .ok (.iload_n 2, 1) := dk_28 (dk_at dksX5_who_4 13 rfl rfl)
theorem dX5_who_106 : decode cX5_who 106 = .ok (.bipush 20, 2) := dk_16 20 (dk_at dksX5_who_4 14 rfl rfl)
theorem dX5_who_108 : decode cX5_who 108 = .ok (.isub, 1) := dk_100 (dk_at dksX5_who_4 16 rfl rfl)
theorem dX5_who_109 : decode cX5_who 109 = .ok (.invokevirtual 313, 3) := dk_182 1 57 (dk_at dksX5_who_4 17 rfl rfl)
theorem dX5_who_112 : decode cX5_who 112 = .ok (.goto 4, 3) := dk_167 0 4 (dk_at dksX5_who_4 20 rfl rfl)
theorem dX5_who_115 : decode cX5_who 115 = .ok (.iconst (-1), 1) := dk_2 (dk_at dksX5_who_4 23 rfl rfl)
theorem dX5_who_116 : decode cX5_who 116 = .ok (.ireturn, 1) := dk_172 (dk_at dksX5_who_5 0 rfl rfl)
abbrev cX5_at : ByteArray := prog_22_method_101_code
def yX5_at : MethodName := ⟨RX5, "at", "(I)I"⟩
def dkwX5_at_1 : List UInt8 := [167, 0, 8, 3, 167, 0, 4, 2, 172]
abbrev dktX5_at_1 : List UInt8 := dkwX5_at_1 ++ []
def dkwX5_at_0 : List UInt8 := [42, 3, 181, 0, 86, 42, 27, 182, 1, 70, 153, 0, 19, 42, 27, 182, 1, 79, 153, 0, 7, 4]
abbrev dktX5_at_0 : List UInt8 := dkwX5_at_0 ++ dktX5_at_1
theorem dksX5_at_0 : cX5_at.data.toList.drop 0 = dktX5_at_0 := by decide +kernel
theorem dksX5_at_1 : cX5_at.data.toList.drop 22 = dktX5_at_1 := dk_seg dksX5_at_0 22 rfl rfl
theorem dX5_at_0 : decode cX5_at 0 = .ok (.aload_n 0, 1) := dk_42 (dk_at dksX5_at_0 0 rfl rfl)
theorem dX5_at_1 : decode cX5_at 1 = .ok (.iconst 0, 1) := dk_3 (dk_at dksX5_at_0 1 rfl rfl)
theorem dX5_at_2 : decode cX5_at 2 = .ok (.putfield 86, 3) := dk_181 0 86 (dk_at dksX5_at_0 2 rfl rfl)
theorem dX5_at_5 : decode cX5_at 5 = .ok (.aload_n 0, 1) := dk_42 (dk_at dksX5_at_0 5 rfl rfl)
theorem dX5_at_6 : decode cX5_at 6 = .ok (.iload_n 1, 1) := dk_27 (dk_at dksX5_at_0 6 rfl rfl)
theorem dX5_at_7 : decode cX5_at 7 = .ok (.invokevirtual 326, 3) := dk_182 1 70 (dk_at dksX5_at_0 7 rfl rfl)
theorem dX5_at_10 : decode cX5_at 10 = .ok (.ifCond .eq 19, 3) := dk_153 0 19 (dk_at dksX5_at_0 10 rfl rfl)
theorem dX5_at_13 : decode cX5_at 13 = .ok (.aload_n 0, 1) := dk_42 (dk_at dksX5_at_0 13 rfl rfl)
theorem dX5_at_14 : decode cX5_at 14 = .ok (.iload_n 1, 1) := dk_27 (dk_at dksX5_at_0 14 rfl rfl)
theorem dX5_at_15 : decode cX5_at 15 = .ok (.invokevirtual 335, 3) := dk_182 1 79 (dk_at dksX5_at_0 15 rfl rfl)
theorem dX5_at_18 : decode cX5_at 18 = .ok (.ifCond .eq 7, 3) := dk_153 0 7 (dk_at dksX5_at_0 18 rfl rfl)
theorem dX5_at_21 : decode cX5_at 21 = .ok (.iconst 1, 1) := dk_4 (dk_at dksX5_at_0 21 rfl rfl)
theorem dX5_at_22 : decode cX5_at 22 = .ok (.goto 8, 3) := dk_167 0 8 (dk_at dksX5_at_1 0 rfl rfl)
theorem dX5_at_25 : decode cX5_at 25 = .ok (.iconst 0, 1) := dk_3 (dk_at dksX5_at_1 3 rfl rfl)
theorem dX5_at_26 : decode cX5_at 26 = .ok (.goto 4, 3) := dk_167 0 4 (dk_at dksX5_at_1 4 rfl rfl)
theorem dX5_at_29 : decode cX5_at 29 = .ok (.iconst (-1), 1) := dk_2 (dk_at dksX5_at_1 7 rfl rfl)
theorem dX5_at_30 : decode cX5_at 30 = .ok (.ireturn, 1) := dk_172 (dk_at dksX5_at_1 8 rfl rfl)
abbrev cX5_book : ByteArray := prog_22_method_102_code
def yX5_book : MethodName := ⟨RX5, "book", "(II)I"⟩
def dkwX5_book_1 : List UInt8 := [3, 6, 182, 0, 126, 153, 0, 16, 42, 180, 0, 19, 7, 27, 104, 28, 96, 46, 167, 0, 4, 2, 172]
abbrev dktX5_book_1 : List UInt8 := dkwX5_book_1 ++ []
def dkwX5_book_0 : List UInt8 := [42, 3, 181, 0, 86, 42, 27, 3, 42, 180, 0, 7, 5, 46, 4, 100, 182, 0, 126, 153, 0, 26, 42, 28]
abbrev dktX5_book_0 : List UInt8 := dkwX5_book_0 ++ dktX5_book_1
theorem dksX5_book_0 : cX5_book.data.toList.drop 0 = dktX5_book_0 := by decide +kernel
theorem dksX5_book_1 : cX5_book.data.toList.drop 24 = dktX5_book_1 := dk_seg dksX5_book_0 24 rfl rfl
theorem dX5_book_0 : decode cX5_book 0 = .ok (.aload_n 0, 1) := dk_42 (dk_at dksX5_book_0 0 rfl rfl)
theorem dX5_book_1 : decode cX5_book 1 = .ok (.iconst 0, 1) := dk_3 (dk_at dksX5_book_0 1 rfl rfl)
theorem dX5_book_2 : decode cX5_book 2 = .ok (.putfield 86, 3) := dk_181 0 86 (dk_at dksX5_book_0 2 rfl rfl)
theorem dX5_book_5 : decode cX5_book 5 = .ok (.aload_n 0, 1) := dk_42 (dk_at dksX5_book_0 5 rfl rfl)
theorem dX5_book_6 : decode cX5_book 6 = .ok (.iload_n 1, 1) := dk_27 (dk_at dksX5_book_0 6 rfl rfl)
theorem dX5_book_7 : decode cX5_book 7 = .ok (.iconst 0, 1) := dk_3 (dk_at dksX5_book_0 7 rfl rfl)
theorem dX5_book_8 : decode cX5_book 8 = .ok (.aload_n 0, 1) := dk_42 (dk_at dksX5_book_0 8 rfl rfl)
theorem dX5_book_9 : decode cX5_book 9 = .ok (.getfield 7, 3) := dk_180 0 7 (dk_at dksX5_book_0 9 rfl rfl)
theorem dX5_book_12 : decode cX5_book 12 = .ok (.iconst 2, 1) := dk_5 (dk_at dksX5_book_0 12 rfl rfl)
theorem dX5_book_13 : decode cX5_book 13 = .ok (.iaload, 1) := dk_46 (dk_at dksX5_book_0 13 rfl rfl)
theorem dX5_book_14 : decode cX5_book 14 = .ok (.iconst 1, 1) := dk_4 (dk_at dksX5_book_0 14 rfl rfl)
theorem dX5_book_15 : decode cX5_book 15 = .ok (.isub, 1) := dk_100 (dk_at dksX5_book_0 15 rfl rfl)
theorem dX5_book_16 : decode cX5_book 16 = .ok (.invokevirtual 126, 3) := dk_182 0 126 (dk_at dksX5_book_0 16 rfl rfl)
theorem dX5_book_19 : decode cX5_book 19 = .ok (.ifCond .eq 26, 3) := dk_153 0 26 (dk_at dksX5_book_0 19 rfl rfl)
theorem dX5_book_22 : decode cX5_book 22 = .ok (.aload_n 0, 1) := dk_42 (dk_at dksX5_book_0 22 rfl rfl)
theorem dX5_book_23 : decode cX5_book 23 = .ok (.iload_n 2, 1) := dk_28 (dk_at dksX5_book_0 23 rfl rfl)
theorem dX5_book_24 : decode cX5_book 24 = .ok (.iconst 0, 1) := dk_3 (dk_at dksX5_book_1 0 rfl rfl)
theorem dX5_book_25 : decode cX5_book 25 = .ok (.iconst 3, 1) := dk_6 (dk_at dksX5_book_1 1 rfl rfl)
theorem dX5_book_26 : decode cX5_book 26 = .ok (.invokevirtual 126, 3) := dk_182 0 126 (dk_at dksX5_book_1 2 rfl rfl)
theorem dX5_book_29 : decode cX5_book 29 = .ok (.ifCond .eq 16, 3) := dk_153 0 16 (dk_at dksX5_book_1 5 rfl rfl)
theorem dX5_book_32 : decode cX5_book 32 = .ok (.aload_n 0, 1) := dk_42 (dk_at dksX5_book_1 8 rfl rfl)
theorem dX5_book_33 : decode cX5_book 33 = .ok (.getfield 19, 3) := dk_180 0 19 (dk_at dksX5_book_1 9 rfl rfl)
theorem dX5_book_36 : decode cX5_book 36 = .ok (.iconst 4, 1) := dk_7 (dk_at dksX5_book_1 12 rfl rfl)
theorem dX5_book_37 : decode cX5_book 37 = .ok (.iload_n 1, 1) := dk_27 (dk_at dksX5_book_1 13 rfl rfl)
theorem dX5_book_38 : decode cX5_book 38 = .ok (.imul, 1) := dk_104 (dk_at dksX5_book_1 14 rfl rfl)
theorem dX5_book_39 : decode cX5_book 39 = .ok (.iload_n 2, 1) := dk_28 (dk_at dksX5_book_1 15 rfl rfl)
theorem dX5_book_40 : decode cX5_book 40 = .ok (.iadd, 1) := dk_96 (dk_at dksX5_book_1 16 rfl rfl)
theorem dX5_book_41 : decode cX5_book 41 = .ok (.iaload, 1) := dk_46 (dk_at dksX5_book_1 17 rfl rfl)
theorem dX5_book_42 : decode cX5_book 42 = .ok (.goto 4, 3) := dk_167 0 4 (dk_at dksX5_book_1 18 rfl rfl)
theorem dX5_book_45 : decode cX5_book 45 = .ok (.iconst (-1), 1) := dk_2 (dk_at dksX5_book_1 21 rfl rfl)
theorem dX5_book_46 : decode cX5_book 46 = .ok (.ireturn, 1) := dk_172 (dk_at dksX5_book_1 22 rfl rfl)
abbrev cX5_goes : ByteArray := prog_22_method_103_code
def yX5_goes : MethodName := ⟨RX5, "goes", "(III)I"⟩
def dkwX5_goes_4 : List UInt8 := [167, 0, 7, 42, 180, 0, 102, 54, 4, 42, 182, 1, 161, 21, 4, 172]
abbrev dktX5_goes_4 : List UInt8 := dkwX5_goes_4 ++ []
def dkwX5_goes_3 : List UInt8 := [160, 0, 14, 42, 180, 0, 7, 8, 28, 96, 46, 167, 0, 19, 29, 5, 160, 0, 10, 42, 180, 0, 99]
abbrev dktX5_goes_3 : List UInt8 := dkwX5_goes_3 ++ dktX5_goes_4
def dkwX5_goes_2 : List UInt8 := [27, 182, 1, 158, 29, 154, 0, 15, 42, 180, 0, 7, 16, 10, 28, 96, 46, 167, 0, 35, 29, 4]
abbrev dktX5_goes_2 : List UInt8 := dkwX5_goes_2 ++ dktX5_goes_3
def dkwX5_goes_1 : List UInt8 := [153, 0, 16, 29, 5, 162, 0, 14, 42, 28, 182, 0, 134, 154, 0, 6, 16, 254, 172, 42, 182, 1, 155, 42]
abbrev dktX5_goes_1 : List UInt8 := dkwX5_goes_1 ++ dktX5_goes_2
def dkwX5_goes_0 : List UInt8 := [42, 3, 181, 0, 86, 42, 27, 4, 16, 60, 182, 0, 126, 153, 0, 26, 42, 29, 3, 6, 182, 0, 126]
abbrev dktX5_goes_0 : List UInt8 := dkwX5_goes_0 ++ dktX5_goes_1
theorem dksX5_goes_0 : cX5_goes.data.toList.drop 0 = dktX5_goes_0 := by decide +kernel
theorem dksX5_goes_1 : cX5_goes.data.toList.drop 23 = dktX5_goes_1 := dk_seg dksX5_goes_0 23 rfl rfl
theorem dksX5_goes_2 : cX5_goes.data.toList.drop 47 = dktX5_goes_2 := dk_seg dksX5_goes_1 24 rfl rfl
theorem dksX5_goes_3 : cX5_goes.data.toList.drop 69 = dktX5_goes_3 := dk_seg dksX5_goes_2 22 rfl rfl
theorem dksX5_goes_4 : cX5_goes.data.toList.drop 92 = dktX5_goes_4 := dk_seg dksX5_goes_3 23 rfl rfl
theorem dX5_goes_0 : decode cX5_goes 0 = .ok (.aload_n 0, 1) := dk_42 (dk_at dksX5_goes_0 0 rfl rfl)
theorem dX5_goes_1 : decode cX5_goes 1 = .ok (.iconst 0, 1) := dk_3 (dk_at dksX5_goes_0 1 rfl rfl)
theorem dX5_goes_2 : decode cX5_goes 2 = .ok (.putfield 86, 3) := dk_181 0 86 (dk_at dksX5_goes_0 2 rfl rfl)
theorem dX5_goes_5 : decode cX5_goes 5 = .ok (.aload_n 0, 1) := dk_42 (dk_at dksX5_goes_0 5 rfl rfl)
theorem dX5_goes_6 : decode cX5_goes 6 = .ok (.iload_n 1, 1) := dk_27 (dk_at dksX5_goes_0 6 rfl rfl)
theorem dX5_goes_7 : decode cX5_goes 7 = .ok (.iconst 1, 1) := dk_4 (dk_at dksX5_goes_0 7 rfl rfl)
theorem dX5_goes_8 : decode cX5_goes 8 = .ok (.bipush 60, 2) := dk_16 60 (dk_at dksX5_goes_0 8 rfl rfl)
theorem dX5_goes_10 : decode cX5_goes 10 = .ok (.invokevirtual 126, 3) := dk_182 0 126 (dk_at dksX5_goes_0 10 rfl rfl)
theorem dX5_goes_13 : decode cX5_goes 13 = .ok (.ifCond .eq 26, 3) := dk_153 0 26 (dk_at dksX5_goes_0 13 rfl rfl)
theorem dX5_goes_16 : decode cX5_goes 16 = .ok (.aload_n 0, 1) := dk_42 (dk_at dksX5_goes_0 16 rfl rfl)
theorem dX5_goes_17 : decode cX5_goes 17 = .ok (.iload_n 3, 1) := dk_29 (dk_at dksX5_goes_0 17 rfl rfl)
theorem dX5_goes_18 : decode cX5_goes 18 = .ok (.iconst 0, 1) := dk_3 (dk_at dksX5_goes_0 18 rfl rfl)
theorem dX5_goes_19 : decode cX5_goes 19 = .ok (.iconst 3, 1) := dk_6 (dk_at dksX5_goes_0 19 rfl rfl)
theorem dX5_goes_20 : decode cX5_goes 20 = .ok (.invokevirtual 126, 3) := dk_182 0 126 (dk_at dksX5_goes_0 20 rfl rfl)
theorem dX5_goes_23 : decode cX5_goes 23 = .ok (.ifCond .eq 16, 3) := dk_153 0 16 (dk_at dksX5_goes_1 0 rfl rfl)
theorem dX5_goes_26 : decode cX5_goes 26 = .ok (.iload_n 3, 1) := dk_29 (dk_at dksX5_goes_1 3 rfl rfl)
theorem dX5_goes_27 : decode cX5_goes 27 = .ok (.iconst 2, 1) := dk_5 (dk_at dksX5_goes_1 4 rfl rfl)
theorem dX5_goes_28 : decode cX5_goes 28 = .ok (.if_icmp .ge 14, 3) := dk_162 0 14 (dk_at dksX5_goes_1 5 rfl rfl)
theorem dX5_goes_31 : decode cX5_goes 31 = .ok (.aload_n 0, 1) := dk_42 (dk_at dksX5_goes_1 8 rfl rfl)
theorem dX5_goes_32 : decode cX5_goes 32 = .ok (.iload_n 2, 1) := dk_28 (dk_at dksX5_goes_1 9 rfl rfl)
theorem dX5_goes_33 : decode cX5_goes 33 = .ok (.invokevirtual 134, 3) := dk_182 0 134 (dk_at dksX5_goes_1 10 rfl rfl)
theorem dX5_goes_36 : decode cX5_goes 36 = .ok (.ifCond .ne 6, 3) := dk_154 0 6 (dk_at dksX5_goes_1 13 rfl rfl)
theorem dX5_goes_39 : decode cX5_goes 39 = .ok (.bipush (-2), 2) := dk_16 254 (dk_at dksX5_goes_1 16 rfl rfl)
theorem dX5_goes_41 : decode cX5_goes 41 = .ok (.ireturn, 1) := dk_172 (dk_at dksX5_goes_1 18 rfl rfl)
theorem dX5_goes_42 : decode cX5_goes 42 = .ok (.aload_n 0, 1) := dk_42 (dk_at dksX5_goes_1 19 rfl rfl)
theorem dX5_goes_43 : decode cX5_goes 43 = .ok (.invokevirtual 411, 3) := dk_182 1 155 (dk_at dksX5_goes_1 20 rfl rfl)
theorem dX5_goes_46 : decode cX5_goes 46 = .ok (.aload_n 0, 1) := dk_42 (dk_at dksX5_goes_1 23 rfl rfl)
theorem dX5_goes_47 : decode cX5_goes 47 = .ok (.iload_n 1, 1) := dk_27 (dk_at dksX5_goes_2 0 rfl rfl)
theorem dX5_goes_48 : decode cX5_goes 48 = .ok (.invokevirtual 414, 3) := dk_182 1 158 (dk_at dksX5_goes_2 1 rfl rfl)
theorem dX5_goes_51 : decode cX5_goes 51 = .ok (.iload_n 3, 1) := dk_29 (dk_at dksX5_goes_2 4 rfl rfl)
theorem dX5_goes_52 : decode cX5_goes 52 = .ok (.ifCond .ne 15, 3) := dk_154 0 15 (dk_at dksX5_goes_2 5 rfl rfl)
theorem dX5_goes_55 : decode cX5_goes 55 = .ok (.aload_n 0, 1) := dk_42 (dk_at dksX5_goes_2 8 rfl rfl)
theorem dX5_goes_56 : decode cX5_goes 56 = .ok (.getfield 7, 3) := dk_180 0 7 (dk_at dksX5_goes_2 9 rfl rfl)
theorem dX5_goes_59 : decode cX5_goes 59 = .ok (.bipush 10, 2) := dk_16 10 (dk_at dksX5_goes_2 12 rfl rfl)
theorem dX5_goes_61 : decode cX5_goes 61 = .ok (.iload_n 2, 1) := dk_28 (dk_at dksX5_goes_2 14 rfl rfl)
theorem dX5_goes_62 : decode cX5_goes 62 = .ok (.iadd, 1) := dk_96 (dk_at dksX5_goes_2 15 rfl rfl)
theorem dX5_goes_63 : decode cX5_goes 63 = .ok (.iaload, 1) := dk_46 (dk_at dksX5_goes_2 16 rfl rfl)
theorem dX5_goes_64 : decode cX5_goes 64 = .ok (.goto 35, 3) := dk_167 0 35 (dk_at dksX5_goes_2 17 rfl rfl)
theorem dX5_goes_67 : decode cX5_goes 67 = .ok (.iload_n 3, 1) := dk_29 (dk_at dksX5_goes_2 20 rfl rfl)
theorem dX5_goes_68 : decode cX5_goes 68 = .ok (.iconst 1, 1) := dk_4 (dk_at dksX5_goes_2 21 rfl rfl)
theorem dX5_goes_69 : decode cX5_goes 69 = .ok (.if_icmp .ne 14, 3) := dk_160 0 14 (dk_at dksX5_goes_3 0 rfl rfl)
theorem dX5_goes_72 : decode cX5_goes 72 = .ok (.aload_n 0, 1) := dk_42 (dk_at dksX5_goes_3 3 rfl rfl)
theorem dX5_goes_73 : decode cX5_goes 73 = .ok (.getfield 7, 3) := dk_180 0 7 (dk_at dksX5_goes_3 4 rfl rfl)
theorem dX5_goes_76 : decode cX5_goes 76 = .ok (.iconst 5, 1) := dk_8 (dk_at dksX5_goes_3 7 rfl rfl)
theorem dX5_goes_77 : decode cX5_goes 77 = .ok (.iload_n 2, 1) := dk_28 (dk_at dksX5_goes_3 8 rfl rfl)
theorem dX5_goes_78 : decode cX5_goes 78 = .ok (.iadd, 1) := dk_96 (dk_at dksX5_goes_3 9 rfl rfl)
theorem dX5_goes_79 : decode cX5_goes 79 = .ok (.iaload, 1) := dk_46 (dk_at dksX5_goes_3 10 rfl rfl)
theorem dX5_goes_80 : decode cX5_goes 80 = .ok (.goto 19, 3) := dk_167 0 19 (dk_at dksX5_goes_3 11 rfl rfl)
theorem dX5_goes_83 : decode cX5_goes 83 = .ok (.iload_n 3, 1) := dk_29 (dk_at dksX5_goes_3 14 rfl rfl)
theorem dX5_goes_84 : decode cX5_goes 84 = .ok (.iconst 2, 1) := dk_5 (dk_at dksX5_goes_3 15 rfl rfl)
theorem dX5_goes_85 : decode cX5_goes 85 = .ok (.if_icmp .ne 10, 3) := dk_160 0 10 (dk_at dksX5_goes_3 16 rfl rfl)
theorem dX5_goes_88 : decode cX5_goes 88 = .ok (.aload_n 0, 1) := dk_42 (dk_at dksX5_goes_3 19 rfl rfl)
theorem dX5_goes_89 : decode cX5_goes 89 = .ok (.getfield 99, 3) := dk_180 0 99 (dk_at dksX5_goes_3 20 rfl rfl)
theorem dX5_goes_92 : decode cX5_goes 92 = .ok (.goto 7, 3) := dk_167 0 7 (dk_at dksX5_goes_4 0 rfl rfl)
theorem dX5_goes_95 : decode cX5_goes 95 = .ok (.aload_n 0, 1) := dk_42 (dk_at dksX5_goes_4 3 rfl rfl)
theorem dX5_goes_96 : decode cX5_goes 96 = .ok (.getfield 102, 3) := dk_180 0 102 (dk_at dksX5_goes_4 4 rfl rfl)
theorem dX5_goes_99 : decode cX5_goes 99 = .ok (.istore 4, 2) := dk_54 4 (dk_at dksX5_goes_4 7 rfl rfl)
theorem dX5_goes_101 : decode cX5_goes 101 = .ok (.aload_n 0, 1) := dk_42 (dk_at dksX5_goes_4 9 rfl rfl)
theorem dX5_goes_102 : decode cX5_goes 102 = .ok (.invokevirtual 417, 3) := dk_182 1 161 (dk_at dksX5_goes_4 10 rfl rfl)
theorem dX5_goes_105 : decode cX5_goes 105 = .ok (.iload 4, 2) := dk_21 4 (dk_at dksX5_goes_4 13 rfl rfl)
theorem dX5_goes_107 : decode cX5_goes 107 = .ok (.ireturn, 1) := dk_172 (dk_at dksX5_goes_4 15 rfl rfl)
abbrev cX5_thinks : ByteArray := prog_22_method_11_code
def yX5_thinks : MethodName := ⟨RX5, "thinks", "()V"⟩
def dkwX5_thinks_1 : List UInt8 := [167, 255, 234, 42, 4, 181, 0, 92, 42, 3, 181, 0, 96, 42, 2, 181, 0, 99, 42, 2, 181, 0, 102, 177]
abbrev dktX5_thinks_1 : List UInt8 := dkwX5_thinks_1 ++ []
def dkwX5_thinks_0 : List UInt8 := [3, 60, 27, 17, 0, 136, 162, 0, 21, 42, 180, 0, 16, 27, 42, 180, 0, 7, 27, 46, 79, 132, 1, 1]
abbrev dktX5_thinks_0 : List UInt8 := dkwX5_thinks_0 ++ dktX5_thinks_1
theorem dksX5_thinks_0 : cX5_thinks.data.toList.drop 0 = dktX5_thinks_0 := by decide +kernel
theorem dksX5_thinks_1 : cX5_thinks.data.toList.drop 24 = dktX5_thinks_1 := dk_seg dksX5_thinks_0 24 rfl rfl
theorem dX5_thinks_0 : decode cX5_thinks 0 = .ok (.iconst 0, 1) := dk_3 (dk_at dksX5_thinks_0 0 rfl rfl)
theorem dX5_thinks_1 : decode cX5_thinks 1 = .ok (.istore_n 1, 1) := dk_60 (dk_at dksX5_thinks_0 1 rfl rfl)
theorem dX5_thinks_2 : decode cX5_thinks 2 = .ok (.iload_n 1, 1) := dk_27 (dk_at dksX5_thinks_0 2 rfl rfl)
theorem dX5_thinks_3 : decode cX5_thinks 3 = .ok (.sipush 136, 3) := dk_17 0 136 (dk_at dksX5_thinks_0 3 rfl rfl)
theorem dX5_thinks_6 : decode cX5_thinks 6 = .ok (.if_icmp .ge 21, 3) := dk_162 0 21 (dk_at dksX5_thinks_0 6 rfl rfl)
theorem dX5_thinks_9 : decode cX5_thinks 9 = .ok (.aload_n 0, 1) := dk_42 (dk_at dksX5_thinks_0 9 rfl rfl)
theorem dX5_thinks_10 : decode cX5_thinks 10 = .ok (.getfield 16, 3) := dk_180 0 16 (dk_at dksX5_thinks_0 10 rfl rfl)
theorem dX5_thinks_13 : decode cX5_thinks 13 = .ok (.iload_n 1, 1) := dk_27 (dk_at dksX5_thinks_0 13 rfl rfl)
theorem dX5_thinks_14 : decode cX5_thinks 14 = .ok (.aload_n 0, 1) := dk_42 (dk_at dksX5_thinks_0 14 rfl rfl)
theorem dX5_thinks_15 : decode cX5_thinks 15 = .ok (.getfield 7, 3) := dk_180 0 7 (dk_at dksX5_thinks_0 15 rfl rfl)
theorem dX5_thinks_18 : decode cX5_thinks 18 = .ok (.iload_n 1, 1) := dk_27 (dk_at dksX5_thinks_0 18 rfl rfl)
theorem dX5_thinks_19 : decode cX5_thinks 19 = .ok (.iaload, 1) := dk_46 (dk_at dksX5_thinks_0 19 rfl rfl)
theorem dX5_thinks_20 : decode cX5_thinks 20 = .ok (.iastore, 1) := dk_79 (dk_at dksX5_thinks_0 20 rfl rfl)
theorem dX5_thinks_21 : decode cX5_thinks 21 = .ok (.iinc 1 1, 3) := dk_132 1 1 (dk_at dksX5_thinks_0 21 rfl rfl)
theorem dX5_thinks_24 : decode cX5_thinks 24 = .ok (.goto (-22), 3) := dk_167 255 234 (dk_at dksX5_thinks_1 0 rfl rfl)
theorem dX5_thinks_27 : decode cX5_thinks 27 = .ok (.aload_n 0, 1) := dk_42 (dk_at dksX5_thinks_1 3 rfl rfl)
theorem dX5_thinks_28 : decode cX5_thinks 28 = .ok (.iconst 1, 1) := dk_4 (dk_at dksX5_thinks_1 4 rfl rfl)
theorem dX5_thinks_29 : decode cX5_thinks 29 = .ok (.putfield 92, 3) := dk_181 0 92 (dk_at dksX5_thinks_1 5 rfl rfl)
theorem dX5_thinks_32 : decode cX5_thinks 32 = .ok (.aload_n 0, 1) := dk_42 (dk_at dksX5_thinks_1 8 rfl rfl)
theorem dX5_thinks_33 : decode cX5_thinks 33 = .ok (.iconst 0, 1) := dk_3 (dk_at dksX5_thinks_1 9 rfl rfl)
theorem dX5_thinks_34 : decode cX5_thinks 34 = .ok (.putfield 96, 3) := dk_181 0 96 (dk_at dksX5_thinks_1 10 rfl rfl)
theorem dX5_thinks_37 : decode cX5_thinks 37 = .ok (.aload_n 0, 1) := dk_42 (dk_at dksX5_thinks_1 13 rfl rfl)
theorem dX5_thinks_38 : decode cX5_thinks 38 = .ok (.iconst (-1), 1) := dk_2 (dk_at dksX5_thinks_1 14 rfl rfl)
theorem dX5_thinks_39 : decode cX5_thinks 39 = .ok (.putfield 99, 3) := dk_181 0 99 (dk_at dksX5_thinks_1 15 rfl rfl)
theorem dX5_thinks_42 : decode cX5_thinks 42 = .ok (.aload_n 0, 1) := dk_42 (dk_at dksX5_thinks_1 18 rfl rfl)
theorem dX5_thinks_43 : decode cX5_thinks 43 = .ok (.iconst (-1), 1) := dk_2 (dk_at dksX5_thinks_1 19 rfl rfl)
theorem dX5_thinks_44 : decode cX5_thinks 44 = .ok (.putfield 102, 3) := dk_181 0 102 (dk_at dksX5_thinks_1 20 rfl rfl)
theorem dX5_thinks_47 : decode cX5_thinks 47 = .ok (.return_, 1) := dk_177 (dk_at dksX5_thinks_1 23 rfl rfl)
