set_option maxRecDepth 100000
abbrev cX5_isWord : ByteArray := prog_22_method_39_code
def yX5_isWord : MethodName := ⟨RX5, "isWord", "(I)Z"⟩
def dkwX5_isWord_0 : List UInt8 := [42, 180, 0, 170, 5, 160, 0, 15, 42, 180, 0, 173, 27, 160, 0, 7, 4, 167, 0, 4, 3, 172]
abbrev dktX5_isWord_0 : List UInt8 := dkwX5_isWord_0 ++ []
theorem dksX5_isWord_0 : cX5_isWord.data.toList.drop 0 = dktX5_isWord_0 := by decide +kernel
theorem dX5_isWord_0 : decode cX5_isWord 0 = .ok (.aload_n 0, 1) := dk_42 (dk_at dksX5_isWord_0 0 rfl rfl)
theorem dX5_isWord_1 : decode cX5_isWord 1 = .ok (.getfield 170, 3) := dk_180 0 170 (dk_at dksX5_isWord_0 1 rfl rfl)
theorem dX5_isWord_4 : decode cX5_isWord 4 = .ok (.iconst 2, 1) := dk_5 (dk_at dksX5_isWord_0 4 rfl rfl)
theorem dX5_isWord_5 : decode cX5_isWord 5 = .ok (.if_icmp .ne 15, 3) := dk_160 0 15 (dk_at dksX5_isWord_0 5 rfl rfl)
theorem dX5_isWord_8 : decode cX5_isWord 8 = .ok (.aload_n 0, 1) := dk_42 (dk_at dksX5_isWord_0 8 rfl rfl)
theorem dX5_isWord_9 : decode cX5_isWord 9 = .ok (.getfield 173, 3) := dk_180 0 173 (dk_at dksX5_isWord_0 9 rfl rfl)
theorem dX5_isWord_12 : decode cX5_isWord 12 = .ok (.iload_n 1, 1) := dk_27 (dk_at dksX5_isWord_0 12 rfl rfl)
theorem dX5_isWord_13 : decode cX5_isWord 13 = .ok (.if_icmp .ne 7, 3) := dk_160 0 7 (dk_at dksX5_isWord_0 13 rfl rfl)
theorem dX5_isWord_16 : decode cX5_isWord 16 = .ok (.iconst 1, 1) := dk_4 (dk_at dksX5_isWord_0 16 rfl rfl)
theorem dX5_isWord_17 : decode cX5_isWord 17 = .ok (.goto 4, 3) := dk_167 0 4 (dk_at dksX5_isWord_0 17 rfl rfl)
theorem dX5_isWord_20 : decode cX5_isWord 20 = .ok (.iconst 0, 1) := dk_3 (dk_at dksX5_isWord_0 20 rfl rfl)
theorem dX5_isWord_21 : decode cX5_isWord 21 = .ok (.ireturn, 1) := dk_172 (dk_at dksX5_isWord_0 21 rfl rfl)
abbrev cX5_errs : ByteArray := prog_22_method_38_code
def yX5_errs : MethodName := ⟨RX5, "errs", "(I)I"⟩
def dkwX5_errs_0 : List UInt8 := [42, 27, 181, 0, 189, 42, 42, 180, 0, 167, 181, 0, 192, 2, 172]
abbrev dktX5_errs_0 : List UInt8 := dkwX5_errs_0 ++ []
theorem dksX5_errs_0 : cX5_errs.data.toList.drop 0 = dktX5_errs_0 := by decide +kernel
theorem dX5_errs_0 : decode cX5_errs 0 = .ok (.aload_n 0, 1) := dk_42 (dk_at dksX5_errs_0 0 rfl rfl)
theorem dX5_errs_1 : decode cX5_errs 1 = .ok (.iload_n 1, 1) := dk_27 (dk_at dksX5_errs_0 1 rfl rfl)
theorem dX5_errs_2 : decode cX5_errs 2 = .ok (.putfield 189, 3) := dk_181 0 189 (dk_at dksX5_errs_0 2 rfl rfl)
theorem dX5_errs_5 : decode cX5_errs 5 = .ok (.aload_n 0, 1) := dk_42 (dk_at dksX5_errs_0 5 rfl rfl)
theorem dX5_errs_6 : decode cX5_errs 6 = .ok (.aload_n 0, 1) := dk_42 (dk_at dksX5_errs_0 6 rfl rfl)
theorem dX5_errs_7 : decode cX5_errs 7 = .ok (.getfield 167, 3) := dk_180 0 167 (dk_at dksX5_errs_0 7 rfl rfl)
theorem dX5_errs_10 : decode cX5_errs 10 = .ok (.putfield 192, 3) := dk_181 0 192 (dk_at dksX5_errs_0 10 rfl rfl)
theorem dX5_errs_13 : decode cX5_errs 13 = .ok (.iconst (-1), 1) := dk_2 (dk_at dksX5_errs_0 13 rfl rfl)
theorem dX5_errs_14 : decode cX5_errs 14 = .ok (.ireturn, 1) := dk_172 (dk_at dksX5_errs_0 14 rfl rfl)
abbrev cX5_readPath : ByteArray := prog_22_method_56_code
def yX5_readPath : MethodName := ⟨RX5, "readPath", "()I"⟩
def dkwX5_readPath_6 : List UInt8 := [180, 0, 56, 28, 46, 96, 29, 79, 167, 255, 162, 42, 16, 59, 182, 1, 2, 172]
abbrev dktX5_readPath_6 : List UInt8 := dkwX5_readPath_6 ++ []
def dkwX5_readPath_5 : List UInt8 := [2, 172, 42, 180, 0, 56, 28, 42, 180, 0, 56, 28, 46, 4, 96, 79, 42, 180, 0, 56, 28, 42]
abbrev dktX5_readPath_5 : List UInt8 := dkwX5_readPath_5 ++ dktX5_readPath_6
def dkwX5_readPath_4 : List UInt8 := [16, 8, 160, 0, 9, 42, 6, 182, 0, 201, 172, 42, 3, 16, 9, 182, 0, 252, 62, 29, 2, 160, 0, 5]
abbrev dktX5_readPath_4 : List UInt8 := dkwX5_readPath_4 ++ dktX5_readPath_5
def dkwX5_readPath_3 : List UInt8 := [42, 180, 0, 170, 6, 160, 0, 29, 42, 180, 0, 173, 16, 10, 162, 0, 20, 42, 180, 0, 56, 28, 46]
abbrev dktX5_readPath_3 : List UInt8 := dkwX5_readPath_3 ++ dktX5_readPath_4
def dkwX5_readPath_2 : List UInt8 := [42, 180, 0, 56, 28, 3, 79, 42, 180, 0, 56, 28, 46, 153, 0, 11, 42, 180, 0, 170, 6, 160, 0, 83]
abbrev dktX5_readPath_2 : List UInt8 := dkwX5_readPath_2 ++ dktX5_readPath_3
def dkwX5_readPath_1 : List UInt8 := [182, 0, 230, 154, 0, 9, 42, 4, 182, 0, 201, 172, 42, 182, 0, 208, 16, 90, 16, 9, 27, 104, 96, 61]
abbrev dktX5_readPath_1 : List UInt8 := dkwX5_readPath_1 ++ dktX5_readPath_2
def dkwX5_readPath_0 : List UInt8 := [42, 16, 16, 3, 42, 180, 0, 119, 4, 100, 182, 0, 255, 60, 27, 2, 160, 0, 5, 2, 172, 42, 16, 17]
abbrev dktX5_readPath_0 : List UInt8 := dkwX5_readPath_0 ++ dktX5_readPath_1
theorem dksX5_readPath_0 : cX5_readPath.data.toList.drop 0 = dktX5_readPath_0 := by decide +kernel
theorem dksX5_readPath_1 : cX5_readPath.data.toList.drop 24 = dktX5_readPath_1 := dk_seg dksX5_readPath_0 24 rfl rfl
theorem dksX5_readPath_2 : cX5_readPath.data.toList.drop 48 = dktX5_readPath_2 := dk_seg dksX5_readPath_1 24 rfl rfl
theorem dksX5_readPath_3 : cX5_readPath.data.toList.drop 72 = dktX5_readPath_3 := dk_seg dksX5_readPath_2 24 rfl rfl
theorem dksX5_readPath_4 : cX5_readPath.data.toList.drop 95 = dktX5_readPath_4 := dk_seg dksX5_readPath_3 23 rfl rfl
theorem dksX5_readPath_5 : cX5_readPath.data.toList.drop 119 = dktX5_readPath_5 := dk_seg dksX5_readPath_4 24 rfl rfl
theorem dksX5_readPath_6 : cX5_readPath.data.toList.drop 141 = dktX5_readPath_6 := dk_seg dksX5_readPath_5 22 rfl rfl
theorem dX5_readPath_0 : decode cX5_readPath 0 = .ok (.aload_n 0, 1) := dk_42 (dk_at dksX5_readPath_0 0 rfl rfl)
theorem dX5_readPath_1 : decode cX5_readPath 1 = .ok (.bipush 16, 2) := dk_16 16 (dk_at dksX5_readPath_0 1 rfl rfl)
theorem dX5_readPath_3 : decode cX5_readPath 3 = .ok (.iconst 0, 1) := dk_3 (dk_at dksX5_readPath_0 3 rfl rfl)
theorem dX5_readPath_4 : decode cX5_readPath 4 = .ok (.aload_n 0, 1) := dk_42 (dk_at dksX5_readPath_0 4 rfl rfl)
theorem dX5_readPath_5 : decode cX5_readPath 5 = .ok (.getfield 119, 3) := dk_180 0 119 (dk_at dksX5_readPath_0 5 rfl rfl)
theorem dX5_readPath_8 : decode cX5_readPath 8 = .ok (.iconst 1, 1) := dk_4 (dk_at dksX5_readPath_0 8 rfl rfl)
theorem dX5_readPath_9 : decode cX5_readPath 9 = .ok (.isub, 1) := dk_100 (dk_at dksX5_readPath_0 9 rfl rfl)
theorem dX5_readPath_10 : decode cX5_readPath 10 = .ok (.invokevirtual 255, 3) := dk_182 0 255 (dk_at dksX5_readPath_0 10 rfl rfl)
theorem dX5_readPath_13 : decode cX5_readPath 13 = .ok (.istore_n 1, 1) := dk_60 (dk_at dksX5_readPath_0 13 rfl rfl)
theorem dX5_readPath_14 : decode cX5_readPath 14 = .ok (.iload_n 1, 1) := dk_27 (dk_at dksX5_readPath_0 14 rfl rfl)
theorem dX5_readPath_15 : decode cX5_readPath 15 = .ok (.iconst (-1), 1) := dk_2 (dk_at dksX5_readPath_0 15 rfl rfl)
theorem dX5_readPath_16 : decode cX5_readPath 16 = .ok (.if_icmp .ne 5, 3) := dk_160 0 5 (dk_at dksX5_readPath_0 16 rfl rfl)
theorem dX5_readPath_19 : decode cX5_readPath 19 = .ok (.iconst (-1), 1) := dk_2 (dk_at dksX5_readPath_0 19 rfl rfl)
theorem dX5_readPath_20 : decode cX5_readPath 20 = .ok (.ireturn, 1) := dk_172 (dk_at dksX5_readPath_0 20 rfl rfl)
theorem dX5_readPath_21 : decode cX5_readPath 21 = .ok (.aload_n 0, 1) := dk_42 (dk_at dksX5_readPath_0 21 rfl rfl)
theorem dX5_readPath_22 : decode cX5_readPath 22 = .ok (.bipush 17, 2) := dk_16 17 (dk_at dksX5_readPath_0 22 rfl rfl)
theorem dX5_readPath_24 : decode cX5_readPath 24 = .ok (.invokevirtual 230, 3) := dk_182 0 230 (dk_at dksX5_readPath_1 0 rfl rfl)
theorem dX5_readPath_27 : decode cX5_readPath 27 = .ok (.ifCond .ne 9, 3) := dk_154 0 9 (dk_at dksX5_readPath_1 3 rfl rfl)
theorem dX5_readPath_30 : decode cX5_readPath 30 = .ok (.aload_n 0, 1) := dk_42 (dk_at dksX5_readPath_1 6 rfl rfl)
theorem dX5_readPath_31 : decode cX5_readPath 31 = .ok (.iconst 1, 1) := dk_4 (dk_at dksX5_readPath_1 7 rfl rfl)
theorem dX5_readPath_32 : decode cX5_readPath 32 = .ok (.invokevirtual 201, 3) := dk_182 0 201 (dk_at dksX5_readPath_1 8 rfl rfl)
theorem dX5_readPath_35 : decode cX5_readPath 35 = .ok (.ireturn, 1) := dk_172 (dk_at dksX5_readPath_1 11 rfl rfl)
theorem dX5_readPath_36 : decode cX5_readPath 36 = .ok (.aload_n 0, 1) := dk_42 (dk_at dksX5_readPath_1 12 rfl rfl)
theorem dX5_readPath_37 : decode cX5_readPath 37 = .ok (.invokevirtual 208, 3) := dk_182 0 208 (dk_at dksX5_readPath_1 13 rfl rfl)
theorem dX5_readPath_40 : decode cX5_readPath 40 = .ok (.bipush 90, 2) := dk_16 90 (dk_at dksX5_readPath_1 16 rfl rfl)
theorem dX5_readPath_42 : decode cX5_readPath 42 = .ok (.bipush 9, 2) := dk_16 9 (dk_at dksX5_readPath_1 18 rfl rfl)
theorem dX5_readPath_44 : decode cX5_readPath 44 = .ok (.iload_n 1, 1) := dk_27 (dk_at dksX5_readPath_1 20 rfl rfl)
theorem dX5_readPath_45 : decode cX5_readPath 45 = .ok (.imul, 1) := dk_104 (dk_at dksX5_readPath_1 21 rfl rfl)
theorem dX5_readPath_46 : decode cX5_readPath 46 = .ok (.iadd, 1) := dk_96 (dk_at dksX5_readPath_1 22 rfl rfl)
theorem dX5_readPath_47 : decode cX5_readPath 47 = .ok (.istore_n 2, 1) := dk_61 (dk_at dksX5_readPath_1 23 rfl rfl)
theorem dX5_readPath_48 : decode cX5_readPath 48 = .ok (.aload_n 0, 1) := dk_42 (dk_at dksX5_readPath_2 0 rfl rfl)
theorem dX5_readPath_49 : decode cX5_readPath 49 = .ok (.getfield 56, 3) := dk_180 0 56 (dk_at dksX5_readPath_2 1 rfl rfl)
theorem dX5_readPath_52 : decode cX5_readPath 52 = .ok (.iload_n 2, 1) := dk_28 (dk_at dksX5_readPath_2 4 rfl rfl)
theorem dX5_readPath_53 : decode cX5_readPath 53 = .ok (.iconst 0, 1) := dk_3 (dk_at dksX5_readPath_2 5 rfl rfl)
theorem dX5_readPath_54 : decode cX5_readPath 54 = .ok (.iastore, 1) := dk_79 (dk_at dksX5_readPath_2 6 rfl rfl)
theorem dX5_readPath_55 : decode cX5_readPath 55 = .ok (.aload_n 0, 1) := dk_42 (dk_at dksX5_readPath_2 7 rfl rfl)
theorem dX5_readPath_56 : decode cX5_readPath 56 = .ok (.getfield 56, 3) := dk_180 0 56 (dk_at dksX5_readPath_2 8 rfl rfl)
theorem dX5_readPath_59 : decode cX5_readPath 59 = .ok (.iload_n 2, 1) := dk_28 (dk_at dksX5_readPath_2 11 rfl rfl)
theorem dX5_readPath_60 : decode cX5_readPath 60 = .ok (.iaload, 1) := dk_46 (dk_at dksX5_readPath_2 12 rfl rfl)
theorem dX5_readPath_61 : decode cX5_readPath 61 = .ok (.ifCond .eq 11, 3) := dk_153 0 11 (dk_at dksX5_readPath_2 13 rfl rfl)
theorem dX5_readPath_64 : decode cX5_readPath 64 = .ok (.aload_n 0, 1) := dk_42 (dk_at dksX5_readPath_2 16 rfl rfl)
theorem dX5_readPath_65 : decode cX5_readPath 65 = .ok (.getfield 170, 3) := dk_180 0 170 (dk_at dksX5_readPath_2 17 rfl rfl)
theorem dX5_readPath_68 : decode cX5_readPath 68 = .ok (.iconst 3, 1) := dk_6 (dk_at dksX5_readPath_2 20 rfl rfl)
theorem dX5_readPath_69 : decode cX5_readPath 69 = .ok (.if_icmp .ne 83, 3) := dk_160 0 83 (dk_at dksX5_readPath_2 21 rfl rfl)
theorem dX5_readPath_72 : decode cX5_readPath 72 = .ok (.aload_n 0, 1) := dk_42 (dk_at dksX5_readPath_3 0 rfl rfl)
theorem dX5_readPath_73 : decode cX5_readPath 73 = .ok (.getfield 170, 3) := dk_180 0 170 (dk_at dksX5_readPath_3 1 rfl rfl)
theorem dX5_readPath_76 : decode cX5_readPath 76 = .ok (.iconst 3, 1) := dk_6 (dk_at dksX5_readPath_3 4 rfl rfl)
theorem dX5_readPath_77 : decode cX5_readPath 77 = .ok (.if_icmp .ne 29, 3) := dk_160 0 29 (dk_at dksX5_readPath_3 5 rfl rfl)
theorem dX5_readPath_80 : decode cX5_readPath 80 = .ok (.aload_n 0, 1) := dk_42 (dk_at dksX5_readPath_3 8 rfl rfl)
theorem dX5_readPath_81 : decode cX5_readPath 81 = .ok (.getfield 173, 3) := dk_180 0 173 (dk_at dksX5_readPath_3 9 rfl rfl)
theorem dX5_readPath_84 : decode cX5_readPath 84 = .ok (.bipush 10, 2) := dk_16 10 (dk_at dksX5_readPath_3 12 rfl rfl)
theorem dX5_readPath_86 : decode cX5_readPath 86 = .ok (.if_icmp .ge 20, 3) := dk_162 0 20 (dk_at dksX5_readPath_3 14 rfl rfl)
theorem dX5_readPath_89 : decode cX5_readPath 89 = .ok (.aload_n 0, 1) := dk_42 (dk_at dksX5_readPath_3 17 rfl rfl)
theorem dX5_readPath_90 : decode cX5_readPath 90 = .ok (.getfield 56, 3) := dk_180 0 56 (dk_at dksX5_readPath_3 18 rfl rfl)
theorem dX5_readPath_93 : decode cX5_readPath 93 = .ok (.iload_n 2, 1) := dk_28 (dk_at dksX5_readPath_3 21 rfl rfl)
theorem dX5_readPath_94 : decode cX5_readPath 94 = .ok (.iaload, 1) := dk_46 (dk_at dksX5_readPath_3 22 rfl rfl)
theorem dX5_readPath_95 : decode cX5_readPath 95 = .ok (.bipush 8, 2) := dk_16 8 (dk_at dksX5_readPath_4 0 rfl rfl)
theorem dX5_readPath_97 : decode cX5_readPath 97 = .ok (.if_icmp .ne 9, 3) := dk_160 0 9 (dk_at dksX5_readPath_4 2 rfl rfl)
theorem dX5_readPath_100 : decode cX5_readPath 100 = .ok (.aload_n 0, 1) := dk_42 (dk_at dksX5_readPath_4 5 rfl rfl)
theorem dX5_readPath_101 : decode cX5_readPath 101 = .ok (.iconst 3, 1) := dk_6 (dk_at dksX5_readPath_4 6 rfl rfl)
theorem dX5_readPath_102 : decode cX5_readPath 102 = .ok (.invokevirtual 201, 3) := dk_182 0 201 (dk_at dksX5_readPath_4 7 rfl rfl)
theorem dX5_readPath_105 : decode cX5_readPath 105 = .ok (.ireturn, 1) := dk_172 (dk_at dksX5_readPath_4 10 rfl rfl)
theorem dX5_readPath_106 : decode cX5_readPath 106 = .ok (.aload_n 0, 1) := dk_42 (dk_at dksX5_readPath_4 11 rfl rfl)
theorem dX5_readPath_107 : decode cX5_readPath 107 = .ok (.iconst 0, 1) := dk_3 (dk_at dksX5_readPath_4 12 rfl rfl)
theorem dX5_readPath_108 : decode cX5_readPath 108 = .ok (.bipush 9, 2) := dk_16 9 (dk_at dksX5_readPath_4 13 rfl rfl)
theorem dX5_readPath_110 : decode cX5_readPath 110 = .ok (.invokevirtual 252, 3) := dk_182 0 252 (dk_at dksX5_readPath_4 15 rfl rfl)
theorem dX5_readPath_113 : decode cX5_readPath 113 = .ok (.istore_n 3, 1) := dk_62 (dk_at dksX5_readPath_4 18 rfl rfl)
theorem dX5_readPath_114 : decode cX5_readPath 114 = .ok (.iload_n 3, 1) := dk_29 (dk_at dksX5_readPath_4 19 rfl rfl)
theorem dX5_readPath_115 : decode cX5_readPath 115 = .ok (.iconst (-1), 1) := dk_2 (dk_at dksX5_readPath_4 20 rfl rfl)
theorem dX5_readPath_116 : decode cX5_readPath 116 = .ok (.if_icmp .ne 5, 3) := dk_160 0 5 (dk_at dksX5_readPath_4 21 rfl rfl)
theorem dX5_readPath_119 : decode cX5_readPath 119 = .ok (.iconst (-1), 1) := dk_2 (dk_at dksX5_readPath_5 0 rfl rfl)
theorem dX5_readPath_120 : decode cX5_readPath 120 = .ok (.ireturn, 1) := dk_172 (dk_at dksX5_readPath_5 1 rfl rfl)
theorem dX5_readPath_121 : decode cX5_readPath 121 = .ok (.aload_n 0, 1) := dk_42 (dk_at dksX5_readPath_5 2 rfl rfl)
theorem dX5_readPath_122 : decode cX5_readPath 122 = .ok (.getfield 56, 3) := dk_180 0 56 (dk_at dksX5_readPath_5 3 rfl rfl)
theorem dX5_readPath_125 : decode cX5_readPath 125 = .ok (.iload_n 2, 1) := dk_28 (dk_at dksX5_readPath_5 6 rfl rfl)
theorem dX5_readPath_126 : decode cX5_readPath 126 = .ok (.aload_n 0, 1) := dk_42 (dk_at dksX5_readPath_5 7 rfl rfl)
theorem dX5_readPath_127 : decode cX5_readPath 127 = .ok (.getfield 56, 3) := dk_180 0 56 (dk_at dksX5_readPath_5 8 rfl rfl)
theorem dX5_readPath_130 : decode cX5_readPath 130 = .ok (.iload_n 2, 1) := dk_28 (dk_at dksX5_readPath_5 11 rfl rfl)
theorem dX5_readPath_131 : decode cX5_readPath 131 = .ok (.iaload, 1) := dk_46 (dk_at dksX5_readPath_5 12 rfl rfl)
theorem dX5_readPath_132 : decode cX5_readPath 132 = .ok (.iconst 1, 1) := dk_4 (dk_at dksX5_readPath_5 13 rfl rfl)
theorem dX5_readPath_133 : decode cX5_readPath 133 = .ok (.iadd, 1) := dk_96 (dk_at dksX5_readPath_5 14 rfl rfl)
theorem dX5_readPath_134 : decode cX5_readPath 134 = .ok (.iastore, 1) := dk_79 (dk_at dksX5_readPath_5 15 rfl rfl)
theorem dX5_readPath_135 : decode cX5_readPath 135 = .ok (.aload_n 0, 1) := dk_42 (dk_at dksX5_readPath_5 16 rfl rfl)
theorem dX5_readPath_136 : decode cX5_readPath 136 = .ok (.getfield 56, 3) := dk_180 0 56 (dk_at dksX5_readPath_5 17 rfl rfl)
theorem dX5_readPath_139 : decode cX5_readPath 139 = .ok (.iload_n 2, 1) := dk_28 (dk_at dksX5_readPath_5 20 rfl rfl)
theorem dX5_readPath_140 : decode cX5_readPath 140 = .ok (.aload_n 0, 1) := dk_42 (dk_at dksX5_readPath_5 21 rfl rfl)
theorem dX5_readPath_141 : decode cX5_readPath 141 = .ok (.getfield 56, 3) := dk_180 0 56 (dk_at dksX5_readPath_6 0 rfl rfl)
theorem dX5_readPath_144 : decode cX5_readPath 144 = .ok (.iload_n 2, 1) := dk_28 (dk_at dksX5_readPath_6 3 rfl rfl)
theorem dX5_readPath_145 : decode cX5_readPath 145 = .ok (.iaload, 1) := dk_46 (dk_at dksX5_readPath_6 4 rfl rfl)
theorem dX5_readPath_146 : decode cX5_readPath 146 = .ok (.iadd, 1) := dk_96 (dk_at dksX5_readPath_6 5 rfl rfl)
theorem dX5_readPath_147 : decode cX5_readPath 147 = .ok (.iload_n 3, 1) := dk_29 (dk_at dksX5_readPath_6 6 rfl rfl)
theorem dX5_readPath_148 : decode cX5_readPath 148 = .ok (.iastore, 1) := dk_79 (dk_at dksX5_readPath_6 7 rfl rfl)
theorem dX5_readPath_149 : decode cX5_readPath 149 = .ok (.goto (-94), 3) := dk_167 255 162 (dk_at dksX5_readPath_6 8 rfl rfl)
theorem dX5_readPath_152 : decode cX5_readPath 152 = .ok (.aload_n 0, 1) := dk_42 (dk_at dksX5_readPath_6 11 rfl rfl)
theorem dX5_readPath_153 : decode cX5_readPath 153 = .ok (.bipush 59, 2) := dk_16 59 (dk_at dksX5_readPath_6 12 rfl rfl)
theorem dX5_readPath_155 : decode cX5_readPath 155 = .ok (.invokevirtual 258, 3) := dk_182 1 2 (dk_at dksX5_readPath_6 14 rfl rfl)
theorem dX5_readPath_158 : decode cX5_readPath 158 = .ok (.ireturn, 1) := dk_172 (dk_at dksX5_readPath_6 17 rfl rfl)
abbrev cX5_readTold : ByteArray := prog_22_method_55_code
def yX5_readTold : MethodName := ⟨RX5, "readTold", "(III)I"⟩
def dkwX5_readTold_1 : List UInt8 := [172]
abbrev dktX5_readTold_1 : List UInt8 := dkwX5_readTold_1 ++ []
def dkwX5_readTold_0 : List UInt8 := [42, 27, 182, 0, 230, 154, 0, 9, 42, 4, 182, 0, 201, 172, 42, 182, 0, 208, 42, 28, 29, 182, 0, 252]
abbrev dktX5_readTold_0 : List UInt8 := dkwX5_readTold_0 ++ dktX5_readTold_1
theorem dksX5_readTold_0 : cX5_readTold.data.toList.drop 0 = dktX5_readTold_0 := by decide +kernel
theorem dksX5_readTold_1 : cX5_readTold.data.toList.drop 24 = dktX5_readTold_1 := dk_seg dksX5_readTold_0 24 rfl rfl
theorem dX5_readTold_0 : decode cX5_readTold 0 = .ok (.aload_n 0, 1) := dk_42 (dk_at dksX5_readTold_0 0 rfl rfl)
theorem dX5_readTold_1 : decode cX5_readTold 1 = .ok (.iload_n 1, 1) := dk_27 (dk_at dksX5_readTold_0 1 rfl rfl)
theorem dX5_readTold_2 : decode cX5_readTold 2 = .ok (.invokevirtual 230, 3) := dk_182 0 230 (dk_at dksX5_readTold_0 2 rfl rfl)
theorem dX5_readTold_5 : decode cX5_readTold 5 = .ok (.ifCond .ne 9, 3) := dk_154 0 9 (dk_at dksX5_readTold_0 5 rfl rfl)
theorem dX5_readTold_8 : decode cX5_readTold 8 = .ok (.aload_n 0, 1) := dk_42 (dk_at dksX5_readTold_0 8 rfl rfl)
theorem dX5_readTold_9 : decode cX5_readTold 9 = .ok (.iconst 1, 1) := dk_4 (dk_at dksX5_readTold_0 9 rfl rfl)
theorem dX5_readTold_10 : decode cX5_readTold 10 = .ok (.invokevirtual 201, 3) := dk_182 0 201 (dk_at dksX5_readTold_0 10 rfl rfl)
theorem dX5_readTold_13 : decode cX5_readTold 13 = .ok (.ireturn, 1) := dk_172 (dk_at dksX5_readTold_0 13 rfl rfl)
theorem dX5_readTold_14 : decode cX5_readTold 14 = .ok (.aload_n 0, 1) := dk_42 (dk_at dksX5_readTold_0 14 rfl rfl)
theorem dX5_readTold_15 : decode cX5_readTold 15 = .ok (.invokevirtual 208, 3) := dk_182 0 208 (dk_at dksX5_readTold_0 15 rfl rfl)
theorem dX5_readTold_18 : decode cX5_readTold 18 = .ok (.aload_n 0, 1) := dk_42 (dk_at dksX5_readTold_0 18 rfl rfl)
theorem dX5_readTold_19 : decode cX5_readTold 19 = .ok (.iload_n 2, 1) := dk_28 (dk_at dksX5_readTold_0 19 rfl rfl)
theorem dX5_readTold_20 : decode cX5_readTold 20 = .ok (.iload_n 3, 1) := dk_29 (dk_at dksX5_readTold_0 20 rfl rfl)
theorem dX5_readTold_21 : decode cX5_readTold 21 = .ok (.invokevirtual 252, 3) := dk_182 0 252 (dk_at dksX5_readTold_0 21 rfl rfl)
theorem dX5_readTold_24 : decode cX5_readTold 24 = .ok (.ireturn, 1) := dk_172 (dk_at dksX5_readTold_1 0 rfl rfl)
abbrev cX5_readNumber : ByteArray := prog_22_method_53_code
def yX5_readNumber : MethodName := ⟨RX5, "readNumber", "(II)I"⟩
def dkwX5_readNumber_1 : List UInt8 := [154, 0, 9, 42, 5, 182, 0, 201, 172, 42, 180, 0, 173, 62, 42, 182, 0, 208, 29, 172]
abbrev dktX5_readNumber_1 : List UInt8 := dkwX5_readNumber_1 ++ []
def dkwX5_readNumber_0 : List UInt8 := [42, 180, 0, 170, 6, 159, 0, 9, 42, 4, 182, 0, 201, 172, 42, 42, 180, 0, 173, 27, 28, 182, 0, 126]
abbrev dktX5_readNumber_0 : List UInt8 := dkwX5_readNumber_0 ++ dktX5_readNumber_1
theorem dksX5_readNumber_0 : cX5_readNumber.data.toList.drop 0 = dktX5_readNumber_0 := by decide +kernel
theorem dksX5_readNumber_1 : cX5_readNumber.data.toList.drop 24 = dktX5_readNumber_1 := dk_seg dksX5_readNumber_0 24 rfl rfl
theorem dX5_readNumber_0 : decode cX5_readNumber 0 = .ok (.aload_n 0, 1) := dk_42 (dk_at dksX5_readNumber_0 0 rfl rfl)
theorem dX5_readNumber_1 : decode cX5_readNumber 1 = .ok (.getfield 170, 3) := dk_180 0 170 (dk_at dksX5_readNumber_0 1 rfl rfl)
theorem dX5_readNumber_4 : decode cX5_readNumber 4 = .ok (.iconst 3, 1) := dk_6 (dk_at dksX5_readNumber_0 4 rfl rfl)
theorem dX5_readNumber_5 : decode cX5_readNumber 5 = .ok (.if_icmp .eq 9, 3) := dk_159 0 9 (dk_at dksX5_readNumber_0 5 rfl rfl)
theorem dX5_readNumber_8 : decode cX5_readNumber 8 = .ok (.aload_n 0, 1) := dk_42 (dk_at dksX5_readNumber_0 8 rfl rfl)
theorem dX5_readNumber_9 : decode cX5_readNumber 9 = .ok (.iconst 1, 1) := dk_4 (dk_at dksX5_readNumber_0 9 rfl rfl)
theorem dX5_readNumber_10 : decode cX5_readNumber 10 = .ok (.invokevirtual 201, 3) := dk_182 0 201 (dk_at dksX5_readNumber_0 10 rfl rfl)
theorem dX5_readNumber_13 : decode cX5_readNumber 13 = .ok (.ireturn, 1) := dk_172 (dk_at dksX5_readNumber_0 13 rfl rfl)
theorem dX5_readNumber_14 : decode cX5_readNumber 14 = .ok (.aload_n 0, 1) := dk_42 (dk_at dksX5_readNumber_0 14 rfl rfl)
theorem dX5_readNumber_15 : decode cX5_readNumber 15 = .ok (.aload_n 0, 1) := dk_42 (dk_at dksX5_readNumber_0 15 rfl rfl)
theorem dX5_readNumber_16 : decode cX5_readNumber 16 = .ok (.getfield 173, 3) := dk_180 0 173 (dk_at dksX5_readNumber_0 16 rfl rfl)
theorem dX5_readNumber_19 : decode cX5_readNumber 19 = .ok (.iload_n 1, 1) := dk_27 (dk_at dksX5_readNumber_0 19 rfl rfl)
theorem dX5_readNumber_20 : decode cX5_readNumber 20 = .ok (.iload_n 2, 1) := dk_28 (dk_at dksX5_readNumber_0 20 rfl rfl)
theorem dX5_readNumber_21 : decode cX5_readNumber 21 = .ok (.invokevirtual 126, 3) := dk_182 0 126 (dk_at dksX5_readNumber_0 21 rfl rfl)
theorem dX5_readNumber_24 : decode cX5_readNumber 24 = .ok (.ifCond .ne 9, 3) := dk_154 0 9 (dk_at dksX5_readNumber_1 0 rfl rfl)
theorem dX5_readNumber_27 : decode cX5_readNumber 27 = .ok (.aload_n 0, 1) := dk_42 (dk_at dksX5_readNumber_1 3 rfl rfl)
theorem dX5_readNumber_28 : decode cX5_readNumber 28 = .ok (.iconst 2, 1) := dk_5 (dk_at dksX5_readNumber_1 4 rfl rfl)
theorem dX5_readNumber_29 : decode cX5_readNumber 29 = .ok (.invokevirtual 201, 3) := dk_182 0 201 (dk_at dksX5_readNumber_1 5 rfl rfl)
theorem dX5_readNumber_32 : decode cX5_readNumber 32 = .ok (.ireturn, 1) := dk_172 (dk_at dksX5_readNumber_1 8 rfl rfl)
theorem dX5_readNumber_33 : decode cX5_readNumber 33 = .ok (.aload_n 0, 1) := dk_42 (dk_at dksX5_readNumber_1 9 rfl rfl)
theorem dX5_readNumber_34 : decode cX5_readNumber 34 = .ok (.getfield 173, 3) := dk_180 0 173 (dk_at dksX5_readNumber_1 10 rfl rfl)
theorem dX5_readNumber_37 : decode cX5_readNumber 37 = .ok (.istore_n 3, 1) := dk_62 (dk_at dksX5_readNumber_1 13 rfl rfl)
theorem dX5_readNumber_38 : decode cX5_readNumber 38 = .ok (.aload_n 0, 1) := dk_42 (dk_at dksX5_readNumber_1 14 rfl rfl)
theorem dX5_readNumber_39 : decode cX5_readNumber 39 = .ok (.invokevirtual 208, 3) := dk_182 0 208 (dk_at dksX5_readNumber_1 15 rfl rfl)
theorem dX5_readNumber_42 : decode cX5_readNumber 42 = .ok (.iload_n 3, 1) := dk_29 (dk_at dksX5_readNumber_1 18 rfl rfl)
theorem dX5_readNumber_43 : decode cX5_readNumber 43 = .ok (.ireturn, 1) := dk_172 (dk_at dksX5_readNumber_1 19 rfl rfl)
abbrev cX5_readMark : ByteArray := prog_22_method_54_code
def yX5_readMark : MethodName := ⟨RX5, "readMark", "(I)I"⟩
def dkwX5_readMark_0 : List UInt8 := [42, 27, 182, 0, 215, 154, 0, 9, 42, 4, 182, 0, 201, 172, 42, 182, 0, 208, 3, 172]
abbrev dktX5_readMark_0 : List UInt8 := dkwX5_readMark_0 ++ []
theorem dksX5_readMark_0 : cX5_readMark.data.toList.drop 0 = dktX5_readMark_0 := by decide +kernel
theorem dX5_readMark_0 : decode cX5_readMark 0 = .ok (.aload_n 0, 1) := dk_42 (dk_at dksX5_readMark_0 0 rfl rfl)
theorem dX5_readMark_1 : decode cX5_readMark 1 = .ok (.iload_n 1, 1) := dk_27 (dk_at dksX5_readMark_0 1 rfl rfl)
theorem dX5_readMark_2 : decode cX5_readMark 2 = .ok (.invokevirtual 215, 3) := dk_182 0 215 (dk_at dksX5_readMark_0 2 rfl rfl)
theorem dX5_readMark_5 : decode cX5_readMark 5 = .ok (.ifCond .ne 9, 3) := dk_154 0 9 (dk_at dksX5_readMark_0 5 rfl rfl)
theorem dX5_readMark_8 : decode cX5_readMark 8 = .ok (.aload_n 0, 1) := dk_42 (dk_at dksX5_readMark_0 8 rfl rfl)
theorem dX5_readMark_9 : decode cX5_readMark 9 = .ok (.iconst 1, 1) := dk_4 (dk_at dksX5_readMark_0 9 rfl rfl)
theorem dX5_readMark_10 : decode cX5_readMark 10 = .ok (.invokevirtual 201, 3) := dk_182 0 201 (dk_at dksX5_readMark_0 10 rfl rfl)
theorem dX5_readMark_13 : decode cX5_readMark 13 = .ok (.ireturn, 1) := dk_172 (dk_at dksX5_readMark_0 13 rfl rfl)
theorem dX5_readMark_14 : decode cX5_readMark 14 = .ok (.aload_n 0, 1) := dk_42 (dk_at dksX5_readMark_0 14 rfl rfl)
theorem dX5_readMark_15 : decode cX5_readMark 15 = .ok (.invokevirtual 208, 3) := dk_182 0 208 (dk_at dksX5_readMark_0 15 rfl rfl)
theorem dX5_readMark_18 : decode cX5_readMark 18 = .ok (.iconst 0, 1) := dk_3 (dk_at dksX5_readMark_0 18 rfl rfl)
theorem dX5_readMark_19 : decode cX5_readMark 19 = .ok (.ireturn, 1) := dk_172 (dk_at dksX5_readMark_0 19 rfl rfl)
abbrev cX5_isSign : ByteArray := prog_22_method_40_code
def yX5_isSign : MethodName := ⟨RX5, "isSign", "(I)Z"⟩
def dkwX5_isSign_0 : List UInt8 := [42, 180, 0, 170, 7, 160, 0, 15, 42, 180, 0, 173, 27, 160, 0, 7, 4, 167, 0, 4, 3, 172]
abbrev dktX5_isSign_0 : List UInt8 := dkwX5_isSign_0 ++ []
theorem dksX5_isSign_0 : cX5_isSign.data.toList.drop 0 = dktX5_isSign_0 := by decide +kernel
theorem dX5_isSign_0 : decode cX5_isSign 0 = .ok (.aload_n 0, 1) := dk_42 (dk_at dksX5_isSign_0 0 rfl rfl)
theorem dX5_isSign_1 : decode cX5_isSign 1 = .ok (.getfield 170, 3) := dk_180 0 170 (dk_at dksX5_isSign_0 1 rfl rfl)
theorem dX5_isSign_4 : decode cX5_isSign 4 = .ok (.iconst 4, 1) := dk_7 (dk_at dksX5_isSign_0 4 rfl rfl)
theorem dX5_isSign_5 : decode cX5_isSign 5 = .ok (.if_icmp .ne 15, 3) := dk_160 0 15 (dk_at dksX5_isSign_0 5 rfl rfl)
theorem dX5_isSign_8 : decode cX5_isSign 8 = .ok (.aload_n 0, 1) := dk_42 (dk_at dksX5_isSign_0 8 rfl rfl)
theorem dX5_isSign_9 : decode cX5_isSign 9 = .ok (.getfield 173, 3) := dk_180 0 173 (dk_at dksX5_isSign_0 9 rfl rfl)
theorem dX5_isSign_12 : decode cX5_isSign 12 = .ok (.iload_n 1, 1) := dk_27 (dk_at dksX5_isSign_0 12 rfl rfl)
theorem dX5_isSign_13 : decode cX5_isSign 13 = .ok (.if_icmp .ne 7, 3) := dk_160 0 7 (dk_at dksX5_isSign_0 13 rfl rfl)
theorem dX5_isSign_16 : decode cX5_isSign 16 = .ok (.iconst 1, 1) := dk_4 (dk_at dksX5_isSign_0 16 rfl rfl)
theorem dX5_isSign_17 : decode cX5_isSign 17 = .ok (.goto 4, 3) := dk_167 0 4 (dk_at dksX5_isSign_0 17 rfl rfl)
theorem dX5_isSign_20 : decode cX5_isSign 20 = .ok (.iconst 0, 1) := dk_3 (dk_at dksX5_isSign_0 20 rfl rfl)
theorem dX5_isSign_21 : decode cX5_isSign 21 = .ok (.ireturn, 1) := dk_172 (dk_at dksX5_isSign_0 21 rfl rfl)
abbrev cX5_readPlan : ByteArray := prog_22_method_60_code
def yX5_readPlan : MethodName := ⟨RX5, "readPlan", "()I"⟩
def dkwX5_readPlan_2 : List UInt8 := [180, 0, 170, 154, 0, 7, 27, 167, 0, 8, 42, 4, 182, 0, 201, 172]
abbrev dktX5_readPlan_2 : List UInt8 := dkwX5_readPlan_2 ++ []
def dkwX5_readPlan_1 : List UInt8 := [16, 64, 7, 27, 104, 96, 182, 1, 11, 2, 160, 0, 5, 2, 172, 27, 4, 96, 60, 167, 255, 215, 42]
abbrev dktX5_readPlan_1 : List UInt8 := dkwX5_readPlan_1 ++ dktX5_readPlan_2
def dkwX5_readPlan_0 : List UInt8 := [3, 60, 42, 16, 18, 182, 0, 230, 153, 0, 38, 27, 16, 16, 160, 0, 9, 42, 6, 182, 0, 201, 172, 42]
abbrev dktX5_readPlan_0 : List UInt8 := dkwX5_readPlan_0 ++ dktX5_readPlan_1
theorem dksX5_readPlan_0 : cX5_readPlan.data.toList.drop 0 = dktX5_readPlan_0 := by decide +kernel
theorem dksX5_readPlan_1 : cX5_readPlan.data.toList.drop 24 = dktX5_readPlan_1 := dk_seg dksX5_readPlan_0 24 rfl rfl
theorem dksX5_readPlan_2 : cX5_readPlan.data.toList.drop 47 = dktX5_readPlan_2 := dk_seg dksX5_readPlan_1 23 rfl rfl
theorem dX5_readPlan_0 : decode cX5_readPlan 0 = .ok (.iconst 0, 1) := dk_3 (dk_at dksX5_readPlan_0 0 rfl rfl)
theorem dX5_readPlan_1 : decode cX5_readPlan 1 = .ok (.istore_n 1, 1) := dk_60 (dk_at dksX5_readPlan_0 1 rfl rfl)
theorem dX5_readPlan_2 : decode cX5_readPlan 2 = .ok (.aload_n 0, 1) := dk_42 (dk_at dksX5_readPlan_0 2 rfl rfl)
theorem dX5_readPlan_3 : decode cX5_readPlan 3 = .ok (.bipush 18, 2) := dk_16 18 (dk_at dksX5_readPlan_0 3 rfl rfl)
theorem dX5_readPlan_5 : decode cX5_readPlan 5 = .ok (.invokevirtual 230, 3) := dk_182 0 230 (dk_at dksX5_readPlan_0 5 rfl rfl)
theorem dX5_readPlan_8 : decode cX5_readPlan 8 = .ok (.ifCond .eq 38, 3) := dk_153 0 38 (dk_at dksX5_readPlan_0 8 rfl rfl)
theorem dX5_readPlan_11 : decode cX5_readPlan 11 = .ok (.iload_n 1, 1) := dk_27 (dk_at dksX5_readPlan_0 11 rfl rfl)
theorem dX5_readPlan_12 : decode cX5_readPlan 12 = .ok (.bipush 16, 2) := dk_16 16 (dk_at dksX5_readPlan_0 12 rfl rfl)
theorem dX5_readPlan_14 : decode cX5_readPlan 14 = .ok (.if_icmp .ne 9, 3) := dk_160 0 9 (dk_at dksX5_readPlan_0 14 rfl rfl)
theorem dX5_readPlan_17 : decode cX5_readPlan 17 = .ok (.aload_n 0, 1) := dk_42 (dk_at dksX5_readPlan_0 17 rfl rfl)
theorem dX5_readPlan_18 : decode cX5_readPlan 18 = .ok (.iconst 3, 1) := dk_6 (dk_at dksX5_readPlan_0 18 rfl rfl)
theorem dX5_readPlan_19 : decode cX5_readPlan 19 = .ok (.invokevirtual 201, 3) := dk_182 0 201 (dk_at dksX5_readPlan_0 19 rfl rfl)
theorem dX5_readPlan_22 : decode cX5_readPlan 22 = .ok (.ireturn, 1) := dk_172 (dk_at dksX5_readPlan_0 22 rfl rfl)
theorem dX5_readPlan_23 : decode cX5_readPlan 23 = .ok (.aload_n 0, 1) := dk_42 (dk_at dksX5_readPlan_0 23 rfl rfl)
theorem dX5_readPlan_24 : decode cX5_readPlan 24 = .ok (.bipush 64, 2) := dk_16 64 (dk_at dksX5_readPlan_1 0 rfl rfl)
theorem dX5_readPlan_26 : decode cX5_readPlan 26 = .ok (.iconst 4, 1) := dk_7 (dk_at dksX5_readPlan_1 2 rfl rfl)
theorem dX5_readPlan_27 : decode cX5_readPlan 27 = .ok (.iload_n 1, 1) := dk_27 (dk_at dksX5_readPlan_1 3 rfl rfl)
theorem dX5_readPlan_28 : decode cX5_readPlan 28 = .ok (.imul, 1) := dk_104 (dk_at dksX5_readPlan_1 4 rfl rfl)
theorem dX5_readPlan_29 : decode cX5_readPlan 29 = .ok (.iadd, 1) := dk_96 (dk_at dksX5_readPlan_1 5 rfl rfl)
theorem dX5_readPlan_30 : decode cX5_readPlan 30 = .ok (.invokevirtual 267, 3) := dk_182 1 11 (dk_at dksX5_readPlan_1 6 rfl rfl)
theorem dX5_readPlan_33 : decode cX5_readPlan 33 = .ok (.iconst (-1), 1) := dk_2 (dk_at dksX5_readPlan_1 9 rfl rfl)
theorem dX5_readPlan_34 : decode cX5_readPlan 34 = .ok (.if_icmp .ne 5, 3) := dk_160 0 5 (dk_at dksX5_readPlan_1 10 rfl rfl)
theorem dX5_readPlan_37 : decode cX5_readPlan 37 = .ok (.iconst (-1), 1) := dk_2 (dk_at dksX5_readPlan_1 13 rfl rfl)
theorem dX5_readPlan_38 : decode cX5_readPlan 38 = .ok (.ireturn, 1) := dk_172 (dk_at dksX5_readPlan_1 14 rfl rfl)
theorem dX5_readPlan_39 : decode cX5_readPlan 39 = .ok (.iload_n 1, 1) := dk_27 (dk_at dksX5_readPlan_1 15 rfl rfl)
theorem dX5_readPlan_40 : decode cX5_readPlan 40 = .ok (.iconst 1, 1) := dk_4 (dk_at dksX5_readPlan_1 16 rfl rfl)
theorem dX5_readPlan_41 : decode cX5_readPlan 41 = .ok (.iadd, 1) := dk_96 (dk_at dksX5_readPlan_1 17 rfl rfl)
theorem dX5_readPlan_42 : decode cX5_readPlan 42 = .ok (.istore_n 1, 1) := dk_60 (dk_at dksX5_readPlan_1 18 rfl rfl)
theorem dX5_readPlan_43 : decode cX5_readPlan 43 = .ok (.goto (-41), 3) := dk_167 255 215 (dk_at dksX5_readPlan_1 19 rfl rfl)
theorem dX5_readPlan_46 : decode cX5_readPlan 46 = .ok (.aload_n 0, 1) := dk_42 (dk_at dksX5_readPlan_1 22 rfl rfl)
theorem dX5_readPlan_47 : decode cX5_readPlan 47 = .ok (.getfield 170, 3) := dk_180 0 170 (dk_at dksX5_readPlan_2 0 rfl rfl)
theorem dX5_readPlan_50 : decode cX5_readPlan 50 = .ok (.ifCond .ne 7, 3) := dk_154 0 7 (dk_at dksX5_readPlan_2 3 rfl rfl)
theorem dX5_readPlan_53 : decode cX5_readPlan 53 = .ok (.iload_n 1, 1) := dk_27 (dk_at dksX5_readPlan_2 6 rfl rfl)
theorem dX5_readPlan_54 : decode cX5_readPlan 54 = .ok (.goto 8, 3) := dk_167 0 8 (dk_at dksX5_readPlan_2 7 rfl rfl)
theorem dX5_readPlan_57 : decode cX5_readPlan 57 = .ok (.aload_n 0, 1) := dk_42 (dk_at dksX5_readPlan_2 10 rfl rfl)
theorem dX5_readPlan_58 : decode cX5_readPlan 58 = .ok (.iconst 1, 1) := dk_4 (dk_at dksX5_readPlan_2 11 rfl rfl)
theorem dX5_readPlan_59 : decode cX5_readPlan 59 = .ok (.invokevirtual 201, 3) := dk_182 0 201 (dk_at dksX5_readPlan_2 12 rfl rfl)
theorem dX5_readPlan_62 : decode cX5_readPlan 62 = .ok (.ireturn, 1) := dk_172 (dk_at dksX5_readPlan_2 15 rfl rfl)
abbrev cX5_readPlanLine : ByteArray := prog_22_method_59_code
def yX5_readPlanLine : MethodName := ⟨RX5, "readPlanLine", "(I)I"⟩
def dkwX5_readPlanLine_5 : List UInt8 := [172]
abbrev dktX5_readPlanLine_5 : List UInt8 := dkwX5_readPlanLine_5 ++ []
def dkwX5_readPlanLine_4 : List UInt8 := [16, 21, 100, 79, 42, 27, 28, 182, 1, 8, 2, 160, 0, 7, 2, 167, 0, 9, 42, 16, 59, 182, 1, 2]
abbrev dktX5_readPlanLine_4 : List UInt8 := dkwX5_readPlanLine_4 ++ dktX5_readPlanLine_5
def dkwX5_readPlanLine_3 : List UInt8 := [182, 0, 208, 42, 180, 0, 59, 27, 4, 96, 28, 16, 19, 160, 0, 7, 3, 167, 0, 9, 4, 28, 96]
abbrev dktX5_readPlanLine_3 : List UInt8 := dkwX5_readPlanLine_3 ++ dktX5_readPlanLine_4
def dkwX5_readPlanLine_2 : List UInt8 := [16, 19, 159, 0, 21, 42, 28, 16, 21, 16, 24, 182, 0, 126, 154, 0, 9, 42, 4, 182, 0, 201, 172, 42]
abbrev dktX5_readPlanLine_2 : List UInt8 := dkwX5_readPlanLine_2 ++ dktX5_readPlanLine_3
def dkwX5_readPlanLine_1 : List UInt8 := [160, 0, 5, 2, 172, 42, 180, 0, 170, 5, 160, 0, 10, 42, 180, 0, 173, 167, 0, 4, 2, 61, 28]
abbrev dktX5_readPlanLine_1 : List UInt8 := dkwX5_readPlanLine_1 ++ dktX5_readPlanLine_2
def dkwX5_readPlanLine_0 : List UInt8 := [42, 180, 0, 59, 27, 42, 16, 18, 3, 17, 3, 231, 182, 0, 255, 79, 42, 180, 0, 59, 27, 46, 2]
abbrev dktX5_readPlanLine_0 : List UInt8 := dkwX5_readPlanLine_0 ++ dktX5_readPlanLine_1
theorem dksX5_readPlanLine_0 : cX5_readPlanLine.data.toList.drop 0 = dktX5_readPlanLine_0 := by decide +kernel
theorem dksX5_readPlanLine_1 : cX5_readPlanLine.data.toList.drop 23 = dktX5_readPlanLine_1 := dk_seg dksX5_readPlanLine_0 23 rfl rfl
theorem dksX5_readPlanLine_2 : cX5_readPlanLine.data.toList.drop 46 = dktX5_readPlanLine_2 := dk_seg dksX5_readPlanLine_1 23 rfl rfl
theorem dksX5_readPlanLine_3 : cX5_readPlanLine.data.toList.drop 70 = dktX5_readPlanLine_3 := dk_seg dksX5_readPlanLine_2 24 rfl rfl
theorem dksX5_readPlanLine_4 : cX5_readPlanLine.data.toList.drop 93 = dktX5_readPlanLine_4 := dk_seg dksX5_readPlanLine_3 23 rfl rfl
theorem dksX5_readPlanLine_5 : cX5_readPlanLine.data.toList.drop 117 = dktX5_readPlanLine_5 := dk_seg dksX5_readPlanLine_4 24 rfl rfl
theorem dX5_readPlanLine_0 : decode cX5_readPlanLine 0 = .ok (.aload_n 0, 1) := dk_42 (dk_at dksX5_readPlanLine_0 0 rfl rfl)
theorem dX5_readPlanLine_1 : decode cX5_readPlanLine 1 = .ok (.getfield 59, 3) := dk_180 0 59 (dk_at dksX5_readPlanLine_0 1 rfl rfl)
theorem dX5_readPlanLine_4 : decode cX5_readPlanLine 4 = .ok (.iload_n 1, 1) := dk_27 (dk_at dksX5_readPlanLine_0 4 rfl rfl)
theorem dX5_readPlanLine_5 : decode cX5_readPlanLine 5 = .ok (.aload_n 0, 1) := dk_42 (dk_at dksX5_readPlanLine_0 5 rfl rfl)
theorem dX5_readPlanLine_6 : decode cX5_readPlanLine 6 = .ok (.bipush 18, 2) := dk_16 18 (dk_at dksX5_readPlanLine_0 6 rfl rfl)
theorem dX5_readPlanLine_8 : decode cX5_readPlanLine 8 = .ok (.iconst 0, 1) := dk_3 (dk_at dksX5_readPlanLine_0 8 rfl rfl)
theorem dX5_readPlanLine_9 : decode cX5_readPlanLine 9 = .ok (.sipush 999, 3) := dk_17 3 231 (dk_at dksX5_readPlanLine_0 9 rfl rfl)
theorem dX5_readPlanLine_12 : decode cX5_readPlanLine 12 = .ok (.invokevirtual 255, 3) := dk_182 0 255 (dk_at dksX5_readPlanLine_0 12 rfl rfl)
theorem dX5_readPlanLine_15 : decode cX5_readPlanLine 15 = .ok (.iastore, 1) := dk_79 (dk_at dksX5_readPlanLine_0 15 rfl rfl)
theorem dX5_readPlanLine_16 : decode cX5_readPlanLine 16 = .ok (.aload_n 0, 1) := dk_42 (dk_at dksX5_readPlanLine_0 16 rfl rfl)
theorem dX5_readPlanLine_17 : decode cX5_readPlanLine 17 = .ok (.getfield 59, 3) := dk_180 0 59 (dk_at dksX5_readPlanLine_0 17 rfl rfl)
theorem dX5_readPlanLine_20 : decode cX5_readPlanLine 20 = .ok (.iload_n 1, 1) := dk_27 (dk_at dksX5_readPlanLine_0 20 rfl rfl)
theorem dX5_readPlanLine_21 : decode cX5_readPlanLine 21 = .ok (.iaload, 1) := dk_46 (dk_at dksX5_readPlanLine_0 21 rfl rfl)
theorem dX5_readPlanLine_22 : decode cX5_readPlanLine 22 = .ok (.iconst (-1), 1) := dk_2 (dk_at dksX5_readPlanLine_0 22 rfl rfl)
theorem dX5_readPlanLine_23 : decode cX5_readPlanLine 23 = .ok (.if_icmp .ne 5, 3) := dk_160 0 5 (dk_at dksX5_readPlanLine_1 0 rfl rfl)
theorem dX5_readPlanLine_26 : decode cX5_readPlanLine 26 = .ok (.iconst (-1), 1) := dk_2 (dk_at dksX5_readPlanLine_1 3 rfl rfl)
theorem dX5_readPlanLine_27 : decode cX5_readPlanLine 27 = .ok (.ireturn, 1) := dk_172 (dk_at dksX5_readPlanLine_1 4 rfl rfl)
theorem dX5_readPlanLine_28 : decode cX5_readPlanLine 28 = .ok (.aload_n 0, 1) := dk_42 (dk_at dksX5_readPlanLine_1 5 rfl rfl)
theorem dX5_readPlanLine_29 : decode cX5_readPlanLine 29 = .ok (.getfield 170, 3) := dk_180 0 170 (dk_at dksX5_readPlanLine_1 6 rfl rfl)
theorem dX5_readPlanLine_32 : decode cX5_readPlanLine 32 = .ok (.iconst 2, 1) := dk_5 (dk_at dksX5_readPlanLine_1 9 rfl rfl)
theorem dX5_readPlanLine_33 : decode cX5_readPlanLine 33 = .ok (.if_icmp .ne 10, 3) := dk_160 0 10 (dk_at dksX5_readPlanLine_1 10 rfl rfl)
theorem dX5_readPlanLine_36 : decode cX5_readPlanLine 36 = .ok (.aload_n 0, 1) := dk_42 (dk_at dksX5_readPlanLine_1 13 rfl rfl)
theorem dX5_readPlanLine_37 : decode cX5_readPlanLine 37 = .ok (.getfield 173, 3) := dk_180 0 173 (dk_at dksX5_readPlanLine_1 14 rfl rfl)
theorem dX5_readPlanLine_40 : decode cX5_readPlanLine 40 = .ok (.goto 4, 3) := dk_167 0 4 (dk_at dksX5_readPlanLine_1 17 rfl rfl)
theorem dX5_readPlanLine_43 : decode cX5_readPlanLine 43 = .ok (.iconst (-1), 1) := dk_2 (dk_at dksX5_readPlanLine_1 20 rfl rfl)
theorem dX5_readPlanLine_44 : decode cX5_readPlanLine 44 = .ok (.istore_n 2, 1) := dk_61 (dk_at dksX5_readPlanLine_1 21 rfl rfl)
theorem dX5_readPlanLine_45 : decode cX5_readPlanLine 45 = .ok (.iload_n 2, 1) := dk_28 (dk_at dksX5_readPlanLine_1 22 rfl rfl)
theorem dX5_readPlanLine_46 : decode cX5_readPlanLine 46 = .ok (.bipush 19, 2) := dk_16 19 (dk_at dksX5_readPlanLine_2 0 rfl rfl)
theorem dX5_readPlanLine_48 : decode cX5_readPlanLine 48 = .ok (.if_icmp .eq 21, 3) := dk_159 0 21 (dk_at dksX5_readPlanLine_2 2 rfl rfl)
theorem dX5_readPlanLine_51 : decode cX5_readPlanLine 51 = .ok (.aload_n 0, 1) := dk_42 (dk_at dksX5_readPlanLine_2 5 rfl rfl)
theorem dX5_readPlanLine_52 : decode cX5_readPlanLine 52 = .ok (.iload_n 2, 1) := dk_28 (dk_at dksX5_readPlanLine_2 6 rfl rfl)
theorem dX5_readPlanLine_53 : decode cX5_readPlanLine 53 = .ok (.bipush 21, 2) := dk_16 21 (dk_at dksX5_readPlanLine_2 7 rfl rfl)
theorem dX5_readPlanLine_55 : decode cX5_readPlanLine 55 = .ok (.bipush 24, 2) := dk_16 24 (dk_at dksX5_readPlanLine_2 9 rfl rfl)
theorem dX5_readPlanLine_57 : decode cX5_readPlanLine 57 = .ok (.invokevirtual 126, 3) := dk_182 0 126 (dk_at dksX5_readPlanLine_2 11 rfl rfl)
theorem dX5_readPlanLine_60 : decode cX5_readPlanLine 60 = .ok (.ifCond .ne 9, 3) := dk_154 0 9 (dk_at dksX5_readPlanLine_2 14 rfl rfl)
theorem dX5_readPlanLine_63 : decode cX5_readPlanLine 63 = .ok (.aload_n 0, 1) := dk_42 (dk_at dksX5_readPlanLine_2 17 rfl rfl)
theorem dX5_readPlanLine_64 : decode cX5_readPlanLine 64 = .ok (.iconst 1, 1) := dk_4 (dk_at dksX5_readPlanLine_2 18 rfl rfl)
theorem dX5_readPlanLine_65 : decode cX5_readPlanLine 65 = .ok (.invokevirtual 201, 3) := dk_182 0 201 (dk_at dksX5_readPlanLine_2 19 rfl rfl)
theorem dX5_readPlanLine_68 : decode cX5_readPlanLine 68 = .ok (.ireturn, 1) := dk_172 (dk_at dksX5_readPlanLine_2 22 rfl rfl)
theorem dX5_readPlanLine_69 : decode cX5_readPlanLine 69 = .ok (.aload_n 0, 1) := dk_42 (dk_at dksX5_readPlanLine_2 23 rfl rfl)
theorem dX5_readPlanLine_70 : decode cX5_readPlanLine 70 = .ok (.invokevirtual 208, 3) := dk_182 0 208 (dk_at dksX5_readPlanLine_3 0 rfl rfl)
theorem dX5_readPlanLine_73 : decode cX5_readPlanLine 73 = .ok (.aload_n 0, 1) := dk_42 (dk_at dksX5_readPlanLine_3 3 rfl rfl)
theorem dX5_readPlanLine_74 : decode cX5_readPlanLine 74 = .ok (.getfield 59, 3) := dk_180 0 59 (dk_at dksX5_readPlanLine_3 4 rfl rfl)
theorem dX5_readPlanLine_77 : decode cX5_readPlanLine 77 = .ok (.iload_n 1, 1) := dk_27 (dk_at dksX5_readPlanLine_3 7 rfl rfl)
theorem dX5_readPlanLine_78 : decode cX5_readPlanLine 78 = .ok (.iconst 1, 1) := dk_4 (dk_at dksX5_readPlanLine_3 8 rfl rfl)
theorem dX5_readPlanLine_79 : decode cX5_readPlanLine 79 = .ok (.iadd, 1) := dk_96 (dk_at dksX5_readPlanLine_3 9 rfl rfl)
theorem dX5_readPlanLine_80 : decode cX5_readPlanLine 80 = .ok (.iload_n 2, 1) := dk_28 (dk_at dksX5_readPlanLine_3 10 rfl rfl)
theorem dX5_readPlanLine_81 : decode cX5_readPlanLine 81 = .ok (.bipush 19, 2) := dk_16 19 (dk_at dksX5_readPlanLine_3 11 rfl rfl)
theorem dX5_readPlanLine_83 : decode cX5_readPlanLine 83 = .ok (.if_icmp .ne 7, 3) := dk_160 0 7 (dk_at dksX5_readPlanLine_3 13 rfl rfl)
theorem dX5_readPlanLine_86 : decode cX5_readPlanLine 86 = .ok (.iconst 0, 1) := dk_3 (dk_at dksX5_readPlanLine_3 16 rfl rfl)
theorem dX5_readPlanLine_87 : decode cX5_readPlanLine 87 = .ok (.goto 9, 3) := dk_167 0 9 (dk_at dksX5_readPlanLine_3 17 rfl rfl)
theorem dX5_readPlanLine_90 : decode cX5_readPlanLine 90 = .ok (.iconst 1, 1) := dk_4 (dk_at dksX5_readPlanLine_3 20 rfl rfl)
theorem dX5_readPlanLine_91 : decode cX5_readPlanLine 91 = .ok (.iload_n 2, 1) := dk_28 (dk_at dksX5_readPlanLine_3 21 rfl rfl)
theorem dX5_readPlanLine_92 : decode cX5_readPlanLine 92 = .ok (.iadd, 1) := dk_96 (dk_at dksX5_readPlanLine_3 22 rfl rfl)
theorem dX5_readPlanLine_93 : decode cX5_readPlanLine 93 = .ok (.bipush 21, 2) := dk_16 21 (dk_at dksX5_readPlanLine_4 0 rfl rfl)
theorem dX5_readPlanLine_95 : decode cX5_readPlanLine 95 = .ok (.isub, 1) := dk_100 (dk_at dksX5_readPlanLine_4 2 rfl rfl)
theorem dX5_readPlanLine_96 : decode cX5_readPlanLine 96 = .ok (.iastore, 1) := dk_79 (dk_at dksX5_readPlanLine_4 3 rfl rfl)
theorem dX5_readPlanLine_97 : decode cX5_readPlanLine 97 = .ok (.aload_n 0, 1) := dk_42 (dk_at dksX5_readPlanLine_4 4 rfl rfl)
theorem dX5_readPlanLine_98 : decode cX5_readPlanLine 98 = .ok (.iload_n 1, 1) := dk_27 (dk_at dksX5_readPlanLine_4 5 rfl rfl)
theorem dX5_readPlanLine_99 : decode cX5_readPlanLine 99 = .ok (.iload_n 2, 1) := dk_28 (dk_at dksX5_readPlanLine_4 6 rfl rfl)
theorem dX5_readPlanLine_100 : decode cX5_readPlanLine 100 = .ok (.invokevirtual 264, 3) := dk_182 1 8 (dk_at dksX5_readPlanLine_4 7 rfl rfl)
theorem dX5_readPlanLine_103 : decode cX5_readPlanLine 103 = .ok (.iconst (-1), 1) := dk_2 (dk_at dksX5_readPlanLine_4 10 rfl rfl)
theorem dX5_readPlanLine_104 : decode cX5_readPlanLine 104 = .ok (.if_icmp .ne 7, 3) := dk_160 0 7 (dk_at dksX5_readPlanLine_4 11 rfl rfl)
theorem dX5_readPlanLine_107 : decode cX5_readPlanLine 107 = .ok (.iconst (-1), 1) := dk_2 (dk_at dksX5_readPlanLine_4 14 rfl rfl)
theorem dX5_readPlanLine_108 : decode cX5_readPlanLine 108 = .ok (.goto 9, 3) := dk_167 0 9 (dk_at dksX5_readPlanLine_4 15 rfl rfl)
theorem dX5_readPlanLine_111 : decode cX5_readPlanLine 111 = .ok (.aload_n 0, 1) := dk_42 (dk_at dksX5_readPlanLine_4 18 rfl rfl)
theorem dX5_readPlanLine_112 : decode cX5_readPlanLine 112 = .ok (.bipush 59, 2) := dk_16 59 (dk_at dksX5_readPlanLine_4 19 rfl rfl)
theorem dX5_readPlanLine_114 : decode cX5_readPlanLine 114 = .ok (.invokevirtual 258, 3) := dk_182 1 2 (dk_at dksX5_readPlanLine_4 21 rfl rfl)
theorem dX5_readPlanLine_117 : decode cX5_readPlanLine 117 = .ok (.ireturn, 1) := dk_172 (dk_at dksX5_readPlanLine_5 0 rfl rfl)
abbrev cX5_readDeed : ByteArray := prog_22_method_58_code
def yX5_readDeed : MethodName := ⟨RX5, "readDeed", "(II)I"⟩
def dkwX5_readDeed_5 : List UInt8 := [167, 0, 4, 3, 79, 42, 180, 0, 59, 27, 6, 96, 46, 172]
abbrev dktX5_readDeed_5 : List UInt8 := dkwX5_readDeed_5 ++ []
def dkwX5_readDeed_4 : List UInt8 := [3, 16, 9, 182, 0, 255, 167, 0, 20, 28, 16, 23, 160, 0, 13, 42, 4, 16, 99, 182, 0, 252]
abbrev dktX5_readDeed_4 : List UInt8 := dkwX5_readDeed_4 ++ dktX5_readDeed_5
def dkwX5_readDeed_3 : List UInt8 := [96, 46, 2, 160, 0, 5, 2, 172, 42, 180, 0, 59, 27, 6, 96, 28, 16, 19, 160, 0, 15, 42, 16, 20]
abbrev dktX5_readDeed_3 : List UInt8 := dkwX5_readDeed_3 ++ dktX5_readDeed_4
def dkwX5_readDeed_2 : List UInt8 := [160, 0, 12, 42, 180, 0, 119, 4, 100, 167, 0, 5, 16, 9, 182, 0, 252, 79, 42, 180, 0, 59, 27, 5]
abbrev dktX5_readDeed_2 : List UInt8 := dkwX5_readDeed_2 ++ dktX5_readDeed_3
def dkwX5_readDeed_1 : List UInt8 := [180, 0, 116, 4, 100, 182, 0, 252, 79, 167, 0, 33, 42, 180, 0, 59, 27, 5, 96, 42, 3, 28, 16, 24]
abbrev dktX5_readDeed_1 : List UInt8 := dkwX5_readDeed_1 ++ dktX5_readDeed_2
def dkwX5_readDeed_0 : List UInt8 := [28, 16, 19, 159, 0, 9, 28, 16, 23, 160, 0, 25, 42, 180, 0, 59, 27, 5, 96, 42, 3, 42]
abbrev dktX5_readDeed_0 : List UInt8 := dkwX5_readDeed_0 ++ dktX5_readDeed_1
theorem dksX5_readDeed_0 : cX5_readDeed.data.toList.drop 0 = dktX5_readDeed_0 := by decide +kernel
theorem dksX5_readDeed_1 : cX5_readDeed.data.toList.drop 22 = dktX5_readDeed_1 := dk_seg dksX5_readDeed_0 22 rfl rfl
theorem dksX5_readDeed_2 : cX5_readDeed.data.toList.drop 46 = dktX5_readDeed_2 := dk_seg dksX5_readDeed_1 24 rfl rfl
theorem dksX5_readDeed_3 : cX5_readDeed.data.toList.drop 70 = dktX5_readDeed_3 := dk_seg dksX5_readDeed_2 24 rfl rfl
theorem dksX5_readDeed_4 : cX5_readDeed.data.toList.drop 94 = dktX5_readDeed_4 := dk_seg dksX5_readDeed_3 24 rfl rfl
theorem dksX5_readDeed_5 : cX5_readDeed.data.toList.drop 116 = dktX5_readDeed_5 := dk_seg dksX5_readDeed_4 22 rfl rfl
theorem dX5_readDeed_0 : decode cX5_readDeed 0 = .ok (.iload_n 2, 1) := dk_28 (dk_at dksX5_readDeed_0 0 rfl rfl)
theorem dX5_readDeed_1 : decode cX5_readDeed 1 = .ok (.bipush 19, 2) := dk_16 19 (dk_at dksX5_readDeed_0 1 rfl rfl)
theorem dX5_readDeed_3 : decode cX5_readDeed 3 = .ok (.if_icmp .eq 9, 3) := dk_159 0 9 (dk_at dksX5_readDeed_0 3 rfl rfl)
theorem dX5_readDeed_6 : decode cX5_readDeed 6 = .ok (.iload_n 2, 1) := dk_28 (dk_at dksX5_readDeed_0 6 rfl rfl)
theorem dX5_readDeed_7 : decode cX5_readDeed 7 = .ok (.bipush 23, 2) := dk_16 23 (dk_at dksX5_readDeed_0 7 rfl rfl)
theorem dX5_readDeed_9 : decode cX5_readDeed 9 = .ok (.if_icmp .ne 25, 3) := dk_160 0 25 (dk_at dksX5_readDeed_0 9 rfl rfl)
theorem dX5_readDeed_12 : decode cX5_readDeed 12 = .ok (.aload_n 0, 1) := dk_42 (dk_at dksX5_readDeed_0 12 rfl rfl)
theorem dX5_readDeed_13 : decode cX5_readDeed 13 = .ok (.getfield 59, 3) := dk_180 0 59 (dk_at dksX5_readDeed_0 13 rfl rfl)
theorem dX5_readDeed_16 : decode cX5_readDeed 16 = .ok (.iload_n 1, 1) := dk_27 (dk_at dksX5_readDeed_0 16 rfl rfl)
theorem dX5_readDeed_17 : decode cX5_readDeed 17 = .ok (.iconst 2, 1) := dk_5 (dk_at dksX5_readDeed_0 17 rfl rfl)
theorem dX5_readDeed_18 : decode cX5_readDeed 18 = .ok (.iadd, 1) := dk_96 (dk_at dksX5_readDeed_0 18 rfl rfl)
theorem dX5_readDeed_19 : decode cX5_readDeed 19 = .ok (.aload_n 0, 1) := dk_42 (dk_at dksX5_readDeed_0 19 rfl rfl)
theorem dX5_readDeed_20 : decode cX5_readDeed 20 = .ok (.iconst 0, 1) := dk_3 (dk_at dksX5_readDeed_0 20 rfl rfl)
theorem dX5_readDeed_21 : decode cX5_readDeed 21 = .ok (.aload_n 0, 1) := dk_42 (dk_at dksX5_readDeed_0 21 rfl rfl)
theorem dX5_readDeed_22 : decode cX5_readDeed 22 = .ok (.getfield 116, 3) := dk_180 0 116 (dk_at dksX5_readDeed_1 0 rfl rfl)
theorem dX5_readDeed_25 : decode cX5_readDeed 25 = .ok (.iconst 1, 1) := dk_4 (dk_at dksX5_readDeed_1 3 rfl rfl)
theorem dX5_readDeed_26 : decode cX5_readDeed 26 = .ok (.isub, 1) := dk_100 (dk_at dksX5_readDeed_1 4 rfl rfl)
theorem dX5_readDeed_27 : decode cX5_readDeed 27 = .ok (.invokevirtual 252, 3) := dk_182 0 252 (dk_at dksX5_readDeed_1 5 rfl rfl)
theorem dX5_readDeed_30 : decode cX5_readDeed 30 = .ok (.iastore, 1) := dk_79 (dk_at dksX5_readDeed_1 8 rfl rfl)
theorem dX5_readDeed_31 : decode cX5_readDeed 31 = .ok (.goto 33, 3) := dk_167 0 33 (dk_at dksX5_readDeed_1 9 rfl rfl)
theorem dX5_readDeed_34 : decode cX5_readDeed 34 = .ok (.aload_n 0, 1) := dk_42 (dk_at dksX5_readDeed_1 12 rfl rfl)
theorem dX5_readDeed_35 : decode cX5_readDeed 35 = .ok (.getfield 59, 3) := dk_180 0 59 (dk_at dksX5_readDeed_1 13 rfl rfl)
theorem dX5_readDeed_38 : decode cX5_readDeed 38 = .ok (.iload_n 1, 1) := dk_27 (dk_at dksX5_readDeed_1 16 rfl rfl)
theorem dX5_readDeed_39 : decode cX5_readDeed 39 = .ok (.iconst 2, 1) := dk_5 (dk_at dksX5_readDeed_1 17 rfl rfl)
theorem dX5_readDeed_40 : decode cX5_readDeed 40 = .ok (.iadd, 1) := dk_96 (dk_at dksX5_readDeed_1 18 rfl rfl)
theorem dX5_readDeed_41 : decode cX5_readDeed 41 = .ok (.aload_n 0, 1) := dk_42 (dk_at dksX5_readDeed_1 19 rfl rfl)
theorem dX5_readDeed_42 : decode cX5_readDeed 42 = .ok (.iconst 0, 1) := dk_3 (dk_at dksX5_readDeed_1 20 rfl rfl)
theorem dX5_readDeed_43 : decode cX5_readDeed 43 = .ok (.iload_n 2, 1) := dk_28 (dk_at dksX5_readDeed_1 21 rfl rfl)
theorem dX5_readDeed_44 : decode cX5_readDeed 44 = .ok (.bipush 24, 2) := dk_16 24 (dk_at dksX5_readDeed_1 22 rfl rfl)
theorem dX5_readDeed_46 : decode cX5_readDeed 46 = .ok (.if_icmp .ne 12, 3) := dk_160 0 12 (dk_at dksX5_readDeed_2 0 rfl rfl)
theorem dX5_readDeed_49 : decode cX5_readDeed 49 = .ok (.aload_n 0, 1) := dk_42 (dk_at dksX5_readDeed_2 3 rfl rfl)
theorem dX5_readDeed_50 : decode cX5_readDeed 50 = .ok (.getfield 119, 3) := dk_180 0 119 (dk_at dksX5_readDeed_2 4 rfl rfl)
theorem dX5_readDeed_53 : decode cX5_readDeed 53 = .ok (.iconst 1, 1) := dk_4 (dk_at dksX5_readDeed_2 7 rfl rfl)
theorem dX5_readDeed_54 : decode cX5_readDeed 54 = .ok (.isub, 1) := dk_100 (dk_at dksX5_readDeed_2 8 rfl rfl)
theorem dX5_readDeed_55 : decode cX5_readDeed 55 = .ok (.goto 5, 3) := dk_167 0 5 (dk_at dksX5_readDeed_2 9 rfl rfl)
theorem dX5_readDeed_58 : decode cX5_readDeed 58 = .ok (.bipush 9, 2) := dk_16 9 (dk_at dksX5_readDeed_2 12 rfl rfl)
theorem dX5_readDeed_60 : decode cX5_readDeed 60 = .ok (.invokevirtual 252, 3) := dk_182 0 252 (dk_at dksX5_readDeed_2 14 rfl rfl)
theorem dX5_readDeed_63 : decode cX5_readDeed 63 = .ok (.iastore, 1) := dk_79 (dk_at dksX5_readDeed_2 17 rfl rfl)
theorem dX5_readDeed_64 : decode cX5_readDeed 64 = .ok (.aload_n 0, 1) := dk_42 (dk_at dksX5_readDeed_2 18 rfl rfl)
theorem dX5_readDeed_65 : decode cX5_readDeed 65 = .ok (.getfield 59, 3) := dk_180 0 59 (dk_at dksX5_readDeed_2 19 rfl rfl)
theorem dX5_readDeed_68 : decode cX5_readDeed 68 = .ok (.iload_n 1, 1) := dk_27 (dk_at dksX5_readDeed_2 22 rfl rfl)
theorem dX5_readDeed_69 : decode cX5_readDeed 69 = .ok (.iconst 2, 1) := dk_5 (dk_at dksX5_readDeed_2 23 rfl rfl)
theorem dX5_readDeed_70 : decode cX5_readDeed 70 = .ok (.iadd, 1) := dk_96 (dk_at dksX5_readDeed_3 0 rfl rfl)
theorem dX5_readDeed_71 : decode cX5_readDeed 71 = .ok (.iaload, 1) := dk_46 (dk_at dksX5_readDeed_3 1 rfl rfl)
theorem dX5_readDeed_72 : decode cX5_readDeed 72 = .ok (.iconst (-1), 1) := dk_2 (dk_at dksX5_readDeed_3 2 rfl rfl)
theorem dX5_readDeed_73 : decode cX5_readDeed 73 = .ok (.if_icmp .ne 5, 3) := dk_160 0 5 (dk_at dksX5_readDeed_3 3 rfl rfl)
theorem dX5_readDeed_76 : decode cX5_readDeed 76 = .ok (.iconst (-1), 1) := dk_2 (dk_at dksX5_readDeed_3 6 rfl rfl)
theorem dX5_readDeed_77 : decode cX5_readDeed 77 = .ok (.ireturn, 1) := dk_172 (dk_at dksX5_readDeed_3 7 rfl rfl)
theorem dX5_readDeed_78 : decode cX5_readDeed 78 = .ok (.aload_n 0, 1) := dk_42 (dk_at dksX5_readDeed_3 8 rfl rfl)
theorem dX5_readDeed_79 : decode cX5_readDeed 79 = .ok (.getfield 59, 3) := dk_180 0 59 (dk_at dksX5_readDeed_3 9 rfl rfl)
theorem dX5_readDeed_82 : decode cX5_readDeed 82 = .ok (.iload_n 1, 1) := dk_27 (dk_at dksX5_readDeed_3 12 rfl rfl)
theorem dX5_readDeed_83 : decode cX5_readDeed 83 = .ok (.iconst 3, 1) := dk_6 (dk_at dksX5_readDeed_3 13 rfl rfl)
theorem dX5_readDeed_84 : decode cX5_readDeed 84 = .ok (.iadd, 1) := dk_96 (dk_at dksX5_readDeed_3 14 rfl rfl)
theorem dX5_readDeed_85 : decode cX5_readDeed 85 = .ok (.iload_n 2, 1) := dk_28 (dk_at dksX5_readDeed_3 15 rfl rfl)
theorem dX5_readDeed_86 : decode cX5_readDeed 86 = .ok (.bipush 19, 2) := dk_16 19 (dk_at dksX5_readDeed_3 16 rfl rfl)
theorem dX5_readDeed_88 : decode cX5_readDeed 88 = .ok (.if_icmp .ne 15, 3) := dk_160 0 15 (dk_at dksX5_readDeed_3 18 rfl rfl)
theorem dX5_readDeed_91 : decode cX5_readDeed 91 = .ok (.aload_n 0, 1) := dk_42 (dk_at dksX5_readDeed_3 21 rfl rfl)
theorem dX5_readDeed_92 : decode cX5_readDeed 92 = .ok (.bipush 20, 2) := dk_16 20 (dk_at dksX5_readDeed_3 22 rfl rfl)
theorem dX5_readDeed_94 : decode cX5_readDeed 94 = .ok (.iconst 0, 1) := dk_3 (dk_at dksX5_readDeed_4 0 rfl rfl)
theorem dX5_readDeed_95 : decode cX5_readDeed 95 = .ok (.bipush 9, 2) := dk_16 9 (dk_at dksX5_readDeed_4 1 rfl rfl)
theorem dX5_readDeed_97 : decode cX5_readDeed 97 = .ok (.invokevirtual 255, 3) := dk_182 0 255 (dk_at dksX5_readDeed_4 3 rfl rfl)
theorem dX5_readDeed_100 : decode cX5_readDeed 100 = .ok (.goto 20, 3) := dk_167 0 20 (dk_at dksX5_readDeed_4 6 rfl rfl)
theorem dX5_readDeed_103 : decode cX5_readDeed 103 = .ok (.iload_n 2, 1) := dk_28 (dk_at dksX5_readDeed_4 9 rfl rfl)
theorem dX5_readDeed_104 : decode cX5_readDeed 104 = .ok (.bipush 23, 2) := dk_16 23 (dk_at dksX5_readDeed_4 10 rfl rfl)
theorem dX5_readDeed_106 : decode cX5_readDeed 106 = .ok (.if_icmp .ne 13, 3) := dk_160 0 13 (dk_at dksX5_readDeed_4 12 rfl rfl)
theorem dX5_readDeed_109 : decode cX5_readDeed 109 = .ok (.aload_n 0, 1) := dk_42 (dk_at dksX5_readDeed_4 15 rfl rfl)
theorem dX5_readDeed_110 : decode cX5_readDeed 110 = .ok (.iconst 1, 1) := dk_4 (dk_at dksX5_readDeed_4 16 rfl rfl)
theorem dX5_readDeed_111 : decode cX5_readDeed 111 = .ok (.bipush 99, 2) := dk_16 99 (dk_at dksX5_readDeed_4 17 rfl rfl)
theorem dX5_readDeed_113 : decode cX5_readDeed 113 = .ok (.invokevirtual 252, 3) := dk_182 0 252 (dk_at dksX5_readDeed_4 19 rfl rfl)
theorem dX5_readDeed_116 : decode cX5_readDeed 116 = .ok (.goto 4, 3) := dk_167 0 4 (dk_at dksX5_readDeed_5 0 rfl rfl)
theorem dX5_readDeed_119 : decode cX5_readDeed 119 = .ok (.iconst 0, 1) := dk_3 (dk_at dksX5_readDeed_5 3 rfl rfl)
theorem dX5_readDeed_120 : decode cX5_readDeed 120 = .ok (.iastore, 1) := dk_79 (dk_at dksX5_readDeed_5 4 rfl rfl)
theorem dX5_readDeed_121 : decode cX5_readDeed 121 = .ok (.aload_n 0, 1) := dk_42 (dk_at dksX5_readDeed_5 5 rfl rfl)
theorem dX5_readDeed_122 : decode cX5_readDeed 122 = .ok (.getfield 59, 3) := dk_180 0 59 (dk_at dksX5_readDeed_5 6 rfl rfl)
theorem dX5_readDeed_125 : decode cX5_readDeed 125 = .ok (.iload_n 1, 1) := dk_27 (dk_at dksX5_readDeed_5 9 rfl rfl)
theorem dX5_readDeed_126 : decode cX5_readDeed 126 = .ok (.iconst 3, 1) := dk_6 (dk_at dksX5_readDeed_5 10 rfl rfl)
theorem dX5_readDeed_127 : decode cX5_readDeed 127 = .ok (.iadd, 1) := dk_96 (dk_at dksX5_readDeed_5 11 rfl rfl)
theorem dX5_readDeed_128 : decode cX5_readDeed 128 = .ok (.iaload, 1) := dk_46 (dk_at dksX5_readDeed_5 12 rfl rfl)
theorem dX5_readDeed_129 : decode cX5_readDeed 129 = .ok (.ireturn, 1) := dk_172 (dk_at dksX5_readDeed_5 13 rfl rfl)
abbrev cX5_readLaw : ByteArray := prog_22_method_51_code
def yX5_readLaw : MethodName := ⟨RX5, "readLaw", "()I"⟩
def dkwX5_readLaw_6 : List UInt8 := [182, 0, 201, 172]
abbrev dktX5_readLaw_6 : List UInt8 := dkwX5_readLaw_6 ++ []
def dkwX5_readLaw_5 : List UInt8 := [42, 182, 0, 208, 27, 4, 96, 60, 167, 255, 133, 42, 180, 0, 170, 154, 0, 7, 27, 167, 0, 8, 42, 4]
abbrev dktX5_readLaw_5 : List UInt8 := dkwX5_readLaw_5 ++ dktX5_readLaw_6
def dkwX5_readLaw_4 : List UInt8 := [180, 0, 40, 28, 42, 180, 0, 195, 79, 42, 16, 59, 182, 0, 215, 154, 0, 9, 42, 4, 182, 0, 201, 172]
abbrev dktX5_readLaw_4 : List UInt8 := dkwX5_readLaw_4 ++ dktX5_readLaw_5
def dkwX5_readLaw_3 : List UInt8 := [42, 6, 182, 0, 230, 153, 0, 17, 42, 182, 0, 208, 42, 182, 0, 246, 2, 160, 0, 5, 2, 172, 42]
abbrev dktX5_readLaw_3 : List UInt8 := dkwX5_readLaw_3 ++ dktX5_readLaw_4
def dkwX5_readLaw_2 : List UInt8 := [180, 0, 195, 79, 42, 182, 0, 221, 2, 160, 0, 5, 2, 172, 42, 180, 0, 37, 28, 42, 180, 0, 195, 79]
abbrev dktX5_readLaw_2 : List UInt8 := dkwX5_readLaw_2 ++ dktX5_readLaw_3
def dkwX5_readLaw_1 : List UInt8 := [96, 61, 42, 180, 0, 31, 28, 42, 180, 0, 173, 79, 42, 182, 0, 208, 42, 180, 0, 34, 28, 42]
abbrev dktX5_readLaw_1 : List UInt8 := dkwX5_readLaw_1 ++ dktX5_readLaw_2
def dkwX5_readLaw_0 : List UInt8 := [3, 60, 42, 182, 0, 242, 153, 0, 122, 27, 16, 16, 160, 0, 9, 42, 6, 182, 0, 201, 172, 16, 32, 27]
abbrev dktX5_readLaw_0 : List UInt8 := dkwX5_readLaw_0 ++ dktX5_readLaw_1
theorem dksX5_readLaw_0 : cX5_readLaw.data.toList.drop 0 = dktX5_readLaw_0 := by decide +kernel
theorem dksX5_readLaw_1 : cX5_readLaw.data.toList.drop 24 = dktX5_readLaw_1 := dk_seg dksX5_readLaw_0 24 rfl rfl
theorem dksX5_readLaw_2 : cX5_readLaw.data.toList.drop 46 = dktX5_readLaw_2 := dk_seg dksX5_readLaw_1 22 rfl rfl
theorem dksX5_readLaw_3 : cX5_readLaw.data.toList.drop 70 = dktX5_readLaw_3 := dk_seg dksX5_readLaw_2 24 rfl rfl
theorem dksX5_readLaw_4 : cX5_readLaw.data.toList.drop 93 = dktX5_readLaw_4 := dk_seg dksX5_readLaw_3 23 rfl rfl
theorem dksX5_readLaw_5 : cX5_readLaw.data.toList.drop 117 = dktX5_readLaw_5 := dk_seg dksX5_readLaw_4 24 rfl rfl
theorem dksX5_readLaw_6 : cX5_readLaw.data.toList.drop 141 = dktX5_readLaw_6 := dk_seg dksX5_readLaw_5 24 rfl rfl
theorem dX5_readLaw_0 : decode cX5_readLaw 0 = .ok (.iconst 0, 1) := dk_3 (dk_at dksX5_readLaw_0 0 rfl rfl)
theorem dX5_readLaw_1 : decode cX5_readLaw 1 = .ok (.istore_n 1, 1) := dk_60 (dk_at dksX5_readLaw_0 1 rfl rfl)
theorem dX5_readLaw_2 : decode cX5_readLaw 2 = .ok (.aload_n 0, 1) := dk_42 (dk_at dksX5_readLaw_0 2 rfl rfl)
theorem dX5_readLaw_3 : decode cX5_readLaw 3 = .ok (.invokevirtual 242, 3) := dk_182 0 242 (dk_at dksX5_readLaw_0 3 rfl rfl)
theorem dX5_readLaw_6 : decode cX5_readLaw 6 = .ok (.ifCond .eq 122, 3) := dk_153 0 122 (dk_at dksX5_readLaw_0 6 rfl rfl)
theorem dX5_readLaw_9 : decode cX5_readLaw 9 = .ok (.iload_n 1, 1) := dk_27 (dk_at dksX5_readLaw_0 9 rfl rfl)
theorem dX5_readLaw_10 : decode cX5_readLaw 10 = .ok (.bipush 16, 2) := dk_16 16 (dk_at dksX5_readLaw_0 10 rfl rfl)
theorem dX5_readLaw_12 : decode cX5_readLaw 12 = .ok (.if_icmp .ne 9, 3) := dk_160 0 9 (dk_at dksX5_readLaw_0 12 rfl rfl)
theorem dX5_readLaw_15 : decode cX5_readLaw 15 = .ok (.aload_n 0, 1) := dk_42 (dk_at dksX5_readLaw_0 15 rfl rfl)
theorem dX5_readLaw_16 : decode cX5_readLaw 16 = .ok (.iconst 3, 1) := dk_6 (dk_at dksX5_readLaw_0 16 rfl rfl)
theorem dX5_readLaw_17 : decode cX5_readLaw 17 = .ok (.invokevirtual 201, 3) := dk_182 0 201 (dk_at dksX5_readLaw_0 17 rfl rfl)
theorem dX5_readLaw_20 : decode cX5_readLaw 20 = .ok (.ireturn, 1) := dk_172 (dk_at dksX5_readLaw_0 20 rfl rfl)
theorem dX5_readLaw_21 : decode cX5_readLaw 21 = .ok (.bipush 32, 2) := dk_16 32 (dk_at dksX5_readLaw_0 21 rfl rfl)
theorem dX5_readLaw_23 : decode cX5_readLaw 23 = .ok (.iload_n 1, 1) := dk_27 (dk_at dksX5_readLaw_0 23 rfl rfl)
theorem dX5_readLaw_24 : decode cX5_readLaw 24 = .ok (.iadd, 1) := dk_96 (dk_at dksX5_readLaw_1 0 rfl rfl)
theorem dX5_readLaw_25 : decode cX5_readLaw 25 = .ok (.istore_n 2, 1) := dk_61 (dk_at dksX5_readLaw_1 1 rfl rfl)
theorem dX5_readLaw_26 : decode cX5_readLaw 26 = .ok (.aload_n 0, 1) := dk_42 (dk_at dksX5_readLaw_1 2 rfl rfl)
theorem dX5_readLaw_27 : decode cX5_readLaw 27 = .ok (.getfield 31, 3) := dk_180 0 31 (dk_at dksX5_readLaw_1 3 rfl rfl)
theorem dX5_readLaw_30 : decode cX5_readLaw 30 = .ok (.iload_n 2, 1) := dk_28 (dk_at dksX5_readLaw_1 6 rfl rfl)
theorem dX5_readLaw_31 : decode cX5_readLaw 31 = .ok (.aload_n 0, 1) := dk_42 (dk_at dksX5_readLaw_1 7 rfl rfl)
theorem dX5_readLaw_32 : decode cX5_readLaw 32 = .ok (.getfield 173, 3) := dk_180 0 173 (dk_at dksX5_readLaw_1 8 rfl rfl)
theorem dX5_readLaw_35 : decode cX5_readLaw 35 = .ok (.iastore, 1) := dk_79 (dk_at dksX5_readLaw_1 11 rfl rfl)
theorem dX5_readLaw_36 : decode cX5_readLaw 36 = .ok (.aload_n 0, 1) := dk_42 (dk_at dksX5_readLaw_1 12 rfl rfl)
theorem dX5_readLaw_37 : decode cX5_readLaw 37 = .ok (.invokevirtual 208, 3) := dk_182 0 208 (dk_at dksX5_readLaw_1 13 rfl rfl)
theorem dX5_readLaw_40 : decode cX5_readLaw 40 = .ok (.aload_n 0, 1) := dk_42 (dk_at dksX5_readLaw_1 16 rfl rfl)
theorem dX5_readLaw_41 : decode cX5_readLaw 41 = .ok (.getfield 34, 3) := dk_180 0 34 (dk_at dksX5_readLaw_1 17 rfl rfl)
theorem dX5_readLaw_44 : decode cX5_readLaw 44 = .ok (.iload_n 2, 1) := dk_28 (dk_at dksX5_readLaw_1 20 rfl rfl)
theorem dX5_readLaw_45 : decode cX5_readLaw 45 = .ok (.aload_n 0, 1) := dk_42 (dk_at dksX5_readLaw_1 21 rfl rfl)
theorem dX5_readLaw_46 : decode cX5_readLaw 46 = .ok (.getfield 195, 3) := dk_180 0 195 (dk_at dksX5_readLaw_2 0 rfl rfl)
theorem dX5_readLaw_49 : decode cX5_readLaw 49 = .ok (.iastore, 1) := dk_79 (dk_at dksX5_readLaw_2 3 rfl rfl)
theorem dX5_readLaw_50 : decode cX5_readLaw 50 = .ok (.aload_n 0, 1) := dk_42 (dk_at dksX5_readLaw_2 4 rfl rfl)
theorem dX5_readLaw_51 : decode cX5_readLaw 51 = .ok (.invokevirtual 221, 3) := dk_182 0 221 (dk_at dksX5_readLaw_2 5 rfl rfl)
theorem dX5_readLaw_54 : decode cX5_readLaw 54 = .ok (.iconst (-1), 1) := dk_2 (dk_at dksX5_readLaw_2 8 rfl rfl)
theorem dX5_readLaw_55 : decode cX5_readLaw 55 = .ok (.if_icmp .ne 5, 3) := dk_160 0 5 (dk_at dksX5_readLaw_2 9 rfl rfl)
theorem dX5_readLaw_58 : decode cX5_readLaw 58 = .ok (.iconst (-1), 1) := dk_2 (dk_at dksX5_readLaw_2 12 rfl rfl)
theorem dX5_readLaw_59 : decode cX5_readLaw 59 = .ok (.ireturn, 1) := dk_172 (dk_at dksX5_readLaw_2 13 rfl rfl)
theorem dX5_readLaw_60 : decode cX5_readLaw 60 = .ok (.aload_n 0, 1) := dk_42 (dk_at dksX5_readLaw_2 14 rfl rfl)
theorem dX5_readLaw_61 : decode cX5_readLaw 61 = .ok (.getfield 37, 3) := dk_180 0 37 (dk_at dksX5_readLaw_2 15 rfl rfl)
theorem dX5_readLaw_64 : decode cX5_readLaw 64 = .ok (.iload_n 2, 1) := dk_28 (dk_at dksX5_readLaw_2 18 rfl rfl)
theorem dX5_readLaw_65 : decode cX5_readLaw 65 = .ok (.aload_n 0, 1) := dk_42 (dk_at dksX5_readLaw_2 19 rfl rfl)
theorem dX5_readLaw_66 : decode cX5_readLaw 66 = .ok (.getfield 195, 3) := dk_180 0 195 (dk_at dksX5_readLaw_2 20 rfl rfl)
theorem dX5_readLaw_69 : decode cX5_readLaw 69 = .ok (.iastore, 1) := dk_79 (dk_at dksX5_readLaw_2 23 rfl rfl)
theorem dX5_readLaw_70 : decode cX5_readLaw 70 = .ok (.aload_n 0, 1) := dk_42 (dk_at dksX5_readLaw_3 0 rfl rfl)
theorem dX5_readLaw_71 : decode cX5_readLaw 71 = .ok (.iconst 3, 1) := dk_6 (dk_at dksX5_readLaw_3 1 rfl rfl)
theorem dX5_readLaw_72 : decode cX5_readLaw 72 = .ok (.invokevirtual 230, 3) := dk_182 0 230 (dk_at dksX5_readLaw_3 2 rfl rfl)
theorem dX5_readLaw_75 : decode cX5_readLaw 75 = .ok (.ifCond .eq 17, 3) := dk_153 0 17 (dk_at dksX5_readLaw_3 5 rfl rfl)
theorem dX5_readLaw_78 : decode cX5_readLaw 78 = .ok (.aload_n 0, 1) := dk_42 (dk_at dksX5_readLaw_3 8 rfl rfl)
theorem dX5_readLaw_79 : decode cX5_readLaw 79 = .ok (.invokevirtual 208, 3) := dk_182 0 208 (dk_at dksX5_readLaw_3 9 rfl rfl)
theorem dX5_readLaw_82 : decode cX5_readLaw 82 = .ok (.aload_n 0, 1) := dk_42 (dk_at dksX5_readLaw_3 12 rfl rfl)
theorem dX5_readLaw_83 : decode cX5_readLaw 83 = .ok (.invokevirtual 246, 3) := dk_182 0 246 (dk_at dksX5_readLaw_3 13 rfl rfl)
theorem dX5_readLaw_86 : decode cX5_readLaw 86 = .ok (.iconst (-1), 1) := dk_2 (dk_at dksX5_readLaw_3 16 rfl rfl)
theorem dX5_readLaw_87 : decode cX5_readLaw 87 = .ok (.if_icmp .ne 5, 3) := dk_160 0 5 (dk_at dksX5_readLaw_3 17 rfl rfl)
theorem dX5_readLaw_90 : decode cX5_readLaw 90 = .ok (.iconst (-1), 1) := dk_2 (dk_at dksX5_readLaw_3 20 rfl rfl)
theorem dX5_readLaw_91 : decode cX5_readLaw 91 = .ok (.ireturn, 1) := dk_172 (dk_at dksX5_readLaw_3 21 rfl rfl)
theorem dX5_readLaw_92 : decode cX5_readLaw 92 = .ok (.aload_n 0, 1) := dk_42 (dk_at dksX5_readLaw_3 22 rfl rfl)
theorem dX5_readLaw_93 : decode cX5_readLaw 93 = .ok (.getfield 40, 3) := dk_180 0 40 (dk_at dksX5_readLaw_4 0 rfl rfl)
theorem dX5_readLaw_96 : decode cX5_readLaw 96 = .ok (.iload_n 2, 1) := dk_28 (dk_at dksX5_readLaw_4 3 rfl rfl)
theorem dX5_readLaw_97 : decode cX5_readLaw 97 = .ok (.aload_n 0, 1) := dk_42 (dk_at dksX5_readLaw_4 4 rfl rfl)
theorem dX5_readLaw_98 : decode cX5_readLaw 98 = .ok (.getfield 195, 3) := dk_180 0 195 (dk_at dksX5_readLaw_4 5 rfl rfl)
theorem dX5_readLaw_101 : decode cX5_readLaw 101 = .ok (.iastore, 1) := dk_79 (dk_at dksX5_readLaw_4 8 rfl rfl)
theorem dX5_readLaw_102 : decode cX5_readLaw 102 = .ok (.aload_n 0, 1) := dk_42 (dk_at dksX5_readLaw_4 9 rfl rfl)
theorem dX5_readLaw_103 : decode cX5_readLaw 103 = .ok (.bipush 59, 2) := dk_16 59 (dk_at dksX5_readLaw_4 10 rfl rfl)
theorem dX5_readLaw_105 : decode cX5_readLaw 105 = .ok (.invokevirtual 215, 3) := dk_182 0 215 (dk_at dksX5_readLaw_4 12 rfl rfl)
theorem dX5_readLaw_108 : decode cX5_readLaw 108 = .ok (.ifCond .ne 9, 3) := dk_154 0 9 (dk_at dksX5_readLaw_4 15 rfl rfl)
theorem dX5_readLaw_111 : decode cX5_readLaw 111 = .ok (.aload_n 0, 1) := dk_42 (dk_at dksX5_readLaw_4 18 rfl rfl)
theorem dX5_readLaw_112 : decode cX5_readLaw 112 = .ok (.iconst 1, 1) := dk_4 (dk_at dksX5_readLaw_4 19 rfl rfl)
theorem dX5_readLaw_113 : decode cX5_readLaw 113 = .ok (.invokevirtual 201, 3) := dk_182 0 201 (dk_at dksX5_readLaw_4 20 rfl rfl)
theorem dX5_readLaw_116 : decode cX5_readLaw 116 = .ok (.ireturn, 1) := dk_172 (dk_at dksX5_readLaw_4 23 rfl rfl)
theorem dX5_readLaw_117 : decode cX5_readLaw 117 = .ok (.aload_n 0, 1) := dk_42 (dk_at dksX5_readLaw_5 0 rfl rfl)
theorem dX5_readLaw_118 : decode cX5_readLaw 118 = .ok (.invokevirtual 208, 3) := dk_182 0 208 (dk_at dksX5_readLaw_5 1 rfl rfl)
theorem dX5_readLaw_121 : decode cX5_readLaw 121 = .ok (.iload_n 1, 1) := dk_27 (dk_at dksX5_readLaw_5 4 rfl rfl)
theorem dX5_readLaw_122 : decode cX5_readLaw 122 = .ok (.iconst 1, 1) := dk_4 (dk_at dksX5_readLaw_5 5 rfl rfl)
theorem dX5_readLaw_123 : decode cX5_readLaw 123 = .ok (.iadd, 1) := dk_96 (dk_at dksX5_readLaw_5 6 rfl rfl)
theorem dX5_readLaw_124 : decode cX5_readLaw 124 = .ok (.istore_n 1, 1) := dk_60 (dk_at dksX5_readLaw_5 7 rfl rfl)
theorem dX5_readLaw_125 : decode cX5_readLaw 125 = .ok (.goto (-123), 3) := dk_167 255 133 (dk_at dksX5_readLaw_5 8 rfl rfl)
theorem dX5_readLaw_128 : decode cX5_readLaw 128 = .ok (.aload_n 0, 1) := dk_42 (dk_at dksX5_readLaw_5 11 rfl rfl)
theorem dX5_readLaw_129 : decode cX5_readLaw 129 = .ok (.getfield 170, 3) := dk_180 0 170 (dk_at dksX5_readLaw_5 12 rfl rfl)
theorem dX5_readLaw_132 : decode cX5_readLaw 132 = .ok (.ifCond .ne 7, 3) := dk_154 0 7 (dk_at dksX5_readLaw_5 15 rfl rfl)
theorem dX5_readLaw_135 : decode cX5_readLaw 135 = .ok (.iload_n 1, 1) := dk_27 (dk_at dksX5_readLaw_5 18 rfl rfl)
theorem dX5_readLaw_136 : decode cX5_readLaw 136 = .ok (.goto 8, 3) := dk_167 0 8 (dk_at dksX5_readLaw_5 19 rfl rfl)
theorem dX5_readLaw_139 : decode cX5_readLaw 139 = .ok (.aload_n 0, 1) := dk_42 (dk_at dksX5_readLaw_5 22 rfl rfl)
theorem dX5_readLaw_140 : decode cX5_readLaw 140 = .ok (.iconst 1, 1) := dk_4 (dk_at dksX5_readLaw_5 23 rfl rfl)
theorem dX5_readLaw_141 : decode cX5_readLaw 141 = .ok (.invokevirtual 201, 3) := dk_182 0 201 (dk_at dksX5_readLaw_6 0 rfl rfl)
theorem dX5_readLaw_144 : decode cX5_readLaw 144 = .ok (.ireturn, 1) := dk_172 (dk_at dksX5_readLaw_6 3 rfl rfl)
abbrev cX5_isLineWord : ByteArray := prog_22_method_50_code
def yX5_isLineWord : MethodName := ⟨RX5, "isLineWord", "()Z"⟩
def dkwX5_isLineWord_1 : List UInt8 := [4, 167, 0, 4, 3, 172]
abbrev dktX5_isLineWord_1 : List UInt8 := dkwX5_isLineWord_1 ++ []
def dkwX5_isLineWord_0 : List UInt8 := [42, 3, 182, 0, 230, 154, 0, 19, 42, 4, 182, 0, 230, 154, 0, 11, 42, 5, 182, 0, 230, 153, 0, 7]
abbrev dktX5_isLineWord_0 : List UInt8 := dkwX5_isLineWord_0 ++ dktX5_isLineWord_1
theorem dksX5_isLineWord_0 : cX5_isLineWord.data.toList.drop 0 = dktX5_isLineWord_0 := by decide +kernel
theorem dksX5_isLineWord_1 : cX5_isLineWord.data.toList.drop 24 = dktX5_isLineWord_1 := dk_seg dksX5_isLineWord_0 24 rfl rfl
theorem dX5_isLineWord_0 : decode cX5_isLineWord 0 = .ok (.aload_n 0, 1) := dk_42 (dk_at dksX5_isLineWord_0 0 rfl rfl)
theorem dX5_isLineWord_1 : decode cX5_isLineWord 1 = .ok (.iconst 0, 1) := dk_3 (dk_at dksX5_isLineWord_0 1 rfl rfl)
theorem dX5_isLineWord_2 : decode cX5_isLineWord 2 = .ok (.invokevirtual 230, 3) := dk_182 0 230 (dk_at dksX5_isLineWord_0 2 rfl rfl)
theorem dX5_isLineWord_5 : decode cX5_isLineWord 5 = .ok (.ifCond .ne 19, 3) := dk_154 0 19 (dk_at dksX5_isLineWord_0 5 rfl rfl)
theorem dX5_isLineWord_8 : decode cX5_isLineWord 8 = .ok (.aload_n 0, 1) := dk_42 (dk_at dksX5_isLineWord_0 8 rfl rfl)
theorem dX5_isLineWord_9 : decode cX5_isLineWord 9 = .ok (.iconst 1, 1) := dk_4 (dk_at dksX5_isLineWord_0 9 rfl rfl)
theorem dX5_isLineWord_10 : decode cX5_isLineWord 10 = .ok (.invokevirtual 230, 3) := dk_182 0 230 (dk_at dksX5_isLineWord_0 10 rfl rfl)
theorem dX5_isLineWord_13 : decode cX5_isLineWord 13 = .ok (.ifCond .ne 11, 3) := dk_154 0 11 (dk_at dksX5_isLineWord_0 13 rfl rfl)
theorem dX5_isLineWord_16 : decode cX5_isLineWord 16 = .ok (.aload_n 0, 1) := dk_42 (dk_at dksX5_isLineWord_0 16 rfl rfl)
theorem dX5_isLineWord_17 : decode cX5_isLineWord 17 = .ok (.iconst 2, 1) := dk_5 (dk_at dksX5_isLineWord_0 17 rfl rfl)
theorem dX5_isLineWord_18 : decode cX5_isLineWord 18 = .ok (.invokevirtual 230, 3) := dk_182 0 230 (dk_at dksX5_isLineWord_0 18 rfl rfl)
theorem dX5_isLineWord_21 : decode cX5_isLineWord 21 = .ok (.ifCond .eq 7, 3) := dk_153 0 7 (dk_at dksX5_isLineWord_0 21 rfl rfl)
theorem dX5_isLineWord_24 : decode cX5_isLineWord 24 = .ok (.iconst 1, 1) := dk_4 (dk_at dksX5_isLineWord_1 0 rfl rfl)
theorem dX5_isLineWord_25 : decode cX5_isLineWord 25 = .ok (.goto 4, 3) := dk_167 0 4 (dk_at dksX5_isLineWord_1 1 rfl rfl)
theorem dX5_isLineWord_28 : decode cX5_isLineWord 28 = .ok (.iconst 0, 1) := dk_3 (dk_at dksX5_isLineWord_1 4 rfl rfl)
theorem dX5_isLineWord_29 : decode cX5_isLineWord 29 = .ok (.ireturn, 1) := dk_172 (dk_at dksX5_isLineWord_1 5 rfl rfl)
abbrev cX5_readSum : ByteArray := prog_22_method_45_code
def yX5_readSum : MethodName := ⟨RX5, "readSum", "()I"⟩
def dkwX5_readSum_2 : List UInt8 := [182, 0, 208, 42, 182, 0, 218, 2, 160, 0, 5, 2, 172, 42, 27, 3, 182, 0, 204, 167, 255, 203, 3, 172]
abbrev dktX5_readSum_2 : List UInt8 := dkwX5_readSum_2 ++ []
def dkwX5_readSum_1 : List UInt8 := [182, 0, 215, 153, 0, 41, 42, 180, 0, 173, 16, 43, 160, 0, 7, 5, 167, 0, 4, 6, 60, 42]
abbrev dktX5_readSum_1 : List UInt8 := dkwX5_readSum_1 ++ dktX5_readSum_2
def dkwX5_readSum_0 : List UInt8 := [42, 182, 0, 218, 2, 160, 0, 5, 2, 172, 42, 16, 43, 182, 0, 215, 154, 0, 12, 42, 16, 45]
abbrev dktX5_readSum_0 : List UInt8 := dkwX5_readSum_0 ++ dktX5_readSum_1
theorem dksX5_readSum_0 : cX5_readSum.data.toList.drop 0 = dktX5_readSum_0 := by decide +kernel
theorem dksX5_readSum_1 : cX5_readSum.data.toList.drop 22 = dktX5_readSum_1 := dk_seg dksX5_readSum_0 22 rfl rfl
theorem dksX5_readSum_2 : cX5_readSum.data.toList.drop 44 = dktX5_readSum_2 := dk_seg dksX5_readSum_1 22 rfl rfl
theorem dX5_readSum_0 : decode cX5_readSum 0 = .ok (.aload_n 0, 1) := dk_42 (dk_at dksX5_readSum_0 0 rfl rfl)
theorem dX5_readSum_1 : decode cX5_readSum 1 = .ok (.invokevirtual 218, 3) := dk_182 0 218 (dk_at dksX5_readSum_0 1 rfl rfl)
theorem dX5_readSum_4 : decode cX5_readSum 4 = .ok (.iconst (-1), 1) := dk_2 (dk_at dksX5_readSum_0 4 rfl rfl)
theorem dX5_readSum_5 : decode cX5_readSum 5 = .ok (.if_icmp .ne 5, 3) := dk_160 0 5 (dk_at dksX5_readSum_0 5 rfl rfl)
theorem dX5_readSum_8 : decode cX5_readSum 8 = .ok (.iconst (-1), 1) := dk_2 (dk_at dksX5_readSum_0 8 rfl rfl)
theorem dX5_readSum_9 : decode cX5_readSum 9 = .ok (.ireturn, 1) := dk_172 (dk_at dksX5_readSum_0 9 rfl rfl)
theorem dX5_readSum_10 : decode cX5_readSum 10 = .ok (.aload_n 0, 1) := dk_42 (dk_at dksX5_readSum_0 10 rfl rfl)
theorem dX5_readSum_11 : decode cX5_readSum 11 = .ok (.bipush 43, 2) := dk_16 43 (dk_at dksX5_readSum_0 11 rfl rfl)
theorem dX5_readSum_13 : decode cX5_readSum 13 = .ok (.invokevirtual 215, 3) := dk_182 0 215 (dk_at dksX5_readSum_0 13 rfl rfl)
theorem dX5_readSum_16 : decode cX5_readSum 16 = .ok (.ifCond .ne 12, 3) := dk_154 0 12 (dk_at dksX5_readSum_0 16 rfl rfl)
theorem dX5_readSum_19 : decode cX5_readSum 19 = .ok (.aload_n 0, 1) := dk_42 (dk_at dksX5_readSum_0 19 rfl rfl)
theorem dX5_readSum_20 : decode cX5_readSum 20 = .ok (.bipush 45, 2) := dk_16 45 (dk_at dksX5_readSum_0 20 rfl rfl)
theorem dX5_readSum_22 : decode cX5_readSum 22 = .ok (.invokevirtual 215, 3) := dk_182 0 215 (dk_at dksX5_readSum_1 0 rfl rfl)
theorem dX5_readSum_25 : decode cX5_readSum 25 = .ok (.ifCond .eq 41, 3) := dk_153 0 41 (dk_at dksX5_readSum_1 3 rfl rfl)
theorem dX5_readSum_28 : decode cX5_readSum 28 = .ok (.aload_n 0, 1) := dk_42 (dk_at dksX5_readSum_1 6 rfl rfl)
theorem dX5_readSum_29 : decode cX5_readSum 29 = .ok (.getfield 173, 3) := dk_180 0 173 (dk_at dksX5_readSum_1 7 rfl rfl)
theorem dX5_readSum_32 : decode cX5_readSum 32 = .ok (.bipush 43, 2) := dk_16 43 (dk_at dksX5_readSum_1 10 rfl rfl)
theorem dX5_readSum_34 : decode cX5_readSum 34 = .ok (.if_icmp .ne 7, 3) := dk_160 0 7 (dk_at dksX5_readSum_1 12 rfl rfl)
theorem dX5_readSum_37 : decode cX5_readSum 37 = .ok (.iconst 2, 1) := dk_5 (dk_at dksX5_readSum_1 15 rfl rfl)
theorem dX5_readSum_38 : decode cX5_readSum 38 = .ok (.goto 4, 3) := dk_167 0 4 (dk_at dksX5_readSum_1 16 rfl rfl)
theorem dX5_readSum_41 : decode cX5_readSum 41 = .ok (.iconst 3, 1) := dk_6 (dk_at dksX5_readSum_1 19 rfl rfl)
theorem dX5_readSum_42 : decode cX5_readSum 42 = .ok (.istore_n 1, 1) := dk_60 (dk_at dksX5_readSum_1 20 rfl rfl)
theorem dX5_readSum_43 : decode cX5_readSum 43 = .ok (.aload_n 0, 1) := dk_42 (dk_at dksX5_readSum_1 21 rfl rfl)
theorem dX5_readSum_44 : decode cX5_readSum 44 = .ok (.invokevirtual 208, 3) := dk_182 0 208 (dk_at dksX5_readSum_2 0 rfl rfl)
theorem dX5_readSum_47 : decode cX5_readSum 47 = .ok (.aload_n 0, 1) := dk_42 (dk_at dksX5_readSum_2 3 rfl rfl)
theorem dX5_readSum_48 : decode cX5_readSum 48 = .ok (.invokevirtual 218, 3) := dk_182 0 218 (dk_at dksX5_readSum_2 4 rfl rfl)
theorem dX5_readSum_51 : decode cX5_readSum 51 = .ok (.iconst (-1), 1) := dk_2 (dk_at dksX5_readSum_2 7 rfl rfl)
theorem dX5_readSum_52 : decode cX5_readSum 52 = .ok (.if_icmp .ne 5, 3) := dk_160 0 5 (dk_at dksX5_readSum_2 8 rfl rfl)
theorem dX5_readSum_55 : decode cX5_readSum 55 = .ok (.iconst (-1), 1) := dk_2 (dk_at dksX5_readSum_2 11 rfl rfl)
theorem dX5_readSum_56 : decode cX5_readSum 56 = .ok (.ireturn, 1) := dk_172 (dk_at dksX5_readSum_2 12 rfl rfl)
theorem dX5_readSum_57 : decode cX5_readSum 57 = .ok (.aload_n 0, 1) := dk_42 (dk_at dksX5_readSum_2 13 rfl rfl)
theorem dX5_readSum_58 : decode cX5_readSum 58 = .ok (.iload_n 1, 1) := dk_27 (dk_at dksX5_readSum_2 14 rfl rfl)
theorem dX5_readSum_59 : decode cX5_readSum 59 = .ok (.iconst 0, 1) := dk_3 (dk_at dksX5_readSum_2 15 rfl rfl)
theorem dX5_readSum_60 : decode cX5_readSum 60 = .ok (.invokevirtual 204, 3) := dk_182 0 204 (dk_at dksX5_readSum_2 16 rfl rfl)
theorem dX5_readSum_63 : decode cX5_readSum 63 = .ok (.goto (-53), 3) := dk_167 255 203 (dk_at dksX5_readSum_2 19 rfl rfl)
theorem dX5_readSum_66 : decode cX5_readSum 66 = .ok (.iconst 0, 1) := dk_3 (dk_at dksX5_readSum_2 22 rfl rfl)
theorem dX5_readSum_67 : decode cX5_readSum 67 = .ok (.ireturn, 1) := dk_172 (dk_at dksX5_readSum_2 23 rfl rfl)
abbrev cX5_readProduct : ByteArray := prog_22_method_44_code
def yX5_readProduct : MethodName := ⟨RX5, "readProduct", "()I"⟩
def dkwX5_readProduct_4 : List UInt8 := [167, 0, 4, 8, 3, 182, 0, 204, 167, 255, 168, 3, 172]
abbrev dktX5_readProduct_4 : List UInt8 := dkwX5_readProduct_4 ++ []
def dkwX5_readProduct_3 : List UInt8 := [42, 5, 182, 0, 201, 172, 42, 182, 0, 211, 2, 160, 0, 5, 2, 172, 42, 27, 153, 0, 7, 7]
abbrev dktX5_readProduct_3 : List UInt8 := dkwX5_readProduct_3 ++ dktX5_readProduct_4
def dkwX5_readProduct_2 : List UInt8 := [180, 0, 170, 6, 159, 0, 9, 42, 4, 182, 0, 201, 172, 27, 154, 0, 16, 42, 180, 0, 173, 154, 0, 9]
abbrev dktX5_readProduct_2 : List UInt8 := dkwX5_readProduct_2 ++ dktX5_readProduct_3
def dkwX5_readProduct_1 : List UInt8 := [182, 0, 215, 153, 0, 76, 42, 16, 42, 182, 0, 215, 60, 42, 182, 0, 208, 27, 154, 0, 17, 42]
abbrev dktX5_readProduct_1 : List UInt8 := dkwX5_readProduct_1 ++ dktX5_readProduct_2
def dkwX5_readProduct_0 : List UInt8 := [42, 182, 0, 211, 2, 160, 0, 5, 2, 172, 42, 16, 42, 182, 0, 215, 154, 0, 12, 42, 16, 47]
abbrev dktX5_readProduct_0 : List UInt8 := dkwX5_readProduct_0 ++ dktX5_readProduct_1
theorem dksX5_readProduct_0 : cX5_readProduct.data.toList.drop 0 = dktX5_readProduct_0 := by decide +kernel
theorem dksX5_readProduct_1 : cX5_readProduct.data.toList.drop 22 = dktX5_readProduct_1 := dk_seg dksX5_readProduct_0 22 rfl rfl
theorem dksX5_readProduct_2 : cX5_readProduct.data.toList.drop 44 = dktX5_readProduct_2 := dk_seg dksX5_readProduct_1 22 rfl rfl
theorem dksX5_readProduct_3 : cX5_readProduct.data.toList.drop 68 = dktX5_readProduct_3 := dk_seg dksX5_readProduct_2 24 rfl rfl
theorem dksX5_readProduct_4 : cX5_readProduct.data.toList.drop 90 = dktX5_readProduct_4 := dk_seg dksX5_readProduct_3 22 rfl rfl
theorem dX5_readProduct_0 : decode cX5_readProduct 0 = .ok (.aload_n 0, 1) := dk_42 (dk_at dksX5_readProduct_0 0 rfl rfl)
theorem dX5_readProduct_1 : decode cX5_readProduct 1 = .ok (.invokevirtual 211, 3) := dk_182 0 211 (dk_at dksX5_readProduct_0 1 rfl rfl)
theorem dX5_readProduct_4 : decode cX5_readProduct 4 = .ok (.iconst (-1), 1) := dk_2 (dk_at dksX5_readProduct_0 4 rfl rfl)
theorem dX5_readProduct_5 : decode cX5_readProduct 5 = .ok (.if_icmp .ne 5, 3) := dk_160 0 5 (dk_at dksX5_readProduct_0 5 rfl rfl)
theorem dX5_readProduct_8 : decode cX5_readProduct 8 = .ok (.iconst (-1), 1) := dk_2 (dk_at dksX5_readProduct_0 8 rfl rfl)
theorem dX5_readProduct_9 : decode cX5_readProduct 9 = .ok (.ireturn, 1) := dk_172 (dk_at dksX5_readProduct_0 9 rfl rfl)
theorem dX5_readProduct_10 : decode cX5_readProduct 10 = .ok (.aload_n 0, 1) := dk_42 (dk_at dksX5_readProduct_0 10 rfl rfl)
theorem dX5_readProduct_11 : decode cX5_readProduct 11 = .ok (.bipush 42, 2) := dk_16 42 (dk_at dksX5_readProduct_0 11 rfl rfl)
theorem dX5_readProduct_13 : decode cX5_readProduct 13 = .ok (.invokevirtual 215, 3) := dk_182 0 215 (dk_at dksX5_readProduct_0 13 rfl rfl)
theorem dX5_readProduct_16 : decode cX5_readProduct 16 = .ok (.ifCond .ne 12, 3) := dk_154 0 12 (dk_at dksX5_readProduct_0 16 rfl rfl)
theorem dX5_readProduct_19 : decode cX5_readProduct 19 = .ok (.aload_n 0, 1) := dk_42 (dk_at dksX5_readProduct_0 19 rfl rfl)
theorem dX5_readProduct_20 : decode cX5_readProduct 20 = .ok (.bipush 47, 2) := dk_16 47 (dk_at dksX5_readProduct_0 20 rfl rfl)
theorem dX5_readProduct_22 : decode cX5_readProduct 22 = .ok (.invokevirtual 215, 3) := dk_182 0 215 (dk_at dksX5_readProduct_1 0 rfl rfl)
theorem dX5_readProduct_25 : decode cX5_readProduct 25 = .ok (.ifCond .eq 76, 3) := dk_153 0 76 (dk_at dksX5_readProduct_1 3 rfl rfl)
theorem dX5_readProduct_28 : decode cX5_readProduct 28 = .ok (.aload_n 0, 1) := dk_42 (dk_at dksX5_readProduct_1 6 rfl rfl)
theorem dX5_readProduct_29 : decode cX5_readProduct 29 = .ok (.bipush 42, 2) := dk_16 42 (dk_at dksX5_readProduct_1 7 rfl rfl)
theorem dX5_readProduct_31 : decode cX5_readProduct 31 = .ok (.invokevirtual 215, 3) := dk_182 0 215 (dk_at dksX5_readProduct_1 9 rfl rfl)
theorem dX5_readProduct_34 : decode cX5_readProduct 34 = .ok (.istore_n 1, 1) := dk_60 (dk_at dksX5_readProduct_1 12 rfl rfl)
theorem dX5_readProduct_35 : decode cX5_readProduct 35 = .ok (.aload_n 0, 1) := dk_42 (dk_at dksX5_readProduct_1 13 rfl rfl)
theorem dX5_readProduct_36 : decode cX5_readProduct 36 = .ok (.invokevirtual 208, 3) := dk_182 0 208 (dk_at dksX5_readProduct_1 14 rfl rfl)
theorem dX5_readProduct_39 : decode cX5_readProduct 39 = .ok (.iload_n 1, 1) := dk_27 (dk_at dksX5_readProduct_1 17 rfl rfl)
theorem dX5_readProduct_40 : decode cX5_readProduct 40 = .ok (.ifCond .ne 17, 3) := dk_154 0 17 (dk_at dksX5_readProduct_1 18 rfl rfl)
theorem dX5_readProduct_43 : decode cX5_readProduct 43 = .ok (.aload_n 0, 1) := dk_42 (dk_at dksX5_readProduct_1 21 rfl rfl)
theorem dX5_readProduct_44 : decode cX5_readProduct 44 = .ok (.getfield 170, 3) := dk_180 0 170 (dk_at dksX5_readProduct_2 0 rfl rfl)
theorem dX5_readProduct_47 : decode cX5_readProduct 47 = .ok (.iconst 3, 1) := dk_6 (dk_at dksX5_readProduct_2 3 rfl rfl)
theorem dX5_readProduct_48 : decode cX5_readProduct 48 = .ok (.if_icmp .eq 9, 3) := dk_159 0 9 (dk_at dksX5_readProduct_2 4 rfl rfl)
theorem dX5_readProduct_51 : decode cX5_readProduct 51 = .ok (.aload_n 0, 1) := dk_42 (dk_at dksX5_readProduct_2 7 rfl rfl)
theorem dX5_readProduct_52 : decode cX5_readProduct 52 = .ok (.iconst 1, 1) := dk_4 (dk_at dksX5_readProduct_2 8 rfl rfl)
theorem dX5_readProduct_53 : decode cX5_readProduct 53 = .ok (.invokevirtual 201, 3) := dk_182 0 201 (dk_at dksX5_readProduct_2 9 rfl rfl)
theorem dX5_readProduct_56 : decode cX5_readProduct 56 = .ok (.ireturn, 1) := dk_172 (dk_at dksX5_readProduct_2 12 rfl rfl)
theorem dX5_readProduct_57 : decode cX5_readProduct 57 = .ok (.iload_n 1, 1) := dk_27 (dk_at dksX5_readProduct_2 13 rfl rfl)
theorem dX5_readProduct_58 : decode cX5_readProduct 58 = .ok (.ifCond .ne 16, 3) := dk_154 0 16 (dk_at dksX5_readProduct_2 14 rfl rfl)
theorem dX5_readProduct_61 : decode cX5_readProduct 61 = .ok (.aload_n 0, 1) := dk_42 (dk_at dksX5_readProduct_2 17 rfl rfl)
theorem dX5_readProduct_62 : decode cX5_readProduct 62 = .ok (.getfield 173, 3) := dk_180 0 173 (dk_at dksX5_readProduct_2 18 rfl rfl)
theorem dX5_readProduct_65 : decode cX5_readProduct 65 = .ok (.ifCond .ne 9, 3) := dk_154 0 9 (dk_at dksX5_readProduct_2 21 rfl rfl)
theorem dX5_readProduct_68 : decode cX5_readProduct 68 = .ok (.aload_n 0, 1) := dk_42 (dk_at dksX5_readProduct_3 0 rfl rfl)
theorem dX5_readProduct_69 : decode cX5_readProduct 69 = .ok (.iconst 2, 1) := dk_5 (dk_at dksX5_readProduct_3 1 rfl rfl)
theorem dX5_readProduct_70 : decode cX5_readProduct 70 = .ok (.invokevirtual 201, 3) := dk_182 0 201 (dk_at dksX5_readProduct_3 2 rfl rfl)
theorem dX5_readProduct_73 : decode cX5_readProduct 73 = .ok (.ireturn, 1) := dk_172 (dk_at dksX5_readProduct_3 5 rfl rfl)
theorem dX5_readProduct_74 : decode cX5_readProduct 74 = .ok (.aload_n 0, 1) := dk_42 (dk_at dksX5_readProduct_3 6 rfl rfl)
theorem dX5_readProduct_75 : decode cX5_readProduct 75 = .ok (.invokevirtual 211, 3) := dk_182 0 211 (dk_at dksX5_readProduct_3 7 rfl rfl)
theorem dX5_readProduct_78 : decode cX5_readProduct 78 = .ok (.iconst (-1), 1) := dk_2 (dk_at dksX5_readProduct_3 10 rfl rfl)
theorem dX5_readProduct_79 : decode cX5_readProduct 79 = .ok (.if_icmp .ne 5, 3) := dk_160 0 5 (dk_at dksX5_readProduct_3 11 rfl rfl)
theorem dX5_readProduct_82 : decode cX5_readProduct 82 = .ok (.iconst (-1), 1) := dk_2 (dk_at dksX5_readProduct_3 14 rfl rfl)
theorem dX5_readProduct_83 : decode cX5_readProduct 83 = .ok (.ireturn, 1) := dk_172 (dk_at dksX5_readProduct_3 15 rfl rfl)
theorem dX5_readProduct_84 : decode cX5_readProduct 84 = .ok (.aload_n 0, 1) := dk_42 (dk_at dksX5_readProduct_3 16 rfl rfl)
theorem dX5_readProduct_85 : decode cX5_readProduct 85 = .ok (.iload_n 1, 1) := dk_27 (dk_at dksX5_readProduct_3 17 rfl rfl)
theorem dX5_readProduct_86 : decode cX5_readProduct 86 = .ok (.ifCond .eq 7, 3) := dk_153 0 7 (dk_at dksX5_readProduct_3 18 rfl rfl)
theorem dX5_readProduct_89 : decode cX5_readProduct 89 = .ok (.iconst 4, 1) := dk_7 (dk_at dksX5_readProduct_3 21 rfl rfl)
theorem dX5_readProduct_90 : decode cX5_readProduct 90 = .ok (.goto 4, 3) := dk_167 0 4 (dk_at dksX5_readProduct_4 0 rfl rfl)
theorem dX5_readProduct_93 : decode cX5_readProduct 93 = .ok (.iconst 5, 1) := dk_8 (dk_at dksX5_readProduct_4 3 rfl rfl)
theorem dX5_readProduct_94 : decode cX5_readProduct 94 = .ok (.iconst 0, 1) := dk_3 (dk_at dksX5_readProduct_4 4 rfl rfl)
theorem dX5_readProduct_95 : decode cX5_readProduct 95 = .ok (.invokevirtual 204, 3) := dk_182 0 204 (dk_at dksX5_readProduct_4 5 rfl rfl)
theorem dX5_readProduct_98 : decode cX5_readProduct 98 = .ok (.goto (-88), 3) := dk_167 255 168 (dk_at dksX5_readProduct_4 8 rfl rfl)
theorem dX5_readProduct_101 : decode cX5_readProduct 101 = .ok (.iconst 0, 1) := dk_3 (dk_at dksX5_readProduct_4 11 rfl rfl)
theorem dX5_readProduct_102 : decode cX5_readProduct 102 = .ok (.ireturn, 1) := dk_172 (dk_at dksX5_readProduct_4 12 rfl rfl)
abbrev cX5_readUnit : ByteArray := prog_22_method_43_code
def yX5_readUnit : MethodName := ⟨RX5, "readUnit", "()I"⟩
def dkwX5_readUnit_3 : List UInt8 := [182, 0, 204, 42, 182, 0, 208, 3, 172]
abbrev dktX5_readUnit_3 : List UInt8 := dkwX5_readUnit_3 ++ []
def dkwX5_readUnit_2 : List UInt8 := [4, 167, 0, 4, 3, 27, 153, 0, 13, 42, 180, 0, 173, 16, 7, 100, 167, 0, 7, 42, 180, 0, 173]
abbrev dktX5_readUnit_2 : List UInt8 := dkwX5_readUnit_2 ++ dktX5_readUnit_3
def dkwX5_readUnit_1 : List UInt8 := [60, 27, 154, 0, 17, 42, 180, 0, 170, 6, 159, 0, 9, 42, 4, 182, 0, 201, 172, 42, 27, 153, 0, 7]
abbrev dktX5_readUnit_1 : List UInt8 := dkwX5_readUnit_1 ++ dktX5_readUnit_2
def dkwX5_readUnit_0 : List UInt8 := [42, 180, 0, 170, 5, 160, 0, 18, 42, 42, 180, 0, 173, 182, 0, 198, 153, 0, 7, 4, 167, 0, 4, 3]
abbrev dktX5_readUnit_0 : List UInt8 := dkwX5_readUnit_0 ++ dktX5_readUnit_1
theorem dksX5_readUnit_0 : cX5_readUnit.data.toList.drop 0 = dktX5_readUnit_0 := by decide +kernel
theorem dksX5_readUnit_1 : cX5_readUnit.data.toList.drop 24 = dktX5_readUnit_1 := dk_seg dksX5_readUnit_0 24 rfl rfl
theorem dksX5_readUnit_2 : cX5_readUnit.data.toList.drop 48 = dktX5_readUnit_2 := dk_seg dksX5_readUnit_1 24 rfl rfl
theorem dksX5_readUnit_3 : cX5_readUnit.data.toList.drop 71 = dktX5_readUnit_3 := dk_seg dksX5_readUnit_2 23 rfl rfl
theorem dX5_readUnit_0 : decode cX5_readUnit 0 = .ok (.aload_n 0, 1) := dk_42 (dk_at dksX5_readUnit_0 0 rfl rfl)
theorem dX5_readUnit_1 : decode cX5_readUnit 1 = .ok (.getfield 170, 3) := dk_180 0 170 (dk_at dksX5_readUnit_0 1 rfl rfl)
theorem dX5_readUnit_4 : decode cX5_readUnit 4 = .ok (.iconst 2, 1) := dk_5 (dk_at dksX5_readUnit_0 4 rfl rfl)
theorem dX5_readUnit_5 : decode cX5_readUnit 5 = .ok (.if_icmp .ne 18, 3) := dk_160 0 18 (dk_at dksX5_readUnit_0 5 rfl rfl)
theorem dX5_readUnit_8 : decode cX5_readUnit 8 = .ok (.aload_n 0, 1) := dk_42 (dk_at dksX5_readUnit_0 8 rfl rfl)
theorem dX5_readUnit_9 : decode cX5_readUnit 9 = .ok (.aload_n 0, 1) := dk_42 (dk_at dksX5_readUnit_0 9 rfl rfl)
theorem dX5_readUnit_10 : decode cX5_readUnit 10 = .ok (.getfield 173, 3) := dk_180 0 173 (dk_at dksX5_readUnit_0 10 rfl rfl)
theorem dX5_readUnit_13 : decode cX5_readUnit 13 = .ok (.invokevirtual 198, 3) := dk_182 0 198 (dk_at dksX5_readUnit_0 13 rfl rfl)
theorem dX5_readUnit_16 : decode cX5_readUnit 16 = .ok (.ifCond .eq 7, 3) := dk_153 0 7 (dk_at dksX5_readUnit_0 16 rfl rfl)
theorem dX5_readUnit_19 : decode cX5_readUnit 19 = .ok (.iconst 1, 1) := dk_4 (dk_at dksX5_readUnit_0 19 rfl rfl)
theorem dX5_readUnit_20 : decode cX5_readUnit 20 = .ok (.goto 4, 3) := dk_167 0 4 (dk_at dksX5_readUnit_0 20 rfl rfl)
theorem dX5_readUnit_23 : decode cX5_readUnit 23 = .ok (.iconst 0, 1) := dk_3 (dk_at dksX5_readUnit_0 23 rfl rfl)
theorem dX5_readUnit_24 : decode cX5_readUnit 24 = .ok (.istore_n 1, 1) := dk_60 (dk_at dksX5_readUnit_1 0 rfl rfl)
theorem dX5_readUnit_25 : decode cX5_readUnit 25 = .ok (.iload_n 1, 1) := dk_27 (dk_at dksX5_readUnit_1 1 rfl rfl)
theorem dX5_readUnit_26 : decode cX5_readUnit 26 = .ok (.ifCond .ne 17, 3) := dk_154 0 17 (dk_at dksX5_readUnit_1 2 rfl rfl)
theorem dX5_readUnit_29 : decode cX5_readUnit 29 = .ok (.aload_n 0, 1) := dk_42 (dk_at dksX5_readUnit_1 5 rfl rfl)
theorem dX5_readUnit_30 : decode cX5_readUnit 30 = .ok (.getfield 170, 3) := dk_180 0 170 (dk_at dksX5_readUnit_1 6 rfl rfl)
theorem dX5_readUnit_33 : decode cX5_readUnit 33 = .ok (.iconst 3, 1) := dk_6 (dk_at dksX5_readUnit_1 9 rfl rfl)
theorem dX5_readUnit_34 : decode cX5_readUnit 34 = .ok (.if_icmp .eq 9, 3) := dk_159 0 9 (dk_at dksX5_readUnit_1 10 rfl rfl)
theorem dX5_readUnit_37 : decode cX5_readUnit 37 = .ok (.aload_n 0, 1) := dk_42 (dk_at dksX5_readUnit_1 13 rfl rfl)
theorem dX5_readUnit_38 : decode cX5_readUnit 38 = .ok (.iconst 1, 1) := dk_4 (dk_at dksX5_readUnit_1 14 rfl rfl)
theorem dX5_readUnit_39 : decode cX5_readUnit 39 = .ok (.invokevirtual 201, 3) := dk_182 0 201 (dk_at dksX5_readUnit_1 15 rfl rfl)
theorem dX5_readUnit_42 : decode cX5_readUnit 42 = .ok (.ireturn, 1) := dk_172 (dk_at dksX5_readUnit_1 18 rfl rfl)
theorem dX5_readUnit_43 : decode cX5_readUnit 43 = .ok (.aload_n 0, 1) := dk_42 (dk_at dksX5_readUnit_1 19 rfl rfl)
theorem dX5_readUnit_44 : decode cX5_readUnit 44 = .ok (.iload_n 1, 1) := dk_27 (dk_at dksX5_readUnit_1 20 rfl rfl)
theorem dX5_readUnit_45 : decode cX5_readUnit 45 = .ok (.ifCond .eq 7, 3) := dk_153 0 7 (dk_at dksX5_readUnit_1 21 rfl rfl)
theorem dX5_readUnit_48 : decode cX5_readUnit 48 = .ok (.iconst 1, 1) := dk_4 (dk_at dksX5_readUnit_2 0 rfl rfl)
theorem dX5_readUnit_49 : decode cX5_readUnit 49 = .ok (.goto 4, 3) := dk_167 0 4 (dk_at dksX5_readUnit_2 1 rfl rfl)
theorem dX5_readUnit_52 : decode cX5_readUnit 52 = .ok (.iconst 0, 1) := dk_3 (dk_at dksX5_readUnit_2 4 rfl rfl)
theorem dX5_readUnit_53 : decode cX5_readUnit 53 = .ok (.iload_n 1, 1) := dk_27 (dk_at dksX5_readUnit_2 5 rfl rfl)
theorem dX5_readUnit_54 : decode cX5_readUnit 54 = .ok (.ifCond .eq 13, 3) := dk_153 0 13 (dk_at dksX5_readUnit_2 6 rfl rfl)
theorem dX5_readUnit_57 : decode cX5_readUnit 57 = .ok (.aload_n 0, 1) := dk_42 (dk_at dksX5_readUnit_2 9 rfl rfl)
theorem dX5_readUnit_58 : decode cX5_readUnit 58 = .ok (.getfield 173, 3) := dk_180 0 173 (dk_at dksX5_readUnit_2 10 rfl rfl)
theorem dX5_readUnit_61 : decode cX5_readUnit 61 = .ok (.bipush 7, 2) := dk_16 7 (dk_at dksX5_readUnit_2 13 rfl rfl)
theorem dX5_readUnit_63 : decode cX5_readUnit 63 = .ok (.isub, 1) := dk_100 (dk_at dksX5_readUnit_2 15 rfl rfl)
theorem dX5_readUnit_64 : decode cX5_readUnit 64 = .ok (.goto 7, 3) := dk_167 0 7 (dk_at dksX5_readUnit_2 16 rfl rfl)
theorem dX5_readUnit_67 : decode cX5_readUnit 67 = .ok (.aload_n 0, 1) := dk_42 (dk_at dksX5_readUnit_2 19 rfl rfl)
theorem dX5_readUnit_68 : decode cX5_readUnit 68 = .ok (.getfield 173, 3) := dk_180 0 173 (dk_at dksX5_readUnit_2 20 rfl rfl)
theorem dX5_readUnit_71 : decode cX5_readUnit 71 = .ok (.invokevirtual 204, 3) := dk_182 0 204 (dk_at dksX5_readUnit_3 0 rfl rfl)
theorem dX5_readUnit_74 : decode cX5_readUnit 74 = .ok (.aload_n 0, 1) := dk_42 (dk_at dksX5_readUnit_3 3 rfl rfl)
theorem dX5_readUnit_75 : decode cX5_readUnit 75 = .ok (.invokevirtual 208, 3) := dk_182 0 208 (dk_at dksX5_readUnit_3 4 rfl rfl)
theorem dX5_readUnit_78 : decode cX5_readUnit 78 = .ok (.iconst 0, 1) := dk_3 (dk_at dksX5_readUnit_3 7 rfl rfl)
theorem dX5_readUnit_79 : decode cX5_readUnit 79 = .ok (.ireturn, 1) := dk_172 (dk_at dksX5_readUnit_3 8 rfl rfl)
abbrev cX5_canAsk : ByteArray := prog_22_method_42_code
def yX5_canAsk : MethodName := ⟨RX5, "canAsk", "(I)Z"⟩
def dkwX5_canAsk_0 : List UInt8 := [42, 27, 16, 7, 16, 15, 182, 0, 126, 172]
abbrev dktX5_canAsk_0 : List UInt8 := dkwX5_canAsk_0 ++ []
theorem dksX5_canAsk_0 : cX5_canAsk.data.toList.drop 0 = dktX5_canAsk_0 := by decide +kernel
theorem dX5_canAsk_0 : decode cX5_canAsk 0 = .ok (.aload_n 0, 1) := dk_42 (dk_at dksX5_canAsk_0 0 rfl rfl)
theorem dX5_canAsk_1 : decode cX5_canAsk 1 = .ok (.iload_n 1, 1) := dk_27 (dk_at dksX5_canAsk_0 1 rfl rfl)
theorem dX5_canAsk_2 : decode cX5_canAsk 2 = .ok (.bipush 7, 2) := dk_16 7 (dk_at dksX5_canAsk_0 2 rfl rfl)
theorem dX5_canAsk_4 : decode cX5_canAsk 4 = .ok (.bipush 15, 2) := dk_16 15 (dk_at dksX5_canAsk_0 4 rfl rfl)
theorem dX5_canAsk_6 : decode cX5_canAsk 6 = .ok (.invokevirtual 126, 3) := dk_182 0 126 (dk_at dksX5_canAsk_0 6 rfl rfl)
theorem dX5_canAsk_9 : decode cX5_canAsk 9 = .ok (.ireturn, 1) := dk_172 (dk_at dksX5_canAsk_0 9 rfl rfl)
abbrev cX5_emits : ByteArray := prog_22_method_41_code
def yX5_emits : MethodName := ⟨RX5, "emits", "(II)V"⟩
def dkwX5_emits_1 : List UInt8 := [180, 0, 195, 96, 28, 79, 42, 42, 180, 0, 195, 4, 96, 181, 0, 195, 177]
abbrev dktX5_emits_1 : List UInt8 := dkwX5_emits_1 ++ []
def dkwX5_emits_0 : List UInt8 := [42, 180, 0, 43, 17, 3, 32, 42, 180, 0, 195, 96, 27, 79, 42, 180, 0, 46, 17, 3, 32, 42]
abbrev dktX5_emits_0 : List UInt8 := dkwX5_emits_0 ++ dktX5_emits_1
theorem dksX5_emits_0 : cX5_emits.data.toList.drop 0 = dktX5_emits_0 := by decide +kernel
theorem dksX5_emits_1 : cX5_emits.data.toList.drop 22 = dktX5_emits_1 := dk_seg dksX5_emits_0 22 rfl rfl
theorem dX5_emits_0 : decode cX5_emits 0 = .ok (.aload_n 0, 1) := dk_42 (dk_at dksX5_emits_0 0 rfl rfl)
theorem dX5_emits_1 : decode cX5_emits 1 = .ok (.getfield 43, 3) := dk_180 0 43 (dk_at dksX5_emits_0 1 rfl rfl)
theorem dX5_emits_4 : decode cX5_emits 4 = .ok (.sipush 800, 3) := dk_17 3 32 (dk_at dksX5_emits_0 4 rfl rfl)
theorem dX5_emits_7 : decode cX5_emits 7 = .ok (.aload_n 0, 1) := dk_42 (dk_at dksX5_emits_0 7 rfl rfl)
theorem dX5_emits_8 : decode cX5_emits 8 = .ok (.getfield 195, 3) := dk_180 0 195 (dk_at dksX5_emits_0 8 rfl rfl)
theorem dX5_emits_11 : decode cX5_emits 11 = .ok (.iadd, 1) := dk_96 (dk_at dksX5_emits_0 11 rfl rfl)
theorem dX5_emits_12 : decode cX5_emits 12 = .ok (.iload_n 1, 1) := dk_27 (dk_at dksX5_emits_0 12 rfl rfl)
theorem dX5_emits_13 : decode cX5_emits 13 = .ok (.iastore, 1) := dk_79 (dk_at dksX5_emits_0 13 rfl rfl)
theorem dX5_emits_14 : decode cX5_emits 14 = .ok (.aload_n 0, 1) := dk_42 (dk_at dksX5_emits_0 14 rfl rfl)
theorem dX5_emits_15 : decode cX5_emits 15 = .ok (.getfield 46, 3) := dk_180 0 46 (dk_at dksX5_emits_0 15 rfl rfl)
theorem dX5_emits_18 : decode cX5_emits 18 = .ok (.sipush 800, 3) := dk_17 3 32 (dk_at dksX5_emits_0 18 rfl rfl)
theorem dX5_emits_21 : decode cX5_emits 21 = .ok (.aload_n 0, 1) := dk_42 (dk_at dksX5_emits_0 21 rfl rfl)
theorem dX5_emits_22 : decode cX5_emits 22 = .ok (.getfield 195, 3) := dk_180 0 195 (dk_at dksX5_emits_1 0 rfl rfl)
theorem dX5_emits_25 : decode cX5_emits 25 = .ok (.iadd, 1) := dk_96 (dk_at dksX5_emits_1 3 rfl rfl)
theorem dX5_emits_26 : decode cX5_emits 26 = .ok (.iload_n 2, 1) := dk_28 (dk_at dksX5_emits_1 4 rfl rfl)
theorem dX5_emits_27 : decode cX5_emits 27 = .ok (.iastore, 1) := dk_79 (dk_at dksX5_emits_1 5 rfl rfl)
theorem dX5_emits_28 : decode cX5_emits 28 = .ok (.aload_n 0, 1) := dk_42 (dk_at dksX5_emits_1 6 rfl rfl)
theorem dX5_emits_29 : decode cX5_emits 29 = .ok (.aload_n 0, 1) := dk_42 (dk_at dksX5_emits_1 7 rfl rfl)
theorem dX5_emits_30 : decode cX5_emits 30 = .ok (.getfield 195, 3) := dk_180 0 195 (dk_at dksX5_emits_1 8 rfl rfl)
theorem dX5_emits_33 : decode cX5_emits 33 = .ok (.iconst 1, 1) := dk_4 (dk_at dksX5_emits_1 11 rfl rfl)
theorem dX5_emits_34 : decode cX5_emits 34 = .ok (.iadd, 1) := dk_96 (dk_at dksX5_emits_1 12 rfl rfl)
theorem dX5_emits_35 : decode cX5_emits 35 = .ok (.putfield 195, 3) := dk_181 0 195 (dk_at dksX5_emits_1 13 rfl rfl)
theorem dX5_emits_38 : decode cX5_emits 38 = .ok (.return_, 1) := dk_177 (dk_at dksX5_emits_1 16 rfl rfl)
abbrev cX5_readAny : ByteArray := prog_22_method_49_code
def yX5_readAny : MethodName := ⟨RX5, "readAny", "()I"⟩
def dkwX5_readAny_10 : List UInt8 := [16, 9, 182, 0, 239, 42, 182, 0, 208, 167, 255, 25]
abbrev dktX5_readAny_10 : List UInt8 := dkwX5_readAny_10 ++ []
def dkwX5_readAny_9 : List UInt8 := [180, 0, 224, 4, 100, 181, 0, 224, 27, 4, 100, 60, 42, 42, 180, 0, 227, 4, 100, 181, 0, 227, 42]
abbrev dktX5_readAny_9 : List UInt8 := dkwX5_readAny_9 ++ dktX5_readAny_10
def dkwX5_readAny_8 : List UInt8 := [154, 0, 5, 3, 172, 42, 16, 41, 182, 0, 215, 154, 0, 9, 42, 4, 182, 0, 201, 172, 42, 42]
abbrev dktX5_readAny_8 : List UInt8 := dkwX5_readAny_8 ++ dktX5_readAny_9
def dkwX5_readAny_7 : List UInt8 := [42, 182, 0, 208, 4, 61, 167, 255, 95, 42, 16, 10, 182, 0, 239, 42, 16, 11, 182, 0, 239, 27]
abbrev dktX5_readAny_7 : List UInt8 := dkwX5_readAny_7 ++ dktX5_readAny_8
def dkwX5_readAny_6 : List UInt8 := [182, 0, 230, 153, 0, 30, 42, 16, 10, 182, 0, 239, 42, 16, 11, 182, 0, 239, 42, 16, 11, 182, 0, 233]
abbrev dktX5_readAny_6 : List UInt8 := dkwX5_readAny_6 ++ dktX5_readAny_7
def dkwX5_readAny_5 : List UInt8 := [42, 16, 10, 182, 0, 239, 42, 16, 10, 182, 0, 233, 42, 182, 0, 208, 4, 61, 167, 255, 130, 42, 7]
abbrev dktX5_readAny_5 : List UInt8 := dkwX5_readAny_5 ++ dktX5_readAny_6
def dkwX5_readAny_4 : List UInt8 := [160, 0, 5, 2, 172, 42, 16, 9, 182, 0, 239, 3, 61, 167, 255, 159, 42, 8, 182, 0, 230, 153, 0, 24]
abbrev dktX5_readAny_4 : List UInt8 := dkwX5_readAny_4 ++ dktX5_readAny_5
def dkwX5_readAny_3 : List UInt8 := [16, 9, 167, 0, 5, 16, 12, 182, 0, 233, 42, 182, 0, 208, 167, 255, 180, 42, 182, 0, 236, 2]
abbrev dktX5_readAny_3 : List UInt8 := dkwX5_readAny_3 ++ dktX5_readAny_4
def dkwX5_readAny_2 : List UInt8 := [42, 42, 180, 0, 227, 4, 96, 181, 0, 227, 29, 154, 0, 7, 27, 4, 96, 60, 42, 29, 153, 0, 8]
abbrev dktX5_readAny_2 : List UInt8 := dkwX5_readAny_2 ++ dktX5_readAny_3
def dkwX5_readAny_1 : List UInt8 := [42, 16, 40, 182, 0, 215, 153, 0, 58, 42, 180, 0, 227, 16, 8, 160, 0, 9, 42, 6, 182, 0, 201, 172]
abbrev dktX5_readAny_1 : List UInt8 := dkwX5_readAny_1 ++ dktX5_readAny_2
def dkwX5_readAny_0 : List UInt8 := [3, 60, 42, 3, 181, 0, 224, 4, 61, 28, 153, 0, 99, 42, 16, 6, 182, 0, 230, 62, 29, 154, 0, 12]
abbrev dktX5_readAny_0 : List UInt8 := dkwX5_readAny_0 ++ dktX5_readAny_1
theorem dksX5_readAny_0 : cX5_readAny.data.toList.drop 0 = dktX5_readAny_0 := by decide +kernel
theorem dksX5_readAny_1 : cX5_readAny.data.toList.drop 24 = dktX5_readAny_1 := dk_seg dksX5_readAny_0 24 rfl rfl
theorem dksX5_readAny_2 : cX5_readAny.data.toList.drop 48 = dktX5_readAny_2 := dk_seg dksX5_readAny_1 24 rfl rfl
theorem dksX5_readAny_3 : cX5_readAny.data.toList.drop 71 = dktX5_readAny_3 := dk_seg dksX5_readAny_2 23 rfl rfl
theorem dksX5_readAny_4 : cX5_readAny.data.toList.drop 93 = dktX5_readAny_4 := dk_seg dksX5_readAny_3 22 rfl rfl
theorem dksX5_readAny_5 : cX5_readAny.data.toList.drop 117 = dktX5_readAny_5 := dk_seg dksX5_readAny_4 24 rfl rfl
theorem dksX5_readAny_6 : cX5_readAny.data.toList.drop 140 = dktX5_readAny_6 := dk_seg dksX5_readAny_5 23 rfl rfl
theorem dksX5_readAny_7 : cX5_readAny.data.toList.drop 164 = dktX5_readAny_7 := dk_seg dksX5_readAny_6 24 rfl rfl
theorem dksX5_readAny_8 : cX5_readAny.data.toList.drop 186 = dktX5_readAny_8 := dk_seg dksX5_readAny_7 22 rfl rfl
theorem dksX5_readAny_9 : cX5_readAny.data.toList.drop 208 = dktX5_readAny_9 := dk_seg dksX5_readAny_8 22 rfl rfl
theorem dksX5_readAny_10 : cX5_readAny.data.toList.drop 231 = dktX5_readAny_10 := dk_seg dksX5_readAny_9 23 rfl rfl
theorem dX5_readAny_0 : decode cX5_readAny 0 = .ok (.iconst 0, 1) := dk_3 (dk_at dksX5_readAny_0 0 rfl rfl)
theorem dX5_readAny_1 : decode cX5_readAny 1 = .ok (.istore_n 1, 1) := dk_60 (dk_at dksX5_readAny_0 1 rfl rfl)
theorem dX5_readAny_2 : decode cX5_readAny 2 = .ok (.aload_n 0, 1) := dk_42 (dk_at dksX5_readAny_0 2 rfl rfl)
theorem dX5_readAny_3 : decode cX5_readAny 3 = .ok (.iconst 0, 1) := dk_3 (dk_at dksX5_readAny_0 3 rfl rfl)
theorem dX5_readAny_4 : decode cX5_readAny 4 = .ok (.putfield 224, 3) := dk_181 0 224 (dk_at dksX5_readAny_0 4 rfl rfl)
theorem dX5_readAny_7 : decode cX5_readAny 7 = .ok (.iconst 1, 1) := dk_4 (dk_at dksX5_readAny_0 7 rfl rfl)
theorem dX5_readAny_8 : decode cX5_readAny 8 = .ok (.istore_n 2, 1) := dk_61 (dk_at dksX5_readAny_0 8 rfl rfl)
theorem dX5_readAny_9 : decode cX5_readAny 9 = .ok (.iload_n 2, 1) := dk_28 (dk_at dksX5_readAny_0 9 rfl rfl)
theorem dX5_readAny_10 : decode cX5_readAny 10 = .ok (.ifCond .eq 99, 3) := dk_153 0 99 (dk_at dksX5_readAny_0 10 rfl rfl)
theorem dX5_readAny_13 : decode cX5_readAny 13 = .ok (.aload_n 0, 1) := dk_42 (dk_at dksX5_readAny_0 13 rfl rfl)
theorem dX5_readAny_14 : decode cX5_readAny 14 = .ok (.bipush 6, 2) := dk_16 6 (dk_at dksX5_readAny_0 14 rfl rfl)
theorem dX5_readAny_16 : decode cX5_readAny 16 = .ok (.invokevirtual 230, 3) := dk_182 0 230 (dk_at dksX5_readAny_0 16 rfl rfl)
theorem dX5_readAny_19 : decode cX5_readAny 19 = .ok (.istore_n 3, 1) := dk_62 (dk_at dksX5_readAny_0 19 rfl rfl)
theorem dX5_readAny_20 : decode cX5_readAny 20 = .ok (.iload_n 3, 1) := dk_29 (dk_at dksX5_readAny_0 20 rfl rfl)
theorem dX5_readAny_21 : decode cX5_readAny 21 = .ok (.ifCond .ne 12, 3) := dk_154 0 12 (dk_at dksX5_readAny_0 21 rfl rfl)
theorem dX5_readAny_24 : decode cX5_readAny 24 = .ok (.aload_n 0, 1) := dk_42 (dk_at dksX5_readAny_1 0 rfl rfl)
theorem dX5_readAny_25 : decode cX5_readAny 25 = .ok (.bipush 40, 2) := dk_16 40 (dk_at dksX5_readAny_1 1 rfl rfl)
theorem dX5_readAny_27 : decode cX5_readAny 27 = .ok (.invokevirtual 215, 3) := dk_182 0 215 (dk_at dksX5_readAny_1 3 rfl rfl)
theorem dX5_readAny_30 : decode cX5_readAny 30 = .ok (.ifCond .eq 58, 3) := dk_153 0 58 (dk_at dksX5_readAny_1 6 rfl rfl)
theorem dX5_readAny_33 : decode cX5_readAny 33 = .ok (.aload_n 0, 1) := dk_42 (dk_at dksX5_readAny_1 9 rfl rfl)
theorem dX5_readAny_34 : decode cX5_readAny 34 = .ok (.getfield 227, 3) := dk_180 0 227 (dk_at dksX5_readAny_1 10 rfl rfl)
theorem dX5_readAny_37 : decode cX5_readAny 37 = .ok (.bipush 8, 2) := dk_16 8 (dk_at dksX5_readAny_1 13 rfl rfl)
theorem dX5_readAny_39 : decode cX5_readAny 39 = .ok (.if_icmp .ne 9, 3) := dk_160 0 9 (dk_at dksX5_readAny_1 15 rfl rfl)
theorem dX5_readAny_42 : decode cX5_readAny 42 = .ok (.aload_n 0, 1) := dk_42 (dk_at dksX5_readAny_1 18 rfl rfl)
theorem dX5_readAny_43 : decode cX5_readAny 43 = .ok (.iconst 3, 1) := dk_6 (dk_at dksX5_readAny_1 19 rfl rfl)
theorem dX5_readAny_44 : decode cX5_readAny 44 = .ok (.invokevirtual 201, 3) := dk_182 0 201 (dk_at dksX5_readAny_1 20 rfl rfl)
theorem dX5_readAny_47 : decode cX5_readAny 47 = .ok (.ireturn, 1) := dk_172 (dk_at dksX5_readAny_1 23 rfl rfl)
theorem dX5_readAny_48 : decode cX5_readAny 48 = .ok (.aload_n 0, 1) := dk_42 (dk_at dksX5_readAny_2 0 rfl rfl)
theorem dX5_readAny_49 : decode cX5_readAny 49 = .ok (.aload_n 0, 1) := dk_42 (dk_at dksX5_readAny_2 1 rfl rfl)
theorem dX5_readAny_50 : decode cX5_readAny 50 = .ok (.getfield 227, 3) := dk_180 0 227 (dk_at dksX5_readAny_2 2 rfl rfl)
theorem dX5_readAny_53 : decode cX5_readAny 53 = .ok (.iconst 1, 1) := dk_4 (dk_at dksX5_readAny_2 5 rfl rfl)
theorem dX5_readAny_54 : decode cX5_readAny 54 = .ok (.iadd, 1) := dk_96 (dk_at dksX5_readAny_2 6 rfl rfl)
theorem dX5_readAny_55 : decode cX5_readAny 55 = .ok (.putfield 227, 3) := dk_181 0 227 (dk_at dksX5_readAny_2 7 rfl rfl)
theorem dX5_readAny_58 : decode cX5_readAny 58 = .ok (.iload_n 3, 1) := dk_29 (dk_at dksX5_readAny_2 10 rfl rfl)
theorem dX5_readAny_59 : decode cX5_readAny 59 = .ok (.ifCond .ne 7, 3) := dk_154 0 7 (dk_at dksX5_readAny_2 11 rfl rfl)
theorem dX5_readAny_62 : decode cX5_readAny 62 = .ok (.iload_n 1, 1) := dk_27 (dk_at dksX5_readAny_2 14 rfl rfl)
theorem dX5_readAny_63 : decode cX5_readAny 63 = .ok (.iconst 1, 1) := dk_4 (dk_at dksX5_readAny_2 15 rfl rfl)
theorem dX5_readAny_64 : decode cX5_readAny 64 = .ok (.iadd, 1) := dk_96 (dk_at dksX5_readAny_2 16 rfl rfl)
theorem dX5_readAny_65 : decode cX5_readAny 65 = .ok (.istore_n 1, 1) := dk_60 (dk_at dksX5_readAny_2 17 rfl rfl)
theorem dX5_readAny_66 : decode cX5_readAny 66 = .ok (.aload_n 0, 1) := dk_42 (dk_at dksX5_readAny_2 18 rfl rfl)
theorem dX5_readAny_67 : decode cX5_readAny 67 = .ok (.iload_n 3, 1) := dk_29 (dk_at dksX5_readAny_2 19 rfl rfl)
theorem dX5_readAny_68 : decode cX5_readAny 68 = .ok (.ifCond .eq 8, 3) := dk_153 0 8 (dk_at dksX5_readAny_2 20 rfl rfl)
theorem dX5_readAny_71 : decode cX5_readAny 71 = .ok (.bipush 9, 2) := dk_16 9 (dk_at dksX5_readAny_3 0 rfl rfl)
theorem dX5_readAny_73 : decode cX5_readAny 73 = .ok (.goto 5, 3) := dk_167 0 5 (dk_at dksX5_readAny_3 2 rfl rfl)
theorem dX5_readAny_76 : decode cX5_readAny 76 = .ok (.bipush 12, 2) := dk_16 12 (dk_at dksX5_readAny_3 5 rfl rfl)
theorem dX5_readAny_78 : decode cX5_readAny 78 = .ok (.invokevirtual 233, 3) := dk_182 0 233 (dk_at dksX5_readAny_3 7 rfl rfl)
theorem dX5_readAny_81 : decode cX5_readAny 81 = .ok (.aload_n 0, 1) := dk_42 (dk_at dksX5_readAny_3 10 rfl rfl)
theorem dX5_readAny_82 : decode cX5_readAny 82 = .ok (.invokevirtual 208, 3) := dk_182 0 208 (dk_at dksX5_readAny_3 11 rfl rfl)
theorem dX5_readAny_85 : decode cX5_readAny 85 = .ok (.goto (-76), 3) := dk_167 255 180 (dk_at dksX5_readAny_3 14 rfl rfl)
theorem dX5_readAny_88 : decode cX5_readAny 88 = .ok (.aload_n 0, 1) := dk_42 (dk_at dksX5_readAny_3 17 rfl rfl)
theorem dX5_readAny_89 : decode cX5_readAny 89 = .ok (.invokevirtual 236, 3) := dk_182 0 236 (dk_at dksX5_readAny_3 18 rfl rfl)
theorem dX5_readAny_92 : decode cX5_readAny 92 = .ok (.iconst (-1), 1) := dk_2 (dk_at dksX5_readAny_3 21 rfl rfl)
theorem dX5_readAny_93 : decode cX5_readAny 93 = .ok (.if_icmp .ne 5, 3) := dk_160 0 5 (dk_at dksX5_readAny_4 0 rfl rfl)
theorem dX5_readAny_96 : decode cX5_readAny 96 = .ok (.iconst (-1), 1) := dk_2 (dk_at dksX5_readAny_4 3 rfl rfl)
theorem dX5_readAny_97 : decode cX5_readAny 97 = .ok (.ireturn, 1) := dk_172 (dk_at dksX5_readAny_4 4 rfl rfl)
theorem dX5_readAny_98 : decode cX5_readAny 98 = .ok (.aload_n 0, 1) := dk_42 (dk_at dksX5_readAny_4 5 rfl rfl)
theorem dX5_readAny_99 : decode cX5_readAny 99 = .ok (.bipush 9, 2) := dk_16 9 (dk_at dksX5_readAny_4 6 rfl rfl)
theorem dX5_readAny_101 : decode cX5_readAny 101 = .ok (.invokevirtual 239, 3) := dk_182 0 239 (dk_at dksX5_readAny_4 8 rfl rfl)
theorem dX5_readAny_104 : decode cX5_readAny 104 = .ok (.iconst 0, 1) := dk_3 (dk_at dksX5_readAny_4 11 rfl rfl)
theorem dX5_readAny_105 : decode cX5_readAny 105 = .ok (.istore_n 2, 1) := dk_61 (dk_at dksX5_readAny_4 12 rfl rfl)
theorem dX5_readAny_106 : decode cX5_readAny 106 = .ok (.goto (-97), 3) := dk_167 255 159 (dk_at dksX5_readAny_4 13 rfl rfl)
theorem dX5_readAny_109 : decode cX5_readAny 109 = .ok (.aload_n 0, 1) := dk_42 (dk_at dksX5_readAny_4 16 rfl rfl)
theorem dX5_readAny_110 : decode cX5_readAny 110 = .ok (.iconst 5, 1) := dk_8 (dk_at dksX5_readAny_4 17 rfl rfl)
theorem dX5_readAny_111 : decode cX5_readAny 111 = .ok (.invokevirtual 230, 3) := dk_182 0 230 (dk_at dksX5_readAny_4 18 rfl rfl)
theorem dX5_readAny_114 : decode cX5_readAny 114 = .ok (.ifCond .eq 24, 3) := dk_153 0 24 (dk_at dksX5_readAny_4 21 rfl rfl)
theorem dX5_readAny_117 : decode cX5_readAny 117 = .ok (.aload_n 0, 1) := dk_42 (dk_at dksX5_readAny_5 0 rfl rfl)
theorem dX5_readAny_118 : decode cX5_readAny 118 = .ok (.bipush 10, 2) := dk_16 10 (dk_at dksX5_readAny_5 1 rfl rfl)
theorem dX5_readAny_120 : decode cX5_readAny 120 = .ok (.invokevirtual 239, 3) := dk_182 0 239 (dk_at dksX5_readAny_5 3 rfl rfl)
theorem dX5_readAny_123 : decode cX5_readAny 123 = .ok (.aload_n 0, 1) := dk_42 (dk_at dksX5_readAny_5 6 rfl rfl)
theorem dX5_readAny_124 : decode cX5_readAny 124 = .ok (.bipush 10, 2) := dk_16 10 (dk_at dksX5_readAny_5 7 rfl rfl)
theorem dX5_readAny_126 : decode cX5_readAny 126 = .ok (.invokevirtual 233, 3) := dk_182 0 233 (dk_at dksX5_readAny_5 9 rfl rfl)
theorem dX5_readAny_129 : decode cX5_readAny 129 = .ok (.aload_n 0, 1) := dk_42 (dk_at dksX5_readAny_5 12 rfl rfl)
theorem dX5_readAny_130 : decode cX5_readAny 130 = .ok (.invokevirtual 208, 3) := dk_182 0 208 (dk_at dksX5_readAny_5 13 rfl rfl)
theorem dX5_readAny_133 : decode cX5_readAny 133 = .ok (.iconst 1, 1) := dk_4 (dk_at dksX5_readAny_5 16 rfl rfl)
theorem dX5_readAny_134 : decode cX5_readAny 134 = .ok (.istore_n 2, 1) := dk_61 (dk_at dksX5_readAny_5 17 rfl rfl)
theorem dX5_readAny_135 : decode cX5_readAny 135 = .ok (.goto (-126), 3) := dk_167 255 130 (dk_at dksX5_readAny_5 18 rfl rfl)
theorem dX5_readAny_138 : decode cX5_readAny 138 = .ok (.aload_n 0, 1) := dk_42 (dk_at dksX5_readAny_5 21 rfl rfl)
theorem dX5_readAny_139 : decode cX5_readAny 139 = .ok (.iconst 4, 1) := dk_7 (dk_at dksX5_readAny_5 22 rfl rfl)
theorem dX5_readAny_140 : decode cX5_readAny 140 = .ok (.invokevirtual 230, 3) := dk_182 0 230 (dk_at dksX5_readAny_6 0 rfl rfl)
theorem dX5_readAny_143 : decode cX5_readAny 143 = .ok (.ifCond .eq 30, 3) := dk_153 0 30 (dk_at dksX5_readAny_6 3 rfl rfl)
theorem dX5_readAny_146 : decode cX5_readAny 146 = .ok (.aload_n 0, 1) := dk_42 (dk_at dksX5_readAny_6 6 rfl rfl)
theorem dX5_readAny_147 : decode cX5_readAny 147 = .ok (.bipush 10, 2) := dk_16 10 (dk_at dksX5_readAny_6 7 rfl rfl)
theorem dX5_readAny_149 : decode cX5_readAny 149 = .ok (.invokevirtual 239, 3) := dk_182 0 239 (dk_at dksX5_readAny_6 9 rfl rfl)
theorem dX5_readAny_152 : decode cX5_readAny 152 = .ok (.aload_n 0, 1) := dk_42 (dk_at dksX5_readAny_6 12 rfl rfl)
theorem dX5_readAny_153 : decode cX5_readAny 153 = .ok (.bipush 11, 2) := dk_16 11 (dk_at dksX5_readAny_6 13 rfl rfl)
theorem dX5_readAny_155 : decode cX5_readAny 155 = .ok (.invokevirtual 239, 3) := dk_182 0 239 (dk_at dksX5_readAny_6 15 rfl rfl)
theorem dX5_readAny_158 : decode cX5_readAny 158 = .ok (.aload_n 0, 1) := dk_42 (dk_at dksX5_readAny_6 18 rfl rfl)
theorem dX5_readAny_159 : decode cX5_readAny 159 = .ok (.bipush 11, 2) := dk_16 11 (dk_at dksX5_readAny_6 19 rfl rfl)
theorem dX5_readAny_161 : decode cX5_readAny 161 = .ok (.invokevirtual 233, 3) := dk_182 0 233 (dk_at dksX5_readAny_6 21 rfl rfl)
theorem dX5_readAny_164 : decode cX5_readAny 164 = .ok (.aload_n 0, 1) := dk_42 (dk_at dksX5_readAny_7 0 rfl rfl)
theorem dX5_readAny_165 : decode cX5_readAny 165 = .ok (.invokevirtual 208, 3) := dk_182 0 208 (dk_at dksX5_readAny_7 1 rfl rfl)
theorem dX5_readAny_168 : decode cX5_readAny 168 = .ok (.iconst 1, 1) := dk_4 (dk_at dksX5_readAny_7 4 rfl rfl)
theorem dX5_readAny_169 : decode cX5_readAny 169 = .ok (.istore_n 2, 1) := dk_61 (dk_at dksX5_readAny_7 5 rfl rfl)
theorem dX5_readAny_170 : decode cX5_readAny 170 = .ok (.goto (-161), 3) := dk_167 255 95 (dk_at dksX5_readAny_7 6 rfl rfl)
theorem dX5_readAny_173 : decode cX5_readAny 173 = .ok (.aload_n 0, 1) := dk_42 (dk_at dksX5_readAny_7 9 rfl rfl)
theorem dX5_readAny_174 : decode cX5_readAny 174 = .ok (.bipush 10, 2) := dk_16 10 (dk_at dksX5_readAny_7 10 rfl rfl)
theorem dX5_readAny_176 : decode cX5_readAny 176 = .ok (.invokevirtual 239, 3) := dk_182 0 239 (dk_at dksX5_readAny_7 12 rfl rfl)
theorem dX5_readAny_179 : decode cX5_readAny 179 = .ok (.aload_n 0, 1) := dk_42 (dk_at dksX5_readAny_7 15 rfl rfl)
theorem dX5_readAny_180 : decode cX5_readAny 180 = .ok (.bipush 11, 2) := dk_16 11 (dk_at dksX5_readAny_7 16 rfl rfl)
theorem dX5_readAny_182 : decode cX5_readAny 182 = .ok (.invokevirtual 239, 3) := dk_182 0 239 (dk_at dksX5_readAny_7 18 rfl rfl)
theorem dX5_readAny_185 : decode cX5_readAny 185 = .ok (.iload_n 1, 1) := dk_27 (dk_at dksX5_readAny_7 21 rfl rfl)
theorem dX5_readAny_186 : decode cX5_readAny 186 = .ok (.ifCond .ne 5, 3) := dk_154 0 5 (dk_at dksX5_readAny_8 0 rfl rfl)
theorem dX5_readAny_189 : decode cX5_readAny 189 = .ok (.iconst 0, 1) := dk_3 (dk_at dksX5_readAny_8 3 rfl rfl)
theorem dX5_readAny_190 : decode cX5_readAny 190 = .ok (.ireturn, 1) := dk_172 (dk_at dksX5_readAny_8 4 rfl rfl)
theorem dX5_readAny_191 : decode cX5_readAny 191 = .ok (.aload_n 0, 1) := dk_42 (dk_at dksX5_readAny_8 5 rfl rfl)
theorem dX5_readAny_192 : decode cX5_readAny 192 = .ok (.bipush 41, 2) := dk_16 41 (dk_at dksX5_readAny_8 6 rfl rfl)
theorem dX5_readAny_194 : decode cX5_readAny 194 = .ok (.invokevirtual 215, 3) := dk_182 0 215 (dk_at dksX5_readAny_8 8 rfl rfl)
theorem dX5_readAny_197 : decode cX5_readAny 197 = .ok (.ifCond .ne 9, 3) := dk_154 0 9 (dk_at dksX5_readAny_8 11 rfl rfl)
theorem dX5_readAny_200 : decode cX5_readAny 200 = .ok (.aload_n 0, 1) := dk_42 (dk_at dksX5_readAny_8 14 rfl rfl)
theorem dX5_readAny_201 : decode cX5_readAny 201 = .ok (.iconst 1, 1) := dk_4 (dk_at dksX5_readAny_8 15 rfl rfl)
theorem dX5_readAny_202 : decode cX5_readAny 202 = .ok (.invokevirtual 201, 3) := dk_182 0 201 (dk_at dksX5_readAny_8 16 rfl rfl)
theorem dX5_readAny_205 : decode cX5_readAny 205 = .ok (.ireturn, 1) := dk_172 (dk_at dksX5_readAny_8 19 rfl rfl)
theorem dX5_readAny_206 : decode cX5_readAny 206 = .ok (.aload_n 0, 1) := dk_42 (dk_at dksX5_readAny_8 20 rfl rfl)
theorem dX5_readAny_207 : decode cX5_readAny 207 = .ok (.aload_n 0, 1) := dk_42 (dk_at dksX5_readAny_8 21 rfl rfl)
theorem dX5_readAny_208 : decode cX5_readAny 208 = .ok (.getfield 224, 3) := dk_180 0 224 (dk_at dksX5_readAny_9 0 rfl rfl)
theorem dX5_readAny_211 : decode cX5_readAny 211 = .ok (.iconst 1, 1) := dk_4 (dk_at dksX5_readAny_9 3 rfl rfl)
theorem dX5_readAny_212 : decode cX5_readAny 212 = .ok (.isub, 1) := dk_100 (dk_at dksX5_readAny_9 4 rfl rfl)
theorem dX5_readAny_213 : decode cX5_readAny 213 = .ok (.putfield 224, 3) := dk_181 0 224 (dk_at dksX5_readAny_9 5 rfl rfl)
theorem dX5_readAny_216 : decode cX5_readAny 216 = .ok (.iload_n 1, 1) := dk_27 (dk_at dksX5_readAny_9 8 rfl rfl)
theorem dX5_readAny_217 : decode cX5_readAny 217 = .ok (.iconst 1, 1) := dk_4 (dk_at dksX5_readAny_9 9 rfl rfl)
theorem dX5_readAny_218 : decode cX5_readAny 218 = .ok (.isub, 1) := dk_100 (dk_at dksX5_readAny_9 10 rfl rfl)
theorem dX5_readAny_219 : decode cX5_readAny 219 = .ok (.istore_n 1, 1) := dk_60 (dk_at dksX5_readAny_9 11 rfl rfl)
theorem dX5_readAny_220 : decode cX5_readAny 220 = .ok (.aload_n 0, 1) := dk_42 (dk_at dksX5_readAny_9 12 rfl rfl)
theorem dX5_readAny_221 : decode cX5_readAny 221 = .ok (.aload_n 0, 1) := dk_42 (dk_at dksX5_readAny_9 13 rfl rfl)
theorem dX5_readAny_222 : decode cX5_readAny 222 = .ok (.getfield 227, 3) := dk_180 0 227 (dk_at dksX5_readAny_9 14 rfl rfl)
theorem dX5_readAny_225 : decode cX5_readAny 225 = .ok (.iconst 1, 1) := dk_4 (dk_at dksX5_readAny_9 17 rfl rfl)
theorem dX5_readAny_226 : decode cX5_readAny 226 = .ok (.isub, 1) := dk_100 (dk_at dksX5_readAny_9 18 rfl rfl)
theorem dX5_readAny_227 : decode cX5_readAny 227 = .ok (.putfield 227, 3) := dk_181 0 227 (dk_at dksX5_readAny_9 19 rfl rfl)
theorem dX5_readAny_230 : decode cX5_readAny 230 = .ok (.aload_n 0, 1) := dk_42 (dk_at dksX5_readAny_9 22 rfl rfl)
theorem dX5_readAny_231 : decode cX5_readAny 231 = .ok (.bipush 9, 2) := dk_16 9 (dk_at dksX5_readAny_10 0 rfl rfl)
theorem dX5_readAny_233 : decode cX5_readAny 233 = .ok (.invokevirtual 239, 3) := dk_182 0 239 (dk_at dksX5_readAny_10 2 rfl rfl)
theorem dX5_readAny_236 : decode cX5_readAny 236 = .ok (.aload_n 0, 1) := dk_42 (dk_at dksX5_readAny_10 5 rfl rfl)
theorem dX5_readAny_237 : decode cX5_readAny 237 = .ok (.invokevirtual 208, 3) := dk_182 0 208 (dk_at dksX5_readAny_10 6 rfl rfl)
theorem dX5_readAny_240 : decode cX5_readAny 240 = .ok (.goto (-231), 3) := dk_167 255 25 (dk_at dksX5_readAny_10 9 rfl rfl)
abbrev cX5_waits : ByteArray := prog_22_method_47_code
def yX5_waits : MethodName := ⟨RX5, "waits", "(I)V"⟩
def dkwX5_waits_0 : List UInt8 := [42, 180, 0, 49, 42, 180, 0, 224, 27, 79, 42, 42, 180, 0, 224, 4, 96, 181, 0, 224, 177]
abbrev dktX5_waits_0 : List UInt8 := dkwX5_waits_0 ++ []
theorem dksX5_waits_0 : cX5_waits.data.toList.drop 0 = dktX5_waits_0 := by decide +kernel
theorem dX5_waits_0 : decode cX5_waits 0 = .ok (.aload_n 0, 1) := dk_42 (dk_at dksX5_waits_0 0 rfl rfl)
theorem dX5_waits_1 : decode cX5_waits 1 = .ok (.getfield 49, 3) := dk_180 0 49 (dk_at dksX5_waits_0 1 rfl rfl)
theorem dX5_waits_4 : decode cX5_waits 4 = .ok (.aload_n 0, 1) := dk_42 (dk_at dksX5_waits_0 4 rfl rfl)
theorem dX5_waits_5 : decode cX5_waits 5 = .ok (.getfield 224, 3) := dk_180 0 224 (dk_at dksX5_waits_0 5 rfl rfl)
theorem dX5_waits_8 : decode cX5_waits 8 = .ok (.iload_n 1, 1) := dk_27 (dk_at dksX5_waits_0 8 rfl rfl)
theorem dX5_waits_9 : decode cX5_waits 9 = .ok (.iastore, 1) := dk_79 (dk_at dksX5_waits_0 9 rfl rfl)
theorem dX5_waits_10 : decode cX5_waits 10 = .ok (.aload_n 0, 1) := dk_42 (dk_at dksX5_waits_0 10 rfl rfl)
theorem dX5_waits_11 : decode cX5_waits 11 = .ok (.aload_n 0, 1) := dk_42 (dk_at dksX5_waits_0 11 rfl rfl)
theorem dX5_waits_12 : decode cX5_waits 12 = .ok (.getfield 224, 3) := dk_180 0 224 (dk_at dksX5_waits_0 12 rfl rfl)
theorem dX5_waits_15 : decode cX5_waits 15 = .ok (.iconst 1, 1) := dk_4 (dk_at dksX5_waits_0 15 rfl rfl)
theorem dX5_waits_16 : decode cX5_waits 16 = .ok (.iadd, 1) := dk_96 (dk_at dksX5_waits_0 16 rfl rfl)
theorem dX5_waits_17 : decode cX5_waits 17 = .ok (.putfield 224, 3) := dk_181 0 224 (dk_at dksX5_waits_0 17 rfl rfl)
theorem dX5_waits_20 : decode cX5_waits 20 = .ok (.return_, 1) := dk_177 (dk_at dksX5_waits_0 20 rfl rfl)
abbrev cX5_readCompared : ByteArray := prog_22_method_46_code
def yX5_readCompared : MethodName := ⟨RX5, "readCompared", "()I"⟩
def dkwX5_readCompared_4 : List UInt8 := [182, 0, 204, 3, 172]
abbrev dktX5_readCompared_4 : List UInt8 := dkwX5_readCompared_4 ++ []
def dkwX5_readCompared_3 : List UInt8 := [167, 0, 5, 16, 8, 60, 42, 182, 0, 208, 42, 182, 0, 221, 2, 160, 0, 5, 2, 172, 42, 27, 3]
abbrev dktX5_readCompared_3 : List UInt8 := dkwX5_readCompared_3 ++ dktX5_readCompared_4
def dkwX5_readCompared_2 : List UInt8 := [180, 0, 173, 16, 60, 160, 0, 8, 16, 6, 167, 0, 19, 42, 180, 0, 173, 16, 61, 160, 0, 8, 16, 7]
abbrev dktX5_readCompared_2 : List UInt8 := dkwX5_readCompared_2 ++ dktX5_readCompared_3
def dkwX5_readCompared_1 : List UInt8 := [182, 0, 215, 154, 0, 18, 42, 16, 62, 182, 0, 215, 154, 0, 9, 42, 4, 182, 0, 201, 172, 42]
abbrev dktX5_readCompared_1 : List UInt8 := dkwX5_readCompared_1 ++ dktX5_readCompared_2
def dkwX5_readCompared_0 : List UInt8 := [42, 182, 0, 221, 2, 160, 0, 5, 2, 172, 42, 16, 60, 182, 0, 215, 154, 0, 27, 42, 16, 61]
abbrev dktX5_readCompared_0 : List UInt8 := dkwX5_readCompared_0 ++ dktX5_readCompared_1
theorem dksX5_readCompared_0 : cX5_readCompared.data.toList.drop 0 = dktX5_readCompared_0 := by decide +kernel
theorem dksX5_readCompared_1 : cX5_readCompared.data.toList.drop 22 = dktX5_readCompared_1 := dk_seg dksX5_readCompared_0 22 rfl rfl
theorem dksX5_readCompared_2 : cX5_readCompared.data.toList.drop 44 = dktX5_readCompared_2 := dk_seg dksX5_readCompared_1 22 rfl rfl
theorem dksX5_readCompared_3 : cX5_readCompared.data.toList.drop 68 = dktX5_readCompared_3 := dk_seg dksX5_readCompared_2 24 rfl rfl
theorem dksX5_readCompared_4 : cX5_readCompared.data.toList.drop 91 = dktX5_readCompared_4 := dk_seg dksX5_readCompared_3 23 rfl rfl
theorem dX5_readCompared_0 : decode cX5_readCompared 0 = .ok (.aload_n 0, 1) := dk_42 (dk_at dksX5_readCompared_0 0 rfl rfl)
theorem dX5_readCompared_1 : decode cX5_readCompared 1 = .ok (.invokevirtual 221, 3) := dk_182 0 221 (dk_at dksX5_readCompared_0 1 rfl rfl)
theorem dX5_readCompared_4 : decode cX5_readCompared 4 = .ok (.iconst (-1), 1) := dk_2 (dk_at dksX5_readCompared_0 4 rfl rfl)
theorem dX5_readCompared_5 : decode cX5_readCompared 5 = .ok (.if_icmp .ne 5, 3) := dk_160 0 5 (dk_at dksX5_readCompared_0 5 rfl rfl)
theorem dX5_readCompared_8 : decode cX5_readCompared 8 = .ok (.iconst (-1), 1) := dk_2 (dk_at dksX5_readCompared_0 8 rfl rfl)
theorem dX5_readCompared_9 : decode cX5_readCompared 9 = .ok (.ireturn, 1) := dk_172 (dk_at dksX5_readCompared_0 9 rfl rfl)
theorem dX5_readCompared_10 : decode cX5_readCompared 10 = .ok (.aload_n 0, 1) := dk_42 (dk_at dksX5_readCompared_0 10 rfl rfl)
theorem dX5_readCompared_11 : decode cX5_readCompared 11 = .ok (.bipush 60, 2) := dk_16 60 (dk_at dksX5_readCompared_0 11 rfl rfl)
theorem dX5_readCompared_13 : decode cX5_readCompared 13 = .ok (.invokevirtual 215, 3) := dk_182 0 215 (dk_at dksX5_readCompared_0 13 rfl rfl)
theorem dX5_readCompared_16 : decode cX5_readCompared 16 = .ok (.ifCond .ne 27, 3) := dk_154 0 27 (dk_at dksX5_readCompared_0 16 rfl rfl)
theorem dX5_readCompared_19 : decode cX5_readCompared 19 = .ok (.aload_n 0, 1) := dk_42 (dk_at dksX5_readCompared_0 19 rfl rfl)
theorem dX5_readCompared_20 : decode cX5_readCompared 20 = .ok (.bipush 61, 2) := dk_16 61 (dk_at dksX5_readCompared_0 20 rfl rfl)
theorem dX5_readCompared_22 : decode cX5_readCompared 22 = .ok (.invokevirtual 215, 3) := dk_182 0 215 (dk_at dksX5_readCompared_1 0 rfl rfl)
theorem dX5_readCompared_25 : decode cX5_readCompared 25 = .ok (.ifCond .ne 18, 3) := dk_154 0 18 (dk_at dksX5_readCompared_1 3 rfl rfl)
theorem dX5_readCompared_28 : decode cX5_readCompared 28 = .ok (.aload_n 0, 1) := dk_42 (dk_at dksX5_readCompared_1 6 rfl rfl)
theorem dX5_readCompared_29 : decode cX5_readCompared 29 = .ok (.bipush 62, 2) := dk_16 62 (dk_at dksX5_readCompared_1 7 rfl rfl)
theorem dX5_readCompared_31 : decode cX5_readCompared 31 = .ok (.invokevirtual 215, 3) := dk_182 0 215 (dk_at dksX5_readCompared_1 9 rfl rfl)
theorem dX5_readCompared_34 : decode cX5_readCompared 34 = .ok (.ifCond .ne 9, 3) := dk_154 0 9 (dk_at dksX5_readCompared_1 12 rfl rfl)
theorem dX5_readCompared_37 : decode cX5_readCompared 37 = .ok (.aload_n 0, 1) := dk_42 (dk_at dksX5_readCompared_1 15 rfl rfl)
theorem dX5_readCompared_38 : decode cX5_readCompared 38 = .ok (.iconst 1, 1) := dk_4 (dk_at dksX5_readCompared_1 16 rfl rfl)
theorem dX5_readCompared_39 : decode cX5_readCompared 39 = .ok (.invokevirtual 201, 3) := dk_182 0 201 (dk_at dksX5_readCompared_1 17 rfl rfl)
theorem dX5_readCompared_42 : decode cX5_readCompared 42 = .ok (.ireturn, 1) := dk_172 (dk_at dksX5_readCompared_1 20 rfl rfl)
theorem dX5_readCompared_43 : decode cX5_readCompared 43 = .ok (.aload_n 0, 1) := dk_42 (dk_at dksX5_readCompared_1 21 rfl rfl)
theorem dX5_readCompared_44 : decode cX5_readCompared 44 = .ok (.getfield 173, 3) := dk_180 0 173 (dk_at dksX5_readCompared_2 0 rfl rfl)
theorem dX5_readCompared_47 : decode cX5_readCompared 47 = .ok (.bipush 60, 2) := dk_16 60 (dk_at dksX5_readCompared_2 3 rfl rfl)
theorem dX5_readCompared_49 : decode cX5_readCompared 49 = .ok (.if_icmp .ne 8, 3) := dk_160 0 8 (dk_at dksX5_readCompared_2 5 rfl rfl)
theorem dX5_readCompared_52 : decode cX5_readCompared 52 = .ok (.bipush 6, 2) := dk_16 6 (dk_at dksX5_readCompared_2 8 rfl rfl)
theorem dX5_readCompared_54 : decode cX5_readCompared 54 = .ok (.goto 19, 3) := dk_167 0 19 (dk_at dksX5_readCompared_2 10 rfl rfl)
theorem dX5_readCompared_57 : decode cX5_readCompared 57 = .ok (.aload_n 0, 1) := dk_42 (dk_at dksX5_readCompared_2 13 rfl rfl)
theorem dX5_readCompared_58 : decode cX5_readCompared 58 = .ok (.getfield 173, 3) := dk_180 0 173 (dk_at dksX5_readCompared_2 14 rfl rfl)
theorem dX5_readCompared_61 : decode cX5_readCompared 61 = .ok (.bipush 61, 2) := dk_16 61 (dk_at dksX5_readCompared_2 17 rfl rfl)
theorem dX5_readCompared_63 : decode cX5_readCompared 63 = .ok (.if_icmp .ne 8, 3) := dk_160 0 8 (dk_at dksX5_readCompared_2 19 rfl rfl)
theorem dX5_readCompared_66 : decode cX5_readCompared 66 = .ok (.bipush 7, 2) := dk_16 7 (dk_at dksX5_readCompared_2 22 rfl rfl)
theorem dX5_readCompared_68 : decode cX5_readCompared 68 = .ok (.goto 5, 3) := dk_167 0 5 (dk_at dksX5_readCompared_3 0 rfl rfl)
theorem dX5_readCompared_71 : decode cX5_readCompared 71 = .ok (.bipush 8, 2) := dk_16 8 (dk_at dksX5_readCompared_3 3 rfl rfl)
theorem dX5_readCompared_73 : decode cX5_readCompared 73 = .ok (.istore_n 1, 1) := dk_60 (dk_at dksX5_readCompared_3 5 rfl rfl)
theorem dX5_readCompared_74 : decode cX5_readCompared 74 = .ok (.aload_n 0, 1) := dk_42 (dk_at dksX5_readCompared_3 6 rfl rfl)
theorem dX5_readCompared_75 : decode cX5_readCompared 75 = .ok (.invokevirtual 208, 3) := dk_182 0 208 (dk_at dksX5_readCompared_3 7 rfl rfl)
theorem dX5_readCompared_78 : decode cX5_readCompared 78 = .ok (.aload_n 0, 1) := dk_42 (dk_at dksX5_readCompared_3 10 rfl rfl)
theorem dX5_readCompared_79 : decode cX5_readCompared 79 = .ok (.invokevirtual 221, 3) := dk_182 0 221 (dk_at dksX5_readCompared_3 11 rfl rfl)
theorem dX5_readCompared_82 : decode cX5_readCompared 82 = .ok (.iconst (-1), 1) := dk_2 (dk_at dksX5_readCompared_3 14 rfl rfl)
theorem dX5_readCompared_83 : decode cX5_readCompared 83 = .ok (.if_icmp .ne 5, 3) := dk_160 0 5 (dk_at dksX5_readCompared_3 15 rfl rfl)
theorem dX5_readCompared_86 : decode cX5_readCompared 86 = .ok (.iconst (-1), 1) := dk_2 (dk_at dksX5_readCompared_3 18 rfl rfl)
theorem dX5_readCompared_87 : decode cX5_readCompared 87 = .ok (.ireturn, 1) := dk_172 (dk_at dksX5_readCompared_3 19 rfl rfl)
theorem dX5_readCompared_88 : decode cX5_readCompared 88 = .ok (.aload_n 0, 1) := dk_42 (dk_at dksX5_readCompared_3 20 rfl rfl)
theorem dX5_readCompared_89 : decode cX5_readCompared 89 = .ok (.iload_n 1, 1) := dk_27 (dk_at dksX5_readCompared_3 21 rfl rfl)
theorem dX5_readCompared_90 : decode cX5_readCompared 90 = .ok (.iconst 0, 1) := dk_3 (dk_at dksX5_readCompared_3 22 rfl rfl)
theorem dX5_readCompared_91 : decode cX5_readCompared 91 = .ok (.invokevirtual 204, 3) := dk_182 0 204 (dk_at dksX5_readCompared_4 0 rfl rfl)
theorem dX5_readCompared_94 : decode cX5_readCompared 94 = .ok (.iconst 0, 1) := dk_3 (dk_at dksX5_readCompared_4 3 rfl rfl)
theorem dX5_readCompared_95 : decode cX5_readCompared 95 = .ok (.ireturn, 1) := dk_172 (dk_at dksX5_readCompared_4 4 rfl rfl)
abbrev cX5_settles : ByteArray := prog_22_method_48_code
def yX5_settles : MethodName := ⟨RX5, "settles", "(I)V"⟩
def dkwX5_settles_2 : List UInt8 := [180, 0, 227, 4, 100, 181, 0, 227, 167, 255, 202, 177]
abbrev dktX5_settles_2 : List UInt8 := dkwX5_settles_2 ++ []
def dkwX5_settles_1 : List UInt8 := [180, 0, 224, 4, 100, 181, 0, 224, 42, 27, 3, 182, 0, 204, 27, 16, 9, 160, 255, 215, 42, 42]
abbrev dktX5_settles_1 : List UInt8 := dkwX5_settles_1 ++ dktX5_settles_2
def dkwX5_settles_0 : List UInt8 := [42, 180, 0, 224, 158, 0, 53, 42, 180, 0, 49, 42, 180, 0, 224, 4, 100, 46, 27, 160, 0, 38, 42, 42]
abbrev dktX5_settles_0 : List UInt8 := dkwX5_settles_0 ++ dktX5_settles_1
theorem dksX5_settles_0 : cX5_settles.data.toList.drop 0 = dktX5_settles_0 := by decide +kernel
theorem dksX5_settles_1 : cX5_settles.data.toList.drop 24 = dktX5_settles_1 := dk_seg dksX5_settles_0 24 rfl rfl
theorem dksX5_settles_2 : cX5_settles.data.toList.drop 46 = dktX5_settles_2 := dk_seg dksX5_settles_1 22 rfl rfl
theorem dX5_settles_0 : decode cX5_settles 0 = .ok (.aload_n 0, 1) := dk_42 (dk_at dksX5_settles_0 0 rfl rfl)
theorem dX5_settles_1 : decode cX5_settles 1 = .ok (.getfield 224, 3) := dk_180 0 224 (dk_at dksX5_settles_0 1 rfl rfl)
theorem dX5_settles_4 : decode cX5_settles 4 = .ok (.ifCond .le 53, 3) := dk_158 0 53 (dk_at dksX5_settles_0 4 rfl rfl)
theorem dX5_settles_7 : decode cX5_settles 7 = .ok (.aload_n 0, 1) := dk_42 (dk_at dksX5_settles_0 7 rfl rfl)
theorem dX5_settles_8 : decode cX5_settles 8 = .ok (.getfield 49, 3) := dk_180 0 49 (dk_at dksX5_settles_0 8 rfl rfl)
theorem dX5_settles_11 : decode cX5_settles 11 = .ok (.aload_n 0, 1) := dk_42 (dk_at dksX5_settles_0 11 rfl rfl)
theorem dX5_settles_12 : decode cX5_settles 12 = .ok (.getfield 224, 3) := dk_180 0 224 (dk_at dksX5_settles_0 12 rfl rfl)
theorem dX5_settles_15 : decode cX5_settles 15 = .ok (.iconst 1, 1) := dk_4 (dk_at dksX5_settles_0 15 rfl rfl)
theorem dX5_settles_16 : decode cX5_settles 16 = .ok (.isub, 1) := dk_100 (dk_at dksX5_settles_0 16 rfl rfl)
theorem dX5_settles_17 : decode cX5_settles 17 = .ok (.iaload, 1) := dk_46 (dk_at dksX5_settles_0 17 rfl rfl)
theorem dX5_settles_18 : decode cX5_settles 18 = .ok (.iload_n 1, 1) := dk_27 (dk_at dksX5_settles_0 18 rfl rfl)
theorem dX5_settles_19 : decode cX5_settles 19 = .ok (.if_icmp .ne 38, 3) := dk_160 0 38 (dk_at dksX5_settles_0 19 rfl rfl)
theorem dX5_settles_22 : decode cX5_settles 22 = .ok (.aload_n 0, 1) := dk_42 (dk_at dksX5_settles_0 22 rfl rfl)
theorem dX5_settles_23 : decode cX5_settles 23 = .ok (.aload_n 0, 1) := dk_42 (dk_at dksX5_settles_0 23 rfl rfl)
theorem dX5_settles_24 : decode cX5_settles 24 = .ok (.getfield 224, 3) := dk_180 0 224 (dk_at dksX5_settles_1 0 rfl rfl)
theorem dX5_settles_27 : decode cX5_settles 27 = .ok (.iconst 1, 1) := dk_4 (dk_at dksX5_settles_1 3 rfl rfl)
theorem dX5_settles_28 : decode cX5_settles 28 = .ok (.isub, 1) := dk_100 (dk_at dksX5_settles_1 4 rfl rfl)
theorem dX5_settles_29 : decode cX5_settles 29 = .ok (.putfield 224, 3) := dk_181 0 224 (dk_at dksX5_settles_1 5 rfl rfl)
theorem dX5_settles_32 : decode cX5_settles 32 = .ok (.aload_n 0, 1) := dk_42 (dk_at dksX5_settles_1 8 rfl rfl)
theorem dX5_settles_33 : decode cX5_settles 33 = .ok (.iload_n 1, 1) := dk_27 (dk_at dksX5_settles_1 9 rfl rfl)
theorem dX5_settles_34 : decode cX5_settles 34 = .ok (.iconst 0, 1) := dk_3 (dk_at dksX5_settles_1 10 rfl rfl)
theorem dX5_settles_35 : decode cX5_settles 35 = .ok (.invokevirtual 204, 3) := dk_182 0 204 (dk_at dksX5_settles_1 11 rfl rfl)
theorem dX5_settles_38 : decode cX5_settles 38 = .ok (.iload_n 1, 1) := dk_27 (dk_at dksX5_settles_1 14 rfl rfl)
theorem dX5_settles_39 : decode cX5_settles 39 = .ok (.bipush 9, 2) := dk_16 9 (dk_at dksX5_settles_1 15 rfl rfl)
theorem dX5_settles_41 : decode cX5_settles 41 = .ok (.if_icmp .ne (-41), 3) := dk_160 255 215 (dk_at dksX5_settles_1 17 rfl rfl)
theorem dX5_settles_44 : decode cX5_settles 44 = .ok (.aload_n 0, 1) := dk_42 (dk_at dksX5_settles_1 20 rfl rfl)
theorem dX5_settles_45 : decode cX5_settles 45 = .ok (.aload_n 0, 1) := dk_42 (dk_at dksX5_settles_1 21 rfl rfl)
theorem dX5_settles_46 : decode cX5_settles 46 = .ok (.getfield 227, 3) := dk_180 0 227 (dk_at dksX5_settles_2 0 rfl rfl)
theorem dX5_settles_49 : decode cX5_settles 49 = .ok (.iconst 1, 1) := dk_4 (dk_at dksX5_settles_2 3 rfl rfl)
theorem dX5_settles_50 : decode cX5_settles 50 = .ok (.isub, 1) := dk_100 (dk_at dksX5_settles_2 4 rfl rfl)
theorem dX5_settles_51 : decode cX5_settles 51 = .ok (.putfield 227, 3) := dk_181 0 227 (dk_at dksX5_settles_2 5 rfl rfl)
theorem dX5_settles_54 : decode cX5_settles 54 = .ok (.goto (-54), 3) := dk_167 255 202 (dk_at dksX5_settles_2 8 rfl rfl)
theorem dX5_settles_57 : decode cX5_settles 57 = .ok (.return_, 1) := dk_177 (dk_at dksX5_settles_2 11 rfl rfl)
abbrev cX5_takesLaw : ByteArray := prog_22_method_52_code
def yX5_takesLaw : MethodName := ⟨RX5, "takesLaw", "(I)V"⟩
def dkwX5_takesLaw_7 : List UInt8 := [79, 132, 2, 1, 167, 255, 195, 42, 180, 0, 28, 42, 180, 0, 249, 27, 79, 177]
abbrev dktX5_takesLaw_7 : List UInt8 := dkwX5_takesLaw_7 ++ []
def dkwX5_takesLaw_6 : List UInt8 := [42, 180, 0, 46, 17, 1, 144, 42, 180, 0, 249, 104, 28, 96, 42, 180, 0, 46, 17, 3, 32, 28, 96, 46]
abbrev dktX5_takesLaw_6 : List UInt8 := dkwX5_takesLaw_6 ++ dktX5_takesLaw_7
def dkwX5_takesLaw_5 : List UInt8 := [180, 0, 43, 17, 1, 144, 42, 180, 0, 249, 104, 28, 96, 42, 180, 0, 43, 17, 3, 32, 28, 96, 46, 79]
abbrev dktX5_takesLaw_5 : List UInt8 := dkwX5_takesLaw_5 ++ dktX5_takesLaw_6
def dkwX5_takesLaw_4 : List UInt8 := [16, 32, 28, 96, 46, 79, 132, 2, 1, 167, 255, 156, 3, 61, 28, 42, 180, 0, 195, 162, 0, 59, 42]
abbrev dktX5_takesLaw_4 : List UInt8 := dkwX5_takesLaw_4 ++ dktX5_takesLaw_5
def dkwX5_takesLaw_3 : List UInt8 := [16, 32, 28, 96, 46, 79, 42, 180, 0, 40, 16, 16, 42, 180, 0, 249, 104, 28, 96, 42, 180, 0, 40]
abbrev dktX5_takesLaw_3 : List UInt8 := dkwX5_takesLaw_3 ++ dktX5_takesLaw_4
def dkwX5_takesLaw_2 : List UInt8 := [16, 32, 28, 96, 46, 79, 42, 180, 0, 37, 16, 16, 42, 180, 0, 249, 104, 28, 96, 42, 180, 0, 37]
abbrev dktX5_takesLaw_2 : List UInt8 := dkwX5_takesLaw_2 ++ dktX5_takesLaw_3
def dkwX5_takesLaw_1 : List UInt8 := [16, 32, 28, 96, 46, 79, 42, 180, 0, 34, 16, 16, 42, 180, 0, 249, 104, 28, 96, 42, 180, 0, 34]
abbrev dktX5_takesLaw_1 : List UInt8 := dkwX5_takesLaw_1 ++ dktX5_takesLaw_2
def dkwX5_takesLaw_0 : List UInt8 := [3, 61, 28, 27, 162, 0, 101, 42, 180, 0, 31, 16, 16, 42, 180, 0, 249, 104, 28, 96, 42, 180, 0, 31]
abbrev dktX5_takesLaw_0 : List UInt8 := dkwX5_takesLaw_0 ++ dktX5_takesLaw_1
theorem dksX5_takesLaw_0 : cX5_takesLaw.data.toList.drop 0 = dktX5_takesLaw_0 := by decide +kernel
theorem dksX5_takesLaw_1 : cX5_takesLaw.data.toList.drop 24 = dktX5_takesLaw_1 := dk_seg dksX5_takesLaw_0 24 rfl rfl
theorem dksX5_takesLaw_2 : cX5_takesLaw.data.toList.drop 47 = dktX5_takesLaw_2 := dk_seg dksX5_takesLaw_1 23 rfl rfl
theorem dksX5_takesLaw_3 : cX5_takesLaw.data.toList.drop 70 = dktX5_takesLaw_3 := dk_seg dksX5_takesLaw_2 23 rfl rfl
theorem dksX5_takesLaw_4 : cX5_takesLaw.data.toList.drop 93 = dktX5_takesLaw_4 := dk_seg dksX5_takesLaw_3 23 rfl rfl
theorem dksX5_takesLaw_5 : cX5_takesLaw.data.toList.drop 116 = dktX5_takesLaw_5 := dk_seg dksX5_takesLaw_4 23 rfl rfl
theorem dksX5_takesLaw_6 : cX5_takesLaw.data.toList.drop 140 = dktX5_takesLaw_6 := dk_seg dksX5_takesLaw_5 24 rfl rfl
theorem dksX5_takesLaw_7 : cX5_takesLaw.data.toList.drop 164 = dktX5_takesLaw_7 := dk_seg dksX5_takesLaw_6 24 rfl rfl
theorem dX5_takesLaw_0 : decode cX5_takesLaw 0 = .ok (.iconst 0, 1) := dk_3 (dk_at dksX5_takesLaw_0 0 rfl rfl)
theorem dX5_takesLaw_1 : decode cX5_takesLaw 1 = .ok (.istore_n 2, 1) := dk_61 (dk_at dksX5_takesLaw_0 1 rfl rfl)
theorem dX5_takesLaw_2 : decode cX5_takesLaw 2 = .ok (.iload_n 2, 1) := dk_28 (dk_at dksX5_takesLaw_0 2 rfl rfl)
theorem dX5_takesLaw_3 : decode cX5_takesLaw 3 = .ok (.iload_n 1, 1) := dk_27 (dk_at dksX5_takesLaw_0 3 rfl rfl)
theorem dX5_takesLaw_4 : decode cX5_takesLaw 4 = .ok (.if_icmp .ge 101, 3) := dk_162 0 101 (dk_at dksX5_takesLaw_0 4 rfl rfl)
theorem dX5_takesLaw_7 : decode cX5_takesLaw 7 = .ok (.aload_n 0, 1) := dk_42 (dk_at dksX5_takesLaw_0 7 rfl rfl)
theorem dX5_takesLaw_8 : decode cX5_takesLaw 8 = .ok (.getfield 31, 3) := dk_180 0 31 (dk_at dksX5_takesLaw_0 8 rfl rfl)
theorem dX5_takesLaw_11 : decode cX5_takesLaw 11 = .ok (.bipush 16, 2) := dk_16 16 (dk_at dksX5_takesLaw_0 11 rfl rfl)
theorem dX5_takesLaw_13 : decode cX5_takesLaw 13 = .ok (.aload_n 0, 1) := dk_42 (dk_at dksX5_takesLaw_0 13 rfl rfl)
theorem dX5_takesLaw_14 : decode cX5_takesLaw 14 = .ok (.getfield 249, 3) := dk_180 0 249 (dk_at dksX5_takesLaw_0 14 rfl rfl)
theorem dX5_takesLaw_17 : decode cX5_takesLaw 17 = .ok (.imul, 1) := dk_104 (dk_at dksX5_takesLaw_0 17 rfl rfl)
theorem dX5_takesLaw_18 : decode cX5_takesLaw 18 = .ok (.iload_n 2, 1) := dk_28 (dk_at dksX5_takesLaw_0 18 rfl rfl)
theorem dX5_takesLaw_19 : decode cX5_takesLaw 19 = .ok (.iadd, 1) := dk_96 (dk_at dksX5_takesLaw_0 19 rfl rfl)
theorem dX5_takesLaw_20 : decode cX5_takesLaw 20 = .ok (.aload_n 0, 1) := dk_42 (dk_at dksX5_takesLaw_0 20 rfl rfl)
theorem dX5_takesLaw_21 : decode cX5_takesLaw 21 = .ok (.getfield 31, 3) := dk_180 0 31 (dk_at dksX5_takesLaw_0 21 rfl rfl)
theorem dX5_takesLaw_24 : decode cX5_takesLaw 24 = .ok (.bipush 32, 2) := dk_16 32 (dk_at dksX5_takesLaw_1 0 rfl rfl)
theorem dX5_takesLaw_26 : decode cX5_takesLaw 26 = .ok (.iload_n 2, 1) := dk_28 (dk_at dksX5_takesLaw_1 2 rfl rfl)
theorem dX5_takesLaw_27 : decode cX5_takesLaw 27 = .ok (.iadd, 1) := dk_96 (dk_at dksX5_takesLaw_1 3 rfl rfl)
theorem dX5_takesLaw_28 : decode cX5_takesLaw 28 = .ok (.iaload, 1) := dk_46 (dk_at dksX5_takesLaw_1 4 rfl rfl)
theorem dX5_takesLaw_29 : decode cX5_takesLaw 29 = .ok (.iastore, 1) := dk_79 (dk_at dksX5_takesLaw_1 5 rfl rfl)
theorem dX5_takesLaw_30 : decode cX5_takesLaw 30 = .ok (.aload_n 0, 1) := dk_42 (dk_at dksX5_takesLaw_1 6 rfl rfl)
theorem dX5_takesLaw_31 : decode cX5_takesLaw 31 = .ok (.getfield 34, 3) := dk_180 0 34 (dk_at dksX5_takesLaw_1 7 rfl rfl)
theorem dX5_takesLaw_34 : decode cX5_takesLaw 34 = .ok (.bipush 16, 2) := dk_16 16 (dk_at dksX5_takesLaw_1 10 rfl rfl)
theorem dX5_takesLaw_36 : decode cX5_takesLaw 36 = .ok (.aload_n 0, 1) := dk_42 (dk_at dksX5_takesLaw_1 12 rfl rfl)
theorem dX5_takesLaw_37 : decode cX5_takesLaw 37 = .ok (.getfield 249, 3) := dk_180 0 249 (dk_at dksX5_takesLaw_1 13 rfl rfl)
theorem dX5_takesLaw_40 : decode cX5_takesLaw 40 = .ok (.imul, 1) := dk_104 (dk_at dksX5_takesLaw_1 16 rfl rfl)
theorem dX5_takesLaw_41 : decode cX5_takesLaw 41 = .ok (.iload_n 2, 1) := dk_28 (dk_at dksX5_takesLaw_1 17 rfl rfl)
theorem dX5_takesLaw_42 : decode cX5_takesLaw 42 = .ok (.iadd, 1) := dk_96 (dk_at dksX5_takesLaw_1 18 rfl rfl)
theorem dX5_takesLaw_43 : decode cX5_takesLaw 43 = .ok (.aload_n 0, 1) := dk_42 (dk_at dksX5_takesLaw_1 19 rfl rfl)
theorem dX5_takesLaw_44 : decode cX5_takesLaw 44 = .ok (.getfield 34, 3) := dk_180 0 34 (dk_at dksX5_takesLaw_1 20 rfl rfl)
theorem dX5_takesLaw_47 : decode cX5_takesLaw 47 = .ok (.bipush 32, 2) := dk_16 32 (dk_at dksX5_takesLaw_2 0 rfl rfl)
theorem dX5_takesLaw_49 : decode cX5_takesLaw 49 = .ok (.iload_n 2, 1) := dk_28 (dk_at dksX5_takesLaw_2 2 rfl rfl)
theorem dX5_takesLaw_50 : decode cX5_takesLaw 50 = .ok (.iadd, 1) := dk_96 (dk_at dksX5_takesLaw_2 3 rfl rfl)
theorem dX5_takesLaw_51 : decode cX5_takesLaw 51 = .ok (.iaload, 1) := dk_46 (dk_at dksX5_takesLaw_2 4 rfl rfl)
theorem dX5_takesLaw_52 : decode cX5_takesLaw 52 = .ok (.iastore, 1) := dk_79 (dk_at dksX5_takesLaw_2 5 rfl rfl)
theorem dX5_takesLaw_53 : decode cX5_takesLaw 53 = .ok (.aload_n 0, 1) := dk_42 (dk_at dksX5_takesLaw_2 6 rfl rfl)
theorem dX5_takesLaw_54 : decode cX5_takesLaw 54 = .ok (.getfield 37, 3) := dk_180 0 37 (dk_at dksX5_takesLaw_2 7 rfl rfl)
theorem dX5_takesLaw_57 : decode cX5_takesLaw 57 = .ok (.bipush 16, 2) := dk_16 16 (dk_at dksX5_takesLaw_2 10 rfl rfl)
theorem dX5_takesLaw_59 : decode cX5_takesLaw 59 = .ok (.aload_n 0, 1) := dk_42 (dk_at dksX5_takesLaw_2 12 rfl rfl)
theorem dX5_takesLaw_60 : decode cX5_takesLaw 60 = .ok (.getfield 249, 3) := dk_180 0 249 (dk_at dksX5_takesLaw_2 13 rfl rfl)
theorem dX5_takesLaw_63 : decode cX5_takesLaw 63 = .ok (.imul, 1) := dk_104 (dk_at dksX5_takesLaw_2 16 rfl rfl)
theorem dX5_takesLaw_64 : decode cX5_takesLaw 64 = .ok (.iload_n 2, 1) := dk_28 (dk_at dksX5_takesLaw_2 17 rfl rfl)
theorem dX5_takesLaw_65 : decode cX5_takesLaw 65 = .ok (.iadd, 1) := dk_96 (dk_at dksX5_takesLaw_2 18 rfl rfl)
theorem dX5_takesLaw_66 : decode cX5_takesLaw 66 = .ok (.aload_n 0, 1) := dk_42 (dk_at dksX5_takesLaw_2 19 rfl rfl)
theorem dX5_takesLaw_67 : decode cX5_takesLaw 67 = .ok (.getfield 37, 3) := dk_180 0 37 (dk_at dksX5_takesLaw_2 20 rfl rfl)
theorem dX5_takesLaw_70 : decode cX5_takesLaw 70 = .ok (.bipush 32, 2) := dk_16 32 (dk_at dksX5_takesLaw_3 0 rfl rfl)
theorem dX5_takesLaw_72 : decode cX5_takesLaw 72 = .ok (.iload_n 2, 1) := dk_28 (dk_at dksX5_takesLaw_3 2 rfl rfl)
theorem dX5_takesLaw_73 : decode cX5_takesLaw 73 = .ok (.iadd, 1) := dk_96 (dk_at dksX5_takesLaw_3 3 rfl rfl)
theorem dX5_takesLaw_74 : decode cX5_takesLaw 74 = .ok (.iaload, 1) := dk_46 (dk_at dksX5_takesLaw_3 4 rfl rfl)
theorem dX5_takesLaw_75 : decode cX5_takesLaw 75 = .ok (.iastore, 1) := dk_79 (dk_at dksX5_takesLaw_3 5 rfl rfl)
theorem dX5_takesLaw_76 : decode cX5_takesLaw 76 = .ok (.aload_n 0, 1) := dk_42 (dk_at dksX5_takesLaw_3 6 rfl rfl)
theorem dX5_takesLaw_77 : decode cX5_takesLaw 77 = .ok (.getfield 40, 3) := dk_180 0 40 (dk_at dksX5_takesLaw_3 7 rfl rfl)
theorem dX5_takesLaw_80 : decode cX5_takesLaw 80 = .ok (.bipush 16, 2) := dk_16 16 (dk_at dksX5_takesLaw_3 10 rfl rfl)
theorem dX5_takesLaw_82 : decode cX5_takesLaw 82 = .ok (.aload_n 0, 1) := dk_42 (dk_at dksX5_takesLaw_3 12 rfl rfl)
theorem dX5_takesLaw_83 : decode cX5_takesLaw 83 = .ok (.getfield 249, 3) := dk_180 0 249 (dk_at dksX5_takesLaw_3 13 rfl rfl)
theorem dX5_takesLaw_86 : decode cX5_takesLaw 86 = .ok (.imul, 1) := dk_104 (dk_at dksX5_takesLaw_3 16 rfl rfl)
theorem dX5_takesLaw_87 : decode cX5_takesLaw 87 = .ok (.iload_n 2, 1) := dk_28 (dk_at dksX5_takesLaw_3 17 rfl rfl)
theorem dX5_takesLaw_88 : decode cX5_takesLaw 88 = .ok (.iadd, 1) := dk_96 (dk_at dksX5_takesLaw_3 18 rfl rfl)
theorem dX5_takesLaw_89 : decode cX5_takesLaw 89 = .ok (.aload_n 0, 1) := dk_42 (dk_at dksX5_takesLaw_3 19 rfl rfl)
theorem dX5_takesLaw_90 : decode cX5_takesLaw 90 = .ok (.getfield 40, 3) := dk_180 0 40 (dk_at dksX5_takesLaw_3 20 rfl rfl)
theorem dX5_takesLaw_93 : decode cX5_takesLaw 93 = .ok (.bipush 32, 2) := dk_16 32 (dk_at dksX5_takesLaw_4 0 rfl rfl)
theorem dX5_takesLaw_95 : decode cX5_takesLaw 95 = .ok (.iload_n 2, 1) := dk_28 (dk_at dksX5_takesLaw_4 2 rfl rfl)
theorem dX5_takesLaw_96 : decode cX5_takesLaw 96 = .ok (.iadd, 1) := dk_96 (dk_at dksX5_takesLaw_4 3 rfl rfl)
theorem dX5_takesLaw_97 : decode cX5_takesLaw 97 = .ok (.iaload, 1) := dk_46 (dk_at dksX5_takesLaw_4 4 rfl rfl)
theorem dX5_takesLaw_98 : decode cX5_takesLaw 98 = .ok (.iastore, 1) := dk_79 (dk_at dksX5_takesLaw_4 5 rfl rfl)
theorem dX5_takesLaw_99 : decode cX5_takesLaw 99 = .ok (.iinc 2 1, 3) := dk_132 2 1 (dk_at dksX5_takesLaw_4 6 rfl rfl)
theorem dX5_takesLaw_102 : decode cX5_takesLaw 102 = .ok (.goto (-100), 3) := dk_167 255 156 (dk_at dksX5_takesLaw_4 9 rfl rfl)
theorem dX5_takesLaw_105 : decode cX5_takesLaw 105 = .ok (.iconst 0, 1) := dk_3 (dk_at dksX5_takesLaw_4 12 rfl rfl)
theorem dX5_takesLaw_106 : decode cX5_takesLaw 106 = .ok (.istore_n 2, 1) := dk_61 (dk_at dksX5_takesLaw_4 13 rfl rfl)
theorem dX5_takesLaw_107 : decode cX5_takesLaw 107 = .ok (.iload_n 2, 1) := dk_28 (dk_at dksX5_takesLaw_4 14 rfl rfl)
theorem dX5_takesLaw_108 : decode cX5_takesLaw 108 = .ok (.aload_n 0, 1) := dk_42 (dk_at dksX5_takesLaw_4 15 rfl rfl)
theorem dX5_takesLaw_109 : decode cX5_takesLaw 109 = .ok (.getfield 195, 3) := dk_180 0 195 (dk_at dksX5_takesLaw_4 16 rfl rfl)
theorem dX5_takesLaw_112 : decode cX5_takesLaw 112 = .ok (.if_icmp .ge 59, 3) := dk_162 0 59 (dk_at dksX5_takesLaw_4 19 rfl rfl)
theorem dX5_takesLaw_115 : decode cX5_takesLaw 115 = .ok (.aload_n 0, 1) := dk_42 (dk_at dksX5_takesLaw_4 22 rfl rfl)
theorem dX5_takesLaw_116 : decode cX5_takesLaw 116 = .ok (.getfield 43, 3) := dk_180 0 43 (dk_at dksX5_takesLaw_5 0 rfl rfl)
theorem dX5_takesLaw_119 : decode cX5_takesLaw 119 = .ok (.sipush 400, 3) := dk_17 1 144 (dk_at dksX5_takesLaw_5 3 rfl rfl)
theorem dX5_takesLaw_122 : decode cX5_takesLaw 122 = .ok (.aload_n 0, 1) := dk_42 (dk_at dksX5_takesLaw_5 6 rfl rfl)
theorem dX5_takesLaw_123 : decode cX5_takesLaw 123 = .ok (.getfield 249, 3) := dk_180 0 249 (dk_at dksX5_takesLaw_5 7 rfl rfl)
theorem dX5_takesLaw_126 : decode cX5_takesLaw 126 = .ok (.imul, 1) := dk_104 (dk_at dksX5_takesLaw_5 10 rfl rfl)
theorem dX5_takesLaw_127 : decode cX5_takesLaw 127 = .ok (.iload_n 2, 1) := dk_28 (dk_at dksX5_takesLaw_5 11 rfl rfl)
theorem dX5_takesLaw_128 : decode cX5_takesLaw 128 = .ok (.iadd, 1) := dk_96 (dk_at dksX5_takesLaw_5 12 rfl rfl)
theorem dX5_takesLaw_129 : decode cX5_takesLaw 129 = .ok (.aload_n 0, 1) := dk_42 (dk_at dksX5_takesLaw_5 13 rfl rfl)
theorem dX5_takesLaw_130 : decode cX5_takesLaw 130 = .ok (.getfield 43, 3) := dk_180 0 43 (dk_at dksX5_takesLaw_5 14 rfl rfl)
theorem dX5_takesLaw_133 : decode cX5_takesLaw 133 = .ok (.sipush 800, 3) := dk_17 3 32 (dk_at dksX5_takesLaw_5 17 rfl rfl)
theorem dX5_takesLaw_136 : decode cX5_takesLaw 136 = .ok (.iload_n 2, 1) := dk_28 (dk_at dksX5_takesLaw_5 20 rfl rfl)
theorem dX5_takesLaw_137 : decode cX5_takesLaw 137 = .ok (.iadd, 1) := dk_96 (dk_at dksX5_takesLaw_5 21 rfl rfl)
theorem dX5_takesLaw_138 : decode cX5_takesLaw 138 = .ok (.iaload, 1) := dk_46 (dk_at dksX5_takesLaw_5 22 rfl rfl)
theorem dX5_takesLaw_139 : decode cX5_takesLaw 139 = .ok (.iastore, 1) := dk_79 (dk_at dksX5_takesLaw_5 23 rfl rfl)
theorem dX5_takesLaw_140 : decode cX5_takesLaw 140 = .ok (.aload_n 0, 1) := dk_42 (dk_at dksX5_takesLaw_6 0 rfl rfl)
theorem dX5_takesLaw_141 : decode cX5_takesLaw 141 = .ok (.getfield 46, 3) := dk_180 0 46 (dk_at dksX5_takesLaw_6 1 rfl rfl)
theorem dX5_takesLaw_144 : decode cX5_takesLaw 144 = .ok (.sipush 400, 3) := dk_17 1 144 (dk_at dksX5_takesLaw_6 4 rfl rfl)
theorem dX5_takesLaw_147 : decode cX5_takesLaw 147 = .ok (.aload_n 0, 1) := dk_42 (dk_at dksX5_takesLaw_6 7 rfl rfl)
theorem dX5_takesLaw_148 : decode cX5_takesLaw 148 = .ok (.getfield 249, 3) := dk_180 0 249 (dk_at dksX5_takesLaw_6 8 rfl rfl)
theorem dX5_takesLaw_151 : decode cX5_takesLaw 151 = .ok (.imul, 1) := dk_104 (dk_at dksX5_takesLaw_6 11 rfl rfl)
theorem dX5_takesLaw_152 : decode cX5_takesLaw 152 = .ok (.iload_n 2, 1) := dk_28 (dk_at dksX5_takesLaw_6 12 rfl rfl)
theorem dX5_takesLaw_153 : decode cX5_takesLaw 153 = .ok (.iadd, 1) := dk_96 (dk_at dksX5_takesLaw_6 13 rfl rfl)
theorem dX5_takesLaw_154 : decode cX5_takesLaw 154 = .ok (.aload_n 0, 1) := dk_42 (dk_at dksX5_takesLaw_6 14 rfl rfl)
theorem dX5_takesLaw_155 : decode cX5_takesLaw 155 = .ok (.getfield 46, 3) := dk_180 0 46 (dk_at dksX5_takesLaw_6 15 rfl rfl)
theorem dX5_takesLaw_158 : decode cX5_takesLaw 158 = .ok (.sipush 800, 3) := dk_17 3 32 (dk_at dksX5_takesLaw_6 18 rfl rfl)
theorem dX5_takesLaw_161 : decode cX5_takesLaw 161 = .ok (.iload_n 2, 1) := dk_28 (dk_at dksX5_takesLaw_6 21 rfl rfl)
theorem dX5_takesLaw_162 : decode cX5_takesLaw 162 = .ok (.iadd, 1) := dk_96 (dk_at dksX5_takesLaw_6 22 rfl rfl)
theorem dX5_takesLaw_163 : decode cX5_takesLaw 163 = .ok (.iaload, 1) := dk_46 (dk_at dksX5_takesLaw_6 23 rfl rfl)
theorem dX5_takesLaw_164 : decode cX5_takesLaw 164 = .ok (.iastore, 1) := dk_79 (dk_at dksX5_takesLaw_7 0 rfl rfl)
theorem dX5_takesLaw_165 : decode cX5_takesLaw 165 = .ok (.iinc 2 1, 3) := dk_132 2 1 (dk_at dksX5_takesLaw_7 1 rfl rfl)
theorem dX5_takesLaw_168 : decode cX5_takesLaw 168 = .ok (.goto (-61), 3) := dk_167 255 195 (dk_at dksX5_takesLaw_7 4 rfl rfl)
theorem dX5_takesLaw_171 : decode cX5_takesLaw 171 = .ok (.aload_n 0, 1) := dk_42 (dk_at dksX5_takesLaw_7 7 rfl rfl)
theorem dX5_takesLaw_172 : decode cX5_takesLaw 172 = .ok (.getfield 28, 3) := dk_180 0 28 (dk_at dksX5_takesLaw_7 8 rfl rfl)
theorem dX5_takesLaw_175 : decode cX5_takesLaw 175 = .ok (.aload_n 0, 1) := dk_42 (dk_at dksX5_takesLaw_7 11 rfl rfl)
theorem dX5_takesLaw_176 : decode cX5_takesLaw 176 = .ok (.getfield 249, 3) := dk_180 0 249 (dk_at dksX5_takesLaw_7 12 rfl rfl)
theorem dX5_takesLaw_179 : decode cX5_takesLaw 179 = .ok (.iload_n 1, 1) := dk_27 (dk_at dksX5_takesLaw_7 15 rfl rfl)
theorem dX5_takesLaw_180 : decode cX5_takesLaw 180 = .ok (.iastore, 1) := dk_79 (dk_at dksX5_takesLaw_7 16 rfl rfl)
theorem dX5_takesLaw_181 : decode cX5_takesLaw 181 = .ok (.return_, 1) := dk_177 (dk_at dksX5_takesLaw_7 17 rfl rfl)
abbrev cX5_takesOther : ByteArray := prog_22_method_62_code
def yX5_takesOther : MethodName := ⟨RX5, "takesOther", "(II)V"⟩
def dkwX5_takesOther_3 : List UInt8 := [42, 28, 181, 1, 26, 42, 3, 181, 0, 89, 177]
abbrev dktX5_takesOther_3 : List UInt8 := dkwX5_takesOther_3 ++ []
def dkwX5_takesOther_2 : List UInt8 := [162, 0, 24, 42, 180, 0, 59, 29, 42, 180, 0, 59, 16, 64, 29, 96, 46, 79, 132, 3, 1, 167, 255, 231]
abbrev dktX5_takesOther_2 : List UInt8 := dkwX5_takesOther_2 ++ dktX5_takesOther_3
def dkwX5_takesOther_1 : List UInt8 := [29, 96, 46, 79, 132, 3, 1, 167, 255, 232, 42, 28, 181, 1, 23, 167, 0, 38, 3, 62, 29, 7, 28, 104]
abbrev dktX5_takesOther_1 : List UInt8 := dkwX5_takesOther_1 ++ dktX5_takesOther_2
def dkwX5_takesOther_0 : List UInt8 := [27, 4, 160, 0, 40, 3, 62, 29, 16, 90, 162, 0, 24, 42, 180, 0, 56, 29, 42, 180, 0, 56, 16, 90]
abbrev dktX5_takesOther_0 : List UInt8 := dkwX5_takesOther_0 ++ dktX5_takesOther_1
theorem dksX5_takesOther_0 : cX5_takesOther.data.toList.drop 0 = dktX5_takesOther_0 := by decide +kernel
theorem dksX5_takesOther_1 : cX5_takesOther.data.toList.drop 24 = dktX5_takesOther_1 := dk_seg dksX5_takesOther_0 24 rfl rfl
theorem dksX5_takesOther_2 : cX5_takesOther.data.toList.drop 48 = dktX5_takesOther_2 := dk_seg dksX5_takesOther_1 24 rfl rfl
theorem dksX5_takesOther_3 : cX5_takesOther.data.toList.drop 72 = dktX5_takesOther_3 := dk_seg dksX5_takesOther_2 24 rfl rfl
theorem dX5_takesOther_0 : decode cX5_takesOther 0 = .ok (.iload_n 1, 1) := dk_27 (dk_at dksX5_takesOther_0 0 rfl rfl)
theorem dX5_takesOther_1 : decode cX5_takesOther 1 = .ok (.iconst 1, 1) := dk_4 (dk_at dksX5_takesOther_0 1 rfl rfl)
theorem dX5_takesOther_2 : decode cX5_takesOther 2 = .ok (.if_icmp .ne 40, 3) := dk_160 0 40 (dk_at dksX5_takesOther_0 2 rfl rfl)
theorem dX5_takesOther_5 : decode cX5_takesOther 5 = .ok (.iconst 0, 1) := dk_3 (dk_at dksX5_takesOther_0 5 rfl rfl)
theorem dX5_takesOther_6 : decode cX5_takesOther 6 = .ok (.istore_n 3, 1) := dk_62 (dk_at dksX5_takesOther_0 6 rfl rfl)
theorem dX5_takesOther_7 : decode cX5_takesOther 7 = .ok (.iload_n 3, 1) := dk_29 (dk_at dksX5_takesOther_0 7 rfl rfl)
theorem dX5_takesOther_8 : decode cX5_takesOther 8 = .ok (.bipush 90, 2) := dk_16 90 (dk_at dksX5_takesOther_0 8 rfl rfl)
theorem dX5_takesOther_10 : decode cX5_takesOther 10 = .ok (.if_icmp .ge 24, 3) := dk_162 0 24 (dk_at dksX5_takesOther_0 10 rfl rfl)
theorem dX5_takesOther_13 : decode cX5_takesOther 13 = .ok (.aload_n 0, 1) := dk_42 (dk_at dksX5_takesOther_0 13 rfl rfl)
theorem dX5_takesOther_14 : decode cX5_takesOther 14 = .ok (.getfield 56, 3) := dk_180 0 56 (dk_at dksX5_takesOther_0 14 rfl rfl)
theorem dX5_takesOther_17 : decode cX5_takesOther 17 = .ok (.iload_n 3, 1) := dk_29 (dk_at dksX5_takesOther_0 17 rfl rfl)
theorem dX5_takesOther_18 : decode cX5_takesOther 18 = .ok (.aload_n 0, 1) := dk_42 (dk_at dksX5_takesOther_0 18 rfl rfl)
theorem dX5_takesOther_19 : decode cX5_takesOther 19 = .ok (.getfield 56, 3) := dk_180 0 56 (dk_at dksX5_takesOther_0 19 rfl rfl)
theorem dX5_takesOther_22 : decode cX5_takesOther 22 = .ok (.bipush 90, 2) := dk_16 90 (dk_at dksX5_takesOther_0 22 rfl rfl)
theorem dX5_takesOther_24 : decode cX5_takesOther 24 = .ok (.iload_n 3, 1) := dk_29 (dk_at dksX5_takesOther_1 0 rfl rfl)
theorem dX5_takesOther_25 : decode cX5_takesOther 25 = .ok (.iadd, 1) := dk_96 (dk_at dksX5_takesOther_1 1 rfl rfl)
theorem dX5_takesOther_26 : decode cX5_takesOther 26 = .ok (.iaload, 1) := dk_46 (dk_at dksX5_takesOther_1 2 rfl rfl)
theorem dX5_takesOther_27 : decode cX5_takesOther 27 = .ok (.iastore, 1) := dk_79 (dk_at dksX5_takesOther_1 3 rfl rfl)
theorem dX5_takesOther_28 : decode cX5_takesOther 28 = .ok (.iinc 3 1, 3) := dk_132 3 1 (dk_at dksX5_takesOther_1 4 rfl rfl)
theorem dX5_takesOther_31 : decode cX5_takesOther 31 = .ok (.goto (-24), 3) := dk_167 255 232 (dk_at dksX5_takesOther_1 7 rfl rfl)
theorem dX5_takesOther_34 : decode cX5_takesOther 34 = .ok (.aload_n 0, 1) := dk_42 (dk_at dksX5_takesOther_1 10 rfl rfl)
theorem dX5_takesOther_35 : decode cX5_takesOther 35 = .ok (.iload_n 2, 1) := dk_28 (dk_at dksX5_takesOther_1 11 rfl rfl)
theorem dX5_takesOther_36 : decode cX5_takesOther 36 = .ok (.putfield 279, 3) := dk_181 1 23 (dk_at dksX5_takesOther_1 12 rfl rfl)
theorem dX5_takesOther_39 : decode cX5_takesOther 39 = .ok (.goto 38, 3) := dk_167 0 38 (dk_at dksX5_takesOther_1 15 rfl rfl)
theorem dX5_takesOther_42 : decode cX5_takesOther 42 = .ok (.iconst 0, 1) := dk_3 (dk_at dksX5_takesOther_1 18 rfl rfl)
theorem dX5_takesOther_43 : decode cX5_takesOther 43 = .ok (.istore_n 3, 1) := dk_62 (dk_at dksX5_takesOther_1 19 rfl rfl)
theorem dX5_takesOther_44 : decode cX5_takesOther 44 = .ok (.iload_n 3, 1) := dk_29 (dk_at dksX5_takesOther_1 20 rfl rfl)
theorem dX5_takesOther_45 : decode cX5_takesOther 45 = .ok (.iconst 4, 1) := dk_7 (dk_at dksX5_takesOther_1 21 rfl rfl)
theorem dX5_takesOther_46 : decode cX5_takesOther 46 = .ok (.iload_n 2, 1) := dk_28 (dk_at dksX5_takesOther_1 22 rfl rfl)
theorem dX5_takesOther_47 : decode cX5_takesOther 47 = .ok (.imul, 1) := dk_104 (dk_at dksX5_takesOther_1 23 rfl rfl)
theorem dX5_takesOther_48 : decode cX5_takesOther 48 = .ok (.if_icmp .ge 24, 3) := dk_162 0 24 (dk_at dksX5_takesOther_2 0 rfl rfl)
theorem dX5_takesOther_51 : decode cX5_takesOther 51 = .ok (.aload_n 0, 1) := dk_42 (dk_at dksX5_takesOther_2 3 rfl rfl)
theorem dX5_takesOther_52 : decode cX5_takesOther 52 = .ok (.getfield 59, 3) := dk_180 0 59 (dk_at dksX5_takesOther_2 4 rfl rfl)
theorem dX5_takesOther_55 : decode cX5_takesOther 55 = .ok (.iload_n 3, 1) := dk_29 (dk_at dksX5_takesOther_2 7 rfl rfl)
theorem dX5_takesOther_56 : decode cX5_takesOther 56 = .ok (.aload_n 0, 1) := dk_42 (dk_at dksX5_takesOther_2 8 rfl rfl)
theorem dX5_takesOther_57 : decode cX5_takesOther 57 = .ok (.getfield 59, 3) := dk_180 0 59 (dk_at dksX5_takesOther_2 9 rfl rfl)
theorem dX5_takesOther_60 : decode cX5_takesOther 60 = .ok (.bipush 64, 2) := dk_16 64 (dk_at dksX5_takesOther_2 12 rfl rfl)
theorem dX5_takesOther_62 : decode cX5_takesOther 62 = .ok (.iload_n 3, 1) := dk_29 (dk_at dksX5_takesOther_2 14 rfl rfl)
theorem dX5_takesOther_63 : decode cX5_takesOther 63 = .ok (.iadd, 1) := dk_96 (dk_at dksX5_takesOther_2 15 rfl rfl)
theorem dX5_takesOther_64 : decode cX5_takesOther 64 = .ok (.iaload, 1) := dk_46 (dk_at dksX5_takesOther_2 16 rfl rfl)
theorem dX5_takesOther_65 : decode cX5_takesOther 65 = .ok (.iastore, 1) := dk_79 (dk_at dksX5_takesOther_2 17 rfl rfl)
theorem dX5_takesOther_66 : decode cX5_takesOther 66 = .ok (.iinc 3 1, 3) := dk_132 3 1 (dk_at dksX5_takesOther_2 18 rfl rfl)
theorem dX5_takesOther_69 : decode cX5_takesOther 69 = .ok (.goto (-25), 3) := dk_167 255 231 (dk_at dksX5_takesOther_2 21 rfl rfl)
theorem dX5_takesOther_72 : decode cX5_takesOther 72 = .ok (.aload_n 0, 1) := dk_42 (dk_at dksX5_takesOther_3 0 rfl rfl)
theorem dX5_takesOther_73 : decode cX5_takesOther 73 = .ok (.iload_n 2, 1) := dk_28 (dk_at dksX5_takesOther_3 1 rfl rfl)
theorem dX5_takesOther_74 : decode cX5_takesOther 74 = .ok (.putfield 282, 3) := dk_181 1 26 (dk_at dksX5_takesOther_3 2 rfl rfl)
theorem dX5_takesOther_77 : decode cX5_takesOther 77 = .ok (.aload_n 0, 1) := dk_42 (dk_at dksX5_takesOther_3 5 rfl rfl)
theorem dX5_takesOther_78 : decode cX5_takesOther 78 = .ok (.iconst 0, 1) := dk_3 (dk_at dksX5_takesOther_3 6 rfl rfl)
theorem dX5_takesOther_79 : decode cX5_takesOther 79 = .ok (.putfield 89, 3) := dk_181 0 89 (dk_at dksX5_takesOther_3 7 rfl rfl)
theorem dX5_takesOther_82 : decode cX5_takesOther 82 = .ok (.return_, 1) := dk_177 (dk_at dksX5_takesOther_3 10 rfl rfl)
abbrev cX5_fault : ByteArray := prog_22_method_64_code
def yX5_fault : MethodName := ⟨RX5, "fault", "(I)I"⟩
def dkwX5_fault_1 : List UInt8 := [180, 0, 52, 167, 0, 4, 2, 172]
abbrev dktX5_fault_1 : List UInt8 := dkwX5_fault_1 ++ []
def dkwX5_fault_0 : List UInt8 := [42, 3, 181, 0, 86, 27, 154, 0, 10, 42, 180, 1, 29, 167, 0, 16, 27, 4, 160, 0, 10, 42]
abbrev dktX5_fault_0 : List UInt8 := dkwX5_fault_0 ++ dktX5_fault_1
theorem dksX5_fault_0 : cX5_fault.data.toList.drop 0 = dktX5_fault_0 := by decide +kernel
theorem dksX5_fault_1 : cX5_fault.data.toList.drop 22 = dktX5_fault_1 := dk_seg dksX5_fault_0 22 rfl rfl
theorem dX5_fault_0 : decode cX5_fault 0 = .ok (.aload_n 0, 1) := dk_42 (dk_at dksX5_fault_0 0 rfl rfl)
theorem dX5_fault_1 : decode cX5_fault 1 = .ok (.iconst 0, 1) := dk_3 (dk_at dksX5_fault_0 1 rfl rfl)
theorem dX5_fault_2 : decode cX5_fault 2 = .ok (.putfield 86, 3) := dk_181 0 86 (dk_at dksX5_fault_0 2 rfl rfl)
theorem dX5_fault_5 : decode cX5_fault 5 = .ok (.iload_n 1, 1) := dk_27 (dk_at dksX5_fault_0 5 rfl rfl)
theorem dX5_fault_6 : decode cX5_fault 6 = .ok (.ifCond .ne 10, 3) := dk_154 0 10 (dk_at dksX5_fault_0 6 rfl rfl)
theorem dX5_fault_9 : decode cX5_fault 9 = .ok (.aload_n 0, 1) := dk_42 (dk_at dksX5_fault_0 9 rfl rfl)
theorem dX5_fault_10 : decode cX5_fault 10 = .ok (.getfield 285, 3) := dk_180 1 29 (dk_at dksX5_fault_0 10 rfl rfl)
theorem dX5_fault_13 : decode cX5_fault 13 = .ok (.goto 16, 3) := dk_167 0 16 (dk_at dksX5_fault_0 13 rfl rfl)
theorem dX5_fault_16 : decode cX5_fault 16 = .ok (.iload_n 1, 1) := dk_27 (dk_at dksX5_fault_0 16 rfl rfl)
theorem dX5_fault_17 : decode cX5_fault 17 = .ok (.iconst 1, 1) := dk_4 (dk_at dksX5_fault_0 17 rfl rfl)
theorem dX5_fault_18 : decode cX5_fault 18 = .ok (.if_icmp .ne 10, 3) := dk_160 0 10 (dk_at dksX5_fault_0 18 rfl rfl)
theorem dX5_fault_21 : decode cX5_fault 21 = .ok (.aload_n 0, 1) := dk_42 (dk_at dksX5_fault_0 21 rfl rfl)
theorem dX5_fault_22 : decode cX5_fault 22 = .ok (.getfield 52, 3) := dk_180 0 52 (dk_at dksX5_fault_1 0 rfl rfl)
theorem dX5_fault_25 : decode cX5_fault 25 = .ok (.goto 4, 3) := dk_167 0 4 (dk_at dksX5_fault_1 3 rfl rfl)
theorem dX5_fault_28 : decode cX5_fault 28 = .ok (.iconst (-1), 1) := dk_2 (dk_at dksX5_fault_1 6 rfl rfl)
theorem dX5_fault_29 : decode cX5_fault 29 = .ok (.ireturn, 1) := dk_172 (dk_at dksX5_fault_1 7 rfl rfl)
abbrev cX5_plant : ByteArray := prog_22_method_78_code
def yX5_plant : MethodName := ⟨RX5, "plant", "(III)I"⟩
def dkwX5_plant_2 : List UInt8 := [182, 1, 73, 42, 27, 28, 29, 182, 1, 76, 172]
abbrev dktX5_plant_2 : List UInt8 := dkwX5_plant_2 ++ []
def dkwX5_plant_1 : List UInt8 := [16, 99, 182, 0, 126, 153, 0, 14, 42, 180, 0, 7, 7, 46, 16, 14, 160, 0, 5, 2, 172, 42]
abbrev dktX5_plant_1 : List UInt8 := dkwX5_plant_1 ++ dktX5_plant_2
def dkwX5_plant_0 : List UInt8 := [42, 3, 181, 0, 86, 42, 27, 182, 0, 134, 153, 0, 33, 42, 28, 182, 1, 70, 153, 0, 25, 42, 29, 3]
abbrev dktX5_plant_0 : List UInt8 := dkwX5_plant_0 ++ dktX5_plant_1
theorem dksX5_plant_0 : cX5_plant.data.toList.drop 0 = dktX5_plant_0 := by decide +kernel
theorem dksX5_plant_1 : cX5_plant.data.toList.drop 24 = dktX5_plant_1 := dk_seg dksX5_plant_0 24 rfl rfl
theorem dksX5_plant_2 : cX5_plant.data.toList.drop 46 = dktX5_plant_2 := dk_seg dksX5_plant_1 22 rfl rfl
theorem dX5_plant_0 : decode cX5_plant 0 = .ok (.aload_n 0, 1) := dk_42 (dk_at dksX5_plant_0 0 rfl rfl)
theorem dX5_plant_1 : decode cX5_plant 1 = .ok (.iconst 0, 1) := dk_3 (dk_at dksX5_plant_0 1 rfl rfl)
theorem dX5_plant_2 : decode cX5_plant 2 = .ok (.putfield 86, 3) := dk_181 0 86 (dk_at dksX5_plant_0 2 rfl rfl)
theorem dX5_plant_5 : decode cX5_plant 5 = .ok (.aload_n 0, 1) := dk_42 (dk_at dksX5_plant_0 5 rfl rfl)
theorem dX5_plant_6 : decode cX5_plant 6 = .ok (.iload_n 1, 1) := dk_27 (dk_at dksX5_plant_0 6 rfl rfl)
theorem dX5_plant_7 : decode cX5_plant 7 = .ok (.invokevirtual 134, 3) := dk_182 0 134 (dk_at dksX5_plant_0 7 rfl rfl)
theorem dX5_plant_10 : decode cX5_plant 10 = .ok (.ifCond .eq 33, 3) := dk_153 0 33 (dk_at dksX5_plant_0 10 rfl rfl)
theorem dX5_plant_13 : decode cX5_plant 13 = .ok (.aload_n 0, 1) := dk_42 (dk_at dksX5_plant_0 13 rfl rfl)
theorem dX5_plant_14 : decode cX5_plant 14 = .ok (.iload_n 2, 1) := dk_28 (dk_at dksX5_plant_0 14 rfl rfl)
theorem dX5_plant_15 : decode cX5_plant 15 = .ok (.invokevirtual 326, 3) := dk_182 1 70 (dk_at dksX5_plant_0 15 rfl rfl)
theorem dX5_plant_18 : decode cX5_plant 18 = .ok (.ifCond .eq 25, 3) := dk_153 0 25 (dk_at dksX5_plant_0 18 rfl rfl)
theorem dX5_plant_21 : decode cX5_plant 21 = .ok (.aload_n 0, 1) := dk_42 (dk_at dksX5_plant_0 21 rfl rfl)
theorem dX5_plant_22 : decode cX5_plant 22 = .ok (.iload_n 3, 1) := dk_29 (dk_at dksX5_plant_0 22 rfl rfl)
theorem dX5_plant_23 : decode cX5_plant 23 = .ok (.iconst 0, 1) := dk_3 (dk_at dksX5_plant_0 23 rfl rfl)
theorem dX5_plant_24 : decode cX5_plant 24 = .ok (.bipush 99, 2) := dk_16 99 (dk_at dksX5_plant_1 0 rfl rfl)
theorem dX5_plant_26 : decode cX5_plant 26 = .ok (.invokevirtual 126, 3) := dk_182 0 126 (dk_at dksX5_plant_1 2 rfl rfl)
theorem dX5_plant_29 : decode cX5_plant 29 = .ok (.ifCond .eq 14, 3) := dk_153 0 14 (dk_at dksX5_plant_1 5 rfl rfl)
theorem dX5_plant_32 : decode cX5_plant 32 = .ok (.aload_n 0, 1) := dk_42 (dk_at dksX5_plant_1 8 rfl rfl)
theorem dX5_plant_33 : decode cX5_plant 33 = .ok (.getfield 7, 3) := dk_180 0 7 (dk_at dksX5_plant_1 9 rfl rfl)
theorem dX5_plant_36 : decode cX5_plant 36 = .ok (.iconst 4, 1) := dk_7 (dk_at dksX5_plant_1 12 rfl rfl)
theorem dX5_plant_37 : decode cX5_plant 37 = .ok (.iaload, 1) := dk_46 (dk_at dksX5_plant_1 13 rfl rfl)
theorem dX5_plant_38 : decode cX5_plant 38 = .ok (.bipush 14, 2) := dk_16 14 (dk_at dksX5_plant_1 14 rfl rfl)
theorem dX5_plant_40 : decode cX5_plant 40 = .ok (.if_icmp .ne 5, 3) := dk_160 0 5 (dk_at dksX5_plant_1 16 rfl rfl)
theorem dX5_plant_43 : decode cX5_plant 43 = .ok (.iconst (-1), 1) := dk_2 (dk_at dksX5_plant_1 19 rfl rfl)
theorem dX5_plant_44 : decode cX5_plant 44 = .ok (.ireturn, 1) := dk_172 (dk_at dksX5_plant_1 20 rfl rfl)
theorem dX5_plant_45 : decode cX5_plant 45 = .ok (.aload_n 0, 1) := dk_42 (dk_at dksX5_plant_1 21 rfl rfl)
theorem dX5_plant_46 : decode cX5_plant 46 = .ok (.invokevirtual 329, 3) := dk_182 1 73 (dk_at dksX5_plant_2 0 rfl rfl)
theorem dX5_plant_49 : decode cX5_plant 49 = .ok (.aload_n 0, 1) := dk_42 (dk_at dksX5_plant_2 3 rfl rfl)
theorem dX5_plant_50 : decode cX5_plant 50 = .ok (.iload_n 1, 1) := dk_27 (dk_at dksX5_plant_2 4 rfl rfl)
theorem dX5_plant_51 : decode cX5_plant 51 = .ok (.iload_n 2, 1) := dk_28 (dk_at dksX5_plant_2 5 rfl rfl)
theorem dX5_plant_52 : decode cX5_plant 52 = .ok (.iload_n 3, 1) := dk_29 (dk_at dksX5_plant_2 6 rfl rfl)
theorem dX5_plant_53 : decode cX5_plant 53 = .ok (.invokevirtual 332, 3) := dk_182 1 76 (dk_at dksX5_plant_2 7 rfl rfl)
theorem dX5_plant_56 : decode cX5_plant 56 = .ok (.ireturn, 1) := dk_172 (dk_at dksX5_plant_2 10 rfl rfl)
abbrev cX5_isPlace : ByteArray := prog_22_method_20_code
def yX5_isPlace : MethodName := ⟨RX5, "isPlace", "(I)Z"⟩
def dkwX5_isPlace_0 : List UInt8 := [27, 155, 0, 13, 27, 16, 10, 162, 0, 7, 4, 167, 0, 4, 3, 172]
abbrev dktX5_isPlace_0 : List UInt8 := dkwX5_isPlace_0 ++ []
theorem dksX5_isPlace_0 : cX5_isPlace.data.toList.drop 0 = dktX5_isPlace_0 := by decide +kernel
theorem dX5_isPlace_0 : decode cX5_isPlace 0 = .ok (.iload_n 1, 1) := dk_27 (dk_at dksX5_isPlace_0 0 rfl rfl)
theorem dX5_isPlace_1 : decode cX5_isPlace 1 = .ok (.ifCond .lt 13, 3) := dk_155 0 13 (dk_at dksX5_isPlace_0 1 rfl rfl)
theorem dX5_isPlace_4 : decode cX5_isPlace 4 = .ok (.iload_n 1, 1) := dk_27 (dk_at dksX5_isPlace_0 4 rfl rfl)
theorem dX5_isPlace_5 : decode cX5_isPlace 5 = .ok (.bipush 10, 2) := dk_16 10 (dk_at dksX5_isPlace_0 5 rfl rfl)
theorem dX5_isPlace_7 : decode cX5_isPlace 7 = .ok (.if_icmp .ge 7, 3) := dk_162 0 7 (dk_at dksX5_isPlace_0 7 rfl rfl)
theorem dX5_isPlace_10 : decode cX5_isPlace 10 = .ok (.iconst 1, 1) := dk_4 (dk_at dksX5_isPlace_0 10 rfl rfl)
theorem dX5_isPlace_11 : decode cX5_isPlace 11 = .ok (.goto 4, 3) := dk_167 0 4 (dk_at dksX5_isPlace_0 11 rfl rfl)
theorem dX5_isPlace_14 : decode cX5_isPlace 14 = .ok (.iconst 0, 1) := dk_3 (dk_at dksX5_isPlace_0 14 rfl rfl)
theorem dX5_isPlace_15 : decode cX5_isPlace 15 = .ok (.ireturn, 1) := dk_172 (dk_at dksX5_isPlace_0 15 rfl rfl)
abbrev cX5_keepsAhead : ByteArray := prog_22_method_9_code
def yX5_keepsAhead : MethodName := ⟨RX5, "keepsAhead", "()V"⟩
def dkwX5_keepsAhead_4 : List UInt8 := [42, 180, 0, 89, 4, 96, 181, 0, 89, 177]
abbrev dktX5_keepsAhead_4 : List UInt8 := dkwX5_keepsAhead_4 ++ []
def dkwX5_keepsAhead_3 : List UInt8 := [17, 0, 136, 42, 180, 0, 89, 104, 27, 96, 42, 180, 0, 7, 27, 46, 79, 132, 1, 1, 167, 255, 225, 42]
abbrev dktX5_keepsAhead_3 : List UInt8 := dkwX5_keepsAhead_3 ++ dktX5_keepsAhead_4
def dkwX5_keepsAhead_2 : List UInt8 := [96, 46, 79, 132, 1, 1, 167, 255, 225, 3, 60, 27, 17, 0, 136, 162, 0, 30, 42, 180, 0, 13]
abbrev dktX5_keepsAhead_2 : List UInt8 := dkwX5_keepsAhead_2 ++ dktX5_keepsAhead_3
def dkwX5_keepsAhead_1 : List UInt8 := [17, 0, 136, 42, 180, 0, 89, 104, 162, 0, 25, 42, 180, 0, 13, 27, 42, 180, 0, 13, 27, 17, 0, 136]
abbrev dktX5_keepsAhead_1 : List UInt8 := dkwX5_keepsAhead_1 ++ dktX5_keepsAhead_2
def dkwX5_keepsAhead_0 : List UInt8 := [42, 180, 0, 89, 16, 6, 160, 0, 49, 42, 42, 180, 0, 89, 4, 100, 181, 0, 89, 3, 60, 27]
abbrev dktX5_keepsAhead_0 : List UInt8 := dkwX5_keepsAhead_0 ++ dktX5_keepsAhead_1
theorem dksX5_keepsAhead_0 : cX5_keepsAhead.data.toList.drop 0 = dktX5_keepsAhead_0 := by decide +kernel
theorem dksX5_keepsAhead_1 : cX5_keepsAhead.data.toList.drop 22 = dktX5_keepsAhead_1 := dk_seg dksX5_keepsAhead_0 22 rfl rfl
theorem dksX5_keepsAhead_2 : cX5_keepsAhead.data.toList.drop 46 = dktX5_keepsAhead_2 := dk_seg dksX5_keepsAhead_1 24 rfl rfl
theorem dksX5_keepsAhead_3 : cX5_keepsAhead.data.toList.drop 68 = dktX5_keepsAhead_3 := dk_seg dksX5_keepsAhead_2 22 rfl rfl
theorem dksX5_keepsAhead_4 : cX5_keepsAhead.data.toList.drop 92 = dktX5_keepsAhead_4 := dk_seg dksX5_keepsAhead_3 24 rfl rfl
theorem dX5_keepsAhead_0 : decode cX5_keepsAhead 0 = .ok (.aload_n 0, 1) := dk_42 (dk_at dksX5_keepsAhead_0 0 rfl rfl)
theorem dX5_keepsAhead_1 : decode cX5_keepsAhead 1 = .ok (.getfield 89, 3) := dk_180 0 89 (dk_at dksX5_keepsAhead_0 1 rfl rfl)
theorem dX5_keepsAhead_4 : decode cX5_keepsAhead 4 = .ok (.bipush 6, 2) := dk_16 6 (dk_at dksX5_keepsAhead_0 4 rfl rfl)
theorem dX5_keepsAhead_6 : decode cX5_keepsAhead 6 = .ok (.if_icmp .ne 49, 3) := dk_160 0 49 (dk_at dksX5_keepsAhead_0 6 rfl rfl)
theorem dX5_keepsAhead_9 : decode cX5_keepsAhead 9 = .ok (.aload_n 0, 1) := dk_42 (dk_at dksX5_keepsAhead_0 9 rfl rfl)
theorem dX5_keepsAhead_10 : decode cX5_keepsAhead 10 = .ok (.aload_n 0, 1) := dk_42 (dk_at dksX5_keepsAhead_0 10 rfl rfl)
theorem dX5_keepsAhead_11 : decode cX5_keepsAhead 11 = .ok (.getfield 89, 3) := dk_180 0 89 (dk_at dksX5_keepsAhead_0 11 rfl rfl)
theorem dX5_keepsAhead_14 : decode cX5_keepsAhead 14 = .ok (.iconst 1, 1) := dk_4 (dk_at dksX5_keepsAhead_0 14 rfl rfl)
theorem dX5_keepsAhead_15 : decode cX5_keepsAhead 15 = .ok (.isub, 1) := dk_100 (dk_at dksX5_keepsAhead_0 15 rfl rfl)
theorem dX5_keepsAhead_16 : decode cX5_keepsAhead 16 = .ok (.putfield 89, 3) := dk_181 0 89 (dk_at dksX5_keepsAhead_0 16 rfl rfl)
theorem dX5_keepsAhead_19 : decode cX5_keepsAhead 19 = .ok (.iconst 0, 1) := dk_3 (dk_at dksX5_keepsAhead_0 19 rfl rfl)
theorem dX5_keepsAhead_20 : decode cX5_keepsAhead 20 = .ok (.istore_n 1, 1) := dk_60 (dk_at dksX5_keepsAhead_0 20 rfl rfl)
theorem dX5_keepsAhead_21 : decode cX5_keepsAhead 21 = .ok (.iload_n 1, 1) := dk_27 (dk_at dksX5_keepsAhead_0 21 rfl rfl)
theorem dX5_keepsAhead_22 : decode cX5_keepsAhead 22 = .ok (.sipush 136, 3) := dk_17 0 136 (dk_at dksX5_keepsAhead_1 0 rfl rfl)
theorem dX5_keepsAhead_25 : decode cX5_keepsAhead 25 = .ok (.aload_n 0, 1) := dk_42 (dk_at dksX5_keepsAhead_1 3 rfl rfl)
theorem dX5_keepsAhead_26 : decode cX5_keepsAhead 26 = .ok (.getfield 89, 3) := dk_180 0 89 (dk_at dksX5_keepsAhead_1 4 rfl rfl)
theorem dX5_keepsAhead_29 : decode cX5_keepsAhead 29 = .ok (.imul, 1) := dk_104 (dk_at dksX5_keepsAhead_1 7 rfl rfl)
theorem dX5_keepsAhead_30 : decode cX5_keepsAhead 30 = .ok (.if_icmp .ge 25, 3) := dk_162 0 25 (dk_at dksX5_keepsAhead_1 8 rfl rfl)
theorem dX5_keepsAhead_33 : decode cX5_keepsAhead 33 = .ok (.aload_n 0, 1) := dk_42 (dk_at dksX5_keepsAhead_1 11 rfl rfl)
theorem dX5_keepsAhead_34 : decode cX5_keepsAhead 34 = .ok (.getfield 13, 3) := dk_180 0 13 (dk_at dksX5_keepsAhead_1 12 rfl rfl)
theorem dX5_keepsAhead_37 : decode cX5_keepsAhead 37 = .ok (.iload_n 1, 1) := dk_27 (dk_at dksX5_keepsAhead_1 15 rfl rfl)
theorem dX5_keepsAhead_38 : decode cX5_keepsAhead 38 = .ok (.aload_n 0, 1) := dk_42 (dk_at dksX5_keepsAhead_1 16 rfl rfl)
theorem dX5_keepsAhead_39 : decode cX5_keepsAhead 39 = .ok (.getfield 13, 3) := dk_180 0 13 (dk_at dksX5_keepsAhead_1 17 rfl rfl)
theorem dX5_keepsAhead_42 : decode cX5_keepsAhead 42 = .ok (.iload_n 1, 1) := dk_27 (dk_at dksX5_keepsAhead_1 20 rfl rfl)
theorem dX5_keepsAhead_43 : decode cX5_keepsAhead 43 = .ok (.sipush 136, 3) := dk_17 0 136 (dk_at dksX5_keepsAhead_1 21 rfl rfl)
theorem dX5_keepsAhead_46 : decode cX5_keepsAhead 46 = .ok (.iadd, 1) := dk_96 (dk_at dksX5_keepsAhead_2 0 rfl rfl)
theorem dX5_keepsAhead_47 : decode cX5_keepsAhead 47 = .ok (.iaload, 1) := dk_46 (dk_at dksX5_keepsAhead_2 1 rfl rfl)
theorem dX5_keepsAhead_48 : decode cX5_keepsAhead 48 = .ok (.iastore, 1) := dk_79 (dk_at dksX5_keepsAhead_2 2 rfl rfl)
theorem dX5_keepsAhead_49 : decode cX5_keepsAhead 49 = .ok (.iinc 1 1, 3) := dk_132 1 1 (dk_at dksX5_keepsAhead_2 3 rfl rfl)
theorem dX5_keepsAhead_52 : decode cX5_keepsAhead 52 = .ok (.goto (-31), 3) := dk_167 255 225 (dk_at dksX5_keepsAhead_2 6 rfl rfl)
theorem dX5_keepsAhead_55 : decode cX5_keepsAhead 55 = .ok (.iconst 0, 1) := dk_3 (dk_at dksX5_keepsAhead_2 9 rfl rfl)
theorem dX5_keepsAhead_56 : decode cX5_keepsAhead 56 = .ok (.istore_n 1, 1) := dk_60 (dk_at dksX5_keepsAhead_2 10 rfl rfl)
theorem dX5_keepsAhead_57 : decode cX5_keepsAhead 57 = .ok (.iload_n 1, 1) := dk_27 (dk_at dksX5_keepsAhead_2 11 rfl rfl)
theorem dX5_keepsAhead_58 : decode cX5_keepsAhead 58 = .ok (.sipush 136, 3) := dk_17 0 136 (dk_at dksX5_keepsAhead_2 12 rfl rfl)
theorem dX5_keepsAhead_61 : decode cX5_keepsAhead 61 = .ok (.if_icmp .ge 30, 3) := dk_162 0 30 (dk_at dksX5_keepsAhead_2 15 rfl rfl)
theorem dX5_keepsAhead_64 : decode cX5_keepsAhead 64 = .ok (.aload_n 0, 1) := dk_42 (dk_at dksX5_keepsAhead_2 18 rfl rfl)
theorem dX5_keepsAhead_65 : decode cX5_keepsAhead 65 = .ok (.getfield 13, 3) := dk_180 0 13 (dk_at dksX5_keepsAhead_2 19 rfl rfl)
theorem dX5_keepsAhead_68 : decode cX5_keepsAhead 68 = .ok (.sipush 136, 3) := dk_17 0 136 (dk_at dksX5_keepsAhead_3 0 rfl rfl)
theorem dX5_keepsAhead_71 : decode cX5_keepsAhead 71 = .ok (.aload_n 0, 1) := dk_42 (dk_at dksX5_keepsAhead_3 3 rfl rfl)
theorem dX5_keepsAhead_72 : decode cX5_keepsAhead 72 = .ok (.getfield 89, 3) := dk_180 0 89 (dk_at dksX5_keepsAhead_3 4 rfl rfl)
theorem dX5_keepsAhead_75 : decode cX5_keepsAhead 75 = .ok (.imul, 1) := dk_104 (dk_at dksX5_keepsAhead_3 7 rfl rfl)
theorem dX5_keepsAhead_76 : decode cX5_keepsAhead 76 = .ok (.iload_n 1, 1) := dk_27 (dk_at dksX5_keepsAhead_3 8 rfl rfl)
theorem dX5_keepsAhead_77 : decode cX5_keepsAhead 77 = .ok (.iadd, 1) := dk_96 (dk_at dksX5_keepsAhead_3 9 rfl rfl)
theorem dX5_keepsAhead_78 : decode cX5_keepsAhead 78 = .ok (.aload_n 0, 1) := dk_42 (dk_at dksX5_keepsAhead_3 10 rfl rfl)
theorem dX5_keepsAhead_79 : decode cX5_keepsAhead 79 = .ok (.getfield 7, 3) := dk_180 0 7 (dk_at dksX5_keepsAhead_3 11 rfl rfl)
theorem dX5_keepsAhead_82 : decode cX5_keepsAhead 82 = .ok (.iload_n 1, 1) := dk_27 (dk_at dksX5_keepsAhead_3 14 rfl rfl)
theorem dX5_keepsAhead_83 : decode cX5_keepsAhead 83 = .ok (.iaload, 1) := dk_46 (dk_at dksX5_keepsAhead_3 15 rfl rfl)
theorem dX5_keepsAhead_84 : decode cX5_keepsAhead 84 = .ok (.iastore, 1) := dk_79 (dk_at dksX5_keepsAhead_3 16 rfl rfl)
theorem dX5_keepsAhead_85 : decode cX5_keepsAhead 85 = .ok (.iinc 1 1, 3) := dk_132 1 1 (dk_at dksX5_keepsAhead_3 17 rfl rfl)
theorem dX5_keepsAhead_88 : decode cX5_keepsAhead 88 = .ok (.goto (-31), 3) := dk_167 255 225 (dk_at dksX5_keepsAhead_3 20 rfl rfl)
theorem dX5_keepsAhead_91 : decode cX5_keepsAhead 91 = .ok (.aload_n 0, 1) := dk_42 (dk_at dksX5_keepsAhead_3 23 rfl rfl)
theorem dX5_keepsAhead_92 : decode cX5_keepsAhead 92 = .ok (.aload_n 0, 1) := dk_42 (dk_at dksX5_keepsAhead_4 0 rfl rfl)
theorem dX5_keepsAhead_93 : decode cX5_keepsAhead 93 = .ok (.getfield 89, 3) := dk_180 0 89 (dk_at dksX5_keepsAhead_4 1 rfl rfl)
theorem dX5_keepsAhead_96 : decode cX5_keepsAhead 96 = .ok (.iconst 1, 1) := dk_4 (dk_at dksX5_keepsAhead_4 4 rfl rfl)
theorem dX5_keepsAhead_97 : decode cX5_keepsAhead 97 = .ok (.iadd, 1) := dk_96 (dk_at dksX5_keepsAhead_4 5 rfl rfl)
theorem dX5_keepsAhead_98 : decode cX5_keepsAhead 98 = .ok (.putfield 89, 3) := dk_181 0 89 (dk_at dksX5_keepsAhead_4 6 rfl rfl)
theorem dX5_keepsAhead_101 : decode cX5_keepsAhead 101 = .ok (.return_, 1) := dk_177 (dk_at dksX5_keepsAhead_4 9 rfl rfl)
abbrev cX5_plants : ByteArray := prog_22_method_74_code
def yX5_plants : MethodName := ⟨RX5, "plants", "(III)I"⟩
def dkwX5_plants_3 : List UInt8 := [21, 4, 172]
abbrev dktX5_plants_3 : List UInt8 := dkwX5_plants_3 ++ []
def dkwX5_plants_2 : List UInt8 := [21, 4, 96, 3, 79, 42, 180, 0, 7, 7, 21, 4, 4, 96, 79, 42, 3, 21, 4, 3, 182, 1, 60]
abbrev dktX5_plants_2 : List UInt8 := dkwX5_plants_2 ++ dktX5_plants_3
def dkwX5_plants_1 : List UInt8 := [16, 34, 21, 4, 96, 28, 79, 42, 180, 0, 7, 16, 48, 21, 4, 96, 29, 79, 42, 180, 0, 7, 16, 62]
abbrev dktX5_plants_1 : List UInt8 := dkwX5_plants_1 ++ dktX5_plants_2
def dkwX5_plants_0 : List UInt8 := [42, 180, 0, 7, 7, 46, 54, 4, 42, 180, 0, 7, 16, 20, 21, 4, 96, 27, 79, 42, 180, 0, 7]
abbrev dktX5_plants_0 : List UInt8 := dkwX5_plants_0 ++ dktX5_plants_1
theorem dksX5_plants_0 : cX5_plants.data.toList.drop 0 = dktX5_plants_0 := by decide +kernel
theorem dksX5_plants_1 : cX5_plants.data.toList.drop 23 = dktX5_plants_1 := dk_seg dksX5_plants_0 23 rfl rfl
theorem dksX5_plants_2 : cX5_plants.data.toList.drop 47 = dktX5_plants_2 := dk_seg dksX5_plants_1 24 rfl rfl
theorem dksX5_plants_3 : cX5_plants.data.toList.drop 70 = dktX5_plants_3 := dk_seg dksX5_plants_2 23 rfl rfl
theorem dX5_plants_0 : decode cX5_plants 0 = .ok (.aload_n 0, 1) := dk_42 (dk_at dksX5_plants_0 0 rfl rfl)
theorem dX5_plants_1 : decode cX5_plants 1 = .ok (.getfield 7, 3) := dk_180 0 7 (dk_at dksX5_plants_0 1 rfl rfl)
theorem dX5_plants_4 : decode cX5_plants 4 = .ok (.iconst 4, 1) := dk_7 (dk_at dksX5_plants_0 4 rfl rfl)
theorem dX5_plants_5 : decode cX5_plants 5 = .ok (.iaload, 1) := dk_46 (dk_at dksX5_plants_0 5 rfl rfl)
theorem dX5_plants_6 : decode cX5_plants 6 = .ok (.istore 4, 2) := dk_54 4 (dk_at dksX5_plants_0 6 rfl rfl)
theorem dX5_plants_8 : decode cX5_plants 8 = .ok (.aload_n 0, 1) := dk_42 (dk_at dksX5_plants_0 8 rfl rfl)
theorem dX5_plants_9 : decode cX5_plants 9 = .ok (.getfield 7, 3) := dk_180 0 7 (dk_at dksX5_plants_0 9 rfl rfl)
theorem dX5_plants_12 : decode cX5_plants 12 = .ok (.bipush 20, 2) := dk_16 20 (dk_at dksX5_plants_0 12 rfl rfl)
theorem dX5_plants_14 : decode cX5_plants 14 = .ok (.iload 4, 2) := dk_21 4 (dk_at dksX5_plants_0 14 rfl rfl)
theorem dX5_plants_16 : decode cX5_plants 16 = .ok (.iadd, 1) := dk_96 (dk_at dksX5_plants_0 16 rfl rfl)
theorem dX5_plants_17 : decode cX5_plants 17 = .ok (.iload_n 1, 1) := dk_27 (dk_at dksX5_plants_0 17 rfl rfl)
theorem dX5_plants_18 : decode cX5_plants 18 = .ok (.iastore, 1) := dk_79 (dk_at dksX5_plants_0 18 rfl rfl)
theorem dX5_plants_19 : decode cX5_plants 19 = .ok (.aload_n 0, 1) := dk_42 (dk_at dksX5_plants_0 19 rfl rfl)
theorem dX5_plants_20 : decode cX5_plants 20 = .ok (.getfield 7, 3) := dk_180 0 7 (dk_at dksX5_plants_0 20 rfl rfl)
theorem dX5_plants_23 : decode cX5_plants 23 = .ok (.bipush 34, 2) := dk_16 34 (dk_at dksX5_plants_1 0 rfl rfl)
theorem dX5_plants_25 : decode cX5_plants 25 = .ok (.iload 4, 2) := dk_21 4 (dk_at dksX5_plants_1 2 rfl rfl)
theorem dX5_plants_27 : decode cX5_plants 27 = .ok (.iadd, 1) := dk_96 (dk_at dksX5_plants_1 4 rfl rfl)
theorem dX5_plants_28 : decode cX5_plants 28 = .ok (.iload_n 2, 1) := dk_28 (dk_at dksX5_plants_1 5 rfl rfl)
theorem dX5_plants_29 : decode cX5_plants 29 = .ok (.iastore, 1) := dk_79 (dk_at dksX5_plants_1 6 rfl rfl)
theorem dX5_plants_30 : decode cX5_plants 30 = .ok (.aload_n 0, 1) := dk_42 (dk_at dksX5_plants_1 7 rfl rfl)
theorem dX5_plants_31 : decode cX5_plants 31 = .ok (.getfield 7, 3) := dk_180 0 7 (dk_at dksX5_plants_1 8 rfl rfl)
theorem dX5_plants_34 : decode cX5_plants 34 = .ok (.bipush 48, 2) := dk_16 48 (dk_at dksX5_plants_1 11 rfl rfl)
theorem dX5_plants_36 : decode cX5_plants 36 = .ok (.iload 4, 2) := dk_21 4 (dk_at dksX5_plants_1 13 rfl rfl)
theorem dX5_plants_38 : decode cX5_plants 38 = .ok (.iadd, 1) := dk_96 (dk_at dksX5_plants_1 15 rfl rfl)
theorem dX5_plants_39 : decode cX5_plants 39 = .ok (.iload_n 3, 1) := dk_29 (dk_at dksX5_plants_1 16 rfl rfl)
theorem dX5_plants_40 : decode cX5_plants 40 = .ok (.iastore, 1) := dk_79 (dk_at dksX5_plants_1 17 rfl rfl)
theorem dX5_plants_41 : decode cX5_plants 41 = .ok (.aload_n 0, 1) := dk_42 (dk_at dksX5_plants_1 18 rfl rfl)
theorem dX5_plants_42 : decode cX5_plants 42 = .ok (.getfield 7, 3) := dk_180 0 7 (dk_at dksX5_plants_1 19 rfl rfl)
theorem dX5_plants_45 : decode cX5_plants 45 = .ok (.bipush 62, 2) := dk_16 62 (dk_at dksX5_plants_1 22 rfl rfl)
theorem dX5_plants_47 : decode cX5_plants 47 = .ok (.iload 4, 2) := dk_21 4 (dk_at dksX5_plants_2 0 rfl rfl)
theorem dX5_plants_49 : decode cX5_plants 49 = .ok (.iadd, 1) := dk_96 (dk_at dksX5_plants_2 2 rfl rfl)
theorem dX5_plants_50 : decode cX5_plants 50 = .ok (.iconst 0, 1) := dk_3 (dk_at dksX5_plants_2 3 rfl rfl)
theorem dX5_plants_51 : decode cX5_plants 51 = .ok (.iastore, 1) := dk_79 (dk_at dksX5_plants_2 4 rfl rfl)
theorem dX5_plants_52 : decode cX5_plants 52 = .ok (.aload_n 0, 1) := dk_42 (dk_at dksX5_plants_2 5 rfl rfl)
theorem dX5_plants_53 : decode cX5_plants 53 = .ok (.getfield 7, 3) := dk_180 0 7 (dk_at dksX5_plants_2 6 rfl rfl)
theorem dX5_plants_56 : decode cX5_plants 56 = .ok (.iconst 4, 1) := dk_7 (dk_at dksX5_plants_2 9 rfl rfl)
theorem dX5_plants_57 : decode cX5_plants 57 = .ok (.iload 4, 2) := dk_21 4 (dk_at dksX5_plants_2 10 rfl rfl)
theorem dX5_plants_59 : decode cX5_plants 59 = .ok (.iconst 1, 1) := dk_4 (dk_at dksX5_plants_2 12 rfl rfl)
theorem dX5_plants_60 : decode cX5_plants 60 = .ok (.iadd, 1) := dk_96 (dk_at dksX5_plants_2 13 rfl rfl)
theorem dX5_plants_61 : decode cX5_plants 61 = .ok (.iastore, 1) := dk_79 (dk_at dksX5_plants_2 14 rfl rfl)
theorem dX5_plants_62 : decode cX5_plants 62 = .ok (.aload_n 0, 1) := dk_42 (dk_at dksX5_plants_2 15 rfl rfl)
theorem dX5_plants_63 : decode cX5_plants 63 = .ok (.iconst 0, 1) := dk_3 (dk_at dksX5_plants_2 16 rfl rfl)
theorem dX5_plants_64 : decode cX5_plants 64 = .ok (.iload 4, 2) := dk_21 4 (dk_at dksX5_plants_2 17 rfl rfl)
theorem dX5_plants_66 : decode cX5_plants 66 = .ok (.iconst 0, 1) := dk_3 (dk_at dksX5_plants_2 19 rfl rfl)
theorem dX5_plants_67 : decode cX5_plants 67 = .ok (.invokevirtual 316, 3) := dk_182 1 60 (dk_at dksX5_plants_2 20 rfl rfl)
theorem dX5_plants_70 : decode cX5_plants 70 = .ok (.iload 4, 2) := dk_21 4 (dk_at dksX5_plants_3 0 rfl rfl)
theorem dX5_plants_72 : decode cX5_plants 72 = .ok (.ireturn, 1) := dk_172 (dk_at dksX5_plants_3 2 rfl rfl)
abbrev cX5_notes : ByteArray := prog_22_method_73_code
def yX5_notes : MethodName := ⟨RX5, "notes", "(III)V"⟩
def dkwX5_notes_3 : List UInt8 := [21, 4, 6, 96, 29, 79, 42, 180, 0, 7, 5, 42, 180, 0, 7, 5, 46, 4, 96, 79, 177]
abbrev dktX5_notes_3 : List UInt8 := dkwX5_notes_3 ++ []
def dkwX5_notes_2 : List UInt8 := [180, 0, 19, 21, 4, 4, 96, 27, 79, 42, 180, 0, 19, 21, 4, 5, 96, 28, 79, 42, 180, 0, 19]
abbrev dktX5_notes_2 : List UInt8 := dkwX5_notes_2 ++ dktX5_notes_3
def dkwX5_notes_1 : List UInt8 := [180, 0, 7, 5, 46, 104, 54, 4, 42, 180, 0, 19, 21, 4, 42, 180, 0, 7, 3, 46, 79, 42]
abbrev dktX5_notes_1 : List UInt8 := dkwX5_notes_1 ++ dktX5_notes_2
def dkwX5_notes_0 : List UInt8 := [42, 180, 0, 92, 154, 0, 15, 42, 180, 0, 7, 5, 46, 17, 0, 150, 160, 0, 4, 177, 7, 42]
abbrev dktX5_notes_0 : List UInt8 := dkwX5_notes_0 ++ dktX5_notes_1
theorem dksX5_notes_0 : cX5_notes.data.toList.drop 0 = dktX5_notes_0 := by decide +kernel
theorem dksX5_notes_1 : cX5_notes.data.toList.drop 22 = dktX5_notes_1 := dk_seg dksX5_notes_0 22 rfl rfl
theorem dksX5_notes_2 : cX5_notes.data.toList.drop 44 = dktX5_notes_2 := dk_seg dksX5_notes_1 22 rfl rfl
theorem dksX5_notes_3 : cX5_notes.data.toList.drop 67 = dktX5_notes_3 := dk_seg dksX5_notes_2 23 rfl rfl
theorem dX5_notes_0 : decode cX5_notes 0 = .ok (.aload_n 0, 1) := dk_42 (dk_at dksX5_notes_0 0 rfl rfl)
theorem dX5_notes_1 : decode cX5_notes 1 = .ok (.getfield 92, 3) := dk_180 0 92 (dk_at dksX5_notes_0 1 rfl rfl)
theorem dX5_notes_4 : decode cX5_notes 4 = .ok (.ifCond .ne 15, 3) := dk_154 0 15 (dk_at dksX5_notes_0 4 rfl rfl)
theorem dX5_notes_7 : decode cX5_notes 7 = .ok (.aload_n 0, 1) := dk_42 (dk_at dksX5_notes_0 7 rfl rfl)
theorem dX5_notes_8 : decode cX5_notes 8 = .ok (.getfield 7, 3) := dk_180 0 7 (dk_at dksX5_notes_0 8 rfl rfl)
theorem dX5_notes_11 : decode cX5_notes 11 = .ok (.iconst 2, 1) := dk_5 (dk_at dksX5_notes_0 11 rfl rfl)
theorem dX5_notes_12 : decode cX5_notes 12 = .ok (.iaload, 1) := dk_46 (dk_at dksX5_notes_0 12 rfl rfl)
theorem dX5_notes_13 : decode cX5_notes 13 = .ok (.sipush 150, 3) := dk_17 0 150 (dk_at dksX5_notes_0 13 rfl rfl)
theorem dX5_notes_16 : decode cX5_notes 16 = .ok (.if_icmp .ne 4, 3) := dk_160 0 4 (dk_at dksX5_notes_0 16 rfl rfl)
theorem dX5_notes_19 : decode cX5_notes 19 = .ok (.return_, 1) := dk_177 (dk_at dksX5_notes_0 19 rfl rfl)
theorem dX5_notes_20 : decode cX5_notes 20 = .ok (.iconst 4, 1) := dk_7 (dk_at dksX5_notes_0 20 rfl rfl)
theorem dX5_notes_21 : decode cX5_notes 21 = .ok (.aload_n 0, 1) := dk_42 (dk_at dksX5_notes_0 21 rfl rfl)
theorem dX5_notes_22 : decode cX5_notes 22 = .ok (.getfield 7, 3) := dk_180 0 7 (dk_at dksX5_notes_1 0 rfl rfl)
theorem dX5_notes_25 : decode cX5_notes 25 = .ok (.iconst 2, 1) := dk_5 (dk_at dksX5_notes_1 3 rfl rfl)
theorem dX5_notes_26 : decode cX5_notes 26 = .ok (.iaload, 1) := dk_46 (dk_at dksX5_notes_1 4 rfl rfl)
theorem dX5_notes_27 : decode cX5_notes 27 = .ok (.imul, 1) := dk_104 (dk_at dksX5_notes_1 5 rfl rfl)
theorem dX5_notes_28 : decode cX5_notes 28 = .ok (.istore 4, 2) := dk_54 4 (dk_at dksX5_notes_1 6 rfl rfl)
theorem dX5_notes_30 : decode cX5_notes 30 = .ok (.aload_n 0, 1) := dk_42 (dk_at dksX5_notes_1 8 rfl rfl)
theorem dX5_notes_31 : decode cX5_notes 31 = .ok (.getfield 19, 3) := dk_180 0 19 (dk_at dksX5_notes_1 9 rfl rfl)
theorem dX5_notes_34 : decode cX5_notes 34 = .ok (.iload 4, 2) := dk_21 4 (dk_at dksX5_notes_1 12 rfl rfl)
theorem dX5_notes_36 : decode cX5_notes 36 = .ok (.aload_n 0, 1) := dk_42 (dk_at dksX5_notes_1 14 rfl rfl)
theorem dX5_notes_37 : decode cX5_notes 37 = .ok (.getfield 7, 3) := dk_180 0 7 (dk_at dksX5_notes_1 15 rfl rfl)
theorem dX5_notes_40 : decode cX5_notes 40 = .ok (.iconst 0, 1) := dk_3 (dk_at dksX5_notes_1 18 rfl rfl)
theorem dX5_notes_41 : decode cX5_notes 41 = .ok (.iaload, 1) := dk_46 (dk_at dksX5_notes_1 19 rfl rfl)
theorem dX5_notes_42 : decode cX5_notes 42 = .ok (.iastore, 1) := dk_79 (dk_at dksX5_notes_1 20 rfl rfl)
theorem dX5_notes_43 : decode cX5_notes 43 = .ok (.aload_n 0, 1) := dk_42 (dk_at dksX5_notes_1 21 rfl rfl)
theorem dX5_notes_44 : decode cX5_notes 44 = .ok (.getfield 19, 3) := dk_180 0 19 (dk_at dksX5_notes_2 0 rfl rfl)
theorem dX5_notes_47 : decode cX5_notes 47 = .ok (.iload 4, 2) := dk_21 4 (dk_at dksX5_notes_2 3 rfl rfl)
theorem dX5_notes_49 : decode cX5_notes 49 = .ok (.iconst 1, 1) := dk_4 (dk_at dksX5_notes_2 5 rfl rfl)
theorem dX5_notes_50 : decode cX5_notes 50 = .ok (.iadd, 1) := dk_96 (dk_at dksX5_notes_2 6 rfl rfl)
theorem dX5_notes_51 : decode cX5_notes 51 = .ok (.iload_n 1, 1) := dk_27 (dk_at dksX5_notes_2 7 rfl rfl)
theorem dX5_notes_52 : decode cX5_notes 52 = .ok (.iastore, 1) := dk_79 (dk_at dksX5_notes_2 8 rfl rfl)
theorem dX5_notes_53 : decode cX5_notes 53 = .ok (.aload_n 0, 1) := dk_42 (dk_at dksX5_notes_2 9 rfl rfl)
theorem dX5_notes_54 : decode cX5_notes 54 = .ok (.getfield 19, 3) := dk_180 0 19 (dk_at dksX5_notes_2 10 rfl rfl)
theorem dX5_notes_57 : decode cX5_notes 57 = .ok (.iload 4, 2) := dk_21 4 (dk_at dksX5_notes_2 13 rfl rfl)
theorem dX5_notes_59 : decode cX5_notes 59 = .ok (.iconst 2, 1) := dk_5 (dk_at dksX5_notes_2 15 rfl rfl)
theorem dX5_notes_60 : decode cX5_notes 60 = .ok (.iadd, 1) := dk_96 (dk_at dksX5_notes_2 16 rfl rfl)
theorem dX5_notes_61 : decode cX5_notes 61 = .ok (.iload_n 2, 1) := dk_28 (dk_at dksX5_notes_2 17 rfl rfl)
theorem dX5_notes_62 : decode cX5_notes 62 = .ok (.iastore, 1) := dk_79 (dk_at dksX5_notes_2 18 rfl rfl)
theorem dX5_notes_63 : decode cX5_notes 63 = .ok (.aload_n 0, 1) := dk_42 (dk_at dksX5_notes_2 19 rfl rfl)
theorem dX5_notes_64 : decode cX5_notes 64 = .ok (.getfield 19, 3) := dk_180 0 19 (dk_at dksX5_notes_2 20 rfl rfl)
theorem dX5_notes_67 : decode cX5_notes 67 = .ok (.iload 4, 2) := dk_21 4 (dk_at dksX5_notes_3 0 rfl rfl)
theorem dX5_notes_69 : decode cX5_notes 69 = .ok (.iconst 3, 1) := dk_6 (dk_at dksX5_notes_3 2 rfl rfl)
theorem dX5_notes_70 : decode cX5_notes 70 = .ok (.iadd, 1) := dk_96 (dk_at dksX5_notes_3 3 rfl rfl)
theorem dX5_notes_71 : decode cX5_notes 71 = .ok (.iload_n 3, 1) := dk_29 (dk_at dksX5_notes_3 4 rfl rfl)
theorem dX5_notes_72 : decode cX5_notes 72 = .ok (.iastore, 1) := dk_79 (dk_at dksX5_notes_3 5 rfl rfl)
theorem dX5_notes_73 : decode cX5_notes 73 = .ok (.aload_n 0, 1) := dk_42 (dk_at dksX5_notes_3 6 rfl rfl)
theorem dX5_notes_74 : decode cX5_notes 74 = .ok (.getfield 7, 3) := dk_180 0 7 (dk_at dksX5_notes_3 7 rfl rfl)
theorem dX5_notes_77 : decode cX5_notes 77 = .ok (.iconst 2, 1) := dk_5 (dk_at dksX5_notes_3 10 rfl rfl)
theorem dX5_notes_78 : decode cX5_notes 78 = .ok (.aload_n 0, 1) := dk_42 (dk_at dksX5_notes_3 11 rfl rfl)
theorem dX5_notes_79 : decode cX5_notes 79 = .ok (.getfield 7, 3) := dk_180 0 7 (dk_at dksX5_notes_3 12 rfl rfl)
theorem dX5_notes_82 : decode cX5_notes 82 = .ok (.iconst 2, 1) := dk_5 (dk_at dksX5_notes_3 15 rfl rfl)
theorem dX5_notes_83 : decode cX5_notes 83 = .ok (.iaload, 1) := dk_46 (dk_at dksX5_notes_3 16 rfl rfl)
theorem dX5_notes_84 : decode cX5_notes 84 = .ok (.iconst 1, 1) := dk_4 (dk_at dksX5_notes_3 17 rfl rfl)
theorem dX5_notes_85 : decode cX5_notes 85 = .ok (.iadd, 1) := dk_96 (dk_at dksX5_notes_3 18 rfl rfl)
theorem dX5_notes_86 : decode cX5_notes 86 = .ok (.iastore, 1) := dk_79 (dk_at dksX5_notes_3 19 rfl rfl)
theorem dX5_notes_87 : decode cX5_notes 87 = .ok (.return_, 1) := dk_177 (dk_at dksX5_notes_3 20 rfl rfl)
abbrev cX5_fence : ByteArray := prog_22_method_79_code
def yX5_fence : MethodName := ⟨RX5, "fence", "(IZ)Z"⟩
def dkwX5_fence_1 : List UInt8 := [42, 182, 1, 73, 42, 27, 28, 182, 1, 82, 4, 172]
abbrev dktX5_fence_1 : List UInt8 := dkwX5_fence_1 ++ []
def dkwX5_fence_0 : List UInt8 := [42, 3, 181, 0, 86, 42, 27, 182, 1, 70, 153, 0, 12, 42, 27, 182, 1, 79, 28, 160, 0, 5, 3, 172]
abbrev dktX5_fence_0 : List UInt8 := dkwX5_fence_0 ++ dktX5_fence_1
theorem dksX5_fence_0 : cX5_fence.data.toList.drop 0 = dktX5_fence_0 := by decide +kernel
theorem dksX5_fence_1 : cX5_fence.data.toList.drop 24 = dktX5_fence_1 := dk_seg dksX5_fence_0 24 rfl rfl
theorem dX5_fence_0 : decode cX5_fence 0 = .ok (.aload_n 0, 1) := dk_42 (dk_at dksX5_fence_0 0 rfl rfl)
theorem dX5_fence_1 : decode cX5_fence 1 = .ok (.iconst 0, 1) := dk_3 (dk_at dksX5_fence_0 1 rfl rfl)
theorem dX5_fence_2 : decode cX5_fence 2 = .ok (.putfield 86, 3) := dk_181 0 86 (dk_at dksX5_fence_0 2 rfl rfl)
theorem dX5_fence_5 : decode cX5_fence 5 = .ok (.aload_n 0, 1) := dk_42 (dk_at dksX5_fence_0 5 rfl rfl)
theorem dX5_fence_6 : decode cX5_fence 6 = .ok (.iload_n 1, 1) := dk_27 (dk_at dksX5_fence_0 6 rfl rfl)
theorem dX5_fence_7 : decode cX5_fence 7 = .ok (.invokevirtual 326, 3) := dk_182 1 70 (dk_at dksX5_fence_0 7 rfl rfl)
theorem dX5_fence_10 : decode cX5_fence 10 = .ok (.ifCond .eq 12, 3) := dk_153 0 12 (dk_at dksX5_fence_0 10 rfl rfl)
theorem dX5_fence_13 : decode cX5_fence 13 = .ok (.aload_n 0, 1) := dk_42 (dk_at dksX5_fence_0 13 rfl rfl)
theorem dX5_fence_14 : decode cX5_fence 14 = .ok (.iload_n 1, 1) := dk_27 (dk_at dksX5_fence_0 14 rfl rfl)
theorem dX5_fence_15 : decode cX5_fence 15 = .ok (.invokevirtual 335, 3) := dk_182 1 79 (dk_at dksX5_fence_0 15 rfl rfl)
theorem dX5_fence_18 : decode cX5_fence 18 = .ok (.iload_n 2, 1) := dk_28 (dk_at dksX5_fence_0 18 rfl rfl)
theorem dX5_fence_19 : decode cX5_fence 19 = .ok (.if_icmp .ne 5, 3) := dk_160 0 5 (dk_at dksX5_fence_0 19 rfl rfl)
theorem dX5_fence_22 : decode cX5_fence 22 = .ok (.iconst 0, 1) := dk_3 (dk_at dksX5_fence_0 22 rfl rfl)
theorem dX5_fence_23 : decode cX5_fence 23 = .ok (.ireturn, 1) := dk_172 (dk_at dksX5_fence_0 23 rfl rfl)
theorem dX5_fence_24 : decode cX5_fence 24 = .ok (.aload_n 0, 1) := dk_42 (dk_at dksX5_fence_1 0 rfl rfl)
theorem dX5_fence_25 : decode cX5_fence 25 = .ok (.invokevirtual 329, 3) := dk_182 1 73 (dk_at dksX5_fence_1 1 rfl rfl)
theorem dX5_fence_28 : decode cX5_fence 28 = .ok (.aload_n 0, 1) := dk_42 (dk_at dksX5_fence_1 4 rfl rfl)
theorem dX5_fence_29 : decode cX5_fence 29 = .ok (.iload_n 1, 1) := dk_27 (dk_at dksX5_fence_1 5 rfl rfl)
theorem dX5_fence_30 : decode cX5_fence 30 = .ok (.iload_n 2, 1) := dk_28 (dk_at dksX5_fence_1 6 rfl rfl)
theorem dX5_fence_31 : decode cX5_fence 31 = .ok (.invokevirtual 338, 3) := dk_182 1 82 (dk_at dksX5_fence_1 7 rfl rfl)
theorem dX5_fence_34 : decode cX5_fence 34 = .ok (.iconst 1, 1) := dk_4 (dk_at dksX5_fence_1 10 rfl rfl)
theorem dX5_fence_35 : decode cX5_fence 35 = .ok (.ireturn, 1) := dk_172 (dk_at dksX5_fence_1 11 rfl rfl)
abbrev cX5_isFenced : ByteArray := prog_22_method_75_code
def yX5_isFenced : MethodName := ⟨RX5, "isFenced", "(I)Z"⟩
def dkwX5_isFenced_0 : List UInt8 := [42, 42, 180, 0, 7, 6, 46, 27, 182, 1, 63, 172]
abbrev dktX5_isFenced_0 : List UInt8 := dkwX5_isFenced_0 ++ []
theorem dksX5_isFenced_0 : cX5_isFenced.data.toList.drop 0 = dktX5_isFenced_0 := by decide +kernel
theorem dX5_isFenced_0 : decode cX5_isFenced 0 = .ok (.aload_n 0, 1) := dk_42 (dk_at dksX5_isFenced_0 0 rfl rfl)
theorem dX5_isFenced_1 : decode cX5_isFenced 1 = .ok (.aload_n 0, 1) := dk_42 (dk_at dksX5_isFenced_0 1 rfl rfl)
theorem dX5_isFenced_2 : decode cX5_isFenced 2 = .ok (.getfield 7, 3) := dk_180 0 7 (dk_at dksX5_isFenced_0 2 rfl rfl)
theorem dX5_isFenced_5 : decode cX5_isFenced 5 = .ok (.iconst 3, 1) := dk_6 (dk_at dksX5_isFenced_0 5 rfl rfl)
theorem dX5_isFenced_6 : decode cX5_isFenced 6 = .ok (.iaload, 1) := dk_46 (dk_at dksX5_isFenced_0 6 rfl rfl)
theorem dX5_isFenced_7 : decode cX5_isFenced 7 = .ok (.iload_n 1, 1) := dk_27 (dk_at dksX5_isFenced_0 7 rfl rfl)
theorem dX5_isFenced_8 : decode cX5_isFenced 8 = .ok (.invokevirtual 319, 3) := dk_182 1 63 (dk_at dksX5_isFenced_0 8 rfl rfl)
theorem dX5_isFenced_11 : decode cX5_isFenced 11 = .ok (.ireturn, 1) := dk_172 (dk_at dksX5_isFenced_0 11 rfl rfl)
abbrev cX5_has : ByteArray := prog_22_method_8_code
def yX5_has : MethodName := ⟨RX5, "has", "(II)Z"⟩
def dkwX5_has_0 : List UInt8 := [27, 28, 122, 4, 126, 4, 160, 0, 7, 4, 167, 0, 4, 3, 172]
abbrev dktX5_has_0 : List UInt8 := dkwX5_has_0 ++ []
theorem dksX5_has_0 : cX5_has.data.toList.drop 0 = dktX5_has_0 := by decide +kernel
theorem dX5_has_0 : decode cX5_has 0 = .ok (.iload_n 1, 1) := dk_27 (dk_at dksX5_has_0 0 rfl rfl)
theorem dX5_has_1 : decode cX5_has 1 = .ok (.iload_n 2, 1) := dk_28 (dk_at dksX5_has_0 1 rfl rfl)
theorem dX5_has_2 : decode cX5_has 2 = .ok (.ishr, 1) := dk_122 (dk_at dksX5_has_0 2 rfl rfl)
theorem dX5_has_3 : decode cX5_has 3 = .ok (.iconst 1, 1) := dk_4 (dk_at dksX5_has_0 3 rfl rfl)
theorem dX5_has_4 : decode cX5_has 4 = .ok (.iand, 1) := dk_126 (dk_at dksX5_has_0 4 rfl rfl)
theorem dX5_has_5 : decode cX5_has 5 = .ok (.iconst 1, 1) := dk_4 (dk_at dksX5_has_0 5 rfl rfl)
theorem dX5_has_6 : decode cX5_has 6 = .ok (.if_icmp .ne 7, 3) := dk_160 0 7 (dk_at dksX5_has_0 6 rfl rfl)
theorem dX5_has_9 : decode cX5_has 9 = .ok (.iconst 1, 1) := dk_4 (dk_at dksX5_has_0 9 rfl rfl)
theorem dX5_has_10 : decode cX5_has 10 = .ok (.goto 4, 3) := dk_167 0 4 (dk_at dksX5_has_0 10 rfl rfl)
theorem dX5_has_13 : decode cX5_has 13 = .ok (.iconst 0, 1) := dk_3 (dk_at dksX5_has_0 13 rfl rfl)
theorem dX5_has_14 : decode cX5_has 14 = .ok (.ireturn, 1) := dk_172 (dk_at dksX5_has_0 14 rfl rfl)
abbrev cX5_fences : ByteArray := prog_22_method_76_code
def yX5_fences : MethodName := ⟨RX5, "fences", "(IZ)V"⟩
def dkwX5_fences_2 : List UInt8 := [182, 1, 60, 177]
abbrev dktX5_fences_2 : List UInt8 := dkwX5_fences_2 ++ []
def dkwX5_fences_1 : List UInt8 := [180, 0, 7, 6, 46, 4, 27, 120, 2, 130, 126, 79, 42, 28, 153, 0, 7, 4, 167, 0, 4, 5, 27, 3]
abbrev dktX5_fences_1 : List UInt8 := dkwX5_fences_1 ++ dktX5_fences_2
def dkwX5_fences_0 : List UInt8 := [42, 180, 0, 7, 6, 28, 153, 0, 16, 42, 180, 0, 7, 6, 46, 4, 27, 120, 128, 167, 0, 15, 42]
abbrev dktX5_fences_0 : List UInt8 := dkwX5_fences_0 ++ dktX5_fences_1
theorem dksX5_fences_0 : cX5_fences.data.toList.drop 0 = dktX5_fences_0 := by decide +kernel
theorem dksX5_fences_1 : cX5_fences.data.toList.drop 23 = dktX5_fences_1 := dk_seg dksX5_fences_0 23 rfl rfl
theorem dksX5_fences_2 : cX5_fences.data.toList.drop 47 = dktX5_fences_2 := dk_seg dksX5_fences_1 24 rfl rfl
theorem dX5_fences_0 : decode cX5_fences 0 = .ok (.aload_n 0, 1) := dk_42 (dk_at dksX5_fences_0 0 rfl rfl)
theorem dX5_fences_1 : decode cX5_fences 1 = .ok (.getfield 7, 3) := dk_180 0 7 (dk_at dksX5_fences_0 1 rfl rfl)
theorem dX5_fences_4 : decode cX5_fences 4 = .ok (.iconst 3, 1) := dk_6 (dk_at dksX5_fences_0 4 rfl rfl)
theorem dX5_fences_5 : decode cX5_fences 5 = .ok (.iload_n 2, 1) := dk_28 (dk_at dksX5_fences_0 5 rfl rfl)
theorem dX5_fences_6 : decode cX5_fences 6 = .ok (.ifCond .eq 16, 3) := dk_153 0 16 (dk_at dksX5_fences_0 6 rfl rfl)
theorem dX5_fences_9 : decode cX5_fences 9 = .ok (.aload_n 0, 1) := dk_42 (dk_at dksX5_fences_0 9 rfl rfl)
theorem dX5_fences_10 : decode cX5_fences 10 = .ok (.getfield 7, 3) := dk_180 0 7 (dk_at dksX5_fences_0 10 rfl rfl)
theorem dX5_fences_13 : decode cX5_fences 13 = .ok (.iconst 3, 1) := dk_6 (dk_at dksX5_fences_0 13 rfl rfl)
theorem dX5_fences_14 : decode cX5_fences 14 = .ok (.iaload, 1) := dk_46 (dk_at dksX5_fences_0 14 rfl rfl)
theorem dX5_fences_15 : decode cX5_fences 15 = .ok (.iconst 1, 1) := dk_4 (dk_at dksX5_fences_0 15 rfl rfl)
theorem dX5_fences_16 : decode cX5_fences 16 = .ok (.iload_n 1, 1) := dk_27 (dk_at dksX5_fences_0 16 rfl rfl)
theorem dX5_fences_17 : decode cX5_fences 17 = .ok (.ishl, 1) := dk_120 (dk_at dksX5_fences_0 17 rfl rfl)
theorem dX5_fences_18 : decode cX5_fences 18 = .ok (.ior, 1) := dk_128 (dk_at dksX5_fences_0 18 rfl rfl)
theorem dX5_fences_19 : decode cX5_fences 19 = .ok (.goto 15, 3) := dk_167 0 15 (dk_at dksX5_fences_0 19 rfl rfl)
theorem dX5_fences_22 : decode cX5_fences 22 = .ok (.aload_n 0, 1) := dk_42 (dk_at dksX5_fences_0 22 rfl rfl)
theorem dX5_fences_23 : decode cX5_fences 23 = .ok (.getfield 7, 3) := dk_180 0 7 (dk_at dksX5_fences_1 0 rfl rfl)
theorem dX5_fences_26 : decode cX5_fences 26 = .ok (.iconst 3, 1) := dk_6 (dk_at dksX5_fences_1 3 rfl rfl)
theorem dX5_fences_27 : decode cX5_fences 27 = .ok (.iaload, 1) := dk_46 (dk_at dksX5_fences_1 4 rfl rfl)
theorem dX5_fences_28 : decode cX5_fences 28 = .ok (.iconst 1, 1) := dk_4 (dk_at dksX5_fences_1 5 rfl rfl)
theorem dX5_fences_29 : decode cX5_fences 29 = .ok (.iload_n 1, 1) := dk_27 (dk_at dksX5_fences_1 6 rfl rfl)
theorem dX5_fences_30 : decode cX5_fences 30 = .ok (.ishl, 1) := dk_120 (dk_at dksX5_fences_1 7 rfl rfl)
theorem dX5_fences_31 : decode cX5_fences 31 = .ok (.iconst (-1), 1) := dk_2 (dk_at dksX5_fences_1 8 rfl rfl)
theorem dX5_fences_32 : decode cX5_fences 32 = .ok (.ixor, 1) := dk_130 (dk_at dksX5_fences_1 9 rfl rfl)
theorem dX5_fences_33 : decode cX5_fences 33 = .ok (.iand, 1) := dk_126 (dk_at dksX5_fences_1 10 rfl rfl)
theorem dX5_fences_34 : decode cX5_fences 34 = .ok (.iastore, 1) := dk_79 (dk_at dksX5_fences_1 11 rfl rfl)
theorem dX5_fences_35 : decode cX5_fences 35 = .ok (.aload_n 0, 1) := dk_42 (dk_at dksX5_fences_1 12 rfl rfl)
theorem dX5_fences_36 : decode cX5_fences 36 = .ok (.iload_n 2, 1) := dk_28 (dk_at dksX5_fences_1 13 rfl rfl)
theorem dX5_fences_37 : decode cX5_fences 37 = .ok (.ifCond .eq 7, 3) := dk_153 0 7 (dk_at dksX5_fences_1 14 rfl rfl)
theorem dX5_fences_40 : decode cX5_fences 40 = .ok (.iconst 1, 1) := dk_4 (dk_at dksX5_fences_1 17 rfl rfl)
theorem dX5_fences_41 : decode cX5_fences 41 = .ok (.goto 4, 3) := dk_167 0 4 (dk_at dksX5_fences_1 18 rfl rfl)
theorem dX5_fences_44 : decode cX5_fences 44 = .ok (.iconst 2, 1) := dk_5 (dk_at dksX5_fences_1 21 rfl rfl)
theorem dX5_fences_45 : decode cX5_fences 45 = .ok (.iload_n 1, 1) := dk_27 (dk_at dksX5_fences_1 22 rfl rfl)
theorem dX5_fences_46 : decode cX5_fences 46 = .ok (.iconst 0, 1) := dk_3 (dk_at dksX5_fences_1 23 rfl rfl)
theorem dX5_fences_47 : decode cX5_fences 47 = .ok (.invokevirtual 316, 3) := dk_182 1 60 (dk_at dksX5_fences_2 0 rfl rfl)
theorem dX5_fences_50 : decode cX5_fences 50 = .ok (.return_, 1) := dk_177 (dk_at dksX5_fences_2 3 rfl rfl)
abbrev cX5_boil : ByteArray := prog_22_method_80_code
def yX5_boil : MethodName := ⟨RX5, "boil", "(II)I"⟩
def dkwX5_boil_1 : List UInt8 := [2, 172, 42, 182, 1, 73, 42, 27, 28, 182, 1, 86, 172]
abbrev dktX5_boil_1 : List UInt8 := dkwX5_boil_1 ++ []
def dkwX5_boil_0 : List UInt8 := [42, 3, 181, 0, 86, 42, 27, 182, 0, 134, 153, 0, 14, 42, 28, 4, 16, 99, 182, 0, 126, 154, 0, 5]
abbrev dktX5_boil_0 : List UInt8 := dkwX5_boil_0 ++ dktX5_boil_1
theorem dksX5_boil_0 : cX5_boil.data.toList.drop 0 = dktX5_boil_0 := by decide +kernel
theorem dksX5_boil_1 : cX5_boil.data.toList.drop 24 = dktX5_boil_1 := dk_seg dksX5_boil_0 24 rfl rfl
theorem dX5_boil_0 : decode cX5_boil 0 = .ok (.aload_n 0, 1) := dk_42 (dk_at dksX5_boil_0 0 rfl rfl)
theorem dX5_boil_1 : decode cX5_boil 1 = .ok (.iconst 0, 1) := dk_3 (dk_at dksX5_boil_0 1 rfl rfl)
theorem dX5_boil_2 : decode cX5_boil 2 = .ok (.putfield 86, 3) := dk_181 0 86 (dk_at dksX5_boil_0 2 rfl rfl)
theorem dX5_boil_5 : decode cX5_boil 5 = .ok (.aload_n 0, 1) := dk_42 (dk_at dksX5_boil_0 5 rfl rfl)
theorem dX5_boil_6 : decode cX5_boil 6 = .ok (.iload_n 1, 1) := dk_27 (dk_at dksX5_boil_0 6 rfl rfl)
theorem dX5_boil_7 : decode cX5_boil 7 = .ok (.invokevirtual 134, 3) := dk_182 0 134 (dk_at dksX5_boil_0 7 rfl rfl)
theorem dX5_boil_10 : decode cX5_boil 10 = .ok (.ifCond .eq 14, 3) := dk_153 0 14 (dk_at dksX5_boil_0 10 rfl rfl)
theorem dX5_boil_13 : decode cX5_boil 13 = .ok (.aload_n 0, 1) := dk_42 (dk_at dksX5_boil_0 13 rfl rfl)
theorem dX5_boil_14 : decode cX5_boil 14 = .ok (.iload_n 2, 1) := dk_28 (dk_at dksX5_boil_0 14 rfl rfl)
theorem dX5_boil_15 : decode cX5_boil 15 = .ok (.iconst 1, 1) := dk_4 (dk_at dksX5_boil_0 15 rfl rfl)
theorem dX5_boil_16 : decode cX5_boil 16 = .ok (.bipush 99, 2) := dk_16 99 (dk_at dksX5_boil_0 16 rfl rfl)
theorem dX5_boil_18 : decode cX5_boil 18 = .ok (.invokevirtual 126, 3) := dk_182 0 126 (dk_at dksX5_boil_0 18 rfl rfl)
theorem dX5_boil_21 : decode cX5_boil 21 = .ok (.ifCond .ne 5, 3) := dk_154 0 5 (dk_at dksX5_boil_0 21 rfl rfl)
theorem dX5_boil_24 : decode cX5_boil 24 = .ok (.iconst (-1), 1) := dk_2 (dk_at dksX5_boil_1 0 rfl rfl)
theorem dX5_boil_25 : decode cX5_boil 25 = .ok (.ireturn, 1) := dk_172 (dk_at dksX5_boil_1 1 rfl rfl)
theorem dX5_boil_26 : decode cX5_boil 26 = .ok (.aload_n 0, 1) := dk_42 (dk_at dksX5_boil_1 2 rfl rfl)
theorem dX5_boil_27 : decode cX5_boil 27 = .ok (.invokevirtual 329, 3) := dk_182 1 73 (dk_at dksX5_boil_1 3 rfl rfl)
theorem dX5_boil_30 : decode cX5_boil 30 = .ok (.aload_n 0, 1) := dk_42 (dk_at dksX5_boil_1 6 rfl rfl)
theorem dX5_boil_31 : decode cX5_boil 31 = .ok (.iload_n 1, 1) := dk_27 (dk_at dksX5_boil_1 7 rfl rfl)
theorem dX5_boil_32 : decode cX5_boil 32 = .ok (.iload_n 2, 1) := dk_28 (dk_at dksX5_boil_1 8 rfl rfl)
theorem dX5_boil_33 : decode cX5_boil 33 = .ok (.invokevirtual 342, 3) := dk_182 1 86 (dk_at dksX5_boil_1 9 rfl rfl)
theorem dX5_boil_36 : decode cX5_boil 36 = .ok (.ireturn, 1) := dk_172 (dk_at dksX5_boil_1 12 rfl rfl)
abbrev cX5_boils : ByteArray := prog_22_method_77_code
def yX5_boils : MethodName := ⟨RX5, "boils", "(II)I"⟩
def dkwX5_boils_5 : List UInt8 := [29, 100, 182, 1, 60, 28, 29, 100, 172]
abbrev dktX5_boils_5 : List UInt8 := dkwX5_boils_5 ++ []
def dkwX5_boils_4 : List UInt8 := [180, 0, 7, 16, 15, 27, 96, 46, 28, 96, 29, 100, 3, 17, 3, 231, 182, 0, 122, 79, 42, 6, 27, 28]
abbrev dktX5_boils_4 : List UInt8 := dkwX5_boils_4 ++ dktX5_boils_5
def dkwX5_boils_3 : List UInt8 := [79, 29, 21, 5, 100, 62, 132, 4, 1, 167, 255, 180, 42, 180, 0, 7, 16, 15, 27, 96, 42, 42]
abbrev dktX5_boils_3 : List UInt8 := dkwX5_boils_3 ++ dktX5_boils_4
def dkwX5_boils_2 : List UInt8 := [54, 5, 42, 180, 0, 7, 16, 62, 21, 4, 96, 42, 180, 0, 7, 16, 62, 21, 4, 96, 46, 21, 5, 100]
abbrev dktX5_boils_2 : List UInt8 := dkwX5_boils_2 ++ dktX5_boils_3
def dkwX5_boils_1 : List UInt8 := [96, 46, 27, 159, 0, 6, 167, 0, 48, 42, 29, 42, 180, 0, 7, 16, 62, 21, 4, 96, 46, 182, 1, 67]
abbrev dktX5_boils_1 : List UInt8 := dkwX5_boils_1 ++ dktX5_boils_2
def dkwX5_boils_0 : List UInt8 := [28, 62, 3, 54, 4, 21, 4, 42, 180, 0, 7, 7, 46, 162, 0, 71, 42, 180, 0, 7, 16, 20, 21, 4]
abbrev dktX5_boils_0 : List UInt8 := dkwX5_boils_0 ++ dktX5_boils_1
theorem dksX5_boils_0 : cX5_boils.data.toList.drop 0 = dktX5_boils_0 := by decide +kernel
theorem dksX5_boils_1 : cX5_boils.data.toList.drop 24 = dktX5_boils_1 := dk_seg dksX5_boils_0 24 rfl rfl
theorem dksX5_boils_2 : cX5_boils.data.toList.drop 48 = dktX5_boils_2 := dk_seg dksX5_boils_1 24 rfl rfl
theorem dksX5_boils_3 : cX5_boils.data.toList.drop 72 = dktX5_boils_3 := dk_seg dksX5_boils_2 24 rfl rfl
theorem dksX5_boils_4 : cX5_boils.data.toList.drop 94 = dktX5_boils_4 := dk_seg dksX5_boils_3 22 rfl rfl
theorem dksX5_boils_5 : cX5_boils.data.toList.drop 118 = dktX5_boils_5 := dk_seg dksX5_boils_4 24 rfl rfl
theorem dX5_boils_0 : decode cX5_boils 0 = .ok (.iload_n 2, 1) := dk_28 (dk_at dksX5_boils_0 0 rfl rfl)
theorem dX5_boils_1 : decode cX5_boils 1 = .ok (.istore_n 3, 1) := dk_62 (dk_at dksX5_boils_0 1 rfl rfl)
theorem dX5_boils_2 : decode cX5_boils 2 = .ok (.iconst 0, 1) := dk_3 (dk_at dksX5_boils_0 2 rfl rfl)
theorem dX5_boils_3 : decode cX5_boils 3 = .ok (.istore 4, 2) := dk_54 4 (dk_at dksX5_boils_0 3 rfl rfl)
theorem dX5_boils_5 : decode cX5_boils 5 = .ok (.iload 4, 2) := dk_21 4 (dk_at dksX5_boils_0 5 rfl rfl)
theorem dX5_boils_7 : decode cX5_boils 7 = .ok (.aload_n 0, 1) := dk_42 (dk_at dksX5_boils_0 7 rfl rfl)
theorem dX5_boils_8 : decode cX5_boils 8 = .ok (.getfield 7, 3) := dk_180 0 7 (dk_at dksX5_boils_0 8 rfl rfl)
theorem dX5_boils_11 : decode cX5_boils 11 = .ok (.iconst 4, 1) := dk_7 (dk_at dksX5_boils_0 11 rfl rfl)
theorem dX5_boils_12 : decode cX5_boils 12 = .ok (.iaload, 1) := dk_46 (dk_at dksX5_boils_0 12 rfl rfl)
theorem dX5_boils_13 : decode cX5_boils 13 = .ok (.if_icmp .ge 71, 3) := dk_162 0 71 (dk_at dksX5_boils_0 13 rfl rfl)
theorem dX5_boils_16 : decode cX5_boils 16 = .ok (.aload_n 0, 1) := dk_42 (dk_at dksX5_boils_0 16 rfl rfl)
theorem dX5_boils_17 : decode cX5_boils 17 = .ok (.getfield 7, 3) := dk_180 0 7 (dk_at dksX5_boils_0 17 rfl rfl)
theorem dX5_boils_20 : decode cX5_boils 20 = .ok (.bipush 20, 2) := dk_16 20 (dk_at dksX5_boils_0 20 rfl rfl)
theorem dX5_boils_22 : decode cX5_boils 22 = .ok (.iload 4, 2) := dk_21 4 (dk_at dksX5_boils_0 22 rfl rfl)
theorem dX5_boils_24 : decode cX5_boils 24 = .ok (.iadd, 1) := dk_96 (dk_at dksX5_boils_1 0 rfl rfl)
theorem dX5_boils_25 : decode cX5_boils 25 = .ok (.iaload, 1) := dk_46 (dk_at dksX5_boils_1 1 rfl rfl)
theorem dX5_boils_26 : decode cX5_boils 26 = .ok (.iload_n 1, 1) := dk_27 (dk_at dksX5_boils_1 2 rfl rfl)
theorem dX5_boils_27 : decode cX5_boils 27 = .ok (.if_icmp .eq 6, 3) := dk_159 0 6 (dk_at dksX5_boils_1 3 rfl rfl)
theorem dX5_boils_30 : decode cX5_boils 30 = .ok (.goto 48, 3) := dk_167 0 48 (dk_at dksX5_boils_1 6 rfl rfl)
theorem dX5_boils_33 : decode cX5_boils 33 = .ok (.aload_n 0, 1) := dk_42 (dk_at dksX5_boils_1 9 rfl rfl)
theorem dX5_boils_34 : decode cX5_boils 34 = .ok (.iload_n 3, 1) := dk_29 (dk_at dksX5_boils_1 10 rfl rfl)
theorem dX5_boils_35 : decode cX5_boils 35 = .ok (.aload_n 0, 1) := dk_42 (dk_at dksX5_boils_1 11 rfl rfl)
theorem dX5_boils_36 : decode cX5_boils 36 = .ok (.getfield 7, 3) := dk_180 0 7 (dk_at dksX5_boils_1 12 rfl rfl)
theorem dX5_boils_39 : decode cX5_boils 39 = .ok (.bipush 62, 2) := dk_16 62 (dk_at dksX5_boils_1 15 rfl rfl)
theorem dX5_boils_41 : decode cX5_boils 41 = .ok (.iload 4, 2) := dk_21 4 (dk_at dksX5_boils_1 17 rfl rfl)
theorem dX5_boils_43 : decode cX5_boils 43 = .ok (.iadd, 1) := dk_96 (dk_at dksX5_boils_1 19 rfl rfl)
theorem dX5_boils_44 : decode cX5_boils 44 = .ok (.iaload, 1) := dk_46 (dk_at dksX5_boils_1 20 rfl rfl)
theorem dX5_boils_45 : decode cX5_boils 45 = .ok (.invokevirtual 323, 3) := dk_182 1 67 (dk_at dksX5_boils_1 21 rfl rfl)
theorem dX5_boils_48 : decode cX5_boils 48 = .ok (.istore 5, 2) := dk_54 5 (dk_at dksX5_boils_2 0 rfl rfl)
theorem dX5_boils_50 : decode cX5_boils 50 = .ok (.aload_n 0, 1) := dk_42 (dk_at dksX5_boils_2 2 rfl rfl)
theorem dX5_boils_51 : decode cX5_boils 51 = .ok (.getfield 7, 3) := dk_180 0 7 (dk_at dksX5_boils_2 3 rfl rfl)
theorem dX5_boils_54 : decode cX5_boils 54 = .ok (.bipush 62, 2) := dk_16 62 (dk_at dksX5_boils_2 6 rfl rfl)
theorem dX5_boils_56 : decode cX5_boils 56 = .ok (.iload 4, 2) := dk_21 4 (dk_at dksX5_boils_2 8 rfl rfl)
theorem dX5_boils_58 : decode cX5_boils 58 = .ok (.iadd, 1) := dk_96 (dk_at dksX5_boils_2 10 rfl rfl)
theorem dX5_boils_59 : decode cX5_boils 59 = .ok (.aload_n 0, 1) := dk_42 (dk_at dksX5_boils_2 11 rfl rfl)
theorem dX5_boils_60 : decode cX5_boils 60 = .ok (.getfield 7, 3) := dk_180 0 7 (dk_at dksX5_boils_2 12 rfl rfl)
theorem dX5_boils_63 : decode cX5_boils 63 = .ok (.bipush 62, 2) := dk_16 62 (dk_at dksX5_boils_2 15 rfl rfl)
theorem dX5_boils_65 : decode cX5_boils 65 = .ok (.iload 4, 2) := dk_21 4 (dk_at dksX5_boils_2 17 rfl rfl)
theorem dX5_boils_67 : decode cX5_boils 67 = .ok (.iadd, 1) := dk_96 (dk_at dksX5_boils_2 19 rfl rfl)
theorem dX5_boils_68 : decode cX5_boils 68 = .ok (.iaload, 1) := dk_46 (dk_at dksX5_boils_2 20 rfl rfl)
theorem dX5_boils_69 : decode cX5_boils 69 = .ok (.iload 5, 2) := dk_21 5 (dk_at dksX5_boils_2 21 rfl rfl)
theorem dX5_boils_71 : decode cX5_boils 71 = .ok (.isub, 1) := dk_100 (dk_at dksX5_boils_2 23 rfl rfl)
theorem dX5_boils_72 : decode cX5_boils 72 = .ok (.iastore, 1) := dk_79 (dk_at dksX5_boils_3 0 rfl rfl)
theorem dX5_boils_73 : decode cX5_boils 73 = .ok (.iload_n 3, 1) := dk_29 (dk_at dksX5_boils_3 1 rfl rfl)
theorem dX5_boils_74 : decode cX5_boils 74 = .ok (.iload 5, 2) := dk_21 5 (dk_at dksX5_boils_3 2 rfl rfl)
theorem dX5_boils_76 : decode cX5_boils 76 = .ok (.isub, 1) := dk_100 (dk_at dksX5_boils_3 4 rfl rfl)
theorem dX5_boils_77 : decode cX5_boils 77 = .ok (.istore_n 3, 1) := dk_62 (dk_at dksX5_boils_3 5 rfl rfl)
theorem dX5_boils_78 : decode cX5_boils 78 = .ok (.iinc 4 1, 3) := dk_132 4 1 (dk_at dksX5_boils_3 6 rfl rfl)
theorem dX5_boils_81 : decode cX5_boils 81 = .ok (.goto (-76), 3) := dk_167 255 180 (dk_at dksX5_boils_3 9 rfl rfl)
theorem dX5_boils_84 : decode cX5_boils 84 = .ok (.aload_n 0, 1) := dk_42 (dk_at dksX5_boils_3 12 rfl rfl)
theorem dX5_boils_85 : decode cX5_boils 85 = .ok (.getfield 7, 3) := dk_180 0 7 (dk_at dksX5_boils_3 13 rfl rfl)
theorem dX5_boils_88 : decode cX5_boils 88 = .ok (.bipush 15, 2) := dk_16 15 (dk_at dksX5_boils_3 16 rfl rfl)
theorem dX5_boils_90 : decode cX5_boils 90 = .ok (.iload_n 1, 1) := dk_27 (dk_at dksX5_boils_3 18 rfl rfl)
theorem dX5_boils_91 : decode cX5_boils 91 = .ok (.iadd, 1) := dk_96 (dk_at dksX5_boils_3 19 rfl rfl)
theorem dX5_boils_92 : decode cX5_boils 92 = .ok (.aload_n 0, 1) := dk_42 (dk_at dksX5_boils_3 20 rfl rfl)
theorem dX5_boils_93 : decode cX5_boils 93 = .ok (.aload_n 0, 1) := dk_42 (dk_at dksX5_boils_3 21 rfl rfl)
theorem dX5_boils_94 : decode cX5_boils 94 = .ok (.getfield 7, 3) := dk_180 0 7 (dk_at dksX5_boils_4 0 rfl rfl)
theorem dX5_boils_97 : decode cX5_boils 97 = .ok (.bipush 15, 2) := dk_16 15 (dk_at dksX5_boils_4 3 rfl rfl)
theorem dX5_boils_99 : decode cX5_boils 99 = .ok (.iload_n 1, 1) := dk_27 (dk_at dksX5_boils_4 5 rfl rfl)
theorem dX5_boils_100 : decode cX5_boils 100 = .ok (.iadd, 1) := dk_96 (dk_at dksX5_boils_4 6 rfl rfl)
theorem dX5_boils_101 : decode cX5_boils 101 = .ok (.iaload, 1) := dk_46 (dk_at dksX5_boils_4 7 rfl rfl)
theorem dX5_boils_102 : decode cX5_boils 102 = .ok (.iload_n 2, 1) := dk_28 (dk_at dksX5_boils_4 8 rfl rfl)
theorem dX5_boils_103 : decode cX5_boils 103 = .ok (.iadd, 1) := dk_96 (dk_at dksX5_boils_4 9 rfl rfl)
theorem dX5_boils_104 : decode cX5_boils 104 = .ok (.iload_n 3, 1) := dk_29 (dk_at dksX5_boils_4 10 rfl rfl)
theorem dX5_boils_105 : decode cX5_boils 105 = .ok (.isub, 1) := dk_100 (dk_at dksX5_boils_4 11 rfl rfl)
theorem dX5_boils_106 : decode cX5_boils 106 = .ok (.iconst 0, 1) := dk_3 (dk_at dksX5_boils_4 12 rfl rfl)
theorem dX5_boils_107 : decode cX5_boils 107 = .ok (.sipush 999, 3) := dk_17 3 231 (dk_at dksX5_boils_4 13 rfl rfl)
theorem dX5_boils_110 : decode cX5_boils 110 = .ok (.invokevirtual 122, 3) := dk_182 0 122 (dk_at dksX5_boils_4 16 rfl rfl)
theorem dX5_boils_113 : decode cX5_boils 113 = .ok (.iastore, 1) := dk_79 (dk_at dksX5_boils_4 19 rfl rfl)
theorem dX5_boils_114 : decode cX5_boils 114 = .ok (.aload_n 0, 1) := dk_42 (dk_at dksX5_boils_4 20 rfl rfl)
theorem dX5_boils_115 : decode cX5_boils 115 = .ok (.iconst 3, 1) := dk_6 (dk_at dksX5_boils_4 21 rfl rfl)
theorem dX5_boils_116 : decode cX5_boils 116 = .ok (.iload_n 1, 1) := dk_27 (dk_at dksX5_boils_4 22 rfl rfl)
theorem dX5_boils_117 : decode cX5_boils 117 = .ok (.iload_n 2, 1) := dk_28 (dk_at dksX5_boils_4 23 rfl rfl)
theorem dX5_boils_118 : decode cX5_boils 118 = .ok (.iload_n 3, 1) := dk_29 (dk_at dksX5_boils_5 0 rfl rfl)
theorem dX5_boils_119 : decode cX5_boils 119 = .ok (.isub, 1) := dk_100 (dk_at dksX5_boils_5 1 rfl rfl)
theorem dX5_boils_120 : decode cX5_boils 120 = .ok (.invokevirtual 316, 3) := dk_182 1 60 (dk_at dksX5_boils_5 2 rfl rfl)
theorem dX5_boils_123 : decode cX5_boils 123 = .ok (.iload_n 2, 1) := dk_28 (dk_at dksX5_boils_5 5 rfl rfl)
theorem dX5_boils_124 : decode cX5_boils 124 = .ok (.iload_n 3, 1) := dk_29 (dk_at dksX5_boils_5 6 rfl rfl)
theorem dX5_boils_125 : decode cX5_boils 125 = .ok (.isub, 1) := dk_100 (dk_at dksX5_boils_5 7 rfl rfl)
theorem dX5_boils_126 : decode cX5_boils 126 = .ok (.ireturn, 1) := dk_172 (dk_at dksX5_boils_5 8 rfl rfl)
abbrev cX5_lesser : ByteArray := prog_22_method_6_code
def yX5_lesser : MethodName := ⟨RX5, "lesser", "(II)I"⟩
def dkwX5_lesser_0 : List UInt8 := [27, 28, 162, 0, 7, 27, 167, 0, 4, 28, 172]
abbrev dktX5_lesser_0 : List UInt8 := dkwX5_lesser_0 ++ []
theorem dksX5_lesser_0 : cX5_lesser.data.toList.drop 0 = dktX5_lesser_0 := by decide +kernel
theorem dX5_lesser_0 : decode cX5_lesser 0 = .ok (.iload_n 1, 1) := dk_27 (dk_at dksX5_lesser_0 0 rfl rfl)
theorem dX5_lesser_1 : decode cX5_lesser 1 = .ok (.iload_n 2, 1) := dk_28 (dk_at dksX5_lesser_0 1 rfl rfl)
theorem dX5_lesser_2 : decode cX5_lesser 2 = .ok (.if_icmp .ge 7, 3) := dk_162 0 7 (dk_at dksX5_lesser_0 2 rfl rfl)
theorem dX5_lesser_5 : decode cX5_lesser 5 = .ok (.iload_n 1, 1) := dk_27 (dk_at dksX5_lesser_0 5 rfl rfl)
theorem dX5_lesser_6 : decode cX5_lesser 6 = .ok (.goto 4, 3) := dk_167 0 4 (dk_at dksX5_lesser_0 6 rfl rfl)
theorem dX5_lesser_9 : decode cX5_lesser 9 = .ok (.iload_n 2, 1) := dk_28 (dk_at dksX5_lesser_0 9 rfl rfl)
theorem dX5_lesser_10 : decode cX5_lesser 10 = .ok (.ireturn, 1) := dk_172 (dk_at dksX5_lesser_0 10 rfl rfl)
abbrev cX5_weeks : ByteArray := prog_22_method_97_code
def yX5_weeks : MethodName := ⟨RX5, "weeks", "(I)I"⟩
def dkwX5_weeks_2 : List UInt8 := [182, 1, 152, 96, 61, 132, 3, 1, 167, 255, 237, 28, 172]
abbrev dktX5_weeks_2 : List UInt8 := dkwX5_weeks_2 ++ []
def dkwX5_weeks_1 : List UInt8 := [17, 39, 15, 164, 0, 5, 2, 172, 3, 61, 3, 62, 29, 27, 162, 0, 20, 42, 182, 1, 73, 28, 42]
abbrev dktX5_weeks_1 : List UInt8 := dkwX5_weeks_1 ++ dktX5_weeks_2
def dkwX5_weeks_0 : List UInt8 := [42, 3, 181, 0, 86, 42, 27, 4, 16, 60, 182, 0, 126, 153, 0, 17, 42, 180, 0, 7, 3, 46, 27, 96]
abbrev dktX5_weeks_0 : List UInt8 := dkwX5_weeks_0 ++ dktX5_weeks_1
theorem dksX5_weeks_0 : cX5_weeks.data.toList.drop 0 = dktX5_weeks_0 := by decide +kernel
theorem dksX5_weeks_1 : cX5_weeks.data.toList.drop 24 = dktX5_weeks_1 := dk_seg dksX5_weeks_0 24 rfl rfl
theorem dksX5_weeks_2 : cX5_weeks.data.toList.drop 47 = dktX5_weeks_2 := dk_seg dksX5_weeks_1 23 rfl rfl
theorem dX5_weeks_0 : decode cX5_weeks 0 = .ok (.aload_n 0, 1) := dk_42 (dk_at dksX5_weeks_0 0 rfl rfl)
theorem dX5_weeks_1 : decode cX5_weeks 1 = .ok (.iconst 0, 1) := dk_3 (dk_at dksX5_weeks_0 1 rfl rfl)
theorem dX5_weeks_2 : decode cX5_weeks 2 = .ok (.putfield 86, 3) := dk_181 0 86 (dk_at dksX5_weeks_0 2 rfl rfl)
theorem dX5_weeks_5 : decode cX5_weeks 5 = .ok (.aload_n 0, 1) := dk_42 (dk_at dksX5_weeks_0 5 rfl rfl)
theorem dX5_weeks_6 : decode cX5_weeks 6 = .ok (.iload_n 1, 1) := dk_27 (dk_at dksX5_weeks_0 6 rfl rfl)
theorem dX5_weeks_7 : decode cX5_weeks 7 = .ok (.iconst 1, 1) := dk_4 (dk_at dksX5_weeks_0 7 rfl rfl)
theorem dX5_weeks_8 : decode cX5_weeks 8 = .ok (.bipush 60, 2) := dk_16 60 (dk_at dksX5_weeks_0 8 rfl rfl)
theorem dX5_weeks_10 : decode cX5_weeks 10 = .ok (.invokevirtual 126, 3) := dk_182 0 126 (dk_at dksX5_weeks_0 10 rfl rfl)
theorem dX5_weeks_13 : decode cX5_weeks 13 = .ok (.ifCond .eq 17, 3) := dk_153 0 17 (dk_at dksX5_weeks_0 13 rfl rfl)
theorem dX5_weeks_16 : decode cX5_weeks 16 = .ok (.aload_n 0, 1) := dk_42 (dk_at dksX5_weeks_0 16 rfl rfl)
theorem dX5_weeks_17 : decode cX5_weeks 17 = .ok (.getfield 7, 3) := dk_180 0 7 (dk_at dksX5_weeks_0 17 rfl rfl)
theorem dX5_weeks_20 : decode cX5_weeks 20 = .ok (.iconst 0, 1) := dk_3 (dk_at dksX5_weeks_0 20 rfl rfl)
theorem dX5_weeks_21 : decode cX5_weeks 21 = .ok (.iaload, 1) := dk_46 (dk_at dksX5_weeks_0 21 rfl rfl)
theorem dX5_weeks_22 : decode cX5_weeks 22 = .ok (.iload_n 1, 1) := dk_27 (dk_at dksX5_weeks_0 22 rfl rfl)
theorem dX5_weeks_23 : decode cX5_weeks 23 = .ok (.iadd, 1) := dk_96 (dk_at dksX5_weeks_0 23 rfl rfl)
theorem dX5_weeks_24 : decode cX5_weeks 24 = .ok (.sipush 9999, 3) := dk_17 39 15 (dk_at dksX5_weeks_1 0 rfl rfl)
theorem dX5_weeks_27 : decode cX5_weeks 27 = .ok (.if_icmp .le 5, 3) := dk_164 0 5 (dk_at dksX5_weeks_1 3 rfl rfl)
theorem dX5_weeks_30 : decode cX5_weeks 30 = .ok (.iconst (-1), 1) := dk_2 (dk_at dksX5_weeks_1 6 rfl rfl)
theorem dX5_weeks_31 : decode cX5_weeks 31 = .ok (.ireturn, 1) := dk_172 (dk_at dksX5_weeks_1 7 rfl rfl)
theorem dX5_weeks_32 : decode cX5_weeks 32 = .ok (.iconst 0, 1) := dk_3 (dk_at dksX5_weeks_1 8 rfl rfl)
theorem dX5_weeks_33 : decode cX5_weeks 33 = .ok (.istore_n 2, 1) := dk_61 (dk_at dksX5_weeks_1 9 rfl rfl)
theorem dX5_weeks_34 : decode cX5_weeks 34 = .ok (.iconst 0, 1) := dk_3 (dk_at dksX5_weeks_1 10 rfl rfl)
theorem dX5_weeks_35 : decode cX5_weeks 35 = .ok (.istore_n 3, 1) := dk_62 (dk_at dksX5_weeks_1 11 rfl rfl)
theorem dX5_weeks_36 : decode cX5_weeks 36 = .ok (.iload_n 3, 1) := dk_29 (dk_at dksX5_weeks_1 12 rfl rfl)
theorem dX5_weeks_37 : decode cX5_weeks 37 = .ok (.iload_n 1, 1) := dk_27 (dk_at dksX5_weeks_1 13 rfl rfl)
theorem dX5_weeks_38 : decode cX5_weeks 38 = .ok (.if_icmp .ge 20, 3) := dk_162 0 20 (dk_at dksX5_weeks_1 14 rfl rfl)
theorem dX5_weeks_41 : decode cX5_weeks 41 = .ok (.aload_n 0, 1) := dk_42 (dk_at dksX5_weeks_1 17 rfl rfl)
theorem dX5_weeks_42 : decode cX5_weeks 42 = .ok (.invokevirtual 329, 3) := dk_182 1 73 (dk_at dksX5_weeks_1 18 rfl rfl)
theorem dX5_weeks_45 : decode cX5_weeks 45 = .ok (.iload_n 2, 1) := dk_28 (dk_at dksX5_weeks_1 21 rfl rfl)
theorem dX5_weeks_46 : decode cX5_weeks 46 = .ok (.aload_n 0, 1) := dk_42 (dk_at dksX5_weeks_1 22 rfl rfl)
theorem dX5_weeks_47 : decode cX5_weeks 47 = .ok (.invokevirtual 408, 3) := dk_182 1 152 (dk_at dksX5_weeks_2 0 rfl rfl)
theorem dX5_weeks_50 : decode cX5_weeks 50 = .ok (.iadd, 1) := dk_96 (dk_at dksX5_weeks_2 3 rfl rfl)
theorem dX5_weeks_51 : decode cX5_weeks 51 = .ok (.istore_n 2, 1) := dk_61 (dk_at dksX5_weeks_2 4 rfl rfl)
theorem dX5_weeks_52 : decode cX5_weeks 52 = .ok (.iinc 3 1, 3) := dk_132 3 1 (dk_at dksX5_weeks_2 5 rfl rfl)
theorem dX5_weeks_55 : decode cX5_weeks 55 = .ok (.goto (-19), 3) := dk_167 255 237 (dk_at dksX5_weeks_2 8 rfl rfl)
theorem dX5_weeks_58 : decode cX5_weeks 58 = .ok (.iload_n 2, 1) := dk_28 (dk_at dksX5_weeks_2 11 rfl rfl)
theorem dX5_weeks_59 : decode cX5_weeks 59 = .ok (.ireturn, 1) := dk_172 (dk_at dksX5_weeks_2 12 rfl rfl)
abbrev cX5_goesBy : ByteArray := prog_22_method_95_code
def yX5_goesBy : MethodName := ⟨RX5, "goesBy", "()I"⟩
def dkwX5_goesBy_8 : List UInt8 := [27, 172]
abbrev dktX5_goesBy_8 : List UInt8 := dkwX5_goesBy_8 ++ []
def dkwX5_goesBy_7 : List UInt8 := [42, 180, 0, 7, 16, 48, 28, 96, 46, 4, 96, 3, 16, 99, 182, 0, 122, 79, 132, 2, 1, 167, 255, 204]
abbrev dktX5_goesBy_7 : List UInt8 := dkwX5_goesBy_7 ++ dktX5_goesBy_8
def dkwX5_goesBy_6 : List UInt8 := [162, 0, 48, 42, 180, 0, 7, 3, 46, 16, 52, 112, 154, 0, 36, 42, 180, 0, 7, 16, 48, 28, 96, 42]
abbrev dktX5_goesBy_6 : List UInt8 := dkwX5_goesBy_6 ++ dktX5_goesBy_7
def dkwX5_goesBy_5 : List UInt8 := [180, 0, 7, 3, 42, 180, 0, 7, 3, 46, 4, 96, 79, 3, 61, 28, 42, 180, 0, 7, 7, 46]
abbrev dktX5_goesBy_5 : List UInt8 := dkwX5_goesBy_5 ++ dktX5_goesBy_6
def dkwX5_goesBy_4 : List UInt8 := [182, 1, 143, 42, 180, 0, 7, 3, 46, 4, 96, 42, 182, 1, 146, 112, 154, 0, 7, 42, 182, 1, 149, 42]
abbrev dktX5_goesBy_4 : List UInt8 := dkwX5_goesBy_4 ++ dktX5_goesBy_5
def dkwX5_goesBy_3 : List UInt8 := [182, 1, 137, 96, 3, 16, 99, 182, 0, 122, 79, 132, 1, 1, 167, 255, 212, 42, 182, 1, 140, 60, 42]
abbrev dktX5_goesBy_3 : List UInt8 := dkwX5_goesBy_3 ++ dktX5_goesBy_4
def dkwX5_goesBy_2 : List UInt8 := [46, 162, 0, 40, 42, 180, 0, 7, 16, 62, 27, 96, 42, 42, 180, 0, 7, 16, 62, 27, 96, 46, 42, 27]
abbrev dktX5_goesBy_2 : List UInt8 := dkwX5_goesBy_2 ++ dktX5_goesBy_3
def dkwX5_goesBy_1 : List UInt8 := [160, 0, 10, 42, 7, 27, 104, 182, 1, 134, 132, 1, 1, 167, 255, 221, 3, 60, 27, 42, 180, 0, 7, 7]
abbrev dktX5_goesBy_1 : List UInt8 := dkwX5_goesBy_1 ++ dktX5_goesBy_2
def dkwX5_goesBy_0 : List UInt8 := [3, 60, 27, 42, 180, 1, 26, 162, 0, 33, 42, 180, 0, 59, 7, 27, 104, 46, 42, 180, 0, 7, 3, 46]
abbrev dktX5_goesBy_0 : List UInt8 := dkwX5_goesBy_0 ++ dktX5_goesBy_1
theorem dksX5_goesBy_0 : cX5_goesBy.data.toList.drop 0 = dktX5_goesBy_0 := by decide +kernel
theorem dksX5_goesBy_1 : cX5_goesBy.data.toList.drop 24 = dktX5_goesBy_1 := dk_seg dksX5_goesBy_0 24 rfl rfl
theorem dksX5_goesBy_2 : cX5_goesBy.data.toList.drop 48 = dktX5_goesBy_2 := dk_seg dksX5_goesBy_1 24 rfl rfl
theorem dksX5_goesBy_3 : cX5_goesBy.data.toList.drop 72 = dktX5_goesBy_3 := dk_seg dksX5_goesBy_2 24 rfl rfl
theorem dksX5_goesBy_4 : cX5_goesBy.data.toList.drop 95 = dktX5_goesBy_4 := dk_seg dksX5_goesBy_3 23 rfl rfl
theorem dksX5_goesBy_5 : cX5_goesBy.data.toList.drop 119 = dktX5_goesBy_5 := dk_seg dksX5_goesBy_4 24 rfl rfl
theorem dksX5_goesBy_6 : cX5_goesBy.data.toList.drop 141 = dktX5_goesBy_6 := dk_seg dksX5_goesBy_5 22 rfl rfl
theorem dksX5_goesBy_7 : cX5_goesBy.data.toList.drop 165 = dktX5_goesBy_7 := dk_seg dksX5_goesBy_6 24 rfl rfl
theorem dksX5_goesBy_8 : cX5_goesBy.data.toList.drop 189 = dktX5_goesBy_8 := dk_seg dksX5_goesBy_7 24 rfl rfl
theorem dX5_goesBy_0 : decode cX5_goesBy 0 = .ok (.iconst 0, 1) := dk_3 (dk_at dksX5_goesBy_0 0 rfl rfl)
theorem dX5_goesBy_1 : decode cX5_goesBy 1 = .ok (.istore_n 1, 1) := dk_60 (dk_at dksX5_goesBy_0 1 rfl rfl)
theorem dX5_goesBy_2 : decode cX5_goesBy 2 = .ok (.iload_n 1, 1) := dk_27 (dk_at dksX5_goesBy_0 2 rfl rfl)
theorem dX5_goesBy_3 : decode cX5_goesBy 3 = .ok (.aload_n 0, 1) := dk_42 (dk_at dksX5_goesBy_0 3 rfl rfl)
theorem dX5_goesBy_4 : decode cX5_goesBy 4 = .ok (.getfield 282, 3) := dk_180 1 26 (dk_at dksX5_goesBy_0 4 rfl rfl)
theorem dX5_goesBy_7 : decode cX5_goesBy 7 = .ok (.if_icmp .ge 33, 3) := dk_162 0 33 (dk_at dksX5_goesBy_0 7 rfl rfl)
theorem dX5_goesBy_10 : decode cX5_goesBy 10 = .ok (.aload_n 0, 1) := dk_42 (dk_at dksX5_goesBy_0 10 rfl rfl)
theorem dX5_goesBy_11 : decode cX5_goesBy 11 = .ok (.getfield 59, 3) := dk_180 0 59 (dk_at dksX5_goesBy_0 11 rfl rfl)
theorem dX5_goesBy_14 : decode cX5_goesBy 14 = .ok (.iconst 4, 1) := dk_7 (dk_at dksX5_goesBy_0 14 rfl rfl)
theorem dX5_goesBy_15 : decode cX5_goesBy 15 = .ok (.iload_n 1, 1) := dk_27 (dk_at dksX5_goesBy_0 15 rfl rfl)
theorem dX5_goesBy_16 : decode cX5_goesBy 16 = .ok (.imul, 1) := dk_104 (dk_at dksX5_goesBy_0 16 rfl rfl)
theorem dX5_goesBy_17 : decode cX5_goesBy 17 = .ok (.iaload, 1) := dk_46 (dk_at dksX5_goesBy_0 17 rfl rfl)
theorem dX5_goesBy_18 : decode cX5_goesBy 18 = .ok (.aload_n 0, 1) := dk_42 (dk_at dksX5_goesBy_0 18 rfl rfl)
theorem dX5_goesBy_19 : decode cX5_goesBy 19 = .ok (.getfield 7, 3) := dk_180 0 7 (dk_at dksX5_goesBy_0 19 rfl rfl)
theorem dX5_goesBy_22 : decode cX5_goesBy 22 = .ok (.iconst 0, 1) := dk_3 (dk_at dksX5_goesBy_0 22 rfl rfl)
theorem dX5_goesBy_23 : decode cX5_goesBy 23 = .ok (.iaload, 1) := dk_46 (dk_at dksX5_goesBy_0 23 rfl rfl)
theorem dX5_goesBy_24 : decode cX5_goesBy 24 = .ok (.if_icmp .ne 10, 3) := dk_160 0 10 (dk_at dksX5_goesBy_1 0 rfl rfl)
theorem dX5_goesBy_27 : decode cX5_goesBy 27 = .ok (.aload_n 0, 1) := dk_42 (dk_at dksX5_goesBy_1 3 rfl rfl)
theorem dX5_goesBy_28 : decode cX5_goesBy 28 = .ok (.iconst 4, 1) := dk_7 (dk_at dksX5_goesBy_1 4 rfl rfl)
theorem dX5_goesBy_29 : decode cX5_goesBy 29 = .ok (.iload_n 1, 1) := dk_27 (dk_at dksX5_goesBy_1 5 rfl rfl)
theorem dX5_goesBy_30 : decode cX5_goesBy 30 = .ok (.imul, 1) := dk_104 (dk_at dksX5_goesBy_1 6 rfl rfl)
theorem dX5_goesBy_31 : decode cX5_goesBy 31 = .ok (.invokevirtual 390, 3) := dk_182 1 134 (dk_at dksX5_goesBy_1 7 rfl rfl)
theorem dX5_goesBy_34 : decode cX5_goesBy 34 = .ok (.iinc 1 1, 3) := dk_132 1 1 (dk_at dksX5_goesBy_1 10 rfl rfl)
theorem dX5_goesBy_37 : decode cX5_goesBy 37 = .ok (.goto (-35), 3) := dk_167 255 221 (dk_at dksX5_goesBy_1 13 rfl rfl)
theorem dX5_goesBy_40 : decode cX5_goesBy 40 = .ok (.iconst 0, 1) := dk_3 (dk_at dksX5_goesBy_1 16 rfl rfl)
theorem dX5_goesBy_41 : decode cX5_goesBy 41 = .ok (.istore_n 1, 1) := dk_60 (dk_at dksX5_goesBy_1 17 rfl rfl)
theorem dX5_goesBy_42 : decode cX5_goesBy 42 = .ok (.iload_n 1, 1) := dk_27 (dk_at dksX5_goesBy_1 18 rfl rfl)
theorem dX5_goesBy_43 : decode cX5_goesBy 43 = .ok (.aload_n 0, 1) := dk_42 (dk_at dksX5_goesBy_1 19 rfl rfl)
theorem dX5_goesBy_44 : decode cX5_goesBy 44 = .ok (.getfield 7, 3) := dk_180 0 7 (dk_at dksX5_goesBy_1 20 rfl rfl)
theorem dX5_goesBy_47 : decode cX5_goesBy 47 = .ok (.iconst 4, 1) := dk_7 (dk_at dksX5_goesBy_1 23 rfl rfl)
theorem dX5_goesBy_48 : decode cX5_goesBy 48 = .ok (.iaload, 1) := dk_46 (dk_at dksX5_goesBy_2 0 rfl rfl)
theorem dX5_goesBy_49 : decode cX5_goesBy 49 = .ok (.if_icmp .ge 40, 3) := dk_162 0 40 (dk_at dksX5_goesBy_2 1 rfl rfl)
theorem dX5_goesBy_52 : decode cX5_goesBy 52 = .ok (.aload_n 0, 1) := dk_42 (dk_at dksX5_goesBy_2 4 rfl rfl)
theorem dX5_goesBy_53 : decode cX5_goesBy 53 = .ok (.getfield 7, 3) := dk_180 0 7 (dk_at dksX5_goesBy_2 5 rfl rfl)
theorem dX5_goesBy_56 : decode cX5_goesBy 56 = .ok (.bipush 62, 2) := dk_16 62 (dk_at dksX5_goesBy_2 8 rfl rfl)
theorem dX5_goesBy_58 : decode cX5_goesBy 58 = .ok (.iload_n 1, 1) := dk_27 (dk_at dksX5_goesBy_2 10 rfl rfl)
theorem dX5_goesBy_59 : decode cX5_goesBy 59 = .ok (.iadd, 1) := dk_96 (dk_at dksX5_goesBy_2 11 rfl rfl)
theorem dX5_goesBy_60 : decode cX5_goesBy 60 = .ok (.aload_n 0, 1) := dk_42 (dk_at dksX5_goesBy_2 12 rfl rfl)
theorem dX5_goesBy_61 : decode cX5_goesBy 61 = .ok (.aload_n 0, 1) := dk_42 (dk_at dksX5_goesBy_2 13 rfl rfl)
theorem dX5_goesBy_62 : decode cX5_goesBy 62 = .ok (.getfield 7, 3) := dk_180 0 7 (dk_at dksX5_goesBy_2 14 rfl rfl)
theorem dX5_goesBy_65 : decode cX5_goesBy 65 = .ok (.bipush 62, 2) := dk_16 62 (dk_at dksX5_goesBy_2 17 rfl rfl)
theorem dX5_goesBy_67 : decode cX5_goesBy 67 = .ok (.iload_n 1, 1) := dk_27 (dk_at dksX5_goesBy_2 19 rfl rfl)
theorem dX5_goesBy_68 : decode cX5_goesBy 68 = .ok (.iadd, 1) := dk_96 (dk_at dksX5_goesBy_2 20 rfl rfl)
theorem dX5_goesBy_69 : decode cX5_goesBy 69 = .ok (.iaload, 1) := dk_46 (dk_at dksX5_goesBy_2 21 rfl rfl)
theorem dX5_goesBy_70 : decode cX5_goesBy 70 = .ok (.aload_n 0, 1) := dk_42 (dk_at dksX5_goesBy_2 22 rfl rfl)
theorem dX5_goesBy_71 : decode cX5_goesBy 71 = .ok (.iload_n 1, 1) := dk_27 (dk_at dksX5_goesBy_2 23 rfl rfl)
theorem dX5_goesBy_72 : decode cX5_goesBy 72 = .ok (.invokevirtual 393, 3) := dk_182 1 137 (dk_at dksX5_goesBy_3 0 rfl rfl)
theorem dX5_goesBy_75 : decode cX5_goesBy 75 = .ok (.iadd, 1) := dk_96 (dk_at dksX5_goesBy_3 3 rfl rfl)
theorem dX5_goesBy_76 : decode cX5_goesBy 76 = .ok (.iconst 0, 1) := dk_3 (dk_at dksX5_goesBy_3 4 rfl rfl)
theorem dX5_goesBy_77 : decode cX5_goesBy 77 = .ok (.bipush 99, 2) := dk_16 99 (dk_at dksX5_goesBy_3 5 rfl rfl)
theorem dX5_goesBy_79 : decode cX5_goesBy 79 = .ok (.invokevirtual 122, 3) := dk_182 0 122 (dk_at dksX5_goesBy_3 7 rfl rfl)
theorem dX5_goesBy_82 : decode cX5_goesBy 82 = .ok (.iastore, 1) := dk_79 (dk_at dksX5_goesBy_3 10 rfl rfl)
theorem dX5_goesBy_83 : decode cX5_goesBy 83 = .ok (.iinc 1 1, 3) := dk_132 1 1 (dk_at dksX5_goesBy_3 11 rfl rfl)
theorem dX5_goesBy_86 : decode cX5_goesBy 86 = .ok (.goto (-44), 3) := dk_167 255 212 (dk_at dksX5_goesBy_3 14 rfl rfl)
theorem dX5_goesBy_89 : decode cX5_goesBy 89 = .ok (.aload_n 0, 1) := dk_42 (dk_at dksX5_goesBy_3 17 rfl rfl)
theorem dX5_goesBy_90 : decode cX5_goesBy 90 = .ok (.invokevirtual 396, 3) := dk_182 1 140 (dk_at dksX5_goesBy_3 18 rfl rfl)
theorem dX5_goesBy_93 : decode cX5_goesBy 93 = .ok (.istore_n 1, 1) := dk_60 (dk_at dksX5_goesBy_3 21 rfl rfl)
theorem dX5_goesBy_94 : decode cX5_goesBy 94 = .ok (.aload_n 0, 1) := dk_42 (dk_at dksX5_goesBy_3 22 rfl rfl)
theorem dX5_goesBy_95 : decode cX5_goesBy 95 = .ok (.invokevirtual 399, 3) := dk_182 1 143 (dk_at dksX5_goesBy_4 0 rfl rfl)
theorem dX5_goesBy_98 : decode cX5_goesBy 98 = .ok (.aload_n 0, 1) := dk_42 (dk_at dksX5_goesBy_4 3 rfl rfl)
theorem dX5_goesBy_99 : decode cX5_goesBy 99 = .ok (.getfield 7, 3) := dk_180 0 7 (dk_at dksX5_goesBy_4 4 rfl rfl)
theorem dX5_goesBy_102 : decode cX5_goesBy 102 = .ok (.iconst 0, 1) := dk_3 (dk_at dksX5_goesBy_4 7 rfl rfl)
theorem dX5_goesBy_103 : decode cX5_goesBy 103 = .ok (.iaload, 1) := dk_46 (dk_at dksX5_goesBy_4 8 rfl rfl)
theorem dX5_goesBy_104 : decode cX5_goesBy 104 = .ok (.iconst 1, 1) := dk_4 (dk_at dksX5_goesBy_4 9 rfl rfl)
theorem dX5_goesBy_105 : decode cX5_goesBy 105 = .ok (.iadd, 1) := dk_96 (dk_at dksX5_goesBy_4 10 rfl rfl)
theorem dX5_goesBy_106 : decode cX5_goesBy 106 = .ok (.aload_n 0, 1) := dk_42 (dk_at dksX5_goesBy_4 11 rfl rfl)
theorem dX5_goesBy_107 : decode cX5_goesBy 107 = .ok (.invokevirtual 402, 3) := dk_182 1 146 (dk_at dksX5_goesBy_4 12 rfl rfl)
theorem dX5_goesBy_110 : decode cX5_goesBy 110 = .ok (.irem, 1) := dk_112 (dk_at dksX5_goesBy_4 15 rfl rfl)
theorem dX5_goesBy_111 : decode cX5_goesBy 111 = .ok (.ifCond .ne 7, 3) := dk_154 0 7 (dk_at dksX5_goesBy_4 16 rfl rfl)
theorem dX5_goesBy_114 : decode cX5_goesBy 114 = .ok (.aload_n 0, 1) := dk_42 (dk_at dksX5_goesBy_4 19 rfl rfl)
theorem dX5_goesBy_115 : decode cX5_goesBy 115 = .ok (.invokevirtual 405, 3) := dk_182 1 149 (dk_at dksX5_goesBy_4 20 rfl rfl)
theorem dX5_goesBy_118 : decode cX5_goesBy 118 = .ok (.aload_n 0, 1) := dk_42 (dk_at dksX5_goesBy_4 23 rfl rfl)
theorem dX5_goesBy_119 : decode cX5_goesBy 119 = .ok (.getfield 7, 3) := dk_180 0 7 (dk_at dksX5_goesBy_5 0 rfl rfl)
theorem dX5_goesBy_122 : decode cX5_goesBy 122 = .ok (.iconst 0, 1) := dk_3 (dk_at dksX5_goesBy_5 3 rfl rfl)
theorem dX5_goesBy_123 : decode cX5_goesBy 123 = .ok (.aload_n 0, 1) := dk_42 (dk_at dksX5_goesBy_5 4 rfl rfl)
theorem dX5_goesBy_124 : decode cX5_goesBy 124 = .ok (.getfield 7, 3) := dk_180 0 7 (dk_at dksX5_goesBy_5 5 rfl rfl)
theorem dX5_goesBy_127 : decode cX5_goesBy 127 = .ok (.iconst 0, 1) := dk_3 (dk_at dksX5_goesBy_5 8 rfl rfl)
theorem dX5_goesBy_128 : decode cX5_goesBy 128 = .ok (.iaload, 1) := dk_46 (dk_at dksX5_goesBy_5 9 rfl rfl)
theorem dX5_goesBy_129 : decode cX5_goesBy 129 = .ok (.iconst 1, 1) := dk_4 (dk_at dksX5_goesBy_5 10 rfl rfl)
theorem dX5_goesBy_130 : decode cX5_goesBy 130 = .ok (.iadd, 1) := dk_96 (dk_at dksX5_goesBy_5 11 rfl rfl)
theorem dX5_goesBy_131 : decode cX5_goesBy 131 = .ok (.iastore, 1) := dk_79 (dk_at dksX5_goesBy_5 12 rfl rfl)
theorem dX5_goesBy_132 : decode cX5_goesBy 132 = .ok (.iconst 0, 1) := dk_3 (dk_at dksX5_goesBy_5 13 rfl rfl)
theorem dX5_goesBy_133 : decode cX5_goesBy 133 = .ok (.istore_n 2, 1) := dk_61 (dk_at dksX5_goesBy_5 14 rfl rfl)
theorem dX5_goesBy_134 : decode cX5_goesBy 134 = .ok (.iload_n 2, 1) := dk_28 (dk_at dksX5_goesBy_5 15 rfl rfl)
theorem dX5_goesBy_135 : decode cX5_goesBy 135 = .ok (.aload_n 0, 1) := dk_42 (dk_at dksX5_goesBy_5 16 rfl rfl)
theorem dX5_goesBy_136 : decode cX5_goesBy 136 = .ok (.getfield 7, 3) := dk_180 0 7 (dk_at dksX5_goesBy_5 17 rfl rfl)
theorem dX5_goesBy_139 : decode cX5_goesBy 139 = .ok (.iconst 4, 1) := dk_7 (dk_at dksX5_goesBy_5 20 rfl rfl)
theorem dX5_goesBy_140 : decode cX5_goesBy 140 = .ok (.iaload, 1) := dk_46 (dk_at dksX5_goesBy_5 21 rfl rfl)
theorem dX5_goesBy_141 : decode cX5_goesBy 141 = .ok (.if_icmp .ge 48, 3) := dk_162 0 48 (dk_at dksX5_goesBy_6 0 rfl rfl)
theorem dX5_goesBy_144 : decode cX5_goesBy 144 = .ok (.aload_n 0, 1) := dk_42 (dk_at dksX5_goesBy_6 3 rfl rfl)
theorem dX5_goesBy_145 : decode cX5_goesBy 145 = .ok (.getfield 7, 3) := dk_180 0 7 (dk_at dksX5_goesBy_6 4 rfl rfl)
theorem dX5_goesBy_148 : decode cX5_goesBy 148 = .ok (.iconst 0, 1) := dk_3 (dk_at dksX5_goesBy_6 7 rfl rfl)
theorem dX5_goesBy_149 : decode cX5_goesBy 149 = .ok (.iaload, 1) := dk_46 (dk_at dksX5_goesBy_6 8 rfl rfl)
theorem dX5_goesBy_150 : decode cX5_goesBy 150 = .ok (.bipush 52, 2) := dk_16 52 (dk_at dksX5_goesBy_6 9 rfl rfl)
theorem dX5_goesBy_152 : decode cX5_goesBy 152 = .ok (.irem, 1) := dk_112 (dk_at dksX5_goesBy_6 11 rfl rfl)
theorem dX5_goesBy_153 : decode cX5_goesBy 153 = .ok (.ifCond .ne 36, 3) := dk_154 0 36 (dk_at dksX5_goesBy_6 12 rfl rfl)
theorem dX5_goesBy_156 : decode cX5_goesBy 156 = .ok (.aload_n 0, 1) := dk_42 (dk_at dksX5_goesBy_6 15 rfl rfl)
theorem dX5_goesBy_157 : decode cX5_goesBy 157 = .ok (.getfield 7, 3) := dk_180 0 7 (dk_at dksX5_goesBy_6 16 rfl rfl)
theorem dX5_goesBy_160 : decode cX5_goesBy 160 = .ok (.bipush 48, 2) := dk_16 48 (dk_at dksX5_goesBy_6 19 rfl rfl)
theorem dX5_goesBy_162 : decode cX5_goesBy 162 = .ok (.iload_n 2, 1) := dk_28 (dk_at dksX5_goesBy_6 21 rfl rfl)
theorem dX5_goesBy_163 : decode cX5_goesBy 163 = .ok (.iadd, 1) := dk_96 (dk_at dksX5_goesBy_6 22 rfl rfl)
theorem dX5_goesBy_164 : decode cX5_goesBy 164 = .ok (.aload_n 0, 1) := dk_42 (dk_at dksX5_goesBy_6 23 rfl rfl)
theorem dX5_goesBy_165 : decode cX5_goesBy 165 = .ok (.aload_n 0, 1) := dk_42 (dk_at dksX5_goesBy_7 0 rfl rfl)
theorem dX5_goesBy_166 : decode cX5_goesBy 166 = .ok (.getfield 7, 3) := dk_180 0 7 (dk_at dksX5_goesBy_7 1 rfl rfl)
theorem dX5_goesBy_169 : decode cX5_goesBy 169 = .ok (.bipush 48, 2) := dk_16 48 (dk_at dksX5_goesBy_7 4 rfl rfl)
theorem dX5_goesBy_171 : decode cX5_goesBy 171 = .ok (.iload_n 2, 1) := dk_28 (dk_at dksX5_goesBy_7 6 rfl rfl)
theorem dX5_goesBy_172 : decode cX5_goesBy 172 = .ok (.iadd, 1) := dk_96 (dk_at dksX5_goesBy_7 7 rfl rfl)
theorem dX5_goesBy_173 : decode cX5_goesBy 173 = .ok (.iaload, 1) := dk_46 (dk_at dksX5_goesBy_7 8 rfl rfl)
theorem dX5_goesBy_174 : decode cX5_goesBy 174 = .ok (.iconst 1, 1) := dk_4 (dk_at dksX5_goesBy_7 9 rfl rfl)
theorem dX5_goesBy_175 : decode cX5_goesBy 175 = .ok (.iadd, 1) := dk_96 (dk_at dksX5_goesBy_7 10 rfl rfl)
theorem dX5_goesBy_176 : decode cX5_goesBy 176 = .ok (.iconst 0, 1) := dk_3 (dk_at dksX5_goesBy_7 11 rfl rfl)
theorem dX5_goesBy_177 : decode cX5_goesBy 177 = .ok (.bipush 99, 2) := dk_16 99 (dk_at dksX5_goesBy_7 12 rfl rfl)
theorem dX5_goesBy_179 : decode cX5_goesBy 179 = .ok (.invokevirtual 122, 3) := dk_182 0 122 (dk_at dksX5_goesBy_7 14 rfl rfl)
theorem dX5_goesBy_182 : decode cX5_goesBy 182 = .ok (.iastore, 1) := dk_79 (dk_at dksX5_goesBy_7 17 rfl rfl)
theorem dX5_goesBy_183 : decode cX5_goesBy 183 = .ok (.iinc 2 1, 3) := dk_132 2 1 (dk_at dksX5_goesBy_7 18 rfl rfl)
theorem dX5_goesBy_186 : decode cX5_goesBy 186 = .ok (.goto (-52), 3) := dk_167 255 204 (dk_at dksX5_goesBy_7 21 rfl rfl)
theorem dX5_goesBy_189 : decode cX5_goesBy 189 = .ok (.iload_n 1, 1) := dk_27 (dk_at dksX5_goesBy_8 0 rfl rfl)
theorem dX5_goesBy_190 : decode cX5_goesBy 190 = .ok (.ireturn, 1) := dk_172 (dk_at dksX5_goesBy_8 1 rfl rfl)
