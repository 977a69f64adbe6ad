/-! SwapPress$Press -/
set_option maxRecDepth 100000
abbrev cX8_init : ByteArray := prog_7_method_1_code
def yX8_init : MethodName := ⟨RX8, "<init>", "(LSwapPress;I[ILSwapPress$Bounds;Z)V"⟩
def dkwX8_init_7 : List UInt8 := [167, 255, 140, 177]
abbrev dktX8_init_7 : List UInt8 := dkwX8_init_7 ++ []
def dkwX8_init_6 : List UInt8 := [96, 25, 4, 21, 6, 21, 7, 185, 0, 39, 3, 0, 133, 80, 132, 7, 1, 167, 255, 181, 132, 6, 1]
abbrev dktX8_init_6 : List UInt8 := dkwX8_init_6 ++ dktX8_init_7
def dkwX8_init_5 : List UInt8 := [45, 16, 8, 21, 7, 104, 21, 6, 96, 46, 100, 96, 79, 42, 180, 0, 19, 16, 8, 21, 6, 104, 21, 7]
abbrev dktX8_init_5 : List UInt8 := dkwX8_init_5 ++ dktX8_init_6
def dkwX8_init_4 : List UInt8 := [160, 0, 6, 167, 0, 59, 42, 180, 0, 15, 21, 6, 92, 46, 45, 16, 8, 21, 6, 104, 21, 7, 96, 46]
abbrev dktX8_init_4 : List UInt8 := dkwX8_init_4 ++ dktX8_init_5
def dkwX8_init_3 : List UInt8 := [184, 0, 33, 133, 167, 0, 6, 20, 0, 37, 80, 3, 54, 7, 21, 7, 28, 162, 0, 75, 21, 6, 21, 7]
abbrev dktX8_init_3 : List UInt8 := dkwX8_init_3 ++ dktX8_init_4
def dkwX8_init_2 : List UInt8 := [3, 54, 6, 21, 6, 28, 162, 0, 116, 42, 180, 0, 26, 21, 6, 21, 5, 153, 0, 14, 28, 45, 21, 6]
abbrev dktX8_init_2 : List UInt8 := dkwX8_init_2 ++ dktX8_init_3
def dkwX8_init_1 : List UInt8 := [181, 0, 19, 42, 16, 64, 188, 11, 181, 0, 23, 42, 16, 8, 188, 11, 181, 0, 26, 42, 28, 181, 0, 29]
abbrev dktX8_init_1 : List UInt8 := dkwX8_init_1 ++ dktX8_init_2
def dkwX8_init_0 : List UInt8 := [42, 43, 181, 0, 3, 42, 183, 0, 9, 42, 16, 8, 188, 10, 181, 0, 15, 42, 16, 64, 188, 11]
abbrev dktX8_init_0 : List UInt8 := dkwX8_init_0 ++ dktX8_init_1
theorem dksX8_init_0 : cX8_init.data.toList.drop 0 = dktX8_init_0 := by decide +kernel
theorem dksX8_init_1 : cX8_init.data.toList.drop 22 = dktX8_init_1 := dk_seg dksX8_init_0 22 rfl rfl
theorem dksX8_init_2 : cX8_init.data.toList.drop 46 = dktX8_init_2 := dk_seg dksX8_init_1 24 rfl rfl
theorem dksX8_init_3 : cX8_init.data.toList.drop 70 = dktX8_init_3 := dk_seg dksX8_init_2 24 rfl rfl
theorem dksX8_init_4 : cX8_init.data.toList.drop 94 = dktX8_init_4 := dk_seg dksX8_init_3 24 rfl rfl
theorem dksX8_init_5 : cX8_init.data.toList.drop 118 = dktX8_init_5 := dk_seg dksX8_init_4 24 rfl rfl
theorem dksX8_init_6 : cX8_init.data.toList.drop 142 = dktX8_init_6 := dk_seg dksX8_init_5 24 rfl rfl
theorem dksX8_init_7 : cX8_init.data.toList.drop 165 = dktX8_init_7 := dk_seg dksX8_init_6 23 rfl rfl
theorem dX8_init_0 : decode cX8_init 0 = .ok (.aload_n 0, 1) := dk_42 (dk_at dksX8_init_0 0 rfl rfl)
theorem dX8_init_1 : decode cX8_init 1 = .ok (.aload_n 1, 1) := dk_43 (dk_at dksX8_init_0 1 rfl rfl)
theorem dX8_init_2 : decode cX8_init 2 = .ok (.putfield 3, 3) := dk_181 0 3 (dk_at dksX8_init_0 2 rfl rfl)
theorem dX8_init_5 : decode cX8_init 5 = .ok (.aload_n 0, 1) := dk_42 (dk_at dksX8_init_0 5 rfl rfl)
theorem dX8_init_6 : decode cX8_init 6 = .ok (.invokespecial 9, 3) := dk_183 0 9 (dk_at dksX8_init_0 6 rfl rfl)
theorem dX8_init_9 : decode cX8_init 9 = .ok (.aload_n 0, 1) := dk_42 (dk_at dksX8_init_0 9 rfl rfl)
theorem dX8_init_10 : decode cX8_init 10 = .ok (.bipush 8, 2) := dk_16 8 (dk_at dksX8_init_0 10 rfl rfl)
theorem dX8_init_12 : decode cX8_init 12 = .ok (.newarray .int, 2) := dk_188_10 (dk_at dksX8_init_0 12 rfl rfl)
theorem dX8_init_14 : decode cX8_init 14 = .ok (.putfield 15, 3) := dk_181 0 15 (dk_at dksX8_init_0 14 rfl rfl)
theorem dX8_init_17 : decode cX8_init 17 = .ok (.aload_n 0, 1) := dk_42 (dk_at dksX8_init_0 17 rfl rfl)
theorem dX8_init_18 : decode cX8_init 18 = .ok (.bipush 64, 2) := dk_16 64 (dk_at dksX8_init_0 18 rfl rfl)
theorem dX8_init_20 : decode cX8_init 20 = .ok (.newarray .long, 2) := dk_188_11 (dk_at dksX8_init_0 20 rfl rfl)
theorem dX8_init_22 : decode cX8_init 22 = .ok (.putfield 19, 3) := dk_181 0 19 (dk_at dksX8_init_1 0 rfl rfl)
theorem dX8_init_25 : decode cX8_init 25 = .ok (.aload_n 0, 1) := dk_42 (dk_at dksX8_init_1 3 rfl rfl)
theorem dX8_init_26 : decode cX8_init 26 = .ok (.bipush 64, 2) := dk_16 64 (dk_at dksX8_init_1 4 rfl rfl)
theorem dX8_init_28 : decode cX8_init 28 = .ok (.newarray .long, 2) := dk_188_11 (dk_at dksX8_init_1 6 rfl rfl)
theorem dX8_init_30 : decode cX8_init 30 = .ok (.putfield 23, 3) := dk_181 0 23 (dk_at dksX8_init_1 8 rfl rfl)
theorem dX8_init_33 : decode cX8_init 33 = .ok (.aload_n 0, 1) := dk_42 (dk_at dksX8_init_1 11 rfl rfl)
theorem dX8_init_34 : decode cX8_init 34 = .ok (.bipush 8, 2) := dk_16 8 (dk_at dksX8_init_1 12 rfl rfl)
theorem dX8_init_36 : decode cX8_init 36 = .ok (.newarray .long, 2) := dk_188_11 (dk_at dksX8_init_1 14 rfl rfl)
theorem dX8_init_38 : decode cX8_init 38 = .ok (.putfield 26, 3) := dk_181 0 26 (dk_at dksX8_init_1 16 rfl rfl)
theorem dX8_init_41 : decode cX8_init 41 = .ok (.aload_n 0, 1) := dk_42 (dk_at dksX8_init_1 19 rfl rfl)
theorem dX8_init_42 : decode cX8_init 42 = .ok (.iload_n 2, 1) := dk_28 (dk_at dksX8_init_1 20 rfl rfl)
theorem dX8_init_43 : decode cX8_init 43 = .ok (.putfield 29, 3) := dk_181 0 29 (dk_at dksX8_init_1 21 rfl rfl)
theorem dX8_init_46 : decode cX8_init 46 = .ok (.iconst 0, 1) := dk_3 (dk_at dksX8_init_2 0 rfl rfl)
theorem dX8_init_47 : decode cX8_init 47 = .ok (.istore 6, 2) := dk_54 6 (dk_at dksX8_init_2 1 rfl rfl)
theorem dX8_init_49 : decode cX8_init 49 = .ok (.iload 6, 2) := dk_21 6 (dk_at dksX8_init_2 3 rfl rfl)
theorem dX8_init_51 : decode cX8_init 51 = .ok (.iload_n 2, 1) := dk_28 (dk_at dksX8_init_2 5 rfl rfl)
theorem dX8_init_52 : decode cX8_init 52 = .ok (.if_icmp .ge 116, 3) := dk_162 0 116 (dk_at dksX8_init_2 6 rfl rfl)
theorem dX8_init_55 : decode cX8_init 55 = .ok (.aload_n 0, 1) := dk_42 (dk_at dksX8_init_2 9 rfl rfl)
theorem dX8_init_56 : decode cX8_init 56 = .ok (.getfield 26, 3) := dk_180 0 26 (dk_at dksX8_init_2 10 rfl rfl)
theorem dX8_init_59 : decode cX8_init 59 = .ok (.iload 6, 2) := dk_21 6 (dk_at dksX8_init_2 13 rfl rfl)
theorem dX8_init_61 : decode cX8_init 61 = .ok (.iload 5, 2) := dk_21 5 (dk_at dksX8_init_2 15 rfl rfl)
theorem dX8_init_63 : decode cX8_init 63 = .ok (.ifCond .eq 14, 3) := dk_153 0 14 (dk_at dksX8_init_2 17 rfl rfl)
theorem dX8_init_66 : decode cX8_init 66 = .ok (.iload_n 2, 1) := dk_28 (dk_at dksX8_init_2 20 rfl rfl)
theorem dX8_init_67 : decode cX8_init 67 = .ok (.aload_n 3, 1) := dk_45 (dk_at dksX8_init_2 21 rfl rfl)
theorem dX8_init_68 : decode cX8_init 68 = .ok (.iload 6, 2) := dk_21 6 (dk_at dksX8_init_2 22 rfl rfl)
theorem dX8_init_70 : decode cX8_init 70 = .ok (.invokestatic 33, 3) := dk_184 0 33 (dk_at dksX8_init_3 0 rfl rfl)
theorem dX8_init_73 : decode cX8_init 73 = .ok (.i2l, 1) := dk_133 (dk_at dksX8_init_3 3 rfl rfl)
theorem dX8_init_74 : decode cX8_init 74 = .ok (.goto 6, 3) := dk_167 0 6 (dk_at dksX8_init_3 4 rfl rfl)
theorem dX8_init_77 : decode cX8_init 77 = .ok (.ldc2_w 37, 3) := dk_20 0 37 (dk_at dksX8_init_3 7 rfl rfl)
theorem dX8_init_80 : decode cX8_init 80 = .ok (.lastore, 1) := dk_80 (dk_at dksX8_init_3 10 rfl rfl)
theorem dX8_init_81 : decode cX8_init 81 = .ok (.iconst 0, 1) := dk_3 (dk_at dksX8_init_3 11 rfl rfl)
theorem dX8_init_82 : decode cX8_init 82 = .ok (.istore 7, 2) := dk_54 7 (dk_at dksX8_init_3 12 rfl rfl)
theorem dX8_init_84 : decode cX8_init 84 = .ok (.iload 7, 2) := dk_21 7 (dk_at dksX8_init_3 14 rfl rfl)
theorem dX8_init_86 : decode cX8_init 86 = .ok (.iload_n 2, 1) := dk_28 (dk_at dksX8_init_3 16 rfl rfl)
theorem dX8_init_87 : decode cX8_init 87 = .ok (.if_icmp .ge 75, 3) := dk_162 0 75 (dk_at dksX8_init_3 17 rfl rfl)
theorem dX8_init_90 : decode cX8_init 90 = .ok (.iload 6, 2) := dk_21 6 (dk_at dksX8_init_3 20 rfl rfl)
theorem dX8_init_92 : decode cX8_init 92 = .ok (.iload 7, 2) := dk_21 7 (dk_at dksX8_init_3 22 rfl rfl)
theorem dX8_init_94 : decode cX8_init 94 = .ok (.if_icmp .ne 6, 3) := dk_160 0 6 (dk_at dksX8_init_4 0 rfl rfl)
theorem dX8_init_97 : decode cX8_init 97 = .ok (.goto 59, 3) := dk_167 0 59 (dk_at dksX8_init_4 3 rfl rfl)
theorem dX8_init_100 : decode cX8_init 100 = .ok (.aload_n 0, 1) := dk_42 (dk_at dksX8_init_4 6 rfl rfl)
theorem dX8_init_101 : decode cX8_init 101 = .ok (.getfield 15, 3) := dk_180 0 15 (dk_at dksX8_init_4 7 rfl rfl)
theorem dX8_init_104 : decode cX8_init 104 = .ok (.iload 6, 2) := dk_21 6 (dk_at dksX8_init_4 10 rfl rfl)
theorem dX8_init_106 : decode cX8_init 106 = .ok (.dup2, 1) := dk_92 (dk_at dksX8_init_4 12 rfl rfl)
theorem dX8_init_107 : decode cX8_init 107 = .ok (.iaload, 1) := dk_46 (dk_at dksX8_init_4 13 rfl rfl)
theorem dX8_init_108 : decode cX8_init 108 = .ok (.aload_n 3, 1) := dk_45 (dk_at dksX8_init_4 14 rfl rfl)
theorem dX8_init_109 : decode cX8_init 109 = .ok (.bipush 8, 2) := dk_16 8 (dk_at dksX8_init_4 15 rfl rfl)
theorem dX8_init_111 : decode cX8_init 111 = .ok (.iload 6, 2) := dk_21 6 (dk_at dksX8_init_4 17 rfl rfl)
theorem dX8_init_113 : decode cX8_init 113 = .ok (.imul, 1) := dk_104 (dk_at dksX8_init_4 19 rfl rfl)
theorem dX8_init_114 : decode cX8_init 114 = .ok (.iload 7, 2) := dk_21 7 (dk_at dksX8_init_4 20 rfl rfl)
theorem dX8_init_116 : decode cX8_init 116 = .ok (.iadd, 1) := dk_96 (dk_at dksX8_init_4 22 rfl rfl)
theorem dX8_init_117 : decode cX8_init 117 = .ok (.iaload, 1) := dk_46 (dk_at dksX8_init_4 23 rfl rfl)
theorem dX8_init_118 : decode cX8_init 118 = .ok (.aload_n 3, 1) := dk_45 (dk_at dksX8_init_5 0 rfl rfl)
theorem dX8_init_119 : decode cX8_init 119 = .ok (.bipush 8, 2) := dk_16 8 (dk_at dksX8_init_5 1 rfl rfl)
theorem dX8_init_121 : decode cX8_init 121 = .ok (.iload 7, 2) := dk_21 7 (dk_at dksX8_init_5 3 rfl rfl)
theorem dX8_init_123 : decode cX8_init 123 = .ok (.imul, 1) := dk_104 (dk_at dksX8_init_5 5 rfl rfl)
theorem dX8_init_124 : decode cX8_init 124 = .ok (.iload 6, 2) := dk_21 6 (dk_at dksX8_init_5 6 rfl rfl)
theorem dX8_init_126 : decode cX8_init 126 = .ok (.iadd, 1) := dk_96 (dk_at dksX8_init_5 8 rfl rfl)
theorem dX8_init_127 : decode cX8_init 127 = .ok (.iaload, 1) := dk_46 (dk_at dksX8_init_5 9 rfl rfl)
theorem dX8_init_128 : decode cX8_init 128 = .ok (.isub, 1) := dk_100 (dk_at dksX8_init_5 10 rfl rfl)
theorem dX8_init_129 : decode cX8_init 129 = .ok (.iadd, 1) := dk_96 (dk_at dksX8_init_5 11 rfl rfl)
theorem dX8_init_130 : decode cX8_init 130 = .ok (.iastore, 1) := dk_79 (dk_at dksX8_init_5 12 rfl rfl)
theorem dX8_init_131 : decode cX8_init 131 = .ok (.aload_n 0, 1) := dk_42 (dk_at dksX8_init_5 13 rfl rfl)
theorem dX8_init_132 : decode cX8_init 132 = .ok (.getfield 19, 3) := dk_180 0 19 (dk_at dksX8_init_5 14 rfl rfl)
theorem dX8_init_135 : decode cX8_init 135 = .ok (.bipush 8, 2) := dk_16 8 (dk_at dksX8_init_5 17 rfl rfl)
theorem dX8_init_137 : decode cX8_init 137 = .ok (.iload 6, 2) := dk_21 6 (dk_at dksX8_init_5 19 rfl rfl)
theorem dX8_init_139 : decode cX8_init 139 = .ok (.imul, 1) := dk_104 (dk_at dksX8_init_5 21 rfl rfl)
theorem dX8_init_140 : decode cX8_init 140 = .ok (.iload 7, 2) := dk_21 7 (dk_at dksX8_init_5 22 rfl rfl)
theorem dX8_init_142 : decode cX8_init 142 = .ok (.iadd, 1) := dk_96 (dk_at dksX8_init_6 0 rfl rfl)
theorem dX8_init_143 : decode cX8_init 143 = .ok (.aload 4, 2) := dk_25 4 (dk_at dksX8_init_6 1 rfl rfl)
theorem dX8_init_145 : decode cX8_init 145 = .ok (.iload 6, 2) := dk_21 6 (dk_at dksX8_init_6 3 rfl rfl)
theorem dX8_init_147 : decode cX8_init 147 = .ok (.iload 7, 2) := dk_21 7 (dk_at dksX8_init_6 5 rfl rfl)
theorem dX8_init_149 : decode cX8_init 149 = .ok (.invokeinterface 39 3, 5) := by decide +kernel
theorem dX8_init_154 : decode cX8_init 154 = .ok (.i2l, 1) := dk_133 (dk_at dksX8_init_6 12 rfl rfl)
theorem dX8_init_155 : decode cX8_init 155 = .ok (.lastore, 1) := dk_80 (dk_at dksX8_init_6 13 rfl rfl)
theorem dX8_init_156 : decode cX8_init 156 = .ok (.iinc 7 1, 3) := dk_132 7 1 (dk_at dksX8_init_6 14 rfl rfl)
theorem dX8_init_159 : decode cX8_init 159 = .ok (.goto (-75), 3) := dk_167 255 181 (dk_at dksX8_init_6 17 rfl rfl)
theorem dX8_init_162 : decode cX8_init 162 = .ok (.iinc 6 1, 3) := dk_132 6 1 (dk_at dksX8_init_6 20 rfl rfl)
theorem dX8_init_165 : decode cX8_init 165 = .ok (.goto (-116), 3) := dk_167 255 140 (dk_at dksX8_init_7 0 rfl rfl)
theorem dX8_init_168 : decode cX8_init 168 = .ok (.return_, 1) := dk_177 (dk_at dksX8_init_7 3 rfl rfl)
abbrev cX8_first : ByteArray := prog_7_method_5_code
def yX8_first : MethodName := ⟨RX8, "first", "()[I"⟩
def dkwX8_first_4 : List UInt8 := [132, 2, 1, 167, 255, 178, 43, 176]
abbrev dktX8_first_4 : List UInt8 := dkwX8_first_4 ++ []
def dkwX8_first_3 : List UInt8 := [3, 182, 0, 61, 79, 42, 180, 0, 19, 21, 4, 43, 21, 4, 46, 133, 80, 132, 3, 1, 167, 255, 194]
abbrev dktX8_first_3 : List UInt8 := dkwX8_first_3 ++ dktX8_first_4
def dkwX8_first_2 : List UInt8 := [159, 0, 41, 42, 180, 0, 19, 21, 4, 47, 9, 148, 154, 0, 6, 167, 0, 26, 43, 21, 4, 42, 28, 29]
abbrev dktX8_first_2 : List UInt8 := dkwX8_first_2 ++ dktX8_first_3
def dkwX8_first_1 : List UInt8 := [162, 0, 76, 3, 62, 29, 42, 180, 0, 29, 162, 0, 60, 16, 8, 28, 104, 29, 96, 54, 4, 28, 29]
abbrev dktX8_first_1 : List UInt8 := dkwX8_first_1 ++ dktX8_first_2
def dkwX8_first_0 : List UInt8 := [42, 2, 3, 182, 0, 57, 154, 0, 5, 1, 176, 16, 64, 188, 10, 76, 3, 61, 28, 42, 180, 0, 29]
abbrev dktX8_first_0 : List UInt8 := dkwX8_first_0 ++ dktX8_first_1
theorem dksX8_first_0 : cX8_first.data.toList.drop 0 = dktX8_first_0 := by decide +kernel
theorem dksX8_first_1 : cX8_first.data.toList.drop 23 = dktX8_first_1 := dk_seg dksX8_first_0 23 rfl rfl
theorem dksX8_first_2 : cX8_first.data.toList.drop 46 = dktX8_first_2 := dk_seg dksX8_first_1 23 rfl rfl
theorem dksX8_first_3 : cX8_first.data.toList.drop 70 = dktX8_first_3 := dk_seg dksX8_first_2 24 rfl rfl
theorem dksX8_first_4 : cX8_first.data.toList.drop 93 = dktX8_first_4 := dk_seg dksX8_first_3 23 rfl rfl
theorem dX8_first_0 : decode cX8_first 0 = .ok (.aload_n 0, 1) := dk_42 (dk_at dksX8_first_0 0 rfl rfl)
theorem dX8_first_1 : decode cX8_first 1 = .ok (.iconst (-1), 1) := dk_2 (dk_at dksX8_first_0 1 rfl rfl)
theorem dX8_first_2 : decode cX8_first 2 = .ok (.iconst 0, 1) := dk_3 (dk_at dksX8_first_0 2 rfl rfl)
theorem dX8_first_3 : decode cX8_first 3 = .ok (.invokevirtual 57, 3) := dk_182 0 57 (dk_at dksX8_first_0 3 rfl rfl)
theorem dX8_first_6 : decode cX8_first 6 = .ok (.ifCond .ne 5, 3) := dk_154 0 5 (dk_at dksX8_first_0 6 rfl rfl)
theorem dX8_first_9 : decode cX8_first 9 = .ok (.aconst_null, 1) := dk_1 (dk_at dksX8_first_0 9 rfl rfl)
theorem dX8_first_10 : decode cX8_first 10 = .ok (.areturn, 1) := dk_176 (dk_at dksX8_first_0 10 rfl rfl)
theorem dX8_first_11 : decode cX8_first 11 = .ok (.bipush 64, 2) := dk_16 64 (dk_at dksX8_first_0 11 rfl rfl)
theorem dX8_first_13 : decode cX8_first 13 = .ok (.newarray .int, 2) := dk_188_10 (dk_at dksX8_first_0 13 rfl rfl)
theorem dX8_first_15 : decode cX8_first 15 = .ok (.astore_n 1, 1) := dk_76 (dk_at dksX8_first_0 15 rfl rfl)
theorem dX8_first_16 : decode cX8_first 16 = .ok (.iconst 0, 1) := dk_3 (dk_at dksX8_first_0 16 rfl rfl)
theorem dX8_first_17 : decode cX8_first 17 = .ok (.istore_n 2, 1) := dk_61 (dk_at dksX8_first_0 17 rfl rfl)
theorem dX8_first_18 : decode cX8_first 18 = .ok (.iload_n 2, 1) := dk_28 (dk_at dksX8_first_0 18 rfl rfl)
theorem dX8_first_19 : decode cX8_first 19 = .ok (.aload_n 0, 1) := dk_42 (dk_at dksX8_first_0 19 rfl rfl)
theorem dX8_first_20 : decode cX8_first 20 = .ok (.getfield 29, 3) := dk_180 0 29 (dk_at dksX8_first_0 20 rfl rfl)
theorem dX8_first_23 : decode cX8_first 23 = .ok (.if_icmp .ge 76, 3) := dk_162 0 76 (dk_at dksX8_first_1 0 rfl rfl)
theorem dX8_first_26 : decode cX8_first 26 = .ok (.iconst 0, 1) := dk_3 (dk_at dksX8_first_1 3 rfl rfl)
theorem dX8_first_27 : decode cX8_first 27 = .ok (.istore_n 3, 1) := dk_62 (dk_at dksX8_first_1 4 rfl rfl)
theorem dX8_first_28 : decode cX8_first 28 = .ok (.iload_n 3, 1) := dk_29 (dk_at dksX8_first_1 5 rfl rfl)
theorem dX8_first_29 : decode cX8_first 29 = .ok (.aload_n 0, 1) := dk_42 (dk_at dksX8_first_1 6 rfl rfl)
theorem dX8_first_30 : decode cX8_first 30 = .ok (.getfield 29, 3) := dk_180 0 29 (dk_at dksX8_first_1 7 rfl rfl)
theorem dX8_first_33 : decode cX8_first 33 = .ok (.if_icmp .ge 60, 3) := dk_162 0 60 (dk_at dksX8_first_1 10 rfl rfl)
theorem dX8_first_36 : decode cX8_first 36 = .ok (.bipush 8, 2) := dk_16 8 (dk_at dksX8_first_1 13 rfl rfl)
theorem dX8_first_38 : decode cX8_first 38 = .ok (.iload_n 2, 1) := dk_28 (dk_at dksX8_first_1 15 rfl rfl)
theorem dX8_first_39 : decode cX8_first 39 = .ok (.imul, 1) := dk_104 (dk_at dksX8_first_1 16 rfl rfl)
theorem dX8_first_40 : decode cX8_first 40 = .ok (.iload_n 3, 1) := dk_29 (dk_at dksX8_first_1 17 rfl rfl)
theorem dX8_first_41 : decode cX8_first 41 = .ok (.iadd, 1) := dk_96 (dk_at dksX8_first_1 18 rfl rfl)
theorem dX8_first_42 : decode cX8_first 42 = .ok (.istore 4, 2) := dk_54 4 (dk_at dksX8_first_1 19 rfl rfl)
theorem dX8_first_44 : decode cX8_first 44 = .ok (.iload_n 2, 1) := dk_28 (dk_at dksX8_first_1 21 rfl rfl)
theorem dX8_first_45 : decode cX8_first 45 = .ok (.iload_n 3, 1) := dk_29 (dk_at dksX8_first_1 22 rfl rfl)
theorem dX8_first_46 : decode cX8_first 46 = .ok (.if_icmp .eq 41, 3) := dk_159 0 41 (dk_at dksX8_first_2 0 rfl rfl)
theorem dX8_first_49 : decode cX8_first 49 = .ok (.aload_n 0, 1) := dk_42 (dk_at dksX8_first_2 3 rfl rfl)
theorem dX8_first_50 : decode cX8_first 50 = .ok (.getfield 19, 3) := dk_180 0 19 (dk_at dksX8_first_2 4 rfl rfl)
theorem dX8_first_53 : decode cX8_first 53 = .ok (.iload 4, 2) := dk_21 4 (dk_at dksX8_first_2 7 rfl rfl)
theorem dX8_first_55 : decode cX8_first 55 = .ok (.laload, 1) := dk_47 (dk_at dksX8_first_2 9 rfl rfl)
theorem dX8_first_56 : decode cX8_first 56 = .ok (.lconst 0, 1) := dk_9 (dk_at dksX8_first_2 10 rfl rfl)
theorem dX8_first_57 : decode cX8_first 57 = .ok (.lcmp, 1) := dk_148 (dk_at dksX8_first_2 11 rfl rfl)
theorem dX8_first_58 : decode cX8_first 58 = .ok (.ifCond .ne 6, 3) := dk_154 0 6 (dk_at dksX8_first_2 12 rfl rfl)
theorem dX8_first_61 : decode cX8_first 61 = .ok (.goto 26, 3) := dk_167 0 26 (dk_at dksX8_first_2 15 rfl rfl)
theorem dX8_first_64 : decode cX8_first 64 = .ok (.aload_n 1, 1) := dk_43 (dk_at dksX8_first_2 18 rfl rfl)
theorem dX8_first_65 : decode cX8_first 65 = .ok (.iload 4, 2) := dk_21 4 (dk_at dksX8_first_2 19 rfl rfl)
theorem dX8_first_67 : decode cX8_first 67 = .ok (.aload_n 0, 1) := dk_42 (dk_at dksX8_first_2 21 rfl rfl)
theorem dX8_first_68 : decode cX8_first 68 = .ok (.iload_n 2, 1) := dk_28 (dk_at dksX8_first_2 22 rfl rfl)
theorem dX8_first_69 : decode cX8_first 69 = .ok (.iload_n 3, 1) := dk_29 (dk_at dksX8_first_2 23 rfl rfl)
theorem dX8_first_70 : decode cX8_first 70 = .ok (.iconst 0, 1) := dk_3 (dk_at dksX8_first_3 0 rfl rfl)
theorem dX8_first_71 : decode cX8_first 71 = .ok (.invokevirtual 61, 3) := dk_182 0 61 (dk_at dksX8_first_3 1 rfl rfl)
theorem dX8_first_74 : decode cX8_first 74 = .ok (.iastore, 1) := dk_79 (dk_at dksX8_first_3 4 rfl rfl)
theorem dX8_first_75 : decode cX8_first 75 = .ok (.aload_n 0, 1) := dk_42 (dk_at dksX8_first_3 5 rfl rfl)
theorem dX8_first_76 : decode cX8_first 76 = .ok (.getfield 19, 3) := dk_180 0 19 (dk_at dksX8_first_3 6 rfl rfl)
theorem dX8_first_79 : decode cX8_first 79 = .ok (.iload 4, 2) := dk_21 4 (dk_at dksX8_first_3 9 rfl rfl)
theorem dX8_first_81 : decode cX8_first 81 = .ok (.aload_n 1, 1) := dk_43 (dk_at dksX8_first_3 11 rfl rfl)
theorem dX8_first_82 : decode cX8_first 82 = .ok (.iload 4, 2) := dk_21 4 (dk_at dksX8_first_3 12 rfl rfl)
theorem dX8_first_84 : decode cX8_first 84 = .ok (.iaload, 1) := dk_46 (dk_at dksX8_first_3 14 rfl rfl)
theorem dX8_first_85 : decode cX8_first 85 = .ok (.i2l, 1) := dk_133 (dk_at dksX8_first_3 15 rfl rfl)
theorem dX8_first_86 : decode cX8_first 86 = .ok (.lastore, 1) := dk_80 (dk_at dksX8_first_3 16 rfl rfl)
theorem dX8_first_87 : decode cX8_first 87 = .ok (.iinc 3 1, 3) := dk_132 3 1 (dk_at dksX8_first_3 17 rfl rfl)
theorem dX8_first_90 : decode cX8_first 90 = .ok (.goto (-62), 3) := dk_167 255 194 (dk_at dksX8_first_3 20 rfl rfl)
theorem dX8_first_93 : decode cX8_first 93 = .ok (.iinc 2 1, 3) := dk_132 2 1 (dk_at dksX8_first_4 0 rfl rfl)
theorem dX8_first_96 : decode cX8_first 96 = .ok (.goto (-78), 3) := dk_167 255 178 (dk_at dksX8_first_4 3 rfl rfl)
theorem dX8_first_99 : decode cX8_first 99 = .ok (.aload_n 1, 1) := dk_43 (dk_at dksX8_first_4 6 rfl rfl)
theorem dX8_first_100 : decode cX8_first 100 = .ok (.areturn, 1) := dk_176 (dk_at dksX8_first_4 7 rfl rfl)
abbrev cX8_goes : ByteArray := prog_7_method_2_code
def yX8_goes : MethodName := ⟨RX8, "goes", "(II)Z"⟩
def dkwX8_goes_3 : List UInt8 := [182, 0, 51, 172]
abbrev dktX8_goes_3 : List UInt8 := dkwX8_goes_3 ++ []
def dkwX8_goes_2 : List UInt8 := [180, 0, 47, 42, 180, 0, 29, 42, 180, 0, 15, 42, 180, 0, 19, 42, 180, 0, 23, 42, 180, 0, 26]
abbrev dktX8_goes_2 : List UInt8 := dkwX8_goes_2 ++ dktX8_goes_3
def dkwX8_goes_1 : List UInt8 := [167, 255, 235, 27, 2, 159, 0, 14, 42, 180, 0, 23, 27, 92, 47, 28, 133, 97, 80, 42, 180, 0, 3]
abbrev dktX8_goes_1 : List UInt8 := dkwX8_goes_1 ++ dktX8_goes_2
def dkwX8_goes_0 : List UInt8 := [3, 62, 29, 42, 180, 0, 23, 190, 162, 0, 18, 42, 180, 0, 23, 29, 20, 0, 45, 80, 132, 3, 1]
abbrev dktX8_goes_0 : List UInt8 := dkwX8_goes_0 ++ dktX8_goes_1
theorem dksX8_goes_0 : cX8_goes.data.toList.drop 0 = dktX8_goes_0 := by decide +kernel
theorem dksX8_goes_1 : cX8_goes.data.toList.drop 23 = dktX8_goes_1 := dk_seg dksX8_goes_0 23 rfl rfl
theorem dksX8_goes_2 : cX8_goes.data.toList.drop 46 = dktX8_goes_2 := dk_seg dksX8_goes_1 23 rfl rfl
theorem dksX8_goes_3 : cX8_goes.data.toList.drop 69 = dktX8_goes_3 := dk_seg dksX8_goes_2 23 rfl rfl
theorem dX8_goes_0 : decode cX8_goes 0 = .ok (.iconst 0, 1) := dk_3 (dk_at dksX8_goes_0 0 rfl rfl)
theorem dX8_goes_1 : decode cX8_goes 1 = .ok (.istore_n 3, 1) := dk_62 (dk_at dksX8_goes_0 1 rfl rfl)
theorem dX8_goes_2 : decode cX8_goes 2 = .ok (.iload_n 3, 1) := dk_29 (dk_at dksX8_goes_0 2 rfl rfl)
theorem dX8_goes_3 : decode cX8_goes 3 = .ok (.aload_n 0, 1) := dk_42 (dk_at dksX8_goes_0 3 rfl rfl)
theorem dX8_goes_4 : decode cX8_goes 4 = .ok (.getfield 23, 3) := dk_180 0 23 (dk_at dksX8_goes_0 4 rfl rfl)
theorem dX8_goes_7 : decode cX8_goes 7 = .ok (.arraylength, 1) := dk_190 (dk_at dksX8_goes_0 7 rfl rfl)
theorem dX8_goes_8 : decode cX8_goes 8 = .ok (.if_icmp .ge 18, 3) := dk_162 0 18 (dk_at dksX8_goes_0 8 rfl rfl)
theorem dX8_goes_11 : decode cX8_goes 11 = .ok (.aload_n 0, 1) := dk_42 (dk_at dksX8_goes_0 11 rfl rfl)
theorem dX8_goes_12 : decode cX8_goes 12 = .ok (.getfield 23, 3) := dk_180 0 23 (dk_at dksX8_goes_0 12 rfl rfl)
theorem dX8_goes_15 : decode cX8_goes 15 = .ok (.iload_n 3, 1) := dk_29 (dk_at dksX8_goes_0 15 rfl rfl)
theorem dX8_goes_16 : decode cX8_goes 16 = .ok (.ldc2_w 45, 3) := dk_20 0 45 (dk_at dksX8_goes_0 16 rfl rfl)
theorem dX8_goes_19 : decode cX8_goes 19 = .ok (.lastore, 1) := dk_80 (dk_at dksX8_goes_0 19 rfl rfl)
theorem dX8_goes_20 : decode cX8_goes 20 = .ok (.iinc 3 1, 3) := dk_132 3 1 (dk_at dksX8_goes_0 20 rfl rfl)
theorem dX8_goes_23 : decode cX8_goes 23 = .ok (.goto (-21), 3) := dk_167 255 235 (dk_at dksX8_goes_1 0 rfl rfl)
theorem dX8_goes_26 : decode cX8_goes 26 = .ok (.iload_n 1, 1) := dk_27 (dk_at dksX8_goes_1 3 rfl rfl)
theorem dX8_goes_27 : decode cX8_goes 27 = .ok (.iconst (-1), 1) := dk_2 (dk_at dksX8_goes_1 4 rfl rfl)
theorem dX8_goes_28 : decode cX8_goes 28 = .ok (.if_icmp .eq 14, 3) := dk_159 0 14 (dk_at dksX8_goes_1 5 rfl rfl)
theorem dX8_goes_31 : decode cX8_goes 31 = .ok (.aload_n 0, 1) := dk_42 (dk_at dksX8_goes_1 8 rfl rfl)
theorem dX8_goes_32 : decode cX8_goes 32 = .ok (.getfield 23, 3) := dk_180 0 23 (dk_at dksX8_goes_1 9 rfl rfl)
theorem dX8_goes_35 : decode cX8_goes 35 = .ok (.iload_n 1, 1) := dk_27 (dk_at dksX8_goes_1 12 rfl rfl)
theorem dX8_goes_36 : decode cX8_goes 36 = .ok (.dup2, 1) := dk_92 (dk_at dksX8_goes_1 13 rfl rfl)
theorem dX8_goes_37 : decode cX8_goes 37 = .ok (.laload, 1) := dk_47 (dk_at dksX8_goes_1 14 rfl rfl)
theorem dX8_goes_38 : decode cX8_goes 38 = .ok (.iload_n 2, 1) := dk_28 (dk_at dksX8_goes_1 15 rfl rfl)
theorem dX8_goes_39 : decode cX8_goes 39 = .ok (.i2l, 1) := dk_133 (dk_at dksX8_goes_1 16 rfl rfl)
theorem dX8_goes_40 : decode cX8_goes 40 = .ok (.ladd, 1) := dk_97 (dk_at dksX8_goes_1 17 rfl rfl)
theorem dX8_goes_41 : decode cX8_goes 41 = .ok (.lastore, 1) := dk_80 (dk_at dksX8_goes_1 18 rfl rfl)
theorem dX8_goes_42 : decode cX8_goes 42 = .ok (.aload_n 0, 1) := dk_42 (dk_at dksX8_goes_1 19 rfl rfl)
theorem dX8_goes_43 : decode cX8_goes 43 = .ok (.getfield 3, 3) := dk_180 0 3 (dk_at dksX8_goes_1 20 rfl rfl)
theorem dX8_goes_46 : decode cX8_goes 46 = .ok (.getfield 47, 3) := dk_180 0 47 (dk_at dksX8_goes_2 0 rfl rfl)
theorem dX8_goes_49 : decode cX8_goes 49 = .ok (.aload_n 0, 1) := dk_42 (dk_at dksX8_goes_2 3 rfl rfl)
theorem dX8_goes_50 : decode cX8_goes 50 = .ok (.getfield 29, 3) := dk_180 0 29 (dk_at dksX8_goes_2 4 rfl rfl)
theorem dX8_goes_53 : decode cX8_goes 53 = .ok (.aload_n 0, 1) := dk_42 (dk_at dksX8_goes_2 7 rfl rfl)
theorem dX8_goes_54 : decode cX8_goes 54 = .ok (.getfield 15, 3) := dk_180 0 15 (dk_at dksX8_goes_2 8 rfl rfl)
theorem dX8_goes_57 : decode cX8_goes 57 = .ok (.aload_n 0, 1) := dk_42 (dk_at dksX8_goes_2 11 rfl rfl)
theorem dX8_goes_58 : decode cX8_goes 58 = .ok (.getfield 19, 3) := dk_180 0 19 (dk_at dksX8_goes_2 12 rfl rfl)
theorem dX8_goes_61 : decode cX8_goes 61 = .ok (.aload_n 0, 1) := dk_42 (dk_at dksX8_goes_2 15 rfl rfl)
theorem dX8_goes_62 : decode cX8_goes 62 = .ok (.getfield 23, 3) := dk_180 0 23 (dk_at dksX8_goes_2 16 rfl rfl)
theorem dX8_goes_65 : decode cX8_goes 65 = .ok (.aload_n 0, 1) := dk_42 (dk_at dksX8_goes_2 19 rfl rfl)
theorem dX8_goes_66 : decode cX8_goes 66 = .ok (.getfield 26, 3) := dk_180 0 26 (dk_at dksX8_goes_2 20 rfl rfl)
theorem dX8_goes_69 : decode cX8_goes 69 = .ok (.invokevirtual 51, 3) := dk_182 0 51 (dk_at dksX8_goes_3 0 rfl rfl)
theorem dX8_goes_72 : decode cX8_goes 72 = .ok (.ireturn, 1) := dk_172 (dk_at dksX8_goes_3 3 rfl rfl)
abbrev cX8_span : ByteArray := prog_7_method_4_code
def yX8_span : MethodName := ⟨RX8, "span", "(IIZ)I"⟩
def dkwX8_span_1 : List UInt8 := [180, 0, 3, 180, 0, 47, 27, 28, 182, 0, 60, 167, 0, 4, 2, 172]
abbrev dktX8_span_1 : List UInt8 := dkwX8_span_1 ++ []
def dkwX8_span_0 : List UInt8 := [42, 16, 8, 27, 104, 28, 96, 29, 153, 0, 7, 2, 167, 0, 4, 4, 182, 0, 57, 153, 0, 18, 42]
abbrev dktX8_span_0 : List UInt8 := dkwX8_span_0 ++ dktX8_span_1
theorem dksX8_span_0 : cX8_span.data.toList.drop 0 = dktX8_span_0 := by decide +kernel
theorem dksX8_span_1 : cX8_span.data.toList.drop 23 = dktX8_span_1 := dk_seg dksX8_span_0 23 rfl rfl
theorem dX8_span_0 : decode cX8_span 0 = .ok (.aload_n 0, 1) := dk_42 (dk_at dksX8_span_0 0 rfl rfl)
theorem dX8_span_1 : decode cX8_span 1 = .ok (.bipush 8, 2) := dk_16 8 (dk_at dksX8_span_0 1 rfl rfl)
theorem dX8_span_3 : decode cX8_span 3 = .ok (.iload_n 1, 1) := dk_27 (dk_at dksX8_span_0 3 rfl rfl)
theorem dX8_span_4 : decode cX8_span 4 = .ok (.imul, 1) := dk_104 (dk_at dksX8_span_0 4 rfl rfl)
theorem dX8_span_5 : decode cX8_span 5 = .ok (.iload_n 2, 1) := dk_28 (dk_at dksX8_span_0 5 rfl rfl)
theorem dX8_span_6 : decode cX8_span 6 = .ok (.iadd, 1) := dk_96 (dk_at dksX8_span_0 6 rfl rfl)
theorem dX8_span_7 : decode cX8_span 7 = .ok (.iload_n 3, 1) := dk_29 (dk_at dksX8_span_0 7 rfl rfl)
theorem dX8_span_8 : decode cX8_span 8 = .ok (.ifCond .eq 7, 3) := dk_153 0 7 (dk_at dksX8_span_0 8 rfl rfl)
theorem dX8_span_11 : decode cX8_span 11 = .ok (.iconst (-1), 1) := dk_2 (dk_at dksX8_span_0 11 rfl rfl)
theorem dX8_span_12 : decode cX8_span 12 = .ok (.goto 4, 3) := dk_167 0 4 (dk_at dksX8_span_0 12 rfl rfl)
theorem dX8_span_15 : decode cX8_span 15 = .ok (.iconst 1, 1) := dk_4 (dk_at dksX8_span_0 15 rfl rfl)
theorem dX8_span_16 : decode cX8_span 16 = .ok (.invokevirtual 57, 3) := dk_182 0 57 (dk_at dksX8_span_0 16 rfl rfl)
theorem dX8_span_19 : decode cX8_span 19 = .ok (.ifCond .eq 18, 3) := dk_153 0 18 (dk_at dksX8_span_0 19 rfl rfl)
theorem dX8_span_22 : decode cX8_span 22 = .ok (.aload_n 0, 1) := dk_42 (dk_at dksX8_span_0 22 rfl rfl)
theorem dX8_span_23 : decode cX8_span 23 = .ok (.getfield 3, 3) := dk_180 0 3 (dk_at dksX8_span_1 0 rfl rfl)
theorem dX8_span_26 : decode cX8_span 26 = .ok (.getfield 47, 3) := dk_180 0 47 (dk_at dksX8_span_1 3 rfl rfl)
theorem dX8_span_29 : decode cX8_span 29 = .ok (.iload_n 1, 1) := dk_27 (dk_at dksX8_span_1 6 rfl rfl)
theorem dX8_span_30 : decode cX8_span 30 = .ok (.iload_n 2, 1) := dk_28 (dk_at dksX8_span_1 7 rfl rfl)
theorem dX8_span_31 : decode cX8_span 31 = .ok (.invokevirtual 60, 3) := dk_182 0 60 (dk_at dksX8_span_1 8 rfl rfl)
theorem dX8_span_34 : decode cX8_span 34 = .ok (.goto 4, 3) := dk_167 0 4 (dk_at dksX8_span_1 11 rfl rfl)
theorem dX8_span_37 : decode cX8_span 37 = .ok (.iconst (-1), 1) := dk_2 (dk_at dksX8_span_1 14 rfl rfl)
theorem dX8_span_38 : decode cX8_span 38 = .ok (.ireturn, 1) := dk_172 (dk_at dksX8_span_1 15 rfl rfl)
abbrev cX8_least : ByteArray := prog_7_method_3_code
def yX8_least : MethodName := ⟨RX8, "least", "()I"⟩
def dkwX8_least_2 : List UInt8 := [180, 0, 47, 28, 29, 182, 0, 60, 96, 60, 132, 3, 1, 167, 255, 221, 132, 2, 1, 167, 255, 205, 27, 172]
abbrev dktX8_least_2 : List UInt8 := dkwX8_least_2 ++ []
def dkwX8_least_1 : List UInt8 := [62, 29, 42, 180, 0, 29, 162, 0, 33, 27, 28, 29, 160, 0, 7, 3, 167, 0, 15, 42, 180, 0, 3]
abbrev dktX8_least_1 : List UInt8 := dkwX8_least_1 ++ dktX8_least_2
def dkwX8_least_0 : List UInt8 := [42, 2, 3, 182, 0, 57, 154, 0, 5, 2, 172, 3, 60, 3, 61, 28, 42, 180, 0, 29, 162, 0, 49, 3]
abbrev dktX8_least_0 : List UInt8 := dkwX8_least_0 ++ dktX8_least_1
theorem dksX8_least_0 : cX8_least.data.toList.drop 0 = dktX8_least_0 := by decide +kernel
theorem dksX8_least_1 : cX8_least.data.toList.drop 24 = dktX8_least_1 := dk_seg dksX8_least_0 24 rfl rfl
theorem dksX8_least_2 : cX8_least.data.toList.drop 47 = dktX8_least_2 := dk_seg dksX8_least_1 23 rfl rfl
theorem dX8_least_0 : decode cX8_least 0 = .ok (.aload_n 0, 1) := dk_42 (dk_at dksX8_least_0 0 rfl rfl)
theorem dX8_least_1 : decode cX8_least 1 = .ok (.iconst (-1), 1) := dk_2 (dk_at dksX8_least_0 1 rfl rfl)
theorem dX8_least_2 : decode cX8_least 2 = .ok (.iconst 0, 1) := dk_3 (dk_at dksX8_least_0 2 rfl rfl)
theorem dX8_least_3 : decode cX8_least 3 = .ok (.invokevirtual 57, 3) := dk_182 0 57 (dk_at dksX8_least_0 3 rfl rfl)
theorem dX8_least_6 : decode cX8_least 6 = .ok (.ifCond .ne 5, 3) := dk_154 0 5 (dk_at dksX8_least_0 6 rfl rfl)
theorem dX8_least_9 : decode cX8_least 9 = .ok (.iconst (-1), 1) := dk_2 (dk_at dksX8_least_0 9 rfl rfl)
theorem dX8_least_10 : decode cX8_least 10 = .ok (.ireturn, 1) := dk_172 (dk_at dksX8_least_0 10 rfl rfl)
theorem dX8_least_11 : decode cX8_least 11 = .ok (.iconst 0, 1) := dk_3 (dk_at dksX8_least_0 11 rfl rfl)
theorem dX8_least_12 : decode cX8_least 12 = .ok (.istore_n 1, 1) := dk_60 (dk_at dksX8_least_0 12 rfl rfl)
theorem dX8_least_13 : decode cX8_least 13 = .ok (.iconst 0, 1) := dk_3 (dk_at dksX8_least_0 13 rfl rfl)
theorem dX8_least_14 : decode cX8_least 14 = .ok (.istore_n 2, 1) := dk_61 (dk_at dksX8_least_0 14 rfl rfl)
theorem dX8_least_15 : decode cX8_least 15 = .ok (.iload_n 2, 1) := dk_28 (dk_at dksX8_least_0 15 rfl rfl)
theorem dX8_least_16 : decode cX8_least 16 = .ok (.aload_n 0, 1) := dk_42 (dk_at dksX8_least_0 16 rfl rfl)
theorem dX8_least_17 : decode cX8_least 17 = .ok (.getfield 29, 3) := dk_180 0 29 (dk_at dksX8_least_0 17 rfl rfl)
theorem dX8_least_20 : decode cX8_least 20 = .ok (.if_icmp .ge 49, 3) := dk_162 0 49 (dk_at dksX8_least_0 20 rfl rfl)
theorem dX8_least_23 : decode cX8_least 23 = .ok (.iconst 0, 1) := dk_3 (dk_at dksX8_least_0 23 rfl rfl)
theorem dX8_least_24 : decode cX8_least 24 = .ok (.istore_n 3, 1) := dk_62 (dk_at dksX8_least_1 0 rfl rfl)
theorem dX8_least_25 : decode cX8_least 25 = .ok (.iload_n 3, 1) := dk_29 (dk_at dksX8_least_1 1 rfl rfl)
theorem dX8_least_26 : decode cX8_least 26 = .ok (.aload_n 0, 1) := dk_42 (dk_at dksX8_least_1 2 rfl rfl)
theorem dX8_least_27 : decode cX8_least 27 = .ok (.getfield 29, 3) := dk_180 0 29 (dk_at dksX8_least_1 3 rfl rfl)
theorem dX8_least_30 : decode cX8_least 30 = .ok (.if_icmp .ge 33, 3) := dk_162 0 33 (dk_at dksX8_least_1 6 rfl rfl)
theorem dX8_least_33 : decode cX8_least 33 = .ok (.iload_n 1, 1) := dk_27 (dk_at dksX8_least_1 9 rfl rfl)
theorem dX8_least_34 : decode cX8_least 34 = .ok (.iload_n 2, 1) := dk_28 (dk_at dksX8_least_1 10 rfl rfl)
theorem dX8_least_35 : decode cX8_least 35 = .ok (.iload_n 3, 1) := dk_29 (dk_at dksX8_least_1 11 rfl rfl)
theorem dX8_least_36 : decode cX8_least 36 = .ok (.if_icmp .ne 7, 3) := dk_160 0 7 (dk_at dksX8_least_1 12 rfl rfl)
theorem dX8_least_39 : decode cX8_least 39 = .ok (.iconst 0, 1) := dk_3 (dk_at dksX8_least_1 15 rfl rfl)
theorem dX8_least_40 : decode cX8_least 40 = .ok (.goto 15, 3) := dk_167 0 15 (dk_at dksX8_least_1 16 rfl rfl)
theorem dX8_least_43 : decode cX8_least 43 = .ok (.aload_n 0, 1) := dk_42 (dk_at dksX8_least_1 19 rfl rfl)
theorem dX8_least_44 : decode cX8_least 44 = .ok (.getfield 3, 3) := dk_180 0 3 (dk_at dksX8_least_1 20 rfl rfl)
theorem dX8_least_47 : decode cX8_least 47 = .ok (.getfield 47, 3) := dk_180 0 47 (dk_at dksX8_least_2 0 rfl rfl)
theorem dX8_least_50 : decode cX8_least 50 = .ok (.iload_n 2, 1) := dk_28 (dk_at dksX8_least_2 3 rfl rfl)
theorem dX8_least_51 : decode cX8_least 51 = .ok (.iload_n 3, 1) := dk_29 (dk_at dksX8_least_2 4 rfl rfl)
theorem dX8_least_52 : decode cX8_least 52 = .ok (.invokevirtual 60, 3) := dk_182 0 60 (dk_at dksX8_least_2 5 rfl rfl)
theorem dX8_least_55 : decode cX8_least 55 = .ok (.iadd, 1) := dk_96 (dk_at dksX8_least_2 8 rfl rfl)
theorem dX8_least_56 : decode cX8_least 56 = .ok (.istore_n 1, 1) := dk_60 (dk_at dksX8_least_2 9 rfl rfl)
theorem dX8_least_57 : decode cX8_least 57 = .ok (.iinc 3 1, 3) := dk_132 3 1 (dk_at dksX8_least_2 10 rfl rfl)
theorem dX8_least_60 : decode cX8_least 60 = .ok (.goto (-35), 3) := dk_167 255 221 (dk_at dksX8_least_2 13 rfl rfl)
theorem dX8_least_63 : decode cX8_least 63 = .ok (.iinc 2 1, 3) := dk_132 2 1 (dk_at dksX8_least_2 16 rfl rfl)
theorem dX8_least_66 : decode cX8_least 66 = .ok (.goto (-51), 3) := dk_167 255 205 (dk_at dksX8_least_2 19 rfl rfl)
theorem dX8_least_69 : decode cX8_least 69 = .ok (.iload_n 1, 1) := dk_27 (dk_at dksX8_least_2 22 rfl rfl)
theorem dX8_least_70 : decode cX8_least 70 = .ok (.ireturn, 1) := dk_172 (dk_at dksX8_least_2 23 rfl rfl)
theorem q125 : (Jvm.Cond.initialized "SwapPress$Press") ∈ lw_all := lw_g (lw_at lw_m1 25 rfl) rfl
theorem q237 : (Jvm.Cond.fieldLinkNest "SwapPress$Press" (47 : Nat) "SwapPress" "ways" "LSwapPress$Ways;" "SwapPress") ∈ lw_tbl := lw_at lw_m1 137 rfl
theorem q706 : (Jvm.Cond.selects "SwapPress$Press" ({ cls := "java/lang/Object", name := "equals", desc := "(Ljava/lang/Object;)Z" } : Jvm.MethodName) ({ cls := "java/lang/Object", name := "equals", desc := "(Ljava/lang/Object;)Z" } : Jvm.MethodName)) ∈ lw_all := lw_g (lw_at lw_m3 126 rfl) rfl
theorem q746 : (Jvm.Cond.selects "SwapPress$Press" ({ cls := "java/lang/Object", name := "getClass", desc := "()Ljava/lang/Class;" } : Jvm.MethodName) ({ cls := "java/lang/Object", name := "getClass", desc := "()Ljava/lang/Class;" } : Jvm.MethodName)) ∈ lw_all := lw_g (lw_at lw_m3 166 rfl) rfl
theorem q1025 : (Jvm.Cond.instantiable "SwapPress$Press" (6 : Nat)) ∈ lw_all := lw_g (lw_at lw_m4 205 rfl) rfl
theorem q1060 : (Jvm.Cond.instanceMethod ({ cls := "SwapPress$Press", name := "<init>", desc := "(LSwapPress;I[ILSwapPress$Bounds;Z)V" } : Jvm.MethodName)) ∈ lw_all := lw_g (lw_at lw_m5 0 rfl) rfl
theorem q1061 : (Jvm.Cond.code ({ cls := "SwapPress$Press", name := "<init>", desc := "(LSwapPress;I[ILSwapPress$Bounds;Z)V" } : Jvm.MethodName) prog_7_method_1_code (8 : Nat) (Option.none : Option Jvm.ClassFile.FieldType)) ∈ lw_all := lw_g (lw_at lw_m5 1 rfl) rfl
theorem q1062 : (Jvm.Cond.methodLink "SwapPress$Press" (9 : Nat) ({ cls := "java/lang/Object", name := "<init>", desc := "()V" } : Jvm.MethodName)) ∈ lw_all := lw_g (lw_at lw_m5 2 rfl) rfl
theorem q1063 : (Jvm.Cond.methodLinkNest "SwapPress$Press" (33 : Nat) ({ cls := "SwapPress", name := "throughOf", desc := "(I[II)I" } : Jvm.MethodName) "SwapPress") ∈ lw_tbl := lw_at lw_m5 3 rfl
theorem q1066 : (Jvm.Cond.constantLong "SwapPress$Press" (37 : Nat) (2305843009213693951 : Int64)) ∈ lw_all := lw_g (lw_at lw_m5 6 rfl) rfl
theorem q1067 : (Jvm.Cond.interfaceEntry "SwapPress$Press" (39 : Nat)) ∈ lw_tbl := lw_at lw_m5 7 rfl
theorem q1068 : (Jvm.Cond.methodLink "SwapPress$Press" (39 : Nat) ({ cls := "SwapPress$Bounds", name := "of", desc := "(II)I" } : Jvm.MethodName)) ∈ lw_all := lw_g (lw_at lw_m5 8 rfl) rfl
theorem q1097 : (Jvm.Cond.fieldLink "SwapPress$Press" (29 : Nat) "SwapPress$Press" "n" "I") ∈ lw_all := lw_g (lw_at lw_m5 37 rfl) rfl
theorem q1098 : (Jvm.Cond.fieldLink "SwapPress$Press" (15 : Nat) "SwapPress$Press" "nets" "[I") ∈ lw_all := lw_g (lw_at lw_m5 38 rfl) rfl
theorem q1099 : (Jvm.Cond.fieldLink "SwapPress$Press" (19 : Nat) "SwapPress$Press" "bound" "[J") ∈ lw_all := lw_g (lw_at lw_m5 39 rfl) rfl
theorem q1100 : (Jvm.Cond.fieldLink "SwapPress$Press" (23 : Nat) "SwapPress$Press" "costs" "[J") ∈ lw_all := lw_g (lw_at lw_m5 40 rfl) rfl
theorem q1101 : (Jvm.Cond.fieldLink "SwapPress$Press" (26 : Nat) "SwapPress$Press" "through" "[J") ∈ lw_all := lw_g (lw_at lw_m5 41 rfl) rfl
theorem q1102 : (Jvm.Cond.fieldLink "SwapPress$Press" (3 : Nat) "SwapPress$Press" "this$0" "LSwapPress;") ∈ lw_all := lw_g (lw_at lw_m5 42 rfl) rfl
theorem q1103 : (Jvm.Cond.laysFinal "SwapPress$Press" "SwapPress$Press" "n" "I") ∈ lw_all := lw_g (lw_at lw_m5 43 rfl) rfl
theorem q1104 : (Jvm.Cond.soleField "SwapPress$Press" "n") ∈ lw_all := lw_g (lw_at lw_m5 44 rfl) rfl
theorem q1105 : (Jvm.Cond.laysFinal "SwapPress$Press" "SwapPress$Press" "nets" "[I") ∈ lw_all := lw_g (lw_at lw_m5 45 rfl) rfl
theorem q1106 : (Jvm.Cond.soleField "SwapPress$Press" "nets") ∈ lw_all := lw_g (lw_at lw_m5 46 rfl) rfl
theorem q1107 : (Jvm.Cond.laysFinal "SwapPress$Press" "SwapPress$Press" "bound" "[J") ∈ lw_all := lw_g (lw_at lw_m5 47 rfl) rfl
theorem q1108 : (Jvm.Cond.soleField "SwapPress$Press" "bound") ∈ lw_all := lw_g (lw_at lw_m5 48 rfl) rfl
theorem q1109 : (Jvm.Cond.laysFinal "SwapPress$Press" "SwapPress$Press" "costs" "[J") ∈ lw_all := lw_g (lw_at lw_m5 49 rfl) rfl
theorem q1110 : (Jvm.Cond.soleField "SwapPress$Press" "costs") ∈ lw_all := lw_g (lw_at lw_m5 50 rfl) rfl
theorem q1111 : (Jvm.Cond.laysFinal "SwapPress$Press" "SwapPress$Press" "through" "[J") ∈ lw_all := lw_g (lw_at lw_m5 51 rfl) rfl
theorem q1112 : (Jvm.Cond.soleField "SwapPress$Press" "through") ∈ lw_all := lw_g (lw_at lw_m5 52 rfl) rfl
theorem q1113 : (Jvm.Cond.laysFinal "SwapPress$Press" "SwapPress$Press" "this$0" "LSwapPress;") ∈ lw_all := lw_g (lw_at lw_m5 53 rfl) rfl
theorem q1114 : (Jvm.Cond.soleField "SwapPress$Press" "this$0") ∈ lw_all := lw_g (lw_at lw_m5 54 rfl) rfl
theorem q1115 : (Jvm.Cond.superclass "SwapPress$Press" "java/lang/Object") ∈ lw_all := lw_g (lw_at lw_m5 55 rfl) rfl
theorem q1117 : (Jvm.Cond.instanceMethod ({ cls := "SwapPress$Press", name := "first", desc := "()[I" } : Jvm.MethodName)) ∈ lw_all := lw_g (lw_at lw_m5 57 rfl) rfl
theorem q1118 : (Jvm.Cond.selects "SwapPress$Press" ({ cls := "SwapPress$Press", name := "first", desc := "()[I" } : Jvm.MethodName) ({ cls := "SwapPress$Press", name := "first", desc := "()[I" } : Jvm.MethodName)) ∈ lw_all := lw_g (lw_at lw_m5 58 rfl) rfl
theorem q1119 : (Jvm.Cond.code ({ cls := "SwapPress$Press", name := "first", desc := "()[I" } : Jvm.MethodName) prog_7_method_5_code (5 : Nat) (Option.some (Jvm.ClassFile.FieldType.array Jvm.ClassFile.FieldType.int))) ∈ lw_all := lw_g (lw_at lw_m5 59 rfl) rfl
theorem q1120 : (Jvm.Cond.methodLink "SwapPress$Press" (57 : Nat) ({ cls := "SwapPress$Press", name := "goes", desc := "(II)Z" } : Jvm.MethodName)) ∈ lw_all := lw_g (lw_at lw_m5 60 rfl) rfl
theorem q1121 : (Jvm.Cond.instanceMethod ({ cls := "SwapPress$Press", name := "goes", desc := "(II)Z" } : Jvm.MethodName)) ∈ lw_all := lw_g (lw_at lw_m5 61 rfl) rfl
theorem q1122 : (Jvm.Cond.selects "SwapPress$Press" ({ cls := "SwapPress$Press", name := "goes", desc := "(II)Z" } : Jvm.MethodName) ({ cls := "SwapPress$Press", name := "goes", desc := "(II)Z" } : Jvm.MethodName)) ∈ lw_all := lw_g (lw_at lw_m5 62 rfl) rfl
theorem q1123 : (Jvm.Cond.code ({ cls := "SwapPress$Press", name := "goes", desc := "(II)Z" } : Jvm.MethodName) prog_7_method_2_code (4 : Nat) (Option.some Jvm.ClassFile.FieldType.boolean)) ∈ lw_all := lw_g (lw_at lw_m5 63 rfl) rfl
theorem q1124 : (Jvm.Cond.constantLong "SwapPress$Press" (45 : Nat) (100000000 : Int64)) ∈ lw_all := lw_g (lw_at lw_m5 64 rfl) rfl
theorem q1125 : (Jvm.Cond.methodLink "SwapPress$Press" (51 : Nat) ({ cls := "SwapPress$Ways", name := "goes", desc := "(I[I[J[J[J)Z" } : Jvm.MethodName)) ∈ lw_all := lw_g (lw_at lw_m5 65 rfl) rfl
theorem q1142 : (Jvm.Cond.methodLink "SwapPress$Press" (61 : Nat) ({ cls := "SwapPress$Press", name := "span", desc := "(IIZ)I" } : Jvm.MethodName)) ∈ lw_all := lw_g (lw_at lw_m5 82 rfl) rfl
theorem q1143 : (Jvm.Cond.instanceMethod ({ cls := "SwapPress$Press", name := "span", desc := "(IIZ)I" } : Jvm.MethodName)) ∈ lw_all := lw_g (lw_at lw_m5 83 rfl) rfl
theorem q1144 : (Jvm.Cond.selects "SwapPress$Press" ({ cls := "SwapPress$Press", name := "span", desc := "(IIZ)I" } : Jvm.MethodName) ({ cls := "SwapPress$Press", name := "span", desc := "(IIZ)I" } : Jvm.MethodName)) ∈ lw_all := lw_g (lw_at lw_m5 84 rfl) rfl
theorem q1145 : (Jvm.Cond.code ({ cls := "SwapPress$Press", name := "span", desc := "(IIZ)I" } : Jvm.MethodName) prog_7_method_4_code (4 : Nat) (Option.some Jvm.ClassFile.FieldType.int)) ∈ lw_all := lw_g (lw_at lw_m5 85 rfl) rfl
theorem q1146 : (Jvm.Cond.methodLink "SwapPress$Press" (60 : Nat) ({ cls := "SwapPress$Ways", name := "of", desc := "(II)I" } : Jvm.MethodName)) ∈ lw_all := lw_g (lw_at lw_m5 86 rfl) rfl
theorem q1272 : (Jvm.Cond.instanceMethod ({ cls := "SwapPress$Press", name := "least", desc := "()I" } : Jvm.MethodName)) ∈ lw_all := lw_g (lw_at lw_m5 212 rfl) rfl
theorem q1273 : (Jvm.Cond.selects "SwapPress$Press" ({ cls := "SwapPress$Press", name := "least", desc := "()I" } : Jvm.MethodName) ({ cls := "SwapPress$Press", name := "least", desc := "()I" } : Jvm.MethodName)) ∈ lw_all := lw_g (lw_at lw_m5 213 rfl) rfl
theorem q1274 : (Jvm.Cond.code ({ cls := "SwapPress$Press", name := "least", desc := "()I" } : Jvm.MethodName) prog_7_method_3_code (4 : Nat) (Option.some Jvm.ClassFile.FieldType.int)) ∈ lw_all := lw_g (lw_at lw_m5 214 rfl) rfl
theorem q2050 : (Jvm.Cond.castable "SwapPress$Press" "java/lang/Object") ∈ lw_tbl := lw_at lw_m9 30 rfl
theorem in_X8 : ∀ w ∈ wsX80, w ∈ lw_all := lw_in wsX80 [1103, 1105, 1107, 1109, 1111, 1113] (by decide +kernel) (by decide +kernel)
