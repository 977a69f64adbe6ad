/-! SwapPressModel -/
set_option maxRecDepth 100000
abbrev cX3_init : ByteArray := prog_15_method_3_code
def yX3_init : MethodName := ⟨RX3, "<init>", "()V"⟩
def dkwX3_init_7 : List UInt8 := [42, 182, 0, 77, 177]
abbrev dktX3_init_7 : List UInt8 := dkwX3_init_7 ++ []
def dkwX3_init_6 : List UInt8 := [16, 16, 188, 10, 181, 0, 68, 42, 17, 1, 0, 188, 10, 181, 0, 71, 42, 16, 48, 188, 10, 181, 0, 74]
abbrev dktX3_init_6 : List UInt8 := dkwX3_init_6 ++ dktX3_init_7
def dkwX3_init_5 : List UInt8 := [16, 8, 188, 10, 181, 0, 58, 42, 16, 64, 188, 4, 181, 0, 61, 42, 16, 16, 188, 10, 181, 0, 65, 42]
abbrev dktX3_init_5 : List UInt8 := dkwX3_init_5 ++ dktX3_init_6
def dkwX3_init_4 : List UInt8 := [16, 64, 188, 10, 181, 0, 49, 42, 16, 8, 188, 10, 181, 0, 52, 42, 16, 8, 188, 10, 181, 0, 55, 42]
abbrev dktX3_init_4 : List UInt8 := dkwX3_init_4 ++ dktX3_init_5
def dkwX3_init_3 : List UInt8 := [16, 8, 188, 10, 181, 0, 40, 42, 16, 8, 188, 10, 181, 0, 43, 42, 16, 64, 188, 10, 181, 0, 46, 42]
abbrev dktX3_init_3 : List UInt8 := dkwX3_init_3 ++ dktX3_init_4
def dkwX3_init_2 : List UInt8 := [42, 17, 3, 132, 188, 8, 181, 0, 30, 42, 2, 181, 0, 34, 42, 16, 64, 188, 10, 181, 0, 37, 42]
abbrev dktX3_init_2 : List UInt8 := dkwX3_init_2 ++ dktX3_init_3
def dkwX3_init_1 : List UInt8 := [17, 10, 100, 188, 10, 181, 0, 20, 42, 16, 12, 188, 11, 181, 0, 23, 42, 16, 12, 188, 11, 181, 0, 27]
abbrev dktX3_init_1 : List UInt8 := dkwX3_init_1 ++ dktX3_init_2
def dkwX3_init_0 : List UInt8 := [42, 183, 0, 7, 42, 17, 1, 10, 188, 10, 181, 0, 13, 42, 17, 1, 10, 188, 10, 181, 0, 17, 42]
abbrev dktX3_init_0 : List UInt8 := dkwX3_init_0 ++ dktX3_init_1
theorem dksX3_init_0 : cX3_init.data.toList.drop 0 = dktX3_init_0 := by decide +kernel
theorem dksX3_init_1 : cX3_init.data.toList.drop 23 = dktX3_init_1 := dk_seg dksX3_init_0 23 rfl rfl
theorem dksX3_init_2 : cX3_init.data.toList.drop 47 = dktX3_init_2 := dk_seg dksX3_init_1 24 rfl rfl
theorem dksX3_init_3 : cX3_init.data.toList.drop 70 = dktX3_init_3 := dk_seg dksX3_init_2 23 rfl rfl
theorem dksX3_init_4 : cX3_init.data.toList.drop 94 = dktX3_init_4 := dk_seg dksX3_init_3 24 rfl rfl
theorem dksX3_init_5 : cX3_init.data.toList.drop 118 = dktX3_init_5 := dk_seg dksX3_init_4 24 rfl rfl
theorem dksX3_init_6 : cX3_init.data.toList.drop 142 = dktX3_init_6 := dk_seg dksX3_init_5 24 rfl rfl
theorem dksX3_init_7 : cX3_init.data.toList.drop 166 = dktX3_init_7 := dk_seg dksX3_init_6 24 rfl rfl
theorem dX3_init_0 : decode cX3_init 0 = .ok (.aload_n 0, 1) := dk_42 (dk_at dksX3_init_0 0 rfl rfl)
theorem dX3_init_1 : decode cX3_init 1 = .ok (.invokespecial 7, 3) := dk_183 0 7 (dk_at dksX3_init_0 1 rfl rfl)
theorem dX3_init_4 : decode cX3_init 4 = .ok (.aload_n 0, 1) := dk_42 (dk_at dksX3_init_0 4 rfl rfl)
theorem dX3_init_5 : decode cX3_init 5 = .ok (.sipush 266, 3) := dk_17 1 10 (dk_at dksX3_init_0 5 rfl rfl)
theorem dX3_init_8 : decode cX3_init 8 = .ok (.newarray .int, 2) := dk_188_10 (dk_at dksX3_init_0 8 rfl rfl)
theorem dX3_init_10 : decode cX3_init 10 = .ok (.putfield 13, 3) := dk_181 0 13 (dk_at dksX3_init_0 10 rfl rfl)
theorem dX3_init_13 : decode cX3_init 13 = .ok (.aload_n 0, 1) := dk_42 (dk_at dksX3_init_0 13 rfl rfl)
theorem dX3_init_14 : decode cX3_init 14 = .ok (.sipush 266, 3) := dk_17 1 10 (dk_at dksX3_init_0 14 rfl rfl)
theorem dX3_init_17 : decode cX3_init 17 = .ok (.newarray .int, 2) := dk_188_10 (dk_at dksX3_init_0 17 rfl rfl)
theorem dX3_init_19 : decode cX3_init 19 = .ok (.putfield 17, 3) := dk_181 0 17 (dk_at dksX3_init_0 19 rfl rfl)
theorem dX3_init_22 : decode cX3_init 22 = .ok (.aload_n 0, 1) := dk_42 (dk_at dksX3_init_0 22 rfl rfl)
theorem dX3_init_23 : decode cX3_init 23 = .ok (.sipush 2660, 3) := dk_17 10 100 (dk_at dksX3_init_1 0 rfl rfl)
theorem dX3_init_26 : decode cX3_init 26 = .ok (.newarray .int, 2) := dk_188_10 (dk_at dksX3_init_1 3 rfl rfl)
theorem dX3_init_28 : decode cX3_init 28 = .ok (.putfield 20, 3) := dk_181 0 20 (dk_at dksX3_init_1 5 rfl rfl)
theorem dX3_init_31 : decode cX3_init 31 = .ok (.aload_n 0, 1) := dk_42 (dk_at dksX3_init_1 8 rfl rfl)
theorem dX3_init_32 : decode cX3_init 32 = .ok (.bipush 12, 2) := dk_16 12 (dk_at dksX3_init_1 9 rfl rfl)
theorem dX3_init_34 : decode cX3_init 34 = .ok (.newarray .long, 2) := dk_188_11 (dk_at dksX3_init_1 11 rfl rfl)
theorem dX3_init_36 : decode cX3_init 36 = .ok (.putfield 23, 3) := dk_181 0 23 (dk_at dksX3_init_1 13 rfl rfl)
theorem dX3_init_39 : decode cX3_init 39 = .ok (.aload_n 0, 1) := dk_42 (dk_at dksX3_init_1 16 rfl rfl)
theorem dX3_init_40 : decode cX3_init 40 = .ok (.bipush 12, 2) := dk_16 12 (dk_at dksX3_init_1 17 rfl rfl)
theorem dX3_init_42 : decode cX3_init 42 = .ok (.newarray .long, 2) := dk_188_11 (dk_at dksX3_init_1 19 rfl rfl)
theorem dX3_init_44 : decode cX3_init 44 = .ok (.putfield 27, 3) := dk_181 0 27 (dk_at dksX3_init_1 21 rfl rfl)
theorem dX3_init_47 : decode cX3_init 47 = .ok (.aload_n 0, 1) := dk_42 (dk_at dksX3_init_2 0 rfl rfl)
theorem dX3_init_48 : decode cX3_init 48 = .ok (.sipush 900, 3) := dk_17 3 132 (dk_at dksX3_init_2 1 rfl rfl)
theorem dX3_init_51 : decode cX3_init 51 = .ok (.newarray .byte, 2) := dk_188_8 (dk_at dksX3_init_2 4 rfl rfl)
theorem dX3_init_53 : decode cX3_init 53 = .ok (.putfield 30, 3) := dk_181 0 30 (dk_at dksX3_init_2 6 rfl rfl)
theorem dX3_init_56 : decode cX3_init 56 = .ok (.aload_n 0, 1) := dk_42 (dk_at dksX3_init_2 9 rfl rfl)
theorem dX3_init_57 : decode cX3_init 57 = .ok (.iconst (-1), 1) := dk_2 (dk_at dksX3_init_2 10 rfl rfl)
theorem dX3_init_58 : decode cX3_init 58 = .ok (.putfield 34, 3) := dk_181 0 34 (dk_at dksX3_init_2 11 rfl rfl)
theorem dX3_init_61 : decode cX3_init 61 = .ok (.aload_n 0, 1) := dk_42 (dk_at dksX3_init_2 14 rfl rfl)
theorem dX3_init_62 : decode cX3_init 62 = .ok (.bipush 64, 2) := dk_16 64 (dk_at dksX3_init_2 15 rfl rfl)
theorem dX3_init_64 : decode cX3_init 64 = .ok (.newarray .int, 2) := dk_188_10 (dk_at dksX3_init_2 17 rfl rfl)
theorem dX3_init_66 : decode cX3_init 66 = .ok (.putfield 37, 3) := dk_181 0 37 (dk_at dksX3_init_2 19 rfl rfl)
theorem dX3_init_69 : decode cX3_init 69 = .ok (.aload_n 0, 1) := dk_42 (dk_at dksX3_init_2 22 rfl rfl)
theorem dX3_init_70 : decode cX3_init 70 = .ok (.bipush 8, 2) := dk_16 8 (dk_at dksX3_init_3 0 rfl rfl)
theorem dX3_init_72 : decode cX3_init 72 = .ok (.newarray .int, 2) := dk_188_10 (dk_at dksX3_init_3 2 rfl rfl)
theorem dX3_init_74 : decode cX3_init 74 = .ok (.putfield 40, 3) := dk_181 0 40 (dk_at dksX3_init_3 4 rfl rfl)
theorem dX3_init_77 : decode cX3_init 77 = .ok (.aload_n 0, 1) := dk_42 (dk_at dksX3_init_3 7 rfl rfl)
theorem dX3_init_78 : decode cX3_init 78 = .ok (.bipush 8, 2) := dk_16 8 (dk_at dksX3_init_3 8 rfl rfl)
theorem dX3_init_80 : decode cX3_init 80 = .ok (.newarray .int, 2) := dk_188_10 (dk_at dksX3_init_3 10 rfl rfl)
theorem dX3_init_82 : decode cX3_init 82 = .ok (.putfield 43, 3) := dk_181 0 43 (dk_at dksX3_init_3 12 rfl rfl)
theorem dX3_init_85 : decode cX3_init 85 = .ok (.aload_n 0, 1) := dk_42 (dk_at dksX3_init_3 15 rfl rfl)
theorem dX3_init_86 : decode cX3_init 86 = .ok (.bipush 64, 2) := dk_16 64 (dk_at dksX3_init_3 16 rfl rfl)
theorem dX3_init_88 : decode cX3_init 88 = .ok (.newarray .int, 2) := dk_188_10 (dk_at dksX3_init_3 18 rfl rfl)
theorem dX3_init_90 : decode cX3_init 90 = .ok (.putfield 46, 3) := dk_181 0 46 (dk_at dksX3_init_3 20 rfl rfl)
theorem dX3_init_93 : decode cX3_init 93 = .ok (.aload_n 0, 1) := dk_42 (dk_at dksX3_init_3 23 rfl rfl)
theorem dX3_init_94 : decode cX3_init 94 = .ok (.bipush 64, 2) := dk_16 64 (dk_at dksX3_init_4 0 rfl rfl)
theorem dX3_init_96 : decode cX3_init 96 = .ok (.newarray .int, 2) := dk_188_10 (dk_at dksX3_init_4 2 rfl rfl)
theorem dX3_init_98 : decode cX3_init 98 = .ok (.putfield 49, 3) := dk_181 0 49 (dk_at dksX3_init_4 4 rfl rfl)
theorem dX3_init_101 : decode cX3_init 101 = .ok (.aload_n 0, 1) := dk_42 (dk_at dksX3_init_4 7 rfl rfl)
theorem dX3_init_102 : decode cX3_init 102 = .ok (.bipush 8, 2) := dk_16 8 (dk_at dksX3_init_4 8 rfl rfl)
theorem dX3_init_104 : decode cX3_init 104 = .ok (.newarray .int, 2) := dk_188_10 (dk_at dksX3_init_4 10 rfl rfl)
theorem dX3_init_106 : decode cX3_init 106 = .ok (.putfield 52, 3) := dk_181 0 52 (dk_at dksX3_init_4 12 rfl rfl)
theorem dX3_init_109 : decode cX3_init 109 = .ok (.aload_n 0, 1) := dk_42 (dk_at dksX3_init_4 15 rfl rfl)
theorem dX3_init_110 : decode cX3_init 110 = .ok (.bipush 8, 2) := dk_16 8 (dk_at dksX3_init_4 16 rfl rfl)
theorem dX3_init_112 : decode cX3_init 112 = .ok (.newarray .int, 2) := dk_188_10 (dk_at dksX3_init_4 18 rfl rfl)
theorem dX3_init_114 : decode cX3_init 114 = .ok (.putfield 55, 3) := dk_181 0 55 (dk_at dksX3_init_4 20 rfl rfl)
theorem dX3_init_117 : decode cX3_init 117 = .ok (.aload_n 0, 1) := dk_42 (dk_at dksX3_init_4 23 rfl rfl)
theorem dX3_init_118 : decode cX3_init 118 = .ok (.bipush 8, 2) := dk_16 8 (dk_at dksX3_init_5 0 rfl rfl)
theorem dX3_init_120 : decode cX3_init 120 = .ok (.newarray .int, 2) := dk_188_10 (dk_at dksX3_init_5 2 rfl rfl)
theorem dX3_init_122 : decode cX3_init 122 = .ok (.putfield 58, 3) := dk_181 0 58 (dk_at dksX3_init_5 4 rfl rfl)
theorem dX3_init_125 : decode cX3_init 125 = .ok (.aload_n 0, 1) := dk_42 (dk_at dksX3_init_5 7 rfl rfl)
theorem dX3_init_126 : decode cX3_init 126 = .ok (.bipush 64, 2) := dk_16 64 (dk_at dksX3_init_5 8 rfl rfl)
theorem dX3_init_128 : decode cX3_init 128 = .ok (.newarray .boolean, 2) := dk_188_4 (dk_at dksX3_init_5 10 rfl rfl)
theorem dX3_init_130 : decode cX3_init 130 = .ok (.putfield 61, 3) := dk_181 0 61 (dk_at dksX3_init_5 12 rfl rfl)
theorem dX3_init_133 : decode cX3_init 133 = .ok (.aload_n 0, 1) := dk_42 (dk_at dksX3_init_5 15 rfl rfl)
theorem dX3_init_134 : decode cX3_init 134 = .ok (.bipush 16, 2) := dk_16 16 (dk_at dksX3_init_5 16 rfl rfl)
theorem dX3_init_136 : decode cX3_init 136 = .ok (.newarray .int, 2) := dk_188_10 (dk_at dksX3_init_5 18 rfl rfl)
theorem dX3_init_138 : decode cX3_init 138 = .ok (.putfield 65, 3) := dk_181 0 65 (dk_at dksX3_init_5 20 rfl rfl)
theorem dX3_init_141 : decode cX3_init 141 = .ok (.aload_n 0, 1) := dk_42 (dk_at dksX3_init_5 23 rfl rfl)
theorem dX3_init_142 : decode cX3_init 142 = .ok (.bipush 16, 2) := dk_16 16 (dk_at dksX3_init_6 0 rfl rfl)
theorem dX3_init_144 : decode cX3_init 144 = .ok (.newarray .int, 2) := dk_188_10 (dk_at dksX3_init_6 2 rfl rfl)
theorem dX3_init_146 : decode cX3_init 146 = .ok (.putfield 68, 3) := dk_181 0 68 (dk_at dksX3_init_6 4 rfl rfl)
theorem dX3_init_149 : decode cX3_init 149 = .ok (.aload_n 0, 1) := dk_42 (dk_at dksX3_init_6 7 rfl rfl)
theorem dX3_init_150 : decode cX3_init 150 = .ok (.sipush 256, 3) := dk_17 1 0 (dk_at dksX3_init_6 8 rfl rfl)
theorem dX3_init_153 : decode cX3_init 153 = .ok (.newarray .int, 2) := dk_188_10 (dk_at dksX3_init_6 11 rfl rfl)
theorem dX3_init_155 : decode cX3_init 155 = .ok (.putfield 71, 3) := dk_181 0 71 (dk_at dksX3_init_6 13 rfl rfl)
theorem dX3_init_158 : decode cX3_init 158 = .ok (.aload_n 0, 1) := dk_42 (dk_at dksX3_init_6 16 rfl rfl)
theorem dX3_init_159 : decode cX3_init 159 = .ok (.bipush 48, 2) := dk_16 48 (dk_at dksX3_init_6 17 rfl rfl)
theorem dX3_init_161 : decode cX3_init 161 = .ok (.newarray .int, 2) := dk_188_10 (dk_at dksX3_init_6 19 rfl rfl)
theorem dX3_init_163 : decode cX3_init 163 = .ok (.putfield 74, 3) := dk_181 0 74 (dk_at dksX3_init_6 21 rfl rfl)
theorem dX3_init_166 : decode cX3_init 166 = .ok (.aload_n 0, 1) := dk_42 (dk_at dksX3_init_7 0 rfl rfl)
theorem dX3_init_167 : decode cX3_init 167 = .ok (.invokevirtual 77, 3) := dk_182 0 77 (dk_at dksX3_init_7 1 rfl rfl)
theorem dX3_init_170 : decode cX3_init 170 = .ok (.return_, 1) := dk_177 (dk_at dksX3_init_7 4 rfl rfl)
abbrev cX3_plain : ByteArray := prog_15_method_4_code
def yX3_plain : MethodName := ⟨RX3, "plain", "()V"⟩
def dkwX3_plain_1 : List UInt8 := [27, 17, 0, 202, 162, 0, 7, 3, 167, 0, 5, 18, 86, 79, 132, 1, 1, 167, 255, 227, 177]
abbrev dktX3_plain_1 : List UInt8 := dkwX3_plain_1 ++ []
def dkwX3_plain_0 : List UInt8 := [42, 3, 181, 0, 80, 42, 3, 181, 0, 83, 3, 60, 27, 17, 1, 10, 162, 0, 28, 42, 180, 0, 13, 27]
abbrev dktX3_plain_0 : List UInt8 := dkwX3_plain_0 ++ dktX3_plain_1
theorem dksX3_plain_0 : cX3_plain.data.toList.drop 0 = dktX3_plain_0 := by decide +kernel
theorem dksX3_plain_1 : cX3_plain.data.toList.drop 24 = dktX3_plain_1 := dk_seg dksX3_plain_0 24 rfl rfl
theorem dX3_plain_0 : decode cX3_plain 0 = .ok (.aload_n 0, 1) := dk_42 (dk_at dksX3_plain_0 0 rfl rfl)
theorem dX3_plain_1 : decode cX3_plain 1 = .ok (.iconst 0, 1) := dk_3 (dk_at dksX3_plain_0 1 rfl rfl)
theorem dX3_plain_2 : decode cX3_plain 2 = .ok (.putfield 80, 3) := dk_181 0 80 (dk_at dksX3_plain_0 2 rfl rfl)
theorem dX3_plain_5 : decode cX3_plain 5 = .ok (.aload_n 0, 1) := dk_42 (dk_at dksX3_plain_0 5 rfl rfl)
theorem dX3_plain_6 : decode cX3_plain 6 = .ok (.iconst 0, 1) := dk_3 (dk_at dksX3_plain_0 6 rfl rfl)
theorem dX3_plain_7 : decode cX3_plain 7 = .ok (.putfield 83, 3) := dk_181 0 83 (dk_at dksX3_plain_0 7 rfl rfl)
theorem dX3_plain_10 : decode cX3_plain 10 = .ok (.iconst 0, 1) := dk_3 (dk_at dksX3_plain_0 10 rfl rfl)
theorem dX3_plain_11 : decode cX3_plain 11 = .ok (.istore_n 1, 1) := dk_60 (dk_at dksX3_plain_0 11 rfl rfl)
theorem dX3_plain_12 : decode cX3_plain 12 = .ok (.iload_n 1, 1) := dk_27 (dk_at dksX3_plain_0 12 rfl rfl)
theorem dX3_plain_13 : decode cX3_plain 13 = .ok (.sipush 266, 3) := dk_17 1 10 (dk_at dksX3_plain_0 13 rfl rfl)
theorem dX3_plain_16 : decode cX3_plain 16 = .ok (.if_icmp .ge 28, 3) := dk_162 0 28 (dk_at dksX3_plain_0 16 rfl rfl)
theorem dX3_plain_19 : decode cX3_plain 19 = .ok (.aload_n 0, 1) := dk_42 (dk_at dksX3_plain_0 19 rfl rfl)
theorem dX3_plain_20 : decode cX3_plain 20 = .ok (.getfield 13, 3) := dk_180 0 13 (dk_at dksX3_plain_0 20 rfl rfl)
theorem dX3_plain_23 : decode cX3_plain 23 = .ok (.iload_n 1, 1) := dk_27 (dk_at dksX3_plain_0 23 rfl rfl)
theorem dX3_plain_24 : decode cX3_plain 24 = .ok (.iload_n 1, 1) := dk_27 (dk_at dksX3_plain_1 0 rfl rfl)
theorem dX3_plain_25 : decode cX3_plain 25 = .ok (.sipush 202, 3) := dk_17 0 202 (dk_at dksX3_plain_1 1 rfl rfl)
theorem dX3_plain_28 : decode cX3_plain 28 = .ok (.if_icmp .ge 7, 3) := dk_162 0 7 (dk_at dksX3_plain_1 4 rfl rfl)
theorem dX3_plain_31 : decode cX3_plain 31 = .ok (.iconst 0, 1) := dk_3 (dk_at dksX3_plain_1 7 rfl rfl)
theorem dX3_plain_32 : decode cX3_plain 32 = .ok (.goto 5, 3) := dk_167 0 5 (dk_at dksX3_plain_1 8 rfl rfl)
theorem dX3_plain_35 : decode cX3_plain 35 = .ok (.ldc 86, 2) := dk_18 86 (dk_at dksX3_plain_1 11 rfl rfl)
theorem dX3_plain_37 : decode cX3_plain 37 = .ok (.iastore, 1) := dk_79 (dk_at dksX3_plain_1 13 rfl rfl)
theorem dX3_plain_38 : decode cX3_plain 38 = .ok (.iinc 1 1, 3) := dk_132 1 1 (dk_at dksX3_plain_1 14 rfl rfl)
theorem dX3_plain_41 : decode cX3_plain 41 = .ok (.goto (-29), 3) := dk_167 255 227 (dk_at dksX3_plain_1 17 rfl rfl)
theorem dX3_plain_44 : decode cX3_plain 44 = .ok (.return_, 1) := dk_177 (dk_at dksX3_plain_1 20 rfl rfl)
abbrev cX3_feed : ByteArray := prog_15_method_5_code
def yX3_feed : MethodName := ⟨RX3, "feed", "(IIIII)I"⟩
def dkwX3_feed_5 : List UInt8 := [180, 0, 87, 172]
abbrev dktX3_feed_5 : List UInt8 := dkwX3_feed_5 ++ []
def dkwX3_feed_4 : List UInt8 := [112, 104, 100, 122, 145, 84, 42, 89, 180, 0, 87, 4, 96, 181, 0, 87, 132, 6, 1, 167, 255, 165, 42]
abbrev dktX3_feed_4 : List UInt8 := dkwX3_feed_4 ++ dktX3_feed_5
def dkwX3_feed_3 : List UInt8 := [167, 0, 5, 21, 5, 54, 7, 42, 180, 0, 30, 42, 180, 0, 87, 21, 7, 16, 24, 16, 8, 21, 6, 7]
abbrev dktX3_feed_3 : List UInt8 := dkwX3_feed_3 ++ dktX3_feed_4
def dkwX3_feed_2 : List UInt8 := [28, 167, 0, 28, 21, 6, 16, 12, 162, 0, 7, 29, 167, 0, 17, 21, 6, 16, 16, 162, 0, 8, 21, 4]
abbrev dktX3_feed_2 : List UInt8 := dkwX3_feed_2 ++ dktX3_feed_3
def dkwX3_feed_1 : List UInt8 := [21, 6, 16, 20, 162, 0, 90, 21, 6, 7, 162, 0, 7, 27, 167, 0, 39, 21, 6, 16, 8, 162, 0, 7]
abbrev dktX3_feed_1 : List UInt8 := dkwX3_feed_1 ++ dktX3_feed_2
def dkwX3_feed_0 : List UInt8 := [42, 3, 181, 0, 1, 42, 180, 0, 87, 16, 20, 96, 17, 3, 132, 164, 0, 6, 16, 252, 172, 3, 54, 6]
abbrev dktX3_feed_0 : List UInt8 := dkwX3_feed_0 ++ dktX3_feed_1
theorem dksX3_feed_0 : cX3_feed.data.toList.drop 0 = dktX3_feed_0 := by decide +kernel
theorem dksX3_feed_1 : cX3_feed.data.toList.drop 24 = dktX3_feed_1 := dk_seg dksX3_feed_0 24 rfl rfl
theorem dksX3_feed_2 : cX3_feed.data.toList.drop 48 = dktX3_feed_2 := dk_seg dksX3_feed_1 24 rfl rfl
theorem dksX3_feed_3 : cX3_feed.data.toList.drop 72 = dktX3_feed_3 := dk_seg dksX3_feed_2 24 rfl rfl
theorem dksX3_feed_4 : cX3_feed.data.toList.drop 96 = dktX3_feed_4 := dk_seg dksX3_feed_3 24 rfl rfl
theorem dksX3_feed_5 : cX3_feed.data.toList.drop 119 = dktX3_feed_5 := dk_seg dksX3_feed_4 23 rfl rfl
theorem dX3_feed_0 : decode cX3_feed 0 = .ok (.aload_n 0, 1) := dk_42 (dk_at dksX3_feed_0 0 rfl rfl)
theorem dX3_feed_1 : decode cX3_feed 1 = .ok (.iconst 0, 1) := dk_3 (dk_at dksX3_feed_0 1 rfl rfl)
theorem dX3_feed_2 : decode cX3_feed 2 = .ok (.putfield 1, 3) := dk_181 0 1 (dk_at dksX3_feed_0 2 rfl rfl)
theorem dX3_feed_5 : decode cX3_feed 5 = .ok (.aload_n 0, 1) := dk_42 (dk_at dksX3_feed_0 5 rfl rfl)
theorem dX3_feed_6 : decode cX3_feed 6 = .ok (.getfield 87, 3) := dk_180 0 87 (dk_at dksX3_feed_0 6 rfl rfl)
theorem dX3_feed_9 : decode cX3_feed 9 = .ok (.bipush 20, 2) := dk_16 20 (dk_at dksX3_feed_0 9 rfl rfl)
theorem dX3_feed_11 : decode cX3_feed 11 = .ok (.iadd, 1) := dk_96 (dk_at dksX3_feed_0 11 rfl rfl)
theorem dX3_feed_12 : decode cX3_feed 12 = .ok (.sipush 900, 3) := dk_17 3 132 (dk_at dksX3_feed_0 12 rfl rfl)
theorem dX3_feed_15 : decode cX3_feed 15 = .ok (.if_icmp .le 6, 3) := dk_164 0 6 (dk_at dksX3_feed_0 15 rfl rfl)
theorem dX3_feed_18 : decode cX3_feed 18 = .ok (.bipush (-4), 2) := dk_16 252 (dk_at dksX3_feed_0 18 rfl rfl)
theorem dX3_feed_20 : decode cX3_feed 20 = .ok (.ireturn, 1) := dk_172 (dk_at dksX3_feed_0 20 rfl rfl)
theorem dX3_feed_21 : decode cX3_feed 21 = .ok (.iconst 0, 1) := dk_3 (dk_at dksX3_feed_0 21 rfl rfl)
theorem dX3_feed_22 : decode cX3_feed 22 = .ok (.istore 6, 2) := dk_54 6 (dk_at dksX3_feed_0 22 rfl rfl)
theorem dX3_feed_24 : decode cX3_feed 24 = .ok (.iload 6, 2) := dk_21 6 (dk_at dksX3_feed_1 0 rfl rfl)
theorem dX3_feed_26 : decode cX3_feed 26 = .ok (.bipush 20, 2) := dk_16 20 (dk_at dksX3_feed_1 2 rfl rfl)
theorem dX3_feed_28 : decode cX3_feed 28 = .ok (.if_icmp .ge 90, 3) := dk_162 0 90 (dk_at dksX3_feed_1 4 rfl rfl)
theorem dX3_feed_31 : decode cX3_feed 31 = .ok (.iload 6, 2) := dk_21 6 (dk_at dksX3_feed_1 7 rfl rfl)
theorem dX3_feed_33 : decode cX3_feed 33 = .ok (.iconst 4, 1) := dk_7 (dk_at dksX3_feed_1 9 rfl rfl)
theorem dX3_feed_34 : decode cX3_feed 34 = .ok (.if_icmp .ge 7, 3) := dk_162 0 7 (dk_at dksX3_feed_1 10 rfl rfl)
theorem dX3_feed_37 : decode cX3_feed 37 = .ok (.iload_n 1, 1) := dk_27 (dk_at dksX3_feed_1 13 rfl rfl)
theorem dX3_feed_38 : decode cX3_feed 38 = .ok (.goto 39, 3) := dk_167 0 39 (dk_at dksX3_feed_1 14 rfl rfl)
theorem dX3_feed_41 : decode cX3_feed 41 = .ok (.iload 6, 2) := dk_21 6 (dk_at dksX3_feed_1 17 rfl rfl)
theorem dX3_feed_43 : decode cX3_feed 43 = .ok (.bipush 8, 2) := dk_16 8 (dk_at dksX3_feed_1 19 rfl rfl)
theorem dX3_feed_45 : decode cX3_feed 45 = .ok (.if_icmp .ge 7, 3) := dk_162 0 7 (dk_at dksX3_feed_1 21 rfl rfl)
theorem dX3_feed_48 : decode cX3_feed 48 = .ok (.iload_n 2, 1) := dk_28 (dk_at dksX3_feed_2 0 rfl rfl)
theorem dX3_feed_49 : decode cX3_feed 49 = .ok (.goto 28, 3) := dk_167 0 28 (dk_at dksX3_feed_2 1 rfl rfl)
theorem dX3_feed_52 : decode cX3_feed 52 = .ok (.iload 6, 2) := dk_21 6 (dk_at dksX3_feed_2 4 rfl rfl)
theorem dX3_feed_54 : decode cX3_feed 54 = .ok (.bipush 12, 2) := dk_16 12 (dk_at dksX3_feed_2 6 rfl rfl)
theorem dX3_feed_56 : decode cX3_feed 56 = .ok (.if_icmp .ge 7, 3) := dk_162 0 7 (dk_at dksX3_feed_2 8 rfl rfl)
theorem dX3_feed_59 : decode cX3_feed 59 = .ok (.iload_n 3, 1) := dk_29 (dk_at dksX3_feed_2 11 rfl rfl)
theorem dX3_feed_60 : decode cX3_feed 60 = .ok (.goto 17, 3) := dk_167 0 17 (dk_at dksX3_feed_2 12 rfl rfl)
theorem dX3_feed_63 : decode cX3_feed 63 = .ok (.iload 6, 2) := dk_21 6 (dk_at dksX3_feed_2 15 rfl rfl)
theorem dX3_feed_65 : decode cX3_feed 65 = .ok (.bipush 16, 2) := dk_16 16 (dk_at dksX3_feed_2 17 rfl rfl)
theorem dX3_feed_67 : decode cX3_feed 67 = .ok (.if_icmp .ge 8, 3) := dk_162 0 8 (dk_at dksX3_feed_2 19 rfl rfl)
theorem dX3_feed_70 : decode cX3_feed 70 = .ok (.iload 4, 2) := dk_21 4 (dk_at dksX3_feed_2 22 rfl rfl)
theorem dX3_feed_72 : decode cX3_feed 72 = .ok (.goto 5, 3) := dk_167 0 5 (dk_at dksX3_feed_3 0 rfl rfl)
theorem dX3_feed_75 : decode cX3_feed 75 = .ok (.iload 5, 2) := dk_21 5 (dk_at dksX3_feed_3 3 rfl rfl)
theorem dX3_feed_77 : decode cX3_feed 77 = .ok (.istore 7, 2) := dk_54 7 (dk_at dksX3_feed_3 5 rfl rfl)
theorem dX3_feed_79 : decode cX3_feed 79 = .ok (.aload_n 0, 1) := dk_42 (dk_at dksX3_feed_3 7 rfl rfl)
theorem dX3_feed_80 : decode cX3_feed 80 = .ok (.getfield 30, 3) := dk_180 0 30 (dk_at dksX3_feed_3 8 rfl rfl)
theorem dX3_feed_83 : decode cX3_feed 83 = .ok (.aload_n 0, 1) := dk_42 (dk_at dksX3_feed_3 11 rfl rfl)
theorem dX3_feed_84 : decode cX3_feed 84 = .ok (.getfield 87, 3) := dk_180 0 87 (dk_at dksX3_feed_3 12 rfl rfl)
theorem dX3_feed_87 : decode cX3_feed 87 = .ok (.iload 7, 2) := dk_21 7 (dk_at dksX3_feed_3 15 rfl rfl)
theorem dX3_feed_89 : decode cX3_feed 89 = .ok (.bipush 24, 2) := dk_16 24 (dk_at dksX3_feed_3 17 rfl rfl)
theorem dX3_feed_91 : decode cX3_feed 91 = .ok (.bipush 8, 2) := dk_16 8 (dk_at dksX3_feed_3 19 rfl rfl)
theorem dX3_feed_93 : decode cX3_feed 93 = .ok (.iload 6, 2) := dk_21 6 (dk_at dksX3_feed_3 21 rfl rfl)
theorem dX3_feed_95 : decode cX3_feed 95 = .ok (.iconst 4, 1) := dk_7 (dk_at dksX3_feed_3 23 rfl rfl)
theorem dX3_feed_96 : decode cX3_feed 96 = .ok (.irem, 1) := dk_112 (dk_at dksX3_feed_4 0 rfl rfl)
theorem dX3_feed_97 : decode cX3_feed 97 = .ok (.imul, 1) := dk_104 (dk_at dksX3_feed_4 1 rfl rfl)
theorem dX3_feed_98 : decode cX3_feed 98 = .ok (.isub, 1) := dk_100 (dk_at dksX3_feed_4 2 rfl rfl)
theorem dX3_feed_99 : decode cX3_feed 99 = .ok (.ishr, 1) := dk_122 (dk_at dksX3_feed_4 3 rfl rfl)
theorem dX3_feed_100 : decode cX3_feed 100 = .ok (.i2b, 1) := dk_145 (dk_at dksX3_feed_4 4 rfl rfl)
theorem dX3_feed_101 : decode cX3_feed 101 = .ok (.bastore, 1) := dk_84 (dk_at dksX3_feed_4 5 rfl rfl)
theorem dX3_feed_102 : decode cX3_feed 102 = .ok (.aload_n 0, 1) := dk_42 (dk_at dksX3_feed_4 6 rfl rfl)
theorem dX3_feed_103 : decode cX3_feed 103 = .ok (.dup, 1) := dk_89 (dk_at dksX3_feed_4 7 rfl rfl)
theorem dX3_feed_104 : decode cX3_feed 104 = .ok (.getfield 87, 3) := dk_180 0 87 (dk_at dksX3_feed_4 8 rfl rfl)
theorem dX3_feed_107 : decode cX3_feed 107 = .ok (.iconst 1, 1) := dk_4 (dk_at dksX3_feed_4 11 rfl rfl)
theorem dX3_feed_108 : decode cX3_feed 108 = .ok (.iadd, 1) := dk_96 (dk_at dksX3_feed_4 12 rfl rfl)
theorem dX3_feed_109 : decode cX3_feed 109 = .ok (.putfield 87, 3) := dk_181 0 87 (dk_at dksX3_feed_4 13 rfl rfl)
theorem dX3_feed_112 : decode cX3_feed 112 = .ok (.iinc 6 1, 3) := dk_132 6 1 (dk_at dksX3_feed_4 16 rfl rfl)
theorem dX3_feed_115 : decode cX3_feed 115 = .ok (.goto (-91), 3) := dk_167 255 165 (dk_at dksX3_feed_4 19 rfl rfl)
theorem dX3_feed_118 : decode cX3_feed 118 = .ok (.aload_n 0, 1) := dk_42 (dk_at dksX3_feed_4 22 rfl rfl)
theorem dX3_feed_119 : decode cX3_feed 119 = .ok (.getfield 87, 3) := dk_180 0 87 (dk_at dksX3_feed_5 0 rfl rfl)
theorem dX3_feed_122 : decode cX3_feed 122 = .ok (.ireturn, 1) := dk_172 (dk_at dksX3_feed_5 3 rfl rfl)
abbrev cX3_tell : ByteArray := prog_15_method_23_code
def yX3_tell : MethodName := ⟨RX3, "tell", "(I)I"⟩
def dkwX3_tell_10 : List UInt8 := [132, 4, 1, 167, 255, 232, 16, 226, 42, 180, 0, 96, 100, 172]
abbrev dktX3_tell_10 : List UInt8 := dkwX3_tell_10 ++ []
def dkwX3_tell_9 : List UInt8 := [54, 4, 21, 4, 16, 12, 162, 0, 23, 42, 180, 0, 23, 21, 4, 42, 180, 0, 27, 21, 4, 47, 80]
abbrev dktX3_tell_9 : List UInt8 := dkwX3_tell_9 ++ dktX3_tell_10
def dkwX3_tell_8 : List UInt8 := [162, 0, 23, 42, 180, 0, 13, 21, 4, 42, 180, 0, 17, 21, 4, 46, 79, 132, 4, 1, 167, 255, 231, 3]
abbrev dktX3_tell_8 : List UInt8 := dkwX3_tell_8 ++ dktX3_tell_9
def dkwX3_tell_7 : List UInt8 := [180, 0, 13, 3, 46, 172, 42, 28, 181, 0, 80, 42, 29, 181, 0, 83, 3, 54, 4, 21, 4, 17, 1, 10]
abbrev dktX3_tell_7 : List UInt8 := dkwX3_tell_7 ++ dktX3_tell_8
def dkwX3_tell_6 : List UInt8 := [159, 0, 10, 42, 182, 0, 192, 167, 255, 237, 42, 180, 0, 96, 154, 0, 15, 42, 3, 181, 0, 195, 42]
abbrev dktX3_tell_6 : List UInt8 := dkwX3_tell_6 ++ dktX3_tell_7
def dkwX3_tell_5 : List UInt8 := [132, 4, 1, 167, 255, 232, 42, 182, 0, 77, 42, 180, 0, 96, 154, 0, 18, 42, 182, 0, 115, 2]
abbrev dktX3_tell_5 : List UInt8 := dkwX3_tell_5 ++ dktX3_tell_6
def dkwX3_tell_4 : List UInt8 := [54, 4, 21, 4, 16, 12, 162, 0, 23, 42, 180, 0, 27, 21, 4, 42, 180, 0, 23, 21, 4, 47, 80]
abbrev dktX3_tell_4 : List UInt8 := dkwX3_tell_4 ++ dktX3_tell_5
def dkwX3_tell_3 : List UInt8 := [162, 0, 23, 42, 180, 0, 17, 21, 4, 42, 180, 0, 13, 21, 4, 46, 79, 132, 4, 1, 167, 255, 231, 3]
abbrev dktX3_tell_3 : List UInt8 := dkwX3_tell_3 ++ dktX3_tell_4
def dkwX3_tell_2 : List UInt8 := [3, 181, 0, 157, 42, 180, 0, 80, 61, 42, 180, 0, 83, 62, 3, 54, 4, 21, 4, 17, 1, 10]
abbrev dktX3_tell_2 : List UInt8 := dkwX3_tell_2 ++ dktX3_tell_3
def dkwX3_tell_1 : List UInt8 := [181, 0, 87, 42, 27, 181, 0, 93, 42, 3, 181, 0, 90, 42, 3, 181, 0, 96, 42, 2, 181, 0, 34, 42]
abbrev dktX3_tell_1 : List UInt8 := dkwX3_tell_1 ++ dktX3_tell_2
def dkwX3_tell_0 : List UInt8 := [42, 3, 181, 0, 1, 27, 133, 9, 42, 180, 0, 87, 133, 184, 0, 103, 154, 0, 6, 16, 253, 172, 42, 3]
abbrev dktX3_tell_0 : List UInt8 := dkwX3_tell_0 ++ dktX3_tell_1
theorem dksX3_tell_0 : cX3_tell.data.toList.drop 0 = dktX3_tell_0 := by decide +kernel
theorem dksX3_tell_1 : cX3_tell.data.toList.drop 24 = dktX3_tell_1 := dk_seg dksX3_tell_0 24 rfl rfl
theorem dksX3_tell_2 : cX3_tell.data.toList.drop 48 = dktX3_tell_2 := dk_seg dksX3_tell_1 24 rfl rfl
theorem dksX3_tell_3 : cX3_tell.data.toList.drop 70 = dktX3_tell_3 := dk_seg dksX3_tell_2 22 rfl rfl
theorem dksX3_tell_4 : cX3_tell.data.toList.drop 94 = dktX3_tell_4 := dk_seg dksX3_tell_3 24 rfl rfl
theorem dksX3_tell_5 : cX3_tell.data.toList.drop 117 = dktX3_tell_5 := dk_seg dksX3_tell_4 23 rfl rfl
theorem dksX3_tell_6 : cX3_tell.data.toList.drop 139 = dktX3_tell_6 := dk_seg dksX3_tell_5 22 rfl rfl
theorem dksX3_tell_7 : cX3_tell.data.toList.drop 162 = dktX3_tell_7 := dk_seg dksX3_tell_6 23 rfl rfl
theorem dksX3_tell_8 : cX3_tell.data.toList.drop 186 = dktX3_tell_8 := dk_seg dksX3_tell_7 24 rfl rfl
theorem dksX3_tell_9 : cX3_tell.data.toList.drop 210 = dktX3_tell_9 := dk_seg dksX3_tell_8 24 rfl rfl
theorem dksX3_tell_10 : cX3_tell.data.toList.drop 233 = dktX3_tell_10 := dk_seg dksX3_tell_9 23 rfl rfl
theorem dX3_tell_0 : decode cX3_tell 0 = .ok (.aload_n 0, 1) := dk_42 (dk_at dksX3_tell_0 0 rfl rfl)
theorem dX3_tell_1 : decode cX3_tell 1 = .ok (.iconst 0, 1) := dk_3 (dk_at dksX3_tell_0 1 rfl rfl)
theorem dX3_tell_2 : decode cX3_tell 2 = .ok (.putfield 1, 3) := dk_181 0 1 (dk_at dksX3_tell_0 2 rfl rfl)
theorem dX3_tell_5 : decode cX3_tell 5 = .ok (.iload_n 1, 1) := dk_27 (dk_at dksX3_tell_0 5 rfl rfl)
theorem dX3_tell_6 : decode cX3_tell 6 = .ok (.i2l, 1) := dk_133 (dk_at dksX3_tell_0 6 rfl rfl)
theorem dX3_tell_7 : decode cX3_tell 7 = .ok (.lconst 0, 1) := dk_9 (dk_at dksX3_tell_0 7 rfl rfl)
theorem dX3_tell_8 : decode cX3_tell 8 = .ok (.aload_n 0, 1) := dk_42 (dk_at dksX3_tell_0 8 rfl rfl)
theorem dX3_tell_9 : decode cX3_tell 9 = .ok (.getfield 87, 3) := dk_180 0 87 (dk_at dksX3_tell_0 9 rfl rfl)
theorem dX3_tell_12 : decode cX3_tell 12 = .ok (.i2l, 1) := dk_133 (dk_at dksX3_tell_0 12 rfl rfl)
theorem dX3_tell_13 : decode cX3_tell 13 = .ok (.invokestatic 103, 3) := dk_184 0 103 (dk_at dksX3_tell_0 13 rfl rfl)
theorem dX3_tell_16 : decode cX3_tell 16 = .ok (.ifCond .ne 6, 3) := dk_154 0 6 (dk_at dksX3_tell_0 16 rfl rfl)
theorem dX3_tell_19 : decode cX3_tell 19 = .ok (.bipush (-3), 2) := dk_16 253 (dk_at dksX3_tell_0 19 rfl rfl)
theorem dX3_tell_21 : decode cX3_tell 21 = .ok (.ireturn, 1) := dk_172 (dk_at dksX3_tell_0 21 rfl rfl)
theorem dX3_tell_22 : decode cX3_tell 22 = .ok (.aload_n 0, 1) := dk_42 (dk_at dksX3_tell_0 22 rfl rfl)
theorem dX3_tell_23 : decode cX3_tell 23 = .ok (.iconst 0, 1) := dk_3 (dk_at dksX3_tell_0 23 rfl rfl)
theorem dX3_tell_24 : decode cX3_tell 24 = .ok (.putfield 87, 3) := dk_181 0 87 (dk_at dksX3_tell_1 0 rfl rfl)
theorem dX3_tell_27 : decode cX3_tell 27 = .ok (.aload_n 0, 1) := dk_42 (dk_at dksX3_tell_1 3 rfl rfl)
theorem dX3_tell_28 : decode cX3_tell 28 = .ok (.iload_n 1, 1) := dk_27 (dk_at dksX3_tell_1 4 rfl rfl)
theorem dX3_tell_29 : decode cX3_tell 29 = .ok (.putfield 93, 3) := dk_181 0 93 (dk_at dksX3_tell_1 5 rfl rfl)
theorem dX3_tell_32 : decode cX3_tell 32 = .ok (.aload_n 0, 1) := dk_42 (dk_at dksX3_tell_1 8 rfl rfl)
theorem dX3_tell_33 : decode cX3_tell 33 = .ok (.iconst 0, 1) := dk_3 (dk_at dksX3_tell_1 9 rfl rfl)
theorem dX3_tell_34 : decode cX3_tell 34 = .ok (.putfield 90, 3) := dk_181 0 90 (dk_at dksX3_tell_1 10 rfl rfl)
theorem dX3_tell_37 : decode cX3_tell 37 = .ok (.aload_n 0, 1) := dk_42 (dk_at dksX3_tell_1 13 rfl rfl)
theorem dX3_tell_38 : decode cX3_tell 38 = .ok (.iconst 0, 1) := dk_3 (dk_at dksX3_tell_1 14 rfl rfl)
theorem dX3_tell_39 : decode cX3_tell 39 = .ok (.putfield 96, 3) := dk_181 0 96 (dk_at dksX3_tell_1 15 rfl rfl)
theorem dX3_tell_42 : decode cX3_tell 42 = .ok (.aload_n 0, 1) := dk_42 (dk_at dksX3_tell_1 18 rfl rfl)
theorem dX3_tell_43 : decode cX3_tell 43 = .ok (.iconst (-1), 1) := dk_2 (dk_at dksX3_tell_1 19 rfl rfl)
theorem dX3_tell_44 : decode cX3_tell 44 = .ok (.putfield 34, 3) := dk_181 0 34 (dk_at dksX3_tell_1 20 rfl rfl)
theorem dX3_tell_47 : decode cX3_tell 47 = .ok (.aload_n 0, 1) := dk_42 (dk_at dksX3_tell_1 23 rfl rfl)
theorem dX3_tell_48 : decode cX3_tell 48 = .ok (.iconst 0, 1) := dk_3 (dk_at dksX3_tell_2 0 rfl rfl)
theorem dX3_tell_49 : decode cX3_tell 49 = .ok (.putfield 157, 3) := dk_181 0 157 (dk_at dksX3_tell_2 1 rfl rfl)
theorem dX3_tell_52 : decode cX3_tell 52 = .ok (.aload_n 0, 1) := dk_42 (dk_at dksX3_tell_2 4 rfl rfl)
theorem dX3_tell_53 : decode cX3_tell 53 = .ok (.getfield 80, 3) := dk_180 0 80 (dk_at dksX3_tell_2 5 rfl rfl)
theorem dX3_tell_56 : decode cX3_tell 56 = .ok (.istore_n 2, 1) := dk_61 (dk_at dksX3_tell_2 8 rfl rfl)
theorem dX3_tell_57 : decode cX3_tell 57 = .ok (.aload_n 0, 1) := dk_42 (dk_at dksX3_tell_2 9 rfl rfl)
theorem dX3_tell_58 : decode cX3_tell 58 = .ok (.getfield 83, 3) := dk_180 0 83 (dk_at dksX3_tell_2 10 rfl rfl)
theorem dX3_tell_61 : decode cX3_tell 61 = .ok (.istore_n 3, 1) := dk_62 (dk_at dksX3_tell_2 13 rfl rfl)
theorem dX3_tell_62 : decode cX3_tell 62 = .ok (.iconst 0, 1) := dk_3 (dk_at dksX3_tell_2 14 rfl rfl)
theorem dX3_tell_63 : decode cX3_tell 63 = .ok (.istore 4, 2) := dk_54 4 (dk_at dksX3_tell_2 15 rfl rfl)
theorem dX3_tell_65 : decode cX3_tell 65 = .ok (.iload 4, 2) := dk_21 4 (dk_at dksX3_tell_2 17 rfl rfl)
theorem dX3_tell_67 : decode cX3_tell 67 = .ok (.sipush 266, 3) := dk_17 1 10 (dk_at dksX3_tell_2 19 rfl rfl)
theorem dX3_tell_70 : decode cX3_tell 70 = .ok (.if_icmp .ge 23, 3) := dk_162 0 23 (dk_at dksX3_tell_3 0 rfl rfl)
theorem dX3_tell_73 : decode cX3_tell 73 = .ok (.aload_n 0, 1) := dk_42 (dk_at dksX3_tell_3 3 rfl rfl)
theorem dX3_tell_74 : decode cX3_tell 74 = .ok (.getfield 17, 3) := dk_180 0 17 (dk_at dksX3_tell_3 4 rfl rfl)
theorem dX3_tell_77 : decode cX3_tell 77 = .ok (.iload 4, 2) := dk_21 4 (dk_at dksX3_tell_3 7 rfl rfl)
theorem dX3_tell_79 : decode cX3_tell 79 = .ok (.aload_n 0, 1) := dk_42 (dk_at dksX3_tell_3 9 rfl rfl)
theorem dX3_tell_80 : decode cX3_tell 80 = .ok (.getfield 13, 3) := dk_180 0 13 (dk_at dksX3_tell_3 10 rfl rfl)
theorem dX3_tell_83 : decode cX3_tell 83 = .ok (.iload 4, 2) := dk_21 4 (dk_at dksX3_tell_3 13 rfl rfl)
theorem dX3_tell_85 : decode cX3_tell 85 = .ok (.iaload, 1) := dk_46 (dk_at dksX3_tell_3 15 rfl rfl)
theorem dX3_tell_86 : decode cX3_tell 86 = .ok (.iastore, 1) := dk_79 (dk_at dksX3_tell_3 16 rfl rfl)
theorem dX3_tell_87 : decode cX3_tell 87 = .ok (.iinc 4 1, 3) := dk_132 4 1 (dk_at dksX3_tell_3 17 rfl rfl)
theorem dX3_tell_90 : decode cX3_tell 90 = .ok (.goto (-25), 3) := dk_167 255 231 (dk_at dksX3_tell_3 20 rfl rfl)
theorem dX3_tell_93 : decode cX3_tell 93 = .ok (.iconst 0, 1) := dk_3 (dk_at dksX3_tell_3 23 rfl rfl)
theorem dX3_tell_94 : decode cX3_tell 94 = .ok (.istore 4, 2) := dk_54 4 (dk_at dksX3_tell_4 0 rfl rfl)
theorem dX3_tell_96 : decode cX3_tell 96 = .ok (.iload 4, 2) := dk_21 4 (dk_at dksX3_tell_4 2 rfl rfl)
theorem dX3_tell_98 : decode cX3_tell 98 = .ok (.bipush 12, 2) := dk_16 12 (dk_at dksX3_tell_4 4 rfl rfl)
theorem dX3_tell_100 : decode cX3_tell 100 = .ok (.if_icmp .ge 23, 3) := dk_162 0 23 (dk_at dksX3_tell_4 6 rfl rfl)
theorem dX3_tell_103 : decode cX3_tell 103 = .ok (.aload_n 0, 1) := dk_42 (dk_at dksX3_tell_4 9 rfl rfl)
theorem dX3_tell_104 : decode cX3_tell 104 = .ok (.getfield 27, 3) := dk_180 0 27 (dk_at dksX3_tell_4 10 rfl rfl)
theorem dX3_tell_107 : decode cX3_tell 107 = .ok (.iload 4, 2) := dk_21 4 (dk_at dksX3_tell_4 13 rfl rfl)
theorem dX3_tell_109 : decode cX3_tell 109 = .ok (.aload_n 0, 1) := dk_42 (dk_at dksX3_tell_4 15 rfl rfl)
theorem dX3_tell_110 : decode cX3_tell 110 = .ok (.getfield 23, 3) := dk_180 0 23 (dk_at dksX3_tell_4 16 rfl rfl)
theorem dX3_tell_113 : decode cX3_tell 113 = .ok (.iload 4, 2) := dk_21 4 (dk_at dksX3_tell_4 19 rfl rfl)
theorem dX3_tell_115 : decode cX3_tell 115 = .ok (.laload, 1) := dk_47 (dk_at dksX3_tell_4 21 rfl rfl)
theorem dX3_tell_116 : decode cX3_tell 116 = .ok (.lastore, 1) := dk_80 (dk_at dksX3_tell_4 22 rfl rfl)
theorem dX3_tell_117 : decode cX3_tell 117 = .ok (.iinc 4 1, 3) := dk_132 4 1 (dk_at dksX3_tell_5 0 rfl rfl)
theorem dX3_tell_120 : decode cX3_tell 120 = .ok (.goto (-24), 3) := dk_167 255 232 (dk_at dksX3_tell_5 3 rfl rfl)
theorem dX3_tell_123 : decode cX3_tell 123 = .ok (.aload_n 0, 1) := dk_42 (dk_at dksX3_tell_5 6 rfl rfl)
theorem dX3_tell_124 : decode cX3_tell 124 = .ok (.invokevirtual 77, 3) := dk_182 0 77 (dk_at dksX3_tell_5 7 rfl rfl)
theorem dX3_tell_127 : decode cX3_tell 127 = .ok (.aload_n 0, 1) := dk_42 (dk_at dksX3_tell_5 10 rfl rfl)
theorem dX3_tell_128 : decode cX3_tell 128 = .ok (.getfield 96, 3) := dk_180 0 96 (dk_at dksX3_tell_5 11 rfl rfl)
theorem dX3_tell_131 : decode cX3_tell 131 = .ok (.ifCond .ne 18, 3) := dk_154 0 18 (dk_at dksX3_tell_5 14 rfl rfl)
theorem dX3_tell_134 : decode cX3_tell 134 = .ok (.aload_n 0, 1) := dk_42 (dk_at dksX3_tell_5 17 rfl rfl)
theorem dX3_tell_135 : decode cX3_tell 135 = .ok (.invokevirtual 115, 3) := dk_182 0 115 (dk_at dksX3_tell_5 18 rfl rfl)
theorem dX3_tell_138 : decode cX3_tell 138 = .ok (.iconst (-1), 1) := dk_2 (dk_at dksX3_tell_5 21 rfl rfl)
theorem dX3_tell_139 : decode cX3_tell 139 = .ok (.if_icmp .eq 10, 3) := dk_159 0 10 (dk_at dksX3_tell_6 0 rfl rfl)
theorem dX3_tell_142 : decode cX3_tell 142 = .ok (.aload_n 0, 1) := dk_42 (dk_at dksX3_tell_6 3 rfl rfl)
theorem dX3_tell_143 : decode cX3_tell 143 = .ok (.invokevirtual 192, 3) := dk_182 0 192 (dk_at dksX3_tell_6 4 rfl rfl)
theorem dX3_tell_146 : decode cX3_tell 146 = .ok (.goto (-19), 3) := dk_167 255 237 (dk_at dksX3_tell_6 7 rfl rfl)
theorem dX3_tell_149 : decode cX3_tell 149 = .ok (.aload_n 0, 1) := dk_42 (dk_at dksX3_tell_6 10 rfl rfl)
theorem dX3_tell_150 : decode cX3_tell 150 = .ok (.getfield 96, 3) := dk_180 0 96 (dk_at dksX3_tell_6 11 rfl rfl)
theorem dX3_tell_153 : decode cX3_tell 153 = .ok (.ifCond .ne 15, 3) := dk_154 0 15 (dk_at dksX3_tell_6 14 rfl rfl)
theorem dX3_tell_156 : decode cX3_tell 156 = .ok (.aload_n 0, 1) := dk_42 (dk_at dksX3_tell_6 17 rfl rfl)
theorem dX3_tell_157 : decode cX3_tell 157 = .ok (.iconst 0, 1) := dk_3 (dk_at dksX3_tell_6 18 rfl rfl)
theorem dX3_tell_158 : decode cX3_tell 158 = .ok (.putfield 195, 3) := dk_181 0 195 (dk_at dksX3_tell_6 19 rfl rfl)
theorem dX3_tell_161 : decode cX3_tell 161 = .ok (.aload_n 0, 1) := dk_42 (dk_at dksX3_tell_6 22 rfl rfl)
theorem dX3_tell_162 : decode cX3_tell 162 = .ok (.getfield 13, 3) := dk_180 0 13 (dk_at dksX3_tell_7 0 rfl rfl)
theorem dX3_tell_165 : decode cX3_tell 165 = .ok (.iconst 0, 1) := dk_3 (dk_at dksX3_tell_7 3 rfl rfl)
theorem dX3_tell_166 : decode cX3_tell 166 = .ok (.iaload, 1) := dk_46 (dk_at dksX3_tell_7 4 rfl rfl)
theorem dX3_tell_167 : decode cX3_tell 167 = .ok (.ireturn, 1) := dk_172 (dk_at dksX3_tell_7 5 rfl rfl)
theorem dX3_tell_168 : decode cX3_tell 168 = .ok (.aload_n 0, 1) := dk_42 (dk_at dksX3_tell_7 6 rfl rfl)
theorem dX3_tell_169 : decode cX3_tell 169 = .ok (.iload_n 2, 1) := dk_28 (dk_at dksX3_tell_7 7 rfl rfl)
theorem dX3_tell_170 : decode cX3_tell 170 = .ok (.putfield 80, 3) := dk_181 0 80 (dk_at dksX3_tell_7 8 rfl rfl)
theorem dX3_tell_173 : decode cX3_tell 173 = .ok (.aload_n 0, 1) := dk_42 (dk_at dksX3_tell_7 11 rfl rfl)
theorem dX3_tell_174 : decode cX3_tell 174 = .ok (.iload_n 3, 1) := dk_29 (dk_at dksX3_tell_7 12 rfl rfl)
theorem dX3_tell_175 : decode cX3_tell 175 = .ok (.putfield 83, 3) := dk_181 0 83 (dk_at dksX3_tell_7 13 rfl rfl)
theorem dX3_tell_178 : decode cX3_tell 178 = .ok (.iconst 0, 1) := dk_3 (dk_at dksX3_tell_7 16 rfl rfl)
theorem dX3_tell_179 : decode cX3_tell 179 = .ok (.istore 4, 2) := dk_54 4 (dk_at dksX3_tell_7 17 rfl rfl)
theorem dX3_tell_181 : decode cX3_tell 181 = .ok (.iload 4, 2) := dk_21 4 (dk_at dksX3_tell_7 19 rfl rfl)
theorem dX3_tell_183 : decode cX3_tell 183 = .ok (.sipush 266, 3) := dk_17 1 10 (dk_at dksX3_tell_7 21 rfl rfl)
theorem dX3_tell_186 : decode cX3_tell 186 = .ok (.if_icmp .ge 23, 3) := dk_162 0 23 (dk_at dksX3_tell_8 0 rfl rfl)
theorem dX3_tell_189 : decode cX3_tell 189 = .ok (.aload_n 0, 1) := dk_42 (dk_at dksX3_tell_8 3 rfl rfl)
theorem dX3_tell_190 : decode cX3_tell 190 = .ok (.getfield 13, 3) := dk_180 0 13 (dk_at dksX3_tell_8 4 rfl rfl)
theorem dX3_tell_193 : decode cX3_tell 193 = .ok (.iload 4, 2) := dk_21 4 (dk_at dksX3_tell_8 7 rfl rfl)
theorem dX3_tell_195 : decode cX3_tell 195 = .ok (.aload_n 0, 1) := dk_42 (dk_at dksX3_tell_8 9 rfl rfl)
theorem dX3_tell_196 : decode cX3_tell 196 = .ok (.getfield 17, 3) := dk_180 0 17 (dk_at dksX3_tell_8 10 rfl rfl)
theorem dX3_tell_199 : decode cX3_tell 199 = .ok (.iload 4, 2) := dk_21 4 (dk_at dksX3_tell_8 13 rfl rfl)
theorem dX3_tell_201 : decode cX3_tell 201 = .ok (.iaload, 1) := dk_46 (dk_at dksX3_tell_8 15 rfl rfl)
theorem dX3_tell_202 : decode cX3_tell 202 = .ok (.iastore, 1) := dk_79 (dk_at dksX3_tell_8 16 rfl rfl)
theorem dX3_tell_203 : decode cX3_tell 203 = .ok (.iinc 4 1, 3) := dk_132 4 1 (dk_at dksX3_tell_8 17 rfl rfl)
theorem dX3_tell_206 : decode cX3_tell 206 = .ok (.goto (-25), 3) := dk_167 255 231 (dk_at dksX3_tell_8 20 rfl rfl)
theorem dX3_tell_209 : decode cX3_tell 209 = .ok (.iconst 0, 1) := dk_3 (dk_at dksX3_tell_8 23 rfl rfl)
theorem dX3_tell_210 : decode cX3_tell 210 = .ok (.istore 4, 2) := dk_54 4 (dk_at dksX3_tell_9 0 rfl rfl)
theorem dX3_tell_212 : decode cX3_tell 212 = .ok (.iload 4, 2) := dk_21 4 (dk_at dksX3_tell_9 2 rfl rfl)
theorem dX3_tell_214 : decode cX3_tell 214 = .ok (.bipush 12, 2) := dk_16 12 (dk_at dksX3_tell_9 4 rfl rfl)
theorem dX3_tell_216 : decode cX3_tell 216 = .ok (.if_icmp .ge 23, 3) := dk_162 0 23 (dk_at dksX3_tell_9 6 rfl rfl)
theorem dX3_tell_219 : decode cX3_tell 219 = .ok (.aload_n 0, 1) := dk_42 (dk_at dksX3_tell_9 9 rfl rfl)
theorem dX3_tell_220 : decode cX3_tell 220 = .ok (.getfield 23, 3) := dk_180 0 23 (dk_at dksX3_tell_9 10 rfl rfl)
theorem dX3_tell_223 : decode cX3_tell 223 = .ok (.iload 4, 2) := dk_21 4 (dk_at dksX3_tell_9 13 rfl rfl)
theorem dX3_tell_225 : decode cX3_tell 225 = .ok (.aload_n 0, 1) := dk_42 (dk_at dksX3_tell_9 15 rfl rfl)
theorem dX3_tell_226 : decode cX3_tell 226 = .ok (.getfield 27, 3) := dk_180 0 27 (dk_at dksX3_tell_9 16 rfl rfl)
theorem dX3_tell_229 : decode cX3_tell 229 = .ok (.iload 4, 2) := dk_21 4 (dk_at dksX3_tell_9 19 rfl rfl)
theorem dX3_tell_231 : decode cX3_tell 231 = .ok (.laload, 1) := dk_47 (dk_at dksX3_tell_9 21 rfl rfl)
theorem dX3_tell_232 : decode cX3_tell 232 = .ok (.lastore, 1) := dk_80 (dk_at dksX3_tell_9 22 rfl rfl)
theorem dX3_tell_233 : decode cX3_tell 233 = .ok (.iinc 4 1, 3) := dk_132 4 1 (dk_at dksX3_tell_10 0 rfl rfl)
theorem dX3_tell_236 : decode cX3_tell 236 = .ok (.goto (-24), 3) := dk_167 255 232 (dk_at dksX3_tell_10 3 rfl rfl)
theorem dX3_tell_239 : decode cX3_tell 239 = .ok (.bipush (-30), 2) := dk_16 226 (dk_at dksX3_tell_10 6 rfl rfl)
theorem dX3_tell_241 : decode cX3_tell 241 = .ok (.aload_n 0, 1) := dk_42 (dk_at dksX3_tell_10 8 rfl rfl)
theorem dX3_tell_242 : decode cX3_tell 242 = .ok (.getfield 96, 3) := dk_180 0 96 (dk_at dksX3_tell_10 9 rfl rfl)
theorem dX3_tell_245 : decode cX3_tell 245 = .ok (.isub, 1) := dk_100 (dk_at dksX3_tell_10 12 rfl rfl)
theorem dX3_tell_246 : decode cX3_tell 246 = .ok (.ireturn, 1) := dk_172 (dk_at dksX3_tell_10 13 rfl rfl)
abbrev cX3_isIn : ByteArray := prog_15_method_2_code
def yX3_isIn : MethodName := ⟨RX3, "isIn", "(JJJ)Z"⟩
def dkwX3_isIn_0 : List UInt8 := [30, 32, 148, 155, 0, 14, 30, 22, 4, 148, 157, 0, 7, 4, 167, 0, 4, 3, 172]
abbrev dktX3_isIn_0 : List UInt8 := dkwX3_isIn_0 ++ []
theorem dksX3_isIn_0 : cX3_isIn.data.toList.drop 0 = dktX3_isIn_0 := by decide +kernel
theorem dX3_isIn_0 : decode cX3_isIn 0 = .ok (.lload_n 0, 1) := dk_30 (dk_at dksX3_isIn_0 0 rfl rfl)
theorem dX3_isIn_1 : decode cX3_isIn 1 = .ok (.lload_n 2, 1) := dk_32 (dk_at dksX3_isIn_0 1 rfl rfl)
theorem dX3_isIn_2 : decode cX3_isIn 2 = .ok (.lcmp, 1) := dk_148 (dk_at dksX3_isIn_0 2 rfl rfl)
theorem dX3_isIn_3 : decode cX3_isIn 3 = .ok (.ifCond .lt 14, 3) := dk_155 0 14 (dk_at dksX3_isIn_0 3 rfl rfl)
theorem dX3_isIn_6 : decode cX3_isIn 6 = .ok (.lload_n 0, 1) := dk_30 (dk_at dksX3_isIn_0 6 rfl rfl)
theorem dX3_isIn_7 : decode cX3_isIn 7 = .ok (.lload 4, 2) := dk_22 4 (dk_at dksX3_isIn_0 7 rfl rfl)
theorem dX3_isIn_9 : decode cX3_isIn 9 = .ok (.lcmp, 1) := dk_148 (dk_at dksX3_isIn_0 9 rfl rfl)
theorem dX3_isIn_10 : decode cX3_isIn 10 = .ok (.ifCond .gt 7, 3) := dk_157 0 7 (dk_at dksX3_isIn_0 10 rfl rfl)
theorem dX3_isIn_13 : decode cX3_isIn 13 = .ok (.iconst 1, 1) := dk_4 (dk_at dksX3_isIn_0 13 rfl rfl)
theorem dX3_isIn_14 : decode cX3_isIn 14 = .ok (.goto 4, 3) := dk_167 0 4 (dk_at dksX3_isIn_0 14 rfl rfl)
theorem dX3_isIn_17 : decode cX3_isIn 17 = .ok (.iconst 0, 1) := dk_3 (dk_at dksX3_isIn_0 17 rfl rfl)
theorem dX3_isIn_18 : decode cX3_isIn 18 = .ok (.ireturn, 1) := dk_172 (dk_at dksX3_isIn_0 18 rfl rfl)
abbrev cX3_peek : ByteArray := prog_15_method_6_code
def yX3_peek : MethodName := ⟨RX3, "peek", "()I"⟩
def dkwX3_peek_2 : List UInt8 := [162, 0, 19, 42, 180, 0, 30, 42, 180, 0, 90, 51, 17, 0, 255, 126, 167, 0, 4, 2, 172]
abbrev dktX3_peek_2 : List UInt8 := dkwX3_peek_2 ++ []
def dkwX3_peek_1 : List UInt8 := [160, 0, 16, 42, 89, 180, 0, 90, 4, 96, 181, 0, 90, 167, 255, 221, 42, 180, 0, 90, 42, 180, 0, 93]
abbrev dktX3_peek_1 : List UInt8 := dkwX3_peek_1 ++ dktX3_peek_2
def dkwX3_peek_0 : List UInt8 := [42, 180, 0, 90, 42, 180, 0, 93, 162, 0, 30, 42, 180, 0, 30, 42, 180, 0, 90, 51, 16, 32]
abbrev dktX3_peek_0 : List UInt8 := dkwX3_peek_0 ++ dktX3_peek_1
theorem dksX3_peek_0 : cX3_peek.data.toList.drop 0 = dktX3_peek_0 := by decide +kernel
theorem dksX3_peek_1 : cX3_peek.data.toList.drop 22 = dktX3_peek_1 := dk_seg dksX3_peek_0 22 rfl rfl
theorem dksX3_peek_2 : cX3_peek.data.toList.drop 46 = dktX3_peek_2 := dk_seg dksX3_peek_1 24 rfl rfl
theorem dX3_peek_0 : decode cX3_peek 0 = .ok (.aload_n 0, 1) := dk_42 (dk_at dksX3_peek_0 0 rfl rfl)
theorem dX3_peek_1 : decode cX3_peek 1 = .ok (.getfield 90, 3) := dk_180 0 90 (dk_at dksX3_peek_0 1 rfl rfl)
theorem dX3_peek_4 : decode cX3_peek 4 = .ok (.aload_n 0, 1) := dk_42 (dk_at dksX3_peek_0 4 rfl rfl)
theorem dX3_peek_5 : decode cX3_peek 5 = .ok (.getfield 93, 3) := dk_180 0 93 (dk_at dksX3_peek_0 5 rfl rfl)
theorem dX3_peek_8 : decode cX3_peek 8 = .ok (.if_icmp .ge 30, 3) := dk_162 0 30 (dk_at dksX3_peek_0 8 rfl rfl)
theorem dX3_peek_11 : decode cX3_peek 11 = .ok (.aload_n 0, 1) := dk_42 (dk_at dksX3_peek_0 11 rfl rfl)
theorem dX3_peek_12 : decode cX3_peek 12 = .ok (.getfield 30, 3) := dk_180 0 30 (dk_at dksX3_peek_0 12 rfl rfl)
theorem dX3_peek_15 : decode cX3_peek 15 = .ok (.aload_n 0, 1) := dk_42 (dk_at dksX3_peek_0 15 rfl rfl)
theorem dX3_peek_16 : decode cX3_peek 16 = .ok (.getfield 90, 3) := dk_180 0 90 (dk_at dksX3_peek_0 16 rfl rfl)
theorem dX3_peek_19 : decode cX3_peek 19 = .ok (.baload, 1) := dk_51 (dk_at dksX3_peek_0 19 rfl rfl)
theorem dX3_peek_20 : decode cX3_peek 20 = .ok (.bipush 32, 2) := dk_16 32 (dk_at dksX3_peek_0 20 rfl rfl)
theorem dX3_peek_22 : decode cX3_peek 22 = .ok (.if_icmp .ne 16, 3) := dk_160 0 16 (dk_at dksX3_peek_1 0 rfl rfl)
theorem dX3_peek_25 : decode cX3_peek 25 = .ok (.aload_n 0, 1) := dk_42 (dk_at dksX3_peek_1 3 rfl rfl)
theorem dX3_peek_26 : decode cX3_peek 26 = .ok (.dup, 1) := dk_89 (dk_at dksX3_peek_1 4 rfl rfl)
theorem dX3_peek_27 : decode cX3_peek 27 = .ok (.getfield 90, 3) := dk_180 0 90 (dk_at dksX3_peek_1 5 rfl rfl)
theorem dX3_peek_30 : decode cX3_peek 30 = .ok (.iconst 1, 1) := dk_4 (dk_at dksX3_peek_1 8 rfl rfl)
theorem dX3_peek_31 : decode cX3_peek 31 = .ok (.iadd, 1) := dk_96 (dk_at dksX3_peek_1 9 rfl rfl)
theorem dX3_peek_32 : decode cX3_peek 32 = .ok (.putfield 90, 3) := dk_181 0 90 (dk_at dksX3_peek_1 10 rfl rfl)
theorem dX3_peek_35 : decode cX3_peek 35 = .ok (.goto (-35), 3) := dk_167 255 221 (dk_at dksX3_peek_1 13 rfl rfl)
theorem dX3_peek_38 : decode cX3_peek 38 = .ok (.aload_n 0, 1) := dk_42 (dk_at dksX3_peek_1 16 rfl rfl)
theorem dX3_peek_39 : decode cX3_peek 39 = .ok (.getfield 90, 3) := dk_180 0 90 (dk_at dksX3_peek_1 17 rfl rfl)
theorem dX3_peek_42 : decode cX3_peek 42 = .ok (.aload_n 0, 1) := dk_42 (dk_at dksX3_peek_1 20 rfl rfl)
theorem dX3_peek_43 : decode cX3_peek 43 = .ok (.getfield 93, 3) := dk_180 0 93 (dk_at dksX3_peek_1 21 rfl rfl)
theorem dX3_peek_46 : decode cX3_peek 46 = .ok (.if_icmp .ge 19, 3) := dk_162 0 19 (dk_at dksX3_peek_2 0 rfl rfl)
theorem dX3_peek_49 : decode cX3_peek 49 = .ok (.aload_n 0, 1) := dk_42 (dk_at dksX3_peek_2 3 rfl rfl)
theorem dX3_peek_50 : decode cX3_peek 50 = .ok (.getfield 30, 3) := dk_180 0 30 (dk_at dksX3_peek_2 4 rfl rfl)
theorem dX3_peek_53 : decode cX3_peek 53 = .ok (.aload_n 0, 1) := dk_42 (dk_at dksX3_peek_2 7 rfl rfl)
theorem dX3_peek_54 : decode cX3_peek 54 = .ok (.getfield 90, 3) := dk_180 0 90 (dk_at dksX3_peek_2 8 rfl rfl)
theorem dX3_peek_57 : decode cX3_peek 57 = .ok (.baload, 1) := dk_51 (dk_at dksX3_peek_2 11 rfl rfl)
theorem dX3_peek_58 : decode cX3_peek 58 = .ok (.sipush 255, 3) := dk_17 0 255 (dk_at dksX3_peek_2 12 rfl rfl)
theorem dX3_peek_61 : decode cX3_peek 61 = .ok (.iand, 1) := dk_126 (dk_at dksX3_peek_2 15 rfl rfl)
theorem dX3_peek_62 : decode cX3_peek 62 = .ok (.goto 4, 3) := dk_167 0 4 (dk_at dksX3_peek_2 16 rfl rfl)
theorem dX3_peek_65 : decode cX3_peek 65 = .ok (.iconst (-1), 1) := dk_2 (dk_at dksX3_peek_2 19 rfl rfl)
theorem dX3_peek_66 : decode cX3_peek 66 = .ok (.ireturn, 1) := dk_172 (dk_at dksX3_peek_2 20 rfl rfl)
abbrev cX3_lineRead : ByteArray := prog_15_method_20_code
def yX3_lineRead : MethodName := ⟨RX3, "lineRead", "()V"⟩
def dkwX3_lineRead_5 : List UInt8 := [42, 89, 180, 0, 90, 4, 96, 181, 0, 90, 177]
abbrev dktX3_lineRead_5 : List UInt8 := dkwX3_lineRead_5 ++ []
def dkwX3_lineRead_4 : List UInt8 := [180, 0, 96, 154, 0, 21, 42, 182, 0, 115, 16, 59, 159, 0, 12, 42, 4, 42, 180, 0, 90, 182, 0, 136]
abbrev dktX3_lineRead_4 : List UInt8 := dkwX3_lineRead_4 ++ dktX3_lineRead_5
def dkwX3_lineRead_3 : List UInt8 := [120, 128, 181, 0, 157, 42, 89, 180, 0, 90, 42, 182, 0, 119, 96, 181, 0, 90, 42, 27, 182, 0, 163, 42]
abbrev dktX3_lineRead_3 : List UInt8 := dkwX3_lineRead_3 ++ dktX3_lineRead_4
def dkwX3_lineRead_2 : List UInt8 := [153, 0, 9, 42, 7, 28, 182, 0, 136, 42, 180, 0, 96, 153, 0, 4, 177, 42, 89, 180, 0, 157, 4, 27]
abbrev dktX3_lineRead_2 : List UInt8 := dkwX3_lineRead_2 ++ dktX3_lineRead_3
def dkwX3_lineRead_1 : List UInt8 := [8, 122, 4, 126, 4, 160, 0, 12, 42, 4, 28, 182, 0, 136, 167, 0, 17, 42, 27, 182, 0, 160]
abbrev dktX3_lineRead_1 : List UInt8 := dkwX3_lineRead_1 ++ dktX3_lineRead_2
def dkwX3_lineRead_0 : List UInt8 := [42, 182, 0, 143, 60, 42, 180, 0, 90, 61, 27, 2, 159, 0, 20, 27, 8, 160, 0, 24, 42, 180, 0, 157]
abbrev dktX3_lineRead_0 : List UInt8 := dkwX3_lineRead_0 ++ dktX3_lineRead_1
theorem dksX3_lineRead_0 : cX3_lineRead.data.toList.drop 0 = dktX3_lineRead_0 := by decide +kernel
theorem dksX3_lineRead_1 : cX3_lineRead.data.toList.drop 24 = dktX3_lineRead_1 := dk_seg dksX3_lineRead_0 24 rfl rfl
theorem dksX3_lineRead_2 : cX3_lineRead.data.toList.drop 46 = dktX3_lineRead_2 := dk_seg dksX3_lineRead_1 22 rfl rfl
theorem dksX3_lineRead_3 : cX3_lineRead.data.toList.drop 70 = dktX3_lineRead_3 := dk_seg dksX3_lineRead_2 24 rfl rfl
theorem dksX3_lineRead_4 : cX3_lineRead.data.toList.drop 94 = dktX3_lineRead_4 := dk_seg dksX3_lineRead_3 24 rfl rfl
theorem dksX3_lineRead_5 : cX3_lineRead.data.toList.drop 118 = dktX3_lineRead_5 := dk_seg dksX3_lineRead_4 24 rfl rfl
theorem dX3_lineRead_0 : decode cX3_lineRead 0 = .ok (.aload_n 0, 1) := dk_42 (dk_at dksX3_lineRead_0 0 rfl rfl)
theorem dX3_lineRead_1 : decode cX3_lineRead 1 = .ok (.invokevirtual 143, 3) := dk_182 0 143 (dk_at dksX3_lineRead_0 1 rfl rfl)
theorem dX3_lineRead_4 : decode cX3_lineRead 4 = .ok (.istore_n 1, 1) := dk_60 (dk_at dksX3_lineRead_0 4 rfl rfl)
theorem dX3_lineRead_5 : decode cX3_lineRead 5 = .ok (.aload_n 0, 1) := dk_42 (dk_at dksX3_lineRead_0 5 rfl rfl)
theorem dX3_lineRead_6 : decode cX3_lineRead 6 = .ok (.getfield 90, 3) := dk_180 0 90 (dk_at dksX3_lineRead_0 6 rfl rfl)
theorem dX3_lineRead_9 : decode cX3_lineRead 9 = .ok (.istore_n 2, 1) := dk_61 (dk_at dksX3_lineRead_0 9 rfl rfl)
theorem dX3_lineRead_10 : decode cX3_lineRead 10 = .ok (.iload_n 1, 1) := dk_27 (dk_at dksX3_lineRead_0 10 rfl rfl)
theorem dX3_lineRead_11 : decode cX3_lineRead 11 = .ok (.iconst (-1), 1) := dk_2 (dk_at dksX3_lineRead_0 11 rfl rfl)
theorem dX3_lineRead_12 : decode cX3_lineRead 12 = .ok (.if_icmp .eq 20, 3) := dk_159 0 20 (dk_at dksX3_lineRead_0 12 rfl rfl)
theorem dX3_lineRead_15 : decode cX3_lineRead 15 = .ok (.iload_n 1, 1) := dk_27 (dk_at dksX3_lineRead_0 15 rfl rfl)
theorem dX3_lineRead_16 : decode cX3_lineRead 16 = .ok (.iconst 5, 1) := dk_8 (dk_at dksX3_lineRead_0 16 rfl rfl)
theorem dX3_lineRead_17 : decode cX3_lineRead 17 = .ok (.if_icmp .ne 24, 3) := dk_160 0 24 (dk_at dksX3_lineRead_0 17 rfl rfl)
theorem dX3_lineRead_20 : decode cX3_lineRead 20 = .ok (.aload_n 0, 1) := dk_42 (dk_at dksX3_lineRead_0 20 rfl rfl)
theorem dX3_lineRead_21 : decode cX3_lineRead 21 = .ok (.getfield 157, 3) := dk_180 0 157 (dk_at dksX3_lineRead_0 21 rfl rfl)
theorem dX3_lineRead_24 : decode cX3_lineRead 24 = .ok (.iconst 5, 1) := dk_8 (dk_at dksX3_lineRead_1 0 rfl rfl)
theorem dX3_lineRead_25 : decode cX3_lineRead 25 = .ok (.ishr, 1) := dk_122 (dk_at dksX3_lineRead_1 1 rfl rfl)
theorem dX3_lineRead_26 : decode cX3_lineRead 26 = .ok (.iconst 1, 1) := dk_4 (dk_at dksX3_lineRead_1 2 rfl rfl)
theorem dX3_lineRead_27 : decode cX3_lineRead 27 = .ok (.iand, 1) := dk_126 (dk_at dksX3_lineRead_1 3 rfl rfl)
theorem dX3_lineRead_28 : decode cX3_lineRead 28 = .ok (.iconst 1, 1) := dk_4 (dk_at dksX3_lineRead_1 4 rfl rfl)
theorem dX3_lineRead_29 : decode cX3_lineRead 29 = .ok (.if_icmp .ne 12, 3) := dk_160 0 12 (dk_at dksX3_lineRead_1 5 rfl rfl)
theorem dX3_lineRead_32 : decode cX3_lineRead 32 = .ok (.aload_n 0, 1) := dk_42 (dk_at dksX3_lineRead_1 8 rfl rfl)
theorem dX3_lineRead_33 : decode cX3_lineRead 33 = .ok (.iconst 1, 1) := dk_4 (dk_at dksX3_lineRead_1 9 rfl rfl)
theorem dX3_lineRead_34 : decode cX3_lineRead 34 = .ok (.iload_n 2, 1) := dk_28 (dk_at dksX3_lineRead_1 10 rfl rfl)
theorem dX3_lineRead_35 : decode cX3_lineRead 35 = .ok (.invokevirtual 136, 3) := dk_182 0 136 (dk_at dksX3_lineRead_1 11 rfl rfl)
theorem dX3_lineRead_38 : decode cX3_lineRead 38 = .ok (.goto 17, 3) := dk_167 0 17 (dk_at dksX3_lineRead_1 14 rfl rfl)
theorem dX3_lineRead_41 : decode cX3_lineRead 41 = .ok (.aload_n 0, 1) := dk_42 (dk_at dksX3_lineRead_1 17 rfl rfl)
theorem dX3_lineRead_42 : decode cX3_lineRead 42 = .ok (.iload_n 1, 1) := dk_27 (dk_at dksX3_lineRead_1 18 rfl rfl)
theorem dX3_lineRead_43 : decode cX3_lineRead 43 = .ok (.invokevirtual 160, 3) := dk_182 0 160 (dk_at dksX3_lineRead_1 19 rfl rfl)
theorem dX3_lineRead_46 : decode cX3_lineRead 46 = .ok (.ifCond .eq 9, 3) := dk_153 0 9 (dk_at dksX3_lineRead_2 0 rfl rfl)
theorem dX3_lineRead_49 : decode cX3_lineRead 49 = .ok (.aload_n 0, 1) := dk_42 (dk_at dksX3_lineRead_2 3 rfl rfl)
theorem dX3_lineRead_50 : decode cX3_lineRead 50 = .ok (.iconst 4, 1) := dk_7 (dk_at dksX3_lineRead_2 4 rfl rfl)
theorem dX3_lineRead_51 : decode cX3_lineRead 51 = .ok (.iload_n 2, 1) := dk_28 (dk_at dksX3_lineRead_2 5 rfl rfl)
theorem dX3_lineRead_52 : decode cX3_lineRead 52 = .ok (.invokevirtual 136, 3) := dk_182 0 136 (dk_at dksX3_lineRead_2 6 rfl rfl)
theorem dX3_lineRead_55 : decode cX3_lineRead 55 = .ok (.aload_n 0, 1) := dk_42 (dk_at dksX3_lineRead_2 9 rfl rfl)
theorem dX3_lineRead_56 : decode cX3_lineRead 56 = .ok (.getfield 96, 3) := dk_180 0 96 (dk_at dksX3_lineRead_2 10 rfl rfl)
theorem dX3_lineRead_59 : decode cX3_lineRead 59 = .ok (.ifCond .eq 4, 3) := dk_153 0 4 (dk_at dksX3_lineRead_2 13 rfl rfl)
theorem dX3_lineRead_62 : decode cX3_lineRead 62 = .ok (.return_, 1) := dk_177 (dk_at dksX3_lineRead_2 16 rfl rfl)
theorem dX3_lineRead_63 : decode cX3_lineRead 63 = .ok (.aload_n 0, 1) := dk_42 (dk_at dksX3_lineRead_2 17 rfl rfl)
theorem dX3_lineRead_64 : decode cX3_lineRead 64 = .ok (.dup, 1) := dk_89 (dk_at dksX3_lineRead_2 18 rfl rfl)
theorem dX3_lineRead_65 : decode cX3_lineRead 65 = .ok (.getfield 157, 3) := dk_180 0 157 (dk_at dksX3_lineRead_2 19 rfl rfl)
theorem dX3_lineRead_68 : decode cX3_lineRead 68 = .ok (.iconst 1, 1) := dk_4 (dk_at dksX3_lineRead_2 22 rfl rfl)
theorem dX3_lineRead_69 : decode cX3_lineRead 69 = .ok (.iload_n 1, 1) := dk_27 (dk_at dksX3_lineRead_2 23 rfl rfl)
theorem dX3_lineRead_70 : decode cX3_lineRead 70 = .ok (.ishl, 1) := dk_120 (dk_at dksX3_lineRead_3 0 rfl rfl)
theorem dX3_lineRead_71 : decode cX3_lineRead 71 = .ok (.ior, 1) := dk_128 (dk_at dksX3_lineRead_3 1 rfl rfl)
theorem dX3_lineRead_72 : decode cX3_lineRead 72 = .ok (.putfield 157, 3) := dk_181 0 157 (dk_at dksX3_lineRead_3 2 rfl rfl)
theorem dX3_lineRead_75 : decode cX3_lineRead 75 = .ok (.aload_n 0, 1) := dk_42 (dk_at dksX3_lineRead_3 5 rfl rfl)
theorem dX3_lineRead_76 : decode cX3_lineRead 76 = .ok (.dup, 1) := dk_89 (dk_at dksX3_lineRead_3 6 rfl rfl)
theorem dX3_lineRead_77 : decode cX3_lineRead 77 = .ok (.getfield 90, 3) := dk_180 0 90 (dk_at dksX3_lineRead_3 7 rfl rfl)
theorem dX3_lineRead_80 : decode cX3_lineRead 80 = .ok (.aload_n 0, 1) := dk_42 (dk_at dksX3_lineRead_3 10 rfl rfl)
theorem dX3_lineRead_81 : decode cX3_lineRead 81 = .ok (.invokevirtual 119, 3) := dk_182 0 119 (dk_at dksX3_lineRead_3 11 rfl rfl)
theorem dX3_lineRead_84 : decode cX3_lineRead 84 = .ok (.iadd, 1) := dk_96 (dk_at dksX3_lineRead_3 14 rfl rfl)
theorem dX3_lineRead_85 : decode cX3_lineRead 85 = .ok (.putfield 90, 3) := dk_181 0 90 (dk_at dksX3_lineRead_3 15 rfl rfl)
theorem dX3_lineRead_88 : decode cX3_lineRead 88 = .ok (.aload_n 0, 1) := dk_42 (dk_at dksX3_lineRead_3 18 rfl rfl)
theorem dX3_lineRead_89 : decode cX3_lineRead 89 = .ok (.iload_n 1, 1) := dk_27 (dk_at dksX3_lineRead_3 19 rfl rfl)
theorem dX3_lineRead_90 : decode cX3_lineRead 90 = .ok (.invokevirtual 163, 3) := dk_182 0 163 (dk_at dksX3_lineRead_3 20 rfl rfl)
theorem dX3_lineRead_93 : decode cX3_lineRead 93 = .ok (.aload_n 0, 1) := dk_42 (dk_at dksX3_lineRead_3 23 rfl rfl)
theorem dX3_lineRead_94 : decode cX3_lineRead 94 = .ok (.getfield 96, 3) := dk_180 0 96 (dk_at dksX3_lineRead_4 0 rfl rfl)
theorem dX3_lineRead_97 : decode cX3_lineRead 97 = .ok (.ifCond .ne 21, 3) := dk_154 0 21 (dk_at dksX3_lineRead_4 3 rfl rfl)
theorem dX3_lineRead_100 : decode cX3_lineRead 100 = .ok (.aload_n 0, 1) := dk_42 (dk_at dksX3_lineRead_4 6 rfl rfl)
theorem dX3_lineRead_101 : decode cX3_lineRead 101 = .ok (.invokevirtual 115, 3) := dk_182 0 115 (dk_at dksX3_lineRead_4 7 rfl rfl)
theorem dX3_lineRead_104 : decode cX3_lineRead 104 = .ok (.bipush 59, 2) := dk_16 59 (dk_at dksX3_lineRead_4 10 rfl rfl)
theorem dX3_lineRead_106 : decode cX3_lineRead 106 = .ok (.if_icmp .eq 12, 3) := dk_159 0 12 (dk_at dksX3_lineRead_4 12 rfl rfl)
theorem dX3_lineRead_109 : decode cX3_lineRead 109 = .ok (.aload_n 0, 1) := dk_42 (dk_at dksX3_lineRead_4 15 rfl rfl)
theorem dX3_lineRead_110 : decode cX3_lineRead 110 = .ok (.iconst 1, 1) := dk_4 (dk_at dksX3_lineRead_4 16 rfl rfl)
theorem dX3_lineRead_111 : decode cX3_lineRead 111 = .ok (.aload_n 0, 1) := dk_42 (dk_at dksX3_lineRead_4 17 rfl rfl)
theorem dX3_lineRead_112 : decode cX3_lineRead 112 = .ok (.getfield 90, 3) := dk_180 0 90 (dk_at dksX3_lineRead_4 18 rfl rfl)
theorem dX3_lineRead_115 : decode cX3_lineRead 115 = .ok (.invokevirtual 136, 3) := dk_182 0 136 (dk_at dksX3_lineRead_4 21 rfl rfl)
theorem dX3_lineRead_118 : decode cX3_lineRead 118 = .ok (.aload_n 0, 1) := dk_42 (dk_at dksX3_lineRead_5 0 rfl rfl)
theorem dX3_lineRead_119 : decode cX3_lineRead 119 = .ok (.dup, 1) := dk_89 (dk_at dksX3_lineRead_5 1 rfl rfl)
theorem dX3_lineRead_120 : decode cX3_lineRead 120 = .ok (.getfield 90, 3) := dk_180 0 90 (dk_at dksX3_lineRead_5 2 rfl rfl)
theorem dX3_lineRead_123 : decode cX3_lineRead 123 = .ok (.iconst 1, 1) := dk_4 (dk_at dksX3_lineRead_5 5 rfl rfl)
theorem dX3_lineRead_124 : decode cX3_lineRead 124 = .ok (.iadd, 1) := dk_96 (dk_at dksX3_lineRead_5 6 rfl rfl)
theorem dX3_lineRead_125 : decode cX3_lineRead 125 = .ok (.putfield 90, 3) := dk_181 0 90 (dk_at dksX3_lineRead_5 7 rfl rfl)
theorem dX3_lineRead_128 : decode cX3_lineRead 128 = .ok (.return_, 1) := dk_177 (dk_at dksX3_lineRead_5 10 rfl rfl)
abbrev cX3_wordHere : ByteArray := prog_15_method_11_code
def yX3_wordHere : MethodName := ⟨RX3, "wordHere", "()I"⟩
def dkwX3_wordHere_6 : List UInt8 := [167, 255, 145, 2, 172]
abbrev dktX3_wordHere_6 : List UInt8 := dkwX3_wordHere_6 ++ []
def dkwX3_wordHere_5 : List UInt8 := [54, 5, 132, 6, 1, 167, 255, 211, 21, 5, 153, 0, 5, 28, 172, 132, 2, 1, 21, 4, 4, 96, 62]
abbrev dktX3_wordHere_5 : List UInt8 := dkwX3_wordHere_5 ++ dktX3_wordHere_6
def dkwX3_wordHere_4 : List UInt8 := [182, 0, 129, 42, 180, 0, 30, 42, 180, 0, 90, 21, 6, 96, 51, 160, 0, 7, 4, 167, 0, 4, 3]
abbrev dktX3_wordHere_4 : List UInt8 := dkwX3_wordHere_4 ++ dktX3_wordHere_5
def dkwX3_wordHere_3 : List UInt8 := [54, 5, 3, 54, 6, 21, 6, 27, 162, 0, 45, 21, 5, 153, 0, 40, 18, 122, 29, 21, 6, 96]
abbrev dktX3_wordHere_3 : List UInt8 := dkwX3_wordHere_3 ++ dktX3_wordHere_4
def dkwX3_wordHere_2 : List UInt8 := [16, 32, 159, 0, 9, 132, 4, 1, 167, 255, 241, 21, 4, 29, 100, 27, 160, 0, 7, 4, 167, 0, 4, 3]
abbrev dktX3_wordHere_2 : List UInt8 := dkwX3_wordHere_2 ++ dktX3_wordHere_3
def dkwX3_wordHere_1 : List UInt8 := [3, 61, 4, 62, 29, 18, 122, 182, 0, 124, 162, 0, 108, 29, 54, 4, 18, 122, 21, 4, 182, 0, 129]
abbrev dktX3_wordHere_1 : List UInt8 := dkwX3_wordHere_1 ++ dktX3_wordHere_2
def dkwX3_wordHere_0 : List UInt8 := [42, 180, 0, 96, 154, 0, 13, 42, 182, 0, 115, 184, 0, 111, 154, 0, 5, 2, 172, 42, 182, 0, 119, 60]
abbrev dktX3_wordHere_0 : List UInt8 := dkwX3_wordHere_0 ++ dktX3_wordHere_1
theorem dksX3_wordHere_0 : cX3_wordHere.data.toList.drop 0 = dktX3_wordHere_0 := by decide +kernel
theorem dksX3_wordHere_1 : cX3_wordHere.data.toList.drop 24 = dktX3_wordHere_1 := dk_seg dksX3_wordHere_0 24 rfl rfl
theorem dksX3_wordHere_2 : cX3_wordHere.data.toList.drop 47 = dktX3_wordHere_2 := dk_seg dksX3_wordHere_1 23 rfl rfl
theorem dksX3_wordHere_3 : cX3_wordHere.data.toList.drop 71 = dktX3_wordHere_3 := dk_seg dksX3_wordHere_2 24 rfl rfl
theorem dksX3_wordHere_4 : cX3_wordHere.data.toList.drop 93 = dktX3_wordHere_4 := dk_seg dksX3_wordHere_3 22 rfl rfl
theorem dksX3_wordHere_5 : cX3_wordHere.data.toList.drop 116 = dktX3_wordHere_5 := dk_seg dksX3_wordHere_4 23 rfl rfl
theorem dksX3_wordHere_6 : cX3_wordHere.data.toList.drop 139 = dktX3_wordHere_6 := dk_seg dksX3_wordHere_5 23 rfl rfl
theorem dX3_wordHere_0 : decode cX3_wordHere 0 = .ok (.aload_n 0, 1) := dk_42 (dk_at dksX3_wordHere_0 0 rfl rfl)
theorem dX3_wordHere_1 : decode cX3_wordHere 1 = .ok (.getfield 96, 3) := dk_180 0 96 (dk_at dksX3_wordHere_0 1 rfl rfl)
theorem dX3_wordHere_4 : decode cX3_wordHere 4 = .ok (.ifCond .ne 13, 3) := dk_154 0 13 (dk_at dksX3_wordHere_0 4 rfl rfl)
theorem dX3_wordHere_7 : decode cX3_wordHere 7 = .ok (.aload_n 0, 1) := dk_42 (dk_at dksX3_wordHere_0 7 rfl rfl)
theorem dX3_wordHere_8 : decode cX3_wordHere 8 = .ok (.invokevirtual 115, 3) := dk_182 0 115 (dk_at dksX3_wordHere_0 8 rfl rfl)
theorem dX3_wordHere_11 : decode cX3_wordHere 11 = .ok (.invokestatic 111, 3) := dk_184 0 111 (dk_at dksX3_wordHere_0 11 rfl rfl)
theorem dX3_wordHere_14 : decode cX3_wordHere 14 = .ok (.ifCond .ne 5, 3) := dk_154 0 5 (dk_at dksX3_wordHere_0 14 rfl rfl)
theorem dX3_wordHere_17 : decode cX3_wordHere 17 = .ok (.iconst (-1), 1) := dk_2 (dk_at dksX3_wordHere_0 17 rfl rfl)
theorem dX3_wordHere_18 : decode cX3_wordHere 18 = .ok (.ireturn, 1) := dk_172 (dk_at dksX3_wordHere_0 18 rfl rfl)
theorem dX3_wordHere_19 : decode cX3_wordHere 19 = .ok (.aload_n 0, 1) := dk_42 (dk_at dksX3_wordHere_0 19 rfl rfl)
theorem dX3_wordHere_20 : decode cX3_wordHere 20 = .ok (.invokevirtual 119, 3) := dk_182 0 119 (dk_at dksX3_wordHere_0 20 rfl rfl)
theorem dX3_wordHere_23 : decode cX3_wordHere 23 = .ok (.istore_n 1, 1) := dk_60 (dk_at dksX3_wordHere_0 23 rfl rfl)
theorem dX3_wordHere_24 : decode cX3_wordHere 24 = .ok (.iconst 0, 1) := dk_3 (dk_at dksX3_wordHere_1 0 rfl rfl)
theorem dX3_wordHere_25 : decode cX3_wordHere 25 = .ok (.istore_n 2, 1) := dk_61 (dk_at dksX3_wordHere_1 1 rfl rfl)
theorem dX3_wordHere_26 : decode cX3_wordHere 26 = .ok (.iconst 1, 1) := dk_4 (dk_at dksX3_wordHere_1 2 rfl rfl)
theorem dX3_wordHere_27 : decode cX3_wordHere 27 = .ok (.istore_n 3, 1) := dk_62 (dk_at dksX3_wordHere_1 3 rfl rfl)
theorem dX3_wordHere_28 : decode cX3_wordHere 28 = .ok (.iload_n 3, 1) := dk_29 (dk_at dksX3_wordHere_1 4 rfl rfl)
theorem dX3_wordHere_29 : decode cX3_wordHere 29 = .ok (.ldc 122, 2) := dk_18 122 (dk_at dksX3_wordHere_1 5 rfl rfl)
theorem dX3_wordHere_31 : decode cX3_wordHere 31 = .ok (.invokevirtual 124, 3) := dk_182 0 124 (dk_at dksX3_wordHere_1 7 rfl rfl)
theorem dX3_wordHere_34 : decode cX3_wordHere 34 = .ok (.if_icmp .ge 108, 3) := dk_162 0 108 (dk_at dksX3_wordHere_1 10 rfl rfl)
theorem dX3_wordHere_37 : decode cX3_wordHere 37 = .ok (.iload_n 3, 1) := dk_29 (dk_at dksX3_wordHere_1 13 rfl rfl)
theorem dX3_wordHere_38 : decode cX3_wordHere 38 = .ok (.istore 4, 2) := dk_54 4 (dk_at dksX3_wordHere_1 14 rfl rfl)
theorem dX3_wordHere_40 : decode cX3_wordHere 40 = .ok (.ldc 122, 2) := dk_18 122 (dk_at dksX3_wordHere_1 16 rfl rfl)
theorem dX3_wordHere_42 : decode cX3_wordHere 42 = .ok (.iload 4, 2) := dk_21 4 (dk_at dksX3_wordHere_1 18 rfl rfl)
theorem dX3_wordHere_44 : decode cX3_wordHere 44 = .ok (.invokevirtual 129, 3) := dk_182 0 129 (dk_at dksX3_wordHere_1 20 rfl rfl)
theorem dX3_wordHere_47 : decode cX3_wordHere 47 = .ok (.bipush 32, 2) := dk_16 32 (dk_at dksX3_wordHere_2 0 rfl rfl)
theorem dX3_wordHere_49 : decode cX3_wordHere 49 = .ok (.if_icmp .eq 9, 3) := dk_159 0 9 (dk_at dksX3_wordHere_2 2 rfl rfl)
theorem dX3_wordHere_52 : decode cX3_wordHere 52 = .ok (.iinc 4 1, 3) := dk_132 4 1 (dk_at dksX3_wordHere_2 5 rfl rfl)
theorem dX3_wordHere_55 : decode cX3_wordHere 55 = .ok (.goto (-15), 3) := dk_167 255 241 (dk_at dksX3_wordHere_2 8 rfl rfl)
theorem dX3_wordHere_58 : decode cX3_wordHere 58 = .ok (.iload 4, 2) := dk_21 4 (dk_at dksX3_wordHere_2 11 rfl rfl)
theorem dX3_wordHere_60 : decode cX3_wordHere 60 = .ok (.iload_n 3, 1) := dk_29 (dk_at dksX3_wordHere_2 13 rfl rfl)
theorem dX3_wordHere_61 : decode cX3_wordHere 61 = .ok (.isub, 1) := dk_100 (dk_at dksX3_wordHere_2 14 rfl rfl)
theorem dX3_wordHere_62 : decode cX3_wordHere 62 = .ok (.iload_n 1, 1) := dk_27 (dk_at dksX3_wordHere_2 15 rfl rfl)
theorem dX3_wordHere_63 : decode cX3_wordHere 63 = .ok (.if_icmp .ne 7, 3) := dk_160 0 7 (dk_at dksX3_wordHere_2 16 rfl rfl)
theorem dX3_wordHere_66 : decode cX3_wordHere 66 = .ok (.iconst 1, 1) := dk_4 (dk_at dksX3_wordHere_2 19 rfl rfl)
theorem dX3_wordHere_67 : decode cX3_wordHere 67 = .ok (.goto 4, 3) := dk_167 0 4 (dk_at dksX3_wordHere_2 20 rfl rfl)
theorem dX3_wordHere_70 : decode cX3_wordHere 70 = .ok (.iconst 0, 1) := dk_3 (dk_at dksX3_wordHere_2 23 rfl rfl)
theorem dX3_wordHere_71 : decode cX3_wordHere 71 = .ok (.istore 5, 2) := dk_54 5 (dk_at dksX3_wordHere_3 0 rfl rfl)
theorem dX3_wordHere_73 : decode cX3_wordHere 73 = .ok (.iconst 0, 1) := dk_3 (dk_at dksX3_wordHere_3 2 rfl rfl)
theorem dX3_wordHere_74 : decode cX3_wordHere 74 = .ok (.istore 6, 2) := dk_54 6 (dk_at dksX3_wordHere_3 3 rfl rfl)
theorem dX3_wordHere_76 : decode cX3_wordHere 76 = .ok (.iload 6, 2) := dk_21 6 (dk_at dksX3_wordHere_3 5 rfl rfl)
theorem dX3_wordHere_78 : decode cX3_wordHere 78 = .ok (.iload_n 1, 1) := dk_27 (dk_at dksX3_wordHere_3 7 rfl rfl)
theorem dX3_wordHere_79 : decode cX3_wordHere 79 = .ok (.if_icmp .ge 45, 3) := dk_162 0 45 (dk_at dksX3_wordHere_3 8 rfl rfl)
theorem dX3_wordHere_82 : decode cX3_wordHere 82 = .ok (.iload 5, 2) := dk_21 5 (dk_at dksX3_wordHere_3 11 rfl rfl)
theorem dX3_wordHere_84 : decode cX3_wordHere 84 = .ok (.ifCond .eq 40, 3) := dk_153 0 40 (dk_at dksX3_wordHere_3 13 rfl rfl)
theorem dX3_wordHere_87 : decode cX3_wordHere 87 = .ok (.ldc 122, 2) := dk_18 122 (dk_at dksX3_wordHere_3 16 rfl rfl)
theorem dX3_wordHere_89 : decode cX3_wordHere 89 = .ok (.iload_n 3, 1) := dk_29 (dk_at dksX3_wordHere_3 18 rfl rfl)
theorem dX3_wordHere_90 : decode cX3_wordHere 90 = .ok (.iload 6, 2) := dk_21 6 (dk_at dksX3_wordHere_3 19 rfl rfl)
theorem dX3_wordHere_92 : decode cX3_wordHere 92 = .ok (.iadd, 1) := dk_96 (dk_at dksX3_wordHere_3 21 rfl rfl)
theorem dX3_wordHere_93 : decode cX3_wordHere 93 = .ok (.invokevirtual 129, 3) := dk_182 0 129 (dk_at dksX3_wordHere_4 0 rfl rfl)
theorem dX3_wordHere_96 : decode cX3_wordHere 96 = .ok (.aload_n 0, 1) := dk_42 (dk_at dksX3_wordHere_4 3 rfl rfl)
theorem dX3_wordHere_97 : decode cX3_wordHere 97 = .ok (.getfield 30, 3) := dk_180 0 30 (dk_at dksX3_wordHere_4 4 rfl rfl)
theorem dX3_wordHere_100 : decode cX3_wordHere 100 = .ok (.aload_n 0, 1) := dk_42 (dk_at dksX3_wordHere_4 7 rfl rfl)
theorem dX3_wordHere_101 : decode cX3_wordHere 101 = .ok (.getfield 90, 3) := dk_180 0 90 (dk_at dksX3_wordHere_4 8 rfl rfl)
theorem dX3_wordHere_104 : decode cX3_wordHere 104 = .ok (.iload 6, 2) := dk_21 6 (dk_at dksX3_wordHere_4 11 rfl rfl)
theorem dX3_wordHere_106 : decode cX3_wordHere 106 = .ok (.iadd, 1) := dk_96 (dk_at dksX3_wordHere_4 13 rfl rfl)
theorem dX3_wordHere_107 : decode cX3_wordHere 107 = .ok (.baload, 1) := dk_51 (dk_at dksX3_wordHere_4 14 rfl rfl)
theorem dX3_wordHere_108 : decode cX3_wordHere 108 = .ok (.if_icmp .ne 7, 3) := dk_160 0 7 (dk_at dksX3_wordHere_4 15 rfl rfl)
theorem dX3_wordHere_111 : decode cX3_wordHere 111 = .ok (.iconst 1, 1) := dk_4 (dk_at dksX3_wordHere_4 18 rfl rfl)
theorem dX3_wordHere_112 : decode cX3_wordHere 112 = .ok (.goto 4, 3) := dk_167 0 4 (dk_at dksX3_wordHere_4 19 rfl rfl)
theorem dX3_wordHere_115 : decode cX3_wordHere 115 = .ok (.iconst 0, 1) := dk_3 (dk_at dksX3_wordHere_4 22 rfl rfl)
theorem dX3_wordHere_116 : decode cX3_wordHere 116 = .ok (.istore 5, 2) := dk_54 5 (dk_at dksX3_wordHere_5 0 rfl rfl)
theorem dX3_wordHere_118 : decode cX3_wordHere 118 = .ok (.iinc 6 1, 3) := dk_132 6 1 (dk_at dksX3_wordHere_5 2 rfl rfl)
theorem dX3_wordHere_121 : decode cX3_wordHere 121 = .ok (.goto (-45), 3) := dk_167 255 211 (dk_at dksX3_wordHere_5 5 rfl rfl)
theorem dX3_wordHere_124 : decode cX3_wordHere 124 = .ok (.iload 5, 2) := dk_21 5 (dk_at dksX3_wordHere_5 8 rfl rfl)
theorem dX3_wordHere_126 : decode cX3_wordHere 126 = .ok (.ifCond .eq 5, 3) := dk_153 0 5 (dk_at dksX3_wordHere_5 10 rfl rfl)
theorem dX3_wordHere_129 : decode cX3_wordHere 129 = .ok (.iload_n 2, 1) := dk_28 (dk_at dksX3_wordHere_5 13 rfl rfl)
theorem dX3_wordHere_130 : decode cX3_wordHere 130 = .ok (.ireturn, 1) := dk_172 (dk_at dksX3_wordHere_5 14 rfl rfl)
theorem dX3_wordHere_131 : decode cX3_wordHere 131 = .ok (.iinc 2 1, 3) := dk_132 2 1 (dk_at dksX3_wordHere_5 15 rfl rfl)
theorem dX3_wordHere_134 : decode cX3_wordHere 134 = .ok (.iload 4, 2) := dk_21 4 (dk_at dksX3_wordHere_5 18 rfl rfl)
theorem dX3_wordHere_136 : decode cX3_wordHere 136 = .ok (.iconst 1, 1) := dk_4 (dk_at dksX3_wordHere_5 20 rfl rfl)
theorem dX3_wordHere_137 : decode cX3_wordHere 137 = .ok (.iadd, 1) := dk_96 (dk_at dksX3_wordHere_5 21 rfl rfl)
theorem dX3_wordHere_138 : decode cX3_wordHere 138 = .ok (.istore_n 3, 1) := dk_62 (dk_at dksX3_wordHere_5 22 rfl rfl)
theorem dX3_wordHere_139 : decode cX3_wordHere 139 = .ok (.goto (-111), 3) := dk_167 255 145 (dk_at dksX3_wordHere_6 0 rfl rfl)
theorem dX3_wordHere_142 : decode cX3_wordHere 142 = .ok (.iconst (-1), 1) := dk_2 (dk_at dksX3_wordHere_6 3 rfl rfl)
theorem dX3_wordHere_143 : decode cX3_wordHere 143 = .ok (.ireturn, 1) := dk_172 (dk_at dksX3_wordHere_6 4 rfl rfl)
abbrev cX3_isLetter : ByteArray := prog_15_method_8_code
def yX3_isLetter : MethodName := ⟨RX3, "isLetter", "(I)Z"⟩
def dkwX3_isLetter_0 : List UInt8 := [26, 133, 20, 0, 99, 20, 0, 101, 184, 0, 103, 172]
abbrev dktX3_isLetter_0 : List UInt8 := dkwX3_isLetter_0 ++ []
theorem dksX3_isLetter_0 : cX3_isLetter.data.toList.drop 0 = dktX3_isLetter_0 := by decide +kernel
theorem dX3_isLetter_0 : decode cX3_isLetter 0 = .ok (.iload_n 0, 1) := dk_26 (dk_at dksX3_isLetter_0 0 rfl rfl)
theorem dX3_isLetter_1 : decode cX3_isLetter 1 = .ok (.i2l, 1) := dk_133 (dk_at dksX3_isLetter_0 1 rfl rfl)
theorem dX3_isLetter_2 : decode cX3_isLetter 2 = .ok (.ldc2_w 99, 3) := dk_20 0 99 (dk_at dksX3_isLetter_0 2 rfl rfl)
theorem dX3_isLetter_5 : decode cX3_isLetter 5 = .ok (.ldc2_w 101, 3) := dk_20 0 101 (dk_at dksX3_isLetter_0 5 rfl rfl)
theorem dX3_isLetter_8 : decode cX3_isLetter 8 = .ok (.invokestatic 103, 3) := dk_184 0 103 (dk_at dksX3_isLetter_0 8 rfl rfl)
theorem dX3_isLetter_11 : decode cX3_isLetter 11 = .ok (.ireturn, 1) := dk_172 (dk_at dksX3_isLetter_0 11 rfl rfl)
abbrev cX3_lettersHere : ByteArray := prog_15_method_10_code
def yX3_lettersHere : MethodName := ⟨RX3, "lettersHere", "()I"⟩
def dkwX3_lettersHere_1 : List UInt8 := [96, 51, 184, 0, 111, 153, 0, 9, 132, 1, 1, 167, 255, 223, 27, 172]
abbrev dktX3_lettersHere_1 : List UInt8 := dkwX3_lettersHere_1 ++ []
def dkwX3_lettersHere_0 : List UInt8 := [3, 60, 42, 180, 0, 90, 27, 96, 42, 180, 0, 93, 162, 0, 26, 42, 180, 0, 30, 42, 180, 0, 90, 27]
abbrev dktX3_lettersHere_0 : List UInt8 := dkwX3_lettersHere_0 ++ dktX3_lettersHere_1
theorem dksX3_lettersHere_0 : cX3_lettersHere.data.toList.drop 0 = dktX3_lettersHere_0 := by decide +kernel
theorem dksX3_lettersHere_1 : cX3_lettersHere.data.toList.drop 24 = dktX3_lettersHere_1 := dk_seg dksX3_lettersHere_0 24 rfl rfl
theorem dX3_lettersHere_0 : decode cX3_lettersHere 0 = .ok (.iconst 0, 1) := dk_3 (dk_at dksX3_lettersHere_0 0 rfl rfl)
theorem dX3_lettersHere_1 : decode cX3_lettersHere 1 = .ok (.istore_n 1, 1) := dk_60 (dk_at dksX3_lettersHere_0 1 rfl rfl)
theorem dX3_lettersHere_2 : decode cX3_lettersHere 2 = .ok (.aload_n 0, 1) := dk_42 (dk_at dksX3_lettersHere_0 2 rfl rfl)
theorem dX3_lettersHere_3 : decode cX3_lettersHere 3 = .ok (.getfield 90, 3) := dk_180 0 90 (dk_at dksX3_lettersHere_0 3 rfl rfl)
theorem dX3_lettersHere_6 : decode cX3_lettersHere 6 = .ok (.iload_n 1, 1) := dk_27 (dk_at dksX3_lettersHere_0 6 rfl rfl)
theorem dX3_lettersHere_7 : decode cX3_lettersHere 7 = .ok (.iadd, 1) := dk_96 (dk_at dksX3_lettersHere_0 7 rfl rfl)
theorem dX3_lettersHere_8 : decode cX3_lettersHere 8 = .ok (.aload_n 0, 1) := dk_42 (dk_at dksX3_lettersHere_0 8 rfl rfl)
theorem dX3_lettersHere_9 : decode cX3_lettersHere 9 = .ok (.getfield 93, 3) := dk_180 0 93 (dk_at dksX3_lettersHere_0 9 rfl rfl)
theorem dX3_lettersHere_12 : decode cX3_lettersHere 12 = .ok (.if_icmp .ge 26, 3) := dk_162 0 26 (dk_at dksX3_lettersHere_0 12 rfl rfl)
theorem dX3_lettersHere_15 : decode cX3_lettersHere 15 = .ok (.aload_n 0, 1) := dk_42 (dk_at dksX3_lettersHere_0 15 rfl rfl)
theorem dX3_lettersHere_16 : decode cX3_lettersHere 16 = .ok (.getfield 30, 3) := dk_180 0 30 (dk_at dksX3_lettersHere_0 16 rfl rfl)
theorem dX3_lettersHere_19 : decode cX3_lettersHere 19 = .ok (.aload_n 0, 1) := dk_42 (dk_at dksX3_lettersHere_0 19 rfl rfl)
theorem dX3_lettersHere_20 : decode cX3_lettersHere 20 = .ok (.getfield 90, 3) := dk_180 0 90 (dk_at dksX3_lettersHere_0 20 rfl rfl)
theorem dX3_lettersHere_23 : decode cX3_lettersHere 23 = .ok (.iload_n 1, 1) := dk_27 (dk_at dksX3_lettersHere_0 23 rfl rfl)
theorem dX3_lettersHere_24 : decode cX3_lettersHere 24 = .ok (.iadd, 1) := dk_96 (dk_at dksX3_lettersHere_1 0 rfl rfl)
theorem dX3_lettersHere_25 : decode cX3_lettersHere 25 = .ok (.baload, 1) := dk_51 (dk_at dksX3_lettersHere_1 1 rfl rfl)
theorem dX3_lettersHere_26 : decode cX3_lettersHere 26 = .ok (.invokestatic 111, 3) := dk_184 0 111 (dk_at dksX3_lettersHere_1 2 rfl rfl)
theorem dX3_lettersHere_29 : decode cX3_lettersHere 29 = .ok (.ifCond .eq 9, 3) := dk_153 0 9 (dk_at dksX3_lettersHere_1 5 rfl rfl)
theorem dX3_lettersHere_32 : decode cX3_lettersHere 32 = .ok (.iinc 1 1, 3) := dk_132 1 1 (dk_at dksX3_lettersHere_1 8 rfl rfl)
theorem dX3_lettersHere_35 : decode cX3_lettersHere 35 = .ok (.goto (-33), 3) := dk_167 255 223 (dk_at dksX3_lettersHere_1 11 rfl rfl)
theorem dX3_lettersHere_38 : decode cX3_lettersHere 38 = .ok (.iload_n 1, 1) := dk_27 (dk_at dksX3_lettersHere_1 14 rfl rfl)
theorem dX3_lettersHere_39 : decode cX3_lettersHere 39 = .ok (.ireturn, 1) := dk_172 (dk_at dksX3_lettersHere_1 15 rfl rfl)
abbrev cX3_fails : ByteArray := prog_15_method_7_code
def yX3_fails : MethodName := ⟨RX3, "fails", "(II)V"⟩
def dkwX3_fails_0 : List UInt8 := [42, 180, 0, 96, 153, 0, 4, 177, 42, 27, 181, 0, 96, 42, 28, 181, 0, 34, 177]
abbrev dktX3_fails_0 : List UInt8 := dkwX3_fails_0 ++ []
theorem dksX3_fails_0 : cX3_fails.data.toList.drop 0 = dktX3_fails_0 := by decide +kernel
theorem dX3_fails_0 : decode cX3_fails 0 = .ok (.aload_n 0, 1) := dk_42 (dk_at dksX3_fails_0 0 rfl rfl)
theorem dX3_fails_1 : decode cX3_fails 1 = .ok (.getfield 96, 3) := dk_180 0 96 (dk_at dksX3_fails_0 1 rfl rfl)
theorem dX3_fails_4 : decode cX3_fails 4 = .ok (.ifCond .eq 4, 3) := dk_153 0 4 (dk_at dksX3_fails_0 4 rfl rfl)
theorem dX3_fails_7 : decode cX3_fails 7 = .ok (.return_, 1) := dk_177 (dk_at dksX3_fails_0 7 rfl rfl)
theorem dX3_fails_8 : decode cX3_fails 8 = .ok (.aload_n 0, 1) := dk_42 (dk_at dksX3_fails_0 8 rfl rfl)
theorem dX3_fails_9 : decode cX3_fails 9 = .ok (.iload_n 1, 1) := dk_27 (dk_at dksX3_fails_0 9 rfl rfl)
theorem dX3_fails_10 : decode cX3_fails 10 = .ok (.putfield 96, 3) := dk_181 0 96 (dk_at dksX3_fails_0 10 rfl rfl)
theorem dX3_fails_13 : decode cX3_fails 13 = .ok (.aload_n 0, 1) := dk_42 (dk_at dksX3_fails_0 13 rfl rfl)
theorem dX3_fails_14 : decode cX3_fails 14 = .ok (.iload_n 2, 1) := dk_28 (dk_at dksX3_fails_0 14 rfl rfl)
theorem dX3_fails_15 : decode cX3_fails 15 = .ok (.putfield 34, 3) := dk_181 0 34 (dk_at dksX3_fails_0 15 rfl rfl)
theorem dX3_fails_18 : decode cX3_fails 18 = .ok (.return_, 1) := dk_177 (dk_at dksX3_fails_0 18 rfl rfl)
abbrev cX3_isFull : ByteArray := prog_15_method_19_code
def yX3_isFull : MethodName := ⟨RX3, "isFull", "(I)Z"⟩
def dkwX3_isFull_2 : List UInt8 := [172]
abbrev dktX3_isFull_2 : List UInt8 := dkwX3_isFull_2 ++ []
def dkwX3_isFull_1 : List UInt8 := [159, 0, 19, 27, 5, 160, 0, 18, 42, 180, 0, 13, 3, 46, 16, 40, 160, 0, 7, 4, 167, 0, 4, 3]
abbrev dktX3_isFull_1 : List UInt8 := dkwX3_isFull_1 ++ dktX3_isFull_2
def dkwX3_isFull_0 : List UInt8 := [27, 154, 0, 12, 42, 180, 0, 80, 16, 8, 159, 0, 32, 27, 4, 160, 0, 11, 42, 180, 0, 83, 7]
abbrev dktX3_isFull_0 : List UInt8 := dkwX3_isFull_0 ++ dktX3_isFull_1
theorem dksX3_isFull_0 : cX3_isFull.data.toList.drop 0 = dktX3_isFull_0 := by decide +kernel
theorem dksX3_isFull_1 : cX3_isFull.data.toList.drop 23 = dktX3_isFull_1 := dk_seg dksX3_isFull_0 23 rfl rfl
theorem dksX3_isFull_2 : cX3_isFull.data.toList.drop 47 = dktX3_isFull_2 := dk_seg dksX3_isFull_1 24 rfl rfl
theorem dX3_isFull_0 : decode cX3_isFull 0 = .ok (.iload_n 1, 1) := dk_27 (dk_at dksX3_isFull_0 0 rfl rfl)
theorem dX3_isFull_1 : decode cX3_isFull 1 = .ok (.ifCond .ne 12, 3) := dk_154 0 12 (dk_at dksX3_isFull_0 1 rfl rfl)
theorem dX3_isFull_4 : decode cX3_isFull 4 = .ok (.aload_n 0, 1) := dk_42 (dk_at dksX3_isFull_0 4 rfl rfl)
theorem dX3_isFull_5 : decode cX3_isFull 5 = .ok (.getfield 80, 3) := dk_180 0 80 (dk_at dksX3_isFull_0 5 rfl rfl)
theorem dX3_isFull_8 : decode cX3_isFull 8 = .ok (.bipush 8, 2) := dk_16 8 (dk_at dksX3_isFull_0 8 rfl rfl)
theorem dX3_isFull_10 : decode cX3_isFull 10 = .ok (.if_icmp .eq 32, 3) := dk_159 0 32 (dk_at dksX3_isFull_0 10 rfl rfl)
theorem dX3_isFull_13 : decode cX3_isFull 13 = .ok (.iload_n 1, 1) := dk_27 (dk_at dksX3_isFull_0 13 rfl rfl)
theorem dX3_isFull_14 : decode cX3_isFull 14 = .ok (.iconst 1, 1) := dk_4 (dk_at dksX3_isFull_0 14 rfl rfl)
theorem dX3_isFull_15 : decode cX3_isFull 15 = .ok (.if_icmp .ne 11, 3) := dk_160 0 11 (dk_at dksX3_isFull_0 15 rfl rfl)
theorem dX3_isFull_18 : decode cX3_isFull 18 = .ok (.aload_n 0, 1) := dk_42 (dk_at dksX3_isFull_0 18 rfl rfl)
theorem dX3_isFull_19 : decode cX3_isFull 19 = .ok (.getfield 83, 3) := dk_180 0 83 (dk_at dksX3_isFull_0 19 rfl rfl)
theorem dX3_isFull_22 : decode cX3_isFull 22 = .ok (.iconst 4, 1) := dk_7 (dk_at dksX3_isFull_0 22 rfl rfl)
theorem dX3_isFull_23 : decode cX3_isFull 23 = .ok (.if_icmp .eq 19, 3) := dk_159 0 19 (dk_at dksX3_isFull_1 0 rfl rfl)
theorem dX3_isFull_26 : decode cX3_isFull 26 = .ok (.iload_n 1, 1) := dk_27 (dk_at dksX3_isFull_1 3 rfl rfl)
theorem dX3_isFull_27 : decode cX3_isFull 27 = .ok (.iconst 2, 1) := dk_5 (dk_at dksX3_isFull_1 4 rfl rfl)
theorem dX3_isFull_28 : decode cX3_isFull 28 = .ok (.if_icmp .ne 18, 3) := dk_160 0 18 (dk_at dksX3_isFull_1 5 rfl rfl)
theorem dX3_isFull_31 : decode cX3_isFull 31 = .ok (.aload_n 0, 1) := dk_42 (dk_at dksX3_isFull_1 8 rfl rfl)
theorem dX3_isFull_32 : decode cX3_isFull 32 = .ok (.getfield 13, 3) := dk_180 0 13 (dk_at dksX3_isFull_1 9 rfl rfl)
theorem dX3_isFull_35 : decode cX3_isFull 35 = .ok (.iconst 0, 1) := dk_3 (dk_at dksX3_isFull_1 12 rfl rfl)
theorem dX3_isFull_36 : decode cX3_isFull 36 = .ok (.iaload, 1) := dk_46 (dk_at dksX3_isFull_1 13 rfl rfl)
theorem dX3_isFull_37 : decode cX3_isFull 37 = .ok (.bipush 40, 2) := dk_16 40 (dk_at dksX3_isFull_1 14 rfl rfl)
theorem dX3_isFull_39 : decode cX3_isFull 39 = .ok (.if_icmp .ne 7, 3) := dk_160 0 7 (dk_at dksX3_isFull_1 16 rfl rfl)
theorem dX3_isFull_42 : decode cX3_isFull 42 = .ok (.iconst 1, 1) := dk_4 (dk_at dksX3_isFull_1 19 rfl rfl)
theorem dX3_isFull_43 : decode cX3_isFull 43 = .ok (.goto 4, 3) := dk_167 0 4 (dk_at dksX3_isFull_1 20 rfl rfl)
theorem dX3_isFull_46 : decode cX3_isFull 46 = .ok (.iconst 0, 1) := dk_3 (dk_at dksX3_isFull_1 23 rfl rfl)
theorem dX3_isFull_47 : decode cX3_isFull 47 = .ok (.ireturn, 1) := dk_172 (dk_at dksX3_isFull_2 0 rfl rfl)
abbrev cX3_behind : ByteArray := prog_15_method_21_code
def yX3_behind : MethodName := ⟨RX3, "behind", "(I)V"⟩
def dkwX3_behind_7 : List UInt8 := [27, 182, 0, 177, 177]
abbrev dktX3_behind_7 : List UInt8 := dkwX3_behind_7 ++ []
def dkwX3_behind_6 : List UInt8 := [167, 0, 28, 27, 8, 160, 0, 18, 42, 180, 0, 13, 4, 42, 3, 6, 182, 0, 170, 79, 167, 0, 8, 42]
abbrev dktX3_behind_6 : List UInt8 := dkwX3_behind_6 ++ dktX3_behind_7
def dkwX3_behind_5 : List UInt8 := [182, 0, 136, 42, 180, 0, 96, 154, 0, 16, 42, 180, 0, 13, 5, 8, 28, 104, 96, 7, 96, 4, 79]
abbrev dktX3_behind_5 : List UInt8 := dkwX3_behind_5 ++ dktX3_behind_6
def dkwX3_behind_4 : List UInt8 := [61, 42, 180, 0, 96, 154, 0, 22, 42, 28, 7, 182, 0, 174, 4, 160, 0, 12, 42, 8, 42, 180, 0, 140]
abbrev dktX3_behind_4 : List UInt8 := dkwX3_behind_4 ++ dktX3_behind_5
def dkwX3_behind_3 : List UInt8 := [181, 0, 83, 167, 0, 96, 27, 6, 160, 0, 66, 42, 3, 42, 180, 0, 13, 3, 46, 4, 100, 182, 0, 170]
abbrev dktX3_behind_3 : List UInt8 := dkwX3_behind_3 ++ dktX3_behind_4
def dkwX3_behind_2 : List UInt8 := [96, 182, 0, 167, 42, 89, 180, 0, 83, 42, 180, 0, 96, 154, 0, 7, 4, 167, 0, 4, 3, 96]
abbrev dktX3_behind_2 : List UInt8 := dkwX3_behind_2 ++ dktX3_behind_3
def dkwX3_behind_1 : List UInt8 := [4, 167, 0, 4, 3, 96, 181, 0, 80, 167, 0, 136, 27, 4, 160, 0, 38, 42, 16, 8, 42, 180, 0, 83]
abbrev dktX3_behind_1 : List UInt8 := dkwX3_behind_1 ++ dktX3_behind_2
def dkwX3_behind_0 : List UInt8 := [27, 154, 0, 35, 42, 42, 180, 0, 80, 182, 0, 167, 42, 89, 180, 0, 80, 42, 180, 0, 96, 154, 0, 7]
abbrev dktX3_behind_0 : List UInt8 := dkwX3_behind_0 ++ dktX3_behind_1
theorem dksX3_behind_0 : cX3_behind.data.toList.drop 0 = dktX3_behind_0 := by decide +kernel
theorem dksX3_behind_1 : cX3_behind.data.toList.drop 24 = dktX3_behind_1 := dk_seg dksX3_behind_0 24 rfl rfl
theorem dksX3_behind_2 : cX3_behind.data.toList.drop 48 = dktX3_behind_2 := dk_seg dksX3_behind_1 24 rfl rfl
theorem dksX3_behind_3 : cX3_behind.data.toList.drop 70 = dktX3_behind_3 := dk_seg dksX3_behind_2 22 rfl rfl
theorem dksX3_behind_4 : cX3_behind.data.toList.drop 94 = dktX3_behind_4 := dk_seg dksX3_behind_3 24 rfl rfl
theorem dksX3_behind_5 : cX3_behind.data.toList.drop 118 = dktX3_behind_5 := dk_seg dksX3_behind_4 24 rfl rfl
theorem dksX3_behind_6 : cX3_behind.data.toList.drop 141 = dktX3_behind_6 := dk_seg dksX3_behind_5 23 rfl rfl
theorem dksX3_behind_7 : cX3_behind.data.toList.drop 165 = dktX3_behind_7 := dk_seg dksX3_behind_6 24 rfl rfl
theorem dX3_behind_0 : decode cX3_behind 0 = .ok (.iload_n 1, 1) := dk_27 (dk_at dksX3_behind_0 0 rfl rfl)
theorem dX3_behind_1 : decode cX3_behind 1 = .ok (.ifCond .ne 35, 3) := dk_154 0 35 (dk_at dksX3_behind_0 1 rfl rfl)
theorem dX3_behind_4 : decode cX3_behind 4 = .ok (.aload_n 0, 1) := dk_42 (dk_at dksX3_behind_0 4 rfl rfl)
theorem dX3_behind_5 : decode cX3_behind 5 = .ok (.aload_n 0, 1) := dk_42 (dk_at dksX3_behind_0 5 rfl rfl)
theorem dX3_behind_6 : decode cX3_behind 6 = .ok (.getfield 80, 3) := dk_180 0 80 (dk_at dksX3_behind_0 6 rfl rfl)
theorem dX3_behind_9 : decode cX3_behind 9 = .ok (.invokevirtual 167, 3) := dk_182 0 167 (dk_at dksX3_behind_0 9 rfl rfl)
theorem dX3_behind_12 : decode cX3_behind 12 = .ok (.aload_n 0, 1) := dk_42 (dk_at dksX3_behind_0 12 rfl rfl)
theorem dX3_behind_13 : decode cX3_behind 13 = .ok (.dup, 1) := dk_89 (dk_at dksX3_behind_0 13 rfl rfl)
theorem dX3_behind_14 : decode cX3_behind 14 = .ok (.getfield 80, 3) := dk_180 0 80 (dk_at dksX3_behind_0 14 rfl rfl)
theorem dX3_behind_17 : decode cX3_behind 17 = .ok (.aload_n 0, 1) := dk_42 (dk_at dksX3_behind_0 17 rfl rfl)
theorem dX3_behind_18 : decode cX3_behind 18 = .ok (.getfield 96, 3) := dk_180 0 96 (dk_at dksX3_behind_0 18 rfl rfl)
theorem dX3_behind_21 : decode cX3_behind 21 = .ok (.ifCond .ne 7, 3) := dk_154 0 7 (dk_at dksX3_behind_0 21 rfl rfl)
theorem dX3_behind_24 : decode cX3_behind 24 = .ok (.iconst 1, 1) := dk_4 (dk_at dksX3_behind_1 0 rfl rfl)
theorem dX3_behind_25 : decode cX3_behind 25 = .ok (.goto 4, 3) := dk_167 0 4 (dk_at dksX3_behind_1 1 rfl rfl)
theorem dX3_behind_28 : decode cX3_behind 28 = .ok (.iconst 0, 1) := dk_3 (dk_at dksX3_behind_1 4 rfl rfl)
theorem dX3_behind_29 : decode cX3_behind 29 = .ok (.iadd, 1) := dk_96 (dk_at dksX3_behind_1 5 rfl rfl)
theorem dX3_behind_30 : decode cX3_behind 30 = .ok (.putfield 80, 3) := dk_181 0 80 (dk_at dksX3_behind_1 6 rfl rfl)
theorem dX3_behind_33 : decode cX3_behind 33 = .ok (.goto 136, 3) := dk_167 0 136 (dk_at dksX3_behind_1 9 rfl rfl)
theorem dX3_behind_36 : decode cX3_behind 36 = .ok (.iload_n 1, 1) := dk_27 (dk_at dksX3_behind_1 12 rfl rfl)
theorem dX3_behind_37 : decode cX3_behind 37 = .ok (.iconst 1, 1) := dk_4 (dk_at dksX3_behind_1 13 rfl rfl)
theorem dX3_behind_38 : decode cX3_behind 38 = .ok (.if_icmp .ne 38, 3) := dk_160 0 38 (dk_at dksX3_behind_1 14 rfl rfl)
theorem dX3_behind_41 : decode cX3_behind 41 = .ok (.aload_n 0, 1) := dk_42 (dk_at dksX3_behind_1 17 rfl rfl)
theorem dX3_behind_42 : decode cX3_behind 42 = .ok (.bipush 8, 2) := dk_16 8 (dk_at dksX3_behind_1 18 rfl rfl)
theorem dX3_behind_44 : decode cX3_behind 44 = .ok (.aload_n 0, 1) := dk_42 (dk_at dksX3_behind_1 20 rfl rfl)
theorem dX3_behind_45 : decode cX3_behind 45 = .ok (.getfield 83, 3) := dk_180 0 83 (dk_at dksX3_behind_1 21 rfl rfl)
theorem dX3_behind_48 : decode cX3_behind 48 = .ok (.iadd, 1) := dk_96 (dk_at dksX3_behind_2 0 rfl rfl)
theorem dX3_behind_49 : decode cX3_behind 49 = .ok (.invokevirtual 167, 3) := dk_182 0 167 (dk_at dksX3_behind_2 1 rfl rfl)
theorem dX3_behind_52 : decode cX3_behind 52 = .ok (.aload_n 0, 1) := dk_42 (dk_at dksX3_behind_2 4 rfl rfl)
theorem dX3_behind_53 : decode cX3_behind 53 = .ok (.dup, 1) := dk_89 (dk_at dksX3_behind_2 5 rfl rfl)
theorem dX3_behind_54 : decode cX3_behind 54 = .ok (.getfield 83, 3) := dk_180 0 83 (dk_at dksX3_behind_2 6 rfl rfl)
theorem dX3_behind_57 : decode cX3_behind 57 = .ok (.aload_n 0, 1) := dk_42 (dk_at dksX3_behind_2 9 rfl rfl)
theorem dX3_behind_58 : decode cX3_behind 58 = .ok (.getfield 96, 3) := dk_180 0 96 (dk_at dksX3_behind_2 10 rfl rfl)
theorem dX3_behind_61 : decode cX3_behind 61 = .ok (.ifCond .ne 7, 3) := dk_154 0 7 (dk_at dksX3_behind_2 13 rfl rfl)
theorem dX3_behind_64 : decode cX3_behind 64 = .ok (.iconst 1, 1) := dk_4 (dk_at dksX3_behind_2 16 rfl rfl)
theorem dX3_behind_65 : decode cX3_behind 65 = .ok (.goto 4, 3) := dk_167 0 4 (dk_at dksX3_behind_2 17 rfl rfl)
theorem dX3_behind_68 : decode cX3_behind 68 = .ok (.iconst 0, 1) := dk_3 (dk_at dksX3_behind_2 20 rfl rfl)
theorem dX3_behind_69 : decode cX3_behind 69 = .ok (.iadd, 1) := dk_96 (dk_at dksX3_behind_2 21 rfl rfl)
theorem dX3_behind_70 : decode cX3_behind 70 = .ok (.putfield 83, 3) := dk_181 0 83 (dk_at dksX3_behind_3 0 rfl rfl)
theorem dX3_behind_73 : decode cX3_behind 73 = .ok (.goto 96, 3) := dk_167 0 96 (dk_at dksX3_behind_3 3 rfl rfl)
theorem dX3_behind_76 : decode cX3_behind 76 = .ok (.iload_n 1, 1) := dk_27 (dk_at dksX3_behind_3 6 rfl rfl)
theorem dX3_behind_77 : decode cX3_behind 77 = .ok (.iconst 3, 1) := dk_6 (dk_at dksX3_behind_3 7 rfl rfl)
theorem dX3_behind_78 : decode cX3_behind 78 = .ok (.if_icmp .ne 66, 3) := dk_160 0 66 (dk_at dksX3_behind_3 8 rfl rfl)
theorem dX3_behind_81 : decode cX3_behind 81 = .ok (.aload_n 0, 1) := dk_42 (dk_at dksX3_behind_3 11 rfl rfl)
theorem dX3_behind_82 : decode cX3_behind 82 = .ok (.iconst 0, 1) := dk_3 (dk_at dksX3_behind_3 12 rfl rfl)
theorem dX3_behind_83 : decode cX3_behind 83 = .ok (.aload_n 0, 1) := dk_42 (dk_at dksX3_behind_3 13 rfl rfl)
theorem dX3_behind_84 : decode cX3_behind 84 = .ok (.getfield 13, 3) := dk_180 0 13 (dk_at dksX3_behind_3 14 rfl rfl)
theorem dX3_behind_87 : decode cX3_behind 87 = .ok (.iconst 0, 1) := dk_3 (dk_at dksX3_behind_3 17 rfl rfl)
theorem dX3_behind_88 : decode cX3_behind 88 = .ok (.iaload, 1) := dk_46 (dk_at dksX3_behind_3 18 rfl rfl)
theorem dX3_behind_89 : decode cX3_behind 89 = .ok (.iconst 1, 1) := dk_4 (dk_at dksX3_behind_3 19 rfl rfl)
theorem dX3_behind_90 : decode cX3_behind 90 = .ok (.isub, 1) := dk_100 (dk_at dksX3_behind_3 20 rfl rfl)
theorem dX3_behind_91 : decode cX3_behind 91 = .ok (.invokevirtual 170, 3) := dk_182 0 170 (dk_at dksX3_behind_3 21 rfl rfl)
theorem dX3_behind_94 : decode cX3_behind 94 = .ok (.istore_n 2, 1) := dk_61 (dk_at dksX3_behind_4 0 rfl rfl)
theorem dX3_behind_95 : decode cX3_behind 95 = .ok (.aload_n 0, 1) := dk_42 (dk_at dksX3_behind_4 1 rfl rfl)
theorem dX3_behind_96 : decode cX3_behind 96 = .ok (.getfield 96, 3) := dk_180 0 96 (dk_at dksX3_behind_4 2 rfl rfl)
theorem dX3_behind_99 : decode cX3_behind 99 = .ok (.ifCond .ne 22, 3) := dk_154 0 22 (dk_at dksX3_behind_4 5 rfl rfl)
theorem dX3_behind_102 : decode cX3_behind 102 = .ok (.aload_n 0, 1) := dk_42 (dk_at dksX3_behind_4 8 rfl rfl)
theorem dX3_behind_103 : decode cX3_behind 103 = .ok (.iload_n 2, 1) := dk_28 (dk_at dksX3_behind_4 9 rfl rfl)
theorem dX3_behind_104 : decode cX3_behind 104 = .ok (.iconst 4, 1) := dk_7 (dk_at dksX3_behind_4 10 rfl rfl)
theorem dX3_behind_105 : decode cX3_behind 105 = .ok (.invokevirtual 174, 3) := dk_182 0 174 (dk_at dksX3_behind_4 11 rfl rfl)
theorem dX3_behind_108 : decode cX3_behind 108 = .ok (.iconst 1, 1) := dk_4 (dk_at dksX3_behind_4 14 rfl rfl)
theorem dX3_behind_109 : decode cX3_behind 109 = .ok (.if_icmp .ne 12, 3) := dk_160 0 12 (dk_at dksX3_behind_4 15 rfl rfl)
theorem dX3_behind_112 : decode cX3_behind 112 = .ok (.aload_n 0, 1) := dk_42 (dk_at dksX3_behind_4 18 rfl rfl)
theorem dX3_behind_113 : decode cX3_behind 113 = .ok (.iconst 5, 1) := dk_8 (dk_at dksX3_behind_4 19 rfl rfl)
theorem dX3_behind_114 : decode cX3_behind 114 = .ok (.aload_n 0, 1) := dk_42 (dk_at dksX3_behind_4 20 rfl rfl)
theorem dX3_behind_115 : decode cX3_behind 115 = .ok (.getfield 140, 3) := dk_180 0 140 (dk_at dksX3_behind_4 21 rfl rfl)
theorem dX3_behind_118 : decode cX3_behind 118 = .ok (.invokevirtual 136, 3) := dk_182 0 136 (dk_at dksX3_behind_5 0 rfl rfl)
theorem dX3_behind_121 : decode cX3_behind 121 = .ok (.aload_n 0, 1) := dk_42 (dk_at dksX3_behind_5 3 rfl rfl)
theorem dX3_behind_122 : decode cX3_behind 122 = .ok (.getfield 96, 3) := dk_180 0 96 (dk_at dksX3_behind_5 4 rfl rfl)
theorem dX3_behind_125 : decode cX3_behind 125 = .ok (.ifCond .ne 16, 3) := dk_154 0 16 (dk_at dksX3_behind_5 7 rfl rfl)
theorem dX3_behind_128 : decode cX3_behind 128 = .ok (.aload_n 0, 1) := dk_42 (dk_at dksX3_behind_5 10 rfl rfl)
theorem dX3_behind_129 : decode cX3_behind 129 = .ok (.getfield 13, 3) := dk_180 0 13 (dk_at dksX3_behind_5 11 rfl rfl)
theorem dX3_behind_132 : decode cX3_behind 132 = .ok (.iconst 2, 1) := dk_5 (dk_at dksX3_behind_5 14 rfl rfl)
theorem dX3_behind_133 : decode cX3_behind 133 = .ok (.iconst 5, 1) := dk_8 (dk_at dksX3_behind_5 15 rfl rfl)
theorem dX3_behind_134 : decode cX3_behind 134 = .ok (.iload_n 2, 1) := dk_28 (dk_at dksX3_behind_5 16 rfl rfl)
theorem dX3_behind_135 : decode cX3_behind 135 = .ok (.imul, 1) := dk_104 (dk_at dksX3_behind_5 17 rfl rfl)
theorem dX3_behind_136 : decode cX3_behind 136 = .ok (.iadd, 1) := dk_96 (dk_at dksX3_behind_5 18 rfl rfl)
theorem dX3_behind_137 : decode cX3_behind 137 = .ok (.iconst 4, 1) := dk_7 (dk_at dksX3_behind_5 19 rfl rfl)
theorem dX3_behind_138 : decode cX3_behind 138 = .ok (.iadd, 1) := dk_96 (dk_at dksX3_behind_5 20 rfl rfl)
theorem dX3_behind_139 : decode cX3_behind 139 = .ok (.iconst 1, 1) := dk_4 (dk_at dksX3_behind_5 21 rfl rfl)
theorem dX3_behind_140 : decode cX3_behind 140 = .ok (.iastore, 1) := dk_79 (dk_at dksX3_behind_5 22 rfl rfl)
theorem dX3_behind_141 : decode cX3_behind 141 = .ok (.goto 28, 3) := dk_167 0 28 (dk_at dksX3_behind_6 0 rfl rfl)
theorem dX3_behind_144 : decode cX3_behind 144 = .ok (.iload_n 1, 1) := dk_27 (dk_at dksX3_behind_6 3 rfl rfl)
theorem dX3_behind_145 : decode cX3_behind 145 = .ok (.iconst 5, 1) := dk_8 (dk_at dksX3_behind_6 4 rfl rfl)
theorem dX3_behind_146 : decode cX3_behind 146 = .ok (.if_icmp .ne 18, 3) := dk_160 0 18 (dk_at dksX3_behind_6 5 rfl rfl)
theorem dX3_behind_149 : decode cX3_behind 149 = .ok (.aload_n 0, 1) := dk_42 (dk_at dksX3_behind_6 8 rfl rfl)
theorem dX3_behind_150 : decode cX3_behind 150 = .ok (.getfield 13, 3) := dk_180 0 13 (dk_at dksX3_behind_6 9 rfl rfl)
theorem dX3_behind_153 : decode cX3_behind 153 = .ok (.iconst 1, 1) := dk_4 (dk_at dksX3_behind_6 12 rfl rfl)
theorem dX3_behind_154 : decode cX3_behind 154 = .ok (.aload_n 0, 1) := dk_42 (dk_at dksX3_behind_6 13 rfl rfl)
theorem dX3_behind_155 : decode cX3_behind 155 = .ok (.iconst 0, 1) := dk_3 (dk_at dksX3_behind_6 14 rfl rfl)
theorem dX3_behind_156 : decode cX3_behind 156 = .ok (.iconst 3, 1) := dk_6 (dk_at dksX3_behind_6 15 rfl rfl)
theorem dX3_behind_157 : decode cX3_behind 157 = .ok (.invokevirtual 170, 3) := dk_182 0 170 (dk_at dksX3_behind_6 16 rfl rfl)
theorem dX3_behind_160 : decode cX3_behind 160 = .ok (.iastore, 1) := dk_79 (dk_at dksX3_behind_6 19 rfl rfl)
theorem dX3_behind_161 : decode cX3_behind 161 = .ok (.goto 8, 3) := dk_167 0 8 (dk_at dksX3_behind_6 20 rfl rfl)
theorem dX3_behind_164 : decode cX3_behind 164 = .ok (.aload_n 0, 1) := dk_42 (dk_at dksX3_behind_6 23 rfl rfl)
theorem dX3_behind_165 : decode cX3_behind 165 = .ok (.iload_n 1, 1) := dk_27 (dk_at dksX3_behind_7 0 rfl rfl)
theorem dX3_behind_166 : decode cX3_behind 166 = .ok (.invokevirtual 177, 3) := dk_182 0 177 (dk_at dksX3_behind_7 1 rfl rfl)
theorem dX3_behind_169 : decode cX3_behind 169 = .ok (.return_, 1) := dk_177 (dk_at dksX3_behind_7 4 rfl rfl)
abbrev cX3_newName : ByteArray := prog_15_method_15_code
def yX3_newName : MethodName := ⟨RX3, "newName", "(I)V"⟩
def dkwX3_newName_2 : List UInt8 := [182, 0, 136, 42, 180, 0, 23, 27, 32, 80, 177]
abbrev dktX3_newName_2 : List UInt8 := dkwX3_newName_2 ++ []
def dkwX3_newName_1 : List UInt8 := [160, 0, 18, 42, 32, 16, 8, 42, 180, 0, 83, 182, 0, 150, 2, 159, 0, 12, 42, 6, 42, 180, 0, 140]
abbrev dktX3_newName_1 : List UInt8 := dkwX3_newName_1 ++ dktX3_newName_2
def dkwX3_newName_0 : List UInt8 := [42, 182, 0, 146, 65, 42, 180, 0, 96, 154, 0, 41, 42, 32, 3, 42, 180, 0, 80, 182, 0, 150, 2]
abbrev dktX3_newName_0 : List UInt8 := dkwX3_newName_0 ++ dktX3_newName_1
theorem dksX3_newName_0 : cX3_newName.data.toList.drop 0 = dktX3_newName_0 := by decide +kernel
theorem dksX3_newName_1 : cX3_newName.data.toList.drop 23 = dktX3_newName_1 := dk_seg dksX3_newName_0 23 rfl rfl
theorem dksX3_newName_2 : cX3_newName.data.toList.drop 47 = dktX3_newName_2 := dk_seg dksX3_newName_1 24 rfl rfl
theorem dX3_newName_0 : decode cX3_newName 0 = .ok (.aload_n 0, 1) := dk_42 (dk_at dksX3_newName_0 0 rfl rfl)
theorem dX3_newName_1 : decode cX3_newName 1 = .ok (.invokevirtual 146, 3) := dk_182 0 146 (dk_at dksX3_newName_0 1 rfl rfl)
theorem dX3_newName_4 : decode cX3_newName 4 = .ok (.lstore_n 2, 1) := dk_65 (dk_at dksX3_newName_0 4 rfl rfl)
theorem dX3_newName_5 : decode cX3_newName 5 = .ok (.aload_n 0, 1) := dk_42 (dk_at dksX3_newName_0 5 rfl rfl)
theorem dX3_newName_6 : decode cX3_newName 6 = .ok (.getfield 96, 3) := dk_180 0 96 (dk_at dksX3_newName_0 6 rfl rfl)
theorem dX3_newName_9 : decode cX3_newName 9 = .ok (.ifCond .ne 41, 3) := dk_154 0 41 (dk_at dksX3_newName_0 9 rfl rfl)
theorem dX3_newName_12 : decode cX3_newName 12 = .ok (.aload_n 0, 1) := dk_42 (dk_at dksX3_newName_0 12 rfl rfl)
theorem dX3_newName_13 : decode cX3_newName 13 = .ok (.lload_n 2, 1) := dk_32 (dk_at dksX3_newName_0 13 rfl rfl)
theorem dX3_newName_14 : decode cX3_newName 14 = .ok (.iconst 0, 1) := dk_3 (dk_at dksX3_newName_0 14 rfl rfl)
theorem dX3_newName_15 : decode cX3_newName 15 = .ok (.aload_n 0, 1) := dk_42 (dk_at dksX3_newName_0 15 rfl rfl)
theorem dX3_newName_16 : decode cX3_newName 16 = .ok (.getfield 80, 3) := dk_180 0 80 (dk_at dksX3_newName_0 16 rfl rfl)
theorem dX3_newName_19 : decode cX3_newName 19 = .ok (.invokevirtual 150, 3) := dk_182 0 150 (dk_at dksX3_newName_0 19 rfl rfl)
theorem dX3_newName_22 : decode cX3_newName 22 = .ok (.iconst (-1), 1) := dk_2 (dk_at dksX3_newName_0 22 rfl rfl)
theorem dX3_newName_23 : decode cX3_newName 23 = .ok (.if_icmp .ne 18, 3) := dk_160 0 18 (dk_at dksX3_newName_1 0 rfl rfl)
theorem dX3_newName_26 : decode cX3_newName 26 = .ok (.aload_n 0, 1) := dk_42 (dk_at dksX3_newName_1 3 rfl rfl)
theorem dX3_newName_27 : decode cX3_newName 27 = .ok (.lload_n 2, 1) := dk_32 (dk_at dksX3_newName_1 4 rfl rfl)
theorem dX3_newName_28 : decode cX3_newName 28 = .ok (.bipush 8, 2) := dk_16 8 (dk_at dksX3_newName_1 5 rfl rfl)
theorem dX3_newName_30 : decode cX3_newName 30 = .ok (.aload_n 0, 1) := dk_42 (dk_at dksX3_newName_1 7 rfl rfl)
theorem dX3_newName_31 : decode cX3_newName 31 = .ok (.getfield 83, 3) := dk_180 0 83 (dk_at dksX3_newName_1 8 rfl rfl)
theorem dX3_newName_34 : decode cX3_newName 34 = .ok (.invokevirtual 150, 3) := dk_182 0 150 (dk_at dksX3_newName_1 11 rfl rfl)
theorem dX3_newName_37 : decode cX3_newName 37 = .ok (.iconst (-1), 1) := dk_2 (dk_at dksX3_newName_1 14 rfl rfl)
theorem dX3_newName_38 : decode cX3_newName 38 = .ok (.if_icmp .eq 12, 3) := dk_159 0 12 (dk_at dksX3_newName_1 15 rfl rfl)
theorem dX3_newName_41 : decode cX3_newName 41 = .ok (.aload_n 0, 1) := dk_42 (dk_at dksX3_newName_1 18 rfl rfl)
theorem dX3_newName_42 : decode cX3_newName 42 = .ok (.iconst 3, 1) := dk_6 (dk_at dksX3_newName_1 19 rfl rfl)
theorem dX3_newName_43 : decode cX3_newName 43 = .ok (.aload_n 0, 1) := dk_42 (dk_at dksX3_newName_1 20 rfl rfl)
theorem dX3_newName_44 : decode cX3_newName 44 = .ok (.getfield 140, 3) := dk_180 0 140 (dk_at dksX3_newName_1 21 rfl rfl)
theorem dX3_newName_47 : decode cX3_newName 47 = .ok (.invokevirtual 136, 3) := dk_182 0 136 (dk_at dksX3_newName_2 0 rfl rfl)
theorem dX3_newName_50 : decode cX3_newName 50 = .ok (.aload_n 0, 1) := dk_42 (dk_at dksX3_newName_2 3 rfl rfl)
theorem dX3_newName_51 : decode cX3_newName 51 = .ok (.getfield 23, 3) := dk_180 0 23 (dk_at dksX3_newName_2 4 rfl rfl)
theorem dX3_newName_54 : decode cX3_newName 54 = .ok (.iload_n 1, 1) := dk_27 (dk_at dksX3_newName_2 7 rfl rfl)
theorem dX3_newName_55 : decode cX3_newName 55 = .ok (.lload_n 2, 1) := dk_32 (dk_at dksX3_newName_2 8 rfl rfl)
theorem dX3_newName_56 : decode cX3_newName 56 = .ok (.lastore, 1) := dk_80 (dk_at dksX3_newName_2 9 rfl rfl)
theorem dX3_newName_57 : decode cX3_newName 57 = .ok (.return_, 1) := dk_177 (dk_at dksX3_newName_2 10 rfl rfl)
abbrev cX3_nameRead : ByteArray := prog_15_method_13_code
def yX3_nameRead : MethodName := ⟨RX3, "nameRead", "()J"⟩
def dkwX3_nameRead_4 : List UInt8 := [167, 255, 228, 42, 89, 180, 0, 90, 29, 96, 181, 0, 90, 31, 173]
abbrev dktX3_nameRead_4 : List UInt8 := dkwX3_nameRead_4 ++ []
def dkwX3_nameRead_3 : List UInt8 := [31, 16, 8, 121, 42, 180, 0, 30, 42, 180, 0, 90, 21, 4, 96, 51, 133, 129, 64, 132, 4, 1]
abbrev dktX3_nameRead_3 : List UInt8 := dkwX3_nameRead_3 ++ dktX3_nameRead_4
def dkwX3_nameRead_2 : List UInt8 := [42, 42, 180, 0, 90, 181, 0, 140, 9, 64, 42, 182, 0, 119, 62, 3, 54, 4, 21, 4, 29, 162, 0, 28]
abbrev dktX3_nameRead_2 : List UInt8 := dkwX3_nameRead_2 ++ dktX3_nameRead_3
def dkwX3_nameRead_1 : List UInt8 := [16, 8, 163, 0, 11, 42, 182, 0, 143, 2, 159, 0, 14, 42, 4, 42, 180, 0, 90, 182, 0, 136, 9, 173]
abbrev dktX3_nameRead_1 : List UInt8 := dkwX3_nameRead_1 ++ dktX3_nameRead_2
def dkwX3_nameRead_0 : List UInt8 := [42, 180, 0, 96, 153, 0, 5, 9, 173, 42, 182, 0, 115, 184, 0, 111, 153, 0, 20, 42, 182, 0, 119]
abbrev dktX3_nameRead_0 : List UInt8 := dkwX3_nameRead_0 ++ dktX3_nameRead_1
theorem dksX3_nameRead_0 : cX3_nameRead.data.toList.drop 0 = dktX3_nameRead_0 := by decide +kernel
theorem dksX3_nameRead_1 : cX3_nameRead.data.toList.drop 23 = dktX3_nameRead_1 := dk_seg dksX3_nameRead_0 23 rfl rfl
theorem dksX3_nameRead_2 : cX3_nameRead.data.toList.drop 47 = dktX3_nameRead_2 := dk_seg dksX3_nameRead_1 24 rfl rfl
theorem dksX3_nameRead_3 : cX3_nameRead.data.toList.drop 71 = dktX3_nameRead_3 := dk_seg dksX3_nameRead_2 24 rfl rfl
theorem dksX3_nameRead_4 : cX3_nameRead.data.toList.drop 93 = dktX3_nameRead_4 := dk_seg dksX3_nameRead_3 22 rfl rfl
theorem dX3_nameRead_0 : decode cX3_nameRead 0 = .ok (.aload_n 0, 1) := dk_42 (dk_at dksX3_nameRead_0 0 rfl rfl)
theorem dX3_nameRead_1 : decode cX3_nameRead 1 = .ok (.getfield 96, 3) := dk_180 0 96 (dk_at dksX3_nameRead_0 1 rfl rfl)
theorem dX3_nameRead_4 : decode cX3_nameRead 4 = .ok (.ifCond .eq 5, 3) := dk_153 0 5 (dk_at dksX3_nameRead_0 4 rfl rfl)
theorem dX3_nameRead_7 : decode cX3_nameRead 7 = .ok (.lconst 0, 1) := dk_9 (dk_at dksX3_nameRead_0 7 rfl rfl)
theorem dX3_nameRead_8 : decode cX3_nameRead 8 = .ok (.lreturn, 1) := dk_173 (dk_at dksX3_nameRead_0 8 rfl rfl)
theorem dX3_nameRead_9 : decode cX3_nameRead 9 = .ok (.aload_n 0, 1) := dk_42 (dk_at dksX3_nameRead_0 9 rfl rfl)
theorem dX3_nameRead_10 : decode cX3_nameRead 10 = .ok (.invokevirtual 115, 3) := dk_182 0 115 (dk_at dksX3_nameRead_0 10 rfl rfl)
theorem dX3_nameRead_13 : decode cX3_nameRead 13 = .ok (.invokestatic 111, 3) := dk_184 0 111 (dk_at dksX3_nameRead_0 13 rfl rfl)
theorem dX3_nameRead_16 : decode cX3_nameRead 16 = .ok (.ifCond .eq 20, 3) := dk_153 0 20 (dk_at dksX3_nameRead_0 16 rfl rfl)
theorem dX3_nameRead_19 : decode cX3_nameRead 19 = .ok (.aload_n 0, 1) := dk_42 (dk_at dksX3_nameRead_0 19 rfl rfl)
theorem dX3_nameRead_20 : decode cX3_nameRead 20 = .ok (.invokevirtual 119, 3) := dk_182 0 119 (dk_at dksX3_nameRead_0 20 rfl rfl)
theorem dX3_nameRead_23 : decode cX3_nameRead 23 = .ok (.bipush 8, 2) := dk_16 8 (dk_at dksX3_nameRead_1 0 rfl rfl)
theorem dX3_nameRead_25 : decode cX3_nameRead 25 = .ok (.if_icmp .gt 11, 3) := dk_163 0 11 (dk_at dksX3_nameRead_1 2 rfl rfl)
theorem dX3_nameRead_28 : decode cX3_nameRead 28 = .ok (.aload_n 0, 1) := dk_42 (dk_at dksX3_nameRead_1 5 rfl rfl)
theorem dX3_nameRead_29 : decode cX3_nameRead 29 = .ok (.invokevirtual 143, 3) := dk_182 0 143 (dk_at dksX3_nameRead_1 6 rfl rfl)
theorem dX3_nameRead_32 : decode cX3_nameRead 32 = .ok (.iconst (-1), 1) := dk_2 (dk_at dksX3_nameRead_1 9 rfl rfl)
theorem dX3_nameRead_33 : decode cX3_nameRead 33 = .ok (.if_icmp .eq 14, 3) := dk_159 0 14 (dk_at dksX3_nameRead_1 10 rfl rfl)
theorem dX3_nameRead_36 : decode cX3_nameRead 36 = .ok (.aload_n 0, 1) := dk_42 (dk_at dksX3_nameRead_1 13 rfl rfl)
theorem dX3_nameRead_37 : decode cX3_nameRead 37 = .ok (.iconst 1, 1) := dk_4 (dk_at dksX3_nameRead_1 14 rfl rfl)
theorem dX3_nameRead_38 : decode cX3_nameRead 38 = .ok (.aload_n 0, 1) := dk_42 (dk_at dksX3_nameRead_1 15 rfl rfl)
theorem dX3_nameRead_39 : decode cX3_nameRead 39 = .ok (.getfield 90, 3) := dk_180 0 90 (dk_at dksX3_nameRead_1 16 rfl rfl)
theorem dX3_nameRead_42 : decode cX3_nameRead 42 = .ok (.invokevirtual 136, 3) := dk_182 0 136 (dk_at dksX3_nameRead_1 19 rfl rfl)
theorem dX3_nameRead_45 : decode cX3_nameRead 45 = .ok (.lconst 0, 1) := dk_9 (dk_at dksX3_nameRead_1 22 rfl rfl)
theorem dX3_nameRead_46 : decode cX3_nameRead 46 = .ok (.lreturn, 1) := dk_173 (dk_at dksX3_nameRead_1 23 rfl rfl)
theorem dX3_nameRead_47 : decode cX3_nameRead 47 = .ok (.aload_n 0, 1) := dk_42 (dk_at dksX3_nameRead_2 0 rfl rfl)
theorem dX3_nameRead_48 : decode cX3_nameRead 48 = .ok (.aload_n 0, 1) := dk_42 (dk_at dksX3_nameRead_2 1 rfl rfl)
theorem dX3_nameRead_49 : decode cX3_nameRead 49 = .ok (.getfield 90, 3) := dk_180 0 90 (dk_at dksX3_nameRead_2 2 rfl rfl)
theorem dX3_nameRead_52 : decode cX3_nameRead 52 = .ok (.putfield 140, 3) := dk_181 0 140 (dk_at dksX3_nameRead_2 5 rfl rfl)
theorem dX3_nameRead_55 : decode cX3_nameRead 55 = .ok (.lconst 0, 1) := dk_9 (dk_at dksX3_nameRead_2 8 rfl rfl)
theorem dX3_nameRead_56 : decode cX3_nameRead 56 = .ok (.lstore_n 1, 1) := dk_64 (dk_at dksX3_nameRead_2 9 rfl rfl)
theorem dX3_nameRead_57 : decode cX3_nameRead 57 = .ok (.aload_n 0, 1) := dk_42 (dk_at dksX3_nameRead_2 10 rfl rfl)
theorem dX3_nameRead_58 : decode cX3_nameRead 58 = .ok (.invokevirtual 119, 3) := dk_182 0 119 (dk_at dksX3_nameRead_2 11 rfl rfl)
theorem dX3_nameRead_61 : decode cX3_nameRead 61 = .ok (.istore_n 3, 1) := dk_62 (dk_at dksX3_nameRead_2 14 rfl rfl)
theorem dX3_nameRead_62 : decode cX3_nameRead 62 = .ok (.iconst 0, 1) := dk_3 (dk_at dksX3_nameRead_2 15 rfl rfl)
theorem dX3_nameRead_63 : decode cX3_nameRead 63 = .ok (.istore 4, 2) := dk_54 4 (dk_at dksX3_nameRead_2 16 rfl rfl)
theorem dX3_nameRead_65 : decode cX3_nameRead 65 = .ok (.iload 4, 2) := dk_21 4 (dk_at dksX3_nameRead_2 18 rfl rfl)
theorem dX3_nameRead_67 : decode cX3_nameRead 67 = .ok (.iload_n 3, 1) := dk_29 (dk_at dksX3_nameRead_2 20 rfl rfl)
theorem dX3_nameRead_68 : decode cX3_nameRead 68 = .ok (.if_icmp .ge 28, 3) := dk_162 0 28 (dk_at dksX3_nameRead_2 21 rfl rfl)
theorem dX3_nameRead_71 : decode cX3_nameRead 71 = .ok (.lload_n 1, 1) := dk_31 (dk_at dksX3_nameRead_3 0 rfl rfl)
theorem dX3_nameRead_72 : decode cX3_nameRead 72 = .ok (.bipush 8, 2) := dk_16 8 (dk_at dksX3_nameRead_3 1 rfl rfl)
theorem dX3_nameRead_74 : decode cX3_nameRead 74 = .ok (.lshl, 1) := dk_121 (dk_at dksX3_nameRead_3 3 rfl rfl)
theorem dX3_nameRead_75 : decode cX3_nameRead 75 = .ok (.aload_n 0, 1) := dk_42 (dk_at dksX3_nameRead_3 4 rfl rfl)
theorem dX3_nameRead_76 : decode cX3_nameRead 76 = .ok (.getfield 30, 3) := dk_180 0 30 (dk_at dksX3_nameRead_3 5 rfl rfl)
theorem dX3_nameRead_79 : decode cX3_nameRead 79 = .ok (.aload_n 0, 1) := dk_42 (dk_at dksX3_nameRead_3 8 rfl rfl)
theorem dX3_nameRead_80 : decode cX3_nameRead 80 = .ok (.getfield 90, 3) := dk_180 0 90 (dk_at dksX3_nameRead_3 9 rfl rfl)
theorem dX3_nameRead_83 : decode cX3_nameRead 83 = .ok (.iload 4, 2) := dk_21 4 (dk_at dksX3_nameRead_3 12 rfl rfl)
theorem dX3_nameRead_85 : decode cX3_nameRead 85 = .ok (.iadd, 1) := dk_96 (dk_at dksX3_nameRead_3 14 rfl rfl)
theorem dX3_nameRead_86 : decode cX3_nameRead 86 = .ok (.baload, 1) := dk_51 (dk_at dksX3_nameRead_3 15 rfl rfl)
theorem dX3_nameRead_87 : decode cX3_nameRead 87 = .ok (.i2l, 1) := dk_133 (dk_at dksX3_nameRead_3 16 rfl rfl)
theorem dX3_nameRead_88 : decode cX3_nameRead 88 = .ok (.lor, 1) := dk_129 (dk_at dksX3_nameRead_3 17 rfl rfl)
theorem dX3_nameRead_89 : decode cX3_nameRead 89 = .ok (.lstore_n 1, 1) := dk_64 (dk_at dksX3_nameRead_3 18 rfl rfl)
theorem dX3_nameRead_90 : decode cX3_nameRead 90 = .ok (.iinc 4 1, 3) := dk_132 4 1 (dk_at dksX3_nameRead_3 19 rfl rfl)
theorem dX3_nameRead_93 : decode cX3_nameRead 93 = .ok (.goto (-28), 3) := dk_167 255 228 (dk_at dksX3_nameRead_4 0 rfl rfl)
theorem dX3_nameRead_96 : decode cX3_nameRead 96 = .ok (.aload_n 0, 1) := dk_42 (dk_at dksX3_nameRead_4 3 rfl rfl)
theorem dX3_nameRead_97 : decode cX3_nameRead 97 = .ok (.dup, 1) := dk_89 (dk_at dksX3_nameRead_4 4 rfl rfl)
theorem dX3_nameRead_98 : decode cX3_nameRead 98 = .ok (.getfield 90, 3) := dk_180 0 90 (dk_at dksX3_nameRead_4 5 rfl rfl)
theorem dX3_nameRead_101 : decode cX3_nameRead 101 = .ok (.iload_n 3, 1) := dk_29 (dk_at dksX3_nameRead_4 8 rfl rfl)
theorem dX3_nameRead_102 : decode cX3_nameRead 102 = .ok (.iadd, 1) := dk_96 (dk_at dksX3_nameRead_4 9 rfl rfl)
theorem dX3_nameRead_103 : decode cX3_nameRead 103 = .ok (.putfield 90, 3) := dk_181 0 90 (dk_at dksX3_nameRead_4 10 rfl rfl)
theorem dX3_nameRead_106 : decode cX3_nameRead 106 = .ok (.lload_n 1, 1) := dk_31 (dk_at dksX3_nameRead_4 13 rfl rfl)
theorem dX3_nameRead_107 : decode cX3_nameRead 107 = .ok (.lreturn, 1) := dk_173 (dk_at dksX3_nameRead_4 14 rfl rfl)
abbrev cX3_find : ByteArray := prog_15_method_14_code
def yX3_find : MethodName := ⟨RX3, "find", "(JII)I"⟩
def dkwX3_find_1 : List UInt8 := [21, 5, 172, 132, 5, 1, 167, 255, 229, 2, 172]
abbrev dktX3_find_1 : List UInt8 := dkwX3_find_1 ++ []
def dkwX3_find_0 : List UInt8 := [3, 54, 5, 21, 5, 21, 4, 162, 0, 26, 42, 180, 0, 23, 29, 21, 5, 96, 47, 31, 148, 154, 0, 6]
abbrev dktX3_find_0 : List UInt8 := dkwX3_find_0 ++ dktX3_find_1
theorem dksX3_find_0 : cX3_find.data.toList.drop 0 = dktX3_find_0 := by decide +kernel
theorem dksX3_find_1 : cX3_find.data.toList.drop 24 = dktX3_find_1 := dk_seg dksX3_find_0 24 rfl rfl
theorem dX3_find_0 : decode cX3_find 0 = .ok (.iconst 0, 1) := dk_3 (dk_at dksX3_find_0 0 rfl rfl)
theorem dX3_find_1 : decode cX3_find 1 = .ok (.istore 5, 2) := dk_54 5 (dk_at dksX3_find_0 1 rfl rfl)
theorem dX3_find_3 : decode cX3_find 3 = .ok (.iload 5, 2) := dk_21 5 (dk_at dksX3_find_0 3 rfl rfl)
theorem dX3_find_5 : decode cX3_find 5 = .ok (.iload 4, 2) := dk_21 4 (dk_at dksX3_find_0 5 rfl rfl)
theorem dX3_find_7 : decode cX3_find 7 = .ok (.if_icmp .ge 26, 3) := dk_162 0 26 (dk_at dksX3_find_0 7 rfl rfl)
theorem dX3_find_10 : decode cX3_find 10 = .ok (.aload_n 0, 1) := dk_42 (dk_at dksX3_find_0 10 rfl rfl)
theorem dX3_find_11 : decode cX3_find 11 = .ok (.getfield 23, 3) := dk_180 0 23 (dk_at dksX3_find_0 11 rfl rfl)
theorem dX3_find_14 : decode cX3_find 14 = .ok (.iload_n 3, 1) := dk_29 (dk_at dksX3_find_0 14 rfl rfl)
theorem dX3_find_15 : decode cX3_find 15 = .ok (.iload 5, 2) := dk_21 5 (dk_at dksX3_find_0 15 rfl rfl)
theorem dX3_find_17 : decode cX3_find 17 = .ok (.iadd, 1) := dk_96 (dk_at dksX3_find_0 17 rfl rfl)
theorem dX3_find_18 : decode cX3_find 18 = .ok (.laload, 1) := dk_47 (dk_at dksX3_find_0 18 rfl rfl)
theorem dX3_find_19 : decode cX3_find 19 = .ok (.lload_n 1, 1) := dk_31 (dk_at dksX3_find_0 19 rfl rfl)
theorem dX3_find_20 : decode cX3_find 20 = .ok (.lcmp, 1) := dk_148 (dk_at dksX3_find_0 20 rfl rfl)
theorem dX3_find_21 : decode cX3_find 21 = .ok (.ifCond .ne 6, 3) := dk_154 0 6 (dk_at dksX3_find_0 21 rfl rfl)
theorem dX3_find_24 : decode cX3_find 24 = .ok (.iload 5, 2) := dk_21 5 (dk_at dksX3_find_1 0 rfl rfl)
theorem dX3_find_26 : decode cX3_find 26 = .ok (.ireturn, 1) := dk_172 (dk_at dksX3_find_1 2 rfl rfl)
theorem dX3_find_27 : decode cX3_find 27 = .ok (.iinc 5 1, 3) := dk_132 5 1 (dk_at dksX3_find_1 3 rfl rfl)
theorem dX3_find_30 : decode cX3_find 30 = .ok (.goto (-27), 3) := dk_167 255 229 (dk_at dksX3_find_1 6 rfl rfl)
theorem dX3_find_33 : decode cX3_find 33 = .ok (.iconst (-1), 1) := dk_2 (dk_at dksX3_find_1 9 rfl rfl)
theorem dX3_find_34 : decode cX3_find 34 = .ok (.ireturn, 1) := dk_172 (dk_at dksX3_find_1 10 rfl rfl)
abbrev cX3_numeral : ByteArray := prog_15_method_12_code
def yX3_numeral : MethodName := ⟨RX3, "numeral", "(II)I"⟩
def dkwX3_numeral_7 : List UInt8 := [172]
abbrev dktX3_numeral_7 : List UInt8 := dkwX3_numeral_7 ++ []
def dkwX3_numeral_6 : List UInt8 := [154, 0, 12, 42, 5, 42, 180, 0, 140, 182, 0, 136, 42, 180, 0, 96, 154, 0, 7, 29, 167, 0, 4, 27]
abbrev dktX3_numeral_6 : List UInt8 := dkwX3_numeral_6 ++ dktX3_numeral_7
def dkwX3_numeral_5 : List UInt8 := [180, 0, 90, 42, 180, 0, 140, 100, 16, 8, 163, 0, 15, 29, 133, 27, 133, 28, 133, 184, 0, 103]
abbrev dktX3_numeral_5 : List UInt8 := dkwX3_numeral_5 ++ dktX3_numeral_6
def dkwX3_numeral_4 : List UInt8 := [180, 0, 90, 51, 96, 16, 48, 100, 62, 42, 89, 180, 0, 90, 4, 96, 181, 0, 90, 167, 255, 188, 42]
abbrev dktX3_numeral_4 : List UInt8 := dkwX3_numeral_4 ++ dktX3_numeral_5
def dkwX3_numeral_3 : List UInt8 := [180, 0, 90, 42, 180, 0, 140, 100, 16, 8, 162, 0, 21, 16, 10, 29, 104, 42, 180, 0, 30, 42]
abbrev dktX3_numeral_3 : List UInt8 := dkwX3_numeral_3 ++ dktX3_numeral_4
def dkwX3_numeral_2 : List UInt8 := [180, 0, 93, 162, 0, 63, 42, 180, 0, 30, 42, 180, 0, 90, 51, 184, 0, 133, 153, 0, 48, 42]
abbrev dktX3_numeral_2 : List UInt8 := dkwX3_numeral_2 ++ dktX3_numeral_3
def dkwX3_numeral_1 : List UInt8 := [180, 0, 90, 182, 0, 136, 27, 172, 42, 42, 180, 0, 90, 181, 0, 140, 3, 62, 42, 180, 0, 90, 42]
abbrev dktX3_numeral_1 : List UInt8 := dkwX3_numeral_1 ++ dktX3_numeral_2
def dkwX3_numeral_0 : List UInt8 := [42, 180, 0, 96, 153, 0, 5, 27, 172, 42, 182, 0, 115, 184, 0, 133, 154, 0, 14, 42, 4, 42]
abbrev dktX3_numeral_0 : List UInt8 := dkwX3_numeral_0 ++ dktX3_numeral_1
theorem dksX3_numeral_0 : cX3_numeral.data.toList.drop 0 = dktX3_numeral_0 := by decide +kernel
theorem dksX3_numeral_1 : cX3_numeral.data.toList.drop 22 = dktX3_numeral_1 := dk_seg dksX3_numeral_0 22 rfl rfl
theorem dksX3_numeral_2 : cX3_numeral.data.toList.drop 45 = dktX3_numeral_2 := dk_seg dksX3_numeral_1 23 rfl rfl
theorem dksX3_numeral_3 : cX3_numeral.data.toList.drop 67 = dktX3_numeral_3 := dk_seg dksX3_numeral_2 22 rfl rfl
theorem dksX3_numeral_4 : cX3_numeral.data.toList.drop 89 = dktX3_numeral_4 := dk_seg dksX3_numeral_3 22 rfl rfl
theorem dksX3_numeral_5 : cX3_numeral.data.toList.drop 112 = dktX3_numeral_5 := dk_seg dksX3_numeral_4 23 rfl rfl
theorem dksX3_numeral_6 : cX3_numeral.data.toList.drop 134 = dktX3_numeral_6 := dk_seg dksX3_numeral_5 22 rfl rfl
theorem dksX3_numeral_7 : cX3_numeral.data.toList.drop 158 = dktX3_numeral_7 := dk_seg dksX3_numeral_6 24 rfl rfl
theorem dX3_numeral_0 : decode cX3_numeral 0 = .ok (.aload_n 0, 1) := dk_42 (dk_at dksX3_numeral_0 0 rfl rfl)
theorem dX3_numeral_1 : decode cX3_numeral 1 = .ok (.getfield 96, 3) := dk_180 0 96 (dk_at dksX3_numeral_0 1 rfl rfl)
theorem dX3_numeral_4 : decode cX3_numeral 4 = .ok (.ifCond .eq 5, 3) := dk_153 0 5 (dk_at dksX3_numeral_0 4 rfl rfl)
theorem dX3_numeral_7 : decode cX3_numeral 7 = .ok (.iload_n 1, 1) := dk_27 (dk_at dksX3_numeral_0 7 rfl rfl)
theorem dX3_numeral_8 : decode cX3_numeral 8 = .ok (.ireturn, 1) := dk_172 (dk_at dksX3_numeral_0 8 rfl rfl)
theorem dX3_numeral_9 : decode cX3_numeral 9 = .ok (.aload_n 0, 1) := dk_42 (dk_at dksX3_numeral_0 9 rfl rfl)
theorem dX3_numeral_10 : decode cX3_numeral 10 = .ok (.invokevirtual 115, 3) := dk_182 0 115 (dk_at dksX3_numeral_0 10 rfl rfl)
theorem dX3_numeral_13 : decode cX3_numeral 13 = .ok (.invokestatic 133, 3) := dk_184 0 133 (dk_at dksX3_numeral_0 13 rfl rfl)
theorem dX3_numeral_16 : decode cX3_numeral 16 = .ok (.ifCond .ne 14, 3) := dk_154 0 14 (dk_at dksX3_numeral_0 16 rfl rfl)
theorem dX3_numeral_19 : decode cX3_numeral 19 = .ok (.aload_n 0, 1) := dk_42 (dk_at dksX3_numeral_0 19 rfl rfl)
theorem dX3_numeral_20 : decode cX3_numeral 20 = .ok (.iconst 1, 1) := dk_4 (dk_at dksX3_numeral_0 20 rfl rfl)
theorem dX3_numeral_21 : decode cX3_numeral 21 = .ok (.aload_n 0, 1) := dk_42 (dk_at dksX3_numeral_0 21 rfl rfl)
theorem dX3_numeral_22 : decode cX3_numeral 22 = .ok (.getfield 90, 3) := dk_180 0 90 (dk_at dksX3_numeral_1 0 rfl rfl)
theorem dX3_numeral_25 : decode cX3_numeral 25 = .ok (.invokevirtual 136, 3) := dk_182 0 136 (dk_at dksX3_numeral_1 3 rfl rfl)
theorem dX3_numeral_28 : decode cX3_numeral 28 = .ok (.iload_n 1, 1) := dk_27 (dk_at dksX3_numeral_1 6 rfl rfl)
theorem dX3_numeral_29 : decode cX3_numeral 29 = .ok (.ireturn, 1) := dk_172 (dk_at dksX3_numeral_1 7 rfl rfl)
theorem dX3_numeral_30 : decode cX3_numeral 30 = .ok (.aload_n 0, 1) := dk_42 (dk_at dksX3_numeral_1 8 rfl rfl)
theorem dX3_numeral_31 : decode cX3_numeral 31 = .ok (.aload_n 0, 1) := dk_42 (dk_at dksX3_numeral_1 9 rfl rfl)
theorem dX3_numeral_32 : decode cX3_numeral 32 = .ok (.getfield 90, 3) := dk_180 0 90 (dk_at dksX3_numeral_1 10 rfl rfl)
theorem dX3_numeral_35 : decode cX3_numeral 35 = .ok (.putfield 140, 3) := dk_181 0 140 (dk_at dksX3_numeral_1 13 rfl rfl)
theorem dX3_numeral_38 : decode cX3_numeral 38 = .ok (.iconst 0, 1) := dk_3 (dk_at dksX3_numeral_1 16 rfl rfl)
theorem dX3_numeral_39 : decode cX3_numeral 39 = .ok (.istore_n 3, 1) := dk_62 (dk_at dksX3_numeral_1 17 rfl rfl)
theorem dX3_numeral_40 : decode cX3_numeral 40 = .ok (.aload_n 0, 1) := dk_42 (dk_at dksX3_numeral_1 18 rfl rfl)
theorem dX3_numeral_41 : decode cX3_numeral 41 = .ok (.getfield 90, 3) := dk_180 0 90 (dk_at dksX3_numeral_1 19 rfl rfl)
theorem dX3_numeral_44 : decode cX3_numeral 44 = .ok (.aload_n 0, 1) := dk_42 (dk_at dksX3_numeral_1 22 rfl rfl)
theorem dX3_numeral_45 : decode cX3_numeral 45 = .ok (.getfield 93, 3) := dk_180 0 93 (dk_at dksX3_numeral_2 0 rfl rfl)
theorem dX3_numeral_48 : decode cX3_numeral 48 = .ok (.if_icmp .ge 63, 3) := dk_162 0 63 (dk_at dksX3_numeral_2 3 rfl rfl)
theorem dX3_numeral_51 : decode cX3_numeral 51 = .ok (.aload_n 0, 1) := dk_42 (dk_at dksX3_numeral_2 6 rfl rfl)
theorem dX3_numeral_52 : decode cX3_numeral 52 = .ok (.getfield 30, 3) := dk_180 0 30 (dk_at dksX3_numeral_2 7 rfl rfl)
theorem dX3_numeral_55 : decode cX3_numeral 55 = .ok (.aload_n 0, 1) := dk_42 (dk_at dksX3_numeral_2 10 rfl rfl)
theorem dX3_numeral_56 : decode cX3_numeral 56 = .ok (.getfield 90, 3) := dk_180 0 90 (dk_at dksX3_numeral_2 11 rfl rfl)
theorem dX3_numeral_59 : decode cX3_numeral 59 = .ok (.baload, 1) := dk_51 (dk_at dksX3_numeral_2 14 rfl rfl)
theorem dX3_numeral_60 : decode cX3_numeral 60 = .ok (.invokestatic 133, 3) := dk_184 0 133 (dk_at dksX3_numeral_2 15 rfl rfl)
theorem dX3_numeral_63 : decode cX3_numeral 63 = .ok (.ifCond .eq 48, 3) := dk_153 0 48 (dk_at dksX3_numeral_2 18 rfl rfl)
theorem dX3_numeral_66 : decode cX3_numeral 66 = .ok (.aload_n 0, 1) := dk_42 (dk_at dksX3_numeral_2 21 rfl rfl)
theorem dX3_numeral_67 : decode cX3_numeral 67 = .ok (.getfield 90, 3) := dk_180 0 90 (dk_at dksX3_numeral_3 0 rfl rfl)
theorem dX3_numeral_70 : decode cX3_numeral 70 = .ok (.aload_n 0, 1) := dk_42 (dk_at dksX3_numeral_3 3 rfl rfl)
theorem dX3_numeral_71 : decode cX3_numeral 71 = .ok (.getfield 140, 3) := dk_180 0 140 (dk_at dksX3_numeral_3 4 rfl rfl)
theorem dX3_numeral_74 : decode cX3_numeral 74 = .ok (.isub, 1) := dk_100 (dk_at dksX3_numeral_3 7 rfl rfl)
theorem dX3_numeral_75 : decode cX3_numeral 75 = .ok (.bipush 8, 2) := dk_16 8 (dk_at dksX3_numeral_3 8 rfl rfl)
theorem dX3_numeral_77 : decode cX3_numeral 77 = .ok (.if_icmp .ge 21, 3) := dk_162 0 21 (dk_at dksX3_numeral_3 10 rfl rfl)
theorem dX3_numeral_80 : decode cX3_numeral 80 = .ok (.bipush 10, 2) := dk_16 10 (dk_at dksX3_numeral_3 13 rfl rfl)
theorem dX3_numeral_82 : decode cX3_numeral 82 = .ok (.iload_n 3, 1) := dk_29 (dk_at dksX3_numeral_3 15 rfl rfl)
theorem dX3_numeral_83 : decode cX3_numeral 83 = .ok (.imul, 1) := dk_104 (dk_at dksX3_numeral_3 16 rfl rfl)
theorem dX3_numeral_84 : decode cX3_numeral 84 = .ok (.aload_n 0, 1) := dk_42 (dk_at dksX3_numeral_3 17 rfl rfl)
theorem dX3_numeral_85 : decode cX3_numeral 85 = .ok (.getfield 30, 3) := dk_180 0 30 (dk_at dksX3_numeral_3 18 rfl rfl)
theorem dX3_numeral_88 : decode cX3_numeral 88 = .ok (.aload_n 0, 1) := dk_42 (dk_at dksX3_numeral_3 21 rfl rfl)
theorem dX3_numeral_89 : decode cX3_numeral 89 = .ok (.getfield 90, 3) := dk_180 0 90 (dk_at dksX3_numeral_4 0 rfl rfl)
theorem dX3_numeral_92 : decode cX3_numeral 92 = .ok (.baload, 1) := dk_51 (dk_at dksX3_numeral_4 3 rfl rfl)
theorem dX3_numeral_93 : decode cX3_numeral 93 = .ok (.iadd, 1) := dk_96 (dk_at dksX3_numeral_4 4 rfl rfl)
theorem dX3_numeral_94 : decode cX3_numeral 94 = .ok (.bipush 48, 2) := dk_16 48 (dk_at dksX3_numeral_4 5 rfl rfl)
theorem dX3_numeral_96 : decode cX3_numeral 96 = .ok (.isub, 1) := dk_100 (dk_at dksX3_numeral_4 7 rfl rfl)
theorem dX3_numeral_97 : decode cX3_numeral 97 = .ok (.istore_n 3, 1) := dk_62 (dk_at dksX3_numeral_4 8 rfl rfl)
theorem dX3_numeral_98 : decode cX3_numeral 98 = .ok (.aload_n 0, 1) := dk_42 (dk_at dksX3_numeral_4 9 rfl rfl)
theorem dX3_numeral_99 : decode cX3_numeral 99 = .ok (.dup, 1) := dk_89 (dk_at dksX3_numeral_4 10 rfl rfl)
theorem dX3_numeral_100 : decode cX3_numeral 100 = .ok (.getfield 90, 3) := dk_180 0 90 (dk_at dksX3_numeral_4 11 rfl rfl)
theorem dX3_numeral_103 : decode cX3_numeral 103 = .ok (.iconst 1, 1) := dk_4 (dk_at dksX3_numeral_4 14 rfl rfl)
theorem dX3_numeral_104 : decode cX3_numeral 104 = .ok (.iadd, 1) := dk_96 (dk_at dksX3_numeral_4 15 rfl rfl)
theorem dX3_numeral_105 : decode cX3_numeral 105 = .ok (.putfield 90, 3) := dk_181 0 90 (dk_at dksX3_numeral_4 16 rfl rfl)
theorem dX3_numeral_108 : decode cX3_numeral 108 = .ok (.goto (-68), 3) := dk_167 255 188 (dk_at dksX3_numeral_4 19 rfl rfl)
theorem dX3_numeral_111 : decode cX3_numeral 111 = .ok (.aload_n 0, 1) := dk_42 (dk_at dksX3_numeral_4 22 rfl rfl)
theorem dX3_numeral_112 : decode cX3_numeral 112 = .ok (.getfield 90, 3) := dk_180 0 90 (dk_at dksX3_numeral_5 0 rfl rfl)
theorem dX3_numeral_115 : decode cX3_numeral 115 = .ok (.aload_n 0, 1) := dk_42 (dk_at dksX3_numeral_5 3 rfl rfl)
theorem dX3_numeral_116 : decode cX3_numeral 116 = .ok (.getfield 140, 3) := dk_180 0 140 (dk_at dksX3_numeral_5 4 rfl rfl)
theorem dX3_numeral_119 : decode cX3_numeral 119 = .ok (.isub, 1) := dk_100 (dk_at dksX3_numeral_5 7 rfl rfl)
theorem dX3_numeral_120 : decode cX3_numeral 120 = .ok (.bipush 8, 2) := dk_16 8 (dk_at dksX3_numeral_5 8 rfl rfl)
theorem dX3_numeral_122 : decode cX3_numeral 122 = .ok (.if_icmp .gt 15, 3) := dk_163 0 15 (dk_at dksX3_numeral_5 10 rfl rfl)
theorem dX3_numeral_125 : decode cX3_numeral 125 = .ok (.iload_n 3, 1) := dk_29 (dk_at dksX3_numeral_5 13 rfl rfl)
theorem dX3_numeral_126 : decode cX3_numeral 126 = .ok (.i2l, 1) := dk_133 (dk_at dksX3_numeral_5 14 rfl rfl)
theorem dX3_numeral_127 : decode cX3_numeral 127 = .ok (.iload_n 1, 1) := dk_27 (dk_at dksX3_numeral_5 15 rfl rfl)
theorem dX3_numeral_128 : decode cX3_numeral 128 = .ok (.i2l, 1) := dk_133 (dk_at dksX3_numeral_5 16 rfl rfl)
theorem dX3_numeral_129 : decode cX3_numeral 129 = .ok (.iload_n 2, 1) := dk_28 (dk_at dksX3_numeral_5 17 rfl rfl)
theorem dX3_numeral_130 : decode cX3_numeral 130 = .ok (.i2l, 1) := dk_133 (dk_at dksX3_numeral_5 18 rfl rfl)
theorem dX3_numeral_131 : decode cX3_numeral 131 = .ok (.invokestatic 103, 3) := dk_184 0 103 (dk_at dksX3_numeral_5 19 rfl rfl)
theorem dX3_numeral_134 : decode cX3_numeral 134 = .ok (.ifCond .ne 12, 3) := dk_154 0 12 (dk_at dksX3_numeral_6 0 rfl rfl)
theorem dX3_numeral_137 : decode cX3_numeral 137 = .ok (.aload_n 0, 1) := dk_42 (dk_at dksX3_numeral_6 3 rfl rfl)
theorem dX3_numeral_138 : decode cX3_numeral 138 = .ok (.iconst 2, 1) := dk_5 (dk_at dksX3_numeral_6 4 rfl rfl)
theorem dX3_numeral_139 : decode cX3_numeral 139 = .ok (.aload_n 0, 1) := dk_42 (dk_at dksX3_numeral_6 5 rfl rfl)
theorem dX3_numeral_140 : decode cX3_numeral 140 = .ok (.getfield 140, 3) := dk_180 0 140 (dk_at dksX3_numeral_6 6 rfl rfl)
theorem dX3_numeral_143 : decode cX3_numeral 143 = .ok (.invokevirtual 136, 3) := dk_182 0 136 (dk_at dksX3_numeral_6 9 rfl rfl)
theorem dX3_numeral_146 : decode cX3_numeral 146 = .ok (.aload_n 0, 1) := dk_42 (dk_at dksX3_numeral_6 12 rfl rfl)
theorem dX3_numeral_147 : decode cX3_numeral 147 = .ok (.getfield 96, 3) := dk_180 0 96 (dk_at dksX3_numeral_6 13 rfl rfl)
theorem dX3_numeral_150 : decode cX3_numeral 150 = .ok (.ifCond .ne 7, 3) := dk_154 0 7 (dk_at dksX3_numeral_6 16 rfl rfl)
theorem dX3_numeral_153 : decode cX3_numeral 153 = .ok (.iload_n 3, 1) := dk_29 (dk_at dksX3_numeral_6 19 rfl rfl)
theorem dX3_numeral_154 : decode cX3_numeral 154 = .ok (.goto 4, 3) := dk_167 0 4 (dk_at dksX3_numeral_6 20 rfl rfl)
theorem dX3_numeral_157 : decode cX3_numeral 157 = .ok (.iload_n 1, 1) := dk_27 (dk_at dksX3_numeral_6 23 rfl rfl)
theorem dX3_numeral_158 : decode cX3_numeral 158 = .ok (.ireturn, 1) := dk_172 (dk_at dksX3_numeral_7 0 rfl rfl)
abbrev cX3_isDigit : ByteArray := prog_15_method_9_code
def yX3_isDigit : MethodName := ⟨RX3, "isDigit", "(I)Z"⟩
def dkwX3_isDigit_0 : List UInt8 := [26, 133, 20, 0, 107, 20, 0, 109, 184, 0, 103, 172]
abbrev dktX3_isDigit_0 : List UInt8 := dkwX3_isDigit_0 ++ []
theorem dksX3_isDigit_0 : cX3_isDigit.data.toList.drop 0 = dktX3_isDigit_0 := by decide +kernel
theorem dX3_isDigit_0 : decode cX3_isDigit 0 = .ok (.iload_n 0, 1) := dk_26 (dk_at dksX3_isDigit_0 0 rfl rfl)
theorem dX3_isDigit_1 : decode cX3_isDigit 1 = .ok (.i2l, 1) := dk_133 (dk_at dksX3_isDigit_0 1 rfl rfl)
theorem dX3_isDigit_2 : decode cX3_isDigit 2 = .ok (.ldc2_w 107, 3) := dk_20 0 107 (dk_at dksX3_isDigit_0 2 rfl rfl)
theorem dX3_isDigit_5 : decode cX3_isDigit 5 = .ok (.ldc2_w 109, 3) := dk_20 0 109 (dk_at dksX3_isDigit_0 5 rfl rfl)
theorem dX3_isDigit_8 : decode cX3_isDigit 8 = .ok (.invokestatic 103, 3) := dk_184 0 103 (dk_at dksX3_isDigit_0 8 rfl rfl)
theorem dX3_isDigit_11 : decode cX3_isDigit 11 = .ok (.ireturn, 1) := dk_172 (dk_at dksX3_isDigit_0 11 rfl rfl)
abbrev cX3_tradeAt : ByteArray := prog_15_method_25_code
def yX3_tradeAt : MethodName := ⟨RX3, "tradeAt", "(II)I"⟩
def dkwX3_tradeAt_0 : List UInt8 := [42, 180, 0, 13, 5, 8, 27, 104, 96, 28, 96, 46, 172]
abbrev dktX3_tradeAt_0 : List UInt8 := dkwX3_tradeAt_0 ++ []
theorem dksX3_tradeAt_0 : cX3_tradeAt.data.toList.drop 0 = dktX3_tradeAt_0 := by decide +kernel
theorem dX3_tradeAt_0 : decode cX3_tradeAt 0 = .ok (.aload_n 0, 1) := dk_42 (dk_at dksX3_tradeAt_0 0 rfl rfl)
theorem dX3_tradeAt_1 : decode cX3_tradeAt 1 = .ok (.getfield 13, 3) := dk_180 0 13 (dk_at dksX3_tradeAt_0 1 rfl rfl)
theorem dX3_tradeAt_4 : decode cX3_tradeAt 4 = .ok (.iconst 2, 1) := dk_5 (dk_at dksX3_tradeAt_0 4 rfl rfl)
theorem dX3_tradeAt_5 : decode cX3_tradeAt 5 = .ok (.iconst 5, 1) := dk_8 (dk_at dksX3_tradeAt_0 5 rfl rfl)
theorem dX3_tradeAt_6 : decode cX3_tradeAt 6 = .ok (.iload_n 1, 1) := dk_27 (dk_at dksX3_tradeAt_0 6 rfl rfl)
theorem dX3_tradeAt_7 : decode cX3_tradeAt 7 = .ok (.imul, 1) := dk_104 (dk_at dksX3_tradeAt_0 7 rfl rfl)
theorem dX3_tradeAt_8 : decode cX3_tradeAt 8 = .ok (.iadd, 1) := dk_96 (dk_at dksX3_tradeAt_0 8 rfl rfl)
theorem dX3_tradeAt_9 : decode cX3_tradeAt 9 = .ok (.iload_n 2, 1) := dk_28 (dk_at dksX3_tradeAt_0 9 rfl rfl)
theorem dX3_tradeAt_10 : decode cX3_tradeAt 10 = .ok (.iadd, 1) := dk_96 (dk_at dksX3_tradeAt_0 10 rfl rfl)
theorem dX3_tradeAt_11 : decode cX3_tradeAt 11 = .ok (.iaload, 1) := dk_46 (dk_at dksX3_tradeAt_0 11 rfl rfl)
theorem dX3_tradeAt_12 : decode cX3_tradeAt 12 = .ok (.ireturn, 1) := dk_172 (dk_at dksX3_tradeAt_0 12 rfl rfl)
abbrev cX3_twoRead : ByteArray := prog_15_method_22_code
def yX3_twoRead : MethodName := ⟨RX3, "twoRead", "(I)V"⟩
def dkwX3_twoRead_4 : List UInt8 := [79, 177]
abbrev dktX3_twoRead_4 : List UInt8 := dkwX3_twoRead_4 ++ []
def dkwX3_twoRead_3 : List UInt8 := [21, 5, 182, 0, 188, 167, 0, 20, 42, 180, 0, 13, 17, 0, 202, 16, 8, 28, 104, 96, 29, 96, 21, 4]
abbrev dktX3_twoRead_3 : List UInt8 := dkwX3_twoRead_3 ++ dktX3_twoRead_4
def dkwX3_twoRead_2 : List UInt8 := [167, 0, 4, 3, 54, 5, 42, 180, 0, 96, 153, 0, 4, 177, 27, 5, 160, 0, 16, 42, 28, 29, 21, 4]
abbrev dktX3_twoRead_2 : List UInt8 := dkwX3_twoRead_2 ++ dktX3_twoRead_3
def dkwX3_twoRead_1 : List UInt8 := [160, 0, 8, 18, 184, 167, 0, 5, 18, 86, 182, 0, 170, 54, 4, 27, 5, 160, 0, 10, 42, 182, 0, 185]
abbrev dktX3_twoRead_1 : List UInt8 := dkwX3_twoRead_1 ++ dktX3_twoRead_2
def dkwX3_twoRead_0 : List UInt8 := [42, 182, 0, 154, 61, 42, 28, 182, 0, 180, 62, 42, 27, 5, 160, 0, 7, 4, 167, 0, 4, 3, 27, 5]
abbrev dktX3_twoRead_0 : List UInt8 := dkwX3_twoRead_0 ++ dktX3_twoRead_1
theorem dksX3_twoRead_0 : cX3_twoRead.data.toList.drop 0 = dktX3_twoRead_0 := by decide +kernel
theorem dksX3_twoRead_1 : cX3_twoRead.data.toList.drop 24 = dktX3_twoRead_1 := dk_seg dksX3_twoRead_0 24 rfl rfl
theorem dksX3_twoRead_2 : cX3_twoRead.data.toList.drop 48 = dktX3_twoRead_2 := dk_seg dksX3_twoRead_1 24 rfl rfl
theorem dksX3_twoRead_3 : cX3_twoRead.data.toList.drop 72 = dktX3_twoRead_3 := dk_seg dksX3_twoRead_2 24 rfl rfl
theorem dksX3_twoRead_4 : cX3_twoRead.data.toList.drop 96 = dktX3_twoRead_4 := dk_seg dksX3_twoRead_3 24 rfl rfl
theorem dX3_twoRead_0 : decode cX3_twoRead 0 = .ok (.aload_n 0, 1) := dk_42 (dk_at dksX3_twoRead_0 0 rfl rfl)
theorem dX3_twoRead_1 : decode cX3_twoRead 1 = .ok (.invokevirtual 154, 3) := dk_182 0 154 (dk_at dksX3_twoRead_0 1 rfl rfl)
theorem dX3_twoRead_4 : decode cX3_twoRead 4 = .ok (.istore_n 2, 1) := dk_61 (dk_at dksX3_twoRead_0 4 rfl rfl)
theorem dX3_twoRead_5 : decode cX3_twoRead 5 = .ok (.aload_n 0, 1) := dk_42 (dk_at dksX3_twoRead_0 5 rfl rfl)
theorem dX3_twoRead_6 : decode cX3_twoRead 6 = .ok (.iload_n 2, 1) := dk_28 (dk_at dksX3_twoRead_0 6 rfl rfl)
theorem dX3_twoRead_7 : decode cX3_twoRead 7 = .ok (.invokevirtual 180, 3) := dk_182 0 180 (dk_at dksX3_twoRead_0 7 rfl rfl)
theorem dX3_twoRead_10 : decode cX3_twoRead 10 = .ok (.istore_n 3, 1) := dk_62 (dk_at dksX3_twoRead_0 10 rfl rfl)
theorem dX3_twoRead_11 : decode cX3_twoRead 11 = .ok (.aload_n 0, 1) := dk_42 (dk_at dksX3_twoRead_0 11 rfl rfl)
theorem dX3_twoRead_12 : decode cX3_twoRead 12 = .ok (.iload_n 1, 1) := dk_27 (dk_at dksX3_twoRead_0 12 rfl rfl)
theorem dX3_twoRead_13 : decode cX3_twoRead 13 = .ok (.iconst 2, 1) := dk_5 (dk_at dksX3_twoRead_0 13 rfl rfl)
theorem dX3_twoRead_14 : decode cX3_twoRead 14 = .ok (.if_icmp .ne 7, 3) := dk_160 0 7 (dk_at dksX3_twoRead_0 14 rfl rfl)
theorem dX3_twoRead_17 : decode cX3_twoRead 17 = .ok (.iconst 1, 1) := dk_4 (dk_at dksX3_twoRead_0 17 rfl rfl)
theorem dX3_twoRead_18 : decode cX3_twoRead 18 = .ok (.goto 4, 3) := dk_167 0 4 (dk_at dksX3_twoRead_0 18 rfl rfl)
theorem dX3_twoRead_21 : decode cX3_twoRead 21 = .ok (.iconst 0, 1) := dk_3 (dk_at dksX3_twoRead_0 21 rfl rfl)
theorem dX3_twoRead_22 : decode cX3_twoRead 22 = .ok (.iload_n 1, 1) := dk_27 (dk_at dksX3_twoRead_0 22 rfl rfl)
theorem dX3_twoRead_23 : decode cX3_twoRead 23 = .ok (.iconst 2, 1) := dk_5 (dk_at dksX3_twoRead_0 23 rfl rfl)
theorem dX3_twoRead_24 : decode cX3_twoRead 24 = .ok (.if_icmp .ne 8, 3) := dk_160 0 8 (dk_at dksX3_twoRead_1 0 rfl rfl)
theorem dX3_twoRead_27 : decode cX3_twoRead 27 = .ok (.ldc 184, 2) := dk_18 184 (dk_at dksX3_twoRead_1 3 rfl rfl)
theorem dX3_twoRead_29 : decode cX3_twoRead 29 = .ok (.goto 5, 3) := dk_167 0 5 (dk_at dksX3_twoRead_1 5 rfl rfl)
theorem dX3_twoRead_32 : decode cX3_twoRead 32 = .ok (.ldc 86, 2) := dk_18 86 (dk_at dksX3_twoRead_1 8 rfl rfl)
theorem dX3_twoRead_34 : decode cX3_twoRead 34 = .ok (.invokevirtual 170, 3) := dk_182 0 170 (dk_at dksX3_twoRead_1 10 rfl rfl)
theorem dX3_twoRead_37 : decode cX3_twoRead 37 = .ok (.istore 4, 2) := dk_54 4 (dk_at dksX3_twoRead_1 13 rfl rfl)
theorem dX3_twoRead_39 : decode cX3_twoRead 39 = .ok (.iload_n 1, 1) := dk_27 (dk_at dksX3_twoRead_1 15 rfl rfl)
theorem dX3_twoRead_40 : decode cX3_twoRead 40 = .ok (.iconst 2, 1) := dk_5 (dk_at dksX3_twoRead_1 16 rfl rfl)
theorem dX3_twoRead_41 : decode cX3_twoRead 41 = .ok (.if_icmp .ne 10, 3) := dk_160 0 10 (dk_at dksX3_twoRead_1 17 rfl rfl)
theorem dX3_twoRead_44 : decode cX3_twoRead 44 = .ok (.aload_n 0, 1) := dk_42 (dk_at dksX3_twoRead_1 20 rfl rfl)
theorem dX3_twoRead_45 : decode cX3_twoRead 45 = .ok (.invokevirtual 185, 3) := dk_182 0 185 (dk_at dksX3_twoRead_1 21 rfl rfl)
theorem dX3_twoRead_48 : decode cX3_twoRead 48 = .ok (.goto 4, 3) := dk_167 0 4 (dk_at dksX3_twoRead_2 0 rfl rfl)
theorem dX3_twoRead_51 : decode cX3_twoRead 51 = .ok (.iconst 0, 1) := dk_3 (dk_at dksX3_twoRead_2 3 rfl rfl)
theorem dX3_twoRead_52 : decode cX3_twoRead 52 = .ok (.istore 5, 2) := dk_54 5 (dk_at dksX3_twoRead_2 4 rfl rfl)
theorem dX3_twoRead_54 : decode cX3_twoRead 54 = .ok (.aload_n 0, 1) := dk_42 (dk_at dksX3_twoRead_2 6 rfl rfl)
theorem dX3_twoRead_55 : decode cX3_twoRead 55 = .ok (.getfield 96, 3) := dk_180 0 96 (dk_at dksX3_twoRead_2 7 rfl rfl)
theorem dX3_twoRead_58 : decode cX3_twoRead 58 = .ok (.ifCond .eq 4, 3) := dk_153 0 4 (dk_at dksX3_twoRead_2 10 rfl rfl)
theorem dX3_twoRead_61 : decode cX3_twoRead 61 = .ok (.return_, 1) := dk_177 (dk_at dksX3_twoRead_2 13 rfl rfl)
theorem dX3_twoRead_62 : decode cX3_twoRead 62 = .ok (.iload_n 1, 1) := dk_27 (dk_at dksX3_twoRead_2 14 rfl rfl)
theorem dX3_twoRead_63 : decode cX3_twoRead 63 = .ok (.iconst 2, 1) := dk_5 (dk_at dksX3_twoRead_2 15 rfl rfl)
theorem dX3_twoRead_64 : decode cX3_twoRead 64 = .ok (.if_icmp .ne 16, 3) := dk_160 0 16 (dk_at dksX3_twoRead_2 16 rfl rfl)
theorem dX3_twoRead_67 : decode cX3_twoRead 67 = .ok (.aload_n 0, 1) := dk_42 (dk_at dksX3_twoRead_2 19 rfl rfl)
theorem dX3_twoRead_68 : decode cX3_twoRead 68 = .ok (.iload_n 2, 1) := dk_28 (dk_at dksX3_twoRead_2 20 rfl rfl)
theorem dX3_twoRead_69 : decode cX3_twoRead 69 = .ok (.iload_n 3, 1) := dk_29 (dk_at dksX3_twoRead_2 21 rfl rfl)
theorem dX3_twoRead_70 : decode cX3_twoRead 70 = .ok (.iload 4, 2) := dk_21 4 (dk_at dksX3_twoRead_2 22 rfl rfl)
theorem dX3_twoRead_72 : decode cX3_twoRead 72 = .ok (.iload 5, 2) := dk_21 5 (dk_at dksX3_twoRead_3 0 rfl rfl)
theorem dX3_twoRead_74 : decode cX3_twoRead 74 = .ok (.invokevirtual 188, 3) := dk_182 0 188 (dk_at dksX3_twoRead_3 2 rfl rfl)
theorem dX3_twoRead_77 : decode cX3_twoRead 77 = .ok (.goto 20, 3) := dk_167 0 20 (dk_at dksX3_twoRead_3 5 rfl rfl)
theorem dX3_twoRead_80 : decode cX3_twoRead 80 = .ok (.aload_n 0, 1) := dk_42 (dk_at dksX3_twoRead_3 8 rfl rfl)
theorem dX3_twoRead_81 : decode cX3_twoRead 81 = .ok (.getfield 13, 3) := dk_180 0 13 (dk_at dksX3_twoRead_3 9 rfl rfl)
theorem dX3_twoRead_84 : decode cX3_twoRead 84 = .ok (.sipush 202, 3) := dk_17 0 202 (dk_at dksX3_twoRead_3 12 rfl rfl)
theorem dX3_twoRead_87 : decode cX3_twoRead 87 = .ok (.bipush 8, 2) := dk_16 8 (dk_at dksX3_twoRead_3 15 rfl rfl)
theorem dX3_twoRead_89 : decode cX3_twoRead 89 = .ok (.iload_n 2, 1) := dk_28 (dk_at dksX3_twoRead_3 17 rfl rfl)
theorem dX3_twoRead_90 : decode cX3_twoRead 90 = .ok (.imul, 1) := dk_104 (dk_at dksX3_twoRead_3 18 rfl rfl)
theorem dX3_twoRead_91 : decode cX3_twoRead 91 = .ok (.iadd, 1) := dk_96 (dk_at dksX3_twoRead_3 19 rfl rfl)
theorem dX3_twoRead_92 : decode cX3_twoRead 92 = .ok (.iload_n 3, 1) := dk_29 (dk_at dksX3_twoRead_3 20 rfl rfl)
theorem dX3_twoRead_93 : decode cX3_twoRead 93 = .ok (.iadd, 1) := dk_96 (dk_at dksX3_twoRead_3 21 rfl rfl)
theorem dX3_twoRead_94 : decode cX3_twoRead 94 = .ok (.iload 4, 2) := dk_21 4 (dk_at dksX3_twoRead_3 22 rfl rfl)
theorem dX3_twoRead_96 : decode cX3_twoRead 96 = .ok (.iastore, 1) := dk_79 (dk_at dksX3_twoRead_4 0 rfl rfl)
theorem dX3_twoRead_97 : decode cX3_twoRead 97 = .ok (.return_, 1) := dk_177 (dk_at dksX3_twoRead_4 1 rfl rfl)
abbrev cX3_partyRead : ByteArray := prog_15_method_16_code
def yX3_partyRead : MethodName := ⟨RX3, "partyRead", "()I"⟩
def dkwX3_partyRead_1 : List UInt8 := [180, 0, 140, 182, 0, 136, 42, 180, 0, 96, 154, 0, 7, 27, 167, 0, 4, 3, 172]
abbrev dktX3_partyRead_1 : List UInt8 := dkwX3_partyRead_1 ++ []
def dkwX3_partyRead_0 : List UInt8 := [42, 42, 182, 0, 146, 3, 42, 180, 0, 80, 182, 0, 150, 60, 27, 2, 160, 0, 12, 42, 6, 42]
abbrev dktX3_partyRead_0 : List UInt8 := dkwX3_partyRead_0 ++ dktX3_partyRead_1
theorem dksX3_partyRead_0 : cX3_partyRead.data.toList.drop 0 = dktX3_partyRead_0 := by decide +kernel
theorem dksX3_partyRead_1 : cX3_partyRead.data.toList.drop 22 = dktX3_partyRead_1 := dk_seg dksX3_partyRead_0 22 rfl rfl
theorem dX3_partyRead_0 : decode cX3_partyRead 0 = .ok (.aload_n 0, 1) := dk_42 (dk_at dksX3_partyRead_0 0 rfl rfl)
theorem dX3_partyRead_1 : decode cX3_partyRead 1 = .ok (.aload_n 0, 1) := dk_42 (dk_at dksX3_partyRead_0 1 rfl rfl)
theorem dX3_partyRead_2 : decode cX3_partyRead 2 = .ok (.invokevirtual 146, 3) := dk_182 0 146 (dk_at dksX3_partyRead_0 2 rfl rfl)
theorem dX3_partyRead_5 : decode cX3_partyRead 5 = .ok (.iconst 0, 1) := dk_3 (dk_at dksX3_partyRead_0 5 rfl rfl)
theorem dX3_partyRead_6 : decode cX3_partyRead 6 = .ok (.aload_n 0, 1) := dk_42 (dk_at dksX3_partyRead_0 6 rfl rfl)
theorem dX3_partyRead_7 : decode cX3_partyRead 7 = .ok (.getfield 80, 3) := dk_180 0 80 (dk_at dksX3_partyRead_0 7 rfl rfl)
theorem dX3_partyRead_10 : decode cX3_partyRead 10 = .ok (.invokevirtual 150, 3) := dk_182 0 150 (dk_at dksX3_partyRead_0 10 rfl rfl)
theorem dX3_partyRead_13 : decode cX3_partyRead 13 = .ok (.istore_n 1, 1) := dk_60 (dk_at dksX3_partyRead_0 13 rfl rfl)
theorem dX3_partyRead_14 : decode cX3_partyRead 14 = .ok (.iload_n 1, 1) := dk_27 (dk_at dksX3_partyRead_0 14 rfl rfl)
theorem dX3_partyRead_15 : decode cX3_partyRead 15 = .ok (.iconst (-1), 1) := dk_2 (dk_at dksX3_partyRead_0 15 rfl rfl)
theorem dX3_partyRead_16 : decode cX3_partyRead 16 = .ok (.if_icmp .ne 12, 3) := dk_160 0 12 (dk_at dksX3_partyRead_0 16 rfl rfl)
theorem dX3_partyRead_19 : decode cX3_partyRead 19 = .ok (.aload_n 0, 1) := dk_42 (dk_at dksX3_partyRead_0 19 rfl rfl)
theorem dX3_partyRead_20 : decode cX3_partyRead 20 = .ok (.iconst 3, 1) := dk_6 (dk_at dksX3_partyRead_0 20 rfl rfl)
theorem dX3_partyRead_21 : decode cX3_partyRead 21 = .ok (.aload_n 0, 1) := dk_42 (dk_at dksX3_partyRead_0 21 rfl rfl)
theorem dX3_partyRead_22 : decode cX3_partyRead 22 = .ok (.getfield 140, 3) := dk_180 0 140 (dk_at dksX3_partyRead_1 0 rfl rfl)
theorem dX3_partyRead_25 : decode cX3_partyRead 25 = .ok (.invokevirtual 136, 3) := dk_182 0 136 (dk_at dksX3_partyRead_1 3 rfl rfl)
theorem dX3_partyRead_28 : decode cX3_partyRead 28 = .ok (.aload_n 0, 1) := dk_42 (dk_at dksX3_partyRead_1 6 rfl rfl)
theorem dX3_partyRead_29 : decode cX3_partyRead 29 = .ok (.getfield 96, 3) := dk_180 0 96 (dk_at dksX3_partyRead_1 7 rfl rfl)
theorem dX3_partyRead_32 : decode cX3_partyRead 32 = .ok (.ifCond .ne 7, 3) := dk_154 0 7 (dk_at dksX3_partyRead_1 10 rfl rfl)
theorem dX3_partyRead_35 : decode cX3_partyRead 35 = .ok (.iload_n 1, 1) := dk_27 (dk_at dksX3_partyRead_1 13 rfl rfl)
theorem dX3_partyRead_36 : decode cX3_partyRead 36 = .ok (.goto 4, 3) := dk_167 0 4 (dk_at dksX3_partyRead_1 14 rfl rfl)
theorem dX3_partyRead_39 : decode cX3_partyRead 39 = .ok (.iconst 0, 1) := dk_3 (dk_at dksX3_partyRead_1 17 rfl rfl)
theorem dX3_partyRead_40 : decode cX3_partyRead 40 = .ok (.ireturn, 1) := dk_172 (dk_at dksX3_partyRead_1 18 rfl rfl)
abbrev cX3_otherRead : ByteArray := prog_15_method_17_code
def yX3_otherRead : MethodName := ⟨RX3, "otherRead", "(I)I"⟩
def dkwX3_otherRead_1 : List UInt8 := [182, 0, 136, 28, 172]
abbrev dktX3_otherRead_1 : List UInt8 := dkwX3_otherRead_1 ++ []
def dkwX3_otherRead_0 : List UInt8 := [42, 182, 0, 154, 61, 42, 180, 0, 96, 154, 0, 17, 28, 27, 160, 0, 12, 42, 8, 42, 180, 0, 140]
abbrev dktX3_otherRead_0 : List UInt8 := dkwX3_otherRead_0 ++ dktX3_otherRead_1
theorem dksX3_otherRead_0 : cX3_otherRead.data.toList.drop 0 = dktX3_otherRead_0 := by decide +kernel
theorem dksX3_otherRead_1 : cX3_otherRead.data.toList.drop 23 = dktX3_otherRead_1 := dk_seg dksX3_otherRead_0 23 rfl rfl
theorem dX3_otherRead_0 : decode cX3_otherRead 0 = .ok (.aload_n 0, 1) := dk_42 (dk_at dksX3_otherRead_0 0 rfl rfl)
theorem dX3_otherRead_1 : decode cX3_otherRead 1 = .ok (.invokevirtual 154, 3) := dk_182 0 154 (dk_at dksX3_otherRead_0 1 rfl rfl)
theorem dX3_otherRead_4 : decode cX3_otherRead 4 = .ok (.istore_n 2, 1) := dk_61 (dk_at dksX3_otherRead_0 4 rfl rfl)
theorem dX3_otherRead_5 : decode cX3_otherRead 5 = .ok (.aload_n 0, 1) := dk_42 (dk_at dksX3_otherRead_0 5 rfl rfl)
theorem dX3_otherRead_6 : decode cX3_otherRead 6 = .ok (.getfield 96, 3) := dk_180 0 96 (dk_at dksX3_otherRead_0 6 rfl rfl)
theorem dX3_otherRead_9 : decode cX3_otherRead 9 = .ok (.ifCond .ne 17, 3) := dk_154 0 17 (dk_at dksX3_otherRead_0 9 rfl rfl)
theorem dX3_otherRead_12 : decode cX3_otherRead 12 = .ok (.iload_n 2, 1) := dk_28 (dk_at dksX3_otherRead_0 12 rfl rfl)
theorem dX3_otherRead_13 : decode cX3_otherRead 13 = .ok (.iload_n 1, 1) := dk_27 (dk_at dksX3_otherRead_0 13 rfl rfl)
theorem dX3_otherRead_14 : decode cX3_otherRead 14 = .ok (.if_icmp .ne 12, 3) := dk_160 0 12 (dk_at dksX3_otherRead_0 14 rfl rfl)
theorem dX3_otherRead_17 : decode cX3_otherRead 17 = .ok (.aload_n 0, 1) := dk_42 (dk_at dksX3_otherRead_0 17 rfl rfl)
theorem dX3_otherRead_18 : decode cX3_otherRead 18 = .ok (.iconst 5, 1) := dk_8 (dk_at dksX3_otherRead_0 18 rfl rfl)
theorem dX3_otherRead_19 : decode cX3_otherRead 19 = .ok (.aload_n 0, 1) := dk_42 (dk_at dksX3_otherRead_0 19 rfl rfl)
theorem dX3_otherRead_20 : decode cX3_otherRead 20 = .ok (.getfield 140, 3) := dk_180 0 140 (dk_at dksX3_otherRead_0 20 rfl rfl)
theorem dX3_otherRead_23 : decode cX3_otherRead 23 = .ok (.invokevirtual 136, 3) := dk_182 0 136 (dk_at dksX3_otherRead_1 0 rfl rfl)
theorem dX3_otherRead_26 : decode cX3_otherRead 26 = .ok (.iload_n 2, 1) := dk_28 (dk_at dksX3_otherRead_1 3 rfl rfl)
theorem dX3_otherRead_27 : decode cX3_otherRead 27 = .ok (.ireturn, 1) := dk_172 (dk_at dksX3_otherRead_1 4 rfl rfl)
abbrev cX3_kindRead : ByteArray := prog_15_method_18_code
def yX3_kindRead : MethodName := ⟨RX3, "kindRead", "()I"⟩
def dkwX3_kindRead_1 : List UInt8 := [180, 0, 140, 182, 0, 136, 42, 180, 0, 96, 154, 0, 7, 27, 167, 0, 4, 3, 172]
abbrev dktX3_kindRead_1 : List UInt8 := dkwX3_kindRead_1 ++ []
def dkwX3_kindRead_0 : List UInt8 := [42, 42, 182, 0, 146, 16, 8, 42, 180, 0, 83, 182, 0, 150, 60, 27, 2, 160, 0, 12, 42, 6, 42]
abbrev dktX3_kindRead_0 : List UInt8 := dkwX3_kindRead_0 ++ dktX3_kindRead_1
theorem dksX3_kindRead_0 : cX3_kindRead.data.toList.drop 0 = dktX3_kindRead_0 := by decide +kernel
theorem dksX3_kindRead_1 : cX3_kindRead.data.toList.drop 23 = dktX3_kindRead_1 := dk_seg dksX3_kindRead_0 23 rfl rfl
theorem dX3_kindRead_0 : decode cX3_kindRead 0 = .ok (.aload_n 0, 1) := dk_42 (dk_at dksX3_kindRead_0 0 rfl rfl)
theorem dX3_kindRead_1 : decode cX3_kindRead 1 = .ok (.aload_n 0, 1) := dk_42 (dk_at dksX3_kindRead_0 1 rfl rfl)
theorem dX3_kindRead_2 : decode cX3_kindRead 2 = .ok (.invokevirtual 146, 3) := dk_182 0 146 (dk_at dksX3_kindRead_0 2 rfl rfl)
theorem dX3_kindRead_5 : decode cX3_kindRead 5 = .ok (.bipush 8, 2) := dk_16 8 (dk_at dksX3_kindRead_0 5 rfl rfl)
theorem dX3_kindRead_7 : decode cX3_kindRead 7 = .ok (.aload_n 0, 1) := dk_42 (dk_at dksX3_kindRead_0 7 rfl rfl)
theorem dX3_kindRead_8 : decode cX3_kindRead 8 = .ok (.getfield 83, 3) := dk_180 0 83 (dk_at dksX3_kindRead_0 8 rfl rfl)
theorem dX3_kindRead_11 : decode cX3_kindRead 11 = .ok (.invokevirtual 150, 3) := dk_182 0 150 (dk_at dksX3_kindRead_0 11 rfl rfl)
theorem dX3_kindRead_14 : decode cX3_kindRead 14 = .ok (.istore_n 1, 1) := dk_60 (dk_at dksX3_kindRead_0 14 rfl rfl)
theorem dX3_kindRead_15 : decode cX3_kindRead 15 = .ok (.iload_n 1, 1) := dk_27 (dk_at dksX3_kindRead_0 15 rfl rfl)
theorem dX3_kindRead_16 : decode cX3_kindRead 16 = .ok (.iconst (-1), 1) := dk_2 (dk_at dksX3_kindRead_0 16 rfl rfl)
theorem dX3_kindRead_17 : decode cX3_kindRead 17 = .ok (.if_icmp .ne 12, 3) := dk_160 0 12 (dk_at dksX3_kindRead_0 17 rfl rfl)
theorem dX3_kindRead_20 : decode cX3_kindRead 20 = .ok (.aload_n 0, 1) := dk_42 (dk_at dksX3_kindRead_0 20 rfl rfl)
theorem dX3_kindRead_21 : decode cX3_kindRead 21 = .ok (.iconst 3, 1) := dk_6 (dk_at dksX3_kindRead_0 21 rfl rfl)
theorem dX3_kindRead_22 : decode cX3_kindRead 22 = .ok (.aload_n 0, 1) := dk_42 (dk_at dksX3_kindRead_0 22 rfl rfl)
theorem dX3_kindRead_23 : decode cX3_kindRead 23 = .ok (.getfield 140, 3) := dk_180 0 140 (dk_at dksX3_kindRead_1 0 rfl rfl)
theorem dX3_kindRead_26 : decode cX3_kindRead 26 = .ok (.invokevirtual 136, 3) := dk_182 0 136 (dk_at dksX3_kindRead_1 3 rfl rfl)
theorem dX3_kindRead_29 : decode cX3_kindRead 29 = .ok (.aload_n 0, 1) := dk_42 (dk_at dksX3_kindRead_1 6 rfl rfl)
theorem dX3_kindRead_30 : decode cX3_kindRead 30 = .ok (.getfield 96, 3) := dk_180 0 96 (dk_at dksX3_kindRead_1 7 rfl rfl)
theorem dX3_kindRead_33 : decode cX3_kindRead 33 = .ok (.ifCond .ne 7, 3) := dk_154 0 7 (dk_at dksX3_kindRead_1 10 rfl rfl)
theorem dX3_kindRead_36 : decode cX3_kindRead 36 = .ok (.iload_n 1, 1) := dk_27 (dk_at dksX3_kindRead_1 13 rfl rfl)
theorem dX3_kindRead_37 : decode cX3_kindRead 37 = .ok (.goto 4, 3) := dk_167 0 4 (dk_at dksX3_kindRead_1 14 rfl rfl)
theorem dX3_kindRead_40 : decode cX3_kindRead 40 = .ok (.iconst 0, 1) := dk_3 (dk_at dksX3_kindRead_1 17 rfl rfl)
theorem dX3_kindRead_41 : decode cX3_kindRead 41 = .ok (.ireturn, 1) := dk_172 (dk_at dksX3_kindRead_1 18 rfl rfl)
abbrev cX3_adds : ByteArray := prog_15_method_26_code
def yX3_adds : MethodName := ⟨RX3, "adds", "(IIII)V"⟩
def dkwX3_adds_2 : List UInt8 := [21, 4, 79, 42, 180, 0, 13, 21, 5, 7, 96, 3, 79, 42, 180, 0, 13, 3, 92, 46, 4, 96, 79, 177]
abbrev dktX3_adds_2 : List UInt8 := dkwX3_adds_2 ++ []
def dkwX3_adds_1 : List UInt8 := [21, 5, 4, 96, 28, 79, 42, 180, 0, 13, 21, 5, 5, 96, 29, 79, 42, 180, 0, 13, 21, 5, 6, 96]
abbrev dktX3_adds_1 : List UInt8 := dkwX3_adds_1 ++ dktX3_adds_2
def dkwX3_adds_0 : List UInt8 := [5, 8, 42, 180, 0, 13, 3, 46, 104, 96, 54, 5, 42, 180, 0, 13, 21, 5, 27, 79, 42, 180, 0, 13]
abbrev dktX3_adds_0 : List UInt8 := dkwX3_adds_0 ++ dktX3_adds_1
theorem dksX3_adds_0 : cX3_adds.data.toList.drop 0 = dktX3_adds_0 := by decide +kernel
theorem dksX3_adds_1 : cX3_adds.data.toList.drop 24 = dktX3_adds_1 := dk_seg dksX3_adds_0 24 rfl rfl
theorem dksX3_adds_2 : cX3_adds.data.toList.drop 48 = dktX3_adds_2 := dk_seg dksX3_adds_1 24 rfl rfl
theorem dX3_adds_0 : decode cX3_adds 0 = .ok (.iconst 2, 1) := dk_5 (dk_at dksX3_adds_0 0 rfl rfl)
theorem dX3_adds_1 : decode cX3_adds 1 = .ok (.iconst 5, 1) := dk_8 (dk_at dksX3_adds_0 1 rfl rfl)
theorem dX3_adds_2 : decode cX3_adds 2 = .ok (.aload_n 0, 1) := dk_42 (dk_at dksX3_adds_0 2 rfl rfl)
theorem dX3_adds_3 : decode cX3_adds 3 = .ok (.getfield 13, 3) := dk_180 0 13 (dk_at dksX3_adds_0 3 rfl rfl)
theorem dX3_adds_6 : decode cX3_adds 6 = .ok (.iconst 0, 1) := dk_3 (dk_at dksX3_adds_0 6 rfl rfl)
theorem dX3_adds_7 : decode cX3_adds 7 = .ok (.iaload, 1) := dk_46 (dk_at dksX3_adds_0 7 rfl rfl)
theorem dX3_adds_8 : decode cX3_adds 8 = .ok (.imul, 1) := dk_104 (dk_at dksX3_adds_0 8 rfl rfl)
theorem dX3_adds_9 : decode cX3_adds 9 = .ok (.iadd, 1) := dk_96 (dk_at dksX3_adds_0 9 rfl rfl)
theorem dX3_adds_10 : decode cX3_adds 10 = .ok (.istore 5, 2) := dk_54 5 (dk_at dksX3_adds_0 10 rfl rfl)
theorem dX3_adds_12 : decode cX3_adds 12 = .ok (.aload_n 0, 1) := dk_42 (dk_at dksX3_adds_0 12 rfl rfl)
theorem dX3_adds_13 : decode cX3_adds 13 = .ok (.getfield 13, 3) := dk_180 0 13 (dk_at dksX3_adds_0 13 rfl rfl)
theorem dX3_adds_16 : decode cX3_adds 16 = .ok (.iload 5, 2) := dk_21 5 (dk_at dksX3_adds_0 16 rfl rfl)
theorem dX3_adds_18 : decode cX3_adds 18 = .ok (.iload_n 1, 1) := dk_27 (dk_at dksX3_adds_0 18 rfl rfl)
theorem dX3_adds_19 : decode cX3_adds 19 = .ok (.iastore, 1) := dk_79 (dk_at dksX3_adds_0 19 rfl rfl)
theorem dX3_adds_20 : decode cX3_adds 20 = .ok (.aload_n 0, 1) := dk_42 (dk_at dksX3_adds_0 20 rfl rfl)
theorem dX3_adds_21 : decode cX3_adds 21 = .ok (.getfield 13, 3) := dk_180 0 13 (dk_at dksX3_adds_0 21 rfl rfl)
theorem dX3_adds_24 : decode cX3_adds 24 = .ok (.iload 5, 2) := dk_21 5 (dk_at dksX3_adds_1 0 rfl rfl)
theorem dX3_adds_26 : decode cX3_adds 26 = .ok (.iconst 1, 1) := dk_4 (dk_at dksX3_adds_1 2 rfl rfl)
theorem dX3_adds_27 : decode cX3_adds 27 = .ok (.iadd, 1) := dk_96 (dk_at dksX3_adds_1 3 rfl rfl)
theorem dX3_adds_28 : decode cX3_adds 28 = .ok (.iload_n 2, 1) := dk_28 (dk_at dksX3_adds_1 4 rfl rfl)
theorem dX3_adds_29 : decode cX3_adds 29 = .ok (.iastore, 1) := dk_79 (dk_at dksX3_adds_1 5 rfl rfl)
theorem dX3_adds_30 : decode cX3_adds 30 = .ok (.aload_n 0, 1) := dk_42 (dk_at dksX3_adds_1 6 rfl rfl)
theorem dX3_adds_31 : decode cX3_adds 31 = .ok (.getfield 13, 3) := dk_180 0 13 (dk_at dksX3_adds_1 7 rfl rfl)
theorem dX3_adds_34 : decode cX3_adds 34 = .ok (.iload 5, 2) := dk_21 5 (dk_at dksX3_adds_1 10 rfl rfl)
theorem dX3_adds_36 : decode cX3_adds 36 = .ok (.iconst 2, 1) := dk_5 (dk_at dksX3_adds_1 12 rfl rfl)
theorem dX3_adds_37 : decode cX3_adds 37 = .ok (.iadd, 1) := dk_96 (dk_at dksX3_adds_1 13 rfl rfl)
theorem dX3_adds_38 : decode cX3_adds 38 = .ok (.iload_n 3, 1) := dk_29 (dk_at dksX3_adds_1 14 rfl rfl)
theorem dX3_adds_39 : decode cX3_adds 39 = .ok (.iastore, 1) := dk_79 (dk_at dksX3_adds_1 15 rfl rfl)
theorem dX3_adds_40 : decode cX3_adds 40 = .ok (.aload_n 0, 1) := dk_42 (dk_at dksX3_adds_1 16 rfl rfl)
theorem dX3_adds_41 : decode cX3_adds 41 = .ok (.getfield 13, 3) := dk_180 0 13 (dk_at dksX3_adds_1 17 rfl rfl)
theorem dX3_adds_44 : decode cX3_adds 44 = .ok (.iload 5, 2) := dk_21 5 (dk_at dksX3_adds_1 20 rfl rfl)
theorem dX3_adds_46 : decode cX3_adds 46 = .ok (.iconst 3, 1) := dk_6 (dk_at dksX3_adds_1 22 rfl rfl)
theorem dX3_adds_47 : decode cX3_adds 47 = .ok (.iadd, 1) := dk_96 (dk_at dksX3_adds_1 23 rfl rfl)
theorem dX3_adds_48 : decode cX3_adds 48 = .ok (.iload 4, 2) := dk_21 4 (dk_at dksX3_adds_2 0 rfl rfl)
theorem dX3_adds_50 : decode cX3_adds 50 = .ok (.iastore, 1) := dk_79 (dk_at dksX3_adds_2 2 rfl rfl)
theorem dX3_adds_51 : decode cX3_adds 51 = .ok (.aload_n 0, 1) := dk_42 (dk_at dksX3_adds_2 3 rfl rfl)
theorem dX3_adds_52 : decode cX3_adds 52 = .ok (.getfield 13, 3) := dk_180 0 13 (dk_at dksX3_adds_2 4 rfl rfl)
theorem dX3_adds_55 : decode cX3_adds 55 = .ok (.iload 5, 2) := dk_21 5 (dk_at dksX3_adds_2 7 rfl rfl)
theorem dX3_adds_57 : decode cX3_adds 57 = .ok (.iconst 4, 1) := dk_7 (dk_at dksX3_adds_2 9 rfl rfl)
theorem dX3_adds_58 : decode cX3_adds 58 = .ok (.iadd, 1) := dk_96 (dk_at dksX3_adds_2 10 rfl rfl)
theorem dX3_adds_59 : decode cX3_adds 59 = .ok (.iconst 0, 1) := dk_3 (dk_at dksX3_adds_2 11 rfl rfl)
theorem dX3_adds_60 : decode cX3_adds 60 = .ok (.iastore, 1) := dk_79 (dk_at dksX3_adds_2 12 rfl rfl)
theorem dX3_adds_61 : decode cX3_adds 61 = .ok (.aload_n 0, 1) := dk_42 (dk_at dksX3_adds_2 13 rfl rfl)
theorem dX3_adds_62 : decode cX3_adds 62 = .ok (.getfield 13, 3) := dk_180 0 13 (dk_at dksX3_adds_2 14 rfl rfl)
theorem dX3_adds_65 : decode cX3_adds 65 = .ok (.iconst 0, 1) := dk_3 (dk_at dksX3_adds_2 17 rfl rfl)
theorem dX3_adds_66 : decode cX3_adds 66 = .ok (.dup2, 1) := dk_92 (dk_at dksX3_adds_2 18 rfl rfl)
theorem dX3_adds_67 : decode cX3_adds 67 = .ok (.iaload, 1) := dk_46 (dk_at dksX3_adds_2 19 rfl rfl)
theorem dX3_adds_68 : decode cX3_adds 68 = .ok (.iconst 1, 1) := dk_4 (dk_at dksX3_adds_2 20 rfl rfl)
theorem dX3_adds_69 : decode cX3_adds 69 = .ok (.iadd, 1) := dk_96 (dk_at dksX3_adds_2 21 rfl rfl)
theorem dX3_adds_70 : decode cX3_adds 70 = .ok (.iastore, 1) := dk_79 (dk_at dksX3_adds_2 22 rfl rfl)
theorem dX3_adds_71 : decode cX3_adds 71 = .ok (.return_, 1) := dk_177 (dk_at dksX3_adds_2 23 rfl rfl)
abbrev cX3_fault : ByteArray := prog_15_method_24_code
def yX3_fault : MethodName := ⟨RX3, "fault", "(I)I"⟩
def dkwX3_fault_1 : List UInt8 := [180, 0, 34, 167, 0, 4, 2, 172]
abbrev dktX3_fault_1 : List UInt8 := dkwX3_fault_1 ++ []
def dkwX3_fault_0 : List UInt8 := [42, 3, 181, 0, 1, 27, 154, 0, 10, 42, 180, 0, 96, 167, 0, 16, 27, 4, 160, 0, 10, 42]
abbrev dktX3_fault_0 : List UInt8 := dkwX3_fault_0 ++ dktX3_fault_1
theorem dksX3_fault_0 : cX3_fault.data.toList.drop 0 = dktX3_fault_0 := by decide +kernel
theorem dksX3_fault_1 : cX3_fault.data.toList.drop 22 = dktX3_fault_1 := dk_seg dksX3_fault_0 22 rfl rfl
theorem dX3_fault_0 : decode cX3_fault 0 = .ok (.aload_n 0, 1) := dk_42 (dk_at dksX3_fault_0 0 rfl rfl)
theorem dX3_fault_1 : decode cX3_fault 1 = .ok (.iconst 0, 1) := dk_3 (dk_at dksX3_fault_0 1 rfl rfl)
theorem dX3_fault_2 : decode cX3_fault 2 = .ok (.putfield 1, 3) := dk_181 0 1 (dk_at dksX3_fault_0 2 rfl rfl)
theorem dX3_fault_5 : decode cX3_fault 5 = .ok (.iload_n 1, 1) := dk_27 (dk_at dksX3_fault_0 5 rfl rfl)
theorem dX3_fault_6 : decode cX3_fault 6 = .ok (.ifCond .ne 10, 3) := dk_154 0 10 (dk_at dksX3_fault_0 6 rfl rfl)
theorem dX3_fault_9 : decode cX3_fault 9 = .ok (.aload_n 0, 1) := dk_42 (dk_at dksX3_fault_0 9 rfl rfl)
theorem dX3_fault_10 : decode cX3_fault 10 = .ok (.getfield 96, 3) := dk_180 0 96 (dk_at dksX3_fault_0 10 rfl rfl)
theorem dX3_fault_13 : decode cX3_fault 13 = .ok (.goto 16, 3) := dk_167 0 16 (dk_at dksX3_fault_0 13 rfl rfl)
theorem dX3_fault_16 : decode cX3_fault 16 = .ok (.iload_n 1, 1) := dk_27 (dk_at dksX3_fault_0 16 rfl rfl)
theorem dX3_fault_17 : decode cX3_fault 17 = .ok (.iconst 1, 1) := dk_4 (dk_at dksX3_fault_0 17 rfl rfl)
theorem dX3_fault_18 : decode cX3_fault 18 = .ok (.if_icmp .ne 10, 3) := dk_160 0 10 (dk_at dksX3_fault_0 18 rfl rfl)
theorem dX3_fault_21 : decode cX3_fault 21 = .ok (.aload_n 0, 1) := dk_42 (dk_at dksX3_fault_0 21 rfl rfl)
theorem dX3_fault_22 : decode cX3_fault 22 = .ok (.getfield 34, 3) := dk_180 0 34 (dk_at dksX3_fault_1 0 rfl rfl)
theorem dX3_fault_25 : decode cX3_fault 25 = .ok (.goto 4, 3) := dk_167 0 4 (dk_at dksX3_fault_1 3 rfl rfl)
theorem dX3_fault_28 : decode cX3_fault 28 = .ok (.iconst (-1), 1) := dk_2 (dk_at dksX3_fault_1 6 rfl rfl)
theorem dX3_fault_29 : decode cX3_fault 29 = .ok (.ireturn, 1) := dk_172 (dk_at dksX3_fault_1 7 rfl rfl)
abbrev cX3_trade : ByteArray := prog_15_method_33_code
def yX3_trade : MethodName := ⟨RX3, "trade", "(IIII)I"⟩
def dkwX3_trade_3 : List UInt8 := [180, 0, 13, 3, 46, 4, 100, 172]
abbrev dktX3_trade_3 : List UInt8 := dkwX3_trade_3 ++ []
def dkwX3_trade_2 : List UInt8 := [16, 40, 160, 0, 6, 16, 252, 172, 42, 182, 0, 210, 42, 27, 28, 29, 21, 4, 182, 0, 188, 42]
abbrev dktX3_trade_2 : List UInt8 := dkwX3_trade_2 ++ dktX3_trade_3
def dkwX3_trade_1 : List UInt8 := [16, 254, 172, 29, 133, 10, 20, 0, 208, 184, 0, 103, 154, 0, 6, 16, 253, 172, 42, 180, 0, 13, 3, 46]
abbrev dktX3_trade_1 : List UInt8 := dkwX3_trade_1 ++ dktX3_trade_2
def dkwX3_trade_0 : List UInt8 := [42, 3, 181, 0, 1, 42, 27, 28, 182, 0, 201, 153, 0, 12, 42, 21, 4, 182, 0, 205, 154, 0, 6]
abbrev dktX3_trade_0 : List UInt8 := dkwX3_trade_0 ++ dktX3_trade_1
theorem dksX3_trade_0 : cX3_trade.data.toList.drop 0 = dktX3_trade_0 := by decide +kernel
theorem dksX3_trade_1 : cX3_trade.data.toList.drop 23 = dktX3_trade_1 := dk_seg dksX3_trade_0 23 rfl rfl
theorem dksX3_trade_2 : cX3_trade.data.toList.drop 47 = dktX3_trade_2 := dk_seg dksX3_trade_1 24 rfl rfl
theorem dksX3_trade_3 : cX3_trade.data.toList.drop 69 = dktX3_trade_3 := dk_seg dksX3_trade_2 22 rfl rfl
theorem dX3_trade_0 : decode cX3_trade 0 = .ok (.aload_n 0, 1) := dk_42 (dk_at dksX3_trade_0 0 rfl rfl)
theorem dX3_trade_1 : decode cX3_trade 1 = .ok (.iconst 0, 1) := dk_3 (dk_at dksX3_trade_0 1 rfl rfl)
theorem dX3_trade_2 : decode cX3_trade 2 = .ok (.putfield 1, 3) := dk_181 0 1 (dk_at dksX3_trade_0 2 rfl rfl)
theorem dX3_trade_5 : decode cX3_trade 5 = .ok (.aload_n 0, 1) := dk_42 (dk_at dksX3_trade_0 5 rfl rfl)
theorem dX3_trade_6 : decode cX3_trade 6 = .ok (.iload_n 1, 1) := dk_27 (dk_at dksX3_trade_0 6 rfl rfl)
theorem dX3_trade_7 : decode cX3_trade 7 = .ok (.iload_n 2, 1) := dk_28 (dk_at dksX3_trade_0 7 rfl rfl)
theorem dX3_trade_8 : decode cX3_trade 8 = .ok (.invokevirtual 201, 3) := dk_182 0 201 (dk_at dksX3_trade_0 8 rfl rfl)
theorem dX3_trade_11 : decode cX3_trade 11 = .ok (.ifCond .eq 12, 3) := dk_153 0 12 (dk_at dksX3_trade_0 11 rfl rfl)
theorem dX3_trade_14 : decode cX3_trade 14 = .ok (.aload_n 0, 1) := dk_42 (dk_at dksX3_trade_0 14 rfl rfl)
theorem dX3_trade_15 : decode cX3_trade 15 = .ok (.iload 4, 2) := dk_21 4 (dk_at dksX3_trade_0 15 rfl rfl)
theorem dX3_trade_17 : decode cX3_trade 17 = .ok (.invokevirtual 205, 3) := dk_182 0 205 (dk_at dksX3_trade_0 17 rfl rfl)
theorem dX3_trade_20 : decode cX3_trade 20 = .ok (.ifCond .ne 6, 3) := dk_154 0 6 (dk_at dksX3_trade_0 20 rfl rfl)
theorem dX3_trade_23 : decode cX3_trade 23 = .ok (.bipush (-2), 2) := dk_16 254 (dk_at dksX3_trade_1 0 rfl rfl)
theorem dX3_trade_25 : decode cX3_trade 25 = .ok (.ireturn, 1) := dk_172 (dk_at dksX3_trade_1 2 rfl rfl)
theorem dX3_trade_26 : decode cX3_trade 26 = .ok (.iload_n 3, 1) := dk_29 (dk_at dksX3_trade_1 3 rfl rfl)
theorem dX3_trade_27 : decode cX3_trade 27 = .ok (.i2l, 1) := dk_133 (dk_at dksX3_trade_1 4 rfl rfl)
theorem dX3_trade_28 : decode cX3_trade 28 = .ok (.lconst 1, 1) := dk_10 (dk_at dksX3_trade_1 5 rfl rfl)
theorem dX3_trade_29 : decode cX3_trade 29 = .ok (.ldc2_w 208, 3) := dk_20 0 208 (dk_at dksX3_trade_1 6 rfl rfl)
theorem dX3_trade_32 : decode cX3_trade 32 = .ok (.invokestatic 103, 3) := dk_184 0 103 (dk_at dksX3_trade_1 9 rfl rfl)
theorem dX3_trade_35 : decode cX3_trade 35 = .ok (.ifCond .ne 6, 3) := dk_154 0 6 (dk_at dksX3_trade_1 12 rfl rfl)
theorem dX3_trade_38 : decode cX3_trade 38 = .ok (.bipush (-3), 2) := dk_16 253 (dk_at dksX3_trade_1 15 rfl rfl)
theorem dX3_trade_40 : decode cX3_trade 40 = .ok (.ireturn, 1) := dk_172 (dk_at dksX3_trade_1 17 rfl rfl)
theorem dX3_trade_41 : decode cX3_trade 41 = .ok (.aload_n 0, 1) := dk_42 (dk_at dksX3_trade_1 18 rfl rfl)
theorem dX3_trade_42 : decode cX3_trade 42 = .ok (.getfield 13, 3) := dk_180 0 13 (dk_at dksX3_trade_1 19 rfl rfl)
theorem dX3_trade_45 : decode cX3_trade 45 = .ok (.iconst 0, 1) := dk_3 (dk_at dksX3_trade_1 22 rfl rfl)
theorem dX3_trade_46 : decode cX3_trade 46 = .ok (.iaload, 1) := dk_46 (dk_at dksX3_trade_1 23 rfl rfl)
theorem dX3_trade_47 : decode cX3_trade 47 = .ok (.bipush 40, 2) := dk_16 40 (dk_at dksX3_trade_2 0 rfl rfl)
theorem dX3_trade_49 : decode cX3_trade 49 = .ok (.if_icmp .ne 6, 3) := dk_160 0 6 (dk_at dksX3_trade_2 2 rfl rfl)
theorem dX3_trade_52 : decode cX3_trade 52 = .ok (.bipush (-4), 2) := dk_16 252 (dk_at dksX3_trade_2 5 rfl rfl)
theorem dX3_trade_54 : decode cX3_trade 54 = .ok (.ireturn, 1) := dk_172 (dk_at dksX3_trade_2 7 rfl rfl)
theorem dX3_trade_55 : decode cX3_trade 55 = .ok (.aload_n 0, 1) := dk_42 (dk_at dksX3_trade_2 8 rfl rfl)
theorem dX3_trade_56 : decode cX3_trade 56 = .ok (.invokevirtual 210, 3) := dk_182 0 210 (dk_at dksX3_trade_2 9 rfl rfl)
theorem dX3_trade_59 : decode cX3_trade 59 = .ok (.aload_n 0, 1) := dk_42 (dk_at dksX3_trade_2 12 rfl rfl)
theorem dX3_trade_60 : decode cX3_trade 60 = .ok (.iload_n 1, 1) := dk_27 (dk_at dksX3_trade_2 13 rfl rfl)
theorem dX3_trade_61 : decode cX3_trade 61 = .ok (.iload_n 2, 1) := dk_28 (dk_at dksX3_trade_2 14 rfl rfl)
theorem dX3_trade_62 : decode cX3_trade 62 = .ok (.iload_n 3, 1) := dk_29 (dk_at dksX3_trade_2 15 rfl rfl)
theorem dX3_trade_63 : decode cX3_trade 63 = .ok (.iload 4, 2) := dk_21 4 (dk_at dksX3_trade_2 16 rfl rfl)
theorem dX3_trade_65 : decode cX3_trade 65 = .ok (.invokevirtual 188, 3) := dk_182 0 188 (dk_at dksX3_trade_2 18 rfl rfl)
theorem dX3_trade_68 : decode cX3_trade 68 = .ok (.aload_n 0, 1) := dk_42 (dk_at dksX3_trade_2 21 rfl rfl)
theorem dX3_trade_69 : decode cX3_trade 69 = .ok (.getfield 13, 3) := dk_180 0 13 (dk_at dksX3_trade_3 0 rfl rfl)
theorem dX3_trade_72 : decode cX3_trade 72 = .ok (.iconst 0, 1) := dk_3 (dk_at dksX3_trade_3 3 rfl rfl)
theorem dX3_trade_73 : decode cX3_trade 73 = .ok (.iaload, 1) := dk_46 (dk_at dksX3_trade_3 4 rfl rfl)
theorem dX3_trade_74 : decode cX3_trade 74 = .ok (.iconst 1, 1) := dk_4 (dk_at dksX3_trade_3 5 rfl rfl)
theorem dX3_trade_75 : decode cX3_trade 75 = .ok (.isub, 1) := dk_100 (dk_at dksX3_trade_3 6 rfl rfl)
theorem dX3_trade_76 : decode cX3_trade 76 = .ok (.ireturn, 1) := dk_172 (dk_at dksX3_trade_3 7 rfl rfl)
abbrev cX3_areTwo : ByteArray := prog_15_method_31_code
def yX3_areTwo : MethodName := ⟨RX3, "areTwo", "(II)Z"⟩
def dkwX3_areTwo_1 : List UInt8 := [167, 0, 4, 3, 172]
abbrev dktX3_areTwo_1 : List UInt8 := dkwX3_areTwo_1 ++ []
def dkwX3_areTwo_0 : List UInt8 := [42, 27, 182, 0, 198, 153, 0, 20, 42, 28, 182, 0, 198, 153, 0, 12, 27, 28, 159, 0, 7, 4]
abbrev dktX3_areTwo_0 : List UInt8 := dkwX3_areTwo_0 ++ dktX3_areTwo_1
theorem dksX3_areTwo_0 : cX3_areTwo.data.toList.drop 0 = dktX3_areTwo_0 := by decide +kernel
theorem dksX3_areTwo_1 : cX3_areTwo.data.toList.drop 22 = dktX3_areTwo_1 := dk_seg dksX3_areTwo_0 22 rfl rfl
theorem dX3_areTwo_0 : decode cX3_areTwo 0 = .ok (.aload_n 0, 1) := dk_42 (dk_at dksX3_areTwo_0 0 rfl rfl)
theorem dX3_areTwo_1 : decode cX3_areTwo 1 = .ok (.iload_n 1, 1) := dk_27 (dk_at dksX3_areTwo_0 1 rfl rfl)
theorem dX3_areTwo_2 : decode cX3_areTwo 2 = .ok (.invokevirtual 198, 3) := dk_182 0 198 (dk_at dksX3_areTwo_0 2 rfl rfl)
theorem dX3_areTwo_5 : decode cX3_areTwo 5 = .ok (.ifCond .eq 20, 3) := dk_153 0 20 (dk_at dksX3_areTwo_0 5 rfl rfl)
theorem dX3_areTwo_8 : decode cX3_areTwo 8 = .ok (.aload_n 0, 1) := dk_42 (dk_at dksX3_areTwo_0 8 rfl rfl)
theorem dX3_areTwo_9 : decode cX3_areTwo 9 = .ok (.iload_n 2, 1) := dk_28 (dk_at dksX3_areTwo_0 9 rfl rfl)
theorem dX3_areTwo_10 : decode cX3_areTwo 10 = .ok (.invokevirtual 198, 3) := dk_182 0 198 (dk_at dksX3_areTwo_0 10 rfl rfl)
theorem dX3_areTwo_13 : decode cX3_areTwo 13 = .ok (.ifCond .eq 12, 3) := dk_153 0 12 (dk_at dksX3_areTwo_0 13 rfl rfl)
theorem dX3_areTwo_16 : decode cX3_areTwo 16 = .ok (.iload_n 1, 1) := dk_27 (dk_at dksX3_areTwo_0 16 rfl rfl)
theorem dX3_areTwo_17 : decode cX3_areTwo 17 = .ok (.iload_n 2, 1) := dk_28 (dk_at dksX3_areTwo_0 17 rfl rfl)
theorem dX3_areTwo_18 : decode cX3_areTwo 18 = .ok (.if_icmp .eq 7, 3) := dk_159 0 7 (dk_at dksX3_areTwo_0 18 rfl rfl)
theorem dX3_areTwo_21 : decode cX3_areTwo 21 = .ok (.iconst 1, 1) := dk_4 (dk_at dksX3_areTwo_0 21 rfl rfl)
theorem dX3_areTwo_22 : decode cX3_areTwo 22 = .ok (.goto 4, 3) := dk_167 0 4 (dk_at dksX3_areTwo_1 0 rfl rfl)
theorem dX3_areTwo_25 : decode cX3_areTwo 25 = .ok (.iconst 0, 1) := dk_3 (dk_at dksX3_areTwo_1 3 rfl rfl)
theorem dX3_areTwo_26 : decode cX3_areTwo 26 = .ok (.ireturn, 1) := dk_172 (dk_at dksX3_areTwo_1 4 rfl rfl)
abbrev cX3_isParty : ByteArray := prog_15_method_28_code
def yX3_isParty : MethodName := ⟨RX3, "isParty", "(I)Z"⟩
def dkwX3_isParty_0 : List UInt8 := [27, 133, 9, 42, 180, 0, 80, 4, 100, 133, 184, 0, 103, 172]
abbrev dktX3_isParty_0 : List UInt8 := dkwX3_isParty_0 ++ []
theorem dksX3_isParty_0 : cX3_isParty.data.toList.drop 0 = dktX3_isParty_0 := by decide +kernel
theorem dX3_isParty_0 : decode cX3_isParty 0 = .ok (.iload_n 1, 1) := dk_27 (dk_at dksX3_isParty_0 0 rfl rfl)
theorem dX3_isParty_1 : decode cX3_isParty 1 = .ok (.i2l, 1) := dk_133 (dk_at dksX3_isParty_0 1 rfl rfl)
theorem dX3_isParty_2 : decode cX3_isParty 2 = .ok (.lconst 0, 1) := dk_9 (dk_at dksX3_isParty_0 2 rfl rfl)
theorem dX3_isParty_3 : decode cX3_isParty 3 = .ok (.aload_n 0, 1) := dk_42 (dk_at dksX3_isParty_0 3 rfl rfl)
theorem dX3_isParty_4 : decode cX3_isParty 4 = .ok (.getfield 80, 3) := dk_180 0 80 (dk_at dksX3_isParty_0 4 rfl rfl)
theorem dX3_isParty_7 : decode cX3_isParty 7 = .ok (.iconst 1, 1) := dk_4 (dk_at dksX3_isParty_0 7 rfl rfl)
theorem dX3_isParty_8 : decode cX3_isParty 8 = .ok (.isub, 1) := dk_100 (dk_at dksX3_isParty_0 8 rfl rfl)
theorem dX3_isParty_9 : decode cX3_isParty 9 = .ok (.i2l, 1) := dk_133 (dk_at dksX3_isParty_0 9 rfl rfl)
theorem dX3_isParty_10 : decode cX3_isParty 10 = .ok (.invokestatic 103, 3) := dk_184 0 103 (dk_at dksX3_isParty_0 10 rfl rfl)
theorem dX3_isParty_13 : decode cX3_isParty 13 = .ok (.ireturn, 1) := dk_172 (dk_at dksX3_isParty_0 13 rfl rfl)
abbrev cX3_isKind : ByteArray := prog_15_method_29_code
def yX3_isKind : MethodName := ⟨RX3, "isKind", "(I)Z"⟩
def dkwX3_isKind_0 : List UInt8 := [27, 133, 9, 42, 180, 0, 83, 4, 100, 133, 184, 0, 103, 172]
abbrev dktX3_isKind_0 : List UInt8 := dkwX3_isKind_0 ++ []
theorem dksX3_isKind_0 : cX3_isKind.data.toList.drop 0 = dktX3_isKind_0 := by decide +kernel
theorem dX3_isKind_0 : decode cX3_isKind 0 = .ok (.iload_n 1, 1) := dk_27 (dk_at dksX3_isKind_0 0 rfl rfl)
theorem dX3_isKind_1 : decode cX3_isKind 1 = .ok (.i2l, 1) := dk_133 (dk_at dksX3_isKind_0 1 rfl rfl)
theorem dX3_isKind_2 : decode cX3_isKind 2 = .ok (.lconst 0, 1) := dk_9 (dk_at dksX3_isKind_0 2 rfl rfl)
theorem dX3_isKind_3 : decode cX3_isKind 3 = .ok (.aload_n 0, 1) := dk_42 (dk_at dksX3_isKind_0 3 rfl rfl)
theorem dX3_isKind_4 : decode cX3_isKind 4 = .ok (.getfield 83, 3) := dk_180 0 83 (dk_at dksX3_isKind_0 4 rfl rfl)
theorem dX3_isKind_7 : decode cX3_isKind 7 = .ok (.iconst 1, 1) := dk_4 (dk_at dksX3_isKind_0 7 rfl rfl)
theorem dX3_isKind_8 : decode cX3_isKind 8 = .ok (.isub, 1) := dk_100 (dk_at dksX3_isKind_0 8 rfl rfl)
theorem dX3_isKind_9 : decode cX3_isKind 9 = .ok (.i2l, 1) := dk_133 (dk_at dksX3_isKind_0 9 rfl rfl)
theorem dX3_isKind_10 : decode cX3_isKind 10 = .ok (.invokestatic 103, 3) := dk_184 0 103 (dk_at dksX3_isKind_0 10 rfl rfl)
theorem dX3_isKind_13 : decode cX3_isKind 13 = .ok (.ireturn, 1) := dk_172 (dk_at dksX3_isKind_0 13 rfl rfl)
abbrev cX3_remembers : ByteArray := prog_15_method_32_code
def yX3_remembers : MethodName := ⟨RX3, "remembers", "()V"⟩
def dkwX3_remembers_4 : List UInt8 := [181, 0, 195, 177]
abbrev dktX3_remembers_4 : List UInt8 := dkwX3_remembers_4 ++ []
def dkwX3_remembers_3 : List UInt8 := [27, 96, 42, 180, 0, 13, 27, 46, 79, 132, 1, 1, 167, 255, 225, 42, 89, 180, 0, 195, 4, 96]
abbrev dktX3_remembers_3 : List UInt8 := dkwX3_remembers_3 ++ dktX3_remembers_4
def dkwX3_remembers_2 : List UInt8 := [181, 0, 195, 3, 60, 27, 17, 1, 10, 162, 0, 30, 42, 180, 0, 20, 17, 1, 10, 42, 180, 0, 195, 104]
abbrev dktX3_remembers_2 : List UInt8 := dkwX3_remembers_2 ++ dktX3_remembers_3
def dkwX3_remembers_1 : List UInt8 := [180, 0, 20, 27, 17, 1, 10, 96, 46, 79, 132, 1, 1, 167, 255, 230, 42, 89, 180, 0, 195, 4, 100]
abbrev dktX3_remembers_1 : List UInt8 := dkwX3_remembers_1 ++ dktX3_remembers_2
def dkwX3_remembers_0 : List UInt8 := [42, 180, 0, 195, 16, 10, 160, 0, 44, 3, 60, 27, 17, 9, 90, 162, 0, 25, 42, 180, 0, 20, 27, 42]
abbrev dktX3_remembers_0 : List UInt8 := dkwX3_remembers_0 ++ dktX3_remembers_1
theorem dksX3_remembers_0 : cX3_remembers.data.toList.drop 0 = dktX3_remembers_0 := by decide +kernel
theorem dksX3_remembers_1 : cX3_remembers.data.toList.drop 24 = dktX3_remembers_1 := dk_seg dksX3_remembers_0 24 rfl rfl
theorem dksX3_remembers_2 : cX3_remembers.data.toList.drop 47 = dktX3_remembers_2 := dk_seg dksX3_remembers_1 23 rfl rfl
theorem dksX3_remembers_3 : cX3_remembers.data.toList.drop 71 = dktX3_remembers_3 := dk_seg dksX3_remembers_2 24 rfl rfl
theorem dksX3_remembers_4 : cX3_remembers.data.toList.drop 93 = dktX3_remembers_4 := dk_seg dksX3_remembers_3 22 rfl rfl
theorem dX3_remembers_0 : decode cX3_remembers 0 = .ok (.aload_n 0, 1) := dk_42 (dk_at dksX3_remembers_0 0 rfl rfl)
theorem dX3_remembers_1 : decode cX3_remembers 1 = .ok (.getfield 195, 3) := dk_180 0 195 (dk_at dksX3_remembers_0 1 rfl rfl)
theorem dX3_remembers_4 : decode cX3_remembers 4 = .ok (.bipush 10, 2) := dk_16 10 (dk_at dksX3_remembers_0 4 rfl rfl)
theorem dX3_remembers_6 : decode cX3_remembers 6 = .ok (.if_icmp .ne 44, 3) := dk_160 0 44 (dk_at dksX3_remembers_0 6 rfl rfl)
theorem dX3_remembers_9 : decode cX3_remembers 9 = .ok (.iconst 0, 1) := dk_3 (dk_at dksX3_remembers_0 9 rfl rfl)
theorem dX3_remembers_10 : decode cX3_remembers 10 = .ok (.istore_n 1, 1) := dk_60 (dk_at dksX3_remembers_0 10 rfl rfl)
theorem dX3_remembers_11 : decode cX3_remembers 11 = .ok (.iload_n 1, 1) := dk_27 (dk_at dksX3_remembers_0 11 rfl rfl)
theorem dX3_remembers_12 : decode cX3_remembers 12 = .ok (.sipush 2394, 3) := dk_17 9 90 (dk_at dksX3_remembers_0 12 rfl rfl)
theorem dX3_remembers_15 : decode cX3_remembers 15 = .ok (.if_icmp .ge 25, 3) := dk_162 0 25 (dk_at dksX3_remembers_0 15 rfl rfl)
theorem dX3_remembers_18 : decode cX3_remembers 18 = .ok (.aload_n 0, 1) := dk_42 (dk_at dksX3_remembers_0 18 rfl rfl)
theorem dX3_remembers_19 : decode cX3_remembers 19 = .ok (.getfield 20, 3) := dk_180 0 20 (dk_at dksX3_remembers_0 19 rfl rfl)
theorem dX3_remembers_22 : decode cX3_remembers 22 = .ok (.iload_n 1, 1) := dk_27 (dk_at dksX3_remembers_0 22 rfl rfl)
theorem dX3_remembers_23 : decode cX3_remembers 23 = .ok (.aload_n 0, 1) := dk_42 (dk_at dksX3_remembers_0 23 rfl rfl)
theorem dX3_remembers_24 : decode cX3_remembers 24 = .ok (.getfield 20, 3) := dk_180 0 20 (dk_at dksX3_remembers_1 0 rfl rfl)
theorem dX3_remembers_27 : decode cX3_remembers 27 = .ok (.iload_n 1, 1) := dk_27 (dk_at dksX3_remembers_1 3 rfl rfl)
theorem dX3_remembers_28 : decode cX3_remembers 28 = .ok (.sipush 266, 3) := dk_17 1 10 (dk_at dksX3_remembers_1 4 rfl rfl)
theorem dX3_remembers_31 : decode cX3_remembers 31 = .ok (.iadd, 1) := dk_96 (dk_at dksX3_remembers_1 7 rfl rfl)
theorem dX3_remembers_32 : decode cX3_remembers 32 = .ok (.iaload, 1) := dk_46 (dk_at dksX3_remembers_1 8 rfl rfl)
theorem dX3_remembers_33 : decode cX3_remembers 33 = .ok (.iastore, 1) := dk_79 (dk_at dksX3_remembers_1 9 rfl rfl)
theorem dX3_remembers_34 : decode cX3_remembers 34 = .ok (.iinc 1 1, 3) := dk_132 1 1 (dk_at dksX3_remembers_1 10 rfl rfl)
theorem dX3_remembers_37 : decode cX3_remembers 37 = .ok (.goto (-26), 3) := dk_167 255 230 (dk_at dksX3_remembers_1 13 rfl rfl)
theorem dX3_remembers_40 : decode cX3_remembers 40 = .ok (.aload_n 0, 1) := dk_42 (dk_at dksX3_remembers_1 16 rfl rfl)
theorem dX3_remembers_41 : decode cX3_remembers 41 = .ok (.dup, 1) := dk_89 (dk_at dksX3_remembers_1 17 rfl rfl)
theorem dX3_remembers_42 : decode cX3_remembers 42 = .ok (.getfield 195, 3) := dk_180 0 195 (dk_at dksX3_remembers_1 18 rfl rfl)
theorem dX3_remembers_45 : decode cX3_remembers 45 = .ok (.iconst 1, 1) := dk_4 (dk_at dksX3_remembers_1 21 rfl rfl)
theorem dX3_remembers_46 : decode cX3_remembers 46 = .ok (.isub, 1) := dk_100 (dk_at dksX3_remembers_1 22 rfl rfl)
theorem dX3_remembers_47 : decode cX3_remembers 47 = .ok (.putfield 195, 3) := dk_181 0 195 (dk_at dksX3_remembers_2 0 rfl rfl)
theorem dX3_remembers_50 : decode cX3_remembers 50 = .ok (.iconst 0, 1) := dk_3 (dk_at dksX3_remembers_2 3 rfl rfl)
theorem dX3_remembers_51 : decode cX3_remembers 51 = .ok (.istore_n 1, 1) := dk_60 (dk_at dksX3_remembers_2 4 rfl rfl)
theorem dX3_remembers_52 : decode cX3_remembers 52 = .ok (.iload_n 1, 1) := dk_27 (dk_at dksX3_remembers_2 5 rfl rfl)
theorem dX3_remembers_53 : decode cX3_remembers 53 = .ok (.sipush 266, 3) := dk_17 1 10 (dk_at dksX3_remembers_2 6 rfl rfl)
theorem dX3_remembers_56 : decode cX3_remembers 56 = .ok (.if_icmp .ge 30, 3) := dk_162 0 30 (dk_at dksX3_remembers_2 9 rfl rfl)
theorem dX3_remembers_59 : decode cX3_remembers 59 = .ok (.aload_n 0, 1) := dk_42 (dk_at dksX3_remembers_2 12 rfl rfl)
theorem dX3_remembers_60 : decode cX3_remembers 60 = .ok (.getfield 20, 3) := dk_180 0 20 (dk_at dksX3_remembers_2 13 rfl rfl)
theorem dX3_remembers_63 : decode cX3_remembers 63 = .ok (.sipush 266, 3) := dk_17 1 10 (dk_at dksX3_remembers_2 16 rfl rfl)
theorem dX3_remembers_66 : decode cX3_remembers 66 = .ok (.aload_n 0, 1) := dk_42 (dk_at dksX3_remembers_2 19 rfl rfl)
theorem dX3_remembers_67 : decode cX3_remembers 67 = .ok (.getfield 195, 3) := dk_180 0 195 (dk_at dksX3_remembers_2 20 rfl rfl)
theorem dX3_remembers_70 : decode cX3_remembers 70 = .ok (.imul, 1) := dk_104 (dk_at dksX3_remembers_2 23 rfl rfl)
theorem dX3_remembers_71 : decode cX3_remembers 71 = .ok (.iload_n 1, 1) := dk_27 (dk_at dksX3_remembers_3 0 rfl rfl)
theorem dX3_remembers_72 : decode cX3_remembers 72 = .ok (.iadd, 1) := dk_96 (dk_at dksX3_remembers_3 1 rfl rfl)
theorem dX3_remembers_73 : decode cX3_remembers 73 = .ok (.aload_n 0, 1) := dk_42 (dk_at dksX3_remembers_3 2 rfl rfl)
theorem dX3_remembers_74 : decode cX3_remembers 74 = .ok (.getfield 13, 3) := dk_180 0 13 (dk_at dksX3_remembers_3 3 rfl rfl)
theorem dX3_remembers_77 : decode cX3_remembers 77 = .ok (.iload_n 1, 1) := dk_27 (dk_at dksX3_remembers_3 6 rfl rfl)
theorem dX3_remembers_78 : decode cX3_remembers 78 = .ok (.iaload, 1) := dk_46 (dk_at dksX3_remembers_3 7 rfl rfl)
theorem dX3_remembers_79 : decode cX3_remembers 79 = .ok (.iastore, 1) := dk_79 (dk_at dksX3_remembers_3 8 rfl rfl)
theorem dX3_remembers_80 : decode cX3_remembers 80 = .ok (.iinc 1 1, 3) := dk_132 1 1 (dk_at dksX3_remembers_3 9 rfl rfl)
theorem dX3_remembers_83 : decode cX3_remembers 83 = .ok (.goto (-31), 3) := dk_167 255 225 (dk_at dksX3_remembers_3 12 rfl rfl)
theorem dX3_remembers_86 : decode cX3_remembers 86 = .ok (.aload_n 0, 1) := dk_42 (dk_at dksX3_remembers_3 15 rfl rfl)
theorem dX3_remembers_87 : decode cX3_remembers 87 = .ok (.dup, 1) := dk_89 (dk_at dksX3_remembers_3 16 rfl rfl)
theorem dX3_remembers_88 : decode cX3_remembers 88 = .ok (.getfield 195, 3) := dk_180 0 195 (dk_at dksX3_remembers_3 17 rfl rfl)
theorem dX3_remembers_91 : decode cX3_remembers 91 = .ok (.iconst 1, 1) := dk_4 (dk_at dksX3_remembers_3 20 rfl rfl)
theorem dX3_remembers_92 : decode cX3_remembers 92 = .ok (.iadd, 1) := dk_96 (dk_at dksX3_remembers_3 21 rfl rfl)
theorem dX3_remembers_93 : decode cX3_remembers 93 = .ok (.putfield 195, 3) := dk_181 0 195 (dk_at dksX3_remembers_4 0 rfl rfl)
theorem dX3_remembers_96 : decode cX3_remembers 96 = .ok (.return_, 1) := dk_177 (dk_at dksX3_remembers_4 3 rfl rfl)
abbrev cX3_drop : ByteArray := prog_15_method_34_code
def yX3_drop : MethodName := ⟨RX3, "drop", "(I)I"⟩
def dkwX3_drop_1 : List UInt8 := [182, 0, 216, 42, 180, 0, 13, 3, 46, 172]
abbrev dktX3_drop_1 : List UInt8 := dkwX3_drop_1 ++ []
def dkwX3_drop_0 : List UInt8 := [42, 3, 181, 0, 1, 42, 27, 182, 0, 213, 154, 0, 6, 16, 254, 172, 42, 182, 0, 210, 42, 27]
abbrev dktX3_drop_0 : List UInt8 := dkwX3_drop_0 ++ dktX3_drop_1
theorem dksX3_drop_0 : cX3_drop.data.toList.drop 0 = dktX3_drop_0 := by decide +kernel
theorem dksX3_drop_1 : cX3_drop.data.toList.drop 22 = dktX3_drop_1 := dk_seg dksX3_drop_0 22 rfl rfl
theorem dX3_drop_0 : decode cX3_drop 0 = .ok (.aload_n 0, 1) := dk_42 (dk_at dksX3_drop_0 0 rfl rfl)
theorem dX3_drop_1 : decode cX3_drop 1 = .ok (.iconst 0, 1) := dk_3 (dk_at dksX3_drop_0 1 rfl rfl)
theorem dX3_drop_2 : decode cX3_drop 2 = .ok (.putfield 1, 3) := dk_181 0 1 (dk_at dksX3_drop_0 2 rfl rfl)
theorem dX3_drop_5 : decode cX3_drop 5 = .ok (.aload_n 0, 1) := dk_42 (dk_at dksX3_drop_0 5 rfl rfl)
theorem dX3_drop_6 : decode cX3_drop 6 = .ok (.iload_n 1, 1) := dk_27 (dk_at dksX3_drop_0 6 rfl rfl)
theorem dX3_drop_7 : decode cX3_drop 7 = .ok (.invokevirtual 213, 3) := dk_182 0 213 (dk_at dksX3_drop_0 7 rfl rfl)
theorem dX3_drop_10 : decode cX3_drop 10 = .ok (.ifCond .ne 6, 3) := dk_154 0 6 (dk_at dksX3_drop_0 10 rfl rfl)
theorem dX3_drop_13 : decode cX3_drop 13 = .ok (.bipush (-2), 2) := dk_16 254 (dk_at dksX3_drop_0 13 rfl rfl)
theorem dX3_drop_15 : decode cX3_drop 15 = .ok (.ireturn, 1) := dk_172 (dk_at dksX3_drop_0 15 rfl rfl)
theorem dX3_drop_16 : decode cX3_drop 16 = .ok (.aload_n 0, 1) := dk_42 (dk_at dksX3_drop_0 16 rfl rfl)
theorem dX3_drop_17 : decode cX3_drop 17 = .ok (.invokevirtual 210, 3) := dk_182 0 210 (dk_at dksX3_drop_0 17 rfl rfl)
theorem dX3_drop_20 : decode cX3_drop 20 = .ok (.aload_n 0, 1) := dk_42 (dk_at dksX3_drop_0 20 rfl rfl)
theorem dX3_drop_21 : decode cX3_drop 21 = .ok (.iload_n 1, 1) := dk_27 (dk_at dksX3_drop_0 21 rfl rfl)
theorem dX3_drop_22 : decode cX3_drop 22 = .ok (.invokevirtual 216, 3) := dk_182 0 216 (dk_at dksX3_drop_1 0 rfl rfl)
theorem dX3_drop_25 : decode cX3_drop 25 = .ok (.aload_n 0, 1) := dk_42 (dk_at dksX3_drop_1 3 rfl rfl)
theorem dX3_drop_26 : decode cX3_drop 26 = .ok (.getfield 13, 3) := dk_180 0 13 (dk_at dksX3_drop_1 4 rfl rfl)
theorem dX3_drop_29 : decode cX3_drop 29 = .ok (.iconst 0, 1) := dk_3 (dk_at dksX3_drop_1 7 rfl rfl)
theorem dX3_drop_30 : decode cX3_drop 30 = .ok (.iaload, 1) := dk_46 (dk_at dksX3_drop_1 8 rfl rfl)
theorem dX3_drop_31 : decode cX3_drop 31 = .ok (.ireturn, 1) := dk_172 (dk_at dksX3_drop_1 9 rfl rfl)
abbrev cX3_isTrade : ByteArray := prog_15_method_30_code
def yX3_isTrade : MethodName := ⟨RX3, "isTrade", "(I)Z"⟩
def dkwX3_isTrade_0 : List UInt8 := [27, 133, 9, 42, 180, 0, 13, 3, 46, 4, 100, 133, 184, 0, 103, 172]
abbrev dktX3_isTrade_0 : List UInt8 := dkwX3_isTrade_0 ++ []
theorem dksX3_isTrade_0 : cX3_isTrade.data.toList.drop 0 = dktX3_isTrade_0 := by decide +kernel
theorem dX3_isTrade_0 : decode cX3_isTrade 0 = .ok (.iload_n 1, 1) := dk_27 (dk_at dksX3_isTrade_0 0 rfl rfl)
theorem dX3_isTrade_1 : decode cX3_isTrade 1 = .ok (.i2l, 1) := dk_133 (dk_at dksX3_isTrade_0 1 rfl rfl)
theorem dX3_isTrade_2 : decode cX3_isTrade 2 = .ok (.lconst 0, 1) := dk_9 (dk_at dksX3_isTrade_0 2 rfl rfl)
theorem dX3_isTrade_3 : decode cX3_isTrade 3 = .ok (.aload_n 0, 1) := dk_42 (dk_at dksX3_isTrade_0 3 rfl rfl)
theorem dX3_isTrade_4 : decode cX3_isTrade 4 = .ok (.getfield 13, 3) := dk_180 0 13 (dk_at dksX3_isTrade_0 4 rfl rfl)
theorem dX3_isTrade_7 : decode cX3_isTrade 7 = .ok (.iconst 0, 1) := dk_3 (dk_at dksX3_isTrade_0 7 rfl rfl)
theorem dX3_isTrade_8 : decode cX3_isTrade 8 = .ok (.iaload, 1) := dk_46 (dk_at dksX3_isTrade_0 8 rfl rfl)
theorem dX3_isTrade_9 : decode cX3_isTrade 9 = .ok (.iconst 1, 1) := dk_4 (dk_at dksX3_isTrade_0 9 rfl rfl)
theorem dX3_isTrade_10 : decode cX3_isTrade 10 = .ok (.isub, 1) := dk_100 (dk_at dksX3_isTrade_0 10 rfl rfl)
theorem dX3_isTrade_11 : decode cX3_isTrade 11 = .ok (.i2l, 1) := dk_133 (dk_at dksX3_isTrade_0 11 rfl rfl)
theorem dX3_isTrade_12 : decode cX3_isTrade 12 = .ok (.invokestatic 103, 3) := dk_184 0 103 (dk_at dksX3_isTrade_0 12 rfl rfl)
theorem dX3_isTrade_15 : decode cX3_isTrade 15 = .ok (.ireturn, 1) := dk_172 (dk_at dksX3_isTrade_0 15 rfl rfl)
abbrev cX3_goes : ByteArray := prog_15_method_27_code
def yX3_goes : MethodName := ⟨RX3, "goes", "(I)V"⟩
def dkwX3_goes_2 : List UInt8 := [167, 255, 225, 177]
abbrev dktX3_goes_2 : List UInt8 := dkwX3_goes_2 ++ []
def dkwX3_goes_1 : List UInt8 := [46, 104, 96, 162, 0, 23, 42, 180, 0, 13, 28, 42, 180, 0, 13, 28, 8, 96, 46, 79, 132, 2, 1]
abbrev dktX3_goes_1 : List UInt8 := dkwX3_goes_1 ++ dktX3_goes_2
def dkwX3_goes_0 : List UInt8 := [42, 180, 0, 13, 3, 92, 46, 4, 100, 79, 5, 8, 27, 104, 96, 61, 28, 5, 8, 42, 180, 0, 13, 3]
abbrev dktX3_goes_0 : List UInt8 := dkwX3_goes_0 ++ dktX3_goes_1
theorem dksX3_goes_0 : cX3_goes.data.toList.drop 0 = dktX3_goes_0 := by decide +kernel
theorem dksX3_goes_1 : cX3_goes.data.toList.drop 24 = dktX3_goes_1 := dk_seg dksX3_goes_0 24 rfl rfl
theorem dksX3_goes_2 : cX3_goes.data.toList.drop 47 = dktX3_goes_2 := dk_seg dksX3_goes_1 23 rfl rfl
theorem dX3_goes_0 : decode cX3_goes 0 = .ok (.aload_n 0, 1) := dk_42 (dk_at dksX3_goes_0 0 rfl rfl)
theorem dX3_goes_1 : decode cX3_goes 1 = .ok (.getfield 13, 3) := dk_180 0 13 (dk_at dksX3_goes_0 1 rfl rfl)
theorem dX3_goes_4 : decode cX3_goes 4 = .ok (.iconst 0, 1) := dk_3 (dk_at dksX3_goes_0 4 rfl rfl)
theorem dX3_goes_5 : decode cX3_goes 5 = .ok (.dup2, 1) := dk_92 (dk_at dksX3_goes_0 5 rfl rfl)
theorem dX3_goes_6 : decode cX3_goes 6 = .ok (.iaload, 1) := dk_46 (dk_at dksX3_goes_0 6 rfl rfl)
theorem dX3_goes_7 : decode cX3_goes 7 = .ok (.iconst 1, 1) := dk_4 (dk_at dksX3_goes_0 7 rfl rfl)
theorem dX3_goes_8 : decode cX3_goes 8 = .ok (.isub, 1) := dk_100 (dk_at dksX3_goes_0 8 rfl rfl)
theorem dX3_goes_9 : decode cX3_goes 9 = .ok (.iastore, 1) := dk_79 (dk_at dksX3_goes_0 9 rfl rfl)
theorem dX3_goes_10 : decode cX3_goes 10 = .ok (.iconst 2, 1) := dk_5 (dk_at dksX3_goes_0 10 rfl rfl)
theorem dX3_goes_11 : decode cX3_goes 11 = .ok (.iconst 5, 1) := dk_8 (dk_at dksX3_goes_0 11 rfl rfl)
theorem dX3_goes_12 : decode cX3_goes 12 = .ok (.iload_n 1, 1) := dk_27 (dk_at dksX3_goes_0 12 rfl rfl)
theorem dX3_goes_13 : decode cX3_goes 13 = .ok (.imul, 1) := dk_104 (dk_at dksX3_goes_0 13 rfl rfl)
theorem dX3_goes_14 : decode cX3_goes 14 = .ok (.iadd, 1) := dk_96 (dk_at dksX3_goes_0 14 rfl rfl)
theorem dX3_goes_15 : decode cX3_goes 15 = .ok (.istore_n 2, 1) := dk_61 (dk_at dksX3_goes_0 15 rfl rfl)
theorem dX3_goes_16 : decode cX3_goes 16 = .ok (.iload_n 2, 1) := dk_28 (dk_at dksX3_goes_0 16 rfl rfl)
theorem dX3_goes_17 : decode cX3_goes 17 = .ok (.iconst 2, 1) := dk_5 (dk_at dksX3_goes_0 17 rfl rfl)
theorem dX3_goes_18 : decode cX3_goes 18 = .ok (.iconst 5, 1) := dk_8 (dk_at dksX3_goes_0 18 rfl rfl)
theorem dX3_goes_19 : decode cX3_goes 19 = .ok (.aload_n 0, 1) := dk_42 (dk_at dksX3_goes_0 19 rfl rfl)
theorem dX3_goes_20 : decode cX3_goes 20 = .ok (.getfield 13, 3) := dk_180 0 13 (dk_at dksX3_goes_0 20 rfl rfl)
theorem dX3_goes_23 : decode cX3_goes 23 = .ok (.iconst 0, 1) := dk_3 (dk_at dksX3_goes_0 23 rfl rfl)
theorem dX3_goes_24 : decode cX3_goes 24 = .ok (.iaload, 1) := dk_46 (dk_at dksX3_goes_1 0 rfl rfl)
theorem dX3_goes_25 : decode cX3_goes 25 = .ok (.imul, 1) := dk_104 (dk_at dksX3_goes_1 1 rfl rfl)
theorem dX3_goes_26 : decode cX3_goes 26 = .ok (.iadd, 1) := dk_96 (dk_at dksX3_goes_1 2 rfl rfl)
theorem dX3_goes_27 : decode cX3_goes 27 = .ok (.if_icmp .ge 23, 3) := dk_162 0 23 (dk_at dksX3_goes_1 3 rfl rfl)
theorem dX3_goes_30 : decode cX3_goes 30 = .ok (.aload_n 0, 1) := dk_42 (dk_at dksX3_goes_1 6 rfl rfl)
theorem dX3_goes_31 : decode cX3_goes 31 = .ok (.getfield 13, 3) := dk_180 0 13 (dk_at dksX3_goes_1 7 rfl rfl)
theorem dX3_goes_34 : decode cX3_goes 34 = .ok (.iload_n 2, 1) := dk_28 (dk_at dksX3_goes_1 10 rfl rfl)
theorem dX3_goes_35 : decode cX3_goes 35 = .ok (.aload_n 0, 1) := dk_42 (dk_at dksX3_goes_1 11 rfl rfl)
theorem dX3_goes_36 : decode cX3_goes 36 = .ok (.getfield 13, 3) := dk_180 0 13 (dk_at dksX3_goes_1 12 rfl rfl)
theorem dX3_goes_39 : decode cX3_goes 39 = .ok (.iload_n 2, 1) := dk_28 (dk_at dksX3_goes_1 15 rfl rfl)
theorem dX3_goes_40 : decode cX3_goes 40 = .ok (.iconst 5, 1) := dk_8 (dk_at dksX3_goes_1 16 rfl rfl)
theorem dX3_goes_41 : decode cX3_goes 41 = .ok (.iadd, 1) := dk_96 (dk_at dksX3_goes_1 17 rfl rfl)
theorem dX3_goes_42 : decode cX3_goes 42 = .ok (.iaload, 1) := dk_46 (dk_at dksX3_goes_1 18 rfl rfl)
theorem dX3_goes_43 : decode cX3_goes 43 = .ok (.iastore, 1) := dk_79 (dk_at dksX3_goes_1 19 rfl rfl)
theorem dX3_goes_44 : decode cX3_goes 44 = .ok (.iinc 2 1, 3) := dk_132 2 1 (dk_at dksX3_goes_1 20 rfl rfl)
theorem dX3_goes_47 : decode cX3_goes 47 = .ok (.goto (-31), 3) := dk_167 255 225 (dk_at dksX3_goes_2 0 rfl rfl)
theorem dX3_goes_50 : decode cX3_goes 50 = .ok (.return_, 1) := dk_177 (dk_at dksX3_goes_2 3 rfl rfl)
abbrev cX3_keep : ByteArray := prog_15_method_35_code
def yX3_keep : MethodName := ⟨RX3, "keep", "(I)I"⟩
def dkwX3_keep_1 : List UInt8 := [5, 8, 27, 104, 96, 7, 96, 4, 42, 27, 7, 182, 0, 174, 100, 79, 42, 27, 7, 182, 0, 174, 172]
abbrev dktX3_keep_1 : List UInt8 := dkwX3_keep_1 ++ []
def dkwX3_keep_0 : List UInt8 := [42, 3, 181, 0, 1, 42, 27, 182, 0, 213, 154, 0, 6, 16, 254, 172, 42, 182, 0, 210, 42, 180, 0, 13]
abbrev dktX3_keep_0 : List UInt8 := dkwX3_keep_0 ++ dktX3_keep_1
theorem dksX3_keep_0 : cX3_keep.data.toList.drop 0 = dktX3_keep_0 := by decide +kernel
theorem dksX3_keep_1 : cX3_keep.data.toList.drop 24 = dktX3_keep_1 := dk_seg dksX3_keep_0 24 rfl rfl
theorem dX3_keep_0 : decode cX3_keep 0 = .ok (.aload_n 0, 1) := dk_42 (dk_at dksX3_keep_0 0 rfl rfl)
theorem dX3_keep_1 : decode cX3_keep 1 = .ok (.iconst 0, 1) := dk_3 (dk_at dksX3_keep_0 1 rfl rfl)
theorem dX3_keep_2 : decode cX3_keep 2 = .ok (.putfield 1, 3) := dk_181 0 1 (dk_at dksX3_keep_0 2 rfl rfl)
theorem dX3_keep_5 : decode cX3_keep 5 = .ok (.aload_n 0, 1) := dk_42 (dk_at dksX3_keep_0 5 rfl rfl)
theorem dX3_keep_6 : decode cX3_keep 6 = .ok (.iload_n 1, 1) := dk_27 (dk_at dksX3_keep_0 6 rfl rfl)
theorem dX3_keep_7 : decode cX3_keep 7 = .ok (.invokevirtual 213, 3) := dk_182 0 213 (dk_at dksX3_keep_0 7 rfl rfl)
theorem dX3_keep_10 : decode cX3_keep 10 = .ok (.ifCond .ne 6, 3) := dk_154 0 6 (dk_at dksX3_keep_0 10 rfl rfl)
theorem dX3_keep_13 : decode cX3_keep 13 = .ok (.bipush (-2), 2) := dk_16 254 (dk_at dksX3_keep_0 13 rfl rfl)
theorem dX3_keep_15 : decode cX3_keep 15 = .ok (.ireturn, 1) := dk_172 (dk_at dksX3_keep_0 15 rfl rfl)
theorem dX3_keep_16 : decode cX3_keep 16 = .ok (.aload_n 0, 1) := dk_42 (dk_at dksX3_keep_0 16 rfl rfl)
theorem dX3_keep_17 : decode cX3_keep 17 = .ok (.invokevirtual 210, 3) := dk_182 0 210 (dk_at dksX3_keep_0 17 rfl rfl)
theorem dX3_keep_20 : decode cX3_keep 20 = .ok (.aload_n 0, 1) := dk_42 (dk_at dksX3_keep_0 20 rfl rfl)
theorem dX3_keep_21 : decode cX3_keep 21 = .ok (.getfield 13, 3) := dk_180 0 13 (dk_at dksX3_keep_0 21 rfl rfl)
theorem dX3_keep_24 : decode cX3_keep 24 = .ok (.iconst 2, 1) := dk_5 (dk_at dksX3_keep_1 0 rfl rfl)
theorem dX3_keep_25 : decode cX3_keep 25 = .ok (.iconst 5, 1) := dk_8 (dk_at dksX3_keep_1 1 rfl rfl)
theorem dX3_keep_26 : decode cX3_keep 26 = .ok (.iload_n 1, 1) := dk_27 (dk_at dksX3_keep_1 2 rfl rfl)
theorem dX3_keep_27 : decode cX3_keep 27 = .ok (.imul, 1) := dk_104 (dk_at dksX3_keep_1 3 rfl rfl)
theorem dX3_keep_28 : decode cX3_keep 28 = .ok (.iadd, 1) := dk_96 (dk_at dksX3_keep_1 4 rfl rfl)
theorem dX3_keep_29 : decode cX3_keep 29 = .ok (.iconst 4, 1) := dk_7 (dk_at dksX3_keep_1 5 rfl rfl)
theorem dX3_keep_30 : decode cX3_keep 30 = .ok (.iadd, 1) := dk_96 (dk_at dksX3_keep_1 6 rfl rfl)
theorem dX3_keep_31 : decode cX3_keep 31 = .ok (.iconst 1, 1) := dk_4 (dk_at dksX3_keep_1 7 rfl rfl)
theorem dX3_keep_32 : decode cX3_keep 32 = .ok (.aload_n 0, 1) := dk_42 (dk_at dksX3_keep_1 8 rfl rfl)
theorem dX3_keep_33 : decode cX3_keep 33 = .ok (.iload_n 1, 1) := dk_27 (dk_at dksX3_keep_1 9 rfl rfl)
theorem dX3_keep_34 : decode cX3_keep 34 = .ok (.iconst 4, 1) := dk_7 (dk_at dksX3_keep_1 10 rfl rfl)
theorem dX3_keep_35 : decode cX3_keep 35 = .ok (.invokevirtual 174, 3) := dk_182 0 174 (dk_at dksX3_keep_1 11 rfl rfl)
theorem dX3_keep_38 : decode cX3_keep 38 = .ok (.isub, 1) := dk_100 (dk_at dksX3_keep_1 14 rfl rfl)
theorem dX3_keep_39 : decode cX3_keep 39 = .ok (.iastore, 1) := dk_79 (dk_at dksX3_keep_1 15 rfl rfl)
theorem dX3_keep_40 : decode cX3_keep 40 = .ok (.aload_n 0, 1) := dk_42 (dk_at dksX3_keep_1 16 rfl rfl)
theorem dX3_keep_41 : decode cX3_keep 41 = .ok (.iload_n 1, 1) := dk_27 (dk_at dksX3_keep_1 17 rfl rfl)
theorem dX3_keep_42 : decode cX3_keep 42 = .ok (.iconst 4, 1) := dk_7 (dk_at dksX3_keep_1 18 rfl rfl)
theorem dX3_keep_43 : decode cX3_keep 43 = .ok (.invokevirtual 174, 3) := dk_182 0 174 (dk_at dksX3_keep_1 19 rfl rfl)
theorem dX3_keep_46 : decode cX3_keep 46 = .ok (.ireturn, 1) := dk_172 (dk_at dksX3_keep_1 22 rfl rfl)
abbrev cX3_mode : ByteArray := prog_15_method_36_code
def yX3_mode : MethodName := ⟨RX3, "mode", "(I)I"⟩
def dkwX3_mode_1 : List UInt8 := [42, 180, 0, 13, 4, 46, 61, 42, 180, 0, 13, 4, 27, 79, 28, 172]
abbrev dktX3_mode_1 : List UInt8 := dkwX3_mode_1 ++ []
def dkwX3_mode_0 : List UInt8 := [42, 3, 181, 0, 1, 27, 133, 9, 20, 0, 219, 184, 0, 103, 154, 0, 6, 16, 253, 172, 42, 182, 0, 210]
abbrev dktX3_mode_0 : List UInt8 := dkwX3_mode_0 ++ dktX3_mode_1
theorem dksX3_mode_0 : cX3_mode.data.toList.drop 0 = dktX3_mode_0 := by decide +kernel
theorem dksX3_mode_1 : cX3_mode.data.toList.drop 24 = dktX3_mode_1 := dk_seg dksX3_mode_0 24 rfl rfl
theorem dX3_mode_0 : decode cX3_mode 0 = .ok (.aload_n 0, 1) := dk_42 (dk_at dksX3_mode_0 0 rfl rfl)
theorem dX3_mode_1 : decode cX3_mode 1 = .ok (.iconst 0, 1) := dk_3 (dk_at dksX3_mode_0 1 rfl rfl)
theorem dX3_mode_2 : decode cX3_mode 2 = .ok (.putfield 1, 3) := dk_181 0 1 (dk_at dksX3_mode_0 2 rfl rfl)
theorem dX3_mode_5 : decode cX3_mode 5 = .ok (.iload_n 1, 1) := dk_27 (dk_at dksX3_mode_0 5 rfl rfl)
theorem dX3_mode_6 : decode cX3_mode 6 = .ok (.i2l, 1) := dk_133 (dk_at dksX3_mode_0 6 rfl rfl)
theorem dX3_mode_7 : decode cX3_mode 7 = .ok (.lconst 0, 1) := dk_9 (dk_at dksX3_mode_0 7 rfl rfl)
theorem dX3_mode_8 : decode cX3_mode 8 = .ok (.ldc2_w 219, 3) := dk_20 0 219 (dk_at dksX3_mode_0 8 rfl rfl)
theorem dX3_mode_11 : decode cX3_mode 11 = .ok (.invokestatic 103, 3) := dk_184 0 103 (dk_at dksX3_mode_0 11 rfl rfl)
theorem dX3_mode_14 : decode cX3_mode 14 = .ok (.ifCond .ne 6, 3) := dk_154 0 6 (dk_at dksX3_mode_0 14 rfl rfl)
theorem dX3_mode_17 : decode cX3_mode 17 = .ok (.bipush (-3), 2) := dk_16 253 (dk_at dksX3_mode_0 17 rfl rfl)
theorem dX3_mode_19 : decode cX3_mode 19 = .ok (.ireturn, 1) := dk_172 (dk_at dksX3_mode_0 19 rfl rfl)
theorem dX3_mode_20 : decode cX3_mode 20 = .ok (.aload_n 0, 1) := dk_42 (dk_at dksX3_mode_0 20 rfl rfl)
theorem dX3_mode_21 : decode cX3_mode 21 = .ok (.invokevirtual 210, 3) := dk_182 0 210 (dk_at dksX3_mode_0 21 rfl rfl)
theorem dX3_mode_24 : decode cX3_mode 24 = .ok (.aload_n 0, 1) := dk_42 (dk_at dksX3_mode_1 0 rfl rfl)
theorem dX3_mode_25 : decode cX3_mode 25 = .ok (.getfield 13, 3) := dk_180 0 13 (dk_at dksX3_mode_1 1 rfl rfl)
theorem dX3_mode_28 : decode cX3_mode 28 = .ok (.iconst 1, 1) := dk_4 (dk_at dksX3_mode_1 4 rfl rfl)
theorem dX3_mode_29 : decode cX3_mode 29 = .ok (.iaload, 1) := dk_46 (dk_at dksX3_mode_1 5 rfl rfl)
theorem dX3_mode_30 : decode cX3_mode 30 = .ok (.istore_n 2, 1) := dk_61 (dk_at dksX3_mode_1 6 rfl rfl)
theorem dX3_mode_31 : decode cX3_mode 31 = .ok (.aload_n 0, 1) := dk_42 (dk_at dksX3_mode_1 7 rfl rfl)
theorem dX3_mode_32 : decode cX3_mode 32 = .ok (.getfield 13, 3) := dk_180 0 13 (dk_at dksX3_mode_1 8 rfl rfl)
theorem dX3_mode_35 : decode cX3_mode 35 = .ok (.iconst 1, 1) := dk_4 (dk_at dksX3_mode_1 11 rfl rfl)
theorem dX3_mode_36 : decode cX3_mode 36 = .ok (.iload_n 1, 1) := dk_27 (dk_at dksX3_mode_1 12 rfl rfl)
theorem dX3_mode_37 : decode cX3_mode 37 = .ok (.iastore, 1) := dk_79 (dk_at dksX3_mode_1 13 rfl rfl)
theorem dX3_mode_38 : decode cX3_mode 38 = .ok (.iload_n 2, 1) := dk_28 (dk_at dksX3_mode_1 14 rfl rfl)
theorem dX3_mode_39 : decode cX3_mode 39 = .ok (.ireturn, 1) := dk_172 (dk_at dksX3_mode_1 15 rfl rfl)
abbrev cX3_cap : ByteArray := prog_15_method_37_code
def yX3_cap : MethodName := ⟨RX3, "cap", "(III)I"⟩
def dkwX3_cap_3 : List UInt8 := [172]
abbrev dktX3_cap_3 : List UInt8 := dkwX3_cap_3 ++ []
def dkwX3_cap_2 : List UInt8 := [96, 28, 96, 46, 54, 4, 42, 180, 0, 13, 17, 0, 202, 16, 8, 27, 104, 96, 28, 96, 29, 79, 21, 4]
abbrev dktX3_cap_2 : List UInt8 := dkwX3_cap_2 ++ dktX3_cap_3
def dkwX3_cap_1 : List UInt8 := [184, 0, 103, 154, 0, 6, 16, 253, 172, 42, 182, 0, 210, 42, 180, 0, 13, 17, 0, 202, 16, 8, 27, 104]
abbrev dktX3_cap_1 : List UInt8 := dkwX3_cap_1 ++ dktX3_cap_2
def dkwX3_cap_0 : List UInt8 := [42, 3, 181, 0, 1, 42, 27, 28, 182, 0, 201, 154, 0, 6, 16, 254, 172, 29, 133, 9, 20, 0, 221]
abbrev dktX3_cap_0 : List UInt8 := dkwX3_cap_0 ++ dktX3_cap_1
theorem dksX3_cap_0 : cX3_cap.data.toList.drop 0 = dktX3_cap_0 := by decide +kernel
theorem dksX3_cap_1 : cX3_cap.data.toList.drop 23 = dktX3_cap_1 := dk_seg dksX3_cap_0 23 rfl rfl
theorem dksX3_cap_2 : cX3_cap.data.toList.drop 47 = dktX3_cap_2 := dk_seg dksX3_cap_1 24 rfl rfl
theorem dksX3_cap_3 : cX3_cap.data.toList.drop 71 = dktX3_cap_3 := dk_seg dksX3_cap_2 24 rfl rfl
theorem dX3_cap_0 : decode cX3_cap 0 = .ok (.aload_n 0, 1) := dk_42 (dk_at dksX3_cap_0 0 rfl rfl)
theorem dX3_cap_1 : decode cX3_cap 1 = .ok (.iconst 0, 1) := dk_3 (dk_at dksX3_cap_0 1 rfl rfl)
theorem dX3_cap_2 : decode cX3_cap 2 = .ok (.putfield 1, 3) := dk_181 0 1 (dk_at dksX3_cap_0 2 rfl rfl)
theorem dX3_cap_5 : decode cX3_cap 5 = .ok (.aload_n 0, 1) := dk_42 (dk_at dksX3_cap_0 5 rfl rfl)
theorem dX3_cap_6 : decode cX3_cap 6 = .ok (.iload_n 1, 1) := dk_27 (dk_at dksX3_cap_0 6 rfl rfl)
theorem dX3_cap_7 : decode cX3_cap 7 = .ok (.iload_n 2, 1) := dk_28 (dk_at dksX3_cap_0 7 rfl rfl)
theorem dX3_cap_8 : decode cX3_cap 8 = .ok (.invokevirtual 201, 3) := dk_182 0 201 (dk_at dksX3_cap_0 8 rfl rfl)
theorem dX3_cap_11 : decode cX3_cap 11 = .ok (.ifCond .ne 6, 3) := dk_154 0 6 (dk_at dksX3_cap_0 11 rfl rfl)
theorem dX3_cap_14 : decode cX3_cap 14 = .ok (.bipush (-2), 2) := dk_16 254 (dk_at dksX3_cap_0 14 rfl rfl)
theorem dX3_cap_16 : decode cX3_cap 16 = .ok (.ireturn, 1) := dk_172 (dk_at dksX3_cap_0 16 rfl rfl)
theorem dX3_cap_17 : decode cX3_cap 17 = .ok (.iload_n 3, 1) := dk_29 (dk_at dksX3_cap_0 17 rfl rfl)
theorem dX3_cap_18 : decode cX3_cap 18 = .ok (.i2l, 1) := dk_133 (dk_at dksX3_cap_0 18 rfl rfl)
theorem dX3_cap_19 : decode cX3_cap 19 = .ok (.lconst 0, 1) := dk_9 (dk_at dksX3_cap_0 19 rfl rfl)
theorem dX3_cap_20 : decode cX3_cap 20 = .ok (.ldc2_w 221, 3) := dk_20 0 221 (dk_at dksX3_cap_0 20 rfl rfl)
theorem dX3_cap_23 : decode cX3_cap 23 = .ok (.invokestatic 103, 3) := dk_184 0 103 (dk_at dksX3_cap_1 0 rfl rfl)
theorem dX3_cap_26 : decode cX3_cap 26 = .ok (.ifCond .ne 6, 3) := dk_154 0 6 (dk_at dksX3_cap_1 3 rfl rfl)
theorem dX3_cap_29 : decode cX3_cap 29 = .ok (.bipush (-3), 2) := dk_16 253 (dk_at dksX3_cap_1 6 rfl rfl)
theorem dX3_cap_31 : decode cX3_cap 31 = .ok (.ireturn, 1) := dk_172 (dk_at dksX3_cap_1 8 rfl rfl)
theorem dX3_cap_32 : decode cX3_cap 32 = .ok (.aload_n 0, 1) := dk_42 (dk_at dksX3_cap_1 9 rfl rfl)
theorem dX3_cap_33 : decode cX3_cap 33 = .ok (.invokevirtual 210, 3) := dk_182 0 210 (dk_at dksX3_cap_1 10 rfl rfl)
theorem dX3_cap_36 : decode cX3_cap 36 = .ok (.aload_n 0, 1) := dk_42 (dk_at dksX3_cap_1 13 rfl rfl)
theorem dX3_cap_37 : decode cX3_cap 37 = .ok (.getfield 13, 3) := dk_180 0 13 (dk_at dksX3_cap_1 14 rfl rfl)
theorem dX3_cap_40 : decode cX3_cap 40 = .ok (.sipush 202, 3) := dk_17 0 202 (dk_at dksX3_cap_1 17 rfl rfl)
theorem dX3_cap_43 : decode cX3_cap 43 = .ok (.bipush 8, 2) := dk_16 8 (dk_at dksX3_cap_1 20 rfl rfl)
theorem dX3_cap_45 : decode cX3_cap 45 = .ok (.iload_n 1, 1) := dk_27 (dk_at dksX3_cap_1 22 rfl rfl)
theorem dX3_cap_46 : decode cX3_cap 46 = .ok (.imul, 1) := dk_104 (dk_at dksX3_cap_1 23 rfl rfl)
theorem dX3_cap_47 : decode cX3_cap 47 = .ok (.iadd, 1) := dk_96 (dk_at dksX3_cap_2 0 rfl rfl)
theorem dX3_cap_48 : decode cX3_cap 48 = .ok (.iload_n 2, 1) := dk_28 (dk_at dksX3_cap_2 1 rfl rfl)
theorem dX3_cap_49 : decode cX3_cap 49 = .ok (.iadd, 1) := dk_96 (dk_at dksX3_cap_2 2 rfl rfl)
theorem dX3_cap_50 : decode cX3_cap 50 = .ok (.iaload, 1) := dk_46 (dk_at dksX3_cap_2 3 rfl rfl)
theorem dX3_cap_51 : decode cX3_cap 51 = .ok (.istore 4, 2) := dk_54 4 (dk_at dksX3_cap_2 4 rfl rfl)
theorem dX3_cap_53 : decode cX3_cap 53 = .ok (.aload_n 0, 1) := dk_42 (dk_at dksX3_cap_2 6 rfl rfl)
theorem dX3_cap_54 : decode cX3_cap 54 = .ok (.getfield 13, 3) := dk_180 0 13 (dk_at dksX3_cap_2 7 rfl rfl)
theorem dX3_cap_57 : decode cX3_cap 57 = .ok (.sipush 202, 3) := dk_17 0 202 (dk_at dksX3_cap_2 10 rfl rfl)
theorem dX3_cap_60 : decode cX3_cap 60 = .ok (.bipush 8, 2) := dk_16 8 (dk_at dksX3_cap_2 13 rfl rfl)
theorem dX3_cap_62 : decode cX3_cap 62 = .ok (.iload_n 1, 1) := dk_27 (dk_at dksX3_cap_2 15 rfl rfl)
theorem dX3_cap_63 : decode cX3_cap 63 = .ok (.imul, 1) := dk_104 (dk_at dksX3_cap_2 16 rfl rfl)
theorem dX3_cap_64 : decode cX3_cap 64 = .ok (.iadd, 1) := dk_96 (dk_at dksX3_cap_2 17 rfl rfl)
theorem dX3_cap_65 : decode cX3_cap 65 = .ok (.iload_n 2, 1) := dk_28 (dk_at dksX3_cap_2 18 rfl rfl)
theorem dX3_cap_66 : decode cX3_cap 66 = .ok (.iadd, 1) := dk_96 (dk_at dksX3_cap_2 19 rfl rfl)
theorem dX3_cap_67 : decode cX3_cap 67 = .ok (.iload_n 3, 1) := dk_29 (dk_at dksX3_cap_2 20 rfl rfl)
theorem dX3_cap_68 : decode cX3_cap 68 = .ok (.iastore, 1) := dk_79 (dk_at dksX3_cap_2 21 rfl rfl)
theorem dX3_cap_69 : decode cX3_cap 69 = .ok (.iload 4, 2) := dk_21 4 (dk_at dksX3_cap_2 22 rfl rfl)
theorem dX3_cap_71 : decode cX3_cap 71 = .ok (.ireturn, 1) := dk_172 (dk_at dksX3_cap_3 0 rfl rfl)
abbrev cX3_undo : ByteArray := prog_15_method_38_code
def yX3_undo : MethodName := ⟨RX3, "undo", "()I"⟩
def dkwX3_undo_2 : List UInt8 := [42, 180, 0, 195, 104, 27, 96, 46, 79, 132, 1, 1, 167, 255, 225, 42, 180, 0, 195, 172]
abbrev dktX3_undo_2 : List UInt8 := dkwX3_undo_2 ++ []
def dkwX3_undo_1 : List UInt8 := [181, 0, 195, 3, 60, 27, 17, 1, 10, 162, 0, 30, 42, 180, 0, 13, 27, 42, 180, 0, 20, 17, 1, 10]
abbrev dktX3_undo_1 : List UInt8 := dkwX3_undo_1 ++ dktX3_undo_2
def dkwX3_undo_0 : List UInt8 := [42, 3, 181, 0, 1, 42, 180, 0, 195, 154, 0, 6, 16, 251, 172, 42, 89, 180, 0, 195, 4, 100]
abbrev dktX3_undo_0 : List UInt8 := dkwX3_undo_0 ++ dktX3_undo_1
theorem dksX3_undo_0 : cX3_undo.data.toList.drop 0 = dktX3_undo_0 := by decide +kernel
theorem dksX3_undo_1 : cX3_undo.data.toList.drop 22 = dktX3_undo_1 := dk_seg dksX3_undo_0 22 rfl rfl
theorem dksX3_undo_2 : cX3_undo.data.toList.drop 46 = dktX3_undo_2 := dk_seg dksX3_undo_1 24 rfl rfl
theorem dX3_undo_0 : decode cX3_undo 0 = .ok (.aload_n 0, 1) := dk_42 (dk_at dksX3_undo_0 0 rfl rfl)
theorem dX3_undo_1 : decode cX3_undo 1 = .ok (.iconst 0, 1) := dk_3 (dk_at dksX3_undo_0 1 rfl rfl)
theorem dX3_undo_2 : decode cX3_undo 2 = .ok (.putfield 1, 3) := dk_181 0 1 (dk_at dksX3_undo_0 2 rfl rfl)
theorem dX3_undo_5 : decode cX3_undo 5 = .ok (.aload_n 0, 1) := dk_42 (dk_at dksX3_undo_0 5 rfl rfl)
theorem dX3_undo_6 : decode cX3_undo 6 = .ok (.getfield 195, 3) := dk_180 0 195 (dk_at dksX3_undo_0 6 rfl rfl)
theorem dX3_undo_9 : decode cX3_undo 9 = .ok (.ifCond .ne 6, 3) := dk_154 0 6 (dk_at dksX3_undo_0 9 rfl rfl)
theorem dX3_undo_12 : decode cX3_undo 12 = .ok (.bipush (-5), 2) := dk_16 251 (dk_at dksX3_undo_0 12 rfl rfl)
theorem dX3_undo_14 : decode cX3_undo 14 = .ok (.ireturn, 1) := dk_172 (dk_at dksX3_undo_0 14 rfl rfl)
theorem dX3_undo_15 : decode cX3_undo 15 = .ok (.aload_n 0, 1) := dk_42 (dk_at dksX3_undo_0 15 rfl rfl)
theorem dX3_undo_16 : decode cX3_undo 16 = .ok (.dup, 1) := dk_89 (dk_at dksX3_undo_0 16 rfl rfl)
theorem dX3_undo_17 : decode cX3_undo 17 = .ok (.getfield 195, 3) := dk_180 0 195 (dk_at dksX3_undo_0 17 rfl rfl)
theorem dX3_undo_20 : decode cX3_undo 20 = .ok (.iconst 1, 1) := dk_4 (dk_at dksX3_undo_0 20 rfl rfl)
theorem dX3_undo_21 : decode cX3_undo 21 = .ok (.isub, 1) := dk_100 (dk_at dksX3_undo_0 21 rfl rfl)
theorem dX3_undo_22 : decode cX3_undo 22 = .ok (.putfield 195, 3) := dk_181 0 195 (dk_at dksX3_undo_1 0 rfl rfl)
theorem dX3_undo_25 : decode cX3_undo 25 = .ok (.iconst 0, 1) := dk_3 (dk_at dksX3_undo_1 3 rfl rfl)
theorem dX3_undo_26 : decode cX3_undo 26 = .ok (.istore_n 1, 1) := dk_60 (dk_at dksX3_undo_1 4 rfl rfl)
theorem dX3_undo_27 : decode cX3_undo 27 = .ok (.iload_n 1, 1) := dk_27 (dk_at dksX3_undo_1 5 rfl rfl)
theorem dX3_undo_28 : decode cX3_undo 28 = .ok (.sipush 266, 3) := dk_17 1 10 (dk_at dksX3_undo_1 6 rfl rfl)
theorem dX3_undo_31 : decode cX3_undo 31 = .ok (.if_icmp .ge 30, 3) := dk_162 0 30 (dk_at dksX3_undo_1 9 rfl rfl)
theorem dX3_undo_34 : decode cX3_undo 34 = .ok (.aload_n 0, 1) := dk_42 (dk_at dksX3_undo_1 12 rfl rfl)
theorem dX3_undo_35 : decode cX3_undo 35 = .ok (.getfield 13, 3) := dk_180 0 13 (dk_at dksX3_undo_1 13 rfl rfl)
theorem dX3_undo_38 : decode cX3_undo 38 = .ok (.iload_n 1, 1) := dk_27 (dk_at dksX3_undo_1 16 rfl rfl)
theorem dX3_undo_39 : decode cX3_undo 39 = .ok (.aload_n 0, 1) := dk_42 (dk_at dksX3_undo_1 17 rfl rfl)
theorem dX3_undo_40 : decode cX3_undo 40 = .ok (.getfield 20, 3) := dk_180 0 20 (dk_at dksX3_undo_1 18 rfl rfl)
theorem dX3_undo_43 : decode cX3_undo 43 = .ok (.sipush 266, 3) := dk_17 1 10 (dk_at dksX3_undo_1 21 rfl rfl)
theorem dX3_undo_46 : decode cX3_undo 46 = .ok (.aload_n 0, 1) := dk_42 (dk_at dksX3_undo_2 0 rfl rfl)
theorem dX3_undo_47 : decode cX3_undo 47 = .ok (.getfield 195, 3) := dk_180 0 195 (dk_at dksX3_undo_2 1 rfl rfl)
theorem dX3_undo_50 : decode cX3_undo 50 = .ok (.imul, 1) := dk_104 (dk_at dksX3_undo_2 4 rfl rfl)
theorem dX3_undo_51 : decode cX3_undo 51 = .ok (.iload_n 1, 1) := dk_27 (dk_at dksX3_undo_2 5 rfl rfl)
theorem dX3_undo_52 : decode cX3_undo 52 = .ok (.iadd, 1) := dk_96 (dk_at dksX3_undo_2 6 rfl rfl)
theorem dX3_undo_53 : decode cX3_undo 53 = .ok (.iaload, 1) := dk_46 (dk_at dksX3_undo_2 7 rfl rfl)
theorem dX3_undo_54 : decode cX3_undo 54 = .ok (.iastore, 1) := dk_79 (dk_at dksX3_undo_2 8 rfl rfl)
theorem dX3_undo_55 : decode cX3_undo 55 = .ok (.iinc 1 1, 3) := dk_132 1 1 (dk_at dksX3_undo_2 9 rfl rfl)
theorem dX3_undo_58 : decode cX3_undo 58 = .ok (.goto (-31), 3) := dk_167 255 225 (dk_at dksX3_undo_2 12 rfl rfl)
theorem dX3_undo_61 : decode cX3_undo 61 = .ok (.aload_n 0, 1) := dk_42 (dk_at dksX3_undo_2 15 rfl rfl)
theorem dX3_undo_62 : decode cX3_undo 62 = .ok (.getfield 195, 3) := dk_180 0 195 (dk_at dksX3_undo_2 16 rfl rfl)
theorem dX3_undo_65 : decode cX3_undo 65 = .ok (.ireturn, 1) := dk_172 (dk_at dksX3_undo_2 19 rfl rfl)
abbrev cX3_tradeOf : ByteArray := prog_15_method_45_code
def yX3_tradeOf : MethodName := ⟨RX3, "tradeOf", "(II)I"⟩
def dkwX3_tradeOf_1 : List UInt8 := [153, 0, 12, 42, 27, 28, 182, 0, 174, 167, 0, 5, 16, 254, 172]
abbrev dktX3_tradeOf_1 : List UInt8 := dkwX3_tradeOf_1 ++ []
def dkwX3_tradeOf_0 : List UInt8 := [42, 3, 181, 0, 1, 42, 27, 182, 0, 213, 153, 0, 24, 28, 133, 9, 20, 0, 232, 184, 0, 103]
abbrev dktX3_tradeOf_0 : List UInt8 := dkwX3_tradeOf_0 ++ dktX3_tradeOf_1
theorem dksX3_tradeOf_0 : cX3_tradeOf.data.toList.drop 0 = dktX3_tradeOf_0 := by decide +kernel
theorem dksX3_tradeOf_1 : cX3_tradeOf.data.toList.drop 22 = dktX3_tradeOf_1 := dk_seg dksX3_tradeOf_0 22 rfl rfl
theorem dX3_tradeOf_0 : decode cX3_tradeOf 0 = .ok (.aload_n 0, 1) := dk_42 (dk_at dksX3_tradeOf_0 0 rfl rfl)
theorem dX3_tradeOf_1 : decode cX3_tradeOf 1 = .ok (.iconst 0, 1) := dk_3 (dk_at dksX3_tradeOf_0 1 rfl rfl)
theorem dX3_tradeOf_2 : decode cX3_tradeOf 2 = .ok (.putfield 1, 3) := dk_181 0 1 (dk_at dksX3_tradeOf_0 2 rfl rfl)
theorem dX3_tradeOf_5 : decode cX3_tradeOf 5 = .ok (.aload_n 0, 1) := dk_42 (dk_at dksX3_tradeOf_0 5 rfl rfl)
theorem dX3_tradeOf_6 : decode cX3_tradeOf 6 = .ok (.iload_n 1, 1) := dk_27 (dk_at dksX3_tradeOf_0 6 rfl rfl)
theorem dX3_tradeOf_7 : decode cX3_tradeOf 7 = .ok (.invokevirtual 213, 3) := dk_182 0 213 (dk_at dksX3_tradeOf_0 7 rfl rfl)
theorem dX3_tradeOf_10 : decode cX3_tradeOf 10 = .ok (.ifCond .eq 24, 3) := dk_153 0 24 (dk_at dksX3_tradeOf_0 10 rfl rfl)
theorem dX3_tradeOf_13 : decode cX3_tradeOf 13 = .ok (.iload_n 2, 1) := dk_28 (dk_at dksX3_tradeOf_0 13 rfl rfl)
theorem dX3_tradeOf_14 : decode cX3_tradeOf 14 = .ok (.i2l, 1) := dk_133 (dk_at dksX3_tradeOf_0 14 rfl rfl)
theorem dX3_tradeOf_15 : decode cX3_tradeOf 15 = .ok (.lconst 0, 1) := dk_9 (dk_at dksX3_tradeOf_0 15 rfl rfl)
theorem dX3_tradeOf_16 : decode cX3_tradeOf 16 = .ok (.ldc2_w 232, 3) := dk_20 0 232 (dk_at dksX3_tradeOf_0 16 rfl rfl)
theorem dX3_tradeOf_19 : decode cX3_tradeOf 19 = .ok (.invokestatic 103, 3) := dk_184 0 103 (dk_at dksX3_tradeOf_0 19 rfl rfl)
theorem dX3_tradeOf_22 : decode cX3_tradeOf 22 = .ok (.ifCond .eq 12, 3) := dk_153 0 12 (dk_at dksX3_tradeOf_1 0 rfl rfl)
theorem dX3_tradeOf_25 : decode cX3_tradeOf 25 = .ok (.aload_n 0, 1) := dk_42 (dk_at dksX3_tradeOf_1 3 rfl rfl)
theorem dX3_tradeOf_26 : decode cX3_tradeOf 26 = .ok (.iload_n 1, 1) := dk_27 (dk_at dksX3_tradeOf_1 4 rfl rfl)
theorem dX3_tradeOf_27 : decode cX3_tradeOf 27 = .ok (.iload_n 2, 1) := dk_28 (dk_at dksX3_tradeOf_1 5 rfl rfl)
theorem dX3_tradeOf_28 : decode cX3_tradeOf 28 = .ok (.invokevirtual 174, 3) := dk_182 0 174 (dk_at dksX3_tradeOf_1 6 rfl rfl)
theorem dX3_tradeOf_31 : decode cX3_tradeOf 31 = .ok (.goto 5, 3) := dk_167 0 5 (dk_at dksX3_tradeOf_1 9 rfl rfl)
theorem dX3_tradeOf_34 : decode cX3_tradeOf 34 = .ok (.bipush (-2), 2) := dk_16 254 (dk_at dksX3_tradeOf_1 12 rfl rfl)
theorem dX3_tradeOf_36 : decode cX3_tradeOf 36 = .ok (.ireturn, 1) := dk_172 (dk_at dksX3_tradeOf_1 14 rfl rfl)
abbrev cX3_flow : ByteArray := prog_15_method_46_code
def yX3_flow : MethodName := ⟨RX3, "flow", "(III)I"⟩
def dkwX3_flow_1 : List UInt8 := [172, 42, 29, 2, 182, 0, 234, 42, 180, 0, 37, 27, 28, 184, 0, 229, 46, 172]
abbrev dktX3_flow_1 : List UInt8 := dkwX3_flow_1 ++ []
def dkwX3_flow_0 : List UInt8 := [42, 3, 181, 0, 1, 42, 27, 28, 182, 0, 201, 153, 0, 11, 42, 29, 182, 0, 205, 154, 0, 6, 16, 254]
abbrev dktX3_flow_0 : List UInt8 := dkwX3_flow_0 ++ dktX3_flow_1
theorem dksX3_flow_0 : cX3_flow.data.toList.drop 0 = dktX3_flow_0 := by decide +kernel
theorem dksX3_flow_1 : cX3_flow.data.toList.drop 24 = dktX3_flow_1 := dk_seg dksX3_flow_0 24 rfl rfl
theorem dX3_flow_0 : decode cX3_flow 0 = .ok (.aload_n 0, 1) := dk_42 (dk_at dksX3_flow_0 0 rfl rfl)
theorem dX3_flow_1 : decode cX3_flow 1 = .ok (.iconst 0, 1) := dk_3 (dk_at dksX3_flow_0 1 rfl rfl)
theorem dX3_flow_2 : decode cX3_flow 2 = .ok (.putfield 1, 3) := dk_181 0 1 (dk_at dksX3_flow_0 2 rfl rfl)
theorem dX3_flow_5 : decode cX3_flow 5 = .ok (.aload_n 0, 1) := dk_42 (dk_at dksX3_flow_0 5 rfl rfl)
theorem dX3_flow_6 : decode cX3_flow 6 = .ok (.iload_n 1, 1) := dk_27 (dk_at dksX3_flow_0 6 rfl rfl)
theorem dX3_flow_7 : decode cX3_flow 7 = .ok (.iload_n 2, 1) := dk_28 (dk_at dksX3_flow_0 7 rfl rfl)
theorem dX3_flow_8 : decode cX3_flow 8 = .ok (.invokevirtual 201, 3) := dk_182 0 201 (dk_at dksX3_flow_0 8 rfl rfl)
theorem dX3_flow_11 : decode cX3_flow 11 = .ok (.ifCond .eq 11, 3) := dk_153 0 11 (dk_at dksX3_flow_0 11 rfl rfl)
theorem dX3_flow_14 : decode cX3_flow 14 = .ok (.aload_n 0, 1) := dk_42 (dk_at dksX3_flow_0 14 rfl rfl)
theorem dX3_flow_15 : decode cX3_flow 15 = .ok (.iload_n 3, 1) := dk_29 (dk_at dksX3_flow_0 15 rfl rfl)
theorem dX3_flow_16 : decode cX3_flow 16 = .ok (.invokevirtual 205, 3) := dk_182 0 205 (dk_at dksX3_flow_0 16 rfl rfl)
theorem dX3_flow_19 : decode cX3_flow 19 = .ok (.ifCond .ne 6, 3) := dk_154 0 6 (dk_at dksX3_flow_0 19 rfl rfl)
theorem dX3_flow_22 : decode cX3_flow 22 = .ok (.bipush (-2), 2) := dk_16 254 (dk_at dksX3_flow_0 22 rfl rfl)
theorem dX3_flow_24 : decode cX3_flow 24 = .ok (.ireturn, 1) := dk_172 (dk_at dksX3_flow_1 0 rfl rfl)
theorem dX3_flow_25 : decode cX3_flow 25 = .ok (.aload_n 0, 1) := dk_42 (dk_at dksX3_flow_1 1 rfl rfl)
theorem dX3_flow_26 : decode cX3_flow 26 = .ok (.iload_n 3, 1) := dk_29 (dk_at dksX3_flow_1 2 rfl rfl)
theorem dX3_flow_27 : decode cX3_flow 27 = .ok (.iconst (-1), 1) := dk_2 (dk_at dksX3_flow_1 3 rfl rfl)
theorem dX3_flow_28 : decode cX3_flow 28 = .ok (.invokevirtual 234, 3) := dk_182 0 234 (dk_at dksX3_flow_1 4 rfl rfl)
theorem dX3_flow_31 : decode cX3_flow 31 = .ok (.aload_n 0, 1) := dk_42 (dk_at dksX3_flow_1 7 rfl rfl)
theorem dX3_flow_32 : decode cX3_flow 32 = .ok (.getfield 37, 3) := dk_180 0 37 (dk_at dksX3_flow_1 8 rfl rfl)
theorem dX3_flow_35 : decode cX3_flow 35 = .ok (.iload_n 1, 1) := dk_27 (dk_at dksX3_flow_1 11 rfl rfl)
theorem dX3_flow_36 : decode cX3_flow 36 = .ok (.iload_n 2, 1) := dk_28 (dk_at dksX3_flow_1 12 rfl rfl)
theorem dX3_flow_37 : decode cX3_flow 37 = .ok (.invokestatic 229, 3) := dk_184 0 229 (dk_at dksX3_flow_1 13 rfl rfl)
theorem dX3_flow_40 : decode cX3_flow 40 = .ok (.iaload, 1) := dk_46 (dk_at dksX3_flow_1 16 rfl rfl)
theorem dX3_flow_41 : decode cX3_flow 41 = .ok (.ireturn, 1) := dk_172 (dk_at dksX3_flow_1 17 rfl rfl)
abbrev cX3_laysFlows : ByteArray := prog_15_method_42_code
def yX3_laysFlows : MethodName := ⟨RX3, "laysFlows", "(II)V"⟩
def dkwX3_laysFlows_3 : List UInt8 := [42, 29, 5, 182, 0, 174, 96, 79, 132, 3, 1, 167, 255, 196, 177]
abbrev dktX3_laysFlows_3 : List UInt8 := dkwX3_laysFlows_3 ++ []
def dkwX3_laysFlows_2 : List UInt8 := [154, 0, 32, 42, 180, 0, 37, 42, 29, 3, 182, 0, 174, 42, 29, 4, 182, 0, 174, 184, 0, 229, 92, 46]
abbrev dktX3_laysFlows_2 : List UInt8 := dkwX3_laysFlows_2 ++ dktX3_laysFlows_3
def dkwX3_laysFlows_1 : List UInt8 := [42, 180, 0, 13, 3, 46, 162, 0, 56, 42, 29, 27, 182, 0, 223, 153, 0, 41, 42, 29, 28, 182, 0, 226]
abbrev dktX3_laysFlows_1 : List UInt8 := dkwX3_laysFlows_1 ++ dktX3_laysFlows_2
def dkwX3_laysFlows_0 : List UInt8 := [3, 62, 29, 16, 64, 162, 0, 16, 42, 180, 0, 37, 29, 3, 79, 132, 3, 1, 167, 255, 240, 3, 62, 29]
abbrev dktX3_laysFlows_0 : List UInt8 := dkwX3_laysFlows_0 ++ dktX3_laysFlows_1
theorem dksX3_laysFlows_0 : cX3_laysFlows.data.toList.drop 0 = dktX3_laysFlows_0 := by decide +kernel
theorem dksX3_laysFlows_1 : cX3_laysFlows.data.toList.drop 24 = dktX3_laysFlows_1 := dk_seg dksX3_laysFlows_0 24 rfl rfl
theorem dksX3_laysFlows_2 : cX3_laysFlows.data.toList.drop 48 = dktX3_laysFlows_2 := dk_seg dksX3_laysFlows_1 24 rfl rfl
theorem dksX3_laysFlows_3 : cX3_laysFlows.data.toList.drop 72 = dktX3_laysFlows_3 := dk_seg dksX3_laysFlows_2 24 rfl rfl
theorem dX3_laysFlows_0 : decode cX3_laysFlows 0 = .ok (.iconst 0, 1) := dk_3 (dk_at dksX3_laysFlows_0 0 rfl rfl)
theorem dX3_laysFlows_1 : decode cX3_laysFlows 1 = .ok (.istore_n 3, 1) := dk_62 (dk_at dksX3_laysFlows_0 1 rfl rfl)
theorem dX3_laysFlows_2 : decode cX3_laysFlows 2 = .ok (.iload_n 3, 1) := dk_29 (dk_at dksX3_laysFlows_0 2 rfl rfl)
theorem dX3_laysFlows_3 : decode cX3_laysFlows 3 = .ok (.bipush 64, 2) := dk_16 64 (dk_at dksX3_laysFlows_0 3 rfl rfl)
theorem dX3_laysFlows_5 : decode cX3_laysFlows 5 = .ok (.if_icmp .ge 16, 3) := dk_162 0 16 (dk_at dksX3_laysFlows_0 5 rfl rfl)
theorem dX3_laysFlows_8 : decode cX3_laysFlows 8 = .ok (.aload_n 0, 1) := dk_42 (dk_at dksX3_laysFlows_0 8 rfl rfl)
theorem dX3_laysFlows_9 : decode cX3_laysFlows 9 = .ok (.getfield 37, 3) := dk_180 0 37 (dk_at dksX3_laysFlows_0 9 rfl rfl)
theorem dX3_laysFlows_12 : decode cX3_laysFlows 12 = .ok (.iload_n 3, 1) := dk_29 (dk_at dksX3_laysFlows_0 12 rfl rfl)
theorem dX3_laysFlows_13 : decode cX3_laysFlows 13 = .ok (.iconst 0, 1) := dk_3 (dk_at dksX3_laysFlows_0 13 rfl rfl)
theorem dX3_laysFlows_14 : decode cX3_laysFlows 14 = .ok (.iastore, 1) := dk_79 (dk_at dksX3_laysFlows_0 14 rfl rfl)
theorem dX3_laysFlows_15 : decode cX3_laysFlows 15 = .ok (.iinc 3 1, 3) := dk_132 3 1 (dk_at dksX3_laysFlows_0 15 rfl rfl)
theorem dX3_laysFlows_18 : decode cX3_laysFlows 18 = .ok (.goto (-16), 3) := dk_167 255 240 (dk_at dksX3_laysFlows_0 18 rfl rfl)
theorem dX3_laysFlows_21 : decode cX3_laysFlows 21 = .ok (.iconst 0, 1) := dk_3 (dk_at dksX3_laysFlows_0 21 rfl rfl)
theorem dX3_laysFlows_22 : decode cX3_laysFlows 22 = .ok (.istore_n 3, 1) := dk_62 (dk_at dksX3_laysFlows_0 22 rfl rfl)
theorem dX3_laysFlows_23 : decode cX3_laysFlows 23 = .ok (.iload_n 3, 1) := dk_29 (dk_at dksX3_laysFlows_0 23 rfl rfl)
theorem dX3_laysFlows_24 : decode cX3_laysFlows 24 = .ok (.aload_n 0, 1) := dk_42 (dk_at dksX3_laysFlows_1 0 rfl rfl)
theorem dX3_laysFlows_25 : decode cX3_laysFlows 25 = .ok (.getfield 13, 3) := dk_180 0 13 (dk_at dksX3_laysFlows_1 1 rfl rfl)
theorem dX3_laysFlows_28 : decode cX3_laysFlows 28 = .ok (.iconst 0, 1) := dk_3 (dk_at dksX3_laysFlows_1 4 rfl rfl)
theorem dX3_laysFlows_29 : decode cX3_laysFlows 29 = .ok (.iaload, 1) := dk_46 (dk_at dksX3_laysFlows_1 5 rfl rfl)
theorem dX3_laysFlows_30 : decode cX3_laysFlows 30 = .ok (.if_icmp .ge 56, 3) := dk_162 0 56 (dk_at dksX3_laysFlows_1 6 rfl rfl)
theorem dX3_laysFlows_33 : decode cX3_laysFlows 33 = .ok (.aload_n 0, 1) := dk_42 (dk_at dksX3_laysFlows_1 9 rfl rfl)
theorem dX3_laysFlows_34 : decode cX3_laysFlows 34 = .ok (.iload_n 3, 1) := dk_29 (dk_at dksX3_laysFlows_1 10 rfl rfl)
theorem dX3_laysFlows_35 : decode cX3_laysFlows 35 = .ok (.iload_n 1, 1) := dk_27 (dk_at dksX3_laysFlows_1 11 rfl rfl)
theorem dX3_laysFlows_36 : decode cX3_laysFlows 36 = .ok (.invokevirtual 223, 3) := dk_182 0 223 (dk_at dksX3_laysFlows_1 12 rfl rfl)
theorem dX3_laysFlows_39 : decode cX3_laysFlows 39 = .ok (.ifCond .eq 41, 3) := dk_153 0 41 (dk_at dksX3_laysFlows_1 15 rfl rfl)
theorem dX3_laysFlows_42 : decode cX3_laysFlows 42 = .ok (.aload_n 0, 1) := dk_42 (dk_at dksX3_laysFlows_1 18 rfl rfl)
theorem dX3_laysFlows_43 : decode cX3_laysFlows 43 = .ok (.iload_n 3, 1) := dk_29 (dk_at dksX3_laysFlows_1 19 rfl rfl)
theorem dX3_laysFlows_44 : decode cX3_laysFlows 44 = .ok (.iload_n 2, 1) := dk_28 (dk_at dksX3_laysFlows_1 20 rfl rfl)
theorem dX3_laysFlows_45 : decode cX3_laysFlows 45 = .ok (.invokevirtual 226, 3) := dk_182 0 226 (dk_at dksX3_laysFlows_1 21 rfl rfl)
theorem dX3_laysFlows_48 : decode cX3_laysFlows 48 = .ok (.ifCond .ne 32, 3) := dk_154 0 32 (dk_at dksX3_laysFlows_2 0 rfl rfl)
theorem dX3_laysFlows_51 : decode cX3_laysFlows 51 = .ok (.aload_n 0, 1) := dk_42 (dk_at dksX3_laysFlows_2 3 rfl rfl)
theorem dX3_laysFlows_52 : decode cX3_laysFlows 52 = .ok (.getfield 37, 3) := dk_180 0 37 (dk_at dksX3_laysFlows_2 4 rfl rfl)
theorem dX3_laysFlows_55 : decode cX3_laysFlows 55 = .ok (.aload_n 0, 1) := dk_42 (dk_at dksX3_laysFlows_2 7 rfl rfl)
theorem dX3_laysFlows_56 : decode cX3_laysFlows 56 = .ok (.iload_n 3, 1) := dk_29 (dk_at dksX3_laysFlows_2 8 rfl rfl)
theorem dX3_laysFlows_57 : decode cX3_laysFlows 57 = .ok (.iconst 0, 1) := dk_3 (dk_at dksX3_laysFlows_2 9 rfl rfl)
theorem dX3_laysFlows_58 : decode cX3_laysFlows 58 = .ok (.invokevirtual 174, 3) := dk_182 0 174 (dk_at dksX3_laysFlows_2 10 rfl rfl)
theorem dX3_laysFlows_61 : decode cX3_laysFlows 61 = .ok (.aload_n 0, 1) := dk_42 (dk_at dksX3_laysFlows_2 13 rfl rfl)
theorem dX3_laysFlows_62 : decode cX3_laysFlows 62 = .ok (.iload_n 3, 1) := dk_29 (dk_at dksX3_laysFlows_2 14 rfl rfl)
theorem dX3_laysFlows_63 : decode cX3_laysFlows 63 = .ok (.iconst 1, 1) := dk_4 (dk_at dksX3_laysFlows_2 15 rfl rfl)
theorem dX3_laysFlows_64 : decode cX3_laysFlows 64 = .ok (.invokevirtual 174, 3) := dk_182 0 174 (dk_at dksX3_laysFlows_2 16 rfl rfl)
theorem dX3_laysFlows_67 : decode cX3_laysFlows 67 = .ok (.invokestatic 229, 3) := dk_184 0 229 (dk_at dksX3_laysFlows_2 19 rfl rfl)
theorem dX3_laysFlows_70 : decode cX3_laysFlows 70 = .ok (.dup2, 1) := dk_92 (dk_at dksX3_laysFlows_2 22 rfl rfl)
theorem dX3_laysFlows_71 : decode cX3_laysFlows 71 = .ok (.iaload, 1) := dk_46 (dk_at dksX3_laysFlows_2 23 rfl rfl)
theorem dX3_laysFlows_72 : decode cX3_laysFlows 72 = .ok (.aload_n 0, 1) := dk_42 (dk_at dksX3_laysFlows_3 0 rfl rfl)
theorem dX3_laysFlows_73 : decode cX3_laysFlows 73 = .ok (.iload_n 3, 1) := dk_29 (dk_at dksX3_laysFlows_3 1 rfl rfl)
theorem dX3_laysFlows_74 : decode cX3_laysFlows 74 = .ok (.iconst 2, 1) := dk_5 (dk_at dksX3_laysFlows_3 2 rfl rfl)
theorem dX3_laysFlows_75 : decode cX3_laysFlows 75 = .ok (.invokevirtual 174, 3) := dk_182 0 174 (dk_at dksX3_laysFlows_3 3 rfl rfl)
theorem dX3_laysFlows_78 : decode cX3_laysFlows 78 = .ok (.iadd, 1) := dk_96 (dk_at dksX3_laysFlows_3 6 rfl rfl)
theorem dX3_laysFlows_79 : decode cX3_laysFlows 79 = .ok (.iastore, 1) := dk_79 (dk_at dksX3_laysFlows_3 7 rfl rfl)
theorem dX3_laysFlows_80 : decode cX3_laysFlows 80 = .ok (.iinc 3 1, 3) := dk_132 3 1 (dk_at dksX3_laysFlows_3 8 rfl rfl)
theorem dX3_laysFlows_83 : decode cX3_laysFlows 83 = .ok (.goto (-60), 3) := dk_167 255 196 (dk_at dksX3_laysFlows_3 11 rfl rfl)
theorem dX3_laysFlows_86 : decode cX3_laysFlows 86 = .ok (.return_, 1) := dk_177 (dk_at dksX3_laysFlows_3 14 rfl rfl)
abbrev cX3_isFree : ByteArray := prog_15_method_39_code
def yX3_isFree : MethodName := ⟨RX3, "isFree", "(II)Z"⟩
def dkwX3_isFree_1 : List UInt8 := [172]
abbrev dktX3_isFree_1 : List UInt8 := dkwX3_isFree_1 ++ []
def dkwX3_isFree_0 : List UInt8 := [42, 27, 6, 182, 0, 174, 28, 160, 0, 16, 42, 27, 7, 182, 0, 174, 154, 0, 7, 4, 167, 0, 4, 3]
abbrev dktX3_isFree_0 : List UInt8 := dkwX3_isFree_0 ++ dktX3_isFree_1
theorem dksX3_isFree_0 : cX3_isFree.data.toList.drop 0 = dktX3_isFree_0 := by decide +kernel
theorem dksX3_isFree_1 : cX3_isFree.data.toList.drop 24 = dktX3_isFree_1 := dk_seg dksX3_isFree_0 24 rfl rfl
theorem dX3_isFree_0 : decode cX3_isFree 0 = .ok (.aload_n 0, 1) := dk_42 (dk_at dksX3_isFree_0 0 rfl rfl)
theorem dX3_isFree_1 : decode cX3_isFree 1 = .ok (.iload_n 1, 1) := dk_27 (dk_at dksX3_isFree_0 1 rfl rfl)
theorem dX3_isFree_2 : decode cX3_isFree 2 = .ok (.iconst 3, 1) := dk_6 (dk_at dksX3_isFree_0 2 rfl rfl)
theorem dX3_isFree_3 : decode cX3_isFree 3 = .ok (.invokevirtual 174, 3) := dk_182 0 174 (dk_at dksX3_isFree_0 3 rfl rfl)
theorem dX3_isFree_6 : decode cX3_isFree 6 = .ok (.iload_n 2, 1) := dk_28 (dk_at dksX3_isFree_0 6 rfl rfl)
theorem dX3_isFree_7 : decode cX3_isFree 7 = .ok (.if_icmp .ne 16, 3) := dk_160 0 16 (dk_at dksX3_isFree_0 7 rfl rfl)
theorem dX3_isFree_10 : decode cX3_isFree 10 = .ok (.aload_n 0, 1) := dk_42 (dk_at dksX3_isFree_0 10 rfl rfl)
theorem dX3_isFree_11 : decode cX3_isFree 11 = .ok (.iload_n 1, 1) := dk_27 (dk_at dksX3_isFree_0 11 rfl rfl)
theorem dX3_isFree_12 : decode cX3_isFree 12 = .ok (.iconst 4, 1) := dk_7 (dk_at dksX3_isFree_0 12 rfl rfl)
theorem dX3_isFree_13 : decode cX3_isFree 13 = .ok (.invokevirtual 174, 3) := dk_182 0 174 (dk_at dksX3_isFree_0 13 rfl rfl)
theorem dX3_isFree_16 : decode cX3_isFree 16 = .ok (.ifCond .ne 7, 3) := dk_154 0 7 (dk_at dksX3_isFree_0 16 rfl rfl)
theorem dX3_isFree_19 : decode cX3_isFree 19 = .ok (.iconst 1, 1) := dk_4 (dk_at dksX3_isFree_0 19 rfl rfl)
theorem dX3_isFree_20 : decode cX3_isFree 20 = .ok (.goto 4, 3) := dk_167 0 4 (dk_at dksX3_isFree_0 20 rfl rfl)
theorem dX3_isFree_23 : decode cX3_isFree 23 = .ok (.iconst 0, 1) := dk_3 (dk_at dksX3_isFree_0 23 rfl rfl)
theorem dX3_isFree_24 : decode cX3_isFree 24 = .ok (.ireturn, 1) := dk_172 (dk_at dksX3_isFree_1 0 rfl rfl)
abbrev cX3_isOf : ByteArray := prog_15_method_41_code
def yX3_isOf : MethodName := ⟨RX3, "isOf", "(II)Z"⟩
def dkwX3_isOf_1 : List UInt8 := [3, 172]
abbrev dktX3_isOf_1 : List UInt8 := dkwX3_isOf_1 ++ []
def dkwX3_isOf_0 : List UInt8 := [42, 27, 3, 182, 0, 174, 28, 159, 0, 13, 42, 27, 4, 182, 0, 174, 28, 160, 0, 7, 4, 167, 0, 4]
abbrev dktX3_isOf_0 : List UInt8 := dkwX3_isOf_0 ++ dktX3_isOf_1
theorem dksX3_isOf_0 : cX3_isOf.data.toList.drop 0 = dktX3_isOf_0 := by decide +kernel
theorem dksX3_isOf_1 : cX3_isOf.data.toList.drop 24 = dktX3_isOf_1 := dk_seg dksX3_isOf_0 24 rfl rfl
theorem dX3_isOf_0 : decode cX3_isOf 0 = .ok (.aload_n 0, 1) := dk_42 (dk_at dksX3_isOf_0 0 rfl rfl)
theorem dX3_isOf_1 : decode cX3_isOf 1 = .ok (.iload_n 1, 1) := dk_27 (dk_at dksX3_isOf_0 1 rfl rfl)
theorem dX3_isOf_2 : decode cX3_isOf 2 = .ok (.iconst 0, 1) := dk_3 (dk_at dksX3_isOf_0 2 rfl rfl)
theorem dX3_isOf_3 : decode cX3_isOf 3 = .ok (.invokevirtual 174, 3) := dk_182 0 174 (dk_at dksX3_isOf_0 3 rfl rfl)
theorem dX3_isOf_6 : decode cX3_isOf 6 = .ok (.iload_n 2, 1) := dk_28 (dk_at dksX3_isOf_0 6 rfl rfl)
theorem dX3_isOf_7 : decode cX3_isOf 7 = .ok (.if_icmp .eq 13, 3) := dk_159 0 13 (dk_at dksX3_isOf_0 7 rfl rfl)
theorem dX3_isOf_10 : decode cX3_isOf 10 = .ok (.aload_n 0, 1) := dk_42 (dk_at dksX3_isOf_0 10 rfl rfl)
theorem dX3_isOf_11 : decode cX3_isOf 11 = .ok (.iload_n 1, 1) := dk_27 (dk_at dksX3_isOf_0 11 rfl rfl)
theorem dX3_isOf_12 : decode cX3_isOf 12 = .ok (.iconst 1, 1) := dk_4 (dk_at dksX3_isOf_0 12 rfl rfl)
theorem dX3_isOf_13 : decode cX3_isOf 13 = .ok (.invokevirtual 174, 3) := dk_182 0 174 (dk_at dksX3_isOf_0 13 rfl rfl)
theorem dX3_isOf_16 : decode cX3_isOf 16 = .ok (.iload_n 2, 1) := dk_28 (dk_at dksX3_isOf_0 16 rfl rfl)
theorem dX3_isOf_17 : decode cX3_isOf 17 = .ok (.if_icmp .ne 7, 3) := dk_160 0 7 (dk_at dksX3_isOf_0 17 rfl rfl)
theorem dX3_isOf_20 : decode cX3_isOf 20 = .ok (.iconst 1, 1) := dk_4 (dk_at dksX3_isOf_0 20 rfl rfl)
theorem dX3_isOf_21 : decode cX3_isOf 21 = .ok (.goto 4, 3) := dk_167 0 4 (dk_at dksX3_isOf_0 21 rfl rfl)
theorem dX3_isOf_24 : decode cX3_isOf 24 = .ok (.iconst 0, 1) := dk_3 (dk_at dksX3_isOf_1 0 rfl rfl)
theorem dX3_isOf_25 : decode cX3_isOf 25 = .ok (.ireturn, 1) := dk_172 (dk_at dksX3_isOf_1 1 rfl rfl)
abbrev cX3_couple : ByteArray := prog_15_method_40_code
def yX3_couple : MethodName := ⟨RX3, "couple", "(II)I"⟩
def dkwX3_couple_0 : List UInt8 := [16, 8, 26, 104, 27, 96, 172]
abbrev dktX3_couple_0 : List UInt8 := dkwX3_couple_0 ++ []
theorem dksX3_couple_0 : cX3_couple.data.toList.drop 0 = dktX3_couple_0 := by decide +kernel
theorem dX3_couple_0 : decode cX3_couple 0 = .ok (.bipush 8, 2) := dk_16 8 (dk_at dksX3_couple_0 0 rfl rfl)
theorem dX3_couple_2 : decode cX3_couple 2 = .ok (.iload_n 0, 1) := dk_26 (dk_at dksX3_couple_0 2 rfl rfl)
theorem dX3_couple_3 : decode cX3_couple 3 = .ok (.imul, 1) := dk_104 (dk_at dksX3_couple_0 3 rfl rfl)
theorem dX3_couple_4 : decode cX3_couple 4 = .ok (.iload_n 1, 1) := dk_27 (dk_at dksX3_couple_0 4 rfl rfl)
theorem dX3_couple_5 : decode cX3_couple 5 = .ok (.iadd, 1) := dk_96 (dk_at dksX3_couple_0 5 rfl rfl)
theorem dX3_couple_6 : decode cX3_couple 6 = .ok (.ireturn, 1) := dk_172 (dk_at dksX3_couple_0 6 rfl rfl)
abbrev cX3_net : ByteArray := prog_15_method_48_code
def yX3_net : MethodName := ⟨RX3, "net", "(IIZ)I"⟩
def dkwX3_net_2 : List UInt8 := [182, 0, 241, 42, 27, 28, 4, 182, 0, 241, 100, 96, 172]
abbrev dktX3_net_2 : List UInt8 := dkwX3_net_2 ++ []
def dkwX3_net_1 : List UInt8 := [42, 28, 2, 182, 0, 234, 18, 237, 29, 153, 0, 11, 42, 27, 182, 0, 238, 167, 0, 18, 42, 27, 28, 3]
abbrev dktX3_net_1 : List UInt8 := dkwX3_net_1 ++ dktX3_net_2
def dkwX3_net_0 : List UInt8 := [42, 3, 181, 0, 1, 42, 27, 182, 0, 198, 153, 0, 11, 42, 28, 182, 0, 205, 154, 0, 6, 16, 254, 172]
abbrev dktX3_net_0 : List UInt8 := dkwX3_net_0 ++ dktX3_net_1
theorem dksX3_net_0 : cX3_net.data.toList.drop 0 = dktX3_net_0 := by decide +kernel
theorem dksX3_net_1 : cX3_net.data.toList.drop 24 = dktX3_net_1 := dk_seg dksX3_net_0 24 rfl rfl
theorem dksX3_net_2 : cX3_net.data.toList.drop 48 = dktX3_net_2 := dk_seg dksX3_net_1 24 rfl rfl
theorem dX3_net_0 : decode cX3_net 0 = .ok (.aload_n 0, 1) := dk_42 (dk_at dksX3_net_0 0 rfl rfl)
theorem dX3_net_1 : decode cX3_net 1 = .ok (.iconst 0, 1) := dk_3 (dk_at dksX3_net_0 1 rfl rfl)
theorem dX3_net_2 : decode cX3_net 2 = .ok (.putfield 1, 3) := dk_181 0 1 (dk_at dksX3_net_0 2 rfl rfl)
theorem dX3_net_5 : decode cX3_net 5 = .ok (.aload_n 0, 1) := dk_42 (dk_at dksX3_net_0 5 rfl rfl)
theorem dX3_net_6 : decode cX3_net 6 = .ok (.iload_n 1, 1) := dk_27 (dk_at dksX3_net_0 6 rfl rfl)
theorem dX3_net_7 : decode cX3_net 7 = .ok (.invokevirtual 198, 3) := dk_182 0 198 (dk_at dksX3_net_0 7 rfl rfl)
theorem dX3_net_10 : decode cX3_net 10 = .ok (.ifCond .eq 11, 3) := dk_153 0 11 (dk_at dksX3_net_0 10 rfl rfl)
theorem dX3_net_13 : decode cX3_net 13 = .ok (.aload_n 0, 1) := dk_42 (dk_at dksX3_net_0 13 rfl rfl)
theorem dX3_net_14 : decode cX3_net 14 = .ok (.iload_n 2, 1) := dk_28 (dk_at dksX3_net_0 14 rfl rfl)
theorem dX3_net_15 : decode cX3_net 15 = .ok (.invokevirtual 205, 3) := dk_182 0 205 (dk_at dksX3_net_0 15 rfl rfl)
theorem dX3_net_18 : decode cX3_net 18 = .ok (.ifCond .ne 6, 3) := dk_154 0 6 (dk_at dksX3_net_0 18 rfl rfl)
theorem dX3_net_21 : decode cX3_net 21 = .ok (.bipush (-2), 2) := dk_16 254 (dk_at dksX3_net_0 21 rfl rfl)
theorem dX3_net_23 : decode cX3_net 23 = .ok (.ireturn, 1) := dk_172 (dk_at dksX3_net_0 23 rfl rfl)
theorem dX3_net_24 : decode cX3_net 24 = .ok (.aload_n 0, 1) := dk_42 (dk_at dksX3_net_1 0 rfl rfl)
theorem dX3_net_25 : decode cX3_net 25 = .ok (.iload_n 2, 1) := dk_28 (dk_at dksX3_net_1 1 rfl rfl)
theorem dX3_net_26 : decode cX3_net 26 = .ok (.iconst (-1), 1) := dk_2 (dk_at dksX3_net_1 2 rfl rfl)
theorem dX3_net_27 : decode cX3_net 27 = .ok (.invokevirtual 234, 3) := dk_182 0 234 (dk_at dksX3_net_1 3 rfl rfl)
theorem dX3_net_30 : decode cX3_net 30 = .ok (.ldc 237, 2) := dk_18 237 (dk_at dksX3_net_1 6 rfl rfl)
theorem dX3_net_32 : decode cX3_net 32 = .ok (.iload_n 3, 1) := dk_29 (dk_at dksX3_net_1 8 rfl rfl)
theorem dX3_net_33 : decode cX3_net 33 = .ok (.ifCond .eq 11, 3) := dk_153 0 11 (dk_at dksX3_net_1 9 rfl rfl)
theorem dX3_net_36 : decode cX3_net 36 = .ok (.aload_n 0, 1) := dk_42 (dk_at dksX3_net_1 12 rfl rfl)
theorem dX3_net_37 : decode cX3_net 37 = .ok (.iload_n 1, 1) := dk_27 (dk_at dksX3_net_1 13 rfl rfl)
theorem dX3_net_38 : decode cX3_net 38 = .ok (.invokevirtual 238, 3) := dk_182 0 238 (dk_at dksX3_net_1 14 rfl rfl)
theorem dX3_net_41 : decode cX3_net 41 = .ok (.goto 18, 3) := dk_167 0 18 (dk_at dksX3_net_1 17 rfl rfl)
theorem dX3_net_44 : decode cX3_net 44 = .ok (.aload_n 0, 1) := dk_42 (dk_at dksX3_net_1 20 rfl rfl)
theorem dX3_net_45 : decode cX3_net 45 = .ok (.iload_n 1, 1) := dk_27 (dk_at dksX3_net_1 21 rfl rfl)
theorem dX3_net_46 : decode cX3_net 46 = .ok (.iload_n 2, 1) := dk_28 (dk_at dksX3_net_1 22 rfl rfl)
theorem dX3_net_47 : decode cX3_net 47 = .ok (.iconst 0, 1) := dk_3 (dk_at dksX3_net_1 23 rfl rfl)
theorem dX3_net_48 : decode cX3_net 48 = .ok (.invokevirtual 241, 3) := dk_182 0 241 (dk_at dksX3_net_2 0 rfl rfl)
theorem dX3_net_51 : decode cX3_net 51 = .ok (.aload_n 0, 1) := dk_42 (dk_at dksX3_net_2 3 rfl rfl)
theorem dX3_net_52 : decode cX3_net 52 = .ok (.iload_n 1, 1) := dk_27 (dk_at dksX3_net_2 4 rfl rfl)
theorem dX3_net_53 : decode cX3_net 53 = .ok (.iload_n 2, 1) := dk_28 (dk_at dksX3_net_2 5 rfl rfl)
theorem dX3_net_54 : decode cX3_net 54 = .ok (.iconst 1, 1) := dk_4 (dk_at dksX3_net_2 6 rfl rfl)
theorem dX3_net_55 : decode cX3_net 55 = .ok (.invokevirtual 241, 3) := dk_182 0 241 (dk_at dksX3_net_2 7 rfl rfl)
theorem dX3_net_58 : decode cX3_net 58 = .ok (.isub, 1) := dk_100 (dk_at dksX3_net_2 10 rfl rfl)
theorem dX3_net_59 : decode cX3_net 59 = .ok (.iadd, 1) := dk_96 (dk_at dksX3_net_2 11 rfl rfl)
theorem dX3_net_60 : decode cX3_net 60 = .ok (.ireturn, 1) := dk_172 (dk_at dksX3_net_2 12 rfl rfl)
abbrev cX3_netBy : ByteArray := prog_15_method_43_code
def yX3_netBy : MethodName := ⟨RX3, "netBy", "(I)I"⟩
def dkwX3_netBy_1 : List UInt8 := [180, 0, 37, 29, 27, 184, 0, 229, 46, 100, 96, 61, 132, 3, 1, 167, 255, 221, 28, 172]
abbrev dktX3_netBy_1 : List UInt8 := dkwX3_netBy_1 ++ []
def dkwX3_netBy_0 : List UInt8 := [3, 61, 3, 62, 29, 42, 180, 0, 80, 162, 0, 33, 28, 42, 180, 0, 37, 27, 29, 184, 0, 229, 46, 42]
abbrev dktX3_netBy_0 : List UInt8 := dkwX3_netBy_0 ++ dktX3_netBy_1
theorem dksX3_netBy_0 : cX3_netBy.data.toList.drop 0 = dktX3_netBy_0 := by decide +kernel
theorem dksX3_netBy_1 : cX3_netBy.data.toList.drop 24 = dktX3_netBy_1 := dk_seg dksX3_netBy_0 24 rfl rfl
theorem dX3_netBy_0 : decode cX3_netBy 0 = .ok (.iconst 0, 1) := dk_3 (dk_at dksX3_netBy_0 0 rfl rfl)
theorem dX3_netBy_1 : decode cX3_netBy 1 = .ok (.istore_n 2, 1) := dk_61 (dk_at dksX3_netBy_0 1 rfl rfl)
theorem dX3_netBy_2 : decode cX3_netBy 2 = .ok (.iconst 0, 1) := dk_3 (dk_at dksX3_netBy_0 2 rfl rfl)
theorem dX3_netBy_3 : decode cX3_netBy 3 = .ok (.istore_n 3, 1) := dk_62 (dk_at dksX3_netBy_0 3 rfl rfl)
theorem dX3_netBy_4 : decode cX3_netBy 4 = .ok (.iload_n 3, 1) := dk_29 (dk_at dksX3_netBy_0 4 rfl rfl)
theorem dX3_netBy_5 : decode cX3_netBy 5 = .ok (.aload_n 0, 1) := dk_42 (dk_at dksX3_netBy_0 5 rfl rfl)
theorem dX3_netBy_6 : decode cX3_netBy 6 = .ok (.getfield 80, 3) := dk_180 0 80 (dk_at dksX3_netBy_0 6 rfl rfl)
theorem dX3_netBy_9 : decode cX3_netBy 9 = .ok (.if_icmp .ge 33, 3) := dk_162 0 33 (dk_at dksX3_netBy_0 9 rfl rfl)
theorem dX3_netBy_12 : decode cX3_netBy 12 = .ok (.iload_n 2, 1) := dk_28 (dk_at dksX3_netBy_0 12 rfl rfl)
theorem dX3_netBy_13 : decode cX3_netBy 13 = .ok (.aload_n 0, 1) := dk_42 (dk_at dksX3_netBy_0 13 rfl rfl)
theorem dX3_netBy_14 : decode cX3_netBy 14 = .ok (.getfield 37, 3) := dk_180 0 37 (dk_at dksX3_netBy_0 14 rfl rfl)
theorem dX3_netBy_17 : decode cX3_netBy 17 = .ok (.iload_n 1, 1) := dk_27 (dk_at dksX3_netBy_0 17 rfl rfl)
theorem dX3_netBy_18 : decode cX3_netBy 18 = .ok (.iload_n 3, 1) := dk_29 (dk_at dksX3_netBy_0 18 rfl rfl)
theorem dX3_netBy_19 : decode cX3_netBy 19 = .ok (.invokestatic 229, 3) := dk_184 0 229 (dk_at dksX3_netBy_0 19 rfl rfl)
theorem dX3_netBy_22 : decode cX3_netBy 22 = .ok (.iaload, 1) := dk_46 (dk_at dksX3_netBy_0 22 rfl rfl)
theorem dX3_netBy_23 : decode cX3_netBy 23 = .ok (.aload_n 0, 1) := dk_42 (dk_at dksX3_netBy_0 23 rfl rfl)
theorem dX3_netBy_24 : decode cX3_netBy 24 = .ok (.getfield 37, 3) := dk_180 0 37 (dk_at dksX3_netBy_1 0 rfl rfl)
theorem dX3_netBy_27 : decode cX3_netBy 27 = .ok (.iload_n 3, 1) := dk_29 (dk_at dksX3_netBy_1 3 rfl rfl)
theorem dX3_netBy_28 : decode cX3_netBy 28 = .ok (.iload_n 1, 1) := dk_27 (dk_at dksX3_netBy_1 4 rfl rfl)
theorem dX3_netBy_29 : decode cX3_netBy 29 = .ok (.invokestatic 229, 3) := dk_184 0 229 (dk_at dksX3_netBy_1 5 rfl rfl)
theorem dX3_netBy_32 : decode cX3_netBy 32 = .ok (.iaload, 1) := dk_46 (dk_at dksX3_netBy_1 8 rfl rfl)
theorem dX3_netBy_33 : decode cX3_netBy 33 = .ok (.isub, 1) := dk_100 (dk_at dksX3_netBy_1 9 rfl rfl)
theorem dX3_netBy_34 : decode cX3_netBy 34 = .ok (.iadd, 1) := dk_96 (dk_at dksX3_netBy_1 10 rfl rfl)
theorem dX3_netBy_35 : decode cX3_netBy 35 = .ok (.istore_n 2, 1) := dk_61 (dk_at dksX3_netBy_1 11 rfl rfl)
theorem dX3_netBy_36 : decode cX3_netBy 36 = .ok (.iinc 3 1, 3) := dk_132 3 1 (dk_at dksX3_netBy_1 12 rfl rfl)
theorem dX3_netBy_39 : decode cX3_netBy 39 = .ok (.goto (-35), 3) := dk_167 255 221 (dk_at dksX3_netBy_1 15 rfl rfl)
theorem dX3_netBy_42 : decode cX3_netBy 42 = .ok (.iload_n 2, 1) := dk_28 (dk_at dksX3_netBy_1 18 rfl rfl)
theorem dX3_netBy_43 : decode cX3_netBy 43 = .ok (.ireturn, 1) := dk_172 (dk_at dksX3_netBy_1 19 rfl rfl)
abbrev cX3_amounts : ByteArray := prog_15_method_47_code
def yX3_amounts : MethodName := ⟨RX3, "amounts", "(III)I"⟩
def dkwX3_amounts_2 : List UInt8 := [182, 0, 174, 167, 0, 4, 3, 96, 54, 4, 132, 5, 1, 167, 255, 204, 21, 4, 172]
abbrev dktX3_amounts_2 : List UInt8 := dkwX3_amounts_2 ++ []
def dkwX3_amounts_1 : List UInt8 := [182, 0, 174, 28, 160, 0, 24, 42, 21, 5, 29, 182, 0, 174, 27, 160, 0, 13, 42, 21, 5, 5]
abbrev dktX3_amounts_1 : List UInt8 := dkwX3_amounts_1 ++ dktX3_amounts_2
def dkwX3_amounts_0 : List UInt8 := [3, 54, 4, 3, 54, 5, 21, 5, 42, 180, 0, 13, 3, 46, 162, 0, 47, 21, 4, 42, 21, 5, 6]
abbrev dktX3_amounts_0 : List UInt8 := dkwX3_amounts_0 ++ dktX3_amounts_1
theorem dksX3_amounts_0 : cX3_amounts.data.toList.drop 0 = dktX3_amounts_0 := by decide +kernel
theorem dksX3_amounts_1 : cX3_amounts.data.toList.drop 23 = dktX3_amounts_1 := dk_seg dksX3_amounts_0 23 rfl rfl
theorem dksX3_amounts_2 : cX3_amounts.data.toList.drop 45 = dktX3_amounts_2 := dk_seg dksX3_amounts_1 22 rfl rfl
theorem dX3_amounts_0 : decode cX3_amounts 0 = .ok (.iconst 0, 1) := dk_3 (dk_at dksX3_amounts_0 0 rfl rfl)
theorem dX3_amounts_1 : decode cX3_amounts 1 = .ok (.istore 4, 2) := dk_54 4 (dk_at dksX3_amounts_0 1 rfl rfl)
theorem dX3_amounts_3 : decode cX3_amounts 3 = .ok (.iconst 0, 1) := dk_3 (dk_at dksX3_amounts_0 3 rfl rfl)
theorem dX3_amounts_4 : decode cX3_amounts 4 = .ok (.istore 5, 2) := dk_54 5 (dk_at dksX3_amounts_0 4 rfl rfl)
theorem dX3_amounts_6 : decode cX3_amounts 6 = .ok (.iload 5, 2) := dk_21 5 (dk_at dksX3_amounts_0 6 rfl rfl)
theorem dX3_amounts_8 : decode cX3_amounts 8 = .ok (.aload_n 0, 1) := dk_42 (dk_at dksX3_amounts_0 8 rfl rfl)
theorem dX3_amounts_9 : decode cX3_amounts 9 = .ok (.getfield 13, 3) := dk_180 0 13 (dk_at dksX3_amounts_0 9 rfl rfl)
theorem dX3_amounts_12 : decode cX3_amounts 12 = .ok (.iconst 0, 1) := dk_3 (dk_at dksX3_amounts_0 12 rfl rfl)
theorem dX3_amounts_13 : decode cX3_amounts 13 = .ok (.iaload, 1) := dk_46 (dk_at dksX3_amounts_0 13 rfl rfl)
theorem dX3_amounts_14 : decode cX3_amounts 14 = .ok (.if_icmp .ge 47, 3) := dk_162 0 47 (dk_at dksX3_amounts_0 14 rfl rfl)
theorem dX3_amounts_17 : decode cX3_amounts 17 = .ok (.iload 4, 2) := dk_21 4 (dk_at dksX3_amounts_0 17 rfl rfl)
theorem dX3_amounts_19 : decode cX3_amounts 19 = .ok (.aload_n 0, 1) := dk_42 (dk_at dksX3_amounts_0 19 rfl rfl)
theorem dX3_amounts_20 : decode cX3_amounts 20 = .ok (.iload 5, 2) := dk_21 5 (dk_at dksX3_amounts_0 20 rfl rfl)
theorem dX3_amounts_22 : decode cX3_amounts 22 = .ok (.iconst 3, 1) := dk_6 (dk_at dksX3_amounts_0 22 rfl rfl)
theorem dX3_amounts_23 : decode cX3_amounts 23 = .ok (.invokevirtual 174, 3) := dk_182 0 174 (dk_at dksX3_amounts_1 0 rfl rfl)
theorem dX3_amounts_26 : decode cX3_amounts 26 = .ok (.iload_n 2, 1) := dk_28 (dk_at dksX3_amounts_1 3 rfl rfl)
theorem dX3_amounts_27 : decode cX3_amounts 27 = .ok (.if_icmp .ne 24, 3) := dk_160 0 24 (dk_at dksX3_amounts_1 4 rfl rfl)
theorem dX3_amounts_30 : decode cX3_amounts 30 = .ok (.aload_n 0, 1) := dk_42 (dk_at dksX3_amounts_1 7 rfl rfl)
theorem dX3_amounts_31 : decode cX3_amounts 31 = .ok (.iload 5, 2) := dk_21 5 (dk_at dksX3_amounts_1 8 rfl rfl)
theorem dX3_amounts_33 : decode cX3_amounts 33 = .ok (.iload_n 3, 1) := dk_29 (dk_at dksX3_amounts_1 10 rfl rfl)
theorem dX3_amounts_34 : decode cX3_amounts 34 = .ok (.invokevirtual 174, 3) := dk_182 0 174 (dk_at dksX3_amounts_1 11 rfl rfl)
theorem dX3_amounts_37 : decode cX3_amounts 37 = .ok (.iload_n 1, 1) := dk_27 (dk_at dksX3_amounts_1 14 rfl rfl)
theorem dX3_amounts_38 : decode cX3_amounts 38 = .ok (.if_icmp .ne 13, 3) := dk_160 0 13 (dk_at dksX3_amounts_1 15 rfl rfl)
theorem dX3_amounts_41 : decode cX3_amounts 41 = .ok (.aload_n 0, 1) := dk_42 (dk_at dksX3_amounts_1 18 rfl rfl)
theorem dX3_amounts_42 : decode cX3_amounts 42 = .ok (.iload 5, 2) := dk_21 5 (dk_at dksX3_amounts_1 19 rfl rfl)
theorem dX3_amounts_44 : decode cX3_amounts 44 = .ok (.iconst 2, 1) := dk_5 (dk_at dksX3_amounts_1 21 rfl rfl)
theorem dX3_amounts_45 : decode cX3_amounts 45 = .ok (.invokevirtual 174, 3) := dk_182 0 174 (dk_at dksX3_amounts_2 0 rfl rfl)
theorem dX3_amounts_48 : decode cX3_amounts 48 = .ok (.goto 4, 3) := dk_167 0 4 (dk_at dksX3_amounts_2 3 rfl rfl)
theorem dX3_amounts_51 : decode cX3_amounts 51 = .ok (.iconst 0, 1) := dk_3 (dk_at dksX3_amounts_2 6 rfl rfl)
theorem dX3_amounts_52 : decode cX3_amounts 52 = .ok (.iadd, 1) := dk_96 (dk_at dksX3_amounts_2 7 rfl rfl)
theorem dX3_amounts_53 : decode cX3_amounts 53 = .ok (.istore 4, 2) := dk_54 4 (dk_at dksX3_amounts_2 8 rfl rfl)
theorem dX3_amounts_55 : decode cX3_amounts 55 = .ok (.iinc 5 1, 3) := dk_132 5 1 (dk_at dksX3_amounts_2 10 rfl rfl)
theorem dX3_amounts_58 : decode cX3_amounts 58 = .ok (.goto (-52), 3) := dk_167 255 204 (dk_at dksX3_amounts_2 13 rfl rfl)
theorem dX3_amounts_61 : decode cX3_amounts 61 = .ok (.iload 4, 2) := dk_21 4 (dk_at dksX3_amounts_2 16 rfl rfl)
theorem dX3_amounts_63 : decode cX3_amounts 63 = .ok (.ireturn, 1) := dk_172 (dk_at dksX3_amounts_2 18 rfl rfl)
abbrev cX3_side : ByteArray := prog_15_method_49_code
def yX3_side : MethodName := ⟨RX3, "side", "(III)I"⟩
def dkwX3_side_5 : List UInt8 := [21, 4, 184, 0, 247, 172]
abbrev dktX3_side_5 : List UInt8 := dkwX3_side_5 ++ []
def dkwX3_side_4 : List UInt8 := [182, 0, 174, 42, 21, 5, 4, 182, 0, 174, 96, 27, 100, 120, 128, 54, 4, 132, 5, 1, 167, 255, 197]
abbrev dktX3_side_4 : List UInt8 := dkwX3_side_4 ++ dktX3_side_5
def dkwX3_side_3 : List UInt8 := [182, 0, 174, 28, 160, 0, 37, 42, 21, 5, 27, 182, 0, 226, 153, 0, 27, 21, 4, 4, 42, 21, 5, 3]
abbrev dktX3_side_3 : List UInt8 := dkwX3_side_3 ++ dktX3_side_4
def dkwX3_side_2 : List UInt8 := [172, 3, 54, 4, 3, 54, 5, 21, 5, 42, 180, 0, 13, 3, 46, 162, 0, 54, 42, 21, 5, 6]
abbrev dktX3_side_2 : List UInt8 := dkwX3_side_2 ++ dktX3_side_3
def dkwX3_side_1 : List UInt8 := [20, 0, 245, 184, 0, 103, 154, 0, 6, 16, 254, 172, 29, 5, 162, 0, 11, 42, 27, 28, 29, 182, 0, 241]
abbrev dktX3_side_1 : List UInt8 := dkwX3_side_1 ++ dktX3_side_2
def dkwX3_side_0 : List UInt8 := [42, 3, 181, 0, 1, 42, 27, 182, 0, 198, 153, 0, 23, 42, 28, 182, 0, 205, 153, 0, 15, 29, 133, 9]
abbrev dktX3_side_0 : List UInt8 := dkwX3_side_0 ++ dktX3_side_1
theorem dksX3_side_0 : cX3_side.data.toList.drop 0 = dktX3_side_0 := by decide +kernel
theorem dksX3_side_1 : cX3_side.data.toList.drop 24 = dktX3_side_1 := dk_seg dksX3_side_0 24 rfl rfl
theorem dksX3_side_2 : cX3_side.data.toList.drop 48 = dktX3_side_2 := dk_seg dksX3_side_1 24 rfl rfl
theorem dksX3_side_3 : cX3_side.data.toList.drop 70 = dktX3_side_3 := dk_seg dksX3_side_2 22 rfl rfl
theorem dksX3_side_4 : cX3_side.data.toList.drop 94 = dktX3_side_4 := dk_seg dksX3_side_3 24 rfl rfl
theorem dksX3_side_5 : cX3_side.data.toList.drop 117 = dktX3_side_5 := dk_seg dksX3_side_4 23 rfl rfl
theorem dX3_side_0 : decode cX3_side 0 = .ok (.aload_n 0, 1) := dk_42 (dk_at dksX3_side_0 0 rfl rfl)
theorem dX3_side_1 : decode cX3_side 1 = .ok (.iconst 0, 1) := dk_3 (dk_at dksX3_side_0 1 rfl rfl)
theorem dX3_side_2 : decode cX3_side 2 = .ok (.putfield 1, 3) := dk_181 0 1 (dk_at dksX3_side_0 2 rfl rfl)
theorem dX3_side_5 : decode cX3_side 5 = .ok (.aload_n 0, 1) := dk_42 (dk_at dksX3_side_0 5 rfl rfl)
theorem dX3_side_6 : decode cX3_side 6 = .ok (.iload_n 1, 1) := dk_27 (dk_at dksX3_side_0 6 rfl rfl)
theorem dX3_side_7 : decode cX3_side 7 = .ok (.invokevirtual 198, 3) := dk_182 0 198 (dk_at dksX3_side_0 7 rfl rfl)
theorem dX3_side_10 : decode cX3_side 10 = .ok (.ifCond .eq 23, 3) := dk_153 0 23 (dk_at dksX3_side_0 10 rfl rfl)
theorem dX3_side_13 : decode cX3_side 13 = .ok (.aload_n 0, 1) := dk_42 (dk_at dksX3_side_0 13 rfl rfl)
theorem dX3_side_14 : decode cX3_side 14 = .ok (.iload_n 2, 1) := dk_28 (dk_at dksX3_side_0 14 rfl rfl)
theorem dX3_side_15 : decode cX3_side 15 = .ok (.invokevirtual 205, 3) := dk_182 0 205 (dk_at dksX3_side_0 15 rfl rfl)
theorem dX3_side_18 : decode cX3_side 18 = .ok (.ifCond .eq 15, 3) := dk_153 0 15 (dk_at dksX3_side_0 18 rfl rfl)
theorem dX3_side_21 : decode cX3_side 21 = .ok (.iload_n 3, 1) := dk_29 (dk_at dksX3_side_0 21 rfl rfl)
theorem dX3_side_22 : decode cX3_side 22 = .ok (.i2l, 1) := dk_133 (dk_at dksX3_side_0 22 rfl rfl)
theorem dX3_side_23 : decode cX3_side 23 = .ok (.lconst 0, 1) := dk_9 (dk_at dksX3_side_0 23 rfl rfl)
theorem dX3_side_24 : decode cX3_side 24 = .ok (.ldc2_w 245, 3) := dk_20 0 245 (dk_at dksX3_side_1 0 rfl rfl)
theorem dX3_side_27 : decode cX3_side 27 = .ok (.invokestatic 103, 3) := dk_184 0 103 (dk_at dksX3_side_1 3 rfl rfl)
theorem dX3_side_30 : decode cX3_side 30 = .ok (.ifCond .ne 6, 3) := dk_154 0 6 (dk_at dksX3_side_1 6 rfl rfl)
theorem dX3_side_33 : decode cX3_side 33 = .ok (.bipush (-2), 2) := dk_16 254 (dk_at dksX3_side_1 9 rfl rfl)
theorem dX3_side_35 : decode cX3_side 35 = .ok (.ireturn, 1) := dk_172 (dk_at dksX3_side_1 11 rfl rfl)
theorem dX3_side_36 : decode cX3_side 36 = .ok (.iload_n 3, 1) := dk_29 (dk_at dksX3_side_1 12 rfl rfl)
theorem dX3_side_37 : decode cX3_side 37 = .ok (.iconst 2, 1) := dk_5 (dk_at dksX3_side_1 13 rfl rfl)
theorem dX3_side_38 : decode cX3_side 38 = .ok (.if_icmp .ge 11, 3) := dk_162 0 11 (dk_at dksX3_side_1 14 rfl rfl)
theorem dX3_side_41 : decode cX3_side 41 = .ok (.aload_n 0, 1) := dk_42 (dk_at dksX3_side_1 17 rfl rfl)
theorem dX3_side_42 : decode cX3_side 42 = .ok (.iload_n 1, 1) := dk_27 (dk_at dksX3_side_1 18 rfl rfl)
theorem dX3_side_43 : decode cX3_side 43 = .ok (.iload_n 2, 1) := dk_28 (dk_at dksX3_side_1 19 rfl rfl)
theorem dX3_side_44 : decode cX3_side 44 = .ok (.iload_n 3, 1) := dk_29 (dk_at dksX3_side_1 20 rfl rfl)
theorem dX3_side_45 : decode cX3_side 45 = .ok (.invokevirtual 241, 3) := dk_182 0 241 (dk_at dksX3_side_1 21 rfl rfl)
theorem dX3_side_48 : decode cX3_side 48 = .ok (.ireturn, 1) := dk_172 (dk_at dksX3_side_2 0 rfl rfl)
theorem dX3_side_49 : decode cX3_side 49 = .ok (.iconst 0, 1) := dk_3 (dk_at dksX3_side_2 1 rfl rfl)
theorem dX3_side_50 : decode cX3_side 50 = .ok (.istore 4, 2) := dk_54 4 (dk_at dksX3_side_2 2 rfl rfl)
theorem dX3_side_52 : decode cX3_side 52 = .ok (.iconst 0, 1) := dk_3 (dk_at dksX3_side_2 4 rfl rfl)
theorem dX3_side_53 : decode cX3_side 53 = .ok (.istore 5, 2) := dk_54 5 (dk_at dksX3_side_2 5 rfl rfl)
theorem dX3_side_55 : decode cX3_side 55 = .ok (.iload 5, 2) := dk_21 5 (dk_at dksX3_side_2 7 rfl rfl)
theorem dX3_side_57 : decode cX3_side 57 = .ok (.aload_n 0, 1) := dk_42 (dk_at dksX3_side_2 9 rfl rfl)
theorem dX3_side_58 : decode cX3_side 58 = .ok (.getfield 13, 3) := dk_180 0 13 (dk_at dksX3_side_2 10 rfl rfl)
theorem dX3_side_61 : decode cX3_side 61 = .ok (.iconst 0, 1) := dk_3 (dk_at dksX3_side_2 13 rfl rfl)
theorem dX3_side_62 : decode cX3_side 62 = .ok (.iaload, 1) := dk_46 (dk_at dksX3_side_2 14 rfl rfl)
theorem dX3_side_63 : decode cX3_side 63 = .ok (.if_icmp .ge 54, 3) := dk_162 0 54 (dk_at dksX3_side_2 15 rfl rfl)
theorem dX3_side_66 : decode cX3_side 66 = .ok (.aload_n 0, 1) := dk_42 (dk_at dksX3_side_2 18 rfl rfl)
theorem dX3_side_67 : decode cX3_side 67 = .ok (.iload 5, 2) := dk_21 5 (dk_at dksX3_side_2 19 rfl rfl)
theorem dX3_side_69 : decode cX3_side 69 = .ok (.iconst 3, 1) := dk_6 (dk_at dksX3_side_2 21 rfl rfl)
theorem dX3_side_70 : decode cX3_side 70 = .ok (.invokevirtual 174, 3) := dk_182 0 174 (dk_at dksX3_side_3 0 rfl rfl)
theorem dX3_side_73 : decode cX3_side 73 = .ok (.iload_n 2, 1) := dk_28 (dk_at dksX3_side_3 3 rfl rfl)
theorem dX3_side_74 : decode cX3_side 74 = .ok (.if_icmp .ne 37, 3) := dk_160 0 37 (dk_at dksX3_side_3 4 rfl rfl)
theorem dX3_side_77 : decode cX3_side 77 = .ok (.aload_n 0, 1) := dk_42 (dk_at dksX3_side_3 7 rfl rfl)
theorem dX3_side_78 : decode cX3_side 78 = .ok (.iload 5, 2) := dk_21 5 (dk_at dksX3_side_3 8 rfl rfl)
theorem dX3_side_80 : decode cX3_side 80 = .ok (.iload_n 1, 1) := dk_27 (dk_at dksX3_side_3 10 rfl rfl)
theorem dX3_side_81 : decode cX3_side 81 = .ok (.invokevirtual 226, 3) := dk_182 0 226 (dk_at dksX3_side_3 11 rfl rfl)
theorem dX3_side_84 : decode cX3_side 84 = .ok (.ifCond .eq 27, 3) := dk_153 0 27 (dk_at dksX3_side_3 14 rfl rfl)
theorem dX3_side_87 : decode cX3_side 87 = .ok (.iload 4, 2) := dk_21 4 (dk_at dksX3_side_3 17 rfl rfl)
theorem dX3_side_89 : decode cX3_side 89 = .ok (.iconst 1, 1) := dk_4 (dk_at dksX3_side_3 19 rfl rfl)
theorem dX3_side_90 : decode cX3_side 90 = .ok (.aload_n 0, 1) := dk_42 (dk_at dksX3_side_3 20 rfl rfl)
theorem dX3_side_91 : decode cX3_side 91 = .ok (.iload 5, 2) := dk_21 5 (dk_at dksX3_side_3 21 rfl rfl)
theorem dX3_side_93 : decode cX3_side 93 = .ok (.iconst 0, 1) := dk_3 (dk_at dksX3_side_3 23 rfl rfl)
theorem dX3_side_94 : decode cX3_side 94 = .ok (.invokevirtual 174, 3) := dk_182 0 174 (dk_at dksX3_side_4 0 rfl rfl)
theorem dX3_side_97 : decode cX3_side 97 = .ok (.aload_n 0, 1) := dk_42 (dk_at dksX3_side_4 3 rfl rfl)
theorem dX3_side_98 : decode cX3_side 98 = .ok (.iload 5, 2) := dk_21 5 (dk_at dksX3_side_4 4 rfl rfl)
theorem dX3_side_100 : decode cX3_side 100 = .ok (.iconst 1, 1) := dk_4 (dk_at dksX3_side_4 6 rfl rfl)
theorem dX3_side_101 : decode cX3_side 101 = .ok (.invokevirtual 174, 3) := dk_182 0 174 (dk_at dksX3_side_4 7 rfl rfl)
theorem dX3_side_104 : decode cX3_side 104 = .ok (.iadd, 1) := dk_96 (dk_at dksX3_side_4 10 rfl rfl)
theorem dX3_side_105 : decode cX3_side 105 = .ok (.iload_n 1, 1) := dk_27 (dk_at dksX3_side_4 11 rfl rfl)
theorem dX3_side_106 : decode cX3_side 106 = .ok (.isub, 1) := dk_100 (dk_at dksX3_side_4 12 rfl rfl)
theorem dX3_side_107 : decode cX3_side 107 = .ok (.ishl, 1) := dk_120 (dk_at dksX3_side_4 13 rfl rfl)
theorem dX3_side_108 : decode cX3_side 108 = .ok (.ior, 1) := dk_128 (dk_at dksX3_side_4 14 rfl rfl)
theorem dX3_side_109 : decode cX3_side 109 = .ok (.istore 4, 2) := dk_54 4 (dk_at dksX3_side_4 15 rfl rfl)
theorem dX3_side_111 : decode cX3_side 111 = .ok (.iinc 5 1, 3) := dk_132 5 1 (dk_at dksX3_side_4 17 rfl rfl)
theorem dX3_side_114 : decode cX3_side 114 = .ok (.goto (-59), 3) := dk_167 255 197 (dk_at dksX3_side_4 20 rfl rfl)
theorem dX3_side_117 : decode cX3_side 117 = .ok (.iload 4, 2) := dk_21 4 (dk_at dksX3_side_5 0 rfl rfl)
theorem dX3_side_119 : decode cX3_side 119 = .ok (.invokestatic 247, 3) := dk_184 0 247 (dk_at dksX3_side_5 2 rfl rfl)
theorem dX3_side_122 : decode cX3_side 122 = .ok (.ireturn, 1) := dk_172 (dk_at dksX3_side_5 5 rfl rfl)
abbrev cX3_total : ByteArray := prog_15_method_50_code
def yX3_total : MethodName := ⟨RX3, "total", "(II)I"⟩
def dkwX3_total_7 : List UInt8 := [167, 0, 4, 29, 172]
abbrev dktX3_total_7 : List UInt8 := dkwX3_total_7 ++ []
def dkwX3_total_6 : List UInt8 := [182, 0, 238, 167, 0, 4, 3, 96, 62, 132, 4, 1, 167, 255, 222, 28, 4, 160, 0, 10, 42, 182, 0, 255]
abbrev dktX3_total_6 : List UInt8 := dkwX3_total_6 ++ dktX3_total_7
def dkwX3_total_5 : List UInt8 := [21, 4, 42, 180, 0, 80, 162, 0, 31, 29, 42, 21, 4, 182, 0, 238, 158, 0, 12, 42, 21, 4]
abbrev dktX3_total_5 : List UInt8 := dkwX3_total_5 ++ dktX3_total_6
def dkwX3_total_4 : List UInt8 := [182, 0, 174, 167, 0, 4, 3, 96, 62, 132, 4, 1, 167, 255, 206, 28, 6, 160, 0, 43, 3, 54, 4]
abbrev dktX3_total_4 : List UInt8 := dkwX3_total_4 ++ dktX3_total_5
def dkwX3_total_3 : List UInt8 := [182, 0, 174, 27, 160, 0, 24, 42, 21, 4, 7, 182, 0, 174, 4, 160, 0, 13, 42, 21, 4, 5]
abbrev dktX3_total_3 : List UInt8 := dkwX3_total_3 ++ dktX3_total_4
def dkwX3_total_2 : List UInt8 := [5, 160, 0, 59, 3, 54, 4, 21, 4, 42, 180, 0, 13, 3, 46, 162, 0, 45, 29, 42, 21, 4, 6]
abbrev dktX3_total_2 : List UInt8 := dkwX3_total_2 ++ dktX3_total_3
def dkwX3_total_1 : List UInt8 := [154, 0, 6, 16, 254, 172, 42, 27, 2, 182, 0, 234, 3, 62, 28, 154, 0, 8, 42, 182, 0, 252, 62, 28]
abbrev dktX3_total_1 : List UInt8 := dkwX3_total_1 ++ dktX3_total_2
def dkwX3_total_0 : List UInt8 := [42, 3, 181, 0, 1, 42, 27, 182, 0, 205, 153, 0, 15, 28, 133, 9, 20, 0, 219, 184, 0, 103]
abbrev dktX3_total_0 : List UInt8 := dkwX3_total_0 ++ dktX3_total_1
theorem dksX3_total_0 : cX3_total.data.toList.drop 0 = dktX3_total_0 := by decide +kernel
theorem dksX3_total_1 : cX3_total.data.toList.drop 22 = dktX3_total_1 := dk_seg dksX3_total_0 22 rfl rfl
theorem dksX3_total_2 : cX3_total.data.toList.drop 46 = dktX3_total_2 := dk_seg dksX3_total_1 24 rfl rfl
theorem dksX3_total_3 : cX3_total.data.toList.drop 69 = dktX3_total_3 := dk_seg dksX3_total_2 23 rfl rfl
theorem dksX3_total_4 : cX3_total.data.toList.drop 91 = dktX3_total_4 := dk_seg dksX3_total_3 22 rfl rfl
theorem dksX3_total_5 : cX3_total.data.toList.drop 114 = dktX3_total_5 := dk_seg dksX3_total_4 23 rfl rfl
theorem dksX3_total_6 : cX3_total.data.toList.drop 136 = dktX3_total_6 := dk_seg dksX3_total_5 22 rfl rfl
theorem dksX3_total_7 : cX3_total.data.toList.drop 160 = dktX3_total_7 := dk_seg dksX3_total_6 24 rfl rfl
theorem dX3_total_0 : decode cX3_total 0 = .ok (.aload_n 0, 1) := dk_42 (dk_at dksX3_total_0 0 rfl rfl)
theorem dX3_total_1 : decode cX3_total 1 = .ok (.iconst 0, 1) := dk_3 (dk_at dksX3_total_0 1 rfl rfl)
theorem dX3_total_2 : decode cX3_total 2 = .ok (.putfield 1, 3) := dk_181 0 1 (dk_at dksX3_total_0 2 rfl rfl)
theorem dX3_total_5 : decode cX3_total 5 = .ok (.aload_n 0, 1) := dk_42 (dk_at dksX3_total_0 5 rfl rfl)
theorem dX3_total_6 : decode cX3_total 6 = .ok (.iload_n 1, 1) := dk_27 (dk_at dksX3_total_0 6 rfl rfl)
theorem dX3_total_7 : decode cX3_total 7 = .ok (.invokevirtual 205, 3) := dk_182 0 205 (dk_at dksX3_total_0 7 rfl rfl)
theorem dX3_total_10 : decode cX3_total 10 = .ok (.ifCond .eq 15, 3) := dk_153 0 15 (dk_at dksX3_total_0 10 rfl rfl)
theorem dX3_total_13 : decode cX3_total 13 = .ok (.iload_n 2, 1) := dk_28 (dk_at dksX3_total_0 13 rfl rfl)
theorem dX3_total_14 : decode cX3_total 14 = .ok (.i2l, 1) := dk_133 (dk_at dksX3_total_0 14 rfl rfl)
theorem dX3_total_15 : decode cX3_total 15 = .ok (.lconst 0, 1) := dk_9 (dk_at dksX3_total_0 15 rfl rfl)
theorem dX3_total_16 : decode cX3_total 16 = .ok (.ldc2_w 219, 3) := dk_20 0 219 (dk_at dksX3_total_0 16 rfl rfl)
theorem dX3_total_19 : decode cX3_total 19 = .ok (.invokestatic 103, 3) := dk_184 0 103 (dk_at dksX3_total_0 19 rfl rfl)
theorem dX3_total_22 : decode cX3_total 22 = .ok (.ifCond .ne 6, 3) := dk_154 0 6 (dk_at dksX3_total_1 0 rfl rfl)
theorem dX3_total_25 : decode cX3_total 25 = .ok (.bipush (-2), 2) := dk_16 254 (dk_at dksX3_total_1 3 rfl rfl)
theorem dX3_total_27 : decode cX3_total 27 = .ok (.ireturn, 1) := dk_172 (dk_at dksX3_total_1 5 rfl rfl)
theorem dX3_total_28 : decode cX3_total 28 = .ok (.aload_n 0, 1) := dk_42 (dk_at dksX3_total_1 6 rfl rfl)
theorem dX3_total_29 : decode cX3_total 29 = .ok (.iload_n 1, 1) := dk_27 (dk_at dksX3_total_1 7 rfl rfl)
theorem dX3_total_30 : decode cX3_total 30 = .ok (.iconst (-1), 1) := dk_2 (dk_at dksX3_total_1 8 rfl rfl)
theorem dX3_total_31 : decode cX3_total 31 = .ok (.invokevirtual 234, 3) := dk_182 0 234 (dk_at dksX3_total_1 9 rfl rfl)
theorem dX3_total_34 : decode cX3_total 34 = .ok (.iconst 0, 1) := dk_3 (dk_at dksX3_total_1 12 rfl rfl)
theorem dX3_total_35 : decode cX3_total 35 = .ok (.istore_n 3, 1) := dk_62 (dk_at dksX3_total_1 13 rfl rfl)
theorem dX3_total_36 : decode cX3_total 36 = .ok (.iload_n 2, 1) := dk_28 (dk_at dksX3_total_1 14 rfl rfl)
theorem dX3_total_37 : decode cX3_total 37 = .ok (.ifCond .ne 8, 3) := dk_154 0 8 (dk_at dksX3_total_1 15 rfl rfl)
theorem dX3_total_40 : decode cX3_total 40 = .ok (.aload_n 0, 1) := dk_42 (dk_at dksX3_total_1 18 rfl rfl)
theorem dX3_total_41 : decode cX3_total 41 = .ok (.invokevirtual 252, 3) := dk_182 0 252 (dk_at dksX3_total_1 19 rfl rfl)
theorem dX3_total_44 : decode cX3_total 44 = .ok (.istore_n 3, 1) := dk_62 (dk_at dksX3_total_1 22 rfl rfl)
theorem dX3_total_45 : decode cX3_total 45 = .ok (.iload_n 2, 1) := dk_28 (dk_at dksX3_total_1 23 rfl rfl)
theorem dX3_total_46 : decode cX3_total 46 = .ok (.iconst 2, 1) := dk_5 (dk_at dksX3_total_2 0 rfl rfl)
theorem dX3_total_47 : decode cX3_total 47 = .ok (.if_icmp .ne 59, 3) := dk_160 0 59 (dk_at dksX3_total_2 1 rfl rfl)
theorem dX3_total_50 : decode cX3_total 50 = .ok (.iconst 0, 1) := dk_3 (dk_at dksX3_total_2 4 rfl rfl)
theorem dX3_total_51 : decode cX3_total 51 = .ok (.istore 4, 2) := dk_54 4 (dk_at dksX3_total_2 5 rfl rfl)
theorem dX3_total_53 : decode cX3_total 53 = .ok (.iload 4, 2) := dk_21 4 (dk_at dksX3_total_2 7 rfl rfl)
theorem dX3_total_55 : decode cX3_total 55 = .ok (.aload_n 0, 1) := dk_42 (dk_at dksX3_total_2 9 rfl rfl)
theorem dX3_total_56 : decode cX3_total 56 = .ok (.getfield 13, 3) := dk_180 0 13 (dk_at dksX3_total_2 10 rfl rfl)
theorem dX3_total_59 : decode cX3_total 59 = .ok (.iconst 0, 1) := dk_3 (dk_at dksX3_total_2 13 rfl rfl)
theorem dX3_total_60 : decode cX3_total 60 = .ok (.iaload, 1) := dk_46 (dk_at dksX3_total_2 14 rfl rfl)
theorem dX3_total_61 : decode cX3_total 61 = .ok (.if_icmp .ge 45, 3) := dk_162 0 45 (dk_at dksX3_total_2 15 rfl rfl)
theorem dX3_total_64 : decode cX3_total 64 = .ok (.iload_n 3, 1) := dk_29 (dk_at dksX3_total_2 18 rfl rfl)
theorem dX3_total_65 : decode cX3_total 65 = .ok (.aload_n 0, 1) := dk_42 (dk_at dksX3_total_2 19 rfl rfl)
theorem dX3_total_66 : decode cX3_total 66 = .ok (.iload 4, 2) := dk_21 4 (dk_at dksX3_total_2 20 rfl rfl)
theorem dX3_total_68 : decode cX3_total 68 = .ok (.iconst 3, 1) := dk_6 (dk_at dksX3_total_2 22 rfl rfl)
theorem dX3_total_69 : decode cX3_total 69 = .ok (.invokevirtual 174, 3) := dk_182 0 174 (dk_at dksX3_total_3 0 rfl rfl)
theorem dX3_total_72 : decode cX3_total 72 = .ok (.iload_n 1, 1) := dk_27 (dk_at dksX3_total_3 3 rfl rfl)
theorem dX3_total_73 : decode cX3_total 73 = .ok (.if_icmp .ne 24, 3) := dk_160 0 24 (dk_at dksX3_total_3 4 rfl rfl)
theorem dX3_total_76 : decode cX3_total 76 = .ok (.aload_n 0, 1) := dk_42 (dk_at dksX3_total_3 7 rfl rfl)
theorem dX3_total_77 : decode cX3_total 77 = .ok (.iload 4, 2) := dk_21 4 (dk_at dksX3_total_3 8 rfl rfl)
theorem dX3_total_79 : decode cX3_total 79 = .ok (.iconst 4, 1) := dk_7 (dk_at dksX3_total_3 10 rfl rfl)
theorem dX3_total_80 : decode cX3_total 80 = .ok (.invokevirtual 174, 3) := dk_182 0 174 (dk_at dksX3_total_3 11 rfl rfl)
theorem dX3_total_83 : decode cX3_total 83 = .ok (.iconst 1, 1) := dk_4 (dk_at dksX3_total_3 14 rfl rfl)
theorem dX3_total_84 : decode cX3_total 84 = .ok (.if_icmp .ne 13, 3) := dk_160 0 13 (dk_at dksX3_total_3 15 rfl rfl)
theorem dX3_total_87 : decode cX3_total 87 = .ok (.aload_n 0, 1) := dk_42 (dk_at dksX3_total_3 18 rfl rfl)
theorem dX3_total_88 : decode cX3_total 88 = .ok (.iload 4, 2) := dk_21 4 (dk_at dksX3_total_3 19 rfl rfl)
theorem dX3_total_90 : decode cX3_total 90 = .ok (.iconst 2, 1) := dk_5 (dk_at dksX3_total_3 21 rfl rfl)
theorem dX3_total_91 : decode cX3_total 91 = .ok (.invokevirtual 174, 3) := dk_182 0 174 (dk_at dksX3_total_4 0 rfl rfl)
theorem dX3_total_94 : decode cX3_total 94 = .ok (.goto 4, 3) := dk_167 0 4 (dk_at dksX3_total_4 3 rfl rfl)
theorem dX3_total_97 : decode cX3_total 97 = .ok (.iconst 0, 1) := dk_3 (dk_at dksX3_total_4 6 rfl rfl)
theorem dX3_total_98 : decode cX3_total 98 = .ok (.iadd, 1) := dk_96 (dk_at dksX3_total_4 7 rfl rfl)
theorem dX3_total_99 : decode cX3_total 99 = .ok (.istore_n 3, 1) := dk_62 (dk_at dksX3_total_4 8 rfl rfl)
theorem dX3_total_100 : decode cX3_total 100 = .ok (.iinc 4 1, 3) := dk_132 4 1 (dk_at dksX3_total_4 9 rfl rfl)
theorem dX3_total_103 : decode cX3_total 103 = .ok (.goto (-50), 3) := dk_167 255 206 (dk_at dksX3_total_4 12 rfl rfl)
theorem dX3_total_106 : decode cX3_total 106 = .ok (.iload_n 2, 1) := dk_28 (dk_at dksX3_total_4 15 rfl rfl)
theorem dX3_total_107 : decode cX3_total 107 = .ok (.iconst 3, 1) := dk_6 (dk_at dksX3_total_4 16 rfl rfl)
theorem dX3_total_108 : decode cX3_total 108 = .ok (.if_icmp .ne 43, 3) := dk_160 0 43 (dk_at dksX3_total_4 17 rfl rfl)
theorem dX3_total_111 : decode cX3_total 111 = .ok (.iconst 0, 1) := dk_3 (dk_at dksX3_total_4 20 rfl rfl)
theorem dX3_total_112 : decode cX3_total 112 = .ok (.istore 4, 2) := dk_54 4 (dk_at dksX3_total_4 21 rfl rfl)
theorem dX3_total_114 : decode cX3_total 114 = .ok (.iload 4, 2) := dk_21 4 (dk_at dksX3_total_5 0 rfl rfl)
theorem dX3_total_116 : decode cX3_total 116 = .ok (.aload_n 0, 1) := dk_42 (dk_at dksX3_total_5 2 rfl rfl)
theorem dX3_total_117 : decode cX3_total 117 = .ok (.getfield 80, 3) := dk_180 0 80 (dk_at dksX3_total_5 3 rfl rfl)
theorem dX3_total_120 : decode cX3_total 120 = .ok (.if_icmp .ge 31, 3) := dk_162 0 31 (dk_at dksX3_total_5 6 rfl rfl)
theorem dX3_total_123 : decode cX3_total 123 = .ok (.iload_n 3, 1) := dk_29 (dk_at dksX3_total_5 9 rfl rfl)
theorem dX3_total_124 : decode cX3_total 124 = .ok (.aload_n 0, 1) := dk_42 (dk_at dksX3_total_5 10 rfl rfl)
theorem dX3_total_125 : decode cX3_total 125 = .ok (.iload 4, 2) := dk_21 4 (dk_at dksX3_total_5 11 rfl rfl)
theorem dX3_total_127 : decode cX3_total 127 = .ok (.invokevirtual 238, 3) := dk_182 0 238 (dk_at dksX3_total_5 13 rfl rfl)
theorem dX3_total_130 : decode cX3_total 130 = .ok (.ifCond .le 12, 3) := dk_158 0 12 (dk_at dksX3_total_5 16 rfl rfl)
theorem dX3_total_133 : decode cX3_total 133 = .ok (.aload_n 0, 1) := dk_42 (dk_at dksX3_total_5 19 rfl rfl)
theorem dX3_total_134 : decode cX3_total 134 = .ok (.iload 4, 2) := dk_21 4 (dk_at dksX3_total_5 20 rfl rfl)
theorem dX3_total_136 : decode cX3_total 136 = .ok (.invokevirtual 238, 3) := dk_182 0 238 (dk_at dksX3_total_6 0 rfl rfl)
theorem dX3_total_139 : decode cX3_total 139 = .ok (.goto 4, 3) := dk_167 0 4 (dk_at dksX3_total_6 3 rfl rfl)
theorem dX3_total_142 : decode cX3_total 142 = .ok (.iconst 0, 1) := dk_3 (dk_at dksX3_total_6 6 rfl rfl)
theorem dX3_total_143 : decode cX3_total 143 = .ok (.iadd, 1) := dk_96 (dk_at dksX3_total_6 7 rfl rfl)
theorem dX3_total_144 : decode cX3_total 144 = .ok (.istore_n 3, 1) := dk_62 (dk_at dksX3_total_6 8 rfl rfl)
theorem dX3_total_145 : decode cX3_total 145 = .ok (.iinc 4 1, 3) := dk_132 4 1 (dk_at dksX3_total_6 9 rfl rfl)
theorem dX3_total_148 : decode cX3_total 148 = .ok (.goto (-34), 3) := dk_167 255 222 (dk_at dksX3_total_6 12 rfl rfl)
theorem dX3_total_151 : decode cX3_total 151 = .ok (.iload_n 2, 1) := dk_28 (dk_at dksX3_total_6 15 rfl rfl)
theorem dX3_total_152 : decode cX3_total 152 = .ok (.iconst 1, 1) := dk_4 (dk_at dksX3_total_6 16 rfl rfl)
theorem dX3_total_153 : decode cX3_total 153 = .ok (.if_icmp .ne 10, 3) := dk_160 0 10 (dk_at dksX3_total_6 17 rfl rfl)
theorem dX3_total_156 : decode cX3_total 156 = .ok (.aload_n 0, 1) := dk_42 (dk_at dksX3_total_6 20 rfl rfl)
theorem dX3_total_157 : decode cX3_total 157 = .ok (.invokevirtual 255, 3) := dk_182 0 255 (dk_at dksX3_total_6 21 rfl rfl)
theorem dX3_total_160 : decode cX3_total 160 = .ok (.goto 4, 3) := dk_167 0 4 (dk_at dksX3_total_7 0 rfl rfl)
theorem dX3_total_163 : decode cX3_total 163 = .ok (.iload_n 3, 1) := dk_29 (dk_at dksX3_total_7 3 rfl rfl)
theorem dX3_total_164 : decode cX3_total 164 = .ok (.ireturn, 1) := dk_172 (dk_at dksX3_total_7 4 rfl rfl)
abbrev cX3_sumOfFlows : ByteArray := prog_15_method_61_code
def yX3_sumOfFlows : MethodName := ⟨RX3, "sumOfFlows", "()I"⟩
def dkwX3_sumOfFlows_1 : List UInt8 := [167, 255, 238, 27, 172]
abbrev dktX3_sumOfFlows_1 : List UInt8 := dkwX3_sumOfFlows_1 ++ []
def dkwX3_sumOfFlows_0 : List UInt8 := [3, 60, 3, 61, 28, 16, 64, 162, 0, 18, 27, 42, 180, 0, 37, 28, 46, 96, 60, 132, 2, 1]
abbrev dktX3_sumOfFlows_0 : List UInt8 := dkwX3_sumOfFlows_0 ++ dktX3_sumOfFlows_1
theorem dksX3_sumOfFlows_0 : cX3_sumOfFlows.data.toList.drop 0 = dktX3_sumOfFlows_0 := by decide +kernel
theorem dksX3_sumOfFlows_1 : cX3_sumOfFlows.data.toList.drop 22 = dktX3_sumOfFlows_1 := dk_seg dksX3_sumOfFlows_0 22 rfl rfl
theorem dX3_sumOfFlows_0 : decode cX3_sumOfFlows 0 = .ok (.iconst 0, 1) := dk_3 (dk_at dksX3_sumOfFlows_0 0 rfl rfl)
theorem dX3_sumOfFlows_1 : decode cX3_sumOfFlows 1 = .ok (.istore_n 1, 1) := dk_60 (dk_at dksX3_sumOfFlows_0 1 rfl rfl)
theorem dX3_sumOfFlows_2 : decode cX3_sumOfFlows 2 = .ok (.iconst 0, 1) := dk_3 (dk_at dksX3_sumOfFlows_0 2 rfl rfl)
theorem dX3_sumOfFlows_3 : decode cX3_sumOfFlows 3 = .ok (.istore_n 2, 1) := dk_61 (dk_at dksX3_sumOfFlows_0 3 rfl rfl)
theorem dX3_sumOfFlows_4 : decode cX3_sumOfFlows 4 = .ok (.iload_n 2, 1) := dk_28 (dk_at dksX3_sumOfFlows_0 4 rfl rfl)
theorem dX3_sumOfFlows_5 : decode cX3_sumOfFlows 5 = .ok (.bipush 64, 2) := dk_16 64 (dk_at dksX3_sumOfFlows_0 5 rfl rfl)
theorem dX3_sumOfFlows_7 : decode cX3_sumOfFlows 7 = .ok (.if_icmp .ge 18, 3) := dk_162 0 18 (dk_at dksX3_sumOfFlows_0 7 rfl rfl)
theorem dX3_sumOfFlows_10 : decode cX3_sumOfFlows 10 = .ok (.iload_n 1, 1) := dk_27 (dk_at dksX3_sumOfFlows_0 10 rfl rfl)
theorem dX3_sumOfFlows_11 : decode cX3_sumOfFlows 11 = .ok (.aload_n 0, 1) := dk_42 (dk_at dksX3_sumOfFlows_0 11 rfl rfl)
theorem dX3_sumOfFlows_12 : decode cX3_sumOfFlows 12 = .ok (.getfield 37, 3) := dk_180 0 37 (dk_at dksX3_sumOfFlows_0 12 rfl rfl)
theorem dX3_sumOfFlows_15 : decode cX3_sumOfFlows 15 = .ok (.iload_n 2, 1) := dk_28 (dk_at dksX3_sumOfFlows_0 15 rfl rfl)
theorem dX3_sumOfFlows_16 : decode cX3_sumOfFlows 16 = .ok (.iaload, 1) := dk_46 (dk_at dksX3_sumOfFlows_0 16 rfl rfl)
theorem dX3_sumOfFlows_17 : decode cX3_sumOfFlows 17 = .ok (.iadd, 1) := dk_96 (dk_at dksX3_sumOfFlows_0 17 rfl rfl)
theorem dX3_sumOfFlows_18 : decode cX3_sumOfFlows 18 = .ok (.istore_n 1, 1) := dk_60 (dk_at dksX3_sumOfFlows_0 18 rfl rfl)
theorem dX3_sumOfFlows_19 : decode cX3_sumOfFlows 19 = .ok (.iinc 2 1, 3) := dk_132 2 1 (dk_at dksX3_sumOfFlows_0 19 rfl rfl)
theorem dX3_sumOfFlows_22 : decode cX3_sumOfFlows 22 = .ok (.goto (-18), 3) := dk_167 255 238 (dk_at dksX3_sumOfFlows_1 0 rfl rfl)
theorem dX3_sumOfFlows_25 : decode cX3_sumOfFlows 25 = .ok (.iload_n 1, 1) := dk_27 (dk_at dksX3_sumOfFlows_1 3 rfl rfl)
theorem dX3_sumOfFlows_26 : decode cX3_sumOfFlows 26 = .ok (.ireturn, 1) := dk_172 (dk_at dksX3_sumOfFlows_1 4 rfl rfl)
abbrev cX3_positive : ByteArray := prog_15_method_44_code
def yX3_positive : MethodName := ⟨RX3, "positive", "()I"⟩
def dkwX3_positive_1 : List UInt8 := [3, 96, 60, 132, 2, 1, 167, 255, 230, 27, 172]
abbrev dktX3_positive_1 : List UInt8 := dkwX3_positive_1 ++ []
def dkwX3_positive_0 : List UInt8 := [3, 60, 3, 61, 28, 16, 64, 162, 0, 26, 27, 42, 180, 0, 37, 28, 46, 158, 0, 7, 4, 167, 0, 4]
abbrev dktX3_positive_0 : List UInt8 := dkwX3_positive_0 ++ dktX3_positive_1
theorem dksX3_positive_0 : cX3_positive.data.toList.drop 0 = dktX3_positive_0 := by decide +kernel
theorem dksX3_positive_1 : cX3_positive.data.toList.drop 24 = dktX3_positive_1 := dk_seg dksX3_positive_0 24 rfl rfl
theorem dX3_positive_0 : decode cX3_positive 0 = .ok (.iconst 0, 1) := dk_3 (dk_at dksX3_positive_0 0 rfl rfl)
theorem dX3_positive_1 : decode cX3_positive 1 = .ok (.istore_n 1, 1) := dk_60 (dk_at dksX3_positive_0 1 rfl rfl)
theorem dX3_positive_2 : decode cX3_positive 2 = .ok (.iconst 0, 1) := dk_3 (dk_at dksX3_positive_0 2 rfl rfl)
theorem dX3_positive_3 : decode cX3_positive 3 = .ok (.istore_n 2, 1) := dk_61 (dk_at dksX3_positive_0 3 rfl rfl)
theorem dX3_positive_4 : decode cX3_positive 4 = .ok (.iload_n 2, 1) := dk_28 (dk_at dksX3_positive_0 4 rfl rfl)
theorem dX3_positive_5 : decode cX3_positive 5 = .ok (.bipush 64, 2) := dk_16 64 (dk_at dksX3_positive_0 5 rfl rfl)
theorem dX3_positive_7 : decode cX3_positive 7 = .ok (.if_icmp .ge 26, 3) := dk_162 0 26 (dk_at dksX3_positive_0 7 rfl rfl)
theorem dX3_positive_10 : decode cX3_positive 10 = .ok (.iload_n 1, 1) := dk_27 (dk_at dksX3_positive_0 10 rfl rfl)
theorem dX3_positive_11 : decode cX3_positive 11 = .ok (.aload_n 0, 1) := dk_42 (dk_at dksX3_positive_0 11 rfl rfl)
theorem dX3_positive_12 : decode cX3_positive 12 = .ok (.getfield 37, 3) := dk_180 0 37 (dk_at dksX3_positive_0 12 rfl rfl)
theorem dX3_positive_15 : decode cX3_positive 15 = .ok (.iload_n 2, 1) := dk_28 (dk_at dksX3_positive_0 15 rfl rfl)
theorem dX3_positive_16 : decode cX3_positive 16 = .ok (.iaload, 1) := dk_46 (dk_at dksX3_positive_0 16 rfl rfl)
theorem dX3_positive_17 : decode cX3_positive 17 = .ok (.ifCond .le 7, 3) := dk_158 0 7 (dk_at dksX3_positive_0 17 rfl rfl)
theorem dX3_positive_20 : decode cX3_positive 20 = .ok (.iconst 1, 1) := dk_4 (dk_at dksX3_positive_0 20 rfl rfl)
theorem dX3_positive_21 : decode cX3_positive 21 = .ok (.goto 4, 3) := dk_167 0 4 (dk_at dksX3_positive_0 21 rfl rfl)
theorem dX3_positive_24 : decode cX3_positive 24 = .ok (.iconst 0, 1) := dk_3 (dk_at dksX3_positive_1 0 rfl rfl)
theorem dX3_positive_25 : decode cX3_positive 25 = .ok (.iadd, 1) := dk_96 (dk_at dksX3_positive_1 1 rfl rfl)
theorem dX3_positive_26 : decode cX3_positive 26 = .ok (.istore_n 1, 1) := dk_60 (dk_at dksX3_positive_1 2 rfl rfl)
theorem dX3_positive_27 : decode cX3_positive 27 = .ok (.iinc 2 1, 3) := dk_132 2 1 (dk_at dksX3_positive_1 3 rfl rfl)
theorem dX3_positive_30 : decode cX3_positive 30 = .ok (.goto (-26), 3) := dk_167 255 230 (dk_at dksX3_positive_1 6 rfl rfl)
theorem dX3_positive_33 : decode cX3_positive 33 = .ok (.iload_n 1, 1) := dk_27 (dk_at dksX3_positive_1 9 rfl rfl)
theorem dX3_positive_34 : decode cX3_positive 34 = .ok (.ireturn, 1) := dk_172 (dk_at dksX3_positive_1 10 rfl rfl)
abbrev cX3_bound : ByteArray := prog_15_method_52_code
def yX3_bound : MethodName := ⟨RX3, "bound", "(III)I"⟩
def dkwX3_bound_1 : List UInt8 := [172, 42, 29, 2, 182, 0, 234, 42, 27, 28, 182, 1, 2, 172]
abbrev dktX3_bound_1 : List UInt8 := dkwX3_bound_1 ++ []
def dkwX3_bound_0 : List UInt8 := [42, 3, 181, 0, 1, 42, 27, 28, 182, 0, 201, 153, 0, 11, 42, 29, 182, 0, 205, 154, 0, 6, 16, 254]
abbrev dktX3_bound_0 : List UInt8 := dkwX3_bound_0 ++ dktX3_bound_1
theorem dksX3_bound_0 : cX3_bound.data.toList.drop 0 = dktX3_bound_0 := by decide +kernel
theorem dksX3_bound_1 : cX3_bound.data.toList.drop 24 = dktX3_bound_1 := dk_seg dksX3_bound_0 24 rfl rfl
theorem dX3_bound_0 : decode cX3_bound 0 = .ok (.aload_n 0, 1) := dk_42 (dk_at dksX3_bound_0 0 rfl rfl)
theorem dX3_bound_1 : decode cX3_bound 1 = .ok (.iconst 0, 1) := dk_3 (dk_at dksX3_bound_0 1 rfl rfl)
theorem dX3_bound_2 : decode cX3_bound 2 = .ok (.putfield 1, 3) := dk_181 0 1 (dk_at dksX3_bound_0 2 rfl rfl)
theorem dX3_bound_5 : decode cX3_bound 5 = .ok (.aload_n 0, 1) := dk_42 (dk_at dksX3_bound_0 5 rfl rfl)
theorem dX3_bound_6 : decode cX3_bound 6 = .ok (.iload_n 1, 1) := dk_27 (dk_at dksX3_bound_0 6 rfl rfl)
theorem dX3_bound_7 : decode cX3_bound 7 = .ok (.iload_n 2, 1) := dk_28 (dk_at dksX3_bound_0 7 rfl rfl)
theorem dX3_bound_8 : decode cX3_bound 8 = .ok (.invokevirtual 201, 3) := dk_182 0 201 (dk_at dksX3_bound_0 8 rfl rfl)
theorem dX3_bound_11 : decode cX3_bound 11 = .ok (.ifCond .eq 11, 3) := dk_153 0 11 (dk_at dksX3_bound_0 11 rfl rfl)
theorem dX3_bound_14 : decode cX3_bound 14 = .ok (.aload_n 0, 1) := dk_42 (dk_at dksX3_bound_0 14 rfl rfl)
theorem dX3_bound_15 : decode cX3_bound 15 = .ok (.iload_n 3, 1) := dk_29 (dk_at dksX3_bound_0 15 rfl rfl)
theorem dX3_bound_16 : decode cX3_bound 16 = .ok (.invokevirtual 205, 3) := dk_182 0 205 (dk_at dksX3_bound_0 16 rfl rfl)
theorem dX3_bound_19 : decode cX3_bound 19 = .ok (.ifCond .ne 6, 3) := dk_154 0 6 (dk_at dksX3_bound_0 19 rfl rfl)
theorem dX3_bound_22 : decode cX3_bound 22 = .ok (.bipush (-2), 2) := dk_16 254 (dk_at dksX3_bound_0 22 rfl rfl)
theorem dX3_bound_24 : decode cX3_bound 24 = .ok (.ireturn, 1) := dk_172 (dk_at dksX3_bound_1 0 rfl rfl)
theorem dX3_bound_25 : decode cX3_bound 25 = .ok (.aload_n 0, 1) := dk_42 (dk_at dksX3_bound_1 1 rfl rfl)
theorem dX3_bound_26 : decode cX3_bound 26 = .ok (.iload_n 3, 1) := dk_29 (dk_at dksX3_bound_1 2 rfl rfl)
theorem dX3_bound_27 : decode cX3_bound 27 = .ok (.iconst (-1), 1) := dk_2 (dk_at dksX3_bound_1 3 rfl rfl)
theorem dX3_bound_28 : decode cX3_bound 28 = .ok (.invokevirtual 234, 3) := dk_182 0 234 (dk_at dksX3_bound_1 4 rfl rfl)
theorem dX3_bound_31 : decode cX3_bound 31 = .ok (.aload_n 0, 1) := dk_42 (dk_at dksX3_bound_1 7 rfl rfl)
theorem dX3_bound_32 : decode cX3_bound 32 = .ok (.iload_n 1, 1) := dk_27 (dk_at dksX3_bound_1 8 rfl rfl)
theorem dX3_bound_33 : decode cX3_bound 33 = .ok (.iload_n 2, 1) := dk_28 (dk_at dksX3_bound_1 9 rfl rfl)
theorem dX3_bound_34 : decode cX3_bound 34 = .ok (.invokevirtual 258, 3) := dk_182 1 2 (dk_at dksX3_bound_1 10 rfl rfl)
theorem dX3_bound_37 : decode cX3_bound 37 = .ok (.ireturn, 1) := dk_172 (dk_at dksX3_bound_1 13 rfl rfl)
abbrev cX3_boundOf : ByteArray := prog_15_method_51_code
def yX3_boundOf : MethodName := ⟨RX3, "boundOf", "(II)I"⟩
def dkwX3_boundOf_2 : List UInt8 := [167, 0, 15, 29, 42, 180, 0, 37, 28, 27, 184, 0, 229, 46, 96, 172]
abbrev dktX3_boundOf_2 : List UInt8 := dkwX3_boundOf_2 ++ []
def dkwX3_boundOf_1 : List UInt8 := [42, 180, 0, 13, 4, 46, 5, 160, 0, 20, 42, 180, 0, 13, 17, 0, 202, 27, 28, 184, 0, 229, 96, 46]
abbrev dktX3_boundOf_1 : List UInt8 := dkwX3_boundOf_1 ++ dktX3_boundOf_2
def dkwX3_boundOf_0 : List UInt8 := [42, 180, 0, 37, 27, 28, 184, 0, 229, 46, 62, 42, 180, 0, 13, 4, 46, 154, 0, 7, 29, 167, 0, 42]
abbrev dktX3_boundOf_0 : List UInt8 := dkwX3_boundOf_0 ++ dktX3_boundOf_1
theorem dksX3_boundOf_0 : cX3_boundOf.data.toList.drop 0 = dktX3_boundOf_0 := by decide +kernel
theorem dksX3_boundOf_1 : cX3_boundOf.data.toList.drop 24 = dktX3_boundOf_1 := dk_seg dksX3_boundOf_0 24 rfl rfl
theorem dksX3_boundOf_2 : cX3_boundOf.data.toList.drop 48 = dktX3_boundOf_2 := dk_seg dksX3_boundOf_1 24 rfl rfl
theorem dX3_boundOf_0 : decode cX3_boundOf 0 = .ok (.aload_n 0, 1) := dk_42 (dk_at dksX3_boundOf_0 0 rfl rfl)
theorem dX3_boundOf_1 : decode cX3_boundOf 1 = .ok (.getfield 37, 3) := dk_180 0 37 (dk_at dksX3_boundOf_0 1 rfl rfl)
theorem dX3_boundOf_4 : decode cX3_boundOf 4 = .ok (.iload_n 1, 1) := dk_27 (dk_at dksX3_boundOf_0 4 rfl rfl)
theorem dX3_boundOf_5 : decode cX3_boundOf 5 = .ok (.iload_n 2, 1) := dk_28 (dk_at dksX3_boundOf_0 5 rfl rfl)
theorem dX3_boundOf_6 : decode cX3_boundOf 6 = .ok (.invokestatic 229, 3) := dk_184 0 229 (dk_at dksX3_boundOf_0 6 rfl rfl)
theorem dX3_boundOf_9 : decode cX3_boundOf 9 = .ok (.iaload, 1) := dk_46 (dk_at dksX3_boundOf_0 9 rfl rfl)
theorem dX3_boundOf_10 : decode cX3_boundOf 10 = .ok (.istore_n 3, 1) := dk_62 (dk_at dksX3_boundOf_0 10 rfl rfl)
theorem dX3_boundOf_11 : decode cX3_boundOf 11 = .ok (.aload_n 0, 1) := dk_42 (dk_at dksX3_boundOf_0 11 rfl rfl)
theorem dX3_boundOf_12 : decode cX3_boundOf 12 = .ok (.getfield 13, 3) := dk_180 0 13 (dk_at dksX3_boundOf_0 12 rfl rfl)
theorem dX3_boundOf_15 : decode cX3_boundOf 15 = .ok (.iconst 1, 1) := dk_4 (dk_at dksX3_boundOf_0 15 rfl rfl)
theorem dX3_boundOf_16 : decode cX3_boundOf 16 = .ok (.iaload, 1) := dk_46 (dk_at dksX3_boundOf_0 16 rfl rfl)
theorem dX3_boundOf_17 : decode cX3_boundOf 17 = .ok (.ifCond .ne 7, 3) := dk_154 0 7 (dk_at dksX3_boundOf_0 17 rfl rfl)
theorem dX3_boundOf_20 : decode cX3_boundOf 20 = .ok (.iload_n 3, 1) := dk_29 (dk_at dksX3_boundOf_0 20 rfl rfl)
theorem dX3_boundOf_21 : decode cX3_boundOf 21 = .ok (.goto 42, 3) := dk_167 0 42 (dk_at dksX3_boundOf_0 21 rfl rfl)
theorem dX3_boundOf_24 : decode cX3_boundOf 24 = .ok (.aload_n 0, 1) := dk_42 (dk_at dksX3_boundOf_1 0 rfl rfl)
theorem dX3_boundOf_25 : decode cX3_boundOf 25 = .ok (.getfield 13, 3) := dk_180 0 13 (dk_at dksX3_boundOf_1 1 rfl rfl)
theorem dX3_boundOf_28 : decode cX3_boundOf 28 = .ok (.iconst 1, 1) := dk_4 (dk_at dksX3_boundOf_1 4 rfl rfl)
theorem dX3_boundOf_29 : decode cX3_boundOf 29 = .ok (.iaload, 1) := dk_46 (dk_at dksX3_boundOf_1 5 rfl rfl)
theorem dX3_boundOf_30 : decode cX3_boundOf 30 = .ok (.iconst 2, 1) := dk_5 (dk_at dksX3_boundOf_1 6 rfl rfl)
theorem dX3_boundOf_31 : decode cX3_boundOf 31 = .ok (.if_icmp .ne 20, 3) := dk_160 0 20 (dk_at dksX3_boundOf_1 7 rfl rfl)
theorem dX3_boundOf_34 : decode cX3_boundOf 34 = .ok (.aload_n 0, 1) := dk_42 (dk_at dksX3_boundOf_1 10 rfl rfl)
theorem dX3_boundOf_35 : decode cX3_boundOf 35 = .ok (.getfield 13, 3) := dk_180 0 13 (dk_at dksX3_boundOf_1 11 rfl rfl)
theorem dX3_boundOf_38 : decode cX3_boundOf 38 = .ok (.sipush 202, 3) := dk_17 0 202 (dk_at dksX3_boundOf_1 14 rfl rfl)
theorem dX3_boundOf_41 : decode cX3_boundOf 41 = .ok (.iload_n 1, 1) := dk_27 (dk_at dksX3_boundOf_1 17 rfl rfl)
theorem dX3_boundOf_42 : decode cX3_boundOf 42 = .ok (.iload_n 2, 1) := dk_28 (dk_at dksX3_boundOf_1 18 rfl rfl)
theorem dX3_boundOf_43 : decode cX3_boundOf 43 = .ok (.invokestatic 229, 3) := dk_184 0 229 (dk_at dksX3_boundOf_1 19 rfl rfl)
theorem dX3_boundOf_46 : decode cX3_boundOf 46 = .ok (.iadd, 1) := dk_96 (dk_at dksX3_boundOf_1 22 rfl rfl)
theorem dX3_boundOf_47 : decode cX3_boundOf 47 = .ok (.iaload, 1) := dk_46 (dk_at dksX3_boundOf_1 23 rfl rfl)
theorem dX3_boundOf_48 : decode cX3_boundOf 48 = .ok (.goto 15, 3) := dk_167 0 15 (dk_at dksX3_boundOf_2 0 rfl rfl)
theorem dX3_boundOf_51 : decode cX3_boundOf 51 = .ok (.iload_n 3, 1) := dk_29 (dk_at dksX3_boundOf_2 3 rfl rfl)
theorem dX3_boundOf_52 : decode cX3_boundOf 52 = .ok (.aload_n 0, 1) := dk_42 (dk_at dksX3_boundOf_2 4 rfl rfl)
theorem dX3_boundOf_53 : decode cX3_boundOf 53 = .ok (.getfield 37, 3) := dk_180 0 37 (dk_at dksX3_boundOf_2 5 rfl rfl)
theorem dX3_boundOf_56 : decode cX3_boundOf 56 = .ok (.iload_n 2, 1) := dk_28 (dk_at dksX3_boundOf_2 8 rfl rfl)
theorem dX3_boundOf_57 : decode cX3_boundOf 57 = .ok (.iload_n 1, 1) := dk_27 (dk_at dksX3_boundOf_2 9 rfl rfl)
theorem dX3_boundOf_58 : decode cX3_boundOf 58 = .ok (.invokestatic 229, 3) := dk_184 0 229 (dk_at dksX3_boundOf_2 10 rfl rfl)
theorem dX3_boundOf_61 : decode cX3_boundOf 61 = .ok (.iaload, 1) := dk_46 (dk_at dksX3_boundOf_2 13 rfl rfl)
theorem dX3_boundOf_62 : decode cX3_boundOf 62 = .ok (.iadd, 1) := dk_96 (dk_at dksX3_boundOf_2 14 rfl rfl)
theorem dX3_boundOf_63 : decode cX3_boundOf 63 = .ok (.ireturn, 1) := dk_172 (dk_at dksX3_boundOf_2 15 rfl rfl)
abbrev cX3_ring : ByteArray := prog_15_method_57_code
def yX3_ring : MethodName := ⟨RX3, "ring", "(II)I"⟩
def dkwX3_ring_2 : List UInt8 := [29, 167, 0, 18, 28, 29, 162, 0, 12, 42, 180, 0, 40, 28, 46, 167, 0, 4, 2, 172]
abbrev dktX3_ring_2 : List UInt8 := dkwX3_ring_2 ++ []
def dkwX3_ring_1 : List UInt8 := [42, 27, 2, 182, 0, 234, 42, 182, 1, 15, 62, 29, 154, 0, 7, 2, 167, 0, 27, 28, 2, 160, 0, 7]
abbrev dktX3_ring_1 : List UInt8 := dkwX3_ring_1 ++ dktX3_ring_2
def dkwX3_ring_0 : List UInt8 := [42, 3, 181, 0, 1, 42, 27, 182, 0, 205, 154, 0, 6, 16, 254, 172, 28, 2, 162, 0, 6, 16, 253, 172]
abbrev dktX3_ring_0 : List UInt8 := dkwX3_ring_0 ++ dktX3_ring_1
theorem dksX3_ring_0 : cX3_ring.data.toList.drop 0 = dktX3_ring_0 := by decide +kernel
theorem dksX3_ring_1 : cX3_ring.data.toList.drop 24 = dktX3_ring_1 := dk_seg dksX3_ring_0 24 rfl rfl
theorem dksX3_ring_2 : cX3_ring.data.toList.drop 48 = dktX3_ring_2 := dk_seg dksX3_ring_1 24 rfl rfl
theorem dX3_ring_0 : decode cX3_ring 0 = .ok (.aload_n 0, 1) := dk_42 (dk_at dksX3_ring_0 0 rfl rfl)
theorem dX3_ring_1 : decode cX3_ring 1 = .ok (.iconst 0, 1) := dk_3 (dk_at dksX3_ring_0 1 rfl rfl)
theorem dX3_ring_2 : decode cX3_ring 2 = .ok (.putfield 1, 3) := dk_181 0 1 (dk_at dksX3_ring_0 2 rfl rfl)
theorem dX3_ring_5 : decode cX3_ring 5 = .ok (.aload_n 0, 1) := dk_42 (dk_at dksX3_ring_0 5 rfl rfl)
theorem dX3_ring_6 : decode cX3_ring 6 = .ok (.iload_n 1, 1) := dk_27 (dk_at dksX3_ring_0 6 rfl rfl)
theorem dX3_ring_7 : decode cX3_ring 7 = .ok (.invokevirtual 205, 3) := dk_182 0 205 (dk_at dksX3_ring_0 7 rfl rfl)
theorem dX3_ring_10 : decode cX3_ring 10 = .ok (.ifCond .ne 6, 3) := dk_154 0 6 (dk_at dksX3_ring_0 10 rfl rfl)
theorem dX3_ring_13 : decode cX3_ring 13 = .ok (.bipush (-2), 2) := dk_16 254 (dk_at dksX3_ring_0 13 rfl rfl)
theorem dX3_ring_15 : decode cX3_ring 15 = .ok (.ireturn, 1) := dk_172 (dk_at dksX3_ring_0 15 rfl rfl)
theorem dX3_ring_16 : decode cX3_ring 16 = .ok (.iload_n 2, 1) := dk_28 (dk_at dksX3_ring_0 16 rfl rfl)
theorem dX3_ring_17 : decode cX3_ring 17 = .ok (.iconst (-1), 1) := dk_2 (dk_at dksX3_ring_0 17 rfl rfl)
theorem dX3_ring_18 : decode cX3_ring 18 = .ok (.if_icmp .ge 6, 3) := dk_162 0 6 (dk_at dksX3_ring_0 18 rfl rfl)
theorem dX3_ring_21 : decode cX3_ring 21 = .ok (.bipush (-3), 2) := dk_16 253 (dk_at dksX3_ring_0 21 rfl rfl)
theorem dX3_ring_23 : decode cX3_ring 23 = .ok (.ireturn, 1) := dk_172 (dk_at dksX3_ring_0 23 rfl rfl)
theorem dX3_ring_24 : decode cX3_ring 24 = .ok (.aload_n 0, 1) := dk_42 (dk_at dksX3_ring_1 0 rfl rfl)
theorem dX3_ring_25 : decode cX3_ring 25 = .ok (.iload_n 1, 1) := dk_27 (dk_at dksX3_ring_1 1 rfl rfl)
theorem dX3_ring_26 : decode cX3_ring 26 = .ok (.iconst (-1), 1) := dk_2 (dk_at dksX3_ring_1 2 rfl rfl)
theorem dX3_ring_27 : decode cX3_ring 27 = .ok (.invokevirtual 234, 3) := dk_182 0 234 (dk_at dksX3_ring_1 3 rfl rfl)
theorem dX3_ring_30 : decode cX3_ring 30 = .ok (.aload_n 0, 1) := dk_42 (dk_at dksX3_ring_1 6 rfl rfl)
theorem dX3_ring_31 : decode cX3_ring 31 = .ok (.invokevirtual 271, 3) := dk_182 1 15 (dk_at dksX3_ring_1 7 rfl rfl)
theorem dX3_ring_34 : decode cX3_ring 34 = .ok (.istore_n 3, 1) := dk_62 (dk_at dksX3_ring_1 10 rfl rfl)
theorem dX3_ring_35 : decode cX3_ring 35 = .ok (.iload_n 3, 1) := dk_29 (dk_at dksX3_ring_1 11 rfl rfl)
theorem dX3_ring_36 : decode cX3_ring 36 = .ok (.ifCond .ne 7, 3) := dk_154 0 7 (dk_at dksX3_ring_1 12 rfl rfl)
theorem dX3_ring_39 : decode cX3_ring 39 = .ok (.iconst (-1), 1) := dk_2 (dk_at dksX3_ring_1 15 rfl rfl)
theorem dX3_ring_40 : decode cX3_ring 40 = .ok (.goto 27, 3) := dk_167 0 27 (dk_at dksX3_ring_1 16 rfl rfl)
theorem dX3_ring_43 : decode cX3_ring 43 = .ok (.iload_n 2, 1) := dk_28 (dk_at dksX3_ring_1 19 rfl rfl)
theorem dX3_ring_44 : decode cX3_ring 44 = .ok (.iconst (-1), 1) := dk_2 (dk_at dksX3_ring_1 20 rfl rfl)
theorem dX3_ring_45 : decode cX3_ring 45 = .ok (.if_icmp .ne 7, 3) := dk_160 0 7 (dk_at dksX3_ring_1 21 rfl rfl)
theorem dX3_ring_48 : decode cX3_ring 48 = .ok (.iload_n 3, 1) := dk_29 (dk_at dksX3_ring_2 0 rfl rfl)
theorem dX3_ring_49 : decode cX3_ring 49 = .ok (.goto 18, 3) := dk_167 0 18 (dk_at dksX3_ring_2 1 rfl rfl)
theorem dX3_ring_52 : decode cX3_ring 52 = .ok (.iload_n 2, 1) := dk_28 (dk_at dksX3_ring_2 4 rfl rfl)
theorem dX3_ring_53 : decode cX3_ring 53 = .ok (.iload_n 3, 1) := dk_29 (dk_at dksX3_ring_2 5 rfl rfl)
theorem dX3_ring_54 : decode cX3_ring 54 = .ok (.if_icmp .ge 12, 3) := dk_162 0 12 (dk_at dksX3_ring_2 6 rfl rfl)
theorem dX3_ring_57 : decode cX3_ring 57 = .ok (.aload_n 0, 1) := dk_42 (dk_at dksX3_ring_2 9 rfl rfl)
theorem dX3_ring_58 : decode cX3_ring 58 = .ok (.getfield 40, 3) := dk_180 0 40 (dk_at dksX3_ring_2 10 rfl rfl)
theorem dX3_ring_61 : decode cX3_ring 61 = .ok (.iload_n 2, 1) := dk_28 (dk_at dksX3_ring_2 13 rfl rfl)
theorem dX3_ring_62 : decode cX3_ring 62 = .ok (.iaload, 1) := dk_46 (dk_at dksX3_ring_2 14 rfl rfl)
theorem dX3_ring_63 : decode cX3_ring 63 = .ok (.goto 4, 3) := dk_167 0 4 (dk_at dksX3_ring_2 15 rfl rfl)
theorem dX3_ring_66 : decode cX3_ring 66 = .ok (.iconst (-1), 1) := dk_2 (dk_at dksX3_ring_2 18 rfl rfl)
theorem dX3_ring_67 : decode cX3_ring 67 = .ok (.ireturn, 1) := dk_172 (dk_at dksX3_ring_2 19 rfl rfl)
abbrev cX3_laysRing : ByteArray := prog_15_method_54_code
def yX3_laysRing : MethodName := ⟨RX3, "laysRing", "()I"⟩
def dkwX3_laysRing_2 : List UInt8 := [132, 2, 1, 167, 255, 219, 132, 1, 1, 167, 255, 203, 42, 3, 181, 1, 9, 3, 172]
abbrev dktX3_laysRing_2 : List UInt8 := dkwX3_laysRing_2 ++ []
def dkwX3_laysRing_1 : List UInt8 := [3, 28, 79, 42, 27, 181, 1, 9, 42, 4, 27, 4, 28, 120, 182, 1, 5, 153, 0, 5, 27, 172]
abbrev dktX3_laysRing_1 : List UInt8 := dkwX3_laysRing_1 ++ dktX3_laysRing_2
def dkwX3_laysRing_0 : List UInt8 := [5, 60, 27, 42, 180, 0, 80, 163, 0, 51, 3, 61, 28, 42, 180, 0, 80, 162, 0, 35, 42, 180, 0, 40]
abbrev dktX3_laysRing_0 : List UInt8 := dkwX3_laysRing_0 ++ dktX3_laysRing_1
theorem dksX3_laysRing_0 : cX3_laysRing.data.toList.drop 0 = dktX3_laysRing_0 := by decide +kernel
theorem dksX3_laysRing_1 : cX3_laysRing.data.toList.drop 24 = dktX3_laysRing_1 := dk_seg dksX3_laysRing_0 24 rfl rfl
theorem dksX3_laysRing_2 : cX3_laysRing.data.toList.drop 46 = dktX3_laysRing_2 := dk_seg dksX3_laysRing_1 22 rfl rfl
theorem dX3_laysRing_0 : decode cX3_laysRing 0 = .ok (.iconst 2, 1) := dk_5 (dk_at dksX3_laysRing_0 0 rfl rfl)
theorem dX3_laysRing_1 : decode cX3_laysRing 1 = .ok (.istore_n 1, 1) := dk_60 (dk_at dksX3_laysRing_0 1 rfl rfl)
theorem dX3_laysRing_2 : decode cX3_laysRing 2 = .ok (.iload_n 1, 1) := dk_27 (dk_at dksX3_laysRing_0 2 rfl rfl)
theorem dX3_laysRing_3 : decode cX3_laysRing 3 = .ok (.aload_n 0, 1) := dk_42 (dk_at dksX3_laysRing_0 3 rfl rfl)
theorem dX3_laysRing_4 : decode cX3_laysRing 4 = .ok (.getfield 80, 3) := dk_180 0 80 (dk_at dksX3_laysRing_0 4 rfl rfl)
theorem dX3_laysRing_7 : decode cX3_laysRing 7 = .ok (.if_icmp .gt 51, 3) := dk_163 0 51 (dk_at dksX3_laysRing_0 7 rfl rfl)
theorem dX3_laysRing_10 : decode cX3_laysRing 10 = .ok (.iconst 0, 1) := dk_3 (dk_at dksX3_laysRing_0 10 rfl rfl)
theorem dX3_laysRing_11 : decode cX3_laysRing 11 = .ok (.istore_n 2, 1) := dk_61 (dk_at dksX3_laysRing_0 11 rfl rfl)
theorem dX3_laysRing_12 : decode cX3_laysRing 12 = .ok (.iload_n 2, 1) := dk_28 (dk_at dksX3_laysRing_0 12 rfl rfl)
theorem dX3_laysRing_13 : decode cX3_laysRing 13 = .ok (.aload_n 0, 1) := dk_42 (dk_at dksX3_laysRing_0 13 rfl rfl)
theorem dX3_laysRing_14 : decode cX3_laysRing 14 = .ok (.getfield 80, 3) := dk_180 0 80 (dk_at dksX3_laysRing_0 14 rfl rfl)
theorem dX3_laysRing_17 : decode cX3_laysRing 17 = .ok (.if_icmp .ge 35, 3) := dk_162 0 35 (dk_at dksX3_laysRing_0 17 rfl rfl)
theorem dX3_laysRing_20 : decode cX3_laysRing 20 = .ok (.aload_n 0, 1) := dk_42 (dk_at dksX3_laysRing_0 20 rfl rfl)
theorem dX3_laysRing_21 : decode cX3_laysRing 21 = .ok (.getfield 40, 3) := dk_180 0 40 (dk_at dksX3_laysRing_0 21 rfl rfl)
theorem dX3_laysRing_24 : decode cX3_laysRing 24 = .ok (.iconst 0, 1) := dk_3 (dk_at dksX3_laysRing_1 0 rfl rfl)
theorem dX3_laysRing_25 : decode cX3_laysRing 25 = .ok (.iload_n 2, 1) := dk_28 (dk_at dksX3_laysRing_1 1 rfl rfl)
theorem dX3_laysRing_26 : decode cX3_laysRing 26 = .ok (.iastore, 1) := dk_79 (dk_at dksX3_laysRing_1 2 rfl rfl)
theorem dX3_laysRing_27 : decode cX3_laysRing 27 = .ok (.aload_n 0, 1) := dk_42 (dk_at dksX3_laysRing_1 3 rfl rfl)
theorem dX3_laysRing_28 : decode cX3_laysRing 28 = .ok (.iload_n 1, 1) := dk_27 (dk_at dksX3_laysRing_1 4 rfl rfl)
theorem dX3_laysRing_29 : decode cX3_laysRing 29 = .ok (.putfield 265, 3) := dk_181 1 9 (dk_at dksX3_laysRing_1 5 rfl rfl)
theorem dX3_laysRing_32 : decode cX3_laysRing 32 = .ok (.aload_n 0, 1) := dk_42 (dk_at dksX3_laysRing_1 8 rfl rfl)
theorem dX3_laysRing_33 : decode cX3_laysRing 33 = .ok (.iconst 1, 1) := dk_4 (dk_at dksX3_laysRing_1 9 rfl rfl)
theorem dX3_laysRing_34 : decode cX3_laysRing 34 = .ok (.iload_n 1, 1) := dk_27 (dk_at dksX3_laysRing_1 10 rfl rfl)
theorem dX3_laysRing_35 : decode cX3_laysRing 35 = .ok (.iconst 1, 1) := dk_4 (dk_at dksX3_laysRing_1 11 rfl rfl)
theorem dX3_laysRing_36 : decode cX3_laysRing 36 = .ok (.iload_n 2, 1) := dk_28 (dk_at dksX3_laysRing_1 12 rfl rfl)
theorem dX3_laysRing_37 : decode cX3_laysRing 37 = .ok (.ishl, 1) := dk_120 (dk_at dksX3_laysRing_1 13 rfl rfl)
theorem dX3_laysRing_38 : decode cX3_laysRing 38 = .ok (.invokevirtual 261, 3) := dk_182 1 5 (dk_at dksX3_laysRing_1 14 rfl rfl)
theorem dX3_laysRing_41 : decode cX3_laysRing 41 = .ok (.ifCond .eq 5, 3) := dk_153 0 5 (dk_at dksX3_laysRing_1 17 rfl rfl)
theorem dX3_laysRing_44 : decode cX3_laysRing 44 = .ok (.iload_n 1, 1) := dk_27 (dk_at dksX3_laysRing_1 20 rfl rfl)
theorem dX3_laysRing_45 : decode cX3_laysRing 45 = .ok (.ireturn, 1) := dk_172 (dk_at dksX3_laysRing_1 21 rfl rfl)
theorem dX3_laysRing_46 : decode cX3_laysRing 46 = .ok (.iinc 2 1, 3) := dk_132 2 1 (dk_at dksX3_laysRing_2 0 rfl rfl)
theorem dX3_laysRing_49 : decode cX3_laysRing 49 = .ok (.goto (-37), 3) := dk_167 255 219 (dk_at dksX3_laysRing_2 3 rfl rfl)
theorem dX3_laysRing_52 : decode cX3_laysRing 52 = .ok (.iinc 1 1, 3) := dk_132 1 1 (dk_at dksX3_laysRing_2 6 rfl rfl)
theorem dX3_laysRing_55 : decode cX3_laysRing 55 = .ok (.goto (-53), 3) := dk_167 255 203 (dk_at dksX3_laysRing_2 9 rfl rfl)
theorem dX3_laysRing_58 : decode cX3_laysRing 58 = .ok (.aload_n 0, 1) := dk_42 (dk_at dksX3_laysRing_2 12 rfl rfl)
theorem dX3_laysRing_59 : decode cX3_laysRing 59 = .ok (.iconst 0, 1) := dk_3 (dk_at dksX3_laysRing_2 13 rfl rfl)
theorem dX3_laysRing_60 : decode cX3_laysRing 60 = .ok (.putfield 265, 3) := dk_181 1 9 (dk_at dksX3_laysRing_2 14 rfl rfl)
theorem dX3_laysRing_63 : decode cX3_laysRing 63 = .ok (.iconst 0, 1) := dk_3 (dk_at dksX3_laysRing_2 17 rfl rfl)
theorem dX3_laysRing_64 : decode cX3_laysRing 64 = .ok (.ireturn, 1) := dk_172 (dk_at dksX3_laysRing_2 18 rfl rfl)
abbrev cX3_goesRound : ByteArray := prog_15_method_53_code
def yX3_goesRound : MethodName := ⟨RX3, "goesRound", "(III)Z"⟩
def dkwX3_goesRound_5 : List UInt8 := [167, 255, 189, 3, 172]
abbrev dktX3_goesRound_5 : List UInt8 := dkwX3_goesRound_5 ++ []
def dkwX3_goesRound_4 : List UInt8 := [79, 42, 27, 4, 96, 28, 29, 4, 21, 5, 120, 128, 182, 1, 5, 153, 0, 5, 4, 172, 132, 5, 1]
abbrev dktX3_goesRound_4 : List UInt8 := dkwX3_goesRound_4 ++ dktX3_goesRound_5
def dkwX3_goesRound_3 : List UInt8 := [180, 0, 37, 21, 4, 21, 5, 184, 0, 229, 46, 154, 0, 6, 167, 0, 30, 42, 180, 0, 40, 27, 21, 5]
abbrev dktX3_goesRound_3 : List UInt8 := dkwX3_goesRound_3 ++ dktX3_goesRound_4
def dkwX3_goesRound_2 : List UInt8 := [4, 96, 54, 5, 21, 5, 42, 180, 0, 80, 162, 0, 64, 29, 21, 5, 122, 4, 126, 4, 159, 0, 48, 42]
abbrev dktX3_goesRound_2 : List UInt8 := dkwX3_goesRound_2 ++ dktX3_goesRound_3
def dkwX3_goesRound_1 : List UInt8 := [180, 0, 40, 3, 46, 184, 0, 229, 46, 158, 0, 7, 4, 167, 0, 4, 3, 172, 42, 180, 0, 40, 3, 46]
abbrev dktX3_goesRound_1 : List UInt8 := dkwX3_goesRound_1 ++ dktX3_goesRound_2
def dkwX3_goesRound_0 : List UInt8 := [42, 180, 0, 40, 27, 4, 100, 46, 54, 4, 27, 28, 160, 0, 28, 42, 180, 0, 37, 21, 4, 42]
abbrev dktX3_goesRound_0 : List UInt8 := dkwX3_goesRound_0 ++ dktX3_goesRound_1
theorem dksX3_goesRound_0 : cX3_goesRound.data.toList.drop 0 = dktX3_goesRound_0 := by decide +kernel
theorem dksX3_goesRound_1 : cX3_goesRound.data.toList.drop 22 = dktX3_goesRound_1 := dk_seg dksX3_goesRound_0 22 rfl rfl
theorem dksX3_goesRound_2 : cX3_goesRound.data.toList.drop 46 = dktX3_goesRound_2 := dk_seg dksX3_goesRound_1 24 rfl rfl
theorem dksX3_goesRound_3 : cX3_goesRound.data.toList.drop 70 = dktX3_goesRound_3 := dk_seg dksX3_goesRound_2 24 rfl rfl
theorem dksX3_goesRound_4 : cX3_goesRound.data.toList.drop 94 = dktX3_goesRound_4 := dk_seg dksX3_goesRound_3 24 rfl rfl
theorem dksX3_goesRound_5 : cX3_goesRound.data.toList.drop 117 = dktX3_goesRound_5 := dk_seg dksX3_goesRound_4 23 rfl rfl
theorem dX3_goesRound_0 : decode cX3_goesRound 0 = .ok (.aload_n 0, 1) := dk_42 (dk_at dksX3_goesRound_0 0 rfl rfl)
theorem dX3_goesRound_1 : decode cX3_goesRound 1 = .ok (.getfield 40, 3) := dk_180 0 40 (dk_at dksX3_goesRound_0 1 rfl rfl)
theorem dX3_goesRound_4 : decode cX3_goesRound 4 = .ok (.iload_n 1, 1) := dk_27 (dk_at dksX3_goesRound_0 4 rfl rfl)
theorem dX3_goesRound_5 : decode cX3_goesRound 5 = .ok (.iconst 1, 1) := dk_4 (dk_at dksX3_goesRound_0 5 rfl rfl)
theorem dX3_goesRound_6 : decode cX3_goesRound 6 = .ok (.isub, 1) := dk_100 (dk_at dksX3_goesRound_0 6 rfl rfl)
theorem dX3_goesRound_7 : decode cX3_goesRound 7 = .ok (.iaload, 1) := dk_46 (dk_at dksX3_goesRound_0 7 rfl rfl)
theorem dX3_goesRound_8 : decode cX3_goesRound 8 = .ok (.istore 4, 2) := dk_54 4 (dk_at dksX3_goesRound_0 8 rfl rfl)
theorem dX3_goesRound_10 : decode cX3_goesRound 10 = .ok (.iload_n 1, 1) := dk_27 (dk_at dksX3_goesRound_0 10 rfl rfl)
theorem dX3_goesRound_11 : decode cX3_goesRound 11 = .ok (.iload_n 2, 1) := dk_28 (dk_at dksX3_goesRound_0 11 rfl rfl)
theorem dX3_goesRound_12 : decode cX3_goesRound 12 = .ok (.if_icmp .ne 28, 3) := dk_160 0 28 (dk_at dksX3_goesRound_0 12 rfl rfl)
theorem dX3_goesRound_15 : decode cX3_goesRound 15 = .ok (.aload_n 0, 1) := dk_42 (dk_at dksX3_goesRound_0 15 rfl rfl)
theorem dX3_goesRound_16 : decode cX3_goesRound 16 = .ok (.getfield 37, 3) := dk_180 0 37 (dk_at dksX3_goesRound_0 16 rfl rfl)
theorem dX3_goesRound_19 : decode cX3_goesRound 19 = .ok (.iload 4, 2) := dk_21 4 (dk_at dksX3_goesRound_0 19 rfl rfl)
theorem dX3_goesRound_21 : decode cX3_goesRound 21 = .ok (.aload_n 0, 1) := dk_42 (dk_at dksX3_goesRound_0 21 rfl rfl)
theorem dX3_goesRound_22 : decode cX3_goesRound 22 = .ok (.getfield 40, 3) := dk_180 0 40 (dk_at dksX3_goesRound_1 0 rfl rfl)
theorem dX3_goesRound_25 : decode cX3_goesRound 25 = .ok (.iconst 0, 1) := dk_3 (dk_at dksX3_goesRound_1 3 rfl rfl)
theorem dX3_goesRound_26 : decode cX3_goesRound 26 = .ok (.iaload, 1) := dk_46 (dk_at dksX3_goesRound_1 4 rfl rfl)
theorem dX3_goesRound_27 : decode cX3_goesRound 27 = .ok (.invokestatic 229, 3) := dk_184 0 229 (dk_at dksX3_goesRound_1 5 rfl rfl)
theorem dX3_goesRound_30 : decode cX3_goesRound 30 = .ok (.iaload, 1) := dk_46 (dk_at dksX3_goesRound_1 8 rfl rfl)
theorem dX3_goesRound_31 : decode cX3_goesRound 31 = .ok (.ifCond .le 7, 3) := dk_158 0 7 (dk_at dksX3_goesRound_1 9 rfl rfl)
theorem dX3_goesRound_34 : decode cX3_goesRound 34 = .ok (.iconst 1, 1) := dk_4 (dk_at dksX3_goesRound_1 12 rfl rfl)
theorem dX3_goesRound_35 : decode cX3_goesRound 35 = .ok (.goto 4, 3) := dk_167 0 4 (dk_at dksX3_goesRound_1 13 rfl rfl)
theorem dX3_goesRound_38 : decode cX3_goesRound 38 = .ok (.iconst 0, 1) := dk_3 (dk_at dksX3_goesRound_1 16 rfl rfl)
theorem dX3_goesRound_39 : decode cX3_goesRound 39 = .ok (.ireturn, 1) := dk_172 (dk_at dksX3_goesRound_1 17 rfl rfl)
theorem dX3_goesRound_40 : decode cX3_goesRound 40 = .ok (.aload_n 0, 1) := dk_42 (dk_at dksX3_goesRound_1 18 rfl rfl)
theorem dX3_goesRound_41 : decode cX3_goesRound 41 = .ok (.getfield 40, 3) := dk_180 0 40 (dk_at dksX3_goesRound_1 19 rfl rfl)
theorem dX3_goesRound_44 : decode cX3_goesRound 44 = .ok (.iconst 0, 1) := dk_3 (dk_at dksX3_goesRound_1 22 rfl rfl)
theorem dX3_goesRound_45 : decode cX3_goesRound 45 = .ok (.iaload, 1) := dk_46 (dk_at dksX3_goesRound_1 23 rfl rfl)
theorem dX3_goesRound_46 : decode cX3_goesRound 46 = .ok (.iconst 1, 1) := dk_4 (dk_at dksX3_goesRound_2 0 rfl rfl)
theorem dX3_goesRound_47 : decode cX3_goesRound 47 = .ok (.iadd, 1) := dk_96 (dk_at dksX3_goesRound_2 1 rfl rfl)
theorem dX3_goesRound_48 : decode cX3_goesRound 48 = .ok (.istore 5, 2) := dk_54 5 (dk_at dksX3_goesRound_2 2 rfl rfl)
theorem dX3_goesRound_50 : decode cX3_goesRound 50 = .ok (.iload 5, 2) := dk_21 5 (dk_at dksX3_goesRound_2 4 rfl rfl)
theorem dX3_goesRound_52 : decode cX3_goesRound 52 = .ok (.aload_n 0, 1) := dk_42 (dk_at dksX3_goesRound_2 6 rfl rfl)
theorem dX3_goesRound_53 : decode cX3_goesRound 53 = .ok (.getfield 80, 3) := dk_180 0 80 (dk_at dksX3_goesRound_2 7 rfl rfl)
theorem dX3_goesRound_56 : decode cX3_goesRound 56 = .ok (.if_icmp .ge 64, 3) := dk_162 0 64 (dk_at dksX3_goesRound_2 10 rfl rfl)
theorem dX3_goesRound_59 : decode cX3_goesRound 59 = .ok (.iload_n 3, 1) := dk_29 (dk_at dksX3_goesRound_2 13 rfl rfl)
theorem dX3_goesRound_60 : decode cX3_goesRound 60 = .ok (.iload 5, 2) := dk_21 5 (dk_at dksX3_goesRound_2 14 rfl rfl)
theorem dX3_goesRound_62 : decode cX3_goesRound 62 = .ok (.ishr, 1) := dk_122 (dk_at dksX3_goesRound_2 16 rfl rfl)
theorem dX3_goesRound_63 : decode cX3_goesRound 63 = .ok (.iconst 1, 1) := dk_4 (dk_at dksX3_goesRound_2 17 rfl rfl)
theorem dX3_goesRound_64 : decode cX3_goesRound 64 = .ok (.iand, 1) := dk_126 (dk_at dksX3_goesRound_2 18 rfl rfl)
theorem dX3_goesRound_65 : decode cX3_goesRound 65 = .ok (.iconst 1, 1) := dk_4 (dk_at dksX3_goesRound_2 19 rfl rfl)
theorem dX3_goesRound_66 : decode cX3_goesRound 66 = .ok (.if_icmp .eq 48, 3) := dk_159 0 48 (dk_at dksX3_goesRound_2 20 rfl rfl)
theorem dX3_goesRound_69 : decode cX3_goesRound 69 = .ok (.aload_n 0, 1) := dk_42 (dk_at dksX3_goesRound_2 23 rfl rfl)
theorem dX3_goesRound_70 : decode cX3_goesRound 70 = .ok (.getfield 37, 3) := dk_180 0 37 (dk_at dksX3_goesRound_3 0 rfl rfl)
theorem dX3_goesRound_73 : decode cX3_goesRound 73 = .ok (.iload 4, 2) := dk_21 4 (dk_at dksX3_goesRound_3 3 rfl rfl)
theorem dX3_goesRound_75 : decode cX3_goesRound 75 = .ok (.iload 5, 2) := dk_21 5 (dk_at dksX3_goesRound_3 5 rfl rfl)
theorem dX3_goesRound_77 : decode cX3_goesRound 77 = .ok (.invokestatic 229, 3) := dk_184 0 229 (dk_at dksX3_goesRound_3 7 rfl rfl)
theorem dX3_goesRound_80 : decode cX3_goesRound 80 = .ok (.iaload, 1) := dk_46 (dk_at dksX3_goesRound_3 10 rfl rfl)
theorem dX3_goesRound_81 : decode cX3_goesRound 81 = .ok (.ifCond .ne 6, 3) := dk_154 0 6 (dk_at dksX3_goesRound_3 11 rfl rfl)
theorem dX3_goesRound_84 : decode cX3_goesRound 84 = .ok (.goto 30, 3) := dk_167 0 30 (dk_at dksX3_goesRound_3 14 rfl rfl)
theorem dX3_goesRound_87 : decode cX3_goesRound 87 = .ok (.aload_n 0, 1) := dk_42 (dk_at dksX3_goesRound_3 17 rfl rfl)
theorem dX3_goesRound_88 : decode cX3_goesRound 88 = .ok (.getfield 40, 3) := dk_180 0 40 (dk_at dksX3_goesRound_3 18 rfl rfl)
theorem dX3_goesRound_91 : decode cX3_goesRound 91 = .ok (.iload_n 1, 1) := dk_27 (dk_at dksX3_goesRound_3 21 rfl rfl)
theorem dX3_goesRound_92 : decode cX3_goesRound 92 = .ok (.iload 5, 2) := dk_21 5 (dk_at dksX3_goesRound_3 22 rfl rfl)
theorem dX3_goesRound_94 : decode cX3_goesRound 94 = .ok (.iastore, 1) := dk_79 (dk_at dksX3_goesRound_4 0 rfl rfl)
theorem dX3_goesRound_95 : decode cX3_goesRound 95 = .ok (.aload_n 0, 1) := dk_42 (dk_at dksX3_goesRound_4 1 rfl rfl)
theorem dX3_goesRound_96 : decode cX3_goesRound 96 = .ok (.iload_n 1, 1) := dk_27 (dk_at dksX3_goesRound_4 2 rfl rfl)
theorem dX3_goesRound_97 : decode cX3_goesRound 97 = .ok (.iconst 1, 1) := dk_4 (dk_at dksX3_goesRound_4 3 rfl rfl)
theorem dX3_goesRound_98 : decode cX3_goesRound 98 = .ok (.iadd, 1) := dk_96 (dk_at dksX3_goesRound_4 4 rfl rfl)
theorem dX3_goesRound_99 : decode cX3_goesRound 99 = .ok (.iload_n 2, 1) := dk_28 (dk_at dksX3_goesRound_4 5 rfl rfl)
theorem dX3_goesRound_100 : decode cX3_goesRound 100 = .ok (.iload_n 3, 1) := dk_29 (dk_at dksX3_goesRound_4 6 rfl rfl)
theorem dX3_goesRound_101 : decode cX3_goesRound 101 = .ok (.iconst 1, 1) := dk_4 (dk_at dksX3_goesRound_4 7 rfl rfl)
theorem dX3_goesRound_102 : decode cX3_goesRound 102 = .ok (.iload 5, 2) := dk_21 5 (dk_at dksX3_goesRound_4 8 rfl rfl)
theorem dX3_goesRound_104 : decode cX3_goesRound 104 = .ok (.ishl, 1) := dk_120 (dk_at dksX3_goesRound_4 10 rfl rfl)
theorem dX3_goesRound_105 : decode cX3_goesRound 105 = .ok (.ior, 1) := dk_128 (dk_at dksX3_goesRound_4 11 rfl rfl)
theorem dX3_goesRound_106 : decode cX3_goesRound 106 = .ok (.invokevirtual 261, 3) := dk_182 1 5 (dk_at dksX3_goesRound_4 12 rfl rfl)
theorem dX3_goesRound_109 : decode cX3_goesRound 109 = .ok (.ifCond .eq 5, 3) := dk_153 0 5 (dk_at dksX3_goesRound_4 15 rfl rfl)
theorem dX3_goesRound_112 : decode cX3_goesRound 112 = .ok (.iconst 1, 1) := dk_4 (dk_at dksX3_goesRound_4 18 rfl rfl)
theorem dX3_goesRound_113 : decode cX3_goesRound 113 = .ok (.ireturn, 1) := dk_172 (dk_at dksX3_goesRound_4 19 rfl rfl)
theorem dX3_goesRound_114 : decode cX3_goesRound 114 = .ok (.iinc 5 1, 3) := dk_132 5 1 (dk_at dksX3_goesRound_4 20 rfl rfl)
theorem dX3_goesRound_117 : decode cX3_goesRound 117 = .ok (.goto (-67), 3) := dk_167 255 189 (dk_at dksX3_goesRound_5 0 rfl rfl)
theorem dX3_goesRound_120 : decode cX3_goesRound 120 = .ok (.iconst 0, 1) := dk_3 (dk_at dksX3_goesRound_5 3 rfl rfl)
theorem dX3_goesRound_121 : decode cX3_goesRound 121 = .ok (.ireturn, 1) := dk_172 (dk_at dksX3_goesRound_5 4 rfl rfl)
abbrev cX3_load : ByteArray := prog_15_method_58_code
def yX3_load : MethodName := ⟨RX3, "load", "(I)I"⟩
def dkwX3_load_1 : List UInt8 := [182, 1, 15, 154, 0, 7, 2, 167, 0, 7, 42, 182, 1, 18, 172]
abbrev dktX3_load_1 : List UInt8 := dkwX3_load_1 ++ []
def dkwX3_load_0 : List UInt8 := [42, 3, 181, 0, 1, 42, 27, 182, 0, 205, 154, 0, 6, 16, 254, 172, 42, 27, 2, 182, 0, 234, 42]
abbrev dktX3_load_0 : List UInt8 := dkwX3_load_0 ++ dktX3_load_1
theorem dksX3_load_0 : cX3_load.data.toList.drop 0 = dktX3_load_0 := by decide +kernel
theorem dksX3_load_1 : cX3_load.data.toList.drop 23 = dktX3_load_1 := dk_seg dksX3_load_0 23 rfl rfl
theorem dX3_load_0 : decode cX3_load 0 = .ok (.aload_n 0, 1) := dk_42 (dk_at dksX3_load_0 0 rfl rfl)
theorem dX3_load_1 : decode cX3_load 1 = .ok (.iconst 0, 1) := dk_3 (dk_at dksX3_load_0 1 rfl rfl)
theorem dX3_load_2 : decode cX3_load 2 = .ok (.putfield 1, 3) := dk_181 0 1 (dk_at dksX3_load_0 2 rfl rfl)
theorem dX3_load_5 : decode cX3_load 5 = .ok (.aload_n 0, 1) := dk_42 (dk_at dksX3_load_0 5 rfl rfl)
theorem dX3_load_6 : decode cX3_load 6 = .ok (.iload_n 1, 1) := dk_27 (dk_at dksX3_load_0 6 rfl rfl)
theorem dX3_load_7 : decode cX3_load 7 = .ok (.invokevirtual 205, 3) := dk_182 0 205 (dk_at dksX3_load_0 7 rfl rfl)
theorem dX3_load_10 : decode cX3_load 10 = .ok (.ifCond .ne 6, 3) := dk_154 0 6 (dk_at dksX3_load_0 10 rfl rfl)
theorem dX3_load_13 : decode cX3_load 13 = .ok (.bipush (-2), 2) := dk_16 254 (dk_at dksX3_load_0 13 rfl rfl)
theorem dX3_load_15 : decode cX3_load 15 = .ok (.ireturn, 1) := dk_172 (dk_at dksX3_load_0 15 rfl rfl)
theorem dX3_load_16 : decode cX3_load 16 = .ok (.aload_n 0, 1) := dk_42 (dk_at dksX3_load_0 16 rfl rfl)
theorem dX3_load_17 : decode cX3_load 17 = .ok (.iload_n 1, 1) := dk_27 (dk_at dksX3_load_0 17 rfl rfl)
theorem dX3_load_18 : decode cX3_load 18 = .ok (.iconst (-1), 1) := dk_2 (dk_at dksX3_load_0 18 rfl rfl)
theorem dX3_load_19 : decode cX3_load 19 = .ok (.invokevirtual 234, 3) := dk_182 0 234 (dk_at dksX3_load_0 19 rfl rfl)
theorem dX3_load_22 : decode cX3_load 22 = .ok (.aload_n 0, 1) := dk_42 (dk_at dksX3_load_0 22 rfl rfl)
theorem dX3_load_23 : decode cX3_load 23 = .ok (.invokevirtual 271, 3) := dk_182 1 15 (dk_at dksX3_load_1 0 rfl rfl)
theorem dX3_load_26 : decode cX3_load 26 = .ok (.ifCond .ne 7, 3) := dk_154 0 7 (dk_at dksX3_load_1 3 rfl rfl)
theorem dX3_load_29 : decode cX3_load 29 = .ok (.iconst (-1), 1) := dk_2 (dk_at dksX3_load_1 6 rfl rfl)
theorem dX3_load_30 : decode cX3_load 30 = .ok (.goto 7, 3) := dk_167 0 7 (dk_at dksX3_load_1 7 rfl rfl)
theorem dX3_load_33 : decode cX3_load 33 = .ok (.aload_n 0, 1) := dk_42 (dk_at dksX3_load_1 10 rfl rfl)
theorem dX3_load_34 : decode cX3_load 34 = .ok (.invokevirtual 274, 3) := dk_182 1 18 (dk_at dksX3_load_1 11 rfl rfl)
theorem dX3_load_37 : decode cX3_load 37 = .ok (.ireturn, 1) := dk_172 (dk_at dksX3_load_1 14 rfl rfl)
abbrev cX3_loadOf : ByteArray := prog_15_method_56_code
def yX3_loadOf : MethodName := ⟨RX3, "loadOf", "()I"⟩
def dkwX3_loadOf_2 : List UInt8 := [167, 0, 4, 27, 60, 132, 2, 1, 167, 255, 216, 27, 172]
abbrev dktX3_loadOf_2 : List UInt8 := dkwX3_loadOf_2 ++ []
def dkwX3_loadOf_1 : List UInt8 := [180, 0, 37, 42, 28, 182, 1, 12, 46, 27, 162, 0, 16, 42, 180, 0, 37, 42, 28, 182, 1, 12, 46]
abbrev dktX3_loadOf_1 : List UInt8 := dkwX3_loadOf_1 ++ dktX3_loadOf_2
def dkwX3_loadOf_0 : List UInt8 := [42, 180, 0, 37, 42, 3, 182, 1, 12, 46, 60, 4, 61, 28, 42, 180, 1, 9, 162, 0, 38, 42]
abbrev dktX3_loadOf_0 : List UInt8 := dkwX3_loadOf_0 ++ dktX3_loadOf_1
theorem dksX3_loadOf_0 : cX3_loadOf.data.toList.drop 0 = dktX3_loadOf_0 := by decide +kernel
theorem dksX3_loadOf_1 : cX3_loadOf.data.toList.drop 22 = dktX3_loadOf_1 := dk_seg dksX3_loadOf_0 22 rfl rfl
theorem dksX3_loadOf_2 : cX3_loadOf.data.toList.drop 45 = dktX3_loadOf_2 := dk_seg dksX3_loadOf_1 23 rfl rfl
theorem dX3_loadOf_0 : decode cX3_loadOf 0 = .ok (.aload_n 0, 1) := dk_42 (dk_at dksX3_loadOf_0 0 rfl rfl)
theorem dX3_loadOf_1 : decode cX3_loadOf 1 = .ok (.getfield 37, 3) := dk_180 0 37 (dk_at dksX3_loadOf_0 1 rfl rfl)
theorem dX3_loadOf_4 : decode cX3_loadOf 4 = .ok (.aload_n 0, 1) := dk_42 (dk_at dksX3_loadOf_0 4 rfl rfl)
theorem dX3_loadOf_5 : decode cX3_loadOf 5 = .ok (.iconst 0, 1) := dk_3 (dk_at dksX3_loadOf_0 5 rfl rfl)
theorem dX3_loadOf_6 : decode cX3_loadOf 6 = .ok (.invokevirtual 268, 3) := dk_182 1 12 (dk_at dksX3_loadOf_0 6 rfl rfl)
theorem dX3_loadOf_9 : decode cX3_loadOf 9 = .ok (.iaload, 1) := dk_46 (dk_at dksX3_loadOf_0 9 rfl rfl)
theorem dX3_loadOf_10 : decode cX3_loadOf 10 = .ok (.istore_n 1, 1) := dk_60 (dk_at dksX3_loadOf_0 10 rfl rfl)
theorem dX3_loadOf_11 : decode cX3_loadOf 11 = .ok (.iconst 1, 1) := dk_4 (dk_at dksX3_loadOf_0 11 rfl rfl)
theorem dX3_loadOf_12 : decode cX3_loadOf 12 = .ok (.istore_n 2, 1) := dk_61 (dk_at dksX3_loadOf_0 12 rfl rfl)
theorem dX3_loadOf_13 : decode cX3_loadOf 13 = .ok (.iload_n 2, 1) := dk_28 (dk_at dksX3_loadOf_0 13 rfl rfl)
theorem dX3_loadOf_14 : decode cX3_loadOf 14 = .ok (.aload_n 0, 1) := dk_42 (dk_at dksX3_loadOf_0 14 rfl rfl)
theorem dX3_loadOf_15 : decode cX3_loadOf 15 = .ok (.getfield 265, 3) := dk_180 1 9 (dk_at dksX3_loadOf_0 15 rfl rfl)
theorem dX3_loadOf_18 : decode cX3_loadOf 18 = .ok (.if_icmp .ge 38, 3) := dk_162 0 38 (dk_at dksX3_loadOf_0 18 rfl rfl)
theorem dX3_loadOf_21 : decode cX3_loadOf 21 = .ok (.aload_n 0, 1) := dk_42 (dk_at dksX3_loadOf_0 21 rfl rfl)
theorem dX3_loadOf_22 : decode cX3_loadOf 22 = .ok (.getfield 37, 3) := dk_180 0 37 (dk_at dksX3_loadOf_1 0 rfl rfl)
theorem dX3_loadOf_25 : decode cX3_loadOf 25 = .ok (.aload_n 0, 1) := dk_42 (dk_at dksX3_loadOf_1 3 rfl rfl)
theorem dX3_loadOf_26 : decode cX3_loadOf 26 = .ok (.iload_n 2, 1) := dk_28 (dk_at dksX3_loadOf_1 4 rfl rfl)
theorem dX3_loadOf_27 : decode cX3_loadOf 27 = .ok (.invokevirtual 268, 3) := dk_182 1 12 (dk_at dksX3_loadOf_1 5 rfl rfl)
theorem dX3_loadOf_30 : decode cX3_loadOf 30 = .ok (.iaload, 1) := dk_46 (dk_at dksX3_loadOf_1 8 rfl rfl)
theorem dX3_loadOf_31 : decode cX3_loadOf 31 = .ok (.iload_n 1, 1) := dk_27 (dk_at dksX3_loadOf_1 9 rfl rfl)
theorem dX3_loadOf_32 : decode cX3_loadOf 32 = .ok (.if_icmp .ge 16, 3) := dk_162 0 16 (dk_at dksX3_loadOf_1 10 rfl rfl)
theorem dX3_loadOf_35 : decode cX3_loadOf 35 = .ok (.aload_n 0, 1) := dk_42 (dk_at dksX3_loadOf_1 13 rfl rfl)
theorem dX3_loadOf_36 : decode cX3_loadOf 36 = .ok (.getfield 37, 3) := dk_180 0 37 (dk_at dksX3_loadOf_1 14 rfl rfl)
theorem dX3_loadOf_39 : decode cX3_loadOf 39 = .ok (.aload_n 0, 1) := dk_42 (dk_at dksX3_loadOf_1 17 rfl rfl)
theorem dX3_loadOf_40 : decode cX3_loadOf 40 = .ok (.iload_n 2, 1) := dk_28 (dk_at dksX3_loadOf_1 18 rfl rfl)
theorem dX3_loadOf_41 : decode cX3_loadOf 41 = .ok (.invokevirtual 268, 3) := dk_182 1 12 (dk_at dksX3_loadOf_1 19 rfl rfl)
theorem dX3_loadOf_44 : decode cX3_loadOf 44 = .ok (.iaload, 1) := dk_46 (dk_at dksX3_loadOf_1 22 rfl rfl)
theorem dX3_loadOf_45 : decode cX3_loadOf 45 = .ok (.goto 4, 3) := dk_167 0 4 (dk_at dksX3_loadOf_2 0 rfl rfl)
theorem dX3_loadOf_48 : decode cX3_loadOf 48 = .ok (.iload_n 1, 1) := dk_27 (dk_at dksX3_loadOf_2 3 rfl rfl)
theorem dX3_loadOf_49 : decode cX3_loadOf 49 = .ok (.istore_n 1, 1) := dk_60 (dk_at dksX3_loadOf_2 4 rfl rfl)
theorem dX3_loadOf_50 : decode cX3_loadOf 50 = .ok (.iinc 2 1, 3) := dk_132 2 1 (dk_at dksX3_loadOf_2 5 rfl rfl)
theorem dX3_loadOf_53 : decode cX3_loadOf 53 = .ok (.goto (-40), 3) := dk_167 255 216 (dk_at dksX3_loadOf_2 8 rfl rfl)
theorem dX3_loadOf_56 : decode cX3_loadOf 56 = .ok (.iload_n 1, 1) := dk_27 (dk_at dksX3_loadOf_2 11 rfl rfl)
theorem dX3_loadOf_57 : decode cX3_loadOf 57 = .ok (.ireturn, 1) := dk_172 (dk_at dksX3_loadOf_2 12 rfl rfl)
abbrev cX3_coupleOf : ByteArray := prog_15_method_55_code
def yX3_coupleOf : MethodName := ⟨RX3, "coupleOf", "(I)I"⟩
def dkwX3_coupleOf_0 : List UInt8 := [42, 180, 0, 40, 27, 46, 42, 180, 0, 40, 27, 4, 96, 42, 180, 1, 9, 112, 46, 184, 0, 229, 172]
abbrev dktX3_coupleOf_0 : List UInt8 := dkwX3_coupleOf_0 ++ []
theorem dksX3_coupleOf_0 : cX3_coupleOf.data.toList.drop 0 = dktX3_coupleOf_0 := by decide +kernel
theorem dX3_coupleOf_0 : decode cX3_coupleOf 0 = .ok (.aload_n 0, 1) := dk_42 (dk_at dksX3_coupleOf_0 0 rfl rfl)
theorem dX3_coupleOf_1 : decode cX3_coupleOf 1 = .ok (.getfield 40, 3) := dk_180 0 40 (dk_at dksX3_coupleOf_0 1 rfl rfl)
theorem dX3_coupleOf_4 : decode cX3_coupleOf 4 = .ok (.iload_n 1, 1) := dk_27 (dk_at dksX3_coupleOf_0 4 rfl rfl)
theorem dX3_coupleOf_5 : decode cX3_coupleOf 5 = .ok (.iaload, 1) := dk_46 (dk_at dksX3_coupleOf_0 5 rfl rfl)
theorem dX3_coupleOf_6 : decode cX3_coupleOf 6 = .ok (.aload_n 0, 1) := dk_42 (dk_at dksX3_coupleOf_0 6 rfl rfl)
theorem dX3_coupleOf_7 : decode cX3_coupleOf 7 = .ok (.getfield 40, 3) := dk_180 0 40 (dk_at dksX3_coupleOf_0 7 rfl rfl)
theorem dX3_coupleOf_10 : decode cX3_coupleOf 10 = .ok (.iload_n 1, 1) := dk_27 (dk_at dksX3_coupleOf_0 10 rfl rfl)
theorem dX3_coupleOf_11 : decode cX3_coupleOf 11 = .ok (.iconst 1, 1) := dk_4 (dk_at dksX3_coupleOf_0 11 rfl rfl)
theorem dX3_coupleOf_12 : decode cX3_coupleOf 12 = .ok (.iadd, 1) := dk_96 (dk_at dksX3_coupleOf_0 12 rfl rfl)
theorem dX3_coupleOf_13 : decode cX3_coupleOf 13 = .ok (.aload_n 0, 1) := dk_42 (dk_at dksX3_coupleOf_0 13 rfl rfl)
theorem dX3_coupleOf_14 : decode cX3_coupleOf 14 = .ok (.getfield 265, 3) := dk_180 1 9 (dk_at dksX3_coupleOf_0 14 rfl rfl)
theorem dX3_coupleOf_17 : decode cX3_coupleOf 17 = .ok (.irem, 1) := dk_112 (dk_at dksX3_coupleOf_0 17 rfl rfl)
theorem dX3_coupleOf_18 : decode cX3_coupleOf 18 = .ok (.iaload, 1) := dk_46 (dk_at dksX3_coupleOf_0 18 rfl rfl)
theorem dX3_coupleOf_19 : decode cX3_coupleOf 19 = .ok (.invokestatic 229, 3) := dk_184 0 229 (dk_at dksX3_coupleOf_0 19 rfl rfl)
theorem dX3_coupleOf_22 : decode cX3_coupleOf 22 = .ok (.ireturn, 1) := dk_172 (dk_at dksX3_coupleOf_0 22 rfl rfl)
abbrev cX3_cleared : ByteArray := prog_15_method_59_code
def yX3_cleared : MethodName := ⟨RX3, "cleared", "(II)I"⟩
def dkwX3_cleared_3 : List UInt8 := [154, 0, 7, 29, 167, 0, 17, 28, 4, 160, 0, 8, 21, 4, 167, 0, 7, 42, 182, 0, 255, 172]
abbrev dktX3_cleared_3 : List UInt8 := dkwX3_cleared_3 ++ []
def dkwX3_cleared_2 : List UInt8 := [29, 42, 182, 1, 18, 42, 180, 1, 9, 104, 96, 62, 42, 182, 1, 21, 132, 4, 1, 167, 255, 230, 28]
abbrev dktX3_cleared_2 : List UInt8 := dkwX3_cleared_2 ++ dktX3_cleared_3
def dkwX3_cleared_1 : List UInt8 := [154, 0, 6, 16, 254, 172, 42, 27, 2, 182, 0, 234, 3, 62, 3, 54, 4, 42, 182, 1, 15, 158, 0, 25]
abbrev dktX3_cleared_1 : List UInt8 := dkwX3_cleared_1 ++ dktX3_cleared_2
def dkwX3_cleared_0 : List UInt8 := [42, 3, 181, 0, 1, 42, 27, 182, 0, 205, 153, 0, 15, 28, 133, 9, 20, 0, 245, 184, 0, 103]
abbrev dktX3_cleared_0 : List UInt8 := dkwX3_cleared_0 ++ dktX3_cleared_1
theorem dksX3_cleared_0 : cX3_cleared.data.toList.drop 0 = dktX3_cleared_0 := by decide +kernel
theorem dksX3_cleared_1 : cX3_cleared.data.toList.drop 22 = dktX3_cleared_1 := dk_seg dksX3_cleared_0 22 rfl rfl
theorem dksX3_cleared_2 : cX3_cleared.data.toList.drop 46 = dktX3_cleared_2 := dk_seg dksX3_cleared_1 24 rfl rfl
theorem dksX3_cleared_3 : cX3_cleared.data.toList.drop 69 = dktX3_cleared_3 := dk_seg dksX3_cleared_2 23 rfl rfl
theorem dX3_cleared_0 : decode cX3_cleared 0 = .ok (.aload_n 0, 1) := dk_42 (dk_at dksX3_cleared_0 0 rfl rfl)
theorem dX3_cleared_1 : decode cX3_cleared 1 = .ok (.iconst 0, 1) := dk_3 (dk_at dksX3_cleared_0 1 rfl rfl)
theorem dX3_cleared_2 : decode cX3_cleared 2 = .ok (.putfield 1, 3) := dk_181 0 1 (dk_at dksX3_cleared_0 2 rfl rfl)
theorem dX3_cleared_5 : decode cX3_cleared 5 = .ok (.aload_n 0, 1) := dk_42 (dk_at dksX3_cleared_0 5 rfl rfl)
theorem dX3_cleared_6 : decode cX3_cleared 6 = .ok (.iload_n 1, 1) := dk_27 (dk_at dksX3_cleared_0 6 rfl rfl)
theorem dX3_cleared_7 : decode cX3_cleared 7 = .ok (.invokevirtual 205, 3) := dk_182 0 205 (dk_at dksX3_cleared_0 7 rfl rfl)
theorem dX3_cleared_10 : decode cX3_cleared 10 = .ok (.ifCond .eq 15, 3) := dk_153 0 15 (dk_at dksX3_cleared_0 10 rfl rfl)
theorem dX3_cleared_13 : decode cX3_cleared 13 = .ok (.iload_n 2, 1) := dk_28 (dk_at dksX3_cleared_0 13 rfl rfl)
theorem dX3_cleared_14 : decode cX3_cleared 14 = .ok (.i2l, 1) := dk_133 (dk_at dksX3_cleared_0 14 rfl rfl)
theorem dX3_cleared_15 : decode cX3_cleared 15 = .ok (.lconst 0, 1) := dk_9 (dk_at dksX3_cleared_0 15 rfl rfl)
theorem dX3_cleared_16 : decode cX3_cleared 16 = .ok (.ldc2_w 245, 3) := dk_20 0 245 (dk_at dksX3_cleared_0 16 rfl rfl)
theorem dX3_cleared_19 : decode cX3_cleared 19 = .ok (.invokestatic 103, 3) := dk_184 0 103 (dk_at dksX3_cleared_0 19 rfl rfl)
theorem dX3_cleared_22 : decode cX3_cleared 22 = .ok (.ifCond .ne 6, 3) := dk_154 0 6 (dk_at dksX3_cleared_1 0 rfl rfl)
theorem dX3_cleared_25 : decode cX3_cleared 25 = .ok (.bipush (-2), 2) := dk_16 254 (dk_at dksX3_cleared_1 3 rfl rfl)
theorem dX3_cleared_27 : decode cX3_cleared 27 = .ok (.ireturn, 1) := dk_172 (dk_at dksX3_cleared_1 5 rfl rfl)
theorem dX3_cleared_28 : decode cX3_cleared 28 = .ok (.aload_n 0, 1) := dk_42 (dk_at dksX3_cleared_1 6 rfl rfl)
theorem dX3_cleared_29 : decode cX3_cleared 29 = .ok (.iload_n 1, 1) := dk_27 (dk_at dksX3_cleared_1 7 rfl rfl)
theorem dX3_cleared_30 : decode cX3_cleared 30 = .ok (.iconst (-1), 1) := dk_2 (dk_at dksX3_cleared_1 8 rfl rfl)
theorem dX3_cleared_31 : decode cX3_cleared 31 = .ok (.invokevirtual 234, 3) := dk_182 0 234 (dk_at dksX3_cleared_1 9 rfl rfl)
theorem dX3_cleared_34 : decode cX3_cleared 34 = .ok (.iconst 0, 1) := dk_3 (dk_at dksX3_cleared_1 12 rfl rfl)
theorem dX3_cleared_35 : decode cX3_cleared 35 = .ok (.istore_n 3, 1) := dk_62 (dk_at dksX3_cleared_1 13 rfl rfl)
theorem dX3_cleared_36 : decode cX3_cleared 36 = .ok (.iconst 0, 1) := dk_3 (dk_at dksX3_cleared_1 14 rfl rfl)
theorem dX3_cleared_37 : decode cX3_cleared 37 = .ok (.istore 4, 2) := dk_54 4 (dk_at dksX3_cleared_1 15 rfl rfl)
theorem dX3_cleared_39 : decode cX3_cleared 39 = .ok (.aload_n 0, 1) := dk_42 (dk_at dksX3_cleared_1 17 rfl rfl)
theorem dX3_cleared_40 : decode cX3_cleared 40 = .ok (.invokevirtual 271, 3) := dk_182 1 15 (dk_at dksX3_cleared_1 18 rfl rfl)
theorem dX3_cleared_43 : decode cX3_cleared 43 = .ok (.ifCond .le 25, 3) := dk_158 0 25 (dk_at dksX3_cleared_1 21 rfl rfl)
theorem dX3_cleared_46 : decode cX3_cleared 46 = .ok (.iload_n 3, 1) := dk_29 (dk_at dksX3_cleared_2 0 rfl rfl)
theorem dX3_cleared_47 : decode cX3_cleared 47 = .ok (.aload_n 0, 1) := dk_42 (dk_at dksX3_cleared_2 1 rfl rfl)
theorem dX3_cleared_48 : decode cX3_cleared 48 = .ok (.invokevirtual 274, 3) := dk_182 1 18 (dk_at dksX3_cleared_2 2 rfl rfl)
theorem dX3_cleared_51 : decode cX3_cleared 51 = .ok (.aload_n 0, 1) := dk_42 (dk_at dksX3_cleared_2 5 rfl rfl)
theorem dX3_cleared_52 : decode cX3_cleared 52 = .ok (.getfield 265, 3) := dk_180 1 9 (dk_at dksX3_cleared_2 6 rfl rfl)
theorem dX3_cleared_55 : decode cX3_cleared 55 = .ok (.imul, 1) := dk_104 (dk_at dksX3_cleared_2 9 rfl rfl)
theorem dX3_cleared_56 : decode cX3_cleared 56 = .ok (.iadd, 1) := dk_96 (dk_at dksX3_cleared_2 10 rfl rfl)
theorem dX3_cleared_57 : decode cX3_cleared 57 = .ok (.istore_n 3, 1) := dk_62 (dk_at dksX3_cleared_2 11 rfl rfl)
theorem dX3_cleared_58 : decode cX3_cleared 58 = .ok (.aload_n 0, 1) := dk_42 (dk_at dksX3_cleared_2 12 rfl rfl)
theorem dX3_cleared_59 : decode cX3_cleared 59 = .ok (.invokevirtual 277, 3) := dk_182 1 21 (dk_at dksX3_cleared_2 13 rfl rfl)
theorem dX3_cleared_62 : decode cX3_cleared 62 = .ok (.iinc 4 1, 3) := dk_132 4 1 (dk_at dksX3_cleared_2 16 rfl rfl)
theorem dX3_cleared_65 : decode cX3_cleared 65 = .ok (.goto (-26), 3) := dk_167 255 230 (dk_at dksX3_cleared_2 19 rfl rfl)
theorem dX3_cleared_68 : decode cX3_cleared 68 = .ok (.iload_n 2, 1) := dk_28 (dk_at dksX3_cleared_2 22 rfl rfl)
theorem dX3_cleared_69 : decode cX3_cleared 69 = .ok (.ifCond .ne 7, 3) := dk_154 0 7 (dk_at dksX3_cleared_3 0 rfl rfl)
theorem dX3_cleared_72 : decode cX3_cleared 72 = .ok (.iload_n 3, 1) := dk_29 (dk_at dksX3_cleared_3 3 rfl rfl)
theorem dX3_cleared_73 : decode cX3_cleared 73 = .ok (.goto 17, 3) := dk_167 0 17 (dk_at dksX3_cleared_3 4 rfl rfl)
theorem dX3_cleared_76 : decode cX3_cleared 76 = .ok (.iload_n 2, 1) := dk_28 (dk_at dksX3_cleared_3 7 rfl rfl)
theorem dX3_cleared_77 : decode cX3_cleared 77 = .ok (.iconst 1, 1) := dk_4 (dk_at dksX3_cleared_3 8 rfl rfl)
theorem dX3_cleared_78 : decode cX3_cleared 78 = .ok (.if_icmp .ne 8, 3) := dk_160 0 8 (dk_at dksX3_cleared_3 9 rfl rfl)
theorem dX3_cleared_81 : decode cX3_cleared 81 = .ok (.iload 4, 2) := dk_21 4 (dk_at dksX3_cleared_3 12 rfl rfl)
theorem dX3_cleared_83 : decode cX3_cleared 83 = .ok (.goto 7, 3) := dk_167 0 7 (dk_at dksX3_cleared_3 14 rfl rfl)
theorem dX3_cleared_86 : decode cX3_cleared 86 = .ok (.aload_n 0, 1) := dk_42 (dk_at dksX3_cleared_3 17 rfl rfl)
theorem dX3_cleared_87 : decode cX3_cleared 87 = .ok (.invokevirtual 255, 3) := dk_182 0 255 (dk_at dksX3_cleared_3 18 rfl rfl)
theorem dX3_cleared_90 : decode cX3_cleared 90 = .ok (.ireturn, 1) := dk_172 (dk_at dksX3_cleared_3 21 rfl rfl)
abbrev cX3_ringGoes : ByteArray := prog_15_method_60_code
def yX3_ringGoes : MethodName := ⟨RX3, "ringGoes", "()V"⟩
def dkwX3_ringGoes_1 : List UInt8 := [92, 46, 27, 100, 79, 132, 2, 1, 167, 255, 231, 177]
abbrev dktX3_ringGoes_1 : List UInt8 := dkwX3_ringGoes_1 ++ []
def dkwX3_ringGoes_0 : List UInt8 := [42, 182, 1, 18, 60, 3, 61, 28, 42, 180, 1, 9, 162, 0, 23, 42, 180, 0, 37, 42, 28, 182, 1, 12]
abbrev dktX3_ringGoes_0 : List UInt8 := dkwX3_ringGoes_0 ++ dktX3_ringGoes_1
theorem dksX3_ringGoes_0 : cX3_ringGoes.data.toList.drop 0 = dktX3_ringGoes_0 := by decide +kernel
theorem dksX3_ringGoes_1 : cX3_ringGoes.data.toList.drop 24 = dktX3_ringGoes_1 := dk_seg dksX3_ringGoes_0 24 rfl rfl
theorem dX3_ringGoes_0 : decode cX3_ringGoes 0 = .ok (.aload_n 0, 1) := dk_42 (dk_at dksX3_ringGoes_0 0 rfl rfl)
theorem dX3_ringGoes_1 : decode cX3_ringGoes 1 = .ok (.invokevirtual 274, 3) := dk_182 1 18 (dk_at dksX3_ringGoes_0 1 rfl rfl)
theorem dX3_ringGoes_4 : decode cX3_ringGoes 4 = .ok (.istore_n 1, 1) := dk_60 (dk_at dksX3_ringGoes_0 4 rfl rfl)
theorem dX3_ringGoes_5 : decode cX3_ringGoes 5 = .ok (.iconst 0, 1) := dk_3 (dk_at dksX3_ringGoes_0 5 rfl rfl)
theorem dX3_ringGoes_6 : decode cX3_ringGoes 6 = .ok (.istore_n 2, 1) := dk_61 (dk_at dksX3_ringGoes_0 6 rfl rfl)
theorem dX3_ringGoes_7 : decode cX3_ringGoes 7 = .ok (.iload_n 2, 1) := dk_28 (dk_at dksX3_ringGoes_0 7 rfl rfl)
theorem dX3_ringGoes_8 : decode cX3_ringGoes 8 = .ok (.aload_n 0, 1) := dk_42 (dk_at dksX3_ringGoes_0 8 rfl rfl)
theorem dX3_ringGoes_9 : decode cX3_ringGoes 9 = .ok (.getfield 265, 3) := dk_180 1 9 (dk_at dksX3_ringGoes_0 9 rfl rfl)
theorem dX3_ringGoes_12 : decode cX3_ringGoes 12 = .ok (.if_icmp .ge 23, 3) := dk_162 0 23 (dk_at dksX3_ringGoes_0 12 rfl rfl)
theorem dX3_ringGoes_15 : decode cX3_ringGoes 15 = .ok (.aload_n 0, 1) := dk_42 (dk_at dksX3_ringGoes_0 15 rfl rfl)
theorem dX3_ringGoes_16 : decode cX3_ringGoes 16 = .ok (.getfield 37, 3) := dk_180 0 37 (dk_at dksX3_ringGoes_0 16 rfl rfl)
theorem dX3_ringGoes_19 : decode cX3_ringGoes 19 = .ok (.aload_n 0, 1) := dk_42 (dk_at dksX3_ringGoes_0 19 rfl rfl)
theorem dX3_ringGoes_20 : decode cX3_ringGoes 20 = .ok (.iload_n 2, 1) := dk_28 (dk_at dksX3_ringGoes_0 20 rfl rfl)
theorem dX3_ringGoes_21 : decode cX3_ringGoes 21 = .ok (.invokevirtual 268, 3) := dk_182 1 12 (dk_at dksX3_ringGoes_0 21 rfl rfl)
theorem dX3_ringGoes_24 : decode cX3_ringGoes 24 = .ok (.dup2, 1) := dk_92 (dk_at dksX3_ringGoes_1 0 rfl rfl)
theorem dX3_ringGoes_25 : decode cX3_ringGoes 25 = .ok (.iaload, 1) := dk_46 (dk_at dksX3_ringGoes_1 1 rfl rfl)
theorem dX3_ringGoes_26 : decode cX3_ringGoes 26 = .ok (.iload_n 1, 1) := dk_27 (dk_at dksX3_ringGoes_1 2 rfl rfl)
theorem dX3_ringGoes_27 : decode cX3_ringGoes 27 = .ok (.isub, 1) := dk_100 (dk_at dksX3_ringGoes_1 3 rfl rfl)
theorem dX3_ringGoes_28 : decode cX3_ringGoes 28 = .ok (.iastore, 1) := dk_79 (dk_at dksX3_ringGoes_1 4 rfl rfl)
theorem dX3_ringGoes_29 : decode cX3_ringGoes 29 = .ok (.iinc 2 1, 3) := dk_132 2 1 (dk_at dksX3_ringGoes_1 5 rfl rfl)
theorem dX3_ringGoes_32 : decode cX3_ringGoes 32 = .ok (.goto (-25), 3) := dk_167 255 231 (dk_at dksX3_ringGoes_1 8 rfl rfl)
theorem dX3_ringGoes_35 : decode cX3_ringGoes 35 = .ok (.return_, 1) := dk_177 (dk_at dksX3_ringGoes_1 11 rfl rfl)
abbrev cX3_rounds : ByteArray := prog_15_method_62_code
def yX3_rounds : MethodName := ⟨RX3, "rounds", "(II)I"⟩
def dkwX3_rounds_2 : List UInt8 := [182, 1, 15, 158, 0, 13, 42, 182, 1, 21, 132, 3, 1, 167, 255, 237, 42, 182, 0, 252, 172]
abbrev dktX3_rounds_2 : List UInt8 := dkwX3_rounds_2 ++ []
def dkwX3_rounds_1 : List UInt8 := [184, 0, 103, 154, 0, 6, 16, 253, 172, 42, 27, 2, 182, 0, 234, 3, 62, 29, 28, 162, 0, 20, 42]
abbrev dktX3_rounds_1 : List UInt8 := dkwX3_rounds_1 ++ dktX3_rounds_2
def dkwX3_rounds_0 : List UInt8 := [42, 3, 181, 0, 1, 42, 27, 182, 0, 205, 154, 0, 6, 16, 254, 172, 28, 133, 9, 20, 1, 24]
abbrev dktX3_rounds_0 : List UInt8 := dkwX3_rounds_0 ++ dktX3_rounds_1
theorem dksX3_rounds_0 : cX3_rounds.data.toList.drop 0 = dktX3_rounds_0 := by decide +kernel
theorem dksX3_rounds_1 : cX3_rounds.data.toList.drop 22 = dktX3_rounds_1 := dk_seg dksX3_rounds_0 22 rfl rfl
theorem dksX3_rounds_2 : cX3_rounds.data.toList.drop 45 = dktX3_rounds_2 := dk_seg dksX3_rounds_1 23 rfl rfl
theorem dX3_rounds_0 : decode cX3_rounds 0 = .ok (.aload_n 0, 1) := dk_42 (dk_at dksX3_rounds_0 0 rfl rfl)
theorem dX3_rounds_1 : decode cX3_rounds 1 = .ok (.iconst 0, 1) := dk_3 (dk_at dksX3_rounds_0 1 rfl rfl)
theorem dX3_rounds_2 : decode cX3_rounds 2 = .ok (.putfield 1, 3) := dk_181 0 1 (dk_at dksX3_rounds_0 2 rfl rfl)
theorem dX3_rounds_5 : decode cX3_rounds 5 = .ok (.aload_n 0, 1) := dk_42 (dk_at dksX3_rounds_0 5 rfl rfl)
theorem dX3_rounds_6 : decode cX3_rounds 6 = .ok (.iload_n 1, 1) := dk_27 (dk_at dksX3_rounds_0 6 rfl rfl)
theorem dX3_rounds_7 : decode cX3_rounds 7 = .ok (.invokevirtual 205, 3) := dk_182 0 205 (dk_at dksX3_rounds_0 7 rfl rfl)
theorem dX3_rounds_10 : decode cX3_rounds 10 = .ok (.ifCond .ne 6, 3) := dk_154 0 6 (dk_at dksX3_rounds_0 10 rfl rfl)
theorem dX3_rounds_13 : decode cX3_rounds 13 = .ok (.bipush (-2), 2) := dk_16 254 (dk_at dksX3_rounds_0 13 rfl rfl)
theorem dX3_rounds_15 : decode cX3_rounds 15 = .ok (.ireturn, 1) := dk_172 (dk_at dksX3_rounds_0 15 rfl rfl)
theorem dX3_rounds_16 : decode cX3_rounds 16 = .ok (.iload_n 2, 1) := dk_28 (dk_at dksX3_rounds_0 16 rfl rfl)
theorem dX3_rounds_17 : decode cX3_rounds 17 = .ok (.i2l, 1) := dk_133 (dk_at dksX3_rounds_0 17 rfl rfl)
theorem dX3_rounds_18 : decode cX3_rounds 18 = .ok (.lconst 0, 1) := dk_9 (dk_at dksX3_rounds_0 18 rfl rfl)
theorem dX3_rounds_19 : decode cX3_rounds 19 = .ok (.ldc2_w 280, 3) := dk_20 1 24 (dk_at dksX3_rounds_0 19 rfl rfl)
theorem dX3_rounds_22 : decode cX3_rounds 22 = .ok (.invokestatic 103, 3) := dk_184 0 103 (dk_at dksX3_rounds_1 0 rfl rfl)
theorem dX3_rounds_25 : decode cX3_rounds 25 = .ok (.ifCond .ne 6, 3) := dk_154 0 6 (dk_at dksX3_rounds_1 3 rfl rfl)
theorem dX3_rounds_28 : decode cX3_rounds 28 = .ok (.bipush (-3), 2) := dk_16 253 (dk_at dksX3_rounds_1 6 rfl rfl)
theorem dX3_rounds_30 : decode cX3_rounds 30 = .ok (.ireturn, 1) := dk_172 (dk_at dksX3_rounds_1 8 rfl rfl)
theorem dX3_rounds_31 : decode cX3_rounds 31 = .ok (.aload_n 0, 1) := dk_42 (dk_at dksX3_rounds_1 9 rfl rfl)
theorem dX3_rounds_32 : decode cX3_rounds 32 = .ok (.iload_n 1, 1) := dk_27 (dk_at dksX3_rounds_1 10 rfl rfl)
theorem dX3_rounds_33 : decode cX3_rounds 33 = .ok (.iconst (-1), 1) := dk_2 (dk_at dksX3_rounds_1 11 rfl rfl)
theorem dX3_rounds_34 : decode cX3_rounds 34 = .ok (.invokevirtual 234, 3) := dk_182 0 234 (dk_at dksX3_rounds_1 12 rfl rfl)
theorem dX3_rounds_37 : decode cX3_rounds 37 = .ok (.iconst 0, 1) := dk_3 (dk_at dksX3_rounds_1 15 rfl rfl)
theorem dX3_rounds_38 : decode cX3_rounds 38 = .ok (.istore_n 3, 1) := dk_62 (dk_at dksX3_rounds_1 16 rfl rfl)
theorem dX3_rounds_39 : decode cX3_rounds 39 = .ok (.iload_n 3, 1) := dk_29 (dk_at dksX3_rounds_1 17 rfl rfl)
theorem dX3_rounds_40 : decode cX3_rounds 40 = .ok (.iload_n 2, 1) := dk_28 (dk_at dksX3_rounds_1 18 rfl rfl)
theorem dX3_rounds_41 : decode cX3_rounds 41 = .ok (.if_icmp .ge 20, 3) := dk_162 0 20 (dk_at dksX3_rounds_1 19 rfl rfl)
theorem dX3_rounds_44 : decode cX3_rounds 44 = .ok (.aload_n 0, 1) := dk_42 (dk_at dksX3_rounds_1 22 rfl rfl)
theorem dX3_rounds_45 : decode cX3_rounds 45 = .ok (.invokevirtual 271, 3) := dk_182 1 15 (dk_at dksX3_rounds_2 0 rfl rfl)
theorem dX3_rounds_48 : decode cX3_rounds 48 = .ok (.ifCond .le 13, 3) := dk_158 0 13 (dk_at dksX3_rounds_2 3 rfl rfl)
theorem dX3_rounds_51 : decode cX3_rounds 51 = .ok (.aload_n 0, 1) := dk_42 (dk_at dksX3_rounds_2 6 rfl rfl)
theorem dX3_rounds_52 : decode cX3_rounds 52 = .ok (.invokevirtual 277, 3) := dk_182 1 21 (dk_at dksX3_rounds_2 7 rfl rfl)
theorem dX3_rounds_55 : decode cX3_rounds 55 = .ok (.iinc 3 1, 3) := dk_132 3 1 (dk_at dksX3_rounds_2 10 rfl rfl)
theorem dX3_rounds_58 : decode cX3_rounds 58 = .ok (.goto (-19), 3) := dk_167 255 237 (dk_at dksX3_rounds_2 13 rfl rfl)
theorem dX3_rounds_61 : decode cX3_rounds 61 = .ok (.aload_n 0, 1) := dk_42 (dk_at dksX3_rounds_2 16 rfl rfl)
theorem dX3_rounds_62 : decode cX3_rounds 62 = .ok (.invokevirtual 252, 3) := dk_182 0 252 (dk_at dksX3_rounds_2 17 rfl rfl)
theorem dX3_rounds_65 : decode cX3_rounds 65 = .ok (.ireturn, 1) := dk_172 (dk_at dksX3_rounds_2 20 rfl rfl)
abbrev cX3_chain : ByteArray := prog_15_method_65_code
def yX3_chain : MethodName := ⟨RX3, "chain", "(II)I"⟩
def dkwX3_chain_5 : List UInt8 := [172]
abbrev dktX3_chain_5 : List UInt8 := dkwX3_chain_5 ++ []
def dkwX3_chain_4 : List UInt8 := [28, 163, 0, 21, 42, 21, 4, 29, 21, 5, 100, 182, 1, 29, 54, 4, 132, 5, 1, 167, 255, 235, 21, 4]
abbrev dktX3_chain_4 : List UInt8 := dkwX3_chain_4 ++ dktX3_chain_5
def dkwX3_chain_3 : List UInt8 := [54, 4, 42, 180, 0, 43, 21, 4, 46, 29, 162, 0, 9, 132, 4, 1, 167, 255, 242, 4, 54, 5, 21, 5]
abbrev dktX3_chain_3 : List UInt8 := dkwX3_chain_3 ++ dktX3_chain_4
def dkwX3_chain_2 : List UInt8 := [62, 28, 2, 159, 0, 8, 28, 29, 161, 0, 14, 28, 2, 160, 0, 7, 29, 167, 0, 4, 2, 172, 3]
abbrev dktX3_chain_2 : List UInt8 := dkwX3_chain_2 ++ dktX3_chain_3
def dkwX3_chain_1 : List UInt8 := [42, 27, 2, 182, 0, 234, 42, 182, 1, 15, 158, 0, 10, 42, 182, 1, 21, 167, 255, 245, 42, 182, 1, 26]
abbrev dktX3_chain_1 : List UInt8 := dkwX3_chain_1 ++ dktX3_chain_2
def dkwX3_chain_0 : List UInt8 := [42, 3, 181, 0, 1, 42, 27, 182, 0, 205, 154, 0, 6, 16, 254, 172, 28, 2, 162, 0, 6, 16, 253, 172]
abbrev dktX3_chain_0 : List UInt8 := dkwX3_chain_0 ++ dktX3_chain_1
theorem dksX3_chain_0 : cX3_chain.data.toList.drop 0 = dktX3_chain_0 := by decide +kernel
theorem dksX3_chain_1 : cX3_chain.data.toList.drop 24 = dktX3_chain_1 := dk_seg dksX3_chain_0 24 rfl rfl
theorem dksX3_chain_2 : cX3_chain.data.toList.drop 48 = dktX3_chain_2 := dk_seg dksX3_chain_1 24 rfl rfl
theorem dksX3_chain_3 : cX3_chain.data.toList.drop 71 = dktX3_chain_3 := dk_seg dksX3_chain_2 23 rfl rfl
theorem dksX3_chain_4 : cX3_chain.data.toList.drop 95 = dktX3_chain_4 := dk_seg dksX3_chain_3 24 rfl rfl
theorem dksX3_chain_5 : cX3_chain.data.toList.drop 119 = dktX3_chain_5 := dk_seg dksX3_chain_4 24 rfl rfl
theorem dX3_chain_0 : decode cX3_chain 0 = .ok (.aload_n 0, 1) := dk_42 (dk_at dksX3_chain_0 0 rfl rfl)
theorem dX3_chain_1 : decode cX3_chain 1 = .ok (.iconst 0, 1) := dk_3 (dk_at dksX3_chain_0 1 rfl rfl)
theorem dX3_chain_2 : decode cX3_chain 2 = .ok (.putfield 1, 3) := dk_181 0 1 (dk_at dksX3_chain_0 2 rfl rfl)
theorem dX3_chain_5 : decode cX3_chain 5 = .ok (.aload_n 0, 1) := dk_42 (dk_at dksX3_chain_0 5 rfl rfl)
theorem dX3_chain_6 : decode cX3_chain 6 = .ok (.iload_n 1, 1) := dk_27 (dk_at dksX3_chain_0 6 rfl rfl)
theorem dX3_chain_7 : decode cX3_chain 7 = .ok (.invokevirtual 205, 3) := dk_182 0 205 (dk_at dksX3_chain_0 7 rfl rfl)
theorem dX3_chain_10 : decode cX3_chain 10 = .ok (.ifCond .ne 6, 3) := dk_154 0 6 (dk_at dksX3_chain_0 10 rfl rfl)
theorem dX3_chain_13 : decode cX3_chain 13 = .ok (.bipush (-2), 2) := dk_16 254 (dk_at dksX3_chain_0 13 rfl rfl)
theorem dX3_chain_15 : decode cX3_chain 15 = .ok (.ireturn, 1) := dk_172 (dk_at dksX3_chain_0 15 rfl rfl)
theorem dX3_chain_16 : decode cX3_chain 16 = .ok (.iload_n 2, 1) := dk_28 (dk_at dksX3_chain_0 16 rfl rfl)
theorem dX3_chain_17 : decode cX3_chain 17 = .ok (.iconst (-1), 1) := dk_2 (dk_at dksX3_chain_0 17 rfl rfl)
theorem dX3_chain_18 : decode cX3_chain 18 = .ok (.if_icmp .ge 6, 3) := dk_162 0 6 (dk_at dksX3_chain_0 18 rfl rfl)
theorem dX3_chain_21 : decode cX3_chain 21 = .ok (.bipush (-3), 2) := dk_16 253 (dk_at dksX3_chain_0 21 rfl rfl)
theorem dX3_chain_23 : decode cX3_chain 23 = .ok (.ireturn, 1) := dk_172 (dk_at dksX3_chain_0 23 rfl rfl)
theorem dX3_chain_24 : decode cX3_chain 24 = .ok (.aload_n 0, 1) := dk_42 (dk_at dksX3_chain_1 0 rfl rfl)
theorem dX3_chain_25 : decode cX3_chain 25 = .ok (.iload_n 1, 1) := dk_27 (dk_at dksX3_chain_1 1 rfl rfl)
theorem dX3_chain_26 : decode cX3_chain 26 = .ok (.iconst (-1), 1) := dk_2 (dk_at dksX3_chain_1 2 rfl rfl)
theorem dX3_chain_27 : decode cX3_chain 27 = .ok (.invokevirtual 234, 3) := dk_182 0 234 (dk_at dksX3_chain_1 3 rfl rfl)
theorem dX3_chain_30 : decode cX3_chain 30 = .ok (.aload_n 0, 1) := dk_42 (dk_at dksX3_chain_1 6 rfl rfl)
theorem dX3_chain_31 : decode cX3_chain 31 = .ok (.invokevirtual 271, 3) := dk_182 1 15 (dk_at dksX3_chain_1 7 rfl rfl)
theorem dX3_chain_34 : decode cX3_chain 34 = .ok (.ifCond .le 10, 3) := dk_158 0 10 (dk_at dksX3_chain_1 10 rfl rfl)
theorem dX3_chain_37 : decode cX3_chain 37 = .ok (.aload_n 0, 1) := dk_42 (dk_at dksX3_chain_1 13 rfl rfl)
theorem dX3_chain_38 : decode cX3_chain 38 = .ok (.invokevirtual 277, 3) := dk_182 1 21 (dk_at dksX3_chain_1 14 rfl rfl)
theorem dX3_chain_41 : decode cX3_chain 41 = .ok (.goto (-11), 3) := dk_167 255 245 (dk_at dksX3_chain_1 17 rfl rfl)
theorem dX3_chain_44 : decode cX3_chain 44 = .ok (.aload_n 0, 1) := dk_42 (dk_at dksX3_chain_1 20 rfl rfl)
theorem dX3_chain_45 : decode cX3_chain 45 = .ok (.invokevirtual 282, 3) := dk_182 1 26 (dk_at dksX3_chain_1 21 rfl rfl)
theorem dX3_chain_48 : decode cX3_chain 48 = .ok (.istore_n 3, 1) := dk_62 (dk_at dksX3_chain_2 0 rfl rfl)
theorem dX3_chain_49 : decode cX3_chain 49 = .ok (.iload_n 2, 1) := dk_28 (dk_at dksX3_chain_2 1 rfl rfl)
theorem dX3_chain_50 : decode cX3_chain 50 = .ok (.iconst (-1), 1) := dk_2 (dk_at dksX3_chain_2 2 rfl rfl)
theorem dX3_chain_51 : decode cX3_chain 51 = .ok (.if_icmp .eq 8, 3) := dk_159 0 8 (dk_at dksX3_chain_2 3 rfl rfl)
theorem dX3_chain_54 : decode cX3_chain 54 = .ok (.iload_n 2, 1) := dk_28 (dk_at dksX3_chain_2 6 rfl rfl)
theorem dX3_chain_55 : decode cX3_chain 55 = .ok (.iload_n 3, 1) := dk_29 (dk_at dksX3_chain_2 7 rfl rfl)
theorem dX3_chain_56 : decode cX3_chain 56 = .ok (.if_icmp .lt 14, 3) := dk_161 0 14 (dk_at dksX3_chain_2 8 rfl rfl)
theorem dX3_chain_59 : decode cX3_chain 59 = .ok (.iload_n 2, 1) := dk_28 (dk_at dksX3_chain_2 11 rfl rfl)
theorem dX3_chain_60 : decode cX3_chain 60 = .ok (.iconst (-1), 1) := dk_2 (dk_at dksX3_chain_2 12 rfl rfl)
theorem dX3_chain_61 : decode cX3_chain 61 = .ok (.if_icmp .ne 7, 3) := dk_160 0 7 (dk_at dksX3_chain_2 13 rfl rfl)
theorem dX3_chain_64 : decode cX3_chain 64 = .ok (.iload_n 3, 1) := dk_29 (dk_at dksX3_chain_2 16 rfl rfl)
theorem dX3_chain_65 : decode cX3_chain 65 = .ok (.goto 4, 3) := dk_167 0 4 (dk_at dksX3_chain_2 17 rfl rfl)
theorem dX3_chain_68 : decode cX3_chain 68 = .ok (.iconst (-1), 1) := dk_2 (dk_at dksX3_chain_2 20 rfl rfl)
theorem dX3_chain_69 : decode cX3_chain 69 = .ok (.ireturn, 1) := dk_172 (dk_at dksX3_chain_2 21 rfl rfl)
theorem dX3_chain_70 : decode cX3_chain 70 = .ok (.iconst 0, 1) := dk_3 (dk_at dksX3_chain_2 22 rfl rfl)
theorem dX3_chain_71 : decode cX3_chain 71 = .ok (.istore 4, 2) := dk_54 4 (dk_at dksX3_chain_3 0 rfl rfl)
theorem dX3_chain_73 : decode cX3_chain 73 = .ok (.aload_n 0, 1) := dk_42 (dk_at dksX3_chain_3 2 rfl rfl)
theorem dX3_chain_74 : decode cX3_chain 74 = .ok (.getfield 43, 3) := dk_180 0 43 (dk_at dksX3_chain_3 3 rfl rfl)
theorem dX3_chain_77 : decode cX3_chain 77 = .ok (.iload 4, 2) := dk_21 4 (dk_at dksX3_chain_3 6 rfl rfl)
theorem dX3_chain_79 : decode cX3_chain 79 = .ok (.iaload, 1) := dk_46 (dk_at dksX3_chain_3 8 rfl rfl)
theorem dX3_chain_80 : decode cX3_chain 80 = .ok (.iload_n 3, 1) := dk_29 (dk_at dksX3_chain_3 9 rfl rfl)
theorem dX3_chain_81 : decode cX3_chain 81 = .ok (.if_icmp .ge 9, 3) := dk_162 0 9 (dk_at dksX3_chain_3 10 rfl rfl)
theorem dX3_chain_84 : decode cX3_chain 84 = .ok (.iinc 4 1, 3) := dk_132 4 1 (dk_at dksX3_chain_3 13 rfl rfl)
theorem dX3_chain_87 : decode cX3_chain 87 = .ok (.goto (-14), 3) := dk_167 255 242 (dk_at dksX3_chain_3 16 rfl rfl)
theorem dX3_chain_90 : decode cX3_chain 90 = .ok (.iconst 1, 1) := dk_4 (dk_at dksX3_chain_3 19 rfl rfl)
theorem dX3_chain_91 : decode cX3_chain 91 = .ok (.istore 5, 2) := dk_54 5 (dk_at dksX3_chain_3 20 rfl rfl)
theorem dX3_chain_93 : decode cX3_chain 93 = .ok (.iload 5, 2) := dk_21 5 (dk_at dksX3_chain_3 22 rfl rfl)
theorem dX3_chain_95 : decode cX3_chain 95 = .ok (.iload_n 2, 1) := dk_28 (dk_at dksX3_chain_4 0 rfl rfl)
theorem dX3_chain_96 : decode cX3_chain 96 = .ok (.if_icmp .gt 21, 3) := dk_163 0 21 (dk_at dksX3_chain_4 1 rfl rfl)
theorem dX3_chain_99 : decode cX3_chain 99 = .ok (.aload_n 0, 1) := dk_42 (dk_at dksX3_chain_4 4 rfl rfl)
theorem dX3_chain_100 : decode cX3_chain 100 = .ok (.iload 4, 2) := dk_21 4 (dk_at dksX3_chain_4 5 rfl rfl)
theorem dX3_chain_102 : decode cX3_chain 102 = .ok (.iload_n 3, 1) := dk_29 (dk_at dksX3_chain_4 7 rfl rfl)
theorem dX3_chain_103 : decode cX3_chain 103 = .ok (.iload 5, 2) := dk_21 5 (dk_at dksX3_chain_4 8 rfl rfl)
theorem dX3_chain_105 : decode cX3_chain 105 = .ok (.isub, 1) := dk_100 (dk_at dksX3_chain_4 10 rfl rfl)
theorem dX3_chain_106 : decode cX3_chain 106 = .ok (.invokevirtual 285, 3) := dk_182 1 29 (dk_at dksX3_chain_4 11 rfl rfl)
theorem dX3_chain_109 : decode cX3_chain 109 = .ok (.istore 4, 2) := dk_54 4 (dk_at dksX3_chain_4 14 rfl rfl)
theorem dX3_chain_111 : decode cX3_chain 111 = .ok (.iinc 5 1, 3) := dk_132 5 1 (dk_at dksX3_chain_4 16 rfl rfl)
theorem dX3_chain_114 : decode cX3_chain 114 = .ok (.goto (-21), 3) := dk_167 255 235 (dk_at dksX3_chain_4 19 rfl rfl)
theorem dX3_chain_117 : decode cX3_chain 117 = .ok (.iload 4, 2) := dk_21 4 (dk_at dksX3_chain_4 22 rfl rfl)
theorem dX3_chain_119 : decode cX3_chain 119 = .ok (.ireturn, 1) := dk_172 (dk_at dksX3_chain_5 0 rfl rfl)
abbrev cX3_laysRows : ByteArray := prog_15_method_64_code
def yX3_laysRows : MethodName := ⟨RX3, "laysRows", "()I"⟩
def dkwX3_laysRows_6 : List UInt8 := [167, 255, 145, 27, 5, 162, 0, 7, 3, 167, 0, 4, 27, 172]
abbrev dktX3_laysRows_6 : List UInt8 := dkwX3_laysRows_6 ++ []
def dkwX3_laysRows_5 : List UInt8 := [164, 0, 12, 42, 180, 0, 43, 29, 46, 167, 0, 4, 27, 60, 132, 3, 1, 167, 255, 161, 132, 2, 1]
abbrev dktX3_laysRows_5 : List UInt8 := dkwX3_laysRows_5 ++ dktX3_laysRows_6
def dkwX3_laysRows_4 : List UInt8 := [42, 180, 0, 43, 21, 4, 46, 4, 96, 79, 132, 4, 1, 167, 255, 199, 42, 180, 0, 43, 29, 46, 27]
abbrev dktX3_laysRows_4 : List UInt8 := dkwX3_laysRows_4 ++ dktX3_laysRows_5
def dkwX3_laysRows_3 : List UInt8 := [158, 0, 34, 42, 180, 0, 43, 21, 4, 46, 42, 180, 0, 43, 29, 46, 161, 0, 18, 42, 180, 0, 43, 29]
abbrev dktX3_laysRows_3 : List UInt8 := dkwX3_laysRows_3 ++ dktX3_laysRows_4
def dkwX3_laysRows_2 : List UInt8 := [54, 4, 21, 4, 42, 180, 0, 80, 162, 0, 54, 42, 180, 0, 37, 29, 21, 4, 184, 0, 229, 46]
abbrev dktX3_laysRows_2 : List UInt8 := dkwX3_laysRows_2 ++ dktX3_laysRows_3
def dkwX3_laysRows_1 : List UInt8 := [167, 255, 238, 3, 61, 28, 42, 180, 0, 80, 162, 0, 109, 3, 62, 29, 42, 180, 0, 80, 162, 0, 93, 3]
abbrev dktX3_laysRows_1 : List UInt8 := dkwX3_laysRows_1 ++ dktX3_laysRows_2
def dkwX3_laysRows_0 : List UInt8 := [3, 60, 3, 61, 28, 42, 180, 0, 80, 162, 0, 16, 42, 180, 0, 43, 28, 4, 79, 132, 2, 1]
abbrev dktX3_laysRows_0 : List UInt8 := dkwX3_laysRows_0 ++ dktX3_laysRows_1
theorem dksX3_laysRows_0 : cX3_laysRows.data.toList.drop 0 = dktX3_laysRows_0 := by decide +kernel
theorem dksX3_laysRows_1 : cX3_laysRows.data.toList.drop 22 = dktX3_laysRows_1 := dk_seg dksX3_laysRows_0 22 rfl rfl
theorem dksX3_laysRows_2 : cX3_laysRows.data.toList.drop 46 = dktX3_laysRows_2 := dk_seg dksX3_laysRows_1 24 rfl rfl
theorem dksX3_laysRows_3 : cX3_laysRows.data.toList.drop 68 = dktX3_laysRows_3 := dk_seg dksX3_laysRows_2 22 rfl rfl
theorem dksX3_laysRows_4 : cX3_laysRows.data.toList.drop 92 = dktX3_laysRows_4 := dk_seg dksX3_laysRows_3 24 rfl rfl
theorem dksX3_laysRows_5 : cX3_laysRows.data.toList.drop 115 = dktX3_laysRows_5 := dk_seg dksX3_laysRows_4 23 rfl rfl
theorem dksX3_laysRows_6 : cX3_laysRows.data.toList.drop 138 = dktX3_laysRows_6 := dk_seg dksX3_laysRows_5 23 rfl rfl
theorem dX3_laysRows_0 : decode cX3_laysRows 0 = .ok (.iconst 0, 1) := dk_3 (dk_at dksX3_laysRows_0 0 rfl rfl)
theorem dX3_laysRows_1 : decode cX3_laysRows 1 = .ok (.istore_n 1, 1) := dk_60 (dk_at dksX3_laysRows_0 1 rfl rfl)
theorem dX3_laysRows_2 : decode cX3_laysRows 2 = .ok (.iconst 0, 1) := dk_3 (dk_at dksX3_laysRows_0 2 rfl rfl)
theorem dX3_laysRows_3 : decode cX3_laysRows 3 = .ok (.istore_n 2, 1) := dk_61 (dk_at dksX3_laysRows_0 3 rfl rfl)
theorem dX3_laysRows_4 : decode cX3_laysRows 4 = .ok (.iload_n 2, 1) := dk_28 (dk_at dksX3_laysRows_0 4 rfl rfl)
theorem dX3_laysRows_5 : decode cX3_laysRows 5 = .ok (.aload_n 0, 1) := dk_42 (dk_at dksX3_laysRows_0 5 rfl rfl)
theorem dX3_laysRows_6 : decode cX3_laysRows 6 = .ok (.getfield 80, 3) := dk_180 0 80 (dk_at dksX3_laysRows_0 6 rfl rfl)
theorem dX3_laysRows_9 : decode cX3_laysRows 9 = .ok (.if_icmp .ge 16, 3) := dk_162 0 16 (dk_at dksX3_laysRows_0 9 rfl rfl)
theorem dX3_laysRows_12 : decode cX3_laysRows 12 = .ok (.aload_n 0, 1) := dk_42 (dk_at dksX3_laysRows_0 12 rfl rfl)
theorem dX3_laysRows_13 : decode cX3_laysRows 13 = .ok (.getfield 43, 3) := dk_180 0 43 (dk_at dksX3_laysRows_0 13 rfl rfl)
theorem dX3_laysRows_16 : decode cX3_laysRows 16 = .ok (.iload_n 2, 1) := dk_28 (dk_at dksX3_laysRows_0 16 rfl rfl)
theorem dX3_laysRows_17 : decode cX3_laysRows 17 = .ok (.iconst 1, 1) := dk_4 (dk_at dksX3_laysRows_0 17 rfl rfl)
theorem dX3_laysRows_18 : decode cX3_laysRows 18 = .ok (.iastore, 1) := dk_79 (dk_at dksX3_laysRows_0 18 rfl rfl)
theorem dX3_laysRows_19 : decode cX3_laysRows 19 = .ok (.iinc 2 1, 3) := dk_132 2 1 (dk_at dksX3_laysRows_0 19 rfl rfl)
theorem dX3_laysRows_22 : decode cX3_laysRows 22 = .ok (.goto (-18), 3) := dk_167 255 238 (dk_at dksX3_laysRows_1 0 rfl rfl)
theorem dX3_laysRows_25 : decode cX3_laysRows 25 = .ok (.iconst 0, 1) := dk_3 (dk_at dksX3_laysRows_1 3 rfl rfl)
theorem dX3_laysRows_26 : decode cX3_laysRows 26 = .ok (.istore_n 2, 1) := dk_61 (dk_at dksX3_laysRows_1 4 rfl rfl)
theorem dX3_laysRows_27 : decode cX3_laysRows 27 = .ok (.iload_n 2, 1) := dk_28 (dk_at dksX3_laysRows_1 5 rfl rfl)
theorem dX3_laysRows_28 : decode cX3_laysRows 28 = .ok (.aload_n 0, 1) := dk_42 (dk_at dksX3_laysRows_1 6 rfl rfl)
theorem dX3_laysRows_29 : decode cX3_laysRows 29 = .ok (.getfield 80, 3) := dk_180 0 80 (dk_at dksX3_laysRows_1 7 rfl rfl)
theorem dX3_laysRows_32 : decode cX3_laysRows 32 = .ok (.if_icmp .ge 109, 3) := dk_162 0 109 (dk_at dksX3_laysRows_1 10 rfl rfl)
theorem dX3_laysRows_35 : decode cX3_laysRows 35 = .ok (.iconst 0, 1) := dk_3 (dk_at dksX3_laysRows_1 13 rfl rfl)
theorem dX3_laysRows_36 : decode cX3_laysRows 36 = .ok (.istore_n 3, 1) := dk_62 (dk_at dksX3_laysRows_1 14 rfl rfl)
theorem dX3_laysRows_37 : decode cX3_laysRows 37 = .ok (.iload_n 3, 1) := dk_29 (dk_at dksX3_laysRows_1 15 rfl rfl)
theorem dX3_laysRows_38 : decode cX3_laysRows 38 = .ok (.aload_n 0, 1) := dk_42 (dk_at dksX3_laysRows_1 16 rfl rfl)
theorem dX3_laysRows_39 : decode cX3_laysRows 39 = .ok (.getfield 80, 3) := dk_180 0 80 (dk_at dksX3_laysRows_1 17 rfl rfl)
theorem dX3_laysRows_42 : decode cX3_laysRows 42 = .ok (.if_icmp .ge 93, 3) := dk_162 0 93 (dk_at dksX3_laysRows_1 20 rfl rfl)
theorem dX3_laysRows_45 : decode cX3_laysRows 45 = .ok (.iconst 0, 1) := dk_3 (dk_at dksX3_laysRows_1 23 rfl rfl)
theorem dX3_laysRows_46 : decode cX3_laysRows 46 = .ok (.istore 4, 2) := dk_54 4 (dk_at dksX3_laysRows_2 0 rfl rfl)
theorem dX3_laysRows_48 : decode cX3_laysRows 48 = .ok (.iload 4, 2) := dk_21 4 (dk_at dksX3_laysRows_2 2 rfl rfl)
theorem dX3_laysRows_50 : decode cX3_laysRows 50 = .ok (.aload_n 0, 1) := dk_42 (dk_at dksX3_laysRows_2 4 rfl rfl)
theorem dX3_laysRows_51 : decode cX3_laysRows 51 = .ok (.getfield 80, 3) := dk_180 0 80 (dk_at dksX3_laysRows_2 5 rfl rfl)
theorem dX3_laysRows_54 : decode cX3_laysRows 54 = .ok (.if_icmp .ge 54, 3) := dk_162 0 54 (dk_at dksX3_laysRows_2 8 rfl rfl)
theorem dX3_laysRows_57 : decode cX3_laysRows 57 = .ok (.aload_n 0, 1) := dk_42 (dk_at dksX3_laysRows_2 11 rfl rfl)
theorem dX3_laysRows_58 : decode cX3_laysRows 58 = .ok (.getfield 37, 3) := dk_180 0 37 (dk_at dksX3_laysRows_2 12 rfl rfl)
theorem dX3_laysRows_61 : decode cX3_laysRows 61 = .ok (.iload_n 3, 1) := dk_29 (dk_at dksX3_laysRows_2 15 rfl rfl)
theorem dX3_laysRows_62 : decode cX3_laysRows 62 = .ok (.iload 4, 2) := dk_21 4 (dk_at dksX3_laysRows_2 16 rfl rfl)
theorem dX3_laysRows_64 : decode cX3_laysRows 64 = .ok (.invokestatic 229, 3) := dk_184 0 229 (dk_at dksX3_laysRows_2 18 rfl rfl)
theorem dX3_laysRows_67 : decode cX3_laysRows 67 = .ok (.iaload, 1) := dk_46 (dk_at dksX3_laysRows_2 21 rfl rfl)
theorem dX3_laysRows_68 : decode cX3_laysRows 68 = .ok (.ifCond .le 34, 3) := dk_158 0 34 (dk_at dksX3_laysRows_3 0 rfl rfl)
theorem dX3_laysRows_71 : decode cX3_laysRows 71 = .ok (.aload_n 0, 1) := dk_42 (dk_at dksX3_laysRows_3 3 rfl rfl)
theorem dX3_laysRows_72 : decode cX3_laysRows 72 = .ok (.getfield 43, 3) := dk_180 0 43 (dk_at dksX3_laysRows_3 4 rfl rfl)
theorem dX3_laysRows_75 : decode cX3_laysRows 75 = .ok (.iload 4, 2) := dk_21 4 (dk_at dksX3_laysRows_3 7 rfl rfl)
theorem dX3_laysRows_77 : decode cX3_laysRows 77 = .ok (.iaload, 1) := dk_46 (dk_at dksX3_laysRows_3 9 rfl rfl)
theorem dX3_laysRows_78 : decode cX3_laysRows 78 = .ok (.aload_n 0, 1) := dk_42 (dk_at dksX3_laysRows_3 10 rfl rfl)
theorem dX3_laysRows_79 : decode cX3_laysRows 79 = .ok (.getfield 43, 3) := dk_180 0 43 (dk_at dksX3_laysRows_3 11 rfl rfl)
theorem dX3_laysRows_82 : decode cX3_laysRows 82 = .ok (.iload_n 3, 1) := dk_29 (dk_at dksX3_laysRows_3 14 rfl rfl)
theorem dX3_laysRows_83 : decode cX3_laysRows 83 = .ok (.iaload, 1) := dk_46 (dk_at dksX3_laysRows_3 15 rfl rfl)
theorem dX3_laysRows_84 : decode cX3_laysRows 84 = .ok (.if_icmp .lt 18, 3) := dk_161 0 18 (dk_at dksX3_laysRows_3 16 rfl rfl)
theorem dX3_laysRows_87 : decode cX3_laysRows 87 = .ok (.aload_n 0, 1) := dk_42 (dk_at dksX3_laysRows_3 19 rfl rfl)
theorem dX3_laysRows_88 : decode cX3_laysRows 88 = .ok (.getfield 43, 3) := dk_180 0 43 (dk_at dksX3_laysRows_3 20 rfl rfl)
theorem dX3_laysRows_91 : decode cX3_laysRows 91 = .ok (.iload_n 3, 1) := dk_29 (dk_at dksX3_laysRows_3 23 rfl rfl)
theorem dX3_laysRows_92 : decode cX3_laysRows 92 = .ok (.aload_n 0, 1) := dk_42 (dk_at dksX3_laysRows_4 0 rfl rfl)
theorem dX3_laysRows_93 : decode cX3_laysRows 93 = .ok (.getfield 43, 3) := dk_180 0 43 (dk_at dksX3_laysRows_4 1 rfl rfl)
theorem dX3_laysRows_96 : decode cX3_laysRows 96 = .ok (.iload 4, 2) := dk_21 4 (dk_at dksX3_laysRows_4 4 rfl rfl)
theorem dX3_laysRows_98 : decode cX3_laysRows 98 = .ok (.iaload, 1) := dk_46 (dk_at dksX3_laysRows_4 6 rfl rfl)
theorem dX3_laysRows_99 : decode cX3_laysRows 99 = .ok (.iconst 1, 1) := dk_4 (dk_at dksX3_laysRows_4 7 rfl rfl)
theorem dX3_laysRows_100 : decode cX3_laysRows 100 = .ok (.iadd, 1) := dk_96 (dk_at dksX3_laysRows_4 8 rfl rfl)
theorem dX3_laysRows_101 : decode cX3_laysRows 101 = .ok (.iastore, 1) := dk_79 (dk_at dksX3_laysRows_4 9 rfl rfl)
theorem dX3_laysRows_102 : decode cX3_laysRows 102 = .ok (.iinc 4 1, 3) := dk_132 4 1 (dk_at dksX3_laysRows_4 10 rfl rfl)
theorem dX3_laysRows_105 : decode cX3_laysRows 105 = .ok (.goto (-57), 3) := dk_167 255 199 (dk_at dksX3_laysRows_4 13 rfl rfl)
theorem dX3_laysRows_108 : decode cX3_laysRows 108 = .ok (.aload_n 0, 1) := dk_42 (dk_at dksX3_laysRows_4 16 rfl rfl)
theorem dX3_laysRows_109 : decode cX3_laysRows 109 = .ok (.getfield 43, 3) := dk_180 0 43 (dk_at dksX3_laysRows_4 17 rfl rfl)
theorem dX3_laysRows_112 : decode cX3_laysRows 112 = .ok (.iload_n 3, 1) := dk_29 (dk_at dksX3_laysRows_4 20 rfl rfl)
theorem dX3_laysRows_113 : decode cX3_laysRows 113 = .ok (.iaload, 1) := dk_46 (dk_at dksX3_laysRows_4 21 rfl rfl)
theorem dX3_laysRows_114 : decode cX3_laysRows 114 = .ok (.iload_n 1, 1) := dk_27 (dk_at dksX3_laysRows_4 22 rfl rfl)
theorem dX3_laysRows_115 : decode cX3_laysRows 115 = .ok (.if_icmp .le 12, 3) := dk_164 0 12 (dk_at dksX3_laysRows_5 0 rfl rfl)
theorem dX3_laysRows_118 : decode cX3_laysRows 118 = .ok (.aload_n 0, 1) := dk_42 (dk_at dksX3_laysRows_5 3 rfl rfl)
theorem dX3_laysRows_119 : decode cX3_laysRows 119 = .ok (.getfield 43, 3) := dk_180 0 43 (dk_at dksX3_laysRows_5 4 rfl rfl)
theorem dX3_laysRows_122 : decode cX3_laysRows 122 = .ok (.iload_n 3, 1) := dk_29 (dk_at dksX3_laysRows_5 7 rfl rfl)
theorem dX3_laysRows_123 : decode cX3_laysRows 123 = .ok (.iaload, 1) := dk_46 (dk_at dksX3_laysRows_5 8 rfl rfl)
theorem dX3_laysRows_124 : decode cX3_laysRows 124 = .ok (.goto 4, 3) := dk_167 0 4 (dk_at dksX3_laysRows_5 9 rfl rfl)
theorem dX3_laysRows_127 : decode cX3_laysRows 127 = .ok (.iload_n 1, 1) := dk_27 (dk_at dksX3_laysRows_5 12 rfl rfl)
theorem dX3_laysRows_128 : decode cX3_laysRows 128 = .ok (.istore_n 1, 1) := dk_60 (dk_at dksX3_laysRows_5 13 rfl rfl)
theorem dX3_laysRows_129 : decode cX3_laysRows 129 = .ok (.iinc 3 1, 3) := dk_132 3 1 (dk_at dksX3_laysRows_5 14 rfl rfl)
theorem dX3_laysRows_132 : decode cX3_laysRows 132 = .ok (.goto (-95), 3) := dk_167 255 161 (dk_at dksX3_laysRows_5 17 rfl rfl)
theorem dX3_laysRows_135 : decode cX3_laysRows 135 = .ok (.iinc 2 1, 3) := dk_132 2 1 (dk_at dksX3_laysRows_5 20 rfl rfl)
theorem dX3_laysRows_138 : decode cX3_laysRows 138 = .ok (.goto (-111), 3) := dk_167 255 145 (dk_at dksX3_laysRows_6 0 rfl rfl)
theorem dX3_laysRows_141 : decode cX3_laysRows 141 = .ok (.iload_n 1, 1) := dk_27 (dk_at dksX3_laysRows_6 3 rfl rfl)
theorem dX3_laysRows_142 : decode cX3_laysRows 142 = .ok (.iconst 2, 1) := dk_5 (dk_at dksX3_laysRows_6 4 rfl rfl)
theorem dX3_laysRows_143 : decode cX3_laysRows 143 = .ok (.if_icmp .ge 7, 3) := dk_162 0 7 (dk_at dksX3_laysRows_6 5 rfl rfl)
theorem dX3_laysRows_146 : decode cX3_laysRows 146 = .ok (.iconst 0, 1) := dk_3 (dk_at dksX3_laysRows_6 8 rfl rfl)
theorem dX3_laysRows_147 : decode cX3_laysRows 147 = .ok (.goto 4, 3) := dk_167 0 4 (dk_at dksX3_laysRows_6 9 rfl rfl)
theorem dX3_laysRows_150 : decode cX3_laysRows 150 = .ok (.iload_n 1, 1) := dk_27 (dk_at dksX3_laysRows_6 12 rfl rfl)
theorem dX3_laysRows_151 : decode cX3_laysRows 151 = .ok (.ireturn, 1) := dk_172 (dk_at dksX3_laysRows_6 13 rfl rfl)
abbrev cX3_nextOf : ByteArray := prog_15_method_63_code
def yX3_nextOf : MethodName := ⟨RX3, "nextOf", "(II)I"⟩
def dkwX3_nextOf_1 : List UInt8 := [180, 0, 43, 29, 46, 28, 160, 0, 5, 29, 172, 132, 3, 1, 167, 255, 220, 2, 172]
abbrev dktX3_nextOf_1 : List UInt8 := dkwX3_nextOf_1 ++ []
def dkwX3_nextOf_0 : List UInt8 := [3, 62, 29, 42, 180, 0, 80, 162, 0, 34, 42, 180, 0, 37, 27, 29, 184, 0, 229, 46, 158, 0, 15, 42]
abbrev dktX3_nextOf_0 : List UInt8 := dkwX3_nextOf_0 ++ dktX3_nextOf_1
theorem dksX3_nextOf_0 : cX3_nextOf.data.toList.drop 0 = dktX3_nextOf_0 := by decide +kernel
theorem dksX3_nextOf_1 : cX3_nextOf.data.toList.drop 24 = dktX3_nextOf_1 := dk_seg dksX3_nextOf_0 24 rfl rfl
theorem dX3_nextOf_0 : decode cX3_nextOf 0 = .ok (.iconst 0, 1) := dk_3 (dk_at dksX3_nextOf_0 0 rfl rfl)
theorem dX3_nextOf_1 : decode cX3_nextOf 1 = .ok (.istore_n 3, 1) := dk_62 (dk_at dksX3_nextOf_0 1 rfl rfl)
theorem dX3_nextOf_2 : decode cX3_nextOf 2 = .ok (.iload_n 3, 1) := dk_29 (dk_at dksX3_nextOf_0 2 rfl rfl)
theorem dX3_nextOf_3 : decode cX3_nextOf 3 = .ok (.aload_n 0, 1) := dk_42 (dk_at dksX3_nextOf_0 3 rfl rfl)
theorem dX3_nextOf_4 : decode cX3_nextOf 4 = .ok (.getfield 80, 3) := dk_180 0 80 (dk_at dksX3_nextOf_0 4 rfl rfl)
theorem dX3_nextOf_7 : decode cX3_nextOf 7 = .ok (.if_icmp .ge 34, 3) := dk_162 0 34 (dk_at dksX3_nextOf_0 7 rfl rfl)
theorem dX3_nextOf_10 : decode cX3_nextOf 10 = .ok (.aload_n 0, 1) := dk_42 (dk_at dksX3_nextOf_0 10 rfl rfl)
theorem dX3_nextOf_11 : decode cX3_nextOf 11 = .ok (.getfield 37, 3) := dk_180 0 37 (dk_at dksX3_nextOf_0 11 rfl rfl)
theorem dX3_nextOf_14 : decode cX3_nextOf 14 = .ok (.iload_n 1, 1) := dk_27 (dk_at dksX3_nextOf_0 14 rfl rfl)
theorem dX3_nextOf_15 : decode cX3_nextOf 15 = .ok (.iload_n 3, 1) := dk_29 (dk_at dksX3_nextOf_0 15 rfl rfl)
theorem dX3_nextOf_16 : decode cX3_nextOf 16 = .ok (.invokestatic 229, 3) := dk_184 0 229 (dk_at dksX3_nextOf_0 16 rfl rfl)
theorem dX3_nextOf_19 : decode cX3_nextOf 19 = .ok (.iaload, 1) := dk_46 (dk_at dksX3_nextOf_0 19 rfl rfl)
theorem dX3_nextOf_20 : decode cX3_nextOf 20 = .ok (.ifCond .le 15, 3) := dk_158 0 15 (dk_at dksX3_nextOf_0 20 rfl rfl)
theorem dX3_nextOf_23 : decode cX3_nextOf 23 = .ok (.aload_n 0, 1) := dk_42 (dk_at dksX3_nextOf_0 23 rfl rfl)
theorem dX3_nextOf_24 : decode cX3_nextOf 24 = .ok (.getfield 43, 3) := dk_180 0 43 (dk_at dksX3_nextOf_1 0 rfl rfl)
theorem dX3_nextOf_27 : decode cX3_nextOf 27 = .ok (.iload_n 3, 1) := dk_29 (dk_at dksX3_nextOf_1 3 rfl rfl)
theorem dX3_nextOf_28 : decode cX3_nextOf 28 = .ok (.iaload, 1) := dk_46 (dk_at dksX3_nextOf_1 4 rfl rfl)
theorem dX3_nextOf_29 : decode cX3_nextOf 29 = .ok (.iload_n 2, 1) := dk_28 (dk_at dksX3_nextOf_1 5 rfl rfl)
theorem dX3_nextOf_30 : decode cX3_nextOf 30 = .ok (.if_icmp .ne 5, 3) := dk_160 0 5 (dk_at dksX3_nextOf_1 6 rfl rfl)
theorem dX3_nextOf_33 : decode cX3_nextOf 33 = .ok (.iload_n 3, 1) := dk_29 (dk_at dksX3_nextOf_1 9 rfl rfl)
theorem dX3_nextOf_34 : decode cX3_nextOf 34 = .ok (.ireturn, 1) := dk_172 (dk_at dksX3_nextOf_1 10 rfl rfl)
theorem dX3_nextOf_35 : decode cX3_nextOf 35 = .ok (.iinc 3 1, 3) := dk_132 3 1 (dk_at dksX3_nextOf_1 11 rfl rfl)
theorem dX3_nextOf_38 : decode cX3_nextOf 38 = .ok (.goto (-36), 3) := dk_167 255 220 (dk_at dksX3_nextOf_1 14 rfl rfl)
theorem dX3_nextOf_41 : decode cX3_nextOf 41 = .ok (.iconst (-1), 1) := dk_2 (dk_at dksX3_nextOf_1 17 rfl rfl)
theorem dX3_nextOf_42 : decode cX3_nextOf 42 = .ok (.ireturn, 1) := dk_172 (dk_at dksX3_nextOf_1 18 rfl rfl)
abbrev cX3_takeRing : ByteArray := prog_15_method_66_code
def yX3_takeRing : MethodName := ⟨RX3, "takeRing", "(I)I"⟩
def dkwX3_takeRing_8 : List UInt8 := [132, 3, 1, 167, 255, 111, 28, 172]
abbrev dktX3_takeRing_8 : List UInt8 := dkwX3_takeRing_8 ++ []
def dkwX3_takeRing_7 : List UInt8 := [42, 21, 5, 5, 182, 0, 174, 154, 0, 9, 42, 21, 5, 182, 0, 216, 132, 5, 255, 167, 255, 138]
abbrev dktX3_takeRing_7 : List UInt8 := dkwX3_takeRing_7 ++ dktX3_takeRing_8
def dkwX3_takeRing_6 : List UInt8 := [180, 0, 13, 5, 8, 21, 5, 104, 96, 5, 96, 92, 46, 21, 6, 100, 79, 21, 4, 21, 6, 100, 54, 4]
abbrev dktX3_takeRing_6 : List UInt8 := dkwX3_takeRing_6 ++ dktX3_takeRing_7
def dkwX3_takeRing_5 : List UInt8 := [182, 0, 174, 21, 4, 162, 0, 13, 42, 21, 5, 5, 182, 0, 174, 167, 0, 5, 21, 4, 54, 6, 42]
abbrev dktX3_takeRing_5 : List UInt8 := dkwX3_takeRing_5 ++ dktX3_takeRing_6
def dkwX3_takeRing_4 : List UInt8 := [21, 5, 4, 182, 0, 174, 184, 0, 229, 42, 29, 182, 1, 12, 159, 0, 6, 167, 0, 70, 42, 21, 5, 5]
abbrev dktX3_takeRing_4 : List UInt8 := dkwX3_takeRing_4 ++ dktX3_takeRing_5
def dkwX3_takeRing_3 : List UInt8 := [21, 4, 158, 0, 114, 42, 21, 5, 27, 182, 0, 223, 153, 0, 98, 42, 21, 5, 3, 182, 0, 174, 42]
abbrev dktX3_takeRing_3 : List UInt8 := dkwX3_takeRing_3 ++ dktX3_takeRing_4
def dkwX3_takeRing_2 : List UInt8 := [180, 1, 9, 162, 0, 143, 28, 54, 4, 42, 180, 0, 13, 3, 46, 4, 100, 54, 5, 21, 5, 155, 0, 119]
abbrev dktX3_takeRing_2 : List UInt8 := dkwX3_takeRing_2 ++ dktX3_takeRing_3
def dkwX3_takeRing_1 : List UInt8 := [182, 1, 15, 154, 0, 6, 16, 251, 172, 42, 182, 0, 210, 42, 182, 1, 18, 61, 3, 62, 29, 42]
abbrev dktX3_takeRing_1 : List UInt8 := dkwX3_takeRing_1 ++ dktX3_takeRing_2
def dkwX3_takeRing_0 : List UInt8 := [42, 3, 181, 0, 1, 42, 27, 182, 0, 205, 154, 0, 6, 16, 254, 172, 42, 27, 2, 182, 0, 234, 42]
abbrev dktX3_takeRing_0 : List UInt8 := dkwX3_takeRing_0 ++ dktX3_takeRing_1
theorem dksX3_takeRing_0 : cX3_takeRing.data.toList.drop 0 = dktX3_takeRing_0 := by decide +kernel
theorem dksX3_takeRing_1 : cX3_takeRing.data.toList.drop 23 = dktX3_takeRing_1 := dk_seg dksX3_takeRing_0 23 rfl rfl
theorem dksX3_takeRing_2 : cX3_takeRing.data.toList.drop 45 = dktX3_takeRing_2 := dk_seg dksX3_takeRing_1 22 rfl rfl
theorem dksX3_takeRing_3 : cX3_takeRing.data.toList.drop 69 = dktX3_takeRing_3 := dk_seg dksX3_takeRing_2 24 rfl rfl
theorem dksX3_takeRing_4 : cX3_takeRing.data.toList.drop 92 = dktX3_takeRing_4 := dk_seg dksX3_takeRing_3 23 rfl rfl
theorem dksX3_takeRing_5 : cX3_takeRing.data.toList.drop 116 = dktX3_takeRing_5 := dk_seg dksX3_takeRing_4 24 rfl rfl
theorem dksX3_takeRing_6 : cX3_takeRing.data.toList.drop 139 = dktX3_takeRing_6 := dk_seg dksX3_takeRing_5 23 rfl rfl
theorem dksX3_takeRing_7 : cX3_takeRing.data.toList.drop 163 = dktX3_takeRing_7 := dk_seg dksX3_takeRing_6 24 rfl rfl
theorem dksX3_takeRing_8 : cX3_takeRing.data.toList.drop 185 = dktX3_takeRing_8 := dk_seg dksX3_takeRing_7 22 rfl rfl
theorem dX3_takeRing_0 : decode cX3_takeRing 0 = .ok (.aload_n 0, 1) := dk_42 (dk_at dksX3_takeRing_0 0 rfl rfl)
theorem dX3_takeRing_1 : decode cX3_takeRing 1 = .ok (.iconst 0, 1) := dk_3 (dk_at dksX3_takeRing_0 1 rfl rfl)
theorem dX3_takeRing_2 : decode cX3_takeRing 2 = .ok (.putfield 1, 3) := dk_181 0 1 (dk_at dksX3_takeRing_0 2 rfl rfl)
theorem dX3_takeRing_5 : decode cX3_takeRing 5 = .ok (.aload_n 0, 1) := dk_42 (dk_at dksX3_takeRing_0 5 rfl rfl)
theorem dX3_takeRing_6 : decode cX3_takeRing 6 = .ok (.iload_n 1, 1) := dk_27 (dk_at dksX3_takeRing_0 6 rfl rfl)
theorem dX3_takeRing_7 : decode cX3_takeRing 7 = .ok (.invokevirtual 205, 3) := dk_182 0 205 (dk_at dksX3_takeRing_0 7 rfl rfl)
theorem dX3_takeRing_10 : decode cX3_takeRing 10 = .ok (.ifCond .ne 6, 3) := dk_154 0 6 (dk_at dksX3_takeRing_0 10 rfl rfl)
theorem dX3_takeRing_13 : decode cX3_takeRing 13 = .ok (.bipush (-2), 2) := dk_16 254 (dk_at dksX3_takeRing_0 13 rfl rfl)
theorem dX3_takeRing_15 : decode cX3_takeRing 15 = .ok (.ireturn, 1) := dk_172 (dk_at dksX3_takeRing_0 15 rfl rfl)
theorem dX3_takeRing_16 : decode cX3_takeRing 16 = .ok (.aload_n 0, 1) := dk_42 (dk_at dksX3_takeRing_0 16 rfl rfl)
theorem dX3_takeRing_17 : decode cX3_takeRing 17 = .ok (.iload_n 1, 1) := dk_27 (dk_at dksX3_takeRing_0 17 rfl rfl)
theorem dX3_takeRing_18 : decode cX3_takeRing 18 = .ok (.iconst (-1), 1) := dk_2 (dk_at dksX3_takeRing_0 18 rfl rfl)
theorem dX3_takeRing_19 : decode cX3_takeRing 19 = .ok (.invokevirtual 234, 3) := dk_182 0 234 (dk_at dksX3_takeRing_0 19 rfl rfl)
theorem dX3_takeRing_22 : decode cX3_takeRing 22 = .ok (.aload_n 0, 1) := dk_42 (dk_at dksX3_takeRing_0 22 rfl rfl)
theorem dX3_takeRing_23 : decode cX3_takeRing 23 = .ok (.invokevirtual 271, 3) := dk_182 1 15 (dk_at dksX3_takeRing_1 0 rfl rfl)
theorem dX3_takeRing_26 : decode cX3_takeRing 26 = .ok (.ifCond .ne 6, 3) := dk_154 0 6 (dk_at dksX3_takeRing_1 3 rfl rfl)
theorem dX3_takeRing_29 : decode cX3_takeRing 29 = .ok (.bipush (-5), 2) := dk_16 251 (dk_at dksX3_takeRing_1 6 rfl rfl)
theorem dX3_takeRing_31 : decode cX3_takeRing 31 = .ok (.ireturn, 1) := dk_172 (dk_at dksX3_takeRing_1 8 rfl rfl)
theorem dX3_takeRing_32 : decode cX3_takeRing 32 = .ok (.aload_n 0, 1) := dk_42 (dk_at dksX3_takeRing_1 9 rfl rfl)
theorem dX3_takeRing_33 : decode cX3_takeRing 33 = .ok (.invokevirtual 210, 3) := dk_182 0 210 (dk_at dksX3_takeRing_1 10 rfl rfl)
theorem dX3_takeRing_36 : decode cX3_takeRing 36 = .ok (.aload_n 0, 1) := dk_42 (dk_at dksX3_takeRing_1 13 rfl rfl)
theorem dX3_takeRing_37 : decode cX3_takeRing 37 = .ok (.invokevirtual 274, 3) := dk_182 1 18 (dk_at dksX3_takeRing_1 14 rfl rfl)
theorem dX3_takeRing_40 : decode cX3_takeRing 40 = .ok (.istore_n 2, 1) := dk_61 (dk_at dksX3_takeRing_1 17 rfl rfl)
theorem dX3_takeRing_41 : decode cX3_takeRing 41 = .ok (.iconst 0, 1) := dk_3 (dk_at dksX3_takeRing_1 18 rfl rfl)
theorem dX3_takeRing_42 : decode cX3_takeRing 42 = .ok (.istore_n 3, 1) := dk_62 (dk_at dksX3_takeRing_1 19 rfl rfl)
theorem dX3_takeRing_43 : decode cX3_takeRing 43 = .ok (.iload_n 3, 1) := dk_29 (dk_at dksX3_takeRing_1 20 rfl rfl)
theorem dX3_takeRing_44 : decode cX3_takeRing 44 = .ok (.aload_n 0, 1) := dk_42 (dk_at dksX3_takeRing_1 21 rfl rfl)
theorem dX3_takeRing_45 : decode cX3_takeRing 45 = .ok (.getfield 265, 3) := dk_180 1 9 (dk_at dksX3_takeRing_2 0 rfl rfl)
theorem dX3_takeRing_48 : decode cX3_takeRing 48 = .ok (.if_icmp .ge 143, 3) := dk_162 0 143 (dk_at dksX3_takeRing_2 3 rfl rfl)
theorem dX3_takeRing_51 : decode cX3_takeRing 51 = .ok (.iload_n 2, 1) := dk_28 (dk_at dksX3_takeRing_2 6 rfl rfl)
theorem dX3_takeRing_52 : decode cX3_takeRing 52 = .ok (.istore 4, 2) := dk_54 4 (dk_at dksX3_takeRing_2 7 rfl rfl)
theorem dX3_takeRing_54 : decode cX3_takeRing 54 = .ok (.aload_n 0, 1) := dk_42 (dk_at dksX3_takeRing_2 9 rfl rfl)
theorem dX3_takeRing_55 : decode cX3_takeRing 55 = .ok (.getfield 13, 3) := dk_180 0 13 (dk_at dksX3_takeRing_2 10 rfl rfl)
theorem dX3_takeRing_58 : decode cX3_takeRing 58 = .ok (.iconst 0, 1) := dk_3 (dk_at dksX3_takeRing_2 13 rfl rfl)
theorem dX3_takeRing_59 : decode cX3_takeRing 59 = .ok (.iaload, 1) := dk_46 (dk_at dksX3_takeRing_2 14 rfl rfl)
theorem dX3_takeRing_60 : decode cX3_takeRing 60 = .ok (.iconst 1, 1) := dk_4 (dk_at dksX3_takeRing_2 15 rfl rfl)
theorem dX3_takeRing_61 : decode cX3_takeRing 61 = .ok (.isub, 1) := dk_100 (dk_at dksX3_takeRing_2 16 rfl rfl)
theorem dX3_takeRing_62 : decode cX3_takeRing 62 = .ok (.istore 5, 2) := dk_54 5 (dk_at dksX3_takeRing_2 17 rfl rfl)
theorem dX3_takeRing_64 : decode cX3_takeRing 64 = .ok (.iload 5, 2) := dk_21 5 (dk_at dksX3_takeRing_2 19 rfl rfl)
theorem dX3_takeRing_66 : decode cX3_takeRing 66 = .ok (.ifCond .lt 119, 3) := dk_155 0 119 (dk_at dksX3_takeRing_2 21 rfl rfl)
theorem dX3_takeRing_69 : decode cX3_takeRing 69 = .ok (.iload 4, 2) := dk_21 4 (dk_at dksX3_takeRing_3 0 rfl rfl)
theorem dX3_takeRing_71 : decode cX3_takeRing 71 = .ok (.ifCond .le 114, 3) := dk_158 0 114 (dk_at dksX3_takeRing_3 2 rfl rfl)
theorem dX3_takeRing_74 : decode cX3_takeRing 74 = .ok (.aload_n 0, 1) := dk_42 (dk_at dksX3_takeRing_3 5 rfl rfl)
theorem dX3_takeRing_75 : decode cX3_takeRing 75 = .ok (.iload 5, 2) := dk_21 5 (dk_at dksX3_takeRing_3 6 rfl rfl)
theorem dX3_takeRing_77 : decode cX3_takeRing 77 = .ok (.iload_n 1, 1) := dk_27 (dk_at dksX3_takeRing_3 8 rfl rfl)
theorem dX3_takeRing_78 : decode cX3_takeRing 78 = .ok (.invokevirtual 223, 3) := dk_182 0 223 (dk_at dksX3_takeRing_3 9 rfl rfl)
theorem dX3_takeRing_81 : decode cX3_takeRing 81 = .ok (.ifCond .eq 98, 3) := dk_153 0 98 (dk_at dksX3_takeRing_3 12 rfl rfl)
theorem dX3_takeRing_84 : decode cX3_takeRing 84 = .ok (.aload_n 0, 1) := dk_42 (dk_at dksX3_takeRing_3 15 rfl rfl)
theorem dX3_takeRing_85 : decode cX3_takeRing 85 = .ok (.iload 5, 2) := dk_21 5 (dk_at dksX3_takeRing_3 16 rfl rfl)
theorem dX3_takeRing_87 : decode cX3_takeRing 87 = .ok (.iconst 0, 1) := dk_3 (dk_at dksX3_takeRing_3 18 rfl rfl)
theorem dX3_takeRing_88 : decode cX3_takeRing 88 = .ok (.invokevirtual 174, 3) := dk_182 0 174 (dk_at dksX3_takeRing_3 19 rfl rfl)
theorem dX3_takeRing_91 : decode cX3_takeRing 91 = .ok (.aload_n 0, 1) := dk_42 (dk_at dksX3_takeRing_3 22 rfl rfl)
theorem dX3_takeRing_92 : decode cX3_takeRing 92 = .ok (.iload 5, 2) := dk_21 5 (dk_at dksX3_takeRing_4 0 rfl rfl)
theorem dX3_takeRing_94 : decode cX3_takeRing 94 = .ok (.iconst 1, 1) := dk_4 (dk_at dksX3_takeRing_4 2 rfl rfl)
theorem dX3_takeRing_95 : decode cX3_takeRing 95 = .ok (.invokevirtual 174, 3) := dk_182 0 174 (dk_at dksX3_takeRing_4 3 rfl rfl)
theorem dX3_takeRing_98 : decode cX3_takeRing 98 = .ok (.invokestatic 229, 3) := dk_184 0 229 (dk_at dksX3_takeRing_4 6 rfl rfl)
theorem dX3_takeRing_101 : decode cX3_takeRing 101 = .ok (.aload_n 0, 1) := dk_42 (dk_at dksX3_takeRing_4 9 rfl rfl)
theorem dX3_takeRing_102 : decode cX3_takeRing 102 = .ok (.iload_n 3, 1) := dk_29 (dk_at dksX3_takeRing_4 10 rfl rfl)
theorem dX3_takeRing_103 : decode cX3_takeRing 103 = .ok (.invokevirtual 268, 3) := dk_182 1 12 (dk_at dksX3_takeRing_4 11 rfl rfl)
theorem dX3_takeRing_106 : decode cX3_takeRing 106 = .ok (.if_icmp .eq 6, 3) := dk_159 0 6 (dk_at dksX3_takeRing_4 14 rfl rfl)
theorem dX3_takeRing_109 : decode cX3_takeRing 109 = .ok (.goto 70, 3) := dk_167 0 70 (dk_at dksX3_takeRing_4 17 rfl rfl)
theorem dX3_takeRing_112 : decode cX3_takeRing 112 = .ok (.aload_n 0, 1) := dk_42 (dk_at dksX3_takeRing_4 20 rfl rfl)
theorem dX3_takeRing_113 : decode cX3_takeRing 113 = .ok (.iload 5, 2) := dk_21 5 (dk_at dksX3_takeRing_4 21 rfl rfl)
theorem dX3_takeRing_115 : decode cX3_takeRing 115 = .ok (.iconst 2, 1) := dk_5 (dk_at dksX3_takeRing_4 23 rfl rfl)
theorem dX3_takeRing_116 : decode cX3_takeRing 116 = .ok (.invokevirtual 174, 3) := dk_182 0 174 (dk_at dksX3_takeRing_5 0 rfl rfl)
theorem dX3_takeRing_119 : decode cX3_takeRing 119 = .ok (.iload 4, 2) := dk_21 4 (dk_at dksX3_takeRing_5 3 rfl rfl)
theorem dX3_takeRing_121 : decode cX3_takeRing 121 = .ok (.if_icmp .ge 13, 3) := dk_162 0 13 (dk_at dksX3_takeRing_5 5 rfl rfl)
theorem dX3_takeRing_124 : decode cX3_takeRing 124 = .ok (.aload_n 0, 1) := dk_42 (dk_at dksX3_takeRing_5 8 rfl rfl)
theorem dX3_takeRing_125 : decode cX3_takeRing 125 = .ok (.iload 5, 2) := dk_21 5 (dk_at dksX3_takeRing_5 9 rfl rfl)
theorem dX3_takeRing_127 : decode cX3_takeRing 127 = .ok (.iconst 2, 1) := dk_5 (dk_at dksX3_takeRing_5 11 rfl rfl)
theorem dX3_takeRing_128 : decode cX3_takeRing 128 = .ok (.invokevirtual 174, 3) := dk_182 0 174 (dk_at dksX3_takeRing_5 12 rfl rfl)
theorem dX3_takeRing_131 : decode cX3_takeRing 131 = .ok (.goto 5, 3) := dk_167 0 5 (dk_at dksX3_takeRing_5 15 rfl rfl)
theorem dX3_takeRing_134 : decode cX3_takeRing 134 = .ok (.iload 4, 2) := dk_21 4 (dk_at dksX3_takeRing_5 18 rfl rfl)
theorem dX3_takeRing_136 : decode cX3_takeRing 136 = .ok (.istore 6, 2) := dk_54 6 (dk_at dksX3_takeRing_5 20 rfl rfl)
theorem dX3_takeRing_138 : decode cX3_takeRing 138 = .ok (.aload_n 0, 1) := dk_42 (dk_at dksX3_takeRing_5 22 rfl rfl)
theorem dX3_takeRing_139 : decode cX3_takeRing 139 = .ok (.getfield 13, 3) := dk_180 0 13 (dk_at dksX3_takeRing_6 0 rfl rfl)
theorem dX3_takeRing_142 : decode cX3_takeRing 142 = .ok (.iconst 2, 1) := dk_5 (dk_at dksX3_takeRing_6 3 rfl rfl)
theorem dX3_takeRing_143 : decode cX3_takeRing 143 = .ok (.iconst 5, 1) := dk_8 (dk_at dksX3_takeRing_6 4 rfl rfl)
theorem dX3_takeRing_144 : decode cX3_takeRing 144 = .ok (.iload 5, 2) := dk_21 5 (dk_at dksX3_takeRing_6 5 rfl rfl)
theorem dX3_takeRing_146 : decode cX3_takeRing 146 = .ok (.imul, 1) := dk_104 (dk_at dksX3_takeRing_6 7 rfl rfl)
theorem dX3_takeRing_147 : decode cX3_takeRing 147 = .ok (.iadd, 1) := dk_96 (dk_at dksX3_takeRing_6 8 rfl rfl)
theorem dX3_takeRing_148 : decode cX3_takeRing 148 = .ok (.iconst 2, 1) := dk_5 (dk_at dksX3_takeRing_6 9 rfl rfl)
theorem dX3_takeRing_149 : decode cX3_takeRing 149 = .ok (.iadd, 1) := dk_96 (dk_at dksX3_takeRing_6 10 rfl rfl)
theorem dX3_takeRing_150 : decode cX3_takeRing 150 = .ok (.dup2, 1) := dk_92 (dk_at dksX3_takeRing_6 11 rfl rfl)
theorem dX3_takeRing_151 : decode cX3_takeRing 151 = .ok (.iaload, 1) := dk_46 (dk_at dksX3_takeRing_6 12 rfl rfl)
theorem dX3_takeRing_152 : decode cX3_takeRing 152 = .ok (.iload 6, 2) := dk_21 6 (dk_at dksX3_takeRing_6 13 rfl rfl)
theorem dX3_takeRing_154 : decode cX3_takeRing 154 = .ok (.isub, 1) := dk_100 (dk_at dksX3_takeRing_6 15 rfl rfl)
theorem dX3_takeRing_155 : decode cX3_takeRing 155 = .ok (.iastore, 1) := dk_79 (dk_at dksX3_takeRing_6 16 rfl rfl)
theorem dX3_takeRing_156 : decode cX3_takeRing 156 = .ok (.iload 4, 2) := dk_21 4 (dk_at dksX3_takeRing_6 17 rfl rfl)
theorem dX3_takeRing_158 : decode cX3_takeRing 158 = .ok (.iload 6, 2) := dk_21 6 (dk_at dksX3_takeRing_6 19 rfl rfl)
theorem dX3_takeRing_160 : decode cX3_takeRing 160 = .ok (.isub, 1) := dk_100 (dk_at dksX3_takeRing_6 21 rfl rfl)
theorem dX3_takeRing_161 : decode cX3_takeRing 161 = .ok (.istore 4, 2) := dk_54 4 (dk_at dksX3_takeRing_6 22 rfl rfl)
theorem dX3_takeRing_163 : decode cX3_takeRing 163 = .ok (.aload_n 0, 1) := dk_42 (dk_at dksX3_takeRing_7 0 rfl rfl)
theorem dX3_takeRing_164 : decode cX3_takeRing 164 = .ok (.iload 5, 2) := dk_21 5 (dk_at dksX3_takeRing_7 1 rfl rfl)
theorem dX3_takeRing_166 : decode cX3_takeRing 166 = .ok (.iconst 2, 1) := dk_5 (dk_at dksX3_takeRing_7 3 rfl rfl)
theorem dX3_takeRing_167 : decode cX3_takeRing 167 = .ok (.invokevirtual 174, 3) := dk_182 0 174 (dk_at dksX3_takeRing_7 4 rfl rfl)
theorem dX3_takeRing_170 : decode cX3_takeRing 170 = .ok (.ifCond .ne 9, 3) := dk_154 0 9 (dk_at dksX3_takeRing_7 7 rfl rfl)
theorem dX3_takeRing_173 : decode cX3_takeRing 173 = .ok (.aload_n 0, 1) := dk_42 (dk_at dksX3_takeRing_7 10 rfl rfl)
theorem dX3_takeRing_174 : decode cX3_takeRing 174 = .ok (.iload 5, 2) := dk_21 5 (dk_at dksX3_takeRing_7 11 rfl rfl)
theorem dX3_takeRing_176 : decode cX3_takeRing 176 = .ok (.invokevirtual 216, 3) := dk_182 0 216 (dk_at dksX3_takeRing_7 13 rfl rfl)
theorem dX3_takeRing_179 : decode cX3_takeRing 179 = .ok (.iinc 5 (-1), 3) := dk_132 5 255 (dk_at dksX3_takeRing_7 16 rfl rfl)
theorem dX3_takeRing_182 : decode cX3_takeRing 182 = .ok (.goto (-118), 3) := dk_167 255 138 (dk_at dksX3_takeRing_7 19 rfl rfl)
theorem dX3_takeRing_185 : decode cX3_takeRing 185 = .ok (.iinc 3 1, 3) := dk_132 3 1 (dk_at dksX3_takeRing_8 0 rfl rfl)
theorem dX3_takeRing_188 : decode cX3_takeRing 188 = .ok (.goto (-145), 3) := dk_167 255 111 (dk_at dksX3_takeRing_8 3 rfl rfl)
theorem dX3_takeRing_191 : decode cX3_takeRing 191 = .ok (.iload_n 2, 1) := dk_28 (dk_at dksX3_takeRing_8 6 rfl rfl)
theorem dX3_takeRing_192 : decode cX3_takeRing 192 = .ok (.ireturn, 1) := dk_172 (dk_at dksX3_takeRing_8 7 rfl rfl)
abbrev cX3_least : ByteArray := prog_15_method_80_code
def yX3_least : MethodName := ⟨RX3, "least", "(I)I"⟩
def dkwX3_least_1 : List UInt8 := [182, 1, 63, 153, 0, 10, 42, 182, 1, 71, 167, 0, 4, 2, 172]
abbrev dktX3_least_1 : List UInt8 := dkwX3_least_1 ++ []
def dkwX3_least_0 : List UInt8 := [42, 3, 181, 0, 1, 42, 27, 182, 0, 205, 154, 0, 6, 16, 254, 172, 42, 27, 2, 182, 1, 60, 42]
abbrev dktX3_least_0 : List UInt8 := dkwX3_least_0 ++ dktX3_least_1
theorem dksX3_least_0 : cX3_least.data.toList.drop 0 = dktX3_least_0 := by decide +kernel
theorem dksX3_least_1 : cX3_least.data.toList.drop 23 = dktX3_least_1 := dk_seg dksX3_least_0 23 rfl rfl
theorem dX3_least_0 : decode cX3_least 0 = .ok (.aload_n 0, 1) := dk_42 (dk_at dksX3_least_0 0 rfl rfl)
theorem dX3_least_1 : decode cX3_least 1 = .ok (.iconst 0, 1) := dk_3 (dk_at dksX3_least_0 1 rfl rfl)
theorem dX3_least_2 : decode cX3_least 2 = .ok (.putfield 1, 3) := dk_181 0 1 (dk_at dksX3_least_0 2 rfl rfl)
theorem dX3_least_5 : decode cX3_least 5 = .ok (.aload_n 0, 1) := dk_42 (dk_at dksX3_least_0 5 rfl rfl)
theorem dX3_least_6 : decode cX3_least 6 = .ok (.iload_n 1, 1) := dk_27 (dk_at dksX3_least_0 6 rfl rfl)
theorem dX3_least_7 : decode cX3_least 7 = .ok (.invokevirtual 205, 3) := dk_182 0 205 (dk_at dksX3_least_0 7 rfl rfl)
theorem dX3_least_10 : decode cX3_least 10 = .ok (.ifCond .ne 6, 3) := dk_154 0 6 (dk_at dksX3_least_0 10 rfl rfl)
theorem dX3_least_13 : decode cX3_least 13 = .ok (.bipush (-2), 2) := dk_16 254 (dk_at dksX3_least_0 13 rfl rfl)
theorem dX3_least_15 : decode cX3_least 15 = .ok (.ireturn, 1) := dk_172 (dk_at dksX3_least_0 15 rfl rfl)
theorem dX3_least_16 : decode cX3_least 16 = .ok (.aload_n 0, 1) := dk_42 (dk_at dksX3_least_0 16 rfl rfl)
theorem dX3_least_17 : decode cX3_least 17 = .ok (.iload_n 1, 1) := dk_27 (dk_at dksX3_least_0 17 rfl rfl)
theorem dX3_least_18 : decode cX3_least 18 = .ok (.iconst (-1), 1) := dk_2 (dk_at dksX3_least_0 18 rfl rfl)
theorem dX3_least_19 : decode cX3_least 19 = .ok (.invokevirtual 316, 3) := dk_182 1 60 (dk_at dksX3_least_0 19 rfl rfl)
theorem dX3_least_22 : decode cX3_least 22 = .ok (.aload_n 0, 1) := dk_42 (dk_at dksX3_least_0 22 rfl rfl)
theorem dX3_least_23 : decode cX3_least 23 = .ok (.invokevirtual 319, 3) := dk_182 1 63 (dk_at dksX3_least_1 0 rfl rfl)
theorem dX3_least_26 : decode cX3_least 26 = .ok (.ifCond .eq 10, 3) := dk_153 0 10 (dk_at dksX3_least_1 3 rfl rfl)
theorem dX3_least_29 : decode cX3_least 29 = .ok (.aload_n 0, 1) := dk_42 (dk_at dksX3_least_1 6 rfl rfl)
theorem dX3_least_30 : decode cX3_least 30 = .ok (.invokevirtual 327, 3) := dk_182 1 71 (dk_at dksX3_least_1 7 rfl rfl)
theorem dX3_least_33 : decode cX3_least 33 = .ok (.goto 4, 3) := dk_167 0 4 (dk_at dksX3_least_1 10 rfl rfl)
theorem dX3_least_36 : decode cX3_least 36 = .ok (.iconst (-1), 1) := dk_2 (dk_at dksX3_least_1 13 rfl rfl)
theorem dX3_least_37 : decode cX3_least 37 = .ok (.ireturn, 1) := dk_172 (dk_at dksX3_least_1 14 rfl rfl)
abbrev cX3_laysBounds : ByteArray := prog_15_method_68_code
def yX3_laysBounds : MethodName := ⟨RX3, "laysBounds", "(II)V"⟩
def dkwX3_laysBounds_5 : List UInt8 := [184, 0, 229, 3, 84, 132, 4, 1, 167, 255, 177, 132, 3, 1, 167, 255, 132, 177]
abbrev dktX3_laysBounds_5 : List UInt8 := dkwX3_laysBounds_5 ++ []
def dkwX3_laysBounds_4 : List UInt8 := [21, 5, 153, 0, 13, 42, 29, 21, 4, 182, 1, 2, 167, 0, 4, 3, 79, 42, 180, 0, 61, 29, 21, 4]
abbrev dktX3_laysBounds_4 : List UInt8 := dkwX3_laysBounds_4 ++ dktX3_laysBounds_5
def dkwX3_laysBounds_3 : List UInt8 := [180, 0, 80, 162, 0, 7, 4, 167, 0, 4, 3, 54, 5, 42, 180, 0, 46, 29, 21, 4, 184, 0, 229]
abbrev dktX3_laysBounds_3 : List UInt8 := dkwX3_laysBounds_3 ++ dktX3_laysBounds_4
def dkwX3_laysBounds_2 : List UInt8 := [21, 4, 16, 8, 162, 0, 78, 29, 21, 4, 159, 0, 24, 29, 42, 180, 0, 80, 162, 0, 16, 21, 4, 42]
abbrev dktX3_laysBounds_2 : List UInt8 := dkwX3_laysBounds_2 ++ dktX3_laysBounds_3
def dkwX3_laysBounds_1 : List UInt8 := [46, 6, 160, 0, 14, 42, 180, 0, 37, 29, 184, 1, 32, 167, 0, 6, 19, 1, 36, 79, 3, 54, 4]
abbrev dktX3_laysBounds_1 : List UInt8 := dkwX3_laysBounds_1 ++ dktX3_laysBounds_2
def dkwX3_laysBounds_0 : List UInt8 := [42, 27, 28, 182, 0, 234, 3, 62, 29, 16, 8, 162, 0, 124, 42, 180, 0, 52, 29, 42, 180, 0, 13, 4]
abbrev dktX3_laysBounds_0 : List UInt8 := dkwX3_laysBounds_0 ++ dktX3_laysBounds_1
theorem dksX3_laysBounds_0 : cX3_laysBounds.data.toList.drop 0 = dktX3_laysBounds_0 := by decide +kernel
theorem dksX3_laysBounds_1 : cX3_laysBounds.data.toList.drop 24 = dktX3_laysBounds_1 := dk_seg dksX3_laysBounds_0 24 rfl rfl
theorem dksX3_laysBounds_2 : cX3_laysBounds.data.toList.drop 47 = dktX3_laysBounds_2 := dk_seg dksX3_laysBounds_1 23 rfl rfl
theorem dksX3_laysBounds_3 : cX3_laysBounds.data.toList.drop 71 = dktX3_laysBounds_3 := dk_seg dksX3_laysBounds_2 24 rfl rfl
theorem dksX3_laysBounds_4 : cX3_laysBounds.data.toList.drop 94 = dktX3_laysBounds_4 := dk_seg dksX3_laysBounds_3 23 rfl rfl
theorem dksX3_laysBounds_5 : cX3_laysBounds.data.toList.drop 118 = dktX3_laysBounds_5 := dk_seg dksX3_laysBounds_4 24 rfl rfl
theorem dX3_laysBounds_0 : decode cX3_laysBounds 0 = .ok (.aload_n 0, 1) := dk_42 (dk_at dksX3_laysBounds_0 0 rfl rfl)
theorem dX3_laysBounds_1 : decode cX3_laysBounds 1 = .ok (.iload_n 1, 1) := dk_27 (dk_at dksX3_laysBounds_0 1 rfl rfl)
theorem dX3_laysBounds_2 : decode cX3_laysBounds 2 = .ok (.iload_n 2, 1) := dk_28 (dk_at dksX3_laysBounds_0 2 rfl rfl)
theorem dX3_laysBounds_3 : decode cX3_laysBounds 3 = .ok (.invokevirtual 234, 3) := dk_182 0 234 (dk_at dksX3_laysBounds_0 3 rfl rfl)
theorem dX3_laysBounds_6 : decode cX3_laysBounds 6 = .ok (.iconst 0, 1) := dk_3 (dk_at dksX3_laysBounds_0 6 rfl rfl)
theorem dX3_laysBounds_7 : decode cX3_laysBounds 7 = .ok (.istore_n 3, 1) := dk_62 (dk_at dksX3_laysBounds_0 7 rfl rfl)
theorem dX3_laysBounds_8 : decode cX3_laysBounds 8 = .ok (.iload_n 3, 1) := dk_29 (dk_at dksX3_laysBounds_0 8 rfl rfl)
theorem dX3_laysBounds_9 : decode cX3_laysBounds 9 = .ok (.bipush 8, 2) := dk_16 8 (dk_at dksX3_laysBounds_0 9 rfl rfl)
theorem dX3_laysBounds_11 : decode cX3_laysBounds 11 = .ok (.if_icmp .ge 124, 3) := dk_162 0 124 (dk_at dksX3_laysBounds_0 11 rfl rfl)
theorem dX3_laysBounds_14 : decode cX3_laysBounds 14 = .ok (.aload_n 0, 1) := dk_42 (dk_at dksX3_laysBounds_0 14 rfl rfl)
theorem dX3_laysBounds_15 : decode cX3_laysBounds 15 = .ok (.getfield 52, 3) := dk_180 0 52 (dk_at dksX3_laysBounds_0 15 rfl rfl)
theorem dX3_laysBounds_18 : decode cX3_laysBounds 18 = .ok (.iload_n 3, 1) := dk_29 (dk_at dksX3_laysBounds_0 18 rfl rfl)
theorem dX3_laysBounds_19 : decode cX3_laysBounds 19 = .ok (.aload_n 0, 1) := dk_42 (dk_at dksX3_laysBounds_0 19 rfl rfl)
theorem dX3_laysBounds_20 : decode cX3_laysBounds 20 = .ok (.getfield 13, 3) := dk_180 0 13 (dk_at dksX3_laysBounds_0 20 rfl rfl)
theorem dX3_laysBounds_23 : decode cX3_laysBounds 23 = .ok (.iconst 1, 1) := dk_4 (dk_at dksX3_laysBounds_0 23 rfl rfl)
theorem dX3_laysBounds_24 : decode cX3_laysBounds 24 = .ok (.iaload, 1) := dk_46 (dk_at dksX3_laysBounds_1 0 rfl rfl)
theorem dX3_laysBounds_25 : decode cX3_laysBounds 25 = .ok (.iconst 3, 1) := dk_6 (dk_at dksX3_laysBounds_1 1 rfl rfl)
theorem dX3_laysBounds_26 : decode cX3_laysBounds 26 = .ok (.if_icmp .ne 14, 3) := dk_160 0 14 (dk_at dksX3_laysBounds_1 2 rfl rfl)
theorem dX3_laysBounds_29 : decode cX3_laysBounds 29 = .ok (.aload_n 0, 1) := dk_42 (dk_at dksX3_laysBounds_1 5 rfl rfl)
theorem dX3_laysBounds_30 : decode cX3_laysBounds 30 = .ok (.getfield 37, 3) := dk_180 0 37 (dk_at dksX3_laysBounds_1 6 rfl rfl)
theorem dX3_laysBounds_33 : decode cX3_laysBounds 33 = .ok (.iload_n 3, 1) := dk_29 (dk_at dksX3_laysBounds_1 9 rfl rfl)
theorem dX3_laysBounds_34 : decode cX3_laysBounds 34 = .ok (.invokestatic 288, 3) := dk_184 1 32 (dk_at dksX3_laysBounds_1 10 rfl rfl)
theorem dX3_laysBounds_37 : decode cX3_laysBounds 37 = .ok (.goto 6, 3) := dk_167 0 6 (dk_at dksX3_laysBounds_1 13 rfl rfl)
theorem dX3_laysBounds_40 : decode cX3_laysBounds 40 = .ok (.ldc_w 292, 3) := dk_19 1 36 (dk_at dksX3_laysBounds_1 16 rfl rfl)
theorem dX3_laysBounds_43 : decode cX3_laysBounds 43 = .ok (.iastore, 1) := dk_79 (dk_at dksX3_laysBounds_1 19 rfl rfl)
theorem dX3_laysBounds_44 : decode cX3_laysBounds 44 = .ok (.iconst 0, 1) := dk_3 (dk_at dksX3_laysBounds_1 20 rfl rfl)
theorem dX3_laysBounds_45 : decode cX3_laysBounds 45 = .ok (.istore 4, 2) := dk_54 4 (dk_at dksX3_laysBounds_1 21 rfl rfl)
theorem dX3_laysBounds_47 : decode cX3_laysBounds 47 = .ok (.iload 4, 2) := dk_21 4 (dk_at dksX3_laysBounds_2 0 rfl rfl)
theorem dX3_laysBounds_49 : decode cX3_laysBounds 49 = .ok (.bipush 8, 2) := dk_16 8 (dk_at dksX3_laysBounds_2 2 rfl rfl)
theorem dX3_laysBounds_51 : decode cX3_laysBounds 51 = .ok (.if_icmp .ge 78, 3) := dk_162 0 78 (dk_at dksX3_laysBounds_2 4 rfl rfl)
theorem dX3_laysBounds_54 : decode cX3_laysBounds 54 = .ok (.iload_n 3, 1) := dk_29 (dk_at dksX3_laysBounds_2 7 rfl rfl)
theorem dX3_laysBounds_55 : decode cX3_laysBounds 55 = .ok (.iload 4, 2) := dk_21 4 (dk_at dksX3_laysBounds_2 8 rfl rfl)
theorem dX3_laysBounds_57 : decode cX3_laysBounds 57 = .ok (.if_icmp .eq 24, 3) := dk_159 0 24 (dk_at dksX3_laysBounds_2 10 rfl rfl)
theorem dX3_laysBounds_60 : decode cX3_laysBounds 60 = .ok (.iload_n 3, 1) := dk_29 (dk_at dksX3_laysBounds_2 13 rfl rfl)
theorem dX3_laysBounds_61 : decode cX3_laysBounds 61 = .ok (.aload_n 0, 1) := dk_42 (dk_at dksX3_laysBounds_2 14 rfl rfl)
theorem dX3_laysBounds_62 : decode cX3_laysBounds 62 = .ok (.getfield 80, 3) := dk_180 0 80 (dk_at dksX3_laysBounds_2 15 rfl rfl)
theorem dX3_laysBounds_65 : decode cX3_laysBounds 65 = .ok (.if_icmp .ge 16, 3) := dk_162 0 16 (dk_at dksX3_laysBounds_2 18 rfl rfl)
theorem dX3_laysBounds_68 : decode cX3_laysBounds 68 = .ok (.iload 4, 2) := dk_21 4 (dk_at dksX3_laysBounds_2 21 rfl rfl)
theorem dX3_laysBounds_70 : decode cX3_laysBounds 70 = .ok (.aload_n 0, 1) := dk_42 (dk_at dksX3_laysBounds_2 23 rfl rfl)
theorem dX3_laysBounds_71 : decode cX3_laysBounds 71 = .ok (.getfield 80, 3) := dk_180 0 80 (dk_at dksX3_laysBounds_3 0 rfl rfl)
theorem dX3_laysBounds_74 : decode cX3_laysBounds 74 = .ok (.if_icmp .ge 7, 3) := dk_162 0 7 (dk_at dksX3_laysBounds_3 3 rfl rfl)
theorem dX3_laysBounds_77 : decode cX3_laysBounds 77 = .ok (.iconst 1, 1) := dk_4 (dk_at dksX3_laysBounds_3 6 rfl rfl)
theorem dX3_laysBounds_78 : decode cX3_laysBounds 78 = .ok (.goto 4, 3) := dk_167 0 4 (dk_at dksX3_laysBounds_3 7 rfl rfl)
theorem dX3_laysBounds_81 : decode cX3_laysBounds 81 = .ok (.iconst 0, 1) := dk_3 (dk_at dksX3_laysBounds_3 10 rfl rfl)
theorem dX3_laysBounds_82 : decode cX3_laysBounds 82 = .ok (.istore 5, 2) := dk_54 5 (dk_at dksX3_laysBounds_3 11 rfl rfl)
theorem dX3_laysBounds_84 : decode cX3_laysBounds 84 = .ok (.aload_n 0, 1) := dk_42 (dk_at dksX3_laysBounds_3 13 rfl rfl)
theorem dX3_laysBounds_85 : decode cX3_laysBounds 85 = .ok (.getfield 46, 3) := dk_180 0 46 (dk_at dksX3_laysBounds_3 14 rfl rfl)
theorem dX3_laysBounds_88 : decode cX3_laysBounds 88 = .ok (.iload_n 3, 1) := dk_29 (dk_at dksX3_laysBounds_3 17 rfl rfl)
theorem dX3_laysBounds_89 : decode cX3_laysBounds 89 = .ok (.iload 4, 2) := dk_21 4 (dk_at dksX3_laysBounds_3 18 rfl rfl)
theorem dX3_laysBounds_91 : decode cX3_laysBounds 91 = .ok (.invokestatic 229, 3) := dk_184 0 229 (dk_at dksX3_laysBounds_3 20 rfl rfl)
theorem dX3_laysBounds_94 : decode cX3_laysBounds 94 = .ok (.iload 5, 2) := dk_21 5 (dk_at dksX3_laysBounds_4 0 rfl rfl)
theorem dX3_laysBounds_96 : decode cX3_laysBounds 96 = .ok (.ifCond .eq 13, 3) := dk_153 0 13 (dk_at dksX3_laysBounds_4 2 rfl rfl)
theorem dX3_laysBounds_99 : decode cX3_laysBounds 99 = .ok (.aload_n 0, 1) := dk_42 (dk_at dksX3_laysBounds_4 5 rfl rfl)
theorem dX3_laysBounds_100 : decode cX3_laysBounds 100 = .ok (.iload_n 3, 1) := dk_29 (dk_at dksX3_laysBounds_4 6 rfl rfl)
theorem dX3_laysBounds_101 : decode cX3_laysBounds 101 = .ok (.iload 4, 2) := dk_21 4 (dk_at dksX3_laysBounds_4 7 rfl rfl)
theorem dX3_laysBounds_103 : decode cX3_laysBounds 103 = .ok (.invokevirtual 258, 3) := dk_182 1 2 (dk_at dksX3_laysBounds_4 9 rfl rfl)
theorem dX3_laysBounds_106 : decode cX3_laysBounds 106 = .ok (.goto 4, 3) := dk_167 0 4 (dk_at dksX3_laysBounds_4 12 rfl rfl)
theorem dX3_laysBounds_109 : decode cX3_laysBounds 109 = .ok (.iconst 0, 1) := dk_3 (dk_at dksX3_laysBounds_4 15 rfl rfl)
theorem dX3_laysBounds_110 : decode cX3_laysBounds 110 = .ok (.iastore, 1) := dk_79 (dk_at dksX3_laysBounds_4 16 rfl rfl)
theorem dX3_laysBounds_111 : decode cX3_laysBounds 111 = .ok (.aload_n 0, 1) := dk_42 (dk_at dksX3_laysBounds_4 17 rfl rfl)
theorem dX3_laysBounds_112 : decode cX3_laysBounds 112 = .ok (.getfield 61, 3) := dk_180 0 61 (dk_at dksX3_laysBounds_4 18 rfl rfl)
theorem dX3_laysBounds_115 : decode cX3_laysBounds 115 = .ok (.iload_n 3, 1) := dk_29 (dk_at dksX3_laysBounds_4 21 rfl rfl)
theorem dX3_laysBounds_116 : decode cX3_laysBounds 116 = .ok (.iload 4, 2) := dk_21 4 (dk_at dksX3_laysBounds_4 22 rfl rfl)
theorem dX3_laysBounds_118 : decode cX3_laysBounds 118 = .ok (.invokestatic 229, 3) := dk_184 0 229 (dk_at dksX3_laysBounds_5 0 rfl rfl)
theorem dX3_laysBounds_121 : decode cX3_laysBounds 121 = .ok (.iconst 0, 1) := dk_3 (dk_at dksX3_laysBounds_5 3 rfl rfl)
theorem dX3_laysBounds_122 : decode cX3_laysBounds 122 = .ok (.bastore, 1) := dk_84 (dk_at dksX3_laysBounds_5 4 rfl rfl)
theorem dX3_laysBounds_123 : decode cX3_laysBounds 123 = .ok (.iinc 4 1, 3) := dk_132 4 1 (dk_at dksX3_laysBounds_5 5 rfl rfl)
theorem dX3_laysBounds_126 : decode cX3_laysBounds 126 = .ok (.goto (-79), 3) := dk_167 255 177 (dk_at dksX3_laysBounds_5 8 rfl rfl)
theorem dX3_laysBounds_129 : decode cX3_laysBounds 129 = .ok (.iinc 3 1, 3) := dk_132 3 1 (dk_at dksX3_laysBounds_5 11 rfl rfl)
theorem dX3_laysBounds_132 : decode cX3_laysBounds 132 = .ok (.goto (-124), 3) := dk_167 255 132 (dk_at dksX3_laysBounds_5 14 rfl rfl)
theorem dX3_laysBounds_135 : decode cX3_laysBounds 135 = .ok (.return_, 1) := dk_177 (dk_at dksX3_laysBounds_5 17 rfl rfl)
abbrev cX3_throughBy : ByteArray := prog_15_method_67_code
def yX3_throughBy : MethodName := ⟨RX3, "throughBy", "([II)I"⟩
def dkwX3_throughBy_2 : List UInt8 := [167, 0, 4, 29, 172]
abbrev dktX3_throughBy_2 : List UInt8 := dkwX3_throughBy_2 ++ []
def dkwX3_throughBy_1 : List UInt8 := [61, 29, 42, 21, 4, 27, 184, 0, 229, 46, 96, 62, 132, 4, 1, 167, 255, 224, 28, 29, 162, 0, 7, 28]
abbrev dktX3_throughBy_1 : List UInt8 := dkwX3_throughBy_1 ++ dktX3_throughBy_2
def dkwX3_throughBy_0 : List UInt8 := [3, 61, 3, 62, 3, 54, 4, 21, 4, 16, 8, 162, 0, 31, 28, 42, 27, 21, 4, 184, 0, 229, 46, 96]
abbrev dktX3_throughBy_0 : List UInt8 := dkwX3_throughBy_0 ++ dktX3_throughBy_1
theorem dksX3_throughBy_0 : cX3_throughBy.data.toList.drop 0 = dktX3_throughBy_0 := by decide +kernel
theorem dksX3_throughBy_1 : cX3_throughBy.data.toList.drop 24 = dktX3_throughBy_1 := dk_seg dksX3_throughBy_0 24 rfl rfl
theorem dksX3_throughBy_2 : cX3_throughBy.data.toList.drop 48 = dktX3_throughBy_2 := dk_seg dksX3_throughBy_1 24 rfl rfl
theorem dX3_throughBy_0 : decode cX3_throughBy 0 = .ok (.iconst 0, 1) := dk_3 (dk_at dksX3_throughBy_0 0 rfl rfl)
theorem dX3_throughBy_1 : decode cX3_throughBy 1 = .ok (.istore_n 2, 1) := dk_61 (dk_at dksX3_throughBy_0 1 rfl rfl)
theorem dX3_throughBy_2 : decode cX3_throughBy 2 = .ok (.iconst 0, 1) := dk_3 (dk_at dksX3_throughBy_0 2 rfl rfl)
theorem dX3_throughBy_3 : decode cX3_throughBy 3 = .ok (.istore_n 3, 1) := dk_62 (dk_at dksX3_throughBy_0 3 rfl rfl)
theorem dX3_throughBy_4 : decode cX3_throughBy 4 = .ok (.iconst 0, 1) := dk_3 (dk_at dksX3_throughBy_0 4 rfl rfl)
theorem dX3_throughBy_5 : decode cX3_throughBy 5 = .ok (.istore 4, 2) := dk_54 4 (dk_at dksX3_throughBy_0 5 rfl rfl)
theorem dX3_throughBy_7 : decode cX3_throughBy 7 = .ok (.iload 4, 2) := dk_21 4 (dk_at dksX3_throughBy_0 7 rfl rfl)
theorem dX3_throughBy_9 : decode cX3_throughBy 9 = .ok (.bipush 8, 2) := dk_16 8 (dk_at dksX3_throughBy_0 9 rfl rfl)
theorem dX3_throughBy_11 : decode cX3_throughBy 11 = .ok (.if_icmp .ge 31, 3) := dk_162 0 31 (dk_at dksX3_throughBy_0 11 rfl rfl)
theorem dX3_throughBy_14 : decode cX3_throughBy 14 = .ok (.iload_n 2, 1) := dk_28 (dk_at dksX3_throughBy_0 14 rfl rfl)
theorem dX3_throughBy_15 : decode cX3_throughBy 15 = .ok (.aload_n 0, 1) := dk_42 (dk_at dksX3_throughBy_0 15 rfl rfl)
theorem dX3_throughBy_16 : decode cX3_throughBy 16 = .ok (.iload_n 1, 1) := dk_27 (dk_at dksX3_throughBy_0 16 rfl rfl)
theorem dX3_throughBy_17 : decode cX3_throughBy 17 = .ok (.iload 4, 2) := dk_21 4 (dk_at dksX3_throughBy_0 17 rfl rfl)
theorem dX3_throughBy_19 : decode cX3_throughBy 19 = .ok (.invokestatic 229, 3) := dk_184 0 229 (dk_at dksX3_throughBy_0 19 rfl rfl)
theorem dX3_throughBy_22 : decode cX3_throughBy 22 = .ok (.iaload, 1) := dk_46 (dk_at dksX3_throughBy_0 22 rfl rfl)
theorem dX3_throughBy_23 : decode cX3_throughBy 23 = .ok (.iadd, 1) := dk_96 (dk_at dksX3_throughBy_0 23 rfl rfl)
theorem dX3_throughBy_24 : decode cX3_throughBy 24 = .ok (.istore_n 2, 1) := dk_61 (dk_at dksX3_throughBy_1 0 rfl rfl)
theorem dX3_throughBy_25 : decode cX3_throughBy 25 = .ok (.iload_n 3, 1) := dk_29 (dk_at dksX3_throughBy_1 1 rfl rfl)
theorem dX3_throughBy_26 : decode cX3_throughBy 26 = .ok (.aload_n 0, 1) := dk_42 (dk_at dksX3_throughBy_1 2 rfl rfl)
theorem dX3_throughBy_27 : decode cX3_throughBy 27 = .ok (.iload 4, 2) := dk_21 4 (dk_at dksX3_throughBy_1 3 rfl rfl)
theorem dX3_throughBy_29 : decode cX3_throughBy 29 = .ok (.iload_n 1, 1) := dk_27 (dk_at dksX3_throughBy_1 5 rfl rfl)
theorem dX3_throughBy_30 : decode cX3_throughBy 30 = .ok (.invokestatic 229, 3) := dk_184 0 229 (dk_at dksX3_throughBy_1 6 rfl rfl)
theorem dX3_throughBy_33 : decode cX3_throughBy 33 = .ok (.iaload, 1) := dk_46 (dk_at dksX3_throughBy_1 9 rfl rfl)
theorem dX3_throughBy_34 : decode cX3_throughBy 34 = .ok (.iadd, 1) := dk_96 (dk_at dksX3_throughBy_1 10 rfl rfl)
theorem dX3_throughBy_35 : decode cX3_throughBy 35 = .ok (.istore_n 3, 1) := dk_62 (dk_at dksX3_throughBy_1 11 rfl rfl)
theorem dX3_throughBy_36 : decode cX3_throughBy 36 = .ok (.iinc 4 1, 3) := dk_132 4 1 (dk_at dksX3_throughBy_1 12 rfl rfl)
theorem dX3_throughBy_39 : decode cX3_throughBy 39 = .ok (.goto (-32), 3) := dk_167 255 224 (dk_at dksX3_throughBy_1 15 rfl rfl)
theorem dX3_throughBy_42 : decode cX3_throughBy 42 = .ok (.iload_n 2, 1) := dk_28 (dk_at dksX3_throughBy_1 18 rfl rfl)
theorem dX3_throughBy_43 : decode cX3_throughBy 43 = .ok (.iload_n 3, 1) := dk_29 (dk_at dksX3_throughBy_1 19 rfl rfl)
theorem dX3_throughBy_44 : decode cX3_throughBy 44 = .ok (.if_icmp .ge 7, 3) := dk_162 0 7 (dk_at dksX3_throughBy_1 20 rfl rfl)
theorem dX3_throughBy_47 : decode cX3_throughBy 47 = .ok (.iload_n 2, 1) := dk_28 (dk_at dksX3_throughBy_1 23 rfl rfl)
theorem dX3_throughBy_48 : decode cX3_throughBy 48 = .ok (.goto 4, 3) := dk_167 0 4 (dk_at dksX3_throughBy_2 0 rfl rfl)
theorem dX3_throughBy_51 : decode cX3_throughBy 51 = .ok (.iload_n 3, 1) := dk_29 (dk_at dksX3_throughBy_2 3 rfl rfl)
theorem dX3_throughBy_52 : decode cX3_throughBy 52 = .ok (.ireturn, 1) := dk_172 (dk_at dksX3_throughBy_2 4 rfl rfl)
abbrev cX3_presses : ByteArray := prog_15_method_75_code
def yX3_presses : MethodName := ⟨RX3, "presses", "()Z"⟩
def dkwX3_presses_13 : List UInt8 := [21, 4, 100, 79, 42, 180, 0, 58, 28, 92, 46, 21, 4, 96, 79, 167, 255, 2]
abbrev dktX3_presses_13 : List UInt8 := dkwX3_presses_13 ++ []
def dkwX3_presses_12 : List UInt8 := [116, 182, 1, 50, 54, 4, 42, 28, 16, 8, 96, 21, 4, 182, 1, 53, 42, 180, 0, 58, 29, 92, 46]
abbrev dktX3_presses_12 : List UInt8 := dkwX3_presses_12 ++ dktX3_presses_13
def dkwX3_presses_11 : List UInt8 := [180, 0, 58, 28, 46, 116, 162, 0, 12, 42, 180, 0, 58, 29, 46, 167, 0, 10, 42, 180, 0, 58, 28, 46]
abbrev dktX3_presses_11 : List UInt8 := dkwX3_presses_11 ++ dktX3_presses_12
def dkwX3_presses_10 : List UInt8 := [3, 172, 42, 28, 16, 8, 96, 182, 1, 47, 62, 42, 28, 16, 8, 96, 42, 180, 0, 58, 29, 46, 42]
abbrev dktX3_presses_10 : List UInt8 := dkwX3_presses_10 ++ dktX3_presses_11
def dkwX3_presses_9 : List UInt8 := [180, 0, 65, 28, 16, 8, 96, 46, 162, 0, 5, 29, 61, 132, 3, 1, 167, 255, 195, 28, 2, 160, 0, 5]
abbrev dktX3_presses_9 : List UInt8 := dkwX3_presses_9 ++ dktX3_presses_10
def dkwX3_presses_8 : List UInt8 := [46, 19, 1, 37, 162, 0, 31, 28, 2, 159, 0, 24, 42, 180, 0, 65, 29, 16, 8, 96, 46, 42]
abbrev dktX3_presses_8 : List UInt8 := dkwX3_presses_8 ++ dktX3_presses_9
def dkwX3_presses_7 : List UInt8 := [62, 29, 16, 8, 162, 0, 61, 42, 180, 0, 58, 29, 46, 156, 0, 46, 42, 180, 0, 65, 29, 16, 8, 96]
abbrev dktX3_presses_7 : List UInt8 := dkwX3_presses_7 ++ dktX3_presses_8
def dkwX3_presses_6 : List UInt8 := [167, 0, 4, 3, 60, 132, 2, 1, 167, 255, 177, 27, 154, 0, 5, 4, 172, 42, 182, 1, 44, 2, 61, 3]
abbrev dktX3_presses_6 : List UInt8 := dkwX3_presses_6 ++ dktX3_presses_7
def dkwX3_presses_5 : List UInt8 := [180, 0, 68, 28, 16, 8, 96, 2, 79, 27, 154, 0, 12, 42, 180, 0, 58, 28, 46, 158, 0, 7, 4]
abbrev dktX3_presses_5 : List UInt8 := dkwX3_presses_5 ++ dktX3_presses_6
def dkwX3_presses_4 : List UInt8 := [19, 1, 37, 79, 42, 180, 0, 65, 28, 16, 8, 96, 19, 1, 37, 79, 42, 180, 0, 68, 28, 2, 79, 42]
abbrev dktX3_presses_4 : List UInt8 := dkwX3_presses_4 ++ dktX3_presses_5
def dkwX3_presses_3 : List UInt8 := [16, 8, 162, 0, 79, 42, 180, 0, 65, 28, 42, 180, 0, 58, 28, 46, 158, 0, 7, 3, 167, 0, 6]
abbrev dktX3_presses_3 : List UInt8 := dkwX3_presses_3 ++ dktX3_presses_4
def dkwX3_presses_2 : List UInt8 := [162, 0, 11, 42, 27, 182, 0, 238, 167, 0, 4, 3, 79, 132, 1, 1, 167, 255, 217, 3, 60, 3, 61, 28]
abbrev dktX3_presses_2 : List UInt8 := dkwX3_presses_2 ++ dktX3_presses_3
def dkwX3_presses_1 : List UInt8 := [16, 8, 162, 0, 39, 42, 180, 0, 55, 27, 3, 79, 42, 180, 0, 58, 27, 27, 42, 180, 0, 80]
abbrev dktX3_presses_1 : List UInt8 := dkwX3_presses_1 ++ dktX3_presses_2
def dkwX3_presses_0 : List UInt8 := [3, 60, 27, 16, 64, 162, 0, 16, 42, 180, 0, 49, 27, 3, 79, 132, 1, 1, 167, 255, 240, 3, 60, 27]
abbrev dktX3_presses_0 : List UInt8 := dkwX3_presses_0 ++ dktX3_presses_1
theorem dksX3_presses_0 : cX3_presses.data.toList.drop 0 = dktX3_presses_0 := by decide +kernel
theorem dksX3_presses_1 : cX3_presses.data.toList.drop 24 = dktX3_presses_1 := dk_seg dksX3_presses_0 24 rfl rfl
theorem dksX3_presses_2 : cX3_presses.data.toList.drop 46 = dktX3_presses_2 := dk_seg dksX3_presses_1 22 rfl rfl
theorem dksX3_presses_3 : cX3_presses.data.toList.drop 70 = dktX3_presses_3 := dk_seg dksX3_presses_2 24 rfl rfl
theorem dksX3_presses_4 : cX3_presses.data.toList.drop 93 = dktX3_presses_4 := dk_seg dksX3_presses_3 23 rfl rfl
theorem dksX3_presses_5 : cX3_presses.data.toList.drop 117 = dktX3_presses_5 := dk_seg dksX3_presses_4 24 rfl rfl
theorem dksX3_presses_6 : cX3_presses.data.toList.drop 140 = dktX3_presses_6 := dk_seg dksX3_presses_5 23 rfl rfl
theorem dksX3_presses_7 : cX3_presses.data.toList.drop 164 = dktX3_presses_7 := dk_seg dksX3_presses_6 24 rfl rfl
theorem dksX3_presses_8 : cX3_presses.data.toList.drop 188 = dktX3_presses_8 := dk_seg dksX3_presses_7 24 rfl rfl
theorem dksX3_presses_9 : cX3_presses.data.toList.drop 210 = dktX3_presses_9 := dk_seg dksX3_presses_8 22 rfl rfl
theorem dksX3_presses_10 : cX3_presses.data.toList.drop 234 = dktX3_presses_10 := dk_seg dksX3_presses_9 24 rfl rfl
theorem dksX3_presses_11 : cX3_presses.data.toList.drop 257 = dktX3_presses_11 := dk_seg dksX3_presses_10 23 rfl rfl
theorem dksX3_presses_12 : cX3_presses.data.toList.drop 281 = dktX3_presses_12 := dk_seg dksX3_presses_11 24 rfl rfl
theorem dksX3_presses_13 : cX3_presses.data.toList.drop 304 = dktX3_presses_13 := dk_seg dksX3_presses_12 23 rfl rfl
theorem dX3_presses_0 : decode cX3_presses 0 = .ok (.iconst 0, 1) := dk_3 (dk_at dksX3_presses_0 0 rfl rfl)
theorem dX3_presses_1 : decode cX3_presses 1 = .ok (.istore_n 1, 1) := dk_60 (dk_at dksX3_presses_0 1 rfl rfl)
theorem dX3_presses_2 : decode cX3_presses 2 = .ok (.iload_n 1, 1) := dk_27 (dk_at dksX3_presses_0 2 rfl rfl)
theorem dX3_presses_3 : decode cX3_presses 3 = .ok (.bipush 64, 2) := dk_16 64 (dk_at dksX3_presses_0 3 rfl rfl)
theorem dX3_presses_5 : decode cX3_presses 5 = .ok (.if_icmp .ge 16, 3) := dk_162 0 16 (dk_at dksX3_presses_0 5 rfl rfl)
theorem dX3_presses_8 : decode cX3_presses 8 = .ok (.aload_n 0, 1) := dk_42 (dk_at dksX3_presses_0 8 rfl rfl)
theorem dX3_presses_9 : decode cX3_presses 9 = .ok (.getfield 49, 3) := dk_180 0 49 (dk_at dksX3_presses_0 9 rfl rfl)
theorem dX3_presses_12 : decode cX3_presses 12 = .ok (.iload_n 1, 1) := dk_27 (dk_at dksX3_presses_0 12 rfl rfl)
theorem dX3_presses_13 : decode cX3_presses 13 = .ok (.iconst 0, 1) := dk_3 (dk_at dksX3_presses_0 13 rfl rfl)
theorem dX3_presses_14 : decode cX3_presses 14 = .ok (.iastore, 1) := dk_79 (dk_at dksX3_presses_0 14 rfl rfl)
theorem dX3_presses_15 : decode cX3_presses 15 = .ok (.iinc 1 1, 3) := dk_132 1 1 (dk_at dksX3_presses_0 15 rfl rfl)
theorem dX3_presses_18 : decode cX3_presses 18 = .ok (.goto (-16), 3) := dk_167 255 240 (dk_at dksX3_presses_0 18 rfl rfl)
theorem dX3_presses_21 : decode cX3_presses 21 = .ok (.iconst 0, 1) := dk_3 (dk_at dksX3_presses_0 21 rfl rfl)
theorem dX3_presses_22 : decode cX3_presses 22 = .ok (.istore_n 1, 1) := dk_60 (dk_at dksX3_presses_0 22 rfl rfl)
theorem dX3_presses_23 : decode cX3_presses 23 = .ok (.iload_n 1, 1) := dk_27 (dk_at dksX3_presses_0 23 rfl rfl)
theorem dX3_presses_24 : decode cX3_presses 24 = .ok (.bipush 8, 2) := dk_16 8 (dk_at dksX3_presses_1 0 rfl rfl)
theorem dX3_presses_26 : decode cX3_presses 26 = .ok (.if_icmp .ge 39, 3) := dk_162 0 39 (dk_at dksX3_presses_1 2 rfl rfl)
theorem dX3_presses_29 : decode cX3_presses 29 = .ok (.aload_n 0, 1) := dk_42 (dk_at dksX3_presses_1 5 rfl rfl)
theorem dX3_presses_30 : decode cX3_presses 30 = .ok (.getfield 55, 3) := dk_180 0 55 (dk_at dksX3_presses_1 6 rfl rfl)
theorem dX3_presses_33 : decode cX3_presses 33 = .ok (.iload_n 1, 1) := dk_27 (dk_at dksX3_presses_1 9 rfl rfl)
theorem dX3_presses_34 : decode cX3_presses 34 = .ok (.iconst 0, 1) := dk_3 (dk_at dksX3_presses_1 10 rfl rfl)
theorem dX3_presses_35 : decode cX3_presses 35 = .ok (.iastore, 1) := dk_79 (dk_at dksX3_presses_1 11 rfl rfl)
theorem dX3_presses_36 : decode cX3_presses 36 = .ok (.aload_n 0, 1) := dk_42 (dk_at dksX3_presses_1 12 rfl rfl)
theorem dX3_presses_37 : decode cX3_presses 37 = .ok (.getfield 58, 3) := dk_180 0 58 (dk_at dksX3_presses_1 13 rfl rfl)
theorem dX3_presses_40 : decode cX3_presses 40 = .ok (.iload_n 1, 1) := dk_27 (dk_at dksX3_presses_1 16 rfl rfl)
theorem dX3_presses_41 : decode cX3_presses 41 = .ok (.iload_n 1, 1) := dk_27 (dk_at dksX3_presses_1 17 rfl rfl)
theorem dX3_presses_42 : decode cX3_presses 42 = .ok (.aload_n 0, 1) := dk_42 (dk_at dksX3_presses_1 18 rfl rfl)
theorem dX3_presses_43 : decode cX3_presses 43 = .ok (.getfield 80, 3) := dk_180 0 80 (dk_at dksX3_presses_1 19 rfl rfl)
theorem dX3_presses_46 : decode cX3_presses 46 = .ok (.if_icmp .ge 11, 3) := dk_162 0 11 (dk_at dksX3_presses_2 0 rfl rfl)
theorem dX3_presses_49 : decode cX3_presses 49 = .ok (.aload_n 0, 1) := dk_42 (dk_at dksX3_presses_2 3 rfl rfl)
theorem dX3_presses_50 : decode cX3_presses 50 = .ok (.iload_n 1, 1) := dk_27 (dk_at dksX3_presses_2 4 rfl rfl)
theorem dX3_presses_51 : decode cX3_presses 51 = .ok (.invokevirtual 238, 3) := dk_182 0 238 (dk_at dksX3_presses_2 5 rfl rfl)
theorem dX3_presses_54 : decode cX3_presses 54 = .ok (.goto 4, 3) := dk_167 0 4 (dk_at dksX3_presses_2 8 rfl rfl)
theorem dX3_presses_57 : decode cX3_presses 57 = .ok (.iconst 0, 1) := dk_3 (dk_at dksX3_presses_2 11 rfl rfl)
theorem dX3_presses_58 : decode cX3_presses 58 = .ok (.iastore, 1) := dk_79 (dk_at dksX3_presses_2 12 rfl rfl)
theorem dX3_presses_59 : decode cX3_presses 59 = .ok (.iinc 1 1, 3) := dk_132 1 1 (dk_at dksX3_presses_2 13 rfl rfl)
theorem dX3_presses_62 : decode cX3_presses 62 = .ok (.goto (-39), 3) := dk_167 255 217 (dk_at dksX3_presses_2 16 rfl rfl)
theorem dX3_presses_65 : decode cX3_presses 65 = .ok (.iconst 0, 1) := dk_3 (dk_at dksX3_presses_2 19 rfl rfl)
theorem dX3_presses_66 : decode cX3_presses 66 = .ok (.istore_n 1, 1) := dk_60 (dk_at dksX3_presses_2 20 rfl rfl)
theorem dX3_presses_67 : decode cX3_presses 67 = .ok (.iconst 0, 1) := dk_3 (dk_at dksX3_presses_2 21 rfl rfl)
theorem dX3_presses_68 : decode cX3_presses 68 = .ok (.istore_n 2, 1) := dk_61 (dk_at dksX3_presses_2 22 rfl rfl)
theorem dX3_presses_69 : decode cX3_presses 69 = .ok (.iload_n 2, 1) := dk_28 (dk_at dksX3_presses_2 23 rfl rfl)
theorem dX3_presses_70 : decode cX3_presses 70 = .ok (.bipush 8, 2) := dk_16 8 (dk_at dksX3_presses_3 0 rfl rfl)
theorem dX3_presses_72 : decode cX3_presses 72 = .ok (.if_icmp .ge 79, 3) := dk_162 0 79 (dk_at dksX3_presses_3 2 rfl rfl)
theorem dX3_presses_75 : decode cX3_presses 75 = .ok (.aload_n 0, 1) := dk_42 (dk_at dksX3_presses_3 5 rfl rfl)
theorem dX3_presses_76 : decode cX3_presses 76 = .ok (.getfield 65, 3) := dk_180 0 65 (dk_at dksX3_presses_3 6 rfl rfl)
theorem dX3_presses_79 : decode cX3_presses 79 = .ok (.iload_n 2, 1) := dk_28 (dk_at dksX3_presses_3 9 rfl rfl)
theorem dX3_presses_80 : decode cX3_presses 80 = .ok (.aload_n 0, 1) := dk_42 (dk_at dksX3_presses_3 10 rfl rfl)
theorem dX3_presses_81 : decode cX3_presses 81 = .ok (.getfield 58, 3) := dk_180 0 58 (dk_at dksX3_presses_3 11 rfl rfl)
theorem dX3_presses_84 : decode cX3_presses 84 = .ok (.iload_n 2, 1) := dk_28 (dk_at dksX3_presses_3 14 rfl rfl)
theorem dX3_presses_85 : decode cX3_presses 85 = .ok (.iaload, 1) := dk_46 (dk_at dksX3_presses_3 15 rfl rfl)
theorem dX3_presses_86 : decode cX3_presses 86 = .ok (.ifCond .le 7, 3) := dk_158 0 7 (dk_at dksX3_presses_3 16 rfl rfl)
theorem dX3_presses_89 : decode cX3_presses 89 = .ok (.iconst 0, 1) := dk_3 (dk_at dksX3_presses_3 19 rfl rfl)
theorem dX3_presses_90 : decode cX3_presses 90 = .ok (.goto 6, 3) := dk_167 0 6 (dk_at dksX3_presses_3 20 rfl rfl)
theorem dX3_presses_93 : decode cX3_presses 93 = .ok (.ldc_w 293, 3) := dk_19 1 37 (dk_at dksX3_presses_4 0 rfl rfl)
theorem dX3_presses_96 : decode cX3_presses 96 = .ok (.iastore, 1) := dk_79 (dk_at dksX3_presses_4 3 rfl rfl)
theorem dX3_presses_97 : decode cX3_presses 97 = .ok (.aload_n 0, 1) := dk_42 (dk_at dksX3_presses_4 4 rfl rfl)
theorem dX3_presses_98 : decode cX3_presses 98 = .ok (.getfield 65, 3) := dk_180 0 65 (dk_at dksX3_presses_4 5 rfl rfl)
theorem dX3_presses_101 : decode cX3_presses 101 = .ok (.iload_n 2, 1) := dk_28 (dk_at dksX3_presses_4 8 rfl rfl)
theorem dX3_presses_102 : decode cX3_presses 102 = .ok (.bipush 8, 2) := dk_16 8 (dk_at dksX3_presses_4 9 rfl rfl)
theorem dX3_presses_104 : decode cX3_presses 104 = .ok (.iadd, 1) := dk_96 (dk_at dksX3_presses_4 11 rfl rfl)
theorem dX3_presses_105 : decode cX3_presses 105 = .ok (.ldc_w 293, 3) := dk_19 1 37 (dk_at dksX3_presses_4 12 rfl rfl)
theorem dX3_presses_108 : decode cX3_presses 108 = .ok (.iastore, 1) := dk_79 (dk_at dksX3_presses_4 15 rfl rfl)
theorem dX3_presses_109 : decode cX3_presses 109 = .ok (.aload_n 0, 1) := dk_42 (dk_at dksX3_presses_4 16 rfl rfl)
theorem dX3_presses_110 : decode cX3_presses 110 = .ok (.getfield 68, 3) := dk_180 0 68 (dk_at dksX3_presses_4 17 rfl rfl)
theorem dX3_presses_113 : decode cX3_presses 113 = .ok (.iload_n 2, 1) := dk_28 (dk_at dksX3_presses_4 20 rfl rfl)
theorem dX3_presses_114 : decode cX3_presses 114 = .ok (.iconst (-1), 1) := dk_2 (dk_at dksX3_presses_4 21 rfl rfl)
theorem dX3_presses_115 : decode cX3_presses 115 = .ok (.iastore, 1) := dk_79 (dk_at dksX3_presses_4 22 rfl rfl)
theorem dX3_presses_116 : decode cX3_presses 116 = .ok (.aload_n 0, 1) := dk_42 (dk_at dksX3_presses_4 23 rfl rfl)
theorem dX3_presses_117 : decode cX3_presses 117 = .ok (.getfield 68, 3) := dk_180 0 68 (dk_at dksX3_presses_5 0 rfl rfl)
theorem dX3_presses_120 : decode cX3_presses 120 = .ok (.iload_n 2, 1) := dk_28 (dk_at dksX3_presses_5 3 rfl rfl)
theorem dX3_presses_121 : decode cX3_presses 121 = .ok (.bipush 8, 2) := dk_16 8 (dk_at dksX3_presses_5 4 rfl rfl)
theorem dX3_presses_123 : decode cX3_presses 123 = .ok (.iadd, 1) := dk_96 (dk_at dksX3_presses_5 6 rfl rfl)
theorem dX3_presses_124 : decode cX3_presses 124 = .ok (.iconst (-1), 1) := dk_2 (dk_at dksX3_presses_5 7 rfl rfl)
theorem dX3_presses_125 : decode cX3_presses 125 = .ok (.iastore, 1) := dk_79 (dk_at dksX3_presses_5 8 rfl rfl)
theorem dX3_presses_126 : decode cX3_presses 126 = .ok (.iload_n 1, 1) := dk_27 (dk_at dksX3_presses_5 9 rfl rfl)
theorem dX3_presses_127 : decode cX3_presses 127 = .ok (.ifCond .ne 12, 3) := dk_154 0 12 (dk_at dksX3_presses_5 10 rfl rfl)
theorem dX3_presses_130 : decode cX3_presses 130 = .ok (.aload_n 0, 1) := dk_42 (dk_at dksX3_presses_5 13 rfl rfl)
theorem dX3_presses_131 : decode cX3_presses 131 = .ok (.getfield 58, 3) := dk_180 0 58 (dk_at dksX3_presses_5 14 rfl rfl)
theorem dX3_presses_134 : decode cX3_presses 134 = .ok (.iload_n 2, 1) := dk_28 (dk_at dksX3_presses_5 17 rfl rfl)
theorem dX3_presses_135 : decode cX3_presses 135 = .ok (.iaload, 1) := dk_46 (dk_at dksX3_presses_5 18 rfl rfl)
theorem dX3_presses_136 : decode cX3_presses 136 = .ok (.ifCond .le 7, 3) := dk_158 0 7 (dk_at dksX3_presses_5 19 rfl rfl)
theorem dX3_presses_139 : decode cX3_presses 139 = .ok (.iconst 1, 1) := dk_4 (dk_at dksX3_presses_5 22 rfl rfl)
theorem dX3_presses_140 : decode cX3_presses 140 = .ok (.goto 4, 3) := dk_167 0 4 (dk_at dksX3_presses_6 0 rfl rfl)
theorem dX3_presses_143 : decode cX3_presses 143 = .ok (.iconst 0, 1) := dk_3 (dk_at dksX3_presses_6 3 rfl rfl)
theorem dX3_presses_144 : decode cX3_presses 144 = .ok (.istore_n 1, 1) := dk_60 (dk_at dksX3_presses_6 4 rfl rfl)
theorem dX3_presses_145 : decode cX3_presses 145 = .ok (.iinc 2 1, 3) := dk_132 2 1 (dk_at dksX3_presses_6 5 rfl rfl)
theorem dX3_presses_148 : decode cX3_presses 148 = .ok (.goto (-79), 3) := dk_167 255 177 (dk_at dksX3_presses_6 8 rfl rfl)
theorem dX3_presses_151 : decode cX3_presses 151 = .ok (.iload_n 1, 1) := dk_27 (dk_at dksX3_presses_6 11 rfl rfl)
theorem dX3_presses_152 : decode cX3_presses 152 = .ok (.ifCond .ne 5, 3) := dk_154 0 5 (dk_at dksX3_presses_6 12 rfl rfl)
theorem dX3_presses_155 : decode cX3_presses 155 = .ok (.iconst 1, 1) := dk_4 (dk_at dksX3_presses_6 15 rfl rfl)
theorem dX3_presses_156 : decode cX3_presses 156 = .ok (.ireturn, 1) := dk_172 (dk_at dksX3_presses_6 16 rfl rfl)
theorem dX3_presses_157 : decode cX3_presses 157 = .ok (.aload_n 0, 1) := dk_42 (dk_at dksX3_presses_6 17 rfl rfl)
theorem dX3_presses_158 : decode cX3_presses 158 = .ok (.invokevirtual 300, 3) := dk_182 1 44 (dk_at dksX3_presses_6 18 rfl rfl)
theorem dX3_presses_161 : decode cX3_presses 161 = .ok (.iconst (-1), 1) := dk_2 (dk_at dksX3_presses_6 21 rfl rfl)
theorem dX3_presses_162 : decode cX3_presses 162 = .ok (.istore_n 2, 1) := dk_61 (dk_at dksX3_presses_6 22 rfl rfl)
theorem dX3_presses_163 : decode cX3_presses 163 = .ok (.iconst 0, 1) := dk_3 (dk_at dksX3_presses_6 23 rfl rfl)
theorem dX3_presses_164 : decode cX3_presses 164 = .ok (.istore_n 3, 1) := dk_62 (dk_at dksX3_presses_7 0 rfl rfl)
theorem dX3_presses_165 : decode cX3_presses 165 = .ok (.iload_n 3, 1) := dk_29 (dk_at dksX3_presses_7 1 rfl rfl)
theorem dX3_presses_166 : decode cX3_presses 166 = .ok (.bipush 8, 2) := dk_16 8 (dk_at dksX3_presses_7 2 rfl rfl)
theorem dX3_presses_168 : decode cX3_presses 168 = .ok (.if_icmp .ge 61, 3) := dk_162 0 61 (dk_at dksX3_presses_7 4 rfl rfl)
theorem dX3_presses_171 : decode cX3_presses 171 = .ok (.aload_n 0, 1) := dk_42 (dk_at dksX3_presses_7 7 rfl rfl)
theorem dX3_presses_172 : decode cX3_presses 172 = .ok (.getfield 58, 3) := dk_180 0 58 (dk_at dksX3_presses_7 8 rfl rfl)
theorem dX3_presses_175 : decode cX3_presses 175 = .ok (.iload_n 3, 1) := dk_29 (dk_at dksX3_presses_7 11 rfl rfl)
theorem dX3_presses_176 : decode cX3_presses 176 = .ok (.iaload, 1) := dk_46 (dk_at dksX3_presses_7 12 rfl rfl)
theorem dX3_presses_177 : decode cX3_presses 177 = .ok (.ifCond .ge 46, 3) := dk_156 0 46 (dk_at dksX3_presses_7 13 rfl rfl)
theorem dX3_presses_180 : decode cX3_presses 180 = .ok (.aload_n 0, 1) := dk_42 (dk_at dksX3_presses_7 16 rfl rfl)
theorem dX3_presses_181 : decode cX3_presses 181 = .ok (.getfield 65, 3) := dk_180 0 65 (dk_at dksX3_presses_7 17 rfl rfl)
theorem dX3_presses_184 : decode cX3_presses 184 = .ok (.iload_n 3, 1) := dk_29 (dk_at dksX3_presses_7 20 rfl rfl)
theorem dX3_presses_185 : decode cX3_presses 185 = .ok (.bipush 8, 2) := dk_16 8 (dk_at dksX3_presses_7 21 rfl rfl)
theorem dX3_presses_187 : decode cX3_presses 187 = .ok (.iadd, 1) := dk_96 (dk_at dksX3_presses_7 23 rfl rfl)
theorem dX3_presses_188 : decode cX3_presses 188 = .ok (.iaload, 1) := dk_46 (dk_at dksX3_presses_8 0 rfl rfl)
theorem dX3_presses_189 : decode cX3_presses 189 = .ok (.ldc_w 293, 3) := dk_19 1 37 (dk_at dksX3_presses_8 1 rfl rfl)
theorem dX3_presses_192 : decode cX3_presses 192 = .ok (.if_icmp .ge 31, 3) := dk_162 0 31 (dk_at dksX3_presses_8 4 rfl rfl)
theorem dX3_presses_195 : decode cX3_presses 195 = .ok (.iload_n 2, 1) := dk_28 (dk_at dksX3_presses_8 7 rfl rfl)
theorem dX3_presses_196 : decode cX3_presses 196 = .ok (.iconst (-1), 1) := dk_2 (dk_at dksX3_presses_8 8 rfl rfl)
theorem dX3_presses_197 : decode cX3_presses 197 = .ok (.if_icmp .eq 24, 3) := dk_159 0 24 (dk_at dksX3_presses_8 9 rfl rfl)
theorem dX3_presses_200 : decode cX3_presses 200 = .ok (.aload_n 0, 1) := dk_42 (dk_at dksX3_presses_8 12 rfl rfl)
theorem dX3_presses_201 : decode cX3_presses 201 = .ok (.getfield 65, 3) := dk_180 0 65 (dk_at dksX3_presses_8 13 rfl rfl)
theorem dX3_presses_204 : decode cX3_presses 204 = .ok (.iload_n 3, 1) := dk_29 (dk_at dksX3_presses_8 16 rfl rfl)
theorem dX3_presses_205 : decode cX3_presses 205 = .ok (.bipush 8, 2) := dk_16 8 (dk_at dksX3_presses_8 17 rfl rfl)
theorem dX3_presses_207 : decode cX3_presses 207 = .ok (.iadd, 1) := dk_96 (dk_at dksX3_presses_8 19 rfl rfl)
theorem dX3_presses_208 : decode cX3_presses 208 = .ok (.iaload, 1) := dk_46 (dk_at dksX3_presses_8 20 rfl rfl)
theorem dX3_presses_209 : decode cX3_presses 209 = .ok (.aload_n 0, 1) := dk_42 (dk_at dksX3_presses_8 21 rfl rfl)
theorem dX3_presses_210 : decode cX3_presses 210 = .ok (.getfield 65, 3) := dk_180 0 65 (dk_at dksX3_presses_9 0 rfl rfl)
theorem dX3_presses_213 : decode cX3_presses 213 = .ok (.iload_n 2, 1) := dk_28 (dk_at dksX3_presses_9 3 rfl rfl)
theorem dX3_presses_214 : decode cX3_presses 214 = .ok (.bipush 8, 2) := dk_16 8 (dk_at dksX3_presses_9 4 rfl rfl)
theorem dX3_presses_216 : decode cX3_presses 216 = .ok (.iadd, 1) := dk_96 (dk_at dksX3_presses_9 6 rfl rfl)
theorem dX3_presses_217 : decode cX3_presses 217 = .ok (.iaload, 1) := dk_46 (dk_at dksX3_presses_9 7 rfl rfl)
theorem dX3_presses_218 : decode cX3_presses 218 = .ok (.if_icmp .ge 5, 3) := dk_162 0 5 (dk_at dksX3_presses_9 8 rfl rfl)
theorem dX3_presses_221 : decode cX3_presses 221 = .ok (.iload_n 3, 1) := dk_29 (dk_at dksX3_presses_9 11 rfl rfl)
theorem dX3_presses_222 : decode cX3_presses 222 = .ok (.istore_n 2, 1) := dk_61 (dk_at dksX3_presses_9 12 rfl rfl)
theorem dX3_presses_223 : decode cX3_presses 223 = .ok (.iinc 3 1, 3) := dk_132 3 1 (dk_at dksX3_presses_9 13 rfl rfl)
theorem dX3_presses_226 : decode cX3_presses 226 = .ok (.goto (-61), 3) := dk_167 255 195 (dk_at dksX3_presses_9 16 rfl rfl)
theorem dX3_presses_229 : decode cX3_presses 229 = .ok (.iload_n 2, 1) := dk_28 (dk_at dksX3_presses_9 19 rfl rfl)
theorem dX3_presses_230 : decode cX3_presses 230 = .ok (.iconst (-1), 1) := dk_2 (dk_at dksX3_presses_9 20 rfl rfl)
theorem dX3_presses_231 : decode cX3_presses 231 = .ok (.if_icmp .ne 5, 3) := dk_160 0 5 (dk_at dksX3_presses_9 21 rfl rfl)
theorem dX3_presses_234 : decode cX3_presses 234 = .ok (.iconst 0, 1) := dk_3 (dk_at dksX3_presses_10 0 rfl rfl)
theorem dX3_presses_235 : decode cX3_presses 235 = .ok (.ireturn, 1) := dk_172 (dk_at dksX3_presses_10 1 rfl rfl)
theorem dX3_presses_236 : decode cX3_presses 236 = .ok (.aload_n 0, 1) := dk_42 (dk_at dksX3_presses_10 2 rfl rfl)
theorem dX3_presses_237 : decode cX3_presses 237 = .ok (.iload_n 2, 1) := dk_28 (dk_at dksX3_presses_10 3 rfl rfl)
theorem dX3_presses_238 : decode cX3_presses 238 = .ok (.bipush 8, 2) := dk_16 8 (dk_at dksX3_presses_10 4 rfl rfl)
theorem dX3_presses_240 : decode cX3_presses 240 = .ok (.iadd, 1) := dk_96 (dk_at dksX3_presses_10 6 rfl rfl)
theorem dX3_presses_241 : decode cX3_presses 241 = .ok (.invokevirtual 303, 3) := dk_182 1 47 (dk_at dksX3_presses_10 7 rfl rfl)
theorem dX3_presses_244 : decode cX3_presses 244 = .ok (.istore_n 3, 1) := dk_62 (dk_at dksX3_presses_10 10 rfl rfl)
theorem dX3_presses_245 : decode cX3_presses 245 = .ok (.aload_n 0, 1) := dk_42 (dk_at dksX3_presses_10 11 rfl rfl)
theorem dX3_presses_246 : decode cX3_presses 246 = .ok (.iload_n 2, 1) := dk_28 (dk_at dksX3_presses_10 12 rfl rfl)
theorem dX3_presses_247 : decode cX3_presses 247 = .ok (.bipush 8, 2) := dk_16 8 (dk_at dksX3_presses_10 13 rfl rfl)
theorem dX3_presses_249 : decode cX3_presses 249 = .ok (.iadd, 1) := dk_96 (dk_at dksX3_presses_10 15 rfl rfl)
theorem dX3_presses_250 : decode cX3_presses 250 = .ok (.aload_n 0, 1) := dk_42 (dk_at dksX3_presses_10 16 rfl rfl)
theorem dX3_presses_251 : decode cX3_presses 251 = .ok (.getfield 58, 3) := dk_180 0 58 (dk_at dksX3_presses_10 17 rfl rfl)
theorem dX3_presses_254 : decode cX3_presses 254 = .ok (.iload_n 3, 1) := dk_29 (dk_at dksX3_presses_10 20 rfl rfl)
theorem dX3_presses_255 : decode cX3_presses 255 = .ok (.iaload, 1) := dk_46 (dk_at dksX3_presses_10 21 rfl rfl)
theorem dX3_presses_256 : decode cX3_presses 256 = .ok (.aload_n 0, 1) := dk_42 (dk_at dksX3_presses_10 22 rfl rfl)
theorem dX3_presses_257 : decode cX3_presses 257 = .ok (.getfield 58, 3) := dk_180 0 58 (dk_at dksX3_presses_11 0 rfl rfl)
theorem dX3_presses_260 : decode cX3_presses 260 = .ok (.iload_n 2, 1) := dk_28 (dk_at dksX3_presses_11 3 rfl rfl)
theorem dX3_presses_261 : decode cX3_presses 261 = .ok (.iaload, 1) := dk_46 (dk_at dksX3_presses_11 4 rfl rfl)
theorem dX3_presses_262 : decode cX3_presses 262 = .ok (.ineg, 1) := dk_116 (dk_at dksX3_presses_11 5 rfl rfl)
theorem dX3_presses_263 : decode cX3_presses 263 = .ok (.if_icmp .ge 12, 3) := dk_162 0 12 (dk_at dksX3_presses_11 6 rfl rfl)
theorem dX3_presses_266 : decode cX3_presses 266 = .ok (.aload_n 0, 1) := dk_42 (dk_at dksX3_presses_11 9 rfl rfl)
theorem dX3_presses_267 : decode cX3_presses 267 = .ok (.getfield 58, 3) := dk_180 0 58 (dk_at dksX3_presses_11 10 rfl rfl)
theorem dX3_presses_270 : decode cX3_presses 270 = .ok (.iload_n 3, 1) := dk_29 (dk_at dksX3_presses_11 13 rfl rfl)
theorem dX3_presses_271 : decode cX3_presses 271 = .ok (.iaload, 1) := dk_46 (dk_at dksX3_presses_11 14 rfl rfl)
theorem dX3_presses_272 : decode cX3_presses 272 = .ok (.goto 10, 3) := dk_167 0 10 (dk_at dksX3_presses_11 15 rfl rfl)
theorem dX3_presses_275 : decode cX3_presses 275 = .ok (.aload_n 0, 1) := dk_42 (dk_at dksX3_presses_11 18 rfl rfl)
theorem dX3_presses_276 : decode cX3_presses 276 = .ok (.getfield 58, 3) := dk_180 0 58 (dk_at dksX3_presses_11 19 rfl rfl)
theorem dX3_presses_279 : decode cX3_presses 279 = .ok (.iload_n 2, 1) := dk_28 (dk_at dksX3_presses_11 22 rfl rfl)
theorem dX3_presses_280 : decode cX3_presses 280 = .ok (.iaload, 1) := dk_46 (dk_at dksX3_presses_11 23 rfl rfl)
theorem dX3_presses_281 : decode cX3_presses 281 = .ok (.ineg, 1) := dk_116 (dk_at dksX3_presses_12 0 rfl rfl)
theorem dX3_presses_282 : decode cX3_presses 282 = .ok (.invokevirtual 306, 3) := dk_182 1 50 (dk_at dksX3_presses_12 1 rfl rfl)
theorem dX3_presses_285 : decode cX3_presses 285 = .ok (.istore 4, 2) := dk_54 4 (dk_at dksX3_presses_12 4 rfl rfl)
theorem dX3_presses_287 : decode cX3_presses 287 = .ok (.aload_n 0, 1) := dk_42 (dk_at dksX3_presses_12 6 rfl rfl)
theorem dX3_presses_288 : decode cX3_presses 288 = .ok (.iload_n 2, 1) := dk_28 (dk_at dksX3_presses_12 7 rfl rfl)
theorem dX3_presses_289 : decode cX3_presses 289 = .ok (.bipush 8, 2) := dk_16 8 (dk_at dksX3_presses_12 8 rfl rfl)
theorem dX3_presses_291 : decode cX3_presses 291 = .ok (.iadd, 1) := dk_96 (dk_at dksX3_presses_12 10 rfl rfl)
theorem dX3_presses_292 : decode cX3_presses 292 = .ok (.iload 4, 2) := dk_21 4 (dk_at dksX3_presses_12 11 rfl rfl)
theorem dX3_presses_294 : decode cX3_presses 294 = .ok (.invokevirtual 309, 3) := dk_182 1 53 (dk_at dksX3_presses_12 13 rfl rfl)
theorem dX3_presses_297 : decode cX3_presses 297 = .ok (.aload_n 0, 1) := dk_42 (dk_at dksX3_presses_12 16 rfl rfl)
theorem dX3_presses_298 : decode cX3_presses 298 = .ok (.getfield 58, 3) := dk_180 0 58 (dk_at dksX3_presses_12 17 rfl rfl)
theorem dX3_presses_301 : decode cX3_presses 301 = .ok (.iload_n 3, 1) := dk_29 (dk_at dksX3_presses_12 20 rfl rfl)
theorem dX3_presses_302 : decode cX3_presses 302 = .ok (.dup2, 1) := dk_92 (dk_at dksX3_presses_12 21 rfl rfl)
theorem dX3_presses_303 : decode cX3_presses 303 = .ok (.iaload, 1) := dk_46 (dk_at dksX3_presses_12 22 rfl rfl)
theorem dX3_presses_304 : decode cX3_presses 304 = .ok (.iload 4, 2) := dk_21 4 (dk_at dksX3_presses_13 0 rfl rfl)
theorem dX3_presses_306 : decode cX3_presses 306 = .ok (.isub, 1) := dk_100 (dk_at dksX3_presses_13 2 rfl rfl)
theorem dX3_presses_307 : decode cX3_presses 307 = .ok (.iastore, 1) := dk_79 (dk_at dksX3_presses_13 3 rfl rfl)
theorem dX3_presses_308 : decode cX3_presses 308 = .ok (.aload_n 0, 1) := dk_42 (dk_at dksX3_presses_13 4 rfl rfl)
theorem dX3_presses_309 : decode cX3_presses 309 = .ok (.getfield 58, 3) := dk_180 0 58 (dk_at dksX3_presses_13 5 rfl rfl)
theorem dX3_presses_312 : decode cX3_presses 312 = .ok (.iload_n 2, 1) := dk_28 (dk_at dksX3_presses_13 8 rfl rfl)
theorem dX3_presses_313 : decode cX3_presses 313 = .ok (.dup2, 1) := dk_92 (dk_at dksX3_presses_13 9 rfl rfl)
theorem dX3_presses_314 : decode cX3_presses 314 = .ok (.iaload, 1) := dk_46 (dk_at dksX3_presses_13 10 rfl rfl)
theorem dX3_presses_315 : decode cX3_presses 315 = .ok (.iload 4, 2) := dk_21 4 (dk_at dksX3_presses_13 11 rfl rfl)
theorem dX3_presses_317 : decode cX3_presses 317 = .ok (.iadd, 1) := dk_96 (dk_at dksX3_presses_13 13 rfl rfl)
theorem dX3_presses_318 : decode cX3_presses 318 = .ok (.iastore, 1) := dk_79 (dk_at dksX3_presses_13 14 rfl rfl)
theorem dX3_presses_319 : decode cX3_presses 319 = .ok (.goto (-254), 3) := dk_167 255 2 (dk_at dksX3_presses_13 15 rfl rfl)
abbrev cX3_laysWays : ByteArray := prog_15_method_71_code
def yX3_laysWays : MethodName := ⟨RX3, "laysWays", "()V"⟩
def dkwX3_laysWays_4 : List UInt8 := [4, 60, 132, 3, 1, 167, 255, 175, 132, 2, 1, 167, 255, 161, 167, 255, 150, 177]
abbrev dktX3_laysWays_4 : List UInt8 := dkwX3_laysWays_4 ++ []
def dkwX3_laysWays_3 : List UInt8 := [180, 0, 65, 29, 42, 180, 0, 65, 28, 46, 28, 29, 184, 1, 41, 96, 79, 42, 180, 0, 68, 29, 28, 79]
abbrev dktX3_laysWays_3 : List UInt8 := dkwX3_laysWays_3 ++ dktX3_laysWays_4
def dkwX3_laysWays_2 : List UInt8 := [180, 0, 65, 28, 46, 28, 29, 184, 1, 41, 96, 42, 180, 0, 65, 29, 46, 161, 0, 6, 167, 0, 30, 42]
abbrev dktX3_laysWays_2 : List UInt8 := dkwX3_laysWays_2 ++ dktX3_laysWays_3
def dkwX3_laysWays_1 : List UInt8 := [42, 180, 0, 65, 28, 46, 19, 1, 37, 162, 0, 69, 42, 28, 29, 182, 1, 38, 158, 0, 54, 42]
abbrev dktX3_laysWays_1 : List UInt8 := dkwX3_laysWays_1 ++ dktX3_laysWays_2
def dkwX3_laysWays_0 : List UInt8 := [4, 60, 27, 153, 0, 108, 3, 60, 3, 61, 28, 16, 16, 162, 0, 95, 3, 62, 29, 16, 16, 162, 0, 81]
abbrev dktX3_laysWays_0 : List UInt8 := dkwX3_laysWays_0 ++ dktX3_laysWays_1
theorem dksX3_laysWays_0 : cX3_laysWays.data.toList.drop 0 = dktX3_laysWays_0 := by decide +kernel
theorem dksX3_laysWays_1 : cX3_laysWays.data.toList.drop 24 = dktX3_laysWays_1 := dk_seg dksX3_laysWays_0 24 rfl rfl
theorem dksX3_laysWays_2 : cX3_laysWays.data.toList.drop 46 = dktX3_laysWays_2 := dk_seg dksX3_laysWays_1 22 rfl rfl
theorem dksX3_laysWays_3 : cX3_laysWays.data.toList.drop 70 = dktX3_laysWays_3 := dk_seg dksX3_laysWays_2 24 rfl rfl
theorem dksX3_laysWays_4 : cX3_laysWays.data.toList.drop 94 = dktX3_laysWays_4 := dk_seg dksX3_laysWays_3 24 rfl rfl
theorem dX3_laysWays_0 : decode cX3_laysWays 0 = .ok (.iconst 1, 1) := dk_4 (dk_at dksX3_laysWays_0 0 rfl rfl)
theorem dX3_laysWays_1 : decode cX3_laysWays 1 = .ok (.istore_n 1, 1) := dk_60 (dk_at dksX3_laysWays_0 1 rfl rfl)
theorem dX3_laysWays_2 : decode cX3_laysWays 2 = .ok (.iload_n 1, 1) := dk_27 (dk_at dksX3_laysWays_0 2 rfl rfl)
theorem dX3_laysWays_3 : decode cX3_laysWays 3 = .ok (.ifCond .eq 108, 3) := dk_153 0 108 (dk_at dksX3_laysWays_0 3 rfl rfl)
theorem dX3_laysWays_6 : decode cX3_laysWays 6 = .ok (.iconst 0, 1) := dk_3 (dk_at dksX3_laysWays_0 6 rfl rfl)
theorem dX3_laysWays_7 : decode cX3_laysWays 7 = .ok (.istore_n 1, 1) := dk_60 (dk_at dksX3_laysWays_0 7 rfl rfl)
theorem dX3_laysWays_8 : decode cX3_laysWays 8 = .ok (.iconst 0, 1) := dk_3 (dk_at dksX3_laysWays_0 8 rfl rfl)
theorem dX3_laysWays_9 : decode cX3_laysWays 9 = .ok (.istore_n 2, 1) := dk_61 (dk_at dksX3_laysWays_0 9 rfl rfl)
theorem dX3_laysWays_10 : decode cX3_laysWays 10 = .ok (.iload_n 2, 1) := dk_28 (dk_at dksX3_laysWays_0 10 rfl rfl)
theorem dX3_laysWays_11 : decode cX3_laysWays 11 = .ok (.bipush 16, 2) := dk_16 16 (dk_at dksX3_laysWays_0 11 rfl rfl)
theorem dX3_laysWays_13 : decode cX3_laysWays 13 = .ok (.if_icmp .ge 95, 3) := dk_162 0 95 (dk_at dksX3_laysWays_0 13 rfl rfl)
theorem dX3_laysWays_16 : decode cX3_laysWays 16 = .ok (.iconst 0, 1) := dk_3 (dk_at dksX3_laysWays_0 16 rfl rfl)
theorem dX3_laysWays_17 : decode cX3_laysWays 17 = .ok (.istore_n 3, 1) := dk_62 (dk_at dksX3_laysWays_0 17 rfl rfl)
theorem dX3_laysWays_18 : decode cX3_laysWays 18 = .ok (.iload_n 3, 1) := dk_29 (dk_at dksX3_laysWays_0 18 rfl rfl)
theorem dX3_laysWays_19 : decode cX3_laysWays 19 = .ok (.bipush 16, 2) := dk_16 16 (dk_at dksX3_laysWays_0 19 rfl rfl)
theorem dX3_laysWays_21 : decode cX3_laysWays 21 = .ok (.if_icmp .ge 81, 3) := dk_162 0 81 (dk_at dksX3_laysWays_0 21 rfl rfl)
theorem dX3_laysWays_24 : decode cX3_laysWays 24 = .ok (.aload_n 0, 1) := dk_42 (dk_at dksX3_laysWays_1 0 rfl rfl)
theorem dX3_laysWays_25 : decode cX3_laysWays 25 = .ok (.getfield 65, 3) := dk_180 0 65 (dk_at dksX3_laysWays_1 1 rfl rfl)
theorem dX3_laysWays_28 : decode cX3_laysWays 28 = .ok (.iload_n 2, 1) := dk_28 (dk_at dksX3_laysWays_1 4 rfl rfl)
theorem dX3_laysWays_29 : decode cX3_laysWays 29 = .ok (.iaload, 1) := dk_46 (dk_at dksX3_laysWays_1 5 rfl rfl)
theorem dX3_laysWays_30 : decode cX3_laysWays 30 = .ok (.ldc_w 293, 3) := dk_19 1 37 (dk_at dksX3_laysWays_1 6 rfl rfl)
theorem dX3_laysWays_33 : decode cX3_laysWays 33 = .ok (.if_icmp .ge 69, 3) := dk_162 0 69 (dk_at dksX3_laysWays_1 9 rfl rfl)
theorem dX3_laysWays_36 : decode cX3_laysWays 36 = .ok (.aload_n 0, 1) := dk_42 (dk_at dksX3_laysWays_1 12 rfl rfl)
theorem dX3_laysWays_37 : decode cX3_laysWays 37 = .ok (.iload_n 2, 1) := dk_28 (dk_at dksX3_laysWays_1 13 rfl rfl)
theorem dX3_laysWays_38 : decode cX3_laysWays 38 = .ok (.iload_n 3, 1) := dk_29 (dk_at dksX3_laysWays_1 14 rfl rfl)
theorem dX3_laysWays_39 : decode cX3_laysWays 39 = .ok (.invokevirtual 294, 3) := dk_182 1 38 (dk_at dksX3_laysWays_1 15 rfl rfl)
theorem dX3_laysWays_42 : decode cX3_laysWays 42 = .ok (.ifCond .le 54, 3) := dk_158 0 54 (dk_at dksX3_laysWays_1 18 rfl rfl)
theorem dX3_laysWays_45 : decode cX3_laysWays 45 = .ok (.aload_n 0, 1) := dk_42 (dk_at dksX3_laysWays_1 21 rfl rfl)
theorem dX3_laysWays_46 : decode cX3_laysWays 46 = .ok (.getfield 65, 3) := dk_180 0 65 (dk_at dksX3_laysWays_2 0 rfl rfl)
theorem dX3_laysWays_49 : decode cX3_laysWays 49 = .ok (.iload_n 2, 1) := dk_28 (dk_at dksX3_laysWays_2 3 rfl rfl)
theorem dX3_laysWays_50 : decode cX3_laysWays 50 = .ok (.iaload, 1) := dk_46 (dk_at dksX3_laysWays_2 4 rfl rfl)
theorem dX3_laysWays_51 : decode cX3_laysWays 51 = .ok (.iload_n 2, 1) := dk_28 (dk_at dksX3_laysWays_2 5 rfl rfl)
theorem dX3_laysWays_52 : decode cX3_laysWays 52 = .ok (.iload_n 3, 1) := dk_29 (dk_at dksX3_laysWays_2 6 rfl rfl)
theorem dX3_laysWays_53 : decode cX3_laysWays 53 = .ok (.invokestatic 297, 3) := dk_184 1 41 (dk_at dksX3_laysWays_2 7 rfl rfl)
theorem dX3_laysWays_56 : decode cX3_laysWays 56 = .ok (.iadd, 1) := dk_96 (dk_at dksX3_laysWays_2 10 rfl rfl)
theorem dX3_laysWays_57 : decode cX3_laysWays 57 = .ok (.aload_n 0, 1) := dk_42 (dk_at dksX3_laysWays_2 11 rfl rfl)
theorem dX3_laysWays_58 : decode cX3_laysWays 58 = .ok (.getfield 65, 3) := dk_180 0 65 (dk_at dksX3_laysWays_2 12 rfl rfl)
theorem dX3_laysWays_61 : decode cX3_laysWays 61 = .ok (.iload_n 3, 1) := dk_29 (dk_at dksX3_laysWays_2 15 rfl rfl)
theorem dX3_laysWays_62 : decode cX3_laysWays 62 = .ok (.iaload, 1) := dk_46 (dk_at dksX3_laysWays_2 16 rfl rfl)
theorem dX3_laysWays_63 : decode cX3_laysWays 63 = .ok (.if_icmp .lt 6, 3) := dk_161 0 6 (dk_at dksX3_laysWays_2 17 rfl rfl)
theorem dX3_laysWays_66 : decode cX3_laysWays 66 = .ok (.goto 30, 3) := dk_167 0 30 (dk_at dksX3_laysWays_2 20 rfl rfl)
theorem dX3_laysWays_69 : decode cX3_laysWays 69 = .ok (.aload_n 0, 1) := dk_42 (dk_at dksX3_laysWays_2 23 rfl rfl)
theorem dX3_laysWays_70 : decode cX3_laysWays 70 = .ok (.getfield 65, 3) := dk_180 0 65 (dk_at dksX3_laysWays_3 0 rfl rfl)
theorem dX3_laysWays_73 : decode cX3_laysWays 73 = .ok (.iload_n 3, 1) := dk_29 (dk_at dksX3_laysWays_3 3 rfl rfl)
theorem dX3_laysWays_74 : decode cX3_laysWays 74 = .ok (.aload_n 0, 1) := dk_42 (dk_at dksX3_laysWays_3 4 rfl rfl)
theorem dX3_laysWays_75 : decode cX3_laysWays 75 = .ok (.getfield 65, 3) := dk_180 0 65 (dk_at dksX3_laysWays_3 5 rfl rfl)
theorem dX3_laysWays_78 : decode cX3_laysWays 78 = .ok (.iload_n 2, 1) := dk_28 (dk_at dksX3_laysWays_3 8 rfl rfl)
theorem dX3_laysWays_79 : decode cX3_laysWays 79 = .ok (.iaload, 1) := dk_46 (dk_at dksX3_laysWays_3 9 rfl rfl)
theorem dX3_laysWays_80 : decode cX3_laysWays 80 = .ok (.iload_n 2, 1) := dk_28 (dk_at dksX3_laysWays_3 10 rfl rfl)
theorem dX3_laysWays_81 : decode cX3_laysWays 81 = .ok (.iload_n 3, 1) := dk_29 (dk_at dksX3_laysWays_3 11 rfl rfl)
theorem dX3_laysWays_82 : decode cX3_laysWays 82 = .ok (.invokestatic 297, 3) := dk_184 1 41 (dk_at dksX3_laysWays_3 12 rfl rfl)
theorem dX3_laysWays_85 : decode cX3_laysWays 85 = .ok (.iadd, 1) := dk_96 (dk_at dksX3_laysWays_3 15 rfl rfl)
theorem dX3_laysWays_86 : decode cX3_laysWays 86 = .ok (.iastore, 1) := dk_79 (dk_at dksX3_laysWays_3 16 rfl rfl)
theorem dX3_laysWays_87 : decode cX3_laysWays 87 = .ok (.aload_n 0, 1) := dk_42 (dk_at dksX3_laysWays_3 17 rfl rfl)
theorem dX3_laysWays_88 : decode cX3_laysWays 88 = .ok (.getfield 68, 3) := dk_180 0 68 (dk_at dksX3_laysWays_3 18 rfl rfl)
theorem dX3_laysWays_91 : decode cX3_laysWays 91 = .ok (.iload_n 3, 1) := dk_29 (dk_at dksX3_laysWays_3 21 rfl rfl)
theorem dX3_laysWays_92 : decode cX3_laysWays 92 = .ok (.iload_n 2, 1) := dk_28 (dk_at dksX3_laysWays_3 22 rfl rfl)
theorem dX3_laysWays_93 : decode cX3_laysWays 93 = .ok (.iastore, 1) := dk_79 (dk_at dksX3_laysWays_3 23 rfl rfl)
theorem dX3_laysWays_94 : decode cX3_laysWays 94 = .ok (.iconst 1, 1) := dk_4 (dk_at dksX3_laysWays_4 0 rfl rfl)
theorem dX3_laysWays_95 : decode cX3_laysWays 95 = .ok (.istore_n 1, 1) := dk_60 (dk_at dksX3_laysWays_4 1 rfl rfl)
theorem dX3_laysWays_96 : decode cX3_laysWays 96 = .ok (.iinc 3 1, 3) := dk_132 3 1 (dk_at dksX3_laysWays_4 2 rfl rfl)
theorem dX3_laysWays_99 : decode cX3_laysWays 99 = .ok (.goto (-81), 3) := dk_167 255 175 (dk_at dksX3_laysWays_4 5 rfl rfl)
theorem dX3_laysWays_102 : decode cX3_laysWays 102 = .ok (.iinc 2 1, 3) := dk_132 2 1 (dk_at dksX3_laysWays_4 8 rfl rfl)
theorem dX3_laysWays_105 : decode cX3_laysWays 105 = .ok (.goto (-95), 3) := dk_167 255 161 (dk_at dksX3_laysWays_4 11 rfl rfl)
theorem dX3_laysWays_108 : decode cX3_laysWays 108 = .ok (.goto (-106), 3) := dk_167 255 150 (dk_at dksX3_laysWays_4 14 rfl rfl)
theorem dX3_laysWays_111 : decode cX3_laysWays 111 = .ok (.return_, 1) := dk_177 (dk_at dksX3_laysWays_4 17 rfl rfl)
abbrev cX3_stepMay : ByteArray := prog_15_method_69_code
def yX3_stepMay : MethodName := ⟨RX3, "stepMay", "(II)I"⟩
def dkwX3_stepMay_6 : List UInt8 := [46, 42, 180, 0, 49, 21, 6, 46, 100, 167, 0, 10, 42, 180, 0, 49, 21, 6, 46, 172]
abbrev dktX3_stepMay_6 : List UInt8 := dkwX3_stepMay_6 ++ []
def dkwX3_stepMay_5 : List UInt8 := [42, 180, 0, 61, 21, 6, 51, 153, 0, 7, 3, 167, 0, 32, 29, 153, 0, 21, 42, 180, 0, 46, 21, 6]
abbrev dktX3_stepMay_5 : List UInt8 := dkwX3_stepMay_5 ++ dktX3_stepMay_6
def dkwX3_stepMay_4 : List UInt8 := [180, 0, 52, 21, 4, 46, 42, 180, 0, 55, 21, 4, 46, 100, 172, 21, 4, 21, 5, 184, 0, 229, 54, 6]
abbrev dktX3_stepMay_4 : List UInt8 := dkwX3_stepMay_4 ++ dktX3_stepMay_5
def dkwX3_stepMay_3 : List UInt8 := [21, 4, 21, 5, 160, 0, 33, 29, 153, 0, 13, 42, 180, 0, 55, 21, 4, 46, 167, 0, 18, 42]
abbrev dktX3_stepMay_3 : List UInt8 := dkwX3_stepMay_3 ++ dktX3_stepMay_4
def dkwX3_stepMay_2 : List UInt8 := [167, 0, 4, 28, 54, 4, 29, 153, 0, 10, 28, 16, 8, 100, 167, 0, 7, 27, 16, 8, 100, 54, 5]
abbrev dktX3_stepMay_2 : List UInt8 := dkwX3_stepMay_2 ++ dktX3_stepMay_3
def dkwX3_stepMay_1 : List UInt8 := [160, 0, 5, 3, 172, 27, 16, 8, 162, 0, 7, 4, 167, 0, 4, 3, 62, 29, 153, 0, 7, 27]
abbrev dktX3_stepMay_1 : List UInt8 := dkwX3_stepMay_1 ++ dktX3_stepMay_2
def dkwX3_stepMay_0 : List UInt8 := [27, 16, 8, 162, 0, 7, 4, 167, 0, 4, 3, 28, 16, 8, 162, 0, 7, 4, 167, 0, 4, 3]
abbrev dktX3_stepMay_0 : List UInt8 := dkwX3_stepMay_0 ++ dktX3_stepMay_1
theorem dksX3_stepMay_0 : cX3_stepMay.data.toList.drop 0 = dktX3_stepMay_0 := by decide +kernel
theorem dksX3_stepMay_1 : cX3_stepMay.data.toList.drop 22 = dktX3_stepMay_1 := dk_seg dksX3_stepMay_0 22 rfl rfl
theorem dksX3_stepMay_2 : cX3_stepMay.data.toList.drop 44 = dktX3_stepMay_2 := dk_seg dksX3_stepMay_1 22 rfl rfl
theorem dksX3_stepMay_3 : cX3_stepMay.data.toList.drop 67 = dktX3_stepMay_3 := dk_seg dksX3_stepMay_2 23 rfl rfl
theorem dksX3_stepMay_4 : cX3_stepMay.data.toList.drop 89 = dktX3_stepMay_4 := dk_seg dksX3_stepMay_3 22 rfl rfl
theorem dksX3_stepMay_5 : cX3_stepMay.data.toList.drop 113 = dktX3_stepMay_5 := dk_seg dksX3_stepMay_4 24 rfl rfl
theorem dksX3_stepMay_6 : cX3_stepMay.data.toList.drop 137 = dktX3_stepMay_6 := dk_seg dksX3_stepMay_5 24 rfl rfl
theorem dX3_stepMay_0 : decode cX3_stepMay 0 = .ok (.iload_n 1, 1) := dk_27 (dk_at dksX3_stepMay_0 0 rfl rfl)
theorem dX3_stepMay_1 : decode cX3_stepMay 1 = .ok (.bipush 8, 2) := dk_16 8 (dk_at dksX3_stepMay_0 1 rfl rfl)
theorem dX3_stepMay_3 : decode cX3_stepMay 3 = .ok (.if_icmp .ge 7, 3) := dk_162 0 7 (dk_at dksX3_stepMay_0 3 rfl rfl)
theorem dX3_stepMay_6 : decode cX3_stepMay 6 = .ok (.iconst 1, 1) := dk_4 (dk_at dksX3_stepMay_0 6 rfl rfl)
theorem dX3_stepMay_7 : decode cX3_stepMay 7 = .ok (.goto 4, 3) := dk_167 0 4 (dk_at dksX3_stepMay_0 7 rfl rfl)
theorem dX3_stepMay_10 : decode cX3_stepMay 10 = .ok (.iconst 0, 1) := dk_3 (dk_at dksX3_stepMay_0 10 rfl rfl)
theorem dX3_stepMay_11 : decode cX3_stepMay 11 = .ok (.iload_n 2, 1) := dk_28 (dk_at dksX3_stepMay_0 11 rfl rfl)
theorem dX3_stepMay_12 : decode cX3_stepMay 12 = .ok (.bipush 8, 2) := dk_16 8 (dk_at dksX3_stepMay_0 12 rfl rfl)
theorem dX3_stepMay_14 : decode cX3_stepMay 14 = .ok (.if_icmp .ge 7, 3) := dk_162 0 7 (dk_at dksX3_stepMay_0 14 rfl rfl)
theorem dX3_stepMay_17 : decode cX3_stepMay 17 = .ok (.iconst 1, 1) := dk_4 (dk_at dksX3_stepMay_0 17 rfl rfl)
theorem dX3_stepMay_18 : decode cX3_stepMay 18 = .ok (.goto 4, 3) := dk_167 0 4 (dk_at dksX3_stepMay_0 18 rfl rfl)
theorem dX3_stepMay_21 : decode cX3_stepMay 21 = .ok (.iconst 0, 1) := dk_3 (dk_at dksX3_stepMay_0 21 rfl rfl)
theorem dX3_stepMay_22 : decode cX3_stepMay 22 = .ok (.if_icmp .ne 5, 3) := dk_160 0 5 (dk_at dksX3_stepMay_1 0 rfl rfl)
theorem dX3_stepMay_25 : decode cX3_stepMay 25 = .ok (.iconst 0, 1) := dk_3 (dk_at dksX3_stepMay_1 3 rfl rfl)
theorem dX3_stepMay_26 : decode cX3_stepMay 26 = .ok (.ireturn, 1) := dk_172 (dk_at dksX3_stepMay_1 4 rfl rfl)
theorem dX3_stepMay_27 : decode cX3_stepMay 27 = .ok (.iload_n 1, 1) := dk_27 (dk_at dksX3_stepMay_1 5 rfl rfl)
theorem dX3_stepMay_28 : decode cX3_stepMay 28 = .ok (.bipush 8, 2) := dk_16 8 (dk_at dksX3_stepMay_1 6 rfl rfl)
theorem dX3_stepMay_30 : decode cX3_stepMay 30 = .ok (.if_icmp .ge 7, 3) := dk_162 0 7 (dk_at dksX3_stepMay_1 8 rfl rfl)
theorem dX3_stepMay_33 : decode cX3_stepMay 33 = .ok (.iconst 1, 1) := dk_4 (dk_at dksX3_stepMay_1 11 rfl rfl)
theorem dX3_stepMay_34 : decode cX3_stepMay 34 = .ok (.goto 4, 3) := dk_167 0 4 (dk_at dksX3_stepMay_1 12 rfl rfl)
theorem dX3_stepMay_37 : decode cX3_stepMay 37 = .ok (.iconst 0, 1) := dk_3 (dk_at dksX3_stepMay_1 15 rfl rfl)
theorem dX3_stepMay_38 : decode cX3_stepMay 38 = .ok (.istore_n 3, 1) := dk_62 (dk_at dksX3_stepMay_1 16 rfl rfl)
theorem dX3_stepMay_39 : decode cX3_stepMay 39 = .ok (.iload_n 3, 1) := dk_29 (dk_at dksX3_stepMay_1 17 rfl rfl)
theorem dX3_stepMay_40 : decode cX3_stepMay 40 = .ok (.ifCond .eq 7, 3) := dk_153 0 7 (dk_at dksX3_stepMay_1 18 rfl rfl)
theorem dX3_stepMay_43 : decode cX3_stepMay 43 = .ok (.iload_n 1, 1) := dk_27 (dk_at dksX3_stepMay_1 21 rfl rfl)
theorem dX3_stepMay_44 : decode cX3_stepMay 44 = .ok (.goto 4, 3) := dk_167 0 4 (dk_at dksX3_stepMay_2 0 rfl rfl)
theorem dX3_stepMay_47 : decode cX3_stepMay 47 = .ok (.iload_n 2, 1) := dk_28 (dk_at dksX3_stepMay_2 3 rfl rfl)
theorem dX3_stepMay_48 : decode cX3_stepMay 48 = .ok (.istore 4, 2) := dk_54 4 (dk_at dksX3_stepMay_2 4 rfl rfl)
theorem dX3_stepMay_50 : decode cX3_stepMay 50 = .ok (.iload_n 3, 1) := dk_29 (dk_at dksX3_stepMay_2 6 rfl rfl)
theorem dX3_stepMay_51 : decode cX3_stepMay 51 = .ok (.ifCond .eq 10, 3) := dk_153 0 10 (dk_at dksX3_stepMay_2 7 rfl rfl)
theorem dX3_stepMay_54 : decode cX3_stepMay 54 = .ok (.iload_n 2, 1) := dk_28 (dk_at dksX3_stepMay_2 10 rfl rfl)
theorem dX3_stepMay_55 : decode cX3_stepMay 55 = .ok (.bipush 8, 2) := dk_16 8 (dk_at dksX3_stepMay_2 11 rfl rfl)
theorem dX3_stepMay_57 : decode cX3_stepMay 57 = .ok (.isub, 1) := dk_100 (dk_at dksX3_stepMay_2 13 rfl rfl)
theorem dX3_stepMay_58 : decode cX3_stepMay 58 = .ok (.goto 7, 3) := dk_167 0 7 (dk_at dksX3_stepMay_2 14 rfl rfl)
theorem dX3_stepMay_61 : decode cX3_stepMay 61 = .ok (.iload_n 1, 1) := dk_27 (dk_at dksX3_stepMay_2 17 rfl rfl)
theorem dX3_stepMay_62 : decode cX3_stepMay 62 = .ok (.bipush 8, 2) := dk_16 8 (dk_at dksX3_stepMay_2 18 rfl rfl)
theorem dX3_stepMay_64 : decode cX3_stepMay 64 = .ok (.isub, 1) := dk_100 (dk_at dksX3_stepMay_2 20 rfl rfl)
theorem dX3_stepMay_65 : decode cX3_stepMay 65 = .ok (.istore 5, 2) := dk_54 5 (dk_at dksX3_stepMay_2 21 rfl rfl)
theorem dX3_stepMay_67 : decode cX3_stepMay 67 = .ok (.iload 4, 2) := dk_21 4 (dk_at dksX3_stepMay_3 0 rfl rfl)
theorem dX3_stepMay_69 : decode cX3_stepMay 69 = .ok (.iload 5, 2) := dk_21 5 (dk_at dksX3_stepMay_3 2 rfl rfl)
theorem dX3_stepMay_71 : decode cX3_stepMay 71 = .ok (.if_icmp .ne 33, 3) := dk_160 0 33 (dk_at dksX3_stepMay_3 4 rfl rfl)
theorem dX3_stepMay_74 : decode cX3_stepMay 74 = .ok (.iload_n 3, 1) := dk_29 (dk_at dksX3_stepMay_3 7 rfl rfl)
theorem dX3_stepMay_75 : decode cX3_stepMay 75 = .ok (.ifCond .eq 13, 3) := dk_153 0 13 (dk_at dksX3_stepMay_3 8 rfl rfl)
theorem dX3_stepMay_78 : decode cX3_stepMay 78 = .ok (.aload_n 0, 1) := dk_42 (dk_at dksX3_stepMay_3 11 rfl rfl)
theorem dX3_stepMay_79 : decode cX3_stepMay 79 = .ok (.getfield 55, 3) := dk_180 0 55 (dk_at dksX3_stepMay_3 12 rfl rfl)
theorem dX3_stepMay_82 : decode cX3_stepMay 82 = .ok (.iload 4, 2) := dk_21 4 (dk_at dksX3_stepMay_3 15 rfl rfl)
theorem dX3_stepMay_84 : decode cX3_stepMay 84 = .ok (.iaload, 1) := dk_46 (dk_at dksX3_stepMay_3 17 rfl rfl)
theorem dX3_stepMay_85 : decode cX3_stepMay 85 = .ok (.goto 18, 3) := dk_167 0 18 (dk_at dksX3_stepMay_3 18 rfl rfl)
theorem dX3_stepMay_88 : decode cX3_stepMay 88 = .ok (.aload_n 0, 1) := dk_42 (dk_at dksX3_stepMay_3 21 rfl rfl)
theorem dX3_stepMay_89 : decode cX3_stepMay 89 = .ok (.getfield 52, 3) := dk_180 0 52 (dk_at dksX3_stepMay_4 0 rfl rfl)
theorem dX3_stepMay_92 : decode cX3_stepMay 92 = .ok (.iload 4, 2) := dk_21 4 (dk_at dksX3_stepMay_4 3 rfl rfl)
theorem dX3_stepMay_94 : decode cX3_stepMay 94 = .ok (.iaload, 1) := dk_46 (dk_at dksX3_stepMay_4 5 rfl rfl)
theorem dX3_stepMay_95 : decode cX3_stepMay 95 = .ok (.aload_n 0, 1) := dk_42 (dk_at dksX3_stepMay_4 6 rfl rfl)
theorem dX3_stepMay_96 : decode cX3_stepMay 96 = .ok (.getfield 55, 3) := dk_180 0 55 (dk_at dksX3_stepMay_4 7 rfl rfl)
theorem dX3_stepMay_99 : decode cX3_stepMay 99 = .ok (.iload 4, 2) := dk_21 4 (dk_at dksX3_stepMay_4 10 rfl rfl)
theorem dX3_stepMay_101 : decode cX3_stepMay 101 = .ok (.iaload, 1) := dk_46 (dk_at dksX3_stepMay_4 12 rfl rfl)
theorem dX3_stepMay_102 : decode cX3_stepMay 102 = .ok (.isub, 1) := dk_100 (dk_at dksX3_stepMay_4 13 rfl rfl)
theorem dX3_stepMay_103 : decode cX3_stepMay 103 = .ok (.ireturn, 1) := dk_172 (dk_at dksX3_stepMay_4 14 rfl rfl)
theorem dX3_stepMay_104 : decode cX3_stepMay 104 = .ok (.iload 4, 2) := dk_21 4 (dk_at dksX3_stepMay_4 15 rfl rfl)
theorem dX3_stepMay_106 : decode cX3_stepMay 106 = .ok (.iload 5, 2) := dk_21 5 (dk_at dksX3_stepMay_4 17 rfl rfl)
theorem dX3_stepMay_108 : decode cX3_stepMay 108 = .ok (.invokestatic 229, 3) := dk_184 0 229 (dk_at dksX3_stepMay_4 19 rfl rfl)
theorem dX3_stepMay_111 : decode cX3_stepMay 111 = .ok (.istore 6, 2) := dk_54 6 (dk_at dksX3_stepMay_4 22 rfl rfl)
theorem dX3_stepMay_113 : decode cX3_stepMay 113 = .ok (.aload_n 0, 1) := dk_42 (dk_at dksX3_stepMay_5 0 rfl rfl)
theorem dX3_stepMay_114 : decode cX3_stepMay 114 = .ok (.getfield 61, 3) := dk_180 0 61 (dk_at dksX3_stepMay_5 1 rfl rfl)
theorem dX3_stepMay_117 : decode cX3_stepMay 117 = .ok (.iload 6, 2) := dk_21 6 (dk_at dksX3_stepMay_5 4 rfl rfl)
theorem dX3_stepMay_119 : decode cX3_stepMay 119 = .ok (.baload, 1) := dk_51 (dk_at dksX3_stepMay_5 6 rfl rfl)
theorem dX3_stepMay_120 : decode cX3_stepMay 120 = .ok (.ifCond .eq 7, 3) := dk_153 0 7 (dk_at dksX3_stepMay_5 7 rfl rfl)
theorem dX3_stepMay_123 : decode cX3_stepMay 123 = .ok (.iconst 0, 1) := dk_3 (dk_at dksX3_stepMay_5 10 rfl rfl)
theorem dX3_stepMay_124 : decode cX3_stepMay 124 = .ok (.goto 32, 3) := dk_167 0 32 (dk_at dksX3_stepMay_5 11 rfl rfl)
theorem dX3_stepMay_127 : decode cX3_stepMay 127 = .ok (.iload_n 3, 1) := dk_29 (dk_at dksX3_stepMay_5 14 rfl rfl)
theorem dX3_stepMay_128 : decode cX3_stepMay 128 = .ok (.ifCond .eq 21, 3) := dk_153 0 21 (dk_at dksX3_stepMay_5 15 rfl rfl)
theorem dX3_stepMay_131 : decode cX3_stepMay 131 = .ok (.aload_n 0, 1) := dk_42 (dk_at dksX3_stepMay_5 18 rfl rfl)
theorem dX3_stepMay_132 : decode cX3_stepMay 132 = .ok (.getfield 46, 3) := dk_180 0 46 (dk_at dksX3_stepMay_5 19 rfl rfl)
theorem dX3_stepMay_135 : decode cX3_stepMay 135 = .ok (.iload 6, 2) := dk_21 6 (dk_at dksX3_stepMay_5 22 rfl rfl)
theorem dX3_stepMay_137 : decode cX3_stepMay 137 = .ok (.iaload, 1) := dk_46 (dk_at dksX3_stepMay_6 0 rfl rfl)
theorem dX3_stepMay_138 : decode cX3_stepMay 138 = .ok (.aload_n 0, 1) := dk_42 (dk_at dksX3_stepMay_6 1 rfl rfl)
theorem dX3_stepMay_139 : decode cX3_stepMay 139 = .ok (.getfield 49, 3) := dk_180 0 49 (dk_at dksX3_stepMay_6 2 rfl rfl)
theorem dX3_stepMay_142 : decode cX3_stepMay 142 = .ok (.iload 6, 2) := dk_21 6 (dk_at dksX3_stepMay_6 5 rfl rfl)
theorem dX3_stepMay_144 : decode cX3_stepMay 144 = .ok (.iaload, 1) := dk_46 (dk_at dksX3_stepMay_6 7 rfl rfl)
theorem dX3_stepMay_145 : decode cX3_stepMay 145 = .ok (.isub, 1) := dk_100 (dk_at dksX3_stepMay_6 8 rfl rfl)
theorem dX3_stepMay_146 : decode cX3_stepMay 146 = .ok (.goto 10, 3) := dk_167 0 10 (dk_at dksX3_stepMay_6 9 rfl rfl)
theorem dX3_stepMay_149 : decode cX3_stepMay 149 = .ok (.aload_n 0, 1) := dk_42 (dk_at dksX3_stepMay_6 12 rfl rfl)
theorem dX3_stepMay_150 : decode cX3_stepMay 150 = .ok (.getfield 49, 3) := dk_180 0 49 (dk_at dksX3_stepMay_6 13 rfl rfl)
theorem dX3_stepMay_153 : decode cX3_stepMay 153 = .ok (.iload 6, 2) := dk_21 6 (dk_at dksX3_stepMay_6 16 rfl rfl)
theorem dX3_stepMay_155 : decode cX3_stepMay 155 = .ok (.iaload, 1) := dk_46 (dk_at dksX3_stepMay_6 18 rfl rfl)
theorem dX3_stepMay_156 : decode cX3_stepMay 156 = .ok (.ireturn, 1) := dk_172 (dk_at dksX3_stepMay_6 19 rfl rfl)
abbrev cX3_stepCost : ByteArray := prog_15_method_70_code
def yX3_stepCost : MethodName := ⟨RX3, "stepCost", "(II)I"⟩
def dkwX3_stepCost_1 : List UInt8 := [162, 0, 8, 16, 64, 167, 0, 5, 16, 192, 96, 172]
abbrev dktX3_stepCost_1 : List UInt8 := dkwX3_stepCost_1 ++ []
def dkwX3_stepCost_0 : List UInt8 := [4, 26, 27, 16, 8, 96, 159, 0, 11, 27, 26, 16, 8, 96, 160, 0, 7, 3, 167, 0, 16, 26, 16, 8]
abbrev dktX3_stepCost_0 : List UInt8 := dkwX3_stepCost_0 ++ dktX3_stepCost_1
theorem dksX3_stepCost_0 : cX3_stepCost.data.toList.drop 0 = dktX3_stepCost_0 := by decide +kernel
theorem dksX3_stepCost_1 : cX3_stepCost.data.toList.drop 24 = dktX3_stepCost_1 := dk_seg dksX3_stepCost_0 24 rfl rfl
theorem dX3_stepCost_0 : decode cX3_stepCost 0 = .ok (.iconst 1, 1) := dk_4 (dk_at dksX3_stepCost_0 0 rfl rfl)
theorem dX3_stepCost_1 : decode cX3_stepCost 1 = .ok (.iload_n 0, 1) := dk_26 (dk_at dksX3_stepCost_0 1 rfl rfl)
theorem dX3_stepCost_2 : decode cX3_stepCost 2 = .ok (.iload_n 1, 1) := dk_27 (dk_at dksX3_stepCost_0 2 rfl rfl)
theorem dX3_stepCost_3 : decode cX3_stepCost 3 = .ok (.bipush 8, 2) := dk_16 8 (dk_at dksX3_stepCost_0 3 rfl rfl)
theorem dX3_stepCost_5 : decode cX3_stepCost 5 = .ok (.iadd, 1) := dk_96 (dk_at dksX3_stepCost_0 5 rfl rfl)
theorem dX3_stepCost_6 : decode cX3_stepCost 6 = .ok (.if_icmp .eq 11, 3) := dk_159 0 11 (dk_at dksX3_stepCost_0 6 rfl rfl)
theorem dX3_stepCost_9 : decode cX3_stepCost 9 = .ok (.iload_n 1, 1) := dk_27 (dk_at dksX3_stepCost_0 9 rfl rfl)
theorem dX3_stepCost_10 : decode cX3_stepCost 10 = .ok (.iload_n 0, 1) := dk_26 (dk_at dksX3_stepCost_0 10 rfl rfl)
theorem dX3_stepCost_11 : decode cX3_stepCost 11 = .ok (.bipush 8, 2) := dk_16 8 (dk_at dksX3_stepCost_0 11 rfl rfl)
theorem dX3_stepCost_13 : decode cX3_stepCost 13 = .ok (.iadd, 1) := dk_96 (dk_at dksX3_stepCost_0 13 rfl rfl)
theorem dX3_stepCost_14 : decode cX3_stepCost 14 = .ok (.if_icmp .ne 7, 3) := dk_160 0 7 (dk_at dksX3_stepCost_0 14 rfl rfl)
theorem dX3_stepCost_17 : decode cX3_stepCost 17 = .ok (.iconst 0, 1) := dk_3 (dk_at dksX3_stepCost_0 17 rfl rfl)
theorem dX3_stepCost_18 : decode cX3_stepCost 18 = .ok (.goto 16, 3) := dk_167 0 16 (dk_at dksX3_stepCost_0 18 rfl rfl)
theorem dX3_stepCost_21 : decode cX3_stepCost 21 = .ok (.iload_n 0, 1) := dk_26 (dk_at dksX3_stepCost_0 21 rfl rfl)
theorem dX3_stepCost_22 : decode cX3_stepCost 22 = .ok (.bipush 8, 2) := dk_16 8 (dk_at dksX3_stepCost_0 22 rfl rfl)
theorem dX3_stepCost_24 : decode cX3_stepCost 24 = .ok (.if_icmp .ge 8, 3) := dk_162 0 8 (dk_at dksX3_stepCost_1 0 rfl rfl)
theorem dX3_stepCost_27 : decode cX3_stepCost 27 = .ok (.bipush 64, 2) := dk_16 64 (dk_at dksX3_stepCost_1 3 rfl rfl)
theorem dX3_stepCost_29 : decode cX3_stepCost 29 = .ok (.goto 5, 3) := dk_167 0 5 (dk_at dksX3_stepCost_1 5 rfl rfl)
theorem dX3_stepCost_32 : decode cX3_stepCost 32 = .ok (.bipush (-64), 2) := dk_16 192 (dk_at dksX3_stepCost_1 8 rfl rfl)
theorem dX3_stepCost_34 : decode cX3_stepCost 34 = .ok (.iadd, 1) := dk_96 (dk_at dksX3_stepCost_1 10 rfl rfl)
theorem dX3_stepCost_35 : decode cX3_stepCost 35 = .ok (.ireturn, 1) := dk_172 (dk_at dksX3_stepCost_1 11 rfl rfl)
abbrev cX3_firstOf : ByteArray := prog_15_method_73_code
def yX3_firstOf : MethodName := ⟨RX3, "firstOf", "(I)I"⟩
def dkwX3_firstOf_0 : List UInt8 := [27, 61, 42, 180, 0, 68, 28, 46, 2, 159, 0, 13, 42, 180, 0, 68, 28, 46, 61, 167, 255, 239, 28, 172]
abbrev dktX3_firstOf_0 : List UInt8 := dkwX3_firstOf_0 ++ []
theorem dksX3_firstOf_0 : cX3_firstOf.data.toList.drop 0 = dktX3_firstOf_0 := by decide +kernel
theorem dX3_firstOf_0 : decode cX3_firstOf 0 = .ok (.iload_n 1, 1) := dk_27 (dk_at dksX3_firstOf_0 0 rfl rfl)
theorem dX3_firstOf_1 : decode cX3_firstOf 1 = .ok (.istore_n 2, 1) := dk_61 (dk_at dksX3_firstOf_0 1 rfl rfl)
theorem dX3_firstOf_2 : decode cX3_firstOf 2 = .ok (.aload_n 0, 1) := dk_42 (dk_at dksX3_firstOf_0 2 rfl rfl)
theorem dX3_firstOf_3 : decode cX3_firstOf 3 = .ok (.getfield 68, 3) := dk_180 0 68 (dk_at dksX3_firstOf_0 3 rfl rfl)
theorem dX3_firstOf_6 : decode cX3_firstOf 6 = .ok (.iload_n 2, 1) := dk_28 (dk_at dksX3_firstOf_0 6 rfl rfl)
theorem dX3_firstOf_7 : decode cX3_firstOf 7 = .ok (.iaload, 1) := dk_46 (dk_at dksX3_firstOf_0 7 rfl rfl)
theorem dX3_firstOf_8 : decode cX3_firstOf 8 = .ok (.iconst (-1), 1) := dk_2 (dk_at dksX3_firstOf_0 8 rfl rfl)
theorem dX3_firstOf_9 : decode cX3_firstOf 9 = .ok (.if_icmp .eq 13, 3) := dk_159 0 13 (dk_at dksX3_firstOf_0 9 rfl rfl)
theorem dX3_firstOf_12 : decode cX3_firstOf 12 = .ok (.aload_n 0, 1) := dk_42 (dk_at dksX3_firstOf_0 12 rfl rfl)
theorem dX3_firstOf_13 : decode cX3_firstOf 13 = .ok (.getfield 68, 3) := dk_180 0 68 (dk_at dksX3_firstOf_0 13 rfl rfl)
theorem dX3_firstOf_16 : decode cX3_firstOf 16 = .ok (.iload_n 2, 1) := dk_28 (dk_at dksX3_firstOf_0 16 rfl rfl)
theorem dX3_firstOf_17 : decode cX3_firstOf 17 = .ok (.iaload, 1) := dk_46 (dk_at dksX3_firstOf_0 17 rfl rfl)
theorem dX3_firstOf_18 : decode cX3_firstOf 18 = .ok (.istore_n 2, 1) := dk_61 (dk_at dksX3_firstOf_0 18 rfl rfl)
theorem dX3_firstOf_19 : decode cX3_firstOf 19 = .ok (.goto (-17), 3) := dk_167 255 239 (dk_at dksX3_firstOf_0 19 rfl rfl)
theorem dX3_firstOf_22 : decode cX3_firstOf 22 = .ok (.iload_n 2, 1) := dk_28 (dk_at dksX3_firstOf_0 22 rfl rfl)
theorem dX3_firstOf_23 : decode cX3_firstOf 23 = .ok (.ireturn, 1) := dk_172 (dk_at dksX3_firstOf_0 23 rfl rfl)
abbrev cX3_wayMay : ByteArray := prog_15_method_72_code
def yX3_wayMay : MethodName := ⟨RX3, "wayMay", "(II)I"⟩
def dkwX3_wayMay_2 : List UInt8 := [167, 0, 4, 29, 62, 42, 180, 0, 68, 21, 4, 46, 54, 4, 167, 255, 201, 29, 172]
abbrev dktX3_wayMay_2 : List UInt8 := dkwX3_wayMay_2 ++ []
def dkwX3_wayMay_1 : List UInt8 := [21, 4, 182, 1, 38, 29, 162, 0, 19, 42, 42, 180, 0, 68, 21, 4, 46, 21, 4, 182, 1, 38]
abbrev dktX3_wayMay_1 : List UInt8 := dkwX3_wayMay_1 ++ dktX3_wayMay_2
def dkwX3_wayMay_0 : List UInt8 := [28, 62, 27, 54, 4, 42, 180, 0, 68, 21, 4, 46, 2, 159, 0, 50, 42, 42, 180, 0, 68, 21, 4, 46]
abbrev dktX3_wayMay_0 : List UInt8 := dkwX3_wayMay_0 ++ dktX3_wayMay_1
theorem dksX3_wayMay_0 : cX3_wayMay.data.toList.drop 0 = dktX3_wayMay_0 := by decide +kernel
theorem dksX3_wayMay_1 : cX3_wayMay.data.toList.drop 24 = dktX3_wayMay_1 := dk_seg dksX3_wayMay_0 24 rfl rfl
theorem dksX3_wayMay_2 : cX3_wayMay.data.toList.drop 46 = dktX3_wayMay_2 := dk_seg dksX3_wayMay_1 22 rfl rfl
theorem dX3_wayMay_0 : decode cX3_wayMay 0 = .ok (.iload_n 2, 1) := dk_28 (dk_at dksX3_wayMay_0 0 rfl rfl)
theorem dX3_wayMay_1 : decode cX3_wayMay 1 = .ok (.istore_n 3, 1) := dk_62 (dk_at dksX3_wayMay_0 1 rfl rfl)
theorem dX3_wayMay_2 : decode cX3_wayMay 2 = .ok (.iload_n 1, 1) := dk_27 (dk_at dksX3_wayMay_0 2 rfl rfl)
theorem dX3_wayMay_3 : decode cX3_wayMay 3 = .ok (.istore 4, 2) := dk_54 4 (dk_at dksX3_wayMay_0 3 rfl rfl)
theorem dX3_wayMay_5 : decode cX3_wayMay 5 = .ok (.aload_n 0, 1) := dk_42 (dk_at dksX3_wayMay_0 5 rfl rfl)
theorem dX3_wayMay_6 : decode cX3_wayMay 6 = .ok (.getfield 68, 3) := dk_180 0 68 (dk_at dksX3_wayMay_0 6 rfl rfl)
theorem dX3_wayMay_9 : decode cX3_wayMay 9 = .ok (.iload 4, 2) := dk_21 4 (dk_at dksX3_wayMay_0 9 rfl rfl)
theorem dX3_wayMay_11 : decode cX3_wayMay 11 = .ok (.iaload, 1) := dk_46 (dk_at dksX3_wayMay_0 11 rfl rfl)
theorem dX3_wayMay_12 : decode cX3_wayMay 12 = .ok (.iconst (-1), 1) := dk_2 (dk_at dksX3_wayMay_0 12 rfl rfl)
theorem dX3_wayMay_13 : decode cX3_wayMay 13 = .ok (.if_icmp .eq 50, 3) := dk_159 0 50 (dk_at dksX3_wayMay_0 13 rfl rfl)
theorem dX3_wayMay_16 : decode cX3_wayMay 16 = .ok (.aload_n 0, 1) := dk_42 (dk_at dksX3_wayMay_0 16 rfl rfl)
theorem dX3_wayMay_17 : decode cX3_wayMay 17 = .ok (.aload_n 0, 1) := dk_42 (dk_at dksX3_wayMay_0 17 rfl rfl)
theorem dX3_wayMay_18 : decode cX3_wayMay 18 = .ok (.getfield 68, 3) := dk_180 0 68 (dk_at dksX3_wayMay_0 18 rfl rfl)
theorem dX3_wayMay_21 : decode cX3_wayMay 21 = .ok (.iload 4, 2) := dk_21 4 (dk_at dksX3_wayMay_0 21 rfl rfl)
theorem dX3_wayMay_23 : decode cX3_wayMay 23 = .ok (.iaload, 1) := dk_46 (dk_at dksX3_wayMay_0 23 rfl rfl)
theorem dX3_wayMay_24 : decode cX3_wayMay 24 = .ok (.iload 4, 2) := dk_21 4 (dk_at dksX3_wayMay_1 0 rfl rfl)
theorem dX3_wayMay_26 : decode cX3_wayMay 26 = .ok (.invokevirtual 294, 3) := dk_182 1 38 (dk_at dksX3_wayMay_1 2 rfl rfl)
theorem dX3_wayMay_29 : decode cX3_wayMay 29 = .ok (.iload_n 3, 1) := dk_29 (dk_at dksX3_wayMay_1 5 rfl rfl)
theorem dX3_wayMay_30 : decode cX3_wayMay 30 = .ok (.if_icmp .ge 19, 3) := dk_162 0 19 (dk_at dksX3_wayMay_1 6 rfl rfl)
theorem dX3_wayMay_33 : decode cX3_wayMay 33 = .ok (.aload_n 0, 1) := dk_42 (dk_at dksX3_wayMay_1 9 rfl rfl)
theorem dX3_wayMay_34 : decode cX3_wayMay 34 = .ok (.aload_n 0, 1) := dk_42 (dk_at dksX3_wayMay_1 10 rfl rfl)
theorem dX3_wayMay_35 : decode cX3_wayMay 35 = .ok (.getfield 68, 3) := dk_180 0 68 (dk_at dksX3_wayMay_1 11 rfl rfl)
theorem dX3_wayMay_38 : decode cX3_wayMay 38 = .ok (.iload 4, 2) := dk_21 4 (dk_at dksX3_wayMay_1 14 rfl rfl)
theorem dX3_wayMay_40 : decode cX3_wayMay 40 = .ok (.iaload, 1) := dk_46 (dk_at dksX3_wayMay_1 16 rfl rfl)
theorem dX3_wayMay_41 : decode cX3_wayMay 41 = .ok (.iload 4, 2) := dk_21 4 (dk_at dksX3_wayMay_1 17 rfl rfl)
theorem dX3_wayMay_43 : decode cX3_wayMay 43 = .ok (.invokevirtual 294, 3) := dk_182 1 38 (dk_at dksX3_wayMay_1 19 rfl rfl)
theorem dX3_wayMay_46 : decode cX3_wayMay 46 = .ok (.goto 4, 3) := dk_167 0 4 (dk_at dksX3_wayMay_2 0 rfl rfl)
theorem dX3_wayMay_49 : decode cX3_wayMay 49 = .ok (.iload_n 3, 1) := dk_29 (dk_at dksX3_wayMay_2 3 rfl rfl)
theorem dX3_wayMay_50 : decode cX3_wayMay 50 = .ok (.istore_n 3, 1) := dk_62 (dk_at dksX3_wayMay_2 4 rfl rfl)
theorem dX3_wayMay_51 : decode cX3_wayMay 51 = .ok (.aload_n 0, 1) := dk_42 (dk_at dksX3_wayMay_2 5 rfl rfl)
theorem dX3_wayMay_52 : decode cX3_wayMay 52 = .ok (.getfield 68, 3) := dk_180 0 68 (dk_at dksX3_wayMay_2 6 rfl rfl)
theorem dX3_wayMay_55 : decode cX3_wayMay 55 = .ok (.iload 4, 2) := dk_21 4 (dk_at dksX3_wayMay_2 9 rfl rfl)
theorem dX3_wayMay_57 : decode cX3_wayMay 57 = .ok (.iaload, 1) := dk_46 (dk_at dksX3_wayMay_2 11 rfl rfl)
theorem dX3_wayMay_58 : decode cX3_wayMay 58 = .ok (.istore 4, 2) := dk_54 4 (dk_at dksX3_wayMay_2 12 rfl rfl)
theorem dX3_wayMay_60 : decode cX3_wayMay 60 = .ok (.goto (-55), 3) := dk_167 255 201 (dk_at dksX3_wayMay_2 14 rfl rfl)
theorem dX3_wayMay_63 : decode cX3_wayMay 63 = .ok (.iload_n 3, 1) := dk_29 (dk_at dksX3_wayMay_2 17 rfl rfl)
theorem dX3_wayMay_64 : decode cX3_wayMay 64 = .ok (.ireturn, 1) := dk_172 (dk_at dksX3_wayMay_2 18 rfl rfl)
abbrev cX3_sends : ByteArray := prog_15_method_74_code
def yX3_sends : MethodName := ⟨RX3, "sends", "(II)V"⟩
def dkwX3_sends_5 : List UInt8 := [62, 167, 255, 140, 177]
abbrev dktX3_sends_5 : List UInt8 := dkwX3_sends_5 ++ []
def dkwX3_sends_4 : List UInt8 := [42, 180, 0, 49, 29, 21, 4, 16, 8, 100, 184, 0, 229, 92, 46, 28, 100, 79, 42, 180, 0, 68, 29, 46]
abbrev dktX3_sends_4 : List UInt8 := dkwX3_sends_4 ++ dktX3_sends_5
def dkwX3_sends_3 : List UInt8 := [162, 0, 24, 42, 180, 0, 49, 21, 4, 29, 16, 8, 100, 184, 0, 229, 92, 46, 28, 96, 79, 167, 0, 21]
abbrev dktX3_sends_3 : List UInt8 := dkwX3_sends_3 ++ dktX3_sends_4
def dkwX3_sends_2 : List UInt8 := [16, 8, 96, 160, 0, 16, 42, 180, 0, 55, 29, 92, 46, 28, 96, 79, 167, 0, 49, 21, 4, 16, 8]
abbrev dktX3_sends_2 : List UInt8 := dkwX3_sends_2 ++ dktX3_sends_3
def dkwX3_sends_1 : List UInt8 := [16, 8, 96, 160, 0, 17, 42, 180, 0, 55, 21, 4, 92, 46, 28, 100, 79, 167, 0, 71, 21, 4, 29]
abbrev dktX3_sends_1 : List UInt8 := dkwX3_sends_1 ++ dktX3_sends_2
def dkwX3_sends_0 : List UInt8 := [27, 62, 42, 180, 0, 68, 29, 46, 2, 159, 0, 112, 42, 180, 0, 68, 29, 46, 54, 4, 29, 21, 4]
abbrev dktX3_sends_0 : List UInt8 := dkwX3_sends_0 ++ dktX3_sends_1
theorem dksX3_sends_0 : cX3_sends.data.toList.drop 0 = dktX3_sends_0 := by decide +kernel
theorem dksX3_sends_1 : cX3_sends.data.toList.drop 23 = dktX3_sends_1 := dk_seg dksX3_sends_0 23 rfl rfl
theorem dksX3_sends_2 : cX3_sends.data.toList.drop 46 = dktX3_sends_2 := dk_seg dksX3_sends_1 23 rfl rfl
theorem dksX3_sends_3 : cX3_sends.data.toList.drop 69 = dktX3_sends_3 := dk_seg dksX3_sends_2 23 rfl rfl
theorem dksX3_sends_4 : cX3_sends.data.toList.drop 93 = dktX3_sends_4 := dk_seg dksX3_sends_3 24 rfl rfl
theorem dksX3_sends_5 : cX3_sends.data.toList.drop 117 = dktX3_sends_5 := dk_seg dksX3_sends_4 24 rfl rfl
theorem dX3_sends_0 : decode cX3_sends 0 = .ok (.iload_n 1, 1) := dk_27 (dk_at dksX3_sends_0 0 rfl rfl)
theorem dX3_sends_1 : decode cX3_sends 1 = .ok (.istore_n 3, 1) := dk_62 (dk_at dksX3_sends_0 1 rfl rfl)
theorem dX3_sends_2 : decode cX3_sends 2 = .ok (.aload_n 0, 1) := dk_42 (dk_at dksX3_sends_0 2 rfl rfl)
theorem dX3_sends_3 : decode cX3_sends 3 = .ok (.getfield 68, 3) := dk_180 0 68 (dk_at dksX3_sends_0 3 rfl rfl)
theorem dX3_sends_6 : decode cX3_sends 6 = .ok (.iload_n 3, 1) := dk_29 (dk_at dksX3_sends_0 6 rfl rfl)
theorem dX3_sends_7 : decode cX3_sends 7 = .ok (.iaload, 1) := dk_46 (dk_at dksX3_sends_0 7 rfl rfl)
theorem dX3_sends_8 : decode cX3_sends 8 = .ok (.iconst (-1), 1) := dk_2 (dk_at dksX3_sends_0 8 rfl rfl)
theorem dX3_sends_9 : decode cX3_sends 9 = .ok (.if_icmp .eq 112, 3) := dk_159 0 112 (dk_at dksX3_sends_0 9 rfl rfl)
theorem dX3_sends_12 : decode cX3_sends 12 = .ok (.aload_n 0, 1) := dk_42 (dk_at dksX3_sends_0 12 rfl rfl)
theorem dX3_sends_13 : decode cX3_sends 13 = .ok (.getfield 68, 3) := dk_180 0 68 (dk_at dksX3_sends_0 13 rfl rfl)
theorem dX3_sends_16 : decode cX3_sends 16 = .ok (.iload_n 3, 1) := dk_29 (dk_at dksX3_sends_0 16 rfl rfl)
theorem dX3_sends_17 : decode cX3_sends 17 = .ok (.iaload, 1) := dk_46 (dk_at dksX3_sends_0 17 rfl rfl)
theorem dX3_sends_18 : decode cX3_sends 18 = .ok (.istore 4, 2) := dk_54 4 (dk_at dksX3_sends_0 18 rfl rfl)
theorem dX3_sends_20 : decode cX3_sends 20 = .ok (.iload_n 3, 1) := dk_29 (dk_at dksX3_sends_0 20 rfl rfl)
theorem dX3_sends_21 : decode cX3_sends 21 = .ok (.iload 4, 2) := dk_21 4 (dk_at dksX3_sends_0 21 rfl rfl)
theorem dX3_sends_23 : decode cX3_sends 23 = .ok (.bipush 8, 2) := dk_16 8 (dk_at dksX3_sends_1 0 rfl rfl)
theorem dX3_sends_25 : decode cX3_sends 25 = .ok (.iadd, 1) := dk_96 (dk_at dksX3_sends_1 2 rfl rfl)
theorem dX3_sends_26 : decode cX3_sends 26 = .ok (.if_icmp .ne 17, 3) := dk_160 0 17 (dk_at dksX3_sends_1 3 rfl rfl)
theorem dX3_sends_29 : decode cX3_sends 29 = .ok (.aload_n 0, 1) := dk_42 (dk_at dksX3_sends_1 6 rfl rfl)
theorem dX3_sends_30 : decode cX3_sends 30 = .ok (.getfield 55, 3) := dk_180 0 55 (dk_at dksX3_sends_1 7 rfl rfl)
theorem dX3_sends_33 : decode cX3_sends 33 = .ok (.iload 4, 2) := dk_21 4 (dk_at dksX3_sends_1 10 rfl rfl)
theorem dX3_sends_35 : decode cX3_sends 35 = .ok (.dup2, 1) := dk_92 (dk_at dksX3_sends_1 12 rfl rfl)
theorem dX3_sends_36 : decode cX3_sends 36 = .ok (.iaload, 1) := dk_46 (dk_at dksX3_sends_1 13 rfl rfl)
theorem dX3_sends_37 : decode cX3_sends 37 = .ok (.iload_n 2, 1) := dk_28 (dk_at dksX3_sends_1 14 rfl rfl)
theorem dX3_sends_38 : decode cX3_sends 38 = .ok (.isub, 1) := dk_100 (dk_at dksX3_sends_1 15 rfl rfl)
theorem dX3_sends_39 : decode cX3_sends 39 = .ok (.iastore, 1) := dk_79 (dk_at dksX3_sends_1 16 rfl rfl)
theorem dX3_sends_40 : decode cX3_sends 40 = .ok (.goto 71, 3) := dk_167 0 71 (dk_at dksX3_sends_1 17 rfl rfl)
theorem dX3_sends_43 : decode cX3_sends 43 = .ok (.iload 4, 2) := dk_21 4 (dk_at dksX3_sends_1 20 rfl rfl)
theorem dX3_sends_45 : decode cX3_sends 45 = .ok (.iload_n 3, 1) := dk_29 (dk_at dksX3_sends_1 22 rfl rfl)
theorem dX3_sends_46 : decode cX3_sends 46 = .ok (.bipush 8, 2) := dk_16 8 (dk_at dksX3_sends_2 0 rfl rfl)
theorem dX3_sends_48 : decode cX3_sends 48 = .ok (.iadd, 1) := dk_96 (dk_at dksX3_sends_2 2 rfl rfl)
theorem dX3_sends_49 : decode cX3_sends 49 = .ok (.if_icmp .ne 16, 3) := dk_160 0 16 (dk_at dksX3_sends_2 3 rfl rfl)
theorem dX3_sends_52 : decode cX3_sends 52 = .ok (.aload_n 0, 1) := dk_42 (dk_at dksX3_sends_2 6 rfl rfl)
theorem dX3_sends_53 : decode cX3_sends 53 = .ok (.getfield 55, 3) := dk_180 0 55 (dk_at dksX3_sends_2 7 rfl rfl)
theorem dX3_sends_56 : decode cX3_sends 56 = .ok (.iload_n 3, 1) := dk_29 (dk_at dksX3_sends_2 10 rfl rfl)
theorem dX3_sends_57 : decode cX3_sends 57 = .ok (.dup2, 1) := dk_92 (dk_at dksX3_sends_2 11 rfl rfl)
theorem dX3_sends_58 : decode cX3_sends 58 = .ok (.iaload, 1) := dk_46 (dk_at dksX3_sends_2 12 rfl rfl)
theorem dX3_sends_59 : decode cX3_sends 59 = .ok (.iload_n 2, 1) := dk_28 (dk_at dksX3_sends_2 13 rfl rfl)
theorem dX3_sends_60 : decode cX3_sends 60 = .ok (.iadd, 1) := dk_96 (dk_at dksX3_sends_2 14 rfl rfl)
theorem dX3_sends_61 : decode cX3_sends 61 = .ok (.iastore, 1) := dk_79 (dk_at dksX3_sends_2 15 rfl rfl)
theorem dX3_sends_62 : decode cX3_sends 62 = .ok (.goto 49, 3) := dk_167 0 49 (dk_at dksX3_sends_2 16 rfl rfl)
theorem dX3_sends_65 : decode cX3_sends 65 = .ok (.iload 4, 2) := dk_21 4 (dk_at dksX3_sends_2 19 rfl rfl)
theorem dX3_sends_67 : decode cX3_sends 67 = .ok (.bipush 8, 2) := dk_16 8 (dk_at dksX3_sends_2 21 rfl rfl)
theorem dX3_sends_69 : decode cX3_sends 69 = .ok (.if_icmp .ge 24, 3) := dk_162 0 24 (dk_at dksX3_sends_3 0 rfl rfl)
theorem dX3_sends_72 : decode cX3_sends 72 = .ok (.aload_n 0, 1) := dk_42 (dk_at dksX3_sends_3 3 rfl rfl)
theorem dX3_sends_73 : decode cX3_sends 73 = .ok (.getfield 49, 3) := dk_180 0 49 (dk_at dksX3_sends_3 4 rfl rfl)
theorem dX3_sends_76 : decode cX3_sends 76 = .ok (.iload 4, 2) := dk_21 4 (dk_at dksX3_sends_3 7 rfl rfl)
theorem dX3_sends_78 : decode cX3_sends 78 = .ok (.iload_n 3, 1) := dk_29 (dk_at dksX3_sends_3 9 rfl rfl)
theorem dX3_sends_79 : decode cX3_sends 79 = .ok (.bipush 8, 2) := dk_16 8 (dk_at dksX3_sends_3 10 rfl rfl)
theorem dX3_sends_81 : decode cX3_sends 81 = .ok (.isub, 1) := dk_100 (dk_at dksX3_sends_3 12 rfl rfl)
theorem dX3_sends_82 : decode cX3_sends 82 = .ok (.invokestatic 229, 3) := dk_184 0 229 (dk_at dksX3_sends_3 13 rfl rfl)
theorem dX3_sends_85 : decode cX3_sends 85 = .ok (.dup2, 1) := dk_92 (dk_at dksX3_sends_3 16 rfl rfl)
theorem dX3_sends_86 : decode cX3_sends 86 = .ok (.iaload, 1) := dk_46 (dk_at dksX3_sends_3 17 rfl rfl)
theorem dX3_sends_87 : decode cX3_sends 87 = .ok (.iload_n 2, 1) := dk_28 (dk_at dksX3_sends_3 18 rfl rfl)
theorem dX3_sends_88 : decode cX3_sends 88 = .ok (.iadd, 1) := dk_96 (dk_at dksX3_sends_3 19 rfl rfl)
theorem dX3_sends_89 : decode cX3_sends 89 = .ok (.iastore, 1) := dk_79 (dk_at dksX3_sends_3 20 rfl rfl)
theorem dX3_sends_90 : decode cX3_sends 90 = .ok (.goto 21, 3) := dk_167 0 21 (dk_at dksX3_sends_3 21 rfl rfl)
theorem dX3_sends_93 : decode cX3_sends 93 = .ok (.aload_n 0, 1) := dk_42 (dk_at dksX3_sends_4 0 rfl rfl)
theorem dX3_sends_94 : decode cX3_sends 94 = .ok (.getfield 49, 3) := dk_180 0 49 (dk_at dksX3_sends_4 1 rfl rfl)
theorem dX3_sends_97 : decode cX3_sends 97 = .ok (.iload_n 3, 1) := dk_29 (dk_at dksX3_sends_4 4 rfl rfl)
theorem dX3_sends_98 : decode cX3_sends 98 = .ok (.iload 4, 2) := dk_21 4 (dk_at dksX3_sends_4 5 rfl rfl)
theorem dX3_sends_100 : decode cX3_sends 100 = .ok (.bipush 8, 2) := dk_16 8 (dk_at dksX3_sends_4 7 rfl rfl)
theorem dX3_sends_102 : decode cX3_sends 102 = .ok (.isub, 1) := dk_100 (dk_at dksX3_sends_4 9 rfl rfl)
theorem dX3_sends_103 : decode cX3_sends 103 = .ok (.invokestatic 229, 3) := dk_184 0 229 (dk_at dksX3_sends_4 10 rfl rfl)
theorem dX3_sends_106 : decode cX3_sends 106 = .ok (.dup2, 1) := dk_92 (dk_at dksX3_sends_4 13 rfl rfl)
theorem dX3_sends_107 : decode cX3_sends 107 = .ok (.iaload, 1) := dk_46 (dk_at dksX3_sends_4 14 rfl rfl)
theorem dX3_sends_108 : decode cX3_sends 108 = .ok (.iload_n 2, 1) := dk_28 (dk_at dksX3_sends_4 15 rfl rfl)
theorem dX3_sends_109 : decode cX3_sends 109 = .ok (.isub, 1) := dk_100 (dk_at dksX3_sends_4 16 rfl rfl)
theorem dX3_sends_110 : decode cX3_sends 110 = .ok (.iastore, 1) := dk_79 (dk_at dksX3_sends_4 17 rfl rfl)
theorem dX3_sends_111 : decode cX3_sends 111 = .ok (.aload_n 0, 1) := dk_42 (dk_at dksX3_sends_4 18 rfl rfl)
theorem dX3_sends_112 : decode cX3_sends 112 = .ok (.getfield 68, 3) := dk_180 0 68 (dk_at dksX3_sends_4 19 rfl rfl)
theorem dX3_sends_115 : decode cX3_sends 115 = .ok (.iload_n 3, 1) := dk_29 (dk_at dksX3_sends_4 22 rfl rfl)
theorem dX3_sends_116 : decode cX3_sends 116 = .ok (.iaload, 1) := dk_46 (dk_at dksX3_sends_4 23 rfl rfl)
theorem dX3_sends_117 : decode cX3_sends 117 = .ok (.istore_n 3, 1) := dk_62 (dk_at dksX3_sends_5 0 rfl rfl)
theorem dX3_sends_118 : decode cX3_sends 118 = .ok (.goto (-116), 3) := dk_167 255 140 (dk_at dksX3_sends_5 1 rfl rfl)
theorem dX3_sends_121 : decode cX3_sends 121 = .ok (.return_, 1) := dk_177 (dk_at dksX3_sends_5 4 rfl rfl)
abbrev cX3_sumOf : ByteArray := prog_15_method_76_code
def yX3_sumOf : MethodName := ⟨RX3, "sumOf", "()I"⟩
def dkwX3_sumOf_1 : List UInt8 := [167, 255, 238, 27, 172]
abbrev dktX3_sumOf_1 : List UInt8 := dkwX3_sumOf_1 ++ []
def dkwX3_sumOf_0 : List UInt8 := [3, 60, 3, 61, 28, 16, 64, 162, 0, 18, 27, 42, 180, 0, 49, 28, 46, 96, 60, 132, 2, 1]
abbrev dktX3_sumOf_0 : List UInt8 := dkwX3_sumOf_0 ++ dktX3_sumOf_1
theorem dksX3_sumOf_0 : cX3_sumOf.data.toList.drop 0 = dktX3_sumOf_0 := by decide +kernel
theorem dksX3_sumOf_1 : cX3_sumOf.data.toList.drop 22 = dktX3_sumOf_1 := dk_seg dksX3_sumOf_0 22 rfl rfl
theorem dX3_sumOf_0 : decode cX3_sumOf 0 = .ok (.iconst 0, 1) := dk_3 (dk_at dksX3_sumOf_0 0 rfl rfl)
theorem dX3_sumOf_1 : decode cX3_sumOf 1 = .ok (.istore_n 1, 1) := dk_60 (dk_at dksX3_sumOf_0 1 rfl rfl)
theorem dX3_sumOf_2 : decode cX3_sumOf 2 = .ok (.iconst 0, 1) := dk_3 (dk_at dksX3_sumOf_0 2 rfl rfl)
theorem dX3_sumOf_3 : decode cX3_sumOf 3 = .ok (.istore_n 2, 1) := dk_61 (dk_at dksX3_sumOf_0 3 rfl rfl)
theorem dX3_sumOf_4 : decode cX3_sumOf 4 = .ok (.iload_n 2, 1) := dk_28 (dk_at dksX3_sumOf_0 4 rfl rfl)
theorem dX3_sumOf_5 : decode cX3_sumOf 5 = .ok (.bipush 64, 2) := dk_16 64 (dk_at dksX3_sumOf_0 5 rfl rfl)
theorem dX3_sumOf_7 : decode cX3_sumOf 7 = .ok (.if_icmp .ge 18, 3) := dk_162 0 18 (dk_at dksX3_sumOf_0 7 rfl rfl)
theorem dX3_sumOf_10 : decode cX3_sumOf 10 = .ok (.iload_n 1, 1) := dk_27 (dk_at dksX3_sumOf_0 10 rfl rfl)
theorem dX3_sumOf_11 : decode cX3_sumOf 11 = .ok (.aload_n 0, 1) := dk_42 (dk_at dksX3_sumOf_0 11 rfl rfl)
theorem dX3_sumOf_12 : decode cX3_sumOf 12 = .ok (.getfield 49, 3) := dk_180 0 49 (dk_at dksX3_sumOf_0 12 rfl rfl)
theorem dX3_sumOf_15 : decode cX3_sumOf 15 = .ok (.iload_n 2, 1) := dk_28 (dk_at dksX3_sumOf_0 15 rfl rfl)
theorem dX3_sumOf_16 : decode cX3_sumOf 16 = .ok (.iaload, 1) := dk_46 (dk_at dksX3_sumOf_0 16 rfl rfl)
theorem dX3_sumOf_17 : decode cX3_sumOf 17 = .ok (.iadd, 1) := dk_96 (dk_at dksX3_sumOf_0 17 rfl rfl)
theorem dX3_sumOf_18 : decode cX3_sumOf 18 = .ok (.istore_n 1, 1) := dk_60 (dk_at dksX3_sumOf_0 18 rfl rfl)
theorem dX3_sumOf_19 : decode cX3_sumOf 19 = .ok (.iinc 2 1, 3) := dk_132 2 1 (dk_at dksX3_sumOf_0 19 rfl rfl)
theorem dX3_sumOf_22 : decode cX3_sumOf 22 = .ok (.goto (-18), 3) := dk_167 255 238 (dk_at dksX3_sumOf_1 0 rfl rfl)
theorem dX3_sumOf_25 : decode cX3_sumOf 25 = .ok (.iload_n 1, 1) := dk_27 (dk_at dksX3_sumOf_1 3 rfl rfl)
theorem dX3_sumOf_26 : decode cX3_sumOf 26 = .ok (.ireturn, 1) := dk_172 (dk_at dksX3_sumOf_1 4 rfl rfl)
abbrev cX3_pressed : ByteArray := prog_15_method_81_code
def yX3_pressed : MethodName := ⟨RX3, "pressed", "(III)I"⟩
def dkwX3_pressed_1 : List UInt8 := [172, 42, 29, 182, 1, 74, 153, 0, 16, 42, 180, 0, 49, 27, 28, 184, 0, 229, 46, 167, 0, 4, 2, 172]
abbrev dktX3_pressed_1 : List UInt8 := dkwX3_pressed_1 ++ []
def dkwX3_pressed_0 : List UInt8 := [42, 3, 181, 0, 1, 42, 27, 28, 182, 0, 201, 153, 0, 11, 42, 29, 182, 0, 205, 154, 0, 6, 16, 254]
abbrev dktX3_pressed_0 : List UInt8 := dkwX3_pressed_0 ++ dktX3_pressed_1
theorem dksX3_pressed_0 : cX3_pressed.data.toList.drop 0 = dktX3_pressed_0 := by decide +kernel
theorem dksX3_pressed_1 : cX3_pressed.data.toList.drop 24 = dktX3_pressed_1 := dk_seg dksX3_pressed_0 24 rfl rfl
theorem dX3_pressed_0 : decode cX3_pressed 0 = .ok (.aload_n 0, 1) := dk_42 (dk_at dksX3_pressed_0 0 rfl rfl)
theorem dX3_pressed_1 : decode cX3_pressed 1 = .ok (.iconst 0, 1) := dk_3 (dk_at dksX3_pressed_0 1 rfl rfl)
theorem dX3_pressed_2 : decode cX3_pressed 2 = .ok (.putfield 1, 3) := dk_181 0 1 (dk_at dksX3_pressed_0 2 rfl rfl)
theorem dX3_pressed_5 : decode cX3_pressed 5 = .ok (.aload_n 0, 1) := dk_42 (dk_at dksX3_pressed_0 5 rfl rfl)
theorem dX3_pressed_6 : decode cX3_pressed 6 = .ok (.iload_n 1, 1) := dk_27 (dk_at dksX3_pressed_0 6 rfl rfl)
theorem dX3_pressed_7 : decode cX3_pressed 7 = .ok (.iload_n 2, 1) := dk_28 (dk_at dksX3_pressed_0 7 rfl rfl)
theorem dX3_pressed_8 : decode cX3_pressed 8 = .ok (.invokevirtual 201, 3) := dk_182 0 201 (dk_at dksX3_pressed_0 8 rfl rfl)
theorem dX3_pressed_11 : decode cX3_pressed 11 = .ok (.ifCond .eq 11, 3) := dk_153 0 11 (dk_at dksX3_pressed_0 11 rfl rfl)
theorem dX3_pressed_14 : decode cX3_pressed 14 = .ok (.aload_n 0, 1) := dk_42 (dk_at dksX3_pressed_0 14 rfl rfl)
theorem dX3_pressed_15 : decode cX3_pressed 15 = .ok (.iload_n 3, 1) := dk_29 (dk_at dksX3_pressed_0 15 rfl rfl)
theorem dX3_pressed_16 : decode cX3_pressed 16 = .ok (.invokevirtual 205, 3) := dk_182 0 205 (dk_at dksX3_pressed_0 16 rfl rfl)
theorem dX3_pressed_19 : decode cX3_pressed 19 = .ok (.ifCond .ne 6, 3) := dk_154 0 6 (dk_at dksX3_pressed_0 19 rfl rfl)
theorem dX3_pressed_22 : decode cX3_pressed 22 = .ok (.bipush (-2), 2) := dk_16 254 (dk_at dksX3_pressed_0 22 rfl rfl)
theorem dX3_pressed_24 : decode cX3_pressed 24 = .ok (.ireturn, 1) := dk_172 (dk_at dksX3_pressed_1 0 rfl rfl)
theorem dX3_pressed_25 : decode cX3_pressed 25 = .ok (.aload_n 0, 1) := dk_42 (dk_at dksX3_pressed_1 1 rfl rfl)
theorem dX3_pressed_26 : decode cX3_pressed 26 = .ok (.iload_n 3, 1) := dk_29 (dk_at dksX3_pressed_1 2 rfl rfl)
theorem dX3_pressed_27 : decode cX3_pressed 27 = .ok (.invokevirtual 330, 3) := dk_182 1 74 (dk_at dksX3_pressed_1 3 rfl rfl)
theorem dX3_pressed_30 : decode cX3_pressed 30 = .ok (.ifCond .eq 16, 3) := dk_153 0 16 (dk_at dksX3_pressed_1 6 rfl rfl)
theorem dX3_pressed_33 : decode cX3_pressed 33 = .ok (.aload_n 0, 1) := dk_42 (dk_at dksX3_pressed_1 9 rfl rfl)
theorem dX3_pressed_34 : decode cX3_pressed 34 = .ok (.getfield 49, 3) := dk_180 0 49 (dk_at dksX3_pressed_1 10 rfl rfl)
theorem dX3_pressed_37 : decode cX3_pressed 37 = .ok (.iload_n 1, 1) := dk_27 (dk_at dksX3_pressed_1 13 rfl rfl)
theorem dX3_pressed_38 : decode cX3_pressed 38 = .ok (.iload_n 2, 1) := dk_28 (dk_at dksX3_pressed_1 14 rfl rfl)
theorem dX3_pressed_39 : decode cX3_pressed 39 = .ok (.invokestatic 229, 3) := dk_184 0 229 (dk_at dksX3_pressed_1 15 rfl rfl)
theorem dX3_pressed_42 : decode cX3_pressed 42 = .ok (.iaload, 1) := dk_46 (dk_at dksX3_pressed_1 18 rfl rfl)
theorem dX3_pressed_43 : decode cX3_pressed 43 = .ok (.goto 4, 3) := dk_167 0 4 (dk_at dksX3_pressed_1 19 rfl rfl)
theorem dX3_pressed_46 : decode cX3_pressed 46 = .ok (.iconst (-1), 1) := dk_2 (dk_at dksX3_pressed_1 22 rfl rfl)
theorem dX3_pressed_47 : decode cX3_pressed 47 = .ok (.ireturn, 1) := dk_172 (dk_at dksX3_pressed_1 23 rfl rfl)
abbrev cX3_pressesFirst : ByteArray := prog_15_method_79_code
def yX3_pressesFirst : MethodName := ⟨RX3, "pressesFirst", "(I)Z"⟩
def dkwX3_pressesFirst_2 : List UInt8 := [182, 1, 67, 132, 3, 1, 167, 255, 233, 132, 2, 1, 167, 255, 217, 4, 172]
abbrev dktX3_pressesFirst_2 : List UInt8 := dkwX3_pressesFirst_2 ++ []
def dkwX3_pressesFirst_1 : List UInt8 := [162, 0, 37, 3, 62, 29, 42, 180, 0, 80, 162, 0, 21, 28, 29, 159, 0, 10, 42, 28, 29, 3]
abbrev dktX3_pressesFirst_1 : List UInt8 := dkwX3_pressesFirst_1 ++ dktX3_pressesFirst_2
def dkwX3_pressesFirst_0 : List UInt8 := [42, 27, 2, 182, 1, 60, 42, 182, 1, 63, 154, 0, 5, 3, 172, 3, 61, 28, 42, 180, 0, 80]
abbrev dktX3_pressesFirst_0 : List UInt8 := dkwX3_pressesFirst_0 ++ dktX3_pressesFirst_1
theorem dksX3_pressesFirst_0 : cX3_pressesFirst.data.toList.drop 0 = dktX3_pressesFirst_0 := by decide +kernel
theorem dksX3_pressesFirst_1 : cX3_pressesFirst.data.toList.drop 22 = dktX3_pressesFirst_1 := dk_seg dksX3_pressesFirst_0 22 rfl rfl
theorem dksX3_pressesFirst_2 : cX3_pressesFirst.data.toList.drop 44 = dktX3_pressesFirst_2 := dk_seg dksX3_pressesFirst_1 22 rfl rfl
theorem dX3_pressesFirst_0 : decode cX3_pressesFirst 0 = .ok (.aload_n 0, 1) := dk_42 (dk_at dksX3_pressesFirst_0 0 rfl rfl)
theorem dX3_pressesFirst_1 : decode cX3_pressesFirst 1 = .ok (.iload_n 1, 1) := dk_27 (dk_at dksX3_pressesFirst_0 1 rfl rfl)
theorem dX3_pressesFirst_2 : decode cX3_pressesFirst 2 = .ok (.iconst (-1), 1) := dk_2 (dk_at dksX3_pressesFirst_0 2 rfl rfl)
theorem dX3_pressesFirst_3 : decode cX3_pressesFirst 3 = .ok (.invokevirtual 316, 3) := dk_182 1 60 (dk_at dksX3_pressesFirst_0 3 rfl rfl)
theorem dX3_pressesFirst_6 : decode cX3_pressesFirst 6 = .ok (.aload_n 0, 1) := dk_42 (dk_at dksX3_pressesFirst_0 6 rfl rfl)
theorem dX3_pressesFirst_7 : decode cX3_pressesFirst 7 = .ok (.invokevirtual 319, 3) := dk_182 1 63 (dk_at dksX3_pressesFirst_0 7 rfl rfl)
theorem dX3_pressesFirst_10 : decode cX3_pressesFirst 10 = .ok (.ifCond .ne 5, 3) := dk_154 0 5 (dk_at dksX3_pressesFirst_0 10 rfl rfl)
theorem dX3_pressesFirst_13 : decode cX3_pressesFirst 13 = .ok (.iconst 0, 1) := dk_3 (dk_at dksX3_pressesFirst_0 13 rfl rfl)
theorem dX3_pressesFirst_14 : decode cX3_pressesFirst 14 = .ok (.ireturn, 1) := dk_172 (dk_at dksX3_pressesFirst_0 14 rfl rfl)
theorem dX3_pressesFirst_15 : decode cX3_pressesFirst 15 = .ok (.iconst 0, 1) := dk_3 (dk_at dksX3_pressesFirst_0 15 rfl rfl)
theorem dX3_pressesFirst_16 : decode cX3_pressesFirst 16 = .ok (.istore_n 2, 1) := dk_61 (dk_at dksX3_pressesFirst_0 16 rfl rfl)
theorem dX3_pressesFirst_17 : decode cX3_pressesFirst 17 = .ok (.iload_n 2, 1) := dk_28 (dk_at dksX3_pressesFirst_0 17 rfl rfl)
theorem dX3_pressesFirst_18 : decode cX3_pressesFirst 18 = .ok (.aload_n 0, 1) := dk_42 (dk_at dksX3_pressesFirst_0 18 rfl rfl)
theorem dX3_pressesFirst_19 : decode cX3_pressesFirst 19 = .ok (.getfield 80, 3) := dk_180 0 80 (dk_at dksX3_pressesFirst_0 19 rfl rfl)
theorem dX3_pressesFirst_22 : decode cX3_pressesFirst 22 = .ok (.if_icmp .ge 37, 3) := dk_162 0 37 (dk_at dksX3_pressesFirst_1 0 rfl rfl)
theorem dX3_pressesFirst_25 : decode cX3_pressesFirst 25 = .ok (.iconst 0, 1) := dk_3 (dk_at dksX3_pressesFirst_1 3 rfl rfl)
theorem dX3_pressesFirst_26 : decode cX3_pressesFirst 26 = .ok (.istore_n 3, 1) := dk_62 (dk_at dksX3_pressesFirst_1 4 rfl rfl)
theorem dX3_pressesFirst_27 : decode cX3_pressesFirst 27 = .ok (.iload_n 3, 1) := dk_29 (dk_at dksX3_pressesFirst_1 5 rfl rfl)
theorem dX3_pressesFirst_28 : decode cX3_pressesFirst 28 = .ok (.aload_n 0, 1) := dk_42 (dk_at dksX3_pressesFirst_1 6 rfl rfl)
theorem dX3_pressesFirst_29 : decode cX3_pressesFirst 29 = .ok (.getfield 80, 3) := dk_180 0 80 (dk_at dksX3_pressesFirst_1 7 rfl rfl)
theorem dX3_pressesFirst_32 : decode cX3_pressesFirst 32 = .ok (.if_icmp .ge 21, 3) := dk_162 0 21 (dk_at dksX3_pressesFirst_1 10 rfl rfl)
theorem dX3_pressesFirst_35 : decode cX3_pressesFirst 35 = .ok (.iload_n 2, 1) := dk_28 (dk_at dksX3_pressesFirst_1 13 rfl rfl)
theorem dX3_pressesFirst_36 : decode cX3_pressesFirst 36 = .ok (.iload_n 3, 1) := dk_29 (dk_at dksX3_pressesFirst_1 14 rfl rfl)
theorem dX3_pressesFirst_37 : decode cX3_pressesFirst 37 = .ok (.if_icmp .eq 10, 3) := dk_159 0 10 (dk_at dksX3_pressesFirst_1 15 rfl rfl)
theorem dX3_pressesFirst_40 : decode cX3_pressesFirst 40 = .ok (.aload_n 0, 1) := dk_42 (dk_at dksX3_pressesFirst_1 18 rfl rfl)
theorem dX3_pressesFirst_41 : decode cX3_pressesFirst 41 = .ok (.iload_n 2, 1) := dk_28 (dk_at dksX3_pressesFirst_1 19 rfl rfl)
theorem dX3_pressesFirst_42 : decode cX3_pressesFirst 42 = .ok (.iload_n 3, 1) := dk_29 (dk_at dksX3_pressesFirst_1 20 rfl rfl)
theorem dX3_pressesFirst_43 : decode cX3_pressesFirst 43 = .ok (.iconst 0, 1) := dk_3 (dk_at dksX3_pressesFirst_1 21 rfl rfl)
theorem dX3_pressesFirst_44 : decode cX3_pressesFirst 44 = .ok (.invokevirtual 323, 3) := dk_182 1 67 (dk_at dksX3_pressesFirst_2 0 rfl rfl)
theorem dX3_pressesFirst_47 : decode cX3_pressesFirst 47 = .ok (.iinc 3 1, 3) := dk_132 3 1 (dk_at dksX3_pressesFirst_2 3 rfl rfl)
theorem dX3_pressesFirst_50 : decode cX3_pressesFirst 50 = .ok (.goto (-23), 3) := dk_167 255 233 (dk_at dksX3_pressesFirst_2 6 rfl rfl)
theorem dX3_pressesFirst_53 : decode cX3_pressesFirst 53 = .ok (.iinc 2 1, 3) := dk_132 2 1 (dk_at dksX3_pressesFirst_2 9 rfl rfl)
theorem dX3_pressesFirst_56 : decode cX3_pressesFirst 56 = .ok (.goto (-39), 3) := dk_167 255 217 (dk_at dksX3_pressesFirst_2 12 rfl rfl)
theorem dX3_pressesFirst_59 : decode cX3_pressesFirst 59 = .ok (.iconst 1, 1) := dk_4 (dk_at dksX3_pressesFirst_2 15 rfl rfl)
theorem dX3_pressesFirst_60 : decode cX3_pressesFirst 60 = .ok (.ireturn, 1) := dk_172 (dk_at dksX3_pressesFirst_2 16 rfl rfl)
abbrev cX3_turns : ByteArray := prog_15_method_78_code
def yX3_turns : MethodName := ⟨RX3, "turns", "(IIZ)V"⟩
def dkwX3_turns_3 : List UInt8 := [4, 42, 180, 0, 49, 21, 4, 46, 182, 1, 56, 100, 79, 177]
abbrev dktX3_turns_3 : List UInt8 := dkwX3_turns_3 ++ []
def dkwX3_turns_2 : List UInt8 := [46, 100, 182, 1, 56, 96, 79, 167, 0, 30, 42, 180, 0, 49, 21, 4, 92, 46, 42, 27, 28, 16, 8, 96]
abbrev dktX3_turns_2 : List UInt8 := dkwX3_turns_2 ++ dktX3_turns_3
def dkwX3_turns_1 : List UInt8 := [21, 4, 92, 46, 42, 28, 16, 8, 96, 27, 2, 42, 180, 0, 46, 21, 4, 46, 42, 180, 0, 49, 21, 4]
abbrev dktX3_turns_1 : List UInt8 := dkwX3_turns_1 ++ dktX3_turns_2
def dkwX3_turns_0 : List UInt8 := [27, 28, 184, 0, 229, 54, 4, 42, 180, 0, 61, 21, 4, 4, 84, 29, 153, 0, 41, 42, 180, 0, 49]
abbrev dktX3_turns_0 : List UInt8 := dkwX3_turns_0 ++ dktX3_turns_1
theorem dksX3_turns_0 : cX3_turns.data.toList.drop 0 = dktX3_turns_0 := by decide +kernel
theorem dksX3_turns_1 : cX3_turns.data.toList.drop 23 = dktX3_turns_1 := dk_seg dksX3_turns_0 23 rfl rfl
theorem dksX3_turns_2 : cX3_turns.data.toList.drop 47 = dktX3_turns_2 := dk_seg dksX3_turns_1 24 rfl rfl
theorem dksX3_turns_3 : cX3_turns.data.toList.drop 71 = dktX3_turns_3 := dk_seg dksX3_turns_2 24 rfl rfl
theorem dX3_turns_0 : decode cX3_turns 0 = .ok (.iload_n 1, 1) := dk_27 (dk_at dksX3_turns_0 0 rfl rfl)
theorem dX3_turns_1 : decode cX3_turns 1 = .ok (.iload_n 2, 1) := dk_28 (dk_at dksX3_turns_0 1 rfl rfl)
theorem dX3_turns_2 : decode cX3_turns 2 = .ok (.invokestatic 229, 3) := dk_184 0 229 (dk_at dksX3_turns_0 2 rfl rfl)
theorem dX3_turns_5 : decode cX3_turns 5 = .ok (.istore 4, 2) := dk_54 4 (dk_at dksX3_turns_0 5 rfl rfl)
theorem dX3_turns_7 : decode cX3_turns 7 = .ok (.aload_n 0, 1) := dk_42 (dk_at dksX3_turns_0 7 rfl rfl)
theorem dX3_turns_8 : decode cX3_turns 8 = .ok (.getfield 61, 3) := dk_180 0 61 (dk_at dksX3_turns_0 8 rfl rfl)
theorem dX3_turns_11 : decode cX3_turns 11 = .ok (.iload 4, 2) := dk_21 4 (dk_at dksX3_turns_0 11 rfl rfl)
theorem dX3_turns_13 : decode cX3_turns 13 = .ok (.iconst 1, 1) := dk_4 (dk_at dksX3_turns_0 13 rfl rfl)
theorem dX3_turns_14 : decode cX3_turns 14 = .ok (.bastore, 1) := dk_84 (dk_at dksX3_turns_0 14 rfl rfl)
theorem dX3_turns_15 : decode cX3_turns 15 = .ok (.iload_n 3, 1) := dk_29 (dk_at dksX3_turns_0 15 rfl rfl)
theorem dX3_turns_16 : decode cX3_turns 16 = .ok (.ifCond .eq 41, 3) := dk_153 0 41 (dk_at dksX3_turns_0 16 rfl rfl)
theorem dX3_turns_19 : decode cX3_turns 19 = .ok (.aload_n 0, 1) := dk_42 (dk_at dksX3_turns_0 19 rfl rfl)
theorem dX3_turns_20 : decode cX3_turns 20 = .ok (.getfield 49, 3) := dk_180 0 49 (dk_at dksX3_turns_0 20 rfl rfl)
theorem dX3_turns_23 : decode cX3_turns 23 = .ok (.iload 4, 2) := dk_21 4 (dk_at dksX3_turns_1 0 rfl rfl)
theorem dX3_turns_25 : decode cX3_turns 25 = .ok (.dup2, 1) := dk_92 (dk_at dksX3_turns_1 2 rfl rfl)
theorem dX3_turns_26 : decode cX3_turns 26 = .ok (.iaload, 1) := dk_46 (dk_at dksX3_turns_1 3 rfl rfl)
theorem dX3_turns_27 : decode cX3_turns 27 = .ok (.aload_n 0, 1) := dk_42 (dk_at dksX3_turns_1 4 rfl rfl)
theorem dX3_turns_28 : decode cX3_turns 28 = .ok (.iload_n 2, 1) := dk_28 (dk_at dksX3_turns_1 5 rfl rfl)
theorem dX3_turns_29 : decode cX3_turns 29 = .ok (.bipush 8, 2) := dk_16 8 (dk_at dksX3_turns_1 6 rfl rfl)
theorem dX3_turns_31 : decode cX3_turns 31 = .ok (.iadd, 1) := dk_96 (dk_at dksX3_turns_1 8 rfl rfl)
theorem dX3_turns_32 : decode cX3_turns 32 = .ok (.iload_n 1, 1) := dk_27 (dk_at dksX3_turns_1 9 rfl rfl)
theorem dX3_turns_33 : decode cX3_turns 33 = .ok (.iconst (-1), 1) := dk_2 (dk_at dksX3_turns_1 10 rfl rfl)
theorem dX3_turns_34 : decode cX3_turns 34 = .ok (.aload_n 0, 1) := dk_42 (dk_at dksX3_turns_1 11 rfl rfl)
theorem dX3_turns_35 : decode cX3_turns 35 = .ok (.getfield 46, 3) := dk_180 0 46 (dk_at dksX3_turns_1 12 rfl rfl)
theorem dX3_turns_38 : decode cX3_turns 38 = .ok (.iload 4, 2) := dk_21 4 (dk_at dksX3_turns_1 15 rfl rfl)
theorem dX3_turns_40 : decode cX3_turns 40 = .ok (.iaload, 1) := dk_46 (dk_at dksX3_turns_1 17 rfl rfl)
theorem dX3_turns_41 : decode cX3_turns 41 = .ok (.aload_n 0, 1) := dk_42 (dk_at dksX3_turns_1 18 rfl rfl)
theorem dX3_turns_42 : decode cX3_turns 42 = .ok (.getfield 49, 3) := dk_180 0 49 (dk_at dksX3_turns_1 19 rfl rfl)
theorem dX3_turns_45 : decode cX3_turns 45 = .ok (.iload 4, 2) := dk_21 4 (dk_at dksX3_turns_1 22 rfl rfl)
theorem dX3_turns_47 : decode cX3_turns 47 = .ok (.iaload, 1) := dk_46 (dk_at dksX3_turns_2 0 rfl rfl)
theorem dX3_turns_48 : decode cX3_turns 48 = .ok (.isub, 1) := dk_100 (dk_at dksX3_turns_2 1 rfl rfl)
theorem dX3_turns_49 : decode cX3_turns 49 = .ok (.invokevirtual 312, 3) := dk_182 1 56 (dk_at dksX3_turns_2 2 rfl rfl)
theorem dX3_turns_52 : decode cX3_turns 52 = .ok (.iadd, 1) := dk_96 (dk_at dksX3_turns_2 5 rfl rfl)
theorem dX3_turns_53 : decode cX3_turns 53 = .ok (.iastore, 1) := dk_79 (dk_at dksX3_turns_2 6 rfl rfl)
theorem dX3_turns_54 : decode cX3_turns 54 = .ok (.goto 30, 3) := dk_167 0 30 (dk_at dksX3_turns_2 7 rfl rfl)
theorem dX3_turns_57 : decode cX3_turns 57 = .ok (.aload_n 0, 1) := dk_42 (dk_at dksX3_turns_2 10 rfl rfl)
theorem dX3_turns_58 : decode cX3_turns 58 = .ok (.getfield 49, 3) := dk_180 0 49 (dk_at dksX3_turns_2 11 rfl rfl)
theorem dX3_turns_61 : decode cX3_turns 61 = .ok (.iload 4, 2) := dk_21 4 (dk_at dksX3_turns_2 14 rfl rfl)
theorem dX3_turns_63 : decode cX3_turns 63 = .ok (.dup2, 1) := dk_92 (dk_at dksX3_turns_2 16 rfl rfl)
theorem dX3_turns_64 : decode cX3_turns 64 = .ok (.iaload, 1) := dk_46 (dk_at dksX3_turns_2 17 rfl rfl)
theorem dX3_turns_65 : decode cX3_turns 65 = .ok (.aload_n 0, 1) := dk_42 (dk_at dksX3_turns_2 18 rfl rfl)
theorem dX3_turns_66 : decode cX3_turns 66 = .ok (.iload_n 1, 1) := dk_27 (dk_at dksX3_turns_2 19 rfl rfl)
theorem dX3_turns_67 : decode cX3_turns 67 = .ok (.iload_n 2, 1) := dk_28 (dk_at dksX3_turns_2 20 rfl rfl)
theorem dX3_turns_68 : decode cX3_turns 68 = .ok (.bipush 8, 2) := dk_16 8 (dk_at dksX3_turns_2 21 rfl rfl)
theorem dX3_turns_70 : decode cX3_turns 70 = .ok (.iadd, 1) := dk_96 (dk_at dksX3_turns_2 23 rfl rfl)
theorem dX3_turns_71 : decode cX3_turns 71 = .ok (.iconst 1, 1) := dk_4 (dk_at dksX3_turns_3 0 rfl rfl)
theorem dX3_turns_72 : decode cX3_turns 72 = .ok (.aload_n 0, 1) := dk_42 (dk_at dksX3_turns_3 1 rfl rfl)
theorem dX3_turns_73 : decode cX3_turns 73 = .ok (.getfield 49, 3) := dk_180 0 49 (dk_at dksX3_turns_3 2 rfl rfl)
theorem dX3_turns_76 : decode cX3_turns 76 = .ok (.iload 4, 2) := dk_21 4 (dk_at dksX3_turns_3 5 rfl rfl)
theorem dX3_turns_78 : decode cX3_turns 78 = .ok (.iaload, 1) := dk_46 (dk_at dksX3_turns_3 7 rfl rfl)
theorem dX3_turns_79 : decode cX3_turns 79 = .ok (.invokevirtual 312, 3) := dk_182 1 56 (dk_at dksX3_turns_3 8 rfl rfl)
theorem dX3_turns_82 : decode cX3_turns 82 = .ok (.isub, 1) := dk_100 (dk_at dksX3_turns_3 11 rfl rfl)
theorem dX3_turns_83 : decode cX3_turns 83 = .ok (.iastore, 1) := dk_79 (dk_at dksX3_turns_3 12 rfl rfl)
theorem dX3_turns_84 : decode cX3_turns 84 = .ok (.return_, 1) := dk_177 (dk_at dksX3_turns_3 13 rfl rfl)
abbrev cX3_shifts : ByteArray := prog_15_method_77_code
def yX3_shifts : MethodName := ⟨RX3, "shifts", "(IIII)I"⟩
def dkwX3_shifts_6 : List UInt8 := [153, 0, 12, 21, 5, 158, 0, 7, 4, 167, 0, 4, 3, 54, 6, 167, 255, 117, 21, 4, 21, 5, 100, 172]
abbrev dktX3_shifts_6 : List UInt8 := dkwX3_shifts_6 ++ []
def dkwX3_shifts_5 : List UInt8 := [54, 7, 21, 6, 153, 0, 10, 42, 28, 21, 7, 182, 1, 53, 21, 5, 21, 7, 100, 54, 5, 21, 6]
abbrev dktX3_shifts_5 : List UInt8 := dkwX3_shifts_5 ++ dktX3_shifts_6
def dkwX3_shifts_4 : List UInt8 := [4, 167, 0, 4, 3, 54, 6, 21, 6, 153, 0, 13, 42, 28, 21, 5, 182, 1, 50, 167, 0, 4, 3]
abbrev dktX3_shifts_4 : List UInt8 := dkwX3_shifts_4 ++ dktX3_shifts_5
def dkwX3_shifts_3 : List UInt8 := [180, 0, 65, 28, 46, 19, 1, 37, 162, 0, 20, 42, 180, 0, 65, 28, 46, 16, 6, 122, 29, 160, 0, 7]
abbrev dktX3_shifts_3 : List UInt8 := dkwX3_shifts_3 ++ dktX3_shifts_4
def dkwX3_shifts_2 : List UInt8 := [19, 1, 37, 79, 42, 180, 0, 68, 21, 7, 2, 79, 132, 7, 1, 167, 255, 218, 42, 182, 1, 44, 42]
abbrev dktX3_shifts_2 : List UInt8 := dkwX3_shifts_2 ++ dktX3_shifts_3
def dkwX3_shifts_1 : List UInt8 := [21, 7, 16, 16, 162, 0, 37, 42, 180, 0, 65, 21, 7, 21, 7, 27, 160, 0, 7, 3, 167, 0, 6]
abbrev dktX3_shifts_1 : List UInt8 := dkwX3_shifts_1 ++ dktX3_shifts_2
def dkwX3_shifts_0 : List UInt8 := [21, 4, 54, 5, 21, 5, 158, 0, 7, 4, 167, 0, 4, 3, 54, 6, 21, 6, 153, 0, 140, 3, 54, 7]
abbrev dktX3_shifts_0 : List UInt8 := dkwX3_shifts_0 ++ dktX3_shifts_1
theorem dksX3_shifts_0 : cX3_shifts.data.toList.drop 0 = dktX3_shifts_0 := by decide +kernel
theorem dksX3_shifts_1 : cX3_shifts.data.toList.drop 24 = dktX3_shifts_1 := dk_seg dksX3_shifts_0 24 rfl rfl
theorem dksX3_shifts_2 : cX3_shifts.data.toList.drop 47 = dktX3_shifts_2 := dk_seg dksX3_shifts_1 23 rfl rfl
theorem dksX3_shifts_3 : cX3_shifts.data.toList.drop 70 = dktX3_shifts_3 := dk_seg dksX3_shifts_2 23 rfl rfl
theorem dksX3_shifts_4 : cX3_shifts.data.toList.drop 94 = dktX3_shifts_4 := dk_seg dksX3_shifts_3 24 rfl rfl
theorem dksX3_shifts_5 : cX3_shifts.data.toList.drop 117 = dktX3_shifts_5 := dk_seg dksX3_shifts_4 23 rfl rfl
theorem dksX3_shifts_6 : cX3_shifts.data.toList.drop 140 = dktX3_shifts_6 := dk_seg dksX3_shifts_5 23 rfl rfl
theorem dX3_shifts_0 : decode cX3_shifts 0 = .ok (.iload 4, 2) := dk_21 4 (dk_at dksX3_shifts_0 0 rfl rfl)
theorem dX3_shifts_2 : decode cX3_shifts 2 = .ok (.istore 5, 2) := dk_54 5 (dk_at dksX3_shifts_0 2 rfl rfl)
theorem dX3_shifts_4 : decode cX3_shifts 4 = .ok (.iload 5, 2) := dk_21 5 (dk_at dksX3_shifts_0 4 rfl rfl)
theorem dX3_shifts_6 : decode cX3_shifts 6 = .ok (.ifCond .le 7, 3) := dk_158 0 7 (dk_at dksX3_shifts_0 6 rfl rfl)
theorem dX3_shifts_9 : decode cX3_shifts 9 = .ok (.iconst 1, 1) := dk_4 (dk_at dksX3_shifts_0 9 rfl rfl)
theorem dX3_shifts_10 : decode cX3_shifts 10 = .ok (.goto 4, 3) := dk_167 0 4 (dk_at dksX3_shifts_0 10 rfl rfl)
theorem dX3_shifts_13 : decode cX3_shifts 13 = .ok (.iconst 0, 1) := dk_3 (dk_at dksX3_shifts_0 13 rfl rfl)
theorem dX3_shifts_14 : decode cX3_shifts 14 = .ok (.istore 6, 2) := dk_54 6 (dk_at dksX3_shifts_0 14 rfl rfl)
theorem dX3_shifts_16 : decode cX3_shifts 16 = .ok (.iload 6, 2) := dk_21 6 (dk_at dksX3_shifts_0 16 rfl rfl)
theorem dX3_shifts_18 : decode cX3_shifts 18 = .ok (.ifCond .eq 140, 3) := dk_153 0 140 (dk_at dksX3_shifts_0 18 rfl rfl)
theorem dX3_shifts_21 : decode cX3_shifts 21 = .ok (.iconst 0, 1) := dk_3 (dk_at dksX3_shifts_0 21 rfl rfl)
theorem dX3_shifts_22 : decode cX3_shifts 22 = .ok (.istore 7, 2) := dk_54 7 (dk_at dksX3_shifts_0 22 rfl rfl)
theorem dX3_shifts_24 : decode cX3_shifts 24 = .ok (.iload 7, 2) := dk_21 7 (dk_at dksX3_shifts_1 0 rfl rfl)
theorem dX3_shifts_26 : decode cX3_shifts 26 = .ok (.bipush 16, 2) := dk_16 16 (dk_at dksX3_shifts_1 2 rfl rfl)
theorem dX3_shifts_28 : decode cX3_shifts 28 = .ok (.if_icmp .ge 37, 3) := dk_162 0 37 (dk_at dksX3_shifts_1 4 rfl rfl)
theorem dX3_shifts_31 : decode cX3_shifts 31 = .ok (.aload_n 0, 1) := dk_42 (dk_at dksX3_shifts_1 7 rfl rfl)
theorem dX3_shifts_32 : decode cX3_shifts 32 = .ok (.getfield 65, 3) := dk_180 0 65 (dk_at dksX3_shifts_1 8 rfl rfl)
theorem dX3_shifts_35 : decode cX3_shifts 35 = .ok (.iload 7, 2) := dk_21 7 (dk_at dksX3_shifts_1 11 rfl rfl)
theorem dX3_shifts_37 : decode cX3_shifts 37 = .ok (.iload 7, 2) := dk_21 7 (dk_at dksX3_shifts_1 13 rfl rfl)
theorem dX3_shifts_39 : decode cX3_shifts 39 = .ok (.iload_n 1, 1) := dk_27 (dk_at dksX3_shifts_1 15 rfl rfl)
theorem dX3_shifts_40 : decode cX3_shifts 40 = .ok (.if_icmp .ne 7, 3) := dk_160 0 7 (dk_at dksX3_shifts_1 16 rfl rfl)
theorem dX3_shifts_43 : decode cX3_shifts 43 = .ok (.iconst 0, 1) := dk_3 (dk_at dksX3_shifts_1 19 rfl rfl)
theorem dX3_shifts_44 : decode cX3_shifts 44 = .ok (.goto 6, 3) := dk_167 0 6 (dk_at dksX3_shifts_1 20 rfl rfl)
theorem dX3_shifts_47 : decode cX3_shifts 47 = .ok (.ldc_w 293, 3) := dk_19 1 37 (dk_at dksX3_shifts_2 0 rfl rfl)
theorem dX3_shifts_50 : decode cX3_shifts 50 = .ok (.iastore, 1) := dk_79 (dk_at dksX3_shifts_2 3 rfl rfl)
theorem dX3_shifts_51 : decode cX3_shifts 51 = .ok (.aload_n 0, 1) := dk_42 (dk_at dksX3_shifts_2 4 rfl rfl)
theorem dX3_shifts_52 : decode cX3_shifts 52 = .ok (.getfield 68, 3) := dk_180 0 68 (dk_at dksX3_shifts_2 5 rfl rfl)
theorem dX3_shifts_55 : decode cX3_shifts 55 = .ok (.iload 7, 2) := dk_21 7 (dk_at dksX3_shifts_2 8 rfl rfl)
theorem dX3_shifts_57 : decode cX3_shifts 57 = .ok (.iconst (-1), 1) := dk_2 (dk_at dksX3_shifts_2 10 rfl rfl)
theorem dX3_shifts_58 : decode cX3_shifts 58 = .ok (.iastore, 1) := dk_79 (dk_at dksX3_shifts_2 11 rfl rfl)
theorem dX3_shifts_59 : decode cX3_shifts 59 = .ok (.iinc 7 1, 3) := dk_132 7 1 (dk_at dksX3_shifts_2 12 rfl rfl)
theorem dX3_shifts_62 : decode cX3_shifts 62 = .ok (.goto (-38), 3) := dk_167 255 218 (dk_at dksX3_shifts_2 15 rfl rfl)
theorem dX3_shifts_65 : decode cX3_shifts 65 = .ok (.aload_n 0, 1) := dk_42 (dk_at dksX3_shifts_2 18 rfl rfl)
theorem dX3_shifts_66 : decode cX3_shifts 66 = .ok (.invokevirtual 300, 3) := dk_182 1 44 (dk_at dksX3_shifts_2 19 rfl rfl)
theorem dX3_shifts_69 : decode cX3_shifts 69 = .ok (.aload_n 0, 1) := dk_42 (dk_at dksX3_shifts_2 22 rfl rfl)
theorem dX3_shifts_70 : decode cX3_shifts 70 = .ok (.getfield 65, 3) := dk_180 0 65 (dk_at dksX3_shifts_3 0 rfl rfl)
theorem dX3_shifts_73 : decode cX3_shifts 73 = .ok (.iload_n 2, 1) := dk_28 (dk_at dksX3_shifts_3 3 rfl rfl)
theorem dX3_shifts_74 : decode cX3_shifts 74 = .ok (.iaload, 1) := dk_46 (dk_at dksX3_shifts_3 4 rfl rfl)
theorem dX3_shifts_75 : decode cX3_shifts 75 = .ok (.ldc_w 293, 3) := dk_19 1 37 (dk_at dksX3_shifts_3 5 rfl rfl)
theorem dX3_shifts_78 : decode cX3_shifts 78 = .ok (.if_icmp .ge 20, 3) := dk_162 0 20 (dk_at dksX3_shifts_3 8 rfl rfl)
theorem dX3_shifts_81 : decode cX3_shifts 81 = .ok (.aload_n 0, 1) := dk_42 (dk_at dksX3_shifts_3 11 rfl rfl)
theorem dX3_shifts_82 : decode cX3_shifts 82 = .ok (.getfield 65, 3) := dk_180 0 65 (dk_at dksX3_shifts_3 12 rfl rfl)
theorem dX3_shifts_85 : decode cX3_shifts 85 = .ok (.iload_n 2, 1) := dk_28 (dk_at dksX3_shifts_3 15 rfl rfl)
theorem dX3_shifts_86 : decode cX3_shifts 86 = .ok (.iaload, 1) := dk_46 (dk_at dksX3_shifts_3 16 rfl rfl)
theorem dX3_shifts_87 : decode cX3_shifts 87 = .ok (.bipush 6, 2) := dk_16 6 (dk_at dksX3_shifts_3 17 rfl rfl)
theorem dX3_shifts_89 : decode cX3_shifts 89 = .ok (.ishr, 1) := dk_122 (dk_at dksX3_shifts_3 19 rfl rfl)
theorem dX3_shifts_90 : decode cX3_shifts 90 = .ok (.iload_n 3, 1) := dk_29 (dk_at dksX3_shifts_3 20 rfl rfl)
theorem dX3_shifts_91 : decode cX3_shifts 91 = .ok (.if_icmp .ne 7, 3) := dk_160 0 7 (dk_at dksX3_shifts_3 21 rfl rfl)
theorem dX3_shifts_94 : decode cX3_shifts 94 = .ok (.iconst 1, 1) := dk_4 (dk_at dksX3_shifts_4 0 rfl rfl)
theorem dX3_shifts_95 : decode cX3_shifts 95 = .ok (.goto 4, 3) := dk_167 0 4 (dk_at dksX3_shifts_4 1 rfl rfl)
theorem dX3_shifts_98 : decode cX3_shifts 98 = .ok (.iconst 0, 1) := dk_3 (dk_at dksX3_shifts_4 4 rfl rfl)
theorem dX3_shifts_99 : decode cX3_shifts 99 = .ok (.istore 6, 2) := dk_54 6 (dk_at dksX3_shifts_4 5 rfl rfl)
theorem dX3_shifts_101 : decode cX3_shifts 101 = .ok (.iload 6, 2) := dk_21 6 (dk_at dksX3_shifts_4 7 rfl rfl)
theorem dX3_shifts_103 : decode cX3_shifts 103 = .ok (.ifCond .eq 13, 3) := dk_153 0 13 (dk_at dksX3_shifts_4 9 rfl rfl)
theorem dX3_shifts_106 : decode cX3_shifts 106 = .ok (.aload_n 0, 1) := dk_42 (dk_at dksX3_shifts_4 12 rfl rfl)
theorem dX3_shifts_107 : decode cX3_shifts 107 = .ok (.iload_n 2, 1) := dk_28 (dk_at dksX3_shifts_4 13 rfl rfl)
theorem dX3_shifts_108 : decode cX3_shifts 108 = .ok (.iload 5, 2) := dk_21 5 (dk_at dksX3_shifts_4 14 rfl rfl)
theorem dX3_shifts_110 : decode cX3_shifts 110 = .ok (.invokevirtual 306, 3) := dk_182 1 50 (dk_at dksX3_shifts_4 16 rfl rfl)
theorem dX3_shifts_113 : decode cX3_shifts 113 = .ok (.goto 4, 3) := dk_167 0 4 (dk_at dksX3_shifts_4 19 rfl rfl)
theorem dX3_shifts_116 : decode cX3_shifts 116 = .ok (.iconst 0, 1) := dk_3 (dk_at dksX3_shifts_4 22 rfl rfl)
theorem dX3_shifts_117 : decode cX3_shifts 117 = .ok (.istore 7, 2) := dk_54 7 (dk_at dksX3_shifts_5 0 rfl rfl)
theorem dX3_shifts_119 : decode cX3_shifts 119 = .ok (.iload 6, 2) := dk_21 6 (dk_at dksX3_shifts_5 2 rfl rfl)
theorem dX3_shifts_121 : decode cX3_shifts 121 = .ok (.ifCond .eq 10, 3) := dk_153 0 10 (dk_at dksX3_shifts_5 4 rfl rfl)
theorem dX3_shifts_124 : decode cX3_shifts 124 = .ok (.aload_n 0, 1) := dk_42 (dk_at dksX3_shifts_5 7 rfl rfl)
theorem dX3_shifts_125 : decode cX3_shifts 125 = .ok (.iload_n 2, 1) := dk_28 (dk_at dksX3_shifts_5 8 rfl rfl)
theorem dX3_shifts_126 : decode cX3_shifts 126 = .ok (.iload 7, 2) := dk_21 7 (dk_at dksX3_shifts_5 9 rfl rfl)
theorem dX3_shifts_128 : decode cX3_shifts 128 = .ok (.invokevirtual 309, 3) := dk_182 1 53 (dk_at dksX3_shifts_5 11 rfl rfl)
theorem dX3_shifts_131 : decode cX3_shifts 131 = .ok (.iload 5, 2) := dk_21 5 (dk_at dksX3_shifts_5 14 rfl rfl)
theorem dX3_shifts_133 : decode cX3_shifts 133 = .ok (.iload 7, 2) := dk_21 7 (dk_at dksX3_shifts_5 16 rfl rfl)
theorem dX3_shifts_135 : decode cX3_shifts 135 = .ok (.isub, 1) := dk_100 (dk_at dksX3_shifts_5 18 rfl rfl)
theorem dX3_shifts_136 : decode cX3_shifts 136 = .ok (.istore 5, 2) := dk_54 5 (dk_at dksX3_shifts_5 19 rfl rfl)
theorem dX3_shifts_138 : decode cX3_shifts 138 = .ok (.iload 6, 2) := dk_21 6 (dk_at dksX3_shifts_5 21 rfl rfl)
theorem dX3_shifts_140 : decode cX3_shifts 140 = .ok (.ifCond .eq 12, 3) := dk_153 0 12 (dk_at dksX3_shifts_6 0 rfl rfl)
theorem dX3_shifts_143 : decode cX3_shifts 143 = .ok (.iload 5, 2) := dk_21 5 (dk_at dksX3_shifts_6 3 rfl rfl)
theorem dX3_shifts_145 : decode cX3_shifts 145 = .ok (.ifCond .le 7, 3) := dk_158 0 7 (dk_at dksX3_shifts_6 5 rfl rfl)
theorem dX3_shifts_148 : decode cX3_shifts 148 = .ok (.iconst 1, 1) := dk_4 (dk_at dksX3_shifts_6 8 rfl rfl)
theorem dX3_shifts_149 : decode cX3_shifts 149 = .ok (.goto 4, 3) := dk_167 0 4 (dk_at dksX3_shifts_6 9 rfl rfl)
theorem dX3_shifts_152 : decode cX3_shifts 152 = .ok (.iconst 0, 1) := dk_3 (dk_at dksX3_shifts_6 12 rfl rfl)
theorem dX3_shifts_153 : decode cX3_shifts 153 = .ok (.istore 6, 2) := dk_54 6 (dk_at dksX3_shifts_6 13 rfl rfl)
theorem dX3_shifts_155 : decode cX3_shifts 155 = .ok (.goto (-139), 3) := dk_167 255 117 (dk_at dksX3_shifts_6 15 rfl rfl)
theorem dX3_shifts_158 : decode cX3_shifts 158 = .ok (.iload 4, 2) := dk_21 4 (dk_at dksX3_shifts_6 18 rfl rfl)
theorem dX3_shifts_160 : decode cX3_shifts 160 = .ok (.iload 5, 2) := dk_21 5 (dk_at dksX3_shifts_6 20 rfl rfl)
theorem dX3_shifts_162 : decode cX3_shifts 162 = .ok (.isub, 1) := dk_100 (dk_at dksX3_shifts_6 22 rfl rfl)
theorem dX3_shifts_163 : decode cX3_shifts 163 = .ok (.ireturn, 1) := dk_172 (dk_at dksX3_shifts_6 23 rfl rfl)
abbrev cX3_couples : ByteArray := prog_15_method_83_code
def yX3_couples : MethodName := ⟨RX3, "couples", "(I)I"⟩
def dkwX3_couples_1 : List UInt8 := [42, 182, 1, 77, 167, 0, 4, 2, 172]
abbrev dktX3_couples_1 : List UInt8 := dkwX3_couples_1 ++ []
def dkwX3_couples_0 : List UInt8 := [42, 3, 181, 0, 1, 42, 27, 182, 0, 205, 154, 0, 6, 16, 254, 172, 42, 27, 182, 1, 74, 153, 0, 10]
abbrev dktX3_couples_0 : List UInt8 := dkwX3_couples_0 ++ dktX3_couples_1
theorem dksX3_couples_0 : cX3_couples.data.toList.drop 0 = dktX3_couples_0 := by decide +kernel
theorem dksX3_couples_1 : cX3_couples.data.toList.drop 24 = dktX3_couples_1 := dk_seg dksX3_couples_0 24 rfl rfl
theorem dX3_couples_0 : decode cX3_couples 0 = .ok (.aload_n 0, 1) := dk_42 (dk_at dksX3_couples_0 0 rfl rfl)
theorem dX3_couples_1 : decode cX3_couples 1 = .ok (.iconst 0, 1) := dk_3 (dk_at dksX3_couples_0 1 rfl rfl)
theorem dX3_couples_2 : decode cX3_couples 2 = .ok (.putfield 1, 3) := dk_181 0 1 (dk_at dksX3_couples_0 2 rfl rfl)
theorem dX3_couples_5 : decode cX3_couples 5 = .ok (.aload_n 0, 1) := dk_42 (dk_at dksX3_couples_0 5 rfl rfl)
theorem dX3_couples_6 : decode cX3_couples 6 = .ok (.iload_n 1, 1) := dk_27 (dk_at dksX3_couples_0 6 rfl rfl)
theorem dX3_couples_7 : decode cX3_couples 7 = .ok (.invokevirtual 205, 3) := dk_182 0 205 (dk_at dksX3_couples_0 7 rfl rfl)
theorem dX3_couples_10 : decode cX3_couples 10 = .ok (.ifCond .ne 6, 3) := dk_154 0 6 (dk_at dksX3_couples_0 10 rfl rfl)
theorem dX3_couples_13 : decode cX3_couples 13 = .ok (.bipush (-2), 2) := dk_16 254 (dk_at dksX3_couples_0 13 rfl rfl)
theorem dX3_couples_15 : decode cX3_couples 15 = .ok (.ireturn, 1) := dk_172 (dk_at dksX3_couples_0 15 rfl rfl)
theorem dX3_couples_16 : decode cX3_couples 16 = .ok (.aload_n 0, 1) := dk_42 (dk_at dksX3_couples_0 16 rfl rfl)
theorem dX3_couples_17 : decode cX3_couples 17 = .ok (.iload_n 1, 1) := dk_27 (dk_at dksX3_couples_0 17 rfl rfl)
theorem dX3_couples_18 : decode cX3_couples 18 = .ok (.invokevirtual 330, 3) := dk_182 1 74 (dk_at dksX3_couples_0 18 rfl rfl)
theorem dX3_couples_21 : decode cX3_couples 21 = .ok (.ifCond .eq 10, 3) := dk_153 0 10 (dk_at dksX3_couples_0 21 rfl rfl)
theorem dX3_couples_24 : decode cX3_couples 24 = .ok (.aload_n 0, 1) := dk_42 (dk_at dksX3_couples_1 0 rfl rfl)
theorem dX3_couples_25 : decode cX3_couples 25 = .ok (.invokevirtual 333, 3) := dk_182 1 77 (dk_at dksX3_couples_1 1 rfl rfl)
theorem dX3_couples_28 : decode cX3_couples 28 = .ok (.goto 4, 3) := dk_167 0 4 (dk_at dksX3_couples_1 4 rfl rfl)
theorem dX3_couples_31 : decode cX3_couples 31 = .ok (.iconst (-1), 1) := dk_2 (dk_at dksX3_couples_1 7 rfl rfl)
theorem dX3_couples_32 : decode cX3_couples 32 = .ok (.ireturn, 1) := dk_172 (dk_at dksX3_couples_1 8 rfl rfl)
abbrev cX3_couplesNow : ByteArray := prog_15_method_82_code
def yX3_couplesNow : MethodName := ⟨RX3, "couplesNow", "()I"⟩
def dkwX3_couplesNow_1 : List UInt8 := [3, 96, 60, 132, 2, 1, 167, 255, 230, 27, 172]
abbrev dktX3_couplesNow_1 : List UInt8 := dkwX3_couplesNow_1 ++ []
def dkwX3_couplesNow_0 : List UInt8 := [3, 60, 3, 61, 28, 16, 64, 162, 0, 26, 27, 42, 180, 0, 49, 28, 46, 158, 0, 7, 4, 167, 0, 4]
abbrev dktX3_couplesNow_0 : List UInt8 := dkwX3_couplesNow_0 ++ dktX3_couplesNow_1
theorem dksX3_couplesNow_0 : cX3_couplesNow.data.toList.drop 0 = dktX3_couplesNow_0 := by decide +kernel
theorem dksX3_couplesNow_1 : cX3_couplesNow.data.toList.drop 24 = dktX3_couplesNow_1 := dk_seg dksX3_couplesNow_0 24 rfl rfl
theorem dX3_couplesNow_0 : decode cX3_couplesNow 0 = .ok (.iconst 0, 1) := dk_3 (dk_at dksX3_couplesNow_0 0 rfl rfl)
theorem dX3_couplesNow_1 : decode cX3_couplesNow 1 = .ok (.istore_n 1, 1) := dk_60 (dk_at dksX3_couplesNow_0 1 rfl rfl)
theorem dX3_couplesNow_2 : decode cX3_couplesNow 2 = .ok (.iconst 0, 1) := dk_3 (dk_at dksX3_couplesNow_0 2 rfl rfl)
theorem dX3_couplesNow_3 : decode cX3_couplesNow 3 = .ok (.istore_n 2, 1) := dk_61 (dk_at dksX3_couplesNow_0 3 rfl rfl)
theorem dX3_couplesNow_4 : decode cX3_couplesNow 4 = .ok (.iload_n 2, 1) := dk_28 (dk_at dksX3_couplesNow_0 4 rfl rfl)
theorem dX3_couplesNow_5 : decode cX3_couplesNow 5 = .ok (.bipush 64, 2) := dk_16 64 (dk_at dksX3_couplesNow_0 5 rfl rfl)
theorem dX3_couplesNow_7 : decode cX3_couplesNow 7 = .ok (.if_icmp .ge 26, 3) := dk_162 0 26 (dk_at dksX3_couplesNow_0 7 rfl rfl)
theorem dX3_couplesNow_10 : decode cX3_couplesNow 10 = .ok (.iload_n 1, 1) := dk_27 (dk_at dksX3_couplesNow_0 10 rfl rfl)
theorem dX3_couplesNow_11 : decode cX3_couplesNow 11 = .ok (.aload_n 0, 1) := dk_42 (dk_at dksX3_couplesNow_0 11 rfl rfl)
theorem dX3_couplesNow_12 : decode cX3_couplesNow 12 = .ok (.getfield 49, 3) := dk_180 0 49 (dk_at dksX3_couplesNow_0 12 rfl rfl)
theorem dX3_couplesNow_15 : decode cX3_couplesNow 15 = .ok (.iload_n 2, 1) := dk_28 (dk_at dksX3_couplesNow_0 15 rfl rfl)
theorem dX3_couplesNow_16 : decode cX3_couplesNow 16 = .ok (.iaload, 1) := dk_46 (dk_at dksX3_couplesNow_0 16 rfl rfl)
theorem dX3_couplesNow_17 : decode cX3_couplesNow 17 = .ok (.ifCond .le 7, 3) := dk_158 0 7 (dk_at dksX3_couplesNow_0 17 rfl rfl)
theorem dX3_couplesNow_20 : decode cX3_couplesNow 20 = .ok (.iconst 1, 1) := dk_4 (dk_at dksX3_couplesNow_0 20 rfl rfl)
theorem dX3_couplesNow_21 : decode cX3_couplesNow 21 = .ok (.goto 4, 3) := dk_167 0 4 (dk_at dksX3_couplesNow_0 21 rfl rfl)
theorem dX3_couplesNow_24 : decode cX3_couplesNow 24 = .ok (.iconst 0, 1) := dk_3 (dk_at dksX3_couplesNow_1 0 rfl rfl)
theorem dX3_couplesNow_25 : decode cX3_couplesNow 25 = .ok (.iadd, 1) := dk_96 (dk_at dksX3_couplesNow_1 1 rfl rfl)
theorem dX3_couplesNow_26 : decode cX3_couplesNow 26 = .ok (.istore_n 1, 1) := dk_60 (dk_at dksX3_couplesNow_1 2 rfl rfl)
theorem dX3_couplesNow_27 : decode cX3_couplesNow 27 = .ok (.iinc 2 1, 3) := dk_132 2 1 (dk_at dksX3_couplesNow_1 3 rfl rfl)
theorem dX3_couplesNow_30 : decode cX3_couplesNow 30 = .ok (.goto (-26), 3) := dk_167 255 230 (dk_at dksX3_couplesNow_1 6 rfl rfl)
theorem dX3_couplesNow_33 : decode cX3_couplesNow 33 = .ok (.iload_n 1, 1) := dk_27 (dk_at dksX3_couplesNow_1 9 rfl rfl)
theorem dX3_couplesNow_34 : decode cX3_couplesNow 34 = .ok (.ireturn, 1) := dk_172 (dk_at dksX3_couplesNow_1 10 rfl rfl)
abbrev cX3_span : ByteArray := prog_15_method_84_code
def yX3_span : MethodName := ⟨RX3, "span", "(IIII)I"⟩
def dkwX3_span_3 : List UInt8 := [182, 1, 67, 42, 180, 0, 49, 27, 28, 184, 0, 229, 46, 172]
abbrev dktX3_span_3 : List UInt8 := dkwX3_span_3 ++ []
def dkwX3_span_2 : List UInt8 := [182, 1, 63, 154, 0, 5, 2, 172, 42, 27, 28, 21, 4, 4, 160, 0, 7, 4, 167, 0, 4, 3]
abbrev dktX3_span_2 : List UInt8 := dkwX3_span_2 ++ dktX3_span_3
def dkwX3_span_1 : List UInt8 := [172, 21, 4, 133, 9, 10, 184, 0, 103, 154, 0, 6, 16, 253, 172, 42, 29, 2, 182, 1, 60, 42]
abbrev dktX3_span_1 : List UInt8 := dkwX3_span_1 ++ dktX3_span_2
def dkwX3_span_0 : List UInt8 := [42, 3, 181, 0, 1, 42, 27, 28, 182, 0, 201, 153, 0, 11, 42, 29, 182, 0, 205, 154, 0, 6, 16, 254]
abbrev dktX3_span_0 : List UInt8 := dkwX3_span_0 ++ dktX3_span_1
theorem dksX3_span_0 : cX3_span.data.toList.drop 0 = dktX3_span_0 := by decide +kernel
theorem dksX3_span_1 : cX3_span.data.toList.drop 24 = dktX3_span_1 := dk_seg dksX3_span_0 24 rfl rfl
theorem dksX3_span_2 : cX3_span.data.toList.drop 46 = dktX3_span_2 := dk_seg dksX3_span_1 22 rfl rfl
theorem dksX3_span_3 : cX3_span.data.toList.drop 68 = dktX3_span_3 := dk_seg dksX3_span_2 22 rfl rfl
theorem dX3_span_0 : decode cX3_span 0 = .ok (.aload_n 0, 1) := dk_42 (dk_at dksX3_span_0 0 rfl rfl)
theorem dX3_span_1 : decode cX3_span 1 = .ok (.iconst 0, 1) := dk_3 (dk_at dksX3_span_0 1 rfl rfl)
theorem dX3_span_2 : decode cX3_span 2 = .ok (.putfield 1, 3) := dk_181 0 1 (dk_at dksX3_span_0 2 rfl rfl)
theorem dX3_span_5 : decode cX3_span 5 = .ok (.aload_n 0, 1) := dk_42 (dk_at dksX3_span_0 5 rfl rfl)
theorem dX3_span_6 : decode cX3_span 6 = .ok (.iload_n 1, 1) := dk_27 (dk_at dksX3_span_0 6 rfl rfl)
theorem dX3_span_7 : decode cX3_span 7 = .ok (.iload_n 2, 1) := dk_28 (dk_at dksX3_span_0 7 rfl rfl)
theorem dX3_span_8 : decode cX3_span 8 = .ok (.invokevirtual 201, 3) := dk_182 0 201 (dk_at dksX3_span_0 8 rfl rfl)
theorem dX3_span_11 : decode cX3_span 11 = .ok (.ifCond .eq 11, 3) := dk_153 0 11 (dk_at dksX3_span_0 11 rfl rfl)
theorem dX3_span_14 : decode cX3_span 14 = .ok (.aload_n 0, 1) := dk_42 (dk_at dksX3_span_0 14 rfl rfl)
theorem dX3_span_15 : decode cX3_span 15 = .ok (.iload_n 3, 1) := dk_29 (dk_at dksX3_span_0 15 rfl rfl)
theorem dX3_span_16 : decode cX3_span 16 = .ok (.invokevirtual 205, 3) := dk_182 0 205 (dk_at dksX3_span_0 16 rfl rfl)
theorem dX3_span_19 : decode cX3_span 19 = .ok (.ifCond .ne 6, 3) := dk_154 0 6 (dk_at dksX3_span_0 19 rfl rfl)
theorem dX3_span_22 : decode cX3_span 22 = .ok (.bipush (-2), 2) := dk_16 254 (dk_at dksX3_span_0 22 rfl rfl)
theorem dX3_span_24 : decode cX3_span 24 = .ok (.ireturn, 1) := dk_172 (dk_at dksX3_span_1 0 rfl rfl)
theorem dX3_span_25 : decode cX3_span 25 = .ok (.iload 4, 2) := dk_21 4 (dk_at dksX3_span_1 1 rfl rfl)
theorem dX3_span_27 : decode cX3_span 27 = .ok (.i2l, 1) := dk_133 (dk_at dksX3_span_1 3 rfl rfl)
theorem dX3_span_28 : decode cX3_span 28 = .ok (.lconst 0, 1) := dk_9 (dk_at dksX3_span_1 4 rfl rfl)
theorem dX3_span_29 : decode cX3_span 29 = .ok (.lconst 1, 1) := dk_10 (dk_at dksX3_span_1 5 rfl rfl)
theorem dX3_span_30 : decode cX3_span 30 = .ok (.invokestatic 103, 3) := dk_184 0 103 (dk_at dksX3_span_1 6 rfl rfl)
theorem dX3_span_33 : decode cX3_span 33 = .ok (.ifCond .ne 6, 3) := dk_154 0 6 (dk_at dksX3_span_1 9 rfl rfl)
theorem dX3_span_36 : decode cX3_span 36 = .ok (.bipush (-3), 2) := dk_16 253 (dk_at dksX3_span_1 12 rfl rfl)
theorem dX3_span_38 : decode cX3_span 38 = .ok (.ireturn, 1) := dk_172 (dk_at dksX3_span_1 14 rfl rfl)
theorem dX3_span_39 : decode cX3_span 39 = .ok (.aload_n 0, 1) := dk_42 (dk_at dksX3_span_1 15 rfl rfl)
theorem dX3_span_40 : decode cX3_span 40 = .ok (.iload_n 3, 1) := dk_29 (dk_at dksX3_span_1 16 rfl rfl)
theorem dX3_span_41 : decode cX3_span 41 = .ok (.iconst (-1), 1) := dk_2 (dk_at dksX3_span_1 17 rfl rfl)
theorem dX3_span_42 : decode cX3_span 42 = .ok (.invokevirtual 316, 3) := dk_182 1 60 (dk_at dksX3_span_1 18 rfl rfl)
theorem dX3_span_45 : decode cX3_span 45 = .ok (.aload_n 0, 1) := dk_42 (dk_at dksX3_span_1 21 rfl rfl)
theorem dX3_span_46 : decode cX3_span 46 = .ok (.invokevirtual 319, 3) := dk_182 1 63 (dk_at dksX3_span_2 0 rfl rfl)
theorem dX3_span_49 : decode cX3_span 49 = .ok (.ifCond .ne 5, 3) := dk_154 0 5 (dk_at dksX3_span_2 3 rfl rfl)
theorem dX3_span_52 : decode cX3_span 52 = .ok (.iconst (-1), 1) := dk_2 (dk_at dksX3_span_2 6 rfl rfl)
theorem dX3_span_53 : decode cX3_span 53 = .ok (.ireturn, 1) := dk_172 (dk_at dksX3_span_2 7 rfl rfl)
theorem dX3_span_54 : decode cX3_span 54 = .ok (.aload_n 0, 1) := dk_42 (dk_at dksX3_span_2 8 rfl rfl)
theorem dX3_span_55 : decode cX3_span 55 = .ok (.iload_n 1, 1) := dk_27 (dk_at dksX3_span_2 9 rfl rfl)
theorem dX3_span_56 : decode cX3_span 56 = .ok (.iload_n 2, 1) := dk_28 (dk_at dksX3_span_2 10 rfl rfl)
theorem dX3_span_57 : decode cX3_span 57 = .ok (.iload 4, 2) := dk_21 4 (dk_at dksX3_span_2 11 rfl rfl)
theorem dX3_span_59 : decode cX3_span 59 = .ok (.iconst 1, 1) := dk_4 (dk_at dksX3_span_2 13 rfl rfl)
theorem dX3_span_60 : decode cX3_span 60 = .ok (.if_icmp .ne 7, 3) := dk_160 0 7 (dk_at dksX3_span_2 14 rfl rfl)
theorem dX3_span_63 : decode cX3_span 63 = .ok (.iconst 1, 1) := dk_4 (dk_at dksX3_span_2 17 rfl rfl)
theorem dX3_span_64 : decode cX3_span 64 = .ok (.goto 4, 3) := dk_167 0 4 (dk_at dksX3_span_2 18 rfl rfl)
theorem dX3_span_67 : decode cX3_span 67 = .ok (.iconst 0, 1) := dk_3 (dk_at dksX3_span_2 21 rfl rfl)
theorem dX3_span_68 : decode cX3_span 68 = .ok (.invokevirtual 323, 3) := dk_182 1 67 (dk_at dksX3_span_3 0 rfl rfl)
theorem dX3_span_71 : decode cX3_span 71 = .ok (.aload_n 0, 1) := dk_42 (dk_at dksX3_span_3 3 rfl rfl)
theorem dX3_span_72 : decode cX3_span 72 = .ok (.getfield 49, 3) := dk_180 0 49 (dk_at dksX3_span_3 4 rfl rfl)
theorem dX3_span_75 : decode cX3_span 75 = .ok (.iload_n 1, 1) := dk_27 (dk_at dksX3_span_3 7 rfl rfl)
theorem dX3_span_76 : decode cX3_span 76 = .ok (.iload_n 2, 1) := dk_28 (dk_at dksX3_span_3 8 rfl rfl)
theorem dX3_span_77 : decode cX3_span 77 = .ok (.invokestatic 229, 3) := dk_184 0 229 (dk_at dksX3_span_3 9 rfl rfl)
theorem dX3_span_80 : decode cX3_span 80 = .ok (.iaload, 1) := dk_46 (dk_at dksX3_span_3 12 rfl rfl)
theorem dX3_span_81 : decode cX3_span 81 = .ok (.ireturn, 1) := dk_172 (dk_at dksX3_span_3 13 rfl rfl)
abbrev cX3_gain : ByteArray := prog_15_method_85_code
def yX3_gain : MethodName := ⟨RX3, "gain", "(III)I"⟩
def dkwX3_gain_3 : List UInt8 := [100, 172]
abbrev dktX3_gain_3 : List UInt8 := dkwX3_gain_3 ++ []
def dkwX3_gain_2 : List UInt8 := [180, 0, 46, 27, 28, 184, 0, 229, 92, 46, 4, 96, 79, 42, 182, 1, 63, 87, 21, 4, 42, 182, 1, 71]
abbrev dktX3_gain_2 : List UInt8 := dkwX3_gain_2 ++ dktX3_gain_3
def dkwX3_gain_1 : List UInt8 := [172, 42, 29, 2, 182, 1, 60, 42, 182, 1, 63, 154, 0, 5, 2, 172, 42, 182, 1, 71, 54, 4, 42]
abbrev dktX3_gain_1 : List UInt8 := dkwX3_gain_1 ++ dktX3_gain_2
def dkwX3_gain_0 : List UInt8 := [42, 3, 181, 0, 1, 42, 27, 28, 182, 0, 201, 153, 0, 11, 42, 29, 182, 0, 205, 154, 0, 6, 16, 254]
abbrev dktX3_gain_0 : List UInt8 := dkwX3_gain_0 ++ dktX3_gain_1
theorem dksX3_gain_0 : cX3_gain.data.toList.drop 0 = dktX3_gain_0 := by decide +kernel
theorem dksX3_gain_1 : cX3_gain.data.toList.drop 24 = dktX3_gain_1 := dk_seg dksX3_gain_0 24 rfl rfl
theorem dksX3_gain_2 : cX3_gain.data.toList.drop 47 = dktX3_gain_2 := dk_seg dksX3_gain_1 23 rfl rfl
theorem dksX3_gain_3 : cX3_gain.data.toList.drop 71 = dktX3_gain_3 := dk_seg dksX3_gain_2 24 rfl rfl
theorem dX3_gain_0 : decode cX3_gain 0 = .ok (.aload_n 0, 1) := dk_42 (dk_at dksX3_gain_0 0 rfl rfl)
theorem dX3_gain_1 : decode cX3_gain 1 = .ok (.iconst 0, 1) := dk_3 (dk_at dksX3_gain_0 1 rfl rfl)
theorem dX3_gain_2 : decode cX3_gain 2 = .ok (.putfield 1, 3) := dk_181 0 1 (dk_at dksX3_gain_0 2 rfl rfl)
theorem dX3_gain_5 : decode cX3_gain 5 = .ok (.aload_n 0, 1) := dk_42 (dk_at dksX3_gain_0 5 rfl rfl)
theorem dX3_gain_6 : decode cX3_gain 6 = .ok (.iload_n 1, 1) := dk_27 (dk_at dksX3_gain_0 6 rfl rfl)
theorem dX3_gain_7 : decode cX3_gain 7 = .ok (.iload_n 2, 1) := dk_28 (dk_at dksX3_gain_0 7 rfl rfl)
theorem dX3_gain_8 : decode cX3_gain 8 = .ok (.invokevirtual 201, 3) := dk_182 0 201 (dk_at dksX3_gain_0 8 rfl rfl)
theorem dX3_gain_11 : decode cX3_gain 11 = .ok (.ifCond .eq 11, 3) := dk_153 0 11 (dk_at dksX3_gain_0 11 rfl rfl)
theorem dX3_gain_14 : decode cX3_gain 14 = .ok (.aload_n 0, 1) := dk_42 (dk_at dksX3_gain_0 14 rfl rfl)
theorem dX3_gain_15 : decode cX3_gain 15 = .ok (.iload_n 3, 1) := dk_29 (dk_at dksX3_gain_0 15 rfl rfl)
theorem dX3_gain_16 : decode cX3_gain 16 = .ok (.invokevirtual 205, 3) := dk_182 0 205 (dk_at dksX3_gain_0 16 rfl rfl)
theorem dX3_gain_19 : decode cX3_gain 19 = .ok (.ifCond .ne 6, 3) := dk_154 0 6 (dk_at dksX3_gain_0 19 rfl rfl)
theorem dX3_gain_22 : decode cX3_gain 22 = .ok (.bipush (-2), 2) := dk_16 254 (dk_at dksX3_gain_0 22 rfl rfl)
theorem dX3_gain_24 : decode cX3_gain 24 = .ok (.ireturn, 1) := dk_172 (dk_at dksX3_gain_1 0 rfl rfl)
theorem dX3_gain_25 : decode cX3_gain 25 = .ok (.aload_n 0, 1) := dk_42 (dk_at dksX3_gain_1 1 rfl rfl)
theorem dX3_gain_26 : decode cX3_gain 26 = .ok (.iload_n 3, 1) := dk_29 (dk_at dksX3_gain_1 2 rfl rfl)
theorem dX3_gain_27 : decode cX3_gain 27 = .ok (.iconst (-1), 1) := dk_2 (dk_at dksX3_gain_1 3 rfl rfl)
theorem dX3_gain_28 : decode cX3_gain 28 = .ok (.invokevirtual 316, 3) := dk_182 1 60 (dk_at dksX3_gain_1 4 rfl rfl)
theorem dX3_gain_31 : decode cX3_gain 31 = .ok (.aload_n 0, 1) := dk_42 (dk_at dksX3_gain_1 7 rfl rfl)
theorem dX3_gain_32 : decode cX3_gain 32 = .ok (.invokevirtual 319, 3) := dk_182 1 63 (dk_at dksX3_gain_1 8 rfl rfl)
theorem dX3_gain_35 : decode cX3_gain 35 = .ok (.ifCond .ne 5, 3) := dk_154 0 5 (dk_at dksX3_gain_1 11 rfl rfl)
theorem dX3_gain_38 : decode cX3_gain 38 = .ok (.iconst (-1), 1) := dk_2 (dk_at dksX3_gain_1 14 rfl rfl)
theorem dX3_gain_39 : decode cX3_gain 39 = .ok (.ireturn, 1) := dk_172 (dk_at dksX3_gain_1 15 rfl rfl)
theorem dX3_gain_40 : decode cX3_gain 40 = .ok (.aload_n 0, 1) := dk_42 (dk_at dksX3_gain_1 16 rfl rfl)
theorem dX3_gain_41 : decode cX3_gain 41 = .ok (.invokevirtual 327, 3) := dk_182 1 71 (dk_at dksX3_gain_1 17 rfl rfl)
theorem dX3_gain_44 : decode cX3_gain 44 = .ok (.istore 4, 2) := dk_54 4 (dk_at dksX3_gain_1 20 rfl rfl)
theorem dX3_gain_46 : decode cX3_gain 46 = .ok (.aload_n 0, 1) := dk_42 (dk_at dksX3_gain_1 22 rfl rfl)
theorem dX3_gain_47 : decode cX3_gain 47 = .ok (.getfield 46, 3) := dk_180 0 46 (dk_at dksX3_gain_2 0 rfl rfl)
theorem dX3_gain_50 : decode cX3_gain 50 = .ok (.iload_n 1, 1) := dk_27 (dk_at dksX3_gain_2 3 rfl rfl)
theorem dX3_gain_51 : decode cX3_gain 51 = .ok (.iload_n 2, 1) := dk_28 (dk_at dksX3_gain_2 4 rfl rfl)
theorem dX3_gain_52 : decode cX3_gain 52 = .ok (.invokestatic 229, 3) := dk_184 0 229 (dk_at dksX3_gain_2 5 rfl rfl)
theorem dX3_gain_55 : decode cX3_gain 55 = .ok (.dup2, 1) := dk_92 (dk_at dksX3_gain_2 8 rfl rfl)
theorem dX3_gain_56 : decode cX3_gain 56 = .ok (.iaload, 1) := dk_46 (dk_at dksX3_gain_2 9 rfl rfl)
theorem dX3_gain_57 : decode cX3_gain 57 = .ok (.iconst 1, 1) := dk_4 (dk_at dksX3_gain_2 10 rfl rfl)
theorem dX3_gain_58 : decode cX3_gain 58 = .ok (.iadd, 1) := dk_96 (dk_at dksX3_gain_2 11 rfl rfl)
theorem dX3_gain_59 : decode cX3_gain 59 = .ok (.iastore, 1) := dk_79 (dk_at dksX3_gain_2 12 rfl rfl)
theorem dX3_gain_60 : decode cX3_gain 60 = .ok (.aload_n 0, 1) := dk_42 (dk_at dksX3_gain_2 13 rfl rfl)
theorem dX3_gain_61 : decode cX3_gain 61 = .ok (.invokevirtual 319, 3) := dk_182 1 63 (dk_at dksX3_gain_2 14 rfl rfl)
theorem dX3_gain_64 : decode cX3_gain 64 = .ok (.pop, 1) := dk_87 (dk_at dksX3_gain_2 17 rfl rfl)
theorem dX3_gain_65 : decode cX3_gain 65 = .ok (.iload 4, 2) := dk_21 4 (dk_at dksX3_gain_2 18 rfl rfl)
theorem dX3_gain_67 : decode cX3_gain 67 = .ok (.aload_n 0, 1) := dk_42 (dk_at dksX3_gain_2 20 rfl rfl)
theorem dX3_gain_68 : decode cX3_gain 68 = .ok (.invokevirtual 327, 3) := dk_182 1 71 (dk_at dksX3_gain_2 21 rfl rfl)
theorem dX3_gain_71 : decode cX3_gain 71 = .ok (.isub, 1) := dk_100 (dk_at dksX3_gain_3 0 rfl rfl)
theorem dX3_gain_72 : decode cX3_gain 72 = .ok (.ireturn, 1) := dk_172 (dk_at dksX3_gain_3 1 rfl rfl)
abbrev cX3_without : ByteArray := prog_15_method_86_code
def yX3_without : MethodName := ⟨RX3, "without", "(II)I"⟩
def dkwX3_without_4 : List UInt8 := [132, 4, 1, 167, 255, 208, 29, 172]
abbrev dktX3_without_4 : List UInt8 := dkwX3_without_4 ++ []
def dkwX3_without_3 : List UInt8 := [21, 4, 27, 182, 0, 226, 153, 0, 13, 42, 21, 4, 5, 182, 0, 174, 167, 0, 4, 3, 96, 62]
abbrev dktX3_without_3 : List UInt8 := dkwX3_without_3 ++ dktX3_without_4
def dkwX3_without_2 : List UInt8 := [21, 4, 42, 180, 0, 13, 3, 46, 162, 0, 43, 29, 42, 21, 4, 28, 182, 0, 223, 153, 0, 23, 42]
abbrev dktX3_without_2 : List UInt8 := dkwX3_without_2 ++ dktX3_without_3
def dkwX3_without_1 : List UInt8 := [42, 28, 27, 182, 1, 60, 42, 182, 1, 63, 154, 0, 5, 2, 172, 42, 182, 1, 71, 62, 3, 54, 4]
abbrev dktX3_without_1 : List UInt8 := dkwX3_without_1 ++ dktX3_without_2
def dkwX3_without_0 : List UInt8 := [42, 3, 181, 0, 1, 42, 27, 182, 0, 198, 153, 0, 11, 42, 28, 182, 0, 205, 154, 0, 6, 16, 254, 172]
abbrev dktX3_without_0 : List UInt8 := dkwX3_without_0 ++ dktX3_without_1
theorem dksX3_without_0 : cX3_without.data.toList.drop 0 = dktX3_without_0 := by decide +kernel
theorem dksX3_without_1 : cX3_without.data.toList.drop 24 = dktX3_without_1 := dk_seg dksX3_without_0 24 rfl rfl
theorem dksX3_without_2 : cX3_without.data.toList.drop 47 = dktX3_without_2 := dk_seg dksX3_without_1 23 rfl rfl
theorem dksX3_without_3 : cX3_without.data.toList.drop 70 = dktX3_without_3 := dk_seg dksX3_without_2 23 rfl rfl
theorem dksX3_without_4 : cX3_without.data.toList.drop 92 = dktX3_without_4 := dk_seg dksX3_without_3 22 rfl rfl
theorem dX3_without_0 : decode cX3_without 0 = .ok (.aload_n 0, 1) := dk_42 (dk_at dksX3_without_0 0 rfl rfl)
theorem dX3_without_1 : decode cX3_without 1 = .ok (.iconst 0, 1) := dk_3 (dk_at dksX3_without_0 1 rfl rfl)
theorem dX3_without_2 : decode cX3_without 2 = .ok (.putfield 1, 3) := dk_181 0 1 (dk_at dksX3_without_0 2 rfl rfl)
theorem dX3_without_5 : decode cX3_without 5 = .ok (.aload_n 0, 1) := dk_42 (dk_at dksX3_without_0 5 rfl rfl)
theorem dX3_without_6 : decode cX3_without 6 = .ok (.iload_n 1, 1) := dk_27 (dk_at dksX3_without_0 6 rfl rfl)
theorem dX3_without_7 : decode cX3_without 7 = .ok (.invokevirtual 198, 3) := dk_182 0 198 (dk_at dksX3_without_0 7 rfl rfl)
theorem dX3_without_10 : decode cX3_without 10 = .ok (.ifCond .eq 11, 3) := dk_153 0 11 (dk_at dksX3_without_0 10 rfl rfl)
theorem dX3_without_13 : decode cX3_without 13 = .ok (.aload_n 0, 1) := dk_42 (dk_at dksX3_without_0 13 rfl rfl)
theorem dX3_without_14 : decode cX3_without 14 = .ok (.iload_n 2, 1) := dk_28 (dk_at dksX3_without_0 14 rfl rfl)
theorem dX3_without_15 : decode cX3_without 15 = .ok (.invokevirtual 205, 3) := dk_182 0 205 (dk_at dksX3_without_0 15 rfl rfl)
theorem dX3_without_18 : decode cX3_without 18 = .ok (.ifCond .ne 6, 3) := dk_154 0 6 (dk_at dksX3_without_0 18 rfl rfl)
theorem dX3_without_21 : decode cX3_without 21 = .ok (.bipush (-2), 2) := dk_16 254 (dk_at dksX3_without_0 21 rfl rfl)
theorem dX3_without_23 : decode cX3_without 23 = .ok (.ireturn, 1) := dk_172 (dk_at dksX3_without_0 23 rfl rfl)
theorem dX3_without_24 : decode cX3_without 24 = .ok (.aload_n 0, 1) := dk_42 (dk_at dksX3_without_1 0 rfl rfl)
theorem dX3_without_25 : decode cX3_without 25 = .ok (.iload_n 2, 1) := dk_28 (dk_at dksX3_without_1 1 rfl rfl)
theorem dX3_without_26 : decode cX3_without 26 = .ok (.iload_n 1, 1) := dk_27 (dk_at dksX3_without_1 2 rfl rfl)
theorem dX3_without_27 : decode cX3_without 27 = .ok (.invokevirtual 316, 3) := dk_182 1 60 (dk_at dksX3_without_1 3 rfl rfl)
theorem dX3_without_30 : decode cX3_without 30 = .ok (.aload_n 0, 1) := dk_42 (dk_at dksX3_without_1 6 rfl rfl)
theorem dX3_without_31 : decode cX3_without 31 = .ok (.invokevirtual 319, 3) := dk_182 1 63 (dk_at dksX3_without_1 7 rfl rfl)
theorem dX3_without_34 : decode cX3_without 34 = .ok (.ifCond .ne 5, 3) := dk_154 0 5 (dk_at dksX3_without_1 10 rfl rfl)
theorem dX3_without_37 : decode cX3_without 37 = .ok (.iconst (-1), 1) := dk_2 (dk_at dksX3_without_1 13 rfl rfl)
theorem dX3_without_38 : decode cX3_without 38 = .ok (.ireturn, 1) := dk_172 (dk_at dksX3_without_1 14 rfl rfl)
theorem dX3_without_39 : decode cX3_without 39 = .ok (.aload_n 0, 1) := dk_42 (dk_at dksX3_without_1 15 rfl rfl)
theorem dX3_without_40 : decode cX3_without 40 = .ok (.invokevirtual 327, 3) := dk_182 1 71 (dk_at dksX3_without_1 16 rfl rfl)
theorem dX3_without_43 : decode cX3_without 43 = .ok (.istore_n 3, 1) := dk_62 (dk_at dksX3_without_1 19 rfl rfl)
theorem dX3_without_44 : decode cX3_without 44 = .ok (.iconst 0, 1) := dk_3 (dk_at dksX3_without_1 20 rfl rfl)
theorem dX3_without_45 : decode cX3_without 45 = .ok (.istore 4, 2) := dk_54 4 (dk_at dksX3_without_1 21 rfl rfl)
theorem dX3_without_47 : decode cX3_without 47 = .ok (.iload 4, 2) := dk_21 4 (dk_at dksX3_without_2 0 rfl rfl)
theorem dX3_without_49 : decode cX3_without 49 = .ok (.aload_n 0, 1) := dk_42 (dk_at dksX3_without_2 2 rfl rfl)
theorem dX3_without_50 : decode cX3_without 50 = .ok (.getfield 13, 3) := dk_180 0 13 (dk_at dksX3_without_2 3 rfl rfl)
theorem dX3_without_53 : decode cX3_without 53 = .ok (.iconst 0, 1) := dk_3 (dk_at dksX3_without_2 6 rfl rfl)
theorem dX3_without_54 : decode cX3_without 54 = .ok (.iaload, 1) := dk_46 (dk_at dksX3_without_2 7 rfl rfl)
theorem dX3_without_55 : decode cX3_without 55 = .ok (.if_icmp .ge 43, 3) := dk_162 0 43 (dk_at dksX3_without_2 8 rfl rfl)
theorem dX3_without_58 : decode cX3_without 58 = .ok (.iload_n 3, 1) := dk_29 (dk_at dksX3_without_2 11 rfl rfl)
theorem dX3_without_59 : decode cX3_without 59 = .ok (.aload_n 0, 1) := dk_42 (dk_at dksX3_without_2 12 rfl rfl)
theorem dX3_without_60 : decode cX3_without 60 = .ok (.iload 4, 2) := dk_21 4 (dk_at dksX3_without_2 13 rfl rfl)
theorem dX3_without_62 : decode cX3_without 62 = .ok (.iload_n 2, 1) := dk_28 (dk_at dksX3_without_2 15 rfl rfl)
theorem dX3_without_63 : decode cX3_without 63 = .ok (.invokevirtual 223, 3) := dk_182 0 223 (dk_at dksX3_without_2 16 rfl rfl)
theorem dX3_without_66 : decode cX3_without 66 = .ok (.ifCond .eq 23, 3) := dk_153 0 23 (dk_at dksX3_without_2 19 rfl rfl)
theorem dX3_without_69 : decode cX3_without 69 = .ok (.aload_n 0, 1) := dk_42 (dk_at dksX3_without_2 22 rfl rfl)
theorem dX3_without_70 : decode cX3_without 70 = .ok (.iload 4, 2) := dk_21 4 (dk_at dksX3_without_3 0 rfl rfl)
theorem dX3_without_72 : decode cX3_without 72 = .ok (.iload_n 1, 1) := dk_27 (dk_at dksX3_without_3 2 rfl rfl)
theorem dX3_without_73 : decode cX3_without 73 = .ok (.invokevirtual 226, 3) := dk_182 0 226 (dk_at dksX3_without_3 3 rfl rfl)
theorem dX3_without_76 : decode cX3_without 76 = .ok (.ifCond .eq 13, 3) := dk_153 0 13 (dk_at dksX3_without_3 6 rfl rfl)
theorem dX3_without_79 : decode cX3_without 79 = .ok (.aload_n 0, 1) := dk_42 (dk_at dksX3_without_3 9 rfl rfl)
theorem dX3_without_80 : decode cX3_without 80 = .ok (.iload 4, 2) := dk_21 4 (dk_at dksX3_without_3 10 rfl rfl)
theorem dX3_without_82 : decode cX3_without 82 = .ok (.iconst 2, 1) := dk_5 (dk_at dksX3_without_3 12 rfl rfl)
theorem dX3_without_83 : decode cX3_without 83 = .ok (.invokevirtual 174, 3) := dk_182 0 174 (dk_at dksX3_without_3 13 rfl rfl)
theorem dX3_without_86 : decode cX3_without 86 = .ok (.goto 4, 3) := dk_167 0 4 (dk_at dksX3_without_3 16 rfl rfl)
theorem dX3_without_89 : decode cX3_without 89 = .ok (.iconst 0, 1) := dk_3 (dk_at dksX3_without_3 19 rfl rfl)
theorem dX3_without_90 : decode cX3_without 90 = .ok (.iadd, 1) := dk_96 (dk_at dksX3_without_3 20 rfl rfl)
theorem dX3_without_91 : decode cX3_without 91 = .ok (.istore_n 3, 1) := dk_62 (dk_at dksX3_without_3 21 rfl rfl)
theorem dX3_without_92 : decode cX3_without 92 = .ok (.iinc 4 1, 3) := dk_132 4 1 (dk_at dksX3_without_4 0 rfl rfl)
theorem dX3_without_95 : decode cX3_without 95 = .ok (.goto (-48), 3) := dk_167 255 208 (dk_at dksX3_without_4 3 rfl rfl)
theorem dX3_without_98 : decode cX3_without 98 = .ok (.iload_n 3, 1) := dk_29 (dk_at dksX3_without_4 6 rfl rfl)
theorem dX3_without_99 : decode cX3_without 99 = .ok (.ireturn, 1) := dk_172 (dk_at dksX3_without_4 7 rfl rfl)
abbrev cX3_relief : ByteArray := prog_15_method_88_code
def yX3_relief : MethodName := ⟨RX3, "relief", "(II)I"⟩
def dkwX3_relief_1 : List UInt8 := [42, 28, 182, 1, 74, 153, 0, 11, 42, 27, 182, 1, 80, 167, 0, 4, 2, 172]
abbrev dktX3_relief_1 : List UInt8 := dkwX3_relief_1 ++ []
def dkwX3_relief_0 : List UInt8 := [42, 3, 181, 0, 1, 42, 27, 182, 0, 198, 153, 0, 11, 42, 28, 182, 0, 205, 154, 0, 6, 16, 254, 172]
abbrev dktX3_relief_0 : List UInt8 := dkwX3_relief_0 ++ dktX3_relief_1
theorem dksX3_relief_0 : cX3_relief.data.toList.drop 0 = dktX3_relief_0 := by decide +kernel
theorem dksX3_relief_1 : cX3_relief.data.toList.drop 24 = dktX3_relief_1 := dk_seg dksX3_relief_0 24 rfl rfl
theorem dX3_relief_0 : decode cX3_relief 0 = .ok (.aload_n 0, 1) := dk_42 (dk_at dksX3_relief_0 0 rfl rfl)
theorem dX3_relief_1 : decode cX3_relief 1 = .ok (.iconst 0, 1) := dk_3 (dk_at dksX3_relief_0 1 rfl rfl)
theorem dX3_relief_2 : decode cX3_relief 2 = .ok (.putfield 1, 3) := dk_181 0 1 (dk_at dksX3_relief_0 2 rfl rfl)
theorem dX3_relief_5 : decode cX3_relief 5 = .ok (.aload_n 0, 1) := dk_42 (dk_at dksX3_relief_0 5 rfl rfl)
theorem dX3_relief_6 : decode cX3_relief 6 = .ok (.iload_n 1, 1) := dk_27 (dk_at dksX3_relief_0 6 rfl rfl)
theorem dX3_relief_7 : decode cX3_relief 7 = .ok (.invokevirtual 198, 3) := dk_182 0 198 (dk_at dksX3_relief_0 7 rfl rfl)
theorem dX3_relief_10 : decode cX3_relief 10 = .ok (.ifCond .eq 11, 3) := dk_153 0 11 (dk_at dksX3_relief_0 10 rfl rfl)
theorem dX3_relief_13 : decode cX3_relief 13 = .ok (.aload_n 0, 1) := dk_42 (dk_at dksX3_relief_0 13 rfl rfl)
theorem dX3_relief_14 : decode cX3_relief 14 = .ok (.iload_n 2, 1) := dk_28 (dk_at dksX3_relief_0 14 rfl rfl)
theorem dX3_relief_15 : decode cX3_relief 15 = .ok (.invokevirtual 205, 3) := dk_182 0 205 (dk_at dksX3_relief_0 15 rfl rfl)
theorem dX3_relief_18 : decode cX3_relief 18 = .ok (.ifCond .ne 6, 3) := dk_154 0 6 (dk_at dksX3_relief_0 18 rfl rfl)
theorem dX3_relief_21 : decode cX3_relief 21 = .ok (.bipush (-2), 2) := dk_16 254 (dk_at dksX3_relief_0 21 rfl rfl)
theorem dX3_relief_23 : decode cX3_relief 23 = .ok (.ireturn, 1) := dk_172 (dk_at dksX3_relief_0 23 rfl rfl)
theorem dX3_relief_24 : decode cX3_relief 24 = .ok (.aload_n 0, 1) := dk_42 (dk_at dksX3_relief_1 0 rfl rfl)
theorem dX3_relief_25 : decode cX3_relief 25 = .ok (.iload_n 2, 1) := dk_28 (dk_at dksX3_relief_1 1 rfl rfl)
theorem dX3_relief_26 : decode cX3_relief 26 = .ok (.invokevirtual 330, 3) := dk_182 1 74 (dk_at dksX3_relief_1 2 rfl rfl)
theorem dX3_relief_29 : decode cX3_relief 29 = .ok (.ifCond .eq 11, 3) := dk_153 0 11 (dk_at dksX3_relief_1 5 rfl rfl)
theorem dX3_relief_32 : decode cX3_relief 32 = .ok (.aload_n 0, 1) := dk_42 (dk_at dksX3_relief_1 8 rfl rfl)
theorem dX3_relief_33 : decode cX3_relief 33 = .ok (.iload_n 1, 1) := dk_27 (dk_at dksX3_relief_1 9 rfl rfl)
theorem dX3_relief_34 : decode cX3_relief 34 = .ok (.invokevirtual 336, 3) := dk_182 1 80 (dk_at dksX3_relief_1 10 rfl rfl)
theorem dX3_relief_37 : decode cX3_relief 37 = .ok (.goto 4, 3) := dk_167 0 4 (dk_at dksX3_relief_1 13 rfl rfl)
theorem dX3_relief_40 : decode cX3_relief 40 = .ok (.iconst (-1), 1) := dk_2 (dk_at dksX3_relief_1 16 rfl rfl)
theorem dX3_relief_41 : decode cX3_relief 41 = .ok (.ireturn, 1) := dk_172 (dk_at dksX3_relief_1 17 rfl rfl)
abbrev cX3_reliefOf : ByteArray := prog_15_method_87_code
def yX3_reliefOf : MethodName := ⟨RX3, "reliefOf", "(I)I"⟩
def dkwX3_reliefOf_2 : List UInt8 := [180, 0, 49, 29, 27, 184, 0, 229, 46, 100, 96, 61, 132, 3, 1, 167, 255, 199, 28, 172]
abbrev dktX3_reliefOf_2 : List UInt8 := dkwX3_reliefOf_2 ++ []
def dkwX3_reliefOf_1 : List UInt8 := [42, 180, 0, 37, 29, 27, 184, 0, 229, 46, 96, 42, 180, 0, 49, 27, 29, 184, 0, 229, 46, 100, 42]
abbrev dktX3_reliefOf_1 : List UInt8 := dkwX3_reliefOf_1 ++ dktX3_reliefOf_2
def dkwX3_reliefOf_0 : List UInt8 := [18, 237, 61, 3, 62, 29, 42, 180, 0, 80, 162, 0, 55, 28, 42, 180, 0, 37, 27, 29, 184, 0, 229, 46]
abbrev dktX3_reliefOf_0 : List UInt8 := dkwX3_reliefOf_0 ++ dktX3_reliefOf_1
theorem dksX3_reliefOf_0 : cX3_reliefOf.data.toList.drop 0 = dktX3_reliefOf_0 := by decide +kernel
theorem dksX3_reliefOf_1 : cX3_reliefOf.data.toList.drop 24 = dktX3_reliefOf_1 := dk_seg dksX3_reliefOf_0 24 rfl rfl
theorem dksX3_reliefOf_2 : cX3_reliefOf.data.toList.drop 47 = dktX3_reliefOf_2 := dk_seg dksX3_reliefOf_1 23 rfl rfl
theorem dX3_reliefOf_0 : decode cX3_reliefOf 0 = .ok (.ldc 237, 2) := dk_18 237 (dk_at dksX3_reliefOf_0 0 rfl rfl)
theorem dX3_reliefOf_2 : decode cX3_reliefOf 2 = .ok (.istore_n 2, 1) := dk_61 (dk_at dksX3_reliefOf_0 2 rfl rfl)
theorem dX3_reliefOf_3 : decode cX3_reliefOf 3 = .ok (.iconst 0, 1) := dk_3 (dk_at dksX3_reliefOf_0 3 rfl rfl)
theorem dX3_reliefOf_4 : decode cX3_reliefOf 4 = .ok (.istore_n 3, 1) := dk_62 (dk_at dksX3_reliefOf_0 4 rfl rfl)
theorem dX3_reliefOf_5 : decode cX3_reliefOf 5 = .ok (.iload_n 3, 1) := dk_29 (dk_at dksX3_reliefOf_0 5 rfl rfl)
theorem dX3_reliefOf_6 : decode cX3_reliefOf 6 = .ok (.aload_n 0, 1) := dk_42 (dk_at dksX3_reliefOf_0 6 rfl rfl)
theorem dX3_reliefOf_7 : decode cX3_reliefOf 7 = .ok (.getfield 80, 3) := dk_180 0 80 (dk_at dksX3_reliefOf_0 7 rfl rfl)
theorem dX3_reliefOf_10 : decode cX3_reliefOf 10 = .ok (.if_icmp .ge 55, 3) := dk_162 0 55 (dk_at dksX3_reliefOf_0 10 rfl rfl)
theorem dX3_reliefOf_13 : decode cX3_reliefOf 13 = .ok (.iload_n 2, 1) := dk_28 (dk_at dksX3_reliefOf_0 13 rfl rfl)
theorem dX3_reliefOf_14 : decode cX3_reliefOf 14 = .ok (.aload_n 0, 1) := dk_42 (dk_at dksX3_reliefOf_0 14 rfl rfl)
theorem dX3_reliefOf_15 : decode cX3_reliefOf 15 = .ok (.getfield 37, 3) := dk_180 0 37 (dk_at dksX3_reliefOf_0 15 rfl rfl)
theorem dX3_reliefOf_18 : decode cX3_reliefOf 18 = .ok (.iload_n 1, 1) := dk_27 (dk_at dksX3_reliefOf_0 18 rfl rfl)
theorem dX3_reliefOf_19 : decode cX3_reliefOf 19 = .ok (.iload_n 3, 1) := dk_29 (dk_at dksX3_reliefOf_0 19 rfl rfl)
theorem dX3_reliefOf_20 : decode cX3_reliefOf 20 = .ok (.invokestatic 229, 3) := dk_184 0 229 (dk_at dksX3_reliefOf_0 20 rfl rfl)
theorem dX3_reliefOf_23 : decode cX3_reliefOf 23 = .ok (.iaload, 1) := dk_46 (dk_at dksX3_reliefOf_0 23 rfl rfl)
theorem dX3_reliefOf_24 : decode cX3_reliefOf 24 = .ok (.aload_n 0, 1) := dk_42 (dk_at dksX3_reliefOf_1 0 rfl rfl)
theorem dX3_reliefOf_25 : decode cX3_reliefOf 25 = .ok (.getfield 37, 3) := dk_180 0 37 (dk_at dksX3_reliefOf_1 1 rfl rfl)
theorem dX3_reliefOf_28 : decode cX3_reliefOf 28 = .ok (.iload_n 3, 1) := dk_29 (dk_at dksX3_reliefOf_1 4 rfl rfl)
theorem dX3_reliefOf_29 : decode cX3_reliefOf 29 = .ok (.iload_n 1, 1) := dk_27 (dk_at dksX3_reliefOf_1 5 rfl rfl)
theorem dX3_reliefOf_30 : decode cX3_reliefOf 30 = .ok (.invokestatic 229, 3) := dk_184 0 229 (dk_at dksX3_reliefOf_1 6 rfl rfl)
theorem dX3_reliefOf_33 : decode cX3_reliefOf 33 = .ok (.iaload, 1) := dk_46 (dk_at dksX3_reliefOf_1 9 rfl rfl)
theorem dX3_reliefOf_34 : decode cX3_reliefOf 34 = .ok (.iadd, 1) := dk_96 (dk_at dksX3_reliefOf_1 10 rfl rfl)
theorem dX3_reliefOf_35 : decode cX3_reliefOf 35 = .ok (.aload_n 0, 1) := dk_42 (dk_at dksX3_reliefOf_1 11 rfl rfl)
theorem dX3_reliefOf_36 : decode cX3_reliefOf 36 = .ok (.getfield 49, 3) := dk_180 0 49 (dk_at dksX3_reliefOf_1 12 rfl rfl)
theorem dX3_reliefOf_39 : decode cX3_reliefOf 39 = .ok (.iload_n 1, 1) := dk_27 (dk_at dksX3_reliefOf_1 15 rfl rfl)
theorem dX3_reliefOf_40 : decode cX3_reliefOf 40 = .ok (.iload_n 3, 1) := dk_29 (dk_at dksX3_reliefOf_1 16 rfl rfl)
theorem dX3_reliefOf_41 : decode cX3_reliefOf 41 = .ok (.invokestatic 229, 3) := dk_184 0 229 (dk_at dksX3_reliefOf_1 17 rfl rfl)
theorem dX3_reliefOf_44 : decode cX3_reliefOf 44 = .ok (.iaload, 1) := dk_46 (dk_at dksX3_reliefOf_1 20 rfl rfl)
theorem dX3_reliefOf_45 : decode cX3_reliefOf 45 = .ok (.isub, 1) := dk_100 (dk_at dksX3_reliefOf_1 21 rfl rfl)
theorem dX3_reliefOf_46 : decode cX3_reliefOf 46 = .ok (.aload_n 0, 1) := dk_42 (dk_at dksX3_reliefOf_1 22 rfl rfl)
theorem dX3_reliefOf_47 : decode cX3_reliefOf 47 = .ok (.getfield 49, 3) := dk_180 0 49 (dk_at dksX3_reliefOf_2 0 rfl rfl)
theorem dX3_reliefOf_50 : decode cX3_reliefOf 50 = .ok (.iload_n 3, 1) := dk_29 (dk_at dksX3_reliefOf_2 3 rfl rfl)
theorem dX3_reliefOf_51 : decode cX3_reliefOf 51 = .ok (.iload_n 1, 1) := dk_27 (dk_at dksX3_reliefOf_2 4 rfl rfl)
theorem dX3_reliefOf_52 : decode cX3_reliefOf 52 = .ok (.invokestatic 229, 3) := dk_184 0 229 (dk_at dksX3_reliefOf_2 5 rfl rfl)
theorem dX3_reliefOf_55 : decode cX3_reliefOf 55 = .ok (.iaload, 1) := dk_46 (dk_at dksX3_reliefOf_2 8 rfl rfl)
theorem dX3_reliefOf_56 : decode cX3_reliefOf 56 = .ok (.isub, 1) := dk_100 (dk_at dksX3_reliefOf_2 9 rfl rfl)
theorem dX3_reliefOf_57 : decode cX3_reliefOf 57 = .ok (.iadd, 1) := dk_96 (dk_at dksX3_reliefOf_2 10 rfl rfl)
theorem dX3_reliefOf_58 : decode cX3_reliefOf 58 = .ok (.istore_n 2, 1) := dk_61 (dk_at dksX3_reliefOf_2 11 rfl rfl)
theorem dX3_reliefOf_59 : decode cX3_reliefOf 59 = .ok (.iinc 3 1, 3) := dk_132 3 1 (dk_at dksX3_reliefOf_2 12 rfl rfl)
theorem dX3_reliefOf_62 : decode cX3_reliefOf 62 = .ok (.goto (-57), 3) := dk_167 255 199 (dk_at dksX3_reliefOf_2 15 rfl rfl)
theorem dX3_reliefOf_65 : decode cX3_reliefOf 65 = .ok (.iload_n 2, 1) := dk_28 (dk_at dksX3_reliefOf_2 18 rfl rfl)
theorem dX3_reliefOf_66 : decode cX3_reliefOf 66 = .ok (.ireturn, 1) := dk_172 (dk_at dksX3_reliefOf_2 19 rfl rfl)
abbrev cX3_relieved : ByteArray := prog_15_method_89_code
def yX3_relieved : MethodName := ⟨RX3, "relieved", "(I)I"⟩
def dkwX3_relieved_2 : List UInt8 := [42, 28, 182, 1, 80, 164, 0, 5, 29, 61, 132, 3, 1, 167, 255, 225, 28, 172]
abbrev dktX3_relieved_2 : List UInt8 := dkwX3_relieved_2 ++ []
def dkwX3_relieved_1 : List UInt8 := [2, 172, 2, 61, 3, 62, 29, 42, 180, 0, 80, 162, 0, 29, 28, 2, 159, 0, 16, 42, 29, 182, 1, 80]
abbrev dktX3_relieved_1 : List UInt8 := dkwX3_relieved_1 ++ dktX3_relieved_2
def dkwX3_relieved_0 : List UInt8 := [42, 3, 181, 0, 1, 42, 27, 182, 0, 205, 154, 0, 6, 16, 254, 172, 42, 27, 182, 1, 74, 154, 0, 5]
abbrev dktX3_relieved_0 : List UInt8 := dkwX3_relieved_0 ++ dktX3_relieved_1
theorem dksX3_relieved_0 : cX3_relieved.data.toList.drop 0 = dktX3_relieved_0 := by decide +kernel
theorem dksX3_relieved_1 : cX3_relieved.data.toList.drop 24 = dktX3_relieved_1 := dk_seg dksX3_relieved_0 24 rfl rfl
theorem dksX3_relieved_2 : cX3_relieved.data.toList.drop 48 = dktX3_relieved_2 := dk_seg dksX3_relieved_1 24 rfl rfl
theorem dX3_relieved_0 : decode cX3_relieved 0 = .ok (.aload_n 0, 1) := dk_42 (dk_at dksX3_relieved_0 0 rfl rfl)
theorem dX3_relieved_1 : decode cX3_relieved 1 = .ok (.iconst 0, 1) := dk_3 (dk_at dksX3_relieved_0 1 rfl rfl)
theorem dX3_relieved_2 : decode cX3_relieved 2 = .ok (.putfield 1, 3) := dk_181 0 1 (dk_at dksX3_relieved_0 2 rfl rfl)
theorem dX3_relieved_5 : decode cX3_relieved 5 = .ok (.aload_n 0, 1) := dk_42 (dk_at dksX3_relieved_0 5 rfl rfl)
theorem dX3_relieved_6 : decode cX3_relieved 6 = .ok (.iload_n 1, 1) := dk_27 (dk_at dksX3_relieved_0 6 rfl rfl)
theorem dX3_relieved_7 : decode cX3_relieved 7 = .ok (.invokevirtual 205, 3) := dk_182 0 205 (dk_at dksX3_relieved_0 7 rfl rfl)
theorem dX3_relieved_10 : decode cX3_relieved 10 = .ok (.ifCond .ne 6, 3) := dk_154 0 6 (dk_at dksX3_relieved_0 10 rfl rfl)
theorem dX3_relieved_13 : decode cX3_relieved 13 = .ok (.bipush (-2), 2) := dk_16 254 (dk_at dksX3_relieved_0 13 rfl rfl)
theorem dX3_relieved_15 : decode cX3_relieved 15 = .ok (.ireturn, 1) := dk_172 (dk_at dksX3_relieved_0 15 rfl rfl)
theorem dX3_relieved_16 : decode cX3_relieved 16 = .ok (.aload_n 0, 1) := dk_42 (dk_at dksX3_relieved_0 16 rfl rfl)
theorem dX3_relieved_17 : decode cX3_relieved 17 = .ok (.iload_n 1, 1) := dk_27 (dk_at dksX3_relieved_0 17 rfl rfl)
theorem dX3_relieved_18 : decode cX3_relieved 18 = .ok (.invokevirtual 330, 3) := dk_182 1 74 (dk_at dksX3_relieved_0 18 rfl rfl)
theorem dX3_relieved_21 : decode cX3_relieved 21 = .ok (.ifCond .ne 5, 3) := dk_154 0 5 (dk_at dksX3_relieved_0 21 rfl rfl)
theorem dX3_relieved_24 : decode cX3_relieved 24 = .ok (.iconst (-1), 1) := dk_2 (dk_at dksX3_relieved_1 0 rfl rfl)
theorem dX3_relieved_25 : decode cX3_relieved 25 = .ok (.ireturn, 1) := dk_172 (dk_at dksX3_relieved_1 1 rfl rfl)
theorem dX3_relieved_26 : decode cX3_relieved 26 = .ok (.iconst (-1), 1) := dk_2 (dk_at dksX3_relieved_1 2 rfl rfl)
theorem dX3_relieved_27 : decode cX3_relieved 27 = .ok (.istore_n 2, 1) := dk_61 (dk_at dksX3_relieved_1 3 rfl rfl)
theorem dX3_relieved_28 : decode cX3_relieved 28 = .ok (.iconst 0, 1) := dk_3 (dk_at dksX3_relieved_1 4 rfl rfl)
theorem dX3_relieved_29 : decode cX3_relieved 29 = .ok (.istore_n 3, 1) := dk_62 (dk_at dksX3_relieved_1 5 rfl rfl)
theorem dX3_relieved_30 : decode cX3_relieved 30 = .ok (.iload_n 3, 1) := dk_29 (dk_at dksX3_relieved_1 6 rfl rfl)
theorem dX3_relieved_31 : decode cX3_relieved 31 = .ok (.aload_n 0, 1) := dk_42 (dk_at dksX3_relieved_1 7 rfl rfl)
theorem dX3_relieved_32 : decode cX3_relieved 32 = .ok (.getfield 80, 3) := dk_180 0 80 (dk_at dksX3_relieved_1 8 rfl rfl)
theorem dX3_relieved_35 : decode cX3_relieved 35 = .ok (.if_icmp .ge 29, 3) := dk_162 0 29 (dk_at dksX3_relieved_1 11 rfl rfl)
theorem dX3_relieved_38 : decode cX3_relieved 38 = .ok (.iload_n 2, 1) := dk_28 (dk_at dksX3_relieved_1 14 rfl rfl)
theorem dX3_relieved_39 : decode cX3_relieved 39 = .ok (.iconst (-1), 1) := dk_2 (dk_at dksX3_relieved_1 15 rfl rfl)
theorem dX3_relieved_40 : decode cX3_relieved 40 = .ok (.if_icmp .eq 16, 3) := dk_159 0 16 (dk_at dksX3_relieved_1 16 rfl rfl)
theorem dX3_relieved_43 : decode cX3_relieved 43 = .ok (.aload_n 0, 1) := dk_42 (dk_at dksX3_relieved_1 19 rfl rfl)
theorem dX3_relieved_44 : decode cX3_relieved 44 = .ok (.iload_n 3, 1) := dk_29 (dk_at dksX3_relieved_1 20 rfl rfl)
theorem dX3_relieved_45 : decode cX3_relieved 45 = .ok (.invokevirtual 336, 3) := dk_182 1 80 (dk_at dksX3_relieved_1 21 rfl rfl)
theorem dX3_relieved_48 : decode cX3_relieved 48 = .ok (.aload_n 0, 1) := dk_42 (dk_at dksX3_relieved_2 0 rfl rfl)
theorem dX3_relieved_49 : decode cX3_relieved 49 = .ok (.iload_n 2, 1) := dk_28 (dk_at dksX3_relieved_2 1 rfl rfl)
theorem dX3_relieved_50 : decode cX3_relieved 50 = .ok (.invokevirtual 336, 3) := dk_182 1 80 (dk_at dksX3_relieved_2 2 rfl rfl)
theorem dX3_relieved_53 : decode cX3_relieved 53 = .ok (.if_icmp .le 5, 3) := dk_164 0 5 (dk_at dksX3_relieved_2 5 rfl rfl)
theorem dX3_relieved_56 : decode cX3_relieved 56 = .ok (.iload_n 3, 1) := dk_29 (dk_at dksX3_relieved_2 8 rfl rfl)
theorem dX3_relieved_57 : decode cX3_relieved 57 = .ok (.istore_n 2, 1) := dk_61 (dk_at dksX3_relieved_2 9 rfl rfl)
theorem dX3_relieved_58 : decode cX3_relieved 58 = .ok (.iinc 3 1, 3) := dk_132 3 1 (dk_at dksX3_relieved_2 10 rfl rfl)
theorem dX3_relieved_61 : decode cX3_relieved 61 = .ok (.goto (-31), 3) := dk_167 255 225 (dk_at dksX3_relieved_2 13 rfl rfl)
theorem dX3_relieved_64 : decode cX3_relieved 64 = .ok (.iload_n 2, 1) := dk_28 (dk_at dksX3_relieved_2 16 rfl rfl)
theorem dX3_relieved_65 : decode cX3_relieved 65 = .ok (.ireturn, 1) := dk_172 (dk_at dksX3_relieved_2 17 rfl rfl)
abbrev cX3_through : ByteArray := prog_15_method_90_code
def yX3_through : MethodName := ⟨RX3, "through", "(III)I"⟩
def dkwX3_through_3 : List UInt8 := [184, 1, 32, 172]
abbrev dktX3_through_3 : List UInt8 := dkwX3_through_3 ++ []
def dkwX3_through_2 : List UInt8 := [180, 0, 49, 27, 184, 1, 32, 167, 0, 4, 2, 172, 42, 28, 2, 182, 0, 234, 42, 180, 0, 37, 27]
abbrev dktX3_through_2 : List UInt8 := dkwX3_through_2 ++ dktX3_through_3
def dkwX3_through_1 : List UInt8 := [10, 184, 0, 103, 154, 0, 6, 16, 254, 172, 29, 4, 160, 0, 24, 42, 28, 182, 1, 74, 153, 0, 14, 42]
abbrev dktX3_through_1 : List UInt8 := dkwX3_through_1 ++ dktX3_through_2
def dkwX3_through_0 : List UInt8 := [42, 3, 181, 0, 1, 42, 27, 182, 0, 198, 153, 0, 21, 42, 28, 182, 0, 205, 153, 0, 13, 29, 133, 9]
abbrev dktX3_through_0 : List UInt8 := dkwX3_through_0 ++ dktX3_through_1
theorem dksX3_through_0 : cX3_through.data.toList.drop 0 = dktX3_through_0 := by decide +kernel
theorem dksX3_through_1 : cX3_through.data.toList.drop 24 = dktX3_through_1 := dk_seg dksX3_through_0 24 rfl rfl
theorem dksX3_through_2 : cX3_through.data.toList.drop 48 = dktX3_through_2 := dk_seg dksX3_through_1 24 rfl rfl
theorem dksX3_through_3 : cX3_through.data.toList.drop 71 = dktX3_through_3 := dk_seg dksX3_through_2 23 rfl rfl
theorem dX3_through_0 : decode cX3_through 0 = .ok (.aload_n 0, 1) := dk_42 (dk_at dksX3_through_0 0 rfl rfl)
theorem dX3_through_1 : decode cX3_through 1 = .ok (.iconst 0, 1) := dk_3 (dk_at dksX3_through_0 1 rfl rfl)
theorem dX3_through_2 : decode cX3_through 2 = .ok (.putfield 1, 3) := dk_181 0 1 (dk_at dksX3_through_0 2 rfl rfl)
theorem dX3_through_5 : decode cX3_through 5 = .ok (.aload_n 0, 1) := dk_42 (dk_at dksX3_through_0 5 rfl rfl)
theorem dX3_through_6 : decode cX3_through 6 = .ok (.iload_n 1, 1) := dk_27 (dk_at dksX3_through_0 6 rfl rfl)
theorem dX3_through_7 : decode cX3_through 7 = .ok (.invokevirtual 198, 3) := dk_182 0 198 (dk_at dksX3_through_0 7 rfl rfl)
theorem dX3_through_10 : decode cX3_through 10 = .ok (.ifCond .eq 21, 3) := dk_153 0 21 (dk_at dksX3_through_0 10 rfl rfl)
theorem dX3_through_13 : decode cX3_through 13 = .ok (.aload_n 0, 1) := dk_42 (dk_at dksX3_through_0 13 rfl rfl)
theorem dX3_through_14 : decode cX3_through 14 = .ok (.iload_n 2, 1) := dk_28 (dk_at dksX3_through_0 14 rfl rfl)
theorem dX3_through_15 : decode cX3_through 15 = .ok (.invokevirtual 205, 3) := dk_182 0 205 (dk_at dksX3_through_0 15 rfl rfl)
theorem dX3_through_18 : decode cX3_through 18 = .ok (.ifCond .eq 13, 3) := dk_153 0 13 (dk_at dksX3_through_0 18 rfl rfl)
theorem dX3_through_21 : decode cX3_through 21 = .ok (.iload_n 3, 1) := dk_29 (dk_at dksX3_through_0 21 rfl rfl)
theorem dX3_through_22 : decode cX3_through 22 = .ok (.i2l, 1) := dk_133 (dk_at dksX3_through_0 22 rfl rfl)
theorem dX3_through_23 : decode cX3_through 23 = .ok (.lconst 0, 1) := dk_9 (dk_at dksX3_through_0 23 rfl rfl)
theorem dX3_through_24 : decode cX3_through 24 = .ok (.lconst 1, 1) := dk_10 (dk_at dksX3_through_1 0 rfl rfl)
theorem dX3_through_25 : decode cX3_through 25 = .ok (.invokestatic 103, 3) := dk_184 0 103 (dk_at dksX3_through_1 1 rfl rfl)
theorem dX3_through_28 : decode cX3_through 28 = .ok (.ifCond .ne 6, 3) := dk_154 0 6 (dk_at dksX3_through_1 4 rfl rfl)
theorem dX3_through_31 : decode cX3_through 31 = .ok (.bipush (-2), 2) := dk_16 254 (dk_at dksX3_through_1 7 rfl rfl)
theorem dX3_through_33 : decode cX3_through 33 = .ok (.ireturn, 1) := dk_172 (dk_at dksX3_through_1 9 rfl rfl)
theorem dX3_through_34 : decode cX3_through 34 = .ok (.iload_n 3, 1) := dk_29 (dk_at dksX3_through_1 10 rfl rfl)
theorem dX3_through_35 : decode cX3_through 35 = .ok (.iconst 1, 1) := dk_4 (dk_at dksX3_through_1 11 rfl rfl)
theorem dX3_through_36 : decode cX3_through 36 = .ok (.if_icmp .ne 24, 3) := dk_160 0 24 (dk_at dksX3_through_1 12 rfl rfl)
theorem dX3_through_39 : decode cX3_through 39 = .ok (.aload_n 0, 1) := dk_42 (dk_at dksX3_through_1 15 rfl rfl)
theorem dX3_through_40 : decode cX3_through 40 = .ok (.iload_n 2, 1) := dk_28 (dk_at dksX3_through_1 16 rfl rfl)
theorem dX3_through_41 : decode cX3_through 41 = .ok (.invokevirtual 330, 3) := dk_182 1 74 (dk_at dksX3_through_1 17 rfl rfl)
theorem dX3_through_44 : decode cX3_through 44 = .ok (.ifCond .eq 14, 3) := dk_153 0 14 (dk_at dksX3_through_1 20 rfl rfl)
theorem dX3_through_47 : decode cX3_through 47 = .ok (.aload_n 0, 1) := dk_42 (dk_at dksX3_through_1 23 rfl rfl)
theorem dX3_through_48 : decode cX3_through 48 = .ok (.getfield 49, 3) := dk_180 0 49 (dk_at dksX3_through_2 0 rfl rfl)
theorem dX3_through_51 : decode cX3_through 51 = .ok (.iload_n 1, 1) := dk_27 (dk_at dksX3_through_2 3 rfl rfl)
theorem dX3_through_52 : decode cX3_through 52 = .ok (.invokestatic 288, 3) := dk_184 1 32 (dk_at dksX3_through_2 4 rfl rfl)
theorem dX3_through_55 : decode cX3_through 55 = .ok (.goto 4, 3) := dk_167 0 4 (dk_at dksX3_through_2 7 rfl rfl)
theorem dX3_through_58 : decode cX3_through 58 = .ok (.iconst (-1), 1) := dk_2 (dk_at dksX3_through_2 10 rfl rfl)
theorem dX3_through_59 : decode cX3_through 59 = .ok (.ireturn, 1) := dk_172 (dk_at dksX3_through_2 11 rfl rfl)
theorem dX3_through_60 : decode cX3_through 60 = .ok (.aload_n 0, 1) := dk_42 (dk_at dksX3_through_2 12 rfl rfl)
theorem dX3_through_61 : decode cX3_through 61 = .ok (.iload_n 2, 1) := dk_28 (dk_at dksX3_through_2 13 rfl rfl)
theorem dX3_through_62 : decode cX3_through 62 = .ok (.iconst (-1), 1) := dk_2 (dk_at dksX3_through_2 14 rfl rfl)
theorem dX3_through_63 : decode cX3_through 63 = .ok (.invokevirtual 234, 3) := dk_182 0 234 (dk_at dksX3_through_2 15 rfl rfl)
theorem dX3_through_66 : decode cX3_through 66 = .ok (.aload_n 0, 1) := dk_42 (dk_at dksX3_through_2 18 rfl rfl)
theorem dX3_through_67 : decode cX3_through 67 = .ok (.getfield 37, 3) := dk_180 0 37 (dk_at dksX3_through_2 19 rfl rfl)
theorem dX3_through_70 : decode cX3_through 70 = .ok (.iload_n 1, 1) := dk_27 (dk_at dksX3_through_2 22 rfl rfl)
theorem dX3_through_71 : decode cX3_through 71 = .ok (.invokestatic 288, 3) := dk_184 1 32 (dk_at dksX3_through_3 0 rfl rfl)
theorem dX3_through_74 : decode cX3_through 74 = .ok (.ireturn, 1) := dk_172 (dk_at dksX3_through_3 3 rfl rfl)
abbrev cX3_all : ByteArray := prog_15_method_91_code
def yX3_all : MethodName := ⟨RX3, "all", "()I"⟩
def dkwX3_all_1 : List UInt8 := [182, 1, 63, 154, 0, 5, 2, 172, 27, 42, 182, 1, 71, 96, 60, 132, 2, 1, 167, 255, 223, 27, 172]
abbrev dktX3_all_1 : List UInt8 := dkwX3_all_1 ++ []
def dkwX3_all_0 : List UInt8 := [42, 3, 181, 0, 1, 3, 60, 3, 61, 28, 42, 180, 0, 83, 162, 0, 31, 42, 28, 2, 182, 1, 60, 42]
abbrev dktX3_all_0 : List UInt8 := dkwX3_all_0 ++ dktX3_all_1
theorem dksX3_all_0 : cX3_all.data.toList.drop 0 = dktX3_all_0 := by decide +kernel
theorem dksX3_all_1 : cX3_all.data.toList.drop 24 = dktX3_all_1 := dk_seg dksX3_all_0 24 rfl rfl
theorem dX3_all_0 : decode cX3_all 0 = .ok (.aload_n 0, 1) := dk_42 (dk_at dksX3_all_0 0 rfl rfl)
theorem dX3_all_1 : decode cX3_all 1 = .ok (.iconst 0, 1) := dk_3 (dk_at dksX3_all_0 1 rfl rfl)
theorem dX3_all_2 : decode cX3_all 2 = .ok (.putfield 1, 3) := dk_181 0 1 (dk_at dksX3_all_0 2 rfl rfl)
theorem dX3_all_5 : decode cX3_all 5 = .ok (.iconst 0, 1) := dk_3 (dk_at dksX3_all_0 5 rfl rfl)
theorem dX3_all_6 : decode cX3_all 6 = .ok (.istore_n 1, 1) := dk_60 (dk_at dksX3_all_0 6 rfl rfl)
theorem dX3_all_7 : decode cX3_all 7 = .ok (.iconst 0, 1) := dk_3 (dk_at dksX3_all_0 7 rfl rfl)
theorem dX3_all_8 : decode cX3_all 8 = .ok (.istore_n 2, 1) := dk_61 (dk_at dksX3_all_0 8 rfl rfl)
theorem dX3_all_9 : decode cX3_all 9 = .ok (.iload_n 2, 1) := dk_28 (dk_at dksX3_all_0 9 rfl rfl)
theorem dX3_all_10 : decode cX3_all 10 = .ok (.aload_n 0, 1) := dk_42 (dk_at dksX3_all_0 10 rfl rfl)
theorem dX3_all_11 : decode cX3_all 11 = .ok (.getfield 83, 3) := dk_180 0 83 (dk_at dksX3_all_0 11 rfl rfl)
theorem dX3_all_14 : decode cX3_all 14 = .ok (.if_icmp .ge 31, 3) := dk_162 0 31 (dk_at dksX3_all_0 14 rfl rfl)
theorem dX3_all_17 : decode cX3_all 17 = .ok (.aload_n 0, 1) := dk_42 (dk_at dksX3_all_0 17 rfl rfl)
theorem dX3_all_18 : decode cX3_all 18 = .ok (.iload_n 2, 1) := dk_28 (dk_at dksX3_all_0 18 rfl rfl)
theorem dX3_all_19 : decode cX3_all 19 = .ok (.iconst (-1), 1) := dk_2 (dk_at dksX3_all_0 19 rfl rfl)
theorem dX3_all_20 : decode cX3_all 20 = .ok (.invokevirtual 316, 3) := dk_182 1 60 (dk_at dksX3_all_0 20 rfl rfl)
theorem dX3_all_23 : decode cX3_all 23 = .ok (.aload_n 0, 1) := dk_42 (dk_at dksX3_all_0 23 rfl rfl)
theorem dX3_all_24 : decode cX3_all 24 = .ok (.invokevirtual 319, 3) := dk_182 1 63 (dk_at dksX3_all_1 0 rfl rfl)
theorem dX3_all_27 : decode cX3_all 27 = .ok (.ifCond .ne 5, 3) := dk_154 0 5 (dk_at dksX3_all_1 3 rfl rfl)
theorem dX3_all_30 : decode cX3_all 30 = .ok (.iconst (-1), 1) := dk_2 (dk_at dksX3_all_1 6 rfl rfl)
theorem dX3_all_31 : decode cX3_all 31 = .ok (.ireturn, 1) := dk_172 (dk_at dksX3_all_1 7 rfl rfl)
theorem dX3_all_32 : decode cX3_all 32 = .ok (.iload_n 1, 1) := dk_27 (dk_at dksX3_all_1 8 rfl rfl)
theorem dX3_all_33 : decode cX3_all 33 = .ok (.aload_n 0, 1) := dk_42 (dk_at dksX3_all_1 9 rfl rfl)
theorem dX3_all_34 : decode cX3_all 34 = .ok (.invokevirtual 327, 3) := dk_182 1 71 (dk_at dksX3_all_1 10 rfl rfl)
theorem dX3_all_37 : decode cX3_all 37 = .ok (.iadd, 1) := dk_96 (dk_at dksX3_all_1 13 rfl rfl)
theorem dX3_all_38 : decode cX3_all 38 = .ok (.istore_n 1, 1) := dk_60 (dk_at dksX3_all_1 14 rfl rfl)
theorem dX3_all_39 : decode cX3_all 39 = .ok (.iinc 2 1, 3) := dk_132 2 1 (dk_at dksX3_all_1 15 rfl rfl)
theorem dX3_all_42 : decode cX3_all 42 = .ok (.goto (-33), 3) := dk_167 255 223 (dk_at dksX3_all_1 18 rfl rfl)
theorem dX3_all_45 : decode cX3_all 45 = .ok (.iload_n 1, 1) := dk_27 (dk_at dksX3_all_1 21 rfl rfl)
theorem dX3_all_46 : decode cX3_all 46 = .ok (.ireturn, 1) := dk_172 (dk_at dksX3_all_1 22 rfl rfl)
abbrev cX3_enough : ByteArray := prog_15_method_92_code
def yX3_enough : MethodName := ⟨RX3, "enough", "(III)I"⟩
def dkwX3_enough_2 : List UInt8 := [154, 0, 5, 2, 172, 42, 27, 28, 3, 182, 1, 67, 42, 180, 0, 49, 27, 28, 184, 0, 229, 46, 172]
abbrev dktX3_enough_2 : List UInt8 := dkwX3_enough_2 ++ []
def dkwX3_enough_1 : List UInt8 := [172, 42, 29, 2, 182, 1, 60, 42, 180, 0, 46, 27, 28, 184, 0, 229, 18, 86, 79, 42, 182, 1, 63]
abbrev dktX3_enough_1 : List UInt8 := dkwX3_enough_1 ++ dktX3_enough_2
def dkwX3_enough_0 : List UInt8 := [42, 3, 181, 0, 1, 42, 27, 28, 182, 0, 201, 153, 0, 11, 42, 29, 182, 0, 205, 154, 0, 6, 16, 254]
abbrev dktX3_enough_0 : List UInt8 := dkwX3_enough_0 ++ dktX3_enough_1
theorem dksX3_enough_0 : cX3_enough.data.toList.drop 0 = dktX3_enough_0 := by decide +kernel
theorem dksX3_enough_1 : cX3_enough.data.toList.drop 24 = dktX3_enough_1 := dk_seg dksX3_enough_0 24 rfl rfl
theorem dksX3_enough_2 : cX3_enough.data.toList.drop 47 = dktX3_enough_2 := dk_seg dksX3_enough_1 23 rfl rfl
theorem dX3_enough_0 : decode cX3_enough 0 = .ok (.aload_n 0, 1) := dk_42 (dk_at dksX3_enough_0 0 rfl rfl)
theorem dX3_enough_1 : decode cX3_enough 1 = .ok (.iconst 0, 1) := dk_3 (dk_at dksX3_enough_0 1 rfl rfl)
theorem dX3_enough_2 : decode cX3_enough 2 = .ok (.putfield 1, 3) := dk_181 0 1 (dk_at dksX3_enough_0 2 rfl rfl)
theorem dX3_enough_5 : decode cX3_enough 5 = .ok (.aload_n 0, 1) := dk_42 (dk_at dksX3_enough_0 5 rfl rfl)
theorem dX3_enough_6 : decode cX3_enough 6 = .ok (.iload_n 1, 1) := dk_27 (dk_at dksX3_enough_0 6 rfl rfl)
theorem dX3_enough_7 : decode cX3_enough 7 = .ok (.iload_n 2, 1) := dk_28 (dk_at dksX3_enough_0 7 rfl rfl)
theorem dX3_enough_8 : decode cX3_enough 8 = .ok (.invokevirtual 201, 3) := dk_182 0 201 (dk_at dksX3_enough_0 8 rfl rfl)
theorem dX3_enough_11 : decode cX3_enough 11 = .ok (.ifCond .eq 11, 3) := dk_153 0 11 (dk_at dksX3_enough_0 11 rfl rfl)
theorem dX3_enough_14 : decode cX3_enough 14 = .ok (.aload_n 0, 1) := dk_42 (dk_at dksX3_enough_0 14 rfl rfl)
theorem dX3_enough_15 : decode cX3_enough 15 = .ok (.iload_n 3, 1) := dk_29 (dk_at dksX3_enough_0 15 rfl rfl)
theorem dX3_enough_16 : decode cX3_enough 16 = .ok (.invokevirtual 205, 3) := dk_182 0 205 (dk_at dksX3_enough_0 16 rfl rfl)
theorem dX3_enough_19 : decode cX3_enough 19 = .ok (.ifCond .ne 6, 3) := dk_154 0 6 (dk_at dksX3_enough_0 19 rfl rfl)
theorem dX3_enough_22 : decode cX3_enough 22 = .ok (.bipush (-2), 2) := dk_16 254 (dk_at dksX3_enough_0 22 rfl rfl)
theorem dX3_enough_24 : decode cX3_enough 24 = .ok (.ireturn, 1) := dk_172 (dk_at dksX3_enough_1 0 rfl rfl)
theorem dX3_enough_25 : decode cX3_enough 25 = .ok (.aload_n 0, 1) := dk_42 (dk_at dksX3_enough_1 1 rfl rfl)
theorem dX3_enough_26 : decode cX3_enough 26 = .ok (.iload_n 3, 1) := dk_29 (dk_at dksX3_enough_1 2 rfl rfl)
theorem dX3_enough_27 : decode cX3_enough 27 = .ok (.iconst (-1), 1) := dk_2 (dk_at dksX3_enough_1 3 rfl rfl)
theorem dX3_enough_28 : decode cX3_enough 28 = .ok (.invokevirtual 316, 3) := dk_182 1 60 (dk_at dksX3_enough_1 4 rfl rfl)
theorem dX3_enough_31 : decode cX3_enough 31 = .ok (.aload_n 0, 1) := dk_42 (dk_at dksX3_enough_1 7 rfl rfl)
theorem dX3_enough_32 : decode cX3_enough 32 = .ok (.getfield 46, 3) := dk_180 0 46 (dk_at dksX3_enough_1 8 rfl rfl)
theorem dX3_enough_35 : decode cX3_enough 35 = .ok (.iload_n 1, 1) := dk_27 (dk_at dksX3_enough_1 11 rfl rfl)
theorem dX3_enough_36 : decode cX3_enough 36 = .ok (.iload_n 2, 1) := dk_28 (dk_at dksX3_enough_1 12 rfl rfl)
theorem dX3_enough_37 : decode cX3_enough 37 = .ok (.invokestatic 229, 3) := dk_184 0 229 (dk_at dksX3_enough_1 13 rfl rfl)
theorem dX3_enough_40 : decode cX3_enough 40 = .ok (.ldc 86, 2) := dk_18 86 (dk_at dksX3_enough_1 16 rfl rfl)
theorem dX3_enough_42 : decode cX3_enough 42 = .ok (.iastore, 1) := dk_79 (dk_at dksX3_enough_1 18 rfl rfl)
theorem dX3_enough_43 : decode cX3_enough 43 = .ok (.aload_n 0, 1) := dk_42 (dk_at dksX3_enough_1 19 rfl rfl)
theorem dX3_enough_44 : decode cX3_enough 44 = .ok (.invokevirtual 319, 3) := dk_182 1 63 (dk_at dksX3_enough_1 20 rfl rfl)
theorem dX3_enough_47 : decode cX3_enough 47 = .ok (.ifCond .ne 5, 3) := dk_154 0 5 (dk_at dksX3_enough_2 0 rfl rfl)
theorem dX3_enough_50 : decode cX3_enough 50 = .ok (.iconst (-1), 1) := dk_2 (dk_at dksX3_enough_2 3 rfl rfl)
theorem dX3_enough_51 : decode cX3_enough 51 = .ok (.ireturn, 1) := dk_172 (dk_at dksX3_enough_2 4 rfl rfl)
theorem dX3_enough_52 : decode cX3_enough 52 = .ok (.aload_n 0, 1) := dk_42 (dk_at dksX3_enough_2 5 rfl rfl)
theorem dX3_enough_53 : decode cX3_enough 53 = .ok (.iload_n 1, 1) := dk_27 (dk_at dksX3_enough_2 6 rfl rfl)
theorem dX3_enough_54 : decode cX3_enough 54 = .ok (.iload_n 2, 1) := dk_28 (dk_at dksX3_enough_2 7 rfl rfl)
theorem dX3_enough_55 : decode cX3_enough 55 = .ok (.iconst 0, 1) := dk_3 (dk_at dksX3_enough_2 8 rfl rfl)
theorem dX3_enough_56 : decode cX3_enough 56 = .ok (.invokevirtual 323, 3) := dk_182 1 67 (dk_at dksX3_enough_2 9 rfl rfl)
theorem dX3_enough_59 : decode cX3_enough 59 = .ok (.aload_n 0, 1) := dk_42 (dk_at dksX3_enough_2 12 rfl rfl)
theorem dX3_enough_60 : decode cX3_enough 60 = .ok (.getfield 49, 3) := dk_180 0 49 (dk_at dksX3_enough_2 13 rfl rfl)
theorem dX3_enough_63 : decode cX3_enough 63 = .ok (.iload_n 1, 1) := dk_27 (dk_at dksX3_enough_2 16 rfl rfl)
theorem dX3_enough_64 : decode cX3_enough 64 = .ok (.iload_n 2, 1) := dk_28 (dk_at dksX3_enough_2 17 rfl rfl)
theorem dX3_enough_65 : decode cX3_enough 65 = .ok (.invokestatic 229, 3) := dk_184 0 229 (dk_at dksX3_enough_2 18 rfl rfl)
theorem dX3_enough_68 : decode cX3_enough 68 = .ok (.iaload, 1) := dk_46 (dk_at dksX3_enough_2 21 rfl rfl)
theorem dX3_enough_69 : decode cX3_enough 69 = .ok (.ireturn, 1) := dk_172 (dk_at dksX3_enough_2 22 rfl rfl)
abbrev cX3_press : ByteArray := prog_15_method_93_code
def yX3_press : MethodName := ⟨RX3, "press", "(I)I"⟩
def dkwX3_press_6 : List UInt8 := [180, 0, 49, 29, 46, 27, 182, 0, 188, 132, 3, 1, 167, 255, 219, 42, 180, 0, 13, 3, 46, 172]
abbrev dktX3_press_6 : List UInt8 := dkwX3_press_6 ++ []
def dkwX3_press_5 : List UInt8 := [162, 0, 37, 42, 180, 0, 49, 29, 46, 158, 0, 22, 42, 29, 16, 8, 108, 29, 16, 8, 112, 42]
abbrev dktX3_press_5 : List UInt8 := dkwX3_press_5 ++ dktX3_press_6
def dkwX3_press_4 : List UInt8 := [29, 27, 182, 0, 223, 153, 0, 8, 42, 29, 182, 0, 216, 132, 3, 255, 167, 255, 235, 3, 62, 29, 16, 64]
abbrev dktX3_press_4 : List UInt8 := dkwX3_press_4 ++ dktX3_press_5
def dkwX3_press_3 : List UInt8 := [164, 0, 6, 16, 252, 172, 42, 182, 0, 210, 42, 180, 0, 13, 3, 46, 4, 100, 62, 29, 155, 0, 23, 42]
abbrev dktX3_press_3 : List UInt8 := dkwX3_press_3 ++ dktX3_press_4
def dkwX3_press_2 : List UInt8 := [182, 0, 223, 153, 0, 7, 3, 167, 0, 4, 4, 96, 61, 132, 3, 1, 167, 255, 226, 28, 16, 40]
abbrev dktX3_press_2 : List UInt8 := dkwX3_press_2 ++ dktX3_press_3
def dkwX3_press_1 : List UInt8 := [16, 251, 172, 42, 182, 1, 77, 61, 3, 62, 29, 42, 180, 0, 13, 3, 46, 162, 0, 26, 28, 42, 29, 27]
abbrev dktX3_press_1 : List UInt8 := dkwX3_press_1 ++ dktX3_press_2
def dkwX3_press_0 : List UInt8 := [42, 3, 181, 0, 1, 42, 27, 182, 0, 205, 154, 0, 6, 16, 254, 172, 42, 27, 182, 1, 74, 154, 0, 6]
abbrev dktX3_press_0 : List UInt8 := dkwX3_press_0 ++ dktX3_press_1
theorem dksX3_press_0 : cX3_press.data.toList.drop 0 = dktX3_press_0 := by decide +kernel
theorem dksX3_press_1 : cX3_press.data.toList.drop 24 = dktX3_press_1 := dk_seg dksX3_press_0 24 rfl rfl
theorem dksX3_press_2 : cX3_press.data.toList.drop 48 = dktX3_press_2 := dk_seg dksX3_press_1 24 rfl rfl
theorem dksX3_press_3 : cX3_press.data.toList.drop 70 = dktX3_press_3 := dk_seg dksX3_press_2 22 rfl rfl
theorem dksX3_press_4 : cX3_press.data.toList.drop 94 = dktX3_press_4 := dk_seg dksX3_press_3 24 rfl rfl
theorem dksX3_press_5 : cX3_press.data.toList.drop 118 = dktX3_press_5 := dk_seg dksX3_press_4 24 rfl rfl
theorem dksX3_press_6 : cX3_press.data.toList.drop 140 = dktX3_press_6 := dk_seg dksX3_press_5 22 rfl rfl
theorem dX3_press_0 : decode cX3_press 0 = .ok (.aload_n 0, 1) := dk_42 (dk_at dksX3_press_0 0 rfl rfl)
theorem dX3_press_1 : decode cX3_press 1 = .ok (.iconst 0, 1) := dk_3 (dk_at dksX3_press_0 1 rfl rfl)
theorem dX3_press_2 : decode cX3_press 2 = .ok (.putfield 1, 3) := dk_181 0 1 (dk_at dksX3_press_0 2 rfl rfl)
theorem dX3_press_5 : decode cX3_press 5 = .ok (.aload_n 0, 1) := dk_42 (dk_at dksX3_press_0 5 rfl rfl)
theorem dX3_press_6 : decode cX3_press 6 = .ok (.iload_n 1, 1) := dk_27 (dk_at dksX3_press_0 6 rfl rfl)
theorem dX3_press_7 : decode cX3_press 7 = .ok (.invokevirtual 205, 3) := dk_182 0 205 (dk_at dksX3_press_0 7 rfl rfl)
theorem dX3_press_10 : decode cX3_press 10 = .ok (.ifCond .ne 6, 3) := dk_154 0 6 (dk_at dksX3_press_0 10 rfl rfl)
theorem dX3_press_13 : decode cX3_press 13 = .ok (.bipush (-2), 2) := dk_16 254 (dk_at dksX3_press_0 13 rfl rfl)
theorem dX3_press_15 : decode cX3_press 15 = .ok (.ireturn, 1) := dk_172 (dk_at dksX3_press_0 15 rfl rfl)
theorem dX3_press_16 : decode cX3_press 16 = .ok (.aload_n 0, 1) := dk_42 (dk_at dksX3_press_0 16 rfl rfl)
theorem dX3_press_17 : decode cX3_press 17 = .ok (.iload_n 1, 1) := dk_27 (dk_at dksX3_press_0 17 rfl rfl)
theorem dX3_press_18 : decode cX3_press 18 = .ok (.invokevirtual 330, 3) := dk_182 1 74 (dk_at dksX3_press_0 18 rfl rfl)
theorem dX3_press_21 : decode cX3_press 21 = .ok (.ifCond .ne 6, 3) := dk_154 0 6 (dk_at dksX3_press_0 21 rfl rfl)
theorem dX3_press_24 : decode cX3_press 24 = .ok (.bipush (-5), 2) := dk_16 251 (dk_at dksX3_press_1 0 rfl rfl)
theorem dX3_press_26 : decode cX3_press 26 = .ok (.ireturn, 1) := dk_172 (dk_at dksX3_press_1 2 rfl rfl)
theorem dX3_press_27 : decode cX3_press 27 = .ok (.aload_n 0, 1) := dk_42 (dk_at dksX3_press_1 3 rfl rfl)
theorem dX3_press_28 : decode cX3_press 28 = .ok (.invokevirtual 333, 3) := dk_182 1 77 (dk_at dksX3_press_1 4 rfl rfl)
theorem dX3_press_31 : decode cX3_press 31 = .ok (.istore_n 2, 1) := dk_61 (dk_at dksX3_press_1 7 rfl rfl)
theorem dX3_press_32 : decode cX3_press 32 = .ok (.iconst 0, 1) := dk_3 (dk_at dksX3_press_1 8 rfl rfl)
theorem dX3_press_33 : decode cX3_press 33 = .ok (.istore_n 3, 1) := dk_62 (dk_at dksX3_press_1 9 rfl rfl)
theorem dX3_press_34 : decode cX3_press 34 = .ok (.iload_n 3, 1) := dk_29 (dk_at dksX3_press_1 10 rfl rfl)
theorem dX3_press_35 : decode cX3_press 35 = .ok (.aload_n 0, 1) := dk_42 (dk_at dksX3_press_1 11 rfl rfl)
theorem dX3_press_36 : decode cX3_press 36 = .ok (.getfield 13, 3) := dk_180 0 13 (dk_at dksX3_press_1 12 rfl rfl)
theorem dX3_press_39 : decode cX3_press 39 = .ok (.iconst 0, 1) := dk_3 (dk_at dksX3_press_1 15 rfl rfl)
theorem dX3_press_40 : decode cX3_press 40 = .ok (.iaload, 1) := dk_46 (dk_at dksX3_press_1 16 rfl rfl)
theorem dX3_press_41 : decode cX3_press 41 = .ok (.if_icmp .ge 26, 3) := dk_162 0 26 (dk_at dksX3_press_1 17 rfl rfl)
theorem dX3_press_44 : decode cX3_press 44 = .ok (.iload_n 2, 1) := dk_28 (dk_at dksX3_press_1 20 rfl rfl)
theorem dX3_press_45 : decode cX3_press 45 = .ok (.aload_n 0, 1) := dk_42 (dk_at dksX3_press_1 21 rfl rfl)
theorem dX3_press_46 : decode cX3_press 46 = .ok (.iload_n 3, 1) := dk_29 (dk_at dksX3_press_1 22 rfl rfl)
theorem dX3_press_47 : decode cX3_press 47 = .ok (.iload_n 1, 1) := dk_27 (dk_at dksX3_press_1 23 rfl rfl)
theorem dX3_press_48 : decode cX3_press 48 = .ok (.invokevirtual 223, 3) := dk_182 0 223 (dk_at dksX3_press_2 0 rfl rfl)
theorem dX3_press_51 : decode cX3_press 51 = .ok (.ifCond .eq 7, 3) := dk_153 0 7 (dk_at dksX3_press_2 3 rfl rfl)
theorem dX3_press_54 : decode cX3_press 54 = .ok (.iconst 0, 1) := dk_3 (dk_at dksX3_press_2 6 rfl rfl)
theorem dX3_press_55 : decode cX3_press 55 = .ok (.goto 4, 3) := dk_167 0 4 (dk_at dksX3_press_2 7 rfl rfl)
theorem dX3_press_58 : decode cX3_press 58 = .ok (.iconst 1, 1) := dk_4 (dk_at dksX3_press_2 10 rfl rfl)
theorem dX3_press_59 : decode cX3_press 59 = .ok (.iadd, 1) := dk_96 (dk_at dksX3_press_2 11 rfl rfl)
theorem dX3_press_60 : decode cX3_press 60 = .ok (.istore_n 2, 1) := dk_61 (dk_at dksX3_press_2 12 rfl rfl)
theorem dX3_press_61 : decode cX3_press 61 = .ok (.iinc 3 1, 3) := dk_132 3 1 (dk_at dksX3_press_2 13 rfl rfl)
theorem dX3_press_64 : decode cX3_press 64 = .ok (.goto (-30), 3) := dk_167 255 226 (dk_at dksX3_press_2 16 rfl rfl)
theorem dX3_press_67 : decode cX3_press 67 = .ok (.iload_n 2, 1) := dk_28 (dk_at dksX3_press_2 19 rfl rfl)
theorem dX3_press_68 : decode cX3_press 68 = .ok (.bipush 40, 2) := dk_16 40 (dk_at dksX3_press_2 20 rfl rfl)
theorem dX3_press_70 : decode cX3_press 70 = .ok (.if_icmp .le 6, 3) := dk_164 0 6 (dk_at dksX3_press_3 0 rfl rfl)
theorem dX3_press_73 : decode cX3_press 73 = .ok (.bipush (-4), 2) := dk_16 252 (dk_at dksX3_press_3 3 rfl rfl)
theorem dX3_press_75 : decode cX3_press 75 = .ok (.ireturn, 1) := dk_172 (dk_at dksX3_press_3 5 rfl rfl)
theorem dX3_press_76 : decode cX3_press 76 = .ok (.aload_n 0, 1) := dk_42 (dk_at dksX3_press_3 6 rfl rfl)
theorem dX3_press_77 : decode cX3_press 77 = .ok (.invokevirtual 210, 3) := dk_182 0 210 (dk_at dksX3_press_3 7 rfl rfl)
theorem dX3_press_80 : decode cX3_press 80 = .ok (.aload_n 0, 1) := dk_42 (dk_at dksX3_press_3 10 rfl rfl)
theorem dX3_press_81 : decode cX3_press 81 = .ok (.getfield 13, 3) := dk_180 0 13 (dk_at dksX3_press_3 11 rfl rfl)
theorem dX3_press_84 : decode cX3_press 84 = .ok (.iconst 0, 1) := dk_3 (dk_at dksX3_press_3 14 rfl rfl)
theorem dX3_press_85 : decode cX3_press 85 = .ok (.iaload, 1) := dk_46 (dk_at dksX3_press_3 15 rfl rfl)
theorem dX3_press_86 : decode cX3_press 86 = .ok (.iconst 1, 1) := dk_4 (dk_at dksX3_press_3 16 rfl rfl)
theorem dX3_press_87 : decode cX3_press 87 = .ok (.isub, 1) := dk_100 (dk_at dksX3_press_3 17 rfl rfl)
theorem dX3_press_88 : decode cX3_press 88 = .ok (.istore_n 3, 1) := dk_62 (dk_at dksX3_press_3 18 rfl rfl)
theorem dX3_press_89 : decode cX3_press 89 = .ok (.iload_n 3, 1) := dk_29 (dk_at dksX3_press_3 19 rfl rfl)
theorem dX3_press_90 : decode cX3_press 90 = .ok (.ifCond .lt 23, 3) := dk_155 0 23 (dk_at dksX3_press_3 20 rfl rfl)
theorem dX3_press_93 : decode cX3_press 93 = .ok (.aload_n 0, 1) := dk_42 (dk_at dksX3_press_3 23 rfl rfl)
theorem dX3_press_94 : decode cX3_press 94 = .ok (.iload_n 3, 1) := dk_29 (dk_at dksX3_press_4 0 rfl rfl)
theorem dX3_press_95 : decode cX3_press 95 = .ok (.iload_n 1, 1) := dk_27 (dk_at dksX3_press_4 1 rfl rfl)
theorem dX3_press_96 : decode cX3_press 96 = .ok (.invokevirtual 223, 3) := dk_182 0 223 (dk_at dksX3_press_4 2 rfl rfl)
theorem dX3_press_99 : decode cX3_press 99 = .ok (.ifCond .eq 8, 3) := dk_153 0 8 (dk_at dksX3_press_4 5 rfl rfl)
theorem dX3_press_102 : decode cX3_press 102 = .ok (.aload_n 0, 1) := dk_42 (dk_at dksX3_press_4 8 rfl rfl)
theorem dX3_press_103 : decode cX3_press 103 = .ok (.iload_n 3, 1) := dk_29 (dk_at dksX3_press_4 9 rfl rfl)
theorem dX3_press_104 : decode cX3_press 104 = .ok (.invokevirtual 216, 3) := dk_182 0 216 (dk_at dksX3_press_4 10 rfl rfl)
theorem dX3_press_107 : decode cX3_press 107 = .ok (.iinc 3 (-1), 3) := dk_132 3 255 (dk_at dksX3_press_4 13 rfl rfl)
theorem dX3_press_110 : decode cX3_press 110 = .ok (.goto (-21), 3) := dk_167 255 235 (dk_at dksX3_press_4 16 rfl rfl)
theorem dX3_press_113 : decode cX3_press 113 = .ok (.iconst 0, 1) := dk_3 (dk_at dksX3_press_4 19 rfl rfl)
theorem dX3_press_114 : decode cX3_press 114 = .ok (.istore_n 3, 1) := dk_62 (dk_at dksX3_press_4 20 rfl rfl)
theorem dX3_press_115 : decode cX3_press 115 = .ok (.iload_n 3, 1) := dk_29 (dk_at dksX3_press_4 21 rfl rfl)
theorem dX3_press_116 : decode cX3_press 116 = .ok (.bipush 64, 2) := dk_16 64 (dk_at dksX3_press_4 22 rfl rfl)
theorem dX3_press_118 : decode cX3_press 118 = .ok (.if_icmp .ge 37, 3) := dk_162 0 37 (dk_at dksX3_press_5 0 rfl rfl)
theorem dX3_press_121 : decode cX3_press 121 = .ok (.aload_n 0, 1) := dk_42 (dk_at dksX3_press_5 3 rfl rfl)
theorem dX3_press_122 : decode cX3_press 122 = .ok (.getfield 49, 3) := dk_180 0 49 (dk_at dksX3_press_5 4 rfl rfl)
theorem dX3_press_125 : decode cX3_press 125 = .ok (.iload_n 3, 1) := dk_29 (dk_at dksX3_press_5 7 rfl rfl)
theorem dX3_press_126 : decode cX3_press 126 = .ok (.iaload, 1) := dk_46 (dk_at dksX3_press_5 8 rfl rfl)
theorem dX3_press_127 : decode cX3_press 127 = .ok (.ifCond .le 22, 3) := dk_158 0 22 (dk_at dksX3_press_5 9 rfl rfl)
theorem dX3_press_130 : decode cX3_press 130 = .ok (.aload_n 0, 1) := dk_42 (dk_at dksX3_press_5 12 rfl rfl)
theorem dX3_press_131 : decode cX3_press 131 = .ok (.iload_n 3, 1) := dk_29 (dk_at dksX3_press_5 13 rfl rfl)
theorem dX3_press_132 : decode cX3_press 132 = .ok (.bipush 8, 2) := dk_16 8 (dk_at dksX3_press_5 14 rfl rfl)
theorem dX3_press_134 : decode cX3_press 134 = .ok (.idiv, 1) := dk_108 (dk_at dksX3_press_5 16 rfl rfl)
theorem dX3_press_135 : decode cX3_press 135 = .ok (.iload_n 3, 1) := dk_29 (dk_at dksX3_press_5 17 rfl rfl)
theorem dX3_press_136 : decode cX3_press 136 = .ok (.bipush 8, 2) := dk_16 8 (dk_at dksX3_press_5 18 rfl rfl)
theorem dX3_press_138 : decode cX3_press 138 = .ok (.irem, 1) := dk_112 (dk_at dksX3_press_5 20 rfl rfl)
theorem dX3_press_139 : decode cX3_press 139 = .ok (.aload_n 0, 1) := dk_42 (dk_at dksX3_press_5 21 rfl rfl)
theorem dX3_press_140 : decode cX3_press 140 = .ok (.getfield 49, 3) := dk_180 0 49 (dk_at dksX3_press_6 0 rfl rfl)
theorem dX3_press_143 : decode cX3_press 143 = .ok (.iload_n 3, 1) := dk_29 (dk_at dksX3_press_6 3 rfl rfl)
theorem dX3_press_144 : decode cX3_press 144 = .ok (.iaload, 1) := dk_46 (dk_at dksX3_press_6 4 rfl rfl)
theorem dX3_press_145 : decode cX3_press 145 = .ok (.iload_n 1, 1) := dk_27 (dk_at dksX3_press_6 5 rfl rfl)
theorem dX3_press_146 : decode cX3_press 146 = .ok (.invokevirtual 188, 3) := dk_182 0 188 (dk_at dksX3_press_6 6 rfl rfl)
theorem dX3_press_149 : decode cX3_press 149 = .ok (.iinc 3 1, 3) := dk_132 3 1 (dk_at dksX3_press_6 9 rfl rfl)
theorem dX3_press_152 : decode cX3_press 152 = .ok (.goto (-37), 3) := dk_167 255 219 (dk_at dksX3_press_6 12 rfl rfl)
theorem dX3_press_155 : decode cX3_press 155 = .ok (.aload_n 0, 1) := dk_42 (dk_at dksX3_press_6 15 rfl rfl)
theorem dX3_press_156 : decode cX3_press 156 = .ok (.getfield 13, 3) := dk_180 0 13 (dk_at dksX3_press_6 16 rfl rfl)
theorem dX3_press_159 : decode cX3_press 159 = .ok (.iconst 0, 1) := dk_3 (dk_at dksX3_press_6 19 rfl rfl)
theorem dX3_press_160 : decode cX3_press 160 = .ok (.iaload, 1) := dk_46 (dk_at dksX3_press_6 20 rfl rfl)
theorem dX3_press_161 : decode cX3_press 161 = .ok (.ireturn, 1) := dk_172 (dk_at dksX3_press_6 21 rfl rfl)
abbrev cX3_fewest : ByteArray := prog_15_method_95_code
def yX3_fewest : MethodName := ⟨RX3, "fewest", "(II)I"⟩
def dkwX3_fewest_10 : List UInt8 := [184, 0, 247, 42, 180, 0, 71, 29, 46, 100, 172]
abbrev dktX3_fewest_10 : List UInt8 := dkwX3_fewest_10 ++ []
def dkwX3_fewest_9 : List UInt8 := [3, 96, 79, 132, 4, 1, 167, 255, 125, 28, 4, 160, 0, 12, 42, 180, 0, 71, 29, 46, 167, 0, 14, 29]
abbrev dktX3_fewest_9 : List UInt8 := dkwX3_fewest_9 ++ dktX3_fewest_10
def dkwX3_fewest_8 : List UInt8 := [167, 255, 184, 42, 180, 0, 71, 21, 4, 92, 46, 42, 21, 4, 182, 1, 83, 154, 0, 7, 4, 167, 0, 4]
abbrev dktX3_fewest_8 : List UInt8 := dkwX3_fewest_8 ++ dktX3_fewest_9
def dkwX3_fewest_7 : List UInt8 := [21, 4, 46, 164, 0, 8, 21, 6, 167, 0, 10, 42, 180, 0, 71, 21, 4, 46, 79, 132, 5, 1]
abbrev dktX3_fewest_7 : List UInt8 := dkwX3_fewest_7 ++ dktX3_fewest_8
def dkwX3_fewest_6 : List UInt8 := [21, 4, 4, 21, 5, 120, 2, 130, 126, 46, 54, 6, 42, 180, 0, 71, 21, 4, 21, 6, 42, 180, 0, 71]
abbrev dktX3_fewest_6 : List UInt8 := dkwX3_fewest_6 ++ dktX3_fewest_7
def dkwX3_fewest_5 : List UInt8 := [180, 0, 80, 162, 0, 69, 21, 4, 21, 5, 122, 4, 126, 154, 0, 6, 167, 0, 50, 42, 180, 0, 71]
abbrev dktX3_fewest_5 : List UInt8 := dkwX3_fewest_5 ++ dktX3_fewest_6
def dkwX3_fewest_4 : List UInt8 := [21, 4, 3, 79, 21, 4, 29, 2, 130, 126, 153, 0, 6, 167, 0, 105, 3, 54, 5, 21, 5, 42]
abbrev dktX3_fewest_4 : List UInt8 := dkwX3_fewest_4 ++ dktX3_fewest_5
def dkwX3_fewest_3 : List UInt8 := [167, 255, 224, 42, 180, 0, 71, 3, 3, 79, 4, 54, 4, 21, 4, 29, 163, 0, 131, 42, 180, 0, 71]
abbrev dktX3_fewest_3 : List UInt8 := dkwX3_fewest_3 ++ dktX3_fewest_4
def dkwX3_fewest_2 : List UInt8 := [42, 21, 4, 182, 0, 238, 153, 0, 10, 4, 21, 4, 120, 167, 0, 4, 3, 128, 62, 132, 4, 1]
abbrev dktX3_fewest_2 : List UInt8 := dkwX3_fewest_2 ++ dktX3_fewest_3
def dkwX3_fewest_1 : List UInt8 := [16, 254, 172, 42, 27, 2, 182, 0, 234, 3, 62, 3, 54, 4, 21, 4, 42, 180, 0, 80, 162, 0, 29, 29]
abbrev dktX3_fewest_1 : List UInt8 := dkwX3_fewest_1 ++ dktX3_fewest_2
def dkwX3_fewest_0 : List UInt8 := [42, 3, 181, 0, 1, 42, 27, 182, 0, 205, 153, 0, 13, 28, 133, 9, 10, 184, 0, 103, 154, 0, 6]
abbrev dktX3_fewest_0 : List UInt8 := dkwX3_fewest_0 ++ dktX3_fewest_1
theorem dksX3_fewest_0 : cX3_fewest.data.toList.drop 0 = dktX3_fewest_0 := by decide +kernel
theorem dksX3_fewest_1 : cX3_fewest.data.toList.drop 23 = dktX3_fewest_1 := dk_seg dksX3_fewest_0 23 rfl rfl
theorem dksX3_fewest_2 : cX3_fewest.data.toList.drop 47 = dktX3_fewest_2 := dk_seg dksX3_fewest_1 24 rfl rfl
theorem dksX3_fewest_3 : cX3_fewest.data.toList.drop 69 = dktX3_fewest_3 := dk_seg dksX3_fewest_2 22 rfl rfl
theorem dksX3_fewest_4 : cX3_fewest.data.toList.drop 92 = dktX3_fewest_4 := dk_seg dksX3_fewest_3 23 rfl rfl
theorem dksX3_fewest_5 : cX3_fewest.data.toList.drop 114 = dktX3_fewest_5 := dk_seg dksX3_fewest_4 22 rfl rfl
theorem dksX3_fewest_6 : cX3_fewest.data.toList.drop 137 = dktX3_fewest_6 := dk_seg dksX3_fewest_5 23 rfl rfl
theorem dksX3_fewest_7 : cX3_fewest.data.toList.drop 161 = dktX3_fewest_7 := dk_seg dksX3_fewest_6 24 rfl rfl
theorem dksX3_fewest_8 : cX3_fewest.data.toList.drop 183 = dktX3_fewest_8 := dk_seg dksX3_fewest_7 22 rfl rfl
theorem dksX3_fewest_9 : cX3_fewest.data.toList.drop 207 = dktX3_fewest_9 := dk_seg dksX3_fewest_8 24 rfl rfl
theorem dksX3_fewest_10 : cX3_fewest.data.toList.drop 231 = dktX3_fewest_10 := dk_seg dksX3_fewest_9 24 rfl rfl
theorem dX3_fewest_0 : decode cX3_fewest 0 = .ok (.aload_n 0, 1) := dk_42 (dk_at dksX3_fewest_0 0 rfl rfl)
theorem dX3_fewest_1 : decode cX3_fewest 1 = .ok (.iconst 0, 1) := dk_3 (dk_at dksX3_fewest_0 1 rfl rfl)
theorem dX3_fewest_2 : decode cX3_fewest 2 = .ok (.putfield 1, 3) := dk_181 0 1 (dk_at dksX3_fewest_0 2 rfl rfl)
theorem dX3_fewest_5 : decode cX3_fewest 5 = .ok (.aload_n 0, 1) := dk_42 (dk_at dksX3_fewest_0 5 rfl rfl)
theorem dX3_fewest_6 : decode cX3_fewest 6 = .ok (.iload_n 1, 1) := dk_27 (dk_at dksX3_fewest_0 6 rfl rfl)
theorem dX3_fewest_7 : decode cX3_fewest 7 = .ok (.invokevirtual 205, 3) := dk_182 0 205 (dk_at dksX3_fewest_0 7 rfl rfl)
theorem dX3_fewest_10 : decode cX3_fewest 10 = .ok (.ifCond .eq 13, 3) := dk_153 0 13 (dk_at dksX3_fewest_0 10 rfl rfl)
theorem dX3_fewest_13 : decode cX3_fewest 13 = .ok (.iload_n 2, 1) := dk_28 (dk_at dksX3_fewest_0 13 rfl rfl)
theorem dX3_fewest_14 : decode cX3_fewest 14 = .ok (.i2l, 1) := dk_133 (dk_at dksX3_fewest_0 14 rfl rfl)
theorem dX3_fewest_15 : decode cX3_fewest 15 = .ok (.lconst 0, 1) := dk_9 (dk_at dksX3_fewest_0 15 rfl rfl)
theorem dX3_fewest_16 : decode cX3_fewest 16 = .ok (.lconst 1, 1) := dk_10 (dk_at dksX3_fewest_0 16 rfl rfl)
theorem dX3_fewest_17 : decode cX3_fewest 17 = .ok (.invokestatic 103, 3) := dk_184 0 103 (dk_at dksX3_fewest_0 17 rfl rfl)
theorem dX3_fewest_20 : decode cX3_fewest 20 = .ok (.ifCond .ne 6, 3) := dk_154 0 6 (dk_at dksX3_fewest_0 20 rfl rfl)
theorem dX3_fewest_23 : decode cX3_fewest 23 = .ok (.bipush (-2), 2) := dk_16 254 (dk_at dksX3_fewest_1 0 rfl rfl)
theorem dX3_fewest_25 : decode cX3_fewest 25 = .ok (.ireturn, 1) := dk_172 (dk_at dksX3_fewest_1 2 rfl rfl)
theorem dX3_fewest_26 : decode cX3_fewest 26 = .ok (.aload_n 0, 1) := dk_42 (dk_at dksX3_fewest_1 3 rfl rfl)
theorem dX3_fewest_27 : decode cX3_fewest 27 = .ok (.iload_n 1, 1) := dk_27 (dk_at dksX3_fewest_1 4 rfl rfl)
theorem dX3_fewest_28 : decode cX3_fewest 28 = .ok (.iconst (-1), 1) := dk_2 (dk_at dksX3_fewest_1 5 rfl rfl)
theorem dX3_fewest_29 : decode cX3_fewest 29 = .ok (.invokevirtual 234, 3) := dk_182 0 234 (dk_at dksX3_fewest_1 6 rfl rfl)
theorem dX3_fewest_32 : decode cX3_fewest 32 = .ok (.iconst 0, 1) := dk_3 (dk_at dksX3_fewest_1 9 rfl rfl)
theorem dX3_fewest_33 : decode cX3_fewest 33 = .ok (.istore_n 3, 1) := dk_62 (dk_at dksX3_fewest_1 10 rfl rfl)
theorem dX3_fewest_34 : decode cX3_fewest 34 = .ok (.iconst 0, 1) := dk_3 (dk_at dksX3_fewest_1 11 rfl rfl)
theorem dX3_fewest_35 : decode cX3_fewest 35 = .ok (.istore 4, 2) := dk_54 4 (dk_at dksX3_fewest_1 12 rfl rfl)
theorem dX3_fewest_37 : decode cX3_fewest 37 = .ok (.iload 4, 2) := dk_21 4 (dk_at dksX3_fewest_1 14 rfl rfl)
theorem dX3_fewest_39 : decode cX3_fewest 39 = .ok (.aload_n 0, 1) := dk_42 (dk_at dksX3_fewest_1 16 rfl rfl)
theorem dX3_fewest_40 : decode cX3_fewest 40 = .ok (.getfield 80, 3) := dk_180 0 80 (dk_at dksX3_fewest_1 17 rfl rfl)
theorem dX3_fewest_43 : decode cX3_fewest 43 = .ok (.if_icmp .ge 29, 3) := dk_162 0 29 (dk_at dksX3_fewest_1 20 rfl rfl)
theorem dX3_fewest_46 : decode cX3_fewest 46 = .ok (.iload_n 3, 1) := dk_29 (dk_at dksX3_fewest_1 23 rfl rfl)
theorem dX3_fewest_47 : decode cX3_fewest 47 = .ok (.aload_n 0, 1) := dk_42 (dk_at dksX3_fewest_2 0 rfl rfl)
theorem dX3_fewest_48 : decode cX3_fewest 48 = .ok (.iload 4, 2) := dk_21 4 (dk_at dksX3_fewest_2 1 rfl rfl)
theorem dX3_fewest_50 : decode cX3_fewest 50 = .ok (.invokevirtual 238, 3) := dk_182 0 238 (dk_at dksX3_fewest_2 3 rfl rfl)
theorem dX3_fewest_53 : decode cX3_fewest 53 = .ok (.ifCond .eq 10, 3) := dk_153 0 10 (dk_at dksX3_fewest_2 6 rfl rfl)
theorem dX3_fewest_56 : decode cX3_fewest 56 = .ok (.iconst 1, 1) := dk_4 (dk_at dksX3_fewest_2 9 rfl rfl)
theorem dX3_fewest_57 : decode cX3_fewest 57 = .ok (.iload 4, 2) := dk_21 4 (dk_at dksX3_fewest_2 10 rfl rfl)
theorem dX3_fewest_59 : decode cX3_fewest 59 = .ok (.ishl, 1) := dk_120 (dk_at dksX3_fewest_2 12 rfl rfl)
theorem dX3_fewest_60 : decode cX3_fewest 60 = .ok (.goto 4, 3) := dk_167 0 4 (dk_at dksX3_fewest_2 13 rfl rfl)
theorem dX3_fewest_63 : decode cX3_fewest 63 = .ok (.iconst 0, 1) := dk_3 (dk_at dksX3_fewest_2 16 rfl rfl)
theorem dX3_fewest_64 : decode cX3_fewest 64 = .ok (.ior, 1) := dk_128 (dk_at dksX3_fewest_2 17 rfl rfl)
theorem dX3_fewest_65 : decode cX3_fewest 65 = .ok (.istore_n 3, 1) := dk_62 (dk_at dksX3_fewest_2 18 rfl rfl)
theorem dX3_fewest_66 : decode cX3_fewest 66 = .ok (.iinc 4 1, 3) := dk_132 4 1 (dk_at dksX3_fewest_2 19 rfl rfl)
theorem dX3_fewest_69 : decode cX3_fewest 69 = .ok (.goto (-32), 3) := dk_167 255 224 (dk_at dksX3_fewest_3 0 rfl rfl)
theorem dX3_fewest_72 : decode cX3_fewest 72 = .ok (.aload_n 0, 1) := dk_42 (dk_at dksX3_fewest_3 3 rfl rfl)
theorem dX3_fewest_73 : decode cX3_fewest 73 = .ok (.getfield 71, 3) := dk_180 0 71 (dk_at dksX3_fewest_3 4 rfl rfl)
theorem dX3_fewest_76 : decode cX3_fewest 76 = .ok (.iconst 0, 1) := dk_3 (dk_at dksX3_fewest_3 7 rfl rfl)
theorem dX3_fewest_77 : decode cX3_fewest 77 = .ok (.iconst 0, 1) := dk_3 (dk_at dksX3_fewest_3 8 rfl rfl)
theorem dX3_fewest_78 : decode cX3_fewest 78 = .ok (.iastore, 1) := dk_79 (dk_at dksX3_fewest_3 9 rfl rfl)
theorem dX3_fewest_79 : decode cX3_fewest 79 = .ok (.iconst 1, 1) := dk_4 (dk_at dksX3_fewest_3 10 rfl rfl)
theorem dX3_fewest_80 : decode cX3_fewest 80 = .ok (.istore 4, 2) := dk_54 4 (dk_at dksX3_fewest_3 11 rfl rfl)
theorem dX3_fewest_82 : decode cX3_fewest 82 = .ok (.iload 4, 2) := dk_21 4 (dk_at dksX3_fewest_3 13 rfl rfl)
theorem dX3_fewest_84 : decode cX3_fewest 84 = .ok (.iload_n 3, 1) := dk_29 (dk_at dksX3_fewest_3 15 rfl rfl)
theorem dX3_fewest_85 : decode cX3_fewest 85 = .ok (.if_icmp .gt 131, 3) := dk_163 0 131 (dk_at dksX3_fewest_3 16 rfl rfl)
theorem dX3_fewest_88 : decode cX3_fewest 88 = .ok (.aload_n 0, 1) := dk_42 (dk_at dksX3_fewest_3 19 rfl rfl)
theorem dX3_fewest_89 : decode cX3_fewest 89 = .ok (.getfield 71, 3) := dk_180 0 71 (dk_at dksX3_fewest_3 20 rfl rfl)
theorem dX3_fewest_92 : decode cX3_fewest 92 = .ok (.iload 4, 2) := dk_21 4 (dk_at dksX3_fewest_4 0 rfl rfl)
theorem dX3_fewest_94 : decode cX3_fewest 94 = .ok (.iconst 0, 1) := dk_3 (dk_at dksX3_fewest_4 2 rfl rfl)
theorem dX3_fewest_95 : decode cX3_fewest 95 = .ok (.iastore, 1) := dk_79 (dk_at dksX3_fewest_4 3 rfl rfl)
theorem dX3_fewest_96 : decode cX3_fewest 96 = .ok (.iload 4, 2) := dk_21 4 (dk_at dksX3_fewest_4 4 rfl rfl)
theorem dX3_fewest_98 : decode cX3_fewest 98 = .ok (.iload_n 3, 1) := dk_29 (dk_at dksX3_fewest_4 6 rfl rfl)
theorem dX3_fewest_99 : decode cX3_fewest 99 = .ok (.iconst (-1), 1) := dk_2 (dk_at dksX3_fewest_4 7 rfl rfl)
theorem dX3_fewest_100 : decode cX3_fewest 100 = .ok (.ixor, 1) := dk_130 (dk_at dksX3_fewest_4 8 rfl rfl)
theorem dX3_fewest_101 : decode cX3_fewest 101 = .ok (.iand, 1) := dk_126 (dk_at dksX3_fewest_4 9 rfl rfl)
theorem dX3_fewest_102 : decode cX3_fewest 102 = .ok (.ifCond .eq 6, 3) := dk_153 0 6 (dk_at dksX3_fewest_4 10 rfl rfl)
theorem dX3_fewest_105 : decode cX3_fewest 105 = .ok (.goto 105, 3) := dk_167 0 105 (dk_at dksX3_fewest_4 13 rfl rfl)
theorem dX3_fewest_108 : decode cX3_fewest 108 = .ok (.iconst 0, 1) := dk_3 (dk_at dksX3_fewest_4 16 rfl rfl)
theorem dX3_fewest_109 : decode cX3_fewest 109 = .ok (.istore 5, 2) := dk_54 5 (dk_at dksX3_fewest_4 17 rfl rfl)
theorem dX3_fewest_111 : decode cX3_fewest 111 = .ok (.iload 5, 2) := dk_21 5 (dk_at dksX3_fewest_4 19 rfl rfl)
theorem dX3_fewest_113 : decode cX3_fewest 113 = .ok (.aload_n 0, 1) := dk_42 (dk_at dksX3_fewest_4 21 rfl rfl)
theorem dX3_fewest_114 : decode cX3_fewest 114 = .ok (.getfield 80, 3) := dk_180 0 80 (dk_at dksX3_fewest_5 0 rfl rfl)
theorem dX3_fewest_117 : decode cX3_fewest 117 = .ok (.if_icmp .ge 69, 3) := dk_162 0 69 (dk_at dksX3_fewest_5 3 rfl rfl)
theorem dX3_fewest_120 : decode cX3_fewest 120 = .ok (.iload 4, 2) := dk_21 4 (dk_at dksX3_fewest_5 6 rfl rfl)
theorem dX3_fewest_122 : decode cX3_fewest 122 = .ok (.iload 5, 2) := dk_21 5 (dk_at dksX3_fewest_5 8 rfl rfl)
theorem dX3_fewest_124 : decode cX3_fewest 124 = .ok (.ishr, 1) := dk_122 (dk_at dksX3_fewest_5 10 rfl rfl)
theorem dX3_fewest_125 : decode cX3_fewest 125 = .ok (.iconst 1, 1) := dk_4 (dk_at dksX3_fewest_5 11 rfl rfl)
theorem dX3_fewest_126 : decode cX3_fewest 126 = .ok (.iand, 1) := dk_126 (dk_at dksX3_fewest_5 12 rfl rfl)
theorem dX3_fewest_127 : decode cX3_fewest 127 = .ok (.ifCond .ne 6, 3) := dk_154 0 6 (dk_at dksX3_fewest_5 13 rfl rfl)
theorem dX3_fewest_130 : decode cX3_fewest 130 = .ok (.goto 50, 3) := dk_167 0 50 (dk_at dksX3_fewest_5 16 rfl rfl)
theorem dX3_fewest_133 : decode cX3_fewest 133 = .ok (.aload_n 0, 1) := dk_42 (dk_at dksX3_fewest_5 19 rfl rfl)
theorem dX3_fewest_134 : decode cX3_fewest 134 = .ok (.getfield 71, 3) := dk_180 0 71 (dk_at dksX3_fewest_5 20 rfl rfl)
theorem dX3_fewest_137 : decode cX3_fewest 137 = .ok (.iload 4, 2) := dk_21 4 (dk_at dksX3_fewest_6 0 rfl rfl)
theorem dX3_fewest_139 : decode cX3_fewest 139 = .ok (.iconst 1, 1) := dk_4 (dk_at dksX3_fewest_6 2 rfl rfl)
theorem dX3_fewest_140 : decode cX3_fewest 140 = .ok (.iload 5, 2) := dk_21 5 (dk_at dksX3_fewest_6 3 rfl rfl)
theorem dX3_fewest_142 : decode cX3_fewest 142 = .ok (.ishl, 1) := dk_120 (dk_at dksX3_fewest_6 5 rfl rfl)
theorem dX3_fewest_143 : decode cX3_fewest 143 = .ok (.iconst (-1), 1) := dk_2 (dk_at dksX3_fewest_6 6 rfl rfl)
theorem dX3_fewest_144 : decode cX3_fewest 144 = .ok (.ixor, 1) := dk_130 (dk_at dksX3_fewest_6 7 rfl rfl)
theorem dX3_fewest_145 : decode cX3_fewest 145 = .ok (.iand, 1) := dk_126 (dk_at dksX3_fewest_6 8 rfl rfl)
theorem dX3_fewest_146 : decode cX3_fewest 146 = .ok (.iaload, 1) := dk_46 (dk_at dksX3_fewest_6 9 rfl rfl)
theorem dX3_fewest_147 : decode cX3_fewest 147 = .ok (.istore 6, 2) := dk_54 6 (dk_at dksX3_fewest_6 10 rfl rfl)
theorem dX3_fewest_149 : decode cX3_fewest 149 = .ok (.aload_n 0, 1) := dk_42 (dk_at dksX3_fewest_6 12 rfl rfl)
theorem dX3_fewest_150 : decode cX3_fewest 150 = .ok (.getfield 71, 3) := dk_180 0 71 (dk_at dksX3_fewest_6 13 rfl rfl)
theorem dX3_fewest_153 : decode cX3_fewest 153 = .ok (.iload 4, 2) := dk_21 4 (dk_at dksX3_fewest_6 16 rfl rfl)
theorem dX3_fewest_155 : decode cX3_fewest 155 = .ok (.iload 6, 2) := dk_21 6 (dk_at dksX3_fewest_6 18 rfl rfl)
theorem dX3_fewest_157 : decode cX3_fewest 157 = .ok (.aload_n 0, 1) := dk_42 (dk_at dksX3_fewest_6 20 rfl rfl)
theorem dX3_fewest_158 : decode cX3_fewest 158 = .ok (.getfield 71, 3) := dk_180 0 71 (dk_at dksX3_fewest_6 21 rfl rfl)
theorem dX3_fewest_161 : decode cX3_fewest 161 = .ok (.iload 4, 2) := dk_21 4 (dk_at dksX3_fewest_7 0 rfl rfl)
theorem dX3_fewest_163 : decode cX3_fewest 163 = .ok (.iaload, 1) := dk_46 (dk_at dksX3_fewest_7 2 rfl rfl)
theorem dX3_fewest_164 : decode cX3_fewest 164 = .ok (.if_icmp .le 8, 3) := dk_164 0 8 (dk_at dksX3_fewest_7 3 rfl rfl)
theorem dX3_fewest_167 : decode cX3_fewest 167 = .ok (.iload 6, 2) := dk_21 6 (dk_at dksX3_fewest_7 6 rfl rfl)
theorem dX3_fewest_169 : decode cX3_fewest 169 = .ok (.goto 10, 3) := dk_167 0 10 (dk_at dksX3_fewest_7 8 rfl rfl)
theorem dX3_fewest_172 : decode cX3_fewest 172 = .ok (.aload_n 0, 1) := dk_42 (dk_at dksX3_fewest_7 11 rfl rfl)
theorem dX3_fewest_173 : decode cX3_fewest 173 = .ok (.getfield 71, 3) := dk_180 0 71 (dk_at dksX3_fewest_7 12 rfl rfl)
theorem dX3_fewest_176 : decode cX3_fewest 176 = .ok (.iload 4, 2) := dk_21 4 (dk_at dksX3_fewest_7 15 rfl rfl)
theorem dX3_fewest_178 : decode cX3_fewest 178 = .ok (.iaload, 1) := dk_46 (dk_at dksX3_fewest_7 17 rfl rfl)
theorem dX3_fewest_179 : decode cX3_fewest 179 = .ok (.iastore, 1) := dk_79 (dk_at dksX3_fewest_7 18 rfl rfl)
theorem dX3_fewest_180 : decode cX3_fewest 180 = .ok (.iinc 5 1, 3) := dk_132 5 1 (dk_at dksX3_fewest_7 19 rfl rfl)
theorem dX3_fewest_183 : decode cX3_fewest 183 = .ok (.goto (-72), 3) := dk_167 255 184 (dk_at dksX3_fewest_8 0 rfl rfl)
theorem dX3_fewest_186 : decode cX3_fewest 186 = .ok (.aload_n 0, 1) := dk_42 (dk_at dksX3_fewest_8 3 rfl rfl)
theorem dX3_fewest_187 : decode cX3_fewest 187 = .ok (.getfield 71, 3) := dk_180 0 71 (dk_at dksX3_fewest_8 4 rfl rfl)
theorem dX3_fewest_190 : decode cX3_fewest 190 = .ok (.iload 4, 2) := dk_21 4 (dk_at dksX3_fewest_8 7 rfl rfl)
theorem dX3_fewest_192 : decode cX3_fewest 192 = .ok (.dup2, 1) := dk_92 (dk_at dksX3_fewest_8 9 rfl rfl)
theorem dX3_fewest_193 : decode cX3_fewest 193 = .ok (.iaload, 1) := dk_46 (dk_at dksX3_fewest_8 10 rfl rfl)
theorem dX3_fewest_194 : decode cX3_fewest 194 = .ok (.aload_n 0, 1) := dk_42 (dk_at dksX3_fewest_8 11 rfl rfl)
theorem dX3_fewest_195 : decode cX3_fewest 195 = .ok (.iload 4, 2) := dk_21 4 (dk_at dksX3_fewest_8 12 rfl rfl)
theorem dX3_fewest_197 : decode cX3_fewest 197 = .ok (.invokevirtual 339, 3) := dk_182 1 83 (dk_at dksX3_fewest_8 14 rfl rfl)
theorem dX3_fewest_200 : decode cX3_fewest 200 = .ok (.ifCond .ne 7, 3) := dk_154 0 7 (dk_at dksX3_fewest_8 17 rfl rfl)
theorem dX3_fewest_203 : decode cX3_fewest 203 = .ok (.iconst 1, 1) := dk_4 (dk_at dksX3_fewest_8 20 rfl rfl)
theorem dX3_fewest_204 : decode cX3_fewest 204 = .ok (.goto 4, 3) := dk_167 0 4 (dk_at dksX3_fewest_8 21 rfl rfl)
theorem dX3_fewest_207 : decode cX3_fewest 207 = .ok (.iconst 0, 1) := dk_3 (dk_at dksX3_fewest_9 0 rfl rfl)
theorem dX3_fewest_208 : decode cX3_fewest 208 = .ok (.iadd, 1) := dk_96 (dk_at dksX3_fewest_9 1 rfl rfl)
theorem dX3_fewest_209 : decode cX3_fewest 209 = .ok (.iastore, 1) := dk_79 (dk_at dksX3_fewest_9 2 rfl rfl)
theorem dX3_fewest_210 : decode cX3_fewest 210 = .ok (.iinc 4 1, 3) := dk_132 4 1 (dk_at dksX3_fewest_9 3 rfl rfl)
theorem dX3_fewest_213 : decode cX3_fewest 213 = .ok (.goto (-131), 3) := dk_167 255 125 (dk_at dksX3_fewest_9 6 rfl rfl)
theorem dX3_fewest_216 : decode cX3_fewest 216 = .ok (.iload_n 2, 1) := dk_28 (dk_at dksX3_fewest_9 9 rfl rfl)
theorem dX3_fewest_217 : decode cX3_fewest 217 = .ok (.iconst 1, 1) := dk_4 (dk_at dksX3_fewest_9 10 rfl rfl)
theorem dX3_fewest_218 : decode cX3_fewest 218 = .ok (.if_icmp .ne 12, 3) := dk_160 0 12 (dk_at dksX3_fewest_9 11 rfl rfl)
theorem dX3_fewest_221 : decode cX3_fewest 221 = .ok (.aload_n 0, 1) := dk_42 (dk_at dksX3_fewest_9 14 rfl rfl)
theorem dX3_fewest_222 : decode cX3_fewest 222 = .ok (.getfield 71, 3) := dk_180 0 71 (dk_at dksX3_fewest_9 15 rfl rfl)
theorem dX3_fewest_225 : decode cX3_fewest 225 = .ok (.iload_n 3, 1) := dk_29 (dk_at dksX3_fewest_9 18 rfl rfl)
theorem dX3_fewest_226 : decode cX3_fewest 226 = .ok (.iaload, 1) := dk_46 (dk_at dksX3_fewest_9 19 rfl rfl)
theorem dX3_fewest_227 : decode cX3_fewest 227 = .ok (.goto 14, 3) := dk_167 0 14 (dk_at dksX3_fewest_9 20 rfl rfl)
theorem dX3_fewest_230 : decode cX3_fewest 230 = .ok (.iload_n 3, 1) := dk_29 (dk_at dksX3_fewest_9 23 rfl rfl)
theorem dX3_fewest_231 : decode cX3_fewest 231 = .ok (.invokestatic 247, 3) := dk_184 0 247 (dk_at dksX3_fewest_10 0 rfl rfl)
theorem dX3_fewest_234 : decode cX3_fewest 234 = .ok (.aload_n 0, 1) := dk_42 (dk_at dksX3_fewest_10 3 rfl rfl)
theorem dX3_fewest_235 : decode cX3_fewest 235 = .ok (.getfield 71, 3) := dk_180 0 71 (dk_at dksX3_fewest_10 4 rfl rfl)
theorem dX3_fewest_238 : decode cX3_fewest 238 = .ok (.iload_n 3, 1) := dk_29 (dk_at dksX3_fewest_10 7 rfl rfl)
theorem dX3_fewest_239 : decode cX3_fewest 239 = .ok (.iaload, 1) := dk_46 (dk_at dksX3_fewest_10 8 rfl rfl)
theorem dX3_fewest_240 : decode cX3_fewest 240 = .ok (.isub, 1) := dk_100 (dk_at dksX3_fewest_10 9 rfl rfl)
theorem dX3_fewest_241 : decode cX3_fewest 241 = .ok (.ireturn, 1) := dk_172 (dk_at dksX3_fewest_10 10 rfl rfl)
abbrev cX3_sumBy : ByteArray := prog_15_method_94_code
def yX3_sumBy : MethodName := ⟨RX3, "sumBy", "(I)I"⟩
def dkwX3_sumBy_1 : List UInt8 := [182, 0, 238, 167, 0, 4, 3, 96, 61, 132, 3, 1, 167, 255, 224, 28, 172]
abbrev dktX3_sumBy_1 : List UInt8 := dkwX3_sumBy_1 ++ []
def dkwX3_sumBy_0 : List UInt8 := [3, 61, 3, 62, 29, 42, 180, 0, 80, 162, 0, 30, 28, 27, 29, 122, 4, 126, 4, 160, 0, 11, 42, 29]
abbrev dktX3_sumBy_0 : List UInt8 := dkwX3_sumBy_0 ++ dktX3_sumBy_1
theorem dksX3_sumBy_0 : cX3_sumBy.data.toList.drop 0 = dktX3_sumBy_0 := by decide +kernel
theorem dksX3_sumBy_1 : cX3_sumBy.data.toList.drop 24 = dktX3_sumBy_1 := dk_seg dksX3_sumBy_0 24 rfl rfl
theorem dX3_sumBy_0 : decode cX3_sumBy 0 = .ok (.iconst 0, 1) := dk_3 (dk_at dksX3_sumBy_0 0 rfl rfl)
theorem dX3_sumBy_1 : decode cX3_sumBy 1 = .ok (.istore_n 2, 1) := dk_61 (dk_at dksX3_sumBy_0 1 rfl rfl)
theorem dX3_sumBy_2 : decode cX3_sumBy 2 = .ok (.iconst 0, 1) := dk_3 (dk_at dksX3_sumBy_0 2 rfl rfl)
theorem dX3_sumBy_3 : decode cX3_sumBy 3 = .ok (.istore_n 3, 1) := dk_62 (dk_at dksX3_sumBy_0 3 rfl rfl)
theorem dX3_sumBy_4 : decode cX3_sumBy 4 = .ok (.iload_n 3, 1) := dk_29 (dk_at dksX3_sumBy_0 4 rfl rfl)
theorem dX3_sumBy_5 : decode cX3_sumBy 5 = .ok (.aload_n 0, 1) := dk_42 (dk_at dksX3_sumBy_0 5 rfl rfl)
theorem dX3_sumBy_6 : decode cX3_sumBy 6 = .ok (.getfield 80, 3) := dk_180 0 80 (dk_at dksX3_sumBy_0 6 rfl rfl)
theorem dX3_sumBy_9 : decode cX3_sumBy 9 = .ok (.if_icmp .ge 30, 3) := dk_162 0 30 (dk_at dksX3_sumBy_0 9 rfl rfl)
theorem dX3_sumBy_12 : decode cX3_sumBy 12 = .ok (.iload_n 2, 1) := dk_28 (dk_at dksX3_sumBy_0 12 rfl rfl)
theorem dX3_sumBy_13 : decode cX3_sumBy 13 = .ok (.iload_n 1, 1) := dk_27 (dk_at dksX3_sumBy_0 13 rfl rfl)
theorem dX3_sumBy_14 : decode cX3_sumBy 14 = .ok (.iload_n 3, 1) := dk_29 (dk_at dksX3_sumBy_0 14 rfl rfl)
theorem dX3_sumBy_15 : decode cX3_sumBy 15 = .ok (.ishr, 1) := dk_122 (dk_at dksX3_sumBy_0 15 rfl rfl)
theorem dX3_sumBy_16 : decode cX3_sumBy 16 = .ok (.iconst 1, 1) := dk_4 (dk_at dksX3_sumBy_0 16 rfl rfl)
theorem dX3_sumBy_17 : decode cX3_sumBy 17 = .ok (.iand, 1) := dk_126 (dk_at dksX3_sumBy_0 17 rfl rfl)
theorem dX3_sumBy_18 : decode cX3_sumBy 18 = .ok (.iconst 1, 1) := dk_4 (dk_at dksX3_sumBy_0 18 rfl rfl)
theorem dX3_sumBy_19 : decode cX3_sumBy 19 = .ok (.if_icmp .ne 11, 3) := dk_160 0 11 (dk_at dksX3_sumBy_0 19 rfl rfl)
theorem dX3_sumBy_22 : decode cX3_sumBy 22 = .ok (.aload_n 0, 1) := dk_42 (dk_at dksX3_sumBy_0 22 rfl rfl)
theorem dX3_sumBy_23 : decode cX3_sumBy 23 = .ok (.iload_n 3, 1) := dk_29 (dk_at dksX3_sumBy_0 23 rfl rfl)
theorem dX3_sumBy_24 : decode cX3_sumBy 24 = .ok (.invokevirtual 238, 3) := dk_182 0 238 (dk_at dksX3_sumBy_1 0 rfl rfl)
theorem dX3_sumBy_27 : decode cX3_sumBy 27 = .ok (.goto 4, 3) := dk_167 0 4 (dk_at dksX3_sumBy_1 3 rfl rfl)
theorem dX3_sumBy_30 : decode cX3_sumBy 30 = .ok (.iconst 0, 1) := dk_3 (dk_at dksX3_sumBy_1 6 rfl rfl)
theorem dX3_sumBy_31 : decode cX3_sumBy 31 = .ok (.iadd, 1) := dk_96 (dk_at dksX3_sumBy_1 7 rfl rfl)
theorem dX3_sumBy_32 : decode cX3_sumBy 32 = .ok (.istore_n 2, 1) := dk_61 (dk_at dksX3_sumBy_1 8 rfl rfl)
theorem dX3_sumBy_33 : decode cX3_sumBy 33 = .ok (.iinc 3 1, 3) := dk_132 3 1 (dk_at dksX3_sumBy_1 9 rfl rfl)
theorem dX3_sumBy_36 : decode cX3_sumBy 36 = .ok (.goto (-32), 3) := dk_167 255 224 (dk_at dksX3_sumBy_1 12 rfl rfl)
theorem dX3_sumBy_39 : decode cX3_sumBy 39 = .ok (.iload_n 2, 1) := dk_28 (dk_at dksX3_sumBy_1 15 rfl rfl)
theorem dX3_sumBy_40 : decode cX3_sumBy 40 = .ok (.ireturn, 1) := dk_172 (dk_at dksX3_sumBy_1 16 rfl rfl)
abbrev cX3_even : ByteArray := prog_15_method_96_code
def yX3_even : MethodName := ⟨RX3, "even", "(II)I"⟩
def dkwX3_even_2 : List UInt8 := [182, 0, 234, 42, 27, 182, 1, 83, 154, 0, 7, 4, 167, 0, 4, 3, 172]
abbrev dktX3_even_2 : List UInt8 := dkwX3_even_2 ++ []
def dkwX3_even_1 : List UInt8 := [133, 184, 0, 103, 154, 0, 6, 16, 254, 172, 27, 184, 0, 247, 5, 162, 0, 6, 16, 253, 172, 42, 28, 2]
abbrev dktX3_even_1 : List UInt8 := dkwX3_even_1 ++ dktX3_even_2
def dkwX3_even_0 : List UInt8 := [42, 3, 181, 0, 1, 42, 28, 182, 0, 205, 153, 0, 21, 27, 133, 9, 4, 42, 180, 0, 80, 120, 4, 100]
abbrev dktX3_even_0 : List UInt8 := dkwX3_even_0 ++ dktX3_even_1
theorem dksX3_even_0 : cX3_even.data.toList.drop 0 = dktX3_even_0 := by decide +kernel
theorem dksX3_even_1 : cX3_even.data.toList.drop 24 = dktX3_even_1 := dk_seg dksX3_even_0 24 rfl rfl
theorem dksX3_even_2 : cX3_even.data.toList.drop 48 = dktX3_even_2 := dk_seg dksX3_even_1 24 rfl rfl
theorem dX3_even_0 : decode cX3_even 0 = .ok (.aload_n 0, 1) := dk_42 (dk_at dksX3_even_0 0 rfl rfl)
theorem dX3_even_1 : decode cX3_even 1 = .ok (.iconst 0, 1) := dk_3 (dk_at dksX3_even_0 1 rfl rfl)
theorem dX3_even_2 : decode cX3_even 2 = .ok (.putfield 1, 3) := dk_181 0 1 (dk_at dksX3_even_0 2 rfl rfl)
theorem dX3_even_5 : decode cX3_even 5 = .ok (.aload_n 0, 1) := dk_42 (dk_at dksX3_even_0 5 rfl rfl)
theorem dX3_even_6 : decode cX3_even 6 = .ok (.iload_n 2, 1) := dk_28 (dk_at dksX3_even_0 6 rfl rfl)
theorem dX3_even_7 : decode cX3_even 7 = .ok (.invokevirtual 205, 3) := dk_182 0 205 (dk_at dksX3_even_0 7 rfl rfl)
theorem dX3_even_10 : decode cX3_even 10 = .ok (.ifCond .eq 21, 3) := dk_153 0 21 (dk_at dksX3_even_0 10 rfl rfl)
theorem dX3_even_13 : decode cX3_even 13 = .ok (.iload_n 1, 1) := dk_27 (dk_at dksX3_even_0 13 rfl rfl)
theorem dX3_even_14 : decode cX3_even 14 = .ok (.i2l, 1) := dk_133 (dk_at dksX3_even_0 14 rfl rfl)
theorem dX3_even_15 : decode cX3_even 15 = .ok (.lconst 0, 1) := dk_9 (dk_at dksX3_even_0 15 rfl rfl)
theorem dX3_even_16 : decode cX3_even 16 = .ok (.iconst 1, 1) := dk_4 (dk_at dksX3_even_0 16 rfl rfl)
theorem dX3_even_17 : decode cX3_even 17 = .ok (.aload_n 0, 1) := dk_42 (dk_at dksX3_even_0 17 rfl rfl)
theorem dX3_even_18 : decode cX3_even 18 = .ok (.getfield 80, 3) := dk_180 0 80 (dk_at dksX3_even_0 18 rfl rfl)
theorem dX3_even_21 : decode cX3_even 21 = .ok (.ishl, 1) := dk_120 (dk_at dksX3_even_0 21 rfl rfl)
theorem dX3_even_22 : decode cX3_even 22 = .ok (.iconst 1, 1) := dk_4 (dk_at dksX3_even_0 22 rfl rfl)
theorem dX3_even_23 : decode cX3_even 23 = .ok (.isub, 1) := dk_100 (dk_at dksX3_even_0 23 rfl rfl)
theorem dX3_even_24 : decode cX3_even 24 = .ok (.i2l, 1) := dk_133 (dk_at dksX3_even_1 0 rfl rfl)
theorem dX3_even_25 : decode cX3_even 25 = .ok (.invokestatic 103, 3) := dk_184 0 103 (dk_at dksX3_even_1 1 rfl rfl)
theorem dX3_even_28 : decode cX3_even 28 = .ok (.ifCond .ne 6, 3) := dk_154 0 6 (dk_at dksX3_even_1 4 rfl rfl)
theorem dX3_even_31 : decode cX3_even 31 = .ok (.bipush (-2), 2) := dk_16 254 (dk_at dksX3_even_1 7 rfl rfl)
theorem dX3_even_33 : decode cX3_even 33 = .ok (.ireturn, 1) := dk_172 (dk_at dksX3_even_1 9 rfl rfl)
theorem dX3_even_34 : decode cX3_even 34 = .ok (.iload_n 1, 1) := dk_27 (dk_at dksX3_even_1 10 rfl rfl)
theorem dX3_even_35 : decode cX3_even 35 = .ok (.invokestatic 247, 3) := dk_184 0 247 (dk_at dksX3_even_1 11 rfl rfl)
theorem dX3_even_38 : decode cX3_even 38 = .ok (.iconst 2, 1) := dk_5 (dk_at dksX3_even_1 14 rfl rfl)
theorem dX3_even_39 : decode cX3_even 39 = .ok (.if_icmp .ge 6, 3) := dk_162 0 6 (dk_at dksX3_even_1 15 rfl rfl)
theorem dX3_even_42 : decode cX3_even 42 = .ok (.bipush (-3), 2) := dk_16 253 (dk_at dksX3_even_1 18 rfl rfl)
theorem dX3_even_44 : decode cX3_even 44 = .ok (.ireturn, 1) := dk_172 (dk_at dksX3_even_1 20 rfl rfl)
theorem dX3_even_45 : decode cX3_even 45 = .ok (.aload_n 0, 1) := dk_42 (dk_at dksX3_even_1 21 rfl rfl)
theorem dX3_even_46 : decode cX3_even 46 = .ok (.iload_n 2, 1) := dk_28 (dk_at dksX3_even_1 22 rfl rfl)
theorem dX3_even_47 : decode cX3_even 47 = .ok (.iconst (-1), 1) := dk_2 (dk_at dksX3_even_1 23 rfl rfl)
theorem dX3_even_48 : decode cX3_even 48 = .ok (.invokevirtual 234, 3) := dk_182 0 234 (dk_at dksX3_even_2 0 rfl rfl)
theorem dX3_even_51 : decode cX3_even 51 = .ok (.aload_n 0, 1) := dk_42 (dk_at dksX3_even_2 3 rfl rfl)
theorem dX3_even_52 : decode cX3_even 52 = .ok (.iload_n 1, 1) := dk_27 (dk_at dksX3_even_2 4 rfl rfl)
theorem dX3_even_53 : decode cX3_even 53 = .ok (.invokevirtual 339, 3) := dk_182 1 83 (dk_at dksX3_even_2 5 rfl rfl)
theorem dX3_even_56 : decode cX3_even 56 = .ok (.ifCond .ne 7, 3) := dk_154 0 7 (dk_at dksX3_even_2 8 rfl rfl)
theorem dX3_even_59 : decode cX3_even 59 = .ok (.iconst 1, 1) := dk_4 (dk_at dksX3_even_2 11 rfl rfl)
theorem dX3_even_60 : decode cX3_even 60 = .ok (.goto 4, 3) := dk_167 0 4 (dk_at dksX3_even_2 12 rfl rfl)
theorem dX3_even_63 : decode cX3_even 63 = .ok (.iconst 0, 1) := dk_3 (dk_at dksX3_even_2 15 rfl rfl)
theorem dX3_even_64 : decode cX3_even 64 = .ok (.ireturn, 1) := dk_172 (dk_at dksX3_even_2 16 rfl rfl)
abbrev cX3_line : ByteArray := prog_15_method_100_code
def yX3_line : MethodName := ⟨RX3, "line", "(II)I"⟩
def dkwX3_line_6 : List UInt8 := [167, 0, 4, 2, 172]
abbrev dktX3_line_6 : List UInt8 := dkwX3_line_6 ++ []
def dkwX3_line_5 : List UInt8 := [182, 1, 91, 42, 16, 42, 182, 1, 91, 28, 42, 180, 1, 86, 162, 0, 12, 42, 180, 0, 74, 28, 46]
abbrev dktX3_line_5 : List UInt8 := dkwX3_line_5 ++ dktX3_line_6
def dkwX3_line_4 : List UInt8 := [27, 6, 182, 0, 174, 96, 47, 182, 1, 94, 42, 27, 7, 182, 0, 174, 4, 160, 0, 15, 42, 16, 32]
abbrev dktX3_line_4 : List UInt8 := dkwX3_line_4 ++ dktX3_line_5
def dkwX3_line_3 : List UInt8 := [42, 42, 27, 5, 182, 0, 174, 182, 1, 98, 42, 16, 32, 182, 1, 91, 42, 42, 180, 0, 23, 16, 8, 42]
abbrev dktX3_line_3 : List UInt8 := dkwX3_line_3 ++ dktX3_line_4
def dkwX3_line_2 : List UInt8 := [182, 1, 91, 42, 42, 180, 0, 23, 42, 27, 4, 182, 0, 174, 47, 182, 1, 94, 42, 16, 32, 182, 1, 91]
abbrev dktX3_line_2 : List UInt8 := dkwX3_line_2 ++ dktX3_line_3
def dkwX3_line_1 : List UInt8 := [3, 181, 1, 86, 42, 42, 180, 0, 23, 42, 27, 3, 182, 0, 174, 47, 182, 1, 94, 42, 16, 62]
abbrev dktX3_line_1 : List UInt8 := dkwX3_line_1 ++ dktX3_line_2
def dkwX3_line_0 : List UInt8 := [42, 3, 181, 0, 1, 42, 27, 182, 0, 213, 154, 0, 6, 16, 254, 172, 28, 156, 0, 6, 16, 253, 172, 42]
abbrev dktX3_line_0 : List UInt8 := dkwX3_line_0 ++ dktX3_line_1
theorem dksX3_line_0 : cX3_line.data.toList.drop 0 = dktX3_line_0 := by decide +kernel
theorem dksX3_line_1 : cX3_line.data.toList.drop 24 = dktX3_line_1 := dk_seg dksX3_line_0 24 rfl rfl
theorem dksX3_line_2 : cX3_line.data.toList.drop 46 = dktX3_line_2 := dk_seg dksX3_line_1 22 rfl rfl
theorem dksX3_line_3 : cX3_line.data.toList.drop 70 = dktX3_line_3 := dk_seg dksX3_line_2 24 rfl rfl
theorem dksX3_line_4 : cX3_line.data.toList.drop 94 = dktX3_line_4 := dk_seg dksX3_line_3 24 rfl rfl
theorem dksX3_line_5 : cX3_line.data.toList.drop 117 = dktX3_line_5 := dk_seg dksX3_line_4 23 rfl rfl
theorem dksX3_line_6 : cX3_line.data.toList.drop 140 = dktX3_line_6 := dk_seg dksX3_line_5 23 rfl rfl
theorem dX3_line_0 : decode cX3_line 0 = .ok (.aload_n 0, 1) := dk_42 (dk_at dksX3_line_0 0 rfl rfl)
theorem dX3_line_1 : decode cX3_line 1 = .ok (.iconst 0, 1) := dk_3 (dk_at dksX3_line_0 1 rfl rfl)
theorem dX3_line_2 : decode cX3_line 2 = .ok (.putfield 1, 3) := dk_181 0 1 (dk_at dksX3_line_0 2 rfl rfl)
theorem dX3_line_5 : decode cX3_line 5 = .ok (.aload_n 0, 1) := dk_42 (dk_at dksX3_line_0 5 rfl rfl)
theorem dX3_line_6 : decode cX3_line 6 = .ok (.iload_n 1, 1) := dk_27 (dk_at dksX3_line_0 6 rfl rfl)
theorem dX3_line_7 : decode cX3_line 7 = .ok (.invokevirtual 213, 3) := dk_182 0 213 (dk_at dksX3_line_0 7 rfl rfl)
theorem dX3_line_10 : decode cX3_line 10 = .ok (.ifCond .ne 6, 3) := dk_154 0 6 (dk_at dksX3_line_0 10 rfl rfl)
theorem dX3_line_13 : decode cX3_line 13 = .ok (.bipush (-2), 2) := dk_16 254 (dk_at dksX3_line_0 13 rfl rfl)
theorem dX3_line_15 : decode cX3_line 15 = .ok (.ireturn, 1) := dk_172 (dk_at dksX3_line_0 15 rfl rfl)
theorem dX3_line_16 : decode cX3_line 16 = .ok (.iload_n 2, 1) := dk_28 (dk_at dksX3_line_0 16 rfl rfl)
theorem dX3_line_17 : decode cX3_line 17 = .ok (.ifCond .ge 6, 3) := dk_156 0 6 (dk_at dksX3_line_0 17 rfl rfl)
theorem dX3_line_20 : decode cX3_line 20 = .ok (.bipush (-3), 2) := dk_16 253 (dk_at dksX3_line_0 20 rfl rfl)
theorem dX3_line_22 : decode cX3_line 22 = .ok (.ireturn, 1) := dk_172 (dk_at dksX3_line_0 22 rfl rfl)
theorem dX3_line_23 : decode cX3_line 23 = .ok (.aload_n 0, 1) := dk_42 (dk_at dksX3_line_0 23 rfl rfl)
theorem dX3_line_24 : decode cX3_line 24 = .ok (.iconst 0, 1) := dk_3 (dk_at dksX3_line_1 0 rfl rfl)
theorem dX3_line_25 : decode cX3_line 25 = .ok (.putfield 342, 3) := dk_181 1 86 (dk_at dksX3_line_1 1 rfl rfl)
theorem dX3_line_28 : decode cX3_line 28 = .ok (.aload_n 0, 1) := dk_42 (dk_at dksX3_line_1 4 rfl rfl)
theorem dX3_line_29 : decode cX3_line 29 = .ok (.aload_n 0, 1) := dk_42 (dk_at dksX3_line_1 5 rfl rfl)
theorem dX3_line_30 : decode cX3_line 30 = .ok (.getfield 23, 3) := dk_180 0 23 (dk_at dksX3_line_1 6 rfl rfl)
theorem dX3_line_33 : decode cX3_line 33 = .ok (.aload_n 0, 1) := dk_42 (dk_at dksX3_line_1 9 rfl rfl)
theorem dX3_line_34 : decode cX3_line 34 = .ok (.iload_n 1, 1) := dk_27 (dk_at dksX3_line_1 10 rfl rfl)
theorem dX3_line_35 : decode cX3_line 35 = .ok (.iconst 0, 1) := dk_3 (dk_at dksX3_line_1 11 rfl rfl)
theorem dX3_line_36 : decode cX3_line 36 = .ok (.invokevirtual 174, 3) := dk_182 0 174 (dk_at dksX3_line_1 12 rfl rfl)
theorem dX3_line_39 : decode cX3_line 39 = .ok (.laload, 1) := dk_47 (dk_at dksX3_line_1 15 rfl rfl)
theorem dX3_line_40 : decode cX3_line 40 = .ok (.invokevirtual 350, 3) := dk_182 1 94 (dk_at dksX3_line_1 16 rfl rfl)
theorem dX3_line_43 : decode cX3_line 43 = .ok (.aload_n 0, 1) := dk_42 (dk_at dksX3_line_1 19 rfl rfl)
theorem dX3_line_44 : decode cX3_line 44 = .ok (.bipush 62, 2) := dk_16 62 (dk_at dksX3_line_1 20 rfl rfl)
theorem dX3_line_46 : decode cX3_line 46 = .ok (.invokevirtual 347, 3) := dk_182 1 91 (dk_at dksX3_line_2 0 rfl rfl)
theorem dX3_line_49 : decode cX3_line 49 = .ok (.aload_n 0, 1) := dk_42 (dk_at dksX3_line_2 3 rfl rfl)
theorem dX3_line_50 : decode cX3_line 50 = .ok (.aload_n 0, 1) := dk_42 (dk_at dksX3_line_2 4 rfl rfl)
theorem dX3_line_51 : decode cX3_line 51 = .ok (.getfield 23, 3) := dk_180 0 23 (dk_at dksX3_line_2 5 rfl rfl)
theorem dX3_line_54 : decode cX3_line 54 = .ok (.aload_n 0, 1) := dk_42 (dk_at dksX3_line_2 8 rfl rfl)
theorem dX3_line_55 : decode cX3_line 55 = .ok (.iload_n 1, 1) := dk_27 (dk_at dksX3_line_2 9 rfl rfl)
theorem dX3_line_56 : decode cX3_line 56 = .ok (.iconst 1, 1) := dk_4 (dk_at dksX3_line_2 10 rfl rfl)
theorem dX3_line_57 : decode cX3_line 57 = .ok (.invokevirtual 174, 3) := dk_182 0 174 (dk_at dksX3_line_2 11 rfl rfl)
theorem dX3_line_60 : decode cX3_line 60 = .ok (.laload, 1) := dk_47 (dk_at dksX3_line_2 14 rfl rfl)
theorem dX3_line_61 : decode cX3_line 61 = .ok (.invokevirtual 350, 3) := dk_182 1 94 (dk_at dksX3_line_2 15 rfl rfl)
theorem dX3_line_64 : decode cX3_line 64 = .ok (.aload_n 0, 1) := dk_42 (dk_at dksX3_line_2 18 rfl rfl)
theorem dX3_line_65 : decode cX3_line 65 = .ok (.bipush 32, 2) := dk_16 32 (dk_at dksX3_line_2 19 rfl rfl)
theorem dX3_line_67 : decode cX3_line 67 = .ok (.invokevirtual 347, 3) := dk_182 1 91 (dk_at dksX3_line_2 21 rfl rfl)
theorem dX3_line_70 : decode cX3_line 70 = .ok (.aload_n 0, 1) := dk_42 (dk_at dksX3_line_3 0 rfl rfl)
theorem dX3_line_71 : decode cX3_line 71 = .ok (.aload_n 0, 1) := dk_42 (dk_at dksX3_line_3 1 rfl rfl)
theorem dX3_line_72 : decode cX3_line 72 = .ok (.iload_n 1, 1) := dk_27 (dk_at dksX3_line_3 2 rfl rfl)
theorem dX3_line_73 : decode cX3_line 73 = .ok (.iconst 2, 1) := dk_5 (dk_at dksX3_line_3 3 rfl rfl)
theorem dX3_line_74 : decode cX3_line 74 = .ok (.invokevirtual 174, 3) := dk_182 0 174 (dk_at dksX3_line_3 4 rfl rfl)
theorem dX3_line_77 : decode cX3_line 77 = .ok (.invokevirtual 354, 3) := dk_182 1 98 (dk_at dksX3_line_3 7 rfl rfl)
theorem dX3_line_80 : decode cX3_line 80 = .ok (.aload_n 0, 1) := dk_42 (dk_at dksX3_line_3 10 rfl rfl)
theorem dX3_line_81 : decode cX3_line 81 = .ok (.bipush 32, 2) := dk_16 32 (dk_at dksX3_line_3 11 rfl rfl)
theorem dX3_line_83 : decode cX3_line 83 = .ok (.invokevirtual 347, 3) := dk_182 1 91 (dk_at dksX3_line_3 13 rfl rfl)
theorem dX3_line_86 : decode cX3_line 86 = .ok (.aload_n 0, 1) := dk_42 (dk_at dksX3_line_3 16 rfl rfl)
theorem dX3_line_87 : decode cX3_line 87 = .ok (.aload_n 0, 1) := dk_42 (dk_at dksX3_line_3 17 rfl rfl)
theorem dX3_line_88 : decode cX3_line 88 = .ok (.getfield 23, 3) := dk_180 0 23 (dk_at dksX3_line_3 18 rfl rfl)
theorem dX3_line_91 : decode cX3_line 91 = .ok (.bipush 8, 2) := dk_16 8 (dk_at dksX3_line_3 21 rfl rfl)
theorem dX3_line_93 : decode cX3_line 93 = .ok (.aload_n 0, 1) := dk_42 (dk_at dksX3_line_3 23 rfl rfl)
theorem dX3_line_94 : decode cX3_line 94 = .ok (.iload_n 1, 1) := dk_27 (dk_at dksX3_line_4 0 rfl rfl)
theorem dX3_line_95 : decode cX3_line 95 = .ok (.iconst 3, 1) := dk_6 (dk_at dksX3_line_4 1 rfl rfl)
theorem dX3_line_96 : decode cX3_line 96 = .ok (.invokevirtual 174, 3) := dk_182 0 174 (dk_at dksX3_line_4 2 rfl rfl)
theorem dX3_line_99 : decode cX3_line 99 = .ok (.iadd, 1) := dk_96 (dk_at dksX3_line_4 5 rfl rfl)
theorem dX3_line_100 : decode cX3_line 100 = .ok (.laload, 1) := dk_47 (dk_at dksX3_line_4 6 rfl rfl)
theorem dX3_line_101 : decode cX3_line 101 = .ok (.invokevirtual 350, 3) := dk_182 1 94 (dk_at dksX3_line_4 7 rfl rfl)
theorem dX3_line_104 : decode cX3_line 104 = .ok (.aload_n 0, 1) := dk_42 (dk_at dksX3_line_4 10 rfl rfl)
theorem dX3_line_105 : decode cX3_line 105 = .ok (.iload_n 1, 1) := dk_27 (dk_at dksX3_line_4 11 rfl rfl)
theorem dX3_line_106 : decode cX3_line 106 = .ok (.iconst 4, 1) := dk_7 (dk_at dksX3_line_4 12 rfl rfl)
theorem dX3_line_107 : decode cX3_line 107 = .ok (.invokevirtual 174, 3) := dk_182 0 174 (dk_at dksX3_line_4 13 rfl rfl)
theorem dX3_line_110 : decode cX3_line 110 = .ok (.iconst 1, 1) := dk_4 (dk_at dksX3_line_4 16 rfl rfl)
theorem dX3_line_111 : decode cX3_line 111 = .ok (.if_icmp .ne 15, 3) := dk_160 0 15 (dk_at dksX3_line_4 17 rfl rfl)
theorem dX3_line_114 : decode cX3_line 114 = .ok (.aload_n 0, 1) := dk_42 (dk_at dksX3_line_4 20 rfl rfl)
theorem dX3_line_115 : decode cX3_line 115 = .ok (.bipush 32, 2) := dk_16 32 (dk_at dksX3_line_4 21 rfl rfl)
theorem dX3_line_117 : decode cX3_line 117 = .ok (.invokevirtual 347, 3) := dk_182 1 91 (dk_at dksX3_line_5 0 rfl rfl)
theorem dX3_line_120 : decode cX3_line 120 = .ok (.aload_n 0, 1) := dk_42 (dk_at dksX3_line_5 3 rfl rfl)
theorem dX3_line_121 : decode cX3_line 121 = .ok (.bipush 42, 2) := dk_16 42 (dk_at dksX3_line_5 4 rfl rfl)
theorem dX3_line_123 : decode cX3_line 123 = .ok (.invokevirtual 347, 3) := dk_182 1 91 (dk_at dksX3_line_5 6 rfl rfl)
theorem dX3_line_126 : decode cX3_line 126 = .ok (.iload_n 2, 1) := dk_28 (dk_at dksX3_line_5 9 rfl rfl)
theorem dX3_line_127 : decode cX3_line 127 = .ok (.aload_n 0, 1) := dk_42 (dk_at dksX3_line_5 10 rfl rfl)
theorem dX3_line_128 : decode cX3_line 128 = .ok (.getfield 342, 3) := dk_180 1 86 (dk_at dksX3_line_5 11 rfl rfl)
theorem dX3_line_131 : decode cX3_line 131 = .ok (.if_icmp .ge 12, 3) := dk_162 0 12 (dk_at dksX3_line_5 14 rfl rfl)
theorem dX3_line_134 : decode cX3_line 134 = .ok (.aload_n 0, 1) := dk_42 (dk_at dksX3_line_5 17 rfl rfl)
theorem dX3_line_135 : decode cX3_line 135 = .ok (.getfield 74, 3) := dk_180 0 74 (dk_at dksX3_line_5 18 rfl rfl)
theorem dX3_line_138 : decode cX3_line 138 = .ok (.iload_n 2, 1) := dk_28 (dk_at dksX3_line_5 21 rfl rfl)
theorem dX3_line_139 : decode cX3_line 139 = .ok (.iaload, 1) := dk_46 (dk_at dksX3_line_5 22 rfl rfl)
theorem dX3_line_140 : decode cX3_line 140 = .ok (.goto 4, 3) := dk_167 0 4 (dk_at dksX3_line_6 0 rfl rfl)
theorem dX3_line_143 : decode cX3_line 143 = .ok (.iconst (-1), 1) := dk_2 (dk_at dksX3_line_6 3 rfl rfl)
theorem dX3_line_144 : decode cX3_line 144 = .ok (.ireturn, 1) := dk_172 (dk_at dksX3_line_6 4 rfl rfl)
abbrev cX3_putsName : ByteArray := prog_15_method_98_code
def yX3_putsName : MethodName := ⟨RX3, "putsName", "(J)V"⟩
def dkwX3_putsName_1 : List UInt8 := [20, 1, 89, 127, 136, 182, 1, 91, 132, 3, 248, 167, 255, 225, 177]
abbrev dktX3_putsName_1 : List UInt8 := dkwX3_putsName_1 ++ []
def dkwX3_putsName_0 : List UInt8 := [16, 56, 62, 29, 155, 0, 33, 31, 29, 123, 20, 1, 89, 127, 9, 148, 153, 0, 15, 42, 31, 29, 123]
abbrev dktX3_putsName_0 : List UInt8 := dkwX3_putsName_0 ++ dktX3_putsName_1
theorem dksX3_putsName_0 : cX3_putsName.data.toList.drop 0 = dktX3_putsName_0 := by decide +kernel
theorem dksX3_putsName_1 : cX3_putsName.data.toList.drop 23 = dktX3_putsName_1 := dk_seg dksX3_putsName_0 23 rfl rfl
theorem dX3_putsName_0 : decode cX3_putsName 0 = .ok (.bipush 56, 2) := dk_16 56 (dk_at dksX3_putsName_0 0 rfl rfl)
theorem dX3_putsName_2 : decode cX3_putsName 2 = .ok (.istore_n 3, 1) := dk_62 (dk_at dksX3_putsName_0 2 rfl rfl)
theorem dX3_putsName_3 : decode cX3_putsName 3 = .ok (.iload_n 3, 1) := dk_29 (dk_at dksX3_putsName_0 3 rfl rfl)
theorem dX3_putsName_4 : decode cX3_putsName 4 = .ok (.ifCond .lt 33, 3) := dk_155 0 33 (dk_at dksX3_putsName_0 4 rfl rfl)
theorem dX3_putsName_7 : decode cX3_putsName 7 = .ok (.lload_n 1, 1) := dk_31 (dk_at dksX3_putsName_0 7 rfl rfl)
theorem dX3_putsName_8 : decode cX3_putsName 8 = .ok (.iload_n 3, 1) := dk_29 (dk_at dksX3_putsName_0 8 rfl rfl)
theorem dX3_putsName_9 : decode cX3_putsName 9 = .ok (.lshr, 1) := dk_123 (dk_at dksX3_putsName_0 9 rfl rfl)
theorem dX3_putsName_10 : decode cX3_putsName 10 = .ok (.ldc2_w 345, 3) := dk_20 1 89 (dk_at dksX3_putsName_0 10 rfl rfl)
theorem dX3_putsName_13 : decode cX3_putsName 13 = .ok (.land, 1) := dk_127 (dk_at dksX3_putsName_0 13 rfl rfl)
theorem dX3_putsName_14 : decode cX3_putsName 14 = .ok (.lconst 0, 1) := dk_9 (dk_at dksX3_putsName_0 14 rfl rfl)
theorem dX3_putsName_15 : decode cX3_putsName 15 = .ok (.lcmp, 1) := dk_148 (dk_at dksX3_putsName_0 15 rfl rfl)
theorem dX3_putsName_16 : decode cX3_putsName 16 = .ok (.ifCond .eq 15, 3) := dk_153 0 15 (dk_at dksX3_putsName_0 16 rfl rfl)
theorem dX3_putsName_19 : decode cX3_putsName 19 = .ok (.aload_n 0, 1) := dk_42 (dk_at dksX3_putsName_0 19 rfl rfl)
theorem dX3_putsName_20 : decode cX3_putsName 20 = .ok (.lload_n 1, 1) := dk_31 (dk_at dksX3_putsName_0 20 rfl rfl)
theorem dX3_putsName_21 : decode cX3_putsName 21 = .ok (.iload_n 3, 1) := dk_29 (dk_at dksX3_putsName_0 21 rfl rfl)
theorem dX3_putsName_22 : decode cX3_putsName 22 = .ok (.lshr, 1) := dk_123 (dk_at dksX3_putsName_0 22 rfl rfl)
theorem dX3_putsName_23 : decode cX3_putsName 23 = .ok (.ldc2_w 345, 3) := dk_20 1 89 (dk_at dksX3_putsName_1 0 rfl rfl)
theorem dX3_putsName_26 : decode cX3_putsName 26 = .ok (.land, 1) := dk_127 (dk_at dksX3_putsName_1 3 rfl rfl)
theorem dX3_putsName_27 : decode cX3_putsName 27 = .ok (.l2i, 1) := dk_136 (dk_at dksX3_putsName_1 4 rfl rfl)
theorem dX3_putsName_28 : decode cX3_putsName 28 = .ok (.invokevirtual 347, 3) := dk_182 1 91 (dk_at dksX3_putsName_1 5 rfl rfl)
theorem dX3_putsName_31 : decode cX3_putsName 31 = .ok (.iinc 3 (-8), 3) := dk_132 3 248 (dk_at dksX3_putsName_1 8 rfl rfl)
theorem dX3_putsName_34 : decode cX3_putsName 34 = .ok (.goto (-31), 3) := dk_167 255 225 (dk_at dksX3_putsName_1 11 rfl rfl)
theorem dX3_putsName_37 : decode cX3_putsName 37 = .ok (.return_, 1) := dk_177 (dk_at dksX3_putsName_1 14 rfl rfl)
abbrev cX3_puts : ByteArray := prog_15_method_97_code
def yX3_puts : MethodName := ⟨RX3, "puts", "(I)V"⟩
def dkwX3_puts_0 : List UInt8 := [42, 180, 0, 74, 42, 180, 1, 86, 27, 79, 42, 89, 180, 1, 86, 4, 96, 181, 1, 86, 177]
abbrev dktX3_puts_0 : List UInt8 := dkwX3_puts_0 ++ []
theorem dksX3_puts_0 : cX3_puts.data.toList.drop 0 = dktX3_puts_0 := by decide +kernel
theorem dX3_puts_0 : decode cX3_puts 0 = .ok (.aload_n 0, 1) := dk_42 (dk_at dksX3_puts_0 0 rfl rfl)
theorem dX3_puts_1 : decode cX3_puts 1 = .ok (.getfield 74, 3) := dk_180 0 74 (dk_at dksX3_puts_0 1 rfl rfl)
theorem dX3_puts_4 : decode cX3_puts 4 = .ok (.aload_n 0, 1) := dk_42 (dk_at dksX3_puts_0 4 rfl rfl)
theorem dX3_puts_5 : decode cX3_puts 5 = .ok (.getfield 342, 3) := dk_180 1 86 (dk_at dksX3_puts_0 5 rfl rfl)
theorem dX3_puts_8 : decode cX3_puts 8 = .ok (.iload_n 1, 1) := dk_27 (dk_at dksX3_puts_0 8 rfl rfl)
theorem dX3_puts_9 : decode cX3_puts 9 = .ok (.iastore, 1) := dk_79 (dk_at dksX3_puts_0 9 rfl rfl)
theorem dX3_puts_10 : decode cX3_puts 10 = .ok (.aload_n 0, 1) := dk_42 (dk_at dksX3_puts_0 10 rfl rfl)
theorem dX3_puts_11 : decode cX3_puts 11 = .ok (.dup, 1) := dk_89 (dk_at dksX3_puts_0 11 rfl rfl)
theorem dX3_puts_12 : decode cX3_puts 12 = .ok (.getfield 342, 3) := dk_180 1 86 (dk_at dksX3_puts_0 12 rfl rfl)
theorem dX3_puts_15 : decode cX3_puts 15 = .ok (.iconst 1, 1) := dk_4 (dk_at dksX3_puts_0 15 rfl rfl)
theorem dX3_puts_16 : decode cX3_puts 16 = .ok (.iadd, 1) := dk_96 (dk_at dksX3_puts_0 16 rfl rfl)
theorem dX3_puts_17 : decode cX3_puts 17 = .ok (.putfield 342, 3) := dk_181 1 86 (dk_at dksX3_puts_0 17 rfl rfl)
theorem dX3_puts_20 : decode cX3_puts 20 = .ok (.return_, 1) := dk_177 (dk_at dksX3_puts_0 20 rfl rfl)
abbrev cX3_putsNumber : ByteArray := prog_15_method_99_code
def yX3_putsNumber : MethodName := ⟨RX3, "putsNumber", "(I)V"⟩
def dkwX3_putsNumber_1 : List UInt8 := [42, 16, 48, 27, 29, 108, 16, 10, 112, 96, 182, 1, 91, 29, 16, 10, 108, 62, 167, 255, 234, 177]
abbrev dktX3_putsNumber_1 : List UInt8 := dkwX3_putsNumber_1 ++ []
def dkwX3_putsNumber_0 : List UInt8 := [4, 61, 27, 28, 108, 16, 9, 164, 0, 11, 28, 16, 10, 104, 61, 167, 255, 243, 28, 62, 29, 158, 0, 24]
abbrev dktX3_putsNumber_0 : List UInt8 := dkwX3_putsNumber_0 ++ dktX3_putsNumber_1
theorem dksX3_putsNumber_0 : cX3_putsNumber.data.toList.drop 0 = dktX3_putsNumber_0 := by decide +kernel
theorem dksX3_putsNumber_1 : cX3_putsNumber.data.toList.drop 24 = dktX3_putsNumber_1 := dk_seg dksX3_putsNumber_0 24 rfl rfl
theorem dX3_putsNumber_0 : decode cX3_putsNumber 0 = .ok (.iconst 1, 1) := dk_4 (dk_at dksX3_putsNumber_0 0 rfl rfl)
theorem dX3_putsNumber_1 : decode cX3_putsNumber 1 = .ok (.istore_n 2, 1) := dk_61 (dk_at dksX3_putsNumber_0 1 rfl rfl)
theorem dX3_putsNumber_2 : decode cX3_putsNumber 2 = .ok (.iload_n 1, 1) := dk_27 (dk_at dksX3_putsNumber_0 2 rfl rfl)
theorem dX3_putsNumber_3 : decode cX3_putsNumber 3 = .ok (.iload_n 2, 1) := dk_28 (dk_at dksX3_putsNumber_0 3 rfl rfl)
theorem dX3_putsNumber_4 : decode cX3_putsNumber 4 = .ok (.idiv, 1) := dk_108 (dk_at dksX3_putsNumber_0 4 rfl rfl)
theorem dX3_putsNumber_5 : decode cX3_putsNumber 5 = .ok (.bipush 9, 2) := dk_16 9 (dk_at dksX3_putsNumber_0 5 rfl rfl)
theorem dX3_putsNumber_7 : decode cX3_putsNumber 7 = .ok (.if_icmp .le 11, 3) := dk_164 0 11 (dk_at dksX3_putsNumber_0 7 rfl rfl)
theorem dX3_putsNumber_10 : decode cX3_putsNumber 10 = .ok (.iload_n 2, 1) := dk_28 (dk_at dksX3_putsNumber_0 10 rfl rfl)
theorem dX3_putsNumber_11 : decode cX3_putsNumber 11 = .ok (.bipush 10, 2) := dk_16 10 (dk_at dksX3_putsNumber_0 11 rfl rfl)
theorem dX3_putsNumber_13 : decode cX3_putsNumber 13 = .ok (.imul, 1) := dk_104 (dk_at dksX3_putsNumber_0 13 rfl rfl)
theorem dX3_putsNumber_14 : decode cX3_putsNumber 14 = .ok (.istore_n 2, 1) := dk_61 (dk_at dksX3_putsNumber_0 14 rfl rfl)
theorem dX3_putsNumber_15 : decode cX3_putsNumber 15 = .ok (.goto (-13), 3) := dk_167 255 243 (dk_at dksX3_putsNumber_0 15 rfl rfl)
theorem dX3_putsNumber_18 : decode cX3_putsNumber 18 = .ok (.iload_n 2, 1) := dk_28 (dk_at dksX3_putsNumber_0 18 rfl rfl)
theorem dX3_putsNumber_19 : decode cX3_putsNumber 19 = .ok (.istore_n 3, 1) := dk_62 (dk_at dksX3_putsNumber_0 19 rfl rfl)
theorem dX3_putsNumber_20 : decode cX3_putsNumber 20 = .ok (.iload_n 3, 1) := dk_29 (dk_at dksX3_putsNumber_0 20 rfl rfl)
theorem dX3_putsNumber_21 : decode cX3_putsNumber 21 = .ok (.ifCond .le 24, 3) := dk_158 0 24 (dk_at dksX3_putsNumber_0 21 rfl rfl)
theorem dX3_putsNumber_24 : decode cX3_putsNumber 24 = .ok (.aload_n 0, 1) := dk_42 (dk_at dksX3_putsNumber_1 0 rfl rfl)
theorem dX3_putsNumber_25 : decode cX3_putsNumber 25 = .ok (.bipush 48, 2) := dk_16 48 (dk_at dksX3_putsNumber_1 1 rfl rfl)
theorem dX3_putsNumber_27 : decode cX3_putsNumber 27 = .ok (.iload_n 1, 1) := dk_27 (dk_at dksX3_putsNumber_1 3 rfl rfl)
theorem dX3_putsNumber_28 : decode cX3_putsNumber 28 = .ok (.iload_n 3, 1) := dk_29 (dk_at dksX3_putsNumber_1 4 rfl rfl)
theorem dX3_putsNumber_29 : decode cX3_putsNumber 29 = .ok (.idiv, 1) := dk_108 (dk_at dksX3_putsNumber_1 5 rfl rfl)
theorem dX3_putsNumber_30 : decode cX3_putsNumber 30 = .ok (.bipush 10, 2) := dk_16 10 (dk_at dksX3_putsNumber_1 6 rfl rfl)
theorem dX3_putsNumber_32 : decode cX3_putsNumber 32 = .ok (.irem, 1) := dk_112 (dk_at dksX3_putsNumber_1 8 rfl rfl)
theorem dX3_putsNumber_33 : decode cX3_putsNumber 33 = .ok (.iadd, 1) := dk_96 (dk_at dksX3_putsNumber_1 9 rfl rfl)
theorem dX3_putsNumber_34 : decode cX3_putsNumber 34 = .ok (.invokevirtual 347, 3) := dk_182 1 91 (dk_at dksX3_putsNumber_1 10 rfl rfl)
theorem dX3_putsNumber_37 : decode cX3_putsNumber 37 = .ok (.iload_n 3, 1) := dk_29 (dk_at dksX3_putsNumber_1 13 rfl rfl)
theorem dX3_putsNumber_38 : decode cX3_putsNumber 38 = .ok (.bipush 10, 2) := dk_16 10 (dk_at dksX3_putsNumber_1 14 rfl rfl)
theorem dX3_putsNumber_40 : decode cX3_putsNumber 40 = .ok (.idiv, 1) := dk_108 (dk_at dksX3_putsNumber_1 16 rfl rfl)
theorem dX3_putsNumber_41 : decode cX3_putsNumber 41 = .ok (.istore_n 3, 1) := dk_62 (dk_at dksX3_putsNumber_1 17 rfl rfl)
theorem dX3_putsNumber_42 : decode cX3_putsNumber 42 = .ok (.goto (-22), 3) := dk_167 255 234 (dk_at dksX3_putsNumber_1 18 rfl rfl)
theorem dX3_putsNumber_45 : decode cX3_putsNumber 45 = .ok (.return_, 1) := dk_177 (dk_at dksX3_putsNumber_1 21 rfl rfl)
abbrev cX3_count : ByteArray := prog_15_method_102_code
def yX3_count : MethodName := ⟨RX3, "count", "(I)I"⟩
def dkwX3_count_3 : List UInt8 := [180, 0, 13, 4, 46, 172, 42, 180, 0, 195, 172, 42, 180, 0, 87, 172, 2, 172]
abbrev dktX3_count_3 : List UInt8 := dkwX3_count_3 ++ []
def dkwX3_count_2 : List UInt8 := [42, 180, 0, 80, 172, 42, 180, 0, 83, 172, 42, 180, 0, 13, 3, 46, 172, 42, 182, 1, 101, 172, 42]
abbrev dktX3_count_2 : List UInt8 := dkwX3_count_2 ++ dktX3_count_3
def dkwX3_count_1 : List UInt8 := [170, 0, 0, 0, 0, 81, 0, 0, 0, 0, 0, 0, 0, 6, 0, 0, 0, 42, 0, 0, 0, 47, 0, 0, 0, 52, 0, 0, 0, 59, 0, 0, 0, 64, 0, 0, 0, 71, 0, 0, 0, 76]
abbrev dktX3_count_1 : List UInt8 := dkwX3_count_1 ++ dktX3_count_2
def dkwX3_count_0 : List UInt8 := [42, 3, 181, 0, 1, 27]
abbrev dktX3_count_0 : List UInt8 := dkwX3_count_0 ++ dktX3_count_1
theorem dksX3_count_0 : cX3_count.data.toList.drop 0 = dktX3_count_0 := by decide +kernel
theorem dksX3_count_1 : cX3_count.data.toList.drop 6 = dktX3_count_1 := dk_seg dksX3_count_0 6 rfl rfl
theorem dksX3_count_2 : cX3_count.data.toList.drop 48 = dktX3_count_2 := dk_seg dksX3_count_1 42 rfl rfl
theorem dksX3_count_3 : cX3_count.data.toList.drop 71 = dktX3_count_3 := dk_seg dksX3_count_2 23 rfl rfl
theorem dX3_count_0 : decode cX3_count 0 = .ok (.aload_n 0, 1) := dk_42 (dk_at dksX3_count_0 0 rfl rfl)
theorem dX3_count_1 : decode cX3_count 1 = .ok (.iconst 0, 1) := dk_3 (dk_at dksX3_count_0 1 rfl rfl)
theorem dX3_count_2 : decode cX3_count 2 = .ok (.putfield 1, 3) := dk_181 0 1 (dk_at dksX3_count_0 2 rfl rfl)
theorem dX3_count_5 : decode cX3_count 5 = .ok (.iload_n 1, 1) := dk_27 (dk_at dksX3_count_0 5 rfl rfl)
theorem dX3_count_6 : decode cX3_count 6 = .ok (.tableswitch 81 0 6 #[42, 47, 52, 59, 64, 71, 76], 42) := by decide +kernel
theorem dX3_count_48 : decode cX3_count 48 = .ok (.aload_n 0, 1) := dk_42 (dk_at dksX3_count_2 0 rfl rfl)
theorem dX3_count_49 : decode cX3_count 49 = .ok (.getfield 80, 3) := dk_180 0 80 (dk_at dksX3_count_2 1 rfl rfl)
theorem dX3_count_52 : decode cX3_count 52 = .ok (.ireturn, 1) := dk_172 (dk_at dksX3_count_2 4 rfl rfl)
theorem dX3_count_53 : decode cX3_count 53 = .ok (.aload_n 0, 1) := dk_42 (dk_at dksX3_count_2 5 rfl rfl)
theorem dX3_count_54 : decode cX3_count 54 = .ok (.getfield 83, 3) := dk_180 0 83 (dk_at dksX3_count_2 6 rfl rfl)
theorem dX3_count_57 : decode cX3_count 57 = .ok (.ireturn, 1) := dk_172 (dk_at dksX3_count_2 9 rfl rfl)
theorem dX3_count_58 : decode cX3_count 58 = .ok (.aload_n 0, 1) := dk_42 (dk_at dksX3_count_2 10 rfl rfl)
theorem dX3_count_59 : decode cX3_count 59 = .ok (.getfield 13, 3) := dk_180 0 13 (dk_at dksX3_count_2 11 rfl rfl)
theorem dX3_count_62 : decode cX3_count 62 = .ok (.iconst 0, 1) := dk_3 (dk_at dksX3_count_2 14 rfl rfl)
theorem dX3_count_63 : decode cX3_count 63 = .ok (.iaload, 1) := dk_46 (dk_at dksX3_count_2 15 rfl rfl)
theorem dX3_count_64 : decode cX3_count 64 = .ok (.ireturn, 1) := dk_172 (dk_at dksX3_count_2 16 rfl rfl)
theorem dX3_count_65 : decode cX3_count 65 = .ok (.aload_n 0, 1) := dk_42 (dk_at dksX3_count_2 17 rfl rfl)
theorem dX3_count_66 : decode cX3_count 66 = .ok (.invokevirtual 357, 3) := dk_182 1 101 (dk_at dksX3_count_2 18 rfl rfl)
theorem dX3_count_69 : decode cX3_count 69 = .ok (.ireturn, 1) := dk_172 (dk_at dksX3_count_2 21 rfl rfl)
theorem dX3_count_70 : decode cX3_count 70 = .ok (.aload_n 0, 1) := dk_42 (dk_at dksX3_count_2 22 rfl rfl)
theorem dX3_count_71 : decode cX3_count 71 = .ok (.getfield 13, 3) := dk_180 0 13 (dk_at dksX3_count_3 0 rfl rfl)
theorem dX3_count_74 : decode cX3_count 74 = .ok (.iconst 1, 1) := dk_4 (dk_at dksX3_count_3 3 rfl rfl)
theorem dX3_count_75 : decode cX3_count 75 = .ok (.iaload, 1) := dk_46 (dk_at dksX3_count_3 4 rfl rfl)
theorem dX3_count_76 : decode cX3_count 76 = .ok (.ireturn, 1) := dk_172 (dk_at dksX3_count_3 5 rfl rfl)
theorem dX3_count_77 : decode cX3_count 77 = .ok (.aload_n 0, 1) := dk_42 (dk_at dksX3_count_3 6 rfl rfl)
theorem dX3_count_78 : decode cX3_count 78 = .ok (.getfield 195, 3) := dk_180 0 195 (dk_at dksX3_count_3 7 rfl rfl)
theorem dX3_count_81 : decode cX3_count 81 = .ok (.ireturn, 1) := dk_172 (dk_at dksX3_count_3 10 rfl rfl)
theorem dX3_count_82 : decode cX3_count 82 = .ok (.aload_n 0, 1) := dk_42 (dk_at dksX3_count_3 11 rfl rfl)
theorem dX3_count_83 : decode cX3_count 83 = .ok (.getfield 87, 3) := dk_180 0 87 (dk_at dksX3_count_3 12 rfl rfl)
theorem dX3_count_86 : decode cX3_count 86 = .ok (.ireturn, 1) := dk_172 (dk_at dksX3_count_3 15 rfl rfl)
theorem dX3_count_87 : decode cX3_count 87 = .ok (.iconst (-1), 1) := dk_2 (dk_at dksX3_count_3 16 rfl rfl)
theorem dX3_count_88 : decode cX3_count 88 = .ok (.ireturn, 1) := dk_172 (dk_at dksX3_count_3 17 rfl rfl)
abbrev cX3_keptMany : ByteArray := prog_15_method_101_code
def yX3_keptMany : MethodName := ⟨RX3, "keptMany", "()I"⟩
def dkwX3_keptMany_1 : List UInt8 := [132, 2, 1, 167, 255, 234, 27, 172]
abbrev dktX3_keptMany_1 : List UInt8 := dkwX3_keptMany_1 ++ []
def dkwX3_keptMany_0 : List UInt8 := [3, 60, 3, 61, 28, 42, 180, 0, 13, 3, 46, 162, 0, 18, 27, 42, 28, 7, 182, 0, 174, 96, 60]
abbrev dktX3_keptMany_0 : List UInt8 := dkwX3_keptMany_0 ++ dktX3_keptMany_1
theorem dksX3_keptMany_0 : cX3_keptMany.data.toList.drop 0 = dktX3_keptMany_0 := by decide +kernel
theorem dksX3_keptMany_1 : cX3_keptMany.data.toList.drop 23 = dktX3_keptMany_1 := dk_seg dksX3_keptMany_0 23 rfl rfl
theorem dX3_keptMany_0 : decode cX3_keptMany 0 = .ok (.iconst 0, 1) := dk_3 (dk_at dksX3_keptMany_0 0 rfl rfl)
theorem dX3_keptMany_1 : decode cX3_keptMany 1 = .ok (.istore_n 1, 1) := dk_60 (dk_at dksX3_keptMany_0 1 rfl rfl)
theorem dX3_keptMany_2 : decode cX3_keptMany 2 = .ok (.iconst 0, 1) := dk_3 (dk_at dksX3_keptMany_0 2 rfl rfl)
theorem dX3_keptMany_3 : decode cX3_keptMany 3 = .ok (.istore_n 2, 1) := dk_61 (dk_at dksX3_keptMany_0 3 rfl rfl)
theorem dX3_keptMany_4 : decode cX3_keptMany 4 = .ok (.iload_n 2, 1) := dk_28 (dk_at dksX3_keptMany_0 4 rfl rfl)
theorem dX3_keptMany_5 : decode cX3_keptMany 5 = .ok (.aload_n 0, 1) := dk_42 (dk_at dksX3_keptMany_0 5 rfl rfl)
theorem dX3_keptMany_6 : decode cX3_keptMany 6 = .ok (.getfield 13, 3) := dk_180 0 13 (dk_at dksX3_keptMany_0 6 rfl rfl)
theorem dX3_keptMany_9 : decode cX3_keptMany 9 = .ok (.iconst 0, 1) := dk_3 (dk_at dksX3_keptMany_0 9 rfl rfl)
theorem dX3_keptMany_10 : decode cX3_keptMany 10 = .ok (.iaload, 1) := dk_46 (dk_at dksX3_keptMany_0 10 rfl rfl)
theorem dX3_keptMany_11 : decode cX3_keptMany 11 = .ok (.if_icmp .ge 18, 3) := dk_162 0 18 (dk_at dksX3_keptMany_0 11 rfl rfl)
theorem dX3_keptMany_14 : decode cX3_keptMany 14 = .ok (.iload_n 1, 1) := dk_27 (dk_at dksX3_keptMany_0 14 rfl rfl)
theorem dX3_keptMany_15 : decode cX3_keptMany 15 = .ok (.aload_n 0, 1) := dk_42 (dk_at dksX3_keptMany_0 15 rfl rfl)
theorem dX3_keptMany_16 : decode cX3_keptMany 16 = .ok (.iload_n 2, 1) := dk_28 (dk_at dksX3_keptMany_0 16 rfl rfl)
theorem dX3_keptMany_17 : decode cX3_keptMany 17 = .ok (.iconst 4, 1) := dk_7 (dk_at dksX3_keptMany_0 17 rfl rfl)
theorem dX3_keptMany_18 : decode cX3_keptMany 18 = .ok (.invokevirtual 174, 3) := dk_182 0 174 (dk_at dksX3_keptMany_0 18 rfl rfl)
theorem dX3_keptMany_21 : decode cX3_keptMany 21 = .ok (.iadd, 1) := dk_96 (dk_at dksX3_keptMany_0 21 rfl rfl)
theorem dX3_keptMany_22 : decode cX3_keptMany 22 = .ok (.istore_n 1, 1) := dk_60 (dk_at dksX3_keptMany_0 22 rfl rfl)
theorem dX3_keptMany_23 : decode cX3_keptMany 23 = .ok (.iinc 2 1, 3) := dk_132 2 1 (dk_at dksX3_keptMany_1 0 rfl rfl)
theorem dX3_keptMany_26 : decode cX3_keptMany 26 = .ok (.goto (-22), 3) := dk_167 255 234 (dk_at dksX3_keptMany_1 3 rfl rfl)
theorem dX3_keptMany_29 : decode cX3_keptMany 29 = .ok (.iload_n 1, 1) := dk_27 (dk_at dksX3_keptMany_1 6 rfl rfl)
theorem dX3_keptMany_30 : decode cX3_keptMany 30 = .ok (.ireturn, 1) := dk_172 (dk_at dksX3_keptMany_1 7 rfl rfl)
theorem q107 : (Jvm.Cond.initialized "SwapPressModel") ∈ lw_all := lw_g (lw_at lw_m1 7 rfl) rfl
theorem q713 : (Jvm.Cond.selects "SwapPressModel" ({ cls := "java/lang/Object", name := "equals", desc := "(Ljava/lang/Object;)Z" } : Jvm.MethodName) ({ cls := "java/lang/Object", name := "equals", desc := "(Ljava/lang/Object;)Z" } : Jvm.MethodName)) ∈ lw_all := lw_g (lw_at lw_m3 133 rfl) rfl
theorem q753 : (Jvm.Cond.selects "SwapPressModel" ({ cls := "java/lang/Object", name := "getClass", desc := "()Ljava/lang/Class;" } : Jvm.MethodName) ({ cls := "java/lang/Object", name := "getClass", desc := "()Ljava/lang/Class;" } : Jvm.MethodName)) ∈ lw_all := lw_g (lw_at lw_m3 173 rfl) rfl
theorem q1507 : (Jvm.Cond.instantiable "SwapPressModel" (32 : Nat)) ∈ lw_all := lw_g (lw_at lw_m6 207 rfl) rfl
theorem q1509 : (Jvm.Cond.instanceMethod ({ cls := "SwapPressModel", name := "<init>", desc := "()V" } : Jvm.MethodName)) ∈ lw_all := lw_g (lw_at lw_m6 209 rfl) rfl
theorem q1510 : (Jvm.Cond.code ({ cls := "SwapPressModel", name := "<init>", desc := "()V" } : Jvm.MethodName) prog_15_method_3_code (1 : Nat) (Option.none : Option Jvm.ClassFile.FieldType)) ∈ lw_all := lw_g (lw_at lw_m6 210 rfl) rfl
theorem q1511 : (Jvm.Cond.methodLink "SwapPressModel" (7 : Nat) ({ cls := "java/lang/Object", name := "<init>", desc := "()V" } : Jvm.MethodName)) ∈ lw_all := lw_g (lw_at lw_m6 211 rfl) rfl
theorem q1512 : (Jvm.Cond.methodLink "SwapPressModel" (77 : Nat) ({ cls := "SwapPressModel", name := "plain", desc := "()V" } : Jvm.MethodName)) ∈ lw_all := lw_g (lw_at lw_m6 212 rfl) rfl
theorem q1513 : (Jvm.Cond.privateMethod ({ cls := "SwapPressModel", name := "plain", desc := "()V" } : Jvm.MethodName)) ∈ lw_tbl := lw_at lw_m6 213 rfl
theorem q1514 : (Jvm.Cond.instanceMethod ({ cls := "SwapPressModel", name := "plain", desc := "()V" } : Jvm.MethodName)) ∈ lw_all := lw_g (lw_at lw_m6 214 rfl) rfl
theorem q1515 : (Jvm.Cond.code ({ cls := "SwapPressModel", name := "plain", desc := "()V" } : Jvm.MethodName) prog_15_method_4_code (2 : Nat) (Option.none : Option Jvm.ClassFile.FieldType)) ∈ lw_all := lw_g (lw_at lw_m6 215 rfl) rfl
theorem q1516 : (Jvm.Cond.constant "SwapPressModel" (86 : Nat) (99999999 : Int32)) ∈ lw_all := lw_g (lw_at lw_m6 216 rfl) rfl
theorem q1517 : (Jvm.Cond.fieldLink "SwapPressModel" (13 : Nat) "SwapPressModel" "s" "[I") ∈ lw_all := lw_g (lw_at lw_m6 217 rfl) rfl
theorem q1518 : (Jvm.Cond.fieldLink "SwapPressModel" (17 : Nat) "SwapPressModel" "saved" "[I") ∈ lw_all := lw_g (lw_at lw_m6 218 rfl) rfl
theorem q1519 : (Jvm.Cond.fieldLink "SwapPressModel" (20 : Nat) "SwapPressModel" "acts" "[I") ∈ lw_all := lw_g (lw_at lw_m6 219 rfl) rfl
theorem q1520 : (Jvm.Cond.fieldLink "SwapPressModel" (23 : Nat) "SwapPressModel" "names" "[J") ∈ lw_all := lw_g (lw_at lw_m6 220 rfl) rfl
theorem q1521 : (Jvm.Cond.fieldLink "SwapPressModel" (27 : Nat) "SwapPressModel" "savedNames" "[J") ∈ lw_all := lw_g (lw_at lw_m6 221 rfl) rfl
theorem q1522 : (Jvm.Cond.fieldLink "SwapPressModel" (80 : Nat) "SwapPressModel" "parties" "I") ∈ lw_all := lw_g (lw_at lw_m6 222 rfl) rfl
theorem q1523 : (Jvm.Cond.fieldLink "SwapPressModel" (83 : Nat) "SwapPressModel" "kinds" "I") ∈ lw_all := lw_g (lw_at lw_m6 223 rfl) rfl
theorem q1524 : (Jvm.Cond.fieldLink "SwapPressModel" (195 : Nat) "SwapPressModel" "actMany" "I") ∈ lw_all := lw_g (lw_at lw_m6 224 rfl) rfl
theorem q1525 : (Jvm.Cond.fieldLink "SwapPressModel" (1 : Nat) "SwapPressModel" "thrown" "I") ∈ lw_all := lw_g (lw_at lw_m6 225 rfl) rfl
theorem q1526 : (Jvm.Cond.fieldLink "SwapPressModel" (30 : Nat) "SwapPressModel" "tape" "[B") ∈ lw_all := lw_g (lw_at lw_m6 226 rfl) rfl
theorem q1527 : (Jvm.Cond.fieldLink "SwapPressModel" (87 : Nat) "SwapPressModel" "taped" "I") ∈ lw_all := lw_g (lw_at lw_m6 227 rfl) rfl
theorem q1528 : (Jvm.Cond.fieldLink "SwapPressModel" (93 : Nat) "SwapPressModel" "size" "I") ∈ lw_all := lw_g (lw_at lw_m6 228 rfl) rfl
theorem q1529 : (Jvm.Cond.fieldLink "SwapPressModel" (90 : Nat) "SwapPressModel" "spot" "I") ∈ lw_all := lw_g (lw_at lw_m6 229 rfl) rfl
theorem q1530 : (Jvm.Cond.fieldLink "SwapPressModel" (96 : Nat) "SwapPressModel" "wrong" "I") ∈ lw_all := lw_g (lw_at lw_m6 230 rfl) rfl
theorem q1531 : (Jvm.Cond.fieldLink "SwapPressModel" (34 : Nat) "SwapPressModel" "wrongAt" "I") ∈ lw_all := lw_g (lw_at lw_m6 231 rfl) rfl
theorem q1532 : (Jvm.Cond.fieldLink "SwapPressModel" (157 : Nat) "SwapPressModel" "seen" "I") ∈ lw_all := lw_g (lw_at lw_m6 232 rfl) rfl
theorem q1533 : (Jvm.Cond.fieldLink "SwapPressModel" (140 : Nat) "SwapPressModel" "readAt" "I") ∈ lw_all := lw_g (lw_at lw_m6 233 rfl) rfl
theorem q1534 : (Jvm.Cond.fieldLink "SwapPressModel" (37 : Nat) "SwapPressModel" "flows" "[I") ∈ lw_all := lw_g (lw_at lw_m6 234 rfl) rfl
theorem q1535 : (Jvm.Cond.fieldLink "SwapPressModel" (40 : Nat) "SwapPressModel" "way" "[I") ∈ lw_all := lw_g (lw_at lw_m6 235 rfl) rfl
theorem q1536 : (Jvm.Cond.fieldLink "SwapPressModel" (265 : Nat) "SwapPressModel" "ringMany" "I") ∈ lw_all := lw_g (lw_at lw_m6 236 rfl) rfl
theorem q1537 : (Jvm.Cond.fieldLink "SwapPressModel" (43 : Nat) "SwapPressModel" "rowFrom" "[I") ∈ lw_all := lw_g (lw_at lw_m6 237 rfl) rfl
theorem q1538 : (Jvm.Cond.fieldLink "SwapPressModel" (46 : Nat) "SwapPressModel" "bounds" "[I") ∈ lw_all := lw_g (lw_at lw_m6 238 rfl) rfl
theorem q1539 : (Jvm.Cond.fieldLink "SwapPressModel" (49 : Nat) "SwapPressModel" "its0" "[I") ∈ lw_all := lw_g (lw_at lw_m6 239 rfl) rfl
theorem q1540 : (Jvm.Cond.fieldLink "SwapPressModel" (52 : Nat) "SwapPressModel" "may" "[I") ∈ lw_all := lw_g (lw_at lw_m7 0 rfl) rfl
theorem q1541 : (Jvm.Cond.fieldLink "SwapPressModel" (55 : Nat) "SwapPressModel" "through" "[I") ∈ lw_all := lw_g (lw_at lw_m7 1 rfl) rfl
theorem q1542 : (Jvm.Cond.fieldLink "SwapPressModel" (58 : Nat) "SwapPressModel" "needs" "[I") ∈ lw_all := lw_g (lw_at lw_m7 2 rfl) rfl
theorem q1543 : (Jvm.Cond.fieldLink "SwapPressModel" (61 : Nat) "SwapPressModel" "isFixed" "[Z") ∈ lw_all := lw_g (lw_at lw_m7 3 rfl) rfl
theorem q1544 : (Jvm.Cond.fieldLink "SwapPressModel" (65 : Nat) "SwapPressModel" "dear" "[I") ∈ lw_all := lw_g (lw_at lw_m7 4 rfl) rfl
theorem q1545 : (Jvm.Cond.fieldLink "SwapPressModel" (68 : Nat) "SwapPressModel" "by" "[I") ∈ lw_all := lw_g (lw_at lw_m7 5 rfl) rfl
theorem q1546 : (Jvm.Cond.fieldLink "SwapPressModel" (71 : Nat) "SwapPressModel" "groups" "[I") ∈ lw_all := lw_g (lw_at lw_m7 6 rfl) rfl
theorem q1547 : (Jvm.Cond.fieldLink "SwapPressModel" (74 : Nat) "SwapPressModel" "bytes" "[I") ∈ lw_all := lw_g (lw_at lw_m7 7 rfl) rfl
theorem q1548 : (Jvm.Cond.fieldLink "SwapPressModel" (342 : Nat) "SwapPressModel" "byteMany" "I") ∈ lw_all := lw_g (lw_at lw_m7 8 rfl) rfl
theorem q1549 : (Jvm.Cond.laysFinal "SwapPressModel" "SwapPressModel" "s" "[I") ∈ lw_all := lw_g (lw_at lw_m7 9 rfl) rfl
theorem q1550 : (Jvm.Cond.soleField "SwapPressModel" "s") ∈ lw_all := lw_g (lw_at lw_m7 10 rfl) rfl
theorem q1551 : (Jvm.Cond.laysFinal "SwapPressModel" "SwapPressModel" "saved" "[I") ∈ lw_all := lw_g (lw_at lw_m7 11 rfl) rfl
theorem q1552 : (Jvm.Cond.soleField "SwapPressModel" "saved") ∈ lw_all := lw_g (lw_at lw_m7 12 rfl) rfl
theorem q1553 : (Jvm.Cond.laysFinal "SwapPressModel" "SwapPressModel" "acts" "[I") ∈ lw_all := lw_g (lw_at lw_m7 13 rfl) rfl
theorem q1554 : (Jvm.Cond.soleField "SwapPressModel" "acts") ∈ lw_all := lw_g (lw_at lw_m7 14 rfl) rfl
theorem q1555 : (Jvm.Cond.laysFinal "SwapPressModel" "SwapPressModel" "names" "[J") ∈ lw_all := lw_g (lw_at lw_m7 15 rfl) rfl
theorem q1556 : (Jvm.Cond.soleField "SwapPressModel" "names") ∈ lw_all := lw_g (lw_at lw_m7 16 rfl) rfl
theorem q1557 : (Jvm.Cond.laysFinal "SwapPressModel" "SwapPressModel" "savedNames" "[J") ∈ lw_all := lw_g (lw_at lw_m7 17 rfl) rfl
theorem q1558 : (Jvm.Cond.soleField "SwapPressModel" "savedNames") ∈ lw_all := lw_g (lw_at lw_m7 18 rfl) rfl
theorem q1559 : (Jvm.Cond.lays "SwapPressModel" "SwapPressModel" "parties" "I") ∈ lw_all := lw_g (lw_at lw_m7 19 rfl) rfl
theorem q1560 : (Jvm.Cond.soleField "SwapPressModel" "parties") ∈ lw_all := lw_g (lw_at lw_m7 20 rfl) rfl
theorem q1561 : (Jvm.Cond.lays "SwapPressModel" "SwapPressModel" "kinds" "I") ∈ lw_all := lw_g (lw_at lw_m7 21 rfl) rfl
theorem q1562 : (Jvm.Cond.soleField "SwapPressModel" "kinds") ∈ lw_all := lw_g (lw_at lw_m7 22 rfl) rfl
theorem q1563 : (Jvm.Cond.lays "SwapPressModel" "SwapPressModel" "actMany" "I") ∈ lw_all := lw_g (lw_at lw_m7 23 rfl) rfl
theorem q1564 : (Jvm.Cond.soleField "SwapPressModel" "actMany") ∈ lw_all := lw_g (lw_at lw_m7 24 rfl) rfl
theorem q1565 : (Jvm.Cond.lays "SwapPressModel" "SwapPressModel" "thrown" "I") ∈ lw_all := lw_g (lw_at lw_m7 25 rfl) rfl
theorem q1566 : (Jvm.Cond.soleField "SwapPressModel" "thrown") ∈ lw_all := lw_g (lw_at lw_m7 26 rfl) rfl
theorem q1567 : (Jvm.Cond.laysFinal "SwapPressModel" "SwapPressModel" "tape" "[B") ∈ lw_all := lw_g (lw_at lw_m7 27 rfl) rfl
theorem q1568 : (Jvm.Cond.soleField "SwapPressModel" "tape") ∈ lw_all := lw_g (lw_at lw_m7 28 rfl) rfl
theorem q1569 : (Jvm.Cond.lays "SwapPressModel" "SwapPressModel" "taped" "I") ∈ lw_all := lw_g (lw_at lw_m7 29 rfl) rfl
theorem q1570 : (Jvm.Cond.soleField "SwapPressModel" "taped") ∈ lw_all := lw_g (lw_at lw_m7 30 rfl) rfl
theorem q1571 : (Jvm.Cond.lays "SwapPressModel" "SwapPressModel" "size" "I") ∈ lw_all := lw_g (lw_at lw_m7 31 rfl) rfl
theorem q1572 : (Jvm.Cond.soleField "SwapPressModel" "size") ∈ lw_all := lw_g (lw_at lw_m7 32 rfl) rfl
theorem q1573 : (Jvm.Cond.lays "SwapPressModel" "SwapPressModel" "spot" "I") ∈ lw_all := lw_g (lw_at lw_m7 33 rfl) rfl
theorem q1574 : (Jvm.Cond.soleField "SwapPressModel" "spot") ∈ lw_all := lw_g (lw_at lw_m7 34 rfl) rfl
theorem q1575 : (Jvm.Cond.lays "SwapPressModel" "SwapPressModel" "wrong" "I") ∈ lw_all := lw_g (lw_at lw_m7 35 rfl) rfl
theorem q1576 : (Jvm.Cond.soleField "SwapPressModel" "wrong") ∈ lw_all := lw_g (lw_at lw_m7 36 rfl) rfl
theorem q1577 : (Jvm.Cond.lays "SwapPressModel" "SwapPressModel" "wrongAt" "I") ∈ lw_all := lw_g (lw_at lw_m7 37 rfl) rfl
theorem q1578 : (Jvm.Cond.soleField "SwapPressModel" "wrongAt") ∈ lw_all := lw_g (lw_at lw_m7 38 rfl) rfl
theorem q1579 : (Jvm.Cond.lays "SwapPressModel" "SwapPressModel" "seen" "I") ∈ lw_all := lw_g (lw_at lw_m7 39 rfl) rfl
theorem q1580 : (Jvm.Cond.soleField "SwapPressModel" "seen") ∈ lw_all := lw_g (lw_at lw_m7 40 rfl) rfl
theorem q1581 : (Jvm.Cond.lays "SwapPressModel" "SwapPressModel" "readAt" "I") ∈ lw_all := lw_g (lw_at lw_m7 41 rfl) rfl
theorem q1582 : (Jvm.Cond.soleField "SwapPressModel" "readAt") ∈ lw_all := lw_g (lw_at lw_m7 42 rfl) rfl
theorem q1583 : (Jvm.Cond.laysFinal "SwapPressModel" "SwapPressModel" "flows" "[I") ∈ lw_all := lw_g (lw_at lw_m7 43 rfl) rfl
theorem q1584 : (Jvm.Cond.soleField "SwapPressModel" "flows") ∈ lw_all := lw_g (lw_at lw_m7 44 rfl) rfl
theorem q1585 : (Jvm.Cond.laysFinal "SwapPressModel" "SwapPressModel" "way" "[I") ∈ lw_all := lw_g (lw_at lw_m7 45 rfl) rfl
theorem q1586 : (Jvm.Cond.soleField "SwapPressModel" "way") ∈ lw_all := lw_g (lw_at lw_m7 46 rfl) rfl
theorem q1587 : (Jvm.Cond.lays "SwapPressModel" "SwapPressModel" "ringMany" "I") ∈ lw_all := lw_g (lw_at lw_m7 47 rfl) rfl
theorem q1588 : (Jvm.Cond.soleField "SwapPressModel" "ringMany") ∈ lw_all := lw_g (lw_at lw_m7 48 rfl) rfl
theorem q1589 : (Jvm.Cond.laysFinal "SwapPressModel" "SwapPressModel" "rowFrom" "[I") ∈ lw_all := lw_g (lw_at lw_m7 49 rfl) rfl
theorem q1590 : (Jvm.Cond.soleField "SwapPressModel" "rowFrom") ∈ lw_all := lw_g (lw_at lw_m7 50 rfl) rfl
theorem q1591 : (Jvm.Cond.laysFinal "SwapPressModel" "SwapPressModel" "bounds" "[I") ∈ lw_all := lw_g (lw_at lw_m7 51 rfl) rfl
theorem q1592 : (Jvm.Cond.soleField "SwapPressModel" "bounds") ∈ lw_all := lw_g (lw_at lw_m7 52 rfl) rfl
theorem q1593 : (Jvm.Cond.laysFinal "SwapPressModel" "SwapPressModel" "its0" "[I") ∈ lw_all := lw_g (lw_at lw_m7 53 rfl) rfl
theorem q1594 : (Jvm.Cond.soleField "SwapPressModel" "its0") ∈ lw_all := lw_g (lw_at lw_m7 54 rfl) rfl
theorem q1595 : (Jvm.Cond.laysFinal "SwapPressModel" "SwapPressModel" "may" "[I") ∈ lw_all := lw_g (lw_at lw_m7 55 rfl) rfl
theorem q1596 : (Jvm.Cond.soleField "SwapPressModel" "may") ∈ lw_all := lw_g (lw_at lw_m7 56 rfl) rfl
theorem q1597 : (Jvm.Cond.laysFinal "SwapPressModel" "SwapPressModel" "through" "[I") ∈ lw_all := lw_g (lw_at lw_m7 57 rfl) rfl
theorem q1598 : (Jvm.Cond.soleField "SwapPressModel" "through") ∈ lw_all := lw_g (lw_at lw_m7 58 rfl) rfl
theorem q1599 : (Jvm.Cond.laysFinal "SwapPressModel" "SwapPressModel" "needs" "[I") ∈ lw_all := lw_g (lw_at lw_m7 59 rfl) rfl
theorem q1600 : (Jvm.Cond.soleField "SwapPressModel" "needs") ∈ lw_all := lw_g (lw_at lw_m7 60 rfl) rfl
theorem q1601 : (Jvm.Cond.laysFinal "SwapPressModel" "SwapPressModel" "isFixed" "[Z") ∈ lw_all := lw_g (lw_at lw_m7 61 rfl) rfl
theorem q1602 : (Jvm.Cond.soleField "SwapPressModel" "isFixed") ∈ lw_all := lw_g (lw_at lw_m7 62 rfl) rfl
theorem q1603 : (Jvm.Cond.laysFinal "SwapPressModel" "SwapPressModel" "dear" "[I") ∈ lw_all := lw_g (lw_at lw_m7 63 rfl) rfl
theorem q1604 : (Jvm.Cond.soleField "SwapPressModel" "dear") ∈ lw_all := lw_g (lw_at lw_m7 64 rfl) rfl
theorem q1605 : (Jvm.Cond.laysFinal "SwapPressModel" "SwapPressModel" "by" "[I") ∈ lw_all := lw_g (lw_at lw_m7 65 rfl) rfl
theorem q1606 : (Jvm.Cond.soleField "SwapPressModel" "by") ∈ lw_all := lw_g (lw_at lw_m7 66 rfl) rfl
theorem q1607 : (Jvm.Cond.laysFinal "SwapPressModel" "SwapPressModel" "groups" "[I") ∈ lw_all := lw_g (lw_at lw_m7 67 rfl) rfl
theorem q1608 : (Jvm.Cond.soleField "SwapPressModel" "groups") ∈ lw_all := lw_g (lw_at lw_m7 68 rfl) rfl
theorem q1609 : (Jvm.Cond.laysFinal "SwapPressModel" "SwapPressModel" "bytes" "[I") ∈ lw_all := lw_g (lw_at lw_m7 69 rfl) rfl
theorem q1610 : (Jvm.Cond.soleField "SwapPressModel" "bytes") ∈ lw_all := lw_g (lw_at lw_m7 70 rfl) rfl
theorem q1611 : (Jvm.Cond.lays "SwapPressModel" "SwapPressModel" "byteMany" "I") ∈ lw_all := lw_g (lw_at lw_m7 71 rfl) rfl
theorem q1612 : (Jvm.Cond.soleField "SwapPressModel" "byteMany") ∈ lw_all := lw_g (lw_at lw_m7 72 rfl) rfl
theorem q1613 : (Jvm.Cond.superclass "SwapPressModel" "java/lang/Object") ∈ lw_all := lw_g (lw_at lw_m7 73 rfl) rfl
theorem q1616 : (Jvm.Cond.instanceMethod ({ cls := "SwapPressModel", name := "feed", desc := "(IIIII)I" } : Jvm.MethodName)) ∈ lw_all := lw_g (lw_at lw_m7 76 rfl) rfl
theorem q1617 : (Jvm.Cond.selects "SwapPressModel" ({ cls := "SwapPressModel", name := "feed", desc := "(IIIII)I" } : Jvm.MethodName) ({ cls := "SwapPressModel", name := "feed", desc := "(IIIII)I" } : Jvm.MethodName)) ∈ lw_all := lw_g (lw_at lw_m7 77 rfl) rfl
theorem q1618 : (Jvm.Cond.code ({ cls := "SwapPressModel", name := "feed", desc := "(IIIII)I" } : Jvm.MethodName) prog_15_method_5_code (8 : Nat) (Option.some Jvm.ClassFile.FieldType.int)) ∈ lw_all := lw_g (lw_at lw_m7 78 rfl) rfl
theorem q1620 : (Jvm.Cond.instanceMethod ({ cls := "SwapPressModel", name := "tell", desc := "(I)I" } : Jvm.MethodName)) ∈ lw_all := lw_g (lw_at lw_m7 80 rfl) rfl
theorem q1621 : (Jvm.Cond.selects "SwapPressModel" ({ cls := "SwapPressModel", name := "tell", desc := "(I)I" } : Jvm.MethodName) ({ cls := "SwapPressModel", name := "tell", desc := "(I)I" } : Jvm.MethodName)) ∈ lw_all := lw_g (lw_at lw_m7 81 rfl) rfl
theorem q1622 : (Jvm.Cond.code ({ cls := "SwapPressModel", name := "tell", desc := "(I)I" } : Jvm.MethodName) prog_15_method_23_code (5 : Nat) (Option.some Jvm.ClassFile.FieldType.int)) ∈ lw_all := lw_g (lw_at lw_m7 82 rfl) rfl
theorem q1623 : (Jvm.Cond.methodLink "SwapPressModel" (103 : Nat) ({ cls := "SwapPressModel", name := "isIn", desc := "(JJJ)Z" } : Jvm.MethodName)) ∈ lw_all := lw_g (lw_at lw_m7 83 rfl) rfl
theorem q1624 : (Jvm.Cond.static ({ cls := "SwapPressModel", name := "isIn", desc := "(JJJ)Z" } : Jvm.MethodName)) ∈ lw_all := lw_g (lw_at lw_m7 84 rfl) rfl
theorem q1625 : (Jvm.Cond.code ({ cls := "SwapPressModel", name := "isIn", desc := "(JJJ)Z" } : Jvm.MethodName) prog_15_method_2_code (6 : Nat) (Option.some Jvm.ClassFile.FieldType.boolean)) ∈ lw_all := lw_g (lw_at lw_m7 85 rfl) rfl
theorem q1626 : (Jvm.Cond.methodLink "SwapPressModel" (115 : Nat) ({ cls := "SwapPressModel", name := "peek", desc := "()I" } : Jvm.MethodName)) ∈ lw_all := lw_g (lw_at lw_m7 86 rfl) rfl
theorem q1627 : (Jvm.Cond.privateMethod ({ cls := "SwapPressModel", name := "peek", desc := "()I" } : Jvm.MethodName)) ∈ lw_tbl := lw_at lw_m7 87 rfl
theorem q1628 : (Jvm.Cond.instanceMethod ({ cls := "SwapPressModel", name := "peek", desc := "()I" } : Jvm.MethodName)) ∈ lw_all := lw_g (lw_at lw_m7 88 rfl) rfl
theorem q1629 : (Jvm.Cond.code ({ cls := "SwapPressModel", name := "peek", desc := "()I" } : Jvm.MethodName) prog_15_method_6_code (1 : Nat) (Option.some Jvm.ClassFile.FieldType.int)) ∈ lw_all := lw_g (lw_at lw_m7 89 rfl) rfl
theorem q1630 : (Jvm.Cond.methodLink "SwapPressModel" (192 : Nat) ({ cls := "SwapPressModel", name := "lineRead", desc := "()V" } : Jvm.MethodName)) ∈ lw_all := lw_g (lw_at lw_m7 90 rfl) rfl
theorem q1631 : (Jvm.Cond.privateMethod ({ cls := "SwapPressModel", name := "lineRead", desc := "()V" } : Jvm.MethodName)) ∈ lw_tbl := lw_at lw_m7 91 rfl
theorem q1632 : (Jvm.Cond.instanceMethod ({ cls := "SwapPressModel", name := "lineRead", desc := "()V" } : Jvm.MethodName)) ∈ lw_all := lw_g (lw_at lw_m7 92 rfl) rfl
theorem q1633 : (Jvm.Cond.code ({ cls := "SwapPressModel", name := "lineRead", desc := "()V" } : Jvm.MethodName) prog_15_method_20_code (3 : Nat) (Option.none : Option Jvm.ClassFile.FieldType)) ∈ lw_all := lw_g (lw_at lw_m7 93 rfl) rfl
theorem q1634 : (Jvm.Cond.methodLink "SwapPressModel" (143 : Nat) ({ cls := "SwapPressModel", name := "wordHere", desc := "()I" } : Jvm.MethodName)) ∈ lw_all := lw_g (lw_at lw_m7 94 rfl) rfl
theorem q1635 : (Jvm.Cond.privateMethod ({ cls := "SwapPressModel", name := "wordHere", desc := "()I" } : Jvm.MethodName)) ∈ lw_tbl := lw_at lw_m7 95 rfl
theorem q1636 : (Jvm.Cond.instanceMethod ({ cls := "SwapPressModel", name := "wordHere", desc := "()I" } : Jvm.MethodName)) ∈ lw_all := lw_g (lw_at lw_m7 96 rfl) rfl
theorem q1637 : (Jvm.Cond.code ({ cls := "SwapPressModel", name := "wordHere", desc := "()I" } : Jvm.MethodName) prog_15_method_11_code (7 : Nat) (Option.some Jvm.ClassFile.FieldType.int)) ∈ lw_all := lw_g (lw_at lw_m7 97 rfl) rfl
theorem q1638 : (Jvm.Cond.methodLink "SwapPressModel" (111 : Nat) ({ cls := "SwapPressModel", name := "isLetter", desc := "(I)Z" } : Jvm.MethodName)) ∈ lw_all := lw_g (lw_at lw_m7 98 rfl) rfl
theorem q1639 : (Jvm.Cond.static ({ cls := "SwapPressModel", name := "isLetter", desc := "(I)Z" } : Jvm.MethodName)) ∈ lw_all := lw_g (lw_at lw_m7 99 rfl) rfl
theorem q1640 : (Jvm.Cond.code ({ cls := "SwapPressModel", name := "isLetter", desc := "(I)Z" } : Jvm.MethodName) prog_15_method_8_code (1 : Nat) (Option.some Jvm.ClassFile.FieldType.boolean)) ∈ lw_all := lw_g (lw_at lw_m7 100 rfl) rfl
theorem q1641 : (Jvm.Cond.constantLong "SwapPressModel" (99 : Nat) (97 : Int64)) ∈ lw_all := lw_g (lw_at lw_m7 101 rfl) rfl
theorem q1642 : (Jvm.Cond.constantLong "SwapPressModel" (101 : Nat) (122 : Int64)) ∈ lw_all := lw_g (lw_at lw_m7 102 rfl) rfl
theorem q1643 : (Jvm.Cond.methodLink "SwapPressModel" (119 : Nat) ({ cls := "SwapPressModel", name := "lettersHere", desc := "()I" } : Jvm.MethodName)) ∈ lw_all := lw_g (lw_at lw_m7 103 rfl) rfl
theorem q1644 : (Jvm.Cond.privateMethod ({ cls := "SwapPressModel", name := "lettersHere", desc := "()I" } : Jvm.MethodName)) ∈ lw_tbl := lw_at lw_m7 104 rfl
theorem q1645 : (Jvm.Cond.instanceMethod ({ cls := "SwapPressModel", name := "lettersHere", desc := "()I" } : Jvm.MethodName)) ∈ lw_all := lw_g (lw_at lw_m7 105 rfl) rfl
theorem q1646 : (Jvm.Cond.code ({ cls := "SwapPressModel", name := "lettersHere", desc := "()I" } : Jvm.MethodName) prog_15_method_10_code (2 : Nat) (Option.some Jvm.ClassFile.FieldType.int)) ∈ lw_all := lw_g (lw_at lw_m7 106 rfl) rfl
theorem q1647 : (Jvm.Cond.stringRef "SwapPressModel" (122 : Nat) " party kind trade keep cap mode ") ∈ lw_tbl := lw_at lw_m7 107 rfl
theorem q1648 : (Jvm.Cond.methodLink "SwapPressModel" (124 : Nat) ({ cls := "java/lang/String", name := "length", desc := "()I" } : Jvm.MethodName)) ∈ lw_all := lw_g (lw_at lw_m7 108 rfl) rfl
theorem q1649 : (Jvm.Cond.methodLink "SwapPressModel" (129 : Nat) ({ cls := "java/lang/String", name := "charAt", desc := "(I)C" } : Jvm.MethodName)) ∈ lw_all := lw_g (lw_at lw_m7 109 rfl) rfl
theorem q1650 : (Jvm.Cond.methodLink "SwapPressModel" (136 : Nat) ({ cls := "SwapPressModel", name := "fails", desc := "(II)V" } : Jvm.MethodName)) ∈ lw_all := lw_g (lw_at lw_m7 110 rfl) rfl
theorem q1651 : (Jvm.Cond.privateMethod ({ cls := "SwapPressModel", name := "fails", desc := "(II)V" } : Jvm.MethodName)) ∈ lw_tbl := lw_at lw_m7 111 rfl
theorem q1652 : (Jvm.Cond.instanceMethod ({ cls := "SwapPressModel", name := "fails", desc := "(II)V" } : Jvm.MethodName)) ∈ lw_all := lw_g (lw_at lw_m7 112 rfl) rfl
theorem q1653 : (Jvm.Cond.code ({ cls := "SwapPressModel", name := "fails", desc := "(II)V" } : Jvm.MethodName) prog_15_method_7_code (3 : Nat) (Option.none : Option Jvm.ClassFile.FieldType)) ∈ lw_all := lw_g (lw_at lw_m7 113 rfl) rfl
theorem q1654 : (Jvm.Cond.methodLink "SwapPressModel" (160 : Nat) ({ cls := "SwapPressModel", name := "isFull", desc := "(I)Z" } : Jvm.MethodName)) ∈ lw_all := lw_g (lw_at lw_m7 114 rfl) rfl
theorem q1655 : (Jvm.Cond.privateMethod ({ cls := "SwapPressModel", name := "isFull", desc := "(I)Z" } : Jvm.MethodName)) ∈ lw_tbl := lw_at lw_m7 115 rfl
theorem q1656 : (Jvm.Cond.instanceMethod ({ cls := "SwapPressModel", name := "isFull", desc := "(I)Z" } : Jvm.MethodName)) ∈ lw_all := lw_g (lw_at lw_m7 116 rfl) rfl
theorem q1657 : (Jvm.Cond.code ({ cls := "SwapPressModel", name := "isFull", desc := "(I)Z" } : Jvm.MethodName) prog_15_method_19_code (2 : Nat) (Option.some Jvm.ClassFile.FieldType.boolean)) ∈ lw_all := lw_g (lw_at lw_m7 117 rfl) rfl
theorem q1658 : (Jvm.Cond.methodLink "SwapPressModel" (163 : Nat) ({ cls := "SwapPressModel", name := "behind", desc := "(I)V" } : Jvm.MethodName)) ∈ lw_all := lw_g (lw_at lw_m7 118 rfl) rfl
theorem q1659 : (Jvm.Cond.privateMethod ({ cls := "SwapPressModel", name := "behind", desc := "(I)V" } : Jvm.MethodName)) ∈ lw_tbl := lw_at lw_m7 119 rfl
theorem q1660 : (Jvm.Cond.instanceMethod ({ cls := "SwapPressModel", name := "behind", desc := "(I)V" } : Jvm.MethodName)) ∈ lw_all := lw_g (lw_at lw_m7 120 rfl) rfl
theorem q1661 : (Jvm.Cond.code ({ cls := "SwapPressModel", name := "behind", desc := "(I)V" } : Jvm.MethodName) prog_15_method_21_code (3 : Nat) (Option.none : Option Jvm.ClassFile.FieldType)) ∈ lw_all := lw_g (lw_at lw_m7 121 rfl) rfl
theorem q1662 : (Jvm.Cond.methodLink "SwapPressModel" (167 : Nat) ({ cls := "SwapPressModel", name := "newName", desc := "(I)V" } : Jvm.MethodName)) ∈ lw_all := lw_g (lw_at lw_m7 122 rfl) rfl
theorem q1663 : (Jvm.Cond.privateMethod ({ cls := "SwapPressModel", name := "newName", desc := "(I)V" } : Jvm.MethodName)) ∈ lw_tbl := lw_at lw_m7 123 rfl
theorem q1664 : (Jvm.Cond.instanceMethod ({ cls := "SwapPressModel", name := "newName", desc := "(I)V" } : Jvm.MethodName)) ∈ lw_all := lw_g (lw_at lw_m7 124 rfl) rfl
theorem q1665 : (Jvm.Cond.code ({ cls := "SwapPressModel", name := "newName", desc := "(I)V" } : Jvm.MethodName) prog_15_method_15_code (4 : Nat) (Option.none : Option Jvm.ClassFile.FieldType)) ∈ lw_all := lw_g (lw_at lw_m7 125 rfl) rfl
theorem q1666 : (Jvm.Cond.methodLink "SwapPressModel" (146 : Nat) ({ cls := "SwapPressModel", name := "nameRead", desc := "()J" } : Jvm.MethodName)) ∈ lw_all := lw_g (lw_at lw_m7 126 rfl) rfl
theorem q1667 : (Jvm.Cond.privateMethod ({ cls := "SwapPressModel", name := "nameRead", desc := "()J" } : Jvm.MethodName)) ∈ lw_tbl := lw_at lw_m7 127 rfl
theorem q1668 : (Jvm.Cond.instanceMethod ({ cls := "SwapPressModel", name := "nameRead", desc := "()J" } : Jvm.MethodName)) ∈ lw_all := lw_g (lw_at lw_m7 128 rfl) rfl
theorem q1669 : (Jvm.Cond.code ({ cls := "SwapPressModel", name := "nameRead", desc := "()J" } : Jvm.MethodName) prog_15_method_13_code (5 : Nat) (Option.some Jvm.ClassFile.FieldType.long)) ∈ lw_all := lw_g (lw_at lw_m7 129 rfl) rfl
theorem q1670 : (Jvm.Cond.methodLink "SwapPressModel" (150 : Nat) ({ cls := "SwapPressModel", name := "find", desc := "(JII)I" } : Jvm.MethodName)) ∈ lw_all := lw_g (lw_at lw_m7 130 rfl) rfl
theorem q1671 : (Jvm.Cond.privateMethod ({ cls := "SwapPressModel", name := "find", desc := "(JII)I" } : Jvm.MethodName)) ∈ lw_tbl := lw_at lw_m7 131 rfl
theorem q1672 : (Jvm.Cond.instanceMethod ({ cls := "SwapPressModel", name := "find", desc := "(JII)I" } : Jvm.MethodName)) ∈ lw_all := lw_g (lw_at lw_m7 132 rfl) rfl
theorem q1673 : (Jvm.Cond.code ({ cls := "SwapPressModel", name := "find", desc := "(JII)I" } : Jvm.MethodName) prog_15_method_14_code (6 : Nat) (Option.some Jvm.ClassFile.FieldType.int)) ∈ lw_all := lw_g (lw_at lw_m7 133 rfl) rfl
theorem q1674 : (Jvm.Cond.methodLink "SwapPressModel" (170 : Nat) ({ cls := "SwapPressModel", name := "numeral", desc := "(II)I" } : Jvm.MethodName)) ∈ lw_all := lw_g (lw_at lw_m7 134 rfl) rfl
theorem q1675 : (Jvm.Cond.privateMethod ({ cls := "SwapPressModel", name := "numeral", desc := "(II)I" } : Jvm.MethodName)) ∈ lw_tbl := lw_at lw_m7 135 rfl
theorem q1676 : (Jvm.Cond.instanceMethod ({ cls := "SwapPressModel", name := "numeral", desc := "(II)I" } : Jvm.MethodName)) ∈ lw_all := lw_g (lw_at lw_m7 136 rfl) rfl
theorem q1677 : (Jvm.Cond.code ({ cls := "SwapPressModel", name := "numeral", desc := "(II)I" } : Jvm.MethodName) prog_15_method_12_code (4 : Nat) (Option.some Jvm.ClassFile.FieldType.int)) ∈ lw_all := lw_g (lw_at lw_m7 137 rfl) rfl
theorem q1678 : (Jvm.Cond.methodLink "SwapPressModel" (133 : Nat) ({ cls := "SwapPressModel", name := "isDigit", desc := "(I)Z" } : Jvm.MethodName)) ∈ lw_all := lw_g (lw_at lw_m7 138 rfl) rfl
theorem q1679 : (Jvm.Cond.static ({ cls := "SwapPressModel", name := "isDigit", desc := "(I)Z" } : Jvm.MethodName)) ∈ lw_all := lw_g (lw_at lw_m7 139 rfl) rfl
theorem q1680 : (Jvm.Cond.code ({ cls := "SwapPressModel", name := "isDigit", desc := "(I)Z" } : Jvm.MethodName) prog_15_method_9_code (1 : Nat) (Option.some Jvm.ClassFile.FieldType.boolean)) ∈ lw_all := lw_g (lw_at lw_m7 140 rfl) rfl
theorem q1681 : (Jvm.Cond.constantLong "SwapPressModel" (107 : Nat) (48 : Int64)) ∈ lw_all := lw_g (lw_at lw_m7 141 rfl) rfl
theorem q1682 : (Jvm.Cond.constantLong "SwapPressModel" (109 : Nat) (57 : Int64)) ∈ lw_all := lw_g (lw_at lw_m7 142 rfl) rfl
theorem q1683 : (Jvm.Cond.methodLink "SwapPressModel" (174 : Nat) ({ cls := "SwapPressModel", name := "tradeAt", desc := "(II)I" } : Jvm.MethodName)) ∈ lw_all := lw_g (lw_at lw_m7 143 rfl) rfl
theorem q1684 : (Jvm.Cond.privateMethod ({ cls := "SwapPressModel", name := "tradeAt", desc := "(II)I" } : Jvm.MethodName)) ∈ lw_tbl := lw_at lw_m7 144 rfl
theorem q1685 : (Jvm.Cond.instanceMethod ({ cls := "SwapPressModel", name := "tradeAt", desc := "(II)I" } : Jvm.MethodName)) ∈ lw_all := lw_g (lw_at lw_m7 145 rfl) rfl
theorem q1686 : (Jvm.Cond.code ({ cls := "SwapPressModel", name := "tradeAt", desc := "(II)I" } : Jvm.MethodName) prog_15_method_25_code (3 : Nat) (Option.some Jvm.ClassFile.FieldType.int)) ∈ lw_all := lw_g (lw_at lw_m7 146 rfl) rfl
theorem q1687 : (Jvm.Cond.methodLink "SwapPressModel" (177 : Nat) ({ cls := "SwapPressModel", name := "twoRead", desc := "(I)V" } : Jvm.MethodName)) ∈ lw_all := lw_g (lw_at lw_m7 147 rfl) rfl
theorem q1688 : (Jvm.Cond.privateMethod ({ cls := "SwapPressModel", name := "twoRead", desc := "(I)V" } : Jvm.MethodName)) ∈ lw_tbl := lw_at lw_m7 148 rfl
theorem q1689 : (Jvm.Cond.instanceMethod ({ cls := "SwapPressModel", name := "twoRead", desc := "(I)V" } : Jvm.MethodName)) ∈ lw_all := lw_g (lw_at lw_m7 149 rfl) rfl
theorem q1690 : (Jvm.Cond.code ({ cls := "SwapPressModel", name := "twoRead", desc := "(I)V" } : Jvm.MethodName) prog_15_method_22_code (6 : Nat) (Option.none : Option Jvm.ClassFile.FieldType)) ∈ lw_all := lw_g (lw_at lw_m7 150 rfl) rfl
theorem q1691 : (Jvm.Cond.methodLink "SwapPressModel" (154 : Nat) ({ cls := "SwapPressModel", name := "partyRead", desc := "()I" } : Jvm.MethodName)) ∈ lw_all := lw_g (lw_at lw_m7 151 rfl) rfl
theorem q1692 : (Jvm.Cond.privateMethod ({ cls := "SwapPressModel", name := "partyRead", desc := "()I" } : Jvm.MethodName)) ∈ lw_tbl := lw_at lw_m7 152 rfl
theorem q1693 : (Jvm.Cond.instanceMethod ({ cls := "SwapPressModel", name := "partyRead", desc := "()I" } : Jvm.MethodName)) ∈ lw_all := lw_g (lw_at lw_m7 153 rfl) rfl
theorem q1694 : (Jvm.Cond.code ({ cls := "SwapPressModel", name := "partyRead", desc := "()I" } : Jvm.MethodName) prog_15_method_16_code (2 : Nat) (Option.some Jvm.ClassFile.FieldType.int)) ∈ lw_all := lw_g (lw_at lw_m7 154 rfl) rfl
theorem q1695 : (Jvm.Cond.methodLink "SwapPressModel" (180 : Nat) ({ cls := "SwapPressModel", name := "otherRead", desc := "(I)I" } : Jvm.MethodName)) ∈ lw_all := lw_g (lw_at lw_m7 155 rfl) rfl
theorem q1696 : (Jvm.Cond.privateMethod ({ cls := "SwapPressModel", name := "otherRead", desc := "(I)I" } : Jvm.MethodName)) ∈ lw_tbl := lw_at lw_m7 156 rfl
theorem q1697 : (Jvm.Cond.instanceMethod ({ cls := "SwapPressModel", name := "otherRead", desc := "(I)I" } : Jvm.MethodName)) ∈ lw_all := lw_g (lw_at lw_m7 157 rfl) rfl
theorem q1698 : (Jvm.Cond.code ({ cls := "SwapPressModel", name := "otherRead", desc := "(I)I" } : Jvm.MethodName) prog_15_method_17_code (3 : Nat) (Option.some Jvm.ClassFile.FieldType.int)) ∈ lw_all := lw_g (lw_at lw_m7 158 rfl) rfl
theorem q1699 : (Jvm.Cond.constant "SwapPressModel" (184 : Nat) (999999 : Int32)) ∈ lw_all := lw_g (lw_at lw_m7 159 rfl) rfl
theorem q1700 : (Jvm.Cond.methodLink "SwapPressModel" (185 : Nat) ({ cls := "SwapPressModel", name := "kindRead", desc := "()I" } : Jvm.MethodName)) ∈ lw_all := lw_g (lw_at lw_m7 160 rfl) rfl
theorem q1701 : (Jvm.Cond.privateMethod ({ cls := "SwapPressModel", name := "kindRead", desc := "()I" } : Jvm.MethodName)) ∈ lw_tbl := lw_at lw_m7 161 rfl
theorem q1702 : (Jvm.Cond.instanceMethod ({ cls := "SwapPressModel", name := "kindRead", desc := "()I" } : Jvm.MethodName)) ∈ lw_all := lw_g (lw_at lw_m7 162 rfl) rfl
theorem q1703 : (Jvm.Cond.code ({ cls := "SwapPressModel", name := "kindRead", desc := "()I" } : Jvm.MethodName) prog_15_method_18_code (2 : Nat) (Option.some Jvm.ClassFile.FieldType.int)) ∈ lw_all := lw_g (lw_at lw_m7 163 rfl) rfl
theorem q1704 : (Jvm.Cond.methodLink "SwapPressModel" (188 : Nat) ({ cls := "SwapPressModel", name := "adds", desc := "(IIII)V" } : Jvm.MethodName)) ∈ lw_all := lw_g (lw_at lw_m7 164 rfl) rfl
theorem q1705 : (Jvm.Cond.privateMethod ({ cls := "SwapPressModel", name := "adds", desc := "(IIII)V" } : Jvm.MethodName)) ∈ lw_tbl := lw_at lw_m7 165 rfl
theorem q1706 : (Jvm.Cond.instanceMethod ({ cls := "SwapPressModel", name := "adds", desc := "(IIII)V" } : Jvm.MethodName)) ∈ lw_all := lw_g (lw_at lw_m7 166 rfl) rfl
theorem q1707 : (Jvm.Cond.code ({ cls := "SwapPressModel", name := "adds", desc := "(IIII)V" } : Jvm.MethodName) prog_15_method_26_code (6 : Nat) (Option.none : Option Jvm.ClassFile.FieldType)) ∈ lw_all := lw_g (lw_at lw_m7 167 rfl) rfl
theorem q1709 : (Jvm.Cond.instanceMethod ({ cls := "SwapPressModel", name := "fault", desc := "(I)I" } : Jvm.MethodName)) ∈ lw_all := lw_g (lw_at lw_m7 169 rfl) rfl
theorem q1710 : (Jvm.Cond.selects "SwapPressModel" ({ cls := "SwapPressModel", name := "fault", desc := "(I)I" } : Jvm.MethodName) ({ cls := "SwapPressModel", name := "fault", desc := "(I)I" } : Jvm.MethodName)) ∈ lw_all := lw_g (lw_at lw_m7 170 rfl) rfl
theorem q1711 : (Jvm.Cond.code ({ cls := "SwapPressModel", name := "fault", desc := "(I)I" } : Jvm.MethodName) prog_15_method_24_code (2 : Nat) (Option.some Jvm.ClassFile.FieldType.int)) ∈ lw_all := lw_g (lw_at lw_m7 171 rfl) rfl
theorem q1713 : (Jvm.Cond.instanceMethod ({ cls := "SwapPressModel", name := "trade", desc := "(IIII)I" } : Jvm.MethodName)) ∈ lw_all := lw_g (lw_at lw_m7 173 rfl) rfl
theorem q1714 : (Jvm.Cond.selects "SwapPressModel" ({ cls := "SwapPressModel", name := "trade", desc := "(IIII)I" } : Jvm.MethodName) ({ cls := "SwapPressModel", name := "trade", desc := "(IIII)I" } : Jvm.MethodName)) ∈ lw_all := lw_g (lw_at lw_m7 174 rfl) rfl
theorem q1715 : (Jvm.Cond.code ({ cls := "SwapPressModel", name := "trade", desc := "(IIII)I" } : Jvm.MethodName) prog_15_method_33_code (5 : Nat) (Option.some Jvm.ClassFile.FieldType.int)) ∈ lw_all := lw_g (lw_at lw_m7 175 rfl) rfl
theorem q1716 : (Jvm.Cond.methodLink "SwapPressModel" (201 : Nat) ({ cls := "SwapPressModel", name := "areTwo", desc := "(II)Z" } : Jvm.MethodName)) ∈ lw_all := lw_g (lw_at lw_m7 176 rfl) rfl
theorem q1717 : (Jvm.Cond.privateMethod ({ cls := "SwapPressModel", name := "areTwo", desc := "(II)Z" } : Jvm.MethodName)) ∈ lw_tbl := lw_at lw_m7 177 rfl
theorem q1718 : (Jvm.Cond.instanceMethod ({ cls := "SwapPressModel", name := "areTwo", desc := "(II)Z" } : Jvm.MethodName)) ∈ lw_all := lw_g (lw_at lw_m7 178 rfl) rfl
theorem q1719 : (Jvm.Cond.code ({ cls := "SwapPressModel", name := "areTwo", desc := "(II)Z" } : Jvm.MethodName) prog_15_method_31_code (3 : Nat) (Option.some Jvm.ClassFile.FieldType.boolean)) ∈ lw_all := lw_g (lw_at lw_m7 179 rfl) rfl
theorem q1720 : (Jvm.Cond.methodLink "SwapPressModel" (198 : Nat) ({ cls := "SwapPressModel", name := "isParty", desc := "(I)Z" } : Jvm.MethodName)) ∈ lw_all := lw_g (lw_at lw_m7 180 rfl) rfl
theorem q1721 : (Jvm.Cond.privateMethod ({ cls := "SwapPressModel", name := "isParty", desc := "(I)Z" } : Jvm.MethodName)) ∈ lw_tbl := lw_at lw_m7 181 rfl
theorem q1722 : (Jvm.Cond.instanceMethod ({ cls := "SwapPressModel", name := "isParty", desc := "(I)Z" } : Jvm.MethodName)) ∈ lw_all := lw_g (lw_at lw_m7 182 rfl) rfl
theorem q1723 : (Jvm.Cond.code ({ cls := "SwapPressModel", name := "isParty", desc := "(I)Z" } : Jvm.MethodName) prog_15_method_28_code (2 : Nat) (Option.some Jvm.ClassFile.FieldType.boolean)) ∈ lw_all := lw_g (lw_at lw_m7 183 rfl) rfl
theorem q1724 : (Jvm.Cond.methodLink "SwapPressModel" (205 : Nat) ({ cls := "SwapPressModel", name := "isKind", desc := "(I)Z" } : Jvm.MethodName)) ∈ lw_all := lw_g (lw_at lw_m7 184 rfl) rfl
theorem q1725 : (Jvm.Cond.privateMethod ({ cls := "SwapPressModel", name := "isKind", desc := "(I)Z" } : Jvm.MethodName)) ∈ lw_tbl := lw_at lw_m7 185 rfl
theorem q1726 : (Jvm.Cond.instanceMethod ({ cls := "SwapPressModel", name := "isKind", desc := "(I)Z" } : Jvm.MethodName)) ∈ lw_all := lw_g (lw_at lw_m7 186 rfl) rfl
theorem q1727 : (Jvm.Cond.code ({ cls := "SwapPressModel", name := "isKind", desc := "(I)Z" } : Jvm.MethodName) prog_15_method_29_code (2 : Nat) (Option.some Jvm.ClassFile.FieldType.boolean)) ∈ lw_all := lw_g (lw_at lw_m7 187 rfl) rfl
theorem q1728 : (Jvm.Cond.constantLong "SwapPressModel" (208 : Nat) (999999 : Int64)) ∈ lw_all := lw_g (lw_at lw_m7 188 rfl) rfl
theorem q1729 : (Jvm.Cond.methodLink "SwapPressModel" (210 : Nat) ({ cls := "SwapPressModel", name := "remembers", desc := "()V" } : Jvm.MethodName)) ∈ lw_all := lw_g (lw_at lw_m7 189 rfl) rfl
theorem q1730 : (Jvm.Cond.privateMethod ({ cls := "SwapPressModel", name := "remembers", desc := "()V" } : Jvm.MethodName)) ∈ lw_tbl := lw_at lw_m7 190 rfl
theorem q1731 : (Jvm.Cond.instanceMethod ({ cls := "SwapPressModel", name := "remembers", desc := "()V" } : Jvm.MethodName)) ∈ lw_all := lw_g (lw_at lw_m7 191 rfl) rfl
theorem q1732 : (Jvm.Cond.code ({ cls := "SwapPressModel", name := "remembers", desc := "()V" } : Jvm.MethodName) prog_15_method_32_code (2 : Nat) (Option.none : Option Jvm.ClassFile.FieldType)) ∈ lw_all := lw_g (lw_at lw_m7 192 rfl) rfl
theorem q1734 : (Jvm.Cond.instanceMethod ({ cls := "SwapPressModel", name := "drop", desc := "(I)I" } : Jvm.MethodName)) ∈ lw_all := lw_g (lw_at lw_m7 194 rfl) rfl
theorem q1735 : (Jvm.Cond.selects "SwapPressModel" ({ cls := "SwapPressModel", name := "drop", desc := "(I)I" } : Jvm.MethodName) ({ cls := "SwapPressModel", name := "drop", desc := "(I)I" } : Jvm.MethodName)) ∈ lw_all := lw_g (lw_at lw_m7 195 rfl) rfl
theorem q1736 : (Jvm.Cond.code ({ cls := "SwapPressModel", name := "drop", desc := "(I)I" } : Jvm.MethodName) prog_15_method_34_code (2 : Nat) (Option.some Jvm.ClassFile.FieldType.int)) ∈ lw_all := lw_g (lw_at lw_m7 196 rfl) rfl
theorem q1737 : (Jvm.Cond.methodLink "SwapPressModel" (213 : Nat) ({ cls := "SwapPressModel", name := "isTrade", desc := "(I)Z" } : Jvm.MethodName)) ∈ lw_all := lw_g (lw_at lw_m7 197 rfl) rfl
theorem q1738 : (Jvm.Cond.privateMethod ({ cls := "SwapPressModel", name := "isTrade", desc := "(I)Z" } : Jvm.MethodName)) ∈ lw_tbl := lw_at lw_m7 198 rfl
theorem q1739 : (Jvm.Cond.instanceMethod ({ cls := "SwapPressModel", name := "isTrade", desc := "(I)Z" } : Jvm.MethodName)) ∈ lw_all := lw_g (lw_at lw_m7 199 rfl) rfl
theorem q1740 : (Jvm.Cond.code ({ cls := "SwapPressModel", name := "isTrade", desc := "(I)Z" } : Jvm.MethodName) prog_15_method_30_code (2 : Nat) (Option.some Jvm.ClassFile.FieldType.boolean)) ∈ lw_all := lw_g (lw_at lw_m7 200 rfl) rfl
theorem q1741 : (Jvm.Cond.methodLink "SwapPressModel" (216 : Nat) ({ cls := "SwapPressModel", name := "goes", desc := "(I)V" } : Jvm.MethodName)) ∈ lw_all := lw_g (lw_at lw_m7 201 rfl) rfl
theorem q1742 : (Jvm.Cond.privateMethod ({ cls := "SwapPressModel", name := "goes", desc := "(I)V" } : Jvm.MethodName)) ∈ lw_tbl := lw_at lw_m7 202 rfl
theorem q1743 : (Jvm.Cond.instanceMethod ({ cls := "SwapPressModel", name := "goes", desc := "(I)V" } : Jvm.MethodName)) ∈ lw_all := lw_g (lw_at lw_m7 203 rfl) rfl
theorem q1744 : (Jvm.Cond.code ({ cls := "SwapPressModel", name := "goes", desc := "(I)V" } : Jvm.MethodName) prog_15_method_27_code (3 : Nat) (Option.none : Option Jvm.ClassFile.FieldType)) ∈ lw_all := lw_g (lw_at lw_m7 204 rfl) rfl
theorem q1746 : (Jvm.Cond.instanceMethod ({ cls := "SwapPressModel", name := "keep", desc := "(I)I" } : Jvm.MethodName)) ∈ lw_all := lw_g (lw_at lw_m7 206 rfl) rfl
theorem q1747 : (Jvm.Cond.selects "SwapPressModel" ({ cls := "SwapPressModel", name := "keep", desc := "(I)I" } : Jvm.MethodName) ({ cls := "SwapPressModel", name := "keep", desc := "(I)I" } : Jvm.MethodName)) ∈ lw_all := lw_g (lw_at lw_m7 207 rfl) rfl
theorem q1748 : (Jvm.Cond.code ({ cls := "SwapPressModel", name := "keep", desc := "(I)I" } : Jvm.MethodName) prog_15_method_35_code (2 : Nat) (Option.some Jvm.ClassFile.FieldType.int)) ∈ lw_all := lw_g (lw_at lw_m7 208 rfl) rfl
theorem q1750 : (Jvm.Cond.instanceMethod ({ cls := "SwapPressModel", name := "mode", desc := "(I)I" } : Jvm.MethodName)) ∈ lw_all := lw_g (lw_at lw_m7 210 rfl) rfl
theorem q1751 : (Jvm.Cond.selects "SwapPressModel" ({ cls := "SwapPressModel", name := "mode", desc := "(I)I" } : Jvm.MethodName) ({ cls := "SwapPressModel", name := "mode", desc := "(I)I" } : Jvm.MethodName)) ∈ lw_all := lw_g (lw_at lw_m7 211 rfl) rfl
theorem q1752 : (Jvm.Cond.code ({ cls := "SwapPressModel", name := "mode", desc := "(I)I" } : Jvm.MethodName) prog_15_method_36_code (3 : Nat) (Option.some Jvm.ClassFile.FieldType.int)) ∈ lw_all := lw_g (lw_at lw_m7 212 rfl) rfl
theorem q1753 : (Jvm.Cond.constantLong "SwapPressModel" (219 : Nat) (3 : Int64)) ∈ lw_all := lw_g (lw_at lw_m7 213 rfl) rfl
theorem q1755 : (Jvm.Cond.instanceMethod ({ cls := "SwapPressModel", name := "cap", desc := "(III)I" } : Jvm.MethodName)) ∈ lw_all := lw_g (lw_at lw_m7 215 rfl) rfl
theorem q1756 : (Jvm.Cond.selects "SwapPressModel" ({ cls := "SwapPressModel", name := "cap", desc := "(III)I" } : Jvm.MethodName) ({ cls := "SwapPressModel", name := "cap", desc := "(III)I" } : Jvm.MethodName)) ∈ lw_all := lw_g (lw_at lw_m7 216 rfl) rfl
theorem q1757 : (Jvm.Cond.code ({ cls := "SwapPressModel", name := "cap", desc := "(III)I" } : Jvm.MethodName) prog_15_method_37_code (5 : Nat) (Option.some Jvm.ClassFile.FieldType.int)) ∈ lw_all := lw_g (lw_at lw_m7 217 rfl) rfl
theorem q1758 : (Jvm.Cond.constantLong "SwapPressModel" (221 : Nat) (99999999 : Int64)) ∈ lw_all := lw_g (lw_at lw_m7 218 rfl) rfl
theorem q1760 : (Jvm.Cond.instanceMethod ({ cls := "SwapPressModel", name := "undo", desc := "()I" } : Jvm.MethodName)) ∈ lw_all := lw_g (lw_at lw_m7 220 rfl) rfl
theorem q1761 : (Jvm.Cond.selects "SwapPressModel" ({ cls := "SwapPressModel", name := "undo", desc := "()I" } : Jvm.MethodName) ({ cls := "SwapPressModel", name := "undo", desc := "()I" } : Jvm.MethodName)) ∈ lw_all := lw_g (lw_at lw_m7 221 rfl) rfl
theorem q1762 : (Jvm.Cond.code ({ cls := "SwapPressModel", name := "undo", desc := "()I" } : Jvm.MethodName) prog_15_method_38_code (2 : Nat) (Option.some Jvm.ClassFile.FieldType.int)) ∈ lw_all := lw_g (lw_at lw_m7 222 rfl) rfl
theorem q1764 : (Jvm.Cond.instanceMethod ({ cls := "SwapPressModel", name := "tradeOf", desc := "(II)I" } : Jvm.MethodName)) ∈ lw_all := lw_g (lw_at lw_m7 224 rfl) rfl
theorem q1765 : (Jvm.Cond.selects "SwapPressModel" ({ cls := "SwapPressModel", name := "tradeOf", desc := "(II)I" } : Jvm.MethodName) ({ cls := "SwapPressModel", name := "tradeOf", desc := "(II)I" } : Jvm.MethodName)) ∈ lw_all := lw_g (lw_at lw_m7 225 rfl) rfl
theorem q1766 : (Jvm.Cond.code ({ cls := "SwapPressModel", name := "tradeOf", desc := "(II)I" } : Jvm.MethodName) prog_15_method_45_code (3 : Nat) (Option.some Jvm.ClassFile.FieldType.int)) ∈ lw_all := lw_g (lw_at lw_m7 226 rfl) rfl
theorem q1767 : (Jvm.Cond.constantLong "SwapPressModel" (232 : Nat) (4 : Int64)) ∈ lw_all := lw_g (lw_at lw_m7 227 rfl) rfl
theorem q1769 : (Jvm.Cond.instanceMethod ({ cls := "SwapPressModel", name := "flow", desc := "(III)I" } : Jvm.MethodName)) ∈ lw_all := lw_g (lw_at lw_m7 229 rfl) rfl
theorem q1770 : (Jvm.Cond.selects "SwapPressModel" ({ cls := "SwapPressModel", name := "flow", desc := "(III)I" } : Jvm.MethodName) ({ cls := "SwapPressModel", name := "flow", desc := "(III)I" } : Jvm.MethodName)) ∈ lw_all := lw_g (lw_at lw_m7 230 rfl) rfl
theorem q1771 : (Jvm.Cond.code ({ cls := "SwapPressModel", name := "flow", desc := "(III)I" } : Jvm.MethodName) prog_15_method_46_code (4 : Nat) (Option.some Jvm.ClassFile.FieldType.int)) ∈ lw_all := lw_g (lw_at lw_m7 231 rfl) rfl
theorem q1772 : (Jvm.Cond.methodLink "SwapPressModel" (234 : Nat) ({ cls := "SwapPressModel", name := "laysFlows", desc := "(II)V" } : Jvm.MethodName)) ∈ lw_all := lw_g (lw_at lw_m7 232 rfl) rfl
theorem q1773 : (Jvm.Cond.privateMethod ({ cls := "SwapPressModel", name := "laysFlows", desc := "(II)V" } : Jvm.MethodName)) ∈ lw_tbl := lw_at lw_m7 233 rfl
theorem q1774 : (Jvm.Cond.instanceMethod ({ cls := "SwapPressModel", name := "laysFlows", desc := "(II)V" } : Jvm.MethodName)) ∈ lw_all := lw_g (lw_at lw_m7 234 rfl) rfl
theorem q1775 : (Jvm.Cond.code ({ cls := "SwapPressModel", name := "laysFlows", desc := "(II)V" } : Jvm.MethodName) prog_15_method_42_code (4 : Nat) (Option.none : Option Jvm.ClassFile.FieldType)) ∈ lw_all := lw_g (lw_at lw_m7 235 rfl) rfl
theorem q1776 : (Jvm.Cond.methodLink "SwapPressModel" (223 : Nat) ({ cls := "SwapPressModel", name := "isFree", desc := "(II)Z" } : Jvm.MethodName)) ∈ lw_all := lw_g (lw_at lw_m7 236 rfl) rfl
theorem q1777 : (Jvm.Cond.privateMethod ({ cls := "SwapPressModel", name := "isFree", desc := "(II)Z" } : Jvm.MethodName)) ∈ lw_tbl := lw_at lw_m7 237 rfl
theorem q1778 : (Jvm.Cond.instanceMethod ({ cls := "SwapPressModel", name := "isFree", desc := "(II)Z" } : Jvm.MethodName)) ∈ lw_all := lw_g (lw_at lw_m7 238 rfl) rfl
theorem q1779 : (Jvm.Cond.code ({ cls := "SwapPressModel", name := "isFree", desc := "(II)Z" } : Jvm.MethodName) prog_15_method_39_code (3 : Nat) (Option.some Jvm.ClassFile.FieldType.boolean)) ∈ lw_all := lw_g (lw_at lw_m7 239 rfl) rfl
theorem q1780 : (Jvm.Cond.methodLink "SwapPressModel" (226 : Nat) ({ cls := "SwapPressModel", name := "isOf", desc := "(II)Z" } : Jvm.MethodName)) ∈ lw_all := lw_g (lw_at lw_m8 0 rfl) rfl
theorem q1781 : (Jvm.Cond.privateMethod ({ cls := "SwapPressModel", name := "isOf", desc := "(II)Z" } : Jvm.MethodName)) ∈ lw_tbl := lw_at lw_m8 1 rfl
theorem q1782 : (Jvm.Cond.instanceMethod ({ cls := "SwapPressModel", name := "isOf", desc := "(II)Z" } : Jvm.MethodName)) ∈ lw_all := lw_g (lw_at lw_m8 2 rfl) rfl
theorem q1783 : (Jvm.Cond.code ({ cls := "SwapPressModel", name := "isOf", desc := "(II)Z" } : Jvm.MethodName) prog_15_method_41_code (3 : Nat) (Option.some Jvm.ClassFile.FieldType.boolean)) ∈ lw_all := lw_g (lw_at lw_m8 3 rfl) rfl
theorem q1784 : (Jvm.Cond.methodLink "SwapPressModel" (229 : Nat) ({ cls := "SwapPressModel", name := "couple", desc := "(II)I" } : Jvm.MethodName)) ∈ lw_all := lw_g (lw_at lw_m8 4 rfl) rfl
theorem q1785 : (Jvm.Cond.static ({ cls := "SwapPressModel", name := "couple", desc := "(II)I" } : Jvm.MethodName)) ∈ lw_all := lw_g (lw_at lw_m8 5 rfl) rfl
theorem q1786 : (Jvm.Cond.code ({ cls := "SwapPressModel", name := "couple", desc := "(II)I" } : Jvm.MethodName) prog_15_method_40_code (2 : Nat) (Option.some Jvm.ClassFile.FieldType.int)) ∈ lw_all := lw_g (lw_at lw_m8 6 rfl) rfl
theorem q1788 : (Jvm.Cond.instanceMethod ({ cls := "SwapPressModel", name := "net", desc := "(IIZ)I" } : Jvm.MethodName)) ∈ lw_all := lw_g (lw_at lw_m8 8 rfl) rfl
theorem q1789 : (Jvm.Cond.selects "SwapPressModel" ({ cls := "SwapPressModel", name := "net", desc := "(IIZ)I" } : Jvm.MethodName) ({ cls := "SwapPressModel", name := "net", desc := "(IIZ)I" } : Jvm.MethodName)) ∈ lw_all := lw_g (lw_at lw_m8 9 rfl) rfl
theorem q1790 : (Jvm.Cond.code ({ cls := "SwapPressModel", name := "net", desc := "(IIZ)I" } : Jvm.MethodName) prog_15_method_48_code (4 : Nat) (Option.some Jvm.ClassFile.FieldType.int)) ∈ lw_all := lw_g (lw_at lw_m8 10 rfl) rfl
theorem q1791 : (Jvm.Cond.constant "SwapPressModel" (237 : Nat) (100000000 : Int32)) ∈ lw_all := lw_g (lw_at lw_m8 11 rfl) rfl
theorem q1792 : (Jvm.Cond.methodLink "SwapPressModel" (238 : Nat) ({ cls := "SwapPressModel", name := "netBy", desc := "(I)I" } : Jvm.MethodName)) ∈ lw_all := lw_g (lw_at lw_m8 12 rfl) rfl
theorem q1793 : (Jvm.Cond.privateMethod ({ cls := "SwapPressModel", name := "netBy", desc := "(I)I" } : Jvm.MethodName)) ∈ lw_tbl := lw_at lw_m8 13 rfl
theorem q1794 : (Jvm.Cond.instanceMethod ({ cls := "SwapPressModel", name := "netBy", desc := "(I)I" } : Jvm.MethodName)) ∈ lw_all := lw_g (lw_at lw_m8 14 rfl) rfl
theorem q1795 : (Jvm.Cond.code ({ cls := "SwapPressModel", name := "netBy", desc := "(I)I" } : Jvm.MethodName) prog_15_method_43_code (4 : Nat) (Option.some Jvm.ClassFile.FieldType.int)) ∈ lw_all := lw_g (lw_at lw_m8 15 rfl) rfl
theorem q1796 : (Jvm.Cond.methodLink "SwapPressModel" (241 : Nat) ({ cls := "SwapPressModel", name := "amounts", desc := "(III)I" } : Jvm.MethodName)) ∈ lw_all := lw_g (lw_at lw_m8 16 rfl) rfl
theorem q1797 : (Jvm.Cond.privateMethod ({ cls := "SwapPressModel", name := "amounts", desc := "(III)I" } : Jvm.MethodName)) ∈ lw_tbl := lw_at lw_m8 17 rfl
theorem q1798 : (Jvm.Cond.instanceMethod ({ cls := "SwapPressModel", name := "amounts", desc := "(III)I" } : Jvm.MethodName)) ∈ lw_all := lw_g (lw_at lw_m8 18 rfl) rfl
theorem q1799 : (Jvm.Cond.code ({ cls := "SwapPressModel", name := "amounts", desc := "(III)I" } : Jvm.MethodName) prog_15_method_47_code (6 : Nat) (Option.some Jvm.ClassFile.FieldType.int)) ∈ lw_all := lw_g (lw_at lw_m8 19 rfl) rfl
theorem q1801 : (Jvm.Cond.instanceMethod ({ cls := "SwapPressModel", name := "side", desc := "(III)I" } : Jvm.MethodName)) ∈ lw_all := lw_g (lw_at lw_m8 21 rfl) rfl
theorem q1802 : (Jvm.Cond.selects "SwapPressModel" ({ cls := "SwapPressModel", name := "side", desc := "(III)I" } : Jvm.MethodName) ({ cls := "SwapPressModel", name := "side", desc := "(III)I" } : Jvm.MethodName)) ∈ lw_all := lw_g (lw_at lw_m8 22 rfl) rfl
theorem q1803 : (Jvm.Cond.code ({ cls := "SwapPressModel", name := "side", desc := "(III)I" } : Jvm.MethodName) prog_15_method_49_code (6 : Nat) (Option.some Jvm.ClassFile.FieldType.int)) ∈ lw_all := lw_g (lw_at lw_m8 23 rfl) rfl
theorem q1804 : (Jvm.Cond.constantLong "SwapPressModel" (245 : Nat) (2 : Int64)) ∈ lw_all := lw_g (lw_at lw_m8 24 rfl) rfl
theorem q1805 : (Jvm.Cond.methodLink "SwapPressModel" (247 : Nat) ({ cls := "java/lang/Integer", name := "bitCount", desc := "(I)I" } : Jvm.MethodName)) ∈ lw_all := lw_g (lw_at lw_m8 25 rfl) rfl
theorem q1807 : (Jvm.Cond.instanceMethod ({ cls := "SwapPressModel", name := "total", desc := "(II)I" } : Jvm.MethodName)) ∈ lw_all := lw_g (lw_at lw_m8 27 rfl) rfl
theorem q1808 : (Jvm.Cond.selects "SwapPressModel" ({ cls := "SwapPressModel", name := "total", desc := "(II)I" } : Jvm.MethodName) ({ cls := "SwapPressModel", name := "total", desc := "(II)I" } : Jvm.MethodName)) ∈ lw_all := lw_g (lw_at lw_m8 28 rfl) rfl
theorem q1809 : (Jvm.Cond.code ({ cls := "SwapPressModel", name := "total", desc := "(II)I" } : Jvm.MethodName) prog_15_method_50_code (5 : Nat) (Option.some Jvm.ClassFile.FieldType.int)) ∈ lw_all := lw_g (lw_at lw_m8 29 rfl) rfl
theorem q1810 : (Jvm.Cond.methodLink "SwapPressModel" (252 : Nat) ({ cls := "SwapPressModel", name := "sumOfFlows", desc := "()I" } : Jvm.MethodName)) ∈ lw_all := lw_g (lw_at lw_m8 30 rfl) rfl
theorem q1811 : (Jvm.Cond.privateMethod ({ cls := "SwapPressModel", name := "sumOfFlows", desc := "()I" } : Jvm.MethodName)) ∈ lw_tbl := lw_at lw_m8 31 rfl
theorem q1812 : (Jvm.Cond.instanceMethod ({ cls := "SwapPressModel", name := "sumOfFlows", desc := "()I" } : Jvm.MethodName)) ∈ lw_all := lw_g (lw_at lw_m8 32 rfl) rfl
theorem q1813 : (Jvm.Cond.code ({ cls := "SwapPressModel", name := "sumOfFlows", desc := "()I" } : Jvm.MethodName) prog_15_method_61_code (3 : Nat) (Option.some Jvm.ClassFile.FieldType.int)) ∈ lw_all := lw_g (lw_at lw_m8 33 rfl) rfl
theorem q1814 : (Jvm.Cond.methodLink "SwapPressModel" (255 : Nat) ({ cls := "SwapPressModel", name := "positive", desc := "()I" } : Jvm.MethodName)) ∈ lw_all := lw_g (lw_at lw_m8 34 rfl) rfl
theorem q1815 : (Jvm.Cond.privateMethod ({ cls := "SwapPressModel", name := "positive", desc := "()I" } : Jvm.MethodName)) ∈ lw_tbl := lw_at lw_m8 35 rfl
theorem q1816 : (Jvm.Cond.instanceMethod ({ cls := "SwapPressModel", name := "positive", desc := "()I" } : Jvm.MethodName)) ∈ lw_all := lw_g (lw_at lw_m8 36 rfl) rfl
theorem q1817 : (Jvm.Cond.code ({ cls := "SwapPressModel", name := "positive", desc := "()I" } : Jvm.MethodName) prog_15_method_44_code (3 : Nat) (Option.some Jvm.ClassFile.FieldType.int)) ∈ lw_all := lw_g (lw_at lw_m8 37 rfl) rfl
theorem q1819 : (Jvm.Cond.instanceMethod ({ cls := "SwapPressModel", name := "bound", desc := "(III)I" } : Jvm.MethodName)) ∈ lw_all := lw_g (lw_at lw_m8 39 rfl) rfl
theorem q1820 : (Jvm.Cond.selects "SwapPressModel" ({ cls := "SwapPressModel", name := "bound", desc := "(III)I" } : Jvm.MethodName) ({ cls := "SwapPressModel", name := "bound", desc := "(III)I" } : Jvm.MethodName)) ∈ lw_all := lw_g (lw_at lw_m8 40 rfl) rfl
theorem q1821 : (Jvm.Cond.code ({ cls := "SwapPressModel", name := "bound", desc := "(III)I" } : Jvm.MethodName) prog_15_method_52_code (4 : Nat) (Option.some Jvm.ClassFile.FieldType.int)) ∈ lw_all := lw_g (lw_at lw_m8 41 rfl) rfl
theorem q1822 : (Jvm.Cond.methodLink "SwapPressModel" (258 : Nat) ({ cls := "SwapPressModel", name := "boundOf", desc := "(II)I" } : Jvm.MethodName)) ∈ lw_all := lw_g (lw_at lw_m8 42 rfl) rfl
theorem q1823 : (Jvm.Cond.privateMethod ({ cls := "SwapPressModel", name := "boundOf", desc := "(II)I" } : Jvm.MethodName)) ∈ lw_tbl := lw_at lw_m8 43 rfl
theorem q1824 : (Jvm.Cond.instanceMethod ({ cls := "SwapPressModel", name := "boundOf", desc := "(II)I" } : Jvm.MethodName)) ∈ lw_all := lw_g (lw_at lw_m8 44 rfl) rfl
theorem q1825 : (Jvm.Cond.code ({ cls := "SwapPressModel", name := "boundOf", desc := "(II)I" } : Jvm.MethodName) prog_15_method_51_code (4 : Nat) (Option.some Jvm.ClassFile.FieldType.int)) ∈ lw_all := lw_g (lw_at lw_m8 45 rfl) rfl
theorem q1827 : (Jvm.Cond.instanceMethod ({ cls := "SwapPressModel", name := "ring", desc := "(II)I" } : Jvm.MethodName)) ∈ lw_all := lw_g (lw_at lw_m8 47 rfl) rfl
theorem q1828 : (Jvm.Cond.selects "SwapPressModel" ({ cls := "SwapPressModel", name := "ring", desc := "(II)I" } : Jvm.MethodName) ({ cls := "SwapPressModel", name := "ring", desc := "(II)I" } : Jvm.MethodName)) ∈ lw_all := lw_g (lw_at lw_m8 48 rfl) rfl
theorem q1829 : (Jvm.Cond.code ({ cls := "SwapPressModel", name := "ring", desc := "(II)I" } : Jvm.MethodName) prog_15_method_57_code (4 : Nat) (Option.some Jvm.ClassFile.FieldType.int)) ∈ lw_all := lw_g (lw_at lw_m8 49 rfl) rfl
theorem q1830 : (Jvm.Cond.methodLink "SwapPressModel" (271 : Nat) ({ cls := "SwapPressModel", name := "laysRing", desc := "()I" } : Jvm.MethodName)) ∈ lw_all := lw_g (lw_at lw_m8 50 rfl) rfl
theorem q1831 : (Jvm.Cond.privateMethod ({ cls := "SwapPressModel", name := "laysRing", desc := "()I" } : Jvm.MethodName)) ∈ lw_tbl := lw_at lw_m8 51 rfl
theorem q1832 : (Jvm.Cond.instanceMethod ({ cls := "SwapPressModel", name := "laysRing", desc := "()I" } : Jvm.MethodName)) ∈ lw_all := lw_g (lw_at lw_m8 52 rfl) rfl
theorem q1833 : (Jvm.Cond.code ({ cls := "SwapPressModel", name := "laysRing", desc := "()I" } : Jvm.MethodName) prog_15_method_54_code (3 : Nat) (Option.some Jvm.ClassFile.FieldType.int)) ∈ lw_all := lw_g (lw_at lw_m8 53 rfl) rfl
theorem q1834 : (Jvm.Cond.methodLink "SwapPressModel" (261 : Nat) ({ cls := "SwapPressModel", name := "goesRound", desc := "(III)Z" } : Jvm.MethodName)) ∈ lw_all := lw_g (lw_at lw_m8 54 rfl) rfl
theorem q1835 : (Jvm.Cond.privateMethod ({ cls := "SwapPressModel", name := "goesRound", desc := "(III)Z" } : Jvm.MethodName)) ∈ lw_tbl := lw_at lw_m8 55 rfl
theorem q1836 : (Jvm.Cond.instanceMethod ({ cls := "SwapPressModel", name := "goesRound", desc := "(III)Z" } : Jvm.MethodName)) ∈ lw_all := lw_g (lw_at lw_m8 56 rfl) rfl
theorem q1837 : (Jvm.Cond.code ({ cls := "SwapPressModel", name := "goesRound", desc := "(III)Z" } : Jvm.MethodName) prog_15_method_53_code (6 : Nat) (Option.some Jvm.ClassFile.FieldType.boolean)) ∈ lw_all := lw_g (lw_at lw_m8 57 rfl) rfl
theorem q1839 : (Jvm.Cond.instanceMethod ({ cls := "SwapPressModel", name := "load", desc := "(I)I" } : Jvm.MethodName)) ∈ lw_all := lw_g (lw_at lw_m8 59 rfl) rfl
theorem q1840 : (Jvm.Cond.selects "SwapPressModel" ({ cls := "SwapPressModel", name := "load", desc := "(I)I" } : Jvm.MethodName) ({ cls := "SwapPressModel", name := "load", desc := "(I)I" } : Jvm.MethodName)) ∈ lw_all := lw_g (lw_at lw_m8 60 rfl) rfl
theorem q1841 : (Jvm.Cond.code ({ cls := "SwapPressModel", name := "load", desc := "(I)I" } : Jvm.MethodName) prog_15_method_58_code (2 : Nat) (Option.some Jvm.ClassFile.FieldType.int)) ∈ lw_all := lw_g (lw_at lw_m8 61 rfl) rfl
theorem q1842 : (Jvm.Cond.methodLink "SwapPressModel" (274 : Nat) ({ cls := "SwapPressModel", name := "loadOf", desc := "()I" } : Jvm.MethodName)) ∈ lw_all := lw_g (lw_at lw_m8 62 rfl) rfl
theorem q1843 : (Jvm.Cond.privateMethod ({ cls := "SwapPressModel", name := "loadOf", desc := "()I" } : Jvm.MethodName)) ∈ lw_tbl := lw_at lw_m8 63 rfl
theorem q1844 : (Jvm.Cond.instanceMethod ({ cls := "SwapPressModel", name := "loadOf", desc := "()I" } : Jvm.MethodName)) ∈ lw_all := lw_g (lw_at lw_m8 64 rfl) rfl
theorem q1845 : (Jvm.Cond.code ({ cls := "SwapPressModel", name := "loadOf", desc := "()I" } : Jvm.MethodName) prog_15_method_56_code (3 : Nat) (Option.some Jvm.ClassFile.FieldType.int)) ∈ lw_all := lw_g (lw_at lw_m8 65 rfl) rfl
theorem q1846 : (Jvm.Cond.methodLink "SwapPressModel" (268 : Nat) ({ cls := "SwapPressModel", name := "coupleOf", desc := "(I)I" } : Jvm.MethodName)) ∈ lw_all := lw_g (lw_at lw_m8 66 rfl) rfl
theorem q1847 : (Jvm.Cond.privateMethod ({ cls := "SwapPressModel", name := "coupleOf", desc := "(I)I" } : Jvm.MethodName)) ∈ lw_tbl := lw_at lw_m8 67 rfl
theorem q1848 : (Jvm.Cond.instanceMethod ({ cls := "SwapPressModel", name := "coupleOf", desc := "(I)I" } : Jvm.MethodName)) ∈ lw_all := lw_g (lw_at lw_m8 68 rfl) rfl
theorem q1849 : (Jvm.Cond.code ({ cls := "SwapPressModel", name := "coupleOf", desc := "(I)I" } : Jvm.MethodName) prog_15_method_55_code (2 : Nat) (Option.some Jvm.ClassFile.FieldType.int)) ∈ lw_all := lw_g (lw_at lw_m8 69 rfl) rfl
theorem q1851 : (Jvm.Cond.instanceMethod ({ cls := "SwapPressModel", name := "cleared", desc := "(II)I" } : Jvm.MethodName)) ∈ lw_all := lw_g (lw_at lw_m8 71 rfl) rfl
theorem q1852 : (Jvm.Cond.selects "SwapPressModel" ({ cls := "SwapPressModel", name := "cleared", desc := "(II)I" } : Jvm.MethodName) ({ cls := "SwapPressModel", name := "cleared", desc := "(II)I" } : Jvm.MethodName)) ∈ lw_all := lw_g (lw_at lw_m8 72 rfl) rfl
theorem q1853 : (Jvm.Cond.code ({ cls := "SwapPressModel", name := "cleared", desc := "(II)I" } : Jvm.MethodName) prog_15_method_59_code (5 : Nat) (Option.some Jvm.ClassFile.FieldType.int)) ∈ lw_all := lw_g (lw_at lw_m8 73 rfl) rfl
theorem q1854 : (Jvm.Cond.methodLink "SwapPressModel" (277 : Nat) ({ cls := "SwapPressModel", name := "ringGoes", desc := "()V" } : Jvm.MethodName)) ∈ lw_all := lw_g (lw_at lw_m8 74 rfl) rfl
theorem q1855 : (Jvm.Cond.privateMethod ({ cls := "SwapPressModel", name := "ringGoes", desc := "()V" } : Jvm.MethodName)) ∈ lw_tbl := lw_at lw_m8 75 rfl
theorem q1856 : (Jvm.Cond.instanceMethod ({ cls := "SwapPressModel", name := "ringGoes", desc := "()V" } : Jvm.MethodName)) ∈ lw_all := lw_g (lw_at lw_m8 76 rfl) rfl
theorem q1857 : (Jvm.Cond.code ({ cls := "SwapPressModel", name := "ringGoes", desc := "()V" } : Jvm.MethodName) prog_15_method_60_code (3 : Nat) (Option.none : Option Jvm.ClassFile.FieldType)) ∈ lw_all := lw_g (lw_at lw_m8 77 rfl) rfl
theorem q1859 : (Jvm.Cond.instanceMethod ({ cls := "SwapPressModel", name := "rounds", desc := "(II)I" } : Jvm.MethodName)) ∈ lw_all := lw_g (lw_at lw_m8 79 rfl) rfl
theorem q1860 : (Jvm.Cond.selects "SwapPressModel" ({ cls := "SwapPressModel", name := "rounds", desc := "(II)I" } : Jvm.MethodName) ({ cls := "SwapPressModel", name := "rounds", desc := "(II)I" } : Jvm.MethodName)) ∈ lw_all := lw_g (lw_at lw_m8 80 rfl) rfl
theorem q1861 : (Jvm.Cond.code ({ cls := "SwapPressModel", name := "rounds", desc := "(II)I" } : Jvm.MethodName) prog_15_method_62_code (4 : Nat) (Option.some Jvm.ClassFile.FieldType.int)) ∈ lw_all := lw_g (lw_at lw_m8 81 rfl) rfl
theorem q1862 : (Jvm.Cond.constantLong "SwapPressModel" (280 : Nat) (99 : Int64)) ∈ lw_all := lw_g (lw_at lw_m8 82 rfl) rfl
theorem q1864 : (Jvm.Cond.instanceMethod ({ cls := "SwapPressModel", name := "chain", desc := "(II)I" } : Jvm.MethodName)) ∈ lw_all := lw_g (lw_at lw_m8 84 rfl) rfl
theorem q1865 : (Jvm.Cond.selects "SwapPressModel" ({ cls := "SwapPressModel", name := "chain", desc := "(II)I" } : Jvm.MethodName) ({ cls := "SwapPressModel", name := "chain", desc := "(II)I" } : Jvm.MethodName)) ∈ lw_all := lw_g (lw_at lw_m8 85 rfl) rfl
theorem q1866 : (Jvm.Cond.code ({ cls := "SwapPressModel", name := "chain", desc := "(II)I" } : Jvm.MethodName) prog_15_method_65_code (6 : Nat) (Option.some Jvm.ClassFile.FieldType.int)) ∈ lw_all := lw_g (lw_at lw_m8 86 rfl) rfl
theorem q1867 : (Jvm.Cond.methodLink "SwapPressModel" (282 : Nat) ({ cls := "SwapPressModel", name := "laysRows", desc := "()I" } : Jvm.MethodName)) ∈ lw_all := lw_g (lw_at lw_m8 87 rfl) rfl
theorem q1868 : (Jvm.Cond.privateMethod ({ cls := "SwapPressModel", name := "laysRows", desc := "()I" } : Jvm.MethodName)) ∈ lw_tbl := lw_at lw_m8 88 rfl
theorem q1869 : (Jvm.Cond.instanceMethod ({ cls := "SwapPressModel", name := "laysRows", desc := "()I" } : Jvm.MethodName)) ∈ lw_all := lw_g (lw_at lw_m8 89 rfl) rfl
theorem q1870 : (Jvm.Cond.code ({ cls := "SwapPressModel", name := "laysRows", desc := "()I" } : Jvm.MethodName) prog_15_method_64_code (5 : Nat) (Option.some Jvm.ClassFile.FieldType.int)) ∈ lw_all := lw_g (lw_at lw_m8 90 rfl) rfl
theorem q1871 : (Jvm.Cond.methodLink "SwapPressModel" (285 : Nat) ({ cls := "SwapPressModel", name := "nextOf", desc := "(II)I" } : Jvm.MethodName)) ∈ lw_all := lw_g (lw_at lw_m8 91 rfl) rfl
theorem q1872 : (Jvm.Cond.privateMethod ({ cls := "SwapPressModel", name := "nextOf", desc := "(II)I" } : Jvm.MethodName)) ∈ lw_tbl := lw_at lw_m8 92 rfl
theorem q1873 : (Jvm.Cond.instanceMethod ({ cls := "SwapPressModel", name := "nextOf", desc := "(II)I" } : Jvm.MethodName)) ∈ lw_all := lw_g (lw_at lw_m8 93 rfl) rfl
theorem q1874 : (Jvm.Cond.code ({ cls := "SwapPressModel", name := "nextOf", desc := "(II)I" } : Jvm.MethodName) prog_15_method_63_code (4 : Nat) (Option.some Jvm.ClassFile.FieldType.int)) ∈ lw_all := lw_g (lw_at lw_m8 94 rfl) rfl
theorem q1876 : (Jvm.Cond.instanceMethod ({ cls := "SwapPressModel", name := "takeRing", desc := "(I)I" } : Jvm.MethodName)) ∈ lw_all := lw_g (lw_at lw_m8 96 rfl) rfl
theorem q1877 : (Jvm.Cond.selects "SwapPressModel" ({ cls := "SwapPressModel", name := "takeRing", desc := "(I)I" } : Jvm.MethodName) ({ cls := "SwapPressModel", name := "takeRing", desc := "(I)I" } : Jvm.MethodName)) ∈ lw_all := lw_g (lw_at lw_m8 97 rfl) rfl
theorem q1878 : (Jvm.Cond.code ({ cls := "SwapPressModel", name := "takeRing", desc := "(I)I" } : Jvm.MethodName) prog_15_method_66_code (7 : Nat) (Option.some Jvm.ClassFile.FieldType.int)) ∈ lw_all := lw_g (lw_at lw_m8 98 rfl) rfl
theorem q1880 : (Jvm.Cond.instanceMethod ({ cls := "SwapPressModel", name := "least", desc := "(I)I" } : Jvm.MethodName)) ∈ lw_all := lw_g (lw_at lw_m8 100 rfl) rfl
theorem q1881 : (Jvm.Cond.selects "SwapPressModel" ({ cls := "SwapPressModel", name := "least", desc := "(I)I" } : Jvm.MethodName) ({ cls := "SwapPressModel", name := "least", desc := "(I)I" } : Jvm.MethodName)) ∈ lw_all := lw_g (lw_at lw_m8 101 rfl) rfl
theorem q1882 : (Jvm.Cond.code ({ cls := "SwapPressModel", name := "least", desc := "(I)I" } : Jvm.MethodName) prog_15_method_80_code (2 : Nat) (Option.some Jvm.ClassFile.FieldType.int)) ∈ lw_all := lw_g (lw_at lw_m8 102 rfl) rfl
theorem q1883 : (Jvm.Cond.methodLink "SwapPressModel" (316 : Nat) ({ cls := "SwapPressModel", name := "laysBounds", desc := "(II)V" } : Jvm.MethodName)) ∈ lw_all := lw_g (lw_at lw_m8 103 rfl) rfl
theorem q1884 : (Jvm.Cond.privateMethod ({ cls := "SwapPressModel", name := "laysBounds", desc := "(II)V" } : Jvm.MethodName)) ∈ lw_tbl := lw_at lw_m8 104 rfl
theorem q1885 : (Jvm.Cond.instanceMethod ({ cls := "SwapPressModel", name := "laysBounds", desc := "(II)V" } : Jvm.MethodName)) ∈ lw_all := lw_g (lw_at lw_m8 105 rfl) rfl
theorem q1886 : (Jvm.Cond.code ({ cls := "SwapPressModel", name := "laysBounds", desc := "(II)V" } : Jvm.MethodName) prog_15_method_68_code (6 : Nat) (Option.none : Option Jvm.ClassFile.FieldType)) ∈ lw_all := lw_g (lw_at lw_m8 106 rfl) rfl
theorem q1887 : (Jvm.Cond.methodLink "SwapPressModel" (288 : Nat) ({ cls := "SwapPressModel", name := "throughBy", desc := "([II)I" } : Jvm.MethodName)) ∈ lw_all := lw_g (lw_at lw_m8 107 rfl) rfl
theorem q1888 : (Jvm.Cond.static ({ cls := "SwapPressModel", name := "throughBy", desc := "([II)I" } : Jvm.MethodName)) ∈ lw_all := lw_g (lw_at lw_m8 108 rfl) rfl
theorem q1889 : (Jvm.Cond.code ({ cls := "SwapPressModel", name := "throughBy", desc := "([II)I" } : Jvm.MethodName) prog_15_method_67_code (5 : Nat) (Option.some Jvm.ClassFile.FieldType.int)) ∈ lw_all := lw_g (lw_at lw_m8 109 rfl) rfl
theorem q1890 : (Jvm.Cond.constant "SwapPressModel" (292 : Nat) (2000000000 : Int32)) ∈ lw_all := lw_g (lw_at lw_m8 110 rfl) rfl
theorem q1891 : (Jvm.Cond.methodLink "SwapPressModel" (319 : Nat) ({ cls := "SwapPressModel", name := "presses", desc := "()Z" } : Jvm.MethodName)) ∈ lw_all := lw_g (lw_at lw_m8 111 rfl) rfl
theorem q1892 : (Jvm.Cond.privateMethod ({ cls := "SwapPressModel", name := "presses", desc := "()Z" } : Jvm.MethodName)) ∈ lw_tbl := lw_at lw_m8 112 rfl
theorem q1893 : (Jvm.Cond.instanceMethod ({ cls := "SwapPressModel", name := "presses", desc := "()Z" } : Jvm.MethodName)) ∈ lw_all := lw_g (lw_at lw_m8 113 rfl) rfl
theorem q1894 : (Jvm.Cond.code ({ cls := "SwapPressModel", name := "presses", desc := "()Z" } : Jvm.MethodName) prog_15_method_75_code (5 : Nat) (Option.some Jvm.ClassFile.FieldType.boolean)) ∈ lw_all := lw_g (lw_at lw_m8 114 rfl) rfl
theorem q1895 : (Jvm.Cond.constant "SwapPressModel" (293 : Nat) (1000000 : Int32)) ∈ lw_all := lw_g (lw_at lw_m8 115 rfl) rfl
theorem q1896 : (Jvm.Cond.methodLink "SwapPressModel" (300 : Nat) ({ cls := "SwapPressModel", name := "laysWays", desc := "()V" } : Jvm.MethodName)) ∈ lw_all := lw_g (lw_at lw_m8 116 rfl) rfl
theorem q1897 : (Jvm.Cond.privateMethod ({ cls := "SwapPressModel", name := "laysWays", desc := "()V" } : Jvm.MethodName)) ∈ lw_tbl := lw_at lw_m8 117 rfl
theorem q1898 : (Jvm.Cond.instanceMethod ({ cls := "SwapPressModel", name := "laysWays", desc := "()V" } : Jvm.MethodName)) ∈ lw_all := lw_g (lw_at lw_m8 118 rfl) rfl
theorem q1899 : (Jvm.Cond.code ({ cls := "SwapPressModel", name := "laysWays", desc := "()V" } : Jvm.MethodName) prog_15_method_71_code (4 : Nat) (Option.none : Option Jvm.ClassFile.FieldType)) ∈ lw_all := lw_g (lw_at lw_m8 119 rfl) rfl
theorem q1900 : (Jvm.Cond.methodLink "SwapPressModel" (294 : Nat) ({ cls := "SwapPressModel", name := "stepMay", desc := "(II)I" } : Jvm.MethodName)) ∈ lw_all := lw_g (lw_at lw_m8 120 rfl) rfl
theorem q1901 : (Jvm.Cond.privateMethod ({ cls := "SwapPressModel", name := "stepMay", desc := "(II)I" } : Jvm.MethodName)) ∈ lw_tbl := lw_at lw_m8 121 rfl
theorem q1902 : (Jvm.Cond.instanceMethod ({ cls := "SwapPressModel", name := "stepMay", desc := "(II)I" } : Jvm.MethodName)) ∈ lw_all := lw_g (lw_at lw_m8 122 rfl) rfl
theorem q1903 : (Jvm.Cond.code ({ cls := "SwapPressModel", name := "stepMay", desc := "(II)I" } : Jvm.MethodName) prog_15_method_69_code (7 : Nat) (Option.some Jvm.ClassFile.FieldType.int)) ∈ lw_all := lw_g (lw_at lw_m8 123 rfl) rfl
theorem q1904 : (Jvm.Cond.methodLink "SwapPressModel" (297 : Nat) ({ cls := "SwapPressModel", name := "stepCost", desc := "(II)I" } : Jvm.MethodName)) ∈ lw_all := lw_g (lw_at lw_m8 124 rfl) rfl
theorem q1905 : (Jvm.Cond.static ({ cls := "SwapPressModel", name := "stepCost", desc := "(II)I" } : Jvm.MethodName)) ∈ lw_all := lw_g (lw_at lw_m8 125 rfl) rfl
theorem q1906 : (Jvm.Cond.code ({ cls := "SwapPressModel", name := "stepCost", desc := "(II)I" } : Jvm.MethodName) prog_15_method_70_code (2 : Nat) (Option.some Jvm.ClassFile.FieldType.int)) ∈ lw_all := lw_g (lw_at lw_m8 126 rfl) rfl
theorem q1907 : (Jvm.Cond.methodLink "SwapPressModel" (303 : Nat) ({ cls := "SwapPressModel", name := "firstOf", desc := "(I)I" } : Jvm.MethodName)) ∈ lw_all := lw_g (lw_at lw_m8 127 rfl) rfl
theorem q1908 : (Jvm.Cond.privateMethod ({ cls := "SwapPressModel", name := "firstOf", desc := "(I)I" } : Jvm.MethodName)) ∈ lw_tbl := lw_at lw_m8 128 rfl
theorem q1909 : (Jvm.Cond.instanceMethod ({ cls := "SwapPressModel", name := "firstOf", desc := "(I)I" } : Jvm.MethodName)) ∈ lw_all := lw_g (lw_at lw_m8 129 rfl) rfl
theorem q1910 : (Jvm.Cond.code ({ cls := "SwapPressModel", name := "firstOf", desc := "(I)I" } : Jvm.MethodName) prog_15_method_73_code (3 : Nat) (Option.some Jvm.ClassFile.FieldType.int)) ∈ lw_all := lw_g (lw_at lw_m8 130 rfl) rfl
theorem q1911 : (Jvm.Cond.methodLink "SwapPressModel" (306 : Nat) ({ cls := "SwapPressModel", name := "wayMay", desc := "(II)I" } : Jvm.MethodName)) ∈ lw_all := lw_g (lw_at lw_m8 131 rfl) rfl
theorem q1912 : (Jvm.Cond.privateMethod ({ cls := "SwapPressModel", name := "wayMay", desc := "(II)I" } : Jvm.MethodName)) ∈ lw_tbl := lw_at lw_m8 132 rfl
theorem q1913 : (Jvm.Cond.instanceMethod ({ cls := "SwapPressModel", name := "wayMay", desc := "(II)I" } : Jvm.MethodName)) ∈ lw_all := lw_g (lw_at lw_m8 133 rfl) rfl
theorem q1914 : (Jvm.Cond.code ({ cls := "SwapPressModel", name := "wayMay", desc := "(II)I" } : Jvm.MethodName) prog_15_method_72_code (5 : Nat) (Option.some Jvm.ClassFile.FieldType.int)) ∈ lw_all := lw_g (lw_at lw_m8 134 rfl) rfl
theorem q1915 : (Jvm.Cond.methodLink "SwapPressModel" (309 : Nat) ({ cls := "SwapPressModel", name := "sends", desc := "(II)V" } : Jvm.MethodName)) ∈ lw_all := lw_g (lw_at lw_m8 135 rfl) rfl
theorem q1916 : (Jvm.Cond.privateMethod ({ cls := "SwapPressModel", name := "sends", desc := "(II)V" } : Jvm.MethodName)) ∈ lw_tbl := lw_at lw_m8 136 rfl
theorem q1917 : (Jvm.Cond.instanceMethod ({ cls := "SwapPressModel", name := "sends", desc := "(II)V" } : Jvm.MethodName)) ∈ lw_all := lw_g (lw_at lw_m8 137 rfl) rfl
theorem q1918 : (Jvm.Cond.code ({ cls := "SwapPressModel", name := "sends", desc := "(II)V" } : Jvm.MethodName) prog_15_method_74_code (5 : Nat) (Option.none : Option Jvm.ClassFile.FieldType)) ∈ lw_all := lw_g (lw_at lw_m8 138 rfl) rfl
theorem q1919 : (Jvm.Cond.methodLink "SwapPressModel" (327 : Nat) ({ cls := "SwapPressModel", name := "sumOf", desc := "()I" } : Jvm.MethodName)) ∈ lw_all := lw_g (lw_at lw_m8 139 rfl) rfl
theorem q1920 : (Jvm.Cond.privateMethod ({ cls := "SwapPressModel", name := "sumOf", desc := "()I" } : Jvm.MethodName)) ∈ lw_tbl := lw_at lw_m8 140 rfl
theorem q1921 : (Jvm.Cond.instanceMethod ({ cls := "SwapPressModel", name := "sumOf", desc := "()I" } : Jvm.MethodName)) ∈ lw_all := lw_g (lw_at lw_m8 141 rfl) rfl
theorem q1922 : (Jvm.Cond.code ({ cls := "SwapPressModel", name := "sumOf", desc := "()I" } : Jvm.MethodName) prog_15_method_76_code (3 : Nat) (Option.some Jvm.ClassFile.FieldType.int)) ∈ lw_all := lw_g (lw_at lw_m8 142 rfl) rfl
theorem q1924 : (Jvm.Cond.instanceMethod ({ cls := "SwapPressModel", name := "pressed", desc := "(III)I" } : Jvm.MethodName)) ∈ lw_all := lw_g (lw_at lw_m8 144 rfl) rfl
theorem q1925 : (Jvm.Cond.selects "SwapPressModel" ({ cls := "SwapPressModel", name := "pressed", desc := "(III)I" } : Jvm.MethodName) ({ cls := "SwapPressModel", name := "pressed", desc := "(III)I" } : Jvm.MethodName)) ∈ lw_all := lw_g (lw_at lw_m8 145 rfl) rfl
theorem q1926 : (Jvm.Cond.code ({ cls := "SwapPressModel", name := "pressed", desc := "(III)I" } : Jvm.MethodName) prog_15_method_81_code (4 : Nat) (Option.some Jvm.ClassFile.FieldType.int)) ∈ lw_all := lw_g (lw_at lw_m8 146 rfl) rfl
theorem q1927 : (Jvm.Cond.methodLink "SwapPressModel" (330 : Nat) ({ cls := "SwapPressModel", name := "pressesFirst", desc := "(I)Z" } : Jvm.MethodName)) ∈ lw_all := lw_g (lw_at lw_m8 147 rfl) rfl
theorem q1928 : (Jvm.Cond.privateMethod ({ cls := "SwapPressModel", name := "pressesFirst", desc := "(I)Z" } : Jvm.MethodName)) ∈ lw_tbl := lw_at lw_m8 148 rfl
theorem q1929 : (Jvm.Cond.instanceMethod ({ cls := "SwapPressModel", name := "pressesFirst", desc := "(I)Z" } : Jvm.MethodName)) ∈ lw_all := lw_g (lw_at lw_m8 149 rfl) rfl
theorem q1930 : (Jvm.Cond.code ({ cls := "SwapPressModel", name := "pressesFirst", desc := "(I)Z" } : Jvm.MethodName) prog_15_method_79_code (4 : Nat) (Option.some Jvm.ClassFile.FieldType.boolean)) ∈ lw_all := lw_g (lw_at lw_m8 150 rfl) rfl
theorem q1931 : (Jvm.Cond.methodLink "SwapPressModel" (323 : Nat) ({ cls := "SwapPressModel", name := "turns", desc := "(IIZ)V" } : Jvm.MethodName)) ∈ lw_all := lw_g (lw_at lw_m8 151 rfl) rfl
theorem q1932 : (Jvm.Cond.privateMethod ({ cls := "SwapPressModel", name := "turns", desc := "(IIZ)V" } : Jvm.MethodName)) ∈ lw_tbl := lw_at lw_m8 152 rfl
theorem q1933 : (Jvm.Cond.instanceMethod ({ cls := "SwapPressModel", name := "turns", desc := "(IIZ)V" } : Jvm.MethodName)) ∈ lw_all := lw_g (lw_at lw_m8 153 rfl) rfl
theorem q1934 : (Jvm.Cond.code ({ cls := "SwapPressModel", name := "turns", desc := "(IIZ)V" } : Jvm.MethodName) prog_15_method_78_code (5 : Nat) (Option.none : Option Jvm.ClassFile.FieldType)) ∈ lw_all := lw_g (lw_at lw_m8 154 rfl) rfl
theorem q1935 : (Jvm.Cond.methodLink "SwapPressModel" (312 : Nat) ({ cls := "SwapPressModel", name := "shifts", desc := "(IIII)I" } : Jvm.MethodName)) ∈ lw_all := lw_g (lw_at lw_m8 155 rfl) rfl
theorem q1936 : (Jvm.Cond.privateMethod ({ cls := "SwapPressModel", name := "shifts", desc := "(IIII)I" } : Jvm.MethodName)) ∈ lw_tbl := lw_at lw_m8 156 rfl
theorem q1937 : (Jvm.Cond.instanceMethod ({ cls := "SwapPressModel", name := "shifts", desc := "(IIII)I" } : Jvm.MethodName)) ∈ lw_all := lw_g (lw_at lw_m8 157 rfl) rfl
theorem q1938 : (Jvm.Cond.code ({ cls := "SwapPressModel", name := "shifts", desc := "(IIII)I" } : Jvm.MethodName) prog_15_method_77_code (8 : Nat) (Option.some Jvm.ClassFile.FieldType.int)) ∈ lw_all := lw_g (lw_at lw_m8 158 rfl) rfl
theorem q1940 : (Jvm.Cond.instanceMethod ({ cls := "SwapPressModel", name := "couples", desc := "(I)I" } : Jvm.MethodName)) ∈ lw_all := lw_g (lw_at lw_m8 160 rfl) rfl
theorem q1941 : (Jvm.Cond.selects "SwapPressModel" ({ cls := "SwapPressModel", name := "couples", desc := "(I)I" } : Jvm.MethodName) ({ cls := "SwapPressModel", name := "couples", desc := "(I)I" } : Jvm.MethodName)) ∈ lw_all := lw_g (lw_at lw_m8 161 rfl) rfl
theorem q1942 : (Jvm.Cond.code ({ cls := "SwapPressModel", name := "couples", desc := "(I)I" } : Jvm.MethodName) prog_15_method_83_code (2 : Nat) (Option.some Jvm.ClassFile.FieldType.int)) ∈ lw_all := lw_g (lw_at lw_m8 162 rfl) rfl
theorem q1943 : (Jvm.Cond.methodLink "SwapPressModel" (333 : Nat) ({ cls := "SwapPressModel", name := "couplesNow", desc := "()I" } : Jvm.MethodName)) ∈ lw_all := lw_g (lw_at lw_m8 163 rfl) rfl
theorem q1944 : (Jvm.Cond.privateMethod ({ cls := "SwapPressModel", name := "couplesNow", desc := "()I" } : Jvm.MethodName)) ∈ lw_tbl := lw_at lw_m8 164 rfl
theorem q1945 : (Jvm.Cond.instanceMethod ({ cls := "SwapPressModel", name := "couplesNow", desc := "()I" } : Jvm.MethodName)) ∈ lw_all := lw_g (lw_at lw_m8 165 rfl) rfl
theorem q1946 : (Jvm.Cond.code ({ cls := "SwapPressModel", name := "couplesNow", desc := "()I" } : Jvm.MethodName) prog_15_method_82_code (3 : Nat) (Option.some Jvm.ClassFile.FieldType.int)) ∈ lw_all := lw_g (lw_at lw_m8 166 rfl) rfl
theorem q1948 : (Jvm.Cond.instanceMethod ({ cls := "SwapPressModel", name := "span", desc := "(IIII)I" } : Jvm.MethodName)) ∈ lw_all := lw_g (lw_at lw_m8 168 rfl) rfl
theorem q1949 : (Jvm.Cond.selects "SwapPressModel" ({ cls := "SwapPressModel", name := "span", desc := "(IIII)I" } : Jvm.MethodName) ({ cls := "SwapPressModel", name := "span", desc := "(IIII)I" } : Jvm.MethodName)) ∈ lw_all := lw_g (lw_at lw_m8 169 rfl) rfl
theorem q1950 : (Jvm.Cond.code ({ cls := "SwapPressModel", name := "span", desc := "(IIII)I" } : Jvm.MethodName) prog_15_method_84_code (5 : Nat) (Option.some Jvm.ClassFile.FieldType.int)) ∈ lw_all := lw_g (lw_at lw_m8 170 rfl) rfl
theorem q1952 : (Jvm.Cond.instanceMethod ({ cls := "SwapPressModel", name := "gain", desc := "(III)I" } : Jvm.MethodName)) ∈ lw_all := lw_g (lw_at lw_m8 172 rfl) rfl
theorem q1953 : (Jvm.Cond.selects "SwapPressModel" ({ cls := "SwapPressModel", name := "gain", desc := "(III)I" } : Jvm.MethodName) ({ cls := "SwapPressModel", name := "gain", desc := "(III)I" } : Jvm.MethodName)) ∈ lw_all := lw_g (lw_at lw_m8 173 rfl) rfl
theorem q1954 : (Jvm.Cond.code ({ cls := "SwapPressModel", name := "gain", desc := "(III)I" } : Jvm.MethodName) prog_15_method_85_code (5 : Nat) (Option.some Jvm.ClassFile.FieldType.int)) ∈ lw_all := lw_g (lw_at lw_m8 174 rfl) rfl
theorem q1956 : (Jvm.Cond.instanceMethod ({ cls := "SwapPressModel", name := "without", desc := "(II)I" } : Jvm.MethodName)) ∈ lw_all := lw_g (lw_at lw_m8 176 rfl) rfl
theorem q1957 : (Jvm.Cond.selects "SwapPressModel" ({ cls := "SwapPressModel", name := "without", desc := "(II)I" } : Jvm.MethodName) ({ cls := "SwapPressModel", name := "without", desc := "(II)I" } : Jvm.MethodName)) ∈ lw_all := lw_g (lw_at lw_m8 177 rfl) rfl
theorem q1958 : (Jvm.Cond.code ({ cls := "SwapPressModel", name := "without", desc := "(II)I" } : Jvm.MethodName) prog_15_method_86_code (5 : Nat) (Option.some Jvm.ClassFile.FieldType.int)) ∈ lw_all := lw_g (lw_at lw_m8 178 rfl) rfl
theorem q1960 : (Jvm.Cond.instanceMethod ({ cls := "SwapPressModel", name := "relief", desc := "(II)I" } : Jvm.MethodName)) ∈ lw_all := lw_g (lw_at lw_m8 180 rfl) rfl
theorem q1961 : (Jvm.Cond.selects "SwapPressModel" ({ cls := "SwapPressModel", name := "relief", desc := "(II)I" } : Jvm.MethodName) ({ cls := "SwapPressModel", name := "relief", desc := "(II)I" } : Jvm.MethodName)) ∈ lw_all := lw_g (lw_at lw_m8 181 rfl) rfl
theorem q1962 : (Jvm.Cond.code ({ cls := "SwapPressModel", name := "relief", desc := "(II)I" } : Jvm.MethodName) prog_15_method_88_code (3 : Nat) (Option.some Jvm.ClassFile.FieldType.int)) ∈ lw_all := lw_g (lw_at lw_m8 182 rfl) rfl
theorem q1963 : (Jvm.Cond.methodLink "SwapPressModel" (336 : Nat) ({ cls := "SwapPressModel", name := "reliefOf", desc := "(I)I" } : Jvm.MethodName)) ∈ lw_all := lw_g (lw_at lw_m8 183 rfl) rfl
theorem q1964 : (Jvm.Cond.privateMethod ({ cls := "SwapPressModel", name := "reliefOf", desc := "(I)I" } : Jvm.MethodName)) ∈ lw_tbl := lw_at lw_m8 184 rfl
theorem q1965 : (Jvm.Cond.instanceMethod ({ cls := "SwapPressModel", name := "reliefOf", desc := "(I)I" } : Jvm.MethodName)) ∈ lw_all := lw_g (lw_at lw_m8 185 rfl) rfl
theorem q1966 : (Jvm.Cond.code ({ cls := "SwapPressModel", name := "reliefOf", desc := "(I)I" } : Jvm.MethodName) prog_15_method_87_code (4 : Nat) (Option.some Jvm.ClassFile.FieldType.int)) ∈ lw_all := lw_g (lw_at lw_m8 186 rfl) rfl
theorem q1968 : (Jvm.Cond.instanceMethod ({ cls := "SwapPressModel", name := "relieved", desc := "(I)I" } : Jvm.MethodName)) ∈ lw_all := lw_g (lw_at lw_m8 188 rfl) rfl
theorem q1969 : (Jvm.Cond.selects "SwapPressModel" ({ cls := "SwapPressModel", name := "relieved", desc := "(I)I" } : Jvm.MethodName) ({ cls := "SwapPressModel", name := "relieved", desc := "(I)I" } : Jvm.MethodName)) ∈ lw_all := lw_g (lw_at lw_m8 189 rfl) rfl
theorem q1970 : (Jvm.Cond.code ({ cls := "SwapPressModel", name := "relieved", desc := "(I)I" } : Jvm.MethodName) prog_15_method_89_code (4 : Nat) (Option.some Jvm.ClassFile.FieldType.int)) ∈ lw_all := lw_g (lw_at lw_m8 190 rfl) rfl
theorem q1972 : (Jvm.Cond.instanceMethod ({ cls := "SwapPressModel", name := "through", desc := "(III)I" } : Jvm.MethodName)) ∈ lw_all := lw_g (lw_at lw_m8 192 rfl) rfl
theorem q1973 : (Jvm.Cond.selects "SwapPressModel" ({ cls := "SwapPressModel", name := "through", desc := "(III)I" } : Jvm.MethodName) ({ cls := "SwapPressModel", name := "through", desc := "(III)I" } : Jvm.MethodName)) ∈ lw_all := lw_g (lw_at lw_m8 193 rfl) rfl
theorem q1974 : (Jvm.Cond.code ({ cls := "SwapPressModel", name := "through", desc := "(III)I" } : Jvm.MethodName) prog_15_method_90_code (4 : Nat) (Option.some Jvm.ClassFile.FieldType.int)) ∈ lw_all := lw_g (lw_at lw_m8 194 rfl) rfl
theorem q1976 : (Jvm.Cond.instanceMethod ({ cls := "SwapPressModel", name := "all", desc := "()I" } : Jvm.MethodName)) ∈ lw_all := lw_g (lw_at lw_m8 196 rfl) rfl
theorem q1977 : (Jvm.Cond.selects "SwapPressModel" ({ cls := "SwapPressModel", name := "all", desc := "()I" } : Jvm.MethodName) ({ cls := "SwapPressModel", name := "all", desc := "()I" } : Jvm.MethodName)) ∈ lw_all := lw_g (lw_at lw_m8 197 rfl) rfl
theorem q1978 : (Jvm.Cond.code ({ cls := "SwapPressModel", name := "all", desc := "()I" } : Jvm.MethodName) prog_15_method_91_code (3 : Nat) (Option.some Jvm.ClassFile.FieldType.int)) ∈ lw_all := lw_g (lw_at lw_m8 198 rfl) rfl
theorem q1980 : (Jvm.Cond.instanceMethod ({ cls := "SwapPressModel", name := "enough", desc := "(III)I" } : Jvm.MethodName)) ∈ lw_all := lw_g (lw_at lw_m8 200 rfl) rfl
theorem q1981 : (Jvm.Cond.selects "SwapPressModel" ({ cls := "SwapPressModel", name := "enough", desc := "(III)I" } : Jvm.MethodName) ({ cls := "SwapPressModel", name := "enough", desc := "(III)I" } : Jvm.MethodName)) ∈ lw_all := lw_g (lw_at lw_m8 201 rfl) rfl
theorem q1982 : (Jvm.Cond.code ({ cls := "SwapPressModel", name := "enough", desc := "(III)I" } : Jvm.MethodName) prog_15_method_92_code (4 : Nat) (Option.some Jvm.ClassFile.FieldType.int)) ∈ lw_all := lw_g (lw_at lw_m8 202 rfl) rfl
theorem q1984 : (Jvm.Cond.instanceMethod ({ cls := "SwapPressModel", name := "press", desc := "(I)I" } : Jvm.MethodName)) ∈ lw_all := lw_g (lw_at lw_m8 204 rfl) rfl
theorem q1985 : (Jvm.Cond.selects "SwapPressModel" ({ cls := "SwapPressModel", name := "press", desc := "(I)I" } : Jvm.MethodName) ({ cls := "SwapPressModel", name := "press", desc := "(I)I" } : Jvm.MethodName)) ∈ lw_all := lw_g (lw_at lw_m8 205 rfl) rfl
theorem q1986 : (Jvm.Cond.code ({ cls := "SwapPressModel", name := "press", desc := "(I)I" } : Jvm.MethodName) prog_15_method_93_code (4 : Nat) (Option.some Jvm.ClassFile.FieldType.int)) ∈ lw_all := lw_g (lw_at lw_m8 206 rfl) rfl
theorem q1988 : (Jvm.Cond.instanceMethod ({ cls := "SwapPressModel", name := "fewest", desc := "(II)I" } : Jvm.MethodName)) ∈ lw_all := lw_g (lw_at lw_m8 208 rfl) rfl
theorem q1989 : (Jvm.Cond.selects "SwapPressModel" ({ cls := "SwapPressModel", name := "fewest", desc := "(II)I" } : Jvm.MethodName) ({ cls := "SwapPressModel", name := "fewest", desc := "(II)I" } : Jvm.MethodName)) ∈ lw_all := lw_g (lw_at lw_m8 209 rfl) rfl
theorem q1990 : (Jvm.Cond.code ({ cls := "SwapPressModel", name := "fewest", desc := "(II)I" } : Jvm.MethodName) prog_15_method_95_code (7 : Nat) (Option.some Jvm.ClassFile.FieldType.int)) ∈ lw_all := lw_g (lw_at lw_m8 210 rfl) rfl
theorem q1991 : (Jvm.Cond.methodLink "SwapPressModel" (339 : Nat) ({ cls := "SwapPressModel", name := "sumBy", desc := "(I)I" } : Jvm.MethodName)) ∈ lw_all := lw_g (lw_at lw_m8 211 rfl) rfl
theorem q1992 : (Jvm.Cond.privateMethod ({ cls := "SwapPressModel", name := "sumBy", desc := "(I)I" } : Jvm.MethodName)) ∈ lw_tbl := lw_at lw_m8 212 rfl
theorem q1993 : (Jvm.Cond.instanceMethod ({ cls := "SwapPressModel", name := "sumBy", desc := "(I)I" } : Jvm.MethodName)) ∈ lw_all := lw_g (lw_at lw_m8 213 rfl) rfl
theorem q1994 : (Jvm.Cond.code ({ cls := "SwapPressModel", name := "sumBy", desc := "(I)I" } : Jvm.MethodName) prog_15_method_94_code (4 : Nat) (Option.some Jvm.ClassFile.FieldType.int)) ∈ lw_all := lw_g (lw_at lw_m8 214 rfl) rfl
theorem q1996 : (Jvm.Cond.instanceMethod ({ cls := "SwapPressModel", name := "even", desc := "(II)I" } : Jvm.MethodName)) ∈ lw_all := lw_g (lw_at lw_m8 216 rfl) rfl
theorem q1997 : (Jvm.Cond.selects "SwapPressModel" ({ cls := "SwapPressModel", name := "even", desc := "(II)I" } : Jvm.MethodName) ({ cls := "SwapPressModel", name := "even", desc := "(II)I" } : Jvm.MethodName)) ∈ lw_all := lw_g (lw_at lw_m8 217 rfl) rfl
theorem q1998 : (Jvm.Cond.code ({ cls := "SwapPressModel", name := "even", desc := "(II)I" } : Jvm.MethodName) prog_15_method_96_code (3 : Nat) (Option.some Jvm.ClassFile.FieldType.int)) ∈ lw_all := lw_g (lw_at lw_m8 218 rfl) rfl
theorem q2000 : (Jvm.Cond.instanceMethod ({ cls := "SwapPressModel", name := "line", desc := "(II)I" } : Jvm.MethodName)) ∈ lw_all := lw_g (lw_at lw_m8 220 rfl) rfl
theorem q2001 : (Jvm.Cond.selects "SwapPressModel" ({ cls := "SwapPressModel", name := "line", desc := "(II)I" } : Jvm.MethodName) ({ cls := "SwapPressModel", name := "line", desc := "(II)I" } : Jvm.MethodName)) ∈ lw_all := lw_g (lw_at lw_m8 221 rfl) rfl
theorem q2002 : (Jvm.Cond.code ({ cls := "SwapPressModel", name := "line", desc := "(II)I" } : Jvm.MethodName) prog_15_method_100_code (3 : Nat) (Option.some Jvm.ClassFile.FieldType.int)) ∈ lw_all := lw_g (lw_at lw_m8 222 rfl) rfl
theorem q2003 : (Jvm.Cond.methodLink "SwapPressModel" (350 : Nat) ({ cls := "SwapPressModel", name := "putsName", desc := "(J)V" } : Jvm.MethodName)) ∈ lw_all := lw_g (lw_at lw_m8 223 rfl) rfl
theorem q2004 : (Jvm.Cond.privateMethod ({ cls := "SwapPressModel", name := "putsName", desc := "(J)V" } : Jvm.MethodName)) ∈ lw_tbl := lw_at lw_m8 224 rfl
theorem q2005 : (Jvm.Cond.instanceMethod ({ cls := "SwapPressModel", name := "putsName", desc := "(J)V" } : Jvm.MethodName)) ∈ lw_all := lw_g (lw_at lw_m8 225 rfl) rfl
theorem q2006 : (Jvm.Cond.code ({ cls := "SwapPressModel", name := "putsName", desc := "(J)V" } : Jvm.MethodName) prog_15_method_98_code (4 : Nat) (Option.none : Option Jvm.ClassFile.FieldType)) ∈ lw_all := lw_g (lw_at lw_m8 226 rfl) rfl
theorem q2007 : (Jvm.Cond.constantLong "SwapPressModel" (345 : Nat) (255 : Int64)) ∈ lw_all := lw_g (lw_at lw_m8 227 rfl) rfl
theorem q2008 : (Jvm.Cond.methodLink "SwapPressModel" (347 : Nat) ({ cls := "SwapPressModel", name := "puts", desc := "(I)V" } : Jvm.MethodName)) ∈ lw_all := lw_g (lw_at lw_m8 228 rfl) rfl
theorem q2009 : (Jvm.Cond.privateMethod ({ cls := "SwapPressModel", name := "puts", desc := "(I)V" } : Jvm.MethodName)) ∈ lw_tbl := lw_at lw_m8 229 rfl
theorem q2010 : (Jvm.Cond.instanceMethod ({ cls := "SwapPressModel", name := "puts", desc := "(I)V" } : Jvm.MethodName)) ∈ lw_all := lw_g (lw_at lw_m8 230 rfl) rfl
theorem q2011 : (Jvm.Cond.code ({ cls := "SwapPressModel", name := "puts", desc := "(I)V" } : Jvm.MethodName) prog_15_method_97_code (2 : Nat) (Option.none : Option Jvm.ClassFile.FieldType)) ∈ lw_all := lw_g (lw_at lw_m8 231 rfl) rfl
theorem q2012 : (Jvm.Cond.methodLink "SwapPressModel" (354 : Nat) ({ cls := "SwapPressModel", name := "putsNumber", desc := "(I)V" } : Jvm.MethodName)) ∈ lw_all := lw_g (lw_at lw_m8 232 rfl) rfl
theorem q2013 : (Jvm.Cond.privateMethod ({ cls := "SwapPressModel", name := "putsNumber", desc := "(I)V" } : Jvm.MethodName)) ∈ lw_tbl := lw_at lw_m8 233 rfl
theorem q2014 : (Jvm.Cond.instanceMethod ({ cls := "SwapPressModel", name := "putsNumber", desc := "(I)V" } : Jvm.MethodName)) ∈ lw_all := lw_g (lw_at lw_m8 234 rfl) rfl
theorem q2015 : (Jvm.Cond.code ({ cls := "SwapPressModel", name := "putsNumber", desc := "(I)V" } : Jvm.MethodName) prog_15_method_99_code (4 : Nat) (Option.none : Option Jvm.ClassFile.FieldType)) ∈ lw_all := lw_g (lw_at lw_m8 235 rfl) rfl
theorem q2017 : (Jvm.Cond.instanceMethod ({ cls := "SwapPressModel", name := "count", desc := "(I)I" } : Jvm.MethodName)) ∈ lw_all := lw_g (lw_at lw_m8 237 rfl) rfl
theorem q2018 : (Jvm.Cond.selects "SwapPressModel" ({ cls := "SwapPressModel", name := "count", desc := "(I)I" } : Jvm.MethodName) ({ cls := "SwapPressModel", name := "count", desc := "(I)I" } : Jvm.MethodName)) ∈ lw_all := lw_g (lw_at lw_m8 238 rfl) rfl
theorem q2019 : (Jvm.Cond.code ({ cls := "SwapPressModel", name := "count", desc := "(I)I" } : Jvm.MethodName) prog_15_method_102_code (2 : Nat) (Option.some Jvm.ClassFile.FieldType.int)) ∈ lw_all := lw_g (lw_at lw_m8 239 rfl) rfl
theorem q2020 : (Jvm.Cond.methodLink "SwapPressModel" (357 : Nat) ({ cls := "SwapPressModel", name := "keptMany", desc := "()I" } : Jvm.MethodName)) ∈ lw_all := lw_g (lw_at lw_m9 0 rfl) rfl
theorem q2021 : (Jvm.Cond.privateMethod ({ cls := "SwapPressModel", name := "keptMany", desc := "()I" } : Jvm.MethodName)) ∈ lw_tbl := lw_at lw_m9 1 rfl
theorem q2022 : (Jvm.Cond.instanceMethod ({ cls := "SwapPressModel", name := "keptMany", desc := "()I" } : Jvm.MethodName)) ∈ lw_all := lw_g (lw_at lw_m9 2 rfl) rfl
theorem q2023 : (Jvm.Cond.code ({ cls := "SwapPressModel", name := "keptMany", desc := "()I" } : Jvm.MethodName) prog_15_method_101_code (3 : Nat) (Option.some Jvm.ClassFile.FieldType.int)) ∈ lw_all := lw_g (lw_at lw_m9 3 rfl) rfl
theorem q2042 : (Jvm.Cond.castable "SwapPressModel" "java/lang/Object") ∈ lw_tbl := lw_at lw_m9 22 rfl
theorem in_X3 : ∀ w ∈ wsX30, w ∈ lw_all := lw_in wsX30 [1549, 1551, 1553, 1555, 1557, 1559, 1561, 1563, 1565, 1567, 1569, 1571, 1573, 1575, 1577, 1579, 1581, 1583, 1585, 1587, 1589, 1591, 1593, 1595, 1597, 1599, 1601, 1603, 1605, 1607, 1609, 1611] (by decide +kernel) (by decide +kernel)
