/-! SwapPress$Ways -/
set_option maxRecDepth 100000
abbrev cX2_init : ByteArray := prog_12_method_1_code
def yX2_init : MethodName := ⟨RX2, "<init>", "()V"⟩
def dkwX2_init_2 : List UInt8 := [181, 0, 25, 42, 16, 18, 188, 10, 181, 0, 28, 42, 16, 64, 188, 10, 181, 0, 31, 177]
abbrev dktX2_init_2 : List UInt8 := dkwX2_init_2 ++ []
def dkwX2_init_1 : List UInt8 := [17, 0, 144, 188, 11, 181, 0, 18, 42, 17, 0, 144, 188, 11, 181, 0, 22, 42, 16, 18, 188, 11]
abbrev dktX2_init_1 : List UInt8 := dkwX2_init_1 ++ dktX2_init_2
def dkwX2_init_0 : List UInt8 := [42, 183, 0, 5, 42, 17, 0, 144, 188, 10, 181, 0, 11, 42, 17, 0, 144, 188, 10, 181, 0, 15, 42]
abbrev dktX2_init_0 : List UInt8 := dkwX2_init_0 ++ dktX2_init_1
theorem dksX2_init_0 : cX2_init.data.toList.drop 0 = dktX2_init_0 := by decide +kernel
theorem dksX2_init_1 : cX2_init.data.toList.drop 23 = dktX2_init_1 := dk_seg dksX2_init_0 23 rfl rfl
theorem dksX2_init_2 : cX2_init.data.toList.drop 45 = dktX2_init_2 := dk_seg dksX2_init_1 22 rfl rfl
theorem dX2_init_0 : decode cX2_init 0 = .ok (.aload_n 0, 1) := dk_42 (dk_at dksX2_init_0 0 rfl rfl)
theorem dX2_init_1 : decode cX2_init 1 = .ok (.invokespecial 5, 3) := dk_183 0 5 (dk_at dksX2_init_0 1 rfl rfl)
theorem dX2_init_4 : decode cX2_init 4 = .ok (.aload_n 0, 1) := dk_42 (dk_at dksX2_init_0 4 rfl rfl)
theorem dX2_init_5 : decode cX2_init 5 = .ok (.sipush 144, 3) := dk_17 0 144 (dk_at dksX2_init_0 5 rfl rfl)
theorem dX2_init_8 : decode cX2_init 8 = .ok (.newarray .int, 2) := dk_188_10 (dk_at dksX2_init_0 8 rfl rfl)
theorem dX2_init_10 : decode cX2_init 10 = .ok (.putfield 11, 3) := dk_181 0 11 (dk_at dksX2_init_0 10 rfl rfl)
theorem dX2_init_13 : decode cX2_init 13 = .ok (.aload_n 0, 1) := dk_42 (dk_at dksX2_init_0 13 rfl rfl)
theorem dX2_init_14 : decode cX2_init 14 = .ok (.sipush 144, 3) := dk_17 0 144 (dk_at dksX2_init_0 14 rfl rfl)
theorem dX2_init_17 : decode cX2_init 17 = .ok (.newarray .int, 2) := dk_188_10 (dk_at dksX2_init_0 17 rfl rfl)
theorem dX2_init_19 : decode cX2_init 19 = .ok (.putfield 15, 3) := dk_181 0 15 (dk_at dksX2_init_0 19 rfl rfl)
theorem dX2_init_22 : decode cX2_init 22 = .ok (.aload_n 0, 1) := dk_42 (dk_at dksX2_init_0 22 rfl rfl)
theorem dX2_init_23 : decode cX2_init 23 = .ok (.sipush 144, 3) := dk_17 0 144 (dk_at dksX2_init_1 0 rfl rfl)
theorem dX2_init_26 : decode cX2_init 26 = .ok (.newarray .long, 2) := dk_188_11 (dk_at dksX2_init_1 3 rfl rfl)
theorem dX2_init_28 : decode cX2_init 28 = .ok (.putfield 18, 3) := dk_181 0 18 (dk_at dksX2_init_1 5 rfl rfl)
theorem dX2_init_31 : decode cX2_init 31 = .ok (.aload_n 0, 1) := dk_42 (dk_at dksX2_init_1 8 rfl rfl)
theorem dX2_init_32 : decode cX2_init 32 = .ok (.sipush 144, 3) := dk_17 0 144 (dk_at dksX2_init_1 9 rfl rfl)
theorem dX2_init_35 : decode cX2_init 35 = .ok (.newarray .long, 2) := dk_188_11 (dk_at dksX2_init_1 12 rfl rfl)
theorem dX2_init_37 : decode cX2_init 37 = .ok (.putfield 22, 3) := dk_181 0 22 (dk_at dksX2_init_1 14 rfl rfl)
theorem dX2_init_40 : decode cX2_init 40 = .ok (.aload_n 0, 1) := dk_42 (dk_at dksX2_init_1 17 rfl rfl)
theorem dX2_init_41 : decode cX2_init 41 = .ok (.bipush 18, 2) := dk_16 18 (dk_at dksX2_init_1 18 rfl rfl)
theorem dX2_init_43 : decode cX2_init 43 = .ok (.newarray .long, 2) := dk_188_11 (dk_at dksX2_init_1 20 rfl rfl)
theorem dX2_init_45 : decode cX2_init 45 = .ok (.putfield 25, 3) := dk_181 0 25 (dk_at dksX2_init_2 0 rfl rfl)
theorem dX2_init_48 : decode cX2_init 48 = .ok (.aload_n 0, 1) := dk_42 (dk_at dksX2_init_2 3 rfl rfl)
theorem dX2_init_49 : decode cX2_init 49 = .ok (.bipush 18, 2) := dk_16 18 (dk_at dksX2_init_2 4 rfl rfl)
theorem dX2_init_51 : decode cX2_init 51 = .ok (.newarray .int, 2) := dk_188_10 (dk_at dksX2_init_2 6 rfl rfl)
theorem dX2_init_53 : decode cX2_init 53 = .ok (.putfield 28, 3) := dk_181 0 28 (dk_at dksX2_init_2 8 rfl rfl)
theorem dX2_init_56 : decode cX2_init 56 = .ok (.aload_n 0, 1) := dk_42 (dk_at dksX2_init_2 11 rfl rfl)
theorem dX2_init_57 : decode cX2_init 57 = .ok (.bipush 64, 2) := dk_16 64 (dk_at dksX2_init_2 12 rfl rfl)
theorem dX2_init_59 : decode cX2_init 59 = .ok (.newarray .int, 2) := dk_188_10 (dk_at dksX2_init_2 14 rfl rfl)
theorem dX2_init_61 : decode cX2_init 61 = .ok (.putfield 31, 3) := dk_181 0 31 (dk_at dksX2_init_2 16 rfl rfl)
theorem dX2_init_64 : decode cX2_init 64 = .ok (.return_, 1) := dk_177 (dk_at dksX2_init_2 19 rfl rfl)
abbrev cX2_goes : ByteArray := prog_12_method_3_code
def yX2_goes : MethodName := ⟨RX2, "goes", "(I[I[J[J[J)Z"⟩
def dkwX2_goes_10 : List UInt8 := [22, 8, 101, 55, 6, 167, 255, 227, 4, 172]
abbrev dktX2_goes_10 : List UInt8 := dkwX2_goes_10 ++ []
def dkwX2_goes_9 : List UInt8 := [22, 6, 9, 148, 158, 0, 28, 42, 182, 0, 48, 55, 8, 22, 8, 9, 148, 154, 0, 5, 3, 172, 22, 6]
abbrev dktX2_goes_9 : List UInt8 := dkwX2_goes_9 ++ dktX2_goes_10
def dkwX2_goes_8 : List UInt8 := [182, 0, 38, 22, 6, 3, 44, 21, 8, 46, 184, 0, 42, 133, 97, 55, 6, 132, 8, 1, 167, 255, 181]
abbrev dktX2_goes_8 : List UInt8 := dkwX2_goes_8 ++ dktX2_goes_9
def dkwX2_goes_7 : List UInt8 := [21, 8, 46, 133, 9, 182, 0, 38, 167, 0, 18, 42, 21, 8, 16, 17, 44, 21, 8, 46, 116, 133, 9]
abbrev dktX2_goes_7 : List UInt8 := dkwX2_goes_7 ++ dktX2_goes_8
def dkwX2_goes_6 : List UInt8 := [46, 154, 0, 6, 167, 0, 59, 44, 21, 8, 46, 158, 0, 23, 42, 16, 16, 16, 8, 21, 8, 96, 44]
abbrev dktX2_goes_6 : List UInt8 := dkwX2_goes_6 ++ dktX2_goes_7
def dkwX2_goes_5 : List UInt8 := [167, 255, 188, 132, 6, 1, 167, 255, 173, 9, 55, 6, 3, 54, 8, 21, 8, 27, 162, 0, 75, 44, 21, 8]
abbrev dktX2_goes_5 : List UInt8 := dkwX2_goes_5 ++ dktX2_goes_6
def dkwX2_goes_4 : List UInt8 := [104, 21, 7, 96, 47, 25, 4, 16, 8, 21, 6, 104, 21, 7, 96, 47, 182, 0, 38, 132, 7, 1]
abbrev dktX2_goes_4 : List UInt8 := dkwX2_goes_4 ++ dktX2_goes_5
def dkwX2_goes_3 : List UInt8 := [21, 6, 104, 21, 7, 96, 42, 180, 0, 34, 79, 42, 16, 8, 21, 6, 96, 21, 7, 45, 16, 8, 21, 6]
abbrev dktX2_goes_3 : List UInt8 := dkwX2_goes_3 ++ dktX2_goes_4
def dkwX2_goes_2 : List UInt8 := [54, 7, 21, 7, 27, 162, 0, 68, 21, 6, 21, 7, 160, 0, 6, 167, 0, 52, 42, 180, 0, 31, 16, 8]
abbrev dktX2_goes_2 : List UInt8 := dkwX2_goes_2 ++ dktX2_goes_3
def dkwX2_goes_1 : List UInt8 := [21, 6, 47, 9, 182, 0, 38, 132, 6, 1, 167, 255, 230, 3, 54, 6, 21, 6, 27, 162, 0, 83, 3]
abbrev dktX2_goes_1 : List UInt8 := dkwX2_goes_1 ++ dktX2_goes_2
def dkwX2_goes_0 : List UInt8 := [42, 3, 181, 0, 34, 3, 54, 6, 21, 6, 27, 162, 0, 26, 42, 21, 6, 16, 8, 21, 6, 96, 25, 5]
abbrev dktX2_goes_0 : List UInt8 := dkwX2_goes_0 ++ dktX2_goes_1
theorem dksX2_goes_0 : cX2_goes.data.toList.drop 0 = dktX2_goes_0 := by decide +kernel
theorem dksX2_goes_1 : cX2_goes.data.toList.drop 24 = dktX2_goes_1 := dk_seg dksX2_goes_0 24 rfl rfl
theorem dksX2_goes_2 : cX2_goes.data.toList.drop 47 = dktX2_goes_2 := dk_seg dksX2_goes_1 23 rfl rfl
theorem dksX2_goes_3 : cX2_goes.data.toList.drop 71 = dktX2_goes_3 := dk_seg dksX2_goes_2 24 rfl rfl
theorem dksX2_goes_4 : cX2_goes.data.toList.drop 95 = dktX2_goes_4 := dk_seg dksX2_goes_3 24 rfl rfl
theorem dksX2_goes_5 : cX2_goes.data.toList.drop 117 = dktX2_goes_5 := dk_seg dksX2_goes_4 22 rfl rfl
theorem dksX2_goes_6 : cX2_goes.data.toList.drop 141 = dktX2_goes_6 := dk_seg dksX2_goes_5 24 rfl rfl
theorem dksX2_goes_7 : cX2_goes.data.toList.drop 164 = dktX2_goes_7 := dk_seg dksX2_goes_6 23 rfl rfl
theorem dksX2_goes_8 : cX2_goes.data.toList.drop 187 = dktX2_goes_8 := dk_seg dksX2_goes_7 23 rfl rfl
theorem dksX2_goes_9 : cX2_goes.data.toList.drop 210 = dktX2_goes_9 := dk_seg dksX2_goes_8 23 rfl rfl
theorem dksX2_goes_10 : cX2_goes.data.toList.drop 234 = dktX2_goes_10 := dk_seg dksX2_goes_9 24 rfl rfl
theorem dX2_goes_0 : decode cX2_goes 0 = .ok (.aload_n 0, 1) := dk_42 (dk_at dksX2_goes_0 0 rfl rfl)
theorem dX2_goes_1 : decode cX2_goes 1 = .ok (.iconst 0, 1) := dk_3 (dk_at dksX2_goes_0 1 rfl rfl)
theorem dX2_goes_2 : decode cX2_goes 2 = .ok (.putfield 34, 3) := dk_181 0 34 (dk_at dksX2_goes_0 2 rfl rfl)
theorem dX2_goes_5 : decode cX2_goes 5 = .ok (.iconst 0, 1) := dk_3 (dk_at dksX2_goes_0 5 rfl rfl)
theorem dX2_goes_6 : decode cX2_goes 6 = .ok (.istore 6, 2) := dk_54 6 (dk_at dksX2_goes_0 6 rfl rfl)
theorem dX2_goes_8 : decode cX2_goes 8 = .ok (.iload 6, 2) := dk_21 6 (dk_at dksX2_goes_0 8 rfl rfl)
theorem dX2_goes_10 : decode cX2_goes 10 = .ok (.iload_n 1, 1) := dk_27 (dk_at dksX2_goes_0 10 rfl rfl)
theorem dX2_goes_11 : decode cX2_goes 11 = .ok (.if_icmp .ge 26, 3) := dk_162 0 26 (dk_at dksX2_goes_0 11 rfl rfl)
theorem dX2_goes_14 : decode cX2_goes 14 = .ok (.aload_n 0, 1) := dk_42 (dk_at dksX2_goes_0 14 rfl rfl)
theorem dX2_goes_15 : decode cX2_goes 15 = .ok (.iload 6, 2) := dk_21 6 (dk_at dksX2_goes_0 15 rfl rfl)
theorem dX2_goes_17 : decode cX2_goes 17 = .ok (.bipush 8, 2) := dk_16 8 (dk_at dksX2_goes_0 17 rfl rfl)
theorem dX2_goes_19 : decode cX2_goes 19 = .ok (.iload 6, 2) := dk_21 6 (dk_at dksX2_goes_0 19 rfl rfl)
theorem dX2_goes_21 : decode cX2_goes 21 = .ok (.iadd, 1) := dk_96 (dk_at dksX2_goes_0 21 rfl rfl)
theorem dX2_goes_22 : decode cX2_goes 22 = .ok (.aload 5, 2) := dk_25 5 (dk_at dksX2_goes_0 22 rfl rfl)
theorem dX2_goes_24 : decode cX2_goes 24 = .ok (.iload 6, 2) := dk_21 6 (dk_at dksX2_goes_1 0 rfl rfl)
theorem dX2_goes_26 : decode cX2_goes 26 = .ok (.laload, 1) := dk_47 (dk_at dksX2_goes_1 2 rfl rfl)
theorem dX2_goes_27 : decode cX2_goes 27 = .ok (.lconst 0, 1) := dk_9 (dk_at dksX2_goes_1 3 rfl rfl)
theorem dX2_goes_28 : decode cX2_goes 28 = .ok (.invokevirtual 38, 3) := dk_182 0 38 (dk_at dksX2_goes_1 4 rfl rfl)
theorem dX2_goes_31 : decode cX2_goes 31 = .ok (.iinc 6 1, 3) := dk_132 6 1 (dk_at dksX2_goes_1 7 rfl rfl)
theorem dX2_goes_34 : decode cX2_goes 34 = .ok (.goto (-26), 3) := dk_167 255 230 (dk_at dksX2_goes_1 10 rfl rfl)
theorem dX2_goes_37 : decode cX2_goes 37 = .ok (.iconst 0, 1) := dk_3 (dk_at dksX2_goes_1 13 rfl rfl)
theorem dX2_goes_38 : decode cX2_goes 38 = .ok (.istore 6, 2) := dk_54 6 (dk_at dksX2_goes_1 14 rfl rfl)
theorem dX2_goes_40 : decode cX2_goes 40 = .ok (.iload 6, 2) := dk_21 6 (dk_at dksX2_goes_1 16 rfl rfl)
theorem dX2_goes_42 : decode cX2_goes 42 = .ok (.iload_n 1, 1) := dk_27 (dk_at dksX2_goes_1 18 rfl rfl)
theorem dX2_goes_43 : decode cX2_goes 43 = .ok (.if_icmp .ge 83, 3) := dk_162 0 83 (dk_at dksX2_goes_1 19 rfl rfl)
theorem dX2_goes_46 : decode cX2_goes 46 = .ok (.iconst 0, 1) := dk_3 (dk_at dksX2_goes_1 22 rfl rfl)
theorem dX2_goes_47 : decode cX2_goes 47 = .ok (.istore 7, 2) := dk_54 7 (dk_at dksX2_goes_2 0 rfl rfl)
theorem dX2_goes_49 : decode cX2_goes 49 = .ok (.iload 7, 2) := dk_21 7 (dk_at dksX2_goes_2 2 rfl rfl)
theorem dX2_goes_51 : decode cX2_goes 51 = .ok (.iload_n 1, 1) := dk_27 (dk_at dksX2_goes_2 4 rfl rfl)
theorem dX2_goes_52 : decode cX2_goes 52 = .ok (.if_icmp .ge 68, 3) := dk_162 0 68 (dk_at dksX2_goes_2 5 rfl rfl)
theorem dX2_goes_55 : decode cX2_goes 55 = .ok (.iload 6, 2) := dk_21 6 (dk_at dksX2_goes_2 8 rfl rfl)
theorem dX2_goes_57 : decode cX2_goes 57 = .ok (.iload 7, 2) := dk_21 7 (dk_at dksX2_goes_2 10 rfl rfl)
theorem dX2_goes_59 : decode cX2_goes 59 = .ok (.if_icmp .ne 6, 3) := dk_160 0 6 (dk_at dksX2_goes_2 12 rfl rfl)
theorem dX2_goes_62 : decode cX2_goes 62 = .ok (.goto 52, 3) := dk_167 0 52 (dk_at dksX2_goes_2 15 rfl rfl)
theorem dX2_goes_65 : decode cX2_goes 65 = .ok (.aload_n 0, 1) := dk_42 (dk_at dksX2_goes_2 18 rfl rfl)
theorem dX2_goes_66 : decode cX2_goes 66 = .ok (.getfield 31, 3) := dk_180 0 31 (dk_at dksX2_goes_2 19 rfl rfl)
theorem dX2_goes_69 : decode cX2_goes 69 = .ok (.bipush 8, 2) := dk_16 8 (dk_at dksX2_goes_2 22 rfl rfl)
theorem dX2_goes_71 : decode cX2_goes 71 = .ok (.iload 6, 2) := dk_21 6 (dk_at dksX2_goes_3 0 rfl rfl)
theorem dX2_goes_73 : decode cX2_goes 73 = .ok (.imul, 1) := dk_104 (dk_at dksX2_goes_3 2 rfl rfl)
theorem dX2_goes_74 : decode cX2_goes 74 = .ok (.iload 7, 2) := dk_21 7 (dk_at dksX2_goes_3 3 rfl rfl)
theorem dX2_goes_76 : decode cX2_goes 76 = .ok (.iadd, 1) := dk_96 (dk_at dksX2_goes_3 5 rfl rfl)
theorem dX2_goes_77 : decode cX2_goes 77 = .ok (.aload_n 0, 1) := dk_42 (dk_at dksX2_goes_3 6 rfl rfl)
theorem dX2_goes_78 : decode cX2_goes 78 = .ok (.getfield 34, 3) := dk_180 0 34 (dk_at dksX2_goes_3 7 rfl rfl)
theorem dX2_goes_81 : decode cX2_goes 81 = .ok (.iastore, 1) := dk_79 (dk_at dksX2_goes_3 10 rfl rfl)
theorem dX2_goes_82 : decode cX2_goes 82 = .ok (.aload_n 0, 1) := dk_42 (dk_at dksX2_goes_3 11 rfl rfl)
theorem dX2_goes_83 : decode cX2_goes 83 = .ok (.bipush 8, 2) := dk_16 8 (dk_at dksX2_goes_3 12 rfl rfl)
theorem dX2_goes_85 : decode cX2_goes 85 = .ok (.iload 6, 2) := dk_21 6 (dk_at dksX2_goes_3 14 rfl rfl)
theorem dX2_goes_87 : decode cX2_goes 87 = .ok (.iadd, 1) := dk_96 (dk_at dksX2_goes_3 16 rfl rfl)
theorem dX2_goes_88 : decode cX2_goes 88 = .ok (.iload 7, 2) := dk_21 7 (dk_at dksX2_goes_3 17 rfl rfl)
theorem dX2_goes_90 : decode cX2_goes 90 = .ok (.aload_n 3, 1) := dk_45 (dk_at dksX2_goes_3 19 rfl rfl)
theorem dX2_goes_91 : decode cX2_goes 91 = .ok (.bipush 8, 2) := dk_16 8 (dk_at dksX2_goes_3 20 rfl rfl)
theorem dX2_goes_93 : decode cX2_goes 93 = .ok (.iload 6, 2) := dk_21 6 (dk_at dksX2_goes_3 22 rfl rfl)
theorem dX2_goes_95 : decode cX2_goes 95 = .ok (.imul, 1) := dk_104 (dk_at dksX2_goes_4 0 rfl rfl)
theorem dX2_goes_96 : decode cX2_goes 96 = .ok (.iload 7, 2) := dk_21 7 (dk_at dksX2_goes_4 1 rfl rfl)
theorem dX2_goes_98 : decode cX2_goes 98 = .ok (.iadd, 1) := dk_96 (dk_at dksX2_goes_4 3 rfl rfl)
theorem dX2_goes_99 : decode cX2_goes 99 = .ok (.laload, 1) := dk_47 (dk_at dksX2_goes_4 4 rfl rfl)
theorem dX2_goes_100 : decode cX2_goes 100 = .ok (.aload 4, 2) := dk_25 4 (dk_at dksX2_goes_4 5 rfl rfl)
theorem dX2_goes_102 : decode cX2_goes 102 = .ok (.bipush 8, 2) := dk_16 8 (dk_at dksX2_goes_4 7 rfl rfl)
theorem dX2_goes_104 : decode cX2_goes 104 = .ok (.iload 6, 2) := dk_21 6 (dk_at dksX2_goes_4 9 rfl rfl)
theorem dX2_goes_106 : decode cX2_goes 106 = .ok (.imul, 1) := dk_104 (dk_at dksX2_goes_4 11 rfl rfl)
theorem dX2_goes_107 : decode cX2_goes 107 = .ok (.iload 7, 2) := dk_21 7 (dk_at dksX2_goes_4 12 rfl rfl)
theorem dX2_goes_109 : decode cX2_goes 109 = .ok (.iadd, 1) := dk_96 (dk_at dksX2_goes_4 14 rfl rfl)
theorem dX2_goes_110 : decode cX2_goes 110 = .ok (.laload, 1) := dk_47 (dk_at dksX2_goes_4 15 rfl rfl)
theorem dX2_goes_111 : decode cX2_goes 111 = .ok (.invokevirtual 38, 3) := dk_182 0 38 (dk_at dksX2_goes_4 16 rfl rfl)
theorem dX2_goes_114 : decode cX2_goes 114 = .ok (.iinc 7 1, 3) := dk_132 7 1 (dk_at dksX2_goes_4 19 rfl rfl)
theorem dX2_goes_117 : decode cX2_goes 117 = .ok (.goto (-68), 3) := dk_167 255 188 (dk_at dksX2_goes_5 0 rfl rfl)
theorem dX2_goes_120 : decode cX2_goes 120 = .ok (.iinc 6 1, 3) := dk_132 6 1 (dk_at dksX2_goes_5 3 rfl rfl)
theorem dX2_goes_123 : decode cX2_goes 123 = .ok (.goto (-83), 3) := dk_167 255 173 (dk_at dksX2_goes_5 6 rfl rfl)
theorem dX2_goes_126 : decode cX2_goes 126 = .ok (.lconst 0, 1) := dk_9 (dk_at dksX2_goes_5 9 rfl rfl)
theorem dX2_goes_127 : decode cX2_goes 127 = .ok (.lstore 6, 2) := dk_55 6 (dk_at dksX2_goes_5 10 rfl rfl)
theorem dX2_goes_129 : decode cX2_goes 129 = .ok (.iconst 0, 1) := dk_3 (dk_at dksX2_goes_5 12 rfl rfl)
theorem dX2_goes_130 : decode cX2_goes 130 = .ok (.istore 8, 2) := dk_54 8 (dk_at dksX2_goes_5 13 rfl rfl)
theorem dX2_goes_132 : decode cX2_goes 132 = .ok (.iload 8, 2) := dk_21 8 (dk_at dksX2_goes_5 15 rfl rfl)
theorem dX2_goes_134 : decode cX2_goes 134 = .ok (.iload_n 1, 1) := dk_27 (dk_at dksX2_goes_5 17 rfl rfl)
theorem dX2_goes_135 : decode cX2_goes 135 = .ok (.if_icmp .ge 75, 3) := dk_162 0 75 (dk_at dksX2_goes_5 18 rfl rfl)
theorem dX2_goes_138 : decode cX2_goes 138 = .ok (.aload_n 2, 1) := dk_44 (dk_at dksX2_goes_5 21 rfl rfl)
theorem dX2_goes_139 : decode cX2_goes 139 = .ok (.iload 8, 2) := dk_21 8 (dk_at dksX2_goes_5 22 rfl rfl)
theorem dX2_goes_141 : decode cX2_goes 141 = .ok (.iaload, 1) := dk_46 (dk_at dksX2_goes_6 0 rfl rfl)
theorem dX2_goes_142 : decode cX2_goes 142 = .ok (.ifCond .ne 6, 3) := dk_154 0 6 (dk_at dksX2_goes_6 1 rfl rfl)
theorem dX2_goes_145 : decode cX2_goes 145 = .ok (.goto 59, 3) := dk_167 0 59 (dk_at dksX2_goes_6 4 rfl rfl)
theorem dX2_goes_148 : decode cX2_goes 148 = .ok (.aload_n 2, 1) := dk_44 (dk_at dksX2_goes_6 7 rfl rfl)
theorem dX2_goes_149 : decode cX2_goes 149 = .ok (.iload 8, 2) := dk_21 8 (dk_at dksX2_goes_6 8 rfl rfl)
theorem dX2_goes_151 : decode cX2_goes 151 = .ok (.iaload, 1) := dk_46 (dk_at dksX2_goes_6 10 rfl rfl)
theorem dX2_goes_152 : decode cX2_goes 152 = .ok (.ifCond .le 23, 3) := dk_158 0 23 (dk_at dksX2_goes_6 11 rfl rfl)
theorem dX2_goes_155 : decode cX2_goes 155 = .ok (.aload_n 0, 1) := dk_42 (dk_at dksX2_goes_6 14 rfl rfl)
theorem dX2_goes_156 : decode cX2_goes 156 = .ok (.bipush 16, 2) := dk_16 16 (dk_at dksX2_goes_6 15 rfl rfl)
theorem dX2_goes_158 : decode cX2_goes 158 = .ok (.bipush 8, 2) := dk_16 8 (dk_at dksX2_goes_6 17 rfl rfl)
theorem dX2_goes_160 : decode cX2_goes 160 = .ok (.iload 8, 2) := dk_21 8 (dk_at dksX2_goes_6 19 rfl rfl)
theorem dX2_goes_162 : decode cX2_goes 162 = .ok (.iadd, 1) := dk_96 (dk_at dksX2_goes_6 21 rfl rfl)
theorem dX2_goes_163 : decode cX2_goes 163 = .ok (.aload_n 2, 1) := dk_44 (dk_at dksX2_goes_6 22 rfl rfl)
theorem dX2_goes_164 : decode cX2_goes 164 = .ok (.iload 8, 2) := dk_21 8 (dk_at dksX2_goes_7 0 rfl rfl)
theorem dX2_goes_166 : decode cX2_goes 166 = .ok (.iaload, 1) := dk_46 (dk_at dksX2_goes_7 2 rfl rfl)
theorem dX2_goes_167 : decode cX2_goes 167 = .ok (.i2l, 1) := dk_133 (dk_at dksX2_goes_7 3 rfl rfl)
theorem dX2_goes_168 : decode cX2_goes 168 = .ok (.lconst 0, 1) := dk_9 (dk_at dksX2_goes_7 4 rfl rfl)
theorem dX2_goes_169 : decode cX2_goes 169 = .ok (.invokevirtual 38, 3) := dk_182 0 38 (dk_at dksX2_goes_7 5 rfl rfl)
theorem dX2_goes_172 : decode cX2_goes 172 = .ok (.goto 18, 3) := dk_167 0 18 (dk_at dksX2_goes_7 8 rfl rfl)
theorem dX2_goes_175 : decode cX2_goes 175 = .ok (.aload_n 0, 1) := dk_42 (dk_at dksX2_goes_7 11 rfl rfl)
theorem dX2_goes_176 : decode cX2_goes 176 = .ok (.iload 8, 2) := dk_21 8 (dk_at dksX2_goes_7 12 rfl rfl)
theorem dX2_goes_178 : decode cX2_goes 178 = .ok (.bipush 17, 2) := dk_16 17 (dk_at dksX2_goes_7 14 rfl rfl)
theorem dX2_goes_180 : decode cX2_goes 180 = .ok (.aload_n 2, 1) := dk_44 (dk_at dksX2_goes_7 16 rfl rfl)
theorem dX2_goes_181 : decode cX2_goes 181 = .ok (.iload 8, 2) := dk_21 8 (dk_at dksX2_goes_7 17 rfl rfl)
theorem dX2_goes_183 : decode cX2_goes 183 = .ok (.iaload, 1) := dk_46 (dk_at dksX2_goes_7 19 rfl rfl)
theorem dX2_goes_184 : decode cX2_goes 184 = .ok (.ineg, 1) := dk_116 (dk_at dksX2_goes_7 20 rfl rfl)
theorem dX2_goes_185 : decode cX2_goes 185 = .ok (.i2l, 1) := dk_133 (dk_at dksX2_goes_7 21 rfl rfl)
theorem dX2_goes_186 : decode cX2_goes 186 = .ok (.lconst 0, 1) := dk_9 (dk_at dksX2_goes_7 22 rfl rfl)
theorem dX2_goes_187 : decode cX2_goes 187 = .ok (.invokevirtual 38, 3) := dk_182 0 38 (dk_at dksX2_goes_8 0 rfl rfl)
theorem dX2_goes_190 : decode cX2_goes 190 = .ok (.lload 6, 2) := dk_22 6 (dk_at dksX2_goes_8 3 rfl rfl)
theorem dX2_goes_192 : decode cX2_goes 192 = .ok (.iconst 0, 1) := dk_3 (dk_at dksX2_goes_8 5 rfl rfl)
theorem dX2_goes_193 : decode cX2_goes 193 = .ok (.aload_n 2, 1) := dk_44 (dk_at dksX2_goes_8 6 rfl rfl)
theorem dX2_goes_194 : decode cX2_goes 194 = .ok (.iload 8, 2) := dk_21 8 (dk_at dksX2_goes_8 7 rfl rfl)
theorem dX2_goes_196 : decode cX2_goes 196 = .ok (.iaload, 1) := dk_46 (dk_at dksX2_goes_8 9 rfl rfl)
theorem dX2_goes_197 : decode cX2_goes 197 = .ok (.invokestatic 42, 3) := dk_184 0 42 (dk_at dksX2_goes_8 10 rfl rfl)
theorem dX2_goes_200 : decode cX2_goes 200 = .ok (.i2l, 1) := dk_133 (dk_at dksX2_goes_8 13 rfl rfl)
theorem dX2_goes_201 : decode cX2_goes 201 = .ok (.ladd, 1) := dk_97 (dk_at dksX2_goes_8 14 rfl rfl)
theorem dX2_goes_202 : decode cX2_goes 202 = .ok (.lstore 6, 2) := dk_55 6 (dk_at dksX2_goes_8 15 rfl rfl)
theorem dX2_goes_204 : decode cX2_goes 204 = .ok (.iinc 8 1, 3) := dk_132 8 1 (dk_at dksX2_goes_8 17 rfl rfl)
theorem dX2_goes_207 : decode cX2_goes 207 = .ok (.goto (-75), 3) := dk_167 255 181 (dk_at dksX2_goes_8 20 rfl rfl)
theorem dX2_goes_210 : decode cX2_goes 210 = .ok (.lload 6, 2) := dk_22 6 (dk_at dksX2_goes_9 0 rfl rfl)
theorem dX2_goes_212 : decode cX2_goes 212 = .ok (.lconst 0, 1) := dk_9 (dk_at dksX2_goes_9 2 rfl rfl)
theorem dX2_goes_213 : decode cX2_goes 213 = .ok (.lcmp, 1) := dk_148 (dk_at dksX2_goes_9 3 rfl rfl)
theorem dX2_goes_214 : decode cX2_goes 214 = .ok (.ifCond .le 28, 3) := dk_158 0 28 (dk_at dksX2_goes_9 4 rfl rfl)
theorem dX2_goes_217 : decode cX2_goes 217 = .ok (.aload_n 0, 1) := dk_42 (dk_at dksX2_goes_9 7 rfl rfl)
theorem dX2_goes_218 : decode cX2_goes 218 = .ok (.invokevirtual 48, 3) := dk_182 0 48 (dk_at dksX2_goes_9 8 rfl rfl)
theorem dX2_goes_221 : decode cX2_goes 221 = .ok (.lstore 8, 2) := dk_55 8 (dk_at dksX2_goes_9 11 rfl rfl)
theorem dX2_goes_223 : decode cX2_goes 223 = .ok (.lload 8, 2) := dk_22 8 (dk_at dksX2_goes_9 13 rfl rfl)
theorem dX2_goes_225 : decode cX2_goes 225 = .ok (.lconst 0, 1) := dk_9 (dk_at dksX2_goes_9 15 rfl rfl)
theorem dX2_goes_226 : decode cX2_goes 226 = .ok (.lcmp, 1) := dk_148 (dk_at dksX2_goes_9 16 rfl rfl)
theorem dX2_goes_227 : decode cX2_goes 227 = .ok (.ifCond .ne 5, 3) := dk_154 0 5 (dk_at dksX2_goes_9 17 rfl rfl)
theorem dX2_goes_230 : decode cX2_goes 230 = .ok (.iconst 0, 1) := dk_3 (dk_at dksX2_goes_9 20 rfl rfl)
theorem dX2_goes_231 : decode cX2_goes 231 = .ok (.ireturn, 1) := dk_172 (dk_at dksX2_goes_9 21 rfl rfl)
theorem dX2_goes_232 : decode cX2_goes 232 = .ok (.lload 6, 2) := dk_22 6 (dk_at dksX2_goes_9 22 rfl rfl)
theorem dX2_goes_234 : decode cX2_goes 234 = .ok (.lload 8, 2) := dk_22 8 (dk_at dksX2_goes_10 0 rfl rfl)
theorem dX2_goes_236 : decode cX2_goes 236 = .ok (.lsub, 1) := dk_101 (dk_at dksX2_goes_10 2 rfl rfl)
theorem dX2_goes_237 : decode cX2_goes 237 = .ok (.lstore 6, 2) := dk_55 6 (dk_at dksX2_goes_10 3 rfl rfl)
theorem dX2_goes_239 : decode cX2_goes 239 = .ok (.goto (-29), 3) := dk_167 255 227 (dk_at dksX2_goes_10 5 rfl rfl)
theorem dX2_goes_242 : decode cX2_goes 242 = .ok (.iconst 1, 1) := dk_4 (dk_at dksX2_goes_10 8 rfl rfl)
theorem dX2_goes_243 : decode cX2_goes 243 = .ok (.ireturn, 1) := dk_172 (dk_at dksX2_goes_10 9 rfl rfl)
abbrev cX2_edge : ByteArray := prog_12_method_2_code
def yX2_edge : MethodName := ⟨RX2, "edge", "(IIJJ)V"⟩
def dkwX2_edge_4 : List UInt8 := [180, 0, 34, 5, 96, 181, 0, 34, 177]
abbrev dktX2_edge_4 : List UInt8 := dkwX2_edge_4 ++ []
def dkwX2_edge_3 : List UInt8 := [180, 0, 34, 4, 96, 9, 80, 42, 180, 0, 22, 42, 180, 0, 34, 4, 96, 22, 5, 117, 80, 42, 89]
abbrev dktX2_edge_3 : List UInt8 := dkwX2_edge_3 ++ dktX2_edge_4
def dkwX2_edge_2 : List UInt8 := [180, 0, 34, 4, 96, 28, 79, 42, 180, 0, 15, 42, 180, 0, 34, 4, 96, 27, 79, 42, 180, 0, 18, 42]
abbrev dktX2_edge_2 : List UInt8 := dkwX2_edge_2 ++ dktX2_edge_3
def dkwX2_edge_1 : List UInt8 := [42, 180, 0, 34, 33, 80, 42, 180, 0, 22, 42, 180, 0, 34, 22, 5, 80, 42, 180, 0, 11, 42]
abbrev dktX2_edge_1 : List UInt8 := dkwX2_edge_1 ++ dktX2_edge_2
def dkwX2_edge_0 : List UInt8 := [42, 180, 0, 11, 42, 180, 0, 34, 27, 79, 42, 180, 0, 15, 42, 180, 0, 34, 28, 79, 42, 180, 0, 18]
abbrev dktX2_edge_0 : List UInt8 := dkwX2_edge_0 ++ dktX2_edge_1
theorem dksX2_edge_0 : cX2_edge.data.toList.drop 0 = dktX2_edge_0 := by decide +kernel
theorem dksX2_edge_1 : cX2_edge.data.toList.drop 24 = dktX2_edge_1 := dk_seg dksX2_edge_0 24 rfl rfl
theorem dksX2_edge_2 : cX2_edge.data.toList.drop 46 = dktX2_edge_2 := dk_seg dksX2_edge_1 22 rfl rfl
theorem dksX2_edge_3 : cX2_edge.data.toList.drop 70 = dktX2_edge_3 := dk_seg dksX2_edge_2 24 rfl rfl
theorem dksX2_edge_4 : cX2_edge.data.toList.drop 93 = dktX2_edge_4 := dk_seg dksX2_edge_3 23 rfl rfl
theorem dX2_edge_0 : decode cX2_edge 0 = .ok (.aload_n 0, 1) := dk_42 (dk_at dksX2_edge_0 0 rfl rfl)
theorem dX2_edge_1 : decode cX2_edge 1 = .ok (.getfield 11, 3) := dk_180 0 11 (dk_at dksX2_edge_0 1 rfl rfl)
theorem dX2_edge_4 : decode cX2_edge 4 = .ok (.aload_n 0, 1) := dk_42 (dk_at dksX2_edge_0 4 rfl rfl)
theorem dX2_edge_5 : decode cX2_edge 5 = .ok (.getfield 34, 3) := dk_180 0 34 (dk_at dksX2_edge_0 5 rfl rfl)
theorem dX2_edge_8 : decode cX2_edge 8 = .ok (.iload_n 1, 1) := dk_27 (dk_at dksX2_edge_0 8 rfl rfl)
theorem dX2_edge_9 : decode cX2_edge 9 = .ok (.iastore, 1) := dk_79 (dk_at dksX2_edge_0 9 rfl rfl)
theorem dX2_edge_10 : decode cX2_edge 10 = .ok (.aload_n 0, 1) := dk_42 (dk_at dksX2_edge_0 10 rfl rfl)
theorem dX2_edge_11 : decode cX2_edge 11 = .ok (.getfield 15, 3) := dk_180 0 15 (dk_at dksX2_edge_0 11 rfl rfl)
theorem dX2_edge_14 : decode cX2_edge 14 = .ok (.aload_n 0, 1) := dk_42 (dk_at dksX2_edge_0 14 rfl rfl)
theorem dX2_edge_15 : decode cX2_edge 15 = .ok (.getfield 34, 3) := dk_180 0 34 (dk_at dksX2_edge_0 15 rfl rfl)
theorem dX2_edge_18 : decode cX2_edge 18 = .ok (.iload_n 2, 1) := dk_28 (dk_at dksX2_edge_0 18 rfl rfl)
theorem dX2_edge_19 : decode cX2_edge 19 = .ok (.iastore, 1) := dk_79 (dk_at dksX2_edge_0 19 rfl rfl)
theorem dX2_edge_20 : decode cX2_edge 20 = .ok (.aload_n 0, 1) := dk_42 (dk_at dksX2_edge_0 20 rfl rfl)
theorem dX2_edge_21 : decode cX2_edge 21 = .ok (.getfield 18, 3) := dk_180 0 18 (dk_at dksX2_edge_0 21 rfl rfl)
theorem dX2_edge_24 : decode cX2_edge 24 = .ok (.aload_n 0, 1) := dk_42 (dk_at dksX2_edge_1 0 rfl rfl)
theorem dX2_edge_25 : decode cX2_edge 25 = .ok (.getfield 34, 3) := dk_180 0 34 (dk_at dksX2_edge_1 1 rfl rfl)
theorem dX2_edge_28 : decode cX2_edge 28 = .ok (.lload_n 3, 1) := dk_33 (dk_at dksX2_edge_1 4 rfl rfl)
theorem dX2_edge_29 : decode cX2_edge 29 = .ok (.lastore, 1) := dk_80 (dk_at dksX2_edge_1 5 rfl rfl)
theorem dX2_edge_30 : decode cX2_edge 30 = .ok (.aload_n 0, 1) := dk_42 (dk_at dksX2_edge_1 6 rfl rfl)
theorem dX2_edge_31 : decode cX2_edge 31 = .ok (.getfield 22, 3) := dk_180 0 22 (dk_at dksX2_edge_1 7 rfl rfl)
theorem dX2_edge_34 : decode cX2_edge 34 = .ok (.aload_n 0, 1) := dk_42 (dk_at dksX2_edge_1 10 rfl rfl)
theorem dX2_edge_35 : decode cX2_edge 35 = .ok (.getfield 34, 3) := dk_180 0 34 (dk_at dksX2_edge_1 11 rfl rfl)
theorem dX2_edge_38 : decode cX2_edge 38 = .ok (.lload 5, 2) := dk_22 5 (dk_at dksX2_edge_1 14 rfl rfl)
theorem dX2_edge_40 : decode cX2_edge 40 = .ok (.lastore, 1) := dk_80 (dk_at dksX2_edge_1 16 rfl rfl)
theorem dX2_edge_41 : decode cX2_edge 41 = .ok (.aload_n 0, 1) := dk_42 (dk_at dksX2_edge_1 17 rfl rfl)
theorem dX2_edge_42 : decode cX2_edge 42 = .ok (.getfield 11, 3) := dk_180 0 11 (dk_at dksX2_edge_1 18 rfl rfl)
theorem dX2_edge_45 : decode cX2_edge 45 = .ok (.aload_n 0, 1) := dk_42 (dk_at dksX2_edge_1 21 rfl rfl)
theorem dX2_edge_46 : decode cX2_edge 46 = .ok (.getfield 34, 3) := dk_180 0 34 (dk_at dksX2_edge_2 0 rfl rfl)
theorem dX2_edge_49 : decode cX2_edge 49 = .ok (.iconst 1, 1) := dk_4 (dk_at dksX2_edge_2 3 rfl rfl)
theorem dX2_edge_50 : decode cX2_edge 50 = .ok (.iadd, 1) := dk_96 (dk_at dksX2_edge_2 4 rfl rfl)
theorem dX2_edge_51 : decode cX2_edge 51 = .ok (.iload_n 2, 1) := dk_28 (dk_at dksX2_edge_2 5 rfl rfl)
theorem dX2_edge_52 : decode cX2_edge 52 = .ok (.iastore, 1) := dk_79 (dk_at dksX2_edge_2 6 rfl rfl)
theorem dX2_edge_53 : decode cX2_edge 53 = .ok (.aload_n 0, 1) := dk_42 (dk_at dksX2_edge_2 7 rfl rfl)
theorem dX2_edge_54 : decode cX2_edge 54 = .ok (.getfield 15, 3) := dk_180 0 15 (dk_at dksX2_edge_2 8 rfl rfl)
theorem dX2_edge_57 : decode cX2_edge 57 = .ok (.aload_n 0, 1) := dk_42 (dk_at dksX2_edge_2 11 rfl rfl)
theorem dX2_edge_58 : decode cX2_edge 58 = .ok (.getfield 34, 3) := dk_180 0 34 (dk_at dksX2_edge_2 12 rfl rfl)
theorem dX2_edge_61 : decode cX2_edge 61 = .ok (.iconst 1, 1) := dk_4 (dk_at dksX2_edge_2 15 rfl rfl)
theorem dX2_edge_62 : decode cX2_edge 62 = .ok (.iadd, 1) := dk_96 (dk_at dksX2_edge_2 16 rfl rfl)
theorem dX2_edge_63 : decode cX2_edge 63 = .ok (.iload_n 1, 1) := dk_27 (dk_at dksX2_edge_2 17 rfl rfl)
theorem dX2_edge_64 : decode cX2_edge 64 = .ok (.iastore, 1) := dk_79 (dk_at dksX2_edge_2 18 rfl rfl)
theorem dX2_edge_65 : decode cX2_edge 65 = .ok (.aload_n 0, 1) := dk_42 (dk_at dksX2_edge_2 19 rfl rfl)
theorem dX2_edge_66 : decode cX2_edge 66 = .ok (.getfield 18, 3) := dk_180 0 18 (dk_at dksX2_edge_2 20 rfl rfl)
theorem dX2_edge_69 : decode cX2_edge 69 = .ok (.aload_n 0, 1) := dk_42 (dk_at dksX2_edge_2 23 rfl rfl)
theorem dX2_edge_70 : decode cX2_edge 70 = .ok (.getfield 34, 3) := dk_180 0 34 (dk_at dksX2_edge_3 0 rfl rfl)
theorem dX2_edge_73 : decode cX2_edge 73 = .ok (.iconst 1, 1) := dk_4 (dk_at dksX2_edge_3 3 rfl rfl)
theorem dX2_edge_74 : decode cX2_edge 74 = .ok (.iadd, 1) := dk_96 (dk_at dksX2_edge_3 4 rfl rfl)
theorem dX2_edge_75 : decode cX2_edge 75 = .ok (.lconst 0, 1) := dk_9 (dk_at dksX2_edge_3 5 rfl rfl)
theorem dX2_edge_76 : decode cX2_edge 76 = .ok (.lastore, 1) := dk_80 (dk_at dksX2_edge_3 6 rfl rfl)
theorem dX2_edge_77 : decode cX2_edge 77 = .ok (.aload_n 0, 1) := dk_42 (dk_at dksX2_edge_3 7 rfl rfl)
theorem dX2_edge_78 : decode cX2_edge 78 = .ok (.getfield 22, 3) := dk_180 0 22 (dk_at dksX2_edge_3 8 rfl rfl)
theorem dX2_edge_81 : decode cX2_edge 81 = .ok (.aload_n 0, 1) := dk_42 (dk_at dksX2_edge_3 11 rfl rfl)
theorem dX2_edge_82 : decode cX2_edge 82 = .ok (.getfield 34, 3) := dk_180 0 34 (dk_at dksX2_edge_3 12 rfl rfl)
theorem dX2_edge_85 : decode cX2_edge 85 = .ok (.iconst 1, 1) := dk_4 (dk_at dksX2_edge_3 15 rfl rfl)
theorem dX2_edge_86 : decode cX2_edge 86 = .ok (.iadd, 1) := dk_96 (dk_at dksX2_edge_3 16 rfl rfl)
theorem dX2_edge_87 : decode cX2_edge 87 = .ok (.lload 5, 2) := dk_22 5 (dk_at dksX2_edge_3 17 rfl rfl)
theorem dX2_edge_89 : decode cX2_edge 89 = .ok (.lneg, 1) := dk_117 (dk_at dksX2_edge_3 19 rfl rfl)
theorem dX2_edge_90 : decode cX2_edge 90 = .ok (.lastore, 1) := dk_80 (dk_at dksX2_edge_3 20 rfl rfl)
theorem dX2_edge_91 : decode cX2_edge 91 = .ok (.aload_n 0, 1) := dk_42 (dk_at dksX2_edge_3 21 rfl rfl)
theorem dX2_edge_92 : decode cX2_edge 92 = .ok (.dup, 1) := dk_89 (dk_at dksX2_edge_3 22 rfl rfl)
theorem dX2_edge_93 : decode cX2_edge 93 = .ok (.getfield 34, 3) := dk_180 0 34 (dk_at dksX2_edge_4 0 rfl rfl)
theorem dX2_edge_96 : decode cX2_edge 96 = .ok (.iconst 2, 1) := dk_5 (dk_at dksX2_edge_4 3 rfl rfl)
theorem dX2_edge_97 : decode cX2_edge 97 = .ok (.iadd, 1) := dk_96 (dk_at dksX2_edge_4 4 rfl rfl)
theorem dX2_edge_98 : decode cX2_edge 98 = .ok (.putfield 34, 3) := dk_181 0 34 (dk_at dksX2_edge_4 5 rfl rfl)
theorem dX2_edge_101 : decode cX2_edge 101 = .ok (.return_, 1) := dk_177 (dk_at dksX2_edge_4 8 rfl rfl)
abbrev cX2_goesOnce : ByteArray := prog_12_method_4_code
def yX2_goesOnce : MethodName := ⟨RX2, "goesOnce", "()J"⟩
def dkwX2_goesOnce_12 : List UInt8 := [180, 0, 28, 21, 4, 46, 46, 54, 4, 167, 255, 201, 32, 173]
abbrev dktX2_goesOnce_12 : List UInt8 := dkwX2_goesOnce_12 ++ []
def dkwX2_goesOnce_11 : List UInt8 := [180, 0, 18, 42, 180, 0, 28, 21, 4, 46, 4, 130, 92, 47, 32, 97, 80, 42, 180, 0, 11, 42]
abbrev dktX2_goesOnce_11 : List UInt8 := dkwX2_goesOnce_11 ++ dktX2_goesOnce_12
def dkwX2_goesOnce_10 : List UInt8 := [16, 16, 159, 0, 54, 42, 180, 0, 18, 42, 180, 0, 28, 21, 4, 46, 92, 47, 32, 101, 80, 42]
abbrev dktX2_goesOnce_10 : List UInt8 := dkwX2_goesOnce_10 ++ dktX2_goesOnce_11
def dkwX2_goesOnce_9 : List UInt8 := [42, 180, 0, 11, 42, 180, 0, 28, 21, 4, 46, 46, 54, 4, 167, 255, 218, 16, 17, 54, 4, 21, 4]
abbrev dktX2_goesOnce_9 : List UInt8 := dkwX2_goesOnce_9 ++ dktX2_goesOnce_10
def dkwX2_goesOnce_8 : List UInt8 := [21, 4, 16, 16, 159, 0, 37, 32, 42, 180, 0, 18, 42, 180, 0, 28, 21, 4, 46, 47, 184, 0, 54, 65]
abbrev dktX2_goesOnce_8 : List UInt8 := dkwX2_goesOnce_8 ++ dktX2_goesOnce_9
def dkwX2_goesOnce_7 : List UInt8 := [42, 180, 0, 25, 16, 17, 47, 20, 0, 52, 148, 154, 0, 5, 9, 173, 20, 0, 52, 65, 16, 17, 54, 4]
abbrev dktX2_goesOnce_7 : List UInt8 := dkwX2_goesOnce_7 ++ dktX2_goesOnce_8
def dkwX2_goesOnce_6 : List UInt8 := [80, 42, 180, 0, 28, 42, 180, 0, 15, 28, 46, 28, 79, 4, 60, 132, 2, 1, 167, 255, 137, 167, 255, 126]
abbrev dktX2_goesOnce_6 : List UInt8 := dkwX2_goesOnce_6 ++ dktX2_goesOnce_7
def dkwX2_goesOnce_5 : List UInt8 := [42, 180, 0, 15, 28, 46, 42, 180, 0, 25, 42, 180, 0, 11, 28, 46, 47, 42, 180, 0, 22, 28, 47, 97]
abbrev dktX2_goesOnce_5 : List UInt8 := dkwX2_goesOnce_5 ++ dktX2_goesOnce_6
def dkwX2_goesOnce_4 : List UInt8 := [47, 97, 42, 180, 0, 25, 42, 180, 0, 15, 28, 46, 47, 148, 155, 0, 6, 167, 0, 46, 42, 180, 0, 25]
abbrev dktX2_goesOnce_4 : List UInt8 := dkwX2_goesOnce_4 ++ dktX2_goesOnce_5
def dkwX2_goesOnce_3 : List UInt8 := [47, 20, 0, 52, 148, 153, 0, 82, 42, 180, 0, 25, 42, 180, 0, 11, 28, 46, 47, 42, 180, 0, 22, 28]
abbrev dktX2_goesOnce_3 : List UInt8 := dkwX2_goesOnce_3 ++ dktX2_goesOnce_4
def dkwX2_goesOnce_2 : List UInt8 := [162, 0, 117, 42, 180, 0, 18, 28, 47, 9, 148, 153, 0, 100, 42, 180, 0, 25, 42, 180, 0, 11, 28, 46]
abbrev dktX2_goesOnce_2 : List UInt8 := dkwX2_goesOnce_2 ++ dktX2_goesOnce_3
def dkwX2_goesOnce_1 : List UInt8 := [180, 0, 25, 16, 16, 9, 80, 4, 60, 27, 153, 0, 132, 3, 60, 3, 61, 28, 42, 180, 0, 34]
abbrev dktX2_goesOnce_1 : List UInt8 := dkwX2_goesOnce_1 ++ dktX2_goesOnce_2
def dkwX2_goesOnce_0 : List UInt8 := [3, 60, 27, 16, 18, 162, 0, 18, 42, 180, 0, 25, 27, 20, 0, 52, 80, 132, 1, 1, 167, 255, 238, 42]
abbrev dktX2_goesOnce_0 : List UInt8 := dkwX2_goesOnce_0 ++ dktX2_goesOnce_1
theorem dksX2_goesOnce_0 : cX2_goesOnce.data.toList.drop 0 = dktX2_goesOnce_0 := by decide +kernel
theorem dksX2_goesOnce_1 : cX2_goesOnce.data.toList.drop 24 = dktX2_goesOnce_1 := dk_seg dksX2_goesOnce_0 24 rfl rfl
theorem dksX2_goesOnce_2 : cX2_goesOnce.data.toList.drop 46 = dktX2_goesOnce_2 := dk_seg dksX2_goesOnce_1 22 rfl rfl
theorem dksX2_goesOnce_3 : cX2_goesOnce.data.toList.drop 70 = dktX2_goesOnce_3 := dk_seg dksX2_goesOnce_2 24 rfl rfl
theorem dksX2_goesOnce_4 : cX2_goesOnce.data.toList.drop 94 = dktX2_goesOnce_4 := dk_seg dksX2_goesOnce_3 24 rfl rfl
theorem dksX2_goesOnce_5 : cX2_goesOnce.data.toList.drop 118 = dktX2_goesOnce_5 := dk_seg dksX2_goesOnce_4 24 rfl rfl
theorem dksX2_goesOnce_6 : cX2_goesOnce.data.toList.drop 142 = dktX2_goesOnce_6 := dk_seg dksX2_goesOnce_5 24 rfl rfl
theorem dksX2_goesOnce_7 : cX2_goesOnce.data.toList.drop 166 = dktX2_goesOnce_7 := dk_seg dksX2_goesOnce_6 24 rfl rfl
theorem dksX2_goesOnce_8 : cX2_goesOnce.data.toList.drop 190 = dktX2_goesOnce_8 := dk_seg dksX2_goesOnce_7 24 rfl rfl
theorem dksX2_goesOnce_9 : cX2_goesOnce.data.toList.drop 214 = dktX2_goesOnce_9 := dk_seg dksX2_goesOnce_8 24 rfl rfl
theorem dksX2_goesOnce_10 : cX2_goesOnce.data.toList.drop 237 = dktX2_goesOnce_10 := dk_seg dksX2_goesOnce_9 23 rfl rfl
theorem dksX2_goesOnce_11 : cX2_goesOnce.data.toList.drop 259 = dktX2_goesOnce_11 := dk_seg dksX2_goesOnce_10 22 rfl rfl
theorem dksX2_goesOnce_12 : cX2_goesOnce.data.toList.drop 281 = dktX2_goesOnce_12 := dk_seg dksX2_goesOnce_11 22 rfl rfl
theorem dX2_goesOnce_0 : decode cX2_goesOnce 0 = .ok (.iconst 0, 1) := dk_3 (dk_at dksX2_goesOnce_0 0 rfl rfl)
theorem dX2_goesOnce_1 : decode cX2_goesOnce 1 = .ok (.istore_n 1, 1) := dk_60 (dk_at dksX2_goesOnce_0 1 rfl rfl)
theorem dX2_goesOnce_2 : decode cX2_goesOnce 2 = .ok (.iload_n 1, 1) := dk_27 (dk_at dksX2_goesOnce_0 2 rfl rfl)
theorem dX2_goesOnce_3 : decode cX2_goesOnce 3 = .ok (.bipush 18, 2) := dk_16 18 (dk_at dksX2_goesOnce_0 3 rfl rfl)
theorem dX2_goesOnce_5 : decode cX2_goesOnce 5 = .ok (.if_icmp .ge 18, 3) := dk_162 0 18 (dk_at dksX2_goesOnce_0 5 rfl rfl)
theorem dX2_goesOnce_8 : decode cX2_goesOnce 8 = .ok (.aload_n 0, 1) := dk_42 (dk_at dksX2_goesOnce_0 8 rfl rfl)
theorem dX2_goesOnce_9 : decode cX2_goesOnce 9 = .ok (.getfield 25, 3) := dk_180 0 25 (dk_at dksX2_goesOnce_0 9 rfl rfl)
theorem dX2_goesOnce_12 : decode cX2_goesOnce 12 = .ok (.iload_n 1, 1) := dk_27 (dk_at dksX2_goesOnce_0 12 rfl rfl)
theorem dX2_goesOnce_13 : decode cX2_goesOnce 13 = .ok (.ldc2_w 52, 3) := dk_20 0 52 (dk_at dksX2_goesOnce_0 13 rfl rfl)
theorem dX2_goesOnce_16 : decode cX2_goesOnce 16 = .ok (.lastore, 1) := dk_80 (dk_at dksX2_goesOnce_0 16 rfl rfl)
theorem dX2_goesOnce_17 : decode cX2_goesOnce 17 = .ok (.iinc 1 1, 3) := dk_132 1 1 (dk_at dksX2_goesOnce_0 17 rfl rfl)
theorem dX2_goesOnce_20 : decode cX2_goesOnce 20 = .ok (.goto (-18), 3) := dk_167 255 238 (dk_at dksX2_goesOnce_0 20 rfl rfl)
theorem dX2_goesOnce_23 : decode cX2_goesOnce 23 = .ok (.aload_n 0, 1) := dk_42 (dk_at dksX2_goesOnce_0 23 rfl rfl)
theorem dX2_goesOnce_24 : decode cX2_goesOnce 24 = .ok (.getfield 25, 3) := dk_180 0 25 (dk_at dksX2_goesOnce_1 0 rfl rfl)
theorem dX2_goesOnce_27 : decode cX2_goesOnce 27 = .ok (.bipush 16, 2) := dk_16 16 (dk_at dksX2_goesOnce_1 3 rfl rfl)
theorem dX2_goesOnce_29 : decode cX2_goesOnce 29 = .ok (.lconst 0, 1) := dk_9 (dk_at dksX2_goesOnce_1 5 rfl rfl)
theorem dX2_goesOnce_30 : decode cX2_goesOnce 30 = .ok (.lastore, 1) := dk_80 (dk_at dksX2_goesOnce_1 6 rfl rfl)
theorem dX2_goesOnce_31 : decode cX2_goesOnce 31 = .ok (.iconst 1, 1) := dk_4 (dk_at dksX2_goesOnce_1 7 rfl rfl)
theorem dX2_goesOnce_32 : decode cX2_goesOnce 32 = .ok (.istore_n 1, 1) := dk_60 (dk_at dksX2_goesOnce_1 8 rfl rfl)
theorem dX2_goesOnce_33 : decode cX2_goesOnce 33 = .ok (.iload_n 1, 1) := dk_27 (dk_at dksX2_goesOnce_1 9 rfl rfl)
theorem dX2_goesOnce_34 : decode cX2_goesOnce 34 = .ok (.ifCond .eq 132, 3) := dk_153 0 132 (dk_at dksX2_goesOnce_1 10 rfl rfl)
theorem dX2_goesOnce_37 : decode cX2_goesOnce 37 = .ok (.iconst 0, 1) := dk_3 (dk_at dksX2_goesOnce_1 13 rfl rfl)
theorem dX2_goesOnce_38 : decode cX2_goesOnce 38 = .ok (.istore_n 1, 1) := dk_60 (dk_at dksX2_goesOnce_1 14 rfl rfl)
theorem dX2_goesOnce_39 : decode cX2_goesOnce 39 = .ok (.iconst 0, 1) := dk_3 (dk_at dksX2_goesOnce_1 15 rfl rfl)
theorem dX2_goesOnce_40 : decode cX2_goesOnce 40 = .ok (.istore_n 2, 1) := dk_61 (dk_at dksX2_goesOnce_1 16 rfl rfl)
theorem dX2_goesOnce_41 : decode cX2_goesOnce 41 = .ok (.iload_n 2, 1) := dk_28 (dk_at dksX2_goesOnce_1 17 rfl rfl)
theorem dX2_goesOnce_42 : decode cX2_goesOnce 42 = .ok (.aload_n 0, 1) := dk_42 (dk_at dksX2_goesOnce_1 18 rfl rfl)
theorem dX2_goesOnce_43 : decode cX2_goesOnce 43 = .ok (.getfield 34, 3) := dk_180 0 34 (dk_at dksX2_goesOnce_1 19 rfl rfl)
theorem dX2_goesOnce_46 : decode cX2_goesOnce 46 = .ok (.if_icmp .ge 117, 3) := dk_162 0 117 (dk_at dksX2_goesOnce_2 0 rfl rfl)
theorem dX2_goesOnce_49 : decode cX2_goesOnce 49 = .ok (.aload_n 0, 1) := dk_42 (dk_at dksX2_goesOnce_2 3 rfl rfl)
theorem dX2_goesOnce_50 : decode cX2_goesOnce 50 = .ok (.getfield 18, 3) := dk_180 0 18 (dk_at dksX2_goesOnce_2 4 rfl rfl)
theorem dX2_goesOnce_53 : decode cX2_goesOnce 53 = .ok (.iload_n 2, 1) := dk_28 (dk_at dksX2_goesOnce_2 7 rfl rfl)
theorem dX2_goesOnce_54 : decode cX2_goesOnce 54 = .ok (.laload, 1) := dk_47 (dk_at dksX2_goesOnce_2 8 rfl rfl)
theorem dX2_goesOnce_55 : decode cX2_goesOnce 55 = .ok (.lconst 0, 1) := dk_9 (dk_at dksX2_goesOnce_2 9 rfl rfl)
theorem dX2_goesOnce_56 : decode cX2_goesOnce 56 = .ok (.lcmp, 1) := dk_148 (dk_at dksX2_goesOnce_2 10 rfl rfl)
theorem dX2_goesOnce_57 : decode cX2_goesOnce 57 = .ok (.ifCond .eq 100, 3) := dk_153 0 100 (dk_at dksX2_goesOnce_2 11 rfl rfl)
theorem dX2_goesOnce_60 : decode cX2_goesOnce 60 = .ok (.aload_n 0, 1) := dk_42 (dk_at dksX2_goesOnce_2 14 rfl rfl)
theorem dX2_goesOnce_61 : decode cX2_goesOnce 61 = .ok (.getfield 25, 3) := dk_180 0 25 (dk_at dksX2_goesOnce_2 15 rfl rfl)
theorem dX2_goesOnce_64 : decode cX2_goesOnce 64 = .ok (.aload_n 0, 1) := dk_42 (dk_at dksX2_goesOnce_2 18 rfl rfl)
theorem dX2_goesOnce_65 : decode cX2_goesOnce 65 = .ok (.getfield 11, 3) := dk_180 0 11 (dk_at dksX2_goesOnce_2 19 rfl rfl)
theorem dX2_goesOnce_68 : decode cX2_goesOnce 68 = .ok (.iload_n 2, 1) := dk_28 (dk_at dksX2_goesOnce_2 22 rfl rfl)
theorem dX2_goesOnce_69 : decode cX2_goesOnce 69 = .ok (.iaload, 1) := dk_46 (dk_at dksX2_goesOnce_2 23 rfl rfl)
theorem dX2_goesOnce_70 : decode cX2_goesOnce 70 = .ok (.laload, 1) := dk_47 (dk_at dksX2_goesOnce_3 0 rfl rfl)
theorem dX2_goesOnce_71 : decode cX2_goesOnce 71 = .ok (.ldc2_w 52, 3) := dk_20 0 52 (dk_at dksX2_goesOnce_3 1 rfl rfl)
theorem dX2_goesOnce_74 : decode cX2_goesOnce 74 = .ok (.lcmp, 1) := dk_148 (dk_at dksX2_goesOnce_3 4 rfl rfl)
theorem dX2_goesOnce_75 : decode cX2_goesOnce 75 = .ok (.ifCond .eq 82, 3) := dk_153 0 82 (dk_at dksX2_goesOnce_3 5 rfl rfl)
theorem dX2_goesOnce_78 : decode cX2_goesOnce 78 = .ok (.aload_n 0, 1) := dk_42 (dk_at dksX2_goesOnce_3 8 rfl rfl)
theorem dX2_goesOnce_79 : decode cX2_goesOnce 79 = .ok (.getfield 25, 3) := dk_180 0 25 (dk_at dksX2_goesOnce_3 9 rfl rfl)
theorem dX2_goesOnce_82 : decode cX2_goesOnce 82 = .ok (.aload_n 0, 1) := dk_42 (dk_at dksX2_goesOnce_3 12 rfl rfl)
theorem dX2_goesOnce_83 : decode cX2_goesOnce 83 = .ok (.getfield 11, 3) := dk_180 0 11 (dk_at dksX2_goesOnce_3 13 rfl rfl)
theorem dX2_goesOnce_86 : decode cX2_goesOnce 86 = .ok (.iload_n 2, 1) := dk_28 (dk_at dksX2_goesOnce_3 16 rfl rfl)
theorem dX2_goesOnce_87 : decode cX2_goesOnce 87 = .ok (.iaload, 1) := dk_46 (dk_at dksX2_goesOnce_3 17 rfl rfl)
theorem dX2_goesOnce_88 : decode cX2_goesOnce 88 = .ok (.laload, 1) := dk_47 (dk_at dksX2_goesOnce_3 18 rfl rfl)
theorem dX2_goesOnce_89 : decode cX2_goesOnce 89 = .ok (.aload_n 0, 1) := dk_42 (dk_at dksX2_goesOnce_3 19 rfl rfl)
theorem dX2_goesOnce_90 : decode cX2_goesOnce 90 = .ok (.getfield 22, 3) := dk_180 0 22 (dk_at dksX2_goesOnce_3 20 rfl rfl)
theorem dX2_goesOnce_93 : decode cX2_goesOnce 93 = .ok (.iload_n 2, 1) := dk_28 (dk_at dksX2_goesOnce_3 23 rfl rfl)
theorem dX2_goesOnce_94 : decode cX2_goesOnce 94 = .ok (.laload, 1) := dk_47 (dk_at dksX2_goesOnce_4 0 rfl rfl)
theorem dX2_goesOnce_95 : decode cX2_goesOnce 95 = .ok (.ladd, 1) := dk_97 (dk_at dksX2_goesOnce_4 1 rfl rfl)
theorem dX2_goesOnce_96 : decode cX2_goesOnce 96 = .ok (.aload_n 0, 1) := dk_42 (dk_at dksX2_goesOnce_4 2 rfl rfl)
theorem dX2_goesOnce_97 : decode cX2_goesOnce 97 = .ok (.getfield 25, 3) := dk_180 0 25 (dk_at dksX2_goesOnce_4 3 rfl rfl)
theorem dX2_goesOnce_100 : decode cX2_goesOnce 100 = .ok (.aload_n 0, 1) := dk_42 (dk_at dksX2_goesOnce_4 6 rfl rfl)
theorem dX2_goesOnce_101 : decode cX2_goesOnce 101 = .ok (.getfield 15, 3) := dk_180 0 15 (dk_at dksX2_goesOnce_4 7 rfl rfl)
theorem dX2_goesOnce_104 : decode cX2_goesOnce 104 = .ok (.iload_n 2, 1) := dk_28 (dk_at dksX2_goesOnce_4 10 rfl rfl)
theorem dX2_goesOnce_105 : decode cX2_goesOnce 105 = .ok (.iaload, 1) := dk_46 (dk_at dksX2_goesOnce_4 11 rfl rfl)
theorem dX2_goesOnce_106 : decode cX2_goesOnce 106 = .ok (.laload, 1) := dk_47 (dk_at dksX2_goesOnce_4 12 rfl rfl)
theorem dX2_goesOnce_107 : decode cX2_goesOnce 107 = .ok (.lcmp, 1) := dk_148 (dk_at dksX2_goesOnce_4 13 rfl rfl)
theorem dX2_goesOnce_108 : decode cX2_goesOnce 108 = .ok (.ifCond .lt 6, 3) := dk_155 0 6 (dk_at dksX2_goesOnce_4 14 rfl rfl)
theorem dX2_goesOnce_111 : decode cX2_goesOnce 111 = .ok (.goto 46, 3) := dk_167 0 46 (dk_at dksX2_goesOnce_4 17 rfl rfl)
theorem dX2_goesOnce_114 : decode cX2_goesOnce 114 = .ok (.aload_n 0, 1) := dk_42 (dk_at dksX2_goesOnce_4 20 rfl rfl)
theorem dX2_goesOnce_115 : decode cX2_goesOnce 115 = .ok (.getfield 25, 3) := dk_180 0 25 (dk_at dksX2_goesOnce_4 21 rfl rfl)
theorem dX2_goesOnce_118 : decode cX2_goesOnce 118 = .ok (.aload_n 0, 1) := dk_42 (dk_at dksX2_goesOnce_5 0 rfl rfl)
theorem dX2_goesOnce_119 : decode cX2_goesOnce 119 = .ok (.getfield 15, 3) := dk_180 0 15 (dk_at dksX2_goesOnce_5 1 rfl rfl)
theorem dX2_goesOnce_122 : decode cX2_goesOnce 122 = .ok (.iload_n 2, 1) := dk_28 (dk_at dksX2_goesOnce_5 4 rfl rfl)
theorem dX2_goesOnce_123 : decode cX2_goesOnce 123 = .ok (.iaload, 1) := dk_46 (dk_at dksX2_goesOnce_5 5 rfl rfl)
theorem dX2_goesOnce_124 : decode cX2_goesOnce 124 = .ok (.aload_n 0, 1) := dk_42 (dk_at dksX2_goesOnce_5 6 rfl rfl)
theorem dX2_goesOnce_125 : decode cX2_goesOnce 125 = .ok (.getfield 25, 3) := dk_180 0 25 (dk_at dksX2_goesOnce_5 7 rfl rfl)
theorem dX2_goesOnce_128 : decode cX2_goesOnce 128 = .ok (.aload_n 0, 1) := dk_42 (dk_at dksX2_goesOnce_5 10 rfl rfl)
theorem dX2_goesOnce_129 : decode cX2_goesOnce 129 = .ok (.getfield 11, 3) := dk_180 0 11 (dk_at dksX2_goesOnce_5 11 rfl rfl)
theorem dX2_goesOnce_132 : decode cX2_goesOnce 132 = .ok (.iload_n 2, 1) := dk_28 (dk_at dksX2_goesOnce_5 14 rfl rfl)
theorem dX2_goesOnce_133 : decode cX2_goesOnce 133 = .ok (.iaload, 1) := dk_46 (dk_at dksX2_goesOnce_5 15 rfl rfl)
theorem dX2_goesOnce_134 : decode cX2_goesOnce 134 = .ok (.laload, 1) := dk_47 (dk_at dksX2_goesOnce_5 16 rfl rfl)
theorem dX2_goesOnce_135 : decode cX2_goesOnce 135 = .ok (.aload_n 0, 1) := dk_42 (dk_at dksX2_goesOnce_5 17 rfl rfl)
theorem dX2_goesOnce_136 : decode cX2_goesOnce 136 = .ok (.getfield 22, 3) := dk_180 0 22 (dk_at dksX2_goesOnce_5 18 rfl rfl)
theorem dX2_goesOnce_139 : decode cX2_goesOnce 139 = .ok (.iload_n 2, 1) := dk_28 (dk_at dksX2_goesOnce_5 21 rfl rfl)
theorem dX2_goesOnce_140 : decode cX2_goesOnce 140 = .ok (.laload, 1) := dk_47 (dk_at dksX2_goesOnce_5 22 rfl rfl)
theorem dX2_goesOnce_141 : decode cX2_goesOnce 141 = .ok (.ladd, 1) := dk_97 (dk_at dksX2_goesOnce_5 23 rfl rfl)
theorem dX2_goesOnce_142 : decode cX2_goesOnce 142 = .ok (.lastore, 1) := dk_80 (dk_at dksX2_goesOnce_6 0 rfl rfl)
theorem dX2_goesOnce_143 : decode cX2_goesOnce 143 = .ok (.aload_n 0, 1) := dk_42 (dk_at dksX2_goesOnce_6 1 rfl rfl)
theorem dX2_goesOnce_144 : decode cX2_goesOnce 144 = .ok (.getfield 28, 3) := dk_180 0 28 (dk_at dksX2_goesOnce_6 2 rfl rfl)
theorem dX2_goesOnce_147 : decode cX2_goesOnce 147 = .ok (.aload_n 0, 1) := dk_42 (dk_at dksX2_goesOnce_6 5 rfl rfl)
theorem dX2_goesOnce_148 : decode cX2_goesOnce 148 = .ok (.getfield 15, 3) := dk_180 0 15 (dk_at dksX2_goesOnce_6 6 rfl rfl)
theorem dX2_goesOnce_151 : decode cX2_goesOnce 151 = .ok (.iload_n 2, 1) := dk_28 (dk_at dksX2_goesOnce_6 9 rfl rfl)
theorem dX2_goesOnce_152 : decode cX2_goesOnce 152 = .ok (.iaload, 1) := dk_46 (dk_at dksX2_goesOnce_6 10 rfl rfl)
theorem dX2_goesOnce_153 : decode cX2_goesOnce 153 = .ok (.iload_n 2, 1) := dk_28 (dk_at dksX2_goesOnce_6 11 rfl rfl)
theorem dX2_goesOnce_154 : decode cX2_goesOnce 154 = .ok (.iastore, 1) := dk_79 (dk_at dksX2_goesOnce_6 12 rfl rfl)
theorem dX2_goesOnce_155 : decode cX2_goesOnce 155 = .ok (.iconst 1, 1) := dk_4 (dk_at dksX2_goesOnce_6 13 rfl rfl)
theorem dX2_goesOnce_156 : decode cX2_goesOnce 156 = .ok (.istore_n 1, 1) := dk_60 (dk_at dksX2_goesOnce_6 14 rfl rfl)
theorem dX2_goesOnce_157 : decode cX2_goesOnce 157 = .ok (.iinc 2 1, 3) := dk_132 2 1 (dk_at dksX2_goesOnce_6 15 rfl rfl)
theorem dX2_goesOnce_160 : decode cX2_goesOnce 160 = .ok (.goto (-119), 3) := dk_167 255 137 (dk_at dksX2_goesOnce_6 18 rfl rfl)
theorem dX2_goesOnce_163 : decode cX2_goesOnce 163 = .ok (.goto (-130), 3) := dk_167 255 126 (dk_at dksX2_goesOnce_6 21 rfl rfl)
theorem dX2_goesOnce_166 : decode cX2_goesOnce 166 = .ok (.aload_n 0, 1) := dk_42 (dk_at dksX2_goesOnce_7 0 rfl rfl)
theorem dX2_goesOnce_167 : decode cX2_goesOnce 167 = .ok (.getfield 25, 3) := dk_180 0 25 (dk_at dksX2_goesOnce_7 1 rfl rfl)
theorem dX2_goesOnce_170 : decode cX2_goesOnce 170 = .ok (.bipush 17, 2) := dk_16 17 (dk_at dksX2_goesOnce_7 4 rfl rfl)
theorem dX2_goesOnce_172 : decode cX2_goesOnce 172 = .ok (.laload, 1) := dk_47 (dk_at dksX2_goesOnce_7 6 rfl rfl)
theorem dX2_goesOnce_173 : decode cX2_goesOnce 173 = .ok (.ldc2_w 52, 3) := dk_20 0 52 (dk_at dksX2_goesOnce_7 7 rfl rfl)
theorem dX2_goesOnce_176 : decode cX2_goesOnce 176 = .ok (.lcmp, 1) := dk_148 (dk_at dksX2_goesOnce_7 10 rfl rfl)
theorem dX2_goesOnce_177 : decode cX2_goesOnce 177 = .ok (.ifCond .ne 5, 3) := dk_154 0 5 (dk_at dksX2_goesOnce_7 11 rfl rfl)
theorem dX2_goesOnce_180 : decode cX2_goesOnce 180 = .ok (.lconst 0, 1) := dk_9 (dk_at dksX2_goesOnce_7 14 rfl rfl)
theorem dX2_goesOnce_181 : decode cX2_goesOnce 181 = .ok (.lreturn, 1) := dk_173 (dk_at dksX2_goesOnce_7 15 rfl rfl)
theorem dX2_goesOnce_182 : decode cX2_goesOnce 182 = .ok (.ldc2_w 52, 3) := dk_20 0 52 (dk_at dksX2_goesOnce_7 16 rfl rfl)
theorem dX2_goesOnce_185 : decode cX2_goesOnce 185 = .ok (.lstore_n 2, 1) := dk_65 (dk_at dksX2_goesOnce_7 19 rfl rfl)
theorem dX2_goesOnce_186 : decode cX2_goesOnce 186 = .ok (.bipush 17, 2) := dk_16 17 (dk_at dksX2_goesOnce_7 20 rfl rfl)
theorem dX2_goesOnce_188 : decode cX2_goesOnce 188 = .ok (.istore 4, 2) := dk_54 4 (dk_at dksX2_goesOnce_7 22 rfl rfl)
theorem dX2_goesOnce_190 : decode cX2_goesOnce 190 = .ok (.iload 4, 2) := dk_21 4 (dk_at dksX2_goesOnce_8 0 rfl rfl)
theorem dX2_goesOnce_192 : decode cX2_goesOnce 192 = .ok (.bipush 16, 2) := dk_16 16 (dk_at dksX2_goesOnce_8 2 rfl rfl)
theorem dX2_goesOnce_194 : decode cX2_goesOnce 194 = .ok (.if_icmp .eq 37, 3) := dk_159 0 37 (dk_at dksX2_goesOnce_8 4 rfl rfl)
theorem dX2_goesOnce_197 : decode cX2_goesOnce 197 = .ok (.lload_n 2, 1) := dk_32 (dk_at dksX2_goesOnce_8 7 rfl rfl)
theorem dX2_goesOnce_198 : decode cX2_goesOnce 198 = .ok (.aload_n 0, 1) := dk_42 (dk_at dksX2_goesOnce_8 8 rfl rfl)
theorem dX2_goesOnce_199 : decode cX2_goesOnce 199 = .ok (.getfield 18, 3) := dk_180 0 18 (dk_at dksX2_goesOnce_8 9 rfl rfl)
theorem dX2_goesOnce_202 : decode cX2_goesOnce 202 = .ok (.aload_n 0, 1) := dk_42 (dk_at dksX2_goesOnce_8 12 rfl rfl)
theorem dX2_goesOnce_203 : decode cX2_goesOnce 203 = .ok (.getfield 28, 3) := dk_180 0 28 (dk_at dksX2_goesOnce_8 13 rfl rfl)
theorem dX2_goesOnce_206 : decode cX2_goesOnce 206 = .ok (.iload 4, 2) := dk_21 4 (dk_at dksX2_goesOnce_8 16 rfl rfl)
theorem dX2_goesOnce_208 : decode cX2_goesOnce 208 = .ok (.iaload, 1) := dk_46 (dk_at dksX2_goesOnce_8 18 rfl rfl)
theorem dX2_goesOnce_209 : decode cX2_goesOnce 209 = .ok (.laload, 1) := dk_47 (dk_at dksX2_goesOnce_8 19 rfl rfl)
theorem dX2_goesOnce_210 : decode cX2_goesOnce 210 = .ok (.invokestatic 54, 3) := dk_184 0 54 (dk_at dksX2_goesOnce_8 20 rfl rfl)
theorem dX2_goesOnce_213 : decode cX2_goesOnce 213 = .ok (.lstore_n 2, 1) := dk_65 (dk_at dksX2_goesOnce_8 23 rfl rfl)
theorem dX2_goesOnce_214 : decode cX2_goesOnce 214 = .ok (.aload_n 0, 1) := dk_42 (dk_at dksX2_goesOnce_9 0 rfl rfl)
theorem dX2_goesOnce_215 : decode cX2_goesOnce 215 = .ok (.getfield 11, 3) := dk_180 0 11 (dk_at dksX2_goesOnce_9 1 rfl rfl)
theorem dX2_goesOnce_218 : decode cX2_goesOnce 218 = .ok (.aload_n 0, 1) := dk_42 (dk_at dksX2_goesOnce_9 4 rfl rfl)
theorem dX2_goesOnce_219 : decode cX2_goesOnce 219 = .ok (.getfield 28, 3) := dk_180 0 28 (dk_at dksX2_goesOnce_9 5 rfl rfl)
theorem dX2_goesOnce_222 : decode cX2_goesOnce 222 = .ok (.iload 4, 2) := dk_21 4 (dk_at dksX2_goesOnce_9 8 rfl rfl)
theorem dX2_goesOnce_224 : decode cX2_goesOnce 224 = .ok (.iaload, 1) := dk_46 (dk_at dksX2_goesOnce_9 10 rfl rfl)
theorem dX2_goesOnce_225 : decode cX2_goesOnce 225 = .ok (.iaload, 1) := dk_46 (dk_at dksX2_goesOnce_9 11 rfl rfl)
theorem dX2_goesOnce_226 : decode cX2_goesOnce 226 = .ok (.istore 4, 2) := dk_54 4 (dk_at dksX2_goesOnce_9 12 rfl rfl)
theorem dX2_goesOnce_228 : decode cX2_goesOnce 228 = .ok (.goto (-38), 3) := dk_167 255 218 (dk_at dksX2_goesOnce_9 14 rfl rfl)
theorem dX2_goesOnce_231 : decode cX2_goesOnce 231 = .ok (.bipush 17, 2) := dk_16 17 (dk_at dksX2_goesOnce_9 17 rfl rfl)
theorem dX2_goesOnce_233 : decode cX2_goesOnce 233 = .ok (.istore 4, 2) := dk_54 4 (dk_at dksX2_goesOnce_9 19 rfl rfl)
theorem dX2_goesOnce_235 : decode cX2_goesOnce 235 = .ok (.iload 4, 2) := dk_21 4 (dk_at dksX2_goesOnce_9 21 rfl rfl)
theorem dX2_goesOnce_237 : decode cX2_goesOnce 237 = .ok (.bipush 16, 2) := dk_16 16 (dk_at dksX2_goesOnce_10 0 rfl rfl)
theorem dX2_goesOnce_239 : decode cX2_goesOnce 239 = .ok (.if_icmp .eq 54, 3) := dk_159 0 54 (dk_at dksX2_goesOnce_10 2 rfl rfl)
theorem dX2_goesOnce_242 : decode cX2_goesOnce 242 = .ok (.aload_n 0, 1) := dk_42 (dk_at dksX2_goesOnce_10 5 rfl rfl)
theorem dX2_goesOnce_243 : decode cX2_goesOnce 243 = .ok (.getfield 18, 3) := dk_180 0 18 (dk_at dksX2_goesOnce_10 6 rfl rfl)
theorem dX2_goesOnce_246 : decode cX2_goesOnce 246 = .ok (.aload_n 0, 1) := dk_42 (dk_at dksX2_goesOnce_10 9 rfl rfl)
theorem dX2_goesOnce_247 : decode cX2_goesOnce 247 = .ok (.getfield 28, 3) := dk_180 0 28 (dk_at dksX2_goesOnce_10 10 rfl rfl)
theorem dX2_goesOnce_250 : decode cX2_goesOnce 250 = .ok (.iload 4, 2) := dk_21 4 (dk_at dksX2_goesOnce_10 13 rfl rfl)
theorem dX2_goesOnce_252 : decode cX2_goesOnce 252 = .ok (.iaload, 1) := dk_46 (dk_at dksX2_goesOnce_10 15 rfl rfl)
theorem dX2_goesOnce_253 : decode cX2_goesOnce 253 = .ok (.dup2, 1) := dk_92 (dk_at dksX2_goesOnce_10 16 rfl rfl)
theorem dX2_goesOnce_254 : decode cX2_goesOnce 254 = .ok (.laload, 1) := dk_47 (dk_at dksX2_goesOnce_10 17 rfl rfl)
theorem dX2_goesOnce_255 : decode cX2_goesOnce 255 = .ok (.lload_n 2, 1) := dk_32 (dk_at dksX2_goesOnce_10 18 rfl rfl)
theorem dX2_goesOnce_256 : decode cX2_goesOnce 256 = .ok (.lsub, 1) := dk_101 (dk_at dksX2_goesOnce_10 19 rfl rfl)
theorem dX2_goesOnce_257 : decode cX2_goesOnce 257 = .ok (.lastore, 1) := dk_80 (dk_at dksX2_goesOnce_10 20 rfl rfl)
theorem dX2_goesOnce_258 : decode cX2_goesOnce 258 = .ok (.aload_n 0, 1) := dk_42 (dk_at dksX2_goesOnce_10 21 rfl rfl)
theorem dX2_goesOnce_259 : decode cX2_goesOnce 259 = .ok (.getfield 18, 3) := dk_180 0 18 (dk_at dksX2_goesOnce_11 0 rfl rfl)
theorem dX2_goesOnce_262 : decode cX2_goesOnce 262 = .ok (.aload_n 0, 1) := dk_42 (dk_at dksX2_goesOnce_11 3 rfl rfl)
theorem dX2_goesOnce_263 : decode cX2_goesOnce 263 = .ok (.getfield 28, 3) := dk_180 0 28 (dk_at dksX2_goesOnce_11 4 rfl rfl)
theorem dX2_goesOnce_266 : decode cX2_goesOnce 266 = .ok (.iload 4, 2) := dk_21 4 (dk_at dksX2_goesOnce_11 7 rfl rfl)
theorem dX2_goesOnce_268 : decode cX2_goesOnce 268 = .ok (.iaload, 1) := dk_46 (dk_at dksX2_goesOnce_11 9 rfl rfl)
theorem dX2_goesOnce_269 : decode cX2_goesOnce 269 = .ok (.iconst 1, 1) := dk_4 (dk_at dksX2_goesOnce_11 10 rfl rfl)
theorem dX2_goesOnce_270 : decode cX2_goesOnce 270 = .ok (.ixor, 1) := dk_130 (dk_at dksX2_goesOnce_11 11 rfl rfl)
theorem dX2_goesOnce_271 : decode cX2_goesOnce 271 = .ok (.dup2, 1) := dk_92 (dk_at dksX2_goesOnce_11 12 rfl rfl)
theorem dX2_goesOnce_272 : decode cX2_goesOnce 272 = .ok (.laload, 1) := dk_47 (dk_at dksX2_goesOnce_11 13 rfl rfl)
theorem dX2_goesOnce_273 : decode cX2_goesOnce 273 = .ok (.lload_n 2, 1) := dk_32 (dk_at dksX2_goesOnce_11 14 rfl rfl)
theorem dX2_goesOnce_274 : decode cX2_goesOnce 274 = .ok (.ladd, 1) := dk_97 (dk_at dksX2_goesOnce_11 15 rfl rfl)
theorem dX2_goesOnce_275 : decode cX2_goesOnce 275 = .ok (.lastore, 1) := dk_80 (dk_at dksX2_goesOnce_11 16 rfl rfl)
theorem dX2_goesOnce_276 : decode cX2_goesOnce 276 = .ok (.aload_n 0, 1) := dk_42 (dk_at dksX2_goesOnce_11 17 rfl rfl)
theorem dX2_goesOnce_277 : decode cX2_goesOnce 277 = .ok (.getfield 11, 3) := dk_180 0 11 (dk_at dksX2_goesOnce_11 18 rfl rfl)
theorem dX2_goesOnce_280 : decode cX2_goesOnce 280 = .ok (.aload_n 0, 1) := dk_42 (dk_at dksX2_goesOnce_11 21 rfl rfl)
theorem dX2_goesOnce_281 : decode cX2_goesOnce 281 = .ok (.getfield 28, 3) := dk_180 0 28 (dk_at dksX2_goesOnce_12 0 rfl rfl)
theorem dX2_goesOnce_284 : decode cX2_goesOnce 284 = .ok (.iload 4, 2) := dk_21 4 (dk_at dksX2_goesOnce_12 3 rfl rfl)
theorem dX2_goesOnce_286 : decode cX2_goesOnce 286 = .ok (.iaload, 1) := dk_46 (dk_at dksX2_goesOnce_12 5 rfl rfl)
theorem dX2_goesOnce_287 : decode cX2_goesOnce 287 = .ok (.iaload, 1) := dk_46 (dk_at dksX2_goesOnce_12 6 rfl rfl)
theorem dX2_goesOnce_288 : decode cX2_goesOnce 288 = .ok (.istore 4, 2) := dk_54 4 (dk_at dksX2_goesOnce_12 7 rfl rfl)
theorem dX2_goesOnce_290 : decode cX2_goesOnce 290 = .ok (.goto (-55), 3) := dk_167 255 201 (dk_at dksX2_goesOnce_12 9 rfl rfl)
theorem dX2_goesOnce_293 : decode cX2_goesOnce 293 = .ok (.lload_n 2, 1) := dk_32 (dk_at dksX2_goesOnce_12 12 rfl rfl)
theorem dX2_goesOnce_294 : decode cX2_goesOnce 294 = .ok (.lreturn, 1) := dk_173 (dk_at dksX2_goesOnce_12 13 rfl rfl)
abbrev cX2_of : ByteArray := prog_12_method_5_code
def yX2_of : MethodName := ⟨RX2, "of", "(II)I"⟩
def dkwX2_of_0 : List UInt8 := [42, 180, 0, 18, 42, 180, 0, 31, 16, 8, 27, 104, 28, 96, 46, 4, 96, 47, 136, 172]
abbrev dktX2_of_0 : List UInt8 := dkwX2_of_0 ++ []
theorem dksX2_of_0 : cX2_of.data.toList.drop 0 = dktX2_of_0 := by decide +kernel
theorem dX2_of_0 : decode cX2_of 0 = .ok (.aload_n 0, 1) := dk_42 (dk_at dksX2_of_0 0 rfl rfl)
theorem dX2_of_1 : decode cX2_of 1 = .ok (.getfield 18, 3) := dk_180 0 18 (dk_at dksX2_of_0 1 rfl rfl)
theorem dX2_of_4 : decode cX2_of 4 = .ok (.aload_n 0, 1) := dk_42 (dk_at dksX2_of_0 4 rfl rfl)
theorem dX2_of_5 : decode cX2_of 5 = .ok (.getfield 31, 3) := dk_180 0 31 (dk_at dksX2_of_0 5 rfl rfl)
theorem dX2_of_8 : decode cX2_of 8 = .ok (.bipush 8, 2) := dk_16 8 (dk_at dksX2_of_0 8 rfl rfl)
theorem dX2_of_10 : decode cX2_of 10 = .ok (.iload_n 1, 1) := dk_27 (dk_at dksX2_of_0 10 rfl rfl)
theorem dX2_of_11 : decode cX2_of 11 = .ok (.imul, 1) := dk_104 (dk_at dksX2_of_0 11 rfl rfl)
theorem dX2_of_12 : decode cX2_of 12 = .ok (.iload_n 2, 1) := dk_28 (dk_at dksX2_of_0 12 rfl rfl)
theorem dX2_of_13 : decode cX2_of 13 = .ok (.iadd, 1) := dk_96 (dk_at dksX2_of_0 13 rfl rfl)
theorem dX2_of_14 : decode cX2_of 14 = .ok (.iaload, 1) := dk_46 (dk_at dksX2_of_0 14 rfl rfl)
theorem dX2_of_15 : decode cX2_of 15 = .ok (.iconst 1, 1) := dk_4 (dk_at dksX2_of_0 15 rfl rfl)
theorem dX2_of_16 : decode cX2_of 16 = .ok (.iadd, 1) := dk_96 (dk_at dksX2_of_0 16 rfl rfl)
theorem dX2_of_17 : decode cX2_of 17 = .ok (.laload, 1) := dk_47 (dk_at dksX2_of_0 17 rfl rfl)
theorem dX2_of_18 : decode cX2_of 18 = .ok (.l2i, 1) := dk_136 (dk_at dksX2_of_0 18 rfl rfl)
theorem dX2_of_19 : decode cX2_of 19 = .ok (.ireturn, 1) := dk_172 (dk_at dksX2_of_0 19 rfl rfl)
theorem q106 : (Jvm.Cond.initialized "SwapPress$Ways") ∈ lw_all := lw_g (lw_at lw_m1 6 rfl) rfl
theorem q204 : (Jvm.Cond.instantiable "SwapPress$Ways" (8 : Nat)) ∈ lw_all := lw_g (lw_at lw_m1 104 rfl) rfl
theorem q206 : (Jvm.Cond.instanceMethod ({ cls := "SwapPress$Ways", name := "<init>", desc := "()V" } : Jvm.MethodName)) ∈ lw_all := lw_g (lw_at lw_m1 106 rfl) rfl
theorem q207 : (Jvm.Cond.code ({ cls := "SwapPress$Ways", name := "<init>", desc := "()V" } : Jvm.MethodName) prog_12_method_1_code (1 : Nat) (Option.none : Option Jvm.ClassFile.FieldType)) ∈ lw_all := lw_g (lw_at lw_m1 107 rfl) rfl
theorem q208 : (Jvm.Cond.methodLink "SwapPress$Ways" (5 : Nat) ({ cls := "java/lang/Object", name := "<init>", desc := "()V" } : Jvm.MethodName)) ∈ lw_all := lw_g (lw_at lw_m1 108 rfl) rfl
theorem q209 : (Jvm.Cond.fieldLink "SwapPress$Ways" (11 : Nat) "SwapPress$Ways" "from" "[I") ∈ lw_all := lw_g (lw_at lw_m1 109 rfl) rfl
theorem q210 : (Jvm.Cond.fieldLink "SwapPress$Ways" (15 : Nat) "SwapPress$Ways" "to" "[I") ∈ lw_all := lw_g (lw_at lw_m1 110 rfl) rfl
theorem q211 : (Jvm.Cond.fieldLink "SwapPress$Ways" (18 : Nat) "SwapPress$Ways" "left" "[J") ∈ lw_all := lw_g (lw_at lw_m1 111 rfl) rfl
theorem q212 : (Jvm.Cond.fieldLink "SwapPress$Ways" (22 : Nat) "SwapPress$Ways" "cost" "[J") ∈ lw_all := lw_g (lw_at lw_m1 112 rfl) rfl
theorem q213 : (Jvm.Cond.fieldLink "SwapPress$Ways" (25 : Nat) "SwapPress$Ways" "far" "[J") ∈ lw_all := lw_g (lw_at lw_m1 113 rfl) rfl
theorem q214 : (Jvm.Cond.fieldLink "SwapPress$Ways" (28 : Nat) "SwapPress$Ways" "by" "[I") ∈ lw_all := lw_g (lw_at lw_m1 114 rfl) rfl
theorem q215 : (Jvm.Cond.fieldLink "SwapPress$Ways" (31 : Nat) "SwapPress$Ways" "edgeOf" "[I") ∈ lw_all := lw_g (lw_at lw_m1 115 rfl) rfl
theorem q216 : (Jvm.Cond.fieldLink "SwapPress$Ways" (34 : Nat) "SwapPress$Ways" "edges" "I") ∈ lw_all := lw_g (lw_at lw_m1 116 rfl) rfl
theorem q217 : (Jvm.Cond.laysFinal "SwapPress$Ways" "SwapPress$Ways" "from" "[I") ∈ lw_all := lw_g (lw_at lw_m1 117 rfl) rfl
theorem q218 : (Jvm.Cond.soleField "SwapPress$Ways" "from") ∈ lw_all := lw_g (lw_at lw_m1 118 rfl) rfl
theorem q219 : (Jvm.Cond.laysFinal "SwapPress$Ways" "SwapPress$Ways" "to" "[I") ∈ lw_all := lw_g (lw_at lw_m1 119 rfl) rfl
theorem q220 : (Jvm.Cond.soleField "SwapPress$Ways" "to") ∈ lw_all := lw_g (lw_at lw_m1 120 rfl) rfl
theorem q221 : (Jvm.Cond.laysFinal "SwapPress$Ways" "SwapPress$Ways" "left" "[J") ∈ lw_all := lw_g (lw_at lw_m1 121 rfl) rfl
theorem q222 : (Jvm.Cond.soleField "SwapPress$Ways" "left") ∈ lw_all := lw_g (lw_at lw_m1 122 rfl) rfl
theorem q223 : (Jvm.Cond.laysFinal "SwapPress$Ways" "SwapPress$Ways" "cost" "[J") ∈ lw_all := lw_g (lw_at lw_m1 123 rfl) rfl
theorem q224 : (Jvm.Cond.soleField "SwapPress$Ways" "cost") ∈ lw_all := lw_g (lw_at lw_m1 124 rfl) rfl
theorem q225 : (Jvm.Cond.laysFinal "SwapPress$Ways" "SwapPress$Ways" "far" "[J") ∈ lw_all := lw_g (lw_at lw_m1 125 rfl) rfl
theorem q226 : (Jvm.Cond.soleField "SwapPress$Ways" "far") ∈ lw_all := lw_g (lw_at lw_m1 126 rfl) rfl
theorem q227 : (Jvm.Cond.laysFinal "SwapPress$Ways" "SwapPress$Ways" "by" "[I") ∈ lw_all := lw_g (lw_at lw_m1 127 rfl) rfl
theorem q228 : (Jvm.Cond.soleField "SwapPress$Ways" "by") ∈ lw_all := lw_g (lw_at lw_m1 128 rfl) rfl
theorem q229 : (Jvm.Cond.laysFinal "SwapPress$Ways" "SwapPress$Ways" "edgeOf" "[I") ∈ lw_all := lw_g (lw_at lw_m1 129 rfl) rfl
theorem q230 : (Jvm.Cond.soleField "SwapPress$Ways" "edgeOf") ∈ lw_all := lw_g (lw_at lw_m1 130 rfl) rfl
theorem q231 : (Jvm.Cond.lays "SwapPress$Ways" "SwapPress$Ways" "edges" "I") ∈ lw_all := lw_g (lw_at lw_m1 131 rfl) rfl
theorem q232 : (Jvm.Cond.soleField "SwapPress$Ways" "edges") ∈ lw_all := lw_g (lw_at lw_m1 132 rfl) rfl
theorem q233 : (Jvm.Cond.superclass "SwapPress$Ways" "java/lang/Object") ∈ lw_all := lw_g (lw_at lw_m1 133 rfl) rfl
theorem q711 : (Jvm.Cond.selects "SwapPress$Ways" ({ cls := "java/lang/Object", name := "equals", desc := "(Ljava/lang/Object;)Z" } : Jvm.MethodName) ({ cls := "java/lang/Object", name := "equals", desc := "(Ljava/lang/Object;)Z" } : Jvm.MethodName)) ∈ lw_all := lw_g (lw_at lw_m3 131 rfl) rfl
theorem q751 : (Jvm.Cond.selects "SwapPress$Ways" ({ cls := "java/lang/Object", name := "getClass", desc := "()Ljava/lang/Class;" } : Jvm.MethodName) ({ cls := "java/lang/Object", name := "getClass", desc := "()Ljava/lang/Class;" } : Jvm.MethodName)) ∈ lw_all := lw_g (lw_at lw_m3 171 rfl) rfl
theorem q1126 : (Jvm.Cond.instanceMethod ({ cls := "SwapPress$Ways", name := "goes", desc := "(I[I[J[J[J)Z" } : Jvm.MethodName)) ∈ lw_all := lw_g (lw_at lw_m5 66 rfl) rfl
theorem q1127 : (Jvm.Cond.selects "SwapPress$Ways" ({ cls := "SwapPress$Ways", name := "goes", desc := "(I[I[J[J[J)Z" } : Jvm.MethodName) ({ cls := "SwapPress$Ways", name := "goes", desc := "(I[I[J[J[J)Z" } : Jvm.MethodName)) ∈ lw_all := lw_g (lw_at lw_m5 67 rfl) rfl
theorem q1128 : (Jvm.Cond.code ({ cls := "SwapPress$Ways", name := "goes", desc := "(I[I[J[J[J)Z" } : Jvm.MethodName) prog_12_method_3_code (10 : Nat) (Option.some Jvm.ClassFile.FieldType.boolean)) ∈ lw_all := lw_g (lw_at lw_m5 68 rfl) rfl
theorem q1129 : (Jvm.Cond.methodLink "SwapPress$Ways" (38 : Nat) ({ cls := "SwapPress$Ways", name := "edge", desc := "(IIJJ)V" } : Jvm.MethodName)) ∈ lw_all := lw_g (lw_at lw_m5 69 rfl) rfl
theorem q1130 : (Jvm.Cond.privateMethod ({ cls := "SwapPress$Ways", name := "edge", desc := "(IIJJ)V" } : Jvm.MethodName)) ∈ lw_tbl := lw_at lw_m5 70 rfl
theorem q1131 : (Jvm.Cond.instanceMethod ({ cls := "SwapPress$Ways", name := "edge", desc := "(IIJJ)V" } : Jvm.MethodName)) ∈ lw_all := lw_g (lw_at lw_m5 71 rfl) rfl
theorem q1132 : (Jvm.Cond.code ({ cls := "SwapPress$Ways", name := "edge", desc := "(IIJJ)V" } : Jvm.MethodName) prog_12_method_2_code (7 : Nat) (Option.none : Option Jvm.ClassFile.FieldType)) ∈ lw_all := lw_g (lw_at lw_m5 72 rfl) rfl
theorem q1133 : (Jvm.Cond.methodLink "SwapPress$Ways" (42 : Nat) ({ cls := "java/lang/Math", name := "max", desc := "(II)I" } : Jvm.MethodName)) ∈ lw_all := lw_g (lw_at lw_m5 73 rfl) rfl
theorem q1134 : (Jvm.Cond.methodLink "SwapPress$Ways" (48 : Nat) ({ cls := "SwapPress$Ways", name := "goesOnce", desc := "()J" } : Jvm.MethodName)) ∈ lw_all := lw_g (lw_at lw_m5 74 rfl) rfl
theorem q1135 : (Jvm.Cond.privateMethod ({ cls := "SwapPress$Ways", name := "goesOnce", desc := "()J" } : Jvm.MethodName)) ∈ lw_tbl := lw_at lw_m5 75 rfl
theorem q1136 : (Jvm.Cond.instanceMethod ({ cls := "SwapPress$Ways", name := "goesOnce", desc := "()J" } : Jvm.MethodName)) ∈ lw_all := lw_g (lw_at lw_m5 76 rfl) rfl
theorem q1137 : (Jvm.Cond.code ({ cls := "SwapPress$Ways", name := "goesOnce", desc := "()J" } : Jvm.MethodName) prog_12_method_4_code (5 : Nat) (Option.some Jvm.ClassFile.FieldType.long)) ∈ lw_all := lw_g (lw_at lw_m5 77 rfl) rfl
theorem q1138 : (Jvm.Cond.constantLong "SwapPress$Ways" (52 : Nat) (2305843009213693951 : Int64)) ∈ lw_all := lw_g (lw_at lw_m5 78 rfl) rfl
theorem q1139 : (Jvm.Cond.methodLink "SwapPress$Ways" (54 : Nat) ({ cls := "java/lang/Math", name := "min", desc := "(JJ)J" } : Jvm.MethodName)) ∈ lw_all := lw_g (lw_at lw_m5 79 rfl) rfl
theorem q1147 : (Jvm.Cond.instanceMethod ({ cls := "SwapPress$Ways", name := "of", desc := "(II)I" } : Jvm.MethodName)) ∈ lw_all := lw_g (lw_at lw_m5 87 rfl) rfl
theorem q1148 : (Jvm.Cond.selects "SwapPress$Ways" ({ cls := "SwapPress$Ways", name := "of", desc := "(II)I" } : Jvm.MethodName) ({ cls := "SwapPress$Ways", name := "of", desc := "(II)I" } : Jvm.MethodName)) ∈ lw_all := lw_g (lw_at lw_m5 88 rfl) rfl
theorem q1149 : (Jvm.Cond.code ({ cls := "SwapPress$Ways", name := "of", desc := "(II)I" } : Jvm.MethodName) prog_12_method_5_code (3 : Nat) (Option.some Jvm.ClassFile.FieldType.int)) ∈ lw_all := lw_g (lw_at lw_m5 89 rfl) rfl
theorem q2041 : (Jvm.Cond.castable "SwapPress$Ways" "java/lang/Object") ∈ lw_tbl := lw_at lw_m9 21 rfl
theorem in_X2 : ∀ w ∈ wsX20, w ∈ lw_all := lw_in wsX20 [217, 219, 221, 223, 225, 227, 229, 231] (by decide +kernel) (by decide +kernel)
