/-! SwapPress$Rings -/
set_option maxRecDepth 100000
abbrev cX7_init : ByteArray := prog_9_method_1_code
def yX7_init : MethodName := ⟨RX7, "<init>", "(I[I)V"⟩
def dkwX7_init_0 : List UInt8 := [42, 183, 0, 3, 42, 16, 8, 188, 10, 181, 0, 9, 42, 27, 181, 0, 15, 42, 44, 181, 0, 19, 177]
abbrev dktX7_init_0 : List UInt8 := dkwX7_init_0 ++ []
theorem dksX7_init_0 : cX7_init.data.toList.drop 0 = dktX7_init_0 := by decide +kernel
theorem dX7_init_0 : decode cX7_init 0 = .ok (.aload_n 0, 1) := dk_42 (dk_at dksX7_init_0 0 rfl rfl)
theorem dX7_init_1 : decode cX7_init 1 = .ok (.invokespecial 3, 3) := dk_183 0 3 (dk_at dksX7_init_0 1 rfl rfl)
theorem dX7_init_4 : decode cX7_init 4 = .ok (.aload_n 0, 1) := dk_42 (dk_at dksX7_init_0 4 rfl rfl)
theorem dX7_init_5 : decode cX7_init 5 = .ok (.bipush 8, 2) := dk_16 8 (dk_at dksX7_init_0 5 rfl rfl)
theorem dX7_init_7 : decode cX7_init 7 = .ok (.newarray .int, 2) := dk_188_10 (dk_at dksX7_init_0 7 rfl rfl)
theorem dX7_init_9 : decode cX7_init 9 = .ok (.putfield 9, 3) := dk_181 0 9 (dk_at dksX7_init_0 9 rfl rfl)
theorem dX7_init_12 : decode cX7_init 12 = .ok (.aload_n 0, 1) := dk_42 (dk_at dksX7_init_0 12 rfl rfl)
theorem dX7_init_13 : decode cX7_init 13 = .ok (.iload_n 1, 1) := dk_27 (dk_at dksX7_init_0 13 rfl rfl)
theorem dX7_init_14 : decode cX7_init 14 = .ok (.putfield 15, 3) := dk_181 0 15 (dk_at dksX7_init_0 14 rfl rfl)
theorem dX7_init_17 : decode cX7_init 17 = .ok (.aload_n 0, 1) := dk_42 (dk_at dksX7_init_0 17 rfl rfl)
theorem dX7_init_18 : decode cX7_init 18 = .ok (.aload_n 2, 1) := dk_44 (dk_at dksX7_init_0 18 rfl rfl)
theorem dX7_init_19 : decode cX7_init 19 = .ok (.putfield 19, 3) := dk_181 0 19 (dk_at dksX7_init_0 19 rfl rfl)
theorem dX7_init_22 : decode cX7_init 22 = .ok (.return_, 1) := dk_177 (dk_at dksX7_init_0 22 rfl rfl)
abbrev cX7_finds : ByteArray := prog_9_method_3_code
def yX7_finds : MethodName := ⟨RX7, "finds", "()Z"⟩
def dkwX7_finds_3 : List UInt8 := [3, 172]
abbrev dktX7_finds_3 : List UInt8 := dkwX7_finds_3 ++ []
def dkwX7_finds_2 : List UInt8 := [132, 1, 1, 167, 255, 225, 42, 89, 180, 0, 22, 4, 96, 181, 0, 22, 167, 255, 199, 42, 3, 181, 0, 22]
abbrev dktX7_finds_2 : List UInt8 := dkwX7_finds_2 ++ dktX7_finds_3
def dkwX7_finds_1 : List UInt8 := [162, 0, 29, 42, 180, 0, 9, 3, 27, 79, 42, 4, 4, 27, 120, 182, 0, 25, 153, 0, 5, 4, 172]
abbrev dktX7_finds_1 : List UInt8 := dkwX7_finds_1 ++ dktX7_finds_2
def dkwX7_finds_0 : List UInt8 := [42, 5, 181, 0, 22, 42, 180, 0, 22, 42, 180, 0, 15, 163, 0, 52, 3, 60, 27, 42, 180, 0, 15]
abbrev dktX7_finds_0 : List UInt8 := dkwX7_finds_0 ++ dktX7_finds_1
theorem dksX7_finds_0 : cX7_finds.data.toList.drop 0 = dktX7_finds_0 := by decide +kernel
theorem dksX7_finds_1 : cX7_finds.data.toList.drop 23 = dktX7_finds_1 := dk_seg dksX7_finds_0 23 rfl rfl
theorem dksX7_finds_2 : cX7_finds.data.toList.drop 46 = dktX7_finds_2 := dk_seg dksX7_finds_1 23 rfl rfl
theorem dksX7_finds_3 : cX7_finds.data.toList.drop 70 = dktX7_finds_3 := dk_seg dksX7_finds_2 24 rfl rfl
theorem dX7_finds_0 : decode cX7_finds 0 = .ok (.aload_n 0, 1) := dk_42 (dk_at dksX7_finds_0 0 rfl rfl)
theorem dX7_finds_1 : decode cX7_finds 1 = .ok (.iconst 2, 1) := dk_5 (dk_at dksX7_finds_0 1 rfl rfl)
theorem dX7_finds_2 : decode cX7_finds 2 = .ok (.putfield 22, 3) := dk_181 0 22 (dk_at dksX7_finds_0 2 rfl rfl)
theorem dX7_finds_5 : decode cX7_finds 5 = .ok (.aload_n 0, 1) := dk_42 (dk_at dksX7_finds_0 5 rfl rfl)
theorem dX7_finds_6 : decode cX7_finds 6 = .ok (.getfield 22, 3) := dk_180 0 22 (dk_at dksX7_finds_0 6 rfl rfl)
theorem dX7_finds_9 : decode cX7_finds 9 = .ok (.aload_n 0, 1) := dk_42 (dk_at dksX7_finds_0 9 rfl rfl)
theorem dX7_finds_10 : decode cX7_finds 10 = .ok (.getfield 15, 3) := dk_180 0 15 (dk_at dksX7_finds_0 10 rfl rfl)
theorem dX7_finds_13 : decode cX7_finds 13 = .ok (.if_icmp .gt 52, 3) := dk_163 0 52 (dk_at dksX7_finds_0 13 rfl rfl)
theorem dX7_finds_16 : decode cX7_finds 16 = .ok (.iconst 0, 1) := dk_3 (dk_at dksX7_finds_0 16 rfl rfl)
theorem dX7_finds_17 : decode cX7_finds 17 = .ok (.istore_n 1, 1) := dk_60 (dk_at dksX7_finds_0 17 rfl rfl)
theorem dX7_finds_18 : decode cX7_finds 18 = .ok (.iload_n 1, 1) := dk_27 (dk_at dksX7_finds_0 18 rfl rfl)
theorem dX7_finds_19 : decode cX7_finds 19 = .ok (.aload_n 0, 1) := dk_42 (dk_at dksX7_finds_0 19 rfl rfl)
theorem dX7_finds_20 : decode cX7_finds 20 = .ok (.getfield 15, 3) := dk_180 0 15 (dk_at dksX7_finds_0 20 rfl rfl)
theorem dX7_finds_23 : decode cX7_finds 23 = .ok (.if_icmp .ge 29, 3) := dk_162 0 29 (dk_at dksX7_finds_1 0 rfl rfl)
theorem dX7_finds_26 : decode cX7_finds 26 = .ok (.aload_n 0, 1) := dk_42 (dk_at dksX7_finds_1 3 rfl rfl)
theorem dX7_finds_27 : decode cX7_finds 27 = .ok (.getfield 9, 3) := dk_180 0 9 (dk_at dksX7_finds_1 4 rfl rfl)
theorem dX7_finds_30 : decode cX7_finds 30 = .ok (.iconst 0, 1) := dk_3 (dk_at dksX7_finds_1 7 rfl rfl)
theorem dX7_finds_31 : decode cX7_finds 31 = .ok (.iload_n 1, 1) := dk_27 (dk_at dksX7_finds_1 8 rfl rfl)
theorem dX7_finds_32 : decode cX7_finds 32 = .ok (.iastore, 1) := dk_79 (dk_at dksX7_finds_1 9 rfl rfl)
theorem dX7_finds_33 : decode cX7_finds 33 = .ok (.aload_n 0, 1) := dk_42 (dk_at dksX7_finds_1 10 rfl rfl)
theorem dX7_finds_34 : decode cX7_finds 34 = .ok (.iconst 1, 1) := dk_4 (dk_at dksX7_finds_1 11 rfl rfl)
theorem dX7_finds_35 : decode cX7_finds 35 = .ok (.iconst 1, 1) := dk_4 (dk_at dksX7_finds_1 12 rfl rfl)
theorem dX7_finds_36 : decode cX7_finds 36 = .ok (.iload_n 1, 1) := dk_27 (dk_at dksX7_finds_1 13 rfl rfl)
theorem dX7_finds_37 : decode cX7_finds 37 = .ok (.ishl, 1) := dk_120 (dk_at dksX7_finds_1 14 rfl rfl)
theorem dX7_finds_38 : decode cX7_finds 38 = .ok (.invokevirtual 25, 3) := dk_182 0 25 (dk_at dksX7_finds_1 15 rfl rfl)
theorem dX7_finds_41 : decode cX7_finds 41 = .ok (.ifCond .eq 5, 3) := dk_153 0 5 (dk_at dksX7_finds_1 18 rfl rfl)
theorem dX7_finds_44 : decode cX7_finds 44 = .ok (.iconst 1, 1) := dk_4 (dk_at dksX7_finds_1 21 rfl rfl)
theorem dX7_finds_45 : decode cX7_finds 45 = .ok (.ireturn, 1) := dk_172 (dk_at dksX7_finds_1 22 rfl rfl)
theorem dX7_finds_46 : decode cX7_finds 46 = .ok (.iinc 1 1, 3) := dk_132 1 1 (dk_at dksX7_finds_2 0 rfl rfl)
theorem dX7_finds_49 : decode cX7_finds 49 = .ok (.goto (-31), 3) := dk_167 255 225 (dk_at dksX7_finds_2 3 rfl rfl)
theorem dX7_finds_52 : decode cX7_finds 52 = .ok (.aload_n 0, 1) := dk_42 (dk_at dksX7_finds_2 6 rfl rfl)
theorem dX7_finds_53 : decode cX7_finds 53 = .ok (.dup, 1) := dk_89 (dk_at dksX7_finds_2 7 rfl rfl)
theorem dX7_finds_54 : decode cX7_finds 54 = .ok (.getfield 22, 3) := dk_180 0 22 (dk_at dksX7_finds_2 8 rfl rfl)
theorem dX7_finds_57 : decode cX7_finds 57 = .ok (.iconst 1, 1) := dk_4 (dk_at dksX7_finds_2 11 rfl rfl)
theorem dX7_finds_58 : decode cX7_finds 58 = .ok (.iadd, 1) := dk_96 (dk_at dksX7_finds_2 12 rfl rfl)
theorem dX7_finds_59 : decode cX7_finds 59 = .ok (.putfield 22, 3) := dk_181 0 22 (dk_at dksX7_finds_2 13 rfl rfl)
theorem dX7_finds_62 : decode cX7_finds 62 = .ok (.goto (-57), 3) := dk_167 255 199 (dk_at dksX7_finds_2 16 rfl rfl)
theorem dX7_finds_65 : decode cX7_finds 65 = .ok (.aload_n 0, 1) := dk_42 (dk_at dksX7_finds_2 19 rfl rfl)
theorem dX7_finds_66 : decode cX7_finds 66 = .ok (.iconst 0, 1) := dk_3 (dk_at dksX7_finds_2 20 rfl rfl)
theorem dX7_finds_67 : decode cX7_finds 67 = .ok (.putfield 22, 3) := dk_181 0 22 (dk_at dksX7_finds_2 21 rfl rfl)
theorem dX7_finds_70 : decode cX7_finds 70 = .ok (.iconst 0, 1) := dk_3 (dk_at dksX7_finds_3 0 rfl rfl)
theorem dX7_finds_71 : decode cX7_finds 71 = .ok (.ireturn, 1) := dk_172 (dk_at dksX7_finds_3 1 rfl rfl)
abbrev cX7_goesOn : ByteArray := prog_9_method_4_code
def yX7_goesOn : MethodName := ⟨RX7, "goesOn", "(II)Z"⟩
def dkwX7_goesOn_4 : List UInt8 := [120, 128, 182, 0, 25, 153, 0, 5, 4, 172, 132, 3, 1, 167, 255, 193, 3, 172]
abbrev dktX7_goesOn_4 : List UInt8 := dkwX7_goesOn_4 ++ []
def dkwX7_goesOn_3 : List UInt8 := [29, 182, 0, 29, 154, 0, 6, 167, 0, 27, 42, 180, 0, 9, 27, 29, 79, 42, 27, 4, 96, 28, 4, 29]
abbrev dktX7_goesOn_3 : List UInt8 := dkwX7_goesOn_3 ++ dktX7_goesOn_4
def dkwX7_goesOn_2 : List UInt8 := [180, 0, 15, 162, 0, 61, 28, 29, 122, 4, 126, 4, 159, 0, 46, 42, 42, 180, 0, 9, 27, 4, 100, 46]
abbrev dktX7_goesOn_2 : List UInt8 := dkwX7_goesOn_2 ++ dktX7_goesOn_3
def dkwX7_goesOn_1 : List UInt8 := [182, 0, 29, 158, 0, 7, 4, 167, 0, 4, 3, 172, 42, 180, 0, 9, 3, 46, 4, 96, 62, 29, 42]
abbrev dktX7_goesOn_1 : List UInt8 := dkwX7_goesOn_1 ++ dktX7_goesOn_2
def dkwX7_goesOn_0 : List UInt8 := [27, 42, 180, 0, 22, 160, 0, 30, 42, 42, 180, 0, 9, 27, 4, 100, 46, 42, 180, 0, 9, 3, 46]
abbrev dktX7_goesOn_0 : List UInt8 := dkwX7_goesOn_0 ++ dktX7_goesOn_1
theorem dksX7_goesOn_0 : cX7_goesOn.data.toList.drop 0 = dktX7_goesOn_0 := by decide +kernel
theorem dksX7_goesOn_1 : cX7_goesOn.data.toList.drop 23 = dktX7_goesOn_1 := dk_seg dksX7_goesOn_0 23 rfl rfl
theorem dksX7_goesOn_2 : cX7_goesOn.data.toList.drop 46 = dktX7_goesOn_2 := dk_seg dksX7_goesOn_1 23 rfl rfl
theorem dksX7_goesOn_3 : cX7_goesOn.data.toList.drop 70 = dktX7_goesOn_3 := dk_seg dksX7_goesOn_2 24 rfl rfl
theorem dksX7_goesOn_4 : cX7_goesOn.data.toList.drop 94 = dktX7_goesOn_4 := dk_seg dksX7_goesOn_3 24 rfl rfl
theorem dX7_goesOn_0 : decode cX7_goesOn 0 = .ok (.iload_n 1, 1) := dk_27 (dk_at dksX7_goesOn_0 0 rfl rfl)
theorem dX7_goesOn_1 : decode cX7_goesOn 1 = .ok (.aload_n 0, 1) := dk_42 (dk_at dksX7_goesOn_0 1 rfl rfl)
theorem dX7_goesOn_2 : decode cX7_goesOn 2 = .ok (.getfield 22, 3) := dk_180 0 22 (dk_at dksX7_goesOn_0 2 rfl rfl)
theorem dX7_goesOn_5 : decode cX7_goesOn 5 = .ok (.if_icmp .ne 30, 3) := dk_160 0 30 (dk_at dksX7_goesOn_0 5 rfl rfl)
theorem dX7_goesOn_8 : decode cX7_goesOn 8 = .ok (.aload_n 0, 1) := dk_42 (dk_at dksX7_goesOn_0 8 rfl rfl)
theorem dX7_goesOn_9 : decode cX7_goesOn 9 = .ok (.aload_n 0, 1) := dk_42 (dk_at dksX7_goesOn_0 9 rfl rfl)
theorem dX7_goesOn_10 : decode cX7_goesOn 10 = .ok (.getfield 9, 3) := dk_180 0 9 (dk_at dksX7_goesOn_0 10 rfl rfl)
theorem dX7_goesOn_13 : decode cX7_goesOn 13 = .ok (.iload_n 1, 1) := dk_27 (dk_at dksX7_goesOn_0 13 rfl rfl)
theorem dX7_goesOn_14 : decode cX7_goesOn 14 = .ok (.iconst 1, 1) := dk_4 (dk_at dksX7_goesOn_0 14 rfl rfl)
theorem dX7_goesOn_15 : decode cX7_goesOn 15 = .ok (.isub, 1) := dk_100 (dk_at dksX7_goesOn_0 15 rfl rfl)
theorem dX7_goesOn_16 : decode cX7_goesOn 16 = .ok (.iaload, 1) := dk_46 (dk_at dksX7_goesOn_0 16 rfl rfl)
theorem dX7_goesOn_17 : decode cX7_goesOn 17 = .ok (.aload_n 0, 1) := dk_42 (dk_at dksX7_goesOn_0 17 rfl rfl)
theorem dX7_goesOn_18 : decode cX7_goesOn 18 = .ok (.getfield 9, 3) := dk_180 0 9 (dk_at dksX7_goesOn_0 18 rfl rfl)
theorem dX7_goesOn_21 : decode cX7_goesOn 21 = .ok (.iconst 0, 1) := dk_3 (dk_at dksX7_goesOn_0 21 rfl rfl)
theorem dX7_goesOn_22 : decode cX7_goesOn 22 = .ok (.iaload, 1) := dk_46 (dk_at dksX7_goesOn_0 22 rfl rfl)
theorem dX7_goesOn_23 : decode cX7_goesOn 23 = .ok (.invokevirtual 29, 3) := dk_182 0 29 (dk_at dksX7_goesOn_1 0 rfl rfl)
theorem dX7_goesOn_26 : decode cX7_goesOn 26 = .ok (.ifCond .le 7, 3) := dk_158 0 7 (dk_at dksX7_goesOn_1 3 rfl rfl)
theorem dX7_goesOn_29 : decode cX7_goesOn 29 = .ok (.iconst 1, 1) := dk_4 (dk_at dksX7_goesOn_1 6 rfl rfl)
theorem dX7_goesOn_30 : decode cX7_goesOn 30 = .ok (.goto 4, 3) := dk_167 0 4 (dk_at dksX7_goesOn_1 7 rfl rfl)
theorem dX7_goesOn_33 : decode cX7_goesOn 33 = .ok (.iconst 0, 1) := dk_3 (dk_at dksX7_goesOn_1 10 rfl rfl)
theorem dX7_goesOn_34 : decode cX7_goesOn 34 = .ok (.ireturn, 1) := dk_172 (dk_at dksX7_goesOn_1 11 rfl rfl)
theorem dX7_goesOn_35 : decode cX7_goesOn 35 = .ok (.aload_n 0, 1) := dk_42 (dk_at dksX7_goesOn_1 12 rfl rfl)
theorem dX7_goesOn_36 : decode cX7_goesOn 36 = .ok (.getfield 9, 3) := dk_180 0 9 (dk_at dksX7_goesOn_1 13 rfl rfl)
theorem dX7_goesOn_39 : decode cX7_goesOn 39 = .ok (.iconst 0, 1) := dk_3 (dk_at dksX7_goesOn_1 16 rfl rfl)
theorem dX7_goesOn_40 : decode cX7_goesOn 40 = .ok (.iaload, 1) := dk_46 (dk_at dksX7_goesOn_1 17 rfl rfl)
theorem dX7_goesOn_41 : decode cX7_goesOn 41 = .ok (.iconst 1, 1) := dk_4 (dk_at dksX7_goesOn_1 18 rfl rfl)
theorem dX7_goesOn_42 : decode cX7_goesOn 42 = .ok (.iadd, 1) := dk_96 (dk_at dksX7_goesOn_1 19 rfl rfl)
theorem dX7_goesOn_43 : decode cX7_goesOn 43 = .ok (.istore_n 3, 1) := dk_62 (dk_at dksX7_goesOn_1 20 rfl rfl)
theorem dX7_goesOn_44 : decode cX7_goesOn 44 = .ok (.iload_n 3, 1) := dk_29 (dk_at dksX7_goesOn_1 21 rfl rfl)
theorem dX7_goesOn_45 : decode cX7_goesOn 45 = .ok (.aload_n 0, 1) := dk_42 (dk_at dksX7_goesOn_1 22 rfl rfl)
theorem dX7_goesOn_46 : decode cX7_goesOn 46 = .ok (.getfield 15, 3) := dk_180 0 15 (dk_at dksX7_goesOn_2 0 rfl rfl)
theorem dX7_goesOn_49 : decode cX7_goesOn 49 = .ok (.if_icmp .ge 61, 3) := dk_162 0 61 (dk_at dksX7_goesOn_2 3 rfl rfl)
theorem dX7_goesOn_52 : decode cX7_goesOn 52 = .ok (.iload_n 2, 1) := dk_28 (dk_at dksX7_goesOn_2 6 rfl rfl)
theorem dX7_goesOn_53 : decode cX7_goesOn 53 = .ok (.iload_n 3, 1) := dk_29 (dk_at dksX7_goesOn_2 7 rfl rfl)
theorem dX7_goesOn_54 : decode cX7_goesOn 54 = .ok (.ishr, 1) := dk_122 (dk_at dksX7_goesOn_2 8 rfl rfl)
theorem dX7_goesOn_55 : decode cX7_goesOn 55 = .ok (.iconst 1, 1) := dk_4 (dk_at dksX7_goesOn_2 9 rfl rfl)
theorem dX7_goesOn_56 : decode cX7_goesOn 56 = .ok (.iand, 1) := dk_126 (dk_at dksX7_goesOn_2 10 rfl rfl)
theorem dX7_goesOn_57 : decode cX7_goesOn 57 = .ok (.iconst 1, 1) := dk_4 (dk_at dksX7_goesOn_2 11 rfl rfl)
theorem dX7_goesOn_58 : decode cX7_goesOn 58 = .ok (.if_icmp .eq 46, 3) := dk_159 0 46 (dk_at dksX7_goesOn_2 12 rfl rfl)
theorem dX7_goesOn_61 : decode cX7_goesOn 61 = .ok (.aload_n 0, 1) := dk_42 (dk_at dksX7_goesOn_2 15 rfl rfl)
theorem dX7_goesOn_62 : decode cX7_goesOn 62 = .ok (.aload_n 0, 1) := dk_42 (dk_at dksX7_goesOn_2 16 rfl rfl)
theorem dX7_goesOn_63 : decode cX7_goesOn 63 = .ok (.getfield 9, 3) := dk_180 0 9 (dk_at dksX7_goesOn_2 17 rfl rfl)
theorem dX7_goesOn_66 : decode cX7_goesOn 66 = .ok (.iload_n 1, 1) := dk_27 (dk_at dksX7_goesOn_2 20 rfl rfl)
theorem dX7_goesOn_67 : decode cX7_goesOn 67 = .ok (.iconst 1, 1) := dk_4 (dk_at dksX7_goesOn_2 21 rfl rfl)
theorem dX7_goesOn_68 : decode cX7_goesOn 68 = .ok (.isub, 1) := dk_100 (dk_at dksX7_goesOn_2 22 rfl rfl)
theorem dX7_goesOn_69 : decode cX7_goesOn 69 = .ok (.iaload, 1) := dk_46 (dk_at dksX7_goesOn_2 23 rfl rfl)
theorem dX7_goesOn_70 : decode cX7_goesOn 70 = .ok (.iload_n 3, 1) := dk_29 (dk_at dksX7_goesOn_3 0 rfl rfl)
theorem dX7_goesOn_71 : decode cX7_goesOn 71 = .ok (.invokevirtual 29, 3) := dk_182 0 29 (dk_at dksX7_goesOn_3 1 rfl rfl)
theorem dX7_goesOn_74 : decode cX7_goesOn 74 = .ok (.ifCond .ne 6, 3) := dk_154 0 6 (dk_at dksX7_goesOn_3 4 rfl rfl)
theorem dX7_goesOn_77 : decode cX7_goesOn 77 = .ok (.goto 27, 3) := dk_167 0 27 (dk_at dksX7_goesOn_3 7 rfl rfl)
theorem dX7_goesOn_80 : decode cX7_goesOn 80 = .ok (.aload_n 0, 1) := dk_42 (dk_at dksX7_goesOn_3 10 rfl rfl)
theorem dX7_goesOn_81 : decode cX7_goesOn 81 = .ok (.getfield 9, 3) := dk_180 0 9 (dk_at dksX7_goesOn_3 11 rfl rfl)
theorem dX7_goesOn_84 : decode cX7_goesOn 84 = .ok (.iload_n 1, 1) := dk_27 (dk_at dksX7_goesOn_3 14 rfl rfl)
theorem dX7_goesOn_85 : decode cX7_goesOn 85 = .ok (.iload_n 3, 1) := dk_29 (dk_at dksX7_goesOn_3 15 rfl rfl)
theorem dX7_goesOn_86 : decode cX7_goesOn 86 = .ok (.iastore, 1) := dk_79 (dk_at dksX7_goesOn_3 16 rfl rfl)
theorem dX7_goesOn_87 : decode cX7_goesOn 87 = .ok (.aload_n 0, 1) := dk_42 (dk_at dksX7_goesOn_3 17 rfl rfl)
theorem dX7_goesOn_88 : decode cX7_goesOn 88 = .ok (.iload_n 1, 1) := dk_27 (dk_at dksX7_goesOn_3 18 rfl rfl)
theorem dX7_goesOn_89 : decode cX7_goesOn 89 = .ok (.iconst 1, 1) := dk_4 (dk_at dksX7_goesOn_3 19 rfl rfl)
theorem dX7_goesOn_90 : decode cX7_goesOn 90 = .ok (.iadd, 1) := dk_96 (dk_at dksX7_goesOn_3 20 rfl rfl)
theorem dX7_goesOn_91 : decode cX7_goesOn 91 = .ok (.iload_n 2, 1) := dk_28 (dk_at dksX7_goesOn_3 21 rfl rfl)
theorem dX7_goesOn_92 : decode cX7_goesOn 92 = .ok (.iconst 1, 1) := dk_4 (dk_at dksX7_goesOn_3 22 rfl rfl)
theorem dX7_goesOn_93 : decode cX7_goesOn 93 = .ok (.iload_n 3, 1) := dk_29 (dk_at dksX7_goesOn_3 23 rfl rfl)
theorem dX7_goesOn_94 : decode cX7_goesOn 94 = .ok (.ishl, 1) := dk_120 (dk_at dksX7_goesOn_4 0 rfl rfl)
theorem dX7_goesOn_95 : decode cX7_goesOn 95 = .ok (.ior, 1) := dk_128 (dk_at dksX7_goesOn_4 1 rfl rfl)
theorem dX7_goesOn_96 : decode cX7_goesOn 96 = .ok (.invokevirtual 25, 3) := dk_182 0 25 (dk_at dksX7_goesOn_4 2 rfl rfl)
theorem dX7_goesOn_99 : decode cX7_goesOn 99 = .ok (.ifCond .eq 5, 3) := dk_153 0 5 (dk_at dksX7_goesOn_4 5 rfl rfl)
theorem dX7_goesOn_102 : decode cX7_goesOn 102 = .ok (.iconst 1, 1) := dk_4 (dk_at dksX7_goesOn_4 8 rfl rfl)
theorem dX7_goesOn_103 : decode cX7_goesOn 103 = .ok (.ireturn, 1) := dk_172 (dk_at dksX7_goesOn_4 9 rfl rfl)
theorem dX7_goesOn_104 : decode cX7_goesOn 104 = .ok (.iinc 3 1, 3) := dk_132 3 1 (dk_at dksX7_goesOn_4 10 rfl rfl)
theorem dX7_goesOn_107 : decode cX7_goesOn 107 = .ok (.goto (-63), 3) := dk_167 255 193 (dk_at dksX7_goesOn_4 13 rfl rfl)
theorem dX7_goesOn_110 : decode cX7_goesOn 110 = .ok (.iconst 0, 1) := dk_3 (dk_at dksX7_goesOn_4 16 rfl rfl)
theorem dX7_goesOn_111 : decode cX7_goesOn 111 = .ok (.ireturn, 1) := dk_172 (dk_at dksX7_goesOn_4 17 rfl rfl)
abbrev cX7_at : ByteArray := prog_9_method_2_code
def yX7_at : MethodName := ⟨RX7, "at", "(II)I"⟩
def dkwX7_at_0 : List UInt8 := [42, 180, 0, 19, 16, 8, 27, 104, 28, 96, 46, 172]
abbrev dktX7_at_0 : List UInt8 := dkwX7_at_0 ++ []
theorem dksX7_at_0 : cX7_at.data.toList.drop 0 = dktX7_at_0 := by decide +kernel
theorem dX7_at_0 : decode cX7_at 0 = .ok (.aload_n 0, 1) := dk_42 (dk_at dksX7_at_0 0 rfl rfl)
theorem dX7_at_1 : decode cX7_at 1 = .ok (.getfield 19, 3) := dk_180 0 19 (dk_at dksX7_at_0 1 rfl rfl)
theorem dX7_at_4 : decode cX7_at 4 = .ok (.bipush 8, 2) := dk_16 8 (dk_at dksX7_at_0 4 rfl rfl)
theorem dX7_at_6 : decode cX7_at 6 = .ok (.iload_n 1, 1) := dk_27 (dk_at dksX7_at_0 6 rfl rfl)
theorem dX7_at_7 : decode cX7_at 7 = .ok (.imul, 1) := dk_104 (dk_at dksX7_at_0 7 rfl rfl)
theorem dX7_at_8 : decode cX7_at 8 = .ok (.iload_n 2, 1) := dk_28 (dk_at dksX7_at_0 8 rfl rfl)
theorem dX7_at_9 : decode cX7_at 9 = .ok (.iadd, 1) := dk_96 (dk_at dksX7_at_0 9 rfl rfl)
theorem dX7_at_10 : decode cX7_at 10 = .ok (.iaload, 1) := dk_46 (dk_at dksX7_at_0 10 rfl rfl)
theorem dX7_at_11 : decode cX7_at 11 = .ok (.ireturn, 1) := dk_172 (dk_at dksX7_at_0 11 rfl rfl)
abbrev cX7_load : ByteArray := prog_9_method_6_code
def yX7_load : MethodName := ⟨RX7, "load", "()I"⟩
def dkwX7_load_2 : List UInt8 := [132, 2, 1, 167, 255, 225, 27, 172]
abbrev dktX7_load_2 : List UInt8 := dkwX7_load_2 ++ []
def dkwX7_load_1 : List UInt8 := [162, 0, 29, 27, 42, 42, 180, 0, 9, 28, 46, 42, 28, 182, 0, 33, 182, 0, 29, 184, 0, 37, 60]
abbrev dktX7_load_1 : List UInt8 := dkwX7_load_1 ++ dktX7_load_2
def dkwX7_load_0 : List UInt8 := [42, 42, 180, 0, 9, 3, 46, 42, 3, 182, 0, 33, 182, 0, 29, 60, 4, 61, 28, 42, 180, 0, 22]
abbrev dktX7_load_0 : List UInt8 := dkwX7_load_0 ++ dktX7_load_1
theorem dksX7_load_0 : cX7_load.data.toList.drop 0 = dktX7_load_0 := by decide +kernel
theorem dksX7_load_1 : cX7_load.data.toList.drop 23 = dktX7_load_1 := dk_seg dksX7_load_0 23 rfl rfl
theorem dksX7_load_2 : cX7_load.data.toList.drop 46 = dktX7_load_2 := dk_seg dksX7_load_1 23 rfl rfl
theorem dX7_load_0 : decode cX7_load 0 = .ok (.aload_n 0, 1) := dk_42 (dk_at dksX7_load_0 0 rfl rfl)
theorem dX7_load_1 : decode cX7_load 1 = .ok (.aload_n 0, 1) := dk_42 (dk_at dksX7_load_0 1 rfl rfl)
theorem dX7_load_2 : decode cX7_load 2 = .ok (.getfield 9, 3) := dk_180 0 9 (dk_at dksX7_load_0 2 rfl rfl)
theorem dX7_load_5 : decode cX7_load 5 = .ok (.iconst 0, 1) := dk_3 (dk_at dksX7_load_0 5 rfl rfl)
theorem dX7_load_6 : decode cX7_load 6 = .ok (.iaload, 1) := dk_46 (dk_at dksX7_load_0 6 rfl rfl)
theorem dX7_load_7 : decode cX7_load 7 = .ok (.aload_n 0, 1) := dk_42 (dk_at dksX7_load_0 7 rfl rfl)
theorem dX7_load_8 : decode cX7_load 8 = .ok (.iconst 0, 1) := dk_3 (dk_at dksX7_load_0 8 rfl rfl)
theorem dX7_load_9 : decode cX7_load 9 = .ok (.invokevirtual 33, 3) := dk_182 0 33 (dk_at dksX7_load_0 9 rfl rfl)
theorem dX7_load_12 : decode cX7_load 12 = .ok (.invokevirtual 29, 3) := dk_182 0 29 (dk_at dksX7_load_0 12 rfl rfl)
theorem dX7_load_15 : decode cX7_load 15 = .ok (.istore_n 1, 1) := dk_60 (dk_at dksX7_load_0 15 rfl rfl)
theorem dX7_load_16 : decode cX7_load 16 = .ok (.iconst 1, 1) := dk_4 (dk_at dksX7_load_0 16 rfl rfl)
theorem dX7_load_17 : decode cX7_load 17 = .ok (.istore_n 2, 1) := dk_61 (dk_at dksX7_load_0 17 rfl rfl)
theorem dX7_load_18 : decode cX7_load 18 = .ok (.iload_n 2, 1) := dk_28 (dk_at dksX7_load_0 18 rfl rfl)
theorem dX7_load_19 : decode cX7_load 19 = .ok (.aload_n 0, 1) := dk_42 (dk_at dksX7_load_0 19 rfl rfl)
theorem dX7_load_20 : decode cX7_load 20 = .ok (.getfield 22, 3) := dk_180 0 22 (dk_at dksX7_load_0 20 rfl rfl)
theorem dX7_load_23 : decode cX7_load 23 = .ok (.if_icmp .ge 29, 3) := dk_162 0 29 (dk_at dksX7_load_1 0 rfl rfl)
theorem dX7_load_26 : decode cX7_load 26 = .ok (.iload_n 1, 1) := dk_27 (dk_at dksX7_load_1 3 rfl rfl)
theorem dX7_load_27 : decode cX7_load 27 = .ok (.aload_n 0, 1) := dk_42 (dk_at dksX7_load_1 4 rfl rfl)
theorem dX7_load_28 : decode cX7_load 28 = .ok (.aload_n 0, 1) := dk_42 (dk_at dksX7_load_1 5 rfl rfl)
theorem dX7_load_29 : decode cX7_load 29 = .ok (.getfield 9, 3) := dk_180 0 9 (dk_at dksX7_load_1 6 rfl rfl)
theorem dX7_load_32 : decode cX7_load 32 = .ok (.iload_n 2, 1) := dk_28 (dk_at dksX7_load_1 9 rfl rfl)
theorem dX7_load_33 : decode cX7_load 33 = .ok (.iaload, 1) := dk_46 (dk_at dksX7_load_1 10 rfl rfl)
theorem dX7_load_34 : decode cX7_load 34 = .ok (.aload_n 0, 1) := dk_42 (dk_at dksX7_load_1 11 rfl rfl)
theorem dX7_load_35 : decode cX7_load 35 = .ok (.iload_n 2, 1) := dk_28 (dk_at dksX7_load_1 12 rfl rfl)
theorem dX7_load_36 : decode cX7_load 36 = .ok (.invokevirtual 33, 3) := dk_182 0 33 (dk_at dksX7_load_1 13 rfl rfl)
theorem dX7_load_39 : decode cX7_load 39 = .ok (.invokevirtual 29, 3) := dk_182 0 29 (dk_at dksX7_load_1 16 rfl rfl)
theorem dX7_load_42 : decode cX7_load 42 = .ok (.invokestatic 37, 3) := dk_184 0 37 (dk_at dksX7_load_1 19 rfl rfl)
theorem dX7_load_45 : decode cX7_load 45 = .ok (.istore_n 1, 1) := dk_60 (dk_at dksX7_load_1 22 rfl rfl)
theorem dX7_load_46 : decode cX7_load 46 = .ok (.iinc 2 1, 3) := dk_132 2 1 (dk_at dksX7_load_2 0 rfl rfl)
theorem dX7_load_49 : decode cX7_load 49 = .ok (.goto (-31), 3) := dk_167 255 225 (dk_at dksX7_load_2 3 rfl rfl)
theorem dX7_load_52 : decode cX7_load 52 = .ok (.iload_n 1, 1) := dk_27 (dk_at dksX7_load_2 6 rfl rfl)
theorem dX7_load_53 : decode cX7_load 53 = .ok (.ireturn, 1) := dk_172 (dk_at dksX7_load_2 7 rfl rfl)
abbrev cX7_next : ByteArray := prog_9_method_5_code
def yX7_next : MethodName := ⟨RX7, "next", "(I)I"⟩
def dkwX7_next_0 : List UInt8 := [42, 180, 0, 9, 27, 4, 96, 42, 180, 0, 22, 112, 46, 172]
abbrev dktX7_next_0 : List UInt8 := dkwX7_next_0 ++ []
theorem dksX7_next_0 : cX7_next.data.toList.drop 0 = dktX7_next_0 := by decide +kernel
theorem dX7_next_0 : decode cX7_next 0 = .ok (.aload_n 0, 1) := dk_42 (dk_at dksX7_next_0 0 rfl rfl)
theorem dX7_next_1 : decode cX7_next 1 = .ok (.getfield 9, 3) := dk_180 0 9 (dk_at dksX7_next_0 1 rfl rfl)
theorem dX7_next_4 : decode cX7_next 4 = .ok (.iload_n 1, 1) := dk_27 (dk_at dksX7_next_0 4 rfl rfl)
theorem dX7_next_5 : decode cX7_next 5 = .ok (.iconst 1, 1) := dk_4 (dk_at dksX7_next_0 5 rfl rfl)
theorem dX7_next_6 : decode cX7_next 6 = .ok (.iadd, 1) := dk_96 (dk_at dksX7_next_0 6 rfl rfl)
theorem dX7_next_7 : decode cX7_next 7 = .ok (.aload_n 0, 1) := dk_42 (dk_at dksX7_next_0 7 rfl rfl)
theorem dX7_next_8 : decode cX7_next 8 = .ok (.getfield 22, 3) := dk_180 0 22 (dk_at dksX7_next_0 8 rfl rfl)
theorem dX7_next_11 : decode cX7_next 11 = .ok (.irem, 1) := dk_112 (dk_at dksX7_next_0 11 rfl rfl)
theorem dX7_next_12 : decode cX7_next 12 = .ok (.iaload, 1) := dk_46 (dk_at dksX7_next_0 12 rfl rfl)
theorem dX7_next_13 : decode cX7_next 13 = .ok (.ireturn, 1) := dk_172 (dk_at dksX7_next_0 13 rfl rfl)
abbrev cX7_takes : ByteArray := prog_9_method_7_code
def yX7_takes : MethodName := ⟨RX7, "takes", "()I"⟩
def dkwX7_takes_2 : List UInt8 := [42, 180, 0, 22, 104, 172]
abbrev dktX7_takes_2 : List UInt8 := dkwX7_takes_2 ++ []
def dkwX7_takes_1 : List UInt8 := [180, 0, 9, 28, 46, 104, 42, 28, 182, 0, 33, 96, 92, 46, 27, 100, 79, 132, 2, 1, 167, 255, 221, 27]
abbrev dktX7_takes_1 : List UInt8 := dkwX7_takes_1 ++ dktX7_takes_2
def dkwX7_takes_0 : List UInt8 := [42, 182, 0, 42, 60, 3, 61, 28, 42, 180, 0, 22, 162, 0, 33, 42, 180, 0, 19, 16, 8, 42]
abbrev dktX7_takes_0 : List UInt8 := dkwX7_takes_0 ++ dktX7_takes_1
theorem dksX7_takes_0 : cX7_takes.data.toList.drop 0 = dktX7_takes_0 := by decide +kernel
theorem dksX7_takes_1 : cX7_takes.data.toList.drop 22 = dktX7_takes_1 := dk_seg dksX7_takes_0 22 rfl rfl
theorem dksX7_takes_2 : cX7_takes.data.toList.drop 46 = dktX7_takes_2 := dk_seg dksX7_takes_1 24 rfl rfl
theorem dX7_takes_0 : decode cX7_takes 0 = .ok (.aload_n 0, 1) := dk_42 (dk_at dksX7_takes_0 0 rfl rfl)
theorem dX7_takes_1 : decode cX7_takes 1 = .ok (.invokevirtual 42, 3) := dk_182 0 42 (dk_at dksX7_takes_0 1 rfl rfl)
theorem dX7_takes_4 : decode cX7_takes 4 = .ok (.istore_n 1, 1) := dk_60 (dk_at dksX7_takes_0 4 rfl rfl)
theorem dX7_takes_5 : decode cX7_takes 5 = .ok (.iconst 0, 1) := dk_3 (dk_at dksX7_takes_0 5 rfl rfl)
theorem dX7_takes_6 : decode cX7_takes 6 = .ok (.istore_n 2, 1) := dk_61 (dk_at dksX7_takes_0 6 rfl rfl)
theorem dX7_takes_7 : decode cX7_takes 7 = .ok (.iload_n 2, 1) := dk_28 (dk_at dksX7_takes_0 7 rfl rfl)
theorem dX7_takes_8 : decode cX7_takes 8 = .ok (.aload_n 0, 1) := dk_42 (dk_at dksX7_takes_0 8 rfl rfl)
theorem dX7_takes_9 : decode cX7_takes 9 = .ok (.getfield 22, 3) := dk_180 0 22 (dk_at dksX7_takes_0 9 rfl rfl)
theorem dX7_takes_12 : decode cX7_takes 12 = .ok (.if_icmp .ge 33, 3) := dk_162 0 33 (dk_at dksX7_takes_0 12 rfl rfl)
theorem dX7_takes_15 : decode cX7_takes 15 = .ok (.aload_n 0, 1) := dk_42 (dk_at dksX7_takes_0 15 rfl rfl)
theorem dX7_takes_16 : decode cX7_takes 16 = .ok (.getfield 19, 3) := dk_180 0 19 (dk_at dksX7_takes_0 16 rfl rfl)
theorem dX7_takes_19 : decode cX7_takes 19 = .ok (.bipush 8, 2) := dk_16 8 (dk_at dksX7_takes_0 19 rfl rfl)
theorem dX7_takes_21 : decode cX7_takes 21 = .ok (.aload_n 0, 1) := dk_42 (dk_at dksX7_takes_0 21 rfl rfl)
theorem dX7_takes_22 : decode cX7_takes 22 = .ok (.getfield 9, 3) := dk_180 0 9 (dk_at dksX7_takes_1 0 rfl rfl)
theorem dX7_takes_25 : decode cX7_takes 25 = .ok (.iload_n 2, 1) := dk_28 (dk_at dksX7_takes_1 3 rfl rfl)
theorem dX7_takes_26 : decode cX7_takes 26 = .ok (.iaload, 1) := dk_46 (dk_at dksX7_takes_1 4 rfl rfl)
theorem dX7_takes_27 : decode cX7_takes 27 = .ok (.imul, 1) := dk_104 (dk_at dksX7_takes_1 5 rfl rfl)
theorem dX7_takes_28 : decode cX7_takes 28 = .ok (.aload_n 0, 1) := dk_42 (dk_at dksX7_takes_1 6 rfl rfl)
theorem dX7_takes_29 : decode cX7_takes 29 = .ok (.iload_n 2, 1) := dk_28 (dk_at dksX7_takes_1 7 rfl rfl)
theorem dX7_takes_30 : decode cX7_takes 30 = .ok (.invokevirtual 33, 3) := dk_182 0 33 (dk_at dksX7_takes_1 8 rfl rfl)
theorem dX7_takes_33 : decode cX7_takes 33 = .ok (.iadd, 1) := dk_96 (dk_at dksX7_takes_1 11 rfl rfl)
theorem dX7_takes_34 : decode cX7_takes 34 = .ok (.dup2, 1) := dk_92 (dk_at dksX7_takes_1 12 rfl rfl)
theorem dX7_takes_35 : decode cX7_takes 35 = .ok (.iaload, 1) := dk_46 (dk_at dksX7_takes_1 13 rfl rfl)
theorem dX7_takes_36 : decode cX7_takes 36 = .ok (.iload_n 1, 1) := dk_27 (dk_at dksX7_takes_1 14 rfl rfl)
theorem dX7_takes_37 : decode cX7_takes 37 = .ok (.isub, 1) := dk_100 (dk_at dksX7_takes_1 15 rfl rfl)
theorem dX7_takes_38 : decode cX7_takes 38 = .ok (.iastore, 1) := dk_79 (dk_at dksX7_takes_1 16 rfl rfl)
theorem dX7_takes_39 : decode cX7_takes 39 = .ok (.iinc 2 1, 3) := dk_132 2 1 (dk_at dksX7_takes_1 17 rfl rfl)
theorem dX7_takes_42 : decode cX7_takes 42 = .ok (.goto (-35), 3) := dk_167 255 221 (dk_at dksX7_takes_1 20 rfl rfl)
theorem dX7_takes_45 : decode cX7_takes 45 = .ok (.iload_n 1, 1) := dk_27 (dk_at dksX7_takes_1 23 rfl rfl)
theorem dX7_takes_46 : decode cX7_takes 46 = .ok (.aload_n 0, 1) := dk_42 (dk_at dksX7_takes_2 0 rfl rfl)
theorem dX7_takes_47 : decode cX7_takes 47 = .ok (.getfield 22, 3) := dk_180 0 22 (dk_at dksX7_takes_2 1 rfl rfl)
theorem dX7_takes_50 : decode cX7_takes 50 = .ok (.imul, 1) := dk_104 (dk_at dksX7_takes_2 4 rfl rfl)
theorem dX7_takes_51 : decode cX7_takes 51 = .ok (.ireturn, 1) := dk_172 (dk_at dksX7_takes_2 5 rfl rfl)
theorem q124 : (Jvm.Cond.initialized "SwapPress$Rings") ∈ lw_all := lw_g (lw_at lw_m1 24 rfl) rfl
theorem q708 : (Jvm.Cond.selects "SwapPress$Rings" ({ cls := "java/lang/Object", name := "equals", desc := "(Ljava/lang/Object;)Z" } : Jvm.MethodName) ({ cls := "java/lang/Object", name := "equals", desc := "(Ljava/lang/Object;)Z" } : Jvm.MethodName)) ∈ lw_all := lw_g (lw_at lw_m3 128 rfl) rfl
theorem q748 : (Jvm.Cond.selects "SwapPress$Rings" ({ cls := "java/lang/Object", name := "getClass", desc := "()Ljava/lang/Class;" } : Jvm.MethodName) ({ cls := "java/lang/Object", name := "getClass", desc := "()Ljava/lang/Class;" } : Jvm.MethodName)) ∈ lw_all := lw_g (lw_at lw_m3 168 rfl) rfl
theorem q950 : (Jvm.Cond.instantiable "SwapPress$Rings" (4 : Nat)) ∈ lw_all := lw_g (lw_at lw_m4 130 rfl) rfl
theorem q962 : (Jvm.Cond.instanceMethod ({ cls := "SwapPress$Rings", name := "<init>", desc := "(I[I)V" } : Jvm.MethodName)) ∈ lw_all := lw_g (lw_at lw_m4 142 rfl) rfl
theorem q963 : (Jvm.Cond.code ({ cls := "SwapPress$Rings", name := "<init>", desc := "(I[I)V" } : Jvm.MethodName) prog_9_method_1_code (3 : Nat) (Option.none : Option Jvm.ClassFile.FieldType)) ∈ lw_all := lw_g (lw_at lw_m4 143 rfl) rfl
theorem q964 : (Jvm.Cond.methodLink "SwapPress$Rings" (3 : Nat) ({ cls := "java/lang/Object", name := "<init>", desc := "()V" } : Jvm.MethodName)) ∈ lw_all := lw_g (lw_at lw_m4 144 rfl) rfl
theorem q965 : (Jvm.Cond.fieldLink "SwapPress$Rings" (15 : Nat) "SwapPress$Rings" "n" "I") ∈ lw_all := lw_g (lw_at lw_m4 145 rfl) rfl
theorem q966 : (Jvm.Cond.fieldLink "SwapPress$Rings" (19 : Nat) "SwapPress$Rings" "e" "[I") ∈ lw_all := lw_g (lw_at lw_m4 146 rfl) rfl
theorem q967 : (Jvm.Cond.fieldLink "SwapPress$Rings" (9 : Nat) "SwapPress$Rings" "row" "[I") ∈ lw_all := lw_g (lw_at lw_m4 147 rfl) rfl
theorem q969 : (Jvm.Cond.fieldLink "SwapPress$Rings" (22 : Nat) "SwapPress$Rings" "many" "I") ∈ lw_all := lw_g (lw_at lw_m4 149 rfl) rfl
theorem q971 : (Jvm.Cond.laysFinal "SwapPress$Rings" "SwapPress$Rings" "n" "I") ∈ lw_all := lw_g (lw_at lw_m4 151 rfl) rfl
theorem q972 : (Jvm.Cond.soleField "SwapPress$Rings" "n") ∈ lw_all := lw_g (lw_at lw_m4 152 rfl) rfl
theorem q973 : (Jvm.Cond.laysFinal "SwapPress$Rings" "SwapPress$Rings" "e" "[I") ∈ lw_all := lw_g (lw_at lw_m4 153 rfl) rfl
theorem q974 : (Jvm.Cond.soleField "SwapPress$Rings" "e") ∈ lw_all := lw_g (lw_at lw_m4 154 rfl) rfl
theorem q975 : (Jvm.Cond.laysFinal "SwapPress$Rings" "SwapPress$Rings" "row" "[I") ∈ lw_all := lw_g (lw_at lw_m4 155 rfl) rfl
theorem q976 : (Jvm.Cond.soleField "SwapPress$Rings" "row") ∈ lw_all := lw_g (lw_at lw_m4 156 rfl) rfl
theorem q977 : (Jvm.Cond.lays "SwapPress$Rings" "SwapPress$Rings" "many" "I") ∈ lw_all := lw_g (lw_at lw_m4 157 rfl) rfl
theorem q978 : (Jvm.Cond.soleField "SwapPress$Rings" "many") ∈ lw_all := lw_g (lw_at lw_m4 158 rfl) rfl
theorem q979 : (Jvm.Cond.superclass "SwapPress$Rings" "java/lang/Object") ∈ lw_all := lw_g (lw_at lw_m4 159 rfl) rfl
theorem q981 : (Jvm.Cond.instanceMethod ({ cls := "SwapPress$Rings", name := "finds", desc := "()Z" } : Jvm.MethodName)) ∈ lw_all := lw_g (lw_at lw_m4 161 rfl) rfl
theorem q982 : (Jvm.Cond.selects "SwapPress$Rings" ({ cls := "SwapPress$Rings", name := "finds", desc := "()Z" } : Jvm.MethodName) ({ cls := "SwapPress$Rings", name := "finds", desc := "()Z" } : Jvm.MethodName)) ∈ lw_all := lw_g (lw_at lw_m4 162 rfl) rfl
theorem q983 : (Jvm.Cond.code ({ cls := "SwapPress$Rings", name := "finds", desc := "()Z" } : Jvm.MethodName) prog_9_method_3_code (2 : Nat) (Option.some Jvm.ClassFile.FieldType.boolean)) ∈ lw_all := lw_g (lw_at lw_m4 163 rfl) rfl
theorem q984 : (Jvm.Cond.methodLink "SwapPress$Rings" (25 : Nat) ({ cls := "SwapPress$Rings", name := "goesOn", desc := "(II)Z" } : Jvm.MethodName)) ∈ lw_all := lw_g (lw_at lw_m4 164 rfl) rfl
theorem q985 : (Jvm.Cond.privateMethod ({ cls := "SwapPress$Rings", name := "goesOn", desc := "(II)Z" } : Jvm.MethodName)) ∈ lw_tbl := lw_at lw_m4 165 rfl
theorem q986 : (Jvm.Cond.instanceMethod ({ cls := "SwapPress$Rings", name := "goesOn", desc := "(II)Z" } : Jvm.MethodName)) ∈ lw_all := lw_g (lw_at lw_m4 166 rfl) rfl
theorem q987 : (Jvm.Cond.code ({ cls := "SwapPress$Rings", name := "goesOn", desc := "(II)Z" } : Jvm.MethodName) prog_9_method_4_code (4 : Nat) (Option.some Jvm.ClassFile.FieldType.boolean)) ∈ lw_all := lw_g (lw_at lw_m4 167 rfl) rfl
theorem q988 : (Jvm.Cond.methodLink "SwapPress$Rings" (29 : Nat) ({ cls := "SwapPress$Rings", name := "at", desc := "(II)I" } : Jvm.MethodName)) ∈ lw_all := lw_g (lw_at lw_m4 168 rfl) rfl
theorem q989 : (Jvm.Cond.privateMethod ({ cls := "SwapPress$Rings", name := "at", desc := "(II)I" } : Jvm.MethodName)) ∈ lw_tbl := lw_at lw_m4 169 rfl
theorem q990 : (Jvm.Cond.instanceMethod ({ cls := "SwapPress$Rings", name := "at", desc := "(II)I" } : Jvm.MethodName)) ∈ lw_all := lw_g (lw_at lw_m4 170 rfl) rfl
theorem q991 : (Jvm.Cond.code ({ cls := "SwapPress$Rings", name := "at", desc := "(II)I" } : Jvm.MethodName) prog_9_method_2_code (3 : Nat) (Option.some Jvm.ClassFile.FieldType.int)) ∈ lw_all := lw_g (lw_at lw_m4 171 rfl) rfl
theorem q993 : (Jvm.Cond.instanceMethod ({ cls := "SwapPress$Rings", name := "load", desc := "()I" } : Jvm.MethodName)) ∈ lw_all := lw_g (lw_at lw_m4 173 rfl) rfl
theorem q994 : (Jvm.Cond.selects "SwapPress$Rings" ({ cls := "SwapPress$Rings", name := "load", desc := "()I" } : Jvm.MethodName) ({ cls := "SwapPress$Rings", name := "load", desc := "()I" } : Jvm.MethodName)) ∈ lw_all := lw_g (lw_at lw_m4 174 rfl) rfl
theorem q995 : (Jvm.Cond.code ({ cls := "SwapPress$Rings", name := "load", desc := "()I" } : Jvm.MethodName) prog_9_method_6_code (3 : Nat) (Option.some Jvm.ClassFile.FieldType.int)) ∈ lw_all := lw_g (lw_at lw_m4 175 rfl) rfl
theorem q996 : (Jvm.Cond.methodLink "SwapPress$Rings" (33 : Nat) ({ cls := "SwapPress$Rings", name := "next", desc := "(I)I" } : Jvm.MethodName)) ∈ lw_all := lw_g (lw_at lw_m4 176 rfl) rfl
theorem q997 : (Jvm.Cond.instanceMethod ({ cls := "SwapPress$Rings", name := "next", desc := "(I)I" } : Jvm.MethodName)) ∈ lw_all := lw_g (lw_at lw_m4 177 rfl) rfl
theorem q998 : (Jvm.Cond.selects "SwapPress$Rings" ({ cls := "SwapPress$Rings", name := "next", desc := "(I)I" } : Jvm.MethodName) ({ cls := "SwapPress$Rings", name := "next", desc := "(I)I" } : Jvm.MethodName)) ∈ lw_all := lw_g (lw_at lw_m4 178 rfl) rfl
theorem q999 : (Jvm.Cond.code ({ cls := "SwapPress$Rings", name := "next", desc := "(I)I" } : Jvm.MethodName) prog_9_method_5_code (2 : Nat) (Option.some Jvm.ClassFile.FieldType.int)) ∈ lw_all := lw_g (lw_at lw_m4 179 rfl) rfl
theorem q1000 : (Jvm.Cond.methodLink "SwapPress$Rings" (37 : Nat) ({ cls := "java/lang/Math", name := "min", desc := "(II)I" } : Jvm.MethodName)) ∈ lw_all := lw_g (lw_at lw_m4 180 rfl) rfl
theorem q1237 : (Jvm.Cond.instanceMethod ({ cls := "SwapPress$Rings", name := "takes", desc := "()I" } : Jvm.MethodName)) ∈ lw_all := lw_g (lw_at lw_m5 177 rfl) rfl
theorem q1238 : (Jvm.Cond.selects "SwapPress$Rings" ({ cls := "SwapPress$Rings", name := "takes", desc := "()I" } : Jvm.MethodName) ({ cls := "SwapPress$Rings", name := "takes", desc := "()I" } : Jvm.MethodName)) ∈ lw_all := lw_g (lw_at lw_m5 178 rfl) rfl
theorem q1239 : (Jvm.Cond.code ({ cls := "SwapPress$Rings", name := "takes", desc := "()I" } : Jvm.MethodName) prog_9_method_7_code (3 : Nat) (Option.some Jvm.ClassFile.FieldType.int)) ∈ lw_all := lw_g (lw_at lw_m5 179 rfl) rfl
theorem q1240 : (Jvm.Cond.methodLink "SwapPress$Rings" (42 : Nat) ({ cls := "SwapPress$Rings", name := "load", desc := "()I" } : Jvm.MethodName)) ∈ lw_all := lw_g (lw_at lw_m5 180 rfl) rfl
theorem q2049 : (Jvm.Cond.castable "SwapPress$Rings" "java/lang/Object") ∈ lw_tbl := lw_at lw_m9 29 rfl
theorem in_X7 : ∀ w ∈ wsX70, w ∈ lw_all := lw_in wsX70 [971, 973, 975, 977] (by decide +kernel) (by decide +kernel)
