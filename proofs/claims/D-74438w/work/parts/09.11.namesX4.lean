/-! SwapPress$Reader -/
set_option maxRecDepth 100000
abbrev cX4_init : ByteArray := prog_8_method_1_code
def yX4_init : MethodName := ⟨RX4, "<init>", "(LSwapPress;I)V"⟩
def dkwX4_init_1 : List UInt8 := [181, 0, 22, 177]
abbrev dktX4_init_1 : List UInt8 := dkwX4_init_1 ++ []
def dkwX4_init_0 : List UInt8 := [42, 43, 181, 0, 3, 42, 183, 0, 9, 42, 187, 0, 15, 89, 183, 0, 17, 181, 0, 18, 42, 28]
abbrev dktX4_init_0 : List UInt8 := dkwX4_init_0 ++ dktX4_init_1
theorem dksX4_init_0 : cX4_init.data.toList.drop 0 = dktX4_init_0 := by decide +kernel
theorem dksX4_init_1 : cX4_init.data.toList.drop 22 = dktX4_init_1 := dk_seg dksX4_init_0 22 rfl rfl
theorem dX4_init_0 : decode cX4_init 0 = .ok (.aload_n 0, 1) := dk_42 (dk_at dksX4_init_0 0 rfl rfl)
theorem dX4_init_1 : decode cX4_init 1 = .ok (.aload_n 1, 1) := dk_43 (dk_at dksX4_init_0 1 rfl rfl)
theorem dX4_init_2 : decode cX4_init 2 = .ok (.putfield 3, 3) := dk_181 0 3 (dk_at dksX4_init_0 2 rfl rfl)
theorem dX4_init_5 : decode cX4_init 5 = .ok (.aload_n 0, 1) := dk_42 (dk_at dksX4_init_0 5 rfl rfl)
theorem dX4_init_6 : decode cX4_init 6 = .ok (.invokespecial 9, 3) := dk_183 0 9 (dk_at dksX4_init_0 6 rfl rfl)
theorem dX4_init_9 : decode cX4_init 9 = .ok (.aload_n 0, 1) := dk_42 (dk_at dksX4_init_0 9 rfl rfl)
theorem dX4_init_10 : decode cX4_init 10 = .ok (.new 15, 3) := dk_187 0 15 (dk_at dksX4_init_0 10 rfl rfl)
theorem dX4_init_13 : decode cX4_init 13 = .ok (.dup, 1) := dk_89 (dk_at dksX4_init_0 13 rfl rfl)
theorem dX4_init_14 : decode cX4_init 14 = .ok (.invokespecial 17, 3) := dk_183 0 17 (dk_at dksX4_init_0 14 rfl rfl)
theorem dX4_init_17 : decode cX4_init 17 = .ok (.putfield 18, 3) := dk_181 0 18 (dk_at dksX4_init_0 17 rfl rfl)
theorem dX4_init_20 : decode cX4_init 20 = .ok (.aload_n 0, 1) := dk_42 (dk_at dksX4_init_0 20 rfl rfl)
theorem dX4_init_21 : decode cX4_init 21 = .ok (.iload_n 2, 1) := dk_28 (dk_at dksX4_init_0 21 rfl rfl)
theorem dX4_init_22 : decode cX4_init 22 = .ok (.putfield 22, 3) := dk_181 0 22 (dk_at dksX4_init_1 0 rfl rfl)
theorem dX4_init_25 : decode cX4_init 25 = .ok (.return_, 1) := dk_177 (dk_at dksX4_init_1 3 rfl rfl)
abbrev cX4_reads : ByteArray := prog_8_method_15_code
def yX4_reads : MethodName := ⟨RX4, "reads", "()LSwapPress$State;"⟩
def dkwX4_reads_0 : List UInt8 := [42, 182, 0, 52, 154, 0, 10, 42, 182, 0, 185, 167, 255, 245, 42, 180, 0, 18, 176]
abbrev dktX4_reads_0 : List UInt8 := dkwX4_reads_0 ++ []
theorem dksX4_reads_0 : cX4_reads.data.toList.drop 0 = dktX4_reads_0 := by decide +kernel
theorem dX4_reads_0 : decode cX4_reads 0 = .ok (.aload_n 0, 1) := dk_42 (dk_at dksX4_reads_0 0 rfl rfl)
theorem dX4_reads_1 : decode cX4_reads 1 = .ok (.invokevirtual 52, 3) := dk_182 0 52 (dk_at dksX4_reads_0 1 rfl rfl)
theorem dX4_reads_4 : decode cX4_reads 4 = .ok (.ifCond .ne 10, 3) := dk_154 0 10 (dk_at dksX4_reads_0 4 rfl rfl)
theorem dX4_reads_7 : decode cX4_reads 7 = .ok (.aload_n 0, 1) := dk_42 (dk_at dksX4_reads_0 7 rfl rfl)
theorem dX4_reads_8 : decode cX4_reads 8 = .ok (.invokevirtual 185, 3) := dk_182 0 185 (dk_at dksX4_reads_0 8 rfl rfl)
theorem dX4_reads_11 : decode cX4_reads 11 = .ok (.goto (-11), 3) := dk_167 255 245 (dk_at dksX4_reads_0 11 rfl rfl)
theorem dX4_reads_14 : decode cX4_reads 14 = .ok (.aload_n 0, 1) := dk_42 (dk_at dksX4_reads_0 14 rfl rfl)
theorem dX4_reads_15 : decode cX4_reads 15 = .ok (.getfield 18, 3) := dk_180 0 18 (dk_at dksX4_reads_0 15 rfl rfl)
theorem dX4_reads_18 : decode cX4_reads 18 = .ok (.areturn, 1) := dk_176 (dk_at dksX4_reads_0 18 rfl rfl)
abbrev cX4_isEnd : ByteArray := prog_8_method_3_code
def yX4_isEnd : MethodName := ⟨RX4, "isEnd", "()Z"⟩
def dkwX4_isEnd_2 : List UInt8 := [172]
abbrev dktX4_isEnd_2 : List UInt8 := dkwX4_isEnd_2 ++ []
def dkwX4_isEnd_1 : List UInt8 := [42, 42, 180, 0, 26, 181, 0, 41, 42, 180, 0, 26, 42, 180, 0, 22, 160, 0, 7, 4, 167, 0, 4, 3]
abbrev dktX4_isEnd_1 : List UInt8 := dkwX4_isEnd_1 ++ dktX4_isEnd_2
def dkwX4_isEnd_0 : List UInt8 := [42, 16, 32, 16, 32, 182, 0, 37, 153, 0, 16, 42, 89, 180, 0, 26, 4, 96, 181, 0, 26, 167, 255, 235]
abbrev dktX4_isEnd_0 : List UInt8 := dkwX4_isEnd_0 ++ dktX4_isEnd_1
theorem dksX4_isEnd_0 : cX4_isEnd.data.toList.drop 0 = dktX4_isEnd_0 := by decide +kernel
theorem dksX4_isEnd_1 : cX4_isEnd.data.toList.drop 24 = dktX4_isEnd_1 := dk_seg dksX4_isEnd_0 24 rfl rfl
theorem dksX4_isEnd_2 : cX4_isEnd.data.toList.drop 48 = dktX4_isEnd_2 := dk_seg dksX4_isEnd_1 24 rfl rfl
theorem dX4_isEnd_0 : decode cX4_isEnd 0 = .ok (.aload_n 0, 1) := dk_42 (dk_at dksX4_isEnd_0 0 rfl rfl)
theorem dX4_isEnd_1 : decode cX4_isEnd 1 = .ok (.bipush 32, 2) := dk_16 32 (dk_at dksX4_isEnd_0 1 rfl rfl)
theorem dX4_isEnd_3 : decode cX4_isEnd 3 = .ok (.bipush 32, 2) := dk_16 32 (dk_at dksX4_isEnd_0 3 rfl rfl)
theorem dX4_isEnd_5 : decode cX4_isEnd 5 = .ok (.invokevirtual 37, 3) := dk_182 0 37 (dk_at dksX4_isEnd_0 5 rfl rfl)
theorem dX4_isEnd_8 : decode cX4_isEnd 8 = .ok (.ifCond .eq 16, 3) := dk_153 0 16 (dk_at dksX4_isEnd_0 8 rfl rfl)
theorem dX4_isEnd_11 : decode cX4_isEnd 11 = .ok (.aload_n 0, 1) := dk_42 (dk_at dksX4_isEnd_0 11 rfl rfl)
theorem dX4_isEnd_12 : decode cX4_isEnd 12 = .ok (.dup, 1) := dk_89 (dk_at dksX4_isEnd_0 12 rfl rfl)
theorem dX4_isEnd_13 : decode cX4_isEnd 13 = .ok (.getfield 26, 3) := dk_180 0 26 (dk_at dksX4_isEnd_0 13 rfl rfl)
theorem dX4_isEnd_16 : decode cX4_isEnd 16 = .ok (.iconst 1, 1) := dk_4 (dk_at dksX4_isEnd_0 16 rfl rfl)
theorem dX4_isEnd_17 : decode cX4_isEnd 17 = .ok (.iadd, 1) := dk_96 (dk_at dksX4_isEnd_0 17 rfl rfl)
theorem dX4_isEnd_18 : decode cX4_isEnd 18 = .ok (.putfield 26, 3) := dk_181 0 26 (dk_at dksX4_isEnd_0 18 rfl rfl)
theorem dX4_isEnd_21 : decode cX4_isEnd 21 = .ok (.goto (-21), 3) := dk_167 255 235 (dk_at dksX4_isEnd_0 21 rfl rfl)
theorem dX4_isEnd_24 : decode cX4_isEnd 24 = .ok (.aload_n 0, 1) := dk_42 (dk_at dksX4_isEnd_1 0 rfl rfl)
theorem dX4_isEnd_25 : decode cX4_isEnd 25 = .ok (.aload_n 0, 1) := dk_42 (dk_at dksX4_isEnd_1 1 rfl rfl)
theorem dX4_isEnd_26 : decode cX4_isEnd 26 = .ok (.getfield 26, 3) := dk_180 0 26 (dk_at dksX4_isEnd_1 2 rfl rfl)
theorem dX4_isEnd_29 : decode cX4_isEnd 29 = .ok (.putfield 41, 3) := dk_181 0 41 (dk_at dksX4_isEnd_1 5 rfl rfl)
theorem dX4_isEnd_32 : decode cX4_isEnd 32 = .ok (.aload_n 0, 1) := dk_42 (dk_at dksX4_isEnd_1 8 rfl rfl)
theorem dX4_isEnd_33 : decode cX4_isEnd 33 = .ok (.getfield 26, 3) := dk_180 0 26 (dk_at dksX4_isEnd_1 9 rfl rfl)
theorem dX4_isEnd_36 : decode cX4_isEnd 36 = .ok (.aload_n 0, 1) := dk_42 (dk_at dksX4_isEnd_1 12 rfl rfl)
theorem dX4_isEnd_37 : decode cX4_isEnd 37 = .ok (.getfield 22, 3) := dk_180 0 22 (dk_at dksX4_isEnd_1 13 rfl rfl)
theorem dX4_isEnd_40 : decode cX4_isEnd 40 = .ok (.if_icmp .ne 7, 3) := dk_160 0 7 (dk_at dksX4_isEnd_1 16 rfl rfl)
theorem dX4_isEnd_43 : decode cX4_isEnd 43 = .ok (.iconst 1, 1) := dk_4 (dk_at dksX4_isEnd_1 19 rfl rfl)
theorem dX4_isEnd_44 : decode cX4_isEnd 44 = .ok (.goto 4, 3) := dk_167 0 4 (dk_at dksX4_isEnd_1 20 rfl rfl)
theorem dX4_isEnd_47 : decode cX4_isEnd 47 = .ok (.iconst 0, 1) := dk_3 (dk_at dksX4_isEnd_1 23 rfl rfl)
theorem dX4_isEnd_48 : decode cX4_isEnd 48 = .ok (.ireturn, 1) := dk_172 (dk_at dksX4_isEnd_2 0 rfl rfl)
abbrev cX4_isAt : ByteArray := prog_8_method_2_code
def yX4_isAt : MethodName := ⟨RX4, "isAt", "(II)Z"⟩
def dkwX4_isAt_1 : List UInt8 := [27, 133, 28, 133, 184, 0, 33, 153, 0, 7, 4, 167, 0, 4, 3, 172]
abbrev dktX4_isAt_1 : List UInt8 := dkwX4_isAt_1 ++ []
def dkwX4_isAt_0 : List UInt8 := [42, 180, 0, 26, 42, 180, 0, 22, 162, 0, 30, 42, 180, 0, 3, 180, 0, 29, 42, 180, 0, 26, 51, 133]
abbrev dktX4_isAt_0 : List UInt8 := dkwX4_isAt_0 ++ dktX4_isAt_1
theorem dksX4_isAt_0 : cX4_isAt.data.toList.drop 0 = dktX4_isAt_0 := by decide +kernel
theorem dksX4_isAt_1 : cX4_isAt.data.toList.drop 24 = dktX4_isAt_1 := dk_seg dksX4_isAt_0 24 rfl rfl
theorem dX4_isAt_0 : decode cX4_isAt 0 = .ok (.aload_n 0, 1) := dk_42 (dk_at dksX4_isAt_0 0 rfl rfl)
theorem dX4_isAt_1 : decode cX4_isAt 1 = .ok (.getfield 26, 3) := dk_180 0 26 (dk_at dksX4_isAt_0 1 rfl rfl)
theorem dX4_isAt_4 : decode cX4_isAt 4 = .ok (.aload_n 0, 1) := dk_42 (dk_at dksX4_isAt_0 4 rfl rfl)
theorem dX4_isAt_5 : decode cX4_isAt 5 = .ok (.getfield 22, 3) := dk_180 0 22 (dk_at dksX4_isAt_0 5 rfl rfl)
theorem dX4_isAt_8 : decode cX4_isAt 8 = .ok (.if_icmp .ge 30, 3) := dk_162 0 30 (dk_at dksX4_isAt_0 8 rfl rfl)
theorem dX4_isAt_11 : decode cX4_isAt 11 = .ok (.aload_n 0, 1) := dk_42 (dk_at dksX4_isAt_0 11 rfl rfl)
theorem dX4_isAt_12 : decode cX4_isAt 12 = .ok (.getfield 3, 3) := dk_180 0 3 (dk_at dksX4_isAt_0 12 rfl rfl)
theorem dX4_isAt_15 : decode cX4_isAt 15 = .ok (.getfield 29, 3) := dk_180 0 29 (dk_at dksX4_isAt_0 15 rfl rfl)
theorem dX4_isAt_18 : decode cX4_isAt 18 = .ok (.aload_n 0, 1) := dk_42 (dk_at dksX4_isAt_0 18 rfl rfl)
theorem dX4_isAt_19 : decode cX4_isAt 19 = .ok (.getfield 26, 3) := dk_180 0 26 (dk_at dksX4_isAt_0 19 rfl rfl)
theorem dX4_isAt_22 : decode cX4_isAt 22 = .ok (.baload, 1) := dk_51 (dk_at dksX4_isAt_0 22 rfl rfl)
theorem dX4_isAt_23 : decode cX4_isAt 23 = .ok (.i2l, 1) := dk_133 (dk_at dksX4_isAt_0 23 rfl rfl)
theorem dX4_isAt_24 : decode cX4_isAt 24 = .ok (.iload_n 1, 1) := dk_27 (dk_at dksX4_isAt_1 0 rfl rfl)
theorem dX4_isAt_25 : decode cX4_isAt 25 = .ok (.i2l, 1) := dk_133 (dk_at dksX4_isAt_1 1 rfl rfl)
theorem dX4_isAt_26 : decode cX4_isAt 26 = .ok (.iload_n 2, 1) := dk_28 (dk_at dksX4_isAt_1 2 rfl rfl)
theorem dX4_isAt_27 : decode cX4_isAt 27 = .ok (.i2l, 1) := dk_133 (dk_at dksX4_isAt_1 3 rfl rfl)
theorem dX4_isAt_28 : decode cX4_isAt 28 = .ok (.invokestatic 33, 3) := dk_184 0 33 (dk_at dksX4_isAt_1 4 rfl rfl)
theorem dX4_isAt_31 : decode cX4_isAt 31 = .ok (.ifCond .eq 7, 3) := dk_153 0 7 (dk_at dksX4_isAt_1 7 rfl rfl)
theorem dX4_isAt_34 : decode cX4_isAt 34 = .ok (.iconst 1, 1) := dk_4 (dk_at dksX4_isAt_1 10 rfl rfl)
theorem dX4_isAt_35 : decode cX4_isAt 35 = .ok (.goto 4, 3) := dk_167 0 4 (dk_at dksX4_isAt_1 11 rfl rfl)
theorem dX4_isAt_38 : decode cX4_isAt 38 = .ok (.iconst 0, 1) := dk_3 (dk_at dksX4_isAt_1 14 rfl rfl)
theorem dX4_isAt_39 : decode cX4_isAt 39 = .ok (.ireturn, 1) := dk_172 (dk_at dksX4_isAt_1 15 rfl rfl)
abbrev cX4_line : ByteArray := prog_8_method_14_code
def yX4_line : MethodName := ⟨RX4, "line", "()V"⟩
def dkwX4_line_12 : List UInt8 := [89, 180, 0, 26, 4, 96, 181, 0, 26, 177]
abbrev dktX4_line_12 : List UInt8 := dkwX4_line_12 ++ []
def dkwX4_line_11 : List UInt8 := [182, 0, 52, 154, 0, 14, 42, 16, 59, 16, 59, 182, 0, 37, 154, 0, 9, 42, 4, 182, 0, 74, 191, 42]
abbrev dktX4_line_11 : List UInt8 := dkwX4_line_11 ++ dktX4_line_12
def dkwX4_line_10 : List UInt8 := [42, 180, 0, 18, 42, 3, 6, 182, 0, 121, 181, 0, 183, 167, 0, 9, 42, 4, 182, 0, 74, 191, 42]
abbrev dktX4_line_10 : List UInt8 := dkwX4_line_10 ++ dktX4_line_11
def dkwX4_line_9 : List UInt8 := [182, 0, 178, 167, 0, 43, 42, 180, 0, 180, 153, 0, 9, 42, 4, 182, 0, 74, 191, 42, 4, 181, 0, 180]
abbrev dktX4_line_9 : List UInt8 := dkwX4_line_9 ++ dktX4_line_10
def dkwX4_line_8 : List UInt8 := [7, 182, 0, 170, 167, 0, 64, 42, 182, 0, 174, 167, 0, 57, 42, 182, 0, 176, 167, 0, 50, 42]
abbrev dktX4_line_8 : List UInt8 := dkwX4_line_8 ++ dktX4_line_9
def dkwX4_line_7 : List UInt8 := [42, 42, 180, 0, 18, 180, 0, 95, 16, 8, 182, 0, 170, 167, 0, 79, 42, 42, 180, 0, 18, 180, 0, 103]
abbrev dktX4_line_7 : List UInt8 := dkwX4_line_7 ++ dktX4_line_8
def dkwX4_line_6 : List UInt8 := [170, 0, 0, 0, 0, 124, 0, 0, 0, 0, 0, 0, 0, 5, 0, 0, 0, 38, 0, 0, 0, 54, 0, 0, 0, 69, 0, 0, 0, 76, 0, 0, 0, 83, 0, 0, 0, 90]
abbrev dktX4_line_6 : List UInt8 := dkwX4_line_6 ++ dktX4_line_7
def dkwX4_line_5 : List UInt8 := [18, 168, 182, 0, 158, 153, 0, 5, 8, 61, 28]
abbrev dktX4_line_5 : List UInt8 := dkwX4_line_5 ++ dktX4_line_6
def dkwX4_line_4 : List UInt8 := [153, 0, 33, 6, 61, 167, 0, 28, 43, 18, 167, 182, 0, 158, 153, 0, 19, 7, 61, 167, 0, 14, 43]
abbrev dktX4_line_4 : List UInt8 := dkwX4_line_4 ++ dktX4_line_5
def dkwX4_line_3 : List UInt8 := [61, 167, 0, 56, 43, 18, 163, 182, 0, 158, 153, 0, 47, 5, 61, 167, 0, 42, 43, 18, 165, 182, 0, 158]
abbrev dktX4_line_3 : List UInt8 := dkwX4_line_3 ++ dktX4_line_4
def dkwX4_line_2 : List UInt8 := [43, 18, 156, 182, 0, 158, 153, 0, 75, 3, 61, 167, 0, 70, 43, 18, 161, 182, 0, 158, 153, 0, 61, 4]
abbrev dktX4_line_2 : List UInt8 := dkwX4_line_2 ++ dktX4_line_3
def dkwX4_line_1 : List UInt8 := [171, 0, 0, 0, 138, 0, 0, 0, 6, 0, 1, 127, 210, 0, 0, 0, 113, 0, 50, 43, 133, 0, 0, 0, 99, 0, 50, 59, 148, 0, 0, 0, 71, 0, 51, 57, 163, 0, 0, 0, 127, 6, 88, 26, 230, 0, 0, 0, 57, 6, 151, 241, 100, 0, 0, 0, 85]
abbrev dktX4_line_1 : List UInt8 := dkwX4_line_1 ++ dktX4_line_2
def dkwX4_line_0 : List UInt8 := [42, 182, 0, 78, 42, 180, 0, 64, 76, 2, 61, 43, 182, 0, 151]
abbrev dktX4_line_0 : List UInt8 := dkwX4_line_0 ++ dktX4_line_1
theorem dksX4_line_0 : cX4_line.data.toList.drop 0 = dktX4_line_0 := by decide +kernel
theorem dksX4_line_1 : cX4_line.data.toList.drop 15 = dktX4_line_1 := dk_seg dksX4_line_0 15 rfl rfl
theorem dksX4_line_2 : cX4_line.data.toList.drop 72 = dktX4_line_2 := dk_seg dksX4_line_1 57 rfl rfl
theorem dksX4_line_3 : cX4_line.data.toList.drop 96 = dktX4_line_3 := dk_seg dksX4_line_2 24 rfl rfl
theorem dksX4_line_4 : cX4_line.data.toList.drop 120 = dktX4_line_4 := dk_seg dksX4_line_3 24 rfl rfl
theorem dksX4_line_5 : cX4_line.data.toList.drop 143 = dktX4_line_5 := dk_seg dksX4_line_4 23 rfl rfl
theorem dksX4_line_6 : cX4_line.data.toList.drop 154 = dktX4_line_6 := dk_seg dksX4_line_5 11 rfl rfl
theorem dksX4_line_7 : cX4_line.data.toList.drop 192 = dktX4_line_7 := dk_seg dksX4_line_6 38 rfl rfl
theorem dksX4_line_8 : cX4_line.data.toList.drop 216 = dktX4_line_8 := dk_seg dksX4_line_7 24 rfl rfl
theorem dksX4_line_9 : cX4_line.data.toList.drop 238 = dktX4_line_9 := dk_seg dksX4_line_8 22 rfl rfl
theorem dksX4_line_10 : cX4_line.data.toList.drop 262 = dktX4_line_10 := dk_seg dksX4_line_9 24 rfl rfl
theorem dksX4_line_11 : cX4_line.data.toList.drop 285 = dktX4_line_11 := dk_seg dksX4_line_10 23 rfl rfl
theorem dksX4_line_12 : cX4_line.data.toList.drop 309 = dktX4_line_12 := dk_seg dksX4_line_11 24 rfl rfl
theorem dX4_line_0 : decode cX4_line 0 = .ok (.aload_n 0, 1) := dk_42 (dk_at dksX4_line_0 0 rfl rfl)
theorem dX4_line_1 : decode cX4_line 1 = .ok (.invokevirtual 78, 3) := dk_182 0 78 (dk_at dksX4_line_0 1 rfl rfl)
theorem dX4_line_4 : decode cX4_line 4 = .ok (.aload_n 0, 1) := dk_42 (dk_at dksX4_line_0 4 rfl rfl)
theorem dX4_line_5 : decode cX4_line 5 = .ok (.getfield 64, 3) := dk_180 0 64 (dk_at dksX4_line_0 5 rfl rfl)
theorem dX4_line_8 : decode cX4_line 8 = .ok (.astore_n 1, 1) := dk_76 (dk_at dksX4_line_0 8 rfl rfl)
theorem dX4_line_9 : decode cX4_line 9 = .ok (.iconst (-1), 1) := dk_2 (dk_at dksX4_line_0 9 rfl rfl)
theorem dX4_line_10 : decode cX4_line 10 = .ok (.istore_n 2, 1) := dk_61 (dk_at dksX4_line_0 10 rfl rfl)
theorem dX4_line_11 : decode cX4_line 11 = .ok (.aload_n 1, 1) := dk_43 (dk_at dksX4_line_0 11 rfl rfl)
theorem dX4_line_12 : decode cX4_line 12 = .ok (.invokevirtual 151, 3) := dk_182 0 151 (dk_at dksX4_line_0 12 rfl rfl)
theorem dX4_line_15 : decode cX4_line 15 = .ok (.lookupswitch 138 #[(98258, 113), (3287941, 99), (3292052, 71), (3357091, 127), (106437350, 57), (110621028, 85)], 57) := by decide +kernel
theorem dX4_line_72 : decode cX4_line 72 = .ok (.aload_n 1, 1) := dk_43 (dk_at dksX4_line_2 0 rfl rfl)
theorem dX4_line_73 : decode cX4_line 73 = .ok (.ldc 156, 2) := dk_18 156 (dk_at dksX4_line_2 1 rfl rfl)
theorem dX4_line_75 : decode cX4_line 75 = .ok (.invokevirtual 158, 3) := dk_182 0 158 (dk_at dksX4_line_2 3 rfl rfl)
theorem dX4_line_78 : decode cX4_line 78 = .ok (.ifCond .eq 75, 3) := dk_153 0 75 (dk_at dksX4_line_2 6 rfl rfl)
theorem dX4_line_81 : decode cX4_line 81 = .ok (.iconst 0, 1) := dk_3 (dk_at dksX4_line_2 9 rfl rfl)
theorem dX4_line_82 : decode cX4_line 82 = .ok (.istore_n 2, 1) := dk_61 (dk_at dksX4_line_2 10 rfl rfl)
theorem dX4_line_83 : decode cX4_line 83 = .ok (.goto 70, 3) := dk_167 0 70 (dk_at dksX4_line_2 11 rfl rfl)
theorem dX4_line_86 : decode cX4_line 86 = .ok (.aload_n 1, 1) := dk_43 (dk_at dksX4_line_2 14 rfl rfl)
theorem dX4_line_87 : decode cX4_line 87 = .ok (.ldc 161, 2) := dk_18 161 (dk_at dksX4_line_2 15 rfl rfl)
theorem dX4_line_89 : decode cX4_line 89 = .ok (.invokevirtual 158, 3) := dk_182 0 158 (dk_at dksX4_line_2 17 rfl rfl)
theorem dX4_line_92 : decode cX4_line 92 = .ok (.ifCond .eq 61, 3) := dk_153 0 61 (dk_at dksX4_line_2 20 rfl rfl)
theorem dX4_line_95 : decode cX4_line 95 = .ok (.iconst 1, 1) := dk_4 (dk_at dksX4_line_2 23 rfl rfl)
theorem dX4_line_96 : decode cX4_line 96 = .ok (.istore_n 2, 1) := dk_61 (dk_at dksX4_line_3 0 rfl rfl)
theorem dX4_line_97 : decode cX4_line 97 = .ok (.goto 56, 3) := dk_167 0 56 (dk_at dksX4_line_3 1 rfl rfl)
theorem dX4_line_100 : decode cX4_line 100 = .ok (.aload_n 1, 1) := dk_43 (dk_at dksX4_line_3 4 rfl rfl)
theorem dX4_line_101 : decode cX4_line 101 = .ok (.ldc 163, 2) := dk_18 163 (dk_at dksX4_line_3 5 rfl rfl)
theorem dX4_line_103 : decode cX4_line 103 = .ok (.invokevirtual 158, 3) := dk_182 0 158 (dk_at dksX4_line_3 7 rfl rfl)
theorem dX4_line_106 : decode cX4_line 106 = .ok (.ifCond .eq 47, 3) := dk_153 0 47 (dk_at dksX4_line_3 10 rfl rfl)
theorem dX4_line_109 : decode cX4_line 109 = .ok (.iconst 2, 1) := dk_5 (dk_at dksX4_line_3 13 rfl rfl)
theorem dX4_line_110 : decode cX4_line 110 = .ok (.istore_n 2, 1) := dk_61 (dk_at dksX4_line_3 14 rfl rfl)
theorem dX4_line_111 : decode cX4_line 111 = .ok (.goto 42, 3) := dk_167 0 42 (dk_at dksX4_line_3 15 rfl rfl)
theorem dX4_line_114 : decode cX4_line 114 = .ok (.aload_n 1, 1) := dk_43 (dk_at dksX4_line_3 18 rfl rfl)
theorem dX4_line_115 : decode cX4_line 115 = .ok (.ldc 165, 2) := dk_18 165 (dk_at dksX4_line_3 19 rfl rfl)
theorem dX4_line_117 : decode cX4_line 117 = .ok (.invokevirtual 158, 3) := dk_182 0 158 (dk_at dksX4_line_3 21 rfl rfl)
theorem dX4_line_120 : decode cX4_line 120 = .ok (.ifCond .eq 33, 3) := dk_153 0 33 (dk_at dksX4_line_4 0 rfl rfl)
theorem dX4_line_123 : decode cX4_line 123 = .ok (.iconst 3, 1) := dk_6 (dk_at dksX4_line_4 3 rfl rfl)
theorem dX4_line_124 : decode cX4_line 124 = .ok (.istore_n 2, 1) := dk_61 (dk_at dksX4_line_4 4 rfl rfl)
theorem dX4_line_125 : decode cX4_line 125 = .ok (.goto 28, 3) := dk_167 0 28 (dk_at dksX4_line_4 5 rfl rfl)
theorem dX4_line_128 : decode cX4_line 128 = .ok (.aload_n 1, 1) := dk_43 (dk_at dksX4_line_4 8 rfl rfl)
theorem dX4_line_129 : decode cX4_line 129 = .ok (.ldc 167, 2) := dk_18 167 (dk_at dksX4_line_4 9 rfl rfl)
theorem dX4_line_131 : decode cX4_line 131 = .ok (.invokevirtual 158, 3) := dk_182 0 158 (dk_at dksX4_line_4 11 rfl rfl)
theorem dX4_line_134 : decode cX4_line 134 = .ok (.ifCond .eq 19, 3) := dk_153 0 19 (dk_at dksX4_line_4 14 rfl rfl)
theorem dX4_line_137 : decode cX4_line 137 = .ok (.iconst 4, 1) := dk_7 (dk_at dksX4_line_4 17 rfl rfl)
theorem dX4_line_138 : decode cX4_line 138 = .ok (.istore_n 2, 1) := dk_61 (dk_at dksX4_line_4 18 rfl rfl)
theorem dX4_line_139 : decode cX4_line 139 = .ok (.goto 14, 3) := dk_167 0 14 (dk_at dksX4_line_4 19 rfl rfl)
theorem dX4_line_142 : decode cX4_line 142 = .ok (.aload_n 1, 1) := dk_43 (dk_at dksX4_line_4 22 rfl rfl)
theorem dX4_line_143 : decode cX4_line 143 = .ok (.ldc 168, 2) := dk_18 168 (dk_at dksX4_line_5 0 rfl rfl)
theorem dX4_line_145 : decode cX4_line 145 = .ok (.invokevirtual 158, 3) := dk_182 0 158 (dk_at dksX4_line_5 2 rfl rfl)
theorem dX4_line_148 : decode cX4_line 148 = .ok (.ifCond .eq 5, 3) := dk_153 0 5 (dk_at dksX4_line_5 5 rfl rfl)
theorem dX4_line_151 : decode cX4_line 151 = .ok (.iconst 5, 1) := dk_8 (dk_at dksX4_line_5 8 rfl rfl)
theorem dX4_line_152 : decode cX4_line 152 = .ok (.istore_n 2, 1) := dk_61 (dk_at dksX4_line_5 9 rfl rfl)
theorem dX4_line_153 : decode cX4_line 153 = .ok (.iload_n 2, 1) := dk_28 (dk_at dksX4_line_5 10 rfl rfl)
theorem dX4_line_154 : decode cX4_line 154 = .ok (.tableswitch 124 0 5 #[38, 54, 69, 76, 83, 90], 38) := by decide +kernel
theorem dX4_line_192 : decode cX4_line 192 = .ok (.aload_n 0, 1) := dk_42 (dk_at dksX4_line_7 0 rfl rfl)
theorem dX4_line_193 : decode cX4_line 193 = .ok (.aload_n 0, 1) := dk_42 (dk_at dksX4_line_7 1 rfl rfl)
theorem dX4_line_194 : decode cX4_line 194 = .ok (.getfield 18, 3) := dk_180 0 18 (dk_at dksX4_line_7 2 rfl rfl)
theorem dX4_line_197 : decode cX4_line 197 = .ok (.getfield 95, 3) := dk_180 0 95 (dk_at dksX4_line_7 5 rfl rfl)
theorem dX4_line_200 : decode cX4_line 200 = .ok (.bipush 8, 2) := dk_16 8 (dk_at dksX4_line_7 8 rfl rfl)
theorem dX4_line_202 : decode cX4_line 202 = .ok (.invokevirtual 170, 3) := dk_182 0 170 (dk_at dksX4_line_7 10 rfl rfl)
theorem dX4_line_205 : decode cX4_line 205 = .ok (.goto 79, 3) := dk_167 0 79 (dk_at dksX4_line_7 13 rfl rfl)
theorem dX4_line_208 : decode cX4_line 208 = .ok (.aload_n 0, 1) := dk_42 (dk_at dksX4_line_7 16 rfl rfl)
theorem dX4_line_209 : decode cX4_line 209 = .ok (.aload_n 0, 1) := dk_42 (dk_at dksX4_line_7 17 rfl rfl)
theorem dX4_line_210 : decode cX4_line 210 = .ok (.getfield 18, 3) := dk_180 0 18 (dk_at dksX4_line_7 18 rfl rfl)
theorem dX4_line_213 : decode cX4_line 213 = .ok (.getfield 103, 3) := dk_180 0 103 (dk_at dksX4_line_7 21 rfl rfl)
theorem dX4_line_216 : decode cX4_line 216 = .ok (.iconst 4, 1) := dk_7 (dk_at dksX4_line_8 0 rfl rfl)
theorem dX4_line_217 : decode cX4_line 217 = .ok (.invokevirtual 170, 3) := dk_182 0 170 (dk_at dksX4_line_8 1 rfl rfl)
theorem dX4_line_220 : decode cX4_line 220 = .ok (.goto 64, 3) := dk_167 0 64 (dk_at dksX4_line_8 4 rfl rfl)
theorem dX4_line_223 : decode cX4_line 223 = .ok (.aload_n 0, 1) := dk_42 (dk_at dksX4_line_8 7 rfl rfl)
theorem dX4_line_224 : decode cX4_line 224 = .ok (.invokevirtual 174, 3) := dk_182 0 174 (dk_at dksX4_line_8 8 rfl rfl)
theorem dX4_line_227 : decode cX4_line 227 = .ok (.goto 57, 3) := dk_167 0 57 (dk_at dksX4_line_8 11 rfl rfl)
theorem dX4_line_230 : decode cX4_line 230 = .ok (.aload_n 0, 1) := dk_42 (dk_at dksX4_line_8 14 rfl rfl)
theorem dX4_line_231 : decode cX4_line 231 = .ok (.invokevirtual 176, 3) := dk_182 0 176 (dk_at dksX4_line_8 15 rfl rfl)
theorem dX4_line_234 : decode cX4_line 234 = .ok (.goto 50, 3) := dk_167 0 50 (dk_at dksX4_line_8 18 rfl rfl)
theorem dX4_line_237 : decode cX4_line 237 = .ok (.aload_n 0, 1) := dk_42 (dk_at dksX4_line_8 21 rfl rfl)
theorem dX4_line_238 : decode cX4_line 238 = .ok (.invokevirtual 178, 3) := dk_182 0 178 (dk_at dksX4_line_9 0 rfl rfl)
theorem dX4_line_241 : decode cX4_line 241 = .ok (.goto 43, 3) := dk_167 0 43 (dk_at dksX4_line_9 3 rfl rfl)
theorem dX4_line_244 : decode cX4_line 244 = .ok (.aload_n 0, 1) := dk_42 (dk_at dksX4_line_9 6 rfl rfl)
theorem dX4_line_245 : decode cX4_line 245 = .ok (.getfield 180, 3) := dk_180 0 180 (dk_at dksX4_line_9 7 rfl rfl)
theorem dX4_line_248 : decode cX4_line 248 = .ok (.ifCond .eq 9, 3) := dk_153 0 9 (dk_at dksX4_line_9 10 rfl rfl)
theorem dX4_line_251 : decode cX4_line 251 = .ok (.aload_n 0, 1) := dk_42 (dk_at dksX4_line_9 13 rfl rfl)
theorem dX4_line_252 : decode cX4_line 252 = .ok (.iconst 1, 1) := dk_4 (dk_at dksX4_line_9 14 rfl rfl)
theorem dX4_line_253 : decode cX4_line 253 = .ok (.invokevirtual 74, 3) := dk_182 0 74 (dk_at dksX4_line_9 15 rfl rfl)
theorem dX4_line_256 : decode cX4_line 256 = .ok (.athrow, 1) := dk_191 (dk_at dksX4_line_9 18 rfl rfl)
theorem dX4_line_257 : decode cX4_line 257 = .ok (.aload_n 0, 1) := dk_42 (dk_at dksX4_line_9 19 rfl rfl)
theorem dX4_line_258 : decode cX4_line 258 = .ok (.iconst 1, 1) := dk_4 (dk_at dksX4_line_9 20 rfl rfl)
theorem dX4_line_259 : decode cX4_line 259 = .ok (.putfield 180, 3) := dk_181 0 180 (dk_at dksX4_line_9 21 rfl rfl)
theorem dX4_line_262 : decode cX4_line 262 = .ok (.aload_n 0, 1) := dk_42 (dk_at dksX4_line_10 0 rfl rfl)
theorem dX4_line_263 : decode cX4_line 263 = .ok (.getfield 18, 3) := dk_180 0 18 (dk_at dksX4_line_10 1 rfl rfl)
theorem dX4_line_266 : decode cX4_line 266 = .ok (.aload_n 0, 1) := dk_42 (dk_at dksX4_line_10 4 rfl rfl)
theorem dX4_line_267 : decode cX4_line 267 = .ok (.iconst 0, 1) := dk_3 (dk_at dksX4_line_10 5 rfl rfl)
theorem dX4_line_268 : decode cX4_line 268 = .ok (.iconst 3, 1) := dk_6 (dk_at dksX4_line_10 6 rfl rfl)
theorem dX4_line_269 : decode cX4_line 269 = .ok (.invokevirtual 121, 3) := dk_182 0 121 (dk_at dksX4_line_10 7 rfl rfl)
theorem dX4_line_272 : decode cX4_line 272 = .ok (.putfield 183, 3) := dk_181 0 183 (dk_at dksX4_line_10 10 rfl rfl)
theorem dX4_line_275 : decode cX4_line 275 = .ok (.goto 9, 3) := dk_167 0 9 (dk_at dksX4_line_10 13 rfl rfl)
theorem dX4_line_278 : decode cX4_line 278 = .ok (.aload_n 0, 1) := dk_42 (dk_at dksX4_line_10 16 rfl rfl)
theorem dX4_line_279 : decode cX4_line 279 = .ok (.iconst 1, 1) := dk_4 (dk_at dksX4_line_10 17 rfl rfl)
theorem dX4_line_280 : decode cX4_line 280 = .ok (.invokevirtual 74, 3) := dk_182 0 74 (dk_at dksX4_line_10 18 rfl rfl)
theorem dX4_line_283 : decode cX4_line 283 = .ok (.athrow, 1) := dk_191 (dk_at dksX4_line_10 21 rfl rfl)
theorem dX4_line_284 : decode cX4_line 284 = .ok (.aload_n 0, 1) := dk_42 (dk_at dksX4_line_10 22 rfl rfl)
theorem dX4_line_285 : decode cX4_line 285 = .ok (.invokevirtual 52, 3) := dk_182 0 52 (dk_at dksX4_line_11 0 rfl rfl)
theorem dX4_line_288 : decode cX4_line 288 = .ok (.ifCond .ne 14, 3) := dk_154 0 14 (dk_at dksX4_line_11 3 rfl rfl)
theorem dX4_line_291 : decode cX4_line 291 = .ok (.aload_n 0, 1) := dk_42 (dk_at dksX4_line_11 6 rfl rfl)
theorem dX4_line_292 : decode cX4_line 292 = .ok (.bipush 59, 2) := dk_16 59 (dk_at dksX4_line_11 7 rfl rfl)
theorem dX4_line_294 : decode cX4_line 294 = .ok (.bipush 59, 2) := dk_16 59 (dk_at dksX4_line_11 9 rfl rfl)
theorem dX4_line_296 : decode cX4_line 296 = .ok (.invokevirtual 37, 3) := dk_182 0 37 (dk_at dksX4_line_11 11 rfl rfl)
theorem dX4_line_299 : decode cX4_line 299 = .ok (.ifCond .ne 9, 3) := dk_154 0 9 (dk_at dksX4_line_11 14 rfl rfl)
theorem dX4_line_302 : decode cX4_line 302 = .ok (.aload_n 0, 1) := dk_42 (dk_at dksX4_line_11 17 rfl rfl)
theorem dX4_line_303 : decode cX4_line 303 = .ok (.iconst 1, 1) := dk_4 (dk_at dksX4_line_11 18 rfl rfl)
theorem dX4_line_304 : decode cX4_line 304 = .ok (.invokevirtual 74, 3) := dk_182 0 74 (dk_at dksX4_line_11 19 rfl rfl)
theorem dX4_line_307 : decode cX4_line 307 = .ok (.athrow, 1) := dk_191 (dk_at dksX4_line_11 22 rfl rfl)
theorem dX4_line_308 : decode cX4_line 308 = .ok (.aload_n 0, 1) := dk_42 (dk_at dksX4_line_11 23 rfl rfl)
theorem dX4_line_309 : decode cX4_line 309 = .ok (.dup, 1) := dk_89 (dk_at dksX4_line_12 0 rfl rfl)
theorem dX4_line_310 : decode cX4_line 310 = .ok (.getfield 26, 3) := dk_180 0 26 (dk_at dksX4_line_12 1 rfl rfl)
theorem dX4_line_313 : decode cX4_line 313 = .ok (.iconst 1, 1) := dk_4 (dk_at dksX4_line_12 4 rfl rfl)
theorem dX4_line_314 : decode cX4_line 314 = .ok (.iadd, 1) := dk_96 (dk_at dksX4_line_12 5 rfl rfl)
theorem dX4_line_315 : decode cX4_line 315 = .ok (.putfield 26, 3) := dk_181 0 26 (dk_at dksX4_line_12 6 rfl rfl)
theorem dX4_line_318 : decode cX4_line 318 = .ok (.return_, 1) := dk_177 (dk_at dksX4_line_12 9 rfl rfl)
abbrev cX4_word : ByteArray := prog_8_method_5_code
def yX4_word : MethodName := ⟨RX4, "word", "()V"⟩
def dkwX4_word_3 : List UInt8 := [10, 20, 0, 72, 184, 0, 33, 154, 0, 9, 42, 4, 182, 0, 74, 191, 177]
abbrev dktX4_word_3 : List UInt8 := dkwX4_word_3 ++ []
def dkwX4_word_2 : List UInt8 := [180, 0, 26, 4, 96, 181, 0, 26, 167, 255, 217, 42, 43, 182, 0, 60, 181, 0, 64, 43, 182, 0, 68, 133]
abbrev dktX4_word_2 : List UInt8 := dkwX4_word_2 ++ dktX4_word_3
def dkwX4_word_1 : List UInt8 := [153, 0, 34, 43, 42, 180, 0, 3, 180, 0, 29, 42, 180, 0, 26, 51, 146, 182, 0, 56, 87, 42, 89]
abbrev dktX4_word_1 : List UInt8 := dkwX4_word_1 ++ dktX4_word_2
def dkwX4_word_0 : List UInt8 := [187, 0, 49, 89, 183, 0, 51, 76, 42, 182, 0, 52, 154, 0, 45, 42, 16, 97, 16, 122, 182, 0, 37]
abbrev dktX4_word_0 : List UInt8 := dkwX4_word_0 ++ dktX4_word_1
theorem dksX4_word_0 : cX4_word.data.toList.drop 0 = dktX4_word_0 := by decide +kernel
theorem dksX4_word_1 : cX4_word.data.toList.drop 23 = dktX4_word_1 := dk_seg dksX4_word_0 23 rfl rfl
theorem dksX4_word_2 : cX4_word.data.toList.drop 46 = dktX4_word_2 := dk_seg dksX4_word_1 23 rfl rfl
theorem dksX4_word_3 : cX4_word.data.toList.drop 70 = dktX4_word_3 := dk_seg dksX4_word_2 24 rfl rfl
theorem dX4_word_0 : decode cX4_word 0 = .ok (.new 49, 3) := dk_187 0 49 (dk_at dksX4_word_0 0 rfl rfl)
theorem dX4_word_3 : decode cX4_word 3 = .ok (.dup, 1) := dk_89 (dk_at dksX4_word_0 3 rfl rfl)
theorem dX4_word_4 : decode cX4_word 4 = .ok (.invokespecial 51, 3) := dk_183 0 51 (dk_at dksX4_word_0 4 rfl rfl)
theorem dX4_word_7 : decode cX4_word 7 = .ok (.astore_n 1, 1) := dk_76 (dk_at dksX4_word_0 7 rfl rfl)
theorem dX4_word_8 : decode cX4_word 8 = .ok (.aload_n 0, 1) := dk_42 (dk_at dksX4_word_0 8 rfl rfl)
theorem dX4_word_9 : decode cX4_word 9 = .ok (.invokevirtual 52, 3) := dk_182 0 52 (dk_at dksX4_word_0 9 rfl rfl)
theorem dX4_word_12 : decode cX4_word 12 = .ok (.ifCond .ne 45, 3) := dk_154 0 45 (dk_at dksX4_word_0 12 rfl rfl)
theorem dX4_word_15 : decode cX4_word 15 = .ok (.aload_n 0, 1) := dk_42 (dk_at dksX4_word_0 15 rfl rfl)
theorem dX4_word_16 : decode cX4_word 16 = .ok (.bipush 97, 2) := dk_16 97 (dk_at dksX4_word_0 16 rfl rfl)
theorem dX4_word_18 : decode cX4_word 18 = .ok (.bipush 122, 2) := dk_16 122 (dk_at dksX4_word_0 18 rfl rfl)
theorem dX4_word_20 : decode cX4_word 20 = .ok (.invokevirtual 37, 3) := dk_182 0 37 (dk_at dksX4_word_0 20 rfl rfl)
theorem dX4_word_23 : decode cX4_word 23 = .ok (.ifCond .eq 34, 3) := dk_153 0 34 (dk_at dksX4_word_1 0 rfl rfl)
theorem dX4_word_26 : decode cX4_word 26 = .ok (.aload_n 1, 1) := dk_43 (dk_at dksX4_word_1 3 rfl rfl)
theorem dX4_word_27 : decode cX4_word 27 = .ok (.aload_n 0, 1) := dk_42 (dk_at dksX4_word_1 4 rfl rfl)
theorem dX4_word_28 : decode cX4_word 28 = .ok (.getfield 3, 3) := dk_180 0 3 (dk_at dksX4_word_1 5 rfl rfl)
theorem dX4_word_31 : decode cX4_word 31 = .ok (.getfield 29, 3) := dk_180 0 29 (dk_at dksX4_word_1 8 rfl rfl)
theorem dX4_word_34 : decode cX4_word 34 = .ok (.aload_n 0, 1) := dk_42 (dk_at dksX4_word_1 11 rfl rfl)
theorem dX4_word_35 : decode cX4_word 35 = .ok (.getfield 26, 3) := dk_180 0 26 (dk_at dksX4_word_1 12 rfl rfl)
theorem dX4_word_38 : decode cX4_word 38 = .ok (.baload, 1) := dk_51 (dk_at dksX4_word_1 15 rfl rfl)
theorem dX4_word_39 : decode cX4_word 39 = .ok (.i2c, 1) := dk_146 (dk_at dksX4_word_1 16 rfl rfl)
theorem dX4_word_40 : decode cX4_word 40 = .ok (.invokevirtual 56, 3) := dk_182 0 56 (dk_at dksX4_word_1 17 rfl rfl)
theorem dX4_word_43 : decode cX4_word 43 = .ok (.pop, 1) := dk_87 (dk_at dksX4_word_1 20 rfl rfl)
theorem dX4_word_44 : decode cX4_word 44 = .ok (.aload_n 0, 1) := dk_42 (dk_at dksX4_word_1 21 rfl rfl)
theorem dX4_word_45 : decode cX4_word 45 = .ok (.dup, 1) := dk_89 (dk_at dksX4_word_1 22 rfl rfl)
theorem dX4_word_46 : decode cX4_word 46 = .ok (.getfield 26, 3) := dk_180 0 26 (dk_at dksX4_word_2 0 rfl rfl)
theorem dX4_word_49 : decode cX4_word 49 = .ok (.iconst 1, 1) := dk_4 (dk_at dksX4_word_2 3 rfl rfl)
theorem dX4_word_50 : decode cX4_word 50 = .ok (.iadd, 1) := dk_96 (dk_at dksX4_word_2 4 rfl rfl)
theorem dX4_word_51 : decode cX4_word 51 = .ok (.putfield 26, 3) := dk_181 0 26 (dk_at dksX4_word_2 5 rfl rfl)
theorem dX4_word_54 : decode cX4_word 54 = .ok (.goto (-39), 3) := dk_167 255 217 (dk_at dksX4_word_2 8 rfl rfl)
theorem dX4_word_57 : decode cX4_word 57 = .ok (.aload_n 0, 1) := dk_42 (dk_at dksX4_word_2 11 rfl rfl)
theorem dX4_word_58 : decode cX4_word 58 = .ok (.aload_n 1, 1) := dk_43 (dk_at dksX4_word_2 12 rfl rfl)
theorem dX4_word_59 : decode cX4_word 59 = .ok (.invokevirtual 60, 3) := dk_182 0 60 (dk_at dksX4_word_2 13 rfl rfl)
theorem dX4_word_62 : decode cX4_word 62 = .ok (.putfield 64, 3) := dk_181 0 64 (dk_at dksX4_word_2 16 rfl rfl)
theorem dX4_word_65 : decode cX4_word 65 = .ok (.aload_n 1, 1) := dk_43 (dk_at dksX4_word_2 19 rfl rfl)
theorem dX4_word_66 : decode cX4_word 66 = .ok (.invokevirtual 68, 3) := dk_182 0 68 (dk_at dksX4_word_2 20 rfl rfl)
theorem dX4_word_69 : decode cX4_word 69 = .ok (.i2l, 1) := dk_133 (dk_at dksX4_word_2 23 rfl rfl)
theorem dX4_word_70 : decode cX4_word 70 = .ok (.lconst 1, 1) := dk_10 (dk_at dksX4_word_3 0 rfl rfl)
theorem dX4_word_71 : decode cX4_word 71 = .ok (.ldc2_w 72, 3) := dk_20 0 72 (dk_at dksX4_word_3 1 rfl rfl)
theorem dX4_word_74 : decode cX4_word 74 = .ok (.invokestatic 33, 3) := dk_184 0 33 (dk_at dksX4_word_3 4 rfl rfl)
theorem dX4_word_77 : decode cX4_word 77 = .ok (.ifCond .ne 9, 3) := dk_154 0 9 (dk_at dksX4_word_3 7 rfl rfl)
theorem dX4_word_80 : decode cX4_word 80 = .ok (.aload_n 0, 1) := dk_42 (dk_at dksX4_word_3 10 rfl rfl)
theorem dX4_word_81 : decode cX4_word 81 = .ok (.iconst 1, 1) := dk_4 (dk_at dksX4_word_3 11 rfl rfl)
theorem dX4_word_82 : decode cX4_word 82 = .ok (.invokevirtual 74, 3) := dk_182 0 74 (dk_at dksX4_word_3 12 rfl rfl)
theorem dX4_word_85 : decode cX4_word 85 = .ok (.athrow, 1) := dk_191 (dk_at dksX4_word_3 15 rfl rfl)
theorem dX4_word_86 : decode cX4_word 86 = .ok (.return_, 1) := dk_177 (dk_at dksX4_word_3 16 rfl rfl)
abbrev cX4_wrong : ByteArray := prog_8_method_4_code
def yX4_wrong : MethodName := ⟨RX4, "wrong", "(I)LSwapPress$Wrong;"⟩
def dkwX4_wrong_0 : List UInt8 := [187, 0, 44, 89, 27, 42, 180, 0, 41, 183, 0, 46, 176]
abbrev dktX4_wrong_0 : List UInt8 := dkwX4_wrong_0 ++ []
theorem dksX4_wrong_0 : cX4_wrong.data.toList.drop 0 = dktX4_wrong_0 := by decide +kernel
theorem dX4_wrong_0 : decode cX4_wrong 0 = .ok (.new 44, 3) := dk_187 0 44 (dk_at dksX4_wrong_0 0 rfl rfl)
theorem dX4_wrong_3 : decode cX4_wrong 3 = .ok (.dup, 1) := dk_89 (dk_at dksX4_wrong_0 3 rfl rfl)
theorem dX4_wrong_4 : decode cX4_wrong 4 = .ok (.iload_n 1, 1) := dk_27 (dk_at dksX4_wrong_0 4 rfl rfl)
theorem dX4_wrong_5 : decode cX4_wrong 5 = .ok (.aload_n 0, 1) := dk_42 (dk_at dksX4_wrong_0 5 rfl rfl)
theorem dX4_wrong_6 : decode cX4_wrong 6 = .ok (.getfield 41, 3) := dk_180 0 41 (dk_at dksX4_wrong_0 6 rfl rfl)
theorem dX4_wrong_9 : decode cX4_wrong 9 = .ok (.invokespecial 46, 3) := dk_183 0 46 (dk_at dksX4_wrong_0 9 rfl rfl)
theorem dX4_wrong_12 : decode cX4_wrong 12 = .ok (.areturn, 1) := dk_176 (dk_at dksX4_wrong_0 12 rfl rfl)
abbrev cX4_comes : ByteArray := prog_8_method_9_code
def yX4_comes : MethodName := ⟨RX4, "comes", "(Ljava/util/ArrayList;I)V"⟩
def dkwX4_comes_2 : List UInt8 := [182, 0, 99, 153, 0, 9, 42, 6, 182, 0, 74, 191, 43, 42, 180, 0, 64, 182, 0, 106, 87, 177]
abbrev dktX4_comes_2 : List UInt8 := dkwX4_comes_2 ++ []
def dkwX4_comes_1 : List UInt8 := [180, 0, 95, 42, 180, 0, 64, 182, 0, 99, 154, 0, 20, 42, 180, 0, 18, 180, 0, 103, 42, 180, 0, 64]
abbrev dktX4_comes_1 : List UInt8 := dkwX4_comes_1 ++ dktX4_comes_2
def dkwX4_comes_0 : List UInt8 := [43, 182, 0, 93, 28, 160, 0, 9, 42, 7, 182, 0, 74, 191, 42, 182, 0, 84, 42, 180, 0, 18]
abbrev dktX4_comes_0 : List UInt8 := dkwX4_comes_0 ++ dktX4_comes_1
theorem dksX4_comes_0 : cX4_comes.data.toList.drop 0 = dktX4_comes_0 := by decide +kernel
theorem dksX4_comes_1 : cX4_comes.data.toList.drop 22 = dktX4_comes_1 := dk_seg dksX4_comes_0 22 rfl rfl
theorem dksX4_comes_2 : cX4_comes.data.toList.drop 46 = dktX4_comes_2 := dk_seg dksX4_comes_1 24 rfl rfl
theorem dX4_comes_0 : decode cX4_comes 0 = .ok (.aload_n 1, 1) := dk_43 (dk_at dksX4_comes_0 0 rfl rfl)
theorem dX4_comes_1 : decode cX4_comes 1 = .ok (.invokevirtual 93, 3) := dk_182 0 93 (dk_at dksX4_comes_0 1 rfl rfl)
theorem dX4_comes_4 : decode cX4_comes 4 = .ok (.iload_n 2, 1) := dk_28 (dk_at dksX4_comes_0 4 rfl rfl)
theorem dX4_comes_5 : decode cX4_comes 5 = .ok (.if_icmp .ne 9, 3) := dk_160 0 9 (dk_at dksX4_comes_0 5 rfl rfl)
theorem dX4_comes_8 : decode cX4_comes 8 = .ok (.aload_n 0, 1) := dk_42 (dk_at dksX4_comes_0 8 rfl rfl)
theorem dX4_comes_9 : decode cX4_comes 9 = .ok (.iconst 4, 1) := dk_7 (dk_at dksX4_comes_0 9 rfl rfl)
theorem dX4_comes_10 : decode cX4_comes 10 = .ok (.invokevirtual 74, 3) := dk_182 0 74 (dk_at dksX4_comes_0 10 rfl rfl)
theorem dX4_comes_13 : decode cX4_comes 13 = .ok (.athrow, 1) := dk_191 (dk_at dksX4_comes_0 13 rfl rfl)
theorem dX4_comes_14 : decode cX4_comes 14 = .ok (.aload_n 0, 1) := dk_42 (dk_at dksX4_comes_0 14 rfl rfl)
theorem dX4_comes_15 : decode cX4_comes 15 = .ok (.invokevirtual 84, 3) := dk_182 0 84 (dk_at dksX4_comes_0 15 rfl rfl)
theorem dX4_comes_18 : decode cX4_comes 18 = .ok (.aload_n 0, 1) := dk_42 (dk_at dksX4_comes_0 18 rfl rfl)
theorem dX4_comes_19 : decode cX4_comes 19 = .ok (.getfield 18, 3) := dk_180 0 18 (dk_at dksX4_comes_0 19 rfl rfl)
theorem dX4_comes_22 : decode cX4_comes 22 = .ok (.getfield 95, 3) := dk_180 0 95 (dk_at dksX4_comes_1 0 rfl rfl)
theorem dX4_comes_25 : decode cX4_comes 25 = .ok (.aload_n 0, 1) := dk_42 (dk_at dksX4_comes_1 3 rfl rfl)
theorem dX4_comes_26 : decode cX4_comes 26 = .ok (.getfield 64, 3) := dk_180 0 64 (dk_at dksX4_comes_1 4 rfl rfl)
theorem dX4_comes_29 : decode cX4_comes 29 = .ok (.invokevirtual 99, 3) := dk_182 0 99 (dk_at dksX4_comes_1 7 rfl rfl)
theorem dX4_comes_32 : decode cX4_comes 32 = .ok (.ifCond .ne 20, 3) := dk_154 0 20 (dk_at dksX4_comes_1 10 rfl rfl)
theorem dX4_comes_35 : decode cX4_comes 35 = .ok (.aload_n 0, 1) := dk_42 (dk_at dksX4_comes_1 13 rfl rfl)
theorem dX4_comes_36 : decode cX4_comes 36 = .ok (.getfield 18, 3) := dk_180 0 18 (dk_at dksX4_comes_1 14 rfl rfl)
theorem dX4_comes_39 : decode cX4_comes 39 = .ok (.getfield 103, 3) := dk_180 0 103 (dk_at dksX4_comes_1 17 rfl rfl)
theorem dX4_comes_42 : decode cX4_comes 42 = .ok (.aload_n 0, 1) := dk_42 (dk_at dksX4_comes_1 20 rfl rfl)
theorem dX4_comes_43 : decode cX4_comes 43 = .ok (.getfield 64, 3) := dk_180 0 64 (dk_at dksX4_comes_1 21 rfl rfl)
theorem dX4_comes_46 : decode cX4_comes 46 = .ok (.invokevirtual 99, 3) := dk_182 0 99 (dk_at dksX4_comes_2 0 rfl rfl)
theorem dX4_comes_49 : decode cX4_comes 49 = .ok (.ifCond .eq 9, 3) := dk_153 0 9 (dk_at dksX4_comes_2 3 rfl rfl)
theorem dX4_comes_52 : decode cX4_comes 52 = .ok (.aload_n 0, 1) := dk_42 (dk_at dksX4_comes_2 6 rfl rfl)
theorem dX4_comes_53 : decode cX4_comes 53 = .ok (.iconst 3, 1) := dk_6 (dk_at dksX4_comes_2 7 rfl rfl)
theorem dX4_comes_54 : decode cX4_comes 54 = .ok (.invokevirtual 74, 3) := dk_182 0 74 (dk_at dksX4_comes_2 8 rfl rfl)
theorem dX4_comes_57 : decode cX4_comes 57 = .ok (.athrow, 1) := dk_191 (dk_at dksX4_comes_2 11 rfl rfl)
theorem dX4_comes_58 : decode cX4_comes 58 = .ok (.aload_n 1, 1) := dk_43 (dk_at dksX4_comes_2 12 rfl rfl)
theorem dX4_comes_59 : decode cX4_comes 59 = .ok (.aload_n 0, 1) := dk_42 (dk_at dksX4_comes_2 13 rfl rfl)
theorem dX4_comes_60 : decode cX4_comes 60 = .ok (.getfield 64, 3) := dk_180 0 64 (dk_at dksX4_comes_2 14 rfl rfl)
theorem dX4_comes_63 : decode cX4_comes 63 = .ok (.invokevirtual 106, 3) := dk_182 0 106 (dk_at dksX4_comes_2 17 rfl rfl)
theorem dX4_comes_66 : decode cX4_comes 66 = .ok (.pop, 1) := dk_87 (dk_at dksX4_comes_2 20 rfl rfl)
theorem dX4_comes_67 : decode cX4_comes 67 = .ok (.return_, 1) := dk_177 (dk_at dksX4_comes_2 21 rfl rfl)
abbrev cX4_name : ByteArray := prog_8_method_7_code
def yX4_name : MethodName := ⟨RX4, "name", "()V"⟩
def dkwX4_name_0 : List UInt8 := [42, 182, 0, 78, 42, 180, 0, 64, 184, 0, 80, 153, 0, 9, 42, 4, 182, 0, 74, 191, 177]
abbrev dktX4_name_0 : List UInt8 := dkwX4_name_0 ++ []
theorem dksX4_name_0 : cX4_name.data.toList.drop 0 = dktX4_name_0 := by decide +kernel
theorem dX4_name_0 : decode cX4_name 0 = .ok (.aload_n 0, 1) := dk_42 (dk_at dksX4_name_0 0 rfl rfl)
theorem dX4_name_1 : decode cX4_name 1 = .ok (.invokevirtual 78, 3) := dk_182 0 78 (dk_at dksX4_name_0 1 rfl rfl)
theorem dX4_name_4 : decode cX4_name 4 = .ok (.aload_n 0, 1) := dk_42 (dk_at dksX4_name_0 4 rfl rfl)
theorem dX4_name_5 : decode cX4_name 5 = .ok (.getfield 64, 3) := dk_180 0 64 (dk_at dksX4_name_0 5 rfl rfl)
theorem dX4_name_8 : decode cX4_name 8 = .ok (.invokestatic 80, 3) := dk_184 0 80 (dk_at dksX4_name_0 8 rfl rfl)
theorem dX4_name_11 : decode cX4_name 11 = .ok (.ifCond .eq 9, 3) := dk_153 0 9 (dk_at dksX4_name_0 11 rfl rfl)
theorem dX4_name_14 : decode cX4_name 14 = .ok (.aload_n 0, 1) := dk_42 (dk_at dksX4_name_0 14 rfl rfl)
theorem dX4_name_15 : decode cX4_name 15 = .ok (.iconst 1, 1) := dk_4 (dk_at dksX4_name_0 15 rfl rfl)
theorem dX4_name_16 : decode cX4_name 16 = .ok (.invokevirtual 74, 3) := dk_182 0 74 (dk_at dksX4_name_0 16 rfl rfl)
theorem dX4_name_19 : decode cX4_name 19 = .ok (.athrow, 1) := dk_191 (dk_at dksX4_name_0 19 rfl rfl)
theorem dX4_name_20 : decode cX4_name 20 = .ok (.return_, 1) := dk_177 (dk_at dksX4_name_0 20 rfl rfl)
abbrev cX4_trade : ByteArray := prog_8_method_11_code
def yX4_trade : MethodName := ⟨RX4, "trade", "()V"⟩
def dkwX4_trade_3 : List UInt8 := [182, 0, 109, 3, 183, 0, 127, 182, 0, 106, 87, 177]
abbrev dktX4_trade_3 : List UInt8 := dkwX4_trade_3 ++ []
def dkwX4_trade_2 : List UInt8 := [42, 180, 0, 18, 180, 0, 113, 187, 0, 125, 89, 27, 28, 29, 42, 42, 180, 0, 18, 180, 0, 103]
abbrev dktX4_trade_2 : List UInt8 := dkwX4_trade_2 ++ dktX4_trade_3
def dkwX4_trade_1 : List UInt8 := [180, 0, 18, 180, 0, 95, 182, 0, 109, 60, 42, 27, 182, 0, 116, 61, 42, 4, 18, 120, 182, 0, 121, 62]
abbrev dktX4_trade_1 : List UInt8 := dkwX4_trade_1 ++ dktX4_trade_2
def dkwX4_trade_0 : List UInt8 := [42, 180, 0, 18, 180, 0, 113, 182, 0, 93, 16, 40, 160, 0, 9, 42, 7, 182, 0, 74, 191, 42, 42]
abbrev dktX4_trade_0 : List UInt8 := dkwX4_trade_0 ++ dktX4_trade_1
theorem dksX4_trade_0 : cX4_trade.data.toList.drop 0 = dktX4_trade_0 := by decide +kernel
theorem dksX4_trade_1 : cX4_trade.data.toList.drop 23 = dktX4_trade_1 := dk_seg dksX4_trade_0 23 rfl rfl
theorem dksX4_trade_2 : cX4_trade.data.toList.drop 47 = dktX4_trade_2 := dk_seg dksX4_trade_1 24 rfl rfl
theorem dksX4_trade_3 : cX4_trade.data.toList.drop 69 = dktX4_trade_3 := dk_seg dksX4_trade_2 22 rfl rfl
theorem dX4_trade_0 : decode cX4_trade 0 = .ok (.aload_n 0, 1) := dk_42 (dk_at dksX4_trade_0 0 rfl rfl)
theorem dX4_trade_1 : decode cX4_trade 1 = .ok (.getfield 18, 3) := dk_180 0 18 (dk_at dksX4_trade_0 1 rfl rfl)
theorem dX4_trade_4 : decode cX4_trade 4 = .ok (.getfield 113, 3) := dk_180 0 113 (dk_at dksX4_trade_0 4 rfl rfl)
theorem dX4_trade_7 : decode cX4_trade 7 = .ok (.invokevirtual 93, 3) := dk_182 0 93 (dk_at dksX4_trade_0 7 rfl rfl)
theorem dX4_trade_10 : decode cX4_trade 10 = .ok (.bipush 40, 2) := dk_16 40 (dk_at dksX4_trade_0 10 rfl rfl)
theorem dX4_trade_12 : decode cX4_trade 12 = .ok (.if_icmp .ne 9, 3) := dk_160 0 9 (dk_at dksX4_trade_0 12 rfl rfl)
theorem dX4_trade_15 : decode cX4_trade 15 = .ok (.aload_n 0, 1) := dk_42 (dk_at dksX4_trade_0 15 rfl rfl)
theorem dX4_trade_16 : decode cX4_trade 16 = .ok (.iconst 4, 1) := dk_7 (dk_at dksX4_trade_0 16 rfl rfl)
theorem dX4_trade_17 : decode cX4_trade 17 = .ok (.invokevirtual 74, 3) := dk_182 0 74 (dk_at dksX4_trade_0 17 rfl rfl)
theorem dX4_trade_20 : decode cX4_trade 20 = .ok (.athrow, 1) := dk_191 (dk_at dksX4_trade_0 20 rfl rfl)
theorem dX4_trade_21 : decode cX4_trade 21 = .ok (.aload_n 0, 1) := dk_42 (dk_at dksX4_trade_0 21 rfl rfl)
theorem dX4_trade_22 : decode cX4_trade 22 = .ok (.aload_n 0, 1) := dk_42 (dk_at dksX4_trade_0 22 rfl rfl)
theorem dX4_trade_23 : decode cX4_trade 23 = .ok (.getfield 18, 3) := dk_180 0 18 (dk_at dksX4_trade_1 0 rfl rfl)
theorem dX4_trade_26 : decode cX4_trade 26 = .ok (.getfield 95, 3) := dk_180 0 95 (dk_at dksX4_trade_1 3 rfl rfl)
theorem dX4_trade_29 : decode cX4_trade 29 = .ok (.invokevirtual 109, 3) := dk_182 0 109 (dk_at dksX4_trade_1 6 rfl rfl)
theorem dX4_trade_32 : decode cX4_trade 32 = .ok (.istore_n 1, 1) := dk_60 (dk_at dksX4_trade_1 9 rfl rfl)
theorem dX4_trade_33 : decode cX4_trade 33 = .ok (.aload_n 0, 1) := dk_42 (dk_at dksX4_trade_1 10 rfl rfl)
theorem dX4_trade_34 : decode cX4_trade 34 = .ok (.iload_n 1, 1) := dk_27 (dk_at dksX4_trade_1 11 rfl rfl)
theorem dX4_trade_35 : decode cX4_trade 35 = .ok (.invokevirtual 116, 3) := dk_182 0 116 (dk_at dksX4_trade_1 12 rfl rfl)
theorem dX4_trade_38 : decode cX4_trade 38 = .ok (.istore_n 2, 1) := dk_61 (dk_at dksX4_trade_1 15 rfl rfl)
theorem dX4_trade_39 : decode cX4_trade 39 = .ok (.aload_n 0, 1) := dk_42 (dk_at dksX4_trade_1 16 rfl rfl)
theorem dX4_trade_40 : decode cX4_trade 40 = .ok (.iconst 1, 1) := dk_4 (dk_at dksX4_trade_1 17 rfl rfl)
theorem dX4_trade_41 : decode cX4_trade 41 = .ok (.ldc 120, 2) := dk_18 120 (dk_at dksX4_trade_1 18 rfl rfl)
theorem dX4_trade_43 : decode cX4_trade 43 = .ok (.invokevirtual 121, 3) := dk_182 0 121 (dk_at dksX4_trade_1 20 rfl rfl)
theorem dX4_trade_46 : decode cX4_trade 46 = .ok (.istore_n 3, 1) := dk_62 (dk_at dksX4_trade_1 23 rfl rfl)
theorem dX4_trade_47 : decode cX4_trade 47 = .ok (.aload_n 0, 1) := dk_42 (dk_at dksX4_trade_2 0 rfl rfl)
theorem dX4_trade_48 : decode cX4_trade 48 = .ok (.getfield 18, 3) := dk_180 0 18 (dk_at dksX4_trade_2 1 rfl rfl)
theorem dX4_trade_51 : decode cX4_trade 51 = .ok (.getfield 113, 3) := dk_180 0 113 (dk_at dksX4_trade_2 4 rfl rfl)
theorem dX4_trade_54 : decode cX4_trade 54 = .ok (.new 125, 3) := dk_187 0 125 (dk_at dksX4_trade_2 7 rfl rfl)
theorem dX4_trade_57 : decode cX4_trade 57 = .ok (.dup, 1) := dk_89 (dk_at dksX4_trade_2 10 rfl rfl)
theorem dX4_trade_58 : decode cX4_trade 58 = .ok (.iload_n 1, 1) := dk_27 (dk_at dksX4_trade_2 11 rfl rfl)
theorem dX4_trade_59 : decode cX4_trade 59 = .ok (.iload_n 2, 1) := dk_28 (dk_at dksX4_trade_2 12 rfl rfl)
theorem dX4_trade_60 : decode cX4_trade 60 = .ok (.iload_n 3, 1) := dk_29 (dk_at dksX4_trade_2 13 rfl rfl)
theorem dX4_trade_61 : decode cX4_trade 61 = .ok (.aload_n 0, 1) := dk_42 (dk_at dksX4_trade_2 14 rfl rfl)
theorem dX4_trade_62 : decode cX4_trade 62 = .ok (.aload_n 0, 1) := dk_42 (dk_at dksX4_trade_2 15 rfl rfl)
theorem dX4_trade_63 : decode cX4_trade 63 = .ok (.getfield 18, 3) := dk_180 0 18 (dk_at dksX4_trade_2 16 rfl rfl)
theorem dX4_trade_66 : decode cX4_trade 66 = .ok (.getfield 103, 3) := dk_180 0 103 (dk_at dksX4_trade_2 19 rfl rfl)
theorem dX4_trade_69 : decode cX4_trade 69 = .ok (.invokevirtual 109, 3) := dk_182 0 109 (dk_at dksX4_trade_3 0 rfl rfl)
theorem dX4_trade_72 : decode cX4_trade 72 = .ok (.iconst 0, 1) := dk_3 (dk_at dksX4_trade_3 3 rfl rfl)
theorem dX4_trade_73 : decode cX4_trade 73 = .ok (.invokespecial 127, 3) := dk_183 0 127 (dk_at dksX4_trade_3 4 rfl rfl)
theorem dX4_trade_76 : decode cX4_trade 76 = .ok (.invokevirtual 106, 3) := dk_182 0 106 (dk_at dksX4_trade_3 7 rfl rfl)
theorem dX4_trade_79 : decode cX4_trade 79 = .ok (.pop, 1) := dk_87 (dk_at dksX4_trade_3 10 rfl rfl)
theorem dX4_trade_80 : decode cX4_trade 80 = .ok (.return_, 1) := dk_177 (dk_at dksX4_trade_3 11 rfl rfl)
abbrev cX4_named : ByteArray := prog_8_method_8_code
def yX4_named : MethodName := ⟨RX4, "named", "(Ljava/util/ArrayList;)I"⟩
def dkwX4_named_1 : List UInt8 := [172]
abbrev dktX4_named_1 : List UInt8 := dkwX4_named_1 ++ []
def dkwX4_named_0 : List UInt8 := [42, 182, 0, 84, 43, 42, 180, 0, 64, 182, 0, 87, 61, 28, 156, 0, 9, 42, 6, 182, 0, 74, 191, 28]
abbrev dktX4_named_0 : List UInt8 := dkwX4_named_0 ++ dktX4_named_1
theorem dksX4_named_0 : cX4_named.data.toList.drop 0 = dktX4_named_0 := by decide +kernel
theorem dksX4_named_1 : cX4_named.data.toList.drop 24 = dktX4_named_1 := dk_seg dksX4_named_0 24 rfl rfl
theorem dX4_named_0 : decode cX4_named 0 = .ok (.aload_n 0, 1) := dk_42 (dk_at dksX4_named_0 0 rfl rfl)
theorem dX4_named_1 : decode cX4_named 1 = .ok (.invokevirtual 84, 3) := dk_182 0 84 (dk_at dksX4_named_0 1 rfl rfl)
theorem dX4_named_4 : decode cX4_named 4 = .ok (.aload_n 1, 1) := dk_43 (dk_at dksX4_named_0 4 rfl rfl)
theorem dX4_named_5 : decode cX4_named 5 = .ok (.aload_n 0, 1) := dk_42 (dk_at dksX4_named_0 5 rfl rfl)
theorem dX4_named_6 : decode cX4_named 6 = .ok (.getfield 64, 3) := dk_180 0 64 (dk_at dksX4_named_0 6 rfl rfl)
theorem dX4_named_9 : decode cX4_named 9 = .ok (.invokevirtual 87, 3) := dk_182 0 87 (dk_at dksX4_named_0 9 rfl rfl)
theorem dX4_named_12 : decode cX4_named 12 = .ok (.istore_n 2, 1) := dk_61 (dk_at dksX4_named_0 12 rfl rfl)
theorem dX4_named_13 : decode cX4_named 13 = .ok (.iload_n 2, 1) := dk_28 (dk_at dksX4_named_0 13 rfl rfl)
theorem dX4_named_14 : decode cX4_named 14 = .ok (.ifCond .ge 9, 3) := dk_156 0 9 (dk_at dksX4_named_0 14 rfl rfl)
theorem dX4_named_17 : decode cX4_named 17 = .ok (.aload_n 0, 1) := dk_42 (dk_at dksX4_named_0 17 rfl rfl)
theorem dX4_named_18 : decode cX4_named 18 = .ok (.iconst 3, 1) := dk_6 (dk_at dksX4_named_0 18 rfl rfl)
theorem dX4_named_19 : decode cX4_named 19 = .ok (.invokevirtual 74, 3) := dk_182 0 74 (dk_at dksX4_named_0 19 rfl rfl)
theorem dX4_named_22 : decode cX4_named 22 = .ok (.athrow, 1) := dk_191 (dk_at dksX4_named_0 22 rfl rfl)
theorem dX4_named_23 : decode cX4_named 23 = .ok (.iload_n 2, 1) := dk_28 (dk_at dksX4_named_0 23 rfl rfl)
theorem dX4_named_24 : decode cX4_named 24 = .ok (.ireturn, 1) := dk_172 (dk_at dksX4_named_1 0 rfl rfl)
abbrev cX4_other : ByteArray := prog_8_method_10_code
def yX4_other : MethodName := ⟨RX4, "other", "(I)I"⟩
def dkwX4_other_1 : List UInt8 := [172]
abbrev dktX4_other_1 : List UInt8 := dkwX4_other_1 ++ []
def dkwX4_other_0 : List UInt8 := [42, 42, 180, 0, 18, 180, 0, 95, 182, 0, 109, 61, 28, 27, 160, 0, 9, 42, 8, 182, 0, 74, 191, 28]
abbrev dktX4_other_0 : List UInt8 := dkwX4_other_0 ++ dktX4_other_1
theorem dksX4_other_0 : cX4_other.data.toList.drop 0 = dktX4_other_0 := by decide +kernel
theorem dksX4_other_1 : cX4_other.data.toList.drop 24 = dktX4_other_1 := dk_seg dksX4_other_0 24 rfl rfl
theorem dX4_other_0 : decode cX4_other 0 = .ok (.aload_n 0, 1) := dk_42 (dk_at dksX4_other_0 0 rfl rfl)
theorem dX4_other_1 : decode cX4_other 1 = .ok (.aload_n 0, 1) := dk_42 (dk_at dksX4_other_0 1 rfl rfl)
theorem dX4_other_2 : decode cX4_other 2 = .ok (.getfield 18, 3) := dk_180 0 18 (dk_at dksX4_other_0 2 rfl rfl)
theorem dX4_other_5 : decode cX4_other 5 = .ok (.getfield 95, 3) := dk_180 0 95 (dk_at dksX4_other_0 5 rfl rfl)
theorem dX4_other_8 : decode cX4_other 8 = .ok (.invokevirtual 109, 3) := dk_182 0 109 (dk_at dksX4_other_0 8 rfl rfl)
theorem dX4_other_11 : decode cX4_other 11 = .ok (.istore_n 2, 1) := dk_61 (dk_at dksX4_other_0 11 rfl rfl)
theorem dX4_other_12 : decode cX4_other 12 = .ok (.iload_n 2, 1) := dk_28 (dk_at dksX4_other_0 12 rfl rfl)
theorem dX4_other_13 : decode cX4_other 13 = .ok (.iload_n 1, 1) := dk_27 (dk_at dksX4_other_0 13 rfl rfl)
theorem dX4_other_14 : decode cX4_other 14 = .ok (.if_icmp .ne 9, 3) := dk_160 0 9 (dk_at dksX4_other_0 14 rfl rfl)
theorem dX4_other_17 : decode cX4_other 17 = .ok (.aload_n 0, 1) := dk_42 (dk_at dksX4_other_0 17 rfl rfl)
theorem dX4_other_18 : decode cX4_other 18 = .ok (.iconst 5, 1) := dk_8 (dk_at dksX4_other_0 18 rfl rfl)
theorem dX4_other_19 : decode cX4_other 19 = .ok (.invokevirtual 74, 3) := dk_182 0 74 (dk_at dksX4_other_0 19 rfl rfl)
theorem dX4_other_22 : decode cX4_other 22 = .ok (.athrow, 1) := dk_191 (dk_at dksX4_other_0 22 rfl rfl)
theorem dX4_other_23 : decode cX4_other 23 = .ok (.iload_n 2, 1) := dk_28 (dk_at dksX4_other_0 23 rfl rfl)
theorem dX4_other_24 : decode cX4_other 24 = .ok (.ireturn, 1) := dk_172 (dk_at dksX4_other_1 0 rfl rfl)
abbrev cX4_number : ByteArray := prog_8_method_6_code
def yX4_number : MethodName := ⟨RX4, "number", "(II)I"⟩
def dkwX4_number_5 : List UInt8 := [182, 0, 74, 191, 29, 172]
abbrev dktX4_number_5 : List UInt8 := dkwX4_number_5 ++ []
def dkwX4_number_4 : List UInt8 := [180, 0, 41, 100, 16, 8, 163, 0, 15, 29, 133, 27, 133, 28, 133, 184, 0, 33, 154, 0, 9, 42, 5]
abbrev dktX4_number_4 : List UInt8 := dkwX4_number_4 ++ dktX4_number_5
def dkwX4_number_3 : List UInt8 := [167, 0, 4, 29, 62, 42, 89, 180, 0, 26, 4, 96, 181, 0, 26, 167, 255, 196, 42, 180, 0, 26, 42]
abbrev dktX4_number_3 : List UInt8 := dkwX4_number_3 ++ dktX4_number_4
def dkwX4_number_2 : List UInt8 := [162, 0, 26, 16, 10, 29, 104, 42, 180, 0, 3, 180, 0, 29, 42, 180, 0, 26, 51, 96, 16, 48, 100]
abbrev dktX4_number_2 : List UInt8 := dkwX4_number_2 ++ dktX4_number_3
def dkwX4_number_1 : List UInt8 := [3, 62, 42, 16, 48, 16, 57, 182, 0, 37, 153, 0, 55, 42, 180, 0, 26, 42, 180, 0, 41, 100, 16, 8]
abbrev dktX4_number_1 : List UInt8 := dkwX4_number_1 ++ dktX4_number_2
def dkwX4_number_0 : List UInt8 := [42, 182, 0, 52, 154, 0, 14, 42, 16, 48, 16, 57, 182, 0, 37, 154, 0, 9, 42, 4, 182, 0, 74, 191]
abbrev dktX4_number_0 : List UInt8 := dkwX4_number_0 ++ dktX4_number_1
theorem dksX4_number_0 : cX4_number.data.toList.drop 0 = dktX4_number_0 := by decide +kernel
theorem dksX4_number_1 : cX4_number.data.toList.drop 24 = dktX4_number_1 := dk_seg dksX4_number_0 24 rfl rfl
theorem dksX4_number_2 : cX4_number.data.toList.drop 48 = dktX4_number_2 := dk_seg dksX4_number_1 24 rfl rfl
theorem dksX4_number_3 : cX4_number.data.toList.drop 71 = dktX4_number_3 := dk_seg dksX4_number_2 23 rfl rfl
theorem dksX4_number_4 : cX4_number.data.toList.drop 94 = dktX4_number_4 := dk_seg dksX4_number_3 23 rfl rfl
theorem dksX4_number_5 : cX4_number.data.toList.drop 117 = dktX4_number_5 := dk_seg dksX4_number_4 23 rfl rfl
theorem dX4_number_0 : decode cX4_number 0 = .ok (.aload_n 0, 1) := dk_42 (dk_at dksX4_number_0 0 rfl rfl)
theorem dX4_number_1 : decode cX4_number 1 = .ok (.invokevirtual 52, 3) := dk_182 0 52 (dk_at dksX4_number_0 1 rfl rfl)
theorem dX4_number_4 : decode cX4_number 4 = .ok (.ifCond .ne 14, 3) := dk_154 0 14 (dk_at dksX4_number_0 4 rfl rfl)
theorem dX4_number_7 : decode cX4_number 7 = .ok (.aload_n 0, 1) := dk_42 (dk_at dksX4_number_0 7 rfl rfl)
theorem dX4_number_8 : decode cX4_number 8 = .ok (.bipush 48, 2) := dk_16 48 (dk_at dksX4_number_0 8 rfl rfl)
theorem dX4_number_10 : decode cX4_number 10 = .ok (.bipush 57, 2) := dk_16 57 (dk_at dksX4_number_0 10 rfl rfl)
theorem dX4_number_12 : decode cX4_number 12 = .ok (.invokevirtual 37, 3) := dk_182 0 37 (dk_at dksX4_number_0 12 rfl rfl)
theorem dX4_number_15 : decode cX4_number 15 = .ok (.ifCond .ne 9, 3) := dk_154 0 9 (dk_at dksX4_number_0 15 rfl rfl)
theorem dX4_number_18 : decode cX4_number 18 = .ok (.aload_n 0, 1) := dk_42 (dk_at dksX4_number_0 18 rfl rfl)
theorem dX4_number_19 : decode cX4_number 19 = .ok (.iconst 1, 1) := dk_4 (dk_at dksX4_number_0 19 rfl rfl)
theorem dX4_number_20 : decode cX4_number 20 = .ok (.invokevirtual 74, 3) := dk_182 0 74 (dk_at dksX4_number_0 20 rfl rfl)
theorem dX4_number_23 : decode cX4_number 23 = .ok (.athrow, 1) := dk_191 (dk_at dksX4_number_0 23 rfl rfl)
theorem dX4_number_24 : decode cX4_number 24 = .ok (.iconst 0, 1) := dk_3 (dk_at dksX4_number_1 0 rfl rfl)
theorem dX4_number_25 : decode cX4_number 25 = .ok (.istore_n 3, 1) := dk_62 (dk_at dksX4_number_1 1 rfl rfl)
theorem dX4_number_26 : decode cX4_number 26 = .ok (.aload_n 0, 1) := dk_42 (dk_at dksX4_number_1 2 rfl rfl)
theorem dX4_number_27 : decode cX4_number 27 = .ok (.bipush 48, 2) := dk_16 48 (dk_at dksX4_number_1 3 rfl rfl)
theorem dX4_number_29 : decode cX4_number 29 = .ok (.bipush 57, 2) := dk_16 57 (dk_at dksX4_number_1 5 rfl rfl)
theorem dX4_number_31 : decode cX4_number 31 = .ok (.invokevirtual 37, 3) := dk_182 0 37 (dk_at dksX4_number_1 7 rfl rfl)
theorem dX4_number_34 : decode cX4_number 34 = .ok (.ifCond .eq 55, 3) := dk_153 0 55 (dk_at dksX4_number_1 10 rfl rfl)
theorem dX4_number_37 : decode cX4_number 37 = .ok (.aload_n 0, 1) := dk_42 (dk_at dksX4_number_1 13 rfl rfl)
theorem dX4_number_38 : decode cX4_number 38 = .ok (.getfield 26, 3) := dk_180 0 26 (dk_at dksX4_number_1 14 rfl rfl)
theorem dX4_number_41 : decode cX4_number 41 = .ok (.aload_n 0, 1) := dk_42 (dk_at dksX4_number_1 17 rfl rfl)
theorem dX4_number_42 : decode cX4_number 42 = .ok (.getfield 41, 3) := dk_180 0 41 (dk_at dksX4_number_1 18 rfl rfl)
theorem dX4_number_45 : decode cX4_number 45 = .ok (.isub, 1) := dk_100 (dk_at dksX4_number_1 21 rfl rfl)
theorem dX4_number_46 : decode cX4_number 46 = .ok (.bipush 8, 2) := dk_16 8 (dk_at dksX4_number_1 22 rfl rfl)
theorem dX4_number_48 : decode cX4_number 48 = .ok (.if_icmp .ge 26, 3) := dk_162 0 26 (dk_at dksX4_number_2 0 rfl rfl)
theorem dX4_number_51 : decode cX4_number 51 = .ok (.bipush 10, 2) := dk_16 10 (dk_at dksX4_number_2 3 rfl rfl)
theorem dX4_number_53 : decode cX4_number 53 = .ok (.iload_n 3, 1) := dk_29 (dk_at dksX4_number_2 5 rfl rfl)
theorem dX4_number_54 : decode cX4_number 54 = .ok (.imul, 1) := dk_104 (dk_at dksX4_number_2 6 rfl rfl)
theorem dX4_number_55 : decode cX4_number 55 = .ok (.aload_n 0, 1) := dk_42 (dk_at dksX4_number_2 7 rfl rfl)
theorem dX4_number_56 : decode cX4_number 56 = .ok (.getfield 3, 3) := dk_180 0 3 (dk_at dksX4_number_2 8 rfl rfl)
theorem dX4_number_59 : decode cX4_number 59 = .ok (.getfield 29, 3) := dk_180 0 29 (dk_at dksX4_number_2 11 rfl rfl)
theorem dX4_number_62 : decode cX4_number 62 = .ok (.aload_n 0, 1) := dk_42 (dk_at dksX4_number_2 14 rfl rfl)
theorem dX4_number_63 : decode cX4_number 63 = .ok (.getfield 26, 3) := dk_180 0 26 (dk_at dksX4_number_2 15 rfl rfl)
theorem dX4_number_66 : decode cX4_number 66 = .ok (.baload, 1) := dk_51 (dk_at dksX4_number_2 18 rfl rfl)
theorem dX4_number_67 : decode cX4_number 67 = .ok (.iadd, 1) := dk_96 (dk_at dksX4_number_2 19 rfl rfl)
theorem dX4_number_68 : decode cX4_number 68 = .ok (.bipush 48, 2) := dk_16 48 (dk_at dksX4_number_2 20 rfl rfl)
theorem dX4_number_70 : decode cX4_number 70 = .ok (.isub, 1) := dk_100 (dk_at dksX4_number_2 22 rfl rfl)
theorem dX4_number_71 : decode cX4_number 71 = .ok (.goto 4, 3) := dk_167 0 4 (dk_at dksX4_number_3 0 rfl rfl)
theorem dX4_number_74 : decode cX4_number 74 = .ok (.iload_n 3, 1) := dk_29 (dk_at dksX4_number_3 3 rfl rfl)
theorem dX4_number_75 : decode cX4_number 75 = .ok (.istore_n 3, 1) := dk_62 (dk_at dksX4_number_3 4 rfl rfl)
theorem dX4_number_76 : decode cX4_number 76 = .ok (.aload_n 0, 1) := dk_42 (dk_at dksX4_number_3 5 rfl rfl)
theorem dX4_number_77 : decode cX4_number 77 = .ok (.dup, 1) := dk_89 (dk_at dksX4_number_3 6 rfl rfl)
theorem dX4_number_78 : decode cX4_number 78 = .ok (.getfield 26, 3) := dk_180 0 26 (dk_at dksX4_number_3 7 rfl rfl)
theorem dX4_number_81 : decode cX4_number 81 = .ok (.iconst 1, 1) := dk_4 (dk_at dksX4_number_3 10 rfl rfl)
theorem dX4_number_82 : decode cX4_number 82 = .ok (.iadd, 1) := dk_96 (dk_at dksX4_number_3 11 rfl rfl)
theorem dX4_number_83 : decode cX4_number 83 = .ok (.putfield 26, 3) := dk_181 0 26 (dk_at dksX4_number_3 12 rfl rfl)
theorem dX4_number_86 : decode cX4_number 86 = .ok (.goto (-60), 3) := dk_167 255 196 (dk_at dksX4_number_3 15 rfl rfl)
theorem dX4_number_89 : decode cX4_number 89 = .ok (.aload_n 0, 1) := dk_42 (dk_at dksX4_number_3 18 rfl rfl)
theorem dX4_number_90 : decode cX4_number 90 = .ok (.getfield 26, 3) := dk_180 0 26 (dk_at dksX4_number_3 19 rfl rfl)
theorem dX4_number_93 : decode cX4_number 93 = .ok (.aload_n 0, 1) := dk_42 (dk_at dksX4_number_3 22 rfl rfl)
theorem dX4_number_94 : decode cX4_number 94 = .ok (.getfield 41, 3) := dk_180 0 41 (dk_at dksX4_number_4 0 rfl rfl)
theorem dX4_number_97 : decode cX4_number 97 = .ok (.isub, 1) := dk_100 (dk_at dksX4_number_4 3 rfl rfl)
theorem dX4_number_98 : decode cX4_number 98 = .ok (.bipush 8, 2) := dk_16 8 (dk_at dksX4_number_4 4 rfl rfl)
theorem dX4_number_100 : decode cX4_number 100 = .ok (.if_icmp .gt 15, 3) := dk_163 0 15 (dk_at dksX4_number_4 6 rfl rfl)
theorem dX4_number_103 : decode cX4_number 103 = .ok (.iload_n 3, 1) := dk_29 (dk_at dksX4_number_4 9 rfl rfl)
theorem dX4_number_104 : decode cX4_number 104 = .ok (.i2l, 1) := dk_133 (dk_at dksX4_number_4 10 rfl rfl)
theorem dX4_number_105 : decode cX4_number 105 = .ok (.iload_n 1, 1) := dk_27 (dk_at dksX4_number_4 11 rfl rfl)
theorem dX4_number_106 : decode cX4_number 106 = .ok (.i2l, 1) := dk_133 (dk_at dksX4_number_4 12 rfl rfl)
theorem dX4_number_107 : decode cX4_number 107 = .ok (.iload_n 2, 1) := dk_28 (dk_at dksX4_number_4 13 rfl rfl)
theorem dX4_number_108 : decode cX4_number 108 = .ok (.i2l, 1) := dk_133 (dk_at dksX4_number_4 14 rfl rfl)
theorem dX4_number_109 : decode cX4_number 109 = .ok (.invokestatic 33, 3) := dk_184 0 33 (dk_at dksX4_number_4 15 rfl rfl)
theorem dX4_number_112 : decode cX4_number 112 = .ok (.ifCond .ne 9, 3) := dk_154 0 9 (dk_at dksX4_number_4 18 rfl rfl)
theorem dX4_number_115 : decode cX4_number 115 = .ok (.aload_n 0, 1) := dk_42 (dk_at dksX4_number_4 21 rfl rfl)
theorem dX4_number_116 : decode cX4_number 116 = .ok (.iconst 2, 1) := dk_5 (dk_at dksX4_number_4 22 rfl rfl)
theorem dX4_number_117 : decode cX4_number 117 = .ok (.invokevirtual 74, 3) := dk_182 0 74 (dk_at dksX4_number_5 0 rfl rfl)
theorem dX4_number_120 : decode cX4_number 120 = .ok (.athrow, 1) := dk_191 (dk_at dksX4_number_5 3 rfl rfl)
theorem dX4_number_121 : decode cX4_number 121 = .ok (.iload_n 3, 1) := dk_29 (dk_at dksX4_number_5 4 rfl rfl)
theorem dX4_number_122 : decode cX4_number 122 = .ok (.ireturn, 1) := dk_172 (dk_at dksX4_number_5 5 rfl rfl)
abbrev cX4_keep : ByteArray := prog_8_method_12_code
def yX4_keep : MethodName := ⟨RX4, "keep", "()V"⟩
def dkwX4_keep_3 : List UInt8 := [182, 0, 142, 87, 177]
abbrev dktX4_keep_3 : List UInt8 := dkwX4_keep_3 ++ []
def dkwX4_keep_2 : List UInt8 := [180, 0, 18, 180, 0, 113, 27, 42, 180, 0, 18, 180, 0, 113, 27, 182, 0, 130, 192, 0, 125, 182, 0, 138]
abbrev dktX4_keep_2 : List UInt8 := dkwX4_keep_2 ++ dktX4_keep_3
def dkwX4_keep_1 : List UInt8 := [180, 0, 113, 27, 182, 0, 130, 192, 0, 125, 180, 0, 134, 153, 0, 9, 42, 8, 182, 0, 74, 191, 42]
abbrev dktX4_keep_1 : List UInt8 := dkwX4_keep_1 ++ dktX4_keep_2
def dkwX4_keep_0 : List UInt8 := [42, 3, 42, 180, 0, 18, 180, 0, 113, 182, 0, 93, 4, 100, 182, 0, 121, 60, 42, 180, 0, 18]
abbrev dktX4_keep_0 : List UInt8 := dkwX4_keep_0 ++ dktX4_keep_1
theorem dksX4_keep_0 : cX4_keep.data.toList.drop 0 = dktX4_keep_0 := by decide +kernel
theorem dksX4_keep_1 : cX4_keep.data.toList.drop 22 = dktX4_keep_1 := dk_seg dksX4_keep_0 22 rfl rfl
theorem dksX4_keep_2 : cX4_keep.data.toList.drop 45 = dktX4_keep_2 := dk_seg dksX4_keep_1 23 rfl rfl
theorem dksX4_keep_3 : cX4_keep.data.toList.drop 69 = dktX4_keep_3 := dk_seg dksX4_keep_2 24 rfl rfl
theorem dX4_keep_0 : decode cX4_keep 0 = .ok (.aload_n 0, 1) := dk_42 (dk_at dksX4_keep_0 0 rfl rfl)
theorem dX4_keep_1 : decode cX4_keep 1 = .ok (.iconst 0, 1) := dk_3 (dk_at dksX4_keep_0 1 rfl rfl)
theorem dX4_keep_2 : decode cX4_keep 2 = .ok (.aload_n 0, 1) := dk_42 (dk_at dksX4_keep_0 2 rfl rfl)
theorem dX4_keep_3 : decode cX4_keep 3 = .ok (.getfield 18, 3) := dk_180 0 18 (dk_at dksX4_keep_0 3 rfl rfl)
theorem dX4_keep_6 : decode cX4_keep 6 = .ok (.getfield 113, 3) := dk_180 0 113 (dk_at dksX4_keep_0 6 rfl rfl)
theorem dX4_keep_9 : decode cX4_keep 9 = .ok (.invokevirtual 93, 3) := dk_182 0 93 (dk_at dksX4_keep_0 9 rfl rfl)
theorem dX4_keep_12 : decode cX4_keep 12 = .ok (.iconst 1, 1) := dk_4 (dk_at dksX4_keep_0 12 rfl rfl)
theorem dX4_keep_13 : decode cX4_keep 13 = .ok (.isub, 1) := dk_100 (dk_at dksX4_keep_0 13 rfl rfl)
theorem dX4_keep_14 : decode cX4_keep 14 = .ok (.invokevirtual 121, 3) := dk_182 0 121 (dk_at dksX4_keep_0 14 rfl rfl)
theorem dX4_keep_17 : decode cX4_keep 17 = .ok (.istore_n 1, 1) := dk_60 (dk_at dksX4_keep_0 17 rfl rfl)
theorem dX4_keep_18 : decode cX4_keep 18 = .ok (.aload_n 0, 1) := dk_42 (dk_at dksX4_keep_0 18 rfl rfl)
theorem dX4_keep_19 : decode cX4_keep 19 = .ok (.getfield 18, 3) := dk_180 0 18 (dk_at dksX4_keep_0 19 rfl rfl)
theorem dX4_keep_22 : decode cX4_keep 22 = .ok (.getfield 113, 3) := dk_180 0 113 (dk_at dksX4_keep_1 0 rfl rfl)
theorem dX4_keep_25 : decode cX4_keep 25 = .ok (.iload_n 1, 1) := dk_27 (dk_at dksX4_keep_1 3 rfl rfl)
theorem dX4_keep_26 : decode cX4_keep 26 = .ok (.invokevirtual 130, 3) := dk_182 0 130 (dk_at dksX4_keep_1 4 rfl rfl)
theorem dX4_keep_29 : decode cX4_keep 29 = .ok (.checkcast 125, 3) := dk_192 0 125 (dk_at dksX4_keep_1 7 rfl rfl)
theorem dX4_keep_32 : decode cX4_keep 32 = .ok (.getfield 134, 3) := dk_180 0 134 (dk_at dksX4_keep_1 10 rfl rfl)
theorem dX4_keep_35 : decode cX4_keep 35 = .ok (.ifCond .eq 9, 3) := dk_153 0 9 (dk_at dksX4_keep_1 13 rfl rfl)
theorem dX4_keep_38 : decode cX4_keep 38 = .ok (.aload_n 0, 1) := dk_42 (dk_at dksX4_keep_1 16 rfl rfl)
theorem dX4_keep_39 : decode cX4_keep 39 = .ok (.iconst 5, 1) := dk_8 (dk_at dksX4_keep_1 17 rfl rfl)
theorem dX4_keep_40 : decode cX4_keep 40 = .ok (.invokevirtual 74, 3) := dk_182 0 74 (dk_at dksX4_keep_1 18 rfl rfl)
theorem dX4_keep_43 : decode cX4_keep 43 = .ok (.athrow, 1) := dk_191 (dk_at dksX4_keep_1 21 rfl rfl)
theorem dX4_keep_44 : decode cX4_keep 44 = .ok (.aload_n 0, 1) := dk_42 (dk_at dksX4_keep_1 22 rfl rfl)
theorem dX4_keep_45 : decode cX4_keep 45 = .ok (.getfield 18, 3) := dk_180 0 18 (dk_at dksX4_keep_2 0 rfl rfl)
theorem dX4_keep_48 : decode cX4_keep 48 = .ok (.getfield 113, 3) := dk_180 0 113 (dk_at dksX4_keep_2 3 rfl rfl)
theorem dX4_keep_51 : decode cX4_keep 51 = .ok (.iload_n 1, 1) := dk_27 (dk_at dksX4_keep_2 6 rfl rfl)
theorem dX4_keep_52 : decode cX4_keep 52 = .ok (.aload_n 0, 1) := dk_42 (dk_at dksX4_keep_2 7 rfl rfl)
theorem dX4_keep_53 : decode cX4_keep 53 = .ok (.getfield 18, 3) := dk_180 0 18 (dk_at dksX4_keep_2 8 rfl rfl)
theorem dX4_keep_56 : decode cX4_keep 56 = .ok (.getfield 113, 3) := dk_180 0 113 (dk_at dksX4_keep_2 11 rfl rfl)
theorem dX4_keep_59 : decode cX4_keep 59 = .ok (.iload_n 1, 1) := dk_27 (dk_at dksX4_keep_2 14 rfl rfl)
theorem dX4_keep_60 : decode cX4_keep 60 = .ok (.invokevirtual 130, 3) := dk_182 0 130 (dk_at dksX4_keep_2 15 rfl rfl)
theorem dX4_keep_63 : decode cX4_keep 63 = .ok (.checkcast 125, 3) := dk_192 0 125 (dk_at dksX4_keep_2 18 rfl rfl)
theorem dX4_keep_66 : decode cX4_keep 66 = .ok (.invokevirtual 138, 3) := dk_182 0 138 (dk_at dksX4_keep_2 21 rfl rfl)
theorem dX4_keep_69 : decode cX4_keep 69 = .ok (.invokevirtual 142, 3) := dk_182 0 142 (dk_at dksX4_keep_3 0 rfl rfl)
theorem dX4_keep_72 : decode cX4_keep 72 = .ok (.pop, 1) := dk_87 (dk_at dksX4_keep_3 3 rfl rfl)
theorem dX4_keep_73 : decode cX4_keep 73 = .ok (.return_, 1) := dk_177 (dk_at dksX4_keep_3 4 rfl rfl)
abbrev cX4_cap : ByteArray := prog_8_method_13_code
def yX4_cap : MethodName := ⟨RX4, "cap", "()V"⟩
def dkwX4_cap_1 : List UInt8 := [180, 0, 146, 16, 8, 27, 104, 28, 96, 42, 3, 18, 150, 182, 0, 121, 79, 177]
abbrev dktX4_cap_1 : List UInt8 := dkwX4_cap_1 ++ []
def dkwX4_cap_0 : List UInt8 := [42, 42, 180, 0, 18, 180, 0, 95, 182, 0, 109, 60, 42, 27, 182, 0, 116, 61, 42, 180, 0, 18]
abbrev dktX4_cap_0 : List UInt8 := dkwX4_cap_0 ++ dktX4_cap_1
theorem dksX4_cap_0 : cX4_cap.data.toList.drop 0 = dktX4_cap_0 := by decide +kernel
theorem dksX4_cap_1 : cX4_cap.data.toList.drop 22 = dktX4_cap_1 := dk_seg dksX4_cap_0 22 rfl rfl
theorem dX4_cap_0 : decode cX4_cap 0 = .ok (.aload_n 0, 1) := dk_42 (dk_at dksX4_cap_0 0 rfl rfl)
theorem dX4_cap_1 : decode cX4_cap 1 = .ok (.aload_n 0, 1) := dk_42 (dk_at dksX4_cap_0 1 rfl rfl)
theorem dX4_cap_2 : decode cX4_cap 2 = .ok (.getfield 18, 3) := dk_180 0 18 (dk_at dksX4_cap_0 2 rfl rfl)
theorem dX4_cap_5 : decode cX4_cap 5 = .ok (.getfield 95, 3) := dk_180 0 95 (dk_at dksX4_cap_0 5 rfl rfl)
theorem dX4_cap_8 : decode cX4_cap 8 = .ok (.invokevirtual 109, 3) := dk_182 0 109 (dk_at dksX4_cap_0 8 rfl rfl)
theorem dX4_cap_11 : decode cX4_cap 11 = .ok (.istore_n 1, 1) := dk_60 (dk_at dksX4_cap_0 11 rfl rfl)
theorem dX4_cap_12 : decode cX4_cap 12 = .ok (.aload_n 0, 1) := dk_42 (dk_at dksX4_cap_0 12 rfl rfl)
theorem dX4_cap_13 : decode cX4_cap 13 = .ok (.iload_n 1, 1) := dk_27 (dk_at dksX4_cap_0 13 rfl rfl)
theorem dX4_cap_14 : decode cX4_cap 14 = .ok (.invokevirtual 116, 3) := dk_182 0 116 (dk_at dksX4_cap_0 14 rfl rfl)
theorem dX4_cap_17 : decode cX4_cap 17 = .ok (.istore_n 2, 1) := dk_61 (dk_at dksX4_cap_0 17 rfl rfl)
theorem dX4_cap_18 : decode cX4_cap 18 = .ok (.aload_n 0, 1) := dk_42 (dk_at dksX4_cap_0 18 rfl rfl)
theorem dX4_cap_19 : decode cX4_cap 19 = .ok (.getfield 18, 3) := dk_180 0 18 (dk_at dksX4_cap_0 19 rfl rfl)
theorem dX4_cap_22 : decode cX4_cap 22 = .ok (.getfield 146, 3) := dk_180 0 146 (dk_at dksX4_cap_1 0 rfl rfl)
theorem dX4_cap_25 : decode cX4_cap 25 = .ok (.bipush 8, 2) := dk_16 8 (dk_at dksX4_cap_1 3 rfl rfl)
theorem dX4_cap_27 : decode cX4_cap 27 = .ok (.iload_n 1, 1) := dk_27 (dk_at dksX4_cap_1 5 rfl rfl)
theorem dX4_cap_28 : decode cX4_cap 28 = .ok (.imul, 1) := dk_104 (dk_at dksX4_cap_1 6 rfl rfl)
theorem dX4_cap_29 : decode cX4_cap 29 = .ok (.iload_n 2, 1) := dk_28 (dk_at dksX4_cap_1 7 rfl rfl)
theorem dX4_cap_30 : decode cX4_cap 30 = .ok (.iadd, 1) := dk_96 (dk_at dksX4_cap_1 8 rfl rfl)
theorem dX4_cap_31 : decode cX4_cap 31 = .ok (.aload_n 0, 1) := dk_42 (dk_at dksX4_cap_1 9 rfl rfl)
theorem dX4_cap_32 : decode cX4_cap 32 = .ok (.iconst 0, 1) := dk_3 (dk_at dksX4_cap_1 10 rfl rfl)
theorem dX4_cap_33 : decode cX4_cap 33 = .ok (.ldc 150, 2) := dk_18 150 (dk_at dksX4_cap_1 11 rfl rfl)
theorem dX4_cap_35 : decode cX4_cap 35 = .ok (.invokevirtual 121, 3) := dk_182 0 121 (dk_at dksX4_cap_1 13 rfl rfl)
theorem dX4_cap_38 : decode cX4_cap 38 = .ok (.iastore, 1) := dk_79 (dk_at dksX4_cap_1 16 rfl rfl)
theorem dX4_cap_39 : decode cX4_cap 39 = .ok (.return_, 1) := dk_177 (dk_at dksX4_cap_1 17 rfl rfl)
theorem q108 : (Jvm.Cond.initialized "SwapPress$Reader") ∈ lw_all := lw_g (lw_at lw_m1 8 rfl) rfl
theorem q175 : (Jvm.Cond.fieldLinkNest "SwapPress$Reader" (95 : Nat) "SwapPress$State" "parties" "Ljava/util/ArrayList;" "SwapPress") ∈ lw_tbl := lw_at lw_m1 75 rfl
theorem q178 : (Jvm.Cond.fieldLinkNest "SwapPress$Reader" (103 : Nat) "SwapPress$State" "kinds" "Ljava/util/ArrayList;" "SwapPress") ∈ lw_tbl := lw_at lw_m1 78 rfl
theorem q182 : (Jvm.Cond.fieldLinkNest "SwapPress$Reader" (113 : Nat) "SwapPress$State" "trades" "Ljava/util/ArrayList;" "SwapPress") ∈ lw_tbl := lw_at lw_m1 82 rfl
theorem q185 : (Jvm.Cond.fieldLinkNest "SwapPress$Reader" (146 : Nat) "SwapPress$State" "cap" "[I" "SwapPress") ∈ lw_tbl := lw_at lw_m1 85 rfl
theorem q188 : (Jvm.Cond.fieldLinkNest "SwapPress$Reader" (183 : Nat) "SwapPress$State" "mode" "I" "SwapPress") ∈ lw_tbl := lw_at lw_m1 88 rfl
theorem q241 : (Jvm.Cond.fieldLinkNest "SwapPress$Reader" (29 : Nat) "SwapPress" "tape" "[B" "SwapPress") ∈ lw_tbl := lw_at lw_m1 141 rfl
theorem q283 : (Jvm.Cond.instantiable "SwapPress$Reader" (7 : Nat)) ∈ lw_all := lw_g (lw_at lw_m1 183 rfl) rfl
theorem q285 : (Jvm.Cond.instanceMethod ({ cls := "SwapPress$Reader", name := "<init>", desc := "(LSwapPress;I)V" } : Jvm.MethodName)) ∈ lw_all := lw_g (lw_at lw_m1 185 rfl) rfl
theorem q286 : (Jvm.Cond.code ({ cls := "SwapPress$Reader", name := "<init>", desc := "(LSwapPress;I)V" } : Jvm.MethodName) prog_8_method_1_code (3 : Nat) (Option.none : Option Jvm.ClassFile.FieldType)) ∈ lw_all := lw_g (lw_at lw_m1 186 rfl) rfl
theorem q287 : (Jvm.Cond.methodLink "SwapPress$Reader" (9 : Nat) ({ cls := "java/lang/Object", name := "<init>", desc := "()V" } : Jvm.MethodName)) ∈ lw_all := lw_g (lw_at lw_m1 187 rfl) rfl
theorem q288 : (Jvm.Cond.classLink "SwapPress$Reader" (15 : Nat) "SwapPress$State") ∈ lw_all := lw_g (lw_at lw_m1 188 rfl) rfl
theorem q289 : (Jvm.Cond.methodLink "SwapPress$Reader" (17 : Nat) ({ cls := "SwapPress$State", name := "<init>", desc := "()V" } : Jvm.MethodName)) ∈ lw_all := lw_g (lw_at lw_m1 189 rfl) rfl
theorem q290 : (Jvm.Cond.fieldLink "SwapPress$Reader" (22 : Nat) "SwapPress$Reader" "size" "I") ∈ lw_all := lw_g (lw_at lw_m1 190 rfl) rfl
theorem q291 : (Jvm.Cond.fieldLink "SwapPress$Reader" (18 : Nat) "SwapPress$Reader" "made" "LSwapPress$State;") ∈ lw_all := lw_g (lw_at lw_m1 191 rfl) rfl
theorem q292 : (Jvm.Cond.fieldLink "SwapPress$Reader" (26 : Nat) "SwapPress$Reader" "at" "I") ∈ lw_all := lw_g (lw_at lw_m1 192 rfl) rfl
theorem q293 : (Jvm.Cond.fieldLink "SwapPress$Reader" (41 : Nat) "SwapPress$Reader" "begin" "I") ∈ lw_all := lw_g (lw_at lw_m1 193 rfl) rfl
theorem q294 : (Jvm.Cond.fieldLink "SwapPress$Reader" (180 : Nat) "SwapPress$Reader" "hasMode" "Z") ∈ lw_all := lw_g (lw_at lw_m1 194 rfl) rfl
theorem q295 : (Jvm.Cond.fieldLink "SwapPress$Reader" (64 : Nat) "SwapPress$Reader" "word" "Ljava/lang/String;") ∈ lw_all := lw_g (lw_at lw_m1 195 rfl) rfl
theorem q296 : (Jvm.Cond.fieldLink "SwapPress$Reader" (3 : Nat) "SwapPress$Reader" "this$0" "LSwapPress;") ∈ lw_all := lw_g (lw_at lw_m1 196 rfl) rfl
theorem q297 : (Jvm.Cond.laysFinal "SwapPress$Reader" "SwapPress$Reader" "size" "I") ∈ lw_all := lw_g (lw_at lw_m1 197 rfl) rfl
theorem q298 : (Jvm.Cond.soleField "SwapPress$Reader" "size") ∈ lw_all := lw_g (lw_at lw_m1 198 rfl) rfl
theorem q299 : (Jvm.Cond.laysFinal "SwapPress$Reader" "SwapPress$Reader" "made" "LSwapPress$State;") ∈ lw_all := lw_g (lw_at lw_m1 199 rfl) rfl
theorem q300 : (Jvm.Cond.soleField "SwapPress$Reader" "made") ∈ lw_all := lw_g (lw_at lw_m1 200 rfl) rfl
theorem q301 : (Jvm.Cond.lays "SwapPress$Reader" "SwapPress$Reader" "at" "I") ∈ lw_all := lw_g (lw_at lw_m1 201 rfl) rfl
theorem q302 : (Jvm.Cond.soleField "SwapPress$Reader" "at") ∈ lw_all := lw_g (lw_at lw_m1 202 rfl) rfl
theorem q303 : (Jvm.Cond.lays "SwapPress$Reader" "SwapPress$Reader" "begin" "I") ∈ lw_all := lw_g (lw_at lw_m1 203 rfl) rfl
theorem q304 : (Jvm.Cond.soleField "SwapPress$Reader" "begin") ∈ lw_all := lw_g (lw_at lw_m1 204 rfl) rfl
theorem q305 : (Jvm.Cond.lays "SwapPress$Reader" "SwapPress$Reader" "hasMode" "Z") ∈ lw_all := lw_g (lw_at lw_m1 205 rfl) rfl
theorem q306 : (Jvm.Cond.soleField "SwapPress$Reader" "hasMode") ∈ lw_all := lw_g (lw_at lw_m1 206 rfl) rfl
theorem q307 : (Jvm.Cond.lays "SwapPress$Reader" "SwapPress$Reader" "word" "Ljava/lang/String;") ∈ lw_all := lw_g (lw_at lw_m1 207 rfl) rfl
theorem q308 : (Jvm.Cond.soleField "SwapPress$Reader" "word") ∈ lw_all := lw_g (lw_at lw_m1 208 rfl) rfl
theorem q309 : (Jvm.Cond.laysFinal "SwapPress$Reader" "SwapPress$Reader" "this$0" "LSwapPress;") ∈ lw_all := lw_g (lw_at lw_m1 209 rfl) rfl
theorem q310 : (Jvm.Cond.soleField "SwapPress$Reader" "this$0") ∈ lw_all := lw_g (lw_at lw_m1 210 rfl) rfl
theorem q311 : (Jvm.Cond.superclass "SwapPress$Reader" "java/lang/Object") ∈ lw_all := lw_g (lw_at lw_m1 211 rfl) rfl
theorem q313 : (Jvm.Cond.instanceMethod ({ cls := "SwapPress$Reader", name := "reads", desc := "()LSwapPress$State;" } : Jvm.MethodName)) ∈ lw_all := lw_g (lw_at lw_m1 213 rfl) rfl
theorem q314 : (Jvm.Cond.selects "SwapPress$Reader" ({ cls := "SwapPress$Reader", name := "reads", desc := "()LSwapPress$State;" } : Jvm.MethodName) ({ cls := "SwapPress$Reader", name := "reads", desc := "()LSwapPress$State;" } : Jvm.MethodName)) ∈ lw_all := lw_g (lw_at lw_m1 214 rfl) rfl
theorem q315 : (Jvm.Cond.code ({ cls := "SwapPress$Reader", name := "reads", desc := "()LSwapPress$State;" } : Jvm.MethodName) prog_8_method_15_code (1 : Nat) (Option.some (Jvm.ClassFile.FieldType.object "SwapPress$State"))) ∈ lw_all := lw_g (lw_at lw_m1 215 rfl) rfl
theorem q316 : (Jvm.Cond.methodLink "SwapPress$Reader" (52 : Nat) ({ cls := "SwapPress$Reader", name := "isEnd", desc := "()Z" } : Jvm.MethodName)) ∈ lw_all := lw_g (lw_at lw_m1 216 rfl) rfl
theorem q317 : (Jvm.Cond.privateMethod ({ cls := "SwapPress$Reader", name := "isEnd", desc := "()Z" } : Jvm.MethodName)) ∈ lw_tbl := lw_at lw_m1 217 rfl
theorem q318 : (Jvm.Cond.instanceMethod ({ cls := "SwapPress$Reader", name := "isEnd", desc := "()Z" } : Jvm.MethodName)) ∈ lw_all := lw_g (lw_at lw_m1 218 rfl) rfl
theorem q319 : (Jvm.Cond.code ({ cls := "SwapPress$Reader", name := "isEnd", desc := "()Z" } : Jvm.MethodName) prog_8_method_3_code (1 : Nat) (Option.some Jvm.ClassFile.FieldType.boolean)) ∈ lw_all := lw_g (lw_at lw_m1 219 rfl) rfl
theorem q320 : (Jvm.Cond.methodLink "SwapPress$Reader" (37 : Nat) ({ cls := "SwapPress$Reader", name := "isAt", desc := "(II)Z" } : Jvm.MethodName)) ∈ lw_all := lw_g (lw_at lw_m1 220 rfl) rfl
theorem q321 : (Jvm.Cond.privateMethod ({ cls := "SwapPress$Reader", name := "isAt", desc := "(II)Z" } : Jvm.MethodName)) ∈ lw_tbl := lw_at lw_m1 221 rfl
theorem q322 : (Jvm.Cond.instanceMethod ({ cls := "SwapPress$Reader", name := "isAt", desc := "(II)Z" } : Jvm.MethodName)) ∈ lw_all := lw_g (lw_at lw_m1 222 rfl) rfl
theorem q323 : (Jvm.Cond.code ({ cls := "SwapPress$Reader", name := "isAt", desc := "(II)Z" } : Jvm.MethodName) prog_8_method_2_code (3 : Nat) (Option.some Jvm.ClassFile.FieldType.boolean)) ∈ lw_all := lw_g (lw_at lw_m1 223 rfl) rfl
theorem q324 : (Jvm.Cond.methodLinkNest "SwapPress$Reader" (33 : Nat) ({ cls := "SwapPress", name := "in", desc := "(JJJ)Z" } : Jvm.MethodName) "SwapPress") ∈ lw_tbl := lw_at lw_m1 224 rfl
theorem q325 : (Jvm.Cond.methodLink "SwapPress$Reader" (185 : Nat) ({ cls := "SwapPress$Reader", name := "line", desc := "()V" } : Jvm.MethodName)) ∈ lw_all := lw_g (lw_at lw_m1 225 rfl) rfl
theorem q326 : (Jvm.Cond.privateMethod ({ cls := "SwapPress$Reader", name := "line", desc := "()V" } : Jvm.MethodName)) ∈ lw_tbl := lw_at lw_m1 226 rfl
theorem q327 : (Jvm.Cond.instanceMethod ({ cls := "SwapPress$Reader", name := "line", desc := "()V" } : Jvm.MethodName)) ∈ lw_all := lw_g (lw_at lw_m1 227 rfl) rfl
theorem q328 : (Jvm.Cond.code ({ cls := "SwapPress$Reader", name := "line", desc := "()V" } : Jvm.MethodName) prog_8_method_14_code (3 : Nat) (Option.none : Option Jvm.ClassFile.FieldType)) ∈ lw_all := lw_g (lw_at lw_m1 228 rfl) rfl
theorem q329 : (Jvm.Cond.methodLink "SwapPress$Reader" (78 : Nat) ({ cls := "SwapPress$Reader", name := "word", desc := "()V" } : Jvm.MethodName)) ∈ lw_all := lw_g (lw_at lw_m1 229 rfl) rfl
theorem q330 : (Jvm.Cond.privateMethod ({ cls := "SwapPress$Reader", name := "word", desc := "()V" } : Jvm.MethodName)) ∈ lw_tbl := lw_at lw_m1 230 rfl
theorem q331 : (Jvm.Cond.instanceMethod ({ cls := "SwapPress$Reader", name := "word", desc := "()V" } : Jvm.MethodName)) ∈ lw_all := lw_g (lw_at lw_m1 231 rfl) rfl
theorem q332 : (Jvm.Cond.code ({ cls := "SwapPress$Reader", name := "word", desc := "()V" } : Jvm.MethodName) prog_8_method_5_code (2 : Nat) (Option.none : Option Jvm.ClassFile.FieldType)) ∈ lw_all := lw_g (lw_at lw_m1 232 rfl) rfl
theorem q333 : (Jvm.Cond.classLink "SwapPress$Reader" (49 : Nat) "java/lang/StringBuilder") ∈ lw_all := lw_g (lw_at lw_m1 233 rfl) rfl
theorem q335 : (Jvm.Cond.methodLink "SwapPress$Reader" (51 : Nat) ({ cls := "java/lang/StringBuilder", name := "<init>", desc := "()V" } : Jvm.MethodName)) ∈ lw_all := lw_g (lw_at lw_m1 235 rfl) rfl
theorem q364 : (Jvm.Cond.methodLink "SwapPress$Reader" (56 : Nat) ({ cls := "java/lang/StringBuilder", name := "append", desc := "(C)Ljava/lang/StringBuilder;" } : Jvm.MethodName)) ∈ lw_all := lw_g (lw_at lw_m2 24 rfl) rfl
theorem q459 : (Jvm.Cond.methodLink "SwapPress$Reader" (60 : Nat) ({ cls := "java/lang/StringBuilder", name := "toString", desc := "()Ljava/lang/String;" } : Jvm.MethodName)) ∈ lw_all := lw_g (lw_at lw_m2 119 rfl) rfl
theorem q522 : (Jvm.Cond.methodLink "SwapPress$Reader" (68 : Nat) ({ cls := "java/lang/StringBuilder", name := "length", desc := "()I" } : Jvm.MethodName)) ∈ lw_all := lw_g (lw_at lw_m2 182 rfl) rfl
theorem q523 : (Jvm.Cond.constantLong "SwapPress$Reader" (72 : Nat) (8 : Int64)) ∈ lw_all := lw_g (lw_at lw_m2 183 rfl) rfl
theorem q524 : (Jvm.Cond.methodLink "SwapPress$Reader" (74 : Nat) ({ cls := "SwapPress$Reader", name := "wrong", desc := "(I)LSwapPress$Wrong;" } : Jvm.MethodName)) ∈ lw_all := lw_g (lw_at lw_m2 184 rfl) rfl
theorem q525 : (Jvm.Cond.privateMethod ({ cls := "SwapPress$Reader", name := "wrong", desc := "(I)LSwapPress$Wrong;" } : Jvm.MethodName)) ∈ lw_tbl := lw_at lw_m2 185 rfl
theorem q526 : (Jvm.Cond.instanceMethod ({ cls := "SwapPress$Reader", name := "wrong", desc := "(I)LSwapPress$Wrong;" } : Jvm.MethodName)) ∈ lw_all := lw_g (lw_at lw_m2 186 rfl) rfl
theorem q527 : (Jvm.Cond.code ({ cls := "SwapPress$Reader", name := "wrong", desc := "(I)LSwapPress$Wrong;" } : Jvm.MethodName) prog_8_method_4_code (2 : Nat) (Option.some (Jvm.ClassFile.FieldType.object "SwapPress$Wrong"))) ∈ lw_all := lw_g (lw_at lw_m2 187 rfl) rfl
theorem q528 : (Jvm.Cond.classLink "SwapPress$Reader" (44 : Nat) "SwapPress$Wrong") ∈ lw_all := lw_g (lw_at lw_m2 188 rfl) rfl
theorem q565 : (Jvm.Cond.methodLink "SwapPress$Reader" (46 : Nat) ({ cls := "SwapPress$Wrong", name := "<init>", desc := "(II)V" } : Jvm.MethodName)) ∈ lw_all := lw_g (lw_at lw_m2 225 rfl) rfl
theorem q595 : (Jvm.Cond.methodLink "SwapPress$Reader" (151 : Nat) ({ cls := "java/lang/String", name := "hashCode", desc := "()I" } : Jvm.MethodName)) ∈ lw_all := lw_g (lw_at lw_m3 15 rfl) rfl
theorem q648 : (Jvm.Cond.stringRef "SwapPress$Reader" (156 : Nat) "party") ∈ lw_tbl := lw_at lw_m3 68 rfl
theorem q649 : (Jvm.Cond.methodLink "SwapPress$Reader" (158 : Nat) ({ cls := "java/lang/String", name := "equals", desc := "(Ljava/lang/Object;)Z" } : Jvm.MethodName)) ∈ lw_all := lw_g (lw_at lw_m3 69 rfl) rfl
theorem q657 : (Jvm.Cond.stringRef "SwapPress$Reader" (161 : Nat) "kind") ∈ lw_tbl := lw_at lw_m3 77 rfl
theorem q658 : (Jvm.Cond.stringRef "SwapPress$Reader" (163 : Nat) "trade") ∈ lw_tbl := lw_at lw_m3 78 rfl
theorem q659 : (Jvm.Cond.stringRef "SwapPress$Reader" (165 : Nat) "keep") ∈ lw_tbl := lw_at lw_m3 79 rfl
theorem q660 : (Jvm.Cond.stringRef "SwapPress$Reader" (167 : Nat) "cap") ∈ lw_tbl := lw_at lw_m3 80 rfl
theorem q661 : (Jvm.Cond.stringRef "SwapPress$Reader" (168 : Nat) "mode") ∈ lw_tbl := lw_at lw_m3 81 rfl
theorem q662 : (Jvm.Cond.methodLink "SwapPress$Reader" (170 : Nat) ({ cls := "SwapPress$Reader", name := "comes", desc := "(Ljava/util/ArrayList;I)V" } : Jvm.MethodName)) ∈ lw_all := lw_g (lw_at lw_m3 82 rfl) rfl
theorem q663 : (Jvm.Cond.privateMethod ({ cls := "SwapPress$Reader", name := "comes", desc := "(Ljava/util/ArrayList;I)V" } : Jvm.MethodName)) ∈ lw_tbl := lw_at lw_m3 83 rfl
theorem q664 : (Jvm.Cond.instanceMethod ({ cls := "SwapPress$Reader", name := "comes", desc := "(Ljava/util/ArrayList;I)V" } : Jvm.MethodName)) ∈ lw_all := lw_g (lw_at lw_m3 84 rfl) rfl
theorem q665 : (Jvm.Cond.code ({ cls := "SwapPress$Reader", name := "comes", desc := "(Ljava/util/ArrayList;I)V" } : Jvm.MethodName) prog_8_method_9_code (3 : Nat) (Option.none : Option Jvm.ClassFile.FieldType)) ∈ lw_all := lw_g (lw_at lw_m3 85 rfl) rfl
theorem q666 : (Jvm.Cond.methodLink "SwapPress$Reader" (93 : Nat) ({ cls := "java/util/ArrayList", name := "size", desc := "()I" } : Jvm.MethodName)) ∈ lw_all := lw_g (lw_at lw_m3 86 rfl) rfl
theorem q670 : (Jvm.Cond.methodLink "SwapPress$Reader" (84 : Nat) ({ cls := "SwapPress$Reader", name := "name", desc := "()V" } : Jvm.MethodName)) ∈ lw_all := lw_g (lw_at lw_m3 90 rfl) rfl
theorem q671 : (Jvm.Cond.privateMethod ({ cls := "SwapPress$Reader", name := "name", desc := "()V" } : Jvm.MethodName)) ∈ lw_tbl := lw_at lw_m3 91 rfl
theorem q672 : (Jvm.Cond.instanceMethod ({ cls := "SwapPress$Reader", name := "name", desc := "()V" } : Jvm.MethodName)) ∈ lw_all := lw_g (lw_at lw_m3 92 rfl) rfl
theorem q673 : (Jvm.Cond.code ({ cls := "SwapPress$Reader", name := "name", desc := "()V" } : Jvm.MethodName) prog_8_method_7_code (1 : Nat) (Option.none : Option Jvm.ClassFile.FieldType)) ∈ lw_all := lw_g (lw_at lw_m3 93 rfl) rfl
theorem q674 : (Jvm.Cond.methodLinkNest "SwapPress$Reader" (80 : Nat) ({ cls := "SwapPress", name := "isOwn", desc := "(Ljava/lang/String;)Z" } : Jvm.MethodName) "SwapPress") ∈ lw_tbl := lw_at lw_m3 94 rfl
theorem q685 : (Jvm.Cond.methodLink "SwapPress$Reader" (99 : Nat) ({ cls := "java/util/ArrayList", name := "contains", desc := "(Ljava/lang/Object;)Z" } : Jvm.MethodName)) ∈ lw_all := lw_g (lw_at lw_m3 105 rfl) rfl
theorem q707 : (Jvm.Cond.selects "SwapPress$Reader" ({ cls := "java/lang/Object", name := "equals", desc := "(Ljava/lang/Object;)Z" } : Jvm.MethodName) ({ cls := "java/lang/Object", name := "equals", desc := "(Ljava/lang/Object;)Z" } : Jvm.MethodName)) ∈ lw_all := lw_g (lw_at lw_m3 127 rfl) rfl
theorem q718 : (Jvm.Cond.methodLink "SwapPress$Reader" (106 : Nat) ({ cls := "java/util/ArrayList", name := "add", desc := "(Ljava/lang/Object;)Z" } : Jvm.MethodName)) ∈ lw_all := lw_g (lw_at lw_m3 138 rfl) rfl
theorem q747 : (Jvm.Cond.selects "SwapPress$Reader" ({ cls := "java/lang/Object", name := "getClass", desc := "()Ljava/lang/Class;" } : Jvm.MethodName) ({ cls := "java/lang/Object", name := "getClass", desc := "()Ljava/lang/Class;" } : Jvm.MethodName)) ∈ lw_all := lw_g (lw_at lw_m3 167 rfl) rfl
theorem q767 : (Jvm.Cond.methodLink "SwapPress$Reader" (174 : Nat) ({ cls := "SwapPress$Reader", name := "trade", desc := "()V" } : Jvm.MethodName)) ∈ lw_all := lw_g (lw_at lw_m3 187 rfl) rfl
theorem q768 : (Jvm.Cond.privateMethod ({ cls := "SwapPress$Reader", name := "trade", desc := "()V" } : Jvm.MethodName)) ∈ lw_tbl := lw_at lw_m3 188 rfl
theorem q769 : (Jvm.Cond.instanceMethod ({ cls := "SwapPress$Reader", name := "trade", desc := "()V" } : Jvm.MethodName)) ∈ lw_all := lw_g (lw_at lw_m3 189 rfl) rfl
theorem q770 : (Jvm.Cond.code ({ cls := "SwapPress$Reader", name := "trade", desc := "()V" } : Jvm.MethodName) prog_8_method_11_code (4 : Nat) (Option.none : Option Jvm.ClassFile.FieldType)) ∈ lw_all := lw_g (lw_at lw_m3 190 rfl) rfl
theorem q771 : (Jvm.Cond.methodLink "SwapPress$Reader" (109 : Nat) ({ cls := "SwapPress$Reader", name := "named", desc := "(Ljava/util/ArrayList;)I" } : Jvm.MethodName)) ∈ lw_all := lw_g (lw_at lw_m3 191 rfl) rfl
theorem q772 : (Jvm.Cond.privateMethod ({ cls := "SwapPress$Reader", name := "named", desc := "(Ljava/util/ArrayList;)I" } : Jvm.MethodName)) ∈ lw_tbl := lw_at lw_m3 192 rfl
theorem q773 : (Jvm.Cond.instanceMethod ({ cls := "SwapPress$Reader", name := "named", desc := "(Ljava/util/ArrayList;)I" } : Jvm.MethodName)) ∈ lw_all := lw_g (lw_at lw_m3 193 rfl) rfl
theorem q774 : (Jvm.Cond.code ({ cls := "SwapPress$Reader", name := "named", desc := "(Ljava/util/ArrayList;)I" } : Jvm.MethodName) prog_8_method_8_code (3 : Nat) (Option.some Jvm.ClassFile.FieldType.int)) ∈ lw_all := lw_g (lw_at lw_m3 194 rfl) rfl
theorem q775 : (Jvm.Cond.methodLink "SwapPress$Reader" (87 : Nat) ({ cls := "java/util/ArrayList", name := "indexOf", desc := "(Ljava/lang/Object;)I" } : Jvm.MethodName)) ∈ lw_all := lw_g (lw_at lw_m3 195 rfl) rfl
theorem q776 : (Jvm.Cond.methodLink "SwapPress$Reader" (116 : Nat) ({ cls := "SwapPress$Reader", name := "other", desc := "(I)I" } : Jvm.MethodName)) ∈ lw_all := lw_g (lw_at lw_m3 196 rfl) rfl
theorem q777 : (Jvm.Cond.privateMethod ({ cls := "SwapPress$Reader", name := "other", desc := "(I)I" } : Jvm.MethodName)) ∈ lw_tbl := lw_at lw_m3 197 rfl
theorem q778 : (Jvm.Cond.instanceMethod ({ cls := "SwapPress$Reader", name := "other", desc := "(I)I" } : Jvm.MethodName)) ∈ lw_all := lw_g (lw_at lw_m3 198 rfl) rfl
theorem q779 : (Jvm.Cond.code ({ cls := "SwapPress$Reader", name := "other", desc := "(I)I" } : Jvm.MethodName) prog_8_method_10_code (3 : Nat) (Option.some Jvm.ClassFile.FieldType.int)) ∈ lw_all := lw_g (lw_at lw_m3 199 rfl) rfl
theorem q780 : (Jvm.Cond.constant "SwapPress$Reader" (120 : Nat) (999999 : Int32)) ∈ lw_all := lw_g (lw_at lw_m3 200 rfl) rfl
theorem q781 : (Jvm.Cond.methodLink "SwapPress$Reader" (121 : Nat) ({ cls := "SwapPress$Reader", name := "number", desc := "(II)I" } : Jvm.MethodName)) ∈ lw_all := lw_g (lw_at lw_m3 201 rfl) rfl
theorem q782 : (Jvm.Cond.privateMethod ({ cls := "SwapPress$Reader", name := "number", desc := "(II)I" } : Jvm.MethodName)) ∈ lw_tbl := lw_at lw_m3 202 rfl
theorem q783 : (Jvm.Cond.instanceMethod ({ cls := "SwapPress$Reader", name := "number", desc := "(II)I" } : Jvm.MethodName)) ∈ lw_all := lw_g (lw_at lw_m3 203 rfl) rfl
theorem q784 : (Jvm.Cond.code ({ cls := "SwapPress$Reader", name := "number", desc := "(II)I" } : Jvm.MethodName) prog_8_method_6_code (4 : Nat) (Option.some Jvm.ClassFile.FieldType.int)) ∈ lw_all := lw_g (lw_at lw_m3 204 rfl) rfl
theorem q785 : (Jvm.Cond.classLink "SwapPress$Reader" (125 : Nat) "SwapPress$Trade") ∈ lw_all := lw_g (lw_at lw_m3 205 rfl) rfl
theorem q787 : (Jvm.Cond.methodLink "SwapPress$Reader" (127 : Nat) ({ cls := "SwapPress$Trade", name := "<init>", desc := "(IIIIZ)V" } : Jvm.MethodName)) ∈ lw_all := lw_g (lw_at lw_m3 207 rfl) rfl
theorem q805 : (Jvm.Cond.fieldLinkNest "SwapPress$Reader" (134 : Nat) "SwapPress$Trade" "isKept" "Z" "SwapPress") ∈ lw_tbl := lw_at lw_m3 225 rfl
theorem q818 : (Jvm.Cond.methodLink "SwapPress$Reader" (176 : Nat) ({ cls := "SwapPress$Reader", name := "keep", desc := "()V" } : Jvm.MethodName)) ∈ lw_all := lw_g (lw_at lw_m3 238 rfl) rfl
theorem q819 : (Jvm.Cond.privateMethod ({ cls := "SwapPress$Reader", name := "keep", desc := "()V" } : Jvm.MethodName)) ∈ lw_tbl := lw_at lw_m3 239 rfl
theorem q820 : (Jvm.Cond.instanceMethod ({ cls := "SwapPress$Reader", name := "keep", desc := "()V" } : Jvm.MethodName)) ∈ lw_all := lw_g (lw_at lw_m4 0 rfl) rfl
theorem q821 : (Jvm.Cond.code ({ cls := "SwapPress$Reader", name := "keep", desc := "()V" } : Jvm.MethodName) prog_8_method_12_code (2 : Nat) (Option.none : Option Jvm.ClassFile.FieldType)) ∈ lw_all := lw_g (lw_at lw_m4 1 rfl) rfl
theorem q822 : (Jvm.Cond.methodLink "SwapPress$Reader" (130 : Nat) ({ cls := "java/util/ArrayList", name := "get", desc := "(I)Ljava/lang/Object;" } : Jvm.MethodName)) ∈ lw_all := lw_g (lw_at lw_m4 2 rfl) rfl
theorem q834 : (Jvm.Cond.methodLink "SwapPress$Reader" (138 : Nat) ({ cls := "SwapPress$Trade", name := "turned", desc := "()LSwapPress$Trade;" } : Jvm.MethodName)) ∈ lw_all := lw_g (lw_at lw_m4 14 rfl) rfl
theorem q840 : (Jvm.Cond.methodLink "SwapPress$Reader" (142 : Nat) ({ cls := "java/util/ArrayList", name := "set", desc := "(ILjava/lang/Object;)Ljava/lang/Object;" } : Jvm.MethodName)) ∈ lw_all := lw_g (lw_at lw_m4 20 rfl) rfl
theorem q844 : (Jvm.Cond.methodLink "SwapPress$Reader" (178 : Nat) ({ cls := "SwapPress$Reader", name := "cap", desc := "()V" } : Jvm.MethodName)) ∈ lw_all := lw_g (lw_at lw_m4 24 rfl) rfl
theorem q845 : (Jvm.Cond.privateMethod ({ cls := "SwapPress$Reader", name := "cap", desc := "()V" } : Jvm.MethodName)) ∈ lw_tbl := lw_at lw_m4 25 rfl
theorem q846 : (Jvm.Cond.instanceMethod ({ cls := "SwapPress$Reader", name := "cap", desc := "()V" } : Jvm.MethodName)) ∈ lw_all := lw_g (lw_at lw_m4 26 rfl) rfl
theorem q847 : (Jvm.Cond.code ({ cls := "SwapPress$Reader", name := "cap", desc := "()V" } : Jvm.MethodName) prog_8_method_13_code (3 : Nat) (Option.none : Option Jvm.ClassFile.FieldType)) ∈ lw_all := lw_g (lw_at lw_m4 27 rfl) rfl
theorem q848 : (Jvm.Cond.constant "SwapPress$Reader" (150 : Nat) (99999999 : Int32)) ∈ lw_all := lw_g (lw_at lw_m4 28 rfl) rfl
theorem q2043 : (Jvm.Cond.castable "SwapPress$Reader" "java/lang/Object") ∈ lw_tbl := lw_at lw_m9 23 rfl
theorem in_X4 : ∀ w ∈ wsX40, w ∈ lw_all := lw_in wsX40 [297, 299, 301, 303, 305, 307, 309] (by decide +kernel) (by decide +kernel)
