/-! SwapPress -/
set_option maxRecDepth 100000
abbrev cX0_init : ByteArray := prog_1_method_3_code
def yX0_init : MethodName := ⟨RX0, "<init>", "()V"⟩
def dkwX0_init_2 : List UInt8 := [188, 8, 181, 0, 36, 42, 2, 181, 0, 40, 177]
abbrev dktX0_init_2 : List UInt8 := dkwX0_init_2 ++ []
def dkwX0_init_1 : List UInt8 := [181, 0, 21, 42, 187, 0, 25, 89, 183, 0, 27, 181, 0, 28, 42, 2, 181, 0, 32, 42, 17, 3, 132]
abbrev dktX0_init_1 : List UInt8 := dkwX0_init_1 ++ dktX0_init_2
def dkwX0_init_0 : List UInt8 := [42, 183, 0, 3, 42, 187, 0, 9, 89, 183, 0, 11, 181, 0, 12, 42, 187, 0, 18, 89, 183, 0, 20]
abbrev dktX0_init_0 : List UInt8 := dkwX0_init_0 ++ dktX0_init_1
theorem dksX0_init_0 : cX0_init.data.toList.drop 0 = dktX0_init_0 := by decide +kernel
theorem dksX0_init_1 : cX0_init.data.toList.drop 23 = dktX0_init_1 := dk_seg dksX0_init_0 23 rfl rfl
theorem dksX0_init_2 : cX0_init.data.toList.drop 46 = dktX0_init_2 := dk_seg dksX0_init_1 23 rfl rfl
theorem dX0_init_0 : decode cX0_init 0 = .ok (.aload_n 0, 1) := dk_42 (dk_at dksX0_init_0 0 rfl rfl)
theorem dX0_init_1 : decode cX0_init 1 = .ok (.invokespecial 3, 3) := dk_183 0 3 (dk_at dksX0_init_0 1 rfl rfl)
theorem dX0_init_4 : decode cX0_init 4 = .ok (.aload_n 0, 1) := dk_42 (dk_at dksX0_init_0 4 rfl rfl)
theorem dX0_init_5 : decode cX0_init 5 = .ok (.new 9, 3) := dk_187 0 9 (dk_at dksX0_init_0 5 rfl rfl)
theorem dX0_init_8 : decode cX0_init 8 = .ok (.dup, 1) := dk_89 (dk_at dksX0_init_0 8 rfl rfl)
theorem dX0_init_9 : decode cX0_init 9 = .ok (.invokespecial 11, 3) := dk_183 0 11 (dk_at dksX0_init_0 9 rfl rfl)
theorem dX0_init_12 : decode cX0_init 12 = .ok (.putfield 12, 3) := dk_181 0 12 (dk_at dksX0_init_0 12 rfl rfl)
theorem dX0_init_15 : decode cX0_init 15 = .ok (.aload_n 0, 1) := dk_42 (dk_at dksX0_init_0 15 rfl rfl)
theorem dX0_init_16 : decode cX0_init 16 = .ok (.new 18, 3) := dk_187 0 18 (dk_at dksX0_init_0 16 rfl rfl)
theorem dX0_init_19 : decode cX0_init 19 = .ok (.dup, 1) := dk_89 (dk_at dksX0_init_0 19 rfl rfl)
theorem dX0_init_20 : decode cX0_init 20 = .ok (.invokespecial 20, 3) := dk_183 0 20 (dk_at dksX0_init_0 20 rfl rfl)
theorem dX0_init_23 : decode cX0_init 23 = .ok (.putfield 21, 3) := dk_181 0 21 (dk_at dksX0_init_1 0 rfl rfl)
theorem dX0_init_26 : decode cX0_init 26 = .ok (.aload_n 0, 1) := dk_42 (dk_at dksX0_init_1 3 rfl rfl)
theorem dX0_init_27 : decode cX0_init 27 = .ok (.new 25, 3) := dk_187 0 25 (dk_at dksX0_init_1 4 rfl rfl)
theorem dX0_init_30 : decode cX0_init 30 = .ok (.dup, 1) := dk_89 (dk_at dksX0_init_1 7 rfl rfl)
theorem dX0_init_31 : decode cX0_init 31 = .ok (.invokespecial 27, 3) := dk_183 0 27 (dk_at dksX0_init_1 8 rfl rfl)
theorem dX0_init_34 : decode cX0_init 34 = .ok (.putfield 28, 3) := dk_181 0 28 (dk_at dksX0_init_1 11 rfl rfl)
theorem dX0_init_37 : decode cX0_init 37 = .ok (.aload_n 0, 1) := dk_42 (dk_at dksX0_init_1 14 rfl rfl)
theorem dX0_init_38 : decode cX0_init 38 = .ok (.iconst (-1), 1) := dk_2 (dk_at dksX0_init_1 15 rfl rfl)
theorem dX0_init_39 : decode cX0_init 39 = .ok (.putfield 32, 3) := dk_181 0 32 (dk_at dksX0_init_1 16 rfl rfl)
theorem dX0_init_42 : decode cX0_init 42 = .ok (.aload_n 0, 1) := dk_42 (dk_at dksX0_init_1 19 rfl rfl)
theorem dX0_init_43 : decode cX0_init 43 = .ok (.sipush 900, 3) := dk_17 3 132 (dk_at dksX0_init_1 20 rfl rfl)
theorem dX0_init_46 : decode cX0_init 46 = .ok (.newarray .byte, 2) := dk_188_8 (dk_at dksX0_init_2 0 rfl rfl)
theorem dX0_init_48 : decode cX0_init 48 = .ok (.putfield 36, 3) := dk_181 0 36 (dk_at dksX0_init_2 2 rfl rfl)
theorem dX0_init_51 : decode cX0_init 51 = .ok (.aload_n 0, 1) := dk_42 (dk_at dksX0_init_2 5 rfl rfl)
theorem dX0_init_52 : decode cX0_init 52 = .ok (.iconst (-1), 1) := dk_2 (dk_at dksX0_init_2 6 rfl rfl)
theorem dX0_init_53 : decode cX0_init 53 = .ok (.putfield 40, 3) := dk_181 0 40 (dk_at dksX0_init_2 7 rfl rfl)
theorem dX0_init_56 : decode cX0_init 56 = .ok (.return_, 1) := dk_177 (dk_at dksX0_init_2 10 rfl rfl)
abbrev cX0_feed : ByteArray := prog_1_method_8_code
def yX0_feed : MethodName := ⟨RX0, "feed", "(IIIII)I"⟩
def dkwX0_feed_2 : List UInt8 := [172]
abbrev dktX0_feed_2 : List UInt8 := dkwX0_feed_2 ++ []
def dkwX0_feed_1 : List UInt8 := [182, 0, 108, 42, 29, 182, 0, 108, 42, 21, 4, 182, 0, 108, 42, 21, 5, 182, 0, 108, 42, 180, 0, 105]
abbrev dktX0_feed_1 : List UInt8 := dkwX0_feed_1 ++ dktX0_feed_2
def dkwX0_feed_0 : List UInt8 := [42, 180, 0, 105, 16, 20, 96, 17, 3, 132, 164, 0, 6, 16, 252, 172, 42, 27, 182, 0, 108, 42, 28]
abbrev dktX0_feed_0 : List UInt8 := dkwX0_feed_0 ++ dktX0_feed_1
theorem dksX0_feed_0 : cX0_feed.data.toList.drop 0 = dktX0_feed_0 := by decide +kernel
theorem dksX0_feed_1 : cX0_feed.data.toList.drop 23 = dktX0_feed_1 := dk_seg dksX0_feed_0 23 rfl rfl
theorem dksX0_feed_2 : cX0_feed.data.toList.drop 47 = dktX0_feed_2 := dk_seg dksX0_feed_1 24 rfl rfl
theorem dX0_feed_0 : decode cX0_feed 0 = .ok (.aload_n 0, 1) := dk_42 (dk_at dksX0_feed_0 0 rfl rfl)
theorem dX0_feed_1 : decode cX0_feed 1 = .ok (.getfield 105, 3) := dk_180 0 105 (dk_at dksX0_feed_0 1 rfl rfl)
theorem dX0_feed_4 : decode cX0_feed 4 = .ok (.bipush 20, 2) := dk_16 20 (dk_at dksX0_feed_0 4 rfl rfl)
theorem dX0_feed_6 : decode cX0_feed 6 = .ok (.iadd, 1) := dk_96 (dk_at dksX0_feed_0 6 rfl rfl)
theorem dX0_feed_7 : decode cX0_feed 7 = .ok (.sipush 900, 3) := dk_17 3 132 (dk_at dksX0_feed_0 7 rfl rfl)
theorem dX0_feed_10 : decode cX0_feed 10 = .ok (.if_icmp .le 6, 3) := dk_164 0 6 (dk_at dksX0_feed_0 10 rfl rfl)
theorem dX0_feed_13 : decode cX0_feed 13 = .ok (.bipush (-4), 2) := dk_16 252 (dk_at dksX0_feed_0 13 rfl rfl)
theorem dX0_feed_15 : decode cX0_feed 15 = .ok (.ireturn, 1) := dk_172 (dk_at dksX0_feed_0 15 rfl rfl)
theorem dX0_feed_16 : decode cX0_feed 16 = .ok (.aload_n 0, 1) := dk_42 (dk_at dksX0_feed_0 16 rfl rfl)
theorem dX0_feed_17 : decode cX0_feed 17 = .ok (.iload_n 1, 1) := dk_27 (dk_at dksX0_feed_0 17 rfl rfl)
theorem dX0_feed_18 : decode cX0_feed 18 = .ok (.invokevirtual 108, 3) := dk_182 0 108 (dk_at dksX0_feed_0 18 rfl rfl)
theorem dX0_feed_21 : decode cX0_feed 21 = .ok (.aload_n 0, 1) := dk_42 (dk_at dksX0_feed_0 21 rfl rfl)
theorem dX0_feed_22 : decode cX0_feed 22 = .ok (.iload_n 2, 1) := dk_28 (dk_at dksX0_feed_0 22 rfl rfl)
theorem dX0_feed_23 : decode cX0_feed 23 = .ok (.invokevirtual 108, 3) := dk_182 0 108 (dk_at dksX0_feed_1 0 rfl rfl)
theorem dX0_feed_26 : decode cX0_feed 26 = .ok (.aload_n 0, 1) := dk_42 (dk_at dksX0_feed_1 3 rfl rfl)
theorem dX0_feed_27 : decode cX0_feed 27 = .ok (.iload_n 3, 1) := dk_29 (dk_at dksX0_feed_1 4 rfl rfl)
theorem dX0_feed_28 : decode cX0_feed 28 = .ok (.invokevirtual 108, 3) := dk_182 0 108 (dk_at dksX0_feed_1 5 rfl rfl)
theorem dX0_feed_31 : decode cX0_feed 31 = .ok (.aload_n 0, 1) := dk_42 (dk_at dksX0_feed_1 8 rfl rfl)
theorem dX0_feed_32 : decode cX0_feed 32 = .ok (.iload 4, 2) := dk_21 4 (dk_at dksX0_feed_1 9 rfl rfl)
theorem dX0_feed_34 : decode cX0_feed 34 = .ok (.invokevirtual 108, 3) := dk_182 0 108 (dk_at dksX0_feed_1 11 rfl rfl)
theorem dX0_feed_37 : decode cX0_feed 37 = .ok (.aload_n 0, 1) := dk_42 (dk_at dksX0_feed_1 14 rfl rfl)
theorem dX0_feed_38 : decode cX0_feed 38 = .ok (.iload 5, 2) := dk_21 5 (dk_at dksX0_feed_1 15 rfl rfl)
theorem dX0_feed_40 : decode cX0_feed 40 = .ok (.invokevirtual 108, 3) := dk_182 0 108 (dk_at dksX0_feed_1 17 rfl rfl)
theorem dX0_feed_43 : decode cX0_feed 43 = .ok (.aload_n 0, 1) := dk_42 (dk_at dksX0_feed_1 20 rfl rfl)
theorem dX0_feed_44 : decode cX0_feed 44 = .ok (.getfield 105, 3) := dk_180 0 105 (dk_at dksX0_feed_1 21 rfl rfl)
theorem dX0_feed_47 : decode cX0_feed 47 = .ok (.ireturn, 1) := dk_172 (dk_at dksX0_feed_2 0 rfl rfl)
abbrev cX0_bytes : ByteArray := prog_1_method_9_code
def yX0_bytes : MethodName := ⟨RX0, "bytes", "(I)V"⟩
def dkwX0_bytes_1 : List UInt8 := [180, 0, 105, 4, 96, 181, 0, 105, 132, 2, 248, 167, 255, 226, 177]
abbrev dktX0_bytes_1 : List UInt8 := dkwX0_bytes_1 ++ []
def dkwX0_bytes_0 : List UInt8 := [16, 24, 61, 28, 155, 0, 32, 42, 180, 0, 36, 42, 180, 0, 105, 27, 28, 122, 145, 84, 42, 89]
abbrev dktX0_bytes_0 : List UInt8 := dkwX0_bytes_0 ++ dktX0_bytes_1
theorem dksX0_bytes_0 : cX0_bytes.data.toList.drop 0 = dktX0_bytes_0 := by decide +kernel
theorem dksX0_bytes_1 : cX0_bytes.data.toList.drop 22 = dktX0_bytes_1 := dk_seg dksX0_bytes_0 22 rfl rfl
theorem dX0_bytes_0 : decode cX0_bytes 0 = .ok (.bipush 24, 2) := dk_16 24 (dk_at dksX0_bytes_0 0 rfl rfl)
theorem dX0_bytes_2 : decode cX0_bytes 2 = .ok (.istore_n 2, 1) := dk_61 (dk_at dksX0_bytes_0 2 rfl rfl)
theorem dX0_bytes_3 : decode cX0_bytes 3 = .ok (.iload_n 2, 1) := dk_28 (dk_at dksX0_bytes_0 3 rfl rfl)
theorem dX0_bytes_4 : decode cX0_bytes 4 = .ok (.ifCond .lt 32, 3) := dk_155 0 32 (dk_at dksX0_bytes_0 4 rfl rfl)
theorem dX0_bytes_7 : decode cX0_bytes 7 = .ok (.aload_n 0, 1) := dk_42 (dk_at dksX0_bytes_0 7 rfl rfl)
theorem dX0_bytes_8 : decode cX0_bytes 8 = .ok (.getfield 36, 3) := dk_180 0 36 (dk_at dksX0_bytes_0 8 rfl rfl)
theorem dX0_bytes_11 : decode cX0_bytes 11 = .ok (.aload_n 0, 1) := dk_42 (dk_at dksX0_bytes_0 11 rfl rfl)
theorem dX0_bytes_12 : decode cX0_bytes 12 = .ok (.getfield 105, 3) := dk_180 0 105 (dk_at dksX0_bytes_0 12 rfl rfl)
theorem dX0_bytes_15 : decode cX0_bytes 15 = .ok (.iload_n 1, 1) := dk_27 (dk_at dksX0_bytes_0 15 rfl rfl)
theorem dX0_bytes_16 : decode cX0_bytes 16 = .ok (.iload_n 2, 1) := dk_28 (dk_at dksX0_bytes_0 16 rfl rfl)
theorem dX0_bytes_17 : decode cX0_bytes 17 = .ok (.ishr, 1) := dk_122 (dk_at dksX0_bytes_0 17 rfl rfl)
theorem dX0_bytes_18 : decode cX0_bytes 18 = .ok (.i2b, 1) := dk_145 (dk_at dksX0_bytes_0 18 rfl rfl)
theorem dX0_bytes_19 : decode cX0_bytes 19 = .ok (.bastore, 1) := dk_84 (dk_at dksX0_bytes_0 19 rfl rfl)
theorem dX0_bytes_20 : decode cX0_bytes 20 = .ok (.aload_n 0, 1) := dk_42 (dk_at dksX0_bytes_0 20 rfl rfl)
theorem dX0_bytes_21 : decode cX0_bytes 21 = .ok (.dup, 1) := dk_89 (dk_at dksX0_bytes_0 21 rfl rfl)
theorem dX0_bytes_22 : decode cX0_bytes 22 = .ok (.getfield 105, 3) := dk_180 0 105 (dk_at dksX0_bytes_1 0 rfl rfl)
theorem dX0_bytes_25 : decode cX0_bytes 25 = .ok (.iconst 1, 1) := dk_4 (dk_at dksX0_bytes_1 3 rfl rfl)
theorem dX0_bytes_26 : decode cX0_bytes 26 = .ok (.iadd, 1) := dk_96 (dk_at dksX0_bytes_1 4 rfl rfl)
theorem dX0_bytes_27 : decode cX0_bytes 27 = .ok (.putfield 105, 3) := dk_181 0 105 (dk_at dksX0_bytes_1 5 rfl rfl)
theorem dX0_bytes_30 : decode cX0_bytes 30 = .ok (.iinc 2 (-8), 3) := dk_132 2 248 (dk_at dksX0_bytes_1 8 rfl rfl)
theorem dX0_bytes_33 : decode cX0_bytes 33 = .ok (.goto (-30), 3) := dk_167 255 226 (dk_at dksX0_bytes_1 11 rfl rfl)
theorem dX0_bytes_36 : decode cX0_bytes 36 = .ok (.return_, 1) := dk_177 (dk_at dksX0_bytes_1 14 rfl rfl)
abbrev cX0_tell : ByteArray := prog_1_method_10_code
def yX0_tell : MethodName := ⟨RX0, "tell", "(I)I"⟩
def dkwX0_tell_3 : List UInt8 := [42, 44, 180, 0, 139, 181, 0, 116, 42, 44, 180, 0, 141, 181, 0, 40, 16, 226, 44, 180, 0, 139, 100, 172]
abbrev dktX0_tell_3 : List UInt8 := dkwX0_tell_3 ++ []
def dkwX0_tell_2 : List UInt8 := [42, 180, 0, 21, 182, 0, 128, 42, 2, 181, 0, 32, 42, 180, 0, 12, 180, 0, 131, 182, 0, 134, 172, 77]
abbrev dktX0_tell_2 : List UInt8 := dkwX0_tell_2 ++ dktX0_tell_3
def dkwX0_tell_1 : List UInt8 := [181, 0, 116, 42, 2, 181, 0, 40, 42, 187, 0, 119, 89, 42, 27, 183, 0, 121, 182, 0, 124, 181, 0, 12]
abbrev dktX0_tell_1 : List UInt8 := dkwX0_tell_1 ++ dktX0_tell_2
def dkwX0_tell_0 : List UInt8 := [27, 133, 9, 42, 180, 0, 105, 133, 184, 0, 112, 154, 0, 6, 16, 253, 172, 42, 3, 181, 0, 105, 42, 3]
abbrev dktX0_tell_0 : List UInt8 := dkwX0_tell_0 ++ dktX0_tell_1
theorem dksX0_tell_0 : cX0_tell.data.toList.drop 0 = dktX0_tell_0 := by decide +kernel
theorem dksX0_tell_1 : cX0_tell.data.toList.drop 24 = dktX0_tell_1 := dk_seg dksX0_tell_0 24 rfl rfl
theorem dksX0_tell_2 : cX0_tell.data.toList.drop 48 = dktX0_tell_2 := dk_seg dksX0_tell_1 24 rfl rfl
theorem dksX0_tell_3 : cX0_tell.data.toList.drop 72 = dktX0_tell_3 := dk_seg dksX0_tell_2 24 rfl rfl
theorem dX0_tell_0 : decode cX0_tell 0 = .ok (.iload_n 1, 1) := dk_27 (dk_at dksX0_tell_0 0 rfl rfl)
theorem dX0_tell_1 : decode cX0_tell 1 = .ok (.i2l, 1) := dk_133 (dk_at dksX0_tell_0 1 rfl rfl)
theorem dX0_tell_2 : decode cX0_tell 2 = .ok (.lconst 0, 1) := dk_9 (dk_at dksX0_tell_0 2 rfl rfl)
theorem dX0_tell_3 : decode cX0_tell 3 = .ok (.aload_n 0, 1) := dk_42 (dk_at dksX0_tell_0 3 rfl rfl)
theorem dX0_tell_4 : decode cX0_tell 4 = .ok (.getfield 105, 3) := dk_180 0 105 (dk_at dksX0_tell_0 4 rfl rfl)
theorem dX0_tell_7 : decode cX0_tell 7 = .ok (.i2l, 1) := dk_133 (dk_at dksX0_tell_0 7 rfl rfl)
theorem dX0_tell_8 : decode cX0_tell 8 = .ok (.invokestatic 112, 3) := dk_184 0 112 (dk_at dksX0_tell_0 8 rfl rfl)
theorem dX0_tell_11 : decode cX0_tell 11 = .ok (.ifCond .ne 6, 3) := dk_154 0 6 (dk_at dksX0_tell_0 11 rfl rfl)
theorem dX0_tell_14 : decode cX0_tell 14 = .ok (.bipush (-3), 2) := dk_16 253 (dk_at dksX0_tell_0 14 rfl rfl)
theorem dX0_tell_16 : decode cX0_tell 16 = .ok (.ireturn, 1) := dk_172 (dk_at dksX0_tell_0 16 rfl rfl)
theorem dX0_tell_17 : decode cX0_tell 17 = .ok (.aload_n 0, 1) := dk_42 (dk_at dksX0_tell_0 17 rfl rfl)
theorem dX0_tell_18 : decode cX0_tell 18 = .ok (.iconst 0, 1) := dk_3 (dk_at dksX0_tell_0 18 rfl rfl)
theorem dX0_tell_19 : decode cX0_tell 19 = .ok (.putfield 105, 3) := dk_181 0 105 (dk_at dksX0_tell_0 19 rfl rfl)
theorem dX0_tell_22 : decode cX0_tell 22 = .ok (.aload_n 0, 1) := dk_42 (dk_at dksX0_tell_0 22 rfl rfl)
theorem dX0_tell_23 : decode cX0_tell 23 = .ok (.iconst 0, 1) := dk_3 (dk_at dksX0_tell_0 23 rfl rfl)
theorem dX0_tell_24 : decode cX0_tell 24 = .ok (.putfield 116, 3) := dk_181 0 116 (dk_at dksX0_tell_1 0 rfl rfl)
theorem dX0_tell_27 : decode cX0_tell 27 = .ok (.aload_n 0, 1) := dk_42 (dk_at dksX0_tell_1 3 rfl rfl)
theorem dX0_tell_28 : decode cX0_tell 28 = .ok (.iconst (-1), 1) := dk_2 (dk_at dksX0_tell_1 4 rfl rfl)
theorem dX0_tell_29 : decode cX0_tell 29 = .ok (.putfield 40, 3) := dk_181 0 40 (dk_at dksX0_tell_1 5 rfl rfl)
theorem dX0_tell_32 : decode cX0_tell 32 = .ok (.aload_n 0, 1) := dk_42 (dk_at dksX0_tell_1 8 rfl rfl)
theorem dX0_tell_33 : decode cX0_tell 33 = .ok (.new 119, 3) := dk_187 0 119 (dk_at dksX0_tell_1 9 rfl rfl)
theorem dX0_tell_36 : decode cX0_tell 36 = .ok (.dup, 1) := dk_89 (dk_at dksX0_tell_1 12 rfl rfl)
theorem dX0_tell_37 : decode cX0_tell 37 = .ok (.aload_n 0, 1) := dk_42 (dk_at dksX0_tell_1 13 rfl rfl)
theorem dX0_tell_38 : decode cX0_tell 38 = .ok (.iload_n 1, 1) := dk_27 (dk_at dksX0_tell_1 14 rfl rfl)
theorem dX0_tell_39 : decode cX0_tell 39 = .ok (.invokespecial 121, 3) := dk_183 0 121 (dk_at dksX0_tell_1 15 rfl rfl)
theorem dX0_tell_42 : decode cX0_tell 42 = .ok (.invokevirtual 124, 3) := dk_182 0 124 (dk_at dksX0_tell_1 18 rfl rfl)
theorem dX0_tell_45 : decode cX0_tell 45 = .ok (.putfield 12, 3) := dk_181 0 12 (dk_at dksX0_tell_1 21 rfl rfl)
theorem dX0_tell_48 : decode cX0_tell 48 = .ok (.aload_n 0, 1) := dk_42 (dk_at dksX0_tell_2 0 rfl rfl)
theorem dX0_tell_49 : decode cX0_tell 49 = .ok (.getfield 21, 3) := dk_180 0 21 (dk_at dksX0_tell_2 1 rfl rfl)
theorem dX0_tell_52 : decode cX0_tell 52 = .ok (.invokevirtual 128, 3) := dk_182 0 128 (dk_at dksX0_tell_2 4 rfl rfl)
theorem dX0_tell_55 : decode cX0_tell 55 = .ok (.aload_n 0, 1) := dk_42 (dk_at dksX0_tell_2 7 rfl rfl)
theorem dX0_tell_56 : decode cX0_tell 56 = .ok (.iconst (-1), 1) := dk_2 (dk_at dksX0_tell_2 8 rfl rfl)
theorem dX0_tell_57 : decode cX0_tell 57 = .ok (.putfield 32, 3) := dk_181 0 32 (dk_at dksX0_tell_2 9 rfl rfl)
theorem dX0_tell_60 : decode cX0_tell 60 = .ok (.aload_n 0, 1) := dk_42 (dk_at dksX0_tell_2 12 rfl rfl)
theorem dX0_tell_61 : decode cX0_tell 61 = .ok (.getfield 12, 3) := dk_180 0 12 (dk_at dksX0_tell_2 13 rfl rfl)
theorem dX0_tell_64 : decode cX0_tell 64 = .ok (.getfield 131, 3) := dk_180 0 131 (dk_at dksX0_tell_2 16 rfl rfl)
theorem dX0_tell_67 : decode cX0_tell 67 = .ok (.invokevirtual 134, 3) := dk_182 0 134 (dk_at dksX0_tell_2 19 rfl rfl)
theorem dX0_tell_70 : decode cX0_tell 70 = .ok (.ireturn, 1) := dk_172 (dk_at dksX0_tell_2 22 rfl rfl)
theorem dX0_tell_71 : decode cX0_tell 71 = .ok (.astore_n 2, 1) := dk_77 (dk_at dksX0_tell_2 23 rfl rfl)
theorem dX0_tell_72 : decode cX0_tell 72 = .ok (.aload_n 0, 1) := dk_42 (dk_at dksX0_tell_3 0 rfl rfl)
theorem dX0_tell_73 : decode cX0_tell 73 = .ok (.aload_n 2, 1) := dk_44 (dk_at dksX0_tell_3 1 rfl rfl)
theorem dX0_tell_74 : decode cX0_tell 74 = .ok (.getfield 139, 3) := dk_180 0 139 (dk_at dksX0_tell_3 2 rfl rfl)
theorem dX0_tell_77 : decode cX0_tell 77 = .ok (.putfield 116, 3) := dk_181 0 116 (dk_at dksX0_tell_3 5 rfl rfl)
theorem dX0_tell_80 : decode cX0_tell 80 = .ok (.aload_n 0, 1) := dk_42 (dk_at dksX0_tell_3 8 rfl rfl)
theorem dX0_tell_81 : decode cX0_tell 81 = .ok (.aload_n 2, 1) := dk_44 (dk_at dksX0_tell_3 9 rfl rfl)
theorem dX0_tell_82 : decode cX0_tell 82 = .ok (.getfield 141, 3) := dk_180 0 141 (dk_at dksX0_tell_3 10 rfl rfl)
theorem dX0_tell_85 : decode cX0_tell 85 = .ok (.putfield 40, 3) := dk_181 0 40 (dk_at dksX0_tell_3 13 rfl rfl)
theorem dX0_tell_88 : decode cX0_tell 88 = .ok (.bipush (-30), 2) := dk_16 226 (dk_at dksX0_tell_3 16 rfl rfl)
theorem dX0_tell_90 : decode cX0_tell 90 = .ok (.aload_n 2, 1) := dk_44 (dk_at dksX0_tell_3 18 rfl rfl)
theorem dX0_tell_91 : decode cX0_tell 91 = .ok (.getfield 139, 3) := dk_180 0 139 (dk_at dksX0_tell_3 19 rfl rfl)
theorem dX0_tell_94 : decode cX0_tell 94 = .ok (.isub, 1) := dk_100 (dk_at dksX0_tell_3 22 rfl rfl)
theorem dX0_tell_95 : decode cX0_tell 95 = .ok (.ireturn, 1) := dk_172 (dk_at dksX0_tell_3 23 rfl rfl)
abbrev cX0_in : ByteArray := prog_1_method_1_code
def yX0_in : MethodName := ⟨RX0, "in", "(JJJ)Z"⟩
def dkwX0_in_0 : List UInt8 := [30, 32, 148, 155, 0, 14, 30, 22, 4, 148, 157, 0, 7, 4, 167, 0, 4, 3, 172]
abbrev dktX0_in_0 : List UInt8 := dkwX0_in_0 ++ []
theorem dksX0_in_0 : cX0_in.data.toList.drop 0 = dktX0_in_0 := by decide +kernel
theorem dX0_in_0 : decode cX0_in 0 = .ok (.lload_n 0, 1) := dk_30 (dk_at dksX0_in_0 0 rfl rfl)
theorem dX0_in_1 : decode cX0_in 1 = .ok (.lload_n 2, 1) := dk_32 (dk_at dksX0_in_0 1 rfl rfl)
theorem dX0_in_2 : decode cX0_in 2 = .ok (.lcmp, 1) := dk_148 (dk_at dksX0_in_0 2 rfl rfl)
theorem dX0_in_3 : decode cX0_in 3 = .ok (.ifCond .lt 14, 3) := dk_155 0 14 (dk_at dksX0_in_0 3 rfl rfl)
theorem dX0_in_6 : decode cX0_in 6 = .ok (.lload_n 0, 1) := dk_30 (dk_at dksX0_in_0 6 rfl rfl)
theorem dX0_in_7 : decode cX0_in 7 = .ok (.lload 4, 2) := dk_22 4 (dk_at dksX0_in_0 7 rfl rfl)
theorem dX0_in_9 : decode cX0_in 9 = .ok (.lcmp, 1) := dk_148 (dk_at dksX0_in_0 9 rfl rfl)
theorem dX0_in_10 : decode cX0_in 10 = .ok (.ifCond .gt 7, 3) := dk_157 0 7 (dk_at dksX0_in_0 10 rfl rfl)
theorem dX0_in_13 : decode cX0_in 13 = .ok (.iconst 1, 1) := dk_4 (dk_at dksX0_in_0 13 rfl rfl)
theorem dX0_in_14 : decode cX0_in 14 = .ok (.goto 4, 3) := dk_167 0 4 (dk_at dksX0_in_0 14 rfl rfl)
theorem dX0_in_17 : decode cX0_in 17 = .ok (.iconst 0, 1) := dk_3 (dk_at dksX0_in_0 17 rfl rfl)
theorem dX0_in_18 : decode cX0_in 18 = .ok (.ireturn, 1) := dk_172 (dk_at dksX0_in_0 18 rfl rfl)
abbrev cX0_isOwn : ByteArray := prog_1_method_7_code
def yX0_isOwn : MethodName := ⟨RX0, "isOwn", "(Ljava/lang/String;)Z"⟩
def dkwX0_isOwn_7 : List UInt8 := [4, 172, 3, 172]
abbrev dktX0_isOwn_7 : List UInt8 := dkwX0_isOwn_7 ++ []
def dkwX0_isOwn_6 : List UInt8 := [170, 0, 0, 0, 0, 40, 0, 0, 0, 0, 0, 0, 0, 5, 0, 0, 0, 38, 0, 0, 0, 38, 0, 0, 0, 38, 0, 0, 0, 38, 0, 0, 0, 38, 0, 0, 0, 38]
abbrev dktX0_isOwn_6 : List UInt8 := dkwX0_isOwn_6 ++ dktX0_isOwn_7
def dkwX0_isOwn_5 : List UInt8 := [18, 104, 182, 0, 93, 153, 0, 5, 8, 61, 28]
abbrev dktX0_isOwn_5 : List UInt8 := dkwX0_isOwn_5 ++ dktX0_isOwn_6
def dkwX0_isOwn_4 : List UInt8 := [153, 0, 33, 6, 61, 167, 0, 28, 43, 18, 103, 182, 0, 93, 153, 0, 19, 7, 61, 167, 0, 14, 43]
abbrev dktX0_isOwn_4 : List UInt8 := dkwX0_isOwn_4 ++ dktX0_isOwn_5
def dkwX0_isOwn_3 : List UInt8 := [61, 167, 0, 56, 43, 18, 99, 182, 0, 93, 153, 0, 47, 5, 61, 167, 0, 42, 43, 18, 101, 182, 0, 93]
abbrev dktX0_isOwn_3 : List UInt8 := dkwX0_isOwn_3 ++ dktX0_isOwn_4
def dkwX0_isOwn_2 : List UInt8 := [43, 18, 91, 182, 0, 93, 153, 0, 75, 3, 61, 167, 0, 70, 43, 18, 97, 182, 0, 93, 153, 0, 61, 4]
abbrev dktX0_isOwn_2 : List UInt8 := dkwX0_isOwn_2 ++ dktX0_isOwn_3
def dkwX0_isOwn_1 : List UInt8 := [171, 0, 0, 0, 0, 0, 0, 141, 0, 0, 0, 6, 0, 1, 127, 210, 0, 0, 0, 116, 0, 50, 43, 133, 0, 0, 0, 102, 0, 50, 59, 148, 0, 0, 0, 74, 0, 51, 57, 163, 0, 0, 0, 130, 6, 88, 26, 230, 0, 0, 0, 60, 6, 151, 241, 100, 0, 0, 0, 88]
abbrev dktX0_isOwn_1 : List UInt8 := dkwX0_isOwn_1 ++ dktX0_isOwn_2
def dkwX0_isOwn_0 : List UInt8 := [42, 76, 2, 61, 43, 182, 0, 86]
abbrev dktX0_isOwn_0 : List UInt8 := dkwX0_isOwn_0 ++ dktX0_isOwn_1
theorem dksX0_isOwn_0 : cX0_isOwn.data.toList.drop 0 = dktX0_isOwn_0 := by decide +kernel
theorem dksX0_isOwn_1 : cX0_isOwn.data.toList.drop 8 = dktX0_isOwn_1 := dk_seg dksX0_isOwn_0 8 rfl rfl
theorem dksX0_isOwn_2 : cX0_isOwn.data.toList.drop 68 = dktX0_isOwn_2 := dk_seg dksX0_isOwn_1 60 rfl rfl
theorem dksX0_isOwn_3 : cX0_isOwn.data.toList.drop 92 = dktX0_isOwn_3 := dk_seg dksX0_isOwn_2 24 rfl rfl
theorem dksX0_isOwn_4 : cX0_isOwn.data.toList.drop 116 = dktX0_isOwn_4 := dk_seg dksX0_isOwn_3 24 rfl rfl
theorem dksX0_isOwn_5 : cX0_isOwn.data.toList.drop 139 = dktX0_isOwn_5 := dk_seg dksX0_isOwn_4 23 rfl rfl
theorem dksX0_isOwn_6 : cX0_isOwn.data.toList.drop 150 = dktX0_isOwn_6 := dk_seg dksX0_isOwn_5 11 rfl rfl
theorem dksX0_isOwn_7 : cX0_isOwn.data.toList.drop 188 = dktX0_isOwn_7 := dk_seg dksX0_isOwn_6 38 rfl rfl
theorem dX0_isOwn_0 : decode cX0_isOwn 0 = .ok (.aload_n 0, 1) := dk_42 (dk_at dksX0_isOwn_0 0 rfl rfl)
theorem dX0_isOwn_1 : decode cX0_isOwn 1 = .ok (.astore_n 1, 1) := dk_76 (dk_at dksX0_isOwn_0 1 rfl rfl)
theorem dX0_isOwn_2 : decode cX0_isOwn 2 = .ok (.iconst (-1), 1) := dk_2 (dk_at dksX0_isOwn_0 2 rfl rfl)
theorem dX0_isOwn_3 : decode cX0_isOwn 3 = .ok (.istore_n 2, 1) := dk_61 (dk_at dksX0_isOwn_0 3 rfl rfl)
theorem dX0_isOwn_4 : decode cX0_isOwn 4 = .ok (.aload_n 1, 1) := dk_43 (dk_at dksX0_isOwn_0 4 rfl rfl)
theorem dX0_isOwn_5 : decode cX0_isOwn 5 = .ok (.invokevirtual 86, 3) := dk_182 0 86 (dk_at dksX0_isOwn_0 5 rfl rfl)
theorem dX0_isOwn_8 : decode cX0_isOwn 8 = .ok (.lookupswitch 141 #[(98258, 116), (3287941, 102), (3292052, 74), (3357091, 130), (106437350, 60), (110621028, 88)], 60) := by decide +kernel
theorem dX0_isOwn_68 : decode cX0_isOwn 68 = .ok (.aload_n 1, 1) := dk_43 (dk_at dksX0_isOwn_2 0 rfl rfl)
theorem dX0_isOwn_69 : decode cX0_isOwn 69 = .ok (.ldc 91, 2) := dk_18 91 (dk_at dksX0_isOwn_2 1 rfl rfl)
theorem dX0_isOwn_71 : decode cX0_isOwn 71 = .ok (.invokevirtual 93, 3) := dk_182 0 93 (dk_at dksX0_isOwn_2 3 rfl rfl)
theorem dX0_isOwn_74 : decode cX0_isOwn 74 = .ok (.ifCond .eq 75, 3) := dk_153 0 75 (dk_at dksX0_isOwn_2 6 rfl rfl)
theorem dX0_isOwn_77 : decode cX0_isOwn 77 = .ok (.iconst 0, 1) := dk_3 (dk_at dksX0_isOwn_2 9 rfl rfl)
theorem dX0_isOwn_78 : decode cX0_isOwn 78 = .ok (.istore_n 2, 1) := dk_61 (dk_at dksX0_isOwn_2 10 rfl rfl)
theorem dX0_isOwn_79 : decode cX0_isOwn 79 = .ok (.goto 70, 3) := dk_167 0 70 (dk_at dksX0_isOwn_2 11 rfl rfl)
theorem dX0_isOwn_82 : decode cX0_isOwn 82 = .ok (.aload_n 1, 1) := dk_43 (dk_at dksX0_isOwn_2 14 rfl rfl)
theorem dX0_isOwn_83 : decode cX0_isOwn 83 = .ok (.ldc 97, 2) := dk_18 97 (dk_at dksX0_isOwn_2 15 rfl rfl)
theorem dX0_isOwn_85 : decode cX0_isOwn 85 = .ok (.invokevirtual 93, 3) := dk_182 0 93 (dk_at dksX0_isOwn_2 17 rfl rfl)
theorem dX0_isOwn_88 : decode cX0_isOwn 88 = .ok (.ifCond .eq 61, 3) := dk_153 0 61 (dk_at dksX0_isOwn_2 20 rfl rfl)
theorem dX0_isOwn_91 : decode cX0_isOwn 91 = .ok (.iconst 1, 1) := dk_4 (dk_at dksX0_isOwn_2 23 rfl rfl)
theorem dX0_isOwn_92 : decode cX0_isOwn 92 = .ok (.istore_n 2, 1) := dk_61 (dk_at dksX0_isOwn_3 0 rfl rfl)
theorem dX0_isOwn_93 : decode cX0_isOwn 93 = .ok (.goto 56, 3) := dk_167 0 56 (dk_at dksX0_isOwn_3 1 rfl rfl)
theorem dX0_isOwn_96 : decode cX0_isOwn 96 = .ok (.aload_n 1, 1) := dk_43 (dk_at dksX0_isOwn_3 4 rfl rfl)
theorem dX0_isOwn_97 : decode cX0_isOwn 97 = .ok (.ldc 99, 2) := dk_18 99 (dk_at dksX0_isOwn_3 5 rfl rfl)
theorem dX0_isOwn_99 : decode cX0_isOwn 99 = .ok (.invokevirtual 93, 3) := dk_182 0 93 (dk_at dksX0_isOwn_3 7 rfl rfl)
theorem dX0_isOwn_102 : decode cX0_isOwn 102 = .ok (.ifCond .eq 47, 3) := dk_153 0 47 (dk_at dksX0_isOwn_3 10 rfl rfl)
theorem dX0_isOwn_105 : decode cX0_isOwn 105 = .ok (.iconst 2, 1) := dk_5 (dk_at dksX0_isOwn_3 13 rfl rfl)
theorem dX0_isOwn_106 : decode cX0_isOwn 106 = .ok (.istore_n 2, 1) := dk_61 (dk_at dksX0_isOwn_3 14 rfl rfl)
theorem dX0_isOwn_107 : decode cX0_isOwn 107 = .ok (.goto 42, 3) := dk_167 0 42 (dk_at dksX0_isOwn_3 15 rfl rfl)
theorem dX0_isOwn_110 : decode cX0_isOwn 110 = .ok (.aload_n 1, 1) := dk_43 (dk_at dksX0_isOwn_3 18 rfl rfl)
theorem dX0_isOwn_111 : decode cX0_isOwn 111 = .ok (.ldc 101, 2) := dk_18 101 (dk_at dksX0_isOwn_3 19 rfl rfl)
theorem dX0_isOwn_113 : decode cX0_isOwn 113 = .ok (.invokevirtual 93, 3) := dk_182 0 93 (dk_at dksX0_isOwn_3 21 rfl rfl)
theorem dX0_isOwn_116 : decode cX0_isOwn 116 = .ok (.ifCond .eq 33, 3) := dk_153 0 33 (dk_at dksX0_isOwn_4 0 rfl rfl)
theorem dX0_isOwn_119 : decode cX0_isOwn 119 = .ok (.iconst 3, 1) := dk_6 (dk_at dksX0_isOwn_4 3 rfl rfl)
theorem dX0_isOwn_120 : decode cX0_isOwn 120 = .ok (.istore_n 2, 1) := dk_61 (dk_at dksX0_isOwn_4 4 rfl rfl)
theorem dX0_isOwn_121 : decode cX0_isOwn 121 = .ok (.goto 28, 3) := dk_167 0 28 (dk_at dksX0_isOwn_4 5 rfl rfl)
theorem dX0_isOwn_124 : decode cX0_isOwn 124 = .ok (.aload_n 1, 1) := dk_43 (dk_at dksX0_isOwn_4 8 rfl rfl)
theorem dX0_isOwn_125 : decode cX0_isOwn 125 = .ok (.ldc 103, 2) := dk_18 103 (dk_at dksX0_isOwn_4 9 rfl rfl)
theorem dX0_isOwn_127 : decode cX0_isOwn 127 = .ok (.invokevirtual 93, 3) := dk_182 0 93 (dk_at dksX0_isOwn_4 11 rfl rfl)
theorem dX0_isOwn_130 : decode cX0_isOwn 130 = .ok (.ifCond .eq 19, 3) := dk_153 0 19 (dk_at dksX0_isOwn_4 14 rfl rfl)
theorem dX0_isOwn_133 : decode cX0_isOwn 133 = .ok (.iconst 4, 1) := dk_7 (dk_at dksX0_isOwn_4 17 rfl rfl)
theorem dX0_isOwn_134 : decode cX0_isOwn 134 = .ok (.istore_n 2, 1) := dk_61 (dk_at dksX0_isOwn_4 18 rfl rfl)
theorem dX0_isOwn_135 : decode cX0_isOwn 135 = .ok (.goto 14, 3) := dk_167 0 14 (dk_at dksX0_isOwn_4 19 rfl rfl)
theorem dX0_isOwn_138 : decode cX0_isOwn 138 = .ok (.aload_n 1, 1) := dk_43 (dk_at dksX0_isOwn_4 22 rfl rfl)
theorem dX0_isOwn_139 : decode cX0_isOwn 139 = .ok (.ldc 104, 2) := dk_18 104 (dk_at dksX0_isOwn_5 0 rfl rfl)
theorem dX0_isOwn_141 : decode cX0_isOwn 141 = .ok (.invokevirtual 93, 3) := dk_182 0 93 (dk_at dksX0_isOwn_5 2 rfl rfl)
theorem dX0_isOwn_144 : decode cX0_isOwn 144 = .ok (.ifCond .eq 5, 3) := dk_153 0 5 (dk_at dksX0_isOwn_5 5 rfl rfl)
theorem dX0_isOwn_147 : decode cX0_isOwn 147 = .ok (.iconst 5, 1) := dk_8 (dk_at dksX0_isOwn_5 8 rfl rfl)
theorem dX0_isOwn_148 : decode cX0_isOwn 148 = .ok (.istore_n 2, 1) := dk_61 (dk_at dksX0_isOwn_5 9 rfl rfl)
theorem dX0_isOwn_149 : decode cX0_isOwn 149 = .ok (.iload_n 2, 1) := dk_28 (dk_at dksX0_isOwn_5 10 rfl rfl)
theorem dX0_isOwn_150 : decode cX0_isOwn 150 = .ok (.tableswitch 40 0 5 #[38, 38, 38, 38, 38, 38], 38) := by decide +kernel
theorem dX0_isOwn_188 : decode cX0_isOwn 188 = .ok (.iconst 1, 1) := dk_4 (dk_at dksX0_isOwn_7 0 rfl rfl)
theorem dX0_isOwn_189 : decode cX0_isOwn 189 = .ok (.ireturn, 1) := dk_172 (dk_at dksX0_isOwn_7 1 rfl rfl)
theorem dX0_isOwn_190 : decode cX0_isOwn 190 = .ok (.iconst 0, 1) := dk_3 (dk_at dksX0_isOwn_7 2 rfl rfl)
theorem dX0_isOwn_191 : decode cX0_isOwn 191 = .ok (.ireturn, 1) := dk_172 (dk_at dksX0_isOwn_7 3 rfl rfl)
abbrev cX0_fault : ByteArray := prog_1_method_11_code
def yX0_fault : MethodName := ⟨RX0, "fault", "(I)I"⟩
def dkwX0_fault_1 : List UInt8 := [172]
abbrev dktX0_fault_1 : List UInt8 := dkwX0_fault_1 ++ []
def dkwX0_fault_0 : List UInt8 := [27, 154, 0, 10, 42, 180, 0, 116, 167, 0, 16, 27, 4, 160, 0, 10, 42, 180, 0, 40, 167, 0, 4, 2]
abbrev dktX0_fault_0 : List UInt8 := dkwX0_fault_0 ++ dktX0_fault_1
theorem dksX0_fault_0 : cX0_fault.data.toList.drop 0 = dktX0_fault_0 := by decide +kernel
theorem dksX0_fault_1 : cX0_fault.data.toList.drop 24 = dktX0_fault_1 := dk_seg dksX0_fault_0 24 rfl rfl
theorem dX0_fault_0 : decode cX0_fault 0 = .ok (.iload_n 1, 1) := dk_27 (dk_at dksX0_fault_0 0 rfl rfl)
theorem dX0_fault_1 : decode cX0_fault 1 = .ok (.ifCond .ne 10, 3) := dk_154 0 10 (dk_at dksX0_fault_0 1 rfl rfl)
theorem dX0_fault_4 : decode cX0_fault 4 = .ok (.aload_n 0, 1) := dk_42 (dk_at dksX0_fault_0 4 rfl rfl)
theorem dX0_fault_5 : decode cX0_fault 5 = .ok (.getfield 116, 3) := dk_180 0 116 (dk_at dksX0_fault_0 5 rfl rfl)
theorem dX0_fault_8 : decode cX0_fault 8 = .ok (.goto 16, 3) := dk_167 0 16 (dk_at dksX0_fault_0 8 rfl rfl)
theorem dX0_fault_11 : decode cX0_fault 11 = .ok (.iload_n 1, 1) := dk_27 (dk_at dksX0_fault_0 11 rfl rfl)
theorem dX0_fault_12 : decode cX0_fault 12 = .ok (.iconst 1, 1) := dk_4 (dk_at dksX0_fault_0 12 rfl rfl)
theorem dX0_fault_13 : decode cX0_fault 13 = .ok (.if_icmp .ne 10, 3) := dk_160 0 10 (dk_at dksX0_fault_0 13 rfl rfl)
theorem dX0_fault_16 : decode cX0_fault 16 = .ok (.aload_n 0, 1) := dk_42 (dk_at dksX0_fault_0 16 rfl rfl)
theorem dX0_fault_17 : decode cX0_fault 17 = .ok (.getfield 40, 3) := dk_180 0 40 (dk_at dksX0_fault_0 17 rfl rfl)
theorem dX0_fault_20 : decode cX0_fault 20 = .ok (.goto 4, 3) := dk_167 0 4 (dk_at dksX0_fault_0 20 rfl rfl)
theorem dX0_fault_23 : decode cX0_fault 23 = .ok (.iconst (-1), 1) := dk_2 (dk_at dksX0_fault_0 23 rfl rfl)
theorem dX0_fault_24 : decode cX0_fault 24 = .ok (.ireturn, 1) := dk_172 (dk_at dksX0_fault_1 0 rfl rfl)
abbrev cX0_trade : ByteArray := prog_1_method_17_code
def yX0_trade : MethodName := ⟨RX0, "trade", "(IIII)I"⟩
def dkwX0_trade_3 : List UInt8 := [21, 4, 3, 183, 0, 175, 182, 0, 151, 87, 42, 180, 0, 12, 180, 0, 131, 182, 0, 134, 4, 100, 172]
abbrev dktX0_trade_3 : List UInt8 := dkwX0_trade_3 ++ []
def dkwX0_trade_2 : List UInt8 := [160, 0, 6, 16, 252, 172, 42, 182, 0, 170, 42, 180, 0, 12, 180, 0, 131, 187, 0, 173, 89, 27, 28, 29]
abbrev dktX0_trade_2 : List UInt8 := dkwX0_trade_2 ++ dktX0_trade_3
def dkwX0_trade_1 : List UInt8 := [20, 0, 168, 184, 0, 112, 154, 0, 6, 16, 253, 172, 42, 180, 0, 12, 180, 0, 131, 182, 0, 134, 16, 40]
abbrev dktX0_trade_1 : List UInt8 := dkwX0_trade_1 ++ dktX0_trade_2
def dkwX0_trade_0 : List UInt8 := [42, 27, 28, 182, 0, 161, 153, 0, 12, 42, 21, 4, 182, 0, 165, 154, 0, 6, 16, 254, 172, 29, 133, 10]
abbrev dktX0_trade_0 : List UInt8 := dkwX0_trade_0 ++ dktX0_trade_1
theorem dksX0_trade_0 : cX0_trade.data.toList.drop 0 = dktX0_trade_0 := by decide +kernel
theorem dksX0_trade_1 : cX0_trade.data.toList.drop 24 = dktX0_trade_1 := dk_seg dksX0_trade_0 24 rfl rfl
theorem dksX0_trade_2 : cX0_trade.data.toList.drop 48 = dktX0_trade_2 := dk_seg dksX0_trade_1 24 rfl rfl
theorem dksX0_trade_3 : cX0_trade.data.toList.drop 72 = dktX0_trade_3 := dk_seg dksX0_trade_2 24 rfl rfl
theorem dX0_trade_0 : decode cX0_trade 0 = .ok (.aload_n 0, 1) := dk_42 (dk_at dksX0_trade_0 0 rfl rfl)
theorem dX0_trade_1 : decode cX0_trade 1 = .ok (.iload_n 1, 1) := dk_27 (dk_at dksX0_trade_0 1 rfl rfl)
theorem dX0_trade_2 : decode cX0_trade 2 = .ok (.iload_n 2, 1) := dk_28 (dk_at dksX0_trade_0 2 rfl rfl)
theorem dX0_trade_3 : decode cX0_trade 3 = .ok (.invokevirtual 161, 3) := dk_182 0 161 (dk_at dksX0_trade_0 3 rfl rfl)
theorem dX0_trade_6 : decode cX0_trade 6 = .ok (.ifCond .eq 12, 3) := dk_153 0 12 (dk_at dksX0_trade_0 6 rfl rfl)
theorem dX0_trade_9 : decode cX0_trade 9 = .ok (.aload_n 0, 1) := dk_42 (dk_at dksX0_trade_0 9 rfl rfl)
theorem dX0_trade_10 : decode cX0_trade 10 = .ok (.iload 4, 2) := dk_21 4 (dk_at dksX0_trade_0 10 rfl rfl)
theorem dX0_trade_12 : decode cX0_trade 12 = .ok (.invokevirtual 165, 3) := dk_182 0 165 (dk_at dksX0_trade_0 12 rfl rfl)
theorem dX0_trade_15 : decode cX0_trade 15 = .ok (.ifCond .ne 6, 3) := dk_154 0 6 (dk_at dksX0_trade_0 15 rfl rfl)
theorem dX0_trade_18 : decode cX0_trade 18 = .ok (.bipush (-2), 2) := dk_16 254 (dk_at dksX0_trade_0 18 rfl rfl)
theorem dX0_trade_20 : decode cX0_trade 20 = .ok (.ireturn, 1) := dk_172 (dk_at dksX0_trade_0 20 rfl rfl)
theorem dX0_trade_21 : decode cX0_trade 21 = .ok (.iload_n 3, 1) := dk_29 (dk_at dksX0_trade_0 21 rfl rfl)
theorem dX0_trade_22 : decode cX0_trade 22 = .ok (.i2l, 1) := dk_133 (dk_at dksX0_trade_0 22 rfl rfl)
theorem dX0_trade_23 : decode cX0_trade 23 = .ok (.lconst 1, 1) := dk_10 (dk_at dksX0_trade_0 23 rfl rfl)
theorem dX0_trade_24 : decode cX0_trade 24 = .ok (.ldc2_w 168, 3) := dk_20 0 168 (dk_at dksX0_trade_1 0 rfl rfl)
theorem dX0_trade_27 : decode cX0_trade 27 = .ok (.invokestatic 112, 3) := dk_184 0 112 (dk_at dksX0_trade_1 3 rfl rfl)
theorem dX0_trade_30 : decode cX0_trade 30 = .ok (.ifCond .ne 6, 3) := dk_154 0 6 (dk_at dksX0_trade_1 6 rfl rfl)
theorem dX0_trade_33 : decode cX0_trade 33 = .ok (.bipush (-3), 2) := dk_16 253 (dk_at dksX0_trade_1 9 rfl rfl)
theorem dX0_trade_35 : decode cX0_trade 35 = .ok (.ireturn, 1) := dk_172 (dk_at dksX0_trade_1 11 rfl rfl)
theorem dX0_trade_36 : decode cX0_trade 36 = .ok (.aload_n 0, 1) := dk_42 (dk_at dksX0_trade_1 12 rfl rfl)
theorem dX0_trade_37 : decode cX0_trade 37 = .ok (.getfield 12, 3) := dk_180 0 12 (dk_at dksX0_trade_1 13 rfl rfl)
theorem dX0_trade_40 : decode cX0_trade 40 = .ok (.getfield 131, 3) := dk_180 0 131 (dk_at dksX0_trade_1 16 rfl rfl)
theorem dX0_trade_43 : decode cX0_trade 43 = .ok (.invokevirtual 134, 3) := dk_182 0 134 (dk_at dksX0_trade_1 19 rfl rfl)
theorem dX0_trade_46 : decode cX0_trade 46 = .ok (.bipush 40, 2) := dk_16 40 (dk_at dksX0_trade_1 22 rfl rfl)
theorem dX0_trade_48 : decode cX0_trade 48 = .ok (.if_icmp .ne 6, 3) := dk_160 0 6 (dk_at dksX0_trade_2 0 rfl rfl)
theorem dX0_trade_51 : decode cX0_trade 51 = .ok (.bipush (-4), 2) := dk_16 252 (dk_at dksX0_trade_2 3 rfl rfl)
theorem dX0_trade_53 : decode cX0_trade 53 = .ok (.ireturn, 1) := dk_172 (dk_at dksX0_trade_2 5 rfl rfl)
theorem dX0_trade_54 : decode cX0_trade 54 = .ok (.aload_n 0, 1) := dk_42 (dk_at dksX0_trade_2 6 rfl rfl)
theorem dX0_trade_55 : decode cX0_trade 55 = .ok (.invokevirtual 170, 3) := dk_182 0 170 (dk_at dksX0_trade_2 7 rfl rfl)
theorem dX0_trade_58 : decode cX0_trade 58 = .ok (.aload_n 0, 1) := dk_42 (dk_at dksX0_trade_2 10 rfl rfl)
theorem dX0_trade_59 : decode cX0_trade 59 = .ok (.getfield 12, 3) := dk_180 0 12 (dk_at dksX0_trade_2 11 rfl rfl)
theorem dX0_trade_62 : decode cX0_trade 62 = .ok (.getfield 131, 3) := dk_180 0 131 (dk_at dksX0_trade_2 14 rfl rfl)
theorem dX0_trade_65 : decode cX0_trade 65 = .ok (.new 173, 3) := dk_187 0 173 (dk_at dksX0_trade_2 17 rfl rfl)
theorem dX0_trade_68 : decode cX0_trade 68 = .ok (.dup, 1) := dk_89 (dk_at dksX0_trade_2 20 rfl rfl)
theorem dX0_trade_69 : decode cX0_trade 69 = .ok (.iload_n 1, 1) := dk_27 (dk_at dksX0_trade_2 21 rfl rfl)
theorem dX0_trade_70 : decode cX0_trade 70 = .ok (.iload_n 2, 1) := dk_28 (dk_at dksX0_trade_2 22 rfl rfl)
theorem dX0_trade_71 : decode cX0_trade 71 = .ok (.iload_n 3, 1) := dk_29 (dk_at dksX0_trade_2 23 rfl rfl)
theorem dX0_trade_72 : decode cX0_trade 72 = .ok (.iload 4, 2) := dk_21 4 (dk_at dksX0_trade_3 0 rfl rfl)
theorem dX0_trade_74 : decode cX0_trade 74 = .ok (.iconst 0, 1) := dk_3 (dk_at dksX0_trade_3 2 rfl rfl)
theorem dX0_trade_75 : decode cX0_trade 75 = .ok (.invokespecial 175, 3) := dk_183 0 175 (dk_at dksX0_trade_3 3 rfl rfl)
theorem dX0_trade_78 : decode cX0_trade 78 = .ok (.invokevirtual 151, 3) := dk_182 0 151 (dk_at dksX0_trade_3 6 rfl rfl)
theorem dX0_trade_81 : decode cX0_trade 81 = .ok (.pop, 1) := dk_87 (dk_at dksX0_trade_3 9 rfl rfl)
theorem dX0_trade_82 : decode cX0_trade 82 = .ok (.aload_n 0, 1) := dk_42 (dk_at dksX0_trade_3 10 rfl rfl)
theorem dX0_trade_83 : decode cX0_trade 83 = .ok (.getfield 12, 3) := dk_180 0 12 (dk_at dksX0_trade_3 11 rfl rfl)
theorem dX0_trade_86 : decode cX0_trade 86 = .ok (.getfield 131, 3) := dk_180 0 131 (dk_at dksX0_trade_3 14 rfl rfl)
theorem dX0_trade_89 : decode cX0_trade 89 = .ok (.invokevirtual 134, 3) := dk_182 0 134 (dk_at dksX0_trade_3 17 rfl rfl)
theorem dX0_trade_92 : decode cX0_trade 92 = .ok (.iconst 1, 1) := dk_4 (dk_at dksX0_trade_3 20 rfl rfl)
theorem dX0_trade_93 : decode cX0_trade 93 = .ok (.isub, 1) := dk_100 (dk_at dksX0_trade_3 21 rfl rfl)
theorem dX0_trade_94 : decode cX0_trade 94 = .ok (.ireturn, 1) := dk_172 (dk_at dksX0_trade_3 22 rfl rfl)
abbrev cX0_areTwo : ByteArray := prog_1_method_14_code
def yX0_areTwo : MethodName := ⟨RX0, "areTwo", "(II)Z"⟩
def dkwX0_areTwo_1 : List UInt8 := [167, 0, 4, 3, 172]
abbrev dktX0_areTwo_1 : List UInt8 := dkwX0_areTwo_1 ++ []
def dkwX0_areTwo_0 : List UInt8 := [42, 27, 182, 0, 154, 153, 0, 20, 42, 28, 182, 0, 154, 153, 0, 12, 27, 28, 159, 0, 7, 4]
abbrev dktX0_areTwo_0 : List UInt8 := dkwX0_areTwo_0 ++ dktX0_areTwo_1
theorem dksX0_areTwo_0 : cX0_areTwo.data.toList.drop 0 = dktX0_areTwo_0 := by decide +kernel
theorem dksX0_areTwo_1 : cX0_areTwo.data.toList.drop 22 = dktX0_areTwo_1 := dk_seg dksX0_areTwo_0 22 rfl rfl
theorem dX0_areTwo_0 : decode cX0_areTwo 0 = .ok (.aload_n 0, 1) := dk_42 (dk_at dksX0_areTwo_0 0 rfl rfl)
theorem dX0_areTwo_1 : decode cX0_areTwo 1 = .ok (.iload_n 1, 1) := dk_27 (dk_at dksX0_areTwo_0 1 rfl rfl)
theorem dX0_areTwo_2 : decode cX0_areTwo 2 = .ok (.invokevirtual 154, 3) := dk_182 0 154 (dk_at dksX0_areTwo_0 2 rfl rfl)
theorem dX0_areTwo_5 : decode cX0_areTwo 5 = .ok (.ifCond .eq 20, 3) := dk_153 0 20 (dk_at dksX0_areTwo_0 5 rfl rfl)
theorem dX0_areTwo_8 : decode cX0_areTwo 8 = .ok (.aload_n 0, 1) := dk_42 (dk_at dksX0_areTwo_0 8 rfl rfl)
theorem dX0_areTwo_9 : decode cX0_areTwo 9 = .ok (.iload_n 2, 1) := dk_28 (dk_at dksX0_areTwo_0 9 rfl rfl)
theorem dX0_areTwo_10 : decode cX0_areTwo 10 = .ok (.invokevirtual 154, 3) := dk_182 0 154 (dk_at dksX0_areTwo_0 10 rfl rfl)
theorem dX0_areTwo_13 : decode cX0_areTwo 13 = .ok (.ifCond .eq 12, 3) := dk_153 0 12 (dk_at dksX0_areTwo_0 13 rfl rfl)
theorem dX0_areTwo_16 : decode cX0_areTwo 16 = .ok (.iload_n 1, 1) := dk_27 (dk_at dksX0_areTwo_0 16 rfl rfl)
theorem dX0_areTwo_17 : decode cX0_areTwo 17 = .ok (.iload_n 2, 1) := dk_28 (dk_at dksX0_areTwo_0 17 rfl rfl)
theorem dX0_areTwo_18 : decode cX0_areTwo 18 = .ok (.if_icmp .eq 7, 3) := dk_159 0 7 (dk_at dksX0_areTwo_0 18 rfl rfl)
theorem dX0_areTwo_21 : decode cX0_areTwo 21 = .ok (.iconst 1, 1) := dk_4 (dk_at dksX0_areTwo_0 21 rfl rfl)
theorem dX0_areTwo_22 : decode cX0_areTwo 22 = .ok (.goto 4, 3) := dk_167 0 4 (dk_at dksX0_areTwo_1 0 rfl rfl)
theorem dX0_areTwo_25 : decode cX0_areTwo 25 = .ok (.iconst 0, 1) := dk_3 (dk_at dksX0_areTwo_1 3 rfl rfl)
theorem dX0_areTwo_26 : decode cX0_areTwo 26 = .ok (.ireturn, 1) := dk_172 (dk_at dksX0_areTwo_1 4 rfl rfl)
abbrev cX0_isParty : ByteArray := prog_1_method_13_code
def yX0_isParty : MethodName := ⟨RX0, "isParty", "(I)Z"⟩
def dkwX0_isParty_0 : List UInt8 := [27, 133, 9, 42, 180, 0, 12, 182, 0, 51, 4, 100, 133, 184, 0, 112, 172]
abbrev dktX0_isParty_0 : List UInt8 := dkwX0_isParty_0 ++ []
theorem dksX0_isParty_0 : cX0_isParty.data.toList.drop 0 = dktX0_isParty_0 := by decide +kernel
theorem dX0_isParty_0 : decode cX0_isParty 0 = .ok (.iload_n 1, 1) := dk_27 (dk_at dksX0_isParty_0 0 rfl rfl)
theorem dX0_isParty_1 : decode cX0_isParty 1 = .ok (.i2l, 1) := dk_133 (dk_at dksX0_isParty_0 1 rfl rfl)
theorem dX0_isParty_2 : decode cX0_isParty 2 = .ok (.lconst 0, 1) := dk_9 (dk_at dksX0_isParty_0 2 rfl rfl)
theorem dX0_isParty_3 : decode cX0_isParty 3 = .ok (.aload_n 0, 1) := dk_42 (dk_at dksX0_isParty_0 3 rfl rfl)
theorem dX0_isParty_4 : decode cX0_isParty 4 = .ok (.getfield 12, 3) := dk_180 0 12 (dk_at dksX0_isParty_0 4 rfl rfl)
theorem dX0_isParty_7 : decode cX0_isParty 7 = .ok (.invokevirtual 51, 3) := dk_182 0 51 (dk_at dksX0_isParty_0 7 rfl rfl)
theorem dX0_isParty_10 : decode cX0_isParty 10 = .ok (.iconst 1, 1) := dk_4 (dk_at dksX0_isParty_0 10 rfl rfl)
theorem dX0_isParty_11 : decode cX0_isParty 11 = .ok (.isub, 1) := dk_100 (dk_at dksX0_isParty_0 11 rfl rfl)
theorem dX0_isParty_12 : decode cX0_isParty 12 = .ok (.i2l, 1) := dk_133 (dk_at dksX0_isParty_0 12 rfl rfl)
theorem dX0_isParty_13 : decode cX0_isParty 13 = .ok (.invokestatic 112, 3) := dk_184 0 112 (dk_at dksX0_isParty_0 13 rfl rfl)
theorem dX0_isParty_16 : decode cX0_isParty 16 = .ok (.ireturn, 1) := dk_172 (dk_at dksX0_isParty_0 16 rfl rfl)
abbrev cX0_isKind : ByteArray := prog_1_method_15_code
def yX0_isKind : MethodName := ⟨RX0, "isKind", "(I)Z"⟩
def dkwX0_isKind_0 : List UInt8 := [27, 133, 9, 42, 180, 0, 12, 180, 0, 158, 182, 0, 134, 4, 100, 133, 184, 0, 112, 172]
abbrev dktX0_isKind_0 : List UInt8 := dkwX0_isKind_0 ++ []
theorem dksX0_isKind_0 : cX0_isKind.data.toList.drop 0 = dktX0_isKind_0 := by decide +kernel
theorem dX0_isKind_0 : decode cX0_isKind 0 = .ok (.iload_n 1, 1) := dk_27 (dk_at dksX0_isKind_0 0 rfl rfl)
theorem dX0_isKind_1 : decode cX0_isKind 1 = .ok (.i2l, 1) := dk_133 (dk_at dksX0_isKind_0 1 rfl rfl)
theorem dX0_isKind_2 : decode cX0_isKind 2 = .ok (.lconst 0, 1) := dk_9 (dk_at dksX0_isKind_0 2 rfl rfl)
theorem dX0_isKind_3 : decode cX0_isKind 3 = .ok (.aload_n 0, 1) := dk_42 (dk_at dksX0_isKind_0 3 rfl rfl)
theorem dX0_isKind_4 : decode cX0_isKind 4 = .ok (.getfield 12, 3) := dk_180 0 12 (dk_at dksX0_isKind_0 4 rfl rfl)
theorem dX0_isKind_7 : decode cX0_isKind 7 = .ok (.getfield 158, 3) := dk_180 0 158 (dk_at dksX0_isKind_0 7 rfl rfl)
theorem dX0_isKind_10 : decode cX0_isKind 10 = .ok (.invokevirtual 134, 3) := dk_182 0 134 (dk_at dksX0_isKind_0 10 rfl rfl)
theorem dX0_isKind_13 : decode cX0_isKind 13 = .ok (.iconst 1, 1) := dk_4 (dk_at dksX0_isKind_0 13 rfl rfl)
theorem dX0_isKind_14 : decode cX0_isKind 14 = .ok (.isub, 1) := dk_100 (dk_at dksX0_isKind_0 14 rfl rfl)
theorem dX0_isKind_15 : decode cX0_isKind 15 = .ok (.i2l, 1) := dk_133 (dk_at dksX0_isKind_0 15 rfl rfl)
theorem dX0_isKind_16 : decode cX0_isKind 16 = .ok (.invokestatic 112, 3) := dk_184 0 112 (dk_at dksX0_isKind_0 16 rfl rfl)
theorem dX0_isKind_19 : decode cX0_isKind 19 = .ok (.ireturn, 1) := dk_172 (dk_at dksX0_isKind_0 19 rfl rfl)
abbrev cX0_acts : ByteArray := prog_1_method_12_code
def yX0_acts : MethodName := ⟨RX0, "acts", "()V"⟩
def dkwX0_acts_1 : List UInt8 := [180, 0, 21, 42, 180, 0, 12, 182, 0, 148, 182, 0, 151, 87, 42, 2, 181, 0, 32, 177]
abbrev dktX0_acts_1 : List UInt8 := dkwX0_acts_1 ++ []
def dkwX0_acts_0 : List UInt8 := [42, 180, 0, 21, 182, 0, 134, 16, 10, 160, 0, 12, 42, 180, 0, 21, 3, 182, 0, 144, 87, 42]
abbrev dktX0_acts_0 : List UInt8 := dkwX0_acts_0 ++ dktX0_acts_1
theorem dksX0_acts_0 : cX0_acts.data.toList.drop 0 = dktX0_acts_0 := by decide +kernel
theorem dksX0_acts_1 : cX0_acts.data.toList.drop 22 = dktX0_acts_1 := dk_seg dksX0_acts_0 22 rfl rfl
theorem dX0_acts_0 : decode cX0_acts 0 = .ok (.aload_n 0, 1) := dk_42 (dk_at dksX0_acts_0 0 rfl rfl)
theorem dX0_acts_1 : decode cX0_acts 1 = .ok (.getfield 21, 3) := dk_180 0 21 (dk_at dksX0_acts_0 1 rfl rfl)
theorem dX0_acts_4 : decode cX0_acts 4 = .ok (.invokevirtual 134, 3) := dk_182 0 134 (dk_at dksX0_acts_0 4 rfl rfl)
theorem dX0_acts_7 : decode cX0_acts 7 = .ok (.bipush 10, 2) := dk_16 10 (dk_at dksX0_acts_0 7 rfl rfl)
theorem dX0_acts_9 : decode cX0_acts 9 = .ok (.if_icmp .ne 12, 3) := dk_160 0 12 (dk_at dksX0_acts_0 9 rfl rfl)
theorem dX0_acts_12 : decode cX0_acts 12 = .ok (.aload_n 0, 1) := dk_42 (dk_at dksX0_acts_0 12 rfl rfl)
theorem dX0_acts_13 : decode cX0_acts 13 = .ok (.getfield 21, 3) := dk_180 0 21 (dk_at dksX0_acts_0 13 rfl rfl)
theorem dX0_acts_16 : decode cX0_acts 16 = .ok (.iconst 0, 1) := dk_3 (dk_at dksX0_acts_0 16 rfl rfl)
theorem dX0_acts_17 : decode cX0_acts 17 = .ok (.invokevirtual 144, 3) := dk_182 0 144 (dk_at dksX0_acts_0 17 rfl rfl)
theorem dX0_acts_20 : decode cX0_acts 20 = .ok (.pop, 1) := dk_87 (dk_at dksX0_acts_0 20 rfl rfl)
theorem dX0_acts_21 : decode cX0_acts 21 = .ok (.aload_n 0, 1) := dk_42 (dk_at dksX0_acts_0 21 rfl rfl)
theorem dX0_acts_22 : decode cX0_acts 22 = .ok (.getfield 21, 3) := dk_180 0 21 (dk_at dksX0_acts_1 0 rfl rfl)
theorem dX0_acts_25 : decode cX0_acts 25 = .ok (.aload_n 0, 1) := dk_42 (dk_at dksX0_acts_1 3 rfl rfl)
theorem dX0_acts_26 : decode cX0_acts 26 = .ok (.getfield 12, 3) := dk_180 0 12 (dk_at dksX0_acts_1 4 rfl rfl)
theorem dX0_acts_29 : decode cX0_acts 29 = .ok (.invokevirtual 148, 3) := dk_182 0 148 (dk_at dksX0_acts_1 7 rfl rfl)
theorem dX0_acts_32 : decode cX0_acts 32 = .ok (.invokevirtual 151, 3) := dk_182 0 151 (dk_at dksX0_acts_1 10 rfl rfl)
theorem dX0_acts_35 : decode cX0_acts 35 = .ok (.pop, 1) := dk_87 (dk_at dksX0_acts_1 13 rfl rfl)
theorem dX0_acts_36 : decode cX0_acts 36 = .ok (.aload_n 0, 1) := dk_42 (dk_at dksX0_acts_1 14 rfl rfl)
theorem dX0_acts_37 : decode cX0_acts 37 = .ok (.iconst (-1), 1) := dk_2 (dk_at dksX0_acts_1 15 rfl rfl)
theorem dX0_acts_38 : decode cX0_acts 38 = .ok (.putfield 32, 3) := dk_181 0 32 (dk_at dksX0_acts_1 16 rfl rfl)
theorem dX0_acts_41 : decode cX0_acts 41 = .ok (.return_, 1) := dk_177 (dk_at dksX0_acts_1 19 rfl rfl)
abbrev cX0_drop : ByteArray := prog_1_method_18_code
def yX0_drop : MethodName := ⟨RX0, "drop", "(I)I"⟩
def dkwX0_drop_1 : List UInt8 := [182, 0, 144, 87, 42, 180, 0, 12, 180, 0, 131, 182, 0, 134, 172]
abbrev dktX0_drop_1 : List UInt8 := dkwX0_drop_1 ++ []
def dkwX0_drop_0 : List UInt8 := [42, 27, 182, 0, 178, 154, 0, 6, 16, 254, 172, 42, 182, 0, 170, 42, 180, 0, 12, 180, 0, 131, 27]
abbrev dktX0_drop_0 : List UInt8 := dkwX0_drop_0 ++ dktX0_drop_1
theorem dksX0_drop_0 : cX0_drop.data.toList.drop 0 = dktX0_drop_0 := by decide +kernel
theorem dksX0_drop_1 : cX0_drop.data.toList.drop 23 = dktX0_drop_1 := dk_seg dksX0_drop_0 23 rfl rfl
theorem dX0_drop_0 : decode cX0_drop 0 = .ok (.aload_n 0, 1) := dk_42 (dk_at dksX0_drop_0 0 rfl rfl)
theorem dX0_drop_1 : decode cX0_drop 1 = .ok (.iload_n 1, 1) := dk_27 (dk_at dksX0_drop_0 1 rfl rfl)
theorem dX0_drop_2 : decode cX0_drop 2 = .ok (.invokevirtual 178, 3) := dk_182 0 178 (dk_at dksX0_drop_0 2 rfl rfl)
theorem dX0_drop_5 : decode cX0_drop 5 = .ok (.ifCond .ne 6, 3) := dk_154 0 6 (dk_at dksX0_drop_0 5 rfl rfl)
theorem dX0_drop_8 : decode cX0_drop 8 = .ok (.bipush (-2), 2) := dk_16 254 (dk_at dksX0_drop_0 8 rfl rfl)
theorem dX0_drop_10 : decode cX0_drop 10 = .ok (.ireturn, 1) := dk_172 (dk_at dksX0_drop_0 10 rfl rfl)
theorem dX0_drop_11 : decode cX0_drop 11 = .ok (.aload_n 0, 1) := dk_42 (dk_at dksX0_drop_0 11 rfl rfl)
theorem dX0_drop_12 : decode cX0_drop 12 = .ok (.invokevirtual 170, 3) := dk_182 0 170 (dk_at dksX0_drop_0 12 rfl rfl)
theorem dX0_drop_15 : decode cX0_drop 15 = .ok (.aload_n 0, 1) := dk_42 (dk_at dksX0_drop_0 15 rfl rfl)
theorem dX0_drop_16 : decode cX0_drop 16 = .ok (.getfield 12, 3) := dk_180 0 12 (dk_at dksX0_drop_0 16 rfl rfl)
theorem dX0_drop_19 : decode cX0_drop 19 = .ok (.getfield 131, 3) := dk_180 0 131 (dk_at dksX0_drop_0 19 rfl rfl)
theorem dX0_drop_22 : decode cX0_drop 22 = .ok (.iload_n 1, 1) := dk_27 (dk_at dksX0_drop_0 22 rfl rfl)
theorem dX0_drop_23 : decode cX0_drop 23 = .ok (.invokevirtual 144, 3) := dk_182 0 144 (dk_at dksX0_drop_1 0 rfl rfl)
theorem dX0_drop_26 : decode cX0_drop 26 = .ok (.pop, 1) := dk_87 (dk_at dksX0_drop_1 3 rfl rfl)
theorem dX0_drop_27 : decode cX0_drop 27 = .ok (.aload_n 0, 1) := dk_42 (dk_at dksX0_drop_1 4 rfl rfl)
theorem dX0_drop_28 : decode cX0_drop 28 = .ok (.getfield 12, 3) := dk_180 0 12 (dk_at dksX0_drop_1 5 rfl rfl)
theorem dX0_drop_31 : decode cX0_drop 31 = .ok (.getfield 131, 3) := dk_180 0 131 (dk_at dksX0_drop_1 8 rfl rfl)
theorem dX0_drop_34 : decode cX0_drop 34 = .ok (.invokevirtual 134, 3) := dk_182 0 134 (dk_at dksX0_drop_1 11 rfl rfl)
theorem dX0_drop_37 : decode cX0_drop 37 = .ok (.ireturn, 1) := dk_172 (dk_at dksX0_drop_1 14 rfl rfl)
abbrev cX0_isTrade : ByteArray := prog_1_method_16_code
def yX0_isTrade : MethodName := ⟨RX0, "isTrade", "(I)Z"⟩
def dkwX0_isTrade_0 : List UInt8 := [27, 133, 9, 42, 180, 0, 12, 180, 0, 131, 182, 0, 134, 4, 100, 133, 184, 0, 112, 172]
abbrev dktX0_isTrade_0 : List UInt8 := dkwX0_isTrade_0 ++ []
theorem dksX0_isTrade_0 : cX0_isTrade.data.toList.drop 0 = dktX0_isTrade_0 := by decide +kernel
theorem dX0_isTrade_0 : decode cX0_isTrade 0 = .ok (.iload_n 1, 1) := dk_27 (dk_at dksX0_isTrade_0 0 rfl rfl)
theorem dX0_isTrade_1 : decode cX0_isTrade 1 = .ok (.i2l, 1) := dk_133 (dk_at dksX0_isTrade_0 1 rfl rfl)
theorem dX0_isTrade_2 : decode cX0_isTrade 2 = .ok (.lconst 0, 1) := dk_9 (dk_at dksX0_isTrade_0 2 rfl rfl)
theorem dX0_isTrade_3 : decode cX0_isTrade 3 = .ok (.aload_n 0, 1) := dk_42 (dk_at dksX0_isTrade_0 3 rfl rfl)
theorem dX0_isTrade_4 : decode cX0_isTrade 4 = .ok (.getfield 12, 3) := dk_180 0 12 (dk_at dksX0_isTrade_0 4 rfl rfl)
theorem dX0_isTrade_7 : decode cX0_isTrade 7 = .ok (.getfield 131, 3) := dk_180 0 131 (dk_at dksX0_isTrade_0 7 rfl rfl)
theorem dX0_isTrade_10 : decode cX0_isTrade 10 = .ok (.invokevirtual 134, 3) := dk_182 0 134 (dk_at dksX0_isTrade_0 10 rfl rfl)
theorem dX0_isTrade_13 : decode cX0_isTrade 13 = .ok (.iconst 1, 1) := dk_4 (dk_at dksX0_isTrade_0 13 rfl rfl)
theorem dX0_isTrade_14 : decode cX0_isTrade 14 = .ok (.isub, 1) := dk_100 (dk_at dksX0_isTrade_0 14 rfl rfl)
theorem dX0_isTrade_15 : decode cX0_isTrade 15 = .ok (.i2l, 1) := dk_133 (dk_at dksX0_isTrade_0 15 rfl rfl)
theorem dX0_isTrade_16 : decode cX0_isTrade 16 = .ok (.invokestatic 112, 3) := dk_184 0 112 (dk_at dksX0_isTrade_0 16 rfl rfl)
theorem dX0_isTrade_19 : decode cX0_isTrade 19 = .ok (.ireturn, 1) := dk_172 (dk_at dksX0_isTrade_0 19 rfl rfl)
abbrev cX0_keep : ByteArray := prog_1_method_19_code
def yX0_keep : MethodName := ⟨RX0, "keep", "(I)I"⟩
def dkwX0_keep_2 : List UInt8 := [180, 0, 192, 184, 0, 196, 172]
abbrev dktX0_keep_2 : List UInt8 := dkwX0_keep_2 ++ []
def dkwX0_keep_1 : List UInt8 := [182, 0, 181, 192, 0, 173, 182, 0, 184, 77, 42, 180, 0, 12, 180, 0, 131, 27, 44, 182, 0, 188, 87, 44]
abbrev dktX0_keep_1 : List UInt8 := dkwX0_keep_1 ++ dktX0_keep_2
def dkwX0_keep_0 : List UInt8 := [42, 27, 182, 0, 178, 154, 0, 6, 16, 254, 172, 42, 182, 0, 170, 42, 180, 0, 12, 180, 0, 131, 27]
abbrev dktX0_keep_0 : List UInt8 := dkwX0_keep_0 ++ dktX0_keep_1
theorem dksX0_keep_0 : cX0_keep.data.toList.drop 0 = dktX0_keep_0 := by decide +kernel
theorem dksX0_keep_1 : cX0_keep.data.toList.drop 23 = dktX0_keep_1 := dk_seg dksX0_keep_0 23 rfl rfl
theorem dksX0_keep_2 : cX0_keep.data.toList.drop 47 = dktX0_keep_2 := dk_seg dksX0_keep_1 24 rfl rfl
theorem dX0_keep_0 : decode cX0_keep 0 = .ok (.aload_n 0, 1) := dk_42 (dk_at dksX0_keep_0 0 rfl rfl)
theorem dX0_keep_1 : decode cX0_keep 1 = .ok (.iload_n 1, 1) := dk_27 (dk_at dksX0_keep_0 1 rfl rfl)
theorem dX0_keep_2 : decode cX0_keep 2 = .ok (.invokevirtual 178, 3) := dk_182 0 178 (dk_at dksX0_keep_0 2 rfl rfl)
theorem dX0_keep_5 : decode cX0_keep 5 = .ok (.ifCond .ne 6, 3) := dk_154 0 6 (dk_at dksX0_keep_0 5 rfl rfl)
theorem dX0_keep_8 : decode cX0_keep 8 = .ok (.bipush (-2), 2) := dk_16 254 (dk_at dksX0_keep_0 8 rfl rfl)
theorem dX0_keep_10 : decode cX0_keep 10 = .ok (.ireturn, 1) := dk_172 (dk_at dksX0_keep_0 10 rfl rfl)
theorem dX0_keep_11 : decode cX0_keep 11 = .ok (.aload_n 0, 1) := dk_42 (dk_at dksX0_keep_0 11 rfl rfl)
theorem dX0_keep_12 : decode cX0_keep 12 = .ok (.invokevirtual 170, 3) := dk_182 0 170 (dk_at dksX0_keep_0 12 rfl rfl)
theorem dX0_keep_15 : decode cX0_keep 15 = .ok (.aload_n 0, 1) := dk_42 (dk_at dksX0_keep_0 15 rfl rfl)
theorem dX0_keep_16 : decode cX0_keep 16 = .ok (.getfield 12, 3) := dk_180 0 12 (dk_at dksX0_keep_0 16 rfl rfl)
theorem dX0_keep_19 : decode cX0_keep 19 = .ok (.getfield 131, 3) := dk_180 0 131 (dk_at dksX0_keep_0 19 rfl rfl)
theorem dX0_keep_22 : decode cX0_keep 22 = .ok (.iload_n 1, 1) := dk_27 (dk_at dksX0_keep_0 22 rfl rfl)
theorem dX0_keep_23 : decode cX0_keep 23 = .ok (.invokevirtual 181, 3) := dk_182 0 181 (dk_at dksX0_keep_1 0 rfl rfl)
theorem dX0_keep_26 : decode cX0_keep 26 = .ok (.checkcast 173, 3) := dk_192 0 173 (dk_at dksX0_keep_1 3 rfl rfl)
theorem dX0_keep_29 : decode cX0_keep 29 = .ok (.invokevirtual 184, 3) := dk_182 0 184 (dk_at dksX0_keep_1 6 rfl rfl)
theorem dX0_keep_32 : decode cX0_keep 32 = .ok (.astore_n 2, 1) := dk_77 (dk_at dksX0_keep_1 9 rfl rfl)
theorem dX0_keep_33 : decode cX0_keep 33 = .ok (.aload_n 0, 1) := dk_42 (dk_at dksX0_keep_1 10 rfl rfl)
theorem dX0_keep_34 : decode cX0_keep 34 = .ok (.getfield 12, 3) := dk_180 0 12 (dk_at dksX0_keep_1 11 rfl rfl)
theorem dX0_keep_37 : decode cX0_keep 37 = .ok (.getfield 131, 3) := dk_180 0 131 (dk_at dksX0_keep_1 14 rfl rfl)
theorem dX0_keep_40 : decode cX0_keep 40 = .ok (.iload_n 1, 1) := dk_27 (dk_at dksX0_keep_1 17 rfl rfl)
theorem dX0_keep_41 : decode cX0_keep 41 = .ok (.aload_n 2, 1) := dk_44 (dk_at dksX0_keep_1 18 rfl rfl)
theorem dX0_keep_42 : decode cX0_keep 42 = .ok (.invokevirtual 188, 3) := dk_182 0 188 (dk_at dksX0_keep_1 19 rfl rfl)
theorem dX0_keep_45 : decode cX0_keep 45 = .ok (.pop, 1) := dk_87 (dk_at dksX0_keep_1 22 rfl rfl)
theorem dX0_keep_46 : decode cX0_keep 46 = .ok (.aload_n 2, 1) := dk_44 (dk_at dksX0_keep_1 23 rfl rfl)
theorem dX0_keep_47 : decode cX0_keep 47 = .ok (.getfield 192, 3) := dk_180 0 192 (dk_at dksX0_keep_2 0 rfl rfl)
theorem dX0_keep_50 : decode cX0_keep 50 = .ok (.invokestatic 196, 3) := dk_184 0 196 (dk_at dksX0_keep_2 3 rfl rfl)
theorem dX0_keep_53 : decode cX0_keep 53 = .ok (.ireturn, 1) := dk_172 (dk_at dksX0_keep_2 6 rfl rfl)
abbrev cX0_one : ByteArray := prog_1_method_2_code
def yX0_one : MethodName := ⟨RX0, "one", "(Z)I"⟩
def dkwX0_one_0 : List UInt8 := [26, 153, 0, 7, 4, 167, 0, 4, 3, 172]
abbrev dktX0_one_0 : List UInt8 := dkwX0_one_0 ++ []
theorem dksX0_one_0 : cX0_one.data.toList.drop 0 = dktX0_one_0 := by decide +kernel
theorem dX0_one_0 : decode cX0_one 0 = .ok (.iload_n 0, 1) := dk_26 (dk_at dksX0_one_0 0 rfl rfl)
theorem dX0_one_1 : decode cX0_one 1 = .ok (.ifCond .eq 7, 3) := dk_153 0 7 (dk_at dksX0_one_0 1 rfl rfl)
theorem dX0_one_4 : decode cX0_one 4 = .ok (.iconst 1, 1) := dk_4 (dk_at dksX0_one_0 4 rfl rfl)
theorem dX0_one_5 : decode cX0_one 5 = .ok (.goto 4, 3) := dk_167 0 4 (dk_at dksX0_one_0 5 rfl rfl)
theorem dX0_one_8 : decode cX0_one 8 = .ok (.iconst 0, 1) := dk_3 (dk_at dksX0_one_0 8 rfl rfl)
theorem dX0_one_9 : decode cX0_one 9 = .ok (.ireturn, 1) := dk_172 (dk_at dksX0_one_0 9 rfl rfl)
abbrev cX0_mode : ByteArray := prog_1_method_20_code
def yX0_mode : MethodName := ⟨RX0, "mode", "(I)I"⟩
def dkwX0_mode_1 : List UInt8 := [180, 0, 55, 61, 42, 180, 0, 12, 27, 181, 0, 55, 28, 172]
abbrev dktX0_mode_1 : List UInt8 := dkwX0_mode_1 ++ []
def dkwX0_mode_0 : List UInt8 := [27, 133, 9, 20, 0, 200, 184, 0, 112, 154, 0, 6, 16, 253, 172, 42, 182, 0, 170, 42, 180, 0, 12]
abbrev dktX0_mode_0 : List UInt8 := dkwX0_mode_0 ++ dktX0_mode_1
theorem dksX0_mode_0 : cX0_mode.data.toList.drop 0 = dktX0_mode_0 := by decide +kernel
theorem dksX0_mode_1 : cX0_mode.data.toList.drop 23 = dktX0_mode_1 := dk_seg dksX0_mode_0 23 rfl rfl
theorem dX0_mode_0 : decode cX0_mode 0 = .ok (.iload_n 1, 1) := dk_27 (dk_at dksX0_mode_0 0 rfl rfl)
theorem dX0_mode_1 : decode cX0_mode 1 = .ok (.i2l, 1) := dk_133 (dk_at dksX0_mode_0 1 rfl rfl)
theorem dX0_mode_2 : decode cX0_mode 2 = .ok (.lconst 0, 1) := dk_9 (dk_at dksX0_mode_0 2 rfl rfl)
theorem dX0_mode_3 : decode cX0_mode 3 = .ok (.ldc2_w 200, 3) := dk_20 0 200 (dk_at dksX0_mode_0 3 rfl rfl)
theorem dX0_mode_6 : decode cX0_mode 6 = .ok (.invokestatic 112, 3) := dk_184 0 112 (dk_at dksX0_mode_0 6 rfl rfl)
theorem dX0_mode_9 : decode cX0_mode 9 = .ok (.ifCond .ne 6, 3) := dk_154 0 6 (dk_at dksX0_mode_0 9 rfl rfl)
theorem dX0_mode_12 : decode cX0_mode 12 = .ok (.bipush (-3), 2) := dk_16 253 (dk_at dksX0_mode_0 12 rfl rfl)
theorem dX0_mode_14 : decode cX0_mode 14 = .ok (.ireturn, 1) := dk_172 (dk_at dksX0_mode_0 14 rfl rfl)
theorem dX0_mode_15 : decode cX0_mode 15 = .ok (.aload_n 0, 1) := dk_42 (dk_at dksX0_mode_0 15 rfl rfl)
theorem dX0_mode_16 : decode cX0_mode 16 = .ok (.invokevirtual 170, 3) := dk_182 0 170 (dk_at dksX0_mode_0 16 rfl rfl)
theorem dX0_mode_19 : decode cX0_mode 19 = .ok (.aload_n 0, 1) := dk_42 (dk_at dksX0_mode_0 19 rfl rfl)
theorem dX0_mode_20 : decode cX0_mode 20 = .ok (.getfield 12, 3) := dk_180 0 12 (dk_at dksX0_mode_0 20 rfl rfl)
theorem dX0_mode_23 : decode cX0_mode 23 = .ok (.getfield 55, 3) := dk_180 0 55 (dk_at dksX0_mode_1 0 rfl rfl)
theorem dX0_mode_26 : decode cX0_mode 26 = .ok (.istore_n 2, 1) := dk_61 (dk_at dksX0_mode_1 3 rfl rfl)
theorem dX0_mode_27 : decode cX0_mode 27 = .ok (.aload_n 0, 1) := dk_42 (dk_at dksX0_mode_1 4 rfl rfl)
theorem dX0_mode_28 : decode cX0_mode 28 = .ok (.getfield 12, 3) := dk_180 0 12 (dk_at dksX0_mode_1 5 rfl rfl)
theorem dX0_mode_31 : decode cX0_mode 31 = .ok (.iload_n 1, 1) := dk_27 (dk_at dksX0_mode_1 8 rfl rfl)
theorem dX0_mode_32 : decode cX0_mode 32 = .ok (.putfield 55, 3) := dk_181 0 55 (dk_at dksX0_mode_1 9 rfl rfl)
theorem dX0_mode_35 : decode cX0_mode 35 = .ok (.iload_n 2, 1) := dk_28 (dk_at dksX0_mode_1 12 rfl rfl)
theorem dX0_mode_36 : decode cX0_mode 36 = .ok (.ireturn, 1) := dk_172 (dk_at dksX0_mode_1 13 rfl rfl)
abbrev cX0_cap : ByteArray := prog_1_method_21_code
def yX0_cap : MethodName := ⟨RX0, "cap", "(III)I"⟩
def dkwX0_cap_2 : List UInt8 := [180, 0, 12, 180, 0, 58, 16, 8, 27, 104, 28, 96, 29, 79, 21, 4, 172]
abbrev dktX0_cap_2 : List UInt8 := dkwX0_cap_2 ++ []
def dkwX0_cap_1 : List UInt8 := [16, 253, 172, 42, 182, 0, 170, 42, 180, 0, 12, 180, 0, 58, 16, 8, 27, 104, 28, 96, 46, 54, 4, 42]
abbrev dktX0_cap_1 : List UInt8 := dkwX0_cap_1 ++ dktX0_cap_2
def dkwX0_cap_0 : List UInt8 := [42, 27, 28, 182, 0, 161, 154, 0, 6, 16, 254, 172, 29, 133, 9, 20, 0, 202, 184, 0, 112, 154, 0, 6]
abbrev dktX0_cap_0 : List UInt8 := dkwX0_cap_0 ++ dktX0_cap_1
theorem dksX0_cap_0 : cX0_cap.data.toList.drop 0 = dktX0_cap_0 := by decide +kernel
theorem dksX0_cap_1 : cX0_cap.data.toList.drop 24 = dktX0_cap_1 := dk_seg dksX0_cap_0 24 rfl rfl
theorem dksX0_cap_2 : cX0_cap.data.toList.drop 48 = dktX0_cap_2 := dk_seg dksX0_cap_1 24 rfl rfl
theorem dX0_cap_0 : decode cX0_cap 0 = .ok (.aload_n 0, 1) := dk_42 (dk_at dksX0_cap_0 0 rfl rfl)
theorem dX0_cap_1 : decode cX0_cap 1 = .ok (.iload_n 1, 1) := dk_27 (dk_at dksX0_cap_0 1 rfl rfl)
theorem dX0_cap_2 : decode cX0_cap 2 = .ok (.iload_n 2, 1) := dk_28 (dk_at dksX0_cap_0 2 rfl rfl)
theorem dX0_cap_3 : decode cX0_cap 3 = .ok (.invokevirtual 161, 3) := dk_182 0 161 (dk_at dksX0_cap_0 3 rfl rfl)
theorem dX0_cap_6 : decode cX0_cap 6 = .ok (.ifCond .ne 6, 3) := dk_154 0 6 (dk_at dksX0_cap_0 6 rfl rfl)
theorem dX0_cap_9 : decode cX0_cap 9 = .ok (.bipush (-2), 2) := dk_16 254 (dk_at dksX0_cap_0 9 rfl rfl)
theorem dX0_cap_11 : decode cX0_cap 11 = .ok (.ireturn, 1) := dk_172 (dk_at dksX0_cap_0 11 rfl rfl)
theorem dX0_cap_12 : decode cX0_cap 12 = .ok (.iload_n 3, 1) := dk_29 (dk_at dksX0_cap_0 12 rfl rfl)
theorem dX0_cap_13 : decode cX0_cap 13 = .ok (.i2l, 1) := dk_133 (dk_at dksX0_cap_0 13 rfl rfl)
theorem dX0_cap_14 : decode cX0_cap 14 = .ok (.lconst 0, 1) := dk_9 (dk_at dksX0_cap_0 14 rfl rfl)
theorem dX0_cap_15 : decode cX0_cap 15 = .ok (.ldc2_w 202, 3) := dk_20 0 202 (dk_at dksX0_cap_0 15 rfl rfl)
theorem dX0_cap_18 : decode cX0_cap 18 = .ok (.invokestatic 112, 3) := dk_184 0 112 (dk_at dksX0_cap_0 18 rfl rfl)
theorem dX0_cap_21 : decode cX0_cap 21 = .ok (.ifCond .ne 6, 3) := dk_154 0 6 (dk_at dksX0_cap_0 21 rfl rfl)
theorem dX0_cap_24 : decode cX0_cap 24 = .ok (.bipush (-3), 2) := dk_16 253 (dk_at dksX0_cap_1 0 rfl rfl)
theorem dX0_cap_26 : decode cX0_cap 26 = .ok (.ireturn, 1) := dk_172 (dk_at dksX0_cap_1 2 rfl rfl)
theorem dX0_cap_27 : decode cX0_cap 27 = .ok (.aload_n 0, 1) := dk_42 (dk_at dksX0_cap_1 3 rfl rfl)
theorem dX0_cap_28 : decode cX0_cap 28 = .ok (.invokevirtual 170, 3) := dk_182 0 170 (dk_at dksX0_cap_1 4 rfl rfl)
theorem dX0_cap_31 : decode cX0_cap 31 = .ok (.aload_n 0, 1) := dk_42 (dk_at dksX0_cap_1 7 rfl rfl)
theorem dX0_cap_32 : decode cX0_cap 32 = .ok (.getfield 12, 3) := dk_180 0 12 (dk_at dksX0_cap_1 8 rfl rfl)
theorem dX0_cap_35 : decode cX0_cap 35 = .ok (.getfield 58, 3) := dk_180 0 58 (dk_at dksX0_cap_1 11 rfl rfl)
theorem dX0_cap_38 : decode cX0_cap 38 = .ok (.bipush 8, 2) := dk_16 8 (dk_at dksX0_cap_1 14 rfl rfl)
theorem dX0_cap_40 : decode cX0_cap 40 = .ok (.iload_n 1, 1) := dk_27 (dk_at dksX0_cap_1 16 rfl rfl)
theorem dX0_cap_41 : decode cX0_cap 41 = .ok (.imul, 1) := dk_104 (dk_at dksX0_cap_1 17 rfl rfl)
theorem dX0_cap_42 : decode cX0_cap 42 = .ok (.iload_n 2, 1) := dk_28 (dk_at dksX0_cap_1 18 rfl rfl)
theorem dX0_cap_43 : decode cX0_cap 43 = .ok (.iadd, 1) := dk_96 (dk_at dksX0_cap_1 19 rfl rfl)
theorem dX0_cap_44 : decode cX0_cap 44 = .ok (.iaload, 1) := dk_46 (dk_at dksX0_cap_1 20 rfl rfl)
theorem dX0_cap_45 : decode cX0_cap 45 = .ok (.istore 4, 2) := dk_54 4 (dk_at dksX0_cap_1 21 rfl rfl)
theorem dX0_cap_47 : decode cX0_cap 47 = .ok (.aload_n 0, 1) := dk_42 (dk_at dksX0_cap_1 23 rfl rfl)
theorem dX0_cap_48 : decode cX0_cap 48 = .ok (.getfield 12, 3) := dk_180 0 12 (dk_at dksX0_cap_2 0 rfl rfl)
theorem dX0_cap_51 : decode cX0_cap 51 = .ok (.getfield 58, 3) := dk_180 0 58 (dk_at dksX0_cap_2 3 rfl rfl)
theorem dX0_cap_54 : decode cX0_cap 54 = .ok (.bipush 8, 2) := dk_16 8 (dk_at dksX0_cap_2 6 rfl rfl)
theorem dX0_cap_56 : decode cX0_cap 56 = .ok (.iload_n 1, 1) := dk_27 (dk_at dksX0_cap_2 8 rfl rfl)
theorem dX0_cap_57 : decode cX0_cap 57 = .ok (.imul, 1) := dk_104 (dk_at dksX0_cap_2 9 rfl rfl)
theorem dX0_cap_58 : decode cX0_cap 58 = .ok (.iload_n 2, 1) := dk_28 (dk_at dksX0_cap_2 10 rfl rfl)
theorem dX0_cap_59 : decode cX0_cap 59 = .ok (.iadd, 1) := dk_96 (dk_at dksX0_cap_2 11 rfl rfl)
theorem dX0_cap_60 : decode cX0_cap 60 = .ok (.iload_n 3, 1) := dk_29 (dk_at dksX0_cap_2 12 rfl rfl)
theorem dX0_cap_61 : decode cX0_cap 61 = .ok (.iastore, 1) := dk_79 (dk_at dksX0_cap_2 13 rfl rfl)
theorem dX0_cap_62 : decode cX0_cap 62 = .ok (.iload 4, 2) := dk_21 4 (dk_at dksX0_cap_2 14 rfl rfl)
theorem dX0_cap_64 : decode cX0_cap 64 = .ok (.ireturn, 1) := dk_172 (dk_at dksX0_cap_2 16 rfl rfl)
abbrev cX0_takeRing : ByteArray := prog_1_method_23_code
def yX0_takeRing : MethodName := ⟨RX0, "takeRing", "(I)I"⟩
def dkwX0_takeRing_4 : List UInt8 := [172]
abbrev dktX0_takeRing_4 : List UInt8 := dkwX0_takeRing_4 ++ []
def dkwX0_takeRing_3 : List UInt8 := [180, 0, 234, 21, 4, 46, 44, 21, 4, 182, 0, 237, 27, 29, 182, 0, 241, 132, 4, 1, 167, 255, 225, 29]
abbrev dktX0_takeRing_3 : List UInt8 := dkwX0_takeRing_3 ++ dktX0_takeRing_4
def dkwX0_takeRing_2 : List UInt8 := [182, 0, 170, 44, 182, 0, 229, 62, 3, 54, 4, 21, 4, 44, 180, 0, 232, 162, 0, 28, 42, 44]
abbrev dktX0_takeRing_2 : List UInt8 := dkwX0_takeRing_2 ++ dktX0_takeRing_3
def dkwX0_takeRing_1 : List UInt8 := [180, 0, 12, 27, 182, 0, 71, 183, 0, 222, 77, 44, 182, 0, 225, 154, 0, 6, 16, 251, 172, 42]
abbrev dktX0_takeRing_1 : List UInt8 := dkwX0_takeRing_1 ++ dktX0_takeRing_2
def dkwX0_takeRing_0 : List UInt8 := [42, 27, 182, 0, 165, 154, 0, 6, 16, 254, 172, 187, 0, 220, 89, 42, 180, 0, 12, 182, 0, 51, 42]
abbrev dktX0_takeRing_0 : List UInt8 := dkwX0_takeRing_0 ++ dktX0_takeRing_1
theorem dksX0_takeRing_0 : cX0_takeRing.data.toList.drop 0 = dktX0_takeRing_0 := by decide +kernel
theorem dksX0_takeRing_1 : cX0_takeRing.data.toList.drop 23 = dktX0_takeRing_1 := dk_seg dksX0_takeRing_0 23 rfl rfl
theorem dksX0_takeRing_2 : cX0_takeRing.data.toList.drop 45 = dktX0_takeRing_2 := dk_seg dksX0_takeRing_1 22 rfl rfl
theorem dksX0_takeRing_3 : cX0_takeRing.data.toList.drop 67 = dktX0_takeRing_3 := dk_seg dksX0_takeRing_2 22 rfl rfl
theorem dksX0_takeRing_4 : cX0_takeRing.data.toList.drop 91 = dktX0_takeRing_4 := dk_seg dksX0_takeRing_3 24 rfl rfl
theorem dX0_takeRing_0 : decode cX0_takeRing 0 = .ok (.aload_n 0, 1) := dk_42 (dk_at dksX0_takeRing_0 0 rfl rfl)
theorem dX0_takeRing_1 : decode cX0_takeRing 1 = .ok (.iload_n 1, 1) := dk_27 (dk_at dksX0_takeRing_0 1 rfl rfl)
theorem dX0_takeRing_2 : decode cX0_takeRing 2 = .ok (.invokevirtual 165, 3) := dk_182 0 165 (dk_at dksX0_takeRing_0 2 rfl rfl)
theorem dX0_takeRing_5 : decode cX0_takeRing 5 = .ok (.ifCond .ne 6, 3) := dk_154 0 6 (dk_at dksX0_takeRing_0 5 rfl rfl)
theorem dX0_takeRing_8 : decode cX0_takeRing 8 = .ok (.bipush (-2), 2) := dk_16 254 (dk_at dksX0_takeRing_0 8 rfl rfl)
theorem dX0_takeRing_10 : decode cX0_takeRing 10 = .ok (.ireturn, 1) := dk_172 (dk_at dksX0_takeRing_0 10 rfl rfl)
theorem dX0_takeRing_11 : decode cX0_takeRing 11 = .ok (.new 220, 3) := dk_187 0 220 (dk_at dksX0_takeRing_0 11 rfl rfl)
theorem dX0_takeRing_14 : decode cX0_takeRing 14 = .ok (.dup, 1) := dk_89 (dk_at dksX0_takeRing_0 14 rfl rfl)
theorem dX0_takeRing_15 : decode cX0_takeRing 15 = .ok (.aload_n 0, 1) := dk_42 (dk_at dksX0_takeRing_0 15 rfl rfl)
theorem dX0_takeRing_16 : decode cX0_takeRing 16 = .ok (.getfield 12, 3) := dk_180 0 12 (dk_at dksX0_takeRing_0 16 rfl rfl)
theorem dX0_takeRing_19 : decode cX0_takeRing 19 = .ok (.invokevirtual 51, 3) := dk_182 0 51 (dk_at dksX0_takeRing_0 19 rfl rfl)
theorem dX0_takeRing_22 : decode cX0_takeRing 22 = .ok (.aload_n 0, 1) := dk_42 (dk_at dksX0_takeRing_0 22 rfl rfl)
theorem dX0_takeRing_23 : decode cX0_takeRing 23 = .ok (.getfield 12, 3) := dk_180 0 12 (dk_at dksX0_takeRing_1 0 rfl rfl)
theorem dX0_takeRing_26 : decode cX0_takeRing 26 = .ok (.iload_n 1, 1) := dk_27 (dk_at dksX0_takeRing_1 3 rfl rfl)
theorem dX0_takeRing_27 : decode cX0_takeRing 27 = .ok (.invokevirtual 71, 3) := dk_182 0 71 (dk_at dksX0_takeRing_1 4 rfl rfl)
theorem dX0_takeRing_30 : decode cX0_takeRing 30 = .ok (.invokespecial 222, 3) := dk_183 0 222 (dk_at dksX0_takeRing_1 7 rfl rfl)
theorem dX0_takeRing_33 : decode cX0_takeRing 33 = .ok (.astore_n 2, 1) := dk_77 (dk_at dksX0_takeRing_1 10 rfl rfl)
theorem dX0_takeRing_34 : decode cX0_takeRing 34 = .ok (.aload_n 2, 1) := dk_44 (dk_at dksX0_takeRing_1 11 rfl rfl)
theorem dX0_takeRing_35 : decode cX0_takeRing 35 = .ok (.invokevirtual 225, 3) := dk_182 0 225 (dk_at dksX0_takeRing_1 12 rfl rfl)
theorem dX0_takeRing_38 : decode cX0_takeRing 38 = .ok (.ifCond .ne 6, 3) := dk_154 0 6 (dk_at dksX0_takeRing_1 15 rfl rfl)
theorem dX0_takeRing_41 : decode cX0_takeRing 41 = .ok (.bipush (-5), 2) := dk_16 251 (dk_at dksX0_takeRing_1 18 rfl rfl)
theorem dX0_takeRing_43 : decode cX0_takeRing 43 = .ok (.ireturn, 1) := dk_172 (dk_at dksX0_takeRing_1 20 rfl rfl)
theorem dX0_takeRing_44 : decode cX0_takeRing 44 = .ok (.aload_n 0, 1) := dk_42 (dk_at dksX0_takeRing_1 21 rfl rfl)
theorem dX0_takeRing_45 : decode cX0_takeRing 45 = .ok (.invokevirtual 170, 3) := dk_182 0 170 (dk_at dksX0_takeRing_2 0 rfl rfl)
theorem dX0_takeRing_48 : decode cX0_takeRing 48 = .ok (.aload_n 2, 1) := dk_44 (dk_at dksX0_takeRing_2 3 rfl rfl)
theorem dX0_takeRing_49 : decode cX0_takeRing 49 = .ok (.invokevirtual 229, 3) := dk_182 0 229 (dk_at dksX0_takeRing_2 4 rfl rfl)
theorem dX0_takeRing_52 : decode cX0_takeRing 52 = .ok (.istore_n 3, 1) := dk_62 (dk_at dksX0_takeRing_2 7 rfl rfl)
theorem dX0_takeRing_53 : decode cX0_takeRing 53 = .ok (.iconst 0, 1) := dk_3 (dk_at dksX0_takeRing_2 8 rfl rfl)
theorem dX0_takeRing_54 : decode cX0_takeRing 54 = .ok (.istore 4, 2) := dk_54 4 (dk_at dksX0_takeRing_2 9 rfl rfl)
theorem dX0_takeRing_56 : decode cX0_takeRing 56 = .ok (.iload 4, 2) := dk_21 4 (dk_at dksX0_takeRing_2 11 rfl rfl)
theorem dX0_takeRing_58 : decode cX0_takeRing 58 = .ok (.aload_n 2, 1) := dk_44 (dk_at dksX0_takeRing_2 13 rfl rfl)
theorem dX0_takeRing_59 : decode cX0_takeRing 59 = .ok (.getfield 232, 3) := dk_180 0 232 (dk_at dksX0_takeRing_2 14 rfl rfl)
theorem dX0_takeRing_62 : decode cX0_takeRing 62 = .ok (.if_icmp .ge 28, 3) := dk_162 0 28 (dk_at dksX0_takeRing_2 17 rfl rfl)
theorem dX0_takeRing_65 : decode cX0_takeRing 65 = .ok (.aload_n 0, 1) := dk_42 (dk_at dksX0_takeRing_2 20 rfl rfl)
theorem dX0_takeRing_66 : decode cX0_takeRing 66 = .ok (.aload_n 2, 1) := dk_44 (dk_at dksX0_takeRing_2 21 rfl rfl)
theorem dX0_takeRing_67 : decode cX0_takeRing 67 = .ok (.getfield 234, 3) := dk_180 0 234 (dk_at dksX0_takeRing_3 0 rfl rfl)
theorem dX0_takeRing_70 : decode cX0_takeRing 70 = .ok (.iload 4, 2) := dk_21 4 (dk_at dksX0_takeRing_3 3 rfl rfl)
theorem dX0_takeRing_72 : decode cX0_takeRing 72 = .ok (.iaload, 1) := dk_46 (dk_at dksX0_takeRing_3 5 rfl rfl)
theorem dX0_takeRing_73 : decode cX0_takeRing 73 = .ok (.aload_n 2, 1) := dk_44 (dk_at dksX0_takeRing_3 6 rfl rfl)
theorem dX0_takeRing_74 : decode cX0_takeRing 74 = .ok (.iload 4, 2) := dk_21 4 (dk_at dksX0_takeRing_3 7 rfl rfl)
theorem dX0_takeRing_76 : decode cX0_takeRing 76 = .ok (.invokevirtual 237, 3) := dk_182 0 237 (dk_at dksX0_takeRing_3 9 rfl rfl)
theorem dX0_takeRing_79 : decode cX0_takeRing 79 = .ok (.iload_n 1, 1) := dk_27 (dk_at dksX0_takeRing_3 12 rfl rfl)
theorem dX0_takeRing_80 : decode cX0_takeRing 80 = .ok (.iload_n 3, 1) := dk_29 (dk_at dksX0_takeRing_3 13 rfl rfl)
theorem dX0_takeRing_81 : decode cX0_takeRing 81 = .ok (.invokevirtual 241, 3) := dk_182 0 241 (dk_at dksX0_takeRing_3 14 rfl rfl)
theorem dX0_takeRing_84 : decode cX0_takeRing 84 = .ok (.iinc 4 1, 3) := dk_132 4 1 (dk_at dksX0_takeRing_3 17 rfl rfl)
theorem dX0_takeRing_87 : decode cX0_takeRing 87 = .ok (.goto (-31), 3) := dk_167 255 225 (dk_at dksX0_takeRing_3 20 rfl rfl)
theorem dX0_takeRing_90 : decode cX0_takeRing 90 = .ok (.iload_n 3, 1) := dk_29 (dk_at dksX0_takeRing_3 23 rfl rfl)
theorem dX0_takeRing_91 : decode cX0_takeRing 91 = .ok (.ireturn, 1) := dk_172 (dk_at dksX0_takeRing_4 0 rfl rfl)
abbrev cX0_lessens : ByteArray := prog_1_method_22_code
def yX0_lessens : MethodName := ⟨RX0, "lessens", "(IIII)V"⟩
def dkwX0_lessens_6 : List UInt8 := [132, 6, 255, 167, 255, 131, 177]
abbrev dktX0_lessens_6 : List UInt8 := dkwX0_lessens_6 ++ []
def dkwX0_lessens_5 : List UInt8 := [87, 167, 0, 23, 42, 180, 0, 12, 180, 0, 131, 21, 6, 25, 7, 21, 8, 182, 0, 216, 182, 0, 188, 87]
abbrev dktX0_lessens_5 : List UInt8 := dkwX0_lessens_5 ++ dktX0_lessens_6
def dkwX0_lessens_4 : List UInt8 := [54, 5, 21, 8, 25, 7, 180, 0, 213, 160, 0, 19, 42, 180, 0, 12, 180, 0, 131, 21, 6, 182, 0, 144]
abbrev dktX0_lessens_4 : List UInt8 := dkwX0_lessens_4 ++ dktX0_lessens_5
def dkwX0_lessens_3 : List UInt8 := [159, 0, 6, 167, 0, 68, 21, 5, 25, 7, 180, 0, 213, 184, 0, 43, 54, 8, 21, 5, 21, 8, 100]
abbrev dktX0_lessens_3 : List UInt8 := dkwX0_lessens_3 ++ dktX0_lessens_4
def dkwX0_lessens_2 : List UInt8 := [29, 182, 0, 204, 153, 0, 89, 25, 7, 180, 0, 207, 27, 160, 0, 80, 25, 7, 180, 0, 210, 28]
abbrev dktX0_lessens_2 : List UInt8 := dkwX0_lessens_2 ++ dktX0_lessens_3
def dkwX0_lessens_1 : List UInt8 := [21, 5, 158, 0, 121, 42, 180, 0, 12, 180, 0, 131, 21, 6, 182, 0, 181, 192, 0, 173, 58, 7, 25, 7]
abbrev dktX0_lessens_1 : List UInt8 := dkwX0_lessens_1 ++ dktX0_lessens_2
def dkwX0_lessens_0 : List UInt8 := [21, 4, 54, 5, 42, 180, 0, 12, 180, 0, 131, 182, 0, 134, 4, 100, 54, 6, 21, 6, 155, 0, 126]
abbrev dktX0_lessens_0 : List UInt8 := dkwX0_lessens_0 ++ dktX0_lessens_1
theorem dksX0_lessens_0 : cX0_lessens.data.toList.drop 0 = dktX0_lessens_0 := by decide +kernel
theorem dksX0_lessens_1 : cX0_lessens.data.toList.drop 23 = dktX0_lessens_1 := dk_seg dksX0_lessens_0 23 rfl rfl
theorem dksX0_lessens_2 : cX0_lessens.data.toList.drop 47 = dktX0_lessens_2 := dk_seg dksX0_lessens_1 24 rfl rfl
theorem dksX0_lessens_3 : cX0_lessens.data.toList.drop 69 = dktX0_lessens_3 := dk_seg dksX0_lessens_2 22 rfl rfl
theorem dksX0_lessens_4 : cX0_lessens.data.toList.drop 92 = dktX0_lessens_4 := dk_seg dksX0_lessens_3 23 rfl rfl
theorem dksX0_lessens_5 : cX0_lessens.data.toList.drop 116 = dktX0_lessens_5 := dk_seg dksX0_lessens_4 24 rfl rfl
theorem dksX0_lessens_6 : cX0_lessens.data.toList.drop 140 = dktX0_lessens_6 := dk_seg dksX0_lessens_5 24 rfl rfl
theorem dX0_lessens_0 : decode cX0_lessens 0 = .ok (.iload 4, 2) := dk_21 4 (dk_at dksX0_lessens_0 0 rfl rfl)
theorem dX0_lessens_2 : decode cX0_lessens 2 = .ok (.istore 5, 2) := dk_54 5 (dk_at dksX0_lessens_0 2 rfl rfl)
theorem dX0_lessens_4 : decode cX0_lessens 4 = .ok (.aload_n 0, 1) := dk_42 (dk_at dksX0_lessens_0 4 rfl rfl)
theorem dX0_lessens_5 : decode cX0_lessens 5 = .ok (.getfield 12, 3) := dk_180 0 12 (dk_at dksX0_lessens_0 5 rfl rfl)
theorem dX0_lessens_8 : decode cX0_lessens 8 = .ok (.getfield 131, 3) := dk_180 0 131 (dk_at dksX0_lessens_0 8 rfl rfl)
theorem dX0_lessens_11 : decode cX0_lessens 11 = .ok (.invokevirtual 134, 3) := dk_182 0 134 (dk_at dksX0_lessens_0 11 rfl rfl)
theorem dX0_lessens_14 : decode cX0_lessens 14 = .ok (.iconst 1, 1) := dk_4 (dk_at dksX0_lessens_0 14 rfl rfl)
theorem dX0_lessens_15 : decode cX0_lessens 15 = .ok (.isub, 1) := dk_100 (dk_at dksX0_lessens_0 15 rfl rfl)
theorem dX0_lessens_16 : decode cX0_lessens 16 = .ok (.istore 6, 2) := dk_54 6 (dk_at dksX0_lessens_0 16 rfl rfl)
theorem dX0_lessens_18 : decode cX0_lessens 18 = .ok (.iload 6, 2) := dk_21 6 (dk_at dksX0_lessens_0 18 rfl rfl)
theorem dX0_lessens_20 : decode cX0_lessens 20 = .ok (.ifCond .lt 126, 3) := dk_155 0 126 (dk_at dksX0_lessens_0 20 rfl rfl)
theorem dX0_lessens_23 : decode cX0_lessens 23 = .ok (.iload 5, 2) := dk_21 5 (dk_at dksX0_lessens_1 0 rfl rfl)
theorem dX0_lessens_25 : decode cX0_lessens 25 = .ok (.ifCond .le 121, 3) := dk_158 0 121 (dk_at dksX0_lessens_1 2 rfl rfl)
theorem dX0_lessens_28 : decode cX0_lessens 28 = .ok (.aload_n 0, 1) := dk_42 (dk_at dksX0_lessens_1 5 rfl rfl)
theorem dX0_lessens_29 : decode cX0_lessens 29 = .ok (.getfield 12, 3) := dk_180 0 12 (dk_at dksX0_lessens_1 6 rfl rfl)
theorem dX0_lessens_32 : decode cX0_lessens 32 = .ok (.getfield 131, 3) := dk_180 0 131 (dk_at dksX0_lessens_1 9 rfl rfl)
theorem dX0_lessens_35 : decode cX0_lessens 35 = .ok (.iload 6, 2) := dk_21 6 (dk_at dksX0_lessens_1 12 rfl rfl)
theorem dX0_lessens_37 : decode cX0_lessens 37 = .ok (.invokevirtual 181, 3) := dk_182 0 181 (dk_at dksX0_lessens_1 14 rfl rfl)
theorem dX0_lessens_40 : decode cX0_lessens 40 = .ok (.checkcast 173, 3) := dk_192 0 173 (dk_at dksX0_lessens_1 17 rfl rfl)
theorem dX0_lessens_43 : decode cX0_lessens 43 = .ok (.astore 7, 2) := dk_58 7 (dk_at dksX0_lessens_1 20 rfl rfl)
theorem dX0_lessens_45 : decode cX0_lessens 45 = .ok (.aload 7, 2) := dk_25 7 (dk_at dksX0_lessens_1 22 rfl rfl)
theorem dX0_lessens_47 : decode cX0_lessens 47 = .ok (.iload_n 3, 1) := dk_29 (dk_at dksX0_lessens_2 0 rfl rfl)
theorem dX0_lessens_48 : decode cX0_lessens 48 = .ok (.invokevirtual 204, 3) := dk_182 0 204 (dk_at dksX0_lessens_2 1 rfl rfl)
theorem dX0_lessens_51 : decode cX0_lessens 51 = .ok (.ifCond .eq 89, 3) := dk_153 0 89 (dk_at dksX0_lessens_2 4 rfl rfl)
theorem dX0_lessens_54 : decode cX0_lessens 54 = .ok (.aload 7, 2) := dk_25 7 (dk_at dksX0_lessens_2 7 rfl rfl)
theorem dX0_lessens_56 : decode cX0_lessens 56 = .ok (.getfield 207, 3) := dk_180 0 207 (dk_at dksX0_lessens_2 9 rfl rfl)
theorem dX0_lessens_59 : decode cX0_lessens 59 = .ok (.iload_n 1, 1) := dk_27 (dk_at dksX0_lessens_2 12 rfl rfl)
theorem dX0_lessens_60 : decode cX0_lessens 60 = .ok (.if_icmp .ne 80, 3) := dk_160 0 80 (dk_at dksX0_lessens_2 13 rfl rfl)
theorem dX0_lessens_63 : decode cX0_lessens 63 = .ok (.aload 7, 2) := dk_25 7 (dk_at dksX0_lessens_2 16 rfl rfl)
theorem dX0_lessens_65 : decode cX0_lessens 65 = .ok (.getfield 210, 3) := dk_180 0 210 (dk_at dksX0_lessens_2 18 rfl rfl)
theorem dX0_lessens_68 : decode cX0_lessens 68 = .ok (.iload_n 2, 1) := dk_28 (dk_at dksX0_lessens_2 21 rfl rfl)
theorem dX0_lessens_69 : decode cX0_lessens 69 = .ok (.if_icmp .eq 6, 3) := dk_159 0 6 (dk_at dksX0_lessens_3 0 rfl rfl)
theorem dX0_lessens_72 : decode cX0_lessens 72 = .ok (.goto 68, 3) := dk_167 0 68 (dk_at dksX0_lessens_3 3 rfl rfl)
theorem dX0_lessens_75 : decode cX0_lessens 75 = .ok (.iload 5, 2) := dk_21 5 (dk_at dksX0_lessens_3 6 rfl rfl)
theorem dX0_lessens_77 : decode cX0_lessens 77 = .ok (.aload 7, 2) := dk_25 7 (dk_at dksX0_lessens_3 8 rfl rfl)
theorem dX0_lessens_79 : decode cX0_lessens 79 = .ok (.getfield 213, 3) := dk_180 0 213 (dk_at dksX0_lessens_3 10 rfl rfl)
theorem dX0_lessens_82 : decode cX0_lessens 82 = .ok (.invokestatic 43, 3) := dk_184 0 43 (dk_at dksX0_lessens_3 13 rfl rfl)
theorem dX0_lessens_85 : decode cX0_lessens 85 = .ok (.istore 8, 2) := dk_54 8 (dk_at dksX0_lessens_3 16 rfl rfl)
theorem dX0_lessens_87 : decode cX0_lessens 87 = .ok (.iload 5, 2) := dk_21 5 (dk_at dksX0_lessens_3 18 rfl rfl)
theorem dX0_lessens_89 : decode cX0_lessens 89 = .ok (.iload 8, 2) := dk_21 8 (dk_at dksX0_lessens_3 20 rfl rfl)
theorem dX0_lessens_91 : decode cX0_lessens 91 = .ok (.isub, 1) := dk_100 (dk_at dksX0_lessens_3 22 rfl rfl)
theorem dX0_lessens_92 : decode cX0_lessens 92 = .ok (.istore 5, 2) := dk_54 5 (dk_at dksX0_lessens_4 0 rfl rfl)
theorem dX0_lessens_94 : decode cX0_lessens 94 = .ok (.iload 8, 2) := dk_21 8 (dk_at dksX0_lessens_4 2 rfl rfl)
theorem dX0_lessens_96 : decode cX0_lessens 96 = .ok (.aload 7, 2) := dk_25 7 (dk_at dksX0_lessens_4 4 rfl rfl)
theorem dX0_lessens_98 : decode cX0_lessens 98 = .ok (.getfield 213, 3) := dk_180 0 213 (dk_at dksX0_lessens_4 6 rfl rfl)
theorem dX0_lessens_101 : decode cX0_lessens 101 = .ok (.if_icmp .ne 19, 3) := dk_160 0 19 (dk_at dksX0_lessens_4 9 rfl rfl)
theorem dX0_lessens_104 : decode cX0_lessens 104 = .ok (.aload_n 0, 1) := dk_42 (dk_at dksX0_lessens_4 12 rfl rfl)
theorem dX0_lessens_105 : decode cX0_lessens 105 = .ok (.getfield 12, 3) := dk_180 0 12 (dk_at dksX0_lessens_4 13 rfl rfl)
theorem dX0_lessens_108 : decode cX0_lessens 108 = .ok (.getfield 131, 3) := dk_180 0 131 (dk_at dksX0_lessens_4 16 rfl rfl)
theorem dX0_lessens_111 : decode cX0_lessens 111 = .ok (.iload 6, 2) := dk_21 6 (dk_at dksX0_lessens_4 19 rfl rfl)
theorem dX0_lessens_113 : decode cX0_lessens 113 = .ok (.invokevirtual 144, 3) := dk_182 0 144 (dk_at dksX0_lessens_4 21 rfl rfl)
theorem dX0_lessens_116 : decode cX0_lessens 116 = .ok (.pop, 1) := dk_87 (dk_at dksX0_lessens_5 0 rfl rfl)
theorem dX0_lessens_117 : decode cX0_lessens 117 = .ok (.goto 23, 3) := dk_167 0 23 (dk_at dksX0_lessens_5 1 rfl rfl)
theorem dX0_lessens_120 : decode cX0_lessens 120 = .ok (.aload_n 0, 1) := dk_42 (dk_at dksX0_lessens_5 4 rfl rfl)
theorem dX0_lessens_121 : decode cX0_lessens 121 = .ok (.getfield 12, 3) := dk_180 0 12 (dk_at dksX0_lessens_5 5 rfl rfl)
theorem dX0_lessens_124 : decode cX0_lessens 124 = .ok (.getfield 131, 3) := dk_180 0 131 (dk_at dksX0_lessens_5 8 rfl rfl)
theorem dX0_lessens_127 : decode cX0_lessens 127 = .ok (.iload 6, 2) := dk_21 6 (dk_at dksX0_lessens_5 11 rfl rfl)
theorem dX0_lessens_129 : decode cX0_lessens 129 = .ok (.aload 7, 2) := dk_25 7 (dk_at dksX0_lessens_5 13 rfl rfl)
theorem dX0_lessens_131 : decode cX0_lessens 131 = .ok (.iload 8, 2) := dk_21 8 (dk_at dksX0_lessens_5 15 rfl rfl)
theorem dX0_lessens_133 : decode cX0_lessens 133 = .ok (.invokevirtual 216, 3) := dk_182 0 216 (dk_at dksX0_lessens_5 17 rfl rfl)
theorem dX0_lessens_136 : decode cX0_lessens 136 = .ok (.invokevirtual 188, 3) := dk_182 0 188 (dk_at dksX0_lessens_5 20 rfl rfl)
theorem dX0_lessens_139 : decode cX0_lessens 139 = .ok (.pop, 1) := dk_87 (dk_at dksX0_lessens_5 23 rfl rfl)
theorem dX0_lessens_140 : decode cX0_lessens 140 = .ok (.iinc 6 (-1), 3) := dk_132 6 255 (dk_at dksX0_lessens_6 0 rfl rfl)
theorem dX0_lessens_143 : decode cX0_lessens 143 = .ok (.goto (-125), 3) := dk_167 255 131 (dk_at dksX0_lessens_6 3 rfl rfl)
theorem dX0_lessens_146 : decode cX0_lessens 146 = .ok (.return_, 1) := dk_177 (dk_at dksX0_lessens_6 6 rfl rfl)
abbrev cX0_press : ByteArray := prog_1_method_25_code
def yX0_press : MethodName := ⟨RX0, "press", "(I)I"⟩
def dkwX0_press_9 : List UInt8 := [183, 0, 175, 182, 0, 151, 87, 132, 4, 1, 167, 255, 205, 42, 180, 0, 12, 180, 0, 131, 182, 0, 134, 172]
abbrev dktX0_press_9 : List UInt8 := dkwX0_press_9 ++ []
def dkwX0_press_8 : List UInt8 := [180, 0, 131, 187, 0, 173, 89, 21, 4, 16, 8, 108, 21, 4, 16, 8, 112, 44, 21, 4, 46, 27, 3]
abbrev dktX0_press_8 : List UInt8 := dkwX0_press_8 ++ dktX0_press_9
def dkwX0_press_7 : List UInt8 := [167, 255, 213, 3, 54, 4, 21, 4, 44, 190, 162, 0, 50, 44, 21, 4, 46, 158, 0, 37, 42, 180, 0, 12]
abbrev dktX0_press_7 : List UInt8 := dkwX0_press_7 ++ dktX0_press_8
def dkwX0_press_6 : List UInt8 := [182, 0, 204, 153, 0, 16, 42, 180, 0, 12, 180, 0, 131, 21, 4, 182, 0, 144, 87, 132, 4, 255]
abbrev dktX0_press_6 : List UInt8 := dkwX0_press_6 ++ dktX0_press_7
def dkwX0_press_5 : List UInt8 := [54, 4, 21, 4, 155, 0, 44, 42, 180, 0, 12, 180, 0, 131, 21, 4, 182, 0, 181, 192, 0, 173, 27]
abbrev dktX0_press_5 : List UInt8 := dkwX0_press_5 ++ dktX0_press_6
def dkwX0_press_4 : List UInt8 := [16, 40, 164, 0, 6, 16, 252, 172, 42, 182, 0, 170, 42, 180, 0, 12, 180, 0, 131, 182, 0, 134, 4, 100]
abbrev dktX0_press_4 : List UInt8 := dkwX0_press_4 ++ dktX0_press_5
def dkwX0_press_3 : List UInt8 := [132, 4, 1, 167, 255, 213, 42, 180, 0, 12, 180, 0, 131, 182, 0, 134, 29, 100, 44, 184, 0, 247, 96]
abbrev dktX0_press_3 : List UInt8 := dkwX0_press_3 ++ dktX0_press_4
def dkwX0_press_2 : List UInt8 := [180, 0, 12, 180, 0, 131, 21, 4, 182, 0, 181, 192, 0, 173, 27, 182, 0, 204, 184, 0, 196, 96, 62]
abbrev dktX0_press_2 : List UInt8 := dkwX0_press_2 ++ dktX0_press_3
def dkwX0_press_1 : List UInt8 := [3, 62, 3, 54, 4, 21, 4, 42, 180, 0, 12, 180, 0, 131, 182, 0, 134, 162, 0, 34, 29, 42]
abbrev dktX0_press_1 : List UInt8 := dkwX0_press_1 ++ dktX0_press_2
def dkwX0_press_0 : List UInt8 := [42, 27, 182, 0, 165, 154, 0, 6, 16, 254, 172, 42, 27, 182, 0, 245, 77, 44, 199, 0, 6, 16, 251, 172]
abbrev dktX0_press_0 : List UInt8 := dkwX0_press_0 ++ dktX0_press_1
theorem dksX0_press_0 : cX0_press.data.toList.drop 0 = dktX0_press_0 := by decide +kernel
theorem dksX0_press_1 : cX0_press.data.toList.drop 24 = dktX0_press_1 := dk_seg dksX0_press_0 24 rfl rfl
theorem dksX0_press_2 : cX0_press.data.toList.drop 46 = dktX0_press_2 := dk_seg dksX0_press_1 22 rfl rfl
theorem dksX0_press_3 : cX0_press.data.toList.drop 69 = dktX0_press_3 := dk_seg dksX0_press_2 23 rfl rfl
theorem dksX0_press_4 : cX0_press.data.toList.drop 92 = dktX0_press_4 := dk_seg dksX0_press_3 23 rfl rfl
theorem dksX0_press_5 : cX0_press.data.toList.drop 116 = dktX0_press_5 := dk_seg dksX0_press_4 24 rfl rfl
theorem dksX0_press_6 : cX0_press.data.toList.drop 139 = dktX0_press_6 := dk_seg dksX0_press_5 23 rfl rfl
theorem dksX0_press_7 : cX0_press.data.toList.drop 161 = dktX0_press_7 := dk_seg dksX0_press_6 22 rfl rfl
theorem dksX0_press_8 : cX0_press.data.toList.drop 185 = dktX0_press_8 := dk_seg dksX0_press_7 24 rfl rfl
theorem dksX0_press_9 : cX0_press.data.toList.drop 208 = dktX0_press_9 := dk_seg dksX0_press_8 23 rfl rfl
theorem dX0_press_0 : decode cX0_press 0 = .ok (.aload_n 0, 1) := dk_42 (dk_at dksX0_press_0 0 rfl rfl)
theorem dX0_press_1 : decode cX0_press 1 = .ok (.iload_n 1, 1) := dk_27 (dk_at dksX0_press_0 1 rfl rfl)
theorem dX0_press_2 : decode cX0_press 2 = .ok (.invokevirtual 165, 3) := dk_182 0 165 (dk_at dksX0_press_0 2 rfl rfl)
theorem dX0_press_5 : decode cX0_press 5 = .ok (.ifCond .ne 6, 3) := dk_154 0 6 (dk_at dksX0_press_0 5 rfl rfl)
theorem dX0_press_8 : decode cX0_press 8 = .ok (.bipush (-2), 2) := dk_16 254 (dk_at dksX0_press_0 8 rfl rfl)
theorem dX0_press_10 : decode cX0_press 10 = .ok (.ireturn, 1) := dk_172 (dk_at dksX0_press_0 10 rfl rfl)
theorem dX0_press_11 : decode cX0_press 11 = .ok (.aload_n 0, 1) := dk_42 (dk_at dksX0_press_0 11 rfl rfl)
theorem dX0_press_12 : decode cX0_press 12 = .ok (.iload_n 1, 1) := dk_27 (dk_at dksX0_press_0 12 rfl rfl)
theorem dX0_press_13 : decode cX0_press 13 = .ok (.invokevirtual 245, 3) := dk_182 0 245 (dk_at dksX0_press_0 13 rfl rfl)
theorem dX0_press_16 : decode cX0_press 16 = .ok (.astore_n 2, 1) := dk_77 (dk_at dksX0_press_0 16 rfl rfl)
theorem dX0_press_17 : decode cX0_press 17 = .ok (.aload_n 2, 1) := dk_44 (dk_at dksX0_press_0 17 rfl rfl)
theorem dX0_press_18 : decode cX0_press 18 = .ok (.ifnonnull 6, 3) := dk_199 0 6 (dk_at dksX0_press_0 18 rfl rfl)
theorem dX0_press_21 : decode cX0_press 21 = .ok (.bipush (-5), 2) := dk_16 251 (dk_at dksX0_press_0 21 rfl rfl)
theorem dX0_press_23 : decode cX0_press 23 = .ok (.ireturn, 1) := dk_172 (dk_at dksX0_press_0 23 rfl rfl)
theorem dX0_press_24 : decode cX0_press 24 = .ok (.iconst 0, 1) := dk_3 (dk_at dksX0_press_1 0 rfl rfl)
theorem dX0_press_25 : decode cX0_press 25 = .ok (.istore_n 3, 1) := dk_62 (dk_at dksX0_press_1 1 rfl rfl)
theorem dX0_press_26 : decode cX0_press 26 = .ok (.iconst 0, 1) := dk_3 (dk_at dksX0_press_1 2 rfl rfl)
theorem dX0_press_27 : decode cX0_press 27 = .ok (.istore 4, 2) := dk_54 4 (dk_at dksX0_press_1 3 rfl rfl)
theorem dX0_press_29 : decode cX0_press 29 = .ok (.iload 4, 2) := dk_21 4 (dk_at dksX0_press_1 5 rfl rfl)
theorem dX0_press_31 : decode cX0_press 31 = .ok (.aload_n 0, 1) := dk_42 (dk_at dksX0_press_1 7 rfl rfl)
theorem dX0_press_32 : decode cX0_press 32 = .ok (.getfield 12, 3) := dk_180 0 12 (dk_at dksX0_press_1 8 rfl rfl)
theorem dX0_press_35 : decode cX0_press 35 = .ok (.getfield 131, 3) := dk_180 0 131 (dk_at dksX0_press_1 11 rfl rfl)
theorem dX0_press_38 : decode cX0_press 38 = .ok (.invokevirtual 134, 3) := dk_182 0 134 (dk_at dksX0_press_1 14 rfl rfl)
theorem dX0_press_41 : decode cX0_press 41 = .ok (.if_icmp .ge 34, 3) := dk_162 0 34 (dk_at dksX0_press_1 17 rfl rfl)
theorem dX0_press_44 : decode cX0_press 44 = .ok (.iload_n 3, 1) := dk_29 (dk_at dksX0_press_1 20 rfl rfl)
theorem dX0_press_45 : decode cX0_press 45 = .ok (.aload_n 0, 1) := dk_42 (dk_at dksX0_press_1 21 rfl rfl)
theorem dX0_press_46 : decode cX0_press 46 = .ok (.getfield 12, 3) := dk_180 0 12 (dk_at dksX0_press_2 0 rfl rfl)
theorem dX0_press_49 : decode cX0_press 49 = .ok (.getfield 131, 3) := dk_180 0 131 (dk_at dksX0_press_2 3 rfl rfl)
theorem dX0_press_52 : decode cX0_press 52 = .ok (.iload 4, 2) := dk_21 4 (dk_at dksX0_press_2 6 rfl rfl)
theorem dX0_press_54 : decode cX0_press 54 = .ok (.invokevirtual 181, 3) := dk_182 0 181 (dk_at dksX0_press_2 8 rfl rfl)
theorem dX0_press_57 : decode cX0_press 57 = .ok (.checkcast 173, 3) := dk_192 0 173 (dk_at dksX0_press_2 11 rfl rfl)
theorem dX0_press_60 : decode cX0_press 60 = .ok (.iload_n 1, 1) := dk_27 (dk_at dksX0_press_2 14 rfl rfl)
theorem dX0_press_61 : decode cX0_press 61 = .ok (.invokevirtual 204, 3) := dk_182 0 204 (dk_at dksX0_press_2 15 rfl rfl)
theorem dX0_press_64 : decode cX0_press 64 = .ok (.invokestatic 196, 3) := dk_184 0 196 (dk_at dksX0_press_2 18 rfl rfl)
theorem dX0_press_67 : decode cX0_press 67 = .ok (.iadd, 1) := dk_96 (dk_at dksX0_press_2 21 rfl rfl)
theorem dX0_press_68 : decode cX0_press 68 = .ok (.istore_n 3, 1) := dk_62 (dk_at dksX0_press_2 22 rfl rfl)
theorem dX0_press_69 : decode cX0_press 69 = .ok (.iinc 4 1, 3) := dk_132 4 1 (dk_at dksX0_press_3 0 rfl rfl)
theorem dX0_press_72 : decode cX0_press 72 = .ok (.goto (-43), 3) := dk_167 255 213 (dk_at dksX0_press_3 3 rfl rfl)
theorem dX0_press_75 : decode cX0_press 75 = .ok (.aload_n 0, 1) := dk_42 (dk_at dksX0_press_3 6 rfl rfl)
theorem dX0_press_76 : decode cX0_press 76 = .ok (.getfield 12, 3) := dk_180 0 12 (dk_at dksX0_press_3 7 rfl rfl)
theorem dX0_press_79 : decode cX0_press 79 = .ok (.getfield 131, 3) := dk_180 0 131 (dk_at dksX0_press_3 10 rfl rfl)
theorem dX0_press_82 : decode cX0_press 82 = .ok (.invokevirtual 134, 3) := dk_182 0 134 (dk_at dksX0_press_3 13 rfl rfl)
theorem dX0_press_85 : decode cX0_press 85 = .ok (.iload_n 3, 1) := dk_29 (dk_at dksX0_press_3 16 rfl rfl)
theorem dX0_press_86 : decode cX0_press 86 = .ok (.isub, 1) := dk_100 (dk_at dksX0_press_3 17 rfl rfl)
theorem dX0_press_87 : decode cX0_press 87 = .ok (.aload_n 2, 1) := dk_44 (dk_at dksX0_press_3 18 rfl rfl)
theorem dX0_press_88 : decode cX0_press 88 = .ok (.invokestatic 247, 3) := dk_184 0 247 (dk_at dksX0_press_3 19 rfl rfl)
theorem dX0_press_91 : decode cX0_press 91 = .ok (.iadd, 1) := dk_96 (dk_at dksX0_press_3 22 rfl rfl)
theorem dX0_press_92 : decode cX0_press 92 = .ok (.bipush 40, 2) := dk_16 40 (dk_at dksX0_press_4 0 rfl rfl)
theorem dX0_press_94 : decode cX0_press 94 = .ok (.if_icmp .le 6, 3) := dk_164 0 6 (dk_at dksX0_press_4 2 rfl rfl)
theorem dX0_press_97 : decode cX0_press 97 = .ok (.bipush (-4), 2) := dk_16 252 (dk_at dksX0_press_4 5 rfl rfl)
theorem dX0_press_99 : decode cX0_press 99 = .ok (.ireturn, 1) := dk_172 (dk_at dksX0_press_4 7 rfl rfl)
theorem dX0_press_100 : decode cX0_press 100 = .ok (.aload_n 0, 1) := dk_42 (dk_at dksX0_press_4 8 rfl rfl)
theorem dX0_press_101 : decode cX0_press 101 = .ok (.invokevirtual 170, 3) := dk_182 0 170 (dk_at dksX0_press_4 9 rfl rfl)
theorem dX0_press_104 : decode cX0_press 104 = .ok (.aload_n 0, 1) := dk_42 (dk_at dksX0_press_4 12 rfl rfl)
theorem dX0_press_105 : decode cX0_press 105 = .ok (.getfield 12, 3) := dk_180 0 12 (dk_at dksX0_press_4 13 rfl rfl)
theorem dX0_press_108 : decode cX0_press 108 = .ok (.getfield 131, 3) := dk_180 0 131 (dk_at dksX0_press_4 16 rfl rfl)
theorem dX0_press_111 : decode cX0_press 111 = .ok (.invokevirtual 134, 3) := dk_182 0 134 (dk_at dksX0_press_4 19 rfl rfl)
theorem dX0_press_114 : decode cX0_press 114 = .ok (.iconst 1, 1) := dk_4 (dk_at dksX0_press_4 22 rfl rfl)
theorem dX0_press_115 : decode cX0_press 115 = .ok (.isub, 1) := dk_100 (dk_at dksX0_press_4 23 rfl rfl)
theorem dX0_press_116 : decode cX0_press 116 = .ok (.istore 4, 2) := dk_54 4 (dk_at dksX0_press_5 0 rfl rfl)
theorem dX0_press_118 : decode cX0_press 118 = .ok (.iload 4, 2) := dk_21 4 (dk_at dksX0_press_5 2 rfl rfl)
theorem dX0_press_120 : decode cX0_press 120 = .ok (.ifCond .lt 44, 3) := dk_155 0 44 (dk_at dksX0_press_5 4 rfl rfl)
theorem dX0_press_123 : decode cX0_press 123 = .ok (.aload_n 0, 1) := dk_42 (dk_at dksX0_press_5 7 rfl rfl)
theorem dX0_press_124 : decode cX0_press 124 = .ok (.getfield 12, 3) := dk_180 0 12 (dk_at dksX0_press_5 8 rfl rfl)
theorem dX0_press_127 : decode cX0_press 127 = .ok (.getfield 131, 3) := dk_180 0 131 (dk_at dksX0_press_5 11 rfl rfl)
theorem dX0_press_130 : decode cX0_press 130 = .ok (.iload 4, 2) := dk_21 4 (dk_at dksX0_press_5 14 rfl rfl)
theorem dX0_press_132 : decode cX0_press 132 = .ok (.invokevirtual 181, 3) := dk_182 0 181 (dk_at dksX0_press_5 16 rfl rfl)
theorem dX0_press_135 : decode cX0_press 135 = .ok (.checkcast 173, 3) := dk_192 0 173 (dk_at dksX0_press_5 19 rfl rfl)
theorem dX0_press_138 : decode cX0_press 138 = .ok (.iload_n 1, 1) := dk_27 (dk_at dksX0_press_5 22 rfl rfl)
theorem dX0_press_139 : decode cX0_press 139 = .ok (.invokevirtual 204, 3) := dk_182 0 204 (dk_at dksX0_press_6 0 rfl rfl)
theorem dX0_press_142 : decode cX0_press 142 = .ok (.ifCond .eq 16, 3) := dk_153 0 16 (dk_at dksX0_press_6 3 rfl rfl)
theorem dX0_press_145 : decode cX0_press 145 = .ok (.aload_n 0, 1) := dk_42 (dk_at dksX0_press_6 6 rfl rfl)
theorem dX0_press_146 : decode cX0_press 146 = .ok (.getfield 12, 3) := dk_180 0 12 (dk_at dksX0_press_6 7 rfl rfl)
theorem dX0_press_149 : decode cX0_press 149 = .ok (.getfield 131, 3) := dk_180 0 131 (dk_at dksX0_press_6 10 rfl rfl)
theorem dX0_press_152 : decode cX0_press 152 = .ok (.iload 4, 2) := dk_21 4 (dk_at dksX0_press_6 13 rfl rfl)
theorem dX0_press_154 : decode cX0_press 154 = .ok (.invokevirtual 144, 3) := dk_182 0 144 (dk_at dksX0_press_6 15 rfl rfl)
theorem dX0_press_157 : decode cX0_press 157 = .ok (.pop, 1) := dk_87 (dk_at dksX0_press_6 18 rfl rfl)
theorem dX0_press_158 : decode cX0_press 158 = .ok (.iinc 4 (-1), 3) := dk_132 4 255 (dk_at dksX0_press_6 19 rfl rfl)
theorem dX0_press_161 : decode cX0_press 161 = .ok (.goto (-43), 3) := dk_167 255 213 (dk_at dksX0_press_7 0 rfl rfl)
theorem dX0_press_164 : decode cX0_press 164 = .ok (.iconst 0, 1) := dk_3 (dk_at dksX0_press_7 3 rfl rfl)
theorem dX0_press_165 : decode cX0_press 165 = .ok (.istore 4, 2) := dk_54 4 (dk_at dksX0_press_7 4 rfl rfl)
theorem dX0_press_167 : decode cX0_press 167 = .ok (.iload 4, 2) := dk_21 4 (dk_at dksX0_press_7 6 rfl rfl)
theorem dX0_press_169 : decode cX0_press 169 = .ok (.aload_n 2, 1) := dk_44 (dk_at dksX0_press_7 8 rfl rfl)
theorem dX0_press_170 : decode cX0_press 170 = .ok (.arraylength, 1) := dk_190 (dk_at dksX0_press_7 9 rfl rfl)
theorem dX0_press_171 : decode cX0_press 171 = .ok (.if_icmp .ge 50, 3) := dk_162 0 50 (dk_at dksX0_press_7 10 rfl rfl)
theorem dX0_press_174 : decode cX0_press 174 = .ok (.aload_n 2, 1) := dk_44 (dk_at dksX0_press_7 13 rfl rfl)
theorem dX0_press_175 : decode cX0_press 175 = .ok (.iload 4, 2) := dk_21 4 (dk_at dksX0_press_7 14 rfl rfl)
theorem dX0_press_177 : decode cX0_press 177 = .ok (.iaload, 1) := dk_46 (dk_at dksX0_press_7 16 rfl rfl)
theorem dX0_press_178 : decode cX0_press 178 = .ok (.ifCond .le 37, 3) := dk_158 0 37 (dk_at dksX0_press_7 17 rfl rfl)
theorem dX0_press_181 : decode cX0_press 181 = .ok (.aload_n 0, 1) := dk_42 (dk_at dksX0_press_7 20 rfl rfl)
theorem dX0_press_182 : decode cX0_press 182 = .ok (.getfield 12, 3) := dk_180 0 12 (dk_at dksX0_press_7 21 rfl rfl)
theorem dX0_press_185 : decode cX0_press 185 = .ok (.getfield 131, 3) := dk_180 0 131 (dk_at dksX0_press_8 0 rfl rfl)
theorem dX0_press_188 : decode cX0_press 188 = .ok (.new 173, 3) := dk_187 0 173 (dk_at dksX0_press_8 3 rfl rfl)
theorem dX0_press_191 : decode cX0_press 191 = .ok (.dup, 1) := dk_89 (dk_at dksX0_press_8 6 rfl rfl)
theorem dX0_press_192 : decode cX0_press 192 = .ok (.iload 4, 2) := dk_21 4 (dk_at dksX0_press_8 7 rfl rfl)
theorem dX0_press_194 : decode cX0_press 194 = .ok (.bipush 8, 2) := dk_16 8 (dk_at dksX0_press_8 9 rfl rfl)
theorem dX0_press_196 : decode cX0_press 196 = .ok (.idiv, 1) := dk_108 (dk_at dksX0_press_8 11 rfl rfl)
theorem dX0_press_197 : decode cX0_press 197 = .ok (.iload 4, 2) := dk_21 4 (dk_at dksX0_press_8 12 rfl rfl)
theorem dX0_press_199 : decode cX0_press 199 = .ok (.bipush 8, 2) := dk_16 8 (dk_at dksX0_press_8 14 rfl rfl)
theorem dX0_press_201 : decode cX0_press 201 = .ok (.irem, 1) := dk_112 (dk_at dksX0_press_8 16 rfl rfl)
theorem dX0_press_202 : decode cX0_press 202 = .ok (.aload_n 2, 1) := dk_44 (dk_at dksX0_press_8 17 rfl rfl)
theorem dX0_press_203 : decode cX0_press 203 = .ok (.iload 4, 2) := dk_21 4 (dk_at dksX0_press_8 18 rfl rfl)
theorem dX0_press_205 : decode cX0_press 205 = .ok (.iaload, 1) := dk_46 (dk_at dksX0_press_8 20 rfl rfl)
theorem dX0_press_206 : decode cX0_press 206 = .ok (.iload_n 1, 1) := dk_27 (dk_at dksX0_press_8 21 rfl rfl)
theorem dX0_press_207 : decode cX0_press 207 = .ok (.iconst 0, 1) := dk_3 (dk_at dksX0_press_8 22 rfl rfl)
theorem dX0_press_208 : decode cX0_press 208 = .ok (.invokespecial 175, 3) := dk_183 0 175 (dk_at dksX0_press_9 0 rfl rfl)
theorem dX0_press_211 : decode cX0_press 211 = .ok (.invokevirtual 151, 3) := dk_182 0 151 (dk_at dksX0_press_9 3 rfl rfl)
theorem dX0_press_214 : decode cX0_press 214 = .ok (.pop, 1) := dk_87 (dk_at dksX0_press_9 6 rfl rfl)
theorem dX0_press_215 : decode cX0_press 215 = .ok (.iinc 4 1, 3) := dk_132 4 1 (dk_at dksX0_press_9 7 rfl rfl)
theorem dX0_press_218 : decode cX0_press 218 = .ok (.goto (-51), 3) := dk_167 255 205 (dk_at dksX0_press_9 10 rfl rfl)
theorem dX0_press_221 : decode cX0_press 221 = .ok (.aload_n 0, 1) := dk_42 (dk_at dksX0_press_9 13 rfl rfl)
theorem dX0_press_222 : decode cX0_press 222 = .ok (.getfield 12, 3) := dk_180 0 12 (dk_at dksX0_press_9 14 rfl rfl)
theorem dX0_press_225 : decode cX0_press 225 = .ok (.getfield 131, 3) := dk_180 0 131 (dk_at dksX0_press_9 17 rfl rfl)
theorem dX0_press_228 : decode cX0_press 228 = .ok (.invokevirtual 134, 3) := dk_182 0 134 (dk_at dksX0_press_9 20 rfl rfl)
theorem dX0_press_231 : decode cX0_press 231 = .ok (.ireturn, 1) := dk_172 (dk_at dksX0_press_9 23 rfl rfl)
abbrev cX0_first : ByteArray := prog_1_method_6_code
def yX0_first : MethodName := ⟨RX0, "first", "(I)[I"⟩
def dkwX0_first_1 : List UInt8 := [182, 0, 79, 181, 0, 83, 42, 27, 181, 0, 32, 42, 180, 0, 83, 176]
abbrev dktX0_first_1 : List UInt8 := dkwX0_first_1 ++ []
def dkwX0_first_0 : List UInt8 := [42, 180, 0, 32, 27, 159, 0, 29, 42, 180, 0, 12, 27, 182, 0, 71, 77, 42, 42, 44, 182, 0, 75]
abbrev dktX0_first_0 : List UInt8 := dkwX0_first_0 ++ dktX0_first_1
theorem dksX0_first_0 : cX0_first.data.toList.drop 0 = dktX0_first_0 := by decide +kernel
theorem dksX0_first_1 : cX0_first.data.toList.drop 23 = dktX0_first_1 := dk_seg dksX0_first_0 23 rfl rfl
theorem dX0_first_0 : decode cX0_first 0 = .ok (.aload_n 0, 1) := dk_42 (dk_at dksX0_first_0 0 rfl rfl)
theorem dX0_first_1 : decode cX0_first 1 = .ok (.getfield 32, 3) := dk_180 0 32 (dk_at dksX0_first_0 1 rfl rfl)
theorem dX0_first_4 : decode cX0_first 4 = .ok (.iload_n 1, 1) := dk_27 (dk_at dksX0_first_0 4 rfl rfl)
theorem dX0_first_5 : decode cX0_first 5 = .ok (.if_icmp .eq 29, 3) := dk_159 0 29 (dk_at dksX0_first_0 5 rfl rfl)
theorem dX0_first_8 : decode cX0_first 8 = .ok (.aload_n 0, 1) := dk_42 (dk_at dksX0_first_0 8 rfl rfl)
theorem dX0_first_9 : decode cX0_first 9 = .ok (.getfield 12, 3) := dk_180 0 12 (dk_at dksX0_first_0 9 rfl rfl)
theorem dX0_first_12 : decode cX0_first 12 = .ok (.iload_n 1, 1) := dk_27 (dk_at dksX0_first_0 12 rfl rfl)
theorem dX0_first_13 : decode cX0_first 13 = .ok (.invokevirtual 71, 3) := dk_182 0 71 (dk_at dksX0_first_0 13 rfl rfl)
theorem dX0_first_16 : decode cX0_first 16 = .ok (.astore_n 2, 1) := dk_77 (dk_at dksX0_first_0 16 rfl rfl)
theorem dX0_first_17 : decode cX0_first 17 = .ok (.aload_n 0, 1) := dk_42 (dk_at dksX0_first_0 17 rfl rfl)
theorem dX0_first_18 : decode cX0_first 18 = .ok (.aload_n 0, 1) := dk_42 (dk_at dksX0_first_0 18 rfl rfl)
theorem dX0_first_19 : decode cX0_first 19 = .ok (.aload_n 2, 1) := dk_44 (dk_at dksX0_first_0 19 rfl rfl)
theorem dX0_first_20 : decode cX0_first 20 = .ok (.invokevirtual 75, 3) := dk_182 0 75 (dk_at dksX0_first_0 20 rfl rfl)
theorem dX0_first_23 : decode cX0_first 23 = .ok (.invokevirtual 79, 3) := dk_182 0 79 (dk_at dksX0_first_1 0 rfl rfl)
theorem dX0_first_26 : decode cX0_first 26 = .ok (.putfield 83, 3) := dk_181 0 83 (dk_at dksX0_first_1 3 rfl rfl)
theorem dX0_first_29 : decode cX0_first 29 = .ok (.aload_n 0, 1) := dk_42 (dk_at dksX0_first_1 6 rfl rfl)
theorem dX0_first_30 : decode cX0_first 30 = .ok (.iload_n 1, 1) := dk_27 (dk_at dksX0_first_1 7 rfl rfl)
theorem dX0_first_31 : decode cX0_first 31 = .ok (.putfield 32, 3) := dk_181 0 32 (dk_at dksX0_first_1 8 rfl rfl)
theorem dX0_first_34 : decode cX0_first 34 = .ok (.aload_n 0, 1) := dk_42 (dk_at dksX0_first_1 11 rfl rfl)
theorem dX0_first_35 : decode cX0_first 35 = .ok (.getfield 83, 3) := dk_180 0 83 (dk_at dksX0_first_1 12 rfl rfl)
theorem dX0_first_38 : decode cX0_first 38 = .ok (.areturn, 1) := dk_176 (dk_at dksX0_first_1 15 rfl rfl)
abbrev cX0_press_2 : ByteArray := prog_1_method_5_code
def yX0_press_2 : MethodName := ⟨RX0, "press", "([I)LSwapPress$Press;"⟩
def dkwX0_press_2_2 : List UInt8 := [3, 183, 0, 68, 176]
abbrev dktX0_press_2_2 : List UInt8 := dkwX0_press_2_2 ++ []
def dkwX0_press_2_1 : List UInt8 := [180, 0, 12, 180, 0, 58, 184, 0, 62, 42, 180, 0, 12, 180, 0, 55, 6, 160, 0, 7, 4, 167, 0, 4]
abbrev dktX0_press_2_1 : List UInt8 := dkwX0_press_2_1 ++ dktX0_press_2_2
def dkwX0_press_2_0 : List UInt8 := [187, 0, 49, 89, 42, 42, 180, 0, 12, 182, 0, 51, 43, 42, 180, 0, 12, 180, 0, 55, 43, 42]
abbrev dktX0_press_2_0 : List UInt8 := dkwX0_press_2_0 ++ dktX0_press_2_1
theorem dksX0_press_2_0 : cX0_press_2.data.toList.drop 0 = dktX0_press_2_0 := by decide +kernel
theorem dksX0_press_2_1 : cX0_press_2.data.toList.drop 22 = dktX0_press_2_1 := dk_seg dksX0_press_2_0 22 rfl rfl
theorem dksX0_press_2_2 : cX0_press_2.data.toList.drop 46 = dktX0_press_2_2 := dk_seg dksX0_press_2_1 24 rfl rfl
theorem dX0_press_2_0 : decode cX0_press_2 0 = .ok (.new 49, 3) := dk_187 0 49 (dk_at dksX0_press_2_0 0 rfl rfl)
theorem dX0_press_2_3 : decode cX0_press_2 3 = .ok (.dup, 1) := dk_89 (dk_at dksX0_press_2_0 3 rfl rfl)
theorem dX0_press_2_4 : decode cX0_press_2 4 = .ok (.aload_n 0, 1) := dk_42 (dk_at dksX0_press_2_0 4 rfl rfl)
theorem dX0_press_2_5 : decode cX0_press_2 5 = .ok (.aload_n 0, 1) := dk_42 (dk_at dksX0_press_2_0 5 rfl rfl)
theorem dX0_press_2_6 : decode cX0_press_2 6 = .ok (.getfield 12, 3) := dk_180 0 12 (dk_at dksX0_press_2_0 6 rfl rfl)
theorem dX0_press_2_9 : decode cX0_press_2 9 = .ok (.invokevirtual 51, 3) := dk_182 0 51 (dk_at dksX0_press_2_0 9 rfl rfl)
theorem dX0_press_2_12 : decode cX0_press_2 12 = .ok (.aload_n 1, 1) := dk_43 (dk_at dksX0_press_2_0 12 rfl rfl)
theorem dX0_press_2_13 : decode cX0_press_2 13 = .ok (.aload_n 0, 1) := dk_42 (dk_at dksX0_press_2_0 13 rfl rfl)
theorem dX0_press_2_14 : decode cX0_press_2 14 = .ok (.getfield 12, 3) := dk_180 0 12 (dk_at dksX0_press_2_0 14 rfl rfl)
theorem dX0_press_2_17 : decode cX0_press_2 17 = .ok (.getfield 55, 3) := dk_180 0 55 (dk_at dksX0_press_2_0 17 rfl rfl)
theorem dX0_press_2_20 : decode cX0_press_2 20 = .ok (.aload_n 1, 1) := dk_43 (dk_at dksX0_press_2_0 20 rfl rfl)
theorem dX0_press_2_21 : decode cX0_press_2 21 = .ok (.aload_n 0, 1) := dk_42 (dk_at dksX0_press_2_0 21 rfl rfl)
theorem dX0_press_2_22 : decode cX0_press_2 22 = .ok (.getfield 12, 3) := dk_180 0 12 (dk_at dksX0_press_2_1 0 rfl rfl)
theorem dX0_press_2_25 : decode cX0_press_2 25 = .ok (.getfield 58, 3) := dk_180 0 58 (dk_at dksX0_press_2_1 3 rfl rfl)
theorem dX0_press_2_28 : decode cX0_press_2 28 = .ok (.invokestatic 62, 3) := dk_184 0 62 (dk_at dksX0_press_2_1 6 rfl rfl)
theorem dX0_press_2_31 : decode cX0_press_2 31 = .ok (.aload_n 0, 1) := dk_42 (dk_at dksX0_press_2_1 9 rfl rfl)
theorem dX0_press_2_32 : decode cX0_press_2 32 = .ok (.getfield 12, 3) := dk_180 0 12 (dk_at dksX0_press_2_1 10 rfl rfl)
theorem dX0_press_2_35 : decode cX0_press_2 35 = .ok (.getfield 55, 3) := dk_180 0 55 (dk_at dksX0_press_2_1 13 rfl rfl)
theorem dX0_press_2_38 : decode cX0_press_2 38 = .ok (.iconst 3, 1) := dk_6 (dk_at dksX0_press_2_1 16 rfl rfl)
theorem dX0_press_2_39 : decode cX0_press_2 39 = .ok (.if_icmp .ne 7, 3) := dk_160 0 7 (dk_at dksX0_press_2_1 17 rfl rfl)
theorem dX0_press_2_42 : decode cX0_press_2 42 = .ok (.iconst 1, 1) := dk_4 (dk_at dksX0_press_2_1 20 rfl rfl)
theorem dX0_press_2_43 : decode cX0_press_2 43 = .ok (.goto 4, 3) := dk_167 0 4 (dk_at dksX0_press_2_1 21 rfl rfl)
theorem dX0_press_2_46 : decode cX0_press_2 46 = .ok (.iconst 0, 1) := dk_3 (dk_at dksX0_press_2_2 0 rfl rfl)
theorem dX0_press_2_47 : decode cX0_press_2 47 = .ok (.invokespecial 68, 3) := dk_183 0 68 (dk_at dksX0_press_2_2 1 rfl rfl)
theorem dX0_press_2_50 : decode cX0_press_2 50 = .ok (.areturn, 1) := dk_176 (dk_at dksX0_press_2_2 4 rfl rfl)
abbrev cX0_throughOf : ByteArray := prog_1_method_4_code
def yX0_throughOf : MethodName := ⟨RX0, "throughOf", "(I[II)I"⟩
def dkwX0_throughOf_2 : List UInt8 := [21, 4, 184, 0, 43, 172]
abbrev dktX0_throughOf_2 : List UInt8 := dkwX0_throughOf_2 ++ []
def dkwX0_throughOf_1 : List UInt8 := [96, 62, 21, 4, 43, 16, 8, 21, 5, 104, 28, 96, 46, 96, 54, 4, 132, 5, 1, 167, 255, 221, 29]
abbrev dktX0_throughOf_1 : List UInt8 := dkwX0_throughOf_1 ++ dktX0_throughOf_2
def dkwX0_throughOf_0 : List UInt8 := [3, 62, 3, 54, 4, 3, 54, 5, 21, 5, 26, 162, 0, 35, 29, 43, 16, 8, 28, 104, 21, 5, 96, 46]
abbrev dktX0_throughOf_0 : List UInt8 := dkwX0_throughOf_0 ++ dktX0_throughOf_1
theorem dksX0_throughOf_0 : cX0_throughOf.data.toList.drop 0 = dktX0_throughOf_0 := by decide +kernel
theorem dksX0_throughOf_1 : cX0_throughOf.data.toList.drop 24 = dktX0_throughOf_1 := dk_seg dksX0_throughOf_0 24 rfl rfl
theorem dksX0_throughOf_2 : cX0_throughOf.data.toList.drop 47 = dktX0_throughOf_2 := dk_seg dksX0_throughOf_1 23 rfl rfl
theorem dX0_throughOf_0 : decode cX0_throughOf 0 = .ok (.iconst 0, 1) := dk_3 (dk_at dksX0_throughOf_0 0 rfl rfl)
theorem dX0_throughOf_1 : decode cX0_throughOf 1 = .ok (.istore_n 3, 1) := dk_62 (dk_at dksX0_throughOf_0 1 rfl rfl)
theorem dX0_throughOf_2 : decode cX0_throughOf 2 = .ok (.iconst 0, 1) := dk_3 (dk_at dksX0_throughOf_0 2 rfl rfl)
theorem dX0_throughOf_3 : decode cX0_throughOf 3 = .ok (.istore 4, 2) := dk_54 4 (dk_at dksX0_throughOf_0 3 rfl rfl)
theorem dX0_throughOf_5 : decode cX0_throughOf 5 = .ok (.iconst 0, 1) := dk_3 (dk_at dksX0_throughOf_0 5 rfl rfl)
theorem dX0_throughOf_6 : decode cX0_throughOf 6 = .ok (.istore 5, 2) := dk_54 5 (dk_at dksX0_throughOf_0 6 rfl rfl)
theorem dX0_throughOf_8 : decode cX0_throughOf 8 = .ok (.iload 5, 2) := dk_21 5 (dk_at dksX0_throughOf_0 8 rfl rfl)
theorem dX0_throughOf_10 : decode cX0_throughOf 10 = .ok (.iload_n 0, 1) := dk_26 (dk_at dksX0_throughOf_0 10 rfl rfl)
theorem dX0_throughOf_11 : decode cX0_throughOf 11 = .ok (.if_icmp .ge 35, 3) := dk_162 0 35 (dk_at dksX0_throughOf_0 11 rfl rfl)
theorem dX0_throughOf_14 : decode cX0_throughOf 14 = .ok (.iload_n 3, 1) := dk_29 (dk_at dksX0_throughOf_0 14 rfl rfl)
theorem dX0_throughOf_15 : decode cX0_throughOf 15 = .ok (.aload_n 1, 1) := dk_43 (dk_at dksX0_throughOf_0 15 rfl rfl)
theorem dX0_throughOf_16 : decode cX0_throughOf 16 = .ok (.bipush 8, 2) := dk_16 8 (dk_at dksX0_throughOf_0 16 rfl rfl)
theorem dX0_throughOf_18 : decode cX0_throughOf 18 = .ok (.iload_n 2, 1) := dk_28 (dk_at dksX0_throughOf_0 18 rfl rfl)
theorem dX0_throughOf_19 : decode cX0_throughOf 19 = .ok (.imul, 1) := dk_104 (dk_at dksX0_throughOf_0 19 rfl rfl)
theorem dX0_throughOf_20 : decode cX0_throughOf 20 = .ok (.iload 5, 2) := dk_21 5 (dk_at dksX0_throughOf_0 20 rfl rfl)
theorem dX0_throughOf_22 : decode cX0_throughOf 22 = .ok (.iadd, 1) := dk_96 (dk_at dksX0_throughOf_0 22 rfl rfl)
theorem dX0_throughOf_23 : decode cX0_throughOf 23 = .ok (.iaload, 1) := dk_46 (dk_at dksX0_throughOf_0 23 rfl rfl)
theorem dX0_throughOf_24 : decode cX0_throughOf 24 = .ok (.iadd, 1) := dk_96 (dk_at dksX0_throughOf_1 0 rfl rfl)
theorem dX0_throughOf_25 : decode cX0_throughOf 25 = .ok (.istore_n 3, 1) := dk_62 (dk_at dksX0_throughOf_1 1 rfl rfl)
theorem dX0_throughOf_26 : decode cX0_throughOf 26 = .ok (.iload 4, 2) := dk_21 4 (dk_at dksX0_throughOf_1 2 rfl rfl)
theorem dX0_throughOf_28 : decode cX0_throughOf 28 = .ok (.aload_n 1, 1) := dk_43 (dk_at dksX0_throughOf_1 4 rfl rfl)
theorem dX0_throughOf_29 : decode cX0_throughOf 29 = .ok (.bipush 8, 2) := dk_16 8 (dk_at dksX0_throughOf_1 5 rfl rfl)
theorem dX0_throughOf_31 : decode cX0_throughOf 31 = .ok (.iload 5, 2) := dk_21 5 (dk_at dksX0_throughOf_1 7 rfl rfl)
theorem dX0_throughOf_33 : decode cX0_throughOf 33 = .ok (.imul, 1) := dk_104 (dk_at dksX0_throughOf_1 9 rfl rfl)
theorem dX0_throughOf_34 : decode cX0_throughOf 34 = .ok (.iload_n 2, 1) := dk_28 (dk_at dksX0_throughOf_1 10 rfl rfl)
theorem dX0_throughOf_35 : decode cX0_throughOf 35 = .ok (.iadd, 1) := dk_96 (dk_at dksX0_throughOf_1 11 rfl rfl)
theorem dX0_throughOf_36 : decode cX0_throughOf 36 = .ok (.iaload, 1) := dk_46 (dk_at dksX0_throughOf_1 12 rfl rfl)
theorem dX0_throughOf_37 : decode cX0_throughOf 37 = .ok (.iadd, 1) := dk_96 (dk_at dksX0_throughOf_1 13 rfl rfl)
theorem dX0_throughOf_38 : decode cX0_throughOf 38 = .ok (.istore 4, 2) := dk_54 4 (dk_at dksX0_throughOf_1 14 rfl rfl)
theorem dX0_throughOf_40 : decode cX0_throughOf 40 = .ok (.iinc 5 1, 3) := dk_132 5 1 (dk_at dksX0_throughOf_1 16 rfl rfl)
theorem dX0_throughOf_43 : decode cX0_throughOf 43 = .ok (.goto (-35), 3) := dk_167 255 221 (dk_at dksX0_throughOf_1 19 rfl rfl)
theorem dX0_throughOf_46 : decode cX0_throughOf 46 = .ok (.iload_n 3, 1) := dk_29 (dk_at dksX0_throughOf_1 22 rfl rfl)
theorem dX0_throughOf_47 : decode cX0_throughOf 47 = .ok (.iload 4, 2) := dk_21 4 (dk_at dksX0_throughOf_2 0 rfl rfl)
theorem dX0_throughOf_49 : decode cX0_throughOf 49 = .ok (.invokestatic 43, 3) := dk_184 0 43 (dk_at dksX0_throughOf_2 2 rfl rfl)
theorem dX0_throughOf_52 : decode cX0_throughOf 52 = .ok (.ireturn, 1) := dk_172 (dk_at dksX0_throughOf_2 5 rfl rfl)
abbrev cX0_above : ByteArray := prog_1_method_24_code
def yX0_above : MethodName := ⟨RX0, "above", "([I)I"⟩
def dkwX0_above_1 : List UInt8 := [21, 5, 158, 0, 7, 4, 167, 0, 4, 3, 184, 0, 196, 96, 60, 132, 4, 1, 167, 255, 225, 27, 172]
abbrev dktX0_above_1 : List UInt8 := dkwX0_above_1 ++ []
def dkwX0_above_0 : List UInt8 := [3, 60, 42, 77, 44, 190, 62, 3, 54, 4, 21, 4, 29, 162, 0, 31, 44, 21, 4, 46, 54, 5, 27]
abbrev dktX0_above_0 : List UInt8 := dkwX0_above_0 ++ dktX0_above_1
theorem dksX0_above_0 : cX0_above.data.toList.drop 0 = dktX0_above_0 := by decide +kernel
theorem dksX0_above_1 : cX0_above.data.toList.drop 23 = dktX0_above_1 := dk_seg dksX0_above_0 23 rfl rfl
theorem dX0_above_0 : decode cX0_above 0 = .ok (.iconst 0, 1) := dk_3 (dk_at dksX0_above_0 0 rfl rfl)
theorem dX0_above_1 : decode cX0_above 1 = .ok (.istore_n 1, 1) := dk_60 (dk_at dksX0_above_0 1 rfl rfl)
theorem dX0_above_2 : decode cX0_above 2 = .ok (.aload_n 0, 1) := dk_42 (dk_at dksX0_above_0 2 rfl rfl)
theorem dX0_above_3 : decode cX0_above 3 = .ok (.astore_n 2, 1) := dk_77 (dk_at dksX0_above_0 3 rfl rfl)
theorem dX0_above_4 : decode cX0_above 4 = .ok (.aload_n 2, 1) := dk_44 (dk_at dksX0_above_0 4 rfl rfl)
theorem dX0_above_5 : decode cX0_above 5 = .ok (.arraylength, 1) := dk_190 (dk_at dksX0_above_0 5 rfl rfl)
theorem dX0_above_6 : decode cX0_above 6 = .ok (.istore_n 3, 1) := dk_62 (dk_at dksX0_above_0 6 rfl rfl)
theorem dX0_above_7 : decode cX0_above 7 = .ok (.iconst 0, 1) := dk_3 (dk_at dksX0_above_0 7 rfl rfl)
theorem dX0_above_8 : decode cX0_above 8 = .ok (.istore 4, 2) := dk_54 4 (dk_at dksX0_above_0 8 rfl rfl)
theorem dX0_above_10 : decode cX0_above 10 = .ok (.iload 4, 2) := dk_21 4 (dk_at dksX0_above_0 10 rfl rfl)
theorem dX0_above_12 : decode cX0_above 12 = .ok (.iload_n 3, 1) := dk_29 (dk_at dksX0_above_0 12 rfl rfl)
theorem dX0_above_13 : decode cX0_above 13 = .ok (.if_icmp .ge 31, 3) := dk_162 0 31 (dk_at dksX0_above_0 13 rfl rfl)
theorem dX0_above_16 : decode cX0_above 16 = .ok (.aload_n 2, 1) := dk_44 (dk_at dksX0_above_0 16 rfl rfl)
theorem dX0_above_17 : decode cX0_above 17 = .ok (.iload 4, 2) := dk_21 4 (dk_at dksX0_above_0 17 rfl rfl)
theorem dX0_above_19 : decode cX0_above 19 = .ok (.iaload, 1) := dk_46 (dk_at dksX0_above_0 19 rfl rfl)
theorem dX0_above_20 : decode cX0_above 20 = .ok (.istore 5, 2) := dk_54 5 (dk_at dksX0_above_0 20 rfl rfl)
theorem dX0_above_22 : decode cX0_above 22 = .ok (.iload_n 1, 1) := dk_27 (dk_at dksX0_above_0 22 rfl rfl)
theorem dX0_above_23 : decode cX0_above 23 = .ok (.iload 5, 2) := dk_21 5 (dk_at dksX0_above_1 0 rfl rfl)
theorem dX0_above_25 : decode cX0_above 25 = .ok (.ifCond .le 7, 3) := dk_158 0 7 (dk_at dksX0_above_1 2 rfl rfl)
theorem dX0_above_28 : decode cX0_above 28 = .ok (.iconst 1, 1) := dk_4 (dk_at dksX0_above_1 5 rfl rfl)
theorem dX0_above_29 : decode cX0_above 29 = .ok (.goto 4, 3) := dk_167 0 4 (dk_at dksX0_above_1 6 rfl rfl)
theorem dX0_above_32 : decode cX0_above 32 = .ok (.iconst 0, 1) := dk_3 (dk_at dksX0_above_1 9 rfl rfl)
theorem dX0_above_33 : decode cX0_above 33 = .ok (.invokestatic 196, 3) := dk_184 0 196 (dk_at dksX0_above_1 10 rfl rfl)
theorem dX0_above_36 : decode cX0_above 36 = .ok (.iadd, 1) := dk_96 (dk_at dksX0_above_1 13 rfl rfl)
theorem dX0_above_37 : decode cX0_above 37 = .ok (.istore_n 1, 1) := dk_60 (dk_at dksX0_above_1 14 rfl rfl)
theorem dX0_above_38 : decode cX0_above 38 = .ok (.iinc 4 1, 3) := dk_132 4 1 (dk_at dksX0_above_1 15 rfl rfl)
theorem dX0_above_41 : decode cX0_above 41 = .ok (.goto (-31), 3) := dk_167 255 225 (dk_at dksX0_above_1 18 rfl rfl)
theorem dX0_above_44 : decode cX0_above 44 = .ok (.iload_n 1, 1) := dk_27 (dk_at dksX0_above_1 21 rfl rfl)
theorem dX0_above_45 : decode cX0_above 45 = .ok (.ireturn, 1) := dk_172 (dk_at dksX0_above_1 22 rfl rfl)
abbrev cX0_undo : ByteArray := prog_1_method_26_code
def yX0_undo : MethodName := ⟨RX0, "undo", "()I"⟩
def dkwX0_undo_2 : List UInt8 := [182, 0, 134, 172]
abbrev dktX0_undo_2 : List UInt8 := dkwX0_undo_2 ++ []
def dkwX0_undo_1 : List UInt8 := [182, 0, 134, 4, 100, 182, 0, 144, 192, 0, 9, 181, 0, 12, 42, 2, 181, 0, 32, 42, 180, 0, 21]
abbrev dktX0_undo_1 : List UInt8 := dkwX0_undo_1 ++ dktX0_undo_2
def dkwX0_undo_0 : List UInt8 := [42, 180, 0, 21, 182, 0, 251, 153, 0, 6, 16, 251, 172, 42, 42, 180, 0, 21, 42, 180, 0, 21]
abbrev dktX0_undo_0 : List UInt8 := dkwX0_undo_0 ++ dktX0_undo_1
theorem dksX0_undo_0 : cX0_undo.data.toList.drop 0 = dktX0_undo_0 := by decide +kernel
theorem dksX0_undo_1 : cX0_undo.data.toList.drop 22 = dktX0_undo_1 := dk_seg dksX0_undo_0 22 rfl rfl
theorem dksX0_undo_2 : cX0_undo.data.toList.drop 45 = dktX0_undo_2 := dk_seg dksX0_undo_1 23 rfl rfl
theorem dX0_undo_0 : decode cX0_undo 0 = .ok (.aload_n 0, 1) := dk_42 (dk_at dksX0_undo_0 0 rfl rfl)
theorem dX0_undo_1 : decode cX0_undo 1 = .ok (.getfield 21, 3) := dk_180 0 21 (dk_at dksX0_undo_0 1 rfl rfl)
theorem dX0_undo_4 : decode cX0_undo 4 = .ok (.invokevirtual 251, 3) := dk_182 0 251 (dk_at dksX0_undo_0 4 rfl rfl)
theorem dX0_undo_7 : decode cX0_undo 7 = .ok (.ifCond .eq 6, 3) := dk_153 0 6 (dk_at dksX0_undo_0 7 rfl rfl)
theorem dX0_undo_10 : decode cX0_undo 10 = .ok (.bipush (-5), 2) := dk_16 251 (dk_at dksX0_undo_0 10 rfl rfl)
theorem dX0_undo_12 : decode cX0_undo 12 = .ok (.ireturn, 1) := dk_172 (dk_at dksX0_undo_0 12 rfl rfl)
theorem dX0_undo_13 : decode cX0_undo 13 = .ok (.aload_n 0, 1) := dk_42 (dk_at dksX0_undo_0 13 rfl rfl)
theorem dX0_undo_14 : decode cX0_undo 14 = .ok (.aload_n 0, 1) := dk_42 (dk_at dksX0_undo_0 14 rfl rfl)
theorem dX0_undo_15 : decode cX0_undo 15 = .ok (.getfield 21, 3) := dk_180 0 21 (dk_at dksX0_undo_0 15 rfl rfl)
theorem dX0_undo_18 : decode cX0_undo 18 = .ok (.aload_n 0, 1) := dk_42 (dk_at dksX0_undo_0 18 rfl rfl)
theorem dX0_undo_19 : decode cX0_undo 19 = .ok (.getfield 21, 3) := dk_180 0 21 (dk_at dksX0_undo_0 19 rfl rfl)
theorem dX0_undo_22 : decode cX0_undo 22 = .ok (.invokevirtual 134, 3) := dk_182 0 134 (dk_at dksX0_undo_1 0 rfl rfl)
theorem dX0_undo_25 : decode cX0_undo 25 = .ok (.iconst 1, 1) := dk_4 (dk_at dksX0_undo_1 3 rfl rfl)
theorem dX0_undo_26 : decode cX0_undo 26 = .ok (.isub, 1) := dk_100 (dk_at dksX0_undo_1 4 rfl rfl)
theorem dX0_undo_27 : decode cX0_undo 27 = .ok (.invokevirtual 144, 3) := dk_182 0 144 (dk_at dksX0_undo_1 5 rfl rfl)
theorem dX0_undo_30 : decode cX0_undo 30 = .ok (.checkcast 9, 3) := dk_192 0 9 (dk_at dksX0_undo_1 8 rfl rfl)
theorem dX0_undo_33 : decode cX0_undo 33 = .ok (.putfield 12, 3) := dk_181 0 12 (dk_at dksX0_undo_1 11 rfl rfl)
theorem dX0_undo_36 : decode cX0_undo 36 = .ok (.aload_n 0, 1) := dk_42 (dk_at dksX0_undo_1 14 rfl rfl)
theorem dX0_undo_37 : decode cX0_undo 37 = .ok (.iconst (-1), 1) := dk_2 (dk_at dksX0_undo_1 15 rfl rfl)
theorem dX0_undo_38 : decode cX0_undo 38 = .ok (.putfield 32, 3) := dk_181 0 32 (dk_at dksX0_undo_1 16 rfl rfl)
theorem dX0_undo_41 : decode cX0_undo 41 = .ok (.aload_n 0, 1) := dk_42 (dk_at dksX0_undo_1 19 rfl rfl)
theorem dX0_undo_42 : decode cX0_undo 42 = .ok (.getfield 21, 3) := dk_180 0 21 (dk_at dksX0_undo_1 20 rfl rfl)
theorem dX0_undo_45 : decode cX0_undo 45 = .ok (.invokevirtual 134, 3) := dk_182 0 134 (dk_at dksX0_undo_2 0 rfl rfl)
theorem dX0_undo_48 : decode cX0_undo 48 = .ok (.ireturn, 1) := dk_172 (dk_at dksX0_undo_2 3 rfl rfl)
abbrev cX0_tradeOf : ByteArray := prog_1_method_27_code
def yX0_tradeOf : MethodName := ⟨RX0, "tradeOf", "(II)I"⟩
def dkwX0_tradeOf_4 : List UInt8 := [184, 0, 196, 172, 16, 254, 172]
abbrev dktX0_tradeOf_4 : List UInt8 := dkwX0_tradeOf_4 ++ []
def dkwX0_tradeOf_3 : List UInt8 := [45, 180, 0, 207, 172, 45, 180, 0, 210, 172, 45, 180, 0, 213, 172, 45, 180, 0, 254, 172, 45, 180, 0, 192]
abbrev dktX0_tradeOf_3 : List UInt8 := dkwX0_tradeOf_3 ++ dktX0_tradeOf_4
def dkwX0_tradeOf_2 : List UInt8 := [170, 0, 0, 0, 61, 0, 0, 0, 0, 0, 0, 0, 4, 0, 0, 0, 33, 0, 0, 0, 38, 0, 0, 0, 43, 0, 0, 0, 48, 0, 0, 0, 53]
abbrev dktX0_tradeOf_2 : List UInt8 := dkwX0_tradeOf_2 ++ dktX0_tradeOf_3
def dkwX0_tradeOf_1 : List UInt8 := [192, 0, 173, 78, 28]
abbrev dktX0_tradeOf_1 : List UInt8 := dkwX0_tradeOf_1 ++ dktX0_tradeOf_2
def dkwX0_tradeOf_0 : List UInt8 := [42, 27, 182, 0, 178, 154, 0, 6, 16, 254, 172, 42, 180, 0, 12, 180, 0, 131, 27, 182, 0, 181]
abbrev dktX0_tradeOf_0 : List UInt8 := dkwX0_tradeOf_0 ++ dktX0_tradeOf_1
theorem dksX0_tradeOf_0 : cX0_tradeOf.data.toList.drop 0 = dktX0_tradeOf_0 := by decide +kernel
theorem dksX0_tradeOf_1 : cX0_tradeOf.data.toList.drop 22 = dktX0_tradeOf_1 := dk_seg dksX0_tradeOf_0 22 rfl rfl
theorem dksX0_tradeOf_2 : cX0_tradeOf.data.toList.drop 27 = dktX0_tradeOf_2 := dk_seg dksX0_tradeOf_1 5 rfl rfl
theorem dksX0_tradeOf_3 : cX0_tradeOf.data.toList.drop 60 = dktX0_tradeOf_3 := dk_seg dksX0_tradeOf_2 33 rfl rfl
theorem dksX0_tradeOf_4 : cX0_tradeOf.data.toList.drop 84 = dktX0_tradeOf_4 := dk_seg dksX0_tradeOf_3 24 rfl rfl
theorem dX0_tradeOf_0 : decode cX0_tradeOf 0 = .ok (.aload_n 0, 1) := dk_42 (dk_at dksX0_tradeOf_0 0 rfl rfl)
theorem dX0_tradeOf_1 : decode cX0_tradeOf 1 = .ok (.iload_n 1, 1) := dk_27 (dk_at dksX0_tradeOf_0 1 rfl rfl)
theorem dX0_tradeOf_2 : decode cX0_tradeOf 2 = .ok (.invokevirtual 178, 3) := dk_182 0 178 (dk_at dksX0_tradeOf_0 2 rfl rfl)
theorem dX0_tradeOf_5 : decode cX0_tradeOf 5 = .ok (.ifCond .ne 6, 3) := dk_154 0 6 (dk_at dksX0_tradeOf_0 5 rfl rfl)
theorem dX0_tradeOf_8 : decode cX0_tradeOf 8 = .ok (.bipush (-2), 2) := dk_16 254 (dk_at dksX0_tradeOf_0 8 rfl rfl)
theorem dX0_tradeOf_10 : decode cX0_tradeOf 10 = .ok (.ireturn, 1) := dk_172 (dk_at dksX0_tradeOf_0 10 rfl rfl)
theorem dX0_tradeOf_11 : decode cX0_tradeOf 11 = .ok (.aload_n 0, 1) := dk_42 (dk_at dksX0_tradeOf_0 11 rfl rfl)
theorem dX0_tradeOf_12 : decode cX0_tradeOf 12 = .ok (.getfield 12, 3) := dk_180 0 12 (dk_at dksX0_tradeOf_0 12 rfl rfl)
theorem dX0_tradeOf_15 : decode cX0_tradeOf 15 = .ok (.getfield 131, 3) := dk_180 0 131 (dk_at dksX0_tradeOf_0 15 rfl rfl)
theorem dX0_tradeOf_18 : decode cX0_tradeOf 18 = .ok (.iload_n 1, 1) := dk_27 (dk_at dksX0_tradeOf_0 18 rfl rfl)
theorem dX0_tradeOf_19 : decode cX0_tradeOf 19 = .ok (.invokevirtual 181, 3) := dk_182 0 181 (dk_at dksX0_tradeOf_0 19 rfl rfl)
theorem dX0_tradeOf_22 : decode cX0_tradeOf 22 = .ok (.checkcast 173, 3) := dk_192 0 173 (dk_at dksX0_tradeOf_1 0 rfl rfl)
theorem dX0_tradeOf_25 : decode cX0_tradeOf 25 = .ok (.astore_n 3, 1) := dk_78 (dk_at dksX0_tradeOf_1 3 rfl rfl)
theorem dX0_tradeOf_26 : decode cX0_tradeOf 26 = .ok (.iload_n 2, 1) := dk_28 (dk_at dksX0_tradeOf_1 4 rfl rfl)
theorem dX0_tradeOf_27 : decode cX0_tradeOf 27 = .ok (.tableswitch 61 0 4 #[33, 38, 43, 48, 53], 33) := by decide +kernel
theorem dX0_tradeOf_60 : decode cX0_tradeOf 60 = .ok (.aload_n 3, 1) := dk_45 (dk_at dksX0_tradeOf_3 0 rfl rfl)
theorem dX0_tradeOf_61 : decode cX0_tradeOf 61 = .ok (.getfield 207, 3) := dk_180 0 207 (dk_at dksX0_tradeOf_3 1 rfl rfl)
theorem dX0_tradeOf_64 : decode cX0_tradeOf 64 = .ok (.ireturn, 1) := dk_172 (dk_at dksX0_tradeOf_3 4 rfl rfl)
theorem dX0_tradeOf_65 : decode cX0_tradeOf 65 = .ok (.aload_n 3, 1) := dk_45 (dk_at dksX0_tradeOf_3 5 rfl rfl)
theorem dX0_tradeOf_66 : decode cX0_tradeOf 66 = .ok (.getfield 210, 3) := dk_180 0 210 (dk_at dksX0_tradeOf_3 6 rfl rfl)
theorem dX0_tradeOf_69 : decode cX0_tradeOf 69 = .ok (.ireturn, 1) := dk_172 (dk_at dksX0_tradeOf_3 9 rfl rfl)
theorem dX0_tradeOf_70 : decode cX0_tradeOf 70 = .ok (.aload_n 3, 1) := dk_45 (dk_at dksX0_tradeOf_3 10 rfl rfl)
theorem dX0_tradeOf_71 : decode cX0_tradeOf 71 = .ok (.getfield 213, 3) := dk_180 0 213 (dk_at dksX0_tradeOf_3 11 rfl rfl)
theorem dX0_tradeOf_74 : decode cX0_tradeOf 74 = .ok (.ireturn, 1) := dk_172 (dk_at dksX0_tradeOf_3 14 rfl rfl)
theorem dX0_tradeOf_75 : decode cX0_tradeOf 75 = .ok (.aload_n 3, 1) := dk_45 (dk_at dksX0_tradeOf_3 15 rfl rfl)
theorem dX0_tradeOf_76 : decode cX0_tradeOf 76 = .ok (.getfield 254, 3) := dk_180 0 254 (dk_at dksX0_tradeOf_3 16 rfl rfl)
theorem dX0_tradeOf_79 : decode cX0_tradeOf 79 = .ok (.ireturn, 1) := dk_172 (dk_at dksX0_tradeOf_3 19 rfl rfl)
theorem dX0_tradeOf_80 : decode cX0_tradeOf 80 = .ok (.aload_n 3, 1) := dk_45 (dk_at dksX0_tradeOf_3 20 rfl rfl)
theorem dX0_tradeOf_81 : decode cX0_tradeOf 81 = .ok (.getfield 192, 3) := dk_180 0 192 (dk_at dksX0_tradeOf_3 21 rfl rfl)
theorem dX0_tradeOf_84 : decode cX0_tradeOf 84 = .ok (.invokestatic 196, 3) := dk_184 0 196 (dk_at dksX0_tradeOf_4 0 rfl rfl)
theorem dX0_tradeOf_87 : decode cX0_tradeOf 87 = .ok (.ireturn, 1) := dk_172 (dk_at dksX0_tradeOf_4 3 rfl rfl)
theorem dX0_tradeOf_88 : decode cX0_tradeOf 88 = .ok (.bipush (-2), 2) := dk_16 254 (dk_at dksX0_tradeOf_4 4 rfl rfl)
theorem dX0_tradeOf_90 : decode cX0_tradeOf 90 = .ok (.ireturn, 1) := dk_172 (dk_at dksX0_tradeOf_4 6 rfl rfl)
abbrev cX0_flow : ByteArray := prog_1_method_29_code
def yX0_flow : MethodName := ⟨RX0, "flow", "(III)I"⟩
def dkwX0_flow_1 : List UInt8 := [16, 254, 172]
abbrev dktX0_flow_1 : List UInt8 := dkwX0_flow_1 ++ []
def dkwX0_flow_0 : List UInt8 := [42, 27, 28, 29, 182, 0, 255, 153, 0, 16, 42, 180, 0, 12, 27, 28, 29, 182, 1, 3, 167, 0, 5]
abbrev dktX0_flow_0 : List UInt8 := dkwX0_flow_0 ++ dktX0_flow_1
theorem dksX0_flow_0 : cX0_flow.data.toList.drop 0 = dktX0_flow_0 := by decide +kernel
theorem dksX0_flow_1 : cX0_flow.data.toList.drop 23 = dktX0_flow_1 := dk_seg dksX0_flow_0 23 rfl rfl
theorem dX0_flow_0 : decode cX0_flow 0 = .ok (.aload_n 0, 1) := dk_42 (dk_at dksX0_flow_0 0 rfl rfl)
theorem dX0_flow_1 : decode cX0_flow 1 = .ok (.iload_n 1, 1) := dk_27 (dk_at dksX0_flow_0 1 rfl rfl)
theorem dX0_flow_2 : decode cX0_flow 2 = .ok (.iload_n 2, 1) := dk_28 (dk_at dksX0_flow_0 2 rfl rfl)
theorem dX0_flow_3 : decode cX0_flow 3 = .ok (.iload_n 3, 1) := dk_29 (dk_at dksX0_flow_0 3 rfl rfl)
theorem dX0_flow_4 : decode cX0_flow 4 = .ok (.invokevirtual 255, 3) := dk_182 0 255 (dk_at dksX0_flow_0 4 rfl rfl)
theorem dX0_flow_7 : decode cX0_flow 7 = .ok (.ifCond .eq 16, 3) := dk_153 0 16 (dk_at dksX0_flow_0 7 rfl rfl)
theorem dX0_flow_10 : decode cX0_flow 10 = .ok (.aload_n 0, 1) := dk_42 (dk_at dksX0_flow_0 10 rfl rfl)
theorem dX0_flow_11 : decode cX0_flow 11 = .ok (.getfield 12, 3) := dk_180 0 12 (dk_at dksX0_flow_0 11 rfl rfl)
theorem dX0_flow_14 : decode cX0_flow 14 = .ok (.iload_n 1, 1) := dk_27 (dk_at dksX0_flow_0 14 rfl rfl)
theorem dX0_flow_15 : decode cX0_flow 15 = .ok (.iload_n 2, 1) := dk_28 (dk_at dksX0_flow_0 15 rfl rfl)
theorem dX0_flow_16 : decode cX0_flow 16 = .ok (.iload_n 3, 1) := dk_29 (dk_at dksX0_flow_0 16 rfl rfl)
theorem dX0_flow_17 : decode cX0_flow 17 = .ok (.invokevirtual 259, 3) := dk_182 1 3 (dk_at dksX0_flow_0 17 rfl rfl)
theorem dX0_flow_20 : decode cX0_flow 20 = .ok (.goto 5, 3) := dk_167 0 5 (dk_at dksX0_flow_0 20 rfl rfl)
theorem dX0_flow_23 : decode cX0_flow 23 = .ok (.bipush (-2), 2) := dk_16 254 (dk_at dksX0_flow_1 0 rfl rfl)
theorem dX0_flow_25 : decode cX0_flow 25 = .ok (.ireturn, 1) := dk_172 (dk_at dksX0_flow_1 2 rfl rfl)
abbrev cX0_areAll : ByteArray := prog_1_method_28_code
def yX0_areAll : MethodName := ⟨RX0, "areAll", "(III)Z"⟩
def dkwX0_areAll_0 : List UInt8 := [42, 27, 28, 182, 0, 161, 153, 0, 15, 42, 29, 182, 0, 165, 153, 0, 7, 4, 167, 0, 4, 3, 172]
abbrev dktX0_areAll_0 : List UInt8 := dkwX0_areAll_0 ++ []
theorem dksX0_areAll_0 : cX0_areAll.data.toList.drop 0 = dktX0_areAll_0 := by decide +kernel
theorem dX0_areAll_0 : decode cX0_areAll 0 = .ok (.aload_n 0, 1) := dk_42 (dk_at dksX0_areAll_0 0 rfl rfl)
theorem dX0_areAll_1 : decode cX0_areAll 1 = .ok (.iload_n 1, 1) := dk_27 (dk_at dksX0_areAll_0 1 rfl rfl)
theorem dX0_areAll_2 : decode cX0_areAll 2 = .ok (.iload_n 2, 1) := dk_28 (dk_at dksX0_areAll_0 2 rfl rfl)
theorem dX0_areAll_3 : decode cX0_areAll 3 = .ok (.invokevirtual 161, 3) := dk_182 0 161 (dk_at dksX0_areAll_0 3 rfl rfl)
theorem dX0_areAll_6 : decode cX0_areAll 6 = .ok (.ifCond .eq 15, 3) := dk_153 0 15 (dk_at dksX0_areAll_0 6 rfl rfl)
theorem dX0_areAll_9 : decode cX0_areAll 9 = .ok (.aload_n 0, 1) := dk_42 (dk_at dksX0_areAll_0 9 rfl rfl)
theorem dX0_areAll_10 : decode cX0_areAll 10 = .ok (.iload_n 3, 1) := dk_29 (dk_at dksX0_areAll_0 10 rfl rfl)
theorem dX0_areAll_11 : decode cX0_areAll 11 = .ok (.invokevirtual 165, 3) := dk_182 0 165 (dk_at dksX0_areAll_0 11 rfl rfl)
theorem dX0_areAll_14 : decode cX0_areAll 14 = .ok (.ifCond .eq 7, 3) := dk_153 0 7 (dk_at dksX0_areAll_0 14 rfl rfl)
theorem dX0_areAll_17 : decode cX0_areAll 17 = .ok (.iconst 1, 1) := dk_4 (dk_at dksX0_areAll_0 17 rfl rfl)
theorem dX0_areAll_18 : decode cX0_areAll 18 = .ok (.goto 4, 3) := dk_167 0 4 (dk_at dksX0_areAll_0 18 rfl rfl)
theorem dX0_areAll_21 : decode cX0_areAll 21 = .ok (.iconst 0, 1) := dk_3 (dk_at dksX0_areAll_0 21 rfl rfl)
theorem dX0_areAll_22 : decode cX0_areAll 22 = .ok (.ireturn, 1) := dk_172 (dk_at dksX0_areAll_0 22 rfl rfl)
abbrev cX0_net : ByteArray := prog_1_method_30_code
def yX0_net : MethodName := ⟨RX0, "net", "(IIZ)I"⟩
def dkwX0_net_1 : List UInt8 := [28, 29, 182, 1, 8, 96, 167, 0, 5, 16, 254, 172]
abbrev dktX0_net_1 : List UInt8 := dkwX0_net_1 ++ []
def dkwX0_net_0 : List UInt8 := [42, 27, 182, 0, 154, 153, 0, 28, 42, 28, 182, 0, 165, 153, 0, 20, 19, 1, 7, 42, 180, 0, 12, 27]
abbrev dktX0_net_0 : List UInt8 := dkwX0_net_0 ++ dktX0_net_1
theorem dksX0_net_0 : cX0_net.data.toList.drop 0 = dktX0_net_0 := by decide +kernel
theorem dksX0_net_1 : cX0_net.data.toList.drop 24 = dktX0_net_1 := dk_seg dksX0_net_0 24 rfl rfl
theorem dX0_net_0 : decode cX0_net 0 = .ok (.aload_n 0, 1) := dk_42 (dk_at dksX0_net_0 0 rfl rfl)
theorem dX0_net_1 : decode cX0_net 1 = .ok (.iload_n 1, 1) := dk_27 (dk_at dksX0_net_0 1 rfl rfl)
theorem dX0_net_2 : decode cX0_net 2 = .ok (.invokevirtual 154, 3) := dk_182 0 154 (dk_at dksX0_net_0 2 rfl rfl)
theorem dX0_net_5 : decode cX0_net 5 = .ok (.ifCond .eq 28, 3) := dk_153 0 28 (dk_at dksX0_net_0 5 rfl rfl)
theorem dX0_net_8 : decode cX0_net 8 = .ok (.aload_n 0, 1) := dk_42 (dk_at dksX0_net_0 8 rfl rfl)
theorem dX0_net_9 : decode cX0_net 9 = .ok (.iload_n 2, 1) := dk_28 (dk_at dksX0_net_0 9 rfl rfl)
theorem dX0_net_10 : decode cX0_net 10 = .ok (.invokevirtual 165, 3) := dk_182 0 165 (dk_at dksX0_net_0 10 rfl rfl)
theorem dX0_net_13 : decode cX0_net 13 = .ok (.ifCond .eq 20, 3) := dk_153 0 20 (dk_at dksX0_net_0 13 rfl rfl)
theorem dX0_net_16 : decode cX0_net 16 = .ok (.ldc_w 263, 3) := dk_19 1 7 (dk_at dksX0_net_0 16 rfl rfl)
theorem dX0_net_19 : decode cX0_net 19 = .ok (.aload_n 0, 1) := dk_42 (dk_at dksX0_net_0 19 rfl rfl)
theorem dX0_net_20 : decode cX0_net 20 = .ok (.getfield 12, 3) := dk_180 0 12 (dk_at dksX0_net_0 20 rfl rfl)
theorem dX0_net_23 : decode cX0_net 23 = .ok (.iload_n 1, 1) := dk_27 (dk_at dksX0_net_0 23 rfl rfl)
theorem dX0_net_24 : decode cX0_net 24 = .ok (.iload_n 2, 1) := dk_28 (dk_at dksX0_net_1 0 rfl rfl)
theorem dX0_net_25 : decode cX0_net 25 = .ok (.iload_n 3, 1) := dk_29 (dk_at dksX0_net_1 1 rfl rfl)
theorem dX0_net_26 : decode cX0_net 26 = .ok (.invokevirtual 264, 3) := dk_182 1 8 (dk_at dksX0_net_1 2 rfl rfl)
theorem dX0_net_29 : decode cX0_net 29 = .ok (.iadd, 1) := dk_96 (dk_at dksX0_net_1 5 rfl rfl)
theorem dX0_net_30 : decode cX0_net 30 = .ok (.goto 5, 3) := dk_167 0 5 (dk_at dksX0_net_1 6 rfl rfl)
theorem dX0_net_33 : decode cX0_net 33 = .ok (.bipush (-2), 2) := dk_16 254 (dk_at dksX0_net_1 9 rfl rfl)
theorem dX0_net_35 : decode cX0_net 35 = .ok (.ireturn, 1) := dk_172 (dk_at dksX0_net_1 11 rfl rfl)
abbrev cX0_side : ByteArray := prog_1_method_32_code
def yX0_side : MethodName := ⟨RX0, "side", "(III)I"⟩
def dkwX0_side_2 : List UInt8 := [180, 0, 12, 27, 28, 29, 154, 0, 7, 4, 167, 0, 4, 3, 3, 182, 1, 22, 172]
abbrev dktX0_side_2 : List UInt8 := dkwX0_side_2 ++ []
def dkwX0_side_1 : List UInt8 := [184, 0, 112, 154, 0, 6, 16, 254, 172, 29, 5, 160, 0, 12, 42, 27, 28, 182, 1, 19, 167, 0, 22, 42]
abbrev dktX0_side_1 : List UInt8 := dkwX0_side_1 ++ dktX0_side_2
def dkwX0_side_0 : List UInt8 := [42, 27, 182, 0, 154, 153, 0, 23, 42, 28, 182, 0, 165, 153, 0, 15, 29, 133, 9, 20, 1, 17]
abbrev dktX0_side_0 : List UInt8 := dkwX0_side_0 ++ dktX0_side_1
theorem dksX0_side_0 : cX0_side.data.toList.drop 0 = dktX0_side_0 := by decide +kernel
theorem dksX0_side_1 : cX0_side.data.toList.drop 22 = dktX0_side_1 := dk_seg dksX0_side_0 22 rfl rfl
theorem dksX0_side_2 : cX0_side.data.toList.drop 46 = dktX0_side_2 := dk_seg dksX0_side_1 24 rfl rfl
theorem dX0_side_0 : decode cX0_side 0 = .ok (.aload_n 0, 1) := dk_42 (dk_at dksX0_side_0 0 rfl rfl)
theorem dX0_side_1 : decode cX0_side 1 = .ok (.iload_n 1, 1) := dk_27 (dk_at dksX0_side_0 1 rfl rfl)
theorem dX0_side_2 : decode cX0_side 2 = .ok (.invokevirtual 154, 3) := dk_182 0 154 (dk_at dksX0_side_0 2 rfl rfl)
theorem dX0_side_5 : decode cX0_side 5 = .ok (.ifCond .eq 23, 3) := dk_153 0 23 (dk_at dksX0_side_0 5 rfl rfl)
theorem dX0_side_8 : decode cX0_side 8 = .ok (.aload_n 0, 1) := dk_42 (dk_at dksX0_side_0 8 rfl rfl)
theorem dX0_side_9 : decode cX0_side 9 = .ok (.iload_n 2, 1) := dk_28 (dk_at dksX0_side_0 9 rfl rfl)
theorem dX0_side_10 : decode cX0_side 10 = .ok (.invokevirtual 165, 3) := dk_182 0 165 (dk_at dksX0_side_0 10 rfl rfl)
theorem dX0_side_13 : decode cX0_side 13 = .ok (.ifCond .eq 15, 3) := dk_153 0 15 (dk_at dksX0_side_0 13 rfl rfl)
theorem dX0_side_16 : decode cX0_side 16 = .ok (.iload_n 3, 1) := dk_29 (dk_at dksX0_side_0 16 rfl rfl)
theorem dX0_side_17 : decode cX0_side 17 = .ok (.i2l, 1) := dk_133 (dk_at dksX0_side_0 17 rfl rfl)
theorem dX0_side_18 : decode cX0_side 18 = .ok (.lconst 0, 1) := dk_9 (dk_at dksX0_side_0 18 rfl rfl)
theorem dX0_side_19 : decode cX0_side 19 = .ok (.ldc2_w 273, 3) := dk_20 1 17 (dk_at dksX0_side_0 19 rfl rfl)
theorem dX0_side_22 : decode cX0_side 22 = .ok (.invokestatic 112, 3) := dk_184 0 112 (dk_at dksX0_side_1 0 rfl rfl)
theorem dX0_side_25 : decode cX0_side 25 = .ok (.ifCond .ne 6, 3) := dk_154 0 6 (dk_at dksX0_side_1 3 rfl rfl)
theorem dX0_side_28 : decode cX0_side 28 = .ok (.bipush (-2), 2) := dk_16 254 (dk_at dksX0_side_1 6 rfl rfl)
theorem dX0_side_30 : decode cX0_side 30 = .ok (.ireturn, 1) := dk_172 (dk_at dksX0_side_1 8 rfl rfl)
theorem dX0_side_31 : decode cX0_side 31 = .ok (.iload_n 3, 1) := dk_29 (dk_at dksX0_side_1 9 rfl rfl)
theorem dX0_side_32 : decode cX0_side 32 = .ok (.iconst 2, 1) := dk_5 (dk_at dksX0_side_1 10 rfl rfl)
theorem dX0_side_33 : decode cX0_side 33 = .ok (.if_icmp .ne 12, 3) := dk_160 0 12 (dk_at dksX0_side_1 11 rfl rfl)
theorem dX0_side_36 : decode cX0_side 36 = .ok (.aload_n 0, 1) := dk_42 (dk_at dksX0_side_1 14 rfl rfl)
theorem dX0_side_37 : decode cX0_side 37 = .ok (.iload_n 1, 1) := dk_27 (dk_at dksX0_side_1 15 rfl rfl)
theorem dX0_side_38 : decode cX0_side 38 = .ok (.iload_n 2, 1) := dk_28 (dk_at dksX0_side_1 16 rfl rfl)
theorem dX0_side_39 : decode cX0_side 39 = .ok (.invokevirtual 275, 3) := dk_182 1 19 (dk_at dksX0_side_1 17 rfl rfl)
theorem dX0_side_42 : decode cX0_side 42 = .ok (.goto 22, 3) := dk_167 0 22 (dk_at dksX0_side_1 20 rfl rfl)
theorem dX0_side_45 : decode cX0_side 45 = .ok (.aload_n 0, 1) := dk_42 (dk_at dksX0_side_1 23 rfl rfl)
theorem dX0_side_46 : decode cX0_side 46 = .ok (.getfield 12, 3) := dk_180 0 12 (dk_at dksX0_side_2 0 rfl rfl)
theorem dX0_side_49 : decode cX0_side 49 = .ok (.iload_n 1, 1) := dk_27 (dk_at dksX0_side_2 3 rfl rfl)
theorem dX0_side_50 : decode cX0_side 50 = .ok (.iload_n 2, 1) := dk_28 (dk_at dksX0_side_2 4 rfl rfl)
theorem dX0_side_51 : decode cX0_side 51 = .ok (.iload_n 3, 1) := dk_29 (dk_at dksX0_side_2 5 rfl rfl)
theorem dX0_side_52 : decode cX0_side 52 = .ok (.ifCond .ne 7, 3) := dk_154 0 7 (dk_at dksX0_side_2 6 rfl rfl)
theorem dX0_side_55 : decode cX0_side 55 = .ok (.iconst 1, 1) := dk_4 (dk_at dksX0_side_2 9 rfl rfl)
theorem dX0_side_56 : decode cX0_side 56 = .ok (.goto 4, 3) := dk_167 0 4 (dk_at dksX0_side_2 10 rfl rfl)
theorem dX0_side_59 : decode cX0_side 59 = .ok (.iconst 0, 1) := dk_3 (dk_at dksX0_side_2 13 rfl rfl)
theorem dX0_side_60 : decode cX0_side 60 = .ok (.iconst 0, 1) := dk_3 (dk_at dksX0_side_2 14 rfl rfl)
theorem dX0_side_61 : decode cX0_side 61 = .ok (.invokevirtual 278, 3) := dk_182 1 22 (dk_at dksX0_side_2 15 rfl rfl)
theorem dX0_side_64 : decode cX0_side 64 = .ok (.ireturn, 1) := dk_172 (dk_at dksX0_side_2 18 rfl rfl)
abbrev cX0_others : ByteArray := prog_1_method_31_code
def yX0_others : MethodName := ⟨RX0, "others", "(II)I"⟩
def dkwX0_others_4 : List UInt8 := [172]
abbrev dktX0_others_4 : List UInt8 := dkwX0_others_4 ++ []
def dkwX0_others_3 : List UInt8 := [180, 0, 207, 25, 5, 180, 0, 210, 96, 27, 100, 120, 128, 62, 132, 4, 1, 167, 255, 173, 29, 184, 1, 12]
abbrev dktX0_others_3 : List UInt8 := dkwX0_others_3 ++ dktX0_others_4
def dkwX0_others_2 : List UInt8 := [180, 0, 207, 27, 159, 0, 15, 25, 5, 180, 0, 210, 27, 159, 0, 6, 167, 0, 21, 29, 4, 25, 5]
abbrev dktX0_others_2 : List UInt8 := dkwX0_others_2 ++ dktX0_others_3
def dkwX0_others_1 : List UInt8 := [180, 0, 131, 21, 4, 182, 0, 181, 192, 0, 173, 58, 5, 25, 5, 180, 0, 254, 28, 160, 0, 42, 25, 5]
abbrev dktX0_others_1 : List UInt8 := dkwX0_others_1 ++ dktX0_others_2
def dkwX0_others_0 : List UInt8 := [3, 62, 3, 54, 4, 21, 4, 42, 180, 0, 12, 180, 0, 131, 182, 0, 134, 162, 0, 74, 42, 180, 0, 12]
abbrev dktX0_others_0 : List UInt8 := dkwX0_others_0 ++ dktX0_others_1
theorem dksX0_others_0 : cX0_others.data.toList.drop 0 = dktX0_others_0 := by decide +kernel
theorem dksX0_others_1 : cX0_others.data.toList.drop 24 = dktX0_others_1 := dk_seg dksX0_others_0 24 rfl rfl
theorem dksX0_others_2 : cX0_others.data.toList.drop 48 = dktX0_others_2 := dk_seg dksX0_others_1 24 rfl rfl
theorem dksX0_others_3 : cX0_others.data.toList.drop 71 = dktX0_others_3 := dk_seg dksX0_others_2 23 rfl rfl
theorem dksX0_others_4 : cX0_others.data.toList.drop 95 = dktX0_others_4 := dk_seg dksX0_others_3 24 rfl rfl
theorem dX0_others_0 : decode cX0_others 0 = .ok (.iconst 0, 1) := dk_3 (dk_at dksX0_others_0 0 rfl rfl)
theorem dX0_others_1 : decode cX0_others 1 = .ok (.istore_n 3, 1) := dk_62 (dk_at dksX0_others_0 1 rfl rfl)
theorem dX0_others_2 : decode cX0_others 2 = .ok (.iconst 0, 1) := dk_3 (dk_at dksX0_others_0 2 rfl rfl)
theorem dX0_others_3 : decode cX0_others 3 = .ok (.istore 4, 2) := dk_54 4 (dk_at dksX0_others_0 3 rfl rfl)
theorem dX0_others_5 : decode cX0_others 5 = .ok (.iload 4, 2) := dk_21 4 (dk_at dksX0_others_0 5 rfl rfl)
theorem dX0_others_7 : decode cX0_others 7 = .ok (.aload_n 0, 1) := dk_42 (dk_at dksX0_others_0 7 rfl rfl)
theorem dX0_others_8 : decode cX0_others 8 = .ok (.getfield 12, 3) := dk_180 0 12 (dk_at dksX0_others_0 8 rfl rfl)
theorem dX0_others_11 : decode cX0_others 11 = .ok (.getfield 131, 3) := dk_180 0 131 (dk_at dksX0_others_0 11 rfl rfl)
theorem dX0_others_14 : decode cX0_others 14 = .ok (.invokevirtual 134, 3) := dk_182 0 134 (dk_at dksX0_others_0 14 rfl rfl)
theorem dX0_others_17 : decode cX0_others 17 = .ok (.if_icmp .ge 74, 3) := dk_162 0 74 (dk_at dksX0_others_0 17 rfl rfl)
theorem dX0_others_20 : decode cX0_others 20 = .ok (.aload_n 0, 1) := dk_42 (dk_at dksX0_others_0 20 rfl rfl)
theorem dX0_others_21 : decode cX0_others 21 = .ok (.getfield 12, 3) := dk_180 0 12 (dk_at dksX0_others_0 21 rfl rfl)
theorem dX0_others_24 : decode cX0_others 24 = .ok (.getfield 131, 3) := dk_180 0 131 (dk_at dksX0_others_1 0 rfl rfl)
theorem dX0_others_27 : decode cX0_others 27 = .ok (.iload 4, 2) := dk_21 4 (dk_at dksX0_others_1 3 rfl rfl)
theorem dX0_others_29 : decode cX0_others 29 = .ok (.invokevirtual 181, 3) := dk_182 0 181 (dk_at dksX0_others_1 5 rfl rfl)
theorem dX0_others_32 : decode cX0_others 32 = .ok (.checkcast 173, 3) := dk_192 0 173 (dk_at dksX0_others_1 8 rfl rfl)
theorem dX0_others_35 : decode cX0_others 35 = .ok (.astore 5, 2) := dk_58 5 (dk_at dksX0_others_1 11 rfl rfl)
theorem dX0_others_37 : decode cX0_others 37 = .ok (.aload 5, 2) := dk_25 5 (dk_at dksX0_others_1 13 rfl rfl)
theorem dX0_others_39 : decode cX0_others 39 = .ok (.getfield 254, 3) := dk_180 0 254 (dk_at dksX0_others_1 15 rfl rfl)
theorem dX0_others_42 : decode cX0_others 42 = .ok (.iload_n 2, 1) := dk_28 (dk_at dksX0_others_1 18 rfl rfl)
theorem dX0_others_43 : decode cX0_others 43 = .ok (.if_icmp .ne 42, 3) := dk_160 0 42 (dk_at dksX0_others_1 19 rfl rfl)
theorem dX0_others_46 : decode cX0_others 46 = .ok (.aload 5, 2) := dk_25 5 (dk_at dksX0_others_1 22 rfl rfl)
theorem dX0_others_48 : decode cX0_others 48 = .ok (.getfield 207, 3) := dk_180 0 207 (dk_at dksX0_others_2 0 rfl rfl)
theorem dX0_others_51 : decode cX0_others 51 = .ok (.iload_n 1, 1) := dk_27 (dk_at dksX0_others_2 3 rfl rfl)
theorem dX0_others_52 : decode cX0_others 52 = .ok (.if_icmp .eq 15, 3) := dk_159 0 15 (dk_at dksX0_others_2 4 rfl rfl)
theorem dX0_others_55 : decode cX0_others 55 = .ok (.aload 5, 2) := dk_25 5 (dk_at dksX0_others_2 7 rfl rfl)
theorem dX0_others_57 : decode cX0_others 57 = .ok (.getfield 210, 3) := dk_180 0 210 (dk_at dksX0_others_2 9 rfl rfl)
theorem dX0_others_60 : decode cX0_others 60 = .ok (.iload_n 1, 1) := dk_27 (dk_at dksX0_others_2 12 rfl rfl)
theorem dX0_others_61 : decode cX0_others 61 = .ok (.if_icmp .eq 6, 3) := dk_159 0 6 (dk_at dksX0_others_2 13 rfl rfl)
theorem dX0_others_64 : decode cX0_others 64 = .ok (.goto 21, 3) := dk_167 0 21 (dk_at dksX0_others_2 16 rfl rfl)
theorem dX0_others_67 : decode cX0_others 67 = .ok (.iload_n 3, 1) := dk_29 (dk_at dksX0_others_2 19 rfl rfl)
theorem dX0_others_68 : decode cX0_others 68 = .ok (.iconst 1, 1) := dk_4 (dk_at dksX0_others_2 20 rfl rfl)
theorem dX0_others_69 : decode cX0_others 69 = .ok (.aload 5, 2) := dk_25 5 (dk_at dksX0_others_2 21 rfl rfl)
theorem dX0_others_71 : decode cX0_others 71 = .ok (.getfield 207, 3) := dk_180 0 207 (dk_at dksX0_others_3 0 rfl rfl)
theorem dX0_others_74 : decode cX0_others 74 = .ok (.aload 5, 2) := dk_25 5 (dk_at dksX0_others_3 3 rfl rfl)
theorem dX0_others_76 : decode cX0_others 76 = .ok (.getfield 210, 3) := dk_180 0 210 (dk_at dksX0_others_3 5 rfl rfl)
theorem dX0_others_79 : decode cX0_others 79 = .ok (.iadd, 1) := dk_96 (dk_at dksX0_others_3 8 rfl rfl)
theorem dX0_others_80 : decode cX0_others 80 = .ok (.iload_n 1, 1) := dk_27 (dk_at dksX0_others_3 9 rfl rfl)
theorem dX0_others_81 : decode cX0_others 81 = .ok (.isub, 1) := dk_100 (dk_at dksX0_others_3 10 rfl rfl)
theorem dX0_others_82 : decode cX0_others 82 = .ok (.ishl, 1) := dk_120 (dk_at dksX0_others_3 11 rfl rfl)
theorem dX0_others_83 : decode cX0_others 83 = .ok (.ior, 1) := dk_128 (dk_at dksX0_others_3 12 rfl rfl)
theorem dX0_others_84 : decode cX0_others 84 = .ok (.istore_n 3, 1) := dk_62 (dk_at dksX0_others_3 13 rfl rfl)
theorem dX0_others_85 : decode cX0_others 85 = .ok (.iinc 4 1, 3) := dk_132 4 1 (dk_at dksX0_others_3 14 rfl rfl)
theorem dX0_others_88 : decode cX0_others 88 = .ok (.goto (-83), 3) := dk_167 255 173 (dk_at dksX0_others_3 17 rfl rfl)
theorem dX0_others_91 : decode cX0_others 91 = .ok (.iload_n 3, 1) := dk_29 (dk_at dksX0_others_3 20 rfl rfl)
theorem dX0_others_92 : decode cX0_others 92 = .ok (.invokestatic 268, 3) := dk_184 1 12 (dk_at dksX0_others_3 21 rfl rfl)
theorem dX0_others_95 : decode cX0_others 95 = .ok (.ireturn, 1) := dk_172 (dk_at dksX0_others_4 0 rfl rfl)
abbrev cX0_total : ByteArray := prog_1_method_34_code
def yX0_total : MethodName := ⟨RX0, "total", "(II)I"⟩
def dkwX0_total_9 : List UInt8 := [27, 4, 182, 1, 8, 184, 1, 29, 96, 62, 132, 4, 1, 167, 255, 223, 29, 172]
abbrev dktX0_total_9 : List UInt8 := dkwX0_total_9 ++ []
def dkwX0_total_8 : List UInt8 := [172, 3, 54, 4, 21, 4, 42, 180, 0, 12, 182, 0, 51, 162, 0, 27, 29, 3, 42, 180, 0, 12, 21, 4]
abbrev dktX0_total_8 : List UInt8 := dkwX0_total_8 ++ dktX0_total_9
def dkwX0_total_7 : List UInt8 := [21, 4, 182, 0, 181, 192, 0, 173, 180, 0, 213, 167, 0, 4, 3, 96, 62, 132, 4, 1, 167, 255, 170, 29]
abbrev dktX0_total_7 : List UInt8 := dkwX0_total_7 ++ dktX0_total_8
def dkwX0_total_6 : List UInt8 := [180, 0, 131, 21, 4, 182, 0, 181, 192, 0, 173, 180, 0, 192, 153, 0, 24, 42, 180, 0, 12, 180, 0, 131]
abbrev dktX0_total_6 : List UInt8 := dkwX0_total_6 ++ dktX0_total_7
def dkwX0_total_5 : List UInt8 := [180, 0, 131, 21, 4, 182, 0, 181, 192, 0, 173, 180, 0, 254, 27, 160, 0, 45, 42, 180, 0, 12]
abbrev dktX0_total_5 : List UInt8 := dkwX0_total_5 ++ dktX0_total_6
def dkwX0_total_4 : List UInt8 := [3, 54, 4, 21, 4, 42, 180, 0, 12, 180, 0, 131, 182, 0, 134, 162, 0, 77, 29, 42, 180, 0, 12]
abbrev dktX0_total_4 : List UInt8 := dkwX0_total_4 ++ dktX0_total_5
def dkwX0_total_3 : List UInt8 := [42, 180, 0, 12, 27, 182, 0, 71, 184, 1, 26, 172, 42, 180, 0, 12, 27, 182, 0, 71, 184, 0, 247, 172]
abbrev dktX0_total_3 : List UInt8 := dkwX0_total_3 ++ dktX0_total_4
def dkwX0_total_2 : List UInt8 := [170, 0, 0, 0, 0, 144, 0, 0, 0, 0, 0, 0, 0, 2, 0, 0, 0, 26, 0, 0, 0, 38, 0, 0, 0, 50]
abbrev dktX0_total_2 : List UInt8 := dkwX0_total_2 ++ dktX0_total_3
def dkwX0_total_1 : List UInt8 := [62, 28]
abbrev dktX0_total_1 : List UInt8 := dkwX0_total_1 ++ dktX0_total_2
def dkwX0_total_0 : List UInt8 := [42, 27, 182, 0, 165, 153, 0, 15, 28, 133, 9, 20, 0, 200, 184, 0, 112, 154, 0, 6, 16, 254, 172, 3]
abbrev dktX0_total_0 : List UInt8 := dkwX0_total_0 ++ dktX0_total_1
theorem dksX0_total_0 : cX0_total.data.toList.drop 0 = dktX0_total_0 := by decide +kernel
theorem dksX0_total_1 : cX0_total.data.toList.drop 24 = dktX0_total_1 := dk_seg dksX0_total_0 24 rfl rfl
theorem dksX0_total_2 : cX0_total.data.toList.drop 26 = dktX0_total_2 := dk_seg dksX0_total_1 2 rfl rfl
theorem dksX0_total_3 : cX0_total.data.toList.drop 52 = dktX0_total_3 := dk_seg dksX0_total_2 26 rfl rfl
theorem dksX0_total_4 : cX0_total.data.toList.drop 76 = dktX0_total_4 := dk_seg dksX0_total_3 24 rfl rfl
theorem dksX0_total_5 : cX0_total.data.toList.drop 99 = dktX0_total_5 := dk_seg dksX0_total_4 23 rfl rfl
theorem dksX0_total_6 : cX0_total.data.toList.drop 121 = dktX0_total_6 := dk_seg dksX0_total_5 22 rfl rfl
theorem dksX0_total_7 : cX0_total.data.toList.drop 145 = dktX0_total_7 := dk_seg dksX0_total_6 24 rfl rfl
theorem dksX0_total_8 : cX0_total.data.toList.drop 169 = dktX0_total_8 := dk_seg dksX0_total_7 24 rfl rfl
theorem dksX0_total_9 : cX0_total.data.toList.drop 193 = dktX0_total_9 := dk_seg dksX0_total_8 24 rfl rfl
theorem dX0_total_0 : decode cX0_total 0 = .ok (.aload_n 0, 1) := dk_42 (dk_at dksX0_total_0 0 rfl rfl)
theorem dX0_total_1 : decode cX0_total 1 = .ok (.iload_n 1, 1) := dk_27 (dk_at dksX0_total_0 1 rfl rfl)
theorem dX0_total_2 : decode cX0_total 2 = .ok (.invokevirtual 165, 3) := dk_182 0 165 (dk_at dksX0_total_0 2 rfl rfl)
theorem dX0_total_5 : decode cX0_total 5 = .ok (.ifCond .eq 15, 3) := dk_153 0 15 (dk_at dksX0_total_0 5 rfl rfl)
theorem dX0_total_8 : decode cX0_total 8 = .ok (.iload_n 2, 1) := dk_28 (dk_at dksX0_total_0 8 rfl rfl)
theorem dX0_total_9 : decode cX0_total 9 = .ok (.i2l, 1) := dk_133 (dk_at dksX0_total_0 9 rfl rfl)
theorem dX0_total_10 : decode cX0_total 10 = .ok (.lconst 0, 1) := dk_9 (dk_at dksX0_total_0 10 rfl rfl)
theorem dX0_total_11 : decode cX0_total 11 = .ok (.ldc2_w 200, 3) := dk_20 0 200 (dk_at dksX0_total_0 11 rfl rfl)
theorem dX0_total_14 : decode cX0_total 14 = .ok (.invokestatic 112, 3) := dk_184 0 112 (dk_at dksX0_total_0 14 rfl rfl)
theorem dX0_total_17 : decode cX0_total 17 = .ok (.ifCond .ne 6, 3) := dk_154 0 6 (dk_at dksX0_total_0 17 rfl rfl)
theorem dX0_total_20 : decode cX0_total 20 = .ok (.bipush (-2), 2) := dk_16 254 (dk_at dksX0_total_0 20 rfl rfl)
theorem dX0_total_22 : decode cX0_total 22 = .ok (.ireturn, 1) := dk_172 (dk_at dksX0_total_0 22 rfl rfl)
theorem dX0_total_23 : decode cX0_total 23 = .ok (.iconst 0, 1) := dk_3 (dk_at dksX0_total_0 23 rfl rfl)
theorem dX0_total_24 : decode cX0_total 24 = .ok (.istore_n 3, 1) := dk_62 (dk_at dksX0_total_1 0 rfl rfl)
theorem dX0_total_25 : decode cX0_total 25 = .ok (.iload_n 2, 1) := dk_28 (dk_at dksX0_total_1 1 rfl rfl)
theorem dX0_total_26 : decode cX0_total 26 = .ok (.tableswitch 144 0 2 #[26, 38, 50], 26) := by decide +kernel
theorem dX0_total_52 : decode cX0_total 52 = .ok (.aload_n 0, 1) := dk_42 (dk_at dksX0_total_3 0 rfl rfl)
theorem dX0_total_53 : decode cX0_total 53 = .ok (.getfield 12, 3) := dk_180 0 12 (dk_at dksX0_total_3 1 rfl rfl)
theorem dX0_total_56 : decode cX0_total 56 = .ok (.iload_n 1, 1) := dk_27 (dk_at dksX0_total_3 4 rfl rfl)
theorem dX0_total_57 : decode cX0_total 57 = .ok (.invokevirtual 71, 3) := dk_182 0 71 (dk_at dksX0_total_3 5 rfl rfl)
theorem dX0_total_60 : decode cX0_total 60 = .ok (.invokestatic 282, 3) := dk_184 1 26 (dk_at dksX0_total_3 8 rfl rfl)
theorem dX0_total_63 : decode cX0_total 63 = .ok (.ireturn, 1) := dk_172 (dk_at dksX0_total_3 11 rfl rfl)
theorem dX0_total_64 : decode cX0_total 64 = .ok (.aload_n 0, 1) := dk_42 (dk_at dksX0_total_3 12 rfl rfl)
theorem dX0_total_65 : decode cX0_total 65 = .ok (.getfield 12, 3) := dk_180 0 12 (dk_at dksX0_total_3 13 rfl rfl)
theorem dX0_total_68 : decode cX0_total 68 = .ok (.iload_n 1, 1) := dk_27 (dk_at dksX0_total_3 16 rfl rfl)
theorem dX0_total_69 : decode cX0_total 69 = .ok (.invokevirtual 71, 3) := dk_182 0 71 (dk_at dksX0_total_3 17 rfl rfl)
theorem dX0_total_72 : decode cX0_total 72 = .ok (.invokestatic 247, 3) := dk_184 0 247 (dk_at dksX0_total_3 20 rfl rfl)
theorem dX0_total_75 : decode cX0_total 75 = .ok (.ireturn, 1) := dk_172 (dk_at dksX0_total_3 23 rfl rfl)
theorem dX0_total_76 : decode cX0_total 76 = .ok (.iconst 0, 1) := dk_3 (dk_at dksX0_total_4 0 rfl rfl)
theorem dX0_total_77 : decode cX0_total 77 = .ok (.istore 4, 2) := dk_54 4 (dk_at dksX0_total_4 1 rfl rfl)
theorem dX0_total_79 : decode cX0_total 79 = .ok (.iload 4, 2) := dk_21 4 (dk_at dksX0_total_4 3 rfl rfl)
theorem dX0_total_81 : decode cX0_total 81 = .ok (.aload_n 0, 1) := dk_42 (dk_at dksX0_total_4 5 rfl rfl)
theorem dX0_total_82 : decode cX0_total 82 = .ok (.getfield 12, 3) := dk_180 0 12 (dk_at dksX0_total_4 6 rfl rfl)
theorem dX0_total_85 : decode cX0_total 85 = .ok (.getfield 131, 3) := dk_180 0 131 (dk_at dksX0_total_4 9 rfl rfl)
theorem dX0_total_88 : decode cX0_total 88 = .ok (.invokevirtual 134, 3) := dk_182 0 134 (dk_at dksX0_total_4 12 rfl rfl)
theorem dX0_total_91 : decode cX0_total 91 = .ok (.if_icmp .ge 77, 3) := dk_162 0 77 (dk_at dksX0_total_4 15 rfl rfl)
theorem dX0_total_94 : decode cX0_total 94 = .ok (.iload_n 3, 1) := dk_29 (dk_at dksX0_total_4 18 rfl rfl)
theorem dX0_total_95 : decode cX0_total 95 = .ok (.aload_n 0, 1) := dk_42 (dk_at dksX0_total_4 19 rfl rfl)
theorem dX0_total_96 : decode cX0_total 96 = .ok (.getfield 12, 3) := dk_180 0 12 (dk_at dksX0_total_4 20 rfl rfl)
theorem dX0_total_99 : decode cX0_total 99 = .ok (.getfield 131, 3) := dk_180 0 131 (dk_at dksX0_total_5 0 rfl rfl)
theorem dX0_total_102 : decode cX0_total 102 = .ok (.iload 4, 2) := dk_21 4 (dk_at dksX0_total_5 3 rfl rfl)
theorem dX0_total_104 : decode cX0_total 104 = .ok (.invokevirtual 181, 3) := dk_182 0 181 (dk_at dksX0_total_5 5 rfl rfl)
theorem dX0_total_107 : decode cX0_total 107 = .ok (.checkcast 173, 3) := dk_192 0 173 (dk_at dksX0_total_5 8 rfl rfl)
theorem dX0_total_110 : decode cX0_total 110 = .ok (.getfield 254, 3) := dk_180 0 254 (dk_at dksX0_total_5 11 rfl rfl)
theorem dX0_total_113 : decode cX0_total 113 = .ok (.iload_n 1, 1) := dk_27 (dk_at dksX0_total_5 14 rfl rfl)
theorem dX0_total_114 : decode cX0_total 114 = .ok (.if_icmp .ne 45, 3) := dk_160 0 45 (dk_at dksX0_total_5 15 rfl rfl)
theorem dX0_total_117 : decode cX0_total 117 = .ok (.aload_n 0, 1) := dk_42 (dk_at dksX0_total_5 18 rfl rfl)
theorem dX0_total_118 : decode cX0_total 118 = .ok (.getfield 12, 3) := dk_180 0 12 (dk_at dksX0_total_5 19 rfl rfl)
theorem dX0_total_121 : decode cX0_total 121 = .ok (.getfield 131, 3) := dk_180 0 131 (dk_at dksX0_total_6 0 rfl rfl)
theorem dX0_total_124 : decode cX0_total 124 = .ok (.iload 4, 2) := dk_21 4 (dk_at dksX0_total_6 3 rfl rfl)
theorem dX0_total_126 : decode cX0_total 126 = .ok (.invokevirtual 181, 3) := dk_182 0 181 (dk_at dksX0_total_6 5 rfl rfl)
theorem dX0_total_129 : decode cX0_total 129 = .ok (.checkcast 173, 3) := dk_192 0 173 (dk_at dksX0_total_6 8 rfl rfl)
theorem dX0_total_132 : decode cX0_total 132 = .ok (.getfield 192, 3) := dk_180 0 192 (dk_at dksX0_total_6 11 rfl rfl)
theorem dX0_total_135 : decode cX0_total 135 = .ok (.ifCond .eq 24, 3) := dk_153 0 24 (dk_at dksX0_total_6 14 rfl rfl)
theorem dX0_total_138 : decode cX0_total 138 = .ok (.aload_n 0, 1) := dk_42 (dk_at dksX0_total_6 17 rfl rfl)
theorem dX0_total_139 : decode cX0_total 139 = .ok (.getfield 12, 3) := dk_180 0 12 (dk_at dksX0_total_6 18 rfl rfl)
theorem dX0_total_142 : decode cX0_total 142 = .ok (.getfield 131, 3) := dk_180 0 131 (dk_at dksX0_total_6 21 rfl rfl)
theorem dX0_total_145 : decode cX0_total 145 = .ok (.iload 4, 2) := dk_21 4 (dk_at dksX0_total_7 0 rfl rfl)
theorem dX0_total_147 : decode cX0_total 147 = .ok (.invokevirtual 181, 3) := dk_182 0 181 (dk_at dksX0_total_7 2 rfl rfl)
theorem dX0_total_150 : decode cX0_total 150 = .ok (.checkcast 173, 3) := dk_192 0 173 (dk_at dksX0_total_7 5 rfl rfl)
theorem dX0_total_153 : decode cX0_total 153 = .ok (.getfield 213, 3) := dk_180 0 213 (dk_at dksX0_total_7 8 rfl rfl)
theorem dX0_total_156 : decode cX0_total 156 = .ok (.goto 4, 3) := dk_167 0 4 (dk_at dksX0_total_7 11 rfl rfl)
theorem dX0_total_159 : decode cX0_total 159 = .ok (.iconst 0, 1) := dk_3 (dk_at dksX0_total_7 14 rfl rfl)
theorem dX0_total_160 : decode cX0_total 160 = .ok (.iadd, 1) := dk_96 (dk_at dksX0_total_7 15 rfl rfl)
theorem dX0_total_161 : decode cX0_total 161 = .ok (.istore_n 3, 1) := dk_62 (dk_at dksX0_total_7 16 rfl rfl)
theorem dX0_total_162 : decode cX0_total 162 = .ok (.iinc 4 1, 3) := dk_132 4 1 (dk_at dksX0_total_7 17 rfl rfl)
theorem dX0_total_165 : decode cX0_total 165 = .ok (.goto (-86), 3) := dk_167 255 170 (dk_at dksX0_total_7 20 rfl rfl)
theorem dX0_total_168 : decode cX0_total 168 = .ok (.iload_n 3, 1) := dk_29 (dk_at dksX0_total_7 23 rfl rfl)
theorem dX0_total_169 : decode cX0_total 169 = .ok (.ireturn, 1) := dk_172 (dk_at dksX0_total_8 0 rfl rfl)
theorem dX0_total_170 : decode cX0_total 170 = .ok (.iconst 0, 1) := dk_3 (dk_at dksX0_total_8 1 rfl rfl)
theorem dX0_total_171 : decode cX0_total 171 = .ok (.istore 4, 2) := dk_54 4 (dk_at dksX0_total_8 2 rfl rfl)
theorem dX0_total_173 : decode cX0_total 173 = .ok (.iload 4, 2) := dk_21 4 (dk_at dksX0_total_8 4 rfl rfl)
theorem dX0_total_175 : decode cX0_total 175 = .ok (.aload_n 0, 1) := dk_42 (dk_at dksX0_total_8 6 rfl rfl)
theorem dX0_total_176 : decode cX0_total 176 = .ok (.getfield 12, 3) := dk_180 0 12 (dk_at dksX0_total_8 7 rfl rfl)
theorem dX0_total_179 : decode cX0_total 179 = .ok (.invokevirtual 51, 3) := dk_182 0 51 (dk_at dksX0_total_8 10 rfl rfl)
theorem dX0_total_182 : decode cX0_total 182 = .ok (.if_icmp .ge 27, 3) := dk_162 0 27 (dk_at dksX0_total_8 13 rfl rfl)
theorem dX0_total_185 : decode cX0_total 185 = .ok (.iload_n 3, 1) := dk_29 (dk_at dksX0_total_8 16 rfl rfl)
theorem dX0_total_186 : decode cX0_total 186 = .ok (.iconst 0, 1) := dk_3 (dk_at dksX0_total_8 17 rfl rfl)
theorem dX0_total_187 : decode cX0_total 187 = .ok (.aload_n 0, 1) := dk_42 (dk_at dksX0_total_8 18 rfl rfl)
theorem dX0_total_188 : decode cX0_total 188 = .ok (.getfield 12, 3) := dk_180 0 12 (dk_at dksX0_total_8 19 rfl rfl)
theorem dX0_total_191 : decode cX0_total 191 = .ok (.iload 4, 2) := dk_21 4 (dk_at dksX0_total_8 22 rfl rfl)
theorem dX0_total_193 : decode cX0_total 193 = .ok (.iload_n 1, 1) := dk_27 (dk_at dksX0_total_9 0 rfl rfl)
theorem dX0_total_194 : decode cX0_total 194 = .ok (.iconst 1, 1) := dk_4 (dk_at dksX0_total_9 1 rfl rfl)
theorem dX0_total_195 : decode cX0_total 195 = .ok (.invokevirtual 264, 3) := dk_182 1 8 (dk_at dksX0_total_9 2 rfl rfl)
theorem dX0_total_198 : decode cX0_total 198 = .ok (.invokestatic 285, 3) := dk_184 1 29 (dk_at dksX0_total_9 5 rfl rfl)
theorem dX0_total_201 : decode cX0_total 201 = .ok (.iadd, 1) := dk_96 (dk_at dksX0_total_9 8 rfl rfl)
theorem dX0_total_202 : decode cX0_total 202 = .ok (.istore_n 3, 1) := dk_62 (dk_at dksX0_total_9 9 rfl rfl)
theorem dX0_total_203 : decode cX0_total 203 = .ok (.iinc 4 1, 3) := dk_132 4 1 (dk_at dksX0_total_9 10 rfl rfl)
theorem dX0_total_206 : decode cX0_total 206 = .ok (.goto (-33), 3) := dk_167 255 223 (dk_at dksX0_total_9 13 rfl rfl)
theorem dX0_total_209 : decode cX0_total 209 = .ok (.iload_n 3, 1) := dk_29 (dk_at dksX0_total_9 16 rfl rfl)
theorem dX0_total_210 : decode cX0_total 210 = .ok (.ireturn, 1) := dk_172 (dk_at dksX0_total_9 17 rfl rfl)
abbrev cX0_sum : ByteArray := prog_1_method_33_code
def yX0_sum : MethodName := ⟨RX0, "sum", "([I)I"⟩
def dkwX0_sum_1 : List UInt8 := [21, 5, 96, 60, 132, 4, 1, 167, 255, 236, 27, 172]
abbrev dktX0_sum_1 : List UInt8 := dkwX0_sum_1 ++ []
def dkwX0_sum_0 : List UInt8 := [3, 60, 42, 77, 44, 190, 62, 3, 54, 4, 21, 4, 29, 162, 0, 20, 44, 21, 4, 46, 54, 5, 27]
abbrev dktX0_sum_0 : List UInt8 := dkwX0_sum_0 ++ dktX0_sum_1
theorem dksX0_sum_0 : cX0_sum.data.toList.drop 0 = dktX0_sum_0 := by decide +kernel
theorem dksX0_sum_1 : cX0_sum.data.toList.drop 23 = dktX0_sum_1 := dk_seg dksX0_sum_0 23 rfl rfl
theorem dX0_sum_0 : decode cX0_sum 0 = .ok (.iconst 0, 1) := dk_3 (dk_at dksX0_sum_0 0 rfl rfl)
theorem dX0_sum_1 : decode cX0_sum 1 = .ok (.istore_n 1, 1) := dk_60 (dk_at dksX0_sum_0 1 rfl rfl)
theorem dX0_sum_2 : decode cX0_sum 2 = .ok (.aload_n 0, 1) := dk_42 (dk_at dksX0_sum_0 2 rfl rfl)
theorem dX0_sum_3 : decode cX0_sum 3 = .ok (.astore_n 2, 1) := dk_77 (dk_at dksX0_sum_0 3 rfl rfl)
theorem dX0_sum_4 : decode cX0_sum 4 = .ok (.aload_n 2, 1) := dk_44 (dk_at dksX0_sum_0 4 rfl rfl)
theorem dX0_sum_5 : decode cX0_sum 5 = .ok (.arraylength, 1) := dk_190 (dk_at dksX0_sum_0 5 rfl rfl)
theorem dX0_sum_6 : decode cX0_sum 6 = .ok (.istore_n 3, 1) := dk_62 (dk_at dksX0_sum_0 6 rfl rfl)
theorem dX0_sum_7 : decode cX0_sum 7 = .ok (.iconst 0, 1) := dk_3 (dk_at dksX0_sum_0 7 rfl rfl)
theorem dX0_sum_8 : decode cX0_sum 8 = .ok (.istore 4, 2) := dk_54 4 (dk_at dksX0_sum_0 8 rfl rfl)
theorem dX0_sum_10 : decode cX0_sum 10 = .ok (.iload 4, 2) := dk_21 4 (dk_at dksX0_sum_0 10 rfl rfl)
theorem dX0_sum_12 : decode cX0_sum 12 = .ok (.iload_n 3, 1) := dk_29 (dk_at dksX0_sum_0 12 rfl rfl)
theorem dX0_sum_13 : decode cX0_sum 13 = .ok (.if_icmp .ge 20, 3) := dk_162 0 20 (dk_at dksX0_sum_0 13 rfl rfl)
theorem dX0_sum_16 : decode cX0_sum 16 = .ok (.aload_n 2, 1) := dk_44 (dk_at dksX0_sum_0 16 rfl rfl)
theorem dX0_sum_17 : decode cX0_sum 17 = .ok (.iload 4, 2) := dk_21 4 (dk_at dksX0_sum_0 17 rfl rfl)
theorem dX0_sum_19 : decode cX0_sum 19 = .ok (.iaload, 1) := dk_46 (dk_at dksX0_sum_0 19 rfl rfl)
theorem dX0_sum_20 : decode cX0_sum 20 = .ok (.istore 5, 2) := dk_54 5 (dk_at dksX0_sum_0 20 rfl rfl)
theorem dX0_sum_22 : decode cX0_sum 22 = .ok (.iload_n 1, 1) := dk_27 (dk_at dksX0_sum_0 22 rfl rfl)
theorem dX0_sum_23 : decode cX0_sum 23 = .ok (.iload 5, 2) := dk_21 5 (dk_at dksX0_sum_1 0 rfl rfl)
theorem dX0_sum_25 : decode cX0_sum 25 = .ok (.iadd, 1) := dk_96 (dk_at dksX0_sum_1 2 rfl rfl)
theorem dX0_sum_26 : decode cX0_sum 26 = .ok (.istore_n 1, 1) := dk_60 (dk_at dksX0_sum_1 3 rfl rfl)
theorem dX0_sum_27 : decode cX0_sum 27 = .ok (.iinc 4 1, 3) := dk_132 4 1 (dk_at dksX0_sum_1 4 rfl rfl)
theorem dX0_sum_30 : decode cX0_sum 30 = .ok (.goto (-20), 3) := dk_167 255 236 (dk_at dksX0_sum_1 7 rfl rfl)
theorem dX0_sum_33 : decode cX0_sum 33 = .ok (.iload_n 1, 1) := dk_27 (dk_at dksX0_sum_1 10 rfl rfl)
theorem dX0_sum_34 : decode cX0_sum 34 = .ok (.ireturn, 1) := dk_172 (dk_at dksX0_sum_1 11 rfl rfl)
abbrev cX0_bound : ByteArray := prog_1_method_36_code
def yX0_bound : MethodName := ⟨RX0, "bound", "(III)I"⟩
def dkwX0_bound_1 : List UInt8 := [167, 0, 5, 16, 254, 172]
abbrev dktX0_bound_1 : List UInt8 := dkwX0_bound_1 ++ []
def dkwX0_bound_0 : List UInt8 := [42, 27, 28, 29, 182, 0, 255, 153, 0, 18, 42, 29, 182, 1, 32, 27, 28, 185, 1, 36, 3, 0]
abbrev dktX0_bound_0 : List UInt8 := dkwX0_bound_0 ++ dktX0_bound_1
theorem dksX0_bound_0 : cX0_bound.data.toList.drop 0 = dktX0_bound_0 := by decide +kernel
theorem dksX0_bound_1 : cX0_bound.data.toList.drop 22 = dktX0_bound_1 := dk_seg dksX0_bound_0 22 rfl rfl
theorem dX0_bound_0 : decode cX0_bound 0 = .ok (.aload_n 0, 1) := dk_42 (dk_at dksX0_bound_0 0 rfl rfl)
theorem dX0_bound_1 : decode cX0_bound 1 = .ok (.iload_n 1, 1) := dk_27 (dk_at dksX0_bound_0 1 rfl rfl)
theorem dX0_bound_2 : decode cX0_bound 2 = .ok (.iload_n 2, 1) := dk_28 (dk_at dksX0_bound_0 2 rfl rfl)
theorem dX0_bound_3 : decode cX0_bound 3 = .ok (.iload_n 3, 1) := dk_29 (dk_at dksX0_bound_0 3 rfl rfl)
theorem dX0_bound_4 : decode cX0_bound 4 = .ok (.invokevirtual 255, 3) := dk_182 0 255 (dk_at dksX0_bound_0 4 rfl rfl)
theorem dX0_bound_7 : decode cX0_bound 7 = .ok (.ifCond .eq 18, 3) := dk_153 0 18 (dk_at dksX0_bound_0 7 rfl rfl)
theorem dX0_bound_10 : decode cX0_bound 10 = .ok (.aload_n 0, 1) := dk_42 (dk_at dksX0_bound_0 10 rfl rfl)
theorem dX0_bound_11 : decode cX0_bound 11 = .ok (.iload_n 3, 1) := dk_29 (dk_at dksX0_bound_0 11 rfl rfl)
theorem dX0_bound_12 : decode cX0_bound 12 = .ok (.invokevirtual 288, 3) := dk_182 1 32 (dk_at dksX0_bound_0 12 rfl rfl)
theorem dX0_bound_15 : decode cX0_bound 15 = .ok (.iload_n 1, 1) := dk_27 (dk_at dksX0_bound_0 15 rfl rfl)
theorem dX0_bound_16 : decode cX0_bound 16 = .ok (.iload_n 2, 1) := dk_28 (dk_at dksX0_bound_0 16 rfl rfl)
theorem dX0_bound_17 : decode cX0_bound 17 = .ok (.invokeinterface 292 3, 5) := by decide +kernel
theorem dX0_bound_22 : decode cX0_bound 22 = .ok (.goto 5, 3) := dk_167 0 5 (dk_at dksX0_bound_1 0 rfl rfl)
theorem dX0_bound_25 : decode cX0_bound 25 = .ok (.bipush (-2), 2) := dk_16 254 (dk_at dksX0_bound_1 3 rfl rfl)
theorem dX0_bound_27 : decode cX0_bound 27 = .ok (.ireturn, 1) := dk_172 (dk_at dksX0_bound_1 5 rfl rfl)
abbrev cX0_bounds : ByteArray := prog_1_method_35_code
def yX0_bounds : MethodName := ⟨RX0, "bounds", "(I)LSwapPress$Bounds;"⟩
def dkwX0_bounds_1 : List UInt8 := [184, 0, 62, 176]
abbrev dktX0_bounds_1 : List UInt8 := dkwX0_bounds_1 ++ []
def dkwX0_bounds_0 : List UInt8 := [42, 180, 0, 12, 180, 0, 55, 42, 180, 0, 12, 27, 182, 0, 71, 42, 180, 0, 12, 180, 0, 58]
abbrev dktX0_bounds_0 : List UInt8 := dkwX0_bounds_0 ++ dktX0_bounds_1
theorem dksX0_bounds_0 : cX0_bounds.data.toList.drop 0 = dktX0_bounds_0 := by decide +kernel
theorem dksX0_bounds_1 : cX0_bounds.data.toList.drop 22 = dktX0_bounds_1 := dk_seg dksX0_bounds_0 22 rfl rfl
theorem dX0_bounds_0 : decode cX0_bounds 0 = .ok (.aload_n 0, 1) := dk_42 (dk_at dksX0_bounds_0 0 rfl rfl)
theorem dX0_bounds_1 : decode cX0_bounds 1 = .ok (.getfield 12, 3) := dk_180 0 12 (dk_at dksX0_bounds_0 1 rfl rfl)
theorem dX0_bounds_4 : decode cX0_bounds 4 = .ok (.getfield 55, 3) := dk_180 0 55 (dk_at dksX0_bounds_0 4 rfl rfl)
theorem dX0_bounds_7 : decode cX0_bounds 7 = .ok (.aload_n 0, 1) := dk_42 (dk_at dksX0_bounds_0 7 rfl rfl)
theorem dX0_bounds_8 : decode cX0_bounds 8 = .ok (.getfield 12, 3) := dk_180 0 12 (dk_at dksX0_bounds_0 8 rfl rfl)
theorem dX0_bounds_11 : decode cX0_bounds 11 = .ok (.iload_n 1, 1) := dk_27 (dk_at dksX0_bounds_0 11 rfl rfl)
theorem dX0_bounds_12 : decode cX0_bounds 12 = .ok (.invokevirtual 71, 3) := dk_182 0 71 (dk_at dksX0_bounds_0 12 rfl rfl)
theorem dX0_bounds_15 : decode cX0_bounds 15 = .ok (.aload_n 0, 1) := dk_42 (dk_at dksX0_bounds_0 15 rfl rfl)
theorem dX0_bounds_16 : decode cX0_bounds 16 = .ok (.getfield 12, 3) := dk_180 0 12 (dk_at dksX0_bounds_0 16 rfl rfl)
theorem dX0_bounds_19 : decode cX0_bounds 19 = .ok (.getfield 58, 3) := dk_180 0 58 (dk_at dksX0_bounds_0 19 rfl rfl)
theorem dX0_bounds_22 : decode cX0_bounds 22 = .ok (.invokestatic 62, 3) := dk_184 0 62 (dk_at dksX0_bounds_1 0 rfl rfl)
theorem dX0_bounds_25 : decode cX0_bounds 25 = .ok (.areturn, 1) := dk_176 (dk_at dksX0_bounds_1 3 rfl rfl)
abbrev cX0_ring : ByteArray := prog_1_method_37_code
def yX0_ring : MethodName := ⟨RX0, "ring", "(II)I"⟩
def dkwX0_ring_3 : List UInt8 := [162, 0, 12, 45, 180, 0, 234, 28, 46, 167, 0, 4, 2, 172]
abbrev dktX0_ring_3 : List UInt8 := dkwX0_ring_3 ++ []
def dkwX0_ring_2 : List UInt8 := [154, 0, 5, 2, 172, 28, 2, 160, 0, 10, 45, 180, 0, 232, 167, 0, 21, 28, 45, 180, 0, 232]
abbrev dktX0_ring_2 : List UInt8 := dkwX0_ring_2 ++ dktX0_ring_3
def dkwX0_ring_1 : List UInt8 := [180, 0, 12, 182, 0, 51, 42, 180, 0, 12, 27, 182, 0, 71, 183, 0, 222, 78, 45, 182, 0, 225]
abbrev dktX0_ring_1 : List UInt8 := dkwX0_ring_1 ++ dktX0_ring_2
def dkwX0_ring_0 : List UInt8 := [42, 27, 182, 0, 165, 154, 0, 6, 16, 254, 172, 28, 2, 162, 0, 6, 16, 253, 172, 187, 0, 220, 89, 42]
abbrev dktX0_ring_0 : List UInt8 := dkwX0_ring_0 ++ dktX0_ring_1
theorem dksX0_ring_0 : cX0_ring.data.toList.drop 0 = dktX0_ring_0 := by decide +kernel
theorem dksX0_ring_1 : cX0_ring.data.toList.drop 24 = dktX0_ring_1 := dk_seg dksX0_ring_0 24 rfl rfl
theorem dksX0_ring_2 : cX0_ring.data.toList.drop 46 = dktX0_ring_2 := dk_seg dksX0_ring_1 22 rfl rfl
theorem dksX0_ring_3 : cX0_ring.data.toList.drop 68 = dktX0_ring_3 := dk_seg dksX0_ring_2 22 rfl rfl
theorem dX0_ring_0 : decode cX0_ring 0 = .ok (.aload_n 0, 1) := dk_42 (dk_at dksX0_ring_0 0 rfl rfl)
theorem dX0_ring_1 : decode cX0_ring 1 = .ok (.iload_n 1, 1) := dk_27 (dk_at dksX0_ring_0 1 rfl rfl)
theorem dX0_ring_2 : decode cX0_ring 2 = .ok (.invokevirtual 165, 3) := dk_182 0 165 (dk_at dksX0_ring_0 2 rfl rfl)
theorem dX0_ring_5 : decode cX0_ring 5 = .ok (.ifCond .ne 6, 3) := dk_154 0 6 (dk_at dksX0_ring_0 5 rfl rfl)
theorem dX0_ring_8 : decode cX0_ring 8 = .ok (.bipush (-2), 2) := dk_16 254 (dk_at dksX0_ring_0 8 rfl rfl)
theorem dX0_ring_10 : decode cX0_ring 10 = .ok (.ireturn, 1) := dk_172 (dk_at dksX0_ring_0 10 rfl rfl)
theorem dX0_ring_11 : decode cX0_ring 11 = .ok (.iload_n 2, 1) := dk_28 (dk_at dksX0_ring_0 11 rfl rfl)
theorem dX0_ring_12 : decode cX0_ring 12 = .ok (.iconst (-1), 1) := dk_2 (dk_at dksX0_ring_0 12 rfl rfl)
theorem dX0_ring_13 : decode cX0_ring 13 = .ok (.if_icmp .ge 6, 3) := dk_162 0 6 (dk_at dksX0_ring_0 13 rfl rfl)
theorem dX0_ring_16 : decode cX0_ring 16 = .ok (.bipush (-3), 2) := dk_16 253 (dk_at dksX0_ring_0 16 rfl rfl)
theorem dX0_ring_18 : decode cX0_ring 18 = .ok (.ireturn, 1) := dk_172 (dk_at dksX0_ring_0 18 rfl rfl)
theorem dX0_ring_19 : decode cX0_ring 19 = .ok (.new 220, 3) := dk_187 0 220 (dk_at dksX0_ring_0 19 rfl rfl)
theorem dX0_ring_22 : decode cX0_ring 22 = .ok (.dup, 1) := dk_89 (dk_at dksX0_ring_0 22 rfl rfl)
theorem dX0_ring_23 : decode cX0_ring 23 = .ok (.aload_n 0, 1) := dk_42 (dk_at dksX0_ring_0 23 rfl rfl)
theorem dX0_ring_24 : decode cX0_ring 24 = .ok (.getfield 12, 3) := dk_180 0 12 (dk_at dksX0_ring_1 0 rfl rfl)
theorem dX0_ring_27 : decode cX0_ring 27 = .ok (.invokevirtual 51, 3) := dk_182 0 51 (dk_at dksX0_ring_1 3 rfl rfl)
theorem dX0_ring_30 : decode cX0_ring 30 = .ok (.aload_n 0, 1) := dk_42 (dk_at dksX0_ring_1 6 rfl rfl)
theorem dX0_ring_31 : decode cX0_ring 31 = .ok (.getfield 12, 3) := dk_180 0 12 (dk_at dksX0_ring_1 7 rfl rfl)
theorem dX0_ring_34 : decode cX0_ring 34 = .ok (.iload_n 1, 1) := dk_27 (dk_at dksX0_ring_1 10 rfl rfl)
theorem dX0_ring_35 : decode cX0_ring 35 = .ok (.invokevirtual 71, 3) := dk_182 0 71 (dk_at dksX0_ring_1 11 rfl rfl)
theorem dX0_ring_38 : decode cX0_ring 38 = .ok (.invokespecial 222, 3) := dk_183 0 222 (dk_at dksX0_ring_1 14 rfl rfl)
theorem dX0_ring_41 : decode cX0_ring 41 = .ok (.astore_n 3, 1) := dk_78 (dk_at dksX0_ring_1 17 rfl rfl)
theorem dX0_ring_42 : decode cX0_ring 42 = .ok (.aload_n 3, 1) := dk_45 (dk_at dksX0_ring_1 18 rfl rfl)
theorem dX0_ring_43 : decode cX0_ring 43 = .ok (.invokevirtual 225, 3) := dk_182 0 225 (dk_at dksX0_ring_1 19 rfl rfl)
theorem dX0_ring_46 : decode cX0_ring 46 = .ok (.ifCond .ne 5, 3) := dk_154 0 5 (dk_at dksX0_ring_2 0 rfl rfl)
theorem dX0_ring_49 : decode cX0_ring 49 = .ok (.iconst (-1), 1) := dk_2 (dk_at dksX0_ring_2 3 rfl rfl)
theorem dX0_ring_50 : decode cX0_ring 50 = .ok (.ireturn, 1) := dk_172 (dk_at dksX0_ring_2 4 rfl rfl)
theorem dX0_ring_51 : decode cX0_ring 51 = .ok (.iload_n 2, 1) := dk_28 (dk_at dksX0_ring_2 5 rfl rfl)
theorem dX0_ring_52 : decode cX0_ring 52 = .ok (.iconst (-1), 1) := dk_2 (dk_at dksX0_ring_2 6 rfl rfl)
theorem dX0_ring_53 : decode cX0_ring 53 = .ok (.if_icmp .ne 10, 3) := dk_160 0 10 (dk_at dksX0_ring_2 7 rfl rfl)
theorem dX0_ring_56 : decode cX0_ring 56 = .ok (.aload_n 3, 1) := dk_45 (dk_at dksX0_ring_2 10 rfl rfl)
theorem dX0_ring_57 : decode cX0_ring 57 = .ok (.getfield 232, 3) := dk_180 0 232 (dk_at dksX0_ring_2 11 rfl rfl)
theorem dX0_ring_60 : decode cX0_ring 60 = .ok (.goto 21, 3) := dk_167 0 21 (dk_at dksX0_ring_2 14 rfl rfl)
theorem dX0_ring_63 : decode cX0_ring 63 = .ok (.iload_n 2, 1) := dk_28 (dk_at dksX0_ring_2 17 rfl rfl)
theorem dX0_ring_64 : decode cX0_ring 64 = .ok (.aload_n 3, 1) := dk_45 (dk_at dksX0_ring_2 18 rfl rfl)
theorem dX0_ring_65 : decode cX0_ring 65 = .ok (.getfield 232, 3) := dk_180 0 232 (dk_at dksX0_ring_2 19 rfl rfl)
theorem dX0_ring_68 : decode cX0_ring 68 = .ok (.if_icmp .ge 12, 3) := dk_162 0 12 (dk_at dksX0_ring_3 0 rfl rfl)
theorem dX0_ring_71 : decode cX0_ring 71 = .ok (.aload_n 3, 1) := dk_45 (dk_at dksX0_ring_3 3 rfl rfl)
theorem dX0_ring_72 : decode cX0_ring 72 = .ok (.getfield 234, 3) := dk_180 0 234 (dk_at dksX0_ring_3 4 rfl rfl)
theorem dX0_ring_75 : decode cX0_ring 75 = .ok (.iload_n 2, 1) := dk_28 (dk_at dksX0_ring_3 7 rfl rfl)
theorem dX0_ring_76 : decode cX0_ring 76 = .ok (.iaload, 1) := dk_46 (dk_at dksX0_ring_3 8 rfl rfl)
theorem dX0_ring_77 : decode cX0_ring 77 = .ok (.goto 4, 3) := dk_167 0 4 (dk_at dksX0_ring_3 9 rfl rfl)
theorem dX0_ring_80 : decode cX0_ring 80 = .ok (.iconst (-1), 1) := dk_2 (dk_at dksX0_ring_3 12 rfl rfl)
theorem dX0_ring_81 : decode cX0_ring 81 = .ok (.ireturn, 1) := dk_172 (dk_at dksX0_ring_3 13 rfl rfl)
abbrev cX0_load : ByteArray := prog_1_method_38_code
def yX0_load : MethodName := ⟨RX0, "load", "(I)I"⟩
def dkwX0_load_2 : List UInt8 := [167, 0, 4, 2, 172]
abbrev dktX0_load_2 : List UInt8 := dkwX0_load_2 ++ []
def dkwX0_load_1 : List UInt8 := [180, 0, 12, 27, 182, 0, 71, 183, 0, 222, 77, 44, 182, 0, 225, 153, 0, 10, 44, 182, 0, 229]
abbrev dktX0_load_1 : List UInt8 := dkwX0_load_1 ++ dktX0_load_2
def dkwX0_load_0 : List UInt8 := [42, 27, 182, 0, 165, 154, 0, 6, 16, 254, 172, 187, 0, 220, 89, 42, 180, 0, 12, 182, 0, 51, 42]
abbrev dktX0_load_0 : List UInt8 := dkwX0_load_0 ++ dktX0_load_1
theorem dksX0_load_0 : cX0_load.data.toList.drop 0 = dktX0_load_0 := by decide +kernel
theorem dksX0_load_1 : cX0_load.data.toList.drop 23 = dktX0_load_1 := dk_seg dksX0_load_0 23 rfl rfl
theorem dksX0_load_2 : cX0_load.data.toList.drop 45 = dktX0_load_2 := dk_seg dksX0_load_1 22 rfl rfl
theorem dX0_load_0 : decode cX0_load 0 = .ok (.aload_n 0, 1) := dk_42 (dk_at dksX0_load_0 0 rfl rfl)
theorem dX0_load_1 : decode cX0_load 1 = .ok (.iload_n 1, 1) := dk_27 (dk_at dksX0_load_0 1 rfl rfl)
theorem dX0_load_2 : decode cX0_load 2 = .ok (.invokevirtual 165, 3) := dk_182 0 165 (dk_at dksX0_load_0 2 rfl rfl)
theorem dX0_load_5 : decode cX0_load 5 = .ok (.ifCond .ne 6, 3) := dk_154 0 6 (dk_at dksX0_load_0 5 rfl rfl)
theorem dX0_load_8 : decode cX0_load 8 = .ok (.bipush (-2), 2) := dk_16 254 (dk_at dksX0_load_0 8 rfl rfl)
theorem dX0_load_10 : decode cX0_load 10 = .ok (.ireturn, 1) := dk_172 (dk_at dksX0_load_0 10 rfl rfl)
theorem dX0_load_11 : decode cX0_load 11 = .ok (.new 220, 3) := dk_187 0 220 (dk_at dksX0_load_0 11 rfl rfl)
theorem dX0_load_14 : decode cX0_load 14 = .ok (.dup, 1) := dk_89 (dk_at dksX0_load_0 14 rfl rfl)
theorem dX0_load_15 : decode cX0_load 15 = .ok (.aload_n 0, 1) := dk_42 (dk_at dksX0_load_0 15 rfl rfl)
theorem dX0_load_16 : decode cX0_load 16 = .ok (.getfield 12, 3) := dk_180 0 12 (dk_at dksX0_load_0 16 rfl rfl)
theorem dX0_load_19 : decode cX0_load 19 = .ok (.invokevirtual 51, 3) := dk_182 0 51 (dk_at dksX0_load_0 19 rfl rfl)
theorem dX0_load_22 : decode cX0_load 22 = .ok (.aload_n 0, 1) := dk_42 (dk_at dksX0_load_0 22 rfl rfl)
theorem dX0_load_23 : decode cX0_load 23 = .ok (.getfield 12, 3) := dk_180 0 12 (dk_at dksX0_load_1 0 rfl rfl)
theorem dX0_load_26 : decode cX0_load 26 = .ok (.iload_n 1, 1) := dk_27 (dk_at dksX0_load_1 3 rfl rfl)
theorem dX0_load_27 : decode cX0_load 27 = .ok (.invokevirtual 71, 3) := dk_182 0 71 (dk_at dksX0_load_1 4 rfl rfl)
theorem dX0_load_30 : decode cX0_load 30 = .ok (.invokespecial 222, 3) := dk_183 0 222 (dk_at dksX0_load_1 7 rfl rfl)
theorem dX0_load_33 : decode cX0_load 33 = .ok (.astore_n 2, 1) := dk_77 (dk_at dksX0_load_1 10 rfl rfl)
theorem dX0_load_34 : decode cX0_load 34 = .ok (.aload_n 2, 1) := dk_44 (dk_at dksX0_load_1 11 rfl rfl)
theorem dX0_load_35 : decode cX0_load 35 = .ok (.invokevirtual 225, 3) := dk_182 0 225 (dk_at dksX0_load_1 12 rfl rfl)
theorem dX0_load_38 : decode cX0_load 38 = .ok (.ifCond .eq 10, 3) := dk_153 0 10 (dk_at dksX0_load_1 15 rfl rfl)
theorem dX0_load_41 : decode cX0_load 41 = .ok (.aload_n 2, 1) := dk_44 (dk_at dksX0_load_1 18 rfl rfl)
theorem dX0_load_42 : decode cX0_load 42 = .ok (.invokevirtual 229, 3) := dk_182 0 229 (dk_at dksX0_load_1 19 rfl rfl)
theorem dX0_load_45 : decode cX0_load 45 = .ok (.goto 4, 3) := dk_167 0 4 (dk_at dksX0_load_2 0 rfl rfl)
theorem dX0_load_48 : decode cX0_load 48 = .ok (.iconst (-1), 1) := dk_2 (dk_at dksX0_load_2 3 rfl rfl)
theorem dX0_load_49 : decode cX0_load 49 = .ok (.ireturn, 1) := dk_172 (dk_at dksX0_load_2 4 rfl rfl)
abbrev cX0_cleared : ByteArray := prog_1_method_39_code
def yX0_cleared : MethodName := ⟨RX0, "cleared", "(II)I"⟩
def dkwX0_cleared_4 : List UInt8 := [167, 0, 7, 45, 184, 0, 247, 172]
abbrev dktX0_cleared_4 : List UInt8 := dkwX0_cleared_4 ++ []
def dkwX0_cleared_3 : List UInt8 := [54, 5, 132, 6, 1, 167, 255, 235, 28, 154, 0, 8, 21, 5, 167, 0, 17, 28, 4, 160, 0, 8, 21, 6]
abbrev dktX0_cleared_3 : List UInt8 := dkwX0_cleared_3 ++ dktX0_cleared_4
def dkwX0_cleared_2 : List UInt8 := [58, 4, 3, 54, 5, 3, 54, 6, 25, 4, 182, 0, 225, 153, 0, 19, 21, 5, 25, 4, 182, 1, 39, 96]
abbrev dktX0_cleared_2 : List UInt8 := dkwX0_cleared_2 ++ dktX0_cleared_3
def dkwX0_cleared_1 : List UInt8 := [180, 0, 12, 27, 182, 0, 71, 78, 187, 0, 220, 89, 42, 180, 0, 12, 182, 0, 51, 45, 183, 0, 222]
abbrev dktX0_cleared_1 : List UInt8 := dkwX0_cleared_1 ++ dktX0_cleared_2
def dkwX0_cleared_0 : List UInt8 := [42, 27, 182, 0, 165, 153, 0, 15, 28, 133, 9, 20, 1, 17, 184, 0, 112, 154, 0, 6, 16, 254, 172, 42]
abbrev dktX0_cleared_0 : List UInt8 := dkwX0_cleared_0 ++ dktX0_cleared_1
theorem dksX0_cleared_0 : cX0_cleared.data.toList.drop 0 = dktX0_cleared_0 := by decide +kernel
theorem dksX0_cleared_1 : cX0_cleared.data.toList.drop 24 = dktX0_cleared_1 := dk_seg dksX0_cleared_0 24 rfl rfl
theorem dksX0_cleared_2 : cX0_cleared.data.toList.drop 47 = dktX0_cleared_2 := dk_seg dksX0_cleared_1 23 rfl rfl
theorem dksX0_cleared_3 : cX0_cleared.data.toList.drop 71 = dktX0_cleared_3 := dk_seg dksX0_cleared_2 24 rfl rfl
theorem dksX0_cleared_4 : cX0_cleared.data.toList.drop 95 = dktX0_cleared_4 := dk_seg dksX0_cleared_3 24 rfl rfl
theorem dX0_cleared_0 : decode cX0_cleared 0 = .ok (.aload_n 0, 1) := dk_42 (dk_at dksX0_cleared_0 0 rfl rfl)
theorem dX0_cleared_1 : decode cX0_cleared 1 = .ok (.iload_n 1, 1) := dk_27 (dk_at dksX0_cleared_0 1 rfl rfl)
theorem dX0_cleared_2 : decode cX0_cleared 2 = .ok (.invokevirtual 165, 3) := dk_182 0 165 (dk_at dksX0_cleared_0 2 rfl rfl)
theorem dX0_cleared_5 : decode cX0_cleared 5 = .ok (.ifCond .eq 15, 3) := dk_153 0 15 (dk_at dksX0_cleared_0 5 rfl rfl)
theorem dX0_cleared_8 : decode cX0_cleared 8 = .ok (.iload_n 2, 1) := dk_28 (dk_at dksX0_cleared_0 8 rfl rfl)
theorem dX0_cleared_9 : decode cX0_cleared 9 = .ok (.i2l, 1) := dk_133 (dk_at dksX0_cleared_0 9 rfl rfl)
theorem dX0_cleared_10 : decode cX0_cleared 10 = .ok (.lconst 0, 1) := dk_9 (dk_at dksX0_cleared_0 10 rfl rfl)
theorem dX0_cleared_11 : decode cX0_cleared 11 = .ok (.ldc2_w 273, 3) := dk_20 1 17 (dk_at dksX0_cleared_0 11 rfl rfl)
theorem dX0_cleared_14 : decode cX0_cleared 14 = .ok (.invokestatic 112, 3) := dk_184 0 112 (dk_at dksX0_cleared_0 14 rfl rfl)
theorem dX0_cleared_17 : decode cX0_cleared 17 = .ok (.ifCond .ne 6, 3) := dk_154 0 6 (dk_at dksX0_cleared_0 17 rfl rfl)
theorem dX0_cleared_20 : decode cX0_cleared 20 = .ok (.bipush (-2), 2) := dk_16 254 (dk_at dksX0_cleared_0 20 rfl rfl)
theorem dX0_cleared_22 : decode cX0_cleared 22 = .ok (.ireturn, 1) := dk_172 (dk_at dksX0_cleared_0 22 rfl rfl)
theorem dX0_cleared_23 : decode cX0_cleared 23 = .ok (.aload_n 0, 1) := dk_42 (dk_at dksX0_cleared_0 23 rfl rfl)
theorem dX0_cleared_24 : decode cX0_cleared 24 = .ok (.getfield 12, 3) := dk_180 0 12 (dk_at dksX0_cleared_1 0 rfl rfl)
theorem dX0_cleared_27 : decode cX0_cleared 27 = .ok (.iload_n 1, 1) := dk_27 (dk_at dksX0_cleared_1 3 rfl rfl)
theorem dX0_cleared_28 : decode cX0_cleared 28 = .ok (.invokevirtual 71, 3) := dk_182 0 71 (dk_at dksX0_cleared_1 4 rfl rfl)
theorem dX0_cleared_31 : decode cX0_cleared 31 = .ok (.astore_n 3, 1) := dk_78 (dk_at dksX0_cleared_1 7 rfl rfl)
theorem dX0_cleared_32 : decode cX0_cleared 32 = .ok (.new 220, 3) := dk_187 0 220 (dk_at dksX0_cleared_1 8 rfl rfl)
theorem dX0_cleared_35 : decode cX0_cleared 35 = .ok (.dup, 1) := dk_89 (dk_at dksX0_cleared_1 11 rfl rfl)
theorem dX0_cleared_36 : decode cX0_cleared 36 = .ok (.aload_n 0, 1) := dk_42 (dk_at dksX0_cleared_1 12 rfl rfl)
theorem dX0_cleared_37 : decode cX0_cleared 37 = .ok (.getfield 12, 3) := dk_180 0 12 (dk_at dksX0_cleared_1 13 rfl rfl)
theorem dX0_cleared_40 : decode cX0_cleared 40 = .ok (.invokevirtual 51, 3) := dk_182 0 51 (dk_at dksX0_cleared_1 16 rfl rfl)
theorem dX0_cleared_43 : decode cX0_cleared 43 = .ok (.aload_n 3, 1) := dk_45 (dk_at dksX0_cleared_1 19 rfl rfl)
theorem dX0_cleared_44 : decode cX0_cleared 44 = .ok (.invokespecial 222, 3) := dk_183 0 222 (dk_at dksX0_cleared_1 20 rfl rfl)
theorem dX0_cleared_47 : decode cX0_cleared 47 = .ok (.astore 4, 2) := dk_58 4 (dk_at dksX0_cleared_2 0 rfl rfl)
theorem dX0_cleared_49 : decode cX0_cleared 49 = .ok (.iconst 0, 1) := dk_3 (dk_at dksX0_cleared_2 2 rfl rfl)
theorem dX0_cleared_50 : decode cX0_cleared 50 = .ok (.istore 5, 2) := dk_54 5 (dk_at dksX0_cleared_2 3 rfl rfl)
theorem dX0_cleared_52 : decode cX0_cleared 52 = .ok (.iconst 0, 1) := dk_3 (dk_at dksX0_cleared_2 5 rfl rfl)
theorem dX0_cleared_53 : decode cX0_cleared 53 = .ok (.istore 6, 2) := dk_54 6 (dk_at dksX0_cleared_2 6 rfl rfl)
theorem dX0_cleared_55 : decode cX0_cleared 55 = .ok (.aload 4, 2) := dk_25 4 (dk_at dksX0_cleared_2 8 rfl rfl)
theorem dX0_cleared_57 : decode cX0_cleared 57 = .ok (.invokevirtual 225, 3) := dk_182 0 225 (dk_at dksX0_cleared_2 10 rfl rfl)
theorem dX0_cleared_60 : decode cX0_cleared 60 = .ok (.ifCond .eq 19, 3) := dk_153 0 19 (dk_at dksX0_cleared_2 13 rfl rfl)
theorem dX0_cleared_63 : decode cX0_cleared 63 = .ok (.iload 5, 2) := dk_21 5 (dk_at dksX0_cleared_2 16 rfl rfl)
theorem dX0_cleared_65 : decode cX0_cleared 65 = .ok (.aload 4, 2) := dk_25 4 (dk_at dksX0_cleared_2 18 rfl rfl)
theorem dX0_cleared_67 : decode cX0_cleared 67 = .ok (.invokevirtual 295, 3) := dk_182 1 39 (dk_at dksX0_cleared_2 20 rfl rfl)
theorem dX0_cleared_70 : decode cX0_cleared 70 = .ok (.iadd, 1) := dk_96 (dk_at dksX0_cleared_2 23 rfl rfl)
theorem dX0_cleared_71 : decode cX0_cleared 71 = .ok (.istore 5, 2) := dk_54 5 (dk_at dksX0_cleared_3 0 rfl rfl)
theorem dX0_cleared_73 : decode cX0_cleared 73 = .ok (.iinc 6 1, 3) := dk_132 6 1 (dk_at dksX0_cleared_3 2 rfl rfl)
theorem dX0_cleared_76 : decode cX0_cleared 76 = .ok (.goto (-21), 3) := dk_167 255 235 (dk_at dksX0_cleared_3 5 rfl rfl)
theorem dX0_cleared_79 : decode cX0_cleared 79 = .ok (.iload_n 2, 1) := dk_28 (dk_at dksX0_cleared_3 8 rfl rfl)
theorem dX0_cleared_80 : decode cX0_cleared 80 = .ok (.ifCond .ne 8, 3) := dk_154 0 8 (dk_at dksX0_cleared_3 9 rfl rfl)
theorem dX0_cleared_83 : decode cX0_cleared 83 = .ok (.iload 5, 2) := dk_21 5 (dk_at dksX0_cleared_3 12 rfl rfl)
theorem dX0_cleared_85 : decode cX0_cleared 85 = .ok (.goto 17, 3) := dk_167 0 17 (dk_at dksX0_cleared_3 14 rfl rfl)
theorem dX0_cleared_88 : decode cX0_cleared 88 = .ok (.iload_n 2, 1) := dk_28 (dk_at dksX0_cleared_3 17 rfl rfl)
theorem dX0_cleared_89 : decode cX0_cleared 89 = .ok (.iconst 1, 1) := dk_4 (dk_at dksX0_cleared_3 18 rfl rfl)
theorem dX0_cleared_90 : decode cX0_cleared 90 = .ok (.if_icmp .ne 8, 3) := dk_160 0 8 (dk_at dksX0_cleared_3 19 rfl rfl)
theorem dX0_cleared_93 : decode cX0_cleared 93 = .ok (.iload 6, 2) := dk_21 6 (dk_at dksX0_cleared_3 22 rfl rfl)
theorem dX0_cleared_95 : decode cX0_cleared 95 = .ok (.goto 7, 3) := dk_167 0 7 (dk_at dksX0_cleared_4 0 rfl rfl)
theorem dX0_cleared_98 : decode cX0_cleared 98 = .ok (.aload_n 3, 1) := dk_45 (dk_at dksX0_cleared_4 3 rfl rfl)
theorem dX0_cleared_99 : decode cX0_cleared 99 = .ok (.invokestatic 247, 3) := dk_184 0 247 (dk_at dksX0_cleared_4 4 rfl rfl)
theorem dX0_cleared_102 : decode cX0_cleared 102 = .ok (.ireturn, 1) := dk_172 (dk_at dksX0_cleared_4 7 rfl rfl)
abbrev cX0_rounds : ByteArray := prog_1_method_41_code
def yX0_rounds : MethodName := ⟨RX0, "rounds", "(II)I"⟩
def dkwX0_rounds_1 : List UInt8 := [27, 28, 182, 1, 44, 184, 1, 26, 167, 0, 5, 16, 253, 172]
abbrev dktX0_rounds_1 : List UInt8 := dkwX0_rounds_1 ++ []
def dkwX0_rounds_0 : List UInt8 := [42, 27, 182, 0, 165, 154, 0, 6, 16, 254, 172, 28, 133, 9, 20, 1, 42, 184, 0, 112, 153, 0, 15, 42]
abbrev dktX0_rounds_0 : List UInt8 := dkwX0_rounds_0 ++ dktX0_rounds_1
theorem dksX0_rounds_0 : cX0_rounds.data.toList.drop 0 = dktX0_rounds_0 := by decide +kernel
theorem dksX0_rounds_1 : cX0_rounds.data.toList.drop 24 = dktX0_rounds_1 := dk_seg dksX0_rounds_0 24 rfl rfl
theorem dX0_rounds_0 : decode cX0_rounds 0 = .ok (.aload_n 0, 1) := dk_42 (dk_at dksX0_rounds_0 0 rfl rfl)
theorem dX0_rounds_1 : decode cX0_rounds 1 = .ok (.iload_n 1, 1) := dk_27 (dk_at dksX0_rounds_0 1 rfl rfl)
theorem dX0_rounds_2 : decode cX0_rounds 2 = .ok (.invokevirtual 165, 3) := dk_182 0 165 (dk_at dksX0_rounds_0 2 rfl rfl)
theorem dX0_rounds_5 : decode cX0_rounds 5 = .ok (.ifCond .ne 6, 3) := dk_154 0 6 (dk_at dksX0_rounds_0 5 rfl rfl)
theorem dX0_rounds_8 : decode cX0_rounds 8 = .ok (.bipush (-2), 2) := dk_16 254 (dk_at dksX0_rounds_0 8 rfl rfl)
theorem dX0_rounds_10 : decode cX0_rounds 10 = .ok (.ireturn, 1) := dk_172 (dk_at dksX0_rounds_0 10 rfl rfl)
theorem dX0_rounds_11 : decode cX0_rounds 11 = .ok (.iload_n 2, 1) := dk_28 (dk_at dksX0_rounds_0 11 rfl rfl)
theorem dX0_rounds_12 : decode cX0_rounds 12 = .ok (.i2l, 1) := dk_133 (dk_at dksX0_rounds_0 12 rfl rfl)
theorem dX0_rounds_13 : decode cX0_rounds 13 = .ok (.lconst 0, 1) := dk_9 (dk_at dksX0_rounds_0 13 rfl rfl)
theorem dX0_rounds_14 : decode cX0_rounds 14 = .ok (.ldc2_w 298, 3) := dk_20 1 42 (dk_at dksX0_rounds_0 14 rfl rfl)
theorem dX0_rounds_17 : decode cX0_rounds 17 = .ok (.invokestatic 112, 3) := dk_184 0 112 (dk_at dksX0_rounds_0 17 rfl rfl)
theorem dX0_rounds_20 : decode cX0_rounds 20 = .ok (.ifCond .eq 15, 3) := dk_153 0 15 (dk_at dksX0_rounds_0 20 rfl rfl)
theorem dX0_rounds_23 : decode cX0_rounds 23 = .ok (.aload_n 0, 1) := dk_42 (dk_at dksX0_rounds_0 23 rfl rfl)
theorem dX0_rounds_24 : decode cX0_rounds 24 = .ok (.iload_n 1, 1) := dk_27 (dk_at dksX0_rounds_1 0 rfl rfl)
theorem dX0_rounds_25 : decode cX0_rounds 25 = .ok (.iload_n 2, 1) := dk_28 (dk_at dksX0_rounds_1 1 rfl rfl)
theorem dX0_rounds_26 : decode cX0_rounds 26 = .ok (.invokevirtual 300, 3) := dk_182 1 44 (dk_at dksX0_rounds_1 2 rfl rfl)
theorem dX0_rounds_29 : decode cX0_rounds 29 = .ok (.invokestatic 282, 3) := dk_184 1 26 (dk_at dksX0_rounds_1 5 rfl rfl)
theorem dX0_rounds_32 : decode cX0_rounds 32 = .ok (.goto 5, 3) := dk_167 0 5 (dk_at dksX0_rounds_1 8 rfl rfl)
theorem dX0_rounds_35 : decode cX0_rounds 35 = .ok (.bipush (-3), 2) := dk_16 253 (dk_at dksX0_rounds_1 11 rfl rfl)
theorem dX0_rounds_37 : decode cX0_rounds 37 = .ok (.ireturn, 1) := dk_172 (dk_at dksX0_rounds_1 13 rfl rfl)
abbrev cX0_taken : ByteArray := prog_1_method_40_code
def yX0_taken : MethodName := ⟨RX0, "taken", "(II)[I"⟩
def dkwX0_taken_2 : List UInt8 := [87, 132, 5, 1, 167, 255, 233, 45, 176]
abbrev dktX0_taken_2 : List UInt8 := dkwX0_taken_2 ++ []
def dkwX0_taken_1 : List UInt8 := [58, 4, 3, 54, 5, 21, 5, 28, 162, 0, 23, 25, 4, 182, 0, 225, 153, 0, 15, 25, 4, 182, 1, 39]
abbrev dktX0_taken_1 : List UInt8 := dkwX0_taken_1 ++ dktX0_taken_2
def dkwX0_taken_0 : List UInt8 := [42, 180, 0, 12, 27, 182, 0, 71, 78, 187, 0, 220, 89, 42, 180, 0, 12, 182, 0, 51, 45, 183, 0, 222]
abbrev dktX0_taken_0 : List UInt8 := dkwX0_taken_0 ++ dktX0_taken_1
theorem dksX0_taken_0 : cX0_taken.data.toList.drop 0 = dktX0_taken_0 := by decide +kernel
theorem dksX0_taken_1 : cX0_taken.data.toList.drop 24 = dktX0_taken_1 := dk_seg dksX0_taken_0 24 rfl rfl
theorem dksX0_taken_2 : cX0_taken.data.toList.drop 48 = dktX0_taken_2 := dk_seg dksX0_taken_1 24 rfl rfl
theorem dX0_taken_0 : decode cX0_taken 0 = .ok (.aload_n 0, 1) := dk_42 (dk_at dksX0_taken_0 0 rfl rfl)
theorem dX0_taken_1 : decode cX0_taken 1 = .ok (.getfield 12, 3) := dk_180 0 12 (dk_at dksX0_taken_0 1 rfl rfl)
theorem dX0_taken_4 : decode cX0_taken 4 = .ok (.iload_n 1, 1) := dk_27 (dk_at dksX0_taken_0 4 rfl rfl)
theorem dX0_taken_5 : decode cX0_taken 5 = .ok (.invokevirtual 71, 3) := dk_182 0 71 (dk_at dksX0_taken_0 5 rfl rfl)
theorem dX0_taken_8 : decode cX0_taken 8 = .ok (.astore_n 3, 1) := dk_78 (dk_at dksX0_taken_0 8 rfl rfl)
theorem dX0_taken_9 : decode cX0_taken 9 = .ok (.new 220, 3) := dk_187 0 220 (dk_at dksX0_taken_0 9 rfl rfl)
theorem dX0_taken_12 : decode cX0_taken 12 = .ok (.dup, 1) := dk_89 (dk_at dksX0_taken_0 12 rfl rfl)
theorem dX0_taken_13 : decode cX0_taken 13 = .ok (.aload_n 0, 1) := dk_42 (dk_at dksX0_taken_0 13 rfl rfl)
theorem dX0_taken_14 : decode cX0_taken 14 = .ok (.getfield 12, 3) := dk_180 0 12 (dk_at dksX0_taken_0 14 rfl rfl)
theorem dX0_taken_17 : decode cX0_taken 17 = .ok (.invokevirtual 51, 3) := dk_182 0 51 (dk_at dksX0_taken_0 17 rfl rfl)
theorem dX0_taken_20 : decode cX0_taken 20 = .ok (.aload_n 3, 1) := dk_45 (dk_at dksX0_taken_0 20 rfl rfl)
theorem dX0_taken_21 : decode cX0_taken 21 = .ok (.invokespecial 222, 3) := dk_183 0 222 (dk_at dksX0_taken_0 21 rfl rfl)
theorem dX0_taken_24 : decode cX0_taken 24 = .ok (.astore 4, 2) := dk_58 4 (dk_at dksX0_taken_1 0 rfl rfl)
theorem dX0_taken_26 : decode cX0_taken 26 = .ok (.iconst 0, 1) := dk_3 (dk_at dksX0_taken_1 2 rfl rfl)
theorem dX0_taken_27 : decode cX0_taken 27 = .ok (.istore 5, 2) := dk_54 5 (dk_at dksX0_taken_1 3 rfl rfl)
theorem dX0_taken_29 : decode cX0_taken 29 = .ok (.iload 5, 2) := dk_21 5 (dk_at dksX0_taken_1 5 rfl rfl)
theorem dX0_taken_31 : decode cX0_taken 31 = .ok (.iload_n 2, 1) := dk_28 (dk_at dksX0_taken_1 7 rfl rfl)
theorem dX0_taken_32 : decode cX0_taken 32 = .ok (.if_icmp .ge 23, 3) := dk_162 0 23 (dk_at dksX0_taken_1 8 rfl rfl)
theorem dX0_taken_35 : decode cX0_taken 35 = .ok (.aload 4, 2) := dk_25 4 (dk_at dksX0_taken_1 11 rfl rfl)
theorem dX0_taken_37 : decode cX0_taken 37 = .ok (.invokevirtual 225, 3) := dk_182 0 225 (dk_at dksX0_taken_1 13 rfl rfl)
theorem dX0_taken_40 : decode cX0_taken 40 = .ok (.ifCond .eq 15, 3) := dk_153 0 15 (dk_at dksX0_taken_1 16 rfl rfl)
theorem dX0_taken_43 : decode cX0_taken 43 = .ok (.aload 4, 2) := dk_25 4 (dk_at dksX0_taken_1 19 rfl rfl)
theorem dX0_taken_45 : decode cX0_taken 45 = .ok (.invokevirtual 295, 3) := dk_182 1 39 (dk_at dksX0_taken_1 21 rfl rfl)
theorem dX0_taken_48 : decode cX0_taken 48 = .ok (.pop, 1) := dk_87 (dk_at dksX0_taken_2 0 rfl rfl)
theorem dX0_taken_49 : decode cX0_taken 49 = .ok (.iinc 5 1, 3) := dk_132 5 1 (dk_at dksX0_taken_2 1 rfl rfl)
theorem dX0_taken_52 : decode cX0_taken 52 = .ok (.goto (-23), 3) := dk_167 255 233 (dk_at dksX0_taken_2 4 rfl rfl)
theorem dX0_taken_55 : decode cX0_taken 55 = .ok (.aload_n 3, 1) := dk_45 (dk_at dksX0_taken_2 7 rfl rfl)
theorem dX0_taken_56 : decode cX0_taken 56 = .ok (.areturn, 1) := dk_176 (dk_at dksX0_taken_2 8 rfl rfl)
abbrev cX0_chain : ByteArray := prog_1_method_43_code
def yX0_chain : MethodName := ⟨RX0, "chain", "(II)I"⟩
def dkwX0_chain_7 : List UInt8 := [167, 255, 236, 21, 5, 172]
abbrev dktX0_chain_7 : List UInt8 := dkwX0_chain_7 ++ []
def dkwX0_chain_6 : List UInt8 := [54, 7, 21, 7, 28, 162, 0, 20, 42, 45, 21, 5, 25, 4, 182, 1, 53, 54, 5, 132, 7, 1]
abbrev dktX0_chain_6 : List UInt8 := dkwX0_chain_6 ++ dktX0_chain_7
def dkwX0_chain_5 : List UInt8 := [25, 4, 182, 1, 48, 54, 6, 28, 2, 160, 0, 6, 21, 6, 172, 28, 21, 6, 161, 0, 5, 2, 172, 3]
abbrev dktX0_chain_5 : List UInt8 := dkwX0_chain_5 ++ dktX0_chain_6
def dkwX0_chain_4 : List UInt8 := [159, 0, 16, 42, 45, 21, 5, 25, 4, 182, 1, 48, 4, 160, 0, 7, 3, 167, 0, 12, 42, 45, 21, 5]
abbrev dktX0_chain_4 : List UInt8 := dkwX0_chain_4 ++ dktX0_chain_5
def dkwX0_chain_3 : List UInt8 := [21, 5, 25, 4, 182, 1, 48, 164, 0, 7, 21, 6, 54, 5, 132, 6, 1, 167, 255, 210, 21, 5, 2]
abbrev dktX0_chain_3 : List UInt8 := dkwX0_chain_3 ++ dktX0_chain_4
def dkwX0_chain_2 : List UInt8 := [182, 0, 51, 162, 0, 40, 21, 5, 2, 159, 0, 24, 42, 45, 21, 6, 25, 4, 182, 1, 48, 42, 45]
abbrev dktX0_chain_2 : List UInt8 := dkwX0_chain_2 ++ dktX0_chain_3
def dkwX0_chain_1 : List UInt8 := [182, 1, 44, 78, 16, 8, 188, 10, 58, 4, 2, 54, 5, 3, 54, 6, 21, 6, 42, 180, 0, 12]
abbrev dktX0_chain_1 : List UInt8 := dkwX0_chain_1 ++ dktX0_chain_2
def dkwX0_chain_0 : List UInt8 := [42, 27, 182, 0, 165, 154, 0, 6, 16, 254, 172, 28, 2, 162, 0, 6, 16, 253, 172, 42, 27, 19, 1, 52]
abbrev dktX0_chain_0 : List UInt8 := dkwX0_chain_0 ++ dktX0_chain_1
theorem dksX0_chain_0 : cX0_chain.data.toList.drop 0 = dktX0_chain_0 := by decide +kernel
theorem dksX0_chain_1 : cX0_chain.data.toList.drop 24 = dktX0_chain_1 := dk_seg dksX0_chain_0 24 rfl rfl
theorem dksX0_chain_2 : cX0_chain.data.toList.drop 46 = dktX0_chain_2 := dk_seg dksX0_chain_1 22 rfl rfl
theorem dksX0_chain_3 : cX0_chain.data.toList.drop 69 = dktX0_chain_3 := dk_seg dksX0_chain_2 23 rfl rfl
theorem dksX0_chain_4 : cX0_chain.data.toList.drop 92 = dktX0_chain_4 := dk_seg dksX0_chain_3 23 rfl rfl
theorem dksX0_chain_5 : cX0_chain.data.toList.drop 116 = dktX0_chain_5 := dk_seg dksX0_chain_4 24 rfl rfl
theorem dksX0_chain_6 : cX0_chain.data.toList.drop 140 = dktX0_chain_6 := dk_seg dksX0_chain_5 24 rfl rfl
theorem dksX0_chain_7 : cX0_chain.data.toList.drop 162 = dktX0_chain_7 := dk_seg dksX0_chain_6 22 rfl rfl
theorem dX0_chain_0 : decode cX0_chain 0 = .ok (.aload_n 0, 1) := dk_42 (dk_at dksX0_chain_0 0 rfl rfl)
theorem dX0_chain_1 : decode cX0_chain 1 = .ok (.iload_n 1, 1) := dk_27 (dk_at dksX0_chain_0 1 rfl rfl)
theorem dX0_chain_2 : decode cX0_chain 2 = .ok (.invokevirtual 165, 3) := dk_182 0 165 (dk_at dksX0_chain_0 2 rfl rfl)
theorem dX0_chain_5 : decode cX0_chain 5 = .ok (.ifCond .ne 6, 3) := dk_154 0 6 (dk_at dksX0_chain_0 5 rfl rfl)
theorem dX0_chain_8 : decode cX0_chain 8 = .ok (.bipush (-2), 2) := dk_16 254 (dk_at dksX0_chain_0 8 rfl rfl)
theorem dX0_chain_10 : decode cX0_chain 10 = .ok (.ireturn, 1) := dk_172 (dk_at dksX0_chain_0 10 rfl rfl)
theorem dX0_chain_11 : decode cX0_chain 11 = .ok (.iload_n 2, 1) := dk_28 (dk_at dksX0_chain_0 11 rfl rfl)
theorem dX0_chain_12 : decode cX0_chain 12 = .ok (.iconst (-1), 1) := dk_2 (dk_at dksX0_chain_0 12 rfl rfl)
theorem dX0_chain_13 : decode cX0_chain 13 = .ok (.if_icmp .ge 6, 3) := dk_162 0 6 (dk_at dksX0_chain_0 13 rfl rfl)
theorem dX0_chain_16 : decode cX0_chain 16 = .ok (.bipush (-3), 2) := dk_16 253 (dk_at dksX0_chain_0 16 rfl rfl)
theorem dX0_chain_18 : decode cX0_chain 18 = .ok (.ireturn, 1) := dk_172 (dk_at dksX0_chain_0 18 rfl rfl)
theorem dX0_chain_19 : decode cX0_chain 19 = .ok (.aload_n 0, 1) := dk_42 (dk_at dksX0_chain_0 19 rfl rfl)
theorem dX0_chain_20 : decode cX0_chain 20 = .ok (.iload_n 1, 1) := dk_27 (dk_at dksX0_chain_0 20 rfl rfl)
theorem dX0_chain_21 : decode cX0_chain 21 = .ok (.ldc_w 308, 3) := dk_19 1 52 (dk_at dksX0_chain_0 21 rfl rfl)
theorem dX0_chain_24 : decode cX0_chain 24 = .ok (.invokevirtual 300, 3) := dk_182 1 44 (dk_at dksX0_chain_1 0 rfl rfl)
theorem dX0_chain_27 : decode cX0_chain 27 = .ok (.astore_n 3, 1) := dk_78 (dk_at dksX0_chain_1 3 rfl rfl)
theorem dX0_chain_28 : decode cX0_chain 28 = .ok (.bipush 8, 2) := dk_16 8 (dk_at dksX0_chain_1 4 rfl rfl)
theorem dX0_chain_30 : decode cX0_chain 30 = .ok (.newarray .int, 2) := dk_188_10 (dk_at dksX0_chain_1 6 rfl rfl)
theorem dX0_chain_32 : decode cX0_chain 32 = .ok (.astore 4, 2) := dk_58 4 (dk_at dksX0_chain_1 8 rfl rfl)
theorem dX0_chain_34 : decode cX0_chain 34 = .ok (.iconst (-1), 1) := dk_2 (dk_at dksX0_chain_1 10 rfl rfl)
theorem dX0_chain_35 : decode cX0_chain 35 = .ok (.istore 5, 2) := dk_54 5 (dk_at dksX0_chain_1 11 rfl rfl)
theorem dX0_chain_37 : decode cX0_chain 37 = .ok (.iconst 0, 1) := dk_3 (dk_at dksX0_chain_1 13 rfl rfl)
theorem dX0_chain_38 : decode cX0_chain 38 = .ok (.istore 6, 2) := dk_54 6 (dk_at dksX0_chain_1 14 rfl rfl)
theorem dX0_chain_40 : decode cX0_chain 40 = .ok (.iload 6, 2) := dk_21 6 (dk_at dksX0_chain_1 16 rfl rfl)
theorem dX0_chain_42 : decode cX0_chain 42 = .ok (.aload_n 0, 1) := dk_42 (dk_at dksX0_chain_1 18 rfl rfl)
theorem dX0_chain_43 : decode cX0_chain 43 = .ok (.getfield 12, 3) := dk_180 0 12 (dk_at dksX0_chain_1 19 rfl rfl)
theorem dX0_chain_46 : decode cX0_chain 46 = .ok (.invokevirtual 51, 3) := dk_182 0 51 (dk_at dksX0_chain_2 0 rfl rfl)
theorem dX0_chain_49 : decode cX0_chain 49 = .ok (.if_icmp .ge 40, 3) := dk_162 0 40 (dk_at dksX0_chain_2 3 rfl rfl)
theorem dX0_chain_52 : decode cX0_chain 52 = .ok (.iload 5, 2) := dk_21 5 (dk_at dksX0_chain_2 6 rfl rfl)
theorem dX0_chain_54 : decode cX0_chain 54 = .ok (.iconst (-1), 1) := dk_2 (dk_at dksX0_chain_2 8 rfl rfl)
theorem dX0_chain_55 : decode cX0_chain 55 = .ok (.if_icmp .eq 24, 3) := dk_159 0 24 (dk_at dksX0_chain_2 9 rfl rfl)
theorem dX0_chain_58 : decode cX0_chain 58 = .ok (.aload_n 0, 1) := dk_42 (dk_at dksX0_chain_2 12 rfl rfl)
theorem dX0_chain_59 : decode cX0_chain 59 = .ok (.aload_n 3, 1) := dk_45 (dk_at dksX0_chain_2 13 rfl rfl)
theorem dX0_chain_60 : decode cX0_chain 60 = .ok (.iload 6, 2) := dk_21 6 (dk_at dksX0_chain_2 14 rfl rfl)
theorem dX0_chain_62 : decode cX0_chain 62 = .ok (.aload 4, 2) := dk_25 4 (dk_at dksX0_chain_2 16 rfl rfl)
theorem dX0_chain_64 : decode cX0_chain 64 = .ok (.invokevirtual 304, 3) := dk_182 1 48 (dk_at dksX0_chain_2 18 rfl rfl)
theorem dX0_chain_67 : decode cX0_chain 67 = .ok (.aload_n 0, 1) := dk_42 (dk_at dksX0_chain_2 21 rfl rfl)
theorem dX0_chain_68 : decode cX0_chain 68 = .ok (.aload_n 3, 1) := dk_45 (dk_at dksX0_chain_2 22 rfl rfl)
theorem dX0_chain_69 : decode cX0_chain 69 = .ok (.iload 5, 2) := dk_21 5 (dk_at dksX0_chain_3 0 rfl rfl)
theorem dX0_chain_71 : decode cX0_chain 71 = .ok (.aload 4, 2) := dk_25 4 (dk_at dksX0_chain_3 2 rfl rfl)
theorem dX0_chain_73 : decode cX0_chain 73 = .ok (.invokevirtual 304, 3) := dk_182 1 48 (dk_at dksX0_chain_3 4 rfl rfl)
theorem dX0_chain_76 : decode cX0_chain 76 = .ok (.if_icmp .le 7, 3) := dk_164 0 7 (dk_at dksX0_chain_3 7 rfl rfl)
theorem dX0_chain_79 : decode cX0_chain 79 = .ok (.iload 6, 2) := dk_21 6 (dk_at dksX0_chain_3 10 rfl rfl)
theorem dX0_chain_81 : decode cX0_chain 81 = .ok (.istore 5, 2) := dk_54 5 (dk_at dksX0_chain_3 12 rfl rfl)
theorem dX0_chain_83 : decode cX0_chain 83 = .ok (.iinc 6 1, 3) := dk_132 6 1 (dk_at dksX0_chain_3 14 rfl rfl)
theorem dX0_chain_86 : decode cX0_chain 86 = .ok (.goto (-46), 3) := dk_167 255 210 (dk_at dksX0_chain_3 17 rfl rfl)
theorem dX0_chain_89 : decode cX0_chain 89 = .ok (.iload 5, 2) := dk_21 5 (dk_at dksX0_chain_3 20 rfl rfl)
theorem dX0_chain_91 : decode cX0_chain 91 = .ok (.iconst (-1), 1) := dk_2 (dk_at dksX0_chain_3 22 rfl rfl)
theorem dX0_chain_92 : decode cX0_chain 92 = .ok (.if_icmp .eq 16, 3) := dk_159 0 16 (dk_at dksX0_chain_4 0 rfl rfl)
theorem dX0_chain_95 : decode cX0_chain 95 = .ok (.aload_n 0, 1) := dk_42 (dk_at dksX0_chain_4 3 rfl rfl)
theorem dX0_chain_96 : decode cX0_chain 96 = .ok (.aload_n 3, 1) := dk_45 (dk_at dksX0_chain_4 4 rfl rfl)
theorem dX0_chain_97 : decode cX0_chain 97 = .ok (.iload 5, 2) := dk_21 5 (dk_at dksX0_chain_4 5 rfl rfl)
theorem dX0_chain_99 : decode cX0_chain 99 = .ok (.aload 4, 2) := dk_25 4 (dk_at dksX0_chain_4 7 rfl rfl)
theorem dX0_chain_101 : decode cX0_chain 101 = .ok (.invokevirtual 304, 3) := dk_182 1 48 (dk_at dksX0_chain_4 9 rfl rfl)
theorem dX0_chain_104 : decode cX0_chain 104 = .ok (.iconst 1, 1) := dk_4 (dk_at dksX0_chain_4 12 rfl rfl)
theorem dX0_chain_105 : decode cX0_chain 105 = .ok (.if_icmp .ne 7, 3) := dk_160 0 7 (dk_at dksX0_chain_4 13 rfl rfl)
theorem dX0_chain_108 : decode cX0_chain 108 = .ok (.iconst 0, 1) := dk_3 (dk_at dksX0_chain_4 16 rfl rfl)
theorem dX0_chain_109 : decode cX0_chain 109 = .ok (.goto 12, 3) := dk_167 0 12 (dk_at dksX0_chain_4 17 rfl rfl)
theorem dX0_chain_112 : decode cX0_chain 112 = .ok (.aload_n 0, 1) := dk_42 (dk_at dksX0_chain_4 20 rfl rfl)
theorem dX0_chain_113 : decode cX0_chain 113 = .ok (.aload_n 3, 1) := dk_45 (dk_at dksX0_chain_4 21 rfl rfl)
theorem dX0_chain_114 : decode cX0_chain 114 = .ok (.iload 5, 2) := dk_21 5 (dk_at dksX0_chain_4 22 rfl rfl)
theorem dX0_chain_116 : decode cX0_chain 116 = .ok (.aload 4, 2) := dk_25 4 (dk_at dksX0_chain_5 0 rfl rfl)
theorem dX0_chain_118 : decode cX0_chain 118 = .ok (.invokevirtual 304, 3) := dk_182 1 48 (dk_at dksX0_chain_5 2 rfl rfl)
theorem dX0_chain_121 : decode cX0_chain 121 = .ok (.istore 6, 2) := dk_54 6 (dk_at dksX0_chain_5 5 rfl rfl)
theorem dX0_chain_123 : decode cX0_chain 123 = .ok (.iload_n 2, 1) := dk_28 (dk_at dksX0_chain_5 7 rfl rfl)
theorem dX0_chain_124 : decode cX0_chain 124 = .ok (.iconst (-1), 1) := dk_2 (dk_at dksX0_chain_5 8 rfl rfl)
theorem dX0_chain_125 : decode cX0_chain 125 = .ok (.if_icmp .ne 6, 3) := dk_160 0 6 (dk_at dksX0_chain_5 9 rfl rfl)
theorem dX0_chain_128 : decode cX0_chain 128 = .ok (.iload 6, 2) := dk_21 6 (dk_at dksX0_chain_5 12 rfl rfl)
theorem dX0_chain_130 : decode cX0_chain 130 = .ok (.ireturn, 1) := dk_172 (dk_at dksX0_chain_5 14 rfl rfl)
theorem dX0_chain_131 : decode cX0_chain 131 = .ok (.iload_n 2, 1) := dk_28 (dk_at dksX0_chain_5 15 rfl rfl)
theorem dX0_chain_132 : decode cX0_chain 132 = .ok (.iload 6, 2) := dk_21 6 (dk_at dksX0_chain_5 16 rfl rfl)
theorem dX0_chain_134 : decode cX0_chain 134 = .ok (.if_icmp .lt 5, 3) := dk_161 0 5 (dk_at dksX0_chain_5 18 rfl rfl)
theorem dX0_chain_137 : decode cX0_chain 137 = .ok (.iconst (-1), 1) := dk_2 (dk_at dksX0_chain_5 21 rfl rfl)
theorem dX0_chain_138 : decode cX0_chain 138 = .ok (.ireturn, 1) := dk_172 (dk_at dksX0_chain_5 22 rfl rfl)
theorem dX0_chain_139 : decode cX0_chain 139 = .ok (.iconst 0, 1) := dk_3 (dk_at dksX0_chain_5 23 rfl rfl)
theorem dX0_chain_140 : decode cX0_chain 140 = .ok (.istore 7, 2) := dk_54 7 (dk_at dksX0_chain_6 0 rfl rfl)
theorem dX0_chain_142 : decode cX0_chain 142 = .ok (.iload 7, 2) := dk_21 7 (dk_at dksX0_chain_6 2 rfl rfl)
theorem dX0_chain_144 : decode cX0_chain 144 = .ok (.iload_n 2, 1) := dk_28 (dk_at dksX0_chain_6 4 rfl rfl)
theorem dX0_chain_145 : decode cX0_chain 145 = .ok (.if_icmp .ge 20, 3) := dk_162 0 20 (dk_at dksX0_chain_6 5 rfl rfl)
theorem dX0_chain_148 : decode cX0_chain 148 = .ok (.aload_n 0, 1) := dk_42 (dk_at dksX0_chain_6 8 rfl rfl)
theorem dX0_chain_149 : decode cX0_chain 149 = .ok (.aload_n 3, 1) := dk_45 (dk_at dksX0_chain_6 9 rfl rfl)
theorem dX0_chain_150 : decode cX0_chain 150 = .ok (.iload 5, 2) := dk_21 5 (dk_at dksX0_chain_6 10 rfl rfl)
theorem dX0_chain_152 : decode cX0_chain 152 = .ok (.aload 4, 2) := dk_25 4 (dk_at dksX0_chain_6 12 rfl rfl)
theorem dX0_chain_154 : decode cX0_chain 154 = .ok (.invokevirtual 309, 3) := dk_182 1 53 (dk_at dksX0_chain_6 14 rfl rfl)
theorem dX0_chain_157 : decode cX0_chain 157 = .ok (.istore 5, 2) := dk_54 5 (dk_at dksX0_chain_6 17 rfl rfl)
theorem dX0_chain_159 : decode cX0_chain 159 = .ok (.iinc 7 1, 3) := dk_132 7 1 (dk_at dksX0_chain_6 19 rfl rfl)
theorem dX0_chain_162 : decode cX0_chain 162 = .ok (.goto (-20), 3) := dk_167 255 236 (dk_at dksX0_chain_7 0 rfl rfl)
theorem dX0_chain_165 : decode cX0_chain 165 = .ok (.iload 5, 2) := dk_21 5 (dk_at dksX0_chain_7 3 rfl rfl)
theorem dX0_chain_167 : decode cX0_chain 167 = .ok (.ireturn, 1) := dk_172 (dk_at dksX0_chain_7 5 rfl rfl)
abbrev cX0_longFrom : ByteArray := prog_1_method_42_code
def yX0_longFrom : MethodName := ⟨RX0, "longFrom", "([II[I)I"⟩
def dkwX0_longFrom_3 : List UInt8 := [46, 172]
abbrev dktX0_longFrom_3 : List UInt8 := dkwX0_longFrom_3 ++ []
def dkwX0_longFrom_2 : List UInt8 := [45, 182, 1, 48, 184, 1, 29, 54, 4, 132, 5, 1, 167, 255, 214, 45, 28, 21, 4, 4, 96, 79, 45, 28]
abbrev dktX0_longFrom_2 : List UInt8 := dkwX0_longFrom_2 ++ dktX0_longFrom_3
def dkwX0_longFrom_1 : List UInt8 := [182, 0, 51, 162, 0, 36, 43, 16, 8, 28, 104, 21, 5, 96, 46, 158, 0, 18, 21, 4, 42, 43, 21, 5]
abbrev dktX0_longFrom_1 : List UInt8 := dkwX0_longFrom_1 ++ dktX0_longFrom_2
def dkwX0_longFrom_0 : List UInt8 := [45, 28, 46, 158, 0, 7, 45, 28, 46, 172, 3, 54, 4, 3, 54, 5, 21, 5, 42, 180, 0, 12]
abbrev dktX0_longFrom_0 : List UInt8 := dkwX0_longFrom_0 ++ dktX0_longFrom_1
theorem dksX0_longFrom_0 : cX0_longFrom.data.toList.drop 0 = dktX0_longFrom_0 := by decide +kernel
theorem dksX0_longFrom_1 : cX0_longFrom.data.toList.drop 22 = dktX0_longFrom_1 := dk_seg dksX0_longFrom_0 22 rfl rfl
theorem dksX0_longFrom_2 : cX0_longFrom.data.toList.drop 46 = dktX0_longFrom_2 := dk_seg dksX0_longFrom_1 24 rfl rfl
theorem dksX0_longFrom_3 : cX0_longFrom.data.toList.drop 70 = dktX0_longFrom_3 := dk_seg dksX0_longFrom_2 24 rfl rfl
theorem dX0_longFrom_0 : decode cX0_longFrom 0 = .ok (.aload_n 3, 1) := dk_45 (dk_at dksX0_longFrom_0 0 rfl rfl)
theorem dX0_longFrom_1 : decode cX0_longFrom 1 = .ok (.iload_n 2, 1) := dk_28 (dk_at dksX0_longFrom_0 1 rfl rfl)
theorem dX0_longFrom_2 : decode cX0_longFrom 2 = .ok (.iaload, 1) := dk_46 (dk_at dksX0_longFrom_0 2 rfl rfl)
theorem dX0_longFrom_3 : decode cX0_longFrom 3 = .ok (.ifCond .le 7, 3) := dk_158 0 7 (dk_at dksX0_longFrom_0 3 rfl rfl)
theorem dX0_longFrom_6 : decode cX0_longFrom 6 = .ok (.aload_n 3, 1) := dk_45 (dk_at dksX0_longFrom_0 6 rfl rfl)
theorem dX0_longFrom_7 : decode cX0_longFrom 7 = .ok (.iload_n 2, 1) := dk_28 (dk_at dksX0_longFrom_0 7 rfl rfl)
theorem dX0_longFrom_8 : decode cX0_longFrom 8 = .ok (.iaload, 1) := dk_46 (dk_at dksX0_longFrom_0 8 rfl rfl)
theorem dX0_longFrom_9 : decode cX0_longFrom 9 = .ok (.ireturn, 1) := dk_172 (dk_at dksX0_longFrom_0 9 rfl rfl)
theorem dX0_longFrom_10 : decode cX0_longFrom 10 = .ok (.iconst 0, 1) := dk_3 (dk_at dksX0_longFrom_0 10 rfl rfl)
theorem dX0_longFrom_11 : decode cX0_longFrom 11 = .ok (.istore 4, 2) := dk_54 4 (dk_at dksX0_longFrom_0 11 rfl rfl)
theorem dX0_longFrom_13 : decode cX0_longFrom 13 = .ok (.iconst 0, 1) := dk_3 (dk_at dksX0_longFrom_0 13 rfl rfl)
theorem dX0_longFrom_14 : decode cX0_longFrom 14 = .ok (.istore 5, 2) := dk_54 5 (dk_at dksX0_longFrom_0 14 rfl rfl)
theorem dX0_longFrom_16 : decode cX0_longFrom 16 = .ok (.iload 5, 2) := dk_21 5 (dk_at dksX0_longFrom_0 16 rfl rfl)
theorem dX0_longFrom_18 : decode cX0_longFrom 18 = .ok (.aload_n 0, 1) := dk_42 (dk_at dksX0_longFrom_0 18 rfl rfl)
theorem dX0_longFrom_19 : decode cX0_longFrom 19 = .ok (.getfield 12, 3) := dk_180 0 12 (dk_at dksX0_longFrom_0 19 rfl rfl)
theorem dX0_longFrom_22 : decode cX0_longFrom 22 = .ok (.invokevirtual 51, 3) := dk_182 0 51 (dk_at dksX0_longFrom_1 0 rfl rfl)
theorem dX0_longFrom_25 : decode cX0_longFrom 25 = .ok (.if_icmp .ge 36, 3) := dk_162 0 36 (dk_at dksX0_longFrom_1 3 rfl rfl)
theorem dX0_longFrom_28 : decode cX0_longFrom 28 = .ok (.aload_n 1, 1) := dk_43 (dk_at dksX0_longFrom_1 6 rfl rfl)
theorem dX0_longFrom_29 : decode cX0_longFrom 29 = .ok (.bipush 8, 2) := dk_16 8 (dk_at dksX0_longFrom_1 7 rfl rfl)
theorem dX0_longFrom_31 : decode cX0_longFrom 31 = .ok (.iload_n 2, 1) := dk_28 (dk_at dksX0_longFrom_1 9 rfl rfl)
theorem dX0_longFrom_32 : decode cX0_longFrom 32 = .ok (.imul, 1) := dk_104 (dk_at dksX0_longFrom_1 10 rfl rfl)
theorem dX0_longFrom_33 : decode cX0_longFrom 33 = .ok (.iload 5, 2) := dk_21 5 (dk_at dksX0_longFrom_1 11 rfl rfl)
theorem dX0_longFrom_35 : decode cX0_longFrom 35 = .ok (.iadd, 1) := dk_96 (dk_at dksX0_longFrom_1 13 rfl rfl)
theorem dX0_longFrom_36 : decode cX0_longFrom 36 = .ok (.iaload, 1) := dk_46 (dk_at dksX0_longFrom_1 14 rfl rfl)
theorem dX0_longFrom_37 : decode cX0_longFrom 37 = .ok (.ifCond .le 18, 3) := dk_158 0 18 (dk_at dksX0_longFrom_1 15 rfl rfl)
theorem dX0_longFrom_40 : decode cX0_longFrom 40 = .ok (.iload 4, 2) := dk_21 4 (dk_at dksX0_longFrom_1 18 rfl rfl)
theorem dX0_longFrom_42 : decode cX0_longFrom 42 = .ok (.aload_n 0, 1) := dk_42 (dk_at dksX0_longFrom_1 20 rfl rfl)
theorem dX0_longFrom_43 : decode cX0_longFrom 43 = .ok (.aload_n 1, 1) := dk_43 (dk_at dksX0_longFrom_1 21 rfl rfl)
theorem dX0_longFrom_44 : decode cX0_longFrom 44 = .ok (.iload 5, 2) := dk_21 5 (dk_at dksX0_longFrom_1 22 rfl rfl)
theorem dX0_longFrom_46 : decode cX0_longFrom 46 = .ok (.aload_n 3, 1) := dk_45 (dk_at dksX0_longFrom_2 0 rfl rfl)
theorem dX0_longFrom_47 : decode cX0_longFrom 47 = .ok (.invokevirtual 304, 3) := dk_182 1 48 (dk_at dksX0_longFrom_2 1 rfl rfl)
theorem dX0_longFrom_50 : decode cX0_longFrom 50 = .ok (.invokestatic 285, 3) := dk_184 1 29 (dk_at dksX0_longFrom_2 4 rfl rfl)
theorem dX0_longFrom_53 : decode cX0_longFrom 53 = .ok (.istore 4, 2) := dk_54 4 (dk_at dksX0_longFrom_2 7 rfl rfl)
theorem dX0_longFrom_55 : decode cX0_longFrom 55 = .ok (.iinc 5 1, 3) := dk_132 5 1 (dk_at dksX0_longFrom_2 9 rfl rfl)
theorem dX0_longFrom_58 : decode cX0_longFrom 58 = .ok (.goto (-42), 3) := dk_167 255 214 (dk_at dksX0_longFrom_2 12 rfl rfl)
theorem dX0_longFrom_61 : decode cX0_longFrom 61 = .ok (.aload_n 3, 1) := dk_45 (dk_at dksX0_longFrom_2 15 rfl rfl)
theorem dX0_longFrom_62 : decode cX0_longFrom 62 = .ok (.iload_n 2, 1) := dk_28 (dk_at dksX0_longFrom_2 16 rfl rfl)
theorem dX0_longFrom_63 : decode cX0_longFrom 63 = .ok (.iload 4, 2) := dk_21 4 (dk_at dksX0_longFrom_2 17 rfl rfl)
theorem dX0_longFrom_65 : decode cX0_longFrom 65 = .ok (.iconst 1, 1) := dk_4 (dk_at dksX0_longFrom_2 19 rfl rfl)
theorem dX0_longFrom_66 : decode cX0_longFrom 66 = .ok (.iadd, 1) := dk_96 (dk_at dksX0_longFrom_2 20 rfl rfl)
theorem dX0_longFrom_67 : decode cX0_longFrom 67 = .ok (.iastore, 1) := dk_79 (dk_at dksX0_longFrom_2 21 rfl rfl)
theorem dX0_longFrom_68 : decode cX0_longFrom 68 = .ok (.aload_n 3, 1) := dk_45 (dk_at dksX0_longFrom_2 22 rfl rfl)
theorem dX0_longFrom_69 : decode cX0_longFrom 69 = .ok (.iload_n 2, 1) := dk_28 (dk_at dksX0_longFrom_2 23 rfl rfl)
theorem dX0_longFrom_70 : decode cX0_longFrom 70 = .ok (.iaload, 1) := dk_46 (dk_at dksX0_longFrom_3 0 rfl rfl)
theorem dX0_longFrom_71 : decode cX0_longFrom 71 = .ok (.ireturn, 1) := dk_172 (dk_at dksX0_longFrom_3 1 rfl rfl)
abbrev cX0_nextOf : ByteArray := prog_1_method_44_code
def yX0_nextOf : MethodName := ⟨RX0, "nextOf", "([II[I)I"⟩
def dkwX0_nextOf_1 : List UInt8 := [159, 0, 9, 132, 4, 1, 167, 255, 229, 21, 4, 172]
abbrev dktX0_nextOf_1 : List UInt8 := dkwX0_nextOf_1 ++ []
def dkwX0_nextOf_0 : List UInt8 := [3, 54, 4, 43, 16, 8, 28, 104, 21, 4, 96, 46, 153, 0, 15, 45, 21, 4, 46, 45, 28, 46, 4, 100]
abbrev dktX0_nextOf_0 : List UInt8 := dkwX0_nextOf_0 ++ dktX0_nextOf_1
theorem dksX0_nextOf_0 : cX0_nextOf.data.toList.drop 0 = dktX0_nextOf_0 := by decide +kernel
theorem dksX0_nextOf_1 : cX0_nextOf.data.toList.drop 24 = dktX0_nextOf_1 := dk_seg dksX0_nextOf_0 24 rfl rfl
theorem dX0_nextOf_0 : decode cX0_nextOf 0 = .ok (.iconst 0, 1) := dk_3 (dk_at dksX0_nextOf_0 0 rfl rfl)
theorem dX0_nextOf_1 : decode cX0_nextOf 1 = .ok (.istore 4, 2) := dk_54 4 (dk_at dksX0_nextOf_0 1 rfl rfl)
theorem dX0_nextOf_3 : decode cX0_nextOf 3 = .ok (.aload_n 1, 1) := dk_43 (dk_at dksX0_nextOf_0 3 rfl rfl)
theorem dX0_nextOf_4 : decode cX0_nextOf 4 = .ok (.bipush 8, 2) := dk_16 8 (dk_at dksX0_nextOf_0 4 rfl rfl)
theorem dX0_nextOf_6 : decode cX0_nextOf 6 = .ok (.iload_n 2, 1) := dk_28 (dk_at dksX0_nextOf_0 6 rfl rfl)
theorem dX0_nextOf_7 : decode cX0_nextOf 7 = .ok (.imul, 1) := dk_104 (dk_at dksX0_nextOf_0 7 rfl rfl)
theorem dX0_nextOf_8 : decode cX0_nextOf 8 = .ok (.iload 4, 2) := dk_21 4 (dk_at dksX0_nextOf_0 8 rfl rfl)
theorem dX0_nextOf_10 : decode cX0_nextOf 10 = .ok (.iadd, 1) := dk_96 (dk_at dksX0_nextOf_0 10 rfl rfl)
theorem dX0_nextOf_11 : decode cX0_nextOf 11 = .ok (.iaload, 1) := dk_46 (dk_at dksX0_nextOf_0 11 rfl rfl)
theorem dX0_nextOf_12 : decode cX0_nextOf 12 = .ok (.ifCond .eq 15, 3) := dk_153 0 15 (dk_at dksX0_nextOf_0 12 rfl rfl)
theorem dX0_nextOf_15 : decode cX0_nextOf 15 = .ok (.aload_n 3, 1) := dk_45 (dk_at dksX0_nextOf_0 15 rfl rfl)
theorem dX0_nextOf_16 : decode cX0_nextOf 16 = .ok (.iload 4, 2) := dk_21 4 (dk_at dksX0_nextOf_0 16 rfl rfl)
theorem dX0_nextOf_18 : decode cX0_nextOf 18 = .ok (.iaload, 1) := dk_46 (dk_at dksX0_nextOf_0 18 rfl rfl)
theorem dX0_nextOf_19 : decode cX0_nextOf 19 = .ok (.aload_n 3, 1) := dk_45 (dk_at dksX0_nextOf_0 19 rfl rfl)
theorem dX0_nextOf_20 : decode cX0_nextOf 20 = .ok (.iload_n 2, 1) := dk_28 (dk_at dksX0_nextOf_0 20 rfl rfl)
theorem dX0_nextOf_21 : decode cX0_nextOf 21 = .ok (.iaload, 1) := dk_46 (dk_at dksX0_nextOf_0 21 rfl rfl)
theorem dX0_nextOf_22 : decode cX0_nextOf 22 = .ok (.iconst 1, 1) := dk_4 (dk_at dksX0_nextOf_0 22 rfl rfl)
theorem dX0_nextOf_23 : decode cX0_nextOf 23 = .ok (.isub, 1) := dk_100 (dk_at dksX0_nextOf_0 23 rfl rfl)
theorem dX0_nextOf_24 : decode cX0_nextOf 24 = .ok (.if_icmp .eq 9, 3) := dk_159 0 9 (dk_at dksX0_nextOf_1 0 rfl rfl)
theorem dX0_nextOf_27 : decode cX0_nextOf 27 = .ok (.iinc 4 1, 3) := dk_132 4 1 (dk_at dksX0_nextOf_1 3 rfl rfl)
theorem dX0_nextOf_30 : decode cX0_nextOf 30 = .ok (.goto (-27), 3) := dk_167 255 229 (dk_at dksX0_nextOf_1 6 rfl rfl)
theorem dX0_nextOf_33 : decode cX0_nextOf 33 = .ok (.iload 4, 2) := dk_21 4 (dk_at dksX0_nextOf_1 9 rfl rfl)
theorem dX0_nextOf_35 : decode cX0_nextOf 35 = .ok (.ireturn, 1) := dk_172 (dk_at dksX0_nextOf_1 11 rfl rfl)
abbrev cX0_least : ByteArray := prog_1_method_46_code
def yX0_least : MethodName := ⟨RX0, "least", "(I)I"⟩
def dkwX0_least_0 : List UInt8 := [42, 27, 182, 0, 165, 153, 0, 14, 42, 27, 182, 1, 56, 182, 1, 60, 167, 0, 5, 16, 254, 172]
abbrev dktX0_least_0 : List UInt8 := dkwX0_least_0 ++ []
theorem dksX0_least_0 : cX0_least.data.toList.drop 0 = dktX0_least_0 := by decide +kernel
theorem dX0_least_0 : decode cX0_least 0 = .ok (.aload_n 0, 1) := dk_42 (dk_at dksX0_least_0 0 rfl rfl)
theorem dX0_least_1 : decode cX0_least 1 = .ok (.iload_n 1, 1) := dk_27 (dk_at dksX0_least_0 1 rfl rfl)
theorem dX0_least_2 : decode cX0_least 2 = .ok (.invokevirtual 165, 3) := dk_182 0 165 (dk_at dksX0_least_0 2 rfl rfl)
theorem dX0_least_5 : decode cX0_least 5 = .ok (.ifCond .eq 14, 3) := dk_153 0 14 (dk_at dksX0_least_0 5 rfl rfl)
theorem dX0_least_8 : decode cX0_least 8 = .ok (.aload_n 0, 1) := dk_42 (dk_at dksX0_least_0 8 rfl rfl)
theorem dX0_least_9 : decode cX0_least 9 = .ok (.iload_n 1, 1) := dk_27 (dk_at dksX0_least_0 9 rfl rfl)
theorem dX0_least_10 : decode cX0_least 10 = .ok (.invokevirtual 312, 3) := dk_182 1 56 (dk_at dksX0_least_0 10 rfl rfl)
theorem dX0_least_13 : decode cX0_least 13 = .ok (.invokevirtual 316, 3) := dk_182 1 60 (dk_at dksX0_least_0 13 rfl rfl)
theorem dX0_least_16 : decode cX0_least 16 = .ok (.goto 5, 3) := dk_167 0 5 (dk_at dksX0_least_0 16 rfl rfl)
theorem dX0_least_19 : decode cX0_least 19 = .ok (.bipush (-2), 2) := dk_16 254 (dk_at dksX0_least_0 19 rfl rfl)
theorem dX0_least_21 : decode cX0_least 21 = .ok (.ireturn, 1) := dk_172 (dk_at dksX0_least_0 21 rfl rfl)
abbrev cX0_pressing : ByteArray := prog_1_method_45_code
def yX0_pressing : MethodName := ⟨RX0, "pressing", "(I)LSwapPress$Press;"⟩
def dkwX0_pressing_0 : List UInt8 := [42, 42, 180, 0, 12, 27, 182, 0, 71, 182, 0, 75, 176]
abbrev dktX0_pressing_0 : List UInt8 := dkwX0_pressing_0 ++ []
theorem dksX0_pressing_0 : cX0_pressing.data.toList.drop 0 = dktX0_pressing_0 := by decide +kernel
theorem dX0_pressing_0 : decode cX0_pressing 0 = .ok (.aload_n 0, 1) := dk_42 (dk_at dksX0_pressing_0 0 rfl rfl)
theorem dX0_pressing_1 : decode cX0_pressing 1 = .ok (.aload_n 0, 1) := dk_42 (dk_at dksX0_pressing_0 1 rfl rfl)
theorem dX0_pressing_2 : decode cX0_pressing 2 = .ok (.getfield 12, 3) := dk_180 0 12 (dk_at dksX0_pressing_0 2 rfl rfl)
theorem dX0_pressing_5 : decode cX0_pressing 5 = .ok (.iload_n 1, 1) := dk_27 (dk_at dksX0_pressing_0 5 rfl rfl)
theorem dX0_pressing_6 : decode cX0_pressing 6 = .ok (.invokevirtual 71, 3) := dk_182 0 71 (dk_at dksX0_pressing_0 6 rfl rfl)
theorem dX0_pressing_9 : decode cX0_pressing 9 = .ok (.invokevirtual 75, 3) := dk_182 0 75 (dk_at dksX0_pressing_0 9 rfl rfl)
theorem dX0_pressing_12 : decode cX0_pressing 12 = .ok (.areturn, 1) := dk_176 (dk_at dksX0_pressing_0 12 rfl rfl)
abbrev cX0_pressed : ByteArray := prog_1_method_47_code
def yX0_pressed : MethodName := ⟨RX0, "pressed", "(III)I"⟩
def dkwX0_pressed_1 : List UInt8 := [199, 0, 7, 2, 167, 0, 12, 25, 4, 16, 8, 27, 104, 28, 96, 46, 172]
abbrev dktX0_pressed_1 : List UInt8 := dkwX0_pressed_1 ++ []
def dkwX0_pressed_0 : List UInt8 := [42, 27, 28, 29, 182, 0, 255, 154, 0, 6, 16, 254, 172, 42, 29, 182, 0, 245, 58, 4, 25, 4]
abbrev dktX0_pressed_0 : List UInt8 := dkwX0_pressed_0 ++ dktX0_pressed_1
theorem dksX0_pressed_0 : cX0_pressed.data.toList.drop 0 = dktX0_pressed_0 := by decide +kernel
theorem dksX0_pressed_1 : cX0_pressed.data.toList.drop 22 = dktX0_pressed_1 := dk_seg dksX0_pressed_0 22 rfl rfl
theorem dX0_pressed_0 : decode cX0_pressed 0 = .ok (.aload_n 0, 1) := dk_42 (dk_at dksX0_pressed_0 0 rfl rfl)
theorem dX0_pressed_1 : decode cX0_pressed 1 = .ok (.iload_n 1, 1) := dk_27 (dk_at dksX0_pressed_0 1 rfl rfl)
theorem dX0_pressed_2 : decode cX0_pressed 2 = .ok (.iload_n 2, 1) := dk_28 (dk_at dksX0_pressed_0 2 rfl rfl)
theorem dX0_pressed_3 : decode cX0_pressed 3 = .ok (.iload_n 3, 1) := dk_29 (dk_at dksX0_pressed_0 3 rfl rfl)
theorem dX0_pressed_4 : decode cX0_pressed 4 = .ok (.invokevirtual 255, 3) := dk_182 0 255 (dk_at dksX0_pressed_0 4 rfl rfl)
theorem dX0_pressed_7 : decode cX0_pressed 7 = .ok (.ifCond .ne 6, 3) := dk_154 0 6 (dk_at dksX0_pressed_0 7 rfl rfl)
theorem dX0_pressed_10 : decode cX0_pressed 10 = .ok (.bipush (-2), 2) := dk_16 254 (dk_at dksX0_pressed_0 10 rfl rfl)
theorem dX0_pressed_12 : decode cX0_pressed 12 = .ok (.ireturn, 1) := dk_172 (dk_at dksX0_pressed_0 12 rfl rfl)
theorem dX0_pressed_13 : decode cX0_pressed 13 = .ok (.aload_n 0, 1) := dk_42 (dk_at dksX0_pressed_0 13 rfl rfl)
theorem dX0_pressed_14 : decode cX0_pressed 14 = .ok (.iload_n 3, 1) := dk_29 (dk_at dksX0_pressed_0 14 rfl rfl)
theorem dX0_pressed_15 : decode cX0_pressed 15 = .ok (.invokevirtual 245, 3) := dk_182 0 245 (dk_at dksX0_pressed_0 15 rfl rfl)
theorem dX0_pressed_18 : decode cX0_pressed 18 = .ok (.astore 4, 2) := dk_58 4 (dk_at dksX0_pressed_0 18 rfl rfl)
theorem dX0_pressed_20 : decode cX0_pressed 20 = .ok (.aload 4, 2) := dk_25 4 (dk_at dksX0_pressed_0 20 rfl rfl)
theorem dX0_pressed_22 : decode cX0_pressed 22 = .ok (.ifnonnull 7, 3) := dk_199 0 7 (dk_at dksX0_pressed_1 0 rfl rfl)
theorem dX0_pressed_25 : decode cX0_pressed 25 = .ok (.iconst (-1), 1) := dk_2 (dk_at dksX0_pressed_1 3 rfl rfl)
theorem dX0_pressed_26 : decode cX0_pressed 26 = .ok (.goto 12, 3) := dk_167 0 12 (dk_at dksX0_pressed_1 4 rfl rfl)
theorem dX0_pressed_29 : decode cX0_pressed 29 = .ok (.aload 4, 2) := dk_25 4 (dk_at dksX0_pressed_1 7 rfl rfl)
theorem dX0_pressed_31 : decode cX0_pressed 31 = .ok (.bipush 8, 2) := dk_16 8 (dk_at dksX0_pressed_1 9 rfl rfl)
theorem dX0_pressed_33 : decode cX0_pressed 33 = .ok (.iload_n 1, 1) := dk_27 (dk_at dksX0_pressed_1 11 rfl rfl)
theorem dX0_pressed_34 : decode cX0_pressed 34 = .ok (.imul, 1) := dk_104 (dk_at dksX0_pressed_1 12 rfl rfl)
theorem dX0_pressed_35 : decode cX0_pressed 35 = .ok (.iload_n 2, 1) := dk_28 (dk_at dksX0_pressed_1 13 rfl rfl)
theorem dX0_pressed_36 : decode cX0_pressed 36 = .ok (.iadd, 1) := dk_96 (dk_at dksX0_pressed_1 14 rfl rfl)
theorem dX0_pressed_37 : decode cX0_pressed 37 = .ok (.iaload, 1) := dk_46 (dk_at dksX0_pressed_1 15 rfl rfl)
theorem dX0_pressed_38 : decode cX0_pressed 38 = .ok (.ireturn, 1) := dk_172 (dk_at dksX0_pressed_1 16 rfl rfl)
abbrev cX0_couples : ByteArray := prog_1_method_48_code
def yX0_couples : MethodName := ⟨RX0, "couples", "(I)I"⟩
def dkwX0_couples_1 : List UInt8 := [167, 0, 7, 44, 184, 0, 247, 172]
abbrev dktX0_couples_1 : List UInt8 := dkwX0_couples_1 ++ []
def dkwX0_couples_0 : List UInt8 := [42, 27, 182, 0, 165, 154, 0, 6, 16, 254, 172, 42, 27, 182, 0, 245, 77, 44, 199, 0, 7, 2]
abbrev dktX0_couples_0 : List UInt8 := dkwX0_couples_0 ++ dktX0_couples_1
theorem dksX0_couples_0 : cX0_couples.data.toList.drop 0 = dktX0_couples_0 := by decide +kernel
theorem dksX0_couples_1 : cX0_couples.data.toList.drop 22 = dktX0_couples_1 := dk_seg dksX0_couples_0 22 rfl rfl
theorem dX0_couples_0 : decode cX0_couples 0 = .ok (.aload_n 0, 1) := dk_42 (dk_at dksX0_couples_0 0 rfl rfl)
theorem dX0_couples_1 : decode cX0_couples 1 = .ok (.iload_n 1, 1) := dk_27 (dk_at dksX0_couples_0 1 rfl rfl)
theorem dX0_couples_2 : decode cX0_couples 2 = .ok (.invokevirtual 165, 3) := dk_182 0 165 (dk_at dksX0_couples_0 2 rfl rfl)
theorem dX0_couples_5 : decode cX0_couples 5 = .ok (.ifCond .ne 6, 3) := dk_154 0 6 (dk_at dksX0_couples_0 5 rfl rfl)
theorem dX0_couples_8 : decode cX0_couples 8 = .ok (.bipush (-2), 2) := dk_16 254 (dk_at dksX0_couples_0 8 rfl rfl)
theorem dX0_couples_10 : decode cX0_couples 10 = .ok (.ireturn, 1) := dk_172 (dk_at dksX0_couples_0 10 rfl rfl)
theorem dX0_couples_11 : decode cX0_couples 11 = .ok (.aload_n 0, 1) := dk_42 (dk_at dksX0_couples_0 11 rfl rfl)
theorem dX0_couples_12 : decode cX0_couples 12 = .ok (.iload_n 1, 1) := dk_27 (dk_at dksX0_couples_0 12 rfl rfl)
theorem dX0_couples_13 : decode cX0_couples 13 = .ok (.invokevirtual 245, 3) := dk_182 0 245 (dk_at dksX0_couples_0 13 rfl rfl)
theorem dX0_couples_16 : decode cX0_couples 16 = .ok (.astore_n 2, 1) := dk_77 (dk_at dksX0_couples_0 16 rfl rfl)
theorem dX0_couples_17 : decode cX0_couples 17 = .ok (.aload_n 2, 1) := dk_44 (dk_at dksX0_couples_0 17 rfl rfl)
theorem dX0_couples_18 : decode cX0_couples 18 = .ok (.ifnonnull 7, 3) := dk_199 0 7 (dk_at dksX0_couples_0 18 rfl rfl)
theorem dX0_couples_21 : decode cX0_couples 21 = .ok (.iconst (-1), 1) := dk_2 (dk_at dksX0_couples_0 21 rfl rfl)
theorem dX0_couples_22 : decode cX0_couples 22 = .ok (.goto 7, 3) := dk_167 0 7 (dk_at dksX0_couples_1 0 rfl rfl)
theorem dX0_couples_25 : decode cX0_couples 25 = .ok (.aload_n 2, 1) := dk_44 (dk_at dksX0_couples_1 3 rfl rfl)
theorem dX0_couples_26 : decode cX0_couples 26 = .ok (.invokestatic 247, 3) := dk_184 0 247 (dk_at dksX0_couples_1 4 rfl rfl)
theorem dX0_couples_29 : decode cX0_couples 29 = .ok (.ireturn, 1) := dk_172 (dk_at dksX0_couples_1 7 rfl rfl)
abbrev cX0_span : ByteArray := prog_1_method_49_code
def yX0_span : MethodName := ⟨RX0, "span", "(IIII)I"⟩
def dkwX0_span_2 : List UInt8 := [16, 253, 172]
abbrev dktX0_span_2 : List UInt8 := dkwX0_span_2 ++ []
def dkwX0_span_1 : List UInt8 := [42, 29, 182, 1, 56, 27, 28, 21, 4, 4, 160, 0, 7, 4, 167, 0, 4, 3, 182, 1, 63, 167, 0, 5]
abbrev dktX0_span_1 : List UInt8 := dkwX0_span_1 ++ dktX0_span_2
def dkwX0_span_0 : List UInt8 := [42, 27, 28, 29, 182, 0, 255, 154, 0, 6, 16, 254, 172, 21, 4, 133, 9, 10, 184, 0, 112, 153, 0, 27]
abbrev dktX0_span_0 : List UInt8 := dkwX0_span_0 ++ dktX0_span_1
theorem dksX0_span_0 : cX0_span.data.toList.drop 0 = dktX0_span_0 := by decide +kernel
theorem dksX0_span_1 : cX0_span.data.toList.drop 24 = dktX0_span_1 := dk_seg dksX0_span_0 24 rfl rfl
theorem dksX0_span_2 : cX0_span.data.toList.drop 48 = dktX0_span_2 := dk_seg dksX0_span_1 24 rfl rfl
theorem dX0_span_0 : decode cX0_span 0 = .ok (.aload_n 0, 1) := dk_42 (dk_at dksX0_span_0 0 rfl rfl)
theorem dX0_span_1 : decode cX0_span 1 = .ok (.iload_n 1, 1) := dk_27 (dk_at dksX0_span_0 1 rfl rfl)
theorem dX0_span_2 : decode cX0_span 2 = .ok (.iload_n 2, 1) := dk_28 (dk_at dksX0_span_0 2 rfl rfl)
theorem dX0_span_3 : decode cX0_span 3 = .ok (.iload_n 3, 1) := dk_29 (dk_at dksX0_span_0 3 rfl rfl)
theorem dX0_span_4 : decode cX0_span 4 = .ok (.invokevirtual 255, 3) := dk_182 0 255 (dk_at dksX0_span_0 4 rfl rfl)
theorem dX0_span_7 : decode cX0_span 7 = .ok (.ifCond .ne 6, 3) := dk_154 0 6 (dk_at dksX0_span_0 7 rfl rfl)
theorem dX0_span_10 : decode cX0_span 10 = .ok (.bipush (-2), 2) := dk_16 254 (dk_at dksX0_span_0 10 rfl rfl)
theorem dX0_span_12 : decode cX0_span 12 = .ok (.ireturn, 1) := dk_172 (dk_at dksX0_span_0 12 rfl rfl)
theorem dX0_span_13 : decode cX0_span 13 = .ok (.iload 4, 2) := dk_21 4 (dk_at dksX0_span_0 13 rfl rfl)
theorem dX0_span_15 : decode cX0_span 15 = .ok (.i2l, 1) := dk_133 (dk_at dksX0_span_0 15 rfl rfl)
theorem dX0_span_16 : decode cX0_span 16 = .ok (.lconst 0, 1) := dk_9 (dk_at dksX0_span_0 16 rfl rfl)
theorem dX0_span_17 : decode cX0_span 17 = .ok (.lconst 1, 1) := dk_10 (dk_at dksX0_span_0 17 rfl rfl)
theorem dX0_span_18 : decode cX0_span 18 = .ok (.invokestatic 112, 3) := dk_184 0 112 (dk_at dksX0_span_0 18 rfl rfl)
theorem dX0_span_21 : decode cX0_span 21 = .ok (.ifCond .eq 27, 3) := dk_153 0 27 (dk_at dksX0_span_0 21 rfl rfl)
theorem dX0_span_24 : decode cX0_span 24 = .ok (.aload_n 0, 1) := dk_42 (dk_at dksX0_span_1 0 rfl rfl)
theorem dX0_span_25 : decode cX0_span 25 = .ok (.iload_n 3, 1) := dk_29 (dk_at dksX0_span_1 1 rfl rfl)
theorem dX0_span_26 : decode cX0_span 26 = .ok (.invokevirtual 312, 3) := dk_182 1 56 (dk_at dksX0_span_1 2 rfl rfl)
theorem dX0_span_29 : decode cX0_span 29 = .ok (.iload_n 1, 1) := dk_27 (dk_at dksX0_span_1 5 rfl rfl)
theorem dX0_span_30 : decode cX0_span 30 = .ok (.iload_n 2, 1) := dk_28 (dk_at dksX0_span_1 6 rfl rfl)
theorem dX0_span_31 : decode cX0_span 31 = .ok (.iload 4, 2) := dk_21 4 (dk_at dksX0_span_1 7 rfl rfl)
theorem dX0_span_33 : decode cX0_span 33 = .ok (.iconst 1, 1) := dk_4 (dk_at dksX0_span_1 9 rfl rfl)
theorem dX0_span_34 : decode cX0_span 34 = .ok (.if_icmp .ne 7, 3) := dk_160 0 7 (dk_at dksX0_span_1 10 rfl rfl)
theorem dX0_span_37 : decode cX0_span 37 = .ok (.iconst 1, 1) := dk_4 (dk_at dksX0_span_1 13 rfl rfl)
theorem dX0_span_38 : decode cX0_span 38 = .ok (.goto 4, 3) := dk_167 0 4 (dk_at dksX0_span_1 14 rfl rfl)
theorem dX0_span_41 : decode cX0_span 41 = .ok (.iconst 0, 1) := dk_3 (dk_at dksX0_span_1 17 rfl rfl)
theorem dX0_span_42 : decode cX0_span 42 = .ok (.invokevirtual 319, 3) := dk_182 1 63 (dk_at dksX0_span_1 18 rfl rfl)
theorem dX0_span_45 : decode cX0_span 45 = .ok (.goto 5, 3) := dk_167 0 5 (dk_at dksX0_span_1 21 rfl rfl)
theorem dX0_span_48 : decode cX0_span 48 = .ok (.bipush (-3), 2) := dk_16 253 (dk_at dksX0_span_2 0 rfl rfl)
theorem dX0_span_50 : decode cX0_span 50 = .ok (.ireturn, 1) := dk_172 (dk_at dksX0_span_2 2 rfl rfl)
abbrev cX0_gain : ByteArray := prog_1_method_51_code
def yX0_gain : MethodName := ⟨RX0, "gain", "(III)I"⟩
def dkwX0_gain_2 : List UInt8 := [185, 1, 36, 3, 0, 4, 96, 182, 1, 70, 182, 1, 60, 100, 172]
abbrev dktX0_gain_2 : List UInt8 := dkwX0_gain_2 ++ []
def dkwX0_gain_1 : List UInt8 := [21, 4, 2, 160, 0, 7, 2, 167, 0, 30, 21, 4, 42, 29, 27, 28, 42, 29, 182, 1, 32, 27, 28]
abbrev dktX0_gain_1 : List UInt8 := dkwX0_gain_1 ++ dktX0_gain_2
def dkwX0_gain_0 : List UInt8 := [42, 27, 28, 29, 182, 0, 255, 154, 0, 6, 16, 254, 172, 42, 29, 182, 1, 56, 182, 1, 60, 54, 4]
abbrev dktX0_gain_0 : List UInt8 := dkwX0_gain_0 ++ dktX0_gain_1
theorem dksX0_gain_0 : cX0_gain.data.toList.drop 0 = dktX0_gain_0 := by decide +kernel
theorem dksX0_gain_1 : cX0_gain.data.toList.drop 23 = dktX0_gain_1 := dk_seg dksX0_gain_0 23 rfl rfl
theorem dksX0_gain_2 : cX0_gain.data.toList.drop 46 = dktX0_gain_2 := dk_seg dksX0_gain_1 23 rfl rfl
theorem dX0_gain_0 : decode cX0_gain 0 = .ok (.aload_n 0, 1) := dk_42 (dk_at dksX0_gain_0 0 rfl rfl)
theorem dX0_gain_1 : decode cX0_gain 1 = .ok (.iload_n 1, 1) := dk_27 (dk_at dksX0_gain_0 1 rfl rfl)
theorem dX0_gain_2 : decode cX0_gain 2 = .ok (.iload_n 2, 1) := dk_28 (dk_at dksX0_gain_0 2 rfl rfl)
theorem dX0_gain_3 : decode cX0_gain 3 = .ok (.iload_n 3, 1) := dk_29 (dk_at dksX0_gain_0 3 rfl rfl)
theorem dX0_gain_4 : decode cX0_gain 4 = .ok (.invokevirtual 255, 3) := dk_182 0 255 (dk_at dksX0_gain_0 4 rfl rfl)
theorem dX0_gain_7 : decode cX0_gain 7 = .ok (.ifCond .ne 6, 3) := dk_154 0 6 (dk_at dksX0_gain_0 7 rfl rfl)
theorem dX0_gain_10 : decode cX0_gain 10 = .ok (.bipush (-2), 2) := dk_16 254 (dk_at dksX0_gain_0 10 rfl rfl)
theorem dX0_gain_12 : decode cX0_gain 12 = .ok (.ireturn, 1) := dk_172 (dk_at dksX0_gain_0 12 rfl rfl)
theorem dX0_gain_13 : decode cX0_gain 13 = .ok (.aload_n 0, 1) := dk_42 (dk_at dksX0_gain_0 13 rfl rfl)
theorem dX0_gain_14 : decode cX0_gain 14 = .ok (.iload_n 3, 1) := dk_29 (dk_at dksX0_gain_0 14 rfl rfl)
theorem dX0_gain_15 : decode cX0_gain 15 = .ok (.invokevirtual 312, 3) := dk_182 1 56 (dk_at dksX0_gain_0 15 rfl rfl)
theorem dX0_gain_18 : decode cX0_gain 18 = .ok (.invokevirtual 316, 3) := dk_182 1 60 (dk_at dksX0_gain_0 18 rfl rfl)
theorem dX0_gain_21 : decode cX0_gain 21 = .ok (.istore 4, 2) := dk_54 4 (dk_at dksX0_gain_0 21 rfl rfl)
theorem dX0_gain_23 : decode cX0_gain 23 = .ok (.iload 4, 2) := dk_21 4 (dk_at dksX0_gain_1 0 rfl rfl)
theorem dX0_gain_25 : decode cX0_gain 25 = .ok (.iconst (-1), 1) := dk_2 (dk_at dksX0_gain_1 2 rfl rfl)
theorem dX0_gain_26 : decode cX0_gain 26 = .ok (.if_icmp .ne 7, 3) := dk_160 0 7 (dk_at dksX0_gain_1 3 rfl rfl)
theorem dX0_gain_29 : decode cX0_gain 29 = .ok (.iconst (-1), 1) := dk_2 (dk_at dksX0_gain_1 6 rfl rfl)
theorem dX0_gain_30 : decode cX0_gain 30 = .ok (.goto 30, 3) := dk_167 0 30 (dk_at dksX0_gain_1 7 rfl rfl)
theorem dX0_gain_33 : decode cX0_gain 33 = .ok (.iload 4, 2) := dk_21 4 (dk_at dksX0_gain_1 10 rfl rfl)
theorem dX0_gain_35 : decode cX0_gain 35 = .ok (.aload_n 0, 1) := dk_42 (dk_at dksX0_gain_1 12 rfl rfl)
theorem dX0_gain_36 : decode cX0_gain 36 = .ok (.iload_n 3, 1) := dk_29 (dk_at dksX0_gain_1 13 rfl rfl)
theorem dX0_gain_37 : decode cX0_gain 37 = .ok (.iload_n 1, 1) := dk_27 (dk_at dksX0_gain_1 14 rfl rfl)
theorem dX0_gain_38 : decode cX0_gain 38 = .ok (.iload_n 2, 1) := dk_28 (dk_at dksX0_gain_1 15 rfl rfl)
theorem dX0_gain_39 : decode cX0_gain 39 = .ok (.aload_n 0, 1) := dk_42 (dk_at dksX0_gain_1 16 rfl rfl)
theorem dX0_gain_40 : decode cX0_gain 40 = .ok (.iload_n 3, 1) := dk_29 (dk_at dksX0_gain_1 17 rfl rfl)
theorem dX0_gain_41 : decode cX0_gain 41 = .ok (.invokevirtual 288, 3) := dk_182 1 32 (dk_at dksX0_gain_1 18 rfl rfl)
theorem dX0_gain_44 : decode cX0_gain 44 = .ok (.iload_n 1, 1) := dk_27 (dk_at dksX0_gain_1 21 rfl rfl)
theorem dX0_gain_45 : decode cX0_gain 45 = .ok (.iload_n 2, 1) := dk_28 (dk_at dksX0_gain_1 22 rfl rfl)
theorem dX0_gain_46 : decode cX0_gain 46 = .ok (.invokeinterface 292 3, 5) := by decide +kernel
theorem dX0_gain_51 : decode cX0_gain 51 = .ok (.iconst 1, 1) := dk_4 (dk_at dksX0_gain_2 5 rfl rfl)
theorem dX0_gain_52 : decode cX0_gain 52 = .ok (.iadd, 1) := dk_96 (dk_at dksX0_gain_2 6 rfl rfl)
theorem dX0_gain_53 : decode cX0_gain 53 = .ok (.invokevirtual 326, 3) := dk_182 1 70 (dk_at dksX0_gain_2 7 rfl rfl)
theorem dX0_gain_56 : decode cX0_gain 56 = .ok (.invokevirtual 316, 3) := dk_182 1 60 (dk_at dksX0_gain_2 10 rfl rfl)
theorem dX0_gain_59 : decode cX0_gain 59 = .ok (.isub, 1) := dk_100 (dk_at dksX0_gain_2 13 rfl rfl)
theorem dX0_gain_60 : decode cX0_gain 60 = .ok (.ireturn, 1) := dk_172 (dk_at dksX0_gain_2 14 rfl rfl)
abbrev cX0_pressing_2 : ByteArray := prog_1_method_50_code
def yX0_pressing_2 : MethodName := ⟨RX0, "pressing", "(IIII)LSwapPress$Press;"⟩
def dkwX0_pressing_2_3 : List UInt8 := [176]
abbrev dktX0_pressing_2_3 : List UInt8 := dkwX0_pressing_2_3 ++ []
def dkwX0_pressing_2_2 : List UInt8 := [185, 1, 66, 4, 0, 42, 180, 0, 12, 180, 0, 55, 6, 160, 0, 7, 4, 167, 0, 4, 3, 183, 0, 68]
abbrev dktX0_pressing_2_2 : List UInt8 := dkwX0_pressing_2_2 ++ dktX0_pressing_2_3
def dkwX0_pressing_2_1 : List UInt8 := [42, 180, 0, 12, 180, 0, 55, 25, 5, 42, 180, 0, 12, 180, 0, 58, 184, 0, 62, 28, 29, 21, 4]
abbrev dktX0_pressing_2_1 : List UInt8 := dkwX0_pressing_2_1 ++ dktX0_pressing_2_2
def dkwX0_pressing_2_0 : List UInt8 := [42, 180, 0, 12, 27, 182, 0, 71, 58, 5, 187, 0, 49, 89, 42, 42, 180, 0, 12, 182, 0, 51, 25, 5]
abbrev dktX0_pressing_2_0 : List UInt8 := dkwX0_pressing_2_0 ++ dktX0_pressing_2_1
theorem dksX0_pressing_2_0 : cX0_pressing_2.data.toList.drop 0 = dktX0_pressing_2_0 := by decide +kernel
theorem dksX0_pressing_2_1 : cX0_pressing_2.data.toList.drop 24 = dktX0_pressing_2_1 := dk_seg dksX0_pressing_2_0 24 rfl rfl
theorem dksX0_pressing_2_2 : cX0_pressing_2.data.toList.drop 47 = dktX0_pressing_2_2 := dk_seg dksX0_pressing_2_1 23 rfl rfl
theorem dksX0_pressing_2_3 : cX0_pressing_2.data.toList.drop 71 = dktX0_pressing_2_3 := dk_seg dksX0_pressing_2_2 24 rfl rfl
theorem dX0_pressing_2_0 : decode cX0_pressing_2 0 = .ok (.aload_n 0, 1) := dk_42 (dk_at dksX0_pressing_2_0 0 rfl rfl)
theorem dX0_pressing_2_1 : decode cX0_pressing_2 1 = .ok (.getfield 12, 3) := dk_180 0 12 (dk_at dksX0_pressing_2_0 1 rfl rfl)
theorem dX0_pressing_2_4 : decode cX0_pressing_2 4 = .ok (.iload_n 1, 1) := dk_27 (dk_at dksX0_pressing_2_0 4 rfl rfl)
theorem dX0_pressing_2_5 : decode cX0_pressing_2 5 = .ok (.invokevirtual 71, 3) := dk_182 0 71 (dk_at dksX0_pressing_2_0 5 rfl rfl)
theorem dX0_pressing_2_8 : decode cX0_pressing_2 8 = .ok (.astore 5, 2) := dk_58 5 (dk_at dksX0_pressing_2_0 8 rfl rfl)
theorem dX0_pressing_2_10 : decode cX0_pressing_2 10 = .ok (.new 49, 3) := dk_187 0 49 (dk_at dksX0_pressing_2_0 10 rfl rfl)
theorem dX0_pressing_2_13 : decode cX0_pressing_2 13 = .ok (.dup, 1) := dk_89 (dk_at dksX0_pressing_2_0 13 rfl rfl)
theorem dX0_pressing_2_14 : decode cX0_pressing_2 14 = .ok (.aload_n 0, 1) := dk_42 (dk_at dksX0_pressing_2_0 14 rfl rfl)
theorem dX0_pressing_2_15 : decode cX0_pressing_2 15 = .ok (.aload_n 0, 1) := dk_42 (dk_at dksX0_pressing_2_0 15 rfl rfl)
theorem dX0_pressing_2_16 : decode cX0_pressing_2 16 = .ok (.getfield 12, 3) := dk_180 0 12 (dk_at dksX0_pressing_2_0 16 rfl rfl)
theorem dX0_pressing_2_19 : decode cX0_pressing_2 19 = .ok (.invokevirtual 51, 3) := dk_182 0 51 (dk_at dksX0_pressing_2_0 19 rfl rfl)
theorem dX0_pressing_2_22 : decode cX0_pressing_2 22 = .ok (.aload 5, 2) := dk_25 5 (dk_at dksX0_pressing_2_0 22 rfl rfl)
theorem dX0_pressing_2_24 : decode cX0_pressing_2 24 = .ok (.aload_n 0, 1) := dk_42 (dk_at dksX0_pressing_2_1 0 rfl rfl)
theorem dX0_pressing_2_25 : decode cX0_pressing_2 25 = .ok (.getfield 12, 3) := dk_180 0 12 (dk_at dksX0_pressing_2_1 1 rfl rfl)
theorem dX0_pressing_2_28 : decode cX0_pressing_2 28 = .ok (.getfield 55, 3) := dk_180 0 55 (dk_at dksX0_pressing_2_1 4 rfl rfl)
theorem dX0_pressing_2_31 : decode cX0_pressing_2 31 = .ok (.aload 5, 2) := dk_25 5 (dk_at dksX0_pressing_2_1 7 rfl rfl)
theorem dX0_pressing_2_33 : decode cX0_pressing_2 33 = .ok (.aload_n 0, 1) := dk_42 (dk_at dksX0_pressing_2_1 9 rfl rfl)
theorem dX0_pressing_2_34 : decode cX0_pressing_2 34 = .ok (.getfield 12, 3) := dk_180 0 12 (dk_at dksX0_pressing_2_1 10 rfl rfl)
theorem dX0_pressing_2_37 : decode cX0_pressing_2 37 = .ok (.getfield 58, 3) := dk_180 0 58 (dk_at dksX0_pressing_2_1 13 rfl rfl)
theorem dX0_pressing_2_40 : decode cX0_pressing_2 40 = .ok (.invokestatic 62, 3) := dk_184 0 62 (dk_at dksX0_pressing_2_1 16 rfl rfl)
theorem dX0_pressing_2_43 : decode cX0_pressing_2 43 = .ok (.iload_n 2, 1) := dk_28 (dk_at dksX0_pressing_2_1 19 rfl rfl)
theorem dX0_pressing_2_44 : decode cX0_pressing_2 44 = .ok (.iload_n 3, 1) := dk_29 (dk_at dksX0_pressing_2_1 20 rfl rfl)
theorem dX0_pressing_2_45 : decode cX0_pressing_2 45 = .ok (.iload 4, 2) := dk_21 4 (dk_at dksX0_pressing_2_1 21 rfl rfl)
theorem dX0_pressing_2_47 : decode cX0_pressing_2 47 = .ok (.invokeinterface 322 4, 5) := by decide +kernel
theorem dX0_pressing_2_52 : decode cX0_pressing_2 52 = .ok (.aload_n 0, 1) := dk_42 (dk_at dksX0_pressing_2_2 5 rfl rfl)
theorem dX0_pressing_2_53 : decode cX0_pressing_2 53 = .ok (.getfield 12, 3) := dk_180 0 12 (dk_at dksX0_pressing_2_2 6 rfl rfl)
theorem dX0_pressing_2_56 : decode cX0_pressing_2 56 = .ok (.getfield 55, 3) := dk_180 0 55 (dk_at dksX0_pressing_2_2 9 rfl rfl)
theorem dX0_pressing_2_59 : decode cX0_pressing_2 59 = .ok (.iconst 3, 1) := dk_6 (dk_at dksX0_pressing_2_2 12 rfl rfl)
theorem dX0_pressing_2_60 : decode cX0_pressing_2 60 = .ok (.if_icmp .ne 7, 3) := dk_160 0 7 (dk_at dksX0_pressing_2_2 13 rfl rfl)
theorem dX0_pressing_2_63 : decode cX0_pressing_2 63 = .ok (.iconst 1, 1) := dk_4 (dk_at dksX0_pressing_2_2 16 rfl rfl)
theorem dX0_pressing_2_64 : decode cX0_pressing_2 64 = .ok (.goto 4, 3) := dk_167 0 4 (dk_at dksX0_pressing_2_2 17 rfl rfl)
theorem dX0_pressing_2_67 : decode cX0_pressing_2 67 = .ok (.iconst 0, 1) := dk_3 (dk_at dksX0_pressing_2_2 20 rfl rfl)
theorem dX0_pressing_2_68 : decode cX0_pressing_2 68 = .ok (.invokespecial 68, 3) := dk_183 0 68 (dk_at dksX0_pressing_2_2 21 rfl rfl)
theorem dX0_pressing_2_71 : decode cX0_pressing_2 71 = .ok (.areturn, 1) := dk_176 (dk_at dksX0_pressing_2_3 0 rfl rfl)
abbrev cX0_without : ByteArray := prog_1_method_52_code
def yX0_without : MethodName := ⟨RX0, "without", "(II)I"⟩
def dkwX0_without_5 : List UInt8 := [21, 5, 21, 4, 96, 172]
abbrev dktX0_without_5 : List UInt8 := dkwX0_without_5 ++ []
def dkwX0_without_4 : List UInt8 := [167, 255, 197, 42, 45, 182, 0, 75, 182, 1, 60, 54, 5, 21, 5, 2, 160, 0, 7, 2, 167, 0, 8]
abbrev dktX0_without_4 : List UInt8 := dkwX0_without_4 ++ dktX0_without_5
def dkwX0_without_3 : List UInt8 := [16, 8, 27, 104, 21, 5, 96, 3, 79, 45, 16, 8, 21, 5, 104, 27, 96, 3, 79, 132, 5, 1]
abbrev dktX0_without_3 : List UInt8 := dkwX0_without_3 ++ dktX0_without_4
def dkwX0_without_2 : List UInt8 := [45, 16, 8, 27, 104, 21, 5, 96, 46, 45, 16, 8, 21, 5, 104, 27, 96, 46, 96, 96, 54, 4, 45]
abbrev dktX0_without_2 : List UInt8 := dkwX0_without_2 ++ dktX0_without_3
def dkwX0_without_1 : List UInt8 := [182, 0, 71, 78, 3, 54, 4, 3, 54, 5, 21, 5, 42, 180, 0, 12, 182, 0, 51, 162, 0, 53, 21, 4]
abbrev dktX0_without_1 : List UInt8 := dkwX0_without_1 ++ dktX0_without_2
def dkwX0_without_0 : List UInt8 := [42, 27, 182, 0, 154, 153, 0, 11, 42, 28, 182, 0, 165, 154, 0, 6, 16, 254, 172, 42, 180, 0, 12, 28]
abbrev dktX0_without_0 : List UInt8 := dkwX0_without_0 ++ dktX0_without_1
theorem dksX0_without_0 : cX0_without.data.toList.drop 0 = dktX0_without_0 := by decide +kernel
theorem dksX0_without_1 : cX0_without.data.toList.drop 24 = dktX0_without_1 := dk_seg dksX0_without_0 24 rfl rfl
theorem dksX0_without_2 : cX0_without.data.toList.drop 48 = dktX0_without_2 := dk_seg dksX0_without_1 24 rfl rfl
theorem dksX0_without_3 : cX0_without.data.toList.drop 71 = dktX0_without_3 := dk_seg dksX0_without_2 23 rfl rfl
theorem dksX0_without_4 : cX0_without.data.toList.drop 93 = dktX0_without_4 := dk_seg dksX0_without_3 22 rfl rfl
theorem dksX0_without_5 : cX0_without.data.toList.drop 116 = dktX0_without_5 := dk_seg dksX0_without_4 23 rfl rfl
theorem dX0_without_0 : decode cX0_without 0 = .ok (.aload_n 0, 1) := dk_42 (dk_at dksX0_without_0 0 rfl rfl)
theorem dX0_without_1 : decode cX0_without 1 = .ok (.iload_n 1, 1) := dk_27 (dk_at dksX0_without_0 1 rfl rfl)
theorem dX0_without_2 : decode cX0_without 2 = .ok (.invokevirtual 154, 3) := dk_182 0 154 (dk_at dksX0_without_0 2 rfl rfl)
theorem dX0_without_5 : decode cX0_without 5 = .ok (.ifCond .eq 11, 3) := dk_153 0 11 (dk_at dksX0_without_0 5 rfl rfl)
theorem dX0_without_8 : decode cX0_without 8 = .ok (.aload_n 0, 1) := dk_42 (dk_at dksX0_without_0 8 rfl rfl)
theorem dX0_without_9 : decode cX0_without 9 = .ok (.iload_n 2, 1) := dk_28 (dk_at dksX0_without_0 9 rfl rfl)
theorem dX0_without_10 : decode cX0_without 10 = .ok (.invokevirtual 165, 3) := dk_182 0 165 (dk_at dksX0_without_0 10 rfl rfl)
theorem dX0_without_13 : decode cX0_without 13 = .ok (.ifCond .ne 6, 3) := dk_154 0 6 (dk_at dksX0_without_0 13 rfl rfl)
theorem dX0_without_16 : decode cX0_without 16 = .ok (.bipush (-2), 2) := dk_16 254 (dk_at dksX0_without_0 16 rfl rfl)
theorem dX0_without_18 : decode cX0_without 18 = .ok (.ireturn, 1) := dk_172 (dk_at dksX0_without_0 18 rfl rfl)
theorem dX0_without_19 : decode cX0_without 19 = .ok (.aload_n 0, 1) := dk_42 (dk_at dksX0_without_0 19 rfl rfl)
theorem dX0_without_20 : decode cX0_without 20 = .ok (.getfield 12, 3) := dk_180 0 12 (dk_at dksX0_without_0 20 rfl rfl)
theorem dX0_without_23 : decode cX0_without 23 = .ok (.iload_n 2, 1) := dk_28 (dk_at dksX0_without_0 23 rfl rfl)
theorem dX0_without_24 : decode cX0_without 24 = .ok (.invokevirtual 71, 3) := dk_182 0 71 (dk_at dksX0_without_1 0 rfl rfl)
theorem dX0_without_27 : decode cX0_without 27 = .ok (.astore_n 3, 1) := dk_78 (dk_at dksX0_without_1 3 rfl rfl)
theorem dX0_without_28 : decode cX0_without 28 = .ok (.iconst 0, 1) := dk_3 (dk_at dksX0_without_1 4 rfl rfl)
theorem dX0_without_29 : decode cX0_without 29 = .ok (.istore 4, 2) := dk_54 4 (dk_at dksX0_without_1 5 rfl rfl)
theorem dX0_without_31 : decode cX0_without 31 = .ok (.iconst 0, 1) := dk_3 (dk_at dksX0_without_1 7 rfl rfl)
theorem dX0_without_32 : decode cX0_without 32 = .ok (.istore 5, 2) := dk_54 5 (dk_at dksX0_without_1 8 rfl rfl)
theorem dX0_without_34 : decode cX0_without 34 = .ok (.iload 5, 2) := dk_21 5 (dk_at dksX0_without_1 10 rfl rfl)
theorem dX0_without_36 : decode cX0_without 36 = .ok (.aload_n 0, 1) := dk_42 (dk_at dksX0_without_1 12 rfl rfl)
theorem dX0_without_37 : decode cX0_without 37 = .ok (.getfield 12, 3) := dk_180 0 12 (dk_at dksX0_without_1 13 rfl rfl)
theorem dX0_without_40 : decode cX0_without 40 = .ok (.invokevirtual 51, 3) := dk_182 0 51 (dk_at dksX0_without_1 16 rfl rfl)
theorem dX0_without_43 : decode cX0_without 43 = .ok (.if_icmp .ge 53, 3) := dk_162 0 53 (dk_at dksX0_without_1 19 rfl rfl)
theorem dX0_without_46 : decode cX0_without 46 = .ok (.iload 4, 2) := dk_21 4 (dk_at dksX0_without_1 22 rfl rfl)
theorem dX0_without_48 : decode cX0_without 48 = .ok (.aload_n 3, 1) := dk_45 (dk_at dksX0_without_2 0 rfl rfl)
theorem dX0_without_49 : decode cX0_without 49 = .ok (.bipush 8, 2) := dk_16 8 (dk_at dksX0_without_2 1 rfl rfl)
theorem dX0_without_51 : decode cX0_without 51 = .ok (.iload_n 1, 1) := dk_27 (dk_at dksX0_without_2 3 rfl rfl)
theorem dX0_without_52 : decode cX0_without 52 = .ok (.imul, 1) := dk_104 (dk_at dksX0_without_2 4 rfl rfl)
theorem dX0_without_53 : decode cX0_without 53 = .ok (.iload 5, 2) := dk_21 5 (dk_at dksX0_without_2 5 rfl rfl)
theorem dX0_without_55 : decode cX0_without 55 = .ok (.iadd, 1) := dk_96 (dk_at dksX0_without_2 7 rfl rfl)
theorem dX0_without_56 : decode cX0_without 56 = .ok (.iaload, 1) := dk_46 (dk_at dksX0_without_2 8 rfl rfl)
theorem dX0_without_57 : decode cX0_without 57 = .ok (.aload_n 3, 1) := dk_45 (dk_at dksX0_without_2 9 rfl rfl)
theorem dX0_without_58 : decode cX0_without 58 = .ok (.bipush 8, 2) := dk_16 8 (dk_at dksX0_without_2 10 rfl rfl)
theorem dX0_without_60 : decode cX0_without 60 = .ok (.iload 5, 2) := dk_21 5 (dk_at dksX0_without_2 12 rfl rfl)
theorem dX0_without_62 : decode cX0_without 62 = .ok (.imul, 1) := dk_104 (dk_at dksX0_without_2 14 rfl rfl)
theorem dX0_without_63 : decode cX0_without 63 = .ok (.iload_n 1, 1) := dk_27 (dk_at dksX0_without_2 15 rfl rfl)
theorem dX0_without_64 : decode cX0_without 64 = .ok (.iadd, 1) := dk_96 (dk_at dksX0_without_2 16 rfl rfl)
theorem dX0_without_65 : decode cX0_without 65 = .ok (.iaload, 1) := dk_46 (dk_at dksX0_without_2 17 rfl rfl)
theorem dX0_without_66 : decode cX0_without 66 = .ok (.iadd, 1) := dk_96 (dk_at dksX0_without_2 18 rfl rfl)
theorem dX0_without_67 : decode cX0_without 67 = .ok (.iadd, 1) := dk_96 (dk_at dksX0_without_2 19 rfl rfl)
theorem dX0_without_68 : decode cX0_without 68 = .ok (.istore 4, 2) := dk_54 4 (dk_at dksX0_without_2 20 rfl rfl)
theorem dX0_without_70 : decode cX0_without 70 = .ok (.aload_n 3, 1) := dk_45 (dk_at dksX0_without_2 22 rfl rfl)
theorem dX0_without_71 : decode cX0_without 71 = .ok (.bipush 8, 2) := dk_16 8 (dk_at dksX0_without_3 0 rfl rfl)
theorem dX0_without_73 : decode cX0_without 73 = .ok (.iload_n 1, 1) := dk_27 (dk_at dksX0_without_3 2 rfl rfl)
theorem dX0_without_74 : decode cX0_without 74 = .ok (.imul, 1) := dk_104 (dk_at dksX0_without_3 3 rfl rfl)
theorem dX0_without_75 : decode cX0_without 75 = .ok (.iload 5, 2) := dk_21 5 (dk_at dksX0_without_3 4 rfl rfl)
theorem dX0_without_77 : decode cX0_without 77 = .ok (.iadd, 1) := dk_96 (dk_at dksX0_without_3 6 rfl rfl)
theorem dX0_without_78 : decode cX0_without 78 = .ok (.iconst 0, 1) := dk_3 (dk_at dksX0_without_3 7 rfl rfl)
theorem dX0_without_79 : decode cX0_without 79 = .ok (.iastore, 1) := dk_79 (dk_at dksX0_without_3 8 rfl rfl)
theorem dX0_without_80 : decode cX0_without 80 = .ok (.aload_n 3, 1) := dk_45 (dk_at dksX0_without_3 9 rfl rfl)
theorem dX0_without_81 : decode cX0_without 81 = .ok (.bipush 8, 2) := dk_16 8 (dk_at dksX0_without_3 10 rfl rfl)
theorem dX0_without_83 : decode cX0_without 83 = .ok (.iload 5, 2) := dk_21 5 (dk_at dksX0_without_3 12 rfl rfl)
theorem dX0_without_85 : decode cX0_without 85 = .ok (.imul, 1) := dk_104 (dk_at dksX0_without_3 14 rfl rfl)
theorem dX0_without_86 : decode cX0_without 86 = .ok (.iload_n 1, 1) := dk_27 (dk_at dksX0_without_3 15 rfl rfl)
theorem dX0_without_87 : decode cX0_without 87 = .ok (.iadd, 1) := dk_96 (dk_at dksX0_without_3 16 rfl rfl)
theorem dX0_without_88 : decode cX0_without 88 = .ok (.iconst 0, 1) := dk_3 (dk_at dksX0_without_3 17 rfl rfl)
theorem dX0_without_89 : decode cX0_without 89 = .ok (.iastore, 1) := dk_79 (dk_at dksX0_without_3 18 rfl rfl)
theorem dX0_without_90 : decode cX0_without 90 = .ok (.iinc 5 1, 3) := dk_132 5 1 (dk_at dksX0_without_3 19 rfl rfl)
theorem dX0_without_93 : decode cX0_without 93 = .ok (.goto (-59), 3) := dk_167 255 197 (dk_at dksX0_without_4 0 rfl rfl)
theorem dX0_without_96 : decode cX0_without 96 = .ok (.aload_n 0, 1) := dk_42 (dk_at dksX0_without_4 3 rfl rfl)
theorem dX0_without_97 : decode cX0_without 97 = .ok (.aload_n 3, 1) := dk_45 (dk_at dksX0_without_4 4 rfl rfl)
theorem dX0_without_98 : decode cX0_without 98 = .ok (.invokevirtual 75, 3) := dk_182 0 75 (dk_at dksX0_without_4 5 rfl rfl)
theorem dX0_without_101 : decode cX0_without 101 = .ok (.invokevirtual 316, 3) := dk_182 1 60 (dk_at dksX0_without_4 8 rfl rfl)
theorem dX0_without_104 : decode cX0_without 104 = .ok (.istore 5, 2) := dk_54 5 (dk_at dksX0_without_4 11 rfl rfl)
theorem dX0_without_106 : decode cX0_without 106 = .ok (.iload 5, 2) := dk_21 5 (dk_at dksX0_without_4 13 rfl rfl)
theorem dX0_without_108 : decode cX0_without 108 = .ok (.iconst (-1), 1) := dk_2 (dk_at dksX0_without_4 15 rfl rfl)
theorem dX0_without_109 : decode cX0_without 109 = .ok (.if_icmp .ne 7, 3) := dk_160 0 7 (dk_at dksX0_without_4 16 rfl rfl)
theorem dX0_without_112 : decode cX0_without 112 = .ok (.iconst (-1), 1) := dk_2 (dk_at dksX0_without_4 19 rfl rfl)
theorem dX0_without_113 : decode cX0_without 113 = .ok (.goto 8, 3) := dk_167 0 8 (dk_at dksX0_without_4 20 rfl rfl)
theorem dX0_without_116 : decode cX0_without 116 = .ok (.iload 5, 2) := dk_21 5 (dk_at dksX0_without_5 0 rfl rfl)
theorem dX0_without_118 : decode cX0_without 118 = .ok (.iload 4, 2) := dk_21 4 (dk_at dksX0_without_5 2 rfl rfl)
theorem dX0_without_120 : decode cX0_without 120 = .ok (.iadd, 1) := dk_96 (dk_at dksX0_without_5 4 rfl rfl)
theorem dX0_without_121 : decode cX0_without 121 = .ok (.ireturn, 1) := dk_172 (dk_at dksX0_without_5 5 rfl rfl)
abbrev cX0_relief : ByteArray := prog_1_method_54_code
def yX0_relief : MethodName := ⟨RX0, "relief", "(II)I"⟩
def dkwX0_relief_1 : List UInt8 := [78, 45, 199, 0, 7, 2, 167, 0, 14, 19, 1, 7, 42, 27, 28, 45, 182, 1, 73, 96, 172]
abbrev dktX0_relief_1 : List UInt8 := dkwX0_relief_1 ++ []
def dkwX0_relief_0 : List UInt8 := [42, 27, 182, 0, 154, 153, 0, 11, 42, 28, 182, 0, 165, 154, 0, 6, 16, 254, 172, 42, 28, 182, 0, 245]
abbrev dktX0_relief_0 : List UInt8 := dkwX0_relief_0 ++ dktX0_relief_1
theorem dksX0_relief_0 : cX0_relief.data.toList.drop 0 = dktX0_relief_0 := by decide +kernel
theorem dksX0_relief_1 : cX0_relief.data.toList.drop 24 = dktX0_relief_1 := dk_seg dksX0_relief_0 24 rfl rfl
theorem dX0_relief_0 : decode cX0_relief 0 = .ok (.aload_n 0, 1) := dk_42 (dk_at dksX0_relief_0 0 rfl rfl)
theorem dX0_relief_1 : decode cX0_relief 1 = .ok (.iload_n 1, 1) := dk_27 (dk_at dksX0_relief_0 1 rfl rfl)
theorem dX0_relief_2 : decode cX0_relief 2 = .ok (.invokevirtual 154, 3) := dk_182 0 154 (dk_at dksX0_relief_0 2 rfl rfl)
theorem dX0_relief_5 : decode cX0_relief 5 = .ok (.ifCond .eq 11, 3) := dk_153 0 11 (dk_at dksX0_relief_0 5 rfl rfl)
theorem dX0_relief_8 : decode cX0_relief 8 = .ok (.aload_n 0, 1) := dk_42 (dk_at dksX0_relief_0 8 rfl rfl)
theorem dX0_relief_9 : decode cX0_relief 9 = .ok (.iload_n 2, 1) := dk_28 (dk_at dksX0_relief_0 9 rfl rfl)
theorem dX0_relief_10 : decode cX0_relief 10 = .ok (.invokevirtual 165, 3) := dk_182 0 165 (dk_at dksX0_relief_0 10 rfl rfl)
theorem dX0_relief_13 : decode cX0_relief 13 = .ok (.ifCond .ne 6, 3) := dk_154 0 6 (dk_at dksX0_relief_0 13 rfl rfl)
theorem dX0_relief_16 : decode cX0_relief 16 = .ok (.bipush (-2), 2) := dk_16 254 (dk_at dksX0_relief_0 16 rfl rfl)
theorem dX0_relief_18 : decode cX0_relief 18 = .ok (.ireturn, 1) := dk_172 (dk_at dksX0_relief_0 18 rfl rfl)
theorem dX0_relief_19 : decode cX0_relief 19 = .ok (.aload_n 0, 1) := dk_42 (dk_at dksX0_relief_0 19 rfl rfl)
theorem dX0_relief_20 : decode cX0_relief 20 = .ok (.iload_n 2, 1) := dk_28 (dk_at dksX0_relief_0 20 rfl rfl)
theorem dX0_relief_21 : decode cX0_relief 21 = .ok (.invokevirtual 245, 3) := dk_182 0 245 (dk_at dksX0_relief_0 21 rfl rfl)
theorem dX0_relief_24 : decode cX0_relief 24 = .ok (.astore_n 3, 1) := dk_78 (dk_at dksX0_relief_1 0 rfl rfl)
theorem dX0_relief_25 : decode cX0_relief 25 = .ok (.aload_n 3, 1) := dk_45 (dk_at dksX0_relief_1 1 rfl rfl)
theorem dX0_relief_26 : decode cX0_relief 26 = .ok (.ifnonnull 7, 3) := dk_199 0 7 (dk_at dksX0_relief_1 2 rfl rfl)
theorem dX0_relief_29 : decode cX0_relief 29 = .ok (.iconst (-1), 1) := dk_2 (dk_at dksX0_relief_1 5 rfl rfl)
theorem dX0_relief_30 : decode cX0_relief 30 = .ok (.goto 14, 3) := dk_167 0 14 (dk_at dksX0_relief_1 6 rfl rfl)
theorem dX0_relief_33 : decode cX0_relief 33 = .ok (.ldc_w 263, 3) := dk_19 1 7 (dk_at dksX0_relief_1 9 rfl rfl)
theorem dX0_relief_36 : decode cX0_relief 36 = .ok (.aload_n 0, 1) := dk_42 (dk_at dksX0_relief_1 12 rfl rfl)
theorem dX0_relief_37 : decode cX0_relief 37 = .ok (.iload_n 1, 1) := dk_27 (dk_at dksX0_relief_1 13 rfl rfl)
theorem dX0_relief_38 : decode cX0_relief 38 = .ok (.iload_n 2, 1) := dk_28 (dk_at dksX0_relief_1 14 rfl rfl)
theorem dX0_relief_39 : decode cX0_relief 39 = .ok (.aload_n 3, 1) := dk_45 (dk_at dksX0_relief_1 15 rfl rfl)
theorem dX0_relief_40 : decode cX0_relief 40 = .ok (.invokevirtual 329, 3) := dk_182 1 73 (dk_at dksX0_relief_1 16 rfl rfl)
theorem dX0_relief_43 : decode cX0_relief 43 = .ok (.iadd, 1) := dk_96 (dk_at dksX0_relief_1 19 rfl rfl)
theorem dX0_relief_44 : decode cX0_relief 44 = .ok (.ireturn, 1) := dk_172 (dk_at dksX0_relief_1 20 rfl rfl)
abbrev cX0_reliefOf : ByteArray := prog_1_method_53_code
def yX0_reliefOf : MethodName := ⟨RX0, "reliefOf", "(II[I)I"⟩
def dkwX0_reliefOf_3 : List UInt8 := [21, 4, 172]
abbrev dktX0_reliefOf_3 : List UInt8 := dkwX0_reliefOf_3 ++ []
def dkwX0_reliefOf_2 : List UInt8 := [21, 5, 96, 46, 45, 16, 8, 21, 5, 104, 27, 96, 46, 96, 100, 54, 4, 132, 5, 1, 167, 255, 217]
abbrev dktX0_reliefOf_2 : List UInt8 := dkwX0_reliefOf_2 ++ dktX0_reliefOf_3
def dkwX0_reliefOf_1 : List UInt8 := [54, 4, 3, 54, 5, 21, 5, 42, 180, 0, 12, 182, 0, 51, 162, 0, 33, 21, 4, 45, 16, 8, 27, 104]
abbrev dktX0_reliefOf_1 : List UInt8 := dkwX0_reliefOf_1 ++ dktX0_reliefOf_2
def dkwX0_reliefOf_0 : List UInt8 := [42, 180, 0, 12, 27, 28, 4, 4, 182, 1, 22, 42, 180, 0, 12, 27, 28, 3, 4, 182, 1, 22, 96]
abbrev dktX0_reliefOf_0 : List UInt8 := dkwX0_reliefOf_0 ++ dktX0_reliefOf_1
theorem dksX0_reliefOf_0 : cX0_reliefOf.data.toList.drop 0 = dktX0_reliefOf_0 := by decide +kernel
theorem dksX0_reliefOf_1 : cX0_reliefOf.data.toList.drop 23 = dktX0_reliefOf_1 := dk_seg dksX0_reliefOf_0 23 rfl rfl
theorem dksX0_reliefOf_2 : cX0_reliefOf.data.toList.drop 47 = dktX0_reliefOf_2 := dk_seg dksX0_reliefOf_1 24 rfl rfl
theorem dksX0_reliefOf_3 : cX0_reliefOf.data.toList.drop 70 = dktX0_reliefOf_3 := dk_seg dksX0_reliefOf_2 23 rfl rfl
theorem dX0_reliefOf_0 : decode cX0_reliefOf 0 = .ok (.aload_n 0, 1) := dk_42 (dk_at dksX0_reliefOf_0 0 rfl rfl)
theorem dX0_reliefOf_1 : decode cX0_reliefOf 1 = .ok (.getfield 12, 3) := dk_180 0 12 (dk_at dksX0_reliefOf_0 1 rfl rfl)
theorem dX0_reliefOf_4 : decode cX0_reliefOf 4 = .ok (.iload_n 1, 1) := dk_27 (dk_at dksX0_reliefOf_0 4 rfl rfl)
theorem dX0_reliefOf_5 : decode cX0_reliefOf 5 = .ok (.iload_n 2, 1) := dk_28 (dk_at dksX0_reliefOf_0 5 rfl rfl)
theorem dX0_reliefOf_6 : decode cX0_reliefOf 6 = .ok (.iconst 1, 1) := dk_4 (dk_at dksX0_reliefOf_0 6 rfl rfl)
theorem dX0_reliefOf_7 : decode cX0_reliefOf 7 = .ok (.iconst 1, 1) := dk_4 (dk_at dksX0_reliefOf_0 7 rfl rfl)
theorem dX0_reliefOf_8 : decode cX0_reliefOf 8 = .ok (.invokevirtual 278, 3) := dk_182 1 22 (dk_at dksX0_reliefOf_0 8 rfl rfl)
theorem dX0_reliefOf_11 : decode cX0_reliefOf 11 = .ok (.aload_n 0, 1) := dk_42 (dk_at dksX0_reliefOf_0 11 rfl rfl)
theorem dX0_reliefOf_12 : decode cX0_reliefOf 12 = .ok (.getfield 12, 3) := dk_180 0 12 (dk_at dksX0_reliefOf_0 12 rfl rfl)
theorem dX0_reliefOf_15 : decode cX0_reliefOf 15 = .ok (.iload_n 1, 1) := dk_27 (dk_at dksX0_reliefOf_0 15 rfl rfl)
theorem dX0_reliefOf_16 : decode cX0_reliefOf 16 = .ok (.iload_n 2, 1) := dk_28 (dk_at dksX0_reliefOf_0 16 rfl rfl)
theorem dX0_reliefOf_17 : decode cX0_reliefOf 17 = .ok (.iconst 0, 1) := dk_3 (dk_at dksX0_reliefOf_0 17 rfl rfl)
theorem dX0_reliefOf_18 : decode cX0_reliefOf 18 = .ok (.iconst 1, 1) := dk_4 (dk_at dksX0_reliefOf_0 18 rfl rfl)
theorem dX0_reliefOf_19 : decode cX0_reliefOf 19 = .ok (.invokevirtual 278, 3) := dk_182 1 22 (dk_at dksX0_reliefOf_0 19 rfl rfl)
theorem dX0_reliefOf_22 : decode cX0_reliefOf 22 = .ok (.iadd, 1) := dk_96 (dk_at dksX0_reliefOf_0 22 rfl rfl)
theorem dX0_reliefOf_23 : decode cX0_reliefOf 23 = .ok (.istore 4, 2) := dk_54 4 (dk_at dksX0_reliefOf_1 0 rfl rfl)
theorem dX0_reliefOf_25 : decode cX0_reliefOf 25 = .ok (.iconst 0, 1) := dk_3 (dk_at dksX0_reliefOf_1 2 rfl rfl)
theorem dX0_reliefOf_26 : decode cX0_reliefOf 26 = .ok (.istore 5, 2) := dk_54 5 (dk_at dksX0_reliefOf_1 3 rfl rfl)
theorem dX0_reliefOf_28 : decode cX0_reliefOf 28 = .ok (.iload 5, 2) := dk_21 5 (dk_at dksX0_reliefOf_1 5 rfl rfl)
theorem dX0_reliefOf_30 : decode cX0_reliefOf 30 = .ok (.aload_n 0, 1) := dk_42 (dk_at dksX0_reliefOf_1 7 rfl rfl)
theorem dX0_reliefOf_31 : decode cX0_reliefOf 31 = .ok (.getfield 12, 3) := dk_180 0 12 (dk_at dksX0_reliefOf_1 8 rfl rfl)
theorem dX0_reliefOf_34 : decode cX0_reliefOf 34 = .ok (.invokevirtual 51, 3) := dk_182 0 51 (dk_at dksX0_reliefOf_1 11 rfl rfl)
theorem dX0_reliefOf_37 : decode cX0_reliefOf 37 = .ok (.if_icmp .ge 33, 3) := dk_162 0 33 (dk_at dksX0_reliefOf_1 14 rfl rfl)
theorem dX0_reliefOf_40 : decode cX0_reliefOf 40 = .ok (.iload 4, 2) := dk_21 4 (dk_at dksX0_reliefOf_1 17 rfl rfl)
theorem dX0_reliefOf_42 : decode cX0_reliefOf 42 = .ok (.aload_n 3, 1) := dk_45 (dk_at dksX0_reliefOf_1 19 rfl rfl)
theorem dX0_reliefOf_43 : decode cX0_reliefOf 43 = .ok (.bipush 8, 2) := dk_16 8 (dk_at dksX0_reliefOf_1 20 rfl rfl)
theorem dX0_reliefOf_45 : decode cX0_reliefOf 45 = .ok (.iload_n 1, 1) := dk_27 (dk_at dksX0_reliefOf_1 22 rfl rfl)
theorem dX0_reliefOf_46 : decode cX0_reliefOf 46 = .ok (.imul, 1) := dk_104 (dk_at dksX0_reliefOf_1 23 rfl rfl)
theorem dX0_reliefOf_47 : decode cX0_reliefOf 47 = .ok (.iload 5, 2) := dk_21 5 (dk_at dksX0_reliefOf_2 0 rfl rfl)
theorem dX0_reliefOf_49 : decode cX0_reliefOf 49 = .ok (.iadd, 1) := dk_96 (dk_at dksX0_reliefOf_2 2 rfl rfl)
theorem dX0_reliefOf_50 : decode cX0_reliefOf 50 = .ok (.iaload, 1) := dk_46 (dk_at dksX0_reliefOf_2 3 rfl rfl)
theorem dX0_reliefOf_51 : decode cX0_reliefOf 51 = .ok (.aload_n 3, 1) := dk_45 (dk_at dksX0_reliefOf_2 4 rfl rfl)
theorem dX0_reliefOf_52 : decode cX0_reliefOf 52 = .ok (.bipush 8, 2) := dk_16 8 (dk_at dksX0_reliefOf_2 5 rfl rfl)
theorem dX0_reliefOf_54 : decode cX0_reliefOf 54 = .ok (.iload 5, 2) := dk_21 5 (dk_at dksX0_reliefOf_2 7 rfl rfl)
theorem dX0_reliefOf_56 : decode cX0_reliefOf 56 = .ok (.imul, 1) := dk_104 (dk_at dksX0_reliefOf_2 9 rfl rfl)
theorem dX0_reliefOf_57 : decode cX0_reliefOf 57 = .ok (.iload_n 1, 1) := dk_27 (dk_at dksX0_reliefOf_2 10 rfl rfl)
theorem dX0_reliefOf_58 : decode cX0_reliefOf 58 = .ok (.iadd, 1) := dk_96 (dk_at dksX0_reliefOf_2 11 rfl rfl)
theorem dX0_reliefOf_59 : decode cX0_reliefOf 59 = .ok (.iaload, 1) := dk_46 (dk_at dksX0_reliefOf_2 12 rfl rfl)
theorem dX0_reliefOf_60 : decode cX0_reliefOf 60 = .ok (.iadd, 1) := dk_96 (dk_at dksX0_reliefOf_2 13 rfl rfl)
theorem dX0_reliefOf_61 : decode cX0_reliefOf 61 = .ok (.isub, 1) := dk_100 (dk_at dksX0_reliefOf_2 14 rfl rfl)
theorem dX0_reliefOf_62 : decode cX0_reliefOf 62 = .ok (.istore 4, 2) := dk_54 4 (dk_at dksX0_reliefOf_2 15 rfl rfl)
theorem dX0_reliefOf_64 : decode cX0_reliefOf 64 = .ok (.iinc 5 1, 3) := dk_132 5 1 (dk_at dksX0_reliefOf_2 17 rfl rfl)
theorem dX0_reliefOf_67 : decode cX0_reliefOf 67 = .ok (.goto (-39), 3) := dk_167 255 217 (dk_at dksX0_reliefOf_2 20 rfl rfl)
theorem dX0_reliefOf_70 : decode cX0_reliefOf 70 = .ok (.iload 4, 2) := dk_21 4 (dk_at dksX0_reliefOf_3 0 rfl rfl)
theorem dX0_reliefOf_72 : decode cX0_reliefOf 72 = .ok (.ireturn, 1) := dk_172 (dk_at dksX0_reliefOf_3 2 rfl rfl)
abbrev cX0_relieved : ByteArray := prog_1_method_55_code
def yX0_relieved : MethodName := ⟨RX0, "relieved", "(I)I"⟩
def dkwX0_relieved_3 : List UInt8 := [29, 172]
abbrev dktX0_relieved_3 : List UInt8 := dkwX0_relieved_3 ++ []
def dkwX0_relieved_2 : List UInt8 := [27, 44, 182, 1, 73, 42, 29, 27, 44, 182, 1, 73, 164, 0, 6, 21, 4, 62, 132, 4, 1, 167, 255, 215]
abbrev dktX0_relieved_2 : List UInt8 := dkwX0_relieved_2 ++ dktX0_relieved_3
def dkwX0_relieved_1 : List UInt8 := [62, 3, 54, 4, 21, 4, 42, 180, 0, 12, 182, 0, 51, 162, 0, 35, 29, 2, 159, 0, 21, 42, 21, 4]
abbrev dktX0_relieved_1 : List UInt8 := dkwX0_relieved_1 ++ dktX0_relieved_2
def dkwX0_relieved_0 : List UInt8 := [42, 27, 182, 0, 165, 154, 0, 6, 16, 254, 172, 42, 27, 182, 0, 245, 77, 44, 199, 0, 5, 2, 172, 2]
abbrev dktX0_relieved_0 : List UInt8 := dkwX0_relieved_0 ++ dktX0_relieved_1
theorem dksX0_relieved_0 : cX0_relieved.data.toList.drop 0 = dktX0_relieved_0 := by decide +kernel
theorem dksX0_relieved_1 : cX0_relieved.data.toList.drop 24 = dktX0_relieved_1 := dk_seg dksX0_relieved_0 24 rfl rfl
theorem dksX0_relieved_2 : cX0_relieved.data.toList.drop 48 = dktX0_relieved_2 := dk_seg dksX0_relieved_1 24 rfl rfl
theorem dksX0_relieved_3 : cX0_relieved.data.toList.drop 72 = dktX0_relieved_3 := dk_seg dksX0_relieved_2 24 rfl rfl
theorem dX0_relieved_0 : decode cX0_relieved 0 = .ok (.aload_n 0, 1) := dk_42 (dk_at dksX0_relieved_0 0 rfl rfl)
theorem dX0_relieved_1 : decode cX0_relieved 1 = .ok (.iload_n 1, 1) := dk_27 (dk_at dksX0_relieved_0 1 rfl rfl)
theorem dX0_relieved_2 : decode cX0_relieved 2 = .ok (.invokevirtual 165, 3) := dk_182 0 165 (dk_at dksX0_relieved_0 2 rfl rfl)
theorem dX0_relieved_5 : decode cX0_relieved 5 = .ok (.ifCond .ne 6, 3) := dk_154 0 6 (dk_at dksX0_relieved_0 5 rfl rfl)
theorem dX0_relieved_8 : decode cX0_relieved 8 = .ok (.bipush (-2), 2) := dk_16 254 (dk_at dksX0_relieved_0 8 rfl rfl)
theorem dX0_relieved_10 : decode cX0_relieved 10 = .ok (.ireturn, 1) := dk_172 (dk_at dksX0_relieved_0 10 rfl rfl)
theorem dX0_relieved_11 : decode cX0_relieved 11 = .ok (.aload_n 0, 1) := dk_42 (dk_at dksX0_relieved_0 11 rfl rfl)
theorem dX0_relieved_12 : decode cX0_relieved 12 = .ok (.iload_n 1, 1) := dk_27 (dk_at dksX0_relieved_0 12 rfl rfl)
theorem dX0_relieved_13 : decode cX0_relieved 13 = .ok (.invokevirtual 245, 3) := dk_182 0 245 (dk_at dksX0_relieved_0 13 rfl rfl)
theorem dX0_relieved_16 : decode cX0_relieved 16 = .ok (.astore_n 2, 1) := dk_77 (dk_at dksX0_relieved_0 16 rfl rfl)
theorem dX0_relieved_17 : decode cX0_relieved 17 = .ok (.aload_n 2, 1) := dk_44 (dk_at dksX0_relieved_0 17 rfl rfl)
theorem dX0_relieved_18 : decode cX0_relieved 18 = .ok (.ifnonnull 5, 3) := dk_199 0 5 (dk_at dksX0_relieved_0 18 rfl rfl)
theorem dX0_relieved_21 : decode cX0_relieved 21 = .ok (.iconst (-1), 1) := dk_2 (dk_at dksX0_relieved_0 21 rfl rfl)
theorem dX0_relieved_22 : decode cX0_relieved 22 = .ok (.ireturn, 1) := dk_172 (dk_at dksX0_relieved_0 22 rfl rfl)
theorem dX0_relieved_23 : decode cX0_relieved 23 = .ok (.iconst (-1), 1) := dk_2 (dk_at dksX0_relieved_0 23 rfl rfl)
theorem dX0_relieved_24 : decode cX0_relieved 24 = .ok (.istore_n 3, 1) := dk_62 (dk_at dksX0_relieved_1 0 rfl rfl)
theorem dX0_relieved_25 : decode cX0_relieved 25 = .ok (.iconst 0, 1) := dk_3 (dk_at dksX0_relieved_1 1 rfl rfl)
theorem dX0_relieved_26 : decode cX0_relieved 26 = .ok (.istore 4, 2) := dk_54 4 (dk_at dksX0_relieved_1 2 rfl rfl)
theorem dX0_relieved_28 : decode cX0_relieved 28 = .ok (.iload 4, 2) := dk_21 4 (dk_at dksX0_relieved_1 4 rfl rfl)
theorem dX0_relieved_30 : decode cX0_relieved 30 = .ok (.aload_n 0, 1) := dk_42 (dk_at dksX0_relieved_1 6 rfl rfl)
theorem dX0_relieved_31 : decode cX0_relieved 31 = .ok (.getfield 12, 3) := dk_180 0 12 (dk_at dksX0_relieved_1 7 rfl rfl)
theorem dX0_relieved_34 : decode cX0_relieved 34 = .ok (.invokevirtual 51, 3) := dk_182 0 51 (dk_at dksX0_relieved_1 10 rfl rfl)
theorem dX0_relieved_37 : decode cX0_relieved 37 = .ok (.if_icmp .ge 35, 3) := dk_162 0 35 (dk_at dksX0_relieved_1 13 rfl rfl)
theorem dX0_relieved_40 : decode cX0_relieved 40 = .ok (.iload_n 3, 1) := dk_29 (dk_at dksX0_relieved_1 16 rfl rfl)
theorem dX0_relieved_41 : decode cX0_relieved 41 = .ok (.iconst (-1), 1) := dk_2 (dk_at dksX0_relieved_1 17 rfl rfl)
theorem dX0_relieved_42 : decode cX0_relieved 42 = .ok (.if_icmp .eq 21, 3) := dk_159 0 21 (dk_at dksX0_relieved_1 18 rfl rfl)
theorem dX0_relieved_45 : decode cX0_relieved 45 = .ok (.aload_n 0, 1) := dk_42 (dk_at dksX0_relieved_1 21 rfl rfl)
theorem dX0_relieved_46 : decode cX0_relieved 46 = .ok (.iload 4, 2) := dk_21 4 (dk_at dksX0_relieved_1 22 rfl rfl)
theorem dX0_relieved_48 : decode cX0_relieved 48 = .ok (.iload_n 1, 1) := dk_27 (dk_at dksX0_relieved_2 0 rfl rfl)
theorem dX0_relieved_49 : decode cX0_relieved 49 = .ok (.aload_n 2, 1) := dk_44 (dk_at dksX0_relieved_2 1 rfl rfl)
theorem dX0_relieved_50 : decode cX0_relieved 50 = .ok (.invokevirtual 329, 3) := dk_182 1 73 (dk_at dksX0_relieved_2 2 rfl rfl)
theorem dX0_relieved_53 : decode cX0_relieved 53 = .ok (.aload_n 0, 1) := dk_42 (dk_at dksX0_relieved_2 5 rfl rfl)
theorem dX0_relieved_54 : decode cX0_relieved 54 = .ok (.iload_n 3, 1) := dk_29 (dk_at dksX0_relieved_2 6 rfl rfl)
theorem dX0_relieved_55 : decode cX0_relieved 55 = .ok (.iload_n 1, 1) := dk_27 (dk_at dksX0_relieved_2 7 rfl rfl)
theorem dX0_relieved_56 : decode cX0_relieved 56 = .ok (.aload_n 2, 1) := dk_44 (dk_at dksX0_relieved_2 8 rfl rfl)
theorem dX0_relieved_57 : decode cX0_relieved 57 = .ok (.invokevirtual 329, 3) := dk_182 1 73 (dk_at dksX0_relieved_2 9 rfl rfl)
theorem dX0_relieved_60 : decode cX0_relieved 60 = .ok (.if_icmp .le 6, 3) := dk_164 0 6 (dk_at dksX0_relieved_2 12 rfl rfl)
theorem dX0_relieved_63 : decode cX0_relieved 63 = .ok (.iload 4, 2) := dk_21 4 (dk_at dksX0_relieved_2 15 rfl rfl)
theorem dX0_relieved_65 : decode cX0_relieved 65 = .ok (.istore_n 3, 1) := dk_62 (dk_at dksX0_relieved_2 17 rfl rfl)
theorem dX0_relieved_66 : decode cX0_relieved 66 = .ok (.iinc 4 1, 3) := dk_132 4 1 (dk_at dksX0_relieved_2 18 rfl rfl)
theorem dX0_relieved_69 : decode cX0_relieved 69 = .ok (.goto (-41), 3) := dk_167 255 215 (dk_at dksX0_relieved_2 21 rfl rfl)
theorem dX0_relieved_72 : decode cX0_relieved 72 = .ok (.iload_n 3, 1) := dk_29 (dk_at dksX0_relieved_3 0 rfl rfl)
theorem dX0_relieved_73 : decode cX0_relieved 73 = .ok (.ireturn, 1) := dk_172 (dk_at dksX0_relieved_3 1 rfl rfl)
abbrev cX0_through : ByteArray := prog_1_method_56_code
def yX0_through : MethodName := ⟨RX0, "through", "(III)I"⟩
def dkwX0_through_3 : List UInt8 := [184, 1, 77, 172]
abbrev dktX0_through_3 : List UInt8 := dkwX0_through_3 ++ []
def dkwX0_through_2 : List UInt8 := [182, 0, 245, 58, 4, 25, 4, 199, 0, 7, 2, 167, 0, 16, 42, 180, 0, 12, 182, 0, 51, 25, 4, 27]
abbrev dktX0_through_2 : List UInt8 := dkwX0_through_2 ++ dktX0_through_3
def dkwX0_through_1 : List UInt8 := [154, 0, 6, 16, 254, 172, 29, 154, 0, 14, 42, 180, 0, 12, 28, 182, 0, 71, 167, 0, 8, 42, 28]
abbrev dktX0_through_1 : List UInt8 := dkwX0_through_1 ++ dktX0_through_2
def dkwX0_through_0 : List UInt8 := [42, 27, 182, 0, 154, 153, 0, 21, 42, 28, 182, 0, 165, 153, 0, 13, 29, 133, 9, 10, 184, 0, 112]
abbrev dktX0_through_0 : List UInt8 := dkwX0_through_0 ++ dktX0_through_1
theorem dksX0_through_0 : cX0_through.data.toList.drop 0 = dktX0_through_0 := by decide +kernel
theorem dksX0_through_1 : cX0_through.data.toList.drop 23 = dktX0_through_1 := dk_seg dksX0_through_0 23 rfl rfl
theorem dksX0_through_2 : cX0_through.data.toList.drop 46 = dktX0_through_2 := dk_seg dksX0_through_1 23 rfl rfl
theorem dksX0_through_3 : cX0_through.data.toList.drop 70 = dktX0_through_3 := dk_seg dksX0_through_2 24 rfl rfl
theorem dX0_through_0 : decode cX0_through 0 = .ok (.aload_n 0, 1) := dk_42 (dk_at dksX0_through_0 0 rfl rfl)
theorem dX0_through_1 : decode cX0_through 1 = .ok (.iload_n 1, 1) := dk_27 (dk_at dksX0_through_0 1 rfl rfl)
theorem dX0_through_2 : decode cX0_through 2 = .ok (.invokevirtual 154, 3) := dk_182 0 154 (dk_at dksX0_through_0 2 rfl rfl)
theorem dX0_through_5 : decode cX0_through 5 = .ok (.ifCond .eq 21, 3) := dk_153 0 21 (dk_at dksX0_through_0 5 rfl rfl)
theorem dX0_through_8 : decode cX0_through 8 = .ok (.aload_n 0, 1) := dk_42 (dk_at dksX0_through_0 8 rfl rfl)
theorem dX0_through_9 : decode cX0_through 9 = .ok (.iload_n 2, 1) := dk_28 (dk_at dksX0_through_0 9 rfl rfl)
theorem dX0_through_10 : decode cX0_through 10 = .ok (.invokevirtual 165, 3) := dk_182 0 165 (dk_at dksX0_through_0 10 rfl rfl)
theorem dX0_through_13 : decode cX0_through 13 = .ok (.ifCond .eq 13, 3) := dk_153 0 13 (dk_at dksX0_through_0 13 rfl rfl)
theorem dX0_through_16 : decode cX0_through 16 = .ok (.iload_n 3, 1) := dk_29 (dk_at dksX0_through_0 16 rfl rfl)
theorem dX0_through_17 : decode cX0_through 17 = .ok (.i2l, 1) := dk_133 (dk_at dksX0_through_0 17 rfl rfl)
theorem dX0_through_18 : decode cX0_through 18 = .ok (.lconst 0, 1) := dk_9 (dk_at dksX0_through_0 18 rfl rfl)
theorem dX0_through_19 : decode cX0_through 19 = .ok (.lconst 1, 1) := dk_10 (dk_at dksX0_through_0 19 rfl rfl)
theorem dX0_through_20 : decode cX0_through 20 = .ok (.invokestatic 112, 3) := dk_184 0 112 (dk_at dksX0_through_0 20 rfl rfl)
theorem dX0_through_23 : decode cX0_through 23 = .ok (.ifCond .ne 6, 3) := dk_154 0 6 (dk_at dksX0_through_1 0 rfl rfl)
theorem dX0_through_26 : decode cX0_through 26 = .ok (.bipush (-2), 2) := dk_16 254 (dk_at dksX0_through_1 3 rfl rfl)
theorem dX0_through_28 : decode cX0_through 28 = .ok (.ireturn, 1) := dk_172 (dk_at dksX0_through_1 5 rfl rfl)
theorem dX0_through_29 : decode cX0_through 29 = .ok (.iload_n 3, 1) := dk_29 (dk_at dksX0_through_1 6 rfl rfl)
theorem dX0_through_30 : decode cX0_through 30 = .ok (.ifCond .ne 14, 3) := dk_154 0 14 (dk_at dksX0_through_1 7 rfl rfl)
theorem dX0_through_33 : decode cX0_through 33 = .ok (.aload_n 0, 1) := dk_42 (dk_at dksX0_through_1 10 rfl rfl)
theorem dX0_through_34 : decode cX0_through 34 = .ok (.getfield 12, 3) := dk_180 0 12 (dk_at dksX0_through_1 11 rfl rfl)
theorem dX0_through_37 : decode cX0_through 37 = .ok (.iload_n 2, 1) := dk_28 (dk_at dksX0_through_1 14 rfl rfl)
theorem dX0_through_38 : decode cX0_through 38 = .ok (.invokevirtual 71, 3) := dk_182 0 71 (dk_at dksX0_through_1 15 rfl rfl)
theorem dX0_through_41 : decode cX0_through 41 = .ok (.goto 8, 3) := dk_167 0 8 (dk_at dksX0_through_1 18 rfl rfl)
theorem dX0_through_44 : decode cX0_through 44 = .ok (.aload_n 0, 1) := dk_42 (dk_at dksX0_through_1 21 rfl rfl)
theorem dX0_through_45 : decode cX0_through 45 = .ok (.iload_n 2, 1) := dk_28 (dk_at dksX0_through_1 22 rfl rfl)
theorem dX0_through_46 : decode cX0_through 46 = .ok (.invokevirtual 245, 3) := dk_182 0 245 (dk_at dksX0_through_2 0 rfl rfl)
theorem dX0_through_49 : decode cX0_through 49 = .ok (.astore 4, 2) := dk_58 4 (dk_at dksX0_through_2 3 rfl rfl)
theorem dX0_through_51 : decode cX0_through 51 = .ok (.aload 4, 2) := dk_25 4 (dk_at dksX0_through_2 5 rfl rfl)
theorem dX0_through_53 : decode cX0_through 53 = .ok (.ifnonnull 7, 3) := dk_199 0 7 (dk_at dksX0_through_2 7 rfl rfl)
theorem dX0_through_56 : decode cX0_through 56 = .ok (.iconst (-1), 1) := dk_2 (dk_at dksX0_through_2 10 rfl rfl)
theorem dX0_through_57 : decode cX0_through 57 = .ok (.goto 16, 3) := dk_167 0 16 (dk_at dksX0_through_2 11 rfl rfl)
theorem dX0_through_60 : decode cX0_through 60 = .ok (.aload_n 0, 1) := dk_42 (dk_at dksX0_through_2 14 rfl rfl)
theorem dX0_through_61 : decode cX0_through 61 = .ok (.getfield 12, 3) := dk_180 0 12 (dk_at dksX0_through_2 15 rfl rfl)
theorem dX0_through_64 : decode cX0_through 64 = .ok (.invokevirtual 51, 3) := dk_182 0 51 (dk_at dksX0_through_2 18 rfl rfl)
theorem dX0_through_67 : decode cX0_through 67 = .ok (.aload 4, 2) := dk_25 4 (dk_at dksX0_through_2 21 rfl rfl)
theorem dX0_through_69 : decode cX0_through 69 = .ok (.iload_n 1, 1) := dk_27 (dk_at dksX0_through_2 23 rfl rfl)
theorem dX0_through_70 : decode cX0_through 70 = .ok (.invokestatic 333, 3) := dk_184 1 77 (dk_at dksX0_through_3 0 rfl rfl)
theorem dX0_through_73 : decode cX0_through 73 = .ok (.ireturn, 1) := dk_172 (dk_at dksX0_through_3 3 rfl rfl)
abbrev cX0_all : ByteArray := prog_1_method_57_code
def yX0_all : MethodName := ⟨RX0, "all", "()I"⟩
def dkwX0_all_1 : List UInt8 := [182, 1, 60, 62, 29, 2, 160, 0, 5, 2, 172, 27, 29, 96, 60, 132, 2, 1, 167, 255, 219, 27, 172]
abbrev dktX0_all_1 : List UInt8 := dkwX0_all_1 ++ []
def dkwX0_all_0 : List UInt8 := [3, 60, 3, 61, 28, 42, 180, 0, 12, 180, 0, 158, 182, 0, 134, 162, 0, 29, 42, 28, 182, 1, 56]
abbrev dktX0_all_0 : List UInt8 := dkwX0_all_0 ++ dktX0_all_1
theorem dksX0_all_0 : cX0_all.data.toList.drop 0 = dktX0_all_0 := by decide +kernel
theorem dksX0_all_1 : cX0_all.data.toList.drop 23 = dktX0_all_1 := dk_seg dksX0_all_0 23 rfl rfl
theorem dX0_all_0 : decode cX0_all 0 = .ok (.iconst 0, 1) := dk_3 (dk_at dksX0_all_0 0 rfl rfl)
theorem dX0_all_1 : decode cX0_all 1 = .ok (.istore_n 1, 1) := dk_60 (dk_at dksX0_all_0 1 rfl rfl)
theorem dX0_all_2 : decode cX0_all 2 = .ok (.iconst 0, 1) := dk_3 (dk_at dksX0_all_0 2 rfl rfl)
theorem dX0_all_3 : decode cX0_all 3 = .ok (.istore_n 2, 1) := dk_61 (dk_at dksX0_all_0 3 rfl rfl)
theorem dX0_all_4 : decode cX0_all 4 = .ok (.iload_n 2, 1) := dk_28 (dk_at dksX0_all_0 4 rfl rfl)
theorem dX0_all_5 : decode cX0_all 5 = .ok (.aload_n 0, 1) := dk_42 (dk_at dksX0_all_0 5 rfl rfl)
theorem dX0_all_6 : decode cX0_all 6 = .ok (.getfield 12, 3) := dk_180 0 12 (dk_at dksX0_all_0 6 rfl rfl)
theorem dX0_all_9 : decode cX0_all 9 = .ok (.getfield 158, 3) := dk_180 0 158 (dk_at dksX0_all_0 9 rfl rfl)
theorem dX0_all_12 : decode cX0_all 12 = .ok (.invokevirtual 134, 3) := dk_182 0 134 (dk_at dksX0_all_0 12 rfl rfl)
theorem dX0_all_15 : decode cX0_all 15 = .ok (.if_icmp .ge 29, 3) := dk_162 0 29 (dk_at dksX0_all_0 15 rfl rfl)
theorem dX0_all_18 : decode cX0_all 18 = .ok (.aload_n 0, 1) := dk_42 (dk_at dksX0_all_0 18 rfl rfl)
theorem dX0_all_19 : decode cX0_all 19 = .ok (.iload_n 2, 1) := dk_28 (dk_at dksX0_all_0 19 rfl rfl)
theorem dX0_all_20 : decode cX0_all 20 = .ok (.invokevirtual 312, 3) := dk_182 1 56 (dk_at dksX0_all_0 20 rfl rfl)
theorem dX0_all_23 : decode cX0_all 23 = .ok (.invokevirtual 316, 3) := dk_182 1 60 (dk_at dksX0_all_1 0 rfl rfl)
theorem dX0_all_26 : decode cX0_all 26 = .ok (.istore_n 3, 1) := dk_62 (dk_at dksX0_all_1 3 rfl rfl)
theorem dX0_all_27 : decode cX0_all 27 = .ok (.iload_n 3, 1) := dk_29 (dk_at dksX0_all_1 4 rfl rfl)
theorem dX0_all_28 : decode cX0_all 28 = .ok (.iconst (-1), 1) := dk_2 (dk_at dksX0_all_1 5 rfl rfl)
theorem dX0_all_29 : decode cX0_all 29 = .ok (.if_icmp .ne 5, 3) := dk_160 0 5 (dk_at dksX0_all_1 6 rfl rfl)
theorem dX0_all_32 : decode cX0_all 32 = .ok (.iconst (-1), 1) := dk_2 (dk_at dksX0_all_1 9 rfl rfl)
theorem dX0_all_33 : decode cX0_all 33 = .ok (.ireturn, 1) := dk_172 (dk_at dksX0_all_1 10 rfl rfl)
theorem dX0_all_34 : decode cX0_all 34 = .ok (.iload_n 1, 1) := dk_27 (dk_at dksX0_all_1 11 rfl rfl)
theorem dX0_all_35 : decode cX0_all 35 = .ok (.iload_n 3, 1) := dk_29 (dk_at dksX0_all_1 12 rfl rfl)
theorem dX0_all_36 : decode cX0_all 36 = .ok (.iadd, 1) := dk_96 (dk_at dksX0_all_1 13 rfl rfl)
theorem dX0_all_37 : decode cX0_all 37 = .ok (.istore_n 1, 1) := dk_60 (dk_at dksX0_all_1 14 rfl rfl)
theorem dX0_all_38 : decode cX0_all 38 = .ok (.iinc 2 1, 3) := dk_132 2 1 (dk_at dksX0_all_1 15 rfl rfl)
theorem dX0_all_41 : decode cX0_all 41 = .ok (.goto (-37), 3) := dk_167 255 219 (dk_at dksX0_all_1 18 rfl rfl)
theorem dX0_all_44 : decode cX0_all 44 = .ok (.iload_n 1, 1) := dk_27 (dk_at dksX0_all_1 21 rfl rfl)
theorem dX0_all_45 : decode cX0_all 45 = .ok (.ireturn, 1) := dk_172 (dk_at dksX0_all_1 22 rfl rfl)
abbrev cX0_enough : ByteArray := prog_1_method_58_code
def yX0_enough : MethodName := ⟨RX0, "enough", "(III)I"⟩
def dkwX0_enough_1 : List UInt8 := [182, 1, 63, 167, 0, 5, 16, 254, 172]
abbrev dktX0_enough_1 : List UInt8 := dkwX0_enough_1 ++ []
def dkwX0_enough_0 : List UInt8 := [42, 27, 28, 29, 182, 0, 255, 153, 0, 22, 42, 29, 27, 28, 19, 1, 81, 182, 1, 70, 27, 28, 3]
abbrev dktX0_enough_0 : List UInt8 := dkwX0_enough_0 ++ dktX0_enough_1
theorem dksX0_enough_0 : cX0_enough.data.toList.drop 0 = dktX0_enough_0 := by decide +kernel
theorem dksX0_enough_1 : cX0_enough.data.toList.drop 23 = dktX0_enough_1 := dk_seg dksX0_enough_0 23 rfl rfl
theorem dX0_enough_0 : decode cX0_enough 0 = .ok (.aload_n 0, 1) := dk_42 (dk_at dksX0_enough_0 0 rfl rfl)
theorem dX0_enough_1 : decode cX0_enough 1 = .ok (.iload_n 1, 1) := dk_27 (dk_at dksX0_enough_0 1 rfl rfl)
theorem dX0_enough_2 : decode cX0_enough 2 = .ok (.iload_n 2, 1) := dk_28 (dk_at dksX0_enough_0 2 rfl rfl)
theorem dX0_enough_3 : decode cX0_enough 3 = .ok (.iload_n 3, 1) := dk_29 (dk_at dksX0_enough_0 3 rfl rfl)
theorem dX0_enough_4 : decode cX0_enough 4 = .ok (.invokevirtual 255, 3) := dk_182 0 255 (dk_at dksX0_enough_0 4 rfl rfl)
theorem dX0_enough_7 : decode cX0_enough 7 = .ok (.ifCond .eq 22, 3) := dk_153 0 22 (dk_at dksX0_enough_0 7 rfl rfl)
theorem dX0_enough_10 : decode cX0_enough 10 = .ok (.aload_n 0, 1) := dk_42 (dk_at dksX0_enough_0 10 rfl rfl)
theorem dX0_enough_11 : decode cX0_enough 11 = .ok (.iload_n 3, 1) := dk_29 (dk_at dksX0_enough_0 11 rfl rfl)
theorem dX0_enough_12 : decode cX0_enough 12 = .ok (.iload_n 1, 1) := dk_27 (dk_at dksX0_enough_0 12 rfl rfl)
theorem dX0_enough_13 : decode cX0_enough 13 = .ok (.iload_n 2, 1) := dk_28 (dk_at dksX0_enough_0 13 rfl rfl)
theorem dX0_enough_14 : decode cX0_enough 14 = .ok (.ldc_w 337, 3) := dk_19 1 81 (dk_at dksX0_enough_0 14 rfl rfl)
theorem dX0_enough_17 : decode cX0_enough 17 = .ok (.invokevirtual 326, 3) := dk_182 1 70 (dk_at dksX0_enough_0 17 rfl rfl)
theorem dX0_enough_20 : decode cX0_enough 20 = .ok (.iload_n 1, 1) := dk_27 (dk_at dksX0_enough_0 20 rfl rfl)
theorem dX0_enough_21 : decode cX0_enough 21 = .ok (.iload_n 2, 1) := dk_28 (dk_at dksX0_enough_0 21 rfl rfl)
theorem dX0_enough_22 : decode cX0_enough 22 = .ok (.iconst 0, 1) := dk_3 (dk_at dksX0_enough_0 22 rfl rfl)
theorem dX0_enough_23 : decode cX0_enough 23 = .ok (.invokevirtual 319, 3) := dk_182 1 63 (dk_at dksX0_enough_1 0 rfl rfl)
theorem dX0_enough_26 : decode cX0_enough 26 = .ok (.goto 5, 3) := dk_167 0 5 (dk_at dksX0_enough_1 3 rfl rfl)
theorem dX0_enough_29 : decode cX0_enough 29 = .ok (.bipush (-2), 2) := dk_16 254 (dk_at dksX0_enough_1 6 rfl rfl)
theorem dX0_enough_31 : decode cX0_enough 31 = .ok (.ireturn, 1) := dk_172 (dk_at dksX0_enough_1 8 rfl rfl)
abbrev cX0_fewest : ByteArray := prog_1_method_61_code
def yX0_fewest : MethodName := ⟨RX0, "fewest", "(II)I"⟩
def dkwX0_fewest_4 : List UInt8 := [184, 1, 12, 21, 4, 100, 172]
abbrev dktX0_fewest_4 : List UInt8 := dkwX0_fewest_4 ++ []
def dkwX0_fewest_3 : List UInt8 := [167, 255, 213, 42, 27, 29, 182, 1, 85, 54, 4, 28, 4, 160, 0, 8, 21, 4, 167, 0, 10, 29]
abbrev dktX0_fewest_3 : List UInt8 := dkwX0_fewest_3 ++ dktX0_fewest_4
def dkwX0_fewest_2 : List UInt8 := [182, 1, 8, 153, 0, 7, 4, 167, 0, 4, 3, 184, 0, 196, 21, 4, 120, 128, 62, 132, 4, 1]
abbrev dktX0_fewest_2 : List UInt8 := dkwX0_fewest_2 ++ dktX0_fewest_3
def dkwX0_fewest_1 : List UInt8 := [54, 4, 21, 4, 42, 180, 0, 12, 182, 0, 51, 162, 0, 37, 29, 42, 180, 0, 12, 21, 4, 27, 4]
abbrev dktX0_fewest_1 : List UInt8 := dkwX0_fewest_1 ++ dktX0_fewest_2
def dkwX0_fewest_0 : List UInt8 := [42, 27, 182, 0, 165, 153, 0, 13, 28, 133, 9, 10, 184, 0, 112, 154, 0, 6, 16, 254, 172, 3, 62, 3]
abbrev dktX0_fewest_0 : List UInt8 := dkwX0_fewest_0 ++ dktX0_fewest_1
theorem dksX0_fewest_0 : cX0_fewest.data.toList.drop 0 = dktX0_fewest_0 := by decide +kernel
theorem dksX0_fewest_1 : cX0_fewest.data.toList.drop 24 = dktX0_fewest_1 := dk_seg dksX0_fewest_0 24 rfl rfl
theorem dksX0_fewest_2 : cX0_fewest.data.toList.drop 47 = dktX0_fewest_2 := dk_seg dksX0_fewest_1 23 rfl rfl
theorem dksX0_fewest_3 : cX0_fewest.data.toList.drop 69 = dktX0_fewest_3 := dk_seg dksX0_fewest_2 22 rfl rfl
theorem dksX0_fewest_4 : cX0_fewest.data.toList.drop 91 = dktX0_fewest_4 := dk_seg dksX0_fewest_3 22 rfl rfl
theorem dX0_fewest_0 : decode cX0_fewest 0 = .ok (.aload_n 0, 1) := dk_42 (dk_at dksX0_fewest_0 0 rfl rfl)
theorem dX0_fewest_1 : decode cX0_fewest 1 = .ok (.iload_n 1, 1) := dk_27 (dk_at dksX0_fewest_0 1 rfl rfl)
theorem dX0_fewest_2 : decode cX0_fewest 2 = .ok (.invokevirtual 165, 3) := dk_182 0 165 (dk_at dksX0_fewest_0 2 rfl rfl)
theorem dX0_fewest_5 : decode cX0_fewest 5 = .ok (.ifCond .eq 13, 3) := dk_153 0 13 (dk_at dksX0_fewest_0 5 rfl rfl)
theorem dX0_fewest_8 : decode cX0_fewest 8 = .ok (.iload_n 2, 1) := dk_28 (dk_at dksX0_fewest_0 8 rfl rfl)
theorem dX0_fewest_9 : decode cX0_fewest 9 = .ok (.i2l, 1) := dk_133 (dk_at dksX0_fewest_0 9 rfl rfl)
theorem dX0_fewest_10 : decode cX0_fewest 10 = .ok (.lconst 0, 1) := dk_9 (dk_at dksX0_fewest_0 10 rfl rfl)
theorem dX0_fewest_11 : decode cX0_fewest 11 = .ok (.lconst 1, 1) := dk_10 (dk_at dksX0_fewest_0 11 rfl rfl)
theorem dX0_fewest_12 : decode cX0_fewest 12 = .ok (.invokestatic 112, 3) := dk_184 0 112 (dk_at dksX0_fewest_0 12 rfl rfl)
theorem dX0_fewest_15 : decode cX0_fewest 15 = .ok (.ifCond .ne 6, 3) := dk_154 0 6 (dk_at dksX0_fewest_0 15 rfl rfl)
theorem dX0_fewest_18 : decode cX0_fewest 18 = .ok (.bipush (-2), 2) := dk_16 254 (dk_at dksX0_fewest_0 18 rfl rfl)
theorem dX0_fewest_20 : decode cX0_fewest 20 = .ok (.ireturn, 1) := dk_172 (dk_at dksX0_fewest_0 20 rfl rfl)
theorem dX0_fewest_21 : decode cX0_fewest 21 = .ok (.iconst 0, 1) := dk_3 (dk_at dksX0_fewest_0 21 rfl rfl)
theorem dX0_fewest_22 : decode cX0_fewest 22 = .ok (.istore_n 3, 1) := dk_62 (dk_at dksX0_fewest_0 22 rfl rfl)
theorem dX0_fewest_23 : decode cX0_fewest 23 = .ok (.iconst 0, 1) := dk_3 (dk_at dksX0_fewest_0 23 rfl rfl)
theorem dX0_fewest_24 : decode cX0_fewest 24 = .ok (.istore 4, 2) := dk_54 4 (dk_at dksX0_fewest_1 0 rfl rfl)
theorem dX0_fewest_26 : decode cX0_fewest 26 = .ok (.iload 4, 2) := dk_21 4 (dk_at dksX0_fewest_1 2 rfl rfl)
theorem dX0_fewest_28 : decode cX0_fewest 28 = .ok (.aload_n 0, 1) := dk_42 (dk_at dksX0_fewest_1 4 rfl rfl)
theorem dX0_fewest_29 : decode cX0_fewest 29 = .ok (.getfield 12, 3) := dk_180 0 12 (dk_at dksX0_fewest_1 5 rfl rfl)
theorem dX0_fewest_32 : decode cX0_fewest 32 = .ok (.invokevirtual 51, 3) := dk_182 0 51 (dk_at dksX0_fewest_1 8 rfl rfl)
theorem dX0_fewest_35 : decode cX0_fewest 35 = .ok (.if_icmp .ge 37, 3) := dk_162 0 37 (dk_at dksX0_fewest_1 11 rfl rfl)
theorem dX0_fewest_38 : decode cX0_fewest 38 = .ok (.iload_n 3, 1) := dk_29 (dk_at dksX0_fewest_1 14 rfl rfl)
theorem dX0_fewest_39 : decode cX0_fewest 39 = .ok (.aload_n 0, 1) := dk_42 (dk_at dksX0_fewest_1 15 rfl rfl)
theorem dX0_fewest_40 : decode cX0_fewest 40 = .ok (.getfield 12, 3) := dk_180 0 12 (dk_at dksX0_fewest_1 16 rfl rfl)
theorem dX0_fewest_43 : decode cX0_fewest 43 = .ok (.iload 4, 2) := dk_21 4 (dk_at dksX0_fewest_1 19 rfl rfl)
theorem dX0_fewest_45 : decode cX0_fewest 45 = .ok (.iload_n 1, 1) := dk_27 (dk_at dksX0_fewest_1 21 rfl rfl)
theorem dX0_fewest_46 : decode cX0_fewest 46 = .ok (.iconst 1, 1) := dk_4 (dk_at dksX0_fewest_1 22 rfl rfl)
theorem dX0_fewest_47 : decode cX0_fewest 47 = .ok (.invokevirtual 264, 3) := dk_182 1 8 (dk_at dksX0_fewest_2 0 rfl rfl)
theorem dX0_fewest_50 : decode cX0_fewest 50 = .ok (.ifCond .eq 7, 3) := dk_153 0 7 (dk_at dksX0_fewest_2 3 rfl rfl)
theorem dX0_fewest_53 : decode cX0_fewest 53 = .ok (.iconst 1, 1) := dk_4 (dk_at dksX0_fewest_2 6 rfl rfl)
theorem dX0_fewest_54 : decode cX0_fewest 54 = .ok (.goto 4, 3) := dk_167 0 4 (dk_at dksX0_fewest_2 7 rfl rfl)
theorem dX0_fewest_57 : decode cX0_fewest 57 = .ok (.iconst 0, 1) := dk_3 (dk_at dksX0_fewest_2 10 rfl rfl)
theorem dX0_fewest_58 : decode cX0_fewest 58 = .ok (.invokestatic 196, 3) := dk_184 0 196 (dk_at dksX0_fewest_2 11 rfl rfl)
theorem dX0_fewest_61 : decode cX0_fewest 61 = .ok (.iload 4, 2) := dk_21 4 (dk_at dksX0_fewest_2 14 rfl rfl)
theorem dX0_fewest_63 : decode cX0_fewest 63 = .ok (.ishl, 1) := dk_120 (dk_at dksX0_fewest_2 16 rfl rfl)
theorem dX0_fewest_64 : decode cX0_fewest 64 = .ok (.ior, 1) := dk_128 (dk_at dksX0_fewest_2 17 rfl rfl)
theorem dX0_fewest_65 : decode cX0_fewest 65 = .ok (.istore_n 3, 1) := dk_62 (dk_at dksX0_fewest_2 18 rfl rfl)
theorem dX0_fewest_66 : decode cX0_fewest 66 = .ok (.iinc 4 1, 3) := dk_132 4 1 (dk_at dksX0_fewest_2 19 rfl rfl)
theorem dX0_fewest_69 : decode cX0_fewest 69 = .ok (.goto (-43), 3) := dk_167 255 213 (dk_at dksX0_fewest_3 0 rfl rfl)
theorem dX0_fewest_72 : decode cX0_fewest 72 = .ok (.aload_n 0, 1) := dk_42 (dk_at dksX0_fewest_3 3 rfl rfl)
theorem dX0_fewest_73 : decode cX0_fewest 73 = .ok (.iload_n 1, 1) := dk_27 (dk_at dksX0_fewest_3 4 rfl rfl)
theorem dX0_fewest_74 : decode cX0_fewest 74 = .ok (.iload_n 3, 1) := dk_29 (dk_at dksX0_fewest_3 5 rfl rfl)
theorem dX0_fewest_75 : decode cX0_fewest 75 = .ok (.invokevirtual 341, 3) := dk_182 1 85 (dk_at dksX0_fewest_3 6 rfl rfl)
theorem dX0_fewest_78 : decode cX0_fewest 78 = .ok (.istore 4, 2) := dk_54 4 (dk_at dksX0_fewest_3 9 rfl rfl)
theorem dX0_fewest_80 : decode cX0_fewest 80 = .ok (.iload_n 2, 1) := dk_28 (dk_at dksX0_fewest_3 11 rfl rfl)
theorem dX0_fewest_81 : decode cX0_fewest 81 = .ok (.iconst 1, 1) := dk_4 (dk_at dksX0_fewest_3 12 rfl rfl)
theorem dX0_fewest_82 : decode cX0_fewest 82 = .ok (.if_icmp .ne 8, 3) := dk_160 0 8 (dk_at dksX0_fewest_3 13 rfl rfl)
theorem dX0_fewest_85 : decode cX0_fewest 85 = .ok (.iload 4, 2) := dk_21 4 (dk_at dksX0_fewest_3 16 rfl rfl)
theorem dX0_fewest_87 : decode cX0_fewest 87 = .ok (.goto 10, 3) := dk_167 0 10 (dk_at dksX0_fewest_3 18 rfl rfl)
theorem dX0_fewest_90 : decode cX0_fewest 90 = .ok (.iload_n 3, 1) := dk_29 (dk_at dksX0_fewest_3 21 rfl rfl)
theorem dX0_fewest_91 : decode cX0_fewest 91 = .ok (.invokestatic 268, 3) := dk_184 1 12 (dk_at dksX0_fewest_4 0 rfl rfl)
theorem dX0_fewest_94 : decode cX0_fewest 94 = .ok (.iload 4, 2) := dk_21 4 (dk_at dksX0_fewest_4 3 rfl rfl)
theorem dX0_fewest_96 : decode cX0_fewest 96 = .ok (.isub, 1) := dk_100 (dk_at dksX0_fewest_4 5 rfl rfl)
theorem dX0_fewest_97 : decode cX0_fewest 97 = .ok (.ireturn, 1) := dk_172 (dk_at dksX0_fewest_4 6 rfl rfl)
abbrev cX0_groups : ByteArray := prog_1_method_60_code
def yX0_groups : MethodName := ⟨RX0, "groups", "(II)I"⟩
def dkwX0_groups_4 : List UInt8 := [167, 0, 4, 3, 184, 0, 196, 96, 79, 132, 5, 1, 167, 255, 162, 45, 28, 46, 172]
abbrev dktX0_groups_4 : List UInt8 := dkwX0_groups_4 ++ []
def dkwX0_groups_3 : List UInt8 := [132, 6, 1, 167, 255, 217, 45, 21, 5, 21, 4, 42, 21, 5, 27, 182, 1, 82, 154, 0, 7, 4]
abbrev dktX0_groups_3 : List UInt8 := dkwX0_groups_3 ++ dktX0_groups_4
def dkwX0_groups_2 : List UInt8 := [4, 126, 4, 160, 0, 21, 21, 4, 45, 21, 5, 4, 21, 6, 120, 2, 130, 126, 46, 184, 1, 29, 54, 4]
abbrev dktX0_groups_2 : List UInt8 := dkwX0_groups_2 ++ dktX0_groups_3
def dkwX0_groups_1 : List UInt8 := [153, 0, 6, 167, 0, 76, 3, 54, 4, 3, 54, 6, 21, 6, 16, 8, 162, 0, 38, 21, 5, 21, 6, 122]
abbrev dktX0_groups_1 : List UInt8 := dkwX0_groups_1 ++ dktX0_groups_2
def dkwX0_groups_0 : List UInt8 := [17, 1, 0, 188, 10, 78, 3, 54, 4, 4, 54, 5, 21, 5, 28, 163, 0, 94, 21, 5, 28, 2, 130, 126]
abbrev dktX0_groups_0 : List UInt8 := dkwX0_groups_0 ++ dktX0_groups_1
theorem dksX0_groups_0 : cX0_groups.data.toList.drop 0 = dktX0_groups_0 := by decide +kernel
theorem dksX0_groups_1 : cX0_groups.data.toList.drop 24 = dktX0_groups_1 := dk_seg dksX0_groups_0 24 rfl rfl
theorem dksX0_groups_2 : cX0_groups.data.toList.drop 48 = dktX0_groups_2 := dk_seg dksX0_groups_1 24 rfl rfl
theorem dksX0_groups_3 : cX0_groups.data.toList.drop 72 = dktX0_groups_3 := dk_seg dksX0_groups_2 24 rfl rfl
theorem dksX0_groups_4 : cX0_groups.data.toList.drop 94 = dktX0_groups_4 := dk_seg dksX0_groups_3 22 rfl rfl
theorem dX0_groups_0 : decode cX0_groups 0 = .ok (.sipush 256, 3) := dk_17 1 0 (dk_at dksX0_groups_0 0 rfl rfl)
theorem dX0_groups_3 : decode cX0_groups 3 = .ok (.newarray .int, 2) := dk_188_10 (dk_at dksX0_groups_0 3 rfl rfl)
theorem dX0_groups_5 : decode cX0_groups 5 = .ok (.astore_n 3, 1) := dk_78 (dk_at dksX0_groups_0 5 rfl rfl)
theorem dX0_groups_6 : decode cX0_groups 6 = .ok (.iconst 0, 1) := dk_3 (dk_at dksX0_groups_0 6 rfl rfl)
theorem dX0_groups_7 : decode cX0_groups 7 = .ok (.istore 4, 2) := dk_54 4 (dk_at dksX0_groups_0 7 rfl rfl)
theorem dX0_groups_9 : decode cX0_groups 9 = .ok (.iconst 1, 1) := dk_4 (dk_at dksX0_groups_0 9 rfl rfl)
theorem dX0_groups_10 : decode cX0_groups 10 = .ok (.istore 5, 2) := dk_54 5 (dk_at dksX0_groups_0 10 rfl rfl)
theorem dX0_groups_12 : decode cX0_groups 12 = .ok (.iload 5, 2) := dk_21 5 (dk_at dksX0_groups_0 12 rfl rfl)
theorem dX0_groups_14 : decode cX0_groups 14 = .ok (.iload_n 2, 1) := dk_28 (dk_at dksX0_groups_0 14 rfl rfl)
theorem dX0_groups_15 : decode cX0_groups 15 = .ok (.if_icmp .gt 94, 3) := dk_163 0 94 (dk_at dksX0_groups_0 15 rfl rfl)
theorem dX0_groups_18 : decode cX0_groups 18 = .ok (.iload 5, 2) := dk_21 5 (dk_at dksX0_groups_0 18 rfl rfl)
theorem dX0_groups_20 : decode cX0_groups 20 = .ok (.iload_n 2, 1) := dk_28 (dk_at dksX0_groups_0 20 rfl rfl)
theorem dX0_groups_21 : decode cX0_groups 21 = .ok (.iconst (-1), 1) := dk_2 (dk_at dksX0_groups_0 21 rfl rfl)
theorem dX0_groups_22 : decode cX0_groups 22 = .ok (.ixor, 1) := dk_130 (dk_at dksX0_groups_0 22 rfl rfl)
theorem dX0_groups_23 : decode cX0_groups 23 = .ok (.iand, 1) := dk_126 (dk_at dksX0_groups_0 23 rfl rfl)
theorem dX0_groups_24 : decode cX0_groups 24 = .ok (.ifCond .eq 6, 3) := dk_153 0 6 (dk_at dksX0_groups_1 0 rfl rfl)
theorem dX0_groups_27 : decode cX0_groups 27 = .ok (.goto 76, 3) := dk_167 0 76 (dk_at dksX0_groups_1 3 rfl rfl)
theorem dX0_groups_30 : decode cX0_groups 30 = .ok (.iconst 0, 1) := dk_3 (dk_at dksX0_groups_1 6 rfl rfl)
theorem dX0_groups_31 : decode cX0_groups 31 = .ok (.istore 4, 2) := dk_54 4 (dk_at dksX0_groups_1 7 rfl rfl)
theorem dX0_groups_33 : decode cX0_groups 33 = .ok (.iconst 0, 1) := dk_3 (dk_at dksX0_groups_1 9 rfl rfl)
theorem dX0_groups_34 : decode cX0_groups 34 = .ok (.istore 6, 2) := dk_54 6 (dk_at dksX0_groups_1 10 rfl rfl)
theorem dX0_groups_36 : decode cX0_groups 36 = .ok (.iload 6, 2) := dk_21 6 (dk_at dksX0_groups_1 12 rfl rfl)
theorem dX0_groups_38 : decode cX0_groups 38 = .ok (.bipush 8, 2) := dk_16 8 (dk_at dksX0_groups_1 14 rfl rfl)
theorem dX0_groups_40 : decode cX0_groups 40 = .ok (.if_icmp .ge 38, 3) := dk_162 0 38 (dk_at dksX0_groups_1 16 rfl rfl)
theorem dX0_groups_43 : decode cX0_groups 43 = .ok (.iload 5, 2) := dk_21 5 (dk_at dksX0_groups_1 19 rfl rfl)
theorem dX0_groups_45 : decode cX0_groups 45 = .ok (.iload 6, 2) := dk_21 6 (dk_at dksX0_groups_1 21 rfl rfl)
theorem dX0_groups_47 : decode cX0_groups 47 = .ok (.ishr, 1) := dk_122 (dk_at dksX0_groups_1 23 rfl rfl)
theorem dX0_groups_48 : decode cX0_groups 48 = .ok (.iconst 1, 1) := dk_4 (dk_at dksX0_groups_2 0 rfl rfl)
theorem dX0_groups_49 : decode cX0_groups 49 = .ok (.iand, 1) := dk_126 (dk_at dksX0_groups_2 1 rfl rfl)
theorem dX0_groups_50 : decode cX0_groups 50 = .ok (.iconst 1, 1) := dk_4 (dk_at dksX0_groups_2 2 rfl rfl)
theorem dX0_groups_51 : decode cX0_groups 51 = .ok (.if_icmp .ne 21, 3) := dk_160 0 21 (dk_at dksX0_groups_2 3 rfl rfl)
theorem dX0_groups_54 : decode cX0_groups 54 = .ok (.iload 4, 2) := dk_21 4 (dk_at dksX0_groups_2 6 rfl rfl)
theorem dX0_groups_56 : decode cX0_groups 56 = .ok (.aload_n 3, 1) := dk_45 (dk_at dksX0_groups_2 8 rfl rfl)
theorem dX0_groups_57 : decode cX0_groups 57 = .ok (.iload 5, 2) := dk_21 5 (dk_at dksX0_groups_2 9 rfl rfl)
theorem dX0_groups_59 : decode cX0_groups 59 = .ok (.iconst 1, 1) := dk_4 (dk_at dksX0_groups_2 11 rfl rfl)
theorem dX0_groups_60 : decode cX0_groups 60 = .ok (.iload 6, 2) := dk_21 6 (dk_at dksX0_groups_2 12 rfl rfl)
theorem dX0_groups_62 : decode cX0_groups 62 = .ok (.ishl, 1) := dk_120 (dk_at dksX0_groups_2 14 rfl rfl)
theorem dX0_groups_63 : decode cX0_groups 63 = .ok (.iconst (-1), 1) := dk_2 (dk_at dksX0_groups_2 15 rfl rfl)
theorem dX0_groups_64 : decode cX0_groups 64 = .ok (.ixor, 1) := dk_130 (dk_at dksX0_groups_2 16 rfl rfl)
theorem dX0_groups_65 : decode cX0_groups 65 = .ok (.iand, 1) := dk_126 (dk_at dksX0_groups_2 17 rfl rfl)
theorem dX0_groups_66 : decode cX0_groups 66 = .ok (.iaload, 1) := dk_46 (dk_at dksX0_groups_2 18 rfl rfl)
theorem dX0_groups_67 : decode cX0_groups 67 = .ok (.invokestatic 285, 3) := dk_184 1 29 (dk_at dksX0_groups_2 19 rfl rfl)
theorem dX0_groups_70 : decode cX0_groups 70 = .ok (.istore 4, 2) := dk_54 4 (dk_at dksX0_groups_2 22 rfl rfl)
theorem dX0_groups_72 : decode cX0_groups 72 = .ok (.iinc 6 1, 3) := dk_132 6 1 (dk_at dksX0_groups_3 0 rfl rfl)
theorem dX0_groups_75 : decode cX0_groups 75 = .ok (.goto (-39), 3) := dk_167 255 217 (dk_at dksX0_groups_3 3 rfl rfl)
theorem dX0_groups_78 : decode cX0_groups 78 = .ok (.aload_n 3, 1) := dk_45 (dk_at dksX0_groups_3 6 rfl rfl)
theorem dX0_groups_79 : decode cX0_groups 79 = .ok (.iload 5, 2) := dk_21 5 (dk_at dksX0_groups_3 7 rfl rfl)
theorem dX0_groups_81 : decode cX0_groups 81 = .ok (.iload 4, 2) := dk_21 4 (dk_at dksX0_groups_3 9 rfl rfl)
theorem dX0_groups_83 : decode cX0_groups 83 = .ok (.aload_n 0, 1) := dk_42 (dk_at dksX0_groups_3 11 rfl rfl)
theorem dX0_groups_84 : decode cX0_groups 84 = .ok (.iload 5, 2) := dk_21 5 (dk_at dksX0_groups_3 12 rfl rfl)
theorem dX0_groups_86 : decode cX0_groups 86 = .ok (.iload_n 1, 1) := dk_27 (dk_at dksX0_groups_3 14 rfl rfl)
theorem dX0_groups_87 : decode cX0_groups 87 = .ok (.invokevirtual 338, 3) := dk_182 1 82 (dk_at dksX0_groups_3 15 rfl rfl)
theorem dX0_groups_90 : decode cX0_groups 90 = .ok (.ifCond .ne 7, 3) := dk_154 0 7 (dk_at dksX0_groups_3 18 rfl rfl)
theorem dX0_groups_93 : decode cX0_groups 93 = .ok (.iconst 1, 1) := dk_4 (dk_at dksX0_groups_3 21 rfl rfl)
theorem dX0_groups_94 : decode cX0_groups 94 = .ok (.goto 4, 3) := dk_167 0 4 (dk_at dksX0_groups_4 0 rfl rfl)
theorem dX0_groups_97 : decode cX0_groups 97 = .ok (.iconst 0, 1) := dk_3 (dk_at dksX0_groups_4 3 rfl rfl)
theorem dX0_groups_98 : decode cX0_groups 98 = .ok (.invokestatic 196, 3) := dk_184 0 196 (dk_at dksX0_groups_4 4 rfl rfl)
theorem dX0_groups_101 : decode cX0_groups 101 = .ok (.iadd, 1) := dk_96 (dk_at dksX0_groups_4 7 rfl rfl)
theorem dX0_groups_102 : decode cX0_groups 102 = .ok (.iastore, 1) := dk_79 (dk_at dksX0_groups_4 8 rfl rfl)
theorem dX0_groups_103 : decode cX0_groups 103 = .ok (.iinc 5 1, 3) := dk_132 5 1 (dk_at dksX0_groups_4 9 rfl rfl)
theorem dX0_groups_106 : decode cX0_groups 106 = .ok (.goto (-94), 3) := dk_167 255 162 (dk_at dksX0_groups_4 12 rfl rfl)
theorem dX0_groups_109 : decode cX0_groups 109 = .ok (.aload_n 3, 1) := dk_45 (dk_at dksX0_groups_4 15 rfl rfl)
theorem dX0_groups_110 : decode cX0_groups 110 = .ok (.iload_n 2, 1) := dk_28 (dk_at dksX0_groups_4 16 rfl rfl)
theorem dX0_groups_111 : decode cX0_groups 111 = .ok (.iaload, 1) := dk_46 (dk_at dksX0_groups_4 17 rfl rfl)
theorem dX0_groups_112 : decode cX0_groups 112 = .ok (.ireturn, 1) := dk_172 (dk_at dksX0_groups_4 18 rfl rfl)
abbrev cX0_netOf : ByteArray := prog_1_method_59_code
def yX0_netOf : MethodName := ⟨RX0, "netOf", "(II)I"⟩
def dkwX0_netOf_2 : List UInt8 := [167, 255, 213, 29, 172]
abbrev dktX0_netOf_2 : List UInt8 := dkwX0_netOf_2 ++ []
def dkwX0_netOf_1 : List UInt8 := [4, 160, 0, 17, 42, 180, 0, 12, 21, 4, 28, 4, 182, 1, 8, 167, 0, 4, 3, 96, 62, 132, 4, 1]
abbrev dktX0_netOf_1 : List UInt8 := dkwX0_netOf_1 ++ dktX0_netOf_2
def dkwX0_netOf_0 : List UInt8 := [3, 62, 3, 54, 4, 21, 4, 42, 180, 0, 12, 182, 0, 51, 162, 0, 37, 29, 27, 21, 4, 122, 4, 126]
abbrev dktX0_netOf_0 : List UInt8 := dkwX0_netOf_0 ++ dktX0_netOf_1
theorem dksX0_netOf_0 : cX0_netOf.data.toList.drop 0 = dktX0_netOf_0 := by decide +kernel
theorem dksX0_netOf_1 : cX0_netOf.data.toList.drop 24 = dktX0_netOf_1 := dk_seg dksX0_netOf_0 24 rfl rfl
theorem dksX0_netOf_2 : cX0_netOf.data.toList.drop 48 = dktX0_netOf_2 := dk_seg dksX0_netOf_1 24 rfl rfl
theorem dX0_netOf_0 : decode cX0_netOf 0 = .ok (.iconst 0, 1) := dk_3 (dk_at dksX0_netOf_0 0 rfl rfl)
theorem dX0_netOf_1 : decode cX0_netOf 1 = .ok (.istore_n 3, 1) := dk_62 (dk_at dksX0_netOf_0 1 rfl rfl)
theorem dX0_netOf_2 : decode cX0_netOf 2 = .ok (.iconst 0, 1) := dk_3 (dk_at dksX0_netOf_0 2 rfl rfl)
theorem dX0_netOf_3 : decode cX0_netOf 3 = .ok (.istore 4, 2) := dk_54 4 (dk_at dksX0_netOf_0 3 rfl rfl)
theorem dX0_netOf_5 : decode cX0_netOf 5 = .ok (.iload 4, 2) := dk_21 4 (dk_at dksX0_netOf_0 5 rfl rfl)
theorem dX0_netOf_7 : decode cX0_netOf 7 = .ok (.aload_n 0, 1) := dk_42 (dk_at dksX0_netOf_0 7 rfl rfl)
theorem dX0_netOf_8 : decode cX0_netOf 8 = .ok (.getfield 12, 3) := dk_180 0 12 (dk_at dksX0_netOf_0 8 rfl rfl)
theorem dX0_netOf_11 : decode cX0_netOf 11 = .ok (.invokevirtual 51, 3) := dk_182 0 51 (dk_at dksX0_netOf_0 11 rfl rfl)
theorem dX0_netOf_14 : decode cX0_netOf 14 = .ok (.if_icmp .ge 37, 3) := dk_162 0 37 (dk_at dksX0_netOf_0 14 rfl rfl)
theorem dX0_netOf_17 : decode cX0_netOf 17 = .ok (.iload_n 3, 1) := dk_29 (dk_at dksX0_netOf_0 17 rfl rfl)
theorem dX0_netOf_18 : decode cX0_netOf 18 = .ok (.iload_n 1, 1) := dk_27 (dk_at dksX0_netOf_0 18 rfl rfl)
theorem dX0_netOf_19 : decode cX0_netOf 19 = .ok (.iload 4, 2) := dk_21 4 (dk_at dksX0_netOf_0 19 rfl rfl)
theorem dX0_netOf_21 : decode cX0_netOf 21 = .ok (.ishr, 1) := dk_122 (dk_at dksX0_netOf_0 21 rfl rfl)
theorem dX0_netOf_22 : decode cX0_netOf 22 = .ok (.iconst 1, 1) := dk_4 (dk_at dksX0_netOf_0 22 rfl rfl)
theorem dX0_netOf_23 : decode cX0_netOf 23 = .ok (.iand, 1) := dk_126 (dk_at dksX0_netOf_0 23 rfl rfl)
theorem dX0_netOf_24 : decode cX0_netOf 24 = .ok (.iconst 1, 1) := dk_4 (dk_at dksX0_netOf_1 0 rfl rfl)
theorem dX0_netOf_25 : decode cX0_netOf 25 = .ok (.if_icmp .ne 17, 3) := dk_160 0 17 (dk_at dksX0_netOf_1 1 rfl rfl)
theorem dX0_netOf_28 : decode cX0_netOf 28 = .ok (.aload_n 0, 1) := dk_42 (dk_at dksX0_netOf_1 4 rfl rfl)
theorem dX0_netOf_29 : decode cX0_netOf 29 = .ok (.getfield 12, 3) := dk_180 0 12 (dk_at dksX0_netOf_1 5 rfl rfl)
theorem dX0_netOf_32 : decode cX0_netOf 32 = .ok (.iload 4, 2) := dk_21 4 (dk_at dksX0_netOf_1 8 rfl rfl)
theorem dX0_netOf_34 : decode cX0_netOf 34 = .ok (.iload_n 2, 1) := dk_28 (dk_at dksX0_netOf_1 10 rfl rfl)
theorem dX0_netOf_35 : decode cX0_netOf 35 = .ok (.iconst 1, 1) := dk_4 (dk_at dksX0_netOf_1 11 rfl rfl)
theorem dX0_netOf_36 : decode cX0_netOf 36 = .ok (.invokevirtual 264, 3) := dk_182 1 8 (dk_at dksX0_netOf_1 12 rfl rfl)
theorem dX0_netOf_39 : decode cX0_netOf 39 = .ok (.goto 4, 3) := dk_167 0 4 (dk_at dksX0_netOf_1 15 rfl rfl)
theorem dX0_netOf_42 : decode cX0_netOf 42 = .ok (.iconst 0, 1) := dk_3 (dk_at dksX0_netOf_1 18 rfl rfl)
theorem dX0_netOf_43 : decode cX0_netOf 43 = .ok (.iadd, 1) := dk_96 (dk_at dksX0_netOf_1 19 rfl rfl)
theorem dX0_netOf_44 : decode cX0_netOf 44 = .ok (.istore_n 3, 1) := dk_62 (dk_at dksX0_netOf_1 20 rfl rfl)
theorem dX0_netOf_45 : decode cX0_netOf 45 = .ok (.iinc 4 1, 3) := dk_132 4 1 (dk_at dksX0_netOf_1 21 rfl rfl)
theorem dX0_netOf_48 : decode cX0_netOf 48 = .ok (.goto (-43), 3) := dk_167 255 213 (dk_at dksX0_netOf_2 0 rfl rfl)
theorem dX0_netOf_51 : decode cX0_netOf 51 = .ok (.iload_n 3, 1) := dk_29 (dk_at dksX0_netOf_2 3 rfl rfl)
theorem dX0_netOf_52 : decode cX0_netOf 52 = .ok (.ireturn, 1) := dk_172 (dk_at dksX0_netOf_2 4 rfl rfl)
abbrev cX0_even : ByteArray := prog_1_method_62_code
def yX0_even : MethodName := ⟨RX0, "even", "(II)I"⟩
def dkwX0_even_2 : List UInt8 := [28, 182, 1, 82, 154, 0, 7, 4, 167, 0, 4, 3, 184, 0, 196, 172]
abbrev dktX0_even_2 : List UInt8 := dkwX0_even_2 ++ []
def dkwX0_even_1 : List UInt8 := [184, 0, 112, 154, 0, 6, 16, 254, 172, 27, 184, 1, 12, 5, 162, 0, 8, 16, 253, 167, 0, 20, 42, 27]
abbrev dktX0_even_1 : List UInt8 := dkwX0_even_1 ++ dktX0_even_2
def dkwX0_even_0 : List UInt8 := [42, 28, 182, 0, 165, 153, 0, 24, 27, 133, 9, 4, 42, 180, 0, 12, 182, 0, 51, 120, 4, 100, 133]
abbrev dktX0_even_0 : List UInt8 := dkwX0_even_0 ++ dktX0_even_1
theorem dksX0_even_0 : cX0_even.data.toList.drop 0 = dktX0_even_0 := by decide +kernel
theorem dksX0_even_1 : cX0_even.data.toList.drop 23 = dktX0_even_1 := dk_seg dksX0_even_0 23 rfl rfl
theorem dksX0_even_2 : cX0_even.data.toList.drop 47 = dktX0_even_2 := dk_seg dksX0_even_1 24 rfl rfl
theorem dX0_even_0 : decode cX0_even 0 = .ok (.aload_n 0, 1) := dk_42 (dk_at dksX0_even_0 0 rfl rfl)
theorem dX0_even_1 : decode cX0_even 1 = .ok (.iload_n 2, 1) := dk_28 (dk_at dksX0_even_0 1 rfl rfl)
theorem dX0_even_2 : decode cX0_even 2 = .ok (.invokevirtual 165, 3) := dk_182 0 165 (dk_at dksX0_even_0 2 rfl rfl)
theorem dX0_even_5 : decode cX0_even 5 = .ok (.ifCond .eq 24, 3) := dk_153 0 24 (dk_at dksX0_even_0 5 rfl rfl)
theorem dX0_even_8 : decode cX0_even 8 = .ok (.iload_n 1, 1) := dk_27 (dk_at dksX0_even_0 8 rfl rfl)
theorem dX0_even_9 : decode cX0_even 9 = .ok (.i2l, 1) := dk_133 (dk_at dksX0_even_0 9 rfl rfl)
theorem dX0_even_10 : decode cX0_even 10 = .ok (.lconst 0, 1) := dk_9 (dk_at dksX0_even_0 10 rfl rfl)
theorem dX0_even_11 : decode cX0_even 11 = .ok (.iconst 1, 1) := dk_4 (dk_at dksX0_even_0 11 rfl rfl)
theorem dX0_even_12 : decode cX0_even 12 = .ok (.aload_n 0, 1) := dk_42 (dk_at dksX0_even_0 12 rfl rfl)
theorem dX0_even_13 : decode cX0_even 13 = .ok (.getfield 12, 3) := dk_180 0 12 (dk_at dksX0_even_0 13 rfl rfl)
theorem dX0_even_16 : decode cX0_even 16 = .ok (.invokevirtual 51, 3) := dk_182 0 51 (dk_at dksX0_even_0 16 rfl rfl)
theorem dX0_even_19 : decode cX0_even 19 = .ok (.ishl, 1) := dk_120 (dk_at dksX0_even_0 19 rfl rfl)
theorem dX0_even_20 : decode cX0_even 20 = .ok (.iconst 1, 1) := dk_4 (dk_at dksX0_even_0 20 rfl rfl)
theorem dX0_even_21 : decode cX0_even 21 = .ok (.isub, 1) := dk_100 (dk_at dksX0_even_0 21 rfl rfl)
theorem dX0_even_22 : decode cX0_even 22 = .ok (.i2l, 1) := dk_133 (dk_at dksX0_even_0 22 rfl rfl)
theorem dX0_even_23 : decode cX0_even 23 = .ok (.invokestatic 112, 3) := dk_184 0 112 (dk_at dksX0_even_1 0 rfl rfl)
theorem dX0_even_26 : decode cX0_even 26 = .ok (.ifCond .ne 6, 3) := dk_154 0 6 (dk_at dksX0_even_1 3 rfl rfl)
theorem dX0_even_29 : decode cX0_even 29 = .ok (.bipush (-2), 2) := dk_16 254 (dk_at dksX0_even_1 6 rfl rfl)
theorem dX0_even_31 : decode cX0_even 31 = .ok (.ireturn, 1) := dk_172 (dk_at dksX0_even_1 8 rfl rfl)
theorem dX0_even_32 : decode cX0_even 32 = .ok (.iload_n 1, 1) := dk_27 (dk_at dksX0_even_1 9 rfl rfl)
theorem dX0_even_33 : decode cX0_even 33 = .ok (.invokestatic 268, 3) := dk_184 1 12 (dk_at dksX0_even_1 10 rfl rfl)
theorem dX0_even_36 : decode cX0_even 36 = .ok (.iconst 2, 1) := dk_5 (dk_at dksX0_even_1 13 rfl rfl)
theorem dX0_even_37 : decode cX0_even 37 = .ok (.if_icmp .ge 8, 3) := dk_162 0 8 (dk_at dksX0_even_1 14 rfl rfl)
theorem dX0_even_40 : decode cX0_even 40 = .ok (.bipush (-3), 2) := dk_16 253 (dk_at dksX0_even_1 17 rfl rfl)
theorem dX0_even_42 : decode cX0_even 42 = .ok (.goto 20, 3) := dk_167 0 20 (dk_at dksX0_even_1 19 rfl rfl)
theorem dX0_even_45 : decode cX0_even 45 = .ok (.aload_n 0, 1) := dk_42 (dk_at dksX0_even_1 22 rfl rfl)
theorem dX0_even_46 : decode cX0_even 46 = .ok (.iload_n 1, 1) := dk_27 (dk_at dksX0_even_1 23 rfl rfl)
theorem dX0_even_47 : decode cX0_even 47 = .ok (.iload_n 2, 1) := dk_28 (dk_at dksX0_even_2 0 rfl rfl)
theorem dX0_even_48 : decode cX0_even 48 = .ok (.invokevirtual 338, 3) := dk_182 1 82 (dk_at dksX0_even_2 1 rfl rfl)
theorem dX0_even_51 : decode cX0_even 51 = .ok (.ifCond .ne 7, 3) := dk_154 0 7 (dk_at dksX0_even_2 4 rfl rfl)
theorem dX0_even_54 : decode cX0_even 54 = .ok (.iconst 1, 1) := dk_4 (dk_at dksX0_even_2 7 rfl rfl)
theorem dX0_even_55 : decode cX0_even 55 = .ok (.goto 4, 3) := dk_167 0 4 (dk_at dksX0_even_2 8 rfl rfl)
theorem dX0_even_58 : decode cX0_even 58 = .ok (.iconst 0, 1) := dk_3 (dk_at dksX0_even_2 11 rfl rfl)
theorem dX0_even_59 : decode cX0_even 59 = .ok (.invokestatic 196, 3) := dk_184 0 196 (dk_at dksX0_even_2 12 rfl rfl)
theorem dX0_even_62 : decode cX0_even 62 = .ok (.ireturn, 1) := dk_172 (dk_at dksX0_even_2 15 rfl rfl)
abbrev cX0_line : ByteArray := prog_1_method_64_code
def yX0_line : MethodName := ⟨RX0, "line", "(II)I"⟩
def dkwX0_line_2 : List UInt8 := [45, 28, 185, 1, 121, 2, 0, 167, 0, 4, 2, 172]
abbrev dktX0_line_2 : List UInt8 := dkwX0_line_2 ++ []
def dkwX0_line_1 : List UInt8 := [180, 0, 131, 27, 182, 0, 181, 192, 0, 173, 182, 1, 112, 78, 28, 45, 185, 1, 116, 1, 0, 162, 0, 13]
abbrev dktX0_line_1 : List UInt8 := dkwX0_line_1 ++ dktX0_line_2
def dkwX0_line_0 : List UInt8 := [42, 27, 182, 0, 178, 154, 0, 6, 16, 254, 172, 28, 156, 0, 6, 16, 253, 172, 42, 42, 180, 0, 12]
abbrev dktX0_line_0 : List UInt8 := dkwX0_line_0 ++ dktX0_line_1
theorem dksX0_line_0 : cX0_line.data.toList.drop 0 = dktX0_line_0 := by decide +kernel
theorem dksX0_line_1 : cX0_line.data.toList.drop 23 = dktX0_line_1 := dk_seg dksX0_line_0 23 rfl rfl
theorem dksX0_line_2 : cX0_line.data.toList.drop 47 = dktX0_line_2 := dk_seg dksX0_line_1 24 rfl rfl
theorem dX0_line_0 : decode cX0_line 0 = .ok (.aload_n 0, 1) := dk_42 (dk_at dksX0_line_0 0 rfl rfl)
theorem dX0_line_1 : decode cX0_line 1 = .ok (.iload_n 1, 1) := dk_27 (dk_at dksX0_line_0 1 rfl rfl)
theorem dX0_line_2 : decode cX0_line 2 = .ok (.invokevirtual 178, 3) := dk_182 0 178 (dk_at dksX0_line_0 2 rfl rfl)
theorem dX0_line_5 : decode cX0_line 5 = .ok (.ifCond .ne 6, 3) := dk_154 0 6 (dk_at dksX0_line_0 5 rfl rfl)
theorem dX0_line_8 : decode cX0_line 8 = .ok (.bipush (-2), 2) := dk_16 254 (dk_at dksX0_line_0 8 rfl rfl)
theorem dX0_line_10 : decode cX0_line 10 = .ok (.ireturn, 1) := dk_172 (dk_at dksX0_line_0 10 rfl rfl)
theorem dX0_line_11 : decode cX0_line 11 = .ok (.iload_n 2, 1) := dk_28 (dk_at dksX0_line_0 11 rfl rfl)
theorem dX0_line_12 : decode cX0_line 12 = .ok (.ifCond .ge 6, 3) := dk_156 0 6 (dk_at dksX0_line_0 12 rfl rfl)
theorem dX0_line_15 : decode cX0_line 15 = .ok (.bipush (-3), 2) := dk_16 253 (dk_at dksX0_line_0 15 rfl rfl)
theorem dX0_line_17 : decode cX0_line 17 = .ok (.ireturn, 1) := dk_172 (dk_at dksX0_line_0 17 rfl rfl)
theorem dX0_line_18 : decode cX0_line 18 = .ok (.aload_n 0, 1) := dk_42 (dk_at dksX0_line_0 18 rfl rfl)
theorem dX0_line_19 : decode cX0_line 19 = .ok (.aload_n 0, 1) := dk_42 (dk_at dksX0_line_0 19 rfl rfl)
theorem dX0_line_20 : decode cX0_line 20 = .ok (.getfield 12, 3) := dk_180 0 12 (dk_at dksX0_line_0 20 rfl rfl)
theorem dX0_line_23 : decode cX0_line 23 = .ok (.getfield 131, 3) := dk_180 0 131 (dk_at dksX0_line_1 0 rfl rfl)
theorem dX0_line_26 : decode cX0_line 26 = .ok (.iload_n 1, 1) := dk_27 (dk_at dksX0_line_1 3 rfl rfl)
theorem dX0_line_27 : decode cX0_line 27 = .ok (.invokevirtual 181, 3) := dk_182 0 181 (dk_at dksX0_line_1 4 rfl rfl)
theorem dX0_line_30 : decode cX0_line 30 = .ok (.checkcast 173, 3) := dk_192 0 173 (dk_at dksX0_line_1 7 rfl rfl)
theorem dX0_line_33 : decode cX0_line 33 = .ok (.invokevirtual 368, 3) := dk_182 1 112 (dk_at dksX0_line_1 10 rfl rfl)
theorem dX0_line_36 : decode cX0_line 36 = .ok (.astore_n 3, 1) := dk_78 (dk_at dksX0_line_1 13 rfl rfl)
theorem dX0_line_37 : decode cX0_line 37 = .ok (.iload_n 2, 1) := dk_28 (dk_at dksX0_line_1 14 rfl rfl)
theorem dX0_line_38 : decode cX0_line 38 = .ok (.aload_n 3, 1) := dk_45 (dk_at dksX0_line_1 15 rfl rfl)
theorem dX0_line_39 : decode cX0_line 39 = .ok (.invokeinterface 372 1, 5) := by decide +kernel
theorem dX0_line_44 : decode cX0_line 44 = .ok (.if_icmp .ge 13, 3) := dk_162 0 13 (dk_at dksX0_line_1 21 rfl rfl)
theorem dX0_line_47 : decode cX0_line 47 = .ok (.aload_n 3, 1) := dk_45 (dk_at dksX0_line_2 0 rfl rfl)
theorem dX0_line_48 : decode cX0_line 48 = .ok (.iload_n 2, 1) := dk_28 (dk_at dksX0_line_2 1 rfl rfl)
theorem dX0_line_49 : decode cX0_line 49 = .ok (.invokeinterface 377 2, 5) := by decide +kernel
theorem dX0_line_54 : decode cX0_line 54 = .ok (.goto 4, 3) := dk_167 0 4 (dk_at dksX0_line_2 7 rfl rfl)
theorem dX0_line_57 : decode cX0_line 57 = .ok (.iconst (-1), 1) := dk_2 (dk_at dksX0_line_2 10 rfl rfl)
theorem dX0_line_58 : decode cX0_line 58 = .ok (.ireturn, 1) := dk_172 (dk_at dksX0_line_2 11 rfl rfl)
abbrev cX0_lineOf : ByteArray := prog_1_method_63_code
def yX0_lineOf : MethodName := ⟨RX0, "lineOf", "(LSwapPress$Trade;)Ljava/lang/CharSequence;"⟩
def dkwX0_lineOf_5 : List UInt8 := [44, 19, 1, 110, 182, 1, 94, 87, 44, 176]
abbrev dktX0_lineOf_5 : List UInt8 := dkwX0_lineOf_5 ++ []
def dkwX0_lineOf_4 : List UInt8 := [180, 0, 158, 43, 180, 0, 254, 182, 0, 181, 192, 0, 87, 182, 1, 94, 87, 43, 180, 0, 192, 153, 0, 11]
abbrev dktX0_lineOf_4 : List UInt8 := dkwX0_lineOf_4 ++ dktX0_lineOf_5
def dkwX0_lineOf_3 : List UInt8 := [43, 180, 0, 213, 182, 1, 103, 19, 1, 101, 182, 1, 94, 182, 1, 106, 182, 1, 94, 42, 180, 0, 12]
abbrev dktX0_lineOf_3 : List UInt8 := dkwX0_lineOf_3 ++ dktX0_lineOf_4
def dkwX0_lineOf_2 : List UInt8 := [182, 0, 181, 192, 0, 87, 182, 1, 94, 87, 44, 187, 1, 88, 89, 183, 1, 90, 19, 1, 101, 182, 1, 94]
abbrev dktX0_lineOf_2 : List UInt8 := dkwX0_lineOf_2 ++ dktX0_lineOf_3
def dkwX0_lineOf_1 : List UInt8 := [192, 0, 87, 182, 1, 94, 16, 62, 182, 1, 98, 42, 180, 0, 12, 180, 1, 91, 43, 180, 0, 210]
abbrev dktX0_lineOf_1 : List UInt8 := dkwX0_lineOf_1 ++ dktX0_lineOf_2
def dkwX0_lineOf_0 : List UInt8 := [187, 1, 88, 89, 183, 1, 90, 77, 44, 42, 180, 0, 12, 180, 1, 91, 43, 180, 0, 207, 182, 0, 181]
abbrev dktX0_lineOf_0 : List UInt8 := dkwX0_lineOf_0 ++ dktX0_lineOf_1
theorem dksX0_lineOf_0 : cX0_lineOf.data.toList.drop 0 = dktX0_lineOf_0 := by decide +kernel
theorem dksX0_lineOf_1 : cX0_lineOf.data.toList.drop 23 = dktX0_lineOf_1 := dk_seg dksX0_lineOf_0 23 rfl rfl
theorem dksX0_lineOf_2 : cX0_lineOf.data.toList.drop 45 = dktX0_lineOf_2 := dk_seg dksX0_lineOf_1 22 rfl rfl
theorem dksX0_lineOf_3 : cX0_lineOf.data.toList.drop 69 = dktX0_lineOf_3 := dk_seg dksX0_lineOf_2 24 rfl rfl
theorem dksX0_lineOf_4 : cX0_lineOf.data.toList.drop 92 = dktX0_lineOf_4 := dk_seg dksX0_lineOf_3 23 rfl rfl
theorem dksX0_lineOf_5 : cX0_lineOf.data.toList.drop 116 = dktX0_lineOf_5 := dk_seg dksX0_lineOf_4 24 rfl rfl
theorem dX0_lineOf_0 : decode cX0_lineOf 0 = .ok (.new 344, 3) := dk_187 1 88 (dk_at dksX0_lineOf_0 0 rfl rfl)
theorem dX0_lineOf_3 : decode cX0_lineOf 3 = .ok (.dup, 1) := dk_89 (dk_at dksX0_lineOf_0 3 rfl rfl)
theorem dX0_lineOf_4 : decode cX0_lineOf 4 = .ok (.invokespecial 346, 3) := dk_183 1 90 (dk_at dksX0_lineOf_0 4 rfl rfl)
theorem dX0_lineOf_7 : decode cX0_lineOf 7 = .ok (.astore_n 2, 1) := dk_77 (dk_at dksX0_lineOf_0 7 rfl rfl)
theorem dX0_lineOf_8 : decode cX0_lineOf 8 = .ok (.aload_n 2, 1) := dk_44 (dk_at dksX0_lineOf_0 8 rfl rfl)
theorem dX0_lineOf_9 : decode cX0_lineOf 9 = .ok (.aload_n 0, 1) := dk_42 (dk_at dksX0_lineOf_0 9 rfl rfl)
theorem dX0_lineOf_10 : decode cX0_lineOf 10 = .ok (.getfield 12, 3) := dk_180 0 12 (dk_at dksX0_lineOf_0 10 rfl rfl)
theorem dX0_lineOf_13 : decode cX0_lineOf 13 = .ok (.getfield 347, 3) := dk_180 1 91 (dk_at dksX0_lineOf_0 13 rfl rfl)
theorem dX0_lineOf_16 : decode cX0_lineOf 16 = .ok (.aload_n 1, 1) := dk_43 (dk_at dksX0_lineOf_0 16 rfl rfl)
theorem dX0_lineOf_17 : decode cX0_lineOf 17 = .ok (.getfield 207, 3) := dk_180 0 207 (dk_at dksX0_lineOf_0 17 rfl rfl)
theorem dX0_lineOf_20 : decode cX0_lineOf 20 = .ok (.invokevirtual 181, 3) := dk_182 0 181 (dk_at dksX0_lineOf_0 20 rfl rfl)
theorem dX0_lineOf_23 : decode cX0_lineOf 23 = .ok (.checkcast 87, 3) := dk_192 0 87 (dk_at dksX0_lineOf_1 0 rfl rfl)
theorem dX0_lineOf_26 : decode cX0_lineOf 26 = .ok (.invokevirtual 350, 3) := dk_182 1 94 (dk_at dksX0_lineOf_1 3 rfl rfl)
theorem dX0_lineOf_29 : decode cX0_lineOf 29 = .ok (.bipush 62, 2) := dk_16 62 (dk_at dksX0_lineOf_1 6 rfl rfl)
theorem dX0_lineOf_31 : decode cX0_lineOf 31 = .ok (.invokevirtual 354, 3) := dk_182 1 98 (dk_at dksX0_lineOf_1 8 rfl rfl)
theorem dX0_lineOf_34 : decode cX0_lineOf 34 = .ok (.aload_n 0, 1) := dk_42 (dk_at dksX0_lineOf_1 11 rfl rfl)
theorem dX0_lineOf_35 : decode cX0_lineOf 35 = .ok (.getfield 12, 3) := dk_180 0 12 (dk_at dksX0_lineOf_1 12 rfl rfl)
theorem dX0_lineOf_38 : decode cX0_lineOf 38 = .ok (.getfield 347, 3) := dk_180 1 91 (dk_at dksX0_lineOf_1 15 rfl rfl)
theorem dX0_lineOf_41 : decode cX0_lineOf 41 = .ok (.aload_n 1, 1) := dk_43 (dk_at dksX0_lineOf_1 18 rfl rfl)
theorem dX0_lineOf_42 : decode cX0_lineOf 42 = .ok (.getfield 210, 3) := dk_180 0 210 (dk_at dksX0_lineOf_1 19 rfl rfl)
theorem dX0_lineOf_45 : decode cX0_lineOf 45 = .ok (.invokevirtual 181, 3) := dk_182 0 181 (dk_at dksX0_lineOf_2 0 rfl rfl)
theorem dX0_lineOf_48 : decode cX0_lineOf 48 = .ok (.checkcast 87, 3) := dk_192 0 87 (dk_at dksX0_lineOf_2 3 rfl rfl)
theorem dX0_lineOf_51 : decode cX0_lineOf 51 = .ok (.invokevirtual 350, 3) := dk_182 1 94 (dk_at dksX0_lineOf_2 6 rfl rfl)
theorem dX0_lineOf_54 : decode cX0_lineOf 54 = .ok (.pop, 1) := dk_87 (dk_at dksX0_lineOf_2 9 rfl rfl)
theorem dX0_lineOf_55 : decode cX0_lineOf 55 = .ok (.aload_n 2, 1) := dk_44 (dk_at dksX0_lineOf_2 10 rfl rfl)
theorem dX0_lineOf_56 : decode cX0_lineOf 56 = .ok (.new 344, 3) := dk_187 1 88 (dk_at dksX0_lineOf_2 11 rfl rfl)
theorem dX0_lineOf_59 : decode cX0_lineOf 59 = .ok (.dup, 1) := dk_89 (dk_at dksX0_lineOf_2 14 rfl rfl)
theorem dX0_lineOf_60 : decode cX0_lineOf 60 = .ok (.invokespecial 346, 3) := dk_183 1 90 (dk_at dksX0_lineOf_2 15 rfl rfl)
theorem dX0_lineOf_63 : decode cX0_lineOf 63 = .ok (.ldc_w 357, 3) := dk_19 1 101 (dk_at dksX0_lineOf_2 18 rfl rfl)
theorem dX0_lineOf_66 : decode cX0_lineOf 66 = .ok (.invokevirtual 350, 3) := dk_182 1 94 (dk_at dksX0_lineOf_2 21 rfl rfl)
theorem dX0_lineOf_69 : decode cX0_lineOf 69 = .ok (.aload_n 1, 1) := dk_43 (dk_at dksX0_lineOf_3 0 rfl rfl)
theorem dX0_lineOf_70 : decode cX0_lineOf 70 = .ok (.getfield 213, 3) := dk_180 0 213 (dk_at dksX0_lineOf_3 1 rfl rfl)
theorem dX0_lineOf_73 : decode cX0_lineOf 73 = .ok (.invokevirtual 359, 3) := dk_182 1 103 (dk_at dksX0_lineOf_3 4 rfl rfl)
theorem dX0_lineOf_76 : decode cX0_lineOf 76 = .ok (.ldc_w 357, 3) := dk_19 1 101 (dk_at dksX0_lineOf_3 7 rfl rfl)
theorem dX0_lineOf_79 : decode cX0_lineOf 79 = .ok (.invokevirtual 350, 3) := dk_182 1 94 (dk_at dksX0_lineOf_3 10 rfl rfl)
theorem dX0_lineOf_82 : decode cX0_lineOf 82 = .ok (.invokevirtual 362, 3) := dk_182 1 106 (dk_at dksX0_lineOf_3 13 rfl rfl)
theorem dX0_lineOf_85 : decode cX0_lineOf 85 = .ok (.invokevirtual 350, 3) := dk_182 1 94 (dk_at dksX0_lineOf_3 16 rfl rfl)
theorem dX0_lineOf_88 : decode cX0_lineOf 88 = .ok (.aload_n 0, 1) := dk_42 (dk_at dksX0_lineOf_3 19 rfl rfl)
theorem dX0_lineOf_89 : decode cX0_lineOf 89 = .ok (.getfield 12, 3) := dk_180 0 12 (dk_at dksX0_lineOf_3 20 rfl rfl)
theorem dX0_lineOf_92 : decode cX0_lineOf 92 = .ok (.getfield 158, 3) := dk_180 0 158 (dk_at dksX0_lineOf_4 0 rfl rfl)
theorem dX0_lineOf_95 : decode cX0_lineOf 95 = .ok (.aload_n 1, 1) := dk_43 (dk_at dksX0_lineOf_4 3 rfl rfl)
theorem dX0_lineOf_96 : decode cX0_lineOf 96 = .ok (.getfield 254, 3) := dk_180 0 254 (dk_at dksX0_lineOf_4 4 rfl rfl)
theorem dX0_lineOf_99 : decode cX0_lineOf 99 = .ok (.invokevirtual 181, 3) := dk_182 0 181 (dk_at dksX0_lineOf_4 7 rfl rfl)
theorem dX0_lineOf_102 : decode cX0_lineOf 102 = .ok (.checkcast 87, 3) := dk_192 0 87 (dk_at dksX0_lineOf_4 10 rfl rfl)
theorem dX0_lineOf_105 : decode cX0_lineOf 105 = .ok (.invokevirtual 350, 3) := dk_182 1 94 (dk_at dksX0_lineOf_4 13 rfl rfl)
theorem dX0_lineOf_108 : decode cX0_lineOf 108 = .ok (.pop, 1) := dk_87 (dk_at dksX0_lineOf_4 16 rfl rfl)
theorem dX0_lineOf_109 : decode cX0_lineOf 109 = .ok (.aload_n 1, 1) := dk_43 (dk_at dksX0_lineOf_4 17 rfl rfl)
theorem dX0_lineOf_110 : decode cX0_lineOf 110 = .ok (.getfield 192, 3) := dk_180 0 192 (dk_at dksX0_lineOf_4 18 rfl rfl)
theorem dX0_lineOf_113 : decode cX0_lineOf 113 = .ok (.ifCond .eq 11, 3) := dk_153 0 11 (dk_at dksX0_lineOf_4 21 rfl rfl)
theorem dX0_lineOf_116 : decode cX0_lineOf 116 = .ok (.aload_n 2, 1) := dk_44 (dk_at dksX0_lineOf_5 0 rfl rfl)
theorem dX0_lineOf_117 : decode cX0_lineOf 117 = .ok (.ldc_w 366, 3) := dk_19 1 110 (dk_at dksX0_lineOf_5 1 rfl rfl)
theorem dX0_lineOf_120 : decode cX0_lineOf 120 = .ok (.invokevirtual 350, 3) := dk_182 1 94 (dk_at dksX0_lineOf_5 4 rfl rfl)
theorem dX0_lineOf_123 : decode cX0_lineOf 123 = .ok (.pop, 1) := dk_87 (dk_at dksX0_lineOf_5 7 rfl rfl)
theorem dX0_lineOf_124 : decode cX0_lineOf 124 = .ok (.aload_n 2, 1) := dk_44 (dk_at dksX0_lineOf_5 8 rfl rfl)
theorem dX0_lineOf_125 : decode cX0_lineOf 125 = .ok (.areturn, 1) := dk_176 (dk_at dksX0_lineOf_5 9 rfl rfl)
abbrev cX0_count : ByteArray := prog_1_method_65_code
def yX0_count : MethodName := ⟨RX0, "count", "(I)I"⟩
def dkwX0_count_4 : List UInt8 := [180, 0, 21, 182, 0, 134, 172, 42, 180, 0, 105, 172, 2, 172]
abbrev dktX0_count_4 : List UInt8 := dkwX0_count_4 ++ []
def dkwX0_count_3 : List UInt8 := [180, 0, 131, 182, 0, 134, 172, 42, 180, 0, 12, 182, 1, 125, 172, 42, 180, 0, 12, 180, 0, 55, 172, 42]
abbrev dktX0_count_3 : List UInt8 := dkwX0_count_3 ++ dktX0_count_4
def dkwX0_count_2 : List UInt8 := [42, 180, 0, 12, 182, 0, 51, 172, 42, 180, 0, 12, 180, 0, 158, 182, 0, 134, 172, 42, 180, 0, 12]
abbrev dktX0_count_2 : List UInt8 := dkwX0_count_2 ++ dktX0_count_3
def dkwX0_count_1 : List UInt8 := [170, 0, 0, 0, 0, 0, 102, 0, 0, 0, 0, 0, 0, 0, 6, 0, 0, 0, 43, 0, 0, 0, 51, 0, 0, 0, 62, 0, 0, 0, 73, 0, 0, 0, 81, 0, 0, 0, 89, 0, 0, 0, 97]
abbrev dktX0_count_1 : List UInt8 := dkwX0_count_1 ++ dktX0_count_2
def dkwX0_count_0 : List UInt8 := [27]
abbrev dktX0_count_0 : List UInt8 := dkwX0_count_0 ++ dktX0_count_1
theorem dksX0_count_0 : cX0_count.data.toList.drop 0 = dktX0_count_0 := by decide +kernel
theorem dksX0_count_1 : cX0_count.data.toList.drop 1 = dktX0_count_1 := dk_seg dksX0_count_0 1 rfl rfl
theorem dksX0_count_2 : cX0_count.data.toList.drop 44 = dktX0_count_2 := dk_seg dksX0_count_1 43 rfl rfl
theorem dksX0_count_3 : cX0_count.data.toList.drop 67 = dktX0_count_3 := dk_seg dksX0_count_2 23 rfl rfl
theorem dksX0_count_4 : cX0_count.data.toList.drop 91 = dktX0_count_4 := dk_seg dksX0_count_3 24 rfl rfl
theorem dX0_count_0 : decode cX0_count 0 = .ok (.iload_n 1, 1) := dk_27 (dk_at dksX0_count_0 0 rfl rfl)
theorem dX0_count_1 : decode cX0_count 1 = .ok (.tableswitch 102 0 6 #[43, 51, 62, 73, 81, 89, 97], 43) := by decide +kernel
theorem dX0_count_44 : decode cX0_count 44 = .ok (.aload_n 0, 1) := dk_42 (dk_at dksX0_count_2 0 rfl rfl)
theorem dX0_count_45 : decode cX0_count 45 = .ok (.getfield 12, 3) := dk_180 0 12 (dk_at dksX0_count_2 1 rfl rfl)
theorem dX0_count_48 : decode cX0_count 48 = .ok (.invokevirtual 51, 3) := dk_182 0 51 (dk_at dksX0_count_2 4 rfl rfl)
theorem dX0_count_51 : decode cX0_count 51 = .ok (.ireturn, 1) := dk_172 (dk_at dksX0_count_2 7 rfl rfl)
theorem dX0_count_52 : decode cX0_count 52 = .ok (.aload_n 0, 1) := dk_42 (dk_at dksX0_count_2 8 rfl rfl)
theorem dX0_count_53 : decode cX0_count 53 = .ok (.getfield 12, 3) := dk_180 0 12 (dk_at dksX0_count_2 9 rfl rfl)
theorem dX0_count_56 : decode cX0_count 56 = .ok (.getfield 158, 3) := dk_180 0 158 (dk_at dksX0_count_2 12 rfl rfl)
theorem dX0_count_59 : decode cX0_count 59 = .ok (.invokevirtual 134, 3) := dk_182 0 134 (dk_at dksX0_count_2 15 rfl rfl)
theorem dX0_count_62 : decode cX0_count 62 = .ok (.ireturn, 1) := dk_172 (dk_at dksX0_count_2 18 rfl rfl)
theorem dX0_count_63 : decode cX0_count 63 = .ok (.aload_n 0, 1) := dk_42 (dk_at dksX0_count_2 19 rfl rfl)
theorem dX0_count_64 : decode cX0_count 64 = .ok (.getfield 12, 3) := dk_180 0 12 (dk_at dksX0_count_2 20 rfl rfl)
theorem dX0_count_67 : decode cX0_count 67 = .ok (.getfield 131, 3) := dk_180 0 131 (dk_at dksX0_count_3 0 rfl rfl)
theorem dX0_count_70 : decode cX0_count 70 = .ok (.invokevirtual 134, 3) := dk_182 0 134 (dk_at dksX0_count_3 3 rfl rfl)
theorem dX0_count_73 : decode cX0_count 73 = .ok (.ireturn, 1) := dk_172 (dk_at dksX0_count_3 6 rfl rfl)
theorem dX0_count_74 : decode cX0_count 74 = .ok (.aload_n 0, 1) := dk_42 (dk_at dksX0_count_3 7 rfl rfl)
theorem dX0_count_75 : decode cX0_count 75 = .ok (.getfield 12, 3) := dk_180 0 12 (dk_at dksX0_count_3 8 rfl rfl)
theorem dX0_count_78 : decode cX0_count 78 = .ok (.invokevirtual 381, 3) := dk_182 1 125 (dk_at dksX0_count_3 11 rfl rfl)
theorem dX0_count_81 : decode cX0_count 81 = .ok (.ireturn, 1) := dk_172 (dk_at dksX0_count_3 14 rfl rfl)
theorem dX0_count_82 : decode cX0_count 82 = .ok (.aload_n 0, 1) := dk_42 (dk_at dksX0_count_3 15 rfl rfl)
theorem dX0_count_83 : decode cX0_count 83 = .ok (.getfield 12, 3) := dk_180 0 12 (dk_at dksX0_count_3 16 rfl rfl)
theorem dX0_count_86 : decode cX0_count 86 = .ok (.getfield 55, 3) := dk_180 0 55 (dk_at dksX0_count_3 19 rfl rfl)
theorem dX0_count_89 : decode cX0_count 89 = .ok (.ireturn, 1) := dk_172 (dk_at dksX0_count_3 22 rfl rfl)
theorem dX0_count_90 : decode cX0_count 90 = .ok (.aload_n 0, 1) := dk_42 (dk_at dksX0_count_3 23 rfl rfl)
theorem dX0_count_91 : decode cX0_count 91 = .ok (.getfield 21, 3) := dk_180 0 21 (dk_at dksX0_count_4 0 rfl rfl)
theorem dX0_count_94 : decode cX0_count 94 = .ok (.invokevirtual 134, 3) := dk_182 0 134 (dk_at dksX0_count_4 3 rfl rfl)
theorem dX0_count_97 : decode cX0_count 97 = .ok (.ireturn, 1) := dk_172 (dk_at dksX0_count_4 6 rfl rfl)
theorem dX0_count_98 : decode cX0_count 98 = .ok (.aload_n 0, 1) := dk_42 (dk_at dksX0_count_4 7 rfl rfl)
theorem dX0_count_99 : decode cX0_count 99 = .ok (.getfield 105, 3) := dk_180 0 105 (dk_at dksX0_count_4 8 rfl rfl)
theorem dX0_count_102 : decode cX0_count 102 = .ok (.ireturn, 1) := dk_172 (dk_at dksX0_count_4 11 rfl rfl)
theorem dX0_count_103 : decode cX0_count 103 = .ok (.iconst (-1), 1) := dk_2 (dk_at dksX0_count_4 12 rfl rfl)
theorem dX0_count_104 : decode cX0_count 104 = .ok (.ireturn, 1) := dk_172 (dk_at dksX0_count_4 13 rfl rfl)
theorem q101 : (Jvm.Cond.initialized "SwapPress") ∈ lw_all := lw_g (lw_at lw_m1 1 rfl) rfl
theorem q134 : (Jvm.Cond.instantiable "SwapPress" (9 : Nat)) ∈ lw_all := lw_g (lw_at lw_m1 34 rfl) rfl
theorem q136 : (Jvm.Cond.instanceMethod ({ cls := "SwapPress", name := "<init>", desc := "()V" } : Jvm.MethodName)) ∈ lw_all := lw_g (lw_at lw_m1 36 rfl) rfl
theorem q137 : (Jvm.Cond.code ({ cls := "SwapPress", name := "<init>", desc := "()V" } : Jvm.MethodName) prog_1_method_3_code (1 : Nat) (Option.none : Option Jvm.ClassFile.FieldType)) ∈ lw_all := lw_g (lw_at lw_m1 37 rfl) rfl
theorem q138 : (Jvm.Cond.methodLink "SwapPress" (3 : Nat) ({ cls := "java/lang/Object", name := "<init>", desc := "()V" } : Jvm.MethodName)) ∈ lw_all := lw_g (lw_at lw_m1 38 rfl) rfl
theorem q141 : (Jvm.Cond.classLink "SwapPress" (9 : Nat) "SwapPress$State") ∈ lw_all := lw_g (lw_at lw_m1 41 rfl) rfl
theorem q143 : (Jvm.Cond.methodLink "SwapPress" (11 : Nat) ({ cls := "SwapPress$State", name := "<init>", desc := "()V" } : Jvm.MethodName)) ∈ lw_all := lw_g (lw_at lw_m1 43 rfl) rfl
theorem q176 : (Jvm.Cond.fieldLinkNest "SwapPress" (347 : Nat) "SwapPress$State" "parties" "Ljava/util/ArrayList;" "SwapPress") ∈ lw_tbl := lw_at lw_m1 76 rfl
theorem q179 : (Jvm.Cond.fieldLinkNest "SwapPress" (158 : Nat) "SwapPress$State" "kinds" "Ljava/util/ArrayList;" "SwapPress") ∈ lw_tbl := lw_at lw_m1 79 rfl
theorem q181 : (Jvm.Cond.fieldLinkNest "SwapPress" (131 : Nat) "SwapPress$State" "trades" "Ljava/util/ArrayList;" "SwapPress") ∈ lw_tbl := lw_at lw_m1 81 rfl
theorem q184 : (Jvm.Cond.fieldLinkNest "SwapPress" (58 : Nat) "SwapPress$State" "cap" "[I" "SwapPress") ∈ lw_tbl := lw_at lw_m1 84 rfl
theorem q187 : (Jvm.Cond.fieldLinkNest "SwapPress" (55 : Nat) "SwapPress$State" "mode" "I" "SwapPress") ∈ lw_tbl := lw_at lw_m1 87 rfl
theorem q201 : (Jvm.Cond.classLink "SwapPress" (18 : Nat) "java/util/ArrayList") ∈ lw_all := lw_g (lw_at lw_m1 101 rfl) rfl
theorem q202 : (Jvm.Cond.methodLink "SwapPress" (20 : Nat) ({ cls := "java/util/ArrayList", name := "<init>", desc := "()V" } : Jvm.MethodName)) ∈ lw_all := lw_g (lw_at lw_m1 102 rfl) rfl
theorem q203 : (Jvm.Cond.classLink "SwapPress" (25 : Nat) "SwapPress$Ways") ∈ lw_all := lw_g (lw_at lw_m1 103 rfl) rfl
theorem q205 : (Jvm.Cond.methodLinkNest "SwapPress" (27 : Nat) ({ cls := "SwapPress$Ways", name := "<init>", desc := "()V" } : Jvm.MethodName) "SwapPress") ∈ lw_tbl := lw_at lw_m1 105 rfl
theorem q235 : (Jvm.Cond.fieldLink "SwapPress" (12 : Nat) "SwapPress" "now" "LSwapPress$State;") ∈ lw_all := lw_g (lw_at lw_m1 135 rfl) rfl
theorem q236 : (Jvm.Cond.fieldLink "SwapPress" (21 : Nat) "SwapPress" "past" "Ljava/util/ArrayList;") ∈ lw_all := lw_g (lw_at lw_m1 136 rfl) rfl
theorem q238 : (Jvm.Cond.fieldLink "SwapPress" (28 : Nat) "SwapPress" "ways" "LSwapPress$Ways;") ∈ lw_all := lw_g (lw_at lw_m1 138 rfl) rfl
theorem q239 : (Jvm.Cond.fieldLink "SwapPress" (32 : Nat) "SwapPress" "firstKind" "I") ∈ lw_all := lw_g (lw_at lw_m1 139 rfl) rfl
theorem q240 : (Jvm.Cond.fieldLink "SwapPress" (83 : Nat) "SwapPress" "firstRow" "[I") ∈ lw_all := lw_g (lw_at lw_m1 140 rfl) rfl
theorem q242 : (Jvm.Cond.fieldLink "SwapPress" (36 : Nat) "SwapPress" "tape" "[B") ∈ lw_all := lw_g (lw_at lw_m1 142 rfl) rfl
theorem q243 : (Jvm.Cond.fieldLink "SwapPress" (105 : Nat) "SwapPress" "taped" "I") ∈ lw_all := lw_g (lw_at lw_m1 143 rfl) rfl
theorem q244 : (Jvm.Cond.fieldLink "SwapPress" (116 : Nat) "SwapPress" "faultKind" "I") ∈ lw_all := lw_g (lw_at lw_m1 144 rfl) rfl
theorem q245 : (Jvm.Cond.fieldLink "SwapPress" (40 : Nat) "SwapPress" "faultPlace" "I") ∈ lw_all := lw_g (lw_at lw_m1 145 rfl) rfl
theorem q246 : (Jvm.Cond.lays "SwapPress" "SwapPress" "now" "LSwapPress$State;") ∈ lw_all := lw_g (lw_at lw_m1 146 rfl) rfl
theorem q247 : (Jvm.Cond.soleField "SwapPress" "now") ∈ lw_all := lw_g (lw_at lw_m1 147 rfl) rfl
theorem q248 : (Jvm.Cond.laysFinal "SwapPress" "SwapPress" "past" "Ljava/util/ArrayList;") ∈ lw_all := lw_g (lw_at lw_m1 148 rfl) rfl
theorem q249 : (Jvm.Cond.soleField "SwapPress" "past") ∈ lw_all := lw_g (lw_at lw_m1 149 rfl) rfl
theorem q250 : (Jvm.Cond.laysFinal "SwapPress" "SwapPress" "ways" "LSwapPress$Ways;") ∈ lw_all := lw_g (lw_at lw_m1 150 rfl) rfl
theorem q251 : (Jvm.Cond.soleField "SwapPress" "ways") ∈ lw_all := lw_g (lw_at lw_m1 151 rfl) rfl
theorem q252 : (Jvm.Cond.lays "SwapPress" "SwapPress" "firstKind" "I") ∈ lw_all := lw_g (lw_at lw_m1 152 rfl) rfl
theorem q253 : (Jvm.Cond.soleField "SwapPress" "firstKind") ∈ lw_all := lw_g (lw_at lw_m1 153 rfl) rfl
theorem q254 : (Jvm.Cond.lays "SwapPress" "SwapPress" "firstRow" "[I") ∈ lw_all := lw_g (lw_at lw_m1 154 rfl) rfl
theorem q255 : (Jvm.Cond.soleField "SwapPress" "firstRow") ∈ lw_all := lw_g (lw_at lw_m1 155 rfl) rfl
theorem q256 : (Jvm.Cond.laysFinal "SwapPress" "SwapPress" "tape" "[B") ∈ lw_all := lw_g (lw_at lw_m1 156 rfl) rfl
theorem q257 : (Jvm.Cond.soleField "SwapPress" "tape") ∈ lw_all := lw_g (lw_at lw_m1 157 rfl) rfl
theorem q258 : (Jvm.Cond.lays "SwapPress" "SwapPress" "taped" "I") ∈ lw_all := lw_g (lw_at lw_m1 158 rfl) rfl
theorem q259 : (Jvm.Cond.soleField "SwapPress" "taped") ∈ lw_all := lw_g (lw_at lw_m1 159 rfl) rfl
theorem q260 : (Jvm.Cond.lays "SwapPress" "SwapPress" "faultKind" "I") ∈ lw_all := lw_g (lw_at lw_m1 160 rfl) rfl
theorem q261 : (Jvm.Cond.soleField "SwapPress" "faultKind") ∈ lw_all := lw_g (lw_at lw_m1 161 rfl) rfl
theorem q262 : (Jvm.Cond.lays "SwapPress" "SwapPress" "faultPlace" "I") ∈ lw_all := lw_g (lw_at lw_m1 162 rfl) rfl
theorem q263 : (Jvm.Cond.soleField "SwapPress" "faultPlace") ∈ lw_all := lw_g (lw_at lw_m1 163 rfl) rfl
theorem q264 : (Jvm.Cond.superclass "SwapPress" "java/lang/Object") ∈ lw_all := lw_g (lw_at lw_m1 164 rfl) rfl
theorem q267 : (Jvm.Cond.instanceMethod ({ cls := "SwapPress", name := "feed", desc := "(IIIII)I" } : Jvm.MethodName)) ∈ lw_all := lw_g (lw_at lw_m1 167 rfl) rfl
theorem q268 : (Jvm.Cond.selects "SwapPress" ({ cls := "SwapPress", name := "feed", desc := "(IIIII)I" } : Jvm.MethodName) ({ cls := "SwapPress", name := "feed", desc := "(IIIII)I" } : Jvm.MethodName)) ∈ lw_all := lw_g (lw_at lw_m1 168 rfl) rfl
theorem q269 : (Jvm.Cond.code ({ cls := "SwapPress", name := "feed", desc := "(IIIII)I" } : Jvm.MethodName) prog_1_method_8_code (6 : Nat) (Option.some Jvm.ClassFile.FieldType.int)) ∈ lw_all := lw_g (lw_at lw_m1 169 rfl) rfl
theorem q270 : (Jvm.Cond.methodLink "SwapPress" (108 : Nat) ({ cls := "SwapPress", name := "bytes", desc := "(I)V" } : Jvm.MethodName)) ∈ lw_all := lw_g (lw_at lw_m1 170 rfl) rfl
theorem q271 : (Jvm.Cond.privateMethod ({ cls := "SwapPress", name := "bytes", desc := "(I)V" } : Jvm.MethodName)) ∈ lw_tbl := lw_at lw_m1 171 rfl
theorem q272 : (Jvm.Cond.instanceMethod ({ cls := "SwapPress", name := "bytes", desc := "(I)V" } : Jvm.MethodName)) ∈ lw_all := lw_g (lw_at lw_m1 172 rfl) rfl
theorem q273 : (Jvm.Cond.code ({ cls := "SwapPress", name := "bytes", desc := "(I)V" } : Jvm.MethodName) prog_1_method_9_code (3 : Nat) (Option.none : Option Jvm.ClassFile.FieldType)) ∈ lw_all := lw_g (lw_at lw_m1 173 rfl) rfl
theorem q275 : (Jvm.Cond.instanceMethod ({ cls := "SwapPress", name := "tell", desc := "(I)I" } : Jvm.MethodName)) ∈ lw_all := lw_g (lw_at lw_m1 175 rfl) rfl
theorem q276 : (Jvm.Cond.selects "SwapPress" ({ cls := "SwapPress", name := "tell", desc := "(I)I" } : Jvm.MethodName) ({ cls := "SwapPress", name := "tell", desc := "(I)I" } : Jvm.MethodName)) ∈ lw_all := lw_g (lw_at lw_m1 176 rfl) rfl
theorem q277 : (Jvm.Cond.codeWith ({ cls := "SwapPress", name := "tell", desc := "(I)I" } : Jvm.MethodName) prog_1_method_10_code (3 : Nat) (Option.some Jvm.ClassFile.FieldType.int) [((32 : Nat), (70 : Nat), (71 : Nat), (137 : Nat))]) ∈ lw_all := lw_g (lw_at lw_m1 177 rfl) rfl
theorem q278 : (Jvm.Cond.classLink "SwapPress" (137 : Nat) "SwapPress$Wrong") ∈ lw_all := lw_g (lw_at lw_m1 178 rfl) rfl
theorem q279 : (Jvm.Cond.methodLink "SwapPress" (112 : Nat) ({ cls := "SwapPress", name := "in", desc := "(JJJ)Z" } : Jvm.MethodName)) ∈ lw_all := lw_g (lw_at lw_m1 179 rfl) rfl
theorem q280 : (Jvm.Cond.static ({ cls := "SwapPress", name := "in", desc := "(JJJ)Z" } : Jvm.MethodName)) ∈ lw_all := lw_g (lw_at lw_m1 180 rfl) rfl
theorem q281 : (Jvm.Cond.code ({ cls := "SwapPress", name := "in", desc := "(JJJ)Z" } : Jvm.MethodName) prog_1_method_1_code (6 : Nat) (Option.some Jvm.ClassFile.FieldType.boolean)) ∈ lw_all := lw_g (lw_at lw_m1 181 rfl) rfl
theorem q282 : (Jvm.Cond.classLink "SwapPress" (119 : Nat) "SwapPress$Reader") ∈ lw_all := lw_g (lw_at lw_m1 182 rfl) rfl
theorem q284 : (Jvm.Cond.methodLink "SwapPress" (121 : Nat) ({ cls := "SwapPress$Reader", name := "<init>", desc := "(LSwapPress;I)V" } : Jvm.MethodName)) ∈ lw_all := lw_g (lw_at lw_m1 184 rfl) rfl
theorem q312 : (Jvm.Cond.methodLink "SwapPress" (124 : Nat) ({ cls := "SwapPress$Reader", name := "reads", desc := "()LSwapPress$State;" } : Jvm.MethodName)) ∈ lw_all := lw_g (lw_at lw_m1 212 rfl) rfl
theorem q575 : (Jvm.Cond.fieldLinkNest "SwapPress" (139 : Nat) "SwapPress$Wrong" "kind" "I" "SwapPress") ∈ lw_tbl := lw_at lw_m2 235 rfl
theorem q577 : (Jvm.Cond.fieldLinkNest "SwapPress" (141 : Nat) "SwapPress$Wrong" "place" "I" "SwapPress") ∈ lw_tbl := lw_at lw_m2 237 rfl
theorem q675 : (Jvm.Cond.static ({ cls := "SwapPress", name := "isOwn", desc := "(Ljava/lang/String;)Z" } : Jvm.MethodName)) ∈ lw_all := lw_g (lw_at lw_m3 95 rfl) rfl
theorem q676 : (Jvm.Cond.code ({ cls := "SwapPress", name := "isOwn", desc := "(Ljava/lang/String;)Z" } : Jvm.MethodName) prog_1_method_7_code (3 : Nat) (Option.some Jvm.ClassFile.FieldType.boolean)) ∈ lw_all := lw_g (lw_at lw_m3 96 rfl) rfl
theorem q677 : (Jvm.Cond.methodLink "SwapPress" (86 : Nat) ({ cls := "java/lang/String", name := "hashCode", desc := "()I" } : Jvm.MethodName)) ∈ lw_all := lw_g (lw_at lw_m3 97 rfl) rfl
theorem q678 : (Jvm.Cond.stringRef "SwapPress" (91 : Nat) "party") ∈ lw_tbl := lw_at lw_m3 98 rfl
theorem q679 : (Jvm.Cond.methodLink "SwapPress" (93 : Nat) ({ cls := "java/lang/String", name := "equals", desc := "(Ljava/lang/Object;)Z" } : Jvm.MethodName)) ∈ lw_all := lw_g (lw_at lw_m3 99 rfl) rfl
theorem q680 : (Jvm.Cond.stringRef "SwapPress" (97 : Nat) "kind") ∈ lw_tbl := lw_at lw_m3 100 rfl
theorem q681 : (Jvm.Cond.stringRef "SwapPress" (99 : Nat) "trade") ∈ lw_tbl := lw_at lw_m3 101 rfl
theorem q682 : (Jvm.Cond.stringRef "SwapPress" (101 : Nat) "keep") ∈ lw_tbl := lw_at lw_m3 102 rfl
theorem q683 : (Jvm.Cond.stringRef "SwapPress" (103 : Nat) "cap") ∈ lw_tbl := lw_at lw_m3 103 rfl
theorem q684 : (Jvm.Cond.stringRef "SwapPress" (104 : Nat) "mode") ∈ lw_tbl := lw_at lw_m3 104 rfl
theorem q701 : (Jvm.Cond.selects "SwapPress" ({ cls := "java/lang/Object", name := "equals", desc := "(Ljava/lang/Object;)Z" } : Jvm.MethodName) ({ cls := "java/lang/Object", name := "equals", desc := "(Ljava/lang/Object;)Z" } : Jvm.MethodName)) ∈ lw_all := lw_g (lw_at lw_m3 121 rfl) rfl
theorem q741 : (Jvm.Cond.selects "SwapPress" ({ cls := "java/lang/Object", name := "getClass", desc := "()Ljava/lang/Class;" } : Jvm.MethodName) ({ cls := "java/lang/Object", name := "getClass", desc := "()Ljava/lang/Class;" } : Jvm.MethodName)) ∈ lw_all := lw_g (lw_at lw_m3 161 rfl) rfl
theorem q793 : (Jvm.Cond.fieldLinkNest "SwapPress" (207 : Nat) "SwapPress$Trade" "from" "I" "SwapPress") ∈ lw_tbl := lw_at lw_m3 213 rfl
theorem q796 : (Jvm.Cond.fieldLinkNest "SwapPress" (210 : Nat) "SwapPress$Trade" "to" "I" "SwapPress") ∈ lw_tbl := lw_at lw_m3 216 rfl
theorem q799 : (Jvm.Cond.fieldLinkNest "SwapPress" (213 : Nat) "SwapPress$Trade" "amount" "I" "SwapPress") ∈ lw_tbl := lw_at lw_m3 219 rfl
theorem q802 : (Jvm.Cond.fieldLinkNest "SwapPress" (254 : Nat) "SwapPress$Trade" "kind" "I" "SwapPress") ∈ lw_tbl := lw_at lw_m3 222 rfl
theorem q806 : (Jvm.Cond.fieldLinkNest "SwapPress" (192 : Nat) "SwapPress$Trade" "isKept" "Z" "SwapPress") ∈ lw_tbl := lw_at lw_m3 226 rfl
theorem q849 : (Jvm.Cond.methodLink "SwapPress" (128 : Nat) ({ cls := "java/util/ArrayList", name := "clear", desc := "()V" } : Jvm.MethodName)) ∈ lw_all := lw_g (lw_at lw_m4 29 rfl) rfl
theorem q853 : (Jvm.Cond.methodLink "SwapPress" (134 : Nat) ({ cls := "java/util/ArrayList", name := "size", desc := "()I" } : Jvm.MethodName)) ∈ lw_all := lw_g (lw_at lw_m4 33 rfl) rfl
theorem q855 : (Jvm.Cond.instanceMethod ({ cls := "SwapPress", name := "fault", desc := "(I)I" } : Jvm.MethodName)) ∈ lw_all := lw_g (lw_at lw_m4 35 rfl) rfl
theorem q856 : (Jvm.Cond.selects "SwapPress" ({ cls := "SwapPress", name := "fault", desc := "(I)I" } : Jvm.MethodName) ({ cls := "SwapPress", name := "fault", desc := "(I)I" } : Jvm.MethodName)) ∈ lw_all := lw_g (lw_at lw_m4 36 rfl) rfl
theorem q857 : (Jvm.Cond.code ({ cls := "SwapPress", name := "fault", desc := "(I)I" } : Jvm.MethodName) prog_1_method_11_code (2 : Nat) (Option.some Jvm.ClassFile.FieldType.int)) ∈ lw_all := lw_g (lw_at lw_m4 37 rfl) rfl
theorem q859 : (Jvm.Cond.instanceMethod ({ cls := "SwapPress", name := "trade", desc := "(IIII)I" } : Jvm.MethodName)) ∈ lw_all := lw_g (lw_at lw_m4 39 rfl) rfl
theorem q860 : (Jvm.Cond.selects "SwapPress" ({ cls := "SwapPress", name := "trade", desc := "(IIII)I" } : Jvm.MethodName) ({ cls := "SwapPress", name := "trade", desc := "(IIII)I" } : Jvm.MethodName)) ∈ lw_all := lw_g (lw_at lw_m4 40 rfl) rfl
theorem q861 : (Jvm.Cond.code ({ cls := "SwapPress", name := "trade", desc := "(IIII)I" } : Jvm.MethodName) prog_1_method_17_code (5 : Nat) (Option.some Jvm.ClassFile.FieldType.int)) ∈ lw_all := lw_g (lw_at lw_m4 41 rfl) rfl
theorem q862 : (Jvm.Cond.methodLink "SwapPress" (161 : Nat) ({ cls := "SwapPress", name := "areTwo", desc := "(II)Z" } : Jvm.MethodName)) ∈ lw_all := lw_g (lw_at lw_m4 42 rfl) rfl
theorem q863 : (Jvm.Cond.privateMethod ({ cls := "SwapPress", name := "areTwo", desc := "(II)Z" } : Jvm.MethodName)) ∈ lw_tbl := lw_at lw_m4 43 rfl
theorem q864 : (Jvm.Cond.instanceMethod ({ cls := "SwapPress", name := "areTwo", desc := "(II)Z" } : Jvm.MethodName)) ∈ lw_all := lw_g (lw_at lw_m4 44 rfl) rfl
theorem q865 : (Jvm.Cond.code ({ cls := "SwapPress", name := "areTwo", desc := "(II)Z" } : Jvm.MethodName) prog_1_method_14_code (3 : Nat) (Option.some Jvm.ClassFile.FieldType.boolean)) ∈ lw_all := lw_g (lw_at lw_m4 45 rfl) rfl
theorem q866 : (Jvm.Cond.methodLink "SwapPress" (154 : Nat) ({ cls := "SwapPress", name := "isParty", desc := "(I)Z" } : Jvm.MethodName)) ∈ lw_all := lw_g (lw_at lw_m4 46 rfl) rfl
theorem q867 : (Jvm.Cond.privateMethod ({ cls := "SwapPress", name := "isParty", desc := "(I)Z" } : Jvm.MethodName)) ∈ lw_tbl := lw_at lw_m4 47 rfl
theorem q868 : (Jvm.Cond.instanceMethod ({ cls := "SwapPress", name := "isParty", desc := "(I)Z" } : Jvm.MethodName)) ∈ lw_all := lw_g (lw_at lw_m4 48 rfl) rfl
theorem q869 : (Jvm.Cond.code ({ cls := "SwapPress", name := "isParty", desc := "(I)Z" } : Jvm.MethodName) prog_1_method_13_code (2 : Nat) (Option.some Jvm.ClassFile.FieldType.boolean)) ∈ lw_all := lw_g (lw_at lw_m4 49 rfl) rfl
theorem q870 : (Jvm.Cond.methodLink "SwapPress" (51 : Nat) ({ cls := "SwapPress$State", name := "many", desc := "()I" } : Jvm.MethodName)) ∈ lw_all := lw_g (lw_at lw_m4 50 rfl) rfl
theorem q875 : (Jvm.Cond.methodLink "SwapPress" (165 : Nat) ({ cls := "SwapPress", name := "isKind", desc := "(I)Z" } : Jvm.MethodName)) ∈ lw_all := lw_g (lw_at lw_m4 55 rfl) rfl
theorem q876 : (Jvm.Cond.privateMethod ({ cls := "SwapPress", name := "isKind", desc := "(I)Z" } : Jvm.MethodName)) ∈ lw_tbl := lw_at lw_m4 56 rfl
theorem q877 : (Jvm.Cond.instanceMethod ({ cls := "SwapPress", name := "isKind", desc := "(I)Z" } : Jvm.MethodName)) ∈ lw_all := lw_g (lw_at lw_m4 57 rfl) rfl
theorem q878 : (Jvm.Cond.code ({ cls := "SwapPress", name := "isKind", desc := "(I)Z" } : Jvm.MethodName) prog_1_method_15_code (2 : Nat) (Option.some Jvm.ClassFile.FieldType.boolean)) ∈ lw_all := lw_g (lw_at lw_m4 58 rfl) rfl
theorem q879 : (Jvm.Cond.constantLong "SwapPress" (168 : Nat) (999999 : Int64)) ∈ lw_all := lw_g (lw_at lw_m4 59 rfl) rfl
theorem q880 : (Jvm.Cond.methodLink "SwapPress" (170 : Nat) ({ cls := "SwapPress", name := "acts", desc := "()V" } : Jvm.MethodName)) ∈ lw_all := lw_g (lw_at lw_m4 60 rfl) rfl
theorem q881 : (Jvm.Cond.privateMethod ({ cls := "SwapPress", name := "acts", desc := "()V" } : Jvm.MethodName)) ∈ lw_tbl := lw_at lw_m4 61 rfl
theorem q882 : (Jvm.Cond.instanceMethod ({ cls := "SwapPress", name := "acts", desc := "()V" } : Jvm.MethodName)) ∈ lw_all := lw_g (lw_at lw_m4 62 rfl) rfl
theorem q883 : (Jvm.Cond.code ({ cls := "SwapPress", name := "acts", desc := "()V" } : Jvm.MethodName) prog_1_method_12_code (1 : Nat) (Option.none : Option Jvm.ClassFile.FieldType)) ∈ lw_all := lw_g (lw_at lw_m4 63 rfl) rfl
theorem q884 : (Jvm.Cond.methodLink "SwapPress" (144 : Nat) ({ cls := "java/util/ArrayList", name := "remove", desc := "(I)Ljava/lang/Object;" } : Jvm.MethodName)) ∈ lw_all := lw_g (lw_at lw_m4 64 rfl) rfl
theorem q893 : (Jvm.Cond.methodLink "SwapPress" (148 : Nat) ({ cls := "SwapPress$State", name := "copy", desc := "()LSwapPress$State;" } : Jvm.MethodName)) ∈ lw_all := lw_g (lw_at lw_m4 73 rfl) rfl
theorem q914 : (Jvm.Cond.methodLink "SwapPress" (151 : Nat) ({ cls := "java/util/ArrayList", name := "add", desc := "(Ljava/lang/Object;)Z" } : Jvm.MethodName)) ∈ lw_all := lw_g (lw_at lw_m4 94 rfl) rfl
theorem q915 : (Jvm.Cond.classLink "SwapPress" (173 : Nat) "SwapPress$Trade") ∈ lw_all := lw_g (lw_at lw_m4 95 rfl) rfl
theorem q916 : (Jvm.Cond.methodLink "SwapPress" (175 : Nat) ({ cls := "SwapPress$Trade", name := "<init>", desc := "(IIIIZ)V" } : Jvm.MethodName)) ∈ lw_all := lw_g (lw_at lw_m4 96 rfl) rfl
theorem q918 : (Jvm.Cond.instanceMethod ({ cls := "SwapPress", name := "drop", desc := "(I)I" } : Jvm.MethodName)) ∈ lw_all := lw_g (lw_at lw_m4 98 rfl) rfl
theorem q919 : (Jvm.Cond.selects "SwapPress" ({ cls := "SwapPress", name := "drop", desc := "(I)I" } : Jvm.MethodName) ({ cls := "SwapPress", name := "drop", desc := "(I)I" } : Jvm.MethodName)) ∈ lw_all := lw_g (lw_at lw_m4 99 rfl) rfl
theorem q920 : (Jvm.Cond.code ({ cls := "SwapPress", name := "drop", desc := "(I)I" } : Jvm.MethodName) prog_1_method_18_code (2 : Nat) (Option.some Jvm.ClassFile.FieldType.int)) ∈ lw_all := lw_g (lw_at lw_m4 100 rfl) rfl
theorem q921 : (Jvm.Cond.methodLink "SwapPress" (178 : Nat) ({ cls := "SwapPress", name := "isTrade", desc := "(I)Z" } : Jvm.MethodName)) ∈ lw_all := lw_g (lw_at lw_m4 101 rfl) rfl
theorem q922 : (Jvm.Cond.privateMethod ({ cls := "SwapPress", name := "isTrade", desc := "(I)Z" } : Jvm.MethodName)) ∈ lw_tbl := lw_at lw_m4 102 rfl
theorem q923 : (Jvm.Cond.instanceMethod ({ cls := "SwapPress", name := "isTrade", desc := "(I)Z" } : Jvm.MethodName)) ∈ lw_all := lw_g (lw_at lw_m4 103 rfl) rfl
theorem q924 : (Jvm.Cond.code ({ cls := "SwapPress", name := "isTrade", desc := "(I)Z" } : Jvm.MethodName) prog_1_method_16_code (2 : Nat) (Option.some Jvm.ClassFile.FieldType.boolean)) ∈ lw_all := lw_g (lw_at lw_m4 104 rfl) rfl
theorem q926 : (Jvm.Cond.instanceMethod ({ cls := "SwapPress", name := "keep", desc := "(I)I" } : Jvm.MethodName)) ∈ lw_all := lw_g (lw_at lw_m4 106 rfl) rfl
theorem q927 : (Jvm.Cond.selects "SwapPress" ({ cls := "SwapPress", name := "keep", desc := "(I)I" } : Jvm.MethodName) ({ cls := "SwapPress", name := "keep", desc := "(I)I" } : Jvm.MethodName)) ∈ lw_all := lw_g (lw_at lw_m4 107 rfl) rfl
theorem q928 : (Jvm.Cond.code ({ cls := "SwapPress", name := "keep", desc := "(I)I" } : Jvm.MethodName) prog_1_method_19_code (3 : Nat) (Option.some Jvm.ClassFile.FieldType.int)) ∈ lw_all := lw_g (lw_at lw_m4 108 rfl) rfl
theorem q929 : (Jvm.Cond.methodLink "SwapPress" (181 : Nat) ({ cls := "java/util/ArrayList", name := "get", desc := "(I)Ljava/lang/Object;" } : Jvm.MethodName)) ∈ lw_all := lw_g (lw_at lw_m4 109 rfl) rfl
theorem q930 : (Jvm.Cond.methodLink "SwapPress" (184 : Nat) ({ cls := "SwapPress$Trade", name := "turned", desc := "()LSwapPress$Trade;" } : Jvm.MethodName)) ∈ lw_all := lw_g (lw_at lw_m4 110 rfl) rfl
theorem q931 : (Jvm.Cond.methodLink "SwapPress" (188 : Nat) ({ cls := "java/util/ArrayList", name := "set", desc := "(ILjava/lang/Object;)Ljava/lang/Object;" } : Jvm.MethodName)) ∈ lw_all := lw_g (lw_at lw_m4 111 rfl) rfl
theorem q932 : (Jvm.Cond.methodLink "SwapPress" (196 : Nat) ({ cls := "SwapPress", name := "one", desc := "(Z)I" } : Jvm.MethodName)) ∈ lw_all := lw_g (lw_at lw_m4 112 rfl) rfl
theorem q933 : (Jvm.Cond.static ({ cls := "SwapPress", name := "one", desc := "(Z)I" } : Jvm.MethodName)) ∈ lw_all := lw_g (lw_at lw_m4 113 rfl) rfl
theorem q934 : (Jvm.Cond.code ({ cls := "SwapPress", name := "one", desc := "(Z)I" } : Jvm.MethodName) prog_1_method_2_code (1 : Nat) (Option.some Jvm.ClassFile.FieldType.int)) ∈ lw_all := lw_g (lw_at lw_m4 114 rfl) rfl
theorem q936 : (Jvm.Cond.instanceMethod ({ cls := "SwapPress", name := "mode", desc := "(I)I" } : Jvm.MethodName)) ∈ lw_all := lw_g (lw_at lw_m4 116 rfl) rfl
theorem q937 : (Jvm.Cond.selects "SwapPress" ({ cls := "SwapPress", name := "mode", desc := "(I)I" } : Jvm.MethodName) ({ cls := "SwapPress", name := "mode", desc := "(I)I" } : Jvm.MethodName)) ∈ lw_all := lw_g (lw_at lw_m4 117 rfl) rfl
theorem q938 : (Jvm.Cond.code ({ cls := "SwapPress", name := "mode", desc := "(I)I" } : Jvm.MethodName) prog_1_method_20_code (3 : Nat) (Option.some Jvm.ClassFile.FieldType.int)) ∈ lw_all := lw_g (lw_at lw_m4 118 rfl) rfl
theorem q939 : (Jvm.Cond.constantLong "SwapPress" (200 : Nat) (3 : Int64)) ∈ lw_all := lw_g (lw_at lw_m4 119 rfl) rfl
theorem q941 : (Jvm.Cond.instanceMethod ({ cls := "SwapPress", name := "cap", desc := "(III)I" } : Jvm.MethodName)) ∈ lw_all := lw_g (lw_at lw_m4 121 rfl) rfl
theorem q942 : (Jvm.Cond.selects "SwapPress" ({ cls := "SwapPress", name := "cap", desc := "(III)I" } : Jvm.MethodName) ({ cls := "SwapPress", name := "cap", desc := "(III)I" } : Jvm.MethodName)) ∈ lw_all := lw_g (lw_at lw_m4 122 rfl) rfl
theorem q943 : (Jvm.Cond.code ({ cls := "SwapPress", name := "cap", desc := "(III)I" } : Jvm.MethodName) prog_1_method_21_code (5 : Nat) (Option.some Jvm.ClassFile.FieldType.int)) ∈ lw_all := lw_g (lw_at lw_m4 123 rfl) rfl
theorem q944 : (Jvm.Cond.constantLong "SwapPress" (202 : Nat) (99999999 : Int64)) ∈ lw_all := lw_g (lw_at lw_m4 124 rfl) rfl
theorem q946 : (Jvm.Cond.instanceMethod ({ cls := "SwapPress", name := "takeRing", desc := "(I)I" } : Jvm.MethodName)) ∈ lw_all := lw_g (lw_at lw_m4 126 rfl) rfl
theorem q947 : (Jvm.Cond.selects "SwapPress" ({ cls := "SwapPress", name := "takeRing", desc := "(I)I" } : Jvm.MethodName) ({ cls := "SwapPress", name := "takeRing", desc := "(I)I" } : Jvm.MethodName)) ∈ lw_all := lw_g (lw_at lw_m4 127 rfl) rfl
theorem q948 : (Jvm.Cond.code ({ cls := "SwapPress", name := "takeRing", desc := "(I)I" } : Jvm.MethodName) prog_1_method_23_code (5 : Nat) (Option.some Jvm.ClassFile.FieldType.int)) ∈ lw_all := lw_g (lw_at lw_m4 128 rfl) rfl
theorem q949 : (Jvm.Cond.classLink "SwapPress" (220 : Nat) "SwapPress$Rings") ∈ lw_all := lw_g (lw_at lw_m4 129 rfl) rfl
theorem q951 : (Jvm.Cond.methodLink "SwapPress" (71 : Nat) ({ cls := "SwapPress$State", name := "flows", desc := "(I)[I" } : Jvm.MethodName)) ∈ lw_all := lw_g (lw_at lw_m4 131 rfl) rfl
theorem q961 : (Jvm.Cond.methodLink "SwapPress" (222 : Nat) ({ cls := "SwapPress$Rings", name := "<init>", desc := "(I[I)V" } : Jvm.MethodName)) ∈ lw_all := lw_g (lw_at lw_m4 141 rfl) rfl
theorem q968 : (Jvm.Cond.fieldLinkNest "SwapPress" (234 : Nat) "SwapPress$Rings" "row" "[I" "SwapPress") ∈ lw_tbl := lw_at lw_m4 148 rfl
theorem q970 : (Jvm.Cond.fieldLinkNest "SwapPress" (232 : Nat) "SwapPress$Rings" "many" "I" "SwapPress") ∈ lw_tbl := lw_at lw_m4 150 rfl
theorem q980 : (Jvm.Cond.methodLink "SwapPress" (225 : Nat) ({ cls := "SwapPress$Rings", name := "finds", desc := "()Z" } : Jvm.MethodName)) ∈ lw_all := lw_g (lw_at lw_m4 160 rfl) rfl
theorem q992 : (Jvm.Cond.methodLink "SwapPress" (229 : Nat) ({ cls := "SwapPress$Rings", name := "load", desc := "()I" } : Jvm.MethodName)) ∈ lw_all := lw_g (lw_at lw_m4 172 rfl) rfl
theorem q1001 : (Jvm.Cond.methodLink "SwapPress" (237 : Nat) ({ cls := "SwapPress$Rings", name := "next", desc := "(I)I" } : Jvm.MethodName)) ∈ lw_all := lw_g (lw_at lw_m4 181 rfl) rfl
theorem q1002 : (Jvm.Cond.methodLink "SwapPress" (241 : Nat) ({ cls := "SwapPress", name := "lessens", desc := "(IIII)V" } : Jvm.MethodName)) ∈ lw_all := lw_g (lw_at lw_m4 182 rfl) rfl
theorem q1003 : (Jvm.Cond.privateMethod ({ cls := "SwapPress", name := "lessens", desc := "(IIII)V" } : Jvm.MethodName)) ∈ lw_tbl := lw_at lw_m4 183 rfl
theorem q1004 : (Jvm.Cond.instanceMethod ({ cls := "SwapPress", name := "lessens", desc := "(IIII)V" } : Jvm.MethodName)) ∈ lw_all := lw_g (lw_at lw_m4 184 rfl) rfl
theorem q1005 : (Jvm.Cond.code ({ cls := "SwapPress", name := "lessens", desc := "(IIII)V" } : Jvm.MethodName) prog_1_method_22_code (9 : Nat) (Option.none : Option Jvm.ClassFile.FieldType)) ∈ lw_all := lw_g (lw_at lw_m4 185 rfl) rfl
theorem q1006 : (Jvm.Cond.methodLink "SwapPress" (204 : Nat) ({ cls := "SwapPress$Trade", name := "isFree", desc := "(I)Z" } : Jvm.MethodName)) ∈ lw_all := lw_g (lw_at lw_m4 186 rfl) rfl
theorem q1007 : (Jvm.Cond.methodLink "SwapPress" (43 : Nat) ({ cls := "java/lang/Math", name := "min", desc := "(II)I" } : Jvm.MethodName)) ∈ lw_all := lw_g (lw_at lw_m4 187 rfl) rfl
theorem q1008 : (Jvm.Cond.methodLink "SwapPress" (216 : Nat) ({ cls := "SwapPress$Trade", name := "less", desc := "(I)LSwapPress$Trade;" } : Jvm.MethodName)) ∈ lw_all := lw_g (lw_at lw_m4 188 rfl) rfl
theorem q1013 : (Jvm.Cond.instanceMethod ({ cls := "SwapPress", name := "press", desc := "(I)I" } : Jvm.MethodName)) ∈ lw_all := lw_g (lw_at lw_m4 193 rfl) rfl
theorem q1014 : (Jvm.Cond.selects "SwapPress" ({ cls := "SwapPress", name := "press", desc := "(I)I" } : Jvm.MethodName) ({ cls := "SwapPress", name := "press", desc := "(I)I" } : Jvm.MethodName)) ∈ lw_all := lw_g (lw_at lw_m4 194 rfl) rfl
theorem q1015 : (Jvm.Cond.code ({ cls := "SwapPress", name := "press", desc := "(I)I" } : Jvm.MethodName) prog_1_method_25_code (5 : Nat) (Option.some Jvm.ClassFile.FieldType.int)) ∈ lw_all := lw_g (lw_at lw_m4 195 rfl) rfl
theorem q1016 : (Jvm.Cond.methodLink "SwapPress" (245 : Nat) ({ cls := "SwapPress", name := "first", desc := "(I)[I" } : Jvm.MethodName)) ∈ lw_all := lw_g (lw_at lw_m4 196 rfl) rfl
theorem q1017 : (Jvm.Cond.privateMethod ({ cls := "SwapPress", name := "first", desc := "(I)[I" } : Jvm.MethodName)) ∈ lw_tbl := lw_at lw_m4 197 rfl
theorem q1018 : (Jvm.Cond.instanceMethod ({ cls := "SwapPress", name := "first", desc := "(I)[I" } : Jvm.MethodName)) ∈ lw_all := lw_g (lw_at lw_m4 198 rfl) rfl
theorem q1019 : (Jvm.Cond.code ({ cls := "SwapPress", name := "first", desc := "(I)[I" } : Jvm.MethodName) prog_1_method_6_code (3 : Nat) (Option.some (Jvm.ClassFile.FieldType.array Jvm.ClassFile.FieldType.int))) ∈ lw_all := lw_g (lw_at lw_m4 199 rfl) rfl
theorem q1020 : (Jvm.Cond.methodLink "SwapPress" (75 : Nat) ({ cls := "SwapPress", name := "press", desc := "([I)LSwapPress$Press;" } : Jvm.MethodName)) ∈ lw_all := lw_g (lw_at lw_m4 200 rfl) rfl
theorem q1021 : (Jvm.Cond.privateMethod ({ cls := "SwapPress", name := "press", desc := "([I)LSwapPress$Press;" } : Jvm.MethodName)) ∈ lw_tbl := lw_at lw_m4 201 rfl
theorem q1022 : (Jvm.Cond.instanceMethod ({ cls := "SwapPress", name := "press", desc := "([I)LSwapPress$Press;" } : Jvm.MethodName)) ∈ lw_all := lw_g (lw_at lw_m4 202 rfl) rfl
theorem q1023 : (Jvm.Cond.code ({ cls := "SwapPress", name := "press", desc := "([I)LSwapPress$Press;" } : Jvm.MethodName) prog_1_method_5_code (2 : Nat) (Option.some (Jvm.ClassFile.FieldType.object "SwapPress$Press"))) ∈ lw_all := lw_g (lw_at lw_m4 203 rfl) rfl
theorem q1024 : (Jvm.Cond.classLink "SwapPress" (49 : Nat) "SwapPress$Press") ∈ lw_all := lw_g (lw_at lw_m4 204 rfl) rfl
theorem q1026 : (Jvm.Cond.methodLink "SwapPress" (62 : Nat) ({ cls := "SwapPress$Bounds", name := "by", desc := "(I[I[I)LSwapPress$Bounds;" } : Jvm.MethodName)) ∈ lw_all := lw_g (lw_at lw_m4 206 rfl) rfl
theorem q1059 : (Jvm.Cond.methodLink "SwapPress" (68 : Nat) ({ cls := "SwapPress$Press", name := "<init>", desc := "(LSwapPress;I[ILSwapPress$Bounds;Z)V" } : Jvm.MethodName)) ∈ lw_all := lw_g (lw_at lw_m4 239 rfl) rfl
theorem q1064 : (Jvm.Cond.static ({ cls := "SwapPress", name := "throughOf", desc := "(I[II)I" } : Jvm.MethodName)) ∈ lw_all := lw_g (lw_at lw_m5 4 rfl) rfl
theorem q1065 : (Jvm.Cond.code ({ cls := "SwapPress", name := "throughOf", desc := "(I[II)I" } : Jvm.MethodName) prog_1_method_4_code (6 : Nat) (Option.some Jvm.ClassFile.FieldType.int)) ∈ lw_all := lw_g (lw_at lw_m5 5 rfl) rfl
theorem q1116 : (Jvm.Cond.methodLink "SwapPress" (79 : Nat) ({ cls := "SwapPress$Press", name := "first", desc := "()[I" } : Jvm.MethodName)) ∈ lw_all := lw_g (lw_at lw_m5 56 rfl) rfl
theorem q1150 : (Jvm.Cond.methodLink "SwapPress" (247 : Nat) ({ cls := "SwapPress", name := "above", desc := "([I)I" } : Jvm.MethodName)) ∈ lw_all := lw_g (lw_at lw_m5 90 rfl) rfl
theorem q1151 : (Jvm.Cond.static ({ cls := "SwapPress", name := "above", desc := "([I)I" } : Jvm.MethodName)) ∈ lw_all := lw_g (lw_at lw_m5 91 rfl) rfl
theorem q1152 : (Jvm.Cond.code ({ cls := "SwapPress", name := "above", desc := "([I)I" } : Jvm.MethodName) prog_1_method_24_code (6 : Nat) (Option.some Jvm.ClassFile.FieldType.int)) ∈ lw_all := lw_g (lw_at lw_m5 92 rfl) rfl
theorem q1154 : (Jvm.Cond.instanceMethod ({ cls := "SwapPress", name := "undo", desc := "()I" } : Jvm.MethodName)) ∈ lw_all := lw_g (lw_at lw_m5 94 rfl) rfl
theorem q1155 : (Jvm.Cond.selects "SwapPress" ({ cls := "SwapPress", name := "undo", desc := "()I" } : Jvm.MethodName) ({ cls := "SwapPress", name := "undo", desc := "()I" } : Jvm.MethodName)) ∈ lw_all := lw_g (lw_at lw_m5 95 rfl) rfl
theorem q1156 : (Jvm.Cond.code ({ cls := "SwapPress", name := "undo", desc := "()I" } : Jvm.MethodName) prog_1_method_26_code (1 : Nat) (Option.some Jvm.ClassFile.FieldType.int)) ∈ lw_all := lw_g (lw_at lw_m5 96 rfl) rfl
theorem q1157 : (Jvm.Cond.methodLink "SwapPress" (251 : Nat) ({ cls := "java/util/ArrayList", name := "isEmpty", desc := "()Z" } : Jvm.MethodName)) ∈ lw_all := lw_g (lw_at lw_m5 97 rfl) rfl
theorem q1162 : (Jvm.Cond.instanceMethod ({ cls := "SwapPress", name := "tradeOf", desc := "(II)I" } : Jvm.MethodName)) ∈ lw_all := lw_g (lw_at lw_m5 102 rfl) rfl
theorem q1163 : (Jvm.Cond.selects "SwapPress" ({ cls := "SwapPress", name := "tradeOf", desc := "(II)I" } : Jvm.MethodName) ({ cls := "SwapPress", name := "tradeOf", desc := "(II)I" } : Jvm.MethodName)) ∈ lw_all := lw_g (lw_at lw_m5 103 rfl) rfl
theorem q1164 : (Jvm.Cond.code ({ cls := "SwapPress", name := "tradeOf", desc := "(II)I" } : Jvm.MethodName) prog_1_method_27_code (4 : Nat) (Option.some Jvm.ClassFile.FieldType.int)) ∈ lw_all := lw_g (lw_at lw_m5 104 rfl) rfl
theorem q1166 : (Jvm.Cond.instanceMethod ({ cls := "SwapPress", name := "flow", desc := "(III)I" } : Jvm.MethodName)) ∈ lw_all := lw_g (lw_at lw_m5 106 rfl) rfl
theorem q1167 : (Jvm.Cond.selects "SwapPress" ({ cls := "SwapPress", name := "flow", desc := "(III)I" } : Jvm.MethodName) ({ cls := "SwapPress", name := "flow", desc := "(III)I" } : Jvm.MethodName)) ∈ lw_all := lw_g (lw_at lw_m5 107 rfl) rfl
theorem q1168 : (Jvm.Cond.code ({ cls := "SwapPress", name := "flow", desc := "(III)I" } : Jvm.MethodName) prog_1_method_29_code (4 : Nat) (Option.some Jvm.ClassFile.FieldType.int)) ∈ lw_all := lw_g (lw_at lw_m5 108 rfl) rfl
theorem q1169 : (Jvm.Cond.methodLink "SwapPress" (255 : Nat) ({ cls := "SwapPress", name := "areAll", desc := "(III)Z" } : Jvm.MethodName)) ∈ lw_all := lw_g (lw_at lw_m5 109 rfl) rfl
theorem q1170 : (Jvm.Cond.privateMethod ({ cls := "SwapPress", name := "areAll", desc := "(III)Z" } : Jvm.MethodName)) ∈ lw_tbl := lw_at lw_m5 110 rfl
theorem q1171 : (Jvm.Cond.instanceMethod ({ cls := "SwapPress", name := "areAll", desc := "(III)Z" } : Jvm.MethodName)) ∈ lw_all := lw_g (lw_at lw_m5 111 rfl) rfl
theorem q1172 : (Jvm.Cond.code ({ cls := "SwapPress", name := "areAll", desc := "(III)Z" } : Jvm.MethodName) prog_1_method_28_code (4 : Nat) (Option.some Jvm.ClassFile.FieldType.boolean)) ∈ lw_all := lw_g (lw_at lw_m5 112 rfl) rfl
theorem q1173 : (Jvm.Cond.methodLink "SwapPress" (259 : Nat) ({ cls := "SwapPress$State", name := "flow", desc := "(III)I" } : Jvm.MethodName)) ∈ lw_all := lw_g (lw_at lw_m5 113 rfl) rfl
theorem q1178 : (Jvm.Cond.instanceMethod ({ cls := "SwapPress", name := "net", desc := "(IIZ)I" } : Jvm.MethodName)) ∈ lw_all := lw_g (lw_at lw_m5 118 rfl) rfl
theorem q1179 : (Jvm.Cond.selects "SwapPress" ({ cls := "SwapPress", name := "net", desc := "(IIZ)I" } : Jvm.MethodName) ({ cls := "SwapPress", name := "net", desc := "(IIZ)I" } : Jvm.MethodName)) ∈ lw_all := lw_g (lw_at lw_m5 119 rfl) rfl
theorem q1180 : (Jvm.Cond.code ({ cls := "SwapPress", name := "net", desc := "(IIZ)I" } : Jvm.MethodName) prog_1_method_30_code (4 : Nat) (Option.some Jvm.ClassFile.FieldType.int)) ∈ lw_all := lw_g (lw_at lw_m5 120 rfl) rfl
theorem q1181 : (Jvm.Cond.constant "SwapPress" (263 : Nat) (100000000 : Int32)) ∈ lw_all := lw_g (lw_at lw_m5 121 rfl) rfl
theorem q1182 : (Jvm.Cond.methodLink "SwapPress" (264 : Nat) ({ cls := "SwapPress$State", name := "net", desc := "(IIZ)I" } : Jvm.MethodName)) ∈ lw_all := lw_g (lw_at lw_m5 122 rfl) rfl
theorem q1191 : (Jvm.Cond.instanceMethod ({ cls := "SwapPress", name := "side", desc := "(III)I" } : Jvm.MethodName)) ∈ lw_all := lw_g (lw_at lw_m5 131 rfl) rfl
theorem q1192 : (Jvm.Cond.selects "SwapPress" ({ cls := "SwapPress", name := "side", desc := "(III)I" } : Jvm.MethodName) ({ cls := "SwapPress", name := "side", desc := "(III)I" } : Jvm.MethodName)) ∈ lw_all := lw_g (lw_at lw_m5 132 rfl) rfl
theorem q1193 : (Jvm.Cond.code ({ cls := "SwapPress", name := "side", desc := "(III)I" } : Jvm.MethodName) prog_1_method_32_code (4 : Nat) (Option.some Jvm.ClassFile.FieldType.int)) ∈ lw_all := lw_g (lw_at lw_m5 133 rfl) rfl
theorem q1194 : (Jvm.Cond.constantLong "SwapPress" (273 : Nat) (2 : Int64)) ∈ lw_all := lw_g (lw_at lw_m5 134 rfl) rfl
theorem q1195 : (Jvm.Cond.methodLink "SwapPress" (275 : Nat) ({ cls := "SwapPress", name := "others", desc := "(II)I" } : Jvm.MethodName)) ∈ lw_all := lw_g (lw_at lw_m5 135 rfl) rfl
theorem q1196 : (Jvm.Cond.privateMethod ({ cls := "SwapPress", name := "others", desc := "(II)I" } : Jvm.MethodName)) ∈ lw_tbl := lw_at lw_m5 136 rfl
theorem q1197 : (Jvm.Cond.instanceMethod ({ cls := "SwapPress", name := "others", desc := "(II)I" } : Jvm.MethodName)) ∈ lw_all := lw_g (lw_at lw_m5 137 rfl) rfl
theorem q1198 : (Jvm.Cond.code ({ cls := "SwapPress", name := "others", desc := "(II)I" } : Jvm.MethodName) prog_1_method_31_code (6 : Nat) (Option.some Jvm.ClassFile.FieldType.int)) ∈ lw_all := lw_g (lw_at lw_m5 138 rfl) rfl
theorem q1199 : (Jvm.Cond.methodLink "SwapPress" (268 : Nat) ({ cls := "java/lang/Integer", name := "bitCount", desc := "(I)I" } : Jvm.MethodName)) ∈ lw_all := lw_g (lw_at lw_m5 139 rfl) rfl
theorem q1205 : (Jvm.Cond.methodLink "SwapPress" (278 : Nat) ({ cls := "SwapPress$State", name := "side", desc := "(IIZZ)I" } : Jvm.MethodName)) ∈ lw_all := lw_g (lw_at lw_m5 145 rfl) rfl
theorem q1207 : (Jvm.Cond.instanceMethod ({ cls := "SwapPress", name := "total", desc := "(II)I" } : Jvm.MethodName)) ∈ lw_all := lw_g (lw_at lw_m5 147 rfl) rfl
theorem q1208 : (Jvm.Cond.selects "SwapPress" ({ cls := "SwapPress", name := "total", desc := "(II)I" } : Jvm.MethodName) ({ cls := "SwapPress", name := "total", desc := "(II)I" } : Jvm.MethodName)) ∈ lw_all := lw_g (lw_at lw_m5 148 rfl) rfl
theorem q1209 : (Jvm.Cond.code ({ cls := "SwapPress", name := "total", desc := "(II)I" } : Jvm.MethodName) prog_1_method_34_code (5 : Nat) (Option.some Jvm.ClassFile.FieldType.int)) ∈ lw_all := lw_g (lw_at lw_m5 149 rfl) rfl
theorem q1210 : (Jvm.Cond.methodLink "SwapPress" (282 : Nat) ({ cls := "SwapPress", name := "sum", desc := "([I)I" } : Jvm.MethodName)) ∈ lw_all := lw_g (lw_at lw_m5 150 rfl) rfl
theorem q1211 : (Jvm.Cond.static ({ cls := "SwapPress", name := "sum", desc := "([I)I" } : Jvm.MethodName)) ∈ lw_all := lw_g (lw_at lw_m5 151 rfl) rfl
theorem q1212 : (Jvm.Cond.code ({ cls := "SwapPress", name := "sum", desc := "([I)I" } : Jvm.MethodName) prog_1_method_33_code (6 : Nat) (Option.some Jvm.ClassFile.FieldType.int)) ∈ lw_all := lw_g (lw_at lw_m5 152 rfl) rfl
theorem q1213 : (Jvm.Cond.methodLink "SwapPress" (285 : Nat) ({ cls := "java/lang/Math", name := "max", desc := "(II)I" } : Jvm.MethodName)) ∈ lw_all := lw_g (lw_at lw_m5 153 rfl) rfl
theorem q1215 : (Jvm.Cond.instanceMethod ({ cls := "SwapPress", name := "bound", desc := "(III)I" } : Jvm.MethodName)) ∈ lw_all := lw_g (lw_at lw_m5 155 rfl) rfl
theorem q1216 : (Jvm.Cond.selects "SwapPress" ({ cls := "SwapPress", name := "bound", desc := "(III)I" } : Jvm.MethodName) ({ cls := "SwapPress", name := "bound", desc := "(III)I" } : Jvm.MethodName)) ∈ lw_all := lw_g (lw_at lw_m5 156 rfl) rfl
theorem q1217 : (Jvm.Cond.code ({ cls := "SwapPress", name := "bound", desc := "(III)I" } : Jvm.MethodName) prog_1_method_36_code (4 : Nat) (Option.some Jvm.ClassFile.FieldType.int)) ∈ lw_all := lw_g (lw_at lw_m5 157 rfl) rfl
theorem q1218 : (Jvm.Cond.methodLink "SwapPress" (288 : Nat) ({ cls := "SwapPress", name := "bounds", desc := "(I)LSwapPress$Bounds;" } : Jvm.MethodName)) ∈ lw_all := lw_g (lw_at lw_m5 158 rfl) rfl
theorem q1219 : (Jvm.Cond.privateMethod ({ cls := "SwapPress", name := "bounds", desc := "(I)LSwapPress$Bounds;" } : Jvm.MethodName)) ∈ lw_tbl := lw_at lw_m5 159 rfl
theorem q1220 : (Jvm.Cond.instanceMethod ({ cls := "SwapPress", name := "bounds", desc := "(I)LSwapPress$Bounds;" } : Jvm.MethodName)) ∈ lw_all := lw_g (lw_at lw_m5 160 rfl) rfl
theorem q1221 : (Jvm.Cond.code ({ cls := "SwapPress", name := "bounds", desc := "(I)LSwapPress$Bounds;" } : Jvm.MethodName) prog_1_method_35_code (2 : Nat) (Option.some (Jvm.ClassFile.FieldType.object "SwapPress$Bounds"))) ∈ lw_all := lw_g (lw_at lw_m5 161 rfl) rfl
theorem q1222 : (Jvm.Cond.interfaceEntry "SwapPress" (292 : Nat)) ∈ lw_tbl := lw_at lw_m5 162 rfl
theorem q1223 : (Jvm.Cond.methodLink "SwapPress" (292 : Nat) ({ cls := "SwapPress$Bounds", name := "of", desc := "(II)I" } : Jvm.MethodName)) ∈ lw_all := lw_g (lw_at lw_m5 163 rfl) rfl
theorem q1225 : (Jvm.Cond.instanceMethod ({ cls := "SwapPress", name := "ring", desc := "(II)I" } : Jvm.MethodName)) ∈ lw_all := lw_g (lw_at lw_m5 165 rfl) rfl
theorem q1226 : (Jvm.Cond.selects "SwapPress" ({ cls := "SwapPress", name := "ring", desc := "(II)I" } : Jvm.MethodName) ({ cls := "SwapPress", name := "ring", desc := "(II)I" } : Jvm.MethodName)) ∈ lw_all := lw_g (lw_at lw_m5 166 rfl) rfl
theorem q1227 : (Jvm.Cond.code ({ cls := "SwapPress", name := "ring", desc := "(II)I" } : Jvm.MethodName) prog_1_method_37_code (4 : Nat) (Option.some Jvm.ClassFile.FieldType.int)) ∈ lw_all := lw_g (lw_at lw_m5 167 rfl) rfl
theorem q1229 : (Jvm.Cond.instanceMethod ({ cls := "SwapPress", name := "load", desc := "(I)I" } : Jvm.MethodName)) ∈ lw_all := lw_g (lw_at lw_m5 169 rfl) rfl
theorem q1230 : (Jvm.Cond.selects "SwapPress" ({ cls := "SwapPress", name := "load", desc := "(I)I" } : Jvm.MethodName) ({ cls := "SwapPress", name := "load", desc := "(I)I" } : Jvm.MethodName)) ∈ lw_all := lw_g (lw_at lw_m5 170 rfl) rfl
theorem q1231 : (Jvm.Cond.code ({ cls := "SwapPress", name := "load", desc := "(I)I" } : Jvm.MethodName) prog_1_method_38_code (3 : Nat) (Option.some Jvm.ClassFile.FieldType.int)) ∈ lw_all := lw_g (lw_at lw_m5 171 rfl) rfl
theorem q1233 : (Jvm.Cond.instanceMethod ({ cls := "SwapPress", name := "cleared", desc := "(II)I" } : Jvm.MethodName)) ∈ lw_all := lw_g (lw_at lw_m5 173 rfl) rfl
theorem q1234 : (Jvm.Cond.selects "SwapPress" ({ cls := "SwapPress", name := "cleared", desc := "(II)I" } : Jvm.MethodName) ({ cls := "SwapPress", name := "cleared", desc := "(II)I" } : Jvm.MethodName)) ∈ lw_all := lw_g (lw_at lw_m5 174 rfl) rfl
theorem q1235 : (Jvm.Cond.code ({ cls := "SwapPress", name := "cleared", desc := "(II)I" } : Jvm.MethodName) prog_1_method_39_code (7 : Nat) (Option.some Jvm.ClassFile.FieldType.int)) ∈ lw_all := lw_g (lw_at lw_m5 175 rfl) rfl
theorem q1236 : (Jvm.Cond.methodLink "SwapPress" (295 : Nat) ({ cls := "SwapPress$Rings", name := "takes", desc := "()I" } : Jvm.MethodName)) ∈ lw_all := lw_g (lw_at lw_m5 176 rfl) rfl
theorem q1242 : (Jvm.Cond.instanceMethod ({ cls := "SwapPress", name := "rounds", desc := "(II)I" } : Jvm.MethodName)) ∈ lw_all := lw_g (lw_at lw_m5 182 rfl) rfl
theorem q1243 : (Jvm.Cond.selects "SwapPress" ({ cls := "SwapPress", name := "rounds", desc := "(II)I" } : Jvm.MethodName) ({ cls := "SwapPress", name := "rounds", desc := "(II)I" } : Jvm.MethodName)) ∈ lw_all := lw_g (lw_at lw_m5 183 rfl) rfl
theorem q1244 : (Jvm.Cond.code ({ cls := "SwapPress", name := "rounds", desc := "(II)I" } : Jvm.MethodName) prog_1_method_41_code (3 : Nat) (Option.some Jvm.ClassFile.FieldType.int)) ∈ lw_all := lw_g (lw_at lw_m5 184 rfl) rfl
theorem q1245 : (Jvm.Cond.constantLong "SwapPress" (298 : Nat) (99 : Int64)) ∈ lw_all := lw_g (lw_at lw_m5 185 rfl) rfl
theorem q1246 : (Jvm.Cond.methodLink "SwapPress" (300 : Nat) ({ cls := "SwapPress", name := "taken", desc := "(II)[I" } : Jvm.MethodName)) ∈ lw_all := lw_g (lw_at lw_m5 186 rfl) rfl
theorem q1247 : (Jvm.Cond.privateMethod ({ cls := "SwapPress", name := "taken", desc := "(II)[I" } : Jvm.MethodName)) ∈ lw_tbl := lw_at lw_m5 187 rfl
theorem q1248 : (Jvm.Cond.instanceMethod ({ cls := "SwapPress", name := "taken", desc := "(II)[I" } : Jvm.MethodName)) ∈ lw_all := lw_g (lw_at lw_m5 188 rfl) rfl
theorem q1249 : (Jvm.Cond.code ({ cls := "SwapPress", name := "taken", desc := "(II)[I" } : Jvm.MethodName) prog_1_method_40_code (6 : Nat) (Option.some (Jvm.ClassFile.FieldType.array Jvm.ClassFile.FieldType.int))) ∈ lw_all := lw_g (lw_at lw_m5 189 rfl) rfl
theorem q1251 : (Jvm.Cond.instanceMethod ({ cls := "SwapPress", name := "chain", desc := "(II)I" } : Jvm.MethodName)) ∈ lw_all := lw_g (lw_at lw_m5 191 rfl) rfl
theorem q1252 : (Jvm.Cond.selects "SwapPress" ({ cls := "SwapPress", name := "chain", desc := "(II)I" } : Jvm.MethodName) ({ cls := "SwapPress", name := "chain", desc := "(II)I" } : Jvm.MethodName)) ∈ lw_all := lw_g (lw_at lw_m5 192 rfl) rfl
theorem q1253 : (Jvm.Cond.code ({ cls := "SwapPress", name := "chain", desc := "(II)I" } : Jvm.MethodName) prog_1_method_43_code (8 : Nat) (Option.some Jvm.ClassFile.FieldType.int)) ∈ lw_all := lw_g (lw_at lw_m5 193 rfl) rfl
theorem q1254 : (Jvm.Cond.constant "SwapPress" (308 : Nat) (2147483647 : Int32)) ∈ lw_all := lw_g (lw_at lw_m5 194 rfl) rfl
theorem q1255 : (Jvm.Cond.methodLink "SwapPress" (304 : Nat) ({ cls := "SwapPress", name := "longFrom", desc := "([II[I)I" } : Jvm.MethodName)) ∈ lw_all := lw_g (lw_at lw_m5 195 rfl) rfl
theorem q1256 : (Jvm.Cond.privateMethod ({ cls := "SwapPress", name := "longFrom", desc := "([II[I)I" } : Jvm.MethodName)) ∈ lw_tbl := lw_at lw_m5 196 rfl
theorem q1257 : (Jvm.Cond.instanceMethod ({ cls := "SwapPress", name := "longFrom", desc := "([II[I)I" } : Jvm.MethodName)) ∈ lw_all := lw_g (lw_at lw_m5 197 rfl) rfl
theorem q1258 : (Jvm.Cond.code ({ cls := "SwapPress", name := "longFrom", desc := "([II[I)I" } : Jvm.MethodName) prog_1_method_42_code (6 : Nat) (Option.some Jvm.ClassFile.FieldType.int)) ∈ lw_all := lw_g (lw_at lw_m5 198 rfl) rfl
theorem q1259 : (Jvm.Cond.methodLink "SwapPress" (309 : Nat) ({ cls := "SwapPress", name := "nextOf", desc := "([II[I)I" } : Jvm.MethodName)) ∈ lw_all := lw_g (lw_at lw_m5 199 rfl) rfl
theorem q1260 : (Jvm.Cond.privateMethod ({ cls := "SwapPress", name := "nextOf", desc := "([II[I)I" } : Jvm.MethodName)) ∈ lw_tbl := lw_at lw_m5 200 rfl
theorem q1261 : (Jvm.Cond.instanceMethod ({ cls := "SwapPress", name := "nextOf", desc := "([II[I)I" } : Jvm.MethodName)) ∈ lw_all := lw_g (lw_at lw_m5 201 rfl) rfl
theorem q1262 : (Jvm.Cond.code ({ cls := "SwapPress", name := "nextOf", desc := "([II[I)I" } : Jvm.MethodName) prog_1_method_44_code (5 : Nat) (Option.some Jvm.ClassFile.FieldType.int)) ∈ lw_all := lw_g (lw_at lw_m5 202 rfl) rfl
theorem q1264 : (Jvm.Cond.instanceMethod ({ cls := "SwapPress", name := "least", desc := "(I)I" } : Jvm.MethodName)) ∈ lw_all := lw_g (lw_at lw_m5 204 rfl) rfl
theorem q1265 : (Jvm.Cond.selects "SwapPress" ({ cls := "SwapPress", name := "least", desc := "(I)I" } : Jvm.MethodName) ({ cls := "SwapPress", name := "least", desc := "(I)I" } : Jvm.MethodName)) ∈ lw_all := lw_g (lw_at lw_m5 205 rfl) rfl
theorem q1266 : (Jvm.Cond.code ({ cls := "SwapPress", name := "least", desc := "(I)I" } : Jvm.MethodName) prog_1_method_46_code (2 : Nat) (Option.some Jvm.ClassFile.FieldType.int)) ∈ lw_all := lw_g (lw_at lw_m5 206 rfl) rfl
theorem q1267 : (Jvm.Cond.methodLink "SwapPress" (312 : Nat) ({ cls := "SwapPress", name := "pressing", desc := "(I)LSwapPress$Press;" } : Jvm.MethodName)) ∈ lw_all := lw_g (lw_at lw_m5 207 rfl) rfl
theorem q1268 : (Jvm.Cond.privateMethod ({ cls := "SwapPress", name := "pressing", desc := "(I)LSwapPress$Press;" } : Jvm.MethodName)) ∈ lw_tbl := lw_at lw_m5 208 rfl
theorem q1269 : (Jvm.Cond.instanceMethod ({ cls := "SwapPress", name := "pressing", desc := "(I)LSwapPress$Press;" } : Jvm.MethodName)) ∈ lw_all := lw_g (lw_at lw_m5 209 rfl) rfl
theorem q1270 : (Jvm.Cond.code ({ cls := "SwapPress", name := "pressing", desc := "(I)LSwapPress$Press;" } : Jvm.MethodName) prog_1_method_45_code (2 : Nat) (Option.some (Jvm.ClassFile.FieldType.object "SwapPress$Press"))) ∈ lw_all := lw_g (lw_at lw_m5 210 rfl) rfl
theorem q1271 : (Jvm.Cond.methodLink "SwapPress" (316 : Nat) ({ cls := "SwapPress$Press", name := "least", desc := "()I" } : Jvm.MethodName)) ∈ lw_all := lw_g (lw_at lw_m5 211 rfl) rfl
theorem q1276 : (Jvm.Cond.instanceMethod ({ cls := "SwapPress", name := "pressed", desc := "(III)I" } : Jvm.MethodName)) ∈ lw_all := lw_g (lw_at lw_m5 216 rfl) rfl
theorem q1277 : (Jvm.Cond.selects "SwapPress" ({ cls := "SwapPress", name := "pressed", desc := "(III)I" } : Jvm.MethodName) ({ cls := "SwapPress", name := "pressed", desc := "(III)I" } : Jvm.MethodName)) ∈ lw_all := lw_g (lw_at lw_m5 217 rfl) rfl
theorem q1278 : (Jvm.Cond.code ({ cls := "SwapPress", name := "pressed", desc := "(III)I" } : Jvm.MethodName) prog_1_method_47_code (5 : Nat) (Option.some Jvm.ClassFile.FieldType.int)) ∈ lw_all := lw_g (lw_at lw_m5 218 rfl) rfl
theorem q1280 : (Jvm.Cond.instanceMethod ({ cls := "SwapPress", name := "couples", desc := "(I)I" } : Jvm.MethodName)) ∈ lw_all := lw_g (lw_at lw_m5 220 rfl) rfl
theorem q1281 : (Jvm.Cond.selects "SwapPress" ({ cls := "SwapPress", name := "couples", desc := "(I)I" } : Jvm.MethodName) ({ cls := "SwapPress", name := "couples", desc := "(I)I" } : Jvm.MethodName)) ∈ lw_all := lw_g (lw_at lw_m5 221 rfl) rfl
theorem q1282 : (Jvm.Cond.code ({ cls := "SwapPress", name := "couples", desc := "(I)I" } : Jvm.MethodName) prog_1_method_48_code (3 : Nat) (Option.some Jvm.ClassFile.FieldType.int)) ∈ lw_all := lw_g (lw_at lw_m5 222 rfl) rfl
theorem q1284 : (Jvm.Cond.instanceMethod ({ cls := "SwapPress", name := "span", desc := "(IIII)I" } : Jvm.MethodName)) ∈ lw_all := lw_g (lw_at lw_m5 224 rfl) rfl
theorem q1285 : (Jvm.Cond.selects "SwapPress" ({ cls := "SwapPress", name := "span", desc := "(IIII)I" } : Jvm.MethodName) ({ cls := "SwapPress", name := "span", desc := "(IIII)I" } : Jvm.MethodName)) ∈ lw_all := lw_g (lw_at lw_m5 225 rfl) rfl
theorem q1286 : (Jvm.Cond.code ({ cls := "SwapPress", name := "span", desc := "(IIII)I" } : Jvm.MethodName) prog_1_method_49_code (5 : Nat) (Option.some Jvm.ClassFile.FieldType.int)) ∈ lw_all := lw_g (lw_at lw_m5 226 rfl) rfl
theorem q1287 : (Jvm.Cond.methodLink "SwapPress" (319 : Nat) ({ cls := "SwapPress$Press", name := "span", desc := "(IIZ)I" } : Jvm.MethodName)) ∈ lw_all := lw_g (lw_at lw_m5 227 rfl) rfl
theorem q1289 : (Jvm.Cond.instanceMethod ({ cls := "SwapPress", name := "gain", desc := "(III)I" } : Jvm.MethodName)) ∈ lw_all := lw_g (lw_at lw_m5 229 rfl) rfl
theorem q1290 : (Jvm.Cond.selects "SwapPress" ({ cls := "SwapPress", name := "gain", desc := "(III)I" } : Jvm.MethodName) ({ cls := "SwapPress", name := "gain", desc := "(III)I" } : Jvm.MethodName)) ∈ lw_all := lw_g (lw_at lw_m5 230 rfl) rfl
theorem q1291 : (Jvm.Cond.code ({ cls := "SwapPress", name := "gain", desc := "(III)I" } : Jvm.MethodName) prog_1_method_51_code (5 : Nat) (Option.some Jvm.ClassFile.FieldType.int)) ∈ lw_all := lw_g (lw_at lw_m5 231 rfl) rfl
theorem q1292 : (Jvm.Cond.methodLink "SwapPress" (326 : Nat) ({ cls := "SwapPress", name := "pressing", desc := "(IIII)LSwapPress$Press;" } : Jvm.MethodName)) ∈ lw_all := lw_g (lw_at lw_m5 232 rfl) rfl
theorem q1293 : (Jvm.Cond.privateMethod ({ cls := "SwapPress", name := "pressing", desc := "(IIII)LSwapPress$Press;" } : Jvm.MethodName)) ∈ lw_tbl := lw_at lw_m5 233 rfl
theorem q1294 : (Jvm.Cond.instanceMethod ({ cls := "SwapPress", name := "pressing", desc := "(IIII)LSwapPress$Press;" } : Jvm.MethodName)) ∈ lw_all := lw_g (lw_at lw_m5 234 rfl) rfl
theorem q1295 : (Jvm.Cond.code ({ cls := "SwapPress", name := "pressing", desc := "(IIII)LSwapPress$Press;" } : Jvm.MethodName) prog_1_method_50_code (6 : Nat) (Option.some (Jvm.ClassFile.FieldType.object "SwapPress$Press"))) ∈ lw_all := lw_g (lw_at lw_m5 235 rfl) rfl
theorem q1296 : (Jvm.Cond.interfaceEntry "SwapPress" (322 : Nat)) ∈ lw_tbl := lw_at lw_m5 236 rfl
theorem q1297 : (Jvm.Cond.methodLink "SwapPress" (322 : Nat) ({ cls := "SwapPress$Bounds", name := "but", desc := "(III)LSwapPress$Bounds;" } : Jvm.MethodName)) ∈ lw_all := lw_g (lw_at lw_m5 237 rfl) rfl
theorem q1327 : (Jvm.Cond.instanceMethod ({ cls := "SwapPress", name := "without", desc := "(II)I" } : Jvm.MethodName)) ∈ lw_all := lw_g (lw_at lw_m6 27 rfl) rfl
theorem q1328 : (Jvm.Cond.selects "SwapPress" ({ cls := "SwapPress", name := "without", desc := "(II)I" } : Jvm.MethodName) ({ cls := "SwapPress", name := "without", desc := "(II)I" } : Jvm.MethodName)) ∈ lw_all := lw_g (lw_at lw_m6 28 rfl) rfl
theorem q1329 : (Jvm.Cond.code ({ cls := "SwapPress", name := "without", desc := "(II)I" } : Jvm.MethodName) prog_1_method_52_code (6 : Nat) (Option.some Jvm.ClassFile.FieldType.int)) ∈ lw_all := lw_g (lw_at lw_m6 29 rfl) rfl
theorem q1331 : (Jvm.Cond.instanceMethod ({ cls := "SwapPress", name := "relief", desc := "(II)I" } : Jvm.MethodName)) ∈ lw_all := lw_g (lw_at lw_m6 31 rfl) rfl
theorem q1332 : (Jvm.Cond.selects "SwapPress" ({ cls := "SwapPress", name := "relief", desc := "(II)I" } : Jvm.MethodName) ({ cls := "SwapPress", name := "relief", desc := "(II)I" } : Jvm.MethodName)) ∈ lw_all := lw_g (lw_at lw_m6 32 rfl) rfl
theorem q1333 : (Jvm.Cond.code ({ cls := "SwapPress", name := "relief", desc := "(II)I" } : Jvm.MethodName) prog_1_method_54_code (4 : Nat) (Option.some Jvm.ClassFile.FieldType.int)) ∈ lw_all := lw_g (lw_at lw_m6 33 rfl) rfl
theorem q1334 : (Jvm.Cond.methodLink "SwapPress" (329 : Nat) ({ cls := "SwapPress", name := "reliefOf", desc := "(II[I)I" } : Jvm.MethodName)) ∈ lw_all := lw_g (lw_at lw_m6 34 rfl) rfl
theorem q1335 : (Jvm.Cond.privateMethod ({ cls := "SwapPress", name := "reliefOf", desc := "(II[I)I" } : Jvm.MethodName)) ∈ lw_tbl := lw_at lw_m6 35 rfl
theorem q1336 : (Jvm.Cond.instanceMethod ({ cls := "SwapPress", name := "reliefOf", desc := "(II[I)I" } : Jvm.MethodName)) ∈ lw_all := lw_g (lw_at lw_m6 36 rfl) rfl
theorem q1337 : (Jvm.Cond.code ({ cls := "SwapPress", name := "reliefOf", desc := "(II[I)I" } : Jvm.MethodName) prog_1_method_53_code (6 : Nat) (Option.some Jvm.ClassFile.FieldType.int)) ∈ lw_all := lw_g (lw_at lw_m6 37 rfl) rfl
theorem q1339 : (Jvm.Cond.instanceMethod ({ cls := "SwapPress", name := "relieved", desc := "(I)I" } : Jvm.MethodName)) ∈ lw_all := lw_g (lw_at lw_m6 39 rfl) rfl
theorem q1340 : (Jvm.Cond.selects "SwapPress" ({ cls := "SwapPress", name := "relieved", desc := "(I)I" } : Jvm.MethodName) ({ cls := "SwapPress", name := "relieved", desc := "(I)I" } : Jvm.MethodName)) ∈ lw_all := lw_g (lw_at lw_m6 40 rfl) rfl
theorem q1341 : (Jvm.Cond.code ({ cls := "SwapPress", name := "relieved", desc := "(I)I" } : Jvm.MethodName) prog_1_method_55_code (5 : Nat) (Option.some Jvm.ClassFile.FieldType.int)) ∈ lw_all := lw_g (lw_at lw_m6 41 rfl) rfl
theorem q1343 : (Jvm.Cond.instanceMethod ({ cls := "SwapPress", name := "through", desc := "(III)I" } : Jvm.MethodName)) ∈ lw_all := lw_g (lw_at lw_m6 43 rfl) rfl
theorem q1344 : (Jvm.Cond.selects "SwapPress" ({ cls := "SwapPress", name := "through", desc := "(III)I" } : Jvm.MethodName) ({ cls := "SwapPress", name := "through", desc := "(III)I" } : Jvm.MethodName)) ∈ lw_all := lw_g (lw_at lw_m6 44 rfl) rfl
theorem q1345 : (Jvm.Cond.code ({ cls := "SwapPress", name := "through", desc := "(III)I" } : Jvm.MethodName) prog_1_method_56_code (5 : Nat) (Option.some Jvm.ClassFile.FieldType.int)) ∈ lw_all := lw_g (lw_at lw_m6 45 rfl) rfl
theorem q1346 : (Jvm.Cond.methodLink "SwapPress" (333 : Nat) ({ cls := "SwapPress", name := "throughOf", desc := "(I[II)I" } : Jvm.MethodName)) ∈ lw_all := lw_g (lw_at lw_m6 46 rfl) rfl
theorem q1348 : (Jvm.Cond.instanceMethod ({ cls := "SwapPress", name := "all", desc := "()I" } : Jvm.MethodName)) ∈ lw_all := lw_g (lw_at lw_m6 48 rfl) rfl
theorem q1349 : (Jvm.Cond.selects "SwapPress" ({ cls := "SwapPress", name := "all", desc := "()I" } : Jvm.MethodName) ({ cls := "SwapPress", name := "all", desc := "()I" } : Jvm.MethodName)) ∈ lw_all := lw_g (lw_at lw_m6 49 rfl) rfl
theorem q1350 : (Jvm.Cond.code ({ cls := "SwapPress", name := "all", desc := "()I" } : Jvm.MethodName) prog_1_method_57_code (4 : Nat) (Option.some Jvm.ClassFile.FieldType.int)) ∈ lw_all := lw_g (lw_at lw_m6 50 rfl) rfl
theorem q1352 : (Jvm.Cond.instanceMethod ({ cls := "SwapPress", name := "enough", desc := "(III)I" } : Jvm.MethodName)) ∈ lw_all := lw_g (lw_at lw_m6 52 rfl) rfl
theorem q1353 : (Jvm.Cond.selects "SwapPress" ({ cls := "SwapPress", name := "enough", desc := "(III)I" } : Jvm.MethodName) ({ cls := "SwapPress", name := "enough", desc := "(III)I" } : Jvm.MethodName)) ∈ lw_all := lw_g (lw_at lw_m6 53 rfl) rfl
theorem q1354 : (Jvm.Cond.code ({ cls := "SwapPress", name := "enough", desc := "(III)I" } : Jvm.MethodName) prog_1_method_58_code (4 : Nat) (Option.some Jvm.ClassFile.FieldType.int)) ∈ lw_all := lw_g (lw_at lw_m6 54 rfl) rfl
theorem q1355 : (Jvm.Cond.constant "SwapPress" (337 : Nat) (99999999 : Int32)) ∈ lw_all := lw_g (lw_at lw_m6 55 rfl) rfl
theorem q1357 : (Jvm.Cond.instanceMethod ({ cls := "SwapPress", name := "fewest", desc := "(II)I" } : Jvm.MethodName)) ∈ lw_all := lw_g (lw_at lw_m6 57 rfl) rfl
theorem q1358 : (Jvm.Cond.selects "SwapPress" ({ cls := "SwapPress", name := "fewest", desc := "(II)I" } : Jvm.MethodName) ({ cls := "SwapPress", name := "fewest", desc := "(II)I" } : Jvm.MethodName)) ∈ lw_all := lw_g (lw_at lw_m6 58 rfl) rfl
theorem q1359 : (Jvm.Cond.code ({ cls := "SwapPress", name := "fewest", desc := "(II)I" } : Jvm.MethodName) prog_1_method_61_code (5 : Nat) (Option.some Jvm.ClassFile.FieldType.int)) ∈ lw_all := lw_g (lw_at lw_m6 59 rfl) rfl
theorem q1360 : (Jvm.Cond.methodLink "SwapPress" (341 : Nat) ({ cls := "SwapPress", name := "groups", desc := "(II)I" } : Jvm.MethodName)) ∈ lw_all := lw_g (lw_at lw_m6 60 rfl) rfl
theorem q1361 : (Jvm.Cond.privateMethod ({ cls := "SwapPress", name := "groups", desc := "(II)I" } : Jvm.MethodName)) ∈ lw_tbl := lw_at lw_m6 61 rfl
theorem q1362 : (Jvm.Cond.instanceMethod ({ cls := "SwapPress", name := "groups", desc := "(II)I" } : Jvm.MethodName)) ∈ lw_all := lw_g (lw_at lw_m6 62 rfl) rfl
theorem q1363 : (Jvm.Cond.code ({ cls := "SwapPress", name := "groups", desc := "(II)I" } : Jvm.MethodName) prog_1_method_60_code (7 : Nat) (Option.some Jvm.ClassFile.FieldType.int)) ∈ lw_all := lw_g (lw_at lw_m6 63 rfl) rfl
theorem q1364 : (Jvm.Cond.methodLink "SwapPress" (338 : Nat) ({ cls := "SwapPress", name := "netOf", desc := "(II)I" } : Jvm.MethodName)) ∈ lw_all := lw_g (lw_at lw_m6 64 rfl) rfl
theorem q1365 : (Jvm.Cond.privateMethod ({ cls := "SwapPress", name := "netOf", desc := "(II)I" } : Jvm.MethodName)) ∈ lw_tbl := lw_at lw_m6 65 rfl
theorem q1366 : (Jvm.Cond.instanceMethod ({ cls := "SwapPress", name := "netOf", desc := "(II)I" } : Jvm.MethodName)) ∈ lw_all := lw_g (lw_at lw_m6 66 rfl) rfl
theorem q1367 : (Jvm.Cond.code ({ cls := "SwapPress", name := "netOf", desc := "(II)I" } : Jvm.MethodName) prog_1_method_59_code (5 : Nat) (Option.some Jvm.ClassFile.FieldType.int)) ∈ lw_all := lw_g (lw_at lw_m6 67 rfl) rfl
theorem q1369 : (Jvm.Cond.instanceMethod ({ cls := "SwapPress", name := "even", desc := "(II)I" } : Jvm.MethodName)) ∈ lw_all := lw_g (lw_at lw_m6 69 rfl) rfl
theorem q1370 : (Jvm.Cond.selects "SwapPress" ({ cls := "SwapPress", name := "even", desc := "(II)I" } : Jvm.MethodName) ({ cls := "SwapPress", name := "even", desc := "(II)I" } : Jvm.MethodName)) ∈ lw_all := lw_g (lw_at lw_m6 70 rfl) rfl
theorem q1371 : (Jvm.Cond.code ({ cls := "SwapPress", name := "even", desc := "(II)I" } : Jvm.MethodName) prog_1_method_62_code (3 : Nat) (Option.some Jvm.ClassFile.FieldType.int)) ∈ lw_all := lw_g (lw_at lw_m6 71 rfl) rfl
theorem q1373 : (Jvm.Cond.instanceMethod ({ cls := "SwapPress", name := "line", desc := "(II)I" } : Jvm.MethodName)) ∈ lw_all := lw_g (lw_at lw_m6 73 rfl) rfl
theorem q1374 : (Jvm.Cond.selects "SwapPress" ({ cls := "SwapPress", name := "line", desc := "(II)I" } : Jvm.MethodName) ({ cls := "SwapPress", name := "line", desc := "(II)I" } : Jvm.MethodName)) ∈ lw_all := lw_g (lw_at lw_m6 74 rfl) rfl
theorem q1375 : (Jvm.Cond.code ({ cls := "SwapPress", name := "line", desc := "(II)I" } : Jvm.MethodName) prog_1_method_64_code (4 : Nat) (Option.some Jvm.ClassFile.FieldType.int)) ∈ lw_all := lw_g (lw_at lw_m6 75 rfl) rfl
theorem q1376 : (Jvm.Cond.methodLink "SwapPress" (368 : Nat) ({ cls := "SwapPress", name := "lineOf", desc := "(LSwapPress$Trade;)Ljava/lang/CharSequence;" } : Jvm.MethodName)) ∈ lw_all := lw_g (lw_at lw_m6 76 rfl) rfl
theorem q1377 : (Jvm.Cond.privateMethod ({ cls := "SwapPress", name := "lineOf", desc := "(LSwapPress$Trade;)Ljava/lang/CharSequence;" } : Jvm.MethodName)) ∈ lw_tbl := lw_at lw_m6 77 rfl
theorem q1378 : (Jvm.Cond.instanceMethod ({ cls := "SwapPress", name := "lineOf", desc := "(LSwapPress$Trade;)Ljava/lang/CharSequence;" } : Jvm.MethodName)) ∈ lw_all := lw_g (lw_at lw_m6 78 rfl) rfl
theorem q1379 : (Jvm.Cond.code ({ cls := "SwapPress", name := "lineOf", desc := "(LSwapPress$Trade;)Ljava/lang/CharSequence;" } : Jvm.MethodName) prog_1_method_63_code (3 : Nat) (Option.some (Jvm.ClassFile.FieldType.object "java/lang/CharSequence"))) ∈ lw_all := lw_g (lw_at lw_m6 79 rfl) rfl
theorem q1380 : (Jvm.Cond.classLink "SwapPress" (344 : Nat) "java/lang/StringBuilder") ∈ lw_all := lw_g (lw_at lw_m6 80 rfl) rfl
theorem q1381 : (Jvm.Cond.methodLink "SwapPress" (346 : Nat) ({ cls := "java/lang/StringBuilder", name := "<init>", desc := "()V" } : Jvm.MethodName)) ∈ lw_all := lw_g (lw_at lw_m6 81 rfl) rfl
theorem q1382 : (Jvm.Cond.classLink "SwapPress" (87 : Nat) "java/lang/String") ∈ lw_all := lw_g (lw_at lw_m6 82 rfl) rfl
theorem q1383 : (Jvm.Cond.methodLink "SwapPress" (350 : Nat) ({ cls := "java/lang/StringBuilder", name := "append", desc := "(Ljava/lang/String;)Ljava/lang/StringBuilder;" } : Jvm.MethodName)) ∈ lw_all := lw_g (lw_at lw_m6 83 rfl) rfl
theorem q1429 : (Jvm.Cond.methodLink "SwapPress" (354 : Nat) ({ cls := "java/lang/StringBuilder", name := "append", desc := "(C)Ljava/lang/StringBuilder;" } : Jvm.MethodName)) ∈ lw_all := lw_g (lw_at lw_m6 129 rfl) rfl
theorem q1430 : (Jvm.Cond.stringRef "SwapPress" (357 : Nat) " ") ∈ lw_tbl := lw_at lw_m6 130 rfl
theorem q1431 : (Jvm.Cond.methodLink "SwapPress" (359 : Nat) ({ cls := "java/lang/StringBuilder", name := "append", desc := "(I)Ljava/lang/StringBuilder;" } : Jvm.MethodName)) ∈ lw_all := lw_g (lw_at lw_m6 131 rfl) rfl
theorem q1456 : (Jvm.Cond.methodLink "SwapPress" (362 : Nat) ({ cls := "java/lang/StringBuilder", name := "toString", desc := "()Ljava/lang/String;" } : Jvm.MethodName)) ∈ lw_all := lw_g (lw_at lw_m6 156 rfl) rfl
theorem q1457 : (Jvm.Cond.stringRef "SwapPress" (366 : Nat) " *") ∈ lw_tbl := lw_at lw_m6 157 rfl
theorem q1458 : (Jvm.Cond.interfaceEntry "SwapPress" (372 : Nat)) ∈ lw_tbl := lw_at lw_m6 158 rfl
theorem q1459 : (Jvm.Cond.methodLink "SwapPress" (372 : Nat) ({ cls := "java/lang/CharSequence", name := "length", desc := "()I" } : Jvm.MethodName)) ∈ lw_all := lw_g (lw_at lw_m6 159 rfl) rfl
theorem q1470 : (Jvm.Cond.interfaceEntry "SwapPress" (377 : Nat)) ∈ lw_tbl := lw_at lw_m6 170 rfl
theorem q1471 : (Jvm.Cond.methodLink "SwapPress" (377 : Nat) ({ cls := "java/lang/CharSequence", name := "charAt", desc := "(I)C" } : Jvm.MethodName)) ∈ lw_all := lw_g (lw_at lw_m6 171 rfl) rfl
theorem q1498 : (Jvm.Cond.instanceMethod ({ cls := "SwapPress", name := "count", desc := "(I)I" } : Jvm.MethodName)) ∈ lw_all := lw_g (lw_at lw_m6 198 rfl) rfl
theorem q1499 : (Jvm.Cond.selects "SwapPress" ({ cls := "SwapPress", name := "count", desc := "(I)I" } : Jvm.MethodName) ({ cls := "SwapPress", name := "count", desc := "(I)I" } : Jvm.MethodName)) ∈ lw_all := lw_g (lw_at lw_m6 199 rfl) rfl
theorem q1500 : (Jvm.Cond.code ({ cls := "SwapPress", name := "count", desc := "(I)I" } : Jvm.MethodName) prog_1_method_65_code (2 : Nat) (Option.some Jvm.ClassFile.FieldType.int)) ∈ lw_all := lw_g (lw_at lw_m6 200 rfl) rfl
theorem q1501 : (Jvm.Cond.methodLink "SwapPress" (381 : Nat) ({ cls := "SwapPress$State", name := "kept", desc := "()I" } : Jvm.MethodName)) ∈ lw_all := lw_g (lw_at lw_m6 201 rfl) rfl
theorem q2038 : (Jvm.Cond.castable "SwapPress" "java/lang/Object") ∈ lw_tbl := lw_at lw_m9 18 rfl
theorem in_X0 : ∀ w ∈ wsX00, w ∈ lw_all := lw_in wsX00 [246, 248, 250, 252, 254, 256, 258, 260, 262] (by decide +kernel) (by decide +kernel)
