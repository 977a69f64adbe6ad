/-! SwapPress$State -/
set_option maxRecDepth 100000
abbrev cX1_init : ByteArray := prog_10_method_1_code
def yX1_init : MethodName := ⟨RX1, "<init>", "()V"⟩
def dkwX1_init_2 : List UInt8 := [27, 42, 180, 0, 24, 190, 162, 0, 17, 42, 180, 0, 24, 27, 18, 28, 79, 132, 1, 1, 167, 255, 236, 177]
abbrev dktX1_init_2 : List UInt8 := dkwX1_init_2 ++ []
def dkwX1_init_1 : List UInt8 := [181, 0, 18, 42, 187, 0, 9, 89, 183, 0, 11, 181, 0, 21, 42, 16, 64, 188, 10, 181, 0, 24, 3, 60]
abbrev dktX1_init_1 : List UInt8 := dkwX1_init_1 ++ dktX1_init_2
def dkwX1_init_0 : List UInt8 := [42, 183, 0, 3, 42, 187, 0, 9, 89, 183, 0, 11, 181, 0, 12, 42, 187, 0, 9, 89, 183, 0, 11]
abbrev dktX1_init_0 : List UInt8 := dkwX1_init_0 ++ dktX1_init_1
theorem dksX1_init_0 : cX1_init.data.toList.drop 0 = dktX1_init_0 := by decide +kernel
theorem dksX1_init_1 : cX1_init.data.toList.drop 23 = dktX1_init_1 := dk_seg dksX1_init_0 23 rfl rfl
theorem dksX1_init_2 : cX1_init.data.toList.drop 47 = dktX1_init_2 := dk_seg dksX1_init_1 24 rfl rfl
theorem dX1_init_0 : decode cX1_init 0 = .ok (.aload_n 0, 1) := dk_42 (dk_at dksX1_init_0 0 rfl rfl)
theorem dX1_init_1 : decode cX1_init 1 = .ok (.invokespecial 3, 3) := dk_183 0 3 (dk_at dksX1_init_0 1 rfl rfl)
theorem dX1_init_4 : decode cX1_init 4 = .ok (.aload_n 0, 1) := dk_42 (dk_at dksX1_init_0 4 rfl rfl)
theorem dX1_init_5 : decode cX1_init 5 = .ok (.new 9, 3) := dk_187 0 9 (dk_at dksX1_init_0 5 rfl rfl)
theorem dX1_init_8 : decode cX1_init 8 = .ok (.dup, 1) := dk_89 (dk_at dksX1_init_0 8 rfl rfl)
theorem dX1_init_9 : decode cX1_init 9 = .ok (.invokespecial 11, 3) := dk_183 0 11 (dk_at dksX1_init_0 9 rfl rfl)
theorem dX1_init_12 : decode cX1_init 12 = .ok (.putfield 12, 3) := dk_181 0 12 (dk_at dksX1_init_0 12 rfl rfl)
theorem dX1_init_15 : decode cX1_init 15 = .ok (.aload_n 0, 1) := dk_42 (dk_at dksX1_init_0 15 rfl rfl)
theorem dX1_init_16 : decode cX1_init 16 = .ok (.new 9, 3) := dk_187 0 9 (dk_at dksX1_init_0 16 rfl rfl)
theorem dX1_init_19 : decode cX1_init 19 = .ok (.dup, 1) := dk_89 (dk_at dksX1_init_0 19 rfl rfl)
theorem dX1_init_20 : decode cX1_init 20 = .ok (.invokespecial 11, 3) := dk_183 0 11 (dk_at dksX1_init_0 20 rfl rfl)
theorem dX1_init_23 : decode cX1_init 23 = .ok (.putfield 18, 3) := dk_181 0 18 (dk_at dksX1_init_1 0 rfl rfl)
theorem dX1_init_26 : decode cX1_init 26 = .ok (.aload_n 0, 1) := dk_42 (dk_at dksX1_init_1 3 rfl rfl)
theorem dX1_init_27 : decode cX1_init 27 = .ok (.new 9, 3) := dk_187 0 9 (dk_at dksX1_init_1 4 rfl rfl)
theorem dX1_init_30 : decode cX1_init 30 = .ok (.dup, 1) := dk_89 (dk_at dksX1_init_1 7 rfl rfl)
theorem dX1_init_31 : decode cX1_init 31 = .ok (.invokespecial 11, 3) := dk_183 0 11 (dk_at dksX1_init_1 8 rfl rfl)
theorem dX1_init_34 : decode cX1_init 34 = .ok (.putfield 21, 3) := dk_181 0 21 (dk_at dksX1_init_1 11 rfl rfl)
theorem dX1_init_37 : decode cX1_init 37 = .ok (.aload_n 0, 1) := dk_42 (dk_at dksX1_init_1 14 rfl rfl)
theorem dX1_init_38 : decode cX1_init 38 = .ok (.bipush 64, 2) := dk_16 64 (dk_at dksX1_init_1 15 rfl rfl)
theorem dX1_init_40 : decode cX1_init 40 = .ok (.newarray .int, 2) := dk_188_10 (dk_at dksX1_init_1 17 rfl rfl)
theorem dX1_init_42 : decode cX1_init 42 = .ok (.putfield 24, 3) := dk_181 0 24 (dk_at dksX1_init_1 19 rfl rfl)
theorem dX1_init_45 : decode cX1_init 45 = .ok (.iconst 0, 1) := dk_3 (dk_at dksX1_init_1 22 rfl rfl)
theorem dX1_init_46 : decode cX1_init 46 = .ok (.istore_n 1, 1) := dk_60 (dk_at dksX1_init_1 23 rfl rfl)
theorem dX1_init_47 : decode cX1_init 47 = .ok (.iload_n 1, 1) := dk_27 (dk_at dksX1_init_2 0 rfl rfl)
theorem dX1_init_48 : decode cX1_init 48 = .ok (.aload_n 0, 1) := dk_42 (dk_at dksX1_init_2 1 rfl rfl)
theorem dX1_init_49 : decode cX1_init 49 = .ok (.getfield 24, 3) := dk_180 0 24 (dk_at dksX1_init_2 2 rfl rfl)
theorem dX1_init_52 : decode cX1_init 52 = .ok (.arraylength, 1) := dk_190 (dk_at dksX1_init_2 5 rfl rfl)
theorem dX1_init_53 : decode cX1_init 53 = .ok (.if_icmp .ge 17, 3) := dk_162 0 17 (dk_at dksX1_init_2 6 rfl rfl)
theorem dX1_init_56 : decode cX1_init 56 = .ok (.aload_n 0, 1) := dk_42 (dk_at dksX1_init_2 9 rfl rfl)
theorem dX1_init_57 : decode cX1_init 57 = .ok (.getfield 24, 3) := dk_180 0 24 (dk_at dksX1_init_2 10 rfl rfl)
theorem dX1_init_60 : decode cX1_init 60 = .ok (.iload_n 1, 1) := dk_27 (dk_at dksX1_init_2 13 rfl rfl)
theorem dX1_init_61 : decode cX1_init 61 = .ok (.ldc 28, 2) := dk_18 28 (dk_at dksX1_init_2 14 rfl rfl)
theorem dX1_init_63 : decode cX1_init 63 = .ok (.iastore, 1) := dk_79 (dk_at dksX1_init_2 16 rfl rfl)
theorem dX1_init_64 : decode cX1_init 64 = .ok (.iinc 1 1, 3) := dk_132 1 1 (dk_at dksX1_init_2 17 rfl rfl)
theorem dX1_init_67 : decode cX1_init 67 = .ok (.goto (-20), 3) := dk_167 255 236 (dk_at dksX1_init_2 20 rfl rfl)
theorem dX1_init_70 : decode cX1_init 70 = .ok (.return_, 1) := dk_177 (dk_at dksX1_init_2 23 rfl rfl)
abbrev cX1_many : ByteArray := prog_10_method_3_code
def yX1_many : MethodName := ⟨RX1, "many", "()I"⟩
def dkwX1_many_0 : List UInt8 := [42, 180, 0, 12, 182, 0, 44, 172]
abbrev dktX1_many_0 : List UInt8 := dkwX1_many_0 ++ []
theorem dksX1_many_0 : cX1_many.data.toList.drop 0 = dktX1_many_0 := by decide +kernel
theorem dX1_many_0 : decode cX1_many 0 = .ok (.aload_n 0, 1) := dk_42 (dk_at dksX1_many_0 0 rfl rfl)
theorem dX1_many_1 : decode cX1_many 1 = .ok (.getfield 12, 3) := dk_180 0 12 (dk_at dksX1_many_0 1 rfl rfl)
theorem dX1_many_4 : decode cX1_many 4 = .ok (.invokevirtual 44, 3) := dk_182 0 44 (dk_at dksX1_many_0 4 rfl rfl)
theorem dX1_many_7 : decode cX1_many 7 = .ok (.ireturn, 1) := dk_172 (dk_at dksX1_many_0 7 rfl rfl)
abbrev cX1_copy : ByteArray := prog_10_method_2_code
def yX1_copy : MethodName := ⟨RX1, "copy", "()LSwapPress$State;"⟩
def dkwX1_copy_2 : List UInt8 := [3, 43, 180, 0, 24, 3, 42, 180, 0, 24, 190, 184, 0, 34, 43, 42, 180, 0, 40, 181, 0, 40, 43, 176]
abbrev dktX1_copy_2 : List UInt8 := dkwX1_copy_2 ++ []
def dkwX1_copy_1 : List UInt8 := [42, 180, 0, 18, 182, 0, 30, 87, 43, 180, 0, 21, 42, 180, 0, 21, 182, 0, 30, 87, 42, 180, 0, 24]
abbrev dktX1_copy_1 : List UInt8 := dkwX1_copy_1 ++ dktX1_copy_2
def dkwX1_copy_0 : List UInt8 := [187, 0, 13, 89, 183, 0, 29, 76, 43, 180, 0, 12, 42, 180, 0, 12, 182, 0, 30, 87, 43, 180, 0, 18]
abbrev dktX1_copy_0 : List UInt8 := dkwX1_copy_0 ++ dktX1_copy_1
theorem dksX1_copy_0 : cX1_copy.data.toList.drop 0 = dktX1_copy_0 := by decide +kernel
theorem dksX1_copy_1 : cX1_copy.data.toList.drop 24 = dktX1_copy_1 := dk_seg dksX1_copy_0 24 rfl rfl
theorem dksX1_copy_2 : cX1_copy.data.toList.drop 48 = dktX1_copy_2 := dk_seg dksX1_copy_1 24 rfl rfl
theorem dX1_copy_0 : decode cX1_copy 0 = .ok (.new 13, 3) := dk_187 0 13 (dk_at dksX1_copy_0 0 rfl rfl)
theorem dX1_copy_3 : decode cX1_copy 3 = .ok (.dup, 1) := dk_89 (dk_at dksX1_copy_0 3 rfl rfl)
theorem dX1_copy_4 : decode cX1_copy 4 = .ok (.invokespecial 29, 3) := dk_183 0 29 (dk_at dksX1_copy_0 4 rfl rfl)
theorem dX1_copy_7 : decode cX1_copy 7 = .ok (.astore_n 1, 1) := dk_76 (dk_at dksX1_copy_0 7 rfl rfl)
theorem dX1_copy_8 : decode cX1_copy 8 = .ok (.aload_n 1, 1) := dk_43 (dk_at dksX1_copy_0 8 rfl rfl)
theorem dX1_copy_9 : decode cX1_copy 9 = .ok (.getfield 12, 3) := dk_180 0 12 (dk_at dksX1_copy_0 9 rfl rfl)
theorem dX1_copy_12 : decode cX1_copy 12 = .ok (.aload_n 0, 1) := dk_42 (dk_at dksX1_copy_0 12 rfl rfl)
theorem dX1_copy_13 : decode cX1_copy 13 = .ok (.getfield 12, 3) := dk_180 0 12 (dk_at dksX1_copy_0 13 rfl rfl)
theorem dX1_copy_16 : decode cX1_copy 16 = .ok (.invokevirtual 30, 3) := dk_182 0 30 (dk_at dksX1_copy_0 16 rfl rfl)
theorem dX1_copy_19 : decode cX1_copy 19 = .ok (.pop, 1) := dk_87 (dk_at dksX1_copy_0 19 rfl rfl)
theorem dX1_copy_20 : decode cX1_copy 20 = .ok (.aload_n 1, 1) := dk_43 (dk_at dksX1_copy_0 20 rfl rfl)
theorem dX1_copy_21 : decode cX1_copy 21 = .ok (.getfield 18, 3) := dk_180 0 18 (dk_at dksX1_copy_0 21 rfl rfl)
theorem dX1_copy_24 : decode cX1_copy 24 = .ok (.aload_n 0, 1) := dk_42 (dk_at dksX1_copy_1 0 rfl rfl)
theorem dX1_copy_25 : decode cX1_copy 25 = .ok (.getfield 18, 3) := dk_180 0 18 (dk_at dksX1_copy_1 1 rfl rfl)
theorem dX1_copy_28 : decode cX1_copy 28 = .ok (.invokevirtual 30, 3) := dk_182 0 30 (dk_at dksX1_copy_1 4 rfl rfl)
theorem dX1_copy_31 : decode cX1_copy 31 = .ok (.pop, 1) := dk_87 (dk_at dksX1_copy_1 7 rfl rfl)
theorem dX1_copy_32 : decode cX1_copy 32 = .ok (.aload_n 1, 1) := dk_43 (dk_at dksX1_copy_1 8 rfl rfl)
theorem dX1_copy_33 : decode cX1_copy 33 = .ok (.getfield 21, 3) := dk_180 0 21 (dk_at dksX1_copy_1 9 rfl rfl)
theorem dX1_copy_36 : decode cX1_copy 36 = .ok (.aload_n 0, 1) := dk_42 (dk_at dksX1_copy_1 12 rfl rfl)
theorem dX1_copy_37 : decode cX1_copy 37 = .ok (.getfield 21, 3) := dk_180 0 21 (dk_at dksX1_copy_1 13 rfl rfl)
theorem dX1_copy_40 : decode cX1_copy 40 = .ok (.invokevirtual 30, 3) := dk_182 0 30 (dk_at dksX1_copy_1 16 rfl rfl)
theorem dX1_copy_43 : decode cX1_copy 43 = .ok (.pop, 1) := dk_87 (dk_at dksX1_copy_1 19 rfl rfl)
theorem dX1_copy_44 : decode cX1_copy 44 = .ok (.aload_n 0, 1) := dk_42 (dk_at dksX1_copy_1 20 rfl rfl)
theorem dX1_copy_45 : decode cX1_copy 45 = .ok (.getfield 24, 3) := dk_180 0 24 (dk_at dksX1_copy_1 21 rfl rfl)
theorem dX1_copy_48 : decode cX1_copy 48 = .ok (.iconst 0, 1) := dk_3 (dk_at dksX1_copy_2 0 rfl rfl)
theorem dX1_copy_49 : decode cX1_copy 49 = .ok (.aload_n 1, 1) := dk_43 (dk_at dksX1_copy_2 1 rfl rfl)
theorem dX1_copy_50 : decode cX1_copy 50 = .ok (.getfield 24, 3) := dk_180 0 24 (dk_at dksX1_copy_2 2 rfl rfl)
theorem dX1_copy_53 : decode cX1_copy 53 = .ok (.iconst 0, 1) := dk_3 (dk_at dksX1_copy_2 5 rfl rfl)
theorem dX1_copy_54 : decode cX1_copy 54 = .ok (.aload_n 0, 1) := dk_42 (dk_at dksX1_copy_2 6 rfl rfl)
theorem dX1_copy_55 : decode cX1_copy 55 = .ok (.getfield 24, 3) := dk_180 0 24 (dk_at dksX1_copy_2 7 rfl rfl)
theorem dX1_copy_58 : decode cX1_copy 58 = .ok (.arraylength, 1) := dk_190 (dk_at dksX1_copy_2 10 rfl rfl)
theorem dX1_copy_59 : decode cX1_copy 59 = .ok (.invokestatic 34, 3) := dk_184 0 34 (dk_at dksX1_copy_2 11 rfl rfl)
theorem dX1_copy_62 : decode cX1_copy 62 = .ok (.aload_n 1, 1) := dk_43 (dk_at dksX1_copy_2 14 rfl rfl)
theorem dX1_copy_63 : decode cX1_copy 63 = .ok (.aload_n 0, 1) := dk_42 (dk_at dksX1_copy_2 15 rfl rfl)
theorem dX1_copy_64 : decode cX1_copy 64 = .ok (.getfield 40, 3) := dk_180 0 40 (dk_at dksX1_copy_2 16 rfl rfl)
theorem dX1_copy_67 : decode cX1_copy 67 = .ok (.putfield 40, 3) := dk_181 0 40 (dk_at dksX1_copy_2 19 rfl rfl)
theorem dX1_copy_70 : decode cX1_copy 70 = .ok (.aload_n 1, 1) := dk_43 (dk_at dksX1_copy_2 22 rfl rfl)
theorem dX1_copy_71 : decode cX1_copy 71 = .ok (.areturn, 1) := dk_176 (dk_at dksX1_copy_2 23 rfl rfl)
abbrev cX1_flows : ByteArray := prog_10_method_5_code
def yX1_flows : MethodName := ⟨RX1, "flows", "(I)[I"⟩
def dkwX1_flows_3 : List UInt8 := [167, 255, 192, 44, 176]
abbrev dktX1_flows_3 : List UInt8 := dkwX1_flows_3 ++ []
def dkwX1_flows_2 : List UInt8 := [46, 25, 4, 27, 182, 0, 54, 153, 0, 11, 25, 4, 180, 0, 64, 167, 0, 4, 3, 96, 79, 132, 3, 1]
abbrev dktX1_flows_2 : List UInt8 := dkwX1_flows_2 ++ dktX1_flows_3
def dkwX1_flows_1 : List UInt8 := [182, 0, 48, 192, 0, 52, 58, 4, 44, 16, 8, 25, 4, 180, 0, 58, 104, 25, 4, 180, 0, 61, 96, 92]
abbrev dktX1_flows_1 : List UInt8 := dkwX1_flows_1 ++ dktX1_flows_2
def dkwX1_flows_0 : List UInt8 := [16, 64, 188, 10, 77, 3, 62, 29, 42, 180, 0, 21, 182, 0, 44, 162, 0, 59, 42, 180, 0, 21, 29]
abbrev dktX1_flows_0 : List UInt8 := dkwX1_flows_0 ++ dktX1_flows_1
theorem dksX1_flows_0 : cX1_flows.data.toList.drop 0 = dktX1_flows_0 := by decide +kernel
theorem dksX1_flows_1 : cX1_flows.data.toList.drop 23 = dktX1_flows_1 := dk_seg dksX1_flows_0 23 rfl rfl
theorem dksX1_flows_2 : cX1_flows.data.toList.drop 47 = dktX1_flows_2 := dk_seg dksX1_flows_1 24 rfl rfl
theorem dksX1_flows_3 : cX1_flows.data.toList.drop 71 = dktX1_flows_3 := dk_seg dksX1_flows_2 24 rfl rfl
theorem dX1_flows_0 : decode cX1_flows 0 = .ok (.bipush 64, 2) := dk_16 64 (dk_at dksX1_flows_0 0 rfl rfl)
theorem dX1_flows_2 : decode cX1_flows 2 = .ok (.newarray .int, 2) := dk_188_10 (dk_at dksX1_flows_0 2 rfl rfl)
theorem dX1_flows_4 : decode cX1_flows 4 = .ok (.astore_n 2, 1) := dk_77 (dk_at dksX1_flows_0 4 rfl rfl)
theorem dX1_flows_5 : decode cX1_flows 5 = .ok (.iconst 0, 1) := dk_3 (dk_at dksX1_flows_0 5 rfl rfl)
theorem dX1_flows_6 : decode cX1_flows 6 = .ok (.istore_n 3, 1) := dk_62 (dk_at dksX1_flows_0 6 rfl rfl)
theorem dX1_flows_7 : decode cX1_flows 7 = .ok (.iload_n 3, 1) := dk_29 (dk_at dksX1_flows_0 7 rfl rfl)
theorem dX1_flows_8 : decode cX1_flows 8 = .ok (.aload_n 0, 1) := dk_42 (dk_at dksX1_flows_0 8 rfl rfl)
theorem dX1_flows_9 : decode cX1_flows 9 = .ok (.getfield 21, 3) := dk_180 0 21 (dk_at dksX1_flows_0 9 rfl rfl)
theorem dX1_flows_12 : decode cX1_flows 12 = .ok (.invokevirtual 44, 3) := dk_182 0 44 (dk_at dksX1_flows_0 12 rfl rfl)
theorem dX1_flows_15 : decode cX1_flows 15 = .ok (.if_icmp .ge 59, 3) := dk_162 0 59 (dk_at dksX1_flows_0 15 rfl rfl)
theorem dX1_flows_18 : decode cX1_flows 18 = .ok (.aload_n 0, 1) := dk_42 (dk_at dksX1_flows_0 18 rfl rfl)
theorem dX1_flows_19 : decode cX1_flows 19 = .ok (.getfield 21, 3) := dk_180 0 21 (dk_at dksX1_flows_0 19 rfl rfl)
theorem dX1_flows_22 : decode cX1_flows 22 = .ok (.iload_n 3, 1) := dk_29 (dk_at dksX1_flows_0 22 rfl rfl)
theorem dX1_flows_23 : decode cX1_flows 23 = .ok (.invokevirtual 48, 3) := dk_182 0 48 (dk_at dksX1_flows_1 0 rfl rfl)
theorem dX1_flows_26 : decode cX1_flows 26 = .ok (.checkcast 52, 3) := dk_192 0 52 (dk_at dksX1_flows_1 3 rfl rfl)
theorem dX1_flows_29 : decode cX1_flows 29 = .ok (.astore 4, 2) := dk_58 4 (dk_at dksX1_flows_1 6 rfl rfl)
theorem dX1_flows_31 : decode cX1_flows 31 = .ok (.aload_n 2, 1) := dk_44 (dk_at dksX1_flows_1 8 rfl rfl)
theorem dX1_flows_32 : decode cX1_flows 32 = .ok (.bipush 8, 2) := dk_16 8 (dk_at dksX1_flows_1 9 rfl rfl)
theorem dX1_flows_34 : decode cX1_flows 34 = .ok (.aload 4, 2) := dk_25 4 (dk_at dksX1_flows_1 11 rfl rfl)
theorem dX1_flows_36 : decode cX1_flows 36 = .ok (.getfield 58, 3) := dk_180 0 58 (dk_at dksX1_flows_1 13 rfl rfl)
theorem dX1_flows_39 : decode cX1_flows 39 = .ok (.imul, 1) := dk_104 (dk_at dksX1_flows_1 16 rfl rfl)
theorem dX1_flows_40 : decode cX1_flows 40 = .ok (.aload 4, 2) := dk_25 4 (dk_at dksX1_flows_1 17 rfl rfl)
theorem dX1_flows_42 : decode cX1_flows 42 = .ok (.getfield 61, 3) := dk_180 0 61 (dk_at dksX1_flows_1 19 rfl rfl)
theorem dX1_flows_45 : decode cX1_flows 45 = .ok (.iadd, 1) := dk_96 (dk_at dksX1_flows_1 22 rfl rfl)
theorem dX1_flows_46 : decode cX1_flows 46 = .ok (.dup2, 1) := dk_92 (dk_at dksX1_flows_1 23 rfl rfl)
theorem dX1_flows_47 : decode cX1_flows 47 = .ok (.iaload, 1) := dk_46 (dk_at dksX1_flows_2 0 rfl rfl)
theorem dX1_flows_48 : decode cX1_flows 48 = .ok (.aload 4, 2) := dk_25 4 (dk_at dksX1_flows_2 1 rfl rfl)
theorem dX1_flows_50 : decode cX1_flows 50 = .ok (.iload_n 1, 1) := dk_27 (dk_at dksX1_flows_2 3 rfl rfl)
theorem dX1_flows_51 : decode cX1_flows 51 = .ok (.invokevirtual 54, 3) := dk_182 0 54 (dk_at dksX1_flows_2 4 rfl rfl)
theorem dX1_flows_54 : decode cX1_flows 54 = .ok (.ifCond .eq 11, 3) := dk_153 0 11 (dk_at dksX1_flows_2 7 rfl rfl)
theorem dX1_flows_57 : decode cX1_flows 57 = .ok (.aload 4, 2) := dk_25 4 (dk_at dksX1_flows_2 10 rfl rfl)
theorem dX1_flows_59 : decode cX1_flows 59 = .ok (.getfield 64, 3) := dk_180 0 64 (dk_at dksX1_flows_2 12 rfl rfl)
theorem dX1_flows_62 : decode cX1_flows 62 = .ok (.goto 4, 3) := dk_167 0 4 (dk_at dksX1_flows_2 15 rfl rfl)
theorem dX1_flows_65 : decode cX1_flows 65 = .ok (.iconst 0, 1) := dk_3 (dk_at dksX1_flows_2 18 rfl rfl)
theorem dX1_flows_66 : decode cX1_flows 66 = .ok (.iadd, 1) := dk_96 (dk_at dksX1_flows_2 19 rfl rfl)
theorem dX1_flows_67 : decode cX1_flows 67 = .ok (.iastore, 1) := dk_79 (dk_at dksX1_flows_2 20 rfl rfl)
theorem dX1_flows_68 : decode cX1_flows 68 = .ok (.iinc 3 1, 3) := dk_132 3 1 (dk_at dksX1_flows_2 21 rfl rfl)
theorem dX1_flows_71 : decode cX1_flows 71 = .ok (.goto (-64), 3) := dk_167 255 192 (dk_at dksX1_flows_3 0 rfl rfl)
theorem dX1_flows_74 : decode cX1_flows 74 = .ok (.aload_n 2, 1) := dk_44 (dk_at dksX1_flows_3 3 rfl rfl)
theorem dX1_flows_75 : decode cX1_flows 75 = .ok (.areturn, 1) := dk_176 (dk_at dksX1_flows_3 4 rfl rfl)
abbrev cX1_flow : ByteArray := prog_10_method_4_code
def yX1_flow : MethodName := ⟨RX1, "flow", "(III)I"⟩
def dkwX1_flow_3 : List UInt8 := [54, 4, 132, 5, 1, 167, 255, 186, 21, 4, 172]
abbrev dktX1_flow_3 : List UInt8 := dkwX1_flow_3 ++ []
def dkwX1_flow_2 : List UInt8 := [27, 160, 0, 20, 25, 6, 180, 0, 61, 28, 160, 0, 11, 25, 6, 180, 0, 64, 167, 0, 4, 3, 96]
abbrev dktX1_flow_2 : List UInt8 := dkwX1_flow_2 ++ dktX1_flow_3
def dkwX1_flow_1 : List UInt8 := [182, 0, 48, 192, 0, 52, 58, 6, 21, 4, 25, 6, 29, 182, 0, 54, 153, 0, 29, 25, 6, 180, 0, 58]
abbrev dktX1_flow_1 : List UInt8 := dkwX1_flow_1 ++ dktX1_flow_2
def dkwX1_flow_0 : List UInt8 := [3, 54, 4, 3, 54, 5, 21, 5, 42, 180, 0, 21, 182, 0, 44, 162, 0, 64, 42, 180, 0, 21, 21, 5]
abbrev dktX1_flow_0 : List UInt8 := dkwX1_flow_0 ++ dktX1_flow_1
theorem dksX1_flow_0 : cX1_flow.data.toList.drop 0 = dktX1_flow_0 := by decide +kernel
theorem dksX1_flow_1 : cX1_flow.data.toList.drop 24 = dktX1_flow_1 := dk_seg dksX1_flow_0 24 rfl rfl
theorem dksX1_flow_2 : cX1_flow.data.toList.drop 48 = dktX1_flow_2 := dk_seg dksX1_flow_1 24 rfl rfl
theorem dksX1_flow_3 : cX1_flow.data.toList.drop 71 = dktX1_flow_3 := dk_seg dksX1_flow_2 23 rfl rfl
theorem dX1_flow_0 : decode cX1_flow 0 = .ok (.iconst 0, 1) := dk_3 (dk_at dksX1_flow_0 0 rfl rfl)
theorem dX1_flow_1 : decode cX1_flow 1 = .ok (.istore 4, 2) := dk_54 4 (dk_at dksX1_flow_0 1 rfl rfl)
theorem dX1_flow_3 : decode cX1_flow 3 = .ok (.iconst 0, 1) := dk_3 (dk_at dksX1_flow_0 3 rfl rfl)
theorem dX1_flow_4 : decode cX1_flow 4 = .ok (.istore 5, 2) := dk_54 5 (dk_at dksX1_flow_0 4 rfl rfl)
theorem dX1_flow_6 : decode cX1_flow 6 = .ok (.iload 5, 2) := dk_21 5 (dk_at dksX1_flow_0 6 rfl rfl)
theorem dX1_flow_8 : decode cX1_flow 8 = .ok (.aload_n 0, 1) := dk_42 (dk_at dksX1_flow_0 8 rfl rfl)
theorem dX1_flow_9 : decode cX1_flow 9 = .ok (.getfield 21, 3) := dk_180 0 21 (dk_at dksX1_flow_0 9 rfl rfl)
theorem dX1_flow_12 : decode cX1_flow 12 = .ok (.invokevirtual 44, 3) := dk_182 0 44 (dk_at dksX1_flow_0 12 rfl rfl)
theorem dX1_flow_15 : decode cX1_flow 15 = .ok (.if_icmp .ge 64, 3) := dk_162 0 64 (dk_at dksX1_flow_0 15 rfl rfl)
theorem dX1_flow_18 : decode cX1_flow 18 = .ok (.aload_n 0, 1) := dk_42 (dk_at dksX1_flow_0 18 rfl rfl)
theorem dX1_flow_19 : decode cX1_flow 19 = .ok (.getfield 21, 3) := dk_180 0 21 (dk_at dksX1_flow_0 19 rfl rfl)
theorem dX1_flow_22 : decode cX1_flow 22 = .ok (.iload 5, 2) := dk_21 5 (dk_at dksX1_flow_0 22 rfl rfl)
theorem dX1_flow_24 : decode cX1_flow 24 = .ok (.invokevirtual 48, 3) := dk_182 0 48 (dk_at dksX1_flow_1 0 rfl rfl)
theorem dX1_flow_27 : decode cX1_flow 27 = .ok (.checkcast 52, 3) := dk_192 0 52 (dk_at dksX1_flow_1 3 rfl rfl)
theorem dX1_flow_30 : decode cX1_flow 30 = .ok (.astore 6, 2) := dk_58 6 (dk_at dksX1_flow_1 6 rfl rfl)
theorem dX1_flow_32 : decode cX1_flow 32 = .ok (.iload 4, 2) := dk_21 4 (dk_at dksX1_flow_1 8 rfl rfl)
theorem dX1_flow_34 : decode cX1_flow 34 = .ok (.aload 6, 2) := dk_25 6 (dk_at dksX1_flow_1 10 rfl rfl)
theorem dX1_flow_36 : decode cX1_flow 36 = .ok (.iload_n 3, 1) := dk_29 (dk_at dksX1_flow_1 12 rfl rfl)
theorem dX1_flow_37 : decode cX1_flow 37 = .ok (.invokevirtual 54, 3) := dk_182 0 54 (dk_at dksX1_flow_1 13 rfl rfl)
theorem dX1_flow_40 : decode cX1_flow 40 = .ok (.ifCond .eq 29, 3) := dk_153 0 29 (dk_at dksX1_flow_1 16 rfl rfl)
theorem dX1_flow_43 : decode cX1_flow 43 = .ok (.aload 6, 2) := dk_25 6 (dk_at dksX1_flow_1 19 rfl rfl)
theorem dX1_flow_45 : decode cX1_flow 45 = .ok (.getfield 58, 3) := dk_180 0 58 (dk_at dksX1_flow_1 21 rfl rfl)
theorem dX1_flow_48 : decode cX1_flow 48 = .ok (.iload_n 1, 1) := dk_27 (dk_at dksX1_flow_2 0 rfl rfl)
theorem dX1_flow_49 : decode cX1_flow 49 = .ok (.if_icmp .ne 20, 3) := dk_160 0 20 (dk_at dksX1_flow_2 1 rfl rfl)
theorem dX1_flow_52 : decode cX1_flow 52 = .ok (.aload 6, 2) := dk_25 6 (dk_at dksX1_flow_2 4 rfl rfl)
theorem dX1_flow_54 : decode cX1_flow 54 = .ok (.getfield 61, 3) := dk_180 0 61 (dk_at dksX1_flow_2 6 rfl rfl)
theorem dX1_flow_57 : decode cX1_flow 57 = .ok (.iload_n 2, 1) := dk_28 (dk_at dksX1_flow_2 9 rfl rfl)
theorem dX1_flow_58 : decode cX1_flow 58 = .ok (.if_icmp .ne 11, 3) := dk_160 0 11 (dk_at dksX1_flow_2 10 rfl rfl)
theorem dX1_flow_61 : decode cX1_flow 61 = .ok (.aload 6, 2) := dk_25 6 (dk_at dksX1_flow_2 13 rfl rfl)
theorem dX1_flow_63 : decode cX1_flow 63 = .ok (.getfield 64, 3) := dk_180 0 64 (dk_at dksX1_flow_2 15 rfl rfl)
theorem dX1_flow_66 : decode cX1_flow 66 = .ok (.goto 4, 3) := dk_167 0 4 (dk_at dksX1_flow_2 18 rfl rfl)
theorem dX1_flow_69 : decode cX1_flow 69 = .ok (.iconst 0, 1) := dk_3 (dk_at dksX1_flow_2 21 rfl rfl)
theorem dX1_flow_70 : decode cX1_flow 70 = .ok (.iadd, 1) := dk_96 (dk_at dksX1_flow_2 22 rfl rfl)
theorem dX1_flow_71 : decode cX1_flow 71 = .ok (.istore 4, 2) := dk_54 4 (dk_at dksX1_flow_3 0 rfl rfl)
theorem dX1_flow_73 : decode cX1_flow 73 = .ok (.iinc 5 1, 3) := dk_132 5 1 (dk_at dksX1_flow_3 2 rfl rfl)
theorem dX1_flow_76 : decode cX1_flow 76 = .ok (.goto (-70), 3) := dk_167 255 186 (dk_at dksX1_flow_3 5 rfl rfl)
theorem dX1_flow_79 : decode cX1_flow 79 = .ok (.iload 4, 2) := dk_21 4 (dk_at dksX1_flow_3 8 rfl rfl)
theorem dX1_flow_81 : decode cX1_flow 81 = .ok (.ireturn, 1) := dk_172 (dk_at dksX1_flow_3 10 rfl rfl)
abbrev cX1_net : ByteArray := prog_10_method_7_code
def yX1_net : MethodName := ⟨RX1, "net", "(IIZ)I"⟩
def dkwX1_net_0 : List UInt8 := [42, 27, 28, 4, 29, 182, 0, 74, 42, 27, 28, 3, 29, 182, 0, 74, 100, 172]
abbrev dktX1_net_0 : List UInt8 := dkwX1_net_0 ++ []
theorem dksX1_net_0 : cX1_net.data.toList.drop 0 = dktX1_net_0 := by decide +kernel
theorem dX1_net_0 : decode cX1_net 0 = .ok (.aload_n 0, 1) := dk_42 (dk_at dksX1_net_0 0 rfl rfl)
theorem dX1_net_1 : decode cX1_net 1 = .ok (.iload_n 1, 1) := dk_27 (dk_at dksX1_net_0 1 rfl rfl)
theorem dX1_net_2 : decode cX1_net 2 = .ok (.iload_n 2, 1) := dk_28 (dk_at dksX1_net_0 2 rfl rfl)
theorem dX1_net_3 : decode cX1_net 3 = .ok (.iconst 1, 1) := dk_4 (dk_at dksX1_net_0 3 rfl rfl)
theorem dX1_net_4 : decode cX1_net 4 = .ok (.iload_n 3, 1) := dk_29 (dk_at dksX1_net_0 4 rfl rfl)
theorem dX1_net_5 : decode cX1_net 5 = .ok (.invokevirtual 74, 3) := dk_182 0 74 (dk_at dksX1_net_0 5 rfl rfl)
theorem dX1_net_8 : decode cX1_net 8 = .ok (.aload_n 0, 1) := dk_42 (dk_at dksX1_net_0 8 rfl rfl)
theorem dX1_net_9 : decode cX1_net 9 = .ok (.iload_n 1, 1) := dk_27 (dk_at dksX1_net_0 9 rfl rfl)
theorem dX1_net_10 : decode cX1_net 10 = .ok (.iload_n 2, 1) := dk_28 (dk_at dksX1_net_0 10 rfl rfl)
theorem dX1_net_11 : decode cX1_net 11 = .ok (.iconst 0, 1) := dk_3 (dk_at dksX1_net_0 11 rfl rfl)
theorem dX1_net_12 : decode cX1_net 12 = .ok (.iload_n 3, 1) := dk_29 (dk_at dksX1_net_0 12 rfl rfl)
theorem dX1_net_13 : decode cX1_net 13 = .ok (.invokevirtual 74, 3) := dk_182 0 74 (dk_at dksX1_net_0 13 rfl rfl)
theorem dX1_net_16 : decode cX1_net 16 = .ok (.isub, 1) := dk_100 (dk_at dksX1_net_0 16 rfl rfl)
theorem dX1_net_17 : decode cX1_net 17 = .ok (.ireturn, 1) := dk_172 (dk_at dksX1_net_0 17 rfl rfl)
abbrev cX1_side : ByteArray := prog_10_method_6_code
def yX1_side : MethodName := ⟨RX1, "side", "(IIZZ)I"⟩
def dkwX1_side_4 : List UInt8 := [167, 255, 170, 21, 5, 172]
abbrev dktX1_side_4 : List UInt8 := dkwX1_side_4 ++ []
def dkwX1_side_3 : List UInt8 := [180, 0, 61, 27, 160, 0, 11, 25, 7, 180, 0, 64, 167, 0, 4, 3, 96, 54, 5, 132, 6, 1]
abbrev dktX1_side_3 : List UInt8 := dkwX1_side_3 ++ dktX1_side_4
def dkwX1_side_2 : List UInt8 := [25, 7, 180, 0, 70, 154, 0, 32, 29, 153, 0, 11, 25, 7, 180, 0, 58, 167, 0, 8, 25, 7]
abbrev dktX1_side_2 : List UInt8 := dkwX1_side_2 ++ dktX1_side_3
def dkwX1_side_1 : List UInt8 := [182, 0, 48, 192, 0, 52, 58, 7, 21, 5, 25, 7, 180, 0, 67, 28, 160, 0, 45, 21, 4, 153, 0, 11]
abbrev dktX1_side_1 : List UInt8 := dkwX1_side_1 ++ dktX1_side_2
def dkwX1_side_0 : List UInt8 := [3, 54, 5, 3, 54, 6, 21, 6, 42, 180, 0, 21, 182, 0, 44, 162, 0, 80, 42, 180, 0, 21, 21, 6]
abbrev dktX1_side_0 : List UInt8 := dkwX1_side_0 ++ dktX1_side_1
theorem dksX1_side_0 : cX1_side.data.toList.drop 0 = dktX1_side_0 := by decide +kernel
theorem dksX1_side_1 : cX1_side.data.toList.drop 24 = dktX1_side_1 := dk_seg dksX1_side_0 24 rfl rfl
theorem dksX1_side_2 : cX1_side.data.toList.drop 48 = dktX1_side_2 := dk_seg dksX1_side_1 24 rfl rfl
theorem dksX1_side_3 : cX1_side.data.toList.drop 70 = dktX1_side_3 := dk_seg dksX1_side_2 22 rfl rfl
theorem dksX1_side_4 : cX1_side.data.toList.drop 92 = dktX1_side_4 := dk_seg dksX1_side_3 22 rfl rfl
theorem dX1_side_0 : decode cX1_side 0 = .ok (.iconst 0, 1) := dk_3 (dk_at dksX1_side_0 0 rfl rfl)
theorem dX1_side_1 : decode cX1_side 1 = .ok (.istore 5, 2) := dk_54 5 (dk_at dksX1_side_0 1 rfl rfl)
theorem dX1_side_3 : decode cX1_side 3 = .ok (.iconst 0, 1) := dk_3 (dk_at dksX1_side_0 3 rfl rfl)
theorem dX1_side_4 : decode cX1_side 4 = .ok (.istore 6, 2) := dk_54 6 (dk_at dksX1_side_0 4 rfl rfl)
theorem dX1_side_6 : decode cX1_side 6 = .ok (.iload 6, 2) := dk_21 6 (dk_at dksX1_side_0 6 rfl rfl)
theorem dX1_side_8 : decode cX1_side 8 = .ok (.aload_n 0, 1) := dk_42 (dk_at dksX1_side_0 8 rfl rfl)
theorem dX1_side_9 : decode cX1_side 9 = .ok (.getfield 21, 3) := dk_180 0 21 (dk_at dksX1_side_0 9 rfl rfl)
theorem dX1_side_12 : decode cX1_side 12 = .ok (.invokevirtual 44, 3) := dk_182 0 44 (dk_at dksX1_side_0 12 rfl rfl)
theorem dX1_side_15 : decode cX1_side 15 = .ok (.if_icmp .ge 80, 3) := dk_162 0 80 (dk_at dksX1_side_0 15 rfl rfl)
theorem dX1_side_18 : decode cX1_side 18 = .ok (.aload_n 0, 1) := dk_42 (dk_at dksX1_side_0 18 rfl rfl)
theorem dX1_side_19 : decode cX1_side 19 = .ok (.getfield 21, 3) := dk_180 0 21 (dk_at dksX1_side_0 19 rfl rfl)
theorem dX1_side_22 : decode cX1_side 22 = .ok (.iload 6, 2) := dk_21 6 (dk_at dksX1_side_0 22 rfl rfl)
theorem dX1_side_24 : decode cX1_side 24 = .ok (.invokevirtual 48, 3) := dk_182 0 48 (dk_at dksX1_side_1 0 rfl rfl)
theorem dX1_side_27 : decode cX1_side 27 = .ok (.checkcast 52, 3) := dk_192 0 52 (dk_at dksX1_side_1 3 rfl rfl)
theorem dX1_side_30 : decode cX1_side 30 = .ok (.astore 7, 2) := dk_58 7 (dk_at dksX1_side_1 6 rfl rfl)
theorem dX1_side_32 : decode cX1_side 32 = .ok (.iload 5, 2) := dk_21 5 (dk_at dksX1_side_1 8 rfl rfl)
theorem dX1_side_34 : decode cX1_side 34 = .ok (.aload 7, 2) := dk_25 7 (dk_at dksX1_side_1 10 rfl rfl)
theorem dX1_side_36 : decode cX1_side 36 = .ok (.getfield 67, 3) := dk_180 0 67 (dk_at dksX1_side_1 12 rfl rfl)
theorem dX1_side_39 : decode cX1_side 39 = .ok (.iload_n 2, 1) := dk_28 (dk_at dksX1_side_1 15 rfl rfl)
theorem dX1_side_40 : decode cX1_side 40 = .ok (.if_icmp .ne 45, 3) := dk_160 0 45 (dk_at dksX1_side_1 16 rfl rfl)
theorem dX1_side_43 : decode cX1_side 43 = .ok (.iload 4, 2) := dk_21 4 (dk_at dksX1_side_1 19 rfl rfl)
theorem dX1_side_45 : decode cX1_side 45 = .ok (.ifCond .eq 11, 3) := dk_153 0 11 (dk_at dksX1_side_1 21 rfl rfl)
theorem dX1_side_48 : decode cX1_side 48 = .ok (.aload 7, 2) := dk_25 7 (dk_at dksX1_side_2 0 rfl rfl)
theorem dX1_side_50 : decode cX1_side 50 = .ok (.getfield 70, 3) := dk_180 0 70 (dk_at dksX1_side_2 2 rfl rfl)
theorem dX1_side_53 : decode cX1_side 53 = .ok (.ifCond .ne 32, 3) := dk_154 0 32 (dk_at dksX1_side_2 5 rfl rfl)
theorem dX1_side_56 : decode cX1_side 56 = .ok (.iload_n 3, 1) := dk_29 (dk_at dksX1_side_2 8 rfl rfl)
theorem dX1_side_57 : decode cX1_side 57 = .ok (.ifCond .eq 11, 3) := dk_153 0 11 (dk_at dksX1_side_2 9 rfl rfl)
theorem dX1_side_60 : decode cX1_side 60 = .ok (.aload 7, 2) := dk_25 7 (dk_at dksX1_side_2 12 rfl rfl)
theorem dX1_side_62 : decode cX1_side 62 = .ok (.getfield 58, 3) := dk_180 0 58 (dk_at dksX1_side_2 14 rfl rfl)
theorem dX1_side_65 : decode cX1_side 65 = .ok (.goto 8, 3) := dk_167 0 8 (dk_at dksX1_side_2 17 rfl rfl)
theorem dX1_side_68 : decode cX1_side 68 = .ok (.aload 7, 2) := dk_25 7 (dk_at dksX1_side_2 20 rfl rfl)
theorem dX1_side_70 : decode cX1_side 70 = .ok (.getfield 61, 3) := dk_180 0 61 (dk_at dksX1_side_3 0 rfl rfl)
theorem dX1_side_73 : decode cX1_side 73 = .ok (.iload_n 1, 1) := dk_27 (dk_at dksX1_side_3 3 rfl rfl)
theorem dX1_side_74 : decode cX1_side 74 = .ok (.if_icmp .ne 11, 3) := dk_160 0 11 (dk_at dksX1_side_3 4 rfl rfl)
theorem dX1_side_77 : decode cX1_side 77 = .ok (.aload 7, 2) := dk_25 7 (dk_at dksX1_side_3 7 rfl rfl)
theorem dX1_side_79 : decode cX1_side 79 = .ok (.getfield 64, 3) := dk_180 0 64 (dk_at dksX1_side_3 9 rfl rfl)
theorem dX1_side_82 : decode cX1_side 82 = .ok (.goto 4, 3) := dk_167 0 4 (dk_at dksX1_side_3 12 rfl rfl)
theorem dX1_side_85 : decode cX1_side 85 = .ok (.iconst 0, 1) := dk_3 (dk_at dksX1_side_3 15 rfl rfl)
theorem dX1_side_86 : decode cX1_side 86 = .ok (.iadd, 1) := dk_96 (dk_at dksX1_side_3 16 rfl rfl)
theorem dX1_side_87 : decode cX1_side 87 = .ok (.istore 5, 2) := dk_54 5 (dk_at dksX1_side_3 17 rfl rfl)
theorem dX1_side_89 : decode cX1_side 89 = .ok (.iinc 6 1, 3) := dk_132 6 1 (dk_at dksX1_side_3 19 rfl rfl)
theorem dX1_side_92 : decode cX1_side 92 = .ok (.goto (-86), 3) := dk_167 255 170 (dk_at dksX1_side_4 0 rfl rfl)
theorem dX1_side_95 : decode cX1_side 95 = .ok (.iload 5, 2) := dk_21 5 (dk_at dksX1_side_4 3 rfl rfl)
theorem dX1_side_97 : decode cX1_side 97 = .ok (.ireturn, 1) := dk_172 (dk_at dksX1_side_4 5 rfl rfl)
abbrev cX1_kept : ByteArray := prog_10_method_8_code
def yX1_kept : MethodName := ⟨RX1, "kept", "()I"⟩
def dkwX1_kept_1 : List UInt8 := [192, 0, 52, 180, 0, 70, 184, 0, 78, 96, 60, 132, 2, 1, 167, 255, 222, 27, 172]
abbrev dktX1_kept_1 : List UInt8 := dkwX1_kept_1 ++ []
def dkwX1_kept_0 : List UInt8 := [3, 60, 3, 61, 28, 42, 180, 0, 21, 182, 0, 44, 162, 0, 29, 27, 42, 180, 0, 21, 28, 182, 0, 48]
abbrev dktX1_kept_0 : List UInt8 := dkwX1_kept_0 ++ dktX1_kept_1
theorem dksX1_kept_0 : cX1_kept.data.toList.drop 0 = dktX1_kept_0 := by decide +kernel
theorem dksX1_kept_1 : cX1_kept.data.toList.drop 24 = dktX1_kept_1 := dk_seg dksX1_kept_0 24 rfl rfl
theorem dX1_kept_0 : decode cX1_kept 0 = .ok (.iconst 0, 1) := dk_3 (dk_at dksX1_kept_0 0 rfl rfl)
theorem dX1_kept_1 : decode cX1_kept 1 = .ok (.istore_n 1, 1) := dk_60 (dk_at dksX1_kept_0 1 rfl rfl)
theorem dX1_kept_2 : decode cX1_kept 2 = .ok (.iconst 0, 1) := dk_3 (dk_at dksX1_kept_0 2 rfl rfl)
theorem dX1_kept_3 : decode cX1_kept 3 = .ok (.istore_n 2, 1) := dk_61 (dk_at dksX1_kept_0 3 rfl rfl)
theorem dX1_kept_4 : decode cX1_kept 4 = .ok (.iload_n 2, 1) := dk_28 (dk_at dksX1_kept_0 4 rfl rfl)
theorem dX1_kept_5 : decode cX1_kept 5 = .ok (.aload_n 0, 1) := dk_42 (dk_at dksX1_kept_0 5 rfl rfl)
theorem dX1_kept_6 : decode cX1_kept 6 = .ok (.getfield 21, 3) := dk_180 0 21 (dk_at dksX1_kept_0 6 rfl rfl)
theorem dX1_kept_9 : decode cX1_kept 9 = .ok (.invokevirtual 44, 3) := dk_182 0 44 (dk_at dksX1_kept_0 9 rfl rfl)
theorem dX1_kept_12 : decode cX1_kept 12 = .ok (.if_icmp .ge 29, 3) := dk_162 0 29 (dk_at dksX1_kept_0 12 rfl rfl)
theorem dX1_kept_15 : decode cX1_kept 15 = .ok (.iload_n 1, 1) := dk_27 (dk_at dksX1_kept_0 15 rfl rfl)
theorem dX1_kept_16 : decode cX1_kept 16 = .ok (.aload_n 0, 1) := dk_42 (dk_at dksX1_kept_0 16 rfl rfl)
theorem dX1_kept_17 : decode cX1_kept 17 = .ok (.getfield 21, 3) := dk_180 0 21 (dk_at dksX1_kept_0 17 rfl rfl)
theorem dX1_kept_20 : decode cX1_kept 20 = .ok (.iload_n 2, 1) := dk_28 (dk_at dksX1_kept_0 20 rfl rfl)
theorem dX1_kept_21 : decode cX1_kept 21 = .ok (.invokevirtual 48, 3) := dk_182 0 48 (dk_at dksX1_kept_0 21 rfl rfl)
theorem dX1_kept_24 : decode cX1_kept 24 = .ok (.checkcast 52, 3) := dk_192 0 52 (dk_at dksX1_kept_1 0 rfl rfl)
theorem dX1_kept_27 : decode cX1_kept 27 = .ok (.getfield 70, 3) := dk_180 0 70 (dk_at dksX1_kept_1 3 rfl rfl)
theorem dX1_kept_30 : decode cX1_kept 30 = .ok (.invokestatic 78, 3) := dk_184 0 78 (dk_at dksX1_kept_1 6 rfl rfl)
theorem dX1_kept_33 : decode cX1_kept 33 = .ok (.iadd, 1) := dk_96 (dk_at dksX1_kept_1 9 rfl rfl)
theorem dX1_kept_34 : decode cX1_kept 34 = .ok (.istore_n 1, 1) := dk_60 (dk_at dksX1_kept_1 10 rfl rfl)
theorem dX1_kept_35 : decode cX1_kept 35 = .ok (.iinc 2 1, 3) := dk_132 2 1 (dk_at dksX1_kept_1 11 rfl rfl)
theorem dX1_kept_38 : decode cX1_kept 38 = .ok (.goto (-34), 3) := dk_167 255 222 (dk_at dksX1_kept_1 14 rfl rfl)
theorem dX1_kept_41 : decode cX1_kept 41 = .ok (.iload_n 1, 1) := dk_27 (dk_at dksX1_kept_1 17 rfl rfl)
theorem dX1_kept_42 : decode cX1_kept 42 = .ok (.ireturn, 1) := dk_172 (dk_at dksX1_kept_1 18 rfl rfl)
theorem q102 : (Jvm.Cond.initialized "SwapPress$State") ∈ lw_all := lw_g (lw_at lw_m1 2 rfl) rfl
theorem q142 : (Jvm.Cond.instantiable "SwapPress$State" (5 : Nat)) ∈ lw_all := lw_g (lw_at lw_m1 42 rfl) rfl
theorem q144 : (Jvm.Cond.instanceMethod ({ cls := "SwapPress$State", name := "<init>", desc := "()V" } : Jvm.MethodName)) ∈ lw_all := lw_g (lw_at lw_m1 44 rfl) rfl
theorem q145 : (Jvm.Cond.code ({ cls := "SwapPress$State", name := "<init>", desc := "()V" } : Jvm.MethodName) prog_10_method_1_code (2 : Nat) (Option.none : Option Jvm.ClassFile.FieldType)) ∈ lw_all := lw_g (lw_at lw_m1 45 rfl) rfl
theorem q146 : (Jvm.Cond.methodLink "SwapPress$State" (3 : Nat) ({ cls := "java/lang/Object", name := "<init>", desc := "()V" } : Jvm.MethodName)) ∈ lw_all := lw_g (lw_at lw_m1 46 rfl) rfl
theorem q147 : (Jvm.Cond.classLink "SwapPress$State" (9 : Nat) "java/util/ArrayList") ∈ lw_all := lw_g (lw_at lw_m1 47 rfl) rfl
theorem q149 : (Jvm.Cond.methodLink "SwapPress$State" (11 : Nat) ({ cls := "java/util/ArrayList", name := "<init>", desc := "()V" } : Jvm.MethodName)) ∈ lw_all := lw_g (lw_at lw_m1 49 rfl) rfl
theorem q173 : (Jvm.Cond.constant "SwapPress$State" (28 : Nat) (99999999 : Int32)) ∈ lw_all := lw_g (lw_at lw_m1 73 rfl) rfl
theorem q174 : (Jvm.Cond.fieldLink "SwapPress$State" (12 : Nat) "SwapPress$State" "parties" "Ljava/util/ArrayList;") ∈ lw_all := lw_g (lw_at lw_m1 74 rfl) rfl
theorem q177 : (Jvm.Cond.fieldLink "SwapPress$State" (18 : Nat) "SwapPress$State" "kinds" "Ljava/util/ArrayList;") ∈ lw_all := lw_g (lw_at lw_m1 77 rfl) rfl
theorem q180 : (Jvm.Cond.fieldLink "SwapPress$State" (21 : Nat) "SwapPress$State" "trades" "Ljava/util/ArrayList;") ∈ lw_all := lw_g (lw_at lw_m1 80 rfl) rfl
theorem q183 : (Jvm.Cond.fieldLink "SwapPress$State" (24 : Nat) "SwapPress$State" "cap" "[I") ∈ lw_all := lw_g (lw_at lw_m1 83 rfl) rfl
theorem q186 : (Jvm.Cond.fieldLink "SwapPress$State" (40 : Nat) "SwapPress$State" "mode" "I") ∈ lw_all := lw_g (lw_at lw_m1 86 rfl) rfl
theorem q189 : (Jvm.Cond.laysFinal "SwapPress$State" "SwapPress$State" "parties" "Ljava/util/ArrayList;") ∈ lw_all := lw_g (lw_at lw_m1 89 rfl) rfl
theorem q190 : (Jvm.Cond.soleField "SwapPress$State" "parties") ∈ lw_all := lw_g (lw_at lw_m1 90 rfl) rfl
theorem q191 : (Jvm.Cond.laysFinal "SwapPress$State" "SwapPress$State" "kinds" "Ljava/util/ArrayList;") ∈ lw_all := lw_g (lw_at lw_m1 91 rfl) rfl
theorem q192 : (Jvm.Cond.soleField "SwapPress$State" "kinds") ∈ lw_all := lw_g (lw_at lw_m1 92 rfl) rfl
theorem q193 : (Jvm.Cond.laysFinal "SwapPress$State" "SwapPress$State" "trades" "Ljava/util/ArrayList;") ∈ lw_all := lw_g (lw_at lw_m1 93 rfl) rfl
theorem q194 : (Jvm.Cond.soleField "SwapPress$State" "trades") ∈ lw_all := lw_g (lw_at lw_m1 94 rfl) rfl
theorem q195 : (Jvm.Cond.laysFinal "SwapPress$State" "SwapPress$State" "cap" "[I") ∈ lw_all := lw_g (lw_at lw_m1 95 rfl) rfl
theorem q196 : (Jvm.Cond.soleField "SwapPress$State" "cap") ∈ lw_all := lw_g (lw_at lw_m1 96 rfl) rfl
theorem q197 : (Jvm.Cond.lays "SwapPress$State" "SwapPress$State" "mode" "I") ∈ lw_all := lw_g (lw_at lw_m1 97 rfl) rfl
theorem q198 : (Jvm.Cond.soleField "SwapPress$State" "mode") ∈ lw_all := lw_g (lw_at lw_m1 98 rfl) rfl
theorem q199 : (Jvm.Cond.superclass "SwapPress$State" "java/lang/Object") ∈ lw_all := lw_g (lw_at lw_m1 99 rfl) rfl
theorem q709 : (Jvm.Cond.selects "SwapPress$State" ({ cls := "java/lang/Object", name := "equals", desc := "(Ljava/lang/Object;)Z" } : Jvm.MethodName) ({ cls := "java/lang/Object", name := "equals", desc := "(Ljava/lang/Object;)Z" } : Jvm.MethodName)) ∈ lw_all := lw_g (lw_at lw_m3 129 rfl) rfl
theorem q749 : (Jvm.Cond.selects "SwapPress$State" ({ cls := "java/lang/Object", name := "getClass", desc := "()Ljava/lang/Class;" } : Jvm.MethodName) ({ cls := "java/lang/Object", name := "getClass", desc := "()Ljava/lang/Class;" } : Jvm.MethodName)) ∈ lw_all := lw_g (lw_at lw_m3 169 rfl) rfl
theorem q792 : (Jvm.Cond.fieldLinkNest "SwapPress$State" (58 : Nat) "SwapPress$Trade" "from" "I" "SwapPress") ∈ lw_tbl := lw_at lw_m3 212 rfl
theorem q795 : (Jvm.Cond.fieldLinkNest "SwapPress$State" (61 : Nat) "SwapPress$Trade" "to" "I" "SwapPress") ∈ lw_tbl := lw_at lw_m3 215 rfl
theorem q798 : (Jvm.Cond.fieldLinkNest "SwapPress$State" (64 : Nat) "SwapPress$Trade" "amount" "I" "SwapPress") ∈ lw_tbl := lw_at lw_m3 218 rfl
theorem q801 : (Jvm.Cond.fieldLinkNest "SwapPress$State" (67 : Nat) "SwapPress$Trade" "kind" "I" "SwapPress") ∈ lw_tbl := lw_at lw_m3 221 rfl
theorem q804 : (Jvm.Cond.fieldLinkNest "SwapPress$State" (70 : Nat) "SwapPress$Trade" "isKept" "Z" "SwapPress") ∈ lw_tbl := lw_at lw_m3 224 rfl
theorem q871 : (Jvm.Cond.instanceMethod ({ cls := "SwapPress$State", name := "many", desc := "()I" } : Jvm.MethodName)) ∈ lw_all := lw_g (lw_at lw_m4 51 rfl) rfl
theorem q872 : (Jvm.Cond.selects "SwapPress$State" ({ cls := "SwapPress$State", name := "many", desc := "()I" } : Jvm.MethodName) ({ cls := "SwapPress$State", name := "many", desc := "()I" } : Jvm.MethodName)) ∈ lw_all := lw_g (lw_at lw_m4 52 rfl) rfl
theorem q873 : (Jvm.Cond.code ({ cls := "SwapPress$State", name := "many", desc := "()I" } : Jvm.MethodName) prog_10_method_3_code (1 : Nat) (Option.some Jvm.ClassFile.FieldType.int)) ∈ lw_all := lw_g (lw_at lw_m4 53 rfl) rfl
theorem q874 : (Jvm.Cond.methodLink "SwapPress$State" (44 : Nat) ({ cls := "java/util/ArrayList", name := "size", desc := "()I" } : Jvm.MethodName)) ∈ lw_all := lw_g (lw_at lw_m4 54 rfl) rfl
theorem q894 : (Jvm.Cond.instanceMethod ({ cls := "SwapPress$State", name := "copy", desc := "()LSwapPress$State;" } : Jvm.MethodName)) ∈ lw_all := lw_g (lw_at lw_m4 74 rfl) rfl
theorem q895 : (Jvm.Cond.selects "SwapPress$State" ({ cls := "SwapPress$State", name := "copy", desc := "()LSwapPress$State;" } : Jvm.MethodName) ({ cls := "SwapPress$State", name := "copy", desc := "()LSwapPress$State;" } : Jvm.MethodName)) ∈ lw_all := lw_g (lw_at lw_m4 75 rfl) rfl
theorem q896 : (Jvm.Cond.code ({ cls := "SwapPress$State", name := "copy", desc := "()LSwapPress$State;" } : Jvm.MethodName) prog_10_method_2_code (2 : Nat) (Option.some (Jvm.ClassFile.FieldType.object "SwapPress$State"))) ∈ lw_all := lw_g (lw_at lw_m4 76 rfl) rfl
theorem q897 : (Jvm.Cond.classLink "SwapPress$State" (13 : Nat) "SwapPress$State") ∈ lw_all := lw_g (lw_at lw_m4 77 rfl) rfl
theorem q898 : (Jvm.Cond.methodLink "SwapPress$State" (29 : Nat) ({ cls := "SwapPress$State", name := "<init>", desc := "()V" } : Jvm.MethodName)) ∈ lw_all := lw_g (lw_at lw_m4 78 rfl) rfl
theorem q899 : (Jvm.Cond.methodLink "SwapPress$State" (30 : Nat) ({ cls := "java/util/ArrayList", name := "addAll", desc := "(Ljava/util/Collection;)Z" } : Jvm.MethodName)) ∈ lw_all := lw_g (lw_at lw_m4 79 rfl) rfl
theorem q913 : (Jvm.Cond.methodLink "SwapPress$State" (34 : Nat) ({ cls := "java/lang/System", name := "arraycopy", desc := "(Ljava/lang/Object;ILjava/lang/Object;II)V" } : Jvm.MethodName)) ∈ lw_all := lw_g (lw_at lw_m4 93 rfl) rfl
theorem q952 : (Jvm.Cond.instanceMethod ({ cls := "SwapPress$State", name := "flows", desc := "(I)[I" } : Jvm.MethodName)) ∈ lw_all := lw_g (lw_at lw_m4 132 rfl) rfl
theorem q953 : (Jvm.Cond.selects "SwapPress$State" ({ cls := "SwapPress$State", name := "flows", desc := "(I)[I" } : Jvm.MethodName) ({ cls := "SwapPress$State", name := "flows", desc := "(I)[I" } : Jvm.MethodName)) ∈ lw_all := lw_g (lw_at lw_m4 133 rfl) rfl
theorem q954 : (Jvm.Cond.code ({ cls := "SwapPress$State", name := "flows", desc := "(I)[I" } : Jvm.MethodName) prog_10_method_5_code (5 : Nat) (Option.some (Jvm.ClassFile.FieldType.array Jvm.ClassFile.FieldType.int))) ∈ lw_all := lw_g (lw_at lw_m4 134 rfl) rfl
theorem q955 : (Jvm.Cond.methodLink "SwapPress$State" (48 : Nat) ({ cls := "java/util/ArrayList", name := "get", desc := "(I)Ljava/lang/Object;" } : Jvm.MethodName)) ∈ lw_all := lw_g (lw_at lw_m4 135 rfl) rfl
theorem q956 : (Jvm.Cond.classLink "SwapPress$State" (52 : Nat) "SwapPress$Trade") ∈ lw_all := lw_g (lw_at lw_m4 136 rfl) rfl
theorem q957 : (Jvm.Cond.methodLink "SwapPress$State" (54 : Nat) ({ cls := "SwapPress$Trade", name := "isFree", desc := "(I)Z" } : Jvm.MethodName)) ∈ lw_all := lw_g (lw_at lw_m4 137 rfl) rfl
theorem q1174 : (Jvm.Cond.instanceMethod ({ cls := "SwapPress$State", name := "flow", desc := "(III)I" } : Jvm.MethodName)) ∈ lw_all := lw_g (lw_at lw_m5 114 rfl) rfl
theorem q1175 : (Jvm.Cond.selects "SwapPress$State" ({ cls := "SwapPress$State", name := "flow", desc := "(III)I" } : Jvm.MethodName) ({ cls := "SwapPress$State", name := "flow", desc := "(III)I" } : Jvm.MethodName)) ∈ lw_all := lw_g (lw_at lw_m5 115 rfl) rfl
theorem q1176 : (Jvm.Cond.code ({ cls := "SwapPress$State", name := "flow", desc := "(III)I" } : Jvm.MethodName) prog_10_method_4_code (7 : Nat) (Option.some Jvm.ClassFile.FieldType.int)) ∈ lw_all := lw_g (lw_at lw_m5 116 rfl) rfl
theorem q1183 : (Jvm.Cond.instanceMethod ({ cls := "SwapPress$State", name := "net", desc := "(IIZ)I" } : Jvm.MethodName)) ∈ lw_all := lw_g (lw_at lw_m5 123 rfl) rfl
theorem q1184 : (Jvm.Cond.selects "SwapPress$State" ({ cls := "SwapPress$State", name := "net", desc := "(IIZ)I" } : Jvm.MethodName) ({ cls := "SwapPress$State", name := "net", desc := "(IIZ)I" } : Jvm.MethodName)) ∈ lw_all := lw_g (lw_at lw_m5 124 rfl) rfl
theorem q1185 : (Jvm.Cond.code ({ cls := "SwapPress$State", name := "net", desc := "(IIZ)I" } : Jvm.MethodName) prog_10_method_7_code (4 : Nat) (Option.some Jvm.ClassFile.FieldType.int)) ∈ lw_all := lw_g (lw_at lw_m5 125 rfl) rfl
theorem q1186 : (Jvm.Cond.methodLink "SwapPress$State" (74 : Nat) ({ cls := "SwapPress$State", name := "side", desc := "(IIZZ)I" } : Jvm.MethodName)) ∈ lw_all := lw_g (lw_at lw_m5 126 rfl) rfl
theorem q1187 : (Jvm.Cond.instanceMethod ({ cls := "SwapPress$State", name := "side", desc := "(IIZZ)I" } : Jvm.MethodName)) ∈ lw_all := lw_g (lw_at lw_m5 127 rfl) rfl
theorem q1188 : (Jvm.Cond.selects "SwapPress$State" ({ cls := "SwapPress$State", name := "side", desc := "(IIZZ)I" } : Jvm.MethodName) ({ cls := "SwapPress$State", name := "side", desc := "(IIZZ)I" } : Jvm.MethodName)) ∈ lw_all := lw_g (lw_at lw_m5 128 rfl) rfl
theorem q1189 : (Jvm.Cond.code ({ cls := "SwapPress$State", name := "side", desc := "(IIZZ)I" } : Jvm.MethodName) prog_10_method_6_code (8 : Nat) (Option.some Jvm.ClassFile.FieldType.int)) ∈ lw_all := lw_g (lw_at lw_m5 129 rfl) rfl
theorem q1502 : (Jvm.Cond.instanceMethod ({ cls := "SwapPress$State", name := "kept", desc := "()I" } : Jvm.MethodName)) ∈ lw_all := lw_g (lw_at lw_m6 202 rfl) rfl
theorem q1503 : (Jvm.Cond.selects "SwapPress$State" ({ cls := "SwapPress$State", name := "kept", desc := "()I" } : Jvm.MethodName) ({ cls := "SwapPress$State", name := "kept", desc := "()I" } : Jvm.MethodName)) ∈ lw_all := lw_g (lw_at lw_m6 203 rfl) rfl
theorem q1504 : (Jvm.Cond.code ({ cls := "SwapPress$State", name := "kept", desc := "()I" } : Jvm.MethodName) prog_10_method_8_code (3 : Nat) (Option.some Jvm.ClassFile.FieldType.int)) ∈ lw_all := lw_g (lw_at lw_m6 204 rfl) rfl
theorem q1505 : (Jvm.Cond.methodLinkNest "SwapPress$State" (78 : Nat) ({ cls := "SwapPress", name := "one", desc := "(Z)I" } : Jvm.MethodName) "SwapPress") ∈ lw_tbl := lw_at lw_m6 205 rfl
theorem q2039 : (Jvm.Cond.castable "SwapPress$State" "java/lang/Object") ∈ lw_tbl := lw_at lw_m9 19 rfl
theorem in_X1 : ∀ w ∈ wsX10, w ∈ lw_all := lw_in wsX10 [189, 191, 193, 195, 197] (by decide +kernel) (by decide +kernel)
