/-! SwapPress$But -/
set_option maxRecDepth 100000
abbrev cX13_of : ByteArray := prog_4_method_2_code
def yX13_of : MethodName := ⟨RX13, "of", "(II)I"⟩
def dkwX13_of_1 : List UInt8 := [180, 0, 7, 27, 28, 185, 0, 23, 3, 0, 172]
abbrev dktX13_of_1 : List UInt8 := dkwX13_of_1 ++ []
def dkwX13_of_0 : List UInt8 := [27, 42, 180, 0, 13, 160, 0, 18, 28, 42, 180, 0, 17, 160, 0, 10, 42, 180, 0, 20, 167, 0, 14, 42]
abbrev dktX13_of_0 : List UInt8 := dkwX13_of_0 ++ dktX13_of_1
theorem dksX13_of_0 : cX13_of.data.toList.drop 0 = dktX13_of_0 := by decide +kernel
theorem dksX13_of_1 : cX13_of.data.toList.drop 24 = dktX13_of_1 := dk_seg dksX13_of_0 24 rfl rfl
theorem dX13_of_0 : decode cX13_of 0 = .ok (.iload_n 1, 1) := dk_27 (dk_at dksX13_of_0 0 rfl rfl)
theorem dX13_of_1 : decode cX13_of 1 = .ok (.aload_n 0, 1) := dk_42 (dk_at dksX13_of_0 1 rfl rfl)
theorem dX13_of_2 : decode cX13_of 2 = .ok (.getfield 13, 3) := dk_180 0 13 (dk_at dksX13_of_0 2 rfl rfl)
theorem dX13_of_5 : decode cX13_of 5 = .ok (.if_icmp .ne 18, 3) := dk_160 0 18 (dk_at dksX13_of_0 5 rfl rfl)
theorem dX13_of_8 : decode cX13_of 8 = .ok (.iload_n 2, 1) := dk_28 (dk_at dksX13_of_0 8 rfl rfl)
theorem dX13_of_9 : decode cX13_of 9 = .ok (.aload_n 0, 1) := dk_42 (dk_at dksX13_of_0 9 rfl rfl)
theorem dX13_of_10 : decode cX13_of 10 = .ok (.getfield 17, 3) := dk_180 0 17 (dk_at dksX13_of_0 10 rfl rfl)
theorem dX13_of_13 : decode cX13_of 13 = .ok (.if_icmp .ne 10, 3) := dk_160 0 10 (dk_at dksX13_of_0 13 rfl rfl)
theorem dX13_of_16 : decode cX13_of 16 = .ok (.aload_n 0, 1) := dk_42 (dk_at dksX13_of_0 16 rfl rfl)
theorem dX13_of_17 : decode cX13_of 17 = .ok (.getfield 20, 3) := dk_180 0 20 (dk_at dksX13_of_0 17 rfl rfl)
theorem dX13_of_20 : decode cX13_of 20 = .ok (.goto 14, 3) := dk_167 0 14 (dk_at dksX13_of_0 20 rfl rfl)
theorem dX13_of_23 : decode cX13_of 23 = .ok (.aload_n 0, 1) := dk_42 (dk_at dksX13_of_0 23 rfl rfl)
theorem dX13_of_24 : decode cX13_of 24 = .ok (.getfield 7, 3) := dk_180 0 7 (dk_at dksX13_of_1 0 rfl rfl)
theorem dX13_of_27 : decode cX13_of 27 = .ok (.iload_n 1, 1) := dk_27 (dk_at dksX13_of_1 3 rfl rfl)
theorem dX13_of_28 : decode cX13_of 28 = .ok (.iload_n 2, 1) := dk_28 (dk_at dksX13_of_1 4 rfl rfl)
theorem dX13_of_29 : decode cX13_of 29 = .ok (.invokeinterface 23 3, 5) := by decide +kernel
theorem dX13_of_34 : decode cX13_of 34 = .ok (.ireturn, 1) := dk_172 (dk_at dksX13_of_1 10 rfl rfl)
abbrev cX13_init : ByteArray := prog_4_method_1_code
def yX13_init : MethodName := ⟨RX13, "<init>", "(LSwapPress$Bounds;III)V"⟩
def dkwX13_init_1 : List UInt8 := [181, 0, 20, 177]
abbrev dktX13_init_1 : List UInt8 := dkwX13_init_1 ++ []
def dkwX13_init_0 : List UInt8 := [42, 183, 0, 1, 42, 43, 181, 0, 7, 42, 28, 181, 0, 13, 42, 29, 181, 0, 17, 42, 21, 4]
abbrev dktX13_init_0 : List UInt8 := dkwX13_init_0 ++ dktX13_init_1
theorem dksX13_init_0 : cX13_init.data.toList.drop 0 = dktX13_init_0 := by decide +kernel
theorem dksX13_init_1 : cX13_init.data.toList.drop 22 = dktX13_init_1 := dk_seg dksX13_init_0 22 rfl rfl
theorem dX13_init_0 : decode cX13_init 0 = .ok (.aload_n 0, 1) := dk_42 (dk_at dksX13_init_0 0 rfl rfl)
theorem dX13_init_1 : decode cX13_init 1 = .ok (.invokespecial 1, 3) := dk_183 0 1 (dk_at dksX13_init_0 1 rfl rfl)
theorem dX13_init_4 : decode cX13_init 4 = .ok (.aload_n 0, 1) := dk_42 (dk_at dksX13_init_0 4 rfl rfl)
theorem dX13_init_5 : decode cX13_init 5 = .ok (.aload_n 1, 1) := dk_43 (dk_at dksX13_init_0 5 rfl rfl)
theorem dX13_init_6 : decode cX13_init 6 = .ok (.putfield 7, 3) := dk_181 0 7 (dk_at dksX13_init_0 6 rfl rfl)
theorem dX13_init_9 : decode cX13_init 9 = .ok (.aload_n 0, 1) := dk_42 (dk_at dksX13_init_0 9 rfl rfl)
theorem dX13_init_10 : decode cX13_init 10 = .ok (.iload_n 2, 1) := dk_28 (dk_at dksX13_init_0 10 rfl rfl)
theorem dX13_init_11 : decode cX13_init 11 = .ok (.putfield 13, 3) := dk_181 0 13 (dk_at dksX13_init_0 11 rfl rfl)
theorem dX13_init_14 : decode cX13_init 14 = .ok (.aload_n 0, 1) := dk_42 (dk_at dksX13_init_0 14 rfl rfl)
theorem dX13_init_15 : decode cX13_init 15 = .ok (.iload_n 3, 1) := dk_29 (dk_at dksX13_init_0 15 rfl rfl)
theorem dX13_init_16 : decode cX13_init 16 = .ok (.putfield 17, 3) := dk_181 0 17 (dk_at dksX13_init_0 16 rfl rfl)
theorem dX13_init_19 : decode cX13_init 19 = .ok (.aload_n 0, 1) := dk_42 (dk_at dksX13_init_0 19 rfl rfl)
theorem dX13_init_20 : decode cX13_init 20 = .ok (.iload 4, 2) := dk_21 4 (dk_at dksX13_init_0 20 rfl rfl)
theorem dX13_init_22 : decode cX13_init 22 = .ok (.putfield 20, 3) := dk_181 0 20 (dk_at dksX13_init_1 0 rfl rfl)
theorem dX13_init_25 : decode cX13_init 25 = .ok (.return_, 1) := dk_177 (dk_at dksX13_init_1 3 rfl rfl)
theorem q132 : (Jvm.Cond.initialized "SwapPress$But") ∈ lw_all := lw_g (lw_at lw_m1 32 rfl) rfl
theorem q703 : (Jvm.Cond.selects "SwapPress$But" ({ cls := "java/lang/Object", name := "equals", desc := "(Ljava/lang/Object;)Z" } : Jvm.MethodName) ({ cls := "java/lang/Object", name := "equals", desc := "(Ljava/lang/Object;)Z" } : Jvm.MethodName)) ∈ lw_all := lw_g (lw_at lw_m3 123 rfl) rfl
theorem q743 : (Jvm.Cond.selects "SwapPress$But" ({ cls := "java/lang/Object", name := "getClass", desc := "()Ljava/lang/Class;" } : Jvm.MethodName) ({ cls := "java/lang/Object", name := "getClass", desc := "()Ljava/lang/Class;" } : Jvm.MethodName)) ∈ lw_all := lw_g (lw_at lw_m3 163 rfl) rfl
theorem q1077 : (Jvm.Cond.castable "SwapPress$But" "SwapPress$Bounds") ∈ lw_tbl := lw_at lw_m5 17 rfl
theorem q1078 : (Jvm.Cond.selects "SwapPress$But" ({ cls := "SwapPress$Bounds", name := "of", desc := "(II)I" } : Jvm.MethodName) ({ cls := "SwapPress$But", name := "of", desc := "(II)I" } : Jvm.MethodName)) ∈ lw_all := lw_g (lw_at lw_m5 18 rfl) rfl
theorem q1079 : (Jvm.Cond.unhidden "SwapPress$But" "of" "(II)I") ∈ lw_tbl := lw_at lw_m5 19 rfl
theorem q1080 : (Jvm.Cond.instanceMethod ({ cls := "SwapPress$But", name := "of", desc := "(II)I" } : Jvm.MethodName)) ∈ lw_all := lw_g (lw_at lw_m5 20 rfl) rfl
theorem q1081 : (Jvm.Cond.publicMethod ({ cls := "SwapPress$But", name := "of", desc := "(II)I" } : Jvm.MethodName)) ∈ lw_tbl := lw_at lw_m5 21 rfl
theorem q1082 : (Jvm.Cond.code ({ cls := "SwapPress$But", name := "of", desc := "(II)I" } : Jvm.MethodName) prog_4_method_2_code (3 : Nat) (Option.some Jvm.ClassFile.FieldType.int)) ∈ lw_all := lw_g (lw_at lw_m5 22 rfl) rfl
theorem q1083 : (Jvm.Cond.interfaceEntry "SwapPress$But" (23 : Nat)) ∈ lw_tbl := lw_at lw_m5 23 rfl
theorem q1084 : (Jvm.Cond.methodLink "SwapPress$But" (23 : Nat) ({ cls := "SwapPress$Bounds", name := "of", desc := "(II)I" } : Jvm.MethodName)) ∈ lw_all := lw_g (lw_at lw_m5 24 rfl) rfl
theorem q1305 : (Jvm.Cond.instantiable "SwapPress$But" (4 : Nat)) ∈ lw_all := lw_g (lw_at lw_m6 5 rfl) rfl
theorem q1307 : (Jvm.Cond.instanceMethod ({ cls := "SwapPress$But", name := "<init>", desc := "(LSwapPress$Bounds;III)V" } : Jvm.MethodName)) ∈ lw_all := lw_g (lw_at lw_m6 7 rfl) rfl
theorem q1308 : (Jvm.Cond.code ({ cls := "SwapPress$But", name := "<init>", desc := "(LSwapPress$Bounds;III)V" } : Jvm.MethodName) prog_4_method_1_code (5 : Nat) (Option.none : Option Jvm.ClassFile.FieldType)) ∈ lw_all := lw_g (lw_at lw_m6 8 rfl) rfl
theorem q1309 : (Jvm.Cond.methodLink "SwapPress$But" (1 : Nat) ({ cls := "java/lang/Object", name := "<init>", desc := "()V" } : Jvm.MethodName)) ∈ lw_all := lw_g (lw_at lw_m6 9 rfl) rfl
theorem q1310 : (Jvm.Cond.fieldLink "SwapPress$But" (7 : Nat) "SwapPress$But" "of" "LSwapPress$Bounds;") ∈ lw_all := lw_g (lw_at lw_m6 10 rfl) rfl
theorem q1311 : (Jvm.Cond.fieldLink "SwapPress$But" (13 : Nat) "SwapPress$But" "a" "I") ∈ lw_all := lw_g (lw_at lw_m6 11 rfl) rfl
theorem q1312 : (Jvm.Cond.fieldLink "SwapPress$But" (17 : Nat) "SwapPress$But" "b" "I") ∈ lw_all := lw_g (lw_at lw_m6 12 rfl) rfl
theorem q1313 : (Jvm.Cond.fieldLink "SwapPress$But" (20 : Nat) "SwapPress$But" "much" "I") ∈ lw_all := lw_g (lw_at lw_m6 13 rfl) rfl
theorem q1314 : (Jvm.Cond.laysFinal "SwapPress$But" "SwapPress$But" "of" "LSwapPress$Bounds;") ∈ lw_all := lw_g (lw_at lw_m6 14 rfl) rfl
theorem q1315 : (Jvm.Cond.soleField "SwapPress$But" "of") ∈ lw_all := lw_g (lw_at lw_m6 15 rfl) rfl
theorem q1316 : (Jvm.Cond.laysFinal "SwapPress$But" "SwapPress$But" "a" "I") ∈ lw_all := lw_g (lw_at lw_m6 16 rfl) rfl
theorem q1317 : (Jvm.Cond.soleField "SwapPress$But" "a") ∈ lw_all := lw_g (lw_at lw_m6 17 rfl) rfl
theorem q1318 : (Jvm.Cond.laysFinal "SwapPress$But" "SwapPress$But" "b" "I") ∈ lw_all := lw_g (lw_at lw_m6 18 rfl) rfl
theorem q1319 : (Jvm.Cond.soleField "SwapPress$But" "b") ∈ lw_all := lw_g (lw_at lw_m6 19 rfl) rfl
theorem q1320 : (Jvm.Cond.laysFinal "SwapPress$But" "SwapPress$But" "much" "I") ∈ lw_all := lw_g (lw_at lw_m6 20 rfl) rfl
theorem q1321 : (Jvm.Cond.soleField "SwapPress$But" "much") ∈ lw_all := lw_g (lw_at lw_m6 21 rfl) rfl
theorem q1322 : (Jvm.Cond.superclass "SwapPress$But" "java/lang/Object") ∈ lw_all := lw_g (lw_at lw_m6 22 rfl) rfl
theorem q1323 : (Jvm.Cond.unhidden "SwapPress$But" "but" "(III)LSwapPress$Bounds;") ∈ lw_tbl := lw_at lw_m6 23 rfl
theorem q2054 : (Jvm.Cond.castable "SwapPress$But" "java/lang/Object") ∈ lw_tbl := lw_at lw_m9 34 rfl
theorem in_X13 : ∀ w ∈ wsX130, w ∈ lw_all := lw_in wsX130 [1314, 1316, 1318, 1320] (by decide +kernel) (by decide +kernel)
