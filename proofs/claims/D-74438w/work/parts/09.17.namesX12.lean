/-! SwapPress$Both -/
set_option maxRecDepth 100000
abbrev cX12_init : ByteArray := prog_2_method_1_code
def yX12_init : MethodName := ⟨RX12, "<init>", "([I)V"⟩
def dkwX12_init_0 : List UInt8 := [42, 183, 0, 3, 42, 43, 181, 0, 9, 177]
abbrev dktX12_init_0 : List UInt8 := dkwX12_init_0 ++ []
theorem dksX12_init_0 : cX12_init.data.toList.drop 0 = dktX12_init_0 := by decide +kernel
theorem dX12_init_0 : decode cX12_init 0 = .ok (.aload_n 0, 1) := dk_42 (dk_at dksX12_init_0 0 rfl rfl)
theorem dX12_init_1 : decode cX12_init 1 = .ok (.invokespecial 3, 3) := dk_183 0 3 (dk_at dksX12_init_0 1 rfl rfl)
theorem dX12_init_4 : decode cX12_init 4 = .ok (.aload_n 0, 1) := dk_42 (dk_at dksX12_init_0 4 rfl rfl)
theorem dX12_init_5 : decode cX12_init 5 = .ok (.aload_n 1, 1) := dk_43 (dk_at dksX12_init_0 5 rfl rfl)
theorem dX12_init_6 : decode cX12_init 6 = .ok (.putfield 9, 3) := dk_181 0 9 (dk_at dksX12_init_0 6 rfl rfl)
theorem dX12_init_9 : decode cX12_init 9 = .ok (.return_, 1) := dk_177 (dk_at dksX12_init_0 9 rfl rfl)
abbrev cX12_of : ByteArray := prog_2_method_2_code
def yX12_of : MethodName := ⟨RX12, "of", "(II)I"⟩
def dkwX12_of_0 : List UInt8 := [42, 180, 0, 9, 16, 8, 27, 104, 28, 96, 46, 42, 180, 0, 9, 16, 8, 28, 104, 27, 96, 46, 96, 172]
abbrev dktX12_of_0 : List UInt8 := dkwX12_of_0 ++ []
theorem dksX12_of_0 : cX12_of.data.toList.drop 0 = dktX12_of_0 := by decide +kernel
theorem dX12_of_0 : decode cX12_of 0 = .ok (.aload_n 0, 1) := dk_42 (dk_at dksX12_of_0 0 rfl rfl)
theorem dX12_of_1 : decode cX12_of 1 = .ok (.getfield 9, 3) := dk_180 0 9 (dk_at dksX12_of_0 1 rfl rfl)
theorem dX12_of_4 : decode cX12_of 4 = .ok (.bipush 8, 2) := dk_16 8 (dk_at dksX12_of_0 4 rfl rfl)
theorem dX12_of_6 : decode cX12_of 6 = .ok (.iload_n 1, 1) := dk_27 (dk_at dksX12_of_0 6 rfl rfl)
theorem dX12_of_7 : decode cX12_of 7 = .ok (.imul, 1) := dk_104 (dk_at dksX12_of_0 7 rfl rfl)
theorem dX12_of_8 : decode cX12_of 8 = .ok (.iload_n 2, 1) := dk_28 (dk_at dksX12_of_0 8 rfl rfl)
theorem dX12_of_9 : decode cX12_of 9 = .ok (.iadd, 1) := dk_96 (dk_at dksX12_of_0 9 rfl rfl)
theorem dX12_of_10 : decode cX12_of 10 = .ok (.iaload, 1) := dk_46 (dk_at dksX12_of_0 10 rfl rfl)
theorem dX12_of_11 : decode cX12_of 11 = .ok (.aload_n 0, 1) := dk_42 (dk_at dksX12_of_0 11 rfl rfl)
theorem dX12_of_12 : decode cX12_of 12 = .ok (.getfield 9, 3) := dk_180 0 9 (dk_at dksX12_of_0 12 rfl rfl)
theorem dX12_of_15 : decode cX12_of 15 = .ok (.bipush 8, 2) := dk_16 8 (dk_at dksX12_of_0 15 rfl rfl)
theorem dX12_of_17 : decode cX12_of 17 = .ok (.iload_n 2, 1) := dk_28 (dk_at dksX12_of_0 17 rfl rfl)
theorem dX12_of_18 : decode cX12_of 18 = .ok (.imul, 1) := dk_104 (dk_at dksX12_of_0 18 rfl rfl)
theorem dX12_of_19 : decode cX12_of 19 = .ok (.iload_n 1, 1) := dk_27 (dk_at dksX12_of_0 19 rfl rfl)
theorem dX12_of_20 : decode cX12_of 20 = .ok (.iadd, 1) := dk_96 (dk_at dksX12_of_0 20 rfl rfl)
theorem dX12_of_21 : decode cX12_of 21 = .ok (.iaload, 1) := dk_46 (dk_at dksX12_of_0 21 rfl rfl)
theorem dX12_of_22 : decode cX12_of 22 = .ok (.iadd, 1) := dk_96 (dk_at dksX12_of_0 22 rfl rfl)
theorem dX12_of_23 : decode cX12_of 23 = .ok (.ireturn, 1) := dk_172 (dk_at dksX12_of_0 23 rfl rfl)
theorem q129 : (Jvm.Cond.initialized "SwapPress$Both") ∈ lw_all := lw_g (lw_at lw_m1 29 rfl) rfl
theorem q702 : (Jvm.Cond.selects "SwapPress$Both" ({ cls := "java/lang/Object", name := "equals", desc := "(Ljava/lang/Object;)Z" } : Jvm.MethodName) ({ cls := "java/lang/Object", name := "equals", desc := "(Ljava/lang/Object;)Z" } : Jvm.MethodName)) ∈ lw_all := lw_g (lw_at lw_m3 122 rfl) rfl
theorem q742 : (Jvm.Cond.selects "SwapPress$Both" ({ cls := "java/lang/Object", name := "getClass", desc := "()Ljava/lang/Class;" } : Jvm.MethodName) ({ cls := "java/lang/Object", name := "getClass", desc := "()Ljava/lang/Class;" } : Jvm.MethodName)) ∈ lw_all := lw_g (lw_at lw_m3 162 rfl) rfl
theorem q1050 : (Jvm.Cond.instantiable "SwapPress$Both" (1 : Nat)) ∈ lw_all := lw_g (lw_at lw_m4 230 rfl) rfl
theorem q1052 : (Jvm.Cond.instanceMethod ({ cls := "SwapPress$Both", name := "<init>", desc := "([I)V" } : Jvm.MethodName)) ∈ lw_all := lw_g (lw_at lw_m4 232 rfl) rfl
theorem q1053 : (Jvm.Cond.code ({ cls := "SwapPress$Both", name := "<init>", desc := "([I)V" } : Jvm.MethodName) prog_2_method_1_code (2 : Nat) (Option.none : Option Jvm.ClassFile.FieldType)) ∈ lw_all := lw_g (lw_at lw_m4 233 rfl) rfl
theorem q1054 : (Jvm.Cond.methodLink "SwapPress$Both" (3 : Nat) ({ cls := "java/lang/Object", name := "<init>", desc := "()V" } : Jvm.MethodName)) ∈ lw_all := lw_g (lw_at lw_m4 234 rfl) rfl
theorem q1055 : (Jvm.Cond.fieldLink "SwapPress$Both" (9 : Nat) "SwapPress$Both" "flows" "[I") ∈ lw_all := lw_g (lw_at lw_m4 235 rfl) rfl
theorem q1056 : (Jvm.Cond.laysFinal "SwapPress$Both" "SwapPress$Both" "flows" "[I") ∈ lw_all := lw_g (lw_at lw_m4 236 rfl) rfl
theorem q1057 : (Jvm.Cond.soleField "SwapPress$Both" "flows") ∈ lw_all := lw_g (lw_at lw_m4 237 rfl) rfl
theorem q1058 : (Jvm.Cond.superclass "SwapPress$Both" "java/lang/Object") ∈ lw_all := lw_g (lw_at lw_m4 238 rfl) rfl
theorem q1071 : (Jvm.Cond.castable "SwapPress$Both" "SwapPress$Bounds") ∈ lw_tbl := lw_at lw_m5 11 rfl
theorem q1072 : (Jvm.Cond.selects "SwapPress$Both" ({ cls := "SwapPress$Bounds", name := "of", desc := "(II)I" } : Jvm.MethodName) ({ cls := "SwapPress$Both", name := "of", desc := "(II)I" } : Jvm.MethodName)) ∈ lw_all := lw_g (lw_at lw_m5 12 rfl) rfl
theorem q1073 : (Jvm.Cond.unhidden "SwapPress$Both" "of" "(II)I") ∈ lw_tbl := lw_at lw_m5 13 rfl
theorem q1074 : (Jvm.Cond.instanceMethod ({ cls := "SwapPress$Both", name := "of", desc := "(II)I" } : Jvm.MethodName)) ∈ lw_all := lw_g (lw_at lw_m5 14 rfl) rfl
theorem q1075 : (Jvm.Cond.publicMethod ({ cls := "SwapPress$Both", name := "of", desc := "(II)I" } : Jvm.MethodName)) ∈ lw_tbl := lw_at lw_m5 15 rfl
theorem q1076 : (Jvm.Cond.code ({ cls := "SwapPress$Both", name := "of", desc := "(II)I" } : Jvm.MethodName) prog_2_method_2_code (3 : Nat) (Option.some Jvm.ClassFile.FieldType.int)) ∈ lw_all := lw_g (lw_at lw_m5 16 rfl) rfl
theorem q1300 : (Jvm.Cond.unhidden "SwapPress$Both" "but" "(III)LSwapPress$Bounds;") ∈ lw_tbl := lw_at lw_m6 0 rfl
theorem q2053 : (Jvm.Cond.castable "SwapPress$Both" "java/lang/Object") ∈ lw_tbl := lw_at lw_m9 33 rfl
theorem in_X12 : ∀ w ∈ wsX120, w ∈ lw_all := lw_in wsX120 [1056] (by decide +kernel) (by decide +kernel)
