/-! SwapPress$Had -/
set_option maxRecDepth 100000
abbrev cX10_init : ByteArray := prog_6_method_1_code
def yX10_init : MethodName := ⟨RX10, "<init>", "([I)V"⟩
def dkwX10_init_0 : List UInt8 := [42, 183, 0, 3, 42, 43, 181, 0, 9, 177]
abbrev dktX10_init_0 : List UInt8 := dkwX10_init_0 ++ []
theorem dksX10_init_0 : cX10_init.data.toList.drop 0 = dktX10_init_0 := by decide +kernel
theorem dX10_init_0 : decode cX10_init 0 = .ok (.aload_n 0, 1) := dk_42 (dk_at dksX10_init_0 0 rfl rfl)
theorem dX10_init_1 : decode cX10_init 1 = .ok (.invokespecial 3, 3) := dk_183 0 3 (dk_at dksX10_init_0 1 rfl rfl)
theorem dX10_init_4 : decode cX10_init 4 = .ok (.aload_n 0, 1) := dk_42 (dk_at dksX10_init_0 4 rfl rfl)
theorem dX10_init_5 : decode cX10_init 5 = .ok (.aload_n 1, 1) := dk_43 (dk_at dksX10_init_0 5 rfl rfl)
theorem dX10_init_6 : decode cX10_init 6 = .ok (.putfield 9, 3) := dk_181 0 9 (dk_at dksX10_init_0 6 rfl rfl)
theorem dX10_init_9 : decode cX10_init 9 = .ok (.return_, 1) := dk_177 (dk_at dksX10_init_0 9 rfl rfl)
abbrev cX10_of : ByteArray := prog_6_method_2_code
def yX10_of : MethodName := ⟨RX10, "of", "(II)I"⟩
def dkwX10_of_0 : List UInt8 := [42, 180, 0, 9, 16, 8, 27, 104, 28, 96, 46, 172]
abbrev dktX10_of_0 : List UInt8 := dkwX10_of_0 ++ []
theorem dksX10_of_0 : cX10_of.data.toList.drop 0 = dktX10_of_0 := by decide +kernel
theorem dX10_of_0 : decode cX10_of 0 = .ok (.aload_n 0, 1) := dk_42 (dk_at dksX10_of_0 0 rfl rfl)
theorem dX10_of_1 : decode cX10_of 1 = .ok (.getfield 9, 3) := dk_180 0 9 (dk_at dksX10_of_0 1 rfl rfl)
theorem dX10_of_4 : decode cX10_of 4 = .ok (.bipush 8, 2) := dk_16 8 (dk_at dksX10_of_0 4 rfl rfl)
theorem dX10_of_6 : decode cX10_of 6 = .ok (.iload_n 1, 1) := dk_27 (dk_at dksX10_of_0 6 rfl rfl)
theorem dX10_of_7 : decode cX10_of 7 = .ok (.imul, 1) := dk_104 (dk_at dksX10_of_0 7 rfl rfl)
theorem dX10_of_8 : decode cX10_of 8 = .ok (.iload_n 2, 1) := dk_28 (dk_at dksX10_of_0 8 rfl rfl)
theorem dX10_of_9 : decode cX10_of 9 = .ok (.iadd, 1) := dk_96 (dk_at dksX10_of_0 9 rfl rfl)
theorem dX10_of_10 : decode cX10_of 10 = .ok (.iaload, 1) := dk_46 (dk_at dksX10_of_0 10 rfl rfl)
theorem dX10_of_11 : decode cX10_of 11 = .ok (.ireturn, 1) := dk_172 (dk_at dksX10_of_0 11 rfl rfl)
theorem q127 : (Jvm.Cond.initialized "SwapPress$Had") ∈ lw_all := lw_g (lw_at lw_m1 27 rfl) rfl
theorem q705 : (Jvm.Cond.selects "SwapPress$Had" ({ cls := "java/lang/Object", name := "equals", desc := "(Ljava/lang/Object;)Z" } : Jvm.MethodName) ({ cls := "java/lang/Object", name := "equals", desc := "(Ljava/lang/Object;)Z" } : Jvm.MethodName)) ∈ lw_all := lw_g (lw_at lw_m3 125 rfl) rfl
theorem q745 : (Jvm.Cond.selects "SwapPress$Had" ({ cls := "java/lang/Object", name := "getClass", desc := "()Ljava/lang/Class;" } : Jvm.MethodName) ({ cls := "java/lang/Object", name := "getClass", desc := "()Ljava/lang/Class;" } : Jvm.MethodName)) ∈ lw_all := lw_g (lw_at lw_m3 165 rfl) rfl
theorem q1030 : (Jvm.Cond.instantiable "SwapPress$Had" (1 : Nat)) ∈ lw_all := lw_g (lw_at lw_m4 210 rfl) rfl
theorem q1032 : (Jvm.Cond.instanceMethod ({ cls := "SwapPress$Had", name := "<init>", desc := "([I)V" } : Jvm.MethodName)) ∈ lw_all := lw_g (lw_at lw_m4 212 rfl) rfl
theorem q1033 : (Jvm.Cond.code ({ cls := "SwapPress$Had", name := "<init>", desc := "([I)V" } : Jvm.MethodName) prog_6_method_1_code (2 : Nat) (Option.none : Option Jvm.ClassFile.FieldType)) ∈ lw_all := lw_g (lw_at lw_m4 213 rfl) rfl
theorem q1034 : (Jvm.Cond.methodLink "SwapPress$Had" (3 : Nat) ({ cls := "java/lang/Object", name := "<init>", desc := "()V" } : Jvm.MethodName)) ∈ lw_all := lw_g (lw_at lw_m4 214 rfl) rfl
theorem q1035 : (Jvm.Cond.fieldLink "SwapPress$Had" (9 : Nat) "SwapPress$Had" "flows" "[I") ∈ lw_all := lw_g (lw_at lw_m4 215 rfl) rfl
theorem q1036 : (Jvm.Cond.laysFinal "SwapPress$Had" "SwapPress$Had" "flows" "[I") ∈ lw_all := lw_g (lw_at lw_m4 216 rfl) rfl
theorem q1037 : (Jvm.Cond.soleField "SwapPress$Had" "flows") ∈ lw_all := lw_g (lw_at lw_m4 217 rfl) rfl
theorem q1038 : (Jvm.Cond.superclass "SwapPress$Had" "java/lang/Object") ∈ lw_all := lw_g (lw_at lw_m4 218 rfl) rfl
theorem q1091 : (Jvm.Cond.castable "SwapPress$Had" "SwapPress$Bounds") ∈ lw_tbl := lw_at lw_m5 31 rfl
theorem q1092 : (Jvm.Cond.selects "SwapPress$Had" ({ cls := "SwapPress$Bounds", name := "of", desc := "(II)I" } : Jvm.MethodName) ({ cls := "SwapPress$Had", name := "of", desc := "(II)I" } : Jvm.MethodName)) ∈ lw_all := lw_g (lw_at lw_m5 32 rfl) rfl
theorem q1093 : (Jvm.Cond.unhidden "SwapPress$Had" "of" "(II)I") ∈ lw_tbl := lw_at lw_m5 33 rfl
theorem q1094 : (Jvm.Cond.instanceMethod ({ cls := "SwapPress$Had", name := "of", desc := "(II)I" } : Jvm.MethodName)) ∈ lw_all := lw_g (lw_at lw_m5 34 rfl) rfl
theorem q1095 : (Jvm.Cond.publicMethod ({ cls := "SwapPress$Had", name := "of", desc := "(II)I" } : Jvm.MethodName)) ∈ lw_tbl := lw_at lw_m5 35 rfl
theorem q1096 : (Jvm.Cond.code ({ cls := "SwapPress$Had", name := "of", desc := "(II)I" } : Jvm.MethodName) prog_6_method_2_code (3 : Nat) (Option.some Jvm.ClassFile.FieldType.int)) ∈ lw_all := lw_g (lw_at lw_m5 36 rfl) rfl
theorem q1325 : (Jvm.Cond.unhidden "SwapPress$Had" "but" "(III)LSwapPress$Bounds;") ∈ lw_tbl := lw_at lw_m6 25 rfl
theorem q2051 : (Jvm.Cond.castable "SwapPress$Had" "java/lang/Object") ∈ lw_tbl := lw_at lw_m9 31 rfl
theorem in_X10 : ∀ w ∈ wsX100, w ∈ lw_all := lw_in wsX100 [1036] (by decide +kernel) (by decide +kernel)
