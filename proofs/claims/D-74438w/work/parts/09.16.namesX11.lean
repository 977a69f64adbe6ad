/-! SwapPress$Caps -/
set_option maxRecDepth 100000
abbrev cX11_init : ByteArray := prog_5_method_1_code
def yX11_init : MethodName := ⟨RX11, "<init>", "([I)V"⟩
def dkwX11_init_0 : List UInt8 := [42, 183, 0, 3, 42, 43, 181, 0, 9, 177]
abbrev dktX11_init_0 : List UInt8 := dkwX11_init_0 ++ []
theorem dksX11_init_0 : cX11_init.data.toList.drop 0 = dktX11_init_0 := by decide +kernel
theorem dX11_init_0 : decode cX11_init 0 = .ok (.aload_n 0, 1) := dk_42 (dk_at dksX11_init_0 0 rfl rfl)
theorem dX11_init_1 : decode cX11_init 1 = .ok (.invokespecial 3, 3) := dk_183 0 3 (dk_at dksX11_init_0 1 rfl rfl)
theorem dX11_init_4 : decode cX11_init 4 = .ok (.aload_n 0, 1) := dk_42 (dk_at dksX11_init_0 4 rfl rfl)
theorem dX11_init_5 : decode cX11_init 5 = .ok (.aload_n 1, 1) := dk_43 (dk_at dksX11_init_0 5 rfl rfl)
theorem dX11_init_6 : decode cX11_init 6 = .ok (.putfield 9, 3) := dk_181 0 9 (dk_at dksX11_init_0 6 rfl rfl)
theorem dX11_init_9 : decode cX11_init 9 = .ok (.return_, 1) := dk_177 (dk_at dksX11_init_0 9 rfl rfl)
abbrev cX11_of : ByteArray := prog_5_method_2_code
def yX11_of : MethodName := ⟨RX11, "of", "(II)I"⟩
def dkwX11_of_0 : List UInt8 := [42, 180, 0, 9, 16, 8, 27, 104, 28, 96, 46, 172]
abbrev dktX11_of_0 : List UInt8 := dkwX11_of_0 ++ []
theorem dksX11_of_0 : cX11_of.data.toList.drop 0 = dktX11_of_0 := by decide +kernel
theorem dX11_of_0 : decode cX11_of 0 = .ok (.aload_n 0, 1) := dk_42 (dk_at dksX11_of_0 0 rfl rfl)
theorem dX11_of_1 : decode cX11_of 1 = .ok (.getfield 9, 3) := dk_180 0 9 (dk_at dksX11_of_0 1 rfl rfl)
theorem dX11_of_4 : decode cX11_of 4 = .ok (.bipush 8, 2) := dk_16 8 (dk_at dksX11_of_0 4 rfl rfl)
theorem dX11_of_6 : decode cX11_of 6 = .ok (.iload_n 1, 1) := dk_27 (dk_at dksX11_of_0 6 rfl rfl)
theorem dX11_of_7 : decode cX11_of 7 = .ok (.imul, 1) := dk_104 (dk_at dksX11_of_0 7 rfl rfl)
theorem dX11_of_8 : decode cX11_of 8 = .ok (.iload_n 2, 1) := dk_28 (dk_at dksX11_of_0 8 rfl rfl)
theorem dX11_of_9 : decode cX11_of 9 = .ok (.iadd, 1) := dk_96 (dk_at dksX11_of_0 9 rfl rfl)
theorem dX11_of_10 : decode cX11_of 10 = .ok (.iaload, 1) := dk_46 (dk_at dksX11_of_0 10 rfl rfl)
theorem dX11_of_11 : decode cX11_of 11 = .ok (.ireturn, 1) := dk_172 (dk_at dksX11_of_0 11 rfl rfl)
theorem q128 : (Jvm.Cond.initialized "SwapPress$Caps") ∈ lw_all := lw_g (lw_at lw_m1 28 rfl) rfl
theorem q704 : (Jvm.Cond.selects "SwapPress$Caps" ({ cls := "java/lang/Object", name := "equals", desc := "(Ljava/lang/Object;)Z" } : Jvm.MethodName) ({ cls := "java/lang/Object", name := "equals", desc := "(Ljava/lang/Object;)Z" } : Jvm.MethodName)) ∈ lw_all := lw_g (lw_at lw_m3 124 rfl) rfl
theorem q744 : (Jvm.Cond.selects "SwapPress$Caps" ({ cls := "java/lang/Object", name := "getClass", desc := "()Ljava/lang/Class;" } : Jvm.MethodName) ({ cls := "java/lang/Object", name := "getClass", desc := "()Ljava/lang/Class;" } : Jvm.MethodName)) ∈ lw_all := lw_g (lw_at lw_m3 164 rfl) rfl
theorem q1040 : (Jvm.Cond.instantiable "SwapPress$Caps" (1 : Nat)) ∈ lw_all := lw_g (lw_at lw_m4 220 rfl) rfl
theorem q1042 : (Jvm.Cond.instanceMethod ({ cls := "SwapPress$Caps", name := "<init>", desc := "([I)V" } : Jvm.MethodName)) ∈ lw_all := lw_g (lw_at lw_m4 222 rfl) rfl
theorem q1043 : (Jvm.Cond.code ({ cls := "SwapPress$Caps", name := "<init>", desc := "([I)V" } : Jvm.MethodName) prog_5_method_1_code (2 : Nat) (Option.none : Option Jvm.ClassFile.FieldType)) ∈ lw_all := lw_g (lw_at lw_m4 223 rfl) rfl
theorem q1044 : (Jvm.Cond.methodLink "SwapPress$Caps" (3 : Nat) ({ cls := "java/lang/Object", name := "<init>", desc := "()V" } : Jvm.MethodName)) ∈ lw_all := lw_g (lw_at lw_m4 224 rfl) rfl
theorem q1045 : (Jvm.Cond.fieldLink "SwapPress$Caps" (9 : Nat) "SwapPress$Caps" "caps" "[I") ∈ lw_all := lw_g (lw_at lw_m4 225 rfl) rfl
theorem q1046 : (Jvm.Cond.laysFinal "SwapPress$Caps" "SwapPress$Caps" "caps" "[I") ∈ lw_all := lw_g (lw_at lw_m4 226 rfl) rfl
theorem q1047 : (Jvm.Cond.soleField "SwapPress$Caps" "caps") ∈ lw_all := lw_g (lw_at lw_m4 227 rfl) rfl
theorem q1048 : (Jvm.Cond.superclass "SwapPress$Caps" "java/lang/Object") ∈ lw_all := lw_g (lw_at lw_m4 228 rfl) rfl
theorem q1085 : (Jvm.Cond.castable "SwapPress$Caps" "SwapPress$Bounds") ∈ lw_tbl := lw_at lw_m5 25 rfl
theorem q1086 : (Jvm.Cond.selects "SwapPress$Caps" ({ cls := "SwapPress$Bounds", name := "of", desc := "(II)I" } : Jvm.MethodName) ({ cls := "SwapPress$Caps", name := "of", desc := "(II)I" } : Jvm.MethodName)) ∈ lw_all := lw_g (lw_at lw_m5 26 rfl) rfl
theorem q1087 : (Jvm.Cond.unhidden "SwapPress$Caps" "of" "(II)I") ∈ lw_tbl := lw_at lw_m5 27 rfl
theorem q1088 : (Jvm.Cond.instanceMethod ({ cls := "SwapPress$Caps", name := "of", desc := "(II)I" } : Jvm.MethodName)) ∈ lw_all := lw_g (lw_at lw_m5 28 rfl) rfl
theorem q1089 : (Jvm.Cond.publicMethod ({ cls := "SwapPress$Caps", name := "of", desc := "(II)I" } : Jvm.MethodName)) ∈ lw_tbl := lw_at lw_m5 29 rfl
theorem q1090 : (Jvm.Cond.code ({ cls := "SwapPress$Caps", name := "of", desc := "(II)I" } : Jvm.MethodName) prog_5_method_2_code (3 : Nat) (Option.some Jvm.ClassFile.FieldType.int)) ∈ lw_all := lw_g (lw_at lw_m5 30 rfl) rfl
theorem q1324 : (Jvm.Cond.unhidden "SwapPress$Caps" "but" "(III)LSwapPress$Bounds;") ∈ lw_tbl := lw_at lw_m6 24 rfl
theorem q2052 : (Jvm.Cond.castable "SwapPress$Caps" "java/lang/Object") ∈ lw_tbl := lw_at lw_m9 32 rfl
theorem in_X11 : ∀ w ∈ wsX110, w ∈ lw_all := lw_in wsX110 [1046] (by decide +kernel) (by decide +kernel)
