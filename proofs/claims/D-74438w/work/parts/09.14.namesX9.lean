/-! SwapPress$Bounds -/
set_option maxRecDepth 100000
abbrev cX9_by : ByteArray := prog_3_method_3_code
def yX9_by : MethodName := ⟨RX9, "by", "(I[I[I)LSwapPress$Bounds;"⟩
def dkwX9_by_3 : List UInt8 := [183, 0, 17, 176]
abbrev dktX9_by_3 : List UInt8 := dkwX9_by_3 ++ []
def dkwX9_by_2 : List UInt8 := [187, 0, 7, 89, 43, 183, 0, 9, 176, 187, 0, 12, 89, 44, 183, 0, 14, 176, 187, 0, 15, 89, 43]
abbrev dktX9_by_2 : List UInt8 := dkwX9_by_2 ++ dktX9_by_3
def dkwX9_by_1 : List UInt8 := [171, 0, 0, 0, 0, 0, 45, 0, 0, 0, 2, 0, 0, 0, 0, 0, 0, 0, 27, 0, 0, 0, 2, 0, 0, 0, 36]
abbrev dktX9_by_1 : List UInt8 := dkwX9_by_1 ++ dktX9_by_2
def dkwX9_by_0 : List UInt8 := [26]
abbrev dktX9_by_0 : List UInt8 := dkwX9_by_0 ++ dktX9_by_1
theorem dksX9_by_0 : cX9_by.data.toList.drop 0 = dktX9_by_0 := by decide +kernel
theorem dksX9_by_1 : cX9_by.data.toList.drop 1 = dktX9_by_1 := dk_seg dksX9_by_0 1 rfl rfl
theorem dksX9_by_2 : cX9_by.data.toList.drop 28 = dktX9_by_2 := dk_seg dksX9_by_1 27 rfl rfl
theorem dksX9_by_3 : cX9_by.data.toList.drop 51 = dktX9_by_3 := dk_seg dksX9_by_2 23 rfl rfl
theorem dX9_by_0 : decode cX9_by 0 = .ok (.iload_n 0, 1) := dk_26 (dk_at dksX9_by_0 0 rfl rfl)
theorem dX9_by_1 : decode cX9_by 1 = .ok (.lookupswitch 45 #[(0, 27), (2, 36)], 27) := by decide +kernel
theorem dX9_by_28 : decode cX9_by 28 = .ok (.new 7, 3) := dk_187 0 7 (dk_at dksX9_by_2 0 rfl rfl)
theorem dX9_by_31 : decode cX9_by 31 = .ok (.dup, 1) := dk_89 (dk_at dksX9_by_2 3 rfl rfl)
theorem dX9_by_32 : decode cX9_by 32 = .ok (.aload_n 1, 1) := dk_43 (dk_at dksX9_by_2 4 rfl rfl)
theorem dX9_by_33 : decode cX9_by 33 = .ok (.invokespecial 9, 3) := dk_183 0 9 (dk_at dksX9_by_2 5 rfl rfl)
theorem dX9_by_36 : decode cX9_by 36 = .ok (.areturn, 1) := dk_176 (dk_at dksX9_by_2 8 rfl rfl)
theorem dX9_by_37 : decode cX9_by 37 = .ok (.new 12, 3) := dk_187 0 12 (dk_at dksX9_by_2 9 rfl rfl)
theorem dX9_by_40 : decode cX9_by 40 = .ok (.dup, 1) := dk_89 (dk_at dksX9_by_2 12 rfl rfl)
theorem dX9_by_41 : decode cX9_by 41 = .ok (.aload_n 2, 1) := dk_44 (dk_at dksX9_by_2 13 rfl rfl)
theorem dX9_by_42 : decode cX9_by 42 = .ok (.invokespecial 14, 3) := dk_183 0 14 (dk_at dksX9_by_2 14 rfl rfl)
theorem dX9_by_45 : decode cX9_by 45 = .ok (.areturn, 1) := dk_176 (dk_at dksX9_by_2 17 rfl rfl)
theorem dX9_by_46 : decode cX9_by 46 = .ok (.new 15, 3) := dk_187 0 15 (dk_at dksX9_by_2 18 rfl rfl)
theorem dX9_by_49 : decode cX9_by 49 = .ok (.dup, 1) := dk_89 (dk_at dksX9_by_2 21 rfl rfl)
theorem dX9_by_50 : decode cX9_by 50 = .ok (.aload_n 1, 1) := dk_43 (dk_at dksX9_by_2 22 rfl rfl)
theorem dX9_by_51 : decode cX9_by 51 = .ok (.invokespecial 17, 3) := dk_183 0 17 (dk_at dksX9_by_3 0 rfl rfl)
theorem dX9_by_54 : decode cX9_by 54 = .ok (.areturn, 1) := dk_176 (dk_at dksX9_by_3 3 rfl rfl)
abbrev cX9_but : ByteArray := prog_3_method_2_code
def yX9_but : MethodName := ⟨RX9, "but", "(III)LSwapPress$Bounds;"⟩
def dkwX9_but_0 : List UInt8 := [187, 0, 1, 89, 42, 27, 28, 29, 183, 0, 3, 176]
abbrev dktX9_but_0 : List UInt8 := dkwX9_but_0 ++ []
theorem dksX9_but_0 : cX9_but.data.toList.drop 0 = dktX9_but_0 := by decide +kernel
theorem dX9_but_0 : decode cX9_but 0 = .ok (.new 1, 3) := dk_187 0 1 (dk_at dksX9_but_0 0 rfl rfl)
theorem dX9_but_3 : decode cX9_but 3 = .ok (.dup, 1) := dk_89 (dk_at dksX9_but_0 3 rfl rfl)
theorem dX9_but_4 : decode cX9_but 4 = .ok (.aload_n 0, 1) := dk_42 (dk_at dksX9_but_0 4 rfl rfl)
theorem dX9_but_5 : decode cX9_but 5 = .ok (.iload_n 1, 1) := dk_27 (dk_at dksX9_but_0 5 rfl rfl)
theorem dX9_but_6 : decode cX9_but 6 = .ok (.iload_n 2, 1) := dk_28 (dk_at dksX9_but_0 6 rfl rfl)
theorem dX9_but_7 : decode cX9_but 7 = .ok (.iload_n 3, 1) := dk_29 (dk_at dksX9_but_0 7 rfl rfl)
theorem dX9_but_8 : decode cX9_but 8 = .ok (.invokespecial 3, 3) := dk_183 0 3 (dk_at dksX9_but_0 8 rfl rfl)
theorem dX9_but_11 : decode cX9_but 11 = .ok (.areturn, 1) := dk_176 (dk_at dksX9_but_0 11 rfl rfl)
theorem q126 : (Jvm.Cond.initialized "SwapPress$Bounds") ∈ lw_all := lw_g (lw_at lw_m1 26 rfl) rfl
theorem q1027 : (Jvm.Cond.static ({ cls := "SwapPress$Bounds", name := "by", desc := "(I[I[I)LSwapPress$Bounds;" } : Jvm.MethodName)) ∈ lw_all := lw_g (lw_at lw_m4 207 rfl) rfl
theorem q1028 : (Jvm.Cond.code ({ cls := "SwapPress$Bounds", name := "by", desc := "(I[I[I)LSwapPress$Bounds;" } : Jvm.MethodName) prog_3_method_3_code (3 : Nat) (Option.some (Jvm.ClassFile.FieldType.object "SwapPress$Bounds"))) ∈ lw_all := lw_g (lw_at lw_m4 208 rfl) rfl
theorem q1029 : (Jvm.Cond.classLink "SwapPress$Bounds" (7 : Nat) "SwapPress$Had") ∈ lw_all := lw_g (lw_at lw_m4 209 rfl) rfl
theorem q1031 : (Jvm.Cond.methodLink "SwapPress$Bounds" (9 : Nat) ({ cls := "SwapPress$Had", name := "<init>", desc := "([I)V" } : Jvm.MethodName)) ∈ lw_all := lw_g (lw_at lw_m4 211 rfl) rfl
theorem q1039 : (Jvm.Cond.classLink "SwapPress$Bounds" (12 : Nat) "SwapPress$Caps") ∈ lw_all := lw_g (lw_at lw_m4 219 rfl) rfl
theorem q1041 : (Jvm.Cond.methodLink "SwapPress$Bounds" (14 : Nat) ({ cls := "SwapPress$Caps", name := "<init>", desc := "([I)V" } : Jvm.MethodName)) ∈ lw_all := lw_g (lw_at lw_m4 221 rfl) rfl
theorem q1049 : (Jvm.Cond.classLink "SwapPress$Bounds" (15 : Nat) "SwapPress$Both") ∈ lw_all := lw_g (lw_at lw_m4 229 rfl) rfl
theorem q1051 : (Jvm.Cond.methodLink "SwapPress$Bounds" (17 : Nat) ({ cls := "SwapPress$Both", name := "<init>", desc := "([I)V" } : Jvm.MethodName)) ∈ lw_all := lw_g (lw_at lw_m4 231 rfl) rfl
theorem q1069 : (Jvm.Cond.interfaceMethod "SwapPress$Bounds" "SwapPress$Bounds" "of" "(II)I") ∈ lw_tbl := lw_at lw_m5 9 rfl
theorem q1070 : (Jvm.Cond.declares ({ cls := "SwapPress$Bounds", name := "of", desc := "(II)I" } : Jvm.MethodName)) ∈ lw_tbl := lw_at lw_m5 10 rfl
theorem q1298 : (Jvm.Cond.interfaceMethod "SwapPress$Bounds" "SwapPress$Bounds" "but" "(III)LSwapPress$Bounds;") ∈ lw_tbl := lw_at lw_m5 238 rfl
theorem q1299 : (Jvm.Cond.declares ({ cls := "SwapPress$Bounds", name := "but", desc := "(III)LSwapPress$Bounds;" } : Jvm.MethodName)) ∈ lw_tbl := lw_at lw_m5 239 rfl
theorem q1301 : (Jvm.Cond.instanceMethod ({ cls := "SwapPress$Bounds", name := "but", desc := "(III)LSwapPress$Bounds;" } : Jvm.MethodName)) ∈ lw_all := lw_g (lw_at lw_m6 1 rfl) rfl
theorem q1302 : (Jvm.Cond.publicMethod ({ cls := "SwapPress$Bounds", name := "but", desc := "(III)LSwapPress$Bounds;" } : Jvm.MethodName)) ∈ lw_tbl := lw_at lw_m6 2 rfl
theorem q1303 : (Jvm.Cond.code ({ cls := "SwapPress$Bounds", name := "but", desc := "(III)LSwapPress$Bounds;" } : Jvm.MethodName) prog_3_method_2_code (4 : Nat) (Option.some (Jvm.ClassFile.FieldType.object "SwapPress$Bounds"))) ∈ lw_all := lw_g (lw_at lw_m6 3 rfl) rfl
theorem q1304 : (Jvm.Cond.classLink "SwapPress$Bounds" (1 : Nat) "SwapPress$But") ∈ lw_all := lw_g (lw_at lw_m6 4 rfl) rfl
theorem q1306 : (Jvm.Cond.methodLink "SwapPress$Bounds" (3 : Nat) ({ cls := "SwapPress$But", name := "<init>", desc := "(LSwapPress$Bounds;III)V" } : Jvm.MethodName)) ∈ lw_all := lw_g (lw_at lw_m6 6 rfl) rfl
