/-! SwapPress$Trade -/
set_option maxRecDepth 100000
abbrev cX6_init : ByteArray := prog_11_method_1_code
def yX6_init : MethodName := ⟨RX6, "<init>", "(IIIIZ)V"⟩
def dkwX6_init_1 : List UInt8 := [181, 0, 19, 42, 21, 5, 181, 0, 22, 177]
abbrev dktX6_init_1 : List UInt8 := dkwX6_init_1 ++ []
def dkwX6_init_0 : List UInt8 := [42, 183, 0, 1, 42, 27, 181, 0, 7, 42, 28, 181, 0, 13, 42, 29, 181, 0, 16, 42, 21, 4]
abbrev dktX6_init_0 : List UInt8 := dkwX6_init_0 ++ dktX6_init_1
theorem dksX6_init_0 : cX6_init.data.toList.drop 0 = dktX6_init_0 := by decide +kernel
theorem dksX6_init_1 : cX6_init.data.toList.drop 22 = dktX6_init_1 := dk_seg dksX6_init_0 22 rfl rfl
theorem dX6_init_0 : decode cX6_init 0 = .ok (.aload_n 0, 1) := dk_42 (dk_at dksX6_init_0 0 rfl rfl)
theorem dX6_init_1 : decode cX6_init 1 = .ok (.invokespecial 1, 3) := dk_183 0 1 (dk_at dksX6_init_0 1 rfl rfl)
theorem dX6_init_4 : decode cX6_init 4 = .ok (.aload_n 0, 1) := dk_42 (dk_at dksX6_init_0 4 rfl rfl)
theorem dX6_init_5 : decode cX6_init 5 = .ok (.iload_n 1, 1) := dk_27 (dk_at dksX6_init_0 5 rfl rfl)
theorem dX6_init_6 : decode cX6_init 6 = .ok (.putfield 7, 3) := dk_181 0 7 (dk_at dksX6_init_0 6 rfl rfl)
theorem dX6_init_9 : decode cX6_init 9 = .ok (.aload_n 0, 1) := dk_42 (dk_at dksX6_init_0 9 rfl rfl)
theorem dX6_init_10 : decode cX6_init 10 = .ok (.iload_n 2, 1) := dk_28 (dk_at dksX6_init_0 10 rfl rfl)
theorem dX6_init_11 : decode cX6_init 11 = .ok (.putfield 13, 3) := dk_181 0 13 (dk_at dksX6_init_0 11 rfl rfl)
theorem dX6_init_14 : decode cX6_init 14 = .ok (.aload_n 0, 1) := dk_42 (dk_at dksX6_init_0 14 rfl rfl)
theorem dX6_init_15 : decode cX6_init 15 = .ok (.iload_n 3, 1) := dk_29 (dk_at dksX6_init_0 15 rfl rfl)
theorem dX6_init_16 : decode cX6_init 16 = .ok (.putfield 16, 3) := dk_181 0 16 (dk_at dksX6_init_0 16 rfl rfl)
theorem dX6_init_19 : decode cX6_init 19 = .ok (.aload_n 0, 1) := dk_42 (dk_at dksX6_init_0 19 rfl rfl)
theorem dX6_init_20 : decode cX6_init 20 = .ok (.iload 4, 2) := dk_21 4 (dk_at dksX6_init_0 20 rfl rfl)
theorem dX6_init_22 : decode cX6_init 22 = .ok (.putfield 19, 3) := dk_181 0 19 (dk_at dksX6_init_1 0 rfl rfl)
theorem dX6_init_25 : decode cX6_init 25 = .ok (.aload_n 0, 1) := dk_42 (dk_at dksX6_init_1 3 rfl rfl)
theorem dX6_init_26 : decode cX6_init 26 = .ok (.iload 5, 2) := dk_21 5 (dk_at dksX6_init_1 4 rfl rfl)
theorem dX6_init_28 : decode cX6_init 28 = .ok (.putfield 22, 3) := dk_181 0 22 (dk_at dksX6_init_1 6 rfl rfl)
theorem dX6_init_31 : decode cX6_init 31 = .ok (.return_, 1) := dk_177 (dk_at dksX6_init_1 9 rfl rfl)
abbrev cX6_turned : ByteArray := prog_11_method_3_code
def yX6_turned : MethodName := ⟨RX6, "turned", "()LSwapPress$Trade;"⟩
def dkwX6_turned_1 : List UInt8 := [154, 0, 7, 4, 167, 0, 4, 3, 183, 0, 26, 176]
abbrev dktX6_turned_1 : List UInt8 := dkwX6_turned_1 ++ []
def dkwX6_turned_0 : List UInt8 := [187, 0, 8, 89, 42, 180, 0, 7, 42, 180, 0, 13, 42, 180, 0, 16, 42, 180, 0, 19, 42, 180, 0, 22]
abbrev dktX6_turned_0 : List UInt8 := dkwX6_turned_0 ++ dktX6_turned_1
theorem dksX6_turned_0 : cX6_turned.data.toList.drop 0 = dktX6_turned_0 := by decide +kernel
theorem dksX6_turned_1 : cX6_turned.data.toList.drop 24 = dktX6_turned_1 := dk_seg dksX6_turned_0 24 rfl rfl
theorem dX6_turned_0 : decode cX6_turned 0 = .ok (.new 8, 3) := dk_187 0 8 (dk_at dksX6_turned_0 0 rfl rfl)
theorem dX6_turned_3 : decode cX6_turned 3 = .ok (.dup, 1) := dk_89 (dk_at dksX6_turned_0 3 rfl rfl)
theorem dX6_turned_4 : decode cX6_turned 4 = .ok (.aload_n 0, 1) := dk_42 (dk_at dksX6_turned_0 4 rfl rfl)
theorem dX6_turned_5 : decode cX6_turned 5 = .ok (.getfield 7, 3) := dk_180 0 7 (dk_at dksX6_turned_0 5 rfl rfl)
theorem dX6_turned_8 : decode cX6_turned 8 = .ok (.aload_n 0, 1) := dk_42 (dk_at dksX6_turned_0 8 rfl rfl)
theorem dX6_turned_9 : decode cX6_turned 9 = .ok (.getfield 13, 3) := dk_180 0 13 (dk_at dksX6_turned_0 9 rfl rfl)
theorem dX6_turned_12 : decode cX6_turned 12 = .ok (.aload_n 0, 1) := dk_42 (dk_at dksX6_turned_0 12 rfl rfl)
theorem dX6_turned_13 : decode cX6_turned 13 = .ok (.getfield 16, 3) := dk_180 0 16 (dk_at dksX6_turned_0 13 rfl rfl)
theorem dX6_turned_16 : decode cX6_turned 16 = .ok (.aload_n 0, 1) := dk_42 (dk_at dksX6_turned_0 16 rfl rfl)
theorem dX6_turned_17 : decode cX6_turned 17 = .ok (.getfield 19, 3) := dk_180 0 19 (dk_at dksX6_turned_0 17 rfl rfl)
theorem dX6_turned_20 : decode cX6_turned 20 = .ok (.aload_n 0, 1) := dk_42 (dk_at dksX6_turned_0 20 rfl rfl)
theorem dX6_turned_21 : decode cX6_turned 21 = .ok (.getfield 22, 3) := dk_180 0 22 (dk_at dksX6_turned_0 21 rfl rfl)
theorem dX6_turned_24 : decode cX6_turned 24 = .ok (.ifCond .ne 7, 3) := dk_154 0 7 (dk_at dksX6_turned_1 0 rfl rfl)
theorem dX6_turned_27 : decode cX6_turned 27 = .ok (.iconst 1, 1) := dk_4 (dk_at dksX6_turned_1 3 rfl rfl)
theorem dX6_turned_28 : decode cX6_turned 28 = .ok (.goto 4, 3) := dk_167 0 4 (dk_at dksX6_turned_1 4 rfl rfl)
theorem dX6_turned_31 : decode cX6_turned 31 = .ok (.iconst 0, 1) := dk_3 (dk_at dksX6_turned_1 7 rfl rfl)
theorem dX6_turned_32 : decode cX6_turned 32 = .ok (.invokespecial 26, 3) := dk_183 0 26 (dk_at dksX6_turned_1 8 rfl rfl)
theorem dX6_turned_35 : decode cX6_turned 35 = .ok (.areturn, 1) := dk_176 (dk_at dksX6_turned_1 11 rfl rfl)
abbrev cX6_isFree : ByteArray := prog_11_method_4_code
def yX6_isFree : MethodName := ⟨RX6, "isFree", "(I)Z"⟩
def dkwX6_isFree_0 : List UInt8 := [42, 180, 0, 19, 27, 160, 0, 14, 42, 180, 0, 22, 154, 0, 7, 4, 167, 0, 4, 3, 172]
abbrev dktX6_isFree_0 : List UInt8 := dkwX6_isFree_0 ++ []
theorem dksX6_isFree_0 : cX6_isFree.data.toList.drop 0 = dktX6_isFree_0 := by decide +kernel
theorem dX6_isFree_0 : decode cX6_isFree 0 = .ok (.aload_n 0, 1) := dk_42 (dk_at dksX6_isFree_0 0 rfl rfl)
theorem dX6_isFree_1 : decode cX6_isFree 1 = .ok (.getfield 19, 3) := dk_180 0 19 (dk_at dksX6_isFree_0 1 rfl rfl)
theorem dX6_isFree_4 : decode cX6_isFree 4 = .ok (.iload_n 1, 1) := dk_27 (dk_at dksX6_isFree_0 4 rfl rfl)
theorem dX6_isFree_5 : decode cX6_isFree 5 = .ok (.if_icmp .ne 14, 3) := dk_160 0 14 (dk_at dksX6_isFree_0 5 rfl rfl)
theorem dX6_isFree_8 : decode cX6_isFree 8 = .ok (.aload_n 0, 1) := dk_42 (dk_at dksX6_isFree_0 8 rfl rfl)
theorem dX6_isFree_9 : decode cX6_isFree 9 = .ok (.getfield 22, 3) := dk_180 0 22 (dk_at dksX6_isFree_0 9 rfl rfl)
theorem dX6_isFree_12 : decode cX6_isFree 12 = .ok (.ifCond .ne 7, 3) := dk_154 0 7 (dk_at dksX6_isFree_0 12 rfl rfl)
theorem dX6_isFree_15 : decode cX6_isFree 15 = .ok (.iconst 1, 1) := dk_4 (dk_at dksX6_isFree_0 15 rfl rfl)
theorem dX6_isFree_16 : decode cX6_isFree 16 = .ok (.goto 4, 3) := dk_167 0 4 (dk_at dksX6_isFree_0 16 rfl rfl)
theorem dX6_isFree_19 : decode cX6_isFree 19 = .ok (.iconst 0, 1) := dk_3 (dk_at dksX6_isFree_0 19 rfl rfl)
theorem dX6_isFree_20 : decode cX6_isFree 20 = .ok (.ireturn, 1) := dk_172 (dk_at dksX6_isFree_0 20 rfl rfl)
abbrev cX6_less : ByteArray := prog_11_method_2_code
def yX6_less : MethodName := ⟨RX6, "less", "(I)LSwapPress$Trade;"⟩
def dkwX6_less_1 : List UInt8 := [180, 0, 22, 183, 0, 26, 176]
abbrev dktX6_less_1 : List UInt8 := dkwX6_less_1 ++ []
def dkwX6_less_0 : List UInt8 := [187, 0, 8, 89, 42, 180, 0, 7, 42, 180, 0, 13, 42, 180, 0, 16, 27, 100, 42, 180, 0, 19, 42]
abbrev dktX6_less_0 : List UInt8 := dkwX6_less_0 ++ dktX6_less_1
theorem dksX6_less_0 : cX6_less.data.toList.drop 0 = dktX6_less_0 := by decide +kernel
theorem dksX6_less_1 : cX6_less.data.toList.drop 23 = dktX6_less_1 := dk_seg dksX6_less_0 23 rfl rfl
theorem dX6_less_0 : decode cX6_less 0 = .ok (.new 8, 3) := dk_187 0 8 (dk_at dksX6_less_0 0 rfl rfl)
theorem dX6_less_3 : decode cX6_less 3 = .ok (.dup, 1) := dk_89 (dk_at dksX6_less_0 3 rfl rfl)
theorem dX6_less_4 : decode cX6_less 4 = .ok (.aload_n 0, 1) := dk_42 (dk_at dksX6_less_0 4 rfl rfl)
theorem dX6_less_5 : decode cX6_less 5 = .ok (.getfield 7, 3) := dk_180 0 7 (dk_at dksX6_less_0 5 rfl rfl)
theorem dX6_less_8 : decode cX6_less 8 = .ok (.aload_n 0, 1) := dk_42 (dk_at dksX6_less_0 8 rfl rfl)
theorem dX6_less_9 : decode cX6_less 9 = .ok (.getfield 13, 3) := dk_180 0 13 (dk_at dksX6_less_0 9 rfl rfl)
theorem dX6_less_12 : decode cX6_less 12 = .ok (.aload_n 0, 1) := dk_42 (dk_at dksX6_less_0 12 rfl rfl)
theorem dX6_less_13 : decode cX6_less 13 = .ok (.getfield 16, 3) := dk_180 0 16 (dk_at dksX6_less_0 13 rfl rfl)
theorem dX6_less_16 : decode cX6_less 16 = .ok (.iload_n 1, 1) := dk_27 (dk_at dksX6_less_0 16 rfl rfl)
theorem dX6_less_17 : decode cX6_less 17 = .ok (.isub, 1) := dk_100 (dk_at dksX6_less_0 17 rfl rfl)
theorem dX6_less_18 : decode cX6_less 18 = .ok (.aload_n 0, 1) := dk_42 (dk_at dksX6_less_0 18 rfl rfl)
theorem dX6_less_19 : decode cX6_less 19 = .ok (.getfield 19, 3) := dk_180 0 19 (dk_at dksX6_less_0 19 rfl rfl)
theorem dX6_less_22 : decode cX6_less 22 = .ok (.aload_n 0, 1) := dk_42 (dk_at dksX6_less_0 22 rfl rfl)
theorem dX6_less_23 : decode cX6_less 23 = .ok (.getfield 22, 3) := dk_180 0 22 (dk_at dksX6_less_1 0 rfl rfl)
theorem dX6_less_26 : decode cX6_less 26 = .ok (.invokespecial 26, 3) := dk_183 0 26 (dk_at dksX6_less_1 3 rfl rfl)
theorem dX6_less_29 : decode cX6_less 29 = .ok (.areturn, 1) := dk_176 (dk_at dksX6_less_1 6 rfl rfl)
theorem q122 : (Jvm.Cond.initialized "SwapPress$Trade") ∈ lw_all := lw_g (lw_at lw_m1 22 rfl) rfl
theorem q710 : (Jvm.Cond.selects "SwapPress$Trade" ({ cls := "java/lang/Object", name := "equals", desc := "(Ljava/lang/Object;)Z" } : Jvm.MethodName) ({ cls := "java/lang/Object", name := "equals", desc := "(Ljava/lang/Object;)Z" } : Jvm.MethodName)) ∈ lw_all := lw_g (lw_at lw_m3 130 rfl) rfl
theorem q750 : (Jvm.Cond.selects "SwapPress$Trade" ({ cls := "java/lang/Object", name := "getClass", desc := "()Ljava/lang/Class;" } : Jvm.MethodName) ({ cls := "java/lang/Object", name := "getClass", desc := "()Ljava/lang/Class;" } : Jvm.MethodName)) ∈ lw_all := lw_g (lw_at lw_m3 170 rfl) rfl
theorem q786 : (Jvm.Cond.instantiable "SwapPress$Trade" (5 : Nat)) ∈ lw_all := lw_g (lw_at lw_m3 206 rfl) rfl
theorem q788 : (Jvm.Cond.instanceMethod ({ cls := "SwapPress$Trade", name := "<init>", desc := "(IIIIZ)V" } : Jvm.MethodName)) ∈ lw_all := lw_g (lw_at lw_m3 208 rfl) rfl
theorem q789 : (Jvm.Cond.code ({ cls := "SwapPress$Trade", name := "<init>", desc := "(IIIIZ)V" } : Jvm.MethodName) prog_11_method_1_code (6 : Nat) (Option.none : Option Jvm.ClassFile.FieldType)) ∈ lw_all := lw_g (lw_at lw_m3 209 rfl) rfl
theorem q790 : (Jvm.Cond.methodLink "SwapPress$Trade" (1 : Nat) ({ cls := "java/lang/Object", name := "<init>", desc := "()V" } : Jvm.MethodName)) ∈ lw_all := lw_g (lw_at lw_m3 210 rfl) rfl
theorem q791 : (Jvm.Cond.fieldLink "SwapPress$Trade" (7 : Nat) "SwapPress$Trade" "from" "I") ∈ lw_all := lw_g (lw_at lw_m3 211 rfl) rfl
theorem q794 : (Jvm.Cond.fieldLink "SwapPress$Trade" (13 : Nat) "SwapPress$Trade" "to" "I") ∈ lw_all := lw_g (lw_at lw_m3 214 rfl) rfl
theorem q797 : (Jvm.Cond.fieldLink "SwapPress$Trade" (16 : Nat) "SwapPress$Trade" "amount" "I") ∈ lw_all := lw_g (lw_at lw_m3 217 rfl) rfl
theorem q800 : (Jvm.Cond.fieldLink "SwapPress$Trade" (19 : Nat) "SwapPress$Trade" "kind" "I") ∈ lw_all := lw_g (lw_at lw_m3 220 rfl) rfl
theorem q803 : (Jvm.Cond.fieldLink "SwapPress$Trade" (22 : Nat) "SwapPress$Trade" "isKept" "Z") ∈ lw_all := lw_g (lw_at lw_m3 223 rfl) rfl
theorem q807 : (Jvm.Cond.laysFinal "SwapPress$Trade" "SwapPress$Trade" "from" "I") ∈ lw_all := lw_g (lw_at lw_m3 227 rfl) rfl
theorem q808 : (Jvm.Cond.soleField "SwapPress$Trade" "from") ∈ lw_all := lw_g (lw_at lw_m3 228 rfl) rfl
theorem q809 : (Jvm.Cond.laysFinal "SwapPress$Trade" "SwapPress$Trade" "to" "I") ∈ lw_all := lw_g (lw_at lw_m3 229 rfl) rfl
theorem q810 : (Jvm.Cond.soleField "SwapPress$Trade" "to") ∈ lw_all := lw_g (lw_at lw_m3 230 rfl) rfl
theorem q811 : (Jvm.Cond.laysFinal "SwapPress$Trade" "SwapPress$Trade" "amount" "I") ∈ lw_all := lw_g (lw_at lw_m3 231 rfl) rfl
theorem q812 : (Jvm.Cond.soleField "SwapPress$Trade" "amount") ∈ lw_all := lw_g (lw_at lw_m3 232 rfl) rfl
theorem q813 : (Jvm.Cond.laysFinal "SwapPress$Trade" "SwapPress$Trade" "kind" "I") ∈ lw_all := lw_g (lw_at lw_m3 233 rfl) rfl
theorem q814 : (Jvm.Cond.soleField "SwapPress$Trade" "kind") ∈ lw_all := lw_g (lw_at lw_m3 234 rfl) rfl
theorem q815 : (Jvm.Cond.laysFinal "SwapPress$Trade" "SwapPress$Trade" "isKept" "Z") ∈ lw_all := lw_g (lw_at lw_m3 235 rfl) rfl
theorem q816 : (Jvm.Cond.soleField "SwapPress$Trade" "isKept") ∈ lw_all := lw_g (lw_at lw_m3 236 rfl) rfl
theorem q817 : (Jvm.Cond.superclass "SwapPress$Trade" "java/lang/Object") ∈ lw_all := lw_g (lw_at lw_m3 237 rfl) rfl
theorem q835 : (Jvm.Cond.instanceMethod ({ cls := "SwapPress$Trade", name := "turned", desc := "()LSwapPress$Trade;" } : Jvm.MethodName)) ∈ lw_all := lw_g (lw_at lw_m4 15 rfl) rfl
theorem q836 : (Jvm.Cond.selects "SwapPress$Trade" ({ cls := "SwapPress$Trade", name := "turned", desc := "()LSwapPress$Trade;" } : Jvm.MethodName) ({ cls := "SwapPress$Trade", name := "turned", desc := "()LSwapPress$Trade;" } : Jvm.MethodName)) ∈ lw_all := lw_g (lw_at lw_m4 16 rfl) rfl
theorem q837 : (Jvm.Cond.code ({ cls := "SwapPress$Trade", name := "turned", desc := "()LSwapPress$Trade;" } : Jvm.MethodName) prog_11_method_3_code (1 : Nat) (Option.some (Jvm.ClassFile.FieldType.object "SwapPress$Trade"))) ∈ lw_all := lw_g (lw_at lw_m4 17 rfl) rfl
theorem q838 : (Jvm.Cond.classLink "SwapPress$Trade" (8 : Nat) "SwapPress$Trade") ∈ lw_all := lw_g (lw_at lw_m4 18 rfl) rfl
theorem q839 : (Jvm.Cond.methodLink "SwapPress$Trade" (26 : Nat) ({ cls := "SwapPress$Trade", name := "<init>", desc := "(IIIIZ)V" } : Jvm.MethodName)) ∈ lw_all := lw_g (lw_at lw_m4 19 rfl) rfl
theorem q958 : (Jvm.Cond.instanceMethod ({ cls := "SwapPress$Trade", name := "isFree", desc := "(I)Z" } : Jvm.MethodName)) ∈ lw_all := lw_g (lw_at lw_m4 138 rfl) rfl
theorem q959 : (Jvm.Cond.selects "SwapPress$Trade" ({ cls := "SwapPress$Trade", name := "isFree", desc := "(I)Z" } : Jvm.MethodName) ({ cls := "SwapPress$Trade", name := "isFree", desc := "(I)Z" } : Jvm.MethodName)) ∈ lw_all := lw_g (lw_at lw_m4 139 rfl) rfl
theorem q960 : (Jvm.Cond.code ({ cls := "SwapPress$Trade", name := "isFree", desc := "(I)Z" } : Jvm.MethodName) prog_11_method_4_code (2 : Nat) (Option.some Jvm.ClassFile.FieldType.boolean)) ∈ lw_all := lw_g (lw_at lw_m4 140 rfl) rfl
theorem q1009 : (Jvm.Cond.instanceMethod ({ cls := "SwapPress$Trade", name := "less", desc := "(I)LSwapPress$Trade;" } : Jvm.MethodName)) ∈ lw_all := lw_g (lw_at lw_m4 189 rfl) rfl
theorem q1010 : (Jvm.Cond.selects "SwapPress$Trade" ({ cls := "SwapPress$Trade", name := "less", desc := "(I)LSwapPress$Trade;" } : Jvm.MethodName) ({ cls := "SwapPress$Trade", name := "less", desc := "(I)LSwapPress$Trade;" } : Jvm.MethodName)) ∈ lw_all := lw_g (lw_at lw_m4 190 rfl) rfl
theorem q1011 : (Jvm.Cond.code ({ cls := "SwapPress$Trade", name := "less", desc := "(I)LSwapPress$Trade;" } : Jvm.MethodName) prog_11_method_2_code (2 : Nat) (Option.some (Jvm.ClassFile.FieldType.object "SwapPress$Trade"))) ∈ lw_all := lw_g (lw_at lw_m4 191 rfl) rfl
theorem q2048 : (Jvm.Cond.castable "SwapPress$Trade" "java/lang/Object") ∈ lw_tbl := lw_at lw_m9 28 rfl
theorem in_X6 : ∀ w ∈ wsX60, w ∈ lw_all := lw_in wsX60 [807, 809, 811, 813, 815] (by decide +kernel) (by decide +kernel)
