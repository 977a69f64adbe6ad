set_option maxRecDepth 100000
theorem q100 : (Jvm.Cond.initialized "SwapPressLaw") ∈ lw_all := lw_g (lw_at lw_m1 0 rfl) rfl
theorem q133 : (Jvm.Cond.classLink "SwapPressLaw" (7 : Nat) "SwapPress") ∈ lw_all := lw_g (lw_at lw_m1 33 rfl) rfl
theorem q135 : (Jvm.Cond.methodLink "SwapPressLaw" (9 : Nat) ({ cls := "SwapPress", name := "<init>", desc := "()V" } : Jvm.MethodName)) ∈ lw_all := lw_g (lw_at lw_m1 35 rfl) rfl
theorem q266 : (Jvm.Cond.methodLink "SwapPressLaw" (13 : Nat) ({ cls := "SwapPress", name := "feed", desc := "(IIIII)I" } : Jvm.MethodName)) ∈ lw_all := lw_g (lw_at lw_m1 166 rfl) rfl
theorem q274 : (Jvm.Cond.methodLink "SwapPressLaw" (18 : Nat) ({ cls := "SwapPress", name := "tell", desc := "(I)I" } : Jvm.MethodName)) ∈ lw_all := lw_g (lw_at lw_m1 174 rfl) rfl
theorem q854 : (Jvm.Cond.methodLink "SwapPressLaw" (23 : Nat) ({ cls := "SwapPress", name := "fault", desc := "(I)I" } : Jvm.MethodName)) ∈ lw_all := lw_g (lw_at lw_m4 34 rfl) rfl
theorem q858 : (Jvm.Cond.methodLink "SwapPressLaw" (27 : Nat) ({ cls := "SwapPress", name := "trade", desc := "(IIII)I" } : Jvm.MethodName)) ∈ lw_all := lw_g (lw_at lw_m4 38 rfl) rfl
theorem q917 : (Jvm.Cond.methodLink "SwapPressLaw" (32 : Nat) ({ cls := "SwapPress", name := "drop", desc := "(I)I" } : Jvm.MethodName)) ∈ lw_all := lw_g (lw_at lw_m4 97 rfl) rfl
theorem q925 : (Jvm.Cond.methodLink "SwapPressLaw" (36 : Nat) ({ cls := "SwapPress", name := "keep", desc := "(I)I" } : Jvm.MethodName)) ∈ lw_all := lw_g (lw_at lw_m4 105 rfl) rfl
theorem q935 : (Jvm.Cond.methodLink "SwapPressLaw" (40 : Nat) ({ cls := "SwapPress", name := "mode", desc := "(I)I" } : Jvm.MethodName)) ∈ lw_all := lw_g (lw_at lw_m4 115 rfl) rfl
theorem q940 : (Jvm.Cond.methodLink "SwapPressLaw" (44 : Nat) ({ cls := "SwapPress", name := "cap", desc := "(III)I" } : Jvm.MethodName)) ∈ lw_all := lw_g (lw_at lw_m4 120 rfl) rfl
theorem q945 : (Jvm.Cond.methodLink "SwapPressLaw" (49 : Nat) ({ cls := "SwapPress", name := "takeRing", desc := "(I)I" } : Jvm.MethodName)) ∈ lw_all := lw_g (lw_at lw_m4 125 rfl) rfl
theorem q1012 : (Jvm.Cond.methodLink "SwapPressLaw" (53 : Nat) ({ cls := "SwapPress", name := "press", desc := "(I)I" } : Jvm.MethodName)) ∈ lw_all := lw_g (lw_at lw_m4 192 rfl) rfl
theorem q1153 : (Jvm.Cond.methodLink "SwapPressLaw" (57 : Nat) ({ cls := "SwapPress", name := "undo", desc := "()I" } : Jvm.MethodName)) ∈ lw_all := lw_g (lw_at lw_m5 93 rfl) rfl
theorem q1161 : (Jvm.Cond.methodLink "SwapPressLaw" (62 : Nat) ({ cls := "SwapPress", name := "tradeOf", desc := "(II)I" } : Jvm.MethodName)) ∈ lw_all := lw_g (lw_at lw_m5 101 rfl) rfl
theorem q1165 : (Jvm.Cond.methodLink "SwapPressLaw" (67 : Nat) ({ cls := "SwapPress", name := "flow", desc := "(III)I" } : Jvm.MethodName)) ∈ lw_all := lw_g (lw_at lw_m5 105 rfl) rfl
theorem q1177 : (Jvm.Cond.methodLink "SwapPressLaw" (71 : Nat) ({ cls := "SwapPress", name := "net", desc := "(IIZ)I" } : Jvm.MethodName)) ∈ lw_all := lw_g (lw_at lw_m5 117 rfl) rfl
theorem q1190 : (Jvm.Cond.methodLink "SwapPressLaw" (76 : Nat) ({ cls := "SwapPress", name := "side", desc := "(III)I" } : Jvm.MethodName)) ∈ lw_all := lw_g (lw_at lw_m5 130 rfl) rfl
theorem q1206 : (Jvm.Cond.methodLink "SwapPressLaw" (80 : Nat) ({ cls := "SwapPress", name := "total", desc := "(II)I" } : Jvm.MethodName)) ∈ lw_all := lw_g (lw_at lw_m5 146 rfl) rfl
theorem q1214 : (Jvm.Cond.methodLink "SwapPressLaw" (84 : Nat) ({ cls := "SwapPress", name := "bound", desc := "(III)I" } : Jvm.MethodName)) ∈ lw_all := lw_g (lw_at lw_m5 154 rfl) rfl
theorem q1224 : (Jvm.Cond.methodLink "SwapPressLaw" (88 : Nat) ({ cls := "SwapPress", name := "ring", desc := "(II)I" } : Jvm.MethodName)) ∈ lw_all := lw_g (lw_at lw_m5 164 rfl) rfl
theorem q1228 : (Jvm.Cond.methodLink "SwapPressLaw" (92 : Nat) ({ cls := "SwapPress", name := "load", desc := "(I)I" } : Jvm.MethodName)) ∈ lw_all := lw_g (lw_at lw_m5 168 rfl) rfl
theorem q1232 : (Jvm.Cond.methodLink "SwapPressLaw" (96 : Nat) ({ cls := "SwapPress", name := "cleared", desc := "(II)I" } : Jvm.MethodName)) ∈ lw_all := lw_g (lw_at lw_m5 172 rfl) rfl
theorem q1241 : (Jvm.Cond.methodLink "SwapPressLaw" (100 : Nat) ({ cls := "SwapPress", name := "rounds", desc := "(II)I" } : Jvm.MethodName)) ∈ lw_all := lw_g (lw_at lw_m5 181 rfl) rfl
theorem q1250 : (Jvm.Cond.methodLink "SwapPressLaw" (104 : Nat) ({ cls := "SwapPress", name := "chain", desc := "(II)I" } : Jvm.MethodName)) ∈ lw_all := lw_g (lw_at lw_m5 190 rfl) rfl
theorem q1263 : (Jvm.Cond.methodLink "SwapPressLaw" (108 : Nat) ({ cls := "SwapPress", name := "least", desc := "(I)I" } : Jvm.MethodName)) ∈ lw_all := lw_g (lw_at lw_m5 203 rfl) rfl
theorem q1275 : (Jvm.Cond.methodLink "SwapPressLaw" (112 : Nat) ({ cls := "SwapPress", name := "pressed", desc := "(III)I" } : Jvm.MethodName)) ∈ lw_all := lw_g (lw_at lw_m5 215 rfl) rfl
theorem q1279 : (Jvm.Cond.methodLink "SwapPressLaw" (116 : Nat) ({ cls := "SwapPress", name := "couples", desc := "(I)I" } : Jvm.MethodName)) ∈ lw_all := lw_g (lw_at lw_m5 219 rfl) rfl
theorem q1283 : (Jvm.Cond.methodLink "SwapPressLaw" (120 : Nat) ({ cls := "SwapPress", name := "span", desc := "(IIII)I" } : Jvm.MethodName)) ∈ lw_all := lw_g (lw_at lw_m5 223 rfl) rfl
theorem q1288 : (Jvm.Cond.methodLink "SwapPressLaw" (124 : Nat) ({ cls := "SwapPress", name := "gain", desc := "(III)I" } : Jvm.MethodName)) ∈ lw_all := lw_g (lw_at lw_m5 228 rfl) rfl
theorem q1326 : (Jvm.Cond.methodLink "SwapPressLaw" (128 : Nat) ({ cls := "SwapPress", name := "without", desc := "(II)I" } : Jvm.MethodName)) ∈ lw_all := lw_g (lw_at lw_m6 26 rfl) rfl
theorem q1330 : (Jvm.Cond.methodLink "SwapPressLaw" (132 : Nat) ({ cls := "SwapPress", name := "relief", desc := "(II)I" } : Jvm.MethodName)) ∈ lw_all := lw_g (lw_at lw_m6 30 rfl) rfl
theorem q1338 : (Jvm.Cond.methodLink "SwapPressLaw" (140 : Nat) ({ cls := "SwapPress", name := "relieved", desc := "(I)I" } : Jvm.MethodName)) ∈ lw_all := lw_g (lw_at lw_m6 38 rfl) rfl
theorem q1342 : (Jvm.Cond.methodLink "SwapPressLaw" (136 : Nat) ({ cls := "SwapPress", name := "through", desc := "(III)I" } : Jvm.MethodName)) ∈ lw_all := lw_g (lw_at lw_m6 42 rfl) rfl
theorem q1347 : (Jvm.Cond.methodLink "SwapPressLaw" (144 : Nat) ({ cls := "SwapPress", name := "all", desc := "()I" } : Jvm.MethodName)) ∈ lw_all := lw_g (lw_at lw_m6 47 rfl) rfl
theorem q1351 : (Jvm.Cond.methodLink "SwapPressLaw" (148 : Nat) ({ cls := "SwapPress", name := "enough", desc := "(III)I" } : Jvm.MethodName)) ∈ lw_all := lw_g (lw_at lw_m6 51 rfl) rfl
theorem q1356 : (Jvm.Cond.methodLink "SwapPressLaw" (152 : Nat) ({ cls := "SwapPress", name := "fewest", desc := "(II)I" } : Jvm.MethodName)) ∈ lw_all := lw_g (lw_at lw_m6 56 rfl) rfl
theorem q1368 : (Jvm.Cond.methodLink "SwapPressLaw" (156 : Nat) ({ cls := "SwapPress", name := "even", desc := "(II)I" } : Jvm.MethodName)) ∈ lw_all := lw_g (lw_at lw_m6 68 rfl) rfl
theorem q1372 : (Jvm.Cond.methodLink "SwapPressLaw" (160 : Nat) ({ cls := "SwapPress", name := "line", desc := "(II)I" } : Jvm.MethodName)) ∈ lw_all := lw_g (lw_at lw_m6 72 rfl) rfl
theorem q1497 : (Jvm.Cond.methodLink "SwapPressLaw" (164 : Nat) ({ cls := "SwapPress", name := "count", desc := "(I)I" } : Jvm.MethodName)) ∈ lw_all := lw_g (lw_at lw_m6 197 rfl) rfl
theorem q1506 : (Jvm.Cond.classLink "SwapPressLaw" (10 : Nat) "SwapPressModel") ∈ lw_all := lw_g (lw_at lw_m6 206 rfl) rfl
theorem q1508 : (Jvm.Cond.methodLink "SwapPressLaw" (12 : Nat) ({ cls := "SwapPressModel", name := "<init>", desc := "()V" } : Jvm.MethodName)) ∈ lw_all := lw_g (lw_at lw_m6 208 rfl) rfl
theorem q1615 : (Jvm.Cond.methodLink "SwapPressLaw" (17 : Nat) ({ cls := "SwapPressModel", name := "feed", desc := "(IIIII)I" } : Jvm.MethodName)) ∈ lw_all := lw_g (lw_at lw_m7 75 rfl) rfl
theorem q1619 : (Jvm.Cond.methodLink "SwapPressLaw" (22 : Nat) ({ cls := "SwapPressModel", name := "tell", desc := "(I)I" } : Jvm.MethodName)) ∈ lw_all := lw_g (lw_at lw_m7 79 rfl) rfl
theorem q1708 : (Jvm.Cond.methodLink "SwapPressLaw" (26 : Nat) ({ cls := "SwapPressModel", name := "fault", desc := "(I)I" } : Jvm.MethodName)) ∈ lw_all := lw_g (lw_at lw_m7 168 rfl) rfl
theorem q1712 : (Jvm.Cond.methodLink "SwapPressLaw" (31 : Nat) ({ cls := "SwapPressModel", name := "trade", desc := "(IIII)I" } : Jvm.MethodName)) ∈ lw_all := lw_g (lw_at lw_m7 172 rfl) rfl
theorem q1733 : (Jvm.Cond.methodLink "SwapPressLaw" (35 : Nat) ({ cls := "SwapPressModel", name := "drop", desc := "(I)I" } : Jvm.MethodName)) ∈ lw_all := lw_g (lw_at lw_m7 193 rfl) rfl
theorem q1745 : (Jvm.Cond.methodLink "SwapPressLaw" (39 : Nat) ({ cls := "SwapPressModel", name := "keep", desc := "(I)I" } : Jvm.MethodName)) ∈ lw_all := lw_g (lw_at lw_m7 205 rfl) rfl
theorem q1749 : (Jvm.Cond.methodLink "SwapPressLaw" (43 : Nat) ({ cls := "SwapPressModel", name := "mode", desc := "(I)I" } : Jvm.MethodName)) ∈ lw_all := lw_g (lw_at lw_m7 209 rfl) rfl
theorem q1754 : (Jvm.Cond.methodLink "SwapPressLaw" (48 : Nat) ({ cls := "SwapPressModel", name := "cap", desc := "(III)I" } : Jvm.MethodName)) ∈ lw_all := lw_g (lw_at lw_m7 214 rfl) rfl
theorem q1759 : (Jvm.Cond.methodLink "SwapPressLaw" (61 : Nat) ({ cls := "SwapPressModel", name := "undo", desc := "()I" } : Jvm.MethodName)) ∈ lw_all := lw_g (lw_at lw_m7 219 rfl) rfl
theorem q1763 : (Jvm.Cond.methodLink "SwapPressLaw" (66 : Nat) ({ cls := "SwapPressModel", name := "tradeOf", desc := "(II)I" } : Jvm.MethodName)) ∈ lw_all := lw_g (lw_at lw_m7 223 rfl) rfl
theorem q1768 : (Jvm.Cond.methodLink "SwapPressLaw" (70 : Nat) ({ cls := "SwapPressModel", name := "flow", desc := "(III)I" } : Jvm.MethodName)) ∈ lw_all := lw_g (lw_at lw_m7 228 rfl) rfl
theorem q1787 : (Jvm.Cond.methodLink "SwapPressLaw" (75 : Nat) ({ cls := "SwapPressModel", name := "net", desc := "(IIZ)I" } : Jvm.MethodName)) ∈ lw_all := lw_g (lw_at lw_m8 7 rfl) rfl
theorem q1800 : (Jvm.Cond.methodLink "SwapPressLaw" (79 : Nat) ({ cls := "SwapPressModel", name := "side", desc := "(III)I" } : Jvm.MethodName)) ∈ lw_all := lw_g (lw_at lw_m8 20 rfl) rfl
theorem q1806 : (Jvm.Cond.methodLink "SwapPressLaw" (83 : Nat) ({ cls := "SwapPressModel", name := "total", desc := "(II)I" } : Jvm.MethodName)) ∈ lw_all := lw_g (lw_at lw_m8 26 rfl) rfl
theorem q1818 : (Jvm.Cond.methodLink "SwapPressLaw" (87 : Nat) ({ cls := "SwapPressModel", name := "bound", desc := "(III)I" } : Jvm.MethodName)) ∈ lw_all := lw_g (lw_at lw_m8 38 rfl) rfl
theorem q1826 : (Jvm.Cond.methodLink "SwapPressLaw" (91 : Nat) ({ cls := "SwapPressModel", name := "ring", desc := "(II)I" } : Jvm.MethodName)) ∈ lw_all := lw_g (lw_at lw_m8 46 rfl) rfl
theorem q1838 : (Jvm.Cond.methodLink "SwapPressLaw" (95 : Nat) ({ cls := "SwapPressModel", name := "load", desc := "(I)I" } : Jvm.MethodName)) ∈ lw_all := lw_g (lw_at lw_m8 58 rfl) rfl
theorem q1850 : (Jvm.Cond.methodLink "SwapPressLaw" (99 : Nat) ({ cls := "SwapPressModel", name := "cleared", desc := "(II)I" } : Jvm.MethodName)) ∈ lw_all := lw_g (lw_at lw_m8 70 rfl) rfl
theorem q1858 : (Jvm.Cond.methodLink "SwapPressLaw" (103 : Nat) ({ cls := "SwapPressModel", name := "rounds", desc := "(II)I" } : Jvm.MethodName)) ∈ lw_all := lw_g (lw_at lw_m8 78 rfl) rfl
theorem q1863 : (Jvm.Cond.methodLink "SwapPressLaw" (107 : Nat) ({ cls := "SwapPressModel", name := "chain", desc := "(II)I" } : Jvm.MethodName)) ∈ lw_all := lw_g (lw_at lw_m8 83 rfl) rfl
theorem q1875 : (Jvm.Cond.methodLink "SwapPressLaw" (52 : Nat) ({ cls := "SwapPressModel", name := "takeRing", desc := "(I)I" } : Jvm.MethodName)) ∈ lw_all := lw_g (lw_at lw_m8 95 rfl) rfl
theorem q1879 : (Jvm.Cond.methodLink "SwapPressLaw" (111 : Nat) ({ cls := "SwapPressModel", name := "least", desc := "(I)I" } : Jvm.MethodName)) ∈ lw_all := lw_g (lw_at lw_m8 99 rfl) rfl
theorem q1923 : (Jvm.Cond.methodLink "SwapPressLaw" (115 : Nat) ({ cls := "SwapPressModel", name := "pressed", desc := "(III)I" } : Jvm.MethodName)) ∈ lw_all := lw_g (lw_at lw_m8 143 rfl) rfl
theorem q1939 : (Jvm.Cond.methodLink "SwapPressLaw" (119 : Nat) ({ cls := "SwapPressModel", name := "couples", desc := "(I)I" } : Jvm.MethodName)) ∈ lw_all := lw_g (lw_at lw_m8 159 rfl) rfl
theorem q1947 : (Jvm.Cond.methodLink "SwapPressLaw" (123 : Nat) ({ cls := "SwapPressModel", name := "span", desc := "(IIII)I" } : Jvm.MethodName)) ∈ lw_all := lw_g (lw_at lw_m8 167 rfl) rfl
theorem q1951 : (Jvm.Cond.methodLink "SwapPressLaw" (127 : Nat) ({ cls := "SwapPressModel", name := "gain", desc := "(III)I" } : Jvm.MethodName)) ∈ lw_all := lw_g (lw_at lw_m8 171 rfl) rfl
theorem q1955 : (Jvm.Cond.methodLink "SwapPressLaw" (131 : Nat) ({ cls := "SwapPressModel", name := "without", desc := "(II)I" } : Jvm.MethodName)) ∈ lw_all := lw_g (lw_at lw_m8 175 rfl) rfl
theorem q1959 : (Jvm.Cond.methodLink "SwapPressLaw" (135 : Nat) ({ cls := "SwapPressModel", name := "relief", desc := "(II)I" } : Jvm.MethodName)) ∈ lw_all := lw_g (lw_at lw_m8 179 rfl) rfl
theorem q1967 : (Jvm.Cond.methodLink "SwapPressLaw" (143 : Nat) ({ cls := "SwapPressModel", name := "relieved", desc := "(I)I" } : Jvm.MethodName)) ∈ lw_all := lw_g (lw_at lw_m8 187 rfl) rfl
theorem q1971 : (Jvm.Cond.methodLink "SwapPressLaw" (139 : Nat) ({ cls := "SwapPressModel", name := "through", desc := "(III)I" } : Jvm.MethodName)) ∈ lw_all := lw_g (lw_at lw_m8 191 rfl) rfl
theorem q1975 : (Jvm.Cond.methodLink "SwapPressLaw" (147 : Nat) ({ cls := "SwapPressModel", name := "all", desc := "()I" } : Jvm.MethodName)) ∈ lw_all := lw_g (lw_at lw_m8 195 rfl) rfl
theorem q1979 : (Jvm.Cond.methodLink "SwapPressLaw" (151 : Nat) ({ cls := "SwapPressModel", name := "enough", desc := "(III)I" } : Jvm.MethodName)) ∈ lw_all := lw_g (lw_at lw_m8 199 rfl) rfl
theorem q1983 : (Jvm.Cond.methodLink "SwapPressLaw" (56 : Nat) ({ cls := "SwapPressModel", name := "press", desc := "(I)I" } : Jvm.MethodName)) ∈ lw_all := lw_g (lw_at lw_m8 203 rfl) rfl
theorem q1987 : (Jvm.Cond.methodLink "SwapPressLaw" (155 : Nat) ({ cls := "SwapPressModel", name := "fewest", desc := "(II)I" } : Jvm.MethodName)) ∈ lw_all := lw_g (lw_at lw_m8 207 rfl) rfl
theorem q1995 : (Jvm.Cond.methodLink "SwapPressLaw" (159 : Nat) ({ cls := "SwapPressModel", name := "even", desc := "(II)I" } : Jvm.MethodName)) ∈ lw_all := lw_g (lw_at lw_m8 215 rfl) rfl
theorem q1999 : (Jvm.Cond.methodLink "SwapPressLaw" (163 : Nat) ({ cls := "SwapPressModel", name := "line", desc := "(II)I" } : Jvm.MethodName)) ∈ lw_all := lw_g (lw_at lw_m8 219 rfl) rfl
theorem q2016 : (Jvm.Cond.methodLink "SwapPressLaw" (167 : Nat) ({ cls := "SwapPressModel", name := "count", desc := "(I)I" } : Jvm.MethodName)) ∈ lw_all := lw_g (lw_at lw_m8 236 rfl) rfl

theorem q394 : (Jvm.Cond.sameMethod "[B" "java/lang/Object" "clone" "()Ljava/lang/Object;") ∈ lw_all := lw_g (lw_at lw_m2 54 rfl) rfl
theorem q397 : (Jvm.Cond.selects "[B" ({ cls := "[B", name := "clone", desc := "()Ljava/lang/Object;" } : Jvm.MethodName) ({ cls := "java/lang/Object", name := "clone", desc := "()Ljava/lang/Object;" } : Jvm.MethodName)) ∈ lw_all := lw_g (lw_at lw_m2 57 rfl) rfl
theorem q398 : (Jvm.Cond.castable "[B" "java/lang/Cloneable") ∈ lw_tbl := lw_at lw_m2 58 rfl
theorem q2061 : (Jvm.Cond.castable "[B" "java/lang/Object") ∈ lw_tbl := lw_at lw_m9 41 rfl

theorem q2059 : (Jvm.Cond.castable "[I" "java/lang/Object") ∈ lw_tbl := lw_at lw_m9 39 rfl

theorem q2060 : (Jvm.Cond.castable "[J" "java/lang/Object") ∈ lw_tbl := lw_at lw_m9 40 rfl

theorem q2056 : (Jvm.Cond.sameMethod "[Ljava/lang/Object;" "java/lang/Object" "getClass" "()Ljava/lang/Class;") ∈ lw_all := lw_g (lw_at lw_m9 36 rfl) rfl
theorem q2057 : (Jvm.Cond.selects "[Ljava/lang/Object;" ({ cls := "java/lang/Object", name := "getClass", desc := "()Ljava/lang/Class;" } : Jvm.MethodName) ({ cls := "java/lang/Object", name := "getClass", desc := "()Ljava/lang/Class;" } : Jvm.MethodName)) ∈ lw_all := lw_g (lw_at lw_m9 37 rfl) rfl
theorem q2062 : (Jvm.Cond.castable "[Ljava/lang/Object;" "java/lang/Object") ∈ lw_tbl := lw_at lw_m9 42 rfl

theorem q2063 : (Jvm.Cond.castable "[Z" "java/lang/Object") ∈ lw_tbl := lw_at lw_m9 43 rfl

theorem q1460 : (Jvm.Cond.interfaceMethod "java/lang/CharSequence" "java/lang/CharSequence" "length" "()I") ∈ lw_tbl := lw_at lw_m6 160 rfl
theorem q1461 : (Jvm.Cond.declares ({ cls := "java/lang/CharSequence", name := "length", desc := "()I" } : Jvm.MethodName)) ∈ lw_tbl := lw_at lw_m6 161 rfl
theorem q1472 : (Jvm.Cond.interfaceMethod "java/lang/CharSequence" "java/lang/CharSequence" "charAt" "(I)C") ∈ lw_tbl := lw_at lw_m6 172 rfl
theorem q1473 : (Jvm.Cond.declares ({ cls := "java/lang/CharSequence", name := "charAt", desc := "(I)C" } : Jvm.MethodName)) ∈ lw_tbl := lw_at lw_m6 173 rfl

theorem q130 : (Jvm.Cond.initialized "java/lang/Number") ∈ lw_all := lw_g (lw_at lw_m1 30 rfl) rfl

theorem q116 : (Jvm.Cond.initialized "java/lang/System") ∈ lw_all := lw_g (lw_at lw_m1 16 rfl) rfl
theorem q404 : (Jvm.Cond.static ({ cls := "java/lang/System", name := "arraycopy", desc := "(Ljava/lang/Object;ILjava/lang/Object;II)V" } : Jvm.MethodName)) ∈ lw_all := lw_g (lw_at lw_m2 64 rfl) rfl
theorem q405 : (Jvm.Cond.native ({ cls := "java/lang/System", name := "arraycopy", desc := "(Ljava/lang/Object;ILjava/lang/Object;II)V" } : Jvm.MethodName)) ∈ lw_all := lw_g (lw_at lw_m2 65 rfl) rfl

theorem q905 : (Jvm.Cond.interfaceMethod "java/util/Collection" "java/util/Collection" "toArray" "()[Ljava/lang/Object;") ∈ lw_tbl := lw_at lw_m4 85 rfl
theorem q906 : (Jvm.Cond.declares ({ cls := "java/util/Collection", name := "toArray", desc := "()[Ljava/lang/Object;" } : Jvm.MethodName)) ∈ lw_tbl := lw_at lw_m4 86 rfl

theorem q620 : (Jvm.Cond.interfaceMethod "jdk/internal/access/JavaLangAccess" "jdk/internal/access/JavaLangAccess" "getUTF16Char" "([BI)C") ∈ lw_tbl := lw_at lw_m3 40 rfl
theorem q621 : (Jvm.Cond.declares ({ cls := "jdk/internal/access/JavaLangAccess", name := "getUTF16Char", desc := "([BI)C" } : Jvm.MethodName)) ∈ lw_tbl := lw_at lw_m3 41 rfl
