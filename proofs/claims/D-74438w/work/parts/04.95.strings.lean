set_option maxRecDepth 100000
abbrev o_F : Nat → Prop := fun _ => False
/-- a text as it lies: a String at a, its n bytes f at b -/
def o_S (a b n : Nat) (f : Nat → Int32) (U : State) (H : Heap) : Prop := va_O "java/lang/String" a o_F U H ∧ va_OF "java/lang/String" "coder" "B" (.int 0) a o_F U H ∧ va_OF "java/lang/String" "value" "[B" (.ref b) a o_F U H ∧ va_T .byte b n (fun j => .int (f j)) o_F U H
def o_Z (U : State) (H : Heap) : Prop := va_Z "java/lang/String" "COMPACT_STRINGS" "Z" (.int 1) o_F U H ∧ va_Zq "jdk/internal/util/Preconditions" "SIOOBE_FORMATTER" "Ljava/util/function/BiFunction;" o_F U H
def o_SZ (a b n : Nat) (f : Nat → Int32) (U : State) : Prop := o_S a b n f U U.heap ∧ o_Z U U.heap
def o_TZ (b n : Nat) (f : Nat → Int32) (U : State) : Prop := va_T .byte b n (fun j => .int (f j)) o_F U U.heap ∧ o_Z U U.heap
theorem o_S.moved {a b n : Nat} {f : Nat → Int32} {u U : State} {H : Heap} (hv : u.vm.Alike U.vm) (h : o_S a b n f u H) : o_S a b n f U H := ⟨h.1.moved hv, h.2.1.moved hv, h.2.2.1.moved hv, h.2.2.2.moved hv⟩
theorem o_Z.moved {u U : State} {H : Heap} (hv : u.vm.Alike U.vm) (h : o_Z u H) : o_Z U H := ⟨h.1.moved hv, h.2.moved hv⟩
def p_B (Pre : State → Prop) : Prop := ∀ (U : State) (g : JFrame) (mk : MethodId) (a : Array Value), Pre U → Pre (U.calling g mk a)
theorem o_SZ.B {a b n : Nat} {f : Nat → Int32} : p_B (o_SZ a b n f) := fun U g mk x h => ⟨h.1.moved (Vm.Alike.refl U.vm), h.2.moved (Vm.Alike.refl U.vm)⟩
theorem o_TZ.B {b n : Nat} {f : Nat → Int32} : p_B (o_TZ b n f) := fun U g mk x h => ⟨h.1.moved (Vm.Alike.refl U.vm), h.2.moved (Vm.Alike.refl U.vm)⟩
theorem p_BZ : p_B (fun U => o_Z U U.heap) := fun U g mk x h => h.moved (Vm.Alike.refl U.vm)
theorem p_BT : p_B (fun _ => True) := fun U g mk x h => h
/-- a method that only reads: its answer -/
def p_Mi (l : Launch) (y : MethodName) (b : ByteArray) (nL : Nat) (ret : Option FieldType) (rm : Room) (av : List Value) (Pre : State → Prop) (r : Int32) : Prop := Met l y (ws_ y b nL ret) rm (va_Pc av Pre) (vp_Si (fun r' => r' = r)) 0 0 (fun _ => False)
def p_Mv (l : Launch) (y : MethodName) (b : ByteArray) (nL : Nat) (ret : Option FieldType) (rm : Room) (av : List Value) (Pre : State → Prop) : Prop := Met l y (ws_ y b nL ret) rm (va_Pc av Pre) (va_Sv (fun _ => True)) 0 0 (fun _ => False)
section PS
variable {p : Program} {l : Launch} {e : Env} {R : Room} {s : State} {m : MethodId} {args : Array Value} {below : List Frame} {meth : Method} {c : Code} {H : Heap} {locs : List Loc} {cells slots : Nat} {Q : State → Prop} {pc : Nat} {ls : Array Slot} {rest : List Value} {cc : ByteArray} {nL : Nat} {own : String}
theorem p_start {y : MethodName} {ret : Option FieldType} {rm : Room} {av : List Value} {lvl : List (Nat × Value)} {r : Int32} {Pre : State → Prop} (hy : plainName y.cls = true) (hc : y.cls = own) (hlen : (lg_sl av).length ≤ nL) (hlv : lv_args 0 av = lvl) (body : ∀ (p : Program) (e : Env) (s : State) (m : MethodId) (args : Array Value) (below : List Frame) (meth : Method) (c : Code) (ls : Array Slot), CallFix p m c cc nL s args lw_all own → meth.sig.returnType = ret → meth.locks = false → lv_has ls nL lvl → Pre s → W p l e rm s m args below meth c s.heap [] 0 0 (MQ below (vp_Si (fun r' => r' = r)) args s 0 0 (fun _ => False)) (F0 m 0 ls [])) : p_Mi l y cc nL ret rm av Pre r := by
  refine Met.ofW (cc := cc) (maxL := nL) (ret := ret) hy rfl ?_
  intro p e s m args below meth c s₁ B hml hv
  obtain ⟨rfl, hp⟩ := hv
  have hts := atoms_spec (ws := ws_ y cc nL ret) B.pre
  have hts : ∀ w ∈ lw_all, w.before _ s = true := fun w h => hts w (List.mem_cons_of_mem _ h)
  have hown : s.vm.findClass own = some m.cls := by rw [← hc]; exact findClass_of_methodNamed B.named
  have hl := lv_entry av (n := nL) hlen
  rw [lg_entry_eq]
  rw [hlv] at hl
  exact body p e s m _ below meth c _ ⟨B.exec, B.bytes, hml, hown, hts⟩ B.returns B.notSynchronized hl hp
theorem p_startV {y : MethodName} {ret : Option FieldType} {rm : Room} {av : List Value} {lvl : List (Nat × Value)} {Pre : State → Prop} (hy : plainName y.cls = true) (hc : y.cls = own) (hlen : (lg_sl av).length ≤ nL) (hlv : lv_args 0 av = lvl) (body : ∀ (p : Program) (e : Env) (s : State) (m : MethodId) (args : Array Value) (below : List Frame) (meth : Method) (c : Code) (ls : Array Slot), CallFix p m c cc nL s args lw_all own → meth.sig.returnType = ret → meth.locks = false → lv_has ls nL lvl → Pre s → W p l e rm s m args below meth c s.heap [] 0 0 (MQ below (va_Sv (fun _ => True)) args s 0 0 (fun _ => False)) (F0 m 0 ls [])) : p_Mv l y cc nL ret rm av Pre := by
  refine Met.ofW (cc := cc) (maxL := nL) (ret := ret) hy rfl ?_
  intro p e s m args below meth c s₁ B hml hv
  obtain ⟨rfl, hp⟩ := hv
  have hts := atoms_spec (ws := ws_ y cc nL ret) B.pre
  have hts : ∀ w ∈ lw_all, w.before _ s = true := fun w h => hts w (List.mem_cons_of_mem _ h)
  have hown : s.vm.findClass own = some m.cls := by rw [← hc]; exact findClass_of_methodNamed B.named
  have hl := lv_entry av (n := nL) hlen
  rw [lg_entry_eq]
  rw [hlv] at hl
  exact body p e s m _ below meth c _ ⟨B.exec, B.bytes, hml, hown, hts⟩ B.returns B.notSynchronized hl hp
theorem p_ret {ty : FieldType} (X : CallFix p m c cc nL s args lw_all own) (hr : meth.sig.returnType = some ty) (hlk : meth.locks = false) {r : Int32} (hn : narrow ty (.int r) = .int r) (hdg : decode cc pc = .ok (.ireturn, 1)) : W p l e R s m args below meth c s.heap [] 0 0 (MQ below (vp_Si (fun r' => r' = r)) args s 0 0 (fun _ => False)) (F0 m pc ls [.int r]) :=
  W.zret X.1 X.2.1 hr hn (fun t ht hW => ⟨r, rfl, rfl, ht⟩) (fun q h => by cases h) hdg hlk
theorem p_vret (X : CallFix p m c cc nL s args lw_all own) (hr : meth.sig.returnType = none) (hlk : meth.locks = false) (hdg : decode cc pc = .ok (.return_, 1)) : W p l e R s m args below meth c s.heap [] 0 0 (MQ below (va_Sv (fun _ => True)) args s 0 0 (fun _ => False)) (F0 m pc ls []) :=
  W.vret X.1 X.2.1 hr (fun t ht hW => ⟨rfl, trivial, ht⟩) (fun q h => by cases h) hdg hlk
theorem p_callV (X : CallFix p m c cc nL s args lw_all own) (hl : ls.size = nL) {C : String} {y : MethodName} {bytes : ByteArray} {maxL index b : Nat} {ret : Option FieldType} {rm : Room} {st0 As : List Value} {r : Int32} {Pre : State → Prop} (hM : p_Mi l y bytes maxL ret rm (.ref b :: As) Pre r) (n : Nat) (h1 : Cond.methodLink own index y ∈ lw_all) (h2 : Cond.instanceMethod y ∈ lw_all) (h3 : Cond.selects C y y ∈ lw_all) (h4 : Cond.initialized C ∈ lw_all) (h5 : Cond.code y bytes maxL ret ∈ lw_all) (hd : y.cls = C ∧ y.cls ≠ "java/lang/invoke/MethodHandle" ∧ y.cls ≠ "java/lang/invoke/VarHandle" ∧ (parseMethodDescriptor y.desc).map (fun d => d.parameters.length) = some n) (hn : As.length = n) (hst : st0 = As.reverse ++ .ref b :: rest) (hR : rm.frames + 1 ≤ R.frames ∧ 8 + (maxL + 11) + rm.locals ≤ R.locals) (hrm : rm.cells = 0 ∧ rm.slots = 0) (hf : cells ≤ R.cells ∧ slots ≤ R.slots) (hrest : (rest.map fun v => v.category).sum ≤ 8) (hbl : p_B Pre) (hO : va_O C b o_F s H) (hPre : ∀ U : State, U.heap = H → s.WarmedH U.vm → Pre U) (hdg : decode cc pc = .ok (.invokevirtual index, 3)) (kk : W p l e R s m args below meth c H locs cells slots Q (F0 m (pc + 3) ls (.int r :: rest))) : W p l e R s m args below meth c H locs cells slots Q (F0 m pc ls st0) := by
  subst hst
  obtain ⟨cell, o1, o2, o3, -⟩ := hO
  refine vp_callSi (W.runV (As := As) (rest := rest) (C := C) X hM (cwV n X.2.2.2.2 (lw_V h1 h2 h3 h4 h5) rfl hrm.1 hrm.2 hd hR) ⟨fun a U g mk q => ⟨q.1, hbl U g mk a q.2⟩, ⟨cell, o1, o2, o3⟩, fun U hU hW => ⟨rfl, hPre U hU hW⟩⟩ rfl hn hl rfl (lv_room hrest) hdg hf) (fun r' h => ?_)
  subst h
  exact kk
theorem p_callS (X : CallFix p m c cc nL s args lw_all own) (hl : ls.size = nL) {y : MethodName} {bytes : ByteArray} {maxL index : Nat} {ret : Option FieldType} {rm : Room} {st0 As : List Value} {r : Int32} {Pre : State → Prop} (hM : p_Mi l y bytes maxL ret rm As Pre r) (n : Nat) (h1 : Cond.methodLink own index y ∈ lw_all) (h2 : Cond.static y ∈ lw_all) (h4 : Cond.initialized y.cls ∈ lw_all) (h5 : Cond.code y bytes maxL ret ∈ lw_all) (hd : y.cls ≠ "java/lang/invoke/MethodHandle" ∧ y.cls ≠ "java/lang/invoke/VarHandle" ∧ (parseMethodDescriptor y.desc).map (fun d => d.parameters.length) = some n) (hn : As.length = n) (hst : st0 = As.reverse ++ rest) (hR : rm.frames + 1 ≤ R.frames ∧ 8 + (maxL + 11) + rm.locals ≤ R.locals) (hrm : rm.cells = 0 ∧ rm.slots = 0) (hf : cells ≤ R.cells ∧ slots ≤ R.slots) (hrest : (rest.map fun v => v.category).sum ≤ 8) (hbl : p_B Pre) (hPre : ∀ U : State, U.heap = H → s.WarmedH U.vm → Pre U) (hdg : decode cc pc = .ok (.invokestatic index, 3)) (kk : W p l e R s m args below meth c H locs cells slots Q (F0 m (pc + 3) ls (.int r :: rest))) : W p l e R s m args below meth c H locs cells slots Q (F0 m pc ls st0) := by
  subst hst
  refine vp_callSi (W.runS (As := As) (rest := rest) X hM (va_cwS n X.2.2.2.2 (lw_S h1 h2 h4 h5) rfl hrm.1 hrm.2 hd hR) ⟨fun a U g mk q => ⟨q.1, hbl U g mk a q.2⟩, fun U hU hW => ⟨rfl, hPre U hU hW⟩⟩ rfl hn hl rfl (lv_room hrest) hdg hf) (fun r' h => ?_)
  subst h
  exact kk
theorem p_callSv (X : CallFix p m c cc nL s args lw_all own) (hl : ls.size = nL) {y : MethodName} {bytes : ByteArray} {maxL index : Nat} {ret : Option FieldType} {rm : Room} {st0 As : List Value} {Pre : State → Prop} (hM : p_Mv l y bytes maxL ret rm As Pre) (n : Nat) (h1 : Cond.methodLink own index y ∈ lw_all) (h2 : Cond.static y ∈ lw_all) (h4 : Cond.initialized y.cls ∈ lw_all) (h5 : Cond.code y bytes maxL ret ∈ lw_all) (hd : y.cls ≠ "java/lang/invoke/MethodHandle" ∧ y.cls ≠ "java/lang/invoke/VarHandle" ∧ (parseMethodDescriptor y.desc).map (fun d => d.parameters.length) = some n) (hn : As.length = n) (hst : st0 = As.reverse ++ rest) (hR : rm.frames + 1 ≤ R.frames ∧ 8 + (maxL + 11) + rm.locals ≤ R.locals) (hrm : rm.cells = 0 ∧ rm.slots = 0) (hf : cells ≤ R.cells ∧ slots ≤ R.slots) (hrest : (rest.map fun v => v.category).sum ≤ 8) (hbl : p_B Pre) (hPre : ∀ U : State, U.heap = H → s.WarmedH U.vm → Pre U) (hdg : decode cc pc = .ok (.invokestatic index, 3)) (kk : W p l e R s m args below meth c H locs cells slots Q (F0 m (pc + 3) ls rest)) : W p l e R s m args below meth c H locs cells slots Q (F0 m pc ls st0) := by
  subst hst
  exact va_csv (W.runS (As := As) (rest := rest) X hM (va_cwS n X.2.2.2.2 (lw_S h1 h2 h4 h5) rfl hrm.1 hrm.2 hd hR) ⟨fun a U g mk q => ⟨q.1, hbl U g mk a q.2⟩, fun U hU hW => ⟨rfl, hPre U hU hW⟩⟩ rfl hn hl rfl (lv_room hrest) hdg hf) (fun _ => kk)
end PS
theorem o_in {k n : Nat} (h : k < n) (hn : n < 2 ^ 31) : vp_in (nI k) n := vp_in_nI h hn
/-- Preconditions.checkIndex, the place being within -/
theorem p_pcheck (l : Launch) (i len : Int32) (x : Value) (hx : (∃ q, x = .ref q) ∨ x = .null) (h0 : ¬ i < 0) (h1 : i < len) : p_Mi l yJ11_checkIndex cJ11_checkIndex 3 (some .int) { frames := 0, cells := 0, slots := 0, locals := 0 } [.int i, .int len, x] (fun _ => True) i := by
  have hc : x.category = 1 := by rcases hx with ⟨q, rfl⟩ | rfl <;> rfl
  refine p_start (own := RJ11) (lvl := [(0, .int i), (1, .int len), (2, x)]) (by decide) rfl ?_ rfl (fun p e s m args below meth c ls X hr hlk hl _ => ?_)
  · rcases hx with ⟨q, rfl⟩ | rfl <;> exact Nat.le_of_ble_eq_true rfl
  refine lv_iload_n X.1 X.2.1 dJ11_checkIndex_0 rfl (lv_at hl 0 rfl) ?_
  refine lv_if_lt (tgt := 9) X.1 X.2.1 dJ11_checkIndex_1 (by decide) (fun c1 => absurd c1 h0) (fun _ => ?_)
  refine lv_iload_n X.1 X.2.1 dJ11_checkIndex_4 rfl (lv_at hl 0 rfl) ?_
  refine lv_iload_n X.1 X.2.1 dJ11_checkIndex_5 rfl (lv_at hl 1 rfl) ?_
  refine lv_icmp_lt (tgt := 16) X.1 X.2.1 dJ11_checkIndex_6 (by decide) (fun _ => ?_) (fun c1 => absurd h1 c1)
  refine lv_iload_n X.1 X.2.1 dJ11_checkIndex_16 rfl (lv_at hl 0 rfl) ?_
  exact p_ret X hr hlk rfl dJ11_checkIndex_17
theorem hd_pcheck : yJ11_checkIndex.cls ≠ "java/lang/invoke/MethodHandle" ∧ yJ11_checkIndex.cls ≠ "java/lang/invoke/VarHandle" ∧ (parseMethodDescriptor yJ11_checkIndex.desc).map (fun d => d.parameters.length) = some 3 := by decide +kernel
/-- String.checkIndex, the place being within -/
theorem p_scheck (l : Launch) (i len : Int32) (h0 : ¬ i < 0) (h1 : i < len) : p_Mv l yJ5_checkIndex cJ5_checkIndex 2 none { frames := 1, cells := 0, slots := 0, locals := 22 } [.int i, .int len] (fun U => o_Z U U.heap) := by
  refine p_startV (own := RJ5) (lvl := [(0, .int i), (1, .int len)]) (by decide) rfl (Nat.le_of_ble_eq_true rfl) rfl (fun p e s m args below meth c ls X hr hlk hl hZ => ?_)
  refine lv_iload_n X.1 X.2.1 dJ5_checkIndex_0 rfl (lv_at hl 0 rfl) ?_
  refine lv_iload_n X.1 X.2.1 dJ5_checkIndex_1 rfl (lv_at hl 1 rfl) ?_
  rcases hZ.2 with hz | ⟨t, hz⟩
  · refine va_gets (A := o_F) X.1 X.2.1 hz va_S.rf X.2.2.2.1 (X.2.2.2.2 _ q433) (fun _ h => h) dJ5_checkIndex_2 ?_
    refine p_callS X hl.1 (As := [.int i, .int len, .null]) (rest := []) (p_pcheck l i len .null (Or.inr rfl) h0 h1) 3 q456 q457 q118 q458 hd_pcheck rfl rfl ⟨Nat.le_of_ble_eq_true rfl, Nat.le_of_ble_eq_true rfl⟩ ⟨rfl, rfl⟩ ⟨Nat.zero_le _, Nat.zero_le _⟩ (Nat.le_of_ble_eq_true rfl) p_BT (fun _ _ _ => trivial) dJ5_checkIndex_5 ?_
    refine lv_pop X.1 X.2.1 dJ5_checkIndex_8 rfl ?_
    exact p_vret X hr hlk dJ5_checkIndex_9
  · refine va_gets (A := o_F) X.1 X.2.1 hz va_S.rf X.2.2.2.1 (X.2.2.2.2 _ q433) (fun _ h => h) dJ5_checkIndex_2 ?_
    refine p_callS X hl.1 (As := [.int i, .int len, .ref t]) (rest := []) (p_pcheck l i len (.ref t) (Or.inl ⟨t, rfl⟩) h0 h1) 3 q456 q457 q118 q458 hd_pcheck rfl rfl ⟨Nat.le_of_ble_eq_true rfl, Nat.le_of_ble_eq_true rfl⟩ ⟨rfl, rfl⟩ ⟨Nat.zero_le _, Nat.zero_le _⟩ (Nat.le_of_ble_eq_true rfl) p_BT (fun _ _ _ => trivial) dJ5_checkIndex_5 ?_
    refine lv_pop X.1 X.2.1 dJ5_checkIndex_8 rfl ?_
    exact p_vret X hr hlk dJ5_checkIndex_9
theorem hd_scheck : yJ5_checkIndex.cls ≠ "java/lang/invoke/MethodHandle" ∧ yJ5_checkIndex.cls ≠ "java/lang/invoke/VarHandle" ∧ (parseMethodDescriptor yJ5_checkIndex.desc).map (fun d => d.parameters.length) = some 2 := by decide +kernel
/-- StringLatin1.charAt -/
theorem p_lchar (l : Launch) (b n k : Nat) (f : Nat → Int32) (hk : k < n) (hn : n < 2 ^ 31) : p_Mi l yJ10_charAt cJ10_charAt 2 (some .char) { frames := 2, cells := 0, slots := 0, locals := 43 } [.ref b, .int (nI k)] (o_TZ b n f) (((f k) &&& 255).toUInt32 % 65536).toInt32 := by
  refine p_start (own := RJ10) (lvl := [(0, .ref b), (1, .int (nI k))]) (by decide) rfl (Nat.le_of_ble_eq_true rfl) rfl (fun p e s m args below meth c ls X hr hlk hl hZ => ?_)
  refine lv_iload_n X.1 X.2.1 dJ10_charAt_0 rfl (lv_at hl 1 rfl) ?_
  refine lv_aload_n X.1 X.2.1 dJ10_charAt_1 rfl (lv_at hl 0 rfl) ?_
  refine va_tlen (A := o_F) (v := nI n) X.1 X.2.1 hZ.1 va_S.rf rfl dJ10_charAt_2 ?_
  refine p_callSv X hl.1 (As := [.int (nI k), .int (nI n)]) (rest := []) (p_scheck l (nI k) (nI n) (nI_pos (by omega)) (nI_lt hk hn)) 2 q1482 q454 q111 q455 hd_scheck rfl rfl ⟨Nat.le_of_ble_eq_true rfl, Nat.le_of_ble_eq_true rfl⟩ ⟨rfl, rfl⟩ ⟨Nat.zero_le _, Nat.zero_le _⟩ (Nat.le_of_ble_eq_true rfl) p_BZ (fun U hU hW => by rw [hU]; exact hZ.2.moved hW.alike) dJ10_charAt_3 ?_
  refine lv_aload_n X.1 X.2.1 dJ10_charAt_6 rfl (lv_at hl 0 rfl) ?_
  refine lv_iload_n X.1 X.2.1 dJ10_charAt_7 rfl (lv_at hl 1 rfl) ?_
  refine va_tb (A := o_F) (v := .int (f k)) X.1 X.2.1 hZ.1 va_S.rf (o_in hk hn) (by rw [nI_clamp (by omega)]) dJ10_charAt_8 ?_
  refine lv_sipush (v := 255) X.1 X.2.1 dJ10_charAt_9 (by decide) ?_
  refine lv_iand X.1 X.2.1 dJ10_charAt_12 ?_
  refine lv_i2c X.1 X.2.1 dJ10_charAt_13 rfl ?_
  exact p_ret X hr hlk (pk_nc _) dJ10_charAt_14
theorem hd_lchar : yJ10_charAt.cls ≠ "java/lang/invoke/MethodHandle" ∧ yJ10_charAt.cls ≠ "java/lang/invoke/VarHandle" ∧ (parseMethodDescriptor yJ10_charAt.desc).map (fun d => d.parameters.length) = some 2 := by decide +kernel
theorem p_isL (l : Launch) (a b n : Nat) (f : Nat → Int32) : p_Mi l yJ5_isLatin1 cJ5_isLatin1 1 (some .boolean) { frames := 0, cells := 0, slots := 0, locals := 0 } [.ref a] (o_SZ a b n f) 1 := by
  refine p_start (own := RJ5) (lvl := [(0, .ref a)]) (by decide) rfl (Nat.le_of_ble_eq_true rfl) rfl (fun p e s m args below meth c ls X hr hlk hl hZ => ?_)
  refine va_gets (A := o_F) X.1 X.2.1 hZ.2.1 va_S.rf X.2.2.2.1 (X.2.2.2.2 _ q495) (fun _ h => h) dJ5_isLatin1_0 ?_
  refine lv_if_eq (tgt := 17) X.1 X.2.1 dJ5_isLatin1_3 (by decide) (fun c1 => absurd c1 (by decide)) (fun _ => ?_)
  refine lv_aload_n X.1 X.2.1 dJ5_isLatin1_6 rfl (lv_at hl 0 rfl) ?_
  refine vk_getf (A := o_F) X.1 X.2.1 hZ.1.2.1 va_S.rf X.2.2.2.1 (X.2.2.2.2 _ q510) (fun _ h => h) dJ5_isLatin1_7 ?_
  refine lv_if_ne (tgt := 17) X.1 X.2.1 dJ5_isLatin1_10 (by decide) (fun c1 => absurd rfl c1) (fun _ => ?_)
  refine lv_iconst (v := 1) X.1 X.2.1 dJ5_isLatin1_13 (by decide) ?_
  refine lv_goto (tgt := 18) X.1 X.2.1 dJ5_isLatin1_14 (by decide) ?_
  exact p_ret X hr hlk rfl dJ5_isLatin1_18
theorem hd_isL : yJ5_isLatin1.cls = RJ5 ∧ yJ5_isLatin1.cls ≠ "java/lang/invoke/MethodHandle" ∧ yJ5_isLatin1.cls ≠ "java/lang/invoke/VarHandle" ∧ (parseMethodDescriptor yJ5_isLatin1.desc).map (fun d => d.parameters.length) = some 0 := by decide +kernel
theorem p_coder (l : Launch) (a b n : Nat) (f : Nat → Int32) : p_Mi l yJ5_coder cJ5_coder 1 (some .byte) { frames := 0, cells := 0, slots := 0, locals := 0 } [.ref a] (o_SZ a b n f) 0 := by
  refine p_start (own := RJ5) (lvl := [(0, .ref a)]) (by decide) rfl (Nat.le_of_ble_eq_true rfl) rfl (fun p e s m args below meth c ls X hr hlk hl hZ => ?_)
  refine va_gets (A := o_F) X.1 X.2.1 hZ.2.1 va_S.rf X.2.2.2.1 (X.2.2.2.2 _ q495) (fun _ h => h) dJ5_coder_0 ?_
  refine lv_if_eq (tgt := 13) X.1 X.2.1 dJ5_coder_3 (by decide) (fun c1 => absurd c1 (by decide)) (fun _ => ?_)
  refine lv_aload_n X.1 X.2.1 dJ5_coder_6 rfl (lv_at hl 0 rfl) ?_
  refine vk_getf (A := o_F) X.1 X.2.1 hZ.1.2.1 va_S.rf X.2.2.2.1 (X.2.2.2.2 _ q510) (fun _ h => h) dJ5_coder_7 ?_
  refine lv_goto (tgt := 14) X.1 X.2.1 dJ5_coder_10 (by decide) ?_
  exact p_ret X hr hlk rfl dJ5_coder_14
theorem hd_coder : yJ5_coder.cls = RJ5 ∧ yJ5_coder.cls ≠ "java/lang/invoke/MethodHandle" ∧ yJ5_coder.cls ≠ "java/lang/invoke/VarHandle" ∧ (parseMethodDescriptor yJ5_coder.desc).map (fun d => d.parameters.length) = some 0 := by decide +kernel
/-- String.length -/
theorem p_slen (l : Launch) (a b n : Nat) (f : Nat → Int32) (hn : n < 2 ^ 31) : p_Mi l yJ5_length cJ5_length 1 (some .int) { frames := 1, cells := 0, slots := 0, locals := 20 } [.ref a] (o_SZ a b n f) (nI n) := by
  refine p_start (own := RJ5) (lvl := [(0, .ref a)]) (by decide) rfl (Nat.le_of_ble_eq_true rfl) rfl (fun p e s m args below meth c ls X hr hlk hl hZ => ?_)
  refine lv_aload_n X.1 X.2.1 dJ5_length_0 rfl (lv_at hl 0 rfl) ?_
  refine vk_getf (A := o_F) X.1 X.2.1 hZ.1.2.2.1 va_S.rf X.2.2.2.1 (X.2.2.2.2 _ q509) (fun _ h => h) dJ5_length_1 ?_
  refine va_tlen (A := o_F) (v := nI n) X.1 X.2.1 hZ.1.2.2.2 va_S.rf rfl dJ5_length_4 ?_
  refine lv_aload_n X.1 X.2.1 dJ5_length_5 rfl (lv_at hl 0 rfl) ?_
  refine p_callV X hl.1 (C := RJ5) (As := []) (rest := [.int (nI n)]) (p_coder l a b n f) 0 q1410 q1411 q1412 q111 q1413 hd_coder rfl rfl ⟨Nat.le_of_ble_eq_true rfl, Nat.le_of_ble_eq_true rfl⟩ ⟨rfl, rfl⟩ ⟨Nat.zero_le _, Nat.zero_le _⟩ (Nat.le_of_ble_eq_true rfl) o_SZ.B hZ.1.1 (fun U hU hW => ⟨by rw [hU]; exact hZ.1.moved hW.alike, by rw [hU]; exact hZ.2.moved hW.alike⟩) dJ5_length_6 ?_
  refine lv_ishr X.1 X.2.1 dJ5_length_9 ?_
  have e : nI n >>> ((0 : Int32) &&& 31) = nI n := by
    have := pk_shrN hn ((0 : Int32) &&& 31) 0 (by decide)
    rw [this]; simp
  rw [e]
  exact p_ret X hr hlk rfl dJ5_length_10
theorem hd_slen : yJ5_length.cls = RJ5 ∧ yJ5_length.cls ≠ "java/lang/invoke/MethodHandle" ∧ yJ5_length.cls ≠ "java/lang/invoke/VarHandle" ∧ (parseMethodDescriptor yJ5_length.desc).map (fun d => d.parameters.length) = some 0 := by decide +kernel
/-- String.charAt, within -/
theorem p_schar (l : Launch) (a b n k : Nat) (f : Nat → Int32) (hk : k < n) (hn : n < 2 ^ 31) : p_Mi l yJ5_charAt cJ5_charAt 2 (some .char) { frames := 3, cells := 0, slots := 0, locals := 64 } [.ref a, .int (nI k)] (o_SZ a b n f) (((f k) &&& 255).toUInt32 % 65536).toInt32 := by
  refine p_start (own := RJ5) (lvl := [(0, .ref a), (1, .int (nI k))]) (by decide) rfl (Nat.le_of_ble_eq_true rfl) rfl (fun p e s m args below meth c ls X hr hlk hl hZ => ?_)
  refine lv_aload_n X.1 X.2.1 dJ5_charAt_0 rfl (lv_at hl 0 rfl) ?_
  refine p_callV X hl.1 (C := RJ5) (As := []) (rest := []) (p_isL l a b n f) 0 q599 q600 q601 q111 q602 hd_isL rfl rfl ⟨Nat.le_of_ble_eq_true rfl, Nat.le_of_ble_eq_true rfl⟩ ⟨rfl, rfl⟩ ⟨Nat.zero_le _, Nat.zero_le _⟩ (Nat.le_of_ble_eq_true rfl) o_SZ.B hZ.1.1 (fun U hU hW => ⟨by rw [hU]; exact hZ.1.moved hW.alike, by rw [hU]; exact hZ.2.moved hW.alike⟩) dJ5_charAt_1 ?_
  refine lv_if_eq (tgt := 16) X.1 X.2.1 dJ5_charAt_4 (by decide) (fun c1 => absurd c1 (by decide)) (fun _ => ?_)
  refine lv_aload_n X.1 X.2.1 dJ5_charAt_7 rfl (lv_at hl 0 rfl) ?_
  refine vk_getf (A := o_F) X.1 X.2.1 hZ.1.2.2.1 va_S.rf X.2.2.2.1 (X.2.2.2.2 _ q509) (fun _ h => h) dJ5_charAt_8 ?_
  refine lv_iload_n X.1 X.2.1 dJ5_charAt_11 rfl (lv_at hl 1 rfl) ?_
  refine p_callS X hl.1 (As := [.ref b, .int (nI k)]) (rest := []) (p_lchar l b n k f hk hn) 2 q1479 q1480 q117 q1481 hd_lchar rfl rfl ⟨Nat.le_of_ble_eq_true rfl, Nat.le_of_ble_eq_true rfl⟩ ⟨rfl, rfl⟩ ⟨Nat.zero_le _, Nat.zero_le _⟩ (Nat.le_of_ble_eq_true rfl) o_TZ.B (fun U hU hW => ⟨by rw [hU]; exact hZ.1.2.2.2.moved hW.alike, by rw [hU]; exact hZ.2.moved hW.alike⟩) dJ5_charAt_12 ?_
  exact p_ret X hr hlk (pk_nc _) dJ5_charAt_15
theorem hd_schar : yJ5_charAt.cls = RJ5 ∧ yJ5_charAt.cls ≠ "java/lang/invoke/MethodHandle" ∧ yJ5_charAt.cls ≠ "java/lang/invoke/VarHandle" ∧ (parseMethodDescriptor yJ5_charAt.desc).map (fun d => d.parameters.length) = some 1 := by decide +kernel
