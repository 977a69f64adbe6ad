set_option maxRecDepth 100000
set_option maxHeartbeats 4000000
/-! SwapPress.rounds(II)I -/
def uf_X0_rounds_J37 (n : Nat) (d : UD) (u : UM) (t0 : Int32) : Option ((Int32 × UM) × UC) :=
  some ((t0, u), (0, 0))
def uf_X0_rounds (n : Nat) (d : UD) (u : UM) (t : Nat) (p0 : Int32) (p1 : Int32) : Option ((Int32 × UM) × UC) :=
  m_b (u_cl u 1 t) (fun f1 => m_b (uf_X0_isKind n d u t p0) (fun r4 => m_if ((r4 : Int32) = 0) (some (((-2), u), (0, 0))) (m_b (uf_X0_in n d u ((p1 : Int32).toInt64) 0 99) (fun r7 => m_if ((r7 : Int32) = 0) (uf_X0_rounds_J37 n d u ((-3))) (m_b (u_cl u 1 t) (fun f9 => u_bc u.2 (uf_X0_taken n d u t p0 p1) (fun r12 u13 => m_b (uf_X0_sum n d u13 r12) (fun r18 => uf_X0_rounds_J37 n d u13 r18))))))))
theorem uh_X0_rounds : yX0_rounds.cls = RX0 ∧ yX0_rounds.cls ≠ "java/lang/invoke/MethodHandle" ∧ yX0_rounds.cls ≠ "java/lang/invoke/VarHandle" ∧ (parseMethodDescriptor yX0_rounds.desc).map (fun d => d.parameters.length) = some 2 := by decide +kernel
section S_X0_rounds
variable {p : Program} {l : Launch} {e : Env} {R : Room} {s : State} {m : MethodId} {args : Array Value} {below : List Frame} {meth : Method} {c : Code} {Q : State → Prop} {D : va_G} {A : Nat → Prop} {d : UD}
theorem uw_X0_rounds (X : u_X RX0 D A d p s m c cX0_rounds 3 args) (hA : ∀ q, s.heap.size ≤ q → A q) (hR : 13 ≤ R.frames ∧ 298 ≤ R.locals) (n : Nat) (u : UM) (t : Nat) (p0 : Int32) (p1 : Int32) (r0 : Int32) (ur : UM) (C : UC) (h : uf_X0_rounds n d u t p0 p1 = some ((r0, ur), C)) (hret : ∀ (H : Heap) (locs : List Loc) (ls : Array Slot) (pc cells slots : Nat), decode cX0_rounds pc = .ok (.ireturn, 1) → u_left R cells slots (u_add (0, 0) (0, 0)) → u_I D A s.heap ur H locs cells → W p l e R s m args below meth c H locs cells slots Q (F0 m pc ls [.int r0])) : ∀ (H : Heap) (locs : List Loc) (ls : Array Slot) (cells slots : Nat), u_left R cells slots (u_add C (0, 0)) → u_I D A s.heap u H locs cells → lv_has ls 3 [(0, .ref t), (1, .int p0), (2, .int p1)] → W p l e R s m args below meth c H locs cells slots Q (F0 m 0 ls []) := by
  have k37 : ∀ (u : UM) (t0 : Int32) (H : Heap) (locs : List Loc) (ls : Array Slot) (cells slots : Nat) (C : UC), uf_X0_rounds_J37 n d u t0 = some ((r0, ur), C) → u_left R cells slots (u_add C (0, 0)) → u_I D A s.heap u H locs cells → lv_has ls 3 [] → W p l e R s m args below meth c H locs cells slots Q (F0 m 37 ls [.int t0]) := by
    intro u t0 H locs ls cells slots C h hC I hl
    unfold uf_X0_rounds_J37 at h
    obtain ⟨he, rfl⟩ := m_e3 h
    obtain ⟨rfl, rfl⟩ := m_e4 he
    exact hret H locs ls 37 _ _ dX0_rounds_37 hC I
  intro H locs ls cells slots hC I hl
  unfold uf_X0_rounds at h
  refine lv_aload_n X.1 X.2.1 dX0_rounds_0 rfl (lv_at hl 0 rfl) ?_
  refine lv_iload_n X.1 X.2.1 dX0_rounds_1 rfl (lv_at hl 1 rfl) ?_
  obtain ⟨f1, e2, h⟩ := m_bS h
  obtain ⟨r4, e3, h⟩ := m_bS h
  refine u_callVp X hl.1 I hA (As := [.int p0]) (rest := []) (uk_X0_isKind l n D d u t p0 _ e3) (u_clS e2) (C := RX0) (T := TX0) (N := 9) rfl 1 q875 q877 qs20 q101 q878 uh_X0_isKind rfl rfl ⟨Nat.le_trans (Nat.le_of_ble_eq_true rfl) hR.1, Nat.le_trans (Nat.le_of_ble_eq_true rfl) hR.2⟩ (u_leftLe hC) (stk := [.int r4]) rfl (Nat.le_of_ble_eq_true rfl) dX0_rounds_2 (fun H locs I => ?_)
  refine lv_if_ne (tgt := 11) X.1 X.2.1 dX0_rounds_5 (by decide) (fun c5 => ?_) (fun c5 => ?_)
  · replace h := m_ifF c5 h
    refine lv_iload_n X.1 X.2.1 dX0_rounds_11 rfl (lv_at hl 2 rfl) ?_
    refine lv_i2l X.1 X.2.1 dX0_rounds_12 rfl ?_
    refine lv_lconst (v := 0) X.1 X.2.1 dX0_rounds_13 (by decide) ?_
    refine lv_ldc2 (v := 99) X.1 X.2.1 X.2.2.2.1 (X.2.2.1 _ q1245) dX0_rounds_14 ?_
    obtain ⟨r7, e6, h⟩ := m_bS h
    refine u_callSp X hl.1 I hA (As := [.long ((p1 : Int32).toInt64), .long 0, .long 99]) (rest := []) (uk_X0_in l n D d u ((p1 : Int32).toInt64) 0 99 _ e6) 3 q279 q280 q101 q281 uh_X0_in.2 rfl rfl ⟨Nat.le_trans (Nat.le_of_ble_eq_true rfl) hR.1, Nat.le_trans (Nat.le_of_ble_eq_true rfl) hR.2⟩ (u_leftLe hC) (stk := [.int r7]) rfl (Nat.le_of_ble_eq_true rfl) dX0_rounds_17 (fun H locs I => ?_)
    refine lv_if_eq (tgt := 35) X.1 X.2.1 dX0_rounds_20 (by decide) (fun c8 => ?_) (fun c8 => ?_)
    · replace h := m_ifT c8 h
      refine lv_bipush (v := (-3)) X.1 X.2.1 dX0_rounds_35 (by decide) ?_
      exact k37 u ((-3)) H locs ls _ _ _ h hC I (lv_sub hl [] rfl)
    · replace h := m_ifF c8 h
      refine lv_aload_n X.1 X.2.1 dX0_rounds_23 rfl (lv_at hl 0 rfl) ?_
      refine lv_iload_n X.1 X.2.1 dX0_rounds_24 rfl (lv_at hl 1 rfl) ?_
      refine lv_iload_n X.1 X.2.1 dX0_rounds_25 rfl (lv_at hl 2 rfl) ?_
      obtain ⟨f9, e10, h⟩ := m_bS h
      obtain ⟨r12, u13, C14, C15, e11, z16, h, hq⟩ := u_bcS h
      rw [hq] at hC
      refine u_callV X hl.1 I hA (As := [.int p0, .int p1]) (rest := []) (uk_X0_taken l n D d u t p0 p1 _ _ _ e11) z16 (u_clS e10) (C := RX0) (T := TX0) (N := 9) rfl 2 q1246 q1248 qs34 q101 q1249 uh_X0_taken rfl rfl ⟨Nat.le_trans (Nat.le_of_ble_eq_true rfl) hR.1, Nat.le_trans (Nat.le_of_ble_eq_true rfl) hR.2⟩ hC (stk := [.ref r12]) rfl (Nat.le_of_ble_eq_true rfl) dX0_rounds_26 (fun H locs cells slots hC I => ?_)
      obtain ⟨r18, e17, h⟩ := m_bS h
      refine u_callSp X hl.1 I hA (As := [.ref r12]) (rest := []) (uk_X0_sum l n D d u13 r12 _ e17) 1 q1210 q1211 q101 q1212 uh_X0_sum.2 rfl rfl ⟨Nat.le_trans (Nat.le_of_ble_eq_true rfl) hR.1, Nat.le_trans (Nat.le_of_ble_eq_true rfl) hR.2⟩ (u_leftLe hC) (stk := [.int r18]) rfl (Nat.le_of_ble_eq_true rfl) dX0_rounds_29 (fun H locs I => ?_)
      refine lv_goto (tgt := 37) X.1 X.2.1 dX0_rounds_32 (by decide) ?_
      exact k37 u13 r18 H locs ls _ _ _ h hC I (lv_sub hl [] rfl)
  · replace h := m_ifT c5 h
    refine lv_bipush (v := (-2)) X.1 X.2.1 dX0_rounds_8 (by decide) ?_
    obtain ⟨he, rfl⟩ := m_e3 h
    obtain ⟨rfl, rfl⟩ := m_e4 he
    exact hret H locs ls 10 _ _ dX0_rounds_10 hC I
end S_X0_rounds
theorem uk_X0_rounds (l : Launch) (n : Nat) (D : va_G) (d : UD) (u : UM) (t : Nat) (p0 : Int32) (p1 : Int32) (r0 : Int32) (ur : UM) (C : UC) (h : uf_X0_rounds n d u t p0 p1 = some ((r0, ur), C)) : u_M l yX0_rounds (ws_ yX0_rounds cX0_rounds 3 (some .int)) 13 298 C D d u [.ref t, .int p0, .int p1] (some (.int r0)) ur :=
  u_start (own := RX0) (lvl := [(0, .ref t), (1, .int p0), (2, .int p1)]) (by decide) rfl (Nat.le_of_ble_eq_true rfl) rfl (fun p e s m args below meth c ls X hr hlk hI hl hA I hC => uw_X0_rounds X hA ⟨Nat.le_refl _, Nat.le_refl _⟩ n u t p0 p1 r0 ur C h (fun H locs ls pc cells slots hd hC I => u_iret X I hr hlk (u_leftE hC) hd) _ _ ls _ _ hC I hl)

/-! SwapPress.least(I)I -/
def uf_X0_least_J21 (n : Nat) (d : UD) (u : UM) (t0 : Int32) : Option ((Int32 × UM) × UC) :=
  some ((t0, u), (0, 0))
def uf_X0_least (n : Nat) (d : UD) (u : UM) (t : Nat) (p0 : Int32) : Option ((Int32 × UM) × UC) :=
  m_b (u_cl u 1 t) (fun f1 => m_b (uf_X0_isKind n d u t p0) (fun r4 => m_if ((r4 : Int32) = 0) (uf_X0_least_J21 n d u ((-2))) (m_b (u_cl u 1 t) (fun f6 => u_bc u.2 (uf_X0_pressing n d u t p0) (fun r9 u10 => m_b (u_cl u10 8 r9) (fun f14 => u_bc u10.2 (uf_X8_least n d u10 r9) (fun r17 u18 => uf_X0_least_J21 n d u18 r17)))))))
theorem uh_X0_least : yX0_least.cls = RX0 ∧ yX0_least.cls ≠ "java/lang/invoke/MethodHandle" ∧ yX0_least.cls ≠ "java/lang/invoke/VarHandle" ∧ (parseMethodDescriptor yX0_least.desc).map (fun d => d.parameters.length) = some 1 := by decide +kernel
section S_X0_least
variable {p : Program} {l : Launch} {e : Env} {R : Room} {s : State} {m : MethodId} {args : Array Value} {below : List Frame} {meth : Method} {c : Code} {Q : State → Prop} {D : va_G} {A : Nat → Prop} {d : UD}
theorem uw_X0_least (X : u_X RX0 D A d p s m c cX0_least 2 args) (hA : ∀ q, s.heap.size ≤ q → A q) (hR : 5 ≤ R.frames ∧ 139 ≤ R.locals) (n : Nat) (u : UM) (t : Nat) (p0 : Int32) (r0 : Int32) (ur : UM) (C : UC) (h : uf_X0_least n d u t p0 = some ((r0, ur), C)) (hret : ∀ (H : Heap) (locs : List Loc) (ls : Array Slot) (pc cells slots : Nat), decode cX0_least pc = .ok (.ireturn, 1) → u_left R cells slots (u_add (0, 0) (0, 0)) → u_I D A s.heap ur H locs cells → W p l e R s m args below meth c H locs cells slots Q (F0 m pc ls [.int r0])) : ∀ (H : Heap) (locs : List Loc) (ls : Array Slot) (cells slots : Nat), u_left R cells slots (u_add C (0, 0)) → u_I D A s.heap u H locs cells → lv_has ls 2 [(0, .ref t), (1, .int p0)] → W p l e R s m args below meth c H locs cells slots Q (F0 m 0 ls []) := by
  have k21 : ∀ (u : UM) (t0 : Int32) (H : Heap) (locs : List Loc) (ls : Array Slot) (cells slots : Nat) (C : UC), uf_X0_least_J21 n d u t0 = some ((r0, ur), C) → u_left R cells slots (u_add C (0, 0)) → u_I D A s.heap u H locs cells → lv_has ls 2 [] → W p l e R s m args below meth c H locs cells slots Q (F0 m 21 ls [.int t0]) := by
    intro u t0 H locs ls cells slots C h hC I hl
    unfold uf_X0_least_J21 at h
    obtain ⟨he, rfl⟩ := m_e3 h
    obtain ⟨rfl, rfl⟩ := m_e4 he
    exact hret H locs ls 21 _ _ dX0_least_21 hC I
  intro H locs ls cells slots hC I hl
  unfold uf_X0_least at h
  refine lv_aload_n X.1 X.2.1 dX0_least_0 rfl (lv_at hl 0 rfl) ?_
  refine lv_iload_n X.1 X.2.1 dX0_least_1 rfl (lv_at hl 1 rfl) ?_
  obtain ⟨f1, e2, h⟩ := m_bS h
  obtain ⟨r4, e3, h⟩ := m_bS h
  refine u_callVp X hl.1 I hA (As := [.int p0]) (rest := []) (uk_X0_isKind l n D d u t p0 _ e3) (u_clS e2) (C := RX0) (T := TX0) (N := 9) rfl 1 q875 q877 qs20 q101 q878 uh_X0_isKind rfl rfl ⟨Nat.le_trans (Nat.le_of_ble_eq_true rfl) hR.1, Nat.le_trans (Nat.le_of_ble_eq_true rfl) hR.2⟩ (u_leftLe hC) (stk := [.int r4]) rfl (Nat.le_of_ble_eq_true rfl) dX0_least_2 (fun H locs I => ?_)
  refine lv_if_eq (tgt := 19) X.1 X.2.1 dX0_least_5 (by decide) (fun c5 => ?_) (fun c5 => ?_)
  · replace h := m_ifT c5 h
    refine lv_bipush (v := (-2)) X.1 X.2.1 dX0_least_19 (by decide) ?_
    exact k21 u ((-2)) H locs ls _ _ _ h hC I (lv_sub hl [] rfl)
  · replace h := m_ifF c5 h
    refine lv_aload_n X.1 X.2.1 dX0_least_8 rfl (lv_at hl 0 rfl) ?_
    refine lv_iload_n X.1 X.2.1 dX0_least_9 rfl (lv_at hl 1 rfl) ?_
    obtain ⟨f6, e7, h⟩ := m_bS h
    obtain ⟨r9, u10, C11, C12, e8, z13, h, hq⟩ := u_bcS h
    rw [hq] at hC
    refine u_callV X hl.1 I hA (As := [.int p0]) (rest := []) (uk_X0_pressing l n D d u t p0 _ _ _ e8) z13 (u_clS e7) (C := RX0) (T := TX0) (N := 9) rfl 1 q1267 q1269 qs37 q101 q1270 uh_X0_pressing rfl rfl ⟨Nat.le_trans (Nat.le_of_ble_eq_true rfl) hR.1, Nat.le_trans (Nat.le_of_ble_eq_true rfl) hR.2⟩ hC (stk := [.ref r9]) rfl (Nat.le_of_ble_eq_true rfl) dX0_least_10 (fun H locs cells slots hC I => ?_)
    obtain ⟨f14, e15, h⟩ := m_bS h
    obtain ⟨r17, u18, C19, C20, e16, z21, h, hq⟩ := u_bcS h
    rw [hq] at hC
    refine u_callV X hl.1 I hA (As := []) (rest := []) (uk_X8_least l n D d u10 r9 _ _ _ e16) z21 (u_clS e15) (C := RX8) (T := TX8) (N := 6) rfl 0 q1271 q1272 q1273 q125 q1274 uh_X8_least rfl rfl ⟨Nat.le_trans (Nat.le_of_ble_eq_true rfl) hR.1, Nat.le_trans (Nat.le_of_ble_eq_true rfl) hR.2⟩ hC (stk := [.int r17]) rfl (Nat.le_of_ble_eq_true rfl) dX0_least_13 (fun H locs cells slots hC I => ?_)
    refine lv_goto (tgt := 21) X.1 X.2.1 dX0_least_16 (by decide) ?_
    exact k21 u18 r17 H locs ls _ _ _ h hC I (lv_sub hl [] rfl)
end S_X0_least
theorem uk_X0_least (l : Launch) (n : Nat) (D : va_G) (d : UD) (u : UM) (t : Nat) (p0 : Int32) (r0 : Int32) (ur : UM) (C : UC) (h : uf_X0_least n d u t p0 = some ((r0, ur), C)) : u_M l yX0_least (ws_ yX0_least cX0_least 2 (some .int)) 5 139 C D d u [.ref t, .int p0] (some (.int r0)) ur :=
  u_start (own := RX0) (lvl := [(0, .ref t), (1, .int p0)]) (by decide) rfl (Nat.le_of_ble_eq_true rfl) rfl (fun p e s m args below meth c ls X hr hlk hI hl hA I hC => uw_X0_least X hA ⟨Nat.le_refl _, Nat.le_refl _⟩ n u t p0 r0 ur C h (fun H locs ls pc cells slots hd hC I => u_iret X I hr hlk (u_leftE hC) hd) _ _ ls _ _ hC I hl)

/-! SwapPress.gain(III)I -/
def uf_X0_gain_J60 (n : Nat) (d : UD) (u : UM) (t0 : Int32) : Option ((Int32 × UM) × UC) :=
  some ((t0, u), (0, 0))
def uf_X0_gain (n : Nat) (d : UD) (u : UM) (t : Nat) (p0 : Int32) (p1 : Int32) (p2 : Int32) : Option ((Int32 × UM) × UC) :=
  m_b (u_cl u 1 t) (fun f1 => m_b (uf_X0_areAll n d u t p0 p1 p2) (fun r4 => m_if ((r4 : Int32) = 0) (some (((-2), u), (0, 0))) (m_b (u_cl u 1 t) (fun f6 => u_bc u.2 (uf_X0_pressing n d u t p2) (fun r9 u10 => m_b (u_cl u10 8 r9) (fun f14 => u_bc u10.2 (uf_X8_least n d u10 r9) (fun r17 u18 => m_if ((r17 : Int32) = ((-1) : Int32)) (uf_X0_gain_J60 n d u18 ((-1))) (m_b (u_cl u18 1 t) (fun f23 => u_bc u18.2 (uf_X0_bounds n d u18 t p2) (fun r26 u27 => m_b (u_fc (u_cl u27 9 r26) (uf_X10_of n d u27 r26 p0 p1) (u_fc (u_cl u27 10 r26) (uf_X11_of n d u27 r26 p0 p1) (u_fc (u_cl u27 11 r26) (uf_X12_of n d u27 r26 p0 p1) (u_fc (u_cl u27 12 r26) (uf_X13_of n d u27 r26 p0 p1) (none))))) (fun r31 => m_b (u_cl u27 1 t) (fun f33 => u_bc u27.2 (uf_X0_pressing_2 n d u27 t p2 p0 p1 (r31 + 1)) (fun r36 u37 => m_b (u_cl u37 8 r36) (fun f41 => u_bc u37.2 (uf_X8_least n d u37 r36) (fun r44 u45 => uf_X0_gain_J60 n d u45 (r17 - r44))))))))))))))))
theorem uh_X0_gain : yX0_gain.cls = RX0 ∧ yX0_gain.cls ≠ "java/lang/invoke/MethodHandle" ∧ yX0_gain.cls ≠ "java/lang/invoke/VarHandle" ∧ (parseMethodDescriptor yX0_gain.desc).map (fun d => d.parameters.length) = some 3 := by decide +kernel
section S_X0_gain
variable {p : Program} {l : Launch} {e : Env} {R : Room} {s : State} {m : MethodId} {args : Array Value} {below : List Frame} {meth : Method} {c : Code} {Q : State → Prop} {D : va_G} {A : Nat → Prop} {d : UD}
theorem uw_X0_gain (X : u_X RX0 D A d p s m c cX0_gain 5 args) (hA : ∀ q, s.heap.size ≤ q → A q) (hR : 5 ≤ R.frames ∧ 139 ≤ R.locals) (n : Nat) (u : UM) (t : Nat) (p0 : Int32) (p1 : Int32) (p2 : Int32) (r0 : Int32) (ur : UM) (C : UC) (h : uf_X0_gain n d u t p0 p1 p2 = some ((r0, ur), C)) (hret : ∀ (H : Heap) (locs : List Loc) (ls : Array Slot) (pc cells slots : Nat), decode cX0_gain pc = .ok (.ireturn, 1) → u_left R cells slots (u_add (0, 0) (0, 0)) → u_I D A s.heap ur H locs cells → W p l e R s m args below meth c H locs cells slots Q (F0 m pc ls [.int r0])) : ∀ (H : Heap) (locs : List Loc) (ls : Array Slot) (cells slots : Nat), u_left R cells slots (u_add C (0, 0)) → u_I D A s.heap u H locs cells → lv_has ls 5 [(0, .ref t), (1, .int p0), (2, .int p1), (3, .int p2)] → W p l e R s m args below meth c H locs cells slots Q (F0 m 0 ls []) := by
  have k60 : ∀ (u : UM) (t0 : Int32) (H : Heap) (locs : List Loc) (ls : Array Slot) (cells slots : Nat) (C : UC), uf_X0_gain_J60 n d u t0 = some ((r0, ur), C) → u_left R cells slots (u_add C (0, 0)) → u_I D A s.heap u H locs cells → lv_has ls 5 [] → W p l e R s m args below meth c H locs cells slots Q (F0 m 60 ls [.int t0]) := by
    intro u t0 H locs ls cells slots C h hC I hl
    unfold uf_X0_gain_J60 at h
    obtain ⟨he, rfl⟩ := m_e3 h
    obtain ⟨rfl, rfl⟩ := m_e4 he
    exact hret H locs ls 60 _ _ dX0_gain_60 hC I
  intro H locs ls cells slots hC I hl
  unfold uf_X0_gain at h
  refine lv_aload_n X.1 X.2.1 dX0_gain_0 rfl (lv_at hl 0 rfl) ?_
  refine lv_iload_n X.1 X.2.1 dX0_gain_1 rfl (lv_at hl 1 rfl) ?_
  refine lv_iload_n X.1 X.2.1 dX0_gain_2 rfl (lv_at hl 2 rfl) ?_
  refine lv_iload_n X.1 X.2.1 dX0_gain_3 rfl (lv_at hl 3 rfl) ?_
  obtain ⟨f1, e2, h⟩ := m_bS h
  obtain ⟨r4, e3, h⟩ := m_bS h
  refine u_callVp X hl.1 I hA (As := [.int p0, .int p1, .int p2]) (rest := []) (uk_X0_areAll l n D d u t p0 p1 p2 _ e3) (u_clS e2) (C := RX0) (T := TX0) (N := 9) rfl 3 q1169 q1171 qs31 q101 q1172 uh_X0_areAll rfl rfl ⟨Nat.le_trans (Nat.le_of_ble_eq_true rfl) hR.1, Nat.le_trans (Nat.le_of_ble_eq_true rfl) hR.2⟩ (u_leftLe hC) (stk := [.int r4]) rfl (Nat.le_of_ble_eq_true rfl) dX0_gain_4 (fun H locs I => ?_)
  refine lv_if_ne (tgt := 13) X.1 X.2.1 dX0_gain_7 (by decide) (fun c5 => ?_) (fun c5 => ?_)
  · replace h := m_ifF c5 h
    refine lv_aload_n X.1 X.2.1 dX0_gain_13 rfl (lv_at hl 0 rfl) ?_
    refine lv_iload_n X.1 X.2.1 dX0_gain_14 rfl (lv_at hl 3 rfl) ?_
    obtain ⟨f6, e7, h⟩ := m_bS h
    obtain ⟨r9, u10, C11, C12, e8, z13, h, hq⟩ := u_bcS h
    rw [hq] at hC
    refine u_callV X hl.1 I hA (As := [.int p2]) (rest := []) (uk_X0_pressing l n D d u t p2 _ _ _ e8) z13 (u_clS e7) (C := RX0) (T := TX0) (N := 9) rfl 1 q1267 q1269 qs37 q101 q1270 uh_X0_pressing rfl rfl ⟨Nat.le_trans (Nat.le_of_ble_eq_true rfl) hR.1, Nat.le_trans (Nat.le_of_ble_eq_true rfl) hR.2⟩ hC (stk := [.ref r9]) rfl (Nat.le_of_ble_eq_true rfl) dX0_gain_15 (fun H locs cells slots hC I => ?_)
    obtain ⟨f14, e15, h⟩ := m_bS h
    obtain ⟨r17, u18, C19, C20, e16, z21, h, hq⟩ := u_bcS h
    rw [hq] at hC
    refine u_callV X hl.1 I hA (As := []) (rest := []) (uk_X8_least l n D d u10 r9 _ _ _ e16) z21 (u_clS e15) (C := RX8) (T := TX8) (N := 6) rfl 0 q1271 q1272 q1273 q125 q1274 uh_X8_least rfl rfl ⟨Nat.le_trans (Nat.le_of_ble_eq_true rfl) hR.1, Nat.le_trans (Nat.le_of_ble_eq_true rfl) hR.2⟩ hC (stk := [.int r17]) rfl (Nat.le_of_ble_eq_true rfl) dX0_gain_18 (fun H locs cells slots hC I => ?_)
    refine lv_istore (lv' := [(4, .int r17), (0, .ref t), (1, .int p0), (2, .int p1), (3, .int p2)]) X.1 X.2.1 dX0_gain_21 hl (by decide) rfl (fun ls hl => ?_)
    refine lv_iload X.1 X.2.1 dX0_gain_23 (lv_at hl 0 rfl) ?_
    refine lv_iconst (v := (-1)) X.1 X.2.1 dX0_gain_25 (by decide) ?_
    refine lv_icmp_ne (tgt := 33) X.1 X.2.1 dX0_gain_26 (by decide) (fun c22 => ?_) (fun c22 => ?_)
    · replace h := m_ifF c22 h
      refine lv_iload X.1 X.2.1 dX0_gain_33 (lv_at hl 0 rfl) ?_
      refine lv_aload_n X.1 X.2.1 dX0_gain_35 rfl (lv_at hl 1 rfl) ?_
      refine lv_iload_n X.1 X.2.1 dX0_gain_36 rfl (lv_at hl 4 rfl) ?_
      refine lv_iload_n X.1 X.2.1 dX0_gain_37 rfl (lv_at hl 2 rfl) ?_
      refine lv_iload_n X.1 X.2.1 dX0_gain_38 rfl (lv_at hl 3 rfl) ?_
      refine lv_aload_n X.1 X.2.1 dX0_gain_39 rfl (lv_at hl 1 rfl) ?_
      refine lv_iload_n X.1 X.2.1 dX0_gain_40 rfl (lv_at hl 4 rfl) ?_
      obtain ⟨f23, e24, h⟩ := m_bS h
      obtain ⟨r26, u27, C28, C29, e25, z30, h, hq⟩ := u_bcS h
      rw [hq] at hC
      refine u_callV X hl.1 I hA (As := [.int p2]) (rest := [.int p1, .int p0, .int p2, .ref t, .int r17]) (uk_X0_bounds l n D d u18 t p2 _ _ _ e25) z30 (u_clS e24) (C := RX0) (T := TX0) (N := 9) rfl 1 q1218 q1220 qs33 q101 q1221 uh_X0_bounds rfl rfl ⟨Nat.le_trans (Nat.le_of_ble_eq_true rfl) hR.1, Nat.le_trans (Nat.le_of_ble_eq_true rfl) hR.2⟩ hC (stk := [.ref r26, .int p1, .int p0, .int p2, .ref t, .int r17]) rfl (Nat.le_of_ble_eq_true rfl) dX0_gain_41 (fun H locs cells slots hC I => ?_)
      refine lv_iload_n X.1 X.2.1 dX0_gain_44 rfl (lv_at hl 2 rfl) ?_
      refine lv_iload_n X.1 X.2.1 dX0_gain_45 rfl (lv_at hl 3 rfl) ?_
      obtain ⟨r31, e32, h⟩ := m_bS h
      suffices kq : (∀ (H : Heap) (locs : List Loc), u_I D A s.heap u27 H locs cells → W p l e R s m args below meth c H locs cells slots Q (F0 m 51 ls [.int r31, .int p1, .int p0, .int p2, .ref t, .int r17])) from by
        rcases u_fcS e32 with ⟨f, ef, ee⟩ | e32
        · exact u_callFp X hl.1 I hA (As := [.int p0, .int p1]) (rest := [.int p1, .int p0, .int p2, .ref t, .int r17]) (uk_X10_of l n D d u27 r26 p0 p1 _ ee) (u_clS ef) (C := RX10) (T := TX10) (N := 1) rfl 2 5 rfl q1223 q1092 q1094 q127 q1096 uf_hd_0 rfl rfl ⟨Nat.le_trans (Nat.le_of_ble_eq_true rfl) hR.1, Nat.le_trans (Nat.le_of_ble_eq_true rfl) hR.2⟩ (u_leftLe hC) (stk := [.int r31, .int p1, .int p0, .int p2, .ref t, .int r17]) rfl (Nat.le_of_ble_eq_true rfl) dX0_gain_46 kq
        rcases u_fcS e32 with ⟨f, ef, ee⟩ | e32
        · exact u_callFp X hl.1 I hA (As := [.int p0, .int p1]) (rest := [.int p1, .int p0, .int p2, .ref t, .int r17]) (uk_X11_of l n D d u27 r26 p0 p1 _ ee) (u_clS ef) (C := RX11) (T := TX11) (N := 1) rfl 2 4 rfl q1223 q1086 q1088 q128 q1090 uf_hd_0 rfl rfl ⟨Nat.le_trans (Nat.le_of_ble_eq_true rfl) hR.1, Nat.le_trans (Nat.le_of_ble_eq_true rfl) hR.2⟩ (u_leftLe hC) (stk := [.int r31, .int p1, .int p0, .int p2, .ref t, .int r17]) rfl (Nat.le_of_ble_eq_true rfl) dX0_gain_46 kq
        rcases u_fcS e32 with ⟨f, ef, ee⟩ | e32
        · exact u_callFp X hl.1 I hA (As := [.int p0, .int p1]) (rest := [.int p1, .int p0, .int p2, .ref t, .int r17]) (uk_X12_of l n D d u27 r26 p0 p1 _ ee) (u_clS ef) (C := RX12) (T := TX12) (N := 1) rfl 2 2 rfl q1223 q1072 q1074 q129 q1076 uf_hd_0 rfl rfl ⟨Nat.le_trans (Nat.le_of_ble_eq_true rfl) hR.1, Nat.le_trans (Nat.le_of_ble_eq_true rfl) hR.2⟩ (u_leftLe hC) (stk := [.int r31, .int p1, .int p0, .int p2, .ref t, .int r17]) rfl (Nat.le_of_ble_eq_true rfl) dX0_gain_46 kq
        rcases u_fcS e32 with ⟨f, ef, ee⟩ | e32
        · exact u_callFp X hl.1 I hA (As := [.int p0, .int p1]) (rest := [.int p1, .int p0, .int p2, .ref t, .int r17]) (uk_X13_of l n D d u27 r26 p0 p1 _ ee) (u_clS ef) (C := RX13) (T := TX13) (N := 4) rfl 2 3 rfl q1223 q1078 q1080 q132 q1082 uf_hd_0 rfl rfl ⟨Nat.le_trans (Nat.le_of_ble_eq_true rfl) hR.1, Nat.le_trans (Nat.le_of_ble_eq_true rfl) hR.2⟩ (u_leftLe hC) (stk := [.int r31, .int p1, .int p0, .int p2, .ref t, .int r17]) rfl (Nat.le_of_ble_eq_true rfl) dX0_gain_46 kq
        cases e32
      intro H locs I
      refine lv_iconst (v := 1) X.1 X.2.1 dX0_gain_51 (by decide) ?_
      refine lv_iadd X.1 X.2.1 dX0_gain_52 ?_
      obtain ⟨f33, e34, h⟩ := m_bS h
      obtain ⟨r36, u37, C38, C39, e35, z40, h, hq⟩ := u_bcS h
      rw [hq] at hC
      refine u_callV X hl.1 I hA (As := [.int p2, .int p0, .int p1, .int (r31 + 1)]) (rest := [.int r17]) (uk_X0_pressing_2 l n D d u27 t p2 p0 p1 (r31 + 1) _ _ _ e35) z40 (u_clS e34) (C := RX0) (T := TX0) (N := 9) rfl 4 q1292 q1294 qs38 q101 q1295 uh_X0_pressing_2 rfl rfl ⟨Nat.le_trans (Nat.le_of_ble_eq_true rfl) hR.1, Nat.le_trans (Nat.le_of_ble_eq_true rfl) hR.2⟩ hC (stk := [.ref r36, .int r17]) rfl (Nat.le_of_ble_eq_true rfl) dX0_gain_53 (fun H locs cells slots hC I => ?_)
      obtain ⟨f41, e42, h⟩ := m_bS h
      obtain ⟨r44, u45, C46, C47, e43, z48, h, hq⟩ := u_bcS h
      rw [hq] at hC
      refine u_callV X hl.1 I hA (As := []) (rest := [.int r17]) (uk_X8_least l n D d u37 r36 _ _ _ e43) z48 (u_clS e42) (C := RX8) (T := TX8) (N := 6) rfl 0 q1271 q1272 q1273 q125 q1274 uh_X8_least rfl rfl ⟨Nat.le_trans (Nat.le_of_ble_eq_true rfl) hR.1, Nat.le_trans (Nat.le_of_ble_eq_true rfl) hR.2⟩ hC (stk := [.int r44, .int r17]) rfl (Nat.le_of_ble_eq_true rfl) dX0_gain_56 (fun H locs cells slots hC I => ?_)
      refine lv_isub X.1 X.2.1 dX0_gain_59 ?_
      exact k60 u45 (r17 - r44) H locs ls _ _ _ h hC I (lv_sub hl [] rfl)
    · replace h := m_ifT c22 h
      refine lv_iconst (v := (-1)) X.1 X.2.1 dX0_gain_29 (by decide) ?_
      refine lv_goto (tgt := 60) X.1 X.2.1 dX0_gain_30 (by decide) ?_
      exact k60 u18 ((-1)) H locs ls _ _ _ h hC I (lv_sub hl [] rfl)
  · replace h := m_ifT c5 h
    refine lv_bipush (v := (-2)) X.1 X.2.1 dX0_gain_10 (by decide) ?_
    obtain ⟨he, rfl⟩ := m_e3 h
    obtain ⟨rfl, rfl⟩ := m_e4 he
    exact hret H locs ls 12 _ _ dX0_gain_12 hC I
end S_X0_gain
theorem uk_X0_gain (l : Launch) (n : Nat) (D : va_G) (d : UD) (u : UM) (t : Nat) (p0 : Int32) (p1 : Int32) (p2 : Int32) (r0 : Int32) (ur : UM) (C : UC) (h : uf_X0_gain n d u t p0 p1 p2 = some ((r0, ur), C)) : u_M l yX0_gain (ws_ yX0_gain cX0_gain 5 (some .int)) 5 139 C D d u [.ref t, .int p0, .int p1, .int p2] (some (.int r0)) ur :=
  u_start (own := RX0) (lvl := [(0, .ref t), (1, .int p0), (2, .int p1), (3, .int p2)]) (by decide) rfl (Nat.le_of_ble_eq_true rfl) rfl (fun p e s m args below meth c ls X hr hlk hI hl hA I hC => uw_X0_gain X hA ⟨Nat.le_refl _, Nat.le_refl _⟩ n u t p0 p1 p2 r0 ur C h (fun H locs ls pc cells slots hd hC I => u_iret X I hr hlk (u_leftE hC) hd) _ _ ls _ _ hC I hl)

/-! SwapPress.relief(II)I -/
def uf_X0_relief_J16 (n : Nat) (d : UD) (u : UM) : Option ((Int32 × UM) × UC) :=
  some (((-2), u), (0, 0))
def uf_X0_relief_J44 (n : Nat) (d : UD) (u : UM) (t0 : Int32) : Option ((Int32 × UM) × UC) :=
  some ((t0, u), (0, 0))
def uf_X0_relief (n : Nat) (d : UD) (u : UM) (t : Nat) (p0 : Int32) (p1 : Int32) : Option ((Int32 × UM) × UC) :=
  m_b (u_cl u 1 t) (fun f1 => m_b (uf_X0_isParty n d u t p0) (fun r4 => m_if ((r4 : Int32) = 0) (uf_X0_relief_J16 n d u ) (m_b (u_cl u 1 t) (fun f6 => m_b (uf_X0_isKind n d u t p1) (fun r9 => m_if ((r9 : Int32) = 0) (uf_X0_relief_J16 n d u ) (m_b (u_cl u 1 t) (fun f11 => u_bc u.2 (uf_X0_first n d u t p1) (fun r14 u15 => u_qn r14 (uf_X0_relief_J44 n d u15 ((-1))) (fun a20 => m_b (u_cl u15 1 t) (fun f21 => m_b (uf_X0_reliefOf n d u15 t p0 p1 a20) (fun r24 => uf_X0_relief_J44 n d u15 (100000000 + r24))))))))))))
theorem uh_X0_relief : yX0_relief.cls = RX0 ∧ yX0_relief.cls ≠ "java/lang/invoke/MethodHandle" ∧ yX0_relief.cls ≠ "java/lang/invoke/VarHandle" ∧ (parseMethodDescriptor yX0_relief.desc).map (fun d => d.parameters.length) = some 2 := by decide +kernel
section S_X0_relief
variable {p : Program} {l : Launch} {e : Env} {R : Room} {s : State} {m : MethodId} {args : Array Value} {below : List Frame} {meth : Method} {c : Code} {Q : State → Prop} {D : va_G} {A : Nat → Prop} {d : UD}
theorem uw_X0_relief (X : u_X RX0 D A d p s m c cX0_relief 4 args) (hA : ∀ q, s.heap.size ≤ q → A q) (hR : 7 ≤ R.frames ∧ 185 ≤ R.locals) (n : Nat) (u : UM) (t : Nat) (p0 : Int32) (p1 : Int32) (r0 : Int32) (ur : UM) (C : UC) (h : uf_X0_relief n d u t p0 p1 = some ((r0, ur), C)) (hret : ∀ (H : Heap) (locs : List Loc) (ls : Array Slot) (pc cells slots : Nat), decode cX0_relief pc = .ok (.ireturn, 1) → u_left R cells slots (u_add (0, 0) (0, 0)) → u_I D A s.heap ur H locs cells → W p l e R s m args below meth c H locs cells slots Q (F0 m pc ls [.int r0])) : ∀ (H : Heap) (locs : List Loc) (ls : Array Slot) (cells slots : Nat), u_left R cells slots (u_add C (0, 0)) → u_I D A s.heap u H locs cells → lv_has ls 4 [(0, .ref t), (1, .int p0), (2, .int p1)] → W p l e R s m args below meth c H locs cells slots Q (F0 m 0 ls []) := by
  have k16 : ∀ (u : UM) (H : Heap) (locs : List Loc) (ls : Array Slot) (cells slots : Nat) (C : UC), uf_X0_relief_J16 n d u = some ((r0, ur), C) → u_left R cells slots (u_add C (0, 0)) → u_I D A s.heap u H locs cells → lv_has ls 4 [] → W p l e R s m args below meth c H locs cells slots Q (F0 m 16 ls []) := by
    intro u H locs ls cells slots C h hC I hl
    unfold uf_X0_relief_J16 at h
    refine lv_bipush (v := (-2)) X.1 X.2.1 dX0_relief_16 (by decide) ?_
    obtain ⟨he, rfl⟩ := m_e3 h
    obtain ⟨rfl, rfl⟩ := m_e4 he
    exact hret H locs ls 18 _ _ dX0_relief_18 hC I
  have k44 : ∀ (u : UM) (t0 : Int32) (H : Heap) (locs : List Loc) (ls : Array Slot) (cells slots : Nat) (C : UC), uf_X0_relief_J44 n d u t0 = some ((r0, ur), C) → u_left R cells slots (u_add C (0, 0)) → u_I D A s.heap u H locs cells → lv_has ls 4 [] → W p l e R s m args below meth c H locs cells slots Q (F0 m 44 ls [.int t0]) := by
    intro u t0 H locs ls cells slots C h hC I hl
    unfold uf_X0_relief_J44 at h
    obtain ⟨he, rfl⟩ := m_e3 h
    obtain ⟨rfl, rfl⟩ := m_e4 he
    exact hret H locs ls 44 _ _ dX0_relief_44 hC I
  intro H locs ls cells slots hC I hl
  unfold uf_X0_relief at h
  refine lv_aload_n X.1 X.2.1 dX0_relief_0 rfl (lv_at hl 0 rfl) ?_
  refine lv_iload_n X.1 X.2.1 dX0_relief_1 rfl (lv_at hl 1 rfl) ?_
  obtain ⟨f1, e2, h⟩ := m_bS h
  obtain ⟨r4, e3, h⟩ := m_bS h
  refine u_callVp X hl.1 I hA (As := [.int p0]) (rest := []) (uk_X0_isParty l n D d u t p0 _ e3) (u_clS e2) (C := RX0) (T := TX0) (N := 9) rfl 1 q866 q868 qs19 q101 q869 uh_X0_isParty rfl rfl ⟨Nat.le_trans (Nat.le_of_ble_eq_true rfl) hR.1, Nat.le_trans (Nat.le_of_ble_eq_true rfl) hR.2⟩ (u_leftLe hC) (stk := [.int r4]) rfl (Nat.le_of_ble_eq_true rfl) dX0_relief_2 (fun H locs I => ?_)
  refine lv_if_eq (tgt := 16) X.1 X.2.1 dX0_relief_5 (by decide) (fun c5 => ?_) (fun c5 => ?_)
  · replace h := m_ifT c5 h
    exact k16 u H locs ls _ _ _ h hC I (lv_sub hl [] rfl)
  · replace h := m_ifF c5 h
    refine lv_aload_n X.1 X.2.1 dX0_relief_8 rfl (lv_at hl 0 rfl) ?_
    refine lv_iload_n X.1 X.2.1 dX0_relief_9 rfl (lv_at hl 2 rfl) ?_
    obtain ⟨f6, e7, h⟩ := m_bS h
    obtain ⟨r9, e8, h⟩ := m_bS h
    refine u_callVp X hl.1 I hA (As := [.int p1]) (rest := []) (uk_X0_isKind l n D d u t p1 _ e8) (u_clS e7) (C := RX0) (T := TX0) (N := 9) rfl 1 q875 q877 qs20 q101 q878 uh_X0_isKind rfl rfl ⟨Nat.le_trans (Nat.le_of_ble_eq_true rfl) hR.1, Nat.le_trans (Nat.le_of_ble_eq_true rfl) hR.2⟩ (u_leftLe hC) (stk := [.int r9]) rfl (Nat.le_of_ble_eq_true rfl) dX0_relief_10 (fun H locs I => ?_)
    refine lv_if_ne (tgt := 19) X.1 X.2.1 dX0_relief_13 (by decide) (fun c10 => ?_) (fun c10 => ?_)
    · replace h := m_ifF c10 h
      refine lv_aload_n X.1 X.2.1 dX0_relief_19 rfl (lv_at hl 0 rfl) ?_
      refine lv_iload_n X.1 X.2.1 dX0_relief_20 rfl (lv_at hl 2 rfl) ?_
      obtain ⟨f11, e12, h⟩ := m_bS h
      obtain ⟨r14, u15, C16, C17, e13, z18, h, hq⟩ := u_bcS h
      rw [hq] at hC
      refine u_callV X hl.1 I hA (As := [.int p1]) (rest := []) (uk_X0_first l n D d u t p1 _ _ _ e13) z18 (u_clS e12) (C := RX0) (T := TX0) (N := 9) rfl 1 q1016 q1018 qs27 q101 q1019 uh_X0_first rfl rfl ⟨Nat.le_trans (Nat.le_of_ble_eq_true rfl) hR.1, Nat.le_trans (Nat.le_of_ble_eq_true rfl) hR.2⟩ hC (stk := [va_rf r14]) rfl (Nat.le_of_ble_eq_true rfl) dX0_relief_21 (fun H locs cells slots hC I => ?_)
      refine u_astn (lv' := [(0, .ref t), (1, .int p0), (2, .int p1)]) X.1 X.2.1 dX0_relief_24 rfl hl (by decide) (fun _ => rfl) (fun ls hl => ?_)
      refine u_aldn X.1 X.2.1 dX0_relief_25 rfl (lv_at hl 0 rfl) ?_
      refine u_ifnn (tgt := 33) X.1 X.2.1 dX0_relief_26 (by decide) (fun a20 c19 => ?_) (fun c19 => ?_)
      · rw [c19] at h
        replace h := u_qn1 h
        rw [c19] at hl
        replace hl : lv_has ls 4 [(3, .ref a20), (0, .ref t), (1, .int p0), (2, .int p1)] := hl
        refine lv_ldcw (v := 100000000) X.1 X.2.1 X.2.2.2.1 (X.2.2.1 _ q1181) dX0_relief_33 ?_
        refine lv_aload_n X.1 X.2.1 dX0_relief_36 rfl (lv_at hl 1 rfl) ?_
        refine lv_iload_n X.1 X.2.1 dX0_relief_37 rfl (lv_at hl 2 rfl) ?_
        refine lv_iload_n X.1 X.2.1 dX0_relief_38 rfl (lv_at hl 3 rfl) ?_
        refine lv_aload_n X.1 X.2.1 dX0_relief_39 rfl (lv_at hl 0 rfl) ?_
        obtain ⟨f21, e22, h⟩ := m_bS h
        obtain ⟨r24, e23, h⟩ := m_bS h
        refine u_callVp X hl.1 I hA (As := [.int p0, .int p1, .ref a20]) (rest := [.int 100000000]) (uk_X0_reliefOf l n D d u15 t p0 p1 a20 _ e23) (u_clS e22) (C := RX0) (T := TX0) (N := 9) rfl 3 q1334 q1336 qs39 q101 q1337 uh_X0_reliefOf rfl rfl ⟨Nat.le_trans (Nat.le_of_ble_eq_true rfl) hR.1, Nat.le_trans (Nat.le_of_ble_eq_true rfl) hR.2⟩ (u_leftLe hC) (stk := [.int r24, .int 100000000]) rfl (Nat.le_of_ble_eq_true rfl) dX0_relief_40 (fun H locs I => ?_)
        refine lv_iadd X.1 X.2.1 dX0_relief_43 ?_
        exact k44 u15 (100000000 + r24) H locs ls _ _ _ h hC I (lv_sub hl [] rfl)
      · rw [c19] at h
        replace h := u_qn0 h
        rw [c19] at hl
        replace hl : lv_has ls 4 [(3, .null), (0, .ref t), (1, .int p0), (2, .int p1)] := hl
        refine lv_iconst (v := (-1)) X.1 X.2.1 dX0_relief_29 (by decide) ?_
        refine lv_goto (tgt := 44) X.1 X.2.1 dX0_relief_30 (by decide) ?_
        exact k44 u15 ((-1)) H locs ls _ _ _ h hC I (lv_sub hl [] rfl)
    · replace h := m_ifT c10 h
      exact k16 u H locs ls _ _ _ h hC I (lv_sub hl [] rfl)
end S_X0_relief
theorem uk_X0_relief (l : Launch) (n : Nat) (D : va_G) (d : UD) (u : UM) (t : Nat) (p0 : Int32) (p1 : Int32) (r0 : Int32) (ur : UM) (C : UC) (h : uf_X0_relief n d u t p0 p1 = some ((r0, ur), C)) : u_M l yX0_relief (ws_ yX0_relief cX0_relief 4 (some .int)) 7 185 C D d u [.ref t, .int p0, .int p1] (some (.int r0)) ur :=
  u_start (own := RX0) (lvl := [(0, .ref t), (1, .int p0), (2, .int p1)]) (by decide) rfl (Nat.le_of_ble_eq_true rfl) rfl (fun p e s m args below meth c ls X hr hlk hI hl hA I hC => uw_X0_relief X hA ⟨Nat.le_refl _, Nat.le_refl _⟩ n u t p0 p1 r0 ur C h (fun H locs ls pc cells slots hd hC I => u_iret X I hr hlk (u_leftE hC) hd) _ _ ls _ _ hC I hl)

/-! SwapPress.netOf(II)I -/
def uf_X0_netOf_J43 (n : Nat) (d : UD) (u : UM) (v0 : Nat) (v1 : Int32) (v2 : Int32) (v4 : Int32) (t0 : Int32) (t1 : Int32) : Option ((Int32 × Int32) ⊕ Int32) :=
  some (.inl ((t1 + t0, v4 + 1)))
def uf_X0_netOf_L5 (n : Nat) (d : UD) (u : UM) (v0 : Nat) (v1 : Int32) (v2 : Int32) (v3 : Int32) (v4 : Int32) : Option ((Int32 × Int32) ⊕ Int32) :=
  m_b (u_fr d u 1 0 v0) (fun b1 => m_b (u_cl u 2 b1) (fun f3 => m_b (uf_X1_many n d u b1) (fun r6 => m_if ((r6 : Int32) ≤ (v4 : Int32)) (some (.inr v3)) (m_if (((v1 >>> (v4 &&& 31)) &&& 1 : Int32) = (1 : Int32)) (m_b (u_fr d u 1 0 v0) (fun b9 => m_b (u_cl u 2 b9) (fun f11 => m_b (uf_X1_net n d u b9 v4 v2 1) (fun r14 => uf_X0_netOf_J43 n d u v0 v1 v2 v4 r14 v3)))) (uf_X0_netOf_J43 n d u v0 v1 v2 v4 0 v3)))))
def uf_X0_netOf_L5l (n : Nat) (d : UD) (u : UM) (v0 : Nat) (v1 : Int32) (v2 : Int32) (x : (Int32 × Int32)) : Option Int32 := m_lp (fun (x : (Int32 × Int32)) => uf_X0_netOf_L5 n d u v0 v1 v2 x.1 x.2) n x
def uf_X0_netOf (n : Nat) (d : UD) (u : UM) (t : Nat) (p0 : Int32) (p1 : Int32) : Option Int32 :=
  m_b (uf_X0_netOf_L5l n d u t p0 p1 ((0, 0))) (fun z16 => some z16)
theorem uh_X0_netOf : yX0_netOf.cls = RX0 ∧ yX0_netOf.cls ≠ "java/lang/invoke/MethodHandle" ∧ yX0_netOf.cls ≠ "java/lang/invoke/VarHandle" ∧ (parseMethodDescriptor yX0_netOf.desc).map (fun d => d.parameters.length) = some 2 := by decide +kernel
section S_X0_netOf
variable {p : Program} {l : Launch} {e : Env} {R : Room} {s : State} {m : MethodId} {args : Array Value} {below : List Frame} {meth : Method} {c : Code} {Q : State → Prop} {D : va_G} {A : Nat → Prop} {d : UD} {cells slots : Nat}
theorem wuf_X0_netOf_L5 (X : u_X RX0 D A d p s m c cX0_netOf 5 args) (hA : ∀ q, s.heap.size ≤ q → A q) (hR : 5 ≤ R.frames ∧ 114 ≤ R.locals) (hf : cells ≤ R.cells ∧ slots ≤ R.slots) (n : Nat) (u : UM) (v0 : Nat) (v1 : Int32) (v2 : Int32) (x : (Int32 × Int32)) (z : Int32) (hz : uf_X0_netOf_L5l n d u v0 v1 v2 x = some z) (hE : (fun (z : Int32) => ∀ (H : Heap) (locs : List Loc) (ls : Array Slot), u_I D A s.heap u H locs cells → lv_has ls 5 [(3, .int z)] → W p l e R s m args below meth c H locs cells slots Q (F0 m 51 ls [])) z) : (fun (x : (Int32 × Int32)) => ∀ (H : Heap) (locs : List Loc) (ls : Array Slot), u_I D A s.heap u H locs cells → lv_has ls 5 [(0, .ref v0), (1, .int v1), (2, .int v2), (3, .int x.1), (4, .int x.2)] → W p l e R s m args below meth c H locs cells slots Q (F0 m 5 ls [])) x := by
  refine m_lpW (G := fun (x : (Int32 × Int32)) => ∀ (H : Heap) (locs : List Loc) (ls : Array Slot), u_I D A s.heap u H locs cells → lv_has ls 5 [(0, .ref v0), (1, .int v1), (2, .int v2), (3, .int x.1), (4, .int x.2)] → W p l e R s m args below meth c H locs cells slots Q (F0 m 5 ls [])) (E := fun (z : Int32) => ∀ (H : Heap) (locs : List Loc) (ls : Array Slot), u_I D A s.heap u H locs cells → lv_has ls 5 [(3, .int z)] → W p l e R s m args below meth c H locs cells slots Q (F0 m 51 ls [])) ?_ n x z hz hE
  rintro ⟨v3, v4⟩ r h hr H locs ls I hl
  replace h : uf_X0_netOf_L5 n d u v0 v1 v2 v3 v4 = some r := h
  have k43 : ∀ (v4 : Int32) (t0 : Int32) (t1 : Int32) (H : Heap) (locs : List Loc) (ls : Array Slot), uf_X0_netOf_J43 n d u v0 v1 v2 v4 t0 t1 = some r → u_I D A s.heap u H locs cells → lv_has ls 5 [(0, .ref v0), (1, .int v1), (2, .int v2), (4, .int v4)] → W p l e R s m args below meth c H locs cells slots Q (F0 m 43 ls [.int t0, .int t1]) := by
    intro v4 t0 t1 H locs ls h I hl
    unfold uf_X0_netOf_J43 at h
    refine lv_iadd X.1 X.2.1 dX0_netOf_43 ?_
    refine lv_istore_n (lv' := [(3, .int (t1 + t0)), (0, .ref v0), (1, .int v1), (2, .int v2), (4, .int v4)]) X.1 X.2.1 dX0_netOf_44 rfl hl (by decide) rfl (fun ls hl => ?_)
    refine lv_iinc (v := v4 + 1) (lv' := [(4, .int (v4 + 1)), (3, .int (t1 + t0)), (0, .ref v0), (1, .int v1), (2, .int v2)]) X.1 X.2.1 dX0_netOf_45 hl (k := 4) rfl rfl (by decide) rfl (fun ls hl => ?_)
    refine lv_goto (tgt := 5) X.1 X.2.1 dX0_netOf_48 (by decide) ?_
    cases h
    exact hr H locs ls I (lv_sub hl [2, 3, 4, 1, 0] rfl)
  unfold uf_X0_netOf_L5 at h
  refine lv_iload X.1 X.2.1 dX0_netOf_5 (lv_at hl 4 rfl) ?_
  refine lv_aload_n X.1 X.2.1 dX0_netOf_7 rfl (lv_at hl 0 rfl) ?_
  obtain ⟨b1, e2, h⟩ := m_bS h
  refine u_Gr X I e2 (C := RX0) (T := TX0) (N := 9) (ref := "SwapPress") in_X0 rfl (by decide) rfl rfl q235 (fun _ h => h) dX0_netOf_8 ?_
  obtain ⟨f3, e4, h⟩ := m_bS h
  obtain ⟨r6, e5, h⟩ := m_bS h
  refine u_callVp X hl.1 I hA (As := []) (rest := [.int v4]) (uk_X1_many l n D d u b1 _ e5) (u_clS e4) (C := RX1) (T := TX1) (N := 5) rfl 0 q870 q871 q872 q102 q873 uh_X1_many rfl rfl ⟨Nat.le_trans (Nat.le_of_ble_eq_true rfl) hR.1, Nat.le_trans (Nat.le_of_ble_eq_true rfl) hR.2⟩ hf (stk := [.int r6, .int v4]) rfl (Nat.le_of_ble_eq_true rfl) dX0_netOf_11 (fun H locs I => ?_)
  refine lv_icmp_ge (tgt := 51) X.1 X.2.1 dX0_netOf_14 (by decide) (fun c7 => ?_) (fun c7 => ?_)
  · replace h := m_ifT c7 h
    cases h
    exact hr H locs ls I (lv_sub hl [3] rfl)
  · replace h := m_ifF c7 h
    refine lv_iload_n X.1 X.2.1 dX0_netOf_17 rfl (lv_at hl 3 rfl) ?_
    refine lv_iload_n X.1 X.2.1 dX0_netOf_18 rfl (lv_at hl 1 rfl) ?_
    refine lv_iload X.1 X.2.1 dX0_netOf_19 (lv_at hl 4 rfl) ?_
    refine lv_ishr X.1 X.2.1 dX0_netOf_21 ?_
    refine lv_iconst (v := 1) X.1 X.2.1 dX0_netOf_22 (by decide) ?_
    refine lv_iand X.1 X.2.1 dX0_netOf_23 ?_
    refine lv_iconst (v := 1) X.1 X.2.1 dX0_netOf_24 (by decide) ?_
    refine lv_icmp_ne (tgt := 42) X.1 X.2.1 dX0_netOf_25 (by decide) (fun c8 => ?_) (fun c8 => ?_)
    · replace h := m_ifF c8 h
      refine lv_iconst (v := 0) X.1 X.2.1 dX0_netOf_42 (by decide) ?_
      exact k43 v4 0 v3 H locs ls h I (lv_sub hl [0, 1, 2, 4] rfl)
    · replace h := m_ifT c8 h
      refine lv_aload_n X.1 X.2.1 dX0_netOf_28 rfl (lv_at hl 0 rfl) ?_
      obtain ⟨b9, e10, h⟩ := m_bS h
      refine u_Gr X I e10 (C := RX0) (T := TX0) (N := 9) (ref := "SwapPress") in_X0 rfl (by decide) rfl rfl q235 (fun _ h => h) dX0_netOf_29 ?_
      refine lv_iload X.1 X.2.1 dX0_netOf_32 (lv_at hl 4 rfl) ?_
      refine lv_iload_n X.1 X.2.1 dX0_netOf_34 rfl (lv_at hl 2 rfl) ?_
      refine lv_iconst (v := 1) X.1 X.2.1 dX0_netOf_35 (by decide) ?_
      obtain ⟨f11, e12, h⟩ := m_bS h
      obtain ⟨r14, e13, h⟩ := m_bS h
      refine u_callVp X hl.1 I hA (As := [.int v4, .int v2, .int 1]) (rest := [.int v3]) (uk_X1_net l n D d u b9 v4 v2 1 _ e13) (u_clS e12) (C := RX1) (T := TX1) (N := 5) rfl 3 q1182 q1183 q1184 q102 q1185 uh_X1_net rfl rfl ⟨Nat.le_trans (Nat.le_of_ble_eq_true rfl) hR.1, Nat.le_trans (Nat.le_of_ble_eq_true rfl) hR.2⟩ hf (stk := [.int r14, .int v3]) rfl (Nat.le_of_ble_eq_true rfl) dX0_netOf_36 (fun H locs I => ?_)
      refine lv_goto (tgt := 43) X.1 X.2.1 dX0_netOf_39 (by decide) ?_
      exact k43 v4 r14 v3 H locs ls h I (lv_sub hl [0, 1, 2, 4] rfl)
theorem uw_X0_netOf (X : u_X RX0 D A d p s m c cX0_netOf 5 args) (hA : ∀ q, s.heap.size ≤ q → A q) (hR : 5 ≤ R.frames ∧ 114 ≤ R.locals) (hf : cells ≤ R.cells ∧ slots ≤ R.slots) (n : Nat) (u : UM) (t : Nat) (p0 : Int32) (p1 : Int32) (r : Int32) (h : uf_X0_netOf n d u t p0 p1 = some r) (hret : ∀ (H : Heap) (locs : List Loc) (ls : Array Slot) (pc : Nat), decode cX0_netOf pc = .ok (.ireturn, 1) → u_I D A s.heap u H locs cells → W p l e R s m args below meth c H locs cells slots Q (F0 m pc ls [.int r])) : ∀ (H : Heap) (locs : List Loc) (ls : Array Slot), u_I D A s.heap u H locs cells → lv_has ls 5 [(0, .ref t), (1, .int p0), (2, .int p1)] → W p l e R s m args below meth c H locs cells slots Q (F0 m 0 ls []) := by
  intro H locs ls I hl
  unfold uf_X0_netOf at h
  refine lv_iconst (v := 0) X.1 X.2.1 dX0_netOf_0 (by decide) ?_
  refine lv_istore_n (lv' := [(3, .int 0), (0, .ref t), (1, .int p0), (2, .int p1)]) X.1 X.2.1 dX0_netOf_1 rfl hl (by decide) rfl (fun ls hl => ?_)
  refine lv_iconst (v := 0) X.1 X.2.1 dX0_netOf_2 (by decide) ?_
  refine lv_istore (lv' := [(4, .int 0), (3, .int 0), (0, .ref t), (1, .int p0), (2, .int p1)]) X.1 X.2.1 dX0_netOf_3 hl (by decide) rfl (fun ls hl => ?_)
  obtain ⟨z16, e15, h⟩ := m_bS h
  refine wuf_X0_netOf_L5 X hA hR hf n u t p0 p1 _ _ e15 (fun H locs ls I hl => ?_) H locs ls I (lv_sub hl [2, 3, 4, 1, 0] rfl)
  refine lv_iload_n X.1 X.2.1 dX0_netOf_51 rfl (lv_at hl 0 rfl) ?_
  obtain rfl := m_e1 h
  exact hret H locs ls 52 dX0_netOf_52 I
end S_X0_netOf
theorem uk_X0_netOf (l : Launch) (n : Nat) (D : va_G) (d : UD) (u : UM) (t : Nat) (p0 : Int32) (p1 : Int32) (r : Int32) (h : uf_X0_netOf n d u t p0 p1 = some r) : u_M l yX0_netOf (ws_ yX0_netOf cX0_netOf 5 (some .int)) 5 114 (0, 0) D d u [.ref t, .int p0, .int p1] (some (.int r)) u :=
  u_start (own := RX0) (lvl := [(0, .ref t), (1, .int p0), (2, .int p1)]) (by decide) rfl (Nat.le_of_ble_eq_true rfl) rfl (fun p e s m args below meth c ls X hr hlk hI hl hA I hC => uw_X0_netOf X hA ⟨Nat.le_refl _, Nat.le_refl _⟩ ⟨Nat.zero_le _, Nat.zero_le _⟩ n u t p0 p1 r h (fun H locs ls pc hd I => u_iret X I hr hlk ⟨rfl, rfl⟩ hd) _ _ ls I hl)

/-! SwapPress.even(II)I -/
def uf_X0_even_J29 (n : Nat) (d : UD) (u : UM) : Option Int32 :=
  some ((-2))
def uf_X0_even_J62 (n : Nat) (d : UD) (u : UM) (t0 : Int32) : Option Int32 :=
  some t0
def uf_X0_even_J59 (n : Nat) (d : UD) (u : UM) (t0 : Int32) : Option Int32 :=
  m_b (uf_X0_one n d u t0) (fun r24 => uf_X0_even_J62 n d u r24)
def uf_X0_even (n : Nat) (d : UD) (u : UM) (t : Nat) (p0 : Int32) (p1 : Int32) : Option Int32 :=
  m_b (u_cl u 1 t) (fun f1 => m_b (uf_X0_isKind n d u t p1) (fun r4 => m_if ((r4 : Int32) = 0) (uf_X0_even_J29 n d u ) (m_b (u_fr d u 1 0 t) (fun b6 => m_b (u_cl u 2 b6) (fun f8 => m_b (uf_X1_many n d u b6) (fun r11 => m_b (uf_X0_in n d u ((p0 : Int32).toInt64) 0 (((1 <<< (r11 &&& 31)) - 1 : Int32).toInt64)) (fun r13 => m_if ((r13 : Int32) = 0) (uf_X0_even_J29 n d u ) (m_b (uf_J15_bitCount n d u p0) (fun r16 => m_if ((2 : Int32) ≤ (r16 : Int32)) (m_b (u_cl u 1 t) (fun f18 => m_b (uf_X0_netOf n d u t p0 p1) (fun r21 => m_if ((r21 : Int32) = 0) (uf_X0_even_J59 n d u 1) (uf_X0_even_J59 n d u 0)))) (uf_X0_even_J62 n d u ((-3))))))))))))
theorem uh_X0_even : yX0_even.cls = RX0 ∧ yX0_even.cls ≠ "java/lang/invoke/MethodHandle" ∧ yX0_even.cls ≠ "java/lang/invoke/VarHandle" ∧ (parseMethodDescriptor yX0_even.desc).map (fun d => d.parameters.length) = some 2 := by decide +kernel
section S_X0_even
variable {p : Program} {l : Launch} {e : Env} {R : Room} {s : State} {m : MethodId} {args : Array Value} {below : List Frame} {meth : Method} {c : Code} {Q : State → Prop} {D : va_G} {A : Nat → Prop} {d : UD} {cells slots : Nat}
theorem uw_X0_even (X : u_X RX0 D A d p s m c cX0_even 3 args) (hA : ∀ q, s.heap.size ≤ q → A q) (hR : 6 ≤ R.frames ∧ 138 ≤ R.locals) (hf : cells ≤ R.cells ∧ slots ≤ R.slots) (n : Nat) (u : UM) (t : Nat) (p0 : Int32) (p1 : Int32) (r : Int32) (h : uf_X0_even n d u t p0 p1 = some r) (hret : ∀ (H : Heap) (locs : List Loc) (ls : Array Slot) (pc : Nat), decode cX0_even pc = .ok (.ireturn, 1) → u_I D A s.heap u H locs cells → W p l e R s m args below meth c H locs cells slots Q (F0 m pc ls [.int r])) : ∀ (H : Heap) (locs : List Loc) (ls : Array Slot), u_I D A s.heap u H locs cells → lv_has ls 3 [(0, .ref t), (1, .int p0), (2, .int p1)] → W p l e R s m args below meth c H locs cells slots Q (F0 m 0 ls []) := by
  have k29 : ∀  (H : Heap) (locs : List Loc) (ls : Array Slot), uf_X0_even_J29 n d u = some r → u_I D A s.heap u H locs cells → lv_has ls 3 [] → W p l e R s m args below meth c H locs cells slots Q (F0 m 29 ls []) := by
    intro  H locs ls h I hl
    unfold uf_X0_even_J29 at h
    refine lv_bipush (v := (-2)) X.1 X.2.1 dX0_even_29 (by decide) ?_
    obtain rfl := m_e1 h
    exact hret H locs ls 31 dX0_even_31 I
  have k62 : ∀ (t0 : Int32) (H : Heap) (locs : List Loc) (ls : Array Slot), uf_X0_even_J62 n d u t0 = some r → u_I D A s.heap u H locs cells → lv_has ls 3 [] → W p l e R s m args below meth c H locs cells slots Q (F0 m 62 ls [.int t0]) := by
    intro t0 H locs ls h I hl
    unfold uf_X0_even_J62 at h
    obtain rfl := m_e1 h
    exact hret H locs ls 62 dX0_even_62 I
  have k59 : ∀ (t0 : Int32) (H : Heap) (locs : List Loc) (ls : Array Slot), uf_X0_even_J59 n d u t0 = some r → u_I D A s.heap u H locs cells → lv_has ls 3 [] → W p l e R s m args below meth c H locs cells slots Q (F0 m 59 ls [.int t0]) := by
    intro t0 H locs ls h I hl
    unfold uf_X0_even_J59 at h
    obtain ⟨r24, e23, h⟩ := m_bS h
    refine u_callSp X hl.1 I hA (As := [.int t0]) (rest := []) (uk_X0_one l n D d u t0 _ e23) 1 q932 q933 q101 q934 uh_X0_one.2 rfl rfl ⟨Nat.le_trans (Nat.le_of_ble_eq_true rfl) hR.1, Nat.le_trans (Nat.le_of_ble_eq_true rfl) hR.2⟩ hf (stk := [.int r24]) rfl (Nat.le_of_ble_eq_true rfl) dX0_even_59 (fun H locs I => ?_)
    exact k62 r24 H locs ls h I (lv_sub hl [] rfl)
  intro H locs ls I hl
  unfold uf_X0_even at h
  refine lv_aload_n X.1 X.2.1 dX0_even_0 rfl (lv_at hl 0 rfl) ?_
  refine lv_iload_n X.1 X.2.1 dX0_even_1 rfl (lv_at hl 2 rfl) ?_
  obtain ⟨f1, e2, h⟩ := m_bS h
  obtain ⟨r4, e3, h⟩ := m_bS h
  refine u_callVp X hl.1 I hA (As := [.int p1]) (rest := []) (uk_X0_isKind l n D d u t p1 _ e3) (u_clS e2) (C := RX0) (T := TX0) (N := 9) rfl 1 q875 q877 qs20 q101 q878 uh_X0_isKind rfl rfl ⟨Nat.le_trans (Nat.le_of_ble_eq_true rfl) hR.1, Nat.le_trans (Nat.le_of_ble_eq_true rfl) hR.2⟩ hf (stk := [.int r4]) rfl (Nat.le_of_ble_eq_true rfl) dX0_even_2 (fun H locs I => ?_)
  refine lv_if_eq (tgt := 29) X.1 X.2.1 dX0_even_5 (by decide) (fun c5 => ?_) (fun c5 => ?_)
  · replace h := m_ifT c5 h
    exact k29  H locs ls h I (lv_sub hl [] rfl)
  · replace h := m_ifF c5 h
    refine lv_iload_n X.1 X.2.1 dX0_even_8 rfl (lv_at hl 1 rfl) ?_
    refine lv_i2l X.1 X.2.1 dX0_even_9 rfl ?_
    refine lv_lconst (v := 0) X.1 X.2.1 dX0_even_10 (by decide) ?_
    refine lv_iconst (v := 1) X.1 X.2.1 dX0_even_11 (by decide) ?_
    refine lv_aload_n X.1 X.2.1 dX0_even_12 rfl (lv_at hl 0 rfl) ?_
    obtain ⟨b6, e7, h⟩ := m_bS h
    refine u_Gr X I e7 (C := RX0) (T := TX0) (N := 9) (ref := "SwapPress") in_X0 rfl (by decide) rfl rfl q235 (fun _ h => h) dX0_even_13 ?_
    obtain ⟨f8, e9, h⟩ := m_bS h
    obtain ⟨r11, e10, h⟩ := m_bS h
    refine u_callVp X hl.1 I hA (As := []) (rest := [.int 1, .long 0, .long ((p0 : Int32).toInt64)]) (uk_X1_many l n D d u b6 _ e10) (u_clS e9) (C := RX1) (T := TX1) (N := 5) rfl 0 q870 q871 q872 q102 q873 uh_X1_many rfl rfl ⟨Nat.le_trans (Nat.le_of_ble_eq_true rfl) hR.1, Nat.le_trans (Nat.le_of_ble_eq_true rfl) hR.2⟩ hf (stk := [.int r11, .int 1, .long 0, .long ((p0 : Int32).toInt64)]) rfl (Nat.le_of_ble_eq_true rfl) dX0_even_16 (fun H locs I => ?_)
    refine lv_ishl X.1 X.2.1 dX0_even_19 ?_
    refine lv_iconst (v := 1) X.1 X.2.1 dX0_even_20 (by decide) ?_
    refine lv_isub X.1 X.2.1 dX0_even_21 ?_
    refine lv_i2l X.1 X.2.1 dX0_even_22 rfl ?_
    obtain ⟨r13, e12, h⟩ := m_bS h
    refine u_callSp X hl.1 I hA (As := [.long ((p0 : Int32).toInt64), .long 0, .long (((1 <<< (r11 &&& 31)) - 1 : Int32).toInt64)]) (rest := []) (uk_X0_in l n D d u ((p0 : Int32).toInt64) 0 (((1 <<< (r11 &&& 31)) - 1 : Int32).toInt64) _ e12) 3 q279 q280 q101 q281 uh_X0_in.2 rfl rfl ⟨Nat.le_trans (Nat.le_of_ble_eq_true rfl) hR.1, Nat.le_trans (Nat.le_of_ble_eq_true rfl) hR.2⟩ hf (stk := [.int r13]) rfl (Nat.le_of_ble_eq_true rfl) dX0_even_23 (fun H locs I => ?_)
    refine lv_if_ne (tgt := 32) X.1 X.2.1 dX0_even_26 (by decide) (fun c14 => ?_) (fun c14 => ?_)
    · replace h := m_ifF c14 h
      refine lv_iload_n X.1 X.2.1 dX0_even_32 rfl (lv_at hl 1 rfl) ?_
      obtain ⟨r16, e15, h⟩ := m_bS h
      refine u_callSp X hl.1 I hA (As := [.int p0]) (rest := []) (uk_J15_bitCount l n D d u p0 _ e15) 1 q1199 q1200 q131 q1201 uh_J15_bitCount.2 rfl rfl ⟨Nat.le_trans (Nat.le_of_ble_eq_true rfl) hR.1, Nat.le_trans (Nat.le_of_ble_eq_true rfl) hR.2⟩ hf (stk := [.int r16]) rfl (Nat.le_of_ble_eq_true rfl) dX0_even_33 (fun H locs I => ?_)
      refine lv_iconst (v := 2) X.1 X.2.1 dX0_even_36 (by decide) ?_
      refine lv_icmp_ge (tgt := 45) X.1 X.2.1 dX0_even_37 (by decide) (fun c17 => ?_) (fun c17 => ?_)
      · replace h := m_ifT c17 h
        refine lv_aload_n X.1 X.2.1 dX0_even_45 rfl (lv_at hl 0 rfl) ?_
        refine lv_iload_n X.1 X.2.1 dX0_even_46 rfl (lv_at hl 1 rfl) ?_
        refine lv_iload_n X.1 X.2.1 dX0_even_47 rfl (lv_at hl 2 rfl) ?_
        obtain ⟨f18, e19, h⟩ := m_bS h
        obtain ⟨r21, e20, h⟩ := m_bS h
        refine u_callVp X hl.1 I hA (As := [.int p0, .int p1]) (rest := []) (uk_X0_netOf l n D d u t p0 p1 _ e20) (u_clS e19) (C := RX0) (T := TX0) (N := 9) rfl 2 q1364 q1366 qs41 q101 q1367 uh_X0_netOf rfl rfl ⟨Nat.le_trans (Nat.le_of_ble_eq_true rfl) hR.1, Nat.le_trans (Nat.le_of_ble_eq_true rfl) hR.2⟩ hf (stk := [.int r21]) rfl (Nat.le_of_ble_eq_true rfl) dX0_even_48 (fun H locs I => ?_)
        refine lv_if_ne (tgt := 58) X.1 X.2.1 dX0_even_51 (by decide) (fun c22 => ?_) (fun c22 => ?_)
        · replace h := m_ifF c22 h
          refine lv_iconst (v := 0) X.1 X.2.1 dX0_even_58 (by decide) ?_
          exact k59 0 H locs ls h I (lv_sub hl [] rfl)
        · replace h := m_ifT c22 h
          refine lv_iconst (v := 1) X.1 X.2.1 dX0_even_54 (by decide) ?_
          refine lv_goto (tgt := 59) X.1 X.2.1 dX0_even_55 (by decide) ?_
          exact k59 1 H locs ls h I (lv_sub hl [] rfl)
      · replace h := m_ifF c17 h
        refine lv_bipush (v := (-3)) X.1 X.2.1 dX0_even_40 (by decide) ?_
        refine lv_goto (tgt := 62) X.1 X.2.1 dX0_even_42 (by decide) ?_
        exact k62 ((-3)) H locs ls h I (lv_sub hl [] rfl)
    · replace h := m_ifT c14 h
      exact k29  H locs ls h I (lv_sub hl [] rfl)
end S_X0_even
theorem uk_X0_even (l : Launch) (n : Nat) (D : va_G) (d : UD) (u : UM) (t : Nat) (p0 : Int32) (p1 : Int32) (r : Int32) (h : uf_X0_even n d u t p0 p1 = some r) : u_M l yX0_even (ws_ yX0_even cX0_even 3 (some .int)) 6 138 (0, 0) D d u [.ref t, .int p0, .int p1] (some (.int r)) u :=
  u_start (own := RX0) (lvl := [(0, .ref t), (1, .int p0), (2, .int p1)]) (by decide) rfl (Nat.le_of_ble_eq_true rfl) rfl (fun p e s m args below meth c ls X hr hlk hI hl hA I hC => uw_X0_even X hA ⟨Nat.le_refl _, Nat.le_refl _⟩ ⟨Nat.zero_le _, Nat.zero_le _⟩ n u t p0 p1 r h (fun H locs ls pc hd I => u_iret X I hr hlk ⟨rfl, rfl⟩ hd) _ _ ls I hl)

/-! SwapPress$State.copy()LSwapPress$State; -/
def uf_X1_copy (n : Nat) (d : UD) (u : UM) (t : Nat) : Option ((Nat × UM) × UC) :=
  u_ac (1, 5) (m_b (some (u_nw u (.inr (2, [.null, .null, .null, .null, .int 0])))) (fun u2 => u_bc u2.2 (uf_X1_init n d u2 u.2) (fun r5 u6 => m_b (u_fr d u6 2 0 u.2) (fun b10 => m_b (u_fr d u6 2 0 t) (fun b12 => m_b (u_cl u6 13 b10) (fun f14 => u_bc u6.2 (uf_J2_addAll n d u6 b10 b12) (fun r17 u18 => m_b (u_fr d u18 2 1 u.2) (fun b22 => m_b (u_fr d u18 2 1 t) (fun b24 => m_b (u_cl u18 13 b22) (fun f26 => u_bc u18.2 (uf_J2_addAll n d u18 b22 b24) (fun r29 u30 => m_b (u_fr d u30 2 2 u.2) (fun b34 => m_b (u_fr d u30 2 2 t) (fun b36 => m_b (u_cl u30 13 b34) (fun f38 => u_bc u30.2 (uf_J2_addAll n d u30 b34 b36) (fun r41 u42 => m_b (u_fr d u42 2 3 t) (fun b46 => m_b (u_fr d u42 2 3 u.2) (fun b48 => m_b (u_fr d u42 2 3 t) (fun b50 => m_b (u_lnI d u42 0 b50) (fun b52 => m_b (u_xcI d u42 b46 0 b48 0 b52) (fun w54 => m_b (u_fi d (w54, u42.2) 2 4 t) (fun b56 => m_b (u_pf (w54, u42.2) 2 4 u.2 (.int b56)) (fun w58 => some ((u.2, (w58, u42.2)), (0, 0))))))))))))))))))))))))
theorem uh_X1_copy : yX1_copy.cls = RX1 ∧ yX1_copy.cls ≠ "java/lang/invoke/MethodHandle" ∧ yX1_copy.cls ≠ "java/lang/invoke/VarHandle" ∧ (parseMethodDescriptor yX1_copy.desc).map (fun d => d.parameters.length) = some 0 := by decide +kernel
section S_X1_copy
variable {p : Program} {l : Launch} {e : Env} {R : Room} {s : State} {m : MethodId} {args : Array Value} {below : List Frame} {meth : Method} {c : Code} {Q : State → Prop} {D : va_G} {A : Nat → Prop} {d : UD}
theorem uw_X1_copy (X : u_X RX1 D A d p s m c cX1_copy 2 args) (hA : ∀ q, s.heap.size ≤ q → A q) (hR : 5 ≤ R.frames ∧ 152 ≤ R.locals) (n : Nat) (u : UM) (t : Nat) (r0 : Nat) (ur : UM) (C : UC) (h : uf_X1_copy n d u t = some ((r0, ur), C)) (hret : ∀ (H : Heap) (locs : List Loc) (ls : Array Slot) (pc cells slots : Nat), decode cX1_copy pc = .ok (.areturn, 1) → u_left R cells slots (u_add (0, 0) (0, 0)) → u_I D A s.heap ur H locs cells → W p l e R s m args below meth c H locs cells slots Q (F0 m pc ls [.ref r0])) : ∀ (H : Heap) (locs : List Loc) (ls : Array Slot) (cells slots : Nat), u_left R cells slots (u_add C (0, 0)) → u_I D A s.heap u H locs cells → lv_has ls 2 [(0, .ref t)] → W p l e R s m args below meth c H locs cells slots Q (F0 m 0 ls []) := by
  intro H locs ls cells slots hC I hl
  unfold uf_X1_copy at h
  obtain ⟨C1, h, hq⟩ := u_acS h
  rw [hq] at hC
  obtain ⟨u2, e3, h⟩ := m_bS h
  refine u_NO X I hA 2 (C := RX1) (T := TX1) (N := 5) in_X1 tyX1 tyX1_ok q897 q142 q102 rfl (fs := [.null, .null, .null, .null, .int 0]) e3 (fun j hj => by match j, hj with | 0, _ => rfl | 1, _ => rfl | 2, _ => rfl | 3, _ => rfl | 4, _ => rfl) hC dX1_copy_0 (fun H cells slots hC I => ?_)
  refine lv_dup X.1 X.2.1 dX1_copy_3 rfl ?_
  obtain ⟨r5, u6, C7, C8, e4, z9, h, hq⟩ := u_bcS h
  rw [hq] at hC
  refine u_callI X hl.1 I hA (As := []) (rest := [.ref u.2]) (uk_X1_init l n D d u2 u.2 _ _ e4) z9 0 q898 q144 q102 q145 rfl uh_X1_init.2 rfl rfl ⟨Nat.le_trans (Nat.le_of_ble_eq_true rfl) hR.1, Nat.le_trans (Nat.le_of_ble_eq_true rfl) hR.2⟩ hC (Nat.le_of_ble_eq_true rfl) dX1_copy_4 (fun H locs cells slots hC I => ?_)
  refine lv_astore_n (lv' := [(1, .ref u.2), (0, .ref t)]) X.1 X.2.1 dX1_copy_7 rfl hl (by decide) rfl (fun ls hl => ?_)
  refine lv_aload_n X.1 X.2.1 dX1_copy_8 rfl (lv_at hl 0 rfl) ?_
  obtain ⟨b10, e11, h⟩ := m_bS h
  refine u_Gr X I e11 (C := RX1) (T := TX1) (N := 5) (ref := "SwapPress$State") in_X1 rfl (by decide) rfl rfl q174 (fun _ h => h) dX1_copy_9 ?_
  refine lv_aload_n X.1 X.2.1 dX1_copy_12 rfl (lv_at hl 1 rfl) ?_
  obtain ⟨b12, e13, h⟩ := m_bS h
  refine u_Gr X I e13 (C := RX1) (T := TX1) (N := 5) (ref := "SwapPress$State") in_X1 rfl (by decide) rfl rfl q174 (fun _ h => h) dX1_copy_13 ?_
  obtain ⟨f14, e15, h⟩ := m_bS h
  obtain ⟨r17, u18, C19, C20, e16, z21, h, hq⟩ := u_bcS h
  rw [hq] at hC
  refine u_callV X hl.1 I hA (As := [.ref b12]) (rest := []) (uk_J2_addAll l n D d u6 b10 b12 _ _ _ e16) z21 (u_clS e15) (C := RJ2) (T := TJ2) (N := 3) rfl 1 q899 q900 q901 q105 q902 uh_J2_addAll rfl rfl ⟨Nat.le_trans (Nat.le_of_ble_eq_true rfl) hR.1, Nat.le_trans (Nat.le_of_ble_eq_true rfl) hR.2⟩ hC (stk := [.int r17]) rfl (Nat.le_of_ble_eq_true rfl) dX1_copy_16 (fun H locs cells slots hC I => ?_)
  refine lv_pop X.1 X.2.1 dX1_copy_19 rfl ?_
  refine lv_aload_n X.1 X.2.1 dX1_copy_20 rfl (lv_at hl 0 rfl) ?_
  obtain ⟨b22, e23, h⟩ := m_bS h
  refine u_Gr X I e23 (C := RX1) (T := TX1) (N := 5) (ref := "SwapPress$State") in_X1 rfl (by decide) rfl rfl q177 (fun _ h => h) dX1_copy_21 ?_
  refine lv_aload_n X.1 X.2.1 dX1_copy_24 rfl (lv_at hl 1 rfl) ?_
  obtain ⟨b24, e25, h⟩ := m_bS h
  refine u_Gr X I e25 (C := RX1) (T := TX1) (N := 5) (ref := "SwapPress$State") in_X1 rfl (by decide) rfl rfl q177 (fun _ h => h) dX1_copy_25 ?_
  obtain ⟨f26, e27, h⟩ := m_bS h
  obtain ⟨r29, u30, C31, C32, e28, z33, h, hq⟩ := u_bcS h
  rw [hq] at hC
  refine u_callV X hl.1 I hA (As := [.ref b24]) (rest := []) (uk_J2_addAll l n D d u18 b22 b24 _ _ _ e28) z33 (u_clS e27) (C := RJ2) (T := TJ2) (N := 3) rfl 1 q899 q900 q901 q105 q902 uh_J2_addAll rfl rfl ⟨Nat.le_trans (Nat.le_of_ble_eq_true rfl) hR.1, Nat.le_trans (Nat.le_of_ble_eq_true rfl) hR.2⟩ hC (stk := [.int r29]) rfl (Nat.le_of_ble_eq_true rfl) dX1_copy_28 (fun H locs cells slots hC I => ?_)
  refine lv_pop X.1 X.2.1 dX1_copy_31 rfl ?_
  refine lv_aload_n X.1 X.2.1 dX1_copy_32 rfl (lv_at hl 0 rfl) ?_
  obtain ⟨b34, e35, h⟩ := m_bS h
  refine u_Gr X I e35 (C := RX1) (T := TX1) (N := 5) (ref := "SwapPress$State") in_X1 rfl (by decide) rfl rfl q180 (fun _ h => h) dX1_copy_33 ?_
  refine lv_aload_n X.1 X.2.1 dX1_copy_36 rfl (lv_at hl 1 rfl) ?_
  obtain ⟨b36, e37, h⟩ := m_bS h
  refine u_Gr X I e37 (C := RX1) (T := TX1) (N := 5) (ref := "SwapPress$State") in_X1 rfl (by decide) rfl rfl q180 (fun _ h => h) dX1_copy_37 ?_
  obtain ⟨f38, e39, h⟩ := m_bS h
  obtain ⟨r41, u42, C43, C44, e40, z45, h, hq⟩ := u_bcS h
  rw [hq] at hC
  refine u_callV X hl.1 I hA (As := [.ref b36]) (rest := []) (uk_J2_addAll l n D d u30 b34 b36 _ _ _ e40) z45 (u_clS e39) (C := RJ2) (T := TJ2) (N := 3) rfl 1 q899 q900 q901 q105 q902 uh_J2_addAll rfl rfl ⟨Nat.le_trans (Nat.le_of_ble_eq_true rfl) hR.1, Nat.le_trans (Nat.le_of_ble_eq_true rfl) hR.2⟩ hC (stk := [.int r41]) rfl (Nat.le_of_ble_eq_true rfl) dX1_copy_40 (fun H locs cells slots hC I => ?_)
  refine lv_pop X.1 X.2.1 dX1_copy_43 rfl ?_
  refine lv_aload_n X.1 X.2.1 dX1_copy_44 rfl (lv_at hl 1 rfl) ?_
  obtain ⟨b46, e47, h⟩ := m_bS h
  refine u_Gr X I e47 (C := RX1) (T := TX1) (N := 5) (ref := "SwapPress$State") in_X1 rfl (by decide) rfl rfl q183 (fun _ h => h) dX1_copy_45 ?_
  refine lv_iconst (v := 0) X.1 X.2.1 dX1_copy_48 (by decide) ?_
  refine lv_aload_n X.1 X.2.1 dX1_copy_49 rfl (lv_at hl 0 rfl) ?_
  obtain ⟨b48, e49, h⟩ := m_bS h
  refine u_Gr X I e49 (C := RX1) (T := TX1) (N := 5) (ref := "SwapPress$State") in_X1 rfl (by decide) rfl rfl q183 (fun _ h => h) dX1_copy_50 ?_
  refine lv_iconst (v := 0) X.1 X.2.1 dX1_copy_53 (by decide) ?_
  refine lv_aload_n X.1 X.2.1 dX1_copy_54 rfl (lv_at hl 1 rfl) ?_
  obtain ⟨b50, e51, h⟩ := m_bS h
  refine u_Gr X I e51 (C := RX1) (T := TX1) (N := 5) (ref := "SwapPress$State") in_X1 rfl (by decide) rfl rfl q183 (fun _ h => h) dX1_copy_55 ?_
  obtain ⟨b52, e53, h⟩ := m_bS h
  refine u_LN X I (by decide) e53 dX1_copy_58 ?_
  obtain ⟨w54, e55, h⟩ := m_bS h
  refine u_CI X hl.1 I q913 q405 q404 q116 e55 (Nat.le_trans (Nat.le_of_ble_eq_true rfl) hR.1) (Nat.le_trans (Nat.le_of_ble_eq_true rfl) hR.2) (Nat.le_of_ble_eq_true rfl) dX1_copy_59 (fun H locs I => ?_)
  refine lv_aload_n X.1 X.2.1 dX1_copy_62 rfl (lv_at hl 0 rfl) ?_
  refine lv_aload_n X.1 X.2.1 dX1_copy_63 rfl (lv_at hl 1 rfl) ?_
  obtain ⟨b56, e57, h⟩ := m_bS h
  refine u_Gi X I e57 (C := RX1) (T := TX1) (N := 5) (ref := "SwapPress$State") in_X1 rfl (by decide) rfl rfl q186 (fun _ h => h) dX1_copy_64 ?_
  obtain ⟨w58, e59, h⟩ := m_bS h
  refine u_P X I e59 (C := RX1) (T := TX1) (N := 5) (ref := "SwapPress$State") in_X1 tyX1 tyX1_ok nmX1 rfl (by decide) rfl rfl q186 (fun _ h => h) rfl rfl rfl dX1_copy_67 (fun H locs I => ?_)
  refine lv_aload_n X.1 X.2.1 dX1_copy_70 rfl (lv_at hl 0 rfl) ?_
  obtain ⟨he, rfl⟩ := m_e3 h
  obtain ⟨rfl, rfl⟩ := m_e4 he
  exact hret H locs ls 71 _ _ dX1_copy_71 hC I
end S_X1_copy
theorem uk_X1_copy (l : Launch) (n : Nat) (D : va_G) (d : UD) (u : UM) (t : Nat) (r0 : Nat) (ur : UM) (C : UC) (h : uf_X1_copy n d u t = some ((r0, ur), C)) : u_M l yX1_copy (ws_ yX1_copy cX1_copy 2 (some (.object "SwapPress$State"))) 5 152 C D d u [.ref t] (some (.ref r0)) ur :=
  u_start (own := RX1) (lvl := [(0, .ref t)]) (by decide) rfl (Nat.le_of_ble_eq_true rfl) rfl (fun p e s m args below meth c ls X hr hlk hI hl hA I hC => uw_X1_copy X hA ⟨Nat.le_refl _, Nat.le_refl _⟩ n u t r0 ur C h (fun H locs ls pc cells slots hd hC I => u_aret (r := some r0) X I hr (Or.inl ⟨_, rfl⟩) hlk (u_leftE hC) hd) _ _ ls _ _ hC I hl)

/-! java/util/ArrayList.contains(Ljava/lang/Object;)Z -/
def uf_J2_contains_J13 (n : Nat) (d : UD) (u : UM) (t0 : Int32) : Option Int32 :=
  m_g (m_01 t0) (some t0)
def uf_J2_contains (n : Nat) (d : UD) (u : UM) (t : Nat) (p0 : Nat) : Option Int32 :=
  m_b (u_cl u 13 t) (fun f1 => m_b (uf_J2_indexOf n d u t p0) (fun r4 => m_if ((r4 : Int32) < 0) (uf_J2_contains_J13 n d u 0) (uf_J2_contains_J13 n d u 1)))
theorem uh_J2_contains : yJ2_contains.cls = RJ2 ∧ yJ2_contains.cls ≠ "java/lang/invoke/MethodHandle" ∧ yJ2_contains.cls ≠ "java/lang/invoke/VarHandle" ∧ (parseMethodDescriptor yJ2_contains.desc).map (fun d => d.parameters.length) = some 1 := by decide +kernel
section S_J2_contains
variable {p : Program} {l : Launch} {e : Env} {R : Room} {s : State} {m : MethodId} {args : Array Value} {below : List Frame} {meth : Method} {c : Code} {Q : State → Prop} {D : va_G} {A : Nat → Prop} {d : UD} {cells slots : Nat}
theorem uw_J2_contains (X : u_X RJ2 D A d p s m c cJ2_contains 2 args) (hA : ∀ q, s.heap.size ≤ q → A q) (hR : 4 ≤ R.frames ∧ 90 ≤ R.locals) (hf : cells ≤ R.cells ∧ slots ≤ R.slots) (n : Nat) (u : UM) (t : Nat) (p0 : Nat) (r : Int32) (h : uf_J2_contains n d u t p0 = some r) (hret : ∀ (H : Heap) (locs : List Loc) (ls : Array Slot) (pc : Nat), m_01 r = true → decode cJ2_contains pc = .ok (.ireturn, 1) → u_I D A s.heap u H locs cells → W p l e R s m args below meth c H locs cells slots Q (F0 m pc ls [.int r])) : ∀ (H : Heap) (locs : List Loc) (ls : Array Slot), u_I D A s.heap u H locs cells → lv_has ls 2 [(0, .ref t), (1, .ref p0)] → W p l e R s m args below meth c H locs cells slots Q (F0 m 0 ls []) := by
  have k13 : ∀ (t0 : Int32) (H : Heap) (locs : List Loc) (ls : Array Slot), uf_J2_contains_J13 n d u t0 = some r → u_I D A s.heap u H locs cells → lv_has ls 2 [] → W p l e R s m args below meth c H locs cells slots Q (F0 m 13 ls [.int t0]) := by
    intro t0 H locs ls h I hl
    unfold uf_J2_contains_J13 at h
    obtain ⟨g6, h⟩ := m_gS h
    obtain rfl := m_e1 h
    exact hret H locs ls 13 g6 dJ2_contains_13 I
  intro H locs ls I hl
  unfold uf_J2_contains at h
  refine lv_aload_n X.1 X.2.1 dJ2_contains_0 rfl (lv_at hl 0 rfl) ?_
  refine lv_aload_n X.1 X.2.1 dJ2_contains_1 rfl (lv_at hl 1 rfl) ?_
  obtain ⟨f1, e2, h⟩ := m_bS h
  obtain ⟨r4, e3, h⟩ := m_bS h
  refine u_callVp X hl.1 I hA (As := [.ref p0]) (rest := []) (uk_J2_indexOf l n D d u t p0 _ e3) (u_clS e2) (C := RJ2) (T := TJ2) (N := 3) rfl 1 q689 q690 q691 q105 q692 uh_J2_indexOf rfl rfl ⟨Nat.le_trans (Nat.le_of_ble_eq_true rfl) hR.1, Nat.le_trans (Nat.le_of_ble_eq_true rfl) hR.2⟩ hf (stk := [.int r4]) rfl (Nat.le_of_ble_eq_true rfl) dJ2_contains_2 (fun H locs I => ?_)
  refine lv_if_lt (tgt := 12) X.1 X.2.1 dJ2_contains_5 (by decide) (fun c5 => ?_) (fun c5 => ?_)
  · replace h := m_ifT c5 h
    refine lv_iconst (v := 0) X.1 X.2.1 dJ2_contains_12 (by decide) ?_
    exact k13 0 H locs ls h I (lv_sub hl [] rfl)
  · replace h := m_ifF c5 h
    refine lv_iconst (v := 1) X.1 X.2.1 dJ2_contains_8 (by decide) ?_
    refine lv_goto (tgt := 13) X.1 X.2.1 dJ2_contains_9 (by decide) ?_
    exact k13 1 H locs ls h I (lv_sub hl [] rfl)
end S_J2_contains
theorem uk_J2_contains (l : Launch) (n : Nat) (D : va_G) (d : UD) (u : UM) (t : Nat) (p0 : Nat) (r : Int32) (h : uf_J2_contains n d u t p0 = some r) : u_M l yJ2_contains (ws_ yJ2_contains cJ2_contains 2 (some .boolean)) 4 90 (0, 0) D d u [.ref t, .ref p0] (some (.int r)) u :=
  u_start (own := RJ2) (lvl := [(0, .ref t), (1, .ref p0)]) (by decide) rfl (Nat.le_of_ble_eq_true rfl) rfl (fun p e s m args below meth c ls X hr hlk hI hl hA I hC => uw_J2_contains X hA ⟨Nat.le_refl _, Nat.le_refl _⟩ ⟨Nat.zero_le _, Nat.zero_le _⟩ n u t p0 r h (fun H locs ls pc g hd I => u_zret X I hr hlk g ⟨rfl, rfl⟩ hd) _ _ ls I hl)

/-! java/util/ArrayList.add(Ljava/lang/Object;[Ljava/lang/Object;I)V -/
def uf_J2_add_2_J11 (n : Nat) (d : UD) (u : UM) (v0 : Nat) (v1 : Nat) (v2 : Nat) (v3 : Int32) : Option ((Unit × UM) × UC) :=
  m_g (u_el u v1) (m_b (u_stQ d u v2 v3 (some v1)) (fun w4 => m_b (u_pf (w4, u.2) 13 2 v0 (.int (v3 + 1))) (fun w7 => some (((), (w7, u.2)), (0, 0)))))
def uf_J2_add_2 (n : Nat) (d : UD) (u : UM) (t : Nat) (p0 : Nat) (p1 : Nat) (p2 : Int32) : Option ((Unit × UM) × UC) :=
  m_b (u_lnI d u 4 p1) (fun b1 => m_if ((p2 : Int32) = (b1 : Int32)) (m_b (u_cl u 13 t) (fun f9 => u_bc u.2 (uf_J2_grow n d u t) (fun r12 u13 => uf_J2_add_2_J11 n d u13 t p0 r12 p2))) (uf_J2_add_2_J11 n d u t p0 p1 p2))
theorem uh_J2_add_2 : yJ2_add_2.cls = RJ2 ∧ yJ2_add_2.cls ≠ "java/lang/invoke/MethodHandle" ∧ yJ2_add_2.cls ≠ "java/lang/invoke/VarHandle" ∧ (parseMethodDescriptor yJ2_add_2.desc).map (fun d => d.parameters.length) = some 3 := by decide +kernel
section S_J2_add_2
variable {p : Program} {l : Launch} {e : Env} {R : Room} {s : State} {m : MethodId} {args : Array Value} {below : List Frame} {meth : Method} {c : Code} {Q : State → Prop} {D : va_G} {A : Nat → Prop} {d : UD}
theorem uw_J2_add_2 (X : u_X RJ2 D A d p s m c cJ2_add_2 4 args) (hA : ∀ q, s.heap.size ≤ q → A q) (hR : 5 ≤ R.frames ∧ 147 ≤ R.locals) (n : Nat) (u : UM) (t : Nat) (p0 : Nat) (p1 : Nat) (p2 : Int32) (r0 : Unit) (ur : UM) (C : UC) (h : uf_J2_add_2 n d u t p0 p1 p2 = some ((r0, ur), C)) (hret : ∀ (H : Heap) (locs : List Loc) (ls : Array Slot) (pc cells slots : Nat), decode cJ2_add_2 pc = .ok (.return_, 1) → u_left R cells slots (u_add (0, 0) (0, 0)) → u_I D A s.heap ur H locs cells → W p l e R s m args below meth c H locs cells slots Q (F0 m pc ls [])) : ∀ (H : Heap) (locs : List Loc) (ls : Array Slot) (cells slots : Nat), u_left R cells slots (u_add C (0, 0)) → u_I D A s.heap u H locs cells → lv_has ls 4 [(0, .ref t), (1, .ref p0), (2, .ref p1), (3, .int p2)] → W p l e R s m args below meth c H locs cells slots Q (F0 m 0 ls []) := by
  have k11 : ∀ (u : UM) (v0 : Nat) (v1 : Nat) (v2 : Nat) (v3 : Int32) (H : Heap) (locs : List Loc) (ls : Array Slot) (cells slots : Nat) (C : UC), uf_J2_add_2_J11 n d u v0 v1 v2 v3 = some ((r0, ur), C) → u_left R cells slots (u_add C (0, 0)) → u_I D A s.heap u H locs cells → lv_has ls 4 [(0, .ref v0), (1, .ref v1), (2, .ref v2), (3, .int v3)] → W p l e R s m args below meth c H locs cells slots Q (F0 m 11 ls []) := by
    intro u v0 v1 v2 v3 H locs ls cells slots C h hC I hl
    unfold uf_J2_add_2_J11 at h
    refine lv_aload_n X.1 X.2.1 dJ2_add_2_11 rfl (lv_at hl 2 rfl) ?_
    refine lv_iload_n X.1 X.2.1 dJ2_add_2_12 rfl (lv_at hl 3 rfl) ?_
    refine lv_aload_n X.1 X.2.1 dJ2_add_2_13 rfl (lv_at hl 1 rfl) ?_
    obtain ⟨g5, h⟩ := m_gS h
    obtain ⟨w4, e6, h⟩ := m_bS h
    refine u_SQ X I g5 e6 dJ2_add_2_14 (fun H locs I => ?_)
    refine lv_aload_n X.1 X.2.1 dJ2_add_2_15 rfl (lv_at hl 0 rfl) ?_
    refine lv_iload_n X.1 X.2.1 dJ2_add_2_16 rfl (lv_at hl 3 rfl) ?_
    refine lv_iconst (v := 1) X.1 X.2.1 dJ2_add_2_17 (by decide) ?_
    refine lv_iadd X.1 X.2.1 dJ2_add_2_18 ?_
    obtain ⟨w7, e8, h⟩ := m_bS h
    refine u_P X I e8 (C := RJ2) (T := TJ2) (N := 3) (ref := "java/util/ArrayList") in_J2 tyJ2 tyJ2_ok nmJ2 rfl (by decide) rfl rfl q162 (fun _ h => h) rfl rfl rfl dJ2_add_2_19 (fun H locs I => ?_)
    obtain ⟨he, rfl⟩ := m_e3 h
    obtain ⟨rfl, rfl⟩ := m_e4 he
    exact hret H locs ls 22 _ _ dJ2_add_2_22 hC I
  intro H locs ls cells slots hC I hl
  unfold uf_J2_add_2 at h
  refine lv_iload_n X.1 X.2.1 dJ2_add_2_0 rfl (lv_at hl 3 rfl) ?_
  refine lv_aload_n X.1 X.2.1 dJ2_add_2_1 rfl (lv_at hl 2 rfl) ?_
  obtain ⟨b1, e2, h⟩ := m_bS h
  refine u_LN X I (by decide) e2 dJ2_add_2_2 ?_
  refine lv_icmp_ne (tgt := 11) X.1 X.2.1 dJ2_add_2_3 (by decide) (fun c3 => ?_) (fun c3 => ?_)
  · replace h := m_ifF c3 h
    exact k11 u t p0 p1 p2 H locs ls _ _ _ h hC I (lv_sub hl [0, 1, 2, 3] rfl)
  · replace h := m_ifT c3 h
    refine lv_aload_n X.1 X.2.1 dJ2_add_2_6 rfl (lv_at hl 0 rfl) ?_
    obtain ⟨f9, e10, h⟩ := m_bS h
    obtain ⟨r12, u13, C14, C15, e11, z16, h, hq⟩ := u_bcS h
    rw [hq] at hC
    refine u_callV X hl.1 I hA (As := []) (rest := []) (uk_J2_grow l n D d u t _ _ _ e11) z16 (u_clS e10) (C := RJ2) (T := TJ2) (N := 3) rfl 0 q726 q728 qs10 q105 q729 uh_J2_grow rfl rfl ⟨Nat.le_trans (Nat.le_of_ble_eq_true rfl) hR.1, Nat.le_trans (Nat.le_of_ble_eq_true rfl) hR.2⟩ hC (stk := [.ref r12]) rfl (Nat.le_of_ble_eq_true rfl) dJ2_add_2_7 (fun H locs cells slots hC I => ?_)
    refine lv_astore_n (lv' := [(2, .ref r12), (0, .ref t), (1, .ref p0), (3, .int p2)]) X.1 X.2.1 dJ2_add_2_10 rfl hl (by decide) rfl (fun ls hl => ?_)
    exact k11 u13 t p0 r12 p2 H locs ls _ _ _ h hC I (lv_sub hl [1, 2, 0, 3] rfl)
end S_J2_add_2
theorem uk_J2_add_2 (l : Launch) (n : Nat) (D : va_G) (d : UD) (u : UM) (t : Nat) (p0 : Nat) (p1 : Nat) (p2 : Int32) (ur : UM) (C : UC) (h : uf_J2_add_2 n d u t p0 p1 p2 = some (((), ur), C)) : u_M l yJ2_add_2 (ws_ yJ2_add_2 cJ2_add_2 4 none) 5 147 C D d u [.ref t, .ref p0, .ref p1, .int p2] none ur :=
  u_start (own := RJ2) (lvl := [(0, .ref t), (1, .ref p0), (2, .ref p1), (3, .int p2)]) (by decide) rfl (Nat.le_of_ble_eq_true rfl) rfl (fun p e s m args below meth c ls X hr hlk hI hl hA I hC => uw_J2_add_2 X hA ⟨Nat.le_refl _, Nat.le_refl _⟩ n u t p0 p1 p2 () ur C h (fun H locs ls pc cells slots hd hC I => u_vret X I hr hlk (u_leftE hC) hd) _ _ ls _ _ hC I hl)

/-! java/lang/String.<init>(Ljava/lang/StringBuilder;)V -/
def uf_J5_init (n : Nat) (d : UD) (u : UM) (t : Nat) (p0 : Nat) : Option ((Unit × UM) × UC) :=
  u_bc u.2 (uf_J5_init_2 n d u t p0 none) (fun r2 u3 => some (((), u3), (0, 0)))
theorem uh_J5_init : yJ5_init.cls = RJ5 ∧ yJ5_init.cls ≠ "java/lang/invoke/MethodHandle" ∧ yJ5_init.cls ≠ "java/lang/invoke/VarHandle" ∧ (parseMethodDescriptor yJ5_init.desc).map (fun d => d.parameters.length) = some 1 := by decide +kernel
section S_J5_init
variable {p : Program} {l : Launch} {e : Env} {R : Room} {s : State} {m : MethodId} {args : Array Value} {below : List Frame} {meth : Method} {c : Code} {Q : State → Prop} {D : va_G} {A : Nat → Prop} {d : UD}
theorem uw_J5_init (X : u_X RJ5 D A d p s m c cJ5_init 2 args) (hA : ∀ q, s.heap.size ≤ q → A q) (hR : 4 ≤ R.frames ∧ 130 ≤ R.locals) (hI : meth.name = "<init>") (n : Nat) (u : UM) (t : Nat) (p0 : Nat) (r0 : Unit) (ur : UM) (C : UC) (h : uf_J5_init n d u t p0 = some ((r0, ur), C)) (hret : ∀ (H : Heap) (locs : List Loc) (ls : Array Slot) (pc cells slots : Nat), decode cJ5_init pc = .ok (.return_, 1) → u_left R cells slots (u_add (0, 0) (0, 0)) → u_I D A s.heap ur H locs cells → W p l e R s m args below meth c H locs cells slots Q (F0 m pc ls [])) : ∀ (H : Heap) (locs : List Loc) (ls : Array Slot) (cells slots : Nat), u_left R cells slots (u_add C (0, 0)) → u_I D A s.heap u H locs cells → lv_has ls 2 [(0, .ref t), (1, .ref p0)] → W p l e R s m args below meth c H locs cells slots Q (F0 m 0 ls []) := by
  intro H locs ls cells slots hC I hl
  unfold uf_J5_init at h
  refine lv_aload_n X.1 X.2.1 dJ5_init_0 rfl (lv_at hl 0 rfl) ?_
  refine lv_aload_n X.1 X.2.1 dJ5_init_1 rfl (lv_at hl 1 rfl) ?_
  refine lv_null X.1 X.2.1 dJ5_init_2 ?_
  obtain ⟨r2, u3, C4, C5, e1, z6, h, hq⟩ := u_bcS h
  rw [hq] at hC
  refine u_callI X hl.1 I hA (As := [.ref p0, .null]) (rest := []) (uk_J5_init_2 l n D d u t p0 none _ _ e1) z6 2 q468 q469 q111 q470 rfl uh_J5_init_2.2 rfl rfl ⟨Nat.le_trans (Nat.le_of_ble_eq_true rfl) hR.1, Nat.le_trans (Nat.le_of_ble_eq_true rfl) hR.2⟩ hC (Nat.le_of_ble_eq_true rfl) dJ5_init_3 (fun H locs cells slots hC I => ?_)
  obtain ⟨he, rfl⟩ := m_e3 h
  obtain ⟨rfl, rfl⟩ := m_e4 he
  exact hret H locs ls 6 _ _ dJ5_init_6 hC I
end S_J5_init
theorem uk_J5_init (l : Launch) (n : Nat) (D : va_G) (d : UD) (u : UM) (t : Nat) (p0 : Nat) (ur : UM) (C : UC) (h : uf_J5_init n d u t p0 = some (((), ur), C)) : u_M l yJ5_init (ws_ yJ5_init cJ5_init 2 none) 4 130 C D d u [.ref t, .ref p0] none ur :=
  u_start (own := RJ5) (lvl := [(0, .ref t), (1, .ref p0)]) (by decide) rfl (Nat.le_of_ble_eq_true rfl) rfl (fun p e s m args below meth c ls X hr hlk hI hl hA I hC => uw_J5_init X hA ⟨Nat.le_refl _, Nat.le_refl _⟩ hI n u t p0 () ur C h (fun H locs ls pc cells slots hd hC I => u_vret X I hr hlk (u_leftE hC) hd) _ _ ls _ _ hC I hl)

/-! SwapPress.groups(II)I -/
def uf_X0_groups_J72 (n : Nat) (d : UD) (u : UM) (v0 : Nat) (v1 : Int32) (v2 : Int32) (v3 : Nat) (v4 : Int32) (v5 : Int32) (v6 : Int32) : Option (((Int32 × Int32 × UM) ⊕ (Int32 × UM)) × UC) :=
  some (.inl ((v4, v6 + 1, u)), (0, 0))
def uf_X0_groups_L36 (n : Nat) (d : UD) (v0 : Nat) (v1 : Int32) (v2 : Int32) (v3 : Nat) (v5 : Int32) (v4 : Int32) (v6 : Int32) (u : UM) : Option (((Int32 × Int32 × UM) ⊕ (Int32 × UM)) × UC) :=
  m_if ((8 : Int32) ≤ (v6 : Int32)) (some (.inr ((v4, u)), (0, 0))) (m_if (((v5 >>> (v6 &&& 31)) &&& 1 : Int32) = (1 : Int32)) (m_b (u_ldI d u v3 (v5 &&& ((1 <<< (v6 &&& 31)) ^^^ ((-1))))) (fun b9 => m_b (some (if (v4 : Int32) < (b9 : Int32) then (b9 : Int32) else (v4 : Int32))) (fun y11 => uf_X0_groups_J72 n d u v0 v1 v2 v3 y11 v5 v6))) (uf_X0_groups_J72 n d u v0 v1 v2 v3 v4 v5 v6))
def uf_X0_groups_L36l (n : Nat) (d : UD) (v0 : Nat) (v1 : Int32) (v2 : Int32) (v3 : Nat) (v5 : Int32) (x : (Int32 × Int32 × UM)) : Option ((Int32 × UM) × UC) := u_lp (fun (x : (Int32 × Int32 × UM)) => uf_X0_groups_L36 n d v0 v1 v2 v3 v5 x.1 x.2.1 x.2.2) n x
def uf_X0_groups_J103 (n : Nat) (d : UD) (u : UM) (v0 : Nat) (v1 : Int32) (v2 : Int32) (v3 : Nat) (v5 : Int32) : Option (((Int32 × UM) ⊕ UM) × UC) :=
  some (.inl ((v5 + 1, u)), (0, 0))
def uf_X0_groups_J98 (n : Nat) (d : UD) (u : UM) (v0 : Nat) (v1 : Int32) (v2 : Int32) (v3 : Nat) (v5 : Int32) (t0 : Int32) (t1 : Int32) (t2 : Int32) (t3 : Nat) : Option (((Int32 × UM) ⊕ UM) × UC) :=
  m_b (uf_X0_one n d u t0) (fun r22 => m_b (u_stI d u t3 t2 (t1 + r22)) (fun w23 => uf_X0_groups_J103 n d (w23, u.2) v0 v1 v2 v3 v5))
def uf_X0_groups_L12 (n : Nat) (d : UD) (v0 : Nat) (v1 : Int32) (v2 : Int32) (v3 : Nat) (v5 : Int32) (u : UM) : Option (((Int32 × UM) ⊕ UM) × UC) :=
  m_if ((v2 : Int32) < (v5 : Int32)) (some (.inr u, (0, 0))) (m_if ((v5 &&& (v2 ^^^ ((-1))) : Int32) = 0) (u_bl (uf_X0_groups_L36l n d v0 v1 v2 v3 v5 ((0, 0, u))) (fun y25 => m_b (u_cl y25.2 1 v0) (fun f16 => m_b (uf_X0_netOf n d y25.2 v0 v5 v1) (fun r19 => m_if ((r19 : Int32) = 0) (uf_X0_groups_J98 n d y25.2 v0 v1 v2 v3 v5 1 y25.1 v5 v3) (uf_X0_groups_J98 n d y25.2 v0 v1 v2 v3 v5 0 y25.1 v5 v3))))) (uf_X0_groups_J103 n d u v0 v1 v2 v3 v5))
def uf_X0_groups_L12l (n : Nat) (d : UD) (v0 : Nat) (v1 : Int32) (v2 : Int32) (v3 : Nat) (x : (Int32 × UM)) : Option (UM × UC) := u_lp (fun (x : (Int32 × UM)) => uf_X0_groups_L12 n d v0 v1 v2 v3 x.1 x.2) n x
def uf_X0_groups (n : Nat) (d : UD) (u : UM) (t : Nat) (p0 : Int32) (p1 : Int32) : Option ((Int32 × UM) × UC) :=
  m_g (u_ln 256) (u_ac (1, (256 : Int32).toNatClampNeg) (m_b (some (u_nw u (.inl (d.1 0, (256 : Int32).toNatClampNeg, .inl (fun _ => 0))))) (fun u2 => u_bl (uf_X0_groups_L12l n d t p0 p1 u.2 ((1, u2))) (fun u29 => m_b (u_ldI d u29 u.2 p1) (fun b30 => some ((b30, u29), (0, 0)))))))
theorem uh_X0_groups : yX0_groups.cls = RX0 ∧ yX0_groups.cls ≠ "java/lang/invoke/MethodHandle" ∧ yX0_groups.cls ≠ "java/lang/invoke/VarHandle" ∧ (parseMethodDescriptor yX0_groups.desc).map (fun d => d.parameters.length) = some 2 := by decide +kernel
section S_X0_groups
variable {p : Program} {l : Launch} {e : Env} {R : Room} {s : State} {m : MethodId} {args : Array Value} {below : List Frame} {meth : Method} {c : Code} {Q : State → Prop} {D : va_G} {A : Nat → Prop} {d : UD}
theorem wuf_X0_groups_L36 (X : u_X RX0 D A d p s m c cX0_groups 7 args) (hA : ∀ q, s.heap.size ≤ q → A q) (hR : 6 ≤ R.frames ∧ 138 ≤ R.locals) (n : Nat) (v0 : Nat) (v1 : Int32) (v2 : Int32) (v3 : Nat) (v5 : Int32) (x : (Int32 × Int32 × UM)) (z : (Int32 × UM)) (C cr : UC) (hz : uf_X0_groups_L36l n d v0 v1 v2 v3 v5 x = some (z, C)) (hE : (fun (z : (Int32 × UM)) (C : UC) => ∀ (H : Heap) (locs : List Loc) (ls : Array Slot) (cells slots : Nat), u_left R cells slots C → u_I D A s.heap z.2 H locs cells → lv_has ls 7 [(0, .ref v0), (1, .int v1), (2, .int v2), (3, .ref v3), (4, .int z.1), (5, .int v5)] → W p l e R s m args below meth c H locs cells slots Q (F0 m 78 ls [])) z cr) : (fun (x : (Int32 × Int32 × UM)) (C : UC) => ∀ (H : Heap) (locs : List Loc) (ls : Array Slot) (cells slots : Nat), u_left R cells slots C → u_I D A s.heap x.2.2 H locs cells → lv_has ls 7 [(0, .ref v0), (1, .int v1), (2, .int v2), (3, .ref v3), (4, .int x.1), (5, .int v5), (6, .int x.2.1)] → W p l e R s m args below meth c H locs cells slots Q (F0 m 36 ls [])) x (u_add C cr) := by
  refine u_lpW (G := fun (x : (Int32 × Int32 × UM)) (C : UC) => ∀ (H : Heap) (locs : List Loc) (ls : Array Slot) (cells slots : Nat), u_left R cells slots C → u_I D A s.heap x.2.2 H locs cells → lv_has ls 7 [(0, .ref v0), (1, .int v1), (2, .int v2), (3, .ref v3), (4, .int x.1), (5, .int v5), (6, .int x.2.1)] → W p l e R s m args below meth c H locs cells slots Q (F0 m 36 ls [])) (E := fun (z : (Int32 × UM)) (C : UC) => ∀ (H : Heap) (locs : List Loc) (ls : Array Slot) (cells slots : Nat), u_left R cells slots C → u_I D A s.heap z.2 H locs cells → lv_has ls 7 [(0, .ref v0), (1, .int v1), (2, .int v2), (3, .ref v3), (4, .int z.1), (5, .int v5)] → W p l e R s m args below meth c H locs cells slots Q (F0 m 78 ls [])) ?_ n x z C cr hz hE
  rintro ⟨v4, v6, u⟩ r C cr h hr H locs ls cells slots hC I hl
  replace h : uf_X0_groups_L36 n d v0 v1 v2 v3 v5 v4 v6 u = some (r, C) := h
  have k72 : ∀ (u : UM) (v4 : Int32) (v6 : Int32) (H : Heap) (locs : List Loc) (ls : Array Slot) (cells slots : Nat) (C : UC), uf_X0_groups_J72 n d u v0 v1 v2 v3 v4 v5 v6 = some (r, C) → u_left R cells slots (u_add C cr) → u_I D A s.heap u H locs cells → lv_has ls 7 [(0, .ref v0), (1, .int v1), (2, .int v2), (3, .ref v3), (4, .int v4), (5, .int v5), (6, .int v6)] → W p l e R s m args below meth c H locs cells slots Q (F0 m 72 ls []) := by
    intro u v4 v6 H locs ls cells slots C h hC I hl
    unfold uf_X0_groups_J72 at h
    refine lv_iinc (v := v6 + 1) (lv' := [(6, .int (v6 + 1)), (0, .ref v0), (1, .int v1), (2, .int v2), (3, .ref v3), (4, .int v4), (5, .int v5)]) X.1 X.2.1 dX0_groups_72 hl (k := 6) rfl rfl (by decide) rfl (fun ls hl => ?_)
    refine lv_goto (tgt := 36) X.1 X.2.1 dX0_groups_75 (by decide) ?_
    obtain ⟨rfl, rfl⟩ := m_e3 h
    exact hr H locs ls _ _ (u_left0 hC) I (lv_sub hl [1, 2, 3, 4, 5, 6, 0] rfl)
  unfold uf_X0_groups_L36 at h
  refine lv_iload X.1 X.2.1 dX0_groups_36 (lv_at hl 6 rfl) ?_
  refine lv_bipush (v := 8) X.1 X.2.1 dX0_groups_38 (by decide) ?_
  refine lv_icmp_ge (tgt := 78) X.1 X.2.1 dX0_groups_40 (by decide) (fun c7 => ?_) (fun c7 => ?_)
  · replace h := m_ifT c7 h
    obtain ⟨rfl, rfl⟩ := m_e3 h
    exact hr H locs ls _ _ (u_left0 hC) I (lv_sub hl [0, 1, 2, 3, 4, 5] rfl)
  · replace h := m_ifF c7 h
    refine lv_iload X.1 X.2.1 dX0_groups_43 (lv_at hl 5 rfl) ?_
    refine lv_iload X.1 X.2.1 dX0_groups_45 (lv_at hl 6 rfl) ?_
    refine lv_ishr X.1 X.2.1 dX0_groups_47 ?_
    refine lv_iconst (v := 1) X.1 X.2.1 dX0_groups_48 (by decide) ?_
    refine lv_iand X.1 X.2.1 dX0_groups_49 ?_
    refine lv_iconst (v := 1) X.1 X.2.1 dX0_groups_50 (by decide) ?_
    refine lv_icmp_ne (tgt := 72) X.1 X.2.1 dX0_groups_51 (by decide) (fun c8 => ?_) (fun c8 => ?_)
    · replace h := m_ifF c8 h
      exact k72 u v4 v6 H locs ls _ _ _ h hC I (lv_sub hl [0, 1, 2, 3, 4, 5, 6] rfl)
    · replace h := m_ifT c8 h
      refine lv_iload X.1 X.2.1 dX0_groups_54 (lv_at hl 4 rfl) ?_
      refine lv_aload_n X.1 X.2.1 dX0_groups_56 rfl (lv_at hl 3 rfl) ?_
      refine lv_iload X.1 X.2.1 dX0_groups_57 (lv_at hl 5 rfl) ?_
      refine lv_iconst (v := 1) X.1 X.2.1 dX0_groups_59 (by decide) ?_
      refine lv_iload X.1 X.2.1 dX0_groups_60 (lv_at hl 6 rfl) ?_
      refine lv_ishl X.1 X.2.1 dX0_groups_62 ?_
      refine lv_iconst (v := (-1)) X.1 X.2.1 dX0_groups_63 (by decide) ?_
      refine lv_ixor X.1 X.2.1 dX0_groups_64 ?_
      refine lv_iand X.1 X.2.1 dX0_groups_65 ?_
      obtain ⟨b9, e10, h⟩ := m_bS h
      refine u_LI X I e10 dX0_groups_66 ?_
      refine va_mmax X.1 X.2.1 (X.2.2.2.2.2.1.trans hl.1.symm) X.2.2.2.1 (X.2.2.1 _ q1213) (X.2.2.1 _ q383) (X.2.2.1 _ q114) (X.2.2.1 _ q384) (Nat.le_trans (Nat.le_of_ble_eq_true rfl) hR.1) (Nat.le_trans (Nat.le_of_ble_eq_true rfl) hR.2) (u_leftLe hC).1 (u_leftLe hC).2 dX0_groups_67 ?_
      obtain ⟨y11, e12, h⟩ := m_bS h
      rw [m_e1 e12]
      refine lv_istore (lv' := [(4, .int y11), (0, .ref v0), (1, .int v1), (2, .int v2), (3, .ref v3), (5, .int v5), (6, .int v6)]) X.1 X.2.1 dX0_groups_70 hl (by decide) rfl (fun ls hl => ?_)
      exact k72 u y11 v6 H locs ls _ _ _ h hC I (lv_sub hl [1, 2, 3, 4, 0, 5, 6] rfl)
theorem wuf_X0_groups_L12 (X : u_X RX0 D A d p s m c cX0_groups 7 args) (hA : ∀ q, s.heap.size ≤ q → A q) (hR : 6 ≤ R.frames ∧ 138 ≤ R.locals) (n : Nat) (v0 : Nat) (v1 : Int32) (v2 : Int32) (v3 : Nat) (x : (Int32 × UM)) (z : UM) (C cr : UC) (hz : uf_X0_groups_L12l n d v0 v1 v2 v3 x = some (z, C)) (hE : (fun (z : UM) (C : UC) => ∀ (H : Heap) (locs : List Loc) (ls : Array Slot) (cells slots : Nat), u_left R cells slots C → u_I D A s.heap z H locs cells → lv_has ls 7 [(2, .int v2), (3, .ref v3)] → W p l e R s m args below meth c H locs cells slots Q (F0 m 109 ls [])) z cr) : (fun (x : (Int32 × UM)) (C : UC) => ∀ (H : Heap) (locs : List Loc) (ls : Array Slot) (cells slots : Nat), u_left R cells slots C → u_I D A s.heap x.2 H locs cells → lv_has ls 7 [(0, .ref v0), (1, .int v1), (2, .int v2), (3, .ref v3), (5, .int x.1)] → W p l e R s m args below meth c H locs cells slots Q (F0 m 12 ls [])) x (u_add C cr) := by
  refine u_lpW (G := fun (x : (Int32 × UM)) (C : UC) => ∀ (H : Heap) (locs : List Loc) (ls : Array Slot) (cells slots : Nat), u_left R cells slots C → u_I D A s.heap x.2 H locs cells → lv_has ls 7 [(0, .ref v0), (1, .int v1), (2, .int v2), (3, .ref v3), (5, .int x.1)] → W p l e R s m args below meth c H locs cells slots Q (F0 m 12 ls [])) (E := fun (z : UM) (C : UC) => ∀ (H : Heap) (locs : List Loc) (ls : Array Slot) (cells slots : Nat), u_left R cells slots C → u_I D A s.heap z H locs cells → lv_has ls 7 [(2, .int v2), (3, .ref v3)] → W p l e R s m args below meth c H locs cells slots Q (F0 m 109 ls [])) ?_ n x z C cr hz hE
  rintro ⟨v5, u⟩ r C cr h hr H locs ls cells slots hC I hl
  replace h : uf_X0_groups_L12 n d v0 v1 v2 v3 v5 u = some (r, C) := h
  have k103 : ∀ (u : UM) (v5 : Int32) (H : Heap) (locs : List Loc) (ls : Array Slot) (cells slots : Nat) (C : UC), uf_X0_groups_J103 n d u v0 v1 v2 v3 v5 = some (r, C) → u_left R cells slots (u_add C cr) → u_I D A s.heap u H locs cells → lv_has ls 7 [(0, .ref v0), (1, .int v1), (2, .int v2), (3, .ref v3), (5, .int v5)] → W p l e R s m args below meth c H locs cells slots Q (F0 m 103 ls []) := by
    intro u v5 H locs ls cells slots C h hC I hl
    unfold uf_X0_groups_J103 at h
    refine lv_iinc (v := v5 + 1) (lv' := [(5, .int (v5 + 1)), (0, .ref v0), (1, .int v1), (2, .int v2), (3, .ref v3)]) X.1 X.2.1 dX0_groups_103 hl (k := 4) rfl rfl (by decide) rfl (fun ls hl => ?_)
    refine lv_goto (tgt := 12) X.1 X.2.1 dX0_groups_106 (by decide) ?_
    obtain ⟨rfl, rfl⟩ := m_e3 h
    exact hr H locs ls _ _ (u_left0 hC) I (lv_sub hl [1, 2, 3, 4, 0] rfl)
  have k98 : ∀ (u : UM) (v5 : Int32) (t0 : Int32) (t1 : Int32) (t2 : Int32) (t3 : Nat) (H : Heap) (locs : List Loc) (ls : Array Slot) (cells slots : Nat) (C : UC), uf_X0_groups_J98 n d u v0 v1 v2 v3 v5 t0 t1 t2 t3 = some (r, C) → u_left R cells slots (u_add C cr) → u_I D A s.heap u H locs cells → lv_has ls 7 [(0, .ref v0), (1, .int v1), (2, .int v2), (3, .ref v3), (5, .int v5)] → W p l e R s m args below meth c H locs cells slots Q (F0 m 98 ls [.int t0, .int t1, .int t2, .ref t3]) := by
    intro u v5 t0 t1 t2 t3 H locs ls cells slots C h hC I hl
    unfold uf_X0_groups_J98 at h
    obtain ⟨r22, e21, h⟩ := m_bS h
    refine u_callSp X hl.1 I hA (As := [.int t0]) (rest := [.int t1, .int t2, .ref t3]) (uk_X0_one l n D d u t0 _ e21) 1 q932 q933 q101 q934 uh_X0_one.2 rfl rfl ⟨Nat.le_trans (Nat.le_of_ble_eq_true rfl) hR.1, Nat.le_trans (Nat.le_of_ble_eq_true rfl) hR.2⟩ (u_leftLe hC) (stk := [.int r22, .int t1, .int t2, .ref t3]) rfl (Nat.le_of_ble_eq_true rfl) dX0_groups_98 (fun H locs I => ?_)
    refine lv_iadd X.1 X.2.1 dX0_groups_101 ?_
    obtain ⟨w23, e24, h⟩ := m_bS h
    refine u_SI X I e24 dX0_groups_102 (fun H locs I => ?_)
    exact k103 (w23, u.2) v5 H locs ls _ _ _ h hC I (lv_sub hl [0, 1, 2, 3, 4] rfl)
  unfold uf_X0_groups_L12 at h
  refine lv_iload X.1 X.2.1 dX0_groups_12 (lv_at hl 4 rfl) ?_
  refine lv_iload_n X.1 X.2.1 dX0_groups_14 rfl (lv_at hl 2 rfl) ?_
  refine lv_icmp_gt (tgt := 109) X.1 X.2.1 dX0_groups_15 (by decide) (fun c5 => ?_) (fun c5 => ?_)
  · replace h := m_ifT c5 h
    obtain ⟨rfl, rfl⟩ := m_e3 h
    exact hr H locs ls _ _ (u_left0 hC) I (lv_sub hl [2, 3] rfl)
  · replace h := m_ifF c5 h
    refine lv_iload X.1 X.2.1 dX0_groups_18 (lv_at hl 4 rfl) ?_
    refine lv_iload_n X.1 X.2.1 dX0_groups_20 rfl (lv_at hl 2 rfl) ?_
    refine lv_iconst (v := (-1)) X.1 X.2.1 dX0_groups_21 (by decide) ?_
    refine lv_ixor X.1 X.2.1 dX0_groups_22 ?_
    refine lv_iand X.1 X.2.1 dX0_groups_23 ?_
    refine lv_if_eq (tgt := 30) X.1 X.2.1 dX0_groups_24 (by decide) (fun c6 => ?_) (fun c6 => ?_)
    · replace h := m_ifT c6 h
      refine lv_iconst (v := 0) X.1 X.2.1 dX0_groups_30 (by decide) ?_
      refine lv_istore (lv' := [(4, .int 0), (0, .ref v0), (1, .int v1), (2, .int v2), (3, .ref v3), (5, .int v5)]) X.1 X.2.1 dX0_groups_31 hl (by decide) rfl (fun ls hl => ?_)
      refine lv_iconst (v := 0) X.1 X.2.1 dX0_groups_33 (by decide) ?_
      refine lv_istore (lv' := [(6, .int 0), (4, .int 0), (0, .ref v0), (1, .int v1), (2, .int v2), (3, .ref v3), (5, .int v5)]) X.1 X.2.1 dX0_groups_34 hl (by decide) rfl (fun ls hl => ?_)
      obtain ⟨⟨z14, u15⟩, C26, C27, e13, h, hq⟩ := u_blS h
      rw [hq] at hC
      refine wuf_X0_groups_L36 X hA hR n v0 v1 v2 v3 v5 _ _ _ _ e13 (fun H locs ls cells slots hC I hl => ?_) H locs ls _ _ (u_left2 hC) I (lv_sub hl [2, 3, 4, 5, 1, 6, 0] rfl)
      refine lv_aload_n X.1 X.2.1 dX0_groups_78 rfl (lv_at hl 3 rfl) ?_
      refine lv_iload X.1 X.2.1 dX0_groups_79 (lv_at hl 5 rfl) ?_
      refine lv_iload X.1 X.2.1 dX0_groups_81 (lv_at hl 4 rfl) ?_
      refine lv_aload_n X.1 X.2.1 dX0_groups_83 rfl (lv_at hl 0 rfl) ?_
      refine lv_iload X.1 X.2.1 dX0_groups_84 (lv_at hl 5 rfl) ?_
      refine lv_iload_n X.1 X.2.1 dX0_groups_86 rfl (lv_at hl 1 rfl) ?_
      obtain ⟨f16, e17, h⟩ := m_bS h
      obtain ⟨r19, e18, h⟩ := m_bS h
      refine u_callVp X hl.1 I hA (As := [.int v5, .int v1]) (rest := [.int z14, .int v5, .ref v3]) (uk_X0_netOf l n D d u15 v0 v5 v1 _ e18) (u_clS e17) (C := RX0) (T := TX0) (N := 9) rfl 2 q1364 q1366 qs41 q101 q1367 uh_X0_netOf rfl rfl ⟨Nat.le_trans (Nat.le_of_ble_eq_true rfl) hR.1, Nat.le_trans (Nat.le_of_ble_eq_true rfl) hR.2⟩ (u_leftLe hC) (stk := [.int r19, .int z14, .int v5, .ref v3]) rfl (Nat.le_of_ble_eq_true rfl) dX0_groups_87 (fun H locs I => ?_)
      refine lv_if_ne (tgt := 97) X.1 X.2.1 dX0_groups_90 (by decide) (fun c20 => ?_) (fun c20 => ?_)
      · replace h := m_ifF c20 h
        refine lv_iconst (v := 0) X.1 X.2.1 dX0_groups_97 (by decide) ?_
        exact k98 u15 v5 0 z14 v5 v3 H locs ls _ _ _ h hC I (lv_sub hl [0, 1, 2, 3, 5] rfl)
      · replace h := m_ifT c20 h
        refine lv_iconst (v := 1) X.1 X.2.1 dX0_groups_93 (by decide) ?_
        refine lv_goto (tgt := 98) X.1 X.2.1 dX0_groups_94 (by decide) ?_
        exact k98 u15 v5 1 z14 v5 v3 H locs ls _ _ _ h hC I (lv_sub hl [0, 1, 2, 3, 5] rfl)
    · replace h := m_ifF c6 h
      refine lv_goto (tgt := 103) X.1 X.2.1 dX0_groups_27 (by decide) ?_
      exact k103 u v5 H locs ls _ _ _ h hC I (lv_sub hl [0, 1, 2, 3, 4] rfl)
theorem uw_X0_groups (X : u_X RX0 D A d p s m c cX0_groups 7 args) (hA : ∀ q, s.heap.size ≤ q → A q) (hR : 6 ≤ R.frames ∧ 138 ≤ R.locals) (n : Nat) (u : UM) (t : Nat) (p0 : Int32) (p1 : Int32) (r0 : Int32) (ur : UM) (C : UC) (h : uf_X0_groups n d u t p0 p1 = some ((r0, ur), C)) (hret : ∀ (H : Heap) (locs : List Loc) (ls : Array Slot) (pc cells slots : Nat), decode cX0_groups pc = .ok (.ireturn, 1) → u_left R cells slots (u_add (0, 0) (0, 0)) → u_I D A s.heap ur H locs cells → W p l e R s m args below meth c H locs cells slots Q (F0 m pc ls [.int r0])) : ∀ (H : Heap) (locs : List Loc) (ls : Array Slot) (cells slots : Nat), u_left R cells slots (u_add C (0, 0)) → u_I D A s.heap u H locs cells → lv_has ls 7 [(0, .ref t), (1, .int p0), (2, .int p1)] → W p l e R s m args below meth c H locs cells slots Q (F0 m 0 ls []) := by
  intro H locs ls cells slots hC I hl
  unfold uf_X0_groups at h
  refine lv_sipush (v := 256) X.1 X.2.1 dX0_groups_0 (by decide) ?_
  obtain ⟨g3, h⟩ := m_gS h
  obtain ⟨C1, h, hq⟩ := u_acS h
  rw [hq] at hC
  obtain ⟨u2, e4, h⟩ := m_bS h
  refine u_NP X I hA 0 (atype := .int) rfl q200 (x := (_, .inl (fun _ => 0))) (fun _ => rfl) (by decide) g3 e4 hC dX0_groups_3 (fun H cells slots hC I => ?_)
  refine lv_astore_n (lv' := [(3, .ref u.2), (0, .ref t), (1, .int p0), (2, .int p1)]) X.1 X.2.1 dX0_groups_5 rfl hl (by decide) rfl (fun ls hl => ?_)
  refine lv_iconst (v := 0) X.1 X.2.1 dX0_groups_6 (by decide) ?_
  refine lv_istore (lv' := [(4, .int 0), (3, .ref u.2), (0, .ref t), (1, .int p0), (2, .int p1)]) X.1 X.2.1 dX0_groups_7 hl (by decide) rfl (fun ls hl => ?_)
  refine lv_iconst (v := 1) X.1 X.2.1 dX0_groups_9 (by decide) ?_
  refine lv_istore (lv' := [(5, .int 1), (4, .int 0), (3, .ref u.2), (0, .ref t), (1, .int p0), (2, .int p1)]) X.1 X.2.1 dX0_groups_10 hl (by decide) rfl (fun ls hl => ?_)
  obtain ⟨u29, C32, C33, e28, h, hq⟩ := u_blS h
  rw [hq] at hC
  refine wuf_X0_groups_L12 X hA hR n t p0 p1 u.2 _ _ _ _ e28 (fun H locs ls cells slots hC I hl => ?_) H locs ls _ _ (u_left2 hC) I (lv_sub hl [3, 4, 5, 2, 0] rfl)
  refine lv_aload_n X.1 X.2.1 dX0_groups_109 rfl (lv_at hl 1 rfl) ?_
  refine lv_iload_n X.1 X.2.1 dX0_groups_110 rfl (lv_at hl 0 rfl) ?_
  obtain ⟨b30, e31, h⟩ := m_bS h
  refine u_LI X I e31 dX0_groups_111 ?_
  obtain ⟨he, rfl⟩ := m_e3 h
  obtain ⟨rfl, rfl⟩ := m_e4 he
  exact hret H locs ls 112 _ _ dX0_groups_112 hC I
end S_X0_groups
theorem uk_X0_groups (l : Launch) (n : Nat) (D : va_G) (d : UD) (u : UM) (t : Nat) (p0 : Int32) (p1 : Int32) (r0 : Int32) (ur : UM) (C : UC) (h : uf_X0_groups n d u t p0 p1 = some ((r0, ur), C)) : u_M l yX0_groups (ws_ yX0_groups cX0_groups 7 (some .int)) 6 138 C D d u [.ref t, .int p0, .int p1] (some (.int r0)) ur :=
  u_start (own := RX0) (lvl := [(0, .ref t), (1, .int p0), (2, .int p1)]) (by decide) rfl (Nat.le_of_ble_eq_true rfl) rfl (fun p e s m args below meth c ls X hr hlk hI hl hA I hC => uw_X0_groups X hA ⟨Nat.le_refl _, Nat.le_refl _⟩ n u t p0 p1 r0 ur C h (fun H locs ls pc cells slots hd hC I => u_iret X I hr hlk (u_leftE hC) hd) _ _ ls _ _ hC I hl)

/-! java/util/ArrayList.add(Ljava/lang/Object;)Z -/
def uf_J2_add (n : Nat) (d : UD) (u : UM) (t : Nat) (p0 : Nat) : Option ((Int32 × UM) × UC) :=
  m_b (u_fi d u 13 0 t) (fun b1 => m_b (u_pf u 13 0 t (.int (b1 + 1))) (fun w3 => m_b (u_fr d (w3, u.2) 13 1 t) (fun b5 => m_b (u_fi d (w3, u.2) 13 2 t) (fun b7 => m_b (u_cl (w3, u.2) 13 t) (fun f9 => u_bc u.2 (uf_J2_add_2 n d (w3, u.2) t p0 b5 b7) (fun r12 u13 => m_g (m_01 1) (some ((1, u13), (0, 0)))))))))
theorem uh_J2_add : yJ2_add.cls = RJ2 ∧ yJ2_add.cls ≠ "java/lang/invoke/MethodHandle" ∧ yJ2_add.cls ≠ "java/lang/invoke/VarHandle" ∧ (parseMethodDescriptor yJ2_add.desc).map (fun d => d.parameters.length) = some 1 := by decide +kernel
section S_J2_add
variable {p : Program} {l : Launch} {e : Env} {R : Room} {s : State} {m : MethodId} {args : Array Value} {below : List Frame} {meth : Method} {c : Code} {Q : State → Prop} {D : va_G} {A : Nat → Prop} {d : UD}
theorem uw_J2_add (X : u_X RJ2 D A d p s m c cJ2_add 2 args) (hA : ∀ q, s.heap.size ≤ q → A q) (hR : 6 ≤ R.frames ∧ 170 ≤ R.locals) (n : Nat) (u : UM) (t : Nat) (p0 : Nat) (r0 : Int32) (ur : UM) (C : UC) (h : uf_J2_add n d u t p0 = some ((r0, ur), C)) (hret : ∀ (H : Heap) (locs : List Loc) (ls : Array Slot) (pc cells slots : Nat), m_01 r0 = true → decode cJ2_add pc = .ok (.ireturn, 1) → u_left R cells slots (u_add (0, 0) (0, 0)) → u_I D A s.heap ur H locs cells → W p l e R s m args below meth c H locs cells slots Q (F0 m pc ls [.int r0])) : ∀ (H : Heap) (locs : List Loc) (ls : Array Slot) (cells slots : Nat), u_left R cells slots (u_add C (0, 0)) → u_I D A s.heap u H locs cells → lv_has ls 2 [(0, .ref t), (1, .ref p0)] → W p l e R s m args below meth c H locs cells slots Q (F0 m 0 ls []) := by
  intro H locs ls cells slots hC I hl
  unfold uf_J2_add at h
  refine lv_aload_n X.1 X.2.1 dJ2_add_0 rfl (lv_at hl 0 rfl) ?_
  refine lv_dup X.1 X.2.1 dJ2_add_1 rfl ?_
  obtain ⟨b1, e2, h⟩ := m_bS h
  refine u_Gi X I e2 (C := RJ2) (T := TJ2) (N := 3) (ref := "java/util/ArrayList") in_J2 rfl (by decide) rfl rfl q164 (u_modc X) dJ2_add_2 ?_
  refine lv_iconst (v := 1) X.1 X.2.1 dJ2_add_5 (by decide) ?_
  refine lv_iadd X.1 X.2.1 dJ2_add_6 ?_
  obtain ⟨w3, e4, h⟩ := m_bS h
  refine u_P X I e4 (C := RJ2) (T := TJ2) (N := 3) (ref := "java/util/ArrayList") in_J2 tyJ2 tyJ2_ok nmJ2 rfl (by decide) rfl rfl q164 (u_modc X) rfl rfl rfl dJ2_add_7 (fun H locs I => ?_)
  refine lv_aload_n X.1 X.2.1 dJ2_add_10 rfl (lv_at hl 0 rfl) ?_
  refine lv_aload_n X.1 X.2.1 dJ2_add_11 rfl (lv_at hl 1 rfl) ?_
  refine lv_aload_n X.1 X.2.1 dJ2_add_12 rfl (lv_at hl 0 rfl) ?_
  obtain ⟨b5, e6, h⟩ := m_bS h
  refine u_Gr X I e6 (C := RJ2) (T := TJ2) (N := 3) (ref := "java/util/ArrayList") in_J2 rfl (by decide) rfl rfl q161 (fun _ h => h) dJ2_add_13 ?_
  refine lv_aload_n X.1 X.2.1 dJ2_add_16 rfl (lv_at hl 0 rfl) ?_
  obtain ⟨b7, e8, h⟩ := m_bS h
  refine u_Gi X I e8 (C := RJ2) (T := TJ2) (N := 3) (ref := "java/util/ArrayList") in_J2 rfl (by decide) rfl rfl q162 (fun _ h => h) dJ2_add_17 ?_
  obtain ⟨f9, e10, h⟩ := m_bS h
  obtain ⟨r12, u13, C14, C15, e11, z16, h, hq⟩ := u_bcS h
  rw [hq] at hC
  refine u_callV X hl.1 I hA (As := [.ref p0, .ref b5, .int b7]) (rest := []) (uk_J2_add_2 l n D d (w3, u.2) t p0 b5 b7 _ _ e11) z16 (u_clS e10) (C := RJ2) (T := TJ2) (N := 3) rfl 3 q722 q724 qs9 q105 q725 uh_J2_add_2 rfl rfl ⟨Nat.le_trans (Nat.le_of_ble_eq_true rfl) hR.1, Nat.le_trans (Nat.le_of_ble_eq_true rfl) hR.2⟩ hC (stk := []) rfl (Nat.le_of_ble_eq_true rfl) dJ2_add_20 (fun H locs cells slots hC I => ?_)
  refine lv_iconst (v := 1) X.1 X.2.1 dJ2_add_23 (by decide) ?_
  obtain ⟨g17, h⟩ := m_gS h
  obtain ⟨he, rfl⟩ := m_e3 h
  obtain ⟨rfl, rfl⟩ := m_e4 he
  exact hret H locs ls 24 _ _ g17 dJ2_add_24 hC I
end S_J2_add
theorem uk_J2_add (l : Launch) (n : Nat) (D : va_G) (d : UD) (u : UM) (t : Nat) (p0 : Nat) (r0 : Int32) (ur : UM) (C : UC) (h : uf_J2_add n d u t p0 = some ((r0, ur), C)) : u_M l yJ2_add (ws_ yJ2_add cJ2_add 2 (some .boolean)) 6 170 C D d u [.ref t, .ref p0] (some (.int r0)) ur :=
  u_start (own := RJ2) (lvl := [(0, .ref t), (1, .ref p0)]) (by decide) rfl (Nat.le_of_ble_eq_true rfl) rfl (fun p e s m args below meth c ls X hr hlk hI hl hA I hC => uw_J2_add X hA ⟨Nat.le_refl _, Nat.le_refl _⟩ n u t p0 r0 ur C h (fun H locs ls pc cells slots g hd hC I => u_zret X I hr hlk g (u_leftE hC) hd) _ _ ls _ _ hC I hl)

/-! java/lang/StringBuilder.toString()Ljava/lang/String; -/
def uf_J4_toString (n : Nat) (d : UD) (u : UM) (t : Nat) : Option ((Nat × UM) × UC) :=
  u_ac (1, 4) (m_b (some (u_nw u (.inr (15, [.null, .int 0, .int 0, .int 0])))) (fun u2 => u_bc u2.2 (uf_J5_init n d u2 u.2 t) (fun r5 u6 => some ((u.2, u6), (0, 0)))))
theorem uh_J4_toString : yJ4_toString.cls = RJ4 ∧ yJ4_toString.cls ≠ "java/lang/invoke/MethodHandle" ∧ yJ4_toString.cls ≠ "java/lang/invoke/VarHandle" ∧ (parseMethodDescriptor yJ4_toString.desc).map (fun d => d.parameters.length) = some 0 := by decide +kernel
section S_J4_toString
variable {p : Program} {l : Launch} {e : Env} {R : Room} {s : State} {m : MethodId} {args : Array Value} {below : List Frame} {meth : Method} {c : Code} {Q : State → Prop} {D : va_G} {A : Nat → Prop} {d : UD}
theorem uw_J4_toString (X : u_X RJ4 D A d p s m c cJ4_toString 1 args) (hA : ∀ q, s.heap.size ≤ q → A q) (hR : 5 ≤ R.frames ∧ 151 ≤ R.locals) (n : Nat) (u : UM) (t : Nat) (r0 : Nat) (ur : UM) (C : UC) (h : uf_J4_toString n d u t = some ((r0, ur), C)) (hret : ∀ (H : Heap) (locs : List Loc) (ls : Array Slot) (pc cells slots : Nat), decode cJ4_toString pc = .ok (.areturn, 1) → u_left R cells slots (u_add (0, 0) (0, 0)) → u_I D A s.heap ur H locs cells → W p l e R s m args below meth c H locs cells slots Q (F0 m pc ls [.ref r0])) : ∀ (H : Heap) (locs : List Loc) (ls : Array Slot) (cells slots : Nat), u_left R cells slots (u_add C (0, 0)) → u_I D A s.heap u H locs cells → lv_has ls 1 [(0, .ref t)] → W p l e R s m args below meth c H locs cells slots Q (F0 m 0 ls []) := by
  intro H locs ls cells slots hC I hl
  unfold uf_J4_toString at h
  obtain ⟨C1, h, hq⟩ := u_acS h
  rw [hq] at hC
  obtain ⟨u2, e3, h⟩ := m_bS h
  refine u_NO X I hA 15 (C := RJ5) (T := TJ5) (N := 4) in_J5 tyJ5 tyJ5_ok q463 q464 q111 rfl (fs := [.null, .int 0, .int 0, .int 0]) e3 (fun j hj => by match j, hj with | 0, _ => rfl | 1, _ => rfl | 2, _ => rfl | 3, _ => rfl) hC dJ4_toString_0 (fun H cells slots hC I => ?_)
  refine lv_dup X.1 X.2.1 dJ4_toString_3 rfl ?_
  refine lv_aload_n X.1 X.2.1 dJ4_toString_4 rfl (lv_at hl 0 rfl) ?_
  obtain ⟨r5, u6, C7, C8, e4, z9, h, hq⟩ := u_bcS h
  rw [hq] at hC
  refine u_callI X hl.1 I hA (As := [.ref t]) (rest := [.ref u.2]) (uk_J5_init l n D d u2 u.2 t _ _ e4) z9 1 q465 q466 q111 q467 rfl uh_J5_init.2 rfl rfl ⟨Nat.le_trans (Nat.le_of_ble_eq_true rfl) hR.1, Nat.le_trans (Nat.le_of_ble_eq_true rfl) hR.2⟩ hC (Nat.le_of_ble_eq_true rfl) dJ4_toString_5 (fun H locs cells slots hC I => ?_)
  obtain ⟨he, rfl⟩ := m_e3 h
  obtain ⟨rfl, rfl⟩ := m_e4 he
  exact hret H locs ls 8 _ _ dJ4_toString_8 hC I
end S_J4_toString
theorem uk_J4_toString (l : Launch) (n : Nat) (D : va_G) (d : UD) (u : UM) (t : Nat) (r0 : Nat) (ur : UM) (C : UC) (h : uf_J4_toString n d u t = some ((r0, ur), C)) : u_M l yJ4_toString (ws_ yJ4_toString cJ4_toString 1 (some (.object "java/lang/String"))) 5 151 C D d u [.ref t] (some (.ref r0)) ur :=
  u_start (own := RJ4) (lvl := [(0, .ref t)]) (by decide) rfl (Nat.le_of_ble_eq_true rfl) rfl (fun p e s m args below meth c ls X hr hlk hI hl hA I hC => uw_J4_toString X hA ⟨Nat.le_refl _, Nat.le_refl _⟩ n u t r0 ur C h (fun H locs ls pc cells slots hd hC I => u_aret (r := some r0) X I hr (Or.inl ⟨_, rfl⟩) hlk (u_leftE hC) hd) _ _ ls _ _ hC I hl)

/-! SwapPress.acts()V -/
def uf_X0_acts_J21 (n : Nat) (d : UD) (u : UM) (v0 : Nat) : Option ((Unit × UM) × UC) :=
  m_b (u_fr d u 1 1 v0) (fun b8 => m_b (u_fr d u 1 0 v0) (fun b10 => m_b (u_cl u 2 b10) (fun f12 => u_bc u.2 (uf_X1_copy n d u b10) (fun r15 u16 => m_b (u_cl u16 13 b8) (fun f20 => u_bc u16.2 (uf_J2_add n d u16 b8 r15) (fun r23 u24 => m_b (u_pf u24 1 3 v0 (.int ((-1)))) (fun w28 => some (((), (w28, u24.2)), (0, 0)))))))))
def uf_X0_acts (n : Nat) (d : UD) (u : UM) (t : Nat) : Option ((Unit × UM) × UC) :=
  m_b (u_fr d u 1 1 t) (fun b1 => m_b (u_cl u 13 b1) (fun f3 => m_b (uf_J2_size n d u b1) (fun r6 => m_if ((r6 : Int32) = (10 : Int32)) (m_b (u_fr d u 1 1 t) (fun b30 => m_b (u_cl u 13 b30) (fun f32 => u_bc u.2 (uf_J2_remove n d u b30 0) (fun r35 u36 => uf_X0_acts_J21 n d u36 t)))) (uf_X0_acts_J21 n d u t))))
theorem uh_X0_acts : yX0_acts.cls = RX0 ∧ yX0_acts.cls ≠ "java/lang/invoke/MethodHandle" ∧ yX0_acts.cls ≠ "java/lang/invoke/VarHandle" ∧ (parseMethodDescriptor yX0_acts.desc).map (fun d => d.parameters.length) = some 0 := by decide +kernel
section S_X0_acts
variable {p : Program} {l : Launch} {e : Env} {R : Room} {s : State} {m : MethodId} {args : Array Value} {below : List Frame} {meth : Method} {c : Code} {Q : State → Prop} {D : va_G} {A : Nat → Prop} {d : UD}
theorem uw_X0_acts (X : u_X RX0 D A d p s m c cX0_acts 1 args) (hA : ∀ q, s.heap.size ≤ q → A q) (hR : 7 ≤ R.frames ∧ 191 ≤ R.locals) (n : Nat) (u : UM) (t : Nat) (r0 : Unit) (ur : UM) (C : UC) (h : uf_X0_acts n d u t = some ((r0, ur), C)) (hret : ∀ (H : Heap) (locs : List Loc) (ls : Array Slot) (pc cells slots : Nat), decode cX0_acts pc = .ok (.return_, 1) → u_left R cells slots (u_add (0, 0) (0, 0)) → u_I D A s.heap ur H locs cells → W p l e R s m args below meth c H locs cells slots Q (F0 m pc ls [])) : ∀ (H : Heap) (locs : List Loc) (ls : Array Slot) (cells slots : Nat), u_left R cells slots (u_add C (0, 0)) → u_I D A s.heap u H locs cells → lv_has ls 1 [(0, .ref t)] → W p l e R s m args below meth c H locs cells slots Q (F0 m 0 ls []) := by
  have k21 : ∀ (u : UM) (v0 : Nat) (H : Heap) (locs : List Loc) (ls : Array Slot) (cells slots : Nat) (C : UC), uf_X0_acts_J21 n d u v0 = some ((r0, ur), C) → u_left R cells slots (u_add C (0, 0)) → u_I D A s.heap u H locs cells → lv_has ls 1 [(0, .ref v0)] → W p l e R s m args below meth c H locs cells slots Q (F0 m 21 ls []) := by
    intro u v0 H locs ls cells slots C h hC I hl
    unfold uf_X0_acts_J21 at h
    refine lv_aload_n X.1 X.2.1 dX0_acts_21 rfl (lv_at hl 0 rfl) ?_
    obtain ⟨b8, e9, h⟩ := m_bS h
    refine u_Gr X I e9 (C := RX0) (T := TX0) (N := 9) (ref := "SwapPress") in_X0 rfl (by decide) rfl rfl q236 (fun _ h => h) dX0_acts_22 ?_
    refine lv_aload_n X.1 X.2.1 dX0_acts_25 rfl (lv_at hl 0 rfl) ?_
    obtain ⟨b10, e11, h⟩ := m_bS h
    refine u_Gr X I e11 (C := RX0) (T := TX0) (N := 9) (ref := "SwapPress") in_X0 rfl (by decide) rfl rfl q235 (fun _ h => h) dX0_acts_26 ?_
    obtain ⟨f12, e13, h⟩ := m_bS h
    obtain ⟨r15, u16, C17, C18, e14, z19, h, hq⟩ := u_bcS h
    rw [hq] at hC
    refine u_callV X hl.1 I hA (As := []) (rest := [.ref b8]) (uk_X1_copy l n D d u b10 _ _ _ e14) z19 (u_clS e13) (C := RX1) (T := TX1) (N := 5) rfl 0 q893 q894 q895 q102 q896 uh_X1_copy rfl rfl ⟨Nat.le_trans (Nat.le_of_ble_eq_true rfl) hR.1, Nat.le_trans (Nat.le_of_ble_eq_true rfl) hR.2⟩ hC (stk := [.ref r15, .ref b8]) rfl (Nat.le_of_ble_eq_true rfl) dX0_acts_29 (fun H locs cells slots hC I => ?_)
    obtain ⟨f20, e21, h⟩ := m_bS h
    obtain ⟨r23, u24, C25, C26, e22, z27, h, hq⟩ := u_bcS h
    rw [hq] at hC
    refine u_callV X hl.1 I hA (As := [.ref r15]) (rest := []) (uk_J2_add l n D d u16 b8 r15 _ _ _ e22) z27 (u_clS e21) (C := RJ2) (T := TJ2) (N := 3) rfl 1 q914 q719 q720 q105 q721 uh_J2_add rfl rfl ⟨Nat.le_trans (Nat.le_of_ble_eq_true rfl) hR.1, Nat.le_trans (Nat.le_of_ble_eq_true rfl) hR.2⟩ hC (stk := [.int r23]) rfl (Nat.le_of_ble_eq_true rfl) dX0_acts_32 (fun H locs cells slots hC I => ?_)
    refine lv_pop X.1 X.2.1 dX0_acts_35 rfl ?_
    refine lv_aload_n X.1 X.2.1 dX0_acts_36 rfl (lv_at hl 0 rfl) ?_
    refine lv_iconst (v := (-1)) X.1 X.2.1 dX0_acts_37 (by decide) ?_
    obtain ⟨w28, e29, h⟩ := m_bS h
    refine u_P X I e29 (C := RX0) (T := TX0) (N := 9) (ref := "SwapPress") in_X0 tyX0 tyX0_ok nmX0 rfl (by decide) rfl rfl q239 (fun _ h => h) rfl rfl rfl dX0_acts_38 (fun H locs I => ?_)
    obtain ⟨he, rfl⟩ := m_e3 h
    obtain ⟨rfl, rfl⟩ := m_e4 he
    exact hret H locs ls 41 _ _ dX0_acts_41 hC I
  intro H locs ls cells slots hC I hl
  unfold uf_X0_acts at h
  refine lv_aload_n X.1 X.2.1 dX0_acts_0 rfl (lv_at hl 0 rfl) ?_
  obtain ⟨b1, e2, h⟩ := m_bS h
  refine u_Gr X I e2 (C := RX0) (T := TX0) (N := 9) (ref := "SwapPress") in_X0 rfl (by decide) rfl rfl q236 (fun _ h => h) dX0_acts_1 ?_
  obtain ⟨f3, e4, h⟩ := m_bS h
  obtain ⟨r6, e5, h⟩ := m_bS h
  refine u_callVp X hl.1 I hA (As := []) (rest := []) (uk_J2_size l n D d u b1 _ e5) (u_clS e4) (C := RJ2) (T := TJ2) (N := 3) rfl 0 q853 q667 q668 q105 q669 uh_J2_size rfl rfl ⟨Nat.le_trans (Nat.le_of_ble_eq_true rfl) hR.1, Nat.le_trans (Nat.le_of_ble_eq_true rfl) hR.2⟩ (u_leftLe hC) (stk := [.int r6]) rfl (Nat.le_of_ble_eq_true rfl) dX0_acts_4 (fun H locs I => ?_)
  refine lv_bipush (v := 10) X.1 X.2.1 dX0_acts_7 (by decide) ?_
  refine lv_icmp_ne (tgt := 21) X.1 X.2.1 dX0_acts_9 (by decide) (fun c7 => ?_) (fun c7 => ?_)
  · replace h := m_ifF c7 h
    exact k21 u t H locs ls _ _ _ h hC I (lv_sub hl [0] rfl)
  · replace h := m_ifT c7 h
    refine lv_aload_n X.1 X.2.1 dX0_acts_12 rfl (lv_at hl 0 rfl) ?_
    obtain ⟨b30, e31, h⟩ := m_bS h
    refine u_Gr X I e31 (C := RX0) (T := TX0) (N := 9) (ref := "SwapPress") in_X0 rfl (by decide) rfl rfl q236 (fun _ h => h) dX0_acts_13 ?_
    refine lv_iconst (v := 0) X.1 X.2.1 dX0_acts_16 (by decide) ?_
    obtain ⟨f32, e33, h⟩ := m_bS h
    obtain ⟨r35, u36, C37, C38, e34, z39, h, hq⟩ := u_bcS h
    rw [hq] at hC
    refine u_callV X hl.1 I hA (As := [.int 0]) (rest := []) (uk_J2_remove l n D d u b30 0 _ _ _ e34) z39 (u_clS e33) (C := RJ2) (T := TJ2) (N := 3) rfl 1 q884 q885 q886 q105 q887 uh_J2_remove rfl rfl ⟨Nat.le_trans (Nat.le_of_ble_eq_true rfl) hR.1, Nat.le_trans (Nat.le_of_ble_eq_true rfl) hR.2⟩ hC (stk := [.ref r35]) rfl (Nat.le_of_ble_eq_true rfl) dX0_acts_17 (fun H locs cells slots hC I => ?_)
    refine lv_pop X.1 X.2.1 dX0_acts_20 rfl ?_
    exact k21 u36 t H locs ls _ _ _ h hC I (lv_sub hl [0] rfl)
end S_X0_acts
theorem uk_X0_acts (l : Launch) (n : Nat) (D : va_G) (d : UD) (u : UM) (t : Nat) (ur : UM) (C : UC) (h : uf_X0_acts n d u t = some (((), ur), C)) : u_M l yX0_acts (ws_ yX0_acts cX0_acts 1 none) 7 191 C D d u [.ref t] none ur :=
  u_start (own := RX0) (lvl := [(0, .ref t)]) (by decide) rfl (Nat.le_of_ble_eq_true rfl) rfl (fun p e s m args below meth c ls X hr hlk hI hl hA I hC => uw_X0_acts X hA ⟨Nat.le_refl _, Nat.le_refl _⟩ n u t () ur C h (fun H locs ls pc cells slots hd hC I => u_vret X I hr hlk (u_leftE hC) hd) _ _ ls _ _ hC I hl)

/-! SwapPress.drop(I)I -/
def uf_X0_drop (n : Nat) (d : UD) (u : UM) (t : Nat) (p0 : Int32) : Option ((Int32 × UM) × UC) :=
  m_b (u_cl u 1 t) (fun f1 => m_b (uf_X0_isTrade n d u t p0) (fun r4 => m_if ((r4 : Int32) = 0) (some (((-2), u), (0, 0))) (m_b (u_cl u 1 t) (fun f6 => u_bc u.2 (uf_X0_acts n d u t) (fun r9 u10 => m_b (u_fr d u10 1 0 t) (fun b14 => m_b (u_nr u10 2 2 b14) (fun b16 => m_b (u_cl u10 13 b16) (fun f18 => u_bc u10.2 (uf_J2_remove n d u10 b16 p0) (fun r21 u22 => m_b (u_fr d u22 1 0 t) (fun b26 => m_b (u_nr u22 2 2 b26) (fun b28 => m_b (u_cl u22 13 b28) (fun f30 => m_b (uf_J2_size n d u22 b28) (fun r33 => some ((r33, u22), (0, 0)))))))))))))))
theorem uh_X0_drop : yX0_drop.cls = RX0 ∧ yX0_drop.cls ≠ "java/lang/invoke/MethodHandle" ∧ yX0_drop.cls ≠ "java/lang/invoke/VarHandle" ∧ (parseMethodDescriptor yX0_drop.desc).map (fun d => d.parameters.length) = some 1 := by decide +kernel
section S_X0_drop
variable {p : Program} {l : Launch} {e : Env} {R : Room} {s : State} {m : MethodId} {args : Array Value} {below : List Frame} {meth : Method} {c : Code} {Q : State → Prop} {D : va_G} {A : Nat → Prop} {d : UD}
theorem uw_X0_drop (X : u_X RX0 D A d p s m c cX0_drop 2 args) (hA : ∀ q, s.heap.size ≤ q → A q) (hR : 8 ≤ R.frames ∧ 211 ≤ R.locals) (n : Nat) (u : UM) (t : Nat) (p0 : Int32) (r0 : Int32) (ur : UM) (C : UC) (h : uf_X0_drop n d u t p0 = some ((r0, ur), C)) (hret : ∀ (H : Heap) (locs : List Loc) (ls : Array Slot) (pc cells slots : Nat), decode cX0_drop pc = .ok (.ireturn, 1) → u_left R cells slots (u_add (0, 0) (0, 0)) → u_I D A s.heap ur H locs cells → W p l e R s m args below meth c H locs cells slots Q (F0 m pc ls [.int r0])) : ∀ (H : Heap) (locs : List Loc) (ls : Array Slot) (cells slots : Nat), u_left R cells slots (u_add C (0, 0)) → u_I D A s.heap u H locs cells → lv_has ls 2 [(0, .ref t), (1, .int p0)] → W p l e R s m args below meth c H locs cells slots Q (F0 m 0 ls []) := by
  intro H locs ls cells slots hC I hl
  unfold uf_X0_drop at h
  refine lv_aload_n X.1 X.2.1 dX0_drop_0 rfl (lv_at hl 0 rfl) ?_
  refine lv_iload_n X.1 X.2.1 dX0_drop_1 rfl (lv_at hl 1 rfl) ?_
  obtain ⟨f1, e2, h⟩ := m_bS h
  obtain ⟨r4, e3, h⟩ := m_bS h
  refine u_callVp X hl.1 I hA (As := [.int p0]) (rest := []) (uk_X0_isTrade l n D d u t p0 _ e3) (u_clS e2) (C := RX0) (T := TX0) (N := 9) rfl 1 q921 q923 qs23 q101 q924 uh_X0_isTrade rfl rfl ⟨Nat.le_trans (Nat.le_of_ble_eq_true rfl) hR.1, Nat.le_trans (Nat.le_of_ble_eq_true rfl) hR.2⟩ (u_leftLe hC) (stk := [.int r4]) rfl (Nat.le_of_ble_eq_true rfl) dX0_drop_2 (fun H locs I => ?_)
  refine lv_if_ne (tgt := 11) X.1 X.2.1 dX0_drop_5 (by decide) (fun c5 => ?_) (fun c5 => ?_)
  · replace h := m_ifF c5 h
    refine lv_aload_n X.1 X.2.1 dX0_drop_11 rfl (lv_at hl 0 rfl) ?_
    obtain ⟨f6, e7, h⟩ := m_bS h
    obtain ⟨r9, u10, C11, C12, e8, z13, h, hq⟩ := u_bcS h
    rw [hq] at hC
    refine u_callV X hl.1 I hA (As := []) (rest := []) (uk_X0_acts l n D d u t _ _ e8) z13 (u_clS e7) (C := RX0) (T := TX0) (N := 9) rfl 0 q880 q882 qs21 q101 q883 uh_X0_acts rfl rfl ⟨Nat.le_trans (Nat.le_of_ble_eq_true rfl) hR.1, Nat.le_trans (Nat.le_of_ble_eq_true rfl) hR.2⟩ hC (stk := []) rfl (Nat.le_of_ble_eq_true rfl) dX0_drop_12 (fun H locs cells slots hC I => ?_)
    refine lv_aload_n X.1 X.2.1 dX0_drop_15 rfl (lv_at hl 0 rfl) ?_
    obtain ⟨b14, e15, h⟩ := m_bS h
    refine u_Gr X I e15 (C := RX0) (T := TX0) (N := 9) (ref := "SwapPress") in_X0 rfl (by decide) rfl rfl q235 (fun _ h => h) dX0_drop_16 ?_
    obtain ⟨b16, e17, h⟩ := m_bS h
    refine u_GrN X I e17 (C := RX1) (T := TX1) (N := 5) (ref := "SwapPress$State") (host := "SwapPress") in_X1 rfl (by decide) rfl rfl 4 rfl (fun _ h => h) dX0_drop_19 ?_
    refine lv_iload_n X.1 X.2.1 dX0_drop_22 rfl (lv_at hl 1 rfl) ?_
    obtain ⟨f18, e19, h⟩ := m_bS h
    obtain ⟨r21, u22, C23, C24, e20, z25, h, hq⟩ := u_bcS h
    rw [hq] at hC
    refine u_callV X hl.1 I hA (As := [.int p0]) (rest := []) (uk_J2_remove l n D d u10 b16 p0 _ _ _ e20) z25 (u_clS e19) (C := RJ2) (T := TJ2) (N := 3) rfl 1 q884 q885 q886 q105 q887 uh_J2_remove rfl rfl ⟨Nat.le_trans (Nat.le_of_ble_eq_true rfl) hR.1, Nat.le_trans (Nat.le_of_ble_eq_true rfl) hR.2⟩ hC (stk := [.ref r21]) rfl (Nat.le_of_ble_eq_true rfl) dX0_drop_23 (fun H locs cells slots hC I => ?_)
    refine lv_pop X.1 X.2.1 dX0_drop_26 rfl ?_
    refine lv_aload_n X.1 X.2.1 dX0_drop_27 rfl (lv_at hl 0 rfl) ?_
    obtain ⟨b26, e27, h⟩ := m_bS h
    refine u_Gr X I e27 (C := RX0) (T := TX0) (N := 9) (ref := "SwapPress") in_X0 rfl (by decide) rfl rfl q235 (fun _ h => h) dX0_drop_28 ?_
    obtain ⟨b28, e29, h⟩ := m_bS h
    refine u_GrN X I e29 (C := RX1) (T := TX1) (N := 5) (ref := "SwapPress$State") (host := "SwapPress") in_X1 rfl (by decide) rfl rfl 4 rfl (fun _ h => h) dX0_drop_31 ?_
    obtain ⟨f30, e31, h⟩ := m_bS h
    obtain ⟨r33, e32, h⟩ := m_bS h
    refine u_callVp X hl.1 I hA (As := []) (rest := []) (uk_J2_size l n D d u22 b28 _ e32) (u_clS e31) (C := RJ2) (T := TJ2) (N := 3) rfl 0 q853 q667 q668 q105 q669 uh_J2_size rfl rfl ⟨Nat.le_trans (Nat.le_of_ble_eq_true rfl) hR.1, Nat.le_trans (Nat.le_of_ble_eq_true rfl) hR.2⟩ (u_leftLe hC) (stk := [.int r33]) rfl (Nat.le_of_ble_eq_true rfl) dX0_drop_34 (fun H locs I => ?_)
    obtain ⟨he, rfl⟩ := m_e3 h
    obtain ⟨rfl, rfl⟩ := m_e4 he
    exact hret H locs ls 37 _ _ dX0_drop_37 hC I
  · replace h := m_ifT c5 h
    refine lv_bipush (v := (-2)) X.1 X.2.1 dX0_drop_8 (by decide) ?_
    obtain ⟨he, rfl⟩ := m_e3 h
    obtain ⟨rfl, rfl⟩ := m_e4 he
    exact hret H locs ls 10 _ _ dX0_drop_10 hC I
end S_X0_drop
theorem uk_X0_drop (l : Launch) (n : Nat) (D : va_G) (d : UD) (u : UM) (t : Nat) (p0 : Int32) (r0 : Int32) (ur : UM) (C : UC) (h : uf_X0_drop n d u t p0 = some ((r0, ur), C)) : u_M l yX0_drop (ws_ yX0_drop cX0_drop 2 (some .int)) 8 211 C D d u [.ref t, .int p0] (some (.int r0)) ur :=
  u_start (own := RX0) (lvl := [(0, .ref t), (1, .int p0)]) (by decide) rfl (Nat.le_of_ble_eq_true rfl) rfl (fun p e s m args below meth c ls X hr hlk hI hl hA I hC => uw_X0_drop X hA ⟨Nat.le_refl _, Nat.le_refl _⟩ n u t p0 r0 ur C h (fun H locs ls pc cells slots hd hC I => u_iret X I hr hlk (u_leftE hC) hd) _ _ ls _ _ hC I hl)

/-! SwapPress.keep(I)I -/
def uf_X0_keep (n : Nat) (d : UD) (u : UM) (t : Nat) (p0 : Int32) : Option ((Int32 × UM) × UC) :=
  m_b (u_cl u 1 t) (fun f1 => m_b (uf_X0_isTrade n d u t p0) (fun r4 => m_if ((r4 : Int32) = 0) (some (((-2), u), (0, 0))) (m_b (u_cl u 1 t) (fun f6 => u_bc u.2 (uf_X0_acts n d u t) (fun r9 u10 => m_b (u_fr d u10 1 0 t) (fun b14 => m_b (u_nr u10 2 2 b14) (fun b16 => m_b (u_cl u10 13 b16) (fun f18 => m_b (uf_J2_get n d u10 b16 p0) (fun r21 => m_b (u_cl u10 6 r21) (fun f22 => m_b (u_cl u10 6 r21) (fun f24 => u_bc u10.2 (uf_X6_turned n d u10 r21) (fun r27 u28 => m_b (u_fr d u28 1 0 t) (fun b32 => m_b (u_nr u28 2 2 b32) (fun b34 => m_b (u_cl u28 13 b34) (fun f36 => u_bc u28.2 (uf_J2_set n d u28 b34 p0 r27) (fun r39 u40 => m_b (u_ni u40 6 4 r27) (fun b44 => m_b (uf_X0_one n d u40 b44) (fun r47 => some ((r47, u40), (0, 0))))))))))))))))))))
theorem uh_X0_keep : yX0_keep.cls = RX0 ∧ yX0_keep.cls ≠ "java/lang/invoke/MethodHandle" ∧ yX0_keep.cls ≠ "java/lang/invoke/VarHandle" ∧ (parseMethodDescriptor yX0_keep.desc).map (fun d => d.parameters.length) = some 1 := by decide +kernel
section S_X0_keep
variable {p : Program} {l : Launch} {e : Env} {R : Room} {s : State} {m : MethodId} {args : Array Value} {below : List Frame} {meth : Method} {c : Code} {Q : State → Prop} {D : va_G} {A : Nat → Prop} {d : UD}
theorem uw_X0_keep (X : u_X RX0 D A d p s m c cX0_keep 3 args) (hA : ∀ q, s.heap.size ≤ q → A q) (hR : 8 ≤ R.frames ∧ 211 ≤ R.locals) (n : Nat) (u : UM) (t : Nat) (p0 : Int32) (r0 : Int32) (ur : UM) (C : UC) (h : uf_X0_keep n d u t p0 = some ((r0, ur), C)) (hret : ∀ (H : Heap) (locs : List Loc) (ls : Array Slot) (pc cells slots : Nat), decode cX0_keep pc = .ok (.ireturn, 1) → u_left R cells slots (u_add (0, 0) (0, 0)) → u_I D A s.heap ur H locs cells → W p l e R s m args below meth c H locs cells slots Q (F0 m pc ls [.int r0])) : ∀ (H : Heap) (locs : List Loc) (ls : Array Slot) (cells slots : Nat), u_left R cells slots (u_add C (0, 0)) → u_I D A s.heap u H locs cells → lv_has ls 3 [(0, .ref t), (1, .int p0)] → W p l e R s m args below meth c H locs cells slots Q (F0 m 0 ls []) := by
  intro H locs ls cells slots hC I hl
  unfold uf_X0_keep at h
  refine lv_aload_n X.1 X.2.1 dX0_keep_0 rfl (lv_at hl 0 rfl) ?_
  refine lv_iload_n X.1 X.2.1 dX0_keep_1 rfl (lv_at hl 1 rfl) ?_
  obtain ⟨f1, e2, h⟩ := m_bS h
  obtain ⟨r4, e3, h⟩ := m_bS h
  refine u_callVp X hl.1 I hA (As := [.int p0]) (rest := []) (uk_X0_isTrade l n D d u t p0 _ e3) (u_clS e2) (C := RX0) (T := TX0) (N := 9) rfl 1 q921 q923 qs23 q101 q924 uh_X0_isTrade rfl rfl ⟨Nat.le_trans (Nat.le_of_ble_eq_true rfl) hR.1, Nat.le_trans (Nat.le_of_ble_eq_true rfl) hR.2⟩ (u_leftLe hC) (stk := [.int r4]) rfl (Nat.le_of_ble_eq_true rfl) dX0_keep_2 (fun H locs I => ?_)
  refine lv_if_ne (tgt := 11) X.1 X.2.1 dX0_keep_5 (by decide) (fun c5 => ?_) (fun c5 => ?_)
  · replace h := m_ifF c5 h
    refine lv_aload_n X.1 X.2.1 dX0_keep_11 rfl (lv_at hl 0 rfl) ?_
    obtain ⟨f6, e7, h⟩ := m_bS h
    obtain ⟨r9, u10, C11, C12, e8, z13, h, hq⟩ := u_bcS h
    rw [hq] at hC
    refine u_callV X hl.1 I hA (As := []) (rest := []) (uk_X0_acts l n D d u t _ _ e8) z13 (u_clS e7) (C := RX0) (T := TX0) (N := 9) rfl 0 q880 q882 qs21 q101 q883 uh_X0_acts rfl rfl ⟨Nat.le_trans (Nat.le_of_ble_eq_true rfl) hR.1, Nat.le_trans (Nat.le_of_ble_eq_true rfl) hR.2⟩ hC (stk := []) rfl (Nat.le_of_ble_eq_true rfl) dX0_keep_12 (fun H locs cells slots hC I => ?_)
    refine lv_aload_n X.1 X.2.1 dX0_keep_15 rfl (lv_at hl 0 rfl) ?_
    obtain ⟨b14, e15, h⟩ := m_bS h
    refine u_Gr X I e15 (C := RX0) (T := TX0) (N := 9) (ref := "SwapPress") in_X0 rfl (by decide) rfl rfl q235 (fun _ h => h) dX0_keep_16 ?_
    obtain ⟨b16, e17, h⟩ := m_bS h
    refine u_GrN X I e17 (C := RX1) (T := TX1) (N := 5) (ref := "SwapPress$State") (host := "SwapPress") in_X1 rfl (by decide) rfl rfl 4 rfl (fun _ h => h) dX0_keep_19 ?_
    refine lv_iload_n X.1 X.2.1 dX0_keep_22 rfl (lv_at hl 1 rfl) ?_
    obtain ⟨f18, e19, h⟩ := m_bS h
    obtain ⟨r21, e20, h⟩ := m_bS h
    refine u_callVp X hl.1 I hA (As := [.int p0]) (rest := []) (uk_J2_get l n D d u10 b16 p0 _ e20) (u_clS e19) (C := RJ2) (T := TJ2) (N := 3) rfl 1 q929 q823 q824 q105 q825 uh_J2_get rfl rfl ⟨Nat.le_trans (Nat.le_of_ble_eq_true rfl) hR.1, Nat.le_trans (Nat.le_of_ble_eq_true rfl) hR.2⟩ (u_leftLe hC) (stk := [.ref r21]) rfl (Nat.le_of_ble_eq_true rfl) dX0_keep_23 (fun H locs I => ?_)
    obtain ⟨f22, e23, h⟩ := m_bS h
    refine u_cast X I (u_clS e23) (C := RX6) (T := TX6) (N := 5) rfl q915 dX0_keep_26 ?_
    obtain ⟨f24, e25, h⟩ := m_bS h
    obtain ⟨r27, u28, C29, C30, e26, z31, h, hq⟩ := u_bcS h
    rw [hq] at hC
    refine u_callV X hl.1 I hA (As := []) (rest := []) (uk_X6_turned l n D d u10 r21 _ _ _ e26) z31 (u_clS e25) (C := RX6) (T := TX6) (N := 5) rfl 0 q930 q835 q836 q122 q837 uh_X6_turned rfl rfl ⟨Nat.le_trans (Nat.le_of_ble_eq_true rfl) hR.1, Nat.le_trans (Nat.le_of_ble_eq_true rfl) hR.2⟩ hC (stk := [.ref r27]) rfl (Nat.le_of_ble_eq_true rfl) dX0_keep_29 (fun H locs cells slots hC I => ?_)
    refine lv_astore_n (lv' := [(2, .ref r27), (0, .ref t), (1, .int p0)]) X.1 X.2.1 dX0_keep_32 rfl hl (by decide) rfl (fun ls hl => ?_)
    refine lv_aload_n X.1 X.2.1 dX0_keep_33 rfl (lv_at hl 1 rfl) ?_
    obtain ⟨b32, e33, h⟩ := m_bS h
    refine u_Gr X I e33 (C := RX0) (T := TX0) (N := 9) (ref := "SwapPress") in_X0 rfl (by decide) rfl rfl q235 (fun _ h => h) dX0_keep_34 ?_
    obtain ⟨b34, e35, h⟩ := m_bS h
    refine u_GrN X I e35 (C := RX1) (T := TX1) (N := 5) (ref := "SwapPress$State") (host := "SwapPress") in_X1 rfl (by decide) rfl rfl 4 rfl (fun _ h => h) dX0_keep_37 ?_
    refine lv_iload_n X.1 X.2.1 dX0_keep_40 rfl (lv_at hl 2 rfl) ?_
    refine lv_aload_n X.1 X.2.1 dX0_keep_41 rfl (lv_at hl 0 rfl) ?_
    obtain ⟨f36, e37, h⟩ := m_bS h
    obtain ⟨r39, u40, C41, C42, e38, z43, h, hq⟩ := u_bcS h
    rw [hq] at hC
    refine u_callV X hl.1 I hA (As := [.int p0, .ref r27]) (rest := []) (uk_J2_set l n D d u28 b34 p0 r27 _ _ _ e38) z43 (u_clS e37) (C := RJ2) (T := TJ2) (N := 3) rfl 2 q931 q841 q842 q105 q843 uh_J2_set rfl rfl ⟨Nat.le_trans (Nat.le_of_ble_eq_true rfl) hR.1, Nat.le_trans (Nat.le_of_ble_eq_true rfl) hR.2⟩ hC (stk := [.ref r39]) rfl (Nat.le_of_ble_eq_true rfl) dX0_keep_42 (fun H locs cells slots hC I => ?_)
    refine lv_pop X.1 X.2.1 dX0_keep_45 rfl ?_
    refine lv_aload_n X.1 X.2.1 dX0_keep_46 rfl (lv_at hl 0 rfl) ?_
    obtain ⟨b44, e45, h⟩ := m_bS h
    refine u_GiN X I e45 (C := RX6) (T := TX6) (N := 5) (ref := "SwapPress$Trade") (host := "SwapPress") in_X6 rfl (by decide) rfl rfl 24 rfl (fun _ h => h) dX0_keep_47 ?_
    obtain ⟨r47, e46, h⟩ := m_bS h
    refine u_callSp X hl.1 I hA (As := [.int b44]) (rest := []) (uk_X0_one l n D d u40 b44 _ e46) 1 q932 q933 q101 q934 uh_X0_one.2 rfl rfl ⟨Nat.le_trans (Nat.le_of_ble_eq_true rfl) hR.1, Nat.le_trans (Nat.le_of_ble_eq_true rfl) hR.2⟩ (u_leftLe hC) (stk := [.int r47]) rfl (Nat.le_of_ble_eq_true rfl) dX0_keep_50 (fun H locs I => ?_)
    obtain ⟨he, rfl⟩ := m_e3 h
    obtain ⟨rfl, rfl⟩ := m_e4 he
    exact hret H locs ls 53 _ _ dX0_keep_53 hC I
  · replace h := m_ifT c5 h
    refine lv_bipush (v := (-2)) X.1 X.2.1 dX0_keep_8 (by decide) ?_
    obtain ⟨he, rfl⟩ := m_e3 h
    obtain ⟨rfl, rfl⟩ := m_e4 he
    exact hret H locs ls 10 _ _ dX0_keep_10 hC I
end S_X0_keep
theorem uk_X0_keep (l : Launch) (n : Nat) (D : va_G) (d : UD) (u : UM) (t : Nat) (p0 : Int32) (r0 : Int32) (ur : UM) (C : UC) (h : uf_X0_keep n d u t p0 = some ((r0, ur), C)) : u_M l yX0_keep (ws_ yX0_keep cX0_keep 3 (some .int)) 8 211 C D d u [.ref t, .int p0] (some (.int r0)) ur :=
  u_start (own := RX0) (lvl := [(0, .ref t), (1, .int p0)]) (by decide) rfl (Nat.le_of_ble_eq_true rfl) rfl (fun p e s m args below meth c ls X hr hlk hI hl hA I hC => uw_X0_keep X hA ⟨Nat.le_refl _, Nat.le_refl _⟩ n u t p0 r0 ur C h (fun H locs ls pc cells slots hd hC I => u_iret X I hr hlk (u_leftE hC) hd) _ _ ls _ _ hC I hl)

/-! SwapPress.mode(I)I -/
def uf_X0_mode (n : Nat) (d : UD) (u : UM) (t : Nat) (p0 : Int32) : Option ((Int32 × UM) × UC) :=
  m_b (uf_X0_in n d u ((p0 : Int32).toInt64) 0 3) (fun r2 => m_if ((r2 : Int32) = 0) (some (((-3), u), (0, 0))) (m_b (u_cl u 1 t) (fun f4 => u_bc u.2 (uf_X0_acts n d u t) (fun r7 u8 => m_b (u_fr d u8 1 0 t) (fun b12 => m_b (u_ni u8 2 4 b12) (fun b14 => m_b (u_fr d u8 1 0 t) (fun b16 => m_b (u_pf u8 2 4 b16 (.int p0)) (fun w18 => some ((b14, (w18, u8.2)), (0, 0))))))))))
theorem uh_X0_mode : yX0_mode.cls = RX0 ∧ yX0_mode.cls ≠ "java/lang/invoke/MethodHandle" ∧ yX0_mode.cls ≠ "java/lang/invoke/VarHandle" ∧ (parseMethodDescriptor yX0_mode.desc).map (fun d => d.parameters.length) = some 1 := by decide +kernel
section S_X0_mode
variable {p : Program} {l : Launch} {e : Env} {R : Room} {s : State} {m : MethodId} {args : Array Value} {below : List Frame} {meth : Method} {c : Code} {Q : State → Prop} {D : va_G} {A : Nat → Prop} {d : UD}
theorem uw_X0_mode (X : u_X RX0 D A d p s m c cX0_mode 3 args) (hA : ∀ q, s.heap.size ≤ q → A q) (hR : 8 ≤ R.frames ∧ 211 ≤ R.locals) (n : Nat) (u : UM) (t : Nat) (p0 : Int32) (r0 : Int32) (ur : UM) (C : UC) (h : uf_X0_mode n d u t p0 = some ((r0, ur), C)) (hret : ∀ (H : Heap) (locs : List Loc) (ls : Array Slot) (pc cells slots : Nat), decode cX0_mode pc = .ok (.ireturn, 1) → u_left R cells slots (u_add (0, 0) (0, 0)) → u_I D A s.heap ur H locs cells → W p l e R s m args below meth c H locs cells slots Q (F0 m pc ls [.int r0])) : ∀ (H : Heap) (locs : List Loc) (ls : Array Slot) (cells slots : Nat), u_left R cells slots (u_add C (0, 0)) → u_I D A s.heap u H locs cells → lv_has ls 3 [(0, .ref t), (1, .int p0)] → W p l e R s m args below meth c H locs cells slots Q (F0 m 0 ls []) := by
  intro H locs ls cells slots hC I hl
  unfold uf_X0_mode at h
  refine lv_iload_n X.1 X.2.1 dX0_mode_0 rfl (lv_at hl 1 rfl) ?_
  refine lv_i2l X.1 X.2.1 dX0_mode_1 rfl ?_
  refine lv_lconst (v := 0) X.1 X.2.1 dX0_mode_2 (by decide) ?_
  refine lv_ldc2 (v := 3) X.1 X.2.1 X.2.2.2.1 (X.2.2.1 _ q939) dX0_mode_3 ?_
  obtain ⟨r2, e1, h⟩ := m_bS h
  refine u_callSp X hl.1 I hA (As := [.long ((p0 : Int32).toInt64), .long 0, .long 3]) (rest := []) (uk_X0_in l n D d u ((p0 : Int32).toInt64) 0 3 _ e1) 3 q279 q280 q101 q281 uh_X0_in.2 rfl rfl ⟨Nat.le_trans (Nat.le_of_ble_eq_true rfl) hR.1, Nat.le_trans (Nat.le_of_ble_eq_true rfl) hR.2⟩ (u_leftLe hC) (stk := [.int r2]) rfl (Nat.le_of_ble_eq_true rfl) dX0_mode_6 (fun H locs I => ?_)
  refine lv_if_ne (tgt := 15) X.1 X.2.1 dX0_mode_9 (by decide) (fun c3 => ?_) (fun c3 => ?_)
  · replace h := m_ifF c3 h
    refine lv_aload_n X.1 X.2.1 dX0_mode_15 rfl (lv_at hl 0 rfl) ?_
    obtain ⟨f4, e5, h⟩ := m_bS h
    obtain ⟨r7, u8, C9, C10, e6, z11, h, hq⟩ := u_bcS h
    rw [hq] at hC
    refine u_callV X hl.1 I hA (As := []) (rest := []) (uk_X0_acts l n D d u t _ _ e6) z11 (u_clS e5) (C := RX0) (T := TX0) (N := 9) rfl 0 q880 q882 qs21 q101 q883 uh_X0_acts rfl rfl ⟨Nat.le_trans (Nat.le_of_ble_eq_true rfl) hR.1, Nat.le_trans (Nat.le_of_ble_eq_true rfl) hR.2⟩ hC (stk := []) rfl (Nat.le_of_ble_eq_true rfl) dX0_mode_16 (fun H locs cells slots hC I => ?_)
    refine lv_aload_n X.1 X.2.1 dX0_mode_19 rfl (lv_at hl 0 rfl) ?_
    obtain ⟨b12, e13, h⟩ := m_bS h
    refine u_Gr X I e13 (C := RX0) (T := TX0) (N := 9) (ref := "SwapPress") in_X0 rfl (by decide) rfl rfl q235 (fun _ h => h) dX0_mode_20 ?_
    obtain ⟨b14, e15, h⟩ := m_bS h
    refine u_GiN X I e15 (C := RX1) (T := TX1) (N := 5) (ref := "SwapPress$State") (host := "SwapPress") in_X1 rfl (by decide) rfl rfl 8 rfl (fun _ h => h) dX0_mode_23 ?_
    refine lv_istore_n (lv' := [(2, .int b14), (0, .ref t), (1, .int p0)]) X.1 X.2.1 dX0_mode_26 rfl hl (by decide) rfl (fun ls hl => ?_)
    refine lv_aload_n X.1 X.2.1 dX0_mode_27 rfl (lv_at hl 1 rfl) ?_
    obtain ⟨b16, e17, h⟩ := m_bS h
    refine u_Gr X I e17 (C := RX0) (T := TX0) (N := 9) (ref := "SwapPress") in_X0 rfl (by decide) rfl rfl q235 (fun _ h => h) dX0_mode_28 ?_
    refine lv_iload_n X.1 X.2.1 dX0_mode_31 rfl (lv_at hl 2 rfl) ?_
    obtain ⟨w18, e19, h⟩ := m_bS h
    refine u_PN X I e19 (C := RX1) (T := TX1) (N := 5) (ref := "SwapPress$State") (host := "SwapPress") in_X1 tyX1 tyX1_ok nmX1 rfl (by decide) rfl rfl 8 rfl (fun _ h => h) rfl rfl rfl dX0_mode_32 (fun H locs I => ?_)
    refine lv_iload_n X.1 X.2.1 dX0_mode_35 rfl (lv_at hl 0 rfl) ?_
    obtain ⟨he, rfl⟩ := m_e3 h
    obtain ⟨rfl, rfl⟩ := m_e4 he
    exact hret H locs ls 36 _ _ dX0_mode_36 hC I
  · replace h := m_ifT c3 h
    refine lv_bipush (v := (-3)) X.1 X.2.1 dX0_mode_12 (by decide) ?_
    obtain ⟨he, rfl⟩ := m_e3 h
    obtain ⟨rfl, rfl⟩ := m_e4 he
    exact hret H locs ls 14 _ _ dX0_mode_14 hC I
end S_X0_mode
theorem uk_X0_mode (l : Launch) (n : Nat) (D : va_G) (d : UD) (u : UM) (t : Nat) (p0 : Int32) (r0 : Int32) (ur : UM) (C : UC) (h : uf_X0_mode n d u t p0 = some ((r0, ur), C)) : u_M l yX0_mode (ws_ yX0_mode cX0_mode 3 (some .int)) 8 211 C D d u [.ref t, .int p0] (some (.int r0)) ur :=
  u_start (own := RX0) (lvl := [(0, .ref t), (1, .int p0)]) (by decide) rfl (Nat.le_of_ble_eq_true rfl) rfl (fun p e s m args below meth c ls X hr hlk hI hl hA I hC => uw_X0_mode X hA ⟨Nat.le_refl _, Nat.le_refl _⟩ n u t p0 r0 ur C h (fun H locs ls pc cells slots hd hC I => u_iret X I hr hlk (u_leftE hC) hd) _ _ ls _ _ hC I hl)

/-! SwapPress.cap(III)I -/
def uf_X0_cap (n : Nat) (d : UD) (u : UM) (t : Nat) (p0 : Int32) (p1 : Int32) (p2 : Int32) : Option ((Int32 × UM) × UC) :=
  m_b (u_cl u 1 t) (fun f1 => m_b (uf_X0_areTwo n d u t p0 p1) (fun r4 => m_if ((r4 : Int32) = 0) (some (((-2), u), (0, 0))) (m_b (uf_X0_in n d u ((p2 : Int32).toInt64) 0 99999999) (fun r7 => m_if ((r7 : Int32) = 0) (some (((-3), u), (0, 0))) (m_b (u_cl u 1 t) (fun f9 => u_bc u.2 (uf_X0_acts n d u t) (fun r12 u13 => m_b (u_fr d u13 1 0 t) (fun b17 => m_b (u_nr u13 2 3 b17) (fun b19 => m_b (u_ldI d u13 b19 ((8 * p0) + p1)) (fun b21 => m_b (u_fr d u13 1 0 t) (fun b23 => m_b (u_nr u13 2 3 b23) (fun b25 => m_b (u_stI d u13 b25 ((8 * p0) + p1) p2) (fun w27 => some ((b21, (w27, u13.2)), (0, 0)))))))))))))))
theorem uh_X0_cap : yX0_cap.cls = RX0 ∧ yX0_cap.cls ≠ "java/lang/invoke/MethodHandle" ∧ yX0_cap.cls ≠ "java/lang/invoke/VarHandle" ∧ (parseMethodDescriptor yX0_cap.desc).map (fun d => d.parameters.length) = some 3 := by decide +kernel
section S_X0_cap
variable {p : Program} {l : Launch} {e : Env} {R : Room} {s : State} {m : MethodId} {args : Array Value} {below : List Frame} {meth : Method} {c : Code} {Q : State → Prop} {D : va_G} {A : Nat → Prop} {d : UD}
theorem uw_X0_cap (X : u_X RX0 D A d p s m c cX0_cap 5 args) (hA : ∀ q, s.heap.size ≤ q → A q) (hR : 8 ≤ R.frames ∧ 211 ≤ R.locals) (n : Nat) (u : UM) (t : Nat) (p0 : Int32) (p1 : Int32) (p2 : Int32) (r0 : Int32) (ur : UM) (C : UC) (h : uf_X0_cap n d u t p0 p1 p2 = some ((r0, ur), C)) (hret : ∀ (H : Heap) (locs : List Loc) (ls : Array Slot) (pc cells slots : Nat), decode cX0_cap pc = .ok (.ireturn, 1) → u_left R cells slots (u_add (0, 0) (0, 0)) → u_I D A s.heap ur H locs cells → W p l e R s m args below meth c H locs cells slots Q (F0 m pc ls [.int r0])) : ∀ (H : Heap) (locs : List Loc) (ls : Array Slot) (cells slots : Nat), u_left R cells slots (u_add C (0, 0)) → u_I D A s.heap u H locs cells → lv_has ls 5 [(0, .ref t), (1, .int p0), (2, .int p1), (3, .int p2)] → W p l e R s m args below meth c H locs cells slots Q (F0 m 0 ls []) := by
  intro H locs ls cells slots hC I hl
  unfold uf_X0_cap at h
  refine lv_aload_n X.1 X.2.1 dX0_cap_0 rfl (lv_at hl 0 rfl) ?_
  refine lv_iload_n X.1 X.2.1 dX0_cap_1 rfl (lv_at hl 1 rfl) ?_
  refine lv_iload_n X.1 X.2.1 dX0_cap_2 rfl (lv_at hl 2 rfl) ?_
  obtain ⟨f1, e2, h⟩ := m_bS h
  obtain ⟨r4, e3, h⟩ := m_bS h
  refine u_callVp X hl.1 I hA (As := [.int p0, .int p1]) (rest := []) (uk_X0_areTwo l n D d u t p0 p1 _ e3) (u_clS e2) (C := RX0) (T := TX0) (N := 9) rfl 2 q862 q864 qs18 q101 q865 uh_X0_areTwo rfl rfl ⟨Nat.le_trans (Nat.le_of_ble_eq_true rfl) hR.1, Nat.le_trans (Nat.le_of_ble_eq_true rfl) hR.2⟩ (u_leftLe hC) (stk := [.int r4]) rfl (Nat.le_of_ble_eq_true rfl) dX0_cap_3 (fun H locs I => ?_)
  refine lv_if_ne (tgt := 12) X.1 X.2.1 dX0_cap_6 (by decide) (fun c5 => ?_) (fun c5 => ?_)
  · replace h := m_ifF c5 h
    refine lv_iload_n X.1 X.2.1 dX0_cap_12 rfl (lv_at hl 3 rfl) ?_
    refine lv_i2l X.1 X.2.1 dX0_cap_13 rfl ?_
    refine lv_lconst (v := 0) X.1 X.2.1 dX0_cap_14 (by decide) ?_
    refine lv_ldc2 (v := 99999999) X.1 X.2.1 X.2.2.2.1 (X.2.2.1 _ q944) dX0_cap_15 ?_
    obtain ⟨r7, e6, h⟩ := m_bS h
    refine u_callSp X hl.1 I hA (As := [.long ((p2 : Int32).toInt64), .long 0, .long 99999999]) (rest := []) (uk_X0_in l n D d u ((p2 : Int32).toInt64) 0 99999999 _ e6) 3 q279 q280 q101 q281 uh_X0_in.2 rfl rfl ⟨Nat.le_trans (Nat.le_of_ble_eq_true rfl) hR.1, Nat.le_trans (Nat.le_of_ble_eq_true rfl) hR.2⟩ (u_leftLe hC) (stk := [.int r7]) rfl (Nat.le_of_ble_eq_true rfl) dX0_cap_18 (fun H locs I => ?_)
    refine lv_if_ne (tgt := 27) X.1 X.2.1 dX0_cap_21 (by decide) (fun c8 => ?_) (fun c8 => ?_)
    · replace h := m_ifF c8 h
      refine lv_aload_n X.1 X.2.1 dX0_cap_27 rfl (lv_at hl 0 rfl) ?_
      obtain ⟨f9, e10, h⟩ := m_bS h
      obtain ⟨r12, u13, C14, C15, e11, z16, h, hq⟩ := u_bcS h
      rw [hq] at hC
      refine u_callV X hl.1 I hA (As := []) (rest := []) (uk_X0_acts l n D d u t _ _ e11) z16 (u_clS e10) (C := RX0) (T := TX0) (N := 9) rfl 0 q880 q882 qs21 q101 q883 uh_X0_acts rfl rfl ⟨Nat.le_trans (Nat.le_of_ble_eq_true rfl) hR.1, Nat.le_trans (Nat.le_of_ble_eq_true rfl) hR.2⟩ hC (stk := []) rfl (Nat.le_of_ble_eq_true rfl) dX0_cap_28 (fun H locs cells slots hC I => ?_)
      refine lv_aload_n X.1 X.2.1 dX0_cap_31 rfl (lv_at hl 0 rfl) ?_
      obtain ⟨b17, e18, h⟩ := m_bS h
      refine u_Gr X I e18 (C := RX0) (T := TX0) (N := 9) (ref := "SwapPress") in_X0 rfl (by decide) rfl rfl q235 (fun _ h => h) dX0_cap_32 ?_
      obtain ⟨b19, e20, h⟩ := m_bS h
      refine u_GrN X I e20 (C := RX1) (T := TX1) (N := 5) (ref := "SwapPress$State") (host := "SwapPress") in_X1 rfl (by decide) rfl rfl 6 rfl (fun _ h => h) dX0_cap_35 ?_
      refine lv_bipush (v := 8) X.1 X.2.1 dX0_cap_38 (by decide) ?_
      refine lv_iload_n X.1 X.2.1 dX0_cap_40 rfl (lv_at hl 1 rfl) ?_
      refine lv_imul X.1 X.2.1 dX0_cap_41 ?_
      refine lv_iload_n X.1 X.2.1 dX0_cap_42 rfl (lv_at hl 2 rfl) ?_
      refine lv_iadd X.1 X.2.1 dX0_cap_43 ?_
      obtain ⟨b21, e22, h⟩ := m_bS h
      refine u_LI X I e22 dX0_cap_44 ?_
      refine lv_istore (lv' := [(4, .int b21), (0, .ref t), (1, .int p0), (2, .int p1), (3, .int p2)]) X.1 X.2.1 dX0_cap_45 hl (by decide) rfl (fun ls hl => ?_)
      refine lv_aload_n X.1 X.2.1 dX0_cap_47 rfl (lv_at hl 1 rfl) ?_
      obtain ⟨b23, e24, h⟩ := m_bS h
      refine u_Gr X I e24 (C := RX0) (T := TX0) (N := 9) (ref := "SwapPress") in_X0 rfl (by decide) rfl rfl q235 (fun _ h => h) dX0_cap_48 ?_
      obtain ⟨b25, e26, h⟩ := m_bS h
      refine u_GrN X I e26 (C := RX1) (T := TX1) (N := 5) (ref := "SwapPress$State") (host := "SwapPress") in_X1 rfl (by decide) rfl rfl 6 rfl (fun _ h => h) dX0_cap_51 ?_
      refine lv_bipush (v := 8) X.1 X.2.1 dX0_cap_54 (by decide) ?_
      refine lv_iload_n X.1 X.2.1 dX0_cap_56 rfl (lv_at hl 2 rfl) ?_
      refine lv_imul X.1 X.2.1 dX0_cap_57 ?_
      refine lv_iload_n X.1 X.2.1 dX0_cap_58 rfl (lv_at hl 3 rfl) ?_
      refine lv_iadd X.1 X.2.1 dX0_cap_59 ?_
      refine lv_iload_n X.1 X.2.1 dX0_cap_60 rfl (lv_at hl 4 rfl) ?_
      obtain ⟨w27, e28, h⟩ := m_bS h
      refine u_SI X I e28 dX0_cap_61 (fun H locs I => ?_)
      refine lv_iload X.1 X.2.1 dX0_cap_62 (lv_at hl 0 rfl) ?_
      obtain ⟨he, rfl⟩ := m_e3 h
      obtain ⟨rfl, rfl⟩ := m_e4 he
      exact hret H locs ls 64 _ _ dX0_cap_64 hC I
    · replace h := m_ifT c8 h
      refine lv_bipush (v := (-3)) X.1 X.2.1 dX0_cap_24 (by decide) ?_
      obtain ⟨he, rfl⟩ := m_e3 h
      obtain ⟨rfl, rfl⟩ := m_e4 he
      exact hret H locs ls 26 _ _ dX0_cap_26 hC I
  · replace h := m_ifT c5 h
    refine lv_bipush (v := (-2)) X.1 X.2.1 dX0_cap_9 (by decide) ?_
    obtain ⟨he, rfl⟩ := m_e3 h
    obtain ⟨rfl, rfl⟩ := m_e4 he
    exact hret H locs ls 11 _ _ dX0_cap_11 hC I
end S_X0_cap
theorem uk_X0_cap (l : Launch) (n : Nat) (D : va_G) (d : UD) (u : UM) (t : Nat) (p0 : Int32) (p1 : Int32) (p2 : Int32) (r0 : Int32) (ur : UM) (C : UC) (h : uf_X0_cap n d u t p0 p1 p2 = some ((r0, ur), C)) : u_M l yX0_cap (ws_ yX0_cap cX0_cap 5 (some .int)) 8 211 C D d u [.ref t, .int p0, .int p1, .int p2] (some (.int r0)) ur :=
  u_start (own := RX0) (lvl := [(0, .ref t), (1, .int p0), (2, .int p1), (3, .int p2)]) (by decide) rfl (Nat.le_of_ble_eq_true rfl) rfl (fun p e s m args below meth c ls X hr hlk hI hl hA I hC => uw_X0_cap X hA ⟨Nat.le_refl _, Nat.le_refl _⟩ n u t p0 p1 p2 r0 ur C h (fun H locs ls pc cells slots hd hC I => u_iret X I hr hlk (u_leftE hC) hd) _ _ ls _ _ hC I hl)

/-! SwapPress.takeRing(I)I -/
def uf_X0_takeRing_L56 (n : Nat) (d : UD) (v0 : Nat) (v1 : Int32) (v2 : Nat) (v3 : Int32) (v4 : Int32) (u : UM) : Option (((Int32 × UM) ⊕ UM) × UC) :=
  m_b (u_ni u 7 3 v2) (fun b52 => m_if ((b52 : Int32) ≤ (v4 : Int32)) (some (.inr u, (0, 0))) (m_b (u_nr u 7 2 v2) (fun b55 => m_b (u_ldI d u b55 v4) (fun b57 => m_b (u_cl u 7 v2) (fun f59 => m_b (uf_X7_next n d u v2 v4) (fun r62 => m_b (u_cl u 1 v0) (fun f63 => u_bc u.2 (uf_X0_lessens n d u v0 b57 r62 v1 v3) (fun r66 u67 => some (.inl ((v4 + 1, u67)), (0, 0))))))))))
def uf_X0_takeRing_L56l (n : Nat) (d : UD) (v0 : Nat) (v1 : Int32) (v2 : Nat) (v3 : Int32) (x : (Int32 × UM)) : Option (UM × UC) := u_lp (fun (x : (Int32 × UM)) => uf_X0_takeRing_L56 n d v0 v1 v2 v3 x.1 x.2) n x
def uf_X0_takeRing (n : Nat) (d : UD) (u : UM) (t : Nat) (p0 : Int32) : Option ((Int32 × UM) × UC) :=
  m_b (u_cl u 1 t) (fun f1 => m_b (uf_X0_isKind n d u t p0) (fun r4 => m_if ((r4 : Int32) = 0) (some (((-2), u), (0, 0))) (u_ac (1, 4) (m_b (some (u_nw u (.inr (7, [.int 0, .null, .null, .int 0])))) (fun u7 => m_b (u_fr d u7 1 0 t) (fun b9 => m_b (u_cl u7 2 b9) (fun f11 => m_b (uf_X1_many n d u7 b9) (fun r14 => m_b (u_fr d u7 1 0 t) (fun b15 => m_b (u_cl u7 2 b15) (fun f17 => u_bc u7.2 (uf_X1_flows n d u7 b15 p0) (fun r20 u21 => u_bc u21.2 (uf_X7_init n d u21 u.2 r14 r20) (fun r26 u27 => m_b (u_cl u27 7 u.2) (fun f31 => u_bc u27.2 (uf_X7_finds n d u27 u.2) (fun r34 u35 => m_if ((r34 : Int32) = 0) (some (((-5), u35), (0, 0))) (m_b (u_cl u35 1 t) (fun f40 => u_bc u35.2 (uf_X0_acts n d u35 t) (fun r43 u44 => m_b (u_cl u44 7 u.2) (fun f48 => m_b (uf_X7_load n d u44 u.2) (fun r51 => u_bl (uf_X0_takeRing_L56l n d t p0 u.2 r51 ((0, u44))) (fun u72 => some ((r51, u72), (0, 0))))))))))))))))))))))
theorem uh_X0_takeRing : yX0_takeRing.cls = RX0 ∧ yX0_takeRing.cls ≠ "java/lang/invoke/MethodHandle" ∧ yX0_takeRing.cls ≠ "java/lang/invoke/VarHandle" ∧ (parseMethodDescriptor yX0_takeRing.desc).map (fun d => d.parameters.length) = some 1 := by decide +kernel
section S_X0_takeRing
variable {p : Program} {l : Launch} {e : Env} {R : Room} {s : State} {m : MethodId} {args : Array Value} {below : List Frame} {meth : Method} {c : Code} {Q : State → Prop} {D : va_G} {A : Nat → Prop} {d : UD}
theorem wuf_X0_takeRing_L56 (X : u_X RX0 D A d p s m c cX0_takeRing 5 args) (hA : ∀ q, s.heap.size ≤ q → A q) (hR : 12 ≤ R.frames ∧ 273 ≤ R.locals) (n : Nat) (v0 : Nat) (v1 : Int32) (v2 : Nat) (v3 : Int32) (x : (Int32 × UM)) (z : UM) (C cr : UC) (hz : uf_X0_takeRing_L56l n d v0 v1 v2 v3 x = some (z, C)) (hE : (fun (z : UM) (C : UC) => ∀ (H : Heap) (locs : List Loc) (ls : Array Slot) (cells slots : Nat), u_left R cells slots C → u_I D A s.heap z H locs cells → lv_has ls 5 [(3, .int v3)] → W p l e R s m args below meth c H locs cells slots Q (F0 m 90 ls [])) z cr) : (fun (x : (Int32 × UM)) (C : UC) => ∀ (H : Heap) (locs : List Loc) (ls : Array Slot) (cells slots : Nat), u_left R cells slots C → u_I D A s.heap x.2 H locs cells → lv_has ls 5 [(0, .ref v0), (1, .int v1), (2, .ref v2), (3, .int v3), (4, .int x.1)] → W p l e R s m args below meth c H locs cells slots Q (F0 m 56 ls [])) x (u_add C cr) := by
  refine u_lpW (G := fun (x : (Int32 × UM)) (C : UC) => ∀ (H : Heap) (locs : List Loc) (ls : Array Slot) (cells slots : Nat), u_left R cells slots C → u_I D A s.heap x.2 H locs cells → lv_has ls 5 [(0, .ref v0), (1, .int v1), (2, .ref v2), (3, .int v3), (4, .int x.1)] → W p l e R s m args below meth c H locs cells slots Q (F0 m 56 ls [])) (E := fun (z : UM) (C : UC) => ∀ (H : Heap) (locs : List Loc) (ls : Array Slot) (cells slots : Nat), u_left R cells slots C → u_I D A s.heap z H locs cells → lv_has ls 5 [(3, .int v3)] → W p l e R s m args below meth c H locs cells slots Q (F0 m 90 ls [])) ?_ n x z C cr hz hE
  rintro ⟨v4, u⟩ r C cr h hr H locs ls cells slots hC I hl
  replace h : uf_X0_takeRing_L56 n d v0 v1 v2 v3 v4 u = some (r, C) := h
  unfold uf_X0_takeRing_L56 at h
  refine lv_iload X.1 X.2.1 dX0_takeRing_56 (lv_at hl 4 rfl) ?_
  refine lv_aload_n X.1 X.2.1 dX0_takeRing_58 rfl (lv_at hl 2 rfl) ?_
  obtain ⟨b52, e53, h⟩ := m_bS h
  refine u_GiN X I e53 (C := RX7) (T := TX7) (N := 4) (ref := "SwapPress$Rings") (host := "SwapPress") in_X7 rfl (by decide) rfl rfl 26 rfl (fun _ h => h) dX0_takeRing_59 ?_
  refine lv_icmp_ge (tgt := 90) X.1 X.2.1 dX0_takeRing_62 (by decide) (fun c54 => ?_) (fun c54 => ?_)
  · replace h := m_ifT c54 h
    obtain ⟨rfl, rfl⟩ := m_e3 h
    exact hr H locs ls _ _ (u_left0 hC) I (lv_sub hl [3] rfl)
  · replace h := m_ifF c54 h
    refine lv_aload_n X.1 X.2.1 dX0_takeRing_65 rfl (lv_at hl 0 rfl) ?_
    refine lv_aload_n X.1 X.2.1 dX0_takeRing_66 rfl (lv_at hl 2 rfl) ?_
    obtain ⟨b55, e56, h⟩ := m_bS h
    refine u_GrN X I e56 (C := RX7) (T := TX7) (N := 4) (ref := "SwapPress$Rings") (host := "SwapPress") in_X7 rfl (by decide) rfl rfl 25 rfl (fun _ h => h) dX0_takeRing_67 ?_
    refine lv_iload X.1 X.2.1 dX0_takeRing_70 (lv_at hl 4 rfl) ?_
    obtain ⟨b57, e58, h⟩ := m_bS h
    refine u_LI X I e58 dX0_takeRing_72 ?_
    refine lv_aload_n X.1 X.2.1 dX0_takeRing_73 rfl (lv_at hl 2 rfl) ?_
    refine lv_iload X.1 X.2.1 dX0_takeRing_74 (lv_at hl 4 rfl) ?_
    obtain ⟨f59, e60, h⟩ := m_bS h
    obtain ⟨r62, e61, h⟩ := m_bS h
    refine u_callVp X hl.1 I hA (As := [.int v4]) (rest := [.int b57, .ref v0]) (uk_X7_next l n D d u v2 v4 _ e61) (u_clS e60) (C := RX7) (T := TX7) (N := 4) rfl 1 q1001 q997 q998 q124 q999 uh_X7_next rfl rfl ⟨Nat.le_trans (Nat.le_of_ble_eq_true rfl) hR.1, Nat.le_trans (Nat.le_of_ble_eq_true rfl) hR.2⟩ (u_leftLe hC) (stk := [.int r62, .int b57, .ref v0]) rfl (Nat.le_of_ble_eq_true rfl) dX0_takeRing_76 (fun H locs I => ?_)
    refine lv_iload_n X.1 X.2.1 dX0_takeRing_79 rfl (lv_at hl 1 rfl) ?_
    refine lv_iload_n X.1 X.2.1 dX0_takeRing_80 rfl (lv_at hl 3 rfl) ?_
    obtain ⟨f63, e64, h⟩ := m_bS h
    obtain ⟨r66, u67, C68, C69, e65, z70, h, hq⟩ := u_bcS h
    rw [hq] at hC
    refine u_callV X hl.1 I hA (As := [.int b57, .int r62, .int v1, .int v3]) (rest := []) (uk_X0_lessens l n D d u v0 b57 r62 v1 v3 _ _ e65) z70 (u_clS e64) (C := RX0) (T := TX0) (N := 9) rfl 4 q1002 q1004 qs26 q101 q1005 uh_X0_lessens rfl rfl ⟨Nat.le_trans (Nat.le_of_ble_eq_true rfl) hR.1, Nat.le_trans (Nat.le_of_ble_eq_true rfl) hR.2⟩ hC (stk := []) rfl (Nat.le_of_ble_eq_true rfl) dX0_takeRing_81 (fun H locs cells slots hC I => ?_)
    refine lv_iinc (v := v4 + 1) (lv' := [(4, .int (v4 + 1)), (0, .ref v0), (1, .int v1), (2, .ref v2), (3, .int v3)]) X.1 X.2.1 dX0_takeRing_84 hl (k := 4) rfl rfl (by decide) rfl (fun ls hl => ?_)
    refine lv_goto (tgt := 56) X.1 X.2.1 dX0_takeRing_87 (by decide) ?_
    obtain ⟨rfl, rfl⟩ := m_e3 h
    exact hr H locs ls _ _ (u_left0 hC) I (lv_sub hl [1, 2, 3, 4, 0] rfl)
theorem uw_X0_takeRing (X : u_X RX0 D A d p s m c cX0_takeRing 5 args) (hA : ∀ q, s.heap.size ≤ q → A q) (hR : 12 ≤ R.frames ∧ 273 ≤ R.locals) (n : Nat) (u : UM) (t : Nat) (p0 : Int32) (r0 : Int32) (ur : UM) (C : UC) (h : uf_X0_takeRing n d u t p0 = some ((r0, ur), C)) (hret : ∀ (H : Heap) (locs : List Loc) (ls : Array Slot) (pc cells slots : Nat), decode cX0_takeRing pc = .ok (.ireturn, 1) → u_left R cells slots (u_add (0, 0) (0, 0)) → u_I D A s.heap ur H locs cells → W p l e R s m args below meth c H locs cells slots Q (F0 m pc ls [.int r0])) : ∀ (H : Heap) (locs : List Loc) (ls : Array Slot) (cells slots : Nat), u_left R cells slots (u_add C (0, 0)) → u_I D A s.heap u H locs cells → lv_has ls 5 [(0, .ref t), (1, .int p0)] → W p l e R s m args below meth c H locs cells slots Q (F0 m 0 ls []) := by
  intro H locs ls cells slots hC I hl
  unfold uf_X0_takeRing at h
  refine lv_aload_n X.1 X.2.1 dX0_takeRing_0 rfl (lv_at hl 0 rfl) ?_
  refine lv_iload_n X.1 X.2.1 dX0_takeRing_1 rfl (lv_at hl 1 rfl) ?_
  obtain ⟨f1, e2, h⟩ := m_bS h
  obtain ⟨r4, e3, h⟩ := m_bS h
  refine u_callVp X hl.1 I hA (As := [.int p0]) (rest := []) (uk_X0_isKind l n D d u t p0 _ e3) (u_clS e2) (C := RX0) (T := TX0) (N := 9) rfl 1 q875 q877 qs20 q101 q878 uh_X0_isKind rfl rfl ⟨Nat.le_trans (Nat.le_of_ble_eq_true rfl) hR.1, Nat.le_trans (Nat.le_of_ble_eq_true rfl) hR.2⟩ (u_leftLe hC) (stk := [.int r4]) rfl (Nat.le_of_ble_eq_true rfl) dX0_takeRing_2 (fun H locs I => ?_)
  refine lv_if_ne (tgt := 11) X.1 X.2.1 dX0_takeRing_5 (by decide) (fun c5 => ?_) (fun c5 => ?_)
  · replace h := m_ifF c5 h
    obtain ⟨C6, h, hq⟩ := u_acS h
    rw [hq] at hC
    obtain ⟨u7, e8, h⟩ := m_bS h
    refine u_NO X I hA 7 (C := RX7) (T := TX7) (N := 4) in_X7 tyX7 tyX7_ok q949 q950 q124 rfl (fs := [.int 0, .null, .null, .int 0]) e8 (fun j hj => by match j, hj with | 0, _ => rfl | 1, _ => rfl | 2, _ => rfl | 3, _ => rfl) hC dX0_takeRing_11 (fun H cells slots hC I => ?_)
    refine lv_dup X.1 X.2.1 dX0_takeRing_14 rfl ?_
    refine lv_aload_n X.1 X.2.1 dX0_takeRing_15 rfl (lv_at hl 0 rfl) ?_
    obtain ⟨b9, e10, h⟩ := m_bS h
    refine u_Gr X I e10 (C := RX0) (T := TX0) (N := 9) (ref := "SwapPress") in_X0 rfl (by decide) rfl rfl q235 (fun _ h => h) dX0_takeRing_16 ?_
    obtain ⟨f11, e12, h⟩ := m_bS h
    obtain ⟨r14, e13, h⟩ := m_bS h
    refine u_callVp X hl.1 I hA (As := []) (rest := [.ref u.2, .ref u.2]) (uk_X1_many l n D d u7 b9 _ e13) (u_clS e12) (C := RX1) (T := TX1) (N := 5) rfl 0 q870 q871 q872 q102 q873 uh_X1_many rfl rfl ⟨Nat.le_trans (Nat.le_of_ble_eq_true rfl) hR.1, Nat.le_trans (Nat.le_of_ble_eq_true rfl) hR.2⟩ (u_leftLe hC) (stk := [.int r14, .ref u.2, .ref u.2]) rfl (Nat.le_of_ble_eq_true rfl) dX0_takeRing_19 (fun H locs I => ?_)
    refine lv_aload_n X.1 X.2.1 dX0_takeRing_22 rfl (lv_at hl 0 rfl) ?_
    obtain ⟨b15, e16, h⟩ := m_bS h
    refine u_Gr X I e16 (C := RX0) (T := TX0) (N := 9) (ref := "SwapPress") in_X0 rfl (by decide) rfl rfl q235 (fun _ h => h) dX0_takeRing_23 ?_
    refine lv_iload_n X.1 X.2.1 dX0_takeRing_26 rfl (lv_at hl 1 rfl) ?_
    obtain ⟨f17, e18, h⟩ := m_bS h
    obtain ⟨r20, u21, C22, C23, e19, z24, h, hq⟩ := u_bcS h
    rw [hq] at hC
    refine u_callV X hl.1 I hA (As := [.int p0]) (rest := [.int r14, .ref u.2, .ref u.2]) (uk_X1_flows l n D d u7 b15 p0 _ _ _ e19) z24 (u_clS e18) (C := RX1) (T := TX1) (N := 5) rfl 1 q951 q952 q953 q102 q954 uh_X1_flows rfl rfl ⟨Nat.le_trans (Nat.le_of_ble_eq_true rfl) hR.1, Nat.le_trans (Nat.le_of_ble_eq_true rfl) hR.2⟩ hC (stk := [.ref r20, .int r14, .ref u.2, .ref u.2]) rfl (Nat.le_of_ble_eq_true rfl) dX0_takeRing_27 (fun H locs cells slots hC I => ?_)
    obtain ⟨r26, u27, C28, C29, e25, z30, h, hq⟩ := u_bcS h
    rw [hq] at hC
    refine u_callI X hl.1 I hA (As := [.int r14, .ref r20]) (rest := [.ref u.2]) (uk_X7_init l n D d u21 u.2 r14 r20 _ _ e25) z30 2 q961 q962 q124 q963 rfl uh_X7_init.2 rfl rfl ⟨Nat.le_trans (Nat.le_of_ble_eq_true rfl) hR.1, Nat.le_trans (Nat.le_of_ble_eq_true rfl) hR.2⟩ hC (Nat.le_of_ble_eq_true rfl) dX0_takeRing_30 (fun H locs cells slots hC I => ?_)
    refine lv_astore_n (lv' := [(2, .ref u.2), (0, .ref t), (1, .int p0)]) X.1 X.2.1 dX0_takeRing_33 rfl hl (by decide) rfl (fun ls hl => ?_)
    refine lv_aload_n X.1 X.2.1 dX0_takeRing_34 rfl (lv_at hl 0 rfl) ?_
    obtain ⟨f31, e32, h⟩ := m_bS h
    obtain ⟨r34, u35, C36, C37, e33, z38, h, hq⟩ := u_bcS h
    rw [hq] at hC
    refine u_callV X hl.1 I hA (As := []) (rest := []) (uk_X7_finds l n D d u27 u.2 _ _ _ e33) z38 (u_clS e32) (C := RX7) (T := TX7) (N := 4) rfl 0 q980 q981 q982 q124 q983 uh_X7_finds rfl rfl ⟨Nat.le_trans (Nat.le_of_ble_eq_true rfl) hR.1, Nat.le_trans (Nat.le_of_ble_eq_true rfl) hR.2⟩ hC (stk := [.int r34]) rfl (Nat.le_of_ble_eq_true rfl) dX0_takeRing_35 (fun H locs cells slots hC I => ?_)
    refine lv_if_ne (tgt := 44) X.1 X.2.1 dX0_takeRing_38 (by decide) (fun c39 => ?_) (fun c39 => ?_)
    · replace h := m_ifF c39 h
      refine lv_aload_n X.1 X.2.1 dX0_takeRing_44 rfl (lv_at hl 1 rfl) ?_
      obtain ⟨f40, e41, h⟩ := m_bS h
      obtain ⟨r43, u44, C45, C46, e42, z47, h, hq⟩ := u_bcS h
      rw [hq] at hC
      refine u_callV X hl.1 I hA (As := []) (rest := []) (uk_X0_acts l n D d u35 t _ _ e42) z47 (u_clS e41) (C := RX0) (T := TX0) (N := 9) rfl 0 q880 q882 qs21 q101 q883 uh_X0_acts rfl rfl ⟨Nat.le_trans (Nat.le_of_ble_eq_true rfl) hR.1, Nat.le_trans (Nat.le_of_ble_eq_true rfl) hR.2⟩ hC (stk := []) rfl (Nat.le_of_ble_eq_true rfl) dX0_takeRing_45 (fun H locs cells slots hC I => ?_)
      refine lv_aload_n X.1 X.2.1 dX0_takeRing_48 rfl (lv_at hl 0 rfl) ?_
      obtain ⟨f48, e49, h⟩ := m_bS h
      obtain ⟨r51, e50, h⟩ := m_bS h
      refine u_callVp X hl.1 I hA (As := []) (rest := []) (uk_X7_load l n D d u44 u.2 _ e50) (u_clS e49) (C := RX7) (T := TX7) (N := 4) rfl 0 q992 q993 q994 q124 q995 uh_X7_load rfl rfl ⟨Nat.le_trans (Nat.le_of_ble_eq_true rfl) hR.1, Nat.le_trans (Nat.le_of_ble_eq_true rfl) hR.2⟩ (u_leftLe hC) (stk := [.int r51]) rfl (Nat.le_of_ble_eq_true rfl) dX0_takeRing_49 (fun H locs I => ?_)
      refine lv_istore_n (lv' := [(3, .int r51), (2, .ref u.2), (0, .ref t), (1, .int p0)]) X.1 X.2.1 dX0_takeRing_52 rfl hl (by decide) rfl (fun ls hl => ?_)
      refine lv_iconst (v := 0) X.1 X.2.1 dX0_takeRing_53 (by decide) ?_
      refine lv_istore (lv' := [(4, .int 0), (3, .int r51), (2, .ref u.2), (0, .ref t), (1, .int p0)]) X.1 X.2.1 dX0_takeRing_54 hl (by decide) rfl (fun ls hl => ?_)
      obtain ⟨u72, C73, C74, e71, h, hq⟩ := u_blS h
      rw [hq] at hC
      refine wuf_X0_takeRing_L56 X hA hR n t p0 u.2 r51 _ _ _ _ e71 (fun H locs ls cells slots hC I hl => ?_) H locs ls _ _ (u_left2 hC) I (lv_sub hl [3, 4, 2, 1, 0] rfl)
      refine lv_iload_n X.1 X.2.1 dX0_takeRing_90 rfl (lv_at hl 0 rfl) ?_
      obtain ⟨he, rfl⟩ := m_e3 h
      obtain ⟨rfl, rfl⟩ := m_e4 he
      exact hret H locs ls 91 _ _ dX0_takeRing_91 hC I
    · replace h := m_ifT c39 h
      refine lv_bipush (v := (-5)) X.1 X.2.1 dX0_takeRing_41 (by decide) ?_
      obtain ⟨he, rfl⟩ := m_e3 h
      obtain ⟨rfl, rfl⟩ := m_e4 he
      exact hret H locs ls 43 _ _ dX0_takeRing_43 hC I
  · replace h := m_ifT c5 h
    refine lv_bipush (v := (-2)) X.1 X.2.1 dX0_takeRing_8 (by decide) ?_
    obtain ⟨he, rfl⟩ := m_e3 h
    obtain ⟨rfl, rfl⟩ := m_e4 he
    exact hret H locs ls 10 _ _ dX0_takeRing_10 hC I
end S_X0_takeRing
theorem uk_X0_takeRing (l : Launch) (n : Nat) (D : va_G) (d : UD) (u : UM) (t : Nat) (p0 : Int32) (r0 : Int32) (ur : UM) (C : UC) (h : uf_X0_takeRing n d u t p0 = some ((r0, ur), C)) : u_M l yX0_takeRing (ws_ yX0_takeRing cX0_takeRing 5 (some .int)) 12 273 C D d u [.ref t, .int p0] (some (.int r0)) ur :=
  u_start (own := RX0) (lvl := [(0, .ref t), (1, .int p0)]) (by decide) rfl (Nat.le_of_ble_eq_true rfl) rfl (fun p e s m args below meth c ls X hr hlk hI hl hA I hC => uw_X0_takeRing X hA ⟨Nat.le_refl _, Nat.le_refl _⟩ n u t p0 r0 ur C h (fun H locs ls pc cells slots hd hC I => u_iret X I hr hlk (u_leftE hC) hd) _ _ ls _ _ hC I hl)

/-! SwapPress.press(I)I -/
def uf_X0_press_L29 (n : Nat) (d : UD) (v0 : Nat) (v1 : Int32) (v2 : Nat) (v3 : Int32) (v4 : Int32) (u : UM) : Option (((Int32 × Int32 × UM) ⊕ (Int32 × UM)) × UC) :=
  m_b (u_fr d u 1 0 v0) (fun b16 => m_b (u_nr u 2 2 b16) (fun b18 => m_b (u_cl u 13 b18) (fun f20 => m_b (uf_J2_size n d u b18) (fun r23 => m_if ((r23 : Int32) ≤ (v4 : Int32)) (some (.inr ((v3, u)), (0, 0))) (m_b (u_fr d u 1 0 v0) (fun b25 => m_b (u_nr u 2 2 b25) (fun b27 => m_b (u_cl u 13 b27) (fun f29 => m_b (uf_J2_get n d u b27 v4) (fun r32 => m_b (u_cl u 6 r32) (fun f33 => m_b (u_cl u 6 r32) (fun f35 => m_b (uf_X6_isFree n d u r32 v1) (fun r38 => m_b (uf_X0_one n d u r38) (fun r40 => some (.inl ((v3 + r40, v4 + 1, u)), (0, 0)))))))))))))))
def uf_X0_press_L29l (n : Nat) (d : UD) (v0 : Nat) (v1 : Int32) (v2 : Nat) (x : (Int32 × Int32 × UM)) : Option ((Int32 × UM) × UC) := u_lp (fun (x : (Int32 × Int32 × UM)) => uf_X0_press_L29 n d v0 v1 v2 x.1 x.2.1 x.2.2) n x
def uf_X0_press_J158 (n : Nat) (d : UD) (u : UM) (v0 : Nat) (v1 : Int32) (v2 : Nat) (v4 : Int32) : Option (((Int32 × UM) ⊕ UM) × UC) :=
  some (.inl ((v4 + (-1), u)), (0, 0))
def uf_X0_press_L118 (n : Nat) (d : UD) (v0 : Nat) (v1 : Int32) (v2 : Nat) (v4 : Int32) (u : UM) : Option (((Int32 × UM) ⊕ UM) × UC) :=
  m_if ((v4 : Int32) < 0) (some (.inr u, (0, 0))) (m_b (u_fr d u 1 0 v0) (fun b72 => m_b (u_nr u 2 2 b72) (fun b74 => m_b (u_cl u 13 b74) (fun f76 => m_b (uf_J2_get n d u b74 v4) (fun r79 => m_b (u_cl u 6 r79) (fun f80 => m_b (u_cl u 6 r79) (fun f82 => m_b (uf_X6_isFree n d u r79 v1) (fun r85 => m_if ((r85 : Int32) = 0) (uf_X0_press_J158 n d u v0 v1 v2 v4) (m_b (u_fr d u 1 0 v0) (fun b87 => m_b (u_nr u 2 2 b87) (fun b89 => m_b (u_cl u 13 b89) (fun f91 => u_bc u.2 (uf_J2_remove n d u b89 v4) (fun r94 u95 => uf_X0_press_J158 n d u95 v0 v1 v2 v4)))))))))))))
def uf_X0_press_L118l (n : Nat) (d : UD) (v0 : Nat) (v1 : Int32) (v2 : Nat) (x : (Int32 × UM)) : Option (UM × UC) := u_lp (fun (x : (Int32 × UM)) => uf_X0_press_L118 n d v0 v1 v2 x.1 x.2) n x
def uf_X0_press_J215 (n : Nat) (d : UD) (u : UM) (v0 : Nat) (v1 : Int32) (v2 : Nat) (v4 : Int32) : Option (((Int32 × UM) ⊕ UM) × UC) :=
  some (.inl ((v4 + 1, u)), (0, 0))
def uf_X0_press_L167 (n : Nat) (d : UD) (v0 : Nat) (v1 : Int32) (v2 : Nat) (v4 : Int32) (u : UM) : Option (((Int32 × UM) ⊕ UM) × UC) :=
  m_b (u_lnI d u 0 v2) (fun b101 => m_if ((b101 : Int32) ≤ (v4 : Int32)) (some (.inr u, (0, 0))) (m_b (u_ldI d u v2 v4) (fun b104 => m_if ((b104 : Int32) ≤ 0) (uf_X0_press_J215 n d u v0 v1 v2 v4) (m_b (u_fr d u 1 0 v0) (fun b107 => m_b (u_nr u 2 2 b107) (fun b109 => u_ac (1, 5) (m_b (some (u_nw u (.inr (6, [.int 0, .int 0, .int 0, .int 0, .int 0])))) (fun u112 => m_g (decide (¬ (8 : Int32) = 0)) (m_g (decide (¬ (8 : Int32) = 0)) (m_b (u_ldI d u112 v2 v4) (fun b116 => u_bc u112.2 (uf_X6_init n d u112 u.2 (v4 / 8) (v4 - v4 / 8 * 8) b116 v1 0) (fun r119 u120 => m_b (u_cl u120 13 b109) (fun f124 => u_bc u120.2 (uf_J2_add n d u120 b109 u.2) (fun r127 u128 => uf_X0_press_J215 n d u128 v0 v1 v2 v4))))))))))))))
def uf_X0_press_L167l (n : Nat) (d : UD) (v0 : Nat) (v1 : Int32) (v2 : Nat) (x : (Int32 × UM)) : Option (UM × UC) := u_lp (fun (x : (Int32 × UM)) => uf_X0_press_L167 n d v0 v1 v2 x.1 x.2) n x
def uf_X0_press (n : Nat) (d : UD) (u : UM) (t : Nat) (p0 : Int32) : Option ((Int32 × UM) × UC) :=
  m_b (u_cl u 1 t) (fun f1 => m_b (uf_X0_isKind n d u t p0) (fun r4 => m_if ((r4 : Int32) = 0) (some (((-2), u), (0, 0))) (m_b (u_cl u 1 t) (fun f6 => u_bc u.2 (uf_X0_first n d u t p0) (fun r9 u10 => u_qn r9 (some (((-5), u10), (0, 0))) (fun a15 => u_bl (uf_X0_press_L29l n d t p0 a15 ((0, 0, u10))) (fun y146 => m_b (u_fr d y146.2 1 0 t) (fun b44 => m_b (u_nr y146.2 2 2 b44) (fun b46 => m_b (u_cl y146.2 13 b46) (fun f48 => m_b (uf_J2_size n d y146.2 b46) (fun r51 => m_b (uf_X0_above n d y146.2 a15) (fun r53 => m_if (((r51 - y146.1) + r53 : Int32) ≤ (40 : Int32)) (m_b (u_cl y146.2 1 t) (fun f55 => u_bc y146.2.2 (uf_X0_acts n d y146.2 t) (fun r58 u59 => m_b (u_fr d u59 1 0 t) (fun b63 => m_b (u_nr u59 2 2 b63) (fun b65 => m_b (u_cl u59 13 b65) (fun f67 => m_b (uf_J2_size n d u59 b65) (fun r70 => u_bl (uf_X0_press_L118l n d t p0 a15 ((r70 - 1, u59))) (fun u100 => u_bl (uf_X0_press_L167l n d t p0 a15 ((0, u100))) (fun u133 => m_b (u_fr d u133 1 0 t) (fun b134 => m_b (u_nr u133 2 2 b134) (fun b136 => m_b (u_cl u133 13 b136) (fun f138 => m_b (uf_J2_size n d u133 b136) (fun r141 => some ((r141, u133), (0, 0))))))))))))))) (some (((-4), y146.2), (0, 0)))))))))))))))
theorem uh_X0_press : yX0_press.cls = RX0 ∧ yX0_press.cls ≠ "java/lang/invoke/MethodHandle" ∧ yX0_press.cls ≠ "java/lang/invoke/VarHandle" ∧ (parseMethodDescriptor yX0_press.desc).map (fun d => d.parameters.length) = some 1 := by decide +kernel
section S_X0_press
variable {p : Program} {l : Launch} {e : Env} {R : Room} {s : State} {m : MethodId} {args : Array Value} {below : List Frame} {meth : Method} {c : Code} {Q : State → Prop} {D : va_G} {A : Nat → Prop} {d : UD}
theorem wuf_X0_press_L29 (X : u_X RX0 D A d p s m c cX0_press 5 args) (hA : ∀ q, s.heap.size ≤ q → A q) (hR : 8 ≤ R.frames ∧ 211 ≤ R.locals) (n : Nat) (v0 : Nat) (v1 : Int32) (v2 : Nat) (x : (Int32 × Int32 × UM)) (z : (Int32 × UM)) (C cr : UC) (hz : uf_X0_press_L29l n d v0 v1 v2 x = some (z, C)) (hE : (fun (z : (Int32 × UM)) (C : UC) => ∀ (H : Heap) (locs : List Loc) (ls : Array Slot) (cells slots : Nat), u_left R cells slots C → u_I D A s.heap z.2 H locs cells → lv_has ls 5 [(0, .ref v0), (1, .int v1), (2, .ref v2), (3, .int z.1)] → W p l e R s m args below meth c H locs cells slots Q (F0 m 75 ls [])) z cr) : (fun (x : (Int32 × Int32 × UM)) (C : UC) => ∀ (H : Heap) (locs : List Loc) (ls : Array Slot) (cells slots : Nat), u_left R cells slots C → u_I D A s.heap x.2.2 H locs cells → lv_has ls 5 [(0, .ref v0), (1, .int v1), (2, .ref v2), (3, .int x.1), (4, .int x.2.1)] → W p l e R s m args below meth c H locs cells slots Q (F0 m 29 ls [])) x (u_add C cr) := by
  refine u_lpW (G := fun (x : (Int32 × Int32 × UM)) (C : UC) => ∀ (H : Heap) (locs : List Loc) (ls : Array Slot) (cells slots : Nat), u_left R cells slots C → u_I D A s.heap x.2.2 H locs cells → lv_has ls 5 [(0, .ref v0), (1, .int v1), (2, .ref v2), (3, .int x.1), (4, .int x.2.1)] → W p l e R s m args below meth c H locs cells slots Q (F0 m 29 ls [])) (E := fun (z : (Int32 × UM)) (C : UC) => ∀ (H : Heap) (locs : List Loc) (ls : Array Slot) (cells slots : Nat), u_left R cells slots C → u_I D A s.heap z.2 H locs cells → lv_has ls 5 [(0, .ref v0), (1, .int v1), (2, .ref v2), (3, .int z.1)] → W p l e R s m args below meth c H locs cells slots Q (F0 m 75 ls [])) ?_ n x z C cr hz hE
  rintro ⟨v3, v4, u⟩ r C cr h hr H locs ls cells slots hC I hl
  replace h : uf_X0_press_L29 n d v0 v1 v2 v3 v4 u = some (r, C) := h
  unfold uf_X0_press_L29 at h
  refine lv_iload X.1 X.2.1 dX0_press_29 (lv_at hl 4 rfl) ?_
  refine lv_aload_n X.1 X.2.1 dX0_press_31 rfl (lv_at hl 0 rfl) ?_
  obtain ⟨b16, e17, h⟩ := m_bS h
  refine u_Gr X I e17 (C := RX0) (T := TX0) (N := 9) (ref := "SwapPress") in_X0 rfl (by decide) rfl rfl q235 (fun _ h => h) dX0_press_32 ?_
  obtain ⟨b18, e19, h⟩ := m_bS h
  refine u_GrN X I e19 (C := RX1) (T := TX1) (N := 5) (ref := "SwapPress$State") (host := "SwapPress") in_X1 rfl (by decide) rfl rfl 4 rfl (fun _ h => h) dX0_press_35 ?_
  obtain ⟨f20, e21, h⟩ := m_bS h
  obtain ⟨r23, e22, h⟩ := m_bS h
  refine u_callVp X hl.1 I hA (As := []) (rest := [.int v4]) (uk_J2_size l n D d u b18 _ e22) (u_clS e21) (C := RJ2) (T := TJ2) (N := 3) rfl 0 q853 q667 q668 q105 q669 uh_J2_size rfl rfl ⟨Nat.le_trans (Nat.le_of_ble_eq_true rfl) hR.1, Nat.le_trans (Nat.le_of_ble_eq_true rfl) hR.2⟩ (u_leftLe hC) (stk := [.int r23, .int v4]) rfl (Nat.le_of_ble_eq_true rfl) dX0_press_38 (fun H locs I => ?_)
  refine lv_icmp_ge (tgt := 75) X.1 X.2.1 dX0_press_41 (by decide) (fun c24 => ?_) (fun c24 => ?_)
  · replace h := m_ifT c24 h
    obtain ⟨rfl, rfl⟩ := m_e3 h
    exact hr H locs ls _ _ (u_left0 hC) I (lv_sub hl [0, 1, 2, 3] rfl)
  · replace h := m_ifF c24 h
    refine lv_iload_n X.1 X.2.1 dX0_press_44 rfl (lv_at hl 3 rfl) ?_
    refine lv_aload_n X.1 X.2.1 dX0_press_45 rfl (lv_at hl 0 rfl) ?_
    obtain ⟨b25, e26, h⟩ := m_bS h
    refine u_Gr X I e26 (C := RX0) (T := TX0) (N := 9) (ref := "SwapPress") in_X0 rfl (by decide) rfl rfl q235 (fun _ h => h) dX0_press_46 ?_
    obtain ⟨b27, e28, h⟩ := m_bS h
    refine u_GrN X I e28 (C := RX1) (T := TX1) (N := 5) (ref := "SwapPress$State") (host := "SwapPress") in_X1 rfl (by decide) rfl rfl 4 rfl (fun _ h => h) dX0_press_49 ?_
    refine lv_iload X.1 X.2.1 dX0_press_52 (lv_at hl 4 rfl) ?_
    obtain ⟨f29, e30, h⟩ := m_bS h
    obtain ⟨r32, e31, h⟩ := m_bS h
    refine u_callVp X hl.1 I hA (As := [.int v4]) (rest := [.int v3]) (uk_J2_get l n D d u b27 v4 _ e31) (u_clS e30) (C := RJ2) (T := TJ2) (N := 3) rfl 1 q929 q823 q824 q105 q825 uh_J2_get rfl rfl ⟨Nat.le_trans (Nat.le_of_ble_eq_true rfl) hR.1, Nat.le_trans (Nat.le_of_ble_eq_true rfl) hR.2⟩ (u_leftLe hC) (stk := [.ref r32, .int v3]) rfl (Nat.le_of_ble_eq_true rfl) dX0_press_54 (fun H locs I => ?_)
    obtain ⟨f33, e34, h⟩ := m_bS h
    refine u_cast X I (u_clS e34) (C := RX6) (T := TX6) (N := 5) rfl q915 dX0_press_57 ?_
    refine lv_iload_n X.1 X.2.1 dX0_press_60 rfl (lv_at hl 1 rfl) ?_
    obtain ⟨f35, e36, h⟩ := m_bS h
    obtain ⟨r38, e37, h⟩ := m_bS h
    refine u_callVp X hl.1 I hA (As := [.int v1]) (rest := [.int v3]) (uk_X6_isFree l n D d u r32 v1 _ e37) (u_clS e36) (C := RX6) (T := TX6) (N := 5) rfl 1 q1006 q958 q959 q122 q960 uh_X6_isFree rfl rfl ⟨Nat.le_trans (Nat.le_of_ble_eq_true rfl) hR.1, Nat.le_trans (Nat.le_of_ble_eq_true rfl) hR.2⟩ (u_leftLe hC) (stk := [.int r38, .int v3]) rfl (Nat.le_of_ble_eq_true rfl) dX0_press_61 (fun H locs I => ?_)
    obtain ⟨r40, e39, h⟩ := m_bS h
    refine u_callSp X hl.1 I hA (As := [.int r38]) (rest := [.int v3]) (uk_X0_one l n D d u r38 _ e39) 1 q932 q933 q101 q934 uh_X0_one.2 rfl rfl ⟨Nat.le_trans (Nat.le_of_ble_eq_true rfl) hR.1, Nat.le_trans (Nat.le_of_ble_eq_true rfl) hR.2⟩ (u_leftLe hC) (stk := [.int r40, .int v3]) rfl (Nat.le_of_ble_eq_true rfl) dX0_press_64 (fun H locs I => ?_)
    refine lv_iadd X.1 X.2.1 dX0_press_67 ?_
    refine lv_istore_n (lv' := [(3, .int (v3 + r40)), (0, .ref v0), (1, .int v1), (2, .ref v2), (4, .int v4)]) X.1 X.2.1 dX0_press_68 rfl hl (by decide) rfl (fun ls hl => ?_)
    refine lv_iinc (v := v4 + 1) (lv' := [(4, .int (v4 + 1)), (3, .int (v3 + r40)), (0, .ref v0), (1, .int v1), (2, .ref v2)]) X.1 X.2.1 dX0_press_69 hl (k := 4) rfl rfl (by decide) rfl (fun ls hl => ?_)
    refine lv_goto (tgt := 29) X.1 X.2.1 dX0_press_72 (by decide) ?_
    obtain ⟨rfl, rfl⟩ := m_e3 h
    exact hr H locs ls _ _ (u_left0 hC) I (lv_sub hl [2, 3, 4, 1, 0] rfl)
theorem wuf_X0_press_L118 (X : u_X RX0 D A d p s m c cX0_press 5 args) (hA : ∀ q, s.heap.size ≤ q → A q) (hR : 8 ≤ R.frames ∧ 211 ≤ R.locals) (n : Nat) (v0 : Nat) (v1 : Int32) (v2 : Nat) (x : (Int32 × UM)) (z : UM) (C cr : UC) (hz : uf_X0_press_L118l n d v0 v1 v2 x = some (z, C)) (hE : (fun (z : UM) (C : UC) => ∀ (H : Heap) (locs : List Loc) (ls : Array Slot) (cells slots : Nat), u_left R cells slots C → u_I D A s.heap z H locs cells → lv_has ls 5 [(0, .ref v0), (1, .int v1), (2, .ref v2)] → W p l e R s m args below meth c H locs cells slots Q (F0 m 164 ls [])) z cr) : (fun (x : (Int32 × UM)) (C : UC) => ∀ (H : Heap) (locs : List Loc) (ls : Array Slot) (cells slots : Nat), u_left R cells slots C → u_I D A s.heap x.2 H locs cells → lv_has ls 5 [(0, .ref v0), (1, .int v1), (2, .ref v2), (4, .int x.1)] → W p l e R s m args below meth c H locs cells slots Q (F0 m 118 ls [])) x (u_add C cr) := by
  refine u_lpW (G := fun (x : (Int32 × UM)) (C : UC) => ∀ (H : Heap) (locs : List Loc) (ls : Array Slot) (cells slots : Nat), u_left R cells slots C → u_I D A s.heap x.2 H locs cells → lv_has ls 5 [(0, .ref v0), (1, .int v1), (2, .ref v2), (4, .int x.1)] → W p l e R s m args below meth c H locs cells slots Q (F0 m 118 ls [])) (E := fun (z : UM) (C : UC) => ∀ (H : Heap) (locs : List Loc) (ls : Array Slot) (cells slots : Nat), u_left R cells slots C → u_I D A s.heap z H locs cells → lv_has ls 5 [(0, .ref v0), (1, .int v1), (2, .ref v2)] → W p l e R s m args below meth c H locs cells slots Q (F0 m 164 ls [])) ?_ n x z C cr hz hE
  rintro ⟨v4, u⟩ r C cr h hr H locs ls cells slots hC I hl
  replace h : uf_X0_press_L118 n d v0 v1 v2 v4 u = some (r, C) := h
  have k158 : ∀ (u : UM) (v4 : Int32) (H : Heap) (locs : List Loc) (ls : Array Slot) (cells slots : Nat) (C : UC), uf_X0_press_J158 n d u v0 v1 v2 v4 = some (r, C) → u_left R cells slots (u_add C cr) → u_I D A s.heap u H locs cells → lv_has ls 5 [(0, .ref v0), (1, .int v1), (2, .ref v2), (4, .int v4)] → W p l e R s m args below meth c H locs cells slots Q (F0 m 158 ls []) := by
    intro u v4 H locs ls cells slots C h hC I hl
    unfold uf_X0_press_J158 at h
    refine lv_iinc (v := v4 + (-1)) (lv' := [(4, .int (v4 + (-1))), (0, .ref v0), (1, .int v1), (2, .ref v2)]) X.1 X.2.1 dX0_press_158 hl (k := 3) rfl rfl (by decide) rfl (fun ls hl => ?_)
    refine lv_goto (tgt := 118) X.1 X.2.1 dX0_press_161 (by decide) ?_
    obtain ⟨rfl, rfl⟩ := m_e3 h
    exact hr H locs ls _ _ (u_left0 hC) I (lv_sub hl [1, 2, 3, 0] rfl)
  unfold uf_X0_press_L118 at h
  refine lv_iload X.1 X.2.1 dX0_press_118 (lv_at hl 3 rfl) ?_
  refine lv_if_lt (tgt := 164) X.1 X.2.1 dX0_press_120 (by decide) (fun c71 => ?_) (fun c71 => ?_)
  · replace h := m_ifT c71 h
    obtain ⟨rfl, rfl⟩ := m_e3 h
    exact hr H locs ls _ _ (u_left0 hC) I (lv_sub hl [0, 1, 2] rfl)
  · replace h := m_ifF c71 h
    refine lv_aload_n X.1 X.2.1 dX0_press_123 rfl (lv_at hl 0 rfl) ?_
    obtain ⟨b72, e73, h⟩ := m_bS h
    refine u_Gr X I e73 (C := RX0) (T := TX0) (N := 9) (ref := "SwapPress") in_X0 rfl (by decide) rfl rfl q235 (fun _ h => h) dX0_press_124 ?_
    obtain ⟨b74, e75, h⟩ := m_bS h
    refine u_GrN X I e75 (C := RX1) (T := TX1) (N := 5) (ref := "SwapPress$State") (host := "SwapPress") in_X1 rfl (by decide) rfl rfl 4 rfl (fun _ h => h) dX0_press_127 ?_
    refine lv_iload X.1 X.2.1 dX0_press_130 (lv_at hl 3 rfl) ?_
    obtain ⟨f76, e77, h⟩ := m_bS h
    obtain ⟨r79, e78, h⟩ := m_bS h
    refine u_callVp X hl.1 I hA (As := [.int v4]) (rest := []) (uk_J2_get l n D d u b74 v4 _ e78) (u_clS e77) (C := RJ2) (T := TJ2) (N := 3) rfl 1 q929 q823 q824 q105 q825 uh_J2_get rfl rfl ⟨Nat.le_trans (Nat.le_of_ble_eq_true rfl) hR.1, Nat.le_trans (Nat.le_of_ble_eq_true rfl) hR.2⟩ (u_leftLe hC) (stk := [.ref r79]) rfl (Nat.le_of_ble_eq_true rfl) dX0_press_132 (fun H locs I => ?_)
    obtain ⟨f80, e81, h⟩ := m_bS h
    refine u_cast X I (u_clS e81) (C := RX6) (T := TX6) (N := 5) rfl q915 dX0_press_135 ?_
    refine lv_iload_n X.1 X.2.1 dX0_press_138 rfl (lv_at hl 1 rfl) ?_
    obtain ⟨f82, e83, h⟩ := m_bS h
    obtain ⟨r85, e84, h⟩ := m_bS h
    refine u_callVp X hl.1 I hA (As := [.int v1]) (rest := []) (uk_X6_isFree l n D d u r79 v1 _ e84) (u_clS e83) (C := RX6) (T := TX6) (N := 5) rfl 1 q1006 q958 q959 q122 q960 uh_X6_isFree rfl rfl ⟨Nat.le_trans (Nat.le_of_ble_eq_true rfl) hR.1, Nat.le_trans (Nat.le_of_ble_eq_true rfl) hR.2⟩ (u_leftLe hC) (stk := [.int r85]) rfl (Nat.le_of_ble_eq_true rfl) dX0_press_139 (fun H locs I => ?_)
    refine lv_if_eq (tgt := 158) X.1 X.2.1 dX0_press_142 (by decide) (fun c86 => ?_) (fun c86 => ?_)
    · replace h := m_ifT c86 h
      exact k158 u v4 H locs ls _ _ _ h hC I (lv_sub hl [0, 1, 2, 3] rfl)
    · replace h := m_ifF c86 h
      refine lv_aload_n X.1 X.2.1 dX0_press_145 rfl (lv_at hl 0 rfl) ?_
      obtain ⟨b87, e88, h⟩ := m_bS h
      refine u_Gr X I e88 (C := RX0) (T := TX0) (N := 9) (ref := "SwapPress") in_X0 rfl (by decide) rfl rfl q235 (fun _ h => h) dX0_press_146 ?_
      obtain ⟨b89, e90, h⟩ := m_bS h
      refine u_GrN X I e90 (C := RX1) (T := TX1) (N := 5) (ref := "SwapPress$State") (host := "SwapPress") in_X1 rfl (by decide) rfl rfl 4 rfl (fun _ h => h) dX0_press_149 ?_
      refine lv_iload X.1 X.2.1 dX0_press_152 (lv_at hl 3 rfl) ?_
      obtain ⟨f91, e92, h⟩ := m_bS h
      obtain ⟨r94, u95, C96, C97, e93, z98, h, hq⟩ := u_bcS h
      rw [hq] at hC
      refine u_callV X hl.1 I hA (As := [.int v4]) (rest := []) (uk_J2_remove l n D d u b89 v4 _ _ _ e93) z98 (u_clS e92) (C := RJ2) (T := TJ2) (N := 3) rfl 1 q884 q885 q886 q105 q887 uh_J2_remove rfl rfl ⟨Nat.le_trans (Nat.le_of_ble_eq_true rfl) hR.1, Nat.le_trans (Nat.le_of_ble_eq_true rfl) hR.2⟩ hC (stk := [.ref r94]) rfl (Nat.le_of_ble_eq_true rfl) dX0_press_154 (fun H locs cells slots hC I => ?_)
      refine lv_pop X.1 X.2.1 dX0_press_157 rfl ?_
      exact k158 u95 v4 H locs ls _ _ _ h hC I (lv_sub hl [0, 1, 2, 3] rfl)
theorem wuf_X0_press_L167 (X : u_X RX0 D A d p s m c cX0_press 5 args) (hA : ∀ q, s.heap.size ≤ q → A q) (hR : 8 ≤ R.frames ∧ 211 ≤ R.locals) (n : Nat) (v0 : Nat) (v1 : Int32) (v2 : Nat) (x : (Int32 × UM)) (z : UM) (C cr : UC) (hz : uf_X0_press_L167l n d v0 v1 v2 x = some (z, C)) (hE : (fun (z : UM) (C : UC) => ∀ (H : Heap) (locs : List Loc) (ls : Array Slot) (cells slots : Nat), u_left R cells slots C → u_I D A s.heap z H locs cells → lv_has ls 5 [(0, .ref v0)] → W p l e R s m args below meth c H locs cells slots Q (F0 m 221 ls [])) z cr) : (fun (x : (Int32 × UM)) (C : UC) => ∀ (H : Heap) (locs : List Loc) (ls : Array Slot) (cells slots : Nat), u_left R cells slots C → u_I D A s.heap x.2 H locs cells → lv_has ls 5 [(0, .ref v0), (1, .int v1), (2, .ref v2), (4, .int x.1)] → W p l e R s m args below meth c H locs cells slots Q (F0 m 167 ls [])) x (u_add C cr) := by
  refine u_lpW (G := fun (x : (Int32 × UM)) (C : UC) => ∀ (H : Heap) (locs : List Loc) (ls : Array Slot) (cells slots : Nat), u_left R cells slots C → u_I D A s.heap x.2 H locs cells → lv_has ls 5 [(0, .ref v0), (1, .int v1), (2, .ref v2), (4, .int x.1)] → W p l e R s m args below meth c H locs cells slots Q (F0 m 167 ls [])) (E := fun (z : UM) (C : UC) => ∀ (H : Heap) (locs : List Loc) (ls : Array Slot) (cells slots : Nat), u_left R cells slots C → u_I D A s.heap z H locs cells → lv_has ls 5 [(0, .ref v0)] → W p l e R s m args below meth c H locs cells slots Q (F0 m 221 ls [])) ?_ n x z C cr hz hE
  rintro ⟨v4, u⟩ r C cr h hr H locs ls cells slots hC I hl
  replace h : uf_X0_press_L167 n d v0 v1 v2 v4 u = some (r, C) := h
  have k215 : ∀ (u : UM) (v4 : Int32) (H : Heap) (locs : List Loc) (ls : Array Slot) (cells slots : Nat) (C : UC), uf_X0_press_J215 n d u v0 v1 v2 v4 = some (r, C) → u_left R cells slots (u_add C cr) → u_I D A s.heap u H locs cells → lv_has ls 5 [(0, .ref v0), (1, .int v1), (2, .ref v2), (4, .int v4)] → W p l e R s m args below meth c H locs cells slots Q (F0 m 215 ls []) := by
    intro u v4 H locs ls cells slots C h hC I hl
    unfold uf_X0_press_J215 at h
    refine lv_iinc (v := v4 + 1) (lv' := [(4, .int (v4 + 1)), (0, .ref v0), (1, .int v1), (2, .ref v2)]) X.1 X.2.1 dX0_press_215 hl (k := 3) rfl rfl (by decide) rfl (fun ls hl => ?_)
    refine lv_goto (tgt := 167) X.1 X.2.1 dX0_press_218 (by decide) ?_
    obtain ⟨rfl, rfl⟩ := m_e3 h
    exact hr H locs ls _ _ (u_left0 hC) I (lv_sub hl [1, 2, 3, 0] rfl)
  unfold uf_X0_press_L167 at h
  refine lv_iload X.1 X.2.1 dX0_press_167 (lv_at hl 3 rfl) ?_
  refine lv_aload_n X.1 X.2.1 dX0_press_169 rfl (lv_at hl 2 rfl) ?_
  obtain ⟨b101, e102, h⟩ := m_bS h
  refine u_LN X I (by decide) e102 dX0_press_170 ?_
  refine lv_icmp_ge (tgt := 221) X.1 X.2.1 dX0_press_171 (by decide) (fun c103 => ?_) (fun c103 => ?_)
  · replace h := m_ifT c103 h
    obtain ⟨rfl, rfl⟩ := m_e3 h
    exact hr H locs ls _ _ (u_left0 hC) I (lv_sub hl [0] rfl)
  · replace h := m_ifF c103 h
    refine lv_aload_n X.1 X.2.1 dX0_press_174 rfl (lv_at hl 2 rfl) ?_
    refine lv_iload X.1 X.2.1 dX0_press_175 (lv_at hl 3 rfl) ?_
    obtain ⟨b104, e105, h⟩ := m_bS h
    refine u_LI X I e105 dX0_press_177 ?_
    refine lv_if_le (tgt := 215) X.1 X.2.1 dX0_press_178 (by decide) (fun c106 => ?_) (fun c106 => ?_)
    · replace h := m_ifT c106 h
      exact k215 u v4 H locs ls _ _ _ h hC I (lv_sub hl [0, 1, 2, 3] rfl)
    · replace h := m_ifF c106 h
      refine lv_aload_n X.1 X.2.1 dX0_press_181 rfl (lv_at hl 0 rfl) ?_
      obtain ⟨b107, e108, h⟩ := m_bS h
      refine u_Gr X I e108 (C := RX0) (T := TX0) (N := 9) (ref := "SwapPress") in_X0 rfl (by decide) rfl rfl q235 (fun _ h => h) dX0_press_182 ?_
      obtain ⟨b109, e110, h⟩ := m_bS h
      refine u_GrN X I e110 (C := RX1) (T := TX1) (N := 5) (ref := "SwapPress$State") (host := "SwapPress") in_X1 rfl (by decide) rfl rfl 4 rfl (fun _ h => h) dX0_press_185 ?_
      obtain ⟨C111, h, hq⟩ := u_acS h
      rw [hq] at hC
      obtain ⟨u112, e113, h⟩ := m_bS h
      refine u_NO X I hA 6 (C := RX6) (T := TX6) (N := 5) in_X6 tyX6 tyX6_ok q915 q786 q122 rfl (fs := [.int 0, .int 0, .int 0, .int 0, .int 0]) e113 (fun j hj => by match j, hj with | 0, _ => rfl | 1, _ => rfl | 2, _ => rfl | 3, _ => rfl | 4, _ => rfl) hC dX0_press_188 (fun H cells slots hC I => ?_)
      refine lv_dup X.1 X.2.1 dX0_press_191 rfl ?_
      refine lv_iload X.1 X.2.1 dX0_press_192 (lv_at hl 3 rfl) ?_
      refine lv_bipush (v := 8) X.1 X.2.1 dX0_press_194 (by decide) ?_
      obtain ⟨g114, h⟩ := m_gS h
      refine lv_idiv X.1 X.2.1 dX0_press_196 (of_decide_eq_true g114) ?_
      refine lv_iload X.1 X.2.1 dX0_press_197 (lv_at hl 3 rfl) ?_
      refine lv_bipush (v := 8) X.1 X.2.1 dX0_press_199 (by decide) ?_
      obtain ⟨g115, h⟩ := m_gS h
      refine lv_irem X.1 X.2.1 dX0_press_201 (of_decide_eq_true g115) ?_
      refine lv_aload_n X.1 X.2.1 dX0_press_202 rfl (lv_at hl 2 rfl) ?_
      refine lv_iload X.1 X.2.1 dX0_press_203 (lv_at hl 3 rfl) ?_
      obtain ⟨b116, e117, h⟩ := m_bS h
      refine u_LI X I e117 dX0_press_205 ?_
      refine lv_iload_n X.1 X.2.1 dX0_press_206 rfl (lv_at hl 1 rfl) ?_
      refine lv_iconst (v := 0) X.1 X.2.1 dX0_press_207 (by decide) ?_
      obtain ⟨r119, u120, C121, C122, e118, z123, h, hq⟩ := u_bcS h
      rw [hq] at hC
      refine u_callI X hl.1 I hA (As := [.int (v4 / 8), .int (v4 - v4 / 8 * 8), .int b116, .int v1, .int 0]) (rest := [.ref u.2, .ref b109]) (uk_X6_init l n D d u112 u.2 (v4 / 8) (v4 - v4 / 8 * 8) b116 v1 0 _ _ e118) z123 5 q916 q788 q122 q789 rfl uh_X6_init.2 rfl rfl ⟨Nat.le_trans (Nat.le_of_ble_eq_true rfl) hR.1, Nat.le_trans (Nat.le_of_ble_eq_true rfl) hR.2⟩ hC (Nat.le_of_ble_eq_true rfl) dX0_press_208 (fun H locs cells slots hC I => ?_)
      obtain ⟨f124, e125, h⟩ := m_bS h
      obtain ⟨r127, u128, C129, C130, e126, z131, h, hq⟩ := u_bcS h
      rw [hq] at hC
      refine u_callV X hl.1 I hA (As := [.ref u.2]) (rest := []) (uk_J2_add l n D d u120 b109 u.2 _ _ _ e126) z131 (u_clS e125) (C := RJ2) (T := TJ2) (N := 3) rfl 1 q914 q719 q720 q105 q721 uh_J2_add rfl rfl ⟨Nat.le_trans (Nat.le_of_ble_eq_true rfl) hR.1, Nat.le_trans (Nat.le_of_ble_eq_true rfl) hR.2⟩ hC (stk := [.int r127]) rfl (Nat.le_of_ble_eq_true rfl) dX0_press_211 (fun H locs cells slots hC I => ?_)
      refine lv_pop X.1 X.2.1 dX0_press_214 rfl ?_
      exact k215 u128 v4 H locs ls _ _ _ h hC I (lv_sub hl [0, 1, 2, 3] rfl)
theorem uw_X0_press (X : u_X RX0 D A d p s m c cX0_press 5 args) (hA : ∀ q, s.heap.size ≤ q → A q) (hR : 8 ≤ R.frames ∧ 211 ≤ R.locals) (n : Nat) (u : UM) (t : Nat) (p0 : Int32) (r0 : Int32) (ur : UM) (C : UC) (h : uf_X0_press n d u t p0 = some ((r0, ur), C)) (hret : ∀ (H : Heap) (locs : List Loc) (ls : Array Slot) (pc cells slots : Nat), decode cX0_press pc = .ok (.ireturn, 1) → u_left R cells slots (u_add (0, 0) (0, 0)) → u_I D A s.heap ur H locs cells → W p l e R s m args below meth c H locs cells slots Q (F0 m pc ls [.int r0])) : ∀ (H : Heap) (locs : List Loc) (ls : Array Slot) (cells slots : Nat), u_left R cells slots (u_add C (0, 0)) → u_I D A s.heap u H locs cells → lv_has ls 5 [(0, .ref t), (1, .int p0)] → W p l e R s m args below meth c H locs cells slots Q (F0 m 0 ls []) := by
  intro H locs ls cells slots hC I hl
  unfold uf_X0_press at h
  refine lv_aload_n X.1 X.2.1 dX0_press_0 rfl (lv_at hl 0 rfl) ?_
  refine lv_iload_n X.1 X.2.1 dX0_press_1 rfl (lv_at hl 1 rfl) ?_
  obtain ⟨f1, e2, h⟩ := m_bS h
  obtain ⟨r4, e3, h⟩ := m_bS h
  refine u_callVp X hl.1 I hA (As := [.int p0]) (rest := []) (uk_X0_isKind l n D d u t p0 _ e3) (u_clS e2) (C := RX0) (T := TX0) (N := 9) rfl 1 q875 q877 qs20 q101 q878 uh_X0_isKind rfl rfl ⟨Nat.le_trans (Nat.le_of_ble_eq_true rfl) hR.1, Nat.le_trans (Nat.le_of_ble_eq_true rfl) hR.2⟩ (u_leftLe hC) (stk := [.int r4]) rfl (Nat.le_of_ble_eq_true rfl) dX0_press_2 (fun H locs I => ?_)
  refine lv_if_ne (tgt := 11) X.1 X.2.1 dX0_press_5 (by decide) (fun c5 => ?_) (fun c5 => ?_)
  · replace h := m_ifF c5 h
    refine lv_aload_n X.1 X.2.1 dX0_press_11 rfl (lv_at hl 0 rfl) ?_
    refine lv_iload_n X.1 X.2.1 dX0_press_12 rfl (lv_at hl 1 rfl) ?_
    obtain ⟨f6, e7, h⟩ := m_bS h
    obtain ⟨r9, u10, C11, C12, e8, z13, h, hq⟩ := u_bcS h
    rw [hq] at hC
    refine u_callV X hl.1 I hA (As := [.int p0]) (rest := []) (uk_X0_first l n D d u t p0 _ _ _ e8) z13 (u_clS e7) (C := RX0) (T := TX0) (N := 9) rfl 1 q1016 q1018 qs27 q101 q1019 uh_X0_first rfl rfl ⟨Nat.le_trans (Nat.le_of_ble_eq_true rfl) hR.1, Nat.le_trans (Nat.le_of_ble_eq_true rfl) hR.2⟩ hC (stk := [va_rf r9]) rfl (Nat.le_of_ble_eq_true rfl) dX0_press_13 (fun H locs cells slots hC I => ?_)
    refine u_astn (lv' := [(0, .ref t), (1, .int p0)]) X.1 X.2.1 dX0_press_16 rfl hl (by decide) (fun _ => rfl) (fun ls hl => ?_)
    refine u_aldn X.1 X.2.1 dX0_press_17 rfl (lv_at hl 0 rfl) ?_
    refine u_ifnn (tgt := 24) X.1 X.2.1 dX0_press_18 (by decide) (fun a15 c14 => ?_) (fun c14 => ?_)
    · rw [c14] at h
      replace h := u_qn1 h
      rw [c14] at hl
      replace hl : lv_has ls 5 [(2, .ref a15), (0, .ref t), (1, .int p0)] := hl
      refine lv_iconst (v := 0) X.1 X.2.1 dX0_press_24 (by decide) ?_
      refine lv_istore_n (lv' := [(3, .int 0), (2, .ref a15), (0, .ref t), (1, .int p0)]) X.1 X.2.1 dX0_press_25 rfl hl (by decide) rfl (fun ls hl => ?_)
      refine lv_iconst (v := 0) X.1 X.2.1 dX0_press_26 (by decide) ?_
      refine lv_istore (lv' := [(4, .int 0), (3, .int 0), (2, .ref a15), (0, .ref t), (1, .int p0)]) X.1 X.2.1 dX0_press_27 hl (by decide) rfl (fun ls hl => ?_)
      obtain ⟨⟨z42, u43⟩, C147, C148, e41, h, hq⟩ := u_blS h
      rw [hq] at hC
      refine wuf_X0_press_L29 X hA hR n t p0 a15 _ _ _ _ e41 (fun H locs ls cells slots hC I hl => ?_) H locs ls _ _ (u_left2 hC) I (lv_sub hl [3, 4, 2, 1, 0] rfl)
      refine lv_aload_n X.1 X.2.1 dX0_press_75 rfl (lv_at hl 0 rfl) ?_
      obtain ⟨b44, e45, h⟩ := m_bS h
      refine u_Gr X I e45 (C := RX0) (T := TX0) (N := 9) (ref := "SwapPress") in_X0 rfl (by decide) rfl rfl q235 (fun _ h => h) dX0_press_76 ?_
      obtain ⟨b46, e47, h⟩ := m_bS h
      refine u_GrN X I e47 (C := RX1) (T := TX1) (N := 5) (ref := "SwapPress$State") (host := "SwapPress") in_X1 rfl (by decide) rfl rfl 4 rfl (fun _ h => h) dX0_press_79 ?_
      obtain ⟨f48, e49, h⟩ := m_bS h
      obtain ⟨r51, e50, h⟩ := m_bS h
      refine u_callVp X hl.1 I hA (As := []) (rest := []) (uk_J2_size l n D d u43 b46 _ e50) (u_clS e49) (C := RJ2) (T := TJ2) (N := 3) rfl 0 q853 q667 q668 q105 q669 uh_J2_size rfl rfl ⟨Nat.le_trans (Nat.le_of_ble_eq_true rfl) hR.1, Nat.le_trans (Nat.le_of_ble_eq_true rfl) hR.2⟩ (u_leftLe hC) (stk := [.int r51]) rfl (Nat.le_of_ble_eq_true rfl) dX0_press_82 (fun H locs I => ?_)
      refine lv_iload_n X.1 X.2.1 dX0_press_85 rfl (lv_at hl 3 rfl) ?_
      refine lv_isub X.1 X.2.1 dX0_press_86 ?_
      refine lv_aload_n X.1 X.2.1 dX0_press_87 rfl (lv_at hl 2 rfl) ?_
      obtain ⟨r53, e52, h⟩ := m_bS h
      refine u_callSp X hl.1 I hA (As := [.ref a15]) (rest := [.int (r51 - z42)]) (uk_X0_above l n D d u43 a15 _ e52) 1 q1150 q1151 q101 q1152 uh_X0_above.2 rfl rfl ⟨Nat.le_trans (Nat.le_of_ble_eq_true rfl) hR.1, Nat.le_trans (Nat.le_of_ble_eq_true rfl) hR.2⟩ (u_leftLe hC) (stk := [.int r53, .int (r51 - z42)]) rfl (Nat.le_of_ble_eq_true rfl) dX0_press_88 (fun H locs I => ?_)
      refine lv_iadd X.1 X.2.1 dX0_press_91 ?_
      refine lv_bipush (v := 40) X.1 X.2.1 dX0_press_92 (by decide) ?_
      refine lv_icmp_le (tgt := 100) X.1 X.2.1 dX0_press_94 (by decide) (fun c54 => ?_) (fun c54 => ?_)
      · replace h := m_ifT c54 h
        refine lv_aload_n X.1 X.2.1 dX0_press_100 rfl (lv_at hl 0 rfl) ?_
        obtain ⟨f55, e56, h⟩ := m_bS h
        obtain ⟨r58, u59, C60, C61, e57, z62, h, hq⟩ := u_bcS h
        rw [hq] at hC
        refine u_callV X hl.1 I hA (As := []) (rest := []) (uk_X0_acts l n D d u43 t _ _ e57) z62 (u_clS e56) (C := RX0) (T := TX0) (N := 9) rfl 0 q880 q882 qs21 q101 q883 uh_X0_acts rfl rfl ⟨Nat.le_trans (Nat.le_of_ble_eq_true rfl) hR.1, Nat.le_trans (Nat.le_of_ble_eq_true rfl) hR.2⟩ hC (stk := []) rfl (Nat.le_of_ble_eq_true rfl) dX0_press_101 (fun H locs cells slots hC I => ?_)
        refine lv_aload_n X.1 X.2.1 dX0_press_104 rfl (lv_at hl 0 rfl) ?_
        obtain ⟨b63, e64, h⟩ := m_bS h
        refine u_Gr X I e64 (C := RX0) (T := TX0) (N := 9) (ref := "SwapPress") in_X0 rfl (by decide) rfl rfl q235 (fun _ h => h) dX0_press_105 ?_
        obtain ⟨b65, e66, h⟩ := m_bS h
        refine u_GrN X I e66 (C := RX1) (T := TX1) (N := 5) (ref := "SwapPress$State") (host := "SwapPress") in_X1 rfl (by decide) rfl rfl 4 rfl (fun _ h => h) dX0_press_108 ?_
        obtain ⟨f67, e68, h⟩ := m_bS h
        obtain ⟨r70, e69, h⟩ := m_bS h
        refine u_callVp X hl.1 I hA (As := []) (rest := []) (uk_J2_size l n D d u59 b65 _ e69) (u_clS e68) (C := RJ2) (T := TJ2) (N := 3) rfl 0 q853 q667 q668 q105 q669 uh_J2_size rfl rfl ⟨Nat.le_trans (Nat.le_of_ble_eq_true rfl) hR.1, Nat.le_trans (Nat.le_of_ble_eq_true rfl) hR.2⟩ (u_leftLe hC) (stk := [.int r70]) rfl (Nat.le_of_ble_eq_true rfl) dX0_press_111 (fun H locs I => ?_)
        refine lv_iconst (v := 1) X.1 X.2.1 dX0_press_114 (by decide) ?_
        refine lv_isub X.1 X.2.1 dX0_press_115 ?_
        refine lv_istore (lv' := [(4, .int (r70 - 1)), (0, .ref t), (1, .int p0), (2, .ref a15), (3, .int z42)]) X.1 X.2.1 dX0_press_116 hl (by decide) rfl (fun ls hl => ?_)
        obtain ⟨u100, C144, C145, e99, h, hq⟩ := u_blS h
        rw [hq] at hC
        refine wuf_X0_press_L118 X hA hR n t p0 a15 _ _ _ _ e99 (fun H locs ls cells slots hC I hl => ?_) H locs ls _ _ (u_left2 hC) I (lv_sub hl [1, 2, 3, 0] rfl)
        refine lv_iconst (v := 0) X.1 X.2.1 dX0_press_164 (by decide) ?_
        refine lv_istore (lv' := [(4, .int 0), (0, .ref t), (1, .int p0), (2, .ref a15)]) X.1 X.2.1 dX0_press_165 hl (by decide) rfl (fun ls hl => ?_)
        obtain ⟨u133, C142, C143, e132, h, hq⟩ := u_blS h
        rw [hq] at hC
        refine wuf_X0_press_L167 X hA hR n t p0 a15 _ _ _ _ e132 (fun H locs ls cells slots hC I hl => ?_) H locs ls _ _ (u_left2 hC) I (lv_sub hl [1, 2, 3, 0] rfl)
        refine lv_aload_n X.1 X.2.1 dX0_press_221 rfl (lv_at hl 0 rfl) ?_
        obtain ⟨b134, e135, h⟩ := m_bS h
        refine u_Gr X I e135 (C := RX0) (T := TX0) (N := 9) (ref := "SwapPress") in_X0 rfl (by decide) rfl rfl q235 (fun _ h => h) dX0_press_222 ?_
        obtain ⟨b136, e137, h⟩ := m_bS h
        refine u_GrN X I e137 (C := RX1) (T := TX1) (N := 5) (ref := "SwapPress$State") (host := "SwapPress") in_X1 rfl (by decide) rfl rfl 4 rfl (fun _ h => h) dX0_press_225 ?_
        obtain ⟨f138, e139, h⟩ := m_bS h
        obtain ⟨r141, e140, h⟩ := m_bS h
        refine u_callVp X hl.1 I hA (As := []) (rest := []) (uk_J2_size l n D d u133 b136 _ e140) (u_clS e139) (C := RJ2) (T := TJ2) (N := 3) rfl 0 q853 q667 q668 q105 q669 uh_J2_size rfl rfl ⟨Nat.le_trans (Nat.le_of_ble_eq_true rfl) hR.1, Nat.le_trans (Nat.le_of_ble_eq_true rfl) hR.2⟩ (u_leftLe hC) (stk := [.int r141]) rfl (Nat.le_of_ble_eq_true rfl) dX0_press_228 (fun H locs I => ?_)
        obtain ⟨he, rfl⟩ := m_e3 h
        obtain ⟨rfl, rfl⟩ := m_e4 he
        exact hret H locs ls 231 _ _ dX0_press_231 hC I
      · replace h := m_ifF c54 h
        refine lv_bipush (v := (-4)) X.1 X.2.1 dX0_press_97 (by decide) ?_
        obtain ⟨he, rfl⟩ := m_e3 h
        obtain ⟨rfl, rfl⟩ := m_e4 he
        exact hret H locs ls 99 _ _ dX0_press_99 hC I
    · rw [c14] at h
      replace h := u_qn0 h
      rw [c14] at hl
      replace hl : lv_has ls 5 [(2, .null), (0, .ref t), (1, .int p0)] := hl
      refine lv_bipush (v := (-5)) X.1 X.2.1 dX0_press_21 (by decide) ?_
      obtain ⟨he, rfl⟩ := m_e3 h
      obtain ⟨rfl, rfl⟩ := m_e4 he
      exact hret H locs ls 23 _ _ dX0_press_23 hC I
  · replace h := m_ifT c5 h
    refine lv_bipush (v := (-2)) X.1 X.2.1 dX0_press_8 (by decide) ?_
    obtain ⟨he, rfl⟩ := m_e3 h
    obtain ⟨rfl, rfl⟩ := m_e4 he
    exact hret H locs ls 10 _ _ dX0_press_10 hC I
end S_X0_press
theorem uk_X0_press (l : Launch) (n : Nat) (D : va_G) (d : UD) (u : UM) (t : Nat) (p0 : Int32) (r0 : Int32) (ur : UM) (C : UC) (h : uf_X0_press n d u t p0 = some ((r0, ur), C)) : u_M l yX0_press (ws_ yX0_press cX0_press 5 (some .int)) 8 211 C D d u [.ref t, .int p0] (some (.int r0)) ur :=
  u_start (own := RX0) (lvl := [(0, .ref t), (1, .int p0)]) (by decide) rfl (Nat.le_of_ble_eq_true rfl) rfl (fun p e s m args below meth c ls X hr hlk hI hl hA I hC => uw_X0_press X hA ⟨Nat.le_refl _, Nat.le_refl _⟩ n u t p0 r0 ur C h (fun H locs ls pc cells slots hd hC I => u_iret X I hr hlk (u_leftE hC) hd) _ _ ls _ _ hC I hl)
