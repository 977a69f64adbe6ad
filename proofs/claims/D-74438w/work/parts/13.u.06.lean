set_option maxRecDepth 100000
set_option maxHeartbeats 4000000
/-! java/lang/StringBuilder.charAt(I)C -/
def uf_J4_charAt (n : Nat) (d : UD) (u : UM) (t : Nat) (p0 : Int32) : Option Int32 :=
  m_b (u_cl u 14 t) (fun f1 => m_b (uf_J3_charAt n d u t p0) (fun r4 => m_g (u_ch r4) (some r4)))
theorem uh_J4_charAt : yJ4_charAt.cls = RJ4 ∧ yJ4_charAt.cls ≠ "java/lang/invoke/MethodHandle" ∧ yJ4_charAt.cls ≠ "java/lang/invoke/VarHandle" ∧ (parseMethodDescriptor yJ4_charAt.desc).map (fun d => d.parameters.length) = some 1 := by decide +kernel
section S_J4_charAt
variable {p : Program} {l : Launch} {e : Env} {R : Room} {s : State} {m : MethodId} {args : Array Value} {below : List Frame} {meth : Method} {c : Code} {Q : State → Prop} {D : va_G} {A : Nat → Prop} {d : UD} {cells slots : Nat}
theorem uw_J4_charAt (X : u_X RJ4 D A d p s m c cJ4_charAt 2 args) (hA : ∀ q, s.heap.size ≤ q → A q) (hR : 3 ≤ R.frames ∧ 67 ≤ R.locals) (hf : cells ≤ R.cells ∧ slots ≤ R.slots) (n : Nat) (u : UM) (t : Nat) (p0 : Int32) (r : Int32) (h : uf_J4_charAt n d u t p0 = some r) (hret : ∀ (H : Heap) (locs : List Loc) (ls : Array Slot) (pc : Nat), u_ch r = true → decode cJ4_charAt pc = .ok (.ireturn, 1) → u_I D A s.heap u H locs cells → W p l e R s m args below meth c H locs cells slots Q (F0 m pc ls [.int r])) : ∀ (H : Heap) (locs : List Loc) (ls : Array Slot), u_I D A s.heap u H locs cells → lv_has ls 2 [(0, .ref t), (1, .int p0)] → W p l e R s m args below meth c H locs cells slots Q (F0 m 0 ls []) := by
  intro H locs ls I hl
  unfold uf_J4_charAt at h
  refine lv_aload_n X.1 X.2.1 dJ4_charAt_0 rfl (lv_at hl 0 rfl) ?_
  refine lv_iload_n X.1 X.2.1 dJ4_charAt_1 rfl (lv_at hl 1 rfl) ?_
  obtain ⟨f1, e2, h⟩ := m_bS h
  obtain ⟨r4, e3, h⟩ := m_bS h
  refine u_callSUp X hl.1 I hA (As := [.int p0]) (rest := []) (uk_J3_charAt l n D d u t p0 _ e3) (u_clS e2) (C := RJ4) (T := TJ4) (N := 4) rfl 1 q1491 q2035 q363 q1492 q109 q1493 ⟨by decide, uh_J3_charAt.2.2.2⟩ rfl rfl ⟨Nat.le_trans (Nat.le_of_ble_eq_true rfl) hR.1, Nat.le_trans (Nat.le_of_ble_eq_true rfl) hR.2⟩ hf (stk := [.int r4]) rfl (Nat.le_of_ble_eq_true rfl) dJ4_charAt_2 (fun H locs I => ?_)
  obtain ⟨g5, h⟩ := m_gS h
  obtain rfl := m_e1 h
  exact hret H locs ls 5 g5 dJ4_charAt_5 I
end S_J4_charAt
theorem uk_J4_charAt (l : Launch) (n : Nat) (D : va_G) (d : UD) (u : UM) (t : Nat) (p0 : Int32) (r : Int32) (h : uf_J4_charAt n d u t p0 = some r) : u_M l yJ4_charAt (ws_ yJ4_charAt cJ4_charAt 2 (some .char)) 3 67 (0, 0) D d u [.ref t, .int p0] (some (.int r)) u :=
  u_start (own := RJ4) (lvl := [(0, .ref t), (1, .int p0)]) (by decide) rfl (Nat.le_of_ble_eq_true rfl) rfl (fun p e s m args below meth c ls X hr hlk hI hl hA I hC => uw_J4_charAt X hA ⟨Nat.le_refl _, Nat.le_refl _⟩ ⟨Nat.zero_le _, Nat.zero_le _⟩ n u t p0 r h (fun H locs ls pc g hd I => u_cret X I hr hlk g ⟨rfl, rfl⟩ hd) _ _ ls I hl)

/-! java/lang/String.hashCode()I -/
def uf_J5_hashCode_J58 (n : Nat) (d : UD) (u : UM) (v1 : Int32) : Option ((Int32 × UM) × UC) :=
  some ((v1, u), (0, 0))
def uf_J5_hashCode_J40 (n : Nat) (d : UD) (u : UM) (v0 : Nat) (t0 : Int32) : Option ((Int32 × UM) × UC) :=
  m_if ((t0 : Int32) = 0) (m_g (m_01 1) (m_b (u_pf u 15 3 v0 (.int 1)) (fun w26 => uf_J5_hashCode_J58 n d (w26, u.2) t0))) (m_b (u_pf u 15 2 v0 (.int t0)) (fun w23 => uf_J5_hashCode_J58 n d (w23, u.2) t0))
def uf_J5_hashCode (n : Nat) (d : UD) (u : UM) (t : Nat) : Option ((Int32 × UM) × UC) :=
  m_b (u_fi d u 15 2 t) (fun b1 => m_if ((b1 : Int32) = 0) (m_b (u_fi d u 15 3 t) (fun b4 => m_if ((b4 : Int32) = 0) (m_b (u_tx d u t) (fun f7 => m_b (uf_J5_isLatin1 n d u t) (fun r10 => m_if ((r10 : Int32) = 0) (m_b (u_fr d u 15 0 t) (fun b12 => none)) (m_b (u_fr d u 15 0 t) (fun b14 => u_bc u.2 (uf_J10_hashCode n d u b14) (fun r17 u18 => uf_J5_hashCode_J40 n d u18 t r17)))))) (uf_J5_hashCode_J58 n d u b1))) (uf_J5_hashCode_J58 n d u b1))
theorem uh_J5_hashCode : yJ5_hashCode.cls = RJ5 ∧ yJ5_hashCode.cls ≠ "java/lang/invoke/MethodHandle" ∧ yJ5_hashCode.cls ≠ "java/lang/invoke/VarHandle" ∧ (parseMethodDescriptor yJ5_hashCode.desc).map (fun d => d.parameters.length) = some 0 := by decide +kernel
section S_J5_hashCode
variable {p : Program} {l : Launch} {e : Env} {R : Room} {s : State} {m : MethodId} {args : Array Value} {below : List Frame} {meth : Method} {c : Code} {Q : State → Prop} {D : va_G} {A : Nat → Prop} {d : UD}
theorem uw_J5_hashCode (X : u_X RJ5 D A d p s m c cJ5_hashCode 2 args) (hA : ∀ q, s.heap.size ≤ q → A q) (hR : 3 ≤ R.frames ∧ 69 ≤ R.locals) (n : Nat) (u : UM) (t : Nat) (r0 : Int32) (ur : UM) (C : UC) (h : uf_J5_hashCode n d u t = some ((r0, ur), C)) (hret : ∀ (H : Heap) (locs : List Loc) (ls : Array Slot) (pc cells slots : Nat), decode cJ5_hashCode pc = .ok (.ireturn, 1) → u_left R cells slots (u_add (0, 0) (0, 0)) → u_I D A s.heap ur H locs cells → W p l e R s m args below meth c H locs cells slots Q (F0 m pc ls [.int r0])) : ∀ (H : Heap) (locs : List Loc) (ls : Array Slot) (cells slots : Nat), u_left R cells slots (u_add C (0, 0)) → u_I D A s.heap u H locs cells → lv_has ls 2 [(0, .ref t)] → W p l e R s m args below meth c H locs cells slots Q (F0 m 0 ls []) := by
  have k58 : ∀ (u : UM) (v1 : Int32) (H : Heap) (locs : List Loc) (ls : Array Slot) (cells slots : Nat) (C : UC), uf_J5_hashCode_J58 n d u v1 = some ((r0, ur), C) → u_left R cells slots (u_add C (0, 0)) → u_I D A s.heap u H locs cells → lv_has ls 2 [(1, .int v1)] → W p l e R s m args below meth c H locs cells slots Q (F0 m 58 ls []) := by
    intro u v1 H locs ls cells slots C h hC I hl
    unfold uf_J5_hashCode_J58 at h
    refine lv_iload_n X.1 X.2.1 dJ5_hashCode_58 rfl (lv_at hl 0 rfl) ?_
    obtain ⟨he, rfl⟩ := m_e3 h
    obtain ⟨rfl, rfl⟩ := m_e4 he
    exact hret H locs ls 59 _ _ dJ5_hashCode_59 hC I
  have k40 : ∀ (u : UM) (v0 : Nat) (t0 : Int32) (H : Heap) (locs : List Loc) (ls : Array Slot) (cells slots : Nat) (C : UC), uf_J5_hashCode_J40 n d u v0 t0 = some ((r0, ur), C) → u_left R cells slots (u_add C (0, 0)) → u_I D A s.heap u H locs cells → lv_has ls 2 [(0, .ref v0)] → W p l e R s m args below meth c H locs cells slots Q (F0 m 40 ls [.int t0]) := by
    intro u v0 t0 H locs ls cells slots C h hC I hl
    unfold uf_J5_hashCode_J40 at h
    refine lv_istore_n (lv' := [(1, .int t0), (0, .ref v0)]) X.1 X.2.1 dJ5_hashCode_40 rfl hl (by decide) rfl (fun ls hl => ?_)
    refine lv_iload_n X.1 X.2.1 dJ5_hashCode_41 rfl (lv_at hl 0 rfl) ?_
    refine lv_if_ne (tgt := 53) X.1 X.2.1 dJ5_hashCode_42 (by decide) (fun c22 => ?_) (fun c22 => ?_)
    · replace h := m_ifF c22 h
      refine lv_aload_n X.1 X.2.1 dJ5_hashCode_53 rfl (lv_at hl 1 rfl) ?_
      refine lv_iload_n X.1 X.2.1 dJ5_hashCode_54 rfl (lv_at hl 0 rfl) ?_
      obtain ⟨w23, e24, h⟩ := m_bS h
      refine u_P X I e24 (C := RJ5) (T := TJ5) (N := 4) (ref := "java/lang/String") in_J5 tyJ5 tyJ5_ok nmJ5 rfl (by decide) rfl rfl q511 (fun _ h => h) rfl rfl rfl dJ5_hashCode_55 (fun H locs I => ?_)
      exact k58 (w23, u.2) t0 H locs ls _ _ _ h hC I (lv_sub hl [0] rfl)
    · replace h := m_ifT c22 h
      refine lv_aload_n X.1 X.2.1 dJ5_hashCode_45 rfl (lv_at hl 1 rfl) ?_
      refine lv_iconst (v := 1) X.1 X.2.1 dJ5_hashCode_46 (by decide) ?_
      obtain ⟨g25, h⟩ := m_gS h
      obtain ⟨w26, e27, h⟩ := m_bS h
      refine u_P X I e27 (C := RJ5) (T := TJ5) (N := 4) (ref := "java/lang/String") in_J5 tyJ5 tyJ5_ok nmJ5 rfl (by decide) rfl rfl q512 (fun _ h => h) rfl (m_01S g25) (u_01z g25) dJ5_hashCode_47 (fun H locs I => ?_)
      refine lv_goto (tgt := 58) X.1 X.2.1 dJ5_hashCode_50 (by decide) ?_
      exact k58 (w26, u.2) t0 H locs ls _ _ _ h hC I (lv_sub hl [0] rfl)
  intro H locs ls cells slots hC I hl
  unfold uf_J5_hashCode at h
  refine lv_aload_n X.1 X.2.1 dJ5_hashCode_0 rfl (lv_at hl 0 rfl) ?_
  obtain ⟨b1, e2, h⟩ := m_bS h
  refine u_Gi X I e2 (C := RJ5) (T := TJ5) (N := 4) (ref := "java/lang/String") in_J5 rfl (by decide) rfl rfl q511 (fun _ h => h) dJ5_hashCode_1 ?_
  refine lv_istore_n (lv' := [(1, .int b1), (0, .ref t)]) X.1 X.2.1 dJ5_hashCode_4 rfl hl (by decide) rfl (fun ls hl => ?_)
  refine lv_iload_n X.1 X.2.1 dJ5_hashCode_5 rfl (lv_at hl 0 rfl) ?_
  refine lv_if_ne (tgt := 58) X.1 X.2.1 dJ5_hashCode_6 (by decide) (fun c3 => ?_) (fun c3 => ?_)
  · replace h := m_ifF c3 h
    exact k58 u b1 H locs ls _ _ _ h hC I (lv_sub hl [0] rfl)
  · replace h := m_ifT c3 h
    refine lv_aload_n X.1 X.2.1 dJ5_hashCode_9 rfl (lv_at hl 1 rfl) ?_
    obtain ⟨b4, e5, h⟩ := m_bS h
    refine u_Gi X I e5 (C := RJ5) (T := TJ5) (N := 4) (ref := "java/lang/String") in_J5 rfl (by decide) rfl rfl q512 (fun _ h => h) dJ5_hashCode_10 ?_
    refine lv_if_ne (tgt := 58) X.1 X.2.1 dJ5_hashCode_13 (by decide) (fun c6 => ?_) (fun c6 => ?_)
    · replace h := m_ifF c6 h
      exact k58 u b1 H locs ls _ _ _ h hC I (lv_sub hl [0] rfl)
    · replace h := m_ifT c6 h
      refine lv_aload_n X.1 X.2.1 dJ5_hashCode_16 rfl (lv_at hl 1 rfl) ?_
      obtain ⟨f7, e8, h⟩ := m_bS h
      obtain ⟨r10, e9, h⟩ := m_bS h
      refine u_callVpT X hl.1 I hA (As := []) (rest := []) (uk_J5_isLatin1 l n D d u t _ e9) (u_txS e8) 0 q599 q600 q601 q111 q602 uh_J5_isLatin1 rfl rfl ⟨Nat.le_trans (Nat.le_of_ble_eq_true rfl) hR.1, Nat.le_trans (Nat.le_of_ble_eq_true rfl) hR.2⟩ (u_leftLe hC) (stk := [.int r10]) rfl (Nat.le_of_ble_eq_true rfl) dJ5_hashCode_17 (fun H locs I => ?_)
      refine lv_if_eq (tgt := 33) X.1 X.2.1 dJ5_hashCode_20 (by decide) (fun c11 => ?_) (fun c11 => ?_)
      · replace h := m_ifT c11 h
        refine lv_aload_n X.1 X.2.1 dJ5_hashCode_33 rfl (lv_at hl 1 rfl) ?_
        obtain ⟨b12, e13, h⟩ := m_bS h
        refine u_Gr X I e13 (C := RJ5) (T := TJ5) (N := 4) (ref := "java/lang/String") in_J5 rfl (by decide) rfl rfl q509 (fun _ h => h) dJ5_hashCode_34 ?_
        cases h
      · replace h := m_ifF c11 h
        refine lv_aload_n X.1 X.2.1 dJ5_hashCode_23 rfl (lv_at hl 1 rfl) ?_
        obtain ⟨b14, e15, h⟩ := m_bS h
        refine u_Gr X I e15 (C := RJ5) (T := TJ5) (N := 4) (ref := "java/lang/String") in_J5 rfl (by decide) rfl rfl q509 (fun _ h => h) dJ5_hashCode_24 ?_
        obtain ⟨r17, u18, C19, C20, e16, z21, h, hq⟩ := u_bcS h
        rw [hq] at hC
        refine u_callS X hl.1 I hA (As := [.ref b14]) (rest := []) (uk_J10_hashCode l n D d u b14 _ _ _ e16) z21 1 q603 q604 q117 q605 uh_J10_hashCode.2 rfl rfl ⟨Nat.le_trans (Nat.le_of_ble_eq_true rfl) hR.1, Nat.le_trans (Nat.le_of_ble_eq_true rfl) hR.2⟩ hC (stk := [.int r17]) rfl (Nat.le_of_ble_eq_true rfl) dJ5_hashCode_27 (fun H locs cells slots hC I => ?_)
        refine lv_goto (tgt := 40) X.1 X.2.1 dJ5_hashCode_30 (by decide) ?_
        exact k40 u18 t r17 H locs ls _ _ _ h hC I (lv_sub hl [1] rfl)
end S_J5_hashCode
theorem uk_J5_hashCode (l : Launch) (n : Nat) (D : va_G) (d : UD) (u : UM) (t : Nat) (r0 : Int32) (ur : UM) (C : UC) (h : uf_J5_hashCode n d u t = some ((r0, ur), C)) : u_M l yJ5_hashCode (ws_ yJ5_hashCode cJ5_hashCode 2 (some .int)) 3 69 C D d u [.ref t] (some (.int r0)) ur :=
  u_start (own := RJ5) (lvl := [(0, .ref t)]) (by decide) rfl (Nat.le_of_ble_eq_true rfl) rfl (fun p e s m args below meth c ls X hr hlk hI hl hA I hC => uw_J5_hashCode X hA ⟨Nat.le_refl _, Nat.le_refl _⟩ n u t r0 ur C h (fun H locs ls pc cells slots hd hC I => u_iret X I hr hlk (u_leftE hC) hd) _ _ ls _ _ hC I hl)

/-! java/lang/String.charAt(I)C -/
def uf_J5_charAt (n : Nat) (d : UD) (u : UM) (t : Nat) (p0 : Int32) : Option Int32 :=
  m_b (u_tx d u t) (fun f1 => m_b (uf_J5_isLatin1 n d u t) (fun r4 => m_if ((r4 : Int32) = 0) (m_b (u_fr d u 15 0 t) (fun b6 => none)) (m_b (u_fr d u 15 0 t) (fun b8 => m_b (uf_J10_charAt n d u b8 p0) (fun r11 => m_g (u_ch r11) (some r11))))))
theorem uh_J5_charAt : yJ5_charAt.cls = RJ5 ∧ yJ5_charAt.cls ≠ "java/lang/invoke/MethodHandle" ∧ yJ5_charAt.cls ≠ "java/lang/invoke/VarHandle" ∧ (parseMethodDescriptor yJ5_charAt.desc).map (fun d => d.parameters.length) = some 1 := by decide +kernel
section S_J5_charAt
variable {p : Program} {l : Launch} {e : Env} {R : Room} {s : State} {m : MethodId} {args : Array Value} {below : List Frame} {meth : Method} {c : Code} {Q : State → Prop} {D : va_G} {A : Nat → Prop} {d : UD} {cells slots : Nat}
theorem uw_J5_charAt (X : u_X RJ5 D A d p s m c cJ5_charAt 2 args) (hA : ∀ q, s.heap.size ≤ q → A q) (hR : 3 ≤ R.frames ∧ 64 ≤ R.locals) (hf : cells ≤ R.cells ∧ slots ≤ R.slots) (n : Nat) (u : UM) (t : Nat) (p0 : Int32) (r : Int32) (h : uf_J5_charAt n d u t p0 = some r) (hret : ∀ (H : Heap) (locs : List Loc) (ls : Array Slot) (pc : Nat), u_ch r = true → decode cJ5_charAt pc = .ok (.ireturn, 1) → u_I D A s.heap u H locs cells → W p l e R s m args below meth c H locs cells slots Q (F0 m pc ls [.int r])) : ∀ (H : Heap) (locs : List Loc) (ls : Array Slot), u_I D A s.heap u H locs cells → lv_has ls 2 [(0, .ref t), (1, .int p0)] → W p l e R s m args below meth c H locs cells slots Q (F0 m 0 ls []) := by
  intro H locs ls I hl
  unfold uf_J5_charAt at h
  refine lv_aload_n X.1 X.2.1 dJ5_charAt_0 rfl (lv_at hl 0 rfl) ?_
  obtain ⟨f1, e2, h⟩ := m_bS h
  obtain ⟨r4, e3, h⟩ := m_bS h
  refine u_callVpT X hl.1 I hA (As := []) (rest := []) (uk_J5_isLatin1 l n D d u t _ e3) (u_txS e2) 0 q599 q600 q601 q111 q602 uh_J5_isLatin1 rfl rfl ⟨Nat.le_trans (Nat.le_of_ble_eq_true rfl) hR.1, Nat.le_trans (Nat.le_of_ble_eq_true rfl) hR.2⟩ hf (stk := [.int r4]) rfl (Nat.le_of_ble_eq_true rfl) dJ5_charAt_1 (fun H locs I => ?_)
  refine lv_if_eq (tgt := 16) X.1 X.2.1 dJ5_charAt_4 (by decide) (fun c5 => ?_) (fun c5 => ?_)
  · replace h := m_ifT c5 h
    refine lv_aload_n X.1 X.2.1 dJ5_charAt_16 rfl (lv_at hl 0 rfl) ?_
    obtain ⟨b6, e7, h⟩ := m_bS h
    refine u_Gr X I e7 (C := RJ5) (T := TJ5) (N := 4) (ref := "java/lang/String") in_J5 rfl (by decide) rfl rfl q509 (fun _ h => h) dJ5_charAt_17 ?_
    refine lv_iload_n X.1 X.2.1 dJ5_charAt_20 rfl (lv_at hl 1 rfl) ?_
    cases h
  · replace h := m_ifF c5 h
    refine lv_aload_n X.1 X.2.1 dJ5_charAt_7 rfl (lv_at hl 0 rfl) ?_
    obtain ⟨b8, e9, h⟩ := m_bS h
    refine u_Gr X I e9 (C := RJ5) (T := TJ5) (N := 4) (ref := "java/lang/String") in_J5 rfl (by decide) rfl rfl q509 (fun _ h => h) dJ5_charAt_8 ?_
    refine lv_iload_n X.1 X.2.1 dJ5_charAt_11 rfl (lv_at hl 1 rfl) ?_
    obtain ⟨r11, e10, h⟩ := m_bS h
    refine u_callSp X hl.1 I hA (As := [.ref b8, .int p0]) (rest := []) (uk_J10_charAt l n D d u b8 p0 _ e10) 2 q1479 q1480 q117 q1481 uh_J10_charAt.2 rfl rfl ⟨Nat.le_trans (Nat.le_of_ble_eq_true rfl) hR.1, Nat.le_trans (Nat.le_of_ble_eq_true rfl) hR.2⟩ hf (stk := [.int r11]) rfl (Nat.le_of_ble_eq_true rfl) dJ5_charAt_12 (fun H locs I => ?_)
    obtain ⟨g12, h⟩ := m_gS h
    obtain rfl := m_e1 h
    exact hret H locs ls 15 g12 dJ5_charAt_15 I
end S_J5_charAt
theorem uk_J5_charAt (l : Launch) (n : Nat) (D : va_G) (d : UD) (u : UM) (t : Nat) (p0 : Int32) (r : Int32) (h : uf_J5_charAt n d u t p0 = some r) : u_M l yJ5_charAt (ws_ yJ5_charAt cJ5_charAt 2 (some .char)) 3 64 (0, 0) D d u [.ref t, .int p0] (some (.int r)) u :=
  u_start (own := RJ5) (lvl := [(0, .ref t), (1, .int p0)]) (by decide) rfl (Nat.le_of_ble_eq_true rfl) rfl (fun p e s m args below meth c ls X hr hlk hI hl hA I hC => uw_J5_charAt X hA ⟨Nat.le_refl _, Nat.le_refl _⟩ ⟨Nat.zero_le _, Nat.zero_le _⟩ n u t p0 r h (fun H locs ls pc g hd I => u_cret X I hr hlk g ⟨rfl, rfl⟩ hd) _ _ ls I hl)

/-! java/util/Arrays.copyOfRange([BII)[B -/
def uf_J9_copyOfRange_J10 (n : Nat) (d : UD) (u : UM) (v0 : Nat) (v1 : Int32) (v2 : Int32) : Option ((Nat × UM) × UC) :=
  u_bc u.2 (uf_J9_copyOfRangeByte n d u v0 v1 v2) (fun r3 u4 => some ((r3, u4), (0, 0)))
def uf_J9_copyOfRange (n : Nat) (d : UD) (u : UM) (p0 : Nat) (p1 : Int32) (p2 : Int32) : Option ((Nat × UM) × UC) :=
  m_if ((p1 : Int32) = 0) (m_b (u_lnI d u 2 p0) (fun b8 => m_if ((p2 : Int32) = (b8 : Int32)) (m_b (u_arI d u 2 p0) (fun f11 => m_g (u_bf f11.2 0 f11.1) (u_ac (1, f11.1) (m_b (some (u_nw u (.inl (d.1 2, f11.1, .inl f11.2)))) (fun u15 => m_b (u_arI d u15 2 u.2) (fun f17 => some ((u.2, u15), (0, 0)))))))) (uf_J9_copyOfRange_J10 n d u p0 p1 p2))) (uf_J9_copyOfRange_J10 n d u p0 p1 p2)
theorem uh_J9_copyOfRange : yJ9_copyOfRange.cls = RJ9 ∧ yJ9_copyOfRange.cls ≠ "java/lang/invoke/MethodHandle" ∧ yJ9_copyOfRange.cls ≠ "java/lang/invoke/VarHandle" ∧ (parseMethodDescriptor yJ9_copyOfRange.desc).map (fun d => d.parameters.length) = some 3 := by decide +kernel
section S_J9_copyOfRange
variable {p : Program} {l : Launch} {e : Env} {R : Room} {s : State} {m : MethodId} {args : Array Value} {below : List Frame} {meth : Method} {c : Code} {Q : State → Prop} {D : va_G} {A : Nat → Prop} {d : UD}
theorem uw_J9_copyOfRange (X : u_X RJ9 D A d p s m c cJ9_copyOfRange 3 args) (hA : ∀ q, s.heap.size ≤ q → A q) (hR : 2 ≤ R.frames ∧ 84 ≤ R.locals) (n : Nat) (u : UM) (p0 : Nat) (p1 : Int32) (p2 : Int32) (r0 : Nat) (ur : UM) (C : UC) (h : uf_J9_copyOfRange n d u p0 p1 p2 = some ((r0, ur), C)) (hret : ∀ (H : Heap) (locs : List Loc) (ls : Array Slot) (pc cells slots : Nat), decode cJ9_copyOfRange pc = .ok (.areturn, 1) → u_left R cells slots (u_add (0, 0) (0, 0)) → u_I D A s.heap ur H locs cells → W p l e R s m args below meth c H locs cells slots Q (F0 m pc ls [.ref r0])) : ∀ (H : Heap) (locs : List Loc) (ls : Array Slot) (cells slots : Nat), u_left R cells slots (u_add C (0, 0)) → u_I D A s.heap u H locs cells → lv_has ls 3 [(0, .ref p0), (1, .int p1), (2, .int p2)] → W p l e R s m args below meth c H locs cells slots Q (F0 m 0 ls []) := by
  have k10 : ∀ (u : UM) (v0 : Nat) (v1 : Int32) (v2 : Int32) (H : Heap) (locs : List Loc) (ls : Array Slot) (cells slots : Nat) (C : UC), uf_J9_copyOfRange_J10 n d u v0 v1 v2 = some ((r0, ur), C) → u_left R cells slots (u_add C (0, 0)) → u_I D A s.heap u H locs cells → lv_has ls 3 [(0, .ref v0), (1, .int v1), (2, .int v2)] → W p l e R s m args below meth c H locs cells slots Q (F0 m 10 ls []) := by
    intro u v0 v1 v2 H locs ls cells slots C h hC I hl
    unfold uf_J9_copyOfRange_J10 at h
    refine lv_aload_n X.1 X.2.1 dJ9_copyOfRange_10 rfl (lv_at hl 0 rfl) ?_
    refine lv_iload_n X.1 X.2.1 dJ9_copyOfRange_11 rfl (lv_at hl 1 rfl) ?_
    refine lv_iload_n X.1 X.2.1 dJ9_copyOfRange_12 rfl (lv_at hl 2 rfl) ?_
    obtain ⟨r3, u4, C5, C6, e2, z7, h, hq⟩ := u_bcS h
    rw [hq] at hC
    refine u_callS X hl.1 I hA (As := [.ref v0, .int v1, .int v2]) (rest := []) (uk_J9_copyOfRangeByte l n D d u v0 v1 v2 _ _ _ e2) z7 3 q489 q490 q115 q491 uh_J9_copyOfRangeByte.2 rfl rfl ⟨Nat.le_trans (Nat.le_of_ble_eq_true rfl) hR.1, Nat.le_trans (Nat.le_of_ble_eq_true rfl) hR.2⟩ hC (stk := [.ref r3]) rfl (Nat.le_of_ble_eq_true rfl) dJ9_copyOfRange_13 (fun H locs cells slots hC I => ?_)
    obtain ⟨he, rfl⟩ := m_e3 h
    obtain ⟨rfl, rfl⟩ := m_e4 he
    exact hret H locs ls 16 _ _ dJ9_copyOfRange_16 hC I
  intro H locs ls cells slots hC I hl
  unfold uf_J9_copyOfRange at h
  refine lv_iload_n X.1 X.2.1 dJ9_copyOfRange_0 rfl (lv_at hl 1 rfl) ?_
  refine lv_if_ne (tgt := 10) X.1 X.2.1 dJ9_copyOfRange_1 (by decide) (fun c1 => ?_) (fun c1 => ?_)
  · replace h := m_ifF c1 h
    exact k10 u p0 p1 p2 H locs ls _ _ _ h hC I (lv_sub hl [0, 1, 2] rfl)
  · replace h := m_ifT c1 h
    refine lv_iload_n X.1 X.2.1 dJ9_copyOfRange_4 rfl (lv_at hl 2 rfl) ?_
    refine lv_aload_n X.1 X.2.1 dJ9_copyOfRange_5 rfl (lv_at hl 0 rfl) ?_
    obtain ⟨b8, e9, h⟩ := m_bS h
    refine u_LN X I (by decide) e9 dJ9_copyOfRange_6 ?_
    refine lv_icmp_eq (tgt := 17) X.1 X.2.1 dJ9_copyOfRange_7 (by decide) (fun c10 => ?_) (fun c10 => ?_)
    · replace h := m_ifT c10 h
      refine lv_aload_n X.1 X.2.1 dJ9_copyOfRange_17 rfl (lv_at hl 0 rfl) ?_
      obtain ⟨f11, e12, h⟩ := m_bS h
      obtain ⟨g13, h⟩ := m_gS h
      obtain ⟨C14, h, hq⟩ := u_acS h
      rw [hq] at hC
      obtain ⟨u15, e16, h⟩ := m_bS h
      refine u_CL X hl.1 I hA e12 g13 q393 q394 q395 q396 q397 e16 hC (Nat.le_trans (Nat.le_of_ble_eq_true rfl) hR.1) (Nat.le_trans (Nat.le_of_ble_eq_true rfl) hR.2) (Nat.le_of_ble_eq_true rfl) dJ9_copyOfRange_18 (fun H cells slots hC I => ?_)
      obtain ⟨f17, e18, h⟩ := m_bS h
      refine u_KB X I e18 q399 dJ9_copyOfRange_21 ?_
      obtain ⟨he, rfl⟩ := m_e3 h
      obtain ⟨rfl, rfl⟩ := m_e4 he
      exact hret H locs ls 24 _ _ dJ9_copyOfRange_24 hC I
    · replace h := m_ifF c10 h
      exact k10 u p0 p1 p2 H locs ls _ _ _ h hC I (lv_sub hl [0, 1, 2] rfl)
end S_J9_copyOfRange
theorem uk_J9_copyOfRange (l : Launch) (n : Nat) (D : va_G) (d : UD) (u : UM) (p0 : Nat) (p1 : Int32) (p2 : Int32) (r0 : Nat) (ur : UM) (C : UC) (h : uf_J9_copyOfRange n d u p0 p1 p2 = some ((r0, ur), C)) : u_M l yJ9_copyOfRange (ws_ yJ9_copyOfRange cJ9_copyOfRange 3 (some (.array .byte))) 2 84 C D d u [.ref p0, .int p1, .int p2] (some (.ref r0)) ur :=
  u_start (own := RJ9) (lvl := [(0, .ref p0), (1, .int p1), (2, .int p2)]) (by decide) rfl (Nat.le_of_ble_eq_true rfl) rfl (fun p e s m args below meth c ls X hr hlk hI hl hA I hC => uw_J9_copyOfRange X hA ⟨Nat.le_refl _, Nat.le_refl _⟩ n u p0 p1 p2 r0 ur C h (fun H locs ls pc cells slots hd hC I => u_aret (r := some r0) X I hr (Or.inr ⟨_, rfl⟩) hlk (u_leftE hC) hd) _ _ ls _ _ hC I hl)

/-! SwapPress.isOwn(Ljava/lang/String;)Z -/
def uf_X0_isOwn_J149 (n : Nat) (d : UD) (u : UM) (v2 : Int32) : Option ((Int32 × UM) × UC) :=
  m_if ((v2 : Int32) = 0) (m_g (m_01 1) (some ((1, u), (0, 0)))) (m_if ((v2 : Int32) = 1) (m_g (m_01 1) (some ((1, u), (0, 0)))) (m_if ((v2 : Int32) = 2) (m_g (m_01 1) (some ((1, u), (0, 0)))) (m_if ((v2 : Int32) = 3) (m_g (m_01 1) (some ((1, u), (0, 0)))) (m_if ((v2 : Int32) = 4) (m_g (m_01 1) (some ((1, u), (0, 0)))) (m_if ((v2 : Int32) = 5) (m_g (m_01 1) (some ((1, u), (0, 0)))) (m_g (m_01 0) (some ((0, u), (0, 0)))))))))
def uf_X0_isOwn (n : Nat) (d : UD) (u : UM) (p0 : Nat) : Option ((Int32 × UM) × UC) :=
  m_b (u_tx d u p0) (fun f1 => u_bc u.2 (uf_J5_hashCode n d u p0) (fun r4 u5 => m_if ((r4 : Int32) = 98258) (m_b (u_tx d u5 p0) (fun f22 => m_b (uf_J5_equals n d u5 p0 (d.2 (10 + 4))) (fun r25 => m_if ((r25 : Int32) = 0) (uf_X0_isOwn_J149 n d u5 ((-1))) (uf_X0_isOwn_J149 n d u5 4)))) (m_if ((r4 : Int32) = 3287941) (m_b (u_tx d u5 p0) (fun f27 => m_b (uf_J5_equals n d u5 p0 (d.2 (10 + 3))) (fun r30 => m_if ((r30 : Int32) = 0) (uf_X0_isOwn_J149 n d u5 ((-1))) (uf_X0_isOwn_J149 n d u5 3)))) (m_if ((r4 : Int32) = 3292052) (m_b (u_tx d u5 p0) (fun f32 => m_b (uf_J5_equals n d u5 p0 (d.2 (10 + 1))) (fun r35 => m_if ((r35 : Int32) = 0) (uf_X0_isOwn_J149 n d u5 ((-1))) (uf_X0_isOwn_J149 n d u5 1)))) (m_if ((r4 : Int32) = 3357091) (m_b (u_tx d u5 p0) (fun f37 => m_b (uf_J5_equals n d u5 p0 (d.2 (10 + 5))) (fun r40 => m_if ((r40 : Int32) = 0) (uf_X0_isOwn_J149 n d u5 ((-1))) (uf_X0_isOwn_J149 n d u5 5)))) (m_if ((r4 : Int32) = 106437350) (m_b (u_tx d u5 p0) (fun f42 => m_b (uf_J5_equals n d u5 p0 (d.2 (10 + 0))) (fun r45 => m_if ((r45 : Int32) = 0) (uf_X0_isOwn_J149 n d u5 ((-1))) (uf_X0_isOwn_J149 n d u5 0)))) (m_if ((r4 : Int32) = 110621028) (m_b (u_tx d u5 p0) (fun f47 => m_b (uf_J5_equals n d u5 p0 (d.2 (10 + 2))) (fun r50 => m_if ((r50 : Int32) = 0) (uf_X0_isOwn_J149 n d u5 ((-1))) (uf_X0_isOwn_J149 n d u5 2)))) (uf_X0_isOwn_J149 n d u5 ((-1))))))))))
theorem uh_X0_isOwn : yX0_isOwn.cls = RX0 ∧ yX0_isOwn.cls ≠ "java/lang/invoke/MethodHandle" ∧ yX0_isOwn.cls ≠ "java/lang/invoke/VarHandle" ∧ (parseMethodDescriptor yX0_isOwn.desc).map (fun d => d.parameters.length) = some 1 := by decide +kernel
section S_X0_isOwn
variable {p : Program} {l : Launch} {e : Env} {R : Room} {s : State} {m : MethodId} {args : Array Value} {below : List Frame} {meth : Method} {c : Code} {Q : State → Prop} {D : va_G} {A : Nat → Prop} {d : UD}
theorem uw_X0_isOwn (X : u_X RX0 D A d p s m c cX0_isOwn 3 args) (hA : ∀ q, s.heap.size ≤ q → A q) (hR : 4 ≤ R.frames ∧ 90 ≤ R.locals) (n : Nat) (u : UM) (p0 : Nat) (r0 : Int32) (ur : UM) (C : UC) (h : uf_X0_isOwn n d u p0 = some ((r0, ur), C)) (hret : ∀ (H : Heap) (locs : List Loc) (ls : Array Slot) (pc cells slots : Nat), m_01 r0 = true → decode cX0_isOwn pc = .ok (.ireturn, 1) → u_left R cells slots (u_add (0, 0) (0, 0)) → u_I D A s.heap ur H locs cells → W p l e R s m args below meth c H locs cells slots Q (F0 m pc ls [.int r0])) : ∀ (H : Heap) (locs : List Loc) (ls : Array Slot) (cells slots : Nat), u_left R cells slots (u_add C (0, 0)) → u_I D A s.heap u H locs cells → lv_has ls 3 [(0, .ref p0)] → W p l e R s m args below meth c H locs cells slots Q (F0 m 0 ls []) := by
  have k149 : ∀ (u : UM) (v2 : Int32) (H : Heap) (locs : List Loc) (ls : Array Slot) (cells slots : Nat) (C : UC), uf_X0_isOwn_J149 n d u v2 = some ((r0, ur), C) → u_left R cells slots (u_add C (0, 0)) → u_I D A s.heap u H locs cells → lv_has ls 3 [(2, .int v2)] → W p l e R s m args below meth c H locs cells slots Q (F0 m 149 ls []) := by
    intro u v2 H locs ls cells slots C h hC I hl
    unfold uf_X0_isOwn_J149 at h
    refine lv_iload_n X.1 X.2.1 dX0_isOwn_149 rfl (lv_at hl 0 rfl) ?_
    by_cases c16 : (v2 : Int32) = 0
    · replace h := m_ifT c16 h
      refine lv_tableIn (tgt := 188) X.1 X.2.1 dX0_isOwn_150 (by rw [c16]; decide) (by rw [c16]; decide) (by rw [c16]; rfl) (by decide) ?_
      refine lv_iconst (v := 1) X.1 X.2.1 dX0_isOwn_188 (by decide) ?_
      obtain ⟨g10, h⟩ := m_gS h
      obtain ⟨he, rfl⟩ := m_e3 h
      obtain ⟨rfl, rfl⟩ := m_e4 he
      exact hret H locs ls 189 _ _ g10 dX0_isOwn_189 hC I
    replace h := m_ifF c16 h
    by_cases c17 : (v2 : Int32) = 1
    · replace h := m_ifT c17 h
      refine lv_tableIn (tgt := 188) X.1 X.2.1 dX0_isOwn_150 (by rw [c17]; decide) (by rw [c17]; decide) (by rw [c17]; rfl) (by decide) ?_
      refine lv_iconst (v := 1) X.1 X.2.1 dX0_isOwn_188 (by decide) ?_
      obtain ⟨g11, h⟩ := m_gS h
      obtain ⟨he, rfl⟩ := m_e3 h
      obtain ⟨rfl, rfl⟩ := m_e4 he
      exact hret H locs ls 189 _ _ g11 dX0_isOwn_189 hC I
    replace h := m_ifF c17 h
    by_cases c18 : (v2 : Int32) = 2
    · replace h := m_ifT c18 h
      refine lv_tableIn (tgt := 188) X.1 X.2.1 dX0_isOwn_150 (by rw [c18]; decide) (by rw [c18]; decide) (by rw [c18]; rfl) (by decide) ?_
      refine lv_iconst (v := 1) X.1 X.2.1 dX0_isOwn_188 (by decide) ?_
      obtain ⟨g12, h⟩ := m_gS h
      obtain ⟨he, rfl⟩ := m_e3 h
      obtain ⟨rfl, rfl⟩ := m_e4 he
      exact hret H locs ls 189 _ _ g12 dX0_isOwn_189 hC I
    replace h := m_ifF c18 h
    by_cases c19 : (v2 : Int32) = 3
    · replace h := m_ifT c19 h
      refine lv_tableIn (tgt := 188) X.1 X.2.1 dX0_isOwn_150 (by rw [c19]; decide) (by rw [c19]; decide) (by rw [c19]; rfl) (by decide) ?_
      refine lv_iconst (v := 1) X.1 X.2.1 dX0_isOwn_188 (by decide) ?_
      obtain ⟨g13, h⟩ := m_gS h
      obtain ⟨he, rfl⟩ := m_e3 h
      obtain ⟨rfl, rfl⟩ := m_e4 he
      exact hret H locs ls 189 _ _ g13 dX0_isOwn_189 hC I
    replace h := m_ifF c19 h
    by_cases c20 : (v2 : Int32) = 4
    · replace h := m_ifT c20 h
      refine lv_tableIn (tgt := 188) X.1 X.2.1 dX0_isOwn_150 (by rw [c20]; decide) (by rw [c20]; decide) (by rw [c20]; rfl) (by decide) ?_
      refine lv_iconst (v := 1) X.1 X.2.1 dX0_isOwn_188 (by decide) ?_
      obtain ⟨g14, h⟩ := m_gS h
      obtain ⟨he, rfl⟩ := m_e3 h
      obtain ⟨rfl, rfl⟩ := m_e4 he
      exact hret H locs ls 189 _ _ g14 dX0_isOwn_189 hC I
    replace h := m_ifF c20 h
    by_cases c21 : (v2 : Int32) = 5
    · replace h := m_ifT c21 h
      refine lv_tableIn (tgt := 188) X.1 X.2.1 dX0_isOwn_150 (by rw [c21]; decide) (by rw [c21]; decide) (by rw [c21]; rfl) (by decide) ?_
      refine lv_iconst (v := 1) X.1 X.2.1 dX0_isOwn_188 (by decide) ?_
      obtain ⟨g15, h⟩ := m_gS h
      obtain ⟨he, rfl⟩ := m_e3 h
      obtain ⟨rfl, rfl⟩ := m_e4 he
      exact hret H locs ls 189 _ _ g15 dX0_isOwn_189 hC I
    replace h := m_ifF c21 h
    refine lv_tableOut (tgt := 190) X.1 X.2.1 dX0_isOwn_150 (u_sw0_5 _ c16 c17 c18 c19 c20 c21) (by decide) ?_
    refine lv_iconst (v := 0) X.1 X.2.1 dX0_isOwn_190 (by decide) ?_
    obtain ⟨g9, h⟩ := m_gS h
    obtain ⟨he, rfl⟩ := m_e3 h
    obtain ⟨rfl, rfl⟩ := m_e4 he
    exact hret H locs ls 191 _ _ g9 dX0_isOwn_191 hC I
  intro H locs ls cells slots hC I hl
  unfold uf_X0_isOwn at h
  refine lv_aload_n X.1 X.2.1 dX0_isOwn_0 rfl (lv_at hl 0 rfl) ?_
  refine lv_astore_n (lv' := [(1, .ref p0), (0, .ref p0)]) X.1 X.2.1 dX0_isOwn_1 rfl hl (by decide) rfl (fun ls hl => ?_)
  refine lv_iconst (v := (-1)) X.1 X.2.1 dX0_isOwn_2 (by decide) ?_
  refine lv_istore_n (lv' := [(2, .int ((-1))), (1, .ref p0), (0, .ref p0)]) X.1 X.2.1 dX0_isOwn_3 rfl hl (by decide) rfl (fun ls hl => ?_)
  refine lv_aload_n X.1 X.2.1 dX0_isOwn_4 rfl (lv_at hl 1 rfl) ?_
  obtain ⟨f1, e2, h⟩ := m_bS h
  obtain ⟨r4, u5, C6, C7, e3, z8, h, hq⟩ := u_bcS h
  rw [hq] at hC
  refine u_callVT X hl.1 I hA (As := []) (rest := []) (uk_J5_hashCode l n D d u p0 _ _ _ e3) z8 (u_txS e2) 0 q677 q596 q597 q111 q598 uh_J5_hashCode rfl rfl ⟨Nat.le_trans (Nat.le_of_ble_eq_true rfl) hR.1, Nat.le_trans (Nat.le_of_ble_eq_true rfl) hR.2⟩ hC (stk := [.int r4]) rfl (Nat.le_of_ble_eq_true rfl) dX0_isOwn_5 (fun H locs cells slots hC I => ?_)
  by_cases c52 : (r4 : Int32) = 98258
  · replace h := m_ifT c52 h
    refine lv_lookup (off := 116) (tgt := 124) X.1 X.2.1 dX0_isOwn_8 (by decide) (by rw [c52]; rfl) (by decide) ?_
    refine lv_aload_n X.1 X.2.1 dX0_isOwn_124 rfl (lv_at hl 1 rfl) ?_
    refine u_ldc X 10 rfl dX0_isOwn_125 ?_
    obtain ⟨f22, e23, h⟩ := m_bS h
    obtain ⟨r25, e24, h⟩ := m_bS h
    refine u_callVpT X hl.1 I hA (As := [.ref (d.2 (10 + 4))]) (rest := []) (uk_J5_equals l n D d u5 p0 (d.2 (10 + 4)) _ e24) (u_txS e23) 1 q679 q650 q651 q111 q652 uh_J5_equals rfl rfl ⟨Nat.le_trans (Nat.le_of_ble_eq_true rfl) hR.1, Nat.le_trans (Nat.le_of_ble_eq_true rfl) hR.2⟩ (u_leftLe hC) (stk := [.int r25]) rfl (Nat.le_of_ble_eq_true rfl) dX0_isOwn_127 (fun H locs I => ?_)
    refine lv_if_eq (tgt := 149) X.1 X.2.1 dX0_isOwn_130 (by decide) (fun c26 => ?_) (fun c26 => ?_)
    · replace h := m_ifT c26 h
      exact k149 u5 ((-1)) H locs ls _ _ _ h hC I (lv_sub hl [0] rfl)
    · replace h := m_ifF c26 h
      refine lv_iconst (v := 4) X.1 X.2.1 dX0_isOwn_133 (by decide) ?_
      refine lv_istore_n (lv' := [(2, .int 4), (1, .ref p0), (0, .ref p0)]) X.1 X.2.1 dX0_isOwn_134 rfl hl (by decide) rfl (fun ls hl => ?_)
      refine lv_goto (tgt := 149) X.1 X.2.1 dX0_isOwn_135 (by decide) ?_
      exact k149 u5 4 H locs ls _ _ _ h hC I (lv_sub hl [0] rfl)
  replace h := m_ifF c52 h
  by_cases c53 : (r4 : Int32) = 3287941
  · replace h := m_ifT c53 h
    refine lv_lookup (off := 102) (tgt := 110) X.1 X.2.1 dX0_isOwn_8 (by decide) (by rw [c53]; rfl) (by decide) ?_
    refine lv_aload_n X.1 X.2.1 dX0_isOwn_110 rfl (lv_at hl 1 rfl) ?_
    refine u_ldc X 9 rfl dX0_isOwn_111 ?_
    obtain ⟨f27, e28, h⟩ := m_bS h
    obtain ⟨r30, e29, h⟩ := m_bS h
    refine u_callVpT X hl.1 I hA (As := [.ref (d.2 (10 + 3))]) (rest := []) (uk_J5_equals l n D d u5 p0 (d.2 (10 + 3)) _ e29) (u_txS e28) 1 q679 q650 q651 q111 q652 uh_J5_equals rfl rfl ⟨Nat.le_trans (Nat.le_of_ble_eq_true rfl) hR.1, Nat.le_trans (Nat.le_of_ble_eq_true rfl) hR.2⟩ (u_leftLe hC) (stk := [.int r30]) rfl (Nat.le_of_ble_eq_true rfl) dX0_isOwn_113 (fun H locs I => ?_)
    refine lv_if_eq (tgt := 149) X.1 X.2.1 dX0_isOwn_116 (by decide) (fun c31 => ?_) (fun c31 => ?_)
    · replace h := m_ifT c31 h
      exact k149 u5 ((-1)) H locs ls _ _ _ h hC I (lv_sub hl [0] rfl)
    · replace h := m_ifF c31 h
      refine lv_iconst (v := 3) X.1 X.2.1 dX0_isOwn_119 (by decide) ?_
      refine lv_istore_n (lv' := [(2, .int 3), (1, .ref p0), (0, .ref p0)]) X.1 X.2.1 dX0_isOwn_120 rfl hl (by decide) rfl (fun ls hl => ?_)
      refine lv_goto (tgt := 149) X.1 X.2.1 dX0_isOwn_121 (by decide) ?_
      exact k149 u5 3 H locs ls _ _ _ h hC I (lv_sub hl [0] rfl)
  replace h := m_ifF c53 h
  by_cases c54 : (r4 : Int32) = 3292052
  · replace h := m_ifT c54 h
    refine lv_lookup (off := 74) (tgt := 82) X.1 X.2.1 dX0_isOwn_8 (by decide) (by rw [c54]; rfl) (by decide) ?_
    refine lv_aload_n X.1 X.2.1 dX0_isOwn_82 rfl (lv_at hl 1 rfl) ?_
    refine u_ldc X 7 rfl dX0_isOwn_83 ?_
    obtain ⟨f32, e33, h⟩ := m_bS h
    obtain ⟨r35, e34, h⟩ := m_bS h
    refine u_callVpT X hl.1 I hA (As := [.ref (d.2 (10 + 1))]) (rest := []) (uk_J5_equals l n D d u5 p0 (d.2 (10 + 1)) _ e34) (u_txS e33) 1 q679 q650 q651 q111 q652 uh_J5_equals rfl rfl ⟨Nat.le_trans (Nat.le_of_ble_eq_true rfl) hR.1, Nat.le_trans (Nat.le_of_ble_eq_true rfl) hR.2⟩ (u_leftLe hC) (stk := [.int r35]) rfl (Nat.le_of_ble_eq_true rfl) dX0_isOwn_85 (fun H locs I => ?_)
    refine lv_if_eq (tgt := 149) X.1 X.2.1 dX0_isOwn_88 (by decide) (fun c36 => ?_) (fun c36 => ?_)
    · replace h := m_ifT c36 h
      exact k149 u5 ((-1)) H locs ls _ _ _ h hC I (lv_sub hl [0] rfl)
    · replace h := m_ifF c36 h
      refine lv_iconst (v := 1) X.1 X.2.1 dX0_isOwn_91 (by decide) ?_
      refine lv_istore_n (lv' := [(2, .int 1), (1, .ref p0), (0, .ref p0)]) X.1 X.2.1 dX0_isOwn_92 rfl hl (by decide) rfl (fun ls hl => ?_)
      refine lv_goto (tgt := 149) X.1 X.2.1 dX0_isOwn_93 (by decide) ?_
      exact k149 u5 1 H locs ls _ _ _ h hC I (lv_sub hl [0] rfl)
  replace h := m_ifF c54 h
  by_cases c55 : (r4 : Int32) = 3357091
  · replace h := m_ifT c55 h
    refine lv_lookup (off := 130) (tgt := 138) X.1 X.2.1 dX0_isOwn_8 (by decide) (by rw [c55]; rfl) (by decide) ?_
    refine lv_aload_n X.1 X.2.1 dX0_isOwn_138 rfl (lv_at hl 1 rfl) ?_
    refine u_ldc X 11 rfl dX0_isOwn_139 ?_
    obtain ⟨f37, e38, h⟩ := m_bS h
    obtain ⟨r40, e39, h⟩ := m_bS h
    refine u_callVpT X hl.1 I hA (As := [.ref (d.2 (10 + 5))]) (rest := []) (uk_J5_equals l n D d u5 p0 (d.2 (10 + 5)) _ e39) (u_txS e38) 1 q679 q650 q651 q111 q652 uh_J5_equals rfl rfl ⟨Nat.le_trans (Nat.le_of_ble_eq_true rfl) hR.1, Nat.le_trans (Nat.le_of_ble_eq_true rfl) hR.2⟩ (u_leftLe hC) (stk := [.int r40]) rfl (Nat.le_of_ble_eq_true rfl) dX0_isOwn_141 (fun H locs I => ?_)
    refine lv_if_eq (tgt := 149) X.1 X.2.1 dX0_isOwn_144 (by decide) (fun c41 => ?_) (fun c41 => ?_)
    · replace h := m_ifT c41 h
      exact k149 u5 ((-1)) H locs ls _ _ _ h hC I (lv_sub hl [0] rfl)
    · replace h := m_ifF c41 h
      refine lv_iconst (v := 5) X.1 X.2.1 dX0_isOwn_147 (by decide) ?_
      refine lv_istore_n (lv' := [(2, .int 5), (1, .ref p0), (0, .ref p0)]) X.1 X.2.1 dX0_isOwn_148 rfl hl (by decide) rfl (fun ls hl => ?_)
      exact k149 u5 5 H locs ls _ _ _ h hC I (lv_sub hl [0] rfl)
  replace h := m_ifF c55 h
  by_cases c56 : (r4 : Int32) = 106437350
  · replace h := m_ifT c56 h
    refine lv_lookup (off := 60) (tgt := 68) X.1 X.2.1 dX0_isOwn_8 (by decide) (by rw [c56]; rfl) (by decide) ?_
    refine lv_aload_n X.1 X.2.1 dX0_isOwn_68 rfl (lv_at hl 1 rfl) ?_
    refine u_ldc X 6 rfl dX0_isOwn_69 ?_
    obtain ⟨f42, e43, h⟩ := m_bS h
    obtain ⟨r45, e44, h⟩ := m_bS h
    refine u_callVpT X hl.1 I hA (As := [.ref (d.2 (10 + 0))]) (rest := []) (uk_J5_equals l n D d u5 p0 (d.2 (10 + 0)) _ e44) (u_txS e43) 1 q679 q650 q651 q111 q652 uh_J5_equals rfl rfl ⟨Nat.le_trans (Nat.le_of_ble_eq_true rfl) hR.1, Nat.le_trans (Nat.le_of_ble_eq_true rfl) hR.2⟩ (u_leftLe hC) (stk := [.int r45]) rfl (Nat.le_of_ble_eq_true rfl) dX0_isOwn_71 (fun H locs I => ?_)
    refine lv_if_eq (tgt := 149) X.1 X.2.1 dX0_isOwn_74 (by decide) (fun c46 => ?_) (fun c46 => ?_)
    · replace h := m_ifT c46 h
      exact k149 u5 ((-1)) H locs ls _ _ _ h hC I (lv_sub hl [0] rfl)
    · replace h := m_ifF c46 h
      refine lv_iconst (v := 0) X.1 X.2.1 dX0_isOwn_77 (by decide) ?_
      refine lv_istore_n (lv' := [(2, .int 0), (1, .ref p0), (0, .ref p0)]) X.1 X.2.1 dX0_isOwn_78 rfl hl (by decide) rfl (fun ls hl => ?_)
      refine lv_goto (tgt := 149) X.1 X.2.1 dX0_isOwn_79 (by decide) ?_
      exact k149 u5 0 H locs ls _ _ _ h hC I (lv_sub hl [0] rfl)
  replace h := m_ifF c56 h
  by_cases c57 : (r4 : Int32) = 110621028
  · replace h := m_ifT c57 h
    refine lv_lookup (off := 88) (tgt := 96) X.1 X.2.1 dX0_isOwn_8 (by decide) (by rw [c57]; rfl) (by decide) ?_
    refine lv_aload_n X.1 X.2.1 dX0_isOwn_96 rfl (lv_at hl 1 rfl) ?_
    refine u_ldc X 8 rfl dX0_isOwn_97 ?_
    obtain ⟨f47, e48, h⟩ := m_bS h
    obtain ⟨r50, e49, h⟩ := m_bS h
    refine u_callVpT X hl.1 I hA (As := [.ref (d.2 (10 + 2))]) (rest := []) (uk_J5_equals l n D d u5 p0 (d.2 (10 + 2)) _ e49) (u_txS e48) 1 q679 q650 q651 q111 q652 uh_J5_equals rfl rfl ⟨Nat.le_trans (Nat.le_of_ble_eq_true rfl) hR.1, Nat.le_trans (Nat.le_of_ble_eq_true rfl) hR.2⟩ (u_leftLe hC) (stk := [.int r50]) rfl (Nat.le_of_ble_eq_true rfl) dX0_isOwn_99 (fun H locs I => ?_)
    refine lv_if_eq (tgt := 149) X.1 X.2.1 dX0_isOwn_102 (by decide) (fun c51 => ?_) (fun c51 => ?_)
    · replace h := m_ifT c51 h
      exact k149 u5 ((-1)) H locs ls _ _ _ h hC I (lv_sub hl [0] rfl)
    · replace h := m_ifF c51 h
      refine lv_iconst (v := 2) X.1 X.2.1 dX0_isOwn_105 (by decide) ?_
      refine lv_istore_n (lv' := [(2, .int 2), (1, .ref p0), (0, .ref p0)]) X.1 X.2.1 dX0_isOwn_106 rfl hl (by decide) rfl (fun ls hl => ?_)
      refine lv_goto (tgt := 149) X.1 X.2.1 dX0_isOwn_107 (by decide) ?_
      exact k149 u5 2 H locs ls _ _ _ h hC I (lv_sub hl [0] rfl)
  replace h := m_ifF c57 h
  refine lv_lookup (off := 141) (tgt := 149) X.1 X.2.1 dX0_isOwn_8 (by decide) (u_lkc (k := 98258) (by decide) c52 (u_lkc (k := 3287941) (by decide) c53 (u_lkc (k := 3292052) (by decide) c54 (u_lkc (k := 3357091) (by decide) c55 (u_lkc (k := 106437350) (by decide) c56 (u_lkc (k := 110621028) (by decide) c57 rfl)))))) (by decide) ?_
  exact k149 u5 ((-1)) H locs ls _ _ _ h hC I (lv_sub hl [0] rfl)
end S_X0_isOwn
theorem uk_X0_isOwn (l : Launch) (n : Nat) (D : va_G) (d : UD) (u : UM) (p0 : Nat) (r0 : Int32) (ur : UM) (C : UC) (h : uf_X0_isOwn n d u p0 = some ((r0, ur), C)) : u_M l yX0_isOwn (ws_ yX0_isOwn cX0_isOwn 3 (some .boolean)) 4 90 C D d u [.ref p0] (some (.int r0)) ur :=
  u_start (own := RX0) (lvl := [(0, .ref p0)]) (by decide) rfl (Nat.le_of_ble_eq_true rfl) rfl (fun p e s m args below meth c ls X hr hlk hI hl hA I hC => uw_X0_isOwn X hA ⟨Nat.le_refl _, Nat.le_refl _⟩ n u p0 r0 ur C h (fun H locs ls pc cells slots g hd hC I => u_zret X I hr hlk g (u_leftE hC) hd) _ _ ls _ _ hC I hl)

/-! SwapPress.areTwo(II)Z -/
def uf_X0_areTwo_J26 (n : Nat) (d : UD) (u : UM) (t0 : Int32) : Option Int32 :=
  m_g (m_01 t0) (some t0)
def uf_X0_areTwo_J25 (n : Nat) (d : UD) (u : UM) : Option Int32 :=
  uf_X0_areTwo_J26 n d u 0
def uf_X0_areTwo (n : Nat) (d : UD) (u : UM) (t : Nat) (p0 : Int32) (p1 : Int32) : Option Int32 :=
  m_b (u_cl u 1 t) (fun f1 => m_b (uf_X0_isParty n d u t p0) (fun r4 => m_if ((r4 : Int32) = 0) (uf_X0_areTwo_J25 n d u ) (m_b (u_cl u 1 t) (fun f7 => m_b (uf_X0_isParty n d u t p1) (fun r10 => m_if ((r10 : Int32) = 0) (uf_X0_areTwo_J25 n d u ) (m_if ((p0 : Int32) = (p1 : Int32)) (uf_X0_areTwo_J25 n d u ) (uf_X0_areTwo_J26 n d u 1)))))))
theorem uh_X0_areTwo : yX0_areTwo.cls = RX0 ∧ yX0_areTwo.cls ≠ "java/lang/invoke/MethodHandle" ∧ yX0_areTwo.cls ≠ "java/lang/invoke/VarHandle" ∧ (parseMethodDescriptor yX0_areTwo.desc).map (fun d => d.parameters.length) = some 2 := by decide +kernel
section S_X0_areTwo
variable {p : Program} {l : Launch} {e : Env} {R : Room} {s : State} {m : MethodId} {args : Array Value} {below : List Frame} {meth : Method} {c : Code} {Q : State → Prop} {D : va_G} {A : Nat → Prop} {d : UD} {cells slots : Nat}
theorem uw_X0_areTwo (X : u_X RX0 D A d p s m c cX0_areTwo 3 args) (hA : ∀ q, s.heap.size ≤ q → A q) (hR : 3 ≤ R.frames ∧ 61 ≤ R.locals) (hf : cells ≤ R.cells ∧ slots ≤ R.slots) (n : Nat) (u : UM) (t : Nat) (p0 : Int32) (p1 : Int32) (r : Int32) (h : uf_X0_areTwo n d u t p0 p1 = some r) (hret : ∀ (H : Heap) (locs : List Loc) (ls : Array Slot) (pc : Nat), m_01 r = true → decode cX0_areTwo pc = .ok (.ireturn, 1) → u_I D A s.heap u H locs cells → W p l e R s m args below meth c H locs cells slots Q (F0 m pc ls [.int r])) : ∀ (H : Heap) (locs : List Loc) (ls : Array Slot), u_I D A s.heap u H locs cells → lv_has ls 3 [(0, .ref t), (1, .int p0), (2, .int p1)] → W p l e R s m args below meth c H locs cells slots Q (F0 m 0 ls []) := by
  have k26 : ∀ (t0 : Int32) (H : Heap) (locs : List Loc) (ls : Array Slot), uf_X0_areTwo_J26 n d u t0 = some r → u_I D A s.heap u H locs cells → lv_has ls 3 [] → W p l e R s m args below meth c H locs cells slots Q (F0 m 26 ls [.int t0]) := by
    intro t0 H locs ls h I hl
    unfold uf_X0_areTwo_J26 at h
    obtain ⟨g6, h⟩ := m_gS h
    obtain rfl := m_e1 h
    exact hret H locs ls 26 g6 dX0_areTwo_26 I
  have k25 : ∀  (H : Heap) (locs : List Loc) (ls : Array Slot), uf_X0_areTwo_J25 n d u = some r → u_I D A s.heap u H locs cells → lv_has ls 3 [] → W p l e R s m args below meth c H locs cells slots Q (F0 m 25 ls []) := by
    intro  H locs ls h I hl
    unfold uf_X0_areTwo_J25 at h
    refine lv_iconst (v := 0) X.1 X.2.1 dX0_areTwo_25 (by decide) ?_
    exact k26 0 H locs ls h I (lv_sub hl [] rfl)
  intro H locs ls I hl
  unfold uf_X0_areTwo at h
  refine lv_aload_n X.1 X.2.1 dX0_areTwo_0 rfl (lv_at hl 0 rfl) ?_
  refine lv_iload_n X.1 X.2.1 dX0_areTwo_1 rfl (lv_at hl 1 rfl) ?_
  obtain ⟨f1, e2, h⟩ := m_bS h
  obtain ⟨r4, e3, h⟩ := m_bS h
  refine u_callVp X hl.1 I hA (As := [.int p0]) (rest := []) (uk_X0_isParty l n D d u t p0 _ e3) (u_clS e2) (C := RX0) (T := TX0) (N := 9) rfl 1 q866 q868 qs19 q101 q869 uh_X0_isParty rfl rfl ⟨Nat.le_trans (Nat.le_of_ble_eq_true rfl) hR.1, Nat.le_trans (Nat.le_of_ble_eq_true rfl) hR.2⟩ hf (stk := [.int r4]) rfl (Nat.le_of_ble_eq_true rfl) dX0_areTwo_2 (fun H locs I => ?_)
  refine lv_if_eq (tgt := 25) X.1 X.2.1 dX0_areTwo_5 (by decide) (fun c5 => ?_) (fun c5 => ?_)
  · replace h := m_ifT c5 h
    exact k25  H locs ls h I (lv_sub hl [] rfl)
  · replace h := m_ifF c5 h
    refine lv_aload_n X.1 X.2.1 dX0_areTwo_8 rfl (lv_at hl 0 rfl) ?_
    refine lv_iload_n X.1 X.2.1 dX0_areTwo_9 rfl (lv_at hl 2 rfl) ?_
    obtain ⟨f7, e8, h⟩ := m_bS h
    obtain ⟨r10, e9, h⟩ := m_bS h
    refine u_callVp X hl.1 I hA (As := [.int p1]) (rest := []) (uk_X0_isParty l n D d u t p1 _ e9) (u_clS e8) (C := RX0) (T := TX0) (N := 9) rfl 1 q866 q868 qs19 q101 q869 uh_X0_isParty rfl rfl ⟨Nat.le_trans (Nat.le_of_ble_eq_true rfl) hR.1, Nat.le_trans (Nat.le_of_ble_eq_true rfl) hR.2⟩ hf (stk := [.int r10]) rfl (Nat.le_of_ble_eq_true rfl) dX0_areTwo_10 (fun H locs I => ?_)
    refine lv_if_eq (tgt := 25) X.1 X.2.1 dX0_areTwo_13 (by decide) (fun c11 => ?_) (fun c11 => ?_)
    · replace h := m_ifT c11 h
      exact k25  H locs ls h I (lv_sub hl [] rfl)
    · replace h := m_ifF c11 h
      refine lv_iload_n X.1 X.2.1 dX0_areTwo_16 rfl (lv_at hl 1 rfl) ?_
      refine lv_iload_n X.1 X.2.1 dX0_areTwo_17 rfl (lv_at hl 2 rfl) ?_
      refine lv_icmp_eq (tgt := 25) X.1 X.2.1 dX0_areTwo_18 (by decide) (fun c12 => ?_) (fun c12 => ?_)
      · replace h := m_ifT c12 h
        exact k25  H locs ls h I (lv_sub hl [] rfl)
      · replace h := m_ifF c12 h
        refine lv_iconst (v := 1) X.1 X.2.1 dX0_areTwo_21 (by decide) ?_
        refine lv_goto (tgt := 26) X.1 X.2.1 dX0_areTwo_22 (by decide) ?_
        exact k26 1 H locs ls h I (lv_sub hl [] rfl)
end S_X0_areTwo
theorem uk_X0_areTwo (l : Launch) (n : Nat) (D : va_G) (d : UD) (u : UM) (t : Nat) (p0 : Int32) (p1 : Int32) (r : Int32) (h : uf_X0_areTwo n d u t p0 p1 = some r) : u_M l yX0_areTwo (ws_ yX0_areTwo cX0_areTwo 3 (some .boolean)) 3 61 (0, 0) D d u [.ref t, .int p0, .int p1] (some (.int r)) u :=
  u_start (own := RX0) (lvl := [(0, .ref t), (1, .int p0), (2, .int p1)]) (by decide) rfl (Nat.le_of_ble_eq_true rfl) rfl (fun p e s m args below meth c ls X hr hlk hI hl hA I hC => uw_X0_areTwo X hA ⟨Nat.le_refl _, Nat.le_refl _⟩ ⟨Nat.zero_le _, Nat.zero_le _⟩ n u t p0 p1 r h (fun H locs ls pc g hd I => u_zret X I hr hlk g ⟨rfl, rfl⟩ hd) _ _ ls I hl)

/-! SwapPress.first(I)[I -/
def uf_X0_first_J34 (n : Nat) (d : UD) (u : UM) (v0 : Nat) : Option (((Option Nat) × UM) × UC) :=
  m_b (u_fq d u 1 4 v0) (fun b4 => some ((b4, u), (0, 0)))
def uf_X0_first (n : Nat) (d : UD) (u : UM) (t : Nat) (p0 : Int32) : Option (((Option Nat) × UM) × UC) :=
  m_b (u_fi d u 1 3 t) (fun b1 => m_if ((b1 : Int32) = (p0 : Int32)) (uf_X0_first_J34 n d u t) (m_b (u_fr d u 1 0 t) (fun b6 => m_b (u_cl u 2 b6) (fun f8 => u_bc u.2 (uf_X1_flows n d u b6 p0) (fun r11 u12 => m_b (u_cl u12 1 t) (fun f16 => u_bc u12.2 (uf_X0_press_2 n d u12 t r11) (fun r19 u20 => m_b (u_cl u20 8 r19) (fun f24 => u_bc u20.2 (uf_X8_first n d u20 r19) (fun r27 u28 => m_b (u_pf u28 1 4 t (va_rf r27)) (fun w32 => m_b (u_pf (w32, u28.2) 1 3 t (.int p0)) (fun w34 => uf_X0_first_J34 n d (w34, u28.2) t)))))))))))
theorem uh_X0_first : yX0_first.cls = RX0 ∧ yX0_first.cls ≠ "java/lang/invoke/MethodHandle" ∧ yX0_first.cls ≠ "java/lang/invoke/VarHandle" ∧ (parseMethodDescriptor yX0_first.desc).map (fun d => d.parameters.length) = some 1 := by decide +kernel
section S_X0_first
variable {p : Program} {l : Launch} {e : Env} {R : Room} {s : State} {m : MethodId} {args : Array Value} {below : List Frame} {meth : Method} {c : Code} {Q : State → Prop} {D : va_G} {A : Nat → Prop} {d : UD}
theorem uw_X0_first (X : u_X RX0 D A d p s m c cX0_first 3 args) (hA : ∀ q, s.heap.size ≤ q → A q) (hR : 6 ≤ R.frames ∧ 163 ≤ R.locals) (n : Nat) (u : UM) (t : Nat) (p0 : Int32) (r0 : (Option Nat)) (ur : UM) (C : UC) (h : uf_X0_first n d u t p0 = some ((r0, ur), C)) (hret : ∀ (H : Heap) (locs : List Loc) (ls : Array Slot) (pc cells slots : Nat), decode cX0_first pc = .ok (.areturn, 1) → u_left R cells slots (u_add (0, 0) (0, 0)) → u_I D A s.heap ur H locs cells → W p l e R s m args below meth c H locs cells slots Q (F0 m pc ls [va_rf r0])) : ∀ (H : Heap) (locs : List Loc) (ls : Array Slot) (cells slots : Nat), u_left R cells slots (u_add C (0, 0)) → u_I D A s.heap u H locs cells → lv_has ls 3 [(0, .ref t), (1, .int p0)] → W p l e R s m args below meth c H locs cells slots Q (F0 m 0 ls []) := by
  have k34 : ∀ (u : UM) (v0 : Nat) (H : Heap) (locs : List Loc) (ls : Array Slot) (cells slots : Nat) (C : UC), uf_X0_first_J34 n d u v0 = some ((r0, ur), C) → u_left R cells slots (u_add C (0, 0)) → u_I D A s.heap u H locs cells → lv_has ls 3 [(0, .ref v0)] → W p l e R s m args below meth c H locs cells slots Q (F0 m 34 ls []) := by
    intro u v0 H locs ls cells slots C h hC I hl
    unfold uf_X0_first_J34 at h
    refine lv_aload_n X.1 X.2.1 dX0_first_34 rfl (lv_at hl 0 rfl) ?_
    obtain ⟨b4, e5, h⟩ := m_bS h
    refine u_Gq X I e5 (C := RX0) (T := TX0) (N := 9) (ref := "SwapPress") in_X0 rfl (by decide) rfl rfl q240 (fun _ h => h) dX0_first_35 ?_
    obtain ⟨he, rfl⟩ := m_e3 h
    obtain ⟨rfl, rfl⟩ := m_e4 he
    exact hret H locs ls 38 _ _ dX0_first_38 hC I
  intro H locs ls cells slots hC I hl
  unfold uf_X0_first at h
  refine lv_aload_n X.1 X.2.1 dX0_first_0 rfl (lv_at hl 0 rfl) ?_
  obtain ⟨b1, e2, h⟩ := m_bS h
  refine u_Gi X I e2 (C := RX0) (T := TX0) (N := 9) (ref := "SwapPress") in_X0 rfl (by decide) rfl rfl q239 (fun _ h => h) dX0_first_1 ?_
  refine lv_iload_n X.1 X.2.1 dX0_first_4 rfl (lv_at hl 1 rfl) ?_
  refine lv_icmp_eq (tgt := 34) X.1 X.2.1 dX0_first_5 (by decide) (fun c3 => ?_) (fun c3 => ?_)
  · replace h := m_ifT c3 h
    exact k34 u t H locs ls _ _ _ h hC I (lv_sub hl [0] rfl)
  · replace h := m_ifF c3 h
    refine lv_aload_n X.1 X.2.1 dX0_first_8 rfl (lv_at hl 0 rfl) ?_
    obtain ⟨b6, e7, h⟩ := m_bS h
    refine u_Gr X I e7 (C := RX0) (T := TX0) (N := 9) (ref := "SwapPress") in_X0 rfl (by decide) rfl rfl q235 (fun _ h => h) dX0_first_9 ?_
    refine lv_iload_n X.1 X.2.1 dX0_first_12 rfl (lv_at hl 1 rfl) ?_
    obtain ⟨f8, e9, h⟩ := m_bS h
    obtain ⟨r11, u12, C13, C14, e10, z15, h, hq⟩ := u_bcS h
    rw [hq] at hC
    refine u_callV X hl.1 I hA (As := [.int p0]) (rest := []) (uk_X1_flows l n D d u b6 p0 _ _ _ e10) z15 (u_clS e9) (C := RX1) (T := TX1) (N := 5) rfl 1 q951 q952 q953 q102 q954 uh_X1_flows rfl rfl ⟨Nat.le_trans (Nat.le_of_ble_eq_true rfl) hR.1, Nat.le_trans (Nat.le_of_ble_eq_true rfl) hR.2⟩ hC (stk := [.ref r11]) rfl (Nat.le_of_ble_eq_true rfl) dX0_first_13 (fun H locs cells slots hC I => ?_)
    refine lv_astore_n (lv' := [(2, .ref r11), (0, .ref t), (1, .int p0)]) X.1 X.2.1 dX0_first_16 rfl hl (by decide) rfl (fun ls hl => ?_)
    refine lv_aload_n X.1 X.2.1 dX0_first_17 rfl (lv_at hl 1 rfl) ?_
    refine lv_aload_n X.1 X.2.1 dX0_first_18 rfl (lv_at hl 1 rfl) ?_
    refine lv_aload_n X.1 X.2.1 dX0_first_19 rfl (lv_at hl 0 rfl) ?_
    obtain ⟨f16, e17, h⟩ := m_bS h
    obtain ⟨r19, u20, C21, C22, e18, z23, h, hq⟩ := u_bcS h
    rw [hq] at hC
    refine u_callV X hl.1 I hA (As := [.ref r11]) (rest := [.ref t]) (uk_X0_press_2 l n D d u12 t r11 _ _ _ e18) z23 (u_clS e17) (C := RX0) (T := TX0) (N := 9) rfl 1 q1020 q1022 qs28 q101 q1023 uh_X0_press_2 rfl rfl ⟨Nat.le_trans (Nat.le_of_ble_eq_true rfl) hR.1, Nat.le_trans (Nat.le_of_ble_eq_true rfl) hR.2⟩ hC (stk := [.ref r19, .ref t]) rfl (Nat.le_of_ble_eq_true rfl) dX0_first_20 (fun H locs cells slots hC I => ?_)
    obtain ⟨f24, e25, h⟩ := m_bS h
    obtain ⟨r27, u28, C29, C30, e26, z31, h, hq⟩ := u_bcS h
    rw [hq] at hC
    refine u_callV X hl.1 I hA (As := []) (rest := [.ref t]) (uk_X8_first l n D d u20 r19 _ _ _ e26) z31 (u_clS e25) (C := RX8) (T := TX8) (N := 6) rfl 0 q1116 q1117 q1118 q125 q1119 uh_X8_first rfl rfl ⟨Nat.le_trans (Nat.le_of_ble_eq_true rfl) hR.1, Nat.le_trans (Nat.le_of_ble_eq_true rfl) hR.2⟩ hC (stk := [va_rf r27, .ref t]) rfl (Nat.le_of_ble_eq_true rfl) dX0_first_23 (fun H locs cells slots hC I => ?_)
    obtain ⟨w32, e33, h⟩ := m_bS h
    refine u_P X I e33 (C := RX0) (T := TX0) (N := 9) (ref := "SwapPress") in_X0 tyX0 tyX0_ok nmX0 rfl (by decide) rfl rfl q240 (fun _ h => h) rfl (u_nar _) (u_fit _) dX0_first_26 (fun H locs I => ?_)
    refine lv_aload_n X.1 X.2.1 dX0_first_29 rfl (lv_at hl 1 rfl) ?_
    refine lv_iload_n X.1 X.2.1 dX0_first_30 rfl (lv_at hl 2 rfl) ?_
    obtain ⟨w34, e35, h⟩ := m_bS h
    refine u_P X I e35 (C := RX0) (T := TX0) (N := 9) (ref := "SwapPress") in_X0 tyX0 tyX0_ok nmX0 rfl (by decide) rfl rfl q239 (fun _ h => h) rfl rfl rfl dX0_first_31 (fun H locs I => ?_)
    exact k34 (w34, u28.2) t H locs ls _ _ _ h hC I (lv_sub hl [1] rfl)
end S_X0_first
theorem uk_X0_first (l : Launch) (n : Nat) (D : va_G) (d : UD) (u : UM) (t : Nat) (p0 : Int32) (r0 : (Option Nat)) (ur : UM) (C : UC) (h : uf_X0_first n d u t p0 = some ((r0, ur), C)) : u_M l yX0_first (ws_ yX0_first cX0_first 3 (some (.array .int))) 6 163 C D d u [.ref t, .int p0] (some (va_rf r0)) ur :=
  u_start (own := RX0) (lvl := [(0, .ref t), (1, .int p0)]) (by decide) rfl (Nat.le_of_ble_eq_true rfl) rfl (fun p e s m args below meth c ls X hr hlk hI hl hA I hC => uw_X0_first X hA ⟨Nat.le_refl _, Nat.le_refl _⟩ n u t p0 r0 ur C h (fun H locs ls pc cells slots hd hC I => u_aret (r := r0) X I hr (Or.inr ⟨_, rfl⟩) hlk (u_leftE hC) hd) _ _ ls _ _ hC I hl)

/-! SwapPress.areAll(III)Z -/
def uf_X0_areAll_J22 (n : Nat) (d : UD) (u : UM) (t0 : Int32) : Option Int32 :=
  m_g (m_01 t0) (some t0)
def uf_X0_areAll_J21 (n : Nat) (d : UD) (u : UM) : Option Int32 :=
  uf_X0_areAll_J22 n d u 0
def uf_X0_areAll (n : Nat) (d : UD) (u : UM) (t : Nat) (p0 : Int32) (p1 : Int32) (p2 : Int32) : Option Int32 :=
  m_b (u_cl u 1 t) (fun f1 => m_b (uf_X0_areTwo n d u t p0 p1) (fun r4 => m_if ((r4 : Int32) = 0) (uf_X0_areAll_J21 n d u ) (m_b (u_cl u 1 t) (fun f7 => m_b (uf_X0_isKind n d u t p2) (fun r10 => m_if ((r10 : Int32) = 0) (uf_X0_areAll_J21 n d u ) (uf_X0_areAll_J22 n d u 1))))))
theorem uh_X0_areAll : yX0_areAll.cls = RX0 ∧ yX0_areAll.cls ≠ "java/lang/invoke/MethodHandle" ∧ yX0_areAll.cls ≠ "java/lang/invoke/VarHandle" ∧ (parseMethodDescriptor yX0_areAll.desc).map (fun d => d.parameters.length) = some 3 := by decide +kernel
section S_X0_areAll
variable {p : Program} {l : Launch} {e : Env} {R : Room} {s : State} {m : MethodId} {args : Array Value} {below : List Frame} {meth : Method} {c : Code} {Q : State → Prop} {D : va_G} {A : Nat → Prop} {d : UD} {cells slots : Nat}
theorem uw_X0_areAll (X : u_X RX0 D A d p s m c cX0_areAll 4 args) (hA : ∀ q, s.heap.size ≤ q → A q) (hR : 4 ≤ R.frames ∧ 83 ≤ R.locals) (hf : cells ≤ R.cells ∧ slots ≤ R.slots) (n : Nat) (u : UM) (t : Nat) (p0 : Int32) (p1 : Int32) (p2 : Int32) (r : Int32) (h : uf_X0_areAll n d u t p0 p1 p2 = some r) (hret : ∀ (H : Heap) (locs : List Loc) (ls : Array Slot) (pc : Nat), m_01 r = true → decode cX0_areAll pc = .ok (.ireturn, 1) → u_I D A s.heap u H locs cells → W p l e R s m args below meth c H locs cells slots Q (F0 m pc ls [.int r])) : ∀ (H : Heap) (locs : List Loc) (ls : Array Slot), u_I D A s.heap u H locs cells → lv_has ls 4 [(0, .ref t), (1, .int p0), (2, .int p1), (3, .int p2)] → W p l e R s m args below meth c H locs cells slots Q (F0 m 0 ls []) := by
  have k22 : ∀ (t0 : Int32) (H : Heap) (locs : List Loc) (ls : Array Slot), uf_X0_areAll_J22 n d u t0 = some r → u_I D A s.heap u H locs cells → lv_has ls 4 [] → W p l e R s m args below meth c H locs cells slots Q (F0 m 22 ls [.int t0]) := by
    intro t0 H locs ls h I hl
    unfold uf_X0_areAll_J22 at h
    obtain ⟨g6, h⟩ := m_gS h
    obtain rfl := m_e1 h
    exact hret H locs ls 22 g6 dX0_areAll_22 I
  have k21 : ∀  (H : Heap) (locs : List Loc) (ls : Array Slot), uf_X0_areAll_J21 n d u = some r → u_I D A s.heap u H locs cells → lv_has ls 4 [] → W p l e R s m args below meth c H locs cells slots Q (F0 m 21 ls []) := by
    intro  H locs ls h I hl
    unfold uf_X0_areAll_J21 at h
    refine lv_iconst (v := 0) X.1 X.2.1 dX0_areAll_21 (by decide) ?_
    exact k22 0 H locs ls h I (lv_sub hl [] rfl)
  intro H locs ls I hl
  unfold uf_X0_areAll at h
  refine lv_aload_n X.1 X.2.1 dX0_areAll_0 rfl (lv_at hl 0 rfl) ?_
  refine lv_iload_n X.1 X.2.1 dX0_areAll_1 rfl (lv_at hl 1 rfl) ?_
  refine lv_iload_n X.1 X.2.1 dX0_areAll_2 rfl (lv_at hl 2 rfl) ?_
  obtain ⟨f1, e2, h⟩ := m_bS h
  obtain ⟨r4, e3, h⟩ := m_bS h
  refine u_callVp X hl.1 I hA (As := [.int p0, .int p1]) (rest := []) (uk_X0_areTwo l n D d u t p0 p1 _ e3) (u_clS e2) (C := RX0) (T := TX0) (N := 9) rfl 2 q862 q864 qs18 q101 q865 uh_X0_areTwo rfl rfl ⟨Nat.le_trans (Nat.le_of_ble_eq_true rfl) hR.1, Nat.le_trans (Nat.le_of_ble_eq_true rfl) hR.2⟩ hf (stk := [.int r4]) rfl (Nat.le_of_ble_eq_true rfl) dX0_areAll_3 (fun H locs I => ?_)
  refine lv_if_eq (tgt := 21) X.1 X.2.1 dX0_areAll_6 (by decide) (fun c5 => ?_) (fun c5 => ?_)
  · replace h := m_ifT c5 h
    exact k21  H locs ls h I (lv_sub hl [] rfl)
  · replace h := m_ifF c5 h
    refine lv_aload_n X.1 X.2.1 dX0_areAll_9 rfl (lv_at hl 0 rfl) ?_
    refine lv_iload_n X.1 X.2.1 dX0_areAll_10 rfl (lv_at hl 3 rfl) ?_
    obtain ⟨f7, e8, h⟩ := m_bS h
    obtain ⟨r10, e9, h⟩ := m_bS h
    refine u_callVp X hl.1 I hA (As := [.int p2]) (rest := []) (uk_X0_isKind l n D d u t p2 _ e9) (u_clS e8) (C := RX0) (T := TX0) (N := 9) rfl 1 q875 q877 qs20 q101 q878 uh_X0_isKind rfl rfl ⟨Nat.le_trans (Nat.le_of_ble_eq_true rfl) hR.1, Nat.le_trans (Nat.le_of_ble_eq_true rfl) hR.2⟩ hf (stk := [.int r10]) rfl (Nat.le_of_ble_eq_true rfl) dX0_areAll_11 (fun H locs I => ?_)
    refine lv_if_eq (tgt := 21) X.1 X.2.1 dX0_areAll_14 (by decide) (fun c11 => ?_) (fun c11 => ?_)
    · replace h := m_ifT c11 h
      exact k21  H locs ls h I (lv_sub hl [] rfl)
    · replace h := m_ifF c11 h
      refine lv_iconst (v := 1) X.1 X.2.1 dX0_areAll_17 (by decide) ?_
      refine lv_goto (tgt := 22) X.1 X.2.1 dX0_areAll_18 (by decide) ?_
      exact k22 1 H locs ls h I (lv_sub hl [] rfl)
end S_X0_areAll
theorem uk_X0_areAll (l : Launch) (n : Nat) (D : va_G) (d : UD) (u : UM) (t : Nat) (p0 : Int32) (p1 : Int32) (p2 : Int32) (r : Int32) (h : uf_X0_areAll n d u t p0 p1 p2 = some r) : u_M l yX0_areAll (ws_ yX0_areAll cX0_areAll 4 (some .boolean)) 4 83 (0, 0) D d u [.ref t, .int p0, .int p1, .int p2] (some (.int r)) u :=
  u_start (own := RX0) (lvl := [(0, .ref t), (1, .int p0), (2, .int p1), (3, .int p2)]) (by decide) rfl (Nat.le_of_ble_eq_true rfl) rfl (fun p e s m args below meth c ls X hr hlk hI hl hA I hC => uw_X0_areAll X hA ⟨Nat.le_refl _, Nat.le_refl _⟩ ⟨Nat.zero_le _, Nat.zero_le _⟩ n u t p0 p1 p2 r h (fun H locs ls pc g hd I => u_zret X I hr hlk g ⟨rfl, rfl⟩ hd) _ _ ls I hl)

/-! SwapPress.side(III)I -/
def uf_X0_side_J28 (n : Nat) (d : UD) (u : UM) : Option Int32 :=
  some ((-2))
def uf_X0_side_J64 (n : Nat) (d : UD) (u : UM) (t0 : Int32) : Option Int32 :=
  some t0
def uf_X0_side_J60 (n : Nat) (d : UD) (u : UM) (t0 : Int32) (t1 : Int32) (t2 : Int32) (t3 : Nat) : Option Int32 :=
  m_b (u_cl u 2 t3) (fun f18 => m_b (uf_X1_side n d u t3 t2 t1 t0 0) (fun r21 => uf_X0_side_J64 n d u r21))
def uf_X0_side (n : Nat) (d : UD) (u : UM) (t : Nat) (p0 : Int32) (p1 : Int32) (p2 : Int32) : Option Int32 :=
  m_b (u_cl u 1 t) (fun f1 => m_b (uf_X0_isParty n d u t p0) (fun r4 => m_if ((r4 : Int32) = 0) (uf_X0_side_J28 n d u ) (m_b (u_cl u 1 t) (fun f6 => m_b (uf_X0_isKind n d u t p1) (fun r9 => m_if ((r9 : Int32) = 0) (uf_X0_side_J28 n d u ) (m_b (uf_X0_in n d u ((p2 : Int32).toInt64) 0 2) (fun r12 => m_if ((r12 : Int32) = 0) (uf_X0_side_J28 n d u ) (m_if ((p2 : Int32) = (2 : Int32)) (m_b (u_cl u 1 t) (fun f22 => m_b (uf_X0_others n d u t p0 p1) (fun r25 => uf_X0_side_J64 n d u r25))) (m_b (u_fr d u 1 0 t) (fun b15 => m_if ((p2 : Int32) = 0) (uf_X0_side_J60 n d u 1 p1 p0 b15) (uf_X0_side_J60 n d u 0 p1 p0 b15)))))))))))
theorem uh_X0_side : yX0_side.cls = RX0 ∧ yX0_side.cls ≠ "java/lang/invoke/MethodHandle" ∧ yX0_side.cls ≠ "java/lang/invoke/VarHandle" ∧ (parseMethodDescriptor yX0_side.desc).map (fun d => d.parameters.length) = some 3 := by decide +kernel
section S_X0_side
variable {p : Program} {l : Launch} {e : Env} {R : Room} {s : State} {m : MethodId} {args : Array Value} {below : List Frame} {meth : Method} {c : Code} {Q : State → Prop} {D : va_G} {A : Nat → Prop} {d : UD} {cells slots : Nat}
theorem uw_X0_side (X : u_X RX0 D A d p s m c cX0_side 4 args) (hA : ∀ q, s.heap.size ≤ q → A q) (hR : 4 ≤ R.frames ∧ 91 ≤ R.locals) (hf : cells ≤ R.cells ∧ slots ≤ R.slots) (n : Nat) (u : UM) (t : Nat) (p0 : Int32) (p1 : Int32) (p2 : Int32) (r : Int32) (h : uf_X0_side n d u t p0 p1 p2 = some r) (hret : ∀ (H : Heap) (locs : List Loc) (ls : Array Slot) (pc : Nat), decode cX0_side pc = .ok (.ireturn, 1) → u_I D A s.heap u H locs cells → W p l e R s m args below meth c H locs cells slots Q (F0 m pc ls [.int r])) : ∀ (H : Heap) (locs : List Loc) (ls : Array Slot), u_I D A s.heap u H locs cells → lv_has ls 4 [(0, .ref t), (1, .int p0), (2, .int p1), (3, .int p2)] → W p l e R s m args below meth c H locs cells slots Q (F0 m 0 ls []) := by
  have k28 : ∀  (H : Heap) (locs : List Loc) (ls : Array Slot), uf_X0_side_J28 n d u = some r → u_I D A s.heap u H locs cells → lv_has ls 4 [] → W p l e R s m args below meth c H locs cells slots Q (F0 m 28 ls []) := by
    intro  H locs ls h I hl
    unfold uf_X0_side_J28 at h
    refine lv_bipush (v := (-2)) X.1 X.2.1 dX0_side_28 (by decide) ?_
    obtain rfl := m_e1 h
    exact hret H locs ls 30 dX0_side_30 I
  have k64 : ∀ (t0 : Int32) (H : Heap) (locs : List Loc) (ls : Array Slot), uf_X0_side_J64 n d u t0 = some r → u_I D A s.heap u H locs cells → lv_has ls 4 [] → W p l e R s m args below meth c H locs cells slots Q (F0 m 64 ls [.int t0]) := by
    intro t0 H locs ls h I hl
    unfold uf_X0_side_J64 at h
    obtain rfl := m_e1 h
    exact hret H locs ls 64 dX0_side_64 I
  have k60 : ∀ (t0 : Int32) (t1 : Int32) (t2 : Int32) (t3 : Nat) (H : Heap) (locs : List Loc) (ls : Array Slot), uf_X0_side_J60 n d u t0 t1 t2 t3 = some r → u_I D A s.heap u H locs cells → lv_has ls 4 [] → W p l e R s m args below meth c H locs cells slots Q (F0 m 60 ls [.int t0, .int t1, .int t2, .ref t3]) := by
    intro t0 t1 t2 t3 H locs ls h I hl
    unfold uf_X0_side_J60 at h
    refine lv_iconst (v := 0) X.1 X.2.1 dX0_side_60 (by decide) ?_
    obtain ⟨f18, e19, h⟩ := m_bS h
    obtain ⟨r21, e20, h⟩ := m_bS h
    refine u_callVp X hl.1 I hA (As := [.int t2, .int t1, .int t0, .int 0]) (rest := []) (uk_X1_side l n D d u t3 t2 t1 t0 0 _ e20) (u_clS e19) (C := RX1) (T := TX1) (N := 5) rfl 4 q1205 q1187 q1188 q102 q1189 uh_X1_side rfl rfl ⟨Nat.le_trans (Nat.le_of_ble_eq_true rfl) hR.1, Nat.le_trans (Nat.le_of_ble_eq_true rfl) hR.2⟩ hf (stk := [.int r21]) rfl (Nat.le_of_ble_eq_true rfl) dX0_side_61 (fun H locs I => ?_)
    exact k64 r21 H locs ls h I (lv_sub hl [] rfl)
  intro H locs ls I hl
  unfold uf_X0_side at h
  refine lv_aload_n X.1 X.2.1 dX0_side_0 rfl (lv_at hl 0 rfl) ?_
  refine lv_iload_n X.1 X.2.1 dX0_side_1 rfl (lv_at hl 1 rfl) ?_
  obtain ⟨f1, e2, h⟩ := m_bS h
  obtain ⟨r4, e3, h⟩ := m_bS h
  refine u_callVp X hl.1 I hA (As := [.int p0]) (rest := []) (uk_X0_isParty l n D d u t p0 _ e3) (u_clS e2) (C := RX0) (T := TX0) (N := 9) rfl 1 q866 q868 qs19 q101 q869 uh_X0_isParty rfl rfl ⟨Nat.le_trans (Nat.le_of_ble_eq_true rfl) hR.1, Nat.le_trans (Nat.le_of_ble_eq_true rfl) hR.2⟩ hf (stk := [.int r4]) rfl (Nat.le_of_ble_eq_true rfl) dX0_side_2 (fun H locs I => ?_)
  refine lv_if_eq (tgt := 28) X.1 X.2.1 dX0_side_5 (by decide) (fun c5 => ?_) (fun c5 => ?_)
  · replace h := m_ifT c5 h
    exact k28  H locs ls h I (lv_sub hl [] rfl)
  · replace h := m_ifF c5 h
    refine lv_aload_n X.1 X.2.1 dX0_side_8 rfl (lv_at hl 0 rfl) ?_
    refine lv_iload_n X.1 X.2.1 dX0_side_9 rfl (lv_at hl 2 rfl) ?_
    obtain ⟨f6, e7, h⟩ := m_bS h
    obtain ⟨r9, e8, h⟩ := m_bS h
    refine u_callVp X hl.1 I hA (As := [.int p1]) (rest := []) (uk_X0_isKind l n D d u t p1 _ e8) (u_clS e7) (C := RX0) (T := TX0) (N := 9) rfl 1 q875 q877 qs20 q101 q878 uh_X0_isKind rfl rfl ⟨Nat.le_trans (Nat.le_of_ble_eq_true rfl) hR.1, Nat.le_trans (Nat.le_of_ble_eq_true rfl) hR.2⟩ hf (stk := [.int r9]) rfl (Nat.le_of_ble_eq_true rfl) dX0_side_10 (fun H locs I => ?_)
    refine lv_if_eq (tgt := 28) X.1 X.2.1 dX0_side_13 (by decide) (fun c10 => ?_) (fun c10 => ?_)
    · replace h := m_ifT c10 h
      exact k28  H locs ls h I (lv_sub hl [] rfl)
    · replace h := m_ifF c10 h
      refine lv_iload_n X.1 X.2.1 dX0_side_16 rfl (lv_at hl 3 rfl) ?_
      refine lv_i2l X.1 X.2.1 dX0_side_17 rfl ?_
      refine lv_lconst (v := 0) X.1 X.2.1 dX0_side_18 (by decide) ?_
      refine lv_ldc2 (v := 2) X.1 X.2.1 X.2.2.2.1 (X.2.2.1 _ q1194) dX0_side_19 ?_
      obtain ⟨r12, e11, h⟩ := m_bS h
      refine u_callSp X hl.1 I hA (As := [.long ((p2 : Int32).toInt64), .long 0, .long 2]) (rest := []) (uk_X0_in l n D d u ((p2 : Int32).toInt64) 0 2 _ e11) 3 q279 q280 q101 q281 uh_X0_in.2 rfl rfl ⟨Nat.le_trans (Nat.le_of_ble_eq_true rfl) hR.1, Nat.le_trans (Nat.le_of_ble_eq_true rfl) hR.2⟩ hf (stk := [.int r12]) rfl (Nat.le_of_ble_eq_true rfl) dX0_side_22 (fun H locs I => ?_)
      refine lv_if_ne (tgt := 31) X.1 X.2.1 dX0_side_25 (by decide) (fun c13 => ?_) (fun c13 => ?_)
      · replace h := m_ifF c13 h
        refine lv_iload_n X.1 X.2.1 dX0_side_31 rfl (lv_at hl 3 rfl) ?_
        refine lv_iconst (v := 2) X.1 X.2.1 dX0_side_32 (by decide) ?_
        refine lv_icmp_ne (tgt := 45) X.1 X.2.1 dX0_side_33 (by decide) (fun c14 => ?_) (fun c14 => ?_)
        · replace h := m_ifF c14 h
          refine lv_aload_n X.1 X.2.1 dX0_side_45 rfl (lv_at hl 0 rfl) ?_
          obtain ⟨b15, e16, h⟩ := m_bS h
          refine u_Gr X I e16 (C := RX0) (T := TX0) (N := 9) (ref := "SwapPress") in_X0 rfl (by decide) rfl rfl q235 (fun _ h => h) dX0_side_46 ?_
          refine lv_iload_n X.1 X.2.1 dX0_side_49 rfl (lv_at hl 1 rfl) ?_
          refine lv_iload_n X.1 X.2.1 dX0_side_50 rfl (lv_at hl 2 rfl) ?_
          refine lv_iload_n X.1 X.2.1 dX0_side_51 rfl (lv_at hl 3 rfl) ?_
          refine lv_if_ne (tgt := 59) X.1 X.2.1 dX0_side_52 (by decide) (fun c17 => ?_) (fun c17 => ?_)
          · replace h := m_ifF c17 h
            refine lv_iconst (v := 0) X.1 X.2.1 dX0_side_59 (by decide) ?_
            exact k60 0 p1 p0 b15 H locs ls h I (lv_sub hl [] rfl)
          · replace h := m_ifT c17 h
            refine lv_iconst (v := 1) X.1 X.2.1 dX0_side_55 (by decide) ?_
            refine lv_goto (tgt := 60) X.1 X.2.1 dX0_side_56 (by decide) ?_
            exact k60 1 p1 p0 b15 H locs ls h I (lv_sub hl [] rfl)
        · replace h := m_ifT c14 h
          refine lv_aload_n X.1 X.2.1 dX0_side_36 rfl (lv_at hl 0 rfl) ?_
          refine lv_iload_n X.1 X.2.1 dX0_side_37 rfl (lv_at hl 1 rfl) ?_
          refine lv_iload_n X.1 X.2.1 dX0_side_38 rfl (lv_at hl 2 rfl) ?_
          obtain ⟨f22, e23, h⟩ := m_bS h
          obtain ⟨r25, e24, h⟩ := m_bS h
          refine u_callVp X hl.1 I hA (As := [.int p0, .int p1]) (rest := []) (uk_X0_others l n D d u t p0 p1 _ e24) (u_clS e23) (C := RX0) (T := TX0) (N := 9) rfl 2 q1195 q1197 qs32 q101 q1198 uh_X0_others rfl rfl ⟨Nat.le_trans (Nat.le_of_ble_eq_true rfl) hR.1, Nat.le_trans (Nat.le_of_ble_eq_true rfl) hR.2⟩ hf (stk := [.int r25]) rfl (Nat.le_of_ble_eq_true rfl) dX0_side_39 (fun H locs I => ?_)
          refine lv_goto (tgt := 64) X.1 X.2.1 dX0_side_42 (by decide) ?_
          exact k64 r25 H locs ls h I (lv_sub hl [] rfl)
      · replace h := m_ifT c13 h
        exact k28  H locs ls h I (lv_sub hl [] rfl)
end S_X0_side
theorem uk_X0_side (l : Launch) (n : Nat) (D : va_G) (d : UD) (u : UM) (t : Nat) (p0 : Int32) (p1 : Int32) (p2 : Int32) (r : Int32) (h : uf_X0_side n d u t p0 p1 p2 = some r) : u_M l yX0_side (ws_ yX0_side cX0_side 4 (some .int)) 4 91 (0, 0) D d u [.ref t, .int p0, .int p1, .int p2] (some (.int r)) u :=
  u_start (own := RX0) (lvl := [(0, .ref t), (1, .int p0), (2, .int p1), (3, .int p2)]) (by decide) rfl (Nat.le_of_ble_eq_true rfl) rfl (fun p e s m args below meth c ls X hr hlk hI hl hA I hC => uw_X0_side X hA ⟨Nat.le_refl _, Nat.le_refl _⟩ ⟨Nat.zero_le _, Nat.zero_le _⟩ n u t p0 p1 p2 r h (fun H locs ls pc hd I => u_iret X I hr hlk ⟨rfl, rfl⟩ hd) _ _ ls I hl)

/-! SwapPress.bounds(I)LSwapPress$Bounds; -/
def uf_X0_bounds (n : Nat) (d : UD) (u : UM) (t : Nat) (p0 : Int32) : Option ((Nat × UM) × UC) :=
  m_b (u_fr d u 1 0 t) (fun b1 => m_b (u_ni u 2 4 b1) (fun b3 => m_b (u_fr d u 1 0 t) (fun b5 => m_b (u_cl u 2 b5) (fun f7 => u_bc u.2 (uf_X1_flows n d u b5 p0) (fun r10 u11 => m_b (u_fr d u11 1 0 t) (fun b15 => m_b (u_nr u11 2 3 b15) (fun b17 => u_bc u11.2 (uf_X9_by n d u11 b3 r10 b17) (fun r20 u21 => some ((r20, u21), (0, 0))))))))))
theorem uh_X0_bounds : yX0_bounds.cls = RX0 ∧ yX0_bounds.cls ≠ "java/lang/invoke/MethodHandle" ∧ yX0_bounds.cls ≠ "java/lang/invoke/VarHandle" ∧ (parseMethodDescriptor yX0_bounds.desc).map (fun d => d.parameters.length) = some 1 := by decide +kernel
section S_X0_bounds
variable {p : Program} {l : Launch} {e : Env} {R : Room} {s : State} {m : MethodId} {args : Array Value} {below : List Frame} {meth : Method} {c : Code} {Q : State → Prop} {D : va_G} {A : Nat → Prop} {d : UD}
theorem uw_X0_bounds (X : u_X RX0 D A d p s m c cX0_bounds 2 args) (hA : ∀ q, s.heap.size ≤ q → A q) (hR : 4 ≤ R.frames ∧ 88 ≤ R.locals) (n : Nat) (u : UM) (t : Nat) (p0 : Int32) (r0 : Nat) (ur : UM) (C : UC) (h : uf_X0_bounds n d u t p0 = some ((r0, ur), C)) (hret : ∀ (H : Heap) (locs : List Loc) (ls : Array Slot) (pc cells slots : Nat), decode cX0_bounds pc = .ok (.areturn, 1) → u_left R cells slots (u_add (0, 0) (0, 0)) → u_I D A s.heap ur H locs cells → W p l e R s m args below meth c H locs cells slots Q (F0 m pc ls [.ref r0])) : ∀ (H : Heap) (locs : List Loc) (ls : Array Slot) (cells slots : Nat), u_left R cells slots (u_add C (0, 0)) → u_I D A s.heap u H locs cells → lv_has ls 2 [(0, .ref t), (1, .int p0)] → W p l e R s m args below meth c H locs cells slots Q (F0 m 0 ls []) := by
  intro H locs ls cells slots hC I hl
  unfold uf_X0_bounds at h
  refine lv_aload_n X.1 X.2.1 dX0_bounds_0 rfl (lv_at hl 0 rfl) ?_
  obtain ⟨b1, e2, h⟩ := m_bS h
  refine u_Gr X I e2 (C := RX0) (T := TX0) (N := 9) (ref := "SwapPress") in_X0 rfl (by decide) rfl rfl q235 (fun _ h => h) dX0_bounds_1 ?_
  obtain ⟨b3, e4, h⟩ := m_bS h
  refine u_GiN X I e4 (C := RX1) (T := TX1) (N := 5) (ref := "SwapPress$State") (host := "SwapPress") in_X1 rfl (by decide) rfl rfl 8 rfl (fun _ h => h) dX0_bounds_4 ?_
  refine lv_aload_n X.1 X.2.1 dX0_bounds_7 rfl (lv_at hl 0 rfl) ?_
  obtain ⟨b5, e6, h⟩ := m_bS h
  refine u_Gr X I e6 (C := RX0) (T := TX0) (N := 9) (ref := "SwapPress") in_X0 rfl (by decide) rfl rfl q235 (fun _ h => h) dX0_bounds_8 ?_
  refine lv_iload_n X.1 X.2.1 dX0_bounds_11 rfl (lv_at hl 1 rfl) ?_
  obtain ⟨f7, e8, h⟩ := m_bS h
  obtain ⟨r10, u11, C12, C13, e9, z14, h, hq⟩ := u_bcS h
  rw [hq] at hC
  refine u_callV X hl.1 I hA (As := [.int p0]) (rest := [.int b3]) (uk_X1_flows l n D d u b5 p0 _ _ _ e9) z14 (u_clS e8) (C := RX1) (T := TX1) (N := 5) rfl 1 q951 q952 q953 q102 q954 uh_X1_flows rfl rfl ⟨Nat.le_trans (Nat.le_of_ble_eq_true rfl) hR.1, Nat.le_trans (Nat.le_of_ble_eq_true rfl) hR.2⟩ hC (stk := [.ref r10, .int b3]) rfl (Nat.le_of_ble_eq_true rfl) dX0_bounds_12 (fun H locs cells slots hC I => ?_)
  refine lv_aload_n X.1 X.2.1 dX0_bounds_15 rfl (lv_at hl 0 rfl) ?_
  obtain ⟨b15, e16, h⟩ := m_bS h
  refine u_Gr X I e16 (C := RX0) (T := TX0) (N := 9) (ref := "SwapPress") in_X0 rfl (by decide) rfl rfl q235 (fun _ h => h) dX0_bounds_16 ?_
  obtain ⟨b17, e18, h⟩ := m_bS h
  refine u_GrN X I e18 (C := RX1) (T := TX1) (N := 5) (ref := "SwapPress$State") (host := "SwapPress") in_X1 rfl (by decide) rfl rfl 6 rfl (fun _ h => h) dX0_bounds_19 ?_
  obtain ⟨r20, u21, C22, C23, e19, z24, h, hq⟩ := u_bcS h
  rw [hq] at hC
  refine u_callS X hl.1 I hA (As := [.int b3, .ref r10, .ref b17]) (rest := []) (uk_X9_by l n D d u11 b3 r10 b17 _ _ _ e19) z24 3 q1026 q1027 q126 q1028 uh_X9_by.2 rfl rfl ⟨Nat.le_trans (Nat.le_of_ble_eq_true rfl) hR.1, Nat.le_trans (Nat.le_of_ble_eq_true rfl) hR.2⟩ hC (stk := [.ref r20]) rfl (Nat.le_of_ble_eq_true rfl) dX0_bounds_22 (fun H locs cells slots hC I => ?_)
  obtain ⟨he, rfl⟩ := m_e3 h
  obtain ⟨rfl, rfl⟩ := m_e4 he
  exact hret H locs ls 25 _ _ dX0_bounds_25 hC I
end S_X0_bounds
theorem uk_X0_bounds (l : Launch) (n : Nat) (D : va_G) (d : UD) (u : UM) (t : Nat) (p0 : Int32) (r0 : Nat) (ur : UM) (C : UC) (h : uf_X0_bounds n d u t p0 = some ((r0, ur), C)) : u_M l yX0_bounds (ws_ yX0_bounds cX0_bounds 2 (some (.object "SwapPress$Bounds"))) 4 88 C D d u [.ref t, .int p0] (some (.ref r0)) ur :=
  u_start (own := RX0) (lvl := [(0, .ref t), (1, .int p0)]) (by decide) rfl (Nat.le_of_ble_eq_true rfl) rfl (fun p e s m args below meth c ls X hr hlk hI hl hA I hC => uw_X0_bounds X hA ⟨Nat.le_refl _, Nat.le_refl _⟩ n u t p0 r0 ur C h (fun H locs ls pc cells slots hd hC I => u_aret (r := some r0) X I hr (Or.inl ⟨_, rfl⟩) hlk (u_leftE hC) hd) _ _ ls _ _ hC I hl)

/-! SwapPress.ring(II)I -/
def uf_X0_ring_J81 (n : Nat) (d : UD) (u : UM) (t0 : Int32) : Option ((Int32 × UM) × UC) :=
  some ((t0, u), (0, 0))
def uf_X0_ring (n : Nat) (d : UD) (u : UM) (t : Nat) (p0 : Int32) (p1 : Int32) : Option ((Int32 × UM) × UC) :=
  m_b (u_cl u 1 t) (fun f1 => m_b (uf_X0_isKind n d u t p0) (fun r4 => m_if ((r4 : Int32) = 0) (some (((-2), u), (0, 0))) (m_if (((-1) : Int32) ≤ (p1 : Int32)) (u_ac (1, 4) (m_b (some (u_nw u (.inr (7, [.int 0, .null, .null, .int 0])))) (fun u8 => m_b (u_fr d u8 1 0 t) (fun b10 => m_b (u_cl u8 2 b10) (fun f12 => m_b (uf_X1_many n d u8 b10) (fun r15 => m_b (u_fr d u8 1 0 t) (fun b16 => m_b (u_cl u8 2 b16) (fun f18 => u_bc u8.2 (uf_X1_flows n d u8 b16 p0) (fun r21 u22 => u_bc u22.2 (uf_X7_init n d u22 u.2 r15 r21) (fun r27 u28 => m_b (u_cl u28 7 u.2) (fun f32 => u_bc u28.2 (uf_X7_finds n d u28 u.2) (fun r35 u36 => m_if ((r35 : Int32) = 0) (some (((-1), u36), (0, 0))) (m_if ((p1 : Int32) = ((-1) : Int32)) (m_b (u_ni u36 7 3 u.2) (fun b49 => uf_X0_ring_J81 n d u36 b49)) (m_b (u_ni u36 7 3 u.2) (fun b42 => m_if ((b42 : Int32) ≤ (p1 : Int32)) (uf_X0_ring_J81 n d u36 ((-1))) (m_b (u_nr u36 7 2 u.2) (fun b45 => m_b (u_ldI d u36 b45 p1) (fun b47 => uf_X0_ring_J81 n d u36 b47)))))))))))))))))) (some (((-3), u), (0, 0))))))
theorem uh_X0_ring : yX0_ring.cls = RX0 ∧ yX0_ring.cls ≠ "java/lang/invoke/MethodHandle" ∧ yX0_ring.cls ≠ "java/lang/invoke/VarHandle" ∧ (parseMethodDescriptor yX0_ring.desc).map (fun d => d.parameters.length) = some 2 := by decide +kernel
section S_X0_ring
variable {p : Program} {l : Launch} {e : Env} {R : Room} {s : State} {m : MethodId} {args : Array Value} {below : List Frame} {meth : Method} {c : Code} {Q : State → Prop} {D : va_G} {A : Nat → Prop} {d : UD}
theorem uw_X0_ring (X : u_X RX0 D A d p s m c cX0_ring 4 args) (hA : ∀ q, s.heap.size ≤ q → A q) (hR : 12 ≤ R.frames ∧ 273 ≤ R.locals) (n : Nat) (u : UM) (t : Nat) (p0 : Int32) (p1 : Int32) (r0 : Int32) (ur : UM) (C : UC) (h : uf_X0_ring n d u t p0 p1 = some ((r0, ur), C)) (hret : ∀ (H : Heap) (locs : List Loc) (ls : Array Slot) (pc cells slots : Nat), decode cX0_ring pc = .ok (.ireturn, 1) → u_left R cells slots (u_add (0, 0) (0, 0)) → u_I D A s.heap ur H locs cells → W p l e R s m args below meth c H locs cells slots Q (F0 m pc ls [.int r0])) : ∀ (H : Heap) (locs : List Loc) (ls : Array Slot) (cells slots : Nat), u_left R cells slots (u_add C (0, 0)) → u_I D A s.heap u H locs cells → lv_has ls 4 [(0, .ref t), (1, .int p0), (2, .int p1)] → W p l e R s m args below meth c H locs cells slots Q (F0 m 0 ls []) := by
  have k81 : ∀ (u : UM) (t0 : Int32) (H : Heap) (locs : List Loc) (ls : Array Slot) (cells slots : Nat) (C : UC), uf_X0_ring_J81 n d u t0 = some ((r0, ur), C) → u_left R cells slots (u_add C (0, 0)) → u_I D A s.heap u H locs cells → lv_has ls 4 [] → W p l e R s m args below meth c H locs cells slots Q (F0 m 81 ls [.int t0]) := by
    intro u t0 H locs ls cells slots C h hC I hl
    unfold uf_X0_ring_J81 at h
    obtain ⟨he, rfl⟩ := m_e3 h
    obtain ⟨rfl, rfl⟩ := m_e4 he
    exact hret H locs ls 81 _ _ dX0_ring_81 hC I
  intro H locs ls cells slots hC I hl
  unfold uf_X0_ring at h
  refine lv_aload_n X.1 X.2.1 dX0_ring_0 rfl (lv_at hl 0 rfl) ?_
  refine lv_iload_n X.1 X.2.1 dX0_ring_1 rfl (lv_at hl 1 rfl) ?_
  obtain ⟨f1, e2, h⟩ := m_bS h
  obtain ⟨r4, e3, h⟩ := m_bS h
  refine u_callVp X hl.1 I hA (As := [.int p0]) (rest := []) (uk_X0_isKind l n D d u t p0 _ e3) (u_clS e2) (C := RX0) (T := TX0) (N := 9) rfl 1 q875 q877 qs20 q101 q878 uh_X0_isKind rfl rfl ⟨Nat.le_trans (Nat.le_of_ble_eq_true rfl) hR.1, Nat.le_trans (Nat.le_of_ble_eq_true rfl) hR.2⟩ (u_leftLe hC) (stk := [.int r4]) rfl (Nat.le_of_ble_eq_true rfl) dX0_ring_2 (fun H locs I => ?_)
  refine lv_if_ne (tgt := 11) X.1 X.2.1 dX0_ring_5 (by decide) (fun c5 => ?_) (fun c5 => ?_)
  · replace h := m_ifF c5 h
    refine lv_iload_n X.1 X.2.1 dX0_ring_11 rfl (lv_at hl 2 rfl) ?_
    refine lv_iconst (v := (-1)) X.1 X.2.1 dX0_ring_12 (by decide) ?_
    refine lv_icmp_ge (tgt := 19) X.1 X.2.1 dX0_ring_13 (by decide) (fun c6 => ?_) (fun c6 => ?_)
    · replace h := m_ifT c6 h
      obtain ⟨C7, h, hq⟩ := u_acS h
      rw [hq] at hC
      obtain ⟨u8, e9, h⟩ := m_bS h
      refine u_NO X I hA 7 (C := RX7) (T := TX7) (N := 4) in_X7 tyX7 tyX7_ok q949 q950 q124 rfl (fs := [.int 0, .null, .null, .int 0]) e9 (fun j hj => by match j, hj with | 0, _ => rfl | 1, _ => rfl | 2, _ => rfl | 3, _ => rfl) hC dX0_ring_19 (fun H cells slots hC I => ?_)
      refine lv_dup X.1 X.2.1 dX0_ring_22 rfl ?_
      refine lv_aload_n X.1 X.2.1 dX0_ring_23 rfl (lv_at hl 0 rfl) ?_
      obtain ⟨b10, e11, h⟩ := m_bS h
      refine u_Gr X I e11 (C := RX0) (T := TX0) (N := 9) (ref := "SwapPress") in_X0 rfl (by decide) rfl rfl q235 (fun _ h => h) dX0_ring_24 ?_
      obtain ⟨f12, e13, h⟩ := m_bS h
      obtain ⟨r15, e14, h⟩ := m_bS h
      refine u_callVp X hl.1 I hA (As := []) (rest := [.ref u.2, .ref u.2]) (uk_X1_many l n D d u8 b10 _ e14) (u_clS e13) (C := RX1) (T := TX1) (N := 5) rfl 0 q870 q871 q872 q102 q873 uh_X1_many rfl rfl ⟨Nat.le_trans (Nat.le_of_ble_eq_true rfl) hR.1, Nat.le_trans (Nat.le_of_ble_eq_true rfl) hR.2⟩ (u_leftLe hC) (stk := [.int r15, .ref u.2, .ref u.2]) rfl (Nat.le_of_ble_eq_true rfl) dX0_ring_27 (fun H locs I => ?_)
      refine lv_aload_n X.1 X.2.1 dX0_ring_30 rfl (lv_at hl 0 rfl) ?_
      obtain ⟨b16, e17, h⟩ := m_bS h
      refine u_Gr X I e17 (C := RX0) (T := TX0) (N := 9) (ref := "SwapPress") in_X0 rfl (by decide) rfl rfl q235 (fun _ h => h) dX0_ring_31 ?_
      refine lv_iload_n X.1 X.2.1 dX0_ring_34 rfl (lv_at hl 1 rfl) ?_
      obtain ⟨f18, e19, h⟩ := m_bS h
      obtain ⟨r21, u22, C23, C24, e20, z25, h, hq⟩ := u_bcS h
      rw [hq] at hC
      refine u_callV X hl.1 I hA (As := [.int p0]) (rest := [.int r15, .ref u.2, .ref u.2]) (uk_X1_flows l n D d u8 b16 p0 _ _ _ e20) z25 (u_clS e19) (C := RX1) (T := TX1) (N := 5) rfl 1 q951 q952 q953 q102 q954 uh_X1_flows rfl rfl ⟨Nat.le_trans (Nat.le_of_ble_eq_true rfl) hR.1, Nat.le_trans (Nat.le_of_ble_eq_true rfl) hR.2⟩ hC (stk := [.ref r21, .int r15, .ref u.2, .ref u.2]) rfl (Nat.le_of_ble_eq_true rfl) dX0_ring_35 (fun H locs cells slots hC I => ?_)
      obtain ⟨r27, u28, C29, C30, e26, z31, h, hq⟩ := u_bcS h
      rw [hq] at hC
      refine u_callI X hl.1 I hA (As := [.int r15, .ref r21]) (rest := [.ref u.2]) (uk_X7_init l n D d u22 u.2 r15 r21 _ _ e26) z31 2 q961 q962 q124 q963 rfl uh_X7_init.2 rfl rfl ⟨Nat.le_trans (Nat.le_of_ble_eq_true rfl) hR.1, Nat.le_trans (Nat.le_of_ble_eq_true rfl) hR.2⟩ hC (Nat.le_of_ble_eq_true rfl) dX0_ring_38 (fun H locs cells slots hC I => ?_)
      refine lv_astore_n (lv' := [(3, .ref u.2), (0, .ref t), (1, .int p0), (2, .int p1)]) X.1 X.2.1 dX0_ring_41 rfl hl (by decide) rfl (fun ls hl => ?_)
      refine lv_aload_n X.1 X.2.1 dX0_ring_42 rfl (lv_at hl 0 rfl) ?_
      obtain ⟨f32, e33, h⟩ := m_bS h
      obtain ⟨r35, u36, C37, C38, e34, z39, h, hq⟩ := u_bcS h
      rw [hq] at hC
      refine u_callV X hl.1 I hA (As := []) (rest := []) (uk_X7_finds l n D d u28 u.2 _ _ _ e34) z39 (u_clS e33) (C := RX7) (T := TX7) (N := 4) rfl 0 q980 q981 q982 q124 q983 uh_X7_finds rfl rfl ⟨Nat.le_trans (Nat.le_of_ble_eq_true rfl) hR.1, Nat.le_trans (Nat.le_of_ble_eq_true rfl) hR.2⟩ hC (stk := [.int r35]) rfl (Nat.le_of_ble_eq_true rfl) dX0_ring_43 (fun H locs cells slots hC I => ?_)
      refine lv_if_ne (tgt := 51) X.1 X.2.1 dX0_ring_46 (by decide) (fun c40 => ?_) (fun c40 => ?_)
      · replace h := m_ifF c40 h
        refine lv_iload_n X.1 X.2.1 dX0_ring_51 rfl (lv_at hl 3 rfl) ?_
        refine lv_iconst (v := (-1)) X.1 X.2.1 dX0_ring_52 (by decide) ?_
        refine lv_icmp_ne (tgt := 63) X.1 X.2.1 dX0_ring_53 (by decide) (fun c41 => ?_) (fun c41 => ?_)
        · replace h := m_ifF c41 h
          refine lv_iload_n X.1 X.2.1 dX0_ring_63 rfl (lv_at hl 3 rfl) ?_
          refine lv_aload_n X.1 X.2.1 dX0_ring_64 rfl (lv_at hl 0 rfl) ?_
          obtain ⟨b42, e43, h⟩ := m_bS h
          refine u_GiN X I e43 (C := RX7) (T := TX7) (N := 4) (ref := "SwapPress$Rings") (host := "SwapPress") in_X7 rfl (by decide) rfl rfl 26 rfl (fun _ h => h) dX0_ring_65 ?_
          refine lv_icmp_ge (tgt := 80) X.1 X.2.1 dX0_ring_68 (by decide) (fun c44 => ?_) (fun c44 => ?_)
          · replace h := m_ifT c44 h
            refine lv_iconst (v := (-1)) X.1 X.2.1 dX0_ring_80 (by decide) ?_
            exact k81 u36 ((-1)) H locs ls _ _ _ h hC I (lv_sub hl [] rfl)
          · replace h := m_ifF c44 h
            refine lv_aload_n X.1 X.2.1 dX0_ring_71 rfl (lv_at hl 0 rfl) ?_
            obtain ⟨b45, e46, h⟩ := m_bS h
            refine u_GrN X I e46 (C := RX7) (T := TX7) (N := 4) (ref := "SwapPress$Rings") (host := "SwapPress") in_X7 rfl (by decide) rfl rfl 25 rfl (fun _ h => h) dX0_ring_72 ?_
            refine lv_iload_n X.1 X.2.1 dX0_ring_75 rfl (lv_at hl 3 rfl) ?_
            obtain ⟨b47, e48, h⟩ := m_bS h
            refine u_LI X I e48 dX0_ring_76 ?_
            refine lv_goto (tgt := 81) X.1 X.2.1 dX0_ring_77 (by decide) ?_
            exact k81 u36 b47 H locs ls _ _ _ h hC I (lv_sub hl [] rfl)
        · replace h := m_ifT c41 h
          refine lv_aload_n X.1 X.2.1 dX0_ring_56 rfl (lv_at hl 0 rfl) ?_
          obtain ⟨b49, e50, h⟩ := m_bS h
          refine u_GiN X I e50 (C := RX7) (T := TX7) (N := 4) (ref := "SwapPress$Rings") (host := "SwapPress") in_X7 rfl (by decide) rfl rfl 26 rfl (fun _ h => h) dX0_ring_57 ?_
          refine lv_goto (tgt := 81) X.1 X.2.1 dX0_ring_60 (by decide) ?_
          exact k81 u36 b49 H locs ls _ _ _ h hC I (lv_sub hl [] rfl)
      · replace h := m_ifT c40 h
        refine lv_iconst (v := (-1)) X.1 X.2.1 dX0_ring_49 (by decide) ?_
        obtain ⟨he, rfl⟩ := m_e3 h
        obtain ⟨rfl, rfl⟩ := m_e4 he
        exact hret H locs ls 50 _ _ dX0_ring_50 hC I
    · replace h := m_ifF c6 h
      refine lv_bipush (v := (-3)) X.1 X.2.1 dX0_ring_16 (by decide) ?_
      obtain ⟨he, rfl⟩ := m_e3 h
      obtain ⟨rfl, rfl⟩ := m_e4 he
      exact hret H locs ls 18 _ _ dX0_ring_18 hC I
  · replace h := m_ifT c5 h
    refine lv_bipush (v := (-2)) X.1 X.2.1 dX0_ring_8 (by decide) ?_
    obtain ⟨he, rfl⟩ := m_e3 h
    obtain ⟨rfl, rfl⟩ := m_e4 he
    exact hret H locs ls 10 _ _ dX0_ring_10 hC I
end S_X0_ring
theorem uk_X0_ring (l : Launch) (n : Nat) (D : va_G) (d : UD) (u : UM) (t : Nat) (p0 : Int32) (p1 : Int32) (r0 : Int32) (ur : UM) (C : UC) (h : uf_X0_ring n d u t p0 p1 = some ((r0, ur), C)) : u_M l yX0_ring (ws_ yX0_ring cX0_ring 4 (some .int)) 12 273 C D d u [.ref t, .int p0, .int p1] (some (.int r0)) ur :=
  u_start (own := RX0) (lvl := [(0, .ref t), (1, .int p0), (2, .int p1)]) (by decide) rfl (Nat.le_of_ble_eq_true rfl) rfl (fun p e s m args below meth c ls X hr hlk hI hl hA I hC => uw_X0_ring X hA ⟨Nat.le_refl _, Nat.le_refl _⟩ n u t p0 p1 r0 ur C h (fun H locs ls pc cells slots hd hC I => u_iret X I hr hlk (u_leftE hC) hd) _ _ ls _ _ hC I hl)

/-! SwapPress.load(I)I -/
def uf_X0_load_J49 (n : Nat) (d : UD) (u : UM) (t0 : Int32) : Option ((Int32 × UM) × UC) :=
  some ((t0, u), (0, 0))
def uf_X0_load (n : Nat) (d : UD) (u : UM) (t : Nat) (p0 : Int32) : Option ((Int32 × UM) × UC) :=
  m_b (u_cl u 1 t) (fun f1 => m_b (uf_X0_isKind n d u t p0) (fun r4 => m_if ((r4 : Int32) = 0) (some (((-2), u), (0, 0))) (u_ac (1, 4) (m_b (some (u_nw u (.inr (7, [.int 0, .null, .null, .int 0])))) (fun u7 => m_b (u_fr d u7 1 0 t) (fun b9 => m_b (u_cl u7 2 b9) (fun f11 => m_b (uf_X1_many n d u7 b9) (fun r14 => m_b (u_fr d u7 1 0 t) (fun b15 => m_b (u_cl u7 2 b15) (fun f17 => u_bc u7.2 (uf_X1_flows n d u7 b15 p0) (fun r20 u21 => u_bc u21.2 (uf_X7_init n d u21 u.2 r14 r20) (fun r26 u27 => m_b (u_cl u27 7 u.2) (fun f31 => u_bc u27.2 (uf_X7_finds n d u27 u.2) (fun r34 u35 => m_if ((r34 : Int32) = 0) (uf_X0_load_J49 n d u35 ((-1))) (m_b (u_cl u35 7 u.2) (fun f40 => m_b (uf_X7_load n d u35 u.2) (fun r43 => uf_X0_load_J49 n d u35 r43)))))))))))))))))
theorem uh_X0_load : yX0_load.cls = RX0 ∧ yX0_load.cls ≠ "java/lang/invoke/MethodHandle" ∧ yX0_load.cls ≠ "java/lang/invoke/VarHandle" ∧ (parseMethodDescriptor yX0_load.desc).map (fun d => d.parameters.length) = some 1 := by decide +kernel
section S_X0_load
variable {p : Program} {l : Launch} {e : Env} {R : Room} {s : State} {m : MethodId} {args : Array Value} {below : List Frame} {meth : Method} {c : Code} {Q : State → Prop} {D : va_G} {A : Nat → Prop} {d : UD}
theorem uw_X0_load (X : u_X RX0 D A d p s m c cX0_load 3 args) (hA : ∀ q, s.heap.size ≤ q → A q) (hR : 12 ≤ R.frames ∧ 273 ≤ R.locals) (n : Nat) (u : UM) (t : Nat) (p0 : Int32) (r0 : Int32) (ur : UM) (C : UC) (h : uf_X0_load n d u t p0 = some ((r0, ur), C)) (hret : ∀ (H : Heap) (locs : List Loc) (ls : Array Slot) (pc cells slots : Nat), decode cX0_load pc = .ok (.ireturn, 1) → u_left R cells slots (u_add (0, 0) (0, 0)) → u_I D A s.heap ur H locs cells → W p l e R s m args below meth c H locs cells slots Q (F0 m pc ls [.int r0])) : ∀ (H : Heap) (locs : List Loc) (ls : Array Slot) (cells slots : Nat), u_left R cells slots (u_add C (0, 0)) → u_I D A s.heap u H locs cells → lv_has ls 3 [(0, .ref t), (1, .int p0)] → W p l e R s m args below meth c H locs cells slots Q (F0 m 0 ls []) := by
  have k49 : ∀ (u : UM) (t0 : Int32) (H : Heap) (locs : List Loc) (ls : Array Slot) (cells slots : Nat) (C : UC), uf_X0_load_J49 n d u t0 = some ((r0, ur), C) → u_left R cells slots (u_add C (0, 0)) → u_I D A s.heap u H locs cells → lv_has ls 3 [] → W p l e R s m args below meth c H locs cells slots Q (F0 m 49 ls [.int t0]) := by
    intro u t0 H locs ls cells slots C h hC I hl
    unfold uf_X0_load_J49 at h
    obtain ⟨he, rfl⟩ := m_e3 h
    obtain ⟨rfl, rfl⟩ := m_e4 he
    exact hret H locs ls 49 _ _ dX0_load_49 hC I
  intro H locs ls cells slots hC I hl
  unfold uf_X0_load at h
  refine lv_aload_n X.1 X.2.1 dX0_load_0 rfl (lv_at hl 0 rfl) ?_
  refine lv_iload_n X.1 X.2.1 dX0_load_1 rfl (lv_at hl 1 rfl) ?_
  obtain ⟨f1, e2, h⟩ := m_bS h
  obtain ⟨r4, e3, h⟩ := m_bS h
  refine u_callVp X hl.1 I hA (As := [.int p0]) (rest := []) (uk_X0_isKind l n D d u t p0 _ e3) (u_clS e2) (C := RX0) (T := TX0) (N := 9) rfl 1 q875 q877 qs20 q101 q878 uh_X0_isKind rfl rfl ⟨Nat.le_trans (Nat.le_of_ble_eq_true rfl) hR.1, Nat.le_trans (Nat.le_of_ble_eq_true rfl) hR.2⟩ (u_leftLe hC) (stk := [.int r4]) rfl (Nat.le_of_ble_eq_true rfl) dX0_load_2 (fun H locs I => ?_)
  refine lv_if_ne (tgt := 11) X.1 X.2.1 dX0_load_5 (by decide) (fun c5 => ?_) (fun c5 => ?_)
  · replace h := m_ifF c5 h
    obtain ⟨C6, h, hq⟩ := u_acS h
    rw [hq] at hC
    obtain ⟨u7, e8, h⟩ := m_bS h
    refine u_NO X I hA 7 (C := RX7) (T := TX7) (N := 4) in_X7 tyX7 tyX7_ok q949 q950 q124 rfl (fs := [.int 0, .null, .null, .int 0]) e8 (fun j hj => by match j, hj with | 0, _ => rfl | 1, _ => rfl | 2, _ => rfl | 3, _ => rfl) hC dX0_load_11 (fun H cells slots hC I => ?_)
    refine lv_dup X.1 X.2.1 dX0_load_14 rfl ?_
    refine lv_aload_n X.1 X.2.1 dX0_load_15 rfl (lv_at hl 0 rfl) ?_
    obtain ⟨b9, e10, h⟩ := m_bS h
    refine u_Gr X I e10 (C := RX0) (T := TX0) (N := 9) (ref := "SwapPress") in_X0 rfl (by decide) rfl rfl q235 (fun _ h => h) dX0_load_16 ?_
    obtain ⟨f11, e12, h⟩ := m_bS h
    obtain ⟨r14, e13, h⟩ := m_bS h
    refine u_callVp X hl.1 I hA (As := []) (rest := [.ref u.2, .ref u.2]) (uk_X1_many l n D d u7 b9 _ e13) (u_clS e12) (C := RX1) (T := TX1) (N := 5) rfl 0 q870 q871 q872 q102 q873 uh_X1_many rfl rfl ⟨Nat.le_trans (Nat.le_of_ble_eq_true rfl) hR.1, Nat.le_trans (Nat.le_of_ble_eq_true rfl) hR.2⟩ (u_leftLe hC) (stk := [.int r14, .ref u.2, .ref u.2]) rfl (Nat.le_of_ble_eq_true rfl) dX0_load_19 (fun H locs I => ?_)
    refine lv_aload_n X.1 X.2.1 dX0_load_22 rfl (lv_at hl 0 rfl) ?_
    obtain ⟨b15, e16, h⟩ := m_bS h
    refine u_Gr X I e16 (C := RX0) (T := TX0) (N := 9) (ref := "SwapPress") in_X0 rfl (by decide) rfl rfl q235 (fun _ h => h) dX0_load_23 ?_
    refine lv_iload_n X.1 X.2.1 dX0_load_26 rfl (lv_at hl 1 rfl) ?_
    obtain ⟨f17, e18, h⟩ := m_bS h
    obtain ⟨r20, u21, C22, C23, e19, z24, h, hq⟩ := u_bcS h
    rw [hq] at hC
    refine u_callV X hl.1 I hA (As := [.int p0]) (rest := [.int r14, .ref u.2, .ref u.2]) (uk_X1_flows l n D d u7 b15 p0 _ _ _ e19) z24 (u_clS e18) (C := RX1) (T := TX1) (N := 5) rfl 1 q951 q952 q953 q102 q954 uh_X1_flows rfl rfl ⟨Nat.le_trans (Nat.le_of_ble_eq_true rfl) hR.1, Nat.le_trans (Nat.le_of_ble_eq_true rfl) hR.2⟩ hC (stk := [.ref r20, .int r14, .ref u.2, .ref u.2]) rfl (Nat.le_of_ble_eq_true rfl) dX0_load_27 (fun H locs cells slots hC I => ?_)
    obtain ⟨r26, u27, C28, C29, e25, z30, h, hq⟩ := u_bcS h
    rw [hq] at hC
    refine u_callI X hl.1 I hA (As := [.int r14, .ref r20]) (rest := [.ref u.2]) (uk_X7_init l n D d u21 u.2 r14 r20 _ _ e25) z30 2 q961 q962 q124 q963 rfl uh_X7_init.2 rfl rfl ⟨Nat.le_trans (Nat.le_of_ble_eq_true rfl) hR.1, Nat.le_trans (Nat.le_of_ble_eq_true rfl) hR.2⟩ hC (Nat.le_of_ble_eq_true rfl) dX0_load_30 (fun H locs cells slots hC I => ?_)
    refine lv_astore_n (lv' := [(2, .ref u.2), (0, .ref t), (1, .int p0)]) X.1 X.2.1 dX0_load_33 rfl hl (by decide) rfl (fun ls hl => ?_)
    refine lv_aload_n X.1 X.2.1 dX0_load_34 rfl (lv_at hl 0 rfl) ?_
    obtain ⟨f31, e32, h⟩ := m_bS h
    obtain ⟨r34, u35, C36, C37, e33, z38, h, hq⟩ := u_bcS h
    rw [hq] at hC
    refine u_callV X hl.1 I hA (As := []) (rest := []) (uk_X7_finds l n D d u27 u.2 _ _ _ e33) z38 (u_clS e32) (C := RX7) (T := TX7) (N := 4) rfl 0 q980 q981 q982 q124 q983 uh_X7_finds rfl rfl ⟨Nat.le_trans (Nat.le_of_ble_eq_true rfl) hR.1, Nat.le_trans (Nat.le_of_ble_eq_true rfl) hR.2⟩ hC (stk := [.int r34]) rfl (Nat.le_of_ble_eq_true rfl) dX0_load_35 (fun H locs cells slots hC I => ?_)
    refine lv_if_eq (tgt := 48) X.1 X.2.1 dX0_load_38 (by decide) (fun c39 => ?_) (fun c39 => ?_)
    · replace h := m_ifT c39 h
      refine lv_iconst (v := (-1)) X.1 X.2.1 dX0_load_48 (by decide) ?_
      exact k49 u35 ((-1)) H locs ls _ _ _ h hC I (lv_sub hl [] rfl)
    · replace h := m_ifF c39 h
      refine lv_aload_n X.1 X.2.1 dX0_load_41 rfl (lv_at hl 0 rfl) ?_
      obtain ⟨f40, e41, h⟩ := m_bS h
      obtain ⟨r43, e42, h⟩ := m_bS h
      refine u_callVp X hl.1 I hA (As := []) (rest := []) (uk_X7_load l n D d u35 u.2 _ e42) (u_clS e41) (C := RX7) (T := TX7) (N := 4) rfl 0 q992 q993 q994 q124 q995 uh_X7_load rfl rfl ⟨Nat.le_trans (Nat.le_of_ble_eq_true rfl) hR.1, Nat.le_trans (Nat.le_of_ble_eq_true rfl) hR.2⟩ (u_leftLe hC) (stk := [.int r43]) rfl (Nat.le_of_ble_eq_true rfl) dX0_load_42 (fun H locs I => ?_)
      refine lv_goto (tgt := 49) X.1 X.2.1 dX0_load_45 (by decide) ?_
      exact k49 u35 r43 H locs ls _ _ _ h hC I (lv_sub hl [] rfl)
  · replace h := m_ifT c5 h
    refine lv_bipush (v := (-2)) X.1 X.2.1 dX0_load_8 (by decide) ?_
    obtain ⟨he, rfl⟩ := m_e3 h
    obtain ⟨rfl, rfl⟩ := m_e4 he
    exact hret H locs ls 10 _ _ dX0_load_10 hC I
end S_X0_load
theorem uk_X0_load (l : Launch) (n : Nat) (D : va_G) (d : UD) (u : UM) (t : Nat) (p0 : Int32) (r0 : Int32) (ur : UM) (C : UC) (h : uf_X0_load n d u t p0 = some ((r0, ur), C)) : u_M l yX0_load (ws_ yX0_load cX0_load 3 (some .int)) 12 273 C D d u [.ref t, .int p0] (some (.int r0)) ur :=
  u_start (own := RX0) (lvl := [(0, .ref t), (1, .int p0)]) (by decide) rfl (Nat.le_of_ble_eq_true rfl) rfl (fun p e s m args below meth c ls X hr hlk hI hl hA I hC => uw_X0_load X hA ⟨Nat.le_refl _, Nat.le_refl _⟩ n u t p0 r0 ur C h (fun H locs ls pc cells slots hd hC I => u_iret X I hr hlk (u_leftE hC) hd) _ _ ls _ _ hC I hl)

/-! SwapPress.cleared(II)I -/
def uf_X0_cleared_L55 (n : Nat) (d : UD) (v2 : Int32) (v3 : Nat) (v4 : Nat) (v5 : Int32) (v6 : Int32) (u : UM) : Option (((Int32 × Int32 × UM) ⊕ (Int32 × Int32 × UM)) × UC) :=
  m_b (u_cl u 7 v4) (fun f34 => u_bc u.2 (uf_X7_finds n d u v4) (fun r37 u38 => m_if ((r37 : Int32) = 0) (some (.inr ((v5, v6, u38)), (0, 0))) (m_b (u_cl u38 7 v4) (fun f43 => u_bc u38.2 (uf_X7_takes n d u38 v4) (fun r46 u47 => some (.inl ((v5 + r46, v6 + 1, u47)), (0, 0)))))))
def uf_X0_cleared_L55l (n : Nat) (d : UD) (v2 : Int32) (v3 : Nat) (v4 : Nat) (x : (Int32 × Int32 × UM)) : Option ((Int32 × Int32 × UM) × UC) := u_lp (fun (x : (Int32 × Int32 × UM)) => uf_X0_cleared_L55 n d v2 v3 v4 x.1 x.2.1 x.2.2) n x
def uf_X0_cleared_J20 (n : Nat) (d : UD) (u : UM) : Option ((Int32 × UM) × UC) :=
  some (((-2), u), (0, 0))
def uf_X0_cleared_J102 (n : Nat) (d : UD) (u : UM) (t0 : Int32) : Option ((Int32 × UM) × UC) :=
  some ((t0, u), (0, 0))
def uf_X0_cleared (n : Nat) (d : UD) (u : UM) (t : Nat) (p0 : Int32) (p1 : Int32) : Option ((Int32 × UM) × UC) :=
  m_b (u_cl u 1 t) (fun f1 => m_b (uf_X0_isKind n d u t p0) (fun r4 => m_if ((r4 : Int32) = 0) (uf_X0_cleared_J20 n d u ) (m_b (uf_X0_in n d u ((p1 : Int32).toInt64) 0 2) (fun r7 => m_if ((r7 : Int32) = 0) (uf_X0_cleared_J20 n d u ) (m_b (u_fr d u 1 0 t) (fun b9 => m_b (u_cl u 2 b9) (fun f11 => u_bc u.2 (uf_X1_flows n d u b9 p0) (fun r14 u15 => u_ac (1, 4) (m_b (some (u_nw u15 (.inr (7, [.int 0, .null, .null, .int 0])))) (fun u20 => m_b (u_fr d u20 1 0 t) (fun b22 => m_b (u_cl u20 2 b22) (fun f24 => m_b (uf_X1_many n d u20 b22) (fun r27 => u_bc u20.2 (uf_X7_init n d u20 u15.2 r27 r14) (fun r29 u30 => u_bl (uf_X0_cleared_L55l n d p1 r14 u15.2 ((0, 0, u30))) (fun y59 => m_if ((p1 : Int32) = 0) (uf_X0_cleared_J102 n d y59.2.2 y59.1) (m_if ((p1 : Int32) = (1 : Int32)) (uf_X0_cleared_J102 n d y59.2.2 y59.2.1) (m_b (uf_X0_above n d y59.2.2 r14) (fun r58 => uf_X0_cleared_J102 n d y59.2.2 r58))))))))))))))))))
theorem uh_X0_cleared : yX0_cleared.cls = RX0 ∧ yX0_cleared.cls ≠ "java/lang/invoke/MethodHandle" ∧ yX0_cleared.cls ≠ "java/lang/invoke/VarHandle" ∧ (parseMethodDescriptor yX0_cleared.desc).map (fun d => d.parameters.length) = some 2 := by decide +kernel
section S_X0_cleared
variable {p : Program} {l : Launch} {e : Env} {R : Room} {s : State} {m : MethodId} {args : Array Value} {below : List Frame} {meth : Method} {c : Code} {Q : State → Prop} {D : va_G} {A : Nat → Prop} {d : UD}
theorem wuf_X0_cleared_L55 (X : u_X RX0 D A d p s m c cX0_cleared 7 args) (hA : ∀ q, s.heap.size ≤ q → A q) (hR : 12 ≤ R.frames ∧ 273 ≤ R.locals) (n : Nat) (v2 : Int32) (v3 : Nat) (v4 : Nat) (x : (Int32 × Int32 × UM)) (z : (Int32 × Int32 × UM)) (C cr : UC) (hz : uf_X0_cleared_L55l n d v2 v3 v4 x = some (z, C)) (hE : (fun (z : (Int32 × Int32 × UM)) (C : UC) => ∀ (H : Heap) (locs : List Loc) (ls : Array Slot) (cells slots : Nat), u_left R cells slots C → u_I D A s.heap z.2.2 H locs cells → lv_has ls 7 [(2, .int v2), (3, .ref v3), (5, .int z.1), (6, .int z.2.1)] → W p l e R s m args below meth c H locs cells slots Q (F0 m 79 ls [])) z cr) : (fun (x : (Int32 × Int32 × UM)) (C : UC) => ∀ (H : Heap) (locs : List Loc) (ls : Array Slot) (cells slots : Nat), u_left R cells slots C → u_I D A s.heap x.2.2 H locs cells → lv_has ls 7 [(2, .int v2), (3, .ref v3), (4, .ref v4), (5, .int x.1), (6, .int x.2.1)] → W p l e R s m args below meth c H locs cells slots Q (F0 m 55 ls [])) x (u_add C cr) := by
  refine u_lpW (G := fun (x : (Int32 × Int32 × UM)) (C : UC) => ∀ (H : Heap) (locs : List Loc) (ls : Array Slot) (cells slots : Nat), u_left R cells slots C → u_I D A s.heap x.2.2 H locs cells → lv_has ls 7 [(2, .int v2), (3, .ref v3), (4, .ref v4), (5, .int x.1), (6, .int x.2.1)] → W p l e R s m args below meth c H locs cells slots Q (F0 m 55 ls [])) (E := fun (z : (Int32 × Int32 × UM)) (C : UC) => ∀ (H : Heap) (locs : List Loc) (ls : Array Slot) (cells slots : Nat), u_left R cells slots C → u_I D A s.heap z.2.2 H locs cells → lv_has ls 7 [(2, .int v2), (3, .ref v3), (5, .int z.1), (6, .int z.2.1)] → W p l e R s m args below meth c H locs cells slots Q (F0 m 79 ls [])) ?_ n x z C cr hz hE
  rintro ⟨v5, v6, u⟩ r C cr h hr H locs ls cells slots hC I hl
  replace h : uf_X0_cleared_L55 n d v2 v3 v4 v5 v6 u = some (r, C) := h
  unfold uf_X0_cleared_L55 at h
  refine lv_aload X.1 X.2.1 dX0_cleared_55 (lv_at hl 2 rfl) ?_
  obtain ⟨f34, e35, h⟩ := m_bS h
  obtain ⟨r37, u38, C39, C40, e36, z41, h, hq⟩ := u_bcS h
  rw [hq] at hC
  refine u_callV X hl.1 I hA (As := []) (rest := []) (uk_X7_finds l n D d u v4 _ _ _ e36) z41 (u_clS e35) (C := RX7) (T := TX7) (N := 4) rfl 0 q980 q981 q982 q124 q983 uh_X7_finds rfl rfl ⟨Nat.le_trans (Nat.le_of_ble_eq_true rfl) hR.1, Nat.le_trans (Nat.le_of_ble_eq_true rfl) hR.2⟩ hC (stk := [.int r37]) rfl (Nat.le_of_ble_eq_true rfl) dX0_cleared_57 (fun H locs cells slots hC I => ?_)
  refine lv_if_eq (tgt := 79) X.1 X.2.1 dX0_cleared_60 (by decide) (fun c42 => ?_) (fun c42 => ?_)
  · replace h := m_ifT c42 h
    obtain ⟨rfl, rfl⟩ := m_e3 h
    exact hr H locs ls _ _ (u_left0 hC) I (lv_sub hl [0, 1, 3, 4] rfl)
  · replace h := m_ifF c42 h
    refine lv_iload X.1 X.2.1 dX0_cleared_63 (lv_at hl 3 rfl) ?_
    refine lv_aload X.1 X.2.1 dX0_cleared_65 (lv_at hl 2 rfl) ?_
    obtain ⟨f43, e44, h⟩ := m_bS h
    obtain ⟨r46, u47, C48, C49, e45, z50, h, hq⟩ := u_bcS h
    rw [hq] at hC
    refine u_callV X hl.1 I hA (As := []) (rest := [.int v5]) (uk_X7_takes l n D d u38 v4 _ _ _ e45) z50 (u_clS e44) (C := RX7) (T := TX7) (N := 4) rfl 0 q1236 q1237 q1238 q124 q1239 uh_X7_takes rfl rfl ⟨Nat.le_trans (Nat.le_of_ble_eq_true rfl) hR.1, Nat.le_trans (Nat.le_of_ble_eq_true rfl) hR.2⟩ hC (stk := [.int r46, .int v5]) rfl (Nat.le_of_ble_eq_true rfl) dX0_cleared_67 (fun H locs cells slots hC I => ?_)
    refine lv_iadd X.1 X.2.1 dX0_cleared_70 ?_
    refine lv_istore (lv' := [(5, .int (v5 + r46)), (2, .int v2), (3, .ref v3), (4, .ref v4), (6, .int v6)]) X.1 X.2.1 dX0_cleared_71 hl (by decide) rfl (fun ls hl => ?_)
    refine lv_iinc (v := v6 + 1) (lv' := [(6, .int (v6 + 1)), (5, .int (v5 + r46)), (2, .int v2), (3, .ref v3), (4, .ref v4)]) X.1 X.2.1 dX0_cleared_73 hl (k := 4) rfl rfl (by decide) rfl (fun ls hl => ?_)
    refine lv_goto (tgt := 55) X.1 X.2.1 dX0_cleared_76 (by decide) ?_
    obtain ⟨rfl, rfl⟩ := m_e3 h
    exact hr H locs ls _ _ (u_left0 hC) I (lv_sub hl [2, 3, 4, 1, 0] rfl)
theorem uw_X0_cleared (X : u_X RX0 D A d p s m c cX0_cleared 7 args) (hA : ∀ q, s.heap.size ≤ q → A q) (hR : 12 ≤ R.frames ∧ 273 ≤ R.locals) (n : Nat) (u : UM) (t : Nat) (p0 : Int32) (p1 : Int32) (r0 : Int32) (ur : UM) (C : UC) (h : uf_X0_cleared n d u t p0 p1 = some ((r0, ur), C)) (hret : ∀ (H : Heap) (locs : List Loc) (ls : Array Slot) (pc cells slots : Nat), decode cX0_cleared pc = .ok (.ireturn, 1) → u_left R cells slots (u_add (0, 0) (0, 0)) → u_I D A s.heap ur H locs cells → W p l e R s m args below meth c H locs cells slots Q (F0 m pc ls [.int r0])) : ∀ (H : Heap) (locs : List Loc) (ls : Array Slot) (cells slots : Nat), u_left R cells slots (u_add C (0, 0)) → u_I D A s.heap u H locs cells → lv_has ls 7 [(0, .ref t), (1, .int p0), (2, .int p1)] → W p l e R s m args below meth c H locs cells slots Q (F0 m 0 ls []) := by
  have k20 : ∀ (u : UM) (H : Heap) (locs : List Loc) (ls : Array Slot) (cells slots : Nat) (C : UC), uf_X0_cleared_J20 n d u = some ((r0, ur), C) → u_left R cells slots (u_add C (0, 0)) → u_I D A s.heap u H locs cells → lv_has ls 7 [] → W p l e R s m args below meth c H locs cells slots Q (F0 m 20 ls []) := by
    intro u H locs ls cells slots C h hC I hl
    unfold uf_X0_cleared_J20 at h
    refine lv_bipush (v := (-2)) X.1 X.2.1 dX0_cleared_20 (by decide) ?_
    obtain ⟨he, rfl⟩ := m_e3 h
    obtain ⟨rfl, rfl⟩ := m_e4 he
    exact hret H locs ls 22 _ _ dX0_cleared_22 hC I
  have k102 : ∀ (u : UM) (t0 : Int32) (H : Heap) (locs : List Loc) (ls : Array Slot) (cells slots : Nat) (C : UC), uf_X0_cleared_J102 n d u t0 = some ((r0, ur), C) → u_left R cells slots (u_add C (0, 0)) → u_I D A s.heap u H locs cells → lv_has ls 7 [] → W p l e R s m args below meth c H locs cells slots Q (F0 m 102 ls [.int t0]) := by
    intro u t0 H locs ls cells slots C h hC I hl
    unfold uf_X0_cleared_J102 at h
    obtain ⟨he, rfl⟩ := m_e3 h
    obtain ⟨rfl, rfl⟩ := m_e4 he
    exact hret H locs ls 102 _ _ dX0_cleared_102 hC I
  intro H locs ls cells slots hC I hl
  unfold uf_X0_cleared at h
  refine lv_aload_n X.1 X.2.1 dX0_cleared_0 rfl (lv_at hl 0 rfl) ?_
  refine lv_iload_n X.1 X.2.1 dX0_cleared_1 rfl (lv_at hl 1 rfl) ?_
  obtain ⟨f1, e2, h⟩ := m_bS h
  obtain ⟨r4, e3, h⟩ := m_bS h
  refine u_callVp X hl.1 I hA (As := [.int p0]) (rest := []) (uk_X0_isKind l n D d u t p0 _ e3) (u_clS e2) (C := RX0) (T := TX0) (N := 9) rfl 1 q875 q877 qs20 q101 q878 uh_X0_isKind rfl rfl ⟨Nat.le_trans (Nat.le_of_ble_eq_true rfl) hR.1, Nat.le_trans (Nat.le_of_ble_eq_true rfl) hR.2⟩ (u_leftLe hC) (stk := [.int r4]) rfl (Nat.le_of_ble_eq_true rfl) dX0_cleared_2 (fun H locs I => ?_)
  refine lv_if_eq (tgt := 20) X.1 X.2.1 dX0_cleared_5 (by decide) (fun c5 => ?_) (fun c5 => ?_)
  · replace h := m_ifT c5 h
    exact k20 u H locs ls _ _ _ h hC I (lv_sub hl [] rfl)
  · replace h := m_ifF c5 h
    refine lv_iload_n X.1 X.2.1 dX0_cleared_8 rfl (lv_at hl 2 rfl) ?_
    refine lv_i2l X.1 X.2.1 dX0_cleared_9 rfl ?_
    refine lv_lconst (v := 0) X.1 X.2.1 dX0_cleared_10 (by decide) ?_
    refine lv_ldc2 (v := 2) X.1 X.2.1 X.2.2.2.1 (X.2.2.1 _ q1194) dX0_cleared_11 ?_
    obtain ⟨r7, e6, h⟩ := m_bS h
    refine u_callSp X hl.1 I hA (As := [.long ((p1 : Int32).toInt64), .long 0, .long 2]) (rest := []) (uk_X0_in l n D d u ((p1 : Int32).toInt64) 0 2 _ e6) 3 q279 q280 q101 q281 uh_X0_in.2 rfl rfl ⟨Nat.le_trans (Nat.le_of_ble_eq_true rfl) hR.1, Nat.le_trans (Nat.le_of_ble_eq_true rfl) hR.2⟩ (u_leftLe hC) (stk := [.int r7]) rfl (Nat.le_of_ble_eq_true rfl) dX0_cleared_14 (fun H locs I => ?_)
    refine lv_if_ne (tgt := 23) X.1 X.2.1 dX0_cleared_17 (by decide) (fun c8 => ?_) (fun c8 => ?_)
    · replace h := m_ifF c8 h
      refine lv_aload_n X.1 X.2.1 dX0_cleared_23 rfl (lv_at hl 0 rfl) ?_
      obtain ⟨b9, e10, h⟩ := m_bS h
      refine u_Gr X I e10 (C := RX0) (T := TX0) (N := 9) (ref := "SwapPress") in_X0 rfl (by decide) rfl rfl q235 (fun _ h => h) dX0_cleared_24 ?_
      refine lv_iload_n X.1 X.2.1 dX0_cleared_27 rfl (lv_at hl 1 rfl) ?_
      obtain ⟨f11, e12, h⟩ := m_bS h
      obtain ⟨r14, u15, C16, C17, e13, z18, h, hq⟩ := u_bcS h
      rw [hq] at hC
      refine u_callV X hl.1 I hA (As := [.int p0]) (rest := []) (uk_X1_flows l n D d u b9 p0 _ _ _ e13) z18 (u_clS e12) (C := RX1) (T := TX1) (N := 5) rfl 1 q951 q952 q953 q102 q954 uh_X1_flows rfl rfl ⟨Nat.le_trans (Nat.le_of_ble_eq_true rfl) hR.1, Nat.le_trans (Nat.le_of_ble_eq_true rfl) hR.2⟩ hC (stk := [.ref r14]) rfl (Nat.le_of_ble_eq_true rfl) dX0_cleared_28 (fun H locs cells slots hC I => ?_)
      refine lv_astore_n (lv' := [(3, .ref r14), (0, .ref t), (1, .int p0), (2, .int p1)]) X.1 X.2.1 dX0_cleared_31 rfl hl (by decide) rfl (fun ls hl => ?_)
      obtain ⟨C19, h, hq⟩ := u_acS h
      rw [hq] at hC
      obtain ⟨u20, e21, h⟩ := m_bS h
      refine u_NO X I hA 7 (C := RX7) (T := TX7) (N := 4) in_X7 tyX7 tyX7_ok q949 q950 q124 rfl (fs := [.int 0, .null, .null, .int 0]) e21 (fun j hj => by match j, hj with | 0, _ => rfl | 1, _ => rfl | 2, _ => rfl | 3, _ => rfl) hC dX0_cleared_32 (fun H cells slots hC I => ?_)
      refine lv_dup X.1 X.2.1 dX0_cleared_35 rfl ?_
      refine lv_aload_n X.1 X.2.1 dX0_cleared_36 rfl (lv_at hl 1 rfl) ?_
      obtain ⟨b22, e23, h⟩ := m_bS h
      refine u_Gr X I e23 (C := RX0) (T := TX0) (N := 9) (ref := "SwapPress") in_X0 rfl (by decide) rfl rfl q235 (fun _ h => h) dX0_cleared_37 ?_
      obtain ⟨f24, e25, h⟩ := m_bS h
      obtain ⟨r27, e26, h⟩ := m_bS h
      refine u_callVp X hl.1 I hA (As := []) (rest := [.ref u15.2, .ref u15.2]) (uk_X1_many l n D d u20 b22 _ e26) (u_clS e25) (C := RX1) (T := TX1) (N := 5) rfl 0 q870 q871 q872 q102 q873 uh_X1_many rfl rfl ⟨Nat.le_trans (Nat.le_of_ble_eq_true rfl) hR.1, Nat.le_trans (Nat.le_of_ble_eq_true rfl) hR.2⟩ (u_leftLe hC) (stk := [.int r27, .ref u15.2, .ref u15.2]) rfl (Nat.le_of_ble_eq_true rfl) dX0_cleared_40 (fun H locs I => ?_)
      refine lv_aload_n X.1 X.2.1 dX0_cleared_43 rfl (lv_at hl 0 rfl) ?_
      obtain ⟨r29, u30, C31, C32, e28, z33, h, hq⟩ := u_bcS h
      rw [hq] at hC
      refine u_callI X hl.1 I hA (As := [.int r27, .ref r14]) (rest := [.ref u15.2]) (uk_X7_init l n D d u20 u15.2 r27 r14 _ _ e28) z33 2 q961 q962 q124 q963 rfl uh_X7_init.2 rfl rfl ⟨Nat.le_trans (Nat.le_of_ble_eq_true rfl) hR.1, Nat.le_trans (Nat.le_of_ble_eq_true rfl) hR.2⟩ hC (Nat.le_of_ble_eq_true rfl) dX0_cleared_44 (fun H locs cells slots hC I => ?_)
      refine lv_astore (lv' := [(4, .ref u15.2), (3, .ref r14), (0, .ref t), (1, .int p0), (2, .int p1)]) X.1 X.2.1 dX0_cleared_47 hl (by decide) rfl (fun ls hl => ?_)
      refine lv_iconst (v := 0) X.1 X.2.1 dX0_cleared_49 (by decide) ?_
      refine lv_istore (lv' := [(5, .int 0), (4, .ref u15.2), (3, .ref r14), (0, .ref t), (1, .int p0), (2, .int p1)]) X.1 X.2.1 dX0_cleared_50 hl (by decide) rfl (fun ls hl => ?_)
      refine lv_iconst (v := 0) X.1 X.2.1 dX0_cleared_52 (by decide) ?_
      refine lv_istore (lv' := [(6, .int 0), (5, .int 0), (4, .ref u15.2), (3, .ref r14), (0, .ref t), (1, .int p0), (2, .int p1)]) X.1 X.2.1 dX0_cleared_53 hl (by decide) rfl (fun ls hl => ?_)
      obtain ⟨⟨z52, z53, u54⟩, C60, C61, e51, h, hq⟩ := u_blS h
      rw [hq] at hC
      refine wuf_X0_cleared_L55 X hA hR n p1 r14 u15.2 _ _ _ _ e51 (fun H locs ls cells slots hC I hl => ?_) H locs ls _ _ (u_left2 hC) I (lv_sub hl [6, 3, 2, 1, 0] rfl)
      refine lv_iload_n X.1 X.2.1 dX0_cleared_79 rfl (lv_at hl 0 rfl) ?_
      refine lv_if_ne (tgt := 88) X.1 X.2.1 dX0_cleared_80 (by decide) (fun c55 => ?_) (fun c55 => ?_)
      · replace h := m_ifF c55 h
        refine lv_iload_n X.1 X.2.1 dX0_cleared_88 rfl (lv_at hl 0 rfl) ?_
        refine lv_iconst (v := 1) X.1 X.2.1 dX0_cleared_89 (by decide) ?_
        refine lv_icmp_ne (tgt := 98) X.1 X.2.1 dX0_cleared_90 (by decide) (fun c56 => ?_) (fun c56 => ?_)
        · replace h := m_ifF c56 h
          refine lv_aload_n X.1 X.2.1 dX0_cleared_98 rfl (lv_at hl 1 rfl) ?_
          obtain ⟨r58, e57, h⟩ := m_bS h
          refine u_callSp X hl.1 I hA (As := [.ref r14]) (rest := []) (uk_X0_above l n D d u54 r14 _ e57) 1 q1150 q1151 q101 q1152 uh_X0_above.2 rfl rfl ⟨Nat.le_trans (Nat.le_of_ble_eq_true rfl) hR.1, Nat.le_trans (Nat.le_of_ble_eq_true rfl) hR.2⟩ (u_leftLe hC) (stk := [.int r58]) rfl (Nat.le_of_ble_eq_true rfl) dX0_cleared_99 (fun H locs I => ?_)
          exact k102 u54 r58 H locs ls _ _ _ h hC I (lv_sub hl [] rfl)
        · replace h := m_ifT c56 h
          refine lv_iload X.1 X.2.1 dX0_cleared_93 (lv_at hl 3 rfl) ?_
          refine lv_goto (tgt := 102) X.1 X.2.1 dX0_cleared_95 (by decide) ?_
          exact k102 u54 z53 H locs ls _ _ _ h hC I (lv_sub hl [] rfl)
      · replace h := m_ifT c55 h
        refine lv_iload X.1 X.2.1 dX0_cleared_83 (lv_at hl 2 rfl) ?_
        refine lv_goto (tgt := 102) X.1 X.2.1 dX0_cleared_85 (by decide) ?_
        exact k102 u54 z52 H locs ls _ _ _ h hC I (lv_sub hl [] rfl)
    · replace h := m_ifT c8 h
      exact k20 u H locs ls _ _ _ h hC I (lv_sub hl [] rfl)
end S_X0_cleared
theorem uk_X0_cleared (l : Launch) (n : Nat) (D : va_G) (d : UD) (u : UM) (t : Nat) (p0 : Int32) (p1 : Int32) (r0 : Int32) (ur : UM) (C : UC) (h : uf_X0_cleared n d u t p0 p1 = some ((r0, ur), C)) : u_M l yX0_cleared (ws_ yX0_cleared cX0_cleared 7 (some .int)) 12 273 C D d u [.ref t, .int p0, .int p1] (some (.int r0)) ur :=
  u_start (own := RX0) (lvl := [(0, .ref t), (1, .int p0), (2, .int p1)]) (by decide) rfl (Nat.le_of_ble_eq_true rfl) rfl (fun p e s m args below meth c ls X hr hlk hI hl hA I hC => uw_X0_cleared X hA ⟨Nat.le_refl _, Nat.le_refl _⟩ n u t p0 p1 r0 ur C h (fun H locs ls pc cells slots hd hC I => u_iret X I hr hlk (u_leftE hC) hd) _ _ ls _ _ hC I hl)

/-! SwapPress.taken(II)[I -/
def uf_X0_taken_L29 (n : Nat) (d : UD) (v2 : Int32) (v3 : Nat) (v4 : Nat) (v5 : Int32) (u : UM) : Option (((Int32 × UM) ⊕ UM) × UC) :=
  m_if ((v2 : Int32) ≤ (v5 : Int32)) (some (.inr u, (0, 0))) (m_b (u_cl u 7 v4) (fun f27 => u_bc u.2 (uf_X7_finds n d u v4) (fun r30 u31 => m_if ((r30 : Int32) = 0) (some (.inr u31, (0, 0))) (m_b (u_cl u31 7 v4) (fun f36 => u_bc u31.2 (uf_X7_takes n d u31 v4) (fun r39 u40 => some (.inl ((v5 + 1, u40)), (0, 0))))))))
def uf_X0_taken_L29l (n : Nat) (d : UD) (v2 : Int32) (v3 : Nat) (v4 : Nat) (x : (Int32 × UM)) : Option (UM × UC) := u_lp (fun (x : (Int32 × UM)) => uf_X0_taken_L29 n d v2 v3 v4 x.1 x.2) n x
def uf_X0_taken (n : Nat) (d : UD) (u : UM) (t : Nat) (p0 : Int32) (p1 : Int32) : Option ((Nat × UM) × UC) :=
  m_b (u_fr d u 1 0 t) (fun b1 => m_b (u_cl u 2 b1) (fun f3 => u_bc u.2 (uf_X1_flows n d u b1 p0) (fun r6 u7 => u_ac (1, 4) (m_b (some (u_nw u7 (.inr (7, [.int 0, .null, .null, .int 0])))) (fun u12 => m_b (u_fr d u12 1 0 t) (fun b14 => m_b (u_cl u12 2 b14) (fun f16 => m_b (uf_X1_many n d u12 b14) (fun r19 => u_bc u12.2 (uf_X7_init n d u12 u7.2 r19 r6) (fun r21 u22 => u_bl (uf_X0_taken_L29l n d p1 r6 u7.2 ((0, u22))) (fun u45 => some ((r6, u45), (0, 0))))))))))))
theorem uh_X0_taken : yX0_taken.cls = RX0 ∧ yX0_taken.cls ≠ "java/lang/invoke/MethodHandle" ∧ yX0_taken.cls ≠ "java/lang/invoke/VarHandle" ∧ (parseMethodDescriptor yX0_taken.desc).map (fun d => d.parameters.length) = some 2 := by decide +kernel
section S_X0_taken
variable {p : Program} {l : Launch} {e : Env} {R : Room} {s : State} {m : MethodId} {args : Array Value} {below : List Frame} {meth : Method} {c : Code} {Q : State → Prop} {D : va_G} {A : Nat → Prop} {d : UD}
theorem wuf_X0_taken_L29 (X : u_X RX0 D A d p s m c cX0_taken 6 args) (hA : ∀ q, s.heap.size ≤ q → A q) (hR : 12 ≤ R.frames ∧ 273 ≤ R.locals) (n : Nat) (v2 : Int32) (v3 : Nat) (v4 : Nat) (x : (Int32 × UM)) (z : UM) (C cr : UC) (hz : uf_X0_taken_L29l n d v2 v3 v4 x = some (z, C)) (hE : (fun (z : UM) (C : UC) => ∀ (H : Heap) (locs : List Loc) (ls : Array Slot) (cells slots : Nat), u_left R cells slots C → u_I D A s.heap z H locs cells → lv_has ls 6 [(3, .ref v3)] → W p l e R s m args below meth c H locs cells slots Q (F0 m 55 ls [])) z cr) : (fun (x : (Int32 × UM)) (C : UC) => ∀ (H : Heap) (locs : List Loc) (ls : Array Slot) (cells slots : Nat), u_left R cells slots C → u_I D A s.heap x.2 H locs cells → lv_has ls 6 [(2, .int v2), (3, .ref v3), (4, .ref v4), (5, .int x.1)] → W p l e R s m args below meth c H locs cells slots Q (F0 m 29 ls [])) x (u_add C cr) := by
  refine u_lpW (G := fun (x : (Int32 × UM)) (C : UC) => ∀ (H : Heap) (locs : List Loc) (ls : Array Slot) (cells slots : Nat), u_left R cells slots C → u_I D A s.heap x.2 H locs cells → lv_has ls 6 [(2, .int v2), (3, .ref v3), (4, .ref v4), (5, .int x.1)] → W p l e R s m args below meth c H locs cells slots Q (F0 m 29 ls [])) (E := fun (z : UM) (C : UC) => ∀ (H : Heap) (locs : List Loc) (ls : Array Slot) (cells slots : Nat), u_left R cells slots C → u_I D A s.heap z H locs cells → lv_has ls 6 [(3, .ref v3)] → W p l e R s m args below meth c H locs cells slots Q (F0 m 55 ls [])) ?_ n x z C cr hz hE
  rintro ⟨v5, u⟩ r C cr h hr H locs ls cells slots hC I hl
  replace h : uf_X0_taken_L29 n d v2 v3 v4 v5 u = some (r, C) := h
  unfold uf_X0_taken_L29 at h
  refine lv_iload X.1 X.2.1 dX0_taken_29 (lv_at hl 3 rfl) ?_
  refine lv_iload_n X.1 X.2.1 dX0_taken_31 rfl (lv_at hl 0 rfl) ?_
  refine lv_icmp_ge (tgt := 55) X.1 X.2.1 dX0_taken_32 (by decide) (fun c26 => ?_) (fun c26 => ?_)
  · replace h := m_ifT c26 h
    obtain ⟨rfl, rfl⟩ := m_e3 h
    exact hr H locs ls _ _ (u_left0 hC) I (lv_sub hl [1] rfl)
  · replace h := m_ifF c26 h
    refine lv_aload X.1 X.2.1 dX0_taken_35 (lv_at hl 2 rfl) ?_
    obtain ⟨f27, e28, h⟩ := m_bS h
    obtain ⟨r30, u31, C32, C33, e29, z34, h, hq⟩ := u_bcS h
    rw [hq] at hC
    refine u_callV X hl.1 I hA (As := []) (rest := []) (uk_X7_finds l n D d u v4 _ _ _ e29) z34 (u_clS e28) (C := RX7) (T := TX7) (N := 4) rfl 0 q980 q981 q982 q124 q983 uh_X7_finds rfl rfl ⟨Nat.le_trans (Nat.le_of_ble_eq_true rfl) hR.1, Nat.le_trans (Nat.le_of_ble_eq_true rfl) hR.2⟩ hC (stk := [.int r30]) rfl (Nat.le_of_ble_eq_true rfl) dX0_taken_37 (fun H locs cells slots hC I => ?_)
    refine lv_if_eq (tgt := 55) X.1 X.2.1 dX0_taken_40 (by decide) (fun c35 => ?_) (fun c35 => ?_)
    · replace h := m_ifT c35 h
      obtain ⟨rfl, rfl⟩ := m_e3 h
      exact hr H locs ls _ _ (u_left0 hC) I (lv_sub hl [1] rfl)
    · replace h := m_ifF c35 h
      refine lv_aload X.1 X.2.1 dX0_taken_43 (lv_at hl 2 rfl) ?_
      obtain ⟨f36, e37, h⟩ := m_bS h
      obtain ⟨r39, u40, C41, C42, e38, z43, h, hq⟩ := u_bcS h
      rw [hq] at hC
      refine u_callV X hl.1 I hA (As := []) (rest := []) (uk_X7_takes l n D d u31 v4 _ _ _ e38) z43 (u_clS e37) (C := RX7) (T := TX7) (N := 4) rfl 0 q1236 q1237 q1238 q124 q1239 uh_X7_takes rfl rfl ⟨Nat.le_trans (Nat.le_of_ble_eq_true rfl) hR.1, Nat.le_trans (Nat.le_of_ble_eq_true rfl) hR.2⟩ hC (stk := [.int r39]) rfl (Nat.le_of_ble_eq_true rfl) dX0_taken_45 (fun H locs cells slots hC I => ?_)
      refine lv_pop X.1 X.2.1 dX0_taken_48 rfl ?_
      refine lv_iinc (v := v5 + 1) (lv' := [(5, .int (v5 + 1)), (2, .int v2), (3, .ref v3), (4, .ref v4)]) X.1 X.2.1 dX0_taken_49 hl (k := 3) rfl rfl (by decide) rfl (fun ls hl => ?_)
      refine lv_goto (tgt := 29) X.1 X.2.1 dX0_taken_52 (by decide) ?_
      obtain ⟨rfl, rfl⟩ := m_e3 h
      exact hr H locs ls _ _ (u_left0 hC) I (lv_sub hl [1, 2, 3, 0] rfl)
theorem uw_X0_taken (X : u_X RX0 D A d p s m c cX0_taken 6 args) (hA : ∀ q, s.heap.size ≤ q → A q) (hR : 12 ≤ R.frames ∧ 273 ≤ R.locals) (n : Nat) (u : UM) (t : Nat) (p0 : Int32) (p1 : Int32) (r0 : Nat) (ur : UM) (C : UC) (h : uf_X0_taken n d u t p0 p1 = some ((r0, ur), C)) (hret : ∀ (H : Heap) (locs : List Loc) (ls : Array Slot) (pc cells slots : Nat), decode cX0_taken pc = .ok (.areturn, 1) → u_left R cells slots (u_add (0, 0) (0, 0)) → u_I D A s.heap ur H locs cells → W p l e R s m args below meth c H locs cells slots Q (F0 m pc ls [.ref r0])) : ∀ (H : Heap) (locs : List Loc) (ls : Array Slot) (cells slots : Nat), u_left R cells slots (u_add C (0, 0)) → u_I D A s.heap u H locs cells → lv_has ls 6 [(0, .ref t), (1, .int p0), (2, .int p1)] → W p l e R s m args below meth c H locs cells slots Q (F0 m 0 ls []) := by
  intro H locs ls cells slots hC I hl
  unfold uf_X0_taken at h
  refine lv_aload_n X.1 X.2.1 dX0_taken_0 rfl (lv_at hl 0 rfl) ?_
  obtain ⟨b1, e2, h⟩ := m_bS h
  refine u_Gr X I e2 (C := RX0) (T := TX0) (N := 9) (ref := "SwapPress") in_X0 rfl (by decide) rfl rfl q235 (fun _ h => h) dX0_taken_1 ?_
  refine lv_iload_n X.1 X.2.1 dX0_taken_4 rfl (lv_at hl 1 rfl) ?_
  obtain ⟨f3, e4, h⟩ := m_bS h
  obtain ⟨r6, u7, C8, C9, e5, z10, h, hq⟩ := u_bcS h
  rw [hq] at hC
  refine u_callV X hl.1 I hA (As := [.int p0]) (rest := []) (uk_X1_flows l n D d u b1 p0 _ _ _ e5) z10 (u_clS e4) (C := RX1) (T := TX1) (N := 5) rfl 1 q951 q952 q953 q102 q954 uh_X1_flows rfl rfl ⟨Nat.le_trans (Nat.le_of_ble_eq_true rfl) hR.1, Nat.le_trans (Nat.le_of_ble_eq_true rfl) hR.2⟩ hC (stk := [.ref r6]) rfl (Nat.le_of_ble_eq_true rfl) dX0_taken_5 (fun H locs cells slots hC I => ?_)
  refine lv_astore_n (lv' := [(3, .ref r6), (0, .ref t), (1, .int p0), (2, .int p1)]) X.1 X.2.1 dX0_taken_8 rfl hl (by decide) rfl (fun ls hl => ?_)
  obtain ⟨C11, h, hq⟩ := u_acS h
  rw [hq] at hC
  obtain ⟨u12, e13, h⟩ := m_bS h
  refine u_NO X I hA 7 (C := RX7) (T := TX7) (N := 4) in_X7 tyX7 tyX7_ok q949 q950 q124 rfl (fs := [.int 0, .null, .null, .int 0]) e13 (fun j hj => by match j, hj with | 0, _ => rfl | 1, _ => rfl | 2, _ => rfl | 3, _ => rfl) hC dX0_taken_9 (fun H cells slots hC I => ?_)
  refine lv_dup X.1 X.2.1 dX0_taken_12 rfl ?_
  refine lv_aload_n X.1 X.2.1 dX0_taken_13 rfl (lv_at hl 1 rfl) ?_
  obtain ⟨b14, e15, h⟩ := m_bS h
  refine u_Gr X I e15 (C := RX0) (T := TX0) (N := 9) (ref := "SwapPress") in_X0 rfl (by decide) rfl rfl q235 (fun _ h => h) dX0_taken_14 ?_
  obtain ⟨f16, e17, h⟩ := m_bS h
  obtain ⟨r19, e18, h⟩ := m_bS h
  refine u_callVp X hl.1 I hA (As := []) (rest := [.ref u7.2, .ref u7.2]) (uk_X1_many l n D d u12 b14 _ e18) (u_clS e17) (C := RX1) (T := TX1) (N := 5) rfl 0 q870 q871 q872 q102 q873 uh_X1_many rfl rfl ⟨Nat.le_trans (Nat.le_of_ble_eq_true rfl) hR.1, Nat.le_trans (Nat.le_of_ble_eq_true rfl) hR.2⟩ (u_leftLe hC) (stk := [.int r19, .ref u7.2, .ref u7.2]) rfl (Nat.le_of_ble_eq_true rfl) dX0_taken_17 (fun H locs I => ?_)
  refine lv_aload_n X.1 X.2.1 dX0_taken_20 rfl (lv_at hl 0 rfl) ?_
  obtain ⟨r21, u22, C23, C24, e20, z25, h, hq⟩ := u_bcS h
  rw [hq] at hC
  refine u_callI X hl.1 I hA (As := [.int r19, .ref r6]) (rest := [.ref u7.2]) (uk_X7_init l n D d u12 u7.2 r19 r6 _ _ e20) z25 2 q961 q962 q124 q963 rfl uh_X7_init.2 rfl rfl ⟨Nat.le_trans (Nat.le_of_ble_eq_true rfl) hR.1, Nat.le_trans (Nat.le_of_ble_eq_true rfl) hR.2⟩ hC (Nat.le_of_ble_eq_true rfl) dX0_taken_21 (fun H locs cells slots hC I => ?_)
  refine lv_astore (lv' := [(4, .ref u7.2), (3, .ref r6), (0, .ref t), (1, .int p0), (2, .int p1)]) X.1 X.2.1 dX0_taken_24 hl (by decide) rfl (fun ls hl => ?_)
  refine lv_iconst (v := 0) X.1 X.2.1 dX0_taken_26 (by decide) ?_
  refine lv_istore (lv' := [(5, .int 0), (4, .ref u7.2), (3, .ref r6), (0, .ref t), (1, .int p0), (2, .int p1)]) X.1 X.2.1 dX0_taken_27 hl (by decide) rfl (fun ls hl => ?_)
  obtain ⟨u45, C46, C47, e44, h, hq⟩ := u_blS h
  rw [hq] at hC
  refine wuf_X0_taken_L29 X hA hR n p1 r6 u7.2 _ _ _ _ e44 (fun H locs ls cells slots hC I hl => ?_) H locs ls _ _ (u_left2 hC) I (lv_sub hl [5, 2, 1, 0] rfl)
  refine lv_aload_n X.1 X.2.1 dX0_taken_55 rfl (lv_at hl 0 rfl) ?_
  obtain ⟨he, rfl⟩ := m_e3 h
  obtain ⟨rfl, rfl⟩ := m_e4 he
  exact hret H locs ls 56 _ _ dX0_taken_56 hC I
end S_X0_taken
theorem uk_X0_taken (l : Launch) (n : Nat) (D : va_G) (d : UD) (u : UM) (t : Nat) (p0 : Int32) (p1 : Int32) (r0 : Nat) (ur : UM) (C : UC) (h : uf_X0_taken n d u t p0 p1 = some ((r0, ur), C)) : u_M l yX0_taken (ws_ yX0_taken cX0_taken 6 (some (.array .int))) 12 273 C D d u [.ref t, .int p0, .int p1] (some (.ref r0)) ur :=
  u_start (own := RX0) (lvl := [(0, .ref t), (1, .int p0), (2, .int p1)]) (by decide) rfl (Nat.le_of_ble_eq_true rfl) rfl (fun p e s m args below meth c ls X hr hlk hI hl hA I hC => uw_X0_taken X hA ⟨Nat.le_refl _, Nat.le_refl _⟩ n u t p0 p1 r0 ur C h (fun H locs ls pc cells slots hd hC I => u_aret (r := some r0) X I hr (Or.inr ⟨_, rfl⟩) hlk (u_leftE hC) hd) _ _ ls _ _ hC I hl)

/-! SwapPress.chain(II)I -/
def uf_X0_chain_J83 (n : Nat) (d : UD) (u : UM) (v0 : Nat) (v2 : Int32) (v3 : Nat) (v4 : Nat) (v5 : Int32) (v6 : Int32) : Option (((Int32 × Int32 × UM) ⊕ (Int32 × UM)) × UC) :=
  some (.inl ((v5, v6 + 1, u)), (0, 0))
def uf_X0_chain_J79 (n : Nat) (d : UD) (u : UM) (v0 : Nat) (v2 : Int32) (v3 : Nat) (v4 : Nat) (v6 : Int32) : Option (((Int32 × Int32 × UM) ⊕ (Int32 × UM)) × UC) :=
  uf_X0_chain_J83 n d u v0 v2 v3 v4 v6 v6
def uf_X0_chain_L40 (n : Nat) (d : UD) (v0 : Nat) (v2 : Int32) (v3 : Nat) (v4 : Nat) (v5 : Int32) (v6 : Int32) (u : UM) : Option (((Int32 × Int32 × UM) ⊕ (Int32 × UM)) × UC) :=
  m_b (u_fr d u 1 0 v0) (fun b19 => m_b (u_cl u 2 b19) (fun f21 => m_b (uf_X1_many n d u b19) (fun r24 => m_if ((r24 : Int32) ≤ (v6 : Int32)) (some (.inr ((v5, u)), (0, 0))) (m_if ((v5 : Int32) = ((-1) : Int32)) (uf_X0_chain_J79 n d u v0 v2 v3 v4 v6) (m_b (u_cl u 1 v0) (fun f27 => u_bc u.2 (uf_X0_longFrom n d u v0 v3 v6 v4) (fun r30 u31 => m_b (u_cl u31 1 v0) (fun f35 => u_bc u31.2 (uf_X0_longFrom n d u31 v0 v3 v5 v4) (fun r38 u39 => m_if ((r30 : Int32) ≤ (r38 : Int32)) (uf_X0_chain_J83 n d u39 v0 v2 v3 v4 v5 v6) (uf_X0_chain_J79 n d u39 v0 v2 v3 v4 v6))))))))))
def uf_X0_chain_L40l (n : Nat) (d : UD) (v0 : Nat) (v2 : Int32) (v3 : Nat) (v4 : Nat) (x : (Int32 × Int32 × UM)) : Option ((Int32 × UM) × UC) := u_lp (fun (x : (Int32 × Int32 × UM)) => uf_X0_chain_L40 n d v0 v2 v3 v4 x.1 x.2.1 x.2.2) n x
def uf_X0_chain_L142 (n : Nat) (d : UD) (v0 : Nat) (v2 : Int32) (v3 : Nat) (v4 : Nat) (v5 : Int32) (v7 : Int32) (u : UM) : Option (((Int32 × Int32 × UM) ⊕ (Int32 × UM)) × UC) :=
  m_if ((v2 : Int32) ≤ (v7 : Int32)) (some (.inr ((v5, u)), (0, 0))) (m_b (u_cl u 1 v0) (fun f51 => m_b (uf_X0_nextOf n d u v0 v3 v5 v4) (fun r54 => some (.inl ((r54, v7 + 1, u)), (0, 0)))))
def uf_X0_chain_L142l (n : Nat) (d : UD) (v0 : Nat) (v2 : Int32) (v3 : Nat) (v4 : Nat) (x : (Int32 × Int32 × UM)) : Option ((Int32 × UM) × UC) := u_lp (fun (x : (Int32 × Int32 × UM)) => uf_X0_chain_L142 n d v0 v2 v3 v4 x.1 x.2.1 x.2.2) n x
def uf_X0_chain_J121 (n : Nat) (d : UD) (u : UM) (v0 : Nat) (v2 : Int32) (v3 : Nat) (v4 : Nat) (v5 : Int32) (t0 : Int32) : Option ((Int32 × UM) × UC) :=
  m_if ((v2 : Int32) = ((-1) : Int32)) (some ((t0, u), (0, 0))) (m_if ((v2 : Int32) < (t0 : Int32)) (u_bl (uf_X0_chain_L142l n d v0 v2 v3 v4 ((v5, 0, u))) (fun y58 => some ((y58.1, y58.2), (0, 0)))) (some (((-1), u), (0, 0))))
def uf_X0_chain_J108 (n : Nat) (d : UD) (u : UM) (v0 : Nat) (v2 : Int32) (v3 : Nat) (v4 : Nat) (v5 : Int32) : Option ((Int32 × UM) × UC) :=
  uf_X0_chain_J121 n d u v0 v2 v3 v4 v5 0
def uf_X0_chain (n : Nat) (d : UD) (u : UM) (t : Nat) (p0 : Int32) (p1 : Int32) : Option ((Int32 × UM) × UC) :=
  m_b (u_cl u 1 t) (fun f1 => m_b (uf_X0_isKind n d u t p0) (fun r4 => m_if ((r4 : Int32) = 0) (some (((-2), u), (0, 0))) (m_if (((-1) : Int32) ≤ (p1 : Int32)) (m_b (u_cl u 1 t) (fun f7 => u_bc u.2 (uf_X0_taken n d u t p0 2147483647) (fun r10 u11 => m_g (u_ln 8) (u_ac (1, (8 : Int32).toNatClampNeg) (m_b (some (u_nw u11 (.inl (d.1 0, (8 : Int32).toNatClampNeg, .inl (fun _ => 0))))) (fun u16 => u_bl (uf_X0_chain_L40l n d t p1 r10 u11.2 (((-1), 0, u16))) (fun y78 => m_if ((y78.1 : Int32) = ((-1) : Int32)) (uf_X0_chain_J108 n d y78.2 t p1 r10 u11.2 y78.1) (m_b (u_cl y78.2 1 t) (fun f61 => u_bc y78.2.2 (uf_X0_longFrom n d y78.2 t r10 y78.1 u11.2) (fun r64 u65 => m_if ((r64 : Int32) = (1 : Int32)) (uf_X0_chain_J108 n d u65 t p1 r10 u11.2 y78.1) (m_b (u_cl u65 1 t) (fun f70 => u_bc u65.2 (uf_X0_longFrom n d u65 t r10 y78.1 u11.2) (fun r73 u74 => uf_X0_chain_J121 n d u74 t p1 r10 u11.2 y78.1 r73))))))))))))) (some (((-3), u), (0, 0))))))
theorem uh_X0_chain : yX0_chain.cls = RX0 ∧ yX0_chain.cls ≠ "java/lang/invoke/MethodHandle" ∧ yX0_chain.cls ≠ "java/lang/invoke/VarHandle" ∧ (parseMethodDescriptor yX0_chain.desc).map (fun d => d.parameters.length) = some 2 := by decide +kernel
section S_X0_chain
variable {p : Program} {l : Launch} {e : Env} {R : Room} {s : State} {m : MethodId} {args : Array Value} {below : List Frame} {meth : Method} {c : Code} {Q : State → Prop} {D : va_G} {A : Nat → Prop} {d : UD}
theorem wuf_X0_chain_L40 (X : u_X RX0 D A d p s m c cX0_chain 8 args) (hA : ∀ q, s.heap.size ≤ q → A q) (hR : 13 ≤ R.frames ∧ 298 ≤ R.locals) (n : Nat) (v0 : Nat) (v2 : Int32) (v3 : Nat) (v4 : Nat) (x : (Int32 × Int32 × UM)) (z : (Int32 × UM)) (C cr : UC) (hz : uf_X0_chain_L40l n d v0 v2 v3 v4 x = some (z, C)) (hE : (fun (z : (Int32 × UM)) (C : UC) => ∀ (H : Heap) (locs : List Loc) (ls : Array Slot) (cells slots : Nat), u_left R cells slots C → u_I D A s.heap z.2 H locs cells → lv_has ls 8 [(0, .ref v0), (2, .int v2), (3, .ref v3), (4, .ref v4), (5, .int z.1)] → W p l e R s m args below meth c H locs cells slots Q (F0 m 89 ls [])) z cr) : (fun (x : (Int32 × Int32 × UM)) (C : UC) => ∀ (H : Heap) (locs : List Loc) (ls : Array Slot) (cells slots : Nat), u_left R cells slots C → u_I D A s.heap x.2.2 H locs cells → lv_has ls 8 [(0, .ref v0), (2, .int v2), (3, .ref v3), (4, .ref v4), (5, .int x.1), (6, .int x.2.1)] → W p l e R s m args below meth c H locs cells slots Q (F0 m 40 ls [])) x (u_add C cr) := by
  refine u_lpW (G := fun (x : (Int32 × Int32 × UM)) (C : UC) => ∀ (H : Heap) (locs : List Loc) (ls : Array Slot) (cells slots : Nat), u_left R cells slots C → u_I D A s.heap x.2.2 H locs cells → lv_has ls 8 [(0, .ref v0), (2, .int v2), (3, .ref v3), (4, .ref v4), (5, .int x.1), (6, .int x.2.1)] → W p l e R s m args below meth c H locs cells slots Q (F0 m 40 ls [])) (E := fun (z : (Int32 × UM)) (C : UC) => ∀ (H : Heap) (locs : List Loc) (ls : Array Slot) (cells slots : Nat), u_left R cells slots C → u_I D A s.heap z.2 H locs cells → lv_has ls 8 [(0, .ref v0), (2, .int v2), (3, .ref v3), (4, .ref v4), (5, .int z.1)] → W p l e R s m args below meth c H locs cells slots Q (F0 m 89 ls [])) ?_ n x z C cr hz hE
  rintro ⟨v5, v6, u⟩ r C cr h hr H locs ls cells slots hC I hl
  replace h : uf_X0_chain_L40 n d v0 v2 v3 v4 v5 v6 u = some (r, C) := h
  have k83 : ∀ (u : UM) (v5 : Int32) (v6 : Int32) (H : Heap) (locs : List Loc) (ls : Array Slot) (cells slots : Nat) (C : UC), uf_X0_chain_J83 n d u v0 v2 v3 v4 v5 v6 = some (r, C) → u_left R cells slots (u_add C cr) → u_I D A s.heap u H locs cells → lv_has ls 8 [(0, .ref v0), (2, .int v2), (3, .ref v3), (4, .ref v4), (5, .int v5), (6, .int v6)] → W p l e R s m args below meth c H locs cells slots Q (F0 m 83 ls []) := by
    intro u v5 v6 H locs ls cells slots C h hC I hl
    unfold uf_X0_chain_J83 at h
    refine lv_iinc (v := v6 + 1) (lv' := [(6, .int (v6 + 1)), (0, .ref v0), (2, .int v2), (3, .ref v3), (4, .ref v4), (5, .int v5)]) X.1 X.2.1 dX0_chain_83 hl (k := 5) rfl rfl (by decide) rfl (fun ls hl => ?_)
    refine lv_goto (tgt := 40) X.1 X.2.1 dX0_chain_86 (by decide) ?_
    obtain ⟨rfl, rfl⟩ := m_e3 h
    exact hr H locs ls _ _ (u_left0 hC) I (lv_sub hl [1, 2, 3, 4, 5, 0] rfl)
  have k79 : ∀ (u : UM) (v6 : Int32) (H : Heap) (locs : List Loc) (ls : Array Slot) (cells slots : Nat) (C : UC), uf_X0_chain_J79 n d u v0 v2 v3 v4 v6 = some (r, C) → u_left R cells slots (u_add C cr) → u_I D A s.heap u H locs cells → lv_has ls 8 [(0, .ref v0), (2, .int v2), (3, .ref v3), (4, .ref v4), (6, .int v6)] → W p l e R s m args below meth c H locs cells slots Q (F0 m 79 ls []) := by
    intro u v6 H locs ls cells slots C h hC I hl
    unfold uf_X0_chain_J79 at h
    refine lv_iload X.1 X.2.1 dX0_chain_79 (lv_at hl 4 rfl) ?_
    refine lv_istore (lv' := [(5, .int v6), (0, .ref v0), (2, .int v2), (3, .ref v3), (4, .ref v4), (6, .int v6)]) X.1 X.2.1 dX0_chain_81 hl (by decide) rfl (fun ls hl => ?_)
    exact k83 u v6 v6 H locs ls _ _ _ h hC I (lv_sub hl [1, 2, 3, 4, 0, 5] rfl)
  unfold uf_X0_chain_L40 at h
  refine lv_iload X.1 X.2.1 dX0_chain_40 (lv_at hl 5 rfl) ?_
  refine lv_aload_n X.1 X.2.1 dX0_chain_42 rfl (lv_at hl 0 rfl) ?_
  obtain ⟨b19, e20, h⟩ := m_bS h
  refine u_Gr X I e20 (C := RX0) (T := TX0) (N := 9) (ref := "SwapPress") in_X0 rfl (by decide) rfl rfl q235 (fun _ h => h) dX0_chain_43 ?_
  obtain ⟨f21, e22, h⟩ := m_bS h
  obtain ⟨r24, e23, h⟩ := m_bS h
  refine u_callVp X hl.1 I hA (As := []) (rest := [.int v6]) (uk_X1_many l n D d u b19 _ e23) (u_clS e22) (C := RX1) (T := TX1) (N := 5) rfl 0 q870 q871 q872 q102 q873 uh_X1_many rfl rfl ⟨Nat.le_trans (Nat.le_of_ble_eq_true rfl) hR.1, Nat.le_trans (Nat.le_of_ble_eq_true rfl) hR.2⟩ (u_leftLe hC) (stk := [.int r24, .int v6]) rfl (Nat.le_of_ble_eq_true rfl) dX0_chain_46 (fun H locs I => ?_)
  refine lv_icmp_ge (tgt := 89) X.1 X.2.1 dX0_chain_49 (by decide) (fun c25 => ?_) (fun c25 => ?_)
  · replace h := m_ifT c25 h
    obtain ⟨rfl, rfl⟩ := m_e3 h
    exact hr H locs ls _ _ (u_left0 hC) I (lv_sub hl [0, 1, 2, 3, 4] rfl)
  · replace h := m_ifF c25 h
    refine lv_iload X.1 X.2.1 dX0_chain_52 (lv_at hl 4 rfl) ?_
    refine lv_iconst (v := (-1)) X.1 X.2.1 dX0_chain_54 (by decide) ?_
    refine lv_icmp_eq (tgt := 79) X.1 X.2.1 dX0_chain_55 (by decide) (fun c26 => ?_) (fun c26 => ?_)
    · replace h := m_ifT c26 h
      exact k79 u v6 H locs ls _ _ _ h hC I (lv_sub hl [0, 1, 2, 3, 5] rfl)
    · replace h := m_ifF c26 h
      refine lv_aload_n X.1 X.2.1 dX0_chain_58 rfl (lv_at hl 0 rfl) ?_
      refine lv_aload_n X.1 X.2.1 dX0_chain_59 rfl (lv_at hl 2 rfl) ?_
      refine lv_iload X.1 X.2.1 dX0_chain_60 (lv_at hl 5 rfl) ?_
      refine lv_aload X.1 X.2.1 dX0_chain_62 (lv_at hl 3 rfl) ?_
      obtain ⟨f27, e28, h⟩ := m_bS h
      obtain ⟨r30, u31, C32, C33, e29, z34, h, hq⟩ := u_bcS h
      rw [hq] at hC
      refine u_callV X hl.1 I hA (As := [.ref v3, .int v6, .ref v4]) (rest := []) (uk_X0_longFrom l n D d u v0 v3 v6 v4 _ _ _ e29) z34 (u_clS e28) (C := RX0) (T := TX0) (N := 9) rfl 3 q1255 q1257 qs35 q101 q1258 uh_X0_longFrom rfl rfl ⟨Nat.le_trans (Nat.le_of_ble_eq_true rfl) hR.1, Nat.le_trans (Nat.le_of_ble_eq_true rfl) hR.2⟩ hC (stk := [.int r30]) rfl (Nat.le_of_ble_eq_true rfl) dX0_chain_64 (fun H locs cells slots hC I => ?_)
      refine lv_aload_n X.1 X.2.1 dX0_chain_67 rfl (lv_at hl 0 rfl) ?_
      refine lv_aload_n X.1 X.2.1 dX0_chain_68 rfl (lv_at hl 2 rfl) ?_
      refine lv_iload X.1 X.2.1 dX0_chain_69 (lv_at hl 4 rfl) ?_
      refine lv_aload X.1 X.2.1 dX0_chain_71 (lv_at hl 3 rfl) ?_
      obtain ⟨f35, e36, h⟩ := m_bS h
      obtain ⟨r38, u39, C40, C41, e37, z42, h, hq⟩ := u_bcS h
      rw [hq] at hC
      refine u_callV X hl.1 I hA (As := [.ref v3, .int v5, .ref v4]) (rest := [.int r30]) (uk_X0_longFrom l n D d u31 v0 v3 v5 v4 _ _ _ e37) z42 (u_clS e36) (C := RX0) (T := TX0) (N := 9) rfl 3 q1255 q1257 qs35 q101 q1258 uh_X0_longFrom rfl rfl ⟨Nat.le_trans (Nat.le_of_ble_eq_true rfl) hR.1, Nat.le_trans (Nat.le_of_ble_eq_true rfl) hR.2⟩ hC (stk := [.int r38, .int r30]) rfl (Nat.le_of_ble_eq_true rfl) dX0_chain_73 (fun H locs cells slots hC I => ?_)
      refine lv_icmp_le (tgt := 83) X.1 X.2.1 dX0_chain_76 (by decide) (fun c43 => ?_) (fun c43 => ?_)
      · replace h := m_ifT c43 h
        exact k83 u39 v5 v6 H locs ls _ _ _ h hC I (lv_sub hl [0, 1, 2, 3, 4, 5] rfl)
      · replace h := m_ifF c43 h
        exact k79 u39 v6 H locs ls _ _ _ h hC I (lv_sub hl [0, 1, 2, 3, 5] rfl)
theorem wuf_X0_chain_L142 (X : u_X RX0 D A d p s m c cX0_chain 8 args) (hA : ∀ q, s.heap.size ≤ q → A q) (hR : 13 ≤ R.frames ∧ 298 ≤ R.locals) (n : Nat) (v0 : Nat) (v2 : Int32) (v3 : Nat) (v4 : Nat) (x : (Int32 × Int32 × UM)) (z : (Int32 × UM)) (C cr : UC) (hz : uf_X0_chain_L142l n d v0 v2 v3 v4 x = some (z, C)) (hE : (fun (z : (Int32 × UM)) (C : UC) => ∀ (H : Heap) (locs : List Loc) (ls : Array Slot) (cells slots : Nat), u_left R cells slots C → u_I D A s.heap z.2 H locs cells → lv_has ls 8 [(5, .int z.1)] → W p l e R s m args below meth c H locs cells slots Q (F0 m 165 ls [])) z cr) : (fun (x : (Int32 × Int32 × UM)) (C : UC) => ∀ (H : Heap) (locs : List Loc) (ls : Array Slot) (cells slots : Nat), u_left R cells slots C → u_I D A s.heap x.2.2 H locs cells → lv_has ls 8 [(0, .ref v0), (2, .int v2), (3, .ref v3), (4, .ref v4), (5, .int x.1), (7, .int x.2.1)] → W p l e R s m args below meth c H locs cells slots Q (F0 m 142 ls [])) x (u_add C cr) := by
  refine u_lpW (G := fun (x : (Int32 × Int32 × UM)) (C : UC) => ∀ (H : Heap) (locs : List Loc) (ls : Array Slot) (cells slots : Nat), u_left R cells slots C → u_I D A s.heap x.2.2 H locs cells → lv_has ls 8 [(0, .ref v0), (2, .int v2), (3, .ref v3), (4, .ref v4), (5, .int x.1), (7, .int x.2.1)] → W p l e R s m args below meth c H locs cells slots Q (F0 m 142 ls [])) (E := fun (z : (Int32 × UM)) (C : UC) => ∀ (H : Heap) (locs : List Loc) (ls : Array Slot) (cells slots : Nat), u_left R cells slots C → u_I D A s.heap z.2 H locs cells → lv_has ls 8 [(5, .int z.1)] → W p l e R s m args below meth c H locs cells slots Q (F0 m 165 ls [])) ?_ n x z C cr hz hE
  rintro ⟨v5, v7, u⟩ r C cr h hr H locs ls cells slots hC I hl
  replace h : uf_X0_chain_L142 n d v0 v2 v3 v4 v5 v7 u = some (r, C) := h
  unfold uf_X0_chain_L142 at h
  refine lv_iload X.1 X.2.1 dX0_chain_142 (lv_at hl 5 rfl) ?_
  refine lv_iload_n X.1 X.2.1 dX0_chain_144 rfl (lv_at hl 1 rfl) ?_
  refine lv_icmp_ge (tgt := 165) X.1 X.2.1 dX0_chain_145 (by decide) (fun c50 => ?_) (fun c50 => ?_)
  · replace h := m_ifT c50 h
    obtain ⟨rfl, rfl⟩ := m_e3 h
    exact hr H locs ls _ _ (u_left0 hC) I (lv_sub hl [4] rfl)
  · replace h := m_ifF c50 h
    refine lv_aload_n X.1 X.2.1 dX0_chain_148 rfl (lv_at hl 0 rfl) ?_
    refine lv_aload_n X.1 X.2.1 dX0_chain_149 rfl (lv_at hl 2 rfl) ?_
    refine lv_iload X.1 X.2.1 dX0_chain_150 (lv_at hl 4 rfl) ?_
    refine lv_aload X.1 X.2.1 dX0_chain_152 (lv_at hl 3 rfl) ?_
    obtain ⟨f51, e52, h⟩ := m_bS h
    obtain ⟨r54, e53, h⟩ := m_bS h
    refine u_callVp X hl.1 I hA (As := [.ref v3, .int v5, .ref v4]) (rest := []) (uk_X0_nextOf l n D d u v0 v3 v5 v4 _ e53) (u_clS e52) (C := RX0) (T := TX0) (N := 9) rfl 3 q1259 q1261 qs36 q101 q1262 uh_X0_nextOf rfl rfl ⟨Nat.le_trans (Nat.le_of_ble_eq_true rfl) hR.1, Nat.le_trans (Nat.le_of_ble_eq_true rfl) hR.2⟩ (u_leftLe hC) (stk := [.int r54]) rfl (Nat.le_of_ble_eq_true rfl) dX0_chain_154 (fun H locs I => ?_)
    refine lv_istore (lv' := [(5, .int r54), (0, .ref v0), (2, .int v2), (3, .ref v3), (4, .ref v4), (7, .int v7)]) X.1 X.2.1 dX0_chain_157 hl (by decide) rfl (fun ls hl => ?_)
    refine lv_iinc (v := v7 + 1) (lv' := [(7, .int (v7 + 1)), (5, .int r54), (0, .ref v0), (2, .int v2), (3, .ref v3), (4, .ref v4)]) X.1 X.2.1 dX0_chain_159 hl (k := 5) rfl rfl (by decide) rfl (fun ls hl => ?_)
    refine lv_goto (tgt := 142) X.1 X.2.1 dX0_chain_162 (by decide) ?_
    obtain ⟨rfl, rfl⟩ := m_e3 h
    exact hr H locs ls _ _ (u_left0 hC) I (lv_sub hl [2, 3, 4, 5, 1, 0] rfl)
theorem uw_X0_chain (X : u_X RX0 D A d p s m c cX0_chain 8 args) (hA : ∀ q, s.heap.size ≤ q → A q) (hR : 13 ≤ R.frames ∧ 298 ≤ R.locals) (n : Nat) (u : UM) (t : Nat) (p0 : Int32) (p1 : Int32) (r0 : Int32) (ur : UM) (C : UC) (h : uf_X0_chain n d u t p0 p1 = some ((r0, ur), C)) (hret : ∀ (H : Heap) (locs : List Loc) (ls : Array Slot) (pc cells slots : Nat), decode cX0_chain pc = .ok (.ireturn, 1) → u_left R cells slots (u_add (0, 0) (0, 0)) → u_I D A s.heap ur H locs cells → W p l e R s m args below meth c H locs cells slots Q (F0 m pc ls [.int r0])) : ∀ (H : Heap) (locs : List Loc) (ls : Array Slot) (cells slots : Nat), u_left R cells slots (u_add C (0, 0)) → u_I D A s.heap u H locs cells → lv_has ls 8 [(0, .ref t), (1, .int p0), (2, .int p1)] → W p l e R s m args below meth c H locs cells slots Q (F0 m 0 ls []) := by
  have k121 : ∀ (u : UM) (v0 : Nat) (v2 : Int32) (v3 : Nat) (v4 : Nat) (v5 : Int32) (t0 : Int32) (H : Heap) (locs : List Loc) (ls : Array Slot) (cells slots : Nat) (C : UC), uf_X0_chain_J121 n d u v0 v2 v3 v4 v5 t0 = some ((r0, ur), C) → u_left R cells slots (u_add C (0, 0)) → u_I D A s.heap u H locs cells → lv_has ls 8 [(0, .ref v0), (2, .int v2), (3, .ref v3), (4, .ref v4), (5, .int v5)] → W p l e R s m args below meth c H locs cells slots Q (F0 m 121 ls [.int t0]) := by
    intro u v0 v2 v3 v4 v5 t0 H locs ls cells slots C h hC I hl
    unfold uf_X0_chain_J121 at h
    refine lv_istore (lv' := [(6, .int t0), (0, .ref v0), (2, .int v2), (3, .ref v3), (4, .ref v4), (5, .int v5)]) X.1 X.2.1 dX0_chain_121 hl (by decide) rfl (fun ls hl => ?_)
    refine lv_iload_n X.1 X.2.1 dX0_chain_123 rfl (lv_at hl 2 rfl) ?_
    refine lv_iconst (v := (-1)) X.1 X.2.1 dX0_chain_124 (by decide) ?_
    refine lv_icmp_ne (tgt := 131) X.1 X.2.1 dX0_chain_125 (by decide) (fun c48 => ?_) (fun c48 => ?_)
    · replace h := m_ifF c48 h
      refine lv_iload_n X.1 X.2.1 dX0_chain_131 rfl (lv_at hl 2 rfl) ?_
      refine lv_iload X.1 X.2.1 dX0_chain_132 (lv_at hl 0 rfl) ?_
      refine lv_icmp_lt (tgt := 139) X.1 X.2.1 dX0_chain_134 (by decide) (fun c49 => ?_) (fun c49 => ?_)
      · replace h := m_ifT c49 h
        refine lv_iconst (v := 0) X.1 X.2.1 dX0_chain_139 (by decide) ?_
        refine lv_istore (lv' := [(7, .int 0), (6, .int t0), (0, .ref v0), (2, .int v2), (3, .ref v3), (4, .ref v4), (5, .int v5)]) X.1 X.2.1 dX0_chain_140 hl (by decide) rfl (fun ls hl => ?_)
        obtain ⟨⟨z56, u57⟩, C59, C60, e55, h, hq⟩ := u_blS h
        rw [hq] at hC
        refine wuf_X0_chain_L142 X hA hR n v0 v2 v3 v4 _ _ _ _ e55 (fun H locs ls cells slots hC I hl => ?_) H locs ls _ _ (u_left2 hC) I (lv_sub hl [2, 3, 4, 5, 6, 0] rfl)
        refine lv_iload X.1 X.2.1 dX0_chain_165 (lv_at hl 0 rfl) ?_
        obtain ⟨he, rfl⟩ := m_e3 h
        obtain ⟨rfl, rfl⟩ := m_e4 he
        exact hret H locs ls 167 _ _ dX0_chain_167 hC I
      · replace h := m_ifF c49 h
        refine lv_iconst (v := (-1)) X.1 X.2.1 dX0_chain_137 (by decide) ?_
        obtain ⟨he, rfl⟩ := m_e3 h
        obtain ⟨rfl, rfl⟩ := m_e4 he
        exact hret H locs ls 138 _ _ dX0_chain_138 hC I
    · replace h := m_ifT c48 h
      refine lv_iload X.1 X.2.1 dX0_chain_128 (lv_at hl 0 rfl) ?_
      obtain ⟨he, rfl⟩ := m_e3 h
      obtain ⟨rfl, rfl⟩ := m_e4 he
      exact hret H locs ls 130 _ _ dX0_chain_130 hC I
  have k108 : ∀ (u : UM) (v0 : Nat) (v2 : Int32) (v3 : Nat) (v4 : Nat) (v5 : Int32) (H : Heap) (locs : List Loc) (ls : Array Slot) (cells slots : Nat) (C : UC), uf_X0_chain_J108 n d u v0 v2 v3 v4 v5 = some ((r0, ur), C) → u_left R cells slots (u_add C (0, 0)) → u_I D A s.heap u H locs cells → lv_has ls 8 [(0, .ref v0), (2, .int v2), (3, .ref v3), (4, .ref v4), (5, .int v5)] → W p l e R s m args below meth c H locs cells slots Q (F0 m 108 ls []) := by
    intro u v0 v2 v3 v4 v5 H locs ls cells slots C h hC I hl
    unfold uf_X0_chain_J108 at h
    refine lv_iconst (v := 0) X.1 X.2.1 dX0_chain_108 (by decide) ?_
    refine lv_goto (tgt := 121) X.1 X.2.1 dX0_chain_109 (by decide) ?_
    exact k121 u v0 v2 v3 v4 v5 0 H locs ls _ _ _ h hC I (lv_sub hl [0, 1, 2, 3, 4] rfl)
  intro H locs ls cells slots hC I hl
  unfold uf_X0_chain at h
  refine lv_aload_n X.1 X.2.1 dX0_chain_0 rfl (lv_at hl 0 rfl) ?_
  refine lv_iload_n X.1 X.2.1 dX0_chain_1 rfl (lv_at hl 1 rfl) ?_
  obtain ⟨f1, e2, h⟩ := m_bS h
  obtain ⟨r4, e3, h⟩ := m_bS h
  refine u_callVp X hl.1 I hA (As := [.int p0]) (rest := []) (uk_X0_isKind l n D d u t p0 _ e3) (u_clS e2) (C := RX0) (T := TX0) (N := 9) rfl 1 q875 q877 qs20 q101 q878 uh_X0_isKind rfl rfl ⟨Nat.le_trans (Nat.le_of_ble_eq_true rfl) hR.1, Nat.le_trans (Nat.le_of_ble_eq_true rfl) hR.2⟩ (u_leftLe hC) (stk := [.int r4]) rfl (Nat.le_of_ble_eq_true rfl) dX0_chain_2 (fun H locs I => ?_)
  refine lv_if_ne (tgt := 11) X.1 X.2.1 dX0_chain_5 (by decide) (fun c5 => ?_) (fun c5 => ?_)
  · replace h := m_ifF c5 h
    refine lv_iload_n X.1 X.2.1 dX0_chain_11 rfl (lv_at hl 2 rfl) ?_
    refine lv_iconst (v := (-1)) X.1 X.2.1 dX0_chain_12 (by decide) ?_
    refine lv_icmp_ge (tgt := 19) X.1 X.2.1 dX0_chain_13 (by decide) (fun c6 => ?_) (fun c6 => ?_)
    · replace h := m_ifT c6 h
      refine lv_aload_n X.1 X.2.1 dX0_chain_19 rfl (lv_at hl 0 rfl) ?_
      refine lv_iload_n X.1 X.2.1 dX0_chain_20 rfl (lv_at hl 1 rfl) ?_
      refine lv_ldcw (v := 2147483647) X.1 X.2.1 X.2.2.2.1 (X.2.2.1 _ q1254) dX0_chain_21 ?_
      obtain ⟨f7, e8, h⟩ := m_bS h
      obtain ⟨r10, u11, C12, C13, e9, z14, h, hq⟩ := u_bcS h
      rw [hq] at hC
      refine u_callV X hl.1 I hA (As := [.int p0, .int 2147483647]) (rest := []) (uk_X0_taken l n D d u t p0 2147483647 _ _ _ e9) z14 (u_clS e8) (C := RX0) (T := TX0) (N := 9) rfl 2 q1246 q1248 qs34 q101 q1249 uh_X0_taken rfl rfl ⟨Nat.le_trans (Nat.le_of_ble_eq_true rfl) hR.1, Nat.le_trans (Nat.le_of_ble_eq_true rfl) hR.2⟩ hC (stk := [.ref r10]) rfl (Nat.le_of_ble_eq_true rfl) dX0_chain_24 (fun H locs cells slots hC I => ?_)
      refine lv_astore_n (lv' := [(3, .ref r10), (0, .ref t), (1, .int p0), (2, .int p1)]) X.1 X.2.1 dX0_chain_27 rfl hl (by decide) rfl (fun ls hl => ?_)
      refine lv_bipush (v := 8) X.1 X.2.1 dX0_chain_28 (by decide) ?_
      obtain ⟨g17, h⟩ := m_gS h
      obtain ⟨C15, h, hq⟩ := u_acS h
      rw [hq] at hC
      obtain ⟨u16, e18, h⟩ := m_bS h
      refine u_NP X I hA 0 (atype := .int) rfl q200 (x := (_, .inl (fun _ => 0))) (fun _ => rfl) (by decide) g17 e18 hC dX0_chain_30 (fun H cells slots hC I => ?_)
      refine lv_astore (lv' := [(4, .ref u11.2), (3, .ref r10), (0, .ref t), (1, .int p0), (2, .int p1)]) X.1 X.2.1 dX0_chain_32 hl (by decide) rfl (fun ls hl => ?_)
      refine lv_iconst (v := (-1)) X.1 X.2.1 dX0_chain_34 (by decide) ?_
      refine lv_istore (lv' := [(5, .int ((-1))), (4, .ref u11.2), (3, .ref r10), (0, .ref t), (1, .int p0), (2, .int p1)]) X.1 X.2.1 dX0_chain_35 hl (by decide) rfl (fun ls hl => ?_)
      refine lv_iconst (v := 0) X.1 X.2.1 dX0_chain_37 (by decide) ?_
      refine lv_istore (lv' := [(6, .int 0), (5, .int ((-1))), (4, .ref u11.2), (3, .ref r10), (0, .ref t), (1, .int p0), (2, .int p1)]) X.1 X.2.1 dX0_chain_38 hl (by decide) rfl (fun ls hl => ?_)
      obtain ⟨⟨z45, u46⟩, C79, C80, e44, h, hq⟩ := u_blS h
      rw [hq] at hC
      refine wuf_X0_chain_L40 X hA hR n t p1 r10 u11.2 _ _ _ _ e44 (fun H locs ls cells slots hC I hl => ?_) H locs ls _ _ (u_left2 hC) I (lv_sub hl [4, 6, 3, 2, 1, 0] rfl)
      refine lv_iload X.1 X.2.1 dX0_chain_89 (lv_at hl 4 rfl) ?_
      refine lv_iconst (v := (-1)) X.1 X.2.1 dX0_chain_91 (by decide) ?_
      refine lv_icmp_eq (tgt := 108) X.1 X.2.1 dX0_chain_92 (by decide) (fun c47 => ?_) (fun c47 => ?_)
      · replace h := m_ifT c47 h
        exact k108 u46 t p1 r10 u11.2 z45 H locs ls _ _ _ h hC I (lv_sub hl [0, 1, 2, 3, 4] rfl)
      · replace h := m_ifF c47 h
        refine lv_aload_n X.1 X.2.1 dX0_chain_95 rfl (lv_at hl 0 rfl) ?_
        refine lv_aload_n X.1 X.2.1 dX0_chain_96 rfl (lv_at hl 2 rfl) ?_
        refine lv_iload X.1 X.2.1 dX0_chain_97 (lv_at hl 4 rfl) ?_
        refine lv_aload X.1 X.2.1 dX0_chain_99 (lv_at hl 3 rfl) ?_
        obtain ⟨f61, e62, h⟩ := m_bS h
        obtain ⟨r64, u65, C66, C67, e63, z68, h, hq⟩ := u_bcS h
        rw [hq] at hC
        refine u_callV X hl.1 I hA (As := [.ref r10, .int z45, .ref u11.2]) (rest := []) (uk_X0_longFrom l n D d u46 t r10 z45 u11.2 _ _ _ e63) z68 (u_clS e62) (C := RX0) (T := TX0) (N := 9) rfl 3 q1255 q1257 qs35 q101 q1258 uh_X0_longFrom rfl rfl ⟨Nat.le_trans (Nat.le_of_ble_eq_true rfl) hR.1, Nat.le_trans (Nat.le_of_ble_eq_true rfl) hR.2⟩ hC (stk := [.int r64]) rfl (Nat.le_of_ble_eq_true rfl) dX0_chain_101 (fun H locs cells slots hC I => ?_)
        refine lv_iconst (v := 1) X.1 X.2.1 dX0_chain_104 (by decide) ?_
        refine lv_icmp_ne (tgt := 112) X.1 X.2.1 dX0_chain_105 (by decide) (fun c69 => ?_) (fun c69 => ?_)
        · replace h := m_ifF c69 h
          refine lv_aload_n X.1 X.2.1 dX0_chain_112 rfl (lv_at hl 0 rfl) ?_
          refine lv_aload_n X.1 X.2.1 dX0_chain_113 rfl (lv_at hl 2 rfl) ?_
          refine lv_iload X.1 X.2.1 dX0_chain_114 (lv_at hl 4 rfl) ?_
          refine lv_aload X.1 X.2.1 dX0_chain_116 (lv_at hl 3 rfl) ?_
          obtain ⟨f70, e71, h⟩ := m_bS h
          obtain ⟨r73, u74, C75, C76, e72, z77, h, hq⟩ := u_bcS h
          rw [hq] at hC
          refine u_callV X hl.1 I hA (As := [.ref r10, .int z45, .ref u11.2]) (rest := []) (uk_X0_longFrom l n D d u65 t r10 z45 u11.2 _ _ _ e72) z77 (u_clS e71) (C := RX0) (T := TX0) (N := 9) rfl 3 q1255 q1257 qs35 q101 q1258 uh_X0_longFrom rfl rfl ⟨Nat.le_trans (Nat.le_of_ble_eq_true rfl) hR.1, Nat.le_trans (Nat.le_of_ble_eq_true rfl) hR.2⟩ hC (stk := [.int r73]) rfl (Nat.le_of_ble_eq_true rfl) dX0_chain_118 (fun H locs cells slots hC I => ?_)
          exact k121 u74 t p1 r10 u11.2 z45 r73 H locs ls _ _ _ h hC I (lv_sub hl [0, 1, 2, 3, 4] rfl)
        · replace h := m_ifT c69 h
          exact k108 u65 t p1 r10 u11.2 z45 H locs ls _ _ _ h hC I (lv_sub hl [0, 1, 2, 3, 4] rfl)
    · replace h := m_ifF c6 h
      refine lv_bipush (v := (-3)) X.1 X.2.1 dX0_chain_16 (by decide) ?_
      obtain ⟨he, rfl⟩ := m_e3 h
      obtain ⟨rfl, rfl⟩ := m_e4 he
      exact hret H locs ls 18 _ _ dX0_chain_18 hC I
  · replace h := m_ifT c5 h
    refine lv_bipush (v := (-2)) X.1 X.2.1 dX0_chain_8 (by decide) ?_
    obtain ⟨he, rfl⟩ := m_e3 h
    obtain ⟨rfl, rfl⟩ := m_e4 he
    exact hret H locs ls 10 _ _ dX0_chain_10 hC I
end S_X0_chain
theorem uk_X0_chain (l : Launch) (n : Nat) (D : va_G) (d : UD) (u : UM) (t : Nat) (p0 : Int32) (p1 : Int32) (r0 : Int32) (ur : UM) (C : UC) (h : uf_X0_chain n d u t p0 p1 = some ((r0, ur), C)) : u_M l yX0_chain (ws_ yX0_chain cX0_chain 8 (some .int)) 13 298 C D d u [.ref t, .int p0, .int p1] (some (.int r0)) ur :=
  u_start (own := RX0) (lvl := [(0, .ref t), (1, .int p0), (2, .int p1)]) (by decide) rfl (Nat.le_of_ble_eq_true rfl) rfl (fun p e s m args below meth c ls X hr hlk hI hl hA I hC => uw_X0_chain X hA ⟨Nat.le_refl _, Nat.le_refl _⟩ n u t p0 p1 r0 ur C h (fun H locs ls pc cells slots hd hC I => u_iret X I hr hlk (u_leftE hC) hd) _ _ ls _ _ hC I hl)

/-! SwapPress.pressing(I)LSwapPress$Press; -/
def uf_X0_pressing (n : Nat) (d : UD) (u : UM) (t : Nat) (p0 : Int32) : Option ((Nat × UM) × UC) :=
  m_b (u_fr d u 1 0 t) (fun b1 => m_b (u_cl u 2 b1) (fun f3 => u_bc u.2 (uf_X1_flows n d u b1 p0) (fun r6 u7 => m_b (u_cl u7 1 t) (fun f11 => u_bc u7.2 (uf_X0_press_2 n d u7 t r6) (fun r14 u15 => some ((r14, u15), (0, 0)))))))
theorem uh_X0_pressing : yX0_pressing.cls = RX0 ∧ yX0_pressing.cls ≠ "java/lang/invoke/MethodHandle" ∧ yX0_pressing.cls ≠ "java/lang/invoke/VarHandle" ∧ (parseMethodDescriptor yX0_pressing.desc).map (fun d => d.parameters.length) = some 1 := by decide +kernel
section S_X0_pressing
variable {p : Program} {l : Launch} {e : Env} {R : Room} {s : State} {m : MethodId} {args : Array Value} {below : List Frame} {meth : Method} {c : Code} {Q : State → Prop} {D : va_G} {A : Nat → Prop} {d : UD}
theorem uw_X0_pressing (X : u_X RX0 D A d p s m c cX0_pressing 2 args) (hA : ∀ q, s.heap.size ≤ q → A q) (hR : 4 ≤ R.frames ∧ 113 ≤ R.locals) (n : Nat) (u : UM) (t : Nat) (p0 : Int32) (r0 : Nat) (ur : UM) (C : UC) (h : uf_X0_pressing n d u t p0 = some ((r0, ur), C)) (hret : ∀ (H : Heap) (locs : List Loc) (ls : Array Slot) (pc cells slots : Nat), decode cX0_pressing pc = .ok (.areturn, 1) → u_left R cells slots (u_add (0, 0) (0, 0)) → u_I D A s.heap ur H locs cells → W p l e R s m args below meth c H locs cells slots Q (F0 m pc ls [.ref r0])) : ∀ (H : Heap) (locs : List Loc) (ls : Array Slot) (cells slots : Nat), u_left R cells slots (u_add C (0, 0)) → u_I D A s.heap u H locs cells → lv_has ls 2 [(0, .ref t), (1, .int p0)] → W p l e R s m args below meth c H locs cells slots Q (F0 m 0 ls []) := by
  intro H locs ls cells slots hC I hl
  unfold uf_X0_pressing at h
  refine lv_aload_n X.1 X.2.1 dX0_pressing_0 rfl (lv_at hl 0 rfl) ?_
  refine lv_aload_n X.1 X.2.1 dX0_pressing_1 rfl (lv_at hl 0 rfl) ?_
  obtain ⟨b1, e2, h⟩ := m_bS h
  refine u_Gr X I e2 (C := RX0) (T := TX0) (N := 9) (ref := "SwapPress") in_X0 rfl (by decide) rfl rfl q235 (fun _ h => h) dX0_pressing_2 ?_
  refine lv_iload_n X.1 X.2.1 dX0_pressing_5 rfl (lv_at hl 1 rfl) ?_
  obtain ⟨f3, e4, h⟩ := m_bS h
  obtain ⟨r6, u7, C8, C9, e5, z10, h, hq⟩ := u_bcS h
  rw [hq] at hC
  refine u_callV X hl.1 I hA (As := [.int p0]) (rest := [.ref t]) (uk_X1_flows l n D d u b1 p0 _ _ _ e5) z10 (u_clS e4) (C := RX1) (T := TX1) (N := 5) rfl 1 q951 q952 q953 q102 q954 uh_X1_flows rfl rfl ⟨Nat.le_trans (Nat.le_of_ble_eq_true rfl) hR.1, Nat.le_trans (Nat.le_of_ble_eq_true rfl) hR.2⟩ hC (stk := [.ref r6, .ref t]) rfl (Nat.le_of_ble_eq_true rfl) dX0_pressing_6 (fun H locs cells slots hC I => ?_)
  obtain ⟨f11, e12, h⟩ := m_bS h
  obtain ⟨r14, u15, C16, C17, e13, z18, h, hq⟩ := u_bcS h
  rw [hq] at hC
  refine u_callV X hl.1 I hA (As := [.ref r6]) (rest := []) (uk_X0_press_2 l n D d u7 t r6 _ _ _ e13) z18 (u_clS e12) (C := RX0) (T := TX0) (N := 9) rfl 1 q1020 q1022 qs28 q101 q1023 uh_X0_press_2 rfl rfl ⟨Nat.le_trans (Nat.le_of_ble_eq_true rfl) hR.1, Nat.le_trans (Nat.le_of_ble_eq_true rfl) hR.2⟩ hC (stk := [.ref r14]) rfl (Nat.le_of_ble_eq_true rfl) dX0_pressing_9 (fun H locs cells slots hC I => ?_)
  obtain ⟨he, rfl⟩ := m_e3 h
  obtain ⟨rfl, rfl⟩ := m_e4 he
  exact hret H locs ls 12 _ _ dX0_pressing_12 hC I
end S_X0_pressing
theorem uk_X0_pressing (l : Launch) (n : Nat) (D : va_G) (d : UD) (u : UM) (t : Nat) (p0 : Int32) (r0 : Nat) (ur : UM) (C : UC) (h : uf_X0_pressing n d u t p0 = some ((r0, ur), C)) : u_M l yX0_pressing (ws_ yX0_pressing cX0_pressing 2 (some (.object "SwapPress$Press"))) 4 113 C D d u [.ref t, .int p0] (some (.ref r0)) ur :=
  u_start (own := RX0) (lvl := [(0, .ref t), (1, .int p0)]) (by decide) rfl (Nat.le_of_ble_eq_true rfl) rfl (fun p e s m args below meth c ls X hr hlk hI hl hA I hC => uw_X0_pressing X hA ⟨Nat.le_refl _, Nat.le_refl _⟩ n u t p0 r0 ur C h (fun H locs ls pc cells slots hd hC I => u_aret (r := some r0) X I hr (Or.inl ⟨_, rfl⟩) hlk (u_leftE hC) hd) _ _ ls _ _ hC I hl)

/-! SwapPress.pressed(III)I -/
def uf_X0_pressed_J38 (n : Nat) (d : UD) (u : UM) (t0 : Int32) : Option ((Int32 × UM) × UC) :=
  some ((t0, u), (0, 0))
def uf_X0_pressed (n : Nat) (d : UD) (u : UM) (t : Nat) (p0 : Int32) (p1 : Int32) (p2 : Int32) : Option ((Int32 × UM) × UC) :=
  m_b (u_cl u 1 t) (fun f1 => m_b (uf_X0_areAll n d u t p0 p1 p2) (fun r4 => m_if ((r4 : Int32) = 0) (some (((-2), u), (0, 0))) (m_b (u_cl u 1 t) (fun f6 => u_bc u.2 (uf_X0_first n d u t p2) (fun r9 u10 => u_qn r9 (uf_X0_pressed_J38 n d u10 ((-1))) (fun a15 => m_b (u_ldI d u10 a15 ((8 * p0) + p1)) (fun b16 => uf_X0_pressed_J38 n d u10 b16)))))))
theorem uh_X0_pressed : yX0_pressed.cls = RX0 ∧ yX0_pressed.cls ≠ "java/lang/invoke/MethodHandle" ∧ yX0_pressed.cls ≠ "java/lang/invoke/VarHandle" ∧ (parseMethodDescriptor yX0_pressed.desc).map (fun d => d.parameters.length) = some 3 := by decide +kernel
section S_X0_pressed
variable {p : Program} {l : Launch} {e : Env} {R : Room} {s : State} {m : MethodId} {args : Array Value} {below : List Frame} {meth : Method} {c : Code} {Q : State → Prop} {D : va_G} {A : Nat → Prop} {d : UD}
theorem uw_X0_pressed (X : u_X RX0 D A d p s m c cX0_pressed 5 args) (hA : ∀ q, s.heap.size ≤ q → A q) (hR : 7 ≤ R.frames ∧ 185 ≤ R.locals) (n : Nat) (u : UM) (t : Nat) (p0 : Int32) (p1 : Int32) (p2 : Int32) (r0 : Int32) (ur : UM) (C : UC) (h : uf_X0_pressed n d u t p0 p1 p2 = some ((r0, ur), C)) (hret : ∀ (H : Heap) (locs : List Loc) (ls : Array Slot) (pc cells slots : Nat), decode cX0_pressed pc = .ok (.ireturn, 1) → u_left R cells slots (u_add (0, 0) (0, 0)) → u_I D A s.heap ur H locs cells → W p l e R s m args below meth c H locs cells slots Q (F0 m pc ls [.int r0])) : ∀ (H : Heap) (locs : List Loc) (ls : Array Slot) (cells slots : Nat), u_left R cells slots (u_add C (0, 0)) → u_I D A s.heap u H locs cells → lv_has ls 5 [(0, .ref t), (1, .int p0), (2, .int p1), (3, .int p2)] → W p l e R s m args below meth c H locs cells slots Q (F0 m 0 ls []) := by
  have k38 : ∀ (u : UM) (t0 : Int32) (H : Heap) (locs : List Loc) (ls : Array Slot) (cells slots : Nat) (C : UC), uf_X0_pressed_J38 n d u t0 = some ((r0, ur), C) → u_left R cells slots (u_add C (0, 0)) → u_I D A s.heap u H locs cells → lv_has ls 5 [] → W p l e R s m args below meth c H locs cells slots Q (F0 m 38 ls [.int t0]) := by
    intro u t0 H locs ls cells slots C h hC I hl
    unfold uf_X0_pressed_J38 at h
    obtain ⟨he, rfl⟩ := m_e3 h
    obtain ⟨rfl, rfl⟩ := m_e4 he
    exact hret H locs ls 38 _ _ dX0_pressed_38 hC I
  intro H locs ls cells slots hC I hl
  unfold uf_X0_pressed at h
  refine lv_aload_n X.1 X.2.1 dX0_pressed_0 rfl (lv_at hl 0 rfl) ?_
  refine lv_iload_n X.1 X.2.1 dX0_pressed_1 rfl (lv_at hl 1 rfl) ?_
  refine lv_iload_n X.1 X.2.1 dX0_pressed_2 rfl (lv_at hl 2 rfl) ?_
  refine lv_iload_n X.1 X.2.1 dX0_pressed_3 rfl (lv_at hl 3 rfl) ?_
  obtain ⟨f1, e2, h⟩ := m_bS h
  obtain ⟨r4, e3, h⟩ := m_bS h
  refine u_callVp X hl.1 I hA (As := [.int p0, .int p1, .int p2]) (rest := []) (uk_X0_areAll l n D d u t p0 p1 p2 _ e3) (u_clS e2) (C := RX0) (T := TX0) (N := 9) rfl 3 q1169 q1171 qs31 q101 q1172 uh_X0_areAll rfl rfl ⟨Nat.le_trans (Nat.le_of_ble_eq_true rfl) hR.1, Nat.le_trans (Nat.le_of_ble_eq_true rfl) hR.2⟩ (u_leftLe hC) (stk := [.int r4]) rfl (Nat.le_of_ble_eq_true rfl) dX0_pressed_4 (fun H locs I => ?_)
  refine lv_if_ne (tgt := 13) X.1 X.2.1 dX0_pressed_7 (by decide) (fun c5 => ?_) (fun c5 => ?_)
  · replace h := m_ifF c5 h
    refine lv_aload_n X.1 X.2.1 dX0_pressed_13 rfl (lv_at hl 0 rfl) ?_
    refine lv_iload_n X.1 X.2.1 dX0_pressed_14 rfl (lv_at hl 3 rfl) ?_
    obtain ⟨f6, e7, h⟩ := m_bS h
    obtain ⟨r9, u10, C11, C12, e8, z13, h, hq⟩ := u_bcS h
    rw [hq] at hC
    refine u_callV X hl.1 I hA (As := [.int p2]) (rest := []) (uk_X0_first l n D d u t p2 _ _ _ e8) z13 (u_clS e7) (C := RX0) (T := TX0) (N := 9) rfl 1 q1016 q1018 qs27 q101 q1019 uh_X0_first rfl rfl ⟨Nat.le_trans (Nat.le_of_ble_eq_true rfl) hR.1, Nat.le_trans (Nat.le_of_ble_eq_true rfl) hR.2⟩ hC (stk := [va_rf r9]) rfl (Nat.le_of_ble_eq_true rfl) dX0_pressed_15 (fun H locs cells slots hC I => ?_)
    refine u_ast (lv' := [(0, .ref t), (1, .int p0), (2, .int p1), (3, .int p2)]) X.1 X.2.1 dX0_pressed_18 hl (by decide) (fun _ => rfl) (fun ls hl => ?_)
    refine u_ald X.1 X.2.1 dX0_pressed_20 (lv_at hl 0 rfl) ?_
    refine u_ifnn (tgt := 29) X.1 X.2.1 dX0_pressed_22 (by decide) (fun a15 c14 => ?_) (fun c14 => ?_)
    · rw [c14] at h
      replace h := u_qn1 h
      rw [c14] at hl
      replace hl : lv_has ls 5 [(4, .ref a15), (0, .ref t), (1, .int p0), (2, .int p1), (3, .int p2)] := hl
      refine lv_aload X.1 X.2.1 dX0_pressed_29 (lv_at hl 0 rfl) ?_
      refine lv_bipush (v := 8) X.1 X.2.1 dX0_pressed_31 (by decide) ?_
      refine lv_iload_n X.1 X.2.1 dX0_pressed_33 rfl (lv_at hl 2 rfl) ?_
      refine lv_imul X.1 X.2.1 dX0_pressed_34 ?_
      refine lv_iload_n X.1 X.2.1 dX0_pressed_35 rfl (lv_at hl 3 rfl) ?_
      refine lv_iadd X.1 X.2.1 dX0_pressed_36 ?_
      obtain ⟨b16, e17, h⟩ := m_bS h
      refine u_LI X I e17 dX0_pressed_37 ?_
      exact k38 u10 b16 H locs ls _ _ _ h hC I (lv_sub hl [] rfl)
    · rw [c14] at h
      replace h := u_qn0 h
      rw [c14] at hl
      replace hl : lv_has ls 5 [(4, .null), (0, .ref t), (1, .int p0), (2, .int p1), (3, .int p2)] := hl
      refine lv_iconst (v := (-1)) X.1 X.2.1 dX0_pressed_25 (by decide) ?_
      refine lv_goto (tgt := 38) X.1 X.2.1 dX0_pressed_26 (by decide) ?_
      exact k38 u10 ((-1)) H locs ls _ _ _ h hC I (lv_sub hl [] rfl)
  · replace h := m_ifT c5 h
    refine lv_bipush (v := (-2)) X.1 X.2.1 dX0_pressed_10 (by decide) ?_
    obtain ⟨he, rfl⟩ := m_e3 h
    obtain ⟨rfl, rfl⟩ := m_e4 he
    exact hret H locs ls 12 _ _ dX0_pressed_12 hC I
end S_X0_pressed
theorem uk_X0_pressed (l : Launch) (n : Nat) (D : va_G) (d : UD) (u : UM) (t : Nat) (p0 : Int32) (p1 : Int32) (p2 : Int32) (r0 : Int32) (ur : UM) (C : UC) (h : uf_X0_pressed n d u t p0 p1 p2 = some ((r0, ur), C)) : u_M l yX0_pressed (ws_ yX0_pressed cX0_pressed 5 (some .int)) 7 185 C D d u [.ref t, .int p0, .int p1, .int p2] (some (.int r0)) ur :=
  u_start (own := RX0) (lvl := [(0, .ref t), (1, .int p0), (2, .int p1), (3, .int p2)]) (by decide) rfl (Nat.le_of_ble_eq_true rfl) rfl (fun p e s m args below meth c ls X hr hlk hI hl hA I hC => uw_X0_pressed X hA ⟨Nat.le_refl _, Nat.le_refl _⟩ n u t p0 p1 p2 r0 ur C h (fun H locs ls pc cells slots hd hC I => u_iret X I hr hlk (u_leftE hC) hd) _ _ ls _ _ hC I hl)

/-! SwapPress.couples(I)I -/
def uf_X0_couples_J29 (n : Nat) (d : UD) (u : UM) (t0 : Int32) : Option ((Int32 × UM) × UC) :=
  some ((t0, u), (0, 0))
def uf_X0_couples (n : Nat) (d : UD) (u : UM) (t : Nat) (p0 : Int32) : Option ((Int32 × UM) × UC) :=
  m_b (u_cl u 1 t) (fun f1 => m_b (uf_X0_isKind n d u t p0) (fun r4 => m_if ((r4 : Int32) = 0) (some (((-2), u), (0, 0))) (m_b (u_cl u 1 t) (fun f6 => u_bc u.2 (uf_X0_first n d u t p0) (fun r9 u10 => u_qn r9 (uf_X0_couples_J29 n d u10 ((-1))) (fun a15 => m_b (uf_X0_above n d u10 a15) (fun r17 => uf_X0_couples_J29 n d u10 r17)))))))
theorem uh_X0_couples : yX0_couples.cls = RX0 ∧ yX0_couples.cls ≠ "java/lang/invoke/MethodHandle" ∧ yX0_couples.cls ≠ "java/lang/invoke/VarHandle" ∧ (parseMethodDescriptor yX0_couples.desc).map (fun d => d.parameters.length) = some 1 := by decide +kernel
section S_X0_couples
variable {p : Program} {l : Launch} {e : Env} {R : Room} {s : State} {m : MethodId} {args : Array Value} {below : List Frame} {meth : Method} {c : Code} {Q : State → Prop} {D : va_G} {A : Nat → Prop} {d : UD}
theorem uw_X0_couples (X : u_X RX0 D A d p s m c cX0_couples 3 args) (hA : ∀ q, s.heap.size ≤ q → A q) (hR : 7 ≤ R.frames ∧ 185 ≤ R.locals) (n : Nat) (u : UM) (t : Nat) (p0 : Int32) (r0 : Int32) (ur : UM) (C : UC) (h : uf_X0_couples n d u t p0 = some ((r0, ur), C)) (hret : ∀ (H : Heap) (locs : List Loc) (ls : Array Slot) (pc cells slots : Nat), decode cX0_couples pc = .ok (.ireturn, 1) → u_left R cells slots (u_add (0, 0) (0, 0)) → u_I D A s.heap ur H locs cells → W p l e R s m args below meth c H locs cells slots Q (F0 m pc ls [.int r0])) : ∀ (H : Heap) (locs : List Loc) (ls : Array Slot) (cells slots : Nat), u_left R cells slots (u_add C (0, 0)) → u_I D A s.heap u H locs cells → lv_has ls 3 [(0, .ref t), (1, .int p0)] → W p l e R s m args below meth c H locs cells slots Q (F0 m 0 ls []) := by
  have k29 : ∀ (u : UM) (t0 : Int32) (H : Heap) (locs : List Loc) (ls : Array Slot) (cells slots : Nat) (C : UC), uf_X0_couples_J29 n d u t0 = some ((r0, ur), C) → u_left R cells slots (u_add C (0, 0)) → u_I D A s.heap u H locs cells → lv_has ls 3 [] → W p l e R s m args below meth c H locs cells slots Q (F0 m 29 ls [.int t0]) := by
    intro u t0 H locs ls cells slots C h hC I hl
    unfold uf_X0_couples_J29 at h
    obtain ⟨he, rfl⟩ := m_e3 h
    obtain ⟨rfl, rfl⟩ := m_e4 he
    exact hret H locs ls 29 _ _ dX0_couples_29 hC I
  intro H locs ls cells slots hC I hl
  unfold uf_X0_couples at h
  refine lv_aload_n X.1 X.2.1 dX0_couples_0 rfl (lv_at hl 0 rfl) ?_
  refine lv_iload_n X.1 X.2.1 dX0_couples_1 rfl (lv_at hl 1 rfl) ?_
  obtain ⟨f1, e2, h⟩ := m_bS h
  obtain ⟨r4, e3, h⟩ := m_bS h
  refine u_callVp X hl.1 I hA (As := [.int p0]) (rest := []) (uk_X0_isKind l n D d u t p0 _ e3) (u_clS e2) (C := RX0) (T := TX0) (N := 9) rfl 1 q875 q877 qs20 q101 q878 uh_X0_isKind rfl rfl ⟨Nat.le_trans (Nat.le_of_ble_eq_true rfl) hR.1, Nat.le_trans (Nat.le_of_ble_eq_true rfl) hR.2⟩ (u_leftLe hC) (stk := [.int r4]) rfl (Nat.le_of_ble_eq_true rfl) dX0_couples_2 (fun H locs I => ?_)
  refine lv_if_ne (tgt := 11) X.1 X.2.1 dX0_couples_5 (by decide) (fun c5 => ?_) (fun c5 => ?_)
  · replace h := m_ifF c5 h
    refine lv_aload_n X.1 X.2.1 dX0_couples_11 rfl (lv_at hl 0 rfl) ?_
    refine lv_iload_n X.1 X.2.1 dX0_couples_12 rfl (lv_at hl 1 rfl) ?_
    obtain ⟨f6, e7, h⟩ := m_bS h
    obtain ⟨r9, u10, C11, C12, e8, z13, h, hq⟩ := u_bcS h
    rw [hq] at hC
    refine u_callV X hl.1 I hA (As := [.int p0]) (rest := []) (uk_X0_first l n D d u t p0 _ _ _ e8) z13 (u_clS e7) (C := RX0) (T := TX0) (N := 9) rfl 1 q1016 q1018 qs27 q101 q1019 uh_X0_first rfl rfl ⟨Nat.le_trans (Nat.le_of_ble_eq_true rfl) hR.1, Nat.le_trans (Nat.le_of_ble_eq_true rfl) hR.2⟩ hC (stk := [va_rf r9]) rfl (Nat.le_of_ble_eq_true rfl) dX0_couples_13 (fun H locs cells slots hC I => ?_)
    refine u_astn (lv' := [(0, .ref t), (1, .int p0)]) X.1 X.2.1 dX0_couples_16 rfl hl (by decide) (fun _ => rfl) (fun ls hl => ?_)
    refine u_aldn X.1 X.2.1 dX0_couples_17 rfl (lv_at hl 0 rfl) ?_
    refine u_ifnn (tgt := 25) X.1 X.2.1 dX0_couples_18 (by decide) (fun a15 c14 => ?_) (fun c14 => ?_)
    · rw [c14] at h
      replace h := u_qn1 h
      rw [c14] at hl
      replace hl : lv_has ls 3 [(2, .ref a15), (0, .ref t), (1, .int p0)] := hl
      refine lv_aload_n X.1 X.2.1 dX0_couples_25 rfl (lv_at hl 0 rfl) ?_
      obtain ⟨r17, e16, h⟩ := m_bS h
      refine u_callSp X hl.1 I hA (As := [.ref a15]) (rest := []) (uk_X0_above l n D d u10 a15 _ e16) 1 q1150 q1151 q101 q1152 uh_X0_above.2 rfl rfl ⟨Nat.le_trans (Nat.le_of_ble_eq_true rfl) hR.1, Nat.le_trans (Nat.le_of_ble_eq_true rfl) hR.2⟩ (u_leftLe hC) (stk := [.int r17]) rfl (Nat.le_of_ble_eq_true rfl) dX0_couples_26 (fun H locs I => ?_)
      exact k29 u10 r17 H locs ls _ _ _ h hC I (lv_sub hl [] rfl)
    · rw [c14] at h
      replace h := u_qn0 h
      rw [c14] at hl
      replace hl : lv_has ls 3 [(2, .null), (0, .ref t), (1, .int p0)] := hl
      refine lv_iconst (v := (-1)) X.1 X.2.1 dX0_couples_21 (by decide) ?_
      refine lv_goto (tgt := 29) X.1 X.2.1 dX0_couples_22 (by decide) ?_
      exact k29 u10 ((-1)) H locs ls _ _ _ h hC I (lv_sub hl [] rfl)
  · replace h := m_ifT c5 h
    refine lv_bipush (v := (-2)) X.1 X.2.1 dX0_couples_8 (by decide) ?_
    obtain ⟨he, rfl⟩ := m_e3 h
    obtain ⟨rfl, rfl⟩ := m_e4 he
    exact hret H locs ls 10 _ _ dX0_couples_10 hC I
end S_X0_couples
theorem uk_X0_couples (l : Launch) (n : Nat) (D : va_G) (d : UD) (u : UM) (t : Nat) (p0 : Int32) (r0 : Int32) (ur : UM) (C : UC) (h : uf_X0_couples n d u t p0 = some ((r0, ur), C)) : u_M l yX0_couples (ws_ yX0_couples cX0_couples 3 (some .int)) 7 185 C D d u [.ref t, .int p0] (some (.int r0)) ur :=
  u_start (own := RX0) (lvl := [(0, .ref t), (1, .int p0)]) (by decide) rfl (Nat.le_of_ble_eq_true rfl) rfl (fun p e s m args below meth c ls X hr hlk hI hl hA I hC => uw_X0_couples X hA ⟨Nat.le_refl _, Nat.le_refl _⟩ n u t p0 r0 ur C h (fun H locs ls pc cells slots hd hC I => u_iret X I hr hlk (u_leftE hC) hd) _ _ ls _ _ hC I hl)

/-! SwapPress.span(IIII)I -/
def uf_X0_span_J50 (n : Nat) (d : UD) (u : UM) (t0 : Int32) : Option ((Int32 × UM) × UC) :=
  some ((t0, u), (0, 0))
def uf_X0_span_J42 (n : Nat) (d : UD) (u : UM) (t0 : Int32) (t1 : Int32) (t2 : Int32) (t3 : Nat) : Option ((Int32 × UM) × UC) :=
  m_b (u_cl u 8 t3) (fun f18 => u_bc u.2 (uf_X8_span n d u t3 t2 t1 t0) (fun r21 u22 => uf_X0_span_J50 n d u22 r21))
def uf_X0_span (n : Nat) (d : UD) (u : UM) (t : Nat) (p0 : Int32) (p1 : Int32) (p2 : Int32) (p3 : Int32) : Option ((Int32 × UM) × UC) :=
  m_b (u_cl u 1 t) (fun f1 => m_b (uf_X0_areAll n d u t p0 p1 p2) (fun r4 => m_if ((r4 : Int32) = 0) (some (((-2), u), (0, 0))) (m_b (uf_X0_in n d u ((p3 : Int32).toInt64) 0 1) (fun r7 => m_if ((r7 : Int32) = 0) (uf_X0_span_J50 n d u ((-3))) (m_b (u_cl u 1 t) (fun f9 => u_bc u.2 (uf_X0_pressing n d u t p2) (fun r12 u13 => m_if ((p3 : Int32) = (1 : Int32)) (uf_X0_span_J42 n d u13 1 p1 p0 r12) (uf_X0_span_J42 n d u13 0 p1 p0 r12))))))))
theorem uh_X0_span : yX0_span.cls = RX0 ∧ yX0_span.cls ≠ "java/lang/invoke/MethodHandle" ∧ yX0_span.cls ≠ "java/lang/invoke/VarHandle" ∧ (parseMethodDescriptor yX0_span.desc).map (fun d => d.parameters.length) = some 4 := by decide +kernel
section S_X0_span
variable {p : Program} {l : Launch} {e : Env} {R : Room} {s : State} {m : MethodId} {args : Array Value} {below : List Frame} {meth : Method} {c : Code} {Q : State → Prop} {D : va_G} {A : Nat → Prop} {d : UD}
theorem uw_X0_span (X : u_X RX0 D A d p s m c cX0_span 5 args) (hA : ∀ q, s.heap.size ≤ q → A q) (hR : 5 ≤ R.frames ∧ 139 ≤ R.locals) (n : Nat) (u : UM) (t : Nat) (p0 : Int32) (p1 : Int32) (p2 : Int32) (p3 : Int32) (r0 : Int32) (ur : UM) (C : UC) (h : uf_X0_span n d u t p0 p1 p2 p3 = some ((r0, ur), C)) (hret : ∀ (H : Heap) (locs : List Loc) (ls : Array Slot) (pc cells slots : Nat), decode cX0_span pc = .ok (.ireturn, 1) → u_left R cells slots (u_add (0, 0) (0, 0)) → u_I D A s.heap ur H locs cells → W p l e R s m args below meth c H locs cells slots Q (F0 m pc ls [.int r0])) : ∀ (H : Heap) (locs : List Loc) (ls : Array Slot) (cells slots : Nat), u_left R cells slots (u_add C (0, 0)) → u_I D A s.heap u H locs cells → lv_has ls 5 [(0, .ref t), (1, .int p0), (2, .int p1), (3, .int p2), (4, .int p3)] → W p l e R s m args below meth c H locs cells slots Q (F0 m 0 ls []) := by
  have k50 : ∀ (u : UM) (t0 : Int32) (H : Heap) (locs : List Loc) (ls : Array Slot) (cells slots : Nat) (C : UC), uf_X0_span_J50 n d u t0 = some ((r0, ur), C) → u_left R cells slots (u_add C (0, 0)) → u_I D A s.heap u H locs cells → lv_has ls 5 [] → W p l e R s m args below meth c H locs cells slots Q (F0 m 50 ls [.int t0]) := by
    intro u t0 H locs ls cells slots C h hC I hl
    unfold uf_X0_span_J50 at h
    obtain ⟨he, rfl⟩ := m_e3 h
    obtain ⟨rfl, rfl⟩ := m_e4 he
    exact hret H locs ls 50 _ _ dX0_span_50 hC I
  have k42 : ∀ (u : UM) (t0 : Int32) (t1 : Int32) (t2 : Int32) (t3 : Nat) (H : Heap) (locs : List Loc) (ls : Array Slot) (cells slots : Nat) (C : UC), uf_X0_span_J42 n d u t0 t1 t2 t3 = some ((r0, ur), C) → u_left R cells slots (u_add C (0, 0)) → u_I D A s.heap u H locs cells → lv_has ls 5 [] → W p l e R s m args below meth c H locs cells slots Q (F0 m 42 ls [.int t0, .int t1, .int t2, .ref t3]) := by
    intro u t0 t1 t2 t3 H locs ls cells slots C h hC I hl
    unfold uf_X0_span_J42 at h
    obtain ⟨f18, e19, h⟩ := m_bS h
    obtain ⟨r21, u22, C23, C24, e20, z25, h, hq⟩ := u_bcS h
    rw [hq] at hC
    refine u_callV X hl.1 I hA (As := [.int t2, .int t1, .int t0]) (rest := []) (uk_X8_span l n D d u t3 t2 t1 t0 _ _ _ e20) z25 (u_clS e19) (C := RX8) (T := TX8) (N := 6) rfl 3 q1287 q1143 q1144 q125 q1145 uh_X8_span rfl rfl ⟨Nat.le_trans (Nat.le_of_ble_eq_true rfl) hR.1, Nat.le_trans (Nat.le_of_ble_eq_true rfl) hR.2⟩ hC (stk := [.int r21]) rfl (Nat.le_of_ble_eq_true rfl) dX0_span_42 (fun H locs cells slots hC I => ?_)
    refine lv_goto (tgt := 50) X.1 X.2.1 dX0_span_45 (by decide) ?_
    exact k50 u22 r21 H locs ls _ _ _ h hC I (lv_sub hl [] rfl)
  intro H locs ls cells slots hC I hl
  unfold uf_X0_span at h
  refine lv_aload_n X.1 X.2.1 dX0_span_0 rfl (lv_at hl 0 rfl) ?_
  refine lv_iload_n X.1 X.2.1 dX0_span_1 rfl (lv_at hl 1 rfl) ?_
  refine lv_iload_n X.1 X.2.1 dX0_span_2 rfl (lv_at hl 2 rfl) ?_
  refine lv_iload_n X.1 X.2.1 dX0_span_3 rfl (lv_at hl 3 rfl) ?_
  obtain ⟨f1, e2, h⟩ := m_bS h
  obtain ⟨r4, e3, h⟩ := m_bS h
  refine u_callVp X hl.1 I hA (As := [.int p0, .int p1, .int p2]) (rest := []) (uk_X0_areAll l n D d u t p0 p1 p2 _ e3) (u_clS e2) (C := RX0) (T := TX0) (N := 9) rfl 3 q1169 q1171 qs31 q101 q1172 uh_X0_areAll rfl rfl ⟨Nat.le_trans (Nat.le_of_ble_eq_true rfl) hR.1, Nat.le_trans (Nat.le_of_ble_eq_true rfl) hR.2⟩ (u_leftLe hC) (stk := [.int r4]) rfl (Nat.le_of_ble_eq_true rfl) dX0_span_4 (fun H locs I => ?_)
  refine lv_if_ne (tgt := 13) X.1 X.2.1 dX0_span_7 (by decide) (fun c5 => ?_) (fun c5 => ?_)
  · replace h := m_ifF c5 h
    refine lv_iload X.1 X.2.1 dX0_span_13 (lv_at hl 4 rfl) ?_
    refine lv_i2l X.1 X.2.1 dX0_span_15 rfl ?_
    refine lv_lconst (v := 0) X.1 X.2.1 dX0_span_16 (by decide) ?_
    refine lv_lconst (v := 1) X.1 X.2.1 dX0_span_17 (by decide) ?_
    obtain ⟨r7, e6, h⟩ := m_bS h
    refine u_callSp X hl.1 I hA (As := [.long ((p3 : Int32).toInt64), .long 0, .long 1]) (rest := []) (uk_X0_in l n D d u ((p3 : Int32).toInt64) 0 1 _ e6) 3 q279 q280 q101 q281 uh_X0_in.2 rfl rfl ⟨Nat.le_trans (Nat.le_of_ble_eq_true rfl) hR.1, Nat.le_trans (Nat.le_of_ble_eq_true rfl) hR.2⟩ (u_leftLe hC) (stk := [.int r7]) rfl (Nat.le_of_ble_eq_true rfl) dX0_span_18 (fun H locs I => ?_)
    refine lv_if_eq (tgt := 48) X.1 X.2.1 dX0_span_21 (by decide) (fun c8 => ?_) (fun c8 => ?_)
    · replace h := m_ifT c8 h
      refine lv_bipush (v := (-3)) X.1 X.2.1 dX0_span_48 (by decide) ?_
      exact k50 u ((-3)) H locs ls _ _ _ h hC I (lv_sub hl [] rfl)
    · replace h := m_ifF c8 h
      refine lv_aload_n X.1 X.2.1 dX0_span_24 rfl (lv_at hl 0 rfl) ?_
      refine lv_iload_n X.1 X.2.1 dX0_span_25 rfl (lv_at hl 3 rfl) ?_
      obtain ⟨f9, e10, h⟩ := m_bS h
      obtain ⟨r12, u13, C14, C15, e11, z16, h, hq⟩ := u_bcS h
      rw [hq] at hC
      refine u_callV X hl.1 I hA (As := [.int p2]) (rest := []) (uk_X0_pressing l n D d u t p2 _ _ _ e11) z16 (u_clS e10) (C := RX0) (T := TX0) (N := 9) rfl 1 q1267 q1269 qs37 q101 q1270 uh_X0_pressing rfl rfl ⟨Nat.le_trans (Nat.le_of_ble_eq_true rfl) hR.1, Nat.le_trans (Nat.le_of_ble_eq_true rfl) hR.2⟩ hC (stk := [.ref r12]) rfl (Nat.le_of_ble_eq_true rfl) dX0_span_26 (fun H locs cells slots hC I => ?_)
      refine lv_iload_n X.1 X.2.1 dX0_span_29 rfl (lv_at hl 1 rfl) ?_
      refine lv_iload_n X.1 X.2.1 dX0_span_30 rfl (lv_at hl 2 rfl) ?_
      refine lv_iload X.1 X.2.1 dX0_span_31 (lv_at hl 4 rfl) ?_
      refine lv_iconst (v := 1) X.1 X.2.1 dX0_span_33 (by decide) ?_
      refine lv_icmp_ne (tgt := 41) X.1 X.2.1 dX0_span_34 (by decide) (fun c17 => ?_) (fun c17 => ?_)
      · replace h := m_ifF c17 h
        refine lv_iconst (v := 0) X.1 X.2.1 dX0_span_41 (by decide) ?_
        exact k42 u13 0 p1 p0 r12 H locs ls _ _ _ h hC I (lv_sub hl [] rfl)
      · replace h := m_ifT c17 h
        refine lv_iconst (v := 1) X.1 X.2.1 dX0_span_37 (by decide) ?_
        refine lv_goto (tgt := 42) X.1 X.2.1 dX0_span_38 (by decide) ?_
        exact k42 u13 1 p1 p0 r12 H locs ls _ _ _ h hC I (lv_sub hl [] rfl)
  · replace h := m_ifT c5 h
    refine lv_bipush (v := (-2)) X.1 X.2.1 dX0_span_10 (by decide) ?_
    obtain ⟨he, rfl⟩ := m_e3 h
    obtain ⟨rfl, rfl⟩ := m_e4 he
    exact hret H locs ls 12 _ _ dX0_span_12 hC I
end S_X0_span
theorem uk_X0_span (l : Launch) (n : Nat) (D : va_G) (d : UD) (u : UM) (t : Nat) (p0 : Int32) (p1 : Int32) (p2 : Int32) (p3 : Int32) (r0 : Int32) (ur : UM) (C : UC) (h : uf_X0_span n d u t p0 p1 p2 p3 = some ((r0, ur), C)) : u_M l yX0_span (ws_ yX0_span cX0_span 5 (some .int)) 5 139 C D d u [.ref t, .int p0, .int p1, .int p2, .int p3] (some (.int r0)) ur :=
  u_start (own := RX0) (lvl := [(0, .ref t), (1, .int p0), (2, .int p1), (3, .int p2), (4, .int p3)]) (by decide) rfl (Nat.le_of_ble_eq_true rfl) rfl (fun p e s m args below meth c ls X hr hlk hI hl hA I hC => uw_X0_span X hA ⟨Nat.le_refl _, Nat.le_refl _⟩ n u t p0 p1 p2 p3 r0 ur C h (fun H locs ls pc cells slots hd hC I => u_iret X I hr hlk (u_leftE hC) hd) _ _ ls _ _ hC I hl)

/-! SwapPress.pressing(IIII)LSwapPress$Press; -/
def uf_X0_pressing_2_J68 (n : Nat) (d : UD) (u : UM) (t0 : Int32) (t1 : Nat) (t2 : Nat) (t3 : Int32) (t4 : Nat) (t5 : Nat) (t6 : Nat) : Option ((Nat × UM) × UC) :=
  u_bc u.2 (uf_X8_init n d u t5 t4 t3 t2 t1 t0) (fun r47 u48 => some ((t6, u48), (0, 0)))
def uf_X0_pressing_2 (n : Nat) (d : UD) (u : UM) (t : Nat) (p0 : Int32) (p1 : Int32) (p2 : Int32) (p3 : Int32) : Option ((Nat × UM) × UC) :=
  m_b (u_fr d u 1 0 t) (fun b1 => m_b (u_cl u 2 b1) (fun f3 => u_bc u.2 (uf_X1_flows n d u b1 p0) (fun r6 u7 => u_ac (1, 6) (m_b (some (u_nw u7 (.inr (8, [.int 0, .null, .null, .null, .null, .null])))) (fun u12 => m_b (u_fr d u12 1 0 t) (fun b14 => m_b (u_cl u12 2 b14) (fun f16 => m_b (uf_X1_many n d u12 b14) (fun r19 => m_b (u_fr d u12 1 0 t) (fun b20 => m_b (u_ni u12 2 4 b20) (fun b22 => m_b (u_fr d u12 1 0 t) (fun b24 => m_b (u_nr u12 2 3 b24) (fun b26 => u_bc u12.2 (uf_X9_by n d u12 b22 r6 b26) (fun r29 u30 => m_b (u_fc (u_cl u30 9 r29) (some ()) (u_fc (u_cl u30 10 r29) (some ()) (u_fc (u_cl u30 11 r29) (some ()) (none)))) (fun (_ : Unit) => u_bc u30.2 (uf_X9_but n d u30 r29 p1 p2 p3) (fun r36 u37 => m_b (u_fr d u37 1 0 t) (fun b41 => m_b (u_ni u37 2 4 b41) (fun b43 => m_if ((b43 : Int32) = (3 : Int32)) (uf_X0_pressing_2_J68 n d u37 1 r36 r6 r19 t u7.2 u7.2) (uf_X0_pressing_2_J68 n d u37 0 r36 r6 r19 t u7.2 u7.2))))))))))))))))))
theorem uh_X0_pressing_2 : yX0_pressing_2.cls = RX0 ∧ yX0_pressing_2.cls ≠ "java/lang/invoke/MethodHandle" ∧ yX0_pressing_2.cls ≠ "java/lang/invoke/VarHandle" ∧ (parseMethodDescriptor yX0_pressing_2.desc).map (fun d => d.parameters.length) = some 4 := by decide +kernel
section S_X0_pressing_2
variable {p : Program} {l : Launch} {e : Env} {R : Room} {s : State} {m : MethodId} {args : Array Value} {below : List Frame} {meth : Method} {c : Code} {Q : State → Prop} {D : va_G} {A : Nat → Prop} {d : UD}
theorem uw_X0_pressing_2 (X : u_X RX0 D A d p s m c cX0_pressing_2 6 args) (hA : ∀ q, s.heap.size ≤ q → A q) (hR : 4 ≤ R.frames ∧ 92 ≤ R.locals) (n : Nat) (u : UM) (t : Nat) (p0 : Int32) (p1 : Int32) (p2 : Int32) (p3 : Int32) (r0 : Nat) (ur : UM) (C : UC) (h : uf_X0_pressing_2 n d u t p0 p1 p2 p3 = some ((r0, ur), C)) (hret : ∀ (H : Heap) (locs : List Loc) (ls : Array Slot) (pc cells slots : Nat), decode cX0_pressing_2 pc = .ok (.areturn, 1) → u_left R cells slots (u_add (0, 0) (0, 0)) → u_I D A s.heap ur H locs cells → W p l e R s m args below meth c H locs cells slots Q (F0 m pc ls [.ref r0])) : ∀ (H : Heap) (locs : List Loc) (ls : Array Slot) (cells slots : Nat), u_left R cells slots (u_add C (0, 0)) → u_I D A s.heap u H locs cells → lv_has ls 6 [(0, .ref t), (1, .int p0), (2, .int p1), (3, .int p2), (4, .int p3)] → W p l e R s m args below meth c H locs cells slots Q (F0 m 0 ls []) := by
  have k68 : ∀ (u : UM) (t0 : Int32) (t1 : Nat) (t2 : Nat) (t3 : Int32) (t4 : Nat) (t5 : Nat) (t6 : Nat) (H : Heap) (locs : List Loc) (ls : Array Slot) (cells slots : Nat) (C : UC), uf_X0_pressing_2_J68 n d u t0 t1 t2 t3 t4 t5 t6 = some ((r0, ur), C) → u_left R cells slots (u_add C (0, 0)) → u_I D A s.heap u H locs cells → lv_has ls 6 [] → W p l e R s m args below meth c H locs cells slots Q (F0 m 68 ls [.int t0, .ref t1, .ref t2, .int t3, .ref t4, .ref t5, .ref t6]) := by
    intro u t0 t1 t2 t3 t4 t5 t6 H locs ls cells slots C h hC I hl
    unfold uf_X0_pressing_2_J68 at h
    obtain ⟨r47, u48, C49, C50, e46, z51, h, hq⟩ := u_bcS h
    rw [hq] at hC
    refine u_callI X hl.1 I hA (As := [.ref t4, .int t3, .ref t2, .ref t1, .int t0]) (rest := [.ref t6]) (uk_X8_init l n D d u t5 t4 t3 t2 t1 t0 _ _ e46) z51 5 q1059 q1060 q125 q1061 rfl uh_X8_init.2 rfl rfl ⟨Nat.le_trans (Nat.le_of_ble_eq_true rfl) hR.1, Nat.le_trans (Nat.le_of_ble_eq_true rfl) hR.2⟩ hC (Nat.le_of_ble_eq_true rfl) dX0_pressing_2_68 (fun H locs cells slots hC I => ?_)
    obtain ⟨he, rfl⟩ := m_e3 h
    obtain ⟨rfl, rfl⟩ := m_e4 he
    exact hret H locs ls 71 _ _ dX0_pressing_2_71 hC I
  intro H locs ls cells slots hC I hl
  unfold uf_X0_pressing_2 at h
  refine lv_aload_n X.1 X.2.1 dX0_pressing_2_0 rfl (lv_at hl 0 rfl) ?_
  obtain ⟨b1, e2, h⟩ := m_bS h
  refine u_Gr X I e2 (C := RX0) (T := TX0) (N := 9) (ref := "SwapPress") in_X0 rfl (by decide) rfl rfl q235 (fun _ h => h) dX0_pressing_2_1 ?_
  refine lv_iload_n X.1 X.2.1 dX0_pressing_2_4 rfl (lv_at hl 1 rfl) ?_
  obtain ⟨f3, e4, h⟩ := m_bS h
  obtain ⟨r6, u7, C8, C9, e5, z10, h, hq⟩ := u_bcS h
  rw [hq] at hC
  refine u_callV X hl.1 I hA (As := [.int p0]) (rest := []) (uk_X1_flows l n D d u b1 p0 _ _ _ e5) z10 (u_clS e4) (C := RX1) (T := TX1) (N := 5) rfl 1 q951 q952 q953 q102 q954 uh_X1_flows rfl rfl ⟨Nat.le_trans (Nat.le_of_ble_eq_true rfl) hR.1, Nat.le_trans (Nat.le_of_ble_eq_true rfl) hR.2⟩ hC (stk := [.ref r6]) rfl (Nat.le_of_ble_eq_true rfl) dX0_pressing_2_5 (fun H locs cells slots hC I => ?_)
  refine lv_astore (lv' := [(5, .ref r6), (0, .ref t), (1, .int p0), (2, .int p1), (3, .int p2), (4, .int p3)]) X.1 X.2.1 dX0_pressing_2_8 hl (by decide) rfl (fun ls hl => ?_)
  obtain ⟨C11, h, hq⟩ := u_acS h
  rw [hq] at hC
  obtain ⟨u12, e13, h⟩ := m_bS h
  refine u_NO X I hA 8 (C := RX8) (T := TX8) (N := 6) in_X8 tyX8 tyX8_ok q1024 q1025 q125 rfl (fs := [.int 0, .null, .null, .null, .null, .null]) e13 (fun j hj => by match j, hj with | 0, _ => rfl | 1, _ => rfl | 2, _ => rfl | 3, _ => rfl | 4, _ => rfl | 5, _ => rfl) hC dX0_pressing_2_10 (fun H cells slots hC I => ?_)
  refine lv_dup X.1 X.2.1 dX0_pressing_2_13 rfl ?_
  refine lv_aload_n X.1 X.2.1 dX0_pressing_2_14 rfl (lv_at hl 1 rfl) ?_
  refine lv_aload_n X.1 X.2.1 dX0_pressing_2_15 rfl (lv_at hl 1 rfl) ?_
  obtain ⟨b14, e15, h⟩ := m_bS h
  refine u_Gr X I e15 (C := RX0) (T := TX0) (N := 9) (ref := "SwapPress") in_X0 rfl (by decide) rfl rfl q235 (fun _ h => h) dX0_pressing_2_16 ?_
  obtain ⟨f16, e17, h⟩ := m_bS h
  obtain ⟨r19, e18, h⟩ := m_bS h
  refine u_callVp X hl.1 I hA (As := []) (rest := [.ref t, .ref u7.2, .ref u7.2]) (uk_X1_many l n D d u12 b14 _ e18) (u_clS e17) (C := RX1) (T := TX1) (N := 5) rfl 0 q870 q871 q872 q102 q873 uh_X1_many rfl rfl ⟨Nat.le_trans (Nat.le_of_ble_eq_true rfl) hR.1, Nat.le_trans (Nat.le_of_ble_eq_true rfl) hR.2⟩ (u_leftLe hC) (stk := [.int r19, .ref t, .ref u7.2, .ref u7.2]) rfl (Nat.le_of_ble_eq_true rfl) dX0_pressing_2_19 (fun H locs I => ?_)
  refine lv_aload X.1 X.2.1 dX0_pressing_2_22 (lv_at hl 0 rfl) ?_
  refine lv_aload_n X.1 X.2.1 dX0_pressing_2_24 rfl (lv_at hl 1 rfl) ?_
  obtain ⟨b20, e21, h⟩ := m_bS h
  refine u_Gr X I e21 (C := RX0) (T := TX0) (N := 9) (ref := "SwapPress") in_X0 rfl (by decide) rfl rfl q235 (fun _ h => h) dX0_pressing_2_25 ?_
  obtain ⟨b22, e23, h⟩ := m_bS h
  refine u_GiN X I e23 (C := RX1) (T := TX1) (N := 5) (ref := "SwapPress$State") (host := "SwapPress") in_X1 rfl (by decide) rfl rfl 8 rfl (fun _ h => h) dX0_pressing_2_28 ?_
  refine lv_aload X.1 X.2.1 dX0_pressing_2_31 (lv_at hl 0 rfl) ?_
  refine lv_aload_n X.1 X.2.1 dX0_pressing_2_33 rfl (lv_at hl 1 rfl) ?_
  obtain ⟨b24, e25, h⟩ := m_bS h
  refine u_Gr X I e25 (C := RX0) (T := TX0) (N := 9) (ref := "SwapPress") in_X0 rfl (by decide) rfl rfl q235 (fun _ h => h) dX0_pressing_2_34 ?_
  obtain ⟨b26, e27, h⟩ := m_bS h
  refine u_GrN X I e27 (C := RX1) (T := TX1) (N := 5) (ref := "SwapPress$State") (host := "SwapPress") in_X1 rfl (by decide) rfl rfl 6 rfl (fun _ h => h) dX0_pressing_2_37 ?_
  obtain ⟨r29, u30, C31, C32, e28, z33, h, hq⟩ := u_bcS h
  rw [hq] at hC
  refine u_callS X hl.1 I hA (As := [.int b22, .ref r6, .ref b26]) (rest := [.ref r6, .int r19, .ref t, .ref u7.2, .ref u7.2]) (uk_X9_by l n D d u12 b22 r6 b26 _ _ _ e28) z33 3 q1026 q1027 q126 q1028 uh_X9_by.2 rfl rfl ⟨Nat.le_trans (Nat.le_of_ble_eq_true rfl) hR.1, Nat.le_trans (Nat.le_of_ble_eq_true rfl) hR.2⟩ hC (stk := [.ref r29, .ref r6, .int r19, .ref t, .ref u7.2, .ref u7.2]) rfl (Nat.le_of_ble_eq_true rfl) dX0_pressing_2_40 (fun H locs cells slots hC I => ?_)
  refine lv_iload_n X.1 X.2.1 dX0_pressing_2_43 rfl (lv_at hl 3 rfl) ?_
  refine lv_iload_n X.1 X.2.1 dX0_pressing_2_44 rfl (lv_at hl 4 rfl) ?_
  refine lv_iload X.1 X.2.1 dX0_pressing_2_45 (lv_at hl 5 rfl) ?_
  obtain ⟨_, e34, h⟩ := m_bS h
  obtain ⟨r36, u37, C38, C39, e35, z40, h, hq⟩ := u_bcS h
  rw [hq] at hC
  suffices kq : (∀ (H : Heap) (locs : List Loc) (cells slots : Nat), u_left R cells slots (u_add C39 (0, 0)) → u_I D A s.heap u37 H locs cells → W p l e R s m args below meth c H locs cells slots Q (F0 m 52 ls [.ref r36, .ref r6, .int r19, .ref t, .ref u7.2, .ref u7.2])) from by
    rcases u_fcS e34 with ⟨f, ef, ee⟩ | e34
    · exact u_callFD X hl.1 I hA (As := [.int p1, .int p2, .int p3]) (rest := [.ref r6, .int r19, .ref t, .ref u7.2, .ref u7.2]) (uk_X9_but l n D d u30 r29 p1 p2 p3 _ _ _ e35) z40 (u_clS ef) (C := RX10) (T := TX10) (N := 1) rfl 3 12 2 rfl rfl q1297 q1301 q126 q1303 uh_X9_but.2 rfl rfl ⟨Nat.le_trans (Nat.le_of_ble_eq_true rfl) hR.1, Nat.le_trans (Nat.le_of_ble_eq_true rfl) hR.2⟩ hC (stk := [.ref r36, .ref r6, .int r19, .ref t, .ref u7.2, .ref u7.2]) rfl (Nat.le_of_ble_eq_true rfl) dX0_pressing_2_47 kq
    rcases u_fcS e34 with ⟨f, ef, ee⟩ | e34
    · exact u_callFD X hl.1 I hA (As := [.int p1, .int p2, .int p3]) (rest := [.ref r6, .int r19, .ref t, .ref u7.2, .ref u7.2]) (uk_X9_but l n D d u30 r29 p1 p2 p3 _ _ _ e35) z40 (u_clS ef) (C := RX11) (T := TX11) (N := 1) rfl 3 11 1 rfl rfl q1297 q1301 q126 q1303 uh_X9_but.2 rfl rfl ⟨Nat.le_trans (Nat.le_of_ble_eq_true rfl) hR.1, Nat.le_trans (Nat.le_of_ble_eq_true rfl) hR.2⟩ hC (stk := [.ref r36, .ref r6, .int r19, .ref t, .ref u7.2, .ref u7.2]) rfl (Nat.le_of_ble_eq_true rfl) dX0_pressing_2_47 kq
    rcases u_fcS e34 with ⟨f, ef, ee⟩ | e34
    · exact u_callFD X hl.1 I hA (As := [.int p1, .int p2, .int p3]) (rest := [.ref r6, .int r19, .ref t, .ref u7.2, .ref u7.2]) (uk_X9_but l n D d u30 r29 p1 p2 p3 _ _ _ e35) z40 (u_clS ef) (C := RX12) (T := TX12) (N := 1) rfl 3 10 0 rfl rfl q1297 q1301 q126 q1303 uh_X9_but.2 rfl rfl ⟨Nat.le_trans (Nat.le_of_ble_eq_true rfl) hR.1, Nat.le_trans (Nat.le_of_ble_eq_true rfl) hR.2⟩ hC (stk := [.ref r36, .ref r6, .int r19, .ref t, .ref u7.2, .ref u7.2]) rfl (Nat.le_of_ble_eq_true rfl) dX0_pressing_2_47 kq
    cases e34
  intro H locs cells slots hC I
  refine lv_aload_n X.1 X.2.1 dX0_pressing_2_52 rfl (lv_at hl 1 rfl) ?_
  obtain ⟨b41, e42, h⟩ := m_bS h
  refine u_Gr X I e42 (C := RX0) (T := TX0) (N := 9) (ref := "SwapPress") in_X0 rfl (by decide) rfl rfl q235 (fun _ h => h) dX0_pressing_2_53 ?_
  obtain ⟨b43, e44, h⟩ := m_bS h
  refine u_GiN X I e44 (C := RX1) (T := TX1) (N := 5) (ref := "SwapPress$State") (host := "SwapPress") in_X1 rfl (by decide) rfl rfl 8 rfl (fun _ h => h) dX0_pressing_2_56 ?_
  refine lv_iconst (v := 3) X.1 X.2.1 dX0_pressing_2_59 (by decide) ?_
  refine lv_icmp_ne (tgt := 67) X.1 X.2.1 dX0_pressing_2_60 (by decide) (fun c45 => ?_) (fun c45 => ?_)
  · replace h := m_ifF c45 h
    refine lv_iconst (v := 0) X.1 X.2.1 dX0_pressing_2_67 (by decide) ?_
    exact k68 u37 0 r36 r6 r19 t u7.2 u7.2 H locs ls _ _ _ h hC I (lv_sub hl [] rfl)
  · replace h := m_ifT c45 h
    refine lv_iconst (v := 1) X.1 X.2.1 dX0_pressing_2_63 (by decide) ?_
    refine lv_goto (tgt := 68) X.1 X.2.1 dX0_pressing_2_64 (by decide) ?_
    exact k68 u37 1 r36 r6 r19 t u7.2 u7.2 H locs ls _ _ _ h hC I (lv_sub hl [] rfl)
end S_X0_pressing_2
theorem uk_X0_pressing_2 (l : Launch) (n : Nat) (D : va_G) (d : UD) (u : UM) (t : Nat) (p0 : Int32) (p1 : Int32) (p2 : Int32) (p3 : Int32) (r0 : Nat) (ur : UM) (C : UC) (h : uf_X0_pressing_2 n d u t p0 p1 p2 p3 = some ((r0, ur), C)) : u_M l yX0_pressing_2 (ws_ yX0_pressing_2 cX0_pressing_2 6 (some (.object "SwapPress$Press"))) 4 92 C D d u [.ref t, .int p0, .int p1, .int p2, .int p3] (some (.ref r0)) ur :=
  u_start (own := RX0) (lvl := [(0, .ref t), (1, .int p0), (2, .int p1), (3, .int p2), (4, .int p3)]) (by decide) rfl (Nat.le_of_ble_eq_true rfl) rfl (fun p e s m args below meth c ls X hr hlk hI hl hA I hC => uw_X0_pressing_2 X hA ⟨Nat.le_refl _, Nat.le_refl _⟩ n u t p0 p1 p2 p3 r0 ur C h (fun H locs ls pc cells slots hd hC I => u_aret (r := some r0) X I hr (Or.inl ⟨_, rfl⟩) hlk (u_leftE hC) hd) _ _ ls _ _ hC I hl)
