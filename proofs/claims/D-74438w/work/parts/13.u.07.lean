set_option maxRecDepth 100000
set_option maxHeartbeats 4000000
/-! SwapPress.without(II)I -/
def uf_X0_without_L34 (n : Nat) (d : UD) (v0 : Nat) (v1 : Int32) (v3 : Nat) (v4 : Int32) (v5 : Int32) (u : UM) : Option (((Int32 × Int32 × UM) ⊕ (Int32 × UM)) × UC) :=
  m_b (u_fr d u 1 0 v0) (fun b21 => m_b (u_cl u 2 b21) (fun f23 => m_b (uf_X1_many n d u b21) (fun r26 => m_if ((r26 : Int32) ≤ (v5 : Int32)) (some (.inr ((v4, u)), (0, 0))) (m_b (u_ldI d u v3 ((8 * v1) + v5)) (fun b28 => m_b (u_ldI d u v3 ((8 * v5) + v1)) (fun b30 => m_b (u_stI d u v3 ((8 * v1) + v5) 0) (fun w32 => m_b (u_stI d (w32, u.2) v3 ((8 * v5) + v1) 0) (fun w34 => some (.inl ((v4 + (b28 + b30), v5 + 1, (w34, u.2))), (0, 0))))))))))
def uf_X0_without_L34l (n : Nat) (d : UD) (v0 : Nat) (v1 : Int32) (v3 : Nat) (x : (Int32 × Int32 × UM)) : Option ((Int32 × UM) × UC) := u_lp (fun (x : (Int32 × Int32 × UM)) => uf_X0_without_L34 n d v0 v1 v3 x.1 x.2.1 x.2.2) n x
def uf_X0_without_J16 (n : Nat) (d : UD) (u : UM) : Option ((Int32 × UM) × UC) :=
  some (((-2), u), (0, 0))
def uf_X0_without_J121 (n : Nat) (d : UD) (u : UM) (t0 : Int32) : Option ((Int32 × UM) × UC) :=
  some ((t0, u), (0, 0))
def uf_X0_without (n : Nat) (d : UD) (u : UM) (t : Nat) (p0 : Int32) (p1 : Int32) : Option ((Int32 × UM) × UC) :=
  m_b (u_cl u 1 t) (fun f1 => m_b (uf_X0_isParty n d u t p0) (fun r4 => m_if ((r4 : Int32) = 0) (uf_X0_without_J16 n d u ) (m_b (u_cl u 1 t) (fun f6 => m_b (uf_X0_isKind n d u t p1) (fun r9 => m_if ((r9 : Int32) = 0) (uf_X0_without_J16 n d u ) (m_b (u_fr d u 1 0 t) (fun b11 => m_b (u_cl u 2 b11) (fun f13 => u_bc u.2 (uf_X1_flows n d u b11 p1) (fun r16 u17 => u_bl (uf_X0_without_L34l n d t p0 r16 ((0, 0, u17))) (fun y56 => m_b (u_cl y56.2 1 t) (fun f39 => u_bc y56.2.2 (uf_X0_press_2 n d y56.2 t r16) (fun r42 u43 => m_b (u_cl u43 8 r42) (fun f47 => u_bc u43.2 (uf_X8_least n d u43 r42) (fun r50 u51 => m_if ((r50 : Int32) = ((-1) : Int32)) (uf_X0_without_J121 n d u51 ((-1))) (uf_X0_without_J121 n d u51 (r50 + y56.1))))))))))))))))
theorem uh_X0_without : yX0_without.cls = RX0 ∧ yX0_without.cls ≠ "java/lang/invoke/MethodHandle" ∧ yX0_without.cls ≠ "java/lang/invoke/VarHandle" ∧ (parseMethodDescriptor yX0_without.desc).map (fun d => d.parameters.length) = some 2 := by decide +kernel
section S_X0_without
variable {p : Program} {l : Launch} {e : Env} {R : Room} {s : State} {m : MethodId} {args : Array Value} {below : List Frame} {meth : Method} {c : Code} {Q : State → Prop} {D : va_G} {A : Nat → Prop} {d : UD}
theorem wuf_X0_without_L34 (X : u_X RX0 D A d p s m c cX0_without 6 args) (hA : ∀ q, s.heap.size ≤ q → A q) (hR : 5 ≤ R.frames ∧ 139 ≤ R.locals) (n : Nat) (v0 : Nat) (v1 : Int32) (v3 : Nat) (x : (Int32 × Int32 × UM)) (z : (Int32 × UM)) (C cr : UC) (hz : uf_X0_without_L34l n d v0 v1 v3 x = some (z, C)) (hE : (fun (z : (Int32 × UM)) (C : UC) => ∀ (H : Heap) (locs : List Loc) (ls : Array Slot) (cells slots : Nat), u_left R cells slots C → u_I D A s.heap z.2 H locs cells → lv_has ls 6 [(0, .ref v0), (3, .ref v3), (4, .int z.1)] → W p l e R s m args below meth c H locs cells slots Q (F0 m 96 ls [])) z cr) : (fun (x : (Int32 × Int32 × UM)) (C : UC) => ∀ (H : Heap) (locs : List Loc) (ls : Array Slot) (cells slots : Nat), u_left R cells slots C → u_I D A s.heap x.2.2 H locs cells → lv_has ls 6 [(0, .ref v0), (1, .int v1), (3, .ref v3), (4, .int x.1), (5, .int x.2.1)] → W p l e R s m args below meth c H locs cells slots Q (F0 m 34 ls [])) x (u_add C cr) := by
  refine u_lpW (G := fun (x : (Int32 × Int32 × UM)) (C : UC) => ∀ (H : Heap) (locs : List Loc) (ls : Array Slot) (cells slots : Nat), u_left R cells slots C → u_I D A s.heap x.2.2 H locs cells → lv_has ls 6 [(0, .ref v0), (1, .int v1), (3, .ref v3), (4, .int x.1), (5, .int x.2.1)] → W p l e R s m args below meth c H locs cells slots Q (F0 m 34 ls [])) (E := fun (z : (Int32 × UM)) (C : UC) => ∀ (H : Heap) (locs : List Loc) (ls : Array Slot) (cells slots : Nat), u_left R cells slots C → u_I D A s.heap z.2 H locs cells → lv_has ls 6 [(0, .ref v0), (3, .ref v3), (4, .int z.1)] → W p l e R s m args below meth c H locs cells slots Q (F0 m 96 ls [])) ?_ n x z C cr hz hE
  rintro ⟨v4, v5, u⟩ r C cr h hr H locs ls cells slots hC I hl
  replace h : uf_X0_without_L34 n d v0 v1 v3 v4 v5 u = some (r, C) := h
  unfold uf_X0_without_L34 at h
  refine lv_iload X.1 X.2.1 dX0_without_34 (lv_at hl 4 rfl) ?_
  refine lv_aload_n X.1 X.2.1 dX0_without_36 rfl (lv_at hl 0 rfl) ?_
  obtain ⟨b21, e22, h⟩ := m_bS h
  refine u_Gr X I e22 (C := RX0) (T := TX0) (N := 9) (ref := "SwapPress") in_X0 rfl (by decide) rfl rfl q235 (fun _ h => h) dX0_without_37 ?_
  obtain ⟨f23, e24, h⟩ := m_bS h
  obtain ⟨r26, e25, h⟩ := m_bS h
  refine u_callVp X hl.1 I hA (As := []) (rest := [.int v5]) (uk_X1_many l n D d u b21 _ e25) (u_clS e24) (C := RX1) (T := TX1) (N := 5) rfl 0 q870 q871 q872 q102 q873 uh_X1_many rfl rfl ⟨Nat.le_trans (Nat.le_of_ble_eq_true rfl) hR.1, Nat.le_trans (Nat.le_of_ble_eq_true rfl) hR.2⟩ (u_leftLe hC) (stk := [.int r26, .int v5]) rfl (Nat.le_of_ble_eq_true rfl) dX0_without_40 (fun H locs I => ?_)
  refine lv_icmp_ge (tgt := 96) X.1 X.2.1 dX0_without_43 (by decide) (fun c27 => ?_) (fun c27 => ?_)
  · replace h := m_ifT c27 h
    obtain ⟨rfl, rfl⟩ := m_e3 h
    exact hr H locs ls _ _ (u_left0 hC) I (lv_sub hl [0, 2, 3] rfl)
  · replace h := m_ifF c27 h
    refine lv_iload X.1 X.2.1 dX0_without_46 (lv_at hl 3 rfl) ?_
    refine lv_aload_n X.1 X.2.1 dX0_without_48 rfl (lv_at hl 2 rfl) ?_
    refine lv_bipush (v := 8) X.1 X.2.1 dX0_without_49 (by decide) ?_
    refine lv_iload_n X.1 X.2.1 dX0_without_51 rfl (lv_at hl 1 rfl) ?_
    refine lv_imul X.1 X.2.1 dX0_without_52 ?_
    refine lv_iload X.1 X.2.1 dX0_without_53 (lv_at hl 4 rfl) ?_
    refine lv_iadd X.1 X.2.1 dX0_without_55 ?_
    obtain ⟨b28, e29, h⟩ := m_bS h
    refine u_LI X I e29 dX0_without_56 ?_
    refine lv_aload_n X.1 X.2.1 dX0_without_57 rfl (lv_at hl 2 rfl) ?_
    refine lv_bipush (v := 8) X.1 X.2.1 dX0_without_58 (by decide) ?_
    refine lv_iload X.1 X.2.1 dX0_without_60 (lv_at hl 4 rfl) ?_
    refine lv_imul X.1 X.2.1 dX0_without_62 ?_
    refine lv_iload_n X.1 X.2.1 dX0_without_63 rfl (lv_at hl 1 rfl) ?_
    refine lv_iadd X.1 X.2.1 dX0_without_64 ?_
    obtain ⟨b30, e31, h⟩ := m_bS h
    refine u_LI X I e31 dX0_without_65 ?_
    refine lv_iadd X.1 X.2.1 dX0_without_66 ?_
    refine lv_iadd X.1 X.2.1 dX0_without_67 ?_
    refine lv_istore (lv' := [(4, .int (v4 + (b28 + b30))), (0, .ref v0), (1, .int v1), (3, .ref v3), (5, .int v5)]) X.1 X.2.1 dX0_without_68 hl (by decide) rfl (fun ls hl => ?_)
    refine lv_aload_n X.1 X.2.1 dX0_without_70 rfl (lv_at hl 3 rfl) ?_
    refine lv_bipush (v := 8) X.1 X.2.1 dX0_without_71 (by decide) ?_
    refine lv_iload_n X.1 X.2.1 dX0_without_73 rfl (lv_at hl 2 rfl) ?_
    refine lv_imul X.1 X.2.1 dX0_without_74 ?_
    refine lv_iload X.1 X.2.1 dX0_without_75 (lv_at hl 4 rfl) ?_
    refine lv_iadd X.1 X.2.1 dX0_without_77 ?_
    refine lv_iconst (v := 0) X.1 X.2.1 dX0_without_78 (by decide) ?_
    obtain ⟨w32, e33, h⟩ := m_bS h
    refine u_SI X I e33 dX0_without_79 (fun H locs I => ?_)
    refine lv_aload_n X.1 X.2.1 dX0_without_80 rfl (lv_at hl 3 rfl) ?_
    refine lv_bipush (v := 8) X.1 X.2.1 dX0_without_81 (by decide) ?_
    refine lv_iload X.1 X.2.1 dX0_without_83 (lv_at hl 4 rfl) ?_
    refine lv_imul X.1 X.2.1 dX0_without_85 ?_
    refine lv_iload_n X.1 X.2.1 dX0_without_86 rfl (lv_at hl 2 rfl) ?_
    refine lv_iadd X.1 X.2.1 dX0_without_87 ?_
    refine lv_iconst (v := 0) X.1 X.2.1 dX0_without_88 (by decide) ?_
    obtain ⟨w34, e35, h⟩ := m_bS h
    refine u_SI X I e35 dX0_without_89 (fun H locs I => ?_)
    refine lv_iinc (v := v5 + 1) (lv' := [(5, .int (v5 + 1)), (4, .int (v4 + (b28 + b30))), (0, .ref v0), (1, .int v1), (3, .ref v3)]) X.1 X.2.1 dX0_without_90 hl (k := 4) rfl rfl (by decide) rfl (fun ls hl => ?_)
    refine lv_goto (tgt := 34) X.1 X.2.1 dX0_without_93 (by decide) ?_
    obtain ⟨rfl, rfl⟩ := m_e3 h
    exact hr H locs ls _ _ (u_left0 hC) I (lv_sub hl [2, 3, 4, 1, 0] rfl)
theorem uw_X0_without (X : u_X RX0 D A d p s m c cX0_without 6 args) (hA : ∀ q, s.heap.size ≤ q → A q) (hR : 5 ≤ R.frames ∧ 139 ≤ R.locals) (n : Nat) (u : UM) (t : Nat) (p0 : Int32) (p1 : Int32) (r0 : Int32) (ur : UM) (C : UC) (h : uf_X0_without n d u t p0 p1 = some ((r0, ur), C)) (hret : ∀ (H : Heap) (locs : List Loc) (ls : Array Slot) (pc cells slots : Nat), decode cX0_without pc = .ok (.ireturn, 1) → u_left R cells slots (u_add (0, 0) (0, 0)) → u_I D A s.heap ur H locs cells → W p l e R s m args below meth c H locs cells slots Q (F0 m pc ls [.int r0])) : ∀ (H : Heap) (locs : List Loc) (ls : Array Slot) (cells slots : Nat), u_left R cells slots (u_add C (0, 0)) → u_I D A s.heap u H locs cells → lv_has ls 6 [(0, .ref t), (1, .int p0), (2, .int p1)] → W p l e R s m args below meth c H locs cells slots Q (F0 m 0 ls []) := by
  have k16 : ∀ (u : UM) (H : Heap) (locs : List Loc) (ls : Array Slot) (cells slots : Nat) (C : UC), uf_X0_without_J16 n d u = some ((r0, ur), C) → u_left R cells slots (u_add C (0, 0)) → u_I D A s.heap u H locs cells → lv_has ls 6 [] → W p l e R s m args below meth c H locs cells slots Q (F0 m 16 ls []) := by
    intro u H locs ls cells slots C h hC I hl
    unfold uf_X0_without_J16 at h
    refine lv_bipush (v := (-2)) X.1 X.2.1 dX0_without_16 (by decide) ?_
    obtain ⟨he, rfl⟩ := m_e3 h
    obtain ⟨rfl, rfl⟩ := m_e4 he
    exact hret H locs ls 18 _ _ dX0_without_18 hC I
  have k121 : ∀ (u : UM) (t0 : Int32) (H : Heap) (locs : List Loc) (ls : Array Slot) (cells slots : Nat) (C : UC), uf_X0_without_J121 n d u t0 = some ((r0, ur), C) → u_left R cells slots (u_add C (0, 0)) → u_I D A s.heap u H locs cells → lv_has ls 6 [] → W p l e R s m args below meth c H locs cells slots Q (F0 m 121 ls [.int t0]) := by
    intro u t0 H locs ls cells slots C h hC I hl
    unfold uf_X0_without_J121 at h
    obtain ⟨he, rfl⟩ := m_e3 h
    obtain ⟨rfl, rfl⟩ := m_e4 he
    exact hret H locs ls 121 _ _ dX0_without_121 hC I
  intro H locs ls cells slots hC I hl
  unfold uf_X0_without at h
  refine lv_aload_n X.1 X.2.1 dX0_without_0 rfl (lv_at hl 0 rfl) ?_
  refine lv_iload_n X.1 X.2.1 dX0_without_1 rfl (lv_at hl 1 rfl) ?_
  obtain ⟨f1, e2, h⟩ := m_bS h
  obtain ⟨r4, e3, h⟩ := m_bS h
  refine u_callVp X hl.1 I hA (As := [.int p0]) (rest := []) (uk_X0_isParty l n D d u t p0 _ e3) (u_clS e2) (C := RX0) (T := TX0) (N := 9) rfl 1 q866 q868 qs19 q101 q869 uh_X0_isParty rfl rfl ⟨Nat.le_trans (Nat.le_of_ble_eq_true rfl) hR.1, Nat.le_trans (Nat.le_of_ble_eq_true rfl) hR.2⟩ (u_leftLe hC) (stk := [.int r4]) rfl (Nat.le_of_ble_eq_true rfl) dX0_without_2 (fun H locs I => ?_)
  refine lv_if_eq (tgt := 16) X.1 X.2.1 dX0_without_5 (by decide) (fun c5 => ?_) (fun c5 => ?_)
  · replace h := m_ifT c5 h
    exact k16 u H locs ls _ _ _ h hC I (lv_sub hl [] rfl)
  · replace h := m_ifF c5 h
    refine lv_aload_n X.1 X.2.1 dX0_without_8 rfl (lv_at hl 0 rfl) ?_
    refine lv_iload_n X.1 X.2.1 dX0_without_9 rfl (lv_at hl 2 rfl) ?_
    obtain ⟨f6, e7, h⟩ := m_bS h
    obtain ⟨r9, e8, h⟩ := m_bS h
    refine u_callVp X hl.1 I hA (As := [.int p1]) (rest := []) (uk_X0_isKind l n D d u t p1 _ e8) (u_clS e7) (C := RX0) (T := TX0) (N := 9) rfl 1 q875 q877 qs20 q101 q878 uh_X0_isKind rfl rfl ⟨Nat.le_trans (Nat.le_of_ble_eq_true rfl) hR.1, Nat.le_trans (Nat.le_of_ble_eq_true rfl) hR.2⟩ (u_leftLe hC) (stk := [.int r9]) rfl (Nat.le_of_ble_eq_true rfl) dX0_without_10 (fun H locs I => ?_)
    refine lv_if_ne (tgt := 19) X.1 X.2.1 dX0_without_13 (by decide) (fun c10 => ?_) (fun c10 => ?_)
    · replace h := m_ifF c10 h
      refine lv_aload_n X.1 X.2.1 dX0_without_19 rfl (lv_at hl 0 rfl) ?_
      obtain ⟨b11, e12, h⟩ := m_bS h
      refine u_Gr X I e12 (C := RX0) (T := TX0) (N := 9) (ref := "SwapPress") in_X0 rfl (by decide) rfl rfl q235 (fun _ h => h) dX0_without_20 ?_
      refine lv_iload_n X.1 X.2.1 dX0_without_23 rfl (lv_at hl 2 rfl) ?_
      obtain ⟨f13, e14, h⟩ := m_bS h
      obtain ⟨r16, u17, C18, C19, e15, z20, h, hq⟩ := u_bcS h
      rw [hq] at hC
      refine u_callV X hl.1 I hA (As := [.int p1]) (rest := []) (uk_X1_flows l n D d u b11 p1 _ _ _ e15) z20 (u_clS e14) (C := RX1) (T := TX1) (N := 5) rfl 1 q951 q952 q953 q102 q954 uh_X1_flows rfl rfl ⟨Nat.le_trans (Nat.le_of_ble_eq_true rfl) hR.1, Nat.le_trans (Nat.le_of_ble_eq_true rfl) hR.2⟩ hC (stk := [.ref r16]) rfl (Nat.le_of_ble_eq_true rfl) dX0_without_24 (fun H locs cells slots hC I => ?_)
      refine lv_astore_n (lv' := [(3, .ref r16), (0, .ref t), (1, .int p0), (2, .int p1)]) X.1 X.2.1 dX0_without_27 rfl hl (by decide) rfl (fun ls hl => ?_)
      refine lv_iconst (v := 0) X.1 X.2.1 dX0_without_28 (by decide) ?_
      refine lv_istore (lv' := [(4, .int 0), (3, .ref r16), (0, .ref t), (1, .int p0), (2, .int p1)]) X.1 X.2.1 dX0_without_29 hl (by decide) rfl (fun ls hl => ?_)
      refine lv_iconst (v := 0) X.1 X.2.1 dX0_without_31 (by decide) ?_
      refine lv_istore (lv' := [(5, .int 0), (4, .int 0), (3, .ref r16), (0, .ref t), (1, .int p0), (2, .int p1)]) X.1 X.2.1 dX0_without_32 hl (by decide) rfl (fun ls hl => ?_)
      obtain ⟨⟨z37, u38⟩, C57, C58, e36, h, hq⟩ := u_blS h
      rw [hq] at hC
      refine wuf_X0_without_L34 X hA hR n t p0 r16 _ _ _ _ e36 (fun H locs ls cells slots hC I hl => ?_) H locs ls _ _ (u_left2 hC) I (lv_sub hl [3, 4, 2, 1, 0] rfl)
      refine lv_aload_n X.1 X.2.1 dX0_without_96 rfl (lv_at hl 0 rfl) ?_
      refine lv_aload_n X.1 X.2.1 dX0_without_97 rfl (lv_at hl 1 rfl) ?_
      obtain ⟨f39, e40, h⟩ := m_bS h
      obtain ⟨r42, u43, C44, C45, e41, z46, h, hq⟩ := u_bcS h
      rw [hq] at hC
      refine u_callV X hl.1 I hA (As := [.ref r16]) (rest := []) (uk_X0_press_2 l n D d u38 t r16 _ _ _ e41) z46 (u_clS e40) (C := RX0) (T := TX0) (N := 9) rfl 1 q1020 q1022 qs28 q101 q1023 uh_X0_press_2 rfl rfl ⟨Nat.le_trans (Nat.le_of_ble_eq_true rfl) hR.1, Nat.le_trans (Nat.le_of_ble_eq_true rfl) hR.2⟩ hC (stk := [.ref r42]) rfl (Nat.le_of_ble_eq_true rfl) dX0_without_98 (fun H locs cells slots hC I => ?_)
      obtain ⟨f47, e48, h⟩ := m_bS h
      obtain ⟨r50, u51, C52, C53, e49, z54, h, hq⟩ := u_bcS h
      rw [hq] at hC
      refine u_callV X hl.1 I hA (As := []) (rest := []) (uk_X8_least l n D d u43 r42 _ _ _ e49) z54 (u_clS e48) (C := RX8) (T := TX8) (N := 6) rfl 0 q1271 q1272 q1273 q125 q1274 uh_X8_least rfl rfl ⟨Nat.le_trans (Nat.le_of_ble_eq_true rfl) hR.1, Nat.le_trans (Nat.le_of_ble_eq_true rfl) hR.2⟩ hC (stk := [.int r50]) rfl (Nat.le_of_ble_eq_true rfl) dX0_without_101 (fun H locs cells slots hC I => ?_)
      refine lv_istore (lv' := [(5, .int r50), (0, .ref t), (3, .ref r16), (4, .int z37)]) X.1 X.2.1 dX0_without_104 hl (by decide) rfl (fun ls hl => ?_)
      refine lv_iload X.1 X.2.1 dX0_without_106 (lv_at hl 0 rfl) ?_
      refine lv_iconst (v := (-1)) X.1 X.2.1 dX0_without_108 (by decide) ?_
      refine lv_icmp_ne (tgt := 116) X.1 X.2.1 dX0_without_109 (by decide) (fun c55 => ?_) (fun c55 => ?_)
      · replace h := m_ifF c55 h
        refine lv_iload X.1 X.2.1 dX0_without_116 (lv_at hl 0 rfl) ?_
        refine lv_iload X.1 X.2.1 dX0_without_118 (lv_at hl 3 rfl) ?_
        refine lv_iadd X.1 X.2.1 dX0_without_120 ?_
        exact k121 u51 (r50 + z37) H locs ls _ _ _ h hC I (lv_sub hl [] rfl)
      · replace h := m_ifT c55 h
        refine lv_iconst (v := (-1)) X.1 X.2.1 dX0_without_112 (by decide) ?_
        refine lv_goto (tgt := 121) X.1 X.2.1 dX0_without_113 (by decide) ?_
        exact k121 u51 ((-1)) H locs ls _ _ _ h hC I (lv_sub hl [] rfl)
    · replace h := m_ifT c10 h
      exact k16 u H locs ls _ _ _ h hC I (lv_sub hl [] rfl)
end S_X0_without
theorem uk_X0_without (l : Launch) (n : Nat) (D : va_G) (d : UD) (u : UM) (t : Nat) (p0 : Int32) (p1 : Int32) (r0 : Int32) (ur : UM) (C : UC) (h : uf_X0_without n d u t p0 p1 = some ((r0, ur), C)) : u_M l yX0_without (ws_ yX0_without cX0_without 6 (some .int)) 5 139 C D d u [.ref t, .int p0, .int p1] (some (.int r0)) ur :=
  u_start (own := RX0) (lvl := [(0, .ref t), (1, .int p0), (2, .int p1)]) (by decide) rfl (Nat.le_of_ble_eq_true rfl) rfl (fun p e s m args below meth c ls X hr hlk hI hl hA I hC => uw_X0_without X hA ⟨Nat.le_refl _, Nat.le_refl _⟩ n u t p0 p1 r0 ur C h (fun H locs ls pc cells slots hd hC I => u_iret X I hr hlk (u_leftE hC) hd) _ _ ls _ _ hC I hl)

/-! SwapPress.reliefOf(II[I)I -/
def uf_X0_reliefOf_L28 (n : Nat) (d : UD) (u : UM) (v0 : Nat) (v1 : Int32) (v3 : Nat) (v4 : Int32) (v5 : Int32) : Option ((Int32 × Int32) ⊕ Int32) :=
  m_b (u_fr d u 1 0 v0) (fun b13 => m_b (u_cl u 2 b13) (fun f15 => m_b (uf_X1_many n d u b13) (fun r18 => m_if ((r18 : Int32) ≤ (v5 : Int32)) (some (.inr v4)) (m_b (u_ldI d u v3 ((8 * v1) + v5)) (fun b20 => m_b (u_ldI d u v3 ((8 * v5) + v1)) (fun b22 => some (.inl ((v4 - (b20 + b22), v5 + 1)))))))))
def uf_X0_reliefOf_L28l (n : Nat) (d : UD) (u : UM) (v0 : Nat) (v1 : Int32) (v3 : Nat) (x : (Int32 × Int32)) : Option Int32 := m_lp (fun (x : (Int32 × Int32)) => uf_X0_reliefOf_L28 n d u v0 v1 v3 x.1 x.2) n x
def uf_X0_reliefOf (n : Nat) (d : UD) (u : UM) (t : Nat) (p0 : Int32) (p1 : Int32) (p2 : Nat) : Option Int32 :=
  m_b (u_fr d u 1 0 t) (fun b1 => m_b (u_cl u 2 b1) (fun f3 => m_b (uf_X1_side n d u b1 p0 p1 1 1) (fun r6 => m_b (u_fr d u 1 0 t) (fun b7 => m_b (u_cl u 2 b7) (fun f9 => m_b (uf_X1_side n d u b7 p0 p1 0 1) (fun r12 => m_b (uf_X0_reliefOf_L28l n d u t p0 p2 ((r6 + r12, 0))) (fun z25 => some z25)))))))
theorem uh_X0_reliefOf : yX0_reliefOf.cls = RX0 ∧ yX0_reliefOf.cls ≠ "java/lang/invoke/MethodHandle" ∧ yX0_reliefOf.cls ≠ "java/lang/invoke/VarHandle" ∧ (parseMethodDescriptor yX0_reliefOf.desc).map (fun d => d.parameters.length) = some 3 := by decide +kernel
section S_X0_reliefOf
variable {p : Program} {l : Launch} {e : Env} {R : Room} {s : State} {m : MethodId} {args : Array Value} {below : List Frame} {meth : Method} {c : Code} {Q : State → Prop} {D : va_G} {A : Nat → Prop} {d : UD} {cells slots : Nat}
theorem wuf_X0_reliefOf_L28 (X : u_X RX0 D A d p s m c cX0_reliefOf 6 args) (hA : ∀ q, s.heap.size ≤ q → A q) (hR : 4 ≤ R.frames ∧ 91 ≤ R.locals) (hf : cells ≤ R.cells ∧ slots ≤ R.slots) (n : Nat) (u : UM) (v0 : Nat) (v1 : Int32) (v3 : Nat) (x : (Int32 × Int32)) (z : Int32) (hz : uf_X0_reliefOf_L28l n d u v0 v1 v3 x = some z) (hE : (fun (z : Int32) => ∀ (H : Heap) (locs : List Loc) (ls : Array Slot), u_I D A s.heap u H locs cells → lv_has ls 6 [(4, .int z)] → W p l e R s m args below meth c H locs cells slots Q (F0 m 70 ls [])) z) : (fun (x : (Int32 × Int32)) => ∀ (H : Heap) (locs : List Loc) (ls : Array Slot), u_I D A s.heap u H locs cells → lv_has ls 6 [(0, .ref v0), (1, .int v1), (3, .ref v3), (4, .int x.1), (5, .int x.2)] → W p l e R s m args below meth c H locs cells slots Q (F0 m 28 ls [])) x := by
  refine m_lpW (G := fun (x : (Int32 × Int32)) => ∀ (H : Heap) (locs : List Loc) (ls : Array Slot), u_I D A s.heap u H locs cells → lv_has ls 6 [(0, .ref v0), (1, .int v1), (3, .ref v3), (4, .int x.1), (5, .int x.2)] → W p l e R s m args below meth c H locs cells slots Q (F0 m 28 ls [])) (E := fun (z : Int32) => ∀ (H : Heap) (locs : List Loc) (ls : Array Slot), u_I D A s.heap u H locs cells → lv_has ls 6 [(4, .int z)] → W p l e R s m args below meth c H locs cells slots Q (F0 m 70 ls [])) ?_ n x z hz hE
  rintro ⟨v4, v5⟩ r h hr H locs ls I hl
  replace h : uf_X0_reliefOf_L28 n d u v0 v1 v3 v4 v5 = some r := h
  unfold uf_X0_reliefOf_L28 at h
  refine lv_iload X.1 X.2.1 dX0_reliefOf_28 (lv_at hl 4 rfl) ?_
  refine lv_aload_n X.1 X.2.1 dX0_reliefOf_30 rfl (lv_at hl 0 rfl) ?_
  obtain ⟨b13, e14, h⟩ := m_bS h
  refine u_Gr X I e14 (C := RX0) (T := TX0) (N := 9) (ref := "SwapPress") in_X0 rfl (by decide) rfl rfl q235 (fun _ h => h) dX0_reliefOf_31 ?_
  obtain ⟨f15, e16, h⟩ := m_bS h
  obtain ⟨r18, e17, h⟩ := m_bS h
  refine u_callVp X hl.1 I hA (As := []) (rest := [.int v5]) (uk_X1_many l n D d u b13 _ e17) (u_clS e16) (C := RX1) (T := TX1) (N := 5) rfl 0 q870 q871 q872 q102 q873 uh_X1_many rfl rfl ⟨Nat.le_trans (Nat.le_of_ble_eq_true rfl) hR.1, Nat.le_trans (Nat.le_of_ble_eq_true rfl) hR.2⟩ hf (stk := [.int r18, .int v5]) rfl (Nat.le_of_ble_eq_true rfl) dX0_reliefOf_34 (fun H locs I => ?_)
  refine lv_icmp_ge (tgt := 70) X.1 X.2.1 dX0_reliefOf_37 (by decide) (fun c19 => ?_) (fun c19 => ?_)
  · replace h := m_ifT c19 h
    cases h
    exact hr H locs ls I (lv_sub hl [3] rfl)
  · replace h := m_ifF c19 h
    refine lv_iload X.1 X.2.1 dX0_reliefOf_40 (lv_at hl 3 rfl) ?_
    refine lv_aload_n X.1 X.2.1 dX0_reliefOf_42 rfl (lv_at hl 2 rfl) ?_
    refine lv_bipush (v := 8) X.1 X.2.1 dX0_reliefOf_43 (by decide) ?_
    refine lv_iload_n X.1 X.2.1 dX0_reliefOf_45 rfl (lv_at hl 1 rfl) ?_
    refine lv_imul X.1 X.2.1 dX0_reliefOf_46 ?_
    refine lv_iload X.1 X.2.1 dX0_reliefOf_47 (lv_at hl 4 rfl) ?_
    refine lv_iadd X.1 X.2.1 dX0_reliefOf_49 ?_
    obtain ⟨b20, e21, h⟩ := m_bS h
    refine u_LI X I e21 dX0_reliefOf_50 ?_
    refine lv_aload_n X.1 X.2.1 dX0_reliefOf_51 rfl (lv_at hl 2 rfl) ?_
    refine lv_bipush (v := 8) X.1 X.2.1 dX0_reliefOf_52 (by decide) ?_
    refine lv_iload X.1 X.2.1 dX0_reliefOf_54 (lv_at hl 4 rfl) ?_
    refine lv_imul X.1 X.2.1 dX0_reliefOf_56 ?_
    refine lv_iload_n X.1 X.2.1 dX0_reliefOf_57 rfl (lv_at hl 1 rfl) ?_
    refine lv_iadd X.1 X.2.1 dX0_reliefOf_58 ?_
    obtain ⟨b22, e23, h⟩ := m_bS h
    refine u_LI X I e23 dX0_reliefOf_59 ?_
    refine lv_iadd X.1 X.2.1 dX0_reliefOf_60 ?_
    refine lv_isub X.1 X.2.1 dX0_reliefOf_61 ?_
    refine lv_istore (lv' := [(4, .int (v4 - (b20 + b22))), (0, .ref v0), (1, .int v1), (3, .ref v3), (5, .int v5)]) X.1 X.2.1 dX0_reliefOf_62 hl (by decide) rfl (fun ls hl => ?_)
    refine lv_iinc (v := v5 + 1) (lv' := [(5, .int (v5 + 1)), (4, .int (v4 - (b20 + b22))), (0, .ref v0), (1, .int v1), (3, .ref v3)]) X.1 X.2.1 dX0_reliefOf_64 hl (k := 4) rfl rfl (by decide) rfl (fun ls hl => ?_)
    refine lv_goto (tgt := 28) X.1 X.2.1 dX0_reliefOf_67 (by decide) ?_
    cases h
    exact hr H locs ls I (lv_sub hl [2, 3, 4, 1, 0] rfl)
theorem uw_X0_reliefOf (X : u_X RX0 D A d p s m c cX0_reliefOf 6 args) (hA : ∀ q, s.heap.size ≤ q → A q) (hR : 4 ≤ R.frames ∧ 91 ≤ R.locals) (hf : cells ≤ R.cells ∧ slots ≤ R.slots) (n : Nat) (u : UM) (t : Nat) (p0 : Int32) (p1 : Int32) (p2 : Nat) (r : Int32) (h : uf_X0_reliefOf n d u t p0 p1 p2 = some r) (hret : ∀ (H : Heap) (locs : List Loc) (ls : Array Slot) (pc : Nat), decode cX0_reliefOf pc = .ok (.ireturn, 1) → u_I D A s.heap u H locs cells → W p l e R s m args below meth c H locs cells slots Q (F0 m pc ls [.int r])) : ∀ (H : Heap) (locs : List Loc) (ls : Array Slot), u_I D A s.heap u H locs cells → lv_has ls 6 [(0, .ref t), (1, .int p0), (2, .int p1), (3, .ref p2)] → W p l e R s m args below meth c H locs cells slots Q (F0 m 0 ls []) := by
  intro H locs ls I hl
  unfold uf_X0_reliefOf at h
  refine lv_aload_n X.1 X.2.1 dX0_reliefOf_0 rfl (lv_at hl 0 rfl) ?_
  obtain ⟨b1, e2, h⟩ := m_bS h
  refine u_Gr X I e2 (C := RX0) (T := TX0) (N := 9) (ref := "SwapPress") in_X0 rfl (by decide) rfl rfl q235 (fun _ h => h) dX0_reliefOf_1 ?_
  refine lv_iload_n X.1 X.2.1 dX0_reliefOf_4 rfl (lv_at hl 1 rfl) ?_
  refine lv_iload_n X.1 X.2.1 dX0_reliefOf_5 rfl (lv_at hl 2 rfl) ?_
  refine lv_iconst (v := 1) X.1 X.2.1 dX0_reliefOf_6 (by decide) ?_
  refine lv_iconst (v := 1) X.1 X.2.1 dX0_reliefOf_7 (by decide) ?_
  obtain ⟨f3, e4, h⟩ := m_bS h
  obtain ⟨r6, e5, h⟩ := m_bS h
  refine u_callVp X hl.1 I hA (As := [.int p0, .int p1, .int 1, .int 1]) (rest := []) (uk_X1_side l n D d u b1 p0 p1 1 1 _ e5) (u_clS e4) (C := RX1) (T := TX1) (N := 5) rfl 4 q1205 q1187 q1188 q102 q1189 uh_X1_side rfl rfl ⟨Nat.le_trans (Nat.le_of_ble_eq_true rfl) hR.1, Nat.le_trans (Nat.le_of_ble_eq_true rfl) hR.2⟩ hf (stk := [.int r6]) rfl (Nat.le_of_ble_eq_true rfl) dX0_reliefOf_8 (fun H locs I => ?_)
  refine lv_aload_n X.1 X.2.1 dX0_reliefOf_11 rfl (lv_at hl 0 rfl) ?_
  obtain ⟨b7, e8, h⟩ := m_bS h
  refine u_Gr X I e8 (C := RX0) (T := TX0) (N := 9) (ref := "SwapPress") in_X0 rfl (by decide) rfl rfl q235 (fun _ h => h) dX0_reliefOf_12 ?_
  refine lv_iload_n X.1 X.2.1 dX0_reliefOf_15 rfl (lv_at hl 1 rfl) ?_
  refine lv_iload_n X.1 X.2.1 dX0_reliefOf_16 rfl (lv_at hl 2 rfl) ?_
  refine lv_iconst (v := 0) X.1 X.2.1 dX0_reliefOf_17 (by decide) ?_
  refine lv_iconst (v := 1) X.1 X.2.1 dX0_reliefOf_18 (by decide) ?_
  obtain ⟨f9, e10, h⟩ := m_bS h
  obtain ⟨r12, e11, h⟩ := m_bS h
  refine u_callVp X hl.1 I hA (As := [.int p0, .int p1, .int 0, .int 1]) (rest := [.int r6]) (uk_X1_side l n D d u b7 p0 p1 0 1 _ e11) (u_clS e10) (C := RX1) (T := TX1) (N := 5) rfl 4 q1205 q1187 q1188 q102 q1189 uh_X1_side rfl rfl ⟨Nat.le_trans (Nat.le_of_ble_eq_true rfl) hR.1, Nat.le_trans (Nat.le_of_ble_eq_true rfl) hR.2⟩ hf (stk := [.int r12, .int r6]) rfl (Nat.le_of_ble_eq_true rfl) dX0_reliefOf_19 (fun H locs I => ?_)
  refine lv_iadd X.1 X.2.1 dX0_reliefOf_22 ?_
  refine lv_istore (lv' := [(4, .int (r6 + r12)), (0, .ref t), (1, .int p0), (2, .int p1), (3, .ref p2)]) X.1 X.2.1 dX0_reliefOf_23 hl (by decide) rfl (fun ls hl => ?_)
  refine lv_iconst (v := 0) X.1 X.2.1 dX0_reliefOf_25 (by decide) ?_
  refine lv_istore (lv' := [(5, .int 0), (4, .int (r6 + r12)), (0, .ref t), (1, .int p0), (2, .int p1), (3, .ref p2)]) X.1 X.2.1 dX0_reliefOf_26 hl (by decide) rfl (fun ls hl => ?_)
  obtain ⟨z25, e24, h⟩ := m_bS h
  refine wuf_X0_reliefOf_L28 X hA hR hf n u t p0 p2 _ _ e24 (fun H locs ls I hl => ?_) H locs ls I (lv_sub hl [2, 3, 5, 1, 0] rfl)
  refine lv_iload X.1 X.2.1 dX0_reliefOf_70 (lv_at hl 0 rfl) ?_
  obtain rfl := m_e1 h
  exact hret H locs ls 72 dX0_reliefOf_72 I
end S_X0_reliefOf
theorem uk_X0_reliefOf (l : Launch) (n : Nat) (D : va_G) (d : UD) (u : UM) (t : Nat) (p0 : Int32) (p1 : Int32) (p2 : Nat) (r : Int32) (h : uf_X0_reliefOf n d u t p0 p1 p2 = some r) : u_M l yX0_reliefOf (ws_ yX0_reliefOf cX0_reliefOf 6 (some .int)) 4 91 (0, 0) D d u [.ref t, .int p0, .int p1, .ref p2] (some (.int r)) u :=
  u_start (own := RX0) (lvl := [(0, .ref t), (1, .int p0), (2, .int p1), (3, .ref p2)]) (by decide) rfl (Nat.le_of_ble_eq_true rfl) rfl (fun p e s m args below meth c ls X hr hlk hI hl hA I hC => uw_X0_reliefOf X hA ⟨Nat.le_refl _, Nat.le_refl _⟩ ⟨Nat.zero_le _, Nat.zero_le _⟩ n u t p0 p1 p2 r h (fun H locs ls pc hd I => u_iret X I hr hlk ⟨rfl, rfl⟩ hd) _ _ ls I hl)

/-! SwapPress.relieved(I)I -/
def uf_X0_relieved_J66 (n : Nat) (d : UD) (u : UM) (v0 : Nat) (v1 : Int32) (v2 : Nat) (v3 : Int32) (v4 : Int32) : Option (((Int32 × Int32 × UM) ⊕ (Int32 × UM)) × UC) :=
  some (.inl ((v3, v4 + 1, u)), (0, 0))
def uf_X0_relieved_J63 (n : Nat) (d : UD) (u : UM) (v0 : Nat) (v1 : Int32) (v2 : Nat) (v4 : Int32) : Option (((Int32 × Int32 × UM) ⊕ (Int32 × UM)) × UC) :=
  uf_X0_relieved_J66 n d u v0 v1 v2 v4 v4
def uf_X0_relieved_L28 (n : Nat) (d : UD) (v0 : Nat) (v1 : Int32) (v2 : Nat) (v3 : Int32) (v4 : Int32) (u : UM) : Option (((Int32 × Int32 × UM) ⊕ (Int32 × UM)) × UC) :=
  m_b (u_fr d u 1 0 v0) (fun b16 => m_b (u_cl u 2 b16) (fun f18 => m_b (uf_X1_many n d u b16) (fun r21 => m_if ((r21 : Int32) ≤ (v4 : Int32)) (some (.inr ((v3, u)), (0, 0))) (m_if ((v3 : Int32) = ((-1) : Int32)) (uf_X0_relieved_J63 n d u v0 v1 v2 v4) (m_b (u_cl u 1 v0) (fun f24 => m_b (uf_X0_reliefOf n d u v0 v4 v1 v2) (fun r27 => m_b (u_cl u 1 v0) (fun f28 => m_b (uf_X0_reliefOf n d u v0 v3 v1 v2) (fun r31 => m_if ((r27 : Int32) ≤ (r31 : Int32)) (uf_X0_relieved_J66 n d u v0 v1 v2 v3 v4) (uf_X0_relieved_J63 n d u v0 v1 v2 v4))))))))))
def uf_X0_relieved_L28l (n : Nat) (d : UD) (v0 : Nat) (v1 : Int32) (v2 : Nat) (x : (Int32 × Int32 × UM)) : Option ((Int32 × UM) × UC) := u_lp (fun (x : (Int32 × Int32 × UM)) => uf_X0_relieved_L28 n d v0 v1 v2 x.1 x.2.1 x.2.2) n x
def uf_X0_relieved (n : Nat) (d : UD) (u : UM) (t : Nat) (p0 : Int32) : Option ((Int32 × UM) × UC) :=
  m_b (u_cl u 1 t) (fun f1 => m_b (uf_X0_isKind n d u t p0) (fun r4 => m_if ((r4 : Int32) = 0) (some (((-2), u), (0, 0))) (m_b (u_cl u 1 t) (fun f6 => u_bc u.2 (uf_X0_first n d u t p0) (fun r9 u10 => u_qn r9 (some (((-1), u10), (0, 0))) (fun a15 => u_bl (uf_X0_relieved_L28l n d t p0 a15 (((-1), 0, u10))) (fun y36 => some ((y36.1, y36.2), (0, 0)))))))))
theorem uh_X0_relieved : yX0_relieved.cls = RX0 ∧ yX0_relieved.cls ≠ "java/lang/invoke/MethodHandle" ∧ yX0_relieved.cls ≠ "java/lang/invoke/VarHandle" ∧ (parseMethodDescriptor yX0_relieved.desc).map (fun d => d.parameters.length) = some 1 := by decide +kernel
section S_X0_relieved
variable {p : Program} {l : Launch} {e : Env} {R : Room} {s : State} {m : MethodId} {args : Array Value} {below : List Frame} {meth : Method} {c : Code} {Q : State → Prop} {D : va_G} {A : Nat → Prop} {d : UD}
theorem wuf_X0_relieved_L28 (X : u_X RX0 D A d p s m c cX0_relieved 5 args) (hA : ∀ q, s.heap.size ≤ q → A q) (hR : 7 ≤ R.frames ∧ 185 ≤ R.locals) (n : Nat) (v0 : Nat) (v1 : Int32) (v2 : Nat) (x : (Int32 × Int32 × UM)) (z : (Int32 × UM)) (C cr : UC) (hz : uf_X0_relieved_L28l n d v0 v1 v2 x = some (z, C)) (hE : (fun (z : (Int32 × UM)) (C : UC) => ∀ (H : Heap) (locs : List Loc) (ls : Array Slot) (cells slots : Nat), u_left R cells slots C → u_I D A s.heap z.2 H locs cells → lv_has ls 5 [(3, .int z.1)] → W p l e R s m args below meth c H locs cells slots Q (F0 m 72 ls [])) z cr) : (fun (x : (Int32 × Int32 × UM)) (C : UC) => ∀ (H : Heap) (locs : List Loc) (ls : Array Slot) (cells slots : Nat), u_left R cells slots C → u_I D A s.heap x.2.2 H locs cells → lv_has ls 5 [(0, .ref v0), (1, .int v1), (2, .ref v2), (3, .int x.1), (4, .int x.2.1)] → W p l e R s m args below meth c H locs cells slots Q (F0 m 28 ls [])) x (u_add C cr) := by
  refine u_lpW (G := fun (x : (Int32 × Int32 × UM)) (C : UC) => ∀ (H : Heap) (locs : List Loc) (ls : Array Slot) (cells slots : Nat), u_left R cells slots C → u_I D A s.heap x.2.2 H locs cells → lv_has ls 5 [(0, .ref v0), (1, .int v1), (2, .ref v2), (3, .int x.1), (4, .int x.2.1)] → W p l e R s m args below meth c H locs cells slots Q (F0 m 28 ls [])) (E := fun (z : (Int32 × UM)) (C : UC) => ∀ (H : Heap) (locs : List Loc) (ls : Array Slot) (cells slots : Nat), u_left R cells slots C → u_I D A s.heap z.2 H locs cells → lv_has ls 5 [(3, .int z.1)] → W p l e R s m args below meth c H locs cells slots Q (F0 m 72 ls [])) ?_ n x z C cr hz hE
  rintro ⟨v3, v4, u⟩ r C cr h hr H locs ls cells slots hC I hl
  replace h : uf_X0_relieved_L28 n d v0 v1 v2 v3 v4 u = some (r, C) := h
  have k66 : ∀ (u : UM) (v3 : Int32) (v4 : Int32) (H : Heap) (locs : List Loc) (ls : Array Slot) (cells slots : Nat) (C : UC), uf_X0_relieved_J66 n d u v0 v1 v2 v3 v4 = some (r, C) → u_left R cells slots (u_add C cr) → u_I D A s.heap u H locs cells → lv_has ls 5 [(0, .ref v0), (1, .int v1), (2, .ref v2), (3, .int v3), (4, .int v4)] → W p l e R s m args below meth c H locs cells slots Q (F0 m 66 ls []) := by
    intro u v3 v4 H locs ls cells slots C h hC I hl
    unfold uf_X0_relieved_J66 at h
    refine lv_iinc (v := v4 + 1) (lv' := [(4, .int (v4 + 1)), (0, .ref v0), (1, .int v1), (2, .ref v2), (3, .int v3)]) X.1 X.2.1 dX0_relieved_66 hl (k := 4) rfl rfl (by decide) rfl (fun ls hl => ?_)
    refine lv_goto (tgt := 28) X.1 X.2.1 dX0_relieved_69 (by decide) ?_
    obtain ⟨rfl, rfl⟩ := m_e3 h
    exact hr H locs ls _ _ (u_left0 hC) I (lv_sub hl [1, 2, 3, 4, 0] rfl)
  have k63 : ∀ (u : UM) (v4 : Int32) (H : Heap) (locs : List Loc) (ls : Array Slot) (cells slots : Nat) (C : UC), uf_X0_relieved_J63 n d u v0 v1 v2 v4 = some (r, C) → u_left R cells slots (u_add C cr) → u_I D A s.heap u H locs cells → lv_has ls 5 [(0, .ref v0), (1, .int v1), (2, .ref v2), (4, .int v4)] → W p l e R s m args below meth c H locs cells slots Q (F0 m 63 ls []) := by
    intro u v4 H locs ls cells slots C h hC I hl
    unfold uf_X0_relieved_J63 at h
    refine lv_iload X.1 X.2.1 dX0_relieved_63 (lv_at hl 3 rfl) ?_
    refine lv_istore_n (lv' := [(3, .int v4), (0, .ref v0), (1, .int v1), (2, .ref v2), (4, .int v4)]) X.1 X.2.1 dX0_relieved_65 rfl hl (by decide) rfl (fun ls hl => ?_)
    exact k66 u v4 v4 H locs ls _ _ _ h hC I (lv_sub hl [1, 2, 3, 0, 4] rfl)
  unfold uf_X0_relieved_L28 at h
  refine lv_iload X.1 X.2.1 dX0_relieved_28 (lv_at hl 4 rfl) ?_
  refine lv_aload_n X.1 X.2.1 dX0_relieved_30 rfl (lv_at hl 0 rfl) ?_
  obtain ⟨b16, e17, h⟩ := m_bS h
  refine u_Gr X I e17 (C := RX0) (T := TX0) (N := 9) (ref := "SwapPress") in_X0 rfl (by decide) rfl rfl q235 (fun _ h => h) dX0_relieved_31 ?_
  obtain ⟨f18, e19, h⟩ := m_bS h
  obtain ⟨r21, e20, h⟩ := m_bS h
  refine u_callVp X hl.1 I hA (As := []) (rest := [.int v4]) (uk_X1_many l n D d u b16 _ e20) (u_clS e19) (C := RX1) (T := TX1) (N := 5) rfl 0 q870 q871 q872 q102 q873 uh_X1_many rfl rfl ⟨Nat.le_trans (Nat.le_of_ble_eq_true rfl) hR.1, Nat.le_trans (Nat.le_of_ble_eq_true rfl) hR.2⟩ (u_leftLe hC) (stk := [.int r21, .int v4]) rfl (Nat.le_of_ble_eq_true rfl) dX0_relieved_34 (fun H locs I => ?_)
  refine lv_icmp_ge (tgt := 72) X.1 X.2.1 dX0_relieved_37 (by decide) (fun c22 => ?_) (fun c22 => ?_)
  · replace h := m_ifT c22 h
    obtain ⟨rfl, rfl⟩ := m_e3 h
    exact hr H locs ls _ _ (u_left0 hC) I (lv_sub hl [3] rfl)
  · replace h := m_ifF c22 h
    refine lv_iload_n X.1 X.2.1 dX0_relieved_40 rfl (lv_at hl 3 rfl) ?_
    refine lv_iconst (v := (-1)) X.1 X.2.1 dX0_relieved_41 (by decide) ?_
    refine lv_icmp_eq (tgt := 63) X.1 X.2.1 dX0_relieved_42 (by decide) (fun c23 => ?_) (fun c23 => ?_)
    · replace h := m_ifT c23 h
      exact k63 u v4 H locs ls _ _ _ h hC I (lv_sub hl [0, 1, 2, 4] rfl)
    · replace h := m_ifF c23 h
      refine lv_aload_n X.1 X.2.1 dX0_relieved_45 rfl (lv_at hl 0 rfl) ?_
      refine lv_iload X.1 X.2.1 dX0_relieved_46 (lv_at hl 4 rfl) ?_
      refine lv_iload_n X.1 X.2.1 dX0_relieved_48 rfl (lv_at hl 1 rfl) ?_
      refine lv_aload_n X.1 X.2.1 dX0_relieved_49 rfl (lv_at hl 2 rfl) ?_
      obtain ⟨f24, e25, h⟩ := m_bS h
      obtain ⟨r27, e26, h⟩ := m_bS h
      refine u_callVp X hl.1 I hA (As := [.int v4, .int v1, .ref v2]) (rest := []) (uk_X0_reliefOf l n D d u v0 v4 v1 v2 _ e26) (u_clS e25) (C := RX0) (T := TX0) (N := 9) rfl 3 q1334 q1336 qs39 q101 q1337 uh_X0_reliefOf rfl rfl ⟨Nat.le_trans (Nat.le_of_ble_eq_true rfl) hR.1, Nat.le_trans (Nat.le_of_ble_eq_true rfl) hR.2⟩ (u_leftLe hC) (stk := [.int r27]) rfl (Nat.le_of_ble_eq_true rfl) dX0_relieved_50 (fun H locs I => ?_)
      refine lv_aload_n X.1 X.2.1 dX0_relieved_53 rfl (lv_at hl 0 rfl) ?_
      refine lv_iload_n X.1 X.2.1 dX0_relieved_54 rfl (lv_at hl 3 rfl) ?_
      refine lv_iload_n X.1 X.2.1 dX0_relieved_55 rfl (lv_at hl 1 rfl) ?_
      refine lv_aload_n X.1 X.2.1 dX0_relieved_56 rfl (lv_at hl 2 rfl) ?_
      obtain ⟨f28, e29, h⟩ := m_bS h
      obtain ⟨r31, e30, h⟩ := m_bS h
      refine u_callVp X hl.1 I hA (As := [.int v3, .int v1, .ref v2]) (rest := [.int r27]) (uk_X0_reliefOf l n D d u v0 v3 v1 v2 _ e30) (u_clS e29) (C := RX0) (T := TX0) (N := 9) rfl 3 q1334 q1336 qs39 q101 q1337 uh_X0_reliefOf rfl rfl ⟨Nat.le_trans (Nat.le_of_ble_eq_true rfl) hR.1, Nat.le_trans (Nat.le_of_ble_eq_true rfl) hR.2⟩ (u_leftLe hC) (stk := [.int r31, .int r27]) rfl (Nat.le_of_ble_eq_true rfl) dX0_relieved_57 (fun H locs I => ?_)
      refine lv_icmp_le (tgt := 66) X.1 X.2.1 dX0_relieved_60 (by decide) (fun c32 => ?_) (fun c32 => ?_)
      · replace h := m_ifT c32 h
        exact k66 u v3 v4 H locs ls _ _ _ h hC I (lv_sub hl [0, 1, 2, 3, 4] rfl)
      · replace h := m_ifF c32 h
        exact k63 u v4 H locs ls _ _ _ h hC I (lv_sub hl [0, 1, 2, 4] rfl)
theorem uw_X0_relieved (X : u_X RX0 D A d p s m c cX0_relieved 5 args) (hA : ∀ q, s.heap.size ≤ q → A q) (hR : 7 ≤ R.frames ∧ 185 ≤ R.locals) (n : Nat) (u : UM) (t : Nat) (p0 : Int32) (r0 : Int32) (ur : UM) (C : UC) (h : uf_X0_relieved n d u t p0 = some ((r0, ur), C)) (hret : ∀ (H : Heap) (locs : List Loc) (ls : Array Slot) (pc cells slots : Nat), decode cX0_relieved pc = .ok (.ireturn, 1) → u_left R cells slots (u_add (0, 0) (0, 0)) → u_I D A s.heap ur H locs cells → W p l e R s m args below meth c H locs cells slots Q (F0 m pc ls [.int r0])) : ∀ (H : Heap) (locs : List Loc) (ls : Array Slot) (cells slots : Nat), u_left R cells slots (u_add C (0, 0)) → u_I D A s.heap u H locs cells → lv_has ls 5 [(0, .ref t), (1, .int p0)] → W p l e R s m args below meth c H locs cells slots Q (F0 m 0 ls []) := by
  intro H locs ls cells slots hC I hl
  unfold uf_X0_relieved at h
  refine lv_aload_n X.1 X.2.1 dX0_relieved_0 rfl (lv_at hl 0 rfl) ?_
  refine lv_iload_n X.1 X.2.1 dX0_relieved_1 rfl (lv_at hl 1 rfl) ?_
  obtain ⟨f1, e2, h⟩ := m_bS h
  obtain ⟨r4, e3, h⟩ := m_bS h
  refine u_callVp X hl.1 I hA (As := [.int p0]) (rest := []) (uk_X0_isKind l n D d u t p0 _ e3) (u_clS e2) (C := RX0) (T := TX0) (N := 9) rfl 1 q875 q877 qs20 q101 q878 uh_X0_isKind rfl rfl ⟨Nat.le_trans (Nat.le_of_ble_eq_true rfl) hR.1, Nat.le_trans (Nat.le_of_ble_eq_true rfl) hR.2⟩ (u_leftLe hC) (stk := [.int r4]) rfl (Nat.le_of_ble_eq_true rfl) dX0_relieved_2 (fun H locs I => ?_)
  refine lv_if_ne (tgt := 11) X.1 X.2.1 dX0_relieved_5 (by decide) (fun c5 => ?_) (fun c5 => ?_)
  · replace h := m_ifF c5 h
    refine lv_aload_n X.1 X.2.1 dX0_relieved_11 rfl (lv_at hl 0 rfl) ?_
    refine lv_iload_n X.1 X.2.1 dX0_relieved_12 rfl (lv_at hl 1 rfl) ?_
    obtain ⟨f6, e7, h⟩ := m_bS h
    obtain ⟨r9, u10, C11, C12, e8, z13, h, hq⟩ := u_bcS h
    rw [hq] at hC
    refine u_callV X hl.1 I hA (As := [.int p0]) (rest := []) (uk_X0_first l n D d u t p0 _ _ _ e8) z13 (u_clS e7) (C := RX0) (T := TX0) (N := 9) rfl 1 q1016 q1018 qs27 q101 q1019 uh_X0_first rfl rfl ⟨Nat.le_trans (Nat.le_of_ble_eq_true rfl) hR.1, Nat.le_trans (Nat.le_of_ble_eq_true rfl) hR.2⟩ hC (stk := [va_rf r9]) rfl (Nat.le_of_ble_eq_true rfl) dX0_relieved_13 (fun H locs cells slots hC I => ?_)
    refine u_astn (lv' := [(0, .ref t), (1, .int p0)]) X.1 X.2.1 dX0_relieved_16 rfl hl (by decide) (fun _ => rfl) (fun ls hl => ?_)
    refine u_aldn X.1 X.2.1 dX0_relieved_17 rfl (lv_at hl 0 rfl) ?_
    refine u_ifnn (tgt := 23) X.1 X.2.1 dX0_relieved_18 (by decide) (fun a15 c14 => ?_) (fun c14 => ?_)
    · rw [c14] at h
      replace h := u_qn1 h
      rw [c14] at hl
      replace hl : lv_has ls 5 [(2, .ref a15), (0, .ref t), (1, .int p0)] := hl
      refine lv_iconst (v := (-1)) X.1 X.2.1 dX0_relieved_23 (by decide) ?_
      refine lv_istore_n (lv' := [(3, .int ((-1))), (2, .ref a15), (0, .ref t), (1, .int p0)]) X.1 X.2.1 dX0_relieved_24 rfl hl (by decide) rfl (fun ls hl => ?_)
      refine lv_iconst (v := 0) X.1 X.2.1 dX0_relieved_25 (by decide) ?_
      refine lv_istore (lv' := [(4, .int 0), (3, .int ((-1))), (2, .ref a15), (0, .ref t), (1, .int p0)]) X.1 X.2.1 dX0_relieved_26 hl (by decide) rfl (fun ls hl => ?_)
      obtain ⟨⟨z34, u35⟩, C37, C38, e33, h, hq⟩ := u_blS h
      rw [hq] at hC
      refine wuf_X0_relieved_L28 X hA hR n t p0 a15 _ _ _ _ e33 (fun H locs ls cells slots hC I hl => ?_) H locs ls _ _ (u_left2 hC) I (lv_sub hl [3, 4, 2, 1, 0] rfl)
      refine lv_iload_n X.1 X.2.1 dX0_relieved_72 rfl (lv_at hl 0 rfl) ?_
      obtain ⟨he, rfl⟩ := m_e3 h
      obtain ⟨rfl, rfl⟩ := m_e4 he
      exact hret H locs ls 73 _ _ dX0_relieved_73 hC I
    · rw [c14] at h
      replace h := u_qn0 h
      rw [c14] at hl
      replace hl : lv_has ls 5 [(2, .null), (0, .ref t), (1, .int p0)] := hl
      refine lv_iconst (v := (-1)) X.1 X.2.1 dX0_relieved_21 (by decide) ?_
      obtain ⟨he, rfl⟩ := m_e3 h
      obtain ⟨rfl, rfl⟩ := m_e4 he
      exact hret H locs ls 22 _ _ dX0_relieved_22 hC I
  · replace h := m_ifT c5 h
    refine lv_bipush (v := (-2)) X.1 X.2.1 dX0_relieved_8 (by decide) ?_
    obtain ⟨he, rfl⟩ := m_e3 h
    obtain ⟨rfl, rfl⟩ := m_e4 he
    exact hret H locs ls 10 _ _ dX0_relieved_10 hC I
end S_X0_relieved
theorem uk_X0_relieved (l : Launch) (n : Nat) (D : va_G) (d : UD) (u : UM) (t : Nat) (p0 : Int32) (r0 : Int32) (ur : UM) (C : UC) (h : uf_X0_relieved n d u t p0 = some ((r0, ur), C)) : u_M l yX0_relieved (ws_ yX0_relieved cX0_relieved 5 (some .int)) 7 185 C D d u [.ref t, .int p0] (some (.int r0)) ur :=
  u_start (own := RX0) (lvl := [(0, .ref t), (1, .int p0)]) (by decide) rfl (Nat.le_of_ble_eq_true rfl) rfl (fun p e s m args below meth c ls X hr hlk hI hl hA I hC => uw_X0_relieved X hA ⟨Nat.le_refl _, Nat.le_refl _⟩ n u t p0 r0 ur C h (fun H locs ls pc cells slots hd hC I => u_iret X I hr hlk (u_leftE hC) hd) _ _ ls _ _ hC I hl)

/-! SwapPress.through(III)I -/
def uf_X0_through_J26 (n : Nat) (d : UD) (u : UM) : Option ((Int32 × UM) × UC) :=
  some (((-2), u), (0, 0))
def uf_X0_through_J73 (n : Nat) (d : UD) (u : UM) (t0 : Int32) : Option ((Int32 × UM) × UC) :=
  some ((t0, u), (0, 0))
def uf_X0_through_J49 (n : Nat) (d : UD) (u : UM) (v0 : Nat) (v1 : Int32) (t0 : (Option Nat)) : Option ((Int32 × UM) × UC) :=
  u_qn t0 (uf_X0_through_J73 n d u ((-1))) (fun a24 => m_b (u_fr d u 1 0 v0) (fun b25 => m_b (u_cl u 2 b25) (fun f27 => m_b (uf_X1_many n d u b25) (fun r30 => m_b (uf_X0_throughOf n d u r30 a24 v1) (fun r32 => uf_X0_through_J73 n d u r32)))))
def uf_X0_through (n : Nat) (d : UD) (u : UM) (t : Nat) (p0 : Int32) (p1 : Int32) (p2 : Int32) : Option ((Int32 × UM) × UC) :=
  m_b (u_cl u 1 t) (fun f1 => m_b (uf_X0_isParty n d u t p0) (fun r4 => m_if ((r4 : Int32) = 0) (uf_X0_through_J26 n d u ) (m_b (u_cl u 1 t) (fun f6 => m_b (uf_X0_isKind n d u t p1) (fun r9 => m_if ((r9 : Int32) = 0) (uf_X0_through_J26 n d u ) (m_b (uf_X0_in n d u ((p2 : Int32).toInt64) 0 1) (fun r12 => m_if ((r12 : Int32) = 0) (uf_X0_through_J26 n d u ) (m_if ((p2 : Int32) = 0) (m_b (u_fr d u 1 0 t) (fun b33 => m_b (u_cl u 2 b33) (fun f35 => u_bc u.2 (uf_X1_flows n d u b33 p1) (fun r38 u39 => uf_X0_through_J49 n d u39 t p0 (some r38))))) (m_b (u_cl u 1 t) (fun f15 => u_bc u.2 (uf_X0_first n d u t p1) (fun r18 u19 => uf_X0_through_J49 n d u19 t p0 r18)))))))))))
theorem uh_X0_through : yX0_through.cls = RX0 ∧ yX0_through.cls ≠ "java/lang/invoke/MethodHandle" ∧ yX0_through.cls ≠ "java/lang/invoke/VarHandle" ∧ (parseMethodDescriptor yX0_through.desc).map (fun d => d.parameters.length) = some 3 := by decide +kernel
section S_X0_through
variable {p : Program} {l : Launch} {e : Env} {R : Room} {s : State} {m : MethodId} {args : Array Value} {below : List Frame} {meth : Method} {c : Code} {Q : State → Prop} {D : va_G} {A : Nat → Prop} {d : UD}
theorem uw_X0_through (X : u_X RX0 D A d p s m c cX0_through 5 args) (hA : ∀ q, s.heap.size ≤ q → A q) (hR : 7 ≤ R.frames ∧ 185 ≤ R.locals) (n : Nat) (u : UM) (t : Nat) (p0 : Int32) (p1 : Int32) (p2 : Int32) (r0 : Int32) (ur : UM) (C : UC) (h : uf_X0_through n d u t p0 p1 p2 = some ((r0, ur), C)) (hret : ∀ (H : Heap) (locs : List Loc) (ls : Array Slot) (pc cells slots : Nat), decode cX0_through pc = .ok (.ireturn, 1) → u_left R cells slots (u_add (0, 0) (0, 0)) → u_I D A s.heap ur H locs cells → W p l e R s m args below meth c H locs cells slots Q (F0 m pc ls [.int r0])) : ∀ (H : Heap) (locs : List Loc) (ls : Array Slot) (cells slots : Nat), u_left R cells slots (u_add C (0, 0)) → u_I D A s.heap u H locs cells → lv_has ls 5 [(0, .ref t), (1, .int p0), (2, .int p1), (3, .int p2)] → W p l e R s m args below meth c H locs cells slots Q (F0 m 0 ls []) := by
  have k26 : ∀ (u : UM) (H : Heap) (locs : List Loc) (ls : Array Slot) (cells slots : Nat) (C : UC), uf_X0_through_J26 n d u = some ((r0, ur), C) → u_left R cells slots (u_add C (0, 0)) → u_I D A s.heap u H locs cells → lv_has ls 5 [] → W p l e R s m args below meth c H locs cells slots Q (F0 m 26 ls []) := by
    intro u H locs ls cells slots C h hC I hl
    unfold uf_X0_through_J26 at h
    refine lv_bipush (v := (-2)) X.1 X.2.1 dX0_through_26 (by decide) ?_
    obtain ⟨he, rfl⟩ := m_e3 h
    obtain ⟨rfl, rfl⟩ := m_e4 he
    exact hret H locs ls 28 _ _ dX0_through_28 hC I
  have k73 : ∀ (u : UM) (t0 : Int32) (H : Heap) (locs : List Loc) (ls : Array Slot) (cells slots : Nat) (C : UC), uf_X0_through_J73 n d u t0 = some ((r0, ur), C) → u_left R cells slots (u_add C (0, 0)) → u_I D A s.heap u H locs cells → lv_has ls 5 [] → W p l e R s m args below meth c H locs cells slots Q (F0 m 73 ls [.int t0]) := by
    intro u t0 H locs ls cells slots C h hC I hl
    unfold uf_X0_through_J73 at h
    obtain ⟨he, rfl⟩ := m_e3 h
    obtain ⟨rfl, rfl⟩ := m_e4 he
    exact hret H locs ls 73 _ _ dX0_through_73 hC I
  have k49 : ∀ (u : UM) (v0 : Nat) (v1 : Int32) (t0 : (Option Nat)) (H : Heap) (locs : List Loc) (ls : Array Slot) (cells slots : Nat) (C : UC), uf_X0_through_J49 n d u v0 v1 t0 = some ((r0, ur), C) → u_left R cells slots (u_add C (0, 0)) → u_I D A s.heap u H locs cells → lv_has ls 5 [(0, .ref v0), (1, .int v1)] → W p l e R s m args below meth c H locs cells slots Q (F0 m 49 ls [va_rf t0]) := by
    intro u v0 v1 t0 H locs ls cells slots C h hC I hl
    unfold uf_X0_through_J49 at h
    refine u_ast (lv' := [(0, .ref v0), (1, .int v1)]) X.1 X.2.1 dX0_through_49 hl (by decide) (fun _ => rfl) (fun ls hl => ?_)
    refine u_ald X.1 X.2.1 dX0_through_51 (lv_at hl 0 rfl) ?_
    refine u_ifnn (tgt := 60) X.1 X.2.1 dX0_through_53 (by decide) (fun a24 c23 => ?_) (fun c23 => ?_)
    · rw [c23] at h
      replace h := u_qn1 h
      rw [c23] at hl
      replace hl : lv_has ls 5 [(4, .ref a24), (0, .ref v0), (1, .int v1)] := hl
      refine lv_aload_n X.1 X.2.1 dX0_through_60 rfl (lv_at hl 1 rfl) ?_
      obtain ⟨b25, e26, h⟩ := m_bS h
      refine u_Gr X I e26 (C := RX0) (T := TX0) (N := 9) (ref := "SwapPress") in_X0 rfl (by decide) rfl rfl q235 (fun _ h => h) dX0_through_61 ?_
      obtain ⟨f27, e28, h⟩ := m_bS h
      obtain ⟨r30, e29, h⟩ := m_bS h
      refine u_callVp X hl.1 I hA (As := []) (rest := []) (uk_X1_many l n D d u b25 _ e29) (u_clS e28) (C := RX1) (T := TX1) (N := 5) rfl 0 q870 q871 q872 q102 q873 uh_X1_many rfl rfl ⟨Nat.le_trans (Nat.le_of_ble_eq_true rfl) hR.1, Nat.le_trans (Nat.le_of_ble_eq_true rfl) hR.2⟩ (u_leftLe hC) (stk := [.int r30]) rfl (Nat.le_of_ble_eq_true rfl) dX0_through_64 (fun H locs I => ?_)
      refine lv_aload X.1 X.2.1 dX0_through_67 (lv_at hl 0 rfl) ?_
      refine lv_iload_n X.1 X.2.1 dX0_through_69 rfl (lv_at hl 2 rfl) ?_
      obtain ⟨r32, e31, h⟩ := m_bS h
      refine u_callSp X hl.1 I hA (As := [.int r30, .ref a24, .int v1]) (rest := []) (uk_X0_throughOf l n D d u r30 a24 v1 _ e31) 3 q1346 q1064 q101 q1065 uh_X0_throughOf.2 rfl rfl ⟨Nat.le_trans (Nat.le_of_ble_eq_true rfl) hR.1, Nat.le_trans (Nat.le_of_ble_eq_true rfl) hR.2⟩ (u_leftLe hC) (stk := [.int r32]) rfl (Nat.le_of_ble_eq_true rfl) dX0_through_70 (fun H locs I => ?_)
      exact k73 u r32 H locs ls _ _ _ h hC I (lv_sub hl [] rfl)
    · rw [c23] at h
      replace h := u_qn0 h
      rw [c23] at hl
      replace hl : lv_has ls 5 [(4, .null), (0, .ref v0), (1, .int v1)] := hl
      refine lv_iconst (v := (-1)) X.1 X.2.1 dX0_through_56 (by decide) ?_
      refine lv_goto (tgt := 73) X.1 X.2.1 dX0_through_57 (by decide) ?_
      exact k73 u ((-1)) H locs ls _ _ _ h hC I (lv_sub hl [] rfl)
  intro H locs ls cells slots hC I hl
  unfold uf_X0_through at h
  refine lv_aload_n X.1 X.2.1 dX0_through_0 rfl (lv_at hl 0 rfl) ?_
  refine lv_iload_n X.1 X.2.1 dX0_through_1 rfl (lv_at hl 1 rfl) ?_
  obtain ⟨f1, e2, h⟩ := m_bS h
  obtain ⟨r4, e3, h⟩ := m_bS h
  refine u_callVp X hl.1 I hA (As := [.int p0]) (rest := []) (uk_X0_isParty l n D d u t p0 _ e3) (u_clS e2) (C := RX0) (T := TX0) (N := 9) rfl 1 q866 q868 qs19 q101 q869 uh_X0_isParty rfl rfl ⟨Nat.le_trans (Nat.le_of_ble_eq_true rfl) hR.1, Nat.le_trans (Nat.le_of_ble_eq_true rfl) hR.2⟩ (u_leftLe hC) (stk := [.int r4]) rfl (Nat.le_of_ble_eq_true rfl) dX0_through_2 (fun H locs I => ?_)
  refine lv_if_eq (tgt := 26) X.1 X.2.1 dX0_through_5 (by decide) (fun c5 => ?_) (fun c5 => ?_)
  · replace h := m_ifT c5 h
    exact k26 u H locs ls _ _ _ h hC I (lv_sub hl [] rfl)
  · replace h := m_ifF c5 h
    refine lv_aload_n X.1 X.2.1 dX0_through_8 rfl (lv_at hl 0 rfl) ?_
    refine lv_iload_n X.1 X.2.1 dX0_through_9 rfl (lv_at hl 2 rfl) ?_
    obtain ⟨f6, e7, h⟩ := m_bS h
    obtain ⟨r9, e8, h⟩ := m_bS h
    refine u_callVp X hl.1 I hA (As := [.int p1]) (rest := []) (uk_X0_isKind l n D d u t p1 _ e8) (u_clS e7) (C := RX0) (T := TX0) (N := 9) rfl 1 q875 q877 qs20 q101 q878 uh_X0_isKind rfl rfl ⟨Nat.le_trans (Nat.le_of_ble_eq_true rfl) hR.1, Nat.le_trans (Nat.le_of_ble_eq_true rfl) hR.2⟩ (u_leftLe hC) (stk := [.int r9]) rfl (Nat.le_of_ble_eq_true rfl) dX0_through_10 (fun H locs I => ?_)
    refine lv_if_eq (tgt := 26) X.1 X.2.1 dX0_through_13 (by decide) (fun c10 => ?_) (fun c10 => ?_)
    · replace h := m_ifT c10 h
      exact k26 u H locs ls _ _ _ h hC I (lv_sub hl [] rfl)
    · replace h := m_ifF c10 h
      refine lv_iload_n X.1 X.2.1 dX0_through_16 rfl (lv_at hl 3 rfl) ?_
      refine lv_i2l X.1 X.2.1 dX0_through_17 rfl ?_
      refine lv_lconst (v := 0) X.1 X.2.1 dX0_through_18 (by decide) ?_
      refine lv_lconst (v := 1) X.1 X.2.1 dX0_through_19 (by decide) ?_
      obtain ⟨r12, e11, h⟩ := m_bS h
      refine u_callSp X hl.1 I hA (As := [.long ((p2 : Int32).toInt64), .long 0, .long 1]) (rest := []) (uk_X0_in l n D d u ((p2 : Int32).toInt64) 0 1 _ e11) 3 q279 q280 q101 q281 uh_X0_in.2 rfl rfl ⟨Nat.le_trans (Nat.le_of_ble_eq_true rfl) hR.1, Nat.le_trans (Nat.le_of_ble_eq_true rfl) hR.2⟩ (u_leftLe hC) (stk := [.int r12]) rfl (Nat.le_of_ble_eq_true rfl) dX0_through_20 (fun H locs I => ?_)
      refine lv_if_ne (tgt := 29) X.1 X.2.1 dX0_through_23 (by decide) (fun c13 => ?_) (fun c13 => ?_)
      · replace h := m_ifF c13 h
        refine lv_iload_n X.1 X.2.1 dX0_through_29 rfl (lv_at hl 3 rfl) ?_
        refine lv_if_ne (tgt := 44) X.1 X.2.1 dX0_through_30 (by decide) (fun c14 => ?_) (fun c14 => ?_)
        · replace h := m_ifF c14 h
          refine lv_aload_n X.1 X.2.1 dX0_through_44 rfl (lv_at hl 0 rfl) ?_
          refine lv_iload_n X.1 X.2.1 dX0_through_45 rfl (lv_at hl 2 rfl) ?_
          obtain ⟨f15, e16, h⟩ := m_bS h
          obtain ⟨r18, u19, C20, C21, e17, z22, h, hq⟩ := u_bcS h
          rw [hq] at hC
          refine u_callV X hl.1 I hA (As := [.int p1]) (rest := []) (uk_X0_first l n D d u t p1 _ _ _ e17) z22 (u_clS e16) (C := RX0) (T := TX0) (N := 9) rfl 1 q1016 q1018 qs27 q101 q1019 uh_X0_first rfl rfl ⟨Nat.le_trans (Nat.le_of_ble_eq_true rfl) hR.1, Nat.le_trans (Nat.le_of_ble_eq_true rfl) hR.2⟩ hC (stk := [va_rf r18]) rfl (Nat.le_of_ble_eq_true rfl) dX0_through_46 (fun H locs cells slots hC I => ?_)
          exact k49 u19 t p0 r18 H locs ls _ _ _ h hC I (lv_sub hl [0, 1] rfl)
        · replace h := m_ifT c14 h
          refine lv_aload_n X.1 X.2.1 dX0_through_33 rfl (lv_at hl 0 rfl) ?_
          obtain ⟨b33, e34, h⟩ := m_bS h
          refine u_Gr X I e34 (C := RX0) (T := TX0) (N := 9) (ref := "SwapPress") in_X0 rfl (by decide) rfl rfl q235 (fun _ h => h) dX0_through_34 ?_
          refine lv_iload_n X.1 X.2.1 dX0_through_37 rfl (lv_at hl 2 rfl) ?_
          obtain ⟨f35, e36, h⟩ := m_bS h
          obtain ⟨r38, u39, C40, C41, e37, z42, h, hq⟩ := u_bcS h
          rw [hq] at hC
          refine u_callV X hl.1 I hA (As := [.int p1]) (rest := []) (uk_X1_flows l n D d u b33 p1 _ _ _ e37) z42 (u_clS e36) (C := RX1) (T := TX1) (N := 5) rfl 1 q951 q952 q953 q102 q954 uh_X1_flows rfl rfl ⟨Nat.le_trans (Nat.le_of_ble_eq_true rfl) hR.1, Nat.le_trans (Nat.le_of_ble_eq_true rfl) hR.2⟩ hC (stk := [.ref r38]) rfl (Nat.le_of_ble_eq_true rfl) dX0_through_38 (fun H locs cells slots hC I => ?_)
          refine lv_goto (tgt := 49) X.1 X.2.1 dX0_through_41 (by decide) ?_
          exact k49 u39 t p0 (some r38) H locs ls _ _ _ h hC I (lv_sub hl [0, 1] rfl)
      · replace h := m_ifT c13 h
        exact k26 u H locs ls _ _ _ h hC I (lv_sub hl [] rfl)
end S_X0_through
theorem uk_X0_through (l : Launch) (n : Nat) (D : va_G) (d : UD) (u : UM) (t : Nat) (p0 : Int32) (p1 : Int32) (p2 : Int32) (r0 : Int32) (ur : UM) (C : UC) (h : uf_X0_through n d u t p0 p1 p2 = some ((r0, ur), C)) : u_M l yX0_through (ws_ yX0_through cX0_through 5 (some .int)) 7 185 C D d u [.ref t, .int p0, .int p1, .int p2] (some (.int r0)) ur :=
  u_start (own := RX0) (lvl := [(0, .ref t), (1, .int p0), (2, .int p1), (3, .int p2)]) (by decide) rfl (Nat.le_of_ble_eq_true rfl) rfl (fun p e s m args below meth c ls X hr hlk hI hl hA I hC => uw_X0_through X hA ⟨Nat.le_refl _, Nat.le_refl _⟩ n u t p0 p1 p2 r0 ur C h (fun H locs ls pc cells slots hd hC I => u_iret X I hr hlk (u_leftE hC) hd) _ _ ls _ _ hC I hl)

/-! SwapPress.all()I -/
def uf_X0_all_L4 (n : Nat) (d : UD) (v0 : Nat) (v1 : Int32) (v2 : Int32) (u : UM) : Option (((Int32 × Int32 × UM) ⊕ (UM ⊕ (Int32 × UM))) × UC) :=
  m_b (u_fr d u 1 0 v0) (fun b1 => m_b (u_nr u 2 1 b1) (fun b3 => m_b (u_cl u 13 b3) (fun f5 => m_b (uf_J2_size n d u b3) (fun r8 => m_if ((r8 : Int32) ≤ (v2 : Int32)) (some (.inr ((.inr ((v1, u)))), (0, 0))) (m_b (u_cl u 1 v0) (fun f10 => u_bc u.2 (uf_X0_pressing n d u v0 v2) (fun r13 u14 => m_b (u_cl u14 8 r13) (fun f18 => u_bc u14.2 (uf_X8_least n d u14 r13) (fun r21 u22 => m_if ((r21 : Int32) = ((-1) : Int32)) (some (.inr ((.inl u22)), (0, 0))) (some (.inl ((v1 + r21, v2 + 1, u22)), (0, 0))))))))))))
def uf_X0_all_L4l (n : Nat) (d : UD) (v0 : Nat) (x : (Int32 × Int32 × UM)) : Option ((UM ⊕ (Int32 × UM)) × UC) := u_lp (fun (x : (Int32 × Int32 × UM)) => uf_X0_all_L4 n d v0 x.1 x.2.1 x.2.2) n x
def uf_X0_all (n : Nat) (d : UD) (u : UM) (t : Nat) : Option ((Int32 × UM) × UC) :=
  u_bl (uf_X0_all_L4l n d t ((0, 0, u))) (fun y32 => m_s y32 (fun u28 => some (((-1), u28), (0, 0))) (fun y31 => some ((y31.1, y31.2), (0, 0))))
theorem uh_X0_all : yX0_all.cls = RX0 ∧ yX0_all.cls ≠ "java/lang/invoke/MethodHandle" ∧ yX0_all.cls ≠ "java/lang/invoke/VarHandle" ∧ (parseMethodDescriptor yX0_all.desc).map (fun d => d.parameters.length) = some 0 := by decide +kernel
section S_X0_all
variable {p : Program} {l : Launch} {e : Env} {R : Room} {s : State} {m : MethodId} {args : Array Value} {below : List Frame} {meth : Method} {c : Code} {Q : State → Prop} {D : va_G} {A : Nat → Prop} {d : UD}
theorem wuf_X0_all_L4 (X : u_X RX0 D A d p s m c cX0_all 4 args) (hA : ∀ q, s.heap.size ≤ q → A q) (hR : 5 ≤ R.frames ∧ 139 ≤ R.locals) (n : Nat) (v0 : Nat) (x : (Int32 × Int32 × UM)) (z : (UM ⊕ (Int32 × UM))) (C cr : UC) (hz : uf_X0_all_L4l n d v0 x = some (z, C)) (hE : (u_e (fun (z : UM) (C : UC) => ∀ (H : Heap) (locs : List Loc) (ls : Array Slot) (cells slots : Nat), u_left R cells slots C → u_I D A s.heap z H locs cells → lv_has ls 4 [] → W p l e R s m args below meth c H locs cells slots Q (F0 m 32 ls [])) (fun (z : (Int32 × UM)) (C : UC) => ∀ (H : Heap) (locs : List Loc) (ls : Array Slot) (cells slots : Nat), u_left R cells slots C → u_I D A s.heap z.2 H locs cells → lv_has ls 4 [(1, .int z.1)] → W p l e R s m args below meth c H locs cells slots Q (F0 m 44 ls []))) z cr) : (fun (x : (Int32 × Int32 × UM)) (C : UC) => ∀ (H : Heap) (locs : List Loc) (ls : Array Slot) (cells slots : Nat), u_left R cells slots C → u_I D A s.heap x.2.2 H locs cells → lv_has ls 4 [(0, .ref v0), (1, .int x.1), (2, .int x.2.1)] → W p l e R s m args below meth c H locs cells slots Q (F0 m 4 ls [])) x (u_add C cr) := by
  refine u_lpW (G := fun (x : (Int32 × Int32 × UM)) (C : UC) => ∀ (H : Heap) (locs : List Loc) (ls : Array Slot) (cells slots : Nat), u_left R cells slots C → u_I D A s.heap x.2.2 H locs cells → lv_has ls 4 [(0, .ref v0), (1, .int x.1), (2, .int x.2.1)] → W p l e R s m args below meth c H locs cells slots Q (F0 m 4 ls [])) (E := u_e (fun (z : UM) (C : UC) => ∀ (H : Heap) (locs : List Loc) (ls : Array Slot) (cells slots : Nat), u_left R cells slots C → u_I D A s.heap z H locs cells → lv_has ls 4 [] → W p l e R s m args below meth c H locs cells slots Q (F0 m 32 ls [])) (fun (z : (Int32 × UM)) (C : UC) => ∀ (H : Heap) (locs : List Loc) (ls : Array Slot) (cells slots : Nat), u_left R cells slots C → u_I D A s.heap z.2 H locs cells → lv_has ls 4 [(1, .int z.1)] → W p l e R s m args below meth c H locs cells slots Q (F0 m 44 ls []))) ?_ n x z C cr hz hE
  rintro ⟨v1, v2, u⟩ r C cr h hr H locs ls cells slots hC I hl
  replace h : uf_X0_all_L4 n d v0 v1 v2 u = some (r, C) := h
  unfold uf_X0_all_L4 at h
  refine lv_iload_n X.1 X.2.1 dX0_all_4 rfl (lv_at hl 2 rfl) ?_
  refine lv_aload_n X.1 X.2.1 dX0_all_5 rfl (lv_at hl 0 rfl) ?_
  obtain ⟨b1, e2, h⟩ := m_bS h
  refine u_Gr X I e2 (C := RX0) (T := TX0) (N := 9) (ref := "SwapPress") in_X0 rfl (by decide) rfl rfl q235 (fun _ h => h) dX0_all_6 ?_
  obtain ⟨b3, e4, h⟩ := m_bS h
  refine u_GrN X I e4 (C := RX1) (T := TX1) (N := 5) (ref := "SwapPress$State") (host := "SwapPress") in_X1 rfl (by decide) rfl rfl 3 rfl (fun _ h => h) dX0_all_9 ?_
  obtain ⟨f5, e6, h⟩ := m_bS h
  obtain ⟨r8, e7, h⟩ := m_bS h
  refine u_callVp X hl.1 I hA (As := []) (rest := [.int v2]) (uk_J2_size l n D d u b3 _ e7) (u_clS e6) (C := RJ2) (T := TJ2) (N := 3) rfl 0 q853 q667 q668 q105 q669 uh_J2_size rfl rfl ⟨Nat.le_trans (Nat.le_of_ble_eq_true rfl) hR.1, Nat.le_trans (Nat.le_of_ble_eq_true rfl) hR.2⟩ (u_leftLe hC) (stk := [.int r8, .int v2]) rfl (Nat.le_of_ble_eq_true rfl) dX0_all_12 (fun H locs I => ?_)
  refine lv_icmp_ge (tgt := 44) X.1 X.2.1 dX0_all_15 (by decide) (fun c9 => ?_) (fun c9 => ?_)
  · replace h := m_ifT c9 h
    obtain ⟨rfl, rfl⟩ := m_e3 h
    exact hr H locs ls _ _ (u_left0 hC) I (lv_sub hl [1] rfl)
  · replace h := m_ifF c9 h
    refine lv_aload_n X.1 X.2.1 dX0_all_18 rfl (lv_at hl 0 rfl) ?_
    refine lv_iload_n X.1 X.2.1 dX0_all_19 rfl (lv_at hl 2 rfl) ?_
    obtain ⟨f10, e11, h⟩ := m_bS h
    obtain ⟨r13, u14, C15, C16, e12, z17, h, hq⟩ := u_bcS h
    rw [hq] at hC
    refine u_callV X hl.1 I hA (As := [.int v2]) (rest := []) (uk_X0_pressing l n D d u v0 v2 _ _ _ e12) z17 (u_clS e11) (C := RX0) (T := TX0) (N := 9) rfl 1 q1267 q1269 qs37 q101 q1270 uh_X0_pressing rfl rfl ⟨Nat.le_trans (Nat.le_of_ble_eq_true rfl) hR.1, Nat.le_trans (Nat.le_of_ble_eq_true rfl) hR.2⟩ hC (stk := [.ref r13]) rfl (Nat.le_of_ble_eq_true rfl) dX0_all_20 (fun H locs cells slots hC I => ?_)
    obtain ⟨f18, e19, h⟩ := m_bS h
    obtain ⟨r21, u22, C23, C24, e20, z25, h, hq⟩ := u_bcS h
    rw [hq] at hC
    refine u_callV X hl.1 I hA (As := []) (rest := []) (uk_X8_least l n D d u14 r13 _ _ _ e20) z25 (u_clS e19) (C := RX8) (T := TX8) (N := 6) rfl 0 q1271 q1272 q1273 q125 q1274 uh_X8_least rfl rfl ⟨Nat.le_trans (Nat.le_of_ble_eq_true rfl) hR.1, Nat.le_trans (Nat.le_of_ble_eq_true rfl) hR.2⟩ hC (stk := [.int r21]) rfl (Nat.le_of_ble_eq_true rfl) dX0_all_23 (fun H locs cells slots hC I => ?_)
    refine lv_istore_n (lv' := [(3, .int r21), (0, .ref v0), (1, .int v1), (2, .int v2)]) X.1 X.2.1 dX0_all_26 rfl hl (by decide) rfl (fun ls hl => ?_)
    refine lv_iload_n X.1 X.2.1 dX0_all_27 rfl (lv_at hl 0 rfl) ?_
    refine lv_iconst (v := (-1)) X.1 X.2.1 dX0_all_28 (by decide) ?_
    refine lv_icmp_ne (tgt := 34) X.1 X.2.1 dX0_all_29 (by decide) (fun c26 => ?_) (fun c26 => ?_)
    · replace h := m_ifF c26 h
      refine lv_iload_n X.1 X.2.1 dX0_all_34 rfl (lv_at hl 2 rfl) ?_
      refine lv_iload_n X.1 X.2.1 dX0_all_35 rfl (lv_at hl 0 rfl) ?_
      refine lv_iadd X.1 X.2.1 dX0_all_36 ?_
      refine lv_istore_n (lv' := [(1, .int (v1 + r21)), (3, .int r21), (0, .ref v0), (2, .int v2)]) X.1 X.2.1 dX0_all_37 rfl hl (by decide) rfl (fun ls hl => ?_)
      refine lv_iinc (v := v2 + 1) (lv' := [(2, .int (v2 + 1)), (1, .int (v1 + r21)), (3, .int r21), (0, .ref v0)]) X.1 X.2.1 dX0_all_38 hl (k := 3) rfl rfl (by decide) rfl (fun ls hl => ?_)
      refine lv_goto (tgt := 4) X.1 X.2.1 dX0_all_41 (by decide) ?_
      obtain ⟨rfl, rfl⟩ := m_e3 h
      exact hr H locs ls _ _ (u_left0 hC) I (lv_sub hl [3, 1, 0] rfl)
    · replace h := m_ifT c26 h
      obtain ⟨rfl, rfl⟩ := m_e3 h
      exact hr H locs ls _ _ (u_left0 hC) I (lv_sub hl [] rfl)
theorem uw_X0_all (X : u_X RX0 D A d p s m c cX0_all 4 args) (hA : ∀ q, s.heap.size ≤ q → A q) (hR : 5 ≤ R.frames ∧ 139 ≤ R.locals) (n : Nat) (u : UM) (t : Nat) (r0 : Int32) (ur : UM) (C : UC) (h : uf_X0_all n d u t = some ((r0, ur), C)) (hret : ∀ (H : Heap) (locs : List Loc) (ls : Array Slot) (pc cells slots : Nat), decode cX0_all pc = .ok (.ireturn, 1) → u_left R cells slots (u_add (0, 0) (0, 0)) → u_I D A s.heap ur H locs cells → W p l e R s m args below meth c H locs cells slots Q (F0 m pc ls [.int r0])) : ∀ (H : Heap) (locs : List Loc) (ls : Array Slot) (cells slots : Nat), u_left R cells slots (u_add C (0, 0)) → u_I D A s.heap u H locs cells → lv_has ls 4 [(0, .ref t)] → W p l e R s m args below meth c H locs cells slots Q (F0 m 0 ls []) := by
  intro H locs ls cells slots hC I hl
  unfold uf_X0_all at h
  refine lv_iconst (v := 0) X.1 X.2.1 dX0_all_0 (by decide) ?_
  refine lv_istore_n (lv' := [(1, .int 0), (0, .ref t)]) X.1 X.2.1 dX0_all_1 rfl hl (by decide) rfl (fun ls hl => ?_)
  refine lv_iconst (v := 0) X.1 X.2.1 dX0_all_2 (by decide) ?_
  refine lv_istore_n (lv' := [(2, .int 0), (1, .int 0), (0, .ref t)]) X.1 X.2.1 dX0_all_3 rfl hl (by decide) rfl (fun ls hl => ?_)
  obtain ⟨u28 | ⟨z29, u30⟩, C33, C34, e27, h, hq⟩ := u_blS h
  · rw [hq] at hC
    replace h := m_sL h
    refine wuf_X0_all_L4 X hA hR n t _ _ _ _ e27 (fun H locs ls cells slots hC I hl => ?_) H locs ls _ _ (u_left2 hC) I (lv_sub hl [2, 1, 0] rfl)
    refine lv_iconst (v := (-1)) X.1 X.2.1 dX0_all_32 (by decide) ?_
    obtain ⟨he, rfl⟩ := m_e3 h
    obtain ⟨rfl, rfl⟩ := m_e4 he
    exact hret H locs ls 33 _ _ dX0_all_33 hC I
  · rw [hq] at hC
    replace h := m_sR h
    refine wuf_X0_all_L4 X hA hR n t _ _ _ _ e27 (fun H locs ls cells slots hC I hl => ?_) H locs ls _ _ (u_left2 hC) I (lv_sub hl [2, 1, 0] rfl)
    refine lv_iload_n X.1 X.2.1 dX0_all_44 rfl (lv_at hl 0 rfl) ?_
    obtain ⟨he, rfl⟩ := m_e3 h
    obtain ⟨rfl, rfl⟩ := m_e4 he
    exact hret H locs ls 45 _ _ dX0_all_45 hC I
end S_X0_all
theorem uk_X0_all (l : Launch) (n : Nat) (D : va_G) (d : UD) (u : UM) (t : Nat) (r0 : Int32) (ur : UM) (C : UC) (h : uf_X0_all n d u t = some ((r0, ur), C)) : u_M l yX0_all (ws_ yX0_all cX0_all 4 (some .int)) 5 139 C D d u [.ref t] (some (.int r0)) ur :=
  u_start (own := RX0) (lvl := [(0, .ref t)]) (by decide) rfl (Nat.le_of_ble_eq_true rfl) rfl (fun p e s m args below meth c ls X hr hlk hI hl hA I hC => uw_X0_all X hA ⟨Nat.le_refl _, Nat.le_refl _⟩ n u t r0 ur C h (fun H locs ls pc cells slots hd hC I => u_iret X I hr hlk (u_leftE hC) hd) _ _ ls _ _ hC I hl)

/-! SwapPress.enough(III)I -/
def uf_X0_enough_J31 (n : Nat) (d : UD) (u : UM) (t0 : Int32) : Option ((Int32 × UM) × UC) :=
  some ((t0, u), (0, 0))
def uf_X0_enough (n : Nat) (d : UD) (u : UM) (t : Nat) (p0 : Int32) (p1 : Int32) (p2 : Int32) : Option ((Int32 × UM) × UC) :=
  m_b (u_cl u 1 t) (fun f1 => m_b (uf_X0_areAll n d u t p0 p1 p2) (fun r4 => m_if ((r4 : Int32) = 0) (uf_X0_enough_J31 n d u ((-2))) (m_b (u_cl u 1 t) (fun f6 => u_bc u.2 (uf_X0_pressing_2 n d u t p2 p0 p1 99999999) (fun r9 u10 => m_b (u_cl u10 8 r9) (fun f14 => u_bc u10.2 (uf_X8_span n d u10 r9 p0 p1 0) (fun r17 u18 => uf_X0_enough_J31 n d u18 r17)))))))
theorem uh_X0_enough : yX0_enough.cls = RX0 ∧ yX0_enough.cls ≠ "java/lang/invoke/MethodHandle" ∧ yX0_enough.cls ≠ "java/lang/invoke/VarHandle" ∧ (parseMethodDescriptor yX0_enough.desc).map (fun d => d.parameters.length) = some 3 := by decide +kernel
section S_X0_enough
variable {p : Program} {l : Launch} {e : Env} {R : Room} {s : State} {m : MethodId} {args : Array Value} {below : List Frame} {meth : Method} {c : Code} {Q : State → Prop} {D : va_G} {A : Nat → Prop} {d : UD}
theorem uw_X0_enough (X : u_X RX0 D A d p s m c cX0_enough 4 args) (hA : ∀ q, s.heap.size ≤ q → A q) (hR : 5 ≤ R.frames ∧ 139 ≤ R.locals) (n : Nat) (u : UM) (t : Nat) (p0 : Int32) (p1 : Int32) (p2 : Int32) (r0 : Int32) (ur : UM) (C : UC) (h : uf_X0_enough n d u t p0 p1 p2 = some ((r0, ur), C)) (hret : ∀ (H : Heap) (locs : List Loc) (ls : Array Slot) (pc cells slots : Nat), decode cX0_enough pc = .ok (.ireturn, 1) → u_left R cells slots (u_add (0, 0) (0, 0)) → u_I D A s.heap ur H locs cells → W p l e R s m args below meth c H locs cells slots Q (F0 m pc ls [.int r0])) : ∀ (H : Heap) (locs : List Loc) (ls : Array Slot) (cells slots : Nat), u_left R cells slots (u_add C (0, 0)) → u_I D A s.heap u H locs cells → lv_has ls 4 [(0, .ref t), (1, .int p0), (2, .int p1), (3, .int p2)] → W p l e R s m args below meth c H locs cells slots Q (F0 m 0 ls []) := by
  have k31 : ∀ (u : UM) (t0 : Int32) (H : Heap) (locs : List Loc) (ls : Array Slot) (cells slots : Nat) (C : UC), uf_X0_enough_J31 n d u t0 = some ((r0, ur), C) → u_left R cells slots (u_add C (0, 0)) → u_I D A s.heap u H locs cells → lv_has ls 4 [] → W p l e R s m args below meth c H locs cells slots Q (F0 m 31 ls [.int t0]) := by
    intro u t0 H locs ls cells slots C h hC I hl
    unfold uf_X0_enough_J31 at h
    obtain ⟨he, rfl⟩ := m_e3 h
    obtain ⟨rfl, rfl⟩ := m_e4 he
    exact hret H locs ls 31 _ _ dX0_enough_31 hC I
  intro H locs ls cells slots hC I hl
  unfold uf_X0_enough at h
  refine lv_aload_n X.1 X.2.1 dX0_enough_0 rfl (lv_at hl 0 rfl) ?_
  refine lv_iload_n X.1 X.2.1 dX0_enough_1 rfl (lv_at hl 1 rfl) ?_
  refine lv_iload_n X.1 X.2.1 dX0_enough_2 rfl (lv_at hl 2 rfl) ?_
  refine lv_iload_n X.1 X.2.1 dX0_enough_3 rfl (lv_at hl 3 rfl) ?_
  obtain ⟨f1, e2, h⟩ := m_bS h
  obtain ⟨r4, e3, h⟩ := m_bS h
  refine u_callVp X hl.1 I hA (As := [.int p0, .int p1, .int p2]) (rest := []) (uk_X0_areAll l n D d u t p0 p1 p2 _ e3) (u_clS e2) (C := RX0) (T := TX0) (N := 9) rfl 3 q1169 q1171 qs31 q101 q1172 uh_X0_areAll rfl rfl ⟨Nat.le_trans (Nat.le_of_ble_eq_true rfl) hR.1, Nat.le_trans (Nat.le_of_ble_eq_true rfl) hR.2⟩ (u_leftLe hC) (stk := [.int r4]) rfl (Nat.le_of_ble_eq_true rfl) dX0_enough_4 (fun H locs I => ?_)
  refine lv_if_eq (tgt := 29) X.1 X.2.1 dX0_enough_7 (by decide) (fun c5 => ?_) (fun c5 => ?_)
  · replace h := m_ifT c5 h
    refine lv_bipush (v := (-2)) X.1 X.2.1 dX0_enough_29 (by decide) ?_
    exact k31 u ((-2)) H locs ls _ _ _ h hC I (lv_sub hl [] rfl)
  · replace h := m_ifF c5 h
    refine lv_aload_n X.1 X.2.1 dX0_enough_10 rfl (lv_at hl 0 rfl) ?_
    refine lv_iload_n X.1 X.2.1 dX0_enough_11 rfl (lv_at hl 3 rfl) ?_
    refine lv_iload_n X.1 X.2.1 dX0_enough_12 rfl (lv_at hl 1 rfl) ?_
    refine lv_iload_n X.1 X.2.1 dX0_enough_13 rfl (lv_at hl 2 rfl) ?_
    refine lv_ldcw (v := 99999999) X.1 X.2.1 X.2.2.2.1 (X.2.2.1 _ q1355) dX0_enough_14 ?_
    obtain ⟨f6, e7, h⟩ := m_bS h
    obtain ⟨r9, u10, C11, C12, e8, z13, h, hq⟩ := u_bcS h
    rw [hq] at hC
    refine u_callV X hl.1 I hA (As := [.int p2, .int p0, .int p1, .int 99999999]) (rest := []) (uk_X0_pressing_2 l n D d u t p2 p0 p1 99999999 _ _ _ e8) z13 (u_clS e7) (C := RX0) (T := TX0) (N := 9) rfl 4 q1292 q1294 qs38 q101 q1295 uh_X0_pressing_2 rfl rfl ⟨Nat.le_trans (Nat.le_of_ble_eq_true rfl) hR.1, Nat.le_trans (Nat.le_of_ble_eq_true rfl) hR.2⟩ hC (stk := [.ref r9]) rfl (Nat.le_of_ble_eq_true rfl) dX0_enough_17 (fun H locs cells slots hC I => ?_)
    refine lv_iload_n X.1 X.2.1 dX0_enough_20 rfl (lv_at hl 1 rfl) ?_
    refine lv_iload_n X.1 X.2.1 dX0_enough_21 rfl (lv_at hl 2 rfl) ?_
    refine lv_iconst (v := 0) X.1 X.2.1 dX0_enough_22 (by decide) ?_
    obtain ⟨f14, e15, h⟩ := m_bS h
    obtain ⟨r17, u18, C19, C20, e16, z21, h, hq⟩ := u_bcS h
    rw [hq] at hC
    refine u_callV X hl.1 I hA (As := [.int p0, .int p1, .int 0]) (rest := []) (uk_X8_span l n D d u10 r9 p0 p1 0 _ _ _ e16) z21 (u_clS e15) (C := RX8) (T := TX8) (N := 6) rfl 3 q1287 q1143 q1144 q125 q1145 uh_X8_span rfl rfl ⟨Nat.le_trans (Nat.le_of_ble_eq_true rfl) hR.1, Nat.le_trans (Nat.le_of_ble_eq_true rfl) hR.2⟩ hC (stk := [.int r17]) rfl (Nat.le_of_ble_eq_true rfl) dX0_enough_23 (fun H locs cells slots hC I => ?_)
    refine lv_goto (tgt := 31) X.1 X.2.1 dX0_enough_26 (by decide) ?_
    exact k31 u18 r17 H locs ls _ _ _ h hC I (lv_sub hl [] rfl)
end S_X0_enough
theorem uk_X0_enough (l : Launch) (n : Nat) (D : va_G) (d : UD) (u : UM) (t : Nat) (p0 : Int32) (p1 : Int32) (p2 : Int32) (r0 : Int32) (ur : UM) (C : UC) (h : uf_X0_enough n d u t p0 p1 p2 = some ((r0, ur), C)) : u_M l yX0_enough (ws_ yX0_enough cX0_enough 4 (some .int)) 5 139 C D d u [.ref t, .int p0, .int p1, .int p2] (some (.int r0)) ur :=
  u_start (own := RX0) (lvl := [(0, .ref t), (1, .int p0), (2, .int p1), (3, .int p2)]) (by decide) rfl (Nat.le_of_ble_eq_true rfl) rfl (fun p e s m args below meth c ls X hr hlk hI hl hA I hC => uw_X0_enough X hA ⟨Nat.le_refl _, Nat.le_refl _⟩ n u t p0 p1 p2 r0 ur C h (fun H locs ls pc cells slots hd hC I => u_iret X I hr hlk (u_leftE hC) hd) _ _ ls _ _ hC I hl)

/-! SwapPress.count(I)I -/
def uf_X0_count (n : Nat) (d : UD) (u : UM) (t : Nat) (p0 : Int32) : Option Int32 :=
  m_if ((p0 : Int32) = 0) (m_b (u_fr d u 1 0 t) (fun b1 => m_b (u_cl u 2 b1) (fun f3 => m_b (uf_X1_many n d u b1) (fun r6 => some r6)))) (m_if ((p0 : Int32) = 1) (m_b (u_fr d u 1 0 t) (fun b7 => m_b (u_nr u 2 1 b7) (fun b9 => m_b (u_cl u 13 b9) (fun f11 => m_b (uf_J2_size n d u b9) (fun r14 => some r14))))) (m_if ((p0 : Int32) = 2) (m_b (u_fr d u 1 0 t) (fun b15 => m_b (u_nr u 2 2 b15) (fun b17 => m_b (u_cl u 13 b17) (fun f19 => m_b (uf_J2_size n d u b17) (fun r22 => some r22))))) (m_if ((p0 : Int32) = 3) (m_b (u_fr d u 1 0 t) (fun b23 => m_b (u_cl u 2 b23) (fun f25 => m_b (uf_X1_kept n d u b23) (fun r28 => some r28)))) (m_if ((p0 : Int32) = 4) (m_b (u_fr d u 1 0 t) (fun b29 => m_b (u_ni u 2 4 b29) (fun b31 => some b31))) (m_if ((p0 : Int32) = 5) (m_b (u_fr d u 1 1 t) (fun b33 => m_b (u_cl u 13 b33) (fun f35 => m_b (uf_J2_size n d u b33) (fun r38 => some r38)))) (m_if ((p0 : Int32) = 6) (m_b (u_fi d u 1 6 t) (fun b39 => some b39)) (some ((-1)))))))))
theorem uh_X0_count : yX0_count.cls = RX0 ∧ yX0_count.cls ≠ "java/lang/invoke/MethodHandle" ∧ yX0_count.cls ≠ "java/lang/invoke/VarHandle" ∧ (parseMethodDescriptor yX0_count.desc).map (fun d => d.parameters.length) = some 1 := by decide +kernel
section S_X0_count
variable {p : Program} {l : Launch} {e : Env} {R : Room} {s : State} {m : MethodId} {args : Array Value} {below : List Frame} {meth : Method} {c : Code} {Q : State → Prop} {D : va_G} {A : Nat → Prop} {d : UD} {cells slots : Nat}
theorem uw_X0_count (X : u_X RX0 D A d p s m c cX0_count 2 args) (hA : ∀ q, s.heap.size ≤ q → A q) (hR : 4 ≤ R.frames ∧ 86 ≤ R.locals) (hf : cells ≤ R.cells ∧ slots ≤ R.slots) (n : Nat) (u : UM) (t : Nat) (p0 : Int32) (r : Int32) (h : uf_X0_count n d u t p0 = some r) (hret : ∀ (H : Heap) (locs : List Loc) (ls : Array Slot) (pc : Nat), decode cX0_count pc = .ok (.ireturn, 1) → u_I D A s.heap u H locs cells → W p l e R s m args below meth c H locs cells slots Q (F0 m pc ls [.int r])) : ∀ (H : Heap) (locs : List Loc) (ls : Array Slot), u_I D A s.heap u H locs cells → lv_has ls 2 [(0, .ref t), (1, .int p0)] → W p l e R s m args below meth c H locs cells slots Q (F0 m 0 ls []) := by
  intro H locs ls I hl
  unfold uf_X0_count at h
  refine lv_iload_n X.1 X.2.1 dX0_count_0 rfl (lv_at hl 1 rfl) ?_
  by_cases c41 : (p0 : Int32) = 0
  · replace h := m_ifT c41 h
    refine lv_tableIn (tgt := 44) X.1 X.2.1 dX0_count_1 (by rw [c41]; decide) (by rw [c41]; decide) (by rw [c41]; rfl) (by decide) ?_
    refine lv_aload_n X.1 X.2.1 dX0_count_44 rfl (lv_at hl 0 rfl) ?_
    obtain ⟨b1, e2, h⟩ := m_bS h
    refine u_Gr X I e2 (C := RX0) (T := TX0) (N := 9) (ref := "SwapPress") in_X0 rfl (by decide) rfl rfl q235 (fun _ h => h) dX0_count_45 ?_
    obtain ⟨f3, e4, h⟩ := m_bS h
    obtain ⟨r6, e5, h⟩ := m_bS h
    refine u_callVp X hl.1 I hA (As := []) (rest := []) (uk_X1_many l n D d u b1 _ e5) (u_clS e4) (C := RX1) (T := TX1) (N := 5) rfl 0 q870 q871 q872 q102 q873 uh_X1_many rfl rfl ⟨Nat.le_trans (Nat.le_of_ble_eq_true rfl) hR.1, Nat.le_trans (Nat.le_of_ble_eq_true rfl) hR.2⟩ hf (stk := [.int r6]) rfl (Nat.le_of_ble_eq_true rfl) dX0_count_48 (fun H locs I => ?_)
    obtain rfl := m_e1 h
    exact hret H locs ls 51 dX0_count_51 I
  replace h := m_ifF c41 h
  by_cases c42 : (p0 : Int32) = 1
  · replace h := m_ifT c42 h
    refine lv_tableIn (tgt := 52) X.1 X.2.1 dX0_count_1 (by rw [c42]; decide) (by rw [c42]; decide) (by rw [c42]; rfl) (by decide) ?_
    refine lv_aload_n X.1 X.2.1 dX0_count_52 rfl (lv_at hl 0 rfl) ?_
    obtain ⟨b7, e8, h⟩ := m_bS h
    refine u_Gr X I e8 (C := RX0) (T := TX0) (N := 9) (ref := "SwapPress") in_X0 rfl (by decide) rfl rfl q235 (fun _ h => h) dX0_count_53 ?_
    obtain ⟨b9, e10, h⟩ := m_bS h
    refine u_GrN X I e10 (C := RX1) (T := TX1) (N := 5) (ref := "SwapPress$State") (host := "SwapPress") in_X1 rfl (by decide) rfl rfl 3 rfl (fun _ h => h) dX0_count_56 ?_
    obtain ⟨f11, e12, h⟩ := m_bS h
    obtain ⟨r14, e13, h⟩ := m_bS h
    refine u_callVp X hl.1 I hA (As := []) (rest := []) (uk_J2_size l n D d u b9 _ e13) (u_clS e12) (C := RJ2) (T := TJ2) (N := 3) rfl 0 q853 q667 q668 q105 q669 uh_J2_size rfl rfl ⟨Nat.le_trans (Nat.le_of_ble_eq_true rfl) hR.1, Nat.le_trans (Nat.le_of_ble_eq_true rfl) hR.2⟩ hf (stk := [.int r14]) rfl (Nat.le_of_ble_eq_true rfl) dX0_count_59 (fun H locs I => ?_)
    obtain rfl := m_e1 h
    exact hret H locs ls 62 dX0_count_62 I
  replace h := m_ifF c42 h
  by_cases c43 : (p0 : Int32) = 2
  · replace h := m_ifT c43 h
    refine lv_tableIn (tgt := 63) X.1 X.2.1 dX0_count_1 (by rw [c43]; decide) (by rw [c43]; decide) (by rw [c43]; rfl) (by decide) ?_
    refine lv_aload_n X.1 X.2.1 dX0_count_63 rfl (lv_at hl 0 rfl) ?_
    obtain ⟨b15, e16, h⟩ := m_bS h
    refine u_Gr X I e16 (C := RX0) (T := TX0) (N := 9) (ref := "SwapPress") in_X0 rfl (by decide) rfl rfl q235 (fun _ h => h) dX0_count_64 ?_
    obtain ⟨b17, e18, h⟩ := m_bS h
    refine u_GrN X I e18 (C := RX1) (T := TX1) (N := 5) (ref := "SwapPress$State") (host := "SwapPress") in_X1 rfl (by decide) rfl rfl 4 rfl (fun _ h => h) dX0_count_67 ?_
    obtain ⟨f19, e20, h⟩ := m_bS h
    obtain ⟨r22, e21, h⟩ := m_bS h
    refine u_callVp X hl.1 I hA (As := []) (rest := []) (uk_J2_size l n D d u b17 _ e21) (u_clS e20) (C := RJ2) (T := TJ2) (N := 3) rfl 0 q853 q667 q668 q105 q669 uh_J2_size rfl rfl ⟨Nat.le_trans (Nat.le_of_ble_eq_true rfl) hR.1, Nat.le_trans (Nat.le_of_ble_eq_true rfl) hR.2⟩ hf (stk := [.int r22]) rfl (Nat.le_of_ble_eq_true rfl) dX0_count_70 (fun H locs I => ?_)
    obtain rfl := m_e1 h
    exact hret H locs ls 73 dX0_count_73 I
  replace h := m_ifF c43 h
  by_cases c44 : (p0 : Int32) = 3
  · replace h := m_ifT c44 h
    refine lv_tableIn (tgt := 74) X.1 X.2.1 dX0_count_1 (by rw [c44]; decide) (by rw [c44]; decide) (by rw [c44]; rfl) (by decide) ?_
    refine lv_aload_n X.1 X.2.1 dX0_count_74 rfl (lv_at hl 0 rfl) ?_
    obtain ⟨b23, e24, h⟩ := m_bS h
    refine u_Gr X I e24 (C := RX0) (T := TX0) (N := 9) (ref := "SwapPress") in_X0 rfl (by decide) rfl rfl q235 (fun _ h => h) dX0_count_75 ?_
    obtain ⟨f25, e26, h⟩ := m_bS h
    obtain ⟨r28, e27, h⟩ := m_bS h
    refine u_callVp X hl.1 I hA (As := []) (rest := []) (uk_X1_kept l n D d u b23 _ e27) (u_clS e26) (C := RX1) (T := TX1) (N := 5) rfl 0 q1501 q1502 q1503 q102 q1504 uh_X1_kept rfl rfl ⟨Nat.le_trans (Nat.le_of_ble_eq_true rfl) hR.1, Nat.le_trans (Nat.le_of_ble_eq_true rfl) hR.2⟩ hf (stk := [.int r28]) rfl (Nat.le_of_ble_eq_true rfl) dX0_count_78 (fun H locs I => ?_)
    obtain rfl := m_e1 h
    exact hret H locs ls 81 dX0_count_81 I
  replace h := m_ifF c44 h
  by_cases c45 : (p0 : Int32) = 4
  · replace h := m_ifT c45 h
    refine lv_tableIn (tgt := 82) X.1 X.2.1 dX0_count_1 (by rw [c45]; decide) (by rw [c45]; decide) (by rw [c45]; rfl) (by decide) ?_
    refine lv_aload_n X.1 X.2.1 dX0_count_82 rfl (lv_at hl 0 rfl) ?_
    obtain ⟨b29, e30, h⟩ := m_bS h
    refine u_Gr X I e30 (C := RX0) (T := TX0) (N := 9) (ref := "SwapPress") in_X0 rfl (by decide) rfl rfl q235 (fun _ h => h) dX0_count_83 ?_
    obtain ⟨b31, e32, h⟩ := m_bS h
    refine u_GiN X I e32 (C := RX1) (T := TX1) (N := 5) (ref := "SwapPress$State") (host := "SwapPress") in_X1 rfl (by decide) rfl rfl 8 rfl (fun _ h => h) dX0_count_86 ?_
    obtain rfl := m_e1 h
    exact hret H locs ls 89 dX0_count_89 I
  replace h := m_ifF c45 h
  by_cases c46 : (p0 : Int32) = 5
  · replace h := m_ifT c46 h
    refine lv_tableIn (tgt := 90) X.1 X.2.1 dX0_count_1 (by rw [c46]; decide) (by rw [c46]; decide) (by rw [c46]; rfl) (by decide) ?_
    refine lv_aload_n X.1 X.2.1 dX0_count_90 rfl (lv_at hl 0 rfl) ?_
    obtain ⟨b33, e34, h⟩ := m_bS h
    refine u_Gr X I e34 (C := RX0) (T := TX0) (N := 9) (ref := "SwapPress") in_X0 rfl (by decide) rfl rfl q236 (fun _ h => h) dX0_count_91 ?_
    obtain ⟨f35, e36, h⟩ := m_bS h
    obtain ⟨r38, e37, h⟩ := m_bS h
    refine u_callVp X hl.1 I hA (As := []) (rest := []) (uk_J2_size l n D d u b33 _ e37) (u_clS e36) (C := RJ2) (T := TJ2) (N := 3) rfl 0 q853 q667 q668 q105 q669 uh_J2_size rfl rfl ⟨Nat.le_trans (Nat.le_of_ble_eq_true rfl) hR.1, Nat.le_trans (Nat.le_of_ble_eq_true rfl) hR.2⟩ hf (stk := [.int r38]) rfl (Nat.le_of_ble_eq_true rfl) dX0_count_94 (fun H locs I => ?_)
    obtain rfl := m_e1 h
    exact hret H locs ls 97 dX0_count_97 I
  replace h := m_ifF c46 h
  by_cases c47 : (p0 : Int32) = 6
  · replace h := m_ifT c47 h
    refine lv_tableIn (tgt := 98) X.1 X.2.1 dX0_count_1 (by rw [c47]; decide) (by rw [c47]; decide) (by rw [c47]; rfl) (by decide) ?_
    refine lv_aload_n X.1 X.2.1 dX0_count_98 rfl (lv_at hl 0 rfl) ?_
    obtain ⟨b39, e40, h⟩ := m_bS h
    refine u_Gi X I e40 (C := RX0) (T := TX0) (N := 9) (ref := "SwapPress") in_X0 rfl (by decide) rfl rfl q243 (fun _ h => h) dX0_count_99 ?_
    obtain rfl := m_e1 h
    exact hret H locs ls 102 dX0_count_102 I
  replace h := m_ifF c47 h
  refine lv_tableOut (tgt := 103) X.1 X.2.1 dX0_count_1 (u_sw0_6 _ c41 c42 c43 c44 c45 c46 c47) (by decide) ?_
  refine lv_iconst (v := (-1)) X.1 X.2.1 dX0_count_103 (by decide) ?_
  obtain rfl := m_e1 h
  exact hret H locs ls 104 dX0_count_104 I
end S_X0_count
theorem uk_X0_count (l : Launch) (n : Nat) (D : va_G) (d : UD) (u : UM) (t : Nat) (p0 : Int32) (r : Int32) (h : uf_X0_count n d u t p0 = some r) : u_M l yX0_count (ws_ yX0_count cX0_count 2 (some .int)) 4 86 (0, 0) D d u [.ref t, .int p0] (some (.int r)) u :=
  u_start (own := RX0) (lvl := [(0, .ref t), (1, .int p0)]) (by decide) rfl (Nat.le_of_ble_eq_true rfl) rfl (fun p e s m args below meth c ls X hr hlk hI hl hA I hC => uw_X0_count X hA ⟨Nat.le_refl _, Nat.le_refl _⟩ ⟨Nat.zero_le _, Nat.zero_le _⟩ n u t p0 r h (fun H locs ls pc hd I => u_iret X I hr hlk ⟨rfl, rfl⟩ hd) _ _ ls I hl)

/-! SwapPress$State.net(IIZ)I -/
def uf_X1_net (n : Nat) (d : UD) (u : UM) (t : Nat) (p0 : Int32) (p1 : Int32) (p2 : Int32) : Option Int32 :=
  m_b (u_cl u 2 t) (fun f1 => m_b (uf_X1_side n d u t p0 p1 1 p2) (fun r4 => m_b (u_cl u 2 t) (fun f5 => m_b (uf_X1_side n d u t p0 p1 0 p2) (fun r8 => some (r4 - r8)))))
theorem uh_X1_net : yX1_net.cls = RX1 ∧ yX1_net.cls ≠ "java/lang/invoke/MethodHandle" ∧ yX1_net.cls ≠ "java/lang/invoke/VarHandle" ∧ (parseMethodDescriptor yX1_net.desc).map (fun d => d.parameters.length) = some 3 := by decide +kernel
section S_X1_net
variable {p : Program} {l : Launch} {e : Env} {R : Room} {s : State} {m : MethodId} {args : Array Value} {below : List Frame} {meth : Method} {c : Code} {Q : State → Prop} {D : va_G} {A : Nat → Prop} {d : UD} {cells slots : Nat}
theorem uw_X1_net (X : u_X RX1 D A d p s m c cX1_net 4 args) (hA : ∀ q, s.heap.size ≤ q → A q) (hR : 4 ≤ R.frames ∧ 91 ≤ R.locals) (hf : cells ≤ R.cells ∧ slots ≤ R.slots) (n : Nat) (u : UM) (t : Nat) (p0 : Int32) (p1 : Int32) (p2 : Int32) (r : Int32) (h : uf_X1_net n d u t p0 p1 p2 = some r) (hret : ∀ (H : Heap) (locs : List Loc) (ls : Array Slot) (pc : Nat), decode cX1_net pc = .ok (.ireturn, 1) → u_I D A s.heap u H locs cells → W p l e R s m args below meth c H locs cells slots Q (F0 m pc ls [.int r])) : ∀ (H : Heap) (locs : List Loc) (ls : Array Slot), u_I D A s.heap u H locs cells → lv_has ls 4 [(0, .ref t), (1, .int p0), (2, .int p1), (3, .int p2)] → W p l e R s m args below meth c H locs cells slots Q (F0 m 0 ls []) := by
  intro H locs ls I hl
  unfold uf_X1_net at h
  refine lv_aload_n X.1 X.2.1 dX1_net_0 rfl (lv_at hl 0 rfl) ?_
  refine lv_iload_n X.1 X.2.1 dX1_net_1 rfl (lv_at hl 1 rfl) ?_
  refine lv_iload_n X.1 X.2.1 dX1_net_2 rfl (lv_at hl 2 rfl) ?_
  refine lv_iconst (v := 1) X.1 X.2.1 dX1_net_3 (by decide) ?_
  refine lv_iload_n X.1 X.2.1 dX1_net_4 rfl (lv_at hl 3 rfl) ?_
  obtain ⟨f1, e2, h⟩ := m_bS h
  obtain ⟨r4, e3, h⟩ := m_bS h
  refine u_callVp X hl.1 I hA (As := [.int p0, .int p1, .int 1, .int p2]) (rest := []) (uk_X1_side l n D d u t p0 p1 1 p2 _ e3) (u_clS e2) (C := RX1) (T := TX1) (N := 5) rfl 4 q1186 q1187 q1188 q102 q1189 uh_X1_side rfl rfl ⟨Nat.le_trans (Nat.le_of_ble_eq_true rfl) hR.1, Nat.le_trans (Nat.le_of_ble_eq_true rfl) hR.2⟩ hf (stk := [.int r4]) rfl (Nat.le_of_ble_eq_true rfl) dX1_net_5 (fun H locs I => ?_)
  refine lv_aload_n X.1 X.2.1 dX1_net_8 rfl (lv_at hl 0 rfl) ?_
  refine lv_iload_n X.1 X.2.1 dX1_net_9 rfl (lv_at hl 1 rfl) ?_
  refine lv_iload_n X.1 X.2.1 dX1_net_10 rfl (lv_at hl 2 rfl) ?_
  refine lv_iconst (v := 0) X.1 X.2.1 dX1_net_11 (by decide) ?_
  refine lv_iload_n X.1 X.2.1 dX1_net_12 rfl (lv_at hl 3 rfl) ?_
  obtain ⟨f5, e6, h⟩ := m_bS h
  obtain ⟨r8, e7, h⟩ := m_bS h
  refine u_callVp X hl.1 I hA (As := [.int p0, .int p1, .int 0, .int p2]) (rest := [.int r4]) (uk_X1_side l n D d u t p0 p1 0 p2 _ e7) (u_clS e6) (C := RX1) (T := TX1) (N := 5) rfl 4 q1186 q1187 q1188 q102 q1189 uh_X1_side rfl rfl ⟨Nat.le_trans (Nat.le_of_ble_eq_true rfl) hR.1, Nat.le_trans (Nat.le_of_ble_eq_true rfl) hR.2⟩ hf (stk := [.int r8, .int r4]) rfl (Nat.le_of_ble_eq_true rfl) dX1_net_13 (fun H locs I => ?_)
  refine lv_isub X.1 X.2.1 dX1_net_16 ?_
  obtain rfl := m_e1 h
  exact hret H locs ls 17 dX1_net_17 I
end S_X1_net
theorem uk_X1_net (l : Launch) (n : Nat) (D : va_G) (d : UD) (u : UM) (t : Nat) (p0 : Int32) (p1 : Int32) (p2 : Int32) (r : Int32) (h : uf_X1_net n d u t p0 p1 p2 = some r) : u_M l yX1_net (ws_ yX1_net cX1_net 4 (some .int)) 4 91 (0, 0) D d u [.ref t, .int p0, .int p1, .int p2] (some (.int r)) u :=
  u_start (own := RX1) (lvl := [(0, .ref t), (1, .int p0), (2, .int p1), (3, .int p2)]) (by decide) rfl (Nat.le_of_ble_eq_true rfl) rfl (fun p e s m args below meth c ls X hr hlk hI hl hA I hC => uw_X1_net X hA ⟨Nat.le_refl _, Nat.le_refl _⟩ ⟨Nat.zero_le _, Nat.zero_le _⟩ n u t p0 p1 p2 r h (fun H locs ls pc hd I => u_iret X I hr hlk ⟨rfl, rfl⟩ hd) _ _ ls I hl)

/-! java/util/ArrayList.indexOf(Ljava/lang/Object;)I -/
def uf_J2_indexOf (n : Nat) (d : UD) (u : UM) (t : Nat) (p0 : Nat) : Option Int32 :=
  m_b (u_fi d u 13 2 t) (fun b1 => m_b (u_cl u 13 t) (fun f3 => m_b (uf_J2_indexOfRange n d u t p0 0 b1) (fun r6 => some r6)))
theorem uh_J2_indexOf : yJ2_indexOf.cls = RJ2 ∧ yJ2_indexOf.cls ≠ "java/lang/invoke/MethodHandle" ∧ yJ2_indexOf.cls ≠ "java/lang/invoke/VarHandle" ∧ (parseMethodDescriptor yJ2_indexOf.desc).map (fun d => d.parameters.length) = some 1 := by decide +kernel
section S_J2_indexOf
variable {p : Program} {l : Launch} {e : Env} {R : Room} {s : State} {m : MethodId} {args : Array Value} {below : List Frame} {meth : Method} {c : Code} {Q : State → Prop} {D : va_G} {A : Nat → Prop} {d : UD} {cells slots : Nat}
theorem uw_J2_indexOf (X : u_X RJ2 D A d p s m c cJ2_indexOf 2 args) (hA : ∀ q, s.heap.size ≤ q → A q) (hR : 3 ≤ R.frames ∧ 69 ≤ R.locals) (hf : cells ≤ R.cells ∧ slots ≤ R.slots) (n : Nat) (u : UM) (t : Nat) (p0 : Nat) (r : Int32) (h : uf_J2_indexOf n d u t p0 = some r) (hret : ∀ (H : Heap) (locs : List Loc) (ls : Array Slot) (pc : Nat), decode cJ2_indexOf pc = .ok (.ireturn, 1) → u_I D A s.heap u H locs cells → W p l e R s m args below meth c H locs cells slots Q (F0 m pc ls [.int r])) : ∀ (H : Heap) (locs : List Loc) (ls : Array Slot), u_I D A s.heap u H locs cells → lv_has ls 2 [(0, .ref t), (1, .ref p0)] → W p l e R s m args below meth c H locs cells slots Q (F0 m 0 ls []) := by
  intro H locs ls I hl
  unfold uf_J2_indexOf at h
  refine lv_aload_n X.1 X.2.1 dJ2_indexOf_0 rfl (lv_at hl 0 rfl) ?_
  refine lv_aload_n X.1 X.2.1 dJ2_indexOf_1 rfl (lv_at hl 1 rfl) ?_
  refine lv_iconst (v := 0) X.1 X.2.1 dJ2_indexOf_2 (by decide) ?_
  refine lv_aload_n X.1 X.2.1 dJ2_indexOf_3 rfl (lv_at hl 0 rfl) ?_
  obtain ⟨b1, e2, h⟩ := m_bS h
  refine u_Gi X I e2 (C := RJ2) (T := TJ2) (N := 3) (ref := "java/util/ArrayList") in_J2 rfl (by decide) rfl rfl q162 (fun _ h => h) dJ2_indexOf_4 ?_
  obtain ⟨f3, e4, h⟩ := m_bS h
  obtain ⟨r6, e5, h⟩ := m_bS h
  refine u_callVp X hl.1 I hA (As := [.ref p0, .int 0, .int b1]) (rest := []) (uk_J2_indexOfRange l n D d u t p0 0 b1 _ e5) (u_clS e4) (C := RJ2) (T := TJ2) (N := 3) rfl 3 q693 q694 q695 q105 q696 uh_J2_indexOfRange rfl rfl ⟨Nat.le_trans (Nat.le_of_ble_eq_true rfl) hR.1, Nat.le_trans (Nat.le_of_ble_eq_true rfl) hR.2⟩ hf (stk := [.int r6]) rfl (Nat.le_of_ble_eq_true rfl) dJ2_indexOf_7 (fun H locs I => ?_)
  obtain rfl := m_e1 h
  exact hret H locs ls 10 dJ2_indexOf_10 I
end S_J2_indexOf
theorem uk_J2_indexOf (l : Launch) (n : Nat) (D : va_G) (d : UD) (u : UM) (t : Nat) (p0 : Nat) (r : Int32) (h : uf_J2_indexOf n d u t p0 = some r) : u_M l yJ2_indexOf (ws_ yJ2_indexOf cJ2_indexOf 2 (some .int)) 3 69 (0, 0) D d u [.ref t, .ref p0] (some (.int r)) u :=
  u_start (own := RJ2) (lvl := [(0, .ref t), (1, .ref p0)]) (by decide) rfl (Nat.le_of_ble_eq_true rfl) rfl (fun p e s m args below meth c ls X hr hlk hI hl hA I hC => uw_J2_indexOf X hA ⟨Nat.le_refl _, Nat.le_refl _⟩ ⟨Nat.zero_le _, Nat.zero_le _⟩ n u t p0 r h (fun H locs ls pc hd I => u_iret X I hr hlk ⟨rfl, rfl⟩ hd) _ _ ls I hl)

/-! java/util/ArrayList.grow()[Ljava/lang/Object; -/
def uf_J2_grow (n : Nat) (d : UD) (u : UM) (t : Nat) : Option ((Nat × UM) × UC) :=
  m_b (u_fi d u 13 2 t) (fun b1 => m_b (u_cl u 13 t) (fun f3 => u_bc u.2 (uf_J2_grow_2 n d u t (b1 + 1)) (fun r6 u7 => some ((r6, u7), (0, 0)))))
theorem uh_J2_grow : yJ2_grow.cls = RJ2 ∧ yJ2_grow.cls ≠ "java/lang/invoke/MethodHandle" ∧ yJ2_grow.cls ≠ "java/lang/invoke/VarHandle" ∧ (parseMethodDescriptor yJ2_grow.desc).map (fun d => d.parameters.length) = some 0 := by decide +kernel
section S_J2_grow
variable {p : Program} {l : Launch} {e : Env} {R : Room} {s : State} {m : MethodId} {args : Array Value} {below : List Frame} {meth : Method} {c : Code} {Q : State → Prop} {D : va_G} {A : Nat → Prop} {d : UD}
theorem uw_J2_grow (X : u_X RJ2 D A d p s m c cJ2_grow 1 args) (hA : ∀ q, s.heap.size ≤ q → A q) (hR : 4 ≤ R.frames ∧ 127 ≤ R.locals) (n : Nat) (u : UM) (t : Nat) (r0 : Nat) (ur : UM) (C : UC) (h : uf_J2_grow n d u t = some ((r0, ur), C)) (hret : ∀ (H : Heap) (locs : List Loc) (ls : Array Slot) (pc cells slots : Nat), decode cJ2_grow pc = .ok (.areturn, 1) → u_left R cells slots (u_add (0, 0) (0, 0)) → u_I D A s.heap ur H locs cells → W p l e R s m args below meth c H locs cells slots Q (F0 m pc ls [.ref r0])) : ∀ (H : Heap) (locs : List Loc) (ls : Array Slot) (cells slots : Nat), u_left R cells slots (u_add C (0, 0)) → u_I D A s.heap u H locs cells → lv_has ls 1 [(0, .ref t)] → W p l e R s m args below meth c H locs cells slots Q (F0 m 0 ls []) := by
  intro H locs ls cells slots hC I hl
  unfold uf_J2_grow at h
  refine lv_aload_n X.1 X.2.1 dJ2_grow_0 rfl (lv_at hl 0 rfl) ?_
  refine lv_aload_n X.1 X.2.1 dJ2_grow_1 rfl (lv_at hl 0 rfl) ?_
  obtain ⟨b1, e2, h⟩ := m_bS h
  refine u_Gi X I e2 (C := RJ2) (T := TJ2) (N := 3) (ref := "java/util/ArrayList") in_J2 rfl (by decide) rfl rfl q162 (fun _ h => h) dJ2_grow_2 ?_
  refine lv_iconst (v := 1) X.1 X.2.1 dJ2_grow_5 (by decide) ?_
  refine lv_iadd X.1 X.2.1 dJ2_grow_6 ?_
  obtain ⟨f3, e4, h⟩ := m_bS h
  obtain ⟨r6, u7, C8, C9, e5, z10, h, hq⟩ := u_bcS h
  rw [hq] at hC
  refine u_callV X hl.1 I hA (As := [.int (b1 + 1)]) (rest := []) (uk_J2_grow_2 l n D d u t (b1 + 1) _ _ _ e5) z10 (u_clS e4) (C := RJ2) (T := TJ2) (N := 3) rfl 1 q730 q732 qs11 q105 q733 uh_J2_grow_2 rfl rfl ⟨Nat.le_trans (Nat.le_of_ble_eq_true rfl) hR.1, Nat.le_trans (Nat.le_of_ble_eq_true rfl) hR.2⟩ hC (stk := [.ref r6]) rfl (Nat.le_of_ble_eq_true rfl) dJ2_grow_7 (fun H locs cells slots hC I => ?_)
  obtain ⟨he, rfl⟩ := m_e3 h
  obtain ⟨rfl, rfl⟩ := m_e4 he
  exact hret H locs ls 10 _ _ dJ2_grow_10 hC I
end S_J2_grow
theorem uk_J2_grow (l : Launch) (n : Nat) (D : va_G) (d : UD) (u : UM) (t : Nat) (r0 : Nat) (ur : UM) (C : UC) (h : uf_J2_grow n d u t = some ((r0, ur), C)) : u_M l yJ2_grow (ws_ yJ2_grow cJ2_grow 1 (some (.array (.object "java/lang/Object")))) 4 127 C D d u [.ref t] (some (.ref r0)) ur :=
  u_start (own := RJ2) (lvl := [(0, .ref t)]) (by decide) rfl (Nat.le_of_ble_eq_true rfl) rfl (fun p e s m args below meth c ls X hr hlk hI hl hA I hC => uw_J2_grow X hA ⟨Nat.le_refl _, Nat.le_refl _⟩ n u t r0 ur C h (fun H locs ls pc cells slots hd hC I => u_aret (r := some r0) X I hr (Or.inr ⟨_, rfl⟩) hlk (u_leftE hC) hd) _ _ ls _ _ hC I hl)

/-! java/util/ArrayList.addAll(Ljava/util/Collection;)Z -/
def uf_J2_addAll_J56 (n : Nat) (d : UD) (u : UM) (v0 : Nat) (v2 : Nat) (v3 : Int32) (v4 : Nat) (v5 : Int32) : Option ((Int32 × UM) × UC) :=
  m_b (u_xcQ d u v2 0 v4 v5 v3) (fun w23 => m_b (u_pf (w23, u.2) 13 2 v0 (.int (v5 + v3))) (fun w25 => m_g (m_01 1) (some ((1, (w25, u.2)), (0, 0)))))
def uf_J2_addAll (n : Nat) (d : UD) (u : UM) (t : Nat) (p0 : Nat) : Option ((Int32 × UM) × UC) :=
  m_b (u_cl u 13 p0) (fun f3 => u_bc u.2 (uf_J2_toArray n d u p0) (fun r1 u5 => m_b (u_fi d u5 13 0 t) (fun b9 => m_b (u_pf u5 13 0 t (.int (b9 + 1))) (fun w11 => m_b (u_lnI d (w11, u5.2) 4 r1) (fun b13 => m_if ((b13 : Int32) = 0) (m_g (m_01 0) (some ((0, (w11, u5.2)), (0, 0)))) (m_b (u_fr d (w11, u5.2) 13 1 t) (fun b16 => m_b (u_lnI d (w11, u5.2) 4 b16) (fun b18 => m_b (u_fi d (w11, u5.2) 13 2 t) (fun b20 => m_if ((b13 : Int32) ≤ (b18 - b20 : Int32)) (uf_J2_addAll_J56 n d (w11, u5.2) t r1 b13 b16 b20) (m_b (u_cl (w11, u5.2) 13 t) (fun f28 => u_bc u5.2 (uf_J2_grow_2 n d (w11, u5.2) t (b20 + b13)) (fun r31 u32 => uf_J2_addAll_J56 n d u32 t r1 b13 r31 b20))))))))))))
theorem uh_J2_addAll : yJ2_addAll.cls = RJ2 ∧ yJ2_addAll.cls ≠ "java/lang/invoke/MethodHandle" ∧ yJ2_addAll.cls ≠ "java/lang/invoke/VarHandle" ∧ (parseMethodDescriptor yJ2_addAll.desc).map (fun d => d.parameters.length) = some 1 := by decide +kernel
section S_J2_addAll
variable {p : Program} {l : Launch} {e : Env} {R : Room} {s : State} {m : MethodId} {args : Array Value} {below : List Frame} {meth : Method} {c : Code} {Q : State → Prop} {D : va_G} {A : Nat → Prop} {d : UD}
theorem uw_J2_addAll (X : u_X RJ2 D A d p s m c cJ2_addAll 6 args) (hA : ∀ q, s.heap.size ≤ q → A q) (hR : 4 ≤ R.frames ∧ 127 ≤ R.locals) (n : Nat) (u : UM) (t : Nat) (p0 : Nat) (r0 : Int32) (ur : UM) (C : UC) (h : uf_J2_addAll n d u t p0 = some ((r0, ur), C)) (hret : ∀ (H : Heap) (locs : List Loc) (ls : Array Slot) (pc cells slots : Nat), m_01 r0 = true → decode cJ2_addAll pc = .ok (.ireturn, 1) → u_left R cells slots (u_add (0, 0) (0, 0)) → u_I D A s.heap ur H locs cells → W p l e R s m args below meth c H locs cells slots Q (F0 m pc ls [.int r0])) : ∀ (H : Heap) (locs : List Loc) (ls : Array Slot) (cells slots : Nat), u_left R cells slots (u_add C (0, 0)) → u_I D A s.heap u H locs cells → lv_has ls 6 [(0, .ref t), (1, .ref p0)] → W p l e R s m args below meth c H locs cells slots Q (F0 m 0 ls []) := by
  have k56 : ∀ (u : UM) (v0 : Nat) (v2 : Nat) (v3 : Int32) (v4 : Nat) (v5 : Int32) (H : Heap) (locs : List Loc) (ls : Array Slot) (cells slots : Nat) (C : UC), uf_J2_addAll_J56 n d u v0 v2 v3 v4 v5 = some ((r0, ur), C) → u_left R cells slots (u_add C (0, 0)) → u_I D A s.heap u H locs cells → lv_has ls 6 [(0, .ref v0), (2, .ref v2), (3, .int v3), (4, .ref v4), (5, .int v5)] → W p l e R s m args below meth c H locs cells slots Q (F0 m 56 ls []) := by
    intro u v0 v2 v3 v4 v5 H locs ls cells slots C h hC I hl
    unfold uf_J2_addAll_J56 at h
    refine lv_aload_n X.1 X.2.1 dJ2_addAll_56 rfl (lv_at hl 1 rfl) ?_
    refine lv_iconst (v := 0) X.1 X.2.1 dJ2_addAll_57 (by decide) ?_
    refine lv_aload X.1 X.2.1 dJ2_addAll_58 (lv_at hl 3 rfl) ?_
    refine lv_iload X.1 X.2.1 dJ2_addAll_60 (lv_at hl 4 rfl) ?_
    refine lv_iload_n X.1 X.2.1 dJ2_addAll_62 rfl (lv_at hl 2 rfl) ?_
    obtain ⟨w23, e24, h⟩ := m_bS h
    refine u_CQ X hl.1 I q892 q405 q404 q116 e24 (Nat.le_trans (Nat.le_of_ble_eq_true rfl) hR.1) (Nat.le_trans (Nat.le_of_ble_eq_true rfl) hR.2) (Nat.le_of_ble_eq_true rfl) dJ2_addAll_63 (fun H locs I => ?_)
    refine lv_aload_n X.1 X.2.1 dJ2_addAll_66 rfl (lv_at hl 0 rfl) ?_
    refine lv_iload X.1 X.2.1 dJ2_addAll_67 (lv_at hl 4 rfl) ?_
    refine lv_iload_n X.1 X.2.1 dJ2_addAll_69 rfl (lv_at hl 2 rfl) ?_
    refine lv_iadd X.1 X.2.1 dJ2_addAll_70 ?_
    obtain ⟨w25, e26, h⟩ := m_bS h
    refine u_P X I e26 (C := RJ2) (T := TJ2) (N := 3) (ref := "java/util/ArrayList") in_J2 tyJ2 tyJ2_ok nmJ2 rfl (by decide) rfl rfl q162 (fun _ h => h) rfl rfl rfl dJ2_addAll_71 (fun H locs I => ?_)
    refine lv_iconst (v := 1) X.1 X.2.1 dJ2_addAll_74 (by decide) ?_
    obtain ⟨g27, h⟩ := m_gS h
    obtain ⟨he, rfl⟩ := m_e3 h
    obtain ⟨rfl, rfl⟩ := m_e4 he
    exact hret H locs ls 75 _ _ g27 dJ2_addAll_75 hC I
  intro H locs ls cells slots hC I hl
  unfold uf_J2_addAll at h
  refine lv_aload_n X.1 X.2.1 dJ2_addAll_0 rfl (lv_at hl 1 rfl) ?_
  obtain ⟨f3, e4, h⟩ := m_bS h
  obtain ⟨r1, u5, C6, C7, e2, z8, h, hq⟩ := u_bcS h
  rw [hq] at hC
  refine u_callF X hl.1 I hA (As := []) (rest := []) (uk_J2_toArray l n D d u p0 _ _ _ e2) z8 (u_clS e4) (C := RJ2) (T := TJ2) (N := 3) rfl 0 1 rfl q904 q908 q910 q105 q912 uf_hd_1 rfl rfl ⟨Nat.le_trans (Nat.le_of_ble_eq_true rfl) hR.1, Nat.le_trans (Nat.le_of_ble_eq_true rfl) hR.2⟩ hC (stk := [.ref r1]) rfl (Nat.le_of_ble_eq_true rfl) dJ2_addAll_1 (fun H locs cells slots hC I => ?_)
  refine lv_astore_n (lv' := [(2, .ref r1), (0, .ref t), (1, .ref p0)]) X.1 X.2.1 dJ2_addAll_6 rfl hl (by decide) rfl (fun ls hl => ?_)
  refine lv_aload_n X.1 X.2.1 dJ2_addAll_7 rfl (lv_at hl 1 rfl) ?_
  refine lv_dup X.1 X.2.1 dJ2_addAll_8 rfl ?_
  obtain ⟨b9, e10, h⟩ := m_bS h
  refine u_Gi X I e10 (C := RJ2) (T := TJ2) (N := 3) (ref := "java/util/ArrayList") in_J2 rfl (by decide) rfl rfl q164 (u_modc X) dJ2_addAll_9 ?_
  refine lv_iconst (v := 1) X.1 X.2.1 dJ2_addAll_12 (by decide) ?_
  refine lv_iadd X.1 X.2.1 dJ2_addAll_13 ?_
  obtain ⟨w11, e12, h⟩ := m_bS h
  refine u_P X I e12 (C := RJ2) (T := TJ2) (N := 3) (ref := "java/util/ArrayList") in_J2 tyJ2 tyJ2_ok nmJ2 rfl (by decide) rfl rfl q164 (u_modc X) rfl rfl rfl dJ2_addAll_14 (fun H locs I => ?_)
  refine lv_aload_n X.1 X.2.1 dJ2_addAll_17 rfl (lv_at hl 0 rfl) ?_
  obtain ⟨b13, e14, h⟩ := m_bS h
  refine u_LN X I (by decide) e14 dJ2_addAll_18 ?_
  refine lv_istore_n (lv' := [(3, .int b13), (2, .ref r1), (0, .ref t), (1, .ref p0)]) X.1 X.2.1 dJ2_addAll_19 rfl hl (by decide) rfl (fun ls hl => ?_)
  refine lv_iload_n X.1 X.2.1 dJ2_addAll_20 rfl (lv_at hl 0 rfl) ?_
  refine lv_if_ne (tgt := 26) X.1 X.2.1 dJ2_addAll_21 (by decide) (fun c15 => ?_) (fun c15 => ?_)
  · replace h := m_ifF c15 h
    refine lv_iload_n X.1 X.2.1 dJ2_addAll_26 rfl (lv_at hl 0 rfl) ?_
    refine lv_aload_n X.1 X.2.1 dJ2_addAll_27 rfl (lv_at hl 2 rfl) ?_
    obtain ⟨b16, e17, h⟩ := m_bS h
    refine u_Gr X I e17 (C := RJ2) (T := TJ2) (N := 3) (ref := "java/util/ArrayList") in_J2 rfl (by decide) rfl rfl q161 (fun _ h => h) dJ2_addAll_28 ?_
    refine lv_dup X.1 X.2.1 dJ2_addAll_31 rfl ?_
    refine lv_astore (lv' := [(4, .ref b16), (3, .int b13), (2, .ref r1), (0, .ref t), (1, .ref p0)]) X.1 X.2.1 dJ2_addAll_32 hl (by decide) rfl (fun ls hl => ?_)
    obtain ⟨b18, e19, h⟩ := m_bS h
    refine u_LN X I (by decide) e19 dJ2_addAll_34 ?_
    refine lv_aload_n X.1 X.2.1 dJ2_addAll_35 rfl (lv_at hl 3 rfl) ?_
    obtain ⟨b20, e21, h⟩ := m_bS h
    refine u_Gi X I e21 (C := RJ2) (T := TJ2) (N := 3) (ref := "java/util/ArrayList") in_J2 rfl (by decide) rfl rfl q162 (fun _ h => h) dJ2_addAll_36 ?_
    refine lv_dup X.1 X.2.1 dJ2_addAll_39 rfl ?_
    refine lv_istore (lv' := [(5, .int b20), (4, .ref b16), (3, .int b13), (2, .ref r1), (0, .ref t), (1, .ref p0)]) X.1 X.2.1 dJ2_addAll_40 hl (by decide) rfl (fun ls hl => ?_)
    refine lv_isub X.1 X.2.1 dJ2_addAll_42 ?_
    refine lv_icmp_le (tgt := 56) X.1 X.2.1 dJ2_addAll_43 (by decide) (fun c22 => ?_) (fun c22 => ?_)
    · replace h := m_ifT c22 h
      exact k56 (w11, u5.2) t r1 b13 b16 b20 H locs ls _ _ _ h hC I (lv_sub hl [4, 3, 2, 1, 0] rfl)
    · replace h := m_ifF c22 h
      refine lv_aload_n X.1 X.2.1 dJ2_addAll_46 rfl (lv_at hl 4 rfl) ?_
      refine lv_iload X.1 X.2.1 dJ2_addAll_47 (lv_at hl 0 rfl) ?_
      refine lv_iload_n X.1 X.2.1 dJ2_addAll_49 rfl (lv_at hl 2 rfl) ?_
      refine lv_iadd X.1 X.2.1 dJ2_addAll_50 ?_
      obtain ⟨f28, e29, h⟩ := m_bS h
      obtain ⟨r31, u32, C33, C34, e30, z35, h, hq⟩ := u_bcS h
      rw [hq] at hC
      refine u_callV X hl.1 I hA (As := [.int (b20 + b13)]) (rest := []) (uk_J2_grow_2 l n D d (w11, u5.2) t (b20 + b13) _ _ _ e30) z35 (u_clS e29) (C := RJ2) (T := TJ2) (N := 3) rfl 1 q730 q732 qs11 q105 q733 uh_J2_grow_2 rfl rfl ⟨Nat.le_trans (Nat.le_of_ble_eq_true rfl) hR.1, Nat.le_trans (Nat.le_of_ble_eq_true rfl) hR.2⟩ hC (stk := [.ref r31]) rfl (Nat.le_of_ble_eq_true rfl) dJ2_addAll_51 (fun H locs cells slots hC I => ?_)
      refine lv_astore (lv' := [(4, .ref r31), (5, .int b20), (3, .int b13), (2, .ref r1), (0, .ref t), (1, .ref p0)]) X.1 X.2.1 dJ2_addAll_54 hl (by decide) rfl (fun ls hl => ?_)
      exact k56 u32 t r1 b13 r31 b20 H locs ls _ _ _ h hC I (lv_sub hl [4, 3, 2, 0, 1] rfl)
  · replace h := m_ifT c15 h
    refine lv_iconst (v := 0) X.1 X.2.1 dJ2_addAll_24 (by decide) ?_
    obtain ⟨g36, h⟩ := m_gS h
    obtain ⟨he, rfl⟩ := m_e3 h
    obtain ⟨rfl, rfl⟩ := m_e4 he
    exact hret H locs ls 25 _ _ g36 dJ2_addAll_25 hC I
end S_J2_addAll
theorem uk_J2_addAll (l : Launch) (n : Nat) (D : va_G) (d : UD) (u : UM) (t : Nat) (p0 : Nat) (r0 : Int32) (ur : UM) (C : UC) (h : uf_J2_addAll n d u t p0 = some ((r0, ur), C)) : u_M l yJ2_addAll (ws_ yJ2_addAll cJ2_addAll 6 (some .boolean)) 4 127 C D d u [.ref t, .ref p0] (some (.int r0)) ur :=
  u_start (own := RJ2) (lvl := [(0, .ref t), (1, .ref p0)]) (by decide) rfl (Nat.le_of_ble_eq_true rfl) rfl (fun p e s m args below meth c ls X hr hlk hI hl hA I hC => uw_J2_addAll X hA ⟨Nat.le_refl _, Nat.le_refl _⟩ n u t p0 r0 ur C h (fun H locs ls pc cells slots g hd hC I => u_zret X I hr hlk g (u_leftE hC) hd) _ _ ls _ _ hC I hl)

/-! java/lang/AbstractStringBuilder.append(C)Ljava/lang/AbstractStringBuilder; -/
def uf_J3_append_J56 (n : Nat) (d : UD) (u : UM) (v0 : Nat) (v1 : Int32) : Option ((Nat × UM) × UC) :=
  m_b (u_fr d u 14 0 v0) (fun b21 => m_b (u_fi d u 14 3 v0) (fun b23 => m_b (u_pf u 14 3 v0 (.int (b23 + 1))) (fun w25 => none)))
def uf_J3_append_J45 (n : Nat) (d : UD) (u : UM) (v0 : Nat) (v1 : Int32) : Option ((Nat × UM) × UC) :=
  m_b (u_cl u 14 v0) (fun f16 => m_b (uf_J3_isLatin1 n d u v0) (fun r19 => m_if ((r19 : Int32) = 0) (uf_J3_append_J56 n d u v0 v1) (m_b (u_cl u 14 v0) (fun f27 => u_bc u.2 (uf_J3_inflate n d u v0) (fun r30 u31 => uf_J3_append_J56 n d u31 v0 v1)))))
def uf_J3_append_J75 (n : Nat) (d : UD) (u : UM) (v0 : Nat) : Option ((Nat × UM) × UC) :=
  some ((v0, u), (0, 0))
def uf_J3_append (n : Nat) (d : UD) (u : UM) (t : Nat) (p0 : Int32) : Option ((Nat × UM) × UC) :=
  m_b (u_fi d u 14 3 t) (fun b1 => m_b (u_cl u 14 t) (fun f3 => u_bc u.2 (uf_J3_ensureCapacityInternal n d u t (b1 + 1)) (fun r6 u7 => m_b (u_cl u7 14 t) (fun f11 => m_b (uf_J3_isLatin1 n d u7 t) (fun r14 => m_if ((r14 : Int32) = 0) (uf_J3_append_J45 n d u7 t p0) (m_b (uf_J10_canEncode n d u7 p0) (fun r36 => m_if ((r36 : Int32) = 0) (uf_J3_append_J45 n d u7 t p0) (m_b (u_fr d u7 14 0 t) (fun b38 => m_b (u_fi d u7 14 3 t) (fun b40 => m_b (u_pf u7 14 3 t (.int (b40 + 1))) (fun w42 => m_b (u_stB d (w42, u7.2) b38 b40 ((p0 : Int32).toInt8.toInt32)) (fun w44 => uf_J3_append_J75 n d (w44, u7.2) t))))))))))))
theorem uh_J3_append : yJ3_append.cls = RJ3 ∧ yJ3_append.cls ≠ "java/lang/invoke/MethodHandle" ∧ yJ3_append.cls ≠ "java/lang/invoke/VarHandle" ∧ (parseMethodDescriptor yJ3_append.desc).map (fun d => d.parameters.length) = some 1 := by decide +kernel
section S_J3_append
variable {p : Program} {l : Launch} {e : Env} {R : Room} {s : State} {m : MethodId} {args : Array Value} {below : List Frame} {meth : Method} {c : Code} {Q : State → Prop} {D : va_G} {A : Nat → Prop} {d : UD}
theorem uw_J3_append (X : u_X RJ3 D A d p s m c cJ3_append 2 args) (hA : ∀ q, s.heap.size ≤ q → A q) (hR : 4 ≤ R.frames ∧ 110 ≤ R.locals) (n : Nat) (u : UM) (t : Nat) (p0 : Int32) (r0 : Nat) (ur : UM) (C : UC) (h : uf_J3_append n d u t p0 = some ((r0, ur), C)) (hret : ∀ (H : Heap) (locs : List Loc) (ls : Array Slot) (pc cells slots : Nat), decode cJ3_append pc = .ok (.areturn, 1) → u_left R cells slots (u_add (0, 0) (0, 0)) → u_I D A s.heap ur H locs cells → W p l e R s m args below meth c H locs cells slots Q (F0 m pc ls [.ref r0])) : ∀ (H : Heap) (locs : List Loc) (ls : Array Slot) (cells slots : Nat), u_left R cells slots (u_add C (0, 0)) → u_I D A s.heap u H locs cells → lv_has ls 2 [(0, .ref t), (1, .int p0)] → W p l e R s m args below meth c H locs cells slots Q (F0 m 0 ls []) := by
  have k56 : ∀ (u : UM) (v0 : Nat) (v1 : Int32) (H : Heap) (locs : List Loc) (ls : Array Slot) (cells slots : Nat) (C : UC), uf_J3_append_J56 n d u v0 v1 = some ((r0, ur), C) → u_left R cells slots (u_add C (0, 0)) → u_I D A s.heap u H locs cells → lv_has ls 2 [(0, .ref v0), (1, .int v1)] → W p l e R s m args below meth c H locs cells slots Q (F0 m 56 ls []) := by
    intro u v0 v1 H locs ls cells slots C h hC I hl
    unfold uf_J3_append_J56 at h
    refine lv_aload_n X.1 X.2.1 dJ3_append_56 rfl (lv_at hl 0 rfl) ?_
    obtain ⟨b21, e22, h⟩ := m_bS h
    refine u_Gr X I e22 (C := RJ4) (T := TJ4) (N := 4) (ref := "java/lang/AbstractStringBuilder") in_J4 rfl (by decide) rfl rfl q351 (fun _ h => h) dJ3_append_57 ?_
    refine lv_aload_n X.1 X.2.1 dJ3_append_60 rfl (lv_at hl 0 rfl) ?_
    refine lv_dup X.1 X.2.1 dJ3_append_61 rfl ?_
    obtain ⟨b23, e24, h⟩ := m_bS h
    refine u_Gi X I e24 (C := RJ4) (T := TJ4) (N := 4) (ref := "java/lang/AbstractStringBuilder") in_J4 rfl (by decide) rfl rfl q354 (fun _ h => h) dJ3_append_62 ?_
    refine lv_dup_x1 X.1 X.2.1 dJ3_append_65 rfl rfl ?_
    refine lv_iconst (v := 1) X.1 X.2.1 dJ3_append_66 (by decide) ?_
    refine lv_iadd X.1 X.2.1 dJ3_append_67 ?_
    obtain ⟨w25, e26, h⟩ := m_bS h
    refine u_P X I e26 (C := RJ4) (T := TJ4) (N := 4) (ref := "java/lang/AbstractStringBuilder") in_J4 tyJ4 tyJ4_ok nmJ4 rfl (by decide) rfl rfl q354 (fun _ h => h) rfl rfl rfl dJ3_append_68 (fun H locs I => ?_)
    refine lv_iload_n X.1 X.2.1 dJ3_append_71 rfl (lv_at hl 1 rfl) ?_
    cases h
  have k45 : ∀ (u : UM) (v0 : Nat) (v1 : Int32) (H : Heap) (locs : List Loc) (ls : Array Slot) (cells slots : Nat) (C : UC), uf_J3_append_J45 n d u v0 v1 = some ((r0, ur), C) → u_left R cells slots (u_add C (0, 0)) → u_I D A s.heap u H locs cells → lv_has ls 2 [(0, .ref v0), (1, .int v1)] → W p l e R s m args below meth c H locs cells slots Q (F0 m 45 ls []) := by
    intro u v0 v1 H locs ls cells slots C h hC I hl
    unfold uf_J3_append_J45 at h
    refine lv_aload_n X.1 X.2.1 dJ3_append_45 rfl (lv_at hl 0 rfl) ?_
    obtain ⟨f16, e17, h⟩ := m_bS h
    obtain ⟨r19, e18, h⟩ := m_bS h
    refine u_callUp X hl.1 I hA (As := []) (rest := []) (uk_J3_isLatin1 l n D d u v0 _ e18) (u_clS e17) (C := RJ4) (T := TJ4) (N := 4) rfl 0 q406 q408 q409 q407 q109 q410 rfl uh_J3_isLatin1.2 rfl rfl ⟨Nat.le_trans (Nat.le_of_ble_eq_true rfl) hR.1, Nat.le_trans (Nat.le_of_ble_eq_true rfl) hR.2⟩ (u_leftLe hC) (stk := [.int r19]) rfl (Nat.le_of_ble_eq_true rfl) dJ3_append_46 (fun H locs I => ?_)
    refine lv_if_eq (tgt := 56) X.1 X.2.1 dJ3_append_49 (by decide) (fun c20 => ?_) (fun c20 => ?_)
    · replace h := m_ifT c20 h
      exact k56 u v0 v1 H locs ls _ _ _ h hC I (lv_sub hl [0, 1] rfl)
    · replace h := m_ifF c20 h
      refine lv_aload_n X.1 X.2.1 dJ3_append_52 rfl (lv_at hl 0 rfl) ?_
      obtain ⟨f27, e28, h⟩ := m_bS h
      obtain ⟨r30, u31, C32, C33, e29, z34, h, hq⟩ := u_bcS h
      rw [hq] at hC
      refine u_callB X hl.1 I hA (As := []) (rest := []) (uk_J3_inflate l n D d u v0 _ _ e29) z34 (u_clS e28) (T := TJ4) (N := 4) rfl 0 2 rfl q414 q416 q109 q417 uh_J3_inflate.2 rfl rfl ⟨Nat.le_trans (Nat.le_of_ble_eq_true rfl) hR.1, Nat.le_trans (Nat.le_of_ble_eq_true rfl) hR.2⟩ hC (stk := []) rfl (Nat.le_of_ble_eq_true rfl) dJ3_append_53 (fun H locs cells slots hC I => ?_)
      exact k56 u31 v0 v1 H locs ls _ _ _ h hC I (lv_sub hl [0, 1] rfl)
  have k75 : ∀ (u : UM) (v0 : Nat) (H : Heap) (locs : List Loc) (ls : Array Slot) (cells slots : Nat) (C : UC), uf_J3_append_J75 n d u v0 = some ((r0, ur), C) → u_left R cells slots (u_add C (0, 0)) → u_I D A s.heap u H locs cells → lv_has ls 2 [(0, .ref v0)] → W p l e R s m args below meth c H locs cells slots Q (F0 m 75 ls []) := by
    intro u v0 H locs ls cells slots C h hC I hl
    unfold uf_J3_append_J75 at h
    refine lv_aload_n X.1 X.2.1 dJ3_append_75 rfl (lv_at hl 0 rfl) ?_
    obtain ⟨he, rfl⟩ := m_e3 h
    obtain ⟨rfl, rfl⟩ := m_e4 he
    exact hret H locs ls 76 _ _ dJ3_append_76 hC I
  intro H locs ls cells slots hC I hl
  unfold uf_J3_append at h
  refine lv_aload_n X.1 X.2.1 dJ3_append_0 rfl (lv_at hl 0 rfl) ?_
  refine lv_aload_n X.1 X.2.1 dJ3_append_1 rfl (lv_at hl 0 rfl) ?_
  obtain ⟨b1, e2, h⟩ := m_bS h
  refine u_Gi X I e2 (C := RJ4) (T := TJ4) (N := 4) (ref := "java/lang/AbstractStringBuilder") in_J4 rfl (by decide) rfl rfl q354 (fun _ h => h) dJ3_append_2 ?_
  refine lv_iconst (v := 1) X.1 X.2.1 dJ3_append_5 (by decide) ?_
  refine lv_iadd X.1 X.2.1 dJ3_append_6 ?_
  obtain ⟨f3, e4, h⟩ := m_bS h
  obtain ⟨r6, u7, C8, C9, e5, z10, h, hq⟩ := u_bcS h
  rw [hq] at hC
  refine u_callB X hl.1 I hA (As := [.int (b1 + 1)]) (rest := []) (uk_J3_ensureCapacityInternal l n D d u t (b1 + 1) _ _ e5) z10 (u_clS e4) (T := TJ4) (N := 4) rfl 1 0 rfl q371 q373 q109 q374 uh_J3_ensureCapacityInternal.2 rfl rfl ⟨Nat.le_trans (Nat.le_of_ble_eq_true rfl) hR.1, Nat.le_trans (Nat.le_of_ble_eq_true rfl) hR.2⟩ hC (stk := []) rfl (Nat.le_of_ble_eq_true rfl) dJ3_append_7 (fun H locs cells slots hC I => ?_)
  refine lv_aload_n X.1 X.2.1 dJ3_append_10 rfl (lv_at hl 0 rfl) ?_
  obtain ⟨f11, e12, h⟩ := m_bS h
  obtain ⟨r14, e13, h⟩ := m_bS h
  refine u_callUp X hl.1 I hA (As := []) (rest := []) (uk_J3_isLatin1 l n D d u7 t _ e13) (u_clS e12) (C := RJ4) (T := TJ4) (N := 4) rfl 0 q406 q408 q409 q407 q109 q410 rfl uh_J3_isLatin1.2 rfl rfl ⟨Nat.le_trans (Nat.le_of_ble_eq_true rfl) hR.1, Nat.le_trans (Nat.le_of_ble_eq_true rfl) hR.2⟩ (u_leftLe hC) (stk := [.int r14]) rfl (Nat.le_of_ble_eq_true rfl) dJ3_append_11 (fun H locs I => ?_)
  refine lv_if_eq (tgt := 45) X.1 X.2.1 dJ3_append_14 (by decide) (fun c15 => ?_) (fun c15 => ?_)
  · replace h := m_ifT c15 h
    exact k45 u7 t p0 H locs ls _ _ _ h hC I (lv_sub hl [0, 1] rfl)
  · replace h := m_ifF c15 h
    refine lv_iload_n X.1 X.2.1 dJ3_append_17 rfl (lv_at hl 1 rfl) ?_
    obtain ⟨r36, e35, h⟩ := m_bS h
    refine u_callSp X hl.1 I hA (As := [.int p0]) (rest := []) (uk_J10_canEncode l n D d u7 p0 _ e35) 1 q411 q412 q117 q413 uh_J10_canEncode.2 rfl rfl ⟨Nat.le_trans (Nat.le_of_ble_eq_true rfl) hR.1, Nat.le_trans (Nat.le_of_ble_eq_true rfl) hR.2⟩ (u_leftLe hC) (stk := [.int r36]) rfl (Nat.le_of_ble_eq_true rfl) dJ3_append_18 (fun H locs I => ?_)
    refine lv_if_eq (tgt := 45) X.1 X.2.1 dJ3_append_21 (by decide) (fun c37 => ?_) (fun c37 => ?_)
    · replace h := m_ifT c37 h
      exact k45 u7 t p0 H locs ls _ _ _ h hC I (lv_sub hl [0, 1] rfl)
    · replace h := m_ifF c37 h
      refine lv_aload_n X.1 X.2.1 dJ3_append_24 rfl (lv_at hl 0 rfl) ?_
      obtain ⟨b38, e39, h⟩ := m_bS h
      refine u_Gr X I e39 (C := RJ4) (T := TJ4) (N := 4) (ref := "java/lang/AbstractStringBuilder") in_J4 rfl (by decide) rfl rfl q351 (fun _ h => h) dJ3_append_25 ?_
      refine lv_aload_n X.1 X.2.1 dJ3_append_28 rfl (lv_at hl 0 rfl) ?_
      refine lv_dup X.1 X.2.1 dJ3_append_29 rfl ?_
      obtain ⟨b40, e41, h⟩ := m_bS h
      refine u_Gi X I e41 (C := RJ4) (T := TJ4) (N := 4) (ref := "java/lang/AbstractStringBuilder") in_J4 rfl (by decide) rfl rfl q354 (fun _ h => h) dJ3_append_30 ?_
      refine lv_dup_x1 X.1 X.2.1 dJ3_append_33 rfl rfl ?_
      refine lv_iconst (v := 1) X.1 X.2.1 dJ3_append_34 (by decide) ?_
      refine lv_iadd X.1 X.2.1 dJ3_append_35 ?_
      obtain ⟨w42, e43, h⟩ := m_bS h
      refine u_P X I e43 (C := RJ4) (T := TJ4) (N := 4) (ref := "java/lang/AbstractStringBuilder") in_J4 tyJ4 tyJ4_ok nmJ4 rfl (by decide) rfl rfl q354 (fun _ h => h) rfl rfl rfl dJ3_append_36 (fun H locs I => ?_)
      refine lv_iload_n X.1 X.2.1 dJ3_append_39 rfl (lv_at hl 1 rfl) ?_
      refine lv_i2b X.1 X.2.1 dJ3_append_40 rfl ?_
      obtain ⟨w44, e45, h⟩ := m_bS h
      refine u_SB X I e45 dJ3_append_41 (fun H locs I => ?_)
      refine lv_goto (tgt := 75) X.1 X.2.1 dJ3_append_42 (by decide) ?_
      exact k75 (w44, u7.2) t H locs ls _ _ _ h hC I (lv_sub hl [0] rfl)
end S_J3_append
theorem uk_J3_append (l : Launch) (n : Nat) (D : va_G) (d : UD) (u : UM) (t : Nat) (p0 : Int32) (r0 : Nat) (ur : UM) (C : UC) (h : uf_J3_append n d u t p0 = some ((r0, ur), C)) : u_M l yJ3_append (ws_ yJ3_append cJ3_append 2 (some (.object "java/lang/AbstractStringBuilder"))) 4 110 C D d u [.ref t, .int p0] (some (.ref r0)) ur :=
  u_start (own := RJ3) (lvl := [(0, .ref t), (1, .int p0)]) (by decide) rfl (Nat.le_of_ble_eq_true rfl) rfl (fun p e s m args below meth c ls X hr hlk hI hl hA I hC => uw_J3_append X hA ⟨Nat.le_refl _, Nat.le_refl _⟩ n u t p0 r0 ur C h (fun H locs ls pc cells slots hd hC I => u_aret (r := some r0) X I hr (Or.inl ⟨_, rfl⟩) hlk (u_leftE hC) hd) _ _ ls _ _ hC I hl)

/-! java/lang/AbstractStringBuilder.append(Ljava/lang/String;)Ljava/lang/AbstractStringBuilder; -/
def uf_J3_append_2 (n : Nat) (d : UD) (u : UM) (t : Nat) (p0 : Nat) : Option ((Nat × UM) × UC) :=
  m_b (u_tx d u p0) (fun f1 => m_b (uf_J5_length n d u p0) (fun r4 => m_b (u_fi d u 14 3 t) (fun b5 => m_b (u_cl u 14 t) (fun f7 => u_bc u.2 (uf_J3_ensureCapacityInternal n d u t (b5 + r4)) (fun r10 u11 => m_b (u_fi d u11 14 3 t) (fun b15 => m_b (u_cl u11 14 t) (fun f17 => u_bc u11.2 (uf_J3_putStringAt n d u11 t b15 p0) (fun r20 u21 => m_b (u_fi d u21 14 3 t) (fun b25 => m_b (u_pf u21 14 3 t (.int (b25 + r4))) (fun w27 => some ((t, (w27, u21.2)), (0, 0))))))))))))
theorem uh_J3_append_2 : yJ3_append_2.cls = RJ3 ∧ yJ3_append_2.cls ≠ "java/lang/invoke/MethodHandle" ∧ yJ3_append_2.cls ≠ "java/lang/invoke/VarHandle" ∧ (parseMethodDescriptor yJ3_append_2.desc).map (fun d => d.parameters.length) = some 1 := by decide +kernel
section S_J3_append_2
variable {p : Program} {l : Launch} {e : Env} {R : Room} {s : State} {m : MethodId} {args : Array Value} {below : List Frame} {meth : Method} {c : Code} {Q : State → Prop} {D : va_G} {A : Nat → Prop} {d : UD}
theorem uw_J3_append_2 (X : u_X RJ3 D A d p s m c cJ3_append_2 3 args) (hA : ∀ q, s.heap.size ≤ q → A q) (hR : 5 ≤ R.frames ∧ 132 ≤ R.locals) (n : Nat) (u : UM) (t : Nat) (p0 : Nat) (r0 : Nat) (ur : UM) (C : UC) (h : uf_J3_append_2 n d u t p0 = some ((r0, ur), C)) (hret : ∀ (H : Heap) (locs : List Loc) (ls : Array Slot) (pc cells slots : Nat), decode cJ3_append_2 pc = .ok (.areturn, 1) → u_left R cells slots (u_add (0, 0) (0, 0)) → u_I D A s.heap ur H locs cells → W p l e R s m args below meth c H locs cells slots Q (F0 m pc ls [.ref r0])) : ∀ (H : Heap) (locs : List Loc) (ls : Array Slot) (cells slots : Nat), u_left R cells slots (u_add C (0, 0)) → u_I D A s.heap u H locs cells → lv_has ls 3 [(0, .ref t), (1, .ref p0)] → W p l e R s m args below meth c H locs cells slots Q (F0 m 0 ls []) := by
  intro H locs ls cells slots hC I hl
  unfold uf_J3_append_2 at h
  refine lv_aload_n X.1 X.2.1 dJ3_append_2_0 rfl (lv_at hl 1 rfl) ?_
  refine lv_ifnonnull (tgt := 9) X.1 X.2.1 dJ3_append_2_1 (by decide) ?_
  refine lv_aload_n X.1 X.2.1 dJ3_append_2_9 rfl (lv_at hl 1 rfl) ?_
  obtain ⟨f1, e2, h⟩ := m_bS h
  obtain ⟨r4, e3, h⟩ := m_bS h
  refine u_callVpT X hl.1 I hA (As := []) (rest := []) (uk_J5_length l n D d u p0 _ e3) (u_txS e2) 0 q1406 q1407 q1408 q111 q1409 uh_J5_length rfl rfl ⟨Nat.le_trans (Nat.le_of_ble_eq_true rfl) hR.1, Nat.le_trans (Nat.le_of_ble_eq_true rfl) hR.2⟩ (u_leftLe hC) (stk := [.int r4]) rfl (Nat.le_of_ble_eq_true rfl) dJ3_append_2_10 (fun H locs I => ?_)
  refine lv_istore_n (lv' := [(2, .int r4), (0, .ref t), (1, .ref p0)]) X.1 X.2.1 dJ3_append_2_13 rfl hl (by decide) rfl (fun ls hl => ?_)
  refine lv_aload_n X.1 X.2.1 dJ3_append_2_14 rfl (lv_at hl 1 rfl) ?_
  refine lv_aload_n X.1 X.2.1 dJ3_append_2_15 rfl (lv_at hl 1 rfl) ?_
  obtain ⟨b5, e6, h⟩ := m_bS h
  refine u_Gi X I e6 (C := RJ4) (T := TJ4) (N := 4) (ref := "java/lang/AbstractStringBuilder") in_J4 rfl (by decide) rfl rfl q354 (fun _ h => h) dJ3_append_2_16 ?_
  refine lv_iload_n X.1 X.2.1 dJ3_append_2_19 rfl (lv_at hl 0 rfl) ?_
  refine lv_iadd X.1 X.2.1 dJ3_append_2_20 ?_
  obtain ⟨f7, e8, h⟩ := m_bS h
  obtain ⟨r10, u11, C12, C13, e9, z14, h, hq⟩ := u_bcS h
  rw [hq] at hC
  refine u_callB X hl.1 I hA (As := [.int (b5 + r4)]) (rest := []) (uk_J3_ensureCapacityInternal l n D d u t (b5 + r4) _ _ e9) z14 (u_clS e8) (T := TJ4) (N := 4) rfl 1 0 rfl q371 q373 q109 q374 uh_J3_ensureCapacityInternal.2 rfl rfl ⟨Nat.le_trans (Nat.le_of_ble_eq_true rfl) hR.1, Nat.le_trans (Nat.le_of_ble_eq_true rfl) hR.2⟩ hC (stk := []) rfl (Nat.le_of_ble_eq_true rfl) dJ3_append_2_21 (fun H locs cells slots hC I => ?_)
  refine lv_aload_n X.1 X.2.1 dJ3_append_2_24 rfl (lv_at hl 1 rfl) ?_
  refine lv_aload_n X.1 X.2.1 dJ3_append_2_25 rfl (lv_at hl 1 rfl) ?_
  obtain ⟨b15, e16, h⟩ := m_bS h
  refine u_Gi X I e16 (C := RJ4) (T := TJ4) (N := 4) (ref := "java/lang/AbstractStringBuilder") in_J4 rfl (by decide) rfl rfl q354 (fun _ h => h) dJ3_append_2_26 ?_
  refine lv_aload_n X.1 X.2.1 dJ3_append_2_29 rfl (lv_at hl 2 rfl) ?_
  obtain ⟨f17, e18, h⟩ := m_bS h
  obtain ⟨r20, u21, C22, C23, e19, z24, h, hq⟩ := u_bcS h
  rw [hq] at hC
  refine u_callB X hl.1 I hA (As := [.int b15, .ref p0]) (rest := []) (uk_J3_putStringAt l n D d u11 t b15 p0 _ _ e19) z24 (u_clS e18) (T := TJ4) (N := 4) rfl 2 4 rfl q1414 q1416 q109 q1417 uh_J3_putStringAt.2 rfl rfl ⟨Nat.le_trans (Nat.le_of_ble_eq_true rfl) hR.1, Nat.le_trans (Nat.le_of_ble_eq_true rfl) hR.2⟩ hC (stk := []) rfl (Nat.le_of_ble_eq_true rfl) dJ3_append_2_30 (fun H locs cells slots hC I => ?_)
  refine lv_aload_n X.1 X.2.1 dJ3_append_2_33 rfl (lv_at hl 1 rfl) ?_
  refine lv_dup X.1 X.2.1 dJ3_append_2_34 rfl ?_
  obtain ⟨b25, e26, h⟩ := m_bS h
  refine u_Gi X I e26 (C := RJ4) (T := TJ4) (N := 4) (ref := "java/lang/AbstractStringBuilder") in_J4 rfl (by decide) rfl rfl q354 (fun _ h => h) dJ3_append_2_35 ?_
  refine lv_iload_n X.1 X.2.1 dJ3_append_2_38 rfl (lv_at hl 0 rfl) ?_
  refine lv_iadd X.1 X.2.1 dJ3_append_2_39 ?_
  obtain ⟨w27, e28, h⟩ := m_bS h
  refine u_P X I e28 (C := RJ4) (T := TJ4) (N := 4) (ref := "java/lang/AbstractStringBuilder") in_J4 tyJ4 tyJ4_ok nmJ4 rfl (by decide) rfl rfl q354 (fun _ h => h) rfl rfl rfl dJ3_append_2_40 (fun H locs I => ?_)
  refine lv_aload_n X.1 X.2.1 dJ3_append_2_43 rfl (lv_at hl 1 rfl) ?_
  obtain ⟨he, rfl⟩ := m_e3 h
  obtain ⟨rfl, rfl⟩ := m_e4 he
  exact hret H locs ls 44 _ _ dJ3_append_2_44 hC I
end S_J3_append_2
theorem uk_J3_append_2 (l : Launch) (n : Nat) (D : va_G) (d : UD) (u : UM) (t : Nat) (p0 : Nat) (r0 : Nat) (ur : UM) (C : UC) (h : uf_J3_append_2 n d u t p0 = some ((r0, ur), C)) : u_M l yJ3_append_2 (ws_ yJ3_append_2 cJ3_append_2 3 (some (.object "java/lang/AbstractStringBuilder"))) 5 132 C D d u [.ref t, .ref p0] (some (.ref r0)) ur :=
  u_start (own := RJ3) (lvl := [(0, .ref t), (1, .ref p0)]) (by decide) rfl (Nat.le_of_ble_eq_true rfl) rfl (fun p e s m args below meth c ls X hr hlk hI hl hA I hC => uw_J3_append_2 X hA ⟨Nat.le_refl _, Nat.le_refl _⟩ n u t p0 r0 ur C h (fun H locs ls pc cells slots hd hC I => u_aret (r := some r0) X I hr (Or.inl ⟨_, rfl⟩) hlk (u_leftE hC) hd) _ _ ls _ _ hC I hl)

/-! java/lang/StringBuilder.append(C)Ljava/lang/StringBuilder; -/
def uf_J4_append (n : Nat) (d : UD) (u : UM) (t : Nat) (p0 : Int32) : Option ((Nat × UM) × UC) :=
  m_b (u_cl u 14 t) (fun f1 => u_bc u.2 (uf_J3_append n d u t p0) (fun r4 u5 => some ((t, u5), (0, 0))))
theorem uh_J4_append : yJ4_append.cls = RJ4 ∧ yJ4_append.cls ≠ "java/lang/invoke/MethodHandle" ∧ yJ4_append.cls ≠ "java/lang/invoke/VarHandle" ∧ (parseMethodDescriptor yJ4_append.desc).map (fun d => d.parameters.length) = some 1 := by decide +kernel
section S_J4_append
variable {p : Program} {l : Launch} {e : Env} {R : Room} {s : State} {m : MethodId} {args : Array Value} {below : List Frame} {meth : Method} {c : Code} {Q : State → Prop} {D : va_G} {A : Nat → Prop} {d : UD}
theorem uw_J4_append (X : u_X RJ4 D A d p s m c cJ4_append 2 args) (hA : ∀ q, s.heap.size ≤ q → A q) (hR : 5 ≤ R.frames ∧ 131 ≤ R.locals) (n : Nat) (u : UM) (t : Nat) (p0 : Int32) (r0 : Nat) (ur : UM) (C : UC) (h : uf_J4_append n d u t p0 = some ((r0, ur), C)) (hret : ∀ (H : Heap) (locs : List Loc) (ls : Array Slot) (pc cells slots : Nat), decode cJ4_append pc = .ok (.areturn, 1) → u_left R cells slots (u_add (0, 0) (0, 0)) → u_I D A s.heap ur H locs cells → W p l e R s m args below meth c H locs cells slots Q (F0 m pc ls [.ref r0])) : ∀ (H : Heap) (locs : List Loc) (ls : Array Slot) (cells slots : Nat), u_left R cells slots (u_add C (0, 0)) → u_I D A s.heap u H locs cells → lv_has ls 2 [(0, .ref t), (1, .int p0)] → W p l e R s m args below meth c H locs cells slots Q (F0 m 0 ls []) := by
  intro H locs ls cells slots hC I hl
  unfold uf_J4_append at h
  refine lv_aload_n X.1 X.2.1 dJ4_append_0 rfl (lv_at hl 0 rfl) ?_
  refine lv_iload_n X.1 X.2.1 dJ4_append_1 rfl (lv_at hl 1 rfl) ?_
  obtain ⟨f1, e2, h⟩ := m_bS h
  obtain ⟨r4, u5, C6, C7, e3, z8, h, hq⟩ := u_bcS h
  rw [hq] at hC
  refine u_callSU X hl.1 I hA (As := [.int p0]) (rest := []) (uk_J3_append l n D d u t p0 _ _ _ e3) z8 (u_clS e2) (C := RJ4) (T := TJ4) (N := 4) rfl 1 q368 q2024 q363 q369 q109 q370 ⟨by decide, uh_J3_append.2.2.2⟩ rfl rfl ⟨Nat.le_trans (Nat.le_of_ble_eq_true rfl) hR.1, Nat.le_trans (Nat.le_of_ble_eq_true rfl) hR.2⟩ hC (stk := [.ref r4]) rfl (Nat.le_of_ble_eq_true rfl) dJ4_append_2 (fun H locs cells slots hC I => ?_)
  refine lv_pop X.1 X.2.1 dJ4_append_5 rfl ?_
  refine lv_aload_n X.1 X.2.1 dJ4_append_6 rfl (lv_at hl 0 rfl) ?_
  obtain ⟨he, rfl⟩ := m_e3 h
  obtain ⟨rfl, rfl⟩ := m_e4 he
  exact hret H locs ls 7 _ _ dJ4_append_7 hC I
end S_J4_append
theorem uk_J4_append (l : Launch) (n : Nat) (D : va_G) (d : UD) (u : UM) (t : Nat) (p0 : Int32) (r0 : Nat) (ur : UM) (C : UC) (h : uf_J4_append n d u t p0 = some ((r0, ur), C)) : u_M l yJ4_append (ws_ yJ4_append cJ4_append 2 (some (.object "java/lang/StringBuilder"))) 5 131 C D d u [.ref t, .int p0] (some (.ref r0)) ur :=
  u_start (own := RJ4) (lvl := [(0, .ref t), (1, .int p0)]) (by decide) rfl (Nat.le_of_ble_eq_true rfl) rfl (fun p e s m args below meth c ls X hr hlk hI hl hA I hC => uw_J4_append X hA ⟨Nat.le_refl _, Nat.le_refl _⟩ n u t p0 r0 ur C h (fun H locs ls pc cells slots hd hC I => u_aret (r := some r0) X I hr (Or.inl ⟨_, rfl⟩) hlk (u_leftE hC) hd) _ _ ls _ _ hC I hl)

/-! java/lang/StringBuilder.append(Ljava/lang/String;)Ljava/lang/StringBuilder; -/
def uf_J4_append_2 (n : Nat) (d : UD) (u : UM) (t : Nat) (p0 : Nat) : Option ((Nat × UM) × UC) :=
  m_b (u_cl u 14 t) (fun f1 => u_bc u.2 (uf_J3_append_2 n d u t p0) (fun r4 u5 => some ((t, u5), (0, 0))))
theorem uh_J4_append_2 : yJ4_append_2.cls = RJ4 ∧ yJ4_append_2.cls ≠ "java/lang/invoke/MethodHandle" ∧ yJ4_append_2.cls ≠ "java/lang/invoke/VarHandle" ∧ (parseMethodDescriptor yJ4_append_2.desc).map (fun d => d.parameters.length) = some 1 := by decide +kernel
section S_J4_append_2
variable {p : Program} {l : Launch} {e : Env} {R : Room} {s : State} {m : MethodId} {args : Array Value} {below : List Frame} {meth : Method} {c : Code} {Q : State → Prop} {D : va_G} {A : Nat → Prop} {d : UD}
theorem uw_J4_append_2 (X : u_X RJ4 D A d p s m c cJ4_append_2 2 args) (hA : ∀ q, s.heap.size ≤ q → A q) (hR : 6 ≤ R.frames ∧ 154 ≤ R.locals) (n : Nat) (u : UM) (t : Nat) (p0 : Nat) (r0 : Nat) (ur : UM) (C : UC) (h : uf_J4_append_2 n d u t p0 = some ((r0, ur), C)) (hret : ∀ (H : Heap) (locs : List Loc) (ls : Array Slot) (pc cells slots : Nat), decode cJ4_append_2 pc = .ok (.areturn, 1) → u_left R cells slots (u_add (0, 0) (0, 0)) → u_I D A s.heap ur H locs cells → W p l e R s m args below meth c H locs cells slots Q (F0 m pc ls [.ref r0])) : ∀ (H : Heap) (locs : List Loc) (ls : Array Slot) (cells slots : Nat), u_left R cells slots (u_add C (0, 0)) → u_I D A s.heap u H locs cells → lv_has ls 2 [(0, .ref t), (1, .ref p0)] → W p l e R s m args below meth c H locs cells slots Q (F0 m 0 ls []) := by
  intro H locs ls cells slots hC I hl
  unfold uf_J4_append_2 at h
  refine lv_aload_n X.1 X.2.1 dJ4_append_2_0 rfl (lv_at hl 0 rfl) ?_
  refine lv_aload_n X.1 X.2.1 dJ4_append_2_1 rfl (lv_at hl 1 rfl) ?_
  obtain ⟨f1, e2, h⟩ := m_bS h
  obtain ⟨r4, u5, C6, C7, e3, z8, h, hq⟩ := u_bcS h
  rw [hq] at hC
  refine u_callSU X hl.1 I hA (As := [.ref p0]) (rest := []) (uk_J3_append_2 l n D d u t p0 _ _ _ e3) z8 (u_clS e2) (C := RJ4) (T := TJ4) (N := 4) rfl 1 q1387 q2030 q363 q1388 q109 q1389 ⟨by decide, uh_J3_append_2.2.2.2⟩ rfl rfl ⟨Nat.le_trans (Nat.le_of_ble_eq_true rfl) hR.1, Nat.le_trans (Nat.le_of_ble_eq_true rfl) hR.2⟩ hC (stk := [.ref r4]) rfl (Nat.le_of_ble_eq_true rfl) dJ4_append_2_2 (fun H locs cells slots hC I => ?_)
  refine lv_pop X.1 X.2.1 dJ4_append_2_5 rfl ?_
  refine lv_aload_n X.1 X.2.1 dJ4_append_2_6 rfl (lv_at hl 0 rfl) ?_
  obtain ⟨he, rfl⟩ := m_e3 h
  obtain ⟨rfl, rfl⟩ := m_e4 he
  exact hret H locs ls 7 _ _ dJ4_append_2_7 hC I
end S_J4_append_2
theorem uk_J4_append_2 (l : Launch) (n : Nat) (D : va_G) (d : UD) (u : UM) (t : Nat) (p0 : Nat) (r0 : Nat) (ur : UM) (C : UC) (h : uf_J4_append_2 n d u t p0 = some ((r0, ur), C)) : u_M l yJ4_append_2 (ws_ yJ4_append_2 cJ4_append_2 2 (some (.object "java/lang/StringBuilder"))) 6 154 C D d u [.ref t, .ref p0] (some (.ref r0)) ur :=
  u_start (own := RJ4) (lvl := [(0, .ref t), (1, .ref p0)]) (by decide) rfl (Nat.le_of_ble_eq_true rfl) rfl (fun p e s m args below meth c ls X hr hlk hI hl hA I hC => uw_J4_append_2 X hA ⟨Nat.le_refl _, Nat.le_refl _⟩ n u t p0 r0 ur C h (fun H locs ls pc cells slots hd hC I => u_aret (r := some r0) X I hr (Or.inl ⟨_, rfl⟩) hlk (u_leftE hC) hd) _ _ ls _ _ hC I hl)

/-! java/lang/String.<init>(Ljava/lang/AbstractStringBuilder;Ljava/lang/Void;)V -/
def uf_J5_init_2_J97 (n : Nat) (d : UD) (u : UM) : Option ((Unit × UM) × UC) :=
  some (((), u), (0, 0))
def uf_J5_init_2_J79 (n : Nat) (d : UD) (u : UM) (v0 : Nat) (v3 : Nat) (v4 : Int32) : Option ((Unit × UM) × UC) :=
  m_g (m_01 1) (m_b (u_pf u 15 1 v0 (.int 1)) (fun w16 => u_bc u.2 (uf_J9_copyOfRange n d (w16, u.2) v3 0 (v4 <<< (1 &&& 31))) (fun r19 u20 => m_b (u_pf u20 15 0 v0 (.ref r19)) (fun w24 => uf_J5_init_2_J97 n d (w24, u20.2) ))))
def uf_J5_init_2 (n : Nat) (d : UD) (u : UM) (t : Nat) (p0 : Nat) (p1 : (Option Nat)) : Option ((Unit × UM) × UC) :=
  m_b (u_cl u 14 p0) (fun f1 => m_b (uf_J3_getValue n d u p0) (fun r4 => m_b (u_cl u 14 p0) (fun f5 => m_b (uf_J4_length n d u p0) (fun r8 => m_b (u_cl u 14 p0) (fun f9 => m_b (uf_J3_isLatin1 n d u p0) (fun r12 => m_if ((r12 : Int32) = 0) (m_if ((1 : Int32) = 0) (uf_J5_init_2_J79 n d u t r4 r8) (m_b (u_fi d u 14 2 p0) (fun b26 => m_if ((b26 : Int32) = 0) (uf_J5_init_2_J79 n d u t r4 r8) (none)))) (m_g (m_01 0) (m_b (u_pf u 15 1 t (.int 0)) (fun w30 => u_bc u.2 (uf_J9_copyOfRange n d (w30, u.2) r4 0 r8) (fun r33 u34 => m_b (u_pf u34 15 0 t (.ref r33)) (fun w38 => uf_J5_init_2_J97 n d (w38, u34.2) )))))))))))
theorem uh_J5_init_2 : yJ5_init_2.cls = RJ5 ∧ yJ5_init_2.cls ≠ "java/lang/invoke/MethodHandle" ∧ yJ5_init_2.cls ≠ "java/lang/invoke/VarHandle" ∧ (parseMethodDescriptor yJ5_init_2.desc).map (fun d => d.parameters.length) = some 2 := by decide +kernel
section S_J5_init_2
variable {p : Program} {l : Launch} {e : Env} {R : Room} {s : State} {m : MethodId} {args : Array Value} {below : List Frame} {meth : Method} {c : Code} {Q : State → Prop} {D : va_G} {A : Nat → Prop} {d : UD}
theorem uw_J5_init_2 (X : u_X RJ5 D A d p s m c cJ5_init_2 5 args) (hA : ∀ q, s.heap.size ≤ q → A q) (hR : 3 ≤ R.frames ∧ 106 ≤ R.locals) (hI : meth.name = "<init>") (n : Nat) (u : UM) (t : Nat) (p0 : Nat) (p1 : (Option Nat)) (r0 : Unit) (ur : UM) (C : UC) (h : uf_J5_init_2 n d u t p0 p1 = some ((r0, ur), C)) (hret : ∀ (H : Heap) (locs : List Loc) (ls : Array Slot) (pc cells slots : Nat), decode cJ5_init_2 pc = .ok (.return_, 1) → u_left R cells slots (u_add (0, 0) (0, 0)) → u_I D A s.heap ur H locs cells → W p l e R s m args below meth c H locs cells slots Q (F0 m pc ls [])) : ∀ (H : Heap) (locs : List Loc) (ls : Array Slot) (cells slots : Nat), u_left R cells slots (u_add C (0, 0)) → u_I D A s.heap u H locs cells → lv_has ls 5 [(0, .ref t), (1, .ref p0), (2, va_rf p1)] → W p l e R s m args below meth c H locs cells slots Q (F0 m 0 ls []) := by
  have k97 : ∀ (u : UM) (H : Heap) (locs : List Loc) (ls : Array Slot) (cells slots : Nat) (C : UC), uf_J5_init_2_J97 n d u = some ((r0, ur), C) → u_left R cells slots (u_add C (0, 0)) → u_I D A s.heap u H locs cells → lv_has ls 5 [] → W p l e R s m args below meth c H locs cells slots Q (F0 m 97 ls []) := by
    intro u H locs ls cells slots C h hC I hl
    unfold uf_J5_init_2_J97 at h
    obtain ⟨he, rfl⟩ := m_e3 h
    obtain ⟨rfl, rfl⟩ := m_e4 he
    exact hret H locs ls 97 _ _ dJ5_init_2_97 hC I
  have k79 : ∀ (u : UM) (v0 : Nat) (v3 : Nat) (v4 : Int32) (H : Heap) (locs : List Loc) (ls : Array Slot) (cells slots : Nat) (C : UC), uf_J5_init_2_J79 n d u v0 v3 v4 = some ((r0, ur), C) → u_left R cells slots (u_add C (0, 0)) → u_I D A s.heap u H locs cells → lv_has ls 5 [(0, .ref v0), (3, .ref v3), (4, .int v4)] → W p l e R s m args below meth c H locs cells slots Q (F0 m 79 ls []) := by
    intro u v0 v3 v4 H locs ls cells slots C h hC I hl
    unfold uf_J5_init_2_J79 at h
    refine lv_aload_n X.1 X.2.1 dJ5_init_2_79 rfl (lv_at hl 0 rfl) ?_
    refine lv_iconst (v := 1) X.1 X.2.1 dJ5_init_2_80 (by decide) ?_
    obtain ⟨g15, h⟩ := m_gS h
    obtain ⟨w16, e17, h⟩ := m_bS h
    refine u_PF X I e17 (C := RJ5) (T := TJ5) (N := 4) (ref := "java/lang/String") in_J5 tyJ5 tyJ5_ok nmJ5 rfl (by decide) rfl rfl q510 (fun _ h => h) rfl hI rfl (u_01b g15) (u_01f g15) dJ5_init_2_81 (fun H locs I => ?_)
    refine lv_aload_n X.1 X.2.1 dJ5_init_2_84 rfl (lv_at hl 0 rfl) ?_
    refine lv_aload_n X.1 X.2.1 dJ5_init_2_85 rfl (lv_at hl 1 rfl) ?_
    refine lv_iconst (v := 0) X.1 X.2.1 dJ5_init_2_86 (by decide) ?_
    refine lv_iload X.1 X.2.1 dJ5_init_2_87 (lv_at hl 2 rfl) ?_
    refine lv_iconst (v := 1) X.1 X.2.1 dJ5_init_2_89 (by decide) ?_
    refine lv_ishl X.1 X.2.1 dJ5_init_2_90 ?_
    obtain ⟨r19, u20, C21, C22, e18, z23, h, hq⟩ := u_bcS h
    rw [hq] at hC
    refine u_callS X hl.1 I hA (As := [.ref v3, .int 0, .int (v4 <<< (1 &&& 31))]) (rest := [.ref v0]) (uk_J9_copyOfRange l n D d (w16, u.2) v3 0 (v4 <<< (1 &&& 31)) _ _ _ e18) z23 3 q486 q487 q115 q488 uh_J9_copyOfRange.2 rfl rfl ⟨Nat.le_trans (Nat.le_of_ble_eq_true rfl) hR.1, Nat.le_trans (Nat.le_of_ble_eq_true rfl) hR.2⟩ hC (stk := [.ref r19, .ref v0]) rfl (Nat.le_of_ble_eq_true rfl) dJ5_init_2_91 (fun H locs cells slots hC I => ?_)
    obtain ⟨w24, e25, h⟩ := m_bS h
    refine u_PF X I e25 (C := RJ5) (T := TJ5) (N := 4) (ref := "java/lang/String") in_J5 tyJ5 tyJ5_ok nmJ5 rfl (by decide) rfl rfl q509 (fun _ h => h) rfl hI rfl rfl rfl dJ5_init_2_94 (fun H locs I => ?_)
    exact k97 (w24, u20.2) H locs ls _ _ _ h hC I (lv_sub hl [] rfl)
  intro H locs ls cells slots hC I hl
  unfold uf_J5_init_2 at h
  replace hl := lv_sub (l' := [(0, .ref t), (1, .ref p0)]) hl [0, 1] rfl
  refine lv_aload_n X.1 X.2.1 dJ5_init_2_0 rfl (lv_at hl 0 rfl) ?_
  refine u_obj X hl.1 q471 q139 q140 (Nat.le_trans (Nat.le_of_ble_eq_true rfl) hR.1) (Nat.le_trans (Nat.le_of_ble_eq_true rfl) hR.2) (Nat.le_of_ble_eq_true rfl) dJ5_init_2_1 ?_
  refine lv_aload_n X.1 X.2.1 dJ5_init_2_4 rfl (lv_at hl 1 rfl) ?_
  obtain ⟨f1, e2, h⟩ := m_bS h
  obtain ⟨r4, e3, h⟩ := m_bS h
  refine u_callUp X hl.1 I hA (As := []) (rest := []) (uk_J3_getValue l n D d u p0 _ e3) (u_clS e2) (C := RJ4) (T := TJ4) (N := 4) rfl 0 q472 q474 q475 q473 q109 q476 rfl uh_J3_getValue.2 rfl rfl ⟨Nat.le_trans (Nat.le_of_ble_eq_true rfl) hR.1, Nat.le_trans (Nat.le_of_ble_eq_true rfl) hR.2⟩ (u_leftLe hC) (stk := [.ref r4]) rfl (Nat.le_of_ble_eq_true rfl) dJ5_init_2_5 (fun H locs I => ?_)
  refine lv_astore_n (lv' := [(3, .ref r4), (0, .ref t), (1, .ref p0)]) X.1 X.2.1 dJ5_init_2_8 rfl hl (by decide) rfl (fun ls hl => ?_)
  refine lv_aload_n X.1 X.2.1 dJ5_init_2_9 rfl (lv_at hl 2 rfl) ?_
  obtain ⟨f5, e6, h⟩ := m_bS h
  obtain ⟨r8, e7, h⟩ := m_bS h
  refine u_callOp X hl.1 I hA (As := []) (rest := []) (uk_J4_length l n D d u p0 _ e7) (u_clS e6) (C := RJ4) (T := TJ4) (N := 4) rfl 0 q484 q477 q479 q478 q480 q481 q110 q482 uh_J3_length.2 rfl rfl ⟨Nat.le_trans (Nat.le_of_ble_eq_true rfl) hR.1, Nat.le_trans (Nat.le_of_ble_eq_true rfl) hR.2⟩ (u_leftLe hC) (stk := [.int r8]) rfl (Nat.le_of_ble_eq_true rfl) dJ5_init_2_10 (fun H locs I => ?_)
  refine lv_istore (lv' := [(4, .int r8), (3, .ref r4), (0, .ref t), (1, .ref p0)]) X.1 X.2.1 dJ5_init_2_13 hl (by decide) rfl (fun ls hl => ?_)
  refine lv_aload_n X.1 X.2.1 dJ5_init_2_15 rfl (lv_at hl 3 rfl) ?_
  obtain ⟨f9, e10, h⟩ := m_bS h
  obtain ⟨r12, e11, h⟩ := m_bS h
  refine u_callUp X hl.1 I hA (As := []) (rest := []) (uk_J3_isLatin1 l n D d u p0 _ e11) (u_clS e10) (C := RJ4) (T := TJ4) (N := 4) rfl 0 q485 q408 q409 q407 q109 q410 rfl uh_J3_isLatin1.2 rfl rfl ⟨Nat.le_trans (Nat.le_of_ble_eq_true rfl) hR.1, Nat.le_trans (Nat.le_of_ble_eq_true rfl) hR.2⟩ (u_leftLe hC) (stk := [.int r12]) rfl (Nat.le_of_ble_eq_true rfl) dJ5_init_2_16 (fun H locs I => ?_)
  refine lv_if_eq (tgt := 41) X.1 X.2.1 dJ5_init_2_19 (by decide) (fun c13 => ?_) (fun c13 => ?_)
  · replace h := m_ifT c13 h
    refine u_gsI X I 0 rfl q495 dJ5_init_2_41 ?_
    refine lv_if_eq (tgt := 79) X.1 X.2.1 dJ5_init_2_44 (by decide) (fun c14 => ?_) (fun c14 => ?_)
    · replace h := m_ifT c14 h
      exact k79 u t r4 r8 H locs ls _ _ _ h hC I (lv_sub hl [2, 1, 0] rfl)
    · replace h := m_ifF c14 h
      refine lv_aload_n X.1 X.2.1 dJ5_init_2_47 rfl (lv_at hl 3 rfl) ?_
      obtain ⟨b26, e27, h⟩ := m_bS h
      refine u_Gi X I e27 (C := RJ4) (T := TJ4) (N := 4) (ref := "java/lang/AbstractStringBuilder") in_J4 rfl (by decide) rfl rfl q353 (fun _ h => h) dJ5_init_2_48 ?_
      refine lv_if_eq (tgt := 79) X.1 X.2.1 dJ5_init_2_51 (by decide) (fun c28 => ?_) (fun c28 => ?_)
      · replace h := m_ifT c28 h
        exact k79 u t r4 r8 H locs ls _ _ _ h hC I (lv_sub hl [2, 1, 0] rfl)
      · replace h := m_ifF c28 h
        refine lv_aload_n X.1 X.2.1 dJ5_init_2_54 rfl (lv_at hl 2 rfl) ?_
        refine lv_aload_n X.1 X.2.1 dJ5_init_2_55 rfl (lv_at hl 1 rfl) ?_
        refine lv_iconst (v := 0) X.1 X.2.1 dJ5_init_2_56 (by decide) ?_
        refine lv_iload X.1 X.2.1 dJ5_init_2_57 (lv_at hl 0 rfl) ?_
        cases h
  · replace h := m_ifF c13 h
    refine lv_aload_n X.1 X.2.1 dJ5_init_2_22 rfl (lv_at hl 2 rfl) ?_
    refine lv_iconst (v := 0) X.1 X.2.1 dJ5_init_2_23 (by decide) ?_
    obtain ⟨g29, h⟩ := m_gS h
    obtain ⟨w30, e31, h⟩ := m_bS h
    refine u_PF X I e31 (C := RJ5) (T := TJ5) (N := 4) (ref := "java/lang/String") in_J5 tyJ5 tyJ5_ok nmJ5 rfl (by decide) rfl rfl q510 (fun _ h => h) rfl hI rfl (u_01b g29) (u_01f g29) dJ5_init_2_24 (fun H locs I => ?_)
    refine lv_aload_n X.1 X.2.1 dJ5_init_2_27 rfl (lv_at hl 2 rfl) ?_
    refine lv_aload_n X.1 X.2.1 dJ5_init_2_28 rfl (lv_at hl 1 rfl) ?_
    refine lv_iconst (v := 0) X.1 X.2.1 dJ5_init_2_29 (by decide) ?_
    refine lv_iload X.1 X.2.1 dJ5_init_2_30 (lv_at hl 0 rfl) ?_
    obtain ⟨r33, u34, C35, C36, e32, z37, h, hq⟩ := u_bcS h
    rw [hq] at hC
    refine u_callS X hl.1 I hA (As := [.ref r4, .int 0, .int r8]) (rest := [.ref t]) (uk_J9_copyOfRange l n D d (w30, u.2) r4 0 r8 _ _ _ e32) z37 3 q486 q487 q115 q488 uh_J9_copyOfRange.2 rfl rfl ⟨Nat.le_trans (Nat.le_of_ble_eq_true rfl) hR.1, Nat.le_trans (Nat.le_of_ble_eq_true rfl) hR.2⟩ hC (stk := [.ref r33, .ref t]) rfl (Nat.le_of_ble_eq_true rfl) dJ5_init_2_32 (fun H locs cells slots hC I => ?_)
    obtain ⟨w38, e39, h⟩ := m_bS h
    refine u_PF X I e39 (C := RJ5) (T := TJ5) (N := 4) (ref := "java/lang/String") in_J5 tyJ5 tyJ5_ok nmJ5 rfl (by decide) rfl rfl q509 (fun _ h => h) rfl hI rfl rfl rfl dJ5_init_2_35 (fun H locs I => ?_)
    refine lv_goto (tgt := 97) X.1 X.2.1 dJ5_init_2_38 (by decide) ?_
    exact k97 (w38, u34.2) H locs ls _ _ _ h hC I (lv_sub hl [] rfl)
end S_J5_init_2
theorem uk_J5_init_2 (l : Launch) (n : Nat) (D : va_G) (d : UD) (u : UM) (t : Nat) (p0 : Nat) (p1 : (Option Nat)) (ur : UM) (C : UC) (h : uf_J5_init_2 n d u t p0 p1 = some (((), ur), C)) : u_M l yJ5_init_2 (ws_ yJ5_init_2 cJ5_init_2 5 none) 3 106 C D d u [.ref t, .ref p0, va_rf p1] none ur :=
  u_start (own := RJ5) (lvl := [(0, .ref t), (1, .ref p0), (2, va_rf p1)]) (by decide) rfl (by cases p1 <;> exact Nat.le_of_ble_eq_true rfl) (by cases p1 <;> rfl) (fun p e s m args below meth c ls X hr hlk hI hl hA I hC => uw_J5_init_2 X hA ⟨Nat.le_refl _, Nat.le_refl _⟩ hI n u t p0 p1 () ur C h (fun H locs ls pc cells slots hd hC I => u_vret X I hr hlk (u_leftE hC) hd) _ _ ls _ _ hC I hl)

/-! SwapPress.flow(III)I -/
def uf_X0_flow_J25 (n : Nat) (d : UD) (u : UM) (t0 : Int32) : Option Int32 :=
  some t0
def uf_X0_flow (n : Nat) (d : UD) (u : UM) (t : Nat) (p0 : Int32) (p1 : Int32) (p2 : Int32) : Option Int32 :=
  m_b (u_cl u 1 t) (fun f1 => m_b (uf_X0_areAll n d u t p0 p1 p2) (fun r4 => m_if ((r4 : Int32) = 0) (uf_X0_flow_J25 n d u ((-2))) (m_b (u_fr d u 1 0 t) (fun b6 => m_b (u_cl u 2 b6) (fun f8 => m_b (uf_X1_flow n d u b6 p0 p1 p2) (fun r11 => uf_X0_flow_J25 n d u r11))))))
theorem uh_X0_flow : yX0_flow.cls = RX0 ∧ yX0_flow.cls ≠ "java/lang/invoke/MethodHandle" ∧ yX0_flow.cls ≠ "java/lang/invoke/VarHandle" ∧ (parseMethodDescriptor yX0_flow.desc).map (fun d => d.parameters.length) = some 3 := by decide +kernel
section S_X0_flow
variable {p : Program} {l : Launch} {e : Env} {R : Room} {s : State} {m : MethodId} {args : Array Value} {below : List Frame} {meth : Method} {c : Code} {Q : State → Prop} {D : va_G} {A : Nat → Prop} {d : UD} {cells slots : Nat}
theorem uw_X0_flow (X : u_X RX0 D A d p s m c cX0_flow 4 args) (hA : ∀ q, s.heap.size ≤ q → A q) (hR : 5 ≤ R.frames ∧ 106 ≤ R.locals) (hf : cells ≤ R.cells ∧ slots ≤ R.slots) (n : Nat) (u : UM) (t : Nat) (p0 : Int32) (p1 : Int32) (p2 : Int32) (r : Int32) (h : uf_X0_flow n d u t p0 p1 p2 = some r) (hret : ∀ (H : Heap) (locs : List Loc) (ls : Array Slot) (pc : Nat), decode cX0_flow pc = .ok (.ireturn, 1) → u_I D A s.heap u H locs cells → W p l e R s m args below meth c H locs cells slots Q (F0 m pc ls [.int r])) : ∀ (H : Heap) (locs : List Loc) (ls : Array Slot), u_I D A s.heap u H locs cells → lv_has ls 4 [(0, .ref t), (1, .int p0), (2, .int p1), (3, .int p2)] → W p l e R s m args below meth c H locs cells slots Q (F0 m 0 ls []) := by
  have k25 : ∀ (t0 : Int32) (H : Heap) (locs : List Loc) (ls : Array Slot), uf_X0_flow_J25 n d u t0 = some r → u_I D A s.heap u H locs cells → lv_has ls 4 [] → W p l e R s m args below meth c H locs cells slots Q (F0 m 25 ls [.int t0]) := by
    intro t0 H locs ls h I hl
    unfold uf_X0_flow_J25 at h
    obtain rfl := m_e1 h
    exact hret H locs ls 25 dX0_flow_25 I
  intro H locs ls I hl
  unfold uf_X0_flow at h
  refine lv_aload_n X.1 X.2.1 dX0_flow_0 rfl (lv_at hl 0 rfl) ?_
  refine lv_iload_n X.1 X.2.1 dX0_flow_1 rfl (lv_at hl 1 rfl) ?_
  refine lv_iload_n X.1 X.2.1 dX0_flow_2 rfl (lv_at hl 2 rfl) ?_
  refine lv_iload_n X.1 X.2.1 dX0_flow_3 rfl (lv_at hl 3 rfl) ?_
  obtain ⟨f1, e2, h⟩ := m_bS h
  obtain ⟨r4, e3, h⟩ := m_bS h
  refine u_callVp X hl.1 I hA (As := [.int p0, .int p1, .int p2]) (rest := []) (uk_X0_areAll l n D d u t p0 p1 p2 _ e3) (u_clS e2) (C := RX0) (T := TX0) (N := 9) rfl 3 q1169 q1171 qs31 q101 q1172 uh_X0_areAll rfl rfl ⟨Nat.le_trans (Nat.le_of_ble_eq_true rfl) hR.1, Nat.le_trans (Nat.le_of_ble_eq_true rfl) hR.2⟩ hf (stk := [.int r4]) rfl (Nat.le_of_ble_eq_true rfl) dX0_flow_4 (fun H locs I => ?_)
  refine lv_if_eq (tgt := 23) X.1 X.2.1 dX0_flow_7 (by decide) (fun c5 => ?_) (fun c5 => ?_)
  · replace h := m_ifT c5 h
    refine lv_bipush (v := (-2)) X.1 X.2.1 dX0_flow_23 (by decide) ?_
    exact k25 ((-2)) H locs ls h I (lv_sub hl [] rfl)
  · replace h := m_ifF c5 h
    refine lv_aload_n X.1 X.2.1 dX0_flow_10 rfl (lv_at hl 0 rfl) ?_
    obtain ⟨b6, e7, h⟩ := m_bS h
    refine u_Gr X I e7 (C := RX0) (T := TX0) (N := 9) (ref := "SwapPress") in_X0 rfl (by decide) rfl rfl q235 (fun _ h => h) dX0_flow_11 ?_
    refine lv_iload_n X.1 X.2.1 dX0_flow_14 rfl (lv_at hl 1 rfl) ?_
    refine lv_iload_n X.1 X.2.1 dX0_flow_15 rfl (lv_at hl 2 rfl) ?_
    refine lv_iload_n X.1 X.2.1 dX0_flow_16 rfl (lv_at hl 3 rfl) ?_
    obtain ⟨f8, e9, h⟩ := m_bS h
    obtain ⟨r11, e10, h⟩ := m_bS h
    refine u_callVp X hl.1 I hA (As := [.int p0, .int p1, .int p2]) (rest := []) (uk_X1_flow l n D d u b6 p0 p1 p2 _ e10) (u_clS e9) (C := RX1) (T := TX1) (N := 5) rfl 3 q1173 q1174 q1175 q102 q1176 uh_X1_flow rfl rfl ⟨Nat.le_trans (Nat.le_of_ble_eq_true rfl) hR.1, Nat.le_trans (Nat.le_of_ble_eq_true rfl) hR.2⟩ hf (stk := [.int r11]) rfl (Nat.le_of_ble_eq_true rfl) dX0_flow_17 (fun H locs I => ?_)
    refine lv_goto (tgt := 25) X.1 X.2.1 dX0_flow_20 (by decide) ?_
    exact k25 r11 H locs ls h I (lv_sub hl [] rfl)
end S_X0_flow
theorem uk_X0_flow (l : Launch) (n : Nat) (D : va_G) (d : UD) (u : UM) (t : Nat) (p0 : Int32) (p1 : Int32) (p2 : Int32) (r : Int32) (h : uf_X0_flow n d u t p0 p1 p2 = some r) : u_M l yX0_flow (ws_ yX0_flow cX0_flow 4 (some .int)) 5 106 (0, 0) D d u [.ref t, .int p0, .int p1, .int p2] (some (.int r)) u :=
  u_start (own := RX0) (lvl := [(0, .ref t), (1, .int p0), (2, .int p1), (3, .int p2)]) (by decide) rfl (Nat.le_of_ble_eq_true rfl) rfl (fun p e s m args below meth c ls X hr hlk hI hl hA I hC => uw_X0_flow X hA ⟨Nat.le_refl _, Nat.le_refl _⟩ ⟨Nat.zero_le _, Nat.zero_le _⟩ n u t p0 p1 p2 r h (fun H locs ls pc hd I => u_iret X I hr hlk ⟨rfl, rfl⟩ hd) _ _ ls I hl)

/-! SwapPress.net(IIZ)I -/
def uf_X0_net_J35 (n : Nat) (d : UD) (u : UM) (t0 : Int32) : Option Int32 :=
  some t0
def uf_X0_net_J33 (n : Nat) (d : UD) (u : UM) : Option Int32 :=
  uf_X0_net_J35 n d u ((-2))
def uf_X0_net (n : Nat) (d : UD) (u : UM) (t : Nat) (p0 : Int32) (p1 : Int32) (p2 : Int32) : Option Int32 :=
  m_b (u_cl u 1 t) (fun f1 => m_b (uf_X0_isParty n d u t p0) (fun r4 => m_if ((r4 : Int32) = 0) (uf_X0_net_J33 n d u ) (m_b (u_cl u 1 t) (fun f6 => m_b (uf_X0_isKind n d u t p1) (fun r9 => m_if ((r9 : Int32) = 0) (uf_X0_net_J33 n d u ) (m_b (u_fr d u 1 0 t) (fun b11 => m_b (u_cl u 2 b11) (fun f13 => m_b (uf_X1_net n d u b11 p0 p1 p2) (fun r16 => uf_X0_net_J35 n d u (100000000 + r16))))))))))
theorem uh_X0_net : yX0_net.cls = RX0 ∧ yX0_net.cls ≠ "java/lang/invoke/MethodHandle" ∧ yX0_net.cls ≠ "java/lang/invoke/VarHandle" ∧ (parseMethodDescriptor yX0_net.desc).map (fun d => d.parameters.length) = some 3 := by decide +kernel
section S_X0_net
variable {p : Program} {l : Launch} {e : Env} {R : Room} {s : State} {m : MethodId} {args : Array Value} {below : List Frame} {meth : Method} {c : Code} {Q : State → Prop} {D : va_G} {A : Nat → Prop} {d : UD} {cells slots : Nat}
theorem uw_X0_net (X : u_X RX0 D A d p s m c cX0_net 4 args) (hA : ∀ q, s.heap.size ≤ q → A q) (hR : 5 ≤ R.frames ∧ 114 ≤ R.locals) (hf : cells ≤ R.cells ∧ slots ≤ R.slots) (n : Nat) (u : UM) (t : Nat) (p0 : Int32) (p1 : Int32) (p2 : Int32) (r : Int32) (h : uf_X0_net n d u t p0 p1 p2 = some r) (hret : ∀ (H : Heap) (locs : List Loc) (ls : Array Slot) (pc : Nat), decode cX0_net pc = .ok (.ireturn, 1) → u_I D A s.heap u H locs cells → W p l e R s m args below meth c H locs cells slots Q (F0 m pc ls [.int r])) : ∀ (H : Heap) (locs : List Loc) (ls : Array Slot), u_I D A s.heap u H locs cells → lv_has ls 4 [(0, .ref t), (1, .int p0), (2, .int p1), (3, .int p2)] → W p l e R s m args below meth c H locs cells slots Q (F0 m 0 ls []) := by
  have k35 : ∀ (t0 : Int32) (H : Heap) (locs : List Loc) (ls : Array Slot), uf_X0_net_J35 n d u t0 = some r → u_I D A s.heap u H locs cells → lv_has ls 4 [] → W p l e R s m args below meth c H locs cells slots Q (F0 m 35 ls [.int t0]) := by
    intro t0 H locs ls h I hl
    unfold uf_X0_net_J35 at h
    obtain rfl := m_e1 h
    exact hret H locs ls 35 dX0_net_35 I
  have k33 : ∀  (H : Heap) (locs : List Loc) (ls : Array Slot), uf_X0_net_J33 n d u = some r → u_I D A s.heap u H locs cells → lv_has ls 4 [] → W p l e R s m args below meth c H locs cells slots Q (F0 m 33 ls []) := by
    intro  H locs ls h I hl
    unfold uf_X0_net_J33 at h
    refine lv_bipush (v := (-2)) X.1 X.2.1 dX0_net_33 (by decide) ?_
    exact k35 ((-2)) H locs ls h I (lv_sub hl [] rfl)
  intro H locs ls I hl
  unfold uf_X0_net at h
  refine lv_aload_n X.1 X.2.1 dX0_net_0 rfl (lv_at hl 0 rfl) ?_
  refine lv_iload_n X.1 X.2.1 dX0_net_1 rfl (lv_at hl 1 rfl) ?_
  obtain ⟨f1, e2, h⟩ := m_bS h
  obtain ⟨r4, e3, h⟩ := m_bS h
  refine u_callVp X hl.1 I hA (As := [.int p0]) (rest := []) (uk_X0_isParty l n D d u t p0 _ e3) (u_clS e2) (C := RX0) (T := TX0) (N := 9) rfl 1 q866 q868 qs19 q101 q869 uh_X0_isParty rfl rfl ⟨Nat.le_trans (Nat.le_of_ble_eq_true rfl) hR.1, Nat.le_trans (Nat.le_of_ble_eq_true rfl) hR.2⟩ hf (stk := [.int r4]) rfl (Nat.le_of_ble_eq_true rfl) dX0_net_2 (fun H locs I => ?_)
  refine lv_if_eq (tgt := 33) X.1 X.2.1 dX0_net_5 (by decide) (fun c5 => ?_) (fun c5 => ?_)
  · replace h := m_ifT c5 h
    exact k33  H locs ls h I (lv_sub hl [] rfl)
  · replace h := m_ifF c5 h
    refine lv_aload_n X.1 X.2.1 dX0_net_8 rfl (lv_at hl 0 rfl) ?_
    refine lv_iload_n X.1 X.2.1 dX0_net_9 rfl (lv_at hl 2 rfl) ?_
    obtain ⟨f6, e7, h⟩ := m_bS h
    obtain ⟨r9, e8, h⟩ := m_bS h
    refine u_callVp X hl.1 I hA (As := [.int p1]) (rest := []) (uk_X0_isKind l n D d u t p1 _ e8) (u_clS e7) (C := RX0) (T := TX0) (N := 9) rfl 1 q875 q877 qs20 q101 q878 uh_X0_isKind rfl rfl ⟨Nat.le_trans (Nat.le_of_ble_eq_true rfl) hR.1, Nat.le_trans (Nat.le_of_ble_eq_true rfl) hR.2⟩ hf (stk := [.int r9]) rfl (Nat.le_of_ble_eq_true rfl) dX0_net_10 (fun H locs I => ?_)
    refine lv_if_eq (tgt := 33) X.1 X.2.1 dX0_net_13 (by decide) (fun c10 => ?_) (fun c10 => ?_)
    · replace h := m_ifT c10 h
      exact k33  H locs ls h I (lv_sub hl [] rfl)
    · replace h := m_ifF c10 h
      refine lv_ldcw (v := 100000000) X.1 X.2.1 X.2.2.2.1 (X.2.2.1 _ q1181) dX0_net_16 ?_
      refine lv_aload_n X.1 X.2.1 dX0_net_19 rfl (lv_at hl 0 rfl) ?_
      obtain ⟨b11, e12, h⟩ := m_bS h
      refine u_Gr X I e12 (C := RX0) (T := TX0) (N := 9) (ref := "SwapPress") in_X0 rfl (by decide) rfl rfl q235 (fun _ h => h) dX0_net_20 ?_
      refine lv_iload_n X.1 X.2.1 dX0_net_23 rfl (lv_at hl 1 rfl) ?_
      refine lv_iload_n X.1 X.2.1 dX0_net_24 rfl (lv_at hl 2 rfl) ?_
      refine lv_iload_n X.1 X.2.1 dX0_net_25 rfl (lv_at hl 3 rfl) ?_
      obtain ⟨f13, e14, h⟩ := m_bS h
      obtain ⟨r16, e15, h⟩ := m_bS h
      refine u_callVp X hl.1 I hA (As := [.int p0, .int p1, .int p2]) (rest := [.int 100000000]) (uk_X1_net l n D d u b11 p0 p1 p2 _ e15) (u_clS e14) (C := RX1) (T := TX1) (N := 5) rfl 3 q1182 q1183 q1184 q102 q1185 uh_X1_net rfl rfl ⟨Nat.le_trans (Nat.le_of_ble_eq_true rfl) hR.1, Nat.le_trans (Nat.le_of_ble_eq_true rfl) hR.2⟩ hf (stk := [.int r16, .int 100000000]) rfl (Nat.le_of_ble_eq_true rfl) dX0_net_26 (fun H locs I => ?_)
      refine lv_iadd X.1 X.2.1 dX0_net_29 ?_
      refine lv_goto (tgt := 35) X.1 X.2.1 dX0_net_30 (by decide) ?_
      exact k35 (100000000 + r16) H locs ls h I (lv_sub hl [] rfl)
end S_X0_net
theorem uk_X0_net (l : Launch) (n : Nat) (D : va_G) (d : UD) (u : UM) (t : Nat) (p0 : Int32) (p1 : Int32) (p2 : Int32) (r : Int32) (h : uf_X0_net n d u t p0 p1 p2 = some r) : u_M l yX0_net (ws_ yX0_net cX0_net 4 (some .int)) 5 114 (0, 0) D d u [.ref t, .int p0, .int p1, .int p2] (some (.int r)) u :=
  u_start (own := RX0) (lvl := [(0, .ref t), (1, .int p0), (2, .int p1), (3, .int p2)]) (by decide) rfl (Nat.le_of_ble_eq_true rfl) rfl (fun p e s m args below meth c ls X hr hlk hI hl hA I hC => uw_X0_net X hA ⟨Nat.le_refl _, Nat.le_refl _⟩ ⟨Nat.zero_le _, Nat.zero_le _⟩ n u t p0 p1 p2 r h (fun H locs ls pc hd I => u_iret X I hr hlk ⟨rfl, rfl⟩ hd) _ _ ls I hl)

/-! SwapPress.total(II)I -/
def uf_X0_total_L173 (n : Nat) (d : UD) (v0 : Nat) (v1 : Int32) (v3 : Int32) (v4 : Int32) (u : UM) : Option (((Int32 × Int32 × UM) ⊕ (Int32 × UM)) × UC) :=
  m_b (u_fr d u 1 0 v0) (fun b9 => m_b (u_cl u 2 b9) (fun f11 => m_b (uf_X1_many n d u b9) (fun r14 => m_if ((r14 : Int32) ≤ (v4 : Int32)) (some (.inr ((v3, u)), (0, 0))) (m_b (u_fr d u 1 0 v0) (fun b16 => m_b (u_cl u 2 b16) (fun f18 => m_b (uf_X1_net n d u b16 v4 v1 1) (fun r21 => m_b (some (v3 + (if (0 : Int32) < (r21 : Int32) then (r21 : Int32) else (0 : Int32)))) (fun y22 => some (.inl ((y22, v4 + 1, u)), (0, 0))))))))))
def uf_X0_total_L173l (n : Nat) (d : UD) (v0 : Nat) (v1 : Int32) (x : (Int32 × Int32 × UM)) : Option ((Int32 × UM) × UC) := u_lp (fun (x : (Int32 × Int32 × UM)) => uf_X0_total_L173 n d v0 v1 x.1 x.2.1 x.2.2) n x
def uf_X0_total_J160 (n : Nat) (d : UD) (u : UM) (v0 : Nat) (v1 : Int32) (v4 : Int32) (t0 : Int32) (t1 : Int32) : Option (((Int32 × Int32 × UM) ⊕ (Int32 × UM)) × UC) :=
  some (.inl ((t1 + t0, v4 + 1, u)), (0, 0))
def uf_X0_total_J159 (n : Nat) (d : UD) (u : UM) (v0 : Nat) (v1 : Int32) (v4 : Int32) (t0 : Int32) : Option (((Int32 × Int32 × UM) ⊕ (Int32 × UM)) × UC) :=
  uf_X0_total_J160 n d u v0 v1 v4 0 t0
def uf_X0_total_L79 (n : Nat) (d : UD) (v0 : Nat) (v1 : Int32) (v3 : Int32) (v4 : Int32) (u : UM) : Option (((Int32 × Int32 × UM) ⊕ (Int32 × UM)) × UC) :=
  m_b (u_fr d u 1 0 v0) (fun b54 => m_b (u_nr u 2 2 b54) (fun b56 => m_b (u_cl u 13 b56) (fun f58 => m_b (uf_J2_size n d u b56) (fun r61 => m_if ((r61 : Int32) ≤ (v4 : Int32)) (some (.inr ((v3, u)), (0, 0))) (m_b (u_fr d u 1 0 v0) (fun b63 => m_b (u_nr u 2 2 b63) (fun b65 => m_b (u_cl u 13 b65) (fun f67 => m_b (uf_J2_get n d u b65 v4) (fun r70 => m_b (u_cl u 6 r70) (fun f71 => m_b (u_ni u 6 3 r70) (fun b73 => m_if ((b73 : Int32) = (v1 : Int32)) (m_b (u_fr d u 1 0 v0) (fun b76 => m_b (u_nr u 2 2 b76) (fun b78 => m_b (u_cl u 13 b78) (fun f80 => m_b (uf_J2_get n d u b78 v4) (fun r83 => m_b (u_cl u 6 r83) (fun f84 => m_b (u_ni u 6 4 r83) (fun b86 => m_if ((b86 : Int32) = 0) (uf_X0_total_J159 n d u v0 v1 v4 v3) (m_b (u_fr d u 1 0 v0) (fun b89 => m_b (u_nr u 2 2 b89) (fun b91 => m_b (u_cl u 13 b91) (fun f93 => m_b (uf_J2_get n d u b91 v4) (fun r96 => m_b (u_cl u 6 r96) (fun f97 => m_b (u_ni u 6 2 r96) (fun b99 => uf_X0_total_J160 n d u v0 v1 v4 b99 v3)))))))))))))) (uf_X0_total_J159 n d u v0 v1 v4 v3))))))))))))
def uf_X0_total_L79l (n : Nat) (d : UD) (v0 : Nat) (v1 : Int32) (x : (Int32 × Int32 × UM)) : Option ((Int32 × UM) × UC) := u_lp (fun (x : (Int32 × Int32 × UM)) => uf_X0_total_L79 n d v0 v1 x.1 x.2.1 x.2.2) n x
def uf_X0_total_J20 (n : Nat) (d : UD) (u : UM) : Option ((Int32 × UM) × UC) :=
  some (((-2), u), (0, 0))
def uf_X0_total (n : Nat) (d : UD) (u : UM) (t : Nat) (p0 : Int32) (p1 : Int32) : Option ((Int32 × UM) × UC) :=
  m_b (u_cl u 1 t) (fun f1 => m_b (uf_X0_isKind n d u t p0) (fun r4 => m_if ((r4 : Int32) = 0) (uf_X0_total_J20 n d u ) (m_b (uf_X0_in n d u ((p1 : Int32).toInt64) 0 3) (fun r7 => m_if ((r7 : Int32) = 0) (uf_X0_total_J20 n d u ) (m_if ((p1 : Int32) = 0) (m_b (u_fr d u 1 0 t) (fun b30 => m_b (u_cl u 2 b30) (fun f32 => u_bc u.2 (uf_X1_flows n d u b30 p0) (fun r35 u36 => m_b (uf_X0_sum n d u36 r35) (fun r41 => some ((r41, u36), (0, 0))))))) (m_if ((p1 : Int32) = 1) (m_b (u_fr d u 1 0 t) (fun b42 => m_b (u_cl u 2 b42) (fun f44 => u_bc u.2 (uf_X1_flows n d u b42 p0) (fun r47 u48 => m_b (uf_X0_above n d u48 r47) (fun r53 => some ((r53, u48), (0, 0))))))) (m_if ((p1 : Int32) = 2) (u_bl (uf_X0_total_L79l n d t p0 ((0, 0, u))) (fun y104 => some ((y104.1, y104.2), (0, 0)))) (u_bl (uf_X0_total_L173l n d t p0 ((0, 0, u))) (fun y27 => some ((y27.1, y27.2), (0, 0)))))))))))
theorem uh_X0_total : yX0_total.cls = RX0 ∧ yX0_total.cls ≠ "java/lang/invoke/MethodHandle" ∧ yX0_total.cls ≠ "java/lang/invoke/VarHandle" ∧ (parseMethodDescriptor yX0_total.desc).map (fun d => d.parameters.length) = some 2 := by decide +kernel
section S_X0_total
variable {p : Program} {l : Launch} {e : Env} {R : Room} {s : State} {m : MethodId} {args : Array Value} {below : List Frame} {meth : Method} {c : Code} {Q : State → Prop} {D : va_G} {A : Nat → Prop} {d : UD}
theorem wuf_X0_total_L173 (X : u_X RX0 D A d p s m c cX0_total 5 args) (hA : ∀ q, s.heap.size ≤ q → A q) (hR : 5 ≤ R.frames ∧ 114 ≤ R.locals) (n : Nat) (v0 : Nat) (v1 : Int32) (x : (Int32 × Int32 × UM)) (z : (Int32 × UM)) (C cr : UC) (hz : uf_X0_total_L173l n d v0 v1 x = some (z, C)) (hE : (fun (z : (Int32 × UM)) (C : UC) => ∀ (H : Heap) (locs : List Loc) (ls : Array Slot) (cells slots : Nat), u_left R cells slots C → u_I D A s.heap z.2 H locs cells → lv_has ls 5 [(3, .int z.1)] → W p l e R s m args below meth c H locs cells slots Q (F0 m 209 ls [])) z cr) : (fun (x : (Int32 × Int32 × UM)) (C : UC) => ∀ (H : Heap) (locs : List Loc) (ls : Array Slot) (cells slots : Nat), u_left R cells slots C → u_I D A s.heap x.2.2 H locs cells → lv_has ls 5 [(0, .ref v0), (1, .int v1), (3, .int x.1), (4, .int x.2.1)] → W p l e R s m args below meth c H locs cells slots Q (F0 m 173 ls [])) x (u_add C cr) := by
  refine u_lpW (G := fun (x : (Int32 × Int32 × UM)) (C : UC) => ∀ (H : Heap) (locs : List Loc) (ls : Array Slot) (cells slots : Nat), u_left R cells slots C → u_I D A s.heap x.2.2 H locs cells → lv_has ls 5 [(0, .ref v0), (1, .int v1), (3, .int x.1), (4, .int x.2.1)] → W p l e R s m args below meth c H locs cells slots Q (F0 m 173 ls [])) (E := fun (z : (Int32 × UM)) (C : UC) => ∀ (H : Heap) (locs : List Loc) (ls : Array Slot) (cells slots : Nat), u_left R cells slots C → u_I D A s.heap z.2 H locs cells → lv_has ls 5 [(3, .int z.1)] → W p l e R s m args below meth c H locs cells slots Q (F0 m 209 ls [])) ?_ n x z C cr hz hE
  rintro ⟨v3, v4, u⟩ r C cr h hr H locs ls cells slots hC I hl
  replace h : uf_X0_total_L173 n d v0 v1 v3 v4 u = some (r, C) := h
  unfold uf_X0_total_L173 at h
  refine lv_iload X.1 X.2.1 dX0_total_173 (lv_at hl 3 rfl) ?_
  refine lv_aload_n X.1 X.2.1 dX0_total_175 rfl (lv_at hl 0 rfl) ?_
  obtain ⟨b9, e10, h⟩ := m_bS h
  refine u_Gr X I e10 (C := RX0) (T := TX0) (N := 9) (ref := "SwapPress") in_X0 rfl (by decide) rfl rfl q235 (fun _ h => h) dX0_total_176 ?_
  obtain ⟨f11, e12, h⟩ := m_bS h
  obtain ⟨r14, e13, h⟩ := m_bS h
  refine u_callVp X hl.1 I hA (As := []) (rest := [.int v4]) (uk_X1_many l n D d u b9 _ e13) (u_clS e12) (C := RX1) (T := TX1) (N := 5) rfl 0 q870 q871 q872 q102 q873 uh_X1_many rfl rfl ⟨Nat.le_trans (Nat.le_of_ble_eq_true rfl) hR.1, Nat.le_trans (Nat.le_of_ble_eq_true rfl) hR.2⟩ (u_leftLe hC) (stk := [.int r14, .int v4]) rfl (Nat.le_of_ble_eq_true rfl) dX0_total_179 (fun H locs I => ?_)
  refine lv_icmp_ge (tgt := 209) X.1 X.2.1 dX0_total_182 (by decide) (fun c15 => ?_) (fun c15 => ?_)
  · replace h := m_ifT c15 h
    obtain ⟨rfl, rfl⟩ := m_e3 h
    exact hr H locs ls _ _ (u_left0 hC) I (lv_sub hl [2] rfl)
  · replace h := m_ifF c15 h
    refine lv_iload_n X.1 X.2.1 dX0_total_185 rfl (lv_at hl 2 rfl) ?_
    refine lv_iconst (v := 0) X.1 X.2.1 dX0_total_186 (by decide) ?_
    refine lv_aload_n X.1 X.2.1 dX0_total_187 rfl (lv_at hl 0 rfl) ?_
    obtain ⟨b16, e17, h⟩ := m_bS h
    refine u_Gr X I e17 (C := RX0) (T := TX0) (N := 9) (ref := "SwapPress") in_X0 rfl (by decide) rfl rfl q235 (fun _ h => h) dX0_total_188 ?_
    refine lv_iload X.1 X.2.1 dX0_total_191 (lv_at hl 3 rfl) ?_
    refine lv_iload_n X.1 X.2.1 dX0_total_193 rfl (lv_at hl 1 rfl) ?_
    refine lv_iconst (v := 1) X.1 X.2.1 dX0_total_194 (by decide) ?_
    obtain ⟨f18, e19, h⟩ := m_bS h
    obtain ⟨r21, e20, h⟩ := m_bS h
    refine u_callVp X hl.1 I hA (As := [.int v4, .int v1, .int 1]) (rest := [.int 0, .int v3]) (uk_X1_net l n D d u b16 v4 v1 1 _ e20) (u_clS e19) (C := RX1) (T := TX1) (N := 5) rfl 3 q1182 q1183 q1184 q102 q1185 uh_X1_net rfl rfl ⟨Nat.le_trans (Nat.le_of_ble_eq_true rfl) hR.1, Nat.le_trans (Nat.le_of_ble_eq_true rfl) hR.2⟩ (u_leftLe hC) (stk := [.int r21, .int 0, .int v3]) rfl (Nat.le_of_ble_eq_true rfl) dX0_total_195 (fun H locs I => ?_)
    refine va_mmax X.1 X.2.1 (X.2.2.2.2.2.1.trans hl.1.symm) X.2.2.2.1 (X.2.2.1 _ q1213) (X.2.2.1 _ q383) (X.2.2.1 _ q114) (X.2.2.1 _ q384) (Nat.le_trans (Nat.le_of_ble_eq_true rfl) hR.1) (Nat.le_trans (Nat.le_of_ble_eq_true rfl) hR.2) (u_leftLe hC).1 (u_leftLe hC).2 dX0_total_198 ?_
    refine lv_iadd X.1 X.2.1 dX0_total_201 ?_
    obtain ⟨y22, e23, h⟩ := m_bS h
    rw [m_e1 e23]
    refine lv_istore_n (lv' := [(3, .int y22), (0, .ref v0), (1, .int v1), (4, .int v4)]) X.1 X.2.1 dX0_total_202 rfl hl (by decide) rfl (fun ls hl => ?_)
    refine lv_iinc (v := v4 + 1) (lv' := [(4, .int (v4 + 1)), (3, .int y22), (0, .ref v0), (1, .int v1)]) X.1 X.2.1 dX0_total_203 hl (k := 3) rfl rfl (by decide) rfl (fun ls hl => ?_)
    refine lv_goto (tgt := 173) X.1 X.2.1 dX0_total_206 (by decide) ?_
    obtain ⟨rfl, rfl⟩ := m_e3 h
    exact hr H locs ls _ _ (u_left0 hC) I (lv_sub hl [2, 3, 1, 0] rfl)
theorem wuf_X0_total_L79 (X : u_X RX0 D A d p s m c cX0_total 5 args) (hA : ∀ q, s.heap.size ≤ q → A q) (hR : 5 ≤ R.frames ∧ 114 ≤ R.locals) (n : Nat) (v0 : Nat) (v1 : Int32) (x : (Int32 × Int32 × UM)) (z : (Int32 × UM)) (C cr : UC) (hz : uf_X0_total_L79l n d v0 v1 x = some (z, C)) (hE : (fun (z : (Int32 × UM)) (C : UC) => ∀ (H : Heap) (locs : List Loc) (ls : Array Slot) (cells slots : Nat), u_left R cells slots C → u_I D A s.heap z.2 H locs cells → lv_has ls 5 [(3, .int z.1)] → W p l e R s m args below meth c H locs cells slots Q (F0 m 168 ls [])) z cr) : (fun (x : (Int32 × Int32 × UM)) (C : UC) => ∀ (H : Heap) (locs : List Loc) (ls : Array Slot) (cells slots : Nat), u_left R cells slots C → u_I D A s.heap x.2.2 H locs cells → lv_has ls 5 [(0, .ref v0), (1, .int v1), (3, .int x.1), (4, .int x.2.1)] → W p l e R s m args below meth c H locs cells slots Q (F0 m 79 ls [])) x (u_add C cr) := by
  refine u_lpW (G := fun (x : (Int32 × Int32 × UM)) (C : UC) => ∀ (H : Heap) (locs : List Loc) (ls : Array Slot) (cells slots : Nat), u_left R cells slots C → u_I D A s.heap x.2.2 H locs cells → lv_has ls 5 [(0, .ref v0), (1, .int v1), (3, .int x.1), (4, .int x.2.1)] → W p l e R s m args below meth c H locs cells slots Q (F0 m 79 ls [])) (E := fun (z : (Int32 × UM)) (C : UC) => ∀ (H : Heap) (locs : List Loc) (ls : Array Slot) (cells slots : Nat), u_left R cells slots C → u_I D A s.heap z.2 H locs cells → lv_has ls 5 [(3, .int z.1)] → W p l e R s m args below meth c H locs cells slots Q (F0 m 168 ls [])) ?_ n x z C cr hz hE
  rintro ⟨v3, v4, u⟩ r C cr h hr H locs ls cells slots hC I hl
  replace h : uf_X0_total_L79 n d v0 v1 v3 v4 u = some (r, C) := h
  have k160 : ∀ (u : UM) (v4 : Int32) (t0 : Int32) (t1 : Int32) (H : Heap) (locs : List Loc) (ls : Array Slot) (cells slots : Nat) (C : UC), uf_X0_total_J160 n d u v0 v1 v4 t0 t1 = some (r, C) → u_left R cells slots (u_add C cr) → u_I D A s.heap u H locs cells → lv_has ls 5 [(0, .ref v0), (1, .int v1), (4, .int v4)] → W p l e R s m args below meth c H locs cells slots Q (F0 m 160 ls [.int t0, .int t1]) := by
    intro u v4 t0 t1 H locs ls cells slots C h hC I hl
    unfold uf_X0_total_J160 at h
    refine lv_iadd X.1 X.2.1 dX0_total_160 ?_
    refine lv_istore_n (lv' := [(3, .int (t1 + t0)), (0, .ref v0), (1, .int v1), (4, .int v4)]) X.1 X.2.1 dX0_total_161 rfl hl (by decide) rfl (fun ls hl => ?_)
    refine lv_iinc (v := v4 + 1) (lv' := [(4, .int (v4 + 1)), (3, .int (t1 + t0)), (0, .ref v0), (1, .int v1)]) X.1 X.2.1 dX0_total_162 hl (k := 3) rfl rfl (by decide) rfl (fun ls hl => ?_)
    refine lv_goto (tgt := 79) X.1 X.2.1 dX0_total_165 (by decide) ?_
    obtain ⟨rfl, rfl⟩ := m_e3 h
    exact hr H locs ls _ _ (u_left0 hC) I (lv_sub hl [2, 3, 1, 0] rfl)
  have k159 : ∀ (u : UM) (v4 : Int32) (t0 : Int32) (H : Heap) (locs : List Loc) (ls : Array Slot) (cells slots : Nat) (C : UC), uf_X0_total_J159 n d u v0 v1 v4 t0 = some (r, C) → u_left R cells slots (u_add C cr) → u_I D A s.heap u H locs cells → lv_has ls 5 [(0, .ref v0), (1, .int v1), (4, .int v4)] → W p l e R s m args below meth c H locs cells slots Q (F0 m 159 ls [.int t0]) := by
    intro u v4 t0 H locs ls cells slots C h hC I hl
    unfold uf_X0_total_J159 at h
    refine lv_iconst (v := 0) X.1 X.2.1 dX0_total_159 (by decide) ?_
    exact k160 u v4 0 t0 H locs ls _ _ _ h hC I (lv_sub hl [0, 1, 2] rfl)
  unfold uf_X0_total_L79 at h
  refine lv_iload X.1 X.2.1 dX0_total_79 (lv_at hl 3 rfl) ?_
  refine lv_aload_n X.1 X.2.1 dX0_total_81 rfl (lv_at hl 0 rfl) ?_
  obtain ⟨b54, e55, h⟩ := m_bS h
  refine u_Gr X I e55 (C := RX0) (T := TX0) (N := 9) (ref := "SwapPress") in_X0 rfl (by decide) rfl rfl q235 (fun _ h => h) dX0_total_82 ?_
  obtain ⟨b56, e57, h⟩ := m_bS h
  refine u_GrN X I e57 (C := RX1) (T := TX1) (N := 5) (ref := "SwapPress$State") (host := "SwapPress") in_X1 rfl (by decide) rfl rfl 4 rfl (fun _ h => h) dX0_total_85 ?_
  obtain ⟨f58, e59, h⟩ := m_bS h
  obtain ⟨r61, e60, h⟩ := m_bS h
  refine u_callVp X hl.1 I hA (As := []) (rest := [.int v4]) (uk_J2_size l n D d u b56 _ e60) (u_clS e59) (C := RJ2) (T := TJ2) (N := 3) rfl 0 q853 q667 q668 q105 q669 uh_J2_size rfl rfl ⟨Nat.le_trans (Nat.le_of_ble_eq_true rfl) hR.1, Nat.le_trans (Nat.le_of_ble_eq_true rfl) hR.2⟩ (u_leftLe hC) (stk := [.int r61, .int v4]) rfl (Nat.le_of_ble_eq_true rfl) dX0_total_88 (fun H locs I => ?_)
  refine lv_icmp_ge (tgt := 168) X.1 X.2.1 dX0_total_91 (by decide) (fun c62 => ?_) (fun c62 => ?_)
  · replace h := m_ifT c62 h
    obtain ⟨rfl, rfl⟩ := m_e3 h
    exact hr H locs ls _ _ (u_left0 hC) I (lv_sub hl [2] rfl)
  · replace h := m_ifF c62 h
    refine lv_iload_n X.1 X.2.1 dX0_total_94 rfl (lv_at hl 2 rfl) ?_
    refine lv_aload_n X.1 X.2.1 dX0_total_95 rfl (lv_at hl 0 rfl) ?_
    obtain ⟨b63, e64, h⟩ := m_bS h
    refine u_Gr X I e64 (C := RX0) (T := TX0) (N := 9) (ref := "SwapPress") in_X0 rfl (by decide) rfl rfl q235 (fun _ h => h) dX0_total_96 ?_
    obtain ⟨b65, e66, h⟩ := m_bS h
    refine u_GrN X I e66 (C := RX1) (T := TX1) (N := 5) (ref := "SwapPress$State") (host := "SwapPress") in_X1 rfl (by decide) rfl rfl 4 rfl (fun _ h => h) dX0_total_99 ?_
    refine lv_iload X.1 X.2.1 dX0_total_102 (lv_at hl 3 rfl) ?_
    obtain ⟨f67, e68, h⟩ := m_bS h
    obtain ⟨r70, e69, h⟩ := m_bS h
    refine u_callVp X hl.1 I hA (As := [.int v4]) (rest := [.int v3]) (uk_J2_get l n D d u b65 v4 _ e69) (u_clS e68) (C := RJ2) (T := TJ2) (N := 3) rfl 1 q929 q823 q824 q105 q825 uh_J2_get rfl rfl ⟨Nat.le_trans (Nat.le_of_ble_eq_true rfl) hR.1, Nat.le_trans (Nat.le_of_ble_eq_true rfl) hR.2⟩ (u_leftLe hC) (stk := [.ref r70, .int v3]) rfl (Nat.le_of_ble_eq_true rfl) dX0_total_104 (fun H locs I => ?_)
    obtain ⟨f71, e72, h⟩ := m_bS h
    refine u_cast X I (u_clS e72) (C := RX6) (T := TX6) (N := 5) rfl q915 dX0_total_107 ?_
    obtain ⟨b73, e74, h⟩ := m_bS h
    refine u_GiN X I e74 (C := RX6) (T := TX6) (N := 5) (ref := "SwapPress$Trade") (host := "SwapPress") in_X6 rfl (by decide) rfl rfl 21 rfl (fun _ h => h) dX0_total_110 ?_
    refine lv_iload_n X.1 X.2.1 dX0_total_113 rfl (lv_at hl 1 rfl) ?_
    refine lv_icmp_ne (tgt := 159) X.1 X.2.1 dX0_total_114 (by decide) (fun c75 => ?_) (fun c75 => ?_)
    · replace h := m_ifF c75 h
      exact k159 u v4 v3 H locs ls _ _ _ h hC I (lv_sub hl [0, 1, 3] rfl)
    · replace h := m_ifT c75 h
      refine lv_aload_n X.1 X.2.1 dX0_total_117 rfl (lv_at hl 0 rfl) ?_
      obtain ⟨b76, e77, h⟩ := m_bS h
      refine u_Gr X I e77 (C := RX0) (T := TX0) (N := 9) (ref := "SwapPress") in_X0 rfl (by decide) rfl rfl q235 (fun _ h => h) dX0_total_118 ?_
      obtain ⟨b78, e79, h⟩ := m_bS h
      refine u_GrN X I e79 (C := RX1) (T := TX1) (N := 5) (ref := "SwapPress$State") (host := "SwapPress") in_X1 rfl (by decide) rfl rfl 4 rfl (fun _ h => h) dX0_total_121 ?_
      refine lv_iload X.1 X.2.1 dX0_total_124 (lv_at hl 3 rfl) ?_
      obtain ⟨f80, e81, h⟩ := m_bS h
      obtain ⟨r83, e82, h⟩ := m_bS h
      refine u_callVp X hl.1 I hA (As := [.int v4]) (rest := [.int v3]) (uk_J2_get l n D d u b78 v4 _ e82) (u_clS e81) (C := RJ2) (T := TJ2) (N := 3) rfl 1 q929 q823 q824 q105 q825 uh_J2_get rfl rfl ⟨Nat.le_trans (Nat.le_of_ble_eq_true rfl) hR.1, Nat.le_trans (Nat.le_of_ble_eq_true rfl) hR.2⟩ (u_leftLe hC) (stk := [.ref r83, .int v3]) rfl (Nat.le_of_ble_eq_true rfl) dX0_total_126 (fun H locs I => ?_)
      obtain ⟨f84, e85, h⟩ := m_bS h
      refine u_cast X I (u_clS e85) (C := RX6) (T := TX6) (N := 5) rfl q915 dX0_total_129 ?_
      obtain ⟨b86, e87, h⟩ := m_bS h
      refine u_GiN X I e87 (C := RX6) (T := TX6) (N := 5) (ref := "SwapPress$Trade") (host := "SwapPress") in_X6 rfl (by decide) rfl rfl 24 rfl (fun _ h => h) dX0_total_132 ?_
      refine lv_if_eq (tgt := 159) X.1 X.2.1 dX0_total_135 (by decide) (fun c88 => ?_) (fun c88 => ?_)
      · replace h := m_ifT c88 h
        exact k159 u v4 v3 H locs ls _ _ _ h hC I (lv_sub hl [0, 1, 3] rfl)
      · replace h := m_ifF c88 h
        refine lv_aload_n X.1 X.2.1 dX0_total_138 rfl (lv_at hl 0 rfl) ?_
        obtain ⟨b89, e90, h⟩ := m_bS h
        refine u_Gr X I e90 (C := RX0) (T := TX0) (N := 9) (ref := "SwapPress") in_X0 rfl (by decide) rfl rfl q235 (fun _ h => h) dX0_total_139 ?_
        obtain ⟨b91, e92, h⟩ := m_bS h
        refine u_GrN X I e92 (C := RX1) (T := TX1) (N := 5) (ref := "SwapPress$State") (host := "SwapPress") in_X1 rfl (by decide) rfl rfl 4 rfl (fun _ h => h) dX0_total_142 ?_
        refine lv_iload X.1 X.2.1 dX0_total_145 (lv_at hl 3 rfl) ?_
        obtain ⟨f93, e94, h⟩ := m_bS h
        obtain ⟨r96, e95, h⟩ := m_bS h
        refine u_callVp X hl.1 I hA (As := [.int v4]) (rest := [.int v3]) (uk_J2_get l n D d u b91 v4 _ e95) (u_clS e94) (C := RJ2) (T := TJ2) (N := 3) rfl 1 q929 q823 q824 q105 q825 uh_J2_get rfl rfl ⟨Nat.le_trans (Nat.le_of_ble_eq_true rfl) hR.1, Nat.le_trans (Nat.le_of_ble_eq_true rfl) hR.2⟩ (u_leftLe hC) (stk := [.ref r96, .int v3]) rfl (Nat.le_of_ble_eq_true rfl) dX0_total_147 (fun H locs I => ?_)
        obtain ⟨f97, e98, h⟩ := m_bS h
        refine u_cast X I (u_clS e98) (C := RX6) (T := TX6) (N := 5) rfl q915 dX0_total_150 ?_
        obtain ⟨b99, e100, h⟩ := m_bS h
        refine u_GiN X I e100 (C := RX6) (T := TX6) (N := 5) (ref := "SwapPress$Trade") (host := "SwapPress") in_X6 rfl (by decide) rfl rfl 19 rfl (fun _ h => h) dX0_total_153 ?_
        refine lv_goto (tgt := 160) X.1 X.2.1 dX0_total_156 (by decide) ?_
        exact k160 u v4 b99 v3 H locs ls _ _ _ h hC I (lv_sub hl [0, 1, 3] rfl)
theorem uw_X0_total (X : u_X RX0 D A d p s m c cX0_total 5 args) (hA : ∀ q, s.heap.size ≤ q → A q) (hR : 5 ≤ R.frames ∧ 114 ≤ R.locals) (n : Nat) (u : UM) (t : Nat) (p0 : Int32) (p1 : Int32) (r0 : Int32) (ur : UM) (C : UC) (h : uf_X0_total n d u t p0 p1 = some ((r0, ur), C)) (hret : ∀ (H : Heap) (locs : List Loc) (ls : Array Slot) (pc cells slots : Nat), decode cX0_total pc = .ok (.ireturn, 1) → u_left R cells slots (u_add (0, 0) (0, 0)) → u_I D A s.heap ur H locs cells → W p l e R s m args below meth c H locs cells slots Q (F0 m pc ls [.int r0])) : ∀ (H : Heap) (locs : List Loc) (ls : Array Slot) (cells slots : Nat), u_left R cells slots (u_add C (0, 0)) → u_I D A s.heap u H locs cells → lv_has ls 5 [(0, .ref t), (1, .int p0), (2, .int p1)] → W p l e R s m args below meth c H locs cells slots Q (F0 m 0 ls []) := by
  have k20 : ∀ (u : UM) (H : Heap) (locs : List Loc) (ls : Array Slot) (cells slots : Nat) (C : UC), uf_X0_total_J20 n d u = some ((r0, ur), C) → u_left R cells slots (u_add C (0, 0)) → u_I D A s.heap u H locs cells → lv_has ls 5 [] → W p l e R s m args below meth c H locs cells slots Q (F0 m 20 ls []) := by
    intro u H locs ls cells slots C h hC I hl
    unfold uf_X0_total_J20 at h
    refine lv_bipush (v := (-2)) X.1 X.2.1 dX0_total_20 (by decide) ?_
    obtain ⟨he, rfl⟩ := m_e3 h
    obtain ⟨rfl, rfl⟩ := m_e4 he
    exact hret H locs ls 22 _ _ dX0_total_22 hC I
  intro H locs ls cells slots hC I hl
  unfold uf_X0_total at h
  refine lv_aload_n X.1 X.2.1 dX0_total_0 rfl (lv_at hl 0 rfl) ?_
  refine lv_iload_n X.1 X.2.1 dX0_total_1 rfl (lv_at hl 1 rfl) ?_
  obtain ⟨f1, e2, h⟩ := m_bS h
  obtain ⟨r4, e3, h⟩ := m_bS h
  refine u_callVp X hl.1 I hA (As := [.int p0]) (rest := []) (uk_X0_isKind l n D d u t p0 _ e3) (u_clS e2) (C := RX0) (T := TX0) (N := 9) rfl 1 q875 q877 qs20 q101 q878 uh_X0_isKind rfl rfl ⟨Nat.le_trans (Nat.le_of_ble_eq_true rfl) hR.1, Nat.le_trans (Nat.le_of_ble_eq_true rfl) hR.2⟩ (u_leftLe hC) (stk := [.int r4]) rfl (Nat.le_of_ble_eq_true rfl) dX0_total_2 (fun H locs I => ?_)
  refine lv_if_eq (tgt := 20) X.1 X.2.1 dX0_total_5 (by decide) (fun c5 => ?_) (fun c5 => ?_)
  · replace h := m_ifT c5 h
    exact k20 u H locs ls _ _ _ h hC I (lv_sub hl [] rfl)
  · replace h := m_ifF c5 h
    refine lv_iload_n X.1 X.2.1 dX0_total_8 rfl (lv_at hl 2 rfl) ?_
    refine lv_i2l X.1 X.2.1 dX0_total_9 rfl ?_
    refine lv_lconst (v := 0) X.1 X.2.1 dX0_total_10 (by decide) ?_
    refine lv_ldc2 (v := 3) X.1 X.2.1 X.2.2.2.1 (X.2.2.1 _ q939) dX0_total_11 ?_
    obtain ⟨r7, e6, h⟩ := m_bS h
    refine u_callSp X hl.1 I hA (As := [.long ((p1 : Int32).toInt64), .long 0, .long 3]) (rest := []) (uk_X0_in l n D d u ((p1 : Int32).toInt64) 0 3 _ e6) 3 q279 q280 q101 q281 uh_X0_in.2 rfl rfl ⟨Nat.le_trans (Nat.le_of_ble_eq_true rfl) hR.1, Nat.le_trans (Nat.le_of_ble_eq_true rfl) hR.2⟩ (u_leftLe hC) (stk := [.int r7]) rfl (Nat.le_of_ble_eq_true rfl) dX0_total_14 (fun H locs I => ?_)
    refine lv_if_ne (tgt := 23) X.1 X.2.1 dX0_total_17 (by decide) (fun c8 => ?_) (fun c8 => ?_)
    · replace h := m_ifF c8 h
      refine lv_iconst (v := 0) X.1 X.2.1 dX0_total_23 (by decide) ?_
      refine lv_istore_n (lv' := [(3, .int 0), (0, .ref t), (1, .int p0), (2, .int p1)]) X.1 X.2.1 dX0_total_24 rfl hl (by decide) rfl (fun ls hl => ?_)
      refine lv_iload_n X.1 X.2.1 dX0_total_25 rfl (lv_at hl 3 rfl) ?_
      by_cases c107 : (p1 : Int32) = 0
      · replace h := m_ifT c107 h
        refine lv_tableIn (tgt := 52) X.1 X.2.1 dX0_total_26 (by rw [c107]; decide) (by rw [c107]; decide) (by rw [c107]; rfl) (by decide) ?_
        refine lv_aload_n X.1 X.2.1 dX0_total_52 rfl (lv_at hl 1 rfl) ?_
        obtain ⟨b30, e31, h⟩ := m_bS h
        refine u_Gr X I e31 (C := RX0) (T := TX0) (N := 9) (ref := "SwapPress") in_X0 rfl (by decide) rfl rfl q235 (fun _ h => h) dX0_total_53 ?_
        refine lv_iload_n X.1 X.2.1 dX0_total_56 rfl (lv_at hl 2 rfl) ?_
        obtain ⟨f32, e33, h⟩ := m_bS h
        obtain ⟨r35, u36, C37, C38, e34, z39, h, hq⟩ := u_bcS h
        rw [hq] at hC
        refine u_callV X hl.1 I hA (As := [.int p0]) (rest := []) (uk_X1_flows l n D d u b30 p0 _ _ _ e34) z39 (u_clS e33) (C := RX1) (T := TX1) (N := 5) rfl 1 q951 q952 q953 q102 q954 uh_X1_flows rfl rfl ⟨Nat.le_trans (Nat.le_of_ble_eq_true rfl) hR.1, Nat.le_trans (Nat.le_of_ble_eq_true rfl) hR.2⟩ hC (stk := [.ref r35]) rfl (Nat.le_of_ble_eq_true rfl) dX0_total_57 (fun H locs cells slots hC I => ?_)
        obtain ⟨r41, e40, h⟩ := m_bS h
        refine u_callSp X hl.1 I hA (As := [.ref r35]) (rest := []) (uk_X0_sum l n D d u36 r35 _ e40) 1 q1210 q1211 q101 q1212 uh_X0_sum.2 rfl rfl ⟨Nat.le_trans (Nat.le_of_ble_eq_true rfl) hR.1, Nat.le_trans (Nat.le_of_ble_eq_true rfl) hR.2⟩ (u_leftLe hC) (stk := [.int r41]) rfl (Nat.le_of_ble_eq_true rfl) dX0_total_60 (fun H locs I => ?_)
        obtain ⟨he, rfl⟩ := m_e3 h
        obtain ⟨rfl, rfl⟩ := m_e4 he
        exact hret H locs ls 63 _ _ dX0_total_63 hC I
      replace h := m_ifF c107 h
      by_cases c108 : (p1 : Int32) = 1
      · replace h := m_ifT c108 h
        refine lv_tableIn (tgt := 64) X.1 X.2.1 dX0_total_26 (by rw [c108]; decide) (by rw [c108]; decide) (by rw [c108]; rfl) (by decide) ?_
        refine lv_aload_n X.1 X.2.1 dX0_total_64 rfl (lv_at hl 1 rfl) ?_
        obtain ⟨b42, e43, h⟩ := m_bS h
        refine u_Gr X I e43 (C := RX0) (T := TX0) (N := 9) (ref := "SwapPress") in_X0 rfl (by decide) rfl rfl q235 (fun _ h => h) dX0_total_65 ?_
        refine lv_iload_n X.1 X.2.1 dX0_total_68 rfl (lv_at hl 2 rfl) ?_
        obtain ⟨f44, e45, h⟩ := m_bS h
        obtain ⟨r47, u48, C49, C50, e46, z51, h, hq⟩ := u_bcS h
        rw [hq] at hC
        refine u_callV X hl.1 I hA (As := [.int p0]) (rest := []) (uk_X1_flows l n D d u b42 p0 _ _ _ e46) z51 (u_clS e45) (C := RX1) (T := TX1) (N := 5) rfl 1 q951 q952 q953 q102 q954 uh_X1_flows rfl rfl ⟨Nat.le_trans (Nat.le_of_ble_eq_true rfl) hR.1, Nat.le_trans (Nat.le_of_ble_eq_true rfl) hR.2⟩ hC (stk := [.ref r47]) rfl (Nat.le_of_ble_eq_true rfl) dX0_total_69 (fun H locs cells slots hC I => ?_)
        obtain ⟨r53, e52, h⟩ := m_bS h
        refine u_callSp X hl.1 I hA (As := [.ref r47]) (rest := []) (uk_X0_above l n D d u48 r47 _ e52) 1 q1150 q1151 q101 q1152 uh_X0_above.2 rfl rfl ⟨Nat.le_trans (Nat.le_of_ble_eq_true rfl) hR.1, Nat.le_trans (Nat.le_of_ble_eq_true rfl) hR.2⟩ (u_leftLe hC) (stk := [.int r53]) rfl (Nat.le_of_ble_eq_true rfl) dX0_total_72 (fun H locs I => ?_)
        obtain ⟨he, rfl⟩ := m_e3 h
        obtain ⟨rfl, rfl⟩ := m_e4 he
        exact hret H locs ls 75 _ _ dX0_total_75 hC I
      replace h := m_ifF c108 h
      by_cases c109 : (p1 : Int32) = 2
      · replace h := m_ifT c109 h
        refine lv_tableIn (tgt := 76) X.1 X.2.1 dX0_total_26 (by rw [c109]; decide) (by rw [c109]; decide) (by rw [c109]; rfl) (by decide) ?_
        refine lv_iconst (v := 0) X.1 X.2.1 dX0_total_76 (by decide) ?_
        refine lv_istore (lv' := [(4, .int 0), (3, .int 0), (0, .ref t), (1, .int p0), (2, .int p1)]) X.1 X.2.1 dX0_total_77 hl (by decide) rfl (fun ls hl => ?_)
        obtain ⟨⟨z102, u103⟩, C105, C106, e101, h, hq⟩ := u_blS h
        rw [hq] at hC
        refine wuf_X0_total_L79 X hA hR n t p0 _ _ _ _ e101 (fun H locs ls cells slots hC I hl => ?_) H locs ls _ _ (u_left2 hC) I (lv_sub hl [2, 3, 1, 0] rfl)
        refine lv_iload_n X.1 X.2.1 dX0_total_168 rfl (lv_at hl 0 rfl) ?_
        obtain ⟨he, rfl⟩ := m_e3 h
        obtain ⟨rfl, rfl⟩ := m_e4 he
        exact hret H locs ls 169 _ _ dX0_total_169 hC I
      replace h := m_ifF c109 h
      refine lv_tableOut (tgt := 170) X.1 X.2.1 dX0_total_26 (u_sw0_2 _ c107 c108 c109) (by decide) ?_
      refine lv_iconst (v := 0) X.1 X.2.1 dX0_total_170 (by decide) ?_
      refine lv_istore (lv' := [(4, .int 0), (3, .int 0), (0, .ref t), (1, .int p0), (2, .int p1)]) X.1 X.2.1 dX0_total_171 hl (by decide) rfl (fun ls hl => ?_)
      obtain ⟨⟨z25, u26⟩, C28, C29, e24, h, hq⟩ := u_blS h
      rw [hq] at hC
      refine wuf_X0_total_L173 X hA hR n t p0 _ _ _ _ e24 (fun H locs ls cells slots hC I hl => ?_) H locs ls _ _ (u_left2 hC) I (lv_sub hl [2, 3, 1, 0] rfl)
      refine lv_iload_n X.1 X.2.1 dX0_total_209 rfl (lv_at hl 0 rfl) ?_
      obtain ⟨he, rfl⟩ := m_e3 h
      obtain ⟨rfl, rfl⟩ := m_e4 he
      exact hret H locs ls 210 _ _ dX0_total_210 hC I
    · replace h := m_ifT c8 h
      exact k20 u H locs ls _ _ _ h hC I (lv_sub hl [] rfl)
end S_X0_total
theorem uk_X0_total (l : Launch) (n : Nat) (D : va_G) (d : UD) (u : UM) (t : Nat) (p0 : Int32) (p1 : Int32) (r0 : Int32) (ur : UM) (C : UC) (h : uf_X0_total n d u t p0 p1 = some ((r0, ur), C)) : u_M l yX0_total (ws_ yX0_total cX0_total 5 (some .int)) 5 114 C D d u [.ref t, .int p0, .int p1] (some (.int r0)) ur :=
  u_start (own := RX0) (lvl := [(0, .ref t), (1, .int p0), (2, .int p1)]) (by decide) rfl (Nat.le_of_ble_eq_true rfl) rfl (fun p e s m args below meth c ls X hr hlk hI hl hA I hC => uw_X0_total X hA ⟨Nat.le_refl _, Nat.le_refl _⟩ n u t p0 p1 r0 ur C h (fun H locs ls pc cells slots hd hC I => u_iret X I hr hlk (u_leftE hC) hd) _ _ ls _ _ hC I hl)

/-! SwapPress.bound(III)I -/
def uf_X0_bound_J27 (n : Nat) (d : UD) (u : UM) (t0 : Int32) : Option ((Int32 × UM) × UC) :=
  some ((t0, u), (0, 0))
def uf_X0_bound (n : Nat) (d : UD) (u : UM) (t : Nat) (p0 : Int32) (p1 : Int32) (p2 : Int32) : Option ((Int32 × UM) × UC) :=
  m_b (u_cl u 1 t) (fun f1 => m_b (uf_X0_areAll n d u t p0 p1 p2) (fun r4 => m_if ((r4 : Int32) = 0) (uf_X0_bound_J27 n d u ((-2))) (m_b (u_cl u 1 t) (fun f6 => u_bc u.2 (uf_X0_bounds n d u t p2) (fun r9 u10 => m_b (u_fc (u_cl u10 9 r9) (uf_X10_of n d u10 r9 p0 p1) (u_fc (u_cl u10 10 r9) (uf_X11_of n d u10 r9 p0 p1) (u_fc (u_cl u10 11 r9) (uf_X12_of n d u10 r9 p0 p1) (u_fc (u_cl u10 12 r9) (uf_X13_of n d u10 r9 p0 p1) (none))))) (fun r14 => uf_X0_bound_J27 n d u10 r14))))))
theorem uh_X0_bound : yX0_bound.cls = RX0 ∧ yX0_bound.cls ≠ "java/lang/invoke/MethodHandle" ∧ yX0_bound.cls ≠ "java/lang/invoke/VarHandle" ∧ (parseMethodDescriptor yX0_bound.desc).map (fun d => d.parameters.length) = some 3 := by decide +kernel
section S_X0_bound
variable {p : Program} {l : Launch} {e : Env} {R : Room} {s : State} {m : MethodId} {args : Array Value} {below : List Frame} {meth : Method} {c : Code} {Q : State → Prop} {D : va_G} {A : Nat → Prop} {d : UD}
theorem uw_X0_bound (X : u_X RX0 D A d p s m c cX0_bound 4 args) (hA : ∀ q, s.heap.size ≤ q → A q) (hR : 5 ≤ R.frames ∧ 109 ≤ R.locals) (n : Nat) (u : UM) (t : Nat) (p0 : Int32) (p1 : Int32) (p2 : Int32) (r0 : Int32) (ur : UM) (C : UC) (h : uf_X0_bound n d u t p0 p1 p2 = some ((r0, ur), C)) (hret : ∀ (H : Heap) (locs : List Loc) (ls : Array Slot) (pc cells slots : Nat), decode cX0_bound pc = .ok (.ireturn, 1) → u_left R cells slots (u_add (0, 0) (0, 0)) → u_I D A s.heap ur H locs cells → W p l e R s m args below meth c H locs cells slots Q (F0 m pc ls [.int r0])) : ∀ (H : Heap) (locs : List Loc) (ls : Array Slot) (cells slots : Nat), u_left R cells slots (u_add C (0, 0)) → u_I D A s.heap u H locs cells → lv_has ls 4 [(0, .ref t), (1, .int p0), (2, .int p1), (3, .int p2)] → W p l e R s m args below meth c H locs cells slots Q (F0 m 0 ls []) := by
  have k27 : ∀ (u : UM) (t0 : Int32) (H : Heap) (locs : List Loc) (ls : Array Slot) (cells slots : Nat) (C : UC), uf_X0_bound_J27 n d u t0 = some ((r0, ur), C) → u_left R cells slots (u_add C (0, 0)) → u_I D A s.heap u H locs cells → lv_has ls 4 [] → W p l e R s m args below meth c H locs cells slots Q (F0 m 27 ls [.int t0]) := by
    intro u t0 H locs ls cells slots C h hC I hl
    unfold uf_X0_bound_J27 at h
    obtain ⟨he, rfl⟩ := m_e3 h
    obtain ⟨rfl, rfl⟩ := m_e4 he
    exact hret H locs ls 27 _ _ dX0_bound_27 hC I
  intro H locs ls cells slots hC I hl
  unfold uf_X0_bound at h
  refine lv_aload_n X.1 X.2.1 dX0_bound_0 rfl (lv_at hl 0 rfl) ?_
  refine lv_iload_n X.1 X.2.1 dX0_bound_1 rfl (lv_at hl 1 rfl) ?_
  refine lv_iload_n X.1 X.2.1 dX0_bound_2 rfl (lv_at hl 2 rfl) ?_
  refine lv_iload_n X.1 X.2.1 dX0_bound_3 rfl (lv_at hl 3 rfl) ?_
  obtain ⟨f1, e2, h⟩ := m_bS h
  obtain ⟨r4, e3, h⟩ := m_bS h
  refine u_callVp X hl.1 I hA (As := [.int p0, .int p1, .int p2]) (rest := []) (uk_X0_areAll l n D d u t p0 p1 p2 _ e3) (u_clS e2) (C := RX0) (T := TX0) (N := 9) rfl 3 q1169 q1171 qs31 q101 q1172 uh_X0_areAll rfl rfl ⟨Nat.le_trans (Nat.le_of_ble_eq_true rfl) hR.1, Nat.le_trans (Nat.le_of_ble_eq_true rfl) hR.2⟩ (u_leftLe hC) (stk := [.int r4]) rfl (Nat.le_of_ble_eq_true rfl) dX0_bound_4 (fun H locs I => ?_)
  refine lv_if_eq (tgt := 25) X.1 X.2.1 dX0_bound_7 (by decide) (fun c5 => ?_) (fun c5 => ?_)
  · replace h := m_ifT c5 h
    refine lv_bipush (v := (-2)) X.1 X.2.1 dX0_bound_25 (by decide) ?_
    exact k27 u ((-2)) H locs ls _ _ _ h hC I (lv_sub hl [] rfl)
  · replace h := m_ifF c5 h
    refine lv_aload_n X.1 X.2.1 dX0_bound_10 rfl (lv_at hl 0 rfl) ?_
    refine lv_iload_n X.1 X.2.1 dX0_bound_11 rfl (lv_at hl 3 rfl) ?_
    obtain ⟨f6, e7, h⟩ := m_bS h
    obtain ⟨r9, u10, C11, C12, e8, z13, h, hq⟩ := u_bcS h
    rw [hq] at hC
    refine u_callV X hl.1 I hA (As := [.int p2]) (rest := []) (uk_X0_bounds l n D d u t p2 _ _ _ e8) z13 (u_clS e7) (C := RX0) (T := TX0) (N := 9) rfl 1 q1218 q1220 qs33 q101 q1221 uh_X0_bounds rfl rfl ⟨Nat.le_trans (Nat.le_of_ble_eq_true rfl) hR.1, Nat.le_trans (Nat.le_of_ble_eq_true rfl) hR.2⟩ hC (stk := [.ref r9]) rfl (Nat.le_of_ble_eq_true rfl) dX0_bound_12 (fun H locs cells slots hC I => ?_)
    refine lv_iload_n X.1 X.2.1 dX0_bound_15 rfl (lv_at hl 1 rfl) ?_
    refine lv_iload_n X.1 X.2.1 dX0_bound_16 rfl (lv_at hl 2 rfl) ?_
    obtain ⟨r14, e15, h⟩ := m_bS h
    suffices kq : (∀ (H : Heap) (locs : List Loc), u_I D A s.heap u10 H locs cells → W p l e R s m args below meth c H locs cells slots Q (F0 m 22 ls [.int r14])) from by
      rcases u_fcS e15 with ⟨f, ef, ee⟩ | e15
      · exact u_callFp X hl.1 I hA (As := [.int p0, .int p1]) (rest := []) (uk_X10_of l n D d u10 r9 p0 p1 _ ee) (u_clS ef) (C := RX10) (T := TX10) (N := 1) rfl 2 5 rfl q1223 q1092 q1094 q127 q1096 uf_hd_0 rfl rfl ⟨Nat.le_trans (Nat.le_of_ble_eq_true rfl) hR.1, Nat.le_trans (Nat.le_of_ble_eq_true rfl) hR.2⟩ (u_leftLe hC) (stk := [.int r14]) rfl (Nat.le_of_ble_eq_true rfl) dX0_bound_17 kq
      rcases u_fcS e15 with ⟨f, ef, ee⟩ | e15
      · exact u_callFp X hl.1 I hA (As := [.int p0, .int p1]) (rest := []) (uk_X11_of l n D d u10 r9 p0 p1 _ ee) (u_clS ef) (C := RX11) (T := TX11) (N := 1) rfl 2 4 rfl q1223 q1086 q1088 q128 q1090 uf_hd_0 rfl rfl ⟨Nat.le_trans (Nat.le_of_ble_eq_true rfl) hR.1, Nat.le_trans (Nat.le_of_ble_eq_true rfl) hR.2⟩ (u_leftLe hC) (stk := [.int r14]) rfl (Nat.le_of_ble_eq_true rfl) dX0_bound_17 kq
      rcases u_fcS e15 with ⟨f, ef, ee⟩ | e15
      · exact u_callFp X hl.1 I hA (As := [.int p0, .int p1]) (rest := []) (uk_X12_of l n D d u10 r9 p0 p1 _ ee) (u_clS ef) (C := RX12) (T := TX12) (N := 1) rfl 2 2 rfl q1223 q1072 q1074 q129 q1076 uf_hd_0 rfl rfl ⟨Nat.le_trans (Nat.le_of_ble_eq_true rfl) hR.1, Nat.le_trans (Nat.le_of_ble_eq_true rfl) hR.2⟩ (u_leftLe hC) (stk := [.int r14]) rfl (Nat.le_of_ble_eq_true rfl) dX0_bound_17 kq
      rcases u_fcS e15 with ⟨f, ef, ee⟩ | e15
      · exact u_callFp X hl.1 I hA (As := [.int p0, .int p1]) (rest := []) (uk_X13_of l n D d u10 r9 p0 p1 _ ee) (u_clS ef) (C := RX13) (T := TX13) (N := 4) rfl 2 3 rfl q1223 q1078 q1080 q132 q1082 uf_hd_0 rfl rfl ⟨Nat.le_trans (Nat.le_of_ble_eq_true rfl) hR.1, Nat.le_trans (Nat.le_of_ble_eq_true rfl) hR.2⟩ (u_leftLe hC) (stk := [.int r14]) rfl (Nat.le_of_ble_eq_true rfl) dX0_bound_17 kq
      cases e15
    intro H locs I
    refine lv_goto (tgt := 27) X.1 X.2.1 dX0_bound_22 (by decide) ?_
    exact k27 u10 r14 H locs ls _ _ _ h hC I (lv_sub hl [] rfl)
end S_X0_bound
theorem uk_X0_bound (l : Launch) (n : Nat) (D : va_G) (d : UD) (u : UM) (t : Nat) (p0 : Int32) (p1 : Int32) (p2 : Int32) (r0 : Int32) (ur : UM) (C : UC) (h : uf_X0_bound n d u t p0 p1 p2 = some ((r0, ur), C)) : u_M l yX0_bound (ws_ yX0_bound cX0_bound 4 (some .int)) 5 109 C D d u [.ref t, .int p0, .int p1, .int p2] (some (.int r0)) ur :=
  u_start (own := RX0) (lvl := [(0, .ref t), (1, .int p0), (2, .int p1), (3, .int p2)]) (by decide) rfl (Nat.le_of_ble_eq_true rfl) rfl (fun p e s m args below meth c ls X hr hlk hI hl hA I hC => uw_X0_bound X hA ⟨Nat.le_refl _, Nat.le_refl _⟩ n u t p0 p1 p2 r0 ur C h (fun H locs ls pc cells slots hd hC I => u_iret X I hr hlk (u_leftE hC) hd) _ _ ls _ _ hC I hl)
