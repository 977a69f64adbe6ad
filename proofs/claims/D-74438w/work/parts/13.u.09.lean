set_option maxRecDepth 100000
set_option maxHeartbeats 4000000
/-! SwapPress.fewest(II)I -/
def uf_X0_fewest_J58 (n : Nat) (d : UD) (u : UM) (v0 : Nat) (v1 : Int32) (v2 : Int32) (v4 : Int32) (t0 : Int32) (t1 : Int32) : Option (((Int32 × Int32 × UM) ⊕ (Int32 × UM)) × UC) :=
  m_b (uf_X0_one n d u t0) (fun r24 => some (.inl ((t1 ||| (r24 <<< (v4 &&& 31)), v4 + 1, u)), (0, 0)))
def uf_X0_fewest_L26 (n : Nat) (d : UD) (v0 : Nat) (v1 : Int32) (v2 : Int32) (v3 : Int32) (v4 : Int32) (u : UM) : Option (((Int32 × Int32 × UM) ⊕ (Int32 × UM)) × UC) :=
  m_b (u_fr d u 1 0 v0) (fun b9 => m_b (u_cl u 2 b9) (fun f11 => m_b (uf_X1_many n d u b9) (fun r14 => m_if ((r14 : Int32) ≤ (v4 : Int32)) (some (.inr ((v3, u)), (0, 0))) (m_b (u_fr d u 1 0 v0) (fun b16 => m_b (u_cl u 2 b16) (fun f18 => m_b (uf_X1_net n d u b16 v4 v1 1) (fun r21 => m_if ((r21 : Int32) = 0) (uf_X0_fewest_J58 n d u v0 v1 v2 v4 0 v3) (uf_X0_fewest_J58 n d u v0 v1 v2 v4 1 v3))))))))
def uf_X0_fewest_L26l (n : Nat) (d : UD) (v0 : Nat) (v1 : Int32) (v2 : Int32) (x : (Int32 × Int32 × UM)) : Option ((Int32 × UM) × UC) := u_lp (fun (x : (Int32 × Int32 × UM)) => uf_X0_fewest_L26 n d v0 v1 v2 x.1 x.2.1 x.2.2) n x
def uf_X0_fewest_J18 (n : Nat) (d : UD) (u : UM) : Option ((Int32 × UM) × UC) :=
  some (((-2), u), (0, 0))
def uf_X0_fewest_J97 (n : Nat) (d : UD) (u : UM) (t0 : Int32) : Option ((Int32 × UM) × UC) :=
  some ((t0, u), (0, 0))
def uf_X0_fewest (n : Nat) (d : UD) (u : UM) (t : Nat) (p0 : Int32) (p1 : Int32) : Option ((Int32 × UM) × UC) :=
  m_b (u_cl u 1 t) (fun f1 => m_b (uf_X0_isKind n d u t p0) (fun r4 => m_if ((r4 : Int32) = 0) (uf_X0_fewest_J18 n d u ) (m_b (uf_X0_in n d u ((p1 : Int32).toInt64) 0 1) (fun r7 => m_if ((r7 : Int32) = 0) (uf_X0_fewest_J18 n d u ) (u_bl (uf_X0_fewest_L26l n d t p0 p1 ((0, 0, u))) (fun y39 => m_b (u_cl y39.2 1 t) (fun f28 => u_bc y39.2.2 (uf_X0_groups n d y39.2 t p0 y39.1) (fun r31 u32 => m_if ((p1 : Int32) = (1 : Int32)) (uf_X0_fewest_J97 n d u32 r31) (m_b (uf_J15_bitCount n d u32 y39.1) (fun r38 => uf_X0_fewest_J97 n d u32 (r38 - r31)))))))))))
theorem uh_X0_fewest : yX0_fewest.cls = RX0 ∧ yX0_fewest.cls ≠ "java/lang/invoke/MethodHandle" ∧ yX0_fewest.cls ≠ "java/lang/invoke/VarHandle" ∧ (parseMethodDescriptor yX0_fewest.desc).map (fun d => d.parameters.length) = some 2 := by decide +kernel
section S_X0_fewest
variable {p : Program} {l : Launch} {e : Env} {R : Room} {s : State} {m : MethodId} {args : Array Value} {below : List Frame} {meth : Method} {c : Code} {Q : State → Prop} {D : va_G} {A : Nat → Prop} {d : UD}
theorem wuf_X0_fewest_L26 (X : u_X RX0 D A d p s m c cX0_fewest 5 args) (hA : ∀ q, s.heap.size ≤ q → A q) (hR : 7 ≤ R.frames ∧ 164 ≤ R.locals) (n : Nat) (v0 : Nat) (v1 : Int32) (v2 : Int32) (x : (Int32 × Int32 × UM)) (z : (Int32 × UM)) (C cr : UC) (hz : uf_X0_fewest_L26l n d v0 v1 v2 x = some (z, C)) (hE : (fun (z : (Int32 × UM)) (C : UC) => ∀ (H : Heap) (locs : List Loc) (ls : Array Slot) (cells slots : Nat), u_left R cells slots C → u_I D A s.heap z.2 H locs cells → lv_has ls 5 [(0, .ref v0), (1, .int v1), (2, .int v2), (3, .int z.1)] → W p l e R s m args below meth c H locs cells slots Q (F0 m 72 ls [])) z cr) : (fun (x : (Int32 × Int32 × UM)) (C : UC) => ∀ (H : Heap) (locs : List Loc) (ls : Array Slot) (cells slots : Nat), u_left R cells slots C → u_I D A s.heap x.2.2 H locs cells → lv_has ls 5 [(0, .ref v0), (1, .int v1), (2, .int v2), (3, .int x.1), (4, .int x.2.1)] → W p l e R s m args below meth c H locs cells slots Q (F0 m 26 ls [])) x (u_add C cr) := by
  refine u_lpW (G := fun (x : (Int32 × Int32 × UM)) (C : UC) => ∀ (H : Heap) (locs : List Loc) (ls : Array Slot) (cells slots : Nat), u_left R cells slots C → u_I D A s.heap x.2.2 H locs cells → lv_has ls 5 [(0, .ref v0), (1, .int v1), (2, .int v2), (3, .int x.1), (4, .int x.2.1)] → W p l e R s m args below meth c H locs cells slots Q (F0 m 26 ls [])) (E := fun (z : (Int32 × UM)) (C : UC) => ∀ (H : Heap) (locs : List Loc) (ls : Array Slot) (cells slots : Nat), u_left R cells slots C → u_I D A s.heap z.2 H locs cells → lv_has ls 5 [(0, .ref v0), (1, .int v1), (2, .int v2), (3, .int z.1)] → W p l e R s m args below meth c H locs cells slots Q (F0 m 72 ls [])) ?_ n x z C cr hz hE
  rintro ⟨v3, v4, u⟩ r C cr h hr H locs ls cells slots hC I hl
  replace h : uf_X0_fewest_L26 n d v0 v1 v2 v3 v4 u = some (r, C) := h
  have k58 : ∀ (u : UM) (v4 : Int32) (t0 : Int32) (t1 : Int32) (H : Heap) (locs : List Loc) (ls : Array Slot) (cells slots : Nat) (C : UC), uf_X0_fewest_J58 n d u v0 v1 v2 v4 t0 t1 = some (r, C) → u_left R cells slots (u_add C cr) → u_I D A s.heap u H locs cells → lv_has ls 5 [(0, .ref v0), (1, .int v1), (2, .int v2), (4, .int v4)] → W p l e R s m args below meth c H locs cells slots Q (F0 m 58 ls [.int t0, .int t1]) := by
    intro u v4 t0 t1 H locs ls cells slots C h hC I hl
    unfold uf_X0_fewest_J58 at h
    obtain ⟨r24, e23, h⟩ := m_bS h
    refine u_callSp X hl.1 I hA (As := [.int t0]) (rest := [.int t1]) (uk_X0_one l n D d u t0 _ e23) 1 q932 q933 q101 q934 uh_X0_one.2 rfl rfl ⟨Nat.le_trans (Nat.le_of_ble_eq_true rfl) hR.1, Nat.le_trans (Nat.le_of_ble_eq_true rfl) hR.2⟩ (u_leftLe hC) (stk := [.int r24, .int t1]) rfl (Nat.le_of_ble_eq_true rfl) dX0_fewest_58 (fun H locs I => ?_)
    refine lv_iload X.1 X.2.1 dX0_fewest_61 (lv_at hl 3 rfl) ?_
    refine lv_ishl X.1 X.2.1 dX0_fewest_63 ?_
    refine lv_ior X.1 X.2.1 dX0_fewest_64 ?_
    refine lv_istore_n (lv' := [(3, .int (t1 ||| (r24 <<< (v4 &&& 31)))), (0, .ref v0), (1, .int v1), (2, .int v2), (4, .int v4)]) X.1 X.2.1 dX0_fewest_65 rfl hl (by decide) rfl (fun ls hl => ?_)
    refine lv_iinc (v := v4 + 1) (lv' := [(4, .int (v4 + 1)), (3, .int (t1 ||| (r24 <<< (v4 &&& 31)))), (0, .ref v0), (1, .int v1), (2, .int v2)]) X.1 X.2.1 dX0_fewest_66 hl (k := 4) rfl rfl (by decide) rfl (fun ls hl => ?_)
    refine lv_goto (tgt := 26) X.1 X.2.1 dX0_fewest_69 (by decide) ?_
    obtain ⟨rfl, rfl⟩ := m_e3 h
    exact hr H locs ls _ _ (u_left0 hC) I (lv_sub hl [2, 3, 4, 1, 0] rfl)
  unfold uf_X0_fewest_L26 at h
  refine lv_iload X.1 X.2.1 dX0_fewest_26 (lv_at hl 4 rfl) ?_
  refine lv_aload_n X.1 X.2.1 dX0_fewest_28 rfl (lv_at hl 0 rfl) ?_
  obtain ⟨b9, e10, h⟩ := m_bS h
  refine u_Gr X I e10 (C := RX0) (T := TX0) (N := 9) (ref := "SwapPress") in_X0 rfl (by decide) rfl rfl q235 (fun _ h => h) dX0_fewest_29 ?_
  obtain ⟨f11, e12, h⟩ := m_bS h
  obtain ⟨r14, e13, h⟩ := m_bS h
  refine u_callVp X hl.1 I hA (As := []) (rest := [.int v4]) (uk_X1_many l n D d u b9 _ e13) (u_clS e12) (C := RX1) (T := TX1) (N := 5) rfl 0 q870 q871 q872 q102 q873 uh_X1_many rfl rfl ⟨Nat.le_trans (Nat.le_of_ble_eq_true rfl) hR.1, Nat.le_trans (Nat.le_of_ble_eq_true rfl) hR.2⟩ (u_leftLe hC) (stk := [.int r14, .int v4]) rfl (Nat.le_of_ble_eq_true rfl) dX0_fewest_32 (fun H locs I => ?_)
  refine lv_icmp_ge (tgt := 72) X.1 X.2.1 dX0_fewest_35 (by decide) (fun c15 => ?_) (fun c15 => ?_)
  · replace h := m_ifT c15 h
    obtain ⟨rfl, rfl⟩ := m_e3 h
    exact hr H locs ls _ _ (u_left0 hC) I (lv_sub hl [0, 1, 2, 3] rfl)
  · replace h := m_ifF c15 h
    refine lv_iload_n X.1 X.2.1 dX0_fewest_38 rfl (lv_at hl 3 rfl) ?_
    refine lv_aload_n X.1 X.2.1 dX0_fewest_39 rfl (lv_at hl 0 rfl) ?_
    obtain ⟨b16, e17, h⟩ := m_bS h
    refine u_Gr X I e17 (C := RX0) (T := TX0) (N := 9) (ref := "SwapPress") in_X0 rfl (by decide) rfl rfl q235 (fun _ h => h) dX0_fewest_40 ?_
    refine lv_iload X.1 X.2.1 dX0_fewest_43 (lv_at hl 4 rfl) ?_
    refine lv_iload_n X.1 X.2.1 dX0_fewest_45 rfl (lv_at hl 1 rfl) ?_
    refine lv_iconst (v := 1) X.1 X.2.1 dX0_fewest_46 (by decide) ?_
    obtain ⟨f18, e19, h⟩ := m_bS h
    obtain ⟨r21, e20, h⟩ := m_bS h
    refine u_callVp X hl.1 I hA (As := [.int v4, .int v1, .int 1]) (rest := [.int v3]) (uk_X1_net l n D d u b16 v4 v1 1 _ e20) (u_clS e19) (C := RX1) (T := TX1) (N := 5) rfl 3 q1182 q1183 q1184 q102 q1185 uh_X1_net rfl rfl ⟨Nat.le_trans (Nat.le_of_ble_eq_true rfl) hR.1, Nat.le_trans (Nat.le_of_ble_eq_true rfl) hR.2⟩ (u_leftLe hC) (stk := [.int r21, .int v3]) rfl (Nat.le_of_ble_eq_true rfl) dX0_fewest_47 (fun H locs I => ?_)
    refine lv_if_eq (tgt := 57) X.1 X.2.1 dX0_fewest_50 (by decide) (fun c22 => ?_) (fun c22 => ?_)
    · replace h := m_ifT c22 h
      refine lv_iconst (v := 0) X.1 X.2.1 dX0_fewest_57 (by decide) ?_
      exact k58 u v4 0 v3 H locs ls _ _ _ h hC I (lv_sub hl [0, 1, 2, 4] rfl)
    · replace h := m_ifF c22 h
      refine lv_iconst (v := 1) X.1 X.2.1 dX0_fewest_53 (by decide) ?_
      refine lv_goto (tgt := 58) X.1 X.2.1 dX0_fewest_54 (by decide) ?_
      exact k58 u v4 1 v3 H locs ls _ _ _ h hC I (lv_sub hl [0, 1, 2, 4] rfl)
theorem uw_X0_fewest (X : u_X RX0 D A d p s m c cX0_fewest 5 args) (hA : ∀ q, s.heap.size ≤ q → A q) (hR : 7 ≤ R.frames ∧ 164 ≤ R.locals) (n : Nat) (u : UM) (t : Nat) (p0 : Int32) (p1 : Int32) (r0 : Int32) (ur : UM) (C : UC) (h : uf_X0_fewest n d u t p0 p1 = some ((r0, ur), C)) (hret : ∀ (H : Heap) (locs : List Loc) (ls : Array Slot) (pc cells slots : Nat), decode cX0_fewest pc = .ok (.ireturn, 1) → u_left R cells slots (u_add (0, 0) (0, 0)) → u_I D A s.heap ur H locs cells → W p l e R s m args below meth c H locs cells slots Q (F0 m pc ls [.int r0])) : ∀ (H : Heap) (locs : List Loc) (ls : Array Slot) (cells slots : Nat), u_left R cells slots (u_add C (0, 0)) → u_I D A s.heap u H locs cells → lv_has ls 5 [(0, .ref t), (1, .int p0), (2, .int p1)] → W p l e R s m args below meth c H locs cells slots Q (F0 m 0 ls []) := by
  have k18 : ∀ (u : UM) (H : Heap) (locs : List Loc) (ls : Array Slot) (cells slots : Nat) (C : UC), uf_X0_fewest_J18 n d u = some ((r0, ur), C) → u_left R cells slots (u_add C (0, 0)) → u_I D A s.heap u H locs cells → lv_has ls 5 [] → W p l e R s m args below meth c H locs cells slots Q (F0 m 18 ls []) := by
    intro u H locs ls cells slots C h hC I hl
    unfold uf_X0_fewest_J18 at h
    refine lv_bipush (v := (-2)) X.1 X.2.1 dX0_fewest_18 (by decide) ?_
    obtain ⟨he, rfl⟩ := m_e3 h
    obtain ⟨rfl, rfl⟩ := m_e4 he
    exact hret H locs ls 20 _ _ dX0_fewest_20 hC I
  have k97 : ∀ (u : UM) (t0 : Int32) (H : Heap) (locs : List Loc) (ls : Array Slot) (cells slots : Nat) (C : UC), uf_X0_fewest_J97 n d u t0 = some ((r0, ur), C) → u_left R cells slots (u_add C (0, 0)) → u_I D A s.heap u H locs cells → lv_has ls 5 [] → W p l e R s m args below meth c H locs cells slots Q (F0 m 97 ls [.int t0]) := by
    intro u t0 H locs ls cells slots C h hC I hl
    unfold uf_X0_fewest_J97 at h
    obtain ⟨he, rfl⟩ := m_e3 h
    obtain ⟨rfl, rfl⟩ := m_e4 he
    exact hret H locs ls 97 _ _ dX0_fewest_97 hC I
  intro H locs ls cells slots hC I hl
  unfold uf_X0_fewest at h
  refine lv_aload_n X.1 X.2.1 dX0_fewest_0 rfl (lv_at hl 0 rfl) ?_
  refine lv_iload_n X.1 X.2.1 dX0_fewest_1 rfl (lv_at hl 1 rfl) ?_
  obtain ⟨f1, e2, h⟩ := m_bS h
  obtain ⟨r4, e3, h⟩ := m_bS h
  refine u_callVp X hl.1 I hA (As := [.int p0]) (rest := []) (uk_X0_isKind l n D d u t p0 _ e3) (u_clS e2) (C := RX0) (T := TX0) (N := 9) rfl 1 q875 q877 qs20 q101 q878 uh_X0_isKind rfl rfl ⟨Nat.le_trans (Nat.le_of_ble_eq_true rfl) hR.1, Nat.le_trans (Nat.le_of_ble_eq_true rfl) hR.2⟩ (u_leftLe hC) (stk := [.int r4]) rfl (Nat.le_of_ble_eq_true rfl) dX0_fewest_2 (fun H locs I => ?_)
  refine lv_if_eq (tgt := 18) X.1 X.2.1 dX0_fewest_5 (by decide) (fun c5 => ?_) (fun c5 => ?_)
  · replace h := m_ifT c5 h
    exact k18 u H locs ls _ _ _ h hC I (lv_sub hl [] rfl)
  · replace h := m_ifF c5 h
    refine lv_iload_n X.1 X.2.1 dX0_fewest_8 rfl (lv_at hl 2 rfl) ?_
    refine lv_i2l X.1 X.2.1 dX0_fewest_9 rfl ?_
    refine lv_lconst (v := 0) X.1 X.2.1 dX0_fewest_10 (by decide) ?_
    refine lv_lconst (v := 1) X.1 X.2.1 dX0_fewest_11 (by decide) ?_
    obtain ⟨r7, e6, h⟩ := m_bS h
    refine u_callSp X hl.1 I hA (As := [.long ((p1 : Int32).toInt64), .long 0, .long 1]) (rest := []) (uk_X0_in l n D d u ((p1 : Int32).toInt64) 0 1 _ e6) 3 q279 q280 q101 q281 uh_X0_in.2 rfl rfl ⟨Nat.le_trans (Nat.le_of_ble_eq_true rfl) hR.1, Nat.le_trans (Nat.le_of_ble_eq_true rfl) hR.2⟩ (u_leftLe hC) (stk := [.int r7]) rfl (Nat.le_of_ble_eq_true rfl) dX0_fewest_12 (fun H locs I => ?_)
    refine lv_if_ne (tgt := 21) X.1 X.2.1 dX0_fewest_15 (by decide) (fun c8 => ?_) (fun c8 => ?_)
    · replace h := m_ifF c8 h
      refine lv_iconst (v := 0) X.1 X.2.1 dX0_fewest_21 (by decide) ?_
      refine lv_istore_n (lv' := [(3, .int 0), (0, .ref t), (1, .int p0), (2, .int p1)]) X.1 X.2.1 dX0_fewest_22 rfl hl (by decide) rfl (fun ls hl => ?_)
      refine lv_iconst (v := 0) X.1 X.2.1 dX0_fewest_23 (by decide) ?_
      refine lv_istore (lv' := [(4, .int 0), (3, .int 0), (0, .ref t), (1, .int p0), (2, .int p1)]) X.1 X.2.1 dX0_fewest_24 hl (by decide) rfl (fun ls hl => ?_)
      obtain ⟨⟨z26, u27⟩, C40, C41, e25, h, hq⟩ := u_blS h
      rw [hq] at hC
      refine wuf_X0_fewest_L26 X hA hR n t p0 p1 _ _ _ _ e25 (fun H locs ls cells slots hC I hl => ?_) H locs ls _ _ (u_left2 hC) I (lv_sub hl [2, 3, 4, 1, 0] rfl)
      refine lv_aload_n X.1 X.2.1 dX0_fewest_72 rfl (lv_at hl 0 rfl) ?_
      refine lv_iload_n X.1 X.2.1 dX0_fewest_73 rfl (lv_at hl 1 rfl) ?_
      refine lv_iload_n X.1 X.2.1 dX0_fewest_74 rfl (lv_at hl 3 rfl) ?_
      obtain ⟨f28, e29, h⟩ := m_bS h
      obtain ⟨r31, u32, C33, C34, e30, z35, h, hq⟩ := u_bcS h
      rw [hq] at hC
      refine u_callV X hl.1 I hA (As := [.int p0, .int z26]) (rest := []) (uk_X0_groups l n D d u27 t p0 z26 _ _ _ e30) z35 (u_clS e29) (C := RX0) (T := TX0) (N := 9) rfl 2 q1360 q1362 qs40 q101 q1363 uh_X0_groups rfl rfl ⟨Nat.le_trans (Nat.le_of_ble_eq_true rfl) hR.1, Nat.le_trans (Nat.le_of_ble_eq_true rfl) hR.2⟩ hC (stk := [.int r31]) rfl (Nat.le_of_ble_eq_true rfl) dX0_fewest_75 (fun H locs cells slots hC I => ?_)
      refine lv_istore (lv' := [(4, .int r31), (0, .ref t), (1, .int p0), (2, .int p1), (3, .int z26)]) X.1 X.2.1 dX0_fewest_78 hl (by decide) rfl (fun ls hl => ?_)
      refine lv_iload_n X.1 X.2.1 dX0_fewest_80 rfl (lv_at hl 3 rfl) ?_
      refine lv_iconst (v := 1) X.1 X.2.1 dX0_fewest_81 (by decide) ?_
      refine lv_icmp_ne (tgt := 90) X.1 X.2.1 dX0_fewest_82 (by decide) (fun c36 => ?_) (fun c36 => ?_)
      · replace h := m_ifF c36 h
        refine lv_iload_n X.1 X.2.1 dX0_fewest_90 rfl (lv_at hl 4 rfl) ?_
        obtain ⟨r38, e37, h⟩ := m_bS h
        refine u_callSp X hl.1 I hA (As := [.int z26]) (rest := []) (uk_J15_bitCount l n D d u32 z26 _ e37) 1 q1199 q1200 q131 q1201 uh_J15_bitCount.2 rfl rfl ⟨Nat.le_trans (Nat.le_of_ble_eq_true rfl) hR.1, Nat.le_trans (Nat.le_of_ble_eq_true rfl) hR.2⟩ (u_leftLe hC) (stk := [.int r38]) rfl (Nat.le_of_ble_eq_true rfl) dX0_fewest_91 (fun H locs I => ?_)
        refine lv_iload X.1 X.2.1 dX0_fewest_94 (lv_at hl 0 rfl) ?_
        refine lv_isub X.1 X.2.1 dX0_fewest_96 ?_
        exact k97 u32 (r38 - r31) H locs ls _ _ _ h hC I (lv_sub hl [] rfl)
      · replace h := m_ifT c36 h
        refine lv_iload X.1 X.2.1 dX0_fewest_85 (lv_at hl 0 rfl) ?_
        refine lv_goto (tgt := 97) X.1 X.2.1 dX0_fewest_87 (by decide) ?_
        exact k97 u32 r31 H locs ls _ _ _ h hC I (lv_sub hl [] rfl)
    · replace h := m_ifT c8 h
      exact k18 u H locs ls _ _ _ h hC I (lv_sub hl [] rfl)
end S_X0_fewest
theorem uk_X0_fewest (l : Launch) (n : Nat) (D : va_G) (d : UD) (u : UM) (t : Nat) (p0 : Int32) (p1 : Int32) (r0 : Int32) (ur : UM) (C : UC) (h : uf_X0_fewest n d u t p0 p1 = some ((r0, ur), C)) : u_M l yX0_fewest (ws_ yX0_fewest cX0_fewest 5 (some .int)) 7 164 C D d u [.ref t, .int p0, .int p1] (some (.int r0)) ur :=
  u_start (own := RX0) (lvl := [(0, .ref t), (1, .int p0), (2, .int p1)]) (by decide) rfl (Nat.le_of_ble_eq_true rfl) rfl (fun p e s m args below meth c ls X hr hlk hI hl hA I hC => uw_X0_fewest X hA ⟨Nat.le_refl _, Nat.le_refl _⟩ n u t p0 p1 r0 ur C h (fun H locs ls pc cells slots hd hC I => u_iret X I hr hlk (u_leftE hC) hd) _ _ ls _ _ hC I hl)

/-! SwapPress.lineOf(LSwapPress$Trade;)Ljava/lang/CharSequence; -/
def uf_X0_lineOf_J124 (n : Nat) (d : UD) (u : UM) (v2 : Nat) : Option ((Nat × UM) × UC) :=
  some ((v2, u), (0, 0))
def uf_X0_lineOf (n : Nat) (d : UD) (u : UM) (t : Nat) (p0 : Nat) : Option ((Nat × UM) × UC) :=
  u_ac (1, 4) (m_b (some (u_nw u (.inr (14, [.null, .int 0, .int 0, .int 0])))) (fun u2 => u_bc u2.2 (uf_J4_init n d u2 u.2) (fun r5 u6 => m_b (u_fr d u6 1 0 t) (fun b10 => m_b (u_nr u6 2 0 b10) (fun b12 => m_b (u_ni u6 6 0 p0) (fun b14 => m_b (u_cl u6 13 b12) (fun f16 => m_b (uf_J2_get n d u6 b12 b14) (fun r19 => m_b (u_tx d u6 r19) (fun f20 => m_b (u_cl u6 14 u.2) (fun f22 => u_bc u6.2 (uf_J4_append_2 n d u6 u.2 r19) (fun r25 u26 => m_b (u_cl u26 14 r25) (fun f30 => u_bc u26.2 (uf_J4_append n d u26 r25 62) (fun r33 u34 => m_b (u_fr d u34 1 0 t) (fun b38 => m_b (u_nr u34 2 0 b38) (fun b40 => m_b (u_ni u34 6 1 p0) (fun b42 => m_b (u_cl u34 13 b40) (fun f44 => m_b (uf_J2_get n d u34 b40 b42) (fun r47 => m_b (u_tx d u34 r47) (fun f48 => m_b (u_cl u34 14 r33) (fun f50 => u_bc u34.2 (uf_J4_append_2 n d u34 r33 r47) (fun r53 u54 => u_ac (1, 4) (m_b (some (u_nw u54 (.inr (14, [.null, .int 0, .int 0, .int 0])))) (fun u59 => u_bc u59.2 (uf_J4_init n d u59 u54.2) (fun r62 u63 => m_b (u_cl u63 14 u54.2) (fun f67 => u_bc u63.2 (uf_J4_append_2 n d u63 u54.2 (d.2 (10 + 6))) (fun r70 u71 => m_b (u_ni u71 6 2 p0) (fun b75 => m_b (u_cl u71 14 r70) (fun f77 => u_bc u71.2 (uf_J4_append_3 n d u71 r70 b75) (fun r80 u81 => m_b (u_cl u81 14 r80) (fun f85 => u_bc u81.2 (uf_J4_append_2 n d u81 r80 (d.2 (10 + 6))) (fun r88 u89 => m_b (u_cl u89 14 r88) (fun f93 => u_bc u89.2 (uf_J4_toString n d u89 r88) (fun r96 u97 => m_b (u_cl u97 14 u.2) (fun f101 => u_bc u97.2 (uf_J4_append_2 n d u97 u.2 r96) (fun r104 u105 => m_b (u_fr d u105 1 0 t) (fun b109 => m_b (u_nr u105 2 1 b109) (fun b111 => m_b (u_ni u105 6 3 p0) (fun b113 => m_b (u_cl u105 13 b111) (fun f115 => m_b (uf_J2_get n d u105 b111 b113) (fun r118 => m_b (u_tx d u105 r118) (fun f119 => m_b (u_cl u105 14 r104) (fun f121 => u_bc u105.2 (uf_J4_append_2 n d u105 r104 r118) (fun r124 u125 => m_b (u_ni u125 6 4 p0) (fun b129 => m_if ((b129 : Int32) = 0) (uf_X0_lineOf_J124 n d u125 u.2) (m_b (u_cl u125 14 u.2) (fun f132 => u_bc u125.2 (uf_J4_append_2 n d u125 u.2 (d.2 (10 + 7))) (fun r135 u136 => uf_X0_lineOf_J124 n d u136 u.2)))))))))))))))))))))))))))))))))))))))))))))))
theorem uh_X0_lineOf : yX0_lineOf.cls = RX0 ∧ yX0_lineOf.cls ≠ "java/lang/invoke/MethodHandle" ∧ yX0_lineOf.cls ≠ "java/lang/invoke/VarHandle" ∧ (parseMethodDescriptor yX0_lineOf.desc).map (fun d => d.parameters.length) = some 1 := by decide +kernel
section S_X0_lineOf
variable {p : Program} {l : Launch} {e : Env} {R : Room} {s : State} {m : MethodId} {args : Array Value} {below : List Frame} {meth : Method} {c : Code} {Q : State → Prop} {D : va_G} {A : Nat → Prop} {d : UD}
theorem uw_X0_lineOf (X : u_X RX0 D A d p s m c cX0_lineOf 3 args) (hA : ∀ q, s.heap.size ≤ q → A q) (hR : 7 ≤ R.frames ∧ 175 ≤ R.locals) (n : Nat) (u : UM) (t : Nat) (p0 : Nat) (r0 : Nat) (ur : UM) (C : UC) (h : uf_X0_lineOf n d u t p0 = some ((r0, ur), C)) (hret : ∀ (H : Heap) (locs : List Loc) (ls : Array Slot) (pc cells slots : Nat), decode cX0_lineOf pc = .ok (.areturn, 1) → u_left R cells slots (u_add (0, 0) (0, 0)) → u_I D A s.heap ur H locs cells → W p l e R s m args below meth c H locs cells slots Q (F0 m pc ls [.ref r0])) : ∀ (H : Heap) (locs : List Loc) (ls : Array Slot) (cells slots : Nat), u_left R cells slots (u_add C (0, 0)) → u_I D A s.heap u H locs cells → lv_has ls 3 [(0, .ref t), (1, .ref p0)] → W p l e R s m args below meth c H locs cells slots Q (F0 m 0 ls []) := by
  have k124 : ∀ (u : UM) (v2 : Nat) (H : Heap) (locs : List Loc) (ls : Array Slot) (cells slots : Nat) (C : UC), uf_X0_lineOf_J124 n d u v2 = some ((r0, ur), C) → u_left R cells slots (u_add C (0, 0)) → u_I D A s.heap u H locs cells → lv_has ls 3 [(2, .ref v2)] → W p l e R s m args below meth c H locs cells slots Q (F0 m 124 ls []) := by
    intro u v2 H locs ls cells slots C h hC I hl
    unfold uf_X0_lineOf_J124 at h
    refine lv_aload_n X.1 X.2.1 dX0_lineOf_124 rfl (lv_at hl 0 rfl) ?_
    obtain ⟨he, rfl⟩ := m_e3 h
    obtain ⟨rfl, rfl⟩ := m_e4 he
    exact hret H locs ls 125 _ _ dX0_lineOf_125 hC I
  intro H locs ls cells slots hC I hl
  unfold uf_X0_lineOf at h
  obtain ⟨C1, h, hq⟩ := u_acS h
  rw [hq] at hC
  obtain ⟨u2, e3, h⟩ := m_bS h
  refine u_NO X I hA 14 (C := RJ4) (T := TJ4) (N := 4) in_J4 tyJ4 tyJ4_ok q1380 q334 q110 rfl (fs := [.null, .int 0, .int 0, .int 0]) e3 (fun j hj => by match j, hj with | 0, _ => rfl | 1, _ => rfl | 2, _ => rfl | 3, _ => rfl) hC dX0_lineOf_0 (fun H cells slots hC I => ?_)
  refine lv_dup X.1 X.2.1 dX0_lineOf_3 rfl ?_
  obtain ⟨r5, u6, C7, C8, e4, z9, h, hq⟩ := u_bcS h
  rw [hq] at hC
  refine u_callI X hl.1 I hA (As := []) (rest := [.ref u.2]) (uk_J4_init l n D d u2 u.2 _ _ e4) z9 0 q1381 q336 q110 q337 rfl uh_J4_init.2 rfl rfl ⟨Nat.le_trans (Nat.le_of_ble_eq_true rfl) hR.1, Nat.le_trans (Nat.le_of_ble_eq_true rfl) hR.2⟩ hC (Nat.le_of_ble_eq_true rfl) dX0_lineOf_4 (fun H locs cells slots hC I => ?_)
  refine lv_astore_n (lv' := [(2, .ref u.2), (0, .ref t), (1, .ref p0)]) X.1 X.2.1 dX0_lineOf_7 rfl hl (by decide) rfl (fun ls hl => ?_)
  refine lv_aload_n X.1 X.2.1 dX0_lineOf_8 rfl (lv_at hl 0 rfl) ?_
  refine lv_aload_n X.1 X.2.1 dX0_lineOf_9 rfl (lv_at hl 1 rfl) ?_
  obtain ⟨b10, e11, h⟩ := m_bS h
  refine u_Gr X I e11 (C := RX0) (T := TX0) (N := 9) (ref := "SwapPress") in_X0 rfl (by decide) rfl rfl q235 (fun _ h => h) dX0_lineOf_10 ?_
  obtain ⟨b12, e13, h⟩ := m_bS h
  refine u_GrN X I e13 (C := RX1) (T := TX1) (N := 5) (ref := "SwapPress$State") (host := "SwapPress") in_X1 rfl (by decide) rfl rfl 1 rfl (fun _ h => h) dX0_lineOf_13 ?_
  refine lv_aload_n X.1 X.2.1 dX0_lineOf_16 rfl (lv_at hl 2 rfl) ?_
  obtain ⟨b14, e15, h⟩ := m_bS h
  refine u_GiN X I e15 (C := RX6) (T := TX6) (N := 5) (ref := "SwapPress$Trade") (host := "SwapPress") in_X6 rfl (by decide) rfl rfl 15 rfl (fun _ h => h) dX0_lineOf_17 ?_
  obtain ⟨f16, e17, h⟩ := m_bS h
  obtain ⟨r19, e18, h⟩ := m_bS h
  refine u_callVp X hl.1 I hA (As := [.int b14]) (rest := [.ref u.2]) (uk_J2_get l n D d u6 b12 b14 _ e18) (u_clS e17) (C := RJ2) (T := TJ2) (N := 3) rfl 1 q929 q823 q824 q105 q825 uh_J2_get rfl rfl ⟨Nat.le_trans (Nat.le_of_ble_eq_true rfl) hR.1, Nat.le_trans (Nat.le_of_ble_eq_true rfl) hR.2⟩ (u_leftLe hC) (stk := [.ref r19, .ref u.2]) rfl (Nat.le_of_ble_eq_true rfl) dX0_lineOf_20 (fun H locs I => ?_)
  obtain ⟨f20, e21, h⟩ := m_bS h
  refine u_castT X I (u_txS e21) q1382 dX0_lineOf_23 ?_
  obtain ⟨f22, e23, h⟩ := m_bS h
  obtain ⟨r25, u26, C27, C28, e24, z29, h, hq⟩ := u_bcS h
  rw [hq] at hC
  refine u_callV X hl.1 I hA (As := [.ref r19]) (rest := []) (uk_J4_append_2 l n D d u6 u.2 r19 _ _ _ e24) z29 (u_clS e23) (C := RJ4) (T := TJ4) (N := 4) rfl 1 q1383 q1384 q1385 q110 q1386 uh_J4_append_2 rfl rfl ⟨Nat.le_trans (Nat.le_of_ble_eq_true rfl) hR.1, Nat.le_trans (Nat.le_of_ble_eq_true rfl) hR.2⟩ hC (stk := [.ref r25]) rfl (Nat.le_of_ble_eq_true rfl) dX0_lineOf_26 (fun H locs cells slots hC I => ?_)
  refine lv_bipush (v := 62) X.1 X.2.1 dX0_lineOf_29 (by decide) ?_
  obtain ⟨f30, e31, h⟩ := m_bS h
  obtain ⟨r33, u34, C35, C36, e32, z37, h, hq⟩ := u_bcS h
  rw [hq] at hC
  refine u_callV X hl.1 I hA (As := [.int 62]) (rest := []) (uk_J4_append l n D d u26 r25 62 _ _ _ e32) z37 (u_clS e31) (C := RJ4) (T := TJ4) (N := 4) rfl 1 q1429 q365 q366 q110 q367 uh_J4_append rfl rfl ⟨Nat.le_trans (Nat.le_of_ble_eq_true rfl) hR.1, Nat.le_trans (Nat.le_of_ble_eq_true rfl) hR.2⟩ hC (stk := [.ref r33]) rfl (Nat.le_of_ble_eq_true rfl) dX0_lineOf_31 (fun H locs cells slots hC I => ?_)
  refine lv_aload_n X.1 X.2.1 dX0_lineOf_34 rfl (lv_at hl 1 rfl) ?_
  obtain ⟨b38, e39, h⟩ := m_bS h
  refine u_Gr X I e39 (C := RX0) (T := TX0) (N := 9) (ref := "SwapPress") in_X0 rfl (by decide) rfl rfl q235 (fun _ h => h) dX0_lineOf_35 ?_
  obtain ⟨b40, e41, h⟩ := m_bS h
  refine u_GrN X I e41 (C := RX1) (T := TX1) (N := 5) (ref := "SwapPress$State") (host := "SwapPress") in_X1 rfl (by decide) rfl rfl 1 rfl (fun _ h => h) dX0_lineOf_38 ?_
  refine lv_aload_n X.1 X.2.1 dX0_lineOf_41 rfl (lv_at hl 2 rfl) ?_
  obtain ⟨b42, e43, h⟩ := m_bS h
  refine u_GiN X I e43 (C := RX6) (T := TX6) (N := 5) (ref := "SwapPress$Trade") (host := "SwapPress") in_X6 rfl (by decide) rfl rfl 17 rfl (fun _ h => h) dX0_lineOf_42 ?_
  obtain ⟨f44, e45, h⟩ := m_bS h
  obtain ⟨r47, e46, h⟩ := m_bS h
  refine u_callVp X hl.1 I hA (As := [.int b42]) (rest := [.ref r33]) (uk_J2_get l n D d u34 b40 b42 _ e46) (u_clS e45) (C := RJ2) (T := TJ2) (N := 3) rfl 1 q929 q823 q824 q105 q825 uh_J2_get rfl rfl ⟨Nat.le_trans (Nat.le_of_ble_eq_true rfl) hR.1, Nat.le_trans (Nat.le_of_ble_eq_true rfl) hR.2⟩ (u_leftLe hC) (stk := [.ref r47, .ref r33]) rfl (Nat.le_of_ble_eq_true rfl) dX0_lineOf_45 (fun H locs I => ?_)
  obtain ⟨f48, e49, h⟩ := m_bS h
  refine u_castT X I (u_txS e49) q1382 dX0_lineOf_48 ?_
  obtain ⟨f50, e51, h⟩ := m_bS h
  obtain ⟨r53, u54, C55, C56, e52, z57, h, hq⟩ := u_bcS h
  rw [hq] at hC
  refine u_callV X hl.1 I hA (As := [.ref r47]) (rest := []) (uk_J4_append_2 l n D d u34 r33 r47 _ _ _ e52) z57 (u_clS e51) (C := RJ4) (T := TJ4) (N := 4) rfl 1 q1383 q1384 q1385 q110 q1386 uh_J4_append_2 rfl rfl ⟨Nat.le_trans (Nat.le_of_ble_eq_true rfl) hR.1, Nat.le_trans (Nat.le_of_ble_eq_true rfl) hR.2⟩ hC (stk := [.ref r53]) rfl (Nat.le_of_ble_eq_true rfl) dX0_lineOf_51 (fun H locs cells slots hC I => ?_)
  refine lv_pop X.1 X.2.1 dX0_lineOf_54 rfl ?_
  refine lv_aload_n X.1 X.2.1 dX0_lineOf_55 rfl (lv_at hl 0 rfl) ?_
  obtain ⟨C58, h, hq⟩ := u_acS h
  rw [hq] at hC
  obtain ⟨u59, e60, h⟩ := m_bS h
  refine u_NO X I hA 14 (C := RJ4) (T := TJ4) (N := 4) in_J4 tyJ4 tyJ4_ok q1380 q334 q110 rfl (fs := [.null, .int 0, .int 0, .int 0]) e60 (fun j hj => by match j, hj with | 0, _ => rfl | 1, _ => rfl | 2, _ => rfl | 3, _ => rfl) hC dX0_lineOf_56 (fun H cells slots hC I => ?_)
  refine lv_dup X.1 X.2.1 dX0_lineOf_59 rfl ?_
  obtain ⟨r62, u63, C64, C65, e61, z66, h, hq⟩ := u_bcS h
  rw [hq] at hC
  refine u_callI X hl.1 I hA (As := []) (rest := [.ref u54.2, .ref u.2]) (uk_J4_init l n D d u59 u54.2 _ _ e61) z66 0 q1381 q336 q110 q337 rfl uh_J4_init.2 rfl rfl ⟨Nat.le_trans (Nat.le_of_ble_eq_true rfl) hR.1, Nat.le_trans (Nat.le_of_ble_eq_true rfl) hR.2⟩ hC (Nat.le_of_ble_eq_true rfl) dX0_lineOf_60 (fun H locs cells slots hC I => ?_)
  refine u_ldcw X 12 rfl dX0_lineOf_63 ?_
  obtain ⟨f67, e68, h⟩ := m_bS h
  obtain ⟨r70, u71, C72, C73, e69, z74, h, hq⟩ := u_bcS h
  rw [hq] at hC
  refine u_callV X hl.1 I hA (As := [.ref (d.2 (10 + 6))]) (rest := [.ref u.2]) (uk_J4_append_2 l n D d u63 u54.2 (d.2 (10 + 6)) _ _ _ e69) z74 (u_clS e68) (C := RJ4) (T := TJ4) (N := 4) rfl 1 q1383 q1384 q1385 q110 q1386 uh_J4_append_2 rfl rfl ⟨Nat.le_trans (Nat.le_of_ble_eq_true rfl) hR.1, Nat.le_trans (Nat.le_of_ble_eq_true rfl) hR.2⟩ hC (stk := [.ref r70, .ref u.2]) rfl (Nat.le_of_ble_eq_true rfl) dX0_lineOf_66 (fun H locs cells slots hC I => ?_)
  refine lv_aload_n X.1 X.2.1 dX0_lineOf_69 rfl (lv_at hl 2 rfl) ?_
  obtain ⟨b75, e76, h⟩ := m_bS h
  refine u_GiN X I e76 (C := RX6) (T := TX6) (N := 5) (ref := "SwapPress$Trade") (host := "SwapPress") in_X6 rfl (by decide) rfl rfl 19 rfl (fun _ h => h) dX0_lineOf_70 ?_
  obtain ⟨f77, e78, h⟩ := m_bS h
  obtain ⟨r80, u81, C82, C83, e79, z84, h, hq⟩ := u_bcS h
  rw [hq] at hC
  refine u_callV X hl.1 I hA (As := [.int b75]) (rest := [.ref u.2]) (uk_J4_append_3 l n D d u71 r70 b75 _ _ _ e79) z84 (u_clS e78) (C := RJ4) (T := TJ4) (N := 4) rfl 1 q1431 q1432 q1433 q110 q1434 uh_J4_append_3 rfl rfl ⟨Nat.le_trans (Nat.le_of_ble_eq_true rfl) hR.1, Nat.le_trans (Nat.le_of_ble_eq_true rfl) hR.2⟩ hC (stk := [.ref r80, .ref u.2]) rfl (Nat.le_of_ble_eq_true rfl) dX0_lineOf_73 (fun H locs cells slots hC I => ?_)
  refine u_ldcw X 12 rfl dX0_lineOf_76 ?_
  obtain ⟨f85, e86, h⟩ := m_bS h
  obtain ⟨r88, u89, C90, C91, e87, z92, h, hq⟩ := u_bcS h
  rw [hq] at hC
  refine u_callV X hl.1 I hA (As := [.ref (d.2 (10 + 6))]) (rest := [.ref u.2]) (uk_J4_append_2 l n D d u81 r80 (d.2 (10 + 6)) _ _ _ e87) z92 (u_clS e86) (C := RJ4) (T := TJ4) (N := 4) rfl 1 q1383 q1384 q1385 q110 q1386 uh_J4_append_2 rfl rfl ⟨Nat.le_trans (Nat.le_of_ble_eq_true rfl) hR.1, Nat.le_trans (Nat.le_of_ble_eq_true rfl) hR.2⟩ hC (stk := [.ref r88, .ref u.2]) rfl (Nat.le_of_ble_eq_true rfl) dX0_lineOf_79 (fun H locs cells slots hC I => ?_)
  obtain ⟨f93, e94, h⟩ := m_bS h
  obtain ⟨r96, u97, C98, C99, e95, z100, h, hq⟩ := u_bcS h
  rw [hq] at hC
  refine u_callV X hl.1 I hA (As := []) (rest := [.ref u.2]) (uk_J4_toString l n D d u89 r88 _ _ _ e95) z100 (u_clS e94) (C := RJ4) (T := TJ4) (N := 4) rfl 0 q1456 q460 q461 q110 q462 uh_J4_toString rfl rfl ⟨Nat.le_trans (Nat.le_of_ble_eq_true rfl) hR.1, Nat.le_trans (Nat.le_of_ble_eq_true rfl) hR.2⟩ hC (stk := [.ref r96, .ref u.2]) rfl (Nat.le_of_ble_eq_true rfl) dX0_lineOf_82 (fun H locs cells slots hC I => ?_)
  obtain ⟨f101, e102, h⟩ := m_bS h
  obtain ⟨r104, u105, C106, C107, e103, z108, h, hq⟩ := u_bcS h
  rw [hq] at hC
  refine u_callV X hl.1 I hA (As := [.ref r96]) (rest := []) (uk_J4_append_2 l n D d u97 u.2 r96 _ _ _ e103) z108 (u_clS e102) (C := RJ4) (T := TJ4) (N := 4) rfl 1 q1383 q1384 q1385 q110 q1386 uh_J4_append_2 rfl rfl ⟨Nat.le_trans (Nat.le_of_ble_eq_true rfl) hR.1, Nat.le_trans (Nat.le_of_ble_eq_true rfl) hR.2⟩ hC (stk := [.ref r104]) rfl (Nat.le_of_ble_eq_true rfl) dX0_lineOf_85 (fun H locs cells slots hC I => ?_)
  refine lv_aload_n X.1 X.2.1 dX0_lineOf_88 rfl (lv_at hl 1 rfl) ?_
  obtain ⟨b109, e110, h⟩ := m_bS h
  refine u_Gr X I e110 (C := RX0) (T := TX0) (N := 9) (ref := "SwapPress") in_X0 rfl (by decide) rfl rfl q235 (fun _ h => h) dX0_lineOf_89 ?_
  obtain ⟨b111, e112, h⟩ := m_bS h
  refine u_GrN X I e112 (C := RX1) (T := TX1) (N := 5) (ref := "SwapPress$State") (host := "SwapPress") in_X1 rfl (by decide) rfl rfl 3 rfl (fun _ h => h) dX0_lineOf_92 ?_
  refine lv_aload_n X.1 X.2.1 dX0_lineOf_95 rfl (lv_at hl 2 rfl) ?_
  obtain ⟨b113, e114, h⟩ := m_bS h
  refine u_GiN X I e114 (C := RX6) (T := TX6) (N := 5) (ref := "SwapPress$Trade") (host := "SwapPress") in_X6 rfl (by decide) rfl rfl 21 rfl (fun _ h => h) dX0_lineOf_96 ?_
  obtain ⟨f115, e116, h⟩ := m_bS h
  obtain ⟨r118, e117, h⟩ := m_bS h
  refine u_callVp X hl.1 I hA (As := [.int b113]) (rest := [.ref r104]) (uk_J2_get l n D d u105 b111 b113 _ e117) (u_clS e116) (C := RJ2) (T := TJ2) (N := 3) rfl 1 q929 q823 q824 q105 q825 uh_J2_get rfl rfl ⟨Nat.le_trans (Nat.le_of_ble_eq_true rfl) hR.1, Nat.le_trans (Nat.le_of_ble_eq_true rfl) hR.2⟩ (u_leftLe hC) (stk := [.ref r118, .ref r104]) rfl (Nat.le_of_ble_eq_true rfl) dX0_lineOf_99 (fun H locs I => ?_)
  obtain ⟨f119, e120, h⟩ := m_bS h
  refine u_castT X I (u_txS e120) q1382 dX0_lineOf_102 ?_
  obtain ⟨f121, e122, h⟩ := m_bS h
  obtain ⟨r124, u125, C126, C127, e123, z128, h, hq⟩ := u_bcS h
  rw [hq] at hC
  refine u_callV X hl.1 I hA (As := [.ref r118]) (rest := []) (uk_J4_append_2 l n D d u105 r104 r118 _ _ _ e123) z128 (u_clS e122) (C := RJ4) (T := TJ4) (N := 4) rfl 1 q1383 q1384 q1385 q110 q1386 uh_J4_append_2 rfl rfl ⟨Nat.le_trans (Nat.le_of_ble_eq_true rfl) hR.1, Nat.le_trans (Nat.le_of_ble_eq_true rfl) hR.2⟩ hC (stk := [.ref r124]) rfl (Nat.le_of_ble_eq_true rfl) dX0_lineOf_105 (fun H locs cells slots hC I => ?_)
  refine lv_pop X.1 X.2.1 dX0_lineOf_108 rfl ?_
  refine lv_aload_n X.1 X.2.1 dX0_lineOf_109 rfl (lv_at hl 2 rfl) ?_
  obtain ⟨b129, e130, h⟩ := m_bS h
  refine u_GiN X I e130 (C := RX6) (T := TX6) (N := 5) (ref := "SwapPress$Trade") (host := "SwapPress") in_X6 rfl (by decide) rfl rfl 24 rfl (fun _ h => h) dX0_lineOf_110 ?_
  refine lv_if_eq (tgt := 124) X.1 X.2.1 dX0_lineOf_113 (by decide) (fun c131 => ?_) (fun c131 => ?_)
  · replace h := m_ifT c131 h
    exact k124 u125 u.2 H locs ls _ _ _ h hC I (lv_sub hl [0] rfl)
  · replace h := m_ifF c131 h
    refine lv_aload_n X.1 X.2.1 dX0_lineOf_116 rfl (lv_at hl 0 rfl) ?_
    refine u_ldcw X 13 rfl dX0_lineOf_117 ?_
    obtain ⟨f132, e133, h⟩ := m_bS h
    obtain ⟨r135, u136, C137, C138, e134, z139, h, hq⟩ := u_bcS h
    rw [hq] at hC
    refine u_callV X hl.1 I hA (As := [.ref (d.2 (10 + 7))]) (rest := []) (uk_J4_append_2 l n D d u125 u.2 (d.2 (10 + 7)) _ _ _ e134) z139 (u_clS e133) (C := RJ4) (T := TJ4) (N := 4) rfl 1 q1383 q1384 q1385 q110 q1386 uh_J4_append_2 rfl rfl ⟨Nat.le_trans (Nat.le_of_ble_eq_true rfl) hR.1, Nat.le_trans (Nat.le_of_ble_eq_true rfl) hR.2⟩ hC (stk := [.ref r135]) rfl (Nat.le_of_ble_eq_true rfl) dX0_lineOf_120 (fun H locs cells slots hC I => ?_)
    refine lv_pop X.1 X.2.1 dX0_lineOf_123 rfl ?_
    exact k124 u136 u.2 H locs ls _ _ _ h hC I (lv_sub hl [0] rfl)
end S_X0_lineOf
theorem uk_X0_lineOf (l : Launch) (n : Nat) (D : va_G) (d : UD) (u : UM) (t : Nat) (p0 : Nat) (r0 : Nat) (ur : UM) (C : UC) (h : uf_X0_lineOf n d u t p0 = some ((r0, ur), C)) : u_M l yX0_lineOf (ws_ yX0_lineOf cX0_lineOf 3 (some (.object "java/lang/CharSequence"))) 7 175 C D d u [.ref t, .ref p0] (some (.ref r0)) ur :=
  u_start (own := RX0) (lvl := [(0, .ref t), (1, .ref p0)]) (by decide) rfl (Nat.le_of_ble_eq_true rfl) rfl (fun p e s m args below meth c ls X hr hlk hI hl hA I hC => uw_X0_lineOf X hA ⟨Nat.le_refl _, Nat.le_refl _⟩ n u t p0 r0 ur C h (fun H locs ls pc cells slots hd hC I => u_aret (r := some r0) X I hr (Or.inl ⟨_, rfl⟩) hlk (u_leftE hC) hd) _ _ ls _ _ hC I hl)

/-! SwapPress$Reader.word()V -/
def uf_X4_word_L15 (n : Nat) (d : UD) (v0 : Nat) (v1 : Nat) (u : UM) : Option ((UM ⊕ UM) × UC) :=
  m_b (u_cl u 4 v0) (fun f46 => m_b (uf_X4_isAt n d u v0 97 122) (fun r49 => m_if ((r49 : Int32) = 0) (some (.inr u, (0, 0))) (m_b (u_fr d u 4 6 v0) (fun b51 => m_b (u_nr u 1 5 b51) (fun b53 => m_b (u_fi d u 4 2 v0) (fun b55 => m_b (u_ai d u 2 b53 b55) (fun b57 => m_b (u_cl u 14 v1) (fun f59 => u_bc u.2 (uf_J4_append n d u v1 (((b57 : Int32).toUInt32 % 65536).toInt32)) (fun r62 u63 => m_b (u_fi d u63 4 2 v0) (fun b67 => m_b (u_pf u63 4 2 v0 (.int (b67 + 1))) (fun w69 => some (.inl ((w69, u63.2)), (0, 0)))))))))))))
def uf_X4_word_L15l (n : Nat) (d : UD) (v0 : Nat) (v1 : Nat) (x : UM) : Option (UM × UC) := u_lp (fun (x : UM) => uf_X4_word_L15 n d v0 v1 x) n x
def uf_X4_word_J57 (n : Nat) (d : UD) (u : UM) (v0 : Nat) (v1 : Nat) : Option (((Unit ⊕ Nat) × UM) × UC) :=
  m_b (u_cl u 14 v1) (fun f19 => u_bc u.2 (uf_J4_toString n d u v1) (fun r22 u23 => m_b (u_pf u23 4 5 v0 (.ref r22)) (fun w27 => m_b (u_cl (w27, u23.2) 14 v1) (fun f29 => m_b (uf_J4_length n d (w27, u23.2) v1) (fun r32 => m_b (uf_X0_in n d (w27, u23.2) ((r32 : Int32).toInt64) 1 8) (fun r34 => m_if ((r34 : Int32) = 0) (m_b (u_cl (w27, u23.2) 4 v0) (fun f36 => u_bc u23.2 (uf_X4_wrong n d (w27, u23.2) v0 1) (fun r39 u40 => m_b (u_cl u40 5 r39) (fun f44 => some ((.inr r39, u40), (0, 0)))))) (some ((.inl (()), (w27, u23.2)), (0, 0)))))))))
def uf_X4_word (n : Nat) (d : UD) (u : UM) (t : Nat) : Option (((Unit ⊕ Nat) × UM) × UC) :=
  u_ac (1, 4) (m_b (some (u_nw u (.inr (14, [.null, .int 0, .int 0, .int 0])))) (fun u2 => u_bc u2.2 (uf_J4_init n d u2 u.2) (fun r5 u6 => m_b (u_cl u6 4 t) (fun f10 => u_bc u6.2 (uf_X4_isEnd n d u6 t) (fun r13 u14 => m_if ((r13 : Int32) = 0) (u_bl (uf_X4_word_L15l n d t u.2 u14) (fun u72 => uf_X4_word_J57 n d u72 t u.2)) (uf_X4_word_J57 n d u14 t u.2))))))
theorem uh_X4_word : yX4_word.cls = RX4 ∧ yX4_word.cls ≠ "java/lang/invoke/MethodHandle" ∧ yX4_word.cls ≠ "java/lang/invoke/VarHandle" ∧ (parseMethodDescriptor yX4_word.desc).map (fun d => d.parameters.length) = some 0 := by decide +kernel
section S_X4_word
variable {p : Program} {l : Launch} {e : Env} {R : Room} {s : State} {m : MethodId} {args : Array Value} {below : List Frame} {meth : Method} {c : Code} {Q : State → Prop} {D : va_G} {A : Nat → Prop} {d : UD}
theorem wuf_X4_word_L15 (X : u_X RX4 D A d p s m c cX4_word 2 args) (hA : ∀ q, s.heap.size ≤ q → A q) (hR : 6 ≤ R.frames ∧ 171 ≤ R.locals) (n : Nat) (v0 : Nat) (v1 : Nat) (x : UM) (z : UM) (C cr : UC) (hz : uf_X4_word_L15l n d v0 v1 x = some (z, C)) (hE : (fun (z : UM) (C : UC) => ∀ (H : Heap) (locs : List Loc) (ls : Array Slot) (cells slots : Nat), u_left R cells slots C → u_I D A s.heap z H locs cells → lv_has ls 2 [(0, .ref v0), (1, .ref v1)] → W p l e R s m args below meth c H locs cells slots Q (F0 m 57 ls [])) z cr) : (fun (x : UM) (C : UC) => ∀ (H : Heap) (locs : List Loc) (ls : Array Slot) (cells slots : Nat), u_left R cells slots C → u_I D A s.heap x H locs cells → lv_has ls 2 [(0, .ref v0), (1, .ref v1)] → W p l e R s m args below meth c H locs cells slots Q (F0 m 15 ls [])) x (u_add C cr) := by
  refine u_lpW (G := fun (x : UM) (C : UC) => ∀ (H : Heap) (locs : List Loc) (ls : Array Slot) (cells slots : Nat), u_left R cells slots C → u_I D A s.heap x H locs cells → lv_has ls 2 [(0, .ref v0), (1, .ref v1)] → W p l e R s m args below meth c H locs cells slots Q (F0 m 15 ls [])) (E := fun (z : UM) (C : UC) => ∀ (H : Heap) (locs : List Loc) (ls : Array Slot) (cells slots : Nat), u_left R cells slots C → u_I D A s.heap z H locs cells → lv_has ls 2 [(0, .ref v0), (1, .ref v1)] → W p l e R s m args below meth c H locs cells slots Q (F0 m 57 ls [])) ?_ n x z C cr hz hE
  rintro u r C cr h hr H locs ls cells slots hC I hl
  replace h : uf_X4_word_L15 n d v0 v1 u = some (r, C) := h
  unfold uf_X4_word_L15 at h
  refine lv_aload_n X.1 X.2.1 dX4_word_15 rfl (lv_at hl 0 rfl) ?_
  refine lv_bipush (v := 97) X.1 X.2.1 dX4_word_16 (by decide) ?_
  refine lv_bipush (v := 122) X.1 X.2.1 dX4_word_18 (by decide) ?_
  obtain ⟨f46, e47, h⟩ := m_bS h
  obtain ⟨r49, e48, h⟩ := m_bS h
  refine u_callVp X hl.1 I hA (As := [.int 97, .int 122]) (rest := []) (uk_X4_isAt l n D d u v0 97 122 _ e48) (u_clS e47) (C := RX4) (T := TX4) (N := 7) rfl 2 q320 q322 qs2 q108 q323 uh_X4_isAt rfl rfl ⟨Nat.le_trans (Nat.le_of_ble_eq_true rfl) hR.1, Nat.le_trans (Nat.le_of_ble_eq_true rfl) hR.2⟩ (u_leftLe hC) (stk := [.int r49]) rfl (Nat.le_of_ble_eq_true rfl) dX4_word_20 (fun H locs I => ?_)
  refine lv_if_eq (tgt := 57) X.1 X.2.1 dX4_word_23 (by decide) (fun c50 => ?_) (fun c50 => ?_)
  · replace h := m_ifT c50 h
    obtain ⟨rfl, rfl⟩ := m_e3 h
    exact hr H locs ls _ _ (u_left0 hC) I (lv_sub hl [0, 1] rfl)
  · replace h := m_ifF c50 h
    refine lv_aload_n X.1 X.2.1 dX4_word_26 rfl (lv_at hl 1 rfl) ?_
    refine lv_aload_n X.1 X.2.1 dX4_word_27 rfl (lv_at hl 0 rfl) ?_
    obtain ⟨b51, e52, h⟩ := m_bS h
    refine u_Gr X I e52 (C := RX4) (T := TX4) (N := 7) (ref := "SwapPress$Reader") in_X4 rfl (by decide) rfl rfl q296 (fun _ h => h) dX4_word_28 ?_
    obtain ⟨b53, e54, h⟩ := m_bS h
    refine u_GrN X I e54 (C := RX0) (T := TX0) (N := 9) (ref := "SwapPress") (host := "SwapPress") in_X0 rfl (by decide) rfl rfl 11 rfl (fun _ h => h) dX4_word_31 ?_
    refine lv_aload_n X.1 X.2.1 dX4_word_34 rfl (lv_at hl 0 rfl) ?_
    obtain ⟨b55, e56, h⟩ := m_bS h
    refine u_Gi X I e56 (C := RX4) (T := TX4) (N := 7) (ref := "SwapPress$Reader") in_X4 rfl (by decide) rfl rfl q292 (fun _ h => h) dX4_word_35 ?_
    obtain ⟨b57, e58, h⟩ := m_bS h
    refine u_LB X I e58 dX4_word_38 ?_
    refine lv_i2c X.1 X.2.1 dX4_word_39 rfl ?_
    obtain ⟨f59, e60, h⟩ := m_bS h
    obtain ⟨r62, u63, C64, C65, e61, z66, h, hq⟩ := u_bcS h
    rw [hq] at hC
    refine u_callV X hl.1 I hA (As := [.int (((b57 : Int32).toUInt32 % 65536).toInt32)]) (rest := []) (uk_J4_append l n D d u v1 (((b57 : Int32).toUInt32 % 65536).toInt32) _ _ _ e61) z66 (u_clS e60) (C := RJ4) (T := TJ4) (N := 4) rfl 1 q364 q365 q366 q110 q367 uh_J4_append rfl rfl ⟨Nat.le_trans (Nat.le_of_ble_eq_true rfl) hR.1, Nat.le_trans (Nat.le_of_ble_eq_true rfl) hR.2⟩ hC (stk := [.ref r62]) rfl (Nat.le_of_ble_eq_true rfl) dX4_word_40 (fun H locs cells slots hC I => ?_)
    refine lv_pop X.1 X.2.1 dX4_word_43 rfl ?_
    refine lv_aload_n X.1 X.2.1 dX4_word_44 rfl (lv_at hl 0 rfl) ?_
    refine lv_dup X.1 X.2.1 dX4_word_45 rfl ?_
    obtain ⟨b67, e68, h⟩ := m_bS h
    refine u_Gi X I e68 (C := RX4) (T := TX4) (N := 7) (ref := "SwapPress$Reader") in_X4 rfl (by decide) rfl rfl q292 (fun _ h => h) dX4_word_46 ?_
    refine lv_iconst (v := 1) X.1 X.2.1 dX4_word_49 (by decide) ?_
    refine lv_iadd X.1 X.2.1 dX4_word_50 ?_
    obtain ⟨w69, e70, h⟩ := m_bS h
    refine u_P X I e70 (C := RX4) (T := TX4) (N := 7) (ref := "SwapPress$Reader") in_X4 tyX4 tyX4_ok nmX4 rfl (by decide) rfl rfl q292 (fun _ h => h) rfl rfl rfl dX4_word_51 (fun H locs I => ?_)
    refine lv_goto (tgt := 15) X.1 X.2.1 dX4_word_54 (by decide) ?_
    obtain ⟨rfl, rfl⟩ := m_e3 h
    exact hr H locs ls _ _ (u_left0 hC) I (lv_sub hl [0, 1] rfl)
theorem uw_X4_word (X : u_X RX4 D A d p s m c cX4_word 2 args) (hA : ∀ q, s.heap.size ≤ q → A q) (hR : 6 ≤ R.frames ∧ 171 ≤ R.locals) (n : Nat) (u : UM) (t : Nat) (r0 : Unit ⊕ Nat) (ur : UM) (C : UC) (h : uf_X4_word n d u t = some ((r0, ur), C)) (hret : ∀ (H : Heap) (locs : List Loc) (ls : Array Slot) (pc cells slots : Nat) (v0 : Unit), r0 = .inl v0 → decode cX4_word pc = .ok (.return_, 1) → u_left R cells slots (u_add (0, 0) (0, 0)) → u_I D A s.heap ur H locs cells → W p l e R s m args below meth c H locs cells slots Q (F0 m pc ls [])) (hthr : ∀ (H : Heap) (locs : List Loc) (ls : Array Slot) (pc : Nat) (rest : List Value) (cells slots q : Nat), r0 = .inr q → (∃ fs, u_get ur.1 q = some (.inr (5, fs))) → u_left R cells slots (u_add (0, 0) (0, 0)) → u_I D A s.heap ur H locs cells → vx_W p l e R s m args below meth c H locs cells slots Q (F0 m pc ls rest) q) : ∀ (H : Heap) (locs : List Loc) (ls : Array Slot) (cells slots : Nat), u_left R cells slots (u_add C (0, 0)) → u_I D A s.heap u H locs cells → lv_has ls 2 [(0, .ref t)] → W p l e R s m args below meth c H locs cells slots Q (F0 m 0 ls []) := by
  have k57 : ∀ (u : UM) (v0 : Nat) (v1 : Nat) (H : Heap) (locs : List Loc) (ls : Array Slot) (cells slots : Nat) (C : UC), uf_X4_word_J57 n d u v0 v1 = some ((r0, ur), C) → u_left R cells slots (u_add C (0, 0)) → u_I D A s.heap u H locs cells → lv_has ls 2 [(0, .ref v0), (1, .ref v1)] → W p l e R s m args below meth c H locs cells slots Q (F0 m 57 ls []) := by
    intro u v0 v1 H locs ls cells slots C h hC I hl
    unfold uf_X4_word_J57 at h
    refine lv_aload_n X.1 X.2.1 dX4_word_57 rfl (lv_at hl 0 rfl) ?_
    refine lv_aload_n X.1 X.2.1 dX4_word_58 rfl (lv_at hl 1 rfl) ?_
    obtain ⟨f19, e20, h⟩ := m_bS h
    obtain ⟨r22, u23, C24, C25, e21, z26, h, hq⟩ := u_bcS h
    rw [hq] at hC
    refine u_callV X hl.1 I hA (As := []) (rest := [.ref v0]) (uk_J4_toString l n D d u v1 _ _ _ e21) z26 (u_clS e20) (C := RJ4) (T := TJ4) (N := 4) rfl 0 q459 q460 q461 q110 q462 uh_J4_toString rfl rfl ⟨Nat.le_trans (Nat.le_of_ble_eq_true rfl) hR.1, Nat.le_trans (Nat.le_of_ble_eq_true rfl) hR.2⟩ hC (stk := [.ref r22, .ref v0]) rfl (Nat.le_of_ble_eq_true rfl) dX4_word_59 (fun H locs cells slots hC I => ?_)
    obtain ⟨w27, e28, h⟩ := m_bS h
    refine u_P X I e28 (C := RX4) (T := TX4) (N := 7) (ref := "SwapPress$Reader") in_X4 tyX4 tyX4_ok nmX4 rfl (by decide) rfl rfl q295 (fun _ h => h) rfl rfl rfl dX4_word_62 (fun H locs I => ?_)
    refine lv_aload_n X.1 X.2.1 dX4_word_65 rfl (lv_at hl 1 rfl) ?_
    obtain ⟨f29, e30, h⟩ := m_bS h
    obtain ⟨r32, e31, h⟩ := m_bS h
    refine u_callVp X hl.1 I hA (As := []) (rest := []) (uk_J4_length l n D d (w27, u23.2) v1 _ e31) (u_clS e30) (C := RJ4) (T := TJ4) (N := 4) rfl 0 q522 q481 q2028 q110 q482 uh_J4_length rfl rfl ⟨Nat.le_trans (Nat.le_of_ble_eq_true rfl) hR.1, Nat.le_trans (Nat.le_of_ble_eq_true rfl) hR.2⟩ (u_leftLe hC) (stk := [.int r32]) rfl (Nat.le_of_ble_eq_true rfl) dX4_word_66 (fun H locs I => ?_)
    refine lv_i2l X.1 X.2.1 dX4_word_69 rfl ?_
    refine lv_lconst (v := 1) X.1 X.2.1 dX4_word_70 (by decide) ?_
    refine lv_ldc2 (v := 8) X.1 X.2.1 X.2.2.2.1 (X.2.2.1 _ q523) dX4_word_71 ?_
    obtain ⟨r34, e33, h⟩ := m_bS h
    refine u_callSNp X hl.1 I hA (As := [.long ((r32 : Int32).toInt64), .long 1, .long 8]) (rest := []) (uk_X0_in l n D d (w27, u23.2) ((r32 : Int32).toInt64) 1 8 _ e33) 3 1 rfl q280 q101 q281 uh_X0_in.2 rfl rfl ⟨Nat.le_trans (Nat.le_of_ble_eq_true rfl) hR.1, Nat.le_trans (Nat.le_of_ble_eq_true rfl) hR.2⟩ (u_leftLe hC) (stk := [.int r34]) rfl (Nat.le_of_ble_eq_true rfl) dX4_word_74 (fun H locs I => ?_)
    refine lv_if_ne (tgt := 86) X.1 X.2.1 dX4_word_77 (by decide) (fun c35 => ?_) (fun c35 => ?_)
    · replace h := m_ifF c35 h
      obtain ⟨he, rfl⟩ := m_e3 h
      obtain ⟨rfl, rfl⟩ := m_e4 he
      exact hret H locs ls 86 _ _ _ rfl dX4_word_86 hC I
    · replace h := m_ifT c35 h
      refine lv_aload_n X.1 X.2.1 dX4_word_80 rfl (lv_at hl 0 rfl) ?_
      refine lv_iconst (v := 1) X.1 X.2.1 dX4_word_81 (by decide) ?_
      obtain ⟨f36, e37, h⟩ := m_bS h
      obtain ⟨r39, u40, C41, C42, e38, z43, h, hq⟩ := u_bcS h
      rw [hq] at hC
      refine u_callV X hl.1 I hA (As := [.int 1]) (rest := []) (uk_X4_wrong l n D d (w27, u23.2) v0 1 _ _ _ e38) z43 (u_clS e37) (C := RX4) (T := TX4) (N := 7) rfl 1 q524 q526 qs5 q108 q527 uh_X4_wrong rfl rfl ⟨Nat.le_trans (Nat.le_of_ble_eq_true rfl) hR.1, Nat.le_trans (Nat.le_of_ble_eq_true rfl) hR.2⟩ hC (stk := [.ref r39]) rfl (Nat.le_of_ble_eq_true rfl) dX4_word_82 (fun H locs cells slots hC I => ?_)
      obtain ⟨f44, e45, h⟩ := m_bS h
      obtain ⟨he, rfl⟩ := m_e3 h
      obtain ⟨rfl, rfl⟩ := m_e4 he
      exact vx_athrow X.1 X.2.1 dX4_word_85 (hthr H locs ls 85 _ _ _ _ rfl ⟨_, u_clS e45⟩ hC I)
  intro H locs ls cells slots hC I hl
  unfold uf_X4_word at h
  obtain ⟨C1, h, hq⟩ := u_acS h
  rw [hq] at hC
  obtain ⟨u2, e3, h⟩ := m_bS h
  refine u_NO X I hA 14 (C := RJ4) (T := TJ4) (N := 4) in_J4 tyJ4 tyJ4_ok q333 q334 q110 rfl (fs := [.null, .int 0, .int 0, .int 0]) e3 (fun j hj => by match j, hj with | 0, _ => rfl | 1, _ => rfl | 2, _ => rfl | 3, _ => rfl) hC dX4_word_0 (fun H cells slots hC I => ?_)
  refine lv_dup X.1 X.2.1 dX4_word_3 rfl ?_
  obtain ⟨r5, u6, C7, C8, e4, z9, h, hq⟩ := u_bcS h
  rw [hq] at hC
  refine u_callI X hl.1 I hA (As := []) (rest := [.ref u.2]) (uk_J4_init l n D d u2 u.2 _ _ e4) z9 0 q335 q336 q110 q337 rfl uh_J4_init.2 rfl rfl ⟨Nat.le_trans (Nat.le_of_ble_eq_true rfl) hR.1, Nat.le_trans (Nat.le_of_ble_eq_true rfl) hR.2⟩ hC (Nat.le_of_ble_eq_true rfl) dX4_word_4 (fun H locs cells slots hC I => ?_)
  refine lv_astore_n (lv' := [(1, .ref u.2), (0, .ref t)]) X.1 X.2.1 dX4_word_7 rfl hl (by decide) rfl (fun ls hl => ?_)
  refine lv_aload_n X.1 X.2.1 dX4_word_8 rfl (lv_at hl 1 rfl) ?_
  obtain ⟨f10, e11, h⟩ := m_bS h
  obtain ⟨r13, u14, C15, C16, e12, z17, h, hq⟩ := u_bcS h
  rw [hq] at hC
  refine u_callV X hl.1 I hA (As := []) (rest := []) (uk_X4_isEnd l n D d u6 t _ _ _ e12) z17 (u_clS e11) (C := RX4) (T := TX4) (N := 7) rfl 0 q316 q318 qs1 q108 q319 uh_X4_isEnd rfl rfl ⟨Nat.le_trans (Nat.le_of_ble_eq_true rfl) hR.1, Nat.le_trans (Nat.le_of_ble_eq_true rfl) hR.2⟩ hC (stk := [.int r13]) rfl (Nat.le_of_ble_eq_true rfl) dX4_word_9 (fun H locs cells slots hC I => ?_)
  refine lv_if_ne (tgt := 57) X.1 X.2.1 dX4_word_12 (by decide) (fun c18 => ?_) (fun c18 => ?_)
  · replace h := m_ifF c18 h
    exact k57 u14 t u.2 H locs ls _ _ _ h hC I (lv_sub hl [1, 0] rfl)
  · replace h := m_ifT c18 h
    obtain ⟨u72, C73, C74, e71, h, hq⟩ := u_blS h
    rw [hq] at hC
    refine wuf_X4_word_L15 X hA hR n t u.2 _ _ _ _ e71 (fun H locs ls cells slots hC I hl => ?_) H locs ls _ _ (u_left2 hC) I (lv_sub hl [1, 0] rfl)
    exact k57 u72 t u.2 H locs ls _ _ _ h hC I (lv_sub hl [0, 1] rfl)
end S_X4_word
theorem uk_X4_word (l : Launch) (n : Nat) (D : va_G) (d : UD) (u : UM) (t : Nat) (r0 : Unit ⊕ Nat) (ur : UM) (C : UC) (h : uf_X4_word n d u t = some ((r0, ur), C)) : u_MX l yX4_word (ws_ yX4_word cX4_word 2 none) 6 171 C D d u [.ref t] (u_ov (fun (_ : Unit) => none) r0) ur :=
  u_startX (own := RX4) (lvl := [(0, .ref t)]) (by decide) rfl (Nat.le_of_ble_eq_true rfl) rfl (fun p e s m args below meth c ls X hr hlk htab hl hA I hC => uw_X4_word X hA ⟨Nat.le_refl _, Nat.le_refl _⟩ n u t r0 ur C h (fun H locs ls pc cells slots v0 hv hd hC I => by subst hv; exact vx_ret (u_vret X I hr hlk (u_leftE hC) hd)) (fun H locs ls pc rest cells slots q hv hfs hC I => by subst hv; exact u_outX X I hlk htab hfs (u_leftE hC)) _ _ ls _ _ hC I hl)

/-! SwapPress$Reader.name()V -/
def uf_X4_name (n : Nat) (d : UD) (u : UM) (t : Nat) : Option (((Unit ⊕ Nat) × UM) × UC) :=
  m_b (u_cl u 4 t) (fun f1 => u_bx u.2 (uf_X4_word n d u t) (fun r4 u5 => m_b (u_fr d u5 4 5 t) (fun b15 => u_bc u5.2 (uf_X0_isOwn n d u5 b15) (fun r18 u19 => m_if ((r18 : Int32) = 0) (some ((.inl (()), u19), (0, 0))) (m_b (u_cl u19 4 t) (fun f24 => u_bc u19.2 (uf_X4_wrong n d u19 t 1) (fun r27 u28 => m_b (u_cl u28 5 r27) (fun f32 => some ((.inr r27, u28), (0, 0))))))))) (fun q9 u10 => some ((.inr q9, u10), (0, 0))))
theorem uh_X4_name : yX4_name.cls = RX4 ∧ yX4_name.cls ≠ "java/lang/invoke/MethodHandle" ∧ yX4_name.cls ≠ "java/lang/invoke/VarHandle" ∧ (parseMethodDescriptor yX4_name.desc).map (fun d => d.parameters.length) = some 0 := by decide +kernel
section S_X4_name
variable {p : Program} {l : Launch} {e : Env} {R : Room} {s : State} {m : MethodId} {args : Array Value} {below : List Frame} {meth : Method} {c : Code} {Q : State → Prop} {D : va_G} {A : Nat → Prop} {d : UD}
theorem uw_X4_name (X : u_X RX4 D A d p s m c cX4_name 1 args) (hA : ∀ q, s.heap.size ≤ q → A q) (hR : 7 ≤ R.frames ∧ 192 ≤ R.locals) (n : Nat) (u : UM) (t : Nat) (r0 : Unit ⊕ Nat) (ur : UM) (C : UC) (h : uf_X4_name n d u t = some ((r0, ur), C)) (hret : ∀ (H : Heap) (locs : List Loc) (ls : Array Slot) (pc cells slots : Nat) (v0 : Unit), r0 = .inl v0 → decode cX4_name pc = .ok (.return_, 1) → u_left R cells slots (u_add (0, 0) (0, 0)) → u_I D A s.heap ur H locs cells → W p l e R s m args below meth c H locs cells slots Q (F0 m pc ls [])) (hthr : ∀ (H : Heap) (locs : List Loc) (ls : Array Slot) (pc : Nat) (rest : List Value) (cells slots q : Nat), r0 = .inr q → (∃ fs, u_get ur.1 q = some (.inr (5, fs))) → u_left R cells slots (u_add (0, 0) (0, 0)) → u_I D A s.heap ur H locs cells → vx_W p l e R s m args below meth c H locs cells slots Q (F0 m pc ls rest) q) : ∀ (H : Heap) (locs : List Loc) (ls : Array Slot) (cells slots : Nat), u_left R cells slots (u_add C (0, 0)) → u_I D A s.heap u H locs cells → lv_has ls 1 [(0, .ref t)] → W p l e R s m args below meth c H locs cells slots Q (F0 m 0 ls []) := by
  intro H locs ls cells slots hC I hl
  unfold uf_X4_name at h
  refine lv_aload_n X.1 X.2.1 dX4_name_0 rfl (lv_at hl 0 rfl) ?_
  obtain ⟨f1, e2, h⟩ := m_bS h
  rcases Or.symm (u_bxS h) with ⟨q9, u10, C11, C12, e13, z14, h, hq⟩ | ⟨r4, u5, C6, C7, e3, z8, h, hq⟩
  · rw [hq] at hC
    obtain ⟨he, rfl⟩ := m_e3 h
    obtain ⟨rfl, rfl⟩ := m_e4 he
    exact u_callX0 X hl.1 I hA (As := []) (rest := []) (uk_X4_word l n D d u t _ _ _ e13) z14 (u_clS e2) (C := RX4) (T := TX4) (N := 7) rfl 0 q329 q331 qs4 q108 q332 uh_X4_word rfl rfl ⟨Nat.le_trans (Nat.le_of_ble_eq_true rfl) hR.1, Nat.le_trans (Nat.le_of_ble_eq_true rfl) hR.2⟩ hC (Nat.le_of_ble_eq_true rfl) dX4_name_1 (fun H locs cells slots hfs hC I => hthr H locs ls 1 _ _ _ _ rfl hfs hC I)
  rw [hq] at hC
  refine u_callX1 X hl.1 I hA (As := []) (rest := []) (uk_X4_word l n D d u t _ _ _ e3) z8 (u_clS e2) (C := RX4) (T := TX4) (N := 7) rfl 0 q329 q331 qs4 q108 q332 uh_X4_word rfl rfl ⟨Nat.le_trans (Nat.le_of_ble_eq_true rfl) hR.1, Nat.le_trans (Nat.le_of_ble_eq_true rfl) hR.2⟩ hC (stk := []) rfl (Nat.le_of_ble_eq_true rfl) dX4_name_1 (fun H locs cells slots hC I => ?_)
  refine lv_aload_n X.1 X.2.1 dX4_name_4 rfl (lv_at hl 0 rfl) ?_
  obtain ⟨b15, e16, h⟩ := m_bS h
  refine u_Gr X I e16 (C := RX4) (T := TX4) (N := 7) (ref := "SwapPress$Reader") in_X4 rfl (by decide) rfl rfl q295 (fun _ h => h) dX4_name_5 ?_
  obtain ⟨r18, u19, C20, C21, e17, z22, h, hq⟩ := u_bcS h
  rw [hq] at hC
  refine u_callSN X hl.1 I hA (As := [.ref b15]) (rest := []) (uk_X0_isOwn l n D d u5 b15 _ _ _ e17) z22 1 2 rfl q675 q101 q676 uh_X0_isOwn.2 rfl rfl ⟨Nat.le_trans (Nat.le_of_ble_eq_true rfl) hR.1, Nat.le_trans (Nat.le_of_ble_eq_true rfl) hR.2⟩ hC (stk := [.int r18]) rfl (Nat.le_of_ble_eq_true rfl) dX4_name_8 (fun H locs cells slots hC I => ?_)
  refine lv_if_eq (tgt := 20) X.1 X.2.1 dX4_name_11 (by decide) (fun c23 => ?_) (fun c23 => ?_)
  · replace h := m_ifT c23 h
    obtain ⟨he, rfl⟩ := m_e3 h
    obtain ⟨rfl, rfl⟩ := m_e4 he
    exact hret H locs ls 20 _ _ _ rfl dX4_name_20 hC I
  · replace h := m_ifF c23 h
    refine lv_aload_n X.1 X.2.1 dX4_name_14 rfl (lv_at hl 0 rfl) ?_
    refine lv_iconst (v := 1) X.1 X.2.1 dX4_name_15 (by decide) ?_
    obtain ⟨f24, e25, h⟩ := m_bS h
    obtain ⟨r27, u28, C29, C30, e26, z31, h, hq⟩ := u_bcS h
    rw [hq] at hC
    refine u_callV X hl.1 I hA (As := [.int 1]) (rest := []) (uk_X4_wrong l n D d u19 t 1 _ _ _ e26) z31 (u_clS e25) (C := RX4) (T := TX4) (N := 7) rfl 1 q524 q526 qs5 q108 q527 uh_X4_wrong rfl rfl ⟨Nat.le_trans (Nat.le_of_ble_eq_true rfl) hR.1, Nat.le_trans (Nat.le_of_ble_eq_true rfl) hR.2⟩ hC (stk := [.ref r27]) rfl (Nat.le_of_ble_eq_true rfl) dX4_name_16 (fun H locs cells slots hC I => ?_)
    obtain ⟨f32, e33, h⟩ := m_bS h
    obtain ⟨he, rfl⟩ := m_e3 h
    obtain ⟨rfl, rfl⟩ := m_e4 he
    exact vx_athrow X.1 X.2.1 dX4_name_19 (hthr H locs ls 19 _ _ _ _ rfl ⟨_, u_clS e33⟩ hC I)
end S_X4_name
theorem uk_X4_name (l : Launch) (n : Nat) (D : va_G) (d : UD) (u : UM) (t : Nat) (r0 : Unit ⊕ Nat) (ur : UM) (C : UC) (h : uf_X4_name n d u t = some ((r0, ur), C)) : u_MX l yX4_name (ws_ yX4_name cX4_name 1 none) 7 192 C D d u [.ref t] (u_ov (fun (_ : Unit) => none) r0) ur :=
  u_startX (own := RX4) (lvl := [(0, .ref t)]) (by decide) rfl (Nat.le_of_ble_eq_true rfl) rfl (fun p e s m args below meth c ls X hr hlk htab hl hA I hC => uw_X4_name X hA ⟨Nat.le_refl _, Nat.le_refl _⟩ n u t r0 ur C h (fun H locs ls pc cells slots v0 hv hd hC I => by subst hv; exact vx_ret (u_vret X I hr hlk (u_leftE hC) hd)) (fun H locs ls pc rest cells slots q hv hfs hC I => by subst hv; exact u_outX X I hlk htab hfs (u_leftE hC)) _ _ ls _ _ hC I hl)

/-! SwapPress$Reader.named(Ljava/util/ArrayList;)I -/
def uf_X4_named (n : Nat) (d : UD) (u : UM) (t : Nat) (p0 : Nat) : Option (((Int32 ⊕ Nat) × UM) × UC) :=
  m_b (u_cl u 4 t) (fun f1 => u_bx u.2 (uf_X4_name n d u t) (fun r4 u5 => m_b (u_fr d u5 4 5 t) (fun b15 => m_b (u_cl u5 13 p0) (fun f17 => m_b (uf_J2_indexOf n d u5 p0 b15) (fun r20 => m_if (0 ≤ (r20 : Int32)) (some ((.inl r20, u5), (0, 0))) (m_b (u_cl u5 4 t) (fun f22 => u_bc u5.2 (uf_X4_wrong n d u5 t 3) (fun r25 u26 => m_b (u_cl u26 5 r25) (fun f30 => some ((.inr r25, u26), (0, 0)))))))))) (fun q9 u10 => some ((.inr q9, u10), (0, 0))))
theorem uh_X4_named : yX4_named.cls = RX4 ∧ yX4_named.cls ≠ "java/lang/invoke/MethodHandle" ∧ yX4_named.cls ≠ "java/lang/invoke/VarHandle" ∧ (parseMethodDescriptor yX4_named.desc).map (fun d => d.parameters.length) = some 1 := by decide +kernel
section S_X4_named
variable {p : Program} {l : Launch} {e : Env} {R : Room} {s : State} {m : MethodId} {args : Array Value} {below : List Frame} {meth : Method} {c : Code} {Q : State → Prop} {D : va_G} {A : Nat → Prop} {d : UD}
theorem uw_X4_named (X : u_X RX4 D A d p s m c cX4_named 3 args) (hA : ∀ q, s.heap.size ≤ q → A q) (hR : 8 ≤ R.frames ∧ 212 ≤ R.locals) (n : Nat) (u : UM) (t : Nat) (p0 : Nat) (r0 : Int32 ⊕ Nat) (ur : UM) (C : UC) (h : uf_X4_named n d u t p0 = some ((r0, ur), C)) (hret : ∀ (H : Heap) (locs : List Loc) (ls : Array Slot) (pc cells slots : Nat) (v0 : Int32), r0 = .inl v0 → decode cX4_named pc = .ok (.ireturn, 1) → u_left R cells slots (u_add (0, 0) (0, 0)) → u_I D A s.heap ur H locs cells → W p l e R s m args below meth c H locs cells slots Q (F0 m pc ls [.int v0])) (hthr : ∀ (H : Heap) (locs : List Loc) (ls : Array Slot) (pc : Nat) (rest : List Value) (cells slots q : Nat), r0 = .inr q → (∃ fs, u_get ur.1 q = some (.inr (5, fs))) → u_left R cells slots (u_add (0, 0) (0, 0)) → u_I D A s.heap ur H locs cells → vx_W p l e R s m args below meth c H locs cells slots Q (F0 m pc ls rest) q) : ∀ (H : Heap) (locs : List Loc) (ls : Array Slot) (cells slots : Nat), u_left R cells slots (u_add C (0, 0)) → u_I D A s.heap u H locs cells → lv_has ls 3 [(0, .ref t), (1, .ref p0)] → W p l e R s m args below meth c H locs cells slots Q (F0 m 0 ls []) := by
  intro H locs ls cells slots hC I hl
  unfold uf_X4_named at h
  refine lv_aload_n X.1 X.2.1 dX4_named_0 rfl (lv_at hl 0 rfl) ?_
  obtain ⟨f1, e2, h⟩ := m_bS h
  rcases Or.symm (u_bxS h) with ⟨q9, u10, C11, C12, e13, z14, h, hq⟩ | ⟨r4, u5, C6, C7, e3, z8, h, hq⟩
  · rw [hq] at hC
    obtain ⟨he, rfl⟩ := m_e3 h
    obtain ⟨rfl, rfl⟩ := m_e4 he
    exact u_callX0 X hl.1 I hA (As := []) (rest := []) (uk_X4_name l n D d u t _ _ _ e13) z14 (u_clS e2) (C := RX4) (T := TX4) (N := 7) rfl 0 q670 q672 qs8 q108 q673 uh_X4_name rfl rfl ⟨Nat.le_trans (Nat.le_of_ble_eq_true rfl) hR.1, Nat.le_trans (Nat.le_of_ble_eq_true rfl) hR.2⟩ hC (Nat.le_of_ble_eq_true rfl) dX4_named_1 (fun H locs cells slots hfs hC I => hthr H locs ls 1 _ _ _ _ rfl hfs hC I)
  rw [hq] at hC
  refine u_callX1 X hl.1 I hA (As := []) (rest := []) (uk_X4_name l n D d u t _ _ _ e3) z8 (u_clS e2) (C := RX4) (T := TX4) (N := 7) rfl 0 q670 q672 qs8 q108 q673 uh_X4_name rfl rfl ⟨Nat.le_trans (Nat.le_of_ble_eq_true rfl) hR.1, Nat.le_trans (Nat.le_of_ble_eq_true rfl) hR.2⟩ hC (stk := []) rfl (Nat.le_of_ble_eq_true rfl) dX4_named_1 (fun H locs cells slots hC I => ?_)
  refine lv_aload_n X.1 X.2.1 dX4_named_4 rfl (lv_at hl 1 rfl) ?_
  refine lv_aload_n X.1 X.2.1 dX4_named_5 rfl (lv_at hl 0 rfl) ?_
  obtain ⟨b15, e16, h⟩ := m_bS h
  refine u_Gr X I e16 (C := RX4) (T := TX4) (N := 7) (ref := "SwapPress$Reader") in_X4 rfl (by decide) rfl rfl q295 (fun _ h => h) dX4_named_6 ?_
  obtain ⟨f17, e18, h⟩ := m_bS h
  obtain ⟨r20, e19, h⟩ := m_bS h
  refine u_callVp X hl.1 I hA (As := [.ref b15]) (rest := []) (uk_J2_indexOf l n D d u5 p0 b15 _ e19) (u_clS e18) (C := RJ2) (T := TJ2) (N := 3) rfl 1 q775 q690 q691 q105 q692 uh_J2_indexOf rfl rfl ⟨Nat.le_trans (Nat.le_of_ble_eq_true rfl) hR.1, Nat.le_trans (Nat.le_of_ble_eq_true rfl) hR.2⟩ (u_leftLe hC) (stk := [.int r20]) rfl (Nat.le_of_ble_eq_true rfl) dX4_named_9 (fun H locs I => ?_)
  refine lv_istore_n (lv' := [(2, .int r20), (0, .ref t), (1, .ref p0)]) X.1 X.2.1 dX4_named_12 rfl hl (by decide) rfl (fun ls hl => ?_)
  refine lv_iload_n X.1 X.2.1 dX4_named_13 rfl (lv_at hl 0 rfl) ?_
  refine lv_if_ge (tgt := 23) X.1 X.2.1 dX4_named_14 (by decide) (fun c21 => ?_) (fun c21 => ?_)
  · replace h := m_ifT c21 h
    refine lv_iload_n X.1 X.2.1 dX4_named_23 rfl (lv_at hl 0 rfl) ?_
    obtain ⟨he, rfl⟩ := m_e3 h
    obtain ⟨rfl, rfl⟩ := m_e4 he
    exact hret H locs ls 24 _ _ _ rfl dX4_named_24 hC I
  · replace h := m_ifF c21 h
    refine lv_aload_n X.1 X.2.1 dX4_named_17 rfl (lv_at hl 1 rfl) ?_
    refine lv_iconst (v := 3) X.1 X.2.1 dX4_named_18 (by decide) ?_
    obtain ⟨f22, e23, h⟩ := m_bS h
    obtain ⟨r25, u26, C27, C28, e24, z29, h, hq⟩ := u_bcS h
    rw [hq] at hC
    refine u_callV X hl.1 I hA (As := [.int 3]) (rest := []) (uk_X4_wrong l n D d u5 t 3 _ _ _ e24) z29 (u_clS e23) (C := RX4) (T := TX4) (N := 7) rfl 1 q524 q526 qs5 q108 q527 uh_X4_wrong rfl rfl ⟨Nat.le_trans (Nat.le_of_ble_eq_true rfl) hR.1, Nat.le_trans (Nat.le_of_ble_eq_true rfl) hR.2⟩ hC (stk := [.ref r25]) rfl (Nat.le_of_ble_eq_true rfl) dX4_named_19 (fun H locs cells slots hC I => ?_)
    obtain ⟨f30, e31, h⟩ := m_bS h
    obtain ⟨he, rfl⟩ := m_e3 h
    obtain ⟨rfl, rfl⟩ := m_e4 he
    exact vx_athrow X.1 X.2.1 dX4_named_22 (hthr H locs ls 22 _ _ _ _ rfl ⟨_, u_clS e31⟩ hC I)
end S_X4_named
theorem uk_X4_named (l : Launch) (n : Nat) (D : va_G) (d : UD) (u : UM) (t : Nat) (p0 : Nat) (r0 : Int32 ⊕ Nat) (ur : UM) (C : UC) (h : uf_X4_named n d u t p0 = some ((r0, ur), C)) : u_MX l yX4_named (ws_ yX4_named cX4_named 3 (some .int)) 8 212 C D d u [.ref t, .ref p0] (u_ov (fun (v0 : Int32) => some (.int v0)) r0) ur :=
  u_startX (own := RX4) (lvl := [(0, .ref t), (1, .ref p0)]) (by decide) rfl (Nat.le_of_ble_eq_true rfl) rfl (fun p e s m args below meth c ls X hr hlk htab hl hA I hC => uw_X4_named X hA ⟨Nat.le_refl _, Nat.le_refl _⟩ n u t p0 r0 ur C h (fun H locs ls pc cells slots v0 hv hd hC I => by subst hv; exact vx_ret (u_iret X I hr hlk (u_leftE hC) hd)) (fun H locs ls pc rest cells slots q hv hfs hC I => by subst hv; exact u_outX X I hlk htab hfs (u_leftE hC)) _ _ ls _ _ hC I hl)

/-! SwapPress$Reader.other(I)I -/
def uf_X4_other (n : Nat) (d : UD) (u : UM) (t : Nat) (p0 : Int32) : Option (((Int32 ⊕ Nat) × UM) × UC) :=
  m_b (u_fr d u 4 1 t) (fun b1 => m_b (u_nr u 2 0 b1) (fun b3 => m_b (u_cl u 4 t) (fun f5 => u_bx u.2 (uf_X4_named n d u t b3) (fun r8 u9 => m_if ((r8 : Int32) = (p0 : Int32)) (m_b (u_cl u9 4 t) (fun f20 => u_bc u9.2 (uf_X4_wrong n d u9 t 5) (fun r23 u24 => m_b (u_cl u24 5 r23) (fun f28 => some ((.inr r23, u24), (0, 0)))))) (some ((.inl r8, u9), (0, 0)))) (fun q13 u14 => some ((.inr q13, u14), (0, 0))))))
theorem uh_X4_other : yX4_other.cls = RX4 ∧ yX4_other.cls ≠ "java/lang/invoke/MethodHandle" ∧ yX4_other.cls ≠ "java/lang/invoke/VarHandle" ∧ (parseMethodDescriptor yX4_other.desc).map (fun d => d.parameters.length) = some 1 := by decide +kernel
section S_X4_other
variable {p : Program} {l : Launch} {e : Env} {R : Room} {s : State} {m : MethodId} {args : Array Value} {below : List Frame} {meth : Method} {c : Code} {Q : State → Prop} {D : va_G} {A : Nat → Prop} {d : UD}
theorem uw_X4_other (X : u_X RX4 D A d p s m c cX4_other 3 args) (hA : ∀ q, s.heap.size ≤ q → A q) (hR : 9 ≤ R.frames ∧ 234 ≤ R.locals) (n : Nat) (u : UM) (t : Nat) (p0 : Int32) (r0 : Int32 ⊕ Nat) (ur : UM) (C : UC) (h : uf_X4_other n d u t p0 = some ((r0, ur), C)) (hret : ∀ (H : Heap) (locs : List Loc) (ls : Array Slot) (pc cells slots : Nat) (v0 : Int32), r0 = .inl v0 → decode cX4_other pc = .ok (.ireturn, 1) → u_left R cells slots (u_add (0, 0) (0, 0)) → u_I D A s.heap ur H locs cells → W p l e R s m args below meth c H locs cells slots Q (F0 m pc ls [.int v0])) (hthr : ∀ (H : Heap) (locs : List Loc) (ls : Array Slot) (pc : Nat) (rest : List Value) (cells slots q : Nat), r0 = .inr q → (∃ fs, u_get ur.1 q = some (.inr (5, fs))) → u_left R cells slots (u_add (0, 0) (0, 0)) → u_I D A s.heap ur H locs cells → vx_W p l e R s m args below meth c H locs cells slots Q (F0 m pc ls rest) q) : ∀ (H : Heap) (locs : List Loc) (ls : Array Slot) (cells slots : Nat), u_left R cells slots (u_add C (0, 0)) → u_I D A s.heap u H locs cells → lv_has ls 3 [(0, .ref t), (1, .int p0)] → W p l e R s m args below meth c H locs cells slots Q (F0 m 0 ls []) := by
  intro H locs ls cells slots hC I hl
  unfold uf_X4_other at h
  refine lv_aload_n X.1 X.2.1 dX4_other_0 rfl (lv_at hl 0 rfl) ?_
  refine lv_aload_n X.1 X.2.1 dX4_other_1 rfl (lv_at hl 0 rfl) ?_
  obtain ⟨b1, e2, h⟩ := m_bS h
  refine u_Gr X I e2 (C := RX4) (T := TX4) (N := 7) (ref := "SwapPress$Reader") in_X4 rfl (by decide) rfl rfl q291 (fun _ h => h) dX4_other_2 ?_
  obtain ⟨b3, e4, h⟩ := m_bS h
  refine u_GrN X I e4 (C := RX1) (T := TX1) (N := 5) (ref := "SwapPress$State") (host := "SwapPress") in_X1 rfl (by decide) rfl rfl 0 rfl (fun _ h => h) dX4_other_5 ?_
  obtain ⟨f5, e6, h⟩ := m_bS h
  rcases Or.symm (u_bxS h) with ⟨q13, u14, C15, C16, e17, z18, h, hq⟩ | ⟨r8, u9, C10, C11, e7, z12, h, hq⟩
  · rw [hq] at hC
    obtain ⟨he, rfl⟩ := m_e3 h
    obtain ⟨rfl, rfl⟩ := m_e4 he
    exact u_callX0 X hl.1 I hA (As := [.ref b3]) (rest := []) (uk_X4_named l n D d u t b3 _ _ _ e17) z18 (u_clS e6) (C := RX4) (T := TX4) (N := 7) rfl 1 q771 q773 qs13 q108 q774 uh_X4_named rfl rfl ⟨Nat.le_trans (Nat.le_of_ble_eq_true rfl) hR.1, Nat.le_trans (Nat.le_of_ble_eq_true rfl) hR.2⟩ hC (Nat.le_of_ble_eq_true rfl) dX4_other_8 (fun H locs cells slots hfs hC I => hthr H locs ls 8 _ _ _ _ rfl hfs hC I)
  rw [hq] at hC
  refine u_callX1 X hl.1 I hA (As := [.ref b3]) (rest := []) (uk_X4_named l n D d u t b3 _ _ _ e7) z12 (u_clS e6) (C := RX4) (T := TX4) (N := 7) rfl 1 q771 q773 qs13 q108 q774 uh_X4_named rfl rfl ⟨Nat.le_trans (Nat.le_of_ble_eq_true rfl) hR.1, Nat.le_trans (Nat.le_of_ble_eq_true rfl) hR.2⟩ hC (stk := [.int r8]) rfl (Nat.le_of_ble_eq_true rfl) dX4_other_8 (fun H locs cells slots hC I => ?_)
  refine lv_istore_n (lv' := [(2, .int r8), (0, .ref t), (1, .int p0)]) X.1 X.2.1 dX4_other_11 rfl hl (by decide) rfl (fun ls hl => ?_)
  refine lv_iload_n X.1 X.2.1 dX4_other_12 rfl (lv_at hl 0 rfl) ?_
  refine lv_iload_n X.1 X.2.1 dX4_other_13 rfl (lv_at hl 2 rfl) ?_
  refine lv_icmp_ne (tgt := 23) X.1 X.2.1 dX4_other_14 (by decide) (fun c19 => ?_) (fun c19 => ?_)
  · replace h := m_ifF c19 h
    refine lv_iload_n X.1 X.2.1 dX4_other_23 rfl (lv_at hl 0 rfl) ?_
    obtain ⟨he, rfl⟩ := m_e3 h
    obtain ⟨rfl, rfl⟩ := m_e4 he
    exact hret H locs ls 24 _ _ _ rfl dX4_other_24 hC I
  · replace h := m_ifT c19 h
    refine lv_aload_n X.1 X.2.1 dX4_other_17 rfl (lv_at hl 1 rfl) ?_
    refine lv_iconst (v := 5) X.1 X.2.1 dX4_other_18 (by decide) ?_
    obtain ⟨f20, e21, h⟩ := m_bS h
    obtain ⟨r23, u24, C25, C26, e22, z27, h, hq⟩ := u_bcS h
    rw [hq] at hC
    refine u_callV X hl.1 I hA (As := [.int 5]) (rest := []) (uk_X4_wrong l n D d u9 t 5 _ _ _ e22) z27 (u_clS e21) (C := RX4) (T := TX4) (N := 7) rfl 1 q524 q526 qs5 q108 q527 uh_X4_wrong rfl rfl ⟨Nat.le_trans (Nat.le_of_ble_eq_true rfl) hR.1, Nat.le_trans (Nat.le_of_ble_eq_true rfl) hR.2⟩ hC (stk := [.ref r23]) rfl (Nat.le_of_ble_eq_true rfl) dX4_other_19 (fun H locs cells slots hC I => ?_)
    obtain ⟨f28, e29, h⟩ := m_bS h
    obtain ⟨he, rfl⟩ := m_e3 h
    obtain ⟨rfl, rfl⟩ := m_e4 he
    exact vx_athrow X.1 X.2.1 dX4_other_22 (hthr H locs ls 22 _ _ _ _ rfl ⟨_, u_clS e29⟩ hC I)
end S_X4_other
theorem uk_X4_other (l : Launch) (n : Nat) (D : va_G) (d : UD) (u : UM) (t : Nat) (p0 : Int32) (r0 : Int32 ⊕ Nat) (ur : UM) (C : UC) (h : uf_X4_other n d u t p0 = some ((r0, ur), C)) : u_MX l yX4_other (ws_ yX4_other cX4_other 3 (some .int)) 9 234 C D d u [.ref t, .int p0] (u_ov (fun (v0 : Int32) => some (.int v0)) r0) ur :=
  u_startX (own := RX4) (lvl := [(0, .ref t), (1, .int p0)]) (by decide) rfl (Nat.le_of_ble_eq_true rfl) rfl (fun p e s m args below meth c ls X hr hlk htab hl hA I hC => uw_X4_other X hA ⟨Nat.le_refl _, Nat.le_refl _⟩ n u t p0 r0 ur C h (fun H locs ls pc cells slots v0 hv hd hC I => by subst hv; exact vx_ret (u_iret X I hr hlk (u_leftE hC) hd)) (fun H locs ls pc rest cells slots q hv hfs hC I => by subst hv; exact u_outX X I hlk htab hfs (u_leftE hC)) _ _ ls _ _ hC I hl)

/-! SwapPress$Reader.cap()V -/
def uf_X4_cap (n : Nat) (d : UD) (u : UM) (t : Nat) : Option (((Unit ⊕ Nat) × UM) × UC) :=
  m_b (u_fr d u 4 1 t) (fun b1 => m_b (u_nr u 2 0 b1) (fun b3 => m_b (u_cl u 4 t) (fun f5 => u_bx u.2 (uf_X4_named n d u t b3) (fun r8 u9 => m_b (u_cl u9 4 t) (fun f19 => u_bx u9.2 (uf_X4_other n d u9 t r8) (fun r22 u23 => m_b (u_fr d u23 4 1 t) (fun b33 => m_b (u_nr u23 2 3 b33) (fun b35 => m_b (u_cl u23 4 t) (fun f37 => u_bx u23.2 (uf_X4_number n d u23 t 0 99999999) (fun r40 u41 => m_b (u_stI d u41 b35 ((8 * r8) + r22) r40) (fun w51 => some ((.inl (()), (w51, u41.2)), (0, 0)))) (fun q45 u46 => some ((.inr q45, u46), (0, 0))))))) (fun q27 u28 => some ((.inr q27, u28), (0, 0))))) (fun q13 u14 => some ((.inr q13, u14), (0, 0))))))
theorem uh_X4_cap : yX4_cap.cls = RX4 ∧ yX4_cap.cls ≠ "java/lang/invoke/MethodHandle" ∧ yX4_cap.cls ≠ "java/lang/invoke/VarHandle" ∧ (parseMethodDescriptor yX4_cap.desc).map (fun d => d.parameters.length) = some 0 := by decide +kernel
section S_X4_cap
variable {p : Program} {l : Launch} {e : Env} {R : Room} {s : State} {m : MethodId} {args : Array Value} {below : List Frame} {meth : Method} {c : Code} {Q : State → Prop} {D : va_G} {A : Nat → Prop} {d : UD}
theorem uw_X4_cap (X : u_X RX4 D A d p s m c cX4_cap 3 args) (hA : ∀ q, s.heap.size ≤ q → A q) (hR : 10 ≤ R.frames ∧ 256 ≤ R.locals) (n : Nat) (u : UM) (t : Nat) (r0 : Unit ⊕ Nat) (ur : UM) (C : UC) (h : uf_X4_cap n d u t = some ((r0, ur), C)) (hret : ∀ (H : Heap) (locs : List Loc) (ls : Array Slot) (pc cells slots : Nat) (v0 : Unit), r0 = .inl v0 → decode cX4_cap pc = .ok (.return_, 1) → u_left R cells slots (u_add (0, 0) (0, 0)) → u_I D A s.heap ur H locs cells → W p l e R s m args below meth c H locs cells slots Q (F0 m pc ls [])) (hthr : ∀ (H : Heap) (locs : List Loc) (ls : Array Slot) (pc : Nat) (rest : List Value) (cells slots q : Nat), r0 = .inr q → (∃ fs, u_get ur.1 q = some (.inr (5, fs))) → u_left R cells slots (u_add (0, 0) (0, 0)) → u_I D A s.heap ur H locs cells → vx_W p l e R s m args below meth c H locs cells slots Q (F0 m pc ls rest) q) : ∀ (H : Heap) (locs : List Loc) (ls : Array Slot) (cells slots : Nat), u_left R cells slots (u_add C (0, 0)) → u_I D A s.heap u H locs cells → lv_has ls 3 [(0, .ref t)] → W p l e R s m args below meth c H locs cells slots Q (F0 m 0 ls []) := by
  intro H locs ls cells slots hC I hl
  unfold uf_X4_cap at h
  refine lv_aload_n X.1 X.2.1 dX4_cap_0 rfl (lv_at hl 0 rfl) ?_
  refine lv_aload_n X.1 X.2.1 dX4_cap_1 rfl (lv_at hl 0 rfl) ?_
  obtain ⟨b1, e2, h⟩ := m_bS h
  refine u_Gr X I e2 (C := RX4) (T := TX4) (N := 7) (ref := "SwapPress$Reader") in_X4 rfl (by decide) rfl rfl q291 (fun _ h => h) dX4_cap_2 ?_
  obtain ⟨b3, e4, h⟩ := m_bS h
  refine u_GrN X I e4 (C := RX1) (T := TX1) (N := 5) (ref := "SwapPress$State") (host := "SwapPress") in_X1 rfl (by decide) rfl rfl 0 rfl (fun _ h => h) dX4_cap_5 ?_
  obtain ⟨f5, e6, h⟩ := m_bS h
  rcases Or.symm (u_bxS h) with ⟨q13, u14, C15, C16, e17, z18, h, hq⟩ | ⟨r8, u9, C10, C11, e7, z12, h, hq⟩
  · rw [hq] at hC
    obtain ⟨he, rfl⟩ := m_e3 h
    obtain ⟨rfl, rfl⟩ := m_e4 he
    exact u_callX0 X hl.1 I hA (As := [.ref b3]) (rest := []) (uk_X4_named l n D d u t b3 _ _ _ e17) z18 (u_clS e6) (C := RX4) (T := TX4) (N := 7) rfl 1 q771 q773 qs13 q108 q774 uh_X4_named rfl rfl ⟨Nat.le_trans (Nat.le_of_ble_eq_true rfl) hR.1, Nat.le_trans (Nat.le_of_ble_eq_true rfl) hR.2⟩ hC (Nat.le_of_ble_eq_true rfl) dX4_cap_8 (fun H locs cells slots hfs hC I => hthr H locs ls 8 _ _ _ _ rfl hfs hC I)
  rw [hq] at hC
  refine u_callX1 X hl.1 I hA (As := [.ref b3]) (rest := []) (uk_X4_named l n D d u t b3 _ _ _ e7) z12 (u_clS e6) (C := RX4) (T := TX4) (N := 7) rfl 1 q771 q773 qs13 q108 q774 uh_X4_named rfl rfl ⟨Nat.le_trans (Nat.le_of_ble_eq_true rfl) hR.1, Nat.le_trans (Nat.le_of_ble_eq_true rfl) hR.2⟩ hC (stk := [.int r8]) rfl (Nat.le_of_ble_eq_true rfl) dX4_cap_8 (fun H locs cells slots hC I => ?_)
  refine lv_istore_n (lv' := [(1, .int r8), (0, .ref t)]) X.1 X.2.1 dX4_cap_11 rfl hl (by decide) rfl (fun ls hl => ?_)
  refine lv_aload_n X.1 X.2.1 dX4_cap_12 rfl (lv_at hl 1 rfl) ?_
  refine lv_iload_n X.1 X.2.1 dX4_cap_13 rfl (lv_at hl 0 rfl) ?_
  obtain ⟨f19, e20, h⟩ := m_bS h
  rcases Or.symm (u_bxS h) with ⟨q27, u28, C29, C30, e31, z32, h, hq⟩ | ⟨r22, u23, C24, C25, e21, z26, h, hq⟩
  · rw [hq] at hC
    obtain ⟨he, rfl⟩ := m_e3 h
    obtain ⟨rfl, rfl⟩ := m_e4 he
    exact u_callX0 X hl.1 I hA (As := [.int r8]) (rest := []) (uk_X4_other l n D d u9 t r8 _ _ _ e31) z32 (u_clS e20) (C := RX4) (T := TX4) (N := 7) rfl 1 q776 q778 qs14 q108 q779 uh_X4_other rfl rfl ⟨Nat.le_trans (Nat.le_of_ble_eq_true rfl) hR.1, Nat.le_trans (Nat.le_of_ble_eq_true rfl) hR.2⟩ hC (Nat.le_of_ble_eq_true rfl) dX4_cap_14 (fun H locs cells slots hfs hC I => hthr H locs ls 14 _ _ _ _ rfl hfs hC I)
  rw [hq] at hC
  refine u_callX1 X hl.1 I hA (As := [.int r8]) (rest := []) (uk_X4_other l n D d u9 t r8 _ _ _ e21) z26 (u_clS e20) (C := RX4) (T := TX4) (N := 7) rfl 1 q776 q778 qs14 q108 q779 uh_X4_other rfl rfl ⟨Nat.le_trans (Nat.le_of_ble_eq_true rfl) hR.1, Nat.le_trans (Nat.le_of_ble_eq_true rfl) hR.2⟩ hC (stk := [.int r22]) rfl (Nat.le_of_ble_eq_true rfl) dX4_cap_14 (fun H locs cells slots hC I => ?_)
  refine lv_istore_n (lv' := [(2, .int r22), (1, .int r8), (0, .ref t)]) X.1 X.2.1 dX4_cap_17 rfl hl (by decide) rfl (fun ls hl => ?_)
  refine lv_aload_n X.1 X.2.1 dX4_cap_18 rfl (lv_at hl 2 rfl) ?_
  obtain ⟨b33, e34, h⟩ := m_bS h
  refine u_Gr X I e34 (C := RX4) (T := TX4) (N := 7) (ref := "SwapPress$Reader") in_X4 rfl (by decide) rfl rfl q291 (fun _ h => h) dX4_cap_19 ?_
  obtain ⟨b35, e36, h⟩ := m_bS h
  refine u_GrN X I e36 (C := RX1) (T := TX1) (N := 5) (ref := "SwapPress$State") (host := "SwapPress") in_X1 rfl (by decide) rfl rfl 7 rfl (fun _ h => h) dX4_cap_22 ?_
  refine lv_bipush (v := 8) X.1 X.2.1 dX4_cap_25 (by decide) ?_
  refine lv_iload_n X.1 X.2.1 dX4_cap_27 rfl (lv_at hl 1 rfl) ?_
  refine lv_imul X.1 X.2.1 dX4_cap_28 ?_
  refine lv_iload_n X.1 X.2.1 dX4_cap_29 rfl (lv_at hl 0 rfl) ?_
  refine lv_iadd X.1 X.2.1 dX4_cap_30 ?_
  refine lv_aload_n X.1 X.2.1 dX4_cap_31 rfl (lv_at hl 2 rfl) ?_
  refine lv_iconst (v := 0) X.1 X.2.1 dX4_cap_32 (by decide) ?_
  refine lv_ldc (v := 99999999) X.1 X.2.1 X.2.2.2.1 (X.2.2.1 _ q848) dX4_cap_33 ?_
  obtain ⟨f37, e38, h⟩ := m_bS h
  rcases Or.symm (u_bxS h) with ⟨q45, u46, C47, C48, e49, z50, h, hq⟩ | ⟨r40, u41, C42, C43, e39, z44, h, hq⟩
  · rw [hq] at hC
    obtain ⟨he, rfl⟩ := m_e3 h
    obtain ⟨rfl, rfl⟩ := m_e4 he
    exact u_callX0 X hl.1 I hA (As := [.int 0, .int 99999999]) (rest := [.int ((8 * r8) + r22), .ref b35]) (uk_X4_number l n D d u23 t 0 99999999 _ _ _ e49) z50 (u_clS e38) (C := RX4) (T := TX4) (N := 7) rfl 2 q781 q783 qs15 q108 q784 uh_X4_number rfl rfl ⟨Nat.le_trans (Nat.le_of_ble_eq_true rfl) hR.1, Nat.le_trans (Nat.le_of_ble_eq_true rfl) hR.2⟩ hC (Nat.le_of_ble_eq_true rfl) dX4_cap_35 (fun H locs cells slots hfs hC I => hthr H locs ls 35 _ _ _ _ rfl hfs hC I)
  rw [hq] at hC
  refine u_callX1 X hl.1 I hA (As := [.int 0, .int 99999999]) (rest := [.int ((8 * r8) + r22), .ref b35]) (uk_X4_number l n D d u23 t 0 99999999 _ _ _ e39) z44 (u_clS e38) (C := RX4) (T := TX4) (N := 7) rfl 2 q781 q783 qs15 q108 q784 uh_X4_number rfl rfl ⟨Nat.le_trans (Nat.le_of_ble_eq_true rfl) hR.1, Nat.le_trans (Nat.le_of_ble_eq_true rfl) hR.2⟩ hC (stk := [.int r40, .int ((8 * r8) + r22), .ref b35]) rfl (Nat.le_of_ble_eq_true rfl) dX4_cap_35 (fun H locs cells slots hC I => ?_)
  obtain ⟨w51, e52, h⟩ := m_bS h
  refine u_SI X I e52 dX4_cap_38 (fun H locs I => ?_)
  obtain ⟨he, rfl⟩ := m_e3 h
  obtain ⟨rfl, rfl⟩ := m_e4 he
  exact hret H locs ls 39 _ _ _ rfl dX4_cap_39 hC I
end S_X4_cap
theorem uk_X4_cap (l : Launch) (n : Nat) (D : va_G) (d : UD) (u : UM) (t : Nat) (r0 : Unit ⊕ Nat) (ur : UM) (C : UC) (h : uf_X4_cap n d u t = some ((r0, ur), C)) : u_MX l yX4_cap (ws_ yX4_cap cX4_cap 3 none) 10 256 C D d u [.ref t] (u_ov (fun (_ : Unit) => none) r0) ur :=
  u_startX (own := RX4) (lvl := [(0, .ref t)]) (by decide) rfl (Nat.le_of_ble_eq_true rfl) rfl (fun p e s m args below meth c ls X hr hlk htab hl hA I hC => uw_X4_cap X hA ⟨Nat.le_refl _, Nat.le_refl _⟩ n u t r0 ur C h (fun H locs ls pc cells slots v0 hv hd hC I => by subst hv; exact vx_ret (u_vret X I hr hlk (u_leftE hC) hd)) (fun H locs ls pc rest cells slots q hv hfs hC I => by subst hv; exact u_outX X I hlk htab hfs (u_leftE hC)) _ _ ls _ _ hC I hl)

/-! SwapPress.trade(IIII)I -/
def uf_X0_trade_J18 (n : Nat) (d : UD) (u : UM) : Option ((Int32 × UM) × UC) :=
  some (((-2), u), (0, 0))
def uf_X0_trade (n : Nat) (d : UD) (u : UM) (t : Nat) (p0 : Int32) (p1 : Int32) (p2 : Int32) (p3 : Int32) : Option ((Int32 × UM) × UC) :=
  m_b (u_cl u 1 t) (fun f1 => m_b (uf_X0_areTwo n d u t p0 p1) (fun r4 => m_if ((r4 : Int32) = 0) (uf_X0_trade_J18 n d u ) (m_b (u_cl u 1 t) (fun f6 => m_b (uf_X0_isKind n d u t p3) (fun r9 => m_if ((r9 : Int32) = 0) (uf_X0_trade_J18 n d u ) (m_b (uf_X0_in n d u ((p2 : Int32).toInt64) 1 999999) (fun r12 => m_if ((r12 : Int32) = 0) (some (((-3), u), (0, 0))) (m_b (u_fr d u 1 0 t) (fun b14 => m_b (u_nr u 2 2 b14) (fun b16 => m_b (u_cl u 13 b16) (fun f18 => m_b (uf_J2_size n d u b16) (fun r21 => m_if ((r21 : Int32) = (40 : Int32)) (some (((-4), u), (0, 0))) (m_b (u_cl u 1 t) (fun f23 => u_bc u.2 (uf_X0_acts n d u t) (fun r26 u27 => m_b (u_fr d u27 1 0 t) (fun b31 => m_b (u_nr u27 2 2 b31) (fun b33 => u_ac (1, 5) (m_b (some (u_nw u27 (.inr (6, [.int 0, .int 0, .int 0, .int 0, .int 0])))) (fun u36 => u_bc u36.2 (uf_X6_init n d u36 u27.2 p0 p1 p2 p3 0) (fun r39 u40 => m_b (u_cl u40 13 b33) (fun f44 => u_bc u40.2 (uf_J2_add n d u40 b33 u27.2) (fun r47 u48 => m_b (u_fr d u48 1 0 t) (fun b52 => m_b (u_nr u48 2 2 b52) (fun b54 => m_b (u_cl u48 13 b54) (fun f56 => m_b (uf_J2_size n d u48 b54) (fun r59 => some ((r59 - 1, u48), (0, 0))))))))))))))))))))))))))))
theorem uh_X0_trade : yX0_trade.cls = RX0 ∧ yX0_trade.cls ≠ "java/lang/invoke/MethodHandle" ∧ yX0_trade.cls ≠ "java/lang/invoke/VarHandle" ∧ (parseMethodDescriptor yX0_trade.desc).map (fun d => d.parameters.length) = some 4 := by decide +kernel
section S_X0_trade
variable {p : Program} {l : Launch} {e : Env} {R : Room} {s : State} {m : MethodId} {args : Array Value} {below : List Frame} {meth : Method} {c : Code} {Q : State → Prop} {D : va_G} {A : Nat → Prop} {d : UD}
theorem uw_X0_trade (X : u_X RX0 D A d p s m c cX0_trade 5 args) (hA : ∀ q, s.heap.size ≤ q → A q) (hR : 8 ≤ R.frames ∧ 211 ≤ R.locals) (n : Nat) (u : UM) (t : Nat) (p0 : Int32) (p1 : Int32) (p2 : Int32) (p3 : Int32) (r0 : Int32) (ur : UM) (C : UC) (h : uf_X0_trade n d u t p0 p1 p2 p3 = some ((r0, ur), C)) (hret : ∀ (H : Heap) (locs : List Loc) (ls : Array Slot) (pc cells slots : Nat), decode cX0_trade pc = .ok (.ireturn, 1) → u_left R cells slots (u_add (0, 0) (0, 0)) → u_I D A s.heap ur H locs cells → W p l e R s m args below meth c H locs cells slots Q (F0 m pc ls [.int r0])) : ∀ (H : Heap) (locs : List Loc) (ls : Array Slot) (cells slots : Nat), u_left R cells slots (u_add C (0, 0)) → u_I D A s.heap u H locs cells → lv_has ls 5 [(0, .ref t), (1, .int p0), (2, .int p1), (3, .int p2), (4, .int p3)] → W p l e R s m args below meth c H locs cells slots Q (F0 m 0 ls []) := by
  have k18 : ∀ (u : UM) (H : Heap) (locs : List Loc) (ls : Array Slot) (cells slots : Nat) (C : UC), uf_X0_trade_J18 n d u = some ((r0, ur), C) → u_left R cells slots (u_add C (0, 0)) → u_I D A s.heap u H locs cells → lv_has ls 5 [] → W p l e R s m args below meth c H locs cells slots Q (F0 m 18 ls []) := by
    intro u H locs ls cells slots C h hC I hl
    unfold uf_X0_trade_J18 at h
    refine lv_bipush (v := (-2)) X.1 X.2.1 dX0_trade_18 (by decide) ?_
    obtain ⟨he, rfl⟩ := m_e3 h
    obtain ⟨rfl, rfl⟩ := m_e4 he
    exact hret H locs ls 20 _ _ dX0_trade_20 hC I
  intro H locs ls cells slots hC I hl
  unfold uf_X0_trade at h
  refine lv_aload_n X.1 X.2.1 dX0_trade_0 rfl (lv_at hl 0 rfl) ?_
  refine lv_iload_n X.1 X.2.1 dX0_trade_1 rfl (lv_at hl 1 rfl) ?_
  refine lv_iload_n X.1 X.2.1 dX0_trade_2 rfl (lv_at hl 2 rfl) ?_
  obtain ⟨f1, e2, h⟩ := m_bS h
  obtain ⟨r4, e3, h⟩ := m_bS h
  refine u_callVp X hl.1 I hA (As := [.int p0, .int p1]) (rest := []) (uk_X0_areTwo l n D d u t p0 p1 _ e3) (u_clS e2) (C := RX0) (T := TX0) (N := 9) rfl 2 q862 q864 qs18 q101 q865 uh_X0_areTwo rfl rfl ⟨Nat.le_trans (Nat.le_of_ble_eq_true rfl) hR.1, Nat.le_trans (Nat.le_of_ble_eq_true rfl) hR.2⟩ (u_leftLe hC) (stk := [.int r4]) rfl (Nat.le_of_ble_eq_true rfl) dX0_trade_3 (fun H locs I => ?_)
  refine lv_if_eq (tgt := 18) X.1 X.2.1 dX0_trade_6 (by decide) (fun c5 => ?_) (fun c5 => ?_)
  · replace h := m_ifT c5 h
    exact k18 u H locs ls _ _ _ h hC I (lv_sub hl [] rfl)
  · replace h := m_ifF c5 h
    refine lv_aload_n X.1 X.2.1 dX0_trade_9 rfl (lv_at hl 0 rfl) ?_
    refine lv_iload X.1 X.2.1 dX0_trade_10 (lv_at hl 4 rfl) ?_
    obtain ⟨f6, e7, h⟩ := m_bS h
    obtain ⟨r9, e8, h⟩ := m_bS h
    refine u_callVp X hl.1 I hA (As := [.int p3]) (rest := []) (uk_X0_isKind l n D d u t p3 _ e8) (u_clS e7) (C := RX0) (T := TX0) (N := 9) rfl 1 q875 q877 qs20 q101 q878 uh_X0_isKind rfl rfl ⟨Nat.le_trans (Nat.le_of_ble_eq_true rfl) hR.1, Nat.le_trans (Nat.le_of_ble_eq_true rfl) hR.2⟩ (u_leftLe hC) (stk := [.int r9]) rfl (Nat.le_of_ble_eq_true rfl) dX0_trade_12 (fun H locs I => ?_)
    refine lv_if_ne (tgt := 21) X.1 X.2.1 dX0_trade_15 (by decide) (fun c10 => ?_) (fun c10 => ?_)
    · replace h := m_ifF c10 h
      refine lv_iload_n X.1 X.2.1 dX0_trade_21 rfl (lv_at hl 3 rfl) ?_
      refine lv_i2l X.1 X.2.1 dX0_trade_22 rfl ?_
      refine lv_lconst (v := 1) X.1 X.2.1 dX0_trade_23 (by decide) ?_
      refine lv_ldc2 (v := 999999) X.1 X.2.1 X.2.2.2.1 (X.2.2.1 _ q879) dX0_trade_24 ?_
      obtain ⟨r12, e11, h⟩ := m_bS h
      refine u_callSp X hl.1 I hA (As := [.long ((p2 : Int32).toInt64), .long 1, .long 999999]) (rest := []) (uk_X0_in l n D d u ((p2 : Int32).toInt64) 1 999999 _ e11) 3 q279 q280 q101 q281 uh_X0_in.2 rfl rfl ⟨Nat.le_trans (Nat.le_of_ble_eq_true rfl) hR.1, Nat.le_trans (Nat.le_of_ble_eq_true rfl) hR.2⟩ (u_leftLe hC) (stk := [.int r12]) rfl (Nat.le_of_ble_eq_true rfl) dX0_trade_27 (fun H locs I => ?_)
      refine lv_if_ne (tgt := 36) X.1 X.2.1 dX0_trade_30 (by decide) (fun c13 => ?_) (fun c13 => ?_)
      · replace h := m_ifF c13 h
        refine lv_aload_n X.1 X.2.1 dX0_trade_36 rfl (lv_at hl 0 rfl) ?_
        obtain ⟨b14, e15, h⟩ := m_bS h
        refine u_Gr X I e15 (C := RX0) (T := TX0) (N := 9) (ref := "SwapPress") in_X0 rfl (by decide) rfl rfl q235 (fun _ h => h) dX0_trade_37 ?_
        obtain ⟨b16, e17, h⟩ := m_bS h
        refine u_GrN X I e17 (C := RX1) (T := TX1) (N := 5) (ref := "SwapPress$State") (host := "SwapPress") in_X1 rfl (by decide) rfl rfl 4 rfl (fun _ h => h) dX0_trade_40 ?_
        obtain ⟨f18, e19, h⟩ := m_bS h
        obtain ⟨r21, e20, h⟩ := m_bS h
        refine u_callVp X hl.1 I hA (As := []) (rest := []) (uk_J2_size l n D d u b16 _ e20) (u_clS e19) (C := RJ2) (T := TJ2) (N := 3) rfl 0 q853 q667 q668 q105 q669 uh_J2_size rfl rfl ⟨Nat.le_trans (Nat.le_of_ble_eq_true rfl) hR.1, Nat.le_trans (Nat.le_of_ble_eq_true rfl) hR.2⟩ (u_leftLe hC) (stk := [.int r21]) rfl (Nat.le_of_ble_eq_true rfl) dX0_trade_43 (fun H locs I => ?_)
        refine lv_bipush (v := 40) X.1 X.2.1 dX0_trade_46 (by decide) ?_
        refine lv_icmp_ne (tgt := 54) X.1 X.2.1 dX0_trade_48 (by decide) (fun c22 => ?_) (fun c22 => ?_)
        · replace h := m_ifF c22 h
          refine lv_aload_n X.1 X.2.1 dX0_trade_54 rfl (lv_at hl 0 rfl) ?_
          obtain ⟨f23, e24, h⟩ := m_bS h
          obtain ⟨r26, u27, C28, C29, e25, z30, h, hq⟩ := u_bcS h
          rw [hq] at hC
          refine u_callV X hl.1 I hA (As := []) (rest := []) (uk_X0_acts l n D d u t _ _ e25) z30 (u_clS e24) (C := RX0) (T := TX0) (N := 9) rfl 0 q880 q882 qs21 q101 q883 uh_X0_acts rfl rfl ⟨Nat.le_trans (Nat.le_of_ble_eq_true rfl) hR.1, Nat.le_trans (Nat.le_of_ble_eq_true rfl) hR.2⟩ hC (stk := []) rfl (Nat.le_of_ble_eq_true rfl) dX0_trade_55 (fun H locs cells slots hC I => ?_)
          refine lv_aload_n X.1 X.2.1 dX0_trade_58 rfl (lv_at hl 0 rfl) ?_
          obtain ⟨b31, e32, h⟩ := m_bS h
          refine u_Gr X I e32 (C := RX0) (T := TX0) (N := 9) (ref := "SwapPress") in_X0 rfl (by decide) rfl rfl q235 (fun _ h => h) dX0_trade_59 ?_
          obtain ⟨b33, e34, h⟩ := m_bS h
          refine u_GrN X I e34 (C := RX1) (T := TX1) (N := 5) (ref := "SwapPress$State") (host := "SwapPress") in_X1 rfl (by decide) rfl rfl 4 rfl (fun _ h => h) dX0_trade_62 ?_
          obtain ⟨C35, h, hq⟩ := u_acS h
          rw [hq] at hC
          obtain ⟨u36, e37, h⟩ := m_bS h
          refine u_NO X I hA 6 (C := RX6) (T := TX6) (N := 5) in_X6 tyX6 tyX6_ok q915 q786 q122 rfl (fs := [.int 0, .int 0, .int 0, .int 0, .int 0]) e37 (fun j hj => by match j, hj with | 0, _ => rfl | 1, _ => rfl | 2, _ => rfl | 3, _ => rfl | 4, _ => rfl) hC dX0_trade_65 (fun H cells slots hC I => ?_)
          refine lv_dup X.1 X.2.1 dX0_trade_68 rfl ?_
          refine lv_iload_n X.1 X.2.1 dX0_trade_69 rfl (lv_at hl 1 rfl) ?_
          refine lv_iload_n X.1 X.2.1 dX0_trade_70 rfl (lv_at hl 2 rfl) ?_
          refine lv_iload_n X.1 X.2.1 dX0_trade_71 rfl (lv_at hl 3 rfl) ?_
          refine lv_iload X.1 X.2.1 dX0_trade_72 (lv_at hl 4 rfl) ?_
          refine lv_iconst (v := 0) X.1 X.2.1 dX0_trade_74 (by decide) ?_
          obtain ⟨r39, u40, C41, C42, e38, z43, h, hq⟩ := u_bcS h
          rw [hq] at hC
          refine u_callI X hl.1 I hA (As := [.int p0, .int p1, .int p2, .int p3, .int 0]) (rest := [.ref u27.2, .ref b33]) (uk_X6_init l n D d u36 u27.2 p0 p1 p2 p3 0 _ _ e38) z43 5 q916 q788 q122 q789 rfl uh_X6_init.2 rfl rfl ⟨Nat.le_trans (Nat.le_of_ble_eq_true rfl) hR.1, Nat.le_trans (Nat.le_of_ble_eq_true rfl) hR.2⟩ hC (Nat.le_of_ble_eq_true rfl) dX0_trade_75 (fun H locs cells slots hC I => ?_)
          obtain ⟨f44, e45, h⟩ := m_bS h
          obtain ⟨r47, u48, C49, C50, e46, z51, h, hq⟩ := u_bcS h
          rw [hq] at hC
          refine u_callV X hl.1 I hA (As := [.ref u27.2]) (rest := []) (uk_J2_add l n D d u40 b33 u27.2 _ _ _ e46) z51 (u_clS e45) (C := RJ2) (T := TJ2) (N := 3) rfl 1 q914 q719 q720 q105 q721 uh_J2_add rfl rfl ⟨Nat.le_trans (Nat.le_of_ble_eq_true rfl) hR.1, Nat.le_trans (Nat.le_of_ble_eq_true rfl) hR.2⟩ hC (stk := [.int r47]) rfl (Nat.le_of_ble_eq_true rfl) dX0_trade_78 (fun H locs cells slots hC I => ?_)
          refine lv_pop X.1 X.2.1 dX0_trade_81 rfl ?_
          refine lv_aload_n X.1 X.2.1 dX0_trade_82 rfl (lv_at hl 0 rfl) ?_
          obtain ⟨b52, e53, h⟩ := m_bS h
          refine u_Gr X I e53 (C := RX0) (T := TX0) (N := 9) (ref := "SwapPress") in_X0 rfl (by decide) rfl rfl q235 (fun _ h => h) dX0_trade_83 ?_
          obtain ⟨b54, e55, h⟩ := m_bS h
          refine u_GrN X I e55 (C := RX1) (T := TX1) (N := 5) (ref := "SwapPress$State") (host := "SwapPress") in_X1 rfl (by decide) rfl rfl 4 rfl (fun _ h => h) dX0_trade_86 ?_
          obtain ⟨f56, e57, h⟩ := m_bS h
          obtain ⟨r59, e58, h⟩ := m_bS h
          refine u_callVp X hl.1 I hA (As := []) (rest := []) (uk_J2_size l n D d u48 b54 _ e58) (u_clS e57) (C := RJ2) (T := TJ2) (N := 3) rfl 0 q853 q667 q668 q105 q669 uh_J2_size rfl rfl ⟨Nat.le_trans (Nat.le_of_ble_eq_true rfl) hR.1, Nat.le_trans (Nat.le_of_ble_eq_true rfl) hR.2⟩ (u_leftLe hC) (stk := [.int r59]) rfl (Nat.le_of_ble_eq_true rfl) dX0_trade_89 (fun H locs I => ?_)
          refine lv_iconst (v := 1) X.1 X.2.1 dX0_trade_92 (by decide) ?_
          refine lv_isub X.1 X.2.1 dX0_trade_93 ?_
          obtain ⟨he, rfl⟩ := m_e3 h
          obtain ⟨rfl, rfl⟩ := m_e4 he
          exact hret H locs ls 94 _ _ dX0_trade_94 hC I
        · replace h := m_ifT c22 h
          refine lv_bipush (v := (-4)) X.1 X.2.1 dX0_trade_51 (by decide) ?_
          obtain ⟨he, rfl⟩ := m_e3 h
          obtain ⟨rfl, rfl⟩ := m_e4 he
          exact hret H locs ls 53 _ _ dX0_trade_53 hC I
      · replace h := m_ifT c13 h
        refine lv_bipush (v := (-3)) X.1 X.2.1 dX0_trade_33 (by decide) ?_
        obtain ⟨he, rfl⟩ := m_e3 h
        obtain ⟨rfl, rfl⟩ := m_e4 he
        exact hret H locs ls 35 _ _ dX0_trade_35 hC I
    · replace h := m_ifT c10 h
      exact k18 u H locs ls _ _ _ h hC I (lv_sub hl [] rfl)
end S_X0_trade
theorem uk_X0_trade (l : Launch) (n : Nat) (D : va_G) (d : UD) (u : UM) (t : Nat) (p0 : Int32) (p1 : Int32) (p2 : Int32) (p3 : Int32) (r0 : Int32) (ur : UM) (C : UC) (h : uf_X0_trade n d u t p0 p1 p2 p3 = some ((r0, ur), C)) : u_M l yX0_trade (ws_ yX0_trade cX0_trade 5 (some .int)) 8 211 C D d u [.ref t, .int p0, .int p1, .int p2, .int p3] (some (.int r0)) ur :=
  u_start (own := RX0) (lvl := [(0, .ref t), (1, .int p0), (2, .int p1), (3, .int p2), (4, .int p3)]) (by decide) rfl (Nat.le_of_ble_eq_true rfl) rfl (fun p e s m args below meth c ls X hr hlk hI hl hA I hC => uw_X0_trade X hA ⟨Nat.le_refl _, Nat.le_refl _⟩ n u t p0 p1 p2 p3 r0 ur C h (fun H locs ls pc cells slots hd hC I => u_iret X I hr hlk (u_leftE hC) hd) _ _ ls _ _ hC I hl)

/-! SwapPress.line(II)I -/
def uf_X0_line_J58 (n : Nat) (d : UD) (u : UM) (t0 : Int32) : Option ((Int32 × UM) × UC) :=
  some ((t0, u), (0, 0))
def uf_X0_line (n : Nat) (d : UD) (u : UM) (t : Nat) (p0 : Int32) (p1 : Int32) : Option ((Int32 × UM) × UC) :=
  m_b (u_cl u 1 t) (fun f1 => m_b (uf_X0_isTrade n d u t p0) (fun r4 => m_if ((r4 : Int32) = 0) (some (((-2), u), (0, 0))) (m_if (0 ≤ (p1 : Int32)) (m_b (u_fr d u 1 0 t) (fun b7 => m_b (u_nr u 2 2 b7) (fun b9 => m_b (u_cl u 13 b9) (fun f11 => m_b (uf_J2_get n d u b9 p0) (fun r14 => m_b (u_cl u 6 r14) (fun f15 => m_b (u_cl u 1 t) (fun f17 => u_bc u.2 (uf_X0_lineOf n d u t r14) (fun r20 u21 => m_b (u_cl u21 14 r20) (fun f27 => m_b (uf_J4_length n d u21 r20) (fun r25 => m_if ((r25 : Int32) ≤ (p1 : Int32)) (uf_X0_line_J58 n d u21 ((-1))) (m_b (u_cl u21 14 r20) (fun f32 => m_b (uf_J4_charAt n d u21 r20 p1) (fun r30 => uf_X0_line_J58 n d u21 r30))))))))))))) (some (((-3), u), (0, 0))))))
theorem uh_X0_line : yX0_line.cls = RX0 ∧ yX0_line.cls ≠ "java/lang/invoke/MethodHandle" ∧ yX0_line.cls ≠ "java/lang/invoke/VarHandle" ∧ (parseMethodDescriptor yX0_line.desc).map (fun d => d.parameters.length) = some 2 := by decide +kernel
section S_X0_line
variable {p : Program} {l : Launch} {e : Env} {R : Room} {s : State} {m : MethodId} {args : Array Value} {below : List Frame} {meth : Method} {c : Code} {Q : State → Prop} {D : va_G} {A : Nat → Prop} {d : UD}
theorem uw_X0_line (X : u_X RX0 D A d p s m c cX0_line 4 args) (hA : ∀ q, s.heap.size ≤ q → A q) (hR : 8 ≤ R.frames ∧ 197 ≤ R.locals) (n : Nat) (u : UM) (t : Nat) (p0 : Int32) (p1 : Int32) (r0 : Int32) (ur : UM) (C : UC) (h : uf_X0_line n d u t p0 p1 = some ((r0, ur), C)) (hret : ∀ (H : Heap) (locs : List Loc) (ls : Array Slot) (pc cells slots : Nat), decode cX0_line pc = .ok (.ireturn, 1) → u_left R cells slots (u_add (0, 0) (0, 0)) → u_I D A s.heap ur H locs cells → W p l e R s m args below meth c H locs cells slots Q (F0 m pc ls [.int r0])) : ∀ (H : Heap) (locs : List Loc) (ls : Array Slot) (cells slots : Nat), u_left R cells slots (u_add C (0, 0)) → u_I D A s.heap u H locs cells → lv_has ls 4 [(0, .ref t), (1, .int p0), (2, .int p1)] → W p l e R s m args below meth c H locs cells slots Q (F0 m 0 ls []) := by
  have k58 : ∀ (u : UM) (t0 : Int32) (H : Heap) (locs : List Loc) (ls : Array Slot) (cells slots : Nat) (C : UC), uf_X0_line_J58 n d u t0 = some ((r0, ur), C) → u_left R cells slots (u_add C (0, 0)) → u_I D A s.heap u H locs cells → lv_has ls 4 [] → W p l e R s m args below meth c H locs cells slots Q (F0 m 58 ls [.int t0]) := by
    intro u t0 H locs ls cells slots C h hC I hl
    unfold uf_X0_line_J58 at h
    obtain ⟨he, rfl⟩ := m_e3 h
    obtain ⟨rfl, rfl⟩ := m_e4 he
    exact hret H locs ls 58 _ _ dX0_line_58 hC I
  intro H locs ls cells slots hC I hl
  unfold uf_X0_line at h
  refine lv_aload_n X.1 X.2.1 dX0_line_0 rfl (lv_at hl 0 rfl) ?_
  refine lv_iload_n X.1 X.2.1 dX0_line_1 rfl (lv_at hl 1 rfl) ?_
  obtain ⟨f1, e2, h⟩ := m_bS h
  obtain ⟨r4, e3, h⟩ := m_bS h
  refine u_callVp X hl.1 I hA (As := [.int p0]) (rest := []) (uk_X0_isTrade l n D d u t p0 _ e3) (u_clS e2) (C := RX0) (T := TX0) (N := 9) rfl 1 q921 q923 qs23 q101 q924 uh_X0_isTrade rfl rfl ⟨Nat.le_trans (Nat.le_of_ble_eq_true rfl) hR.1, Nat.le_trans (Nat.le_of_ble_eq_true rfl) hR.2⟩ (u_leftLe hC) (stk := [.int r4]) rfl (Nat.le_of_ble_eq_true rfl) dX0_line_2 (fun H locs I => ?_)
  refine lv_if_ne (tgt := 11) X.1 X.2.1 dX0_line_5 (by decide) (fun c5 => ?_) (fun c5 => ?_)
  · replace h := m_ifF c5 h
    refine lv_iload_n X.1 X.2.1 dX0_line_11 rfl (lv_at hl 2 rfl) ?_
    refine lv_if_ge (tgt := 18) X.1 X.2.1 dX0_line_12 (by decide) (fun c6 => ?_) (fun c6 => ?_)
    · replace h := m_ifT c6 h
      refine lv_aload_n X.1 X.2.1 dX0_line_18 rfl (lv_at hl 0 rfl) ?_
      refine lv_aload_n X.1 X.2.1 dX0_line_19 rfl (lv_at hl 0 rfl) ?_
      obtain ⟨b7, e8, h⟩ := m_bS h
      refine u_Gr X I e8 (C := RX0) (T := TX0) (N := 9) (ref := "SwapPress") in_X0 rfl (by decide) rfl rfl q235 (fun _ h => h) dX0_line_20 ?_
      obtain ⟨b9, e10, h⟩ := m_bS h
      refine u_GrN X I e10 (C := RX1) (T := TX1) (N := 5) (ref := "SwapPress$State") (host := "SwapPress") in_X1 rfl (by decide) rfl rfl 4 rfl (fun _ h => h) dX0_line_23 ?_
      refine lv_iload_n X.1 X.2.1 dX0_line_26 rfl (lv_at hl 1 rfl) ?_
      obtain ⟨f11, e12, h⟩ := m_bS h
      obtain ⟨r14, e13, h⟩ := m_bS h
      refine u_callVp X hl.1 I hA (As := [.int p0]) (rest := [.ref t]) (uk_J2_get l n D d u b9 p0 _ e13) (u_clS e12) (C := RJ2) (T := TJ2) (N := 3) rfl 1 q929 q823 q824 q105 q825 uh_J2_get rfl rfl ⟨Nat.le_trans (Nat.le_of_ble_eq_true rfl) hR.1, Nat.le_trans (Nat.le_of_ble_eq_true rfl) hR.2⟩ (u_leftLe hC) (stk := [.ref r14, .ref t]) rfl (Nat.le_of_ble_eq_true rfl) dX0_line_27 (fun H locs I => ?_)
      obtain ⟨f15, e16, h⟩ := m_bS h
      refine u_cast X I (u_clS e16) (C := RX6) (T := TX6) (N := 5) rfl q915 dX0_line_30 ?_
      obtain ⟨f17, e18, h⟩ := m_bS h
      obtain ⟨r20, u21, C22, C23, e19, z24, h, hq⟩ := u_bcS h
      rw [hq] at hC
      refine u_callV X hl.1 I hA (As := [.ref r14]) (rest := []) (uk_X0_lineOf l n D d u t r14 _ _ _ e19) z24 (u_clS e18) (C := RX0) (T := TX0) (N := 9) rfl 1 q1376 q1378 qs42 q101 q1379 uh_X0_lineOf rfl rfl ⟨Nat.le_trans (Nat.le_of_ble_eq_true rfl) hR.1, Nat.le_trans (Nat.le_of_ble_eq_true rfl) hR.2⟩ hC (stk := [.ref r20]) rfl (Nat.le_of_ble_eq_true rfl) dX0_line_33 (fun H locs cells slots hC I => ?_)
      refine lv_astore_n (lv' := [(3, .ref r20), (0, .ref t), (1, .int p0), (2, .int p1)]) X.1 X.2.1 dX0_line_36 rfl hl (by decide) rfl (fun ls hl => ?_)
      refine lv_iload_n X.1 X.2.1 dX0_line_37 rfl (lv_at hl 3 rfl) ?_
      refine lv_aload_n X.1 X.2.1 dX0_line_38 rfl (lv_at hl 0 rfl) ?_
      obtain ⟨f27, e28, h⟩ := m_bS h
      obtain ⟨r25, e26, h⟩ := m_bS h
      refine u_callFp X hl.1 I hA (As := []) (rest := [.int p1]) (uk_J4_length l n D d u21 r20 _ e26) (u_clS e28) (C := RJ4) (T := TJ4) (N := 4) rfl 0 7 rfl q1459 q1467 q481 q110 q482 uf_hd_2 rfl rfl ⟨Nat.le_trans (Nat.le_of_ble_eq_true rfl) hR.1, Nat.le_trans (Nat.le_of_ble_eq_true rfl) hR.2⟩ (u_leftLe hC) (stk := [.int r25, .int p1]) rfl (Nat.le_of_ble_eq_true rfl) dX0_line_39 (fun H locs I => ?_)
      refine lv_icmp_ge (tgt := 57) X.1 X.2.1 dX0_line_44 (by decide) (fun c29 => ?_) (fun c29 => ?_)
      · replace h := m_ifT c29 h
        refine lv_iconst (v := (-1)) X.1 X.2.1 dX0_line_57 (by decide) ?_
        exact k58 u21 ((-1)) H locs ls _ _ _ h hC I (lv_sub hl [] rfl)
      · replace h := m_ifF c29 h
        refine lv_aload_n X.1 X.2.1 dX0_line_47 rfl (lv_at hl 0 rfl) ?_
        refine lv_iload_n X.1 X.2.1 dX0_line_48 rfl (lv_at hl 3 rfl) ?_
        obtain ⟨f32, e33, h⟩ := m_bS h
        obtain ⟨r30, e31, h⟩ := m_bS h
        refine u_callFp X hl.1 I hA (As := [.int p1]) (rest := []) (uk_J4_charAt l n D d u21 r20 p1 _ e31) (u_clS e33) (C := RJ4) (T := TJ4) (N := 4) rfl 1 9 rfl q1471 q1486 q1488 q110 q1490 uf_hd_3 rfl rfl ⟨Nat.le_trans (Nat.le_of_ble_eq_true rfl) hR.1, Nat.le_trans (Nat.le_of_ble_eq_true rfl) hR.2⟩ (u_leftLe hC) (stk := [.int r30]) rfl (Nat.le_of_ble_eq_true rfl) dX0_line_49 (fun H locs I => ?_)
        refine lv_goto (tgt := 58) X.1 X.2.1 dX0_line_54 (by decide) ?_
        exact k58 u21 r30 H locs ls _ _ _ h hC I (lv_sub hl [] rfl)
    · replace h := m_ifF c6 h
      refine lv_bipush (v := (-3)) X.1 X.2.1 dX0_line_15 (by decide) ?_
      obtain ⟨he, rfl⟩ := m_e3 h
      obtain ⟨rfl, rfl⟩ := m_e4 he
      exact hret H locs ls 17 _ _ dX0_line_17 hC I
  · replace h := m_ifT c5 h
    refine lv_bipush (v := (-2)) X.1 X.2.1 dX0_line_8 (by decide) ?_
    obtain ⟨he, rfl⟩ := m_e3 h
    obtain ⟨rfl, rfl⟩ := m_e4 he
    exact hret H locs ls 10 _ _ dX0_line_10 hC I
end S_X0_line
theorem uk_X0_line (l : Launch) (n : Nat) (D : va_G) (d : UD) (u : UM) (t : Nat) (p0 : Int32) (p1 : Int32) (r0 : Int32) (ur : UM) (C : UC) (h : uf_X0_line n d u t p0 p1 = some ((r0, ur), C)) : u_M l yX0_line (ws_ yX0_line cX0_line 4 (some .int)) 8 197 C D d u [.ref t, .int p0, .int p1] (some (.int r0)) ur :=
  u_start (own := RX0) (lvl := [(0, .ref t), (1, .int p0), (2, .int p1)]) (by decide) rfl (Nat.le_of_ble_eq_true rfl) rfl (fun p e s m args below meth c ls X hr hlk hI hl hA I hC => uw_X0_line X hA ⟨Nat.le_refl _, Nat.le_refl _⟩ n u t p0 p1 r0 ur C h (fun H locs ls pc cells slots hd hC I => u_iret X I hr hlk (u_leftE hC) hd) _ _ ls _ _ hC I hl)

/-! SwapPress$Reader.comes(Ljava/util/ArrayList;I)V -/
def uf_X4_comes_J52 (n : Nat) (d : UD) (u : UM) (v0 : Nat) : Option (((Unit ⊕ Nat) × UM) × UC) :=
  m_b (u_cl u 4 v0) (fun f31 => u_bc u.2 (uf_X4_wrong n d u v0 3) (fun r34 u35 => m_b (u_cl u35 5 r34) (fun f39 => some ((.inr r34, u35), (0, 0)))))
def uf_X4_comes (n : Nat) (d : UD) (u : UM) (t : Nat) (p0 : Nat) (p1 : Int32) : Option (((Unit ⊕ Nat) × UM) × UC) :=
  m_b (u_cl u 13 p0) (fun f1 => m_b (uf_J2_size n d u p0) (fun r4 => m_if ((r4 : Int32) = (p1 : Int32)) (m_b (u_cl u 4 t) (fun f62 => u_bc u.2 (uf_X4_wrong n d u t 4) (fun r65 u66 => m_b (u_cl u66 5 r65) (fun f70 => some ((.inr r65, u66), (0, 0)))))) (m_b (u_cl u 4 t) (fun f6 => u_bx u.2 (uf_X4_name n d u t) (fun r9 u10 => m_b (u_fr d u10 4 1 t) (fun b20 => m_b (u_nr u10 2 0 b20) (fun b22 => m_b (u_fr d u10 4 5 t) (fun b24 => m_b (u_cl u10 13 b22) (fun f26 => m_b (uf_J2_contains n d u10 b22 b24) (fun r29 => m_if ((r29 : Int32) = 0) (m_b (u_fr d u10 4 1 t) (fun b41 => m_b (u_nr u10 2 1 b41) (fun b43 => m_b (u_fr d u10 4 5 t) (fun b45 => m_b (u_cl u10 13 b43) (fun f47 => m_b (uf_J2_contains n d u10 b43 b45) (fun r50 => m_if ((r50 : Int32) = 0) (m_b (u_fr d u10 4 5 t) (fun b52 => m_b (u_cl u10 13 p0) (fun f54 => u_bc u10.2 (uf_J2_add n d u10 p0 b52) (fun r57 u58 => some ((.inl (()), u58), (0, 0)))))) (uf_X4_comes_J52 n d u10 t))))))) (uf_X4_comes_J52 n d u10 t))))))) (fun q14 u15 => some ((.inr q14, u15), (0, 0)))))))
theorem uh_X4_comes : yX4_comes.cls = RX4 ∧ yX4_comes.cls ≠ "java/lang/invoke/MethodHandle" ∧ yX4_comes.cls ≠ "java/lang/invoke/VarHandle" ∧ (parseMethodDescriptor yX4_comes.desc).map (fun d => d.parameters.length) = some 2 := by decide +kernel
section S_X4_comes
variable {p : Program} {l : Launch} {e : Env} {R : Room} {s : State} {m : MethodId} {args : Array Value} {below : List Frame} {meth : Method} {c : Code} {Q : State → Prop} {D : va_G} {A : Nat → Prop} {d : UD}
theorem uw_X4_comes (X : u_X RX4 D A d p s m c cX4_comes 3 args) (hA : ∀ q, s.heap.size ≤ q → A q) (hR : 8 ≤ R.frames ∧ 212 ≤ R.locals) (n : Nat) (u : UM) (t : Nat) (p0 : Nat) (p1 : Int32) (r0 : Unit ⊕ Nat) (ur : UM) (C : UC) (h : uf_X4_comes n d u t p0 p1 = some ((r0, ur), C)) (hret : ∀ (H : Heap) (locs : List Loc) (ls : Array Slot) (pc cells slots : Nat) (v0 : Unit), r0 = .inl v0 → decode cX4_comes pc = .ok (.return_, 1) → u_left R cells slots (u_add (0, 0) (0, 0)) → u_I D A s.heap ur H locs cells → W p l e R s m args below meth c H locs cells slots Q (F0 m pc ls [])) (hthr : ∀ (H : Heap) (locs : List Loc) (ls : Array Slot) (pc : Nat) (rest : List Value) (cells slots q : Nat), r0 = .inr q → (∃ fs, u_get ur.1 q = some (.inr (5, fs))) → u_left R cells slots (u_add (0, 0) (0, 0)) → u_I D A s.heap ur H locs cells → vx_W p l e R s m args below meth c H locs cells slots Q (F0 m pc ls rest) q) : ∀ (H : Heap) (locs : List Loc) (ls : Array Slot) (cells slots : Nat), u_left R cells slots (u_add C (0, 0)) → u_I D A s.heap u H locs cells → lv_has ls 3 [(0, .ref t), (1, .ref p0), (2, .int p1)] → W p l e R s m args below meth c H locs cells slots Q (F0 m 0 ls []) := by
  have k52 : ∀ (u : UM) (v0 : Nat) (H : Heap) (locs : List Loc) (ls : Array Slot) (cells slots : Nat) (C : UC), uf_X4_comes_J52 n d u v0 = some ((r0, ur), C) → u_left R cells slots (u_add C (0, 0)) → u_I D A s.heap u H locs cells → lv_has ls 3 [(0, .ref v0)] → W p l e R s m args below meth c H locs cells slots Q (F0 m 52 ls []) := by
    intro u v0 H locs ls cells slots C h hC I hl
    unfold uf_X4_comes_J52 at h
    refine lv_aload_n X.1 X.2.1 dX4_comes_52 rfl (lv_at hl 0 rfl) ?_
    refine lv_iconst (v := 3) X.1 X.2.1 dX4_comes_53 (by decide) ?_
    obtain ⟨f31, e32, h⟩ := m_bS h
    obtain ⟨r34, u35, C36, C37, e33, z38, h, hq⟩ := u_bcS h
    rw [hq] at hC
    refine u_callV X hl.1 I hA (As := [.int 3]) (rest := []) (uk_X4_wrong l n D d u v0 3 _ _ _ e33) z38 (u_clS e32) (C := RX4) (T := TX4) (N := 7) rfl 1 q524 q526 qs5 q108 q527 uh_X4_wrong rfl rfl ⟨Nat.le_trans (Nat.le_of_ble_eq_true rfl) hR.1, Nat.le_trans (Nat.le_of_ble_eq_true rfl) hR.2⟩ hC (stk := [.ref r34]) rfl (Nat.le_of_ble_eq_true rfl) dX4_comes_54 (fun H locs cells slots hC I => ?_)
    obtain ⟨f39, e40, h⟩ := m_bS h
    obtain ⟨he, rfl⟩ := m_e3 h
    obtain ⟨rfl, rfl⟩ := m_e4 he
    exact vx_athrow X.1 X.2.1 dX4_comes_57 (hthr H locs ls 57 _ _ _ _ rfl ⟨_, u_clS e40⟩ hC I)
  intro H locs ls cells slots hC I hl
  unfold uf_X4_comes at h
  refine lv_aload_n X.1 X.2.1 dX4_comes_0 rfl (lv_at hl 1 rfl) ?_
  obtain ⟨f1, e2, h⟩ := m_bS h
  obtain ⟨r4, e3, h⟩ := m_bS h
  refine u_callVp X hl.1 I hA (As := []) (rest := []) (uk_J2_size l n D d u p0 _ e3) (u_clS e2) (C := RJ2) (T := TJ2) (N := 3) rfl 0 q666 q667 q668 q105 q669 uh_J2_size rfl rfl ⟨Nat.le_trans (Nat.le_of_ble_eq_true rfl) hR.1, Nat.le_trans (Nat.le_of_ble_eq_true rfl) hR.2⟩ (u_leftLe hC) (stk := [.int r4]) rfl (Nat.le_of_ble_eq_true rfl) dX4_comes_1 (fun H locs I => ?_)
  refine lv_iload_n X.1 X.2.1 dX4_comes_4 rfl (lv_at hl 2 rfl) ?_
  refine lv_icmp_ne (tgt := 14) X.1 X.2.1 dX4_comes_5 (by decide) (fun c5 => ?_) (fun c5 => ?_)
  · replace h := m_ifF c5 h
    refine lv_aload_n X.1 X.2.1 dX4_comes_14 rfl (lv_at hl 0 rfl) ?_
    obtain ⟨f6, e7, h⟩ := m_bS h
    rcases Or.symm (u_bxS h) with ⟨q14, u15, C16, C17, e18, z19, h, hq⟩ | ⟨r9, u10, C11, C12, e8, z13, h, hq⟩
    · rw [hq] at hC
      obtain ⟨he, rfl⟩ := m_e3 h
      obtain ⟨rfl, rfl⟩ := m_e4 he
      exact u_callX0 X hl.1 I hA (As := []) (rest := []) (uk_X4_name l n D d u t _ _ _ e18) z19 (u_clS e7) (C := RX4) (T := TX4) (N := 7) rfl 0 q670 q672 qs8 q108 q673 uh_X4_name rfl rfl ⟨Nat.le_trans (Nat.le_of_ble_eq_true rfl) hR.1, Nat.le_trans (Nat.le_of_ble_eq_true rfl) hR.2⟩ hC (Nat.le_of_ble_eq_true rfl) dX4_comes_15 (fun H locs cells slots hfs hC I => hthr H locs ls 15 _ _ _ _ rfl hfs hC I)
    rw [hq] at hC
    refine u_callX1 X hl.1 I hA (As := []) (rest := []) (uk_X4_name l n D d u t _ _ _ e8) z13 (u_clS e7) (C := RX4) (T := TX4) (N := 7) rfl 0 q670 q672 qs8 q108 q673 uh_X4_name rfl rfl ⟨Nat.le_trans (Nat.le_of_ble_eq_true rfl) hR.1, Nat.le_trans (Nat.le_of_ble_eq_true rfl) hR.2⟩ hC (stk := []) rfl (Nat.le_of_ble_eq_true rfl) dX4_comes_15 (fun H locs cells slots hC I => ?_)
    refine lv_aload_n X.1 X.2.1 dX4_comes_18 rfl (lv_at hl 0 rfl) ?_
    obtain ⟨b20, e21, h⟩ := m_bS h
    refine u_Gr X I e21 (C := RX4) (T := TX4) (N := 7) (ref := "SwapPress$Reader") in_X4 rfl (by decide) rfl rfl q291 (fun _ h => h) dX4_comes_19 ?_
    obtain ⟨b22, e23, h⟩ := m_bS h
    refine u_GrN X I e23 (C := RX1) (T := TX1) (N := 5) (ref := "SwapPress$State") (host := "SwapPress") in_X1 rfl (by decide) rfl rfl 0 rfl (fun _ h => h) dX4_comes_22 ?_
    refine lv_aload_n X.1 X.2.1 dX4_comes_25 rfl (lv_at hl 0 rfl) ?_
    obtain ⟨b24, e25, h⟩ := m_bS h
    refine u_Gr X I e25 (C := RX4) (T := TX4) (N := 7) (ref := "SwapPress$Reader") in_X4 rfl (by decide) rfl rfl q295 (fun _ h => h) dX4_comes_26 ?_
    obtain ⟨f26, e27, h⟩ := m_bS h
    obtain ⟨r29, e28, h⟩ := m_bS h
    refine u_callVp X hl.1 I hA (As := [.ref b24]) (rest := []) (uk_J2_contains l n D d u10 b22 b24 _ e28) (u_clS e27) (C := RJ2) (T := TJ2) (N := 3) rfl 1 q685 q686 q687 q105 q688 uh_J2_contains rfl rfl ⟨Nat.le_trans (Nat.le_of_ble_eq_true rfl) hR.1, Nat.le_trans (Nat.le_of_ble_eq_true rfl) hR.2⟩ (u_leftLe hC) (stk := [.int r29]) rfl (Nat.le_of_ble_eq_true rfl) dX4_comes_29 (fun H locs I => ?_)
    refine lv_if_ne (tgt := 52) X.1 X.2.1 dX4_comes_32 (by decide) (fun c30 => ?_) (fun c30 => ?_)
    · replace h := m_ifF c30 h
      exact k52 u10 t H locs ls _ _ _ h hC I (lv_sub hl [0] rfl)
    · replace h := m_ifT c30 h
      refine lv_aload_n X.1 X.2.1 dX4_comes_35 rfl (lv_at hl 0 rfl) ?_
      obtain ⟨b41, e42, h⟩ := m_bS h
      refine u_Gr X I e42 (C := RX4) (T := TX4) (N := 7) (ref := "SwapPress$Reader") in_X4 rfl (by decide) rfl rfl q291 (fun _ h => h) dX4_comes_36 ?_
      obtain ⟨b43, e44, h⟩ := m_bS h
      refine u_GrN X I e44 (C := RX1) (T := TX1) (N := 5) (ref := "SwapPress$State") (host := "SwapPress") in_X1 rfl (by decide) rfl rfl 2 rfl (fun _ h => h) dX4_comes_39 ?_
      refine lv_aload_n X.1 X.2.1 dX4_comes_42 rfl (lv_at hl 0 rfl) ?_
      obtain ⟨b45, e46, h⟩ := m_bS h
      refine u_Gr X I e46 (C := RX4) (T := TX4) (N := 7) (ref := "SwapPress$Reader") in_X4 rfl (by decide) rfl rfl q295 (fun _ h => h) dX4_comes_43 ?_
      obtain ⟨f47, e48, h⟩ := m_bS h
      obtain ⟨r50, e49, h⟩ := m_bS h
      refine u_callVp X hl.1 I hA (As := [.ref b45]) (rest := []) (uk_J2_contains l n D d u10 b43 b45 _ e49) (u_clS e48) (C := RJ2) (T := TJ2) (N := 3) rfl 1 q685 q686 q687 q105 q688 uh_J2_contains rfl rfl ⟨Nat.le_trans (Nat.le_of_ble_eq_true rfl) hR.1, Nat.le_trans (Nat.le_of_ble_eq_true rfl) hR.2⟩ (u_leftLe hC) (stk := [.int r50]) rfl (Nat.le_of_ble_eq_true rfl) dX4_comes_46 (fun H locs I => ?_)
      refine lv_if_eq (tgt := 58) X.1 X.2.1 dX4_comes_49 (by decide) (fun c51 => ?_) (fun c51 => ?_)
      · replace h := m_ifT c51 h
        refine lv_aload_n X.1 X.2.1 dX4_comes_58 rfl (lv_at hl 1 rfl) ?_
        refine lv_aload_n X.1 X.2.1 dX4_comes_59 rfl (lv_at hl 0 rfl) ?_
        obtain ⟨b52, e53, h⟩ := m_bS h
        refine u_Gr X I e53 (C := RX4) (T := TX4) (N := 7) (ref := "SwapPress$Reader") in_X4 rfl (by decide) rfl rfl q295 (fun _ h => h) dX4_comes_60 ?_
        obtain ⟨f54, e55, h⟩ := m_bS h
        obtain ⟨r57, u58, C59, C60, e56, z61, h, hq⟩ := u_bcS h
        rw [hq] at hC
        refine u_callV X hl.1 I hA (As := [.ref b52]) (rest := []) (uk_J2_add l n D d u10 p0 b52 _ _ _ e56) z61 (u_clS e55) (C := RJ2) (T := TJ2) (N := 3) rfl 1 q718 q719 q720 q105 q721 uh_J2_add rfl rfl ⟨Nat.le_trans (Nat.le_of_ble_eq_true rfl) hR.1, Nat.le_trans (Nat.le_of_ble_eq_true rfl) hR.2⟩ hC (stk := [.int r57]) rfl (Nat.le_of_ble_eq_true rfl) dX4_comes_63 (fun H locs cells slots hC I => ?_)
        refine lv_pop X.1 X.2.1 dX4_comes_66 rfl ?_
        obtain ⟨he, rfl⟩ := m_e3 h
        obtain ⟨rfl, rfl⟩ := m_e4 he
        exact hret H locs ls 67 _ _ _ rfl dX4_comes_67 hC I
      · replace h := m_ifF c51 h
        exact k52 u10 t H locs ls _ _ _ h hC I (lv_sub hl [0] rfl)
  · replace h := m_ifT c5 h
    refine lv_aload_n X.1 X.2.1 dX4_comes_8 rfl (lv_at hl 0 rfl) ?_
    refine lv_iconst (v := 4) X.1 X.2.1 dX4_comes_9 (by decide) ?_
    obtain ⟨f62, e63, h⟩ := m_bS h
    obtain ⟨r65, u66, C67, C68, e64, z69, h, hq⟩ := u_bcS h
    rw [hq] at hC
    refine u_callV X hl.1 I hA (As := [.int 4]) (rest := []) (uk_X4_wrong l n D d u t 4 _ _ _ e64) z69 (u_clS e63) (C := RX4) (T := TX4) (N := 7) rfl 1 q524 q526 qs5 q108 q527 uh_X4_wrong rfl rfl ⟨Nat.le_trans (Nat.le_of_ble_eq_true rfl) hR.1, Nat.le_trans (Nat.le_of_ble_eq_true rfl) hR.2⟩ hC (stk := [.ref r65]) rfl (Nat.le_of_ble_eq_true rfl) dX4_comes_10 (fun H locs cells slots hC I => ?_)
    obtain ⟨f70, e71, h⟩ := m_bS h
    obtain ⟨he, rfl⟩ := m_e3 h
    obtain ⟨rfl, rfl⟩ := m_e4 he
    exact vx_athrow X.1 X.2.1 dX4_comes_13 (hthr H locs ls 13 _ _ _ _ rfl ⟨_, u_clS e71⟩ hC I)
end S_X4_comes
theorem uk_X4_comes (l : Launch) (n : Nat) (D : va_G) (d : UD) (u : UM) (t : Nat) (p0 : Nat) (p1 : Int32) (r0 : Unit ⊕ Nat) (ur : UM) (C : UC) (h : uf_X4_comes n d u t p0 p1 = some ((r0, ur), C)) : u_MX l yX4_comes (ws_ yX4_comes cX4_comes 3 none) 8 212 C D d u [.ref t, .ref p0, .int p1] (u_ov (fun (_ : Unit) => none) r0) ur :=
  u_startX (own := RX4) (lvl := [(0, .ref t), (1, .ref p0), (2, .int p1)]) (by decide) rfl (Nat.le_of_ble_eq_true rfl) rfl (fun p e s m args below meth c ls X hr hlk htab hl hA I hC => uw_X4_comes X hA ⟨Nat.le_refl _, Nat.le_refl _⟩ n u t p0 p1 r0 ur C h (fun H locs ls pc cells slots v0 hv hd hC I => by subst hv; exact vx_ret (u_vret X I hr hlk (u_leftE hC) hd)) (fun H locs ls pc rest cells slots q hv hfs hC I => by subst hv; exact u_outX X I hlk htab hfs (u_leftE hC)) _ _ ls _ _ hC I hl)

/-! SwapPress$Reader.trade()V -/
def uf_X4_trade (n : Nat) (d : UD) (u : UM) (t : Nat) : Option (((Unit ⊕ Nat) × UM) × UC) :=
  m_b (u_fr d u 4 1 t) (fun b1 => m_b (u_nr u 2 2 b1) (fun b3 => m_b (u_cl u 13 b3) (fun f5 => m_b (uf_J2_size n d u b3) (fun r8 => m_if ((r8 : Int32) = (40 : Int32)) (m_b (u_cl u 4 t) (fun f95 => u_bc u.2 (uf_X4_wrong n d u t 4) (fun r98 u99 => m_b (u_cl u99 5 r98) (fun f103 => some ((.inr r98, u99), (0, 0)))))) (m_b (u_fr d u 4 1 t) (fun b10 => m_b (u_nr u 2 0 b10) (fun b12 => m_b (u_cl u 4 t) (fun f14 => u_bx u.2 (uf_X4_named n d u t b12) (fun r17 u18 => m_b (u_cl u18 4 t) (fun f28 => u_bx u18.2 (uf_X4_other n d u18 t r17) (fun r31 u32 => m_b (u_cl u32 4 t) (fun f42 => u_bx u32.2 (uf_X4_number n d u32 t 1 999999) (fun r45 u46 => m_b (u_fr d u46 4 1 t) (fun b56 => m_b (u_nr u46 2 2 b56) (fun b58 => u_ac (1, 5) (m_b (some (u_nw u46 (.inr (6, [.int 0, .int 0, .int 0, .int 0, .int 0])))) (fun u61 => m_b (u_fr d u61 4 1 t) (fun b63 => m_b (u_nr u61 2 1 b63) (fun b65 => m_b (u_cl u61 4 t) (fun f67 => u_bx u61.2 (uf_X4_named n d u61 t b65) (fun r70 u71 => u_bc u71.2 (uf_X6_init n d u71 u46.2 r17 r31 r45 r70 0) (fun r82 u83 => m_b (u_cl u83 13 b58) (fun f87 => u_bc u83.2 (uf_J2_add n d u83 b58 u46.2) (fun r90 u91 => some ((.inl (()), u91), (0, 0)))))) (fun q75 u76 => some ((.inr q75, u76), (0, 0))))))))))) (fun q50 u51 => some ((.inr q50, u51), (0, 0))))) (fun q36 u37 => some ((.inr q36, u37), (0, 0))))) (fun q22 u23 => some ((.inr q22, u23), (0, 0)))))))))))
theorem uh_X4_trade : yX4_trade.cls = RX4 ∧ yX4_trade.cls ≠ "java/lang/invoke/MethodHandle" ∧ yX4_trade.cls ≠ "java/lang/invoke/VarHandle" ∧ (parseMethodDescriptor yX4_trade.desc).map (fun d => d.parameters.length) = some 0 := by decide +kernel
section S_X4_trade
variable {p : Program} {l : Launch} {e : Env} {R : Room} {s : State} {m : MethodId} {args : Array Value} {below : List Frame} {meth : Method} {c : Code} {Q : State → Prop} {D : va_G} {A : Nat → Prop} {d : UD}
theorem uw_X4_trade (X : u_X RX4 D A d p s m c cX4_trade 4 args) (hA : ∀ q, s.heap.size ≤ q → A q) (hR : 10 ≤ R.frames ∧ 256 ≤ R.locals) (n : Nat) (u : UM) (t : Nat) (r0 : Unit ⊕ Nat) (ur : UM) (C : UC) (h : uf_X4_trade n d u t = some ((r0, ur), C)) (hret : ∀ (H : Heap) (locs : List Loc) (ls : Array Slot) (pc cells slots : Nat) (v0 : Unit), r0 = .inl v0 → decode cX4_trade pc = .ok (.return_, 1) → u_left R cells slots (u_add (0, 0) (0, 0)) → u_I D A s.heap ur H locs cells → W p l e R s m args below meth c H locs cells slots Q (F0 m pc ls [])) (hthr : ∀ (H : Heap) (locs : List Loc) (ls : Array Slot) (pc : Nat) (rest : List Value) (cells slots q : Nat), r0 = .inr q → (∃ fs, u_get ur.1 q = some (.inr (5, fs))) → u_left R cells slots (u_add (0, 0) (0, 0)) → u_I D A s.heap ur H locs cells → vx_W p l e R s m args below meth c H locs cells slots Q (F0 m pc ls rest) q) : ∀ (H : Heap) (locs : List Loc) (ls : Array Slot) (cells slots : Nat), u_left R cells slots (u_add C (0, 0)) → u_I D A s.heap u H locs cells → lv_has ls 4 [(0, .ref t)] → W p l e R s m args below meth c H locs cells slots Q (F0 m 0 ls []) := by
  intro H locs ls cells slots hC I hl
  unfold uf_X4_trade at h
  refine lv_aload_n X.1 X.2.1 dX4_trade_0 rfl (lv_at hl 0 rfl) ?_
  obtain ⟨b1, e2, h⟩ := m_bS h
  refine u_Gr X I e2 (C := RX4) (T := TX4) (N := 7) (ref := "SwapPress$Reader") in_X4 rfl (by decide) rfl rfl q291 (fun _ h => h) dX4_trade_1 ?_
  obtain ⟨b3, e4, h⟩ := m_bS h
  refine u_GrN X I e4 (C := RX1) (T := TX1) (N := 5) (ref := "SwapPress$State") (host := "SwapPress") in_X1 rfl (by decide) rfl rfl 5 rfl (fun _ h => h) dX4_trade_4 ?_
  obtain ⟨f5, e6, h⟩ := m_bS h
  obtain ⟨r8, e7, h⟩ := m_bS h
  refine u_callVp X hl.1 I hA (As := []) (rest := []) (uk_J2_size l n D d u b3 _ e7) (u_clS e6) (C := RJ2) (T := TJ2) (N := 3) rfl 0 q666 q667 q668 q105 q669 uh_J2_size rfl rfl ⟨Nat.le_trans (Nat.le_of_ble_eq_true rfl) hR.1, Nat.le_trans (Nat.le_of_ble_eq_true rfl) hR.2⟩ (u_leftLe hC) (stk := [.int r8]) rfl (Nat.le_of_ble_eq_true rfl) dX4_trade_7 (fun H locs I => ?_)
  refine lv_bipush (v := 40) X.1 X.2.1 dX4_trade_10 (by decide) ?_
  refine lv_icmp_ne (tgt := 21) X.1 X.2.1 dX4_trade_12 (by decide) (fun c9 => ?_) (fun c9 => ?_)
  · replace h := m_ifF c9 h
    refine lv_aload_n X.1 X.2.1 dX4_trade_21 rfl (lv_at hl 0 rfl) ?_
    refine lv_aload_n X.1 X.2.1 dX4_trade_22 rfl (lv_at hl 0 rfl) ?_
    obtain ⟨b10, e11, h⟩ := m_bS h
    refine u_Gr X I e11 (C := RX4) (T := TX4) (N := 7) (ref := "SwapPress$Reader") in_X4 rfl (by decide) rfl rfl q291 (fun _ h => h) dX4_trade_23 ?_
    obtain ⟨b12, e13, h⟩ := m_bS h
    refine u_GrN X I e13 (C := RX1) (T := TX1) (N := 5) (ref := "SwapPress$State") (host := "SwapPress") in_X1 rfl (by decide) rfl rfl 0 rfl (fun _ h => h) dX4_trade_26 ?_
    obtain ⟨f14, e15, h⟩ := m_bS h
    rcases Or.symm (u_bxS h) with ⟨q22, u23, C24, C25, e26, z27, h, hq⟩ | ⟨r17, u18, C19, C20, e16, z21, h, hq⟩
    · rw [hq] at hC
      obtain ⟨he, rfl⟩ := m_e3 h
      obtain ⟨rfl, rfl⟩ := m_e4 he
      exact u_callX0 X hl.1 I hA (As := [.ref b12]) (rest := []) (uk_X4_named l n D d u t b12 _ _ _ e26) z27 (u_clS e15) (C := RX4) (T := TX4) (N := 7) rfl 1 q771 q773 qs13 q108 q774 uh_X4_named rfl rfl ⟨Nat.le_trans (Nat.le_of_ble_eq_true rfl) hR.1, Nat.le_trans (Nat.le_of_ble_eq_true rfl) hR.2⟩ hC (Nat.le_of_ble_eq_true rfl) dX4_trade_29 (fun H locs cells slots hfs hC I => hthr H locs ls 29 _ _ _ _ rfl hfs hC I)
    rw [hq] at hC
    refine u_callX1 X hl.1 I hA (As := [.ref b12]) (rest := []) (uk_X4_named l n D d u t b12 _ _ _ e16) z21 (u_clS e15) (C := RX4) (T := TX4) (N := 7) rfl 1 q771 q773 qs13 q108 q774 uh_X4_named rfl rfl ⟨Nat.le_trans (Nat.le_of_ble_eq_true rfl) hR.1, Nat.le_trans (Nat.le_of_ble_eq_true rfl) hR.2⟩ hC (stk := [.int r17]) rfl (Nat.le_of_ble_eq_true rfl) dX4_trade_29 (fun H locs cells slots hC I => ?_)
    refine lv_istore_n (lv' := [(1, .int r17), (0, .ref t)]) X.1 X.2.1 dX4_trade_32 rfl hl (by decide) rfl (fun ls hl => ?_)
    refine lv_aload_n X.1 X.2.1 dX4_trade_33 rfl (lv_at hl 1 rfl) ?_
    refine lv_iload_n X.1 X.2.1 dX4_trade_34 rfl (lv_at hl 0 rfl) ?_
    obtain ⟨f28, e29, h⟩ := m_bS h
    rcases Or.symm (u_bxS h) with ⟨q36, u37, C38, C39, e40, z41, h, hq⟩ | ⟨r31, u32, C33, C34, e30, z35, h, hq⟩
    · rw [hq] at hC
      obtain ⟨he, rfl⟩ := m_e3 h
      obtain ⟨rfl, rfl⟩ := m_e4 he
      exact u_callX0 X hl.1 I hA (As := [.int r17]) (rest := []) (uk_X4_other l n D d u18 t r17 _ _ _ e40) z41 (u_clS e29) (C := RX4) (T := TX4) (N := 7) rfl 1 q776 q778 qs14 q108 q779 uh_X4_other rfl rfl ⟨Nat.le_trans (Nat.le_of_ble_eq_true rfl) hR.1, Nat.le_trans (Nat.le_of_ble_eq_true rfl) hR.2⟩ hC (Nat.le_of_ble_eq_true rfl) dX4_trade_35 (fun H locs cells slots hfs hC I => hthr H locs ls 35 _ _ _ _ rfl hfs hC I)
    rw [hq] at hC
    refine u_callX1 X hl.1 I hA (As := [.int r17]) (rest := []) (uk_X4_other l n D d u18 t r17 _ _ _ e30) z35 (u_clS e29) (C := RX4) (T := TX4) (N := 7) rfl 1 q776 q778 qs14 q108 q779 uh_X4_other rfl rfl ⟨Nat.le_trans (Nat.le_of_ble_eq_true rfl) hR.1, Nat.le_trans (Nat.le_of_ble_eq_true rfl) hR.2⟩ hC (stk := [.int r31]) rfl (Nat.le_of_ble_eq_true rfl) dX4_trade_35 (fun H locs cells slots hC I => ?_)
    refine lv_istore_n (lv' := [(2, .int r31), (1, .int r17), (0, .ref t)]) X.1 X.2.1 dX4_trade_38 rfl hl (by decide) rfl (fun ls hl => ?_)
    refine lv_aload_n X.1 X.2.1 dX4_trade_39 rfl (lv_at hl 2 rfl) ?_
    refine lv_iconst (v := 1) X.1 X.2.1 dX4_trade_40 (by decide) ?_
    refine lv_ldc (v := 999999) X.1 X.2.1 X.2.2.2.1 (X.2.2.1 _ q780) dX4_trade_41 ?_
    obtain ⟨f42, e43, h⟩ := m_bS h
    rcases Or.symm (u_bxS h) with ⟨q50, u51, C52, C53, e54, z55, h, hq⟩ | ⟨r45, u46, C47, C48, e44, z49, h, hq⟩
    · rw [hq] at hC
      obtain ⟨he, rfl⟩ := m_e3 h
      obtain ⟨rfl, rfl⟩ := m_e4 he
      exact u_callX0 X hl.1 I hA (As := [.int 1, .int 999999]) (rest := []) (uk_X4_number l n D d u32 t 1 999999 _ _ _ e54) z55 (u_clS e43) (C := RX4) (T := TX4) (N := 7) rfl 2 q781 q783 qs15 q108 q784 uh_X4_number rfl rfl ⟨Nat.le_trans (Nat.le_of_ble_eq_true rfl) hR.1, Nat.le_trans (Nat.le_of_ble_eq_true rfl) hR.2⟩ hC (Nat.le_of_ble_eq_true rfl) dX4_trade_43 (fun H locs cells slots hfs hC I => hthr H locs ls 43 _ _ _ _ rfl hfs hC I)
    rw [hq] at hC
    refine u_callX1 X hl.1 I hA (As := [.int 1, .int 999999]) (rest := []) (uk_X4_number l n D d u32 t 1 999999 _ _ _ e44) z49 (u_clS e43) (C := RX4) (T := TX4) (N := 7) rfl 2 q781 q783 qs15 q108 q784 uh_X4_number rfl rfl ⟨Nat.le_trans (Nat.le_of_ble_eq_true rfl) hR.1, Nat.le_trans (Nat.le_of_ble_eq_true rfl) hR.2⟩ hC (stk := [.int r45]) rfl (Nat.le_of_ble_eq_true rfl) dX4_trade_43 (fun H locs cells slots hC I => ?_)
    refine lv_istore_n (lv' := [(3, .int r45), (2, .int r31), (1, .int r17), (0, .ref t)]) X.1 X.2.1 dX4_trade_46 rfl hl (by decide) rfl (fun ls hl => ?_)
    refine lv_aload_n X.1 X.2.1 dX4_trade_47 rfl (lv_at hl 3 rfl) ?_
    obtain ⟨b56, e57, h⟩ := m_bS h
    refine u_Gr X I e57 (C := RX4) (T := TX4) (N := 7) (ref := "SwapPress$Reader") in_X4 rfl (by decide) rfl rfl q291 (fun _ h => h) dX4_trade_48 ?_
    obtain ⟨b58, e59, h⟩ := m_bS h
    refine u_GrN X I e59 (C := RX1) (T := TX1) (N := 5) (ref := "SwapPress$State") (host := "SwapPress") in_X1 rfl (by decide) rfl rfl 5 rfl (fun _ h => h) dX4_trade_51 ?_
    obtain ⟨C60, h, hq⟩ := u_acS h
    rw [hq] at hC
    obtain ⟨u61, e62, h⟩ := m_bS h
    refine u_NO X I hA 6 (C := RX6) (T := TX6) (N := 5) in_X6 tyX6 tyX6_ok q785 q786 q122 rfl (fs := [.int 0, .int 0, .int 0, .int 0, .int 0]) e62 (fun j hj => by match j, hj with | 0, _ => rfl | 1, _ => rfl | 2, _ => rfl | 3, _ => rfl | 4, _ => rfl) hC dX4_trade_54 (fun H cells slots hC I => ?_)
    refine lv_dup X.1 X.2.1 dX4_trade_57 rfl ?_
    refine lv_iload_n X.1 X.2.1 dX4_trade_58 rfl (lv_at hl 2 rfl) ?_
    refine lv_iload_n X.1 X.2.1 dX4_trade_59 rfl (lv_at hl 1 rfl) ?_
    refine lv_iload_n X.1 X.2.1 dX4_trade_60 rfl (lv_at hl 0 rfl) ?_
    refine lv_aload_n X.1 X.2.1 dX4_trade_61 rfl (lv_at hl 3 rfl) ?_
    refine lv_aload_n X.1 X.2.1 dX4_trade_62 rfl (lv_at hl 3 rfl) ?_
    obtain ⟨b63, e64, h⟩ := m_bS h
    refine u_Gr X I e64 (C := RX4) (T := TX4) (N := 7) (ref := "SwapPress$Reader") in_X4 rfl (by decide) rfl rfl q291 (fun _ h => h) dX4_trade_63 ?_
    obtain ⟨b65, e66, h⟩ := m_bS h
    refine u_GrN X I e66 (C := RX1) (T := TX1) (N := 5) (ref := "SwapPress$State") (host := "SwapPress") in_X1 rfl (by decide) rfl rfl 2 rfl (fun _ h => h) dX4_trade_66 ?_
    obtain ⟨f67, e68, h⟩ := m_bS h
    rcases Or.symm (u_bxS h) with ⟨q75, u76, C77, C78, e79, z80, h, hq⟩ | ⟨r70, u71, C72, C73, e69, z74, h, hq⟩
    · rw [hq] at hC
      obtain ⟨he, rfl⟩ := m_e3 h
      obtain ⟨rfl, rfl⟩ := m_e4 he
      exact u_callX0 X hl.1 I hA (As := [.ref b65]) (rest := [.int r45, .int r31, .int r17, .ref u46.2, .ref u46.2, .ref b58]) (uk_X4_named l n D d u61 t b65 _ _ _ e79) z80 (u_clS e68) (C := RX4) (T := TX4) (N := 7) rfl 1 q771 q773 qs13 q108 q774 uh_X4_named rfl rfl ⟨Nat.le_trans (Nat.le_of_ble_eq_true rfl) hR.1, Nat.le_trans (Nat.le_of_ble_eq_true rfl) hR.2⟩ hC (Nat.le_of_ble_eq_true rfl) dX4_trade_69 (fun H locs cells slots hfs hC I => hthr H locs ls 69 _ _ _ _ rfl hfs hC I)
    rw [hq] at hC
    refine u_callX1 X hl.1 I hA (As := [.ref b65]) (rest := [.int r45, .int r31, .int r17, .ref u46.2, .ref u46.2, .ref b58]) (uk_X4_named l n D d u61 t b65 _ _ _ e69) z74 (u_clS e68) (C := RX4) (T := TX4) (N := 7) rfl 1 q771 q773 qs13 q108 q774 uh_X4_named rfl rfl ⟨Nat.le_trans (Nat.le_of_ble_eq_true rfl) hR.1, Nat.le_trans (Nat.le_of_ble_eq_true rfl) hR.2⟩ hC (stk := [.int r70, .int r45, .int r31, .int r17, .ref u46.2, .ref u46.2, .ref b58]) rfl (Nat.le_of_ble_eq_true rfl) dX4_trade_69 (fun H locs cells slots hC I => ?_)
    refine lv_iconst (v := 0) X.1 X.2.1 dX4_trade_72 (by decide) ?_
    obtain ⟨r82, u83, C84, C85, e81, z86, h, hq⟩ := u_bcS h
    rw [hq] at hC
    refine u_callI X hl.1 I hA (As := [.int r17, .int r31, .int r45, .int r70, .int 0]) (rest := [.ref u46.2, .ref b58]) (uk_X6_init l n D d u71 u46.2 r17 r31 r45 r70 0 _ _ e81) z86 5 q787 q788 q122 q789 rfl uh_X6_init.2 rfl rfl ⟨Nat.le_trans (Nat.le_of_ble_eq_true rfl) hR.1, Nat.le_trans (Nat.le_of_ble_eq_true rfl) hR.2⟩ hC (Nat.le_of_ble_eq_true rfl) dX4_trade_73 (fun H locs cells slots hC I => ?_)
    obtain ⟨f87, e88, h⟩ := m_bS h
    obtain ⟨r90, u91, C92, C93, e89, z94, h, hq⟩ := u_bcS h
    rw [hq] at hC
    refine u_callV X hl.1 I hA (As := [.ref u46.2]) (rest := []) (uk_J2_add l n D d u83 b58 u46.2 _ _ _ e89) z94 (u_clS e88) (C := RJ2) (T := TJ2) (N := 3) rfl 1 q718 q719 q720 q105 q721 uh_J2_add rfl rfl ⟨Nat.le_trans (Nat.le_of_ble_eq_true rfl) hR.1, Nat.le_trans (Nat.le_of_ble_eq_true rfl) hR.2⟩ hC (stk := [.int r90]) rfl (Nat.le_of_ble_eq_true rfl) dX4_trade_76 (fun H locs cells slots hC I => ?_)
    refine lv_pop X.1 X.2.1 dX4_trade_79 rfl ?_
    obtain ⟨he, rfl⟩ := m_e3 h
    obtain ⟨rfl, rfl⟩ := m_e4 he
    exact hret H locs ls 80 _ _ _ rfl dX4_trade_80 hC I
  · replace h := m_ifT c9 h
    refine lv_aload_n X.1 X.2.1 dX4_trade_15 rfl (lv_at hl 0 rfl) ?_
    refine lv_iconst (v := 4) X.1 X.2.1 dX4_trade_16 (by decide) ?_
    obtain ⟨f95, e96, h⟩ := m_bS h
    obtain ⟨r98, u99, C100, C101, e97, z102, h, hq⟩ := u_bcS h
    rw [hq] at hC
    refine u_callV X hl.1 I hA (As := [.int 4]) (rest := []) (uk_X4_wrong l n D d u t 4 _ _ _ e97) z102 (u_clS e96) (C := RX4) (T := TX4) (N := 7) rfl 1 q524 q526 qs5 q108 q527 uh_X4_wrong rfl rfl ⟨Nat.le_trans (Nat.le_of_ble_eq_true rfl) hR.1, Nat.le_trans (Nat.le_of_ble_eq_true rfl) hR.2⟩ hC (stk := [.ref r98]) rfl (Nat.le_of_ble_eq_true rfl) dX4_trade_17 (fun H locs cells slots hC I => ?_)
    obtain ⟨f103, e104, h⟩ := m_bS h
    obtain ⟨he, rfl⟩ := m_e3 h
    obtain ⟨rfl, rfl⟩ := m_e4 he
    exact vx_athrow X.1 X.2.1 dX4_trade_20 (hthr H locs ls 20 _ _ _ _ rfl ⟨_, u_clS e104⟩ hC I)
end S_X4_trade
theorem uk_X4_trade (l : Launch) (n : Nat) (D : va_G) (d : UD) (u : UM) (t : Nat) (r0 : Unit ⊕ Nat) (ur : UM) (C : UC) (h : uf_X4_trade n d u t = some ((r0, ur), C)) : u_MX l yX4_trade (ws_ yX4_trade cX4_trade 4 none) 10 256 C D d u [.ref t] (u_ov (fun (_ : Unit) => none) r0) ur :=
  u_startX (own := RX4) (lvl := [(0, .ref t)]) (by decide) rfl (Nat.le_of_ble_eq_true rfl) rfl (fun p e s m args below meth c ls X hr hlk htab hl hA I hC => uw_X4_trade X hA ⟨Nat.le_refl _, Nat.le_refl _⟩ n u t r0 ur C h (fun H locs ls pc cells slots v0 hv hd hC I => by subst hv; exact vx_ret (u_vret X I hr hlk (u_leftE hC) hd)) (fun H locs ls pc rest cells slots q hv hfs hC I => by subst hv; exact u_outX X I hlk htab hfs (u_leftE hC)) _ _ ls _ _ hC I hl)

/-! SwapPress$Reader.line()V -/
def uf_X4_line_J302 (n : Nat) (d : UD) (u : UM) (v0 : Nat) : Option (((Unit ⊕ Nat) × UM) × UC) :=
  m_b (u_cl u 4 v0) (fun f62 => u_bc u.2 (uf_X4_wrong n d u v0 1) (fun r65 u66 => m_b (u_cl u66 5 r65) (fun f70 => some ((.inr r65, u66), (0, 0)))))
def uf_X4_line_J284 (n : Nat) (d : UD) (u : UM) (v0 : Nat) : Option (((Unit ⊕ Nat) × UM) × UC) :=
  m_b (u_cl u 4 v0) (fun f53 => u_bc u.2 (uf_X4_isEnd n d u v0) (fun r56 u57 => m_if ((r56 : Int32) = 0) (m_b (u_cl u57 4 v0) (fun f72 => m_b (uf_X4_isAt n d u57 v0 59 59) (fun r75 => m_if ((r75 : Int32) = 0) (uf_X4_line_J302 n d u57 v0) (m_b (u_fi d u57 4 2 v0) (fun b77 => m_b (u_pf u57 4 2 v0 (.int (b77 + 1))) (fun w79 => some ((.inl (()), (w79, u57.2)), (0, 0)))))))) (uf_X4_line_J302 n d u57 v0)))
def uf_X4_line_J153 (n : Nat) (d : UD) (u : UM) (v0 : Nat) (v2 : Int32) : Option (((Unit ⊕ Nat) × UM) × UC) :=
  m_if ((v2 : Int32) = 0) (m_b (u_fr d u 4 1 v0) (fun b35 => m_b (u_nr u 2 0 b35) (fun b37 => m_b (u_cl u 4 v0) (fun f39 => u_bx u.2 (uf_X4_comes n d u v0 b37 8) (fun r42 u43 => uf_X4_line_J284 n d u43 v0) (fun q47 u48 => some ((.inr q47, u48), (0, 0))))))) (m_if ((v2 : Int32) = 1) (m_b (u_fr d u 4 1 v0) (fun b81 => m_b (u_nr u 2 1 b81) (fun b83 => m_b (u_cl u 4 v0) (fun f85 => u_bx u.2 (uf_X4_comes n d u v0 b83 4) (fun r88 u89 => uf_X4_line_J284 n d u89 v0) (fun q93 u94 => some ((.inr q93, u94), (0, 0))))))) (m_if ((v2 : Int32) = 2) (m_b (u_cl u 4 v0) (fun f99 => u_bx u.2 (uf_X4_trade n d u v0) (fun r102 u103 => uf_X4_line_J284 n d u103 v0) (fun q107 u108 => some ((.inr q107, u108), (0, 0))))) (m_if ((v2 : Int32) = 3) (m_b (u_cl u 4 v0) (fun f113 => u_bx u.2 (uf_X4_keep n d u v0) (fun r116 u117 => uf_X4_line_J284 n d u117 v0) (fun q121 u122 => some ((.inr q121, u122), (0, 0))))) (m_if ((v2 : Int32) = 4) (m_b (u_cl u 4 v0) (fun f127 => u_bx u.2 (uf_X4_cap n d u v0) (fun r130 u131 => uf_X4_line_J284 n d u131 v0) (fun q135 u136 => some ((.inr q135, u136), (0, 0))))) (m_if ((v2 : Int32) = 5) (m_b (u_fi d u 4 4 v0) (fun b141 => m_if ((b141 : Int32) = 0) (m_g (m_01 1) (m_b (u_pf u 4 4 v0 (.int 1)) (fun w145 => m_b (u_fr d (w145, u.2) 4 1 v0) (fun b147 => m_b (u_cl (w145, u.2) 4 v0) (fun f149 => u_bx u.2 (uf_X4_number n d (w145, u.2) v0 0 3) (fun r152 u153 => m_b (u_pf u153 2 4 b147 (.int r152)) (fun w163 => uf_X4_line_J284 n d (w163, u153.2) v0)) (fun q157 u158 => some ((.inr q157, u158), (0, 0)))))))) (m_b (u_cl u 4 v0) (fun f165 => u_bc u.2 (uf_X4_wrong n d u v0 1) (fun r168 u169 => m_b (u_cl u169 5 r168) (fun f173 => some ((.inr r168, u169), (0, 0)))))))) (m_b (u_cl u 4 v0) (fun f25 => u_bc u.2 (uf_X4_wrong n d u v0 1) (fun r28 u29 => m_b (u_cl u29 5 r28) (fun f33 => some ((.inr r28, u29), (0, 0)))))))))))
def uf_X4_line (n : Nat) (d : UD) (u : UM) (t : Nat) : Option (((Unit ⊕ Nat) × UM) × UC) :=
  m_b (u_cl u 4 t) (fun f1 => u_bx u.2 (uf_X4_word n d u t) (fun r4 u5 => m_b (u_fr d u5 4 5 t) (fun b15 => m_b (u_tx d u5 b15) (fun f17 => u_bc u5.2 (uf_J5_hashCode n d u5 b15) (fun r20 u21 => m_if ((r20 : Int32) = 98258) (m_b (u_tx d u21 b15) (fun f181 => m_b (uf_J5_equals n d u21 b15 (d.2 (10 + 4))) (fun r184 => m_if ((r184 : Int32) = 0) (uf_X4_line_J153 n d u21 t ((-1))) (uf_X4_line_J153 n d u21 t 4)))) (m_if ((r20 : Int32) = 3287941) (m_b (u_tx d u21 b15) (fun f186 => m_b (uf_J5_equals n d u21 b15 (d.2 (10 + 3))) (fun r189 => m_if ((r189 : Int32) = 0) (uf_X4_line_J153 n d u21 t ((-1))) (uf_X4_line_J153 n d u21 t 3)))) (m_if ((r20 : Int32) = 3292052) (m_b (u_tx d u21 b15) (fun f191 => m_b (uf_J5_equals n d u21 b15 (d.2 (10 + 1))) (fun r194 => m_if ((r194 : Int32) = 0) (uf_X4_line_J153 n d u21 t ((-1))) (uf_X4_line_J153 n d u21 t 1)))) (m_if ((r20 : Int32) = 3357091) (m_b (u_tx d u21 b15) (fun f196 => m_b (uf_J5_equals n d u21 b15 (d.2 (10 + 5))) (fun r199 => m_if ((r199 : Int32) = 0) (uf_X4_line_J153 n d u21 t ((-1))) (uf_X4_line_J153 n d u21 t 5)))) (m_if ((r20 : Int32) = 106437350) (m_b (u_tx d u21 b15) (fun f201 => m_b (uf_J5_equals n d u21 b15 (d.2 (10 + 0))) (fun r204 => m_if ((r204 : Int32) = 0) (uf_X4_line_J153 n d u21 t ((-1))) (uf_X4_line_J153 n d u21 t 0)))) (m_if ((r20 : Int32) = 110621028) (m_b (u_tx d u21 b15) (fun f206 => m_b (uf_J5_equals n d u21 b15 (d.2 (10 + 2))) (fun r209 => m_if ((r209 : Int32) = 0) (uf_X4_line_J153 n d u21 t ((-1))) (uf_X4_line_J153 n d u21 t 2)))) (uf_X4_line_J153 n d u21 t ((-1)))))))))))) (fun q9 u10 => some ((.inr q9, u10), (0, 0))))
theorem uh_X4_line : yX4_line.cls = RX4 ∧ yX4_line.cls ≠ "java/lang/invoke/MethodHandle" ∧ yX4_line.cls ≠ "java/lang/invoke/VarHandle" ∧ (parseMethodDescriptor yX4_line.desc).map (fun d => d.parameters.length) = some 0 := by decide +kernel
section S_X4_line
variable {p : Program} {l : Launch} {e : Env} {R : Room} {s : State} {m : MethodId} {args : Array Value} {below : List Frame} {meth : Method} {c : Code} {Q : State → Prop} {D : va_G} {A : Nat → Prop} {d : UD}
theorem uw_X4_line (X : u_X RX4 D A d p s m c cX4_line 3 args) (hA : ∀ q, s.heap.size ≤ q → A q) (hR : 11 ≤ R.frames ∧ 279 ≤ R.locals) (n : Nat) (u : UM) (t : Nat) (r0 : Unit ⊕ Nat) (ur : UM) (C : UC) (h : uf_X4_line n d u t = some ((r0, ur), C)) (hret : ∀ (H : Heap) (locs : List Loc) (ls : Array Slot) (pc cells slots : Nat) (v0 : Unit), r0 = .inl v0 → decode cX4_line pc = .ok (.return_, 1) → u_left R cells slots (u_add (0, 0) (0, 0)) → u_I D A s.heap ur H locs cells → W p l e R s m args below meth c H locs cells slots Q (F0 m pc ls [])) (hthr : ∀ (H : Heap) (locs : List Loc) (ls : Array Slot) (pc : Nat) (rest : List Value) (cells slots q : Nat), r0 = .inr q → (∃ fs, u_get ur.1 q = some (.inr (5, fs))) → u_left R cells slots (u_add (0, 0) (0, 0)) → u_I D A s.heap ur H locs cells → vx_W p l e R s m args below meth c H locs cells slots Q (F0 m pc ls rest) q) : ∀ (H : Heap) (locs : List Loc) (ls : Array Slot) (cells slots : Nat), u_left R cells slots (u_add C (0, 0)) → u_I D A s.heap u H locs cells → lv_has ls 3 [(0, .ref t)] → W p l e R s m args below meth c H locs cells slots Q (F0 m 0 ls []) := by
  have k302 : ∀ (u : UM) (v0 : Nat) (H : Heap) (locs : List Loc) (ls : Array Slot) (cells slots : Nat) (C : UC), uf_X4_line_J302 n d u v0 = some ((r0, ur), C) → u_left R cells slots (u_add C (0, 0)) → u_I D A s.heap u H locs cells → lv_has ls 3 [(0, .ref v0)] → W p l e R s m args below meth c H locs cells slots Q (F0 m 302 ls []) := by
    intro u v0 H locs ls cells slots C h hC I hl
    unfold uf_X4_line_J302 at h
    refine lv_aload_n X.1 X.2.1 dX4_line_302 rfl (lv_at hl 0 rfl) ?_
    refine lv_iconst (v := 1) X.1 X.2.1 dX4_line_303 (by decide) ?_
    obtain ⟨f62, e63, h⟩ := m_bS h
    obtain ⟨r65, u66, C67, C68, e64, z69, h, hq⟩ := u_bcS h
    rw [hq] at hC
    refine u_callV X hl.1 I hA (As := [.int 1]) (rest := []) (uk_X4_wrong l n D d u v0 1 _ _ _ e64) z69 (u_clS e63) (C := RX4) (T := TX4) (N := 7) rfl 1 q524 q526 qs5 q108 q527 uh_X4_wrong rfl rfl ⟨Nat.le_trans (Nat.le_of_ble_eq_true rfl) hR.1, Nat.le_trans (Nat.le_of_ble_eq_true rfl) hR.2⟩ hC (stk := [.ref r65]) rfl (Nat.le_of_ble_eq_true rfl) dX4_line_304 (fun H locs cells slots hC I => ?_)
    obtain ⟨f70, e71, h⟩ := m_bS h
    obtain ⟨he, rfl⟩ := m_e3 h
    obtain ⟨rfl, rfl⟩ := m_e4 he
    exact vx_athrow X.1 X.2.1 dX4_line_307 (hthr H locs ls 307 _ _ _ _ rfl ⟨_, u_clS e71⟩ hC I)
  have k284 : ∀ (u : UM) (v0 : Nat) (H : Heap) (locs : List Loc) (ls : Array Slot) (cells slots : Nat) (C : UC), uf_X4_line_J284 n d u v0 = some ((r0, ur), C) → u_left R cells slots (u_add C (0, 0)) → u_I D A s.heap u H locs cells → lv_has ls 3 [(0, .ref v0)] → W p l e R s m args below meth c H locs cells slots Q (F0 m 284 ls []) := by
    intro u v0 H locs ls cells slots C h hC I hl
    unfold uf_X4_line_J284 at h
    refine lv_aload_n X.1 X.2.1 dX4_line_284 rfl (lv_at hl 0 rfl) ?_
    obtain ⟨f53, e54, h⟩ := m_bS h
    obtain ⟨r56, u57, C58, C59, e55, z60, h, hq⟩ := u_bcS h
    rw [hq] at hC
    refine u_callV X hl.1 I hA (As := []) (rest := []) (uk_X4_isEnd l n D d u v0 _ _ _ e55) z60 (u_clS e54) (C := RX4) (T := TX4) (N := 7) rfl 0 q316 q318 qs1 q108 q319 uh_X4_isEnd rfl rfl ⟨Nat.le_trans (Nat.le_of_ble_eq_true rfl) hR.1, Nat.le_trans (Nat.le_of_ble_eq_true rfl) hR.2⟩ hC (stk := [.int r56]) rfl (Nat.le_of_ble_eq_true rfl) dX4_line_285 (fun H locs cells slots hC I => ?_)
    refine lv_if_ne (tgt := 302) X.1 X.2.1 dX4_line_288 (by decide) (fun c61 => ?_) (fun c61 => ?_)
    · replace h := m_ifF c61 h
      exact k302 u57 v0 H locs ls _ _ _ h hC I (lv_sub hl [0] rfl)
    · replace h := m_ifT c61 h
      refine lv_aload_n X.1 X.2.1 dX4_line_291 rfl (lv_at hl 0 rfl) ?_
      refine lv_bipush (v := 59) X.1 X.2.1 dX4_line_292 (by decide) ?_
      refine lv_bipush (v := 59) X.1 X.2.1 dX4_line_294 (by decide) ?_
      obtain ⟨f72, e73, h⟩ := m_bS h
      obtain ⟨r75, e74, h⟩ := m_bS h
      refine u_callVp X hl.1 I hA (As := [.int 59, .int 59]) (rest := []) (uk_X4_isAt l n D d u57 v0 59 59 _ e74) (u_clS e73) (C := RX4) (T := TX4) (N := 7) rfl 2 q320 q322 qs2 q108 q323 uh_X4_isAt rfl rfl ⟨Nat.le_trans (Nat.le_of_ble_eq_true rfl) hR.1, Nat.le_trans (Nat.le_of_ble_eq_true rfl) hR.2⟩ (u_leftLe hC) (stk := [.int r75]) rfl (Nat.le_of_ble_eq_true rfl) dX4_line_296 (fun H locs I => ?_)
      refine lv_if_ne (tgt := 308) X.1 X.2.1 dX4_line_299 (by decide) (fun c76 => ?_) (fun c76 => ?_)
      · replace h := m_ifF c76 h
        refine lv_aload_n X.1 X.2.1 dX4_line_308 rfl (lv_at hl 0 rfl) ?_
        refine lv_dup X.1 X.2.1 dX4_line_309 rfl ?_
        obtain ⟨b77, e78, h⟩ := m_bS h
        refine u_Gi X I e78 (C := RX4) (T := TX4) (N := 7) (ref := "SwapPress$Reader") in_X4 rfl (by decide) rfl rfl q292 (fun _ h => h) dX4_line_310 ?_
        refine lv_iconst (v := 1) X.1 X.2.1 dX4_line_313 (by decide) ?_
        refine lv_iadd X.1 X.2.1 dX4_line_314 ?_
        obtain ⟨w79, e80, h⟩ := m_bS h
        refine u_P X I e80 (C := RX4) (T := TX4) (N := 7) (ref := "SwapPress$Reader") in_X4 tyX4 tyX4_ok nmX4 rfl (by decide) rfl rfl q292 (fun _ h => h) rfl rfl rfl dX4_line_315 (fun H locs I => ?_)
        obtain ⟨he, rfl⟩ := m_e3 h
        obtain ⟨rfl, rfl⟩ := m_e4 he
        exact hret H locs ls 318 _ _ _ rfl dX4_line_318 hC I
      · replace h := m_ifT c76 h
        exact k302 u57 v0 H locs ls _ _ _ h hC I (lv_sub hl [0] rfl)
  have k153 : ∀ (u : UM) (v0 : Nat) (v2 : Int32) (H : Heap) (locs : List Loc) (ls : Array Slot) (cells slots : Nat) (C : UC), uf_X4_line_J153 n d u v0 v2 = some ((r0, ur), C) → u_left R cells slots (u_add C (0, 0)) → u_I D A s.heap u H locs cells → lv_has ls 3 [(0, .ref v0), (2, .int v2)] → W p l e R s m args below meth c H locs cells slots Q (F0 m 153 ls []) := by
    intro u v0 v2 H locs ls cells slots C h hC I hl
    unfold uf_X4_line_J153 at h
    refine lv_iload_n X.1 X.2.1 dX4_line_153 rfl (lv_at hl 1 rfl) ?_
    by_cases c175 : (v2 : Int32) = 0
    · replace h := m_ifT c175 h
      refine lv_tableIn (tgt := 192) X.1 X.2.1 dX4_line_154 (by rw [c175]; decide) (by rw [c175]; decide) (by rw [c175]; rfl) (by decide) ?_
      refine lv_aload_n X.1 X.2.1 dX4_line_192 rfl (lv_at hl 0 rfl) ?_
      refine lv_aload_n X.1 X.2.1 dX4_line_193 rfl (lv_at hl 0 rfl) ?_
      obtain ⟨b35, e36, h⟩ := m_bS h
      refine u_Gr X I e36 (C := RX4) (T := TX4) (N := 7) (ref := "SwapPress$Reader") in_X4 rfl (by decide) rfl rfl q291 (fun _ h => h) dX4_line_194 ?_
      obtain ⟨b37, e38, h⟩ := m_bS h
      refine u_GrN X I e38 (C := RX1) (T := TX1) (N := 5) (ref := "SwapPress$State") (host := "SwapPress") in_X1 rfl (by decide) rfl rfl 0 rfl (fun _ h => h) dX4_line_197 ?_
      refine lv_bipush (v := 8) X.1 X.2.1 dX4_line_200 (by decide) ?_
      obtain ⟨f39, e40, h⟩ := m_bS h
      rcases Or.symm (u_bxS h) with ⟨q47, u48, C49, C50, e51, z52, h, hq⟩ | ⟨r42, u43, C44, C45, e41, z46, h, hq⟩
      · rw [hq] at hC
        obtain ⟨he, rfl⟩ := m_e3 h
        obtain ⟨rfl, rfl⟩ := m_e4 he
        exact u_callX0 X hl.1 I hA (As := [.ref b37, .int 8]) (rest := []) (uk_X4_comes l n D d u v0 b37 8 _ _ _ e51) z52 (u_clS e40) (C := RX4) (T := TX4) (N := 7) rfl 2 q662 q664 qs7 q108 q665 uh_X4_comes rfl rfl ⟨Nat.le_trans (Nat.le_of_ble_eq_true rfl) hR.1, Nat.le_trans (Nat.le_of_ble_eq_true rfl) hR.2⟩ hC (Nat.le_of_ble_eq_true rfl) dX4_line_202 (fun H locs cells slots hfs hC I => hthr H locs ls 202 _ _ _ _ rfl hfs hC I)
      rw [hq] at hC
      refine u_callX1 X hl.1 I hA (As := [.ref b37, .int 8]) (rest := []) (uk_X4_comes l n D d u v0 b37 8 _ _ _ e41) z46 (u_clS e40) (C := RX4) (T := TX4) (N := 7) rfl 2 q662 q664 qs7 q108 q665 uh_X4_comes rfl rfl ⟨Nat.le_trans (Nat.le_of_ble_eq_true rfl) hR.1, Nat.le_trans (Nat.le_of_ble_eq_true rfl) hR.2⟩ hC (stk := []) rfl (Nat.le_of_ble_eq_true rfl) dX4_line_202 (fun H locs cells slots hC I => ?_)
      refine lv_goto (tgt := 284) X.1 X.2.1 dX4_line_205 (by decide) ?_
      exact k284 u43 v0 H locs ls _ _ _ h hC I (lv_sub hl [0] rfl)
    replace h := m_ifF c175 h
    by_cases c176 : (v2 : Int32) = 1
    · replace h := m_ifT c176 h
      refine lv_tableIn (tgt := 208) X.1 X.2.1 dX4_line_154 (by rw [c176]; decide) (by rw [c176]; decide) (by rw [c176]; rfl) (by decide) ?_
      refine lv_aload_n X.1 X.2.1 dX4_line_208 rfl (lv_at hl 0 rfl) ?_
      refine lv_aload_n X.1 X.2.1 dX4_line_209 rfl (lv_at hl 0 rfl) ?_
      obtain ⟨b81, e82, h⟩ := m_bS h
      refine u_Gr X I e82 (C := RX4) (T := TX4) (N := 7) (ref := "SwapPress$Reader") in_X4 rfl (by decide) rfl rfl q291 (fun _ h => h) dX4_line_210 ?_
      obtain ⟨b83, e84, h⟩ := m_bS h
      refine u_GrN X I e84 (C := RX1) (T := TX1) (N := 5) (ref := "SwapPress$State") (host := "SwapPress") in_X1 rfl (by decide) rfl rfl 2 rfl (fun _ h => h) dX4_line_213 ?_
      refine lv_iconst (v := 4) X.1 X.2.1 dX4_line_216 (by decide) ?_
      obtain ⟨f85, e86, h⟩ := m_bS h
      rcases Or.symm (u_bxS h) with ⟨q93, u94, C95, C96, e97, z98, h, hq⟩ | ⟨r88, u89, C90, C91, e87, z92, h, hq⟩
      · rw [hq] at hC
        obtain ⟨he, rfl⟩ := m_e3 h
        obtain ⟨rfl, rfl⟩ := m_e4 he
        exact u_callX0 X hl.1 I hA (As := [.ref b83, .int 4]) (rest := []) (uk_X4_comes l n D d u v0 b83 4 _ _ _ e97) z98 (u_clS e86) (C := RX4) (T := TX4) (N := 7) rfl 2 q662 q664 qs7 q108 q665 uh_X4_comes rfl rfl ⟨Nat.le_trans (Nat.le_of_ble_eq_true rfl) hR.1, Nat.le_trans (Nat.le_of_ble_eq_true rfl) hR.2⟩ hC (Nat.le_of_ble_eq_true rfl) dX4_line_217 (fun H locs cells slots hfs hC I => hthr H locs ls 217 _ _ _ _ rfl hfs hC I)
      rw [hq] at hC
      refine u_callX1 X hl.1 I hA (As := [.ref b83, .int 4]) (rest := []) (uk_X4_comes l n D d u v0 b83 4 _ _ _ e87) z92 (u_clS e86) (C := RX4) (T := TX4) (N := 7) rfl 2 q662 q664 qs7 q108 q665 uh_X4_comes rfl rfl ⟨Nat.le_trans (Nat.le_of_ble_eq_true rfl) hR.1, Nat.le_trans (Nat.le_of_ble_eq_true rfl) hR.2⟩ hC (stk := []) rfl (Nat.le_of_ble_eq_true rfl) dX4_line_217 (fun H locs cells slots hC I => ?_)
      refine lv_goto (tgt := 284) X.1 X.2.1 dX4_line_220 (by decide) ?_
      exact k284 u89 v0 H locs ls _ _ _ h hC I (lv_sub hl [0] rfl)
    replace h := m_ifF c176 h
    by_cases c177 : (v2 : Int32) = 2
    · replace h := m_ifT c177 h
      refine lv_tableIn (tgt := 223) X.1 X.2.1 dX4_line_154 (by rw [c177]; decide) (by rw [c177]; decide) (by rw [c177]; rfl) (by decide) ?_
      refine lv_aload_n X.1 X.2.1 dX4_line_223 rfl (lv_at hl 0 rfl) ?_
      obtain ⟨f99, e100, h⟩ := m_bS h
      rcases Or.symm (u_bxS h) with ⟨q107, u108, C109, C110, e111, z112, h, hq⟩ | ⟨r102, u103, C104, C105, e101, z106, h, hq⟩
      · rw [hq] at hC
        obtain ⟨he, rfl⟩ := m_e3 h
        obtain ⟨rfl, rfl⟩ := m_e4 he
        exact u_callX0 X hl.1 I hA (As := []) (rest := []) (uk_X4_trade l n D d u v0 _ _ _ e111) z112 (u_clS e100) (C := RX4) (T := TX4) (N := 7) rfl 0 q767 q769 qs12 q108 q770 uh_X4_trade rfl rfl ⟨Nat.le_trans (Nat.le_of_ble_eq_true rfl) hR.1, Nat.le_trans (Nat.le_of_ble_eq_true rfl) hR.2⟩ hC (Nat.le_of_ble_eq_true rfl) dX4_line_224 (fun H locs cells slots hfs hC I => hthr H locs ls 224 _ _ _ _ rfl hfs hC I)
      rw [hq] at hC
      refine u_callX1 X hl.1 I hA (As := []) (rest := []) (uk_X4_trade l n D d u v0 _ _ _ e101) z106 (u_clS e100) (C := RX4) (T := TX4) (N := 7) rfl 0 q767 q769 qs12 q108 q770 uh_X4_trade rfl rfl ⟨Nat.le_trans (Nat.le_of_ble_eq_true rfl) hR.1, Nat.le_trans (Nat.le_of_ble_eq_true rfl) hR.2⟩ hC (stk := []) rfl (Nat.le_of_ble_eq_true rfl) dX4_line_224 (fun H locs cells slots hC I => ?_)
      refine lv_goto (tgt := 284) X.1 X.2.1 dX4_line_227 (by decide) ?_
      exact k284 u103 v0 H locs ls _ _ _ h hC I (lv_sub hl [0] rfl)
    replace h := m_ifF c177 h
    by_cases c178 : (v2 : Int32) = 3
    · replace h := m_ifT c178 h
      refine lv_tableIn (tgt := 230) X.1 X.2.1 dX4_line_154 (by rw [c178]; decide) (by rw [c178]; decide) (by rw [c178]; rfl) (by decide) ?_
      refine lv_aload_n X.1 X.2.1 dX4_line_230 rfl (lv_at hl 0 rfl) ?_
      obtain ⟨f113, e114, h⟩ := m_bS h
      rcases Or.symm (u_bxS h) with ⟨q121, u122, C123, C124, e125, z126, h, hq⟩ | ⟨r116, u117, C118, C119, e115, z120, h, hq⟩
      · rw [hq] at hC
        obtain ⟨he, rfl⟩ := m_e3 h
        obtain ⟨rfl, rfl⟩ := m_e4 he
        exact u_callX0 X hl.1 I hA (As := []) (rest := []) (uk_X4_keep l n D d u v0 _ _ _ e125) z126 (u_clS e114) (C := RX4) (T := TX4) (N := 7) rfl 0 q818 q820 qs16 q108 q821 uh_X4_keep rfl rfl ⟨Nat.le_trans (Nat.le_of_ble_eq_true rfl) hR.1, Nat.le_trans (Nat.le_of_ble_eq_true rfl) hR.2⟩ hC (Nat.le_of_ble_eq_true rfl) dX4_line_231 (fun H locs cells slots hfs hC I => hthr H locs ls 231 _ _ _ _ rfl hfs hC I)
      rw [hq] at hC
      refine u_callX1 X hl.1 I hA (As := []) (rest := []) (uk_X4_keep l n D d u v0 _ _ _ e115) z120 (u_clS e114) (C := RX4) (T := TX4) (N := 7) rfl 0 q818 q820 qs16 q108 q821 uh_X4_keep rfl rfl ⟨Nat.le_trans (Nat.le_of_ble_eq_true rfl) hR.1, Nat.le_trans (Nat.le_of_ble_eq_true rfl) hR.2⟩ hC (stk := []) rfl (Nat.le_of_ble_eq_true rfl) dX4_line_231 (fun H locs cells slots hC I => ?_)
      refine lv_goto (tgt := 284) X.1 X.2.1 dX4_line_234 (by decide) ?_
      exact k284 u117 v0 H locs ls _ _ _ h hC I (lv_sub hl [0] rfl)
    replace h := m_ifF c178 h
    by_cases c179 : (v2 : Int32) = 4
    · replace h := m_ifT c179 h
      refine lv_tableIn (tgt := 237) X.1 X.2.1 dX4_line_154 (by rw [c179]; decide) (by rw [c179]; decide) (by rw [c179]; rfl) (by decide) ?_
      refine lv_aload_n X.1 X.2.1 dX4_line_237 rfl (lv_at hl 0 rfl) ?_
      obtain ⟨f127, e128, h⟩ := m_bS h
      rcases Or.symm (u_bxS h) with ⟨q135, u136, C137, C138, e139, z140, h, hq⟩ | ⟨r130, u131, C132, C133, e129, z134, h, hq⟩
      · rw [hq] at hC
        obtain ⟨he, rfl⟩ := m_e3 h
        obtain ⟨rfl, rfl⟩ := m_e4 he
        exact u_callX0 X hl.1 I hA (As := []) (rest := []) (uk_X4_cap l n D d u v0 _ _ _ e139) z140 (u_clS e128) (C := RX4) (T := TX4) (N := 7) rfl 0 q844 q846 qs17 q108 q847 uh_X4_cap rfl rfl ⟨Nat.le_trans (Nat.le_of_ble_eq_true rfl) hR.1, Nat.le_trans (Nat.le_of_ble_eq_true rfl) hR.2⟩ hC (Nat.le_of_ble_eq_true rfl) dX4_line_238 (fun H locs cells slots hfs hC I => hthr H locs ls 238 _ _ _ _ rfl hfs hC I)
      rw [hq] at hC
      refine u_callX1 X hl.1 I hA (As := []) (rest := []) (uk_X4_cap l n D d u v0 _ _ _ e129) z134 (u_clS e128) (C := RX4) (T := TX4) (N := 7) rfl 0 q844 q846 qs17 q108 q847 uh_X4_cap rfl rfl ⟨Nat.le_trans (Nat.le_of_ble_eq_true rfl) hR.1, Nat.le_trans (Nat.le_of_ble_eq_true rfl) hR.2⟩ hC (stk := []) rfl (Nat.le_of_ble_eq_true rfl) dX4_line_238 (fun H locs cells slots hC I => ?_)
      refine lv_goto (tgt := 284) X.1 X.2.1 dX4_line_241 (by decide) ?_
      exact k284 u131 v0 H locs ls _ _ _ h hC I (lv_sub hl [0] rfl)
    replace h := m_ifF c179 h
    by_cases c180 : (v2 : Int32) = 5
    · replace h := m_ifT c180 h
      refine lv_tableIn (tgt := 244) X.1 X.2.1 dX4_line_154 (by rw [c180]; decide) (by rw [c180]; decide) (by rw [c180]; rfl) (by decide) ?_
      refine lv_aload_n X.1 X.2.1 dX4_line_244 rfl (lv_at hl 0 rfl) ?_
      obtain ⟨b141, e142, h⟩ := m_bS h
      refine u_Gi X I e142 (C := RX4) (T := TX4) (N := 7) (ref := "SwapPress$Reader") in_X4 rfl (by decide) rfl rfl q294 (fun _ h => h) dX4_line_245 ?_
      refine lv_if_eq (tgt := 257) X.1 X.2.1 dX4_line_248 (by decide) (fun c143 => ?_) (fun c143 => ?_)
      · replace h := m_ifT c143 h
        refine lv_aload_n X.1 X.2.1 dX4_line_257 rfl (lv_at hl 0 rfl) ?_
        refine lv_iconst (v := 1) X.1 X.2.1 dX4_line_258 (by decide) ?_
        obtain ⟨g144, h⟩ := m_gS h
        obtain ⟨w145, e146, h⟩ := m_bS h
        refine u_P X I e146 (C := RX4) (T := TX4) (N := 7) (ref := "SwapPress$Reader") in_X4 tyX4 tyX4_ok nmX4 rfl (by decide) rfl rfl q294 (fun _ h => h) rfl (m_01S g144) (u_01z g144) dX4_line_259 (fun H locs I => ?_)
        refine lv_aload_n X.1 X.2.1 dX4_line_262 rfl (lv_at hl 0 rfl) ?_
        obtain ⟨b147, e148, h⟩ := m_bS h
        refine u_Gr X I e148 (C := RX4) (T := TX4) (N := 7) (ref := "SwapPress$Reader") in_X4 rfl (by decide) rfl rfl q291 (fun _ h => h) dX4_line_263 ?_
        refine lv_aload_n X.1 X.2.1 dX4_line_266 rfl (lv_at hl 0 rfl) ?_
        refine lv_iconst (v := 0) X.1 X.2.1 dX4_line_267 (by decide) ?_
        refine lv_iconst (v := 3) X.1 X.2.1 dX4_line_268 (by decide) ?_
        obtain ⟨f149, e150, h⟩ := m_bS h
        rcases Or.symm (u_bxS h) with ⟨q157, u158, C159, C160, e161, z162, h, hq⟩ | ⟨r152, u153, C154, C155, e151, z156, h, hq⟩
        · rw [hq] at hC
          obtain ⟨he, rfl⟩ := m_e3 h
          obtain ⟨rfl, rfl⟩ := m_e4 he
          exact u_callX0 X hl.1 I hA (As := [.int 0, .int 3]) (rest := [.ref b147]) (uk_X4_number l n D d (w145, u.2) v0 0 3 _ _ _ e161) z162 (u_clS e150) (C := RX4) (T := TX4) (N := 7) rfl 2 q781 q783 qs15 q108 q784 uh_X4_number rfl rfl ⟨Nat.le_trans (Nat.le_of_ble_eq_true rfl) hR.1, Nat.le_trans (Nat.le_of_ble_eq_true rfl) hR.2⟩ hC (Nat.le_of_ble_eq_true rfl) dX4_line_269 (fun H locs cells slots hfs hC I => hthr H locs ls 269 _ _ _ _ rfl hfs hC I)
        rw [hq] at hC
        refine u_callX1 X hl.1 I hA (As := [.int 0, .int 3]) (rest := [.ref b147]) (uk_X4_number l n D d (w145, u.2) v0 0 3 _ _ _ e151) z156 (u_clS e150) (C := RX4) (T := TX4) (N := 7) rfl 2 q781 q783 qs15 q108 q784 uh_X4_number rfl rfl ⟨Nat.le_trans (Nat.le_of_ble_eq_true rfl) hR.1, Nat.le_trans (Nat.le_of_ble_eq_true rfl) hR.2⟩ hC (stk := [.int r152, .ref b147]) rfl (Nat.le_of_ble_eq_true rfl) dX4_line_269 (fun H locs cells slots hC I => ?_)
        obtain ⟨w163, e164, h⟩ := m_bS h
        refine u_PN X I e164 (C := RX1) (T := TX1) (N := 5) (ref := "SwapPress$State") (host := "SwapPress") in_X1 tyX1 tyX1_ok nmX1 rfl (by decide) rfl rfl 9 rfl (fun _ h => h) rfl rfl rfl dX4_line_272 (fun H locs I => ?_)
        refine lv_goto (tgt := 284) X.1 X.2.1 dX4_line_275 (by decide) ?_
        exact k284 (w163, u153.2) v0 H locs ls _ _ _ h hC I (lv_sub hl [0] rfl)
      · replace h := m_ifF c143 h
        refine lv_aload_n X.1 X.2.1 dX4_line_251 rfl (lv_at hl 0 rfl) ?_
        refine lv_iconst (v := 1) X.1 X.2.1 dX4_line_252 (by decide) ?_
        obtain ⟨f165, e166, h⟩ := m_bS h
        obtain ⟨r168, u169, C170, C171, e167, z172, h, hq⟩ := u_bcS h
        rw [hq] at hC
        refine u_callV X hl.1 I hA (As := [.int 1]) (rest := []) (uk_X4_wrong l n D d u v0 1 _ _ _ e167) z172 (u_clS e166) (C := RX4) (T := TX4) (N := 7) rfl 1 q524 q526 qs5 q108 q527 uh_X4_wrong rfl rfl ⟨Nat.le_trans (Nat.le_of_ble_eq_true rfl) hR.1, Nat.le_trans (Nat.le_of_ble_eq_true rfl) hR.2⟩ hC (stk := [.ref r168]) rfl (Nat.le_of_ble_eq_true rfl) dX4_line_253 (fun H locs cells slots hC I => ?_)
        obtain ⟨f173, e174, h⟩ := m_bS h
        obtain ⟨he, rfl⟩ := m_e3 h
        obtain ⟨rfl, rfl⟩ := m_e4 he
        exact vx_athrow X.1 X.2.1 dX4_line_256 (hthr H locs ls 256 _ _ _ _ rfl ⟨_, u_clS e174⟩ hC I)
    replace h := m_ifF c180 h
    refine lv_tableOut (tgt := 278) X.1 X.2.1 dX4_line_154 (u_sw0_5 _ c175 c176 c177 c178 c179 c180) (by decide) ?_
    refine lv_aload_n X.1 X.2.1 dX4_line_278 rfl (lv_at hl 0 rfl) ?_
    refine lv_iconst (v := 1) X.1 X.2.1 dX4_line_279 (by decide) ?_
    obtain ⟨f25, e26, h⟩ := m_bS h
    obtain ⟨r28, u29, C30, C31, e27, z32, h, hq⟩ := u_bcS h
    rw [hq] at hC
    refine u_callV X hl.1 I hA (As := [.int 1]) (rest := []) (uk_X4_wrong l n D d u v0 1 _ _ _ e27) z32 (u_clS e26) (C := RX4) (T := TX4) (N := 7) rfl 1 q524 q526 qs5 q108 q527 uh_X4_wrong rfl rfl ⟨Nat.le_trans (Nat.le_of_ble_eq_true rfl) hR.1, Nat.le_trans (Nat.le_of_ble_eq_true rfl) hR.2⟩ hC (stk := [.ref r28]) rfl (Nat.le_of_ble_eq_true rfl) dX4_line_280 (fun H locs cells slots hC I => ?_)
    obtain ⟨f33, e34, h⟩ := m_bS h
    obtain ⟨he, rfl⟩ := m_e3 h
    obtain ⟨rfl, rfl⟩ := m_e4 he
    exact vx_athrow X.1 X.2.1 dX4_line_283 (hthr H locs ls 283 _ _ _ _ rfl ⟨_, u_clS e34⟩ hC I)
  intro H locs ls cells slots hC I hl
  unfold uf_X4_line at h
  refine lv_aload_n X.1 X.2.1 dX4_line_0 rfl (lv_at hl 0 rfl) ?_
  obtain ⟨f1, e2, h⟩ := m_bS h
  rcases Or.symm (u_bxS h) with ⟨q9, u10, C11, C12, e13, z14, h, hq⟩ | ⟨r4, u5, C6, C7, e3, z8, h, hq⟩
  · rw [hq] at hC
    obtain ⟨he, rfl⟩ := m_e3 h
    obtain ⟨rfl, rfl⟩ := m_e4 he
    exact u_callX0 X hl.1 I hA (As := []) (rest := []) (uk_X4_word l n D d u t _ _ _ e13) z14 (u_clS e2) (C := RX4) (T := TX4) (N := 7) rfl 0 q329 q331 qs4 q108 q332 uh_X4_word rfl rfl ⟨Nat.le_trans (Nat.le_of_ble_eq_true rfl) hR.1, Nat.le_trans (Nat.le_of_ble_eq_true rfl) hR.2⟩ hC (Nat.le_of_ble_eq_true rfl) dX4_line_1 (fun H locs cells slots hfs hC I => hthr H locs ls 1 _ _ _ _ rfl hfs hC I)
  rw [hq] at hC
  refine u_callX1 X hl.1 I hA (As := []) (rest := []) (uk_X4_word l n D d u t _ _ _ e3) z8 (u_clS e2) (C := RX4) (T := TX4) (N := 7) rfl 0 q329 q331 qs4 q108 q332 uh_X4_word rfl rfl ⟨Nat.le_trans (Nat.le_of_ble_eq_true rfl) hR.1, Nat.le_trans (Nat.le_of_ble_eq_true rfl) hR.2⟩ hC (stk := []) rfl (Nat.le_of_ble_eq_true rfl) dX4_line_1 (fun H locs cells slots hC I => ?_)
  refine lv_aload_n X.1 X.2.1 dX4_line_4 rfl (lv_at hl 0 rfl) ?_
  obtain ⟨b15, e16, h⟩ := m_bS h
  refine u_Gr X I e16 (C := RX4) (T := TX4) (N := 7) (ref := "SwapPress$Reader") in_X4 rfl (by decide) rfl rfl q295 (fun _ h => h) dX4_line_5 ?_
  refine lv_astore_n (lv' := [(1, .ref b15), (0, .ref t)]) X.1 X.2.1 dX4_line_8 rfl hl (by decide) rfl (fun ls hl => ?_)
  refine lv_iconst (v := (-1)) X.1 X.2.1 dX4_line_9 (by decide) ?_
  refine lv_istore_n (lv' := [(2, .int ((-1))), (1, .ref b15), (0, .ref t)]) X.1 X.2.1 dX4_line_10 rfl hl (by decide) rfl (fun ls hl => ?_)
  refine lv_aload_n X.1 X.2.1 dX4_line_11 rfl (lv_at hl 1 rfl) ?_
  obtain ⟨f17, e18, h⟩ := m_bS h
  obtain ⟨r20, u21, C22, C23, e19, z24, h, hq⟩ := u_bcS h
  rw [hq] at hC
  refine u_callVT X hl.1 I hA (As := []) (rest := []) (uk_J5_hashCode l n D d u5 b15 _ _ _ e19) z24 (u_txS e18) 0 q595 q596 q597 q111 q598 uh_J5_hashCode rfl rfl ⟨Nat.le_trans (Nat.le_of_ble_eq_true rfl) hR.1, Nat.le_trans (Nat.le_of_ble_eq_true rfl) hR.2⟩ hC (stk := [.int r20]) rfl (Nat.le_of_ble_eq_true rfl) dX4_line_12 (fun H locs cells slots hC I => ?_)
  by_cases c211 : (r20 : Int32) = 98258
  · replace h := m_ifT c211 h
    refine lv_lookup (off := 113) (tgt := 128) X.1 X.2.1 dX4_line_15 (by decide) (by rw [c211]; rfl) (by decide) ?_
    refine lv_aload_n X.1 X.2.1 dX4_line_128 rfl (lv_at hl 1 rfl) ?_
    refine u_ldc X 4 rfl dX4_line_129 ?_
    obtain ⟨f181, e182, h⟩ := m_bS h
    obtain ⟨r184, e183, h⟩ := m_bS h
    refine u_callVpT X hl.1 I hA (As := [.ref (d.2 (10 + 4))]) (rest := []) (uk_J5_equals l n D d u21 b15 (d.2 (10 + 4)) _ e183) (u_txS e182) 1 q649 q650 q651 q111 q652 uh_J5_equals rfl rfl ⟨Nat.le_trans (Nat.le_of_ble_eq_true rfl) hR.1, Nat.le_trans (Nat.le_of_ble_eq_true rfl) hR.2⟩ (u_leftLe hC) (stk := [.int r184]) rfl (Nat.le_of_ble_eq_true rfl) dX4_line_131 (fun H locs I => ?_)
    refine lv_if_eq (tgt := 153) X.1 X.2.1 dX4_line_134 (by decide) (fun c185 => ?_) (fun c185 => ?_)
    · replace h := m_ifT c185 h
      exact k153 u21 t ((-1)) H locs ls _ _ _ h hC I (lv_sub hl [2, 0] rfl)
    · replace h := m_ifF c185 h
      refine lv_iconst (v := 4) X.1 X.2.1 dX4_line_137 (by decide) ?_
      refine lv_istore_n (lv' := [(2, .int 4), (1, .ref b15), (0, .ref t)]) X.1 X.2.1 dX4_line_138 rfl hl (by decide) rfl (fun ls hl => ?_)
      refine lv_goto (tgt := 153) X.1 X.2.1 dX4_line_139 (by decide) ?_
      exact k153 u21 t 4 H locs ls _ _ _ h hC I (lv_sub hl [2, 0] rfl)
  replace h := m_ifF c211 h
  by_cases c212 : (r20 : Int32) = 3287941
  · replace h := m_ifT c212 h
    refine lv_lookup (off := 99) (tgt := 114) X.1 X.2.1 dX4_line_15 (by decide) (by rw [c212]; rfl) (by decide) ?_
    refine lv_aload_n X.1 X.2.1 dX4_line_114 rfl (lv_at hl 1 rfl) ?_
    refine u_ldc X 3 rfl dX4_line_115 ?_
    obtain ⟨f186, e187, h⟩ := m_bS h
    obtain ⟨r189, e188, h⟩ := m_bS h
    refine u_callVpT X hl.1 I hA (As := [.ref (d.2 (10 + 3))]) (rest := []) (uk_J5_equals l n D d u21 b15 (d.2 (10 + 3)) _ e188) (u_txS e187) 1 q649 q650 q651 q111 q652 uh_J5_equals rfl rfl ⟨Nat.le_trans (Nat.le_of_ble_eq_true rfl) hR.1, Nat.le_trans (Nat.le_of_ble_eq_true rfl) hR.2⟩ (u_leftLe hC) (stk := [.int r189]) rfl (Nat.le_of_ble_eq_true rfl) dX4_line_117 (fun H locs I => ?_)
    refine lv_if_eq (tgt := 153) X.1 X.2.1 dX4_line_120 (by decide) (fun c190 => ?_) (fun c190 => ?_)
    · replace h := m_ifT c190 h
      exact k153 u21 t ((-1)) H locs ls _ _ _ h hC I (lv_sub hl [2, 0] rfl)
    · replace h := m_ifF c190 h
      refine lv_iconst (v := 3) X.1 X.2.1 dX4_line_123 (by decide) ?_
      refine lv_istore_n (lv' := [(2, .int 3), (1, .ref b15), (0, .ref t)]) X.1 X.2.1 dX4_line_124 rfl hl (by decide) rfl (fun ls hl => ?_)
      refine lv_goto (tgt := 153) X.1 X.2.1 dX4_line_125 (by decide) ?_
      exact k153 u21 t 3 H locs ls _ _ _ h hC I (lv_sub hl [2, 0] rfl)
  replace h := m_ifF c212 h
  by_cases c213 : (r20 : Int32) = 3292052
  · replace h := m_ifT c213 h
    refine lv_lookup (off := 71) (tgt := 86) X.1 X.2.1 dX4_line_15 (by decide) (by rw [c213]; rfl) (by decide) ?_
    refine lv_aload_n X.1 X.2.1 dX4_line_86 rfl (lv_at hl 1 rfl) ?_
    refine u_ldc X 1 rfl dX4_line_87 ?_
    obtain ⟨f191, e192, h⟩ := m_bS h
    obtain ⟨r194, e193, h⟩ := m_bS h
    refine u_callVpT X hl.1 I hA (As := [.ref (d.2 (10 + 1))]) (rest := []) (uk_J5_equals l n D d u21 b15 (d.2 (10 + 1)) _ e193) (u_txS e192) 1 q649 q650 q651 q111 q652 uh_J5_equals rfl rfl ⟨Nat.le_trans (Nat.le_of_ble_eq_true rfl) hR.1, Nat.le_trans (Nat.le_of_ble_eq_true rfl) hR.2⟩ (u_leftLe hC) (stk := [.int r194]) rfl (Nat.le_of_ble_eq_true rfl) dX4_line_89 (fun H locs I => ?_)
    refine lv_if_eq (tgt := 153) X.1 X.2.1 dX4_line_92 (by decide) (fun c195 => ?_) (fun c195 => ?_)
    · replace h := m_ifT c195 h
      exact k153 u21 t ((-1)) H locs ls _ _ _ h hC I (lv_sub hl [2, 0] rfl)
    · replace h := m_ifF c195 h
      refine lv_iconst (v := 1) X.1 X.2.1 dX4_line_95 (by decide) ?_
      refine lv_istore_n (lv' := [(2, .int 1), (1, .ref b15), (0, .ref t)]) X.1 X.2.1 dX4_line_96 rfl hl (by decide) rfl (fun ls hl => ?_)
      refine lv_goto (tgt := 153) X.1 X.2.1 dX4_line_97 (by decide) ?_
      exact k153 u21 t 1 H locs ls _ _ _ h hC I (lv_sub hl [2, 0] rfl)
  replace h := m_ifF c213 h
  by_cases c214 : (r20 : Int32) = 3357091
  · replace h := m_ifT c214 h
    refine lv_lookup (off := 127) (tgt := 142) X.1 X.2.1 dX4_line_15 (by decide) (by rw [c214]; rfl) (by decide) ?_
    refine lv_aload_n X.1 X.2.1 dX4_line_142 rfl (lv_at hl 1 rfl) ?_
    refine u_ldc X 5 rfl dX4_line_143 ?_
    obtain ⟨f196, e197, h⟩ := m_bS h
    obtain ⟨r199, e198, h⟩ := m_bS h
    refine u_callVpT X hl.1 I hA (As := [.ref (d.2 (10 + 5))]) (rest := []) (uk_J5_equals l n D d u21 b15 (d.2 (10 + 5)) _ e198) (u_txS e197) 1 q649 q650 q651 q111 q652 uh_J5_equals rfl rfl ⟨Nat.le_trans (Nat.le_of_ble_eq_true rfl) hR.1, Nat.le_trans (Nat.le_of_ble_eq_true rfl) hR.2⟩ (u_leftLe hC) (stk := [.int r199]) rfl (Nat.le_of_ble_eq_true rfl) dX4_line_145 (fun H locs I => ?_)
    refine lv_if_eq (tgt := 153) X.1 X.2.1 dX4_line_148 (by decide) (fun c200 => ?_) (fun c200 => ?_)
    · replace h := m_ifT c200 h
      exact k153 u21 t ((-1)) H locs ls _ _ _ h hC I (lv_sub hl [2, 0] rfl)
    · replace h := m_ifF c200 h
      refine lv_iconst (v := 5) X.1 X.2.1 dX4_line_151 (by decide) ?_
      refine lv_istore_n (lv' := [(2, .int 5), (1, .ref b15), (0, .ref t)]) X.1 X.2.1 dX4_line_152 rfl hl (by decide) rfl (fun ls hl => ?_)
      exact k153 u21 t 5 H locs ls _ _ _ h hC I (lv_sub hl [2, 0] rfl)
  replace h := m_ifF c214 h
  by_cases c215 : (r20 : Int32) = 106437350
  · replace h := m_ifT c215 h
    refine lv_lookup (off := 57) (tgt := 72) X.1 X.2.1 dX4_line_15 (by decide) (by rw [c215]; rfl) (by decide) ?_
    refine lv_aload_n X.1 X.2.1 dX4_line_72 rfl (lv_at hl 1 rfl) ?_
    refine u_ldc X 0 rfl dX4_line_73 ?_
    obtain ⟨f201, e202, h⟩ := m_bS h
    obtain ⟨r204, e203, h⟩ := m_bS h
    refine u_callVpT X hl.1 I hA (As := [.ref (d.2 (10 + 0))]) (rest := []) (uk_J5_equals l n D d u21 b15 (d.2 (10 + 0)) _ e203) (u_txS e202) 1 q649 q650 q651 q111 q652 uh_J5_equals rfl rfl ⟨Nat.le_trans (Nat.le_of_ble_eq_true rfl) hR.1, Nat.le_trans (Nat.le_of_ble_eq_true rfl) hR.2⟩ (u_leftLe hC) (stk := [.int r204]) rfl (Nat.le_of_ble_eq_true rfl) dX4_line_75 (fun H locs I => ?_)
    refine lv_if_eq (tgt := 153) X.1 X.2.1 dX4_line_78 (by decide) (fun c205 => ?_) (fun c205 => ?_)
    · replace h := m_ifT c205 h
      exact k153 u21 t ((-1)) H locs ls _ _ _ h hC I (lv_sub hl [2, 0] rfl)
    · replace h := m_ifF c205 h
      refine lv_iconst (v := 0) X.1 X.2.1 dX4_line_81 (by decide) ?_
      refine lv_istore_n (lv' := [(2, .int 0), (1, .ref b15), (0, .ref t)]) X.1 X.2.1 dX4_line_82 rfl hl (by decide) rfl (fun ls hl => ?_)
      refine lv_goto (tgt := 153) X.1 X.2.1 dX4_line_83 (by decide) ?_
      exact k153 u21 t 0 H locs ls _ _ _ h hC I (lv_sub hl [2, 0] rfl)
  replace h := m_ifF c215 h
  by_cases c216 : (r20 : Int32) = 110621028
  · replace h := m_ifT c216 h
    refine lv_lookup (off := 85) (tgt := 100) X.1 X.2.1 dX4_line_15 (by decide) (by rw [c216]; rfl) (by decide) ?_
    refine lv_aload_n X.1 X.2.1 dX4_line_100 rfl (lv_at hl 1 rfl) ?_
    refine u_ldc X 2 rfl dX4_line_101 ?_
    obtain ⟨f206, e207, h⟩ := m_bS h
    obtain ⟨r209, e208, h⟩ := m_bS h
    refine u_callVpT X hl.1 I hA (As := [.ref (d.2 (10 + 2))]) (rest := []) (uk_J5_equals l n D d u21 b15 (d.2 (10 + 2)) _ e208) (u_txS e207) 1 q649 q650 q651 q111 q652 uh_J5_equals rfl rfl ⟨Nat.le_trans (Nat.le_of_ble_eq_true rfl) hR.1, Nat.le_trans (Nat.le_of_ble_eq_true rfl) hR.2⟩ (u_leftLe hC) (stk := [.int r209]) rfl (Nat.le_of_ble_eq_true rfl) dX4_line_103 (fun H locs I => ?_)
    refine lv_if_eq (tgt := 153) X.1 X.2.1 dX4_line_106 (by decide) (fun c210 => ?_) (fun c210 => ?_)
    · replace h := m_ifT c210 h
      exact k153 u21 t ((-1)) H locs ls _ _ _ h hC I (lv_sub hl [2, 0] rfl)
    · replace h := m_ifF c210 h
      refine lv_iconst (v := 2) X.1 X.2.1 dX4_line_109 (by decide) ?_
      refine lv_istore_n (lv' := [(2, .int 2), (1, .ref b15), (0, .ref t)]) X.1 X.2.1 dX4_line_110 rfl hl (by decide) rfl (fun ls hl => ?_)
      refine lv_goto (tgt := 153) X.1 X.2.1 dX4_line_111 (by decide) ?_
      exact k153 u21 t 2 H locs ls _ _ _ h hC I (lv_sub hl [2, 0] rfl)
  replace h := m_ifF c216 h
  refine lv_lookup (off := 138) (tgt := 153) X.1 X.2.1 dX4_line_15 (by decide) (u_lkc (k := 98258) (by decide) c211 (u_lkc (k := 3287941) (by decide) c212 (u_lkc (k := 3292052) (by decide) c213 (u_lkc (k := 3357091) (by decide) c214 (u_lkc (k := 106437350) (by decide) c215 (u_lkc (k := 110621028) (by decide) c216 rfl)))))) (by decide) ?_
  exact k153 u21 t ((-1)) H locs ls _ _ _ h hC I (lv_sub hl [2, 0] rfl)
end S_X4_line
theorem uk_X4_line (l : Launch) (n : Nat) (D : va_G) (d : UD) (u : UM) (t : Nat) (r0 : Unit ⊕ Nat) (ur : UM) (C : UC) (h : uf_X4_line n d u t = some ((r0, ur), C)) : u_MX l yX4_line (ws_ yX4_line cX4_line 3 none) 11 279 C D d u [.ref t] (u_ov (fun (_ : Unit) => none) r0) ur :=
  u_startX (own := RX4) (lvl := [(0, .ref t)]) (by decide) rfl (Nat.le_of_ble_eq_true rfl) rfl (fun p e s m args below meth c ls X hr hlk htab hl hA I hC => uw_X4_line X hA ⟨Nat.le_refl _, Nat.le_refl _⟩ n u t r0 ur C h (fun H locs ls pc cells slots v0 hv hd hC I => by subst hv; exact vx_ret (u_vret X I hr hlk (u_leftE hC) hd)) (fun H locs ls pc rest cells slots q hv hfs hC I => by subst hv; exact u_outX X I hlk htab hfs (u_leftE hC)) _ _ ls _ _ hC I hl)

/-! SwapPress$Reader.reads()LSwapPress$State; -/
def uf_X4_reads_L0 (n : Nat) (d : UD) (v0 : Nat) (u : UM) : Option ((UM ⊕ (UM ⊕ (Nat × UM))) × UC) :=
  m_b (u_cl u 4 v0) (fun f1 => u_bc u.2 (uf_X4_isEnd n d u v0) (fun r4 u5 => m_if ((r4 : Int32) = 0) (m_b (u_cl u5 4 v0) (fun f10 => u_bx u5.2 (uf_X4_line n d u5 v0) (fun r13 u14 => some (.inl u14, (0, 0))) (fun q18 u19 => some (.inr (.inr ((q18, u19))), (0, 0))))) (some (.inr ((.inl u5)), (0, 0)))))
def uf_X4_reads_L0l (n : Nat) (d : UD) (v0 : Nat) (x : UM) : Option ((UM ⊕ (Nat × UM)) × UC) := u_lp (fun (x : UM) => uf_X4_reads_L0 n d v0 x) n x
def uf_X4_reads (n : Nat) (d : UD) (u : UM) (t : Nat) : Option (((Nat ⊕ Nat) × UM) × UC) :=
  u_bl (uf_X4_reads_L0l n d t u) (fun y31 => m_s y31 (fun u25 => m_b (u_fr d u25 4 1 t) (fun b26 => some ((.inl b26, u25), (0, 0)))) (fun y30 => some ((.inr y30.1, y30.2), (0, 0))))
theorem uh_X4_reads : yX4_reads.cls = RX4 ∧ yX4_reads.cls ≠ "java/lang/invoke/MethodHandle" ∧ yX4_reads.cls ≠ "java/lang/invoke/VarHandle" ∧ (parseMethodDescriptor yX4_reads.desc).map (fun d => d.parameters.length) = some 0 := by decide +kernel
section S_X4_reads
variable {p : Program} {l : Launch} {e : Env} {R : Room} {s : State} {m : MethodId} {args : Array Value} {below : List Frame} {meth : Method} {c : Code} {Q : State → Prop} {D : va_G} {A : Nat → Prop} {d : UD}
theorem wuf_X4_reads_L0 (X : u_X RX4 D A d p s m c cX4_reads 1 args) (hA : ∀ q, s.heap.size ≤ q → A q) (hR : 12 ≤ R.frames ∧ 301 ≤ R.locals) (n : Nat) (v0 : Nat) (x : UM) (z : (UM ⊕ (Nat × UM))) (C cr : UC) (hz : uf_X4_reads_L0l n d v0 x = some (z, C)) (hE : (u_e (fun (z : UM) (C : UC) => ∀ (H : Heap) (locs : List Loc) (ls : Array Slot) (cells slots : Nat), u_left R cells slots C → u_I D A s.heap z H locs cells → lv_has ls 1 [(0, .ref v0)] → W p l e R s m args below meth c H locs cells slots Q (F0 m 14 ls [])) (fun (z : Nat × UM) (C : UC) => ∀ (H : Heap) (locs : List Loc) (ls : Array Slot) (cells slots pc : Nat) (rest : List Value), (∃ fs, u_get z.2.1 z.1 = some (.inr (5, fs))) → u_left R cells slots C → u_I D A s.heap z.2 H locs cells → vx_W p l e R s m args below meth c H locs cells slots Q (F0 m pc ls rest) z.1)) z cr) : (fun (x : UM) (C : UC) => ∀ (H : Heap) (locs : List Loc) (ls : Array Slot) (cells slots : Nat), u_left R cells slots C → u_I D A s.heap x H locs cells → lv_has ls 1 [(0, .ref v0)] → W p l e R s m args below meth c H locs cells slots Q (F0 m 0 ls [])) x (u_add C cr) := by
  refine u_lpW (G := fun (x : UM) (C : UC) => ∀ (H : Heap) (locs : List Loc) (ls : Array Slot) (cells slots : Nat), u_left R cells slots C → u_I D A s.heap x H locs cells → lv_has ls 1 [(0, .ref v0)] → W p l e R s m args below meth c H locs cells slots Q (F0 m 0 ls [])) (E := u_e (fun (z : UM) (C : UC) => ∀ (H : Heap) (locs : List Loc) (ls : Array Slot) (cells slots : Nat), u_left R cells slots C → u_I D A s.heap z H locs cells → lv_has ls 1 [(0, .ref v0)] → W p l e R s m args below meth c H locs cells slots Q (F0 m 14 ls [])) (fun (z : Nat × UM) (C : UC) => ∀ (H : Heap) (locs : List Loc) (ls : Array Slot) (cells slots pc : Nat) (rest : List Value), (∃ fs, u_get z.2.1 z.1 = some (.inr (5, fs))) → u_left R cells slots C → u_I D A s.heap z.2 H locs cells → vx_W p l e R s m args below meth c H locs cells slots Q (F0 m pc ls rest) z.1)) ?_ n x z C cr hz hE
  rintro u r C cr h hr H locs ls cells slots hC I hl
  replace h : uf_X4_reads_L0 n d v0 u = some (r, C) := h
  unfold uf_X4_reads_L0 at h
  refine lv_aload_n X.1 X.2.1 dX4_reads_0 rfl (lv_at hl 0 rfl) ?_
  obtain ⟨f1, e2, h⟩ := m_bS h
  obtain ⟨r4, u5, C6, C7, e3, z8, h, hq⟩ := u_bcS h
  rw [hq] at hC
  refine u_callV X hl.1 I hA (As := []) (rest := []) (uk_X4_isEnd l n D d u v0 _ _ _ e3) z8 (u_clS e2) (C := RX4) (T := TX4) (N := 7) rfl 0 q316 q318 qs1 q108 q319 uh_X4_isEnd rfl rfl ⟨Nat.le_trans (Nat.le_of_ble_eq_true rfl) hR.1, Nat.le_trans (Nat.le_of_ble_eq_true rfl) hR.2⟩ hC (stk := [.int r4]) rfl (Nat.le_of_ble_eq_true rfl) dX4_reads_1 (fun H locs cells slots hC I => ?_)
  refine lv_if_ne (tgt := 14) X.1 X.2.1 dX4_reads_4 (by decide) (fun c9 => ?_) (fun c9 => ?_)
  · replace h := m_ifF c9 h
    obtain ⟨rfl, rfl⟩ := m_e3 h
    exact hr H locs ls _ _ (u_left0 hC) I (lv_sub hl [0] rfl)
  · replace h := m_ifT c9 h
    refine lv_aload_n X.1 X.2.1 dX4_reads_7 rfl (lv_at hl 0 rfl) ?_
    obtain ⟨f10, e11, h⟩ := m_bS h
    rcases Or.symm (u_bxS h) with ⟨q18, u19, C20, C21, e22, z23, h, hq⟩ | ⟨r13, u14, C15, C16, e12, z17, h, hq⟩
    · rw [hq] at hC
      obtain ⟨rfl, rfl⟩ := m_e3 h
      exact u_callX0 X hl.1 I hA (As := []) (rest := []) (uk_X4_line l n D d u5 v0 _ _ _ e22) z23 (u_clS e11) (C := RX4) (T := TX4) (N := 7) rfl 0 q325 q327 qs3 q108 q328 uh_X4_line rfl rfl ⟨Nat.le_trans (Nat.le_of_ble_eq_true rfl) hR.1, Nat.le_trans (Nat.le_of_ble_eq_true rfl) hR.2⟩ hC (Nat.le_of_ble_eq_true rfl) dX4_reads_8 (fun H locs cells slots hfs hC I => hr H locs ls cells slots 8 _ hfs (u_left0 hC) I)
    rw [hq] at hC
    refine u_callX1 X hl.1 I hA (As := []) (rest := []) (uk_X4_line l n D d u5 v0 _ _ _ e12) z17 (u_clS e11) (C := RX4) (T := TX4) (N := 7) rfl 0 q325 q327 qs3 q108 q328 uh_X4_line rfl rfl ⟨Nat.le_trans (Nat.le_of_ble_eq_true rfl) hR.1, Nat.le_trans (Nat.le_of_ble_eq_true rfl) hR.2⟩ hC (stk := []) rfl (Nat.le_of_ble_eq_true rfl) dX4_reads_8 (fun H locs cells slots hC I => ?_)
    refine lv_goto (tgt := 0) X.1 X.2.1 dX4_reads_11 (by decide) ?_
    obtain ⟨rfl, rfl⟩ := m_e3 h
    exact hr H locs ls _ _ (u_left0 hC) I (lv_sub hl [0] rfl)
theorem uw_X4_reads (X : u_X RX4 D A d p s m c cX4_reads 1 args) (hA : ∀ q, s.heap.size ≤ q → A q) (hR : 12 ≤ R.frames ∧ 301 ≤ R.locals) (n : Nat) (u : UM) (t : Nat) (r0 : Nat ⊕ Nat) (ur : UM) (C : UC) (h : uf_X4_reads n d u t = some ((r0, ur), C)) (hret : ∀ (H : Heap) (locs : List Loc) (ls : Array Slot) (pc cells slots : Nat) (v0 : Nat), r0 = .inl v0 → decode cX4_reads pc = .ok (.areturn, 1) → u_left R cells slots (u_add (0, 0) (0, 0)) → u_I D A s.heap ur H locs cells → W p l e R s m args below meth c H locs cells slots Q (F0 m pc ls [.ref v0])) (hthr : ∀ (H : Heap) (locs : List Loc) (ls : Array Slot) (pc : Nat) (rest : List Value) (cells slots q : Nat), r0 = .inr q → (∃ fs, u_get ur.1 q = some (.inr (5, fs))) → u_left R cells slots (u_add (0, 0) (0, 0)) → u_I D A s.heap ur H locs cells → vx_W p l e R s m args below meth c H locs cells slots Q (F0 m pc ls rest) q) : ∀ (H : Heap) (locs : List Loc) (ls : Array Slot) (cells slots : Nat), u_left R cells slots (u_add C (0, 0)) → u_I D A s.heap u H locs cells → lv_has ls 1 [(0, .ref t)] → W p l e R s m args below meth c H locs cells slots Q (F0 m 0 ls []) := by
  intro H locs ls cells slots hC I hl
  unfold uf_X4_reads at h
  obtain ⟨u25 | ⟨y28, u29⟩, C32, C33, e24, h, hq⟩ := u_blS h
  · rw [hq] at hC
    replace h := m_sL h
    refine wuf_X4_reads_L0 X hA hR n t _ _ _ _ e24 (fun H locs ls cells slots hC I hl => ?_) H locs ls _ _ (u_left2 hC) I (lv_sub hl [0] rfl)
    refine lv_aload_n X.1 X.2.1 dX4_reads_14 rfl (lv_at hl 0 rfl) ?_
    obtain ⟨b26, e27, h⟩ := m_bS h
    refine u_Gr X I e27 (C := RX4) (T := TX4) (N := 7) (ref := "SwapPress$Reader") in_X4 rfl (by decide) rfl rfl q291 (fun _ h => h) dX4_reads_15 ?_
    obtain ⟨he, rfl⟩ := m_e3 h
    obtain ⟨rfl, rfl⟩ := m_e4 he
    exact hret H locs ls 18 _ _ _ rfl dX4_reads_18 hC I
  · rw [hq] at hC
    replace h := m_sR h
    obtain ⟨he, rfl⟩ := m_e3 h
    obtain ⟨rfl, rfl⟩ := m_e4 he
    refine wuf_X4_reads_L0 X hA hR n t _ _ _ _ e24 (fun H locs ls cells slots pc rest hfs hC I => hthr H locs ls pc rest _ _ _ rfl hfs hC I) H locs ls _ _ (u_left2 hC) I (lv_sub hl [0] rfl)
end S_X4_reads
theorem uk_X4_reads (l : Launch) (n : Nat) (D : va_G) (d : UD) (u : UM) (t : Nat) (r0 : Nat ⊕ Nat) (ur : UM) (C : UC) (h : uf_X4_reads n d u t = some ((r0, ur), C)) : u_MX l yX4_reads (ws_ yX4_reads cX4_reads 1 (some (.object "SwapPress$State"))) 12 301 C D d u [.ref t] (u_ov (fun (v0 : Nat) => some (.ref v0)) r0) ur :=
  u_startX (own := RX4) (lvl := [(0, .ref t)]) (by decide) rfl (Nat.le_of_ble_eq_true rfl) rfl (fun p e s m args below meth c ls X hr hlk htab hl hA I hC => uw_X4_reads X hA ⟨Nat.le_refl _, Nat.le_refl _⟩ n u t r0 ur C h (fun H locs ls pc cells slots v0 hv hd hC I => by subst hv; exact vx_ret (u_aret (r := some v0) X I hr (Or.inl ⟨_, rfl⟩) hlk (u_leftE hC) hd)) (fun H locs ls pc rest cells slots q hv hfs hC I => by subst hv; exact u_outX X I hlk htab hfs (u_leftE hC)) _ _ ls _ _ hC I hl)

/-! SwapPress.tell(I)I -/
def uf_X0_tell (n : Nat) (d : UD) (u : UM) (t : Nat) (p0 : Int32) : Option ((Int32 × UM) × UC) :=
  m_b (u_fi d u 1 6 t) (fun b1 => m_b (uf_X0_in n d u ((p0 : Int32).toInt64) 0 ((b1 : Int32).toInt64)) (fun r4 => m_if ((r4 : Int32) = 0) (some (((-3), u), (0, 0))) (m_b (u_pf u 1 6 t (.int 0)) (fun w6 => m_b (u_pf (w6, u.2) 1 7 t (.int 0)) (fun w8 => m_b (u_pf (w8, u.2) 1 8 t (.int ((-1)))) (fun w10 => u_ac (1, 7) (m_b (some (u_nw (w10, u.2) (.inr (4, [.int 0, .null, .int 0, .int 0, .int 0, .null, .null])))) (fun u13 => u_bc u13.2 (uf_X4_init n d u13 u.2 t p0) (fun r16 u17 => m_b (u_cl u17 4 u.2) (fun f21 => u_bx u17.2 (uf_X4_reads n d u17 u.2) (fun r24 u25 => m_b (u_pf u25 1 0 t (.ref r24)) (fun w45 => m_b (u_fr d (w45, u25.2) 1 1 t) (fun b47 => m_b (u_cl (w45, u25.2) 13 b47) (fun f49 => u_bc u25.2 (uf_J2_clear n d (w45, u25.2) b47) (fun r52 u53 => m_b (u_pf u53 1 3 t (.int ((-1)))) (fun w57 => m_b (u_fr d (w57, u53.2) 1 0 t) (fun b59 => m_b (u_nr (w57, u53.2) 2 2 b59) (fun b61 => m_b (u_cl (w57, u53.2) 13 b61) (fun f63 => m_b (uf_J2_size n d (w57, u53.2) b61) (fun r66 => some ((r66, (w57, u53.2)), (0, 0)))))))))))) (fun q29 u30 => m_b (u_ni u30 5 6 q29) (fun b35 => m_b (u_pf u30 1 7 t (.int b35)) (fun w37 => m_b (u_ni (w37, u30.2) 5 7 q29) (fun b39 => m_b (u_pf (w37, u30.2) 1 8 t (.int b39)) (fun w41 => m_b (u_ni (w41, u30.2) 5 6 q29) (fun b43 => some ((((-30)) - b43, (w41, u30.2)), (0, 0))))))))))))))))))
theorem uh_X0_tell : yX0_tell.cls = RX0 ∧ yX0_tell.cls ≠ "java/lang/invoke/MethodHandle" ∧ yX0_tell.cls ≠ "java/lang/invoke/VarHandle" ∧ (parseMethodDescriptor yX0_tell.desc).map (fun d => d.parameters.length) = some 1 := by decide +kernel
section S_X0_tell
variable {p : Program} {l : Launch} {e : Env} {R : Room} {s : State} {m : MethodId} {args : Array Value} {below : List Frame} {meth : Method} {c : Code} {Q : State → Prop} {D : va_G} {A : Nat → Prop} {d : UD}
theorem uw_X0_tell (X : u_X RX0 D A d p s m c cX0_tell 3 args) (hA : ∀ q, s.heap.size ≤ q → A q) (hR : 13 ≤ R.frames ∧ 321 ≤ R.locals) (htab : c.exceptionTable.toList = tableOf [(32, 70, 71, 137)]) (n : Nat) (u : UM) (t : Nat) (p0 : Int32) (r0 : Int32) (ur : UM) (C : UC) (h : uf_X0_tell n d u t p0 = some ((r0, ur), C)) (hret : ∀ (H : Heap) (locs : List Loc) (ls : Array Slot) (pc cells slots : Nat), decode cX0_tell pc = .ok (.ireturn, 1) → u_left R cells slots (u_add (0, 0) (0, 0)) → u_I D A s.heap ur H locs cells → W p l e R s m args below meth c H locs cells slots Q (F0 m pc ls [.int r0])) : ∀ (H : Heap) (locs : List Loc) (ls : Array Slot) (cells slots : Nat), u_left R cells slots (u_add C (0, 0)) → u_I D A s.heap u H locs cells → lv_has ls 3 [(0, .ref t), (1, .int p0)] → W p l e R s m args below meth c H locs cells slots Q (F0 m 0 ls []) := by
  intro H locs ls cells slots hC I hl
  unfold uf_X0_tell at h
  refine lv_iload_n X.1 X.2.1 dX0_tell_0 rfl (lv_at hl 1 rfl) ?_
  refine lv_i2l X.1 X.2.1 dX0_tell_1 rfl ?_
  refine lv_lconst (v := 0) X.1 X.2.1 dX0_tell_2 (by decide) ?_
  refine lv_aload_n X.1 X.2.1 dX0_tell_3 rfl (lv_at hl 0 rfl) ?_
  obtain ⟨b1, e2, h⟩ := m_bS h
  refine u_Gi X I e2 (C := RX0) (T := TX0) (N := 9) (ref := "SwapPress") in_X0 rfl (by decide) rfl rfl q243 (fun _ h => h) dX0_tell_4 ?_
  refine lv_i2l X.1 X.2.1 dX0_tell_7 rfl ?_
  obtain ⟨r4, e3, h⟩ := m_bS h
  refine u_callSp X hl.1 I hA (As := [.long ((p0 : Int32).toInt64), .long 0, .long ((b1 : Int32).toInt64)]) (rest := []) (uk_X0_in l n D d u ((p0 : Int32).toInt64) 0 ((b1 : Int32).toInt64) _ e3) 3 q279 q280 q101 q281 uh_X0_in.2 rfl rfl ⟨Nat.le_trans (Nat.le_of_ble_eq_true rfl) hR.1, Nat.le_trans (Nat.le_of_ble_eq_true rfl) hR.2⟩ (u_leftLe hC) (stk := [.int r4]) rfl (Nat.le_of_ble_eq_true rfl) dX0_tell_8 (fun H locs I => ?_)
  refine lv_if_ne (tgt := 17) X.1 X.2.1 dX0_tell_11 (by decide) (fun c5 => ?_) (fun c5 => ?_)
  · replace h := m_ifF c5 h
    refine lv_aload_n X.1 X.2.1 dX0_tell_17 rfl (lv_at hl 0 rfl) ?_
    refine lv_iconst (v := 0) X.1 X.2.1 dX0_tell_18 (by decide) ?_
    obtain ⟨w6, e7, h⟩ := m_bS h
    refine u_P X I e7 (C := RX0) (T := TX0) (N := 9) (ref := "SwapPress") in_X0 tyX0 tyX0_ok nmX0 rfl (by decide) rfl rfl q243 (fun _ h => h) rfl rfl rfl dX0_tell_19 (fun H locs I => ?_)
    refine lv_aload_n X.1 X.2.1 dX0_tell_22 rfl (lv_at hl 0 rfl) ?_
    refine lv_iconst (v := 0) X.1 X.2.1 dX0_tell_23 (by decide) ?_
    obtain ⟨w8, e9, h⟩ := m_bS h
    refine u_P X I e9 (C := RX0) (T := TX0) (N := 9) (ref := "SwapPress") in_X0 tyX0 tyX0_ok nmX0 rfl (by decide) rfl rfl q244 (fun _ h => h) rfl rfl rfl dX0_tell_24 (fun H locs I => ?_)
    refine lv_aload_n X.1 X.2.1 dX0_tell_27 rfl (lv_at hl 0 rfl) ?_
    refine lv_iconst (v := (-1)) X.1 X.2.1 dX0_tell_28 (by decide) ?_
    obtain ⟨w10, e11, h⟩ := m_bS h
    refine u_P X I e11 (C := RX0) (T := TX0) (N := 9) (ref := "SwapPress") in_X0 tyX0 tyX0_ok nmX0 rfl (by decide) rfl rfl q245 (fun _ h => h) rfl rfl rfl dX0_tell_29 (fun H locs I => ?_)
    refine lv_aload_n X.1 X.2.1 dX0_tell_32 rfl (lv_at hl 0 rfl) ?_
    obtain ⟨C12, h, hq⟩ := u_acS h
    rw [hq] at hC
    obtain ⟨u13, e14, h⟩ := m_bS h
    refine u_NO X I hA 4 (C := RX4) (T := TX4) (N := 7) in_X4 tyX4 tyX4_ok q282 q283 q108 rfl (fs := [.int 0, .null, .int 0, .int 0, .int 0, .null, .null]) e14 (fun j hj => by match j, hj with | 0, _ => rfl | 1, _ => rfl | 2, _ => rfl | 3, _ => rfl | 4, _ => rfl | 5, _ => rfl | 6, _ => rfl) hC dX0_tell_33 (fun H cells slots hC I => ?_)
    refine lv_dup X.1 X.2.1 dX0_tell_36 rfl ?_
    refine lv_aload_n X.1 X.2.1 dX0_tell_37 rfl (lv_at hl 0 rfl) ?_
    refine lv_iload_n X.1 X.2.1 dX0_tell_38 rfl (lv_at hl 1 rfl) ?_
    obtain ⟨r16, u17, C18, C19, e15, z20, h, hq⟩ := u_bcS h
    rw [hq] at hC
    refine u_callI X hl.1 I hA (As := [.ref t, .int p0]) (rest := [.ref u.2, .ref t]) (uk_X4_init l n D d u13 u.2 t p0 _ _ e15) z20 2 q284 q285 q108 q286 rfl uh_X4_init.2 rfl rfl ⟨Nat.le_trans (Nat.le_of_ble_eq_true rfl) hR.1, Nat.le_trans (Nat.le_of_ble_eq_true rfl) hR.2⟩ hC (Nat.le_of_ble_eq_true rfl) dX0_tell_39 (fun H locs cells slots hC I => ?_)
    obtain ⟨f21, e22, h⟩ := m_bS h
    rcases Or.symm (u_bxS h) with ⟨q29, u30, C31, C32, e33, z34, h, hq⟩ | ⟨r24, u25, C26, C27, e23, z28, h, hq⟩
    · rw [hq] at hC
      refine u_callX0 X hl.1 I hA (As := []) (rest := [.ref t]) (uk_X4_reads l n D d u17 u.2 _ _ _ e33) z34 (u_clS e22) (C := RX4) (T := TX4) (N := 7) rfl 0 q312 q313 q314 q108 q315 uh_X4_reads rfl rfl ⟨Nat.le_trans (Nat.le_of_ble_eq_true rfl) hR.1, Nat.le_trans (Nat.le_of_ble_eq_true rfl) hR.2⟩ hC (Nat.le_of_ble_eq_true rfl) dX0_tell_42 (fun H locs cells slots hfs hC I => u_catch X I hfs (x := ⟨32, 70, 71, 137⟩) htab (by decide) (by decide) q278 ?_)
      refine lv_astore_n (lv' := [(2, .ref q29), (0, .ref t), (1, .int p0)]) X.1 X.2.1 dX0_tell_71 rfl hl (by decide) rfl (fun ls hl => ?_)
      refine lv_aload_n X.1 X.2.1 dX0_tell_72 rfl (lv_at hl 1 rfl) ?_
      refine lv_aload_n X.1 X.2.1 dX0_tell_73 rfl (lv_at hl 0 rfl) ?_
      obtain ⟨b35, e36, h⟩ := m_bS h
      refine u_GiN X I e36 (C := RX5) (T := TX5) (N := 8) (ref := "SwapPress$Wrong") (host := "SwapPress") in_X5 rfl (by decide) rfl rfl 12 rfl (fun _ h => h) dX0_tell_74 ?_
      obtain ⟨w37, e38, h⟩ := m_bS h
      refine u_P X I e38 (C := RX0) (T := TX0) (N := 9) (ref := "SwapPress") in_X0 tyX0 tyX0_ok nmX0 rfl (by decide) rfl rfl q244 (fun _ h => h) rfl rfl rfl dX0_tell_77 (fun H locs I => ?_)
      refine lv_aload_n X.1 X.2.1 dX0_tell_80 rfl (lv_at hl 1 rfl) ?_
      refine lv_aload_n X.1 X.2.1 dX0_tell_81 rfl (lv_at hl 0 rfl) ?_
      obtain ⟨b39, e40, h⟩ := m_bS h
      refine u_GiN X I e40 (C := RX5) (T := TX5) (N := 8) (ref := "SwapPress$Wrong") (host := "SwapPress") in_X5 rfl (by decide) rfl rfl 13 rfl (fun _ h => h) dX0_tell_82 ?_
      obtain ⟨w41, e42, h⟩ := m_bS h
      refine u_P X I e42 (C := RX0) (T := TX0) (N := 9) (ref := "SwapPress") in_X0 tyX0 tyX0_ok nmX0 rfl (by decide) rfl rfl q245 (fun _ h => h) rfl rfl rfl dX0_tell_85 (fun H locs I => ?_)
      refine lv_bipush (v := (-30)) X.1 X.2.1 dX0_tell_88 (by decide) ?_
      refine lv_aload_n X.1 X.2.1 dX0_tell_90 rfl (lv_at hl 0 rfl) ?_
      obtain ⟨b43, e44, h⟩ := m_bS h
      refine u_GiN X I e44 (C := RX5) (T := TX5) (N := 8) (ref := "SwapPress$Wrong") (host := "SwapPress") in_X5 rfl (by decide) rfl rfl 12 rfl (fun _ h => h) dX0_tell_91 ?_
      refine lv_isub X.1 X.2.1 dX0_tell_94 ?_
      obtain ⟨he, rfl⟩ := m_e3 h
      obtain ⟨rfl, rfl⟩ := m_e4 he
      exact hret H locs ls 95 _ _ dX0_tell_95 hC I
    rw [hq] at hC
    refine u_callX1 X hl.1 I hA (As := []) (rest := [.ref t]) (uk_X4_reads l n D d u17 u.2 _ _ _ e23) z28 (u_clS e22) (C := RX4) (T := TX4) (N := 7) rfl 0 q312 q313 q314 q108 q315 uh_X4_reads rfl rfl ⟨Nat.le_trans (Nat.le_of_ble_eq_true rfl) hR.1, Nat.le_trans (Nat.le_of_ble_eq_true rfl) hR.2⟩ hC (stk := [.ref r24, .ref t]) rfl (Nat.le_of_ble_eq_true rfl) dX0_tell_42 (fun H locs cells slots hC I => ?_)
    obtain ⟨w45, e46, h⟩ := m_bS h
    refine u_P X I e46 (C := RX0) (T := TX0) (N := 9) (ref := "SwapPress") in_X0 tyX0 tyX0_ok nmX0 rfl (by decide) rfl rfl q235 (fun _ h => h) rfl rfl rfl dX0_tell_45 (fun H locs I => ?_)
    refine lv_aload_n X.1 X.2.1 dX0_tell_48 rfl (lv_at hl 0 rfl) ?_
    obtain ⟨b47, e48, h⟩ := m_bS h
    refine u_Gr X I e48 (C := RX0) (T := TX0) (N := 9) (ref := "SwapPress") in_X0 rfl (by decide) rfl rfl q236 (fun _ h => h) dX0_tell_49 ?_
    obtain ⟨f49, e50, h⟩ := m_bS h
    obtain ⟨r52, u53, C54, C55, e51, z56, h, hq⟩ := u_bcS h
    rw [hq] at hC
    refine u_callV X hl.1 I hA (As := []) (rest := []) (uk_J2_clear l n D d (w45, u25.2) b47 _ _ e51) z56 (u_clS e50) (C := RJ2) (T := TJ2) (N := 3) rfl 0 q849 q850 q851 q105 q852 uh_J2_clear rfl rfl ⟨Nat.le_trans (Nat.le_of_ble_eq_true rfl) hR.1, Nat.le_trans (Nat.le_of_ble_eq_true rfl) hR.2⟩ hC (stk := []) rfl (Nat.le_of_ble_eq_true rfl) dX0_tell_52 (fun H locs cells slots hC I => ?_)
    refine lv_aload_n X.1 X.2.1 dX0_tell_55 rfl (lv_at hl 0 rfl) ?_
    refine lv_iconst (v := (-1)) X.1 X.2.1 dX0_tell_56 (by decide) ?_
    obtain ⟨w57, e58, h⟩ := m_bS h
    refine u_P X I e58 (C := RX0) (T := TX0) (N := 9) (ref := "SwapPress") in_X0 tyX0 tyX0_ok nmX0 rfl (by decide) rfl rfl q239 (fun _ h => h) rfl rfl rfl dX0_tell_57 (fun H locs I => ?_)
    refine lv_aload_n X.1 X.2.1 dX0_tell_60 rfl (lv_at hl 0 rfl) ?_
    obtain ⟨b59, e60, h⟩ := m_bS h
    refine u_Gr X I e60 (C := RX0) (T := TX0) (N := 9) (ref := "SwapPress") in_X0 rfl (by decide) rfl rfl q235 (fun _ h => h) dX0_tell_61 ?_
    obtain ⟨b61, e62, h⟩ := m_bS h
    refine u_GrN X I e62 (C := RX1) (T := TX1) (N := 5) (ref := "SwapPress$State") (host := "SwapPress") in_X1 rfl (by decide) rfl rfl 4 rfl (fun _ h => h) dX0_tell_64 ?_
    obtain ⟨f63, e64, h⟩ := m_bS h
    obtain ⟨r66, e65, h⟩ := m_bS h
    refine u_callVp X hl.1 I hA (As := []) (rest := []) (uk_J2_size l n D d (w57, u53.2) b61 _ e65) (u_clS e64) (C := RJ2) (T := TJ2) (N := 3) rfl 0 q853 q667 q668 q105 q669 uh_J2_size rfl rfl ⟨Nat.le_trans (Nat.le_of_ble_eq_true rfl) hR.1, Nat.le_trans (Nat.le_of_ble_eq_true rfl) hR.2⟩ (u_leftLe hC) (stk := [.int r66]) rfl (Nat.le_of_ble_eq_true rfl) dX0_tell_67 (fun H locs I => ?_)
    obtain ⟨he, rfl⟩ := m_e3 h
    obtain ⟨rfl, rfl⟩ := m_e4 he
    exact hret H locs ls 70 _ _ dX0_tell_70 hC I
  · replace h := m_ifT c5 h
    refine lv_bipush (v := (-3)) X.1 X.2.1 dX0_tell_14 (by decide) ?_
    obtain ⟨he, rfl⟩ := m_e3 h
    obtain ⟨rfl, rfl⟩ := m_e4 he
    exact hret H locs ls 16 _ _ dX0_tell_16 hC I
end S_X0_tell
theorem uk_X0_tell (l : Launch) (n : Nat) (D : va_G) (d : UD) (u : UM) (t : Nat) (p0 : Int32) (r0 : Int32) (ur : UM) (C : UC) (h : uf_X0_tell n d u t p0 = some ((r0, ur), C)) : u_MX l yX0_tell (wsW_ yX0_tell cX0_tell 3 (some .int) [(32, 70, 71, 137)]) 13 321 C D d u [.ref t, .int p0] (.inl (some (.int r0))) ur :=
  u_startH (own := RX0) (lvl := [(0, .ref t), (1, .int p0)]) (by decide) rfl (Nat.le_of_ble_eq_true rfl) rfl (fun p e s m args below meth c ls X hr hlk htab hl hA I hC => uw_X0_tell X hA ⟨Nat.le_refl _, Nat.le_refl _⟩ htab n u t p0 r0 ur C h (fun H locs ls pc cells slots hd hC I => vx_ret (u_iret X I hr hlk (u_leftE hC) hd)) _ _ ls _ _ hC I hl)
