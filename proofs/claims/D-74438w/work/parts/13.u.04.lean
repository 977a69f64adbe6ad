set_option maxRecDepth 100000
set_option maxHeartbeats 4000000
/-! SwapPress$Bounds.but(III)LSwapPress$Bounds; -/
def uf_X9_but (n : Nat) (d : UD) (u : UM) (t : Nat) (p0 : Int32) (p1 : Int32) (p2 : Int32) : Option ((Nat × UM) × UC) :=
  u_ac (1, 4) (m_b (some (u_nw u (.inr (12, [.null, .int 0, .int 0, .int 0])))) (fun u2 => u_bc u2.2 (uf_X13_init n d u2 u.2 t p0 p1 p2) (fun r5 u6 => some ((u.2, u6), (0, 0)))))
theorem uh_X9_but : yX9_but.cls = RX9 ∧ yX9_but.cls ≠ "java/lang/invoke/MethodHandle" ∧ yX9_but.cls ≠ "java/lang/invoke/VarHandle" ∧ (parseMethodDescriptor yX9_but.desc).map (fun d => d.parameters.length) = some 3 := by decide +kernel
section S_X9_but
variable {p : Program} {l : Launch} {e : Env} {R : Room} {s : State} {m : MethodId} {args : Array Value} {below : List Frame} {meth : Method} {c : Code} {Q : State → Prop} {D : va_G} {A : Nat → Prop} {d : UD}
theorem uw_X9_but (X : u_X RX9 D A d p s m c cX9_but 4 args) (hA : ∀ q, s.heap.size ≤ q → A q) (hR : 2 ≤ R.frames ∧ 44 ≤ R.locals) (n : Nat) (u : UM) (t : Nat) (p0 : Int32) (p1 : Int32) (p2 : Int32) (r0 : Nat) (ur : UM) (C : UC) (h : uf_X9_but n d u t p0 p1 p2 = some ((r0, ur), C)) (hret : ∀ (H : Heap) (locs : List Loc) (ls : Array Slot) (pc cells slots : Nat), decode cX9_but pc = .ok (.areturn, 1) → u_left R cells slots (u_add (0, 0) (0, 0)) → u_I D A s.heap ur H locs cells → W p l e R s m args below meth c H locs cells slots Q (F0 m pc ls [.ref r0])) : ∀ (H : Heap) (locs : List Loc) (ls : Array Slot) (cells slots : Nat), u_left R cells slots (u_add C (0, 0)) → u_I D A s.heap u H locs cells → lv_has ls 4 [(0, .ref t), (1, .int p0), (2, .int p1), (3, .int p2)] → W p l e R s m args below meth c H locs cells slots Q (F0 m 0 ls []) := by
  intro H locs ls cells slots hC I hl
  unfold uf_X9_but at h
  obtain ⟨C1, h, hq⟩ := u_acS h
  rw [hq] at hC
  obtain ⟨u2, e3, h⟩ := m_bS h
  refine u_NO X I hA 12 (C := RX13) (T := TX13) (N := 4) in_X13 tyX13 tyX13_ok q1304 q1305 q132 rfl (fs := [.null, .int 0, .int 0, .int 0]) e3 (fun j hj => by match j, hj with | 0, _ => rfl | 1, _ => rfl | 2, _ => rfl | 3, _ => rfl) hC dX9_but_0 (fun H cells slots hC I => ?_)
  refine lv_dup X.1 X.2.1 dX9_but_3 rfl ?_
  refine lv_aload_n X.1 X.2.1 dX9_but_4 rfl (lv_at hl 0 rfl) ?_
  refine lv_iload_n X.1 X.2.1 dX9_but_5 rfl (lv_at hl 1 rfl) ?_
  refine lv_iload_n X.1 X.2.1 dX9_but_6 rfl (lv_at hl 2 rfl) ?_
  refine lv_iload_n X.1 X.2.1 dX9_but_7 rfl (lv_at hl 3 rfl) ?_
  obtain ⟨r5, u6, C7, C8, e4, z9, h, hq⟩ := u_bcS h
  rw [hq] at hC
  refine u_callI X hl.1 I hA (As := [.ref t, .int p0, .int p1, .int p2]) (rest := [.ref u.2]) (uk_X13_init l n D d u2 u.2 t p0 p1 p2 _ _ e4) z9 4 q1306 q1307 q132 q1308 rfl uh_X13_init.2 rfl rfl ⟨Nat.le_trans (Nat.le_of_ble_eq_true rfl) hR.1, Nat.le_trans (Nat.le_of_ble_eq_true rfl) hR.2⟩ hC (Nat.le_of_ble_eq_true rfl) dX9_but_8 (fun H locs cells slots hC I => ?_)
  obtain ⟨he, rfl⟩ := m_e3 h
  obtain ⟨rfl, rfl⟩ := m_e4 he
  exact hret H locs ls 11 _ _ dX9_but_11 hC I
end S_X9_but
theorem uk_X9_but (l : Launch) (n : Nat) (D : va_G) (d : UD) (u : UM) (t : Nat) (p0 : Int32) (p1 : Int32) (p2 : Int32) (r0 : Nat) (ur : UM) (C : UC) (h : uf_X9_but n d u t p0 p1 p2 = some ((r0, ur), C)) : u_M l yX9_but (ws_ yX9_but cX9_but 4 (some (.object "SwapPress$Bounds"))) 2 44 C D d u [.ref t, .int p0, .int p1, .int p2] (some (.ref r0)) ur :=
  u_start (own := RX9) (lvl := [(0, .ref t), (1, .int p0), (2, .int p1), (3, .int p2)]) (by decide) rfl (Nat.le_of_ble_eq_true rfl) rfl (fun p e s m args below meth c ls X hr hlk hI hl hA I hC => uw_X9_but X hA ⟨Nat.le_refl _, Nat.le_refl _⟩ n u t p0 p1 p2 r0 ur C h (fun H locs ls pc cells slots hd hC I => u_aret (r := some r0) X I hr (Or.inl ⟨_, rfl⟩) hlk (u_leftE hC) hd) _ _ ls _ _ hC I hl)

/-! java/util/ArrayList.get(I)Ljava/lang/Object; -/
def uf_J2_get (n : Nat) (d : UD) (u : UM) (t : Nat) (p0 : Int32) : Option Nat :=
  m_b (u_fi d u 13 2 t) (fun b1 => m_b (uf_J14_checkIndex n d u p0 b1) (fun r4 => m_b (u_cl u 13 t) (fun f5 => m_b (uf_J2_elementData n d u t p0) (fun r8 => some r8))))
theorem uh_J2_get : yJ2_get.cls = RJ2 ∧ yJ2_get.cls ≠ "java/lang/invoke/MethodHandle" ∧ yJ2_get.cls ≠ "java/lang/invoke/VarHandle" ∧ (parseMethodDescriptor yJ2_get.desc).map (fun d => d.parameters.length) = some 1 := by decide +kernel
section S_J2_get
variable {p : Program} {l : Launch} {e : Env} {R : Room} {s : State} {m : MethodId} {args : Array Value} {below : List Frame} {meth : Method} {c : Code} {Q : State → Prop} {D : va_G} {A : Nat → Prop} {d : UD} {cells slots : Nat}
theorem uw_J2_get (X : u_X RJ2 D A d p s m c cJ2_get 2 args) (hA : ∀ q, s.heap.size ≤ q → A q) (hR : 2 ≤ R.frames ∧ 43 ≤ R.locals) (hf : cells ≤ R.cells ∧ slots ≤ R.slots) (n : Nat) (u : UM) (t : Nat) (p0 : Int32) (r : Nat) (h : uf_J2_get n d u t p0 = some r) (hret : ∀ (H : Heap) (locs : List Loc) (ls : Array Slot) (pc : Nat), decode cJ2_get pc = .ok (.areturn, 1) → u_I D A s.heap u H locs cells → W p l e R s m args below meth c H locs cells slots Q (F0 m pc ls [.ref r])) : ∀ (H : Heap) (locs : List Loc) (ls : Array Slot), u_I D A s.heap u H locs cells → lv_has ls 2 [(0, .ref t), (1, .int p0)] → W p l e R s m args below meth c H locs cells slots Q (F0 m 0 ls []) := by
  intro H locs ls I hl
  unfold uf_J2_get at h
  refine lv_iload_n X.1 X.2.1 dJ2_get_0 rfl (lv_at hl 1 rfl) ?_
  refine lv_aload_n X.1 X.2.1 dJ2_get_1 rfl (lv_at hl 0 rfl) ?_
  obtain ⟨b1, e2, h⟩ := m_bS h
  refine u_Gi X I e2 (C := RJ2) (T := TJ2) (N := 3) (ref := "java/util/ArrayList") in_J2 rfl (by decide) rfl rfl q162 (fun _ h => h) dJ2_get_2 ?_
  obtain ⟨r4, e3, h⟩ := m_bS h
  refine u_callSp X hl.1 I hA (As := [.int p0, .int b1]) (rest := []) (uk_J14_checkIndex l n D d u p0 b1 _ e3) 2 q826 q827 q123 q828 uh_J14_checkIndex.2 rfl rfl ⟨Nat.le_trans (Nat.le_of_ble_eq_true rfl) hR.1, Nat.le_trans (Nat.le_of_ble_eq_true rfl) hR.2⟩ hf (stk := [.int r4]) rfl (Nat.le_of_ble_eq_true rfl) dJ2_get_5 (fun H locs I => ?_)
  refine lv_pop X.1 X.2.1 dJ2_get_8 rfl ?_
  refine lv_aload_n X.1 X.2.1 dJ2_get_9 rfl (lv_at hl 0 rfl) ?_
  refine lv_iload_n X.1 X.2.1 dJ2_get_10 rfl (lv_at hl 1 rfl) ?_
  obtain ⟨f5, e6, h⟩ := m_bS h
  obtain ⟨r8, e7, h⟩ := m_bS h
  refine u_callVp X hl.1 I hA (As := [.int p0]) (rest := []) (uk_J2_elementData l n D d u t p0 _ e7) (u_clS e6) (C := RJ2) (T := TJ2) (N := 3) rfl 1 q830 q831 q832 q105 q833 uh_J2_elementData rfl rfl ⟨Nat.le_trans (Nat.le_of_ble_eq_true rfl) hR.1, Nat.le_trans (Nat.le_of_ble_eq_true rfl) hR.2⟩ hf (stk := [.ref r8]) rfl (Nat.le_of_ble_eq_true rfl) dJ2_get_11 (fun H locs I => ?_)
  obtain rfl := m_e1 h
  exact hret H locs ls 14 dJ2_get_14 I
end S_J2_get
theorem uk_J2_get (l : Launch) (n : Nat) (D : va_G) (d : UD) (u : UM) (t : Nat) (p0 : Int32) (r : Nat) (h : uf_J2_get n d u t p0 = some r) : u_M l yJ2_get (ws_ yJ2_get cJ2_get 2 (some (.object "java/lang/Object"))) 2 43 (0, 0) D d u [.ref t, .int p0] (some (.ref r)) u :=
  u_start (own := RJ2) (lvl := [(0, .ref t), (1, .int p0)]) (by decide) rfl (Nat.le_of_ble_eq_true rfl) rfl (fun p e s m args below meth c ls X hr hlk hI hl hA I hC => uw_J2_get X hA ⟨Nat.le_refl _, Nat.le_refl _⟩ ⟨Nat.zero_le _, Nat.zero_le _⟩ n u t p0 r h (fun H locs ls pc hd I => u_aret (r := some r) X I hr (Or.inl ⟨_, rfl⟩) hlk ⟨rfl, rfl⟩ hd) _ _ ls I hl)

/-! java/util/ArrayList.set(ILjava/lang/Object;)Ljava/lang/Object; -/
def uf_J2_set (n : Nat) (d : UD) (u : UM) (t : Nat) (p0 : Int32) (p1 : Nat) : Option ((Nat × UM) × UC) :=
  m_b (u_fi d u 13 2 t) (fun b1 => m_b (uf_J14_checkIndex n d u p0 b1) (fun r4 => m_b (u_cl u 13 t) (fun f5 => m_b (uf_J2_elementData n d u t p0) (fun r8 => m_b (u_fr d u 13 1 t) (fun b9 => m_g (u_el u p1) (m_b (u_stQ d u b9 p0 (some p1)) (fun w11 => some ((r8, (w11, u.2)), (0, 0)))))))))
theorem uh_J2_set : yJ2_set.cls = RJ2 ∧ yJ2_set.cls ≠ "java/lang/invoke/MethodHandle" ∧ yJ2_set.cls ≠ "java/lang/invoke/VarHandle" ∧ (parseMethodDescriptor yJ2_set.desc).map (fun d => d.parameters.length) = some 2 := by decide +kernel
section S_J2_set
variable {p : Program} {l : Launch} {e : Env} {R : Room} {s : State} {m : MethodId} {args : Array Value} {below : List Frame} {meth : Method} {c : Code} {Q : State → Prop} {D : va_G} {A : Nat → Prop} {d : UD}
theorem uw_J2_set (X : u_X RJ2 D A d p s m c cJ2_set 4 args) (hA : ∀ q, s.heap.size ≤ q → A q) (hR : 2 ≤ R.frames ∧ 43 ≤ R.locals) (n : Nat) (u : UM) (t : Nat) (p0 : Int32) (p1 : Nat) (r0 : Nat) (ur : UM) (C : UC) (h : uf_J2_set n d u t p0 p1 = some ((r0, ur), C)) (hret : ∀ (H : Heap) (locs : List Loc) (ls : Array Slot) (pc cells slots : Nat), decode cJ2_set pc = .ok (.areturn, 1) → u_left R cells slots (u_add (0, 0) (0, 0)) → u_I D A s.heap ur H locs cells → W p l e R s m args below meth c H locs cells slots Q (F0 m pc ls [.ref r0])) : ∀ (H : Heap) (locs : List Loc) (ls : Array Slot) (cells slots : Nat), u_left R cells slots (u_add C (0, 0)) → u_I D A s.heap u H locs cells → lv_has ls 4 [(0, .ref t), (1, .int p0), (2, .ref p1)] → W p l e R s m args below meth c H locs cells slots Q (F0 m 0 ls []) := by
  intro H locs ls cells slots hC I hl
  unfold uf_J2_set at h
  refine lv_iload_n X.1 X.2.1 dJ2_set_0 rfl (lv_at hl 1 rfl) ?_
  refine lv_aload_n X.1 X.2.1 dJ2_set_1 rfl (lv_at hl 0 rfl) ?_
  obtain ⟨b1, e2, h⟩ := m_bS h
  refine u_Gi X I e2 (C := RJ2) (T := TJ2) (N := 3) (ref := "java/util/ArrayList") in_J2 rfl (by decide) rfl rfl q162 (fun _ h => h) dJ2_set_2 ?_
  obtain ⟨r4, e3, h⟩ := m_bS h
  refine u_callSp X hl.1 I hA (As := [.int p0, .int b1]) (rest := []) (uk_J14_checkIndex l n D d u p0 b1 _ e3) 2 q826 q827 q123 q828 uh_J14_checkIndex.2 rfl rfl ⟨Nat.le_trans (Nat.le_of_ble_eq_true rfl) hR.1, Nat.le_trans (Nat.le_of_ble_eq_true rfl) hR.2⟩ (u_leftLe hC) (stk := [.int r4]) rfl (Nat.le_of_ble_eq_true rfl) dJ2_set_5 (fun H locs I => ?_)
  refine lv_pop X.1 X.2.1 dJ2_set_8 rfl ?_
  refine lv_aload_n X.1 X.2.1 dJ2_set_9 rfl (lv_at hl 0 rfl) ?_
  refine lv_iload_n X.1 X.2.1 dJ2_set_10 rfl (lv_at hl 1 rfl) ?_
  obtain ⟨f5, e6, h⟩ := m_bS h
  obtain ⟨r8, e7, h⟩ := m_bS h
  refine u_callVp X hl.1 I hA (As := [.int p0]) (rest := []) (uk_J2_elementData l n D d u t p0 _ e7) (u_clS e6) (C := RJ2) (T := TJ2) (N := 3) rfl 1 q830 q831 q832 q105 q833 uh_J2_elementData rfl rfl ⟨Nat.le_trans (Nat.le_of_ble_eq_true rfl) hR.1, Nat.le_trans (Nat.le_of_ble_eq_true rfl) hR.2⟩ (u_leftLe hC) (stk := [.ref r8]) rfl (Nat.le_of_ble_eq_true rfl) dJ2_set_11 (fun H locs I => ?_)
  refine lv_astore_n (lv' := [(3, .ref r8), (0, .ref t), (1, .int p0), (2, .ref p1)]) X.1 X.2.1 dJ2_set_14 rfl hl (by decide) rfl (fun ls hl => ?_)
  refine lv_aload_n X.1 X.2.1 dJ2_set_15 rfl (lv_at hl 1 rfl) ?_
  obtain ⟨b9, e10, h⟩ := m_bS h
  refine u_Gr X I e10 (C := RJ2) (T := TJ2) (N := 3) (ref := "java/util/ArrayList") in_J2 rfl (by decide) rfl rfl q161 (fun _ h => h) dJ2_set_16 ?_
  refine lv_iload_n X.1 X.2.1 dJ2_set_19 rfl (lv_at hl 2 rfl) ?_
  refine lv_aload_n X.1 X.2.1 dJ2_set_20 rfl (lv_at hl 3 rfl) ?_
  obtain ⟨g12, h⟩ := m_gS h
  obtain ⟨w11, e13, h⟩ := m_bS h
  refine u_SQ X I g12 e13 dJ2_set_21 (fun H locs I => ?_)
  refine lv_aload_n X.1 X.2.1 dJ2_set_22 rfl (lv_at hl 0 rfl) ?_
  obtain ⟨he, rfl⟩ := m_e3 h
  obtain ⟨rfl, rfl⟩ := m_e4 he
  exact hret H locs ls 23 _ _ dJ2_set_23 hC I
end S_J2_set
theorem uk_J2_set (l : Launch) (n : Nat) (D : va_G) (d : UD) (u : UM) (t : Nat) (p0 : Int32) (p1 : Nat) (r0 : Nat) (ur : UM) (C : UC) (h : uf_J2_set n d u t p0 p1 = some ((r0, ur), C)) : u_M l yJ2_set (ws_ yJ2_set cJ2_set 4 (some (.object "java/lang/Object"))) 2 43 C D d u [.ref t, .int p0, .ref p1] (some (.ref r0)) ur :=
  u_start (own := RJ2) (lvl := [(0, .ref t), (1, .int p0), (2, .ref p1)]) (by decide) rfl (Nat.le_of_ble_eq_true rfl) rfl (fun p e s m args below meth c ls X hr hlk hI hl hA I hC => uw_J2_set X hA ⟨Nat.le_refl _, Nat.le_refl _⟩ n u t p0 p1 r0 ur C h (fun H locs ls pc cells slots hd hC I => u_aret (r := some r0) X I hr (Or.inl ⟨_, rfl⟩) hlk (u_leftE hC) hd) _ _ ls _ _ hC I hl)

/-! java/util/ArrayList.remove(I)Ljava/lang/Object; -/
def uf_J2_remove (n : Nat) (d : UD) (u : UM) (t : Nat) (p0 : Int32) : Option ((Nat × UM) × UC) :=
  m_b (u_fi d u 13 2 t) (fun b1 => m_b (uf_J14_checkIndex n d u p0 b1) (fun r4 => m_b (u_fr d u 13 1 t) (fun b5 => m_b (u_ldR d u b5 p0) (fun b7 => m_b (u_cl u 13 t) (fun f9 => u_bc u.2 (uf_J2_fastRemove n d u t b5 p0) (fun r12 u13 => some ((b7, u13), (0, 0))))))))
theorem uh_J2_remove : yJ2_remove.cls = RJ2 ∧ yJ2_remove.cls ≠ "java/lang/invoke/MethodHandle" ∧ yJ2_remove.cls ≠ "java/lang/invoke/VarHandle" ∧ (parseMethodDescriptor yJ2_remove.desc).map (fun d => d.parameters.length) = some 1 := by decide +kernel
section S_J2_remove
variable {p : Program} {l : Launch} {e : Env} {R : Room} {s : State} {m : MethodId} {args : Array Value} {below : List Frame} {meth : Method} {c : Code} {Q : State → Prop} {D : va_G} {A : Nat → Prop} {d : UD}
theorem uw_J2_remove (X : u_X RJ2 D A d p s m c cJ2_remove 4 args) (hA : ∀ q, s.heap.size ≤ q → A q) (hR : 2 ≤ R.frames ∧ 83 ≤ R.locals) (n : Nat) (u : UM) (t : Nat) (p0 : Int32) (r0 : Nat) (ur : UM) (C : UC) (h : uf_J2_remove n d u t p0 = some ((r0, ur), C)) (hret : ∀ (H : Heap) (locs : List Loc) (ls : Array Slot) (pc cells slots : Nat), decode cJ2_remove pc = .ok (.areturn, 1) → u_left R cells slots (u_add (0, 0) (0, 0)) → u_I D A s.heap ur H locs cells → W p l e R s m args below meth c H locs cells slots Q (F0 m pc ls [.ref r0])) : ∀ (H : Heap) (locs : List Loc) (ls : Array Slot) (cells slots : Nat), u_left R cells slots (u_add C (0, 0)) → u_I D A s.heap u H locs cells → lv_has ls 4 [(0, .ref t), (1, .int p0)] → W p l e R s m args below meth c H locs cells slots Q (F0 m 0 ls []) := by
  intro H locs ls cells slots hC I hl
  unfold uf_J2_remove at h
  refine lv_iload_n X.1 X.2.1 dJ2_remove_0 rfl (lv_at hl 1 rfl) ?_
  refine lv_aload_n X.1 X.2.1 dJ2_remove_1 rfl (lv_at hl 0 rfl) ?_
  obtain ⟨b1, e2, h⟩ := m_bS h
  refine u_Gi X I e2 (C := RJ2) (T := TJ2) (N := 3) (ref := "java/util/ArrayList") in_J2 rfl (by decide) rfl rfl q162 (fun _ h => h) dJ2_remove_2 ?_
  obtain ⟨r4, e3, h⟩ := m_bS h
  refine u_callSp X hl.1 I hA (As := [.int p0, .int b1]) (rest := []) (uk_J14_checkIndex l n D d u p0 b1 _ e3) 2 q826 q827 q123 q828 uh_J14_checkIndex.2 rfl rfl ⟨Nat.le_trans (Nat.le_of_ble_eq_true rfl) hR.1, Nat.le_trans (Nat.le_of_ble_eq_true rfl) hR.2⟩ (u_leftLe hC) (stk := [.int r4]) rfl (Nat.le_of_ble_eq_true rfl) dJ2_remove_5 (fun H locs I => ?_)
  refine lv_pop X.1 X.2.1 dJ2_remove_8 rfl ?_
  refine lv_aload_n X.1 X.2.1 dJ2_remove_9 rfl (lv_at hl 0 rfl) ?_
  obtain ⟨b5, e6, h⟩ := m_bS h
  refine u_Gr X I e6 (C := RJ2) (T := TJ2) (N := 3) (ref := "java/util/ArrayList") in_J2 rfl (by decide) rfl rfl q161 (fun _ h => h) dJ2_remove_10 ?_
  refine lv_astore_n (lv' := [(2, .ref b5), (0, .ref t), (1, .int p0)]) X.1 X.2.1 dJ2_remove_13 rfl hl (by decide) rfl (fun ls hl => ?_)
  refine lv_aload_n X.1 X.2.1 dJ2_remove_14 rfl (lv_at hl 0 rfl) ?_
  refine lv_iload_n X.1 X.2.1 dJ2_remove_15 rfl (lv_at hl 2 rfl) ?_
  obtain ⟨b7, e8, h⟩ := m_bS h
  refine u_LR X I e8 dJ2_remove_16 ?_
  refine lv_astore_n (lv' := [(3, .ref b7), (2, .ref b5), (0, .ref t), (1, .int p0)]) X.1 X.2.1 dJ2_remove_17 rfl hl (by decide) rfl (fun ls hl => ?_)
  refine lv_aload_n X.1 X.2.1 dJ2_remove_18 rfl (lv_at hl 2 rfl) ?_
  refine lv_aload_n X.1 X.2.1 dJ2_remove_19 rfl (lv_at hl 1 rfl) ?_
  refine lv_iload_n X.1 X.2.1 dJ2_remove_20 rfl (lv_at hl 3 rfl) ?_
  obtain ⟨f9, e10, h⟩ := m_bS h
  obtain ⟨r12, u13, C14, C15, e11, z16, h, hq⟩ := u_bcS h
  rw [hq] at hC
  refine u_callV X hl.1 I hA (As := [.ref b5, .int p0]) (rest := []) (uk_J2_fastRemove l n D d u t b5 p0 _ _ e11) z16 (u_clS e10) (C := RJ2) (T := TJ2) (N := 3) rfl 2 q888 q890 qs22 q105 q891 uh_J2_fastRemove rfl rfl ⟨Nat.le_trans (Nat.le_of_ble_eq_true rfl) hR.1, Nat.le_trans (Nat.le_of_ble_eq_true rfl) hR.2⟩ hC (stk := []) rfl (Nat.le_of_ble_eq_true rfl) dJ2_remove_21 (fun H locs cells slots hC I => ?_)
  refine lv_aload_n X.1 X.2.1 dJ2_remove_24 rfl (lv_at hl 0 rfl) ?_
  obtain ⟨he, rfl⟩ := m_e3 h
  obtain ⟨rfl, rfl⟩ := m_e4 he
  exact hret H locs ls 25 _ _ dJ2_remove_25 hC I
end S_J2_remove
theorem uk_J2_remove (l : Launch) (n : Nat) (D : va_G) (d : UD) (u : UM) (t : Nat) (p0 : Int32) (r0 : Nat) (ur : UM) (C : UC) (h : uf_J2_remove n d u t p0 = some ((r0, ur), C)) : u_M l yJ2_remove (ws_ yJ2_remove cJ2_remove 4 (some (.object "java/lang/Object"))) 2 83 C D d u [.ref t, .int p0] (some (.ref r0)) ur :=
  u_start (own := RJ2) (lvl := [(0, .ref t), (1, .int p0)]) (by decide) rfl (Nat.le_of_ble_eq_true rfl) rfl (fun p e s m args below meth c ls X hr hlk hI hl hA I hC => uw_J2_remove X hA ⟨Nat.le_refl _, Nat.le_refl _⟩ n u t p0 r0 ur C h (fun H locs ls pc cells slots hd hC I => u_aret (r := some r0) X I hr (Or.inl ⟨_, rfl⟩) hlk (u_leftE hC) hd) _ _ ls _ _ hC I hl)

/-! java/lang/AbstractStringBuilder.newCapacity(I)I -/
def uf_J3_newCapacity (n : Nat) (d : UD) (u : UM) (t : Nat) (p0 : Int32) : Option ((Int32 × UM) × UC) :=
  m_b (u_fr d u 14 0 t) (fun b1 => m_b (u_lnI d u 2 b1) (fun b3 => m_b (u_fi d u 14 1 t) (fun b5 => m_b (u_fi d u 14 1 t) (fun b7 => m_b (uf_J7_newLength n d u b3 ((p0 <<< (b5 &&& 31)) - b3) (b3 + (2 <<< (b7 &&& 31)))) (fun r10 => m_if ((r10 : Int32) = (2147483647 : Int32)) (none) (m_b (u_fi d u 14 1 t) (fun b12 => some ((r10 >>> (b12 &&& 31), u), (0, 0)))))))))
theorem uh_J3_newCapacity : yJ3_newCapacity.cls = RJ3 ∧ yJ3_newCapacity.cls ≠ "java/lang/invoke/MethodHandle" ∧ yJ3_newCapacity.cls ≠ "java/lang/invoke/VarHandle" ∧ (parseMethodDescriptor yJ3_newCapacity.desc).map (fun d => d.parameters.length) = some 1 := by decide +kernel
section S_J3_newCapacity
variable {p : Program} {l : Launch} {e : Env} {R : Room} {s : State} {m : MethodId} {args : Array Value} {below : List Frame} {meth : Method} {c : Code} {Q : State → Prop} {D : va_G} {A : Nat → Prop} {d : UD}
theorem uw_J3_newCapacity (X : u_X RJ3 D A d p s m c cJ3_newCapacity 6 args) (hA : ∀ q, s.heap.size ≤ q → A q) (hR : 2 ≤ R.frames ∧ 63 ≤ R.locals) (n : Nat) (u : UM) (t : Nat) (p0 : Int32) (r0 : Int32) (ur : UM) (C : UC) (h : uf_J3_newCapacity n d u t p0 = some ((r0, ur), C)) (hret : ∀ (H : Heap) (locs : List Loc) (ls : Array Slot) (pc cells slots : Nat), decode cJ3_newCapacity pc = .ok (.ireturn, 1) → u_left R cells slots (u_add (0, 0) (0, 0)) → u_I D A s.heap ur H locs cells → W p l e R s m args below meth c H locs cells slots Q (F0 m pc ls [.int r0])) : ∀ (H : Heap) (locs : List Loc) (ls : Array Slot) (cells slots : Nat), u_left R cells slots (u_add C (0, 0)) → u_I D A s.heap u H locs cells → lv_has ls 6 [(0, .ref t), (1, .int p0)] → W p l e R s m args below meth c H locs cells slots Q (F0 m 0 ls []) := by
  intro H locs ls cells slots hC I hl
  unfold uf_J3_newCapacity at h
  refine lv_aload_n X.1 X.2.1 dJ3_newCapacity_0 rfl (lv_at hl 0 rfl) ?_
  obtain ⟨b1, e2, h⟩ := m_bS h
  refine u_Gr X I e2 (C := RJ4) (T := TJ4) (N := 4) (ref := "java/lang/AbstractStringBuilder") in_J4 rfl (by decide) rfl rfl q351 (fun _ h => h) dJ3_newCapacity_1 ?_
  obtain ⟨b3, e4, h⟩ := m_bS h
  refine u_LN X I (by decide) e4 dJ3_newCapacity_4 ?_
  refine lv_istore_n (lv' := [(2, .int b3), (0, .ref t), (1, .int p0)]) X.1 X.2.1 dJ3_newCapacity_5 rfl hl (by decide) rfl (fun ls hl => ?_)
  refine lv_iload_n X.1 X.2.1 dJ3_newCapacity_6 rfl (lv_at hl 2 rfl) ?_
  refine lv_aload_n X.1 X.2.1 dJ3_newCapacity_7 rfl (lv_at hl 1 rfl) ?_
  obtain ⟨b5, e6, h⟩ := m_bS h
  refine u_Gi X I e6 (C := RJ4) (T := TJ4) (N := 4) (ref := "java/lang/AbstractStringBuilder") in_J4 rfl (by decide) rfl rfl q352 (fun _ h => h) dJ3_newCapacity_8 ?_
  refine lv_ishl X.1 X.2.1 dJ3_newCapacity_11 ?_
  refine lv_istore_n (lv' := [(3, .int (p0 <<< (b5 &&& 31))), (2, .int b3), (0, .ref t), (1, .int p0)]) X.1 X.2.1 dJ3_newCapacity_12 rfl hl (by decide) rfl (fun ls hl => ?_)
  refine lv_iload_n X.1 X.2.1 dJ3_newCapacity_13 rfl (lv_at hl 0 rfl) ?_
  refine lv_iload_n X.1 X.2.1 dJ3_newCapacity_14 rfl (lv_at hl 1 rfl) ?_
  refine lv_isub X.1 X.2.1 dJ3_newCapacity_15 ?_
  refine lv_istore (lv' := [(4, .int ((p0 <<< (b5 &&& 31)) - b3)), (3, .int (p0 <<< (b5 &&& 31))), (2, .int b3), (0, .ref t), (1, .int p0)]) X.1 X.2.1 dJ3_newCapacity_16 hl (by decide) rfl (fun ls hl => ?_)
  refine lv_iload_n X.1 X.2.1 dJ3_newCapacity_18 rfl (lv_at hl 2 rfl) ?_
  refine lv_iload X.1 X.2.1 dJ3_newCapacity_19 (lv_at hl 0 rfl) ?_
  refine lv_iload_n X.1 X.2.1 dJ3_newCapacity_21 rfl (lv_at hl 2 rfl) ?_
  refine lv_iconst (v := 2) X.1 X.2.1 dJ3_newCapacity_22 (by decide) ?_
  refine lv_aload_n X.1 X.2.1 dJ3_newCapacity_23 rfl (lv_at hl 3 rfl) ?_
  obtain ⟨b7, e8, h⟩ := m_bS h
  refine u_Gi X I e8 (C := RJ4) (T := TJ4) (N := 4) (ref := "java/lang/AbstractStringBuilder") in_J4 rfl (by decide) rfl rfl q352 (fun _ h => h) dJ3_newCapacity_24 ?_
  refine lv_ishl X.1 X.2.1 dJ3_newCapacity_27 ?_
  refine lv_iadd X.1 X.2.1 dJ3_newCapacity_28 ?_
  obtain ⟨r10, e9, h⟩ := m_bS h
  refine u_callSp X hl.1 I hA (As := [.int b3, .int ((p0 <<< (b5 &&& 31)) - b3), .int (b3 + (2 <<< (b7 &&& 31)))]) (rest := []) (uk_J7_newLength l n D d u b3 ((p0 <<< (b5 &&& 31)) - b3) (b3 + (2 <<< (b7 &&& 31))) _ e9) 3 q379 q380 q113 q381 uh_J7_newLength.2 rfl rfl ⟨Nat.le_trans (Nat.le_of_ble_eq_true rfl) hR.1, Nat.le_trans (Nat.le_of_ble_eq_true rfl) hR.2⟩ (u_leftLe hC) (stk := [.int r10]) rfl (Nat.le_of_ble_eq_true rfl) dJ3_newCapacity_29 (fun H locs I => ?_)
  refine lv_istore (lv' := [(5, .int r10), (4, .int ((p0 <<< (b5 &&& 31)) - b3)), (3, .int (p0 <<< (b5 &&& 31))), (2, .int b3), (0, .ref t), (1, .int p0)]) X.1 X.2.1 dJ3_newCapacity_32 hl (by decide) rfl (fun ls hl => ?_)
  refine lv_iload X.1 X.2.1 dJ3_newCapacity_34 (lv_at hl 0 rfl) ?_
  refine lv_ldc (v := 2147483647) X.1 X.2.1 X.2.2.2.1 (X.2.2.1 _ q389) dJ3_newCapacity_36 ?_
  refine lv_icmp_ne (tgt := 51) X.1 X.2.1 dJ3_newCapacity_38 (by decide) (fun c11 => ?_) (fun c11 => ?_)
  · replace h := m_ifF c11 h
    refine lv_iload X.1 X.2.1 dJ3_newCapacity_51 (lv_at hl 0 rfl) ?_
    refine lv_aload_n X.1 X.2.1 dJ3_newCapacity_53 rfl (lv_at hl 4 rfl) ?_
    obtain ⟨b12, e13, h⟩ := m_bS h
    refine u_Gi X I e13 (C := RJ4) (T := TJ4) (N := 4) (ref := "java/lang/AbstractStringBuilder") in_J4 rfl (by decide) rfl rfl q352 (fun _ h => h) dJ3_newCapacity_54 ?_
    refine lv_ishr X.1 X.2.1 dJ3_newCapacity_57 ?_
    obtain ⟨he, rfl⟩ := m_e3 h
    obtain ⟨rfl, rfl⟩ := m_e4 he
    exact hret H locs ls 58 _ _ dJ3_newCapacity_58 hC I
  · replace h := m_ifT c11 h
    cases h
end S_J3_newCapacity
theorem uk_J3_newCapacity (l : Launch) (n : Nat) (D : va_G) (d : UD) (u : UM) (t : Nat) (p0 : Int32) (r0 : Int32) (ur : UM) (C : UC) (h : uf_J3_newCapacity n d u t p0 = some ((r0, ur), C)) : u_M l yJ3_newCapacity (ws_ yJ3_newCapacity cJ3_newCapacity 6 (some .int)) 2 63 C D d u [.ref t, .int p0] (some (.int r0)) ur :=
  u_start (own := RJ3) (lvl := [(0, .ref t), (1, .int p0)]) (by decide) rfl (Nat.le_of_ble_eq_true rfl) rfl (fun p e s m args below meth c ls X hr hlk hI hl hA I hC => uw_J3_newCapacity X hA ⟨Nat.le_refl _, Nat.le_refl _⟩ n u t p0 r0 ur C h (fun H locs ls pc cells slots hd hC I => u_iret X I hr hlk (u_leftE hC) hd) _ _ ls _ _ hC I hl)

/-! java/lang/AbstractStringBuilder.inflateIfNeededFor(Ljava/lang/String;)V -/
def uf_J3_inflateIfNeededFor_J21 (n : Nat) (d : UD) (u : UM) : Option ((Unit × UM) × UC) :=
  some (((), u), (0, 0))
def uf_J3_inflateIfNeededFor (n : Nat) (d : UD) (u : UM) (t : Nat) (p0 : Nat) : Option ((Unit × UM) × UC) :=
  m_if ((1 : Int32) = 0) (uf_J3_inflateIfNeededFor_J21 n d u ) (m_b (u_fi d u 14 1 t) (fun b2 => m_b (u_tx d u p0) (fun f4 => m_b (uf_J5_coder n d u p0) (fun r7 => m_if ((b2 : Int32) = (r7 : Int32)) (uf_J3_inflateIfNeededFor_J21 n d u ) (m_b (u_cl u 14 t) (fun f9 => u_bc u.2 (uf_J3_inflate n d u t) (fun r12 u13 => uf_J3_inflateIfNeededFor_J21 n d u13 )))))))
theorem uh_J3_inflateIfNeededFor : yJ3_inflateIfNeededFor.cls = RJ3 ∧ yJ3_inflateIfNeededFor.cls ≠ "java/lang/invoke/MethodHandle" ∧ yJ3_inflateIfNeededFor.cls ≠ "java/lang/invoke/VarHandle" ∧ (parseMethodDescriptor yJ3_inflateIfNeededFor.desc).map (fun d => d.parameters.length) = some 1 := by decide +kernel
section S_J3_inflateIfNeededFor
variable {p : Program} {l : Launch} {e : Env} {R : Room} {s : State} {m : MethodId} {args : Array Value} {below : List Frame} {meth : Method} {c : Code} {Q : State → Prop} {D : va_G} {A : Nat → Prop} {d : UD}
theorem uw_J3_inflateIfNeededFor (X : u_X RJ3 D A d p s m c cJ3_inflateIfNeededFor 2 args) (hA : ∀ q, s.heap.size ≤ q → A q) (hR : 2 ≤ R.frames ∧ 41 ≤ R.locals) (n : Nat) (u : UM) (t : Nat) (p0 : Nat) (r0 : Unit) (ur : UM) (C : UC) (h : uf_J3_inflateIfNeededFor n d u t p0 = some ((r0, ur), C)) (hret : ∀ (H : Heap) (locs : List Loc) (ls : Array Slot) (pc cells slots : Nat), decode cJ3_inflateIfNeededFor pc = .ok (.return_, 1) → u_left R cells slots (u_add (0, 0) (0, 0)) → u_I D A s.heap ur H locs cells → W p l e R s m args below meth c H locs cells slots Q (F0 m pc ls [])) : ∀ (H : Heap) (locs : List Loc) (ls : Array Slot) (cells slots : Nat), u_left R cells slots (u_add C (0, 0)) → u_I D A s.heap u H locs cells → lv_has ls 2 [(0, .ref t), (1, .ref p0)] → W p l e R s m args below meth c H locs cells slots Q (F0 m 0 ls []) := by
  have k21 : ∀ (u : UM) (H : Heap) (locs : List Loc) (ls : Array Slot) (cells slots : Nat) (C : UC), uf_J3_inflateIfNeededFor_J21 n d u = some ((r0, ur), C) → u_left R cells slots (u_add C (0, 0)) → u_I D A s.heap u H locs cells → lv_has ls 2 [] → W p l e R s m args below meth c H locs cells slots Q (F0 m 21 ls []) := by
    intro u H locs ls cells slots C h hC I hl
    unfold uf_J3_inflateIfNeededFor_J21 at h
    obtain ⟨he, rfl⟩ := m_e3 h
    obtain ⟨rfl, rfl⟩ := m_e4 he
    exact hret H locs ls 21 _ _ dJ3_inflateIfNeededFor_21 hC I
  intro H locs ls cells slots hC I hl
  unfold uf_J3_inflateIfNeededFor at h
  refine u_gsI X I 0 rfl q342 dJ3_inflateIfNeededFor_0 ?_
  refine lv_if_eq (tgt := 21) X.1 X.2.1 dJ3_inflateIfNeededFor_3 (by decide) (fun c1 => ?_) (fun c1 => ?_)
  · replace h := m_ifT c1 h
    exact k21 u H locs ls _ _ _ h hC I (lv_sub hl [] rfl)
  · replace h := m_ifF c1 h
    refine lv_aload_n X.1 X.2.1 dJ3_inflateIfNeededFor_6 rfl (lv_at hl 0 rfl) ?_
    obtain ⟨b2, e3, h⟩ := m_bS h
    refine u_Gi X I e3 (C := RJ4) (T := TJ4) (N := 4) (ref := "java/lang/AbstractStringBuilder") in_J4 rfl (by decide) rfl rfl q352 (fun _ h => h) dJ3_inflateIfNeededFor_7 ?_
    refine lv_aload_n X.1 X.2.1 dJ3_inflateIfNeededFor_10 rfl (lv_at hl 1 rfl) ?_
    obtain ⟨f4, e5, h⟩ := m_bS h
    obtain ⟨r7, e6, h⟩ := m_bS h
    refine u_callVpT X hl.1 I hA (As := []) (rest := [.int b2]) (uk_J5_coder l n D d u p0 _ e6) (u_txS e5) 0 q1422 q1411 q1412 q111 q1413 uh_J5_coder rfl rfl ⟨Nat.le_trans (Nat.le_of_ble_eq_true rfl) hR.1, Nat.le_trans (Nat.le_of_ble_eq_true rfl) hR.2⟩ (u_leftLe hC) (stk := [.int r7, .int b2]) rfl (Nat.le_of_ble_eq_true rfl) dJ3_inflateIfNeededFor_11 (fun H locs I => ?_)
    refine lv_icmp_eq (tgt := 21) X.1 X.2.1 dJ3_inflateIfNeededFor_14 (by decide) (fun c8 => ?_) (fun c8 => ?_)
    · replace h := m_ifT c8 h
      exact k21 u H locs ls _ _ _ h hC I (lv_sub hl [] rfl)
    · replace h := m_ifF c8 h
      refine lv_aload_n X.1 X.2.1 dJ3_inflateIfNeededFor_17 rfl (lv_at hl 0 rfl) ?_
      obtain ⟨f9, e10, h⟩ := m_bS h
      obtain ⟨r12, u13, C14, C15, e11, z16, h, hq⟩ := u_bcS h
      rw [hq] at hC
      refine u_callB X hl.1 I hA (As := []) (rest := []) (uk_J3_inflate l n D d u t _ _ e11) z16 (u_clS e10) (T := TJ4) (N := 4) rfl 0 2 rfl q414 q416 q109 q417 uh_J3_inflate.2 rfl rfl ⟨Nat.le_trans (Nat.le_of_ble_eq_true rfl) hR.1, Nat.le_trans (Nat.le_of_ble_eq_true rfl) hR.2⟩ hC (stk := []) rfl (Nat.le_of_ble_eq_true rfl) dJ3_inflateIfNeededFor_18 (fun H locs cells slots hC I => ?_)
      exact k21 u13 H locs ls _ _ _ h hC I (lv_sub hl [] rfl)
end S_J3_inflateIfNeededFor
theorem uk_J3_inflateIfNeededFor (l : Launch) (n : Nat) (D : va_G) (d : UD) (u : UM) (t : Nat) (p0 : Nat) (ur : UM) (C : UC) (h : uf_J3_inflateIfNeededFor n d u t p0 = some (((), ur), C)) : u_M l yJ3_inflateIfNeededFor (ws_ yJ3_inflateIfNeededFor cJ3_inflateIfNeededFor 2 none) 2 41 C D d u [.ref t, .ref p0] none ur :=
  u_start (own := RJ3) (lvl := [(0, .ref t), (1, .ref p0)]) (by decide) rfl (Nat.le_of_ble_eq_true rfl) rfl (fun p e s m args below meth c ls X hr hlk hI hl hA I hC => uw_J3_inflateIfNeededFor X hA ⟨Nat.le_refl _, Nat.le_refl _⟩ n u t p0 () ur C h (fun H locs ls pc cells slots hd hC I => u_vret X I hr hlk (u_leftE hC) hd) _ _ ls _ _ hC I hl)

/-! java/lang/String.checkIndex(II)V -/
def uf_J5_checkIndex (n : Nat) (d : UD) (u : UM) (p0 : Int32) (p1 : Int32) : Option Unit :=
  m_b (uf_J11_checkIndex n d u p0 p1 (g_oq (d.2 60))) (fun r2 => some (()))
theorem uh_J5_checkIndex : yJ5_checkIndex.cls = RJ5 ∧ yJ5_checkIndex.cls ≠ "java/lang/invoke/MethodHandle" ∧ yJ5_checkIndex.cls ≠ "java/lang/invoke/VarHandle" ∧ (parseMethodDescriptor yJ5_checkIndex.desc).map (fun d => d.parameters.length) = some 2 := by decide +kernel
section S_J5_checkIndex
variable {p : Program} {l : Launch} {e : Env} {R : Room} {s : State} {m : MethodId} {args : Array Value} {below : List Frame} {meth : Method} {c : Code} {Q : State → Prop} {D : va_G} {A : Nat → Prop} {d : UD} {cells slots : Nat}
theorem uw_J5_checkIndex (X : u_X RJ5 D A d p s m c cJ5_checkIndex 2 args) (hA : ∀ q, s.heap.size ≤ q → A q) (hR : 1 ≤ R.frames ∧ 22 ≤ R.locals) (hf : cells ≤ R.cells ∧ slots ≤ R.slots) (n : Nat) (u : UM) (p0 : Int32) (p1 : Int32) (r : Unit) (h : uf_J5_checkIndex n d u p0 p1 = some r) (hret : ∀ (H : Heap) (locs : List Loc) (ls : Array Slot) (pc : Nat), decode cJ5_checkIndex pc = .ok (.return_, 1) → u_I D A s.heap u H locs cells → W p l e R s m args below meth c H locs cells slots Q (F0 m pc ls [])) : ∀ (H : Heap) (locs : List Loc) (ls : Array Slot), u_I D A s.heap u H locs cells → lv_has ls 2 [(0, .int p0), (1, .int p1)] → W p l e R s m args below meth c H locs cells slots Q (F0 m 0 ls []) := by
  intro H locs ls I hl
  unfold uf_J5_checkIndex at h
  refine lv_iload_n X.1 X.2.1 dJ5_checkIndex_0 rfl (lv_at hl 0 rfl) ?_
  refine lv_iload_n X.1 X.2.1 dJ5_checkIndex_1 rfl (lv_at hl 1 rfl) ?_
  refine u_gsQ X I 0 rfl q433 dJ5_checkIndex_2 ?_
  obtain ⟨r2, e1, h⟩ := m_bS h
  refine u_callSp X hl.1 I hA (As := [.int p0, .int p1, va_rf (g_oq (d.2 60))]) (rest := []) (uk_J11_checkIndex l n D d u p0 p1 (g_oq (d.2 60)) _ e1) 3 q456 q457 q118 q458 uh_J11_checkIndex.2 rfl rfl ⟨Nat.le_trans (Nat.le_of_ble_eq_true rfl) hR.1, Nat.le_trans (Nat.le_of_ble_eq_true rfl) hR.2⟩ hf (stk := [.int r2]) rfl (Nat.le_of_ble_eq_true rfl) dJ5_checkIndex_5 (fun H locs I => ?_)
  refine lv_pop X.1 X.2.1 dJ5_checkIndex_8 rfl ?_
  obtain rfl := m_e1 h
  exact hret H locs ls 9 dJ5_checkIndex_9 I
end S_J5_checkIndex
theorem uk_J5_checkIndex (l : Launch) (n : Nat) (D : va_G) (d : UD) (u : UM) (p0 : Int32) (p1 : Int32) (r : Unit) (h : uf_J5_checkIndex n d u p0 p1 = some r) : u_M l yJ5_checkIndex (ws_ yJ5_checkIndex cJ5_checkIndex 2 none) 1 22 (0, 0) D d u [.int p0, .int p1] none u :=
  u_start (own := RJ5) (lvl := [(0, .int p0), (1, .int p1)]) (by decide) rfl (Nat.le_of_ble_eq_true rfl) rfl (fun p e s m args below meth c ls X hr hlk hI hl hA I hC => uw_J5_checkIndex X hA ⟨Nat.le_refl _, Nat.le_refl _⟩ ⟨Nat.zero_le _, Nat.zero_le _⟩ n u p0 p1 r h (fun H locs ls pc hd I => u_vret X I hr hlk ⟨rfl, rfl⟩ hd) _ _ ls I hl)

/-! java/lang/String.equals(Ljava/lang/Object;)Z -/
def uf_J5_equals_J55 (n : Nat) (d : UD) (u : UM) (t0 : Int32) : Option Int32 :=
  m_g (m_01 t0) (some t0)
def uf_J5_equals_J54 (n : Nat) (d : UD) (u : UM) : Option Int32 :=
  uf_J5_equals_J55 n d u 0
def uf_J5_equals_J36 (n : Nat) (d : UD) (u : UM) (v0 : Nat) (v2 : Nat) : Option Int32 :=
  m_b (u_fr d u 15 0 v0) (fun b9 => m_b (u_fr d u 15 0 v2) (fun b11 => m_b (uf_J10_equals n d u b9 b11) (fun r14 => m_if ((r14 : Int32) = 0) (uf_J5_equals_J54 n d u ) (uf_J5_equals_J55 n d u 1))))
def uf_J5_equals (n : Nat) (d : UD) (u : UM) (t : Nat) (p0 : Nat) : Option Int32 :=
  m_if ((some t : Option Nat) = some p0) (m_g (m_01 1) (some 1)) (m_b (u_tx d u p0) (fun f2 => m_if ((1 : Int32) = 0) (uf_J5_equals_J54 n d u ) (m_b (u_tx d u p0) (fun f6 => m_if ((1 : Int32) = 0) (uf_J5_equals_J36 n d u t p0) (m_b (u_fi d u 15 1 t) (fun b16 => m_b (u_fi d u 15 1 p0) (fun b18 => m_if ((b16 : Int32) = (b18 : Int32)) (uf_J5_equals_J36 n d u t p0) (uf_J5_equals_J54 n d u ))))))))
theorem uh_J5_equals : yJ5_equals.cls = RJ5 ∧ yJ5_equals.cls ≠ "java/lang/invoke/MethodHandle" ∧ yJ5_equals.cls ≠ "java/lang/invoke/VarHandle" ∧ (parseMethodDescriptor yJ5_equals.desc).map (fun d => d.parameters.length) = some 1 := by decide +kernel
section S_J5_equals
variable {p : Program} {l : Launch} {e : Env} {R : Room} {s : State} {m : MethodId} {args : Array Value} {below : List Frame} {meth : Method} {c : Code} {Q : State → Prop} {D : va_G} {A : Nat → Prop} {d : UD} {cells slots : Nat}
theorem uw_J5_equals (X : u_X RJ5 D A d p s m c cJ5_equals 3 args) (hA : ∀ q, s.heap.size ≤ q → A q) (hR : 1 ≤ R.frames ∧ 22 ≤ R.locals) (hf : cells ≤ R.cells ∧ slots ≤ R.slots) (n : Nat) (u : UM) (t : Nat) (p0 : Nat) (r : Int32) (h : uf_J5_equals n d u t p0 = some r) (hret : ∀ (H : Heap) (locs : List Loc) (ls : Array Slot) (pc : Nat), m_01 r = true → decode cJ5_equals pc = .ok (.ireturn, 1) → u_I D A s.heap u H locs cells → W p l e R s m args below meth c H locs cells slots Q (F0 m pc ls [.int r])) : ∀ (H : Heap) (locs : List Loc) (ls : Array Slot), u_I D A s.heap u H locs cells → lv_has ls 3 [(0, .ref t), (1, .ref p0)] → W p l e R s m args below meth c H locs cells slots Q (F0 m 0 ls []) := by
  have k55 : ∀ (t0 : Int32) (H : Heap) (locs : List Loc) (ls : Array Slot), uf_J5_equals_J55 n d u t0 = some r → u_I D A s.heap u H locs cells → lv_has ls 3 [] → W p l e R s m args below meth c H locs cells slots Q (F0 m 55 ls [.int t0]) := by
    intro t0 H locs ls h I hl
    unfold uf_J5_equals_J55 at h
    obtain ⟨g5, h⟩ := m_gS h
    obtain rfl := m_e1 h
    exact hret H locs ls 55 g5 dJ5_equals_55 I
  have k54 : ∀  (H : Heap) (locs : List Loc) (ls : Array Slot), uf_J5_equals_J54 n d u = some r → u_I D A s.heap u H locs cells → lv_has ls 3 [] → W p l e R s m args below meth c H locs cells slots Q (F0 m 54 ls []) := by
    intro  H locs ls h I hl
    unfold uf_J5_equals_J54 at h
    refine lv_iconst (v := 0) X.1 X.2.1 dJ5_equals_54 (by decide) ?_
    exact k55 0 H locs ls h I (lv_sub hl [] rfl)
  have k36 : ∀ (v0 : Nat) (v2 : Nat) (H : Heap) (locs : List Loc) (ls : Array Slot), uf_J5_equals_J36 n d u v0 v2 = some r → u_I D A s.heap u H locs cells → lv_has ls 3 [(0, .ref v0), (2, .ref v2)] → W p l e R s m args below meth c H locs cells slots Q (F0 m 36 ls []) := by
    intro v0 v2 H locs ls h I hl
    unfold uf_J5_equals_J36 at h
    refine lv_aload_n X.1 X.2.1 dJ5_equals_36 rfl (lv_at hl 0 rfl) ?_
    obtain ⟨b9, e10, h⟩ := m_bS h
    refine u_Gr X I e10 (C := RJ5) (T := TJ5) (N := 4) (ref := "java/lang/String") in_J5 rfl (by decide) rfl rfl q509 (fun _ h => h) dJ5_equals_37 ?_
    refine lv_aload_n X.1 X.2.1 dJ5_equals_40 rfl (lv_at hl 1 rfl) ?_
    obtain ⟨b11, e12, h⟩ := m_bS h
    refine u_Gr X I e12 (C := RJ5) (T := TJ5) (N := 4) (ref := "java/lang/String") in_J5 rfl (by decide) rfl rfl q509 (fun _ h => h) dJ5_equals_41 ?_
    obtain ⟨r14, e13, h⟩ := m_bS h
    refine u_callSp X hl.1 I hA (As := [.ref b9, .ref b11]) (rest := []) (uk_J10_equals l n D d u b9 b11 _ e13) 2 q654 q655 q117 q656 uh_J10_equals.2 rfl rfl ⟨Nat.le_trans (Nat.le_of_ble_eq_true rfl) hR.1, Nat.le_trans (Nat.le_of_ble_eq_true rfl) hR.2⟩ hf (stk := [.int r14]) rfl (Nat.le_of_ble_eq_true rfl) dJ5_equals_44 (fun H locs I => ?_)
    refine lv_if_eq (tgt := 54) X.1 X.2.1 dJ5_equals_47 (by decide) (fun c15 => ?_) (fun c15 => ?_)
    · replace h := m_ifT c15 h
      exact k54  H locs ls h I (lv_sub hl [] rfl)
    · replace h := m_ifF c15 h
      refine lv_iconst (v := 1) X.1 X.2.1 dJ5_equals_50 (by decide) ?_
      refine lv_goto (tgt := 55) X.1 X.2.1 dJ5_equals_51 (by decide) ?_
      exact k55 1 H locs ls h I (lv_sub hl [] rfl)
  intro H locs ls I hl
  unfold uf_J5_equals at h
  refine lv_aload_n X.1 X.2.1 dJ5_equals_0 rfl (lv_at hl 0 rfl) ?_
  refine lv_aload_n X.1 X.2.1 dJ5_equals_1 rfl (lv_at hl 1 rfl) ?_
  refine lv_acmp_ne (rx := some t) (ry := some p0) (tgt := 7) X.1 X.2.1 dJ5_equals_2 (by decide) (fun c1 => ?_) (fun c1 => ?_)
  · replace h := m_ifF c1 h
    refine lv_aload_n X.1 X.2.1 dJ5_equals_7 rfl (lv_at hl 1 rfl) ?_
    obtain ⟨f2, e3, h⟩ := m_bS h
    refine u_instT X I (u_txS e3) q653 dJ5_equals_8 ?_
    refine lv_if_eq (tgt := 54) X.1 X.2.1 dJ5_equals_11 (by decide) (fun c4 => ?_) (fun c4 => ?_)
    · replace h := m_ifT c4 h
      exact k54  H locs ls h I (lv_sub hl [] rfl)
    · replace h := m_ifF c4 h
      refine lv_aload_n X.1 X.2.1 dJ5_equals_14 rfl (lv_at hl 1 rfl) ?_
      obtain ⟨f6, e7, h⟩ := m_bS h
      refine u_castT X I (u_txS e7) q653 dJ5_equals_15 ?_
      refine lv_astore_n (lv' := [(2, .ref p0), (0, .ref t), (1, .ref p0)]) X.1 X.2.1 dJ5_equals_18 rfl hl (by decide) rfl (fun ls hl => ?_)
      refine u_gsI X I 0 rfl q495 dJ5_equals_19 ?_
      refine lv_if_eq (tgt := 36) X.1 X.2.1 dJ5_equals_22 (by decide) (fun c8 => ?_) (fun c8 => ?_)
      · replace h := m_ifT c8 h
        exact k36 t p0 H locs ls h I (lv_sub hl [1, 0] rfl)
      · replace h := m_ifF c8 h
        refine lv_aload_n X.1 X.2.1 dJ5_equals_25 rfl (lv_at hl 1 rfl) ?_
        obtain ⟨b16, e17, h⟩ := m_bS h
        refine u_Gi X I e17 (C := RJ5) (T := TJ5) (N := 4) (ref := "java/lang/String") in_J5 rfl (by decide) rfl rfl q510 (fun _ h => h) dJ5_equals_26 ?_
        refine lv_aload_n X.1 X.2.1 dJ5_equals_29 rfl (lv_at hl 0 rfl) ?_
        obtain ⟨b18, e19, h⟩ := m_bS h
        refine u_Gi X I e19 (C := RJ5) (T := TJ5) (N := 4) (ref := "java/lang/String") in_J5 rfl (by decide) rfl rfl q510 (fun _ h => h) dJ5_equals_30 ?_
        refine lv_icmp_ne (tgt := 54) X.1 X.2.1 dJ5_equals_33 (by decide) (fun c20 => ?_) (fun c20 => ?_)
        · replace h := m_ifF c20 h
          exact k54  H locs ls h I (lv_sub hl [] rfl)
        · replace h := m_ifT c20 h
          exact k36 t p0 H locs ls h I (lv_sub hl [1, 0] rfl)
  · replace h := m_ifT c1 h
    refine lv_iconst (v := 1) X.1 X.2.1 dJ5_equals_5 (by decide) ?_
    obtain ⟨g21, h⟩ := m_gS h
    obtain rfl := m_e1 h
    exact hret H locs ls 6 g21 dJ5_equals_6 I
end S_J5_equals
theorem uk_J5_equals (l : Launch) (n : Nat) (D : va_G) (d : UD) (u : UM) (t : Nat) (p0 : Nat) (r : Int32) (h : uf_J5_equals n d u t p0 = some r) : u_M l yJ5_equals (ws_ yJ5_equals cJ5_equals 3 (some .boolean)) 1 22 (0, 0) D d u [.ref t, .ref p0] (some (.int r)) u :=
  u_start (own := RJ5) (lvl := [(0, .ref t), (1, .ref p0)]) (by decide) rfl (Nat.le_of_ble_eq_true rfl) rfl (fun p e s m args below meth c ls X hr hlk hI hl hA I hC => uw_J5_equals X hA ⟨Nat.le_refl _, Nat.le_refl _⟩ ⟨Nat.zero_le _, Nat.zero_le _⟩ n u t p0 r h (fun H locs ls pc g hd I => u_zret X I hr hlk g ⟨rfl, rfl⟩ hd) _ _ ls I hl)

/-! java/lang/String.length()I -/
def uf_J5_length (n : Nat) (d : UD) (u : UM) (t : Nat) : Option Int32 :=
  m_b (u_fr d u 15 0 t) (fun b1 => m_b (u_lnI d u 2 b1) (fun b3 => m_b (u_tx d u t) (fun f5 => m_b (uf_J5_coder n d u t) (fun r8 => some (b3 >>> (r8 &&& 31))))))
theorem uh_J5_length : yJ5_length.cls = RJ5 ∧ yJ5_length.cls ≠ "java/lang/invoke/MethodHandle" ∧ yJ5_length.cls ≠ "java/lang/invoke/VarHandle" ∧ (parseMethodDescriptor yJ5_length.desc).map (fun d => d.parameters.length) = some 0 := by decide +kernel
section S_J5_length
variable {p : Program} {l : Launch} {e : Env} {R : Room} {s : State} {m : MethodId} {args : Array Value} {below : List Frame} {meth : Method} {c : Code} {Q : State → Prop} {D : va_G} {A : Nat → Prop} {d : UD} {cells slots : Nat}
theorem uw_J5_length (X : u_X RJ5 D A d p s m c cJ5_length 1 args) (hA : ∀ q, s.heap.size ≤ q → A q) (hR : 1 ≤ R.frames ∧ 20 ≤ R.locals) (hf : cells ≤ R.cells ∧ slots ≤ R.slots) (n : Nat) (u : UM) (t : Nat) (r : Int32) (h : uf_J5_length n d u t = some r) (hret : ∀ (H : Heap) (locs : List Loc) (ls : Array Slot) (pc : Nat), decode cJ5_length pc = .ok (.ireturn, 1) → u_I D A s.heap u H locs cells → W p l e R s m args below meth c H locs cells slots Q (F0 m pc ls [.int r])) : ∀ (H : Heap) (locs : List Loc) (ls : Array Slot), u_I D A s.heap u H locs cells → lv_has ls 1 [(0, .ref t)] → W p l e R s m args below meth c H locs cells slots Q (F0 m 0 ls []) := by
  intro H locs ls I hl
  unfold uf_J5_length at h
  refine lv_aload_n X.1 X.2.1 dJ5_length_0 rfl (lv_at hl 0 rfl) ?_
  obtain ⟨b1, e2, h⟩ := m_bS h
  refine u_Gr X I e2 (C := RJ5) (T := TJ5) (N := 4) (ref := "java/lang/String") in_J5 rfl (by decide) rfl rfl q509 (fun _ h => h) dJ5_length_1 ?_
  obtain ⟨b3, e4, h⟩ := m_bS h
  refine u_LN X I (by decide) e4 dJ5_length_4 ?_
  refine lv_aload_n X.1 X.2.1 dJ5_length_5 rfl (lv_at hl 0 rfl) ?_
  obtain ⟨f5, e6, h⟩ := m_bS h
  obtain ⟨r8, e7, h⟩ := m_bS h
  refine u_callVpT X hl.1 I hA (As := []) (rest := [.int b3]) (uk_J5_coder l n D d u t _ e7) (u_txS e6) 0 q1410 q1411 q1412 q111 q1413 uh_J5_coder rfl rfl ⟨Nat.le_trans (Nat.le_of_ble_eq_true rfl) hR.1, Nat.le_trans (Nat.le_of_ble_eq_true rfl) hR.2⟩ hf (stk := [.int r8, .int b3]) rfl (Nat.le_of_ble_eq_true rfl) dJ5_length_6 (fun H locs I => ?_)
  refine lv_ishr X.1 X.2.1 dJ5_length_9 ?_
  obtain rfl := m_e1 h
  exact hret H locs ls 10 dJ5_length_10 I
end S_J5_length
theorem uk_J5_length (l : Launch) (n : Nat) (D : va_G) (d : UD) (u : UM) (t : Nat) (r : Int32) (h : uf_J5_length n d u t = some r) : u_M l yJ5_length (ws_ yJ5_length cJ5_length 1 (some .int)) 1 20 (0, 0) D d u [.ref t] (some (.int r)) u :=
  u_start (own := RJ5) (lvl := [(0, .ref t)]) (by decide) rfl (Nat.le_of_ble_eq_true rfl) rfl (fun p e s m args below meth c ls X hr hlk hI hl hA I hC => uw_J5_length X hA ⟨Nat.le_refl _, Nat.le_refl _⟩ ⟨Nat.zero_le _, Nat.zero_le _⟩ n u t r h (fun H locs ls pc hd I => u_iret X I hr hlk ⟨rfl, rfl⟩ hd) _ _ ls I hl)

/-! jdk/internal/util/ArraysSupport.vectorizedHashCode(Ljava/lang/Object;IIII)I -/
def uf_J7_vectorizedHashCode_J157 (n : Nat) (d : UD) (u : UM) (t0 : Int32) : Option ((Int32 × UM) × UC) :=
  some ((t0, u), (0, 0))
def uf_J7_vectorizedHashCode (n : Nat) (d : UD) (u : UM) (p0 : Nat) (p1 : Int32) (p2 : Int32) (p3 : Int32) (p4 : Int32) : Option ((Int32 × UM) × UC) :=
  m_if ((p4 : Int32) = 4) (m_b (u_arI d u 2 p0) (fun f3 => m_b (uf_J7_signedHashCode n d u p3 p0 p1 p2) (fun r6 => uf_J7_vectorizedHashCode_J157 n d u r6))) (m_if ((p4 : Int32) = 5) (none) (m_if ((p4 : Int32) = 6) (none) (m_if ((p4 : Int32) = 7) (none) (m_if ((p4 : Int32) = 8) (m_b (u_arI d u 2 p0) (fun f11 => none)) (m_if ((p4 : Int32) = 9) (none) (m_if ((p4 : Int32) = 10) (none) (none)))))))
theorem uh_J7_vectorizedHashCode : yJ7_vectorizedHashCode.cls = RJ7 ∧ yJ7_vectorizedHashCode.cls ≠ "java/lang/invoke/MethodHandle" ∧ yJ7_vectorizedHashCode.cls ≠ "java/lang/invoke/VarHandle" ∧ (parseMethodDescriptor yJ7_vectorizedHashCode.desc).map (fun d => d.parameters.length) = some 5 := by decide +kernel
section S_J7_vectorizedHashCode
variable {p : Program} {l : Launch} {e : Env} {R : Room} {s : State} {m : MethodId} {args : Array Value} {below : List Frame} {meth : Method} {c : Code} {Q : State → Prop} {D : va_G} {A : Nat → Prop} {d : UD}
theorem uw_J7_vectorizedHashCode (X : u_X RJ7 D A d p s m c cJ7_vectorizedHashCode 5 args) (hA : ∀ q, s.heap.size ≤ q → A q) (hR : 1 ≤ R.frames ∧ 25 ≤ R.locals) (n : Nat) (u : UM) (p0 : Nat) (p1 : Int32) (p2 : Int32) (p3 : Int32) (p4 : Int32) (r0 : Int32) (ur : UM) (C : UC) (h : uf_J7_vectorizedHashCode n d u p0 p1 p2 p3 p4 = some ((r0, ur), C)) (hret : ∀ (H : Heap) (locs : List Loc) (ls : Array Slot) (pc cells slots : Nat), decode cJ7_vectorizedHashCode pc = .ok (.ireturn, 1) → u_left R cells slots (u_add (0, 0) (0, 0)) → u_I D A s.heap ur H locs cells → W p l e R s m args below meth c H locs cells slots Q (F0 m pc ls [.int r0])) : ∀ (H : Heap) (locs : List Loc) (ls : Array Slot) (cells slots : Nat), u_left R cells slots (u_add C (0, 0)) → u_I D A s.heap u H locs cells → lv_has ls 5 [(0, .ref p0), (1, .int p1), (2, .int p2), (3, .int p3), (4, .int p4)] → W p l e R s m args below meth c H locs cells slots Q (F0 m 0 ls []) := by
  have k157 : ∀ (u : UM) (t0 : Int32) (H : Heap) (locs : List Loc) (ls : Array Slot) (cells slots : Nat) (C : UC), uf_J7_vectorizedHashCode_J157 n d u t0 = some ((r0, ur), C) → u_left R cells slots (u_add C (0, 0)) → u_I D A s.heap u H locs cells → lv_has ls 5 [] → W p l e R s m args below meth c H locs cells slots Q (F0 m 157 ls [.int t0]) := by
    intro u t0 H locs ls cells slots C h hC I hl
    unfold uf_J7_vectorizedHashCode_J157 at h
    obtain ⟨he, rfl⟩ := m_e3 h
    obtain ⟨rfl, rfl⟩ := m_e4 he
    exact hret H locs ls 157 _ _ dJ7_vectorizedHashCode_157 hC I
  intro H locs ls cells slots hC I hl
  unfold uf_J7_vectorizedHashCode at h
  refine lv_iload X.1 X.2.1 dJ7_vectorizedHashCode_0 (lv_at hl 4 rfl) ?_
  by_cases c13 : (p4 : Int32) = 4
  · replace h := m_ifT c13 h
    refine lv_tableIn (tgt := 44) X.1 X.2.1 dJ7_vectorizedHashCode_2 (by rw [c13]; decide) (by rw [c13]; decide) (by rw [c13]; rfl) (by decide) ?_
    refine lv_iload_n X.1 X.2.1 dJ7_vectorizedHashCode_44 rfl (lv_at hl 3 rfl) ?_
    refine lv_aload_n X.1 X.2.1 dJ7_vectorizedHashCode_45 rfl (lv_at hl 0 rfl) ?_
    obtain ⟨f3, e4, h⟩ := m_bS h
    refine u_KB X I e4 q609 dJ7_vectorizedHashCode_46 ?_
    refine lv_iload_n X.1 X.2.1 dJ7_vectorizedHashCode_49 rfl (lv_at hl 1 rfl) ?_
    refine lv_iload_n X.1 X.2.1 dJ7_vectorizedHashCode_50 rfl (lv_at hl 2 rfl) ?_
    obtain ⟨r6, e5, h⟩ := m_bS h
    refine u_callSp X hl.1 I hA (As := [.int p3, .ref p0, .int p1, .int p2]) (rest := []) (uk_J7_signedHashCode l n D d u p3 p0 p1 p2 _ e5) 4 q610 q611 q113 q612 uh_J7_signedHashCode.2 rfl rfl ⟨Nat.le_trans (Nat.le_of_ble_eq_true rfl) hR.1, Nat.le_trans (Nat.le_of_ble_eq_true rfl) hR.2⟩ (u_leftLe hC) (stk := [.int r6]) rfl (Nat.le_of_ble_eq_true rfl) dJ7_vectorizedHashCode_51 (fun H locs I => ?_)
    refine lv_goto (tgt := 157) X.1 X.2.1 dJ7_vectorizedHashCode_54 (by decide) ?_
    exact k157 u r6 H locs ls _ _ _ h hC I (lv_sub hl [] rfl)
  replace h := m_ifF c13 h
  by_cases c14 : (p4 : Int32) = 5
  · replace h := m_ifT c14 h
    refine lv_tableIn (tgt := 57) X.1 X.2.1 dJ7_vectorizedHashCode_2 (by rw [c14]; decide) (by rw [c14]; decide) (by rw [c14]; rfl) (by decide) ?_
    refine lv_aload_n X.1 X.2.1 dJ7_vectorizedHashCode_57 rfl (lv_at hl 0 rfl) ?_
    cases h
  replace h := m_ifF c14 h
  by_cases c15 : (p4 : Int32) = 6
  · replace h := m_ifT c15 h
    refine lv_tableIn (tgt := 129) X.1 X.2.1 dJ7_vectorizedHashCode_2 (by rw [c15]; decide) (by rw [c15]; decide) (by rw [c15]; rfl) (by decide) ?_
    cases h
  replace h := m_ifF c15 h
  by_cases c16 : (p4 : Int32) = 7
  · replace h := m_ifT c16 h
    refine lv_tableIn (tgt := 129) X.1 X.2.1 dJ7_vectorizedHashCode_2 (by rw [c16]; decide) (by rw [c16]; decide) (by rw [c16]; rfl) (by decide) ?_
    cases h
  replace h := m_ifF c16 h
  by_cases c17 : (p4 : Int32) = 8
  · replace h := m_ifT c17 h
    refine lv_tableIn (tgt := 90) X.1 X.2.1 dJ7_vectorizedHashCode_2 (by rw [c17]; decide) (by rw [c17]; decide) (by rw [c17]; rfl) (by decide) ?_
    refine lv_iload_n X.1 X.2.1 dJ7_vectorizedHashCode_90 rfl (lv_at hl 3 rfl) ?_
    refine lv_aload_n X.1 X.2.1 dJ7_vectorizedHashCode_91 rfl (lv_at hl 0 rfl) ?_
    obtain ⟨f11, e12, h⟩ := m_bS h
    refine u_KB X I e12 q609 dJ7_vectorizedHashCode_92 ?_
    refine lv_iload_n X.1 X.2.1 dJ7_vectorizedHashCode_95 rfl (lv_at hl 1 rfl) ?_
    refine lv_iload_n X.1 X.2.1 dJ7_vectorizedHashCode_96 rfl (lv_at hl 2 rfl) ?_
    cases h
  replace h := m_ifF c17 h
  by_cases c18 : (p4 : Int32) = 9
  · replace h := m_ifT c18 h
    refine lv_tableIn (tgt := 103) X.1 X.2.1 dJ7_vectorizedHashCode_2 (by rw [c18]; decide) (by rw [c18]; decide) (by rw [c18]; rfl) (by decide) ?_
    refine lv_iload_n X.1 X.2.1 dJ7_vectorizedHashCode_103 rfl (lv_at hl 3 rfl) ?_
    refine lv_aload_n X.1 X.2.1 dJ7_vectorizedHashCode_104 rfl (lv_at hl 0 rfl) ?_
    cases h
  replace h := m_ifF c18 h
  by_cases c19 : (p4 : Int32) = 10
  · replace h := m_ifT c19 h
    refine lv_tableIn (tgt := 116) X.1 X.2.1 dJ7_vectorizedHashCode_2 (by rw [c19]; decide) (by rw [c19]; decide) (by rw [c19]; rfl) (by decide) ?_
    refine lv_iload_n X.1 X.2.1 dJ7_vectorizedHashCode_116 rfl (lv_at hl 3 rfl) ?_
    refine lv_aload_n X.1 X.2.1 dJ7_vectorizedHashCode_117 rfl (lv_at hl 0 rfl) ?_
    cases h
  replace h := m_ifF c19 h
  refine lv_tableOut (tgt := 129) X.1 X.2.1 dJ7_vectorizedHashCode_2 (u_sw4_10 _ c13 c14 c15 c16 c17 c18 c19) (by decide) ?_
  cases h
end S_J7_vectorizedHashCode
theorem uk_J7_vectorizedHashCode (l : Launch) (n : Nat) (D : va_G) (d : UD) (u : UM) (p0 : Nat) (p1 : Int32) (p2 : Int32) (p3 : Int32) (p4 : Int32) (r0 : Int32) (ur : UM) (C : UC) (h : uf_J7_vectorizedHashCode n d u p0 p1 p2 p3 p4 = some ((r0, ur), C)) : u_M l yJ7_vectorizedHashCode (ws_ yJ7_vectorizedHashCode cJ7_vectorizedHashCode 5 (some .int)) 1 25 C D d u [.ref p0, .int p1, .int p2, .int p3, .int p4] (some (.int r0)) ur :=
  u_start (own := RJ7) (lvl := [(0, .ref p0), (1, .int p1), (2, .int p2), (3, .int p3), (4, .int p4)]) (by decide) rfl (Nat.le_of_ble_eq_true rfl) rfl (fun p e s m args below meth c ls X hr hlk hI hl hA I hC => uw_J7_vectorizedHashCode X hA ⟨Nat.le_refl _, Nat.le_refl _⟩ n u p0 p1 p2 p3 p4 r0 ur C h (fun H locs ls pc cells slots hd hC I => u_iret X I hr hlk (u_leftE hC) hd) _ _ ls _ _ hC I hl)

/-! java/util/Arrays.copyOfRangeByte([BII)[B -/
def uf_J9_copyOfRangeByte (n : Nat) (d : UD) (u : UM) (p0 : Nat) (p1 : Int32) (p2 : Int32) : Option ((Nat × UM) × UC) :=
  u_bc u.2 (uf_J9_checkLength n d u p1 p2) (fun r2 u3 => m_g (u_ln (p2 - p1)) (u_ac (1, (p2 - p1 : Int32).toNatClampNeg) (m_b (some (u_nw u3 (.inl (d.1 2, (p2 - p1 : Int32).toNatClampNeg, .inl (fun _ => 0))))) (fun u8 => m_b (u_lnI d u8 2 p0) (fun b11 => m_b (u_xcB d u8 p0 p1 u3.2 0 (if (p2 - p1 : Int32) < (b11 - p1 : Int32) then (p2 - p1 : Int32) else (b11 - p1 : Int32))) (fun w13 => some ((u3.2, (w13, u8.2)), (0, 0))))))))
theorem uh_J9_copyOfRangeByte : yJ9_copyOfRangeByte.cls = RJ9 ∧ yJ9_copyOfRangeByte.cls ≠ "java/lang/invoke/MethodHandle" ∧ yJ9_copyOfRangeByte.cls ≠ "java/lang/invoke/VarHandle" ∧ (parseMethodDescriptor yJ9_copyOfRangeByte.desc).map (fun d => d.parameters.length) = some 3 := by decide +kernel
section S_J9_copyOfRangeByte
variable {p : Program} {l : Launch} {e : Env} {R : Room} {s : State} {m : MethodId} {args : Array Value} {below : List Frame} {meth : Method} {c : Code} {Q : State → Prop} {D : va_G} {A : Nat → Prop} {d : UD}
theorem uw_J9_copyOfRangeByte (X : u_X RJ9 D A d p s m c cJ9_copyOfRangeByte 5 args) (hA : ∀ q, s.heap.size ≤ q → A q) (hR : 1 ≤ R.frames ∧ 60 ≤ R.locals) (n : Nat) (u : UM) (p0 : Nat) (p1 : Int32) (p2 : Int32) (r0 : Nat) (ur : UM) (C : UC) (h : uf_J9_copyOfRangeByte n d u p0 p1 p2 = some ((r0, ur), C)) (hret : ∀ (H : Heap) (locs : List Loc) (ls : Array Slot) (pc cells slots : Nat), decode cJ9_copyOfRangeByte pc = .ok (.areturn, 1) → u_left R cells slots (u_add (0, 0) (0, 0)) → u_I D A s.heap ur H locs cells → W p l e R s m args below meth c H locs cells slots Q (F0 m pc ls [.ref r0])) : ∀ (H : Heap) (locs : List Loc) (ls : Array Slot) (cells slots : Nat), u_left R cells slots (u_add C (0, 0)) → u_I D A s.heap u H locs cells → lv_has ls 5 [(0, .ref p0), (1, .int p1), (2, .int p2)] → W p l e R s m args below meth c H locs cells slots Q (F0 m 0 ls []) := by
  intro H locs ls cells slots hC I hl
  unfold uf_J9_copyOfRangeByte at h
  refine lv_iload_n X.1 X.2.1 dJ9_copyOfRangeByte_0 rfl (lv_at hl 1 rfl) ?_
  refine lv_iload_n X.1 X.2.1 dJ9_copyOfRangeByte_1 rfl (lv_at hl 2 rfl) ?_
  obtain ⟨r2, u3, C4, C5, e1, z6, h, hq⟩ := u_bcS h
  rw [hq] at hC
  refine u_callS X hl.1 I hA (As := [.int p1, .int p2]) (rest := []) (uk_J9_checkLength l n D d u p1 p2 _ _ e1) z6 2 q492 q493 q115 q494 uh_J9_checkLength.2 rfl rfl ⟨Nat.le_trans (Nat.le_of_ble_eq_true rfl) hR.1, Nat.le_trans (Nat.le_of_ble_eq_true rfl) hR.2⟩ hC (stk := []) rfl (Nat.le_of_ble_eq_true rfl) dJ9_copyOfRangeByte_2 (fun H locs cells slots hC I => ?_)
  refine lv_iload_n X.1 X.2.1 dJ9_copyOfRangeByte_5 rfl (lv_at hl 2 rfl) ?_
  refine lv_iload_n X.1 X.2.1 dJ9_copyOfRangeByte_6 rfl (lv_at hl 1 rfl) ?_
  refine lv_isub X.1 X.2.1 dJ9_copyOfRangeByte_7 ?_
  refine lv_istore_n (lv' := [(3, .int (p2 - p1)), (0, .ref p0), (1, .int p1), (2, .int p2)]) X.1 X.2.1 dJ9_copyOfRangeByte_8 rfl hl (by decide) rfl (fun ls hl => ?_)
  refine lv_iload_n X.1 X.2.1 dJ9_copyOfRangeByte_9 rfl (lv_at hl 0 rfl) ?_
  obtain ⟨g9, h⟩ := m_gS h
  obtain ⟨C7, h, hq⟩ := u_acS h
  rw [hq] at hC
  obtain ⟨u8, e10, h⟩ := m_bS h
  refine u_NP X I hA 2 (atype := .byte) rfl q265 (x := (_, .inl (fun _ => 0))) (fun _ => rfl) (by decide) g9 e10 hC dJ9_copyOfRangeByte_10 (fun H cells slots hC I => ?_)
  refine lv_astore (lv' := [(4, .ref u3.2), (3, .int (p2 - p1)), (0, .ref p0), (1, .int p1), (2, .int p2)]) X.1 X.2.1 dJ9_copyOfRangeByte_12 hl (by decide) rfl (fun ls hl => ?_)
  refine lv_aload_n X.1 X.2.1 dJ9_copyOfRangeByte_14 rfl (lv_at hl 2 rfl) ?_
  refine lv_iload_n X.1 X.2.1 dJ9_copyOfRangeByte_15 rfl (lv_at hl 3 rfl) ?_
  refine lv_aload X.1 X.2.1 dJ9_copyOfRangeByte_16 (lv_at hl 0 rfl) ?_
  refine lv_iconst (v := 0) X.1 X.2.1 dJ9_copyOfRangeByte_18 (by decide) ?_
  refine lv_aload_n X.1 X.2.1 dJ9_copyOfRangeByte_19 rfl (lv_at hl 2 rfl) ?_
  obtain ⟨b11, e12, h⟩ := m_bS h
  refine u_LN X I (by decide) e12 dJ9_copyOfRangeByte_20 ?_
  refine lv_iload_n X.1 X.2.1 dJ9_copyOfRangeByte_21 rfl (lv_at hl 3 rfl) ?_
  refine lv_isub X.1 X.2.1 dJ9_copyOfRangeByte_22 ?_
  refine lv_iload_n X.1 X.2.1 dJ9_copyOfRangeByte_23 rfl (lv_at hl 1 rfl) ?_
  refine va_mmin X.1 X.2.1 (X.2.2.2.2.2.1.trans hl.1.symm) X.2.2.2.1 (X.2.2.1 _ q400) (X.2.2.1 _ q401) (X.2.2.1 _ q114) (X.2.2.1 _ q402) (Nat.le_trans (Nat.le_of_ble_eq_true rfl) hR.1) (Nat.le_trans (Nat.le_of_ble_eq_true rfl) hR.2) (u_leftLe hC).1 (u_leftLe hC).2 dJ9_copyOfRangeByte_24 ?_
  obtain ⟨w13, e14, h⟩ := m_bS h
  refine u_CB X hl.1 I q403 q405 q404 q116 e14 (Nat.le_trans (Nat.le_of_ble_eq_true rfl) hR.1) (Nat.le_trans (Nat.le_of_ble_eq_true rfl) hR.2) (Nat.le_of_ble_eq_true rfl) dJ9_copyOfRangeByte_27 (fun H locs I => ?_)
  refine lv_aload X.1 X.2.1 dJ9_copyOfRangeByte_30 (lv_at hl 0 rfl) ?_
  obtain ⟨he, rfl⟩ := m_e3 h
  obtain ⟨rfl, rfl⟩ := m_e4 he
  exact hret H locs ls 32 _ _ dJ9_copyOfRangeByte_32 hC I
end S_J9_copyOfRangeByte
theorem uk_J9_copyOfRangeByte (l : Launch) (n : Nat) (D : va_G) (d : UD) (u : UM) (p0 : Nat) (p1 : Int32) (p2 : Int32) (r0 : Nat) (ur : UM) (C : UC) (h : uf_J9_copyOfRangeByte n d u p0 p1 p2 = some ((r0, ur), C)) : u_M l yJ9_copyOfRangeByte (ws_ yJ9_copyOfRangeByte cJ9_copyOfRangeByte 5 (some (.array .byte))) 1 60 C D d u [.ref p0, .int p1, .int p2] (some (.ref r0)) ur :=
  u_start (own := RJ9) (lvl := [(0, .ref p0), (1, .int p1), (2, .int p2)]) (by decide) rfl (Nat.le_of_ble_eq_true rfl) rfl (fun p e s m args below meth c ls X hr hlk hI hl hA I hC => uw_J9_copyOfRangeByte X hA ⟨Nat.le_refl _, Nat.le_refl _⟩ n u p0 p1 p2 r0 ur C h (fun H locs ls pc cells slots hd hC I => u_aret (r := some r0) X I hr (Or.inr ⟨_, rfl⟩) hlk (u_leftE hC) hd) _ _ ls _ _ hC I hl)

/-! java/util/Arrays.copyOf([Ljava/lang/Object;I)[Ljava/lang/Object; -/
def uf_J9_copyOf_2 (n : Nat) (d : UD) (u : UM) (p0 : Nat) (p1 : Int32) : Option ((Nat × UM) × UC) :=
  m_b (u_arO d u p0) (fun f1 => u_bc u.2 (uf_J9_copyOf_3 n d u p0 p1 (d.2 54)) (fun r4 u5 => some ((r4, u5), (0, 0))))
theorem uh_J9_copyOf_2 : yJ9_copyOf_2.cls = RJ9 ∧ yJ9_copyOf_2.cls ≠ "java/lang/invoke/MethodHandle" ∧ yJ9_copyOf_2.cls ≠ "java/lang/invoke/VarHandle" ∧ (parseMethodDescriptor yJ9_copyOf_2.desc).map (fun d => d.parameters.length) = some 2 := by decide +kernel
section S_J9_copyOf_2
variable {p : Program} {l : Launch} {e : Env} {R : Room} {s : State} {m : MethodId} {args : Array Value} {below : List Frame} {meth : Method} {c : Code} {Q : State → Prop} {D : va_G} {A : Nat → Prop} {d : UD}
theorem uw_J9_copyOf_2 (X : u_X RJ9 D A d p s m c cJ9_copyOf_2 2 args) (hA : ∀ q, s.heap.size ≤ q → A q) (hR : 2 ≤ R.frames ∧ 83 ≤ R.locals) (n : Nat) (u : UM) (p0 : Nat) (p1 : Int32) (r0 : Nat) (ur : UM) (C : UC) (h : uf_J9_copyOf_2 n d u p0 p1 = some ((r0, ur), C)) (hret : ∀ (H : Heap) (locs : List Loc) (ls : Array Slot) (pc cells slots : Nat), decode cJ9_copyOf_2 pc = .ok (.areturn, 1) → u_left R cells slots (u_add (0, 0) (0, 0)) → u_I D A s.heap ur H locs cells → W p l e R s m args below meth c H locs cells slots Q (F0 m pc ls [.ref r0])) : ∀ (H : Heap) (locs : List Loc) (ls : Array Slot) (cells slots : Nat), u_left R cells slots (u_add C (0, 0)) → u_I D A s.heap u H locs cells → lv_has ls 2 [(0, .ref p0), (1, .int p1)] → W p l e R s m args below meth c H locs cells slots Q (F0 m 0 ls []) := by
  intro H locs ls cells slots hC I hl
  unfold uf_J9_copyOf_2 at h
  refine lv_aload_n X.1 X.2.1 dJ9_copyOf_2_0 rfl (lv_at hl 0 rfl) ?_
  refine lv_iload_n X.1 X.2.1 dJ9_copyOf_2_1 rfl (lv_at hl 1 rfl) ?_
  refine lv_aload_n X.1 X.2.1 dJ9_copyOf_2_2 rfl (lv_at hl 0 rfl) ?_
  obtain ⟨f1, e2, h⟩ := m_bS h
  refine u_GC X hl.1 I e2 q738 q2057 q739 q758 (Nat.le_trans (Nat.le_of_ble_eq_true rfl) hR.1) (Nat.le_trans (Nat.le_of_ble_eq_true rfl) hR.2) (Nat.le_of_ble_eq_true rfl) dJ9_copyOf_2_3 ?_
  obtain ⟨r4, u5, C6, C7, e3, z8, h, hq⟩ := u_bcS h
  rw [hq] at hC
  refine u_callS X hl.1 I hA (As := [.ref p0, .int p1, .ref (d.2 54)]) (rest := []) (uk_J9_copyOf_3 l n D d u p0 p1 (d.2 54) _ _ _ e3) z8 3 q759 q760 q115 q761 uh_J9_copyOf_3.2 rfl rfl ⟨Nat.le_trans (Nat.le_of_ble_eq_true rfl) hR.1, Nat.le_trans (Nat.le_of_ble_eq_true rfl) hR.2⟩ hC (stk := [.ref r4]) rfl (Nat.le_of_ble_eq_true rfl) dJ9_copyOf_2_6 (fun H locs cells slots hC I => ?_)
  obtain ⟨he, rfl⟩ := m_e3 h
  obtain ⟨rfl, rfl⟩ := m_e4 he
  exact hret H locs ls 9 _ _ dJ9_copyOf_2_9 hC I
end S_J9_copyOf_2
theorem uk_J9_copyOf_2 (l : Launch) (n : Nat) (D : va_G) (d : UD) (u : UM) (p0 : Nat) (p1 : Int32) (r0 : Nat) (ur : UM) (C : UC) (h : uf_J9_copyOf_2 n d u p0 p1 = some ((r0, ur), C)) : u_M l yJ9_copyOf_2 (ws_ yJ9_copyOf_2 cJ9_copyOf_2 2 (some (.array (.object "java/lang/Object")))) 2 83 C D d u [.ref p0, .int p1] (some (.ref r0)) ur :=
  u_start (own := RJ9) (lvl := [(0, .ref p0), (1, .int p1)]) (by decide) rfl (Nat.le_of_ble_eq_true rfl) rfl (fun p e s m args below meth c ls X hr hlk hI hl hA I hC => uw_J9_copyOf_2 X hA ⟨Nat.le_refl _, Nat.le_refl _⟩ n u p0 p1 r0 ur C h (fun H locs ls pc cells slots hd hC I => u_aret (r := some r0) X I hr (Or.inr ⟨_, rfl⟩) hlk (u_leftE hC) hd) _ _ ls _ _ hC I hl)

/-! java/lang/StringLatin1.hashCode([B)I -/
def uf_J10_hashCode_J51 (n : Nat) (d : UD) (u : UM) (t0 : Int32) : Option ((Int32 × UM) × UC) :=
  some ((t0, u), (0, 0))
def uf_J10_hashCode (n : Nat) (d : UD) (u : UM) (p0 : Nat) : Option ((Int32 × UM) × UC) :=
  m_b (u_lnI d u 2 p0) (fun b1 => m_if ((b1 : Int32) = 0) (uf_J10_hashCode_J51 n d u 0) (m_if ((b1 : Int32) = 1) (m_b (u_ai d u 2 p0 0) (fun b11 => uf_J10_hashCode_J51 n d u (b11 &&& 255))) (m_b (u_lnI d u 2 p0) (fun b3 => u_bc u.2 (uf_J7_vectorizedHashCode n d u p0 0 b3 0 4) (fun r6 u7 => uf_J10_hashCode_J51 n d u7 r6)))))
theorem uh_J10_hashCode : yJ10_hashCode.cls = RJ10 ∧ yJ10_hashCode.cls ≠ "java/lang/invoke/MethodHandle" ∧ yJ10_hashCode.cls ≠ "java/lang/invoke/VarHandle" ∧ (parseMethodDescriptor yJ10_hashCode.desc).map (fun d => d.parameters.length) = some 1 := by decide +kernel
section S_J10_hashCode
variable {p : Program} {l : Launch} {e : Env} {R : Room} {s : State} {m : MethodId} {args : Array Value} {below : List Frame} {meth : Method} {c : Code} {Q : State → Prop} {D : va_G} {A : Nat → Prop} {d : UD}
theorem uw_J10_hashCode (X : u_X RJ10 D A d p s m c cJ10_hashCode 1 args) (hA : ∀ q, s.heap.size ≤ q → A q) (hR : 2 ≤ R.frames ∧ 49 ≤ R.locals) (n : Nat) (u : UM) (p0 : Nat) (r0 : Int32) (ur : UM) (C : UC) (h : uf_J10_hashCode n d u p0 = some ((r0, ur), C)) (hret : ∀ (H : Heap) (locs : List Loc) (ls : Array Slot) (pc cells slots : Nat), decode cJ10_hashCode pc = .ok (.ireturn, 1) → u_left R cells slots (u_add (0, 0) (0, 0)) → u_I D A s.heap ur H locs cells → W p l e R s m args below meth c H locs cells slots Q (F0 m pc ls [.int r0])) : ∀ (H : Heap) (locs : List Loc) (ls : Array Slot) (cells slots : Nat), u_left R cells slots (u_add C (0, 0)) → u_I D A s.heap u H locs cells → lv_has ls 1 [(0, .ref p0)] → W p l e R s m args below meth c H locs cells slots Q (F0 m 0 ls []) := by
  have k51 : ∀ (u : UM) (t0 : Int32) (H : Heap) (locs : List Loc) (ls : Array Slot) (cells slots : Nat) (C : UC), uf_J10_hashCode_J51 n d u t0 = some ((r0, ur), C) → u_left R cells slots (u_add C (0, 0)) → u_I D A s.heap u H locs cells → lv_has ls 1 [] → W p l e R s m args below meth c H locs cells slots Q (F0 m 51 ls [.int t0]) := by
    intro u t0 H locs ls cells slots C h hC I hl
    unfold uf_J10_hashCode_J51 at h
    obtain ⟨he, rfl⟩ := m_e3 h
    obtain ⟨rfl, rfl⟩ := m_e4 he
    exact hret H locs ls 51 _ _ dJ10_hashCode_51 hC I
  intro H locs ls cells slots hC I hl
  unfold uf_J10_hashCode at h
  refine lv_aload_n X.1 X.2.1 dJ10_hashCode_0 rfl (lv_at hl 0 rfl) ?_
  obtain ⟨b1, e2, h⟩ := m_bS h
  refine u_LN X I (by decide) e2 dJ10_hashCode_1 ?_
  by_cases c13 : (b1 : Int32) = 0
  · replace h := m_ifT c13 h
    refine lv_lookup (off := 26) (tgt := 28) X.1 X.2.1 dJ10_hashCode_2 (by decide) (by rw [c13]; rfl) (by decide) ?_
    refine lv_iconst (v := 0) X.1 X.2.1 dJ10_hashCode_28 (by decide) ?_
    refine lv_goto (tgt := 51) X.1 X.2.1 dJ10_hashCode_29 (by decide) ?_
    exact k51 u 0 H locs ls _ _ _ h hC I (lv_sub hl [] rfl)
  replace h := m_ifF c13 h
  by_cases c14 : (b1 : Int32) = 1
  · replace h := m_ifT c14 h
    refine lv_lookup (off := 30) (tgt := 32) X.1 X.2.1 dJ10_hashCode_2 (by decide) (by rw [c14]; rfl) (by decide) ?_
    refine lv_aload_n X.1 X.2.1 dJ10_hashCode_32 rfl (lv_at hl 0 rfl) ?_
    refine lv_iconst (v := 0) X.1 X.2.1 dJ10_hashCode_33 (by decide) ?_
    obtain ⟨b11, e12, h⟩ := m_bS h
    refine u_LB X I e12 dJ10_hashCode_34 ?_
    refine lv_sipush (v := 255) X.1 X.2.1 dJ10_hashCode_35 (by decide) ?_
    refine lv_iand X.1 X.2.1 dJ10_hashCode_38 ?_
    refine lv_goto (tgt := 51) X.1 X.2.1 dJ10_hashCode_39 (by decide) ?_
    exact k51 u (b11 &&& 255) H locs ls _ _ _ h hC I (lv_sub hl [] rfl)
  replace h := m_ifF c14 h
  refine lv_lookup (off := 40) (tgt := 42) X.1 X.2.1 dJ10_hashCode_2 (by decide) (u_lkc (k := 0) (by decide) c13 (u_lkc (k := 1) (by decide) c14 rfl)) (by decide) ?_
  refine lv_aload_n X.1 X.2.1 dJ10_hashCode_42 rfl (lv_at hl 0 rfl) ?_
  refine lv_iconst (v := 0) X.1 X.2.1 dJ10_hashCode_43 (by decide) ?_
  refine lv_aload_n X.1 X.2.1 dJ10_hashCode_44 rfl (lv_at hl 0 rfl) ?_
  obtain ⟨b3, e4, h⟩ := m_bS h
  refine u_LN X I (by decide) e4 dJ10_hashCode_45 ?_
  refine lv_iconst (v := 0) X.1 X.2.1 dJ10_hashCode_46 (by decide) ?_
  refine lv_iconst (v := 4) X.1 X.2.1 dJ10_hashCode_47 (by decide) ?_
  obtain ⟨r6, u7, C8, C9, e5, z10, h, hq⟩ := u_bcS h
  rw [hq] at hC
  refine u_callS X hl.1 I hA (As := [.ref p0, .int 0, .int b3, .int 0, .int 4]) (rest := []) (uk_J7_vectorizedHashCode l n D d u p0 0 b3 0 4 _ _ _ e5) z10 5 q606 q607 q113 q608 uh_J7_vectorizedHashCode.2 rfl rfl ⟨Nat.le_trans (Nat.le_of_ble_eq_true rfl) hR.1, Nat.le_trans (Nat.le_of_ble_eq_true rfl) hR.2⟩ hC (stk := [.int r6]) rfl (Nat.le_of_ble_eq_true rfl) dJ10_hashCode_48 (fun H locs cells slots hC I => ?_)
  exact k51 u7 r6 H locs ls _ _ _ h hC I (lv_sub hl [] rfl)
end S_J10_hashCode
theorem uk_J10_hashCode (l : Launch) (n : Nat) (D : va_G) (d : UD) (u : UM) (p0 : Nat) (r0 : Int32) (ur : UM) (C : UC) (h : uf_J10_hashCode n d u p0 = some ((r0, ur), C)) : u_M l yJ10_hashCode (ws_ yJ10_hashCode cJ10_hashCode 1 (some .int)) 2 49 C D d u [.ref p0] (some (.int r0)) ur :=
  u_start (own := RJ10) (lvl := [(0, .ref p0)]) (by decide) rfl (Nat.le_of_ble_eq_true rfl) rfl (fun p e s m args below meth c ls X hr hlk hI hl hA I hC => uw_J10_hashCode X hA ⟨Nat.le_refl _, Nat.le_refl _⟩ n u p0 r0 ur C h (fun H locs ls pc cells slots hd hC I => u_iret X I hr hlk (u_leftE hC) hd) _ _ ls _ _ hC I hl)

/-! java/lang/StringLatin1.charAt([BI)C -/
def uf_J10_charAt (n : Nat) (d : UD) (u : UM) (p0 : Nat) (p1 : Int32) : Option Int32 :=
  m_b (u_lnI d u 2 p0) (fun b1 => m_b (uf_J5_checkIndex n d u p1 b1) (fun r4 => m_b (u_ai d u 2 p0 p1) (fun b5 => m_g (u_ch (((b5 &&& 255 : Int32).toUInt32 % 65536).toInt32)) (some (((b5 &&& 255 : Int32).toUInt32 % 65536).toInt32)))))
theorem uh_J10_charAt : yJ10_charAt.cls = RJ10 ∧ yJ10_charAt.cls ≠ "java/lang/invoke/MethodHandle" ∧ yJ10_charAt.cls ≠ "java/lang/invoke/VarHandle" ∧ (parseMethodDescriptor yJ10_charAt.desc).map (fun d => d.parameters.length) = some 2 := by decide +kernel
section S_J10_charAt
variable {p : Program} {l : Launch} {e : Env} {R : Room} {s : State} {m : MethodId} {args : Array Value} {below : List Frame} {meth : Method} {c : Code} {Q : State → Prop} {D : va_G} {A : Nat → Prop} {d : UD} {cells slots : Nat}
theorem uw_J10_charAt (X : u_X RJ10 D A d p s m c cJ10_charAt 2 args) (hA : ∀ q, s.heap.size ≤ q → A q) (hR : 2 ≤ R.frames ∧ 43 ≤ R.locals) (hf : cells ≤ R.cells ∧ slots ≤ R.slots) (n : Nat) (u : UM) (p0 : Nat) (p1 : Int32) (r : Int32) (h : uf_J10_charAt n d u p0 p1 = some r) (hret : ∀ (H : Heap) (locs : List Loc) (ls : Array Slot) (pc : Nat), u_ch r = true → decode cJ10_charAt pc = .ok (.ireturn, 1) → u_I D A s.heap u H locs cells → W p l e R s m args below meth c H locs cells slots Q (F0 m pc ls [.int r])) : ∀ (H : Heap) (locs : List Loc) (ls : Array Slot), u_I D A s.heap u H locs cells → lv_has ls 2 [(0, .ref p0), (1, .int p1)] → W p l e R s m args below meth c H locs cells slots Q (F0 m 0 ls []) := by
  intro H locs ls I hl
  unfold uf_J10_charAt at h
  refine lv_iload_n X.1 X.2.1 dJ10_charAt_0 rfl (lv_at hl 1 rfl) ?_
  refine lv_aload_n X.1 X.2.1 dJ10_charAt_1 rfl (lv_at hl 0 rfl) ?_
  obtain ⟨b1, e2, h⟩ := m_bS h
  refine u_LN X I (by decide) e2 dJ10_charAt_2 ?_
  obtain ⟨r4, e3, h⟩ := m_bS h
  refine u_callSp X hl.1 I hA (As := [.int p1, .int b1]) (rest := []) (uk_J5_checkIndex l n D d u p1 b1 _ e3) 2 q1482 q454 q111 q455 uh_J5_checkIndex.2 rfl rfl ⟨Nat.le_trans (Nat.le_of_ble_eq_true rfl) hR.1, Nat.le_trans (Nat.le_of_ble_eq_true rfl) hR.2⟩ hf (stk := []) rfl (Nat.le_of_ble_eq_true rfl) dJ10_charAt_3 (fun H locs I => ?_)
  refine lv_aload_n X.1 X.2.1 dJ10_charAt_6 rfl (lv_at hl 0 rfl) ?_
  refine lv_iload_n X.1 X.2.1 dJ10_charAt_7 rfl (lv_at hl 1 rfl) ?_
  obtain ⟨b5, e6, h⟩ := m_bS h
  refine u_LB X I e6 dJ10_charAt_8 ?_
  refine lv_sipush (v := 255) X.1 X.2.1 dJ10_charAt_9 (by decide) ?_
  refine lv_iand X.1 X.2.1 dJ10_charAt_12 ?_
  refine lv_i2c X.1 X.2.1 dJ10_charAt_13 rfl ?_
  obtain ⟨g7, h⟩ := m_gS h
  obtain rfl := m_e1 h
  exact hret H locs ls 14 g7 dJ10_charAt_14 I
end S_J10_charAt
theorem uk_J10_charAt (l : Launch) (n : Nat) (D : va_G) (d : UD) (u : UM) (p0 : Nat) (p1 : Int32) (r : Int32) (h : uf_J10_charAt n d u p0 p1 = some r) : u_M l yJ10_charAt (ws_ yJ10_charAt cJ10_charAt 2 (some .char)) 2 43 (0, 0) D d u [.ref p0, .int p1] (some (.int r)) u :=
  u_start (own := RJ10) (lvl := [(0, .ref p0), (1, .int p1)]) (by decide) rfl (Nat.le_of_ble_eq_true rfl) rfl (fun p e s m args below meth c ls X hr hlk hI hl hA I hC => uw_J10_charAt X hA ⟨Nat.le_refl _, Nat.le_refl _⟩ ⟨Nat.zero_le _, Nat.zero_le _⟩ n u p0 p1 r h (fun H locs ls pc g hd I => u_cret X I hr hlk g ⟨rfl, rfl⟩ hd) _ _ ls I hl)

/-! SwapPress.<init>()V -/
def uf_X0_init (n : Nat) (d : UD) (u : UM) (t : Nat) : Option ((Unit × UM) × UC) :=
  u_ac (1, 5) (m_b (some (u_nw u (.inr (2, [.null, .null, .null, .null, .int 0])))) (fun u2 => u_bc u2.2 (uf_X1_init n d u2 u.2) (fun r5 u6 => m_b (u_pf u6 1 0 t (.ref u.2)) (fun w10 => u_ac (1, 3) (m_b (some (u_nw (w10, u6.2) (.inr (13, [.int 0, .null, .int 0])))) (fun u13 => u_bc u13.2 (uf_J2_init n d u13 u6.2) (fun r16 u17 => m_b (u_pf u17 1 1 t (.ref u6.2)) (fun w21 => u_ac (1, 8) (m_b (some (u_nw (w21, u17.2) (.inr (3, [.null, .null, .null, .null, .null, .null, .null, .int 0])))) (fun u24 => u_bc u24.2 (uf_X2_init n d u24 u17.2) (fun r27 u28 => m_b (u_pf u28 1 2 t (.ref u17.2)) (fun w32 => m_b (u_pf (w32, u28.2) 1 3 t (.int ((-1)))) (fun w34 => m_g (u_ln 900) (u_ac (1, (900 : Int32).toNatClampNeg) (m_b (some (u_nw (w34, u28.2) (.inl (d.1 2, (900 : Int32).toNatClampNeg, .inl (fun _ => 0))))) (fun u37 => m_b (u_pf u37 1 5 t (.ref u28.2)) (fun w40 => m_b (u_pf (w40, u37.2) 1 8 t (.int ((-1)))) (fun w42 => some (((), (w42, u37.2)), (0, 0))))))))))))))))))))
theorem uh_X0_init : yX0_init.cls = RX0 ∧ yX0_init.cls ≠ "java/lang/invoke/MethodHandle" ∧ yX0_init.cls ≠ "java/lang/invoke/VarHandle" ∧ (parseMethodDescriptor yX0_init.desc).map (fun d => d.parameters.length) = some 0 := by decide +kernel
section S_X0_init
variable {p : Program} {l : Launch} {e : Env} {R : Room} {s : State} {m : MethodId} {args : Array Value} {below : List Frame} {meth : Method} {c : Code} {Q : State → Prop} {D : va_G} {A : Nat → Prop} {d : UD}
theorem uw_X0_init (X : u_X RX0 D A d p s m c cX0_init 1 args) (hA : ∀ q, s.heap.size ≤ q → A q) (hR : 5 ≤ R.frames ∧ 101 ≤ R.locals) (hI : meth.name = "<init>") (n : Nat) (u : UM) (t : Nat) (r0 : Unit) (ur : UM) (C : UC) (h : uf_X0_init n d u t = some ((r0, ur), C)) (hret : ∀ (H : Heap) (locs : List Loc) (ls : Array Slot) (pc cells slots : Nat), decode cX0_init pc = .ok (.return_, 1) → u_left R cells slots (u_add (0, 0) (0, 0)) → u_I D A s.heap ur H locs cells → W p l e R s m args below meth c H locs cells slots Q (F0 m pc ls [])) : ∀ (H : Heap) (locs : List Loc) (ls : Array Slot) (cells slots : Nat), u_left R cells slots (u_add C (0, 0)) → u_I D A s.heap u H locs cells → lv_has ls 1 [(0, .ref t)] → W p l e R s m args below meth c H locs cells slots Q (F0 m 0 ls []) := by
  intro H locs ls cells slots hC I hl
  unfold uf_X0_init at h
  refine lv_aload_n X.1 X.2.1 dX0_init_0 rfl (lv_at hl 0 rfl) ?_
  refine u_obj X hl.1 q138 q139 q140 (Nat.le_trans (Nat.le_of_ble_eq_true rfl) hR.1) (Nat.le_trans (Nat.le_of_ble_eq_true rfl) hR.2) (Nat.le_of_ble_eq_true rfl) dX0_init_1 ?_
  refine lv_aload_n X.1 X.2.1 dX0_init_4 rfl (lv_at hl 0 rfl) ?_
  obtain ⟨C1, h, hq⟩ := u_acS h
  rw [hq] at hC
  obtain ⟨u2, e3, h⟩ := m_bS h
  refine u_NO X I hA 2 (C := RX1) (T := TX1) (N := 5) in_X1 tyX1 tyX1_ok q141 q142 q102 rfl (fs := [.null, .null, .null, .null, .int 0]) e3 (fun j hj => by match j, hj with | 0, _ => rfl | 1, _ => rfl | 2, _ => rfl | 3, _ => rfl | 4, _ => rfl) hC dX0_init_5 (fun H cells slots hC I => ?_)
  refine lv_dup X.1 X.2.1 dX0_init_8 rfl ?_
  obtain ⟨r5, u6, C7, C8, e4, z9, h, hq⟩ := u_bcS h
  rw [hq] at hC
  refine u_callI X hl.1 I hA (As := []) (rest := [.ref u.2, .ref t]) (uk_X1_init l n D d u2 u.2 _ _ e4) z9 0 q143 q144 q102 q145 rfl uh_X1_init.2 rfl rfl ⟨Nat.le_trans (Nat.le_of_ble_eq_true rfl) hR.1, Nat.le_trans (Nat.le_of_ble_eq_true rfl) hR.2⟩ hC (Nat.le_of_ble_eq_true rfl) dX0_init_9 (fun H locs cells slots hC I => ?_)
  obtain ⟨w10, e11, h⟩ := m_bS h
  refine u_P X I e11 (C := RX0) (T := TX0) (N := 9) (ref := "SwapPress") in_X0 tyX0 tyX0_ok nmX0 rfl (by decide) rfl rfl q235 (fun _ h => h) rfl rfl rfl dX0_init_12 (fun H locs I => ?_)
  refine lv_aload_n X.1 X.2.1 dX0_init_15 rfl (lv_at hl 0 rfl) ?_
  obtain ⟨C12, h, hq⟩ := u_acS h
  rw [hq] at hC
  obtain ⟨u13, e14, h⟩ := m_bS h
  refine u_NO X I hA 13 (C := RJ2) (T := TJ2) (N := 3) in_J2 tyJ2 tyJ2_ok q201 q148 q105 rfl (fs := [.int 0, .null, .int 0]) e14 (fun j hj => by match j, hj with | 0, _ => rfl | 1, _ => rfl | 2, _ => rfl) hC dX0_init_16 (fun H cells slots hC I => ?_)
  refine lv_dup X.1 X.2.1 dX0_init_19 rfl ?_
  obtain ⟨r16, u17, C18, C19, e15, z20, h, hq⟩ := u_bcS h
  rw [hq] at hC
  refine u_callI X hl.1 I hA (As := []) (rest := [.ref u6.2, .ref t]) (uk_J2_init l n D d u13 u6.2 _ _ e15) z20 0 q202 q150 q105 q151 rfl uh_J2_init.2 rfl rfl ⟨Nat.le_trans (Nat.le_of_ble_eq_true rfl) hR.1, Nat.le_trans (Nat.le_of_ble_eq_true rfl) hR.2⟩ hC (Nat.le_of_ble_eq_true rfl) dX0_init_20 (fun H locs cells slots hC I => ?_)
  obtain ⟨w21, e22, h⟩ := m_bS h
  refine u_PF X I e22 (C := RX0) (T := TX0) (N := 9) (ref := "SwapPress") in_X0 tyX0 tyX0_ok nmX0 rfl (by decide) rfl rfl q236 (fun _ h => h) rfl hI rfl rfl rfl dX0_init_23 (fun H locs I => ?_)
  refine lv_aload_n X.1 X.2.1 dX0_init_26 rfl (lv_at hl 0 rfl) ?_
  obtain ⟨C23, h, hq⟩ := u_acS h
  rw [hq] at hC
  obtain ⟨u24, e25, h⟩ := m_bS h
  refine u_NO X I hA 3 (C := RX2) (T := TX2) (N := 8) in_X2 tyX2 tyX2_ok q203 q204 q106 rfl (fs := [.null, .null, .null, .null, .null, .null, .null, .int 0]) e25 (fun j hj => by match j, hj with | 0, _ => rfl | 1, _ => rfl | 2, _ => rfl | 3, _ => rfl | 4, _ => rfl | 5, _ => rfl | 6, _ => rfl | 7, _ => rfl) hC dX0_init_27 (fun H cells slots hC I => ?_)
  refine lv_dup X.1 X.2.1 dX0_init_30 rfl ?_
  obtain ⟨r27, u28, C29, C30, e26, z31, h, hq⟩ := u_bcS h
  rw [hq] at hC
  refine u_callIN X hl.1 I hA (As := []) (rest := [.ref u17.2, .ref t]) (uk_X2_init l n D d u24 u17.2 _ _ e26) z31 0 0 rfl q206 q106 q207 rfl uh_X2_init.2 rfl rfl ⟨Nat.le_trans (Nat.le_of_ble_eq_true rfl) hR.1, Nat.le_trans (Nat.le_of_ble_eq_true rfl) hR.2⟩ hC (Nat.le_of_ble_eq_true rfl) dX0_init_31 (fun H locs cells slots hC I => ?_)
  obtain ⟨w32, e33, h⟩ := m_bS h
  refine u_PF X I e33 (C := RX0) (T := TX0) (N := 9) (ref := "SwapPress") in_X0 tyX0 tyX0_ok nmX0 rfl (by decide) rfl rfl q238 (fun _ h => h) rfl hI rfl rfl rfl dX0_init_34 (fun H locs I => ?_)
  refine lv_aload_n X.1 X.2.1 dX0_init_37 rfl (lv_at hl 0 rfl) ?_
  refine lv_iconst (v := (-1)) X.1 X.2.1 dX0_init_38 (by decide) ?_
  obtain ⟨w34, e35, h⟩ := m_bS h
  refine u_P X I e35 (C := RX0) (T := TX0) (N := 9) (ref := "SwapPress") in_X0 tyX0 tyX0_ok nmX0 rfl (by decide) rfl rfl q239 (fun _ h => h) rfl rfl rfl dX0_init_39 (fun H locs I => ?_)
  refine lv_aload_n X.1 X.2.1 dX0_init_42 rfl (lv_at hl 0 rfl) ?_
  refine lv_sipush (v := 900) X.1 X.2.1 dX0_init_43 (by decide) ?_
  obtain ⟨g38, h⟩ := m_gS h
  obtain ⟨C36, h, hq⟩ := u_acS h
  rw [hq] at hC
  obtain ⟨u37, e39, h⟩ := m_bS h
  refine u_NP X I hA 2 (atype := .byte) rfl q265 (x := (_, .inl (fun _ => 0))) (fun _ => rfl) (by decide) g38 e39 hC dX0_init_46 (fun H cells slots hC I => ?_)
  obtain ⟨w40, e41, h⟩ := m_bS h
  refine u_PF X I e41 (C := RX0) (T := TX0) (N := 9) (ref := "SwapPress") in_X0 tyX0 tyX0_ok nmX0 rfl (by decide) rfl rfl q242 (fun _ h => h) rfl hI rfl rfl rfl dX0_init_48 (fun H locs I => ?_)
  refine lv_aload_n X.1 X.2.1 dX0_init_51 rfl (lv_at hl 0 rfl) ?_
  refine lv_iconst (v := (-1)) X.1 X.2.1 dX0_init_52 (by decide) ?_
  obtain ⟨w42, e43, h⟩ := m_bS h
  refine u_P X I e43 (C := RX0) (T := TX0) (N := 9) (ref := "SwapPress") in_X0 tyX0 tyX0_ok nmX0 rfl (by decide) rfl rfl q245 (fun _ h => h) rfl rfl rfl dX0_init_53 (fun H locs I => ?_)
  obtain ⟨he, rfl⟩ := m_e3 h
  obtain ⟨rfl, rfl⟩ := m_e4 he
  exact hret H locs ls 56 _ _ dX0_init_56 hC I
end S_X0_init
theorem uk_X0_init (l : Launch) (n : Nat) (D : va_G) (d : UD) (u : UM) (t : Nat) (ur : UM) (C : UC) (h : uf_X0_init n d u t = some (((), ur), C)) : u_M l yX0_init (ws_ yX0_init cX0_init 1 none) 5 101 C D d u [.ref t] none ur :=
  u_start (own := RX0) (lvl := [(0, .ref t)]) (by decide) rfl (Nat.le_of_ble_eq_true rfl) rfl (fun p e s m args below meth c ls X hr hlk hI hl hA I hC => uw_X0_init X hA ⟨Nat.le_refl _, Nat.le_refl _⟩ hI n u t () ur C h (fun H locs ls pc cells slots hd hC I => u_vret X I hr hlk (u_leftE hC) hd) _ _ ls _ _ hC I hl)

/-! SwapPress.isParty(I)Z -/
def uf_X0_isParty (n : Nat) (d : UD) (u : UM) (t : Nat) (p0 : Int32) : Option Int32 :=
  m_b (u_fr d u 1 0 t) (fun b1 => m_b (u_cl u 2 b1) (fun f3 => m_b (uf_X1_many n d u b1) (fun r6 => m_b (uf_X0_in n d u ((p0 : Int32).toInt64) 0 ((r6 - 1 : Int32).toInt64)) (fun r8 => m_g (m_01 r8) (some r8)))))
theorem uh_X0_isParty : yX0_isParty.cls = RX0 ∧ yX0_isParty.cls ≠ "java/lang/invoke/MethodHandle" ∧ yX0_isParty.cls ≠ "java/lang/invoke/VarHandle" ∧ (parseMethodDescriptor yX0_isParty.desc).map (fun d => d.parameters.length) = some 1 := by decide +kernel
section S_X0_isParty
variable {p : Program} {l : Launch} {e : Env} {R : Room} {s : State} {m : MethodId} {args : Array Value} {below : List Frame} {meth : Method} {c : Code} {Q : State → Prop} {D : va_G} {A : Nat → Prop} {d : UD} {cells slots : Nat}
theorem uw_X0_isParty (X : u_X RX0 D A d p s m c cX0_isParty 2 args) (hA : ∀ q, s.heap.size ≤ q → A q) (hR : 2 ≤ R.frames ∧ 40 ≤ R.locals) (hf : cells ≤ R.cells ∧ slots ≤ R.slots) (n : Nat) (u : UM) (t : Nat) (p0 : Int32) (r : Int32) (h : uf_X0_isParty n d u t p0 = some r) (hret : ∀ (H : Heap) (locs : List Loc) (ls : Array Slot) (pc : Nat), m_01 r = true → decode cX0_isParty pc = .ok (.ireturn, 1) → u_I D A s.heap u H locs cells → W p l e R s m args below meth c H locs cells slots Q (F0 m pc ls [.int r])) : ∀ (H : Heap) (locs : List Loc) (ls : Array Slot), u_I D A s.heap u H locs cells → lv_has ls 2 [(0, .ref t), (1, .int p0)] → W p l e R s m args below meth c H locs cells slots Q (F0 m 0 ls []) := by
  intro H locs ls I hl
  unfold uf_X0_isParty at h
  refine lv_iload_n X.1 X.2.1 dX0_isParty_0 rfl (lv_at hl 1 rfl) ?_
  refine lv_i2l X.1 X.2.1 dX0_isParty_1 rfl ?_
  refine lv_lconst (v := 0) X.1 X.2.1 dX0_isParty_2 (by decide) ?_
  refine lv_aload_n X.1 X.2.1 dX0_isParty_3 rfl (lv_at hl 0 rfl) ?_
  obtain ⟨b1, e2, h⟩ := m_bS h
  refine u_Gr X I e2 (C := RX0) (T := TX0) (N := 9) (ref := "SwapPress") in_X0 rfl (by decide) rfl rfl q235 (fun _ h => h) dX0_isParty_4 ?_
  obtain ⟨f3, e4, h⟩ := m_bS h
  obtain ⟨r6, e5, h⟩ := m_bS h
  refine u_callVp X hl.1 I hA (As := []) (rest := [.long 0, .long ((p0 : Int32).toInt64)]) (uk_X1_many l n D d u b1 _ e5) (u_clS e4) (C := RX1) (T := TX1) (N := 5) rfl 0 q870 q871 q872 q102 q873 uh_X1_many rfl rfl ⟨Nat.le_trans (Nat.le_of_ble_eq_true rfl) hR.1, Nat.le_trans (Nat.le_of_ble_eq_true rfl) hR.2⟩ hf (stk := [.int r6, .long 0, .long ((p0 : Int32).toInt64)]) rfl (Nat.le_of_ble_eq_true rfl) dX0_isParty_7 (fun H locs I => ?_)
  refine lv_iconst (v := 1) X.1 X.2.1 dX0_isParty_10 (by decide) ?_
  refine lv_isub X.1 X.2.1 dX0_isParty_11 ?_
  refine lv_i2l X.1 X.2.1 dX0_isParty_12 rfl ?_
  obtain ⟨r8, e7, h⟩ := m_bS h
  refine u_callSp X hl.1 I hA (As := [.long ((p0 : Int32).toInt64), .long 0, .long ((r6 - 1 : Int32).toInt64)]) (rest := []) (uk_X0_in l n D d u ((p0 : Int32).toInt64) 0 ((r6 - 1 : Int32).toInt64) _ e7) 3 q279 q280 q101 q281 uh_X0_in.2 rfl rfl ⟨Nat.le_trans (Nat.le_of_ble_eq_true rfl) hR.1, Nat.le_trans (Nat.le_of_ble_eq_true rfl) hR.2⟩ hf (stk := [.int r8]) rfl (Nat.le_of_ble_eq_true rfl) dX0_isParty_13 (fun H locs I => ?_)
  obtain ⟨g9, h⟩ := m_gS h
  obtain rfl := m_e1 h
  exact hret H locs ls 16 g9 dX0_isParty_16 I
end S_X0_isParty
theorem uk_X0_isParty (l : Launch) (n : Nat) (D : va_G) (d : UD) (u : UM) (t : Nat) (p0 : Int32) (r : Int32) (h : uf_X0_isParty n d u t p0 = some r) : u_M l yX0_isParty (ws_ yX0_isParty cX0_isParty 2 (some .boolean)) 2 40 (0, 0) D d u [.ref t, .int p0] (some (.int r)) u :=
  u_start (own := RX0) (lvl := [(0, .ref t), (1, .int p0)]) (by decide) rfl (Nat.le_of_ble_eq_true rfl) rfl (fun p e s m args below meth c ls X hr hlk hI hl hA I hC => uw_X0_isParty X hA ⟨Nat.le_refl _, Nat.le_refl _⟩ ⟨Nat.zero_le _, Nat.zero_le _⟩ n u t p0 r h (fun H locs ls pc g hd I => u_zret X I hr hlk g ⟨rfl, rfl⟩ hd) _ _ ls I hl)

/-! SwapPress.lessens(IIII)V -/
def uf_X0_lessens_J140 (n : Nat) (d : UD) (u : UM) (v0 : Nat) (v1 : Int32) (v2 : Int32) (v3 : Int32) (v5 : Int32) (v6 : Int32) : Option (((Int32 × Int32 × UM) ⊕ UM) × UC) :=
  some (.inl ((v5, v6 + (-1), u)), (0, 0))
def uf_X0_lessens_L18 (n : Nat) (d : UD) (v0 : Nat) (v1 : Int32) (v2 : Int32) (v3 : Int32) (v5 : Int32) (v6 : Int32) (u : UM) : Option (((Int32 × Int32 × UM) ⊕ UM) × UC) :=
  m_if ((v6 : Int32) < 0) (some (.inr u, (0, 0))) (m_if ((v5 : Int32) ≤ 0) (some (.inr u, (0, 0))) (m_b (u_fr d u 1 0 v0) (fun b11 => m_b (u_nr u 2 2 b11) (fun b13 => m_b (u_cl u 13 b13) (fun f15 => m_b (uf_J2_get n d u b13 v6) (fun r18 => m_b (u_cl u 6 r18) (fun f19 => m_b (u_cl u 6 r18) (fun f21 => m_b (uf_X6_isFree n d u r18 v3) (fun r24 => m_if ((r24 : Int32) = 0) (uf_X0_lessens_J140 n d u v0 v1 v2 v3 v5 v6) (m_b (u_ni u 6 0 r18) (fun b26 => m_if ((b26 : Int32) = (v1 : Int32)) (m_b (u_ni u 6 1 r18) (fun b29 => m_if ((b29 : Int32) = (v2 : Int32)) (m_b (u_ni u 6 2 r18) (fun b32 => m_b (some (if (b32 : Int32) < (v5 : Int32) then (b32 : Int32) else (v5 : Int32))) (fun y34 => m_b (u_ni u 6 2 r18) (fun b36 => m_if ((y34 : Int32) = (b36 : Int32)) (m_b (u_fr d u 1 0 v0) (fun b59 => m_b (u_nr u 2 2 b59) (fun b61 => m_b (u_cl u 13 b61) (fun f63 => u_bc u.2 (uf_J2_remove n d u b61 v6) (fun r66 u67 => uf_X0_lessens_J140 n d u67 v0 v1 v2 v3 (v5 - y34) v6))))) (m_b (u_fr d u 1 0 v0) (fun b39 => m_b (u_nr u 2 2 b39) (fun b41 => m_b (u_cl u 6 r18) (fun f43 => u_bc u.2 (uf_X6_less n d u r18 y34) (fun r46 u47 => m_b (u_cl u47 13 b41) (fun f51 => u_bc u47.2 (uf_J2_set n d u47 b41 v6 r46) (fun r54 u55 => uf_X0_lessens_J140 n d u55 v0 v1 v2 v3 (v5 - y34) v6))))))))))) (uf_X0_lessens_J140 n d u v0 v1 v2 v3 v5 v6))) (uf_X0_lessens_J140 n d u v0 v1 v2 v3 v5 v6))))))))))))
def uf_X0_lessens_L18l (n : Nat) (d : UD) (v0 : Nat) (v1 : Int32) (v2 : Int32) (v3 : Int32) (x : (Int32 × Int32 × UM)) : Option (UM × UC) := u_lp (fun (x : (Int32 × Int32 × UM)) => uf_X0_lessens_L18 n d v0 v1 v2 v3 x.1 x.2.1 x.2.2) n x
def uf_X0_lessens (n : Nat) (d : UD) (u : UM) (t : Nat) (p0 : Int32) (p1 : Int32) (p2 : Int32) (p3 : Int32) : Option ((Unit × UM) × UC) :=
  m_b (u_fr d u 1 0 t) (fun b1 => m_b (u_nr u 2 2 b1) (fun b3 => m_b (u_cl u 13 b3) (fun f5 => m_b (uf_J2_size n d u b3) (fun r8 => u_bl (uf_X0_lessens_L18l n d t p0 p1 p2 ((p3, r8 - 1, u))) (fun u72 => some (((), u72), (0, 0)))))))
theorem uh_X0_lessens : yX0_lessens.cls = RX0 ∧ yX0_lessens.cls ≠ "java/lang/invoke/MethodHandle" ∧ yX0_lessens.cls ≠ "java/lang/invoke/VarHandle" ∧ (parseMethodDescriptor yX0_lessens.desc).map (fun d => d.parameters.length) = some 4 := by decide +kernel
section S_X0_lessens
variable {p : Program} {l : Launch} {e : Env} {R : Room} {s : State} {m : MethodId} {args : Array Value} {below : List Frame} {meth : Method} {c : Code} {Q : State → Prop} {D : va_G} {A : Nat → Prop} {d : UD}
theorem wuf_X0_lessens_L18 (X : u_X RX0 D A d p s m c cX0_lessens 9 args) (hA : ∀ q, s.heap.size ≤ q → A q) (hR : 3 ≤ R.frames ∧ 106 ≤ R.locals) (n : Nat) (v0 : Nat) (v1 : Int32) (v2 : Int32) (v3 : Int32) (x : (Int32 × Int32 × UM)) (z : UM) (C cr : UC) (hz : uf_X0_lessens_L18l n d v0 v1 v2 v3 x = some (z, C)) (hE : (fun (z : UM) (C : UC) => ∀ (H : Heap) (locs : List Loc) (ls : Array Slot) (cells slots : Nat), u_left R cells slots C → u_I D A s.heap z H locs cells → lv_has ls 9 [] → W p l e R s m args below meth c H locs cells slots Q (F0 m 146 ls [])) z cr) : (fun (x : (Int32 × Int32 × UM)) (C : UC) => ∀ (H : Heap) (locs : List Loc) (ls : Array Slot) (cells slots : Nat), u_left R cells slots C → u_I D A s.heap x.2.2 H locs cells → lv_has ls 9 [(0, .ref v0), (1, .int v1), (2, .int v2), (3, .int v3), (5, .int x.1), (6, .int x.2.1)] → W p l e R s m args below meth c H locs cells slots Q (F0 m 18 ls [])) x (u_add C cr) := by
  refine u_lpW (G := fun (x : (Int32 × Int32 × UM)) (C : UC) => ∀ (H : Heap) (locs : List Loc) (ls : Array Slot) (cells slots : Nat), u_left R cells slots C → u_I D A s.heap x.2.2 H locs cells → lv_has ls 9 [(0, .ref v0), (1, .int v1), (2, .int v2), (3, .int v3), (5, .int x.1), (6, .int x.2.1)] → W p l e R s m args below meth c H locs cells slots Q (F0 m 18 ls [])) (E := fun (z : UM) (C : UC) => ∀ (H : Heap) (locs : List Loc) (ls : Array Slot) (cells slots : Nat), u_left R cells slots C → u_I D A s.heap z H locs cells → lv_has ls 9 [] → W p l e R s m args below meth c H locs cells slots Q (F0 m 146 ls [])) ?_ n x z C cr hz hE
  rintro ⟨v5, v6, u⟩ r C cr h hr H locs ls cells slots hC I hl
  replace h : uf_X0_lessens_L18 n d v0 v1 v2 v3 v5 v6 u = some (r, C) := h
  have k140 : ∀ (u : UM) (v5 : Int32) (v6 : Int32) (H : Heap) (locs : List Loc) (ls : Array Slot) (cells slots : Nat) (C : UC), uf_X0_lessens_J140 n d u v0 v1 v2 v3 v5 v6 = some (r, C) → u_left R cells slots (u_add C cr) → u_I D A s.heap u H locs cells → lv_has ls 9 [(0, .ref v0), (1, .int v1), (2, .int v2), (3, .int v3), (5, .int v5), (6, .int v6)] → W p l e R s m args below meth c H locs cells slots Q (F0 m 140 ls []) := by
    intro u v5 v6 H locs ls cells slots C h hC I hl
    unfold uf_X0_lessens_J140 at h
    refine lv_iinc (v := v6 + (-1)) (lv' := [(6, .int (v6 + (-1))), (0, .ref v0), (1, .int v1), (2, .int v2), (3, .int v3), (5, .int v5)]) X.1 X.2.1 dX0_lessens_140 hl (k := 5) rfl rfl (by decide) rfl (fun ls hl => ?_)
    refine lv_goto (tgt := 18) X.1 X.2.1 dX0_lessens_143 (by decide) ?_
    obtain ⟨rfl, rfl⟩ := m_e3 h
    exact hr H locs ls _ _ (u_left0 hC) I (lv_sub hl [1, 2, 3, 4, 5, 0] rfl)
  unfold uf_X0_lessens_L18 at h
  refine lv_iload X.1 X.2.1 dX0_lessens_18 (lv_at hl 5 rfl) ?_
  refine lv_if_lt (tgt := 146) X.1 X.2.1 dX0_lessens_20 (by decide) (fun c9 => ?_) (fun c9 => ?_)
  · replace h := m_ifT c9 h
    obtain ⟨rfl, rfl⟩ := m_e3 h
    exact hr H locs ls _ _ (u_left0 hC) I (lv_sub hl [] rfl)
  · replace h := m_ifF c9 h
    refine lv_iload X.1 X.2.1 dX0_lessens_23 (lv_at hl 4 rfl) ?_
    refine lv_if_le (tgt := 146) X.1 X.2.1 dX0_lessens_25 (by decide) (fun c10 => ?_) (fun c10 => ?_)
    · replace h := m_ifT c10 h
      obtain ⟨rfl, rfl⟩ := m_e3 h
      exact hr H locs ls _ _ (u_left0 hC) I (lv_sub hl [] rfl)
    · replace h := m_ifF c10 h
      refine lv_aload_n X.1 X.2.1 dX0_lessens_28 rfl (lv_at hl 0 rfl) ?_
      obtain ⟨b11, e12, h⟩ := m_bS h
      refine u_Gr X I e12 (C := RX0) (T := TX0) (N := 9) (ref := "SwapPress") in_X0 rfl (by decide) rfl rfl q235 (fun _ h => h) dX0_lessens_29 ?_
      obtain ⟨b13, e14, h⟩ := m_bS h
      refine u_GrN X I e14 (C := RX1) (T := TX1) (N := 5) (ref := "SwapPress$State") (host := "SwapPress") in_X1 rfl (by decide) rfl rfl 4 rfl (fun _ h => h) dX0_lessens_32 ?_
      refine lv_iload X.1 X.2.1 dX0_lessens_35 (lv_at hl 5 rfl) ?_
      obtain ⟨f15, e16, h⟩ := m_bS h
      obtain ⟨r18, e17, h⟩ := m_bS h
      refine u_callVp X hl.1 I hA (As := [.int v6]) (rest := []) (uk_J2_get l n D d u b13 v6 _ e17) (u_clS e16) (C := RJ2) (T := TJ2) (N := 3) rfl 1 q929 q823 q824 q105 q825 uh_J2_get rfl rfl ⟨Nat.le_trans (Nat.le_of_ble_eq_true rfl) hR.1, Nat.le_trans (Nat.le_of_ble_eq_true rfl) hR.2⟩ (u_leftLe hC) (stk := [.ref r18]) rfl (Nat.le_of_ble_eq_true rfl) dX0_lessens_37 (fun H locs I => ?_)
      obtain ⟨f19, e20, h⟩ := m_bS h
      refine u_cast X I (u_clS e20) (C := RX6) (T := TX6) (N := 5) rfl q915 dX0_lessens_40 ?_
      refine lv_astore (lv' := [(7, .ref r18), (0, .ref v0), (1, .int v1), (2, .int v2), (3, .int v3), (5, .int v5), (6, .int v6)]) X.1 X.2.1 dX0_lessens_43 hl (by decide) rfl (fun ls hl => ?_)
      refine lv_aload X.1 X.2.1 dX0_lessens_45 (lv_at hl 0 rfl) ?_
      refine lv_iload_n X.1 X.2.1 dX0_lessens_47 rfl (lv_at hl 4 rfl) ?_
      obtain ⟨f21, e22, h⟩ := m_bS h
      obtain ⟨r24, e23, h⟩ := m_bS h
      refine u_callVp X hl.1 I hA (As := [.int v3]) (rest := []) (uk_X6_isFree l n D d u r18 v3 _ e23) (u_clS e22) (C := RX6) (T := TX6) (N := 5) rfl 1 q1006 q958 q959 q122 q960 uh_X6_isFree rfl rfl ⟨Nat.le_trans (Nat.le_of_ble_eq_true rfl) hR.1, Nat.le_trans (Nat.le_of_ble_eq_true rfl) hR.2⟩ (u_leftLe hC) (stk := [.int r24]) rfl (Nat.le_of_ble_eq_true rfl) dX0_lessens_48 (fun H locs I => ?_)
      refine lv_if_eq (tgt := 140) X.1 X.2.1 dX0_lessens_51 (by decide) (fun c25 => ?_) (fun c25 => ?_)
      · replace h := m_ifT c25 h
        exact k140 u v5 v6 H locs ls _ _ _ h hC I (lv_sub hl [1, 2, 3, 4, 5, 6] rfl)
      · replace h := m_ifF c25 h
        refine lv_aload X.1 X.2.1 dX0_lessens_54 (lv_at hl 0 rfl) ?_
        obtain ⟨b26, e27, h⟩ := m_bS h
        refine u_GiN X I e27 (C := RX6) (T := TX6) (N := 5) (ref := "SwapPress$Trade") (host := "SwapPress") in_X6 rfl (by decide) rfl rfl 15 rfl (fun _ h => h) dX0_lessens_56 ?_
        refine lv_iload_n X.1 X.2.1 dX0_lessens_59 rfl (lv_at hl 2 rfl) ?_
        refine lv_icmp_ne (tgt := 140) X.1 X.2.1 dX0_lessens_60 (by decide) (fun c28 => ?_) (fun c28 => ?_)
        · replace h := m_ifF c28 h
          exact k140 u v5 v6 H locs ls _ _ _ h hC I (lv_sub hl [1, 2, 3, 4, 5, 6] rfl)
        · replace h := m_ifT c28 h
          refine lv_aload X.1 X.2.1 dX0_lessens_63 (lv_at hl 0 rfl) ?_
          obtain ⟨b29, e30, h⟩ := m_bS h
          refine u_GiN X I e30 (C := RX6) (T := TX6) (N := 5) (ref := "SwapPress$Trade") (host := "SwapPress") in_X6 rfl (by decide) rfl rfl 17 rfl (fun _ h => h) dX0_lessens_65 ?_
          refine lv_iload_n X.1 X.2.1 dX0_lessens_68 rfl (lv_at hl 3 rfl) ?_
          refine lv_icmp_eq (tgt := 75) X.1 X.2.1 dX0_lessens_69 (by decide) (fun c31 => ?_) (fun c31 => ?_)
          · replace h := m_ifT c31 h
            refine lv_iload X.1 X.2.1 dX0_lessens_75 (lv_at hl 5 rfl) ?_
            refine lv_aload X.1 X.2.1 dX0_lessens_77 (lv_at hl 0 rfl) ?_
            obtain ⟨b32, e33, h⟩ := m_bS h
            refine u_GiN X I e33 (C := RX6) (T := TX6) (N := 5) (ref := "SwapPress$Trade") (host := "SwapPress") in_X6 rfl (by decide) rfl rfl 19 rfl (fun _ h => h) dX0_lessens_79 ?_
            refine va_mmin X.1 X.2.1 (X.2.2.2.2.2.1.trans hl.1.symm) X.2.2.2.1 (X.2.2.1 _ q1007) (X.2.2.1 _ q401) (X.2.2.1 _ q114) (X.2.2.1 _ q402) (Nat.le_trans (Nat.le_of_ble_eq_true rfl) hR.1) (Nat.le_trans (Nat.le_of_ble_eq_true rfl) hR.2) (u_leftLe hC).1 (u_leftLe hC).2 dX0_lessens_82 ?_
            obtain ⟨y34, e35, h⟩ := m_bS h
            rw [m_e1 e35]
            refine lv_istore (lv' := [(8, .int y34), (7, .ref r18), (0, .ref v0), (1, .int v1), (2, .int v2), (3, .int v3), (5, .int v5), (6, .int v6)]) X.1 X.2.1 dX0_lessens_85 hl (by decide) rfl (fun ls hl => ?_)
            refine lv_iload X.1 X.2.1 dX0_lessens_87 (lv_at hl 6 rfl) ?_
            refine lv_iload X.1 X.2.1 dX0_lessens_89 (lv_at hl 0 rfl) ?_
            refine lv_isub X.1 X.2.1 dX0_lessens_91 ?_
            refine lv_istore (lv' := [(5, .int (v5 - y34)), (8, .int y34), (7, .ref r18), (0, .ref v0), (1, .int v1), (2, .int v2), (3, .int v3), (6, .int v6)]) X.1 X.2.1 dX0_lessens_92 hl (by decide) rfl (fun ls hl => ?_)
            refine lv_iload X.1 X.2.1 dX0_lessens_94 (lv_at hl 1 rfl) ?_
            refine lv_aload X.1 X.2.1 dX0_lessens_96 (lv_at hl 2 rfl) ?_
            obtain ⟨b36, e37, h⟩ := m_bS h
            refine u_GiN X I e37 (C := RX6) (T := TX6) (N := 5) (ref := "SwapPress$Trade") (host := "SwapPress") in_X6 rfl (by decide) rfl rfl 19 rfl (fun _ h => h) dX0_lessens_98 ?_
            refine lv_icmp_ne (tgt := 120) X.1 X.2.1 dX0_lessens_101 (by decide) (fun c38 => ?_) (fun c38 => ?_)
            · replace h := m_ifF c38 h
              refine lv_aload_n X.1 X.2.1 dX0_lessens_120 rfl (lv_at hl 3 rfl) ?_
              obtain ⟨b39, e40, h⟩ := m_bS h
              refine u_Gr X I e40 (C := RX0) (T := TX0) (N := 9) (ref := "SwapPress") in_X0 rfl (by decide) rfl rfl q235 (fun _ h => h) dX0_lessens_121 ?_
              obtain ⟨b41, e42, h⟩ := m_bS h
              refine u_GrN X I e42 (C := RX1) (T := TX1) (N := 5) (ref := "SwapPress$State") (host := "SwapPress") in_X1 rfl (by decide) rfl rfl 4 rfl (fun _ h => h) dX0_lessens_124 ?_
              refine lv_iload X.1 X.2.1 dX0_lessens_127 (lv_at hl 7 rfl) ?_
              refine lv_aload X.1 X.2.1 dX0_lessens_129 (lv_at hl 2 rfl) ?_
              refine lv_iload X.1 X.2.1 dX0_lessens_131 (lv_at hl 1 rfl) ?_
              obtain ⟨f43, e44, h⟩ := m_bS h
              obtain ⟨r46, u47, C48, C49, e45, z50, h, hq⟩ := u_bcS h
              rw [hq] at hC
              refine u_callV X hl.1 I hA (As := [.int y34]) (rest := [.int v6, .ref b41]) (uk_X6_less l n D d u r18 y34 _ _ _ e45) z50 (u_clS e44) (C := RX6) (T := TX6) (N := 5) rfl 1 q1008 q1009 q1010 q122 q1011 uh_X6_less rfl rfl ⟨Nat.le_trans (Nat.le_of_ble_eq_true rfl) hR.1, Nat.le_trans (Nat.le_of_ble_eq_true rfl) hR.2⟩ hC (stk := [.ref r46, .int v6, .ref b41]) rfl (Nat.le_of_ble_eq_true rfl) dX0_lessens_133 (fun H locs cells slots hC I => ?_)
              obtain ⟨f51, e52, h⟩ := m_bS h
              obtain ⟨r54, u55, C56, C57, e53, z58, h, hq⟩ := u_bcS h
              rw [hq] at hC
              refine u_callV X hl.1 I hA (As := [.int v6, .ref r46]) (rest := []) (uk_J2_set l n D d u47 b41 v6 r46 _ _ _ e53) z58 (u_clS e52) (C := RJ2) (T := TJ2) (N := 3) rfl 2 q931 q841 q842 q105 q843 uh_J2_set rfl rfl ⟨Nat.le_trans (Nat.le_of_ble_eq_true rfl) hR.1, Nat.le_trans (Nat.le_of_ble_eq_true rfl) hR.2⟩ hC (stk := [.ref r54]) rfl (Nat.le_of_ble_eq_true rfl) dX0_lessens_136 (fun H locs cells slots hC I => ?_)
              refine lv_pop X.1 X.2.1 dX0_lessens_139 rfl ?_
              exact k140 u55 (v5 - y34) v6 H locs ls _ _ _ h hC I (lv_sub hl [3, 4, 5, 6, 0, 7] rfl)
            · replace h := m_ifT c38 h
              refine lv_aload_n X.1 X.2.1 dX0_lessens_104 rfl (lv_at hl 3 rfl) ?_
              obtain ⟨b59, e60, h⟩ := m_bS h
              refine u_Gr X I e60 (C := RX0) (T := TX0) (N := 9) (ref := "SwapPress") in_X0 rfl (by decide) rfl rfl q235 (fun _ h => h) dX0_lessens_105 ?_
              obtain ⟨b61, e62, h⟩ := m_bS h
              refine u_GrN X I e62 (C := RX1) (T := TX1) (N := 5) (ref := "SwapPress$State") (host := "SwapPress") in_X1 rfl (by decide) rfl rfl 4 rfl (fun _ h => h) dX0_lessens_108 ?_
              refine lv_iload X.1 X.2.1 dX0_lessens_111 (lv_at hl 7 rfl) ?_
              obtain ⟨f63, e64, h⟩ := m_bS h
              obtain ⟨r66, u67, C68, C69, e65, z70, h, hq⟩ := u_bcS h
              rw [hq] at hC
              refine u_callV X hl.1 I hA (As := [.int v6]) (rest := []) (uk_J2_remove l n D d u b61 v6 _ _ _ e65) z70 (u_clS e64) (C := RJ2) (T := TJ2) (N := 3) rfl 1 q884 q885 q886 q105 q887 uh_J2_remove rfl rfl ⟨Nat.le_trans (Nat.le_of_ble_eq_true rfl) hR.1, Nat.le_trans (Nat.le_of_ble_eq_true rfl) hR.2⟩ hC (stk := [.ref r66]) rfl (Nat.le_of_ble_eq_true rfl) dX0_lessens_113 (fun H locs cells slots hC I => ?_)
              refine lv_pop X.1 X.2.1 dX0_lessens_116 rfl ?_
              refine lv_goto (tgt := 140) X.1 X.2.1 dX0_lessens_117 (by decide) ?_
              exact k140 u67 (v5 - y34) v6 H locs ls _ _ _ h hC I (lv_sub hl [3, 4, 5, 6, 0, 7] rfl)
          · replace h := m_ifF c31 h
            refine lv_goto (tgt := 140) X.1 X.2.1 dX0_lessens_72 (by decide) ?_
            exact k140 u v5 v6 H locs ls _ _ _ h hC I (lv_sub hl [1, 2, 3, 4, 5, 6] rfl)
theorem uw_X0_lessens (X : u_X RX0 D A d p s m c cX0_lessens 9 args) (hA : ∀ q, s.heap.size ≤ q → A q) (hR : 3 ≤ R.frames ∧ 106 ≤ R.locals) (n : Nat) (u : UM) (t : Nat) (p0 : Int32) (p1 : Int32) (p2 : Int32) (p3 : Int32) (r0 : Unit) (ur : UM) (C : UC) (h : uf_X0_lessens n d u t p0 p1 p2 p3 = some ((r0, ur), C)) (hret : ∀ (H : Heap) (locs : List Loc) (ls : Array Slot) (pc cells slots : Nat), decode cX0_lessens pc = .ok (.return_, 1) → u_left R cells slots (u_add (0, 0) (0, 0)) → u_I D A s.heap ur H locs cells → W p l e R s m args below meth c H locs cells slots Q (F0 m pc ls [])) : ∀ (H : Heap) (locs : List Loc) (ls : Array Slot) (cells slots : Nat), u_left R cells slots (u_add C (0, 0)) → u_I D A s.heap u H locs cells → lv_has ls 9 [(0, .ref t), (1, .int p0), (2, .int p1), (3, .int p2), (4, .int p3)] → W p l e R s m args below meth c H locs cells slots Q (F0 m 0 ls []) := by
  intro H locs ls cells slots hC I hl
  unfold uf_X0_lessens at h
  refine lv_iload X.1 X.2.1 dX0_lessens_0 (lv_at hl 4 rfl) ?_
  refine lv_istore (lv' := [(5, .int p3), (0, .ref t), (1, .int p0), (2, .int p1), (3, .int p2), (4, .int p3)]) X.1 X.2.1 dX0_lessens_2 hl (by decide) rfl (fun ls hl => ?_)
  refine lv_aload_n X.1 X.2.1 dX0_lessens_4 rfl (lv_at hl 1 rfl) ?_
  obtain ⟨b1, e2, h⟩ := m_bS h
  refine u_Gr X I e2 (C := RX0) (T := TX0) (N := 9) (ref := "SwapPress") in_X0 rfl (by decide) rfl rfl q235 (fun _ h => h) dX0_lessens_5 ?_
  obtain ⟨b3, e4, h⟩ := m_bS h
  refine u_GrN X I e4 (C := RX1) (T := TX1) (N := 5) (ref := "SwapPress$State") (host := "SwapPress") in_X1 rfl (by decide) rfl rfl 4 rfl (fun _ h => h) dX0_lessens_8 ?_
  obtain ⟨f5, e6, h⟩ := m_bS h
  obtain ⟨r8, e7, h⟩ := m_bS h
  refine u_callVp X hl.1 I hA (As := []) (rest := []) (uk_J2_size l n D d u b3 _ e7) (u_clS e6) (C := RJ2) (T := TJ2) (N := 3) rfl 0 q853 q667 q668 q105 q669 uh_J2_size rfl rfl ⟨Nat.le_trans (Nat.le_of_ble_eq_true rfl) hR.1, Nat.le_trans (Nat.le_of_ble_eq_true rfl) hR.2⟩ (u_leftLe hC) (stk := [.int r8]) rfl (Nat.le_of_ble_eq_true rfl) dX0_lessens_11 (fun H locs I => ?_)
  refine lv_iconst (v := 1) X.1 X.2.1 dX0_lessens_14 (by decide) ?_
  refine lv_isub X.1 X.2.1 dX0_lessens_15 ?_
  refine lv_istore (lv' := [(6, .int (r8 - 1)), (5, .int p3), (0, .ref t), (1, .int p0), (2, .int p1), (3, .int p2), (4, .int p3)]) X.1 X.2.1 dX0_lessens_16 hl (by decide) rfl (fun ls hl => ?_)
  obtain ⟨u72, C73, C74, e71, h, hq⟩ := u_blS h
  rw [hq] at hC
  refine wuf_X0_lessens_L18 X hA hR n t p0 p1 p2 _ _ _ _ e71 (fun H locs ls cells slots hC I hl => ?_) H locs ls _ _ (u_left2 hC) I (lv_sub hl [2, 3, 4, 5, 1, 0] rfl)
  obtain ⟨he, rfl⟩ := m_e3 h
  obtain ⟨rfl, rfl⟩ := m_e4 he
  exact hret H locs ls 146 _ _ dX0_lessens_146 hC I
end S_X0_lessens
theorem uk_X0_lessens (l : Launch) (n : Nat) (D : va_G) (d : UD) (u : UM) (t : Nat) (p0 : Int32) (p1 : Int32) (p2 : Int32) (p3 : Int32) (ur : UM) (C : UC) (h : uf_X0_lessens n d u t p0 p1 p2 p3 = some (((), ur), C)) : u_M l yX0_lessens (ws_ yX0_lessens cX0_lessens 9 none) 3 106 C D d u [.ref t, .int p0, .int p1, .int p2, .int p3] none ur :=
  u_start (own := RX0) (lvl := [(0, .ref t), (1, .int p0), (2, .int p1), (3, .int p2), (4, .int p3)]) (by decide) rfl (Nat.le_of_ble_eq_true rfl) rfl (fun p e s m args below meth c ls X hr hlk hI hl hA I hC => uw_X0_lessens X hA ⟨Nat.le_refl _, Nat.le_refl _⟩ n u t p0 p1 p2 p3 () ur C h (fun H locs ls pc cells slots hd hC I => u_vret X I hr hlk (u_leftE hC) hd) _ _ ls _ _ hC I hl)

/-! SwapPress.press([I)LSwapPress$Press; -/
def uf_X0_press_2_J47 (n : Nat) (d : UD) (u : UM) (t0 : Int32) (t1 : Nat) (t2 : Nat) (t3 : Int32) (t4 : Nat) (t5 : Nat) (t6 : Nat) : Option ((Nat × UM) × UC) :=
  u_bc u.2 (uf_X8_init n d u t5 t4 t3 t2 t1 t0) (fun r30 u31 => some ((t6, u31), (0, 0)))
def uf_X0_press_2 (n : Nat) (d : UD) (u : UM) (t : Nat) (p0 : Nat) : Option ((Nat × UM) × UC) :=
  u_ac (1, 6) (m_b (some (u_nw u (.inr (8, [.int 0, .null, .null, .null, .null, .null])))) (fun u2 => m_b (u_fr d u2 1 0 t) (fun b4 => m_b (u_cl u2 2 b4) (fun f6 => m_b (uf_X1_many n d u2 b4) (fun r9 => m_b (u_fr d u2 1 0 t) (fun b10 => m_b (u_ni u2 2 4 b10) (fun b12 => m_b (u_fr d u2 1 0 t) (fun b14 => m_b (u_nr u2 2 3 b14) (fun b16 => u_bc u2.2 (uf_X9_by n d u2 b12 p0 b16) (fun r19 u20 => m_b (u_fr d u20 1 0 t) (fun b24 => m_b (u_ni u20 2 4 b24) (fun b26 => m_if ((b26 : Int32) = (3 : Int32)) (uf_X0_press_2_J47 n d u20 1 r19 p0 r9 t u.2 u.2) (uf_X0_press_2_J47 n d u20 0 r19 p0 r9 t u.2 u.2)))))))))))))
theorem uh_X0_press_2 : yX0_press_2.cls = RX0 ∧ yX0_press_2.cls ≠ "java/lang/invoke/MethodHandle" ∧ yX0_press_2.cls ≠ "java/lang/invoke/VarHandle" ∧ (parseMethodDescriptor yX0_press_2.desc).map (fun d => d.parameters.length) = some 1 := by decide +kernel
section S_X0_press_2
variable {p : Program} {l : Launch} {e : Env} {R : Room} {s : State} {m : MethodId} {args : Array Value} {below : List Frame} {meth : Method} {c : Code} {Q : State → Prop} {D : va_G} {A : Nat → Prop} {d : UD}
theorem uw_X0_press_2 (X : u_X RX0 D A d p s m c cX0_press_2 2 args) (hA : ∀ q, s.heap.size ≤ q → A q) (hR : 3 ≤ R.frames ∧ 92 ≤ R.locals) (n : Nat) (u : UM) (t : Nat) (p0 : Nat) (r0 : Nat) (ur : UM) (C : UC) (h : uf_X0_press_2 n d u t p0 = some ((r0, ur), C)) (hret : ∀ (H : Heap) (locs : List Loc) (ls : Array Slot) (pc cells slots : Nat), decode cX0_press_2 pc = .ok (.areturn, 1) → u_left R cells slots (u_add (0, 0) (0, 0)) → u_I D A s.heap ur H locs cells → W p l e R s m args below meth c H locs cells slots Q (F0 m pc ls [.ref r0])) : ∀ (H : Heap) (locs : List Loc) (ls : Array Slot) (cells slots : Nat), u_left R cells slots (u_add C (0, 0)) → u_I D A s.heap u H locs cells → lv_has ls 2 [(0, .ref t), (1, .ref p0)] → W p l e R s m args below meth c H locs cells slots Q (F0 m 0 ls []) := by
  have k47 : ∀ (u : UM) (t0 : Int32) (t1 : Nat) (t2 : Nat) (t3 : Int32) (t4 : Nat) (t5 : Nat) (t6 : Nat) (H : Heap) (locs : List Loc) (ls : Array Slot) (cells slots : Nat) (C : UC), uf_X0_press_2_J47 n d u t0 t1 t2 t3 t4 t5 t6 = some ((r0, ur), C) → u_left R cells slots (u_add C (0, 0)) → u_I D A s.heap u H locs cells → lv_has ls 2 [] → W p l e R s m args below meth c H locs cells slots Q (F0 m 47 ls [.int t0, .ref t1, .ref t2, .int t3, .ref t4, .ref t5, .ref t6]) := by
    intro u t0 t1 t2 t3 t4 t5 t6 H locs ls cells slots C h hC I hl
    unfold uf_X0_press_2_J47 at h
    obtain ⟨r30, u31, C32, C33, e29, z34, h, hq⟩ := u_bcS h
    rw [hq] at hC
    refine u_callI X hl.1 I hA (As := [.ref t4, .int t3, .ref t2, .ref t1, .int t0]) (rest := [.ref t6]) (uk_X8_init l n D d u t5 t4 t3 t2 t1 t0 _ _ e29) z34 5 q1059 q1060 q125 q1061 rfl uh_X8_init.2 rfl rfl ⟨Nat.le_trans (Nat.le_of_ble_eq_true rfl) hR.1, Nat.le_trans (Nat.le_of_ble_eq_true rfl) hR.2⟩ hC (Nat.le_of_ble_eq_true rfl) dX0_press_2_47 (fun H locs cells slots hC I => ?_)
    obtain ⟨he, rfl⟩ := m_e3 h
    obtain ⟨rfl, rfl⟩ := m_e4 he
    exact hret H locs ls 50 _ _ dX0_press_2_50 hC I
  intro H locs ls cells slots hC I hl
  unfold uf_X0_press_2 at h
  obtain ⟨C1, h, hq⟩ := u_acS h
  rw [hq] at hC
  obtain ⟨u2, e3, h⟩ := m_bS h
  refine u_NO X I hA 8 (C := RX8) (T := TX8) (N := 6) in_X8 tyX8 tyX8_ok q1024 q1025 q125 rfl (fs := [.int 0, .null, .null, .null, .null, .null]) e3 (fun j hj => by match j, hj with | 0, _ => rfl | 1, _ => rfl | 2, _ => rfl | 3, _ => rfl | 4, _ => rfl | 5, _ => rfl) hC dX0_press_2_0 (fun H cells slots hC I => ?_)
  refine lv_dup X.1 X.2.1 dX0_press_2_3 rfl ?_
  refine lv_aload_n X.1 X.2.1 dX0_press_2_4 rfl (lv_at hl 0 rfl) ?_
  refine lv_aload_n X.1 X.2.1 dX0_press_2_5 rfl (lv_at hl 0 rfl) ?_
  obtain ⟨b4, e5, h⟩ := m_bS h
  refine u_Gr X I e5 (C := RX0) (T := TX0) (N := 9) (ref := "SwapPress") in_X0 rfl (by decide) rfl rfl q235 (fun _ h => h) dX0_press_2_6 ?_
  obtain ⟨f6, e7, h⟩ := m_bS h
  obtain ⟨r9, e8, h⟩ := m_bS h
  refine u_callVp X hl.1 I hA (As := []) (rest := [.ref t, .ref u.2, .ref u.2]) (uk_X1_many l n D d u2 b4 _ e8) (u_clS e7) (C := RX1) (T := TX1) (N := 5) rfl 0 q870 q871 q872 q102 q873 uh_X1_many rfl rfl ⟨Nat.le_trans (Nat.le_of_ble_eq_true rfl) hR.1, Nat.le_trans (Nat.le_of_ble_eq_true rfl) hR.2⟩ (u_leftLe hC) (stk := [.int r9, .ref t, .ref u.2, .ref u.2]) rfl (Nat.le_of_ble_eq_true rfl) dX0_press_2_9 (fun H locs I => ?_)
  refine lv_aload_n X.1 X.2.1 dX0_press_2_12 rfl (lv_at hl 1 rfl) ?_
  refine lv_aload_n X.1 X.2.1 dX0_press_2_13 rfl (lv_at hl 0 rfl) ?_
  obtain ⟨b10, e11, h⟩ := m_bS h
  refine u_Gr X I e11 (C := RX0) (T := TX0) (N := 9) (ref := "SwapPress") in_X0 rfl (by decide) rfl rfl q235 (fun _ h => h) dX0_press_2_14 ?_
  obtain ⟨b12, e13, h⟩ := m_bS h
  refine u_GiN X I e13 (C := RX1) (T := TX1) (N := 5) (ref := "SwapPress$State") (host := "SwapPress") in_X1 rfl (by decide) rfl rfl 8 rfl (fun _ h => h) dX0_press_2_17 ?_
  refine lv_aload_n X.1 X.2.1 dX0_press_2_20 rfl (lv_at hl 1 rfl) ?_
  refine lv_aload_n X.1 X.2.1 dX0_press_2_21 rfl (lv_at hl 0 rfl) ?_
  obtain ⟨b14, e15, h⟩ := m_bS h
  refine u_Gr X I e15 (C := RX0) (T := TX0) (N := 9) (ref := "SwapPress") in_X0 rfl (by decide) rfl rfl q235 (fun _ h => h) dX0_press_2_22 ?_
  obtain ⟨b16, e17, h⟩ := m_bS h
  refine u_GrN X I e17 (C := RX1) (T := TX1) (N := 5) (ref := "SwapPress$State") (host := "SwapPress") in_X1 rfl (by decide) rfl rfl 6 rfl (fun _ h => h) dX0_press_2_25 ?_
  obtain ⟨r19, u20, C21, C22, e18, z23, h, hq⟩ := u_bcS h
  rw [hq] at hC
  refine u_callS X hl.1 I hA (As := [.int b12, .ref p0, .ref b16]) (rest := [.ref p0, .int r9, .ref t, .ref u.2, .ref u.2]) (uk_X9_by l n D d u2 b12 p0 b16 _ _ _ e18) z23 3 q1026 q1027 q126 q1028 uh_X9_by.2 rfl rfl ⟨Nat.le_trans (Nat.le_of_ble_eq_true rfl) hR.1, Nat.le_trans (Nat.le_of_ble_eq_true rfl) hR.2⟩ hC (stk := [.ref r19, .ref p0, .int r9, .ref t, .ref u.2, .ref u.2]) rfl (Nat.le_of_ble_eq_true rfl) dX0_press_2_28 (fun H locs cells slots hC I => ?_)
  refine lv_aload_n X.1 X.2.1 dX0_press_2_31 rfl (lv_at hl 0 rfl) ?_
  obtain ⟨b24, e25, h⟩ := m_bS h
  refine u_Gr X I e25 (C := RX0) (T := TX0) (N := 9) (ref := "SwapPress") in_X0 rfl (by decide) rfl rfl q235 (fun _ h => h) dX0_press_2_32 ?_
  obtain ⟨b26, e27, h⟩ := m_bS h
  refine u_GiN X I e27 (C := RX1) (T := TX1) (N := 5) (ref := "SwapPress$State") (host := "SwapPress") in_X1 rfl (by decide) rfl rfl 8 rfl (fun _ h => h) dX0_press_2_35 ?_
  refine lv_iconst (v := 3) X.1 X.2.1 dX0_press_2_38 (by decide) ?_
  refine lv_icmp_ne (tgt := 46) X.1 X.2.1 dX0_press_2_39 (by decide) (fun c28 => ?_) (fun c28 => ?_)
  · replace h := m_ifF c28 h
    refine lv_iconst (v := 0) X.1 X.2.1 dX0_press_2_46 (by decide) ?_
    exact k47 u20 0 r19 p0 r9 t u.2 u.2 H locs ls _ _ _ h hC I (lv_sub hl [] rfl)
  · replace h := m_ifT c28 h
    refine lv_iconst (v := 1) X.1 X.2.1 dX0_press_2_42 (by decide) ?_
    refine lv_goto (tgt := 47) X.1 X.2.1 dX0_press_2_43 (by decide) ?_
    exact k47 u20 1 r19 p0 r9 t u.2 u.2 H locs ls _ _ _ h hC I (lv_sub hl [] rfl)
end S_X0_press_2
theorem uk_X0_press_2 (l : Launch) (n : Nat) (D : va_G) (d : UD) (u : UM) (t : Nat) (p0 : Nat) (r0 : Nat) (ur : UM) (C : UC) (h : uf_X0_press_2 n d u t p0 = some ((r0, ur), C)) : u_M l yX0_press_2 (ws_ yX0_press_2 cX0_press_2 2 (some (.object "SwapPress$Press"))) 3 92 C D d u [.ref t, .ref p0] (some (.ref r0)) ur :=
  u_start (own := RX0) (lvl := [(0, .ref t), (1, .ref p0)]) (by decide) rfl (Nat.le_of_ble_eq_true rfl) rfl (fun p e s m args below meth c ls X hr hlk hI hl hA I hC => uw_X0_press_2 X hA ⟨Nat.le_refl _, Nat.le_refl _⟩ n u t p0 r0 ur C h (fun H locs ls pc cells slots hd hC I => u_aret (r := some r0) X I hr (Or.inl ⟨_, rfl⟩) hlk (u_leftE hC) hd) _ _ ls _ _ hC I hl)

/-! SwapPress.undo()I -/
def uf_X0_undo (n : Nat) (d : UD) (u : UM) (t : Nat) : Option ((Int32 × UM) × UC) :=
  m_b (u_fr d u 1 1 t) (fun b1 => m_b (u_cl u 13 b1) (fun f3 => m_b (uf_J2_isEmpty n d u b1) (fun r6 => m_if ((r6 : Int32) = 0) (m_b (u_fr d u 1 1 t) (fun b8 => m_b (u_fr d u 1 1 t) (fun b10 => m_b (u_cl u 13 b10) (fun f12 => m_b (uf_J2_size n d u b10) (fun r15 => m_b (u_cl u 13 b8) (fun f16 => u_bc u.2 (uf_J2_remove n d u b8 (r15 - 1)) (fun r19 u20 => m_b (u_cl u20 2 r19) (fun f24 => m_b (u_pf u20 1 0 t (.ref r19)) (fun w26 => m_b (u_pf (w26, u20.2) 1 3 t (.int ((-1)))) (fun w28 => m_b (u_fr d (w28, u20.2) 1 1 t) (fun b30 => m_b (u_cl (w28, u20.2) 13 b30) (fun f32 => m_b (uf_J2_size n d (w28, u20.2) b30) (fun r35 => some ((r35, (w28, u20.2)), (0, 0))))))))))))))) (some (((-5), u), (0, 0))))))
theorem uh_X0_undo : yX0_undo.cls = RX0 ∧ yX0_undo.cls ≠ "java/lang/invoke/MethodHandle" ∧ yX0_undo.cls ≠ "java/lang/invoke/VarHandle" ∧ (parseMethodDescriptor yX0_undo.desc).map (fun d => d.parameters.length) = some 0 := by decide +kernel
section S_X0_undo
variable {p : Program} {l : Launch} {e : Env} {R : Room} {s : State} {m : MethodId} {args : Array Value} {below : List Frame} {meth : Method} {c : Code} {Q : State → Prop} {D : va_G} {A : Nat → Prop} {d : UD}
theorem uw_X0_undo (X : u_X RX0 D A d p s m c cX0_undo 1 args) (hA : ∀ q, s.heap.size ≤ q → A q) (hR : 3 ≤ R.frames ∧ 106 ≤ R.locals) (n : Nat) (u : UM) (t : Nat) (r0 : Int32) (ur : UM) (C : UC) (h : uf_X0_undo n d u t = some ((r0, ur), C)) (hret : ∀ (H : Heap) (locs : List Loc) (ls : Array Slot) (pc cells slots : Nat), decode cX0_undo pc = .ok (.ireturn, 1) → u_left R cells slots (u_add (0, 0) (0, 0)) → u_I D A s.heap ur H locs cells → W p l e R s m args below meth c H locs cells slots Q (F0 m pc ls [.int r0])) : ∀ (H : Heap) (locs : List Loc) (ls : Array Slot) (cells slots : Nat), u_left R cells slots (u_add C (0, 0)) → u_I D A s.heap u H locs cells → lv_has ls 1 [(0, .ref t)] → W p l e R s m args below meth c H locs cells slots Q (F0 m 0 ls []) := by
  intro H locs ls cells slots hC I hl
  unfold uf_X0_undo at h
  refine lv_aload_n X.1 X.2.1 dX0_undo_0 rfl (lv_at hl 0 rfl) ?_
  obtain ⟨b1, e2, h⟩ := m_bS h
  refine u_Gr X I e2 (C := RX0) (T := TX0) (N := 9) (ref := "SwapPress") in_X0 rfl (by decide) rfl rfl q236 (fun _ h => h) dX0_undo_1 ?_
  obtain ⟨f3, e4, h⟩ := m_bS h
  obtain ⟨r6, e5, h⟩ := m_bS h
  refine u_callVp X hl.1 I hA (As := []) (rest := []) (uk_J2_isEmpty l n D d u b1 _ e5) (u_clS e4) (C := RJ2) (T := TJ2) (N := 3) rfl 0 q1157 q1158 q1159 q105 q1160 uh_J2_isEmpty rfl rfl ⟨Nat.le_trans (Nat.le_of_ble_eq_true rfl) hR.1, Nat.le_trans (Nat.le_of_ble_eq_true rfl) hR.2⟩ (u_leftLe hC) (stk := [.int r6]) rfl (Nat.le_of_ble_eq_true rfl) dX0_undo_4 (fun H locs I => ?_)
  refine lv_if_eq (tgt := 13) X.1 X.2.1 dX0_undo_7 (by decide) (fun c7 => ?_) (fun c7 => ?_)
  · replace h := m_ifT c7 h
    refine lv_aload_n X.1 X.2.1 dX0_undo_13 rfl (lv_at hl 0 rfl) ?_
    refine lv_aload_n X.1 X.2.1 dX0_undo_14 rfl (lv_at hl 0 rfl) ?_
    obtain ⟨b8, e9, h⟩ := m_bS h
    refine u_Gr X I e9 (C := RX0) (T := TX0) (N := 9) (ref := "SwapPress") in_X0 rfl (by decide) rfl rfl q236 (fun _ h => h) dX0_undo_15 ?_
    refine lv_aload_n X.1 X.2.1 dX0_undo_18 rfl (lv_at hl 0 rfl) ?_
    obtain ⟨b10, e11, h⟩ := m_bS h
    refine u_Gr X I e11 (C := RX0) (T := TX0) (N := 9) (ref := "SwapPress") in_X0 rfl (by decide) rfl rfl q236 (fun _ h => h) dX0_undo_19 ?_
    obtain ⟨f12, e13, h⟩ := m_bS h
    obtain ⟨r15, e14, h⟩ := m_bS h
    refine u_callVp X hl.1 I hA (As := []) (rest := [.ref b8, .ref t]) (uk_J2_size l n D d u b10 _ e14) (u_clS e13) (C := RJ2) (T := TJ2) (N := 3) rfl 0 q853 q667 q668 q105 q669 uh_J2_size rfl rfl ⟨Nat.le_trans (Nat.le_of_ble_eq_true rfl) hR.1, Nat.le_trans (Nat.le_of_ble_eq_true rfl) hR.2⟩ (u_leftLe hC) (stk := [.int r15, .ref b8, .ref t]) rfl (Nat.le_of_ble_eq_true rfl) dX0_undo_22 (fun H locs I => ?_)
    refine lv_iconst (v := 1) X.1 X.2.1 dX0_undo_25 (by decide) ?_
    refine lv_isub X.1 X.2.1 dX0_undo_26 ?_
    obtain ⟨f16, e17, h⟩ := m_bS h
    obtain ⟨r19, u20, C21, C22, e18, z23, h, hq⟩ := u_bcS h
    rw [hq] at hC
    refine u_callV X hl.1 I hA (As := [.int (r15 - 1)]) (rest := [.ref t]) (uk_J2_remove l n D d u b8 (r15 - 1) _ _ _ e18) z23 (u_clS e17) (C := RJ2) (T := TJ2) (N := 3) rfl 1 q884 q885 q886 q105 q887 uh_J2_remove rfl rfl ⟨Nat.le_trans (Nat.le_of_ble_eq_true rfl) hR.1, Nat.le_trans (Nat.le_of_ble_eq_true rfl) hR.2⟩ hC (stk := [.ref r19, .ref t]) rfl (Nat.le_of_ble_eq_true rfl) dX0_undo_27 (fun H locs cells slots hC I => ?_)
    obtain ⟨f24, e25, h⟩ := m_bS h
    refine u_cast X I (u_clS e25) (C := RX1) (T := TX1) (N := 5) rfl q141 dX0_undo_30 ?_
    obtain ⟨w26, e27, h⟩ := m_bS h
    refine u_P X I e27 (C := RX0) (T := TX0) (N := 9) (ref := "SwapPress") in_X0 tyX0 tyX0_ok nmX0 rfl (by decide) rfl rfl q235 (fun _ h => h) rfl rfl rfl dX0_undo_33 (fun H locs I => ?_)
    refine lv_aload_n X.1 X.2.1 dX0_undo_36 rfl (lv_at hl 0 rfl) ?_
    refine lv_iconst (v := (-1)) X.1 X.2.1 dX0_undo_37 (by decide) ?_
    obtain ⟨w28, e29, h⟩ := m_bS h
    refine u_P X I e29 (C := RX0) (T := TX0) (N := 9) (ref := "SwapPress") in_X0 tyX0 tyX0_ok nmX0 rfl (by decide) rfl rfl q239 (fun _ h => h) rfl rfl rfl dX0_undo_38 (fun H locs I => ?_)
    refine lv_aload_n X.1 X.2.1 dX0_undo_41 rfl (lv_at hl 0 rfl) ?_
    obtain ⟨b30, e31, h⟩ := m_bS h
    refine u_Gr X I e31 (C := RX0) (T := TX0) (N := 9) (ref := "SwapPress") in_X0 rfl (by decide) rfl rfl q236 (fun _ h => h) dX0_undo_42 ?_
    obtain ⟨f32, e33, h⟩ := m_bS h
    obtain ⟨r35, e34, h⟩ := m_bS h
    refine u_callVp X hl.1 I hA (As := []) (rest := []) (uk_J2_size l n D d (w28, u20.2) b30 _ e34) (u_clS e33) (C := RJ2) (T := TJ2) (N := 3) rfl 0 q853 q667 q668 q105 q669 uh_J2_size rfl rfl ⟨Nat.le_trans (Nat.le_of_ble_eq_true rfl) hR.1, Nat.le_trans (Nat.le_of_ble_eq_true rfl) hR.2⟩ (u_leftLe hC) (stk := [.int r35]) rfl (Nat.le_of_ble_eq_true rfl) dX0_undo_45 (fun H locs I => ?_)
    obtain ⟨he, rfl⟩ := m_e3 h
    obtain ⟨rfl, rfl⟩ := m_e4 he
    exact hret H locs ls 48 _ _ dX0_undo_48 hC I
  · replace h := m_ifF c7 h
    refine lv_bipush (v := (-5)) X.1 X.2.1 dX0_undo_10 (by decide) ?_
    obtain ⟨he, rfl⟩ := m_e3 h
    obtain ⟨rfl, rfl⟩ := m_e4 he
    exact hret H locs ls 12 _ _ dX0_undo_12 hC I
end S_X0_undo
theorem uk_X0_undo (l : Launch) (n : Nat) (D : va_G) (d : UD) (u : UM) (t : Nat) (r0 : Int32) (ur : UM) (C : UC) (h : uf_X0_undo n d u t = some ((r0, ur), C)) : u_M l yX0_undo (ws_ yX0_undo cX0_undo 1 (some .int)) 3 106 C D d u [.ref t] (some (.int r0)) ur :=
  u_start (own := RX0) (lvl := [(0, .ref t)]) (by decide) rfl (Nat.le_of_ble_eq_true rfl) rfl (fun p e s m args below meth c ls X hr hlk hI hl hA I hC => uw_X0_undo X hA ⟨Nat.le_refl _, Nat.le_refl _⟩ n u t r0 ur C h (fun H locs ls pc cells slots hd hC I => u_iret X I hr hlk (u_leftE hC) hd) _ _ ls _ _ hC I hl)

/-! SwapPress.tradeOf(II)I -/
def uf_X0_tradeOf (n : Nat) (d : UD) (u : UM) (t : Nat) (p0 : Int32) (p1 : Int32) : Option Int32 :=
  m_b (u_cl u 1 t) (fun f1 => m_b (uf_X0_isTrade n d u t p0) (fun r4 => m_if ((r4 : Int32) = 0) (some ((-2))) (m_b (u_fr d u 1 0 t) (fun b6 => m_b (u_nr u 2 2 b6) (fun b8 => m_b (u_cl u 13 b8) (fun f10 => m_b (uf_J2_get n d u b8 p0) (fun r13 => m_b (u_cl u 6 r13) (fun f14 => m_if ((p1 : Int32) = 0) (m_b (u_ni u 6 0 r13) (fun b16 => some b16)) (m_if ((p1 : Int32) = 1) (m_b (u_ni u 6 1 r13) (fun b18 => some b18)) (m_if ((p1 : Int32) = 2) (m_b (u_ni u 6 2 r13) (fun b20 => some b20)) (m_if ((p1 : Int32) = 3) (m_b (u_ni u 6 3 r13) (fun b22 => some b22)) (m_if ((p1 : Int32) = 4) (m_b (u_ni u 6 4 r13) (fun b24 => m_b (uf_X0_one n d u b24) (fun r27 => some r27))) (some ((-2)))))))))))))))
theorem uh_X0_tradeOf : yX0_tradeOf.cls = RX0 ∧ yX0_tradeOf.cls ≠ "java/lang/invoke/MethodHandle" ∧ yX0_tradeOf.cls ≠ "java/lang/invoke/VarHandle" ∧ (parseMethodDescriptor yX0_tradeOf.desc).map (fun d => d.parameters.length) = some 2 := by decide +kernel
section S_X0_tradeOf
variable {p : Program} {l : Launch} {e : Env} {R : Room} {s : State} {m : MethodId} {args : Array Value} {below : List Frame} {meth : Method} {c : Code} {Q : State → Prop} {D : va_G} {A : Nat → Prop} {d : UD} {cells slots : Nat}
theorem uw_X0_tradeOf (X : u_X RX0 D A d p s m c cX0_tradeOf 4 args) (hA : ∀ q, s.heap.size ≤ q → A q) (hR : 3 ≤ R.frames ∧ 64 ≤ R.locals) (hf : cells ≤ R.cells ∧ slots ≤ R.slots) (n : Nat) (u : UM) (t : Nat) (p0 : Int32) (p1 : Int32) (r : Int32) (h : uf_X0_tradeOf n d u t p0 p1 = some r) (hret : ∀ (H : Heap) (locs : List Loc) (ls : Array Slot) (pc : Nat), decode cX0_tradeOf pc = .ok (.ireturn, 1) → u_I D A s.heap u H locs cells → W p l e R s m args below meth c H locs cells slots Q (F0 m pc ls [.int r])) : ∀ (H : Heap) (locs : List Loc) (ls : Array Slot), u_I D A s.heap u H locs cells → lv_has ls 4 [(0, .ref t), (1, .int p0), (2, .int p1)] → W p l e R s m args below meth c H locs cells slots Q (F0 m 0 ls []) := by
  intro H locs ls I hl
  unfold uf_X0_tradeOf at h
  refine lv_aload_n X.1 X.2.1 dX0_tradeOf_0 rfl (lv_at hl 0 rfl) ?_
  refine lv_iload_n X.1 X.2.1 dX0_tradeOf_1 rfl (lv_at hl 1 rfl) ?_
  obtain ⟨f1, e2, h⟩ := m_bS h
  obtain ⟨r4, e3, h⟩ := m_bS h
  refine u_callVp X hl.1 I hA (As := [.int p0]) (rest := []) (uk_X0_isTrade l n D d u t p0 _ e3) (u_clS e2) (C := RX0) (T := TX0) (N := 9) rfl 1 q921 q923 qs23 q101 q924 uh_X0_isTrade rfl rfl ⟨Nat.le_trans (Nat.le_of_ble_eq_true rfl) hR.1, Nat.le_trans (Nat.le_of_ble_eq_true rfl) hR.2⟩ hf (stk := [.int r4]) rfl (Nat.le_of_ble_eq_true rfl) dX0_tradeOf_2 (fun H locs I => ?_)
  refine lv_if_ne (tgt := 11) X.1 X.2.1 dX0_tradeOf_5 (by decide) (fun c5 => ?_) (fun c5 => ?_)
  · replace h := m_ifF c5 h
    refine lv_aload_n X.1 X.2.1 dX0_tradeOf_11 rfl (lv_at hl 0 rfl) ?_
    obtain ⟨b6, e7, h⟩ := m_bS h
    refine u_Gr X I e7 (C := RX0) (T := TX0) (N := 9) (ref := "SwapPress") in_X0 rfl (by decide) rfl rfl q235 (fun _ h => h) dX0_tradeOf_12 ?_
    obtain ⟨b8, e9, h⟩ := m_bS h
    refine u_GrN X I e9 (C := RX1) (T := TX1) (N := 5) (ref := "SwapPress$State") (host := "SwapPress") in_X1 rfl (by decide) rfl rfl 4 rfl (fun _ h => h) dX0_tradeOf_15 ?_
    refine lv_iload_n X.1 X.2.1 dX0_tradeOf_18 rfl (lv_at hl 1 rfl) ?_
    obtain ⟨f10, e11, h⟩ := m_bS h
    obtain ⟨r13, e12, h⟩ := m_bS h
    refine u_callVp X hl.1 I hA (As := [.int p0]) (rest := []) (uk_J2_get l n D d u b8 p0 _ e12) (u_clS e11) (C := RJ2) (T := TJ2) (N := 3) rfl 1 q929 q823 q824 q105 q825 uh_J2_get rfl rfl ⟨Nat.le_trans (Nat.le_of_ble_eq_true rfl) hR.1, Nat.le_trans (Nat.le_of_ble_eq_true rfl) hR.2⟩ hf (stk := [.ref r13]) rfl (Nat.le_of_ble_eq_true rfl) dX0_tradeOf_19 (fun H locs I => ?_)
    obtain ⟨f14, e15, h⟩ := m_bS h
    refine u_cast X I (u_clS e15) (C := RX6) (T := TX6) (N := 5) rfl q915 dX0_tradeOf_22 ?_
    refine lv_astore_n (lv' := [(3, .ref r13), (0, .ref t), (1, .int p0), (2, .int p1)]) X.1 X.2.1 dX0_tradeOf_25 rfl hl (by decide) rfl (fun ls hl => ?_)
    refine lv_iload_n X.1 X.2.1 dX0_tradeOf_26 rfl (lv_at hl 3 rfl) ?_
    by_cases c28 : (p1 : Int32) = 0
    · replace h := m_ifT c28 h
      refine lv_tableIn (tgt := 60) X.1 X.2.1 dX0_tradeOf_27 (by rw [c28]; decide) (by rw [c28]; decide) (by rw [c28]; rfl) (by decide) ?_
      refine lv_aload_n X.1 X.2.1 dX0_tradeOf_60 rfl (lv_at hl 0 rfl) ?_
      obtain ⟨b16, e17, h⟩ := m_bS h
      refine u_GiN X I e17 (C := RX6) (T := TX6) (N := 5) (ref := "SwapPress$Trade") (host := "SwapPress") in_X6 rfl (by decide) rfl rfl 15 rfl (fun _ h => h) dX0_tradeOf_61 ?_
      obtain rfl := m_e1 h
      exact hret H locs ls 64 dX0_tradeOf_64 I
    replace h := m_ifF c28 h
    by_cases c29 : (p1 : Int32) = 1
    · replace h := m_ifT c29 h
      refine lv_tableIn (tgt := 65) X.1 X.2.1 dX0_tradeOf_27 (by rw [c29]; decide) (by rw [c29]; decide) (by rw [c29]; rfl) (by decide) ?_
      refine lv_aload_n X.1 X.2.1 dX0_tradeOf_65 rfl (lv_at hl 0 rfl) ?_
      obtain ⟨b18, e19, h⟩ := m_bS h
      refine u_GiN X I e19 (C := RX6) (T := TX6) (N := 5) (ref := "SwapPress$Trade") (host := "SwapPress") in_X6 rfl (by decide) rfl rfl 17 rfl (fun _ h => h) dX0_tradeOf_66 ?_
      obtain rfl := m_e1 h
      exact hret H locs ls 69 dX0_tradeOf_69 I
    replace h := m_ifF c29 h
    by_cases c30 : (p1 : Int32) = 2
    · replace h := m_ifT c30 h
      refine lv_tableIn (tgt := 70) X.1 X.2.1 dX0_tradeOf_27 (by rw [c30]; decide) (by rw [c30]; decide) (by rw [c30]; rfl) (by decide) ?_
      refine lv_aload_n X.1 X.2.1 dX0_tradeOf_70 rfl (lv_at hl 0 rfl) ?_
      obtain ⟨b20, e21, h⟩ := m_bS h
      refine u_GiN X I e21 (C := RX6) (T := TX6) (N := 5) (ref := "SwapPress$Trade") (host := "SwapPress") in_X6 rfl (by decide) rfl rfl 19 rfl (fun _ h => h) dX0_tradeOf_71 ?_
      obtain rfl := m_e1 h
      exact hret H locs ls 74 dX0_tradeOf_74 I
    replace h := m_ifF c30 h
    by_cases c31 : (p1 : Int32) = 3
    · replace h := m_ifT c31 h
      refine lv_tableIn (tgt := 75) X.1 X.2.1 dX0_tradeOf_27 (by rw [c31]; decide) (by rw [c31]; decide) (by rw [c31]; rfl) (by decide) ?_
      refine lv_aload_n X.1 X.2.1 dX0_tradeOf_75 rfl (lv_at hl 0 rfl) ?_
      obtain ⟨b22, e23, h⟩ := m_bS h
      refine u_GiN X I e23 (C := RX6) (T := TX6) (N := 5) (ref := "SwapPress$Trade") (host := "SwapPress") in_X6 rfl (by decide) rfl rfl 21 rfl (fun _ h => h) dX0_tradeOf_76 ?_
      obtain rfl := m_e1 h
      exact hret H locs ls 79 dX0_tradeOf_79 I
    replace h := m_ifF c31 h
    by_cases c32 : (p1 : Int32) = 4
    · replace h := m_ifT c32 h
      refine lv_tableIn (tgt := 80) X.1 X.2.1 dX0_tradeOf_27 (by rw [c32]; decide) (by rw [c32]; decide) (by rw [c32]; rfl) (by decide) ?_
      refine lv_aload_n X.1 X.2.1 dX0_tradeOf_80 rfl (lv_at hl 0 rfl) ?_
      obtain ⟨b24, e25, h⟩ := m_bS h
      refine u_GiN X I e25 (C := RX6) (T := TX6) (N := 5) (ref := "SwapPress$Trade") (host := "SwapPress") in_X6 rfl (by decide) rfl rfl 24 rfl (fun _ h => h) dX0_tradeOf_81 ?_
      obtain ⟨r27, e26, h⟩ := m_bS h
      refine u_callSp X hl.1 I hA (As := [.int b24]) (rest := []) (uk_X0_one l n D d u b24 _ e26) 1 q932 q933 q101 q934 uh_X0_one.2 rfl rfl ⟨Nat.le_trans (Nat.le_of_ble_eq_true rfl) hR.1, Nat.le_trans (Nat.le_of_ble_eq_true rfl) hR.2⟩ hf (stk := [.int r27]) rfl (Nat.le_of_ble_eq_true rfl) dX0_tradeOf_84 (fun H locs I => ?_)
      obtain rfl := m_e1 h
      exact hret H locs ls 87 dX0_tradeOf_87 I
    replace h := m_ifF c32 h
    refine lv_tableOut (tgt := 88) X.1 X.2.1 dX0_tradeOf_27 (u_sw0_4 _ c28 c29 c30 c31 c32) (by decide) ?_
    refine lv_bipush (v := (-2)) X.1 X.2.1 dX0_tradeOf_88 (by decide) ?_
    obtain rfl := m_e1 h
    exact hret H locs ls 90 dX0_tradeOf_90 I
  · replace h := m_ifT c5 h
    refine lv_bipush (v := (-2)) X.1 X.2.1 dX0_tradeOf_8 (by decide) ?_
    obtain rfl := m_e1 h
    exact hret H locs ls 10 dX0_tradeOf_10 I
end S_X0_tradeOf
theorem uk_X0_tradeOf (l : Launch) (n : Nat) (D : va_G) (d : UD) (u : UM) (t : Nat) (p0 : Int32) (p1 : Int32) (r : Int32) (h : uf_X0_tradeOf n d u t p0 p1 = some r) : u_M l yX0_tradeOf (ws_ yX0_tradeOf cX0_tradeOf 4 (some .int)) 3 64 (0, 0) D d u [.ref t, .int p0, .int p1] (some (.int r)) u :=
  u_start (own := RX0) (lvl := [(0, .ref t), (1, .int p0), (2, .int p1)]) (by decide) rfl (Nat.le_of_ble_eq_true rfl) rfl (fun p e s m args below meth c ls X hr hlk hI hl hA I hC => uw_X0_tradeOf X hA ⟨Nat.le_refl _, Nat.le_refl _⟩ ⟨Nat.zero_le _, Nat.zero_le _⟩ n u t p0 p1 r h (fun H locs ls pc hd I => u_iret X I hr hlk ⟨rfl, rfl⟩ hd) _ _ ls I hl)
