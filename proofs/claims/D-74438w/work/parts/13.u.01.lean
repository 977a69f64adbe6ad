set_option maxRecDepth 100000
set_option maxHeartbeats 4000000
/-! SwapPress$Had.<init>([I)V -/
def uf_X10_init (n : Nat) (d : UD) (u : UM) (t : Nat) (p0 : Nat) : Option ((Unit × UM) × UC) :=
  m_b (u_pf u 9 0 t (.ref p0)) (fun w1 => some (((), (w1, u.2)), (0, 0)))
theorem uh_X10_init : yX10_init.cls = RX10 ∧ yX10_init.cls ≠ "java/lang/invoke/MethodHandle" ∧ yX10_init.cls ≠ "java/lang/invoke/VarHandle" ∧ (parseMethodDescriptor yX10_init.desc).map (fun d => d.parameters.length) = some 1 := by decide +kernel
section S_X10_init
variable {p : Program} {l : Launch} {e : Env} {R : Room} {s : State} {m : MethodId} {args : Array Value} {below : List Frame} {meth : Method} {c : Code} {Q : State → Prop} {D : va_G} {A : Nat → Prop} {d : UD}
theorem uw_X10_init (X : u_X RX10 D A d p s m c cX10_init 2 args) (hA : ∀ q, s.heap.size ≤ q → A q) (hR : 1 ≤ R.frames ∧ 20 ≤ R.locals) (hI : meth.name = "<init>") (n : Nat) (u : UM) (t : Nat) (p0 : Nat) (r0 : Unit) (ur : UM) (C : UC) (h : uf_X10_init n d u t p0 = some ((r0, ur), C)) (hret : ∀ (H : Heap) (locs : List Loc) (ls : Array Slot) (pc cells slots : Nat), decode cX10_init pc = .ok (.return_, 1) → u_left R cells slots (u_add (0, 0) (0, 0)) → u_I D A s.heap ur H locs cells → W p l e R s m args below meth c H locs cells slots Q (F0 m pc ls [])) : ∀ (H : Heap) (locs : List Loc) (ls : Array Slot) (cells slots : Nat), u_left R cells slots (u_add C (0, 0)) → u_I D A s.heap u H locs cells → lv_has ls 2 [(0, .ref t), (1, .ref p0)] → W p l e R s m args below meth c H locs cells slots Q (F0 m 0 ls []) := by
  intro H locs ls cells slots hC I hl
  unfold uf_X10_init at h
  refine lv_aload_n X.1 X.2.1 dX10_init_0 rfl (lv_at hl 0 rfl) ?_
  refine u_obj X hl.1 q1034 q139 q140 (Nat.le_trans (Nat.le_of_ble_eq_true rfl) hR.1) (Nat.le_trans (Nat.le_of_ble_eq_true rfl) hR.2) (Nat.le_of_ble_eq_true rfl) dX10_init_1 ?_
  refine lv_aload_n X.1 X.2.1 dX10_init_4 rfl (lv_at hl 0 rfl) ?_
  refine lv_aload_n X.1 X.2.1 dX10_init_5 rfl (lv_at hl 1 rfl) ?_
  obtain ⟨w1, e2, h⟩ := m_bS h
  refine u_PF X I e2 (C := RX10) (T := TX10) (N := 1) (ref := "SwapPress$Had") in_X10 tyX10 tyX10_ok nmX10 rfl (by decide) rfl rfl q1035 (fun _ h => h) rfl hI rfl rfl rfl dX10_init_6 (fun H locs I => ?_)
  obtain ⟨he, rfl⟩ := m_e3 h
  obtain ⟨rfl, rfl⟩ := m_e4 he
  exact hret H locs ls 9 _ _ dX10_init_9 hC I
end S_X10_init
theorem uk_X10_init (l : Launch) (n : Nat) (D : va_G) (d : UD) (u : UM) (t : Nat) (p0 : Nat) (ur : UM) (C : UC) (h : uf_X10_init n d u t p0 = some (((), ur), C)) : u_M l yX10_init (ws_ yX10_init cX10_init 2 none) 1 20 C D d u [.ref t, .ref p0] none ur :=
  u_start (own := RX10) (lvl := [(0, .ref t), (1, .ref p0)]) (by decide) rfl (Nat.le_of_ble_eq_true rfl) rfl (fun p e s m args below meth c ls X hr hlk hI hl hA I hC => uw_X10_init X hA ⟨Nat.le_refl _, Nat.le_refl _⟩ hI n u t p0 () ur C h (fun H locs ls pc cells slots hd hC I => u_vret X I hr hlk (u_leftE hC) hd) _ _ ls _ _ hC I hl)

/-! SwapPress$Had.of(II)I -/
def uf_X10_of (n : Nat) (d : UD) (u : UM) (t : Nat) (p0 : Int32) (p1 : Int32) : Option Int32 :=
  m_b (u_fr d u 9 0 t) (fun b1 => m_b (u_ldI d u b1 ((8 * p0) + p1)) (fun b3 => some b3))
theorem uh_X10_of : yX10_of.cls = RX10 ∧ yX10_of.cls ≠ "java/lang/invoke/MethodHandle" ∧ yX10_of.cls ≠ "java/lang/invoke/VarHandle" ∧ (parseMethodDescriptor yX10_of.desc).map (fun d => d.parameters.length) = some 2 := by decide +kernel
section S_X10_of
variable {p : Program} {l : Launch} {e : Env} {R : Room} {s : State} {m : MethodId} {args : Array Value} {below : List Frame} {meth : Method} {c : Code} {Q : State → Prop} {D : va_G} {A : Nat → Prop} {d : UD} {cells slots : Nat}
theorem uw_X10_of (X : u_X RX10 D A d p s m c cX10_of 3 args) (hA : ∀ q, s.heap.size ≤ q → A q) (hR : 0 ≤ R.frames ∧ 0 ≤ R.locals) (hf : cells ≤ R.cells ∧ slots ≤ R.slots) (n : Nat) (u : UM) (t : Nat) (p0 : Int32) (p1 : Int32) (r : Int32) (h : uf_X10_of n d u t p0 p1 = some r) (hret : ∀ (H : Heap) (locs : List Loc) (ls : Array Slot) (pc : Nat), decode cX10_of pc = .ok (.ireturn, 1) → u_I D A s.heap u H locs cells → W p l e R s m args below meth c H locs cells slots Q (F0 m pc ls [.int r])) : ∀ (H : Heap) (locs : List Loc) (ls : Array Slot), u_I D A s.heap u H locs cells → lv_has ls 3 [(0, .ref t), (1, .int p0), (2, .int p1)] → W p l e R s m args below meth c H locs cells slots Q (F0 m 0 ls []) := by
  intro H locs ls I hl
  unfold uf_X10_of at h
  refine lv_aload_n X.1 X.2.1 dX10_of_0 rfl (lv_at hl 0 rfl) ?_
  obtain ⟨b1, e2, h⟩ := m_bS h
  refine u_Gr X I e2 (C := RX10) (T := TX10) (N := 1) (ref := "SwapPress$Had") in_X10 rfl (by decide) rfl rfl q1035 (fun _ h => h) dX10_of_1 ?_
  refine lv_bipush (v := 8) X.1 X.2.1 dX10_of_4 (by decide) ?_
  refine lv_iload_n X.1 X.2.1 dX10_of_6 rfl (lv_at hl 1 rfl) ?_
  refine lv_imul X.1 X.2.1 dX10_of_7 ?_
  refine lv_iload_n X.1 X.2.1 dX10_of_8 rfl (lv_at hl 2 rfl) ?_
  refine lv_iadd X.1 X.2.1 dX10_of_9 ?_
  obtain ⟨b3, e4, h⟩ := m_bS h
  refine u_LI X I e4 dX10_of_10 ?_
  obtain rfl := m_e1 h
  exact hret H locs ls 11 dX10_of_11 I
end S_X10_of
theorem uk_X10_of (l : Launch) (n : Nat) (D : va_G) (d : UD) (u : UM) (t : Nat) (p0 : Int32) (p1 : Int32) (r : Int32) (h : uf_X10_of n d u t p0 p1 = some r) : u_M l yX10_of (ws_ yX10_of cX10_of 3 (some .int)) 0 0 (0, 0) D d u [.ref t, .int p0, .int p1] (some (.int r)) u :=
  u_start (own := RX10) (lvl := [(0, .ref t), (1, .int p0), (2, .int p1)]) (by decide) rfl (Nat.le_of_ble_eq_true rfl) rfl (fun p e s m args below meth c ls X hr hlk hI hl hA I hC => uw_X10_of X hA ⟨Nat.le_refl _, Nat.le_refl _⟩ ⟨Nat.zero_le _, Nat.zero_le _⟩ n u t p0 p1 r h (fun H locs ls pc hd I => u_iret X I hr hlk ⟨rfl, rfl⟩ hd) _ _ ls I hl)

/-! SwapPress$Caps.<init>([I)V -/
def uf_X11_init (n : Nat) (d : UD) (u : UM) (t : Nat) (p0 : Nat) : Option ((Unit × UM) × UC) :=
  m_b (u_pf u 10 0 t (.ref p0)) (fun w1 => some (((), (w1, u.2)), (0, 0)))
theorem uh_X11_init : yX11_init.cls = RX11 ∧ yX11_init.cls ≠ "java/lang/invoke/MethodHandle" ∧ yX11_init.cls ≠ "java/lang/invoke/VarHandle" ∧ (parseMethodDescriptor yX11_init.desc).map (fun d => d.parameters.length) = some 1 := by decide +kernel
section S_X11_init
variable {p : Program} {l : Launch} {e : Env} {R : Room} {s : State} {m : MethodId} {args : Array Value} {below : List Frame} {meth : Method} {c : Code} {Q : State → Prop} {D : va_G} {A : Nat → Prop} {d : UD}
theorem uw_X11_init (X : u_X RX11 D A d p s m c cX11_init 2 args) (hA : ∀ q, s.heap.size ≤ q → A q) (hR : 1 ≤ R.frames ∧ 20 ≤ R.locals) (hI : meth.name = "<init>") (n : Nat) (u : UM) (t : Nat) (p0 : Nat) (r0 : Unit) (ur : UM) (C : UC) (h : uf_X11_init n d u t p0 = some ((r0, ur), C)) (hret : ∀ (H : Heap) (locs : List Loc) (ls : Array Slot) (pc cells slots : Nat), decode cX11_init pc = .ok (.return_, 1) → u_left R cells slots (u_add (0, 0) (0, 0)) → u_I D A s.heap ur H locs cells → W p l e R s m args below meth c H locs cells slots Q (F0 m pc ls [])) : ∀ (H : Heap) (locs : List Loc) (ls : Array Slot) (cells slots : Nat), u_left R cells slots (u_add C (0, 0)) → u_I D A s.heap u H locs cells → lv_has ls 2 [(0, .ref t), (1, .ref p0)] → W p l e R s m args below meth c H locs cells slots Q (F0 m 0 ls []) := by
  intro H locs ls cells slots hC I hl
  unfold uf_X11_init at h
  refine lv_aload_n X.1 X.2.1 dX11_init_0 rfl (lv_at hl 0 rfl) ?_
  refine u_obj X hl.1 q1044 q139 q140 (Nat.le_trans (Nat.le_of_ble_eq_true rfl) hR.1) (Nat.le_trans (Nat.le_of_ble_eq_true rfl) hR.2) (Nat.le_of_ble_eq_true rfl) dX11_init_1 ?_
  refine lv_aload_n X.1 X.2.1 dX11_init_4 rfl (lv_at hl 0 rfl) ?_
  refine lv_aload_n X.1 X.2.1 dX11_init_5 rfl (lv_at hl 1 rfl) ?_
  obtain ⟨w1, e2, h⟩ := m_bS h
  refine u_PF X I e2 (C := RX11) (T := TX11) (N := 1) (ref := "SwapPress$Caps") in_X11 tyX11 tyX11_ok nmX11 rfl (by decide) rfl rfl q1045 (fun _ h => h) rfl hI rfl rfl rfl dX11_init_6 (fun H locs I => ?_)
  obtain ⟨he, rfl⟩ := m_e3 h
  obtain ⟨rfl, rfl⟩ := m_e4 he
  exact hret H locs ls 9 _ _ dX11_init_9 hC I
end S_X11_init
theorem uk_X11_init (l : Launch) (n : Nat) (D : va_G) (d : UD) (u : UM) (t : Nat) (p0 : Nat) (ur : UM) (C : UC) (h : uf_X11_init n d u t p0 = some (((), ur), C)) : u_M l yX11_init (ws_ yX11_init cX11_init 2 none) 1 20 C D d u [.ref t, .ref p0] none ur :=
  u_start (own := RX11) (lvl := [(0, .ref t), (1, .ref p0)]) (by decide) rfl (Nat.le_of_ble_eq_true rfl) rfl (fun p e s m args below meth c ls X hr hlk hI hl hA I hC => uw_X11_init X hA ⟨Nat.le_refl _, Nat.le_refl _⟩ hI n u t p0 () ur C h (fun H locs ls pc cells slots hd hC I => u_vret X I hr hlk (u_leftE hC) hd) _ _ ls _ _ hC I hl)

/-! SwapPress$Caps.of(II)I -/
def uf_X11_of (n : Nat) (d : UD) (u : UM) (t : Nat) (p0 : Int32) (p1 : Int32) : Option Int32 :=
  m_b (u_fr d u 10 0 t) (fun b1 => m_b (u_ldI d u b1 ((8 * p0) + p1)) (fun b3 => some b3))
theorem uh_X11_of : yX11_of.cls = RX11 ∧ yX11_of.cls ≠ "java/lang/invoke/MethodHandle" ∧ yX11_of.cls ≠ "java/lang/invoke/VarHandle" ∧ (parseMethodDescriptor yX11_of.desc).map (fun d => d.parameters.length) = some 2 := by decide +kernel
section S_X11_of
variable {p : Program} {l : Launch} {e : Env} {R : Room} {s : State} {m : MethodId} {args : Array Value} {below : List Frame} {meth : Method} {c : Code} {Q : State → Prop} {D : va_G} {A : Nat → Prop} {d : UD} {cells slots : Nat}
theorem uw_X11_of (X : u_X RX11 D A d p s m c cX11_of 3 args) (hA : ∀ q, s.heap.size ≤ q → A q) (hR : 0 ≤ R.frames ∧ 0 ≤ R.locals) (hf : cells ≤ R.cells ∧ slots ≤ R.slots) (n : Nat) (u : UM) (t : Nat) (p0 : Int32) (p1 : Int32) (r : Int32) (h : uf_X11_of n d u t p0 p1 = some r) (hret : ∀ (H : Heap) (locs : List Loc) (ls : Array Slot) (pc : Nat), decode cX11_of pc = .ok (.ireturn, 1) → u_I D A s.heap u H locs cells → W p l e R s m args below meth c H locs cells slots Q (F0 m pc ls [.int r])) : ∀ (H : Heap) (locs : List Loc) (ls : Array Slot), u_I D A s.heap u H locs cells → lv_has ls 3 [(0, .ref t), (1, .int p0), (2, .int p1)] → W p l e R s m args below meth c H locs cells slots Q (F0 m 0 ls []) := by
  intro H locs ls I hl
  unfold uf_X11_of at h
  refine lv_aload_n X.1 X.2.1 dX11_of_0 rfl (lv_at hl 0 rfl) ?_
  obtain ⟨b1, e2, h⟩ := m_bS h
  refine u_Gr X I e2 (C := RX11) (T := TX11) (N := 1) (ref := "SwapPress$Caps") in_X11 rfl (by decide) rfl rfl q1045 (fun _ h => h) dX11_of_1 ?_
  refine lv_bipush (v := 8) X.1 X.2.1 dX11_of_4 (by decide) ?_
  refine lv_iload_n X.1 X.2.1 dX11_of_6 rfl (lv_at hl 1 rfl) ?_
  refine lv_imul X.1 X.2.1 dX11_of_7 ?_
  refine lv_iload_n X.1 X.2.1 dX11_of_8 rfl (lv_at hl 2 rfl) ?_
  refine lv_iadd X.1 X.2.1 dX11_of_9 ?_
  obtain ⟨b3, e4, h⟩ := m_bS h
  refine u_LI X I e4 dX11_of_10 ?_
  obtain rfl := m_e1 h
  exact hret H locs ls 11 dX11_of_11 I
end S_X11_of
theorem uk_X11_of (l : Launch) (n : Nat) (D : va_G) (d : UD) (u : UM) (t : Nat) (p0 : Int32) (p1 : Int32) (r : Int32) (h : uf_X11_of n d u t p0 p1 = some r) : u_M l yX11_of (ws_ yX11_of cX11_of 3 (some .int)) 0 0 (0, 0) D d u [.ref t, .int p0, .int p1] (some (.int r)) u :=
  u_start (own := RX11) (lvl := [(0, .ref t), (1, .int p0), (2, .int p1)]) (by decide) rfl (Nat.le_of_ble_eq_true rfl) rfl (fun p e s m args below meth c ls X hr hlk hI hl hA I hC => uw_X11_of X hA ⟨Nat.le_refl _, Nat.le_refl _⟩ ⟨Nat.zero_le _, Nat.zero_le _⟩ n u t p0 p1 r h (fun H locs ls pc hd I => u_iret X I hr hlk ⟨rfl, rfl⟩ hd) _ _ ls I hl)

/-! SwapPress$Both.<init>([I)V -/
def uf_X12_init (n : Nat) (d : UD) (u : UM) (t : Nat) (p0 : Nat) : Option ((Unit × UM) × UC) :=
  m_b (u_pf u 11 0 t (.ref p0)) (fun w1 => some (((), (w1, u.2)), (0, 0)))
theorem uh_X12_init : yX12_init.cls = RX12 ∧ yX12_init.cls ≠ "java/lang/invoke/MethodHandle" ∧ yX12_init.cls ≠ "java/lang/invoke/VarHandle" ∧ (parseMethodDescriptor yX12_init.desc).map (fun d => d.parameters.length) = some 1 := by decide +kernel
section S_X12_init
variable {p : Program} {l : Launch} {e : Env} {R : Room} {s : State} {m : MethodId} {args : Array Value} {below : List Frame} {meth : Method} {c : Code} {Q : State → Prop} {D : va_G} {A : Nat → Prop} {d : UD}
theorem uw_X12_init (X : u_X RX12 D A d p s m c cX12_init 2 args) (hA : ∀ q, s.heap.size ≤ q → A q) (hR : 1 ≤ R.frames ∧ 20 ≤ R.locals) (hI : meth.name = "<init>") (n : Nat) (u : UM) (t : Nat) (p0 : Nat) (r0 : Unit) (ur : UM) (C : UC) (h : uf_X12_init n d u t p0 = some ((r0, ur), C)) (hret : ∀ (H : Heap) (locs : List Loc) (ls : Array Slot) (pc cells slots : Nat), decode cX12_init pc = .ok (.return_, 1) → u_left R cells slots (u_add (0, 0) (0, 0)) → u_I D A s.heap ur H locs cells → W p l e R s m args below meth c H locs cells slots Q (F0 m pc ls [])) : ∀ (H : Heap) (locs : List Loc) (ls : Array Slot) (cells slots : Nat), u_left R cells slots (u_add C (0, 0)) → u_I D A s.heap u H locs cells → lv_has ls 2 [(0, .ref t), (1, .ref p0)] → W p l e R s m args below meth c H locs cells slots Q (F0 m 0 ls []) := by
  intro H locs ls cells slots hC I hl
  unfold uf_X12_init at h
  refine lv_aload_n X.1 X.2.1 dX12_init_0 rfl (lv_at hl 0 rfl) ?_
  refine u_obj X hl.1 q1054 q139 q140 (Nat.le_trans (Nat.le_of_ble_eq_true rfl) hR.1) (Nat.le_trans (Nat.le_of_ble_eq_true rfl) hR.2) (Nat.le_of_ble_eq_true rfl) dX12_init_1 ?_
  refine lv_aload_n X.1 X.2.1 dX12_init_4 rfl (lv_at hl 0 rfl) ?_
  refine lv_aload_n X.1 X.2.1 dX12_init_5 rfl (lv_at hl 1 rfl) ?_
  obtain ⟨w1, e2, h⟩ := m_bS h
  refine u_PF X I e2 (C := RX12) (T := TX12) (N := 1) (ref := "SwapPress$Both") in_X12 tyX12 tyX12_ok nmX12 rfl (by decide) rfl rfl q1055 (fun _ h => h) rfl hI rfl rfl rfl dX12_init_6 (fun H locs I => ?_)
  obtain ⟨he, rfl⟩ := m_e3 h
  obtain ⟨rfl, rfl⟩ := m_e4 he
  exact hret H locs ls 9 _ _ dX12_init_9 hC I
end S_X12_init
theorem uk_X12_init (l : Launch) (n : Nat) (D : va_G) (d : UD) (u : UM) (t : Nat) (p0 : Nat) (ur : UM) (C : UC) (h : uf_X12_init n d u t p0 = some (((), ur), C)) : u_M l yX12_init (ws_ yX12_init cX12_init 2 none) 1 20 C D d u [.ref t, .ref p0] none ur :=
  u_start (own := RX12) (lvl := [(0, .ref t), (1, .ref p0)]) (by decide) rfl (Nat.le_of_ble_eq_true rfl) rfl (fun p e s m args below meth c ls X hr hlk hI hl hA I hC => uw_X12_init X hA ⟨Nat.le_refl _, Nat.le_refl _⟩ hI n u t p0 () ur C h (fun H locs ls pc cells slots hd hC I => u_vret X I hr hlk (u_leftE hC) hd) _ _ ls _ _ hC I hl)

/-! SwapPress$Both.of(II)I -/
def uf_X12_of (n : Nat) (d : UD) (u : UM) (t : Nat) (p0 : Int32) (p1 : Int32) : Option Int32 :=
  m_b (u_fr d u 11 0 t) (fun b1 => m_b (u_ldI d u b1 ((8 * p0) + p1)) (fun b3 => m_b (u_fr d u 11 0 t) (fun b5 => m_b (u_ldI d u b5 ((8 * p1) + p0)) (fun b7 => some (b3 + b7)))))
theorem uh_X12_of : yX12_of.cls = RX12 ∧ yX12_of.cls ≠ "java/lang/invoke/MethodHandle" ∧ yX12_of.cls ≠ "java/lang/invoke/VarHandle" ∧ (parseMethodDescriptor yX12_of.desc).map (fun d => d.parameters.length) = some 2 := by decide +kernel
section S_X12_of
variable {p : Program} {l : Launch} {e : Env} {R : Room} {s : State} {m : MethodId} {args : Array Value} {below : List Frame} {meth : Method} {c : Code} {Q : State → Prop} {D : va_G} {A : Nat → Prop} {d : UD} {cells slots : Nat}
theorem uw_X12_of (X : u_X RX12 D A d p s m c cX12_of 3 args) (hA : ∀ q, s.heap.size ≤ q → A q) (hR : 0 ≤ R.frames ∧ 0 ≤ R.locals) (hf : cells ≤ R.cells ∧ slots ≤ R.slots) (n : Nat) (u : UM) (t : Nat) (p0 : Int32) (p1 : Int32) (r : Int32) (h : uf_X12_of n d u t p0 p1 = some r) (hret : ∀ (H : Heap) (locs : List Loc) (ls : Array Slot) (pc : Nat), decode cX12_of pc = .ok (.ireturn, 1) → u_I D A s.heap u H locs cells → W p l e R s m args below meth c H locs cells slots Q (F0 m pc ls [.int r])) : ∀ (H : Heap) (locs : List Loc) (ls : Array Slot), u_I D A s.heap u H locs cells → lv_has ls 3 [(0, .ref t), (1, .int p0), (2, .int p1)] → W p l e R s m args below meth c H locs cells slots Q (F0 m 0 ls []) := by
  intro H locs ls I hl
  unfold uf_X12_of at h
  refine lv_aload_n X.1 X.2.1 dX12_of_0 rfl (lv_at hl 0 rfl) ?_
  obtain ⟨b1, e2, h⟩ := m_bS h
  refine u_Gr X I e2 (C := RX12) (T := TX12) (N := 1) (ref := "SwapPress$Both") in_X12 rfl (by decide) rfl rfl q1055 (fun _ h => h) dX12_of_1 ?_
  refine lv_bipush (v := 8) X.1 X.2.1 dX12_of_4 (by decide) ?_
  refine lv_iload_n X.1 X.2.1 dX12_of_6 rfl (lv_at hl 1 rfl) ?_
  refine lv_imul X.1 X.2.1 dX12_of_7 ?_
  refine lv_iload_n X.1 X.2.1 dX12_of_8 rfl (lv_at hl 2 rfl) ?_
  refine lv_iadd X.1 X.2.1 dX12_of_9 ?_
  obtain ⟨b3, e4, h⟩ := m_bS h
  refine u_LI X I e4 dX12_of_10 ?_
  refine lv_aload_n X.1 X.2.1 dX12_of_11 rfl (lv_at hl 0 rfl) ?_
  obtain ⟨b5, e6, h⟩ := m_bS h
  refine u_Gr X I e6 (C := RX12) (T := TX12) (N := 1) (ref := "SwapPress$Both") in_X12 rfl (by decide) rfl rfl q1055 (fun _ h => h) dX12_of_12 ?_
  refine lv_bipush (v := 8) X.1 X.2.1 dX12_of_15 (by decide) ?_
  refine lv_iload_n X.1 X.2.1 dX12_of_17 rfl (lv_at hl 2 rfl) ?_
  refine lv_imul X.1 X.2.1 dX12_of_18 ?_
  refine lv_iload_n X.1 X.2.1 dX12_of_19 rfl (lv_at hl 1 rfl) ?_
  refine lv_iadd X.1 X.2.1 dX12_of_20 ?_
  obtain ⟨b7, e8, h⟩ := m_bS h
  refine u_LI X I e8 dX12_of_21 ?_
  refine lv_iadd X.1 X.2.1 dX12_of_22 ?_
  obtain rfl := m_e1 h
  exact hret H locs ls 23 dX12_of_23 I
end S_X12_of
theorem uk_X12_of (l : Launch) (n : Nat) (D : va_G) (d : UD) (u : UM) (t : Nat) (p0 : Int32) (p1 : Int32) (r : Int32) (h : uf_X12_of n d u t p0 p1 = some r) : u_M l yX12_of (ws_ yX12_of cX12_of 3 (some .int)) 0 0 (0, 0) D d u [.ref t, .int p0, .int p1] (some (.int r)) u :=
  u_start (own := RX12) (lvl := [(0, .ref t), (1, .int p0), (2, .int p1)]) (by decide) rfl (Nat.le_of_ble_eq_true rfl) rfl (fun p e s m args below meth c ls X hr hlk hI hl hA I hC => uw_X12_of X hA ⟨Nat.le_refl _, Nat.le_refl _⟩ ⟨Nat.zero_le _, Nat.zero_le _⟩ n u t p0 p1 r h (fun H locs ls pc hd I => u_iret X I hr hlk ⟨rfl, rfl⟩ hd) _ _ ls I hl)

/-! SwapPress$But.of(II)I -/
def uf_X13_of_J34 (n : Nat) (d : UD) (u : UM) (t0 : Int32) : Option Int32 :=
  some t0
def uf_X13_of_J23 (n : Nat) (d : UD) (u : UM) (v0 : Nat) (v1 : Int32) (v2 : Int32) : Option Int32 :=
  m_b (u_fr d u 12 0 v0) (fun b4 => m_b (u_fc (u_cl u 9 b4) (uf_X10_of n d u b4 v1 v2) (u_fc (u_cl u 10 b4) (uf_X11_of n d u b4 v1 v2) (u_fc (u_cl u 11 b4) (uf_X12_of n d u b4 v1 v2) (none)))) (fun r6 => uf_X13_of_J34 n d u r6))
def uf_X13_of (n : Nat) (d : UD) (u : UM) (t : Nat) (p0 : Int32) (p1 : Int32) : Option Int32 :=
  m_b (u_fi d u 12 1 t) (fun b1 => m_if ((p0 : Int32) = (b1 : Int32)) (m_b (u_fi d u 12 2 t) (fun b8 => m_if ((p1 : Int32) = (b8 : Int32)) (m_b (u_fi d u 12 3 t) (fun b11 => uf_X13_of_J34 n d u b11)) (uf_X13_of_J23 n d u t p0 p1))) (uf_X13_of_J23 n d u t p0 p1))
theorem uh_X13_of : yX13_of.cls = RX13 ∧ yX13_of.cls ≠ "java/lang/invoke/MethodHandle" ∧ yX13_of.cls ≠ "java/lang/invoke/VarHandle" ∧ (parseMethodDescriptor yX13_of.desc).map (fun d => d.parameters.length) = some 2 := by decide +kernel
section S_X13_of
variable {p : Program} {l : Launch} {e : Env} {R : Room} {s : State} {m : MethodId} {args : Array Value} {below : List Frame} {meth : Method} {c : Code} {Q : State → Prop} {D : va_G} {A : Nat → Prop} {d : UD} {cells slots : Nat}
theorem uw_X13_of (X : u_X RX13 D A d p s m c cX13_of 3 args) (hA : ∀ q, s.heap.size ≤ q → A q) (hR : 1 ≤ R.frames ∧ 22 ≤ R.locals) (hf : cells ≤ R.cells ∧ slots ≤ R.slots) (n : Nat) (u : UM) (t : Nat) (p0 : Int32) (p1 : Int32) (r : Int32) (h : uf_X13_of n d u t p0 p1 = some r) (hret : ∀ (H : Heap) (locs : List Loc) (ls : Array Slot) (pc : Nat), decode cX13_of pc = .ok (.ireturn, 1) → u_I D A s.heap u H locs cells → W p l e R s m args below meth c H locs cells slots Q (F0 m pc ls [.int r])) : ∀ (H : Heap) (locs : List Loc) (ls : Array Slot), u_I D A s.heap u H locs cells → lv_has ls 3 [(0, .ref t), (1, .int p0), (2, .int p1)] → W p l e R s m args below meth c H locs cells slots Q (F0 m 0 ls []) := by
  have k34 : ∀ (t0 : Int32) (H : Heap) (locs : List Loc) (ls : Array Slot), uf_X13_of_J34 n d u t0 = some r → u_I D A s.heap u H locs cells → lv_has ls 3 [] → W p l e R s m args below meth c H locs cells slots Q (F0 m 34 ls [.int t0]) := by
    intro t0 H locs ls h I hl
    unfold uf_X13_of_J34 at h
    obtain rfl := m_e1 h
    exact hret H locs ls 34 dX13_of_34 I
  have k23 : ∀ (v0 : Nat) (v1 : Int32) (v2 : Int32) (H : Heap) (locs : List Loc) (ls : Array Slot), uf_X13_of_J23 n d u v0 v1 v2 = some r → u_I D A s.heap u H locs cells → lv_has ls 3 [(0, .ref v0), (1, .int v1), (2, .int v2)] → W p l e R s m args below meth c H locs cells slots Q (F0 m 23 ls []) := by
    intro v0 v1 v2 H locs ls h I hl
    unfold uf_X13_of_J23 at h
    refine lv_aload_n X.1 X.2.1 dX13_of_23 rfl (lv_at hl 0 rfl) ?_
    obtain ⟨b4, e5, h⟩ := m_bS h
    refine u_Gr X I e5 (C := RX13) (T := TX13) (N := 4) (ref := "SwapPress$But") in_X13 rfl (by decide) rfl rfl q1310 (fun _ h => h) dX13_of_24 ?_
    refine lv_iload_n X.1 X.2.1 dX13_of_27 rfl (lv_at hl 1 rfl) ?_
    refine lv_iload_n X.1 X.2.1 dX13_of_28 rfl (lv_at hl 2 rfl) ?_
    obtain ⟨r6, e7, h⟩ := m_bS h
    suffices kq : (∀ (H : Heap) (locs : List Loc), u_I D A s.heap u H locs cells → W p l e R s m args below meth c H locs cells slots Q (F0 m 34 ls [.int r6])) from by
      rcases u_fcS e7 with ⟨f, ef, ee⟩ | e7
      · exact u_callFp X hl.1 I hA (As := [.int v1, .int v2]) (rest := []) (uk_X10_of l n D d u b4 v1 v2 _ ee) (u_clS ef) (C := RX10) (T := TX10) (N := 1) rfl 2 5 rfl q1084 q1092 q1094 q127 q1096 uf_hd_0 rfl rfl ⟨Nat.le_trans (Nat.le_of_ble_eq_true rfl) hR.1, Nat.le_trans (Nat.le_of_ble_eq_true rfl) hR.2⟩ hf (stk := [.int r6]) rfl (Nat.le_of_ble_eq_true rfl) dX13_of_29 kq
      rcases u_fcS e7 with ⟨f, ef, ee⟩ | e7
      · exact u_callFp X hl.1 I hA (As := [.int v1, .int v2]) (rest := []) (uk_X11_of l n D d u b4 v1 v2 _ ee) (u_clS ef) (C := RX11) (T := TX11) (N := 1) rfl 2 4 rfl q1084 q1086 q1088 q128 q1090 uf_hd_0 rfl rfl ⟨Nat.le_trans (Nat.le_of_ble_eq_true rfl) hR.1, Nat.le_trans (Nat.le_of_ble_eq_true rfl) hR.2⟩ hf (stk := [.int r6]) rfl (Nat.le_of_ble_eq_true rfl) dX13_of_29 kq
      rcases u_fcS e7 with ⟨f, ef, ee⟩ | e7
      · exact u_callFp X hl.1 I hA (As := [.int v1, .int v2]) (rest := []) (uk_X12_of l n D d u b4 v1 v2 _ ee) (u_clS ef) (C := RX12) (T := TX12) (N := 1) rfl 2 2 rfl q1084 q1072 q1074 q129 q1076 uf_hd_0 rfl rfl ⟨Nat.le_trans (Nat.le_of_ble_eq_true rfl) hR.1, Nat.le_trans (Nat.le_of_ble_eq_true rfl) hR.2⟩ hf (stk := [.int r6]) rfl (Nat.le_of_ble_eq_true rfl) dX13_of_29 kq
      cases e7
    intro H locs I
    exact k34 r6 H locs ls h I (lv_sub hl [] rfl)
  intro H locs ls I hl
  unfold uf_X13_of at h
  refine lv_iload_n X.1 X.2.1 dX13_of_0 rfl (lv_at hl 1 rfl) ?_
  refine lv_aload_n X.1 X.2.1 dX13_of_1 rfl (lv_at hl 0 rfl) ?_
  obtain ⟨b1, e2, h⟩ := m_bS h
  refine u_Gi X I e2 (C := RX13) (T := TX13) (N := 4) (ref := "SwapPress$But") in_X13 rfl (by decide) rfl rfl q1311 (fun _ h => h) dX13_of_2 ?_
  refine lv_icmp_ne (tgt := 23) X.1 X.2.1 dX13_of_5 (by decide) (fun c3 => ?_) (fun c3 => ?_)
  · replace h := m_ifF c3 h
    exact k23 t p0 p1 H locs ls h I (lv_sub hl [0, 1, 2] rfl)
  · replace h := m_ifT c3 h
    refine lv_iload_n X.1 X.2.1 dX13_of_8 rfl (lv_at hl 2 rfl) ?_
    refine lv_aload_n X.1 X.2.1 dX13_of_9 rfl (lv_at hl 0 rfl) ?_
    obtain ⟨b8, e9, h⟩ := m_bS h
    refine u_Gi X I e9 (C := RX13) (T := TX13) (N := 4) (ref := "SwapPress$But") in_X13 rfl (by decide) rfl rfl q1312 (fun _ h => h) dX13_of_10 ?_
    refine lv_icmp_ne (tgt := 23) X.1 X.2.1 dX13_of_13 (by decide) (fun c10 => ?_) (fun c10 => ?_)
    · replace h := m_ifF c10 h
      exact k23 t p0 p1 H locs ls h I (lv_sub hl [0, 1, 2] rfl)
    · replace h := m_ifT c10 h
      refine lv_aload_n X.1 X.2.1 dX13_of_16 rfl (lv_at hl 0 rfl) ?_
      obtain ⟨b11, e12, h⟩ := m_bS h
      refine u_Gi X I e12 (C := RX13) (T := TX13) (N := 4) (ref := "SwapPress$But") in_X13 rfl (by decide) rfl rfl q1313 (fun _ h => h) dX13_of_17 ?_
      refine lv_goto (tgt := 34) X.1 X.2.1 dX13_of_20 (by decide) ?_
      exact k34 b11 H locs ls h I (lv_sub hl [] rfl)
end S_X13_of
theorem uk_X13_of (l : Launch) (n : Nat) (D : va_G) (d : UD) (u : UM) (t : Nat) (p0 : Int32) (p1 : Int32) (r : Int32) (h : uf_X13_of n d u t p0 p1 = some r) : u_M l yX13_of (ws_ yX13_of cX13_of 3 (some .int)) 1 22 (0, 0) D d u [.ref t, .int p0, .int p1] (some (.int r)) u :=
  u_start (own := RX13) (lvl := [(0, .ref t), (1, .int p0), (2, .int p1)]) (by decide) rfl (Nat.le_of_ble_eq_true rfl) rfl (fun p e s m args below meth c ls X hr hlk hI hl hA I hC => uw_X13_of X hA ⟨Nat.le_refl _, Nat.le_refl _⟩ ⟨Nat.zero_le _, Nat.zero_le _⟩ n u t p0 p1 r h (fun H locs ls pc hd I => u_iret X I hr hlk ⟨rfl, rfl⟩ hd) _ _ ls I hl)

/-! SwapPress$But.<init>(LSwapPress$Bounds;III)V -/
def uf_X13_init (n : Nat) (d : UD) (u : UM) (t : Nat) (p0 : Nat) (p1 : Int32) (p2 : Int32) (p3 : Int32) : Option ((Unit × UM) × UC) :=
  m_b (u_pf u 12 0 t (.ref p0)) (fun w1 => m_b (u_pf (w1, u.2) 12 1 t (.int p1)) (fun w3 => m_b (u_pf (w3, u.2) 12 2 t (.int p2)) (fun w5 => m_b (u_pf (w5, u.2) 12 3 t (.int p3)) (fun w7 => some (((), (w7, u.2)), (0, 0))))))
theorem uh_X13_init : yX13_init.cls = RX13 ∧ yX13_init.cls ≠ "java/lang/invoke/MethodHandle" ∧ yX13_init.cls ≠ "java/lang/invoke/VarHandle" ∧ (parseMethodDescriptor yX13_init.desc).map (fun d => d.parameters.length) = some 4 := by decide +kernel
section S_X13_init
variable {p : Program} {l : Launch} {e : Env} {R : Room} {s : State} {m : MethodId} {args : Array Value} {below : List Frame} {meth : Method} {c : Code} {Q : State → Prop} {D : va_G} {A : Nat → Prop} {d : UD}
theorem uw_X13_init (X : u_X RX13 D A d p s m c cX13_init 5 args) (hA : ∀ q, s.heap.size ≤ q → A q) (hR : 1 ≤ R.frames ∧ 20 ≤ R.locals) (hI : meth.name = "<init>") (n : Nat) (u : UM) (t : Nat) (p0 : Nat) (p1 : Int32) (p2 : Int32) (p3 : Int32) (r0 : Unit) (ur : UM) (C : UC) (h : uf_X13_init n d u t p0 p1 p2 p3 = some ((r0, ur), C)) (hret : ∀ (H : Heap) (locs : List Loc) (ls : Array Slot) (pc cells slots : Nat), decode cX13_init pc = .ok (.return_, 1) → u_left R cells slots (u_add (0, 0) (0, 0)) → u_I D A s.heap ur H locs cells → W p l e R s m args below meth c H locs cells slots Q (F0 m pc ls [])) : ∀ (H : Heap) (locs : List Loc) (ls : Array Slot) (cells slots : Nat), u_left R cells slots (u_add C (0, 0)) → u_I D A s.heap u H locs cells → lv_has ls 5 [(0, .ref t), (1, .ref p0), (2, .int p1), (3, .int p2), (4, .int p3)] → W p l e R s m args below meth c H locs cells slots Q (F0 m 0 ls []) := by
  intro H locs ls cells slots hC I hl
  unfold uf_X13_init at h
  refine lv_aload_n X.1 X.2.1 dX13_init_0 rfl (lv_at hl 0 rfl) ?_
  refine u_obj X hl.1 q1309 q139 q140 (Nat.le_trans (Nat.le_of_ble_eq_true rfl) hR.1) (Nat.le_trans (Nat.le_of_ble_eq_true rfl) hR.2) (Nat.le_of_ble_eq_true rfl) dX13_init_1 ?_
  refine lv_aload_n X.1 X.2.1 dX13_init_4 rfl (lv_at hl 0 rfl) ?_
  refine lv_aload_n X.1 X.2.1 dX13_init_5 rfl (lv_at hl 1 rfl) ?_
  obtain ⟨w1, e2, h⟩ := m_bS h
  refine u_PF X I e2 (C := RX13) (T := TX13) (N := 4) (ref := "SwapPress$But") in_X13 tyX13 tyX13_ok nmX13 rfl (by decide) rfl rfl q1310 (fun _ h => h) rfl hI rfl rfl rfl dX13_init_6 (fun H locs I => ?_)
  refine lv_aload_n X.1 X.2.1 dX13_init_9 rfl (lv_at hl 0 rfl) ?_
  refine lv_iload_n X.1 X.2.1 dX13_init_10 rfl (lv_at hl 2 rfl) ?_
  obtain ⟨w3, e4, h⟩ := m_bS h
  refine u_PF X I e4 (C := RX13) (T := TX13) (N := 4) (ref := "SwapPress$But") in_X13 tyX13 tyX13_ok nmX13 rfl (by decide) rfl rfl q1311 (fun _ h => h) rfl hI rfl rfl rfl dX13_init_11 (fun H locs I => ?_)
  refine lv_aload_n X.1 X.2.1 dX13_init_14 rfl (lv_at hl 0 rfl) ?_
  refine lv_iload_n X.1 X.2.1 dX13_init_15 rfl (lv_at hl 3 rfl) ?_
  obtain ⟨w5, e6, h⟩ := m_bS h
  refine u_PF X I e6 (C := RX13) (T := TX13) (N := 4) (ref := "SwapPress$But") in_X13 tyX13 tyX13_ok nmX13 rfl (by decide) rfl rfl q1312 (fun _ h => h) rfl hI rfl rfl rfl dX13_init_16 (fun H locs I => ?_)
  refine lv_aload_n X.1 X.2.1 dX13_init_19 rfl (lv_at hl 0 rfl) ?_
  refine lv_iload X.1 X.2.1 dX13_init_20 (lv_at hl 4 rfl) ?_
  obtain ⟨w7, e8, h⟩ := m_bS h
  refine u_PF X I e8 (C := RX13) (T := TX13) (N := 4) (ref := "SwapPress$But") in_X13 tyX13 tyX13_ok nmX13 rfl (by decide) rfl rfl q1313 (fun _ h => h) rfl hI rfl rfl rfl dX13_init_22 (fun H locs I => ?_)
  obtain ⟨he, rfl⟩ := m_e3 h
  obtain ⟨rfl, rfl⟩ := m_e4 he
  exact hret H locs ls 25 _ _ dX13_init_25 hC I
end S_X13_init
theorem uk_X13_init (l : Launch) (n : Nat) (D : va_G) (d : UD) (u : UM) (t : Nat) (p0 : Nat) (p1 : Int32) (p2 : Int32) (p3 : Int32) (ur : UM) (C : UC) (h : uf_X13_init n d u t p0 p1 p2 p3 = some (((), ur), C)) : u_M l yX13_init (ws_ yX13_init cX13_init 5 none) 1 20 C D d u [.ref t, .ref p0, .int p1, .int p2, .int p3] none ur :=
  u_start (own := RX13) (lvl := [(0, .ref t), (1, .ref p0), (2, .int p1), (3, .int p2), (4, .int p3)]) (by decide) rfl (Nat.le_of_ble_eq_true rfl) rfl (fun p e s m args below meth c ls X hr hlk hI hl hA I hC => uw_X13_init X hA ⟨Nat.le_refl _, Nat.le_refl _⟩ hI n u t p0 p1 p2 p3 () ur C h (fun H locs ls pc cells slots hd hC I => u_vret X I hr hlk (u_leftE hC) hd) _ _ ls _ _ hC I hl)

/-! java/util/AbstractCollection.<init>()V -/
def uf_J0_init (n : Nat) (d : UD) (u : UM) (t : Nat) : Option Unit :=
  some (())
theorem uh_J0_init : yJ0_init.cls = RJ0 ∧ yJ0_init.cls ≠ "java/lang/invoke/MethodHandle" ∧ yJ0_init.cls ≠ "java/lang/invoke/VarHandle" ∧ (parseMethodDescriptor yJ0_init.desc).map (fun d => d.parameters.length) = some 0 := by decide +kernel
section S_J0_init
variable {p : Program} {l : Launch} {e : Env} {R : Room} {s : State} {m : MethodId} {args : Array Value} {below : List Frame} {meth : Method} {c : Code} {Q : State → Prop} {D : va_G} {A : Nat → Prop} {d : UD} {cells slots : Nat}
theorem uw_J0_init (X : u_X RJ0 D A d p s m c cJ0_init 1 args) (hA : ∀ q, s.heap.size ≤ q → A q) (hR : 1 ≤ R.frames ∧ 20 ≤ R.locals) (hf : cells ≤ R.cells ∧ slots ≤ R.slots) (hI : meth.name = "<init>") (n : Nat) (u : UM) (t : Nat) (r : Unit) (h : uf_J0_init n d u t = some r) (hret : ∀ (H : Heap) (locs : List Loc) (ls : Array Slot) (pc : Nat), decode cJ0_init pc = .ok (.return_, 1) → u_I D A s.heap u H locs cells → W p l e R s m args below meth c H locs cells slots Q (F0 m pc ls [])) : ∀ (H : Heap) (locs : List Loc) (ls : Array Slot), u_I D A s.heap u H locs cells → lv_has ls 1 [(0, .ref t)] → W p l e R s m args below meth c H locs cells slots Q (F0 m 0 ls []) := by
  intro H locs ls I hl
  unfold uf_J0_init at h
  refine lv_aload_n X.1 X.2.1 dJ0_init_0 rfl (lv_at hl 0 rfl) ?_
  refine u_obj X hl.1 q158 q139 q140 (Nat.le_trans (Nat.le_of_ble_eq_true rfl) hR.1) (Nat.le_trans (Nat.le_of_ble_eq_true rfl) hR.2) (Nat.le_of_ble_eq_true rfl) dJ0_init_1 ?_
  obtain rfl := m_e1 h
  exact hret H locs ls 4 dJ0_init_4 I
end S_J0_init
theorem uk_J0_init (l : Launch) (n : Nat) (D : va_G) (d : UD) (u : UM) (t : Nat) (r : Unit) (h : uf_J0_init n d u t = some r) : u_M l yJ0_init (ws_ yJ0_init cJ0_init 1 none) 1 20 (0, 0) D d u [.ref t] none u :=
  u_start (own := RJ0) (lvl := [(0, .ref t)]) (by decide) rfl (Nat.le_of_ble_eq_true rfl) rfl (fun p e s m args below meth c ls X hr hlk hI hl hA I hC => uw_J0_init X hA ⟨Nat.le_refl _, Nat.le_refl _⟩ ⟨Nat.zero_le _, Nat.zero_le _⟩ hI n u t r h (fun H locs ls pc hd I => u_vret X I hr hlk ⟨rfl, rfl⟩ hd) _ _ ls I hl)

/-! java/util/AbstractList.<init>()V -/
def uf_J1_init (n : Nat) (d : UD) (u : UM) (t : Nat) : Option ((Unit × UM) × UC) :=
  m_b (uf_J0_init n d u t) (fun r2 => m_b (u_pf u 13 0 t (.int 0)) (fun w3 => some (((), (w3, u.2)), (0, 0))))
theorem uh_J1_init : yJ1_init.cls = RJ1 ∧ yJ1_init.cls ≠ "java/lang/invoke/MethodHandle" ∧ yJ1_init.cls ≠ "java/lang/invoke/VarHandle" ∧ (parseMethodDescriptor yJ1_init.desc).map (fun d => d.parameters.length) = some 0 := by decide +kernel
section S_J1_init
variable {p : Program} {l : Launch} {e : Env} {R : Room} {s : State} {m : MethodId} {args : Array Value} {below : List Frame} {meth : Method} {c : Code} {Q : State → Prop} {D : va_G} {A : Nat → Prop} {d : UD}
theorem uw_J1_init (X : u_X RJ1 D A d p s m c cJ1_init 1 args) (hA : ∀ q, s.heap.size ≤ q → A q) (hR : 2 ≤ R.frames ∧ 40 ≤ R.locals) (hI : meth.name = "<init>") (n : Nat) (u : UM) (t : Nat) (r0 : Unit) (ur : UM) (C : UC) (h : uf_J1_init n d u t = some ((r0, ur), C)) (hret : ∀ (H : Heap) (locs : List Loc) (ls : Array Slot) (pc cells slots : Nat), decode cJ1_init pc = .ok (.return_, 1) → u_left R cells slots (u_add (0, 0) (0, 0)) → u_I D A s.heap ur H locs cells → W p l e R s m args below meth c H locs cells slots Q (F0 m pc ls [])) : ∀ (H : Heap) (locs : List Loc) (ls : Array Slot) (cells slots : Nat), u_left R cells slots (u_add C (0, 0)) → u_I D A s.heap u H locs cells → lv_has ls 1 [(0, .ref t)] → W p l e R s m args below meth c H locs cells slots Q (F0 m 0 ls []) := by
  intro H locs ls cells slots hC I hl
  unfold uf_J1_init at h
  refine lv_aload_n X.1 X.2.1 dJ1_init_0 rfl (lv_at hl 0 rfl) ?_
  obtain ⟨r2, e1, h⟩ := m_bS h
  refine u_callIp X hl.1 I hA (As := []) (rest := []) (uk_J0_init l n D d u t _ e1) 0 q155 q156 q103 q157 rfl uh_J0_init.2 rfl rfl ⟨Nat.le_trans (Nat.le_of_ble_eq_true rfl) hR.1, Nat.le_trans (Nat.le_of_ble_eq_true rfl) hR.2⟩ (u_leftLe hC) (Nat.le_of_ble_eq_true rfl) dJ1_init_1 (fun H locs I => ?_)
  refine lv_aload_n X.1 X.2.1 dJ1_init_4 rfl (lv_at hl 0 rfl) ?_
  refine lv_iconst (v := 0) X.1 X.2.1 dJ1_init_5 (by decide) ?_
  obtain ⟨w3, e4, h⟩ := m_bS h
  refine u_P X I e4 (C := RJ2) (T := TJ2) (N := 3) (ref := "java/util/AbstractList") in_J2 tyJ2 tyJ2_ok nmJ2 rfl (by decide) rfl rfl q163 (fun _ h => h) rfl rfl rfl dJ1_init_6 (fun H locs I => ?_)
  obtain ⟨he, rfl⟩ := m_e3 h
  obtain ⟨rfl, rfl⟩ := m_e4 he
  exact hret H locs ls 9 _ _ dJ1_init_9 hC I
end S_J1_init
theorem uk_J1_init (l : Launch) (n : Nat) (D : va_G) (d : UD) (u : UM) (t : Nat) (ur : UM) (C : UC) (h : uf_J1_init n d u t = some (((), ur), C)) : u_M l yJ1_init (ws_ yJ1_init cJ1_init 1 none) 2 40 C D d u [.ref t] none ur :=
  u_start (own := RJ1) (lvl := [(0, .ref t)]) (by decide) rfl (Nat.le_of_ble_eq_true rfl) rfl (fun p e s m args below meth c ls X hr hlk hI hl hA I hC => uw_J1_init X hA ⟨Nat.le_refl _, Nat.le_refl _⟩ hI n u t () ur C h (fun H locs ls pc cells slots hd hC I => u_vret X I hr hlk (u_leftE hC) hd) _ _ ls _ _ hC I hl)

/-! java/util/ArrayList.<init>()V -/
def uf_J2_init (n : Nat) (d : UD) (u : UM) (t : Nat) : Option ((Unit × UM) × UC) :=
  u_bc u.2 (uf_J1_init n d u t) (fun r2 u3 => m_b (u_pf u3 13 1 t (.ref (d.2 0))) (fun w7 => some (((), (w7, u3.2)), (0, 0))))
theorem uh_J2_init : yJ2_init.cls = RJ2 ∧ yJ2_init.cls ≠ "java/lang/invoke/MethodHandle" ∧ yJ2_init.cls ≠ "java/lang/invoke/VarHandle" ∧ (parseMethodDescriptor yJ2_init.desc).map (fun d => d.parameters.length) = some 0 := by decide +kernel
section S_J2_init
variable {p : Program} {l : Launch} {e : Env} {R : Room} {s : State} {m : MethodId} {args : Array Value} {below : List Frame} {meth : Method} {c : Code} {Q : State → Prop} {D : va_G} {A : Nat → Prop} {d : UD}
theorem uw_J2_init (X : u_X RJ2 D A d p s m c cJ2_init 1 args) (hA : ∀ q, s.heap.size ≤ q → A q) (hR : 3 ≤ R.frames ∧ 60 ≤ R.locals) (hI : meth.name = "<init>") (n : Nat) (u : UM) (t : Nat) (r0 : Unit) (ur : UM) (C : UC) (h : uf_J2_init n d u t = some ((r0, ur), C)) (hret : ∀ (H : Heap) (locs : List Loc) (ls : Array Slot) (pc cells slots : Nat), decode cJ2_init pc = .ok (.return_, 1) → u_left R cells slots (u_add (0, 0) (0, 0)) → u_I D A s.heap ur H locs cells → W p l e R s m args below meth c H locs cells slots Q (F0 m pc ls [])) : ∀ (H : Heap) (locs : List Loc) (ls : Array Slot) (cells slots : Nat), u_left R cells slots (u_add C (0, 0)) → u_I D A s.heap u H locs cells → lv_has ls 1 [(0, .ref t)] → W p l e R s m args below meth c H locs cells slots Q (F0 m 0 ls []) := by
  intro H locs ls cells slots hC I hl
  unfold uf_J2_init at h
  refine lv_aload_n X.1 X.2.1 dJ2_init_0 rfl (lv_at hl 0 rfl) ?_
  obtain ⟨r2, u3, C4, C5, e1, z6, h, hq⟩ := u_bcS h
  rw [hq] at hC
  refine u_callI X hl.1 I hA (As := []) (rest := []) (uk_J1_init l n D d u t _ _ e1) z6 0 q152 q153 q104 q154 rfl uh_J1_init.2 rfl rfl ⟨Nat.le_trans (Nat.le_of_ble_eq_true rfl) hR.1, Nat.le_trans (Nat.le_of_ble_eq_true rfl) hR.2⟩ hC (Nat.le_of_ble_eq_true rfl) dJ2_init_1 (fun H locs cells slots hC I => ?_)
  refine lv_aload_n X.1 X.2.1 dJ2_init_4 rfl (lv_at hl 0 rfl) ?_
  refine u_gs0 X I q159 dJ2_init_5 ?_
  obtain ⟨w7, e8, h⟩ := m_bS h
  refine u_P X I e8 (C := RJ2) (T := TJ2) (N := 3) (ref := "java/util/ArrayList") in_J2 tyJ2 tyJ2_ok nmJ2 rfl (by decide) rfl rfl q161 (fun _ h => h) rfl rfl rfl dJ2_init_8 (fun H locs I => ?_)
  obtain ⟨he, rfl⟩ := m_e3 h
  obtain ⟨rfl, rfl⟩ := m_e4 he
  exact hret H locs ls 11 _ _ dJ2_init_11 hC I
end S_J2_init
theorem uk_J2_init (l : Launch) (n : Nat) (D : va_G) (d : UD) (u : UM) (t : Nat) (ur : UM) (C : UC) (h : uf_J2_init n d u t = some (((), ur), C)) : u_M l yJ2_init (ws_ yJ2_init cJ2_init 1 none) 3 60 C D d u [.ref t] none ur :=
  u_start (own := RJ2) (lvl := [(0, .ref t)]) (by decide) rfl (Nat.le_of_ble_eq_true rfl) rfl (fun p e s m args below meth c ls X hr hlk hI hl hA I hC => uw_J2_init X hA ⟨Nat.le_refl _, Nat.le_refl _⟩ hI n u t () ur C h (fun H locs ls pc cells slots hd hC I => u_vret X I hr hlk (u_leftE hC) hd) _ _ ls _ _ hC I hl)

/-! java/util/ArrayList.size()I -/
def uf_J2_size (n : Nat) (d : UD) (u : UM) (t : Nat) : Option Int32 :=
  m_b (u_fi d u 13 2 t) (fun b1 => some b1)
theorem uh_J2_size : yJ2_size.cls = RJ2 ∧ yJ2_size.cls ≠ "java/lang/invoke/MethodHandle" ∧ yJ2_size.cls ≠ "java/lang/invoke/VarHandle" ∧ (parseMethodDescriptor yJ2_size.desc).map (fun d => d.parameters.length) = some 0 := by decide +kernel
section S_J2_size
variable {p : Program} {l : Launch} {e : Env} {R : Room} {s : State} {m : MethodId} {args : Array Value} {below : List Frame} {meth : Method} {c : Code} {Q : State → Prop} {D : va_G} {A : Nat → Prop} {d : UD} {cells slots : Nat}
theorem uw_J2_size (X : u_X RJ2 D A d p s m c cJ2_size 1 args) (hA : ∀ q, s.heap.size ≤ q → A q) (hR : 0 ≤ R.frames ∧ 0 ≤ R.locals) (hf : cells ≤ R.cells ∧ slots ≤ R.slots) (n : Nat) (u : UM) (t : Nat) (r : Int32) (h : uf_J2_size n d u t = some r) (hret : ∀ (H : Heap) (locs : List Loc) (ls : Array Slot) (pc : Nat), decode cJ2_size pc = .ok (.ireturn, 1) → u_I D A s.heap u H locs cells → W p l e R s m args below meth c H locs cells slots Q (F0 m pc ls [.int r])) : ∀ (H : Heap) (locs : List Loc) (ls : Array Slot), u_I D A s.heap u H locs cells → lv_has ls 1 [(0, .ref t)] → W p l e R s m args below meth c H locs cells slots Q (F0 m 0 ls []) := by
  intro H locs ls I hl
  unfold uf_J2_size at h
  refine lv_aload_n X.1 X.2.1 dJ2_size_0 rfl (lv_at hl 0 rfl) ?_
  obtain ⟨b1, e2, h⟩ := m_bS h
  refine u_Gi X I e2 (C := RJ2) (T := TJ2) (N := 3) (ref := "java/util/ArrayList") in_J2 rfl (by decide) rfl rfl q162 (fun _ h => h) dJ2_size_1 ?_
  obtain rfl := m_e1 h
  exact hret H locs ls 4 dJ2_size_4 I
end S_J2_size
theorem uk_J2_size (l : Launch) (n : Nat) (D : va_G) (d : UD) (u : UM) (t : Nat) (r : Int32) (h : uf_J2_size n d u t = some r) : u_M l yJ2_size (ws_ yJ2_size cJ2_size 1 (some .int)) 0 0 (0, 0) D d u [.ref t] (some (.int r)) u :=
  u_start (own := RJ2) (lvl := [(0, .ref t)]) (by decide) rfl (Nat.le_of_ble_eq_true rfl) rfl (fun p e s m args below meth c ls X hr hlk hI hl hA I hC => uw_J2_size X hA ⟨Nat.le_refl _, Nat.le_refl _⟩ ⟨Nat.zero_le _, Nat.zero_le _⟩ n u t r h (fun H locs ls pc hd I => u_iret X I hr hlk ⟨rfl, rfl⟩ hd) _ _ ls I hl)

/-! java/util/ArrayList.elementData(I)Ljava/lang/Object; -/
def uf_J2_elementData (n : Nat) (d : UD) (u : UM) (t : Nat) (p0 : Int32) : Option Nat :=
  m_b (u_fr d u 13 1 t) (fun b1 => m_b (u_ldR d u b1 p0) (fun b3 => some b3))
theorem uh_J2_elementData : yJ2_elementData.cls = RJ2 ∧ yJ2_elementData.cls ≠ "java/lang/invoke/MethodHandle" ∧ yJ2_elementData.cls ≠ "java/lang/invoke/VarHandle" ∧ (parseMethodDescriptor yJ2_elementData.desc).map (fun d => d.parameters.length) = some 1 := by decide +kernel
section S_J2_elementData
variable {p : Program} {l : Launch} {e : Env} {R : Room} {s : State} {m : MethodId} {args : Array Value} {below : List Frame} {meth : Method} {c : Code} {Q : State → Prop} {D : va_G} {A : Nat → Prop} {d : UD} {cells slots : Nat}
theorem uw_J2_elementData (X : u_X RJ2 D A d p s m c cJ2_elementData 2 args) (hA : ∀ q, s.heap.size ≤ q → A q) (hR : 0 ≤ R.frames ∧ 0 ≤ R.locals) (hf : cells ≤ R.cells ∧ slots ≤ R.slots) (n : Nat) (u : UM) (t : Nat) (p0 : Int32) (r : Nat) (h : uf_J2_elementData n d u t p0 = some r) (hret : ∀ (H : Heap) (locs : List Loc) (ls : Array Slot) (pc : Nat), decode cJ2_elementData pc = .ok (.areturn, 1) → u_I D A s.heap u H locs cells → W p l e R s m args below meth c H locs cells slots Q (F0 m pc ls [.ref r])) : ∀ (H : Heap) (locs : List Loc) (ls : Array Slot), u_I D A s.heap u H locs cells → lv_has ls 2 [(0, .ref t), (1, .int p0)] → W p l e R s m args below meth c H locs cells slots Q (F0 m 0 ls []) := by
  intro H locs ls I hl
  unfold uf_J2_elementData at h
  refine lv_aload_n X.1 X.2.1 dJ2_elementData_0 rfl (lv_at hl 0 rfl) ?_
  obtain ⟨b1, e2, h⟩ := m_bS h
  refine u_Gr X I e2 (C := RJ2) (T := TJ2) (N := 3) (ref := "java/util/ArrayList") in_J2 rfl (by decide) rfl rfl q161 (fun _ h => h) dJ2_elementData_1 ?_
  refine lv_iload_n X.1 X.2.1 dJ2_elementData_4 rfl (lv_at hl 1 rfl) ?_
  obtain ⟨b3, e4, h⟩ := m_bS h
  refine u_LR X I e4 dJ2_elementData_5 ?_
  obtain rfl := m_e1 h
  exact hret H locs ls 6 dJ2_elementData_6 I
end S_J2_elementData
theorem uk_J2_elementData (l : Launch) (n : Nat) (D : va_G) (d : UD) (u : UM) (t : Nat) (p0 : Int32) (r : Nat) (h : uf_J2_elementData n d u t p0 = some r) : u_M l yJ2_elementData (ws_ yJ2_elementData cJ2_elementData 2 (some (.object "java/lang/Object"))) 0 0 (0, 0) D d u [.ref t, .int p0] (some (.ref r)) u :=
  u_start (own := RJ2) (lvl := [(0, .ref t), (1, .int p0)]) (by decide) rfl (Nat.le_of_ble_eq_true rfl) rfl (fun p e s m args below meth c ls X hr hlk hI hl hA I hC => uw_J2_elementData X hA ⟨Nat.le_refl _, Nat.le_refl _⟩ ⟨Nat.zero_le _, Nat.zero_le _⟩ n u t p0 r h (fun H locs ls pc hd I => u_aret (r := some r) X I hr (Or.inl ⟨_, rfl⟩) hlk ⟨rfl, rfl⟩ hd) _ _ ls I hl)

/-! java/util/ArrayList.clear()V -/
def uf_J2_clear_L27 (n : Nat) (d : UD) (v1 : Nat) (v2 : Int32) (v3 : Int32) (u : UM) : Option (((Int32 × UM) ⊕ UM) × UC) :=
  m_if ((v2 : Int32) ≤ (v3 : Int32)) (some (.inr u, (0, 0))) (m_b (u_stQ d u v1 v3 none) (fun w12 => some (.inl ((v3 + 1, (w12, u.2))), (0, 0))))
def uf_J2_clear_L27l (n : Nat) (d : UD) (v1 : Nat) (v2 : Int32) (x : (Int32 × UM)) : Option (UM × UC) := u_lp (fun (x : (Int32 × UM)) => uf_J2_clear_L27 n d v1 v2 x.1 x.2) n x
def uf_J2_clear (n : Nat) (d : UD) (u : UM) (t : Nat) : Option ((Unit × UM) × UC) :=
  m_b (u_fi d u 13 0 t) (fun b1 => m_b (u_pf u 13 0 t (.int (b1 + 1))) (fun w3 => m_b (u_fr d (w3, u.2) 13 1 t) (fun b5 => m_b (u_fi d (w3, u.2) 13 2 t) (fun b7 => m_b (u_pf (w3, u.2) 13 2 t (.int 0)) (fun w9 => u_bl (uf_J2_clear_L27l n d b5 b7 ((0, (w9, u.2)))) (fun u15 => some (((), u15), (0, 0))))))))
theorem uh_J2_clear : yJ2_clear.cls = RJ2 ∧ yJ2_clear.cls ≠ "java/lang/invoke/MethodHandle" ∧ yJ2_clear.cls ≠ "java/lang/invoke/VarHandle" ∧ (parseMethodDescriptor yJ2_clear.desc).map (fun d => d.parameters.length) = some 0 := by decide +kernel
section S_J2_clear
variable {p : Program} {l : Launch} {e : Env} {R : Room} {s : State} {m : MethodId} {args : Array Value} {below : List Frame} {meth : Method} {c : Code} {Q : State → Prop} {D : va_G} {A : Nat → Prop} {d : UD}
theorem wuf_J2_clear_L27 (X : u_X RJ2 D A d p s m c cJ2_clear 4 args) (hA : ∀ q, s.heap.size ≤ q → A q) (hR : 0 ≤ R.frames ∧ 0 ≤ R.locals) (n : Nat) (v1 : Nat) (v2 : Int32) (x : (Int32 × UM)) (z : UM) (C cr : UC) (hz : uf_J2_clear_L27l n d v1 v2 x = some (z, C)) (hE : (fun (z : UM) (C : UC) => ∀ (H : Heap) (locs : List Loc) (ls : Array Slot) (cells slots : Nat), u_left R cells slots C → u_I D A s.heap z H locs cells → lv_has ls 4 [] → W p l e R s m args below meth c H locs cells slots Q (F0 m 42 ls [])) z cr) : (fun (x : (Int32 × UM)) (C : UC) => ∀ (H : Heap) (locs : List Loc) (ls : Array Slot) (cells slots : Nat), u_left R cells slots C → u_I D A s.heap x.2 H locs cells → lv_has ls 4 [(1, .ref v1), (2, .int v2), (3, .int x.1)] → W p l e R s m args below meth c H locs cells slots Q (F0 m 27 ls [])) x (u_add C cr) := by
  refine u_lpW (G := fun (x : (Int32 × UM)) (C : UC) => ∀ (H : Heap) (locs : List Loc) (ls : Array Slot) (cells slots : Nat), u_left R cells slots C → u_I D A s.heap x.2 H locs cells → lv_has ls 4 [(1, .ref v1), (2, .int v2), (3, .int x.1)] → W p l e R s m args below meth c H locs cells slots Q (F0 m 27 ls [])) (E := fun (z : UM) (C : UC) => ∀ (H : Heap) (locs : List Loc) (ls : Array Slot) (cells slots : Nat), u_left R cells slots C → u_I D A s.heap z H locs cells → lv_has ls 4 [] → W p l e R s m args below meth c H locs cells slots Q (F0 m 42 ls [])) ?_ n x z C cr hz hE
  rintro ⟨v3, u⟩ r C cr h hr H locs ls cells slots hC I hl
  replace h : uf_J2_clear_L27 n d v1 v2 v3 u = some (r, C) := h
  unfold uf_J2_clear_L27 at h
  refine lv_iload_n X.1 X.2.1 dJ2_clear_27 rfl (lv_at hl 2 rfl) ?_
  refine lv_iload_n X.1 X.2.1 dJ2_clear_28 rfl (lv_at hl 1 rfl) ?_
  refine lv_icmp_ge (tgt := 42) X.1 X.2.1 dJ2_clear_29 (by decide) (fun c11 => ?_) (fun c11 => ?_)
  · replace h := m_ifT c11 h
    obtain ⟨rfl, rfl⟩ := m_e3 h
    exact hr H locs ls _ _ (u_left0 hC) I (lv_sub hl [] rfl)
  · replace h := m_ifF c11 h
    refine lv_aload_n X.1 X.2.1 dJ2_clear_32 rfl (lv_at hl 0 rfl) ?_
    refine lv_iload_n X.1 X.2.1 dJ2_clear_33 rfl (lv_at hl 2 rfl) ?_
    refine lv_null X.1 X.2.1 dJ2_clear_34 ?_
    obtain ⟨w12, e13, h⟩ := m_bS h
    refine u_SN X I e13 dJ2_clear_35 (fun H locs I => ?_)
    refine lv_iinc (v := v3 + 1) (lv' := [(3, .int (v3 + 1)), (1, .ref v1), (2, .int v2)]) X.1 X.2.1 dJ2_clear_36 hl (k := 2) rfl rfl (by decide) rfl (fun ls hl => ?_)
    refine lv_goto (tgt := 27) X.1 X.2.1 dJ2_clear_39 (by decide) ?_
    obtain ⟨rfl, rfl⟩ := m_e3 h
    exact hr H locs ls _ _ (u_left0 hC) I (lv_sub hl [1, 2, 0] rfl)
theorem uw_J2_clear (X : u_X RJ2 D A d p s m c cJ2_clear 4 args) (hA : ∀ q, s.heap.size ≤ q → A q) (hR : 0 ≤ R.frames ∧ 0 ≤ R.locals) (n : Nat) (u : UM) (t : Nat) (r0 : Unit) (ur : UM) (C : UC) (h : uf_J2_clear n d u t = some ((r0, ur), C)) (hret : ∀ (H : Heap) (locs : List Loc) (ls : Array Slot) (pc cells slots : Nat), decode cJ2_clear pc = .ok (.return_, 1) → u_left R cells slots (u_add (0, 0) (0, 0)) → u_I D A s.heap ur H locs cells → W p l e R s m args below meth c H locs cells slots Q (F0 m pc ls [])) : ∀ (H : Heap) (locs : List Loc) (ls : Array Slot) (cells slots : Nat), u_left R cells slots (u_add C (0, 0)) → u_I D A s.heap u H locs cells → lv_has ls 4 [(0, .ref t)] → W p l e R s m args below meth c H locs cells slots Q (F0 m 0 ls []) := by
  intro H locs ls cells slots hC I hl
  unfold uf_J2_clear at h
  refine lv_aload_n X.1 X.2.1 dJ2_clear_0 rfl (lv_at hl 0 rfl) ?_
  refine lv_dup X.1 X.2.1 dJ2_clear_1 rfl ?_
  obtain ⟨b1, e2, h⟩ := m_bS h
  refine u_Gi X I e2 (C := RJ2) (T := TJ2) (N := 3) (ref := "java/util/ArrayList") in_J2 rfl (by decide) rfl rfl q164 (u_modc X) dJ2_clear_2 ?_
  refine lv_iconst (v := 1) X.1 X.2.1 dJ2_clear_5 (by decide) ?_
  refine lv_iadd X.1 X.2.1 dJ2_clear_6 ?_
  obtain ⟨w3, e4, h⟩ := m_bS h
  refine u_P X I e4 (C := RJ2) (T := TJ2) (N := 3) (ref := "java/util/ArrayList") in_J2 tyJ2 tyJ2_ok nmJ2 rfl (by decide) rfl rfl q164 (u_modc X) rfl rfl rfl dJ2_clear_7 (fun H locs I => ?_)
  refine lv_aload_n X.1 X.2.1 dJ2_clear_10 rfl (lv_at hl 0 rfl) ?_
  obtain ⟨b5, e6, h⟩ := m_bS h
  refine u_Gr X I e6 (C := RJ2) (T := TJ2) (N := 3) (ref := "java/util/ArrayList") in_J2 rfl (by decide) rfl rfl q161 (fun _ h => h) dJ2_clear_11 ?_
  refine lv_astore_n (lv' := [(1, .ref b5), (0, .ref t)]) X.1 X.2.1 dJ2_clear_14 rfl hl (by decide) rfl (fun ls hl => ?_)
  refine lv_aload_n X.1 X.2.1 dJ2_clear_15 rfl (lv_at hl 1 rfl) ?_
  obtain ⟨b7, e8, h⟩ := m_bS h
  refine u_Gi X I e8 (C := RJ2) (T := TJ2) (N := 3) (ref := "java/util/ArrayList") in_J2 rfl (by decide) rfl rfl q162 (fun _ h => h) dJ2_clear_16 ?_
  refine lv_istore_n (lv' := [(2, .int b7), (1, .ref b5), (0, .ref t)]) X.1 X.2.1 dJ2_clear_19 rfl hl (by decide) rfl (fun ls hl => ?_)
  refine lv_aload_n X.1 X.2.1 dJ2_clear_20 rfl (lv_at hl 2 rfl) ?_
  refine lv_iconst (v := 0) X.1 X.2.1 dJ2_clear_21 (by decide) ?_
  refine lv_dup_x1 X.1 X.2.1 dJ2_clear_22 rfl rfl ?_
  obtain ⟨w9, e10, h⟩ := m_bS h
  refine u_P X I e10 (C := RJ2) (T := TJ2) (N := 3) (ref := "java/util/ArrayList") in_J2 tyJ2 tyJ2_ok nmJ2 rfl (by decide) rfl rfl q162 (fun _ h => h) rfl rfl rfl dJ2_clear_23 (fun H locs I => ?_)
  refine lv_istore_n (lv' := [(3, .int 0), (2, .int b7), (1, .ref b5), (0, .ref t)]) X.1 X.2.1 dJ2_clear_26 rfl hl (by decide) rfl (fun ls hl => ?_)
  obtain ⟨u15, C16, C17, e14, h, hq⟩ := u_blS h
  rw [hq] at hC
  refine wuf_J2_clear_L27 X hA hR n b5 b7 _ _ _ _ e14 (fun H locs ls cells slots hC I hl => ?_) H locs ls _ _ (u_left2 hC) I (lv_sub hl [2, 1, 0] rfl)
  obtain ⟨he, rfl⟩ := m_e3 h
  obtain ⟨rfl, rfl⟩ := m_e4 he
  exact hret H locs ls 42 _ _ dJ2_clear_42 hC I
end S_J2_clear
theorem uk_J2_clear (l : Launch) (n : Nat) (D : va_G) (d : UD) (u : UM) (t : Nat) (ur : UM) (C : UC) (h : uf_J2_clear n d u t = some (((), ur), C)) : u_M l yJ2_clear (ws_ yJ2_clear cJ2_clear 4 none) 0 0 C D d u [.ref t] none ur :=
  u_start (own := RJ2) (lvl := [(0, .ref t)]) (by decide) rfl (Nat.le_of_ble_eq_true rfl) rfl (fun p e s m args below meth c ls X hr hlk hI hl hA I hC => uw_J2_clear X hA ⟨Nat.le_refl _, Nat.le_refl _⟩ n u t () ur C h (fun H locs ls pc cells slots hd hC I => u_vret X I hr hlk (u_leftE hC) hd) _ _ ls _ _ hC I hl)

/-! java/util/ArrayList.fastRemove([Ljava/lang/Object;I)V -/
def uf_J2_fastRemove_J34 (n : Nat) (d : UD) (u : UM) (v0 : Nat) (v1 : Nat) (v3 : Int32) : Option ((Unit × UM) × UC) :=
  m_b (u_pf u 13 2 v0 (.int v3)) (fun w8 => m_b (u_stQ d (w8, u.2) v1 v3 none) (fun w10 => some (((), (w10, u.2)), (0, 0))))
def uf_J2_fastRemove (n : Nat) (d : UD) (u : UM) (t : Nat) (p0 : Nat) (p1 : Int32) : Option ((Unit × UM) × UC) :=
  m_b (u_fi d u 13 0 t) (fun b1 => m_b (u_pf u 13 0 t (.int (b1 + 1))) (fun w3 => m_b (u_fi d (w3, u.2) 13 2 t) (fun b5 => m_if ((b5 - 1 : Int32) ≤ (p1 : Int32)) (uf_J2_fastRemove_J34 n d (w3, u.2) t p0 (b5 - 1)) (m_b (u_xcQ d (w3, u.2) p0 (p1 + 1) p0 p1 ((b5 - 1) - p1)) (fun w12 => uf_J2_fastRemove_J34 n d (w12, u.2) t p0 (b5 - 1))))))
theorem uh_J2_fastRemove : yJ2_fastRemove.cls = RJ2 ∧ yJ2_fastRemove.cls ≠ "java/lang/invoke/MethodHandle" ∧ yJ2_fastRemove.cls ≠ "java/lang/invoke/VarHandle" ∧ (parseMethodDescriptor yJ2_fastRemove.desc).map (fun d => d.parameters.length) = some 2 := by decide +kernel
section S_J2_fastRemove
variable {p : Program} {l : Launch} {e : Env} {R : Room} {s : State} {m : MethodId} {args : Array Value} {below : List Frame} {meth : Method} {c : Code} {Q : State → Prop} {D : va_G} {A : Nat → Prop} {d : UD}
theorem uw_J2_fastRemove (X : u_X RJ2 D A d p s m c cJ2_fastRemove 4 args) (hA : ∀ q, s.heap.size ≤ q → A q) (hR : 1 ≤ R.frames ∧ 60 ≤ R.locals) (n : Nat) (u : UM) (t : Nat) (p0 : Nat) (p1 : Int32) (r0 : Unit) (ur : UM) (C : UC) (h : uf_J2_fastRemove n d u t p0 p1 = some ((r0, ur), C)) (hret : ∀ (H : Heap) (locs : List Loc) (ls : Array Slot) (pc cells slots : Nat), decode cJ2_fastRemove pc = .ok (.return_, 1) → u_left R cells slots (u_add (0, 0) (0, 0)) → u_I D A s.heap ur H locs cells → W p l e R s m args below meth c H locs cells slots Q (F0 m pc ls [])) : ∀ (H : Heap) (locs : List Loc) (ls : Array Slot) (cells slots : Nat), u_left R cells slots (u_add C (0, 0)) → u_I D A s.heap u H locs cells → lv_has ls 4 [(0, .ref t), (1, .ref p0), (2, .int p1)] → W p l e R s m args below meth c H locs cells slots Q (F0 m 0 ls []) := by
  have k34 : ∀ (u : UM) (v0 : Nat) (v1 : Nat) (v3 : Int32) (H : Heap) (locs : List Loc) (ls : Array Slot) (cells slots : Nat) (C : UC), uf_J2_fastRemove_J34 n d u v0 v1 v3 = some ((r0, ur), C) → u_left R cells slots (u_add C (0, 0)) → u_I D A s.heap u H locs cells → lv_has ls 4 [(0, .ref v0), (1, .ref v1), (3, .int v3)] → W p l e R s m args below meth c H locs cells slots Q (F0 m 34 ls []) := by
    intro u v0 v1 v3 H locs ls cells slots C h hC I hl
    unfold uf_J2_fastRemove_J34 at h
    refine lv_aload_n X.1 X.2.1 dJ2_fastRemove_34 rfl (lv_at hl 1 rfl) ?_
    refine lv_aload_n X.1 X.2.1 dJ2_fastRemove_35 rfl (lv_at hl 0 rfl) ?_
    refine lv_iload_n X.1 X.2.1 dJ2_fastRemove_36 rfl (lv_at hl 2 rfl) ?_
    refine lv_dup_x1 X.1 X.2.1 dJ2_fastRemove_37 rfl rfl ?_
    obtain ⟨w8, e9, h⟩ := m_bS h
    refine u_P X I e9 (C := RJ2) (T := TJ2) (N := 3) (ref := "java/util/ArrayList") in_J2 tyJ2 tyJ2_ok nmJ2 rfl (by decide) rfl rfl q162 (fun _ h => h) rfl rfl rfl dJ2_fastRemove_38 (fun H locs I => ?_)
    refine lv_null X.1 X.2.1 dJ2_fastRemove_41 ?_
    obtain ⟨w10, e11, h⟩ := m_bS h
    refine u_SN X I e11 dJ2_fastRemove_42 (fun H locs I => ?_)
    obtain ⟨he, rfl⟩ := m_e3 h
    obtain ⟨rfl, rfl⟩ := m_e4 he
    exact hret H locs ls 43 _ _ dJ2_fastRemove_43 hC I
  intro H locs ls cells slots hC I hl
  unfold uf_J2_fastRemove at h
  refine lv_aload_n X.1 X.2.1 dJ2_fastRemove_0 rfl (lv_at hl 0 rfl) ?_
  refine lv_dup X.1 X.2.1 dJ2_fastRemove_1 rfl ?_
  obtain ⟨b1, e2, h⟩ := m_bS h
  refine u_Gi X I e2 (C := RJ2) (T := TJ2) (N := 3) (ref := "java/util/ArrayList") in_J2 rfl (by decide) rfl rfl q164 (u_modc X) dJ2_fastRemove_2 ?_
  refine lv_iconst (v := 1) X.1 X.2.1 dJ2_fastRemove_5 (by decide) ?_
  refine lv_iadd X.1 X.2.1 dJ2_fastRemove_6 ?_
  obtain ⟨w3, e4, h⟩ := m_bS h
  refine u_P X I e4 (C := RJ2) (T := TJ2) (N := 3) (ref := "java/util/ArrayList") in_J2 tyJ2 tyJ2_ok nmJ2 rfl (by decide) rfl rfl q164 (u_modc X) rfl rfl rfl dJ2_fastRemove_7 (fun H locs I => ?_)
  refine lv_aload_n X.1 X.2.1 dJ2_fastRemove_10 rfl (lv_at hl 0 rfl) ?_
  obtain ⟨b5, e6, h⟩ := m_bS h
  refine u_Gi X I e6 (C := RJ2) (T := TJ2) (N := 3) (ref := "java/util/ArrayList") in_J2 rfl (by decide) rfl rfl q162 (fun _ h => h) dJ2_fastRemove_11 ?_
  refine lv_iconst (v := 1) X.1 X.2.1 dJ2_fastRemove_14 (by decide) ?_
  refine lv_isub X.1 X.2.1 dJ2_fastRemove_15 ?_
  refine lv_dup X.1 X.2.1 dJ2_fastRemove_16 rfl ?_
  refine lv_istore_n (lv' := [(3, .int (b5 - 1)), (0, .ref t), (1, .ref p0), (2, .int p1)]) X.1 X.2.1 dJ2_fastRemove_17 rfl hl (by decide) rfl (fun ls hl => ?_)
  refine lv_iload_n X.1 X.2.1 dJ2_fastRemove_18 rfl (lv_at hl 3 rfl) ?_
  refine lv_icmp_le (tgt := 34) X.1 X.2.1 dJ2_fastRemove_19 (by decide) (fun c7 => ?_) (fun c7 => ?_)
  · replace h := m_ifT c7 h
    exact k34 (w3, u.2) t p0 (b5 - 1) H locs ls _ _ _ h hC I (lv_sub hl [1, 2, 0] rfl)
  · replace h := m_ifF c7 h
    refine lv_aload_n X.1 X.2.1 dJ2_fastRemove_22 rfl (lv_at hl 2 rfl) ?_
    refine lv_iload_n X.1 X.2.1 dJ2_fastRemove_23 rfl (lv_at hl 3 rfl) ?_
    refine lv_iconst (v := 1) X.1 X.2.1 dJ2_fastRemove_24 (by decide) ?_
    refine lv_iadd X.1 X.2.1 dJ2_fastRemove_25 ?_
    refine lv_aload_n X.1 X.2.1 dJ2_fastRemove_26 rfl (lv_at hl 2 rfl) ?_
    refine lv_iload_n X.1 X.2.1 dJ2_fastRemove_27 rfl (lv_at hl 3 rfl) ?_
    refine lv_iload_n X.1 X.2.1 dJ2_fastRemove_28 rfl (lv_at hl 0 rfl) ?_
    refine lv_iload_n X.1 X.2.1 dJ2_fastRemove_29 rfl (lv_at hl 3 rfl) ?_
    refine lv_isub X.1 X.2.1 dJ2_fastRemove_30 ?_
    obtain ⟨w12, e13, h⟩ := m_bS h
    refine u_CQ X hl.1 I q892 q405 q404 q116 e13 (Nat.le_trans (Nat.le_of_ble_eq_true rfl) hR.1) (Nat.le_trans (Nat.le_of_ble_eq_true rfl) hR.2) (Nat.le_of_ble_eq_true rfl) dJ2_fastRemove_31 (fun H locs I => ?_)
    exact k34 (w12, u.2) t p0 (b5 - 1) H locs ls _ _ _ h hC I (lv_sub hl [1, 2, 0] rfl)
end S_J2_fastRemove
theorem uk_J2_fastRemove (l : Launch) (n : Nat) (D : va_G) (d : UD) (u : UM) (t : Nat) (p0 : Nat) (p1 : Int32) (ur : UM) (C : UC) (h : uf_J2_fastRemove n d u t p0 p1 = some (((), ur), C)) : u_M l yJ2_fastRemove (ws_ yJ2_fastRemove cJ2_fastRemove 4 none) 1 60 C D d u [.ref t, .ref p0, .int p1] none ur :=
  u_start (own := RJ2) (lvl := [(0, .ref t), (1, .ref p0), (2, .int p1)]) (by decide) rfl (Nat.le_of_ble_eq_true rfl) rfl (fun p e s m args below meth c ls X hr hlk hI hl hA I hC => uw_J2_fastRemove X hA ⟨Nat.le_refl _, Nat.le_refl _⟩ n u t p0 p1 () ur C h (fun H locs ls pc cells slots hd hC I => u_vret X I hr hlk (u_leftE hC) hd) _ _ ls _ _ hC I hl)

/-! java/util/ArrayList.isEmpty()Z -/
def uf_J2_isEmpty_J12 (n : Nat) (d : UD) (u : UM) (t0 : Int32) : Option Int32 :=
  m_g (m_01 t0) (some t0)
def uf_J2_isEmpty (n : Nat) (d : UD) (u : UM) (t : Nat) : Option Int32 :=
  m_b (u_fi d u 13 2 t) (fun b1 => m_if ((b1 : Int32) = 0) (uf_J2_isEmpty_J12 n d u 1) (uf_J2_isEmpty_J12 n d u 0))
theorem uh_J2_isEmpty : yJ2_isEmpty.cls = RJ2 ∧ yJ2_isEmpty.cls ≠ "java/lang/invoke/MethodHandle" ∧ yJ2_isEmpty.cls ≠ "java/lang/invoke/VarHandle" ∧ (parseMethodDescriptor yJ2_isEmpty.desc).map (fun d => d.parameters.length) = some 0 := by decide +kernel
section S_J2_isEmpty
variable {p : Program} {l : Launch} {e : Env} {R : Room} {s : State} {m : MethodId} {args : Array Value} {below : List Frame} {meth : Method} {c : Code} {Q : State → Prop} {D : va_G} {A : Nat → Prop} {d : UD} {cells slots : Nat}
theorem uw_J2_isEmpty (X : u_X RJ2 D A d p s m c cJ2_isEmpty 1 args) (hA : ∀ q, s.heap.size ≤ q → A q) (hR : 0 ≤ R.frames ∧ 0 ≤ R.locals) (hf : cells ≤ R.cells ∧ slots ≤ R.slots) (n : Nat) (u : UM) (t : Nat) (r : Int32) (h : uf_J2_isEmpty n d u t = some r) (hret : ∀ (H : Heap) (locs : List Loc) (ls : Array Slot) (pc : Nat), m_01 r = true → decode cJ2_isEmpty pc = .ok (.ireturn, 1) → u_I D A s.heap u H locs cells → W p l e R s m args below meth c H locs cells slots Q (F0 m pc ls [.int r])) : ∀ (H : Heap) (locs : List Loc) (ls : Array Slot), u_I D A s.heap u H locs cells → lv_has ls 1 [(0, .ref t)] → W p l e R s m args below meth c H locs cells slots Q (F0 m 0 ls []) := by
  have k12 : ∀ (t0 : Int32) (H : Heap) (locs : List Loc) (ls : Array Slot), uf_J2_isEmpty_J12 n d u t0 = some r → u_I D A s.heap u H locs cells → lv_has ls 1 [] → W p l e R s m args below meth c H locs cells slots Q (F0 m 12 ls [.int t0]) := by
    intro t0 H locs ls h I hl
    unfold uf_J2_isEmpty_J12 at h
    obtain ⟨g4, h⟩ := m_gS h
    obtain rfl := m_e1 h
    exact hret H locs ls 12 g4 dJ2_isEmpty_12 I
  intro H locs ls I hl
  unfold uf_J2_isEmpty at h
  refine lv_aload_n X.1 X.2.1 dJ2_isEmpty_0 rfl (lv_at hl 0 rfl) ?_
  obtain ⟨b1, e2, h⟩ := m_bS h
  refine u_Gi X I e2 (C := RJ2) (T := TJ2) (N := 3) (ref := "java/util/ArrayList") in_J2 rfl (by decide) rfl rfl q162 (fun _ h => h) dJ2_isEmpty_1 ?_
  refine lv_if_ne (tgt := 11) X.1 X.2.1 dJ2_isEmpty_4 (by decide) (fun c3 => ?_) (fun c3 => ?_)
  · replace h := m_ifF c3 h
    refine lv_iconst (v := 0) X.1 X.2.1 dJ2_isEmpty_11 (by decide) ?_
    exact k12 0 H locs ls h I (lv_sub hl [] rfl)
  · replace h := m_ifT c3 h
    refine lv_iconst (v := 1) X.1 X.2.1 dJ2_isEmpty_7 (by decide) ?_
    refine lv_goto (tgt := 12) X.1 X.2.1 dJ2_isEmpty_8 (by decide) ?_
    exact k12 1 H locs ls h I (lv_sub hl [] rfl)
end S_J2_isEmpty
theorem uk_J2_isEmpty (l : Launch) (n : Nat) (D : va_G) (d : UD) (u : UM) (t : Nat) (r : Int32) (h : uf_J2_isEmpty n d u t = some r) : u_M l yJ2_isEmpty (ws_ yJ2_isEmpty cJ2_isEmpty 1 (some .boolean)) 0 0 (0, 0) D d u [.ref t] (some (.int r)) u :=
  u_start (own := RJ2) (lvl := [(0, .ref t)]) (by decide) rfl (Nat.le_of_ble_eq_true rfl) rfl (fun p e s m args below meth c ls X hr hlk hI hl hA I hC => uw_J2_isEmpty X hA ⟨Nat.le_refl _, Nat.le_refl _⟩ ⟨Nat.zero_le _, Nat.zero_le _⟩ n u t r h (fun H locs ls pc g hd I => u_zret X I hr hlk g ⟨rfl, rfl⟩ hd) _ _ ls I hl)

/-! java/lang/AbstractStringBuilder.<init>(I)V -/
def uf_J3_init_J38 (n : Nat) (d : UD) (u : UM) : Option ((Unit × UM) × UC) :=
  some (((), u), (0, 0))
def uf_J3_init (n : Nat) (d : UD) (u : UM) (t : Nat) (p0 : Int32) : Option ((Unit × UM) × UC) :=
  m_if ((1 : Int32) = 0) (none) (m_g (u_ln p0) (u_ac (1, (p0 : Int32).toNatClampNeg) (m_b (some (u_nw u (.inl (d.1 2, (p0 : Int32).toNatClampNeg, .inl (fun _ => 0))))) (fun u3 => m_b (u_pf u3 14 0 t (.ref u.2)) (fun w6 => m_g (m_01 0) (m_b (u_pf (w6, u3.2) 14 1 t (.int 0)) (fun w9 => uf_J3_init_J38 n d (w9, u3.2) )))))))
theorem uh_J3_init : yJ3_init.cls = RJ3 ∧ yJ3_init.cls ≠ "java/lang/invoke/MethodHandle" ∧ yJ3_init.cls ≠ "java/lang/invoke/VarHandle" ∧ (parseMethodDescriptor yJ3_init.desc).map (fun d => d.parameters.length) = some 1 := by decide +kernel
section S_J3_init
variable {p : Program} {l : Launch} {e : Env} {R : Room} {s : State} {m : MethodId} {args : Array Value} {below : List Frame} {meth : Method} {c : Code} {Q : State → Prop} {D : va_G} {A : Nat → Prop} {d : UD}
theorem uw_J3_init (X : u_X RJ3 D A d p s m c cJ3_init 2 args) (hA : ∀ q, s.heap.size ≤ q → A q) (hR : 1 ≤ R.frames ∧ 20 ≤ R.locals) (hI : meth.name = "<init>") (n : Nat) (u : UM) (t : Nat) (p0 : Int32) (r0 : Unit) (ur : UM) (C : UC) (h : uf_J3_init n d u t p0 = some ((r0, ur), C)) (hret : ∀ (H : Heap) (locs : List Loc) (ls : Array Slot) (pc cells slots : Nat), decode cJ3_init pc = .ok (.return_, 1) → u_left R cells slots (u_add (0, 0) (0, 0)) → u_I D A s.heap ur H locs cells → W p l e R s m args below meth c H locs cells slots Q (F0 m pc ls [])) : ∀ (H : Heap) (locs : List Loc) (ls : Array Slot) (cells slots : Nat), u_left R cells slots (u_add C (0, 0)) → u_I D A s.heap u H locs cells → lv_has ls 2 [(0, .ref t), (1, .int p0)] → W p l e R s m args below meth c H locs cells slots Q (F0 m 0 ls []) := by
  have k38 : ∀ (u : UM) (H : Heap) (locs : List Loc) (ls : Array Slot) (cells slots : Nat) (C : UC), uf_J3_init_J38 n d u = some ((r0, ur), C) → u_left R cells slots (u_add C (0, 0)) → u_I D A s.heap u H locs cells → lv_has ls 2 [] → W p l e R s m args below meth c H locs cells slots Q (F0 m 38 ls []) := by
    intro u H locs ls cells slots C h hC I hl
    unfold uf_J3_init_J38 at h
    obtain ⟨he, rfl⟩ := m_e3 h
    obtain ⟨rfl, rfl⟩ := m_e4 he
    exact hret H locs ls 38 _ _ dJ3_init_38 hC I
  intro H locs ls cells slots hC I hl
  unfold uf_J3_init at h
  refine lv_aload_n X.1 X.2.1 dJ3_init_0 rfl (lv_at hl 0 rfl) ?_
  refine u_obj X hl.1 q341 q139 q140 (Nat.le_trans (Nat.le_of_ble_eq_true rfl) hR.1) (Nat.le_trans (Nat.le_of_ble_eq_true rfl) hR.2) (Nat.le_of_ble_eq_true rfl) dJ3_init_1 ?_
  refine u_gsI X I 0 rfl q342 dJ3_init_4 ?_
  refine lv_if_eq (tgt := 25) X.1 X.2.1 dJ3_init_7 (by decide) (fun c1 => ?_) (fun c1 => ?_)
  · replace h := m_ifT c1 h
    refine lv_aload_n X.1 X.2.1 dJ3_init_25 rfl (lv_at hl 0 rfl) ?_
    refine lv_iload_n X.1 X.2.1 dJ3_init_26 rfl (lv_at hl 1 rfl) ?_
    cases h
  · replace h := m_ifF c1 h
    refine lv_aload_n X.1 X.2.1 dJ3_init_10 rfl (lv_at hl 0 rfl) ?_
    refine lv_iload_n X.1 X.2.1 dJ3_init_11 rfl (lv_at hl 1 rfl) ?_
    obtain ⟨g4, h⟩ := m_gS h
    obtain ⟨C2, h, hq⟩ := u_acS h
    rw [hq] at hC
    obtain ⟨u3, e5, h⟩ := m_bS h
    refine u_NP X I hA 2 (atype := .byte) rfl q265 (x := (_, .inl (fun _ => 0))) (fun _ => rfl) (by decide) g4 e5 hC dJ3_init_12 (fun H cells slots hC I => ?_)
    obtain ⟨w6, e7, h⟩ := m_bS h
    refine u_P X I e7 (C := RJ4) (T := TJ4) (N := 4) (ref := "java/lang/AbstractStringBuilder") in_J4 tyJ4 tyJ4_ok nmJ4 rfl (by decide) rfl rfl q351 (fun _ h => h) rfl rfl rfl dJ3_init_14 (fun H locs I => ?_)
    refine lv_aload_n X.1 X.2.1 dJ3_init_17 rfl (lv_at hl 0 rfl) ?_
    refine lv_iconst (v := 0) X.1 X.2.1 dJ3_init_18 (by decide) ?_
    obtain ⟨g8, h⟩ := m_gS h
    obtain ⟨w9, e10, h⟩ := m_bS h
    refine u_P X I e10 (C := RJ4) (T := TJ4) (N := 4) (ref := "java/lang/AbstractStringBuilder") in_J4 tyJ4 tyJ4_ok nmJ4 rfl (by decide) rfl rfl q352 (fun _ h => h) rfl (u_01b g8) (u_01f g8) dJ3_init_19 (fun H locs I => ?_)
    refine lv_goto (tgt := 38) X.1 X.2.1 dJ3_init_22 (by decide) ?_
    exact k38 (w9, u3.2) H locs ls _ _ _ h hC I (lv_sub hl [] rfl)
end S_J3_init
theorem uk_J3_init (l : Launch) (n : Nat) (D : va_G) (d : UD) (u : UM) (t : Nat) (p0 : Int32) (ur : UM) (C : UC) (h : uf_J3_init n d u t p0 = some (((), ur), C)) : u_M l yJ3_init (ws_ yJ3_init cJ3_init 2 none) 1 20 C D d u [.ref t, .int p0] none ur :=
  u_start (own := RJ3) (lvl := [(0, .ref t), (1, .int p0)]) (by decide) rfl (Nat.le_of_ble_eq_true rfl) rfl (fun p e s m args below meth c ls X hr hlk hI hl hA I hC => uw_J3_init X hA ⟨Nat.le_refl _, Nat.le_refl _⟩ hI n u t p0 () ur C h (fun H locs ls pc cells slots hd hC I => u_vret X I hr hlk (u_leftE hC) hd) _ _ ls _ _ hC I hl)

/-! java/lang/AbstractStringBuilder.isLatin1()Z -/
def uf_J3_isLatin1_J18 (n : Nat) (d : UD) (u : UM) (t0 : Int32) : Option Int32 :=
  m_g (m_01 t0) (some t0)
def uf_J3_isLatin1_J17 (n : Nat) (d : UD) (u : UM) : Option Int32 :=
  uf_J3_isLatin1_J18 n d u 0
def uf_J3_isLatin1 (n : Nat) (d : UD) (u : UM) (t : Nat) : Option Int32 :=
  m_if ((1 : Int32) = 0) (uf_J3_isLatin1_J17 n d u ) (m_b (u_fi d u 14 1 t) (fun b3 => m_if ((b3 : Int32) = 0) (uf_J3_isLatin1_J18 n d u 1) (uf_J3_isLatin1_J17 n d u )))
theorem uh_J3_isLatin1 : yJ3_isLatin1.cls = RJ3 ∧ yJ3_isLatin1.cls ≠ "java/lang/invoke/MethodHandle" ∧ yJ3_isLatin1.cls ≠ "java/lang/invoke/VarHandle" ∧ (parseMethodDescriptor yJ3_isLatin1.desc).map (fun d => d.parameters.length) = some 0 := by decide +kernel
section S_J3_isLatin1
variable {p : Program} {l : Launch} {e : Env} {R : Room} {s : State} {m : MethodId} {args : Array Value} {below : List Frame} {meth : Method} {c : Code} {Q : State → Prop} {D : va_G} {A : Nat → Prop} {d : UD} {cells slots : Nat}
theorem uw_J3_isLatin1 (X : u_X RJ3 D A d p s m c cJ3_isLatin1 1 args) (hA : ∀ q, s.heap.size ≤ q → A q) (hR : 0 ≤ R.frames ∧ 0 ≤ R.locals) (hf : cells ≤ R.cells ∧ slots ≤ R.slots) (n : Nat) (u : UM) (t : Nat) (r : Int32) (h : uf_J3_isLatin1 n d u t = some r) (hret : ∀ (H : Heap) (locs : List Loc) (ls : Array Slot) (pc : Nat), m_01 r = true → decode cJ3_isLatin1 pc = .ok (.ireturn, 1) → u_I D A s.heap u H locs cells → W p l e R s m args below meth c H locs cells slots Q (F0 m pc ls [.int r])) : ∀ (H : Heap) (locs : List Loc) (ls : Array Slot), u_I D A s.heap u H locs cells → lv_has ls 1 [(0, .ref t)] → W p l e R s m args below meth c H locs cells slots Q (F0 m 0 ls []) := by
  have k18 : ∀ (t0 : Int32) (H : Heap) (locs : List Loc) (ls : Array Slot), uf_J3_isLatin1_J18 n d u t0 = some r → u_I D A s.heap u H locs cells → lv_has ls 1 [] → W p l e R s m args below meth c H locs cells slots Q (F0 m 18 ls [.int t0]) := by
    intro t0 H locs ls h I hl
    unfold uf_J3_isLatin1_J18 at h
    obtain ⟨g2, h⟩ := m_gS h
    obtain rfl := m_e1 h
    exact hret H locs ls 18 g2 dJ3_isLatin1_18 I
  have k17 : ∀  (H : Heap) (locs : List Loc) (ls : Array Slot), uf_J3_isLatin1_J17 n d u = some r → u_I D A s.heap u H locs cells → lv_has ls 1 [] → W p l e R s m args below meth c H locs cells slots Q (F0 m 17 ls []) := by
    intro  H locs ls h I hl
    unfold uf_J3_isLatin1_J17 at h
    refine lv_iconst (v := 0) X.1 X.2.1 dJ3_isLatin1_17 (by decide) ?_
    exact k18 0 H locs ls h I (lv_sub hl [] rfl)
  intro H locs ls I hl
  unfold uf_J3_isLatin1 at h
  refine u_gsI X I 0 rfl q342 dJ3_isLatin1_0 ?_
  refine lv_if_eq (tgt := 17) X.1 X.2.1 dJ3_isLatin1_3 (by decide) (fun c1 => ?_) (fun c1 => ?_)
  · replace h := m_ifT c1 h
    exact k17  H locs ls h I (lv_sub hl [] rfl)
  · replace h := m_ifF c1 h
    refine lv_aload_n X.1 X.2.1 dJ3_isLatin1_6 rfl (lv_at hl 0 rfl) ?_
    obtain ⟨b3, e4, h⟩ := m_bS h
    refine u_Gi X I e4 (C := RJ4) (T := TJ4) (N := 4) (ref := "java/lang/AbstractStringBuilder") in_J4 rfl (by decide) rfl rfl q352 (fun _ h => h) dJ3_isLatin1_7 ?_
    refine lv_if_ne (tgt := 17) X.1 X.2.1 dJ3_isLatin1_10 (by decide) (fun c5 => ?_) (fun c5 => ?_)
    · replace h := m_ifF c5 h
      exact k17  H locs ls h I (lv_sub hl [] rfl)
    · replace h := m_ifT c5 h
      refine lv_iconst (v := 1) X.1 X.2.1 dJ3_isLatin1_13 (by decide) ?_
      refine lv_goto (tgt := 18) X.1 X.2.1 dJ3_isLatin1_14 (by decide) ?_
      exact k18 1 H locs ls h I (lv_sub hl [] rfl)
end S_J3_isLatin1
theorem uk_J3_isLatin1 (l : Launch) (n : Nat) (D : va_G) (d : UD) (u : UM) (t : Nat) (r : Int32) (h : uf_J3_isLatin1 n d u t = some r) : u_M l yJ3_isLatin1 (ws_ yJ3_isLatin1 cJ3_isLatin1 1 (some .boolean)) 0 0 (0, 0) D d u [.ref t] (some (.int r)) u :=
  u_start (own := RJ3) (lvl := [(0, .ref t)]) (by decide) rfl (Nat.le_of_ble_eq_true rfl) rfl (fun p e s m args below meth c ls X hr hlk hI hl hA I hC => uw_J3_isLatin1 X hA ⟨Nat.le_refl _, Nat.le_refl _⟩ ⟨Nat.zero_le _, Nat.zero_le _⟩ n u t r h (fun H locs ls pc g hd I => u_zret X I hr hlk g ⟨rfl, rfl⟩ hd) _ _ ls I hl)

/-! java/lang/AbstractStringBuilder.inflate()V -/
def uf_J3_inflate (n : Nat) (d : UD) (u : UM) (t : Nat) : Option ((Unit × UM) × UC) :=
  m_b (u_cl u 14 t) (fun f1 => m_b (uf_J3_isLatin1 n d u t) (fun r4 => m_if ((r4 : Int32) = 0) (some (((), u), (0, 0))) (m_b (u_fr d u 14 0 t) (fun b6 => m_b (u_lnI d u 2 b6) (fun b8 => none)))))
theorem uh_J3_inflate : yJ3_inflate.cls = RJ3 ∧ yJ3_inflate.cls ≠ "java/lang/invoke/MethodHandle" ∧ yJ3_inflate.cls ≠ "java/lang/invoke/VarHandle" ∧ (parseMethodDescriptor yJ3_inflate.desc).map (fun d => d.parameters.length) = some 0 := by decide +kernel
section S_J3_inflate
variable {p : Program} {l : Launch} {e : Env} {R : Room} {s : State} {m : MethodId} {args : Array Value} {below : List Frame} {meth : Method} {c : Code} {Q : State → Prop} {D : va_G} {A : Nat → Prop} {d : UD}
theorem uw_J3_inflate (X : u_X RJ3 D A d p s m c cJ3_inflate 2 args) (hA : ∀ q, s.heap.size ≤ q → A q) (hR : 1 ≤ R.frames ∧ 20 ≤ R.locals) (n : Nat) (u : UM) (t : Nat) (r0 : Unit) (ur : UM) (C : UC) (h : uf_J3_inflate n d u t = some ((r0, ur), C)) (hret : ∀ (H : Heap) (locs : List Loc) (ls : Array Slot) (pc cells slots : Nat), decode cJ3_inflate pc = .ok (.return_, 1) → u_left R cells slots (u_add (0, 0) (0, 0)) → u_I D A s.heap ur H locs cells → W p l e R s m args below meth c H locs cells slots Q (F0 m pc ls [])) : ∀ (H : Heap) (locs : List Loc) (ls : Array Slot) (cells slots : Nat), u_left R cells slots (u_add C (0, 0)) → u_I D A s.heap u H locs cells → lv_has ls 2 [(0, .ref t)] → W p l e R s m args below meth c H locs cells slots Q (F0 m 0 ls []) := by
  intro H locs ls cells slots hC I hl
  unfold uf_J3_inflate at h
  refine lv_aload_n X.1 X.2.1 dJ3_inflate_0 rfl (lv_at hl 0 rfl) ?_
  obtain ⟨f1, e2, h⟩ := m_bS h
  obtain ⟨r4, e3, h⟩ := m_bS h
  refine u_callUp X hl.1 I hA (As := []) (rest := []) (uk_J3_isLatin1 l n D d u t _ e3) (u_clS e2) (C := RJ4) (T := TJ4) (N := 4) rfl 0 q406 q408 q409 q407 q109 q410 rfl uh_J3_isLatin1.2 rfl rfl ⟨Nat.le_trans (Nat.le_of_ble_eq_true rfl) hR.1, Nat.le_trans (Nat.le_of_ble_eq_true rfl) hR.2⟩ (u_leftLe hC) (stk := [.int r4]) rfl (Nat.le_of_ble_eq_true rfl) dJ3_inflate_1 (fun H locs I => ?_)
  refine lv_if_ne (tgt := 8) X.1 X.2.1 dJ3_inflate_4 (by decide) (fun c5 => ?_) (fun c5 => ?_)
  · replace h := m_ifF c5 h
    refine lv_aload_n X.1 X.2.1 dJ3_inflate_8 rfl (lv_at hl 0 rfl) ?_
    obtain ⟨b6, e7, h⟩ := m_bS h
    refine u_Gr X I e7 (C := RJ4) (T := TJ4) (N := 4) (ref := "java/lang/AbstractStringBuilder") in_J4 rfl (by decide) rfl rfl q351 (fun _ h => h) dJ3_inflate_9 ?_
    obtain ⟨b8, e9, h⟩ := m_bS h
    refine u_LN X I (by decide) e9 dJ3_inflate_12 ?_
    cases h
  · replace h := m_ifT c5 h
    obtain ⟨he, rfl⟩ := m_e3 h
    obtain ⟨rfl, rfl⟩ := m_e4 he
    exact hret H locs ls 7 _ _ dJ3_inflate_7 hC I
end S_J3_inflate
theorem uk_J3_inflate (l : Launch) (n : Nat) (D : va_G) (d : UD) (u : UM) (t : Nat) (ur : UM) (C : UC) (h : uf_J3_inflate n d u t = some (((), ur), C)) : u_M l yJ3_inflate (ws_ yJ3_inflate cJ3_inflate 2 none) 1 20 C D d u [.ref t] none ur :=
  u_start (own := RJ3) (lvl := [(0, .ref t)]) (by decide) rfl (Nat.le_of_ble_eq_true rfl) rfl (fun p e s m args below meth c ls X hr hlk hI hl hA I hC => uw_J3_inflate X hA ⟨Nat.le_refl _, Nat.le_refl _⟩ n u t () ur C h (fun H locs ls pc cells slots hd hC I => u_vret X I hr hlk (u_leftE hC) hd) _ _ ls _ _ hC I hl)

/-! java/lang/AbstractStringBuilder.getValue()[B -/
def uf_J3_getValue (n : Nat) (d : UD) (u : UM) (t : Nat) : Option Nat :=
  m_b (u_fr d u 14 0 t) (fun b1 => some b1)
theorem uh_J3_getValue : yJ3_getValue.cls = RJ3 ∧ yJ3_getValue.cls ≠ "java/lang/invoke/MethodHandle" ∧ yJ3_getValue.cls ≠ "java/lang/invoke/VarHandle" ∧ (parseMethodDescriptor yJ3_getValue.desc).map (fun d => d.parameters.length) = some 0 := by decide +kernel
section S_J3_getValue
variable {p : Program} {l : Launch} {e : Env} {R : Room} {s : State} {m : MethodId} {args : Array Value} {below : List Frame} {meth : Method} {c : Code} {Q : State → Prop} {D : va_G} {A : Nat → Prop} {d : UD} {cells slots : Nat}
theorem uw_J3_getValue (X : u_X RJ3 D A d p s m c cJ3_getValue 1 args) (hA : ∀ q, s.heap.size ≤ q → A q) (hR : 0 ≤ R.frames ∧ 0 ≤ R.locals) (hf : cells ≤ R.cells ∧ slots ≤ R.slots) (n : Nat) (u : UM) (t : Nat) (r : Nat) (h : uf_J3_getValue n d u t = some r) (hret : ∀ (H : Heap) (locs : List Loc) (ls : Array Slot) (pc : Nat), decode cJ3_getValue pc = .ok (.areturn, 1) → u_I D A s.heap u H locs cells → W p l e R s m args below meth c H locs cells slots Q (F0 m pc ls [.ref r])) : ∀ (H : Heap) (locs : List Loc) (ls : Array Slot), u_I D A s.heap u H locs cells → lv_has ls 1 [(0, .ref t)] → W p l e R s m args below meth c H locs cells slots Q (F0 m 0 ls []) := by
  intro H locs ls I hl
  unfold uf_J3_getValue at h
  refine lv_aload_n X.1 X.2.1 dJ3_getValue_0 rfl (lv_at hl 0 rfl) ?_
  obtain ⟨b1, e2, h⟩ := m_bS h
  refine u_Gr X I e2 (C := RJ4) (T := TJ4) (N := 4) (ref := "java/lang/AbstractStringBuilder") in_J4 rfl (by decide) rfl rfl q351 (fun _ h => h) dJ3_getValue_1 ?_
  obtain rfl := m_e1 h
  exact hret H locs ls 4 dJ3_getValue_4 I
end S_J3_getValue
theorem uk_J3_getValue (l : Launch) (n : Nat) (D : va_G) (d : UD) (u : UM) (t : Nat) (r : Nat) (h : uf_J3_getValue n d u t = some r) : u_M l yJ3_getValue (ws_ yJ3_getValue cJ3_getValue 1 (some (.array .byte))) 0 0 (0, 0) D d u [.ref t] (some (.ref r)) u :=
  u_start (own := RJ3) (lvl := [(0, .ref t)]) (by decide) rfl (Nat.le_of_ble_eq_true rfl) rfl (fun p e s m args below meth c ls X hr hlk hI hl hA I hC => uw_J3_getValue X hA ⟨Nat.le_refl _, Nat.le_refl _⟩ ⟨Nat.zero_le _, Nat.zero_le _⟩ n u t r h (fun H locs ls pc hd I => u_aret (r := some r) X I hr (Or.inr ⟨_, rfl⟩) hlk ⟨rfl, rfl⟩ hd) _ _ ls I hl)
