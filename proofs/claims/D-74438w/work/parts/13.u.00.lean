set_option maxRecDepth 100000
set_option maxHeartbeats 4000000
/-! SwapPress.bytes(I)V -/
def uf_X0_bytes_L3 (n : Nat) (d : UD) (v0 : Nat) (v1 : Int32) (v2 : Int32) (u : UM) : Option (((Int32 × UM) ⊕ UM) × UC) :=
  m_if ((v2 : Int32) < 0) (some (.inr u, (0, 0))) (m_b (u_fr d u 1 5 v0) (fun b2 => m_b (u_fi d u 1 6 v0) (fun b4 => m_b (u_stB d u b2 b4 ((v1 >>> (v2 &&& 31) : Int32).toInt8.toInt32)) (fun w6 => m_b (u_fi d (w6, u.2) 1 6 v0) (fun b8 => m_b (u_pf (w6, u.2) 1 6 v0 (.int (b8 + 1))) (fun w10 => some (.inl ((v2 + (-8), (w10, u.2))), (0, 0))))))))
def uf_X0_bytes_L3l (n : Nat) (d : UD) (v0 : Nat) (v1 : Int32) (x : (Int32 × UM)) : Option (UM × UC) := u_lp (fun (x : (Int32 × UM)) => uf_X0_bytes_L3 n d v0 v1 x.1 x.2) n x
def uf_X0_bytes (n : Nat) (d : UD) (u : UM) (t : Nat) (p0 : Int32) : Option ((Unit × UM) × UC) :=
  u_bl (uf_X0_bytes_L3l n d t p0 ((24, u))) (fun u13 => some (((), u13), (0, 0)))
theorem uh_X0_bytes : yX0_bytes.cls = RX0 ∧ yX0_bytes.cls ≠ "java/lang/invoke/MethodHandle" ∧ yX0_bytes.cls ≠ "java/lang/invoke/VarHandle" ∧ (parseMethodDescriptor yX0_bytes.desc).map (fun d => d.parameters.length) = some 1 := by decide +kernel
section S_X0_bytes
variable {p : Program} {l : Launch} {e : Env} {R : Room} {s : State} {m : MethodId} {args : Array Value} {below : List Frame} {meth : Method} {c : Code} {Q : State → Prop} {D : va_G} {A : Nat → Prop} {d : UD}
theorem wuf_X0_bytes_L3 (X : u_X RX0 D A d p s m c cX0_bytes 3 args) (hA : ∀ q, s.heap.size ≤ q → A q) (hR : 0 ≤ R.frames ∧ 0 ≤ R.locals) (n : Nat) (v0 : Nat) (v1 : Int32) (x : (Int32 × UM)) (z : UM) (C cr : UC) (hz : uf_X0_bytes_L3l n d v0 v1 x = some (z, C)) (hE : (fun (z : UM) (C : UC) => ∀ (H : Heap) (locs : List Loc) (ls : Array Slot) (cells slots : Nat), u_left R cells slots C → u_I D A s.heap z H locs cells → lv_has ls 3 [] → W p l e R s m args below meth c H locs cells slots Q (F0 m 36 ls [])) z cr) : (fun (x : (Int32 × UM)) (C : UC) => ∀ (H : Heap) (locs : List Loc) (ls : Array Slot) (cells slots : Nat), u_left R cells slots C → u_I D A s.heap x.2 H locs cells → lv_has ls 3 [(0, .ref v0), (1, .int v1), (2, .int x.1)] → W p l e R s m args below meth c H locs cells slots Q (F0 m 3 ls [])) x (u_add C cr) := by
  refine u_lpW (G := fun (x : (Int32 × UM)) (C : UC) => ∀ (H : Heap) (locs : List Loc) (ls : Array Slot) (cells slots : Nat), u_left R cells slots C → u_I D A s.heap x.2 H locs cells → lv_has ls 3 [(0, .ref v0), (1, .int v1), (2, .int x.1)] → W p l e R s m args below meth c H locs cells slots Q (F0 m 3 ls [])) (E := fun (z : UM) (C : UC) => ∀ (H : Heap) (locs : List Loc) (ls : Array Slot) (cells slots : Nat), u_left R cells slots C → u_I D A s.heap z H locs cells → lv_has ls 3 [] → W p l e R s m args below meth c H locs cells slots Q (F0 m 36 ls [])) ?_ n x z C cr hz hE
  rintro ⟨v2, u⟩ r C cr h hr H locs ls cells slots hC I hl
  replace h : uf_X0_bytes_L3 n d v0 v1 v2 u = some (r, C) := h
  unfold uf_X0_bytes_L3 at h
  refine lv_iload_n X.1 X.2.1 dX0_bytes_3 rfl (lv_at hl 2 rfl) ?_
  refine lv_if_lt (tgt := 36) X.1 X.2.1 dX0_bytes_4 (by decide) (fun c1 => ?_) (fun c1 => ?_)
  · replace h := m_ifT c1 h
    obtain ⟨rfl, rfl⟩ := m_e3 h
    exact hr H locs ls _ _ (u_left0 hC) I (lv_sub hl [] rfl)
  · replace h := m_ifF c1 h
    refine lv_aload_n X.1 X.2.1 dX0_bytes_7 rfl (lv_at hl 0 rfl) ?_
    obtain ⟨b2, e3, h⟩ := m_bS h
    refine u_Gr X I e3 (C := RX0) (T := TX0) (N := 9) (ref := "SwapPress") in_X0 rfl (by decide) rfl rfl q242 (fun _ h => h) dX0_bytes_8 ?_
    refine lv_aload_n X.1 X.2.1 dX0_bytes_11 rfl (lv_at hl 0 rfl) ?_
    obtain ⟨b4, e5, h⟩ := m_bS h
    refine u_Gi X I e5 (C := RX0) (T := TX0) (N := 9) (ref := "SwapPress") in_X0 rfl (by decide) rfl rfl q243 (fun _ h => h) dX0_bytes_12 ?_
    refine lv_iload_n X.1 X.2.1 dX0_bytes_15 rfl (lv_at hl 1 rfl) ?_
    refine lv_iload_n X.1 X.2.1 dX0_bytes_16 rfl (lv_at hl 2 rfl) ?_
    refine lv_ishr X.1 X.2.1 dX0_bytes_17 ?_
    refine lv_i2b X.1 X.2.1 dX0_bytes_18 rfl ?_
    obtain ⟨w6, e7, h⟩ := m_bS h
    refine u_SB X I e7 dX0_bytes_19 (fun H locs I => ?_)
    refine lv_aload_n X.1 X.2.1 dX0_bytes_20 rfl (lv_at hl 0 rfl) ?_
    refine lv_dup X.1 X.2.1 dX0_bytes_21 rfl ?_
    obtain ⟨b8, e9, h⟩ := m_bS h
    refine u_Gi X I e9 (C := RX0) (T := TX0) (N := 9) (ref := "SwapPress") in_X0 rfl (by decide) rfl rfl q243 (fun _ h => h) dX0_bytes_22 ?_
    refine lv_iconst (v := 1) X.1 X.2.1 dX0_bytes_25 (by decide) ?_
    refine lv_iadd X.1 X.2.1 dX0_bytes_26 ?_
    obtain ⟨w10, e11, h⟩ := m_bS h
    refine u_P X I e11 (C := RX0) (T := TX0) (N := 9) (ref := "SwapPress") in_X0 tyX0 tyX0_ok nmX0 rfl (by decide) rfl rfl q243 (fun _ h => h) rfl rfl rfl dX0_bytes_27 (fun H locs I => ?_)
    refine lv_iinc (v := v2 + (-8)) (lv' := [(2, .int (v2 + (-8))), (0, .ref v0), (1, .int v1)]) X.1 X.2.1 dX0_bytes_30 hl (k := 2) rfl rfl (by decide) rfl (fun ls hl => ?_)
    refine lv_goto (tgt := 3) X.1 X.2.1 dX0_bytes_33 (by decide) ?_
    obtain ⟨rfl, rfl⟩ := m_e3 h
    exact hr H locs ls _ _ (u_left0 hC) I (lv_sub hl [1, 2, 0] rfl)
theorem uw_X0_bytes (X : u_X RX0 D A d p s m c cX0_bytes 3 args) (hA : ∀ q, s.heap.size ≤ q → A q) (hR : 0 ≤ R.frames ∧ 0 ≤ R.locals) (n : Nat) (u : UM) (t : Nat) (p0 : Int32) (r0 : Unit) (ur : UM) (C : UC) (h : uf_X0_bytes n d u t p0 = some ((r0, ur), C)) (hret : ∀ (H : Heap) (locs : List Loc) (ls : Array Slot) (pc cells slots : Nat), decode cX0_bytes pc = .ok (.return_, 1) → u_left R cells slots (u_add (0, 0) (0, 0)) → u_I D A s.heap ur H locs cells → W p l e R s m args below meth c H locs cells slots Q (F0 m pc ls [])) : ∀ (H : Heap) (locs : List Loc) (ls : Array Slot) (cells slots : Nat), u_left R cells slots (u_add C (0, 0)) → u_I D A s.heap u H locs cells → lv_has ls 3 [(0, .ref t), (1, .int p0)] → W p l e R s m args below meth c H locs cells slots Q (F0 m 0 ls []) := by
  intro H locs ls cells slots hC I hl
  unfold uf_X0_bytes at h
  refine lv_bipush (v := 24) X.1 X.2.1 dX0_bytes_0 (by decide) ?_
  refine lv_istore_n (lv' := [(2, .int 24), (0, .ref t), (1, .int p0)]) X.1 X.2.1 dX0_bytes_2 rfl hl (by decide) rfl (fun ls hl => ?_)
  obtain ⟨u13, C14, C15, e12, h, hq⟩ := u_blS h
  rw [hq] at hC
  refine wuf_X0_bytes_L3 X hA hR n t p0 _ _ _ _ e12 (fun H locs ls cells slots hC I hl => ?_) H locs ls _ _ (u_left2 hC) I (lv_sub hl [1, 2, 0] rfl)
  obtain ⟨he, rfl⟩ := m_e3 h
  obtain ⟨rfl, rfl⟩ := m_e4 he
  exact hret H locs ls 36 _ _ dX0_bytes_36 hC I
end S_X0_bytes
theorem uk_X0_bytes (l : Launch) (n : Nat) (D : va_G) (d : UD) (u : UM) (t : Nat) (p0 : Int32) (ur : UM) (C : UC) (h : uf_X0_bytes n d u t p0 = some (((), ur), C)) : u_M l yX0_bytes (ws_ yX0_bytes cX0_bytes 3 none) 0 0 C D d u [.ref t, .int p0] none ur :=
  u_start (own := RX0) (lvl := [(0, .ref t), (1, .int p0)]) (by decide) rfl (Nat.le_of_ble_eq_true rfl) rfl (fun p e s m args below meth c ls X hr hlk hI hl hA I hC => uw_X0_bytes X hA ⟨Nat.le_refl _, Nat.le_refl _⟩ n u t p0 () ur C h (fun H locs ls pc cells slots hd hC I => u_vret X I hr hlk (u_leftE hC) hd) _ _ ls _ _ hC I hl)

/-! SwapPress.in(JJJ)Z -/
def uf_X0_in_J18 (n : Nat) (d : UD) (u : UM) (t0 : Int32) : Option Int32 :=
  m_g (m_01 t0) (some t0)
def uf_X0_in_J17 (n : Nat) (d : UD) (u : UM) : Option Int32 :=
  uf_X0_in_J18 n d u 0
def uf_X0_in (n : Nat) (d : UD) (u : UM) (p0 : Int64) (p1 : Int64) (p2 : Int64) : Option Int32 :=
  m_if ((lg_cmp p0 p1 : Int32) < 0) (uf_X0_in_J17 n d u ) (m_if (0 < (lg_cmp p0 p2 : Int32)) (uf_X0_in_J17 n d u ) (uf_X0_in_J18 n d u 1))
theorem uh_X0_in : yX0_in.cls = RX0 ∧ yX0_in.cls ≠ "java/lang/invoke/MethodHandle" ∧ yX0_in.cls ≠ "java/lang/invoke/VarHandle" ∧ (parseMethodDescriptor yX0_in.desc).map (fun d => d.parameters.length) = some 3 := by decide +kernel
section S_X0_in
variable {p : Program} {l : Launch} {e : Env} {R : Room} {s : State} {m : MethodId} {args : Array Value} {below : List Frame} {meth : Method} {c : Code} {Q : State → Prop} {D : va_G} {A : Nat → Prop} {d : UD} {cells slots : Nat}
theorem uw_X0_in (X : u_X RX0 D A d p s m c cX0_in 6 args) (hA : ∀ q, s.heap.size ≤ q → A q) (hR : 0 ≤ R.frames ∧ 0 ≤ R.locals) (hf : cells ≤ R.cells ∧ slots ≤ R.slots) (n : Nat) (u : UM) (p0 : Int64) (p1 : Int64) (p2 : Int64) (r : Int32) (h : uf_X0_in n d u p0 p1 p2 = some r) (hret : ∀ (H : Heap) (locs : List Loc) (ls : Array Slot) (pc : Nat), m_01 r = true → decode cX0_in pc = .ok (.ireturn, 1) → u_I D A s.heap u H locs cells → W p l e R s m args below meth c H locs cells slots Q (F0 m pc ls [.int r])) : ∀ (H : Heap) (locs : List Loc) (ls : Array Slot), u_I D A s.heap u H locs cells → lv_has ls 6 [(0, .long p0), (2, .long p1), (4, .long p2)] → W p l e R s m args below meth c H locs cells slots Q (F0 m 0 ls []) := by
  have k18 : ∀ (t0 : Int32) (H : Heap) (locs : List Loc) (ls : Array Slot), uf_X0_in_J18 n d u t0 = some r → u_I D A s.heap u H locs cells → lv_has ls 6 [] → W p l e R s m args below meth c H locs cells slots Q (F0 m 18 ls [.int t0]) := by
    intro t0 H locs ls h I hl
    unfold uf_X0_in_J18 at h
    obtain ⟨g2, h⟩ := m_gS h
    obtain rfl := m_e1 h
    exact hret H locs ls 18 g2 dX0_in_18 I
  have k17 : ∀  (H : Heap) (locs : List Loc) (ls : Array Slot), uf_X0_in_J17 n d u = some r → u_I D A s.heap u H locs cells → lv_has ls 6 [] → W p l e R s m args below meth c H locs cells slots Q (F0 m 17 ls []) := by
    intro  H locs ls h I hl
    unfold uf_X0_in_J17 at h
    refine lv_iconst (v := 0) X.1 X.2.1 dX0_in_17 (by decide) ?_
    exact k18 0 H locs ls h I (lv_sub hl [] rfl)
  intro H locs ls I hl
  unfold uf_X0_in at h
  refine lv_lload_n X.1 X.2.1 dX0_in_0 rfl (lv_at hl 0 rfl) ?_
  refine lv_lload_n X.1 X.2.1 dX0_in_1 rfl (lv_at hl 1 rfl) ?_
  refine W.lcmp X.1 X.2.1 dX0_in_2 ?_
  refine lv_if_lt (tgt := 17) X.1 X.2.1 dX0_in_3 (by decide) (fun c1 => ?_) (fun c1 => ?_)
  · replace h := m_ifT c1 h
    exact k17  H locs ls h I (lv_sub hl [] rfl)
  · replace h := m_ifF c1 h
    refine lv_lload_n X.1 X.2.1 dX0_in_6 rfl (lv_at hl 0 rfl) ?_
    refine lv_lload X.1 X.2.1 dX0_in_7 (lv_at hl 2 rfl) ?_
    refine W.lcmp X.1 X.2.1 dX0_in_9 ?_
    refine lv_if_gt (tgt := 17) X.1 X.2.1 dX0_in_10 (by decide) (fun c3 => ?_) (fun c3 => ?_)
    · replace h := m_ifT c3 h
      exact k17  H locs ls h I (lv_sub hl [] rfl)
    · replace h := m_ifF c3 h
      refine lv_iconst (v := 1) X.1 X.2.1 dX0_in_13 (by decide) ?_
      refine lv_goto (tgt := 18) X.1 X.2.1 dX0_in_14 (by decide) ?_
      exact k18 1 H locs ls h I (lv_sub hl [] rfl)
end S_X0_in
theorem uk_X0_in (l : Launch) (n : Nat) (D : va_G) (d : UD) (u : UM) (p0 : Int64) (p1 : Int64) (p2 : Int64) (r : Int32) (h : uf_X0_in n d u p0 p1 p2 = some r) : u_M l yX0_in (ws_ yX0_in cX0_in 6 (some .boolean)) 0 0 (0, 0) D d u [.long p0, .long p1, .long p2] (some (.int r)) u :=
  u_start (own := RX0) (lvl := [(0, .long p0), (2, .long p1), (4, .long p2)]) (by decide) rfl (Nat.le_of_ble_eq_true rfl) rfl (fun p e s m args below meth c ls X hr hlk hI hl hA I hC => uw_X0_in X hA ⟨Nat.le_refl _, Nat.le_refl _⟩ ⟨Nat.zero_le _, Nat.zero_le _⟩ n u p0 p1 p2 r h (fun H locs ls pc g hd I => u_zret X I hr hlk g ⟨rfl, rfl⟩ hd) _ _ ls I hl)

/-! SwapPress.fault(I)I -/
def uf_X0_fault_J24 (n : Nat) (d : UD) (u : UM) (t0 : Int32) : Option Int32 :=
  some t0
def uf_X0_fault (n : Nat) (d : UD) (u : UM) (t : Nat) (p0 : Int32) : Option Int32 :=
  m_if ((p0 : Int32) = 0) (m_b (u_fi d u 1 7 t) (fun b5 => uf_X0_fault_J24 n d u b5)) (m_if ((p0 : Int32) = (1 : Int32)) (m_b (u_fi d u 1 8 t) (fun b3 => uf_X0_fault_J24 n d u b3)) (uf_X0_fault_J24 n d u ((-1))))
theorem uh_X0_fault : yX0_fault.cls = RX0 ∧ yX0_fault.cls ≠ "java/lang/invoke/MethodHandle" ∧ yX0_fault.cls ≠ "java/lang/invoke/VarHandle" ∧ (parseMethodDescriptor yX0_fault.desc).map (fun d => d.parameters.length) = some 1 := by decide +kernel
section S_X0_fault
variable {p : Program} {l : Launch} {e : Env} {R : Room} {s : State} {m : MethodId} {args : Array Value} {below : List Frame} {meth : Method} {c : Code} {Q : State → Prop} {D : va_G} {A : Nat → Prop} {d : UD} {cells slots : Nat}
theorem uw_X0_fault (X : u_X RX0 D A d p s m c cX0_fault 2 args) (hA : ∀ q, s.heap.size ≤ q → A q) (hR : 0 ≤ R.frames ∧ 0 ≤ R.locals) (hf : cells ≤ R.cells ∧ slots ≤ R.slots) (n : Nat) (u : UM) (t : Nat) (p0 : Int32) (r : Int32) (h : uf_X0_fault n d u t p0 = some r) (hret : ∀ (H : Heap) (locs : List Loc) (ls : Array Slot) (pc : Nat), decode cX0_fault pc = .ok (.ireturn, 1) → u_I D A s.heap u H locs cells → W p l e R s m args below meth c H locs cells slots Q (F0 m pc ls [.int r])) : ∀ (H : Heap) (locs : List Loc) (ls : Array Slot), u_I D A s.heap u H locs cells → lv_has ls 2 [(0, .ref t), (1, .int p0)] → W p l e R s m args below meth c H locs cells slots Q (F0 m 0 ls []) := by
  have k24 : ∀ (t0 : Int32) (H : Heap) (locs : List Loc) (ls : Array Slot), uf_X0_fault_J24 n d u t0 = some r → u_I D A s.heap u H locs cells → lv_has ls 2 [] → W p l e R s m args below meth c H locs cells slots Q (F0 m 24 ls [.int t0]) := by
    intro t0 H locs ls h I hl
    unfold uf_X0_fault_J24 at h
    obtain rfl := m_e1 h
    exact hret H locs ls 24 dX0_fault_24 I
  intro H locs ls I hl
  unfold uf_X0_fault at h
  refine lv_iload_n X.1 X.2.1 dX0_fault_0 rfl (lv_at hl 1 rfl) ?_
  refine lv_if_ne (tgt := 11) X.1 X.2.1 dX0_fault_1 (by decide) (fun c1 => ?_) (fun c1 => ?_)
  · replace h := m_ifF c1 h
    refine lv_iload_n X.1 X.2.1 dX0_fault_11 rfl (lv_at hl 1 rfl) ?_
    refine lv_iconst (v := 1) X.1 X.2.1 dX0_fault_12 (by decide) ?_
    refine lv_icmp_ne (tgt := 23) X.1 X.2.1 dX0_fault_13 (by decide) (fun c2 => ?_) (fun c2 => ?_)
    · replace h := m_ifF c2 h
      refine lv_iconst (v := (-1)) X.1 X.2.1 dX0_fault_23 (by decide) ?_
      exact k24 ((-1)) H locs ls h I (lv_sub hl [] rfl)
    · replace h := m_ifT c2 h
      refine lv_aload_n X.1 X.2.1 dX0_fault_16 rfl (lv_at hl 0 rfl) ?_
      obtain ⟨b3, e4, h⟩ := m_bS h
      refine u_Gi X I e4 (C := RX0) (T := TX0) (N := 9) (ref := "SwapPress") in_X0 rfl (by decide) rfl rfl q245 (fun _ h => h) dX0_fault_17 ?_
      refine lv_goto (tgt := 24) X.1 X.2.1 dX0_fault_20 (by decide) ?_
      exact k24 b3 H locs ls h I (lv_sub hl [] rfl)
  · replace h := m_ifT c1 h
    refine lv_aload_n X.1 X.2.1 dX0_fault_4 rfl (lv_at hl 0 rfl) ?_
    obtain ⟨b5, e6, h⟩ := m_bS h
    refine u_Gi X I e6 (C := RX0) (T := TX0) (N := 9) (ref := "SwapPress") in_X0 rfl (by decide) rfl rfl q244 (fun _ h => h) dX0_fault_5 ?_
    refine lv_goto (tgt := 24) X.1 X.2.1 dX0_fault_8 (by decide) ?_
    exact k24 b5 H locs ls h I (lv_sub hl [] rfl)
end S_X0_fault
theorem uk_X0_fault (l : Launch) (n : Nat) (D : va_G) (d : UD) (u : UM) (t : Nat) (p0 : Int32) (r : Int32) (h : uf_X0_fault n d u t p0 = some r) : u_M l yX0_fault (ws_ yX0_fault cX0_fault 2 (some .int)) 0 0 (0, 0) D d u [.ref t, .int p0] (some (.int r)) u :=
  u_start (own := RX0) (lvl := [(0, .ref t), (1, .int p0)]) (by decide) rfl (Nat.le_of_ble_eq_true rfl) rfl (fun p e s m args below meth c ls X hr hlk hI hl hA I hC => uw_X0_fault X hA ⟨Nat.le_refl _, Nat.le_refl _⟩ ⟨Nat.zero_le _, Nat.zero_le _⟩ n u t p0 r h (fun H locs ls pc hd I => u_iret X I hr hlk ⟨rfl, rfl⟩ hd) _ _ ls I hl)

/-! SwapPress.one(Z)I -/
def uf_X0_one_J9 (n : Nat) (d : UD) (u : UM) (t0 : Int32) : Option Int32 :=
  some t0
def uf_X0_one (n : Nat) (d : UD) (u : UM) (p0 : Int32) : Option Int32 :=
  m_if ((p0 : Int32) = 0) (uf_X0_one_J9 n d u 0) (uf_X0_one_J9 n d u 1)
theorem uh_X0_one : yX0_one.cls = RX0 ∧ yX0_one.cls ≠ "java/lang/invoke/MethodHandle" ∧ yX0_one.cls ≠ "java/lang/invoke/VarHandle" ∧ (parseMethodDescriptor yX0_one.desc).map (fun d => d.parameters.length) = some 1 := by decide +kernel
section S_X0_one
variable {p : Program} {l : Launch} {e : Env} {R : Room} {s : State} {m : MethodId} {args : Array Value} {below : List Frame} {meth : Method} {c : Code} {Q : State → Prop} {D : va_G} {A : Nat → Prop} {d : UD} {cells slots : Nat}
theorem uw_X0_one (X : u_X RX0 D A d p s m c cX0_one 1 args) (hA : ∀ q, s.heap.size ≤ q → A q) (hR : 0 ≤ R.frames ∧ 0 ≤ R.locals) (hf : cells ≤ R.cells ∧ slots ≤ R.slots) (n : Nat) (u : UM) (p0 : Int32) (r : Int32) (h : uf_X0_one n d u p0 = some r) (hret : ∀ (H : Heap) (locs : List Loc) (ls : Array Slot) (pc : Nat), decode cX0_one pc = .ok (.ireturn, 1) → u_I D A s.heap u H locs cells → W p l e R s m args below meth c H locs cells slots Q (F0 m pc ls [.int r])) : ∀ (H : Heap) (locs : List Loc) (ls : Array Slot), u_I D A s.heap u H locs cells → lv_has ls 1 [(0, .int p0)] → W p l e R s m args below meth c H locs cells slots Q (F0 m 0 ls []) := by
  have k9 : ∀ (t0 : Int32) (H : Heap) (locs : List Loc) (ls : Array Slot), uf_X0_one_J9 n d u t0 = some r → u_I D A s.heap u H locs cells → lv_has ls 1 [] → W p l e R s m args below meth c H locs cells slots Q (F0 m 9 ls [.int t0]) := by
    intro t0 H locs ls h I hl
    unfold uf_X0_one_J9 at h
    obtain rfl := m_e1 h
    exact hret H locs ls 9 dX0_one_9 I
  intro H locs ls I hl
  unfold uf_X0_one at h
  refine lv_iload_n X.1 X.2.1 dX0_one_0 rfl (lv_at hl 0 rfl) ?_
  refine lv_if_eq (tgt := 8) X.1 X.2.1 dX0_one_1 (by decide) (fun c1 => ?_) (fun c1 => ?_)
  · replace h := m_ifT c1 h
    refine lv_iconst (v := 0) X.1 X.2.1 dX0_one_8 (by decide) ?_
    exact k9 0 H locs ls h I (lv_sub hl [] rfl)
  · replace h := m_ifF c1 h
    refine lv_iconst (v := 1) X.1 X.2.1 dX0_one_4 (by decide) ?_
    refine lv_goto (tgt := 9) X.1 X.2.1 dX0_one_5 (by decide) ?_
    exact k9 1 H locs ls h I (lv_sub hl [] rfl)
end S_X0_one
theorem uk_X0_one (l : Launch) (n : Nat) (D : va_G) (d : UD) (u : UM) (p0 : Int32) (r : Int32) (h : uf_X0_one n d u p0 = some r) : u_M l yX0_one (ws_ yX0_one cX0_one 1 (some .int)) 0 0 (0, 0) D d u [.int p0] (some (.int r)) u :=
  u_start (own := RX0) (lvl := [(0, .int p0)]) (by decide) rfl (Nat.le_of_ble_eq_true rfl) rfl (fun p e s m args below meth c ls X hr hlk hI hl hA I hC => uw_X0_one X hA ⟨Nat.le_refl _, Nat.le_refl _⟩ ⟨Nat.zero_le _, Nat.zero_le _⟩ n u p0 r h (fun H locs ls pc hd I => u_iret X I hr hlk ⟨rfl, rfl⟩ hd) _ _ ls I hl)

/-! SwapPress.throughOf(I[II)I -/
def uf_X0_throughOf_L8 (n : Nat) (d : UD) (u : UM) (v0 : Int32) (v1 : Nat) (v2 : Int32) (v3 : Int32) (v4 : Int32) (v5 : Int32) : Option ((Int32 × Int32 × Int32) ⊕ (Int32 × Int32)) :=
  m_if ((v0 : Int32) ≤ (v5 : Int32)) (some (.inr ((v3, v4)))) (m_b (u_ldI d u v1 ((8 * v2) + v5)) (fun b2 => m_b (u_ldI d u v1 ((8 * v5) + v2)) (fun b4 => some (.inl ((v3 + b2, v4 + b4, v5 + 1))))))
def uf_X0_throughOf_L8l (n : Nat) (d : UD) (u : UM) (v0 : Int32) (v1 : Nat) (v2 : Int32) (x : (Int32 × Int32 × Int32)) : Option (Int32 × Int32) := m_lp (fun (x : (Int32 × Int32 × Int32)) => uf_X0_throughOf_L8 n d u v0 v1 v2 x.1 x.2.1 x.2.2) n x
def uf_X0_throughOf (n : Nat) (d : UD) (u : UM) (p0 : Int32) (p1 : Nat) (p2 : Int32) : Option Int32 :=
  m_b (uf_X0_throughOf_L8l n d u p0 p1 p2 ((0, 0, 0))) (fun y9 => some (if (y9.2 : Int32) < (y9.1 : Int32) then (y9.2 : Int32) else (y9.1 : Int32)))
theorem uh_X0_throughOf : yX0_throughOf.cls = RX0 ∧ yX0_throughOf.cls ≠ "java/lang/invoke/MethodHandle" ∧ yX0_throughOf.cls ≠ "java/lang/invoke/VarHandle" ∧ (parseMethodDescriptor yX0_throughOf.desc).map (fun d => d.parameters.length) = some 3 := by decide +kernel
section S_X0_throughOf
variable {p : Program} {l : Launch} {e : Env} {R : Room} {s : State} {m : MethodId} {args : Array Value} {below : List Frame} {meth : Method} {c : Code} {Q : State → Prop} {D : va_G} {A : Nat → Prop} {d : UD} {cells slots : Nat}
theorem wuf_X0_throughOf_L8 (X : u_X RX0 D A d p s m c cX0_throughOf 6 args) (hA : ∀ q, s.heap.size ≤ q → A q) (hR : 1 ≤ R.frames ∧ 40 ≤ R.locals) (hf : cells ≤ R.cells ∧ slots ≤ R.slots) (n : Nat) (u : UM) (v0 : Int32) (v1 : Nat) (v2 : Int32) (x : (Int32 × Int32 × Int32)) (z : (Int32 × Int32)) (hz : uf_X0_throughOf_L8l n d u v0 v1 v2 x = some z) (hE : (fun (z : (Int32 × Int32)) => ∀ (H : Heap) (locs : List Loc) (ls : Array Slot), u_I D A s.heap u H locs cells → lv_has ls 6 [(3, .int z.1), (4, .int z.2)] → W p l e R s m args below meth c H locs cells slots Q (F0 m 46 ls [])) z) : (fun (x : (Int32 × Int32 × Int32)) => ∀ (H : Heap) (locs : List Loc) (ls : Array Slot), u_I D A s.heap u H locs cells → lv_has ls 6 [(0, .int v0), (1, .ref v1), (2, .int v2), (3, .int x.1), (4, .int x.2.1), (5, .int x.2.2)] → W p l e R s m args below meth c H locs cells slots Q (F0 m 8 ls [])) x := by
  refine m_lpW (G := fun (x : (Int32 × Int32 × Int32)) => ∀ (H : Heap) (locs : List Loc) (ls : Array Slot), u_I D A s.heap u H locs cells → lv_has ls 6 [(0, .int v0), (1, .ref v1), (2, .int v2), (3, .int x.1), (4, .int x.2.1), (5, .int x.2.2)] → W p l e R s m args below meth c H locs cells slots Q (F0 m 8 ls [])) (E := fun (z : (Int32 × Int32)) => ∀ (H : Heap) (locs : List Loc) (ls : Array Slot), u_I D A s.heap u H locs cells → lv_has ls 6 [(3, .int z.1), (4, .int z.2)] → W p l e R s m args below meth c H locs cells slots Q (F0 m 46 ls [])) ?_ n x z hz hE
  rintro ⟨v3, v4, v5⟩ r h hr H locs ls I hl
  replace h : uf_X0_throughOf_L8 n d u v0 v1 v2 v3 v4 v5 = some r := h
  unfold uf_X0_throughOf_L8 at h
  refine lv_iload X.1 X.2.1 dX0_throughOf_8 (lv_at hl 5 rfl) ?_
  refine lv_iload_n X.1 X.2.1 dX0_throughOf_10 rfl (lv_at hl 0 rfl) ?_
  refine lv_icmp_ge (tgt := 46) X.1 X.2.1 dX0_throughOf_11 (by decide) (fun c1 => ?_) (fun c1 => ?_)
  · replace h := m_ifT c1 h
    cases h
    exact hr H locs ls I (lv_sub hl [3, 4] rfl)
  · replace h := m_ifF c1 h
    refine lv_iload_n X.1 X.2.1 dX0_throughOf_14 rfl (lv_at hl 3 rfl) ?_
    refine lv_aload_n X.1 X.2.1 dX0_throughOf_15 rfl (lv_at hl 1 rfl) ?_
    refine lv_bipush (v := 8) X.1 X.2.1 dX0_throughOf_16 (by decide) ?_
    refine lv_iload_n X.1 X.2.1 dX0_throughOf_18 rfl (lv_at hl 2 rfl) ?_
    refine lv_imul X.1 X.2.1 dX0_throughOf_19 ?_
    refine lv_iload X.1 X.2.1 dX0_throughOf_20 (lv_at hl 5 rfl) ?_
    refine lv_iadd X.1 X.2.1 dX0_throughOf_22 ?_
    obtain ⟨b2, e3, h⟩ := m_bS h
    refine u_LI X I e3 dX0_throughOf_23 ?_
    refine lv_iadd X.1 X.2.1 dX0_throughOf_24 ?_
    refine lv_istore_n (lv' := [(3, .int (v3 + b2)), (0, .int v0), (1, .ref v1), (2, .int v2), (4, .int v4), (5, .int v5)]) X.1 X.2.1 dX0_throughOf_25 rfl hl (by decide) rfl (fun ls hl => ?_)
    refine lv_iload X.1 X.2.1 dX0_throughOf_26 (lv_at hl 4 rfl) ?_
    refine lv_aload_n X.1 X.2.1 dX0_throughOf_28 rfl (lv_at hl 2 rfl) ?_
    refine lv_bipush (v := 8) X.1 X.2.1 dX0_throughOf_29 (by decide) ?_
    refine lv_iload X.1 X.2.1 dX0_throughOf_31 (lv_at hl 5 rfl) ?_
    refine lv_imul X.1 X.2.1 dX0_throughOf_33 ?_
    refine lv_iload_n X.1 X.2.1 dX0_throughOf_34 rfl (lv_at hl 3 rfl) ?_
    refine lv_iadd X.1 X.2.1 dX0_throughOf_35 ?_
    obtain ⟨b4, e5, h⟩ := m_bS h
    refine u_LI X I e5 dX0_throughOf_36 ?_
    refine lv_iadd X.1 X.2.1 dX0_throughOf_37 ?_
    refine lv_istore (lv' := [(4, .int (v4 + b4)), (3, .int (v3 + b2)), (0, .int v0), (1, .ref v1), (2, .int v2), (5, .int v5)]) X.1 X.2.1 dX0_throughOf_38 hl (by decide) rfl (fun ls hl => ?_)
    refine lv_iinc (v := v5 + 1) (lv' := [(5, .int (v5 + 1)), (4, .int (v4 + b4)), (3, .int (v3 + b2)), (0, .int v0), (1, .ref v1), (2, .int v2)]) X.1 X.2.1 dX0_throughOf_40 hl (k := 5) rfl rfl (by decide) rfl (fun ls hl => ?_)
    refine lv_goto (tgt := 8) X.1 X.2.1 dX0_throughOf_43 (by decide) ?_
    cases h
    exact hr H locs ls I (lv_sub hl [3, 4, 5, 2, 1, 0] rfl)
theorem uw_X0_throughOf (X : u_X RX0 D A d p s m c cX0_throughOf 6 args) (hA : ∀ q, s.heap.size ≤ q → A q) (hR : 1 ≤ R.frames ∧ 40 ≤ R.locals) (hf : cells ≤ R.cells ∧ slots ≤ R.slots) (n : Nat) (u : UM) (p0 : Int32) (p1 : Nat) (p2 : Int32) (r : Int32) (h : uf_X0_throughOf n d u p0 p1 p2 = some r) (hret : ∀ (H : Heap) (locs : List Loc) (ls : Array Slot) (pc : Nat), decode cX0_throughOf pc = .ok (.ireturn, 1) → u_I D A s.heap u H locs cells → W p l e R s m args below meth c H locs cells slots Q (F0 m pc ls [.int r])) : ∀ (H : Heap) (locs : List Loc) (ls : Array Slot), u_I D A s.heap u H locs cells → lv_has ls 6 [(0, .int p0), (1, .ref p1), (2, .int p2)] → W p l e R s m args below meth c H locs cells slots Q (F0 m 0 ls []) := by
  intro H locs ls I hl
  unfold uf_X0_throughOf at h
  refine lv_iconst (v := 0) X.1 X.2.1 dX0_throughOf_0 (by decide) ?_
  refine lv_istore_n (lv' := [(3, .int 0), (0, .int p0), (1, .ref p1), (2, .int p2)]) X.1 X.2.1 dX0_throughOf_1 rfl hl (by decide) rfl (fun ls hl => ?_)
  refine lv_iconst (v := 0) X.1 X.2.1 dX0_throughOf_2 (by decide) ?_
  refine lv_istore (lv' := [(4, .int 0), (3, .int 0), (0, .int p0), (1, .ref p1), (2, .int p2)]) X.1 X.2.1 dX0_throughOf_3 hl (by decide) rfl (fun ls hl => ?_)
  refine lv_iconst (v := 0) X.1 X.2.1 dX0_throughOf_5 (by decide) ?_
  refine lv_istore (lv' := [(5, .int 0), (4, .int 0), (3, .int 0), (0, .int p0), (1, .ref p1), (2, .int p2)]) X.1 X.2.1 dX0_throughOf_6 hl (by decide) rfl (fun ls hl => ?_)
  obtain ⟨⟨z7, z8⟩, e6, h⟩ := m_bS h
  refine wuf_X0_throughOf_L8 X hA hR hf n u p0 p1 p2 _ _ e6 (fun H locs ls I hl => ?_) H locs ls I (lv_sub hl [3, 4, 5, 2, 1, 0] rfl)
  refine lv_iload_n X.1 X.2.1 dX0_throughOf_46 rfl (lv_at hl 0 rfl) ?_
  refine lv_iload X.1 X.2.1 dX0_throughOf_47 (lv_at hl 1 rfl) ?_
  refine va_mmin X.1 X.2.1 (X.2.2.2.2.2.1.trans hl.1.symm) X.2.2.2.1 (X.2.2.1 _ q1007) (X.2.2.1 _ q401) (X.2.2.1 _ q114) (X.2.2.1 _ q402) (Nat.le_trans (Nat.le_of_ble_eq_true rfl) hR.1) (Nat.le_trans (Nat.le_of_ble_eq_true rfl) hR.2) hf.1 hf.2 dX0_throughOf_49 ?_
  obtain rfl := m_e1 h
  exact hret H locs ls 52 dX0_throughOf_52 I
end S_X0_throughOf
theorem uk_X0_throughOf (l : Launch) (n : Nat) (D : va_G) (d : UD) (u : UM) (p0 : Int32) (p1 : Nat) (p2 : Int32) (r : Int32) (h : uf_X0_throughOf n d u p0 p1 p2 = some r) : u_M l yX0_throughOf (ws_ yX0_throughOf cX0_throughOf 6 (some .int)) 1 40 (0, 0) D d u [.int p0, .ref p1, .int p2] (some (.int r)) u :=
  u_start (own := RX0) (lvl := [(0, .int p0), (1, .ref p1), (2, .int p2)]) (by decide) rfl (Nat.le_of_ble_eq_true rfl) rfl (fun p e s m args below meth c ls X hr hlk hI hl hA I hC => uw_X0_throughOf X hA ⟨Nat.le_refl _, Nat.le_refl _⟩ ⟨Nat.zero_le _, Nat.zero_le _⟩ n u p0 p1 p2 r h (fun H locs ls pc hd I => u_iret X I hr hlk ⟨rfl, rfl⟩ hd) _ _ ls I hl)

/-! SwapPress.above([I)I -/
def uf_X0_above_J33 (n : Nat) (d : UD) (u : UM) (v2 : Nat) (v3 : Int32) (v4 : Int32) (t0 : Int32) (t1 : Int32) : Option ((Int32 × Int32) ⊕ Int32) :=
  m_b (uf_X0_one n d u t0) (fun r8 => some (.inl ((t1 + r8, v4 + 1))))
def uf_X0_above_L10 (n : Nat) (d : UD) (u : UM) (v2 : Nat) (v3 : Int32) (v1 : Int32) (v4 : Int32) : Option ((Int32 × Int32) ⊕ Int32) :=
  m_if ((v3 : Int32) ≤ (v4 : Int32)) (some (.inr v1)) (m_b (u_ldI d u v2 v4) (fun b4 => m_if ((b4 : Int32) ≤ 0) (uf_X0_above_J33 n d u v2 v3 v4 0 v1) (uf_X0_above_J33 n d u v2 v3 v4 1 v1)))
def uf_X0_above_L10l (n : Nat) (d : UD) (u : UM) (v2 : Nat) (v3 : Int32) (x : (Int32 × Int32)) : Option Int32 := m_lp (fun (x : (Int32 × Int32)) => uf_X0_above_L10 n d u v2 v3 x.1 x.2) n x
def uf_X0_above (n : Nat) (d : UD) (u : UM) (p0 : Nat) : Option Int32 :=
  m_b (u_lnI d u 0 p0) (fun b1 => m_b (uf_X0_above_L10l n d u p0 b1 ((0, 0))) (fun z10 => some z10))
theorem uh_X0_above : yX0_above.cls = RX0 ∧ yX0_above.cls ≠ "java/lang/invoke/MethodHandle" ∧ yX0_above.cls ≠ "java/lang/invoke/VarHandle" ∧ (parseMethodDescriptor yX0_above.desc).map (fun d => d.parameters.length) = some 1 := by decide +kernel
section S_X0_above
variable {p : Program} {l : Launch} {e : Env} {R : Room} {s : State} {m : MethodId} {args : Array Value} {below : List Frame} {meth : Method} {c : Code} {Q : State → Prop} {D : va_G} {A : Nat → Prop} {d : UD} {cells slots : Nat}
theorem wuf_X0_above_L10 (X : u_X RX0 D A d p s m c cX0_above 6 args) (hA : ∀ q, s.heap.size ≤ q → A q) (hR : 1 ≤ R.frames ∧ 20 ≤ R.locals) (hf : cells ≤ R.cells ∧ slots ≤ R.slots) (n : Nat) (u : UM) (v2 : Nat) (v3 : Int32) (x : (Int32 × Int32)) (z : Int32) (hz : uf_X0_above_L10l n d u v2 v3 x = some z) (hE : (fun (z : Int32) => ∀ (H : Heap) (locs : List Loc) (ls : Array Slot), u_I D A s.heap u H locs cells → lv_has ls 6 [(1, .int z)] → W p l e R s m args below meth c H locs cells slots Q (F0 m 44 ls [])) z) : (fun (x : (Int32 × Int32)) => ∀ (H : Heap) (locs : List Loc) (ls : Array Slot), u_I D A s.heap u H locs cells → lv_has ls 6 [(1, .int x.1), (2, .ref v2), (3, .int v3), (4, .int x.2)] → W p l e R s m args below meth c H locs cells slots Q (F0 m 10 ls [])) x := by
  refine m_lpW (G := fun (x : (Int32 × Int32)) => ∀ (H : Heap) (locs : List Loc) (ls : Array Slot), u_I D A s.heap u H locs cells → lv_has ls 6 [(1, .int x.1), (2, .ref v2), (3, .int v3), (4, .int x.2)] → W p l e R s m args below meth c H locs cells slots Q (F0 m 10 ls [])) (E := fun (z : Int32) => ∀ (H : Heap) (locs : List Loc) (ls : Array Slot), u_I D A s.heap u H locs cells → lv_has ls 6 [(1, .int z)] → W p l e R s m args below meth c H locs cells slots Q (F0 m 44 ls [])) ?_ n x z hz hE
  rintro ⟨v1, v4⟩ r h hr H locs ls I hl
  replace h : uf_X0_above_L10 n d u v2 v3 v1 v4 = some r := h
  have k33 : ∀ (v4 : Int32) (t0 : Int32) (t1 : Int32) (H : Heap) (locs : List Loc) (ls : Array Slot), uf_X0_above_J33 n d u v2 v3 v4 t0 t1 = some r → u_I D A s.heap u H locs cells → lv_has ls 6 [(2, .ref v2), (3, .int v3), (4, .int v4)] → W p l e R s m args below meth c H locs cells slots Q (F0 m 33 ls [.int t0, .int t1]) := by
    intro v4 t0 t1 H locs ls h I hl
    unfold uf_X0_above_J33 at h
    obtain ⟨r8, e7, h⟩ := m_bS h
    refine u_callSp X hl.1 I hA (As := [.int t0]) (rest := [.int t1]) (uk_X0_one l n D d u t0 _ e7) 1 q932 q933 q101 q934 uh_X0_one.2 rfl rfl ⟨Nat.le_trans (Nat.le_of_ble_eq_true rfl) hR.1, Nat.le_trans (Nat.le_of_ble_eq_true rfl) hR.2⟩ hf (stk := [.int r8, .int t1]) rfl (Nat.le_of_ble_eq_true rfl) dX0_above_33 (fun H locs I => ?_)
    refine lv_iadd X.1 X.2.1 dX0_above_36 ?_
    refine lv_istore_n (lv' := [(1, .int (t1 + r8)), (2, .ref v2), (3, .int v3), (4, .int v4)]) X.1 X.2.1 dX0_above_37 rfl hl (by decide) rfl (fun ls hl => ?_)
    refine lv_iinc (v := v4 + 1) (lv' := [(4, .int (v4 + 1)), (1, .int (t1 + r8)), (2, .ref v2), (3, .int v3)]) X.1 X.2.1 dX0_above_38 hl (k := 3) rfl rfl (by decide) rfl (fun ls hl => ?_)
    refine lv_goto (tgt := 10) X.1 X.2.1 dX0_above_41 (by decide) ?_
    cases h
    exact hr H locs ls I (lv_sub hl [1, 2, 3, 0] rfl)
  unfold uf_X0_above_L10 at h
  refine lv_iload X.1 X.2.1 dX0_above_10 (lv_at hl 3 rfl) ?_
  refine lv_iload_n X.1 X.2.1 dX0_above_12 rfl (lv_at hl 2 rfl) ?_
  refine lv_icmp_ge (tgt := 44) X.1 X.2.1 dX0_above_13 (by decide) (fun c3 => ?_) (fun c3 => ?_)
  · replace h := m_ifT c3 h
    cases h
    exact hr H locs ls I (lv_sub hl [0] rfl)
  · replace h := m_ifF c3 h
    refine lv_aload_n X.1 X.2.1 dX0_above_16 rfl (lv_at hl 1 rfl) ?_
    refine lv_iload X.1 X.2.1 dX0_above_17 (lv_at hl 3 rfl) ?_
    obtain ⟨b4, e5, h⟩ := m_bS h
    refine u_LI X I e5 dX0_above_19 ?_
    refine lv_istore (lv' := [(5, .int b4), (1, .int v1), (2, .ref v2), (3, .int v3), (4, .int v4)]) X.1 X.2.1 dX0_above_20 hl (by decide) rfl (fun ls hl => ?_)
    refine lv_iload_n X.1 X.2.1 dX0_above_22 rfl (lv_at hl 1 rfl) ?_
    refine lv_iload X.1 X.2.1 dX0_above_23 (lv_at hl 0 rfl) ?_
    refine lv_if_le (tgt := 32) X.1 X.2.1 dX0_above_25 (by decide) (fun c6 => ?_) (fun c6 => ?_)
    · replace h := m_ifT c6 h
      refine lv_iconst (v := 0) X.1 X.2.1 dX0_above_32 (by decide) ?_
      exact k33 v4 0 v1 H locs ls h I (lv_sub hl [2, 3, 4] rfl)
    · replace h := m_ifF c6 h
      refine lv_iconst (v := 1) X.1 X.2.1 dX0_above_28 (by decide) ?_
      refine lv_goto (tgt := 33) X.1 X.2.1 dX0_above_29 (by decide) ?_
      exact k33 v4 1 v1 H locs ls h I (lv_sub hl [2, 3, 4] rfl)
theorem uw_X0_above (X : u_X RX0 D A d p s m c cX0_above 6 args) (hA : ∀ q, s.heap.size ≤ q → A q) (hR : 1 ≤ R.frames ∧ 20 ≤ R.locals) (hf : cells ≤ R.cells ∧ slots ≤ R.slots) (n : Nat) (u : UM) (p0 : Nat) (r : Int32) (h : uf_X0_above n d u p0 = some r) (hret : ∀ (H : Heap) (locs : List Loc) (ls : Array Slot) (pc : Nat), decode cX0_above pc = .ok (.ireturn, 1) → u_I D A s.heap u H locs cells → W p l e R s m args below meth c H locs cells slots Q (F0 m pc ls [.int r])) : ∀ (H : Heap) (locs : List Loc) (ls : Array Slot), u_I D A s.heap u H locs cells → lv_has ls 6 [(0, .ref p0)] → W p l e R s m args below meth c H locs cells slots Q (F0 m 0 ls []) := by
  intro H locs ls I hl
  unfold uf_X0_above at h
  refine lv_iconst (v := 0) X.1 X.2.1 dX0_above_0 (by decide) ?_
  refine lv_istore_n (lv' := [(1, .int 0), (0, .ref p0)]) X.1 X.2.1 dX0_above_1 rfl hl (by decide) rfl (fun ls hl => ?_)
  refine lv_aload_n X.1 X.2.1 dX0_above_2 rfl (lv_at hl 1 rfl) ?_
  refine lv_astore_n (lv' := [(2, .ref p0), (1, .int 0), (0, .ref p0)]) X.1 X.2.1 dX0_above_3 rfl hl (by decide) rfl (fun ls hl => ?_)
  refine lv_aload_n X.1 X.2.1 dX0_above_4 rfl (lv_at hl 0 rfl) ?_
  obtain ⟨b1, e2, h⟩ := m_bS h
  refine u_LN X I (by decide) e2 dX0_above_5 ?_
  refine lv_istore_n (lv' := [(3, .int b1), (2, .ref p0), (1, .int 0), (0, .ref p0)]) X.1 X.2.1 dX0_above_6 rfl hl (by decide) rfl (fun ls hl => ?_)
  refine lv_iconst (v := 0) X.1 X.2.1 dX0_above_7 (by decide) ?_
  refine lv_istore (lv' := [(4, .int 0), (3, .int b1), (2, .ref p0), (1, .int 0), (0, .ref p0)]) X.1 X.2.1 dX0_above_8 hl (by decide) rfl (fun ls hl => ?_)
  obtain ⟨z10, e9, h⟩ := m_bS h
  refine wuf_X0_above_L10 X hA hR hf n u p0 b1 _ _ e9 (fun H locs ls I hl => ?_) H locs ls I (lv_sub hl [3, 2, 1, 0] rfl)
  refine lv_iload_n X.1 X.2.1 dX0_above_44 rfl (lv_at hl 0 rfl) ?_
  obtain rfl := m_e1 h
  exact hret H locs ls 45 dX0_above_45 I
end S_X0_above
theorem uk_X0_above (l : Launch) (n : Nat) (D : va_G) (d : UD) (u : UM) (p0 : Nat) (r : Int32) (h : uf_X0_above n d u p0 = some r) : u_M l yX0_above (ws_ yX0_above cX0_above 6 (some .int)) 1 20 (0, 0) D d u [.ref p0] (some (.int r)) u :=
  u_start (own := RX0) (lvl := [(0, .ref p0)]) (by decide) rfl (Nat.le_of_ble_eq_true rfl) rfl (fun p e s m args below meth c ls X hr hlk hI hl hA I hC => uw_X0_above X hA ⟨Nat.le_refl _, Nat.le_refl _⟩ ⟨Nat.zero_le _, Nat.zero_le _⟩ n u p0 r h (fun H locs ls pc hd I => u_iret X I hr hlk ⟨rfl, rfl⟩ hd) _ _ ls I hl)

/-! SwapPress.sum([I)I -/
def uf_X0_sum_L10 (n : Nat) (d : UD) (u : UM) (v2 : Nat) (v3 : Int32) (v1 : Int32) (v4 : Int32) : Option ((Int32 × Int32) ⊕ Int32) :=
  m_if ((v3 : Int32) ≤ (v4 : Int32)) (some (.inr v1)) (m_b (u_ldI d u v2 v4) (fun b4 => some (.inl ((v1 + b4, v4 + 1)))))
def uf_X0_sum_L10l (n : Nat) (d : UD) (u : UM) (v2 : Nat) (v3 : Int32) (x : (Int32 × Int32)) : Option Int32 := m_lp (fun (x : (Int32 × Int32)) => uf_X0_sum_L10 n d u v2 v3 x.1 x.2) n x
def uf_X0_sum (n : Nat) (d : UD) (u : UM) (p0 : Nat) : Option Int32 :=
  m_b (u_lnI d u 0 p0) (fun b1 => m_b (uf_X0_sum_L10l n d u p0 b1 ((0, 0))) (fun z7 => some z7))
theorem uh_X0_sum : yX0_sum.cls = RX0 ∧ yX0_sum.cls ≠ "java/lang/invoke/MethodHandle" ∧ yX0_sum.cls ≠ "java/lang/invoke/VarHandle" ∧ (parseMethodDescriptor yX0_sum.desc).map (fun d => d.parameters.length) = some 1 := by decide +kernel
section S_X0_sum
variable {p : Program} {l : Launch} {e : Env} {R : Room} {s : State} {m : MethodId} {args : Array Value} {below : List Frame} {meth : Method} {c : Code} {Q : State → Prop} {D : va_G} {A : Nat → Prop} {d : UD} {cells slots : Nat}
theorem wuf_X0_sum_L10 (X : u_X RX0 D A d p s m c cX0_sum 6 args) (hA : ∀ q, s.heap.size ≤ q → A q) (hR : 0 ≤ R.frames ∧ 0 ≤ R.locals) (hf : cells ≤ R.cells ∧ slots ≤ R.slots) (n : Nat) (u : UM) (v2 : Nat) (v3 : Int32) (x : (Int32 × Int32)) (z : Int32) (hz : uf_X0_sum_L10l n d u v2 v3 x = some z) (hE : (fun (z : Int32) => ∀ (H : Heap) (locs : List Loc) (ls : Array Slot), u_I D A s.heap u H locs cells → lv_has ls 6 [(1, .int z)] → W p l e R s m args below meth c H locs cells slots Q (F0 m 33 ls [])) z) : (fun (x : (Int32 × Int32)) => ∀ (H : Heap) (locs : List Loc) (ls : Array Slot), u_I D A s.heap u H locs cells → lv_has ls 6 [(1, .int x.1), (2, .ref v2), (3, .int v3), (4, .int x.2)] → W p l e R s m args below meth c H locs cells slots Q (F0 m 10 ls [])) x := by
  refine m_lpW (G := fun (x : (Int32 × Int32)) => ∀ (H : Heap) (locs : List Loc) (ls : Array Slot), u_I D A s.heap u H locs cells → lv_has ls 6 [(1, .int x.1), (2, .ref v2), (3, .int v3), (4, .int x.2)] → W p l e R s m args below meth c H locs cells slots Q (F0 m 10 ls [])) (E := fun (z : Int32) => ∀ (H : Heap) (locs : List Loc) (ls : Array Slot), u_I D A s.heap u H locs cells → lv_has ls 6 [(1, .int z)] → W p l e R s m args below meth c H locs cells slots Q (F0 m 33 ls [])) ?_ n x z hz hE
  rintro ⟨v1, v4⟩ r h hr H locs ls I hl
  replace h : uf_X0_sum_L10 n d u v2 v3 v1 v4 = some r := h
  unfold uf_X0_sum_L10 at h
  refine lv_iload X.1 X.2.1 dX0_sum_10 (lv_at hl 3 rfl) ?_
  refine lv_iload_n X.1 X.2.1 dX0_sum_12 rfl (lv_at hl 2 rfl) ?_
  refine lv_icmp_ge (tgt := 33) X.1 X.2.1 dX0_sum_13 (by decide) (fun c3 => ?_) (fun c3 => ?_)
  · replace h := m_ifT c3 h
    cases h
    exact hr H locs ls I (lv_sub hl [0] rfl)
  · replace h := m_ifF c3 h
    refine lv_aload_n X.1 X.2.1 dX0_sum_16 rfl (lv_at hl 1 rfl) ?_
    refine lv_iload X.1 X.2.1 dX0_sum_17 (lv_at hl 3 rfl) ?_
    obtain ⟨b4, e5, h⟩ := m_bS h
    refine u_LI X I e5 dX0_sum_19 ?_
    refine lv_istore (lv' := [(5, .int b4), (1, .int v1), (2, .ref v2), (3, .int v3), (4, .int v4)]) X.1 X.2.1 dX0_sum_20 hl (by decide) rfl (fun ls hl => ?_)
    refine lv_iload_n X.1 X.2.1 dX0_sum_22 rfl (lv_at hl 1 rfl) ?_
    refine lv_iload X.1 X.2.1 dX0_sum_23 (lv_at hl 0 rfl) ?_
    refine lv_iadd X.1 X.2.1 dX0_sum_25 ?_
    refine lv_istore_n (lv' := [(1, .int (v1 + b4)), (5, .int b4), (2, .ref v2), (3, .int v3), (4, .int v4)]) X.1 X.2.1 dX0_sum_26 rfl hl (by decide) rfl (fun ls hl => ?_)
    refine lv_iinc (v := v4 + 1) (lv' := [(4, .int (v4 + 1)), (1, .int (v1 + b4)), (5, .int b4), (2, .ref v2), (3, .int v3)]) X.1 X.2.1 dX0_sum_27 hl (k := 4) rfl rfl (by decide) rfl (fun ls hl => ?_)
    refine lv_goto (tgt := 10) X.1 X.2.1 dX0_sum_30 (by decide) ?_
    cases h
    exact hr H locs ls I (lv_sub hl [1, 3, 4, 0] rfl)
theorem uw_X0_sum (X : u_X RX0 D A d p s m c cX0_sum 6 args) (hA : ∀ q, s.heap.size ≤ q → A q) (hR : 0 ≤ R.frames ∧ 0 ≤ R.locals) (hf : cells ≤ R.cells ∧ slots ≤ R.slots) (n : Nat) (u : UM) (p0 : Nat) (r : Int32) (h : uf_X0_sum n d u p0 = some r) (hret : ∀ (H : Heap) (locs : List Loc) (ls : Array Slot) (pc : Nat), decode cX0_sum pc = .ok (.ireturn, 1) → u_I D A s.heap u H locs cells → W p l e R s m args below meth c H locs cells slots Q (F0 m pc ls [.int r])) : ∀ (H : Heap) (locs : List Loc) (ls : Array Slot), u_I D A s.heap u H locs cells → lv_has ls 6 [(0, .ref p0)] → W p l e R s m args below meth c H locs cells slots Q (F0 m 0 ls []) := by
  intro H locs ls I hl
  unfold uf_X0_sum at h
  refine lv_iconst (v := 0) X.1 X.2.1 dX0_sum_0 (by decide) ?_
  refine lv_istore_n (lv' := [(1, .int 0), (0, .ref p0)]) X.1 X.2.1 dX0_sum_1 rfl hl (by decide) rfl (fun ls hl => ?_)
  refine lv_aload_n X.1 X.2.1 dX0_sum_2 rfl (lv_at hl 1 rfl) ?_
  refine lv_astore_n (lv' := [(2, .ref p0), (1, .int 0), (0, .ref p0)]) X.1 X.2.1 dX0_sum_3 rfl hl (by decide) rfl (fun ls hl => ?_)
  refine lv_aload_n X.1 X.2.1 dX0_sum_4 rfl (lv_at hl 0 rfl) ?_
  obtain ⟨b1, e2, h⟩ := m_bS h
  refine u_LN X I (by decide) e2 dX0_sum_5 ?_
  refine lv_istore_n (lv' := [(3, .int b1), (2, .ref p0), (1, .int 0), (0, .ref p0)]) X.1 X.2.1 dX0_sum_6 rfl hl (by decide) rfl (fun ls hl => ?_)
  refine lv_iconst (v := 0) X.1 X.2.1 dX0_sum_7 (by decide) ?_
  refine lv_istore (lv' := [(4, .int 0), (3, .int b1), (2, .ref p0), (1, .int 0), (0, .ref p0)]) X.1 X.2.1 dX0_sum_8 hl (by decide) rfl (fun ls hl => ?_)
  obtain ⟨z7, e6, h⟩ := m_bS h
  refine wuf_X0_sum_L10 X hA hR hf n u p0 b1 _ _ e6 (fun H locs ls I hl => ?_) H locs ls I (lv_sub hl [3, 2, 1, 0] rfl)
  refine lv_iload_n X.1 X.2.1 dX0_sum_33 rfl (lv_at hl 0 rfl) ?_
  obtain rfl := m_e1 h
  exact hret H locs ls 34 dX0_sum_34 I
end S_X0_sum
theorem uk_X0_sum (l : Launch) (n : Nat) (D : va_G) (d : UD) (u : UM) (p0 : Nat) (r : Int32) (h : uf_X0_sum n d u p0 = some r) : u_M l yX0_sum (ws_ yX0_sum cX0_sum 6 (some .int)) 0 0 (0, 0) D d u [.ref p0] (some (.int r)) u :=
  u_start (own := RX0) (lvl := [(0, .ref p0)]) (by decide) rfl (Nat.le_of_ble_eq_true rfl) rfl (fun p e s m args below meth c ls X hr hlk hI hl hA I hC => uw_X0_sum X hA ⟨Nat.le_refl _, Nat.le_refl _⟩ ⟨Nat.zero_le _, Nat.zero_le _⟩ n u p0 r h (fun H locs ls pc hd I => u_iret X I hr hlk ⟨rfl, rfl⟩ hd) _ _ ls I hl)

/-! SwapPress.nextOf([II[I)I -/
def uf_X0_nextOf_J27 (n : Nat) (d : UD) (u : UM) (v1 : Nat) (v2 : Int32) (v3 : Nat) (v4 : Int32) : Option (Int32 ⊕ Int32) :=
  some (.inl (v4 + 1))
def uf_X0_nextOf_L3 (n : Nat) (d : UD) (u : UM) (v1 : Nat) (v2 : Int32) (v3 : Nat) (v4 : Int32) : Option (Int32 ⊕ Int32) :=
  m_b (u_ldI d u v1 ((8 * v2) + v4)) (fun b1 => m_if ((b1 : Int32) = 0) (uf_X0_nextOf_J27 n d u v1 v2 v3 v4) (m_b (u_ldI d u v3 v4) (fun b4 => m_b (u_ldI d u v3 v2) (fun b6 => m_if ((b4 : Int32) = (b6 - 1 : Int32)) (some (.inr v4)) (uf_X0_nextOf_J27 n d u v1 v2 v3 v4)))))
def uf_X0_nextOf_L3l (n : Nat) (d : UD) (u : UM) (v1 : Nat) (v2 : Int32) (v3 : Nat) (x : Int32) : Option Int32 := m_lp (fun (x : Int32) => uf_X0_nextOf_L3 n d u v1 v2 v3 x) n x
def uf_X0_nextOf (n : Nat) (d : UD) (u : UM) (t : Nat) (p0 : Nat) (p1 : Int32) (p2 : Nat) : Option Int32 :=
  m_b (uf_X0_nextOf_L3l n d u p0 p1 p2 0) (fun z10 => some z10)
theorem uh_X0_nextOf : yX0_nextOf.cls = RX0 ∧ yX0_nextOf.cls ≠ "java/lang/invoke/MethodHandle" ∧ yX0_nextOf.cls ≠ "java/lang/invoke/VarHandle" ∧ (parseMethodDescriptor yX0_nextOf.desc).map (fun d => d.parameters.length) = some 3 := by decide +kernel
section S_X0_nextOf
variable {p : Program} {l : Launch} {e : Env} {R : Room} {s : State} {m : MethodId} {args : Array Value} {below : List Frame} {meth : Method} {c : Code} {Q : State → Prop} {D : va_G} {A : Nat → Prop} {d : UD} {cells slots : Nat}
theorem wuf_X0_nextOf_L3 (X : u_X RX0 D A d p s m c cX0_nextOf 5 args) (hA : ∀ q, s.heap.size ≤ q → A q) (hR : 0 ≤ R.frames ∧ 0 ≤ R.locals) (hf : cells ≤ R.cells ∧ slots ≤ R.slots) (n : Nat) (u : UM) (v1 : Nat) (v2 : Int32) (v3 : Nat) (x : Int32) (z : Int32) (hz : uf_X0_nextOf_L3l n d u v1 v2 v3 x = some z) (hE : (fun (z : Int32) => ∀ (H : Heap) (locs : List Loc) (ls : Array Slot), u_I D A s.heap u H locs cells → lv_has ls 5 [(4, .int z)] → W p l e R s m args below meth c H locs cells slots Q (F0 m 33 ls [])) z) : (fun (x : Int32) => ∀ (H : Heap) (locs : List Loc) (ls : Array Slot), u_I D A s.heap u H locs cells → lv_has ls 5 [(1, .ref v1), (2, .int v2), (3, .ref v3), (4, .int x)] → W p l e R s m args below meth c H locs cells slots Q (F0 m 3 ls [])) x := by
  refine m_lpW (G := fun (x : Int32) => ∀ (H : Heap) (locs : List Loc) (ls : Array Slot), u_I D A s.heap u H locs cells → lv_has ls 5 [(1, .ref v1), (2, .int v2), (3, .ref v3), (4, .int x)] → W p l e R s m args below meth c H locs cells slots Q (F0 m 3 ls [])) (E := fun (z : Int32) => ∀ (H : Heap) (locs : List Loc) (ls : Array Slot), u_I D A s.heap u H locs cells → lv_has ls 5 [(4, .int z)] → W p l e R s m args below meth c H locs cells slots Q (F0 m 33 ls [])) ?_ n x z hz hE
  rintro v4 r h hr H locs ls I hl
  replace h : uf_X0_nextOf_L3 n d u v1 v2 v3 v4 = some r := h
  have k27 : ∀ (v4 : Int32) (H : Heap) (locs : List Loc) (ls : Array Slot), uf_X0_nextOf_J27 n d u v1 v2 v3 v4 = some r → u_I D A s.heap u H locs cells → lv_has ls 5 [(1, .ref v1), (2, .int v2), (3, .ref v3), (4, .int v4)] → W p l e R s m args below meth c H locs cells slots Q (F0 m 27 ls []) := by
    intro v4 H locs ls h I hl
    unfold uf_X0_nextOf_J27 at h
    refine lv_iinc (v := v4 + 1) (lv' := [(4, .int (v4 + 1)), (1, .ref v1), (2, .int v2), (3, .ref v3)]) X.1 X.2.1 dX0_nextOf_27 hl (k := 3) rfl rfl (by decide) rfl (fun ls hl => ?_)
    refine lv_goto (tgt := 3) X.1 X.2.1 dX0_nextOf_30 (by decide) ?_
    cases h
    exact hr H locs ls I (lv_sub hl [1, 2, 3, 0] rfl)
  unfold uf_X0_nextOf_L3 at h
  refine lv_aload_n X.1 X.2.1 dX0_nextOf_3 rfl (lv_at hl 0 rfl) ?_
  refine lv_bipush (v := 8) X.1 X.2.1 dX0_nextOf_4 (by decide) ?_
  refine lv_iload_n X.1 X.2.1 dX0_nextOf_6 rfl (lv_at hl 1 rfl) ?_
  refine lv_imul X.1 X.2.1 dX0_nextOf_7 ?_
  refine lv_iload X.1 X.2.1 dX0_nextOf_8 (lv_at hl 3 rfl) ?_
  refine lv_iadd X.1 X.2.1 dX0_nextOf_10 ?_
  obtain ⟨b1, e2, h⟩ := m_bS h
  refine u_LI X I e2 dX0_nextOf_11 ?_
  refine lv_if_eq (tgt := 27) X.1 X.2.1 dX0_nextOf_12 (by decide) (fun c3 => ?_) (fun c3 => ?_)
  · replace h := m_ifT c3 h
    exact k27 v4 H locs ls h I (lv_sub hl [0, 1, 2, 3] rfl)
  · replace h := m_ifF c3 h
    refine lv_aload_n X.1 X.2.1 dX0_nextOf_15 rfl (lv_at hl 2 rfl) ?_
    refine lv_iload X.1 X.2.1 dX0_nextOf_16 (lv_at hl 3 rfl) ?_
    obtain ⟨b4, e5, h⟩ := m_bS h
    refine u_LI X I e5 dX0_nextOf_18 ?_
    refine lv_aload_n X.1 X.2.1 dX0_nextOf_19 rfl (lv_at hl 2 rfl) ?_
    refine lv_iload_n X.1 X.2.1 dX0_nextOf_20 rfl (lv_at hl 1 rfl) ?_
    obtain ⟨b6, e7, h⟩ := m_bS h
    refine u_LI X I e7 dX0_nextOf_21 ?_
    refine lv_iconst (v := 1) X.1 X.2.1 dX0_nextOf_22 (by decide) ?_
    refine lv_isub X.1 X.2.1 dX0_nextOf_23 ?_
    refine lv_icmp_eq (tgt := 33) X.1 X.2.1 dX0_nextOf_24 (by decide) (fun c8 => ?_) (fun c8 => ?_)
    · replace h := m_ifT c8 h
      cases h
      exact hr H locs ls I (lv_sub hl [3] rfl)
    · replace h := m_ifF c8 h
      exact k27 v4 H locs ls h I (lv_sub hl [0, 1, 2, 3] rfl)
theorem uw_X0_nextOf (X : u_X RX0 D A d p s m c cX0_nextOf 5 args) (hA : ∀ q, s.heap.size ≤ q → A q) (hR : 0 ≤ R.frames ∧ 0 ≤ R.locals) (hf : cells ≤ R.cells ∧ slots ≤ R.slots) (n : Nat) (u : UM) (t : Nat) (p0 : Nat) (p1 : Int32) (p2 : Nat) (r : Int32) (h : uf_X0_nextOf n d u t p0 p1 p2 = some r) (hret : ∀ (H : Heap) (locs : List Loc) (ls : Array Slot) (pc : Nat), decode cX0_nextOf pc = .ok (.ireturn, 1) → u_I D A s.heap u H locs cells → W p l e R s m args below meth c H locs cells slots Q (F0 m pc ls [.int r])) : ∀ (H : Heap) (locs : List Loc) (ls : Array Slot), u_I D A s.heap u H locs cells → lv_has ls 5 [(0, .ref t), (1, .ref p0), (2, .int p1), (3, .ref p2)] → W p l e R s m args below meth c H locs cells slots Q (F0 m 0 ls []) := by
  intro H locs ls I hl
  unfold uf_X0_nextOf at h
  refine lv_iconst (v := 0) X.1 X.2.1 dX0_nextOf_0 (by decide) ?_
  refine lv_istore (lv' := [(4, .int 0), (0, .ref t), (1, .ref p0), (2, .int p1), (3, .ref p2)]) X.1 X.2.1 dX0_nextOf_1 hl (by decide) rfl (fun ls hl => ?_)
  obtain ⟨z10, e9, h⟩ := m_bS h
  refine wuf_X0_nextOf_L3 X hA hR hf n u p0 p1 p2 _ _ e9 (fun H locs ls I hl => ?_) H locs ls I (lv_sub hl [2, 3, 4, 0] rfl)
  refine lv_iload X.1 X.2.1 dX0_nextOf_33 (lv_at hl 0 rfl) ?_
  obtain rfl := m_e1 h
  exact hret H locs ls 35 dX0_nextOf_35 I
end S_X0_nextOf
theorem uk_X0_nextOf (l : Launch) (n : Nat) (D : va_G) (d : UD) (u : UM) (t : Nat) (p0 : Nat) (p1 : Int32) (p2 : Nat) (r : Int32) (h : uf_X0_nextOf n d u t p0 p1 p2 = some r) : u_M l yX0_nextOf (ws_ yX0_nextOf cX0_nextOf 5 (some .int)) 0 0 (0, 0) D d u [.ref t, .ref p0, .int p1, .ref p2] (some (.int r)) u :=
  u_start (own := RX0) (lvl := [(0, .ref t), (1, .ref p0), (2, .int p1), (3, .ref p2)]) (by decide) rfl (Nat.le_of_ble_eq_true rfl) rfl (fun p e s m args below meth c ls X hr hlk hI hl hA I hC => uw_X0_nextOf X hA ⟨Nat.le_refl _, Nat.le_refl _⟩ ⟨Nat.zero_le _, Nat.zero_le _⟩ n u t p0 p1 p2 r h (fun H locs ls pc hd I => u_iret X I hr hlk ⟨rfl, rfl⟩ hd) _ _ ls I hl)

/-! SwapPress$Ways.<init>()V -/
def uf_X2_init (n : Nat) (d : UD) (u : UM) (t : Nat) : Option ((Unit × UM) × UC) :=
  m_g (u_ln 144) (u_ac (1, (144 : Int32).toNatClampNeg) (m_b (some (u_nw u (.inl (d.1 0, (144 : Int32).toNatClampNeg, .inl (fun _ => 0))))) (fun u2 => m_b (u_pf u2 3 0 t (.ref u.2)) (fun w5 => m_g (u_ln 144) (u_ac (1, (144 : Int32).toNatClampNeg) (m_b (some (u_nw (w5, u2.2) (.inl (d.1 0, (144 : Int32).toNatClampNeg, .inl (fun _ => 0))))) (fun u8 => m_b (u_pf u8 3 1 t (.ref u2.2)) (fun w11 => m_g (u_ln 144) (u_ac (1, (144 : Int32).toNatClampNeg) (m_b (some (u_nw (w11, u8.2) (.inl (d.1 1, (144 : Int32).toNatClampNeg, .inr (.inl (fun _ => 0)))))) (fun u14 => m_b (u_pf u14 3 2 t (.ref u8.2)) (fun w17 => m_g (u_ln 144) (u_ac (1, (144 : Int32).toNatClampNeg) (m_b (some (u_nw (w17, u14.2) (.inl (d.1 1, (144 : Int32).toNatClampNeg, .inr (.inl (fun _ => 0)))))) (fun u20 => m_b (u_pf u20 3 3 t (.ref u14.2)) (fun w23 => m_g (u_ln 18) (u_ac (1, (18 : Int32).toNatClampNeg) (m_b (some (u_nw (w23, u20.2) (.inl (d.1 1, (18 : Int32).toNatClampNeg, .inr (.inl (fun _ => 0)))))) (fun u26 => m_b (u_pf u26 3 4 t (.ref u20.2)) (fun w29 => m_g (u_ln 18) (u_ac (1, (18 : Int32).toNatClampNeg) (m_b (some (u_nw (w29, u26.2) (.inl (d.1 0, (18 : Int32).toNatClampNeg, .inl (fun _ => 0))))) (fun u32 => m_b (u_pf u32 3 5 t (.ref u26.2)) (fun w35 => m_g (u_ln 64) (u_ac (1, (64 : Int32).toNatClampNeg) (m_b (some (u_nw (w35, u32.2) (.inl (d.1 0, (64 : Int32).toNatClampNeg, .inl (fun _ => 0))))) (fun u38 => m_b (u_pf u38 3 6 t (.ref u32.2)) (fun w41 => some (((), (w41, u38.2)), (0, 0))))))))))))))))))))))))))))))
theorem uh_X2_init : yX2_init.cls = RX2 ∧ yX2_init.cls ≠ "java/lang/invoke/MethodHandle" ∧ yX2_init.cls ≠ "java/lang/invoke/VarHandle" ∧ (parseMethodDescriptor yX2_init.desc).map (fun d => d.parameters.length) = some 0 := by decide +kernel
section S_X2_init
variable {p : Program} {l : Launch} {e : Env} {R : Room} {s : State} {m : MethodId} {args : Array Value} {below : List Frame} {meth : Method} {c : Code} {Q : State → Prop} {D : va_G} {A : Nat → Prop} {d : UD}
theorem uw_X2_init (X : u_X RX2 D A d p s m c cX2_init 1 args) (hA : ∀ q, s.heap.size ≤ q → A q) (hR : 1 ≤ R.frames ∧ 20 ≤ R.locals) (hI : meth.name = "<init>") (n : Nat) (u : UM) (t : Nat) (r0 : Unit) (ur : UM) (C : UC) (h : uf_X2_init n d u t = some ((r0, ur), C)) (hret : ∀ (H : Heap) (locs : List Loc) (ls : Array Slot) (pc cells slots : Nat), decode cX2_init pc = .ok (.return_, 1) → u_left R cells slots (u_add (0, 0) (0, 0)) → u_I D A s.heap ur H locs cells → W p l e R s m args below meth c H locs cells slots Q (F0 m pc ls [])) : ∀ (H : Heap) (locs : List Loc) (ls : Array Slot) (cells slots : Nat), u_left R cells slots (u_add C (0, 0)) → u_I D A s.heap u H locs cells → lv_has ls 1 [(0, .ref t)] → W p l e R s m args below meth c H locs cells slots Q (F0 m 0 ls []) := by
  intro H locs ls cells slots hC I hl
  unfold uf_X2_init at h
  refine lv_aload_n X.1 X.2.1 dX2_init_0 rfl (lv_at hl 0 rfl) ?_
  refine u_obj X hl.1 q208 q139 q140 (Nat.le_trans (Nat.le_of_ble_eq_true rfl) hR.1) (Nat.le_trans (Nat.le_of_ble_eq_true rfl) hR.2) (Nat.le_of_ble_eq_true rfl) dX2_init_1 ?_
  refine lv_aload_n X.1 X.2.1 dX2_init_4 rfl (lv_at hl 0 rfl) ?_
  refine lv_sipush (v := 144) X.1 X.2.1 dX2_init_5 (by decide) ?_
  obtain ⟨g3, h⟩ := m_gS h
  obtain ⟨C1, h, hq⟩ := u_acS h
  rw [hq] at hC
  obtain ⟨u2, e4, h⟩ := m_bS h
  refine u_NP X I hA 0 (atype := .int) rfl q200 (x := (_, .inl (fun _ => 0))) (fun _ => rfl) (by decide) g3 e4 hC dX2_init_8 (fun H cells slots hC I => ?_)
  obtain ⟨w5, e6, h⟩ := m_bS h
  refine u_PF X I e6 (C := RX2) (T := TX2) (N := 8) (ref := "SwapPress$Ways") in_X2 tyX2 tyX2_ok nmX2 rfl (by decide) rfl rfl q209 (fun _ h => h) rfl hI rfl rfl rfl dX2_init_10 (fun H locs I => ?_)
  refine lv_aload_n X.1 X.2.1 dX2_init_13 rfl (lv_at hl 0 rfl) ?_
  refine lv_sipush (v := 144) X.1 X.2.1 dX2_init_14 (by decide) ?_
  obtain ⟨g9, h⟩ := m_gS h
  obtain ⟨C7, h, hq⟩ := u_acS h
  rw [hq] at hC
  obtain ⟨u8, e10, h⟩ := m_bS h
  refine u_NP X I hA 0 (atype := .int) rfl q200 (x := (_, .inl (fun _ => 0))) (fun _ => rfl) (by decide) g9 e10 hC dX2_init_17 (fun H cells slots hC I => ?_)
  obtain ⟨w11, e12, h⟩ := m_bS h
  refine u_PF X I e12 (C := RX2) (T := TX2) (N := 8) (ref := "SwapPress$Ways") in_X2 tyX2 tyX2_ok nmX2 rfl (by decide) rfl rfl q210 (fun _ h => h) rfl hI rfl rfl rfl dX2_init_19 (fun H locs I => ?_)
  refine lv_aload_n X.1 X.2.1 dX2_init_22 rfl (lv_at hl 0 rfl) ?_
  refine lv_sipush (v := 144) X.1 X.2.1 dX2_init_23 (by decide) ?_
  obtain ⟨g15, h⟩ := m_gS h
  obtain ⟨C13, h, hq⟩ := u_acS h
  rw [hq] at hC
  obtain ⟨u14, e16, h⟩ := m_bS h
  refine u_NP X I hA 1 (atype := .long) rfl q234 (x := (_, .inr (.inl (fun _ => 0)))) (fun _ => rfl) (by decide) g15 e16 hC dX2_init_26 (fun H cells slots hC I => ?_)
  obtain ⟨w17, e18, h⟩ := m_bS h
  refine u_PF X I e18 (C := RX2) (T := TX2) (N := 8) (ref := "SwapPress$Ways") in_X2 tyX2 tyX2_ok nmX2 rfl (by decide) rfl rfl q211 (fun _ h => h) rfl hI rfl rfl rfl dX2_init_28 (fun H locs I => ?_)
  refine lv_aload_n X.1 X.2.1 dX2_init_31 rfl (lv_at hl 0 rfl) ?_
  refine lv_sipush (v := 144) X.1 X.2.1 dX2_init_32 (by decide) ?_
  obtain ⟨g21, h⟩ := m_gS h
  obtain ⟨C19, h, hq⟩ := u_acS h
  rw [hq] at hC
  obtain ⟨u20, e22, h⟩ := m_bS h
  refine u_NP X I hA 1 (atype := .long) rfl q234 (x := (_, .inr (.inl (fun _ => 0)))) (fun _ => rfl) (by decide) g21 e22 hC dX2_init_35 (fun H cells slots hC I => ?_)
  obtain ⟨w23, e24, h⟩ := m_bS h
  refine u_PF X I e24 (C := RX2) (T := TX2) (N := 8) (ref := "SwapPress$Ways") in_X2 tyX2 tyX2_ok nmX2 rfl (by decide) rfl rfl q212 (fun _ h => h) rfl hI rfl rfl rfl dX2_init_37 (fun H locs I => ?_)
  refine lv_aload_n X.1 X.2.1 dX2_init_40 rfl (lv_at hl 0 rfl) ?_
  refine lv_bipush (v := 18) X.1 X.2.1 dX2_init_41 (by decide) ?_
  obtain ⟨g27, h⟩ := m_gS h
  obtain ⟨C25, h, hq⟩ := u_acS h
  rw [hq] at hC
  obtain ⟨u26, e28, h⟩ := m_bS h
  refine u_NP X I hA 1 (atype := .long) rfl q234 (x := (_, .inr (.inl (fun _ => 0)))) (fun _ => rfl) (by decide) g27 e28 hC dX2_init_43 (fun H cells slots hC I => ?_)
  obtain ⟨w29, e30, h⟩ := m_bS h
  refine u_PF X I e30 (C := RX2) (T := TX2) (N := 8) (ref := "SwapPress$Ways") in_X2 tyX2 tyX2_ok nmX2 rfl (by decide) rfl rfl q213 (fun _ h => h) rfl hI rfl rfl rfl dX2_init_45 (fun H locs I => ?_)
  refine lv_aload_n X.1 X.2.1 dX2_init_48 rfl (lv_at hl 0 rfl) ?_
  refine lv_bipush (v := 18) X.1 X.2.1 dX2_init_49 (by decide) ?_
  obtain ⟨g33, h⟩ := m_gS h
  obtain ⟨C31, h, hq⟩ := u_acS h
  rw [hq] at hC
  obtain ⟨u32, e34, h⟩ := m_bS h
  refine u_NP X I hA 0 (atype := .int) rfl q200 (x := (_, .inl (fun _ => 0))) (fun _ => rfl) (by decide) g33 e34 hC dX2_init_51 (fun H cells slots hC I => ?_)
  obtain ⟨w35, e36, h⟩ := m_bS h
  refine u_PF X I e36 (C := RX2) (T := TX2) (N := 8) (ref := "SwapPress$Ways") in_X2 tyX2 tyX2_ok nmX2 rfl (by decide) rfl rfl q214 (fun _ h => h) rfl hI rfl rfl rfl dX2_init_53 (fun H locs I => ?_)
  refine lv_aload_n X.1 X.2.1 dX2_init_56 rfl (lv_at hl 0 rfl) ?_
  refine lv_bipush (v := 64) X.1 X.2.1 dX2_init_57 (by decide) ?_
  obtain ⟨g39, h⟩ := m_gS h
  obtain ⟨C37, h, hq⟩ := u_acS h
  rw [hq] at hC
  obtain ⟨u38, e40, h⟩ := m_bS h
  refine u_NP X I hA 0 (atype := .int) rfl q200 (x := (_, .inl (fun _ => 0))) (fun _ => rfl) (by decide) g39 e40 hC dX2_init_59 (fun H cells slots hC I => ?_)
  obtain ⟨w41, e42, h⟩ := m_bS h
  refine u_PF X I e42 (C := RX2) (T := TX2) (N := 8) (ref := "SwapPress$Ways") in_X2 tyX2 tyX2_ok nmX2 rfl (by decide) rfl rfl q215 (fun _ h => h) rfl hI rfl rfl rfl dX2_init_61 (fun H locs I => ?_)
  obtain ⟨he, rfl⟩ := m_e3 h
  obtain ⟨rfl, rfl⟩ := m_e4 he
  exact hret H locs ls 64 _ _ dX2_init_64 hC I
end S_X2_init
theorem uk_X2_init (l : Launch) (n : Nat) (D : va_G) (d : UD) (u : UM) (t : Nat) (ur : UM) (C : UC) (h : uf_X2_init n d u t = some (((), ur), C)) : u_M l yX2_init (ws_ yX2_init cX2_init 1 none) 1 20 C D d u [.ref t] none ur :=
  u_start (own := RX2) (lvl := [(0, .ref t)]) (by decide) rfl (Nat.le_of_ble_eq_true rfl) rfl (fun p e s m args below meth c ls X hr hlk hI hl hA I hC => uw_X2_init X hA ⟨Nat.le_refl _, Nat.le_refl _⟩ hI n u t () ur C h (fun H locs ls pc cells slots hd hC I => u_vret X I hr hlk (u_leftE hC) hd) _ _ ls _ _ hC I hl)

/-! SwapPress$Ways.edge(IIJJ)V -/
def uf_X2_edge (n : Nat) (d : UD) (u : UM) (t : Nat) (p0 : Int32) (p1 : Int32) (p2 : Int64) (p3 : Int64) : Option ((Unit × UM) × UC) :=
  m_b (u_fr d u 3 0 t) (fun b1 => m_b (u_fi d u 3 7 t) (fun b3 => m_b (u_stI d u b1 b3 p0) (fun w5 => m_b (u_fr d (w5, u.2) 3 1 t) (fun b7 => m_b (u_fi d (w5, u.2) 3 7 t) (fun b9 => m_b (u_stI d (w5, u.2) b7 b9 p1) (fun w11 => m_b (u_fr d (w11, u.2) 3 2 t) (fun b13 => m_b (u_fi d (w11, u.2) 3 7 t) (fun b15 => m_b (u_stL d (w11, u.2) b13 b15 p2) (fun w17 => m_b (u_fr d (w17, u.2) 3 3 t) (fun b19 => m_b (u_fi d (w17, u.2) 3 7 t) (fun b21 => m_b (u_stL d (w17, u.2) b19 b21 p3) (fun w23 => m_b (u_fr d (w23, u.2) 3 0 t) (fun b25 => m_b (u_fi d (w23, u.2) 3 7 t) (fun b27 => m_b (u_stI d (w23, u.2) b25 (b27 + 1) p1) (fun w29 => m_b (u_fr d (w29, u.2) 3 1 t) (fun b31 => m_b (u_fi d (w29, u.2) 3 7 t) (fun b33 => m_b (u_stI d (w29, u.2) b31 (b33 + 1) p0) (fun w35 => m_b (u_fr d (w35, u.2) 3 2 t) (fun b37 => m_b (u_fi d (w35, u.2) 3 7 t) (fun b39 => m_b (u_stL d (w35, u.2) b37 (b39 + 1) 0) (fun w41 => m_b (u_fr d (w41, u.2) 3 3 t) (fun b43 => m_b (u_fi d (w41, u.2) 3 7 t) (fun b45 => m_b (u_stL d (w41, u.2) b43 (b45 + 1) (-p3)) (fun w47 => m_b (u_fi d (w47, u.2) 3 7 t) (fun b49 => m_b (u_pf (w47, u.2) 3 7 t (.int (b49 + 2))) (fun w51 => some (((), (w51, u.2)), (0, 0))))))))))))))))))))))))))))
theorem uh_X2_edge : yX2_edge.cls = RX2 ∧ yX2_edge.cls ≠ "java/lang/invoke/MethodHandle" ∧ yX2_edge.cls ≠ "java/lang/invoke/VarHandle" ∧ (parseMethodDescriptor yX2_edge.desc).map (fun d => d.parameters.length) = some 4 := by decide +kernel
section S_X2_edge
variable {p : Program} {l : Launch} {e : Env} {R : Room} {s : State} {m : MethodId} {args : Array Value} {below : List Frame} {meth : Method} {c : Code} {Q : State → Prop} {D : va_G} {A : Nat → Prop} {d : UD}
theorem uw_X2_edge (X : u_X RX2 D A d p s m c cX2_edge 7 args) (hA : ∀ q, s.heap.size ≤ q → A q) (hR : 0 ≤ R.frames ∧ 0 ≤ R.locals) (n : Nat) (u : UM) (t : Nat) (p0 : Int32) (p1 : Int32) (p2 : Int64) (p3 : Int64) (r0 : Unit) (ur : UM) (C : UC) (h : uf_X2_edge n d u t p0 p1 p2 p3 = some ((r0, ur), C)) (hret : ∀ (H : Heap) (locs : List Loc) (ls : Array Slot) (pc cells slots : Nat), decode cX2_edge pc = .ok (.return_, 1) → u_left R cells slots (u_add (0, 0) (0, 0)) → u_I D A s.heap ur H locs cells → W p l e R s m args below meth c H locs cells slots Q (F0 m pc ls [])) : ∀ (H : Heap) (locs : List Loc) (ls : Array Slot) (cells slots : Nat), u_left R cells slots (u_add C (0, 0)) → u_I D A s.heap u H locs cells → lv_has ls 7 [(0, .ref t), (1, .int p0), (2, .int p1), (3, .long p2), (5, .long p3)] → W p l e R s m args below meth c H locs cells slots Q (F0 m 0 ls []) := by
  intro H locs ls cells slots hC I hl
  unfold uf_X2_edge at h
  refine lv_aload_n X.1 X.2.1 dX2_edge_0 rfl (lv_at hl 0 rfl) ?_
  obtain ⟨b1, e2, h⟩ := m_bS h
  refine u_Gr X I e2 (C := RX2) (T := TX2) (N := 8) (ref := "SwapPress$Ways") in_X2 rfl (by decide) rfl rfl q209 (fun _ h => h) dX2_edge_1 ?_
  refine lv_aload_n X.1 X.2.1 dX2_edge_4 rfl (lv_at hl 0 rfl) ?_
  obtain ⟨b3, e4, h⟩ := m_bS h
  refine u_Gi X I e4 (C := RX2) (T := TX2) (N := 8) (ref := "SwapPress$Ways") in_X2 rfl (by decide) rfl rfl q216 (fun _ h => h) dX2_edge_5 ?_
  refine lv_iload_n X.1 X.2.1 dX2_edge_8 rfl (lv_at hl 1 rfl) ?_
  obtain ⟨w5, e6, h⟩ := m_bS h
  refine u_SI X I e6 dX2_edge_9 (fun H locs I => ?_)
  refine lv_aload_n X.1 X.2.1 dX2_edge_10 rfl (lv_at hl 0 rfl) ?_
  obtain ⟨b7, e8, h⟩ := m_bS h
  refine u_Gr X I e8 (C := RX2) (T := TX2) (N := 8) (ref := "SwapPress$Ways") in_X2 rfl (by decide) rfl rfl q210 (fun _ h => h) dX2_edge_11 ?_
  refine lv_aload_n X.1 X.2.1 dX2_edge_14 rfl (lv_at hl 0 rfl) ?_
  obtain ⟨b9, e10, h⟩ := m_bS h
  refine u_Gi X I e10 (C := RX2) (T := TX2) (N := 8) (ref := "SwapPress$Ways") in_X2 rfl (by decide) rfl rfl q216 (fun _ h => h) dX2_edge_15 ?_
  refine lv_iload_n X.1 X.2.1 dX2_edge_18 rfl (lv_at hl 2 rfl) ?_
  obtain ⟨w11, e12, h⟩ := m_bS h
  refine u_SI X I e12 dX2_edge_19 (fun H locs I => ?_)
  refine lv_aload_n X.1 X.2.1 dX2_edge_20 rfl (lv_at hl 0 rfl) ?_
  obtain ⟨b13, e14, h⟩ := m_bS h
  refine u_Gr X I e14 (C := RX2) (T := TX2) (N := 8) (ref := "SwapPress$Ways") in_X2 rfl (by decide) rfl rfl q211 (fun _ h => h) dX2_edge_21 ?_
  refine lv_aload_n X.1 X.2.1 dX2_edge_24 rfl (lv_at hl 0 rfl) ?_
  obtain ⟨b15, e16, h⟩ := m_bS h
  refine u_Gi X I e16 (C := RX2) (T := TX2) (N := 8) (ref := "SwapPress$Ways") in_X2 rfl (by decide) rfl rfl q216 (fun _ h => h) dX2_edge_25 ?_
  refine lv_lload_n X.1 X.2.1 dX2_edge_28 rfl (lv_at hl 3 rfl) ?_
  obtain ⟨w17, e18, h⟩ := m_bS h
  refine u_SL X I e18 dX2_edge_29 (fun H locs I => ?_)
  refine lv_aload_n X.1 X.2.1 dX2_edge_30 rfl (lv_at hl 0 rfl) ?_
  obtain ⟨b19, e20, h⟩ := m_bS h
  refine u_Gr X I e20 (C := RX2) (T := TX2) (N := 8) (ref := "SwapPress$Ways") in_X2 rfl (by decide) rfl rfl q212 (fun _ h => h) dX2_edge_31 ?_
  refine lv_aload_n X.1 X.2.1 dX2_edge_34 rfl (lv_at hl 0 rfl) ?_
  obtain ⟨b21, e22, h⟩ := m_bS h
  refine u_Gi X I e22 (C := RX2) (T := TX2) (N := 8) (ref := "SwapPress$Ways") in_X2 rfl (by decide) rfl rfl q216 (fun _ h => h) dX2_edge_35 ?_
  refine lv_lload X.1 X.2.1 dX2_edge_38 (lv_at hl 4 rfl) ?_
  obtain ⟨w23, e24, h⟩ := m_bS h
  refine u_SL X I e24 dX2_edge_40 (fun H locs I => ?_)
  refine lv_aload_n X.1 X.2.1 dX2_edge_41 rfl (lv_at hl 0 rfl) ?_
  obtain ⟨b25, e26, h⟩ := m_bS h
  refine u_Gr X I e26 (C := RX2) (T := TX2) (N := 8) (ref := "SwapPress$Ways") in_X2 rfl (by decide) rfl rfl q209 (fun _ h => h) dX2_edge_42 ?_
  refine lv_aload_n X.1 X.2.1 dX2_edge_45 rfl (lv_at hl 0 rfl) ?_
  obtain ⟨b27, e28, h⟩ := m_bS h
  refine u_Gi X I e28 (C := RX2) (T := TX2) (N := 8) (ref := "SwapPress$Ways") in_X2 rfl (by decide) rfl rfl q216 (fun _ h => h) dX2_edge_46 ?_
  refine lv_iconst (v := 1) X.1 X.2.1 dX2_edge_49 (by decide) ?_
  refine lv_iadd X.1 X.2.1 dX2_edge_50 ?_
  refine lv_iload_n X.1 X.2.1 dX2_edge_51 rfl (lv_at hl 2 rfl) ?_
  obtain ⟨w29, e30, h⟩ := m_bS h
  refine u_SI X I e30 dX2_edge_52 (fun H locs I => ?_)
  refine lv_aload_n X.1 X.2.1 dX2_edge_53 rfl (lv_at hl 0 rfl) ?_
  obtain ⟨b31, e32, h⟩ := m_bS h
  refine u_Gr X I e32 (C := RX2) (T := TX2) (N := 8) (ref := "SwapPress$Ways") in_X2 rfl (by decide) rfl rfl q210 (fun _ h => h) dX2_edge_54 ?_
  refine lv_aload_n X.1 X.2.1 dX2_edge_57 rfl (lv_at hl 0 rfl) ?_
  obtain ⟨b33, e34, h⟩ := m_bS h
  refine u_Gi X I e34 (C := RX2) (T := TX2) (N := 8) (ref := "SwapPress$Ways") in_X2 rfl (by decide) rfl rfl q216 (fun _ h => h) dX2_edge_58 ?_
  refine lv_iconst (v := 1) X.1 X.2.1 dX2_edge_61 (by decide) ?_
  refine lv_iadd X.1 X.2.1 dX2_edge_62 ?_
  refine lv_iload_n X.1 X.2.1 dX2_edge_63 rfl (lv_at hl 1 rfl) ?_
  obtain ⟨w35, e36, h⟩ := m_bS h
  refine u_SI X I e36 dX2_edge_64 (fun H locs I => ?_)
  refine lv_aload_n X.1 X.2.1 dX2_edge_65 rfl (lv_at hl 0 rfl) ?_
  obtain ⟨b37, e38, h⟩ := m_bS h
  refine u_Gr X I e38 (C := RX2) (T := TX2) (N := 8) (ref := "SwapPress$Ways") in_X2 rfl (by decide) rfl rfl q211 (fun _ h => h) dX2_edge_66 ?_
  refine lv_aload_n X.1 X.2.1 dX2_edge_69 rfl (lv_at hl 0 rfl) ?_
  obtain ⟨b39, e40, h⟩ := m_bS h
  refine u_Gi X I e40 (C := RX2) (T := TX2) (N := 8) (ref := "SwapPress$Ways") in_X2 rfl (by decide) rfl rfl q216 (fun _ h => h) dX2_edge_70 ?_
  refine lv_iconst (v := 1) X.1 X.2.1 dX2_edge_73 (by decide) ?_
  refine lv_iadd X.1 X.2.1 dX2_edge_74 ?_
  refine lv_lconst (v := 0) X.1 X.2.1 dX2_edge_75 (by decide) ?_
  obtain ⟨w41, e42, h⟩ := m_bS h
  refine u_SL X I e42 dX2_edge_76 (fun H locs I => ?_)
  refine lv_aload_n X.1 X.2.1 dX2_edge_77 rfl (lv_at hl 0 rfl) ?_
  obtain ⟨b43, e44, h⟩ := m_bS h
  refine u_Gr X I e44 (C := RX2) (T := TX2) (N := 8) (ref := "SwapPress$Ways") in_X2 rfl (by decide) rfl rfl q212 (fun _ h => h) dX2_edge_78 ?_
  refine lv_aload_n X.1 X.2.1 dX2_edge_81 rfl (lv_at hl 0 rfl) ?_
  obtain ⟨b45, e46, h⟩ := m_bS h
  refine u_Gi X I e46 (C := RX2) (T := TX2) (N := 8) (ref := "SwapPress$Ways") in_X2 rfl (by decide) rfl rfl q216 (fun _ h => h) dX2_edge_82 ?_
  refine lv_iconst (v := 1) X.1 X.2.1 dX2_edge_85 (by decide) ?_
  refine lv_iadd X.1 X.2.1 dX2_edge_86 ?_
  refine lv_lload X.1 X.2.1 dX2_edge_87 (lv_at hl 4 rfl) ?_
  refine lv_lneg X.1 X.2.1 dX2_edge_89 ?_
  obtain ⟨w47, e48, h⟩ := m_bS h
  refine u_SL X I e48 dX2_edge_90 (fun H locs I => ?_)
  refine lv_aload_n X.1 X.2.1 dX2_edge_91 rfl (lv_at hl 0 rfl) ?_
  refine lv_dup X.1 X.2.1 dX2_edge_92 rfl ?_
  obtain ⟨b49, e50, h⟩ := m_bS h
  refine u_Gi X I e50 (C := RX2) (T := TX2) (N := 8) (ref := "SwapPress$Ways") in_X2 rfl (by decide) rfl rfl q216 (fun _ h => h) dX2_edge_93 ?_
  refine lv_iconst (v := 2) X.1 X.2.1 dX2_edge_96 (by decide) ?_
  refine lv_iadd X.1 X.2.1 dX2_edge_97 ?_
  obtain ⟨w51, e52, h⟩ := m_bS h
  refine u_P X I e52 (C := RX2) (T := TX2) (N := 8) (ref := "SwapPress$Ways") in_X2 tyX2 tyX2_ok nmX2 rfl (by decide) rfl rfl q216 (fun _ h => h) rfl rfl rfl dX2_edge_98 (fun H locs I => ?_)
  obtain ⟨he, rfl⟩ := m_e3 h
  obtain ⟨rfl, rfl⟩ := m_e4 he
  exact hret H locs ls 101 _ _ dX2_edge_101 hC I
end S_X2_edge
theorem uk_X2_edge (l : Launch) (n : Nat) (D : va_G) (d : UD) (u : UM) (t : Nat) (p0 : Int32) (p1 : Int32) (p2 : Int64) (p3 : Int64) (ur : UM) (C : UC) (h : uf_X2_edge n d u t p0 p1 p2 p3 = some (((), ur), C)) : u_M l yX2_edge (ws_ yX2_edge cX2_edge 7 none) 0 0 C D d u [.ref t, .int p0, .int p1, .long p2, .long p3] none ur :=
  u_start (own := RX2) (lvl := [(0, .ref t), (1, .int p0), (2, .int p1), (3, .long p2), (5, .long p3)]) (by decide) rfl (Nat.le_of_ble_eq_true rfl) rfl (fun p e s m args below meth c ls X hr hlk hI hl hA I hC => uw_X2_edge X hA ⟨Nat.le_refl _, Nat.le_refl _⟩ n u t p0 p1 p2 p3 () ur C h (fun H locs ls pc cells slots hd hC I => u_vret X I hr hlk (u_leftE hC) hd) _ _ ls _ _ hC I hl)

/-! SwapPress$Ways.goesOnce()J -/
def uf_X2_goesOnce_L2 (n : Nat) (d : UD) (v0 : Nat) (v1 : Int32) (u : UM) : Option (((Int32 × UM) ⊕ UM) × UC) :=
  m_if ((18 : Int32) ≤ (v1 : Int32)) (some (.inr u, (0, 0))) (m_b (u_fr d u 3 4 v0) (fun b2 => m_b (u_stL d u b2 v1 2305843009213693951) (fun w4 => some (.inl ((v1 + 1, (w4, u.2))), (0, 0)))))
def uf_X2_goesOnce_L2l (n : Nat) (d : UD) (v0 : Nat) (x : (Int32 × UM)) : Option (UM × UC) := u_lp (fun (x : (Int32 × UM)) => uf_X2_goesOnce_L2 n d v0 x.1 x.2) n x
def uf_X2_goesOnce_J157 (n : Nat) (d : UD) (u : UM) (v0 : Nat) (v1 : Int32) (v2 : Int32) : Option (((Int32 × Int32 × UM) ⊕ (Int32 × UM)) × UC) :=
  some (.inl ((v1, v2 + 1, u)), (0, 0))
def uf_X2_goesOnce_L41 (n : Nat) (d : UD) (v0 : Nat) (v1 : Int32) (v2 : Int32) (u : UM) : Option (((Int32 × Int32 × UM) ⊕ (Int32 × UM)) × UC) :=
  m_b (u_fi d u 3 7 v0) (fun b13 => m_if ((b13 : Int32) ≤ (v2 : Int32)) (some (.inr ((v1, u)), (0, 0))) (m_b (u_fr d u 3 2 v0) (fun b16 => m_b (u_ldL d u b16 v2) (fun b18 => m_if ((lg_cmp b18 0 : Int32) = 0) (uf_X2_goesOnce_J157 n d u v0 v1 v2) (m_b (u_fr d u 3 4 v0) (fun b21 => m_b (u_fr d u 3 0 v0) (fun b23 => m_b (u_ldI d u b23 v2) (fun b25 => m_b (u_ldL d u b21 b25) (fun b27 => m_if ((lg_cmp b27 2305843009213693951 : Int32) = 0) (uf_X2_goesOnce_J157 n d u v0 v1 v2) (m_b (u_fr d u 3 4 v0) (fun b30 => m_b (u_fr d u 3 0 v0) (fun b32 => m_b (u_ldI d u b32 v2) (fun b34 => m_b (u_ldL d u b30 b34) (fun b36 => m_b (u_fr d u 3 3 v0) (fun b38 => m_b (u_ldL d u b38 v2) (fun b40 => m_b (u_fr d u 3 4 v0) (fun b42 => m_b (u_fr d u 3 1 v0) (fun b44 => m_b (u_ldI d u b44 v2) (fun b46 => m_b (u_ldL d u b42 b46) (fun b48 => m_if ((lg_cmp (b36 + b40) b48 : Int32) < 0) (m_b (u_fr d u 3 4 v0) (fun b51 => m_b (u_fr d u 3 1 v0) (fun b53 => m_b (u_ldI d u b53 v2) (fun b55 => m_b (u_fr d u 3 4 v0) (fun b57 => m_b (u_fr d u 3 0 v0) (fun b59 => m_b (u_ldI d u b59 v2) (fun b61 => m_b (u_ldL d u b57 b61) (fun b63 => m_b (u_fr d u 3 3 v0) (fun b65 => m_b (u_ldL d u b65 v2) (fun b67 => m_b (u_stL d u b51 b55 (b63 + b67)) (fun w69 => m_b (u_fr d (w69, u.2) 3 5 v0) (fun b71 => m_b (u_fr d (w69, u.2) 3 1 v0) (fun b73 => m_b (u_ldI d (w69, u.2) b73 v2) (fun b75 => m_b (u_stI d (w69, u.2) b71 b75 v2) (fun w77 => uf_X2_goesOnce_J157 n d (w77, u.2) v0 1 v2))))))))))))))) (uf_X2_goesOnce_J157 n d u v0 v1 v2)))))))))))))))))))))
def uf_X2_goesOnce_L41l (n : Nat) (d : UD) (v0 : Nat) (x : (Int32 × Int32 × UM)) : Option ((Int32 × UM) × UC) := u_lp (fun (x : (Int32 × Int32 × UM)) => uf_X2_goesOnce_L41 n d v0 x.1 x.2.1 x.2.2) n x
def uf_X2_goesOnce_L33 (n : Nat) (d : UD) (v0 : Nat) (v1 : Int32) (u : UM) : Option (((Int32 × UM) ⊕ UM) × UC) :=
  m_if ((v1 : Int32) = 0) (some (.inr u, (0, 0))) (u_bl (uf_X2_goesOnce_L41l n d v0 ((0, 0, u))) (fun y82 => some (.inl ((y82.1, y82.2)), (0, 0))))
def uf_X2_goesOnce_L33l (n : Nat) (d : UD) (v0 : Nat) (x : (Int32 × UM)) : Option (UM × UC) := u_lp (fun (x : (Int32 × UM)) => uf_X2_goesOnce_L33 n d v0 x.1 x.2) n x
def uf_X2_goesOnce_L190 (n : Nat) (d : UD) (v0 : Nat) (v2 : Int64) (v4 : Int32) (u : UM) : Option (((Int64 × Int32 × UM) ⊕ (Int64 × UM)) × UC) :=
  m_if ((v4 : Int32) = (16 : Int32)) (some (.inr ((v2, u)), (0, 0))) (m_b (u_fr d u 3 2 v0) (fun b93 => m_b (u_fr d u 3 5 v0) (fun b95 => m_b (u_ldI d u b95 v4) (fun b97 => m_b (u_ldL d u b93 b97) (fun b99 => m_b (some (if (b99 : Int64) < (v2 : Int64) then (b99 : Int64) else (v2 : Int64))) (fun y101 => m_b (u_fr d u 3 0 v0) (fun b103 => m_b (u_fr d u 3 5 v0) (fun b105 => m_b (u_ldI d u b105 v4) (fun b107 => m_b (u_ldI d u b103 b107) (fun b109 => some (.inl ((y101, b109, u)), (0, 0))))))))))))
def uf_X2_goesOnce_L190l (n : Nat) (d : UD) (v0 : Nat) (x : (Int64 × Int32 × UM)) : Option ((Int64 × UM) × UC) := u_lp (fun (x : (Int64 × Int32 × UM)) => uf_X2_goesOnce_L190 n d v0 x.1 x.2.1 x.2.2) n x
def uf_X2_goesOnce_L235 (n : Nat) (d : UD) (v0 : Nat) (v2 : Int64) (v4 : Int32) (u : UM) : Option (((Int32 × UM) ⊕ UM) × UC) :=
  m_if ((v4 : Int32) = (16 : Int32)) (some (.inr u, (0, 0))) (m_b (u_fr d u 3 2 v0) (fun b115 => m_b (u_fr d u 3 5 v0) (fun b117 => m_b (u_ldI d u b117 v4) (fun b119 => m_b (u_ldL d u b115 b119) (fun b121 => m_b (u_stL d u b115 b119 (b121 - v2)) (fun w123 => m_b (u_fr d (w123, u.2) 3 2 v0) (fun b125 => m_b (u_fr d (w123, u.2) 3 5 v0) (fun b127 => m_b (u_ldI d (w123, u.2) b127 v4) (fun b129 => m_b (u_ldL d (w123, u.2) b125 (b129 ^^^ 1)) (fun b131 => m_b (u_stL d (w123, u.2) b125 (b129 ^^^ 1) (b131 + v2)) (fun w133 => m_b (u_fr d (w133, u.2) 3 0 v0) (fun b135 => m_b (u_fr d (w133, u.2) 3 5 v0) (fun b137 => m_b (u_ldI d (w133, u.2) b137 v4) (fun b139 => m_b (u_ldI d (w133, u.2) b135 b139) (fun b141 => some (.inl ((b141, (w133, u.2))), (0, 0)))))))))))))))))
def uf_X2_goesOnce_L235l (n : Nat) (d : UD) (v0 : Nat) (v2 : Int64) (x : (Int32 × UM)) : Option (UM × UC) := u_lp (fun (x : (Int32 × UM)) => uf_X2_goesOnce_L235 n d v0 v2 x.1 x.2) n x
def uf_X2_goesOnce (n : Nat) (d : UD) (u : UM) (t : Nat) : Option ((Int64 × UM) × UC) :=
  u_bl (uf_X2_goesOnce_L2l n d t ((0, u))) (fun u7 => m_b (u_fr d u7 3 4 t) (fun b8 => m_b (u_stL d u7 b8 16 0) (fun w10 => u_bl (uf_X2_goesOnce_L33l n d t ((1, (w10, u7.2)))) (fun u86 => m_b (u_fr d u86 3 4 t) (fun b87 => m_b (u_ldL d u86 b87 17) (fun b89 => m_if ((lg_cmp b89 2305843009213693951 : Int32) = 0) (some ((0, u86), (0, 0))) (u_bl (uf_X2_goesOnce_L190l n d t ((2305843009213693951, 17, u86))) (fun y147 => u_bl (uf_X2_goesOnce_L235l n d t y147.1 ((17, y147.2))) (fun u144 => some ((y147.1, u144), (0, 0)))))))))))
theorem uh_X2_goesOnce : yX2_goesOnce.cls = RX2 ∧ yX2_goesOnce.cls ≠ "java/lang/invoke/MethodHandle" ∧ yX2_goesOnce.cls ≠ "java/lang/invoke/VarHandle" ∧ (parseMethodDescriptor yX2_goesOnce.desc).map (fun d => d.parameters.length) = some 0 := by decide +kernel
section S_X2_goesOnce
variable {p : Program} {l : Launch} {e : Env} {R : Room} {s : State} {m : MethodId} {args : Array Value} {below : List Frame} {meth : Method} {c : Code} {Q : State → Prop} {D : va_G} {A : Nat → Prop} {d : UD}
theorem wuf_X2_goesOnce_L2 (X : u_X RX2 D A d p s m c cX2_goesOnce 5 args) (hA : ∀ q, s.heap.size ≤ q → A q) (hR : 1 ≤ R.frames ∧ 40 ≤ R.locals) (n : Nat) (v0 : Nat) (x : (Int32 × UM)) (z : UM) (C cr : UC) (hz : uf_X2_goesOnce_L2l n d v0 x = some (z, C)) (hE : (fun (z : UM) (C : UC) => ∀ (H : Heap) (locs : List Loc) (ls : Array Slot) (cells slots : Nat), u_left R cells slots C → u_I D A s.heap z H locs cells → lv_has ls 5 [(0, .ref v0)] → W p l e R s m args below meth c H locs cells slots Q (F0 m 23 ls [])) z cr) : (fun (x : (Int32 × UM)) (C : UC) => ∀ (H : Heap) (locs : List Loc) (ls : Array Slot) (cells slots : Nat), u_left R cells slots C → u_I D A s.heap x.2 H locs cells → lv_has ls 5 [(0, .ref v0), (1, .int x.1)] → W p l e R s m args below meth c H locs cells slots Q (F0 m 2 ls [])) x (u_add C cr) := by
  refine u_lpW (G := fun (x : (Int32 × UM)) (C : UC) => ∀ (H : Heap) (locs : List Loc) (ls : Array Slot) (cells slots : Nat), u_left R cells slots C → u_I D A s.heap x.2 H locs cells → lv_has ls 5 [(0, .ref v0), (1, .int x.1)] → W p l e R s m args below meth c H locs cells slots Q (F0 m 2 ls [])) (E := fun (z : UM) (C : UC) => ∀ (H : Heap) (locs : List Loc) (ls : Array Slot) (cells slots : Nat), u_left R cells slots C → u_I D A s.heap z H locs cells → lv_has ls 5 [(0, .ref v0)] → W p l e R s m args below meth c H locs cells slots Q (F0 m 23 ls [])) ?_ n x z C cr hz hE
  rintro ⟨v1, u⟩ r C cr h hr H locs ls cells slots hC I hl
  replace h : uf_X2_goesOnce_L2 n d v0 v1 u = some (r, C) := h
  unfold uf_X2_goesOnce_L2 at h
  refine lv_iload_n X.1 X.2.1 dX2_goesOnce_2 rfl (lv_at hl 1 rfl) ?_
  refine lv_bipush (v := 18) X.1 X.2.1 dX2_goesOnce_3 (by decide) ?_
  refine lv_icmp_ge (tgt := 23) X.1 X.2.1 dX2_goesOnce_5 (by decide) (fun c1 => ?_) (fun c1 => ?_)
  · replace h := m_ifT c1 h
    obtain ⟨rfl, rfl⟩ := m_e3 h
    exact hr H locs ls _ _ (u_left0 hC) I (lv_sub hl [0] rfl)
  · replace h := m_ifF c1 h
    refine lv_aload_n X.1 X.2.1 dX2_goesOnce_8 rfl (lv_at hl 0 rfl) ?_
    obtain ⟨b2, e3, h⟩ := m_bS h
    refine u_Gr X I e3 (C := RX2) (T := TX2) (N := 8) (ref := "SwapPress$Ways") in_X2 rfl (by decide) rfl rfl q213 (fun _ h => h) dX2_goesOnce_9 ?_
    refine lv_iload_n X.1 X.2.1 dX2_goesOnce_12 rfl (lv_at hl 1 rfl) ?_
    refine lv_ldc2 (v := 2305843009213693951) X.1 X.2.1 X.2.2.2.1 (X.2.2.1 _ q1138) dX2_goesOnce_13 ?_
    obtain ⟨w4, e5, h⟩ := m_bS h
    refine u_SL X I e5 dX2_goesOnce_16 (fun H locs I => ?_)
    refine lv_iinc (v := v1 + 1) (lv' := [(1, .int (v1 + 1)), (0, .ref v0)]) X.1 X.2.1 dX2_goesOnce_17 hl (k := 1) rfl rfl (by decide) rfl (fun ls hl => ?_)
    refine lv_goto (tgt := 2) X.1 X.2.1 dX2_goesOnce_20 (by decide) ?_
    obtain ⟨rfl, rfl⟩ := m_e3 h
    exact hr H locs ls _ _ (u_left0 hC) I (lv_sub hl [1, 0] rfl)
theorem wuf_X2_goesOnce_L41 (X : u_X RX2 D A d p s m c cX2_goesOnce 5 args) (hA : ∀ q, s.heap.size ≤ q → A q) (hR : 1 ≤ R.frames ∧ 40 ≤ R.locals) (n : Nat) (v0 : Nat) (x : (Int32 × Int32 × UM)) (z : (Int32 × UM)) (C cr : UC) (hz : uf_X2_goesOnce_L41l n d v0 x = some (z, C)) (hE : (fun (z : (Int32 × UM)) (C : UC) => ∀ (H : Heap) (locs : List Loc) (ls : Array Slot) (cells slots : Nat), u_left R cells slots C → u_I D A s.heap z.2 H locs cells → lv_has ls 5 [(0, .ref v0), (1, .int z.1)] → W p l e R s m args below meth c H locs cells slots Q (F0 m 163 ls [])) z cr) : (fun (x : (Int32 × Int32 × UM)) (C : UC) => ∀ (H : Heap) (locs : List Loc) (ls : Array Slot) (cells slots : Nat), u_left R cells slots C → u_I D A s.heap x.2.2 H locs cells → lv_has ls 5 [(0, .ref v0), (1, .int x.1), (2, .int x.2.1)] → W p l e R s m args below meth c H locs cells slots Q (F0 m 41 ls [])) x (u_add C cr) := by
  refine u_lpW (G := fun (x : (Int32 × Int32 × UM)) (C : UC) => ∀ (H : Heap) (locs : List Loc) (ls : Array Slot) (cells slots : Nat), u_left R cells slots C → u_I D A s.heap x.2.2 H locs cells → lv_has ls 5 [(0, .ref v0), (1, .int x.1), (2, .int x.2.1)] → W p l e R s m args below meth c H locs cells slots Q (F0 m 41 ls [])) (E := fun (z : (Int32 × UM)) (C : UC) => ∀ (H : Heap) (locs : List Loc) (ls : Array Slot) (cells slots : Nat), u_left R cells slots C → u_I D A s.heap z.2 H locs cells → lv_has ls 5 [(0, .ref v0), (1, .int z.1)] → W p l e R s m args below meth c H locs cells slots Q (F0 m 163 ls [])) ?_ n x z C cr hz hE
  rintro ⟨v1, v2, u⟩ r C cr h hr H locs ls cells slots hC I hl
  replace h : uf_X2_goesOnce_L41 n d v0 v1 v2 u = some (r, C) := h
  have k157 : ∀ (u : UM) (v1 : Int32) (v2 : Int32) (H : Heap) (locs : List Loc) (ls : Array Slot) (cells slots : Nat) (C : UC), uf_X2_goesOnce_J157 n d u v0 v1 v2 = some (r, C) → u_left R cells slots (u_add C cr) → u_I D A s.heap u H locs cells → lv_has ls 5 [(0, .ref v0), (1, .int v1), (2, .int v2)] → W p l e R s m args below meth c H locs cells slots Q (F0 m 157 ls []) := by
    intro u v1 v2 H locs ls cells slots C h hC I hl
    unfold uf_X2_goesOnce_J157 at h
    refine lv_iinc (v := v2 + 1) (lv' := [(2, .int (v2 + 1)), (0, .ref v0), (1, .int v1)]) X.1 X.2.1 dX2_goesOnce_157 hl (k := 2) rfl rfl (by decide) rfl (fun ls hl => ?_)
    refine lv_goto (tgt := 41) X.1 X.2.1 dX2_goesOnce_160 (by decide) ?_
    obtain ⟨rfl, rfl⟩ := m_e3 h
    exact hr H locs ls _ _ (u_left0 hC) I (lv_sub hl [1, 2, 0] rfl)
  unfold uf_X2_goesOnce_L41 at h
  refine lv_iload_n X.1 X.2.1 dX2_goesOnce_41 rfl (lv_at hl 2 rfl) ?_
  refine lv_aload_n X.1 X.2.1 dX2_goesOnce_42 rfl (lv_at hl 0 rfl) ?_
  obtain ⟨b13, e14, h⟩ := m_bS h
  refine u_Gi X I e14 (C := RX2) (T := TX2) (N := 8) (ref := "SwapPress$Ways") in_X2 rfl (by decide) rfl rfl q216 (fun _ h => h) dX2_goesOnce_43 ?_
  refine lv_icmp_ge (tgt := 163) X.1 X.2.1 dX2_goesOnce_46 (by decide) (fun c15 => ?_) (fun c15 => ?_)
  · replace h := m_ifT c15 h
    obtain ⟨rfl, rfl⟩ := m_e3 h
    exact hr H locs ls _ _ (u_left0 hC) I (lv_sub hl [0, 1] rfl)
  · replace h := m_ifF c15 h
    refine lv_aload_n X.1 X.2.1 dX2_goesOnce_49 rfl (lv_at hl 0 rfl) ?_
    obtain ⟨b16, e17, h⟩ := m_bS h
    refine u_Gr X I e17 (C := RX2) (T := TX2) (N := 8) (ref := "SwapPress$Ways") in_X2 rfl (by decide) rfl rfl q211 (fun _ h => h) dX2_goesOnce_50 ?_
    refine lv_iload_n X.1 X.2.1 dX2_goesOnce_53 rfl (lv_at hl 2 rfl) ?_
    obtain ⟨b18, e19, h⟩ := m_bS h
    refine u_LL X I e19 dX2_goesOnce_54 ?_
    refine lv_lconst (v := 0) X.1 X.2.1 dX2_goesOnce_55 (by decide) ?_
    refine W.lcmp X.1 X.2.1 dX2_goesOnce_56 ?_
    refine lv_if_eq (tgt := 157) X.1 X.2.1 dX2_goesOnce_57 (by decide) (fun c20 => ?_) (fun c20 => ?_)
    · replace h := m_ifT c20 h
      exact k157 u v1 v2 H locs ls _ _ _ h hC I (lv_sub hl [0, 1, 2] rfl)
    · replace h := m_ifF c20 h
      refine lv_aload_n X.1 X.2.1 dX2_goesOnce_60 rfl (lv_at hl 0 rfl) ?_
      obtain ⟨b21, e22, h⟩ := m_bS h
      refine u_Gr X I e22 (C := RX2) (T := TX2) (N := 8) (ref := "SwapPress$Ways") in_X2 rfl (by decide) rfl rfl q213 (fun _ h => h) dX2_goesOnce_61 ?_
      refine lv_aload_n X.1 X.2.1 dX2_goesOnce_64 rfl (lv_at hl 0 rfl) ?_
      obtain ⟨b23, e24, h⟩ := m_bS h
      refine u_Gr X I e24 (C := RX2) (T := TX2) (N := 8) (ref := "SwapPress$Ways") in_X2 rfl (by decide) rfl rfl q209 (fun _ h => h) dX2_goesOnce_65 ?_
      refine lv_iload_n X.1 X.2.1 dX2_goesOnce_68 rfl (lv_at hl 2 rfl) ?_
      obtain ⟨b25, e26, h⟩ := m_bS h
      refine u_LI X I e26 dX2_goesOnce_69 ?_
      obtain ⟨b27, e28, h⟩ := m_bS h
      refine u_LL X I e28 dX2_goesOnce_70 ?_
      refine lv_ldc2 (v := 2305843009213693951) X.1 X.2.1 X.2.2.2.1 (X.2.2.1 _ q1138) dX2_goesOnce_71 ?_
      refine W.lcmp X.1 X.2.1 dX2_goesOnce_74 ?_
      refine lv_if_eq (tgt := 157) X.1 X.2.1 dX2_goesOnce_75 (by decide) (fun c29 => ?_) (fun c29 => ?_)
      · replace h := m_ifT c29 h
        exact k157 u v1 v2 H locs ls _ _ _ h hC I (lv_sub hl [0, 1, 2] rfl)
      · replace h := m_ifF c29 h
        refine lv_aload_n X.1 X.2.1 dX2_goesOnce_78 rfl (lv_at hl 0 rfl) ?_
        obtain ⟨b30, e31, h⟩ := m_bS h
        refine u_Gr X I e31 (C := RX2) (T := TX2) (N := 8) (ref := "SwapPress$Ways") in_X2 rfl (by decide) rfl rfl q213 (fun _ h => h) dX2_goesOnce_79 ?_
        refine lv_aload_n X.1 X.2.1 dX2_goesOnce_82 rfl (lv_at hl 0 rfl) ?_
        obtain ⟨b32, e33, h⟩ := m_bS h
        refine u_Gr X I e33 (C := RX2) (T := TX2) (N := 8) (ref := "SwapPress$Ways") in_X2 rfl (by decide) rfl rfl q209 (fun _ h => h) dX2_goesOnce_83 ?_
        refine lv_iload_n X.1 X.2.1 dX2_goesOnce_86 rfl (lv_at hl 2 rfl) ?_
        obtain ⟨b34, e35, h⟩ := m_bS h
        refine u_LI X I e35 dX2_goesOnce_87 ?_
        obtain ⟨b36, e37, h⟩ := m_bS h
        refine u_LL X I e37 dX2_goesOnce_88 ?_
        refine lv_aload_n X.1 X.2.1 dX2_goesOnce_89 rfl (lv_at hl 0 rfl) ?_
        obtain ⟨b38, e39, h⟩ := m_bS h
        refine u_Gr X I e39 (C := RX2) (T := TX2) (N := 8) (ref := "SwapPress$Ways") in_X2 rfl (by decide) rfl rfl q212 (fun _ h => h) dX2_goesOnce_90 ?_
        refine lv_iload_n X.1 X.2.1 dX2_goesOnce_93 rfl (lv_at hl 2 rfl) ?_
        obtain ⟨b40, e41, h⟩ := m_bS h
        refine u_LL X I e41 dX2_goesOnce_94 ?_
        refine lv_ladd X.1 X.2.1 dX2_goesOnce_95 ?_
        refine lv_aload_n X.1 X.2.1 dX2_goesOnce_96 rfl (lv_at hl 0 rfl) ?_
        obtain ⟨b42, e43, h⟩ := m_bS h
        refine u_Gr X I e43 (C := RX2) (T := TX2) (N := 8) (ref := "SwapPress$Ways") in_X2 rfl (by decide) rfl rfl q213 (fun _ h => h) dX2_goesOnce_97 ?_
        refine lv_aload_n X.1 X.2.1 dX2_goesOnce_100 rfl (lv_at hl 0 rfl) ?_
        obtain ⟨b44, e45, h⟩ := m_bS h
        refine u_Gr X I e45 (C := RX2) (T := TX2) (N := 8) (ref := "SwapPress$Ways") in_X2 rfl (by decide) rfl rfl q210 (fun _ h => h) dX2_goesOnce_101 ?_
        refine lv_iload_n X.1 X.2.1 dX2_goesOnce_104 rfl (lv_at hl 2 rfl) ?_
        obtain ⟨b46, e47, h⟩ := m_bS h
        refine u_LI X I e47 dX2_goesOnce_105 ?_
        obtain ⟨b48, e49, h⟩ := m_bS h
        refine u_LL X I e49 dX2_goesOnce_106 ?_
        refine W.lcmp X.1 X.2.1 dX2_goesOnce_107 ?_
        refine lv_if_lt (tgt := 114) X.1 X.2.1 dX2_goesOnce_108 (by decide) (fun c50 => ?_) (fun c50 => ?_)
        · replace h := m_ifT c50 h
          refine lv_aload_n X.1 X.2.1 dX2_goesOnce_114 rfl (lv_at hl 0 rfl) ?_
          obtain ⟨b51, e52, h⟩ := m_bS h
          refine u_Gr X I e52 (C := RX2) (T := TX2) (N := 8) (ref := "SwapPress$Ways") in_X2 rfl (by decide) rfl rfl q213 (fun _ h => h) dX2_goesOnce_115 ?_
          refine lv_aload_n X.1 X.2.1 dX2_goesOnce_118 rfl (lv_at hl 0 rfl) ?_
          obtain ⟨b53, e54, h⟩ := m_bS h
          refine u_Gr X I e54 (C := RX2) (T := TX2) (N := 8) (ref := "SwapPress$Ways") in_X2 rfl (by decide) rfl rfl q210 (fun _ h => h) dX2_goesOnce_119 ?_
          refine lv_iload_n X.1 X.2.1 dX2_goesOnce_122 rfl (lv_at hl 2 rfl) ?_
          obtain ⟨b55, e56, h⟩ := m_bS h
          refine u_LI X I e56 dX2_goesOnce_123 ?_
          refine lv_aload_n X.1 X.2.1 dX2_goesOnce_124 rfl (lv_at hl 0 rfl) ?_
          obtain ⟨b57, e58, h⟩ := m_bS h
          refine u_Gr X I e58 (C := RX2) (T := TX2) (N := 8) (ref := "SwapPress$Ways") in_X2 rfl (by decide) rfl rfl q213 (fun _ h => h) dX2_goesOnce_125 ?_
          refine lv_aload_n X.1 X.2.1 dX2_goesOnce_128 rfl (lv_at hl 0 rfl) ?_
          obtain ⟨b59, e60, h⟩ := m_bS h
          refine u_Gr X I e60 (C := RX2) (T := TX2) (N := 8) (ref := "SwapPress$Ways") in_X2 rfl (by decide) rfl rfl q209 (fun _ h => h) dX2_goesOnce_129 ?_
          refine lv_iload_n X.1 X.2.1 dX2_goesOnce_132 rfl (lv_at hl 2 rfl) ?_
          obtain ⟨b61, e62, h⟩ := m_bS h
          refine u_LI X I e62 dX2_goesOnce_133 ?_
          obtain ⟨b63, e64, h⟩ := m_bS h
          refine u_LL X I e64 dX2_goesOnce_134 ?_
          refine lv_aload_n X.1 X.2.1 dX2_goesOnce_135 rfl (lv_at hl 0 rfl) ?_
          obtain ⟨b65, e66, h⟩ := m_bS h
          refine u_Gr X I e66 (C := RX2) (T := TX2) (N := 8) (ref := "SwapPress$Ways") in_X2 rfl (by decide) rfl rfl q212 (fun _ h => h) dX2_goesOnce_136 ?_
          refine lv_iload_n X.1 X.2.1 dX2_goesOnce_139 rfl (lv_at hl 2 rfl) ?_
          obtain ⟨b67, e68, h⟩ := m_bS h
          refine u_LL X I e68 dX2_goesOnce_140 ?_
          refine lv_ladd X.1 X.2.1 dX2_goesOnce_141 ?_
          obtain ⟨w69, e70, h⟩ := m_bS h
          refine u_SL X I e70 dX2_goesOnce_142 (fun H locs I => ?_)
          refine lv_aload_n X.1 X.2.1 dX2_goesOnce_143 rfl (lv_at hl 0 rfl) ?_
          obtain ⟨b71, e72, h⟩ := m_bS h
          refine u_Gr X I e72 (C := RX2) (T := TX2) (N := 8) (ref := "SwapPress$Ways") in_X2 rfl (by decide) rfl rfl q214 (fun _ h => h) dX2_goesOnce_144 ?_
          refine lv_aload_n X.1 X.2.1 dX2_goesOnce_147 rfl (lv_at hl 0 rfl) ?_
          obtain ⟨b73, e74, h⟩ := m_bS h
          refine u_Gr X I e74 (C := RX2) (T := TX2) (N := 8) (ref := "SwapPress$Ways") in_X2 rfl (by decide) rfl rfl q210 (fun _ h => h) dX2_goesOnce_148 ?_
          refine lv_iload_n X.1 X.2.1 dX2_goesOnce_151 rfl (lv_at hl 2 rfl) ?_
          obtain ⟨b75, e76, h⟩ := m_bS h
          refine u_LI X I e76 dX2_goesOnce_152 ?_
          refine lv_iload_n X.1 X.2.1 dX2_goesOnce_153 rfl (lv_at hl 2 rfl) ?_
          obtain ⟨w77, e78, h⟩ := m_bS h
          refine u_SI X I e78 dX2_goesOnce_154 (fun H locs I => ?_)
          refine lv_iconst (v := 1) X.1 X.2.1 dX2_goesOnce_155 (by decide) ?_
          refine lv_istore_n (lv' := [(1, .int 1), (0, .ref v0), (2, .int v2)]) X.1 X.2.1 dX2_goesOnce_156 rfl hl (by decide) rfl (fun ls hl => ?_)
          exact k157 (w77, u.2) 1 v2 H locs ls _ _ _ h hC I (lv_sub hl [1, 0, 2] rfl)
        · replace h := m_ifF c50 h
          refine lv_goto (tgt := 157) X.1 X.2.1 dX2_goesOnce_111 (by decide) ?_
          exact k157 u v1 v2 H locs ls _ _ _ h hC I (lv_sub hl [0, 1, 2] rfl)
theorem wuf_X2_goesOnce_L33 (X : u_X RX2 D A d p s m c cX2_goesOnce 5 args) (hA : ∀ q, s.heap.size ≤ q → A q) (hR : 1 ≤ R.frames ∧ 40 ≤ R.locals) (n : Nat) (v0 : Nat) (x : (Int32 × UM)) (z : UM) (C cr : UC) (hz : uf_X2_goesOnce_L33l n d v0 x = some (z, C)) (hE : (fun (z : UM) (C : UC) => ∀ (H : Heap) (locs : List Loc) (ls : Array Slot) (cells slots : Nat), u_left R cells slots C → u_I D A s.heap z H locs cells → lv_has ls 5 [(0, .ref v0)] → W p l e R s m args below meth c H locs cells slots Q (F0 m 166 ls [])) z cr) : (fun (x : (Int32 × UM)) (C : UC) => ∀ (H : Heap) (locs : List Loc) (ls : Array Slot) (cells slots : Nat), u_left R cells slots C → u_I D A s.heap x.2 H locs cells → lv_has ls 5 [(0, .ref v0), (1, .int x.1)] → W p l e R s m args below meth c H locs cells slots Q (F0 m 33 ls [])) x (u_add C cr) := by
  refine u_lpW (G := fun (x : (Int32 × UM)) (C : UC) => ∀ (H : Heap) (locs : List Loc) (ls : Array Slot) (cells slots : Nat), u_left R cells slots C → u_I D A s.heap x.2 H locs cells → lv_has ls 5 [(0, .ref v0), (1, .int x.1)] → W p l e R s m args below meth c H locs cells slots Q (F0 m 33 ls [])) (E := fun (z : UM) (C : UC) => ∀ (H : Heap) (locs : List Loc) (ls : Array Slot) (cells slots : Nat), u_left R cells slots C → u_I D A s.heap z H locs cells → lv_has ls 5 [(0, .ref v0)] → W p l e R s m args below meth c H locs cells slots Q (F0 m 166 ls [])) ?_ n x z C cr hz hE
  rintro ⟨v1, u⟩ r C cr h hr H locs ls cells slots hC I hl
  replace h : uf_X2_goesOnce_L33 n d v0 v1 u = some (r, C) := h
  unfold uf_X2_goesOnce_L33 at h
  refine lv_iload_n X.1 X.2.1 dX2_goesOnce_33 rfl (lv_at hl 1 rfl) ?_
  refine lv_if_eq (tgt := 166) X.1 X.2.1 dX2_goesOnce_34 (by decide) (fun c12 => ?_) (fun c12 => ?_)
  · replace h := m_ifT c12 h
    obtain ⟨rfl, rfl⟩ := m_e3 h
    exact hr H locs ls _ _ (u_left0 hC) I (lv_sub hl [0] rfl)
  · replace h := m_ifF c12 h
    refine lv_iconst (v := 0) X.1 X.2.1 dX2_goesOnce_37 (by decide) ?_
    refine lv_istore_n (lv' := [(1, .int 0), (0, .ref v0)]) X.1 X.2.1 dX2_goesOnce_38 rfl hl (by decide) rfl (fun ls hl => ?_)
    refine lv_iconst (v := 0) X.1 X.2.1 dX2_goesOnce_39 (by decide) ?_
    refine lv_istore_n (lv' := [(2, .int 0), (1, .int 0), (0, .ref v0)]) X.1 X.2.1 dX2_goesOnce_40 rfl hl (by decide) rfl (fun ls hl => ?_)
    obtain ⟨⟨z80, u81⟩, C83, C84, e79, h, hq⟩ := u_blS h
    rw [hq] at hC
    refine wuf_X2_goesOnce_L41 X hA hR n v0 _ _ _ _ e79 (fun H locs ls cells slots hC I hl => ?_) H locs ls _ _ (u_left2 hC) I (lv_sub hl [2, 1, 0] rfl)
    refine lv_goto (tgt := 33) X.1 X.2.1 dX2_goesOnce_163 (by decide) ?_
    obtain ⟨rfl, rfl⟩ := m_e3 h
    exact hr H locs ls _ _ (u_left0 hC) I (lv_sub hl [0, 1] rfl)
theorem wuf_X2_goesOnce_L190 (X : u_X RX2 D A d p s m c cX2_goesOnce 5 args) (hA : ∀ q, s.heap.size ≤ q → A q) (hR : 1 ≤ R.frames ∧ 40 ≤ R.locals) (n : Nat) (v0 : Nat) (x : (Int64 × Int32 × UM)) (z : (Int64 × UM)) (C cr : UC) (hz : uf_X2_goesOnce_L190l n d v0 x = some (z, C)) (hE : (fun (z : (Int64 × UM)) (C : UC) => ∀ (H : Heap) (locs : List Loc) (ls : Array Slot) (cells slots : Nat), u_left R cells slots C → u_I D A s.heap z.2 H locs cells → lv_has ls 5 [(0, .ref v0), (2, .long z.1)] → W p l e R s m args below meth c H locs cells slots Q (F0 m 231 ls [])) z cr) : (fun (x : (Int64 × Int32 × UM)) (C : UC) => ∀ (H : Heap) (locs : List Loc) (ls : Array Slot) (cells slots : Nat), u_left R cells slots C → u_I D A s.heap x.2.2 H locs cells → lv_has ls 5 [(0, .ref v0), (2, .long x.1), (4, .int x.2.1)] → W p l e R s m args below meth c H locs cells slots Q (F0 m 190 ls [])) x (u_add C cr) := by
  refine u_lpW (G := fun (x : (Int64 × Int32 × UM)) (C : UC) => ∀ (H : Heap) (locs : List Loc) (ls : Array Slot) (cells slots : Nat), u_left R cells slots C → u_I D A s.heap x.2.2 H locs cells → lv_has ls 5 [(0, .ref v0), (2, .long x.1), (4, .int x.2.1)] → W p l e R s m args below meth c H locs cells slots Q (F0 m 190 ls [])) (E := fun (z : (Int64 × UM)) (C : UC) => ∀ (H : Heap) (locs : List Loc) (ls : Array Slot) (cells slots : Nat), u_left R cells slots C → u_I D A s.heap z.2 H locs cells → lv_has ls 5 [(0, .ref v0), (2, .long z.1)] → W p l e R s m args below meth c H locs cells slots Q (F0 m 231 ls [])) ?_ n x z C cr hz hE
  rintro ⟨v2, v4, u⟩ r C cr h hr H locs ls cells slots hC I hl
  replace h : uf_X2_goesOnce_L190 n d v0 v2 v4 u = some (r, C) := h
  unfold uf_X2_goesOnce_L190 at h
  refine lv_iload X.1 X.2.1 dX2_goesOnce_190 (lv_at hl 2 rfl) ?_
  refine lv_bipush (v := 16) X.1 X.2.1 dX2_goesOnce_192 (by decide) ?_
  refine lv_icmp_eq (tgt := 231) X.1 X.2.1 dX2_goesOnce_194 (by decide) (fun c92 => ?_) (fun c92 => ?_)
  · replace h := m_ifT c92 h
    obtain ⟨rfl, rfl⟩ := m_e3 h
    exact hr H locs ls _ _ (u_left0 hC) I (lv_sub hl [0, 1] rfl)
  · replace h := m_ifF c92 h
    refine lv_lload_n X.1 X.2.1 dX2_goesOnce_197 rfl (lv_at hl 1 rfl) ?_
    refine lv_aload_n X.1 X.2.1 dX2_goesOnce_198 rfl (lv_at hl 0 rfl) ?_
    obtain ⟨b93, e94, h⟩ := m_bS h
    refine u_Gr X I e94 (C := RX2) (T := TX2) (N := 8) (ref := "SwapPress$Ways") in_X2 rfl (by decide) rfl rfl q211 (fun _ h => h) dX2_goesOnce_199 ?_
    refine lv_aload_n X.1 X.2.1 dX2_goesOnce_202 rfl (lv_at hl 0 rfl) ?_
    obtain ⟨b95, e96, h⟩ := m_bS h
    refine u_Gr X I e96 (C := RX2) (T := TX2) (N := 8) (ref := "SwapPress$Ways") in_X2 rfl (by decide) rfl rfl q214 (fun _ h => h) dX2_goesOnce_203 ?_
    refine lv_iload X.1 X.2.1 dX2_goesOnce_206 (lv_at hl 2 rfl) ?_
    obtain ⟨b97, e98, h⟩ := m_bS h
    refine u_LI X I e98 dX2_goesOnce_208 ?_
    obtain ⟨b99, e100, h⟩ := m_bS h
    refine u_LL X I e100 dX2_goesOnce_209 ?_
    refine va_mmin_long X.1 X.2.1 (X.2.2.2.2.2.1.trans hl.1.symm) X.2.2.2.1 (X.2.2.1 _ q1139) (X.2.2.1 _ q1140) (X.2.2.1 _ q114) (X.2.2.1 _ q1141) (Nat.le_trans (Nat.le_of_ble_eq_true rfl) hR.1) (Nat.le_trans (Nat.le_of_ble_eq_true rfl) hR.2) (u_leftLe hC).1 (u_leftLe hC).2 dX2_goesOnce_210 ?_
    obtain ⟨y101, e102, h⟩ := m_bS h
    rw [m_e1 e102]
    refine lv_lstore_n (lv' := [(2, .long y101), (0, .ref v0), (4, .int v4)]) X.1 X.2.1 dX2_goesOnce_213 rfl hl (by decide) rfl (fun ls hl => ?_)
    refine lv_aload_n X.1 X.2.1 dX2_goesOnce_214 rfl (lv_at hl 1 rfl) ?_
    obtain ⟨b103, e104, h⟩ := m_bS h
    refine u_Gr X I e104 (C := RX2) (T := TX2) (N := 8) (ref := "SwapPress$Ways") in_X2 rfl (by decide) rfl rfl q209 (fun _ h => h) dX2_goesOnce_215 ?_
    refine lv_aload_n X.1 X.2.1 dX2_goesOnce_218 rfl (lv_at hl 1 rfl) ?_
    obtain ⟨b105, e106, h⟩ := m_bS h
    refine u_Gr X I e106 (C := RX2) (T := TX2) (N := 8) (ref := "SwapPress$Ways") in_X2 rfl (by decide) rfl rfl q214 (fun _ h => h) dX2_goesOnce_219 ?_
    refine lv_iload X.1 X.2.1 dX2_goesOnce_222 (lv_at hl 2 rfl) ?_
    obtain ⟨b107, e108, h⟩ := m_bS h
    refine u_LI X I e108 dX2_goesOnce_224 ?_
    obtain ⟨b109, e110, h⟩ := m_bS h
    refine u_LI X I e110 dX2_goesOnce_225 ?_
    refine lv_istore (lv' := [(4, .int b109), (2, .long y101), (0, .ref v0)]) X.1 X.2.1 dX2_goesOnce_226 hl (by decide) rfl (fun ls hl => ?_)
    refine lv_goto (tgt := 190) X.1 X.2.1 dX2_goesOnce_228 (by decide) ?_
    obtain ⟨rfl, rfl⟩ := m_e3 h
    exact hr H locs ls _ _ (u_left0 hC) I (lv_sub hl [2, 1, 0] rfl)
theorem wuf_X2_goesOnce_L235 (X : u_X RX2 D A d p s m c cX2_goesOnce 5 args) (hA : ∀ q, s.heap.size ≤ q → A q) (hR : 1 ≤ R.frames ∧ 40 ≤ R.locals) (n : Nat) (v0 : Nat) (v2 : Int64) (x : (Int32 × UM)) (z : UM) (C cr : UC) (hz : uf_X2_goesOnce_L235l n d v0 v2 x = some (z, C)) (hE : (fun (z : UM) (C : UC) => ∀ (H : Heap) (locs : List Loc) (ls : Array Slot) (cells slots : Nat), u_left R cells slots C → u_I D A s.heap z H locs cells → lv_has ls 5 [(2, .long v2)] → W p l e R s m args below meth c H locs cells slots Q (F0 m 293 ls [])) z cr) : (fun (x : (Int32 × UM)) (C : UC) => ∀ (H : Heap) (locs : List Loc) (ls : Array Slot) (cells slots : Nat), u_left R cells slots C → u_I D A s.heap x.2 H locs cells → lv_has ls 5 [(0, .ref v0), (2, .long v2), (4, .int x.1)] → W p l e R s m args below meth c H locs cells slots Q (F0 m 235 ls [])) x (u_add C cr) := by
  refine u_lpW (G := fun (x : (Int32 × UM)) (C : UC) => ∀ (H : Heap) (locs : List Loc) (ls : Array Slot) (cells slots : Nat), u_left R cells slots C → u_I D A s.heap x.2 H locs cells → lv_has ls 5 [(0, .ref v0), (2, .long v2), (4, .int x.1)] → W p l e R s m args below meth c H locs cells slots Q (F0 m 235 ls [])) (E := fun (z : UM) (C : UC) => ∀ (H : Heap) (locs : List Loc) (ls : Array Slot) (cells slots : Nat), u_left R cells slots C → u_I D A s.heap z H locs cells → lv_has ls 5 [(2, .long v2)] → W p l e R s m args below meth c H locs cells slots Q (F0 m 293 ls [])) ?_ n x z C cr hz hE
  rintro ⟨v4, u⟩ r C cr h hr H locs ls cells slots hC I hl
  replace h : uf_X2_goesOnce_L235 n d v0 v2 v4 u = some (r, C) := h
  unfold uf_X2_goesOnce_L235 at h
  refine lv_iload X.1 X.2.1 dX2_goesOnce_235 (lv_at hl 2 rfl) ?_
  refine lv_bipush (v := 16) X.1 X.2.1 dX2_goesOnce_237 (by decide) ?_
  refine lv_icmp_eq (tgt := 293) X.1 X.2.1 dX2_goesOnce_239 (by decide) (fun c114 => ?_) (fun c114 => ?_)
  · replace h := m_ifT c114 h
    obtain ⟨rfl, rfl⟩ := m_e3 h
    exact hr H locs ls _ _ (u_left0 hC) I (lv_sub hl [1] rfl)
  · replace h := m_ifF c114 h
    refine lv_aload_n X.1 X.2.1 dX2_goesOnce_242 rfl (lv_at hl 0 rfl) ?_
    obtain ⟨b115, e116, h⟩ := m_bS h
    refine u_Gr X I e116 (C := RX2) (T := TX2) (N := 8) (ref := "SwapPress$Ways") in_X2 rfl (by decide) rfl rfl q211 (fun _ h => h) dX2_goesOnce_243 ?_
    refine lv_aload_n X.1 X.2.1 dX2_goesOnce_246 rfl (lv_at hl 0 rfl) ?_
    obtain ⟨b117, e118, h⟩ := m_bS h
    refine u_Gr X I e118 (C := RX2) (T := TX2) (N := 8) (ref := "SwapPress$Ways") in_X2 rfl (by decide) rfl rfl q214 (fun _ h => h) dX2_goesOnce_247 ?_
    refine lv_iload X.1 X.2.1 dX2_goesOnce_250 (lv_at hl 2 rfl) ?_
    obtain ⟨b119, e120, h⟩ := m_bS h
    refine u_LI X I e120 dX2_goesOnce_252 ?_
    refine lv_dup2_11 X.1 X.2.1 dX2_goesOnce_253 rfl rfl ?_
    obtain ⟨b121, e122, h⟩ := m_bS h
    refine u_LL X I e122 dX2_goesOnce_254 ?_
    refine lv_lload_n X.1 X.2.1 dX2_goesOnce_255 rfl (lv_at hl 1 rfl) ?_
    refine lv_lsub X.1 X.2.1 dX2_goesOnce_256 ?_
    obtain ⟨w123, e124, h⟩ := m_bS h
    refine u_SL X I e124 dX2_goesOnce_257 (fun H locs I => ?_)
    refine lv_aload_n X.1 X.2.1 dX2_goesOnce_258 rfl (lv_at hl 0 rfl) ?_
    obtain ⟨b125, e126, h⟩ := m_bS h
    refine u_Gr X I e126 (C := RX2) (T := TX2) (N := 8) (ref := "SwapPress$Ways") in_X2 rfl (by decide) rfl rfl q211 (fun _ h => h) dX2_goesOnce_259 ?_
    refine lv_aload_n X.1 X.2.1 dX2_goesOnce_262 rfl (lv_at hl 0 rfl) ?_
    obtain ⟨b127, e128, h⟩ := m_bS h
    refine u_Gr X I e128 (C := RX2) (T := TX2) (N := 8) (ref := "SwapPress$Ways") in_X2 rfl (by decide) rfl rfl q214 (fun _ h => h) dX2_goesOnce_263 ?_
    refine lv_iload X.1 X.2.1 dX2_goesOnce_266 (lv_at hl 2 rfl) ?_
    obtain ⟨b129, e130, h⟩ := m_bS h
    refine u_LI X I e130 dX2_goesOnce_268 ?_
    refine lv_iconst (v := 1) X.1 X.2.1 dX2_goesOnce_269 (by decide) ?_
    refine lv_ixor X.1 X.2.1 dX2_goesOnce_270 ?_
    refine lv_dup2_11 X.1 X.2.1 dX2_goesOnce_271 rfl rfl ?_
    obtain ⟨b131, e132, h⟩ := m_bS h
    refine u_LL X I e132 dX2_goesOnce_272 ?_
    refine lv_lload_n X.1 X.2.1 dX2_goesOnce_273 rfl (lv_at hl 1 rfl) ?_
    refine lv_ladd X.1 X.2.1 dX2_goesOnce_274 ?_
    obtain ⟨w133, e134, h⟩ := m_bS h
    refine u_SL X I e134 dX2_goesOnce_275 (fun H locs I => ?_)
    refine lv_aload_n X.1 X.2.1 dX2_goesOnce_276 rfl (lv_at hl 0 rfl) ?_
    obtain ⟨b135, e136, h⟩ := m_bS h
    refine u_Gr X I e136 (C := RX2) (T := TX2) (N := 8) (ref := "SwapPress$Ways") in_X2 rfl (by decide) rfl rfl q209 (fun _ h => h) dX2_goesOnce_277 ?_
    refine lv_aload_n X.1 X.2.1 dX2_goesOnce_280 rfl (lv_at hl 0 rfl) ?_
    obtain ⟨b137, e138, h⟩ := m_bS h
    refine u_Gr X I e138 (C := RX2) (T := TX2) (N := 8) (ref := "SwapPress$Ways") in_X2 rfl (by decide) rfl rfl q214 (fun _ h => h) dX2_goesOnce_281 ?_
    refine lv_iload X.1 X.2.1 dX2_goesOnce_284 (lv_at hl 2 rfl) ?_
    obtain ⟨b139, e140, h⟩ := m_bS h
    refine u_LI X I e140 dX2_goesOnce_286 ?_
    obtain ⟨b141, e142, h⟩ := m_bS h
    refine u_LI X I e142 dX2_goesOnce_287 ?_
    refine lv_istore (lv' := [(4, .int b141), (0, .ref v0), (2, .long v2)]) X.1 X.2.1 dX2_goesOnce_288 hl (by decide) rfl (fun ls hl => ?_)
    refine lv_goto (tgt := 235) X.1 X.2.1 dX2_goesOnce_290 (by decide) ?_
    obtain ⟨rfl, rfl⟩ := m_e3 h
    exact hr H locs ls _ _ (u_left0 hC) I (lv_sub hl [1, 2, 0] rfl)
theorem uw_X2_goesOnce (X : u_X RX2 D A d p s m c cX2_goesOnce 5 args) (hA : ∀ q, s.heap.size ≤ q → A q) (hR : 1 ≤ R.frames ∧ 40 ≤ R.locals) (n : Nat) (u : UM) (t : Nat) (r0 : Int64) (ur : UM) (C : UC) (h : uf_X2_goesOnce n d u t = some ((r0, ur), C)) (hret : ∀ (H : Heap) (locs : List Loc) (ls : Array Slot) (pc cells slots : Nat), decode cX2_goesOnce pc = .ok (.lreturn, 1) → u_left R cells slots (u_add (0, 0) (0, 0)) → u_I D A s.heap ur H locs cells → W p l e R s m args below meth c H locs cells slots Q (F0 m pc ls [.long r0])) : ∀ (H : Heap) (locs : List Loc) (ls : Array Slot) (cells slots : Nat), u_left R cells slots (u_add C (0, 0)) → u_I D A s.heap u H locs cells → lv_has ls 5 [(0, .ref t)] → W p l e R s m args below meth c H locs cells slots Q (F0 m 0 ls []) := by
  intro H locs ls cells slots hC I hl
  unfold uf_X2_goesOnce at h
  refine lv_iconst (v := 0) X.1 X.2.1 dX2_goesOnce_0 (by decide) ?_
  refine lv_istore_n (lv' := [(1, .int 0), (0, .ref t)]) X.1 X.2.1 dX2_goesOnce_1 rfl hl (by decide) rfl (fun ls hl => ?_)
  obtain ⟨u7, C152, C153, e6, h, hq⟩ := u_blS h
  rw [hq] at hC
  refine wuf_X2_goesOnce_L2 X hA hR n t _ _ _ _ e6 (fun H locs ls cells slots hC I hl => ?_) H locs ls _ _ (u_left2 hC) I (lv_sub hl [1, 0] rfl)
  refine lv_aload_n X.1 X.2.1 dX2_goesOnce_23 rfl (lv_at hl 0 rfl) ?_
  obtain ⟨b8, e9, h⟩ := m_bS h
  refine u_Gr X I e9 (C := RX2) (T := TX2) (N := 8) (ref := "SwapPress$Ways") in_X2 rfl (by decide) rfl rfl q213 (fun _ h => h) dX2_goesOnce_24 ?_
  refine lv_bipush (v := 16) X.1 X.2.1 dX2_goesOnce_27 (by decide) ?_
  refine lv_lconst (v := 0) X.1 X.2.1 dX2_goesOnce_29 (by decide) ?_
  obtain ⟨w10, e11, h⟩ := m_bS h
  refine u_SL X I e11 dX2_goesOnce_30 (fun H locs I => ?_)
  refine lv_iconst (v := 1) X.1 X.2.1 dX2_goesOnce_31 (by decide) ?_
  refine lv_istore_n (lv' := [(1, .int 1), (0, .ref t)]) X.1 X.2.1 dX2_goesOnce_32 rfl hl (by decide) rfl (fun ls hl => ?_)
  obtain ⟨u86, C150, C151, e85, h, hq⟩ := u_blS h
  rw [hq] at hC
  refine wuf_X2_goesOnce_L33 X hA hR n t _ _ _ _ e85 (fun H locs ls cells slots hC I hl => ?_) H locs ls _ _ (u_left2 hC) I (lv_sub hl [1, 0] rfl)
  refine lv_aload_n X.1 X.2.1 dX2_goesOnce_166 rfl (lv_at hl 0 rfl) ?_
  obtain ⟨b87, e88, h⟩ := m_bS h
  refine u_Gr X I e88 (C := RX2) (T := TX2) (N := 8) (ref := "SwapPress$Ways") in_X2 rfl (by decide) rfl rfl q213 (fun _ h => h) dX2_goesOnce_167 ?_
  refine lv_bipush (v := 17) X.1 X.2.1 dX2_goesOnce_170 (by decide) ?_
  obtain ⟨b89, e90, h⟩ := m_bS h
  refine u_LL X I e90 dX2_goesOnce_172 ?_
  refine lv_ldc2 (v := 2305843009213693951) X.1 X.2.1 X.2.2.2.1 (X.2.2.1 _ q1138) dX2_goesOnce_173 ?_
  refine W.lcmp X.1 X.2.1 dX2_goesOnce_176 ?_
  refine lv_if_ne (tgt := 182) X.1 X.2.1 dX2_goesOnce_177 (by decide) (fun c91 => ?_) (fun c91 => ?_)
  · replace h := m_ifF c91 h
    refine lv_ldc2 (v := 2305843009213693951) X.1 X.2.1 X.2.2.2.1 (X.2.2.1 _ q1138) dX2_goesOnce_182 ?_
    refine lv_lstore_n (lv' := [(2, .long 2305843009213693951), (0, .ref t)]) X.1 X.2.1 dX2_goesOnce_185 rfl hl (by decide) rfl (fun ls hl => ?_)
    refine lv_bipush (v := 17) X.1 X.2.1 dX2_goesOnce_186 (by decide) ?_
    refine lv_istore (lv' := [(4, .int 17), (2, .long 2305843009213693951), (0, .ref t)]) X.1 X.2.1 dX2_goesOnce_188 hl (by decide) rfl (fun ls hl => ?_)
    obtain ⟨⟨z112, u113⟩, C148, C149, e111, h, hq⟩ := u_blS h
    rw [hq] at hC
    refine wuf_X2_goesOnce_L190 X hA hR n t _ _ _ _ e111 (fun H locs ls cells slots hC I hl => ?_) H locs ls _ _ (u_left2 hC) I (lv_sub hl [2, 1, 0] rfl)
    refine lv_bipush (v := 17) X.1 X.2.1 dX2_goesOnce_231 (by decide) ?_
    refine lv_istore (lv' := [(4, .int 17), (0, .ref t), (2, .long z112)]) X.1 X.2.1 dX2_goesOnce_233 hl (by decide) rfl (fun ls hl => ?_)
    obtain ⟨u144, C145, C146, e143, h, hq⟩ := u_blS h
    rw [hq] at hC
    refine wuf_X2_goesOnce_L235 X hA hR n t z112 _ _ _ _ e143 (fun H locs ls cells slots hC I hl => ?_) H locs ls _ _ (u_left2 hC) I (lv_sub hl [1, 2, 0] rfl)
    refine lv_lload_n X.1 X.2.1 dX2_goesOnce_293 rfl (lv_at hl 0 rfl) ?_
    obtain ⟨he, rfl⟩ := m_e3 h
    obtain ⟨rfl, rfl⟩ := m_e4 he
    exact hret H locs ls 294 _ _ dX2_goesOnce_294 hC I
  · replace h := m_ifT c91 h
    refine lv_lconst (v := 0) X.1 X.2.1 dX2_goesOnce_180 (by decide) ?_
    obtain ⟨he, rfl⟩ := m_e3 h
    obtain ⟨rfl, rfl⟩ := m_e4 he
    exact hret H locs ls 181 _ _ dX2_goesOnce_181 hC I
end S_X2_goesOnce
theorem uk_X2_goesOnce (l : Launch) (n : Nat) (D : va_G) (d : UD) (u : UM) (t : Nat) (r0 : Int64) (ur : UM) (C : UC) (h : uf_X2_goesOnce n d u t = some ((r0, ur), C)) : u_M l yX2_goesOnce (ws_ yX2_goesOnce cX2_goesOnce 5 (some .long)) 1 40 C D d u [.ref t] (some (.long r0)) ur :=
  u_start (own := RX2) (lvl := [(0, .ref t)]) (by decide) rfl (Nat.le_of_ble_eq_true rfl) rfl (fun p e s m args below meth c ls X hr hlk hI hl hA I hC => uw_X2_goesOnce X hA ⟨Nat.le_refl _, Nat.le_refl _⟩ n u t r0 ur C h (fun H locs ls pc cells slots hd hC I => u_lret X I hr hlk (u_leftE hC) hd) _ _ ls _ _ hC I hl)

/-! SwapPress$Ways.of(II)I -/
def uf_X2_of (n : Nat) (d : UD) (u : UM) (t : Nat) (p0 : Int32) (p1 : Int32) : Option Int32 :=
  m_b (u_fr d u 3 2 t) (fun b1 => m_b (u_fr d u 3 6 t) (fun b3 => m_b (u_ldI d u b3 ((8 * p0) + p1)) (fun b5 => m_b (u_ldL d u b1 (b5 + 1)) (fun b7 => some ((b7 : Int64).toInt32)))))
theorem uh_X2_of : yX2_of.cls = RX2 ∧ yX2_of.cls ≠ "java/lang/invoke/MethodHandle" ∧ yX2_of.cls ≠ "java/lang/invoke/VarHandle" ∧ (parseMethodDescriptor yX2_of.desc).map (fun d => d.parameters.length) = some 2 := by decide +kernel
section S_X2_of
variable {p : Program} {l : Launch} {e : Env} {R : Room} {s : State} {m : MethodId} {args : Array Value} {below : List Frame} {meth : Method} {c : Code} {Q : State → Prop} {D : va_G} {A : Nat → Prop} {d : UD} {cells slots : Nat}
theorem uw_X2_of (X : u_X RX2 D A d p s m c cX2_of 3 args) (hA : ∀ q, s.heap.size ≤ q → A q) (hR : 0 ≤ R.frames ∧ 0 ≤ R.locals) (hf : cells ≤ R.cells ∧ slots ≤ R.slots) (n : Nat) (u : UM) (t : Nat) (p0 : Int32) (p1 : Int32) (r : Int32) (h : uf_X2_of n d u t p0 p1 = some r) (hret : ∀ (H : Heap) (locs : List Loc) (ls : Array Slot) (pc : Nat), decode cX2_of pc = .ok (.ireturn, 1) → u_I D A s.heap u H locs cells → W p l e R s m args below meth c H locs cells slots Q (F0 m pc ls [.int r])) : ∀ (H : Heap) (locs : List Loc) (ls : Array Slot), u_I D A s.heap u H locs cells → lv_has ls 3 [(0, .ref t), (1, .int p0), (2, .int p1)] → W p l e R s m args below meth c H locs cells slots Q (F0 m 0 ls []) := by
  intro H locs ls I hl
  unfold uf_X2_of at h
  refine lv_aload_n X.1 X.2.1 dX2_of_0 rfl (lv_at hl 0 rfl) ?_
  obtain ⟨b1, e2, h⟩ := m_bS h
  refine u_Gr X I e2 (C := RX2) (T := TX2) (N := 8) (ref := "SwapPress$Ways") in_X2 rfl (by decide) rfl rfl q211 (fun _ h => h) dX2_of_1 ?_
  refine lv_aload_n X.1 X.2.1 dX2_of_4 rfl (lv_at hl 0 rfl) ?_
  obtain ⟨b3, e4, h⟩ := m_bS h
  refine u_Gr X I e4 (C := RX2) (T := TX2) (N := 8) (ref := "SwapPress$Ways") in_X2 rfl (by decide) rfl rfl q215 (fun _ h => h) dX2_of_5 ?_
  refine lv_bipush (v := 8) X.1 X.2.1 dX2_of_8 (by decide) ?_
  refine lv_iload_n X.1 X.2.1 dX2_of_10 rfl (lv_at hl 1 rfl) ?_
  refine lv_imul X.1 X.2.1 dX2_of_11 ?_
  refine lv_iload_n X.1 X.2.1 dX2_of_12 rfl (lv_at hl 2 rfl) ?_
  refine lv_iadd X.1 X.2.1 dX2_of_13 ?_
  obtain ⟨b5, e6, h⟩ := m_bS h
  refine u_LI X I e6 dX2_of_14 ?_
  refine lv_iconst (v := 1) X.1 X.2.1 dX2_of_15 (by decide) ?_
  refine lv_iadd X.1 X.2.1 dX2_of_16 ?_
  obtain ⟨b7, e8, h⟩ := m_bS h
  refine u_LL X I e8 dX2_of_17 ?_
  refine lv_l2i X.1 X.2.1 dX2_of_18 rfl ?_
  obtain rfl := m_e1 h
  exact hret H locs ls 19 dX2_of_19 I
end S_X2_of
theorem uk_X2_of (l : Launch) (n : Nat) (D : va_G) (d : UD) (u : UM) (t : Nat) (p0 : Int32) (p1 : Int32) (r : Int32) (h : uf_X2_of n d u t p0 p1 = some r) : u_M l yX2_of (ws_ yX2_of cX2_of 3 (some .int)) 0 0 (0, 0) D d u [.ref t, .int p0, .int p1] (some (.int r)) u :=
  u_start (own := RX2) (lvl := [(0, .ref t), (1, .int p0), (2, .int p1)]) (by decide) rfl (Nat.le_of_ble_eq_true rfl) rfl (fun p e s m args below meth c ls X hr hlk hI hl hA I hC => uw_X2_of X hA ⟨Nat.le_refl _, Nat.le_refl _⟩ ⟨Nat.zero_le _, Nat.zero_le _⟩ n u t p0 p1 r h (fun H locs ls pc hd I => u_iret X I hr hlk ⟨rfl, rfl⟩ hd) _ _ ls I hl)

/-! SwapPress$Reader.isAt(II)Z -/
def uf_X4_isAt_J39 (n : Nat) (d : UD) (u : UM) (t0 : Int32) : Option Int32 :=
  m_g (m_01 t0) (some t0)
def uf_X4_isAt_J38 (n : Nat) (d : UD) (u : UM) : Option Int32 :=
  uf_X4_isAt_J39 n d u 0
def uf_X4_isAt (n : Nat) (d : UD) (u : UM) (t : Nat) (p0 : Int32) (p1 : Int32) : Option Int32 :=
  m_b (u_fi d u 4 2 t) (fun b1 => m_b (u_fi d u 4 0 t) (fun b3 => m_if ((b3 : Int32) ≤ (b1 : Int32)) (uf_X4_isAt_J38 n d u ) (m_b (u_fr d u 4 6 t) (fun b7 => m_b (u_nr u 1 5 b7) (fun b9 => m_b (u_fi d u 4 2 t) (fun b11 => m_b (u_ai d u 2 b9 b11) (fun b13 => m_b (uf_X0_in n d u ((b13 : Int32).toInt64) ((p0 : Int32).toInt64) ((p1 : Int32).toInt64)) (fun r16 => m_if ((r16 : Int32) = 0) (uf_X4_isAt_J38 n d u ) (uf_X4_isAt_J39 n d u 1)))))))))
theorem uh_X4_isAt : yX4_isAt.cls = RX4 ∧ yX4_isAt.cls ≠ "java/lang/invoke/MethodHandle" ∧ yX4_isAt.cls ≠ "java/lang/invoke/VarHandle" ∧ (parseMethodDescriptor yX4_isAt.desc).map (fun d => d.parameters.length) = some 2 := by decide +kernel
section S_X4_isAt
variable {p : Program} {l : Launch} {e : Env} {R : Room} {s : State} {m : MethodId} {args : Array Value} {below : List Frame} {meth : Method} {c : Code} {Q : State → Prop} {D : va_G} {A : Nat → Prop} {d : UD} {cells slots : Nat}
theorem uw_X4_isAt (X : u_X RX4 D A d p s m c cX4_isAt 3 args) (hA : ∀ q, s.heap.size ≤ q → A q) (hR : 1 ≤ R.frames ∧ 25 ≤ R.locals) (hf : cells ≤ R.cells ∧ slots ≤ R.slots) (n : Nat) (u : UM) (t : Nat) (p0 : Int32) (p1 : Int32) (r : Int32) (h : uf_X4_isAt n d u t p0 p1 = some r) (hret : ∀ (H : Heap) (locs : List Loc) (ls : Array Slot) (pc : Nat), m_01 r = true → decode cX4_isAt pc = .ok (.ireturn, 1) → u_I D A s.heap u H locs cells → W p l e R s m args below meth c H locs cells slots Q (F0 m pc ls [.int r])) : ∀ (H : Heap) (locs : List Loc) (ls : Array Slot), u_I D A s.heap u H locs cells → lv_has ls 3 [(0, .ref t), (1, .int p0), (2, .int p1)] → W p l e R s m args below meth c H locs cells slots Q (F0 m 0 ls []) := by
  have k39 : ∀ (t0 : Int32) (H : Heap) (locs : List Loc) (ls : Array Slot), uf_X4_isAt_J39 n d u t0 = some r → u_I D A s.heap u H locs cells → lv_has ls 3 [] → W p l e R s m args below meth c H locs cells slots Q (F0 m 39 ls [.int t0]) := by
    intro t0 H locs ls h I hl
    unfold uf_X4_isAt_J39 at h
    obtain ⟨g6, h⟩ := m_gS h
    obtain rfl := m_e1 h
    exact hret H locs ls 39 g6 dX4_isAt_39 I
  have k38 : ∀  (H : Heap) (locs : List Loc) (ls : Array Slot), uf_X4_isAt_J38 n d u = some r → u_I D A s.heap u H locs cells → lv_has ls 3 [] → W p l e R s m args below meth c H locs cells slots Q (F0 m 38 ls []) := by
    intro  H locs ls h I hl
    unfold uf_X4_isAt_J38 at h
    refine lv_iconst (v := 0) X.1 X.2.1 dX4_isAt_38 (by decide) ?_
    exact k39 0 H locs ls h I (lv_sub hl [] rfl)
  intro H locs ls I hl
  unfold uf_X4_isAt at h
  refine lv_aload_n X.1 X.2.1 dX4_isAt_0 rfl (lv_at hl 0 rfl) ?_
  obtain ⟨b1, e2, h⟩ := m_bS h
  refine u_Gi X I e2 (C := RX4) (T := TX4) (N := 7) (ref := "SwapPress$Reader") in_X4 rfl (by decide) rfl rfl q292 (fun _ h => h) dX4_isAt_1 ?_
  refine lv_aload_n X.1 X.2.1 dX4_isAt_4 rfl (lv_at hl 0 rfl) ?_
  obtain ⟨b3, e4, h⟩ := m_bS h
  refine u_Gi X I e4 (C := RX4) (T := TX4) (N := 7) (ref := "SwapPress$Reader") in_X4 rfl (by decide) rfl rfl q290 (fun _ h => h) dX4_isAt_5 ?_
  refine lv_icmp_ge (tgt := 38) X.1 X.2.1 dX4_isAt_8 (by decide) (fun c5 => ?_) (fun c5 => ?_)
  · replace h := m_ifT c5 h
    exact k38  H locs ls h I (lv_sub hl [] rfl)
  · replace h := m_ifF c5 h
    refine lv_aload_n X.1 X.2.1 dX4_isAt_11 rfl (lv_at hl 0 rfl) ?_
    obtain ⟨b7, e8, h⟩ := m_bS h
    refine u_Gr X I e8 (C := RX4) (T := TX4) (N := 7) (ref := "SwapPress$Reader") in_X4 rfl (by decide) rfl rfl q296 (fun _ h => h) dX4_isAt_12 ?_
    obtain ⟨b9, e10, h⟩ := m_bS h
    refine u_GrN X I e10 (C := RX0) (T := TX0) (N := 9) (ref := "SwapPress") (host := "SwapPress") in_X0 rfl (by decide) rfl rfl 11 rfl (fun _ h => h) dX4_isAt_15 ?_
    refine lv_aload_n X.1 X.2.1 dX4_isAt_18 rfl (lv_at hl 0 rfl) ?_
    obtain ⟨b11, e12, h⟩ := m_bS h
    refine u_Gi X I e12 (C := RX4) (T := TX4) (N := 7) (ref := "SwapPress$Reader") in_X4 rfl (by decide) rfl rfl q292 (fun _ h => h) dX4_isAt_19 ?_
    obtain ⟨b13, e14, h⟩ := m_bS h
    refine u_LB X I e14 dX4_isAt_22 ?_
    refine lv_i2l X.1 X.2.1 dX4_isAt_23 rfl ?_
    refine lv_iload_n X.1 X.2.1 dX4_isAt_24 rfl (lv_at hl 1 rfl) ?_
    refine lv_i2l X.1 X.2.1 dX4_isAt_25 rfl ?_
    refine lv_iload_n X.1 X.2.1 dX4_isAt_26 rfl (lv_at hl 2 rfl) ?_
    refine lv_i2l X.1 X.2.1 dX4_isAt_27 rfl ?_
    obtain ⟨r16, e15, h⟩ := m_bS h
    refine u_callSNp X hl.1 I hA (As := [.long ((b13 : Int32).toInt64), .long ((p0 : Int32).toInt64), .long ((p1 : Int32).toInt64)]) (rest := []) (uk_X0_in l n D d u ((b13 : Int32).toInt64) ((p0 : Int32).toInt64) ((p1 : Int32).toInt64) _ e15) 3 1 rfl q280 q101 q281 uh_X0_in.2 rfl rfl ⟨Nat.le_trans (Nat.le_of_ble_eq_true rfl) hR.1, Nat.le_trans (Nat.le_of_ble_eq_true rfl) hR.2⟩ hf (stk := [.int r16]) rfl (Nat.le_of_ble_eq_true rfl) dX4_isAt_28 (fun H locs I => ?_)
    refine lv_if_eq (tgt := 38) X.1 X.2.1 dX4_isAt_31 (by decide) (fun c17 => ?_) (fun c17 => ?_)
    · replace h := m_ifT c17 h
      exact k38  H locs ls h I (lv_sub hl [] rfl)
    · replace h := m_ifF c17 h
      refine lv_iconst (v := 1) X.1 X.2.1 dX4_isAt_34 (by decide) ?_
      refine lv_goto (tgt := 39) X.1 X.2.1 dX4_isAt_35 (by decide) ?_
      exact k39 1 H locs ls h I (lv_sub hl [] rfl)
end S_X4_isAt
theorem uk_X4_isAt (l : Launch) (n : Nat) (D : va_G) (d : UD) (u : UM) (t : Nat) (p0 : Int32) (p1 : Int32) (r : Int32) (h : uf_X4_isAt n d u t p0 p1 = some r) : u_M l yX4_isAt (ws_ yX4_isAt cX4_isAt 3 (some .boolean)) 1 25 (0, 0) D d u [.ref t, .int p0, .int p1] (some (.int r)) u :=
  u_start (own := RX4) (lvl := [(0, .ref t), (1, .int p0), (2, .int p1)]) (by decide) rfl (Nat.le_of_ble_eq_true rfl) rfl (fun p e s m args below meth c ls X hr hlk hI hl hA I hC => uw_X4_isAt X hA ⟨Nat.le_refl _, Nat.le_refl _⟩ ⟨Nat.zero_le _, Nat.zero_le _⟩ n u t p0 p1 r h (fun H locs ls pc g hd I => u_zret X I hr hlk g ⟨rfl, rfl⟩ hd) _ _ ls I hl)

/-! SwapPress$Trade.<init>(IIIIZ)V -/
def uf_X6_init (n : Nat) (d : UD) (u : UM) (t : Nat) (p0 : Int32) (p1 : Int32) (p2 : Int32) (p3 : Int32) (p4 : Int32) : Option ((Unit × UM) × UC) :=
  m_b (u_pf u 6 0 t (.int p0)) (fun w1 => m_b (u_pf (w1, u.2) 6 1 t (.int p1)) (fun w3 => m_b (u_pf (w3, u.2) 6 2 t (.int p2)) (fun w5 => m_b (u_pf (w5, u.2) 6 3 t (.int p3)) (fun w7 => m_g (m_01 p4) (m_b (u_pf (w7, u.2) 6 4 t (.int p4)) (fun w10 => some (((), (w10, u.2)), (0, 0))))))))
theorem uh_X6_init : yX6_init.cls = RX6 ∧ yX6_init.cls ≠ "java/lang/invoke/MethodHandle" ∧ yX6_init.cls ≠ "java/lang/invoke/VarHandle" ∧ (parseMethodDescriptor yX6_init.desc).map (fun d => d.parameters.length) = some 5 := by decide +kernel
section S_X6_init
variable {p : Program} {l : Launch} {e : Env} {R : Room} {s : State} {m : MethodId} {args : Array Value} {below : List Frame} {meth : Method} {c : Code} {Q : State → Prop} {D : va_G} {A : Nat → Prop} {d : UD}
theorem uw_X6_init (X : u_X RX6 D A d p s m c cX6_init 6 args) (hA : ∀ q, s.heap.size ≤ q → A q) (hR : 1 ≤ R.frames ∧ 20 ≤ R.locals) (hI : meth.name = "<init>") (n : Nat) (u : UM) (t : Nat) (p0 : Int32) (p1 : Int32) (p2 : Int32) (p3 : Int32) (p4 : Int32) (r0 : Unit) (ur : UM) (C : UC) (h : uf_X6_init n d u t p0 p1 p2 p3 p4 = some ((r0, ur), C)) (hret : ∀ (H : Heap) (locs : List Loc) (ls : Array Slot) (pc cells slots : Nat), decode cX6_init pc = .ok (.return_, 1) → u_left R cells slots (u_add (0, 0) (0, 0)) → u_I D A s.heap ur H locs cells → W p l e R s m args below meth c H locs cells slots Q (F0 m pc ls [])) : ∀ (H : Heap) (locs : List Loc) (ls : Array Slot) (cells slots : Nat), u_left R cells slots (u_add C (0, 0)) → u_I D A s.heap u H locs cells → lv_has ls 6 [(0, .ref t), (1, .int p0), (2, .int p1), (3, .int p2), (4, .int p3), (5, .int p4)] → W p l e R s m args below meth c H locs cells slots Q (F0 m 0 ls []) := by
  intro H locs ls cells slots hC I hl
  unfold uf_X6_init at h
  refine lv_aload_n X.1 X.2.1 dX6_init_0 rfl (lv_at hl 0 rfl) ?_
  refine u_obj X hl.1 q790 q139 q140 (Nat.le_trans (Nat.le_of_ble_eq_true rfl) hR.1) (Nat.le_trans (Nat.le_of_ble_eq_true rfl) hR.2) (Nat.le_of_ble_eq_true rfl) dX6_init_1 ?_
  refine lv_aload_n X.1 X.2.1 dX6_init_4 rfl (lv_at hl 0 rfl) ?_
  refine lv_iload_n X.1 X.2.1 dX6_init_5 rfl (lv_at hl 1 rfl) ?_
  obtain ⟨w1, e2, h⟩ := m_bS h
  refine u_PF X I e2 (C := RX6) (T := TX6) (N := 5) (ref := "SwapPress$Trade") in_X6 tyX6 tyX6_ok nmX6 rfl (by decide) rfl rfl q791 (fun _ h => h) rfl hI rfl rfl rfl dX6_init_6 (fun H locs I => ?_)
  refine lv_aload_n X.1 X.2.1 dX6_init_9 rfl (lv_at hl 0 rfl) ?_
  refine lv_iload_n X.1 X.2.1 dX6_init_10 rfl (lv_at hl 2 rfl) ?_
  obtain ⟨w3, e4, h⟩ := m_bS h
  refine u_PF X I e4 (C := RX6) (T := TX6) (N := 5) (ref := "SwapPress$Trade") in_X6 tyX6 tyX6_ok nmX6 rfl (by decide) rfl rfl q794 (fun _ h => h) rfl hI rfl rfl rfl dX6_init_11 (fun H locs I => ?_)
  refine lv_aload_n X.1 X.2.1 dX6_init_14 rfl (lv_at hl 0 rfl) ?_
  refine lv_iload_n X.1 X.2.1 dX6_init_15 rfl (lv_at hl 3 rfl) ?_
  obtain ⟨w5, e6, h⟩ := m_bS h
  refine u_PF X I e6 (C := RX6) (T := TX6) (N := 5) (ref := "SwapPress$Trade") in_X6 tyX6 tyX6_ok nmX6 rfl (by decide) rfl rfl q797 (fun _ h => h) rfl hI rfl rfl rfl dX6_init_16 (fun H locs I => ?_)
  refine lv_aload_n X.1 X.2.1 dX6_init_19 rfl (lv_at hl 0 rfl) ?_
  refine lv_iload X.1 X.2.1 dX6_init_20 (lv_at hl 4 rfl) ?_
  obtain ⟨w7, e8, h⟩ := m_bS h
  refine u_PF X I e8 (C := RX6) (T := TX6) (N := 5) (ref := "SwapPress$Trade") in_X6 tyX6 tyX6_ok nmX6 rfl (by decide) rfl rfl q800 (fun _ h => h) rfl hI rfl rfl rfl dX6_init_22 (fun H locs I => ?_)
  refine lv_aload_n X.1 X.2.1 dX6_init_25 rfl (lv_at hl 0 rfl) ?_
  refine lv_iload X.1 X.2.1 dX6_init_26 (lv_at hl 5 rfl) ?_
  obtain ⟨g9, h⟩ := m_gS h
  obtain ⟨w10, e11, h⟩ := m_bS h
  refine u_PF X I e11 (C := RX6) (T := TX6) (N := 5) (ref := "SwapPress$Trade") in_X6 tyX6 tyX6_ok nmX6 rfl (by decide) rfl rfl q803 (fun _ h => h) rfl hI rfl (m_01S g9) (u_01z g9) dX6_init_28 (fun H locs I => ?_)
  obtain ⟨he, rfl⟩ := m_e3 h
  obtain ⟨rfl, rfl⟩ := m_e4 he
  exact hret H locs ls 31 _ _ dX6_init_31 hC I
end S_X6_init
theorem uk_X6_init (l : Launch) (n : Nat) (D : va_G) (d : UD) (u : UM) (t : Nat) (p0 : Int32) (p1 : Int32) (p2 : Int32) (p3 : Int32) (p4 : Int32) (ur : UM) (C : UC) (h : uf_X6_init n d u t p0 p1 p2 p3 p4 = some (((), ur), C)) : u_M l yX6_init (ws_ yX6_init cX6_init 6 none) 1 20 C D d u [.ref t, .int p0, .int p1, .int p2, .int p3, .int p4] none ur :=
  u_start (own := RX6) (lvl := [(0, .ref t), (1, .int p0), (2, .int p1), (3, .int p2), (4, .int p3), (5, .int p4)]) (by decide) rfl (Nat.le_of_ble_eq_true rfl) rfl (fun p e s m args below meth c ls X hr hlk hI hl hA I hC => uw_X6_init X hA ⟨Nat.le_refl _, Nat.le_refl _⟩ hI n u t p0 p1 p2 p3 p4 () ur C h (fun H locs ls pc cells slots hd hC I => u_vret X I hr hlk (u_leftE hC) hd) _ _ ls _ _ hC I hl)

/-! SwapPress$Trade.turned()LSwapPress$Trade; -/
def uf_X6_turned_J32 (n : Nat) (d : UD) (u : UM) (t0 : Int32) (t1 : Int32) (t2 : Int32) (t3 : Int32) (t4 : Int32) (t5 : Nat) (t6 : Nat) : Option ((Nat × UM) × UC) :=
  u_bc u.2 (uf_X6_init n d u t5 t4 t3 t2 t1 t0) (fun r16 u17 => some ((t6, u17), (0, 0)))
def uf_X6_turned (n : Nat) (d : UD) (u : UM) (t : Nat) : Option ((Nat × UM) × UC) :=
  u_ac (1, 5) (m_b (some (u_nw u (.inr (6, [.int 0, .int 0, .int 0, .int 0, .int 0])))) (fun u2 => m_b (u_fi d u2 6 0 t) (fun b4 => m_b (u_fi d u2 6 1 t) (fun b6 => m_b (u_fi d u2 6 2 t) (fun b8 => m_b (u_fi d u2 6 3 t) (fun b10 => m_b (u_fi d u2 6 4 t) (fun b12 => m_if ((b12 : Int32) = 0) (uf_X6_turned_J32 n d u2 1 b10 b8 b6 b4 u.2 u.2) (uf_X6_turned_J32 n d u2 0 b10 b8 b6 b4 u.2 u.2))))))))
theorem uh_X6_turned : yX6_turned.cls = RX6 ∧ yX6_turned.cls ≠ "java/lang/invoke/MethodHandle" ∧ yX6_turned.cls ≠ "java/lang/invoke/VarHandle" ∧ (parseMethodDescriptor yX6_turned.desc).map (fun d => d.parameters.length) = some 0 := by decide +kernel
section S_X6_turned
variable {p : Program} {l : Launch} {e : Env} {R : Room} {s : State} {m : MethodId} {args : Array Value} {below : List Frame} {meth : Method} {c : Code} {Q : State → Prop} {D : va_G} {A : Nat → Prop} {d : UD}
theorem uw_X6_turned (X : u_X RX6 D A d p s m c cX6_turned 1 args) (hA : ∀ q, s.heap.size ≤ q → A q) (hR : 2 ≤ R.frames ∧ 45 ≤ R.locals) (n : Nat) (u : UM) (t : Nat) (r0 : Nat) (ur : UM) (C : UC) (h : uf_X6_turned n d u t = some ((r0, ur), C)) (hret : ∀ (H : Heap) (locs : List Loc) (ls : Array Slot) (pc cells slots : Nat), decode cX6_turned pc = .ok (.areturn, 1) → u_left R cells slots (u_add (0, 0) (0, 0)) → u_I D A s.heap ur H locs cells → W p l e R s m args below meth c H locs cells slots Q (F0 m pc ls [.ref r0])) : ∀ (H : Heap) (locs : List Loc) (ls : Array Slot) (cells slots : Nat), u_left R cells slots (u_add C (0, 0)) → u_I D A s.heap u H locs cells → lv_has ls 1 [(0, .ref t)] → W p l e R s m args below meth c H locs cells slots Q (F0 m 0 ls []) := by
  have k32 : ∀ (u : UM) (t0 : Int32) (t1 : Int32) (t2 : Int32) (t3 : Int32) (t4 : Int32) (t5 : Nat) (t6 : Nat) (H : Heap) (locs : List Loc) (ls : Array Slot) (cells slots : Nat) (C : UC), uf_X6_turned_J32 n d u t0 t1 t2 t3 t4 t5 t6 = some ((r0, ur), C) → u_left R cells slots (u_add C (0, 0)) → u_I D A s.heap u H locs cells → lv_has ls 1 [] → W p l e R s m args below meth c H locs cells slots Q (F0 m 32 ls [.int t0, .int t1, .int t2, .int t3, .int t4, .ref t5, .ref t6]) := by
    intro u t0 t1 t2 t3 t4 t5 t6 H locs ls cells slots C h hC I hl
    unfold uf_X6_turned_J32 at h
    obtain ⟨r16, u17, C18, C19, e15, z20, h, hq⟩ := u_bcS h
    rw [hq] at hC
    refine u_callI X hl.1 I hA (As := [.int t4, .int t3, .int t2, .int t1, .int t0]) (rest := [.ref t6]) (uk_X6_init l n D d u t5 t4 t3 t2 t1 t0 _ _ e15) z20 5 q839 q788 q122 q789 rfl uh_X6_init.2 rfl rfl ⟨Nat.le_trans (Nat.le_of_ble_eq_true rfl) hR.1, Nat.le_trans (Nat.le_of_ble_eq_true rfl) hR.2⟩ hC (Nat.le_of_ble_eq_true rfl) dX6_turned_32 (fun H locs cells slots hC I => ?_)
    obtain ⟨he, rfl⟩ := m_e3 h
    obtain ⟨rfl, rfl⟩ := m_e4 he
    exact hret H locs ls 35 _ _ dX6_turned_35 hC I
  intro H locs ls cells slots hC I hl
  unfold uf_X6_turned at h
  obtain ⟨C1, h, hq⟩ := u_acS h
  rw [hq] at hC
  obtain ⟨u2, e3, h⟩ := m_bS h
  refine u_NO X I hA 6 (C := RX6) (T := TX6) (N := 5) in_X6 tyX6 tyX6_ok q838 q786 q122 rfl (fs := [.int 0, .int 0, .int 0, .int 0, .int 0]) e3 (fun j hj => by match j, hj with | 0, _ => rfl | 1, _ => rfl | 2, _ => rfl | 3, _ => rfl | 4, _ => rfl) hC dX6_turned_0 (fun H cells slots hC I => ?_)
  refine lv_dup X.1 X.2.1 dX6_turned_3 rfl ?_
  refine lv_aload_n X.1 X.2.1 dX6_turned_4 rfl (lv_at hl 0 rfl) ?_
  obtain ⟨b4, e5, h⟩ := m_bS h
  refine u_Gi X I e5 (C := RX6) (T := TX6) (N := 5) (ref := "SwapPress$Trade") in_X6 rfl (by decide) rfl rfl q791 (fun _ h => h) dX6_turned_5 ?_
  refine lv_aload_n X.1 X.2.1 dX6_turned_8 rfl (lv_at hl 0 rfl) ?_
  obtain ⟨b6, e7, h⟩ := m_bS h
  refine u_Gi X I e7 (C := RX6) (T := TX6) (N := 5) (ref := "SwapPress$Trade") in_X6 rfl (by decide) rfl rfl q794 (fun _ h => h) dX6_turned_9 ?_
  refine lv_aload_n X.1 X.2.1 dX6_turned_12 rfl (lv_at hl 0 rfl) ?_
  obtain ⟨b8, e9, h⟩ := m_bS h
  refine u_Gi X I e9 (C := RX6) (T := TX6) (N := 5) (ref := "SwapPress$Trade") in_X6 rfl (by decide) rfl rfl q797 (fun _ h => h) dX6_turned_13 ?_
  refine lv_aload_n X.1 X.2.1 dX6_turned_16 rfl (lv_at hl 0 rfl) ?_
  obtain ⟨b10, e11, h⟩ := m_bS h
  refine u_Gi X I e11 (C := RX6) (T := TX6) (N := 5) (ref := "SwapPress$Trade") in_X6 rfl (by decide) rfl rfl q800 (fun _ h => h) dX6_turned_17 ?_
  refine lv_aload_n X.1 X.2.1 dX6_turned_20 rfl (lv_at hl 0 rfl) ?_
  obtain ⟨b12, e13, h⟩ := m_bS h
  refine u_Gi X I e13 (C := RX6) (T := TX6) (N := 5) (ref := "SwapPress$Trade") in_X6 rfl (by decide) rfl rfl q803 (fun _ h => h) dX6_turned_21 ?_
  refine lv_if_ne (tgt := 31) X.1 X.2.1 dX6_turned_24 (by decide) (fun c14 => ?_) (fun c14 => ?_)
  · replace h := m_ifF c14 h
    refine lv_iconst (v := 0) X.1 X.2.1 dX6_turned_31 (by decide) ?_
    exact k32 u2 0 b10 b8 b6 b4 u.2 u.2 H locs ls _ _ _ h hC I (lv_sub hl [] rfl)
  · replace h := m_ifT c14 h
    refine lv_iconst (v := 1) X.1 X.2.1 dX6_turned_27 (by decide) ?_
    refine lv_goto (tgt := 32) X.1 X.2.1 dX6_turned_28 (by decide) ?_
    exact k32 u2 1 b10 b8 b6 b4 u.2 u.2 H locs ls _ _ _ h hC I (lv_sub hl [] rfl)
end S_X6_turned
theorem uk_X6_turned (l : Launch) (n : Nat) (D : va_G) (d : UD) (u : UM) (t : Nat) (r0 : Nat) (ur : UM) (C : UC) (h : uf_X6_turned n d u t = some ((r0, ur), C)) : u_M l yX6_turned (ws_ yX6_turned cX6_turned 1 (some (.object "SwapPress$Trade"))) 2 45 C D d u [.ref t] (some (.ref r0)) ur :=
  u_start (own := RX6) (lvl := [(0, .ref t)]) (by decide) rfl (Nat.le_of_ble_eq_true rfl) rfl (fun p e s m args below meth c ls X hr hlk hI hl hA I hC => uw_X6_turned X hA ⟨Nat.le_refl _, Nat.le_refl _⟩ n u t r0 ur C h (fun H locs ls pc cells slots hd hC I => u_aret (r := some r0) X I hr (Or.inl ⟨_, rfl⟩) hlk (u_leftE hC) hd) _ _ ls _ _ hC I hl)

/-! SwapPress$Trade.isFree(I)Z -/
def uf_X6_isFree_J20 (n : Nat) (d : UD) (u : UM) (t0 : Int32) : Option Int32 :=
  m_g (m_01 t0) (some t0)
def uf_X6_isFree_J19 (n : Nat) (d : UD) (u : UM) : Option Int32 :=
  uf_X6_isFree_J20 n d u 0
def uf_X6_isFree (n : Nat) (d : UD) (u : UM) (t : Nat) (p0 : Int32) : Option Int32 :=
  m_b (u_fi d u 6 3 t) (fun b1 => m_if ((b1 : Int32) = (p0 : Int32)) (m_b (u_fi d u 6 4 t) (fun b5 => m_if ((b5 : Int32) = 0) (uf_X6_isFree_J20 n d u 1) (uf_X6_isFree_J19 n d u ))) (uf_X6_isFree_J19 n d u ))
theorem uh_X6_isFree : yX6_isFree.cls = RX6 ∧ yX6_isFree.cls ≠ "java/lang/invoke/MethodHandle" ∧ yX6_isFree.cls ≠ "java/lang/invoke/VarHandle" ∧ (parseMethodDescriptor yX6_isFree.desc).map (fun d => d.parameters.length) = some 1 := by decide +kernel
section S_X6_isFree
variable {p : Program} {l : Launch} {e : Env} {R : Room} {s : State} {m : MethodId} {args : Array Value} {below : List Frame} {meth : Method} {c : Code} {Q : State → Prop} {D : va_G} {A : Nat → Prop} {d : UD} {cells slots : Nat}
theorem uw_X6_isFree (X : u_X RX6 D A d p s m c cX6_isFree 2 args) (hA : ∀ q, s.heap.size ≤ q → A q) (hR : 0 ≤ R.frames ∧ 0 ≤ R.locals) (hf : cells ≤ R.cells ∧ slots ≤ R.slots) (n : Nat) (u : UM) (t : Nat) (p0 : Int32) (r : Int32) (h : uf_X6_isFree n d u t p0 = some r) (hret : ∀ (H : Heap) (locs : List Loc) (ls : Array Slot) (pc : Nat), m_01 r = true → decode cX6_isFree pc = .ok (.ireturn, 1) → u_I D A s.heap u H locs cells → W p l e R s m args below meth c H locs cells slots Q (F0 m pc ls [.int r])) : ∀ (H : Heap) (locs : List Loc) (ls : Array Slot), u_I D A s.heap u H locs cells → lv_has ls 2 [(0, .ref t), (1, .int p0)] → W p l e R s m args below meth c H locs cells slots Q (F0 m 0 ls []) := by
  have k20 : ∀ (t0 : Int32) (H : Heap) (locs : List Loc) (ls : Array Slot), uf_X6_isFree_J20 n d u t0 = some r → u_I D A s.heap u H locs cells → lv_has ls 2 [] → W p l e R s m args below meth c H locs cells slots Q (F0 m 20 ls [.int t0]) := by
    intro t0 H locs ls h I hl
    unfold uf_X6_isFree_J20 at h
    obtain ⟨g4, h⟩ := m_gS h
    obtain rfl := m_e1 h
    exact hret H locs ls 20 g4 dX6_isFree_20 I
  have k19 : ∀  (H : Heap) (locs : List Loc) (ls : Array Slot), uf_X6_isFree_J19 n d u = some r → u_I D A s.heap u H locs cells → lv_has ls 2 [] → W p l e R s m args below meth c H locs cells slots Q (F0 m 19 ls []) := by
    intro  H locs ls h I hl
    unfold uf_X6_isFree_J19 at h
    refine lv_iconst (v := 0) X.1 X.2.1 dX6_isFree_19 (by decide) ?_
    exact k20 0 H locs ls h I (lv_sub hl [] rfl)
  intro H locs ls I hl
  unfold uf_X6_isFree at h
  refine lv_aload_n X.1 X.2.1 dX6_isFree_0 rfl (lv_at hl 0 rfl) ?_
  obtain ⟨b1, e2, h⟩ := m_bS h
  refine u_Gi X I e2 (C := RX6) (T := TX6) (N := 5) (ref := "SwapPress$Trade") in_X6 rfl (by decide) rfl rfl q800 (fun _ h => h) dX6_isFree_1 ?_
  refine lv_iload_n X.1 X.2.1 dX6_isFree_4 rfl (lv_at hl 1 rfl) ?_
  refine lv_icmp_ne (tgt := 19) X.1 X.2.1 dX6_isFree_5 (by decide) (fun c3 => ?_) (fun c3 => ?_)
  · replace h := m_ifF c3 h
    exact k19  H locs ls h I (lv_sub hl [] rfl)
  · replace h := m_ifT c3 h
    refine lv_aload_n X.1 X.2.1 dX6_isFree_8 rfl (lv_at hl 0 rfl) ?_
    obtain ⟨b5, e6, h⟩ := m_bS h
    refine u_Gi X I e6 (C := RX6) (T := TX6) (N := 5) (ref := "SwapPress$Trade") in_X6 rfl (by decide) rfl rfl q803 (fun _ h => h) dX6_isFree_9 ?_
    refine lv_if_ne (tgt := 19) X.1 X.2.1 dX6_isFree_12 (by decide) (fun c7 => ?_) (fun c7 => ?_)
    · replace h := m_ifF c7 h
      exact k19  H locs ls h I (lv_sub hl [] rfl)
    · replace h := m_ifT c7 h
      refine lv_iconst (v := 1) X.1 X.2.1 dX6_isFree_15 (by decide) ?_
      refine lv_goto (tgt := 20) X.1 X.2.1 dX6_isFree_16 (by decide) ?_
      exact k20 1 H locs ls h I (lv_sub hl [] rfl)
end S_X6_isFree
theorem uk_X6_isFree (l : Launch) (n : Nat) (D : va_G) (d : UD) (u : UM) (t : Nat) (p0 : Int32) (r : Int32) (h : uf_X6_isFree n d u t p0 = some r) : u_M l yX6_isFree (ws_ yX6_isFree cX6_isFree 2 (some .boolean)) 0 0 (0, 0) D d u [.ref t, .int p0] (some (.int r)) u :=
  u_start (own := RX6) (lvl := [(0, .ref t), (1, .int p0)]) (by decide) rfl (Nat.le_of_ble_eq_true rfl) rfl (fun p e s m args below meth c ls X hr hlk hI hl hA I hC => uw_X6_isFree X hA ⟨Nat.le_refl _, Nat.le_refl _⟩ ⟨Nat.zero_le _, Nat.zero_le _⟩ n u t p0 r h (fun H locs ls pc g hd I => u_zret X I hr hlk g ⟨rfl, rfl⟩ hd) _ _ ls I hl)

/-! SwapPress$Trade.less(I)LSwapPress$Trade; -/
def uf_X6_less (n : Nat) (d : UD) (u : UM) (t : Nat) (p0 : Int32) : Option ((Nat × UM) × UC) :=
  u_ac (1, 5) (m_b (some (u_nw u (.inr (6, [.int 0, .int 0, .int 0, .int 0, .int 0])))) (fun u2 => m_b (u_fi d u2 6 0 t) (fun b4 => m_b (u_fi d u2 6 1 t) (fun b6 => m_b (u_fi d u2 6 2 t) (fun b8 => m_b (u_fi d u2 6 3 t) (fun b10 => m_b (u_fi d u2 6 4 t) (fun b12 => u_bc u2.2 (uf_X6_init n d u2 u.2 b4 b6 (b8 - p0) b10 b12) (fun r15 u16 => some ((u.2, u16), (0, 0))))))))))
theorem uh_X6_less : yX6_less.cls = RX6 ∧ yX6_less.cls ≠ "java/lang/invoke/MethodHandle" ∧ yX6_less.cls ≠ "java/lang/invoke/VarHandle" ∧ (parseMethodDescriptor yX6_less.desc).map (fun d => d.parameters.length) = some 1 := by decide +kernel
section S_X6_less
variable {p : Program} {l : Launch} {e : Env} {R : Room} {s : State} {m : MethodId} {args : Array Value} {below : List Frame} {meth : Method} {c : Code} {Q : State → Prop} {D : va_G} {A : Nat → Prop} {d : UD}
theorem uw_X6_less (X : u_X RX6 D A d p s m c cX6_less 2 args) (hA : ∀ q, s.heap.size ≤ q → A q) (hR : 2 ≤ R.frames ∧ 45 ≤ R.locals) (n : Nat) (u : UM) (t : Nat) (p0 : Int32) (r0 : Nat) (ur : UM) (C : UC) (h : uf_X6_less n d u t p0 = some ((r0, ur), C)) (hret : ∀ (H : Heap) (locs : List Loc) (ls : Array Slot) (pc cells slots : Nat), decode cX6_less pc = .ok (.areturn, 1) → u_left R cells slots (u_add (0, 0) (0, 0)) → u_I D A s.heap ur H locs cells → W p l e R s m args below meth c H locs cells slots Q (F0 m pc ls [.ref r0])) : ∀ (H : Heap) (locs : List Loc) (ls : Array Slot) (cells slots : Nat), u_left R cells slots (u_add C (0, 0)) → u_I D A s.heap u H locs cells → lv_has ls 2 [(0, .ref t), (1, .int p0)] → W p l e R s m args below meth c H locs cells slots Q (F0 m 0 ls []) := by
  intro H locs ls cells slots hC I hl
  unfold uf_X6_less at h
  obtain ⟨C1, h, hq⟩ := u_acS h
  rw [hq] at hC
  obtain ⟨u2, e3, h⟩ := m_bS h
  refine u_NO X I hA 6 (C := RX6) (T := TX6) (N := 5) in_X6 tyX6 tyX6_ok q838 q786 q122 rfl (fs := [.int 0, .int 0, .int 0, .int 0, .int 0]) e3 (fun j hj => by match j, hj with | 0, _ => rfl | 1, _ => rfl | 2, _ => rfl | 3, _ => rfl | 4, _ => rfl) hC dX6_less_0 (fun H cells slots hC I => ?_)
  refine lv_dup X.1 X.2.1 dX6_less_3 rfl ?_
  refine lv_aload_n X.1 X.2.1 dX6_less_4 rfl (lv_at hl 0 rfl) ?_
  obtain ⟨b4, e5, h⟩ := m_bS h
  refine u_Gi X I e5 (C := RX6) (T := TX6) (N := 5) (ref := "SwapPress$Trade") in_X6 rfl (by decide) rfl rfl q791 (fun _ h => h) dX6_less_5 ?_
  refine lv_aload_n X.1 X.2.1 dX6_less_8 rfl (lv_at hl 0 rfl) ?_
  obtain ⟨b6, e7, h⟩ := m_bS h
  refine u_Gi X I e7 (C := RX6) (T := TX6) (N := 5) (ref := "SwapPress$Trade") in_X6 rfl (by decide) rfl rfl q794 (fun _ h => h) dX6_less_9 ?_
  refine lv_aload_n X.1 X.2.1 dX6_less_12 rfl (lv_at hl 0 rfl) ?_
  obtain ⟨b8, e9, h⟩ := m_bS h
  refine u_Gi X I e9 (C := RX6) (T := TX6) (N := 5) (ref := "SwapPress$Trade") in_X6 rfl (by decide) rfl rfl q797 (fun _ h => h) dX6_less_13 ?_
  refine lv_iload_n X.1 X.2.1 dX6_less_16 rfl (lv_at hl 1 rfl) ?_
  refine lv_isub X.1 X.2.1 dX6_less_17 ?_
  refine lv_aload_n X.1 X.2.1 dX6_less_18 rfl (lv_at hl 0 rfl) ?_
  obtain ⟨b10, e11, h⟩ := m_bS h
  refine u_Gi X I e11 (C := RX6) (T := TX6) (N := 5) (ref := "SwapPress$Trade") in_X6 rfl (by decide) rfl rfl q800 (fun _ h => h) dX6_less_19 ?_
  refine lv_aload_n X.1 X.2.1 dX6_less_22 rfl (lv_at hl 0 rfl) ?_
  obtain ⟨b12, e13, h⟩ := m_bS h
  refine u_Gi X I e13 (C := RX6) (T := TX6) (N := 5) (ref := "SwapPress$Trade") in_X6 rfl (by decide) rfl rfl q803 (fun _ h => h) dX6_less_23 ?_
  obtain ⟨r15, u16, C17, C18, e14, z19, h, hq⟩ := u_bcS h
  rw [hq] at hC
  refine u_callI X hl.1 I hA (As := [.int b4, .int b6, .int (b8 - p0), .int b10, .int b12]) (rest := [.ref u.2]) (uk_X6_init l n D d u2 u.2 b4 b6 (b8 - p0) b10 b12 _ _ e14) z19 5 q839 q788 q122 q789 rfl uh_X6_init.2 rfl rfl ⟨Nat.le_trans (Nat.le_of_ble_eq_true rfl) hR.1, Nat.le_trans (Nat.le_of_ble_eq_true rfl) hR.2⟩ hC (Nat.le_of_ble_eq_true rfl) dX6_less_26 (fun H locs cells slots hC I => ?_)
  obtain ⟨he, rfl⟩ := m_e3 h
  obtain ⟨rfl, rfl⟩ := m_e4 he
  exact hret H locs ls 29 _ _ dX6_less_29 hC I
end S_X6_less
theorem uk_X6_less (l : Launch) (n : Nat) (D : va_G) (d : UD) (u : UM) (t : Nat) (p0 : Int32) (r0 : Nat) (ur : UM) (C : UC) (h : uf_X6_less n d u t p0 = some ((r0, ur), C)) : u_M l yX6_less (ws_ yX6_less cX6_less 2 (some (.object "SwapPress$Trade"))) 2 45 C D d u [.ref t, .int p0] (some (.ref r0)) ur :=
  u_start (own := RX6) (lvl := [(0, .ref t), (1, .int p0)]) (by decide) rfl (Nat.le_of_ble_eq_true rfl) rfl (fun p e s m args below meth c ls X hr hlk hI hl hA I hC => uw_X6_less X hA ⟨Nat.le_refl _, Nat.le_refl _⟩ n u t p0 r0 ur C h (fun H locs ls pc cells slots hd hC I => u_aret (r := some r0) X I hr (Or.inl ⟨_, rfl⟩) hlk (u_leftE hC) hd) _ _ ls _ _ hC I hl)

/-! SwapPress$Rings.<init>(I[I)V -/
def uf_X7_init (n : Nat) (d : UD) (u : UM) (t : Nat) (p0 : Int32) (p1 : Nat) : Option ((Unit × UM) × UC) :=
  m_g (u_ln 8) (u_ac (1, (8 : Int32).toNatClampNeg) (m_b (some (u_nw u (.inl (d.1 0, (8 : Int32).toNatClampNeg, .inl (fun _ => 0))))) (fun u2 => m_b (u_pf u2 7 2 t (.ref u.2)) (fun w5 => m_b (u_pf (w5, u2.2) 7 0 t (.int p0)) (fun w7 => m_b (u_pf (w7, u2.2) 7 1 t (.ref p1)) (fun w9 => some (((), (w9, u2.2)), (0, 0))))))))
theorem uh_X7_init : yX7_init.cls = RX7 ∧ yX7_init.cls ≠ "java/lang/invoke/MethodHandle" ∧ yX7_init.cls ≠ "java/lang/invoke/VarHandle" ∧ (parseMethodDescriptor yX7_init.desc).map (fun d => d.parameters.length) = some 2 := by decide +kernel
section S_X7_init
variable {p : Program} {l : Launch} {e : Env} {R : Room} {s : State} {m : MethodId} {args : Array Value} {below : List Frame} {meth : Method} {c : Code} {Q : State → Prop} {D : va_G} {A : Nat → Prop} {d : UD}
theorem uw_X7_init (X : u_X RX7 D A d p s m c cX7_init 3 args) (hA : ∀ q, s.heap.size ≤ q → A q) (hR : 1 ≤ R.frames ∧ 20 ≤ R.locals) (hI : meth.name = "<init>") (n : Nat) (u : UM) (t : Nat) (p0 : Int32) (p1 : Nat) (r0 : Unit) (ur : UM) (C : UC) (h : uf_X7_init n d u t p0 p1 = some ((r0, ur), C)) (hret : ∀ (H : Heap) (locs : List Loc) (ls : Array Slot) (pc cells slots : Nat), decode cX7_init pc = .ok (.return_, 1) → u_left R cells slots (u_add (0, 0) (0, 0)) → u_I D A s.heap ur H locs cells → W p l e R s m args below meth c H locs cells slots Q (F0 m pc ls [])) : ∀ (H : Heap) (locs : List Loc) (ls : Array Slot) (cells slots : Nat), u_left R cells slots (u_add C (0, 0)) → u_I D A s.heap u H locs cells → lv_has ls 3 [(0, .ref t), (1, .int p0), (2, .ref p1)] → W p l e R s m args below meth c H locs cells slots Q (F0 m 0 ls []) := by
  intro H locs ls cells slots hC I hl
  unfold uf_X7_init at h
  refine lv_aload_n X.1 X.2.1 dX7_init_0 rfl (lv_at hl 0 rfl) ?_
  refine u_obj X hl.1 q964 q139 q140 (Nat.le_trans (Nat.le_of_ble_eq_true rfl) hR.1) (Nat.le_trans (Nat.le_of_ble_eq_true rfl) hR.2) (Nat.le_of_ble_eq_true rfl) dX7_init_1 ?_
  refine lv_aload_n X.1 X.2.1 dX7_init_4 rfl (lv_at hl 0 rfl) ?_
  refine lv_bipush (v := 8) X.1 X.2.1 dX7_init_5 (by decide) ?_
  obtain ⟨g3, h⟩ := m_gS h
  obtain ⟨C1, h, hq⟩ := u_acS h
  rw [hq] at hC
  obtain ⟨u2, e4, h⟩ := m_bS h
  refine u_NP X I hA 0 (atype := .int) rfl q200 (x := (_, .inl (fun _ => 0))) (fun _ => rfl) (by decide) g3 e4 hC dX7_init_7 (fun H cells slots hC I => ?_)
  obtain ⟨w5, e6, h⟩ := m_bS h
  refine u_PF X I e6 (C := RX7) (T := TX7) (N := 4) (ref := "SwapPress$Rings") in_X7 tyX7 tyX7_ok nmX7 rfl (by decide) rfl rfl q967 (fun _ h => h) rfl hI rfl rfl rfl dX7_init_9 (fun H locs I => ?_)
  refine lv_aload_n X.1 X.2.1 dX7_init_12 rfl (lv_at hl 0 rfl) ?_
  refine lv_iload_n X.1 X.2.1 dX7_init_13 rfl (lv_at hl 1 rfl) ?_
  obtain ⟨w7, e8, h⟩ := m_bS h
  refine u_PF X I e8 (C := RX7) (T := TX7) (N := 4) (ref := "SwapPress$Rings") in_X7 tyX7 tyX7_ok nmX7 rfl (by decide) rfl rfl q965 (fun _ h => h) rfl hI rfl rfl rfl dX7_init_14 (fun H locs I => ?_)
  refine lv_aload_n X.1 X.2.1 dX7_init_17 rfl (lv_at hl 0 rfl) ?_
  refine lv_aload_n X.1 X.2.1 dX7_init_18 rfl (lv_at hl 2 rfl) ?_
  obtain ⟨w9, e10, h⟩ := m_bS h
  refine u_PF X I e10 (C := RX7) (T := TX7) (N := 4) (ref := "SwapPress$Rings") in_X7 tyX7 tyX7_ok nmX7 rfl (by decide) rfl rfl q966 (fun _ h => h) rfl hI rfl rfl rfl dX7_init_19 (fun H locs I => ?_)
  obtain ⟨he, rfl⟩ := m_e3 h
  obtain ⟨rfl, rfl⟩ := m_e4 he
  exact hret H locs ls 22 _ _ dX7_init_22 hC I
end S_X7_init
theorem uk_X7_init (l : Launch) (n : Nat) (D : va_G) (d : UD) (u : UM) (t : Nat) (p0 : Int32) (p1 : Nat) (ur : UM) (C : UC) (h : uf_X7_init n d u t p0 p1 = some (((), ur), C)) : u_M l yX7_init (ws_ yX7_init cX7_init 3 none) 1 20 C D d u [.ref t, .int p0, .ref p1] none ur :=
  u_start (own := RX7) (lvl := [(0, .ref t), (1, .int p0), (2, .ref p1)]) (by decide) rfl (Nat.le_of_ble_eq_true rfl) rfl (fun p e s m args below meth c ls X hr hlk hI hl hA I hC => uw_X7_init X hA ⟨Nat.le_refl _, Nat.le_refl _⟩ hI n u t p0 p1 () ur C h (fun H locs ls pc cells slots hd hC I => u_vret X I hr hlk (u_leftE hC) hd) _ _ ls _ _ hC I hl)

/-! SwapPress$Rings.at(II)I -/
def uf_X7_at (n : Nat) (d : UD) (u : UM) (t : Nat) (p0 : Int32) (p1 : Int32) : Option Int32 :=
  m_b (u_fr d u 7 1 t) (fun b1 => m_b (u_ldI d u b1 ((8 * p0) + p1)) (fun b3 => some b3))
theorem uh_X7_at : yX7_at.cls = RX7 ∧ yX7_at.cls ≠ "java/lang/invoke/MethodHandle" ∧ yX7_at.cls ≠ "java/lang/invoke/VarHandle" ∧ (parseMethodDescriptor yX7_at.desc).map (fun d => d.parameters.length) = some 2 := by decide +kernel
section S_X7_at
variable {p : Program} {l : Launch} {e : Env} {R : Room} {s : State} {m : MethodId} {args : Array Value} {below : List Frame} {meth : Method} {c : Code} {Q : State → Prop} {D : va_G} {A : Nat → Prop} {d : UD} {cells slots : Nat}
theorem uw_X7_at (X : u_X RX7 D A d p s m c cX7_at 3 args) (hA : ∀ q, s.heap.size ≤ q → A q) (hR : 0 ≤ R.frames ∧ 0 ≤ R.locals) (hf : cells ≤ R.cells ∧ slots ≤ R.slots) (n : Nat) (u : UM) (t : Nat) (p0 : Int32) (p1 : Int32) (r : Int32) (h : uf_X7_at n d u t p0 p1 = some r) (hret : ∀ (H : Heap) (locs : List Loc) (ls : Array Slot) (pc : Nat), decode cX7_at pc = .ok (.ireturn, 1) → u_I D A s.heap u H locs cells → W p l e R s m args below meth c H locs cells slots Q (F0 m pc ls [.int r])) : ∀ (H : Heap) (locs : List Loc) (ls : Array Slot), u_I D A s.heap u H locs cells → lv_has ls 3 [(0, .ref t), (1, .int p0), (2, .int p1)] → W p l e R s m args below meth c H locs cells slots Q (F0 m 0 ls []) := by
  intro H locs ls I hl
  unfold uf_X7_at at h
  refine lv_aload_n X.1 X.2.1 dX7_at_0 rfl (lv_at hl 0 rfl) ?_
  obtain ⟨b1, e2, h⟩ := m_bS h
  refine u_Gr X I e2 (C := RX7) (T := TX7) (N := 4) (ref := "SwapPress$Rings") in_X7 rfl (by decide) rfl rfl q966 (fun _ h => h) dX7_at_1 ?_
  refine lv_bipush (v := 8) X.1 X.2.1 dX7_at_4 (by decide) ?_
  refine lv_iload_n X.1 X.2.1 dX7_at_6 rfl (lv_at hl 1 rfl) ?_
  refine lv_imul X.1 X.2.1 dX7_at_7 ?_
  refine lv_iload_n X.1 X.2.1 dX7_at_8 rfl (lv_at hl 2 rfl) ?_
  refine lv_iadd X.1 X.2.1 dX7_at_9 ?_
  obtain ⟨b3, e4, h⟩ := m_bS h
  refine u_LI X I e4 dX7_at_10 ?_
  obtain rfl := m_e1 h
  exact hret H locs ls 11 dX7_at_11 I
end S_X7_at
theorem uk_X7_at (l : Launch) (n : Nat) (D : va_G) (d : UD) (u : UM) (t : Nat) (p0 : Int32) (p1 : Int32) (r : Int32) (h : uf_X7_at n d u t p0 p1 = some r) : u_M l yX7_at (ws_ yX7_at cX7_at 3 (some .int)) 0 0 (0, 0) D d u [.ref t, .int p0, .int p1] (some (.int r)) u :=
  u_start (own := RX7) (lvl := [(0, .ref t), (1, .int p0), (2, .int p1)]) (by decide) rfl (Nat.le_of_ble_eq_true rfl) rfl (fun p e s m args below meth c ls X hr hlk hI hl hA I hC => uw_X7_at X hA ⟨Nat.le_refl _, Nat.le_refl _⟩ ⟨Nat.zero_le _, Nat.zero_le _⟩ n u t p0 p1 r h (fun H locs ls pc hd I => u_iret X I hr hlk ⟨rfl, rfl⟩ hd) _ _ ls I hl)

/-! SwapPress$Rings.next(I)I -/
def uf_X7_next (n : Nat) (d : UD) (u : UM) (t : Nat) (p0 : Int32) : Option Int32 :=
  m_b (u_fr d u 7 2 t) (fun b1 => m_b (u_fi d u 7 3 t) (fun b3 => m_g (decide (¬ (b3 : Int32) = 0)) (m_b (u_ldI d u b1 ((p0 + 1) - (p0 + 1) / b3 * b3)) (fun b6 => some b6))))
theorem uh_X7_next : yX7_next.cls = RX7 ∧ yX7_next.cls ≠ "java/lang/invoke/MethodHandle" ∧ yX7_next.cls ≠ "java/lang/invoke/VarHandle" ∧ (parseMethodDescriptor yX7_next.desc).map (fun d => d.parameters.length) = some 1 := by decide +kernel
section S_X7_next
variable {p : Program} {l : Launch} {e : Env} {R : Room} {s : State} {m : MethodId} {args : Array Value} {below : List Frame} {meth : Method} {c : Code} {Q : State → Prop} {D : va_G} {A : Nat → Prop} {d : UD} {cells slots : Nat}
theorem uw_X7_next (X : u_X RX7 D A d p s m c cX7_next 2 args) (hA : ∀ q, s.heap.size ≤ q → A q) (hR : 0 ≤ R.frames ∧ 0 ≤ R.locals) (hf : cells ≤ R.cells ∧ slots ≤ R.slots) (n : Nat) (u : UM) (t : Nat) (p0 : Int32) (r : Int32) (h : uf_X7_next n d u t p0 = some r) (hret : ∀ (H : Heap) (locs : List Loc) (ls : Array Slot) (pc : Nat), decode cX7_next pc = .ok (.ireturn, 1) → u_I D A s.heap u H locs cells → W p l e R s m args below meth c H locs cells slots Q (F0 m pc ls [.int r])) : ∀ (H : Heap) (locs : List Loc) (ls : Array Slot), u_I D A s.heap u H locs cells → lv_has ls 2 [(0, .ref t), (1, .int p0)] → W p l e R s m args below meth c H locs cells slots Q (F0 m 0 ls []) := by
  intro H locs ls I hl
  unfold uf_X7_next at h
  refine lv_aload_n X.1 X.2.1 dX7_next_0 rfl (lv_at hl 0 rfl) ?_
  obtain ⟨b1, e2, h⟩ := m_bS h
  refine u_Gr X I e2 (C := RX7) (T := TX7) (N := 4) (ref := "SwapPress$Rings") in_X7 rfl (by decide) rfl rfl q967 (fun _ h => h) dX7_next_1 ?_
  refine lv_iload_n X.1 X.2.1 dX7_next_4 rfl (lv_at hl 1 rfl) ?_
  refine lv_iconst (v := 1) X.1 X.2.1 dX7_next_5 (by decide) ?_
  refine lv_iadd X.1 X.2.1 dX7_next_6 ?_
  refine lv_aload_n X.1 X.2.1 dX7_next_7 rfl (lv_at hl 0 rfl) ?_
  obtain ⟨b3, e4, h⟩ := m_bS h
  refine u_Gi X I e4 (C := RX7) (T := TX7) (N := 4) (ref := "SwapPress$Rings") in_X7 rfl (by decide) rfl rfl q969 (fun _ h => h) dX7_next_8 ?_
  obtain ⟨g5, h⟩ := m_gS h
  refine lv_irem X.1 X.2.1 dX7_next_11 (of_decide_eq_true g5) ?_
  obtain ⟨b6, e7, h⟩ := m_bS h
  refine u_LI X I e7 dX7_next_12 ?_
  obtain rfl := m_e1 h
  exact hret H locs ls 13 dX7_next_13 I
end S_X7_next
theorem uk_X7_next (l : Launch) (n : Nat) (D : va_G) (d : UD) (u : UM) (t : Nat) (p0 : Int32) (r : Int32) (h : uf_X7_next n d u t p0 = some r) : u_M l yX7_next (ws_ yX7_next cX7_next 2 (some .int)) 0 0 (0, 0) D d u [.ref t, .int p0] (some (.int r)) u :=
  u_start (own := RX7) (lvl := [(0, .ref t), (1, .int p0)]) (by decide) rfl (Nat.le_of_ble_eq_true rfl) rfl (fun p e s m args below meth c ls X hr hlk hI hl hA I hC => uw_X7_next X hA ⟨Nat.le_refl _, Nat.le_refl _⟩ ⟨Nat.zero_le _, Nat.zero_le _⟩ n u t p0 r h (fun H locs ls pc hd I => u_iret X I hr hlk ⟨rfl, rfl⟩ hd) _ _ ls I hl)
