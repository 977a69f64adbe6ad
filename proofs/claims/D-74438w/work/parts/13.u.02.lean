set_option maxRecDepth 100000
set_option maxHeartbeats 4000000
/-! java/lang/AbstractStringBuilder.length()I -/
def uf_J3_length (n : Nat) (d : UD) (u : UM) (t : Nat) : Option Int32 :=
  m_b (u_fi d u 14 3 t) (fun b1 => some b1)
theorem uh_J3_length : yJ3_length.cls = RJ3 ∧ yJ3_length.cls ≠ "java/lang/invoke/MethodHandle" ∧ yJ3_length.cls ≠ "java/lang/invoke/VarHandle" ∧ (parseMethodDescriptor yJ3_length.desc).map (fun d => d.parameters.length) = some 0 := by decide +kernel
section S_J3_length
variable {p : Program} {l : Launch} {e : Env} {R : Room} {s : State} {m : MethodId} {args : Array Value} {below : List Frame} {meth : Method} {c : Code} {Q : State → Prop} {D : va_G} {A : Nat → Prop} {d : UD} {cells slots : Nat}
theorem uw_J3_length (X : u_X RJ3 D A d p s m c cJ3_length 1 args) (hA : ∀ q, s.heap.size ≤ q → A q) (hR : 0 ≤ R.frames ∧ 0 ≤ R.locals) (hf : cells ≤ R.cells ∧ slots ≤ R.slots) (n : Nat) (u : UM) (t : Nat) (r : Int32) (h : uf_J3_length n d u t = some r) (hret : ∀ (H : Heap) (locs : List Loc) (ls : Array Slot) (pc : Nat), decode cJ3_length pc = .ok (.ireturn, 1) → u_I D A s.heap u H locs cells → W p l e R s m args below meth c H locs cells slots Q (F0 m pc ls [.int r])) : ∀ (H : Heap) (locs : List Loc) (ls : Array Slot), u_I D A s.heap u H locs cells → lv_has ls 1 [(0, .ref t)] → W p l e R s m args below meth c H locs cells slots Q (F0 m 0 ls []) := by
  intro H locs ls I hl
  unfold uf_J3_length at h
  refine lv_aload_n X.1 X.2.1 dJ3_length_0 rfl (lv_at hl 0 rfl) ?_
  obtain ⟨b1, e2, h⟩ := m_bS h
  refine u_Gi X I e2 (C := RJ4) (T := TJ4) (N := 4) (ref := "java/lang/AbstractStringBuilder") in_J4 rfl (by decide) rfl rfl q354 (fun _ h => h) dJ3_length_1 ?_
  obtain rfl := m_e1 h
  exact hret H locs ls 4 dJ3_length_4 I
end S_J3_length
theorem uk_J3_length (l : Launch) (n : Nat) (D : va_G) (d : UD) (u : UM) (t : Nat) (r : Int32) (h : uf_J3_length n d u t = some r) : u_M l yJ3_length (ws_ yJ3_length cJ3_length 1 (some .int)) 0 0 (0, 0) D d u [.ref t] (some (.int r)) u :=
  u_start (own := RJ3) (lvl := [(0, .ref t)]) (by decide) rfl (Nat.le_of_ble_eq_true rfl) rfl (fun p e s m args below meth c ls X hr hlk hI hl hA I hC => uw_J3_length X hA ⟨Nat.le_refl _, Nat.le_refl _⟩ ⟨Nat.zero_le _, Nat.zero_le _⟩ n u t r h (fun H locs ls pc hd I => u_iret X I hr hlk ⟨rfl, rfl⟩ hd) _ _ ls I hl)

/-! java/lang/StringBuilder.<init>()V -/
def uf_J4_init (n : Nat) (d : UD) (u : UM) (t : Nat) : Option ((Unit × UM) × UC) :=
  u_bc u.2 (uf_J3_init n d u t 16) (fun r2 u3 => some (((), u3), (0, 0)))
theorem uh_J4_init : yJ4_init.cls = RJ4 ∧ yJ4_init.cls ≠ "java/lang/invoke/MethodHandle" ∧ yJ4_init.cls ≠ "java/lang/invoke/VarHandle" ∧ (parseMethodDescriptor yJ4_init.desc).map (fun d => d.parameters.length) = some 0 := by decide +kernel
section S_J4_init
variable {p : Program} {l : Launch} {e : Env} {R : Room} {s : State} {m : MethodId} {args : Array Value} {below : List Frame} {meth : Method} {c : Code} {Q : State → Prop} {D : va_G} {A : Nat → Prop} {d : UD}
theorem uw_J4_init (X : u_X RJ4 D A d p s m c cJ4_init 1 args) (hA : ∀ q, s.heap.size ≤ q → A q) (hR : 2 ≤ R.frames ∧ 41 ≤ R.locals) (hI : meth.name = "<init>") (n : Nat) (u : UM) (t : Nat) (r0 : Unit) (ur : UM) (C : UC) (h : uf_J4_init n d u t = some ((r0, ur), C)) (hret : ∀ (H : Heap) (locs : List Loc) (ls : Array Slot) (pc cells slots : Nat), decode cJ4_init pc = .ok (.return_, 1) → u_left R cells slots (u_add (0, 0) (0, 0)) → u_I D A s.heap ur H locs cells → W p l e R s m args below meth c H locs cells slots Q (F0 m pc ls [])) : ∀ (H : Heap) (locs : List Loc) (ls : Array Slot) (cells slots : Nat), u_left R cells slots (u_add C (0, 0)) → u_I D A s.heap u H locs cells → lv_has ls 1 [(0, .ref t)] → W p l e R s m args below meth c H locs cells slots Q (F0 m 0 ls []) := by
  intro H locs ls cells slots hC I hl
  unfold uf_J4_init at h
  refine lv_aload_n X.1 X.2.1 dJ4_init_0 rfl (lv_at hl 0 rfl) ?_
  refine lv_bipush (v := 16) X.1 X.2.1 dJ4_init_1 (by decide) ?_
  obtain ⟨r2, u3, C4, C5, e1, z6, h, hq⟩ := u_bcS h
  rw [hq] at hC
  refine u_callI X hl.1 I hA (As := [.int 16]) (rest := []) (uk_J3_init l n D d u t 16 _ _ e1) z6 1 q338 q339 q109 q340 rfl uh_J3_init.2 rfl rfl ⟨Nat.le_trans (Nat.le_of_ble_eq_true rfl) hR.1, Nat.le_trans (Nat.le_of_ble_eq_true rfl) hR.2⟩ hC (Nat.le_of_ble_eq_true rfl) dJ4_init_3 (fun H locs cells slots hC I => ?_)
  obtain ⟨he, rfl⟩ := m_e3 h
  obtain ⟨rfl, rfl⟩ := m_e4 he
  exact hret H locs ls 6 _ _ dJ4_init_6 hC I
end S_J4_init
theorem uk_J4_init (l : Launch) (n : Nat) (D : va_G) (d : UD) (u : UM) (t : Nat) (ur : UM) (C : UC) (h : uf_J4_init n d u t = some (((), ur), C)) : u_M l yJ4_init (ws_ yJ4_init cJ4_init 1 none) 2 41 C D d u [.ref t] none ur :=
  u_start (own := RJ4) (lvl := [(0, .ref t)]) (by decide) rfl (Nat.le_of_ble_eq_true rfl) rfl (fun p e s m args below meth c ls X hr hlk hI hl hA I hC => uw_J4_init X hA ⟨Nat.le_refl _, Nat.le_refl _⟩ hI n u t () ur C h (fun H locs ls pc cells slots hd hC I => u_vret X I hr hlk (u_leftE hC) hd) _ _ ls _ _ hC I hl)

/-! java/lang/StringBuilder.length()I -/
def uf_J4_length (n : Nat) (d : UD) (u : UM) (t : Nat) : Option Int32 :=
  m_b (u_cl u 14 t) (fun f1 => m_b (uf_J3_length n d u t) (fun r4 => some r4))
theorem uh_J4_length : yJ4_length.cls = RJ4 ∧ yJ4_length.cls ≠ "java/lang/invoke/MethodHandle" ∧ yJ4_length.cls ≠ "java/lang/invoke/VarHandle" ∧ (parseMethodDescriptor yJ4_length.desc).map (fun d => d.parameters.length) = some 0 := by decide +kernel
section S_J4_length
variable {p : Program} {l : Launch} {e : Env} {R : Room} {s : State} {m : MethodId} {args : Array Value} {below : List Frame} {meth : Method} {c : Code} {Q : State → Prop} {D : va_G} {A : Nat → Prop} {d : UD} {cells slots : Nat}
theorem uw_J4_length (X : u_X RJ4 D A d p s m c cJ4_length 1 args) (hA : ∀ q, s.heap.size ≤ q → A q) (hR : 1 ≤ R.frames ∧ 20 ≤ R.locals) (hf : cells ≤ R.cells ∧ slots ≤ R.slots) (n : Nat) (u : UM) (t : Nat) (r : Int32) (h : uf_J4_length n d u t = some r) (hret : ∀ (H : Heap) (locs : List Loc) (ls : Array Slot) (pc : Nat), decode cJ4_length pc = .ok (.ireturn, 1) → u_I D A s.heap u H locs cells → W p l e R s m args below meth c H locs cells slots Q (F0 m pc ls [.int r])) : ∀ (H : Heap) (locs : List Loc) (ls : Array Slot), u_I D A s.heap u H locs cells → lv_has ls 1 [(0, .ref t)] → W p l e R s m args below meth c H locs cells slots Q (F0 m 0 ls []) := by
  intro H locs ls I hl
  unfold uf_J4_length at h
  refine lv_aload_n X.1 X.2.1 dJ4_length_0 rfl (lv_at hl 0 rfl) ?_
  obtain ⟨f1, e2, h⟩ := m_bS h
  obtain ⟨r4, e3, h⟩ := m_bS h
  refine u_callSUp X hl.1 I hA (As := []) (rest := []) (uk_J3_length l n D d u t _ e3) (u_clS e2) (C := RJ4) (T := TJ4) (N := 4) rfl 0 q483 q479 q363 q478 q109 q484 ⟨by decide, uh_J3_length.2.2.2⟩ rfl rfl ⟨Nat.le_trans (Nat.le_of_ble_eq_true rfl) hR.1, Nat.le_trans (Nat.le_of_ble_eq_true rfl) hR.2⟩ hf (stk := [.int r4]) rfl (Nat.le_of_ble_eq_true rfl) dJ4_length_1 (fun H locs I => ?_)
  obtain rfl := m_e1 h
  exact hret H locs ls 4 dJ4_length_4 I
end S_J4_length
theorem uk_J4_length (l : Launch) (n : Nat) (D : va_G) (d : UD) (u : UM) (t : Nat) (r : Int32) (h : uf_J4_length n d u t = some r) : u_M l yJ4_length (ws_ yJ4_length cJ4_length 1 (some .int)) 1 20 (0, 0) D d u [.ref t] (some (.int r)) u :=
  u_start (own := RJ4) (lvl := [(0, .ref t)]) (by decide) rfl (Nat.le_of_ble_eq_true rfl) rfl (fun p e s m args below meth c ls X hr hlk hI hl hA I hC => uw_J4_length X hA ⟨Nat.le_refl _, Nat.le_refl _⟩ ⟨Nat.zero_le _, Nat.zero_le _⟩ n u t r h (fun H locs ls pc hd I => u_iret X I hr hlk ⟨rfl, rfl⟩ hd) _ _ ls I hl)

/-! java/lang/String.checkBoundsOffCount(III)I -/
def uf_J5_checkBoundsOffCount (n : Nat) (d : UD) (u : UM) (p0 : Int32) (p1 : Int32) (p2 : Int32) : Option Int32 :=
  none
theorem uh_J5_checkBoundsOffCount : yJ5_checkBoundsOffCount.cls = RJ5 ∧ yJ5_checkBoundsOffCount.cls ≠ "java/lang/invoke/MethodHandle" ∧ yJ5_checkBoundsOffCount.cls ≠ "java/lang/invoke/VarHandle" ∧ (parseMethodDescriptor yJ5_checkBoundsOffCount.desc).map (fun d => d.parameters.length) = some 3 := by decide +kernel
section S_J5_checkBoundsOffCount
variable {p : Program} {l : Launch} {e : Env} {R : Room} {s : State} {m : MethodId} {args : Array Value} {below : List Frame} {meth : Method} {c : Code} {Q : State → Prop} {D : va_G} {A : Nat → Prop} {d : UD} {cells slots : Nat}
theorem uw_J5_checkBoundsOffCount (X : u_X RJ5 D A d p s m c cJ5_checkBoundsOffCount 3 args) (hA : ∀ q, s.heap.size ≤ q → A q) (hR : 0 ≤ R.frames ∧ 0 ≤ R.locals) (hf : cells ≤ R.cells ∧ slots ≤ R.slots) (n : Nat) (u : UM) (p0 : Int32) (p1 : Int32) (p2 : Int32) (r : Int32) (h : uf_J5_checkBoundsOffCount n d u p0 p1 p2 = some r) (hret : ∀ (H : Heap) (locs : List Loc) (ls : Array Slot) (pc : Nat), decode cJ5_checkBoundsOffCount pc = .ok (.ireturn, 1) → u_I D A s.heap u H locs cells → W p l e R s m args below meth c H locs cells slots Q (F0 m pc ls [.int r])) : ∀ (H : Heap) (locs : List Loc) (ls : Array Slot), u_I D A s.heap u H locs cells → lv_has ls 3 [(0, .int p0), (1, .int p1), (2, .int p2)] → W p l e R s m args below meth c H locs cells slots Q (F0 m 0 ls []) := by
  intro H locs ls I hl
  unfold uf_J5_checkBoundsOffCount at h
  refine lv_iload_n X.1 X.2.1 dJ5_checkBoundsOffCount_0 rfl (lv_at hl 0 rfl) ?_
  refine lv_iload_n X.1 X.2.1 dJ5_checkBoundsOffCount_1 rfl (lv_at hl 1 rfl) ?_
  refine lv_iload_n X.1 X.2.1 dJ5_checkBoundsOffCount_2 rfl (lv_at hl 2 rfl) ?_
  refine u_gsQ X I 0 rfl q433 dJ5_checkBoundsOffCount_3 ?_
  cases h
end S_J5_checkBoundsOffCount
theorem uk_J5_checkBoundsOffCount (l : Launch) (n : Nat) (D : va_G) (d : UD) (u : UM) (p0 : Int32) (p1 : Int32) (p2 : Int32) (r : Int32) (h : uf_J5_checkBoundsOffCount n d u p0 p1 p2 = some r) : u_M l yJ5_checkBoundsOffCount (ws_ yJ5_checkBoundsOffCount cJ5_checkBoundsOffCount 3 (some .int)) 0 0 (0, 0) D d u [.int p0, .int p1, .int p2] (some (.int r)) u :=
  u_start (own := RJ5) (lvl := [(0, .int p0), (1, .int p1), (2, .int p2)]) (by decide) rfl (Nat.le_of_ble_eq_true rfl) rfl (fun p e s m args below meth c ls X hr hlk hI hl hA I hC => uw_J5_checkBoundsOffCount X hA ⟨Nat.le_refl _, Nat.le_refl _⟩ ⟨Nat.zero_le _, Nat.zero_le _⟩ n u p0 p1 p2 r h (fun H locs ls pc hd I => u_iret X I hr hlk ⟨rfl, rfl⟩ hd) _ _ ls I hl)

/-! java/lang/String.isLatin1()Z -/
def uf_J5_isLatin1_J18 (n : Nat) (d : UD) (u : UM) (t0 : Int32) : Option Int32 :=
  m_g (m_01 t0) (some t0)
def uf_J5_isLatin1_J17 (n : Nat) (d : UD) (u : UM) : Option Int32 :=
  uf_J5_isLatin1_J18 n d u 0
def uf_J5_isLatin1 (n : Nat) (d : UD) (u : UM) (t : Nat) : Option Int32 :=
  m_if ((1 : Int32) = 0) (uf_J5_isLatin1_J17 n d u ) (m_b (u_fi d u 15 1 t) (fun b3 => m_if ((b3 : Int32) = 0) (uf_J5_isLatin1_J18 n d u 1) (uf_J5_isLatin1_J17 n d u )))
theorem uh_J5_isLatin1 : yJ5_isLatin1.cls = RJ5 ∧ yJ5_isLatin1.cls ≠ "java/lang/invoke/MethodHandle" ∧ yJ5_isLatin1.cls ≠ "java/lang/invoke/VarHandle" ∧ (parseMethodDescriptor yJ5_isLatin1.desc).map (fun d => d.parameters.length) = some 0 := by decide +kernel
section S_J5_isLatin1
variable {p : Program} {l : Launch} {e : Env} {R : Room} {s : State} {m : MethodId} {args : Array Value} {below : List Frame} {meth : Method} {c : Code} {Q : State → Prop} {D : va_G} {A : Nat → Prop} {d : UD} {cells slots : Nat}
theorem uw_J5_isLatin1 (X : u_X RJ5 D A d p s m c cJ5_isLatin1 1 args) (hA : ∀ q, s.heap.size ≤ q → A q) (hR : 0 ≤ R.frames ∧ 0 ≤ R.locals) (hf : cells ≤ R.cells ∧ slots ≤ R.slots) (n : Nat) (u : UM) (t : Nat) (r : Int32) (h : uf_J5_isLatin1 n d u t = some r) (hret : ∀ (H : Heap) (locs : List Loc) (ls : Array Slot) (pc : Nat), m_01 r = true → decode cJ5_isLatin1 pc = .ok (.ireturn, 1) → u_I D A s.heap u H locs cells → W p l e R s m args below meth c H locs cells slots Q (F0 m pc ls [.int r])) : ∀ (H : Heap) (locs : List Loc) (ls : Array Slot), u_I D A s.heap u H locs cells → lv_has ls 1 [(0, .ref t)] → W p l e R s m args below meth c H locs cells slots Q (F0 m 0 ls []) := by
  have k18 : ∀ (t0 : Int32) (H : Heap) (locs : List Loc) (ls : Array Slot), uf_J5_isLatin1_J18 n d u t0 = some r → u_I D A s.heap u H locs cells → lv_has ls 1 [] → W p l e R s m args below meth c H locs cells slots Q (F0 m 18 ls [.int t0]) := by
    intro t0 H locs ls h I hl
    unfold uf_J5_isLatin1_J18 at h
    obtain ⟨g2, h⟩ := m_gS h
    obtain rfl := m_e1 h
    exact hret H locs ls 18 g2 dJ5_isLatin1_18 I
  have k17 : ∀  (H : Heap) (locs : List Loc) (ls : Array Slot), uf_J5_isLatin1_J17 n d u = some r → u_I D A s.heap u H locs cells → lv_has ls 1 [] → W p l e R s m args below meth c H locs cells slots Q (F0 m 17 ls []) := by
    intro  H locs ls h I hl
    unfold uf_J5_isLatin1_J17 at h
    refine lv_iconst (v := 0) X.1 X.2.1 dJ5_isLatin1_17 (by decide) ?_
    exact k18 0 H locs ls h I (lv_sub hl [] rfl)
  intro H locs ls I hl
  unfold uf_J5_isLatin1 at h
  refine u_gsI X I 0 rfl q495 dJ5_isLatin1_0 ?_
  refine lv_if_eq (tgt := 17) X.1 X.2.1 dJ5_isLatin1_3 (by decide) (fun c1 => ?_) (fun c1 => ?_)
  · replace h := m_ifT c1 h
    exact k17  H locs ls h I (lv_sub hl [] rfl)
  · replace h := m_ifF c1 h
    refine lv_aload_n X.1 X.2.1 dJ5_isLatin1_6 rfl (lv_at hl 0 rfl) ?_
    obtain ⟨b3, e4, h⟩ := m_bS h
    refine u_Gi X I e4 (C := RJ5) (T := TJ5) (N := 4) (ref := "java/lang/String") in_J5 rfl (by decide) rfl rfl q510 (fun _ h => h) dJ5_isLatin1_7 ?_
    refine lv_if_ne (tgt := 17) X.1 X.2.1 dJ5_isLatin1_10 (by decide) (fun c5 => ?_) (fun c5 => ?_)
    · replace h := m_ifF c5 h
      exact k17  H locs ls h I (lv_sub hl [] rfl)
    · replace h := m_ifT c5 h
      refine lv_iconst (v := 1) X.1 X.2.1 dJ5_isLatin1_13 (by decide) ?_
      refine lv_goto (tgt := 18) X.1 X.2.1 dJ5_isLatin1_14 (by decide) ?_
      exact k18 1 H locs ls h I (lv_sub hl [] rfl)
end S_J5_isLatin1
theorem uk_J5_isLatin1 (l : Launch) (n : Nat) (D : va_G) (d : UD) (u : UM) (t : Nat) (r : Int32) (h : uf_J5_isLatin1 n d u t = some r) : u_M l yJ5_isLatin1 (ws_ yJ5_isLatin1 cJ5_isLatin1 1 (some .boolean)) 0 0 (0, 0) D d u [.ref t] (some (.int r)) u :=
  u_start (own := RJ5) (lvl := [(0, .ref t)]) (by decide) rfl (Nat.le_of_ble_eq_true rfl) rfl (fun p e s m args below meth c ls X hr hlk hI hl hA I hC => uw_J5_isLatin1 X hA ⟨Nat.le_refl _, Nat.le_refl _⟩ ⟨Nat.zero_le _, Nat.zero_le _⟩ n u t r h (fun H locs ls pc g hd I => u_zret X I hr hlk g ⟨rfl, rfl⟩ hd) _ _ ls I hl)

/-! java/lang/String.checkBoundsBeginEnd(III)V -/
def uf_J5_checkBoundsBeginEnd (n : Nat) (d : UD) (u : UM) (p0 : Int32) (p1 : Int32) (p2 : Int32) : Option Unit :=
  none
theorem uh_J5_checkBoundsBeginEnd : yJ5_checkBoundsBeginEnd.cls = RJ5 ∧ yJ5_checkBoundsBeginEnd.cls ≠ "java/lang/invoke/MethodHandle" ∧ yJ5_checkBoundsBeginEnd.cls ≠ "java/lang/invoke/VarHandle" ∧ (parseMethodDescriptor yJ5_checkBoundsBeginEnd.desc).map (fun d => d.parameters.length) = some 3 := by decide +kernel
section S_J5_checkBoundsBeginEnd
variable {p : Program} {l : Launch} {e : Env} {R : Room} {s : State} {m : MethodId} {args : Array Value} {below : List Frame} {meth : Method} {c : Code} {Q : State → Prop} {D : va_G} {A : Nat → Prop} {d : UD} {cells slots : Nat}
theorem uw_J5_checkBoundsBeginEnd (X : u_X RJ5 D A d p s m c cJ5_checkBoundsBeginEnd 3 args) (hA : ∀ q, s.heap.size ≤ q → A q) (hR : 0 ≤ R.frames ∧ 0 ≤ R.locals) (hf : cells ≤ R.cells ∧ slots ≤ R.slots) (n : Nat) (u : UM) (p0 : Int32) (p1 : Int32) (p2 : Int32) (r : Unit) (h : uf_J5_checkBoundsBeginEnd n d u p0 p1 p2 = some r) (hret : ∀ (H : Heap) (locs : List Loc) (ls : Array Slot) (pc : Nat), decode cJ5_checkBoundsBeginEnd pc = .ok (.return_, 1) → u_I D A s.heap u H locs cells → W p l e R s m args below meth c H locs cells slots Q (F0 m pc ls [])) : ∀ (H : Heap) (locs : List Loc) (ls : Array Slot), u_I D A s.heap u H locs cells → lv_has ls 3 [(0, .int p0), (1, .int p1), (2, .int p2)] → W p l e R s m args below meth c H locs cells slots Q (F0 m 0 ls []) := by
  intro H locs ls I hl
  unfold uf_J5_checkBoundsBeginEnd at h
  refine lv_iload_n X.1 X.2.1 dJ5_checkBoundsBeginEnd_0 rfl (lv_at hl 0 rfl) ?_
  refine lv_iload_n X.1 X.2.1 dJ5_checkBoundsBeginEnd_1 rfl (lv_at hl 1 rfl) ?_
  refine lv_iload_n X.1 X.2.1 dJ5_checkBoundsBeginEnd_2 rfl (lv_at hl 2 rfl) ?_
  refine u_gsQ X I 0 rfl q433 dJ5_checkBoundsBeginEnd_3 ?_
  cases h
end S_J5_checkBoundsBeginEnd
theorem uk_J5_checkBoundsBeginEnd (l : Launch) (n : Nat) (D : va_G) (d : UD) (u : UM) (p0 : Int32) (p1 : Int32) (p2 : Int32) (r : Unit) (h : uf_J5_checkBoundsBeginEnd n d u p0 p1 p2 = some r) : u_M l yJ5_checkBoundsBeginEnd (ws_ yJ5_checkBoundsBeginEnd cJ5_checkBoundsBeginEnd 3 none) 0 0 (0, 0) D d u [.int p0, .int p1, .int p2] none u :=
  u_start (own := RJ5) (lvl := [(0, .int p0), (1, .int p1), (2, .int p2)]) (by decide) rfl (Nat.le_of_ble_eq_true rfl) rfl (fun p e s m args below meth c ls X hr hlk hI hl hA I hC => uw_J5_checkBoundsBeginEnd X hA ⟨Nat.le_refl _, Nat.le_refl _⟩ ⟨Nat.zero_le _, Nat.zero_le _⟩ n u p0 p1 p2 r h (fun H locs ls pc hd I => u_vret X I hr hlk ⟨rfl, rfl⟩ hd) _ _ ls I hl)

/-! java/lang/String.coder()B -/
def uf_J5_coder_J14 (n : Nat) (d : UD) (u : UM) (t0 : Int32) : Option Int32 :=
  m_g (m_01 t0) (some t0)
def uf_J5_coder (n : Nat) (d : UD) (u : UM) (t : Nat) : Option Int32 :=
  m_if ((1 : Int32) = 0) (uf_J5_coder_J14 n d u 1) (m_b (u_fi d u 15 1 t) (fun b3 => uf_J5_coder_J14 n d u b3))
theorem uh_J5_coder : yJ5_coder.cls = RJ5 ∧ yJ5_coder.cls ≠ "java/lang/invoke/MethodHandle" ∧ yJ5_coder.cls ≠ "java/lang/invoke/VarHandle" ∧ (parseMethodDescriptor yJ5_coder.desc).map (fun d => d.parameters.length) = some 0 := by decide +kernel
section S_J5_coder
variable {p : Program} {l : Launch} {e : Env} {R : Room} {s : State} {m : MethodId} {args : Array Value} {below : List Frame} {meth : Method} {c : Code} {Q : State → Prop} {D : va_G} {A : Nat → Prop} {d : UD} {cells slots : Nat}
theorem uw_J5_coder (X : u_X RJ5 D A d p s m c cJ5_coder 1 args) (hA : ∀ q, s.heap.size ≤ q → A q) (hR : 0 ≤ R.frames ∧ 0 ≤ R.locals) (hf : cells ≤ R.cells ∧ slots ≤ R.slots) (n : Nat) (u : UM) (t : Nat) (r : Int32) (h : uf_J5_coder n d u t = some r) (hret : ∀ (H : Heap) (locs : List Loc) (ls : Array Slot) (pc : Nat), m_01 r = true → decode cJ5_coder pc = .ok (.ireturn, 1) → u_I D A s.heap u H locs cells → W p l e R s m args below meth c H locs cells slots Q (F0 m pc ls [.int r])) : ∀ (H : Heap) (locs : List Loc) (ls : Array Slot), u_I D A s.heap u H locs cells → lv_has ls 1 [(0, .ref t)] → W p l e R s m args below meth c H locs cells slots Q (F0 m 0 ls []) := by
  have k14 : ∀ (t0 : Int32) (H : Heap) (locs : List Loc) (ls : Array Slot), uf_J5_coder_J14 n d u t0 = some r → u_I D A s.heap u H locs cells → lv_has ls 1 [] → W p l e R s m args below meth c H locs cells slots Q (F0 m 14 ls [.int t0]) := by
    intro t0 H locs ls h I hl
    unfold uf_J5_coder_J14 at h
    obtain ⟨g2, h⟩ := m_gS h
    obtain rfl := m_e1 h
    exact hret H locs ls 14 g2 dJ5_coder_14 I
  intro H locs ls I hl
  unfold uf_J5_coder at h
  refine u_gsI X I 0 rfl q495 dJ5_coder_0 ?_
  refine lv_if_eq (tgt := 13) X.1 X.2.1 dJ5_coder_3 (by decide) (fun c1 => ?_) (fun c1 => ?_)
  · replace h := m_ifT c1 h
    refine lv_iconst (v := 1) X.1 X.2.1 dJ5_coder_13 (by decide) ?_
    exact k14 1 H locs ls h I (lv_sub hl [] rfl)
  · replace h := m_ifF c1 h
    refine lv_aload_n X.1 X.2.1 dJ5_coder_6 rfl (lv_at hl 0 rfl) ?_
    obtain ⟨b3, e4, h⟩ := m_bS h
    refine u_Gi X I e4 (C := RJ5) (T := TJ5) (N := 4) (ref := "java/lang/String") in_J5 rfl (by decide) rfl rfl q510 (fun _ h => h) dJ5_coder_7 ?_
    refine lv_goto (tgt := 14) X.1 X.2.1 dJ5_coder_10 (by decide) ?_
    exact k14 b3 H locs ls h I (lv_sub hl [] rfl)
end S_J5_coder
theorem uk_J5_coder (l : Launch) (n : Nat) (D : va_G) (d : UD) (u : UM) (t : Nat) (r : Int32) (h : uf_J5_coder n d u t = some r) : u_M l yJ5_coder (ws_ yJ5_coder cJ5_coder 1 (some .byte)) 0 0 (0, 0) D d u [.ref t] (some (.int r)) u :=
  u_start (own := RJ5) (lvl := [(0, .ref t)]) (by decide) rfl (Nat.le_of_ble_eq_true rfl) rfl (fun p e s m args below meth c ls X hr hlk hI hl hA I hC => uw_J5_coder X hA ⟨Nat.le_refl _, Nat.le_refl _⟩ ⟨Nat.zero_le _, Nat.zero_le _⟩ n u t r h (fun H locs ls pc g hd I => u_bret X I hr hlk g ⟨rfl, rfl⟩ hd) _ _ ls I hl)

/-! java/lang/String.getBytes([BIB)V -/
def uf_J5_getBytes_J43 (n : Nat) (d : UD) (u : UM) : Option ((Unit × UM) × UC) :=
  some (((), u), (0, 0))
def uf_J5_getBytes (n : Nat) (d : UD) (u : UM) (t : Nat) (p0 : Nat) (p1 : Int32) (p2 : Int32) : Option ((Unit × UM) × UC) :=
  m_b (u_tx d u t) (fun f1 => m_b (uf_J5_coder n d u t) (fun r4 => m_if ((r4 : Int32) = (p2 : Int32)) (m_b (u_fr d u 15 0 t) (fun b12 => m_b (u_fr d u 15 0 t) (fun b14 => m_b (u_lnI d u 2 b14) (fun b16 => m_b (u_xcB d u b12 0 p0 (p1 <<< (p2 &&& 31)) b16) (fun w18 => uf_J5_getBytes_J43 n d (w18, u.2) ))))) (m_b (u_fr d u 15 0 t) (fun b6 => m_b (u_fr d u 15 0 t) (fun b8 => m_b (u_lnI d u 2 b8) (fun b10 => none))))))
theorem uh_J5_getBytes : yJ5_getBytes.cls = RJ5 ∧ yJ5_getBytes.cls ≠ "java/lang/invoke/MethodHandle" ∧ yJ5_getBytes.cls ≠ "java/lang/invoke/VarHandle" ∧ (parseMethodDescriptor yJ5_getBytes.desc).map (fun d => d.parameters.length) = some 3 := by decide +kernel
section S_J5_getBytes
variable {p : Program} {l : Launch} {e : Env} {R : Room} {s : State} {m : MethodId} {args : Array Value} {below : List Frame} {meth : Method} {c : Code} {Q : State → Prop} {D : va_G} {A : Nat → Prop} {d : UD}
theorem uw_J5_getBytes (X : u_X RJ5 D A d p s m c cJ5_getBytes 4 args) (hA : ∀ q, s.heap.size ≤ q → A q) (hR : 1 ≤ R.frames ∧ 60 ≤ R.locals) (n : Nat) (u : UM) (t : Nat) (p0 : Nat) (p1 : Int32) (p2 : Int32) (r0 : Unit) (ur : UM) (C : UC) (h : uf_J5_getBytes n d u t p0 p1 p2 = some ((r0, ur), C)) (hret : ∀ (H : Heap) (locs : List Loc) (ls : Array Slot) (pc cells slots : Nat), decode cJ5_getBytes pc = .ok (.return_, 1) → u_left R cells slots (u_add (0, 0) (0, 0)) → u_I D A s.heap ur H locs cells → W p l e R s m args below meth c H locs cells slots Q (F0 m pc ls [])) : ∀ (H : Heap) (locs : List Loc) (ls : Array Slot) (cells slots : Nat), u_left R cells slots (u_add C (0, 0)) → u_I D A s.heap u H locs cells → lv_has ls 4 [(0, .ref t), (1, .ref p0), (2, .int p1), (3, .int p2)] → W p l e R s m args below meth c H locs cells slots Q (F0 m 0 ls []) := by
  have k43 : ∀ (u : UM) (H : Heap) (locs : List Loc) (ls : Array Slot) (cells slots : Nat) (C : UC), uf_J5_getBytes_J43 n d u = some ((r0, ur), C) → u_left R cells slots (u_add C (0, 0)) → u_I D A s.heap u H locs cells → lv_has ls 4 [] → W p l e R s m args below meth c H locs cells slots Q (F0 m 43 ls []) := by
    intro u H locs ls cells slots C h hC I hl
    unfold uf_J5_getBytes_J43 at h
    obtain ⟨he, rfl⟩ := m_e3 h
    obtain ⟨rfl, rfl⟩ := m_e4 he
    exact hret H locs ls 43 _ _ dJ5_getBytes_43 hC I
  intro H locs ls cells slots hC I hl
  unfold uf_J5_getBytes at h
  refine lv_aload_n X.1 X.2.1 dJ5_getBytes_0 rfl (lv_at hl 0 rfl) ?_
  obtain ⟨f1, e2, h⟩ := m_bS h
  obtain ⟨r4, e3, h⟩ := m_bS h
  refine u_callVpT X hl.1 I hA (As := []) (rest := []) (uk_J5_coder l n D d u t _ e3) (u_txS e2) 0 q1410 q1411 q1412 q111 q1413 uh_J5_coder rfl rfl ⟨Nat.le_trans (Nat.le_of_ble_eq_true rfl) hR.1, Nat.le_trans (Nat.le_of_ble_eq_true rfl) hR.2⟩ (u_leftLe hC) (stk := [.int r4]) rfl (Nat.le_of_ble_eq_true rfl) dJ5_getBytes_1 (fun H locs I => ?_)
  refine lv_iload_n X.1 X.2.1 dJ5_getBytes_4 rfl (lv_at hl 3 rfl) ?_
  refine lv_icmp_ne (tgt := 28) X.1 X.2.1 dJ5_getBytes_5 (by decide) (fun c5 => ?_) (fun c5 => ?_)
  · replace h := m_ifF c5 h
    refine lv_aload_n X.1 X.2.1 dJ5_getBytes_28 rfl (lv_at hl 0 rfl) ?_
    obtain ⟨b6, e7, h⟩ := m_bS h
    refine u_Gr X I e7 (C := RJ5) (T := TJ5) (N := 4) (ref := "java/lang/String") in_J5 rfl (by decide) rfl rfl q509 (fun _ h => h) dJ5_getBytes_29 ?_
    refine lv_iconst (v := 0) X.1 X.2.1 dJ5_getBytes_32 (by decide) ?_
    refine lv_aload_n X.1 X.2.1 dJ5_getBytes_33 rfl (lv_at hl 1 rfl) ?_
    refine lv_iload_n X.1 X.2.1 dJ5_getBytes_34 rfl (lv_at hl 2 rfl) ?_
    refine lv_aload_n X.1 X.2.1 dJ5_getBytes_35 rfl (lv_at hl 0 rfl) ?_
    obtain ⟨b8, e9, h⟩ := m_bS h
    refine u_Gr X I e9 (C := RJ5) (T := TJ5) (N := 4) (ref := "java/lang/String") in_J5 rfl (by decide) rfl rfl q509 (fun _ h => h) dJ5_getBytes_36 ?_
    obtain ⟨b10, e11, h⟩ := m_bS h
    refine u_LN X I (by decide) e11 dJ5_getBytes_39 ?_
    cases h
  · replace h := m_ifT c5 h
    refine lv_aload_n X.1 X.2.1 dJ5_getBytes_8 rfl (lv_at hl 0 rfl) ?_
    obtain ⟨b12, e13, h⟩ := m_bS h
    refine u_Gr X I e13 (C := RJ5) (T := TJ5) (N := 4) (ref := "java/lang/String") in_J5 rfl (by decide) rfl rfl q509 (fun _ h => h) dJ5_getBytes_9 ?_
    refine lv_iconst (v := 0) X.1 X.2.1 dJ5_getBytes_12 (by decide) ?_
    refine lv_aload_n X.1 X.2.1 dJ5_getBytes_13 rfl (lv_at hl 1 rfl) ?_
    refine lv_iload_n X.1 X.2.1 dJ5_getBytes_14 rfl (lv_at hl 2 rfl) ?_
    refine lv_iload_n X.1 X.2.1 dJ5_getBytes_15 rfl (lv_at hl 3 rfl) ?_
    refine lv_ishl X.1 X.2.1 dJ5_getBytes_16 ?_
    refine lv_aload_n X.1 X.2.1 dJ5_getBytes_17 rfl (lv_at hl 0 rfl) ?_
    obtain ⟨b14, e15, h⟩ := m_bS h
    refine u_Gr X I e15 (C := RJ5) (T := TJ5) (N := 4) (ref := "java/lang/String") in_J5 rfl (by decide) rfl rfl q509 (fun _ h => h) dJ5_getBytes_18 ?_
    obtain ⟨b16, e17, h⟩ := m_bS h
    refine u_LN X I (by decide) e17 dJ5_getBytes_21 ?_
    obtain ⟨w18, e19, h⟩ := m_bS h
    refine u_CB X hl.1 I q1427 q405 q404 q116 e19 (Nat.le_trans (Nat.le_of_ble_eq_true rfl) hR.1) (Nat.le_trans (Nat.le_of_ble_eq_true rfl) hR.2) (Nat.le_of_ble_eq_true rfl) dJ5_getBytes_22 (fun H locs I => ?_)
    refine lv_goto (tgt := 43) X.1 X.2.1 dJ5_getBytes_25 (by decide) ?_
    exact k43 (w18, u.2) H locs ls _ _ _ h hC I (lv_sub hl [] rfl)
end S_J5_getBytes
theorem uk_J5_getBytes (l : Launch) (n : Nat) (D : va_G) (d : UD) (u : UM) (t : Nat) (p0 : Nat) (p1 : Int32) (p2 : Int32) (ur : UM) (C : UC) (h : uf_J5_getBytes n d u t p0 p1 p2 = some (((), ur), C)) : u_M l yJ5_getBytes (ws_ yJ5_getBytes cJ5_getBytes 4 none) 1 60 C D d u [.ref t, .ref p0, .int p1, .int p2] none ur :=
  u_start (own := RJ5) (lvl := [(0, .ref t), (1, .ref p0), (2, .int p1), (3, .int p2)]) (by decide) rfl (Nat.le_of_ble_eq_true rfl) rfl (fun p e s m args below meth c ls X hr hlk hI hl hA I hC => uw_J5_getBytes X hA ⟨Nat.le_refl _, Nat.le_refl _⟩ n u t p0 p1 p2 () ur C h (fun H locs ls pc cells slots hd hC I => u_vret X I hr hlk (u_leftE hC) hd) _ _ ls _ _ hC I hl)

/-! jdk/internal/util/ArraysSupport.newLength(III)I -/
def uf_J7_newLength_J21 (n : Nat) (d : UD) (u : UM) (v0 : Int32) (v1 : Int32) : Option Int32 :=
  none
def uf_J7_newLength (n : Nat) (d : UD) (u : UM) (p0 : Int32) (p1 : Int32) (p2 : Int32) : Option Int32 :=
  m_b (some (p0 + (if (p1 : Int32) < (p2 : Int32) then (p2 : Int32) else (p1 : Int32)))) (fun y1 => m_if ((y1 : Int32) ≤ (0 : Int32)) (uf_J7_newLength_J21 n d u p0 p1) (m_if ((2147483639 : Int32) < (y1 : Int32)) (uf_J7_newLength_J21 n d u p0 p1) (some y1)))
theorem uh_J7_newLength : yJ7_newLength.cls = RJ7 ∧ yJ7_newLength.cls ≠ "java/lang/invoke/MethodHandle" ∧ yJ7_newLength.cls ≠ "java/lang/invoke/VarHandle" ∧ (parseMethodDescriptor yJ7_newLength.desc).map (fun d => d.parameters.length) = some 3 := by decide +kernel
section S_J7_newLength
variable {p : Program} {l : Launch} {e : Env} {R : Room} {s : State} {m : MethodId} {args : Array Value} {below : List Frame} {meth : Method} {c : Code} {Q : State → Prop} {D : va_G} {A : Nat → Prop} {d : UD} {cells slots : Nat}
theorem uw_J7_newLength (X : u_X RJ7 D A d p s m c cJ7_newLength 4 args) (hA : ∀ q, s.heap.size ≤ q → A q) (hR : 1 ≤ R.frames ∧ 40 ≤ R.locals) (hf : cells ≤ R.cells ∧ slots ≤ R.slots) (n : Nat) (u : UM) (p0 : Int32) (p1 : Int32) (p2 : Int32) (r : Int32) (h : uf_J7_newLength n d u p0 p1 p2 = some r) (hret : ∀ (H : Heap) (locs : List Loc) (ls : Array Slot) (pc : Nat), decode cJ7_newLength pc = .ok (.ireturn, 1) → u_I D A s.heap u H locs cells → W p l e R s m args below meth c H locs cells slots Q (F0 m pc ls [.int r])) : ∀ (H : Heap) (locs : List Loc) (ls : Array Slot), u_I D A s.heap u H locs cells → lv_has ls 4 [(0, .int p0), (1, .int p1), (2, .int p2)] → W p l e R s m args below meth c H locs cells slots Q (F0 m 0 ls []) := by
  have k21 : ∀ (v0 : Int32) (v1 : Int32) (H : Heap) (locs : List Loc) (ls : Array Slot), uf_J7_newLength_J21 n d u v0 v1 = some r → u_I D A s.heap u H locs cells → lv_has ls 4 [(0, .int v0), (1, .int v1)] → W p l e R s m args below meth c H locs cells slots Q (F0 m 21 ls []) := by
    intro v0 v1 H locs ls h I hl
    unfold uf_J7_newLength_J21 at h
    refine lv_iload_n X.1 X.2.1 dJ7_newLength_21 rfl (lv_at hl 0 rfl) ?_
    refine lv_iload_n X.1 X.2.1 dJ7_newLength_22 rfl (lv_at hl 1 rfl) ?_
    cases h
  intro H locs ls I hl
  unfold uf_J7_newLength at h
  refine lv_iload_n X.1 X.2.1 dJ7_newLength_0 rfl (lv_at hl 0 rfl) ?_
  refine lv_iload_n X.1 X.2.1 dJ7_newLength_1 rfl (lv_at hl 1 rfl) ?_
  refine lv_iload_n X.1 X.2.1 dJ7_newLength_2 rfl (lv_at hl 2 rfl) ?_
  refine va_mmax X.1 X.2.1 (X.2.2.2.2.2.1.trans hl.1.symm) X.2.2.2.1 (X.2.2.1 _ q382) (X.2.2.1 _ q383) (X.2.2.1 _ q114) (X.2.2.1 _ q384) (Nat.le_trans (Nat.le_of_ble_eq_true rfl) hR.1) (Nat.le_trans (Nat.le_of_ble_eq_true rfl) hR.2) hf.1 hf.2 dJ7_newLength_3 ?_
  refine lv_iadd X.1 X.2.1 dJ7_newLength_6 ?_
  obtain ⟨y1, e2, h⟩ := m_bS h
  rw [m_e1 e2]
  refine lv_istore_n (lv' := [(3, .int y1), (0, .int p0), (1, .int p1), (2, .int p2)]) X.1 X.2.1 dJ7_newLength_7 rfl hl (by decide) rfl (fun ls hl => ?_)
  refine lv_iconst (v := 0) X.1 X.2.1 dJ7_newLength_8 (by decide) ?_
  refine lv_iload_n X.1 X.2.1 dJ7_newLength_9 rfl (lv_at hl 0 rfl) ?_
  refine lv_icmp_ge (tgt := 21) X.1 X.2.1 dJ7_newLength_10 (by decide) (fun c3 => ?_) (fun c3 => ?_)
  · replace h := m_ifT c3 h
    exact k21 p0 p1 H locs ls h I (lv_sub hl [1, 2] rfl)
  · replace h := m_ifF c3 h
    refine lv_iload_n X.1 X.2.1 dJ7_newLength_13 rfl (lv_at hl 0 rfl) ?_
    refine lv_ldc (v := 2147483639) X.1 X.2.1 X.2.2.2.1 (X.2.2.1 _ q385) dJ7_newLength_14 ?_
    refine lv_icmp_gt (tgt := 21) X.1 X.2.1 dJ7_newLength_16 (by decide) (fun c4 => ?_) (fun c4 => ?_)
    · replace h := m_ifT c4 h
      exact k21 p0 p1 H locs ls h I (lv_sub hl [1, 2] rfl)
    · replace h := m_ifF c4 h
      refine lv_iload_n X.1 X.2.1 dJ7_newLength_19 rfl (lv_at hl 0 rfl) ?_
      obtain rfl := m_e1 h
      exact hret H locs ls 20 dJ7_newLength_20 I
end S_J7_newLength
theorem uk_J7_newLength (l : Launch) (n : Nat) (D : va_G) (d : UD) (u : UM) (p0 : Int32) (p1 : Int32) (p2 : Int32) (r : Int32) (h : uf_J7_newLength n d u p0 p1 p2 = some r) : u_M l yJ7_newLength (ws_ yJ7_newLength cJ7_newLength 4 (some .int)) 1 40 (0, 0) D d u [.int p0, .int p1, .int p2] (some (.int r)) u :=
  u_start (own := RJ7) (lvl := [(0, .int p0), (1, .int p1), (2, .int p2)]) (by decide) rfl (Nat.le_of_ble_eq_true rfl) rfl (fun p e s m args below meth c ls X hr hlk hI hl hA I hC => uw_J7_newLength X hA ⟨Nat.le_refl _, Nat.le_refl _⟩ ⟨Nat.zero_le _, Nat.zero_le _⟩ n u p0 p1 p2 r h (fun H locs ls pc hd I => u_iret X I hr hlk ⟨rfl, rfl⟩ hd) _ _ ls I hl)

/-! jdk/internal/util/ArraysSupport.signedHashCode(I[BII)I -/
def uf_J7_signedHashCode_L8 (n : Nat) (d : UD) (u : UM) (v1 : Nat) (v4 : Int32) (v0 : Int32) (v5 : Int32) : Option ((Int32 × Int32) ⊕ Int32) :=
  m_if ((v4 : Int32) ≤ (v5 : Int32)) (some (.inr v0)) (m_b (u_ai d u 2 v1 v5) (fun b2 => some (.inl (((31 * v0) + (b2 &&& 255), v5 + 1)))))
def uf_J7_signedHashCode_L8l (n : Nat) (d : UD) (u : UM) (v1 : Nat) (v4 : Int32) (x : (Int32 × Int32)) : Option Int32 := m_lp (fun (x : (Int32 × Int32)) => uf_J7_signedHashCode_L8 n d u v1 v4 x.1 x.2) n x
def uf_J7_signedHashCode (n : Nat) (d : UD) (u : UM) (p0 : Int32) (p1 : Nat) (p2 : Int32) (p3 : Int32) : Option Int32 :=
  m_b (uf_J7_signedHashCode_L8l n d u p1 (p2 + p3) ((p0, p2))) (fun z5 => some z5)
theorem uh_J7_signedHashCode : yJ7_signedHashCode.cls = RJ7 ∧ yJ7_signedHashCode.cls ≠ "java/lang/invoke/MethodHandle" ∧ yJ7_signedHashCode.cls ≠ "java/lang/invoke/VarHandle" ∧ (parseMethodDescriptor yJ7_signedHashCode.desc).map (fun d => d.parameters.length) = some 4 := by decide +kernel
section S_J7_signedHashCode
variable {p : Program} {l : Launch} {e : Env} {R : Room} {s : State} {m : MethodId} {args : Array Value} {below : List Frame} {meth : Method} {c : Code} {Q : State → Prop} {D : va_G} {A : Nat → Prop} {d : UD} {cells slots : Nat}
theorem wuf_J7_signedHashCode_L8 (X : u_X RJ7 D A d p s m c cJ7_signedHashCode 6 args) (hA : ∀ q, s.heap.size ≤ q → A q) (hR : 0 ≤ R.frames ∧ 0 ≤ R.locals) (hf : cells ≤ R.cells ∧ slots ≤ R.slots) (n : Nat) (u : UM) (v1 : Nat) (v4 : Int32) (x : (Int32 × Int32)) (z : Int32) (hz : uf_J7_signedHashCode_L8l n d u v1 v4 x = some z) (hE : (fun (z : Int32) => ∀ (H : Heap) (locs : List Loc) (ls : Array Slot), u_I D A s.heap u H locs cells → lv_has ls 6 [(0, .int z)] → W p l e R s m args below meth c H locs cells slots Q (F0 m 35 ls [])) z) : (fun (x : (Int32 × Int32)) => ∀ (H : Heap) (locs : List Loc) (ls : Array Slot), u_I D A s.heap u H locs cells → lv_has ls 6 [(0, .int x.1), (1, .ref v1), (4, .int v4), (5, .int x.2)] → W p l e R s m args below meth c H locs cells slots Q (F0 m 8 ls [])) x := by
  refine m_lpW (G := fun (x : (Int32 × Int32)) => ∀ (H : Heap) (locs : List Loc) (ls : Array Slot), u_I D A s.heap u H locs cells → lv_has ls 6 [(0, .int x.1), (1, .ref v1), (4, .int v4), (5, .int x.2)] → W p l e R s m args below meth c H locs cells slots Q (F0 m 8 ls [])) (E := fun (z : Int32) => ∀ (H : Heap) (locs : List Loc) (ls : Array Slot), u_I D A s.heap u H locs cells → lv_has ls 6 [(0, .int z)] → W p l e R s m args below meth c H locs cells slots Q (F0 m 35 ls [])) ?_ n x z hz hE
  rintro ⟨v0, v5⟩ r h hr H locs ls I hl
  replace h : uf_J7_signedHashCode_L8 n d u v1 v4 v0 v5 = some r := h
  unfold uf_J7_signedHashCode_L8 at h
  refine lv_iload X.1 X.2.1 dJ7_signedHashCode_8 (lv_at hl 3 rfl) ?_
  refine lv_iload X.1 X.2.1 dJ7_signedHashCode_10 (lv_at hl 2 rfl) ?_
  refine lv_icmp_ge (tgt := 35) X.1 X.2.1 dJ7_signedHashCode_12 (by decide) (fun c1 => ?_) (fun c1 => ?_)
  · replace h := m_ifT c1 h
    cases h
    exact hr H locs ls I (lv_sub hl [0] rfl)
  · replace h := m_ifF c1 h
    refine lv_bipush (v := 31) X.1 X.2.1 dJ7_signedHashCode_15 (by decide) ?_
    refine lv_iload_n X.1 X.2.1 dJ7_signedHashCode_17 rfl (lv_at hl 0 rfl) ?_
    refine lv_imul X.1 X.2.1 dJ7_signedHashCode_18 ?_
    refine lv_aload_n X.1 X.2.1 dJ7_signedHashCode_19 rfl (lv_at hl 1 rfl) ?_
    refine lv_iload X.1 X.2.1 dJ7_signedHashCode_20 (lv_at hl 3 rfl) ?_
    obtain ⟨b2, e3, h⟩ := m_bS h
    refine u_LB X I e3 dJ7_signedHashCode_22 ?_
    refine lv_sipush (v := 255) X.1 X.2.1 dJ7_signedHashCode_23 (by decide) ?_
    refine lv_iand X.1 X.2.1 dJ7_signedHashCode_26 ?_
    refine lv_iadd X.1 X.2.1 dJ7_signedHashCode_27 ?_
    refine lv_istore_n (lv' := [(0, .int ((31 * v0) + (b2 &&& 255))), (1, .ref v1), (4, .int v4), (5, .int v5)]) X.1 X.2.1 dJ7_signedHashCode_28 rfl hl (by decide) rfl (fun ls hl => ?_)
    refine lv_iinc (v := v5 + 1) (lv' := [(5, .int (v5 + 1)), (0, .int ((31 * v0) + (b2 &&& 255))), (1, .ref v1), (4, .int v4)]) X.1 X.2.1 dJ7_signedHashCode_29 hl (k := 3) rfl rfl (by decide) rfl (fun ls hl => ?_)
    refine lv_goto (tgt := 8) X.1 X.2.1 dJ7_signedHashCode_32 (by decide) ?_
    cases h
    exact hr H locs ls I (lv_sub hl [1, 2, 3, 0] rfl)
theorem uw_J7_signedHashCode (X : u_X RJ7 D A d p s m c cJ7_signedHashCode 6 args) (hA : ∀ q, s.heap.size ≤ q → A q) (hR : 0 ≤ R.frames ∧ 0 ≤ R.locals) (hf : cells ≤ R.cells ∧ slots ≤ R.slots) (n : Nat) (u : UM) (p0 : Int32) (p1 : Nat) (p2 : Int32) (p3 : Int32) (r : Int32) (h : uf_J7_signedHashCode n d u p0 p1 p2 p3 = some r) (hret : ∀ (H : Heap) (locs : List Loc) (ls : Array Slot) (pc : Nat), decode cJ7_signedHashCode pc = .ok (.ireturn, 1) → u_I D A s.heap u H locs cells → W p l e R s m args below meth c H locs cells slots Q (F0 m pc ls [.int r])) : ∀ (H : Heap) (locs : List Loc) (ls : Array Slot), u_I D A s.heap u H locs cells → lv_has ls 6 [(0, .int p0), (1, .ref p1), (2, .int p2), (3, .int p3)] → W p l e R s m args below meth c H locs cells slots Q (F0 m 0 ls []) := by
  intro H locs ls I hl
  unfold uf_J7_signedHashCode at h
  refine lv_iload_n X.1 X.2.1 dJ7_signedHashCode_0 rfl (lv_at hl 2 rfl) ?_
  refine lv_iload_n X.1 X.2.1 dJ7_signedHashCode_1 rfl (lv_at hl 3 rfl) ?_
  refine lv_iadd X.1 X.2.1 dJ7_signedHashCode_2 ?_
  refine lv_istore (lv' := [(4, .int (p2 + p3)), (0, .int p0), (1, .ref p1), (2, .int p2), (3, .int p3)]) X.1 X.2.1 dJ7_signedHashCode_3 hl (by decide) rfl (fun ls hl => ?_)
  refine lv_iload_n X.1 X.2.1 dJ7_signedHashCode_5 rfl (lv_at hl 3 rfl) ?_
  refine lv_istore (lv' := [(5, .int p2), (4, .int (p2 + p3)), (0, .int p0), (1, .ref p1), (2, .int p2), (3, .int p3)]) X.1 X.2.1 dJ7_signedHashCode_6 hl (by decide) rfl (fun ls hl => ?_)
  obtain ⟨z5, e4, h⟩ := m_bS h
  refine wuf_J7_signedHashCode_L8 X hA hR hf n u p1 (p2 + p3) _ _ e4 (fun H locs ls I hl => ?_) H locs ls I (lv_sub hl [2, 3, 1, 0] rfl)
  refine lv_iload_n X.1 X.2.1 dJ7_signedHashCode_35 rfl (lv_at hl 0 rfl) ?_
  obtain rfl := m_e1 h
  exact hret H locs ls 36 dJ7_signedHashCode_36 I
end S_J7_signedHashCode
theorem uk_J7_signedHashCode (l : Launch) (n : Nat) (D : va_G) (d : UD) (u : UM) (p0 : Int32) (p1 : Nat) (p2 : Int32) (p3 : Int32) (r : Int32) (h : uf_J7_signedHashCode n d u p0 p1 p2 p3 = some r) : u_M l yJ7_signedHashCode (ws_ yJ7_signedHashCode cJ7_signedHashCode 6 (some .int)) 0 0 (0, 0) D d u [.int p0, .ref p1, .int p2, .int p3] (some (.int r)) u :=
  u_start (own := RJ7) (lvl := [(0, .int p0), (1, .ref p1), (2, .int p2), (3, .int p3)]) (by decide) rfl (Nat.le_of_ble_eq_true rfl) rfl (fun p e s m args below meth c ls X hr hlk hI hl hA I hC => uw_J7_signedHashCode X hA ⟨Nat.le_refl _, Nat.le_refl _⟩ ⟨Nat.zero_le _, Nat.zero_le _⟩ n u p0 p1 p2 p3 r h (fun H locs ls pc hd I => u_iret X I hr hlk ⟨rfl, rfl⟩ hd) _ _ ls I hl)

/-! jdk/internal/util/ArraysSupport.hashCode(I[III)I -/
def uf_J7_hashCode_4_L8 (n : Nat) (d : UD) (u : UM) (v1 : Nat) (v4 : Int32) (v0 : Int32) (v5 : Int32) : Option ((Int32 × Int32) ⊕ Int32) :=
  m_if ((v4 : Int32) ≤ (v5 : Int32)) (some (.inr v0)) (m_b (u_ldI d u v1 v5) (fun b2 => some (.inl (((31 * v0) + b2, v5 + 1)))))
def uf_J7_hashCode_4_L8l (n : Nat) (d : UD) (u : UM) (v1 : Nat) (v4 : Int32) (x : (Int32 × Int32)) : Option Int32 := m_lp (fun (x : (Int32 × Int32)) => uf_J7_hashCode_4_L8 n d u v1 v4 x.1 x.2) n x
def uf_J7_hashCode_4 (n : Nat) (d : UD) (u : UM) (p0 : Int32) (p1 : Nat) (p2 : Int32) (p3 : Int32) : Option Int32 :=
  m_b (uf_J7_hashCode_4_L8l n d u p1 (p2 + p3) ((p0, p2))) (fun z5 => some z5)
theorem uh_J7_hashCode_4 : yJ7_hashCode_4.cls = RJ7 ∧ yJ7_hashCode_4.cls ≠ "java/lang/invoke/MethodHandle" ∧ yJ7_hashCode_4.cls ≠ "java/lang/invoke/VarHandle" ∧ (parseMethodDescriptor yJ7_hashCode_4.desc).map (fun d => d.parameters.length) = some 4 := by decide +kernel
section S_J7_hashCode_4
variable {p : Program} {l : Launch} {e : Env} {R : Room} {s : State} {m : MethodId} {args : Array Value} {below : List Frame} {meth : Method} {c : Code} {Q : State → Prop} {D : va_G} {A : Nat → Prop} {d : UD} {cells slots : Nat}
theorem wuf_J7_hashCode_4_L8 (X : u_X RJ7 D A d p s m c cJ7_hashCode_4 6 args) (hA : ∀ q, s.heap.size ≤ q → A q) (hR : 0 ≤ R.frames ∧ 0 ≤ R.locals) (hf : cells ≤ R.cells ∧ slots ≤ R.slots) (n : Nat) (u : UM) (v1 : Nat) (v4 : Int32) (x : (Int32 × Int32)) (z : Int32) (hz : uf_J7_hashCode_4_L8l n d u v1 v4 x = some z) (hE : (fun (z : Int32) => ∀ (H : Heap) (locs : List Loc) (ls : Array Slot), u_I D A s.heap u H locs cells → lv_has ls 6 [(0, .int z)] → W p l e R s m args below meth c H locs cells slots Q (F0 m 31 ls [])) z) : (fun (x : (Int32 × Int32)) => ∀ (H : Heap) (locs : List Loc) (ls : Array Slot), u_I D A s.heap u H locs cells → lv_has ls 6 [(0, .int x.1), (1, .ref v1), (4, .int v4), (5, .int x.2)] → W p l e R s m args below meth c H locs cells slots Q (F0 m 8 ls [])) x := by
  refine m_lpW (G := fun (x : (Int32 × Int32)) => ∀ (H : Heap) (locs : List Loc) (ls : Array Slot), u_I D A s.heap u H locs cells → lv_has ls 6 [(0, .int x.1), (1, .ref v1), (4, .int v4), (5, .int x.2)] → W p l e R s m args below meth c H locs cells slots Q (F0 m 8 ls [])) (E := fun (z : Int32) => ∀ (H : Heap) (locs : List Loc) (ls : Array Slot), u_I D A s.heap u H locs cells → lv_has ls 6 [(0, .int z)] → W p l e R s m args below meth c H locs cells slots Q (F0 m 31 ls [])) ?_ n x z hz hE
  rintro ⟨v0, v5⟩ r h hr H locs ls I hl
  replace h : uf_J7_hashCode_4_L8 n d u v1 v4 v0 v5 = some r := h
  unfold uf_J7_hashCode_4_L8 at h
  refine lv_iload X.1 X.2.1 dJ7_hashCode_4_8 (lv_at hl 3 rfl) ?_
  refine lv_iload X.1 X.2.1 dJ7_hashCode_4_10 (lv_at hl 2 rfl) ?_
  refine lv_icmp_ge (tgt := 31) X.1 X.2.1 dJ7_hashCode_4_12 (by decide) (fun c1 => ?_) (fun c1 => ?_)
  · replace h := m_ifT c1 h
    cases h
    exact hr H locs ls I (lv_sub hl [0] rfl)
  · replace h := m_ifF c1 h
    refine lv_bipush (v := 31) X.1 X.2.1 dJ7_hashCode_4_15 (by decide) ?_
    refine lv_iload_n X.1 X.2.1 dJ7_hashCode_4_17 rfl (lv_at hl 0 rfl) ?_
    refine lv_imul X.1 X.2.1 dJ7_hashCode_4_18 ?_
    refine lv_aload_n X.1 X.2.1 dJ7_hashCode_4_19 rfl (lv_at hl 1 rfl) ?_
    refine lv_iload X.1 X.2.1 dJ7_hashCode_4_20 (lv_at hl 3 rfl) ?_
    obtain ⟨b2, e3, h⟩ := m_bS h
    refine u_LI X I e3 dJ7_hashCode_4_22 ?_
    refine lv_iadd X.1 X.2.1 dJ7_hashCode_4_23 ?_
    refine lv_istore_n (lv' := [(0, .int ((31 * v0) + b2)), (1, .ref v1), (4, .int v4), (5, .int v5)]) X.1 X.2.1 dJ7_hashCode_4_24 rfl hl (by decide) rfl (fun ls hl => ?_)
    refine lv_iinc (v := v5 + 1) (lv' := [(5, .int (v5 + 1)), (0, .int ((31 * v0) + b2)), (1, .ref v1), (4, .int v4)]) X.1 X.2.1 dJ7_hashCode_4_25 hl (k := 3) rfl rfl (by decide) rfl (fun ls hl => ?_)
    refine lv_goto (tgt := 8) X.1 X.2.1 dJ7_hashCode_4_28 (by decide) ?_
    cases h
    exact hr H locs ls I (lv_sub hl [1, 2, 3, 0] rfl)
theorem uw_J7_hashCode_4 (X : u_X RJ7 D A d p s m c cJ7_hashCode_4 6 args) (hA : ∀ q, s.heap.size ≤ q → A q) (hR : 0 ≤ R.frames ∧ 0 ≤ R.locals) (hf : cells ≤ R.cells ∧ slots ≤ R.slots) (n : Nat) (u : UM) (p0 : Int32) (p1 : Nat) (p2 : Int32) (p3 : Int32) (r : Int32) (h : uf_J7_hashCode_4 n d u p0 p1 p2 p3 = some r) (hret : ∀ (H : Heap) (locs : List Loc) (ls : Array Slot) (pc : Nat), decode cJ7_hashCode_4 pc = .ok (.ireturn, 1) → u_I D A s.heap u H locs cells → W p l e R s m args below meth c H locs cells slots Q (F0 m pc ls [.int r])) : ∀ (H : Heap) (locs : List Loc) (ls : Array Slot), u_I D A s.heap u H locs cells → lv_has ls 6 [(0, .int p0), (1, .ref p1), (2, .int p2), (3, .int p3)] → W p l e R s m args below meth c H locs cells slots Q (F0 m 0 ls []) := by
  intro H locs ls I hl
  unfold uf_J7_hashCode_4 at h
  refine lv_iload_n X.1 X.2.1 dJ7_hashCode_4_0 rfl (lv_at hl 2 rfl) ?_
  refine lv_iload_n X.1 X.2.1 dJ7_hashCode_4_1 rfl (lv_at hl 3 rfl) ?_
  refine lv_iadd X.1 X.2.1 dJ7_hashCode_4_2 ?_
  refine lv_istore (lv' := [(4, .int (p2 + p3)), (0, .int p0), (1, .ref p1), (2, .int p2), (3, .int p3)]) X.1 X.2.1 dJ7_hashCode_4_3 hl (by decide) rfl (fun ls hl => ?_)
  refine lv_iload_n X.1 X.2.1 dJ7_hashCode_4_5 rfl (lv_at hl 3 rfl) ?_
  refine lv_istore (lv' := [(5, .int p2), (4, .int (p2 + p3)), (0, .int p0), (1, .ref p1), (2, .int p2), (3, .int p3)]) X.1 X.2.1 dJ7_hashCode_4_6 hl (by decide) rfl (fun ls hl => ?_)
  obtain ⟨z5, e4, h⟩ := m_bS h
  refine wuf_J7_hashCode_4_L8 X hA hR hf n u p1 (p2 + p3) _ _ e4 (fun H locs ls I hl => ?_) H locs ls I (lv_sub hl [2, 3, 1, 0] rfl)
  refine lv_iload_n X.1 X.2.1 dJ7_hashCode_4_31 rfl (lv_at hl 0 rfl) ?_
  obtain rfl := m_e1 h
  exact hret H locs ls 32 dJ7_hashCode_4_32 I
end S_J7_hashCode_4
theorem uk_J7_hashCode_4 (l : Launch) (n : Nat) (D : va_G) (d : UD) (u : UM) (p0 : Int32) (p1 : Nat) (p2 : Int32) (p3 : Int32) (r : Int32) (h : uf_J7_hashCode_4 n d u p0 p1 p2 p3 = some r) : u_M l yJ7_hashCode_4 (ws_ yJ7_hashCode_4 cJ7_hashCode_4 6 (some .int)) 0 0 (0, 0) D d u [.int p0, .ref p1, .int p2, .int p3] (some (.int r)) u :=
  u_start (own := RJ7) (lvl := [(0, .int p0), (1, .ref p1), (2, .int p2), (3, .int p3)]) (by decide) rfl (Nat.le_of_ble_eq_true rfl) rfl (fun p e s m args below meth c ls X hr hlk hI hl hA I hC => uw_J7_hashCode_4 X hA ⟨Nat.le_refl _, Nat.le_refl _⟩ ⟨Nat.zero_le _, Nat.zero_le _⟩ n u p0 p1 p2 p3 r h (fun H locs ls pc hd I => u_iret X I hr hlk ⟨rfl, rfl⟩ hd) _ _ ls I hl)

/-! java/util/Arrays.copyOf([BI)[B -/
def uf_J9_copyOf (n : Nat) (d : UD) (u : UM) (p0 : Nat) (p1 : Int32) : Option ((Nat × UM) × UC) :=
  m_b (u_lnI d u 2 p0) (fun b1 => m_if ((p1 : Int32) = (b1 : Int32)) (m_b (u_arI d u 2 p0) (fun f12 => m_g (u_bf f12.2 0 f12.1) (u_ac (1, f12.1) (m_b (some (u_nw u (.inl (d.1 2, f12.1, .inl f12.2)))) (fun u16 => m_b (u_arI d u16 2 u.2) (fun f18 => some ((u.2, u16), (0, 0)))))))) (m_g (u_ln p1) (u_ac (1, (p1 : Int32).toNatClampNeg) (m_b (some (u_nw u (.inl (d.1 2, (p1 : Int32).toNatClampNeg, .inl (fun _ => 0))))) (fun u5 => m_b (u_lnI d u5 2 p0) (fun b8 => m_b (u_xcB d u5 p0 0 u.2 0 (if (p1 : Int32) < (b8 : Int32) then (p1 : Int32) else (b8 : Int32))) (fun w10 => some ((u.2, (w10, u5.2)), (0, 0)))))))))
theorem uh_J9_copyOf : yJ9_copyOf.cls = RJ9 ∧ yJ9_copyOf.cls ≠ "java/lang/invoke/MethodHandle" ∧ yJ9_copyOf.cls ≠ "java/lang/invoke/VarHandle" ∧ (parseMethodDescriptor yJ9_copyOf.desc).map (fun d => d.parameters.length) = some 2 := by decide +kernel
section S_J9_copyOf
variable {p : Program} {l : Launch} {e : Env} {R : Room} {s : State} {m : MethodId} {args : Array Value} {below : List Frame} {meth : Method} {c : Code} {Q : State → Prop} {D : va_G} {A : Nat → Prop} {d : UD}
theorem uw_J9_copyOf (X : u_X RJ9 D A d p s m c cJ9_copyOf 3 args) (hA : ∀ q, s.heap.size ≤ q → A q) (hR : 1 ≤ R.frames ∧ 60 ≤ R.locals) (n : Nat) (u : UM) (p0 : Nat) (p1 : Int32) (r0 : Nat) (ur : UM) (C : UC) (h : uf_J9_copyOf n d u p0 p1 = some ((r0, ur), C)) (hret : ∀ (H : Heap) (locs : List Loc) (ls : Array Slot) (pc cells slots : Nat), decode cJ9_copyOf pc = .ok (.areturn, 1) → u_left R cells slots (u_add (0, 0) (0, 0)) → u_I D A s.heap ur H locs cells → W p l e R s m args below meth c H locs cells slots Q (F0 m pc ls [.ref r0])) : ∀ (H : Heap) (locs : List Loc) (ls : Array Slot) (cells slots : Nat), u_left R cells slots (u_add C (0, 0)) → u_I D A s.heap u H locs cells → lv_has ls 3 [(0, .ref p0), (1, .int p1)] → W p l e R s m args below meth c H locs cells slots Q (F0 m 0 ls []) := by
  intro H locs ls cells slots hC I hl
  unfold uf_J9_copyOf at h
  refine lv_iload_n X.1 X.2.1 dJ9_copyOf_0 rfl (lv_at hl 1 rfl) ?_
  refine lv_aload_n X.1 X.2.1 dJ9_copyOf_1 rfl (lv_at hl 0 rfl) ?_
  obtain ⟨b1, e2, h⟩ := m_bS h
  refine u_LN X I (by decide) e2 dJ9_copyOf_2 ?_
  refine lv_icmp_ne (tgt := 14) X.1 X.2.1 dJ9_copyOf_3 (by decide) (fun c3 => ?_) (fun c3 => ?_)
  · replace h := m_ifF c3 h
    refine lv_iload_n X.1 X.2.1 dJ9_copyOf_14 rfl (lv_at hl 1 rfl) ?_
    obtain ⟨g6, h⟩ := m_gS h
    obtain ⟨C4, h, hq⟩ := u_acS h
    rw [hq] at hC
    obtain ⟨u5, e7, h⟩ := m_bS h
    refine u_NP X I hA 2 (atype := .byte) rfl q265 (x := (_, .inl (fun _ => 0))) (fun _ => rfl) (by decide) g6 e7 hC dJ9_copyOf_15 (fun H cells slots hC I => ?_)
    refine lv_astore_n (lv' := [(2, .ref u.2), (0, .ref p0), (1, .int p1)]) X.1 X.2.1 dJ9_copyOf_17 rfl hl (by decide) rfl (fun ls hl => ?_)
    refine lv_aload_n X.1 X.2.1 dJ9_copyOf_18 rfl (lv_at hl 1 rfl) ?_
    refine lv_iconst (v := 0) X.1 X.2.1 dJ9_copyOf_19 (by decide) ?_
    refine lv_aload_n X.1 X.2.1 dJ9_copyOf_20 rfl (lv_at hl 0 rfl) ?_
    refine lv_iconst (v := 0) X.1 X.2.1 dJ9_copyOf_21 (by decide) ?_
    refine lv_aload_n X.1 X.2.1 dJ9_copyOf_22 rfl (lv_at hl 1 rfl) ?_
    obtain ⟨b8, e9, h⟩ := m_bS h
    refine u_LN X I (by decide) e9 dJ9_copyOf_23 ?_
    refine lv_iload_n X.1 X.2.1 dJ9_copyOf_24 rfl (lv_at hl 2 rfl) ?_
    refine va_mmin X.1 X.2.1 (X.2.2.2.2.2.1.trans hl.1.symm) X.2.2.2.1 (X.2.2.1 _ q400) (X.2.2.1 _ q401) (X.2.2.1 _ q114) (X.2.2.1 _ q402) (Nat.le_trans (Nat.le_of_ble_eq_true rfl) hR.1) (Nat.le_trans (Nat.le_of_ble_eq_true rfl) hR.2) (u_leftLe hC).1 (u_leftLe hC).2 dJ9_copyOf_25 ?_
    obtain ⟨w10, e11, h⟩ := m_bS h
    refine u_CB X hl.1 I q403 q405 q404 q116 e11 (Nat.le_trans (Nat.le_of_ble_eq_true rfl) hR.1) (Nat.le_trans (Nat.le_of_ble_eq_true rfl) hR.2) (Nat.le_of_ble_eq_true rfl) dJ9_copyOf_28 (fun H locs I => ?_)
    refine lv_aload_n X.1 X.2.1 dJ9_copyOf_31 rfl (lv_at hl 0 rfl) ?_
    obtain ⟨he, rfl⟩ := m_e3 h
    obtain ⟨rfl, rfl⟩ := m_e4 he
    exact hret H locs ls 32 _ _ dJ9_copyOf_32 hC I
  · replace h := m_ifT c3 h
    refine lv_aload_n X.1 X.2.1 dJ9_copyOf_6 rfl (lv_at hl 0 rfl) ?_
    obtain ⟨f12, e13, h⟩ := m_bS h
    obtain ⟨g14, h⟩ := m_gS h
    obtain ⟨C15, h, hq⟩ := u_acS h
    rw [hq] at hC
    obtain ⟨u16, e17, h⟩ := m_bS h
    refine u_CL X hl.1 I hA e13 g14 q393 q394 q395 q396 q397 e17 hC (Nat.le_trans (Nat.le_of_ble_eq_true rfl) hR.1) (Nat.le_trans (Nat.le_of_ble_eq_true rfl) hR.2) (Nat.le_of_ble_eq_true rfl) dJ9_copyOf_7 (fun H cells slots hC I => ?_)
    obtain ⟨f18, e19, h⟩ := m_bS h
    refine u_KB X I e19 q399 dJ9_copyOf_10 ?_
    obtain ⟨he, rfl⟩ := m_e3 h
    obtain ⟨rfl, rfl⟩ := m_e4 he
    exact hret H locs ls 13 _ _ dJ9_copyOf_13 hC I
end S_J9_copyOf
theorem uk_J9_copyOf (l : Launch) (n : Nat) (D : va_G) (d : UD) (u : UM) (p0 : Nat) (p1 : Int32) (r0 : Nat) (ur : UM) (C : UC) (h : uf_J9_copyOf n d u p0 p1 = some ((r0, ur), C)) : u_M l yJ9_copyOf (ws_ yJ9_copyOf cJ9_copyOf 3 (some (.array .byte))) 1 60 C D d u [.ref p0, .int p1] (some (.ref r0)) ur :=
  u_start (own := RJ9) (lvl := [(0, .ref p0), (1, .int p1)]) (by decide) rfl (Nat.le_of_ble_eq_true rfl) rfl (fun p e s m args below meth c ls X hr hlk hI hl hA I hC => uw_J9_copyOf X hA ⟨Nat.le_refl _, Nat.le_refl _⟩ n u p0 p1 r0 ur C h (fun H locs ls pc cells slots hd hC I => u_aret (r := some r0) X I hr (Or.inr ⟨_, rfl⟩) hlk (u_leftE hC) hd) _ _ ls _ _ hC I hl)

/-! java/util/Arrays.checkLength(II)V -/
def uf_J9_checkLength (n : Nat) (d : UD) (u : UM) (p0 : Int32) (p1 : Int32) : Option ((Unit × UM) × UC) :=
  m_if ((p0 : Int32) ≤ (p1 : Int32)) (some (((), u), (0, 0))) (none)
theorem uh_J9_checkLength : yJ9_checkLength.cls = RJ9 ∧ yJ9_checkLength.cls ≠ "java/lang/invoke/MethodHandle" ∧ yJ9_checkLength.cls ≠ "java/lang/invoke/VarHandle" ∧ (parseMethodDescriptor yJ9_checkLength.desc).map (fun d => d.parameters.length) = some 2 := by decide +kernel
section S_J9_checkLength
variable {p : Program} {l : Launch} {e : Env} {R : Room} {s : State} {m : MethodId} {args : Array Value} {below : List Frame} {meth : Method} {c : Code} {Q : State → Prop} {D : va_G} {A : Nat → Prop} {d : UD}
theorem uw_J9_checkLength (X : u_X RJ9 D A d p s m c cJ9_checkLength 2 args) (hA : ∀ q, s.heap.size ≤ q → A q) (hR : 0 ≤ R.frames ∧ 0 ≤ R.locals) (n : Nat) (u : UM) (p0 : Int32) (p1 : Int32) (r0 : Unit) (ur : UM) (C : UC) (h : uf_J9_checkLength n d u p0 p1 = some ((r0, ur), C)) (hret : ∀ (H : Heap) (locs : List Loc) (ls : Array Slot) (pc cells slots : Nat), decode cJ9_checkLength pc = .ok (.return_, 1) → u_left R cells slots (u_add (0, 0) (0, 0)) → u_I D A s.heap ur H locs cells → W p l e R s m args below meth c H locs cells slots Q (F0 m pc ls [])) : ∀ (H : Heap) (locs : List Loc) (ls : Array Slot) (cells slots : Nat), u_left R cells slots (u_add C (0, 0)) → u_I D A s.heap u H locs cells → lv_has ls 2 [(0, .int p0), (1, .int p1)] → W p l e R s m args below meth c H locs cells slots Q (F0 m 0 ls []) := by
  intro H locs ls cells slots hC I hl
  unfold uf_J9_checkLength at h
  refine lv_iload_n X.1 X.2.1 dJ9_checkLength_0 rfl (lv_at hl 1 rfl) ?_
  refine lv_iload_n X.1 X.2.1 dJ9_checkLength_1 rfl (lv_at hl 0 rfl) ?_
  refine lv_icmp_ge (tgt := 37) X.1 X.2.1 dJ9_checkLength_2 (by decide) (fun c1 => ?_) (fun c1 => ?_)
  · replace h := m_ifT c1 h
    obtain ⟨he, rfl⟩ := m_e3 h
    obtain ⟨rfl, rfl⟩ := m_e4 he
    exact hret H locs ls 37 _ _ dJ9_checkLength_37 hC I
  · replace h := m_ifF c1 h
    cases h
end S_J9_checkLength
theorem uk_J9_checkLength (l : Launch) (n : Nat) (D : va_G) (d : UD) (u : UM) (p0 : Int32) (p1 : Int32) (ur : UM) (C : UC) (h : uf_J9_checkLength n d u p0 p1 = some (((), ur), C)) : u_M l yJ9_checkLength (ws_ yJ9_checkLength cJ9_checkLength 2 none) 0 0 C D d u [.int p0, .int p1] none ur :=
  u_start (own := RJ9) (lvl := [(0, .int p0), (1, .int p1)]) (by decide) rfl (Nat.le_of_ble_eq_true rfl) rfl (fun p e s m args below meth c ls X hr hlk hI hl hA I hC => uw_J9_checkLength X hA ⟨Nat.le_refl _, Nat.le_refl _⟩ n u p0 p1 () ur C h (fun H locs ls pc cells slots hd hC I => u_vret X I hr hlk (u_leftE hC) hd) _ _ ls _ _ hC I hl)

/-! java/util/Arrays.copyOf([Ljava/lang/Object;ILjava/lang/Class;)[Ljava/lang/Object; -/
def uf_J9_copyOf_3_J24 (n : Nat) (d : UD) (u : UM) (v0 : Nat) (v1 : Int32) (t0 : Nat) : Option ((Nat × UM) × UC) :=
  m_b (u_lnI d u 4 v0) (fun b6 => m_b (u_xcQ d u v0 0 t0 0 (if (v1 : Int32) < (b6 : Int32) then (v1 : Int32) else (b6 : Int32))) (fun w8 => some ((t0, (w8, u.2)), (0, 0))))
def uf_J9_copyOf_3 (n : Nat) (d : UD) (u : UM) (p0 : Nat) (p1 : Int32) (p2 : Nat) : Option ((Nat × UM) × UC) :=
  m_if ((some p2 : Option Nat) = some (d.2 54)) (m_g (u_ln p1) (u_ac (1, (p1 : Int32).toNatClampNeg) (m_b (some (u_nw u (.inl (d.1 4, (p1 : Int32).toNatClampNeg, .inr (.inr (.inr (.inr (fun _ => none)))))))) (fun u3 => uf_J9_copyOf_3_J24 n d u3 p0 p1 u.2)))) (none)
theorem uh_J9_copyOf_3 : yJ9_copyOf_3.cls = RJ9 ∧ yJ9_copyOf_3.cls ≠ "java/lang/invoke/MethodHandle" ∧ yJ9_copyOf_3.cls ≠ "java/lang/invoke/VarHandle" ∧ (parseMethodDescriptor yJ9_copyOf_3.desc).map (fun d => d.parameters.length) = some 3 := by decide +kernel
section S_J9_copyOf_3
variable {p : Program} {l : Launch} {e : Env} {R : Room} {s : State} {m : MethodId} {args : Array Value} {below : List Frame} {meth : Method} {c : Code} {Q : State → Prop} {D : va_G} {A : Nat → Prop} {d : UD}
theorem uw_J9_copyOf_3 (X : u_X RJ9 D A d p s m c cJ9_copyOf_3 4 args) (hA : ∀ q, s.heap.size ≤ q → A q) (hR : 1 ≤ R.frames ∧ 60 ≤ R.locals) (n : Nat) (u : UM) (p0 : Nat) (p1 : Int32) (p2 : Nat) (r0 : Nat) (ur : UM) (C : UC) (h : uf_J9_copyOf_3 n d u p0 p1 p2 = some ((r0, ur), C)) (hret : ∀ (H : Heap) (locs : List Loc) (ls : Array Slot) (pc cells slots : Nat), decode cJ9_copyOf_3 pc = .ok (.areturn, 1) → u_left R cells slots (u_add (0, 0) (0, 0)) → u_I D A s.heap ur H locs cells → W p l e R s m args below meth c H locs cells slots Q (F0 m pc ls [.ref r0])) : ∀ (H : Heap) (locs : List Loc) (ls : Array Slot) (cells slots : Nat), u_left R cells slots (u_add C (0, 0)) → u_I D A s.heap u H locs cells → lv_has ls 4 [(0, .ref p0), (1, .int p1), (2, .ref p2)] → W p l e R s m args below meth c H locs cells slots Q (F0 m 0 ls []) := by
  have k24 : ∀ (u : UM) (v0 : Nat) (v1 : Int32) (t0 : Nat) (H : Heap) (locs : List Loc) (ls : Array Slot) (cells slots : Nat) (C : UC), uf_J9_copyOf_3_J24 n d u v0 v1 t0 = some ((r0, ur), C) → u_left R cells slots (u_add C (0, 0)) → u_I D A s.heap u H locs cells → lv_has ls 4 [(0, .ref v0), (1, .int v1)] → W p l e R s m args below meth c H locs cells slots Q (F0 m 24 ls [.ref t0]) := by
    intro u v0 v1 t0 H locs ls cells slots C h hC I hl
    unfold uf_J9_copyOf_3_J24 at h
    refine lv_astore_n (lv' := [(3, .ref t0), (0, .ref v0), (1, .int v1)]) X.1 X.2.1 dJ9_copyOf_3_24 rfl hl (by decide) rfl (fun ls hl => ?_)
    refine lv_aload_n X.1 X.2.1 dJ9_copyOf_3_25 rfl (lv_at hl 1 rfl) ?_
    refine lv_iconst (v := 0) X.1 X.2.1 dJ9_copyOf_3_26 (by decide) ?_
    refine lv_aload_n X.1 X.2.1 dJ9_copyOf_3_27 rfl (lv_at hl 0 rfl) ?_
    refine lv_iconst (v := 0) X.1 X.2.1 dJ9_copyOf_3_28 (by decide) ?_
    refine lv_aload_n X.1 X.2.1 dJ9_copyOf_3_29 rfl (lv_at hl 1 rfl) ?_
    obtain ⟨b6, e7, h⟩ := m_bS h
    refine u_LN X I (by decide) e7 dJ9_copyOf_3_30 ?_
    refine lv_iload_n X.1 X.2.1 dJ9_copyOf_3_31 rfl (lv_at hl 2 rfl) ?_
    refine va_mmin X.1 X.2.1 (X.2.2.2.2.2.1.trans hl.1.symm) X.2.2.2.1 (X.2.2.1 _ q400) (X.2.2.1 _ q401) (X.2.2.1 _ q114) (X.2.2.1 _ q402) (Nat.le_trans (Nat.le_of_ble_eq_true rfl) hR.1) (Nat.le_trans (Nat.le_of_ble_eq_true rfl) hR.2) (u_leftLe hC).1 (u_leftLe hC).2 dJ9_copyOf_3_32 ?_
    obtain ⟨w8, e9, h⟩ := m_bS h
    refine u_CQ X hl.1 I q403 q405 q404 q116 e9 (Nat.le_trans (Nat.le_of_ble_eq_true rfl) hR.1) (Nat.le_trans (Nat.le_of_ble_eq_true rfl) hR.2) (Nat.le_of_ble_eq_true rfl) dJ9_copyOf_3_35 (fun H locs I => ?_)
    refine lv_aload_n X.1 X.2.1 dJ9_copyOf_3_38 rfl (lv_at hl 0 rfl) ?_
    obtain ⟨he, rfl⟩ := m_e3 h
    obtain ⟨rfl, rfl⟩ := m_e4 he
    exact hret H locs ls 39 _ _ dJ9_copyOf_3_39 hC I
  intro H locs ls cells slots hC I hl
  unfold uf_J9_copyOf_3 at h
  refine lv_aload_n X.1 X.2.1 dJ9_copyOf_3_0 rfl (lv_at hl 2 rfl) ?_
  refine u_LM X q762 dJ9_copyOf_3_1 ?_
  refine lv_acmp_ne (rx := some p2) (ry := some (d.2 54)) (tgt := 13) X.1 X.2.1 dJ9_copyOf_3_3 (by decide) (fun c1 => ?_) (fun c1 => ?_)
  · replace h := m_ifF c1 h
    refine lv_aload_n X.1 X.2.1 dJ9_copyOf_3_13 rfl (lv_at hl 2 rfl) ?_
    cases h
  · replace h := m_ifT c1 h
    refine lv_iload_n X.1 X.2.1 dJ9_copyOf_3_6 rfl (lv_at hl 1 rfl) ?_
    obtain ⟨g4, h⟩ := m_gS h
    obtain ⟨C2, h, hq⟩ := u_acS h
    rw [hq] at hC
    obtain ⟨u3, e5, h⟩ := m_bS h
    refine u_NQ X I hA q764 g4 e5 hC dJ9_copyOf_3_7 (fun H cells slots hC I => ?_)
    refine lv_goto (tgt := 24) X.1 X.2.1 dJ9_copyOf_3_10 (by decide) ?_
    exact k24 u3 p0 p1 u.2 H locs ls _ _ _ h hC I (lv_sub hl [0, 1] rfl)
end S_J9_copyOf_3
theorem uk_J9_copyOf_3 (l : Launch) (n : Nat) (D : va_G) (d : UD) (u : UM) (p0 : Nat) (p1 : Int32) (p2 : Nat) (r0 : Nat) (ur : UM) (C : UC) (h : uf_J9_copyOf_3 n d u p0 p1 p2 = some ((r0, ur), C)) : u_M l yJ9_copyOf_3 (ws_ yJ9_copyOf_3 cJ9_copyOf_3 4 (some (.array (.object "java/lang/Object")))) 1 60 C D d u [.ref p0, .int p1, .ref p2] (some (.ref r0)) ur :=
  u_start (own := RJ9) (lvl := [(0, .ref p0), (1, .int p1), (2, .ref p2)]) (by decide) rfl (Nat.le_of_ble_eq_true rfl) rfl (fun p e s m args below meth c ls X hr hlk hI hl hA I hC => uw_J9_copyOf_3 X hA ⟨Nat.le_refl _, Nat.le_refl _⟩ n u p0 p1 p2 r0 ur C h (fun H locs ls pc cells slots hd hC I => u_aret (r := some r0) X I hr (Or.inr ⟨_, rfl⟩) hlk (u_leftE hC) hd) _ _ ls _ _ hC I hl)

/-! java/lang/StringLatin1.canEncode(C)Z -/
def uf_J10_canEncode_J12 (n : Nat) (d : UD) (u : UM) (t0 : Int32) : Option Int32 :=
  m_g (m_01 t0) (some t0)
def uf_J10_canEncode (n : Nat) (d : UD) (u : UM) (p0 : Int32) : Option Int32 :=
  m_if ((255 : Int32) < (p0 : Int32)) (uf_J10_canEncode_J12 n d u 0) (uf_J10_canEncode_J12 n d u 1)
theorem uh_J10_canEncode : yJ10_canEncode.cls = RJ10 ∧ yJ10_canEncode.cls ≠ "java/lang/invoke/MethodHandle" ∧ yJ10_canEncode.cls ≠ "java/lang/invoke/VarHandle" ∧ (parseMethodDescriptor yJ10_canEncode.desc).map (fun d => d.parameters.length) = some 1 := by decide +kernel
section S_J10_canEncode
variable {p : Program} {l : Launch} {e : Env} {R : Room} {s : State} {m : MethodId} {args : Array Value} {below : List Frame} {meth : Method} {c : Code} {Q : State → Prop} {D : va_G} {A : Nat → Prop} {d : UD} {cells slots : Nat}
theorem uw_J10_canEncode (X : u_X RJ10 D A d p s m c cJ10_canEncode 1 args) (hA : ∀ q, s.heap.size ≤ q → A q) (hR : 0 ≤ R.frames ∧ 0 ≤ R.locals) (hf : cells ≤ R.cells ∧ slots ≤ R.slots) (n : Nat) (u : UM) (p0 : Int32) (r : Int32) (h : uf_J10_canEncode n d u p0 = some r) (hret : ∀ (H : Heap) (locs : List Loc) (ls : Array Slot) (pc : Nat), m_01 r = true → decode cJ10_canEncode pc = .ok (.ireturn, 1) → u_I D A s.heap u H locs cells → W p l e R s m args below meth c H locs cells slots Q (F0 m pc ls [.int r])) : ∀ (H : Heap) (locs : List Loc) (ls : Array Slot), u_I D A s.heap u H locs cells → lv_has ls 1 [(0, .int p0)] → W p l e R s m args below meth c H locs cells slots Q (F0 m 0 ls []) := by
  have k12 : ∀ (t0 : Int32) (H : Heap) (locs : List Loc) (ls : Array Slot), uf_J10_canEncode_J12 n d u t0 = some r → u_I D A s.heap u H locs cells → lv_has ls 1 [] → W p l e R s m args below meth c H locs cells slots Q (F0 m 12 ls [.int t0]) := by
    intro t0 H locs ls h I hl
    unfold uf_J10_canEncode_J12 at h
    obtain ⟨g2, h⟩ := m_gS h
    obtain rfl := m_e1 h
    exact hret H locs ls 12 g2 dJ10_canEncode_12 I
  intro H locs ls I hl
  unfold uf_J10_canEncode at h
  refine lv_iload_n X.1 X.2.1 dJ10_canEncode_0 rfl (lv_at hl 0 rfl) ?_
  refine lv_sipush (v := 255) X.1 X.2.1 dJ10_canEncode_1 (by decide) ?_
  refine lv_icmp_gt (tgt := 11) X.1 X.2.1 dJ10_canEncode_4 (by decide) (fun c1 => ?_) (fun c1 => ?_)
  · replace h := m_ifT c1 h
    refine lv_iconst (v := 0) X.1 X.2.1 dJ10_canEncode_11 (by decide) ?_
    exact k12 0 H locs ls h I (lv_sub hl [] rfl)
  · replace h := m_ifF c1 h
    refine lv_iconst (v := 1) X.1 X.2.1 dJ10_canEncode_7 (by decide) ?_
    refine lv_goto (tgt := 12) X.1 X.2.1 dJ10_canEncode_8 (by decide) ?_
    exact k12 1 H locs ls h I (lv_sub hl [] rfl)
end S_J10_canEncode
theorem uk_J10_canEncode (l : Launch) (n : Nat) (D : va_G) (d : UD) (u : UM) (p0 : Int32) (r : Int32) (h : uf_J10_canEncode n d u p0 = some r) : u_M l yJ10_canEncode (ws_ yJ10_canEncode cJ10_canEncode 1 (some .boolean)) 0 0 (0, 0) D d u [.int p0] (some (.int r)) u :=
  u_start (own := RJ10) (lvl := [(0, .int p0)]) (by decide) rfl (Nat.le_of_ble_eq_true rfl) rfl (fun p e s m args below meth c ls X hr hlk hI hl hA I hC => uw_J10_canEncode X hA ⟨Nat.le_refl _, Nat.le_refl _⟩ ⟨Nat.zero_le _, Nat.zero_le _⟩ n u p0 r h (fun H locs ls pc g hd I => u_zret X I hr hlk g ⟨rfl, rfl⟩ hd) _ _ ls I hl)

/-! java/lang/StringLatin1.equals([B[B)Z -/
def uf_J10_equals_L9 (n : Nat) (d : UD) (u : UM) (v0 : Nat) (v1 : Nat) (v2 : Int32) : Option (Int32 ⊕ (Unit ⊕ Unit)) :=
  m_b (u_lnI d u 2 v0) (fun b7 => m_if ((b7 : Int32) ≤ (v2 : Int32)) (some (.inr ((.inr (()))))) (m_b (u_ai d u 2 v0 v2) (fun b10 => m_b (u_ai d u 2 v1 v2) (fun b12 => m_if ((b10 : Int32) = (b12 : Int32)) (some (.inl (v2 + 1))) (some (.inr ((.inl (())))))))))
def uf_J10_equals_L9l (n : Nat) (d : UD) (u : UM) (v0 : Nat) (v1 : Nat) (x : Int32) : Option (Unit ⊕ Unit) := m_lp (fun (x : Int32) => uf_J10_equals_L9 n d u v0 v1 x) n x
def uf_J10_equals (n : Nat) (d : UD) (u : UM) (p0 : Nat) (p1 : Nat) : Option Int32 :=
  m_b (u_lnI d u 2 p0) (fun b1 => m_b (u_lnI d u 2 p1) (fun b3 => m_if ((b1 : Int32) = (b3 : Int32)) (m_b (uf_J10_equals_L9l n d u p0 p1 0) (fun y18 => m_s y18 (fun _ => m_g (m_01 0) (some 0)) (fun _ => m_g (m_01 1) (some 1)))) (m_g (m_01 0) (some 0))))
theorem uh_J10_equals : yJ10_equals.cls = RJ10 ∧ yJ10_equals.cls ≠ "java/lang/invoke/MethodHandle" ∧ yJ10_equals.cls ≠ "java/lang/invoke/VarHandle" ∧ (parseMethodDescriptor yJ10_equals.desc).map (fun d => d.parameters.length) = some 2 := by decide +kernel
section S_J10_equals
variable {p : Program} {l : Launch} {e : Env} {R : Room} {s : State} {m : MethodId} {args : Array Value} {below : List Frame} {meth : Method} {c : Code} {Q : State → Prop} {D : va_G} {A : Nat → Prop} {d : UD} {cells slots : Nat}
theorem wuf_J10_equals_L9 (X : u_X RJ10 D A d p s m c cJ10_equals 3 args) (hA : ∀ q, s.heap.size ≤ q → A q) (hR : 0 ≤ R.frames ∧ 0 ≤ R.locals) (hf : cells ≤ R.cells ∧ slots ≤ R.slots) (n : Nat) (u : UM) (v0 : Nat) (v1 : Nat) (x : Int32) (z : (Unit ⊕ Unit)) (hz : uf_J10_equals_L9l n d u v0 v1 x = some z) (hE : (m_e (fun (z : Unit) => ∀ (H : Heap) (locs : List Loc) (ls : Array Slot), u_I D A s.heap u H locs cells → lv_has ls 3 [] → W p l e R s m args below meth c H locs cells slots Q (F0 m 24 ls [])) (fun (z : Unit) => ∀ (H : Heap) (locs : List Loc) (ls : Array Slot), u_I D A s.heap u H locs cells → lv_has ls 3 [] → W p l e R s m args below meth c H locs cells slots Q (F0 m 32 ls []))) z) : (fun (x : Int32) => ∀ (H : Heap) (locs : List Loc) (ls : Array Slot), u_I D A s.heap u H locs cells → lv_has ls 3 [(0, .ref v0), (1, .ref v1), (2, .int x)] → W p l e R s m args below meth c H locs cells slots Q (F0 m 9 ls [])) x := by
  refine m_lpW (G := fun (x : Int32) => ∀ (H : Heap) (locs : List Loc) (ls : Array Slot), u_I D A s.heap u H locs cells → lv_has ls 3 [(0, .ref v0), (1, .ref v1), (2, .int x)] → W p l e R s m args below meth c H locs cells slots Q (F0 m 9 ls [])) (E := m_e (fun (z : Unit) => ∀ (H : Heap) (locs : List Loc) (ls : Array Slot), u_I D A s.heap u H locs cells → lv_has ls 3 [] → W p l e R s m args below meth c H locs cells slots Q (F0 m 24 ls [])) (fun (z : Unit) => ∀ (H : Heap) (locs : List Loc) (ls : Array Slot), u_I D A s.heap u H locs cells → lv_has ls 3 [] → W p l e R s m args below meth c H locs cells slots Q (F0 m 32 ls []))) ?_ n x z hz hE
  rintro v2 r h hr H locs ls I hl
  replace h : uf_J10_equals_L9 n d u v0 v1 v2 = some r := h
  unfold uf_J10_equals_L9 at h
  refine lv_iload_n X.1 X.2.1 dJ10_equals_9 rfl (lv_at hl 2 rfl) ?_
  refine lv_aload_n X.1 X.2.1 dJ10_equals_10 rfl (lv_at hl 0 rfl) ?_
  obtain ⟨b7, e8, h⟩ := m_bS h
  refine u_LN X I (by decide) e8 dJ10_equals_11 ?_
  refine lv_icmp_ge (tgt := 32) X.1 X.2.1 dJ10_equals_12 (by decide) (fun c9 => ?_) (fun c9 => ?_)
  · replace h := m_ifT c9 h
    cases h
    exact hr H locs ls I (lv_sub hl [] rfl)
  · replace h := m_ifF c9 h
    refine lv_aload_n X.1 X.2.1 dJ10_equals_15 rfl (lv_at hl 0 rfl) ?_
    refine lv_iload_n X.1 X.2.1 dJ10_equals_16 rfl (lv_at hl 2 rfl) ?_
    obtain ⟨b10, e11, h⟩ := m_bS h
    refine u_LB X I e11 dJ10_equals_17 ?_
    refine lv_aload_n X.1 X.2.1 dJ10_equals_18 rfl (lv_at hl 1 rfl) ?_
    refine lv_iload_n X.1 X.2.1 dJ10_equals_19 rfl (lv_at hl 2 rfl) ?_
    obtain ⟨b12, e13, h⟩ := m_bS h
    refine u_LB X I e13 dJ10_equals_20 ?_
    refine lv_icmp_eq (tgt := 26) X.1 X.2.1 dJ10_equals_21 (by decide) (fun c14 => ?_) (fun c14 => ?_)
    · replace h := m_ifT c14 h
      refine lv_iinc (v := v2 + 1) (lv' := [(2, .int (v2 + 1)), (0, .ref v0), (1, .ref v1)]) X.1 X.2.1 dJ10_equals_26 hl (k := 2) rfl rfl (by decide) rfl (fun ls hl => ?_)
      refine lv_goto (tgt := 9) X.1 X.2.1 dJ10_equals_29 (by decide) ?_
      cases h
      exact hr H locs ls I (lv_sub hl [1, 2, 0] rfl)
    · replace h := m_ifF c14 h
      cases h
      exact hr H locs ls I (lv_sub hl [] rfl)
theorem uw_J10_equals (X : u_X RJ10 D A d p s m c cJ10_equals 3 args) (hA : ∀ q, s.heap.size ≤ q → A q) (hR : 0 ≤ R.frames ∧ 0 ≤ R.locals) (hf : cells ≤ R.cells ∧ slots ≤ R.slots) (n : Nat) (u : UM) (p0 : Nat) (p1 : Nat) (r : Int32) (h : uf_J10_equals n d u p0 p1 = some r) (hret : ∀ (H : Heap) (locs : List Loc) (ls : Array Slot) (pc : Nat), m_01 r = true → decode cJ10_equals pc = .ok (.ireturn, 1) → u_I D A s.heap u H locs cells → W p l e R s m args below meth c H locs cells slots Q (F0 m pc ls [.int r])) : ∀ (H : Heap) (locs : List Loc) (ls : Array Slot), u_I D A s.heap u H locs cells → lv_has ls 3 [(0, .ref p0), (1, .ref p1)] → W p l e R s m args below meth c H locs cells slots Q (F0 m 0 ls []) := by
  intro H locs ls I hl
  unfold uf_J10_equals at h
  refine lv_aload_n X.1 X.2.1 dJ10_equals_0 rfl (lv_at hl 0 rfl) ?_
  obtain ⟨b1, e2, h⟩ := m_bS h
  refine u_LN X I (by decide) e2 dJ10_equals_1 ?_
  refine lv_aload_n X.1 X.2.1 dJ10_equals_2 rfl (lv_at hl 1 rfl) ?_
  obtain ⟨b3, e4, h⟩ := m_bS h
  refine u_LN X I (by decide) e4 dJ10_equals_3 ?_
  refine lv_icmp_ne (tgt := 34) X.1 X.2.1 dJ10_equals_4 (by decide) (fun c5 => ?_) (fun c5 => ?_)
  · replace h := m_ifF c5 h
    refine lv_iconst (v := 0) X.1 X.2.1 dJ10_equals_34 (by decide) ?_
    obtain ⟨g6, h⟩ := m_gS h
    obtain rfl := m_e1 h
    exact hret H locs ls 35 g6 dJ10_equals_35 I
  · replace h := m_ifT c5 h
    refine lv_iconst (v := 0) X.1 X.2.1 dJ10_equals_7 (by decide) ?_
    refine lv_istore_n (lv' := [(2, .int 0), (0, .ref p0), (1, .ref p1)]) X.1 X.2.1 dJ10_equals_8 rfl hl (by decide) rfl (fun ls hl => ?_)
    obtain ⟨_ | _, e15, h⟩ := m_bS h
    · replace h := m_sL h
      refine wuf_J10_equals_L9 X hA hR hf n u p0 p1 _ _ e15 (fun H locs ls I hl => ?_) H locs ls I (lv_sub hl [1, 2, 0] rfl)
      refine lv_iconst (v := 0) X.1 X.2.1 dJ10_equals_24 (by decide) ?_
      obtain ⟨g16, h⟩ := m_gS h
      obtain rfl := m_e1 h
      exact hret H locs ls 25 g16 dJ10_equals_25 I
    · replace h := m_sR h
      refine wuf_J10_equals_L9 X hA hR hf n u p0 p1 _ _ e15 (fun H locs ls I hl => ?_) H locs ls I (lv_sub hl [1, 2, 0] rfl)
      refine lv_iconst (v := 1) X.1 X.2.1 dJ10_equals_32 (by decide) ?_
      obtain ⟨g17, h⟩ := m_gS h
      obtain rfl := m_e1 h
      exact hret H locs ls 33 g17 dJ10_equals_33 I
end S_J10_equals
theorem uk_J10_equals (l : Launch) (n : Nat) (D : va_G) (d : UD) (u : UM) (p0 : Nat) (p1 : Nat) (r : Int32) (h : uf_J10_equals n d u p0 p1 = some r) : u_M l yJ10_equals (ws_ yJ10_equals cJ10_equals 3 (some .boolean)) 0 0 (0, 0) D d u [.ref p0, .ref p1] (some (.int r)) u :=
  u_start (own := RJ10) (lvl := [(0, .ref p0), (1, .ref p1)]) (by decide) rfl (Nat.le_of_ble_eq_true rfl) rfl (fun p e s m args below meth c ls X hr hlk hI hl hA I hC => uw_J10_equals X hA ⟨Nat.le_refl _, Nat.le_refl _⟩ ⟨Nat.zero_le _, Nat.zero_le _⟩ n u p0 p1 r h (fun H locs ls pc g hd I => u_zret X I hr hlk g ⟨rfl, rfl⟩ hd) _ _ ls I hl)

/-! jdk/internal/util/Preconditions.checkIndex(IILjava/util/function/BiFunction;)I -/
def uf_J11_checkIndex_J9 (n : Nat) (d : UD) (u : UM) (v0 : Int32) (v1 : Int32) (v2 : (Option Nat)) : Option Int32 :=
  none
def uf_J11_checkIndex (n : Nat) (d : UD) (u : UM) (p0 : Int32) (p1 : Int32) (p2 : (Option Nat)) : Option Int32 :=
  m_if ((p0 : Int32) < 0) (uf_J11_checkIndex_J9 n d u p0 p1 p2) (m_if ((p0 : Int32) < (p1 : Int32)) (some p0) (uf_J11_checkIndex_J9 n d u p0 p1 p2))
theorem uh_J11_checkIndex : yJ11_checkIndex.cls = RJ11 ∧ yJ11_checkIndex.cls ≠ "java/lang/invoke/MethodHandle" ∧ yJ11_checkIndex.cls ≠ "java/lang/invoke/VarHandle" ∧ (parseMethodDescriptor yJ11_checkIndex.desc).map (fun d => d.parameters.length) = some 3 := by decide +kernel
section S_J11_checkIndex
variable {p : Program} {l : Launch} {e : Env} {R : Room} {s : State} {m : MethodId} {args : Array Value} {below : List Frame} {meth : Method} {c : Code} {Q : State → Prop} {D : va_G} {A : Nat → Prop} {d : UD} {cells slots : Nat}
theorem uw_J11_checkIndex (X : u_X RJ11 D A d p s m c cJ11_checkIndex 3 args) (hA : ∀ q, s.heap.size ≤ q → A q) (hR : 0 ≤ R.frames ∧ 0 ≤ R.locals) (hf : cells ≤ R.cells ∧ slots ≤ R.slots) (n : Nat) (u : UM) (p0 : Int32) (p1 : Int32) (p2 : (Option Nat)) (r : Int32) (h : uf_J11_checkIndex n d u p0 p1 p2 = some r) (hret : ∀ (H : Heap) (locs : List Loc) (ls : Array Slot) (pc : Nat), decode cJ11_checkIndex pc = .ok (.ireturn, 1) → u_I D A s.heap u H locs cells → W p l e R s m args below meth c H locs cells slots Q (F0 m pc ls [.int r])) : ∀ (H : Heap) (locs : List Loc) (ls : Array Slot), u_I D A s.heap u H locs cells → lv_has ls 3 [(0, .int p0), (1, .int p1), (2, va_rf p2)] → W p l e R s m args below meth c H locs cells slots Q (F0 m 0 ls []) := by
  have k9 : ∀ (v0 : Int32) (v1 : Int32) (v2 : (Option Nat)) (H : Heap) (locs : List Loc) (ls : Array Slot), uf_J11_checkIndex_J9 n d u v0 v1 v2 = some r → u_I D A s.heap u H locs cells → lv_has ls 3 [(0, .int v0), (1, .int v1), (2, va_rf v2)] → W p l e R s m args below meth c H locs cells slots Q (F0 m 9 ls []) := by
    intro v0 v1 v2 H locs ls h I hl
    unfold uf_J11_checkIndex_J9 at h
    refine u_aldn X.1 X.2.1 dJ11_checkIndex_9 rfl (lv_at hl 2 rfl) ?_
    refine lv_iload_n X.1 X.2.1 dJ11_checkIndex_10 rfl (lv_at hl 0 rfl) ?_
    refine lv_iload_n X.1 X.2.1 dJ11_checkIndex_11 rfl (lv_at hl 1 rfl) ?_
    cases h
  intro H locs ls I hl
  unfold uf_J11_checkIndex at h
  refine lv_iload_n X.1 X.2.1 dJ11_checkIndex_0 rfl (lv_at hl 0 rfl) ?_
  refine lv_if_lt (tgt := 9) X.1 X.2.1 dJ11_checkIndex_1 (by decide) (fun c1 => ?_) (fun c1 => ?_)
  · replace h := m_ifT c1 h
    exact k9 p0 p1 p2 H locs ls h I (lv_sub hl [0, 1, 2] rfl)
  · replace h := m_ifF c1 h
    refine lv_iload_n X.1 X.2.1 dJ11_checkIndex_4 rfl (lv_at hl 0 rfl) ?_
    refine lv_iload_n X.1 X.2.1 dJ11_checkIndex_5 rfl (lv_at hl 1 rfl) ?_
    refine lv_icmp_lt (tgt := 16) X.1 X.2.1 dJ11_checkIndex_6 (by decide) (fun c2 => ?_) (fun c2 => ?_)
    · replace h := m_ifT c2 h
      refine lv_iload_n X.1 X.2.1 dJ11_checkIndex_16 rfl (lv_at hl 0 rfl) ?_
      obtain rfl := m_e1 h
      exact hret H locs ls 17 dJ11_checkIndex_17 I
    · replace h := m_ifF c2 h
      exact k9 p0 p1 p2 H locs ls h I (lv_sub hl [0, 1, 2] rfl)
end S_J11_checkIndex
theorem uk_J11_checkIndex (l : Launch) (n : Nat) (D : va_G) (d : UD) (u : UM) (p0 : Int32) (p1 : Int32) (p2 : (Option Nat)) (r : Int32) (h : uf_J11_checkIndex n d u p0 p1 p2 = some r) : u_M l yJ11_checkIndex (ws_ yJ11_checkIndex cJ11_checkIndex 3 (some .int)) 0 0 (0, 0) D d u [.int p0, .int p1, va_rf p2] (some (.int r)) u :=
  u_start (own := RJ11) (lvl := [(0, .int p0), (1, .int p1), (2, va_rf p2)]) (by decide) rfl (by cases p2 <;> exact Nat.le_of_ble_eq_true rfl) (by cases p2 <;> rfl) (fun p e s m args below meth c ls X hr hlk hI hl hA I hC => uw_J11_checkIndex X hA ⟨Nat.le_refl _, Nat.le_refl _⟩ ⟨Nat.zero_le _, Nat.zero_le _⟩ n u p0 p1 p2 r h (fun H locs ls pc hd I => u_iret X I hr hlk ⟨rfl, rfl⟩ hd) _ _ ls I hl)

/-! java/lang/Throwable.<init>(Ljava/lang/String;Ljava/lang/Throwable;ZZ)V -/
def uf_J12_init_2_J60 (n : Nat) (d : UD) (u : UM) : Option ((Unit × UM) × UC) :=
  some (((), u), (0, 0))
def uf_J12_init_2_J41 (n : Nat) (d : UD) (u : UM) (v0 : Nat) (v1 : (Option Nat)) (v2 : (Option Nat)) (v3 : Int32) : Option ((Unit × UM) × UC) :=
  m_b (u_pf u 5 3 v0 (va_rf v1)) (fun w10 => m_b (u_pf (w10, u.2) 5 0 v0 (va_rf v2)) (fun w12 => m_if ((v3 : Int32) = 0) (m_b (u_pf (w12, u.2) 5 2 v0 (.null)) (fun w15 => uf_J12_init_2_J60 n d (w15, u.2) )) (uf_J12_init_2_J60 n d (w12, u.2) )))
def uf_J12_init_2 (n : Nat) (d : UD) (u : UM) (t : Nat) (p0 : (Option Nat)) (p1 : (Option Nat)) (p2 : Int32) (p3 : Int32) : Option ((Unit × UM) × UC) :=
  m_b (u_pf u 5 0 t (.ref t)) (fun w1 => m_b (u_pf (w1, u.2) 5 1 t (va_rf (g_oq (d.2 61)))) (fun w3 => m_b (u_pf (w3, u.2) 5 2 t (va_rf (g_oq (d.2 62)))) (fun w5 => m_if ((p3 : Int32) = 0) (m_b (u_pf (w5, u.2) 5 1 t (.null)) (fun w8 => uf_J12_init_2_J41 n d (w8, u.2) t p0 p1 p2)) (none))))
theorem uh_J12_init_2 : yJ12_init_2.cls = RJ12 ∧ yJ12_init_2.cls ≠ "java/lang/invoke/MethodHandle" ∧ yJ12_init_2.cls ≠ "java/lang/invoke/VarHandle" ∧ (parseMethodDescriptor yJ12_init_2.desc).map (fun d => d.parameters.length) = some 4 := by decide +kernel
section S_J12_init_2
variable {p : Program} {l : Launch} {e : Env} {R : Room} {s : State} {m : MethodId} {args : Array Value} {below : List Frame} {meth : Method} {c : Code} {Q : State → Prop} {D : va_G} {A : Nat → Prop} {d : UD}
theorem uw_J12_init_2 (X : u_X RJ12 D A d p s m c cJ12_init_2 5 args) (hA : ∀ q, s.heap.size ≤ q → A q) (hR : 1 ≤ R.frames ∧ 20 ≤ R.locals) (hI : meth.name = "<init>") (n : Nat) (u : UM) (t : Nat) (p0 : (Option Nat)) (p1 : (Option Nat)) (p2 : Int32) (p3 : Int32) (r0 : Unit) (ur : UM) (C : UC) (h : uf_J12_init_2 n d u t p0 p1 p2 p3 = some ((r0, ur), C)) (hret : ∀ (H : Heap) (locs : List Loc) (ls : Array Slot) (pc cells slots : Nat), decode cJ12_init_2 pc = .ok (.return_, 1) → u_left R cells slots (u_add (0, 0) (0, 0)) → u_I D A s.heap ur H locs cells → W p l e R s m args below meth c H locs cells slots Q (F0 m pc ls [])) : ∀ (H : Heap) (locs : List Loc) (ls : Array Slot) (cells slots : Nat), u_left R cells slots (u_add C (0, 0)) → u_I D A s.heap u H locs cells → lv_has ls 5 [(0, .ref t), (1, va_rf p0), (2, va_rf p1), (3, .int p2), (4, .int p3)] → W p l e R s m args below meth c H locs cells slots Q (F0 m 0 ls []) := by
  have k60 : ∀ (u : UM) (H : Heap) (locs : List Loc) (ls : Array Slot) (cells slots : Nat) (C : UC), uf_J12_init_2_J60 n d u = some ((r0, ur), C) → u_left R cells slots (u_add C (0, 0)) → u_I D A s.heap u H locs cells → lv_has ls 5 [] → W p l e R s m args below meth c H locs cells slots Q (F0 m 60 ls []) := by
    intro u H locs ls cells slots C h hC I hl
    unfold uf_J12_init_2_J60 at h
    obtain ⟨he, rfl⟩ := m_e3 h
    obtain ⟨rfl, rfl⟩ := m_e4 he
    exact hret H locs ls 60 _ _ dJ12_init_2_60 hC I
  have k41 : ∀ (u : UM) (v0 : Nat) (v1 : (Option Nat)) (v2 : (Option Nat)) (v3 : Int32) (H : Heap) (locs : List Loc) (ls : Array Slot) (cells slots : Nat) (C : UC), uf_J12_init_2_J41 n d u v0 v1 v2 v3 = some ((r0, ur), C) → u_left R cells slots (u_add C (0, 0)) → u_I D A s.heap u H locs cells → lv_has ls 5 [(0, .ref v0), (1, va_rf v1), (2, va_rf v2), (3, .int v3)] → W p l e R s m args below meth c H locs cells slots Q (F0 m 41 ls []) := by
    intro u v0 v1 v2 v3 H locs ls cells slots C h hC I hl
    unfold uf_J12_init_2_J41 at h
    refine lv_aload_n X.1 X.2.1 dJ12_init_2_41 rfl (lv_at hl 0 rfl) ?_
    refine u_aldn X.1 X.2.1 dJ12_init_2_42 rfl (lv_at hl 1 rfl) ?_
    obtain ⟨w10, e11, h⟩ := m_bS h
    refine u_P X I e11 (C := RX5) (T := TX5) (N := 8) (ref := "java/lang/Throwable") in_X5 tyX5 tyX5_ok nmX5 rfl (by decide) rfl rfl q579 (fun _ h => h) rfl (u_nar _) (u_fitO _) dJ12_init_2_43 (fun H locs I => ?_)
    refine lv_aload_n X.1 X.2.1 dJ12_init_2_46 rfl (lv_at hl 0 rfl) ?_
    refine u_aldn X.1 X.2.1 dJ12_init_2_47 rfl (lv_at hl 2 rfl) ?_
    obtain ⟨w12, e13, h⟩ := m_bS h
    refine u_P X I e13 (C := RX5) (T := TX5) (N := 8) (ref := "java/lang/Throwable") in_X5 tyX5 tyX5_ok nmX5 rfl (by decide) rfl rfl q580 (fun _ h => h) rfl (u_nar _) (u_fitO _) dJ12_init_2_48 (fun H locs I => ?_)
    refine lv_iload_n X.1 X.2.1 dJ12_init_2_51 rfl (lv_at hl 3 rfl) ?_
    refine lv_if_ne (tgt := 60) X.1 X.2.1 dJ12_init_2_52 (by decide) (fun c14 => ?_) (fun c14 => ?_)
    · replace h := m_ifF c14 h
      exact k60 (w12, u.2) H locs ls _ _ _ h hC I (lv_sub hl [] rfl)
    · replace h := m_ifT c14 h
      refine lv_aload_n X.1 X.2.1 dJ12_init_2_55 rfl (lv_at hl 0 rfl) ?_
      refine lv_null X.1 X.2.1 dJ12_init_2_56 ?_
      obtain ⟨w15, e16, h⟩ := m_bS h
      refine u_P X I e16 (C := RX5) (T := TX5) (N := 8) (ref := "java/lang/Throwable") in_X5 tyX5 tyX5_ok nmX5 rfl (by decide) rfl rfl q582 (fun _ h => h) rfl rfl rfl dJ12_init_2_57 (fun H locs I => ?_)
      exact k60 (w15, u.2) H locs ls _ _ _ h hC I (lv_sub hl [] rfl)
  intro H locs ls cells slots hC I hl
  unfold uf_J12_init_2 at h
  refine lv_aload_n X.1 X.2.1 dJ12_init_2_0 rfl (lv_at hl 0 rfl) ?_
  refine u_obj X hl.1 q551 q139 q140 (Nat.le_trans (Nat.le_of_ble_eq_true rfl) hR.1) (Nat.le_trans (Nat.le_of_ble_eq_true rfl) hR.2) (Nat.le_of_ble_eq_true rfl) dJ12_init_2_1 ?_
  refine lv_aload_n X.1 X.2.1 dJ12_init_2_4 rfl (lv_at hl 0 rfl) ?_
  refine lv_aload_n X.1 X.2.1 dJ12_init_2_5 rfl (lv_at hl 0 rfl) ?_
  obtain ⟨w1, e2, h⟩ := m_bS h
  refine u_P X I e2 (C := RX5) (T := TX5) (N := 8) (ref := "java/lang/Throwable") in_X5 tyX5 tyX5_ok nmX5 rfl (by decide) rfl rfl q580 (fun _ h => h) rfl rfl rfl dJ12_init_2_6 (fun H locs I => ?_)
  refine lv_aload_n X.1 X.2.1 dJ12_init_2_9 rfl (lv_at hl 0 rfl) ?_
  refine u_gsQ X I 1 rfl q552 dJ12_init_2_10 ?_
  obtain ⟨w3, e4, h⟩ := m_bS h
  refine u_P X I e4 (C := RX5) (T := TX5) (N := 8) (ref := "java/lang/Throwable") in_X5 tyX5 tyX5_ok nmX5 rfl (by decide) rfl rfl q581 (fun _ h => h) rfl (u_nar _) (u_fit _) dJ12_init_2_13 (fun H locs I => ?_)
  refine lv_aload_n X.1 X.2.1 dJ12_init_2_16 rfl (lv_at hl 0 rfl) ?_
  refine u_gsQ X I 2 rfl q554 dJ12_init_2_17 ?_
  obtain ⟨w5, e6, h⟩ := m_bS h
  refine u_P X I e6 (C := RX5) (T := TX5) (N := 8) (ref := "java/lang/Throwable") in_X5 tyX5 tyX5_ok nmX5 rfl (by decide) rfl rfl q582 (fun _ h => h) rfl (u_nar _) (u_fitO _) dJ12_init_2_20 (fun H locs I => ?_)
  refine lv_iload X.1 X.2.1 dJ12_init_2_23 (lv_at hl 4 rfl) ?_
  refine lv_if_eq (tgt := 36) X.1 X.2.1 dJ12_init_2_25 (by decide) (fun c7 => ?_) (fun c7 => ?_)
  · replace h := m_ifT c7 h
    refine lv_aload_n X.1 X.2.1 dJ12_init_2_36 rfl (lv_at hl 0 rfl) ?_
    refine lv_null X.1 X.2.1 dJ12_init_2_37 ?_
    obtain ⟨w8, e9, h⟩ := m_bS h
    refine u_P X I e9 (C := RX5) (T := TX5) (N := 8) (ref := "java/lang/Throwable") in_X5 tyX5 tyX5_ok nmX5 rfl (by decide) rfl rfl q581 (fun _ h => h) rfl rfl rfl dJ12_init_2_38 (fun H locs I => ?_)
    exact k41 (w8, u.2) t p0 p1 p2 H locs ls _ _ _ h hC I (lv_sub hl [0, 1, 2, 3] rfl)
  · replace h := m_ifF c7 h
    refine lv_aload_n X.1 X.2.1 dJ12_init_2_28 rfl (lv_at hl 0 rfl) ?_
    cases h
end S_J12_init_2
theorem uk_J12_init_2 (l : Launch) (n : Nat) (D : va_G) (d : UD) (u : UM) (t : Nat) (p0 : (Option Nat)) (p1 : (Option Nat)) (p2 : Int32) (p3 : Int32) (ur : UM) (C : UC) (h : uf_J12_init_2 n d u t p0 p1 p2 p3 = some (((), ur), C)) : u_M l yJ12_init_2 (ws_ yJ12_init_2 cJ12_init_2 5 none) 1 20 C D d u [.ref t, va_rf p0, va_rf p1, .int p2, .int p3] none ur :=
  u_start (own := RJ12) (lvl := [(0, .ref t), (1, va_rf p0), (2, va_rf p1), (3, .int p2), (4, .int p3)]) (by decide) rfl (by cases p0 <;> cases p1 <;> exact Nat.le_of_ble_eq_true rfl) (by cases p0 <;> cases p1 <;> rfl) (fun p e s m args below meth c ls X hr hlk hI hl hA I hC => uw_J12_init_2 X hA ⟨Nat.le_refl _, Nat.le_refl _⟩ hI n u t p0 p1 p2 p3 () ur C h (fun H locs ls pc cells slots hd hC I => u_vret X I hr hlk (u_leftE hC) hd) _ _ ls _ _ hC I hl)

/-! java/lang/Exception.<init>(Ljava/lang/String;Ljava/lang/Throwable;ZZ)V -/
def uf_J13_init (n : Nat) (d : UD) (u : UM) (t : Nat) (p0 : (Option Nat)) (p1 : (Option Nat)) (p2 : Int32) (p3 : Int32) : Option ((Unit × UM) × UC) :=
  u_bc u.2 (uf_J12_init_2 n d u t p0 p1 p2 p3) (fun r2 u3 => some (((), u3), (0, 0)))
theorem uh_J13_init : yJ13_init.cls = RJ13 ∧ yJ13_init.cls ≠ "java/lang/invoke/MethodHandle" ∧ yJ13_init.cls ≠ "java/lang/invoke/VarHandle" ∧ (parseMethodDescriptor yJ13_init.desc).map (fun d => d.parameters.length) = some 4 := by decide +kernel
section S_J13_init
variable {p : Program} {l : Launch} {e : Env} {R : Room} {s : State} {m : MethodId} {args : Array Value} {below : List Frame} {meth : Method} {c : Code} {Q : State → Prop} {D : va_G} {A : Nat → Prop} {d : UD}
theorem uw_J13_init (X : u_X RJ13 D A d p s m c cJ13_init 5 args) (hA : ∀ q, s.heap.size ≤ q → A q) (hR : 2 ≤ R.frames ∧ 44 ≤ R.locals) (hI : meth.name = "<init>") (n : Nat) (u : UM) (t : Nat) (p0 : (Option Nat)) (p1 : (Option Nat)) (p2 : Int32) (p3 : Int32) (r0 : Unit) (ur : UM) (C : UC) (h : uf_J13_init n d u t p0 p1 p2 p3 = some ((r0, ur), C)) (hret : ∀ (H : Heap) (locs : List Loc) (ls : Array Slot) (pc cells slots : Nat), decode cJ13_init pc = .ok (.return_, 1) → u_left R cells slots (u_add (0, 0) (0, 0)) → u_I D A s.heap ur H locs cells → W p l e R s m args below meth c H locs cells slots Q (F0 m pc ls [])) : ∀ (H : Heap) (locs : List Loc) (ls : Array Slot) (cells slots : Nat), u_left R cells slots (u_add C (0, 0)) → u_I D A s.heap u H locs cells → lv_has ls 5 [(0, .ref t), (1, va_rf p0), (2, va_rf p1), (3, .int p2), (4, .int p3)] → W p l e R s m args below meth c H locs cells slots Q (F0 m 0 ls []) := by
  intro H locs ls cells slots hC I hl
  unfold uf_J13_init at h
  refine lv_aload_n X.1 X.2.1 dJ13_init_0 rfl (lv_at hl 0 rfl) ?_
  refine u_aldn X.1 X.2.1 dJ13_init_1 rfl (lv_at hl 1 rfl) ?_
  refine u_aldn X.1 X.2.1 dJ13_init_2 rfl (lv_at hl 2 rfl) ?_
  refine lv_iload_n X.1 X.2.1 dJ13_init_3 rfl (lv_at hl 3 rfl) ?_
  refine lv_iload X.1 X.2.1 dJ13_init_4 (lv_at hl 4 rfl) ?_
  obtain ⟨r2, u3, C4, C5, e1, z6, h, hq⟩ := u_bcS h
  rw [hq] at hC
  refine u_callI X hl.1 I hA (As := [va_rf p0, va_rf p1, .int p2, .int p3]) (rest := []) (uk_J12_init_2 l n D d u t p0 p1 p2 p3 _ _ e1) z6 4 q571 q572 q119 q573 rfl uh_J12_init_2.2 rfl rfl ⟨Nat.le_trans (Nat.le_of_ble_eq_true rfl) hR.1, Nat.le_trans (Nat.le_of_ble_eq_true rfl) hR.2⟩ hC (Nat.le_of_ble_eq_true rfl) dJ13_init_6 (fun H locs cells slots hC I => ?_)
  obtain ⟨he, rfl⟩ := m_e3 h
  obtain ⟨rfl, rfl⟩ := m_e4 he
  exact hret H locs ls 9 _ _ dJ13_init_9 hC I
end S_J13_init
theorem uk_J13_init (l : Launch) (n : Nat) (D : va_G) (d : UD) (u : UM) (t : Nat) (p0 : (Option Nat)) (p1 : (Option Nat)) (p2 : Int32) (p3 : Int32) (ur : UM) (C : UC) (h : uf_J13_init n d u t p0 p1 p2 p3 = some (((), ur), C)) : u_M l yJ13_init (ws_ yJ13_init cJ13_init 5 none) 2 44 C D d u [.ref t, va_rf p0, va_rf p1, .int p2, .int p3] none ur :=
  u_start (own := RJ13) (lvl := [(0, .ref t), (1, va_rf p0), (2, va_rf p1), (3, .int p2), (4, .int p3)]) (by decide) rfl (by cases p0 <;> cases p1 <;> exact Nat.le_of_ble_eq_true rfl) (by cases p0 <;> cases p1 <;> rfl) (fun p e s m args below meth c ls X hr hlk hI hl hA I hC => uw_J13_init X hA ⟨Nat.le_refl _, Nat.le_refl _⟩ hI n u t p0 p1 p2 p3 () ur C h (fun H locs ls pc cells slots hd hC I => u_vret X I hr hlk (u_leftE hC) hd) _ _ ls _ _ hC I hl)

/-! java/util/Objects.checkIndex(II)I -/
def uf_J14_checkIndex (n : Nat) (d : UD) (u : UM) (p0 : Int32) (p1 : Int32) : Option Int32 :=
  m_b (uf_J11_checkIndex n d u p0 p1 none) (fun r2 => some r2)
theorem uh_J14_checkIndex : yJ14_checkIndex.cls = RJ14 ∧ yJ14_checkIndex.cls ≠ "java/lang/invoke/MethodHandle" ∧ yJ14_checkIndex.cls ≠ "java/lang/invoke/VarHandle" ∧ (parseMethodDescriptor yJ14_checkIndex.desc).map (fun d => d.parameters.length) = some 2 := by decide +kernel
section S_J14_checkIndex
variable {p : Program} {l : Launch} {e : Env} {R : Room} {s : State} {m : MethodId} {args : Array Value} {below : List Frame} {meth : Method} {c : Code} {Q : State → Prop} {D : va_G} {A : Nat → Prop} {d : UD} {cells slots : Nat}
theorem uw_J14_checkIndex (X : u_X RJ14 D A d p s m c cJ14_checkIndex 2 args) (hA : ∀ q, s.heap.size ≤ q → A q) (hR : 1 ≤ R.frames ∧ 22 ≤ R.locals) (hf : cells ≤ R.cells ∧ slots ≤ R.slots) (n : Nat) (u : UM) (p0 : Int32) (p1 : Int32) (r : Int32) (h : uf_J14_checkIndex n d u p0 p1 = some r) (hret : ∀ (H : Heap) (locs : List Loc) (ls : Array Slot) (pc : Nat), decode cJ14_checkIndex pc = .ok (.ireturn, 1) → u_I D A s.heap u H locs cells → W p l e R s m args below meth c H locs cells slots Q (F0 m pc ls [.int r])) : ∀ (H : Heap) (locs : List Loc) (ls : Array Slot), u_I D A s.heap u H locs cells → lv_has ls 2 [(0, .int p0), (1, .int p1)] → W p l e R s m args below meth c H locs cells slots Q (F0 m 0 ls []) := by
  intro H locs ls I hl
  unfold uf_J14_checkIndex at h
  refine lv_iload_n X.1 X.2.1 dJ14_checkIndex_0 rfl (lv_at hl 0 rfl) ?_
  refine lv_iload_n X.1 X.2.1 dJ14_checkIndex_1 rfl (lv_at hl 1 rfl) ?_
  refine lv_null X.1 X.2.1 dJ14_checkIndex_2 ?_
  obtain ⟨r2, e1, h⟩ := m_bS h
  refine u_callSp X hl.1 I hA (As := [.int p0, .int p1, .null]) (rest := []) (uk_J11_checkIndex l n D d u p0 p1 none _ e1) 3 q829 q457 q118 q458 uh_J11_checkIndex.2 rfl rfl ⟨Nat.le_trans (Nat.le_of_ble_eq_true rfl) hR.1, Nat.le_trans (Nat.le_of_ble_eq_true rfl) hR.2⟩ hf (stk := [.int r2]) rfl (Nat.le_of_ble_eq_true rfl) dJ14_checkIndex_3 (fun H locs I => ?_)
  obtain rfl := m_e1 h
  exact hret H locs ls 6 dJ14_checkIndex_6 I
end S_J14_checkIndex
theorem uk_J14_checkIndex (l : Launch) (n : Nat) (D : va_G) (d : UD) (u : UM) (p0 : Int32) (p1 : Int32) (r : Int32) (h : uf_J14_checkIndex n d u p0 p1 = some r) : u_M l yJ14_checkIndex (ws_ yJ14_checkIndex cJ14_checkIndex 2 (some .int)) 1 22 (0, 0) D d u [.int p0, .int p1] (some (.int r)) u :=
  u_start (own := RJ14) (lvl := [(0, .int p0), (1, .int p1)]) (by decide) rfl (Nat.le_of_ble_eq_true rfl) rfl (fun p e s m args below meth c ls X hr hlk hI hl hA I hC => uw_J14_checkIndex X hA ⟨Nat.le_refl _, Nat.le_refl _⟩ ⟨Nat.zero_le _, Nat.zero_le _⟩ n u p0 p1 r h (fun H locs ls pc hd I => u_iret X I hr hlk ⟨rfl, rfl⟩ hd) _ _ ls I hl)
