set_option maxRecDepth 100000
set_option maxHeartbeats 4000000
/-! java/lang/Integer.bitCount(I)I -/
def uf_J15_bitCount (n : Nat) (d : UD) (u : UM) (p0 : Int32) : Option Int32 :=
  m_b (some (p0 - ((((p0 : Int32).toUInt32 >>> ((1 : Int32).toUInt32 &&& Int32.toUInt32 31)).toInt32) &&& 1431655765))) (fun y1 => m_b (some ((y1 &&& 858993459) + ((((y1 : Int32).toUInt32 >>> ((2 : Int32).toUInt32 &&& Int32.toUInt32 31)).toInt32) &&& 858993459))) (fun y3 => m_b (some ((y3 + (((y3 : Int32).toUInt32 >>> ((4 : Int32).toUInt32 &&& Int32.toUInt32 31)).toInt32)) &&& 252645135)) (fun y5 => m_b (some (y5 + (((y5 : Int32).toUInt32 >>> ((8 : Int32).toUInt32 &&& Int32.toUInt32 31)).toInt32))) (fun y7 => m_b (some (y7 + (((y7 : Int32).toUInt32 >>> ((16 : Int32).toUInt32 &&& Int32.toUInt32 31)).toInt32))) (fun y9 => some (y9 &&& 63))))))
theorem uh_J15_bitCount : yJ15_bitCount.cls = RJ15 ∧ yJ15_bitCount.cls ≠ "java/lang/invoke/MethodHandle" ∧ yJ15_bitCount.cls ≠ "java/lang/invoke/VarHandle" ∧ (parseMethodDescriptor yJ15_bitCount.desc).map (fun d => d.parameters.length) = some 1 := by decide +kernel
section S_J15_bitCount
variable {p : Program} {l : Launch} {e : Env} {R : Room} {s : State} {m : MethodId} {args : Array Value} {below : List Frame} {meth : Method} {c : Code} {Q : State → Prop} {D : va_G} {A : Nat → Prop} {d : UD} {cells slots : Nat}
theorem uw_J15_bitCount (X : u_X RJ15 D A d p s m c cJ15_bitCount 1 args) (hA : ∀ q, s.heap.size ≤ q → A q) (hR : 0 ≤ R.frames ∧ 0 ≤ R.locals) (hf : cells ≤ R.cells ∧ slots ≤ R.slots) (n : Nat) (u : UM) (p0 : Int32) (r : Int32) (h : uf_J15_bitCount n d u p0 = some r) (hret : ∀ (H : Heap) (locs : List Loc) (ls : Array Slot) (pc : Nat), decode cJ15_bitCount pc = .ok (.ireturn, 1) → u_I D A s.heap u H locs cells → W p l e R s m args below meth c H locs cells slots Q (F0 m pc ls [.int r])) : ∀ (H : Heap) (locs : List Loc) (ls : Array Slot), u_I D A s.heap u H locs cells → lv_has ls 1 [(0, .int p0)] → W p l e R s m args below meth c H locs cells slots Q (F0 m 0 ls []) := by
  intro H locs ls I hl
  unfold uf_J15_bitCount at h
  refine lv_iload_n X.1 X.2.1 dJ15_bitCount_0 rfl (lv_at hl 0 rfl) ?_
  refine lv_iload_n X.1 X.2.1 dJ15_bitCount_1 rfl (lv_at hl 0 rfl) ?_
  refine lv_iconst (v := 1) X.1 X.2.1 dJ15_bitCount_2 (by decide) ?_
  refine lv_iushr X.1 X.2.1 dJ15_bitCount_3 rfl ?_
  refine lv_ldcw (v := 1431655765) X.1 X.2.1 X.2.2.2.1 (X.2.2.1 _ q1202) dJ15_bitCount_4 ?_
  refine lv_iand X.1 X.2.1 dJ15_bitCount_7 ?_
  refine lv_isub X.1 X.2.1 dJ15_bitCount_8 ?_
  obtain ⟨y1, e2, h⟩ := m_bS h
  rw [m_e1 e2]
  refine lv_istore_n (lv' := [(0, .int y1)]) X.1 X.2.1 dJ15_bitCount_9 rfl hl (by decide) rfl (fun ls hl => ?_)
  refine lv_iload_n X.1 X.2.1 dJ15_bitCount_10 rfl (lv_at hl 0 rfl) ?_
  refine lv_ldcw (v := 858993459) X.1 X.2.1 X.2.2.2.1 (X.2.2.1 _ q1203) dJ15_bitCount_11 ?_
  refine lv_iand X.1 X.2.1 dJ15_bitCount_14 ?_
  refine lv_iload_n X.1 X.2.1 dJ15_bitCount_15 rfl (lv_at hl 0 rfl) ?_
  refine lv_iconst (v := 2) X.1 X.2.1 dJ15_bitCount_16 (by decide) ?_
  refine lv_iushr X.1 X.2.1 dJ15_bitCount_17 rfl ?_
  refine lv_ldcw (v := 858993459) X.1 X.2.1 X.2.2.2.1 (X.2.2.1 _ q1203) dJ15_bitCount_18 ?_
  refine lv_iand X.1 X.2.1 dJ15_bitCount_21 ?_
  refine lv_iadd X.1 X.2.1 dJ15_bitCount_22 ?_
  obtain ⟨y3, e4, h⟩ := m_bS h
  rw [m_e1 e4]
  refine lv_istore_n (lv' := [(0, .int y3)]) X.1 X.2.1 dJ15_bitCount_23 rfl hl (by decide) rfl (fun ls hl => ?_)
  refine lv_iload_n X.1 X.2.1 dJ15_bitCount_24 rfl (lv_at hl 0 rfl) ?_
  refine lv_iload_n X.1 X.2.1 dJ15_bitCount_25 rfl (lv_at hl 0 rfl) ?_
  refine lv_iconst (v := 4) X.1 X.2.1 dJ15_bitCount_26 (by decide) ?_
  refine lv_iushr X.1 X.2.1 dJ15_bitCount_27 rfl ?_
  refine lv_iadd X.1 X.2.1 dJ15_bitCount_28 ?_
  refine lv_ldcw (v := 252645135) X.1 X.2.1 X.2.2.2.1 (X.2.2.1 _ q1204) dJ15_bitCount_29 ?_
  refine lv_iand X.1 X.2.1 dJ15_bitCount_32 ?_
  obtain ⟨y5, e6, h⟩ := m_bS h
  rw [m_e1 e6]
  refine lv_istore_n (lv' := [(0, .int y5)]) X.1 X.2.1 dJ15_bitCount_33 rfl hl (by decide) rfl (fun ls hl => ?_)
  refine lv_iload_n X.1 X.2.1 dJ15_bitCount_34 rfl (lv_at hl 0 rfl) ?_
  refine lv_iload_n X.1 X.2.1 dJ15_bitCount_35 rfl (lv_at hl 0 rfl) ?_
  refine lv_bipush (v := 8) X.1 X.2.1 dJ15_bitCount_36 (by decide) ?_
  refine lv_iushr X.1 X.2.1 dJ15_bitCount_38 rfl ?_
  refine lv_iadd X.1 X.2.1 dJ15_bitCount_39 ?_
  obtain ⟨y7, e8, h⟩ := m_bS h
  rw [m_e1 e8]
  refine lv_istore_n (lv' := [(0, .int y7)]) X.1 X.2.1 dJ15_bitCount_40 rfl hl (by decide) rfl (fun ls hl => ?_)
  refine lv_iload_n X.1 X.2.1 dJ15_bitCount_41 rfl (lv_at hl 0 rfl) ?_
  refine lv_iload_n X.1 X.2.1 dJ15_bitCount_42 rfl (lv_at hl 0 rfl) ?_
  refine lv_bipush (v := 16) X.1 X.2.1 dJ15_bitCount_43 (by decide) ?_
  refine lv_iushr X.1 X.2.1 dJ15_bitCount_45 rfl ?_
  refine lv_iadd X.1 X.2.1 dJ15_bitCount_46 ?_
  obtain ⟨y9, e10, h⟩ := m_bS h
  rw [m_e1 e10]
  refine lv_istore_n (lv' := [(0, .int y9)]) X.1 X.2.1 dJ15_bitCount_47 rfl hl (by decide) rfl (fun ls hl => ?_)
  refine lv_iload_n X.1 X.2.1 dJ15_bitCount_48 rfl (lv_at hl 0 rfl) ?_
  refine lv_bipush (v := 63) X.1 X.2.1 dJ15_bitCount_49 (by decide) ?_
  refine lv_iand X.1 X.2.1 dJ15_bitCount_51 ?_
  obtain rfl := m_e1 h
  exact hret H locs ls 52 dJ15_bitCount_52 I
end S_J15_bitCount
theorem uk_J15_bitCount (l : Launch) (n : Nat) (D : va_G) (d : UD) (u : UM) (p0 : Int32) (r : Int32) (h : uf_J15_bitCount n d u p0 = some r) : u_M l yJ15_bitCount (ws_ yJ15_bitCount cJ15_bitCount 1 (some .int)) 0 0 (0, 0) D d u [.int p0] (some (.int r)) u :=
  u_start (own := RJ15) (lvl := [(0, .int p0)]) (by decide) rfl (Nat.le_of_ble_eq_true rfl) rfl (fun p e s m args below meth c ls X hr hlk hI hl hA I hC => uw_J15_bitCount X hA ⟨Nat.le_refl _, Nat.le_refl _⟩ ⟨Nat.zero_le _, Nat.zero_le _⟩ n u p0 r h (fun H locs ls pc hd I => u_iret X I hr hlk ⟨rfl, rfl⟩ hd) _ _ ls I hl)

/-! java/lang/Integer.stringSize(I)I -/
def uf_J15_stringSize_L16 (n : Nat) (d : UD) (u : UM) (v0 : Int32) (v1 : Int32) (v2 : Int32) (v3 : Int32) : Option ((Int32 × Int32) ⊕ (Int32 ⊕ Unit)) :=
  m_if ((10 : Int32) ≤ (v3 : Int32)) (some (.inr ((.inr (()))))) (m_if ((v0 : Int32) ≤ (v2 : Int32)) (some (.inl ((10 * v2, v3 + 1)))) (some (.inr ((.inl v3)))))
def uf_J15_stringSize_L16l (n : Nat) (d : UD) (u : UM) (v0 : Int32) (v1 : Int32) (x : (Int32 × Int32)) : Option (Int32 ⊕ Unit) := m_lp (fun (x : (Int32 × Int32)) => uf_J15_stringSize_L16 n d u v0 v1 x.1 x.2) n x
def uf_J15_stringSize_J11 (n : Nat) (d : UD) (u : UM) (v0 : Int32) (v1 : Int32) : Option Int32 :=
  m_b (uf_J15_stringSize_L16l n d u v0 v1 (((-10), 1))) (fun y6 => m_s y6 (fun z5 => some (z5 + v1)) (fun _ => some (10 + v1)))
def uf_J15_stringSize (n : Nat) (d : UD) (u : UM) (p0 : Int32) : Option Int32 :=
  m_if ((p0 : Int32) < 0) (uf_J15_stringSize_J11 n d u p0 1) (uf_J15_stringSize_J11 n d u (-p0) 0)
theorem uh_J15_stringSize : yJ15_stringSize.cls = RJ15 ∧ yJ15_stringSize.cls ≠ "java/lang/invoke/MethodHandle" ∧ yJ15_stringSize.cls ≠ "java/lang/invoke/VarHandle" ∧ (parseMethodDescriptor yJ15_stringSize.desc).map (fun d => d.parameters.length) = some 1 := by decide +kernel
section S_J15_stringSize
variable {p : Program} {l : Launch} {e : Env} {R : Room} {s : State} {m : MethodId} {args : Array Value} {below : List Frame} {meth : Method} {c : Code} {Q : State → Prop} {D : va_G} {A : Nat → Prop} {d : UD} {cells slots : Nat}
theorem wuf_J15_stringSize_L16 (X : u_X RJ15 D A d p s m c cJ15_stringSize 4 args) (hA : ∀ q, s.heap.size ≤ q → A q) (hR : 0 ≤ R.frames ∧ 0 ≤ R.locals) (hf : cells ≤ R.cells ∧ slots ≤ R.slots) (n : Nat) (u : UM) (v0 : Int32) (v1 : Int32) (x : (Int32 × Int32)) (z : (Int32 ⊕ Unit)) (hz : uf_J15_stringSize_L16l n d u v0 v1 x = some z) (hE : (m_e (fun (z : Int32) => ∀ (H : Heap) (locs : List Loc) (ls : Array Slot), u_I D A s.heap u H locs cells → lv_has ls 4 [(1, .int v1), (3, .int z)] → W p l e R s m args below meth c H locs cells slots Q (F0 m 27 ls [])) (fun (z : Unit) => ∀ (H : Heap) (locs : List Loc) (ls : Array Slot), u_I D A s.heap u H locs cells → lv_has ls 4 [(1, .int v1)] → W p l e R s m args below meth c H locs cells slots Q (F0 m 42 ls []))) z) : (fun (x : (Int32 × Int32)) => ∀ (H : Heap) (locs : List Loc) (ls : Array Slot), u_I D A s.heap u H locs cells → lv_has ls 4 [(0, .int v0), (1, .int v1), (2, .int x.1), (3, .int x.2)] → W p l e R s m args below meth c H locs cells slots Q (F0 m 16 ls [])) x := by
  refine m_lpW (G := fun (x : (Int32 × Int32)) => ∀ (H : Heap) (locs : List Loc) (ls : Array Slot), u_I D A s.heap u H locs cells → lv_has ls 4 [(0, .int v0), (1, .int v1), (2, .int x.1), (3, .int x.2)] → W p l e R s m args below meth c H locs cells slots Q (F0 m 16 ls [])) (E := m_e (fun (z : Int32) => ∀ (H : Heap) (locs : List Loc) (ls : Array Slot), u_I D A s.heap u H locs cells → lv_has ls 4 [(1, .int v1), (3, .int z)] → W p l e R s m args below meth c H locs cells slots Q (F0 m 27 ls [])) (fun (z : Unit) => ∀ (H : Heap) (locs : List Loc) (ls : Array Slot), u_I D A s.heap u H locs cells → lv_has ls 4 [(1, .int v1)] → W p l e R s m args below meth c H locs cells slots Q (F0 m 42 ls []))) ?_ n x z hz hE
  rintro ⟨v2, v3⟩ r h hr H locs ls I hl
  replace h : uf_J15_stringSize_L16 n d u v0 v1 v2 v3 = some r := h
  unfold uf_J15_stringSize_L16 at h
  refine lv_iload_n X.1 X.2.1 dJ15_stringSize_16 rfl (lv_at hl 3 rfl) ?_
  refine lv_bipush (v := 10) X.1 X.2.1 dJ15_stringSize_17 (by decide) ?_
  refine lv_icmp_ge (tgt := 42) X.1 X.2.1 dJ15_stringSize_19 (by decide) (fun c2 => ?_) (fun c2 => ?_)
  · replace h := m_ifT c2 h
    cases h
    exact hr H locs ls I (lv_sub hl [1] rfl)
  · replace h := m_ifF c2 h
    refine lv_iload_n X.1 X.2.1 dJ15_stringSize_22 rfl (lv_at hl 0 rfl) ?_
    refine lv_iload_n X.1 X.2.1 dJ15_stringSize_23 rfl (lv_at hl 2 rfl) ?_
    refine lv_icmp_le (tgt := 31) X.1 X.2.1 dJ15_stringSize_24 (by decide) (fun c3 => ?_) (fun c3 => ?_)
    · replace h := m_ifT c3 h
      refine lv_bipush (v := 10) X.1 X.2.1 dJ15_stringSize_31 (by decide) ?_
      refine lv_iload_n X.1 X.2.1 dJ15_stringSize_33 rfl (lv_at hl 2 rfl) ?_
      refine lv_imul X.1 X.2.1 dJ15_stringSize_34 ?_
      refine lv_istore_n (lv' := [(2, .int (10 * v2)), (0, .int v0), (1, .int v1), (3, .int v3)]) X.1 X.2.1 dJ15_stringSize_35 rfl hl (by decide) rfl (fun ls hl => ?_)
      refine lv_iinc (v := v3 + 1) (lv' := [(3, .int (v3 + 1)), (2, .int (10 * v2)), (0, .int v0), (1, .int v1)]) X.1 X.2.1 dJ15_stringSize_36 hl (k := 3) rfl rfl (by decide) rfl (fun ls hl => ?_)
      refine lv_goto (tgt := 16) X.1 X.2.1 dJ15_stringSize_39 (by decide) ?_
      cases h
      exact hr H locs ls I (lv_sub hl [2, 3, 1, 0] rfl)
    · replace h := m_ifF c3 h
      cases h
      exact hr H locs ls I (lv_sub hl [1, 3] rfl)
theorem uw_J15_stringSize (X : u_X RJ15 D A d p s m c cJ15_stringSize 4 args) (hA : ∀ q, s.heap.size ≤ q → A q) (hR : 0 ≤ R.frames ∧ 0 ≤ R.locals) (hf : cells ≤ R.cells ∧ slots ≤ R.slots) (n : Nat) (u : UM) (p0 : Int32) (r : Int32) (h : uf_J15_stringSize n d u p0 = some r) (hret : ∀ (H : Heap) (locs : List Loc) (ls : Array Slot) (pc : Nat), decode cJ15_stringSize pc = .ok (.ireturn, 1) → u_I D A s.heap u H locs cells → W p l e R s m args below meth c H locs cells slots Q (F0 m pc ls [.int r])) : ∀ (H : Heap) (locs : List Loc) (ls : Array Slot), u_I D A s.heap u H locs cells → lv_has ls 4 [(0, .int p0)] → W p l e R s m args below meth c H locs cells slots Q (F0 m 0 ls []) := by
  have k11 : ∀ (v0 : Int32) (v1 : Int32) (H : Heap) (locs : List Loc) (ls : Array Slot), uf_J15_stringSize_J11 n d u v0 v1 = some r → u_I D A s.heap u H locs cells → lv_has ls 4 [(0, .int v0), (1, .int v1)] → W p l e R s m args below meth c H locs cells slots Q (F0 m 11 ls []) := by
    intro v0 v1 H locs ls h I hl
    unfold uf_J15_stringSize_J11 at h
    refine lv_bipush (v := (-10)) X.1 X.2.1 dJ15_stringSize_11 (by decide) ?_
    refine lv_istore_n (lv' := [(2, .int ((-10))), (0, .int v0), (1, .int v1)]) X.1 X.2.1 dJ15_stringSize_13 rfl hl (by decide) rfl (fun ls hl => ?_)
    refine lv_iconst (v := 1) X.1 X.2.1 dJ15_stringSize_14 (by decide) ?_
    refine lv_istore_n (lv' := [(3, .int 1), (2, .int ((-10))), (0, .int v0), (1, .int v1)]) X.1 X.2.1 dJ15_stringSize_15 rfl hl (by decide) rfl (fun ls hl => ?_)
    obtain ⟨z5 | _, e4, h⟩ := m_bS h
    · replace h := m_sL h
      refine wuf_J15_stringSize_L16 X hA hR hf n u v0 v1 _ _ e4 (fun H locs ls I hl => ?_) H locs ls I (lv_sub hl [2, 3, 1, 0] rfl)
      refine lv_iload_n X.1 X.2.1 dJ15_stringSize_27 rfl (lv_at hl 1 rfl) ?_
      refine lv_iload_n X.1 X.2.1 dJ15_stringSize_28 rfl (lv_at hl 0 rfl) ?_
      refine lv_iadd X.1 X.2.1 dJ15_stringSize_29 ?_
      obtain rfl := m_e1 h
      exact hret H locs ls 30 dJ15_stringSize_30 I
    · replace h := m_sR h
      refine wuf_J15_stringSize_L16 X hA hR hf n u v0 v1 _ _ e4 (fun H locs ls I hl => ?_) H locs ls I (lv_sub hl [2, 3, 1, 0] rfl)
      refine lv_bipush (v := 10) X.1 X.2.1 dJ15_stringSize_42 (by decide) ?_
      refine lv_iload_n X.1 X.2.1 dJ15_stringSize_44 rfl (lv_at hl 0 rfl) ?_
      refine lv_iadd X.1 X.2.1 dJ15_stringSize_45 ?_
      obtain rfl := m_e1 h
      exact hret H locs ls 46 dJ15_stringSize_46 I
  intro H locs ls I hl
  unfold uf_J15_stringSize at h
  refine lv_iconst (v := 1) X.1 X.2.1 dJ15_stringSize_0 (by decide) ?_
  refine lv_istore_n (lv' := [(1, .int 1), (0, .int p0)]) X.1 X.2.1 dJ15_stringSize_1 rfl hl (by decide) rfl (fun ls hl => ?_)
  refine lv_iload_n X.1 X.2.1 dJ15_stringSize_2 rfl (lv_at hl 1 rfl) ?_
  refine lv_if_lt (tgt := 11) X.1 X.2.1 dJ15_stringSize_3 (by decide) (fun c1 => ?_) (fun c1 => ?_)
  · replace h := m_ifT c1 h
    exact k11 p0 1 H locs ls h I (lv_sub hl [1, 0] rfl)
  · replace h := m_ifF c1 h
    refine lv_iconst (v := 0) X.1 X.2.1 dJ15_stringSize_6 (by decide) ?_
    refine lv_istore_n (lv' := [(1, .int 0), (0, .int p0)]) X.1 X.2.1 dJ15_stringSize_7 rfl hl (by decide) rfl (fun ls hl => ?_)
    refine lv_iload_n X.1 X.2.1 dJ15_stringSize_8 rfl (lv_at hl 1 rfl) ?_
    refine lv_ineg X.1 X.2.1 dJ15_stringSize_9 ?_
    refine lv_istore_n (lv' := [(0, .int (-p0)), (1, .int 0)]) X.1 X.2.1 dJ15_stringSize_10 rfl hl (by decide) rfl (fun ls hl => ?_)
    exact k11 (-p0) 0 H locs ls h I (lv_sub hl [0, 1] rfl)
end S_J15_stringSize
theorem uk_J15_stringSize (l : Launch) (n : Nat) (D : va_G) (d : UD) (u : UM) (p0 : Int32) (r : Int32) (h : uf_J15_stringSize n d u p0 = some r) : u_M l yJ15_stringSize (ws_ yJ15_stringSize cJ15_stringSize 4 (some .int)) 0 0 (0, 0) D d u [.int p0] (some (.int r)) u :=
  u_start (own := RJ15) (lvl := [(0, .int p0)]) (by decide) rfl (Nat.le_of_ble_eq_true rfl) rfl (fun p e s m args below meth c ls X hr hlk hI hl hA I hC => uw_J15_stringSize X hA ⟨Nat.le_refl _, Nat.le_refl _⟩ ⟨Nat.zero_le _, Nat.zero_le _⟩ n u p0 r h (fun H locs ls pc hd I => u_iret X I hr hlk ⟨rfl, rfl⟩ hd) _ _ ls I hl)

/-! java/lang/Integer.getChars(II[B)I -/
def uf_J15_getChars_L22 (n : Nat) (d : UD) (v2 : Nat) (v6 : Int32) (v0 : Int32) (v5 : Int32) (u : UM) : Option (((Int32 × Int32 × UM) ⊕ (Int32 × Int32 × UM)) × UC) :=
  m_if (((-100) : Int32) < (v0 : Int32)) (some (.inr ((v0, v5, u)), (0, 0))) (m_g (decide (¬ (100 : Int32) = 0)) (m_b (u_ai d u 2 (d.2 50) (((v0 / 100) * 100) - v0)) (fun b5 => m_b (u_stB d u v2 (v5 + (-1)) b5) (fun w7 => m_b (u_ai d (w7, u.2) 2 (d.2 51) (((v0 / 100) * 100) - v0)) (fun b9 => m_b (u_stB d (w7, u.2) v2 ((v5 + (-1)) + (-1)) b9) (fun w11 => some (.inl ((v0 / 100, (v5 + (-1)) + (-1), (w11, u.2))), (0, 0))))))))
def uf_J15_getChars_L22l (n : Nat) (d : UD) (v2 : Nat) (v6 : Int32) (x : (Int32 × Int32 × UM)) : Option ((Int32 × Int32 × UM) × UC) := u_lp (fun (x : (Int32 × Int32 × UM)) => uf_J15_getChars_L22 n d v2 v6 x.1 x.2.1 x.2.2) n x
def uf_J15_getChars_J118 (n : Nat) (d : UD) (u : UM) (v5 : Int32) : Option ((Int32 × UM) × UC) :=
  some ((v5, u), (0, 0))
def uf_J15_getChars_J104 (n : Nat) (d : UD) (u : UM) (v2 : Nat) (v5 : Int32) (v6 : Int32) : Option ((Int32 × UM) × UC) :=
  m_if ((v6 : Int32) = 0) (uf_J15_getChars_J118 n d u v5) (m_b (u_stB d u v2 (v5 + (-1)) 45) (fun w23 => uf_J15_getChars_J118 n d (w23, u.2) (v5 + (-1))))
def uf_J15_getChars_J12 (n : Nat) (d : UD) (u : UM) (v0 : Int32) (v2 : Nat) (v5 : Int32) (t0 : Int32) : Option ((Int32 × UM) × UC) :=
  m_if ((t0 : Int32) = 0) (u_bl (uf_J15_getChars_L22l n d v2 t0 ((-v0, v5, u))) (fun y45 => m_b (u_ai d y45.2.2 2 (d.2 50) (-y45.1)) (fun b36 => m_b (u_stB d y45.2.2 v2 (y45.2.1 + (-1)) b36) (fun w38 => m_if (((-9) : Int32) ≤ (y45.1 : Int32)) (uf_J15_getChars_J104 n d (w38, y45.2.2.2) v2 (y45.2.1 + (-1)) t0) (m_b (u_ai d (w38, y45.2.2.2) 2 (d.2 51) (-y45.1)) (fun b41 => m_b (u_stB d (w38, y45.2.2.2) v2 ((y45.2.1 + (-1)) + (-1)) b41) (fun w43 => uf_J15_getChars_J104 n d (w43, y45.2.2.2) v2 ((y45.2.1 + (-1)) + (-1)) t0))))))) (u_bl (uf_J15_getChars_L22l n d v2 t0 ((v0, v5, u))) (fun y29 => m_b (u_ai d y29.2.2 2 (d.2 50) (-y29.1)) (fun b17 => m_b (u_stB d y29.2.2 v2 (y29.2.1 + (-1)) b17) (fun w19 => m_if (((-9) : Int32) ≤ (y29.1 : Int32)) (uf_J15_getChars_J104 n d (w19, y29.2.2.2) v2 (y29.2.1 + (-1)) t0) (m_b (u_ai d (w19, y29.2.2.2) 2 (d.2 51) (-y29.1)) (fun b25 => m_b (u_stB d (w19, y29.2.2.2) v2 ((y29.2.1 + (-1)) + (-1)) b25) (fun w27 => uf_J15_getChars_J104 n d (w27, y29.2.2.2) v2 ((y29.2.1 + (-1)) + (-1)) t0)))))))
def uf_J15_getChars (n : Nat) (d : UD) (u : UM) (p0 : Int32) (p1 : Int32) (p2 : Nat) : Option ((Int32 × UM) × UC) :=
  m_if (0 ≤ (p0 : Int32)) (uf_J15_getChars_J12 n d u p0 p2 p1 0) (uf_J15_getChars_J12 n d u p0 p2 p1 1)
theorem uh_J15_getChars : yJ15_getChars.cls = RJ15 ∧ yJ15_getChars.cls ≠ "java/lang/invoke/MethodHandle" ∧ yJ15_getChars.cls ≠ "java/lang/invoke/VarHandle" ∧ (parseMethodDescriptor yJ15_getChars.desc).map (fun d => d.parameters.length) = some 3 := by decide +kernel
section S_J15_getChars
variable {p : Program} {l : Launch} {e : Env} {R : Room} {s : State} {m : MethodId} {args : Array Value} {below : List Frame} {meth : Method} {c : Code} {Q : State → Prop} {D : va_G} {A : Nat → Prop} {d : UD}
theorem wuf_J15_getChars_L22 (X : u_X RJ15 D A d p s m c cJ15_getChars 7 args) (hA : ∀ q, s.heap.size ≤ q → A q) (hR : 0 ≤ R.frames ∧ 0 ≤ R.locals) (n : Nat) (v2 : Nat) (v6 : Int32) (x : (Int32 × Int32 × UM)) (z : (Int32 × Int32 × UM)) (C cr : UC) (hz : uf_J15_getChars_L22l n d v2 v6 x = some (z, C)) (hE : (fun (z : (Int32 × Int32 × UM)) (C : UC) => ∀ (H : Heap) (locs : List Loc) (ls : Array Slot) (cells slots : Nat), u_left R cells slots C → u_I D A s.heap z.2.2 H locs cells → lv_has ls 7 [(0, .int z.1), (2, .ref v2), (5, .int z.2.1), (6, .int v6)] → W p l e R s m args below meth c H locs cells slots Q (F0 m 72 ls [])) z cr) : (fun (x : (Int32 × Int32 × UM)) (C : UC) => ∀ (H : Heap) (locs : List Loc) (ls : Array Slot) (cells slots : Nat), u_left R cells slots C → u_I D A s.heap x.2.2 H locs cells → lv_has ls 7 [(0, .int x.1), (2, .ref v2), (5, .int x.2.1), (6, .int v6)] → W p l e R s m args below meth c H locs cells slots Q (F0 m 22 ls [])) x (u_add C cr) := by
  refine u_lpW (G := fun (x : (Int32 × Int32 × UM)) (C : UC) => ∀ (H : Heap) (locs : List Loc) (ls : Array Slot) (cells slots : Nat), u_left R cells slots C → u_I D A s.heap x.2.2 H locs cells → lv_has ls 7 [(0, .int x.1), (2, .ref v2), (5, .int x.2.1), (6, .int v6)] → W p l e R s m args below meth c H locs cells slots Q (F0 m 22 ls [])) (E := fun (z : (Int32 × Int32 × UM)) (C : UC) => ∀ (H : Heap) (locs : List Loc) (ls : Array Slot) (cells slots : Nat), u_left R cells slots C → u_I D A s.heap z.2.2 H locs cells → lv_has ls 7 [(0, .int z.1), (2, .ref v2), (5, .int z.2.1), (6, .int v6)] → W p l e R s m args below meth c H locs cells slots Q (F0 m 72 ls [])) ?_ n x z C cr hz hE
  rintro ⟨v0, v5, u⟩ r C cr h hr H locs ls cells slots hC I hl
  replace h : uf_J15_getChars_L22 n d v2 v6 v0 v5 u = some (r, C) := h
  unfold uf_J15_getChars_L22 at h
  refine lv_iload_n X.1 X.2.1 dJ15_getChars_22 rfl (lv_at hl 0 rfl) ?_
  refine lv_bipush (v := (-100)) X.1 X.2.1 dJ15_getChars_23 (by decide) ?_
  refine lv_icmp_gt (tgt := 72) X.1 X.2.1 dJ15_getChars_25 (by decide) (fun c3 => ?_) (fun c3 => ?_)
  · replace h := m_ifT c3 h
    obtain ⟨rfl, rfl⟩ := m_e3 h
    exact hr H locs ls _ _ (u_left0 hC) I (lv_sub hl [0, 1, 2, 3] rfl)
  · replace h := m_ifF c3 h
    refine lv_iload_n X.1 X.2.1 dJ15_getChars_28 rfl (lv_at hl 0 rfl) ?_
    refine lv_bipush (v := 100) X.1 X.2.1 dJ15_getChars_29 (by decide) ?_
    obtain ⟨g4, h⟩ := m_gS h
    refine lv_idiv X.1 X.2.1 dJ15_getChars_31 (of_decide_eq_true g4) ?_
    refine lv_istore_n (lv' := [(3, .int (v0 / 100)), (0, .int v0), (2, .ref v2), (5, .int v5), (6, .int v6)]) X.1 X.2.1 dJ15_getChars_32 rfl hl (by decide) rfl (fun ls hl => ?_)
    refine lv_iload_n X.1 X.2.1 dJ15_getChars_33 rfl (lv_at hl 0 rfl) ?_
    refine lv_bipush (v := 100) X.1 X.2.1 dJ15_getChars_34 (by decide) ?_
    refine lv_imul X.1 X.2.1 dJ15_getChars_36 ?_
    refine lv_iload_n X.1 X.2.1 dJ15_getChars_37 rfl (lv_at hl 1 rfl) ?_
    refine lv_isub X.1 X.2.1 dJ15_getChars_38 ?_
    refine lv_istore (lv' := [(4, .int (((v0 / 100) * 100) - v0)), (3, .int (v0 / 100)), (0, .int v0), (2, .ref v2), (5, .int v5), (6, .int v6)]) X.1 X.2.1 dJ15_getChars_39 hl (by decide) rfl (fun ls hl => ?_)
    refine lv_iload_n X.1 X.2.1 dJ15_getChars_41 rfl (lv_at hl 1 rfl) ?_
    refine lv_istore_n (lv' := [(0, .int (v0 / 100)), (4, .int (((v0 / 100) * 100) - v0)), (3, .int (v0 / 100)), (2, .ref v2), (5, .int v5), (6, .int v6)]) X.1 X.2.1 dJ15_getChars_42 rfl hl (by decide) rfl (fun ls hl => ?_)
    refine lv_aload_n X.1 X.2.1 dJ15_getChars_43 rfl (lv_at hl 3 rfl) ?_
    refine lv_iinc (v := v5 + (-1)) (lv' := [(5, .int (v5 + (-1))), (0, .int (v0 / 100)), (4, .int (((v0 / 100) * 100) - v0)), (3, .int (v0 / 100)), (2, .ref v2), (6, .int v6)]) X.1 X.2.1 dJ15_getChars_44 hl (k := 4) rfl rfl (by decide) rfl (fun ls hl => ?_)
    refine lv_iload X.1 X.2.1 dJ15_getChars_47 (lv_at hl 0 rfl) ?_
    refine u_gs50 X I q1444 dJ15_getChars_49 ?_
    refine lv_iload X.1 X.2.1 dJ15_getChars_52 (lv_at hl 2 rfl) ?_
    obtain ⟨b5, e6, h⟩ := m_bS h
    refine u_LB X I e6 dJ15_getChars_54 ?_
    obtain ⟨w7, e8, h⟩ := m_bS h
    refine u_SB X I e8 dJ15_getChars_55 (fun H locs I => ?_)
    refine lv_aload_n X.1 X.2.1 dJ15_getChars_56 rfl (lv_at hl 4 rfl) ?_
    refine lv_iinc (v := (v5 + (-1)) + (-1)) (lv' := [(5, .int ((v5 + (-1)) + (-1))), (0, .int (v0 / 100)), (4, .int (((v0 / 100) * 100) - v0)), (3, .int (v0 / 100)), (2, .ref v2), (6, .int v6)]) X.1 X.2.1 dJ15_getChars_57 hl (k := 0) rfl rfl (by decide) rfl (fun ls hl => ?_)
    refine lv_iload X.1 X.2.1 dJ15_getChars_60 (lv_at hl 0 rfl) ?_
    refine u_gs51 X I q1446 dJ15_getChars_62 ?_
    refine lv_iload X.1 X.2.1 dJ15_getChars_65 (lv_at hl 2 rfl) ?_
    obtain ⟨b9, e10, h⟩ := m_bS h
    refine u_LB X I e10 dJ15_getChars_67 ?_
    obtain ⟨w11, e12, h⟩ := m_bS h
    refine u_SB X I e12 dJ15_getChars_68 (fun H locs I => ?_)
    refine lv_goto (tgt := 22) X.1 X.2.1 dJ15_getChars_69 (by decide) ?_
    obtain ⟨rfl, rfl⟩ := m_e3 h
    exact hr H locs ls _ _ (u_left0 hC) I (lv_sub hl [1, 4, 0, 5] rfl)
theorem uw_J15_getChars (X : u_X RJ15 D A d p s m c cJ15_getChars 7 args) (hA : ∀ q, s.heap.size ≤ q → A q) (hR : 0 ≤ R.frames ∧ 0 ≤ R.locals) (n : Nat) (u : UM) (p0 : Int32) (p1 : Int32) (p2 : Nat) (r0 : Int32) (ur : UM) (C : UC) (h : uf_J15_getChars n d u p0 p1 p2 = some ((r0, ur), C)) (hret : ∀ (H : Heap) (locs : List Loc) (ls : Array Slot) (pc cells slots : Nat), decode cJ15_getChars pc = .ok (.ireturn, 1) → u_left R cells slots (u_add (0, 0) (0, 0)) → u_I D A s.heap ur H locs cells → W p l e R s m args below meth c H locs cells slots Q (F0 m pc ls [.int r0])) : ∀ (H : Heap) (locs : List Loc) (ls : Array Slot) (cells slots : Nat), u_left R cells slots (u_add C (0, 0)) → u_I D A s.heap u H locs cells → lv_has ls 7 [(0, .int p0), (1, .int p1), (2, .ref p2)] → W p l e R s m args below meth c H locs cells slots Q (F0 m 0 ls []) := by
  have k118 : ∀ (u : UM) (v5 : Int32) (H : Heap) (locs : List Loc) (ls : Array Slot) (cells slots : Nat) (C : UC), uf_J15_getChars_J118 n d u v5 = some ((r0, ur), C) → u_left R cells slots (u_add C (0, 0)) → u_I D A s.heap u H locs cells → lv_has ls 7 [(5, .int v5)] → W p l e R s m args below meth c H locs cells slots Q (F0 m 118 ls []) := by
    intro u v5 H locs ls cells slots C h hC I hl
    unfold uf_J15_getChars_J118 at h
    refine lv_iload X.1 X.2.1 dJ15_getChars_118 (lv_at hl 0 rfl) ?_
    obtain ⟨he, rfl⟩ := m_e3 h
    obtain ⟨rfl, rfl⟩ := m_e4 he
    exact hret H locs ls 120 _ _ dJ15_getChars_120 hC I
  have k104 : ∀ (u : UM) (v2 : Nat) (v5 : Int32) (v6 : Int32) (H : Heap) (locs : List Loc) (ls : Array Slot) (cells slots : Nat) (C : UC), uf_J15_getChars_J104 n d u v2 v5 v6 = some ((r0, ur), C) → u_left R cells slots (u_add C (0, 0)) → u_I D A s.heap u H locs cells → lv_has ls 7 [(2, .ref v2), (5, .int v5), (6, .int v6)] → W p l e R s m args below meth c H locs cells slots Q (F0 m 104 ls []) := by
    intro u v2 v5 v6 H locs ls cells slots C h hC I hl
    unfold uf_J15_getChars_J104 at h
    refine lv_iload X.1 X.2.1 dJ15_getChars_104 (lv_at hl 2 rfl) ?_
    refine lv_if_eq (tgt := 118) X.1 X.2.1 dJ15_getChars_106 (by decide) (fun c22 => ?_) (fun c22 => ?_)
    · replace h := m_ifT c22 h
      exact k118 u v5 H locs ls _ _ _ h hC I (lv_sub hl [1] rfl)
    · replace h := m_ifF c22 h
      refine lv_aload_n X.1 X.2.1 dJ15_getChars_109 rfl (lv_at hl 0 rfl) ?_
      refine lv_iinc (v := v5 + (-1)) (lv' := [(5, .int (v5 + (-1))), (2, .ref v2), (6, .int v6)]) X.1 X.2.1 dJ15_getChars_110 hl (k := 1) rfl rfl (by decide) rfl (fun ls hl => ?_)
      refine lv_iload X.1 X.2.1 dJ15_getChars_113 (lv_at hl 0 rfl) ?_
      refine lv_bipush (v := 45) X.1 X.2.1 dJ15_getChars_115 (by decide) ?_
      obtain ⟨w23, e24, h⟩ := m_bS h
      refine u_SB X I e24 dJ15_getChars_117 (fun H locs I => ?_)
      exact k118 (w23, u.2) (v5 + (-1)) H locs ls _ _ _ h hC I (lv_sub hl [0] rfl)
  have k12 : ∀ (u : UM) (v0 : Int32) (v2 : Nat) (v5 : Int32) (t0 : Int32) (H : Heap) (locs : List Loc) (ls : Array Slot) (cells slots : Nat) (C : UC), uf_J15_getChars_J12 n d u v0 v2 v5 t0 = some ((r0, ur), C) → u_left R cells slots (u_add C (0, 0)) → u_I D A s.heap u H locs cells → lv_has ls 7 [(0, .int v0), (2, .ref v2), (5, .int v5)] → W p l e R s m args below meth c H locs cells slots Q (F0 m 12 ls [.int t0]) := by
    intro u v0 v2 v5 t0 H locs ls cells slots C h hC I hl
    unfold uf_J15_getChars_J12 at h
    refine lv_istore (lv' := [(6, .int t0), (0, .int v0), (2, .ref v2), (5, .int v5)]) X.1 X.2.1 dJ15_getChars_12 hl (by decide) rfl (fun ls hl => ?_)
    refine lv_iload X.1 X.2.1 dJ15_getChars_14 (lv_at hl 0 rfl) ?_
    refine lv_if_ne (tgt := 22) X.1 X.2.1 dJ15_getChars_16 (by decide) (fun c2 => ?_) (fun c2 => ?_)
    · replace h := m_ifF c2 h
      obtain ⟨⟨z14, z15, u16⟩, C30, C31, e13, h, hq⟩ := u_blS h
      rw [hq] at hC
      refine wuf_J15_getChars_L22 X hA hR n v2 t0 _ _ _ _ e13 (fun H locs ls cells slots hC I hl => ?_) H locs ls _ _ (u_left2 hC) I (lv_sub hl [1, 2, 3, 0] rfl)
      refine lv_aload_n X.1 X.2.1 dJ15_getChars_72 rfl (lv_at hl 1 rfl) ?_
      refine lv_iinc (v := z15 + (-1)) (lv' := [(5, .int (z15 + (-1))), (0, .int z14), (2, .ref v2), (6, .int t0)]) X.1 X.2.1 dJ15_getChars_73 hl (k := 2) rfl rfl (by decide) rfl (fun ls hl => ?_)
      refine lv_iload X.1 X.2.1 dJ15_getChars_76 (lv_at hl 0 rfl) ?_
      refine u_gs50 X I q1444 dJ15_getChars_78 ?_
      refine lv_iload_n X.1 X.2.1 dJ15_getChars_81 rfl (lv_at hl 1 rfl) ?_
      refine lv_ineg X.1 X.2.1 dJ15_getChars_82 ?_
      obtain ⟨b17, e18, h⟩ := m_bS h
      refine u_LB X I e18 dJ15_getChars_83 ?_
      obtain ⟨w19, e20, h⟩ := m_bS h
      refine u_SB X I e20 dJ15_getChars_84 (fun H locs I => ?_)
      refine lv_iload_n X.1 X.2.1 dJ15_getChars_85 rfl (lv_at hl 1 rfl) ?_
      refine lv_bipush (v := (-9)) X.1 X.2.1 dJ15_getChars_86 (by decide) ?_
      refine lv_icmp_ge (tgt := 104) X.1 X.2.1 dJ15_getChars_88 (by decide) (fun c21 => ?_) (fun c21 => ?_)
      · replace h := m_ifT c21 h
        exact k104 (w19, u16.2) v2 (z15 + (-1)) t0 H locs ls _ _ _ h hC I (lv_sub hl [2, 0, 3] rfl)
      · replace h := m_ifF c21 h
        refine lv_aload_n X.1 X.2.1 dJ15_getChars_91 rfl (lv_at hl 2 rfl) ?_
        refine lv_iinc (v := (z15 + (-1)) + (-1)) (lv' := [(5, .int ((z15 + (-1)) + (-1))), (0, .int z14), (2, .ref v2), (6, .int t0)]) X.1 X.2.1 dJ15_getChars_92 hl (k := 0) rfl rfl (by decide) rfl (fun ls hl => ?_)
        refine lv_iload X.1 X.2.1 dJ15_getChars_95 (lv_at hl 0 rfl) ?_
        refine u_gs51 X I q1446 dJ15_getChars_97 ?_
        refine lv_iload_n X.1 X.2.1 dJ15_getChars_100 rfl (lv_at hl 1 rfl) ?_
        refine lv_ineg X.1 X.2.1 dJ15_getChars_101 ?_
        obtain ⟨b25, e26, h⟩ := m_bS h
        refine u_LB X I e26 dJ15_getChars_102 ?_
        obtain ⟨w27, e28, h⟩ := m_bS h
        refine u_SB X I e28 dJ15_getChars_103 (fun H locs I => ?_)
        exact k104 (w27, u16.2) v2 ((z15 + (-1)) + (-1)) t0 H locs ls _ _ _ h hC I (lv_sub hl [2, 0, 3] rfl)
    · replace h := m_ifT c2 h
      refine lv_iload_n X.1 X.2.1 dJ15_getChars_19 rfl (lv_at hl 1 rfl) ?_
      refine lv_ineg X.1 X.2.1 dJ15_getChars_20 ?_
      refine lv_istore_n (lv' := [(0, .int (-v0)), (6, .int t0), (2, .ref v2), (5, .int v5)]) X.1 X.2.1 dJ15_getChars_21 rfl hl (by decide) rfl (fun ls hl => ?_)
      obtain ⟨⟨z33, z34, u35⟩, C46, C47, e32, h, hq⟩ := u_blS h
      rw [hq] at hC
      refine wuf_J15_getChars_L22 X hA hR n v2 t0 _ _ _ _ e32 (fun H locs ls cells slots hC I hl => ?_) H locs ls _ _ (u_left2 hC) I (lv_sub hl [0, 2, 3, 1] rfl)
      refine lv_aload_n X.1 X.2.1 dJ15_getChars_72 rfl (lv_at hl 1 rfl) ?_
      refine lv_iinc (v := z34 + (-1)) (lv' := [(5, .int (z34 + (-1))), (0, .int z33), (2, .ref v2), (6, .int t0)]) X.1 X.2.1 dJ15_getChars_73 hl (k := 2) rfl rfl (by decide) rfl (fun ls hl => ?_)
      refine lv_iload X.1 X.2.1 dJ15_getChars_76 (lv_at hl 0 rfl) ?_
      refine u_gs50 X I q1444 dJ15_getChars_78 ?_
      refine lv_iload_n X.1 X.2.1 dJ15_getChars_81 rfl (lv_at hl 1 rfl) ?_
      refine lv_ineg X.1 X.2.1 dJ15_getChars_82 ?_
      obtain ⟨b36, e37, h⟩ := m_bS h
      refine u_LB X I e37 dJ15_getChars_83 ?_
      obtain ⟨w38, e39, h⟩ := m_bS h
      refine u_SB X I e39 dJ15_getChars_84 (fun H locs I => ?_)
      refine lv_iload_n X.1 X.2.1 dJ15_getChars_85 rfl (lv_at hl 1 rfl) ?_
      refine lv_bipush (v := (-9)) X.1 X.2.1 dJ15_getChars_86 (by decide) ?_
      refine lv_icmp_ge (tgt := 104) X.1 X.2.1 dJ15_getChars_88 (by decide) (fun c40 => ?_) (fun c40 => ?_)
      · replace h := m_ifT c40 h
        exact k104 (w38, u35.2) v2 (z34 + (-1)) t0 H locs ls _ _ _ h hC I (lv_sub hl [2, 0, 3] rfl)
      · replace h := m_ifF c40 h
        refine lv_aload_n X.1 X.2.1 dJ15_getChars_91 rfl (lv_at hl 2 rfl) ?_
        refine lv_iinc (v := (z34 + (-1)) + (-1)) (lv' := [(5, .int ((z34 + (-1)) + (-1))), (0, .int z33), (2, .ref v2), (6, .int t0)]) X.1 X.2.1 dJ15_getChars_92 hl (k := 0) rfl rfl (by decide) rfl (fun ls hl => ?_)
        refine lv_iload X.1 X.2.1 dJ15_getChars_95 (lv_at hl 0 rfl) ?_
        refine u_gs51 X I q1446 dJ15_getChars_97 ?_
        refine lv_iload_n X.1 X.2.1 dJ15_getChars_100 rfl (lv_at hl 1 rfl) ?_
        refine lv_ineg X.1 X.2.1 dJ15_getChars_101 ?_
        obtain ⟨b41, e42, h⟩ := m_bS h
        refine u_LB X I e42 dJ15_getChars_102 ?_
        obtain ⟨w43, e44, h⟩ := m_bS h
        refine u_SB X I e44 dJ15_getChars_103 (fun H locs I => ?_)
        exact k104 (w43, u35.2) v2 ((z34 + (-1)) + (-1)) t0 H locs ls _ _ _ h hC I (lv_sub hl [2, 0, 3] rfl)
  intro H locs ls cells slots hC I hl
  unfold uf_J15_getChars at h
  refine lv_iload_n X.1 X.2.1 dJ15_getChars_0 rfl (lv_at hl 1 rfl) ?_
  refine lv_istore (lv' := [(5, .int p1), (0, .int p0), (1, .int p1), (2, .ref p2)]) X.1 X.2.1 dJ15_getChars_1 hl (by decide) rfl (fun ls hl => ?_)
  refine lv_iload_n X.1 X.2.1 dJ15_getChars_3 rfl (lv_at hl 1 rfl) ?_
  refine lv_if_ge (tgt := 11) X.1 X.2.1 dJ15_getChars_4 (by decide) (fun c1 => ?_) (fun c1 => ?_)
  · replace h := m_ifT c1 h
    refine lv_iconst (v := 0) X.1 X.2.1 dJ15_getChars_11 (by decide) ?_
    exact k12 u p0 p2 p1 0 H locs ls _ _ _ h hC I (lv_sub hl [1, 3, 0] rfl)
  · replace h := m_ifF c1 h
    refine lv_iconst (v := 1) X.1 X.2.1 dJ15_getChars_7 (by decide) ?_
    refine lv_goto (tgt := 12) X.1 X.2.1 dJ15_getChars_8 (by decide) ?_
    exact k12 u p0 p2 p1 1 H locs ls _ _ _ h hC I (lv_sub hl [1, 3, 0] rfl)
end S_J15_getChars
theorem uk_J15_getChars (l : Launch) (n : Nat) (D : va_G) (d : UD) (u : UM) (p0 : Int32) (p1 : Int32) (p2 : Nat) (r0 : Int32) (ur : UM) (C : UC) (h : uf_J15_getChars n d u p0 p1 p2 = some ((r0, ur), C)) : u_M l yJ15_getChars (ws_ yJ15_getChars cJ15_getChars 7 (some .int)) 0 0 C D d u [.int p0, .int p1, .ref p2] (some (.int r0)) ur :=
  u_start (own := RJ15) (lvl := [(0, .int p0), (1, .int p1), (2, .ref p2)]) (by decide) rfl (Nat.le_of_ble_eq_true rfl) rfl (fun p e s m args below meth c ls X hr hlk hI hl hA I hC => uw_J15_getChars X hA ⟨Nat.le_refl _, Nat.le_refl _⟩ n u p0 p1 p2 r0 ur C h (fun H locs ls pc cells slots hd hC I => u_iret X I hr hlk (u_leftE hC) hd) _ _ ls _ _ hC I hl)

/-! SwapPress.feed(IIIII)I -/
def uf_X0_feed (n : Nat) (d : UD) (u : UM) (t : Nat) (p0 : Int32) (p1 : Int32) (p2 : Int32) (p3 : Int32) (p4 : Int32) : Option ((Int32 × UM) × UC) :=
  m_b (u_fi d u 1 6 t) (fun b1 => m_if ((b1 + 20 : Int32) ≤ (900 : Int32)) (m_b (u_cl u 1 t) (fun f4 => u_bc u.2 (uf_X0_bytes n d u t p0) (fun r7 u8 => m_b (u_cl u8 1 t) (fun f12 => u_bc u8.2 (uf_X0_bytes n d u8 t p1) (fun r15 u16 => m_b (u_cl u16 1 t) (fun f20 => u_bc u16.2 (uf_X0_bytes n d u16 t p2) (fun r23 u24 => m_b (u_cl u24 1 t) (fun f28 => u_bc u24.2 (uf_X0_bytes n d u24 t p3) (fun r31 u32 => m_b (u_cl u32 1 t) (fun f36 => u_bc u32.2 (uf_X0_bytes n d u32 t p4) (fun r39 u40 => m_b (u_fi d u40 1 6 t) (fun b44 => some ((b44, u40), (0, 0)))))))))))))) (some (((-4), u), (0, 0))))
theorem uh_X0_feed : yX0_feed.cls = RX0 ∧ yX0_feed.cls ≠ "java/lang/invoke/MethodHandle" ∧ yX0_feed.cls ≠ "java/lang/invoke/VarHandle" ∧ (parseMethodDescriptor yX0_feed.desc).map (fun d => d.parameters.length) = some 5 := by decide +kernel
section S_X0_feed
variable {p : Program} {l : Launch} {e : Env} {R : Room} {s : State} {m : MethodId} {args : Array Value} {below : List Frame} {meth : Method} {c : Code} {Q : State → Prop} {D : va_G} {A : Nat → Prop} {d : UD}
theorem uw_X0_feed (X : u_X RX0 D A d p s m c cX0_feed 6 args) (hA : ∀ q, s.heap.size ≤ q → A q) (hR : 1 ≤ R.frames ∧ 22 ≤ R.locals) (n : Nat) (u : UM) (t : Nat) (p0 : Int32) (p1 : Int32) (p2 : Int32) (p3 : Int32) (p4 : Int32) (r0 : Int32) (ur : UM) (C : UC) (h : uf_X0_feed n d u t p0 p1 p2 p3 p4 = some ((r0, ur), C)) (hret : ∀ (H : Heap) (locs : List Loc) (ls : Array Slot) (pc cells slots : Nat), decode cX0_feed pc = .ok (.ireturn, 1) → u_left R cells slots (u_add (0, 0) (0, 0)) → u_I D A s.heap ur H locs cells → W p l e R s m args below meth c H locs cells slots Q (F0 m pc ls [.int r0])) : ∀ (H : Heap) (locs : List Loc) (ls : Array Slot) (cells slots : Nat), u_left R cells slots (u_add C (0, 0)) → u_I D A s.heap u H locs cells → lv_has ls 6 [(0, .ref t), (1, .int p0), (2, .int p1), (3, .int p2), (4, .int p3), (5, .int p4)] → W p l e R s m args below meth c H locs cells slots Q (F0 m 0 ls []) := by
  intro H locs ls cells slots hC I hl
  unfold uf_X0_feed at h
  refine lv_aload_n X.1 X.2.1 dX0_feed_0 rfl (lv_at hl 0 rfl) ?_
  obtain ⟨b1, e2, h⟩ := m_bS h
  refine u_Gi X I e2 (C := RX0) (T := TX0) (N := 9) (ref := "SwapPress") in_X0 rfl (by decide) rfl rfl q243 (fun _ h => h) dX0_feed_1 ?_
  refine lv_bipush (v := 20) X.1 X.2.1 dX0_feed_4 (by decide) ?_
  refine lv_iadd X.1 X.2.1 dX0_feed_6 ?_
  refine lv_sipush (v := 900) X.1 X.2.1 dX0_feed_7 (by decide) ?_
  refine lv_icmp_le (tgt := 16) X.1 X.2.1 dX0_feed_10 (by decide) (fun c3 => ?_) (fun c3 => ?_)
  · replace h := m_ifT c3 h
    refine lv_aload_n X.1 X.2.1 dX0_feed_16 rfl (lv_at hl 0 rfl) ?_
    refine lv_iload_n X.1 X.2.1 dX0_feed_17 rfl (lv_at hl 1 rfl) ?_
    obtain ⟨f4, e5, h⟩ := m_bS h
    obtain ⟨r7, u8, C9, C10, e6, z11, h, hq⟩ := u_bcS h
    rw [hq] at hC
    refine u_callV X hl.1 I hA (As := [.int p0]) (rest := []) (uk_X0_bytes l n D d u t p0 _ _ e6) z11 (u_clS e5) (C := RX0) (T := TX0) (N := 9) rfl 1 q270 q272 qs0 q101 q273 uh_X0_bytes rfl rfl ⟨Nat.le_trans (Nat.le_of_ble_eq_true rfl) hR.1, Nat.le_trans (Nat.le_of_ble_eq_true rfl) hR.2⟩ hC (stk := []) rfl (Nat.le_of_ble_eq_true rfl) dX0_feed_18 (fun H locs cells slots hC I => ?_)
    refine lv_aload_n X.1 X.2.1 dX0_feed_21 rfl (lv_at hl 0 rfl) ?_
    refine lv_iload_n X.1 X.2.1 dX0_feed_22 rfl (lv_at hl 2 rfl) ?_
    obtain ⟨f12, e13, h⟩ := m_bS h
    obtain ⟨r15, u16, C17, C18, e14, z19, h, hq⟩ := u_bcS h
    rw [hq] at hC
    refine u_callV X hl.1 I hA (As := [.int p1]) (rest := []) (uk_X0_bytes l n D d u8 t p1 _ _ e14) z19 (u_clS e13) (C := RX0) (T := TX0) (N := 9) rfl 1 q270 q272 qs0 q101 q273 uh_X0_bytes rfl rfl ⟨Nat.le_trans (Nat.le_of_ble_eq_true rfl) hR.1, Nat.le_trans (Nat.le_of_ble_eq_true rfl) hR.2⟩ hC (stk := []) rfl (Nat.le_of_ble_eq_true rfl) dX0_feed_23 (fun H locs cells slots hC I => ?_)
    refine lv_aload_n X.1 X.2.1 dX0_feed_26 rfl (lv_at hl 0 rfl) ?_
    refine lv_iload_n X.1 X.2.1 dX0_feed_27 rfl (lv_at hl 3 rfl) ?_
    obtain ⟨f20, e21, h⟩ := m_bS h
    obtain ⟨r23, u24, C25, C26, e22, z27, h, hq⟩ := u_bcS h
    rw [hq] at hC
    refine u_callV X hl.1 I hA (As := [.int p2]) (rest := []) (uk_X0_bytes l n D d u16 t p2 _ _ e22) z27 (u_clS e21) (C := RX0) (T := TX0) (N := 9) rfl 1 q270 q272 qs0 q101 q273 uh_X0_bytes rfl rfl ⟨Nat.le_trans (Nat.le_of_ble_eq_true rfl) hR.1, Nat.le_trans (Nat.le_of_ble_eq_true rfl) hR.2⟩ hC (stk := []) rfl (Nat.le_of_ble_eq_true rfl) dX0_feed_28 (fun H locs cells slots hC I => ?_)
    refine lv_aload_n X.1 X.2.1 dX0_feed_31 rfl (lv_at hl 0 rfl) ?_
    refine lv_iload X.1 X.2.1 dX0_feed_32 (lv_at hl 4 rfl) ?_
    obtain ⟨f28, e29, h⟩ := m_bS h
    obtain ⟨r31, u32, C33, C34, e30, z35, h, hq⟩ := u_bcS h
    rw [hq] at hC
    refine u_callV X hl.1 I hA (As := [.int p3]) (rest := []) (uk_X0_bytes l n D d u24 t p3 _ _ e30) z35 (u_clS e29) (C := RX0) (T := TX0) (N := 9) rfl 1 q270 q272 qs0 q101 q273 uh_X0_bytes rfl rfl ⟨Nat.le_trans (Nat.le_of_ble_eq_true rfl) hR.1, Nat.le_trans (Nat.le_of_ble_eq_true rfl) hR.2⟩ hC (stk := []) rfl (Nat.le_of_ble_eq_true rfl) dX0_feed_34 (fun H locs cells slots hC I => ?_)
    refine lv_aload_n X.1 X.2.1 dX0_feed_37 rfl (lv_at hl 0 rfl) ?_
    refine lv_iload X.1 X.2.1 dX0_feed_38 (lv_at hl 5 rfl) ?_
    obtain ⟨f36, e37, h⟩ := m_bS h
    obtain ⟨r39, u40, C41, C42, e38, z43, h, hq⟩ := u_bcS h
    rw [hq] at hC
    refine u_callV X hl.1 I hA (As := [.int p4]) (rest := []) (uk_X0_bytes l n D d u32 t p4 _ _ e38) z43 (u_clS e37) (C := RX0) (T := TX0) (N := 9) rfl 1 q270 q272 qs0 q101 q273 uh_X0_bytes rfl rfl ⟨Nat.le_trans (Nat.le_of_ble_eq_true rfl) hR.1, Nat.le_trans (Nat.le_of_ble_eq_true rfl) hR.2⟩ hC (stk := []) rfl (Nat.le_of_ble_eq_true rfl) dX0_feed_40 (fun H locs cells slots hC I => ?_)
    refine lv_aload_n X.1 X.2.1 dX0_feed_43 rfl (lv_at hl 0 rfl) ?_
    obtain ⟨b44, e45, h⟩ := m_bS h
    refine u_Gi X I e45 (C := RX0) (T := TX0) (N := 9) (ref := "SwapPress") in_X0 rfl (by decide) rfl rfl q243 (fun _ h => h) dX0_feed_44 ?_
    obtain ⟨he, rfl⟩ := m_e3 h
    obtain ⟨rfl, rfl⟩ := m_e4 he
    exact hret H locs ls 47 _ _ dX0_feed_47 hC I
  · replace h := m_ifF c3 h
    refine lv_bipush (v := (-4)) X.1 X.2.1 dX0_feed_13 (by decide) ?_
    obtain ⟨he, rfl⟩ := m_e3 h
    obtain ⟨rfl, rfl⟩ := m_e4 he
    exact hret H locs ls 15 _ _ dX0_feed_15 hC I
end S_X0_feed
theorem uk_X0_feed (l : Launch) (n : Nat) (D : va_G) (d : UD) (u : UM) (t : Nat) (p0 : Int32) (p1 : Int32) (p2 : Int32) (p3 : Int32) (p4 : Int32) (r0 : Int32) (ur : UM) (C : UC) (h : uf_X0_feed n d u t p0 p1 p2 p3 p4 = some ((r0, ur), C)) : u_M l yX0_feed (ws_ yX0_feed cX0_feed 6 (some .int)) 1 22 C D d u [.ref t, .int p0, .int p1, .int p2, .int p3, .int p4] (some (.int r0)) ur :=
  u_start (own := RX0) (lvl := [(0, .ref t), (1, .int p0), (2, .int p1), (3, .int p2), (4, .int p3), (5, .int p4)]) (by decide) rfl (Nat.le_of_ble_eq_true rfl) rfl (fun p e s m args below meth c ls X hr hlk hI hl hA I hC => uw_X0_feed X hA ⟨Nat.le_refl _, Nat.le_refl _⟩ n u t p0 p1 p2 p3 p4 r0 ur C h (fun H locs ls pc cells slots hd hC I => u_iret X I hr hlk (u_leftE hC) hd) _ _ ls _ _ hC I hl)

/-! SwapPress.isKind(I)Z -/
def uf_X0_isKind (n : Nat) (d : UD) (u : UM) (t : Nat) (p0 : Int32) : Option Int32 :=
  m_b (u_fr d u 1 0 t) (fun b1 => m_b (u_nr u 2 1 b1) (fun b3 => m_b (u_cl u 13 b3) (fun f5 => m_b (uf_J2_size n d u b3) (fun r8 => m_b (uf_X0_in n d u ((p0 : Int32).toInt64) 0 ((r8 - 1 : Int32).toInt64)) (fun r10 => m_g (m_01 r10) (some r10))))))
theorem uh_X0_isKind : yX0_isKind.cls = RX0 ∧ yX0_isKind.cls ≠ "java/lang/invoke/MethodHandle" ∧ yX0_isKind.cls ≠ "java/lang/invoke/VarHandle" ∧ (parseMethodDescriptor yX0_isKind.desc).map (fun d => d.parameters.length) = some 1 := by decide +kernel
section S_X0_isKind
variable {p : Program} {l : Launch} {e : Env} {R : Room} {s : State} {m : MethodId} {args : Array Value} {below : List Frame} {meth : Method} {c : Code} {Q : State → Prop} {D : va_G} {A : Nat → Prop} {d : UD} {cells slots : Nat}
theorem uw_X0_isKind (X : u_X RX0 D A d p s m c cX0_isKind 2 args) (hA : ∀ q, s.heap.size ≤ q → A q) (hR : 1 ≤ R.frames ∧ 25 ≤ R.locals) (hf : cells ≤ R.cells ∧ slots ≤ R.slots) (n : Nat) (u : UM) (t : Nat) (p0 : Int32) (r : Int32) (h : uf_X0_isKind n d u t p0 = some r) (hret : ∀ (H : Heap) (locs : List Loc) (ls : Array Slot) (pc : Nat), m_01 r = true → decode cX0_isKind pc = .ok (.ireturn, 1) → u_I D A s.heap u H locs cells → W p l e R s m args below meth c H locs cells slots Q (F0 m pc ls [.int r])) : ∀ (H : Heap) (locs : List Loc) (ls : Array Slot), u_I D A s.heap u H locs cells → lv_has ls 2 [(0, .ref t), (1, .int p0)] → W p l e R s m args below meth c H locs cells slots Q (F0 m 0 ls []) := by
  intro H locs ls I hl
  unfold uf_X0_isKind at h
  refine lv_iload_n X.1 X.2.1 dX0_isKind_0 rfl (lv_at hl 1 rfl) ?_
  refine lv_i2l X.1 X.2.1 dX0_isKind_1 rfl ?_
  refine lv_lconst (v := 0) X.1 X.2.1 dX0_isKind_2 (by decide) ?_
  refine lv_aload_n X.1 X.2.1 dX0_isKind_3 rfl (lv_at hl 0 rfl) ?_
  obtain ⟨b1, e2, h⟩ := m_bS h
  refine u_Gr X I e2 (C := RX0) (T := TX0) (N := 9) (ref := "SwapPress") in_X0 rfl (by decide) rfl rfl q235 (fun _ h => h) dX0_isKind_4 ?_
  obtain ⟨b3, e4, h⟩ := m_bS h
  refine u_GrN X I e4 (C := RX1) (T := TX1) (N := 5) (ref := "SwapPress$State") (host := "SwapPress") in_X1 rfl (by decide) rfl rfl 3 rfl (fun _ h => h) dX0_isKind_7 ?_
  obtain ⟨f5, e6, h⟩ := m_bS h
  obtain ⟨r8, e7, h⟩ := m_bS h
  refine u_callVp X hl.1 I hA (As := []) (rest := [.long 0, .long ((p0 : Int32).toInt64)]) (uk_J2_size l n D d u b3 _ e7) (u_clS e6) (C := RJ2) (T := TJ2) (N := 3) rfl 0 q853 q667 q668 q105 q669 uh_J2_size rfl rfl ⟨Nat.le_trans (Nat.le_of_ble_eq_true rfl) hR.1, Nat.le_trans (Nat.le_of_ble_eq_true rfl) hR.2⟩ hf (stk := [.int r8, .long 0, .long ((p0 : Int32).toInt64)]) rfl (Nat.le_of_ble_eq_true rfl) dX0_isKind_10 (fun H locs I => ?_)
  refine lv_iconst (v := 1) X.1 X.2.1 dX0_isKind_13 (by decide) ?_
  refine lv_isub X.1 X.2.1 dX0_isKind_14 ?_
  refine lv_i2l X.1 X.2.1 dX0_isKind_15 rfl ?_
  obtain ⟨r10, e9, h⟩ := m_bS h
  refine u_callSp X hl.1 I hA (As := [.long ((p0 : Int32).toInt64), .long 0, .long ((r8 - 1 : Int32).toInt64)]) (rest := []) (uk_X0_in l n D d u ((p0 : Int32).toInt64) 0 ((r8 - 1 : Int32).toInt64) _ e9) 3 q279 q280 q101 q281 uh_X0_in.2 rfl rfl ⟨Nat.le_trans (Nat.le_of_ble_eq_true rfl) hR.1, Nat.le_trans (Nat.le_of_ble_eq_true rfl) hR.2⟩ hf (stk := [.int r10]) rfl (Nat.le_of_ble_eq_true rfl) dX0_isKind_16 (fun H locs I => ?_)
  obtain ⟨g11, h⟩ := m_gS h
  obtain rfl := m_e1 h
  exact hret H locs ls 19 g11 dX0_isKind_19 I
end S_X0_isKind
theorem uk_X0_isKind (l : Launch) (n : Nat) (D : va_G) (d : UD) (u : UM) (t : Nat) (p0 : Int32) (r : Int32) (h : uf_X0_isKind n d u t p0 = some r) : u_M l yX0_isKind (ws_ yX0_isKind cX0_isKind 2 (some .boolean)) 1 25 (0, 0) D d u [.ref t, .int p0] (some (.int r)) u :=
  u_start (own := RX0) (lvl := [(0, .ref t), (1, .int p0)]) (by decide) rfl (Nat.le_of_ble_eq_true rfl) rfl (fun p e s m args below meth c ls X hr hlk hI hl hA I hC => uw_X0_isKind X hA ⟨Nat.le_refl _, Nat.le_refl _⟩ ⟨Nat.zero_le _, Nat.zero_le _⟩ n u t p0 r h (fun H locs ls pc g hd I => u_zret X I hr hlk g ⟨rfl, rfl⟩ hd) _ _ ls I hl)

/-! SwapPress.isTrade(I)Z -/
def uf_X0_isTrade (n : Nat) (d : UD) (u : UM) (t : Nat) (p0 : Int32) : Option Int32 :=
  m_b (u_fr d u 1 0 t) (fun b1 => m_b (u_nr u 2 2 b1) (fun b3 => m_b (u_cl u 13 b3) (fun f5 => m_b (uf_J2_size n d u b3) (fun r8 => m_b (uf_X0_in n d u ((p0 : Int32).toInt64) 0 ((r8 - 1 : Int32).toInt64)) (fun r10 => m_g (m_01 r10) (some r10))))))
theorem uh_X0_isTrade : yX0_isTrade.cls = RX0 ∧ yX0_isTrade.cls ≠ "java/lang/invoke/MethodHandle" ∧ yX0_isTrade.cls ≠ "java/lang/invoke/VarHandle" ∧ (parseMethodDescriptor yX0_isTrade.desc).map (fun d => d.parameters.length) = some 1 := by decide +kernel
section S_X0_isTrade
variable {p : Program} {l : Launch} {e : Env} {R : Room} {s : State} {m : MethodId} {args : Array Value} {below : List Frame} {meth : Method} {c : Code} {Q : State → Prop} {D : va_G} {A : Nat → Prop} {d : UD} {cells slots : Nat}
theorem uw_X0_isTrade (X : u_X RX0 D A d p s m c cX0_isTrade 2 args) (hA : ∀ q, s.heap.size ≤ q → A q) (hR : 1 ≤ R.frames ∧ 25 ≤ R.locals) (hf : cells ≤ R.cells ∧ slots ≤ R.slots) (n : Nat) (u : UM) (t : Nat) (p0 : Int32) (r : Int32) (h : uf_X0_isTrade n d u t p0 = some r) (hret : ∀ (H : Heap) (locs : List Loc) (ls : Array Slot) (pc : Nat), m_01 r = true → decode cX0_isTrade pc = .ok (.ireturn, 1) → u_I D A s.heap u H locs cells → W p l e R s m args below meth c H locs cells slots Q (F0 m pc ls [.int r])) : ∀ (H : Heap) (locs : List Loc) (ls : Array Slot), u_I D A s.heap u H locs cells → lv_has ls 2 [(0, .ref t), (1, .int p0)] → W p l e R s m args below meth c H locs cells slots Q (F0 m 0 ls []) := by
  intro H locs ls I hl
  unfold uf_X0_isTrade at h
  refine lv_iload_n X.1 X.2.1 dX0_isTrade_0 rfl (lv_at hl 1 rfl) ?_
  refine lv_i2l X.1 X.2.1 dX0_isTrade_1 rfl ?_
  refine lv_lconst (v := 0) X.1 X.2.1 dX0_isTrade_2 (by decide) ?_
  refine lv_aload_n X.1 X.2.1 dX0_isTrade_3 rfl (lv_at hl 0 rfl) ?_
  obtain ⟨b1, e2, h⟩ := m_bS h
  refine u_Gr X I e2 (C := RX0) (T := TX0) (N := 9) (ref := "SwapPress") in_X0 rfl (by decide) rfl rfl q235 (fun _ h => h) dX0_isTrade_4 ?_
  obtain ⟨b3, e4, h⟩ := m_bS h
  refine u_GrN X I e4 (C := RX1) (T := TX1) (N := 5) (ref := "SwapPress$State") (host := "SwapPress") in_X1 rfl (by decide) rfl rfl 4 rfl (fun _ h => h) dX0_isTrade_7 ?_
  obtain ⟨f5, e6, h⟩ := m_bS h
  obtain ⟨r8, e7, h⟩ := m_bS h
  refine u_callVp X hl.1 I hA (As := []) (rest := [.long 0, .long ((p0 : Int32).toInt64)]) (uk_J2_size l n D d u b3 _ e7) (u_clS e6) (C := RJ2) (T := TJ2) (N := 3) rfl 0 q853 q667 q668 q105 q669 uh_J2_size rfl rfl ⟨Nat.le_trans (Nat.le_of_ble_eq_true rfl) hR.1, Nat.le_trans (Nat.le_of_ble_eq_true rfl) hR.2⟩ hf (stk := [.int r8, .long 0, .long ((p0 : Int32).toInt64)]) rfl (Nat.le_of_ble_eq_true rfl) dX0_isTrade_10 (fun H locs I => ?_)
  refine lv_iconst (v := 1) X.1 X.2.1 dX0_isTrade_13 (by decide) ?_
  refine lv_isub X.1 X.2.1 dX0_isTrade_14 ?_
  refine lv_i2l X.1 X.2.1 dX0_isTrade_15 rfl ?_
  obtain ⟨r10, e9, h⟩ := m_bS h
  refine u_callSp X hl.1 I hA (As := [.long ((p0 : Int32).toInt64), .long 0, .long ((r8 - 1 : Int32).toInt64)]) (rest := []) (uk_X0_in l n D d u ((p0 : Int32).toInt64) 0 ((r8 - 1 : Int32).toInt64) _ e9) 3 q279 q280 q101 q281 uh_X0_in.2 rfl rfl ⟨Nat.le_trans (Nat.le_of_ble_eq_true rfl) hR.1, Nat.le_trans (Nat.le_of_ble_eq_true rfl) hR.2⟩ hf (stk := [.int r10]) rfl (Nat.le_of_ble_eq_true rfl) dX0_isTrade_16 (fun H locs I => ?_)
  obtain ⟨g11, h⟩ := m_gS h
  obtain rfl := m_e1 h
  exact hret H locs ls 19 g11 dX0_isTrade_19 I
end S_X0_isTrade
theorem uk_X0_isTrade (l : Launch) (n : Nat) (D : va_G) (d : UD) (u : UM) (t : Nat) (p0 : Int32) (r : Int32) (h : uf_X0_isTrade n d u t p0 = some r) : u_M l yX0_isTrade (ws_ yX0_isTrade cX0_isTrade 2 (some .boolean)) 1 25 (0, 0) D d u [.ref t, .int p0] (some (.int r)) u :=
  u_start (own := RX0) (lvl := [(0, .ref t), (1, .int p0)]) (by decide) rfl (Nat.le_of_ble_eq_true rfl) rfl (fun p e s m args below meth c ls X hr hlk hI hl hA I hC => uw_X0_isTrade X hA ⟨Nat.le_refl _, Nat.le_refl _⟩ ⟨Nat.zero_le _, Nat.zero_le _⟩ n u t p0 r h (fun H locs ls pc g hd I => u_zret X I hr hlk g ⟨rfl, rfl⟩ hd) _ _ ls I hl)

/-! SwapPress$State.<init>()V -/
def uf_X1_init_L47 (n : Nat) (d : UD) (v0 : Nat) (v1 : Int32) (u : UM) : Option (((Int32 × UM) ⊕ UM) × UC) :=
  m_b (u_fr d u 2 3 v0) (fun b40 => m_b (u_lnI d u 0 b40) (fun b42 => m_if ((b42 : Int32) ≤ (v1 : Int32)) (some (.inr u, (0, 0))) (m_b (u_fr d u 2 3 v0) (fun b45 => m_b (u_stI d u b45 v1 99999999) (fun w47 => some (.inl ((v1 + 1, (w47, u.2))), (0, 0)))))))
def uf_X1_init_L47l (n : Nat) (d : UD) (v0 : Nat) (x : (Int32 × UM)) : Option (UM × UC) := u_lp (fun (x : (Int32 × UM)) => uf_X1_init_L47 n d v0 x.1 x.2) n x
def uf_X1_init (n : Nat) (d : UD) (u : UM) (t : Nat) : Option ((Unit × UM) × UC) :=
  u_ac (1, 3) (m_b (some (u_nw u (.inr (13, [.int 0, .null, .int 0])))) (fun u2 => u_bc u2.2 (uf_J2_init n d u2 u.2) (fun r5 u6 => m_b (u_pf u6 2 0 t (.ref u.2)) (fun w10 => u_ac (1, 3) (m_b (some (u_nw (w10, u6.2) (.inr (13, [.int 0, .null, .int 0])))) (fun u13 => u_bc u13.2 (uf_J2_init n d u13 u6.2) (fun r16 u17 => m_b (u_pf u17 2 1 t (.ref u6.2)) (fun w21 => u_ac (1, 3) (m_b (some (u_nw (w21, u17.2) (.inr (13, [.int 0, .null, .int 0])))) (fun u24 => u_bc u24.2 (uf_J2_init n d u24 u17.2) (fun r27 u28 => m_b (u_pf u28 2 2 t (.ref u17.2)) (fun w32 => m_g (u_ln 64) (u_ac (1, (64 : Int32).toNatClampNeg) (m_b (some (u_nw (w32, u28.2) (.inl (d.1 0, (64 : Int32).toNatClampNeg, .inl (fun _ => 0))))) (fun u35 => m_b (u_pf u35 2 3 t (.ref u28.2)) (fun w38 => u_bl (uf_X1_init_L47l n d t ((0, (w38, u35.2)))) (fun u50 => some (((), u50), (0, 0)))))))))))))))))))
theorem uh_X1_init : yX1_init.cls = RX1 ∧ yX1_init.cls ≠ "java/lang/invoke/MethodHandle" ∧ yX1_init.cls ≠ "java/lang/invoke/VarHandle" ∧ (parseMethodDescriptor yX1_init.desc).map (fun d => d.parameters.length) = some 0 := by decide +kernel
section S_X1_init
variable {p : Program} {l : Launch} {e : Env} {R : Room} {s : State} {m : MethodId} {args : Array Value} {below : List Frame} {meth : Method} {c : Code} {Q : State → Prop} {D : va_G} {A : Nat → Prop} {d : UD}
theorem wuf_X1_init_L47 (X : u_X RX1 D A d p s m c cX1_init 2 args) (hA : ∀ q, s.heap.size ≤ q → A q) (hR : 4 ≤ R.frames ∧ 80 ≤ R.locals) (hI : meth.name = "<init>") (n : Nat) (v0 : Nat) (x : (Int32 × UM)) (z : UM) (C cr : UC) (hz : uf_X1_init_L47l n d v0 x = some (z, C)) (hE : (fun (z : UM) (C : UC) => ∀ (H : Heap) (locs : List Loc) (ls : Array Slot) (cells slots : Nat), u_left R cells slots C → u_I D A s.heap z H locs cells → lv_has ls 2 [] → W p l e R s m args below meth c H locs cells slots Q (F0 m 70 ls [])) z cr) : (fun (x : (Int32 × UM)) (C : UC) => ∀ (H : Heap) (locs : List Loc) (ls : Array Slot) (cells slots : Nat), u_left R cells slots C → u_I D A s.heap x.2 H locs cells → lv_has ls 2 [(0, .ref v0), (1, .int x.1)] → W p l e R s m args below meth c H locs cells slots Q (F0 m 47 ls [])) x (u_add C cr) := by
  refine u_lpW (G := fun (x : (Int32 × UM)) (C : UC) => ∀ (H : Heap) (locs : List Loc) (ls : Array Slot) (cells slots : Nat), u_left R cells slots C → u_I D A s.heap x.2 H locs cells → lv_has ls 2 [(0, .ref v0), (1, .int x.1)] → W p l e R s m args below meth c H locs cells slots Q (F0 m 47 ls [])) (E := fun (z : UM) (C : UC) => ∀ (H : Heap) (locs : List Loc) (ls : Array Slot) (cells slots : Nat), u_left R cells slots C → u_I D A s.heap z H locs cells → lv_has ls 2 [] → W p l e R s m args below meth c H locs cells slots Q (F0 m 70 ls [])) ?_ n x z C cr hz hE
  rintro ⟨v1, u⟩ r C cr h hr H locs ls cells slots hC I hl
  replace h : uf_X1_init_L47 n d v0 v1 u = some (r, C) := h
  unfold uf_X1_init_L47 at h
  refine lv_iload_n X.1 X.2.1 dX1_init_47 rfl (lv_at hl 1 rfl) ?_
  refine lv_aload_n X.1 X.2.1 dX1_init_48 rfl (lv_at hl 0 rfl) ?_
  obtain ⟨b40, e41, h⟩ := m_bS h
  refine u_Gr X I e41 (C := RX1) (T := TX1) (N := 5) (ref := "SwapPress$State") in_X1 rfl (by decide) rfl rfl q183 (fun _ h => h) dX1_init_49 ?_
  obtain ⟨b42, e43, h⟩ := m_bS h
  refine u_LN X I (by decide) e43 dX1_init_52 ?_
  refine lv_icmp_ge (tgt := 70) X.1 X.2.1 dX1_init_53 (by decide) (fun c44 => ?_) (fun c44 => ?_)
  · replace h := m_ifT c44 h
    obtain ⟨rfl, rfl⟩ := m_e3 h
    exact hr H locs ls _ _ (u_left0 hC) I (lv_sub hl [] rfl)
  · replace h := m_ifF c44 h
    refine lv_aload_n X.1 X.2.1 dX1_init_56 rfl (lv_at hl 0 rfl) ?_
    obtain ⟨b45, e46, h⟩ := m_bS h
    refine u_Gr X I e46 (C := RX1) (T := TX1) (N := 5) (ref := "SwapPress$State") in_X1 rfl (by decide) rfl rfl q183 (fun _ h => h) dX1_init_57 ?_
    refine lv_iload_n X.1 X.2.1 dX1_init_60 rfl (lv_at hl 1 rfl) ?_
    refine lv_ldc (v := 99999999) X.1 X.2.1 X.2.2.2.1 (X.2.2.1 _ q173) dX1_init_61 ?_
    obtain ⟨w47, e48, h⟩ := m_bS h
    refine u_SI X I e48 dX1_init_63 (fun H locs I => ?_)
    refine lv_iinc (v := v1 + 1) (lv' := [(1, .int (v1 + 1)), (0, .ref v0)]) X.1 X.2.1 dX1_init_64 hl (k := 1) rfl rfl (by decide) rfl (fun ls hl => ?_)
    refine lv_goto (tgt := 47) X.1 X.2.1 dX1_init_67 (by decide) ?_
    obtain ⟨rfl, rfl⟩ := m_e3 h
    exact hr H locs ls _ _ (u_left0 hC) I (lv_sub hl [1, 0] rfl)
theorem uw_X1_init (X : u_X RX1 D A d p s m c cX1_init 2 args) (hA : ∀ q, s.heap.size ≤ q → A q) (hR : 4 ≤ R.frames ∧ 80 ≤ R.locals) (hI : meth.name = "<init>") (n : Nat) (u : UM) (t : Nat) (r0 : Unit) (ur : UM) (C : UC) (h : uf_X1_init n d u t = some ((r0, ur), C)) (hret : ∀ (H : Heap) (locs : List Loc) (ls : Array Slot) (pc cells slots : Nat), decode cX1_init pc = .ok (.return_, 1) → u_left R cells slots (u_add (0, 0) (0, 0)) → u_I D A s.heap ur H locs cells → W p l e R s m args below meth c H locs cells slots Q (F0 m pc ls [])) : ∀ (H : Heap) (locs : List Loc) (ls : Array Slot) (cells slots : Nat), u_left R cells slots (u_add C (0, 0)) → u_I D A s.heap u H locs cells → lv_has ls 2 [(0, .ref t)] → W p l e R s m args below meth c H locs cells slots Q (F0 m 0 ls []) := by
  intro H locs ls cells slots hC I hl
  unfold uf_X1_init at h
  refine lv_aload_n X.1 X.2.1 dX1_init_0 rfl (lv_at hl 0 rfl) ?_
  refine u_obj X hl.1 q146 q139 q140 (Nat.le_trans (Nat.le_of_ble_eq_true rfl) hR.1) (Nat.le_trans (Nat.le_of_ble_eq_true rfl) hR.2) (Nat.le_of_ble_eq_true rfl) dX1_init_1 ?_
  refine lv_aload_n X.1 X.2.1 dX1_init_4 rfl (lv_at hl 0 rfl) ?_
  obtain ⟨C1, h, hq⟩ := u_acS h
  rw [hq] at hC
  obtain ⟨u2, e3, h⟩ := m_bS h
  refine u_NO X I hA 13 (C := RJ2) (T := TJ2) (N := 3) in_J2 tyJ2 tyJ2_ok q147 q148 q105 rfl (fs := [.int 0, .null, .int 0]) e3 (fun j hj => by match j, hj with | 0, _ => rfl | 1, _ => rfl | 2, _ => rfl) hC dX1_init_5 (fun H cells slots hC I => ?_)
  refine lv_dup X.1 X.2.1 dX1_init_8 rfl ?_
  obtain ⟨r5, u6, C7, C8, e4, z9, h, hq⟩ := u_bcS h
  rw [hq] at hC
  refine u_callI X hl.1 I hA (As := []) (rest := [.ref u.2, .ref t]) (uk_J2_init l n D d u2 u.2 _ _ e4) z9 0 q149 q150 q105 q151 rfl uh_J2_init.2 rfl rfl ⟨Nat.le_trans (Nat.le_of_ble_eq_true rfl) hR.1, Nat.le_trans (Nat.le_of_ble_eq_true rfl) hR.2⟩ hC (Nat.le_of_ble_eq_true rfl) dX1_init_9 (fun H locs cells slots hC I => ?_)
  obtain ⟨w10, e11, h⟩ := m_bS h
  refine u_PF X I e11 (C := RX1) (T := TX1) (N := 5) (ref := "SwapPress$State") in_X1 tyX1 tyX1_ok nmX1 rfl (by decide) rfl rfl q174 (fun _ h => h) rfl hI rfl rfl rfl dX1_init_12 (fun H locs I => ?_)
  refine lv_aload_n X.1 X.2.1 dX1_init_15 rfl (lv_at hl 0 rfl) ?_
  obtain ⟨C12, h, hq⟩ := u_acS h
  rw [hq] at hC
  obtain ⟨u13, e14, h⟩ := m_bS h
  refine u_NO X I hA 13 (C := RJ2) (T := TJ2) (N := 3) in_J2 tyJ2 tyJ2_ok q147 q148 q105 rfl (fs := [.int 0, .null, .int 0]) e14 (fun j hj => by match j, hj with | 0, _ => rfl | 1, _ => rfl | 2, _ => rfl) hC dX1_init_16 (fun H cells slots hC I => ?_)
  refine lv_dup X.1 X.2.1 dX1_init_19 rfl ?_
  obtain ⟨r16, u17, C18, C19, e15, z20, h, hq⟩ := u_bcS h
  rw [hq] at hC
  refine u_callI X hl.1 I hA (As := []) (rest := [.ref u6.2, .ref t]) (uk_J2_init l n D d u13 u6.2 _ _ e15) z20 0 q149 q150 q105 q151 rfl uh_J2_init.2 rfl rfl ⟨Nat.le_trans (Nat.le_of_ble_eq_true rfl) hR.1, Nat.le_trans (Nat.le_of_ble_eq_true rfl) hR.2⟩ hC (Nat.le_of_ble_eq_true rfl) dX1_init_20 (fun H locs cells slots hC I => ?_)
  obtain ⟨w21, e22, h⟩ := m_bS h
  refine u_PF X I e22 (C := RX1) (T := TX1) (N := 5) (ref := "SwapPress$State") in_X1 tyX1 tyX1_ok nmX1 rfl (by decide) rfl rfl q177 (fun _ h => h) rfl hI rfl rfl rfl dX1_init_23 (fun H locs I => ?_)
  refine lv_aload_n X.1 X.2.1 dX1_init_26 rfl (lv_at hl 0 rfl) ?_
  obtain ⟨C23, h, hq⟩ := u_acS h
  rw [hq] at hC
  obtain ⟨u24, e25, h⟩ := m_bS h
  refine u_NO X I hA 13 (C := RJ2) (T := TJ2) (N := 3) in_J2 tyJ2 tyJ2_ok q147 q148 q105 rfl (fs := [.int 0, .null, .int 0]) e25 (fun j hj => by match j, hj with | 0, _ => rfl | 1, _ => rfl | 2, _ => rfl) hC dX1_init_27 (fun H cells slots hC I => ?_)
  refine lv_dup X.1 X.2.1 dX1_init_30 rfl ?_
  obtain ⟨r27, u28, C29, C30, e26, z31, h, hq⟩ := u_bcS h
  rw [hq] at hC
  refine u_callI X hl.1 I hA (As := []) (rest := [.ref u17.2, .ref t]) (uk_J2_init l n D d u24 u17.2 _ _ e26) z31 0 q149 q150 q105 q151 rfl uh_J2_init.2 rfl rfl ⟨Nat.le_trans (Nat.le_of_ble_eq_true rfl) hR.1, Nat.le_trans (Nat.le_of_ble_eq_true rfl) hR.2⟩ hC (Nat.le_of_ble_eq_true rfl) dX1_init_31 (fun H locs cells slots hC I => ?_)
  obtain ⟨w32, e33, h⟩ := m_bS h
  refine u_PF X I e33 (C := RX1) (T := TX1) (N := 5) (ref := "SwapPress$State") in_X1 tyX1 tyX1_ok nmX1 rfl (by decide) rfl rfl q180 (fun _ h => h) rfl hI rfl rfl rfl dX1_init_34 (fun H locs I => ?_)
  refine lv_aload_n X.1 X.2.1 dX1_init_37 rfl (lv_at hl 0 rfl) ?_
  refine lv_bipush (v := 64) X.1 X.2.1 dX1_init_38 (by decide) ?_
  obtain ⟨g36, h⟩ := m_gS h
  obtain ⟨C34, h, hq⟩ := u_acS h
  rw [hq] at hC
  obtain ⟨u35, e37, h⟩ := m_bS h
  refine u_NP X I hA 0 (atype := .int) rfl q200 (x := (_, .inl (fun _ => 0))) (fun _ => rfl) (by decide) g36 e37 hC dX1_init_40 (fun H cells slots hC I => ?_)
  obtain ⟨w38, e39, h⟩ := m_bS h
  refine u_PF X I e39 (C := RX1) (T := TX1) (N := 5) (ref := "SwapPress$State") in_X1 tyX1 tyX1_ok nmX1 rfl (by decide) rfl rfl q183 (fun _ h => h) rfl hI rfl rfl rfl dX1_init_42 (fun H locs I => ?_)
  refine lv_iconst (v := 0) X.1 X.2.1 dX1_init_45 (by decide) ?_
  refine lv_istore_n (lv' := [(1, .int 0), (0, .ref t)]) X.1 X.2.1 dX1_init_46 rfl hl (by decide) rfl (fun ls hl => ?_)
  obtain ⟨u50, C51, C52, e49, h, hq⟩ := u_blS h
  rw [hq] at hC
  refine wuf_X1_init_L47 X hA hR hI n t _ _ _ _ e49 (fun H locs ls cells slots hC I hl => ?_) H locs ls _ _ (u_left2 hC) I (lv_sub hl [1, 0] rfl)
  obtain ⟨he, rfl⟩ := m_e3 h
  obtain ⟨rfl, rfl⟩ := m_e4 he
  exact hret H locs ls 70 _ _ dX1_init_70 hC I
end S_X1_init
theorem uk_X1_init (l : Launch) (n : Nat) (D : va_G) (d : UD) (u : UM) (t : Nat) (ur : UM) (C : UC) (h : uf_X1_init n d u t = some (((), ur), C)) : u_M l yX1_init (ws_ yX1_init cX1_init 2 none) 4 80 C D d u [.ref t] none ur :=
  u_start (own := RX1) (lvl := [(0, .ref t)]) (by decide) rfl (Nat.le_of_ble_eq_true rfl) rfl (fun p e s m args below meth c ls X hr hlk hI hl hA I hC => uw_X1_init X hA ⟨Nat.le_refl _, Nat.le_refl _⟩ hI n u t () ur C h (fun H locs ls pc cells slots hd hC I => u_vret X I hr hlk (u_leftE hC) hd) _ _ ls _ _ hC I hl)

/-! SwapPress$State.many()I -/
def uf_X1_many (n : Nat) (d : UD) (u : UM) (t : Nat) : Option Int32 :=
  m_b (u_fr d u 2 0 t) (fun b1 => m_b (u_cl u 13 b1) (fun f3 => m_b (uf_J2_size n d u b1) (fun r6 => some r6)))
theorem uh_X1_many : yX1_many.cls = RX1 ∧ yX1_many.cls ≠ "java/lang/invoke/MethodHandle" ∧ yX1_many.cls ≠ "java/lang/invoke/VarHandle" ∧ (parseMethodDescriptor yX1_many.desc).map (fun d => d.parameters.length) = some 0 := by decide +kernel
section S_X1_many
variable {p : Program} {l : Launch} {e : Env} {R : Room} {s : State} {m : MethodId} {args : Array Value} {below : List Frame} {meth : Method} {c : Code} {Q : State → Prop} {D : va_G} {A : Nat → Prop} {d : UD} {cells slots : Nat}
theorem uw_X1_many (X : u_X RX1 D A d p s m c cX1_many 1 args) (hA : ∀ q, s.heap.size ≤ q → A q) (hR : 1 ≤ R.frames ∧ 20 ≤ R.locals) (hf : cells ≤ R.cells ∧ slots ≤ R.slots) (n : Nat) (u : UM) (t : Nat) (r : Int32) (h : uf_X1_many n d u t = some r) (hret : ∀ (H : Heap) (locs : List Loc) (ls : Array Slot) (pc : Nat), decode cX1_many pc = .ok (.ireturn, 1) → u_I D A s.heap u H locs cells → W p l e R s m args below meth c H locs cells slots Q (F0 m pc ls [.int r])) : ∀ (H : Heap) (locs : List Loc) (ls : Array Slot), u_I D A s.heap u H locs cells → lv_has ls 1 [(0, .ref t)] → W p l e R s m args below meth c H locs cells slots Q (F0 m 0 ls []) := by
  intro H locs ls I hl
  unfold uf_X1_many at h
  refine lv_aload_n X.1 X.2.1 dX1_many_0 rfl (lv_at hl 0 rfl) ?_
  obtain ⟨b1, e2, h⟩ := m_bS h
  refine u_Gr X I e2 (C := RX1) (T := TX1) (N := 5) (ref := "SwapPress$State") in_X1 rfl (by decide) rfl rfl q174 (fun _ h => h) dX1_many_1 ?_
  obtain ⟨f3, e4, h⟩ := m_bS h
  obtain ⟨r6, e5, h⟩ := m_bS h
  refine u_callVp X hl.1 I hA (As := []) (rest := []) (uk_J2_size l n D d u b1 _ e5) (u_clS e4) (C := RJ2) (T := TJ2) (N := 3) rfl 0 q874 q667 q668 q105 q669 uh_J2_size rfl rfl ⟨Nat.le_trans (Nat.le_of_ble_eq_true rfl) hR.1, Nat.le_trans (Nat.le_of_ble_eq_true rfl) hR.2⟩ hf (stk := [.int r6]) rfl (Nat.le_of_ble_eq_true rfl) dX1_many_4 (fun H locs I => ?_)
  obtain rfl := m_e1 h
  exact hret H locs ls 7 dX1_many_7 I
end S_X1_many
theorem uk_X1_many (l : Launch) (n : Nat) (D : va_G) (d : UD) (u : UM) (t : Nat) (r : Int32) (h : uf_X1_many n d u t = some r) : u_M l yX1_many (ws_ yX1_many cX1_many 1 (some .int)) 1 20 (0, 0) D d u [.ref t] (some (.int r)) u :=
  u_start (own := RX1) (lvl := [(0, .ref t)]) (by decide) rfl (Nat.le_of_ble_eq_true rfl) rfl (fun p e s m args below meth c ls X hr hlk hI hl hA I hC => uw_X1_many X hA ⟨Nat.le_refl _, Nat.le_refl _⟩ ⟨Nat.zero_le _, Nat.zero_le _⟩ n u t r h (fun H locs ls pc hd I => u_iret X I hr hlk ⟨rfl, rfl⟩ hd) _ _ ls I hl)

/-! SwapPress$Ways.goes(I[I[J[J[J)Z -/
def uf_X2_goes_L8 (n : Nat) (d : UD) (v0 : Nat) (v1 : Int32) (v2 : Nat) (v3 : Nat) (v4 : Nat) (v5 : Nat) (v6 : Int32) (u : UM) : Option (((Int32 × UM) ⊕ UM) × UC) :=
  m_if ((v1 : Int32) ≤ (v6 : Int32)) (some (.inr u, (0, 0))) (m_b (u_ldL d u v5 v6) (fun b4 => m_b (u_cl u 3 v0) (fun f6 => u_bc u.2 (uf_X2_edge n d u v0 v6 (8 + v6) b4 0) (fun r9 u10 => some (.inl ((v6 + 1, u10)), (0, 0))))))
def uf_X2_goes_L8l (n : Nat) (d : UD) (v0 : Nat) (v1 : Int32) (v2 : Nat) (v3 : Nat) (v4 : Nat) (v5 : Nat) (x : (Int32 × UM)) : Option (UM × UC) := u_lp (fun (x : (Int32 × UM)) => uf_X2_goes_L8 n d v0 v1 v2 v3 v4 v5 x.1 x.2) n x
def uf_X2_goes_J114 (n : Nat) (d : UD) (u : UM) (v0 : Nat) (v1 : Int32) (v2 : Nat) (v3 : Nat) (v4 : Nat) (v6 : Int32) (v7 : Int32) : Option (((Int32 × UM) ⊕ UM) × UC) :=
  some (.inl ((v7 + 1, u)), (0, 0))
def uf_X2_goes_L49 (n : Nat) (d : UD) (v0 : Nat) (v1 : Int32) (v2 : Nat) (v3 : Nat) (v4 : Nat) (v6 : Int32) (v7 : Int32) (u : UM) : Option (((Int32 × UM) ⊕ UM) × UC) :=
  m_if ((v1 : Int32) ≤ (v7 : Int32)) (some (.inr u, (0, 0))) (m_if ((v6 : Int32) = (v7 : Int32)) (uf_X2_goes_J114 n d u v0 v1 v2 v3 v4 v6 v7) (m_b (u_fr d u 3 6 v0) (fun b19 => m_b (u_fi d u 3 7 v0) (fun b21 => m_b (u_stI d u b19 ((8 * v6) + v7) b21) (fun w23 => m_b (u_ldL d (w23, u.2) v3 ((8 * v6) + v7)) (fun b25 => m_b (u_ldL d (w23, u.2) v4 ((8 * v6) + v7)) (fun b27 => m_b (u_cl (w23, u.2) 3 v0) (fun f29 => u_bc u.2 (uf_X2_edge n d (w23, u.2) v0 (8 + v6) v7 b25 b27) (fun r32 u33 => uf_X2_goes_J114 n d u33 v0 v1 v2 v3 v4 v6 v7)))))))))
def uf_X2_goes_L49l (n : Nat) (d : UD) (v0 : Nat) (v1 : Int32) (v2 : Nat) (v3 : Nat) (v4 : Nat) (v6 : Int32) (x : (Int32 × UM)) : Option (UM × UC) := u_lp (fun (x : (Int32 × UM)) => uf_X2_goes_L49 n d v0 v1 v2 v3 v4 v6 x.1 x.2) n x
def uf_X2_goes_L40 (n : Nat) (d : UD) (v0 : Nat) (v1 : Int32) (v2 : Nat) (v3 : Nat) (v4 : Nat) (v6 : Int32) (u : UM) : Option (((Int32 × UM) ⊕ UM) × UC) :=
  m_if ((v1 : Int32) ≤ (v6 : Int32)) (some (.inr u, (0, 0))) (u_bl (uf_X2_goes_L49l n d v0 v1 v2 v3 v4 v6 ((0, u))) (fun u38 => some (.inl ((v6 + 1, u38)), (0, 0))))
def uf_X2_goes_L40l (n : Nat) (d : UD) (v0 : Nat) (v1 : Int32) (v2 : Nat) (v3 : Nat) (v4 : Nat) (x : (Int32 × UM)) : Option (UM × UC) := u_lp (fun (x : (Int32 × UM)) => uf_X2_goes_L40 n d v0 v1 v2 v3 v4 x.1 x.2) n x
def uf_X2_goes_J204 (n : Nat) (d : UD) (u : UM) (v0 : Nat) (v1 : Int32) (v2 : Nat) (v6 : Int64) (v8 : Int32) : Option (((Int64 × Int32 × UM) ⊕ (Int64 × UM)) × UC) :=
  some (.inl ((v6, v8 + 1, u)), (0, 0))
def uf_X2_goes_J190 (n : Nat) (d : UD) (u : UM) (v0 : Nat) (v1 : Int32) (v2 : Nat) (v6 : Int64) (v8 : Int32) : Option (((Int64 × Int32 × UM) ⊕ (Int64 × UM)) × UC) :=
  m_b (u_ldI d u v2 v8) (fun b60 => m_b (some (v6 + ((if (0 : Int32) < (b60 : Int32) then (b60 : Int32) else (0 : Int32) : Int32).toInt64))) (fun y62 => uf_X2_goes_J204 n d u v0 v1 v2 y62 v8))
def uf_X2_goes_L132 (n : Nat) (d : UD) (v0 : Nat) (v1 : Int32) (v2 : Nat) (v6 : Int64) (v8 : Int32) (u : UM) : Option (((Int64 × Int32 × UM) ⊕ (Int64 × UM)) × UC) :=
  m_if ((v1 : Int32) ≤ (v8 : Int32)) (some (.inr ((v6, u)), (0, 0))) (m_b (u_ldI d u v2 v8) (fun b44 => m_if ((b44 : Int32) = 0) (uf_X2_goes_J204 n d u v0 v1 v2 v6 v8) (m_b (u_ldI d u v2 v8) (fun b47 => m_if ((b47 : Int32) ≤ 0) (m_b (u_ldI d u v2 v8) (fun b50 => m_b (u_cl u 3 v0) (fun f52 => u_bc u.2 (uf_X2_edge n d u v0 v8 17 ((-b50 : Int32).toInt64) 0) (fun r55 u56 => uf_X2_goes_J190 n d u56 v0 v1 v2 v6 v8)))) (m_b (u_ldI d u v2 v8) (fun b64 => m_b (u_cl u 3 v0) (fun f66 => u_bc u.2 (uf_X2_edge n d u v0 16 (8 + v8) ((b64 : Int32).toInt64) 0) (fun r69 u70 => uf_X2_goes_J190 n d u70 v0 v1 v2 v6 v8))))))))
def uf_X2_goes_L132l (n : Nat) (d : UD) (v0 : Nat) (v1 : Int32) (v2 : Nat) (x : (Int64 × Int32 × UM)) : Option ((Int64 × UM) × UC) := u_lp (fun (x : (Int64 × Int32 × UM)) => uf_X2_goes_L132 n d v0 v1 v2 x.1 x.2.1 x.2.2) n x
def uf_X2_goes_L210 (n : Nat) (d : UD) (v0 : Nat) (v6 : Int64) (u : UM) : Option (((Int64 × UM) ⊕ (UM ⊕ UM)) × UC) :=
  m_if ((lg_cmp v6 0 : Int32) ≤ 0) (some (.inr ((.inr u)), (0, 0))) (m_b (u_cl u 3 v0) (fun f78 => u_bc u.2 (uf_X2_goesOnce n d u v0) (fun r81 u82 => m_if ((lg_cmp r81 0 : Int32) = 0) (some (.inr ((.inl u82)), (0, 0))) (some (.inl ((v6 - r81, u82)), (0, 0))))))
def uf_X2_goes_L210l (n : Nat) (d : UD) (v0 : Nat) (x : (Int64 × UM)) : Option ((UM ⊕ UM) × UC) := u_lp (fun (x : (Int64 × UM)) => uf_X2_goes_L210 n d v0 x.1 x.2) n x
def uf_X2_goes (n : Nat) (d : UD) (u : UM) (t : Nat) (p0 : Int32) (p1 : Nat) (p2 : Nat) (p3 : Nat) (p4 : Nat) : Option ((Int32 × UM) × UC) :=
  m_b (u_pf u 3 7 t (.int 0)) (fun w1 => u_bl (uf_X2_goes_L8l n d t p0 p1 p2 p3 p4 ((0, (w1, u.2)))) (fun u15 => u_bl (uf_X2_goes_L40l n d t p0 p1 p2 p3 ((0, u15))) (fun u42 => u_bl (uf_X2_goes_L132l n d t p0 p1 ((0, 0, u42))) (fun y95 => u_bl (uf_X2_goes_L210l n d t ((y95.1, y95.2))) (fun y92 => m_s y92 (fun u88 => m_g (m_01 0) (some ((0, u88), (0, 0)))) (fun u90 => m_g (m_01 1) (some ((1, u90), (0, 0)))))))))
theorem uh_X2_goes : yX2_goes.cls = RX2 ∧ yX2_goes.cls ≠ "java/lang/invoke/MethodHandle" ∧ yX2_goes.cls ≠ "java/lang/invoke/VarHandle" ∧ (parseMethodDescriptor yX2_goes.desc).map (fun d => d.parameters.length) = some 5 := by decide +kernel
section S_X2_goes
variable {p : Program} {l : Launch} {e : Env} {R : Room} {s : State} {m : MethodId} {args : Array Value} {below : List Frame} {meth : Method} {c : Code} {Q : State → Prop} {D : va_G} {A : Nat → Prop} {d : UD}
theorem wuf_X2_goes_L8 (X : u_X RX2 D A d p s m c cX2_goes 10 args) (hA : ∀ q, s.heap.size ≤ q → A q) (hR : 2 ≤ R.frames ∧ 64 ≤ R.locals) (n : Nat) (v0 : Nat) (v1 : Int32) (v2 : Nat) (v3 : Nat) (v4 : Nat) (v5 : Nat) (x : (Int32 × UM)) (z : UM) (C cr : UC) (hz : uf_X2_goes_L8l n d v0 v1 v2 v3 v4 v5 x = some (z, C)) (hE : (fun (z : UM) (C : UC) => ∀ (H : Heap) (locs : List Loc) (ls : Array Slot) (cells slots : Nat), u_left R cells slots C → u_I D A s.heap z H locs cells → lv_has ls 10 [(0, .ref v0), (1, .int v1), (2, .ref v2), (3, .ref v3), (4, .ref v4)] → W p l e R s m args below meth c H locs cells slots Q (F0 m 37 ls [])) z cr) : (fun (x : (Int32 × UM)) (C : UC) => ∀ (H : Heap) (locs : List Loc) (ls : Array Slot) (cells slots : Nat), u_left R cells slots C → u_I D A s.heap x.2 H locs cells → lv_has ls 10 [(0, .ref v0), (1, .int v1), (2, .ref v2), (3, .ref v3), (4, .ref v4), (5, .ref v5), (6, .int x.1)] → W p l e R s m args below meth c H locs cells slots Q (F0 m 8 ls [])) x (u_add C cr) := by
  refine u_lpW (G := fun (x : (Int32 × UM)) (C : UC) => ∀ (H : Heap) (locs : List Loc) (ls : Array Slot) (cells slots : Nat), u_left R cells slots C → u_I D A s.heap x.2 H locs cells → lv_has ls 10 [(0, .ref v0), (1, .int v1), (2, .ref v2), (3, .ref v3), (4, .ref v4), (5, .ref v5), (6, .int x.1)] → W p l e R s m args below meth c H locs cells slots Q (F0 m 8 ls [])) (E := fun (z : UM) (C : UC) => ∀ (H : Heap) (locs : List Loc) (ls : Array Slot) (cells slots : Nat), u_left R cells slots C → u_I D A s.heap z H locs cells → lv_has ls 10 [(0, .ref v0), (1, .int v1), (2, .ref v2), (3, .ref v3), (4, .ref v4)] → W p l e R s m args below meth c H locs cells slots Q (F0 m 37 ls [])) ?_ n x z C cr hz hE
  rintro ⟨v6, u⟩ r C cr h hr H locs ls cells slots hC I hl
  replace h : uf_X2_goes_L8 n d v0 v1 v2 v3 v4 v5 v6 u = some (r, C) := h
  unfold uf_X2_goes_L8 at h
  refine lv_iload X.1 X.2.1 dX2_goes_8 (lv_at hl 6 rfl) ?_
  refine lv_iload_n X.1 X.2.1 dX2_goes_10 rfl (lv_at hl 1 rfl) ?_
  refine lv_icmp_ge (tgt := 37) X.1 X.2.1 dX2_goes_11 (by decide) (fun c3 => ?_) (fun c3 => ?_)
  · replace h := m_ifT c3 h
    obtain ⟨rfl, rfl⟩ := m_e3 h
    exact hr H locs ls _ _ (u_left0 hC) I (lv_sub hl [0, 1, 2, 3, 4] rfl)
  · replace h := m_ifF c3 h
    refine lv_aload_n X.1 X.2.1 dX2_goes_14 rfl (lv_at hl 0 rfl) ?_
    refine lv_iload X.1 X.2.1 dX2_goes_15 (lv_at hl 6 rfl) ?_
    refine lv_bipush (v := 8) X.1 X.2.1 dX2_goes_17 (by decide) ?_
    refine lv_iload X.1 X.2.1 dX2_goes_19 (lv_at hl 6 rfl) ?_
    refine lv_iadd X.1 X.2.1 dX2_goes_21 ?_
    refine lv_aload X.1 X.2.1 dX2_goes_22 (lv_at hl 5 rfl) ?_
    refine lv_iload X.1 X.2.1 dX2_goes_24 (lv_at hl 6 rfl) ?_
    obtain ⟨b4, e5, h⟩ := m_bS h
    refine u_LL X I e5 dX2_goes_26 ?_
    refine lv_lconst (v := 0) X.1 X.2.1 dX2_goes_27 (by decide) ?_
    obtain ⟨f6, e7, h⟩ := m_bS h
    obtain ⟨r9, u10, C11, C12, e8, z13, h, hq⟩ := u_bcS h
    rw [hq] at hC
    refine u_callV X hl.1 I hA (As := [.int v6, .int (8 + v6), .long b4, .long 0]) (rest := []) (uk_X2_edge l n D d u v0 v6 (8 + v6) b4 0 _ _ e8) z13 (u_clS e7) (C := RX2) (T := TX2) (N := 8) rfl 4 q1129 q1131 qs29 q106 q1132 uh_X2_edge rfl rfl ⟨Nat.le_trans (Nat.le_of_ble_eq_true rfl) hR.1, Nat.le_trans (Nat.le_of_ble_eq_true rfl) hR.2⟩ hC (stk := []) rfl (Nat.le_of_ble_eq_true rfl) dX2_goes_28 (fun H locs cells slots hC I => ?_)
    refine lv_iinc (v := v6 + 1) (lv' := [(6, .int (v6 + 1)), (0, .ref v0), (1, .int v1), (2, .ref v2), (3, .ref v3), (4, .ref v4), (5, .ref v5)]) X.1 X.2.1 dX2_goes_31 hl (k := 6) rfl rfl (by decide) rfl (fun ls hl => ?_)
    refine lv_goto (tgt := 8) X.1 X.2.1 dX2_goes_34 (by decide) ?_
    obtain ⟨rfl, rfl⟩ := m_e3 h
    exact hr H locs ls _ _ (u_left0 hC) I (lv_sub hl [1, 2, 3, 4, 5, 6, 0] rfl)
theorem wuf_X2_goes_L49 (X : u_X RX2 D A d p s m c cX2_goes 10 args) (hA : ∀ q, s.heap.size ≤ q → A q) (hR : 2 ≤ R.frames ∧ 64 ≤ R.locals) (n : Nat) (v0 : Nat) (v1 : Int32) (v2 : Nat) (v3 : Nat) (v4 : Nat) (v6 : Int32) (x : (Int32 × UM)) (z : UM) (C cr : UC) (hz : uf_X2_goes_L49l n d v0 v1 v2 v3 v4 v6 x = some (z, C)) (hE : (fun (z : UM) (C : UC) => ∀ (H : Heap) (locs : List Loc) (ls : Array Slot) (cells slots : Nat), u_left R cells slots C → u_I D A s.heap z H locs cells → lv_has ls 10 [(0, .ref v0), (1, .int v1), (2, .ref v2), (3, .ref v3), (4, .ref v4), (6, .int v6)] → W p l e R s m args below meth c H locs cells slots Q (F0 m 120 ls [])) z cr) : (fun (x : (Int32 × UM)) (C : UC) => ∀ (H : Heap) (locs : List Loc) (ls : Array Slot) (cells slots : Nat), u_left R cells slots C → u_I D A s.heap x.2 H locs cells → lv_has ls 10 [(0, .ref v0), (1, .int v1), (2, .ref v2), (3, .ref v3), (4, .ref v4), (6, .int v6), (7, .int x.1)] → W p l e R s m args below meth c H locs cells slots Q (F0 m 49 ls [])) x (u_add C cr) := by
  refine u_lpW (G := fun (x : (Int32 × UM)) (C : UC) => ∀ (H : Heap) (locs : List Loc) (ls : Array Slot) (cells slots : Nat), u_left R cells slots C → u_I D A s.heap x.2 H locs cells → lv_has ls 10 [(0, .ref v0), (1, .int v1), (2, .ref v2), (3, .ref v3), (4, .ref v4), (6, .int v6), (7, .int x.1)] → W p l e R s m args below meth c H locs cells slots Q (F0 m 49 ls [])) (E := fun (z : UM) (C : UC) => ∀ (H : Heap) (locs : List Loc) (ls : Array Slot) (cells slots : Nat), u_left R cells slots C → u_I D A s.heap z H locs cells → lv_has ls 10 [(0, .ref v0), (1, .int v1), (2, .ref v2), (3, .ref v3), (4, .ref v4), (6, .int v6)] → W p l e R s m args below meth c H locs cells slots Q (F0 m 120 ls [])) ?_ n x z C cr hz hE
  rintro ⟨v7, u⟩ r C cr h hr H locs ls cells slots hC I hl
  replace h : uf_X2_goes_L49 n d v0 v1 v2 v3 v4 v6 v7 u = some (r, C) := h
  have k114 : ∀ (u : UM) (v7 : Int32) (H : Heap) (locs : List Loc) (ls : Array Slot) (cells slots : Nat) (C : UC), uf_X2_goes_J114 n d u v0 v1 v2 v3 v4 v6 v7 = some (r, C) → u_left R cells slots (u_add C cr) → u_I D A s.heap u H locs cells → lv_has ls 10 [(0, .ref v0), (1, .int v1), (2, .ref v2), (3, .ref v3), (4, .ref v4), (6, .int v6), (7, .int v7)] → W p l e R s m args below meth c H locs cells slots Q (F0 m 114 ls []) := by
    intro u v7 H locs ls cells slots C h hC I hl
    unfold uf_X2_goes_J114 at h
    refine lv_iinc (v := v7 + 1) (lv' := [(7, .int (v7 + 1)), (0, .ref v0), (1, .int v1), (2, .ref v2), (3, .ref v3), (4, .ref v4), (6, .int v6)]) X.1 X.2.1 dX2_goes_114 hl (k := 6) rfl rfl (by decide) rfl (fun ls hl => ?_)
    refine lv_goto (tgt := 49) X.1 X.2.1 dX2_goes_117 (by decide) ?_
    obtain ⟨rfl, rfl⟩ := m_e3 h
    exact hr H locs ls _ _ (u_left0 hC) I (lv_sub hl [1, 2, 3, 4, 5, 6, 0] rfl)
  unfold uf_X2_goes_L49 at h
  refine lv_iload X.1 X.2.1 dX2_goes_49 (lv_at hl 6 rfl) ?_
  refine lv_iload_n X.1 X.2.1 dX2_goes_51 rfl (lv_at hl 1 rfl) ?_
  refine lv_icmp_ge (tgt := 120) X.1 X.2.1 dX2_goes_52 (by decide) (fun c17 => ?_) (fun c17 => ?_)
  · replace h := m_ifT c17 h
    obtain ⟨rfl, rfl⟩ := m_e3 h
    exact hr H locs ls _ _ (u_left0 hC) I (lv_sub hl [0, 1, 2, 3, 4, 5] rfl)
  · replace h := m_ifF c17 h
    refine lv_iload X.1 X.2.1 dX2_goes_55 (lv_at hl 5 rfl) ?_
    refine lv_iload X.1 X.2.1 dX2_goes_57 (lv_at hl 6 rfl) ?_
    refine lv_icmp_ne (tgt := 65) X.1 X.2.1 dX2_goes_59 (by decide) (fun c18 => ?_) (fun c18 => ?_)
    · replace h := m_ifF c18 h
      refine lv_aload_n X.1 X.2.1 dX2_goes_65 rfl (lv_at hl 0 rfl) ?_
      obtain ⟨b19, e20, h⟩ := m_bS h
      refine u_Gr X I e20 (C := RX2) (T := TX2) (N := 8) (ref := "SwapPress$Ways") in_X2 rfl (by decide) rfl rfl q215 (fun _ h => h) dX2_goes_66 ?_
      refine lv_bipush (v := 8) X.1 X.2.1 dX2_goes_69 (by decide) ?_
      refine lv_iload X.1 X.2.1 dX2_goes_71 (lv_at hl 5 rfl) ?_
      refine lv_imul X.1 X.2.1 dX2_goes_73 ?_
      refine lv_iload X.1 X.2.1 dX2_goes_74 (lv_at hl 6 rfl) ?_
      refine lv_iadd X.1 X.2.1 dX2_goes_76 ?_
      refine lv_aload_n X.1 X.2.1 dX2_goes_77 rfl (lv_at hl 0 rfl) ?_
      obtain ⟨b21, e22, h⟩ := m_bS h
      refine u_Gi X I e22 (C := RX2) (T := TX2) (N := 8) (ref := "SwapPress$Ways") in_X2 rfl (by decide) rfl rfl q216 (fun _ h => h) dX2_goes_78 ?_
      obtain ⟨w23, e24, h⟩ := m_bS h
      refine u_SI X I e24 dX2_goes_81 (fun H locs I => ?_)
      refine lv_aload_n X.1 X.2.1 dX2_goes_82 rfl (lv_at hl 0 rfl) ?_
      refine lv_bipush (v := 8) X.1 X.2.1 dX2_goes_83 (by decide) ?_
      refine lv_iload X.1 X.2.1 dX2_goes_85 (lv_at hl 5 rfl) ?_
      refine lv_iadd X.1 X.2.1 dX2_goes_87 ?_
      refine lv_iload X.1 X.2.1 dX2_goes_88 (lv_at hl 6 rfl) ?_
      refine lv_aload_n X.1 X.2.1 dX2_goes_90 rfl (lv_at hl 3 rfl) ?_
      refine lv_bipush (v := 8) X.1 X.2.1 dX2_goes_91 (by decide) ?_
      refine lv_iload X.1 X.2.1 dX2_goes_93 (lv_at hl 5 rfl) ?_
      refine lv_imul X.1 X.2.1 dX2_goes_95 ?_
      refine lv_iload X.1 X.2.1 dX2_goes_96 (lv_at hl 6 rfl) ?_
      refine lv_iadd X.1 X.2.1 dX2_goes_98 ?_
      obtain ⟨b25, e26, h⟩ := m_bS h
      refine u_LL X I e26 dX2_goes_99 ?_
      refine lv_aload X.1 X.2.1 dX2_goes_100 (lv_at hl 4 rfl) ?_
      refine lv_bipush (v := 8) X.1 X.2.1 dX2_goes_102 (by decide) ?_
      refine lv_iload X.1 X.2.1 dX2_goes_104 (lv_at hl 5 rfl) ?_
      refine lv_imul X.1 X.2.1 dX2_goes_106 ?_
      refine lv_iload X.1 X.2.1 dX2_goes_107 (lv_at hl 6 rfl) ?_
      refine lv_iadd X.1 X.2.1 dX2_goes_109 ?_
      obtain ⟨b27, e28, h⟩ := m_bS h
      refine u_LL X I e28 dX2_goes_110 ?_
      obtain ⟨f29, e30, h⟩ := m_bS h
      obtain ⟨r32, u33, C34, C35, e31, z36, h, hq⟩ := u_bcS h
      rw [hq] at hC
      refine u_callV X hl.1 I hA (As := [.int (8 + v6), .int v7, .long b25, .long b27]) (rest := []) (uk_X2_edge l n D d (w23, u.2) v0 (8 + v6) v7 b25 b27 _ _ e31) z36 (u_clS e30) (C := RX2) (T := TX2) (N := 8) rfl 4 q1129 q1131 qs29 q106 q1132 uh_X2_edge rfl rfl ⟨Nat.le_trans (Nat.le_of_ble_eq_true rfl) hR.1, Nat.le_trans (Nat.le_of_ble_eq_true rfl) hR.2⟩ hC (stk := []) rfl (Nat.le_of_ble_eq_true rfl) dX2_goes_111 (fun H locs cells slots hC I => ?_)
      exact k114 u33 v7 H locs ls _ _ _ h hC I (lv_sub hl [0, 1, 2, 3, 4, 5, 6] rfl)
    · replace h := m_ifT c18 h
      refine lv_goto (tgt := 114) X.1 X.2.1 dX2_goes_62 (by decide) ?_
      exact k114 u v7 H locs ls _ _ _ h hC I (lv_sub hl [0, 1, 2, 3, 4, 5, 6] rfl)
theorem wuf_X2_goes_L40 (X : u_X RX2 D A d p s m c cX2_goes 10 args) (hA : ∀ q, s.heap.size ≤ q → A q) (hR : 2 ≤ R.frames ∧ 64 ≤ R.locals) (n : Nat) (v0 : Nat) (v1 : Int32) (v2 : Nat) (v3 : Nat) (v4 : Nat) (x : (Int32 × UM)) (z : UM) (C cr : UC) (hz : uf_X2_goes_L40l n d v0 v1 v2 v3 v4 x = some (z, C)) (hE : (fun (z : UM) (C : UC) => ∀ (H : Heap) (locs : List Loc) (ls : Array Slot) (cells slots : Nat), u_left R cells slots C → u_I D A s.heap z H locs cells → lv_has ls 10 [(0, .ref v0), (1, .int v1), (2, .ref v2)] → W p l e R s m args below meth c H locs cells slots Q (F0 m 126 ls [])) z cr) : (fun (x : (Int32 × UM)) (C : UC) => ∀ (H : Heap) (locs : List Loc) (ls : Array Slot) (cells slots : Nat), u_left R cells slots C → u_I D A s.heap x.2 H locs cells → lv_has ls 10 [(0, .ref v0), (1, .int v1), (2, .ref v2), (3, .ref v3), (4, .ref v4), (6, .int x.1)] → W p l e R s m args below meth c H locs cells slots Q (F0 m 40 ls [])) x (u_add C cr) := by
  refine u_lpW (G := fun (x : (Int32 × UM)) (C : UC) => ∀ (H : Heap) (locs : List Loc) (ls : Array Slot) (cells slots : Nat), u_left R cells slots C → u_I D A s.heap x.2 H locs cells → lv_has ls 10 [(0, .ref v0), (1, .int v1), (2, .ref v2), (3, .ref v3), (4, .ref v4), (6, .int x.1)] → W p l e R s m args below meth c H locs cells slots Q (F0 m 40 ls [])) (E := fun (z : UM) (C : UC) => ∀ (H : Heap) (locs : List Loc) (ls : Array Slot) (cells slots : Nat), u_left R cells slots C → u_I D A s.heap z H locs cells → lv_has ls 10 [(0, .ref v0), (1, .int v1), (2, .ref v2)] → W p l e R s m args below meth c H locs cells slots Q (F0 m 126 ls [])) ?_ n x z C cr hz hE
  rintro ⟨v6, u⟩ r C cr h hr H locs ls cells slots hC I hl
  replace h : uf_X2_goes_L40 n d v0 v1 v2 v3 v4 v6 u = some (r, C) := h
  unfold uf_X2_goes_L40 at h
  refine lv_iload X.1 X.2.1 dX2_goes_40 (lv_at hl 5 rfl) ?_
  refine lv_iload_n X.1 X.2.1 dX2_goes_42 rfl (lv_at hl 1 rfl) ?_
  refine lv_icmp_ge (tgt := 126) X.1 X.2.1 dX2_goes_43 (by decide) (fun c16 => ?_) (fun c16 => ?_)
  · replace h := m_ifT c16 h
    obtain ⟨rfl, rfl⟩ := m_e3 h
    exact hr H locs ls _ _ (u_left0 hC) I (lv_sub hl [0, 1, 2] rfl)
  · replace h := m_ifF c16 h
    refine lv_iconst (v := 0) X.1 X.2.1 dX2_goes_46 (by decide) ?_
    refine lv_istore (lv' := [(7, .int 0), (0, .ref v0), (1, .int v1), (2, .ref v2), (3, .ref v3), (4, .ref v4), (6, .int v6)]) X.1 X.2.1 dX2_goes_47 hl (by decide) rfl (fun ls hl => ?_)
    obtain ⟨u38, C39, C40, e37, h, hq⟩ := u_blS h
    rw [hq] at hC
    refine wuf_X2_goes_L49 X hA hR n v0 v1 v2 v3 v4 v6 _ _ _ _ e37 (fun H locs ls cells slots hC I hl => ?_) H locs ls _ _ (u_left2 hC) I (lv_sub hl [1, 2, 3, 4, 5, 6, 0] rfl)
    refine lv_iinc (v := v6 + 1) (lv' := [(6, .int (v6 + 1)), (0, .ref v0), (1, .int v1), (2, .ref v2), (3, .ref v3), (4, .ref v4)]) X.1 X.2.1 dX2_goes_120 hl (k := 5) rfl rfl (by decide) rfl (fun ls hl => ?_)
    refine lv_goto (tgt := 40) X.1 X.2.1 dX2_goes_123 (by decide) ?_
    obtain ⟨rfl, rfl⟩ := m_e3 h
    exact hr H locs ls _ _ (u_left0 hC) I (lv_sub hl [1, 2, 3, 4, 5, 0] rfl)
theorem wuf_X2_goes_L132 (X : u_X RX2 D A d p s m c cX2_goes 10 args) (hA : ∀ q, s.heap.size ≤ q → A q) (hR : 2 ≤ R.frames ∧ 64 ≤ R.locals) (n : Nat) (v0 : Nat) (v1 : Int32) (v2 : Nat) (x : (Int64 × Int32 × UM)) (z : (Int64 × UM)) (C cr : UC) (hz : uf_X2_goes_L132l n d v0 v1 v2 x = some (z, C)) (hE : (fun (z : (Int64 × UM)) (C : UC) => ∀ (H : Heap) (locs : List Loc) (ls : Array Slot) (cells slots : Nat), u_left R cells slots C → u_I D A s.heap z.2 H locs cells → lv_has ls 10 [(0, .ref v0), (6, .long z.1)] → W p l e R s m args below meth c H locs cells slots Q (F0 m 210 ls [])) z cr) : (fun (x : (Int64 × Int32 × UM)) (C : UC) => ∀ (H : Heap) (locs : List Loc) (ls : Array Slot) (cells slots : Nat), u_left R cells slots C → u_I D A s.heap x.2.2 H locs cells → lv_has ls 10 [(0, .ref v0), (1, .int v1), (2, .ref v2), (6, .long x.1), (8, .int x.2.1)] → W p l e R s m args below meth c H locs cells slots Q (F0 m 132 ls [])) x (u_add C cr) := by
  refine u_lpW (G := fun (x : (Int64 × Int32 × UM)) (C : UC) => ∀ (H : Heap) (locs : List Loc) (ls : Array Slot) (cells slots : Nat), u_left R cells slots C → u_I D A s.heap x.2.2 H locs cells → lv_has ls 10 [(0, .ref v0), (1, .int v1), (2, .ref v2), (6, .long x.1), (8, .int x.2.1)] → W p l e R s m args below meth c H locs cells slots Q (F0 m 132 ls [])) (E := fun (z : (Int64 × UM)) (C : UC) => ∀ (H : Heap) (locs : List Loc) (ls : Array Slot) (cells slots : Nat), u_left R cells slots C → u_I D A s.heap z.2 H locs cells → lv_has ls 10 [(0, .ref v0), (6, .long z.1)] → W p l e R s m args below meth c H locs cells slots Q (F0 m 210 ls [])) ?_ n x z C cr hz hE
  rintro ⟨v6, v8, u⟩ r C cr h hr H locs ls cells slots hC I hl
  replace h : uf_X2_goes_L132 n d v0 v1 v2 v6 v8 u = some (r, C) := h
  have k204 : ∀ (u : UM) (v6 : Int64) (v8 : Int32) (H : Heap) (locs : List Loc) (ls : Array Slot) (cells slots : Nat) (C : UC), uf_X2_goes_J204 n d u v0 v1 v2 v6 v8 = some (r, C) → u_left R cells slots (u_add C cr) → u_I D A s.heap u H locs cells → lv_has ls 10 [(0, .ref v0), (1, .int v1), (2, .ref v2), (6, .long v6), (8, .int v8)] → W p l e R s m args below meth c H locs cells slots Q (F0 m 204 ls []) := by
    intro u v6 v8 H locs ls cells slots C h hC I hl
    unfold uf_X2_goes_J204 at h
    refine lv_iinc (v := v8 + 1) (lv' := [(8, .int (v8 + 1)), (0, .ref v0), (1, .int v1), (2, .ref v2), (6, .long v6)]) X.1 X.2.1 dX2_goes_204 hl (k := 4) rfl rfl (by decide) rfl (fun ls hl => ?_)
    refine lv_goto (tgt := 132) X.1 X.2.1 dX2_goes_207 (by decide) ?_
    obtain ⟨rfl, rfl⟩ := m_e3 h
    exact hr H locs ls _ _ (u_left0 hC) I (lv_sub hl [1, 2, 3, 4, 0] rfl)
  have k190 : ∀ (u : UM) (v6 : Int64) (v8 : Int32) (H : Heap) (locs : List Loc) (ls : Array Slot) (cells slots : Nat) (C : UC), uf_X2_goes_J190 n d u v0 v1 v2 v6 v8 = some (r, C) → u_left R cells slots (u_add C cr) → u_I D A s.heap u H locs cells → lv_has ls 10 [(0, .ref v0), (1, .int v1), (2, .ref v2), (6, .long v6), (8, .int v8)] → W p l e R s m args below meth c H locs cells slots Q (F0 m 190 ls []) := by
    intro u v6 v8 H locs ls cells slots C h hC I hl
    unfold uf_X2_goes_J190 at h
    refine lv_lload X.1 X.2.1 dX2_goes_190 (lv_at hl 3 rfl) ?_
    refine lv_iconst (v := 0) X.1 X.2.1 dX2_goes_192 (by decide) ?_
    refine lv_aload_n X.1 X.2.1 dX2_goes_193 rfl (lv_at hl 2 rfl) ?_
    refine lv_iload X.1 X.2.1 dX2_goes_194 (lv_at hl 4 rfl) ?_
    obtain ⟨b60, e61, h⟩ := m_bS h
    refine u_LI X I e61 dX2_goes_196 ?_
    refine va_mmax X.1 X.2.1 (X.2.2.2.2.2.1.trans hl.1.symm) X.2.2.2.1 (X.2.2.1 _ q1133) (X.2.2.1 _ q383) (X.2.2.1 _ q114) (X.2.2.1 _ q384) (Nat.le_trans (Nat.le_of_ble_eq_true rfl) hR.1) (Nat.le_trans (Nat.le_of_ble_eq_true rfl) hR.2) (u_leftLe hC).1 (u_leftLe hC).2 dX2_goes_197 ?_
    refine lv_i2l X.1 X.2.1 dX2_goes_200 rfl ?_
    refine lv_ladd X.1 X.2.1 dX2_goes_201 ?_
    obtain ⟨y62, e63, h⟩ := m_bS h
    rw [m_e1 e63]
    refine lv_lstore (lv' := [(6, .long y62), (0, .ref v0), (1, .int v1), (2, .ref v2), (8, .int v8)]) X.1 X.2.1 dX2_goes_202 hl (by decide) rfl (fun ls hl => ?_)
    exact k204 u y62 v8 H locs ls _ _ _ h hC I (lv_sub hl [1, 2, 3, 0, 4] rfl)
  unfold uf_X2_goes_L132 at h
  refine lv_iload X.1 X.2.1 dX2_goes_132 (lv_at hl 4 rfl) ?_
  refine lv_iload_n X.1 X.2.1 dX2_goes_134 rfl (lv_at hl 1 rfl) ?_
  refine lv_icmp_ge (tgt := 210) X.1 X.2.1 dX2_goes_135 (by decide) (fun c43 => ?_) (fun c43 => ?_)
  · replace h := m_ifT c43 h
    obtain ⟨rfl, rfl⟩ := m_e3 h
    exact hr H locs ls _ _ (u_left0 hC) I (lv_sub hl [0, 3] rfl)
  · replace h := m_ifF c43 h
    refine lv_aload_n X.1 X.2.1 dX2_goes_138 rfl (lv_at hl 2 rfl) ?_
    refine lv_iload X.1 X.2.1 dX2_goes_139 (lv_at hl 4 rfl) ?_
    obtain ⟨b44, e45, h⟩ := m_bS h
    refine u_LI X I e45 dX2_goes_141 ?_
    refine lv_if_ne (tgt := 148) X.1 X.2.1 dX2_goes_142 (by decide) (fun c46 => ?_) (fun c46 => ?_)
    · replace h := m_ifF c46 h
      refine lv_aload_n X.1 X.2.1 dX2_goes_148 rfl (lv_at hl 2 rfl) ?_
      refine lv_iload X.1 X.2.1 dX2_goes_149 (lv_at hl 4 rfl) ?_
      obtain ⟨b47, e48, h⟩ := m_bS h
      refine u_LI X I e48 dX2_goes_151 ?_
      refine lv_if_le (tgt := 175) X.1 X.2.1 dX2_goes_152 (by decide) (fun c49 => ?_) (fun c49 => ?_)
      · replace h := m_ifT c49 h
        refine lv_aload_n X.1 X.2.1 dX2_goes_175 rfl (lv_at hl 0 rfl) ?_
        refine lv_iload X.1 X.2.1 dX2_goes_176 (lv_at hl 4 rfl) ?_
        refine lv_bipush (v := 17) X.1 X.2.1 dX2_goes_178 (by decide) ?_
        refine lv_aload_n X.1 X.2.1 dX2_goes_180 rfl (lv_at hl 2 rfl) ?_
        refine lv_iload X.1 X.2.1 dX2_goes_181 (lv_at hl 4 rfl) ?_
        obtain ⟨b50, e51, h⟩ := m_bS h
        refine u_LI X I e51 dX2_goes_183 ?_
        refine lv_ineg X.1 X.2.1 dX2_goes_184 ?_
        refine lv_i2l X.1 X.2.1 dX2_goes_185 rfl ?_
        refine lv_lconst (v := 0) X.1 X.2.1 dX2_goes_186 (by decide) ?_
        obtain ⟨f52, e53, h⟩ := m_bS h
        obtain ⟨r55, u56, C57, C58, e54, z59, h, hq⟩ := u_bcS h
        rw [hq] at hC
        refine u_callV X hl.1 I hA (As := [.int v8, .int 17, .long ((-b50 : Int32).toInt64), .long 0]) (rest := []) (uk_X2_edge l n D d u v0 v8 17 ((-b50 : Int32).toInt64) 0 _ _ e54) z59 (u_clS e53) (C := RX2) (T := TX2) (N := 8) rfl 4 q1129 q1131 qs29 q106 q1132 uh_X2_edge rfl rfl ⟨Nat.le_trans (Nat.le_of_ble_eq_true rfl) hR.1, Nat.le_trans (Nat.le_of_ble_eq_true rfl) hR.2⟩ hC (stk := []) rfl (Nat.le_of_ble_eq_true rfl) dX2_goes_187 (fun H locs cells slots hC I => ?_)
        exact k190 u56 v6 v8 H locs ls _ _ _ h hC I (lv_sub hl [0, 1, 2, 3, 4] rfl)
      · replace h := m_ifF c49 h
        refine lv_aload_n X.1 X.2.1 dX2_goes_155 rfl (lv_at hl 0 rfl) ?_
        refine lv_bipush (v := 16) X.1 X.2.1 dX2_goes_156 (by decide) ?_
        refine lv_bipush (v := 8) X.1 X.2.1 dX2_goes_158 (by decide) ?_
        refine lv_iload X.1 X.2.1 dX2_goes_160 (lv_at hl 4 rfl) ?_
        refine lv_iadd X.1 X.2.1 dX2_goes_162 ?_
        refine lv_aload_n X.1 X.2.1 dX2_goes_163 rfl (lv_at hl 2 rfl) ?_
        refine lv_iload X.1 X.2.1 dX2_goes_164 (lv_at hl 4 rfl) ?_
        obtain ⟨b64, e65, h⟩ := m_bS h
        refine u_LI X I e65 dX2_goes_166 ?_
        refine lv_i2l X.1 X.2.1 dX2_goes_167 rfl ?_
        refine lv_lconst (v := 0) X.1 X.2.1 dX2_goes_168 (by decide) ?_
        obtain ⟨f66, e67, h⟩ := m_bS h
        obtain ⟨r69, u70, C71, C72, e68, z73, h, hq⟩ := u_bcS h
        rw [hq] at hC
        refine u_callV X hl.1 I hA (As := [.int 16, .int (8 + v8), .long ((b64 : Int32).toInt64), .long 0]) (rest := []) (uk_X2_edge l n D d u v0 16 (8 + v8) ((b64 : Int32).toInt64) 0 _ _ e68) z73 (u_clS e67) (C := RX2) (T := TX2) (N := 8) rfl 4 q1129 q1131 qs29 q106 q1132 uh_X2_edge rfl rfl ⟨Nat.le_trans (Nat.le_of_ble_eq_true rfl) hR.1, Nat.le_trans (Nat.le_of_ble_eq_true rfl) hR.2⟩ hC (stk := []) rfl (Nat.le_of_ble_eq_true rfl) dX2_goes_169 (fun H locs cells slots hC I => ?_)
        refine lv_goto (tgt := 190) X.1 X.2.1 dX2_goes_172 (by decide) ?_
        exact k190 u70 v6 v8 H locs ls _ _ _ h hC I (lv_sub hl [0, 1, 2, 3, 4] rfl)
    · replace h := m_ifT c46 h
      refine lv_goto (tgt := 204) X.1 X.2.1 dX2_goes_145 (by decide) ?_
      exact k204 u v6 v8 H locs ls _ _ _ h hC I (lv_sub hl [0, 1, 2, 3, 4] rfl)
theorem wuf_X2_goes_L210 (X : u_X RX2 D A d p s m c cX2_goes 10 args) (hA : ∀ q, s.heap.size ≤ q → A q) (hR : 2 ≤ R.frames ∧ 64 ≤ R.locals) (n : Nat) (v0 : Nat) (x : (Int64 × UM)) (z : (UM ⊕ UM)) (C cr : UC) (hz : uf_X2_goes_L210l n d v0 x = some (z, C)) (hE : (u_e (fun (z : UM) (C : UC) => ∀ (H : Heap) (locs : List Loc) (ls : Array Slot) (cells slots : Nat), u_left R cells slots C → u_I D A s.heap z H locs cells → lv_has ls 10 [] → W p l e R s m args below meth c H locs cells slots Q (F0 m 230 ls [])) (fun (z : UM) (C : UC) => ∀ (H : Heap) (locs : List Loc) (ls : Array Slot) (cells slots : Nat), u_left R cells slots C → u_I D A s.heap z H locs cells → lv_has ls 10 [] → W p l e R s m args below meth c H locs cells slots Q (F0 m 242 ls []))) z cr) : (fun (x : (Int64 × UM)) (C : UC) => ∀ (H : Heap) (locs : List Loc) (ls : Array Slot) (cells slots : Nat), u_left R cells slots C → u_I D A s.heap x.2 H locs cells → lv_has ls 10 [(0, .ref v0), (6, .long x.1)] → W p l e R s m args below meth c H locs cells slots Q (F0 m 210 ls [])) x (u_add C cr) := by
  refine u_lpW (G := fun (x : (Int64 × UM)) (C : UC) => ∀ (H : Heap) (locs : List Loc) (ls : Array Slot) (cells slots : Nat), u_left R cells slots C → u_I D A s.heap x.2 H locs cells → lv_has ls 10 [(0, .ref v0), (6, .long x.1)] → W p l e R s m args below meth c H locs cells slots Q (F0 m 210 ls [])) (E := u_e (fun (z : UM) (C : UC) => ∀ (H : Heap) (locs : List Loc) (ls : Array Slot) (cells slots : Nat), u_left R cells slots C → u_I D A s.heap z H locs cells → lv_has ls 10 [] → W p l e R s m args below meth c H locs cells slots Q (F0 m 230 ls [])) (fun (z : UM) (C : UC) => ∀ (H : Heap) (locs : List Loc) (ls : Array Slot) (cells slots : Nat), u_left R cells slots C → u_I D A s.heap z H locs cells → lv_has ls 10 [] → W p l e R s m args below meth c H locs cells slots Q (F0 m 242 ls []))) ?_ n x z C cr hz hE
  rintro ⟨v6, u⟩ r C cr h hr H locs ls cells slots hC I hl
  replace h : uf_X2_goes_L210 n d v0 v6 u = some (r, C) := h
  unfold uf_X2_goes_L210 at h
  refine lv_lload X.1 X.2.1 dX2_goes_210 (lv_at hl 1 rfl) ?_
  refine lv_lconst (v := 0) X.1 X.2.1 dX2_goes_212 (by decide) ?_
  refine W.lcmp X.1 X.2.1 dX2_goes_213 ?_
  refine lv_if_le (tgt := 242) X.1 X.2.1 dX2_goes_214 (by decide) (fun c77 => ?_) (fun c77 => ?_)
  · replace h := m_ifT c77 h
    obtain ⟨rfl, rfl⟩ := m_e3 h
    exact hr H locs ls _ _ (u_left0 hC) I (lv_sub hl [] rfl)
  · replace h := m_ifF c77 h
    refine lv_aload_n X.1 X.2.1 dX2_goes_217 rfl (lv_at hl 0 rfl) ?_
    obtain ⟨f78, e79, h⟩ := m_bS h
    obtain ⟨r81, u82, C83, C84, e80, z85, h, hq⟩ := u_bcS h
    rw [hq] at hC
    refine u_callV X hl.1 I hA (As := []) (rest := []) (uk_X2_goesOnce l n D d u v0 _ _ _ e80) z85 (u_clS e79) (C := RX2) (T := TX2) (N := 8) rfl 0 q1134 q1136 qs30 q106 q1137 uh_X2_goesOnce rfl rfl ⟨Nat.le_trans (Nat.le_of_ble_eq_true rfl) hR.1, Nat.le_trans (Nat.le_of_ble_eq_true rfl) hR.2⟩ hC (stk := [.long r81]) rfl (Nat.le_of_ble_eq_true rfl) dX2_goes_218 (fun H locs cells slots hC I => ?_)
    refine lv_lstore (lv' := [(8, .long r81), (0, .ref v0), (6, .long v6)]) X.1 X.2.1 dX2_goes_221 hl (by decide) rfl (fun ls hl => ?_)
    refine lv_lload X.1 X.2.1 dX2_goes_223 (lv_at hl 0 rfl) ?_
    refine lv_lconst (v := 0) X.1 X.2.1 dX2_goes_225 (by decide) ?_
    refine W.lcmp X.1 X.2.1 dX2_goes_226 ?_
    refine lv_if_ne (tgt := 232) X.1 X.2.1 dX2_goes_227 (by decide) (fun c86 => ?_) (fun c86 => ?_)
    · replace h := m_ifF c86 h
      refine lv_lload X.1 X.2.1 dX2_goes_232 (lv_at hl 2 rfl) ?_
      refine lv_lload X.1 X.2.1 dX2_goes_234 (lv_at hl 0 rfl) ?_
      refine lv_lsub X.1 X.2.1 dX2_goes_236 ?_
      refine lv_lstore (lv' := [(6, .long (v6 - r81)), (8, .long r81), (0, .ref v0)]) X.1 X.2.1 dX2_goes_237 hl (by decide) rfl (fun ls hl => ?_)
      refine lv_goto (tgt := 210) X.1 X.2.1 dX2_goes_239 (by decide) ?_
      obtain ⟨rfl, rfl⟩ := m_e3 h
      exact hr H locs ls _ _ (u_left0 hC) I (lv_sub hl [2, 0] rfl)
    · replace h := m_ifT c86 h
      obtain ⟨rfl, rfl⟩ := m_e3 h
      exact hr H locs ls _ _ (u_left0 hC) I (lv_sub hl [] rfl)
theorem uw_X2_goes (X : u_X RX2 D A d p s m c cX2_goes 10 args) (hA : ∀ q, s.heap.size ≤ q → A q) (hR : 2 ≤ R.frames ∧ 64 ≤ R.locals) (n : Nat) (u : UM) (t : Nat) (p0 : Int32) (p1 : Nat) (p2 : Nat) (p3 : Nat) (p4 : Nat) (r0 : Int32) (ur : UM) (C : UC) (h : uf_X2_goes n d u t p0 p1 p2 p3 p4 = some ((r0, ur), C)) (hret : ∀ (H : Heap) (locs : List Loc) (ls : Array Slot) (pc cells slots : Nat), m_01 r0 = true → decode cX2_goes pc = .ok (.ireturn, 1) → u_left R cells slots (u_add (0, 0) (0, 0)) → u_I D A s.heap ur H locs cells → W p l e R s m args below meth c H locs cells slots Q (F0 m pc ls [.int r0])) : ∀ (H : Heap) (locs : List Loc) (ls : Array Slot) (cells slots : Nat), u_left R cells slots (u_add C (0, 0)) → u_I D A s.heap u H locs cells → lv_has ls 10 [(0, .ref t), (1, .int p0), (2, .ref p1), (3, .ref p2), (4, .ref p3), (5, .ref p4)] → W p l e R s m args below meth c H locs cells slots Q (F0 m 0 ls []) := by
  intro H locs ls cells slots hC I hl
  unfold uf_X2_goes at h
  refine lv_aload_n X.1 X.2.1 dX2_goes_0 rfl (lv_at hl 0 rfl) ?_
  refine lv_iconst (v := 0) X.1 X.2.1 dX2_goes_1 (by decide) ?_
  obtain ⟨w1, e2, h⟩ := m_bS h
  refine u_P X I e2 (C := RX2) (T := TX2) (N := 8) (ref := "SwapPress$Ways") in_X2 tyX2 tyX2_ok nmX2 rfl (by decide) rfl rfl q216 (fun _ h => h) rfl rfl rfl dX2_goes_2 (fun H locs I => ?_)
  refine lv_iconst (v := 0) X.1 X.2.1 dX2_goes_5 (by decide) ?_
  refine lv_istore (lv' := [(6, .int 0), (0, .ref t), (1, .int p0), (2, .ref p1), (3, .ref p2), (4, .ref p3), (5, .ref p4)]) X.1 X.2.1 dX2_goes_6 hl (by decide) rfl (fun ls hl => ?_)
  obtain ⟨u15, C100, C101, e14, h, hq⟩ := u_blS h
  rw [hq] at hC
  refine wuf_X2_goes_L8 X hA hR n t p0 p1 p2 p3 p4 _ _ _ _ e14 (fun H locs ls cells slots hC I hl => ?_) H locs ls _ _ (u_left2 hC) I (lv_sub hl [1, 2, 3, 4, 5, 6, 0] rfl)
  refine lv_iconst (v := 0) X.1 X.2.1 dX2_goes_37 (by decide) ?_
  refine lv_istore (lv' := [(6, .int 0), (0, .ref t), (1, .int p0), (2, .ref p1), (3, .ref p2), (4, .ref p3)]) X.1 X.2.1 dX2_goes_38 hl (by decide) rfl (fun ls hl => ?_)
  obtain ⟨u42, C98, C99, e41, h, hq⟩ := u_blS h
  rw [hq] at hC
  refine wuf_X2_goes_L40 X hA hR n t p0 p1 p2 p3 _ _ _ _ e41 (fun H locs ls cells slots hC I hl => ?_) H locs ls _ _ (u_left2 hC) I (lv_sub hl [1, 2, 3, 4, 5, 0] rfl)
  refine lv_lconst (v := 0) X.1 X.2.1 dX2_goes_126 (by decide) ?_
  refine lv_lstore (lv' := [(6, .long 0), (0, .ref t), (1, .int p0), (2, .ref p1)]) X.1 X.2.1 dX2_goes_127 hl (by decide) rfl (fun ls hl => ?_)
  refine lv_iconst (v := 0) X.1 X.2.1 dX2_goes_129 (by decide) ?_
  refine lv_istore (lv' := [(8, .int 0), (6, .long 0), (0, .ref t), (1, .int p0), (2, .ref p1)]) X.1 X.2.1 dX2_goes_130 hl (by decide) rfl (fun ls hl => ?_)
  obtain ⟨⟨z75, u76⟩, C96, C97, e74, h, hq⟩ := u_blS h
  rw [hq] at hC
  refine wuf_X2_goes_L132 X hA hR n t p0 p1 _ _ _ _ e74 (fun H locs ls cells slots hC I hl => ?_) H locs ls _ _ (u_left2 hC) I (lv_sub hl [2, 3, 4, 1, 0] rfl)
  obtain ⟨u88 | u90, C93, C94, e87, h, hq⟩ := u_blS h
  · rw [hq] at hC
    replace h := m_sL h
    refine wuf_X2_goes_L210 X hA hR n t _ _ _ _ e87 (fun H locs ls cells slots hC I hl => ?_) H locs ls _ _ (u_left2 hC) I (lv_sub hl [0, 1] rfl)
    refine lv_iconst (v := 0) X.1 X.2.1 dX2_goes_230 (by decide) ?_
    obtain ⟨g89, h⟩ := m_gS h
    obtain ⟨he, rfl⟩ := m_e3 h
    obtain ⟨rfl, rfl⟩ := m_e4 he
    exact hret H locs ls 231 _ _ g89 dX2_goes_231 hC I
  · rw [hq] at hC
    replace h := m_sR h
    refine wuf_X2_goes_L210 X hA hR n t _ _ _ _ e87 (fun H locs ls cells slots hC I hl => ?_) H locs ls _ _ (u_left2 hC) I (lv_sub hl [0, 1] rfl)
    refine lv_iconst (v := 1) X.1 X.2.1 dX2_goes_242 (by decide) ?_
    obtain ⟨g91, h⟩ := m_gS h
    obtain ⟨he, rfl⟩ := m_e3 h
    obtain ⟨rfl, rfl⟩ := m_e4 he
    exact hret H locs ls 243 _ _ g91 dX2_goes_243 hC I
end S_X2_goes
theorem uk_X2_goes (l : Launch) (n : Nat) (D : va_G) (d : UD) (u : UM) (t : Nat) (p0 : Int32) (p1 : Nat) (p2 : Nat) (p3 : Nat) (p4 : Nat) (r0 : Int32) (ur : UM) (C : UC) (h : uf_X2_goes n d u t p0 p1 p2 p3 p4 = some ((r0, ur), C)) : u_M l yX2_goes (ws_ yX2_goes cX2_goes 10 (some .boolean)) 2 64 C D d u [.ref t, .int p0, .ref p1, .ref p2, .ref p3, .ref p4] (some (.int r0)) ur :=
  u_start (own := RX2) (lvl := [(0, .ref t), (1, .int p0), (2, .ref p1), (3, .ref p2), (4, .ref p3), (5, .ref p4)]) (by decide) rfl (Nat.le_of_ble_eq_true rfl) rfl (fun p e s m args below meth c ls X hr hlk hI hl hA I hC => uw_X2_goes X hA ⟨Nat.le_refl _, Nat.le_refl _⟩ n u t p0 p1 p2 p3 p4 r0 ur C h (fun H locs ls pc cells slots g hd hC I => u_zret X I hr hlk g (u_leftE hC) hd) _ _ ls _ _ hC I hl)

/-! SwapPress$Reader.<init>(LSwapPress;I)V -/
def uf_X4_init (n : Nat) (d : UD) (u : UM) (t : Nat) (p0 : Nat) (p1 : Int32) : Option ((Unit × UM) × UC) :=
  m_b (u_pf u 4 6 t (.ref p0)) (fun w1 => u_ac (1, 5) (m_b (some (u_nw (w1, u.2) (.inr (2, [.null, .null, .null, .null, .int 0])))) (fun u4 => u_bc u4.2 (uf_X1_init n d u4 u.2) (fun r7 u8 => m_b (u_pf u8 4 1 t (.ref u.2)) (fun w12 => m_b (u_pf (w12, u8.2) 4 0 t (.int p1)) (fun w14 => some (((), (w14, u8.2)), (0, 0))))))))
theorem uh_X4_init : yX4_init.cls = RX4 ∧ yX4_init.cls ≠ "java/lang/invoke/MethodHandle" ∧ yX4_init.cls ≠ "java/lang/invoke/VarHandle" ∧ (parseMethodDescriptor yX4_init.desc).map (fun d => d.parameters.length) = some 2 := by decide +kernel
section S_X4_init
variable {p : Program} {l : Launch} {e : Env} {R : Room} {s : State} {m : MethodId} {args : Array Value} {below : List Frame} {meth : Method} {c : Code} {Q : State → Prop} {D : va_G} {A : Nat → Prop} {d : UD}
theorem uw_X4_init (X : u_X RX4 D A d p s m c cX4_init 3 args) (hA : ∀ q, s.heap.size ≤ q → A q) (hR : 5 ≤ R.frames ∧ 101 ≤ R.locals) (hI : meth.name = "<init>") (n : Nat) (u : UM) (t : Nat) (p0 : Nat) (p1 : Int32) (r0 : Unit) (ur : UM) (C : UC) (h : uf_X4_init n d u t p0 p1 = some ((r0, ur), C)) (hret : ∀ (H : Heap) (locs : List Loc) (ls : Array Slot) (pc cells slots : Nat), decode cX4_init pc = .ok (.return_, 1) → u_left R cells slots (u_add (0, 0) (0, 0)) → u_I D A s.heap ur H locs cells → W p l e R s m args below meth c H locs cells slots Q (F0 m pc ls [])) : ∀ (H : Heap) (locs : List Loc) (ls : Array Slot) (cells slots : Nat), u_left R cells slots (u_add C (0, 0)) → u_I D A s.heap u H locs cells → lv_has ls 3 [(0, .ref t), (1, .ref p0), (2, .int p1)] → W p l e R s m args below meth c H locs cells slots Q (F0 m 0 ls []) := by
  intro H locs ls cells slots hC I hl
  unfold uf_X4_init at h
  refine lv_aload_n X.1 X.2.1 dX4_init_0 rfl (lv_at hl 0 rfl) ?_
  refine lv_aload_n X.1 X.2.1 dX4_init_1 rfl (lv_at hl 1 rfl) ?_
  obtain ⟨w1, e2, h⟩ := m_bS h
  refine u_PF X I e2 (C := RX4) (T := TX4) (N := 7) (ref := "SwapPress$Reader") in_X4 tyX4 tyX4_ok nmX4 rfl (by decide) rfl rfl q296 (fun _ h => h) rfl hI rfl rfl rfl dX4_init_2 (fun H locs I => ?_)
  refine lv_aload_n X.1 X.2.1 dX4_init_5 rfl (lv_at hl 0 rfl) ?_
  refine u_obj X hl.1 q287 q139 q140 (Nat.le_trans (Nat.le_of_ble_eq_true rfl) hR.1) (Nat.le_trans (Nat.le_of_ble_eq_true rfl) hR.2) (Nat.le_of_ble_eq_true rfl) dX4_init_6 ?_
  refine lv_aload_n X.1 X.2.1 dX4_init_9 rfl (lv_at hl 0 rfl) ?_
  obtain ⟨C3, h, hq⟩ := u_acS h
  rw [hq] at hC
  obtain ⟨u4, e5, h⟩ := m_bS h
  refine u_NO X I hA 2 (C := RX1) (T := TX1) (N := 5) in_X1 tyX1 tyX1_ok q288 q142 q102 rfl (fs := [.null, .null, .null, .null, .int 0]) e5 (fun j hj => by match j, hj with | 0, _ => rfl | 1, _ => rfl | 2, _ => rfl | 3, _ => rfl | 4, _ => rfl) hC dX4_init_10 (fun H cells slots hC I => ?_)
  refine lv_dup X.1 X.2.1 dX4_init_13 rfl ?_
  obtain ⟨r7, u8, C9, C10, e6, z11, h, hq⟩ := u_bcS h
  rw [hq] at hC
  refine u_callI X hl.1 I hA (As := []) (rest := [.ref u.2, .ref t]) (uk_X1_init l n D d u4 u.2 _ _ e6) z11 0 q289 q144 q102 q145 rfl uh_X1_init.2 rfl rfl ⟨Nat.le_trans (Nat.le_of_ble_eq_true rfl) hR.1, Nat.le_trans (Nat.le_of_ble_eq_true rfl) hR.2⟩ hC (Nat.le_of_ble_eq_true rfl) dX4_init_14 (fun H locs cells slots hC I => ?_)
  obtain ⟨w12, e13, h⟩ := m_bS h
  refine u_PF X I e13 (C := RX4) (T := TX4) (N := 7) (ref := "SwapPress$Reader") in_X4 tyX4 tyX4_ok nmX4 rfl (by decide) rfl rfl q291 (fun _ h => h) rfl hI rfl rfl rfl dX4_init_17 (fun H locs I => ?_)
  refine lv_aload_n X.1 X.2.1 dX4_init_20 rfl (lv_at hl 0 rfl) ?_
  refine lv_iload_n X.1 X.2.1 dX4_init_21 rfl (lv_at hl 2 rfl) ?_
  obtain ⟨w14, e15, h⟩ := m_bS h
  refine u_PF X I e15 (C := RX4) (T := TX4) (N := 7) (ref := "SwapPress$Reader") in_X4 tyX4 tyX4_ok nmX4 rfl (by decide) rfl rfl q290 (fun _ h => h) rfl hI rfl rfl rfl dX4_init_22 (fun H locs I => ?_)
  obtain ⟨he, rfl⟩ := m_e3 h
  obtain ⟨rfl, rfl⟩ := m_e4 he
  exact hret H locs ls 25 _ _ dX4_init_25 hC I
end S_X4_init
theorem uk_X4_init (l : Launch) (n : Nat) (D : va_G) (d : UD) (u : UM) (t : Nat) (p0 : Nat) (p1 : Int32) (ur : UM) (C : UC) (h : uf_X4_init n d u t p0 p1 = some (((), ur), C)) : u_M l yX4_init (ws_ yX4_init cX4_init 3 none) 5 101 C D d u [.ref t, .ref p0, .int p1] none ur :=
  u_start (own := RX4) (lvl := [(0, .ref t), (1, .ref p0), (2, .int p1)]) (by decide) rfl (Nat.le_of_ble_eq_true rfl) rfl (fun p e s m args below meth c ls X hr hlk hI hl hA I hC => uw_X4_init X hA ⟨Nat.le_refl _, Nat.le_refl _⟩ hI n u t p0 p1 () ur C h (fun H locs ls pc cells slots hd hC I => u_vret X I hr hlk (u_leftE hC) hd) _ _ ls _ _ hC I hl)

/-! SwapPress$Reader.isEnd()Z -/
def uf_X4_isEnd_L0 (n : Nat) (d : UD) (v0 : Nat) (u : UM) : Option ((UM ⊕ UM) × UC) :=
  m_b (u_cl u 4 v0) (fun f1 => m_b (uf_X4_isAt n d u v0 32 32) (fun r4 => m_if ((r4 : Int32) = 0) (some (.inr u, (0, 0))) (m_b (u_fi d u 4 2 v0) (fun b6 => m_b (u_pf u 4 2 v0 (.int (b6 + 1))) (fun w8 => some (.inl ((w8, u.2)), (0, 0)))))))
def uf_X4_isEnd_L0l (n : Nat) (d : UD) (v0 : Nat) (x : UM) : Option (UM × UC) := u_lp (fun (x : UM) => uf_X4_isEnd_L0 n d v0 x) n x
def uf_X4_isEnd_J48 (n : Nat) (d : UD) (u : UM) (t0 : Int32) : Option ((Int32 × UM) × UC) :=
  m_g (m_01 t0) (some ((t0, u), (0, 0)))
def uf_X4_isEnd (n : Nat) (d : UD) (u : UM) (t : Nat) : Option ((Int32 × UM) × UC) :=
  u_bl (uf_X4_isEnd_L0l n d t u) (fun u11 => m_b (u_fi d u11 4 2 t) (fun b12 => m_b (u_pf u11 4 3 t (.int b12)) (fun w14 => m_b (u_fi d (w14, u11.2) 4 2 t) (fun b16 => m_b (u_fi d (w14, u11.2) 4 0 t) (fun b18 => m_if ((b16 : Int32) = (b18 : Int32)) (uf_X4_isEnd_J48 n d (w14, u11.2) 1) (uf_X4_isEnd_J48 n d (w14, u11.2) 0))))))
theorem uh_X4_isEnd : yX4_isEnd.cls = RX4 ∧ yX4_isEnd.cls ≠ "java/lang/invoke/MethodHandle" ∧ yX4_isEnd.cls ≠ "java/lang/invoke/VarHandle" ∧ (parseMethodDescriptor yX4_isEnd.desc).map (fun d => d.parameters.length) = some 0 := by decide +kernel
section S_X4_isEnd
variable {p : Program} {l : Launch} {e : Env} {R : Room} {s : State} {m : MethodId} {args : Array Value} {below : List Frame} {meth : Method} {c : Code} {Q : State → Prop} {D : va_G} {A : Nat → Prop} {d : UD}
theorem wuf_X4_isEnd_L0 (X : u_X RX4 D A d p s m c cX4_isEnd 1 args) (hA : ∀ q, s.heap.size ≤ q → A q) (hR : 2 ≤ R.frames ∧ 47 ≤ R.locals) (n : Nat) (v0 : Nat) (x : UM) (z : UM) (C cr : UC) (hz : uf_X4_isEnd_L0l n d v0 x = some (z, C)) (hE : (fun (z : UM) (C : UC) => ∀ (H : Heap) (locs : List Loc) (ls : Array Slot) (cells slots : Nat), u_left R cells slots C → u_I D A s.heap z H locs cells → lv_has ls 1 [(0, .ref v0)] → W p l e R s m args below meth c H locs cells slots Q (F0 m 24 ls [])) z cr) : (fun (x : UM) (C : UC) => ∀ (H : Heap) (locs : List Loc) (ls : Array Slot) (cells slots : Nat), u_left R cells slots C → u_I D A s.heap x H locs cells → lv_has ls 1 [(0, .ref v0)] → W p l e R s m args below meth c H locs cells slots Q (F0 m 0 ls [])) x (u_add C cr) := by
  refine u_lpW (G := fun (x : UM) (C : UC) => ∀ (H : Heap) (locs : List Loc) (ls : Array Slot) (cells slots : Nat), u_left R cells slots C → u_I D A s.heap x H locs cells → lv_has ls 1 [(0, .ref v0)] → W p l e R s m args below meth c H locs cells slots Q (F0 m 0 ls [])) (E := fun (z : UM) (C : UC) => ∀ (H : Heap) (locs : List Loc) (ls : Array Slot) (cells slots : Nat), u_left R cells slots C → u_I D A s.heap z H locs cells → lv_has ls 1 [(0, .ref v0)] → W p l e R s m args below meth c H locs cells slots Q (F0 m 24 ls [])) ?_ n x z C cr hz hE
  rintro u r C cr h hr H locs ls cells slots hC I hl
  replace h : uf_X4_isEnd_L0 n d v0 u = some (r, C) := h
  unfold uf_X4_isEnd_L0 at h
  refine lv_aload_n X.1 X.2.1 dX4_isEnd_0 rfl (lv_at hl 0 rfl) ?_
  refine lv_bipush (v := 32) X.1 X.2.1 dX4_isEnd_1 (by decide) ?_
  refine lv_bipush (v := 32) X.1 X.2.1 dX4_isEnd_3 (by decide) ?_
  obtain ⟨f1, e2, h⟩ := m_bS h
  obtain ⟨r4, e3, h⟩ := m_bS h
  refine u_callVp X hl.1 I hA (As := [.int 32, .int 32]) (rest := []) (uk_X4_isAt l n D d u v0 32 32 _ e3) (u_clS e2) (C := RX4) (T := TX4) (N := 7) rfl 2 q320 q322 qs2 q108 q323 uh_X4_isAt rfl rfl ⟨Nat.le_trans (Nat.le_of_ble_eq_true rfl) hR.1, Nat.le_trans (Nat.le_of_ble_eq_true rfl) hR.2⟩ (u_leftLe hC) (stk := [.int r4]) rfl (Nat.le_of_ble_eq_true rfl) dX4_isEnd_5 (fun H locs I => ?_)
  refine lv_if_eq (tgt := 24) X.1 X.2.1 dX4_isEnd_8 (by decide) (fun c5 => ?_) (fun c5 => ?_)
  · replace h := m_ifT c5 h
    obtain ⟨rfl, rfl⟩ := m_e3 h
    exact hr H locs ls _ _ (u_left0 hC) I (lv_sub hl [0] rfl)
  · replace h := m_ifF c5 h
    refine lv_aload_n X.1 X.2.1 dX4_isEnd_11 rfl (lv_at hl 0 rfl) ?_
    refine lv_dup X.1 X.2.1 dX4_isEnd_12 rfl ?_
    obtain ⟨b6, e7, h⟩ := m_bS h
    refine u_Gi X I e7 (C := RX4) (T := TX4) (N := 7) (ref := "SwapPress$Reader") in_X4 rfl (by decide) rfl rfl q292 (fun _ h => h) dX4_isEnd_13 ?_
    refine lv_iconst (v := 1) X.1 X.2.1 dX4_isEnd_16 (by decide) ?_
    refine lv_iadd X.1 X.2.1 dX4_isEnd_17 ?_
    obtain ⟨w8, e9, h⟩ := m_bS h
    refine u_P X I e9 (C := RX4) (T := TX4) (N := 7) (ref := "SwapPress$Reader") in_X4 tyX4 tyX4_ok nmX4 rfl (by decide) rfl rfl q292 (fun _ h => h) rfl rfl rfl dX4_isEnd_18 (fun H locs I => ?_)
    refine lv_goto (tgt := 0) X.1 X.2.1 dX4_isEnd_21 (by decide) ?_
    obtain ⟨rfl, rfl⟩ := m_e3 h
    exact hr H locs ls _ _ (u_left0 hC) I (lv_sub hl [0] rfl)
theorem uw_X4_isEnd (X : u_X RX4 D A d p s m c cX4_isEnd 1 args) (hA : ∀ q, s.heap.size ≤ q → A q) (hR : 2 ≤ R.frames ∧ 47 ≤ R.locals) (n : Nat) (u : UM) (t : Nat) (r0 : Int32) (ur : UM) (C : UC) (h : uf_X4_isEnd n d u t = some ((r0, ur), C)) (hret : ∀ (H : Heap) (locs : List Loc) (ls : Array Slot) (pc cells slots : Nat), m_01 r0 = true → decode cX4_isEnd pc = .ok (.ireturn, 1) → u_left R cells slots (u_add (0, 0) (0, 0)) → u_I D A s.heap ur H locs cells → W p l e R s m args below meth c H locs cells slots Q (F0 m pc ls [.int r0])) : ∀ (H : Heap) (locs : List Loc) (ls : Array Slot) (cells slots : Nat), u_left R cells slots (u_add C (0, 0)) → u_I D A s.heap u H locs cells → lv_has ls 1 [(0, .ref t)] → W p l e R s m args below meth c H locs cells slots Q (F0 m 0 ls []) := by
  have k48 : ∀ (u : UM) (t0 : Int32) (H : Heap) (locs : List Loc) (ls : Array Slot) (cells slots : Nat) (C : UC), uf_X4_isEnd_J48 n d u t0 = some ((r0, ur), C) → u_left R cells slots (u_add C (0, 0)) → u_I D A s.heap u H locs cells → lv_has ls 1 [] → W p l e R s m args below meth c H locs cells slots Q (F0 m 48 ls [.int t0]) := by
    intro u t0 H locs ls cells slots C h hC I hl
    unfold uf_X4_isEnd_J48 at h
    obtain ⟨g21, h⟩ := m_gS h
    obtain ⟨he, rfl⟩ := m_e3 h
    obtain ⟨rfl, rfl⟩ := m_e4 he
    exact hret H locs ls 48 _ _ g21 dX4_isEnd_48 hC I
  intro H locs ls cells slots hC I hl
  unfold uf_X4_isEnd at h
  obtain ⟨u11, C22, C23, e10, h, hq⟩ := u_blS h
  rw [hq] at hC
  refine wuf_X4_isEnd_L0 X hA hR n t _ _ _ _ e10 (fun H locs ls cells slots hC I hl => ?_) H locs ls _ _ (u_left2 hC) I (lv_sub hl [0] rfl)
  refine lv_aload_n X.1 X.2.1 dX4_isEnd_24 rfl (lv_at hl 0 rfl) ?_
  refine lv_aload_n X.1 X.2.1 dX4_isEnd_25 rfl (lv_at hl 0 rfl) ?_
  obtain ⟨b12, e13, h⟩ := m_bS h
  refine u_Gi X I e13 (C := RX4) (T := TX4) (N := 7) (ref := "SwapPress$Reader") in_X4 rfl (by decide) rfl rfl q292 (fun _ h => h) dX4_isEnd_26 ?_
  obtain ⟨w14, e15, h⟩ := m_bS h
  refine u_P X I e15 (C := RX4) (T := TX4) (N := 7) (ref := "SwapPress$Reader") in_X4 tyX4 tyX4_ok nmX4 rfl (by decide) rfl rfl q293 (fun _ h => h) rfl rfl rfl dX4_isEnd_29 (fun H locs I => ?_)
  refine lv_aload_n X.1 X.2.1 dX4_isEnd_32 rfl (lv_at hl 0 rfl) ?_
  obtain ⟨b16, e17, h⟩ := m_bS h
  refine u_Gi X I e17 (C := RX4) (T := TX4) (N := 7) (ref := "SwapPress$Reader") in_X4 rfl (by decide) rfl rfl q292 (fun _ h => h) dX4_isEnd_33 ?_
  refine lv_aload_n X.1 X.2.1 dX4_isEnd_36 rfl (lv_at hl 0 rfl) ?_
  obtain ⟨b18, e19, h⟩ := m_bS h
  refine u_Gi X I e19 (C := RX4) (T := TX4) (N := 7) (ref := "SwapPress$Reader") in_X4 rfl (by decide) rfl rfl q290 (fun _ h => h) dX4_isEnd_37 ?_
  refine lv_icmp_ne (tgt := 47) X.1 X.2.1 dX4_isEnd_40 (by decide) (fun c20 => ?_) (fun c20 => ?_)
  · replace h := m_ifF c20 h
    refine lv_iconst (v := 0) X.1 X.2.1 dX4_isEnd_47 (by decide) ?_
    exact k48 (w14, u11.2) 0 H locs ls _ _ _ h hC I (lv_sub hl [] rfl)
  · replace h := m_ifT c20 h
    refine lv_iconst (v := 1) X.1 X.2.1 dX4_isEnd_43 (by decide) ?_
    refine lv_goto (tgt := 48) X.1 X.2.1 dX4_isEnd_44 (by decide) ?_
    exact k48 (w14, u11.2) 1 H locs ls _ _ _ h hC I (lv_sub hl [] rfl)
end S_X4_isEnd
theorem uk_X4_isEnd (l : Launch) (n : Nat) (D : va_G) (d : UD) (u : UM) (t : Nat) (r0 : Int32) (ur : UM) (C : UC) (h : uf_X4_isEnd n d u t = some ((r0, ur), C)) : u_M l yX4_isEnd (ws_ yX4_isEnd cX4_isEnd 1 (some .boolean)) 2 47 C D d u [.ref t] (some (.int r0)) ur :=
  u_start (own := RX4) (lvl := [(0, .ref t)]) (by decide) rfl (Nat.le_of_ble_eq_true rfl) rfl (fun p e s m args below meth c ls X hr hlk hI hl hA I hC => uw_X4_isEnd X hA ⟨Nat.le_refl _, Nat.le_refl _⟩ n u t r0 ur C h (fun H locs ls pc cells slots g hd hC I => u_zret X I hr hlk g (u_leftE hC) hd) _ _ ls _ _ hC I hl)

/-! SwapPress$Wrong.<init>(II)V -/
def uf_X5_init (n : Nat) (d : UD) (u : UM) (t : Nat) (p0 : Int32) (p1 : Int32) : Option ((Unit × UM) × UC) :=
  u_bc u.2 (uf_J13_init n d u t none none 0 0) (fun r2 u3 => m_b (u_pf u3 5 6 t (.int p0)) (fun w7 => m_b (u_pf (w7, u3.2) 5 7 t (.int p1)) (fun w9 => some (((), (w9, u3.2)), (0, 0)))))
theorem uh_X5_init : yX5_init.cls = RX5 ∧ yX5_init.cls ≠ "java/lang/invoke/MethodHandle" ∧ yX5_init.cls ≠ "java/lang/invoke/VarHandle" ∧ (parseMethodDescriptor yX5_init.desc).map (fun d => d.parameters.length) = some 2 := by decide +kernel
section S_X5_init
variable {p : Program} {l : Launch} {e : Env} {R : Room} {s : State} {m : MethodId} {args : Array Value} {below : List Frame} {meth : Method} {c : Code} {Q : State → Prop} {D : va_G} {A : Nat → Prop} {d : UD}
theorem uw_X5_init (X : u_X RX5 D A d p s m c cX5_init 3 args) (hA : ∀ q, s.heap.size ≤ q → A q) (hR : 3 ≤ R.frames ∧ 68 ≤ R.locals) (hI : meth.name = "<init>") (n : Nat) (u : UM) (t : Nat) (p0 : Int32) (p1 : Int32) (r0 : Unit) (ur : UM) (C : UC) (h : uf_X5_init n d u t p0 p1 = some ((r0, ur), C)) (hret : ∀ (H : Heap) (locs : List Loc) (ls : Array Slot) (pc cells slots : Nat), decode cX5_init pc = .ok (.return_, 1) → u_left R cells slots (u_add (0, 0) (0, 0)) → u_I D A s.heap ur H locs cells → W p l e R s m args below meth c H locs cells slots Q (F0 m pc ls [])) : ∀ (H : Heap) (locs : List Loc) (ls : Array Slot) (cells slots : Nat), u_left R cells slots (u_add C (0, 0)) → u_I D A s.heap u H locs cells → lv_has ls 3 [(0, .ref t), (1, .int p0), (2, .int p1)] → W p l e R s m args below meth c H locs cells slots Q (F0 m 0 ls []) := by
  intro H locs ls cells slots hC I hl
  unfold uf_X5_init at h
  refine lv_aload_n X.1 X.2.1 dX5_init_0 rfl (lv_at hl 0 rfl) ?_
  refine lv_null X.1 X.2.1 dX5_init_1 ?_
  refine lv_null X.1 X.2.1 dX5_init_2 ?_
  refine lv_iconst (v := 0) X.1 X.2.1 dX5_init_3 (by decide) ?_
  refine lv_iconst (v := 0) X.1 X.2.1 dX5_init_4 (by decide) ?_
  obtain ⟨r2, u3, C4, C5, e1, z6, h, hq⟩ := u_bcS h
  rw [hq] at hC
  refine u_callI X hl.1 I hA (As := [.null, .null, .int 0, .int 0]) (rest := []) (uk_J13_init l n D d u t none none 0 0 _ _ e1) z6 4 q568 q569 q120 q570 rfl uh_J13_init.2 rfl rfl ⟨Nat.le_trans (Nat.le_of_ble_eq_true rfl) hR.1, Nat.le_trans (Nat.le_of_ble_eq_true rfl) hR.2⟩ hC (Nat.le_of_ble_eq_true rfl) dX5_init_5 (fun H locs cells slots hC I => ?_)
  refine lv_aload_n X.1 X.2.1 dX5_init_8 rfl (lv_at hl 0 rfl) ?_
  refine lv_iload_n X.1 X.2.1 dX5_init_9 rfl (lv_at hl 1 rfl) ?_
  obtain ⟨w7, e8, h⟩ := m_bS h
  refine u_PF X I e8 (C := RX5) (T := TX5) (N := 8) (ref := "SwapPress$Wrong") in_X5 tyX5 tyX5_ok nmX5 rfl (by decide) rfl rfl q574 (fun _ h => h) rfl hI rfl rfl rfl dX5_init_10 (fun H locs I => ?_)
  refine lv_aload_n X.1 X.2.1 dX5_init_13 rfl (lv_at hl 0 rfl) ?_
  refine lv_iload_n X.1 X.2.1 dX5_init_14 rfl (lv_at hl 2 rfl) ?_
  obtain ⟨w9, e10, h⟩ := m_bS h
  refine u_PF X I e10 (C := RX5) (T := TX5) (N := 8) (ref := "SwapPress$Wrong") in_X5 tyX5 tyX5_ok nmX5 rfl (by decide) rfl rfl q576 (fun _ h => h) rfl hI rfl rfl rfl dX5_init_15 (fun H locs I => ?_)
  obtain ⟨he, rfl⟩ := m_e3 h
  obtain ⟨rfl, rfl⟩ := m_e4 he
  exact hret H locs ls 18 _ _ dX5_init_18 hC I
end S_X5_init
theorem uk_X5_init (l : Launch) (n : Nat) (D : va_G) (d : UD) (u : UM) (t : Nat) (p0 : Int32) (p1 : Int32) (ur : UM) (C : UC) (h : uf_X5_init n d u t p0 p1 = some (((), ur), C)) : u_M l yX5_init (ws_ yX5_init cX5_init 3 none) 3 68 C D d u [.ref t, .int p0, .int p1] none ur :=
  u_start (own := RX5) (lvl := [(0, .ref t), (1, .int p0), (2, .int p1)]) (by decide) rfl (Nat.le_of_ble_eq_true rfl) rfl (fun p e s m args below meth c ls X hr hlk hI hl hA I hC => uw_X5_init X hA ⟨Nat.le_refl _, Nat.le_refl _⟩ hI n u t p0 p1 () ur C h (fun H locs ls pc cells slots hd hC I => u_vret X I hr hlk (u_leftE hC) hd) _ _ ls _ _ hC I hl)

/-! SwapPress$Rings.goesOn(II)Z -/
def uf_X7_goesOn_J104 (n : Nat) (d : UD) (rc : UM → Nat → Int32 → Int32 → Option ((Int32 × UM) × UC)) (u : UM) (v0 : Nat) (v1 : Int32) (v2 : Int32) (v3 : Int32) : Option (((Int32 × UM) ⊕ (UM ⊕ UM)) × UC) :=
  some (.inl ((v3 + 1, u)), (0, 0))
def uf_X7_goesOn_L44 (n : Nat) (d : UD) (rc : UM → Nat → Int32 → Int32 → Option ((Int32 × UM) × UC)) (v0 : Nat) (v1 : Int32) (v2 : Int32) (v3 : Int32) (u : UM) : Option (((Int32 × UM) ⊕ (UM ⊕ UM)) × UC) :=
  m_b (u_fi d u 7 0 v0) (fun b8 => m_if ((b8 : Int32) ≤ (v3 : Int32)) (some (.inr ((.inr u)), (0, 0))) (m_if (((v2 >>> (v3 &&& 31)) &&& 1 : Int32) = (1 : Int32)) (uf_X7_goesOn_J104 n d rc u v0 v1 v2 v3) (m_b (u_fr d u 7 2 v0) (fun b12 => m_b (u_ldI d u b12 (v1 - 1)) (fun b14 => m_b (u_cl u 7 v0) (fun f16 => m_b (uf_X7_at n d u v0 b14 v3) (fun r19 => m_if ((r19 : Int32) = 0) (uf_X7_goesOn_J104 n d rc u v0 v1 v2 v3) (m_b (u_fr d u 7 2 v0) (fun b21 => m_b (u_stI d u b21 v1 v3) (fun w23 => m_b (u_cl (w23, u.2) 7 v0) (fun f25 => u_bc u.2 (rc (w23, u.2) v0 (v1 + 1) (v2 ||| (1 <<< (v3 &&& 31)))) (fun r28 u29 => m_if ((r28 : Int32) = 0) (uf_X7_goesOn_J104 n d rc u29 v0 v1 v2 v3) (some (.inr ((.inl u29)), (0, 0)))))))))))))))
def uf_X7_goesOn_L44l (n : Nat) (d : UD) (rc : UM → Nat → Int32 → Int32 → Option ((Int32 × UM) × UC)) (v0 : Nat) (v1 : Int32) (v2 : Int32) (x : (Int32 × UM)) : Option ((UM ⊕ UM) × UC) := u_lp (fun (x : (Int32 × UM)) => uf_X7_goesOn_L44 n d rc v0 v1 v2 x.1 x.2) n x
def uf_X7_goesOn_J34 (n : Nat) (d : UD) (rc : UM → Nat → Int32 → Int32 → Option ((Int32 × UM) × UC)) (u : UM) (t0 : Int32) : Option ((Int32 × UM) × UC) :=
  m_g (m_01 t0) (some ((t0, u), (0, 0)))
def uf_X7_goesOn_body (n : Nat) (d : UD) (rc : UM → Nat → Int32 → Int32 → Option ((Int32 × UM) × UC)) (u : UM) (t : Nat) (p0 : Int32) (p1 : Int32) : Option ((Int32 × UM) × UC) :=
  m_b (u_fi d u 7 3 t) (fun b1 => m_if ((p0 : Int32) = (b1 : Int32)) (m_b (u_fr d u 7 2 t) (fun b42 => m_b (u_ldI d u b42 (p0 - 1)) (fun b44 => m_b (u_fr d u 7 2 t) (fun b46 => m_b (u_ldI d u b46 0) (fun b48 => m_b (u_cl u 7 t) (fun f50 => m_b (uf_X7_at n d u t b44 b48) (fun r53 => m_if ((r53 : Int32) ≤ 0) (uf_X7_goesOn_J34 n d rc u 0) (uf_X7_goesOn_J34 n d rc u 1)))))))) (m_b (u_fr d u 7 2 t) (fun b4 => m_b (u_ldI d u b4 0) (fun b6 => u_bl (uf_X7_goesOn_L44l n d rc t p0 p1 ((b6 + 1, u))) (fun y39 => m_s y39 (fun u35 => m_g (m_01 1) (some ((1, u35), (0, 0)))) (fun u37 => m_g (m_01 0) (some ((0, u37), (0, 0)))))))))
theorem uh_X7_goesOn : yX7_goesOn.cls = RX7 ∧ yX7_goesOn.cls ≠ "java/lang/invoke/MethodHandle" ∧ yX7_goesOn.cls ≠ "java/lang/invoke/VarHandle" ∧ (parseMethodDescriptor yX7_goesOn.desc).map (fun d => d.parameters.length) = some 2 := by decide +kernel
section S_X7_goesOn
variable {p : Program} {l : Launch} {e : Env} {R : Room} {s : State} {m : MethodId} {args : Array Value} {below : List Frame} {meth : Method} {c : Code} {Q : State → Prop} {D : va_G} {A : Nat → Prop} {d : UD}
theorem wuf_X7_goesOn_L44 (X : u_X RX7 D A d p s m c cX7_goesOn 4 args) (hA : ∀ q, s.heap.size ≤ q → A q) (hR : 1 ≤ R.frames ∧ 22 ≤ R.locals) (rc : UM → Nat → Int32 → Int32 → Option ((Int32 × UM) × UC)) {rcfr rclo : Nat} (hRc : rcfr + 1 ≤ R.frames ∧ 8 + (4 + 11) + rclo ≤ R.locals) (hrc : ∀ (u : UM) (t : Nat) (p0 : Int32) (p1 : Int32) (r0 : Int32) (ur : UM) (C : UC), rc u t p0 p1 = some ((r0, ur), C) → u_M l yX7_goesOn (ws_ yX7_goesOn cX7_goesOn 4 (some .boolean)) rcfr rclo C D d u [.ref t, .int p0, .int p1] (some (.int r0)) ur) (n : Nat) (v0 : Nat) (v1 : Int32) (v2 : Int32) (x : (Int32 × UM)) (z : (UM ⊕ UM)) (C cr : UC) (hz : uf_X7_goesOn_L44l n d rc v0 v1 v2 x = some (z, C)) (hE : (u_e (fun (z : UM) (C : UC) => ∀ (H : Heap) (locs : List Loc) (ls : Array Slot) (cells slots : Nat), u_left R cells slots C → u_I D A s.heap z H locs cells → lv_has ls 4 [] → W p l e R s m args below meth c H locs cells slots Q (F0 m 102 ls [])) (fun (z : UM) (C : UC) => ∀ (H : Heap) (locs : List Loc) (ls : Array Slot) (cells slots : Nat), u_left R cells slots C → u_I D A s.heap z H locs cells → lv_has ls 4 [] → W p l e R s m args below meth c H locs cells slots Q (F0 m 110 ls []))) z cr) : (fun (x : (Int32 × UM)) (C : UC) => ∀ (H : Heap) (locs : List Loc) (ls : Array Slot) (cells slots : Nat), u_left R cells slots C → u_I D A s.heap x.2 H locs cells → lv_has ls 4 [(0, .ref v0), (1, .int v1), (2, .int v2), (3, .int x.1)] → W p l e R s m args below meth c H locs cells slots Q (F0 m 44 ls [])) x (u_add C cr) := by
  refine u_lpW (G := fun (x : (Int32 × UM)) (C : UC) => ∀ (H : Heap) (locs : List Loc) (ls : Array Slot) (cells slots : Nat), u_left R cells slots C → u_I D A s.heap x.2 H locs cells → lv_has ls 4 [(0, .ref v0), (1, .int v1), (2, .int v2), (3, .int x.1)] → W p l e R s m args below meth c H locs cells slots Q (F0 m 44 ls [])) (E := u_e (fun (z : UM) (C : UC) => ∀ (H : Heap) (locs : List Loc) (ls : Array Slot) (cells slots : Nat), u_left R cells slots C → u_I D A s.heap z H locs cells → lv_has ls 4 [] → W p l e R s m args below meth c H locs cells slots Q (F0 m 102 ls [])) (fun (z : UM) (C : UC) => ∀ (H : Heap) (locs : List Loc) (ls : Array Slot) (cells slots : Nat), u_left R cells slots C → u_I D A s.heap z H locs cells → lv_has ls 4 [] → W p l e R s m args below meth c H locs cells slots Q (F0 m 110 ls []))) ?_ n x z C cr hz hE
  rintro ⟨v3, u⟩ r C cr h hr H locs ls cells slots hC I hl
  replace h : uf_X7_goesOn_L44 n d rc v0 v1 v2 v3 u = some (r, C) := h
  have k104 : ∀ (u : UM) (v3 : Int32) (H : Heap) (locs : List Loc) (ls : Array Slot) (cells slots : Nat) (C : UC), uf_X7_goesOn_J104 n d rc u v0 v1 v2 v3 = some (r, C) → u_left R cells slots (u_add C cr) → u_I D A s.heap u H locs cells → lv_has ls 4 [(0, .ref v0), (1, .int v1), (2, .int v2), (3, .int v3)] → W p l e R s m args below meth c H locs cells slots Q (F0 m 104 ls []) := by
    intro u v3 H locs ls cells slots C h hC I hl
    unfold uf_X7_goesOn_J104 at h
    refine lv_iinc (v := v3 + 1) (lv' := [(3, .int (v3 + 1)), (0, .ref v0), (1, .int v1), (2, .int v2)]) X.1 X.2.1 dX7_goesOn_104 hl (k := 3) rfl rfl (by decide) rfl (fun ls hl => ?_)
    refine lv_goto (tgt := 44) X.1 X.2.1 dX7_goesOn_107 (by decide) ?_
    obtain ⟨rfl, rfl⟩ := m_e3 h
    exact hr H locs ls _ _ (u_left0 hC) I (lv_sub hl [1, 2, 3, 0] rfl)
  unfold uf_X7_goesOn_L44 at h
  refine lv_iload_n X.1 X.2.1 dX7_goesOn_44 rfl (lv_at hl 3 rfl) ?_
  refine lv_aload_n X.1 X.2.1 dX7_goesOn_45 rfl (lv_at hl 0 rfl) ?_
  obtain ⟨b8, e9, h⟩ := m_bS h
  refine u_Gi X I e9 (C := RX7) (T := TX7) (N := 4) (ref := "SwapPress$Rings") in_X7 rfl (by decide) rfl rfl q965 (fun _ h => h) dX7_goesOn_46 ?_
  refine lv_icmp_ge (tgt := 110) X.1 X.2.1 dX7_goesOn_49 (by decide) (fun c10 => ?_) (fun c10 => ?_)
  · replace h := m_ifT c10 h
    obtain ⟨rfl, rfl⟩ := m_e3 h
    exact hr H locs ls _ _ (u_left0 hC) I (lv_sub hl [] rfl)
  · replace h := m_ifF c10 h
    refine lv_iload_n X.1 X.2.1 dX7_goesOn_52 rfl (lv_at hl 2 rfl) ?_
    refine lv_iload_n X.1 X.2.1 dX7_goesOn_53 rfl (lv_at hl 3 rfl) ?_
    refine lv_ishr X.1 X.2.1 dX7_goesOn_54 ?_
    refine lv_iconst (v := 1) X.1 X.2.1 dX7_goesOn_55 (by decide) ?_
    refine lv_iand X.1 X.2.1 dX7_goesOn_56 ?_
    refine lv_iconst (v := 1) X.1 X.2.1 dX7_goesOn_57 (by decide) ?_
    refine lv_icmp_eq (tgt := 104) X.1 X.2.1 dX7_goesOn_58 (by decide) (fun c11 => ?_) (fun c11 => ?_)
    · replace h := m_ifT c11 h
      exact k104 u v3 H locs ls _ _ _ h hC I (lv_sub hl [0, 1, 2, 3] rfl)
    · replace h := m_ifF c11 h
      refine lv_aload_n X.1 X.2.1 dX7_goesOn_61 rfl (lv_at hl 0 rfl) ?_
      refine lv_aload_n X.1 X.2.1 dX7_goesOn_62 rfl (lv_at hl 0 rfl) ?_
      obtain ⟨b12, e13, h⟩ := m_bS h
      refine u_Gr X I e13 (C := RX7) (T := TX7) (N := 4) (ref := "SwapPress$Rings") in_X7 rfl (by decide) rfl rfl q967 (fun _ h => h) dX7_goesOn_63 ?_
      refine lv_iload_n X.1 X.2.1 dX7_goesOn_66 rfl (lv_at hl 1 rfl) ?_
      refine lv_iconst (v := 1) X.1 X.2.1 dX7_goesOn_67 (by decide) ?_
      refine lv_isub X.1 X.2.1 dX7_goesOn_68 ?_
      obtain ⟨b14, e15, h⟩ := m_bS h
      refine u_LI X I e15 dX7_goesOn_69 ?_
      refine lv_iload_n X.1 X.2.1 dX7_goesOn_70 rfl (lv_at hl 3 rfl) ?_
      obtain ⟨f16, e17, h⟩ := m_bS h
      obtain ⟨r19, e18, h⟩ := m_bS h
      refine u_callVp X hl.1 I hA (As := [.int b14, .int v3]) (rest := []) (uk_X7_at l n D d u v0 b14 v3 _ e18) (u_clS e17) (C := RX7) (T := TX7) (N := 4) rfl 2 q988 q990 qs25 q124 q991 uh_X7_at rfl rfl ⟨Nat.le_trans (Nat.le_of_ble_eq_true rfl) hR.1, Nat.le_trans (Nat.le_of_ble_eq_true rfl) hR.2⟩ (u_leftLe hC) (stk := [.int r19]) rfl (Nat.le_of_ble_eq_true rfl) dX7_goesOn_71 (fun H locs I => ?_)
      refine lv_if_ne (tgt := 80) X.1 X.2.1 dX7_goesOn_74 (by decide) (fun c20 => ?_) (fun c20 => ?_)
      · replace h := m_ifF c20 h
        refine lv_aload_n X.1 X.2.1 dX7_goesOn_80 rfl (lv_at hl 0 rfl) ?_
        obtain ⟨b21, e22, h⟩ := m_bS h
        refine u_Gr X I e22 (C := RX7) (T := TX7) (N := 4) (ref := "SwapPress$Rings") in_X7 rfl (by decide) rfl rfl q967 (fun _ h => h) dX7_goesOn_81 ?_
        refine lv_iload_n X.1 X.2.1 dX7_goesOn_84 rfl (lv_at hl 1 rfl) ?_
        refine lv_iload_n X.1 X.2.1 dX7_goesOn_85 rfl (lv_at hl 3 rfl) ?_
        obtain ⟨w23, e24, h⟩ := m_bS h
        refine u_SI X I e24 dX7_goesOn_86 (fun H locs I => ?_)
        refine lv_aload_n X.1 X.2.1 dX7_goesOn_87 rfl (lv_at hl 0 rfl) ?_
        refine lv_iload_n X.1 X.2.1 dX7_goesOn_88 rfl (lv_at hl 1 rfl) ?_
        refine lv_iconst (v := 1) X.1 X.2.1 dX7_goesOn_89 (by decide) ?_
        refine lv_iadd X.1 X.2.1 dX7_goesOn_90 ?_
        refine lv_iload_n X.1 X.2.1 dX7_goesOn_91 rfl (lv_at hl 2 rfl) ?_
        refine lv_iconst (v := 1) X.1 X.2.1 dX7_goesOn_92 (by decide) ?_
        refine lv_iload_n X.1 X.2.1 dX7_goesOn_93 rfl (lv_at hl 3 rfl) ?_
        refine lv_ishl X.1 X.2.1 dX7_goesOn_94 ?_
        refine lv_ior X.1 X.2.1 dX7_goesOn_95 ?_
        obtain ⟨f25, e26, h⟩ := m_bS h
        obtain ⟨r28, u29, C30, C31, e27, z32, h, hq⟩ := u_bcS h
        rw [hq] at hC
        refine u_callV X hl.1 I hA (As := [.int (v1 + 1), .int (v2 ||| (1 <<< (v3 &&& 31)))]) (rest := []) (hrc (w23, u.2) v0 (v1 + 1) (v2 ||| (1 <<< (v3 &&& 31))) _ _ _ e27) z32 (u_clS e26) (C := RX7) (T := TX7) (N := 4) rfl 2 q984 q986 qs24 q124 q987 uh_X7_goesOn rfl rfl hRc hC (stk := [.int r28]) rfl (Nat.le_of_ble_eq_true rfl) dX7_goesOn_96 (fun H locs cells slots hC I => ?_)
        refine lv_if_eq (tgt := 104) X.1 X.2.1 dX7_goesOn_99 (by decide) (fun c33 => ?_) (fun c33 => ?_)
        · replace h := m_ifT c33 h
          exact k104 u29 v3 H locs ls _ _ _ h hC I (lv_sub hl [0, 1, 2, 3] rfl)
        · replace h := m_ifF c33 h
          obtain ⟨rfl, rfl⟩ := m_e3 h
          exact hr H locs ls _ _ (u_left0 hC) I (lv_sub hl [] rfl)
      · replace h := m_ifT c20 h
        refine lv_goto (tgt := 104) X.1 X.2.1 dX7_goesOn_77 (by decide) ?_
        exact k104 u v3 H locs ls _ _ _ h hC I (lv_sub hl [0, 1, 2, 3] rfl)
theorem uw_X7_goesOn (X : u_X RX7 D A d p s m c cX7_goesOn 4 args) (hA : ∀ q, s.heap.size ≤ q → A q) (hR : 1 ≤ R.frames ∧ 22 ≤ R.locals) (rc : UM → Nat → Int32 → Int32 → Option ((Int32 × UM) × UC)) {rcfr rclo : Nat} (hRc : rcfr + 1 ≤ R.frames ∧ 8 + (4 + 11) + rclo ≤ R.locals) (hrc : ∀ (u : UM) (t : Nat) (p0 : Int32) (p1 : Int32) (r0 : Int32) (ur : UM) (C : UC), rc u t p0 p1 = some ((r0, ur), C) → u_M l yX7_goesOn (ws_ yX7_goesOn cX7_goesOn 4 (some .boolean)) rcfr rclo C D d u [.ref t, .int p0, .int p1] (some (.int r0)) ur) (n : Nat) (u : UM) (t : Nat) (p0 : Int32) (p1 : Int32) (r0 : Int32) (ur : UM) (C : UC) (h : uf_X7_goesOn_body n d rc u t p0 p1 = some ((r0, ur), C)) (hret : ∀ (H : Heap) (locs : List Loc) (ls : Array Slot) (pc cells slots : Nat), m_01 r0 = true → decode cX7_goesOn pc = .ok (.ireturn, 1) → u_left R cells slots (u_add (0, 0) (0, 0)) → u_I D A s.heap ur H locs cells → W p l e R s m args below meth c H locs cells slots Q (F0 m pc ls [.int r0])) : ∀ (H : Heap) (locs : List Loc) (ls : Array Slot) (cells slots : Nat), u_left R cells slots (u_add C (0, 0)) → u_I D A s.heap u H locs cells → lv_has ls 4 [(0, .ref t), (1, .int p0), (2, .int p1)] → W p l e R s m args below meth c H locs cells slots Q (F0 m 0 ls []) := by
  have k34 : ∀ (u : UM) (t0 : Int32) (H : Heap) (locs : List Loc) (ls : Array Slot) (cells slots : Nat) (C : UC), uf_X7_goesOn_J34 n d rc u t0 = some ((r0, ur), C) → u_left R cells slots (u_add C (0, 0)) → u_I D A s.heap u H locs cells → lv_has ls 4 [] → W p l e R s m args below meth c H locs cells slots Q (F0 m 34 ls [.int t0]) := by
    intro u t0 H locs ls cells slots C h hC I hl
    unfold uf_X7_goesOn_J34 at h
    obtain ⟨g55, h⟩ := m_gS h
    obtain ⟨he, rfl⟩ := m_e3 h
    obtain ⟨rfl, rfl⟩ := m_e4 he
    exact hret H locs ls 34 _ _ g55 dX7_goesOn_34 hC I
  intro H locs ls cells slots hC I hl
  unfold uf_X7_goesOn_body at h
  refine lv_iload_n X.1 X.2.1 dX7_goesOn_0 rfl (lv_at hl 1 rfl) ?_
  refine lv_aload_n X.1 X.2.1 dX7_goesOn_1 rfl (lv_at hl 0 rfl) ?_
  obtain ⟨b1, e2, h⟩ := m_bS h
  refine u_Gi X I e2 (C := RX7) (T := TX7) (N := 4) (ref := "SwapPress$Rings") in_X7 rfl (by decide) rfl rfl q969 (fun _ h => h) dX7_goesOn_2 ?_
  refine lv_icmp_ne (tgt := 35) X.1 X.2.1 dX7_goesOn_5 (by decide) (fun c3 => ?_) (fun c3 => ?_)
  · replace h := m_ifF c3 h
    refine lv_aload_n X.1 X.2.1 dX7_goesOn_35 rfl (lv_at hl 0 rfl) ?_
    obtain ⟨b4, e5, h⟩ := m_bS h
    refine u_Gr X I e5 (C := RX7) (T := TX7) (N := 4) (ref := "SwapPress$Rings") in_X7 rfl (by decide) rfl rfl q967 (fun _ h => h) dX7_goesOn_36 ?_
    refine lv_iconst (v := 0) X.1 X.2.1 dX7_goesOn_39 (by decide) ?_
    obtain ⟨b6, e7, h⟩ := m_bS h
    refine u_LI X I e7 dX7_goesOn_40 ?_
    refine lv_iconst (v := 1) X.1 X.2.1 dX7_goesOn_41 (by decide) ?_
    refine lv_iadd X.1 X.2.1 dX7_goesOn_42 ?_
    refine lv_istore_n (lv' := [(3, .int (b6 + 1)), (0, .ref t), (1, .int p0), (2, .int p1)]) X.1 X.2.1 dX7_goesOn_43 rfl hl (by decide) rfl (fun ls hl => ?_)
    obtain ⟨u35 | u37, C40, C41, e34, h, hq⟩ := u_blS h
    · rw [hq] at hC
      replace h := m_sL h
      refine wuf_X7_goesOn_L44 X hA hR rc hRc hrc n t p0 p1 _ _ _ _ e34 (fun H locs ls cells slots hC I hl => ?_) H locs ls _ _ (u_left2 hC) I (lv_sub hl [1, 2, 3, 0] rfl)
      refine lv_iconst (v := 1) X.1 X.2.1 dX7_goesOn_102 (by decide) ?_
      obtain ⟨g36, h⟩ := m_gS h
      obtain ⟨he, rfl⟩ := m_e3 h
      obtain ⟨rfl, rfl⟩ := m_e4 he
      exact hret H locs ls 103 _ _ g36 dX7_goesOn_103 hC I
    · rw [hq] at hC
      replace h := m_sR h
      refine wuf_X7_goesOn_L44 X hA hR rc hRc hrc n t p0 p1 _ _ _ _ e34 (fun H locs ls cells slots hC I hl => ?_) H locs ls _ _ (u_left2 hC) I (lv_sub hl [1, 2, 3, 0] rfl)
      refine lv_iconst (v := 0) X.1 X.2.1 dX7_goesOn_110 (by decide) ?_
      obtain ⟨g38, h⟩ := m_gS h
      obtain ⟨he, rfl⟩ := m_e3 h
      obtain ⟨rfl, rfl⟩ := m_e4 he
      exact hret H locs ls 111 _ _ g38 dX7_goesOn_111 hC I
  · replace h := m_ifT c3 h
    refine lv_aload_n X.1 X.2.1 dX7_goesOn_8 rfl (lv_at hl 0 rfl) ?_
    refine lv_aload_n X.1 X.2.1 dX7_goesOn_9 rfl (lv_at hl 0 rfl) ?_
    obtain ⟨b42, e43, h⟩ := m_bS h
    refine u_Gr X I e43 (C := RX7) (T := TX7) (N := 4) (ref := "SwapPress$Rings") in_X7 rfl (by decide) rfl rfl q967 (fun _ h => h) dX7_goesOn_10 ?_
    refine lv_iload_n X.1 X.2.1 dX7_goesOn_13 rfl (lv_at hl 1 rfl) ?_
    refine lv_iconst (v := 1) X.1 X.2.1 dX7_goesOn_14 (by decide) ?_
    refine lv_isub X.1 X.2.1 dX7_goesOn_15 ?_
    obtain ⟨b44, e45, h⟩ := m_bS h
    refine u_LI X I e45 dX7_goesOn_16 ?_
    refine lv_aload_n X.1 X.2.1 dX7_goesOn_17 rfl (lv_at hl 0 rfl) ?_
    obtain ⟨b46, e47, h⟩ := m_bS h
    refine u_Gr X I e47 (C := RX7) (T := TX7) (N := 4) (ref := "SwapPress$Rings") in_X7 rfl (by decide) rfl rfl q967 (fun _ h => h) dX7_goesOn_18 ?_
    refine lv_iconst (v := 0) X.1 X.2.1 dX7_goesOn_21 (by decide) ?_
    obtain ⟨b48, e49, h⟩ := m_bS h
    refine u_LI X I e49 dX7_goesOn_22 ?_
    obtain ⟨f50, e51, h⟩ := m_bS h
    obtain ⟨r53, e52, h⟩ := m_bS h
    refine u_callVp X hl.1 I hA (As := [.int b44, .int b48]) (rest := []) (uk_X7_at l n D d u t b44 b48 _ e52) (u_clS e51) (C := RX7) (T := TX7) (N := 4) rfl 2 q988 q990 qs25 q124 q991 uh_X7_at rfl rfl ⟨Nat.le_trans (Nat.le_of_ble_eq_true rfl) hR.1, Nat.le_trans (Nat.le_of_ble_eq_true rfl) hR.2⟩ (u_leftLe hC) (stk := [.int r53]) rfl (Nat.le_of_ble_eq_true rfl) dX7_goesOn_23 (fun H locs I => ?_)
    refine lv_if_le (tgt := 33) X.1 X.2.1 dX7_goesOn_26 (by decide) (fun c54 => ?_) (fun c54 => ?_)
    · replace h := m_ifT c54 h
      refine lv_iconst (v := 0) X.1 X.2.1 dX7_goesOn_33 (by decide) ?_
      exact k34 u 0 H locs ls _ _ _ h hC I (lv_sub hl [] rfl)
    · replace h := m_ifF c54 h
      refine lv_iconst (v := 1) X.1 X.2.1 dX7_goesOn_29 (by decide) ?_
      refine lv_goto (tgt := 34) X.1 X.2.1 dX7_goesOn_30 (by decide) ?_
      exact k34 u 1 H locs ls _ _ _ h hC I (lv_sub hl [] rfl)
end S_X7_goesOn
def uf_X7_goesOn_rec (n : Nat) (d : UD) : Nat → UM → Nat → Int32 → Int32 → Option ((Int32 × UM) × UC)
  | 0 => fun _ _ _ _ => none
  | k + 1 => fun u t p0 p1 => uf_X7_goesOn_body n d (uf_X7_goesOn_rec n d k) u t p0 p1
theorem uk_X7_goesOn_rec (l : Launch) (n : Nat) (D : va_G) (d : UD) : ∀ (k : Nat) (u : UM) (t : Nat) (p0 : Int32) (p1 : Int32) (r0 : Int32) (ur : UM) (C : UC), uf_X7_goesOn_rec n d k u t p0 p1 = some ((r0, ur), C) → u_M l yX7_goesOn (ws_ yX7_goesOn cX7_goesOn 4 (some .boolean)) (1 + k) (22 + k * 23) C D d u [.ref t, .int p0, .int p1] (some (.int r0)) ur := by
  intro k
  induction k with
  | zero => intro u t p0 p1 r0 ur C h; cases h
  | succ k ih =>
    intro u t p0 p1 r0 ur C h
    exact u_start (own := RX7) (lvl := [(0, .ref t), (1, .int p0), (2, .int p1)]) (by decide) rfl (Nat.le_of_ble_eq_true rfl) rfl (fun p e s m args below meth c ls X hr hlk hI hl hA I hC => uw_X7_goesOn X hA ⟨Nat.le_add_right _ _, Nat.le_add_right _ _⟩ (uf_X7_goesOn_rec n d k) ⟨Nat.le_refl _, by show 8 + (4 + 11) + (22 + k * 23) ≤ 22 + (k + 1) * 23; omega⟩ ih n u t p0 p1 r0 ur C h (fun H locs ls pc cells slots g hd hC I => u_zret X I hr hlk g (u_leftE hC) hd) _ _ ls _ _ hC I hl)
def uf_X7_goesOn (n : Nat) (d : UD) (u : UM) (t : Nat) (p0 : Int32) (p1 : Int32) : Option ((Int32 × UM) × UC) := uf_X7_goesOn_rec n d 9 u t p0 p1
theorem uk_X7_goesOn (l : Launch) (n : Nat) (D : va_G) (d : UD) (u : UM) (t : Nat) (p0 : Int32) (p1 : Int32) (r0 : Int32) (ur : UM) (C : UC) (h : uf_X7_goesOn n d u t p0 p1 = some ((r0, ur), C)) : u_M l yX7_goesOn (ws_ yX7_goesOn cX7_goesOn 4 (some .boolean)) 10 229 C D d u [.ref t, .int p0, .int p1] (some (.int r0)) ur := uk_X7_goesOn_rec l n D d 9 u t p0 p1 r0 ur C h

/-! SwapPress$Rings.load()I -/
def uf_X7_load_L18 (n : Nat) (d : UD) (u : UM) (v0 : Nat) (v1 : Int32) (v2 : Int32) : Option ((Int32 × Int32) ⊕ Int32) :=
  m_b (u_fi d u 7 3 v0) (fun b13 => m_if ((b13 : Int32) ≤ (v2 : Int32)) (some (.inr v1)) (m_b (u_fr d u 7 2 v0) (fun b16 => m_b (u_ldI d u b16 v2) (fun b18 => m_b (u_cl u 7 v0) (fun f20 => m_b (uf_X7_next n d u v0 v2) (fun r23 => m_b (u_cl u 7 v0) (fun f24 => m_b (uf_X7_at n d u v0 b18 r23) (fun r27 => m_b (some (if (r27 : Int32) < (v1 : Int32) then (r27 : Int32) else (v1 : Int32))) (fun y28 => some (.inl ((y28, v2 + 1))))))))))))
def uf_X7_load_L18l (n : Nat) (d : UD) (u : UM) (v0 : Nat) (x : (Int32 × Int32)) : Option Int32 := m_lp (fun (x : (Int32 × Int32)) => uf_X7_load_L18 n d u v0 x.1 x.2) n x
def uf_X7_load (n : Nat) (d : UD) (u : UM) (t : Nat) : Option Int32 :=
  m_b (u_fr d u 7 2 t) (fun b1 => m_b (u_ldI d u b1 0) (fun b3 => m_b (u_cl u 7 t) (fun f5 => m_b (uf_X7_next n d u t 0) (fun r8 => m_b (u_cl u 7 t) (fun f9 => m_b (uf_X7_at n d u t b3 r8) (fun r12 => m_b (uf_X7_load_L18l n d u t ((r12, 1))) (fun z31 => some z31)))))))
theorem uh_X7_load : yX7_load.cls = RX7 ∧ yX7_load.cls ≠ "java/lang/invoke/MethodHandle" ∧ yX7_load.cls ≠ "java/lang/invoke/VarHandle" ∧ (parseMethodDescriptor yX7_load.desc).map (fun d => d.parameters.length) = some 0 := by decide +kernel
section S_X7_load
variable {p : Program} {l : Launch} {e : Env} {R : Room} {s : State} {m : MethodId} {args : Array Value} {below : List Frame} {meth : Method} {c : Code} {Q : State → Prop} {D : va_G} {A : Nat → Prop} {d : UD} {cells slots : Nat}
theorem wuf_X7_load_L18 (X : u_X RX7 D A d p s m c cX7_load 3 args) (hA : ∀ q, s.heap.size ≤ q → A q) (hR : 1 ≤ R.frames ∧ 40 ≤ R.locals) (hf : cells ≤ R.cells ∧ slots ≤ R.slots) (n : Nat) (u : UM) (v0 : Nat) (x : (Int32 × Int32)) (z : Int32) (hz : uf_X7_load_L18l n d u v0 x = some z) (hE : (fun (z : Int32) => ∀ (H : Heap) (locs : List Loc) (ls : Array Slot), u_I D A s.heap u H locs cells → lv_has ls 3 [(1, .int z)] → W p l e R s m args below meth c H locs cells slots Q (F0 m 52 ls [])) z) : (fun (x : (Int32 × Int32)) => ∀ (H : Heap) (locs : List Loc) (ls : Array Slot), u_I D A s.heap u H locs cells → lv_has ls 3 [(0, .ref v0), (1, .int x.1), (2, .int x.2)] → W p l e R s m args below meth c H locs cells slots Q (F0 m 18 ls [])) x := by
  refine m_lpW (G := fun (x : (Int32 × Int32)) => ∀ (H : Heap) (locs : List Loc) (ls : Array Slot), u_I D A s.heap u H locs cells → lv_has ls 3 [(0, .ref v0), (1, .int x.1), (2, .int x.2)] → W p l e R s m args below meth c H locs cells slots Q (F0 m 18 ls [])) (E := fun (z : Int32) => ∀ (H : Heap) (locs : List Loc) (ls : Array Slot), u_I D A s.heap u H locs cells → lv_has ls 3 [(1, .int z)] → W p l e R s m args below meth c H locs cells slots Q (F0 m 52 ls [])) ?_ n x z hz hE
  rintro ⟨v1, v2⟩ r h hr H locs ls I hl
  replace h : uf_X7_load_L18 n d u v0 v1 v2 = some r := h
  unfold uf_X7_load_L18 at h
  refine lv_iload_n X.1 X.2.1 dX7_load_18 rfl (lv_at hl 2 rfl) ?_
  refine lv_aload_n X.1 X.2.1 dX7_load_19 rfl (lv_at hl 0 rfl) ?_
  obtain ⟨b13, e14, h⟩ := m_bS h
  refine u_Gi X I e14 (C := RX7) (T := TX7) (N := 4) (ref := "SwapPress$Rings") in_X7 rfl (by decide) rfl rfl q969 (fun _ h => h) dX7_load_20 ?_
  refine lv_icmp_ge (tgt := 52) X.1 X.2.1 dX7_load_23 (by decide) (fun c15 => ?_) (fun c15 => ?_)
  · replace h := m_ifT c15 h
    cases h
    exact hr H locs ls I (lv_sub hl [1] rfl)
  · replace h := m_ifF c15 h
    refine lv_iload_n X.1 X.2.1 dX7_load_26 rfl (lv_at hl 1 rfl) ?_
    refine lv_aload_n X.1 X.2.1 dX7_load_27 rfl (lv_at hl 0 rfl) ?_
    refine lv_aload_n X.1 X.2.1 dX7_load_28 rfl (lv_at hl 0 rfl) ?_
    obtain ⟨b16, e17, h⟩ := m_bS h
    refine u_Gr X I e17 (C := RX7) (T := TX7) (N := 4) (ref := "SwapPress$Rings") in_X7 rfl (by decide) rfl rfl q967 (fun _ h => h) dX7_load_29 ?_
    refine lv_iload_n X.1 X.2.1 dX7_load_32 rfl (lv_at hl 2 rfl) ?_
    obtain ⟨b18, e19, h⟩ := m_bS h
    refine u_LI X I e19 dX7_load_33 ?_
    refine lv_aload_n X.1 X.2.1 dX7_load_34 rfl (lv_at hl 0 rfl) ?_
    refine lv_iload_n X.1 X.2.1 dX7_load_35 rfl (lv_at hl 2 rfl) ?_
    obtain ⟨f20, e21, h⟩ := m_bS h
    obtain ⟨r23, e22, h⟩ := m_bS h
    refine u_callVp X hl.1 I hA (As := [.int v2]) (rest := [.int b18, .ref v0, .int v1]) (uk_X7_next l n D d u v0 v2 _ e22) (u_clS e21) (C := RX7) (T := TX7) (N := 4) rfl 1 q996 q997 q998 q124 q999 uh_X7_next rfl rfl ⟨Nat.le_trans (Nat.le_of_ble_eq_true rfl) hR.1, Nat.le_trans (Nat.le_of_ble_eq_true rfl) hR.2⟩ hf (stk := [.int r23, .int b18, .ref v0, .int v1]) rfl (Nat.le_of_ble_eq_true rfl) dX7_load_36 (fun H locs I => ?_)
    obtain ⟨f24, e25, h⟩ := m_bS h
    obtain ⟨r27, e26, h⟩ := m_bS h
    refine u_callVp X hl.1 I hA (As := [.int b18, .int r23]) (rest := [.int v1]) (uk_X7_at l n D d u v0 b18 r23 _ e26) (u_clS e25) (C := RX7) (T := TX7) (N := 4) rfl 2 q988 q990 qs25 q124 q991 uh_X7_at rfl rfl ⟨Nat.le_trans (Nat.le_of_ble_eq_true rfl) hR.1, Nat.le_trans (Nat.le_of_ble_eq_true rfl) hR.2⟩ hf (stk := [.int r27, .int v1]) rfl (Nat.le_of_ble_eq_true rfl) dX7_load_39 (fun H locs I => ?_)
    refine va_mmin X.1 X.2.1 (X.2.2.2.2.2.1.trans hl.1.symm) X.2.2.2.1 (X.2.2.1 _ q1000) (X.2.2.1 _ q401) (X.2.2.1 _ q114) (X.2.2.1 _ q402) (Nat.le_trans (Nat.le_of_ble_eq_true rfl) hR.1) (Nat.le_trans (Nat.le_of_ble_eq_true rfl) hR.2) hf.1 hf.2 dX7_load_42 ?_
    obtain ⟨y28, e29, h⟩ := m_bS h
    rw [m_e1 e29]
    refine lv_istore_n (lv' := [(1, .int y28), (0, .ref v0), (2, .int v2)]) X.1 X.2.1 dX7_load_45 rfl hl (by decide) rfl (fun ls hl => ?_)
    refine lv_iinc (v := v2 + 1) (lv' := [(2, .int (v2 + 1)), (1, .int y28), (0, .ref v0)]) X.1 X.2.1 dX7_load_46 hl (k := 2) rfl rfl (by decide) rfl (fun ls hl => ?_)
    refine lv_goto (tgt := 18) X.1 X.2.1 dX7_load_49 (by decide) ?_
    cases h
    exact hr H locs ls I (lv_sub hl [2, 1, 0] rfl)
theorem uw_X7_load (X : u_X RX7 D A d p s m c cX7_load 3 args) (hA : ∀ q, s.heap.size ≤ q → A q) (hR : 1 ≤ R.frames ∧ 40 ≤ R.locals) (hf : cells ≤ R.cells ∧ slots ≤ R.slots) (n : Nat) (u : UM) (t : Nat) (r : Int32) (h : uf_X7_load n d u t = some r) (hret : ∀ (H : Heap) (locs : List Loc) (ls : Array Slot) (pc : Nat), decode cX7_load pc = .ok (.ireturn, 1) → u_I D A s.heap u H locs cells → W p l e R s m args below meth c H locs cells slots Q (F0 m pc ls [.int r])) : ∀ (H : Heap) (locs : List Loc) (ls : Array Slot), u_I D A s.heap u H locs cells → lv_has ls 3 [(0, .ref t)] → W p l e R s m args below meth c H locs cells slots Q (F0 m 0 ls []) := by
  intro H locs ls I hl
  unfold uf_X7_load at h
  refine lv_aload_n X.1 X.2.1 dX7_load_0 rfl (lv_at hl 0 rfl) ?_
  refine lv_aload_n X.1 X.2.1 dX7_load_1 rfl (lv_at hl 0 rfl) ?_
  obtain ⟨b1, e2, h⟩ := m_bS h
  refine u_Gr X I e2 (C := RX7) (T := TX7) (N := 4) (ref := "SwapPress$Rings") in_X7 rfl (by decide) rfl rfl q967 (fun _ h => h) dX7_load_2 ?_
  refine lv_iconst (v := 0) X.1 X.2.1 dX7_load_5 (by decide) ?_
  obtain ⟨b3, e4, h⟩ := m_bS h
  refine u_LI X I e4 dX7_load_6 ?_
  refine lv_aload_n X.1 X.2.1 dX7_load_7 rfl (lv_at hl 0 rfl) ?_
  refine lv_iconst (v := 0) X.1 X.2.1 dX7_load_8 (by decide) ?_
  obtain ⟨f5, e6, h⟩ := m_bS h
  obtain ⟨r8, e7, h⟩ := m_bS h
  refine u_callVp X hl.1 I hA (As := [.int 0]) (rest := [.int b3, .ref t]) (uk_X7_next l n D d u t 0 _ e7) (u_clS e6) (C := RX7) (T := TX7) (N := 4) rfl 1 q996 q997 q998 q124 q999 uh_X7_next rfl rfl ⟨Nat.le_trans (Nat.le_of_ble_eq_true rfl) hR.1, Nat.le_trans (Nat.le_of_ble_eq_true rfl) hR.2⟩ hf (stk := [.int r8, .int b3, .ref t]) rfl (Nat.le_of_ble_eq_true rfl) dX7_load_9 (fun H locs I => ?_)
  obtain ⟨f9, e10, h⟩ := m_bS h
  obtain ⟨r12, e11, h⟩ := m_bS h
  refine u_callVp X hl.1 I hA (As := [.int b3, .int r8]) (rest := []) (uk_X7_at l n D d u t b3 r8 _ e11) (u_clS e10) (C := RX7) (T := TX7) (N := 4) rfl 2 q988 q990 qs25 q124 q991 uh_X7_at rfl rfl ⟨Nat.le_trans (Nat.le_of_ble_eq_true rfl) hR.1, Nat.le_trans (Nat.le_of_ble_eq_true rfl) hR.2⟩ hf (stk := [.int r12]) rfl (Nat.le_of_ble_eq_true rfl) dX7_load_12 (fun H locs I => ?_)
  refine lv_istore_n (lv' := [(1, .int r12), (0, .ref t)]) X.1 X.2.1 dX7_load_15 rfl hl (by decide) rfl (fun ls hl => ?_)
  refine lv_iconst (v := 1) X.1 X.2.1 dX7_load_16 (by decide) ?_
  refine lv_istore_n (lv' := [(2, .int 1), (1, .int r12), (0, .ref t)]) X.1 X.2.1 dX7_load_17 rfl hl (by decide) rfl (fun ls hl => ?_)
  obtain ⟨z31, e30, h⟩ := m_bS h
  refine wuf_X7_load_L18 X hA hR hf n u t _ _ e30 (fun H locs ls I hl => ?_) H locs ls I (lv_sub hl [2, 1, 0] rfl)
  refine lv_iload_n X.1 X.2.1 dX7_load_52 rfl (lv_at hl 0 rfl) ?_
  obtain rfl := m_e1 h
  exact hret H locs ls 53 dX7_load_53 I
end S_X7_load
theorem uk_X7_load (l : Launch) (n : Nat) (D : va_G) (d : UD) (u : UM) (t : Nat) (r : Int32) (h : uf_X7_load n d u t = some r) : u_M l yX7_load (ws_ yX7_load cX7_load 3 (some .int)) 1 40 (0, 0) D d u [.ref t] (some (.int r)) u :=
  u_start (own := RX7) (lvl := [(0, .ref t)]) (by decide) rfl (Nat.le_of_ble_eq_true rfl) rfl (fun p e s m args below meth c ls X hr hlk hI hl hA I hC => uw_X7_load X hA ⟨Nat.le_refl _, Nat.le_refl _⟩ ⟨Nat.zero_le _, Nat.zero_le _⟩ n u t r h (fun H locs ls pc hd I => u_iret X I hr hlk ⟨rfl, rfl⟩ hd) _ _ ls I hl)

/-! SwapPress$Rings.takes()I -/
def uf_X7_takes_L7 (n : Nat) (d : UD) (v0 : Nat) (v1 : Int32) (v2 : Int32) (u : UM) : Option (((Int32 × UM) ⊕ UM) × UC) :=
  m_b (u_fi d u 7 3 v0) (fun b5 => m_if ((b5 : Int32) ≤ (v2 : Int32)) (some (.inr u, (0, 0))) (m_b (u_fr d u 7 1 v0) (fun b8 => m_b (u_fr d u 7 2 v0) (fun b10 => m_b (u_ldI d u b10 v2) (fun b12 => m_b (u_cl u 7 v0) (fun f14 => m_b (uf_X7_next n d u v0 v2) (fun r17 => m_b (u_ldI d u b8 ((8 * b12) + r17)) (fun b18 => m_b (u_stI d u b8 ((8 * b12) + r17) (b18 - v1)) (fun w20 => some (.inl ((v2 + 1, (w20, u.2))), (0, 0)))))))))))
def uf_X7_takes_L7l (n : Nat) (d : UD) (v0 : Nat) (v1 : Int32) (x : (Int32 × UM)) : Option (UM × UC) := u_lp (fun (x : (Int32 × UM)) => uf_X7_takes_L7 n d v0 v1 x.1 x.2) n x
def uf_X7_takes (n : Nat) (d : UD) (u : UM) (t : Nat) : Option ((Int32 × UM) × UC) :=
  m_b (u_cl u 7 t) (fun f1 => m_b (uf_X7_load n d u t) (fun r4 => u_bl (uf_X7_takes_L7l n d t r4 ((0, u))) (fun u23 => m_b (u_fi d u23 7 3 t) (fun b24 => some ((r4 * b24, u23), (0, 0))))))
theorem uh_X7_takes : yX7_takes.cls = RX7 ∧ yX7_takes.cls ≠ "java/lang/invoke/MethodHandle" ∧ yX7_takes.cls ≠ "java/lang/invoke/VarHandle" ∧ (parseMethodDescriptor yX7_takes.desc).map (fun d => d.parameters.length) = some 0 := by decide +kernel
section S_X7_takes
variable {p : Program} {l : Launch} {e : Env} {R : Room} {s : State} {m : MethodId} {args : Array Value} {below : List Frame} {meth : Method} {c : Code} {Q : State → Prop} {D : va_G} {A : Nat → Prop} {d : UD}
theorem wuf_X7_takes_L7 (X : u_X RX7 D A d p s m c cX7_takes 3 args) (hA : ∀ q, s.heap.size ≤ q → A q) (hR : 2 ≤ R.frames ∧ 62 ≤ R.locals) (n : Nat) (v0 : Nat) (v1 : Int32) (x : (Int32 × UM)) (z : UM) (C cr : UC) (hz : uf_X7_takes_L7l n d v0 v1 x = some (z, C)) (hE : (fun (z : UM) (C : UC) => ∀ (H : Heap) (locs : List Loc) (ls : Array Slot) (cells slots : Nat), u_left R cells slots C → u_I D A s.heap z H locs cells → lv_has ls 3 [(0, .ref v0), (1, .int v1)] → W p l e R s m args below meth c H locs cells slots Q (F0 m 45 ls [])) z cr) : (fun (x : (Int32 × UM)) (C : UC) => ∀ (H : Heap) (locs : List Loc) (ls : Array Slot) (cells slots : Nat), u_left R cells slots C → u_I D A s.heap x.2 H locs cells → lv_has ls 3 [(0, .ref v0), (1, .int v1), (2, .int x.1)] → W p l e R s m args below meth c H locs cells slots Q (F0 m 7 ls [])) x (u_add C cr) := by
  refine u_lpW (G := fun (x : (Int32 × UM)) (C : UC) => ∀ (H : Heap) (locs : List Loc) (ls : Array Slot) (cells slots : Nat), u_left R cells slots C → u_I D A s.heap x.2 H locs cells → lv_has ls 3 [(0, .ref v0), (1, .int v1), (2, .int x.1)] → W p l e R s m args below meth c H locs cells slots Q (F0 m 7 ls [])) (E := fun (z : UM) (C : UC) => ∀ (H : Heap) (locs : List Loc) (ls : Array Slot) (cells slots : Nat), u_left R cells slots C → u_I D A s.heap z H locs cells → lv_has ls 3 [(0, .ref v0), (1, .int v1)] → W p l e R s m args below meth c H locs cells slots Q (F0 m 45 ls [])) ?_ n x z C cr hz hE
  rintro ⟨v2, u⟩ r C cr h hr H locs ls cells slots hC I hl
  replace h : uf_X7_takes_L7 n d v0 v1 v2 u = some (r, C) := h
  unfold uf_X7_takes_L7 at h
  refine lv_iload_n X.1 X.2.1 dX7_takes_7 rfl (lv_at hl 2 rfl) ?_
  refine lv_aload_n X.1 X.2.1 dX7_takes_8 rfl (lv_at hl 0 rfl) ?_
  obtain ⟨b5, e6, h⟩ := m_bS h
  refine u_Gi X I e6 (C := RX7) (T := TX7) (N := 4) (ref := "SwapPress$Rings") in_X7 rfl (by decide) rfl rfl q969 (fun _ h => h) dX7_takes_9 ?_
  refine lv_icmp_ge (tgt := 45) X.1 X.2.1 dX7_takes_12 (by decide) (fun c7 => ?_) (fun c7 => ?_)
  · replace h := m_ifT c7 h
    obtain ⟨rfl, rfl⟩ := m_e3 h
    exact hr H locs ls _ _ (u_left0 hC) I (lv_sub hl [0, 1] rfl)
  · replace h := m_ifF c7 h
    refine lv_aload_n X.1 X.2.1 dX7_takes_15 rfl (lv_at hl 0 rfl) ?_
    obtain ⟨b8, e9, h⟩ := m_bS h
    refine u_Gr X I e9 (C := RX7) (T := TX7) (N := 4) (ref := "SwapPress$Rings") in_X7 rfl (by decide) rfl rfl q966 (fun _ h => h) dX7_takes_16 ?_
    refine lv_bipush (v := 8) X.1 X.2.1 dX7_takes_19 (by decide) ?_
    refine lv_aload_n X.1 X.2.1 dX7_takes_21 rfl (lv_at hl 0 rfl) ?_
    obtain ⟨b10, e11, h⟩ := m_bS h
    refine u_Gr X I e11 (C := RX7) (T := TX7) (N := 4) (ref := "SwapPress$Rings") in_X7 rfl (by decide) rfl rfl q967 (fun _ h => h) dX7_takes_22 ?_
    refine lv_iload_n X.1 X.2.1 dX7_takes_25 rfl (lv_at hl 2 rfl) ?_
    obtain ⟨b12, e13, h⟩ := m_bS h
    refine u_LI X I e13 dX7_takes_26 ?_
    refine lv_imul X.1 X.2.1 dX7_takes_27 ?_
    refine lv_aload_n X.1 X.2.1 dX7_takes_28 rfl (lv_at hl 0 rfl) ?_
    refine lv_iload_n X.1 X.2.1 dX7_takes_29 rfl (lv_at hl 2 rfl) ?_
    obtain ⟨f14, e15, h⟩ := m_bS h
    obtain ⟨r17, e16, h⟩ := m_bS h
    refine u_callVp X hl.1 I hA (As := [.int v2]) (rest := [.int (8 * b12), .ref b8]) (uk_X7_next l n D d u v0 v2 _ e16) (u_clS e15) (C := RX7) (T := TX7) (N := 4) rfl 1 q996 q997 q998 q124 q999 uh_X7_next rfl rfl ⟨Nat.le_trans (Nat.le_of_ble_eq_true rfl) hR.1, Nat.le_trans (Nat.le_of_ble_eq_true rfl) hR.2⟩ (u_leftLe hC) (stk := [.int r17, .int (8 * b12), .ref b8]) rfl (Nat.le_of_ble_eq_true rfl) dX7_takes_30 (fun H locs I => ?_)
    refine lv_iadd X.1 X.2.1 dX7_takes_33 ?_
    refine lv_dup2_11 X.1 X.2.1 dX7_takes_34 rfl rfl ?_
    obtain ⟨b18, e19, h⟩ := m_bS h
    refine u_LI X I e19 dX7_takes_35 ?_
    refine lv_iload_n X.1 X.2.1 dX7_takes_36 rfl (lv_at hl 1 rfl) ?_
    refine lv_isub X.1 X.2.1 dX7_takes_37 ?_
    obtain ⟨w20, e21, h⟩ := m_bS h
    refine u_SI X I e21 dX7_takes_38 (fun H locs I => ?_)
    refine lv_iinc (v := v2 + 1) (lv' := [(2, .int (v2 + 1)), (0, .ref v0), (1, .int v1)]) X.1 X.2.1 dX7_takes_39 hl (k := 2) rfl rfl (by decide) rfl (fun ls hl => ?_)
    refine lv_goto (tgt := 7) X.1 X.2.1 dX7_takes_42 (by decide) ?_
    obtain ⟨rfl, rfl⟩ := m_e3 h
    exact hr H locs ls _ _ (u_left0 hC) I (lv_sub hl [1, 2, 0] rfl)
theorem uw_X7_takes (X : u_X RX7 D A d p s m c cX7_takes 3 args) (hA : ∀ q, s.heap.size ≤ q → A q) (hR : 2 ≤ R.frames ∧ 62 ≤ R.locals) (n : Nat) (u : UM) (t : Nat) (r0 : Int32) (ur : UM) (C : UC) (h : uf_X7_takes n d u t = some ((r0, ur), C)) (hret : ∀ (H : Heap) (locs : List Loc) (ls : Array Slot) (pc cells slots : Nat), decode cX7_takes pc = .ok (.ireturn, 1) → u_left R cells slots (u_add (0, 0) (0, 0)) → u_I D A s.heap ur H locs cells → W p l e R s m args below meth c H locs cells slots Q (F0 m pc ls [.int r0])) : ∀ (H : Heap) (locs : List Loc) (ls : Array Slot) (cells slots : Nat), u_left R cells slots (u_add C (0, 0)) → u_I D A s.heap u H locs cells → lv_has ls 3 [(0, .ref t)] → W p l e R s m args below meth c H locs cells slots Q (F0 m 0 ls []) := by
  intro H locs ls cells slots hC I hl
  unfold uf_X7_takes at h
  refine lv_aload_n X.1 X.2.1 dX7_takes_0 rfl (lv_at hl 0 rfl) ?_
  obtain ⟨f1, e2, h⟩ := m_bS h
  obtain ⟨r4, e3, h⟩ := m_bS h
  refine u_callVp X hl.1 I hA (As := []) (rest := []) (uk_X7_load l n D d u t _ e3) (u_clS e2) (C := RX7) (T := TX7) (N := 4) rfl 0 q1240 q993 q994 q124 q995 uh_X7_load rfl rfl ⟨Nat.le_trans (Nat.le_of_ble_eq_true rfl) hR.1, Nat.le_trans (Nat.le_of_ble_eq_true rfl) hR.2⟩ (u_leftLe hC) (stk := [.int r4]) rfl (Nat.le_of_ble_eq_true rfl) dX7_takes_1 (fun H locs I => ?_)
  refine lv_istore_n (lv' := [(1, .int r4), (0, .ref t)]) X.1 X.2.1 dX7_takes_4 rfl hl (by decide) rfl (fun ls hl => ?_)
  refine lv_iconst (v := 0) X.1 X.2.1 dX7_takes_5 (by decide) ?_
  refine lv_istore_n (lv' := [(2, .int 0), (1, .int r4), (0, .ref t)]) X.1 X.2.1 dX7_takes_6 rfl hl (by decide) rfl (fun ls hl => ?_)
  obtain ⟨u23, C26, C27, e22, h, hq⟩ := u_blS h
  rw [hq] at hC
  refine wuf_X7_takes_L7 X hA hR n t r4 _ _ _ _ e22 (fun H locs ls cells slots hC I hl => ?_) H locs ls _ _ (u_left2 hC) I (lv_sub hl [2, 1, 0] rfl)
  refine lv_iload_n X.1 X.2.1 dX7_takes_45 rfl (lv_at hl 1 rfl) ?_
  refine lv_aload_n X.1 X.2.1 dX7_takes_46 rfl (lv_at hl 0 rfl) ?_
  obtain ⟨b24, e25, h⟩ := m_bS h
  refine u_Gi X I e25 (C := RX7) (T := TX7) (N := 4) (ref := "SwapPress$Rings") in_X7 rfl (by decide) rfl rfl q969 (fun _ h => h) dX7_takes_47 ?_
  refine lv_imul X.1 X.2.1 dX7_takes_50 ?_
  obtain ⟨he, rfl⟩ := m_e3 h
  obtain ⟨rfl, rfl⟩ := m_e4 he
  exact hret H locs ls 51 _ _ dX7_takes_51 hC I
end S_X7_takes
theorem uk_X7_takes (l : Launch) (n : Nat) (D : va_G) (d : UD) (u : UM) (t : Nat) (r0 : Int32) (ur : UM) (C : UC) (h : uf_X7_takes n d u t = some ((r0, ur), C)) : u_M l yX7_takes (ws_ yX7_takes cX7_takes 3 (some .int)) 2 62 C D d u [.ref t] (some (.int r0)) ur :=
  u_start (own := RX7) (lvl := [(0, .ref t)]) (by decide) rfl (Nat.le_of_ble_eq_true rfl) rfl (fun p e s m args below meth c ls X hr hlk hI hl hA I hC => uw_X7_takes X hA ⟨Nat.le_refl _, Nat.le_refl _⟩ n u t r0 ur C h (fun H locs ls pc cells slots hd hC I => u_iret X I hr hlk (u_leftE hC) hd) _ _ ls _ _ hC I hl)

/-! SwapPress$Press.<init>(LSwapPress;I[ILSwapPress$Bounds;Z)V -/
def uf_X8_init_J156 (n : Nat) (d : UD) (u : UM) (v0 : Nat) (v2 : Int32) (v3 : Nat) (v4 : Nat) (v5 : Int32) (v6 : Int32) (v7 : Int32) : Option (((Int32 × UM) ⊕ UM) × UC) :=
  some (.inl ((v7 + 1, u)), (0, 0))
def uf_X8_init_L84 (n : Nat) (d : UD) (v0 : Nat) (v2 : Int32) (v3 : Nat) (v4 : Nat) (v5 : Int32) (v6 : Int32) (v7 : Int32) (u : UM) : Option (((Int32 × UM) ⊕ UM) × UC) :=
  m_if ((v2 : Int32) ≤ (v7 : Int32)) (some (.inr u, (0, 0))) (m_if ((v6 : Int32) = (v7 : Int32)) (uf_X8_init_J156 n d u v0 v2 v3 v4 v5 v6 v7) (m_b (u_fr d u 8 1 v0) (fun b37 => m_b (u_ldI d u b37 v6) (fun b39 => m_b (u_ldI d u v3 ((8 * v6) + v7)) (fun b41 => m_b (u_ldI d u v3 ((8 * v7) + v6)) (fun b43 => m_b (u_stI d u b37 v6 (b39 + (b41 - b43))) (fun w45 => m_b (u_fr d (w45, u.2) 8 2 v0) (fun b47 => m_b (u_fc (u_cl (w45, u.2) 9 v4) (uf_X10_of n d (w45, u.2) v4 v6 v7) (u_fc (u_cl (w45, u.2) 10 v4) (uf_X11_of n d (w45, u.2) v4 v6 v7) (u_fc (u_cl (w45, u.2) 11 v4) (uf_X12_of n d (w45, u.2) v4 v6 v7) (u_fc (u_cl (w45, u.2) 12 v4) (uf_X13_of n d (w45, u.2) v4 v6 v7) (none))))) (fun r49 => m_b (u_stL d (w45, u.2) b47 ((8 * v6) + v7) ((r49 : Int32).toInt64)) (fun w51 => uf_X8_init_J156 n d (w51, u.2) v0 v2 v3 v4 v5 v6 v7))))))))))
def uf_X8_init_L84l (n : Nat) (d : UD) (v0 : Nat) (v2 : Int32) (v3 : Nat) (v4 : Nat) (v5 : Int32) (v6 : Int32) (x : (Int32 × UM)) : Option (UM × UC) := u_lp (fun (x : (Int32 × UM)) => uf_X8_init_L84 n d v0 v2 v3 v4 v5 v6 x.1 x.2) n x
def uf_X8_init_J80 (n : Nat) (d : UD) (u : UM) (v0 : Nat) (v2 : Int32) (v3 : Nat) (v4 : Nat) (v5 : Int32) (v6 : Int32) (t0 : Int64) (t1 : Int32) (t2 : Nat) : Option (((Int32 × UM) ⊕ UM) × UC) :=
  m_b (u_stL d u t2 t1 t0) (fun w33 => u_bl (uf_X8_init_L84l n d v0 v2 v3 v4 v5 v6 ((0, (w33, u.2)))) (fun u54 => some (.inl ((v6 + 1, u54)), (0, 0))))
def uf_X8_init_L49 (n : Nat) (d : UD) (v0 : Nat) (v2 : Int32) (v3 : Nat) (v4 : Nat) (v5 : Int32) (v6 : Int32) (u : UM) : Option (((Int32 × UM) ⊕ UM) × UC) :=
  m_if ((v2 : Int32) ≤ (v6 : Int32)) (some (.inr u, (0, 0))) (m_b (u_fr d u 8 4 v0) (fun b30 => m_if ((v5 : Int32) = 0) (uf_X8_init_J80 n d u v0 v2 v3 v4 v5 v6 2305843009213693951 v6 b30) (m_b (uf_X0_throughOf n d u v2 v3 v6) (fun r58 => uf_X8_init_J80 n d u v0 v2 v3 v4 v5 v6 ((r58 : Int32).toInt64) v6 b30))))
def uf_X8_init_L49l (n : Nat) (d : UD) (v0 : Nat) (v2 : Int32) (v3 : Nat) (v4 : Nat) (v5 : Int32) (x : (Int32 × UM)) : Option (UM × UC) := u_lp (fun (x : (Int32 × UM)) => uf_X8_init_L49 n d v0 v2 v3 v4 v5 x.1 x.2) n x
def uf_X8_init (n : Nat) (d : UD) (u : UM) (t : Nat) (p0 : Nat) (p1 : Int32) (p2 : Nat) (p3 : Nat) (p4 : Int32) : Option ((Unit × UM) × UC) :=
  m_b (u_pf u 8 5 t (.ref p0)) (fun w1 => m_g (u_ln 8) (u_ac (1, (8 : Int32).toNatClampNeg) (m_b (some (u_nw (w1, u.2) (.inl (d.1 0, (8 : Int32).toNatClampNeg, .inl (fun _ => 0))))) (fun u4 => m_b (u_pf u4 8 1 t (.ref u.2)) (fun w7 => m_g (u_ln 64) (u_ac (1, (64 : Int32).toNatClampNeg) (m_b (some (u_nw (w7, u4.2) (.inl (d.1 1, (64 : Int32).toNatClampNeg, .inr (.inl (fun _ => 0)))))) (fun u10 => m_b (u_pf u10 8 2 t (.ref u4.2)) (fun w13 => m_g (u_ln 64) (u_ac (1, (64 : Int32).toNatClampNeg) (m_b (some (u_nw (w13, u10.2) (.inl (d.1 1, (64 : Int32).toNatClampNeg, .inr (.inl (fun _ => 0)))))) (fun u16 => m_b (u_pf u16 8 3 t (.ref u10.2)) (fun w19 => m_g (u_ln 8) (u_ac (1, (8 : Int32).toNatClampNeg) (m_b (some (u_nw (w19, u16.2) (.inl (d.1 1, (8 : Int32).toNatClampNeg, .inr (.inl (fun _ => 0)))))) (fun u22 => m_b (u_pf u22 8 4 t (.ref u16.2)) (fun w25 => m_b (u_pf (w25, u22.2) 8 0 t (.int p1)) (fun w27 => u_bl (uf_X8_init_L49l n d t p1 p2 p3 p4 ((0, (w27, u22.2)))) (fun u60 => some (((), u60), (0, 0)))))))))))))))))))))
theorem uh_X8_init : yX8_init.cls = RX8 ∧ yX8_init.cls ≠ "java/lang/invoke/MethodHandle" ∧ yX8_init.cls ≠ "java/lang/invoke/VarHandle" ∧ (parseMethodDescriptor yX8_init.desc).map (fun d => d.parameters.length) = some 5 := by decide +kernel
section S_X8_init
variable {p : Program} {l : Launch} {e : Env} {R : Room} {s : State} {m : MethodId} {args : Array Value} {below : List Frame} {meth : Method} {c : Code} {Q : State → Prop} {D : va_G} {A : Nat → Prop} {d : UD}
theorem wuf_X8_init_L84 (X : u_X RX8 D A d p s m c cX8_init 8 args) (hA : ∀ q, s.heap.size ≤ q → A q) (hR : 2 ≤ R.frames ∧ 65 ≤ R.locals) (hI : meth.name = "<init>") (n : Nat) (v0 : Nat) (v2 : Int32) (v3 : Nat) (v4 : Nat) (v5 : Int32) (v6 : Int32) (x : (Int32 × UM)) (z : UM) (C cr : UC) (hz : uf_X8_init_L84l n d v0 v2 v3 v4 v5 v6 x = some (z, C)) (hE : (fun (z : UM) (C : UC) => ∀ (H : Heap) (locs : List Loc) (ls : Array Slot) (cells slots : Nat), u_left R cells slots C → u_I D A s.heap z H locs cells → lv_has ls 8 [(0, .ref v0), (2, .int v2), (3, .ref v3), (4, .ref v4), (5, .int v5), (6, .int v6)] → W p l e R s m args below meth c H locs cells slots Q (F0 m 162 ls [])) z cr) : (fun (x : (Int32 × UM)) (C : UC) => ∀ (H : Heap) (locs : List Loc) (ls : Array Slot) (cells slots : Nat), u_left R cells slots C → u_I D A s.heap x.2 H locs cells → lv_has ls 8 [(0, .ref v0), (2, .int v2), (3, .ref v3), (4, .ref v4), (5, .int v5), (6, .int v6), (7, .int x.1)] → W p l e R s m args below meth c H locs cells slots Q (F0 m 84 ls [])) x (u_add C cr) := by
  refine u_lpW (G := fun (x : (Int32 × UM)) (C : UC) => ∀ (H : Heap) (locs : List Loc) (ls : Array Slot) (cells slots : Nat), u_left R cells slots C → u_I D A s.heap x.2 H locs cells → lv_has ls 8 [(0, .ref v0), (2, .int v2), (3, .ref v3), (4, .ref v4), (5, .int v5), (6, .int v6), (7, .int x.1)] → W p l e R s m args below meth c H locs cells slots Q (F0 m 84 ls [])) (E := fun (z : UM) (C : UC) => ∀ (H : Heap) (locs : List Loc) (ls : Array Slot) (cells slots : Nat), u_left R cells slots C → u_I D A s.heap z H locs cells → lv_has ls 8 [(0, .ref v0), (2, .int v2), (3, .ref v3), (4, .ref v4), (5, .int v5), (6, .int v6)] → W p l e R s m args below meth c H locs cells slots Q (F0 m 162 ls [])) ?_ n x z C cr hz hE
  rintro ⟨v7, u⟩ r C cr h hr H locs ls cells slots hC I hl
  replace h : uf_X8_init_L84 n d v0 v2 v3 v4 v5 v6 v7 u = some (r, C) := h
  have k156 : ∀ (u : UM) (v7 : Int32) (H : Heap) (locs : List Loc) (ls : Array Slot) (cells slots : Nat) (C : UC), uf_X8_init_J156 n d u v0 v2 v3 v4 v5 v6 v7 = some (r, C) → u_left R cells slots (u_add C cr) → u_I D A s.heap u H locs cells → lv_has ls 8 [(0, .ref v0), (2, .int v2), (3, .ref v3), (4, .ref v4), (5, .int v5), (6, .int v6), (7, .int v7)] → W p l e R s m args below meth c H locs cells slots Q (F0 m 156 ls []) := by
    intro u v7 H locs ls cells slots C h hC I hl
    unfold uf_X8_init_J156 at h
    refine lv_iinc (v := v7 + 1) (lv' := [(7, .int (v7 + 1)), (0, .ref v0), (2, .int v2), (3, .ref v3), (4, .ref v4), (5, .int v5), (6, .int v6)]) X.1 X.2.1 dX8_init_156 hl (k := 6) rfl rfl (by decide) rfl (fun ls hl => ?_)
    refine lv_goto (tgt := 84) X.1 X.2.1 dX8_init_159 (by decide) ?_
    obtain ⟨rfl, rfl⟩ := m_e3 h
    exact hr H locs ls _ _ (u_left0 hC) I (lv_sub hl [1, 2, 3, 4, 5, 6, 0] rfl)
  unfold uf_X8_init_L84 at h
  refine lv_iload X.1 X.2.1 dX8_init_84 (lv_at hl 6 rfl) ?_
  refine lv_iload_n X.1 X.2.1 dX8_init_86 rfl (lv_at hl 1 rfl) ?_
  refine lv_icmp_ge (tgt := 162) X.1 X.2.1 dX8_init_87 (by decide) (fun c35 => ?_) (fun c35 => ?_)
  · replace h := m_ifT c35 h
    obtain ⟨rfl, rfl⟩ := m_e3 h
    exact hr H locs ls _ _ (u_left0 hC) I (lv_sub hl [0, 1, 2, 3, 4, 5] rfl)
  · replace h := m_ifF c35 h
    refine lv_iload X.1 X.2.1 dX8_init_90 (lv_at hl 5 rfl) ?_
    refine lv_iload X.1 X.2.1 dX8_init_92 (lv_at hl 6 rfl) ?_
    refine lv_icmp_ne (tgt := 100) X.1 X.2.1 dX8_init_94 (by decide) (fun c36 => ?_) (fun c36 => ?_)
    · replace h := m_ifF c36 h
      refine lv_aload_n X.1 X.2.1 dX8_init_100 rfl (lv_at hl 0 rfl) ?_
      obtain ⟨b37, e38, h⟩ := m_bS h
      refine u_Gr X I e38 (C := RX8) (T := TX8) (N := 6) (ref := "SwapPress$Press") in_X8 rfl (by decide) rfl rfl q1098 (fun _ h => h) dX8_init_101 ?_
      refine lv_iload X.1 X.2.1 dX8_init_104 (lv_at hl 5 rfl) ?_
      refine lv_dup2_11 X.1 X.2.1 dX8_init_106 rfl rfl ?_
      obtain ⟨b39, e40, h⟩ := m_bS h
      refine u_LI X I e40 dX8_init_107 ?_
      refine lv_aload_n X.1 X.2.1 dX8_init_108 rfl (lv_at hl 2 rfl) ?_
      refine lv_bipush (v := 8) X.1 X.2.1 dX8_init_109 (by decide) ?_
      refine lv_iload X.1 X.2.1 dX8_init_111 (lv_at hl 5 rfl) ?_
      refine lv_imul X.1 X.2.1 dX8_init_113 ?_
      refine lv_iload X.1 X.2.1 dX8_init_114 (lv_at hl 6 rfl) ?_
      refine lv_iadd X.1 X.2.1 dX8_init_116 ?_
      obtain ⟨b41, e42, h⟩ := m_bS h
      refine u_LI X I e42 dX8_init_117 ?_
      refine lv_aload_n X.1 X.2.1 dX8_init_118 rfl (lv_at hl 2 rfl) ?_
      refine lv_bipush (v := 8) X.1 X.2.1 dX8_init_119 (by decide) ?_
      refine lv_iload X.1 X.2.1 dX8_init_121 (lv_at hl 6 rfl) ?_
      refine lv_imul X.1 X.2.1 dX8_init_123 ?_
      refine lv_iload X.1 X.2.1 dX8_init_124 (lv_at hl 5 rfl) ?_
      refine lv_iadd X.1 X.2.1 dX8_init_126 ?_
      obtain ⟨b43, e44, h⟩ := m_bS h
      refine u_LI X I e44 dX8_init_127 ?_
      refine lv_isub X.1 X.2.1 dX8_init_128 ?_
      refine lv_iadd X.1 X.2.1 dX8_init_129 ?_
      obtain ⟨w45, e46, h⟩ := m_bS h
      refine u_SI X I e46 dX8_init_130 (fun H locs I => ?_)
      refine lv_aload_n X.1 X.2.1 dX8_init_131 rfl (lv_at hl 0 rfl) ?_
      obtain ⟨b47, e48, h⟩ := m_bS h
      refine u_Gr X I e48 (C := RX8) (T := TX8) (N := 6) (ref := "SwapPress$Press") in_X8 rfl (by decide) rfl rfl q1099 (fun _ h => h) dX8_init_132 ?_
      refine lv_bipush (v := 8) X.1 X.2.1 dX8_init_135 (by decide) ?_
      refine lv_iload X.1 X.2.1 dX8_init_137 (lv_at hl 5 rfl) ?_
      refine lv_imul X.1 X.2.1 dX8_init_139 ?_
      refine lv_iload X.1 X.2.1 dX8_init_140 (lv_at hl 6 rfl) ?_
      refine lv_iadd X.1 X.2.1 dX8_init_142 ?_
      refine lv_aload X.1 X.2.1 dX8_init_143 (lv_at hl 3 rfl) ?_
      refine lv_iload X.1 X.2.1 dX8_init_145 (lv_at hl 5 rfl) ?_
      refine lv_iload X.1 X.2.1 dX8_init_147 (lv_at hl 6 rfl) ?_
      obtain ⟨r49, e50, h⟩ := m_bS h
      suffices kq : (∀ (H : Heap) (locs : List Loc), u_I D A s.heap (w45, u.2) H locs cells → W p l e R s m args below meth c H locs cells slots Q (F0 m 154 ls [.int r49, .int ((8 * v6) + v7), .ref b47])) from by
        rcases u_fcS e50 with ⟨f, ef, ee⟩ | e50
        · exact u_callFp X hl.1 I hA (As := [.int v6, .int v7]) (rest := [.int ((8 * v6) + v7), .ref b47]) (uk_X10_of l n D d (w45, u.2) v4 v6 v7 _ ee) (u_clS ef) (C := RX10) (T := TX10) (N := 1) rfl 2 5 rfl q1068 q1092 q1094 q127 q1096 uf_hd_0 rfl rfl ⟨Nat.le_trans (Nat.le_of_ble_eq_true rfl) hR.1, Nat.le_trans (Nat.le_of_ble_eq_true rfl) hR.2⟩ (u_leftLe hC) (stk := [.int r49, .int ((8 * v6) + v7), .ref b47]) rfl (Nat.le_of_ble_eq_true rfl) dX8_init_149 kq
        rcases u_fcS e50 with ⟨f, ef, ee⟩ | e50
        · exact u_callFp X hl.1 I hA (As := [.int v6, .int v7]) (rest := [.int ((8 * v6) + v7), .ref b47]) (uk_X11_of l n D d (w45, u.2) v4 v6 v7 _ ee) (u_clS ef) (C := RX11) (T := TX11) (N := 1) rfl 2 4 rfl q1068 q1086 q1088 q128 q1090 uf_hd_0 rfl rfl ⟨Nat.le_trans (Nat.le_of_ble_eq_true rfl) hR.1, Nat.le_trans (Nat.le_of_ble_eq_true rfl) hR.2⟩ (u_leftLe hC) (stk := [.int r49, .int ((8 * v6) + v7), .ref b47]) rfl (Nat.le_of_ble_eq_true rfl) dX8_init_149 kq
        rcases u_fcS e50 with ⟨f, ef, ee⟩ | e50
        · exact u_callFp X hl.1 I hA (As := [.int v6, .int v7]) (rest := [.int ((8 * v6) + v7), .ref b47]) (uk_X12_of l n D d (w45, u.2) v4 v6 v7 _ ee) (u_clS ef) (C := RX12) (T := TX12) (N := 1) rfl 2 2 rfl q1068 q1072 q1074 q129 q1076 uf_hd_0 rfl rfl ⟨Nat.le_trans (Nat.le_of_ble_eq_true rfl) hR.1, Nat.le_trans (Nat.le_of_ble_eq_true rfl) hR.2⟩ (u_leftLe hC) (stk := [.int r49, .int ((8 * v6) + v7), .ref b47]) rfl (Nat.le_of_ble_eq_true rfl) dX8_init_149 kq
        rcases u_fcS e50 with ⟨f, ef, ee⟩ | e50
        · exact u_callFp X hl.1 I hA (As := [.int v6, .int v7]) (rest := [.int ((8 * v6) + v7), .ref b47]) (uk_X13_of l n D d (w45, u.2) v4 v6 v7 _ ee) (u_clS ef) (C := RX13) (T := TX13) (N := 4) rfl 2 3 rfl q1068 q1078 q1080 q132 q1082 uf_hd_0 rfl rfl ⟨Nat.le_trans (Nat.le_of_ble_eq_true rfl) hR.1, Nat.le_trans (Nat.le_of_ble_eq_true rfl) hR.2⟩ (u_leftLe hC) (stk := [.int r49, .int ((8 * v6) + v7), .ref b47]) rfl (Nat.le_of_ble_eq_true rfl) dX8_init_149 kq
        cases e50
      intro H locs I
      refine lv_i2l X.1 X.2.1 dX8_init_154 rfl ?_
      obtain ⟨w51, e52, h⟩ := m_bS h
      refine u_SL X I e52 dX8_init_155 (fun H locs I => ?_)
      exact k156 (w51, u.2) v7 H locs ls _ _ _ h hC I (lv_sub hl [0, 1, 2, 3, 4, 5, 6] rfl)
    · replace h := m_ifT c36 h
      refine lv_goto (tgt := 156) X.1 X.2.1 dX8_init_97 (by decide) ?_
      exact k156 u v7 H locs ls _ _ _ h hC I (lv_sub hl [0, 1, 2, 3, 4, 5, 6] rfl)
theorem wuf_X8_init_L49 (X : u_X RX8 D A d p s m c cX8_init 8 args) (hA : ∀ q, s.heap.size ≤ q → A q) (hR : 2 ≤ R.frames ∧ 65 ≤ R.locals) (hI : meth.name = "<init>") (n : Nat) (v0 : Nat) (v2 : Int32) (v3 : Nat) (v4 : Nat) (v5 : Int32) (x : (Int32 × UM)) (z : UM) (C cr : UC) (hz : uf_X8_init_L49l n d v0 v2 v3 v4 v5 x = some (z, C)) (hE : (fun (z : UM) (C : UC) => ∀ (H : Heap) (locs : List Loc) (ls : Array Slot) (cells slots : Nat), u_left R cells slots C → u_I D A s.heap z H locs cells → lv_has ls 8 [] → W p l e R s m args below meth c H locs cells slots Q (F0 m 168 ls [])) z cr) : (fun (x : (Int32 × UM)) (C : UC) => ∀ (H : Heap) (locs : List Loc) (ls : Array Slot) (cells slots : Nat), u_left R cells slots C → u_I D A s.heap x.2 H locs cells → lv_has ls 8 [(0, .ref v0), (2, .int v2), (3, .ref v3), (4, .ref v4), (5, .int v5), (6, .int x.1)] → W p l e R s m args below meth c H locs cells slots Q (F0 m 49 ls [])) x (u_add C cr) := by
  refine u_lpW (G := fun (x : (Int32 × UM)) (C : UC) => ∀ (H : Heap) (locs : List Loc) (ls : Array Slot) (cells slots : Nat), u_left R cells slots C → u_I D A s.heap x.2 H locs cells → lv_has ls 8 [(0, .ref v0), (2, .int v2), (3, .ref v3), (4, .ref v4), (5, .int v5), (6, .int x.1)] → W p l e R s m args below meth c H locs cells slots Q (F0 m 49 ls [])) (E := fun (z : UM) (C : UC) => ∀ (H : Heap) (locs : List Loc) (ls : Array Slot) (cells slots : Nat), u_left R cells slots C → u_I D A s.heap z H locs cells → lv_has ls 8 [] → W p l e R s m args below meth c H locs cells slots Q (F0 m 168 ls [])) ?_ n x z C cr hz hE
  rintro ⟨v6, u⟩ r C cr h hr H locs ls cells slots hC I hl
  replace h : uf_X8_init_L49 n d v0 v2 v3 v4 v5 v6 u = some (r, C) := h
  have k80 : ∀ (u : UM) (v6 : Int32) (t0 : Int64) (t1 : Int32) (t2 : Nat) (H : Heap) (locs : List Loc) (ls : Array Slot) (cells slots : Nat) (C : UC), uf_X8_init_J80 n d u v0 v2 v3 v4 v5 v6 t0 t1 t2 = some (r, C) → u_left R cells slots (u_add C cr) → u_I D A s.heap u H locs cells → lv_has ls 8 [(0, .ref v0), (2, .int v2), (3, .ref v3), (4, .ref v4), (5, .int v5), (6, .int v6)] → W p l e R s m args below meth c H locs cells slots Q (F0 m 80 ls [.long t0, .int t1, .ref t2]) := by
    intro u v6 t0 t1 t2 H locs ls cells slots C h hC I hl
    unfold uf_X8_init_J80 at h
    obtain ⟨w33, e34, h⟩ := m_bS h
    refine u_SL X I e34 dX8_init_80 (fun H locs I => ?_)
    refine lv_iconst (v := 0) X.1 X.2.1 dX8_init_81 (by decide) ?_
    refine lv_istore (lv' := [(7, .int 0), (0, .ref v0), (2, .int v2), (3, .ref v3), (4, .ref v4), (5, .int v5), (6, .int v6)]) X.1 X.2.1 dX8_init_82 hl (by decide) rfl (fun ls hl => ?_)
    obtain ⟨u54, C55, C56, e53, h, hq⟩ := u_blS h
    rw [hq] at hC
    refine wuf_X8_init_L84 X hA hR hI n v0 v2 v3 v4 v5 v6 _ _ _ _ e53 (fun H locs ls cells slots hC I hl => ?_) H locs ls _ _ (u_left2 hC) I (lv_sub hl [1, 2, 3, 4, 5, 6, 0] rfl)
    refine lv_iinc (v := v6 + 1) (lv' := [(6, .int (v6 + 1)), (0, .ref v0), (2, .int v2), (3, .ref v3), (4, .ref v4), (5, .int v5)]) X.1 X.2.1 dX8_init_162 hl (k := 5) rfl rfl (by decide) rfl (fun ls hl => ?_)
    refine lv_goto (tgt := 49) X.1 X.2.1 dX8_init_165 (by decide) ?_
    obtain ⟨rfl, rfl⟩ := m_e3 h
    exact hr H locs ls _ _ (u_left0 hC) I (lv_sub hl [1, 2, 3, 4, 5, 0] rfl)
  unfold uf_X8_init_L49 at h
  refine lv_iload X.1 X.2.1 dX8_init_49 (lv_at hl 5 rfl) ?_
  refine lv_iload_n X.1 X.2.1 dX8_init_51 rfl (lv_at hl 1 rfl) ?_
  refine lv_icmp_ge (tgt := 168) X.1 X.2.1 dX8_init_52 (by decide) (fun c29 => ?_) (fun c29 => ?_)
  · replace h := m_ifT c29 h
    obtain ⟨rfl, rfl⟩ := m_e3 h
    exact hr H locs ls _ _ (u_left0 hC) I (lv_sub hl [] rfl)
  · replace h := m_ifF c29 h
    refine lv_aload_n X.1 X.2.1 dX8_init_55 rfl (lv_at hl 0 rfl) ?_
    obtain ⟨b30, e31, h⟩ := m_bS h
    refine u_Gr X I e31 (C := RX8) (T := TX8) (N := 6) (ref := "SwapPress$Press") in_X8 rfl (by decide) rfl rfl q1101 (fun _ h => h) dX8_init_56 ?_
    refine lv_iload X.1 X.2.1 dX8_init_59 (lv_at hl 5 rfl) ?_
    refine lv_iload X.1 X.2.1 dX8_init_61 (lv_at hl 4 rfl) ?_
    refine lv_if_eq (tgt := 77) X.1 X.2.1 dX8_init_63 (by decide) (fun c32 => ?_) (fun c32 => ?_)
    · replace h := m_ifT c32 h
      refine lv_ldc2 (v := 2305843009213693951) X.1 X.2.1 X.2.2.2.1 (X.2.2.1 _ q1066) dX8_init_77 ?_
      exact k80 u v6 2305843009213693951 v6 b30 H locs ls _ _ _ h hC I (lv_sub hl [0, 1, 2, 3, 4, 5] rfl)
    · replace h := m_ifF c32 h
      refine lv_iload_n X.1 X.2.1 dX8_init_66 rfl (lv_at hl 1 rfl) ?_
      refine lv_aload_n X.1 X.2.1 dX8_init_67 rfl (lv_at hl 2 rfl) ?_
      refine lv_iload X.1 X.2.1 dX8_init_68 (lv_at hl 5 rfl) ?_
      obtain ⟨r58, e57, h⟩ := m_bS h
      refine u_callSNp X hl.1 I hA (As := [.int v2, .ref v3, .int v6]) (rest := [.int v6, .ref b30]) (uk_X0_throughOf l n D d u v2 v3 v6 _ e57) 3 3 rfl q1064 q101 q1065 uh_X0_throughOf.2 rfl rfl ⟨Nat.le_trans (Nat.le_of_ble_eq_true rfl) hR.1, Nat.le_trans (Nat.le_of_ble_eq_true rfl) hR.2⟩ (u_leftLe hC) (stk := [.int r58, .int v6, .ref b30]) rfl (Nat.le_of_ble_eq_true rfl) dX8_init_70 (fun H locs I => ?_)
      refine lv_i2l X.1 X.2.1 dX8_init_73 rfl ?_
      refine lv_goto (tgt := 80) X.1 X.2.1 dX8_init_74 (by decide) ?_
      exact k80 u v6 ((r58 : Int32).toInt64) v6 b30 H locs ls _ _ _ h hC I (lv_sub hl [0, 1, 2, 3, 4, 5] rfl)
theorem uw_X8_init (X : u_X RX8 D A d p s m c cX8_init 8 args) (hA : ∀ q, s.heap.size ≤ q → A q) (hR : 2 ≤ R.frames ∧ 65 ≤ R.locals) (hI : meth.name = "<init>") (n : Nat) (u : UM) (t : Nat) (p0 : Nat) (p1 : Int32) (p2 : Nat) (p3 : Nat) (p4 : Int32) (r0 : Unit) (ur : UM) (C : UC) (h : uf_X8_init n d u t p0 p1 p2 p3 p4 = some ((r0, ur), C)) (hret : ∀ (H : Heap) (locs : List Loc) (ls : Array Slot) (pc cells slots : Nat), decode cX8_init pc = .ok (.return_, 1) → u_left R cells slots (u_add (0, 0) (0, 0)) → u_I D A s.heap ur H locs cells → W p l e R s m args below meth c H locs cells slots Q (F0 m pc ls [])) : ∀ (H : Heap) (locs : List Loc) (ls : Array Slot) (cells slots : Nat), u_left R cells slots (u_add C (0, 0)) → u_I D A s.heap u H locs cells → lv_has ls 8 [(0, .ref t), (1, .ref p0), (2, .int p1), (3, .ref p2), (4, .ref p3), (5, .int p4)] → W p l e R s m args below meth c H locs cells slots Q (F0 m 0 ls []) := by
  intro H locs ls cells slots hC I hl
  unfold uf_X8_init at h
  refine lv_aload_n X.1 X.2.1 dX8_init_0 rfl (lv_at hl 0 rfl) ?_
  refine lv_aload_n X.1 X.2.1 dX8_init_1 rfl (lv_at hl 1 rfl) ?_
  obtain ⟨w1, e2, h⟩ := m_bS h
  refine u_PF X I e2 (C := RX8) (T := TX8) (N := 6) (ref := "SwapPress$Press") in_X8 tyX8 tyX8_ok nmX8 rfl (by decide) rfl rfl q1102 (fun _ h => h) rfl hI rfl rfl rfl dX8_init_2 (fun H locs I => ?_)
  refine lv_aload_n X.1 X.2.1 dX8_init_5 rfl (lv_at hl 0 rfl) ?_
  refine u_obj X hl.1 q1062 q139 q140 (Nat.le_trans (Nat.le_of_ble_eq_true rfl) hR.1) (Nat.le_trans (Nat.le_of_ble_eq_true rfl) hR.2) (Nat.le_of_ble_eq_true rfl) dX8_init_6 ?_
  refine lv_aload_n X.1 X.2.1 dX8_init_9 rfl (lv_at hl 0 rfl) ?_
  refine lv_bipush (v := 8) X.1 X.2.1 dX8_init_10 (by decide) ?_
  obtain ⟨g5, h⟩ := m_gS h
  obtain ⟨C3, h, hq⟩ := u_acS h
  rw [hq] at hC
  obtain ⟨u4, e6, h⟩ := m_bS h
  refine u_NP X I hA 0 (atype := .int) rfl q200 (x := (_, .inl (fun _ => 0))) (fun _ => rfl) (by decide) g5 e6 hC dX8_init_12 (fun H cells slots hC I => ?_)
  obtain ⟨w7, e8, h⟩ := m_bS h
  refine u_PF X I e8 (C := RX8) (T := TX8) (N := 6) (ref := "SwapPress$Press") in_X8 tyX8 tyX8_ok nmX8 rfl (by decide) rfl rfl q1098 (fun _ h => h) rfl hI rfl rfl rfl dX8_init_14 (fun H locs I => ?_)
  refine lv_aload_n X.1 X.2.1 dX8_init_17 rfl (lv_at hl 0 rfl) ?_
  refine lv_bipush (v := 64) X.1 X.2.1 dX8_init_18 (by decide) ?_
  obtain ⟨g11, h⟩ := m_gS h
  obtain ⟨C9, h, hq⟩ := u_acS h
  rw [hq] at hC
  obtain ⟨u10, e12, h⟩ := m_bS h
  refine u_NP X I hA 1 (atype := .long) rfl q234 (x := (_, .inr (.inl (fun _ => 0)))) (fun _ => rfl) (by decide) g11 e12 hC dX8_init_20 (fun H cells slots hC I => ?_)
  obtain ⟨w13, e14, h⟩ := m_bS h
  refine u_PF X I e14 (C := RX8) (T := TX8) (N := 6) (ref := "SwapPress$Press") in_X8 tyX8 tyX8_ok nmX8 rfl (by decide) rfl rfl q1099 (fun _ h => h) rfl hI rfl rfl rfl dX8_init_22 (fun H locs I => ?_)
  refine lv_aload_n X.1 X.2.1 dX8_init_25 rfl (lv_at hl 0 rfl) ?_
  refine lv_bipush (v := 64) X.1 X.2.1 dX8_init_26 (by decide) ?_
  obtain ⟨g17, h⟩ := m_gS h
  obtain ⟨C15, h, hq⟩ := u_acS h
  rw [hq] at hC
  obtain ⟨u16, e18, h⟩ := m_bS h
  refine u_NP X I hA 1 (atype := .long) rfl q234 (x := (_, .inr (.inl (fun _ => 0)))) (fun _ => rfl) (by decide) g17 e18 hC dX8_init_28 (fun H cells slots hC I => ?_)
  obtain ⟨w19, e20, h⟩ := m_bS h
  refine u_PF X I e20 (C := RX8) (T := TX8) (N := 6) (ref := "SwapPress$Press") in_X8 tyX8 tyX8_ok nmX8 rfl (by decide) rfl rfl q1100 (fun _ h => h) rfl hI rfl rfl rfl dX8_init_30 (fun H locs I => ?_)
  refine lv_aload_n X.1 X.2.1 dX8_init_33 rfl (lv_at hl 0 rfl) ?_
  refine lv_bipush (v := 8) X.1 X.2.1 dX8_init_34 (by decide) ?_
  obtain ⟨g23, h⟩ := m_gS h
  obtain ⟨C21, h, hq⟩ := u_acS h
  rw [hq] at hC
  obtain ⟨u22, e24, h⟩ := m_bS h
  refine u_NP X I hA 1 (atype := .long) rfl q234 (x := (_, .inr (.inl (fun _ => 0)))) (fun _ => rfl) (by decide) g23 e24 hC dX8_init_36 (fun H cells slots hC I => ?_)
  obtain ⟨w25, e26, h⟩ := m_bS h
  refine u_PF X I e26 (C := RX8) (T := TX8) (N := 6) (ref := "SwapPress$Press") in_X8 tyX8 tyX8_ok nmX8 rfl (by decide) rfl rfl q1101 (fun _ h => h) rfl hI rfl rfl rfl dX8_init_38 (fun H locs I => ?_)
  refine lv_aload_n X.1 X.2.1 dX8_init_41 rfl (lv_at hl 0 rfl) ?_
  refine lv_iload_n X.1 X.2.1 dX8_init_42 rfl (lv_at hl 2 rfl) ?_
  obtain ⟨w27, e28, h⟩ := m_bS h
  refine u_PF X I e28 (C := RX8) (T := TX8) (N := 6) (ref := "SwapPress$Press") in_X8 tyX8 tyX8_ok nmX8 rfl (by decide) rfl rfl q1097 (fun _ h => h) rfl hI rfl rfl rfl dX8_init_43 (fun H locs I => ?_)
  refine lv_iconst (v := 0) X.1 X.2.1 dX8_init_46 (by decide) ?_
  refine lv_istore (lv' := [(6, .int 0), (0, .ref t), (1, .ref p0), (2, .int p1), (3, .ref p2), (4, .ref p3), (5, .int p4)]) X.1 X.2.1 dX8_init_47 hl (by decide) rfl (fun ls hl => ?_)
  obtain ⟨u60, C61, C62, e59, h, hq⟩ := u_blS h
  rw [hq] at hC
  refine wuf_X8_init_L49 X hA hR hI n t p1 p2 p3 p4 _ _ _ _ e59 (fun H locs ls cells slots hC I hl => ?_) H locs ls _ _ (u_left2 hC) I (lv_sub hl [1, 3, 4, 5, 6, 0] rfl)
  obtain ⟨he, rfl⟩ := m_e3 h
  obtain ⟨rfl, rfl⟩ := m_e4 he
  exact hret H locs ls 168 _ _ dX8_init_168 hC I
end S_X8_init
theorem uk_X8_init (l : Launch) (n : Nat) (D : va_G) (d : UD) (u : UM) (t : Nat) (p0 : Nat) (p1 : Int32) (p2 : Nat) (p3 : Nat) (p4 : Int32) (ur : UM) (C : UC) (h : uf_X8_init n d u t p0 p1 p2 p3 p4 = some (((), ur), C)) : u_M l yX8_init (ws_ yX8_init cX8_init 8 none) 2 65 C D d u [.ref t, .ref p0, .int p1, .ref p2, .ref p3, .int p4] none ur :=
  u_start (own := RX8) (lvl := [(0, .ref t), (1, .ref p0), (2, .int p1), (3, .ref p2), (4, .ref p3), (5, .int p4)]) (by decide) rfl (Nat.le_of_ble_eq_true rfl) rfl (fun p e s m args below meth c ls X hr hlk hI hl hA I hC => uw_X8_init X hA ⟨Nat.le_refl _, Nat.le_refl _⟩ hI n u t p0 p1 p2 p3 p4 () ur C h (fun H locs ls pc cells slots hd hC I => u_vret X I hr hlk (u_leftE hC) hd) _ _ ls _ _ hC I hl)

/-! SwapPress$Press.goes(II)Z -/
def uf_X8_goes_L2 (n : Nat) (d : UD) (v0 : Nat) (v1 : Int32) (v2 : Int32) (v3 : Int32) (u : UM) : Option (((Int32 × UM) ⊕ UM) × UC) :=
  m_b (u_fr d u 8 3 v0) (fun b1 => m_b (u_lnI d u 1 b1) (fun b3 => m_if ((b3 : Int32) ≤ (v3 : Int32)) (some (.inr u, (0, 0))) (m_b (u_fr d u 8 3 v0) (fun b6 => m_b (u_stL d u b6 v3 100000000) (fun w8 => some (.inl ((v3 + 1, (w8, u.2))), (0, 0)))))))
def uf_X8_goes_L2l (n : Nat) (d : UD) (v0 : Nat) (v1 : Int32) (v2 : Int32) (x : (Int32 × UM)) : Option (UM × UC) := u_lp (fun (x : (Int32 × UM)) => uf_X8_goes_L2 n d v0 v1 v2 x.1 x.2) n x
def uf_X8_goes_J42 (n : Nat) (d : UD) (u : UM) (v0 : Nat) : Option ((Int32 × UM) × UC) :=
  m_b (u_fr d u 8 5 v0) (fun b13 => m_b (u_nr u 1 2 b13) (fun b15 => m_b (u_fi d u 8 0 v0) (fun b17 => m_b (u_fr d u 8 1 v0) (fun b19 => m_b (u_fr d u 8 2 v0) (fun b21 => m_b (u_fr d u 8 3 v0) (fun b23 => m_b (u_fr d u 8 4 v0) (fun b25 => m_b (u_cl u 3 b15) (fun f27 => u_bc u.2 (uf_X2_goes n d u b15 b17 b19 b21 b23 b25) (fun r30 u31 => m_g (m_01 r30) (some ((r30, u31), (0, 0))))))))))))
def uf_X8_goes (n : Nat) (d : UD) (u : UM) (t : Nat) (p0 : Int32) (p1 : Int32) : Option ((Int32 × UM) × UC) :=
  u_bl (uf_X8_goes_L2l n d t p0 p1 ((0, u))) (fun u11 => m_if ((p0 : Int32) = ((-1) : Int32)) (uf_X8_goes_J42 n d u11 t) (m_b (u_fr d u11 8 3 t) (fun b36 => m_b (u_ldL d u11 b36 p0) (fun b38 => m_b (u_stL d u11 b36 p0 (b38 + ((p1 : Int32).toInt64))) (fun w40 => uf_X8_goes_J42 n d (w40, u11.2) t)))))
theorem uh_X8_goes : yX8_goes.cls = RX8 ∧ yX8_goes.cls ≠ "java/lang/invoke/MethodHandle" ∧ yX8_goes.cls ≠ "java/lang/invoke/VarHandle" ∧ (parseMethodDescriptor yX8_goes.desc).map (fun d => d.parameters.length) = some 2 := by decide +kernel
section S_X8_goes
variable {p : Program} {l : Launch} {e : Env} {R : Room} {s : State} {m : MethodId} {args : Array Value} {below : List Frame} {meth : Method} {c : Code} {Q : State → Prop} {D : va_G} {A : Nat → Prop} {d : UD}
theorem wuf_X8_goes_L2 (X : u_X RX8 D A d p s m c cX8_goes 4 args) (hA : ∀ q, s.heap.size ≤ q → A q) (hR : 3 ≤ R.frames ∧ 93 ≤ R.locals) (n : Nat) (v0 : Nat) (v1 : Int32) (v2 : Int32) (x : (Int32 × UM)) (z : UM) (C cr : UC) (hz : uf_X8_goes_L2l n d v0 v1 v2 x = some (z, C)) (hE : (fun (z : UM) (C : UC) => ∀ (H : Heap) (locs : List Loc) (ls : Array Slot) (cells slots : Nat), u_left R cells slots C → u_I D A s.heap z H locs cells → lv_has ls 4 [(0, .ref v0), (1, .int v1), (2, .int v2)] → W p l e R s m args below meth c H locs cells slots Q (F0 m 26 ls [])) z cr) : (fun (x : (Int32 × UM)) (C : UC) => ∀ (H : Heap) (locs : List Loc) (ls : Array Slot) (cells slots : Nat), u_left R cells slots C → u_I D A s.heap x.2 H locs cells → lv_has ls 4 [(0, .ref v0), (1, .int v1), (2, .int v2), (3, .int x.1)] → W p l e R s m args below meth c H locs cells slots Q (F0 m 2 ls [])) x (u_add C cr) := by
  refine u_lpW (G := fun (x : (Int32 × UM)) (C : UC) => ∀ (H : Heap) (locs : List Loc) (ls : Array Slot) (cells slots : Nat), u_left R cells slots C → u_I D A s.heap x.2 H locs cells → lv_has ls 4 [(0, .ref v0), (1, .int v1), (2, .int v2), (3, .int x.1)] → W p l e R s m args below meth c H locs cells slots Q (F0 m 2 ls [])) (E := fun (z : UM) (C : UC) => ∀ (H : Heap) (locs : List Loc) (ls : Array Slot) (cells slots : Nat), u_left R cells slots C → u_I D A s.heap z H locs cells → lv_has ls 4 [(0, .ref v0), (1, .int v1), (2, .int v2)] → W p l e R s m args below meth c H locs cells slots Q (F0 m 26 ls [])) ?_ n x z C cr hz hE
  rintro ⟨v3, u⟩ r C cr h hr H locs ls cells slots hC I hl
  replace h : uf_X8_goes_L2 n d v0 v1 v2 v3 u = some (r, C) := h
  unfold uf_X8_goes_L2 at h
  refine lv_iload_n X.1 X.2.1 dX8_goes_2 rfl (lv_at hl 3 rfl) ?_
  refine lv_aload_n X.1 X.2.1 dX8_goes_3 rfl (lv_at hl 0 rfl) ?_
  obtain ⟨b1, e2, h⟩ := m_bS h
  refine u_Gr X I e2 (C := RX8) (T := TX8) (N := 6) (ref := "SwapPress$Press") in_X8 rfl (by decide) rfl rfl q1100 (fun _ h => h) dX8_goes_4 ?_
  obtain ⟨b3, e4, h⟩ := m_bS h
  refine u_LN X I (by decide) e4 dX8_goes_7 ?_
  refine lv_icmp_ge (tgt := 26) X.1 X.2.1 dX8_goes_8 (by decide) (fun c5 => ?_) (fun c5 => ?_)
  · replace h := m_ifT c5 h
    obtain ⟨rfl, rfl⟩ := m_e3 h
    exact hr H locs ls _ _ (u_left0 hC) I (lv_sub hl [0, 1, 2] rfl)
  · replace h := m_ifF c5 h
    refine lv_aload_n X.1 X.2.1 dX8_goes_11 rfl (lv_at hl 0 rfl) ?_
    obtain ⟨b6, e7, h⟩ := m_bS h
    refine u_Gr X I e7 (C := RX8) (T := TX8) (N := 6) (ref := "SwapPress$Press") in_X8 rfl (by decide) rfl rfl q1100 (fun _ h => h) dX8_goes_12 ?_
    refine lv_iload_n X.1 X.2.1 dX8_goes_15 rfl (lv_at hl 3 rfl) ?_
    refine lv_ldc2 (v := 100000000) X.1 X.2.1 X.2.2.2.1 (X.2.2.1 _ q1124) dX8_goes_16 ?_
    obtain ⟨w8, e9, h⟩ := m_bS h
    refine u_SL X I e9 dX8_goes_19 (fun H locs I => ?_)
    refine lv_iinc (v := v3 + 1) (lv' := [(3, .int (v3 + 1)), (0, .ref v0), (1, .int v1), (2, .int v2)]) X.1 X.2.1 dX8_goes_20 hl (k := 3) rfl rfl (by decide) rfl (fun ls hl => ?_)
    refine lv_goto (tgt := 2) X.1 X.2.1 dX8_goes_23 (by decide) ?_
    obtain ⟨rfl, rfl⟩ := m_e3 h
    exact hr H locs ls _ _ (u_left0 hC) I (lv_sub hl [1, 2, 3, 0] rfl)
theorem uw_X8_goes (X : u_X RX8 D A d p s m c cX8_goes 4 args) (hA : ∀ q, s.heap.size ≤ q → A q) (hR : 3 ≤ R.frames ∧ 93 ≤ R.locals) (n : Nat) (u : UM) (t : Nat) (p0 : Int32) (p1 : Int32) (r0 : Int32) (ur : UM) (C : UC) (h : uf_X8_goes n d u t p0 p1 = some ((r0, ur), C)) (hret : ∀ (H : Heap) (locs : List Loc) (ls : Array Slot) (pc cells slots : Nat), m_01 r0 = true → decode cX8_goes pc = .ok (.ireturn, 1) → u_left R cells slots (u_add (0, 0) (0, 0)) → u_I D A s.heap ur H locs cells → W p l e R s m args below meth c H locs cells slots Q (F0 m pc ls [.int r0])) : ∀ (H : Heap) (locs : List Loc) (ls : Array Slot) (cells slots : Nat), u_left R cells slots (u_add C (0, 0)) → u_I D A s.heap u H locs cells → lv_has ls 4 [(0, .ref t), (1, .int p0), (2, .int p1)] → W p l e R s m args below meth c H locs cells slots Q (F0 m 0 ls []) := by
  have k42 : ∀ (u : UM) (v0 : Nat) (H : Heap) (locs : List Loc) (ls : Array Slot) (cells slots : Nat) (C : UC), uf_X8_goes_J42 n d u v0 = some ((r0, ur), C) → u_left R cells slots (u_add C (0, 0)) → u_I D A s.heap u H locs cells → lv_has ls 4 [(0, .ref v0)] → W p l e R s m args below meth c H locs cells slots Q (F0 m 42 ls []) := by
    intro u v0 H locs ls cells slots C h hC I hl
    unfold uf_X8_goes_J42 at h
    refine lv_aload_n X.1 X.2.1 dX8_goes_42 rfl (lv_at hl 0 rfl) ?_
    obtain ⟨b13, e14, h⟩ := m_bS h
    refine u_Gr X I e14 (C := RX8) (T := TX8) (N := 6) (ref := "SwapPress$Press") in_X8 rfl (by decide) rfl rfl q1102 (fun _ h => h) dX8_goes_43 ?_
    obtain ⟨b15, e16, h⟩ := m_bS h
    refine u_GrN X I e16 (C := RX0) (T := TX0) (N := 9) (ref := "SwapPress") (host := "SwapPress") in_X0 rfl (by decide) rfl rfl 10 rfl (fun _ h => h) dX8_goes_46 ?_
    refine lv_aload_n X.1 X.2.1 dX8_goes_49 rfl (lv_at hl 0 rfl) ?_
    obtain ⟨b17, e18, h⟩ := m_bS h
    refine u_Gi X I e18 (C := RX8) (T := TX8) (N := 6) (ref := "SwapPress$Press") in_X8 rfl (by decide) rfl rfl q1097 (fun _ h => h) dX8_goes_50 ?_
    refine lv_aload_n X.1 X.2.1 dX8_goes_53 rfl (lv_at hl 0 rfl) ?_
    obtain ⟨b19, e20, h⟩ := m_bS h
    refine u_Gr X I e20 (C := RX8) (T := TX8) (N := 6) (ref := "SwapPress$Press") in_X8 rfl (by decide) rfl rfl q1098 (fun _ h => h) dX8_goes_54 ?_
    refine lv_aload_n X.1 X.2.1 dX8_goes_57 rfl (lv_at hl 0 rfl) ?_
    obtain ⟨b21, e22, h⟩ := m_bS h
    refine u_Gr X I e22 (C := RX8) (T := TX8) (N := 6) (ref := "SwapPress$Press") in_X8 rfl (by decide) rfl rfl q1099 (fun _ h => h) dX8_goes_58 ?_
    refine lv_aload_n X.1 X.2.1 dX8_goes_61 rfl (lv_at hl 0 rfl) ?_
    obtain ⟨b23, e24, h⟩ := m_bS h
    refine u_Gr X I e24 (C := RX8) (T := TX8) (N := 6) (ref := "SwapPress$Press") in_X8 rfl (by decide) rfl rfl q1100 (fun _ h => h) dX8_goes_62 ?_
    refine lv_aload_n X.1 X.2.1 dX8_goes_65 rfl (lv_at hl 0 rfl) ?_
    obtain ⟨b25, e26, h⟩ := m_bS h
    refine u_Gr X I e26 (C := RX8) (T := TX8) (N := 6) (ref := "SwapPress$Press") in_X8 rfl (by decide) rfl rfl q1101 (fun _ h => h) dX8_goes_66 ?_
    obtain ⟨f27, e28, h⟩ := m_bS h
    obtain ⟨r30, u31, C32, C33, e29, z34, h, hq⟩ := u_bcS h
    rw [hq] at hC
    refine u_callV X hl.1 I hA (As := [.int b17, .ref b19, .ref b21, .ref b23, .ref b25]) (rest := []) (uk_X2_goes l n D d u b15 b17 b19 b21 b23 b25 _ _ _ e29) z34 (u_clS e28) (C := RX2) (T := TX2) (N := 8) rfl 5 q1125 q1126 q1127 q106 q1128 uh_X2_goes rfl rfl ⟨Nat.le_trans (Nat.le_of_ble_eq_true rfl) hR.1, Nat.le_trans (Nat.le_of_ble_eq_true rfl) hR.2⟩ hC (stk := [.int r30]) rfl (Nat.le_of_ble_eq_true rfl) dX8_goes_69 (fun H locs cells slots hC I => ?_)
    obtain ⟨g35, h⟩ := m_gS h
    obtain ⟨he, rfl⟩ := m_e3 h
    obtain ⟨rfl, rfl⟩ := m_e4 he
    exact hret H locs ls 72 _ _ g35 dX8_goes_72 hC I
  intro H locs ls cells slots hC I hl
  unfold uf_X8_goes at h
  refine lv_iconst (v := 0) X.1 X.2.1 dX8_goes_0 (by decide) ?_
  refine lv_istore_n (lv' := [(3, .int 0), (0, .ref t), (1, .int p0), (2, .int p1)]) X.1 X.2.1 dX8_goes_1 rfl hl (by decide) rfl (fun ls hl => ?_)
  obtain ⟨u11, C42, C43, e10, h, hq⟩ := u_blS h
  rw [hq] at hC
  refine wuf_X8_goes_L2 X hA hR n t p0 p1 _ _ _ _ e10 (fun H locs ls cells slots hC I hl => ?_) H locs ls _ _ (u_left2 hC) I (lv_sub hl [1, 2, 3, 0] rfl)
  refine lv_iload_n X.1 X.2.1 dX8_goes_26 rfl (lv_at hl 1 rfl) ?_
  refine lv_iconst (v := (-1)) X.1 X.2.1 dX8_goes_27 (by decide) ?_
  refine lv_icmp_eq (tgt := 42) X.1 X.2.1 dX8_goes_28 (by decide) (fun c12 => ?_) (fun c12 => ?_)
  · replace h := m_ifT c12 h
    exact k42 u11 t H locs ls _ _ _ h hC I (lv_sub hl [0] rfl)
  · replace h := m_ifF c12 h
    refine lv_aload_n X.1 X.2.1 dX8_goes_31 rfl (lv_at hl 0 rfl) ?_
    obtain ⟨b36, e37, h⟩ := m_bS h
    refine u_Gr X I e37 (C := RX8) (T := TX8) (N := 6) (ref := "SwapPress$Press") in_X8 rfl (by decide) rfl rfl q1100 (fun _ h => h) dX8_goes_32 ?_
    refine lv_iload_n X.1 X.2.1 dX8_goes_35 rfl (lv_at hl 1 rfl) ?_
    refine lv_dup2_11 X.1 X.2.1 dX8_goes_36 rfl rfl ?_
    obtain ⟨b38, e39, h⟩ := m_bS h
    refine u_LL X I e39 dX8_goes_37 ?_
    refine lv_iload_n X.1 X.2.1 dX8_goes_38 rfl (lv_at hl 2 rfl) ?_
    refine lv_i2l X.1 X.2.1 dX8_goes_39 rfl ?_
    refine lv_ladd X.1 X.2.1 dX8_goes_40 ?_
    obtain ⟨w40, e41, h⟩ := m_bS h
    refine u_SL X I e41 dX8_goes_41 (fun H locs I => ?_)
    exact k42 (w40, u11.2) t H locs ls _ _ _ h hC I (lv_sub hl [0] rfl)
end S_X8_goes
theorem uk_X8_goes (l : Launch) (n : Nat) (D : va_G) (d : UD) (u : UM) (t : Nat) (p0 : Int32) (p1 : Int32) (r0 : Int32) (ur : UM) (C : UC) (h : uf_X8_goes n d u t p0 p1 = some ((r0, ur), C)) : u_M l yX8_goes (ws_ yX8_goes cX8_goes 4 (some .boolean)) 3 93 C D d u [.ref t, .int p0, .int p1] (some (.int r0)) ur :=
  u_start (own := RX8) (lvl := [(0, .ref t), (1, .int p0), (2, .int p1)]) (by decide) rfl (Nat.le_of_ble_eq_true rfl) rfl (fun p e s m args below meth c ls X hr hlk hI hl hA I hC => uw_X8_goes X hA ⟨Nat.le_refl _, Nat.le_refl _⟩ n u t p0 p1 r0 ur C h (fun H locs ls pc cells slots g hd hC I => u_zret X I hr hlk g (u_leftE hC) hd) _ _ ls _ _ hC I hl)

/-! SwapPress$Press.span(IIZ)I -/
def uf_X8_span_J38 (n : Nat) (d : UD) (u : UM) (t0 : Int32) : Option ((Int32 × UM) × UC) :=
  some ((t0, u), (0, 0))
def uf_X8_span_J16 (n : Nat) (d : UD) (u : UM) (v0 : Nat) (v1 : Int32) (v2 : Int32) (t0 : Int32) (t1 : Int32) (t2 : Nat) : Option ((Int32 × UM) × UC) :=
  m_b (u_cl u 8 t2) (fun f2 => u_bc u.2 (uf_X8_goes n d u t2 t1 t0) (fun r5 u6 => m_if ((r5 : Int32) = 0) (uf_X8_span_J38 n d u6 ((-1))) (m_b (u_fr d u6 8 5 v0) (fun b11 => m_b (u_nr u6 1 2 b11) (fun b13 => m_b (u_cl u6 3 b13) (fun f15 => m_b (uf_X2_of n d u6 b13 v1 v2) (fun r18 => uf_X8_span_J38 n d u6 r18)))))))
def uf_X8_span (n : Nat) (d : UD) (u : UM) (t : Nat) (p0 : Int32) (p1 : Int32) (p2 : Int32) : Option ((Int32 × UM) × UC) :=
  m_if ((p2 : Int32) = 0) (uf_X8_span_J16 n d u t p0 p1 1 ((8 * p0) + p1) t) (uf_X8_span_J16 n d u t p0 p1 ((-1)) ((8 * p0) + p1) t)
theorem uh_X8_span : yX8_span.cls = RX8 ∧ yX8_span.cls ≠ "java/lang/invoke/MethodHandle" ∧ yX8_span.cls ≠ "java/lang/invoke/VarHandle" ∧ (parseMethodDescriptor yX8_span.desc).map (fun d => d.parameters.length) = some 3 := by decide +kernel
section S_X8_span
variable {p : Program} {l : Launch} {e : Env} {R : Room} {s : State} {m : MethodId} {args : Array Value} {below : List Frame} {meth : Method} {c : Code} {Q : State → Prop} {D : va_G} {A : Nat → Prop} {d : UD}
theorem uw_X8_span (X : u_X RX8 D A d p s m c cX8_span 4 args) (hA : ∀ q, s.heap.size ≤ q → A q) (hR : 4 ≤ R.frames ∧ 116 ≤ R.locals) (n : Nat) (u : UM) (t : Nat) (p0 : Int32) (p1 : Int32) (p2 : Int32) (r0 : Int32) (ur : UM) (C : UC) (h : uf_X8_span n d u t p0 p1 p2 = some ((r0, ur), C)) (hret : ∀ (H : Heap) (locs : List Loc) (ls : Array Slot) (pc cells slots : Nat), decode cX8_span pc = .ok (.ireturn, 1) → u_left R cells slots (u_add (0, 0) (0, 0)) → u_I D A s.heap ur H locs cells → W p l e R s m args below meth c H locs cells slots Q (F0 m pc ls [.int r0])) : ∀ (H : Heap) (locs : List Loc) (ls : Array Slot) (cells slots : Nat), u_left R cells slots (u_add C (0, 0)) → u_I D A s.heap u H locs cells → lv_has ls 4 [(0, .ref t), (1, .int p0), (2, .int p1), (3, .int p2)] → W p l e R s m args below meth c H locs cells slots Q (F0 m 0 ls []) := by
  have k38 : ∀ (u : UM) (t0 : Int32) (H : Heap) (locs : List Loc) (ls : Array Slot) (cells slots : Nat) (C : UC), uf_X8_span_J38 n d u t0 = some ((r0, ur), C) → u_left R cells slots (u_add C (0, 0)) → u_I D A s.heap u H locs cells → lv_has ls 4 [] → W p l e R s m args below meth c H locs cells slots Q (F0 m 38 ls [.int t0]) := by
    intro u t0 H locs ls cells slots C h hC I hl
    unfold uf_X8_span_J38 at h
    obtain ⟨he, rfl⟩ := m_e3 h
    obtain ⟨rfl, rfl⟩ := m_e4 he
    exact hret H locs ls 38 _ _ dX8_span_38 hC I
  have k16 : ∀ (u : UM) (v0 : Nat) (v1 : Int32) (v2 : Int32) (t0 : Int32) (t1 : Int32) (t2 : Nat) (H : Heap) (locs : List Loc) (ls : Array Slot) (cells slots : Nat) (C : UC), uf_X8_span_J16 n d u v0 v1 v2 t0 t1 t2 = some ((r0, ur), C) → u_left R cells slots (u_add C (0, 0)) → u_I D A s.heap u H locs cells → lv_has ls 4 [(0, .ref v0), (1, .int v1), (2, .int v2)] → W p l e R s m args below meth c H locs cells slots Q (F0 m 16 ls [.int t0, .int t1, .ref t2]) := by
    intro u v0 v1 v2 t0 t1 t2 H locs ls cells slots C h hC I hl
    unfold uf_X8_span_J16 at h
    obtain ⟨f2, e3, h⟩ := m_bS h
    obtain ⟨r5, u6, C7, C8, e4, z9, h, hq⟩ := u_bcS h
    rw [hq] at hC
    refine u_callV X hl.1 I hA (As := [.int t1, .int t0]) (rest := []) (uk_X8_goes l n D d u t2 t1 t0 _ _ _ e4) z9 (u_clS e3) (C := RX8) (T := TX8) (N := 6) rfl 2 q1120 q1121 q1122 q125 q1123 uh_X8_goes rfl rfl ⟨Nat.le_trans (Nat.le_of_ble_eq_true rfl) hR.1, Nat.le_trans (Nat.le_of_ble_eq_true rfl) hR.2⟩ hC (stk := [.int r5]) rfl (Nat.le_of_ble_eq_true rfl) dX8_span_16 (fun H locs cells slots hC I => ?_)
    refine lv_if_eq (tgt := 37) X.1 X.2.1 dX8_span_19 (by decide) (fun c10 => ?_) (fun c10 => ?_)
    · replace h := m_ifT c10 h
      refine lv_iconst (v := (-1)) X.1 X.2.1 dX8_span_37 (by decide) ?_
      exact k38 u6 ((-1)) H locs ls _ _ _ h hC I (lv_sub hl [] rfl)
    · replace h := m_ifF c10 h
      refine lv_aload_n X.1 X.2.1 dX8_span_22 rfl (lv_at hl 0 rfl) ?_
      obtain ⟨b11, e12, h⟩ := m_bS h
      refine u_Gr X I e12 (C := RX8) (T := TX8) (N := 6) (ref := "SwapPress$Press") in_X8 rfl (by decide) rfl rfl q1102 (fun _ h => h) dX8_span_23 ?_
      obtain ⟨b13, e14, h⟩ := m_bS h
      refine u_GrN X I e14 (C := RX0) (T := TX0) (N := 9) (ref := "SwapPress") (host := "SwapPress") in_X0 rfl (by decide) rfl rfl 10 rfl (fun _ h => h) dX8_span_26 ?_
      refine lv_iload_n X.1 X.2.1 dX8_span_29 rfl (lv_at hl 1 rfl) ?_
      refine lv_iload_n X.1 X.2.1 dX8_span_30 rfl (lv_at hl 2 rfl) ?_
      obtain ⟨f15, e16, h⟩ := m_bS h
      obtain ⟨r18, e17, h⟩ := m_bS h
      refine u_callVp X hl.1 I hA (As := [.int v1, .int v2]) (rest := []) (uk_X2_of l n D d u6 b13 v1 v2 _ e17) (u_clS e16) (C := RX2) (T := TX2) (N := 8) rfl 2 q1146 q1147 q1148 q106 q1149 uh_X2_of rfl rfl ⟨Nat.le_trans (Nat.le_of_ble_eq_true rfl) hR.1, Nat.le_trans (Nat.le_of_ble_eq_true rfl) hR.2⟩ (u_leftLe hC) (stk := [.int r18]) rfl (Nat.le_of_ble_eq_true rfl) dX8_span_31 (fun H locs I => ?_)
      refine lv_goto (tgt := 38) X.1 X.2.1 dX8_span_34 (by decide) ?_
      exact k38 u6 r18 H locs ls _ _ _ h hC I (lv_sub hl [] rfl)
  intro H locs ls cells slots hC I hl
  unfold uf_X8_span at h
  refine lv_aload_n X.1 X.2.1 dX8_span_0 rfl (lv_at hl 0 rfl) ?_
  refine lv_bipush (v := 8) X.1 X.2.1 dX8_span_1 (by decide) ?_
  refine lv_iload_n X.1 X.2.1 dX8_span_3 rfl (lv_at hl 1 rfl) ?_
  refine lv_imul X.1 X.2.1 dX8_span_4 ?_
  refine lv_iload_n X.1 X.2.1 dX8_span_5 rfl (lv_at hl 2 rfl) ?_
  refine lv_iadd X.1 X.2.1 dX8_span_6 ?_
  refine lv_iload_n X.1 X.2.1 dX8_span_7 rfl (lv_at hl 3 rfl) ?_
  refine lv_if_eq (tgt := 15) X.1 X.2.1 dX8_span_8 (by decide) (fun c1 => ?_) (fun c1 => ?_)
  · replace h := m_ifT c1 h
    refine lv_iconst (v := 1) X.1 X.2.1 dX8_span_15 (by decide) ?_
    exact k16 u t p0 p1 1 ((8 * p0) + p1) t H locs ls _ _ _ h hC I (lv_sub hl [0, 1, 2] rfl)
  · replace h := m_ifF c1 h
    refine lv_iconst (v := (-1)) X.1 X.2.1 dX8_span_11 (by decide) ?_
    refine lv_goto (tgt := 16) X.1 X.2.1 dX8_span_12 (by decide) ?_
    exact k16 u t p0 p1 ((-1)) ((8 * p0) + p1) t H locs ls _ _ _ h hC I (lv_sub hl [0, 1, 2] rfl)
end S_X8_span
theorem uk_X8_span (l : Launch) (n : Nat) (D : va_G) (d : UD) (u : UM) (t : Nat) (p0 : Int32) (p1 : Int32) (p2 : Int32) (r0 : Int32) (ur : UM) (C : UC) (h : uf_X8_span n d u t p0 p1 p2 = some ((r0, ur), C)) : u_M l yX8_span (ws_ yX8_span cX8_span 4 (some .int)) 4 116 C D d u [.ref t, .int p0, .int p1, .int p2] (some (.int r0)) ur :=
  u_start (own := RX8) (lvl := [(0, .ref t), (1, .int p0), (2, .int p1), (3, .int p2)]) (by decide) rfl (Nat.le_of_ble_eq_true rfl) rfl (fun p e s m args below meth c ls X hr hlk hI hl hA I hC => uw_X8_span X hA ⟨Nat.le_refl _, Nat.le_refl _⟩ n u t p0 p1 p2 r0 ur C h (fun H locs ls pc cells slots hd hC I => u_iret X I hr hlk (u_leftE hC) hd) _ _ ls _ _ hC I hl)

/-! SwapPress$Press.least()I -/
def uf_X8_least_J55 (n : Nat) (d : UD) (u : UM) (v0 : Nat) (v2 : Int32) (v3 : Int32) (t0 : Int32) (t1 : Int32) : Option (((Int32 × Int32 × UM) ⊕ (Int32 × UM)) × UC) :=
  some (.inl ((t1 + t0, v3 + 1, u)), (0, 0))
def uf_X8_least_L25 (n : Nat) (d : UD) (v0 : Nat) (v2 : Int32) (v1 : Int32) (v3 : Int32) (u : UM) : Option (((Int32 × Int32 × UM) ⊕ (Int32 × UM)) × UC) :=
  m_b (u_fi d u 8 0 v0) (fun b13 => m_if ((b13 : Int32) ≤ (v3 : Int32)) (some (.inr ((v1, u)), (0, 0))) (m_if ((v2 : Int32) = (v3 : Int32)) (uf_X8_least_J55 n d u v0 v2 v3 0 v1) (m_b (u_fr d u 8 5 v0) (fun b17 => m_b (u_nr u 1 2 b17) (fun b19 => m_b (u_cl u 3 b19) (fun f21 => m_b (uf_X2_of n d u b19 v2 v3) (fun r24 => uf_X8_least_J55 n d u v0 v2 v3 r24 v1)))))))
def uf_X8_least_L25l (n : Nat) (d : UD) (v0 : Nat) (v2 : Int32) (x : (Int32 × Int32 × UM)) : Option ((Int32 × UM) × UC) := u_lp (fun (x : (Int32 × Int32 × UM)) => uf_X8_least_L25 n d v0 v2 x.1 x.2.1 x.2.2) n x
def uf_X8_least_L15 (n : Nat) (d : UD) (v0 : Nat) (v1 : Int32) (v2 : Int32) (u : UM) : Option (((Int32 × Int32 × UM) ⊕ (Int32 × UM)) × UC) :=
  m_b (u_fi d u 8 0 v0) (fun b10 => m_if ((b10 : Int32) ≤ (v2 : Int32)) (some (.inr ((v1, u)), (0, 0))) (u_bl (uf_X8_least_L25l n d v0 v2 ((v1, 0, u))) (fun y28 => some (.inl ((y28.1, v2 + 1, y28.2)), (0, 0)))))
def uf_X8_least_L15l (n : Nat) (d : UD) (v0 : Nat) (x : (Int32 × Int32 × UM)) : Option ((Int32 × UM) × UC) := u_lp (fun (x : (Int32 × Int32 × UM)) => uf_X8_least_L15 n d v0 x.1 x.2.1 x.2.2) n x
def uf_X8_least (n : Nat) (d : UD) (u : UM) (t : Nat) : Option ((Int32 × UM) × UC) :=
  m_b (u_cl u 8 t) (fun f1 => u_bc u.2 (uf_X8_goes n d u t ((-1)) 0) (fun r4 u5 => m_if ((r4 : Int32) = 0) (some (((-1), u5), (0, 0))) (u_bl (uf_X8_least_L15l n d t ((0, 0, u5))) (fun y34 => some ((y34.1, y34.2), (0, 0))))))
theorem uh_X8_least : yX8_least.cls = RX8 ∧ yX8_least.cls ≠ "java/lang/invoke/MethodHandle" ∧ yX8_least.cls ≠ "java/lang/invoke/VarHandle" ∧ (parseMethodDescriptor yX8_least.desc).map (fun d => d.parameters.length) = some 0 := by decide +kernel
section S_X8_least
variable {p : Program} {l : Launch} {e : Env} {R : Room} {s : State} {m : MethodId} {args : Array Value} {below : List Frame} {meth : Method} {c : Code} {Q : State → Prop} {D : va_G} {A : Nat → Prop} {d : UD}
theorem wuf_X8_least_L25 (X : u_X RX8 D A d p s m c cX8_least 4 args) (hA : ∀ q, s.heap.size ≤ q → A q) (hR : 4 ≤ R.frames ∧ 116 ≤ R.locals) (n : Nat) (v0 : Nat) (v2 : Int32) (x : (Int32 × Int32 × UM)) (z : (Int32 × UM)) (C cr : UC) (hz : uf_X8_least_L25l n d v0 v2 x = some (z, C)) (hE : (fun (z : (Int32 × UM)) (C : UC) => ∀ (H : Heap) (locs : List Loc) (ls : Array Slot) (cells slots : Nat), u_left R cells slots C → u_I D A s.heap z.2 H locs cells → lv_has ls 4 [(0, .ref v0), (1, .int z.1), (2, .int v2)] → W p l e R s m args below meth c H locs cells slots Q (F0 m 63 ls [])) z cr) : (fun (x : (Int32 × Int32 × UM)) (C : UC) => ∀ (H : Heap) (locs : List Loc) (ls : Array Slot) (cells slots : Nat), u_left R cells slots C → u_I D A s.heap x.2.2 H locs cells → lv_has ls 4 [(0, .ref v0), (1, .int x.1), (2, .int v2), (3, .int x.2.1)] → W p l e R s m args below meth c H locs cells slots Q (F0 m 25 ls [])) x (u_add C cr) := by
  refine u_lpW (G := fun (x : (Int32 × Int32 × UM)) (C : UC) => ∀ (H : Heap) (locs : List Loc) (ls : Array Slot) (cells slots : Nat), u_left R cells slots C → u_I D A s.heap x.2.2 H locs cells → lv_has ls 4 [(0, .ref v0), (1, .int x.1), (2, .int v2), (3, .int x.2.1)] → W p l e R s m args below meth c H locs cells slots Q (F0 m 25 ls [])) (E := fun (z : (Int32 × UM)) (C : UC) => ∀ (H : Heap) (locs : List Loc) (ls : Array Slot) (cells slots : Nat), u_left R cells slots C → u_I D A s.heap z.2 H locs cells → lv_has ls 4 [(0, .ref v0), (1, .int z.1), (2, .int v2)] → W p l e R s m args below meth c H locs cells slots Q (F0 m 63 ls [])) ?_ n x z C cr hz hE
  rintro ⟨v1, v3, u⟩ r C cr h hr H locs ls cells slots hC I hl
  replace h : uf_X8_least_L25 n d v0 v2 v1 v3 u = some (r, C) := h
  have k55 : ∀ (u : UM) (v3 : Int32) (t0 : Int32) (t1 : Int32) (H : Heap) (locs : List Loc) (ls : Array Slot) (cells slots : Nat) (C : UC), uf_X8_least_J55 n d u v0 v2 v3 t0 t1 = some (r, C) → u_left R cells slots (u_add C cr) → u_I D A s.heap u H locs cells → lv_has ls 4 [(0, .ref v0), (2, .int v2), (3, .int v3)] → W p l e R s m args below meth c H locs cells slots Q (F0 m 55 ls [.int t0, .int t1]) := by
    intro u v3 t0 t1 H locs ls cells slots C h hC I hl
    unfold uf_X8_least_J55 at h
    refine lv_iadd X.1 X.2.1 dX8_least_55 ?_
    refine lv_istore_n (lv' := [(1, .int (t1 + t0)), (0, .ref v0), (2, .int v2), (3, .int v3)]) X.1 X.2.1 dX8_least_56 rfl hl (by decide) rfl (fun ls hl => ?_)
    refine lv_iinc (v := v3 + 1) (lv' := [(3, .int (v3 + 1)), (1, .int (t1 + t0)), (0, .ref v0), (2, .int v2)]) X.1 X.2.1 dX8_least_57 hl (k := 3) rfl rfl (by decide) rfl (fun ls hl => ?_)
    refine lv_goto (tgt := 25) X.1 X.2.1 dX8_least_60 (by decide) ?_
    obtain ⟨rfl, rfl⟩ := m_e3 h
    exact hr H locs ls _ _ (u_left0 hC) I (lv_sub hl [2, 1, 3, 0] rfl)
  unfold uf_X8_least_L25 at h
  refine lv_iload_n X.1 X.2.1 dX8_least_25 rfl (lv_at hl 3 rfl) ?_
  refine lv_aload_n X.1 X.2.1 dX8_least_26 rfl (lv_at hl 0 rfl) ?_
  obtain ⟨b13, e14, h⟩ := m_bS h
  refine u_Gi X I e14 (C := RX8) (T := TX8) (N := 6) (ref := "SwapPress$Press") in_X8 rfl (by decide) rfl rfl q1097 (fun _ h => h) dX8_least_27 ?_
  refine lv_icmp_ge (tgt := 63) X.1 X.2.1 dX8_least_30 (by decide) (fun c15 => ?_) (fun c15 => ?_)
  · replace h := m_ifT c15 h
    obtain ⟨rfl, rfl⟩ := m_e3 h
    exact hr H locs ls _ _ (u_left0 hC) I (lv_sub hl [0, 1, 2] rfl)
  · replace h := m_ifF c15 h
    refine lv_iload_n X.1 X.2.1 dX8_least_33 rfl (lv_at hl 1 rfl) ?_
    refine lv_iload_n X.1 X.2.1 dX8_least_34 rfl (lv_at hl 2 rfl) ?_
    refine lv_iload_n X.1 X.2.1 dX8_least_35 rfl (lv_at hl 3 rfl) ?_
    refine lv_icmp_ne (tgt := 43) X.1 X.2.1 dX8_least_36 (by decide) (fun c16 => ?_) (fun c16 => ?_)
    · replace h := m_ifF c16 h
      refine lv_aload_n X.1 X.2.1 dX8_least_43 rfl (lv_at hl 0 rfl) ?_
      obtain ⟨b17, e18, h⟩ := m_bS h
      refine u_Gr X I e18 (C := RX8) (T := TX8) (N := 6) (ref := "SwapPress$Press") in_X8 rfl (by decide) rfl rfl q1102 (fun _ h => h) dX8_least_44 ?_
      obtain ⟨b19, e20, h⟩ := m_bS h
      refine u_GrN X I e20 (C := RX0) (T := TX0) (N := 9) (ref := "SwapPress") (host := "SwapPress") in_X0 rfl (by decide) rfl rfl 10 rfl (fun _ h => h) dX8_least_47 ?_
      refine lv_iload_n X.1 X.2.1 dX8_least_50 rfl (lv_at hl 2 rfl) ?_
      refine lv_iload_n X.1 X.2.1 dX8_least_51 rfl (lv_at hl 3 rfl) ?_
      obtain ⟨f21, e22, h⟩ := m_bS h
      obtain ⟨r24, e23, h⟩ := m_bS h
      refine u_callVp X hl.1 I hA (As := [.int v2, .int v3]) (rest := [.int v1]) (uk_X2_of l n D d u b19 v2 v3 _ e23) (u_clS e22) (C := RX2) (T := TX2) (N := 8) rfl 2 q1146 q1147 q1148 q106 q1149 uh_X2_of rfl rfl ⟨Nat.le_trans (Nat.le_of_ble_eq_true rfl) hR.1, Nat.le_trans (Nat.le_of_ble_eq_true rfl) hR.2⟩ (u_leftLe hC) (stk := [.int r24, .int v1]) rfl (Nat.le_of_ble_eq_true rfl) dX8_least_52 (fun H locs I => ?_)
      exact k55 u v3 r24 v1 H locs ls _ _ _ h hC I (lv_sub hl [0, 2, 3] rfl)
    · replace h := m_ifT c16 h
      refine lv_iconst (v := 0) X.1 X.2.1 dX8_least_39 (by decide) ?_
      refine lv_goto (tgt := 55) X.1 X.2.1 dX8_least_40 (by decide) ?_
      exact k55 u v3 0 v1 H locs ls _ _ _ h hC I (lv_sub hl [0, 2, 3] rfl)
theorem wuf_X8_least_L15 (X : u_X RX8 D A d p s m c cX8_least 4 args) (hA : ∀ q, s.heap.size ≤ q → A q) (hR : 4 ≤ R.frames ∧ 116 ≤ R.locals) (n : Nat) (v0 : Nat) (x : (Int32 × Int32 × UM)) (z : (Int32 × UM)) (C cr : UC) (hz : uf_X8_least_L15l n d v0 x = some (z, C)) (hE : (fun (z : (Int32 × UM)) (C : UC) => ∀ (H : Heap) (locs : List Loc) (ls : Array Slot) (cells slots : Nat), u_left R cells slots C → u_I D A s.heap z.2 H locs cells → lv_has ls 4 [(1, .int z.1)] → W p l e R s m args below meth c H locs cells slots Q (F0 m 69 ls [])) z cr) : (fun (x : (Int32 × Int32 × UM)) (C : UC) => ∀ (H : Heap) (locs : List Loc) (ls : Array Slot) (cells slots : Nat), u_left R cells slots C → u_I D A s.heap x.2.2 H locs cells → lv_has ls 4 [(0, .ref v0), (1, .int x.1), (2, .int x.2.1)] → W p l e R s m args below meth c H locs cells slots Q (F0 m 15 ls [])) x (u_add C cr) := by
  refine u_lpW (G := fun (x : (Int32 × Int32 × UM)) (C : UC) => ∀ (H : Heap) (locs : List Loc) (ls : Array Slot) (cells slots : Nat), u_left R cells slots C → u_I D A s.heap x.2.2 H locs cells → lv_has ls 4 [(0, .ref v0), (1, .int x.1), (2, .int x.2.1)] → W p l e R s m args below meth c H locs cells slots Q (F0 m 15 ls [])) (E := fun (z : (Int32 × UM)) (C : UC) => ∀ (H : Heap) (locs : List Loc) (ls : Array Slot) (cells slots : Nat), u_left R cells slots C → u_I D A s.heap z.2 H locs cells → lv_has ls 4 [(1, .int z.1)] → W p l e R s m args below meth c H locs cells slots Q (F0 m 69 ls [])) ?_ n x z C cr hz hE
  rintro ⟨v1, v2, u⟩ r C cr h hr H locs ls cells slots hC I hl
  replace h : uf_X8_least_L15 n d v0 v1 v2 u = some (r, C) := h
  unfold uf_X8_least_L15 at h
  refine lv_iload_n X.1 X.2.1 dX8_least_15 rfl (lv_at hl 2 rfl) ?_
  refine lv_aload_n X.1 X.2.1 dX8_least_16 rfl (lv_at hl 0 rfl) ?_
  obtain ⟨b10, e11, h⟩ := m_bS h
  refine u_Gi X I e11 (C := RX8) (T := TX8) (N := 6) (ref := "SwapPress$Press") in_X8 rfl (by decide) rfl rfl q1097 (fun _ h => h) dX8_least_17 ?_
  refine lv_icmp_ge (tgt := 69) X.1 X.2.1 dX8_least_20 (by decide) (fun c12 => ?_) (fun c12 => ?_)
  · replace h := m_ifT c12 h
    obtain ⟨rfl, rfl⟩ := m_e3 h
    exact hr H locs ls _ _ (u_left0 hC) I (lv_sub hl [1] rfl)
  · replace h := m_ifF c12 h
    refine lv_iconst (v := 0) X.1 X.2.1 dX8_least_23 (by decide) ?_
    refine lv_istore_n (lv' := [(3, .int 0), (0, .ref v0), (1, .int v1), (2, .int v2)]) X.1 X.2.1 dX8_least_24 rfl hl (by decide) rfl (fun ls hl => ?_)
    obtain ⟨⟨z26, u27⟩, C29, C30, e25, h, hq⟩ := u_blS h
    rw [hq] at hC
    refine wuf_X8_least_L25 X hA hR n v0 v2 _ _ _ _ e25 (fun H locs ls cells slots hC I hl => ?_) H locs ls _ _ (u_left2 hC) I (lv_sub hl [1, 2, 3, 0] rfl)
    refine lv_iinc (v := v2 + 1) (lv' := [(2, .int (v2 + 1)), (0, .ref v0), (1, .int z26)]) X.1 X.2.1 dX8_least_63 hl (k := 2) rfl rfl (by decide) rfl (fun ls hl => ?_)
    refine lv_goto (tgt := 15) X.1 X.2.1 dX8_least_66 (by decide) ?_
    obtain ⟨rfl, rfl⟩ := m_e3 h
    exact hr H locs ls _ _ (u_left0 hC) I (lv_sub hl [1, 2, 0] rfl)
theorem uw_X8_least (X : u_X RX8 D A d p s m c cX8_least 4 args) (hA : ∀ q, s.heap.size ≤ q → A q) (hR : 4 ≤ R.frames ∧ 116 ≤ R.locals) (n : Nat) (u : UM) (t : Nat) (r0 : Int32) (ur : UM) (C : UC) (h : uf_X8_least n d u t = some ((r0, ur), C)) (hret : ∀ (H : Heap) (locs : List Loc) (ls : Array Slot) (pc cells slots : Nat), decode cX8_least pc = .ok (.ireturn, 1) → u_left R cells slots (u_add (0, 0) (0, 0)) → u_I D A s.heap ur H locs cells → W p l e R s m args below meth c H locs cells slots Q (F0 m pc ls [.int r0])) : ∀ (H : Heap) (locs : List Loc) (ls : Array Slot) (cells slots : Nat), u_left R cells slots (u_add C (0, 0)) → u_I D A s.heap u H locs cells → lv_has ls 4 [(0, .ref t)] → W p l e R s m args below meth c H locs cells slots Q (F0 m 0 ls []) := by
  intro H locs ls cells slots hC I hl
  unfold uf_X8_least at h
  refine lv_aload_n X.1 X.2.1 dX8_least_0 rfl (lv_at hl 0 rfl) ?_
  refine lv_iconst (v := (-1)) X.1 X.2.1 dX8_least_1 (by decide) ?_
  refine lv_iconst (v := 0) X.1 X.2.1 dX8_least_2 (by decide) ?_
  obtain ⟨f1, e2, h⟩ := m_bS h
  obtain ⟨r4, u5, C6, C7, e3, z8, h, hq⟩ := u_bcS h
  rw [hq] at hC
  refine u_callV X hl.1 I hA (As := [.int ((-1)), .int 0]) (rest := []) (uk_X8_goes l n D d u t ((-1)) 0 _ _ _ e3) z8 (u_clS e2) (C := RX8) (T := TX8) (N := 6) rfl 2 q1120 q1121 q1122 q125 q1123 uh_X8_goes rfl rfl ⟨Nat.le_trans (Nat.le_of_ble_eq_true rfl) hR.1, Nat.le_trans (Nat.le_of_ble_eq_true rfl) hR.2⟩ hC (stk := [.int r4]) rfl (Nat.le_of_ble_eq_true rfl) dX8_least_3 (fun H locs cells slots hC I => ?_)
  refine lv_if_ne (tgt := 11) X.1 X.2.1 dX8_least_6 (by decide) (fun c9 => ?_) (fun c9 => ?_)
  · replace h := m_ifF c9 h
    refine lv_iconst (v := 0) X.1 X.2.1 dX8_least_11 (by decide) ?_
    refine lv_istore_n (lv' := [(1, .int 0), (0, .ref t)]) X.1 X.2.1 dX8_least_12 rfl hl (by decide) rfl (fun ls hl => ?_)
    refine lv_iconst (v := 0) X.1 X.2.1 dX8_least_13 (by decide) ?_
    refine lv_istore_n (lv' := [(2, .int 0), (1, .int 0), (0, .ref t)]) X.1 X.2.1 dX8_least_14 rfl hl (by decide) rfl (fun ls hl => ?_)
    obtain ⟨⟨z32, u33⟩, C35, C36, e31, h, hq⟩ := u_blS h
    rw [hq] at hC
    refine wuf_X8_least_L15 X hA hR n t _ _ _ _ e31 (fun H locs ls cells slots hC I hl => ?_) H locs ls _ _ (u_left2 hC) I (lv_sub hl [2, 1, 0] rfl)
    refine lv_iload_n X.1 X.2.1 dX8_least_69 rfl (lv_at hl 0 rfl) ?_
    obtain ⟨he, rfl⟩ := m_e3 h
    obtain ⟨rfl, rfl⟩ := m_e4 he
    exact hret H locs ls 70 _ _ dX8_least_70 hC I
  · replace h := m_ifT c9 h
    refine lv_iconst (v := (-1)) X.1 X.2.1 dX8_least_9 (by decide) ?_
    obtain ⟨he, rfl⟩ := m_e3 h
    obtain ⟨rfl, rfl⟩ := m_e4 he
    exact hret H locs ls 10 _ _ dX8_least_10 hC I
end S_X8_least
theorem uk_X8_least (l : Launch) (n : Nat) (D : va_G) (d : UD) (u : UM) (t : Nat) (r0 : Int32) (ur : UM) (C : UC) (h : uf_X8_least n d u t = some ((r0, ur), C)) : u_M l yX8_least (ws_ yX8_least cX8_least 4 (some .int)) 4 116 C D d u [.ref t] (some (.int r0)) ur :=
  u_start (own := RX8) (lvl := [(0, .ref t)]) (by decide) rfl (Nat.le_of_ble_eq_true rfl) rfl (fun p e s m args below meth c ls X hr hlk hI hl hA I hC => uw_X8_least X hA ⟨Nat.le_refl _, Nat.le_refl _⟩ n u t r0 ur C h (fun H locs ls pc cells slots hd hC I => u_iret X I hr hlk (u_leftE hC) hd) _ _ ls _ _ hC I hl)

/-! SwapPress$Bounds.by(I[I[I)LSwapPress$Bounds; -/
def uf_X9_by (n : Nat) (d : UD) (u : UM) (p0 : Int32) (p1 : Nat) (p2 : Nat) : Option ((Nat × UM) × UC) :=
  m_if ((p0 : Int32) = 0) (u_ac (1, 1) (m_b (some (u_nw u (.inr (9, [.null])))) (fun u11 => u_bc u11.2 (uf_X10_init n d u11 u.2 p1) (fun r14 u15 => some ((u.2, u15), (0, 0)))))) (m_if ((p0 : Int32) = 2) (u_ac (1, 1) (m_b (some (u_nw u (.inr (10, [.null])))) (fun u20 => u_bc u20.2 (uf_X11_init n d u20 u.2 p2) (fun r23 u24 => some ((u.2, u24), (0, 0)))))) (u_ac (1, 1) (m_b (some (u_nw u (.inr (11, [.null])))) (fun u2 => u_bc u2.2 (uf_X12_init n d u2 u.2 p1) (fun r5 u6 => some ((u.2, u6), (0, 0)))))))
theorem uh_X9_by : yX9_by.cls = RX9 ∧ yX9_by.cls ≠ "java/lang/invoke/MethodHandle" ∧ yX9_by.cls ≠ "java/lang/invoke/VarHandle" ∧ (parseMethodDescriptor yX9_by.desc).map (fun d => d.parameters.length) = some 3 := by decide +kernel
section S_X9_by
variable {p : Program} {l : Launch} {e : Env} {R : Room} {s : State} {m : MethodId} {args : Array Value} {below : List Frame} {meth : Method} {c : Code} {Q : State → Prop} {D : va_G} {A : Nat → Prop} {d : UD}
theorem uw_X9_by (X : u_X RX9 D A d p s m c cX9_by 3 args) (hA : ∀ q, s.heap.size ≤ q → A q) (hR : 2 ≤ R.frames ∧ 41 ≤ R.locals) (n : Nat) (u : UM) (p0 : Int32) (p1 : Nat) (p2 : Nat) (r0 : Nat) (ur : UM) (C : UC) (h : uf_X9_by n d u p0 p1 p2 = some ((r0, ur), C)) (hret : ∀ (H : Heap) (locs : List Loc) (ls : Array Slot) (pc cells slots : Nat), decode cX9_by pc = .ok (.areturn, 1) → u_left R cells slots (u_add (0, 0) (0, 0)) → u_I D A s.heap ur H locs cells → W p l e R s m args below meth c H locs cells slots Q (F0 m pc ls [.ref r0])) : ∀ (H : Heap) (locs : List Loc) (ls : Array Slot) (cells slots : Nat), u_left R cells slots (u_add C (0, 0)) → u_I D A s.heap u H locs cells → lv_has ls 3 [(0, .int p0), (1, .ref p1), (2, .ref p2)] → W p l e R s m args below meth c H locs cells slots Q (F0 m 0 ls []) := by
  intro H locs ls cells slots hC I hl
  unfold uf_X9_by at h
  refine lv_iload_n X.1 X.2.1 dX9_by_0 rfl (lv_at hl 0 rfl) ?_
  by_cases c28 : (p0 : Int32) = 0
  · replace h := m_ifT c28 h
    refine lv_lookup (off := 27) (tgt := 28) X.1 X.2.1 dX9_by_1 (by decide) (by rw [c28]; rfl) (by decide) ?_
    obtain ⟨C10, h, hq⟩ := u_acS h
    rw [hq] at hC
    obtain ⟨u11, e12, h⟩ := m_bS h
    refine u_NO X I hA 9 (C := RX10) (T := TX10) (N := 1) in_X10 tyX10 tyX10_ok q1029 q1030 q127 rfl (fs := [.null]) e12 (fun j hj => by match j, hj with | 0, _ => rfl) hC dX9_by_28 (fun H cells slots hC I => ?_)
    refine lv_dup X.1 X.2.1 dX9_by_31 rfl ?_
    refine lv_aload_n X.1 X.2.1 dX9_by_32 rfl (lv_at hl 1 rfl) ?_
    obtain ⟨r14, u15, C16, C17, e13, z18, h, hq⟩ := u_bcS h
    rw [hq] at hC
    refine u_callI X hl.1 I hA (As := [.ref p1]) (rest := [.ref u.2]) (uk_X10_init l n D d u11 u.2 p1 _ _ e13) z18 1 q1031 q1032 q127 q1033 rfl uh_X10_init.2 rfl rfl ⟨Nat.le_trans (Nat.le_of_ble_eq_true rfl) hR.1, Nat.le_trans (Nat.le_of_ble_eq_true rfl) hR.2⟩ hC (Nat.le_of_ble_eq_true rfl) dX9_by_33 (fun H locs cells slots hC I => ?_)
    obtain ⟨he, rfl⟩ := m_e3 h
    obtain ⟨rfl, rfl⟩ := m_e4 he
    exact hret H locs ls 36 _ _ dX9_by_36 hC I
  replace h := m_ifF c28 h
  by_cases c29 : (p0 : Int32) = 2
  · replace h := m_ifT c29 h
    refine lv_lookup (off := 36) (tgt := 37) X.1 X.2.1 dX9_by_1 (by decide) (by rw [c29]; rfl) (by decide) ?_
    obtain ⟨C19, h, hq⟩ := u_acS h
    rw [hq] at hC
    obtain ⟨u20, e21, h⟩ := m_bS h
    refine u_NO X I hA 10 (C := RX11) (T := TX11) (N := 1) in_X11 tyX11 tyX11_ok q1039 q1040 q128 rfl (fs := [.null]) e21 (fun j hj => by match j, hj with | 0, _ => rfl) hC dX9_by_37 (fun H cells slots hC I => ?_)
    refine lv_dup X.1 X.2.1 dX9_by_40 rfl ?_
    refine lv_aload_n X.1 X.2.1 dX9_by_41 rfl (lv_at hl 2 rfl) ?_
    obtain ⟨r23, u24, C25, C26, e22, z27, h, hq⟩ := u_bcS h
    rw [hq] at hC
    refine u_callI X hl.1 I hA (As := [.ref p2]) (rest := [.ref u.2]) (uk_X11_init l n D d u20 u.2 p2 _ _ e22) z27 1 q1041 q1042 q128 q1043 rfl uh_X11_init.2 rfl rfl ⟨Nat.le_trans (Nat.le_of_ble_eq_true rfl) hR.1, Nat.le_trans (Nat.le_of_ble_eq_true rfl) hR.2⟩ hC (Nat.le_of_ble_eq_true rfl) dX9_by_42 (fun H locs cells slots hC I => ?_)
    obtain ⟨he, rfl⟩ := m_e3 h
    obtain ⟨rfl, rfl⟩ := m_e4 he
    exact hret H locs ls 45 _ _ dX9_by_45 hC I
  replace h := m_ifF c29 h
  refine lv_lookup (off := 45) (tgt := 46) X.1 X.2.1 dX9_by_1 (by decide) (u_lkc (k := 0) (by decide) c28 (u_lkc (k := 2) (by decide) c29 rfl)) (by decide) ?_
  obtain ⟨C1, h, hq⟩ := u_acS h
  rw [hq] at hC
  obtain ⟨u2, e3, h⟩ := m_bS h
  refine u_NO X I hA 11 (C := RX12) (T := TX12) (N := 1) in_X12 tyX12 tyX12_ok q1049 q1050 q129 rfl (fs := [.null]) e3 (fun j hj => by match j, hj with | 0, _ => rfl) hC dX9_by_46 (fun H cells slots hC I => ?_)
  refine lv_dup X.1 X.2.1 dX9_by_49 rfl ?_
  refine lv_aload_n X.1 X.2.1 dX9_by_50 rfl (lv_at hl 1 rfl) ?_
  obtain ⟨r5, u6, C7, C8, e4, z9, h, hq⟩ := u_bcS h
  rw [hq] at hC
  refine u_callI X hl.1 I hA (As := [.ref p1]) (rest := [.ref u.2]) (uk_X12_init l n D d u2 u.2 p1 _ _ e4) z9 1 q1051 q1052 q129 q1053 rfl uh_X12_init.2 rfl rfl ⟨Nat.le_trans (Nat.le_of_ble_eq_true rfl) hR.1, Nat.le_trans (Nat.le_of_ble_eq_true rfl) hR.2⟩ hC (Nat.le_of_ble_eq_true rfl) dX9_by_51 (fun H locs cells slots hC I => ?_)
  obtain ⟨he, rfl⟩ := m_e3 h
  obtain ⟨rfl, rfl⟩ := m_e4 he
  exact hret H locs ls 54 _ _ dX9_by_54 hC I
end S_X9_by
theorem uk_X9_by (l : Launch) (n : Nat) (D : va_G) (d : UD) (u : UM) (p0 : Int32) (p1 : Nat) (p2 : Nat) (r0 : Nat) (ur : UM) (C : UC) (h : uf_X9_by n d u p0 p1 p2 = some ((r0, ur), C)) : u_M l yX9_by (ws_ yX9_by cX9_by 3 (some (.object "SwapPress$Bounds"))) 2 41 C D d u [.int p0, .ref p1, .ref p2] (some (.ref r0)) ur :=
  u_start (own := RX9) (lvl := [(0, .int p0), (1, .ref p1), (2, .ref p2)]) (by decide) rfl (Nat.le_of_ble_eq_true rfl) rfl (fun p e s m args below meth c ls X hr hlk hI hl hA I hC => uw_X9_by X hA ⟨Nat.le_refl _, Nat.le_refl _⟩ n u p0 p1 p2 r0 ur C h (fun H locs ls pc cells slots hd hC I => u_aret (r := some r0) X I hr (Or.inl ⟨_, rfl⟩) hlk (u_leftE hC) hd) _ _ ls _ _ hC I hl)
