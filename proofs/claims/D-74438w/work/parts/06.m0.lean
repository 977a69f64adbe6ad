set_option maxRecDepth 100000
set_option maxHeartbeats 4000000
/-! method bitCount(I)I -/
def f_bitCount (n : Nat) (p0 : Int32) : Option (Int32) :=
  m_b (some (p0 - ((((p0 : Int32).toUInt32 >>> ((1 : Int32).toUInt32 &&& Int32.toUInt32 31)).toInt32) &&& 1431655765))) (fun y1 => m_b (some ((y1 &&& 858993459) + ((((y1 : Int32).toUInt32 >>> ((2 : Int32).toUInt32 &&& Int32.toUInt32 31)).toInt32) &&& 858993459))) (fun y3 => m_b (some ((y3 + (((y3 : Int32).toUInt32 >>> ((4 : Int32).toUInt32 &&& Int32.toUInt32 31)).toInt32)) &&& 252645135)) (fun y5 => m_b (some (y5 + (((y5 : Int32).toUInt32 >>> ((8 : Int32).toUInt32 &&& Int32.toUInt32 31)).toInt32))) (fun y7 => m_b (some (y7 + (((y7 : Int32).toUInt32 >>> ((16 : Int32).toUInt32 &&& Int32.toUInt32 31)).toInt32))) (fun y9 => some (y9 &&& 63))))))
theorem hd_bitCount : yJ15_bitCount.cls = RJ15 ∧ yJ15_bitCount.cls ≠ "java/lang/invoke/MethodHandle" ∧ yJ15_bitCount.cls ≠ "java/lang/invoke/VarHandle" ∧ (parseMethodDescriptor yJ15_bitCount.desc).map (fun d => d.parameters.length) = some 1 := by decide +kernel
section S_bitCount
variable {p : Program} {l : Launch} {e : Env} {R : Room} {s : State} {m : MethodId} {args : Array Value} {below : List Frame} {meth : Method} {c : Code} {H : Heap} {locs : List Loc} {Q : State → Prop}
theorem w_bitCount (X : CallFix p m c cJ15_bitCount 1 s args lw_all RJ15) (hR : 0 ≤ R.frames ∧ 0 ≤ R.locals) (n : Nat) (p0 : Int32) (r : Int32) (h : f_bitCount n p0 = some r) (hret : ∀ (ls : Array Slot) (pc : Nat), decode cJ15_bitCount pc = .ok (.ireturn, 1) → W p l e R s m args below meth c H locs 0 0 Q (F0 m pc ls [.int r])) : ∀ (ls : Array Slot), lv_has ls 1 [(0, .int p0)] → W p l e R s m args below meth c H locs 0 0 Q (F0 m 0 ls []) := by
  intro ls hl
  unfold f_bitCount at h
  refine lv_iload_n X.1 X.2.1 dJ15_bitCount_0 rfl (lv_at hl 0 rfl) ?_
  refine lv_iload_n X.1 X.2.1 dJ15_bitCount_1 rfl (lv_at hl 0 rfl) ?_
  refine lv_iconst (v := 1) X.1 X.2.1 dJ15_bitCount_2 (by decide) ?_
  refine lv_iushr X.1 X.2.1 dJ15_bitCount_3 rfl ?_
  refine lv_ldcw (v := 1431655765) X.1 X.2.1 X.2.2.2.1 (X.2.2.2.2 _ q1202) dJ15_bitCount_4 ?_
  refine lv_iand X.1 X.2.1 dJ15_bitCount_7 ?_
  refine lv_isub X.1 X.2.1 dJ15_bitCount_8 ?_
  obtain ⟨y1, e2, h⟩ := m_bS h
  rw [m_e1 e2]
  refine lv_istore_n (lv' := [(0, .int y1)]) X.1 X.2.1 dJ15_bitCount_9 rfl hl (by decide) rfl (fun ls hl => ?_)
  refine lv_iload_n X.1 X.2.1 dJ15_bitCount_10 rfl (lv_at hl 0 rfl) ?_
  refine lv_ldcw (v := 858993459) X.1 X.2.1 X.2.2.2.1 (X.2.2.2.2 _ q1203) dJ15_bitCount_11 ?_
  refine lv_iand X.1 X.2.1 dJ15_bitCount_14 ?_
  refine lv_iload_n X.1 X.2.1 dJ15_bitCount_15 rfl (lv_at hl 0 rfl) ?_
  refine lv_iconst (v := 2) X.1 X.2.1 dJ15_bitCount_16 (by decide) ?_
  refine lv_iushr X.1 X.2.1 dJ15_bitCount_17 rfl ?_
  refine lv_ldcw (v := 858993459) X.1 X.2.1 X.2.2.2.1 (X.2.2.2.2 _ q1203) dJ15_bitCount_18 ?_
  refine lv_iand X.1 X.2.1 dJ15_bitCount_21 ?_
  refine lv_iadd X.1 X.2.1 dJ15_bitCount_22 ?_
  obtain ⟨y3, e4, h⟩ := m_bS h
  rw [m_e1 e4]
  refine lv_istore_n (lv' := [(0, .int y3)]) X.1 X.2.1 dJ15_bitCount_23 rfl hl (by decide) rfl (fun ls hl => ?_)
  refine lv_iload_n X.1 X.2.1 dJ15_bitCount_24 rfl (lv_at hl 0 rfl) ?_
  refine lv_iload_n X.1 X.2.1 dJ15_bitCount_25 rfl (lv_at hl 0 rfl) ?_
  refine lv_iconst (v := 4) X.1 X.2.1 dJ15_bitCount_26 (by decide) ?_
  refine lv_iushr X.1 X.2.1 dJ15_bitCount_27 rfl ?_
  refine lv_iadd X.1 X.2.1 dJ15_bitCount_28 ?_
  refine lv_ldcw (v := 252645135) X.1 X.2.1 X.2.2.2.1 (X.2.2.2.2 _ q1204) dJ15_bitCount_29 ?_
  refine lv_iand X.1 X.2.1 dJ15_bitCount_32 ?_
  obtain ⟨y5, e6, h⟩ := m_bS h
  rw [m_e1 e6]
  refine lv_istore_n (lv' := [(0, .int y5)]) X.1 X.2.1 dJ15_bitCount_33 rfl hl (by decide) rfl (fun ls hl => ?_)
  refine lv_iload_n X.1 X.2.1 dJ15_bitCount_34 rfl (lv_at hl 0 rfl) ?_
  refine lv_iload_n X.1 X.2.1 dJ15_bitCount_35 rfl (lv_at hl 0 rfl) ?_
  refine lv_bipush (v := 8) X.1 X.2.1 dJ15_bitCount_36 (by decide) ?_
  refine lv_iushr X.1 X.2.1 dJ15_bitCount_38 rfl ?_
  refine lv_iadd X.1 X.2.1 dJ15_bitCount_39 ?_
  obtain ⟨y7, e8, h⟩ := m_bS h
  rw [m_e1 e8]
  refine lv_istore_n (lv' := [(0, .int y7)]) X.1 X.2.1 dJ15_bitCount_40 rfl hl (by decide) rfl (fun ls hl => ?_)
  refine lv_iload_n X.1 X.2.1 dJ15_bitCount_41 rfl (lv_at hl 0 rfl) ?_
  refine lv_iload_n X.1 X.2.1 dJ15_bitCount_42 rfl (lv_at hl 0 rfl) ?_
  refine lv_bipush (v := 16) X.1 X.2.1 dJ15_bitCount_43 (by decide) ?_
  refine lv_iushr X.1 X.2.1 dJ15_bitCount_45 rfl ?_
  refine lv_iadd X.1 X.2.1 dJ15_bitCount_46 ?_
  obtain ⟨y9, e10, h⟩ := m_bS h
  rw [m_e1 e10]
  refine lv_istore_n (lv' := [(0, .int y9)]) X.1 X.2.1 dJ15_bitCount_47 rfl hl (by decide) rfl (fun ls hl => ?_)
  refine lv_iload_n X.1 X.2.1 dJ15_bitCount_48 rfl (lv_at hl 0 rfl) ?_
  refine lv_bipush (v := 63) X.1 X.2.1 dJ15_bitCount_49 (by decide) ?_
  refine lv_iand X.1 X.2.1 dJ15_bitCount_51 ?_
  obtain rfl := m_e1 h
  exact hret ls 52 dJ15_bitCount_52
end S_bitCount
theorem c_bitCount (l : Launch) (n : Nat) (p0 : Int32) (r : Int32) (h : f_bitCount n p0 = some r) : m_Si l yJ15_bitCount cJ15_bitCount 1 (some .int) ({ frames := 0, cells := 0, slots := 0, locals := 0 } : Room) [.int p0] r :=
  m_startS (lvl := [(0, .int p0)]) (by decide) rfl (Nat.le_of_ble_eq_true rfl) rfl (fun p e s m args below meth c ls X hr hlk hl => w_bitCount X ⟨Nat.le_refl _, Nat.le_refl _⟩ n p0 r h (fun ls pc hd => m_siret X hr hlk hd) ls hl)
