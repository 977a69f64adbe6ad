set_option maxRecDepth 100000
set_option maxHeartbeats 4000000
/-! method at(II)I -/
def fX7_at (n : Nat) (st : MS) (p0 : Int32) (p1 : Int32) : Option (Int32) :=
  m_g (m_in ((8 * p0) + p1) 64) (some (st.2.1 1 ((8 * p0) + p1 : Int32).toNatClampNeg))
theorem hdX7_at : yX7_at.cls = RX7 ∧ yX7_at.cls ≠ "java/lang/invoke/MethodHandle" ∧ yX7_at.cls ≠ "java/lang/invoke/VarHandle" ∧ (parseMethodDescriptor yX7_at.desc).map (fun d => d.parameters.length) = some 2 := by decide +kernel
section S_at
variable {p : Program} {l : Launch} {e : Env} {R : Room} {s : State} {m : MethodId} {args : Array Value} {below : List Frame} {meth : Method} {c : Code} {Q : State → Prop} {D : va_G} {A : Nat → Prop} {d : YD} {ex : va_W}
theorem wX7_at (X : r_X RX7 D A d p s m c cX7_at 3 args) (hA : ∀ q, s.heap.size ≤ q → A q) (hR : 0 ≤ R.frames ∧ 0 ≤ R.locals) (n : Nat) (st : MS) (p0 : Int32) (p1 : Int32) (r : Int32) (h : fX7_at n st p0 p1 = some r) (hret : ∀ (H : Heap) (locs : List Loc) (ls : Array Slot) (pc : Nat), decode cX7_at pc = .ok (.ireturn, 1) → r_I D A d s.heap st ex H locs → W p l e R s m args below meth c H locs 0 0 Q (F0 m pc ls [.int r])) : ∀ (H : Heap) (locs : List Loc) (ls : Array Slot), r_I D A d s.heap st ex H locs → lv_has ls 3 [(0, .ref (d.1 200)), (1, .int p0), (2, .int p1)] → W p l e R s m args below meth c H locs 0 0 Q (F0 m 0 ls []) := by
  intro H locs ls I hl
  unfold fX7_at at h
  refine lv_aload_n X.1 X.2.1 dX7_at_0 rfl (lv_at hl 0 rfl) ?_
  refine va_get (D := D) (ci := 7) (C := RX7) (T := TX7) (N := 4) (ref := "SwapPress$Rings") X.1 X.2.1 X.2.2.1 in_X7 X.2.2.2.1 X.2.2.2.2.1 I.1 0 rfl rfl 1 (by decide) (X.2.2.1 _ q966) (fun _ h => h) (v := .ref (d.1 1)) rfl dX7_at_1 ?_
  refine lv_bipush (v := 8) X.1 X.2.1 dX7_at_4 (by decide) ?_
  refine lv_iload_n X.1 X.2.1 dX7_at_6 rfl (lv_at hl 1 rfl) ?_
  refine lv_imul X.1 X.2.1 dX7_at_7 ?_
  refine lv_iload_n X.1 X.2.1 dX7_at_8 rfl (lv_at hl 2 rfl) ?_
  refine lv_iadd X.1 X.2.1 dX7_at_9 ?_
  obtain ⟨g1, h⟩ := m_gS h
  refine r_iald X I 1 (n := 64) (f := st.2.1 1) rfl g1 dX7_at_10 ?_
  obtain rfl := m_e1 h
  exact hret H locs ls 11 dX7_at_11 I
end S_at
theorem kX7_at (l : Launch) (n : Nat) (D : va_G) (d : YD) (st : MS) (p0 : Int32) (p1 : Int32) (r : Int32) (h : fX7_at n st p0 p1 = some r) : r_Mi l yX7_at cX7_at 3 (some .int) ({ frames := 0, cells := 0, slots := 0, locals := 0 } : Room) D d st [.ref (d.1 200), .int p0, .int p1] r st :=
  r_startI (lvl := [(0, .ref (d.1 200)), (1, .int p0), (2, .int p1)]) (by decide) rfl (Nat.le_of_ble_eq_true rfl) rfl (fun p e s m args below meth c ls X hr hlk hl hA I => wX7_at X hA ⟨Nat.le_refl _, Nat.le_refl _⟩ n st p0 p1 r h (fun H locs ls pc hd I => r_iret X I hr hlk hd) _ _ ls I hl)

/-! method next(I)I -/
def fX7_next (n : Nat) (st : MS) (p0 : Int32) : Option (Int32) :=
  m_g (decide (¬ (st.1 3 : Int32) = 0)) (m_g (m_in ((p0 + 1) - (p0 + 1) / (st.1 3) * (st.1 3)) 8) (some (st.2.1 2 ((p0 + 1) - (p0 + 1) / (st.1 3) * (st.1 3) : Int32).toNatClampNeg)))
theorem hdX7_next : yX7_next.cls = RX7 ∧ yX7_next.cls ≠ "java/lang/invoke/MethodHandle" ∧ yX7_next.cls ≠ "java/lang/invoke/VarHandle" ∧ (parseMethodDescriptor yX7_next.desc).map (fun d => d.parameters.length) = some 1 := by decide +kernel
section S_next
variable {p : Program} {l : Launch} {e : Env} {R : Room} {s : State} {m : MethodId} {args : Array Value} {below : List Frame} {meth : Method} {c : Code} {Q : State → Prop} {D : va_G} {A : Nat → Prop} {d : YD} {ex : va_W}
theorem wX7_next (X : r_X RX7 D A d p s m c cX7_next 2 args) (hA : ∀ q, s.heap.size ≤ q → A q) (hR : 0 ≤ R.frames ∧ 0 ≤ R.locals) (n : Nat) (st : MS) (p0 : Int32) (r : Int32) (h : fX7_next n st p0 = some r) (hret : ∀ (H : Heap) (locs : List Loc) (ls : Array Slot) (pc : Nat), decode cX7_next pc = .ok (.ireturn, 1) → r_I D A d s.heap st ex H locs → W p l e R s m args below meth c H locs 0 0 Q (F0 m pc ls [.int r])) : ∀ (H : Heap) (locs : List Loc) (ls : Array Slot), r_I D A d s.heap st ex H locs → lv_has ls 2 [(0, .ref (d.1 200)), (1, .int p0)] → W p l e R s m args below meth c H locs 0 0 Q (F0 m 0 ls []) := by
  intro H locs ls I hl
  unfold fX7_next at h
  refine lv_aload_n X.1 X.2.1 dX7_next_0 rfl (lv_at hl 0 rfl) ?_
  refine va_get (D := D) (ci := 7) (C := RX7) (T := TX7) (N := 4) (ref := "SwapPress$Rings") X.1 X.2.1 X.2.2.1 in_X7 X.2.2.2.1 X.2.2.2.2.1 I.1 0 rfl rfl 2 (by decide) (X.2.2.1 _ q967) (fun _ h => h) (v := .ref (d.1 2)) rfl dX7_next_1 ?_
  refine lv_iload_n X.1 X.2.1 dX7_next_4 rfl (lv_at hl 1 rfl) ?_
  refine lv_iconst (v := 1) X.1 X.2.1 dX7_next_5 (by decide) ?_
  refine lv_iadd X.1 X.2.1 dX7_next_6 ?_
  refine lv_aload_n X.1 X.2.1 dX7_next_7 rfl (lv_at hl 0 rfl) ?_
  refine va_get (D := D) (ci := 7) (C := RX7) (T := TX7) (N := 4) (ref := "SwapPress$Rings") X.1 X.2.1 X.2.2.1 in_X7 X.2.2.2.1 X.2.2.2.2.1 I.1 0 rfl rfl 3 (by decide) (X.2.2.1 _ q969) (fun _ h => h) (v := .int (st.1 3)) rfl dX7_next_8 ?_
  obtain ⟨g1, h⟩ := m_gS h
  refine lv_irem X.1 X.2.1 dX7_next_11 (of_decide_eq_true g1) ?_
  obtain ⟨g2, h⟩ := m_gS h
  refine r_iald X I 2 (n := 8) (f := st.2.1 2) rfl g2 dX7_next_12 ?_
  obtain rfl := m_e1 h
  exact hret H locs ls 13 dX7_next_13 I
end S_next
theorem kX7_next (l : Launch) (n : Nat) (D : va_G) (d : YD) (st : MS) (p0 : Int32) (r : Int32) (h : fX7_next n st p0 = some r) : r_Mi l yX7_next cX7_next 2 (some .int) ({ frames := 0, cells := 0, slots := 0, locals := 0 } : Room) D d st [.ref (d.1 200), .int p0] r st :=
  r_startI (lvl := [(0, .ref (d.1 200)), (1, .int p0)]) (by decide) rfl (Nat.le_of_ble_eq_true rfl) rfl (fun p e s m args below meth c ls X hr hlk hl hA I => wX7_next X hA ⟨Nat.le_refl _, Nat.le_refl _⟩ n st p0 r h (fun H locs ls pc hd I => r_iret X I hr hlk hd) _ _ ls I hl)

/-! method goesOn(II)Z -/
def fX7_goesOn_J104 (n : Nat) (st : MS) (rc : MS → Int32 → Int32 → Option (Int32 × MS)) (v1 : Int32) (v2 : Int32) (v3 : Int32) : Option ((Int32 × MS) ⊕ (MS ⊕ MS)) :=
  some (.inl ((v3 + 1, st)))
def fX7_goesOn_L44 (n : Nat) (rc : MS → Int32 → Int32 → Option (Int32 × MS)) (v1 : Int32) (v2 : Int32) (v3 : Int32) (st : MS) : Option ((Int32 × MS) ⊕ (MS ⊕ MS)) :=
  m_if ((st.1 0 : Int32) ≤ (v3 : Int32)) (some (.inr (.inr st))) (m_if (((v2 >>> (v3 &&& 31)) &&& 1 : Int32) = (1 : Int32)) (fX7_goesOn_J104 n st rc v1 v2 v3) (m_g (m_in (v1 - 1) 8) (m_b (fX7_at n st (st.2.1 2 (v1 - 1 : Int32).toNatClampNeg) v3) (fun r7 => m_if ((r7 : Int32) = 0) (fX7_goesOn_J104 n st rc v1 v2 v3) (m_g (m_in v1 8) (m_b2 (rc (m_sa st 2 (v1 : Int32).toNatClampNeg v3) (v1 + 1) (v2 ||| (1 <<< (v3 &&& 31)))) (fun r11 s12 => m_if ((r11 : Int32) = 0) (fX7_goesOn_J104 n s12 rc v1 v2 v3) (some (.inr (.inl s12))))))))))
def fX7_goesOn_L44l (n : Nat) (rc : MS → Int32 → Int32 → Option (Int32 × MS)) (v1 : Int32) (v2 : Int32) (x : (Int32 × MS)) : Option (MS ⊕ MS) := m_lp (fun (x : (Int32 × MS)) => fX7_goesOn_L44 n rc v1 v2 x.1 x.2) n x
def fX7_goesOn_J34 (n : Nat) (st : MS) (rc : MS → Int32 → Int32 → Option (Int32 × MS)) (t0 : Int32) : Option (Int32 × MS) :=
  m_g (m_01 t0) (some (t0, st))
def fX7_goesOn_body (n : Nat) (st : MS) (rc : MS → Int32 → Int32 → Option (Int32 × MS)) (p0 : Int32) (p1 : Int32) : Option (Int32 × MS) :=
  m_if ((p0 : Int32) = (st.1 3 : Int32)) (m_g (m_in (p0 - 1) 8) (m_g (m_in 0 8) (m_b (fX7_at n st (st.2.1 2 (p0 - 1 : Int32).toNatClampNeg) (st.2.1 2 (0 : Int32).toNatClampNeg)) (fun r23 => m_if ((r23 : Int32) ≤ 0) (fX7_goesOn_J34 n st rc 0) (fX7_goesOn_J34 n st rc 1))))) (m_g (m_in 0 8) (m_b (fX7_goesOn_L44l n rc p0 p1 (((st.2.1 2 (0 : Int32).toNatClampNeg) + 1, st))) (fun y19 => m_s y19 (fun s15 => m_g (m_01 1) (some (1, s15))) (fun s17 => m_g (m_01 0) (some (0, s17))))))
theorem hdX7_goesOn : yX7_goesOn.cls = RX7 ∧ yX7_goesOn.cls ≠ "java/lang/invoke/MethodHandle" ∧ yX7_goesOn.cls ≠ "java/lang/invoke/VarHandle" ∧ (parseMethodDescriptor yX7_goesOn.desc).map (fun d => d.parameters.length) = some 2 := by decide +kernel
section S_goesOn
variable {p : Program} {l : Launch} {e : Env} {R : Room} {s : State} {m : MethodId} {args : Array Value} {below : List Frame} {meth : Method} {c : Code} {Q : State → Prop} {D : va_G} {A : Nat → Prop} {d : YD} {ex : va_W}
theorem wfX7_goesOn_L44 (X : r_X RX7 D A d p s m c cX7_goesOn 4 args) (hA : ∀ q, s.heap.size ≤ q → A q) (hR : 1 ≤ R.frames ∧ 22 ≤ R.locals) (n : Nat) (rc : MS → Int32 → Int32 → Option (Int32 × MS)) (v1 : Int32) (v2 : Int32) (rmc : Room) (hrm : rmc.cells = 0 ∧ rmc.slots = 0) (hRc : rmc.frames + 1 ≤ R.frames ∧ 8 + (4 + 11) + rmc.locals ≤ R.locals) (hrc : ∀ (st : MS) (p0 : Int32) (p1 : Int32) (r : Int32) (st' : MS), rc st p0 p1 = some (r, st') → r_Mi l yX7_goesOn cX7_goesOn 4 (some .boolean) rmc D d st [.ref (d.1 200), .int p0, .int p1] r st') (x : (Int32 × MS)) (z : (MS ⊕ MS)) (hz : fX7_goesOn_L44l n rc v1 v2 x = some z) (hE : (m_e (fun (z : MS) => ∀ (H : Heap) (locs : List Loc) (ls : Array Slot), r_I D A d s.heap z ex H locs → lv_has ls 4 [] → W p l e R s m args below meth c H locs 0 0 Q (F0 m 102 ls [])) (fun (z : MS) => ∀ (H : Heap) (locs : List Loc) (ls : Array Slot), r_I D A d s.heap z ex H locs → lv_has ls 4 [] → W p l e R s m args below meth c H locs 0 0 Q (F0 m 110 ls []))) z) : (fun (x : (Int32 × MS)) => ∀ (H : Heap) (locs : List Loc) (ls : Array Slot), r_I D A d s.heap x.2 ex H locs → lv_has ls 4 [(0, .ref (d.1 200)), (1, .int v1), (2, .int v2), (3, .int x.1)] → W p l e R s m args below meth c H locs 0 0 Q (F0 m 44 ls [])) x := by
  refine m_lpW (G := fun (x : (Int32 × MS)) => ∀ (H : Heap) (locs : List Loc) (ls : Array Slot), r_I D A d s.heap x.2 ex H locs → lv_has ls 4 [(0, .ref (d.1 200)), (1, .int v1), (2, .int v2), (3, .int x.1)] → W p l e R s m args below meth c H locs 0 0 Q (F0 m 44 ls [])) (E := m_e (fun (z : MS) => ∀ (H : Heap) (locs : List Loc) (ls : Array Slot), r_I D A d s.heap z ex H locs → lv_has ls 4 [] → W p l e R s m args below meth c H locs 0 0 Q (F0 m 102 ls [])) (fun (z : MS) => ∀ (H : Heap) (locs : List Loc) (ls : Array Slot), r_I D A d s.heap z ex H locs → lv_has ls 4 [] → W p l e R s m args below meth c H locs 0 0 Q (F0 m 110 ls []))) ?_ n x z hz hE
  rintro ⟨v3, st⟩ r h hr H locs ls I hl
  replace h : fX7_goesOn_L44 n rc v1 v2 v3 st = some r := h
  have k104 : ∀ (st : MS) (v3 : Int32) (H : Heap) (locs : List Loc) (ls : Array Slot), fX7_goesOn_J104 n st rc v1 v2 v3 = some r → r_I D A d s.heap st ex H locs → lv_has ls 4 [(0, .ref (d.1 200)), (1, .int v1), (2, .int v2), (3, .int v3)] → W p l e R s m args below meth c H locs 0 0 Q (F0 m 104 ls []) := by
    intro st v3 H locs ls h I hl
    unfold fX7_goesOn_J104 at h
    refine lv_iinc (v := v3 + 1) (lv' := [(3, .int (v3 + 1)), (0, .ref (d.1 200)), (1, .int v1), (2, .int v2)]) X.1 X.2.1 dX7_goesOn_104 hl (k := 3) rfl rfl (by decide) rfl (fun ls hl => ?_)
    refine lv_goto (tgt := 44) X.1 X.2.1 dX7_goesOn_107 (by decide) ?_
    cases h
    exact hr H locs ls I (lv_sub hl [1, 2, 3, 0] rfl)
  unfold fX7_goesOn_L44 at h
  refine lv_iload_n X.1 X.2.1 dX7_goesOn_44 rfl (lv_at hl 3 rfl) ?_
  refine lv_aload_n X.1 X.2.1 dX7_goesOn_45 rfl (lv_at hl 0 rfl) ?_
  refine va_get (D := D) (ci := 7) (C := RX7) (T := TX7) (N := 4) (ref := "SwapPress$Rings") X.1 X.2.1 X.2.2.1 in_X7 X.2.2.2.1 X.2.2.2.2.1 I.1 0 rfl rfl 0 (by decide) (X.2.2.1 _ q965) (fun _ h => h) (v := .int (st.1 0)) rfl dX7_goesOn_46 ?_
  refine lv_icmp_ge (tgt := 110) X.1 X.2.1 dX7_goesOn_49 (by decide) (fun c3 => ?_) (fun c3 => ?_)
  · replace h := m_ifT c3 h
    cases h
    exact hr H locs ls I (lv_sub hl [] rfl)
  · replace h := m_ifF c3 h
    refine lv_iload_n X.1 X.2.1 dX7_goesOn_52 rfl (lv_at hl 2 rfl) ?_
    refine lv_iload_n X.1 X.2.1 dX7_goesOn_53 rfl (lv_at hl 3 rfl) ?_
    refine lv_ishr X.1 X.2.1 dX7_goesOn_54 ?_
    refine lv_iconst (v := 1) X.1 X.2.1 dX7_goesOn_55 (by decide) ?_
    refine lv_iand X.1 X.2.1 dX7_goesOn_56 ?_
    refine lv_iconst (v := 1) X.1 X.2.1 dX7_goesOn_57 (by decide) ?_
    refine lv_icmp_eq (tgt := 104) X.1 X.2.1 dX7_goesOn_58 (by decide) (fun c4 => ?_) (fun c4 => ?_)
    · replace h := m_ifT c4 h
      exact k104 st v3 H locs ls h I (lv_sub hl [0, 1, 2, 3] rfl)
    · replace h := m_ifF c4 h
      refine lv_aload_n X.1 X.2.1 dX7_goesOn_61 rfl (lv_at hl 0 rfl) ?_
      refine lv_aload_n X.1 X.2.1 dX7_goesOn_62 rfl (lv_at hl 0 rfl) ?_
      refine va_get (D := D) (ci := 7) (C := RX7) (T := TX7) (N := 4) (ref := "SwapPress$Rings") X.1 X.2.1 X.2.2.1 in_X7 X.2.2.2.1 X.2.2.2.2.1 I.1 0 rfl rfl 2 (by decide) (X.2.2.1 _ q967) (fun _ h => h) (v := .ref (d.1 2)) rfl dX7_goesOn_63 ?_
      refine lv_iload_n X.1 X.2.1 dX7_goesOn_66 rfl (lv_at hl 1 rfl) ?_
      refine lv_iconst (v := 1) X.1 X.2.1 dX7_goesOn_67 (by decide) ?_
      refine lv_isub X.1 X.2.1 dX7_goesOn_68 ?_
      obtain ⟨g5, h⟩ := m_gS h
      refine r_iald X I 2 (n := 8) (f := st.2.1 2) rfl g5 dX7_goesOn_69 ?_
      refine lv_iload_n X.1 X.2.1 dX7_goesOn_70 rfl (lv_at hl 3 rfl) ?_
      obtain ⟨r7, e6, h⟩ := m_bS h
      refine r_callI X hl.1 I hA (C := RX7) (b := d.1 200) (As := [.int (st.2.1 2 (v1 - 1 : Int32).toNatClampNeg), .int v3]) (rest := []) (kX7_at l n D d st (st.2.1 2 (v1 - 1 : Int32).toNatClampNeg) v3 _ e6) 2 ⟨0, 7, TX7, 4, _, rfl, rfl⟩ q988 q990 qs25 q124 q991 hdX7_at rfl rfl ⟨Nat.le_trans (Nat.le_of_ble_eq_true rfl) hR.1, Nat.le_trans (Nat.le_of_ble_eq_true rfl) hR.2⟩ ⟨rfl, rfl⟩ ⟨Nat.zero_le _, Nat.zero_le _⟩ (Nat.le_of_ble_eq_true rfl) dX7_goesOn_71 (fun H locs I => ?_)
      refine lv_if_ne (tgt := 80) X.1 X.2.1 dX7_goesOn_74 (by decide) (fun c8 => ?_) (fun c8 => ?_)
      · replace h := m_ifF c8 h
        refine lv_aload_n X.1 X.2.1 dX7_goesOn_80 rfl (lv_at hl 0 rfl) ?_
        refine va_get (D := D) (ci := 7) (C := RX7) (T := TX7) (N := 4) (ref := "SwapPress$Rings") X.1 X.2.1 X.2.2.1 in_X7 X.2.2.2.1 X.2.2.2.2.1 I.1 0 rfl rfl 2 (by decide) (X.2.2.1 _ q967) (fun _ h => h) (v := .ref (d.1 2)) rfl dX7_goesOn_81 ?_
        refine lv_iload_n X.1 X.2.1 dX7_goesOn_84 rfl (lv_at hl 1 rfl) ?_
        refine lv_iload_n X.1 X.2.1 dX7_goesOn_85 rfl (lv_at hl 3 rfl) ?_
        obtain ⟨g9, h⟩ := m_gS h
        refine r_iast X I 2 (n := 8) (f := st.2.1 2) rfl (r_st2 d _ _ _ _) g9 dX7_goesOn_86 (fun H locs I => ?_)
        refine lv_aload_n X.1 X.2.1 dX7_goesOn_87 rfl (lv_at hl 0 rfl) ?_
        refine lv_iload_n X.1 X.2.1 dX7_goesOn_88 rfl (lv_at hl 1 rfl) ?_
        refine lv_iconst (v := 1) X.1 X.2.1 dX7_goesOn_89 (by decide) ?_
        refine lv_iadd X.1 X.2.1 dX7_goesOn_90 ?_
        refine lv_iload_n X.1 X.2.1 dX7_goesOn_91 rfl (lv_at hl 2 rfl) ?_
        refine lv_iconst (v := 1) X.1 X.2.1 dX7_goesOn_92 (by decide) ?_
        refine lv_iload_n X.1 X.2.1 dX7_goesOn_93 rfl (lv_at hl 3 rfl) ?_
        refine lv_ishl X.1 X.2.1 dX7_goesOn_94 ?_
        refine lv_ior X.1 X.2.1 dX7_goesOn_95 ?_
        obtain ⟨r11, s12, e10, h⟩ := m_b2S h
        refine r_callI X hl.1 I hA (C := RX7) (b := d.1 200) (As := [.int (v1 + 1), .int (v2 ||| (1 <<< (v3 &&& 31)))]) (rest := []) (hrc _ (v1 + 1) (v2 ||| (1 <<< (v3 &&& 31))) _ _ e10) 2 ⟨0, 7, TX7, 4, _, rfl, rfl⟩ q984 q986 qs24 q124 q987 hdX7_goesOn rfl rfl hRc hrm ⟨Nat.zero_le _, Nat.zero_le _⟩ (Nat.le_of_ble_eq_true rfl) dX7_goesOn_96 (fun H locs I => ?_)
        refine lv_if_eq (tgt := 104) X.1 X.2.1 dX7_goesOn_99 (by decide) (fun c13 => ?_) (fun c13 => ?_)
        · replace h := m_ifT c13 h
          exact k104 s12 v3 H locs ls h I (lv_sub hl [0, 1, 2, 3] rfl)
        · replace h := m_ifF c13 h
          cases h
          exact hr H locs ls I (lv_sub hl [] rfl)
      · replace h := m_ifT c8 h
        refine lv_goto (tgt := 104) X.1 X.2.1 dX7_goesOn_77 (by decide) ?_
        exact k104 st v3 H locs ls h I (lv_sub hl [0, 1, 2, 3] rfl)
theorem wX7_goesOn (X : r_X RX7 D A d p s m c cX7_goesOn 4 args) (hA : ∀ q, s.heap.size ≤ q → A q) (hR : 1 ≤ R.frames ∧ 22 ≤ R.locals) (n : Nat) (st : MS) (rc : MS → Int32 → Int32 → Option (Int32 × MS)) (p0 : Int32) (p1 : Int32) (rmc : Room) (hrm : rmc.cells = 0 ∧ rmc.slots = 0) (hRc : rmc.frames + 1 ≤ R.frames ∧ 8 + (4 + 11) + rmc.locals ≤ R.locals) (hrc : ∀ (st : MS) (p0 : Int32) (p1 : Int32) (r : Int32) (st' : MS), rc st p0 p1 = some (r, st') → r_Mi l yX7_goesOn cX7_goesOn 4 (some .boolean) rmc D d st [.ref (d.1 200), .int p0, .int p1] r st') (r : (Int32 × MS)) (h : fX7_goesOn_body n st rc p0 p1 = some r) (hret : ∀ (H : Heap) (locs : List Loc) (ls : Array Slot) (pc : Nat), m_01 r.1 = true → decode cX7_goesOn pc = .ok (.ireturn, 1) → r_I D A d s.heap r.2 ex H locs → W p l e R s m args below meth c H locs 0 0 Q (F0 m pc ls [.int r.1])) : ∀ (H : Heap) (locs : List Loc) (ls : Array Slot), r_I D A d s.heap st ex H locs → lv_has ls 4 [(0, .ref (d.1 200)), (1, .int p0), (2, .int p1)] → W p l e R s m args below meth c H locs 0 0 Q (F0 m 0 ls []) := by
  obtain ⟨r0, s0⟩ := r
  have k34 : ∀ (st : MS) (t0 : Int32) (H : Heap) (locs : List Loc) (ls : Array Slot), fX7_goesOn_J34 n st rc t0 = some (r0, s0) → r_I D A d s.heap st ex H locs → lv_has ls 4 [] → W p l e R s m args below meth c H locs 0 0 Q (F0 m 34 ls [.int t0]) := by
    intro st t0 H locs ls h I hl
    unfold fX7_goesOn_J34 at h
    obtain ⟨g25, h⟩ := m_gS h
    obtain ⟨rfl, rfl⟩ := m_e2 h
    exact hret H locs ls 34 g25 dX7_goesOn_34 I
  intro H locs ls I hl
  unfold fX7_goesOn_body at h
  refine lv_iload_n X.1 X.2.1 dX7_goesOn_0 rfl (lv_at hl 1 rfl) ?_
  refine lv_aload_n X.1 X.2.1 dX7_goesOn_1 rfl (lv_at hl 0 rfl) ?_
  refine va_get (D := D) (ci := 7) (C := RX7) (T := TX7) (N := 4) (ref := "SwapPress$Rings") X.1 X.2.1 X.2.2.1 in_X7 X.2.2.2.1 X.2.2.2.2.1 I.1 0 rfl rfl 3 (by decide) (X.2.2.1 _ q969) (fun _ h => h) (v := .int (st.1 3)) rfl dX7_goesOn_2 ?_
  refine lv_icmp_ne (tgt := 35) X.1 X.2.1 dX7_goesOn_5 (by decide) (fun c1 => ?_) (fun c1 => ?_)
  · replace h := m_ifF c1 h
    refine lv_aload_n X.1 X.2.1 dX7_goesOn_35 rfl (lv_at hl 0 rfl) ?_
    refine va_get (D := D) (ci := 7) (C := RX7) (T := TX7) (N := 4) (ref := "SwapPress$Rings") X.1 X.2.1 X.2.2.1 in_X7 X.2.2.2.1 X.2.2.2.2.1 I.1 0 rfl rfl 2 (by decide) (X.2.2.1 _ q967) (fun _ h => h) (v := .ref (d.1 2)) rfl dX7_goesOn_36 ?_
    refine lv_iconst (v := 0) X.1 X.2.1 dX7_goesOn_39 (by decide) ?_
    obtain ⟨g2, h⟩ := m_gS h
    refine r_iald X I 2 (n := 8) (f := st.2.1 2) rfl g2 dX7_goesOn_40 ?_
    refine lv_iconst (v := 1) X.1 X.2.1 dX7_goesOn_41 (by decide) ?_
    refine lv_iadd X.1 X.2.1 dX7_goesOn_42 ?_
    refine lv_istore_n (lv' := [(3, .int ((st.2.1 2 (0 : Int32).toNatClampNeg) + 1)), (0, .ref (d.1 200)), (1, .int p0), (2, .int p1)]) X.1 X.2.1 dX7_goesOn_43 rfl hl (by decide) rfl (fun ls hl => ?_)
    obtain ⟨s15 | s17, e14, h⟩ := m_bS h
    · replace h := m_sL h
      refine wfX7_goesOn_L44 X hA hR n rc p0 p1 rmc hrm hRc hrc _ _ e14 (fun H locs ls I hl => ?_) H locs ls I (lv_sub hl [1, 2, 3, 0] rfl)
      refine lv_iconst (v := 1) X.1 X.2.1 dX7_goesOn_102 (by decide) ?_
      obtain ⟨g16, h⟩ := m_gS h
      obtain ⟨rfl, rfl⟩ := m_e2 h
      exact hret H locs ls 103 g16 dX7_goesOn_103 I
    · replace h := m_sR h
      refine wfX7_goesOn_L44 X hA hR n rc p0 p1 rmc hrm hRc hrc _ _ e14 (fun H locs ls I hl => ?_) H locs ls I (lv_sub hl [1, 2, 3, 0] rfl)
      refine lv_iconst (v := 0) X.1 X.2.1 dX7_goesOn_110 (by decide) ?_
      obtain ⟨g18, h⟩ := m_gS h
      obtain ⟨rfl, rfl⟩ := m_e2 h
      exact hret H locs ls 111 g18 dX7_goesOn_111 I
  · replace h := m_ifT c1 h
    refine lv_aload_n X.1 X.2.1 dX7_goesOn_8 rfl (lv_at hl 0 rfl) ?_
    refine lv_aload_n X.1 X.2.1 dX7_goesOn_9 rfl (lv_at hl 0 rfl) ?_
    refine va_get (D := D) (ci := 7) (C := RX7) (T := TX7) (N := 4) (ref := "SwapPress$Rings") X.1 X.2.1 X.2.2.1 in_X7 X.2.2.2.1 X.2.2.2.2.1 I.1 0 rfl rfl 2 (by decide) (X.2.2.1 _ q967) (fun _ h => h) (v := .ref (d.1 2)) rfl dX7_goesOn_10 ?_
    refine lv_iload_n X.1 X.2.1 dX7_goesOn_13 rfl (lv_at hl 1 rfl) ?_
    refine lv_iconst (v := 1) X.1 X.2.1 dX7_goesOn_14 (by decide) ?_
    refine lv_isub X.1 X.2.1 dX7_goesOn_15 ?_
    obtain ⟨g20, h⟩ := m_gS h
    refine r_iald X I 2 (n := 8) (f := st.2.1 2) rfl g20 dX7_goesOn_16 ?_
    refine lv_aload_n X.1 X.2.1 dX7_goesOn_17 rfl (lv_at hl 0 rfl) ?_
    refine va_get (D := D) (ci := 7) (C := RX7) (T := TX7) (N := 4) (ref := "SwapPress$Rings") X.1 X.2.1 X.2.2.1 in_X7 X.2.2.2.1 X.2.2.2.2.1 I.1 0 rfl rfl 2 (by decide) (X.2.2.1 _ q967) (fun _ h => h) (v := .ref (d.1 2)) rfl dX7_goesOn_18 ?_
    refine lv_iconst (v := 0) X.1 X.2.1 dX7_goesOn_21 (by decide) ?_
    obtain ⟨g21, h⟩ := m_gS h
    refine r_iald X I 2 (n := 8) (f := st.2.1 2) rfl g21 dX7_goesOn_22 ?_
    obtain ⟨r23, e22, h⟩ := m_bS h
    refine r_callI X hl.1 I hA (C := RX7) (b := d.1 200) (As := [.int (st.2.1 2 (p0 - 1 : Int32).toNatClampNeg), .int (st.2.1 2 (0 : Int32).toNatClampNeg)]) (rest := []) (kX7_at l n D d st (st.2.1 2 (p0 - 1 : Int32).toNatClampNeg) (st.2.1 2 (0 : Int32).toNatClampNeg) _ e22) 2 ⟨0, 7, TX7, 4, _, rfl, rfl⟩ q988 q990 qs25 q124 q991 hdX7_at rfl rfl ⟨Nat.le_trans (Nat.le_of_ble_eq_true rfl) hR.1, Nat.le_trans (Nat.le_of_ble_eq_true rfl) hR.2⟩ ⟨rfl, rfl⟩ ⟨Nat.zero_le _, Nat.zero_le _⟩ (Nat.le_of_ble_eq_true rfl) dX7_goesOn_23 (fun H locs I => ?_)
    refine lv_if_le (tgt := 33) X.1 X.2.1 dX7_goesOn_26 (by decide) (fun c24 => ?_) (fun c24 => ?_)
    · replace h := m_ifT c24 h
      refine lv_iconst (v := 0) X.1 X.2.1 dX7_goesOn_33 (by decide) ?_
      exact k34 st 0 H locs ls h I (lv_sub hl [] rfl)
    · replace h := m_ifF c24 h
      refine lv_iconst (v := 1) X.1 X.2.1 dX7_goesOn_29 (by decide) ?_
      refine lv_goto (tgt := 34) X.1 X.2.1 dX7_goesOn_30 (by decide) ?_
      exact k34 st 1 H locs ls h I (lv_sub hl [] rfl)
end S_goesOn
def fX7_goesOn_rec (n : Nat) : Nat → MS → Int32 → Int32 → Option (Int32 × MS)
  | 0 => fun _ _ _ => none
  | k + 1 => fun st p0 p1 => fX7_goesOn_body n st (fX7_goesOn_rec n k) p0 p1
theorem kX7_goesOn_rec (l : Launch) (n : Nat) (D : va_G) (d : YD) : ∀ (k : Nat) (st : MS) (p0 : Int32) (p1 : Int32) (r : Int32) (st' : MS), fX7_goesOn_rec n k st p0 p1 = some (r, st') → r_Mi l yX7_goesOn cX7_goesOn 4 (some .boolean) ({ frames := 1 + k, cells := 0, slots := 0, locals := 22 + k * 23 } : Room) D d st [.ref (d.1 200), .int p0, .int p1] r st' := by
  intro k
  induction k with
  | zero => intro st p0 p1 r st' h; cases h
  | succ k ih =>
    intro st p0 p1 r st' h
    exact r_startI (lvl := [(0, .ref (d.1 200)), (1, .int p0), (2, .int p1)]) (by decide) rfl (Nat.le_of_ble_eq_true rfl) rfl (fun p e s m args below meth c ls X hr hlk hl hA I => wX7_goesOn X hA ⟨Nat.le_add_right _ _, Nat.le_add_right _ _⟩ n st (fX7_goesOn_rec n k) p0 p1 ({ frames := 1 + k, cells := 0, slots := 0, locals := 22 + k * 23 } : Room) ⟨rfl, rfl⟩ ⟨Nat.le_refl _, by show 8 + (4 + 11) + (22 + k * 23) ≤ 22 + (k + 1) * 23; omega⟩ ih (r, st') h (fun H locs ls pc g hd I => r_zret X I hr hlk g hd) _ _ ls I hl)
def fX7_goesOn (n : Nat) (st : MS) (p0 : Int32) (p1 : Int32) : Option (Int32 × MS) := fX7_goesOn_rec n 9 st p0 p1
theorem kX7_goesOn (l : Launch) (n : Nat) (D : va_G) (d : YD) (st : MS) (p0 : Int32) (p1 : Int32) (r : Int32) (st' : MS) (h : fX7_goesOn n st p0 p1 = some (r, st')) : r_Mi l yX7_goesOn cX7_goesOn 4 (some .boolean) ({ frames := 10, cells := 0, slots := 0, locals := 229 } : Room) D d st [.ref (d.1 200), .int p0, .int p1] r st' := kX7_goesOn_rec l n D d 9 st p0 p1 r st' h

/-! method load()I -/
def fX7_load_L18 (n : Nat) (st : MS) (v1 : Int32) (v2 : Int32) : Option ((Int32 × Int32) ⊕ Int32) :=
  m_if ((st.1 3 : Int32) ≤ (v2 : Int32)) (some (.inr v1)) (m_g (m_in v2 8) (m_b (fX7_next n st v2) (fun r9 => m_b (fX7_at n st (st.2.1 2 (v2 : Int32).toNatClampNeg) r9) (fun r11 => m_b (some (if (r11 : Int32) < (v1 : Int32) then (r11 : Int32) else (v1 : Int32))) (fun y12 => some (.inl ((y12, v2 + 1))))))))
def fX7_load_L18l (n : Nat) (st : MS) (x : (Int32 × Int32)) : Option Int32 := m_lp (fun (x : (Int32 × Int32)) => fX7_load_L18 n st x.1 x.2) n x
def fX7_load (n : Nat) (st : MS) : Option (Int32) :=
  m_g (m_in 0 8) (m_b (fX7_next n st 0) (fun r3 => m_b (fX7_at n st (st.2.1 2 (0 : Int32).toNatClampNeg) r3) (fun r5 => m_b (fX7_load_L18l n st ((r5, 1))) (fun z15 => some z15))))
theorem hdX7_load : yX7_load.cls = RX7 ∧ yX7_load.cls ≠ "java/lang/invoke/MethodHandle" ∧ yX7_load.cls ≠ "java/lang/invoke/VarHandle" ∧ (parseMethodDescriptor yX7_load.desc).map (fun d => d.parameters.length) = some 0 := by decide +kernel
section S_load
variable {p : Program} {l : Launch} {e : Env} {R : Room} {s : State} {m : MethodId} {args : Array Value} {below : List Frame} {meth : Method} {c : Code} {Q : State → Prop} {D : va_G} {A : Nat → Prop} {d : YD} {ex : va_W}
theorem wfX7_load_L18 (X : r_X RX7 D A d p s m c cX7_load 3 args) (hA : ∀ q, s.heap.size ≤ q → A q) (hR : 1 ≤ R.frames ∧ 23 ≤ R.locals) (n : Nat) (st : MS) (x : (Int32 × Int32)) (z : Int32) (hz : fX7_load_L18l n st x = some z) (hE : (fun (z : Int32) => ∀ (H : Heap) (locs : List Loc) (ls : Array Slot), r_I D A d s.heap st ex H locs → lv_has ls 3 [(1, .int z)] → W p l e R s m args below meth c H locs 0 0 Q (F0 m 52 ls [])) z) : (fun (x : (Int32 × Int32)) => ∀ (H : Heap) (locs : List Loc) (ls : Array Slot), r_I D A d s.heap st ex H locs → lv_has ls 3 [(0, .ref (d.1 200)), (1, .int x.1), (2, .int x.2)] → W p l e R s m args below meth c H locs 0 0 Q (F0 m 18 ls [])) x := by
  refine m_lpW (G := fun (x : (Int32 × Int32)) => ∀ (H : Heap) (locs : List Loc) (ls : Array Slot), r_I D A d s.heap st ex H locs → lv_has ls 3 [(0, .ref (d.1 200)), (1, .int x.1), (2, .int x.2)] → W p l e R s m args below meth c H locs 0 0 Q (F0 m 18 ls [])) (E := fun (z : Int32) => ∀ (H : Heap) (locs : List Loc) (ls : Array Slot), r_I D A d s.heap st ex H locs → lv_has ls 3 [(1, .int z)] → W p l e R s m args below meth c H locs 0 0 Q (F0 m 52 ls [])) ?_ n x z hz hE
  rintro ⟨v1, v2⟩ r h hr H locs ls I hl
  replace h : fX7_load_L18 n st v1 v2 = some r := h
  unfold fX7_load_L18 at h
  refine lv_iload_n X.1 X.2.1 dX7_load_18 rfl (lv_at hl 2 rfl) ?_
  refine lv_aload_n X.1 X.2.1 dX7_load_19 rfl (lv_at hl 0 rfl) ?_
  refine va_get (D := D) (ci := 7) (C := RX7) (T := TX7) (N := 4) (ref := "SwapPress$Rings") X.1 X.2.1 X.2.2.1 in_X7 X.2.2.2.1 X.2.2.2.2.1 I.1 0 rfl rfl 3 (by decide) (X.2.2.1 _ q969) (fun _ h => h) (v := .int (st.1 3)) rfl dX7_load_20 ?_
  refine lv_icmp_ge (tgt := 52) X.1 X.2.1 dX7_load_23 (by decide) (fun c6 => ?_) (fun c6 => ?_)
  · replace h := m_ifT c6 h
    cases h
    exact hr H locs ls I (lv_sub hl [1] rfl)
  · replace h := m_ifF c6 h
    refine lv_iload_n X.1 X.2.1 dX7_load_26 rfl (lv_at hl 1 rfl) ?_
    refine lv_aload_n X.1 X.2.1 dX7_load_27 rfl (lv_at hl 0 rfl) ?_
    refine lv_aload_n X.1 X.2.1 dX7_load_28 rfl (lv_at hl 0 rfl) ?_
    refine va_get (D := D) (ci := 7) (C := RX7) (T := TX7) (N := 4) (ref := "SwapPress$Rings") X.1 X.2.1 X.2.2.1 in_X7 X.2.2.2.1 X.2.2.2.2.1 I.1 0 rfl rfl 2 (by decide) (X.2.2.1 _ q967) (fun _ h => h) (v := .ref (d.1 2)) rfl dX7_load_29 ?_
    refine lv_iload_n X.1 X.2.1 dX7_load_32 rfl (lv_at hl 2 rfl) ?_
    obtain ⟨g7, h⟩ := m_gS h
    refine r_iald X I 2 (n := 8) (f := st.2.1 2) rfl g7 dX7_load_33 ?_
    refine lv_aload_n X.1 X.2.1 dX7_load_34 rfl (lv_at hl 0 rfl) ?_
    refine lv_iload_n X.1 X.2.1 dX7_load_35 rfl (lv_at hl 2 rfl) ?_
    obtain ⟨r9, e8, h⟩ := m_bS h
    refine r_callI X hl.1 I hA (C := RX7) (b := d.1 200) (As := [.int v2]) (rest := [.int (st.2.1 2 (v2 : Int32).toNatClampNeg), .ref (d.1 200), .int v1]) (kX7_next l n D d st v2 _ e8) 1 ⟨0, 7, TX7, 4, _, rfl, rfl⟩ q996 q997 q998 q124 q999 hdX7_next rfl rfl ⟨Nat.le_trans (Nat.le_of_ble_eq_true rfl) hR.1, Nat.le_trans (Nat.le_of_ble_eq_true rfl) hR.2⟩ ⟨rfl, rfl⟩ ⟨Nat.zero_le _, Nat.zero_le _⟩ (Nat.le_of_ble_eq_true rfl) dX7_load_36 (fun H locs I => ?_)
    obtain ⟨r11, e10, h⟩ := m_bS h
    refine r_callI X hl.1 I hA (C := RX7) (b := d.1 200) (As := [.int (st.2.1 2 (v2 : Int32).toNatClampNeg), .int r9]) (rest := [.int v1]) (kX7_at l n D d st (st.2.1 2 (v2 : Int32).toNatClampNeg) r9 _ e10) 2 ⟨0, 7, TX7, 4, _, rfl, rfl⟩ q988 q990 qs25 q124 q991 hdX7_at rfl rfl ⟨Nat.le_trans (Nat.le_of_ble_eq_true rfl) hR.1, Nat.le_trans (Nat.le_of_ble_eq_true rfl) hR.2⟩ ⟨rfl, rfl⟩ ⟨Nat.zero_le _, Nat.zero_le _⟩ (Nat.le_of_ble_eq_true rfl) dX7_load_39 (fun H locs I => ?_)
    refine va_mmin X.1 X.2.1 (X.2.2.2.2.2.1.trans hl.1.symm) X.2.2.2.1 (X.2.2.1 _ q1000) (X.2.2.1 _ q401) (X.2.2.1 _ q114) (X.2.2.1 _ q402) (Nat.le_trans (Nat.le_of_ble_eq_true rfl) hR.1) (Nat.le_trans (Nat.le_of_ble_eq_true rfl) hR.2) (Nat.zero_le _) (Nat.zero_le _) dX7_load_42 ?_
    obtain ⟨y12, e13, h⟩ := m_bS h
    rw [m_e1 e13]
    refine lv_istore_n (lv' := [(1, .int y12), (0, .ref (d.1 200)), (2, .int v2)]) X.1 X.2.1 dX7_load_45 rfl hl (by decide) rfl (fun ls hl => ?_)
    refine lv_iinc (v := v2 + 1) (lv' := [(2, .int (v2 + 1)), (1, .int y12), (0, .ref (d.1 200))]) X.1 X.2.1 dX7_load_46 hl (k := 2) rfl rfl (by decide) rfl (fun ls hl => ?_)
    refine lv_goto (tgt := 18) X.1 X.2.1 dX7_load_49 (by decide) ?_
    cases h
    exact hr H locs ls I (lv_sub hl [2, 1, 0] rfl)
theorem wX7_load (X : r_X RX7 D A d p s m c cX7_load 3 args) (hA : ∀ q, s.heap.size ≤ q → A q) (hR : 1 ≤ R.frames ∧ 23 ≤ R.locals) (n : Nat) (st : MS) (r : Int32) (h : fX7_load n st = some r) (hret : ∀ (H : Heap) (locs : List Loc) (ls : Array Slot) (pc : Nat), decode cX7_load pc = .ok (.ireturn, 1) → r_I D A d s.heap st ex H locs → W p l e R s m args below meth c H locs 0 0 Q (F0 m pc ls [.int r])) : ∀ (H : Heap) (locs : List Loc) (ls : Array Slot), r_I D A d s.heap st ex H locs → lv_has ls 3 [(0, .ref (d.1 200))] → W p l e R s m args below meth c H locs 0 0 Q (F0 m 0 ls []) := by
  intro H locs ls I hl
  unfold fX7_load at h
  refine lv_aload_n X.1 X.2.1 dX7_load_0 rfl (lv_at hl 0 rfl) ?_
  refine lv_aload_n X.1 X.2.1 dX7_load_1 rfl (lv_at hl 0 rfl) ?_
  refine va_get (D := D) (ci := 7) (C := RX7) (T := TX7) (N := 4) (ref := "SwapPress$Rings") X.1 X.2.1 X.2.2.1 in_X7 X.2.2.2.1 X.2.2.2.2.1 I.1 0 rfl rfl 2 (by decide) (X.2.2.1 _ q967) (fun _ h => h) (v := .ref (d.1 2)) rfl dX7_load_2 ?_
  refine lv_iconst (v := 0) X.1 X.2.1 dX7_load_5 (by decide) ?_
  obtain ⟨g1, h⟩ := m_gS h
  refine r_iald X I 2 (n := 8) (f := st.2.1 2) rfl g1 dX7_load_6 ?_
  refine lv_aload_n X.1 X.2.1 dX7_load_7 rfl (lv_at hl 0 rfl) ?_
  refine lv_iconst (v := 0) X.1 X.2.1 dX7_load_8 (by decide) ?_
  obtain ⟨r3, e2, h⟩ := m_bS h
  refine r_callI X hl.1 I hA (C := RX7) (b := d.1 200) (As := [.int 0]) (rest := [.int (st.2.1 2 (0 : Int32).toNatClampNeg), .ref (d.1 200)]) (kX7_next l n D d st 0 _ e2) 1 ⟨0, 7, TX7, 4, _, rfl, rfl⟩ q996 q997 q998 q124 q999 hdX7_next rfl rfl ⟨Nat.le_trans (Nat.le_of_ble_eq_true rfl) hR.1, Nat.le_trans (Nat.le_of_ble_eq_true rfl) hR.2⟩ ⟨rfl, rfl⟩ ⟨Nat.zero_le _, Nat.zero_le _⟩ (Nat.le_of_ble_eq_true rfl) dX7_load_9 (fun H locs I => ?_)
  obtain ⟨r5, e4, h⟩ := m_bS h
  refine r_callI X hl.1 I hA (C := RX7) (b := d.1 200) (As := [.int (st.2.1 2 (0 : Int32).toNatClampNeg), .int r3]) (rest := []) (kX7_at l n D d st (st.2.1 2 (0 : Int32).toNatClampNeg) r3 _ e4) 2 ⟨0, 7, TX7, 4, _, rfl, rfl⟩ q988 q990 qs25 q124 q991 hdX7_at rfl rfl ⟨Nat.le_trans (Nat.le_of_ble_eq_true rfl) hR.1, Nat.le_trans (Nat.le_of_ble_eq_true rfl) hR.2⟩ ⟨rfl, rfl⟩ ⟨Nat.zero_le _, Nat.zero_le _⟩ (Nat.le_of_ble_eq_true rfl) dX7_load_12 (fun H locs I => ?_)
  refine lv_istore_n (lv' := [(1, .int r5), (0, .ref (d.1 200))]) X.1 X.2.1 dX7_load_15 rfl hl (by decide) rfl (fun ls hl => ?_)
  refine lv_iconst (v := 1) X.1 X.2.1 dX7_load_16 (by decide) ?_
  refine lv_istore_n (lv' := [(2, .int 1), (1, .int r5), (0, .ref (d.1 200))]) X.1 X.2.1 dX7_load_17 rfl hl (by decide) rfl (fun ls hl => ?_)
  obtain ⟨z15, e14, h⟩ := m_bS h
  refine wfX7_load_L18 X hA hR n st _ _ e14 (fun H locs ls I hl => ?_) H locs ls I (lv_sub hl [2, 1, 0] rfl)
  refine lv_iload_n X.1 X.2.1 dX7_load_52 rfl (lv_at hl 0 rfl) ?_
  obtain rfl := m_e1 h
  exact hret H locs ls 53 dX7_load_53 I
end S_load
theorem kX7_load (l : Launch) (n : Nat) (D : va_G) (d : YD) (st : MS) (r : Int32) (h : fX7_load n st = some r) : r_Mi l yX7_load cX7_load 3 (some .int) ({ frames := 1, cells := 0, slots := 0, locals := 23 } : Room) D d st [.ref (d.1 200)] r st :=
  r_startI (lvl := [(0, .ref (d.1 200))]) (by decide) rfl (Nat.le_of_ble_eq_true rfl) rfl (fun p e s m args below meth c ls X hr hlk hl hA I => wX7_load X hA ⟨Nat.le_refl _, Nat.le_refl _⟩ n st r h (fun H locs ls pc hd I => r_iret X I hr hlk hd) _ _ ls I hl)

/-! method takes()I -/
def fX7_takes_L7 (n : Nat) (v1 : Int32) (v2 : Int32) (st : MS) : Option ((Int32 × MS) ⊕ MS) :=
  m_if ((st.1 3 : Int32) ≤ (v2 : Int32)) (some (.inr st)) (m_g (m_in v2 8) (m_b (fX7_next n st v2) (fun r6 => m_g (m_in ((8 * (st.2.1 2 (v2 : Int32).toNatClampNeg)) + r6) 64) (m_g (m_in ((8 * (st.2.1 2 (v2 : Int32).toNatClampNeg)) + r6) 64) (some (.inl ((v2 + 1, m_sa st 1 ((8 * (st.2.1 2 (v2 : Int32).toNatClampNeg)) + r6 : Int32).toNatClampNeg ((st.2.1 1 ((8 * (st.2.1 2 (v2 : Int32).toNatClampNeg)) + r6 : Int32).toNatClampNeg) - v1)))))))))
def fX7_takes_L7l (n : Nat) (v1 : Int32) (x : (Int32 × MS)) : Option MS := m_lp (fun (x : (Int32 × MS)) => fX7_takes_L7 n v1 x.1 x.2) n x
def fX7_takes (n : Nat) (st : MS) : Option (Int32 × MS) :=
  m_b (fX7_load n st) (fun r2 => m_b (fX7_takes_L7l n r2 ((0, st))) (fun s10 => some (r2 * (s10.1 3), s10)))
theorem hdX7_takes : yX7_takes.cls = RX7 ∧ yX7_takes.cls ≠ "java/lang/invoke/MethodHandle" ∧ yX7_takes.cls ≠ "java/lang/invoke/VarHandle" ∧ (parseMethodDescriptor yX7_takes.desc).map (fun d => d.parameters.length) = some 0 := by decide +kernel
section S_takes
variable {p : Program} {l : Launch} {e : Env} {R : Room} {s : State} {m : MethodId} {args : Array Value} {below : List Frame} {meth : Method} {c : Code} {Q : State → Prop} {D : va_G} {A : Nat → Prop} {d : YD} {ex : va_W}
theorem wfX7_takes_L7 (X : r_X RX7 D A d p s m c cX7_takes 3 args) (hA : ∀ q, s.heap.size ≤ q → A q) (hR : 2 ≤ R.frames ∧ 45 ≤ R.locals) (n : Nat) (v1 : Int32) (x : (Int32 × MS)) (z : MS) (hz : fX7_takes_L7l n v1 x = some z) (hE : (fun (z : MS) => ∀ (H : Heap) (locs : List Loc) (ls : Array Slot), r_I D A d s.heap z ex H locs → lv_has ls 3 [(0, .ref (d.1 200)), (1, .int v1)] → W p l e R s m args below meth c H locs 0 0 Q (F0 m 45 ls [])) z) : (fun (x : (Int32 × MS)) => ∀ (H : Heap) (locs : List Loc) (ls : Array Slot), r_I D A d s.heap x.2 ex H locs → lv_has ls 3 [(0, .ref (d.1 200)), (1, .int v1), (2, .int x.1)] → W p l e R s m args below meth c H locs 0 0 Q (F0 m 7 ls [])) x := by
  refine m_lpW (G := fun (x : (Int32 × MS)) => ∀ (H : Heap) (locs : List Loc) (ls : Array Slot), r_I D A d s.heap x.2 ex H locs → lv_has ls 3 [(0, .ref (d.1 200)), (1, .int v1), (2, .int x.1)] → W p l e R s m args below meth c H locs 0 0 Q (F0 m 7 ls [])) (E := fun (z : MS) => ∀ (H : Heap) (locs : List Loc) (ls : Array Slot), r_I D A d s.heap z ex H locs → lv_has ls 3 [(0, .ref (d.1 200)), (1, .int v1)] → W p l e R s m args below meth c H locs 0 0 Q (F0 m 45 ls [])) ?_ n x z hz hE
  rintro ⟨v2, st⟩ r h hr H locs ls I hl
  replace h : fX7_takes_L7 n v1 v2 st = some r := h
  unfold fX7_takes_L7 at h
  refine lv_iload_n X.1 X.2.1 dX7_takes_7 rfl (lv_at hl 2 rfl) ?_
  refine lv_aload_n X.1 X.2.1 dX7_takes_8 rfl (lv_at hl 0 rfl) ?_
  refine va_get (D := D) (ci := 7) (C := RX7) (T := TX7) (N := 4) (ref := "SwapPress$Rings") X.1 X.2.1 X.2.2.1 in_X7 X.2.2.2.1 X.2.2.2.2.1 I.1 0 rfl rfl 3 (by decide) (X.2.2.1 _ q969) (fun _ h => h) (v := .int (st.1 3)) rfl dX7_takes_9 ?_
  refine lv_icmp_ge (tgt := 45) X.1 X.2.1 dX7_takes_12 (by decide) (fun c3 => ?_) (fun c3 => ?_)
  · replace h := m_ifT c3 h
    cases h
    exact hr H locs ls I (lv_sub hl [0, 1] rfl)
  · replace h := m_ifF c3 h
    refine lv_aload_n X.1 X.2.1 dX7_takes_15 rfl (lv_at hl 0 rfl) ?_
    refine va_get (D := D) (ci := 7) (C := RX7) (T := TX7) (N := 4) (ref := "SwapPress$Rings") X.1 X.2.1 X.2.2.1 in_X7 X.2.2.2.1 X.2.2.2.2.1 I.1 0 rfl rfl 1 (by decide) (X.2.2.1 _ q966) (fun _ h => h) (v := .ref (d.1 1)) rfl dX7_takes_16 ?_
    refine lv_bipush (v := 8) X.1 X.2.1 dX7_takes_19 (by decide) ?_
    refine lv_aload_n X.1 X.2.1 dX7_takes_21 rfl (lv_at hl 0 rfl) ?_
    refine va_get (D := D) (ci := 7) (C := RX7) (T := TX7) (N := 4) (ref := "SwapPress$Rings") X.1 X.2.1 X.2.2.1 in_X7 X.2.2.2.1 X.2.2.2.2.1 I.1 0 rfl rfl 2 (by decide) (X.2.2.1 _ q967) (fun _ h => h) (v := .ref (d.1 2)) rfl dX7_takes_22 ?_
    refine lv_iload_n X.1 X.2.1 dX7_takes_25 rfl (lv_at hl 2 rfl) ?_
    obtain ⟨g4, h⟩ := m_gS h
    refine r_iald X I 2 (n := 8) (f := st.2.1 2) rfl g4 dX7_takes_26 ?_
    refine lv_imul X.1 X.2.1 dX7_takes_27 ?_
    refine lv_aload_n X.1 X.2.1 dX7_takes_28 rfl (lv_at hl 0 rfl) ?_
    refine lv_iload_n X.1 X.2.1 dX7_takes_29 rfl (lv_at hl 2 rfl) ?_
    obtain ⟨r6, e5, h⟩ := m_bS h
    refine r_callI X hl.1 I hA (C := RX7) (b := d.1 200) (As := [.int v2]) (rest := [.int (8 * (st.2.1 2 (v2 : Int32).toNatClampNeg)), .ref (d.1 1)]) (kX7_next l n D d st v2 _ e5) 1 ⟨0, 7, TX7, 4, _, rfl, rfl⟩ q996 q997 q998 q124 q999 hdX7_next rfl rfl ⟨Nat.le_trans (Nat.le_of_ble_eq_true rfl) hR.1, Nat.le_trans (Nat.le_of_ble_eq_true rfl) hR.2⟩ ⟨rfl, rfl⟩ ⟨Nat.zero_le _, Nat.zero_le _⟩ (Nat.le_of_ble_eq_true rfl) dX7_takes_30 (fun H locs I => ?_)
    refine lv_iadd X.1 X.2.1 dX7_takes_33 ?_
    refine lv_dup2_11 X.1 X.2.1 dX7_takes_34 rfl rfl ?_
    obtain ⟨g7, h⟩ := m_gS h
    refine r_iald X I 1 (n := 64) (f := st.2.1 1) rfl g7 dX7_takes_35 ?_
    refine lv_iload_n X.1 X.2.1 dX7_takes_36 rfl (lv_at hl 1 rfl) ?_
    refine lv_isub X.1 X.2.1 dX7_takes_37 ?_
    obtain ⟨g8, h⟩ := m_gS h
    refine r_iast X I 1 (n := 64) (f := st.2.1 1) rfl (r_st1 d _ _ _ _) g8 dX7_takes_38 (fun H locs I => ?_)
    refine lv_iinc (v := v2 + 1) (lv' := [(2, .int (v2 + 1)), (0, .ref (d.1 200)), (1, .int v1)]) X.1 X.2.1 dX7_takes_39 hl (k := 2) rfl rfl (by decide) rfl (fun ls hl => ?_)
    refine lv_goto (tgt := 7) X.1 X.2.1 dX7_takes_42 (by decide) ?_
    cases h
    exact hr H locs ls I (lv_sub hl [1, 2, 0] rfl)
theorem wX7_takes (X : r_X RX7 D A d p s m c cX7_takes 3 args) (hA : ∀ q, s.heap.size ≤ q → A q) (hR : 2 ≤ R.frames ∧ 45 ≤ R.locals) (n : Nat) (st : MS) (r : (Int32 × MS)) (h : fX7_takes n st = some r) (hret : ∀ (H : Heap) (locs : List Loc) (ls : Array Slot) (pc : Nat), decode cX7_takes pc = .ok (.ireturn, 1) → r_I D A d s.heap r.2 ex H locs → W p l e R s m args below meth c H locs 0 0 Q (F0 m pc ls [.int r.1])) : ∀ (H : Heap) (locs : List Loc) (ls : Array Slot), r_I D A d s.heap st ex H locs → lv_has ls 3 [(0, .ref (d.1 200))] → W p l e R s m args below meth c H locs 0 0 Q (F0 m 0 ls []) := by
  obtain ⟨r0, s0⟩ := r
  intro H locs ls I hl
  unfold fX7_takes at h
  refine lv_aload_n X.1 X.2.1 dX7_takes_0 rfl (lv_at hl 0 rfl) ?_
  obtain ⟨r2, e1, h⟩ := m_bS h
  refine r_callI X hl.1 I hA (C := RX7) (b := d.1 200) (As := []) (rest := []) (kX7_load l n D d st  _ e1) 0 ⟨0, 7, TX7, 4, _, rfl, rfl⟩ q1240 q993 q994 q124 q995 hdX7_load rfl rfl ⟨Nat.le_trans (Nat.le_of_ble_eq_true rfl) hR.1, Nat.le_trans (Nat.le_of_ble_eq_true rfl) hR.2⟩ ⟨rfl, rfl⟩ ⟨Nat.zero_le _, Nat.zero_le _⟩ (Nat.le_of_ble_eq_true rfl) dX7_takes_1 (fun H locs I => ?_)
  refine lv_istore_n (lv' := [(1, .int r2), (0, .ref (d.1 200))]) X.1 X.2.1 dX7_takes_4 rfl hl (by decide) rfl (fun ls hl => ?_)
  refine lv_iconst (v := 0) X.1 X.2.1 dX7_takes_5 (by decide) ?_
  refine lv_istore_n (lv' := [(2, .int 0), (1, .int r2), (0, .ref (d.1 200))]) X.1 X.2.1 dX7_takes_6 rfl hl (by decide) rfl (fun ls hl => ?_)
  obtain ⟨s10, e9, h⟩ := m_bS h
  refine wfX7_takes_L7 X hA hR n r2 _ _ e9 (fun H locs ls I hl => ?_) H locs ls I (lv_sub hl [2, 1, 0] rfl)
  refine lv_iload_n X.1 X.2.1 dX7_takes_45 rfl (lv_at hl 1 rfl) ?_
  refine lv_aload_n X.1 X.2.1 dX7_takes_46 rfl (lv_at hl 0 rfl) ?_
  refine va_get (D := D) (ci := 7) (C := RX7) (T := TX7) (N := 4) (ref := "SwapPress$Rings") X.1 X.2.1 X.2.2.1 in_X7 X.2.2.2.1 X.2.2.2.2.1 I.1 0 rfl rfl 3 (by decide) (X.2.2.1 _ q969) (fun _ h => h) (v := .int (s10.1 3)) rfl dX7_takes_47 ?_
  refine lv_imul X.1 X.2.1 dX7_takes_50 ?_
  obtain ⟨rfl, rfl⟩ := m_e2 h
  exact hret H locs ls 51 dX7_takes_51 I
end S_takes
theorem kX7_takes (l : Launch) (n : Nat) (D : va_G) (d : YD) (st : MS) (r : Int32) (st' : MS) (h : fX7_takes n st = some (r, st')) : r_Mi l yX7_takes cX7_takes 3 (some .int) ({ frames := 2, cells := 0, slots := 0, locals := 45 } : Room) D d st [.ref (d.1 200)] r st' :=
  r_startI (lvl := [(0, .ref (d.1 200))]) (by decide) rfl (Nat.le_of_ble_eq_true rfl) rfl (fun p e s m args below meth c ls X hr hlk hl hA I => wX7_takes X hA ⟨Nat.le_refl _, Nat.le_refl _⟩ n st (r, st') h (fun H locs ls pc hd I => r_iret X I hr hlk hd) _ _ ls I hl)

/-! method finds()Z -/
def fX7_finds_L18 (n : Nat) (v1 : Int32) (st : MS) : Option ((Int32 × MS) ⊕ (MS ⊕ MS)) :=
  m_if ((st.1 0 : Int32) ≤ (v1 : Int32)) (some (.inr (.inr st))) (m_g (m_in 0 8) (m_b2 (fX7_goesOn n (m_sa st 2 (0 : Int32).toNatClampNeg v1) 1 (1 <<< (v1 &&& 31))) (fun r5 s6 => m_if ((r5 : Int32) = 0) (some (.inl ((v1 + 1, s6)))) (some (.inr (.inl s6))))))
def fX7_finds_L18l (n : Nat) (x : (Int32 × MS)) : Option (MS ⊕ MS) := m_lp (fun (x : (Int32 × MS)) => fX7_finds_L18 n x.1 x.2) n x
def fX7_finds_L5 (n : Nat) (st : MS) : Option (MS ⊕ (MS ⊕ MS)) :=
  m_if ((st.1 0 : Int32) < (st.1 3 : Int32)) (some (.inr (.inr st))) (m_b (fX7_finds_L18l n ((0, st))) (fun y11 => m_s y11 (fun s9 => some (.inr (.inl s9))) (fun s10 => some (.inl (m_sg s10 3 ((s10.1 3) + 1))))))
def fX7_finds_L5l (n : Nat) (x : MS) : Option (MS ⊕ MS) := m_lp (fun (x : MS) => fX7_finds_L5 n x) n x
def fX7_finds (n : Nat) (st : MS) : Option (Int32 × MS) :=
  m_b (fX7_finds_L5l n (m_sg st 3 2)) (fun y17 => m_s y17 (fun s13 => m_g (m_01 1) (some (1, s13))) (fun s15 => m_g (m_01 0) (some (0, m_sg s15 3 0))))
theorem hdX7_finds : yX7_finds.cls = RX7 ∧ yX7_finds.cls ≠ "java/lang/invoke/MethodHandle" ∧ yX7_finds.cls ≠ "java/lang/invoke/VarHandle" ∧ (parseMethodDescriptor yX7_finds.desc).map (fun d => d.parameters.length) = some 0 := by decide +kernel
section S_finds
variable {p : Program} {l : Launch} {e : Env} {R : Room} {s : State} {m : MethodId} {args : Array Value} {below : List Frame} {meth : Method} {c : Code} {Q : State → Prop} {D : va_G} {A : Nat → Prop} {d : YD} {ex : va_W}
theorem wfX7_finds_L18 (X : r_X RX7 D A d p s m c cX7_finds 2 args) (hA : ∀ q, s.heap.size ≤ q → A q) (hR : 11 ≤ R.frames ∧ 252 ≤ R.locals) (n : Nat)  (x : (Int32 × MS)) (z : (MS ⊕ MS)) (hz : fX7_finds_L18l n x = some z) (hE : (m_e (fun (z : MS) => ∀ (H : Heap) (locs : List Loc) (ls : Array Slot), r_I D A d s.heap z ex H locs → lv_has ls 2 [] → W p l e R s m args below meth c H locs 0 0 Q (F0 m 44 ls [])) (fun (z : MS) => ∀ (H : Heap) (locs : List Loc) (ls : Array Slot), r_I D A d s.heap z ex H locs → lv_has ls 2 [(0, .ref (d.1 200))] → W p l e R s m args below meth c H locs 0 0 Q (F0 m 52 ls []))) z) : (fun (x : (Int32 × MS)) => ∀ (H : Heap) (locs : List Loc) (ls : Array Slot), r_I D A d s.heap x.2 ex H locs → lv_has ls 2 [(0, .ref (d.1 200)), (1, .int x.1)] → W p l e R s m args below meth c H locs 0 0 Q (F0 m 18 ls [])) x := by
  refine m_lpW (G := fun (x : (Int32 × MS)) => ∀ (H : Heap) (locs : List Loc) (ls : Array Slot), r_I D A d s.heap x.2 ex H locs → lv_has ls 2 [(0, .ref (d.1 200)), (1, .int x.1)] → W p l e R s m args below meth c H locs 0 0 Q (F0 m 18 ls [])) (E := m_e (fun (z : MS) => ∀ (H : Heap) (locs : List Loc) (ls : Array Slot), r_I D A d s.heap z ex H locs → lv_has ls 2 [] → W p l e R s m args below meth c H locs 0 0 Q (F0 m 44 ls [])) (fun (z : MS) => ∀ (H : Heap) (locs : List Loc) (ls : Array Slot), r_I D A d s.heap z ex H locs → lv_has ls 2 [(0, .ref (d.1 200))] → W p l e R s m args below meth c H locs 0 0 Q (F0 m 52 ls []))) ?_ n x z hz hE
  rintro ⟨v1, st⟩ r h hr H locs ls I hl
  replace h : fX7_finds_L18 n v1 st = some r := h
  unfold fX7_finds_L18 at h
  refine lv_iload_n X.1 X.2.1 dX7_finds_18 rfl (lv_at hl 1 rfl) ?_
  refine lv_aload_n X.1 X.2.1 dX7_finds_19 rfl (lv_at hl 0 rfl) ?_
  refine va_get (D := D) (ci := 7) (C := RX7) (T := TX7) (N := 4) (ref := "SwapPress$Rings") X.1 X.2.1 X.2.2.1 in_X7 X.2.2.2.1 X.2.2.2.2.1 I.1 0 rfl rfl 0 (by decide) (X.2.2.1 _ q965) (fun _ h => h) (v := .int (st.1 0)) rfl dX7_finds_20 ?_
  refine lv_icmp_ge (tgt := 52) X.1 X.2.1 dX7_finds_23 (by decide) (fun c2 => ?_) (fun c2 => ?_)
  · replace h := m_ifT c2 h
    cases h
    exact hr H locs ls I (lv_sub hl [0] rfl)
  · replace h := m_ifF c2 h
    refine lv_aload_n X.1 X.2.1 dX7_finds_26 rfl (lv_at hl 0 rfl) ?_
    refine va_get (D := D) (ci := 7) (C := RX7) (T := TX7) (N := 4) (ref := "SwapPress$Rings") X.1 X.2.1 X.2.2.1 in_X7 X.2.2.2.1 X.2.2.2.2.1 I.1 0 rfl rfl 2 (by decide) (X.2.2.1 _ q967) (fun _ h => h) (v := .ref (d.1 2)) rfl dX7_finds_27 ?_
    refine lv_iconst (v := 0) X.1 X.2.1 dX7_finds_30 (by decide) ?_
    refine lv_iload_n X.1 X.2.1 dX7_finds_31 rfl (lv_at hl 1 rfl) ?_
    obtain ⟨g3, h⟩ := m_gS h
    refine r_iast X I 2 (n := 8) (f := st.2.1 2) rfl (r_st2 d _ _ _ _) g3 dX7_finds_32 (fun H locs I => ?_)
    refine lv_aload_n X.1 X.2.1 dX7_finds_33 rfl (lv_at hl 0 rfl) ?_
    refine lv_iconst (v := 1) X.1 X.2.1 dX7_finds_34 (by decide) ?_
    refine lv_iconst (v := 1) X.1 X.2.1 dX7_finds_35 (by decide) ?_
    refine lv_iload_n X.1 X.2.1 dX7_finds_36 rfl (lv_at hl 1 rfl) ?_
    refine lv_ishl X.1 X.2.1 dX7_finds_37 ?_
    obtain ⟨r5, s6, e4, h⟩ := m_b2S h
    refine r_callI X hl.1 I hA (C := RX7) (b := d.1 200) (As := [.int 1, .int (1 <<< (v1 &&& 31))]) (rest := []) (kX7_goesOn l n D d (m_sa st 2 (0 : Int32).toNatClampNeg v1) 1 (1 <<< (v1 &&& 31)) _ _ e4) 2 ⟨0, 7, TX7, 4, _, rfl, rfl⟩ q984 q986 qs24 q124 q987 hdX7_goesOn rfl rfl ⟨Nat.le_trans (Nat.le_of_ble_eq_true rfl) hR.1, Nat.le_trans (Nat.le_of_ble_eq_true rfl) hR.2⟩ ⟨rfl, rfl⟩ ⟨Nat.zero_le _, Nat.zero_le _⟩ (Nat.le_of_ble_eq_true rfl) dX7_finds_38 (fun H locs I => ?_)
    refine lv_if_eq (tgt := 46) X.1 X.2.1 dX7_finds_41 (by decide) (fun c7 => ?_) (fun c7 => ?_)
    · replace h := m_ifT c7 h
      refine lv_iinc (v := v1 + 1) (lv' := [(1, .int (v1 + 1)), (0, .ref (d.1 200))]) X.1 X.2.1 dX7_finds_46 hl (k := 1) rfl rfl (by decide) rfl (fun ls hl => ?_)
      refine lv_goto (tgt := 18) X.1 X.2.1 dX7_finds_49 (by decide) ?_
      cases h
      exact hr H locs ls I (lv_sub hl [1, 0] rfl)
    · replace h := m_ifF c7 h
      cases h
      exact hr H locs ls I (lv_sub hl [] rfl)
theorem wfX7_finds_L5 (X : r_X RX7 D A d p s m c cX7_finds 2 args) (hA : ∀ q, s.heap.size ≤ q → A q) (hR : 11 ≤ R.frames ∧ 252 ≤ R.locals) (n : Nat)  (x : MS) (z : (MS ⊕ MS)) (hz : fX7_finds_L5l n x = some z) (hE : (m_e (fun (z : MS) => ∀ (H : Heap) (locs : List Loc) (ls : Array Slot), r_I D A d s.heap z ex H locs → lv_has ls 2 [] → W p l e R s m args below meth c H locs 0 0 Q (F0 m 44 ls [])) (fun (z : MS) => ∀ (H : Heap) (locs : List Loc) (ls : Array Slot), r_I D A d s.heap z ex H locs → lv_has ls 2 [(0, .ref (d.1 200))] → W p l e R s m args below meth c H locs 0 0 Q (F0 m 65 ls []))) z) : (fun (x : MS) => ∀ (H : Heap) (locs : List Loc) (ls : Array Slot), r_I D A d s.heap x ex H locs → lv_has ls 2 [(0, .ref (d.1 200))] → W p l e R s m args below meth c H locs 0 0 Q (F0 m 5 ls [])) x := by
  refine m_lpW (G := fun (x : MS) => ∀ (H : Heap) (locs : List Loc) (ls : Array Slot), r_I D A d s.heap x ex H locs → lv_has ls 2 [(0, .ref (d.1 200))] → W p l e R s m args below meth c H locs 0 0 Q (F0 m 5 ls [])) (E := m_e (fun (z : MS) => ∀ (H : Heap) (locs : List Loc) (ls : Array Slot), r_I D A d s.heap z ex H locs → lv_has ls 2 [] → W p l e R s m args below meth c H locs 0 0 Q (F0 m 44 ls [])) (fun (z : MS) => ∀ (H : Heap) (locs : List Loc) (ls : Array Slot), r_I D A d s.heap z ex H locs → lv_has ls 2 [(0, .ref (d.1 200))] → W p l e R s m args below meth c H locs 0 0 Q (F0 m 65 ls []))) ?_ n x z hz hE
  rintro st r h hr H locs ls I hl
  replace h : fX7_finds_L5 n st = some r := h
  unfold fX7_finds_L5 at h
  refine lv_aload_n X.1 X.2.1 dX7_finds_5 rfl (lv_at hl 0 rfl) ?_
  refine va_get (D := D) (ci := 7) (C := RX7) (T := TX7) (N := 4) (ref := "SwapPress$Rings") X.1 X.2.1 X.2.2.1 in_X7 X.2.2.2.1 X.2.2.2.2.1 I.1 0 rfl rfl 3 (by decide) (X.2.2.1 _ q969) (fun _ h => h) (v := .int (st.1 3)) rfl dX7_finds_6 ?_
  refine lv_aload_n X.1 X.2.1 dX7_finds_9 rfl (lv_at hl 0 rfl) ?_
  refine va_get (D := D) (ci := 7) (C := RX7) (T := TX7) (N := 4) (ref := "SwapPress$Rings") X.1 X.2.1 X.2.2.1 in_X7 X.2.2.2.1 X.2.2.2.2.1 I.1 0 rfl rfl 0 (by decide) (X.2.2.1 _ q965) (fun _ h => h) (v := .int (st.1 0)) rfl dX7_finds_10 ?_
  refine lv_icmp_gt (tgt := 65) X.1 X.2.1 dX7_finds_13 (by decide) (fun c1 => ?_) (fun c1 => ?_)
  · replace h := m_ifT c1 h
    cases h
    exact hr H locs ls I (lv_sub hl [0] rfl)
  · replace h := m_ifF c1 h
    refine lv_iconst (v := 0) X.1 X.2.1 dX7_finds_16 (by decide) ?_
    refine lv_istore_n (lv' := [(1, .int 0), (0, .ref (d.1 200))]) X.1 X.2.1 dX7_finds_17 rfl hl (by decide) rfl (fun ls hl => ?_)
    obtain ⟨s9 | s10, e8, h⟩ := m_bS h
    · replace h := m_sL h
      refine wfX7_finds_L18 X hA hR n  _ _ e8 (fun H locs ls I hl => ?_) H locs ls I (lv_sub hl [1, 0] rfl)
      cases h
      exact hr H locs ls I (lv_sub hl [] rfl)
    · replace h := m_sR h
      refine wfX7_finds_L18 X hA hR n  _ _ e8 (fun H locs ls I hl => ?_) H locs ls I (lv_sub hl [1, 0] rfl)
      refine lv_aload_n X.1 X.2.1 dX7_finds_52 rfl (lv_at hl 0 rfl) ?_
      refine lv_dup X.1 X.2.1 dX7_finds_53 rfl ?_
      refine va_get (D := D) (ci := 7) (C := RX7) (T := TX7) (N := 4) (ref := "SwapPress$Rings") X.1 X.2.1 X.2.2.1 in_X7 X.2.2.2.1 X.2.2.2.2.1 I.1 0 rfl rfl 3 (by decide) (X.2.2.1 _ q969) (fun _ h => h) (v := .int (s10.1 3)) rfl dX7_finds_54 ?_
      refine lv_iconst (v := 1) X.1 X.2.1 dX7_finds_57 (by decide) ?_
      refine lv_iadd X.1 X.2.1 dX7_finds_58 ?_
      refine r_put X I 0 7 3 (C := RX7) (T := TX7) (N := 4) (ref := "SwapPress$Rings") in_X7 tyX7 tyX7_ok nmX7 rfl rfl (by decide) rfl rfl rfl q969 rfl (show 3 < 4 by decide) (r_set3 d _ _ _) dX7_finds_59 (fun H locs I => ?_)
      refine lv_goto (tgt := 5) X.1 X.2.1 dX7_finds_62 (by decide) ?_
      cases h
      exact hr H locs ls I (lv_sub hl [0] rfl)
theorem wX7_finds (X : r_X RX7 D A d p s m c cX7_finds 2 args) (hA : ∀ q, s.heap.size ≤ q → A q) (hR : 11 ≤ R.frames ∧ 252 ≤ R.locals) (n : Nat) (st : MS) (r : (Int32 × MS)) (h : fX7_finds n st = some r) (hret : ∀ (H : Heap) (locs : List Loc) (ls : Array Slot) (pc : Nat), m_01 r.1 = true → decode cX7_finds pc = .ok (.ireturn, 1) → r_I D A d s.heap r.2 ex H locs → W p l e R s m args below meth c H locs 0 0 Q (F0 m pc ls [.int r.1])) : ∀ (H : Heap) (locs : List Loc) (ls : Array Slot), r_I D A d s.heap st ex H locs → lv_has ls 2 [(0, .ref (d.1 200))] → W p l e R s m args below meth c H locs 0 0 Q (F0 m 0 ls []) := by
  obtain ⟨r0, s0⟩ := r
  intro H locs ls I hl
  unfold fX7_finds at h
  refine lv_aload_n X.1 X.2.1 dX7_finds_0 rfl (lv_at hl 0 rfl) ?_
  refine lv_iconst (v := 2) X.1 X.2.1 dX7_finds_1 (by decide) ?_
  refine r_put X I 0 7 3 (C := RX7) (T := TX7) (N := 4) (ref := "SwapPress$Rings") in_X7 tyX7 tyX7_ok nmX7 rfl rfl (by decide) rfl rfl rfl q969 rfl (show 3 < 4 by decide) (r_set3 d _ _ _) dX7_finds_2 (fun H locs I => ?_)
  obtain ⟨s13 | s15, e12, h⟩ := m_bS h
  · replace h := m_sL h
    refine wfX7_finds_L5 X hA hR n  _ _ e12 (fun H locs ls I hl => ?_) H locs ls I (lv_sub hl [0] rfl)
    refine lv_iconst (v := 1) X.1 X.2.1 dX7_finds_44 (by decide) ?_
    obtain ⟨g14, h⟩ := m_gS h
    obtain ⟨rfl, rfl⟩ := m_e2 h
    exact hret H locs ls 45 g14 dX7_finds_45 I
  · replace h := m_sR h
    refine wfX7_finds_L5 X hA hR n  _ _ e12 (fun H locs ls I hl => ?_) H locs ls I (lv_sub hl [0] rfl)
    refine lv_aload_n X.1 X.2.1 dX7_finds_65 rfl (lv_at hl 0 rfl) ?_
    refine lv_iconst (v := 0) X.1 X.2.1 dX7_finds_66 (by decide) ?_
    refine r_put X I 0 7 3 (C := RX7) (T := TX7) (N := 4) (ref := "SwapPress$Rings") in_X7 tyX7 tyX7_ok nmX7 rfl rfl (by decide) rfl rfl rfl q969 rfl (show 3 < 4 by decide) (r_set3 d _ _ _) dX7_finds_67 (fun H locs I => ?_)
    refine lv_iconst (v := 0) X.1 X.2.1 dX7_finds_70 (by decide) ?_
    obtain ⟨g16, h⟩ := m_gS h
    obtain ⟨rfl, rfl⟩ := m_e2 h
    exact hret H locs ls 71 g16 dX7_finds_71 I
end S_finds
theorem kX7_finds (l : Launch) (n : Nat) (D : va_G) (d : YD) (st : MS) (r : Int32) (st' : MS) (h : fX7_finds n st = some (r, st')) : r_Mi l yX7_finds cX7_finds 2 (some .boolean) ({ frames := 11, cells := 0, slots := 0, locals := 252 } : Room) D d st [.ref (d.1 200)] r st' :=
  r_startI (lvl := [(0, .ref (d.1 200))]) (by decide) rfl (Nat.le_of_ble_eq_true rfl) rfl (fun p e s m args below meth c ls X hr hlk hl hA I => wX7_finds X hA ⟨Nat.le_refl _, Nat.le_refl _⟩ n st (r, st') h (fun H locs ls pc g hd I => r_zret X I hr hlk g hd) _ _ ls I hl)
