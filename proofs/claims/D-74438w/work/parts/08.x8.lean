set_option maxRecDepth 100000
set_option maxHeartbeats 4000000
/-! method goes(II)Z -/
def fX8_goes_L2 (n : Nat) (v1 : Int32) (v2 : Int32) (v3 : Int32) (st : MS) : Option ((Int32 × MS) ⊕ MS) :=
  m_if ((64 : Int32) ≤ (v3 : Int32)) (some (.inr st)) (m_g (m_in v3 64) (some (.inl ((v3 + 1, m_sb st 3 (v3 : Int32).toNatClampNeg 100000000)))))
def fX8_goes_L2l (n : Nat) (v1 : Int32) (v2 : Int32) (x : (Int32 × MS)) : Option MS := m_lp (fun (x : (Int32 × MS)) => fX8_goes_L2 n v1 v2 x.1 x.2) n x
def fX8_goes_J42 (n : Nat) (st : MS) : Option (Int32 × MS) :=
  m_b2 (fX2_goes n st (st.1 0)) (fun r7 s8 => m_g (m_01 r7) (some (r7, s8)))
def fX8_goes (n : Nat) (st : MS) (p0 : Int32) (p1 : Int32) : Option (Int32 × MS) :=
  m_b (fX8_goes_L2l n p0 p1 ((0, st))) (fun s4 => m_if ((p0 : Int32) = ((-1) : Int32)) (fX8_goes_J42 n s4) (m_g (m_in p0 64) (m_g (m_in p0 64) (fX8_goes_J42 n (m_sb s4 3 (p0 : Int32).toNatClampNeg ((s4.2.2 3 (p0 : Int32).toNatClampNeg) + p1.toInt64))))))
theorem hdX8_goes : yX8_goes.cls = RX8 ∧ yX8_goes.cls ≠ "java/lang/invoke/MethodHandle" ∧ yX8_goes.cls ≠ "java/lang/invoke/VarHandle" ∧ (parseMethodDescriptor yX8_goes.desc).map (fun d => d.parameters.length) = some 2 := by decide +kernel
section S_goes
variable {p : Program} {l : Launch} {e : Env} {R : Room} {s : State} {m : MethodId} {args : Array Value} {below : List Frame} {meth : Method} {c : Code} {Q : State → Prop} {D : va_G} {A : Nat → Prop} {d : YD} {ex : va_W}
theorem wfX8_goes_L2 (X : y_X RX8 D A d p s m c cX8_goes 4 args) (hA : ∀ q, s.heap.size ≤ q → A q) (hR : 3 ≤ R.frames ∧ 76 ≤ R.locals) (n : Nat) (v1 : Int32) (v2 : Int32) (x : (Int32 × MS)) (z : MS) (hz : fX8_goes_L2l n v1 v2 x = some z) (hE : (fun (z : MS) => ∀ (H : Heap) (locs : List Loc) (ls : Array Slot), y_I D A d s.heap z ex H locs → lv_has ls 4 [(0, .ref (d.1 200)), (1, .int v1), (2, .int v2)] → W p l e R s m args below meth c H locs 0 0 Q (F0 m 26 ls [])) z) : (fun (x : (Int32 × MS)) => ∀ (H : Heap) (locs : List Loc) (ls : Array Slot), y_I D A d s.heap x.2 ex H locs → lv_has ls 4 [(0, .ref (d.1 200)), (1, .int v1), (2, .int v2), (3, .int x.1)] → W p l e R s m args below meth c H locs 0 0 Q (F0 m 2 ls [])) x := by
  refine m_lpW (G := fun (x : (Int32 × MS)) => ∀ (H : Heap) (locs : List Loc) (ls : Array Slot), y_I D A d s.heap x.2 ex H locs → lv_has ls 4 [(0, .ref (d.1 200)), (1, .int v1), (2, .int v2), (3, .int x.1)] → W p l e R s m args below meth c H locs 0 0 Q (F0 m 2 ls [])) (E := fun (z : MS) => ∀ (H : Heap) (locs : List Loc) (ls : Array Slot), y_I D A d s.heap z ex H locs → lv_has ls 4 [(0, .ref (d.1 200)), (1, .int v1), (2, .int v2)] → W p l e R s m args below meth c H locs 0 0 Q (F0 m 26 ls [])) ?_ n x z hz hE
  rintro ⟨v3, st⟩ r h hr H locs ls I hl
  replace h : fX8_goes_L2 n v1 v2 v3 st = some r := h
  unfold fX8_goes_L2 at h
  refine lv_iload_n X.1 X.2.1 dX8_goes_2 rfl (lv_at hl 3 rfl) ?_
  refine lv_aload_n X.1 X.2.1 dX8_goes_3 rfl (lv_at hl 0 rfl) ?_
  refine va_get (D := D) (ci := 8) (C := RX8) (T := TX8) (N := 6) (ref := "SwapPress$Press") X.1 X.2.1 X.2.2.1 in_X8 X.2.2.2.1 X.2.2.2.2.1 I.1 0 rfl rfl 3 (by decide) (X.2.2.1 _ q1100) (fun _ h => h) (v := .ref (d.1 3)) rfl dX8_goes_4 ?_
  refine va_alen (v := 64) X.1 X.2.1 X.2.2.2.2.1 I.1 3 1 rfl rfl rfl dX8_goes_7 ?_
  refine lv_icmp_ge (tgt := 26) X.1 X.2.1 dX8_goes_8 (by decide) (fun c1 => ?_) (fun c1 => ?_)
  · replace h := m_ifT c1 h
    cases h
    exact hr H locs ls I (lv_sub hl [0, 1, 2] rfl)
  · replace h := m_ifF c1 h
    refine lv_aload_n X.1 X.2.1 dX8_goes_11 rfl (lv_at hl 0 rfl) ?_
    refine va_get (D := D) (ci := 8) (C := RX8) (T := TX8) (N := 6) (ref := "SwapPress$Press") X.1 X.2.1 X.2.2.1 in_X8 X.2.2.2.1 X.2.2.2.2.1 I.1 0 rfl rfl 3 (by decide) (X.2.2.1 _ q1100) (fun _ h => h) (v := .ref (d.1 3)) rfl dX8_goes_12 ?_
    refine lv_iload_n X.1 X.2.1 dX8_goes_15 rfl (lv_at hl 3 rfl) ?_
    refine lv_ldc2 (v := 100000000) X.1 X.2.1 X.2.2.2.1 (X.2.2.1 _ q1124) dX8_goes_16 ?_
    obtain ⟨g2, h⟩ := m_gS h
    refine y_last X I 3 (n := 64) (f := st.2.2 3) rfl (y_st3 d _ _ _ _) g2 dX8_goes_19 (fun H locs I => ?_)
    refine lv_iinc (v := v3 + 1) (lv' := [(3, .int (v3 + 1)), (0, .ref (d.1 200)), (1, .int v1), (2, .int v2)]) X.1 X.2.1 dX8_goes_20 hl (k := 3) rfl rfl (by decide) rfl (fun ls hl => ?_)
    refine lv_goto (tgt := 2) X.1 X.2.1 dX8_goes_23 (by decide) ?_
    cases h
    exact hr H locs ls I (lv_sub hl [1, 2, 3, 0] rfl)
theorem wX8_goes (X : y_X RX8 D A d p s m c cX8_goes 4 args) (hA : ∀ q, s.heap.size ≤ q → A q) (hR : 3 ≤ R.frames ∧ 76 ≤ R.locals) (n : Nat) (st : MS) (p0 : Int32) (p1 : Int32) (r : (Int32 × MS)) (h : fX8_goes n st p0 p1 = some r) (hret : ∀ (H : Heap) (locs : List Loc) (ls : Array Slot) (pc : Nat), m_01 r.1 = true → decode cX8_goes pc = .ok (.ireturn, 1) → y_I D A d s.heap r.2 ex H locs → W p l e R s m args below meth c H locs 0 0 Q (F0 m pc ls [.int r.1])) : ∀ (H : Heap) (locs : List Loc) (ls : Array Slot), y_I D A d s.heap st ex H locs → lv_has ls 4 [(0, .ref (d.1 200)), (1, .int p0), (2, .int p1)] → W p l e R s m args below meth c H locs 0 0 Q (F0 m 0 ls []) := by
  obtain ⟨r0, s0⟩ := r
  have k42 : ∀ (st : MS) (H : Heap) (locs : List Loc) (ls : Array Slot), fX8_goes_J42 n st = some (r0, s0) → y_I D A d s.heap st ex H locs → lv_has ls 4 [(0, .ref (d.1 200))] → W p l e R s m args below meth c H locs 0 0 Q (F0 m 42 ls []) := by
    intro st H locs ls h I hl
    unfold fX8_goes_J42 at h
    refine lv_aload_n X.1 X.2.1 dX8_goes_42 rfl (lv_at hl 0 rfl) ?_
    refine va_get (D := D) (ci := 8) (C := RX8) (T := TX8) (N := 6) (ref := "SwapPress$Press") X.1 X.2.1 X.2.2.1 in_X8 X.2.2.2.1 X.2.2.2.2.1 I.1 0 rfl rfl 5 (by decide) (X.2.2.1 _ q1102) (fun _ h => h) (v := .ref (d.1 202)) rfl dX8_goes_43 ?_
    refine va_getN (host := "SwapPress") (D := D) (ci := 1) (C := RX0) (T := TX0) (N := 9) (ref := "SwapPress") X.1 X.2.1 X.2.2.1 in_X0 X.2.2.2.1 X.2.2.2.2.1 I.1 13 rfl rfl 2 (by decide) ((X.2.2.2.2.2.2.2.2.2.2.2.2.2.2.2.1 _ (List.mem_of_getElem? (i := 10) rfl)).use rfl) (fun _ h => h) (v := .ref (d.1 201)) rfl dX8_goes_46 ?_
    refine lv_aload_n X.1 X.2.1 dX8_goes_49 rfl (lv_at hl 0 rfl) ?_
    refine va_get (D := D) (ci := 8) (C := RX8) (T := TX8) (N := 6) (ref := "SwapPress$Press") X.1 X.2.1 X.2.2.1 in_X8 X.2.2.2.1 X.2.2.2.2.1 I.1 0 rfl rfl 0 (by decide) (X.2.2.1 _ q1097) (fun _ h => h) (v := .int (st.1 0)) rfl dX8_goes_50 ?_
    refine lv_aload_n X.1 X.2.1 dX8_goes_53 rfl (lv_at hl 0 rfl) ?_
    refine va_get (D := D) (ci := 8) (C := RX8) (T := TX8) (N := 6) (ref := "SwapPress$Press") X.1 X.2.1 X.2.2.1 in_X8 X.2.2.2.1 X.2.2.2.2.1 I.1 0 rfl rfl 1 (by decide) (X.2.2.1 _ q1098) (fun _ h => h) (v := .ref (d.1 1)) rfl dX8_goes_54 ?_
    refine lv_aload_n X.1 X.2.1 dX8_goes_57 rfl (lv_at hl 0 rfl) ?_
    refine va_get (D := D) (ci := 8) (C := RX8) (T := TX8) (N := 6) (ref := "SwapPress$Press") X.1 X.2.1 X.2.2.1 in_X8 X.2.2.2.1 X.2.2.2.2.1 I.1 0 rfl rfl 2 (by decide) (X.2.2.1 _ q1099) (fun _ h => h) (v := .ref (d.1 2)) rfl dX8_goes_58 ?_
    refine lv_aload_n X.1 X.2.1 dX8_goes_61 rfl (lv_at hl 0 rfl) ?_
    refine va_get (D := D) (ci := 8) (C := RX8) (T := TX8) (N := 6) (ref := "SwapPress$Press") X.1 X.2.1 X.2.2.1 in_X8 X.2.2.2.1 X.2.2.2.2.1 I.1 0 rfl rfl 3 (by decide) (X.2.2.1 _ q1100) (fun _ h => h) (v := .ref (d.1 3)) rfl dX8_goes_62 ?_
    refine lv_aload_n X.1 X.2.1 dX8_goes_65 rfl (lv_at hl 0 rfl) ?_
    refine va_get (D := D) (ci := 8) (C := RX8) (T := TX8) (N := 6) (ref := "SwapPress$Press") X.1 X.2.1 X.2.2.1 in_X8 X.2.2.2.1 X.2.2.2.2.1 I.1 0 rfl rfl 4 (by decide) (X.2.2.1 _ q1101) (fun _ h => h) (v := .ref (d.1 4)) rfl dX8_goes_66 ?_
    obtain ⟨r7, s8, e6, h⟩ := m_b2S h
    refine y_callI X hl.1 I hA (C := RX2) (b := d.1 201) (As := [.int (st.1 0), .ref (d.1 1), .ref (d.1 2), .ref (d.1 3), .ref (d.1 4)]) (rest := []) (kX2_goes l n D d st (st.1 0) _ _ e6) 5 ⟨5, 3, TX2, 8, _, rfl, rfl⟩ q1125 q1126 q1127 q106 q1128 hdX2_goes rfl rfl ⟨Nat.le_trans (Nat.le_of_ble_eq_true rfl) hR.1, Nat.le_trans (Nat.le_of_ble_eq_true rfl) hR.2⟩ ⟨rfl, rfl⟩ ⟨Nat.zero_le _, Nat.zero_le _⟩ (Nat.le_of_ble_eq_true rfl) dX8_goes_69 (fun H locs I => ?_)
    obtain ⟨g9, h⟩ := m_gS h
    obtain ⟨rfl, rfl⟩ := m_e2 h
    exact hret H locs ls 72 g9 dX8_goes_72 I
  intro H locs ls I hl
  unfold fX8_goes at h
  refine lv_iconst (v := 0) X.1 X.2.1 dX8_goes_0 (by decide) ?_
  refine lv_istore_n (lv' := [(3, .int 0), (0, .ref (d.1 200)), (1, .int p0), (2, .int p1)]) X.1 X.2.1 dX8_goes_1 rfl hl (by decide) rfl (fun ls hl => ?_)
  obtain ⟨s4, e3, h⟩ := m_bS h
  refine wfX8_goes_L2 X hA hR n p0 p1 _ _ e3 (fun H locs ls I hl => ?_) H locs ls I (lv_sub hl [1, 2, 3, 0] rfl)
  refine lv_iload_n X.1 X.2.1 dX8_goes_26 rfl (lv_at hl 1 rfl) ?_
  refine lv_iconst (v := (-1)) X.1 X.2.1 dX8_goes_27 (by decide) ?_
  refine lv_icmp_eq (tgt := 42) X.1 X.2.1 dX8_goes_28 (by decide) (fun c5 => ?_) (fun c5 => ?_)
  · replace h := m_ifT c5 h
    exact k42 s4 H locs ls h I (lv_sub hl [0] rfl)
  · replace h := m_ifF c5 h
    refine lv_aload_n X.1 X.2.1 dX8_goes_31 rfl (lv_at hl 0 rfl) ?_
    refine va_get (D := D) (ci := 8) (C := RX8) (T := TX8) (N := 6) (ref := "SwapPress$Press") X.1 X.2.1 X.2.2.1 in_X8 X.2.2.2.1 X.2.2.2.2.1 I.1 0 rfl rfl 3 (by decide) (X.2.2.1 _ q1100) (fun _ h => h) (v := .ref (d.1 3)) rfl dX8_goes_32 ?_
    refine lv_iload_n X.1 X.2.1 dX8_goes_35 rfl (lv_at hl 1 rfl) ?_
    refine lv_dup2_11 X.1 X.2.1 dX8_goes_36 rfl rfl ?_
    obtain ⟨g10, h⟩ := m_gS h
    refine y_lald X I 3 (n := 64) (f := s4.2.2 3) rfl g10 dX8_goes_37 ?_
    refine lv_iload_n X.1 X.2.1 dX8_goes_38 rfl (lv_at hl 2 rfl) ?_
    refine lv_i2l X.1 X.2.1 dX8_goes_39 rfl ?_
    refine lv_ladd X.1 X.2.1 dX8_goes_40 ?_
    obtain ⟨g11, h⟩ := m_gS h
    refine y_last X I 3 (n := 64) (f := s4.2.2 3) rfl (y_st3 d _ _ _ _) g11 dX8_goes_41 (fun H locs I => ?_)
    exact k42 (m_sb s4 3 (p0 : Int32).toNatClampNeg ((s4.2.2 3 (p0 : Int32).toNatClampNeg) + p1.toInt64)) H locs ls h I (lv_sub hl [0] rfl)
end S_goes
theorem kX8_goes (l : Launch) (n : Nat) (D : va_G) (d : YD) (st : MS) (p0 : Int32) (p1 : Int32) (r : Int32) (st' : MS) (h : fX8_goes n st p0 p1 = some (r, st')) : y_Mi l yX8_goes cX8_goes 4 (some .boolean) ({ frames := 3, cells := 0, slots := 0, locals := 76 } : Room) D d st [.ref (d.1 200), .int p0, .int p1] r st' :=
  y_startI (lvl := [(0, .ref (d.1 200)), (1, .int p0), (2, .int p1)]) (by decide) rfl (Nat.le_of_ble_eq_true rfl) rfl (fun p e s m args below meth c ls X hr hlk hl hA I => wX8_goes X hA ⟨Nat.le_refl _, Nat.le_refl _⟩ n st p0 p1 (r, st') h (fun H locs ls pc g hd I => y_zret X I hr hlk g hd) _ _ ls I hl)

/-! method span(IIZ)I -/
def fX8_span_J38 (n : Nat) (st : MS) (t0 : Int32) : Option (Int32 × MS) :=
  some (t0, st)
def fX8_span_J16 (n : Nat) (st : MS) (v1 : Int32) (v2 : Int32) (t0 : Int32) (t1 : Int32) : Option (Int32 × MS) :=
  m_b2 (fX8_goes n st t1 t0) (fun r3 s4 => m_if ((r3 : Int32) = 0) (fX8_span_J38 n s4 ((-1))) (m_b (fX2_of n s4 v1 v2) (fun r7 => fX8_span_J38 n s4 r7)))
def fX8_span (n : Nat) (st : MS) (p0 : Int32) (p1 : Int32) (p2 : Int32) : Option (Int32 × MS) :=
  m_if ((p2 : Int32) = 0) (fX8_span_J16 n st p0 p1 1 ((8 * p0) + p1)) (fX8_span_J16 n st p0 p1 ((-1)) ((8 * p0) + p1))
theorem hdX8_span : yX8_span.cls = RX8 ∧ yX8_span.cls ≠ "java/lang/invoke/MethodHandle" ∧ yX8_span.cls ≠ "java/lang/invoke/VarHandle" ∧ (parseMethodDescriptor yX8_span.desc).map (fun d => d.parameters.length) = some 3 := by decide +kernel
section S_span
variable {p : Program} {l : Launch} {e : Env} {R : Room} {s : State} {m : MethodId} {args : Array Value} {below : List Frame} {meth : Method} {c : Code} {Q : State → Prop} {D : va_G} {A : Nat → Prop} {d : YD} {ex : va_W}
theorem wX8_span (X : y_X RX8 D A d p s m c cX8_span 4 args) (hA : ∀ q, s.heap.size ≤ q → A q) (hR : 4 ≤ R.frames ∧ 99 ≤ R.locals) (n : Nat) (st : MS) (p0 : Int32) (p1 : Int32) (p2 : Int32) (r : (Int32 × MS)) (h : fX8_span n st p0 p1 p2 = some r) (hret : ∀ (H : Heap) (locs : List Loc) (ls : Array Slot) (pc : Nat), decode cX8_span pc = .ok (.ireturn, 1) → y_I D A d s.heap r.2 ex H locs → W p l e R s m args below meth c H locs 0 0 Q (F0 m pc ls [.int r.1])) : ∀ (H : Heap) (locs : List Loc) (ls : Array Slot), y_I D A d s.heap st ex H locs → lv_has ls 4 [(0, .ref (d.1 200)), (1, .int p0), (2, .int p1), (3, .int p2)] → W p l e R s m args below meth c H locs 0 0 Q (F0 m 0 ls []) := by
  obtain ⟨r0, s0⟩ := r
  have k38 : ∀ (st : MS) (t0 : Int32) (H : Heap) (locs : List Loc) (ls : Array Slot), fX8_span_J38 n st t0 = some (r0, s0) → y_I D A d s.heap st ex H locs → lv_has ls 4 [] → W p l e R s m args below meth c H locs 0 0 Q (F0 m 38 ls [.int t0]) := by
    intro st t0 H locs ls h I hl
    unfold fX8_span_J38 at h
    obtain ⟨rfl, rfl⟩ := m_e2 h
    exact hret H locs ls 38 dX8_span_38 I
  have k16 : ∀ (st : MS) (v1 : Int32) (v2 : Int32) (t0 : Int32) (t1 : Int32) (H : Heap) (locs : List Loc) (ls : Array Slot), fX8_span_J16 n st v1 v2 t0 t1 = some (r0, s0) → y_I D A d s.heap st ex H locs → lv_has ls 4 [(0, .ref (d.1 200)), (1, .int v1), (2, .int v2)] → W p l e R s m args below meth c H locs 0 0 Q (F0 m 16 ls [.int t0, .int t1, .ref (d.1 200)]) := by
    intro st v1 v2 t0 t1 H locs ls h I hl
    unfold fX8_span_J16 at h
    obtain ⟨r3, s4, e2, h⟩ := m_b2S h
    refine y_callI X hl.1 I hA (C := RX8) (b := d.1 200) (As := [.int t1, .int t0]) (rest := []) (kX8_goes l n D d st t1 t0 _ _ e2) 2 ⟨0, 8, TX8, 6, _, rfl, rfl⟩ q1120 q1121 q1122 q125 q1123 hdX8_goes rfl rfl ⟨Nat.le_trans (Nat.le_of_ble_eq_true rfl) hR.1, Nat.le_trans (Nat.le_of_ble_eq_true rfl) hR.2⟩ ⟨rfl, rfl⟩ ⟨Nat.zero_le _, Nat.zero_le _⟩ (Nat.le_of_ble_eq_true rfl) dX8_span_16 (fun H locs I => ?_)
    refine lv_if_eq (tgt := 37) X.1 X.2.1 dX8_span_19 (by decide) (fun c5 => ?_) (fun c5 => ?_)
    · replace h := m_ifT c5 h
      refine lv_iconst (v := (-1)) X.1 X.2.1 dX8_span_37 (by decide) ?_
      exact k38 s4 ((-1)) H locs ls h I (lv_sub hl [] rfl)
    · replace h := m_ifF c5 h
      refine lv_aload_n X.1 X.2.1 dX8_span_22 rfl (lv_at hl 0 rfl) ?_
      refine va_get (D := D) (ci := 8) (C := RX8) (T := TX8) (N := 6) (ref := "SwapPress$Press") X.1 X.2.1 X.2.2.1 in_X8 X.2.2.2.1 X.2.2.2.2.1 I.1 0 rfl rfl 5 (by decide) (X.2.2.1 _ q1102) (fun _ h => h) (v := .ref (d.1 202)) rfl dX8_span_23 ?_
      refine va_getN (host := "SwapPress") (D := D) (ci := 1) (C := RX0) (T := TX0) (N := 9) (ref := "SwapPress") X.1 X.2.1 X.2.2.1 in_X0 X.2.2.2.1 X.2.2.2.2.1 I.1 13 rfl rfl 2 (by decide) ((X.2.2.2.2.2.2.2.2.2.2.2.2.2.2.2.1 _ (List.mem_of_getElem? (i := 10) rfl)).use rfl) (fun _ h => h) (v := .ref (d.1 201)) rfl dX8_span_26 ?_
      refine lv_iload_n X.1 X.2.1 dX8_span_29 rfl (lv_at hl 1 rfl) ?_
      refine lv_iload_n X.1 X.2.1 dX8_span_30 rfl (lv_at hl 2 rfl) ?_
      obtain ⟨r7, e6, h⟩ := m_bS h
      refine y_callI X hl.1 I hA (C := RX2) (b := d.1 201) (As := [.int v1, .int v2]) (rest := []) (kX2_of l n D d s4 v1 v2 _ e6) 2 ⟨5, 3, TX2, 8, _, rfl, rfl⟩ q1146 q1147 q1148 q106 q1149 hdX2_of rfl rfl ⟨Nat.le_trans (Nat.le_of_ble_eq_true rfl) hR.1, Nat.le_trans (Nat.le_of_ble_eq_true rfl) hR.2⟩ ⟨rfl, rfl⟩ ⟨Nat.zero_le _, Nat.zero_le _⟩ (Nat.le_of_ble_eq_true rfl) dX8_span_31 (fun H locs I => ?_)
      refine lv_goto (tgt := 38) X.1 X.2.1 dX8_span_34 (by decide) ?_
      exact k38 s4 r7 H locs ls h I (lv_sub hl [] rfl)
  intro H locs ls I hl
  unfold fX8_span at h
  refine lv_aload_n X.1 X.2.1 dX8_span_0 rfl (lv_at hl 0 rfl) ?_
  refine lv_bipush (v := 8) X.1 X.2.1 dX8_span_1 (by decide) ?_
  refine lv_iload_n X.1 X.2.1 dX8_span_3 rfl (lv_at hl 1 rfl) ?_
  refine lv_imul X.1 X.2.1 dX8_span_4 ?_
  refine lv_iload_n X.1 X.2.1 dX8_span_5 rfl (lv_at hl 2 rfl) ?_
  refine lv_iadd X.1 X.2.1 dX8_span_6 ?_
  refine lv_iload_n X.1 X.2.1 dX8_span_7 rfl (lv_at hl 3 rfl) ?_
  refine lv_if_eq (tgt := 15) X.1 X.2.1 dX8_span_8 (by decide) (fun c1 => ?_) (fun c1 => ?_)
  · replace h := m_ifT c1 h
    refine lv_iconst (v := 1) X.1 X.2.1 dX8_span_15 (by decide) ?_
    exact k16 st p0 p1 1 ((8 * p0) + p1) H locs ls h I (lv_sub hl [0, 1, 2] rfl)
  · replace h := m_ifF c1 h
    refine lv_iconst (v := (-1)) X.1 X.2.1 dX8_span_11 (by decide) ?_
    refine lv_goto (tgt := 16) X.1 X.2.1 dX8_span_12 (by decide) ?_
    exact k16 st p0 p1 ((-1)) ((8 * p0) + p1) H locs ls h I (lv_sub hl [0, 1, 2] rfl)
end S_span
theorem kX8_span (l : Launch) (n : Nat) (D : va_G) (d : YD) (st : MS) (p0 : Int32) (p1 : Int32) (p2 : Int32) (r : Int32) (st' : MS) (h : fX8_span n st p0 p1 p2 = some (r, st')) : y_Mi l yX8_span cX8_span 4 (some .int) ({ frames := 4, cells := 0, slots := 0, locals := 99 } : Room) D d st [.ref (d.1 200), .int p0, .int p1, .int p2] r st' :=
  y_startI (lvl := [(0, .ref (d.1 200)), (1, .int p0), (2, .int p1), (3, .int p2)]) (by decide) rfl (Nat.le_of_ble_eq_true rfl) rfl (fun p e s m args below meth c ls X hr hlk hl hA I => wX8_span X hA ⟨Nat.le_refl _, Nat.le_refl _⟩ n st p0 p1 p2 (r, st') h (fun H locs ls pc hd I => y_iret X I hr hlk hd) _ _ ls I hl)

/-! method least()I -/
def fX8_least_J55 (n : Nat) (st : MS) (v2 : Int32) (v3 : Int32) (t0 : Int32) (t1 : Int32) : Option ((Int32 × Int32 × MS) ⊕ (Int32 × MS)) :=
  some (.inl ((t1 + t0, v3 + 1, st)))
def fX8_least_L25 (n : Nat) (v2 : Int32) (v1 : Int32) (v3 : Int32) (st : MS) : Option ((Int32 × Int32 × MS) ⊕ (Int32 × MS)) :=
  m_if ((st.1 0 : Int32) ≤ (v3 : Int32)) (some (.inr ((v1, st)))) (m_if ((v2 : Int32) = (v3 : Int32)) (fX8_least_J55 n st v2 v3 0 v1) (m_b (fX2_of n st v2 v3) (fun r9 => fX8_least_J55 n st v2 v3 r9 v1)))
def fX8_least_L25l (n : Nat) (v2 : Int32) (x : (Int32 × Int32 × MS)) : Option (Int32 × MS) := m_lp (fun (x : (Int32 × Int32 × MS)) => fX8_least_L25 n v2 x.1 x.2.1 x.2.2) n x
def fX8_least_L15 (n : Nat) (v1 : Int32) (v2 : Int32) (st : MS) : Option ((Int32 × Int32 × MS) ⊕ (Int32 × MS)) :=
  m_if ((st.1 0 : Int32) ≤ (v2 : Int32)) (some (.inr ((v1, st)))) (m_b (fX8_least_L25l n v2 ((v1, 0, st))) (fun y13 => some (.inl ((y13.1, v2 + 1, y13.2)))))
def fX8_least_L15l (n : Nat) (x : (Int32 × Int32 × MS)) : Option (Int32 × MS) := m_lp (fun (x : (Int32 × Int32 × MS)) => fX8_least_L15 n x.1 x.2.1 x.2.2) n x
def fX8_least (n : Nat) (st : MS) : Option (Int32 × MS) :=
  m_b2 (fX8_goes n st ((-1)) 0) (fun r2 s3 => m_if ((r2 : Int32) = 0) (some ((-1), s3)) (m_b (fX8_least_L15l n ((0, 0, s3))) (fun y17 => some (y17.1, y17.2))))
theorem hdX8_least : yX8_least.cls = RX8 ∧ yX8_least.cls ≠ "java/lang/invoke/MethodHandle" ∧ yX8_least.cls ≠ "java/lang/invoke/VarHandle" ∧ (parseMethodDescriptor yX8_least.desc).map (fun d => d.parameters.length) = some 0 := by decide +kernel
section S_least
variable {p : Program} {l : Launch} {e : Env} {R : Room} {s : State} {m : MethodId} {args : Array Value} {below : List Frame} {meth : Method} {c : Code} {Q : State → Prop} {D : va_G} {A : Nat → Prop} {d : YD} {ex : va_W}
theorem wfX8_least_L25 (X : y_X RX8 D A d p s m c cX8_least 4 args) (hA : ∀ q, s.heap.size ≤ q → A q) (hR : 4 ≤ R.frames ∧ 99 ≤ R.locals) (n : Nat) (v2 : Int32) (x : (Int32 × Int32 × MS)) (z : (Int32 × MS)) (hz : fX8_least_L25l n v2 x = some z) (hE : (fun (z : (Int32 × MS)) => ∀ (H : Heap) (locs : List Loc) (ls : Array Slot), y_I D A d s.heap z.2 ex H locs → lv_has ls 4 [(0, .ref (d.1 200)), (1, .int z.1), (2, .int v2)] → W p l e R s m args below meth c H locs 0 0 Q (F0 m 63 ls [])) z) : (fun (x : (Int32 × Int32 × MS)) => ∀ (H : Heap) (locs : List Loc) (ls : Array Slot), y_I D A d s.heap x.2.2 ex H locs → lv_has ls 4 [(0, .ref (d.1 200)), (1, .int x.1), (2, .int v2), (3, .int x.2.1)] → W p l e R s m args below meth c H locs 0 0 Q (F0 m 25 ls [])) x := by
  refine m_lpW (G := fun (x : (Int32 × Int32 × MS)) => ∀ (H : Heap) (locs : List Loc) (ls : Array Slot), y_I D A d s.heap x.2.2 ex H locs → lv_has ls 4 [(0, .ref (d.1 200)), (1, .int x.1), (2, .int v2), (3, .int x.2.1)] → W p l e R s m args below meth c H locs 0 0 Q (F0 m 25 ls [])) (E := fun (z : (Int32 × MS)) => ∀ (H : Heap) (locs : List Loc) (ls : Array Slot), y_I D A d s.heap z.2 ex H locs → lv_has ls 4 [(0, .ref (d.1 200)), (1, .int z.1), (2, .int v2)] → W p l e R s m args below meth c H locs 0 0 Q (F0 m 63 ls [])) ?_ n x z hz hE
  rintro ⟨v1, v3, st⟩ r h hr H locs ls I hl
  replace h : fX8_least_L25 n v2 v1 v3 st = some r := h
  have k55 : ∀ (st : MS) (v3 : Int32) (t0 : Int32) (t1 : Int32) (H : Heap) (locs : List Loc) (ls : Array Slot), fX8_least_J55 n st v2 v3 t0 t1 = some r → y_I D A d s.heap st ex H locs → lv_has ls 4 [(0, .ref (d.1 200)), (2, .int v2), (3, .int v3)] → W p l e R s m args below meth c H locs 0 0 Q (F0 m 55 ls [.int t0, .int t1]) := by
    intro st v3 t0 t1 H locs ls h I hl
    unfold fX8_least_J55 at h
    refine lv_iadd X.1 X.2.1 dX8_least_55 ?_
    refine lv_istore_n (lv' := [(1, .int (t1 + t0)), (0, .ref (d.1 200)), (2, .int v2), (3, .int v3)]) X.1 X.2.1 dX8_least_56 rfl hl (by decide) rfl (fun ls hl => ?_)
    refine lv_iinc (v := v3 + 1) (lv' := [(3, .int (v3 + 1)), (1, .int (t1 + t0)), (0, .ref (d.1 200)), (2, .int v2)]) X.1 X.2.1 dX8_least_57 hl (k := 3) rfl rfl (by decide) rfl (fun ls hl => ?_)
    refine lv_goto (tgt := 25) X.1 X.2.1 dX8_least_60 (by decide) ?_
    cases h
    exact hr H locs ls I (lv_sub hl [2, 1, 3, 0] rfl)
  unfold fX8_least_L25 at h
  refine lv_iload_n X.1 X.2.1 dX8_least_25 rfl (lv_at hl 3 rfl) ?_
  refine lv_aload_n X.1 X.2.1 dX8_least_26 rfl (lv_at hl 0 rfl) ?_
  refine va_get (D := D) (ci := 8) (C := RX8) (T := TX8) (N := 6) (ref := "SwapPress$Press") X.1 X.2.1 X.2.2.1 in_X8 X.2.2.2.1 X.2.2.2.2.1 I.1 0 rfl rfl 0 (by decide) (X.2.2.1 _ q1097) (fun _ h => h) (v := .int (st.1 0)) rfl dX8_least_27 ?_
  refine lv_icmp_ge (tgt := 63) X.1 X.2.1 dX8_least_30 (by decide) (fun c6 => ?_) (fun c6 => ?_)
  · replace h := m_ifT c6 h
    cases h
    exact hr H locs ls I (lv_sub hl [0, 1, 2] rfl)
  · replace h := m_ifF c6 h
    refine lv_iload_n X.1 X.2.1 dX8_least_33 rfl (lv_at hl 1 rfl) ?_
    refine lv_iload_n X.1 X.2.1 dX8_least_34 rfl (lv_at hl 2 rfl) ?_
    refine lv_iload_n X.1 X.2.1 dX8_least_35 rfl (lv_at hl 3 rfl) ?_
    refine lv_icmp_ne (tgt := 43) X.1 X.2.1 dX8_least_36 (by decide) (fun c7 => ?_) (fun c7 => ?_)
    · replace h := m_ifF c7 h
      refine lv_aload_n X.1 X.2.1 dX8_least_43 rfl (lv_at hl 0 rfl) ?_
      refine va_get (D := D) (ci := 8) (C := RX8) (T := TX8) (N := 6) (ref := "SwapPress$Press") X.1 X.2.1 X.2.2.1 in_X8 X.2.2.2.1 X.2.2.2.2.1 I.1 0 rfl rfl 5 (by decide) (X.2.2.1 _ q1102) (fun _ h => h) (v := .ref (d.1 202)) rfl dX8_least_44 ?_
      refine va_getN (host := "SwapPress") (D := D) (ci := 1) (C := RX0) (T := TX0) (N := 9) (ref := "SwapPress") X.1 X.2.1 X.2.2.1 in_X0 X.2.2.2.1 X.2.2.2.2.1 I.1 13 rfl rfl 2 (by decide) ((X.2.2.2.2.2.2.2.2.2.2.2.2.2.2.2.1 _ (List.mem_of_getElem? (i := 10) rfl)).use rfl) (fun _ h => h) (v := .ref (d.1 201)) rfl dX8_least_47 ?_
      refine lv_iload_n X.1 X.2.1 dX8_least_50 rfl (lv_at hl 2 rfl) ?_
      refine lv_iload_n X.1 X.2.1 dX8_least_51 rfl (lv_at hl 3 rfl) ?_
      obtain ⟨r9, e8, h⟩ := m_bS h
      refine y_callI X hl.1 I hA (C := RX2) (b := d.1 201) (As := [.int v2, .int v3]) (rest := [.int v1]) (kX2_of l n D d st v2 v3 _ e8) 2 ⟨5, 3, TX2, 8, _, rfl, rfl⟩ q1146 q1147 q1148 q106 q1149 hdX2_of rfl rfl ⟨Nat.le_trans (Nat.le_of_ble_eq_true rfl) hR.1, Nat.le_trans (Nat.le_of_ble_eq_true rfl) hR.2⟩ ⟨rfl, rfl⟩ ⟨Nat.zero_le _, Nat.zero_le _⟩ (Nat.le_of_ble_eq_true rfl) dX8_least_52 (fun H locs I => ?_)
      exact k55 st v3 r9 v1 H locs ls h I (lv_sub hl [0, 2, 3] rfl)
    · replace h := m_ifT c7 h
      refine lv_iconst (v := 0) X.1 X.2.1 dX8_least_39 (by decide) ?_
      refine lv_goto (tgt := 55) X.1 X.2.1 dX8_least_40 (by decide) ?_
      exact k55 st v3 0 v1 H locs ls h I (lv_sub hl [0, 2, 3] rfl)
theorem wfX8_least_L15 (X : y_X RX8 D A d p s m c cX8_least 4 args) (hA : ∀ q, s.heap.size ≤ q → A q) (hR : 4 ≤ R.frames ∧ 99 ≤ R.locals) (n : Nat)  (x : (Int32 × Int32 × MS)) (z : (Int32 × MS)) (hz : fX8_least_L15l n x = some z) (hE : (fun (z : (Int32 × MS)) => ∀ (H : Heap) (locs : List Loc) (ls : Array Slot), y_I D A d s.heap z.2 ex H locs → lv_has ls 4 [(1, .int z.1)] → W p l e R s m args below meth c H locs 0 0 Q (F0 m 69 ls [])) z) : (fun (x : (Int32 × Int32 × MS)) => ∀ (H : Heap) (locs : List Loc) (ls : Array Slot), y_I D A d s.heap x.2.2 ex H locs → lv_has ls 4 [(0, .ref (d.1 200)), (1, .int x.1), (2, .int x.2.1)] → W p l e R s m args below meth c H locs 0 0 Q (F0 m 15 ls [])) x := by
  refine m_lpW (G := fun (x : (Int32 × Int32 × MS)) => ∀ (H : Heap) (locs : List Loc) (ls : Array Slot), y_I D A d s.heap x.2.2 ex H locs → lv_has ls 4 [(0, .ref (d.1 200)), (1, .int x.1), (2, .int x.2.1)] → W p l e R s m args below meth c H locs 0 0 Q (F0 m 15 ls [])) (E := fun (z : (Int32 × MS)) => ∀ (H : Heap) (locs : List Loc) (ls : Array Slot), y_I D A d s.heap z.2 ex H locs → lv_has ls 4 [(1, .int z.1)] → W p l e R s m args below meth c H locs 0 0 Q (F0 m 69 ls [])) ?_ n x z hz hE
  rintro ⟨v1, v2, st⟩ r h hr H locs ls I hl
  replace h : fX8_least_L15 n v1 v2 st = some r := h
  unfold fX8_least_L15 at h
  refine lv_iload_n X.1 X.2.1 dX8_least_15 rfl (lv_at hl 2 rfl) ?_
  refine lv_aload_n X.1 X.2.1 dX8_least_16 rfl (lv_at hl 0 rfl) ?_
  refine va_get (D := D) (ci := 8) (C := RX8) (T := TX8) (N := 6) (ref := "SwapPress$Press") X.1 X.2.1 X.2.2.1 in_X8 X.2.2.2.1 X.2.2.2.2.1 I.1 0 rfl rfl 0 (by decide) (X.2.2.1 _ q1097) (fun _ h => h) (v := .int (st.1 0)) rfl dX8_least_17 ?_
  refine lv_icmp_ge (tgt := 69) X.1 X.2.1 dX8_least_20 (by decide) (fun c5 => ?_) (fun c5 => ?_)
  · replace h := m_ifT c5 h
    cases h
    exact hr H locs ls I (lv_sub hl [1] rfl)
  · replace h := m_ifF c5 h
    refine lv_iconst (v := 0) X.1 X.2.1 dX8_least_23 (by decide) ?_
    refine lv_istore_n (lv' := [(3, .int 0), (0, .ref (d.1 200)), (1, .int v1), (2, .int v2)]) X.1 X.2.1 dX8_least_24 rfl hl (by decide) rfl (fun ls hl => ?_)
    obtain ⟨⟨z11, s12⟩, e10, h⟩ := m_bS h
    refine wfX8_least_L25 X hA hR n v2 _ _ e10 (fun H locs ls I hl => ?_) H locs ls I (lv_sub hl [1, 2, 3, 0] rfl)
    refine lv_iinc (v := v2 + 1) (lv' := [(2, .int (v2 + 1)), (0, .ref (d.1 200)), (1, .int z11)]) X.1 X.2.1 dX8_least_63 hl (k := 2) rfl rfl (by decide) rfl (fun ls hl => ?_)
    refine lv_goto (tgt := 15) X.1 X.2.1 dX8_least_66 (by decide) ?_
    cases h
    exact hr H locs ls I (lv_sub hl [1, 2, 0] rfl)
theorem wX8_least (X : y_X RX8 D A d p s m c cX8_least 4 args) (hA : ∀ q, s.heap.size ≤ q → A q) (hR : 4 ≤ R.frames ∧ 99 ≤ R.locals) (n : Nat) (st : MS) (r : (Int32 × MS)) (h : fX8_least n st = some r) (hret : ∀ (H : Heap) (locs : List Loc) (ls : Array Slot) (pc : Nat), decode cX8_least pc = .ok (.ireturn, 1) → y_I D A d s.heap r.2 ex H locs → W p l e R s m args below meth c H locs 0 0 Q (F0 m pc ls [.int r.1])) : ∀ (H : Heap) (locs : List Loc) (ls : Array Slot), y_I D A d s.heap st ex H locs → lv_has ls 4 [(0, .ref (d.1 200))] → W p l e R s m args below meth c H locs 0 0 Q (F0 m 0 ls []) := by
  obtain ⟨r0, s0⟩ := r
  intro H locs ls I hl
  unfold fX8_least at h
  refine lv_aload_n X.1 X.2.1 dX8_least_0 rfl (lv_at hl 0 rfl) ?_
  refine lv_iconst (v := (-1)) X.1 X.2.1 dX8_least_1 (by decide) ?_
  refine lv_iconst (v := 0) X.1 X.2.1 dX8_least_2 (by decide) ?_
  obtain ⟨r2, s3, e1, h⟩ := m_b2S h
  refine y_callI X hl.1 I hA (C := RX8) (b := d.1 200) (As := [.int ((-1)), .int 0]) (rest := []) (kX8_goes l n D d st ((-1)) 0 _ _ e1) 2 ⟨0, 8, TX8, 6, _, rfl, rfl⟩ q1120 q1121 q1122 q125 q1123 hdX8_goes rfl rfl ⟨Nat.le_trans (Nat.le_of_ble_eq_true rfl) hR.1, Nat.le_trans (Nat.le_of_ble_eq_true rfl) hR.2⟩ ⟨rfl, rfl⟩ ⟨Nat.zero_le _, Nat.zero_le _⟩ (Nat.le_of_ble_eq_true rfl) dX8_least_3 (fun H locs I => ?_)
  refine lv_if_ne (tgt := 11) X.1 X.2.1 dX8_least_6 (by decide) (fun c4 => ?_) (fun c4 => ?_)
  · replace h := m_ifF c4 h
    refine lv_iconst (v := 0) X.1 X.2.1 dX8_least_11 (by decide) ?_
    refine lv_istore_n (lv' := [(1, .int 0), (0, .ref (d.1 200))]) X.1 X.2.1 dX8_least_12 rfl hl (by decide) rfl (fun ls hl => ?_)
    refine lv_iconst (v := 0) X.1 X.2.1 dX8_least_13 (by decide) ?_
    refine lv_istore_n (lv' := [(2, .int 0), (1, .int 0), (0, .ref (d.1 200))]) X.1 X.2.1 dX8_least_14 rfl hl (by decide) rfl (fun ls hl => ?_)
    obtain ⟨⟨z15, s16⟩, e14, h⟩ := m_bS h
    refine wfX8_least_L15 X hA hR n  _ _ e14 (fun H locs ls I hl => ?_) H locs ls I (lv_sub hl [2, 1, 0] rfl)
    refine lv_iload_n X.1 X.2.1 dX8_least_69 rfl (lv_at hl 0 rfl) ?_
    obtain ⟨rfl, rfl⟩ := m_e2 h
    exact hret H locs ls 70 dX8_least_70 I
  · replace h := m_ifT c4 h
    refine lv_iconst (v := (-1)) X.1 X.2.1 dX8_least_9 (by decide) ?_
    obtain ⟨rfl, rfl⟩ := m_e2 h
    exact hret H locs ls 10 dX8_least_10 I
end S_least
theorem kX8_least (l : Launch) (n : Nat) (D : va_G) (d : YD) (st : MS) (r : Int32) (st' : MS) (h : fX8_least n st = some (r, st')) : y_Mi l yX8_least cX8_least 4 (some .int) ({ frames := 4, cells := 0, slots := 0, locals := 99 } : Room) D d st [.ref (d.1 200)] r st' :=
  y_startI (lvl := [(0, .ref (d.1 200))]) (by decide) rfl (Nat.le_of_ble_eq_true rfl) rfl (fun p e s m args below meth c ls X hr hlk hl hA I => wX8_least X hA ⟨Nat.le_refl _, Nat.le_refl _⟩ n st (r, st') h (fun H locs ls pc hd I => y_iret X I hr hlk hd) _ _ ls I hl)
