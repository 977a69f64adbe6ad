set_option maxRecDepth 100000
set_option maxHeartbeats 4000000
/-! method plain()V -/
def f_plain_J37 (n : Nat) (st : MS) (v1 : Int32) (t0 : Int32) (t1 : Int32) : Option ((Int32 × MS) ⊕ MS) :=
  m_g (m_in t1 266) (some (.inl ((v1 + 1, m_sa st 0 (t1 : Int32).toNatClampNeg t0))))
def f_plain_L12 (n : Nat) (v1 : Int32) (st : MS) : Option ((Int32 × MS) ⊕ MS) :=
  m_if ((266 : Int32) ≤ (v1 : Int32)) (some (.inr st)) (m_if ((202 : Int32) ≤ (v1 : Int32)) (f_plain_J37 n st v1 99999999 v1) (f_plain_J37 n st v1 0 v1))
def f_plain_L12l (n : Nat) (x : (Int32 × MS)) : Option MS := m_lp (fun (x : (Int32 × MS)) => f_plain_L12 n x.1 x.2) n x
def f_plain (n : Nat) (st : MS) : Option (MS) :=
  m_b (f_plain_L12l n ((0, m_sg (m_sg st 5 0) 6 0))) (fun s5 => some s5)
theorem hd_plain : yX3_plain.cls = RX3 ∧ yX3_plain.cls ≠ "java/lang/invoke/MethodHandle" ∧ yX3_plain.cls ≠ "java/lang/invoke/VarHandle" ∧ (parseMethodDescriptor yX3_plain.desc).map (fun d => d.parameters.length) = some 0 := by decide +kernel
section S_plain
variable {p : Program} {l : Launch} {e : Env} {R : Room} {s : State} {m : MethodId} {args : Array Value} {below : List Frame} {meth : Method} {c : Code} {Q : State → Prop} {D : va_G} {A : Nat → Prop} {d : MD}
theorem wf_plain_L12 (X : m_X D A d p s m c cX3_plain 2 args) (hA : ∀ q, s.heap.size ≤ q → A q) (hR : 0 ≤ R.frames ∧ 0 ≤ R.locals) (n : Nat)  (x : (Int32 × MS)) (z : MS) (hz : f_plain_L12l n x = some z) (hE : (fun (z : MS) => ∀ (H : Heap) (locs : List Loc) (ls : Array Slot), m_I D A d s.heap z H locs → lv_has ls 2 [] → W p l e R s m args below meth c H locs 0 0 Q (F0 m 44 ls [])) z) : (fun (x : (Int32 × MS)) => ∀ (H : Heap) (locs : List Loc) (ls : Array Slot), m_I D A d s.heap x.2 H locs → lv_has ls 2 [(0, .ref d.1), (1, .int x.1)] → W p l e R s m args below meth c H locs 0 0 Q (F0 m 12 ls [])) x := by
  refine m_lpW (G := fun (x : (Int32 × MS)) => ∀ (H : Heap) (locs : List Loc) (ls : Array Slot), m_I D A d s.heap x.2 H locs → lv_has ls 2 [(0, .ref d.1), (1, .int x.1)] → W p l e R s m args below meth c H locs 0 0 Q (F0 m 12 ls [])) (E := fun (z : MS) => ∀ (H : Heap) (locs : List Loc) (ls : Array Slot), m_I D A d s.heap z H locs → lv_has ls 2 [] → W p l e R s m args below meth c H locs 0 0 Q (F0 m 44 ls [])) ?_ n x z hz hE
  rintro ⟨v1, st⟩ r h hr H locs ls I hl
  replace h : f_plain_L12 n v1 st = some r := h
  have k37 : ∀ (st : MS) (v1 : Int32) (t0 : Int32) (t1 : Int32) (H : Heap) (locs : List Loc) (ls : Array Slot), f_plain_J37 n st v1 t0 t1 = some r → m_I D A d s.heap st H locs → lv_has ls 2 [(0, .ref d.1), (1, .int v1)] → W p l e R s m args below meth c H locs 0 0 Q (F0 m 37 ls [.int t0, .int t1, .ref (d.2.1 0)]) := by
    intro st v1 t0 t1 H locs ls h I hl
    unfold f_plain_J37 at h
    obtain ⟨g3, h⟩ := m_gS h
    refine m_iast X I 1 (n := 266) (f := st.2.1 0) rfl (m_st0 d _ _ _) g3 dX3_plain_37 (fun H locs I => ?_)
    refine lv_iinc (v := v1 + 1) (lv' := [(1, .int (v1 + 1)), (0, .ref d.1)]) X.1 X.2.1 dX3_plain_38 hl (k := 1) rfl rfl (by decide) rfl (fun ls hl => ?_)
    refine lv_goto (tgt := 12) X.1 X.2.1 dX3_plain_41 (by decide) ?_
    cases h
    exact hr H locs ls I (lv_sub hl [1, 0] rfl)
  unfold f_plain_L12 at h
  refine lv_iload_n X.1 X.2.1 dX3_plain_12 rfl (lv_at hl 1 rfl) ?_
  refine lv_sipush (v := 266) X.1 X.2.1 dX3_plain_13 (by decide) ?_
  refine lv_icmp_ge (tgt := 44) X.1 X.2.1 dX3_plain_16 (by decide) (fun c1 => ?_) (fun c1 => ?_)
  · replace h := m_ifT c1 h
    cases h
    exact hr H locs ls I (lv_sub hl [] rfl)
  · replace h := m_ifF c1 h
    refine lv_aload_n X.1 X.2.1 dX3_plain_19 rfl (lv_at hl 0 rfl) ?_
    refine m_get X I 0 (by decide) rfl rfl rfl q1517 (v := .ref (d.2.1 0)) rfl dX3_plain_20 ?_
    refine lv_iload_n X.1 X.2.1 dX3_plain_23 rfl (lv_at hl 1 rfl) ?_
    refine lv_iload_n X.1 X.2.1 dX3_plain_24 rfl (lv_at hl 1 rfl) ?_
    refine lv_sipush (v := 202) X.1 X.2.1 dX3_plain_25 (by decide) ?_
    refine lv_icmp_ge (tgt := 35) X.1 X.2.1 dX3_plain_28 (by decide) (fun c2 => ?_) (fun c2 => ?_)
    · replace h := m_ifT c2 h
      refine lv_ldc (v := 99999999) X.1 X.2.1 X.2.2.2.1 (X.2.2.1 _ q1516) dX3_plain_35 ?_
      exact k37 st v1 99999999 v1 H locs ls h I (lv_sub hl [0, 1] rfl)
    · replace h := m_ifF c2 h
      refine lv_iconst (v := 0) X.1 X.2.1 dX3_plain_31 (by decide) ?_
      refine lv_goto (tgt := 37) X.1 X.2.1 dX3_plain_32 (by decide) ?_
      exact k37 st v1 0 v1 H locs ls h I (lv_sub hl [0, 1] rfl)
theorem w_plain (X : m_X D A d p s m c cX3_plain 2 args) (hA : ∀ q, s.heap.size ≤ q → A q) (hR : 0 ≤ R.frames ∧ 0 ≤ R.locals) (n : Nat) (st : MS) (r : MS) (h : f_plain n st = some r) (hret : ∀ (H : Heap) (locs : List Loc) (ls : Array Slot) (pc : Nat), decode cX3_plain pc = .ok (.return_, 1) → m_I D A d s.heap r H locs → W p l e R s m args below meth c H locs 0 0 Q (F0 m pc ls [])) : ∀ (H : Heap) (locs : List Loc) (ls : Array Slot), m_I D A d s.heap st H locs → lv_has ls 2 [(0, .ref d.1)] → W p l e R s m args below meth c H locs 0 0 Q (F0 m 0 ls []) := by
  intro H locs ls I hl
  unfold f_plain at h
  refine lv_aload_n X.1 X.2.1 dX3_plain_0 rfl (lv_at hl 0 rfl) ?_
  refine lv_iconst (v := 0) X.1 X.2.1 dX3_plain_1 (by decide) ?_
  refine m_put X I 5 (by decide) rfl rfl rfl q1522 rfl (m_set5 d _ _) dX3_plain_2 (fun H locs I => ?_)
  refine lv_aload_n X.1 X.2.1 dX3_plain_5 rfl (lv_at hl 0 rfl) ?_
  refine lv_iconst (v := 0) X.1 X.2.1 dX3_plain_6 (by decide) ?_
  refine m_put X I 6 (by decide) rfl rfl rfl q1523 rfl (m_set6 d _ _) dX3_plain_7 (fun H locs I => ?_)
  refine lv_iconst (v := 0) X.1 X.2.1 dX3_plain_10 (by decide) ?_
  refine lv_istore_n (lv' := [(1, .int 0), (0, .ref d.1)]) X.1 X.2.1 dX3_plain_11 rfl hl (by decide) rfl (fun ls hl => ?_)
  obtain ⟨s5, e4, h⟩ := m_bS h
  refine wf_plain_L12 X hA hR n  _ _ e4 (fun H locs ls I hl => ?_) H locs ls I (lv_sub hl [1, 0] rfl)
  obtain rfl := m_e1 h
  exact hret H locs ls 44 dX3_plain_44 I
end S_plain
theorem c_plain (l : Launch) (n : Nat) (D : va_G) (d : MD) (st : MS) (st' : MS) (h : f_plain n st = some st') : m_Mv l yX3_plain cX3_plain 2 none ({ frames := 0, cells := 0, slots := 0, locals := 0 } : Room) D d st [.ref d.1] st' :=
  m_startV (lvl := [(0, .ref d.1)]) (by decide) rfl (Nat.le_of_ble_eq_true rfl) rfl (fun p e s m args below meth c ls X hr hlk hl hA I => w_plain X hA ⟨Nat.le_refl _, Nat.le_refl _⟩ n st st' h (fun H locs ls pc hd I => m_vret X I hr hlk hd) _ _ ls I hl)

/-! method feed(IIIII)I -/
def f_feed_J77 (n : Nat) (st : MS) (v1 : Int32) (v2 : Int32) (v3 : Int32) (v4 : Int32) (v5 : Int32) (v6 : Int32) (t0 : Int32) : Option ((Int32 × MS) ⊕ MS) :=
  m_g (decide (¬ (4 : Int32) = 0)) (m_g (m_in (st.1 10) 900) (some (.inl ((v6 + 1, m_sg (m_sa st 9 (st.1 10 : Int32).toNatClampNeg (vp_nar .byte ((t0 >>> ((24 - (8 * (v6 - v6 / 4 * 4))) &&& 31)).toInt8.toInt32))) 10 (((m_sa st 9 (st.1 10 : Int32).toNatClampNeg (vp_nar .byte ((t0 >>> ((24 - (8 * (v6 - v6 / 4 * 4))) &&& 31)).toInt8.toInt32))).1 10) + 1))))))
def f_feed_L24 (n : Nat) (v1 : Int32) (v2 : Int32) (v3 : Int32) (v4 : Int32) (v5 : Int32) (v6 : Int32) (st : MS) : Option ((Int32 × MS) ⊕ MS) :=
  m_if ((20 : Int32) ≤ (v6 : Int32)) (some (.inr st)) (m_if ((4 : Int32) ≤ (v6 : Int32)) (m_if ((8 : Int32) ≤ (v6 : Int32)) (m_if ((12 : Int32) ≤ (v6 : Int32)) (m_if ((16 : Int32) ≤ (v6 : Int32)) (f_feed_J77 n st v1 v2 v3 v4 v5 v6 v5) (f_feed_J77 n st v1 v2 v3 v4 v5 v6 v4)) (f_feed_J77 n st v1 v2 v3 v4 v5 v6 v3)) (f_feed_J77 n st v1 v2 v3 v4 v5 v6 v2)) (f_feed_J77 n st v1 v2 v3 v4 v5 v6 v1))
def f_feed_L24l (n : Nat) (v1 : Int32) (v2 : Int32) (v3 : Int32) (v4 : Int32) (v5 : Int32) (x : (Int32 × MS)) : Option MS := m_lp (fun (x : (Int32 × MS)) => f_feed_L24 n v1 v2 v3 v4 v5 x.1 x.2) n x
def f_feed (n : Nat) (st : MS) (p0 : Int32) (p1 : Int32) (p2 : Int32) (p3 : Int32) (p4 : Int32) : Option (Int32 × MS) :=
  m_if ((((m_sg st 8 0).1 10) + 20 : Int32) ≤ (900 : Int32)) (m_b (f_feed_L24l n p0 p1 p2 p3 p4 ((0, m_sg st 8 0))) (fun s10 => some (s10.1 10, s10))) (some ((-4), m_sg st 8 0))
theorem hd_feed : yX3_feed.cls = RX3 ∧ yX3_feed.cls ≠ "java/lang/invoke/MethodHandle" ∧ yX3_feed.cls ≠ "java/lang/invoke/VarHandle" ∧ (parseMethodDescriptor yX3_feed.desc).map (fun d => d.parameters.length) = some 5 := by decide +kernel
section S_feed
variable {p : Program} {l : Launch} {e : Env} {R : Room} {s : State} {m : MethodId} {args : Array Value} {below : List Frame} {meth : Method} {c : Code} {Q : State → Prop} {D : va_G} {A : Nat → Prop} {d : MD}
theorem wf_feed_L24 (X : m_X D A d p s m c cX3_feed 8 args) (hA : ∀ q, s.heap.size ≤ q → A q) (hR : 0 ≤ R.frames ∧ 0 ≤ R.locals) (n : Nat) (v1 : Int32) (v2 : Int32) (v3 : Int32) (v4 : Int32) (v5 : Int32) (x : (Int32 × MS)) (z : MS) (hz : f_feed_L24l n v1 v2 v3 v4 v5 x = some z) (hE : (fun (z : MS) => ∀ (H : Heap) (locs : List Loc) (ls : Array Slot), m_I D A d s.heap z H locs → lv_has ls 8 [(0, .ref d.1)] → W p l e R s m args below meth c H locs 0 0 Q (F0 m 118 ls [])) z) : (fun (x : (Int32 × MS)) => ∀ (H : Heap) (locs : List Loc) (ls : Array Slot), m_I D A d s.heap x.2 H locs → lv_has ls 8 [(0, .ref d.1), (1, .int v1), (2, .int v2), (3, .int v3), (4, .int v4), (5, .int v5), (6, .int x.1)] → W p l e R s m args below meth c H locs 0 0 Q (F0 m 24 ls [])) x := by
  refine m_lpW (G := fun (x : (Int32 × MS)) => ∀ (H : Heap) (locs : List Loc) (ls : Array Slot), m_I D A d s.heap x.2 H locs → lv_has ls 8 [(0, .ref d.1), (1, .int v1), (2, .int v2), (3, .int v3), (4, .int v4), (5, .int v5), (6, .int x.1)] → W p l e R s m args below meth c H locs 0 0 Q (F0 m 24 ls [])) (E := fun (z : MS) => ∀ (H : Heap) (locs : List Loc) (ls : Array Slot), m_I D A d s.heap z H locs → lv_has ls 8 [(0, .ref d.1)] → W p l e R s m args below meth c H locs 0 0 Q (F0 m 118 ls [])) ?_ n x z hz hE
  rintro ⟨v6, st⟩ r h hr H locs ls I hl
  replace h : f_feed_L24 n v1 v2 v3 v4 v5 v6 st = some r := h
  have k77 : ∀ (st : MS) (v6 : Int32) (t0 : Int32) (H : Heap) (locs : List Loc) (ls : Array Slot), f_feed_J77 n st v1 v2 v3 v4 v5 v6 t0 = some r → m_I D A d s.heap st H locs → lv_has ls 8 [(0, .ref d.1), (1, .int v1), (2, .int v2), (3, .int v3), (4, .int v4), (5, .int v5), (6, .int v6)] → W p l e R s m args below meth c H locs 0 0 Q (F0 m 77 ls [.int t0]) := by
    intro st v6 t0 H locs ls h I hl
    unfold f_feed_J77 at h
    refine lv_istore (lv' := [(7, .int t0), (0, .ref d.1), (1, .int v1), (2, .int v2), (3, .int v3), (4, .int v4), (5, .int v5), (6, .int v6)]) X.1 X.2.1 dX3_feed_77 hl (by decide) rfl (fun ls hl => ?_)
    refine lv_aload_n X.1 X.2.1 dX3_feed_79 rfl (lv_at hl 1 rfl) ?_
    refine m_get X I 9 (by decide) rfl rfl rfl q1526 (v := .ref (d.2.1 9)) rfl dX3_feed_80 ?_
    refine lv_aload_n X.1 X.2.1 dX3_feed_83 rfl (lv_at hl 1 rfl) ?_
    refine m_get X I 10 (by decide) rfl rfl rfl q1527 (v := .int (st.1 10)) rfl dX3_feed_84 ?_
    refine lv_iload X.1 X.2.1 dX3_feed_87 (lv_at hl 0 rfl) ?_
    refine lv_bipush (v := 24) X.1 X.2.1 dX3_feed_89 (by decide) ?_
    refine lv_bipush (v := 8) X.1 X.2.1 dX3_feed_91 (by decide) ?_
    refine lv_iload X.1 X.2.1 dX3_feed_93 (lv_at hl 7 rfl) ?_
    refine lv_iconst (v := 4) X.1 X.2.1 dX3_feed_95 (by decide) ?_
    obtain ⟨g7, h⟩ := m_gS h
    refine lv_irem X.1 X.2.1 dX3_feed_96 (of_decide_eq_true g7) ?_
    refine lv_imul X.1 X.2.1 dX3_feed_97 ?_
    refine lv_isub X.1 X.2.1 dX3_feed_98 ?_
    refine lv_ishr X.1 X.2.1 dX3_feed_99 ?_
    refine lv_i2b X.1 X.2.1 dX3_feed_100 rfl ?_
    obtain ⟨g8, h⟩ := m_gS h
    refine m_bast X I 6 (n := 900) (f := st.2.1 9) rfl (m_st9 d _ _ _) g8 dX3_feed_101 (fun H locs I => ?_)
    refine lv_aload_n X.1 X.2.1 dX3_feed_102 rfl (lv_at hl 1 rfl) ?_
    refine lv_dup X.1 X.2.1 dX3_feed_103 rfl ?_
    refine m_get X I 10 (by decide) rfl rfl rfl q1527 (v := .int ((m_sa st 9 (st.1 10 : Int32).toNatClampNeg (vp_nar .byte ((t0 >>> ((24 - (8 * (v6 - v6 / 4 * 4))) &&& 31)).toInt8.toInt32))).1 10)) rfl dX3_feed_104 ?_
    refine lv_iconst (v := 1) X.1 X.2.1 dX3_feed_107 (by decide) ?_
    refine lv_iadd X.1 X.2.1 dX3_feed_108 ?_
    refine m_put X I 10 (by decide) rfl rfl rfl q1527 rfl (m_set10 d _ _) dX3_feed_109 (fun H locs I => ?_)
    refine lv_iinc (v := v6 + 1) (lv' := [(6, .int (v6 + 1)), (7, .int t0), (0, .ref d.1), (1, .int v1), (2, .int v2), (3, .int v3), (4, .int v4), (5, .int v5)]) X.1 X.2.1 dX3_feed_112 hl (k := 7) rfl rfl (by decide) rfl (fun ls hl => ?_)
    refine lv_goto (tgt := 24) X.1 X.2.1 dX3_feed_115 (by decide) ?_
    cases h
    exact hr H locs ls I (lv_sub hl [2, 3, 4, 5, 6, 7, 0] rfl)
  unfold f_feed_L24 at h
  refine lv_iload X.1 X.2.1 dX3_feed_24 (lv_at hl 6 rfl) ?_
  refine lv_bipush (v := 20) X.1 X.2.1 dX3_feed_26 (by decide) ?_
  refine lv_icmp_ge (tgt := 118) X.1 X.2.1 dX3_feed_28 (by decide) (fun c2 => ?_) (fun c2 => ?_)
  · replace h := m_ifT c2 h
    cases h
    exact hr H locs ls I (lv_sub hl [0] rfl)
  · replace h := m_ifF c2 h
    refine lv_iload X.1 X.2.1 dX3_feed_31 (lv_at hl 6 rfl) ?_
    refine lv_iconst (v := 4) X.1 X.2.1 dX3_feed_33 (by decide) ?_
    refine lv_icmp_ge (tgt := 41) X.1 X.2.1 dX3_feed_34 (by decide) (fun c3 => ?_) (fun c3 => ?_)
    · replace h := m_ifT c3 h
      refine lv_iload X.1 X.2.1 dX3_feed_41 (lv_at hl 6 rfl) ?_
      refine lv_bipush (v := 8) X.1 X.2.1 dX3_feed_43 (by decide) ?_
      refine lv_icmp_ge (tgt := 52) X.1 X.2.1 dX3_feed_45 (by decide) (fun c4 => ?_) (fun c4 => ?_)
      · replace h := m_ifT c4 h
        refine lv_iload X.1 X.2.1 dX3_feed_52 (lv_at hl 6 rfl) ?_
        refine lv_bipush (v := 12) X.1 X.2.1 dX3_feed_54 (by decide) ?_
        refine lv_icmp_ge (tgt := 63) X.1 X.2.1 dX3_feed_56 (by decide) (fun c5 => ?_) (fun c5 => ?_)
        · replace h := m_ifT c5 h
          refine lv_iload X.1 X.2.1 dX3_feed_63 (lv_at hl 6 rfl) ?_
          refine lv_bipush (v := 16) X.1 X.2.1 dX3_feed_65 (by decide) ?_
          refine lv_icmp_ge (tgt := 75) X.1 X.2.1 dX3_feed_67 (by decide) (fun c6 => ?_) (fun c6 => ?_)
          · replace h := m_ifT c6 h
            refine lv_iload X.1 X.2.1 dX3_feed_75 (lv_at hl 5 rfl) ?_
            exact k77 st v6 v5 H locs ls h I (lv_sub hl [0, 1, 2, 3, 4, 5, 6] rfl)
          · replace h := m_ifF c6 h
            refine lv_iload X.1 X.2.1 dX3_feed_70 (lv_at hl 4 rfl) ?_
            refine lv_goto (tgt := 77) X.1 X.2.1 dX3_feed_72 (by decide) ?_
            exact k77 st v6 v4 H locs ls h I (lv_sub hl [0, 1, 2, 3, 4, 5, 6] rfl)
        · replace h := m_ifF c5 h
          refine lv_iload_n X.1 X.2.1 dX3_feed_59 rfl (lv_at hl 3 rfl) ?_
          refine lv_goto (tgt := 77) X.1 X.2.1 dX3_feed_60 (by decide) ?_
          exact k77 st v6 v3 H locs ls h I (lv_sub hl [0, 1, 2, 3, 4, 5, 6] rfl)
      · replace h := m_ifF c4 h
        refine lv_iload_n X.1 X.2.1 dX3_feed_48 rfl (lv_at hl 2 rfl) ?_
        refine lv_goto (tgt := 77) X.1 X.2.1 dX3_feed_49 (by decide) ?_
        exact k77 st v6 v2 H locs ls h I (lv_sub hl [0, 1, 2, 3, 4, 5, 6] rfl)
    · replace h := m_ifF c3 h
      refine lv_iload_n X.1 X.2.1 dX3_feed_37 rfl (lv_at hl 1 rfl) ?_
      refine lv_goto (tgt := 77) X.1 X.2.1 dX3_feed_38 (by decide) ?_
      exact k77 st v6 v1 H locs ls h I (lv_sub hl [0, 1, 2, 3, 4, 5, 6] rfl)
theorem w_feed (X : m_X D A d p s m c cX3_feed 8 args) (hA : ∀ q, s.heap.size ≤ q → A q) (hR : 0 ≤ R.frames ∧ 0 ≤ R.locals) (n : Nat) (st : MS) (p0 : Int32) (p1 : Int32) (p2 : Int32) (p3 : Int32) (p4 : Int32) (r : (Int32 × MS)) (h : f_feed n st p0 p1 p2 p3 p4 = some r) (hret : ∀ (H : Heap) (locs : List Loc) (ls : Array Slot) (pc : Nat), decode cX3_feed pc = .ok (.ireturn, 1) → m_I D A d s.heap r.2 H locs → W p l e R s m args below meth c H locs 0 0 Q (F0 m pc ls [.int r.1])) : ∀ (H : Heap) (locs : List Loc) (ls : Array Slot), m_I D A d s.heap st H locs → lv_has ls 8 [(0, .ref d.1), (1, .int p0), (2, .int p1), (3, .int p2), (4, .int p3), (5, .int p4)] → W p l e R s m args below meth c H locs 0 0 Q (F0 m 0 ls []) := by
  obtain ⟨r0, s0⟩ := r
  intro H locs ls I hl
  unfold f_feed at h
  refine lv_aload_n X.1 X.2.1 dX3_feed_0 rfl (lv_at hl 0 rfl) ?_
  refine lv_iconst (v := 0) X.1 X.2.1 dX3_feed_1 (by decide) ?_
  refine m_put X I 8 (by decide) rfl rfl rfl q1525 rfl (m_set8 d _ _) dX3_feed_2 (fun H locs I => ?_)
  refine lv_aload_n X.1 X.2.1 dX3_feed_5 rfl (lv_at hl 0 rfl) ?_
  refine m_get X I 10 (by decide) rfl rfl rfl q1527 (v := .int ((m_sg st 8 0).1 10)) rfl dX3_feed_6 ?_
  refine lv_bipush (v := 20) X.1 X.2.1 dX3_feed_9 (by decide) ?_
  refine lv_iadd X.1 X.2.1 dX3_feed_11 ?_
  refine lv_sipush (v := 900) X.1 X.2.1 dX3_feed_12 (by decide) ?_
  refine lv_icmp_le (tgt := 21) X.1 X.2.1 dX3_feed_15 (by decide) (fun c1 => ?_) (fun c1 => ?_)
  · replace h := m_ifT c1 h
    refine lv_iconst (v := 0) X.1 X.2.1 dX3_feed_21 (by decide) ?_
    refine lv_istore (lv' := [(6, .int 0), (0, .ref d.1), (1, .int p0), (2, .int p1), (3, .int p2), (4, .int p3), (5, .int p4)]) X.1 X.2.1 dX3_feed_22 hl (by decide) rfl (fun ls hl => ?_)
    obtain ⟨s10, e9, h⟩ := m_bS h
    refine wf_feed_L24 X hA hR n p0 p1 p2 p3 p4 _ _ e9 (fun H locs ls I hl => ?_) H locs ls I (lv_sub hl [1, 2, 3, 4, 5, 6, 0] rfl)
    refine lv_aload_n X.1 X.2.1 dX3_feed_118 rfl (lv_at hl 0 rfl) ?_
    refine m_get X I 10 (by decide) rfl rfl rfl q1527 (v := .int (s10.1 10)) rfl dX3_feed_119 ?_
    obtain ⟨rfl, rfl⟩ := m_e2 h
    exact hret H locs ls 122 dX3_feed_122 I
  · replace h := m_ifF c1 h
    refine lv_bipush (v := (-4)) X.1 X.2.1 dX3_feed_18 (by decide) ?_
    obtain ⟨rfl, rfl⟩ := m_e2 h
    exact hret H locs ls 20 dX3_feed_20 I
end S_feed
theorem c_feed (l : Launch) (n : Nat) (D : va_G) (d : MD) (st : MS) (p0 : Int32) (p1 : Int32) (p2 : Int32) (p3 : Int32) (p4 : Int32) (r : Int32) (st' : MS) (h : f_feed n st p0 p1 p2 p3 p4 = some (r, st')) : m_Mi l yX3_feed cX3_feed 8 (some .int) ({ frames := 0, cells := 0, slots := 0, locals := 0 } : Room) D d st [.ref d.1, .int p0, .int p1, .int p2, .int p3, .int p4] r st' :=
  m_startI (lvl := [(0, .ref d.1), (1, .int p0), (2, .int p1), (3, .int p2), (4, .int p3), (5, .int p4)]) (by decide) rfl (Nat.le_of_ble_eq_true rfl) rfl (fun p e s m args below meth c ls X hr hlk hl hA I => w_feed X hA ⟨Nat.le_refl _, Nat.le_refl _⟩ n st p0 p1 p2 p3 p4 (r, st') h (fun H locs ls pc hd I => m_iret X I hr hlk hd) _ _ ls I hl)

/-! method isIn(JJJ)Z -/
def f_isIn_J18 (n : Nat) (t0 : Int32) : Option (Int32) :=
  m_g (m_01 t0) (some t0)
def f_isIn_J17 (n : Nat) : Option (Int32) :=
  f_isIn_J18 n 0
def f_isIn (n : Nat) (p0 : Int64) (p1 : Int64) (p2 : Int64) : Option (Int32) :=
  m_if ((lg_cmp p0 p1 : Int32) < 0) (f_isIn_J17 n ) (m_if (0 < (lg_cmp p0 p2 : Int32)) (f_isIn_J17 n ) (f_isIn_J18 n 1))
theorem hd_isIn : yX3_isIn.cls = RX3 ∧ yX3_isIn.cls ≠ "java/lang/invoke/MethodHandle" ∧ yX3_isIn.cls ≠ "java/lang/invoke/VarHandle" ∧ (parseMethodDescriptor yX3_isIn.desc).map (fun d => d.parameters.length) = some 3 := by decide +kernel
section S_isIn
variable {p : Program} {l : Launch} {e : Env} {R : Room} {s : State} {m : MethodId} {args : Array Value} {below : List Frame} {meth : Method} {c : Code} {H : Heap} {locs : List Loc} {Q : State → Prop}
theorem w_isIn (X : CallFix p m c cX3_isIn 6 s args lw_all RX3) (hR : 0 ≤ R.frames ∧ 0 ≤ R.locals) (n : Nat) (p0 : Int64) (p1 : Int64) (p2 : Int64) (r : Int32) (h : f_isIn n p0 p1 p2 = some r) (hret : ∀ (ls : Array Slot) (pc : Nat), m_01 r = true → decode cX3_isIn pc = .ok (.ireturn, 1) → W p l e R s m args below meth c H locs 0 0 Q (F0 m pc ls [.int r])) : ∀ (ls : Array Slot), lv_has ls 6 [(0, .long p0), (2, .long p1), (4, .long p2)] → W p l e R s m args below meth c H locs 0 0 Q (F0 m 0 ls []) := by
  have k18 : ∀ (t0 : Int32) (ls : Array Slot), f_isIn_J18 n t0 = some r → lv_has ls 6 [] → W p l e R s m args below meth c H locs 0 0 Q (F0 m 18 ls [.int t0]) := by
    intro t0 ls h hl
    unfold f_isIn_J18 at h
    obtain ⟨g2, h⟩ := m_gS h
    obtain rfl := m_e1 h
    exact hret ls 18 g2 dX3_isIn_18
  have k17 : ∀  (ls : Array Slot), f_isIn_J17 n = some r → lv_has ls 6 [] → W p l e R s m args below meth c H locs 0 0 Q (F0 m 17 ls []) := by
    intro  ls h hl
    unfold f_isIn_J17 at h
    refine lv_iconst (v := 0) X.1 X.2.1 dX3_isIn_17 (by decide) ?_
    exact k18 0 ls h (lv_sub hl [] rfl)
  intro ls hl
  unfold f_isIn at h
  refine lv_lload_n X.1 X.2.1 dX3_isIn_0 rfl (lv_at hl 0 rfl) ?_
  refine lv_lload_n X.1 X.2.1 dX3_isIn_1 rfl (lv_at hl 1 rfl) ?_
  refine W.lcmp X.1 X.2.1 dX3_isIn_2 ?_
  refine lv_if_lt (tgt := 17) X.1 X.2.1 dX3_isIn_3 (by decide) (fun c1 => ?_) (fun c1 => ?_)
  · replace h := m_ifT c1 h
    exact k17  ls h (lv_sub hl [] rfl)
  · replace h := m_ifF c1 h
    refine lv_lload_n X.1 X.2.1 dX3_isIn_6 rfl (lv_at hl 0 rfl) ?_
    refine lv_lload X.1 X.2.1 dX3_isIn_7 (lv_at hl 2 rfl) ?_
    refine W.lcmp X.1 X.2.1 dX3_isIn_9 ?_
    refine lv_if_gt (tgt := 17) X.1 X.2.1 dX3_isIn_10 (by decide) (fun c3 => ?_) (fun c3 => ?_)
    · replace h := m_ifT c3 h
      exact k17  ls h (lv_sub hl [] rfl)
    · replace h := m_ifF c3 h
      refine lv_iconst (v := 1) X.1 X.2.1 dX3_isIn_13 (by decide) ?_
      refine lv_goto (tgt := 18) X.1 X.2.1 dX3_isIn_14 (by decide) ?_
      exact k18 1 ls h (lv_sub hl [] rfl)
end S_isIn
theorem c_isIn (l : Launch) (n : Nat) (p0 : Int64) (p1 : Int64) (p2 : Int64) (r : Int32) (h : f_isIn n p0 p1 p2 = some r) : m_Si l yX3_isIn cX3_isIn 6 (some .boolean) ({ frames := 0, cells := 0, slots := 0, locals := 0 } : Room) [.long p0, .long p1, .long p2] r :=
  m_startS (lvl := [(0, .long p0), (2, .long p1), (4, .long p2)]) (by decide) rfl (Nat.le_of_ble_eq_true rfl) rfl (fun p e s m args below meth c ls X hr hlk hl => w_isIn X ⟨Nat.le_refl _, Nat.le_refl _⟩ n p0 p1 p2 r h (fun ls pc g hd => m_szret X hr hlk g hd) ls hl)

/-! method peek()I -/
def f_peek_L0 (n : Nat) (st : MS) : Option (MS ⊕ MS) :=
  m_if ((st.1 11 : Int32) ≤ (st.1 12 : Int32)) (some (.inr st)) (m_g (m_in (st.1 12) 900) (m_if ((st.2.1 9 (st.1 12 : Int32).toNatClampNeg : Int32) = (32 : Int32)) (some (.inl (m_sg st 12 ((st.1 12) + 1)))) (some (.inr st))))
def f_peek_L0l (n : Nat) (x : MS) : Option MS := m_lp (fun (x : MS) => f_peek_L0 n x) n x
def f_peek_J66 (n : Nat) (st : MS) (t0 : Int32) : Option (Int32 × MS) :=
  some (t0, st)
def f_peek (n : Nat) (st : MS) : Option (Int32 × MS) :=
  m_b (f_peek_L0l n st) (fun s5 => m_if ((s5.1 11 : Int32) ≤ (s5.1 12 : Int32)) (f_peek_J66 n s5 ((-1))) (m_g (m_in (s5.1 12) 900) (f_peek_J66 n s5 ((s5.2.1 9 (s5.1 12 : Int32).toNatClampNeg) &&& 255))))
theorem hd_peek : yX3_peek.cls = RX3 ∧ yX3_peek.cls ≠ "java/lang/invoke/MethodHandle" ∧ yX3_peek.cls ≠ "java/lang/invoke/VarHandle" ∧ (parseMethodDescriptor yX3_peek.desc).map (fun d => d.parameters.length) = some 0 := by decide +kernel
section S_peek
variable {p : Program} {l : Launch} {e : Env} {R : Room} {s : State} {m : MethodId} {args : Array Value} {below : List Frame} {meth : Method} {c : Code} {Q : State → Prop} {D : va_G} {A : Nat → Prop} {d : MD}
theorem wf_peek_L0 (X : m_X D A d p s m c cX3_peek 1 args) (hA : ∀ q, s.heap.size ≤ q → A q) (hR : 0 ≤ R.frames ∧ 0 ≤ R.locals) (n : Nat)  (x : MS) (z : MS) (hz : f_peek_L0l n x = some z) (hE : (fun (z : MS) => ∀ (H : Heap) (locs : List Loc) (ls : Array Slot), m_I D A d s.heap z H locs → lv_has ls 1 [(0, .ref d.1)] → W p l e R s m args below meth c H locs 0 0 Q (F0 m 38 ls [])) z) : (fun (x : MS) => ∀ (H : Heap) (locs : List Loc) (ls : Array Slot), m_I D A d s.heap x H locs → lv_has ls 1 [(0, .ref d.1)] → W p l e R s m args below meth c H locs 0 0 Q (F0 m 0 ls [])) x := by
  refine m_lpW (G := fun (x : MS) => ∀ (H : Heap) (locs : List Loc) (ls : Array Slot), m_I D A d s.heap x H locs → lv_has ls 1 [(0, .ref d.1)] → W p l e R s m args below meth c H locs 0 0 Q (F0 m 0 ls [])) (E := fun (z : MS) => ∀ (H : Heap) (locs : List Loc) (ls : Array Slot), m_I D A d s.heap z H locs → lv_has ls 1 [(0, .ref d.1)] → W p l e R s m args below meth c H locs 0 0 Q (F0 m 38 ls [])) ?_ n x z hz hE
  rintro st r h hr H locs ls I hl
  replace h : f_peek_L0 n st = some r := h
  unfold f_peek_L0 at h
  refine lv_aload_n X.1 X.2.1 dX3_peek_0 rfl (lv_at hl 0 rfl) ?_
  refine m_get X I 12 (by decide) rfl rfl rfl q1529 (v := .int (st.1 12)) rfl dX3_peek_1 ?_
  refine lv_aload_n X.1 X.2.1 dX3_peek_4 rfl (lv_at hl 0 rfl) ?_
  refine m_get X I 11 (by decide) rfl rfl rfl q1528 (v := .int (st.1 11)) rfl dX3_peek_5 ?_
  refine lv_icmp_ge (tgt := 38) X.1 X.2.1 dX3_peek_8 (by decide) (fun c1 => ?_) (fun c1 => ?_)
  · replace h := m_ifT c1 h
    cases h
    exact hr H locs ls I (lv_sub hl [0] rfl)
  · replace h := m_ifF c1 h
    refine lv_aload_n X.1 X.2.1 dX3_peek_11 rfl (lv_at hl 0 rfl) ?_
    refine m_get X I 9 (by decide) rfl rfl rfl q1526 (v := .ref (d.2.1 9)) rfl dX3_peek_12 ?_
    refine lv_aload_n X.1 X.2.1 dX3_peek_15 rfl (lv_at hl 0 rfl) ?_
    refine m_get X I 12 (by decide) rfl rfl rfl q1529 (v := .int (st.1 12)) rfl dX3_peek_16 ?_
    obtain ⟨g2, h⟩ := m_gS h
    refine m_bald X I 6 (n := 900) (f := st.2.1 9) rfl g2 dX3_peek_19 ?_
    refine lv_bipush (v := 32) X.1 X.2.1 dX3_peek_20 (by decide) ?_
    refine lv_icmp_ne (tgt := 38) X.1 X.2.1 dX3_peek_22 (by decide) (fun c3 => ?_) (fun c3 => ?_)
    · replace h := m_ifF c3 h
      cases h
      exact hr H locs ls I (lv_sub hl [0] rfl)
    · replace h := m_ifT c3 h
      refine lv_aload_n X.1 X.2.1 dX3_peek_25 rfl (lv_at hl 0 rfl) ?_
      refine lv_dup X.1 X.2.1 dX3_peek_26 rfl ?_
      refine m_get X I 12 (by decide) rfl rfl rfl q1529 (v := .int (st.1 12)) rfl dX3_peek_27 ?_
      refine lv_iconst (v := 1) X.1 X.2.1 dX3_peek_30 (by decide) ?_
      refine lv_iadd X.1 X.2.1 dX3_peek_31 ?_
      refine m_put X I 12 (by decide) rfl rfl rfl q1529 rfl (m_set12 d _ _) dX3_peek_32 (fun H locs I => ?_)
      refine lv_goto (tgt := 0) X.1 X.2.1 dX3_peek_35 (by decide) ?_
      cases h
      exact hr H locs ls I (lv_sub hl [0] rfl)
theorem w_peek (X : m_X D A d p s m c cX3_peek 1 args) (hA : ∀ q, s.heap.size ≤ q → A q) (hR : 0 ≤ R.frames ∧ 0 ≤ R.locals) (n : Nat) (st : MS) (r : (Int32 × MS)) (h : f_peek n st = some r) (hret : ∀ (H : Heap) (locs : List Loc) (ls : Array Slot) (pc : Nat), decode cX3_peek pc = .ok (.ireturn, 1) → m_I D A d s.heap r.2 H locs → W p l e R s m args below meth c H locs 0 0 Q (F0 m pc ls [.int r.1])) : ∀ (H : Heap) (locs : List Loc) (ls : Array Slot), m_I D A d s.heap st H locs → lv_has ls 1 [(0, .ref d.1)] → W p l e R s m args below meth c H locs 0 0 Q (F0 m 0 ls []) := by
  obtain ⟨r0, s0⟩ := r
  have k66 : ∀ (st : MS) (t0 : Int32) (H : Heap) (locs : List Loc) (ls : Array Slot), f_peek_J66 n st t0 = some (r0, s0) → m_I D A d s.heap st H locs → lv_has ls 1 [] → W p l e R s m args below meth c H locs 0 0 Q (F0 m 66 ls [.int t0]) := by
    intro st t0 H locs ls h I hl
    unfold f_peek_J66 at h
    obtain ⟨rfl, rfl⟩ := m_e2 h
    exact hret H locs ls 66 dX3_peek_66 I
  intro H locs ls I hl
  unfold f_peek at h
  obtain ⟨s5, e4, h⟩ := m_bS h
  refine wf_peek_L0 X hA hR n  _ _ e4 (fun H locs ls I hl => ?_) H locs ls I (lv_sub hl [0] rfl)
  refine lv_aload_n X.1 X.2.1 dX3_peek_38 rfl (lv_at hl 0 rfl) ?_
  refine m_get X I 12 (by decide) rfl rfl rfl q1529 (v := .int (s5.1 12)) rfl dX3_peek_39 ?_
  refine lv_aload_n X.1 X.2.1 dX3_peek_42 rfl (lv_at hl 0 rfl) ?_
  refine m_get X I 11 (by decide) rfl rfl rfl q1528 (v := .int (s5.1 11)) rfl dX3_peek_43 ?_
  refine lv_icmp_ge (tgt := 65) X.1 X.2.1 dX3_peek_46 (by decide) (fun c6 => ?_) (fun c6 => ?_)
  · replace h := m_ifT c6 h
    refine lv_iconst (v := (-1)) X.1 X.2.1 dX3_peek_65 (by decide) ?_
    exact k66 s5 ((-1)) H locs ls h I (lv_sub hl [] rfl)
  · replace h := m_ifF c6 h
    refine lv_aload_n X.1 X.2.1 dX3_peek_49 rfl (lv_at hl 0 rfl) ?_
    refine m_get X I 9 (by decide) rfl rfl rfl q1526 (v := .ref (d.2.1 9)) rfl dX3_peek_50 ?_
    refine lv_aload_n X.1 X.2.1 dX3_peek_53 rfl (lv_at hl 0 rfl) ?_
    refine m_get X I 12 (by decide) rfl rfl rfl q1529 (v := .int (s5.1 12)) rfl dX3_peek_54 ?_
    obtain ⟨g7, h⟩ := m_gS h
    refine m_bald X I 6 (n := 900) (f := s5.2.1 9) rfl g7 dX3_peek_57 ?_
    refine lv_sipush (v := 255) X.1 X.2.1 dX3_peek_58 (by decide) ?_
    refine lv_iand X.1 X.2.1 dX3_peek_61 ?_
    refine lv_goto (tgt := 66) X.1 X.2.1 dX3_peek_62 (by decide) ?_
    exact k66 s5 ((s5.2.1 9 (s5.1 12 : Int32).toNatClampNeg) &&& 255) H locs ls h I (lv_sub hl [] rfl)
end S_peek
theorem c_peek (l : Launch) (n : Nat) (D : va_G) (d : MD) (st : MS) (r : Int32) (st' : MS) (h : f_peek n st = some (r, st')) : m_Mi l yX3_peek cX3_peek 1 (some .int) ({ frames := 0, cells := 0, slots := 0, locals := 0 } : Room) D d st [.ref d.1] r st' :=
  m_startI (lvl := [(0, .ref d.1)]) (by decide) rfl (Nat.le_of_ble_eq_true rfl) rfl (fun p e s m args below meth c ls X hr hlk hl hA I => w_peek X hA ⟨Nat.le_refl _, Nat.le_refl _⟩ n st (r, st') h (fun H locs ls pc hd I => m_iret X I hr hlk hd) _ _ ls I hl)

/-! method isLetter(I)Z -/
def f_isLetter (n : Nat) (p0 : Int32) : Option (Int32) :=
  m_b (f_isIn n p0.toInt64 97 122) (fun r2 => m_g (m_01 r2) (some r2))
theorem hd_isLetter : yX3_isLetter.cls = RX3 ∧ yX3_isLetter.cls ≠ "java/lang/invoke/MethodHandle" ∧ yX3_isLetter.cls ≠ "java/lang/invoke/VarHandle" ∧ (parseMethodDescriptor yX3_isLetter.desc).map (fun d => d.parameters.length) = some 1 := by decide +kernel
section S_isLetter
variable {p : Program} {l : Launch} {e : Env} {R : Room} {s : State} {m : MethodId} {args : Array Value} {below : List Frame} {meth : Method} {c : Code} {H : Heap} {locs : List Loc} {Q : State → Prop}
theorem w_isLetter (X : CallFix p m c cX3_isLetter 1 s args lw_all RX3) (hR : 1 ≤ R.frames ∧ 25 ≤ R.locals) (n : Nat) (p0 : Int32) (r : Int32) (h : f_isLetter n p0 = some r) (hret : ∀ (ls : Array Slot) (pc : Nat), m_01 r = true → decode cX3_isLetter pc = .ok (.ireturn, 1) → W p l e R s m args below meth c H locs 0 0 Q (F0 m pc ls [.int r])) : ∀ (ls : Array Slot), lv_has ls 1 [(0, .int p0)] → W p l e R s m args below meth c H locs 0 0 Q (F0 m 0 ls []) := by
  intro ls hl
  unfold f_isLetter at h
  refine lv_iload_n X.1 X.2.1 dX3_isLetter_0 rfl (lv_at hl 0 rfl) ?_
  refine lv_i2l X.1 X.2.1 dX3_isLetter_1 rfl ?_
  refine lv_ldc2 (v := 97) X.1 X.2.1 X.2.2.2.1 (X.2.2.2.2 _ q1641) dX3_isLetter_2 ?_
  refine lv_ldc2 (v := 122) X.1 X.2.1 X.2.2.2.1 (X.2.2.2.2 _ q1642) dX3_isLetter_5 ?_
  obtain ⟨r2, e1, h⟩ := m_bS h
  refine m_callS0 X hl.1 (As := [.long p0.toInt64, .long 97, .long 122]) (rest := []) (c_isIn l n p0.toInt64 97 122 _ e1) 3 q1623 q1624 q107 q1625 (hd_isIn).2 rfl rfl ⟨Nat.le_trans (Nat.le_of_ble_eq_true rfl) hR.1, Nat.le_trans (Nat.le_of_ble_eq_true rfl) hR.2⟩ ⟨rfl, rfl⟩ ⟨Nat.zero_le _, Nat.zero_le _⟩ (Nat.le_of_ble_eq_true rfl) dX3_isLetter_8 ?_
  obtain ⟨g3, h⟩ := m_gS h
  obtain rfl := m_e1 h
  exact hret ls 11 g3 dX3_isLetter_11
end S_isLetter
theorem c_isLetter (l : Launch) (n : Nat) (p0 : Int32) (r : Int32) (h : f_isLetter n p0 = some r) : m_Si l yX3_isLetter cX3_isLetter 1 (some .boolean) ({ frames := 1, cells := 0, slots := 0, locals := 25 } : Room) [.int p0] r :=
  m_startS (lvl := [(0, .int p0)]) (by decide) rfl (Nat.le_of_ble_eq_true rfl) rfl (fun p e s m args below meth c ls X hr hlk hl => w_isLetter X ⟨Nat.le_refl _, Nat.le_refl _⟩ n p0 r h (fun ls pc g hd => m_szret X hr hlk g hd) ls hl)

/-! method lettersHere()I -/
def f_lettersHere_L2 (n : Nat) (st : MS) (v1 : Int32) : Option (Int32 ⊕ Int32) :=
  m_if ((st.1 11 : Int32) ≤ ((st.1 12) + v1 : Int32)) (some (.inr v1)) (m_g (m_in ((st.1 12) + v1) 900) (m_b (f_isLetter n (st.2.1 9 ((st.1 12) + v1 : Int32).toNatClampNeg)) (fun r4 => m_if ((r4 : Int32) = 0) (some (.inr v1)) (some (.inl (v1 + 1))))))
def f_lettersHere_L2l (n : Nat) (st : MS) (x : Int32) : Option Int32 := m_lp (fun (x : Int32) => f_lettersHere_L2 n st x) n x
def f_lettersHere (n : Nat) (st : MS) : Option (Int32) :=
  m_b (f_lettersHere_L2l n st 0) (fun z7 => some z7)
theorem hd_lettersHere : yX3_lettersHere.cls = RX3 ∧ yX3_lettersHere.cls ≠ "java/lang/invoke/MethodHandle" ∧ yX3_lettersHere.cls ≠ "java/lang/invoke/VarHandle" ∧ (parseMethodDescriptor yX3_lettersHere.desc).map (fun d => d.parameters.length) = some 0 := by decide +kernel
section S_lettersHere
variable {p : Program} {l : Launch} {e : Env} {R : Room} {s : State} {m : MethodId} {args : Array Value} {below : List Frame} {meth : Method} {c : Code} {Q : State → Prop} {D : va_G} {A : Nat → Prop} {d : MD}
theorem wf_lettersHere_L2 (X : m_X D A d p s m c cX3_lettersHere 2 args) (hA : ∀ q, s.heap.size ≤ q → A q) (hR : 2 ≤ R.frames ∧ 45 ≤ R.locals) (n : Nat) (st : MS) (x : Int32) (z : Int32) (hz : f_lettersHere_L2l n st x = some z) (hE : (fun (z : Int32) => ∀ (H : Heap) (locs : List Loc) (ls : Array Slot), m_I D A d s.heap st H locs → lv_has ls 2 [(1, .int z)] → W p l e R s m args below meth c H locs 0 0 Q (F0 m 38 ls [])) z) : (fun (x : Int32) => ∀ (H : Heap) (locs : List Loc) (ls : Array Slot), m_I D A d s.heap st H locs → lv_has ls 2 [(0, .ref d.1), (1, .int x)] → W p l e R s m args below meth c H locs 0 0 Q (F0 m 2 ls [])) x := by
  refine m_lpW (G := fun (x : Int32) => ∀ (H : Heap) (locs : List Loc) (ls : Array Slot), m_I D A d s.heap st H locs → lv_has ls 2 [(0, .ref d.1), (1, .int x)] → W p l e R s m args below meth c H locs 0 0 Q (F0 m 2 ls [])) (E := fun (z : Int32) => ∀ (H : Heap) (locs : List Loc) (ls : Array Slot), m_I D A d s.heap st H locs → lv_has ls 2 [(1, .int z)] → W p l e R s m args below meth c H locs 0 0 Q (F0 m 38 ls [])) ?_ n x z hz hE
  rintro v1 r h hr H locs ls I hl
  replace h : f_lettersHere_L2 n st v1 = some r := h
  unfold f_lettersHere_L2 at h
  refine lv_aload_n X.1 X.2.1 dX3_lettersHere_2 rfl (lv_at hl 0 rfl) ?_
  refine m_get X I 12 (by decide) rfl rfl rfl q1529 (v := .int (st.1 12)) rfl dX3_lettersHere_3 ?_
  refine lv_iload_n X.1 X.2.1 dX3_lettersHere_6 rfl (lv_at hl 1 rfl) ?_
  refine lv_iadd X.1 X.2.1 dX3_lettersHere_7 ?_
  refine lv_aload_n X.1 X.2.1 dX3_lettersHere_8 rfl (lv_at hl 0 rfl) ?_
  refine m_get X I 11 (by decide) rfl rfl rfl q1528 (v := .int (st.1 11)) rfl dX3_lettersHere_9 ?_
  refine lv_icmp_ge (tgt := 38) X.1 X.2.1 dX3_lettersHere_12 (by decide) (fun c1 => ?_) (fun c1 => ?_)
  · replace h := m_ifT c1 h
    cases h
    exact hr H locs ls I (lv_sub hl [1] rfl)
  · replace h := m_ifF c1 h
    refine lv_aload_n X.1 X.2.1 dX3_lettersHere_15 rfl (lv_at hl 0 rfl) ?_
    refine m_get X I 9 (by decide) rfl rfl rfl q1526 (v := .ref (d.2.1 9)) rfl dX3_lettersHere_16 ?_
    refine lv_aload_n X.1 X.2.1 dX3_lettersHere_19 rfl (lv_at hl 0 rfl) ?_
    refine m_get X I 12 (by decide) rfl rfl rfl q1529 (v := .int (st.1 12)) rfl dX3_lettersHere_20 ?_
    refine lv_iload_n X.1 X.2.1 dX3_lettersHere_23 rfl (lv_at hl 1 rfl) ?_
    refine lv_iadd X.1 X.2.1 dX3_lettersHere_24 ?_
    obtain ⟨g2, h⟩ := m_gS h
    refine m_bald X I 6 (n := 900) (f := st.2.1 9) rfl g2 dX3_lettersHere_25 ?_
    obtain ⟨r4, e3, h⟩ := m_bS h
    refine m_callS X hl.1 (As := [.int (st.2.1 9 ((st.1 12) + v1 : Int32).toNatClampNeg)]) (rest := []) (c_isLetter l n (st.2.1 9 ((st.1 12) + v1 : Int32).toNatClampNeg) _ e3) 1 q1638 q1639 q107 q1640 (hd_isLetter).2 rfl rfl ⟨Nat.le_trans (Nat.le_of_ble_eq_true rfl) hR.1, Nat.le_trans (Nat.le_of_ble_eq_true rfl) hR.2⟩ ⟨rfl, rfl⟩ ⟨Nat.zero_le _, Nat.zero_le _⟩ (Nat.le_of_ble_eq_true rfl) dX3_lettersHere_26 ?_
    refine lv_if_eq (tgt := 38) X.1 X.2.1 dX3_lettersHere_29 (by decide) (fun c5 => ?_) (fun c5 => ?_)
    · replace h := m_ifT c5 h
      cases h
      exact hr H locs ls I (lv_sub hl [1] rfl)
    · replace h := m_ifF c5 h
      refine lv_iinc (v := v1 + 1) (lv' := [(1, .int (v1 + 1)), (0, .ref d.1)]) X.1 X.2.1 dX3_lettersHere_32 hl (k := 1) rfl rfl (by decide) rfl (fun ls hl => ?_)
      refine lv_goto (tgt := 2) X.1 X.2.1 dX3_lettersHere_35 (by decide) ?_
      cases h
      exact hr H locs ls I (lv_sub hl [1, 0] rfl)
theorem w_lettersHere (X : m_X D A d p s m c cX3_lettersHere 2 args) (hA : ∀ q, s.heap.size ≤ q → A q) (hR : 2 ≤ R.frames ∧ 45 ≤ R.locals) (n : Nat) (st : MS) (r : Int32) (h : f_lettersHere n st = some r) (hret : ∀ (H : Heap) (locs : List Loc) (ls : Array Slot) (pc : Nat), decode cX3_lettersHere pc = .ok (.ireturn, 1) → m_I D A d s.heap st H locs → W p l e R s m args below meth c H locs 0 0 Q (F0 m pc ls [.int r])) : ∀ (H : Heap) (locs : List Loc) (ls : Array Slot), m_I D A d s.heap st H locs → lv_has ls 2 [(0, .ref d.1)] → W p l e R s m args below meth c H locs 0 0 Q (F0 m 0 ls []) := by
  intro H locs ls I hl
  unfold f_lettersHere at h
  refine lv_iconst (v := 0) X.1 X.2.1 dX3_lettersHere_0 (by decide) ?_
  refine lv_istore_n (lv' := [(1, .int 0), (0, .ref d.1)]) X.1 X.2.1 dX3_lettersHere_1 rfl hl (by decide) rfl (fun ls hl => ?_)
  obtain ⟨z7, e6, h⟩ := m_bS h
  refine wf_lettersHere_L2 X hA hR n st _ _ e6 (fun H locs ls I hl => ?_) H locs ls I (lv_sub hl [1, 0] rfl)
  refine lv_iload_n X.1 X.2.1 dX3_lettersHere_38 rfl (lv_at hl 0 rfl) ?_
  obtain rfl := m_e1 h
  exact hret H locs ls 39 dX3_lettersHere_39 I
end S_lettersHere
theorem c_lettersHere (l : Launch) (n : Nat) (D : va_G) (d : MD) (st : MS) (r : Int32) (h : f_lettersHere n st = some r) : m_Mi l yX3_lettersHere cX3_lettersHere 2 (some .int) ({ frames := 2, cells := 0, slots := 0, locals := 45 } : Room) D d st [.ref d.1] r st :=
  m_startI (lvl := [(0, .ref d.1)]) (by decide) rfl (Nat.le_of_ble_eq_true rfl) rfl (fun p e s m args below meth c ls X hr hlk hl hA I => w_lettersHere X hA ⟨Nat.le_refl _, Nat.le_refl _⟩ n st r h (fun H locs ls pc hd I => m_iret X I hr hlk hd) _ _ ls I hl)

/-! method fails(II)V -/
def f_fails (n : Nat) (st : MS) (p0 : Int32) (p1 : Int32) : Option (MS) :=
  m_if ((st.1 13 : Int32) = 0) (some (m_sg (m_sg st 13 p0) 14 p1)) (some st)
theorem hd_fails : yX3_fails.cls = RX3 ∧ yX3_fails.cls ≠ "java/lang/invoke/MethodHandle" ∧ yX3_fails.cls ≠ "java/lang/invoke/VarHandle" ∧ (parseMethodDescriptor yX3_fails.desc).map (fun d => d.parameters.length) = some 2 := by decide +kernel
section S_fails
variable {p : Program} {l : Launch} {e : Env} {R : Room} {s : State} {m : MethodId} {args : Array Value} {below : List Frame} {meth : Method} {c : Code} {Q : State → Prop} {D : va_G} {A : Nat → Prop} {d : MD}
theorem w_fails (X : m_X D A d p s m c cX3_fails 3 args) (hA : ∀ q, s.heap.size ≤ q → A q) (hR : 0 ≤ R.frames ∧ 0 ≤ R.locals) (n : Nat) (st : MS) (p0 : Int32) (p1 : Int32) (r : MS) (h : f_fails n st p0 p1 = some r) (hret : ∀ (H : Heap) (locs : List Loc) (ls : Array Slot) (pc : Nat), decode cX3_fails pc = .ok (.return_, 1) → m_I D A d s.heap r H locs → W p l e R s m args below meth c H locs 0 0 Q (F0 m pc ls [])) : ∀ (H : Heap) (locs : List Loc) (ls : Array Slot), m_I D A d s.heap st H locs → lv_has ls 3 [(0, .ref d.1), (1, .int p0), (2, .int p1)] → W p l e R s m args below meth c H locs 0 0 Q (F0 m 0 ls []) := by
  intro H locs ls I hl
  unfold f_fails at h
  refine lv_aload_n X.1 X.2.1 dX3_fails_0 rfl (lv_at hl 0 rfl) ?_
  refine m_get X I 13 (by decide) rfl rfl rfl q1530 (v := .int (st.1 13)) rfl dX3_fails_1 ?_
  refine lv_if_eq (tgt := 8) X.1 X.2.1 dX3_fails_4 (by decide) (fun c1 => ?_) (fun c1 => ?_)
  · replace h := m_ifT c1 h
    refine lv_aload_n X.1 X.2.1 dX3_fails_8 rfl (lv_at hl 0 rfl) ?_
    refine lv_iload_n X.1 X.2.1 dX3_fails_9 rfl (lv_at hl 1 rfl) ?_
    refine m_put X I 13 (by decide) rfl rfl rfl q1530 rfl (m_set13 d _ _) dX3_fails_10 (fun H locs I => ?_)
    refine lv_aload_n X.1 X.2.1 dX3_fails_13 rfl (lv_at hl 0 rfl) ?_
    refine lv_iload_n X.1 X.2.1 dX3_fails_14 rfl (lv_at hl 2 rfl) ?_
    refine m_put X I 14 (by decide) rfl rfl rfl q1531 rfl (m_set14 d _ _) dX3_fails_15 (fun H locs I => ?_)
    obtain rfl := m_e1 h
    exact hret H locs ls 18 dX3_fails_18 I
  · replace h := m_ifF c1 h
    obtain rfl := m_e1 h
    exact hret H locs ls 7 dX3_fails_7 I
end S_fails
theorem c_fails (l : Launch) (n : Nat) (D : va_G) (d : MD) (st : MS) (p0 : Int32) (p1 : Int32) (st' : MS) (h : f_fails n st p0 p1 = some st') : m_Mv l yX3_fails cX3_fails 3 none ({ frames := 0, cells := 0, slots := 0, locals := 0 } : Room) D d st [.ref d.1, .int p0, .int p1] st' :=
  m_startV (lvl := [(0, .ref d.1), (1, .int p0), (2, .int p1)]) (by decide) rfl (Nat.le_of_ble_eq_true rfl) rfl (fun p e s m args below meth c ls X hr hlk hl hA I => w_fails X hA ⟨Nat.le_refl _, Nat.le_refl _⟩ n st p0 p1 st' h (fun H locs ls pc hd I => m_vret X I hr hlk hd) _ _ ls I hl)

/-! method isFull(I)Z -/
def f_isFull_J47 (n : Nat) (st : MS) (t0 : Int32) : Option (Int32) :=
  m_g (m_01 t0) (some t0)
def f_isFull_J46 (n : Nat) (st : MS) : Option (Int32) :=
  f_isFull_J47 n st 0
def f_isFull_J42 (n : Nat) (st : MS) : Option (Int32) :=
  f_isFull_J47 n st 1
def f_isFull_J26 (n : Nat) (st : MS) (v1 : Int32) : Option (Int32) :=
  m_if ((v1 : Int32) = (2 : Int32)) (m_g (m_in 0 266) (m_if ((st.2.1 0 (0 : Int32).toNatClampNeg : Int32) = (40 : Int32)) (f_isFull_J42 n st) (f_isFull_J46 n st))) (f_isFull_J46 n st)
def f_isFull_J13 (n : Nat) (st : MS) (v1 : Int32) : Option (Int32) :=
  m_if ((v1 : Int32) = (1 : Int32)) (m_if ((st.1 6 : Int32) = (4 : Int32)) (f_isFull_J42 n st) (f_isFull_J26 n st v1)) (f_isFull_J26 n st v1)
def f_isFull (n : Nat) (st : MS) (p0 : Int32) : Option (Int32) :=
  m_if ((p0 : Int32) = 0) (m_if ((st.1 5 : Int32) = (8 : Int32)) (f_isFull_J42 n st) (f_isFull_J13 n st p0)) (f_isFull_J13 n st p0)
theorem hd_isFull : yX3_isFull.cls = RX3 ∧ yX3_isFull.cls ≠ "java/lang/invoke/MethodHandle" ∧ yX3_isFull.cls ≠ "java/lang/invoke/VarHandle" ∧ (parseMethodDescriptor yX3_isFull.desc).map (fun d => d.parameters.length) = some 1 := by decide +kernel
section S_isFull
variable {p : Program} {l : Launch} {e : Env} {R : Room} {s : State} {m : MethodId} {args : Array Value} {below : List Frame} {meth : Method} {c : Code} {Q : State → Prop} {D : va_G} {A : Nat → Prop} {d : MD}
theorem w_isFull (X : m_X D A d p s m c cX3_isFull 2 args) (hA : ∀ q, s.heap.size ≤ q → A q) (hR : 0 ≤ R.frames ∧ 0 ≤ R.locals) (n : Nat) (st : MS) (p0 : Int32) (r : Int32) (h : f_isFull n st p0 = some r) (hret : ∀ (H : Heap) (locs : List Loc) (ls : Array Slot) (pc : Nat), m_01 r = true → decode cX3_isFull pc = .ok (.ireturn, 1) → m_I D A d s.heap st H locs → W p l e R s m args below meth c H locs 0 0 Q (F0 m pc ls [.int r])) : ∀ (H : Heap) (locs : List Loc) (ls : Array Slot), m_I D A d s.heap st H locs → lv_has ls 2 [(0, .ref d.1), (1, .int p0)] → W p l e R s m args below meth c H locs 0 0 Q (F0 m 0 ls []) := by
  have k47 : ∀ (t0 : Int32) (H : Heap) (locs : List Loc) (ls : Array Slot), f_isFull_J47 n st t0 = some r → m_I D A d s.heap st H locs → lv_has ls 2 [] → W p l e R s m args below meth c H locs 0 0 Q (F0 m 47 ls [.int t0]) := by
    intro t0 H locs ls h I hl
    unfold f_isFull_J47 at h
    obtain ⟨g4, h⟩ := m_gS h
    obtain rfl := m_e1 h
    exact hret H locs ls 47 g4 dX3_isFull_47 I
  have k46 : ∀  (H : Heap) (locs : List Loc) (ls : Array Slot), f_isFull_J46 n st = some r → m_I D A d s.heap st H locs → lv_has ls 2 [] → W p l e R s m args below meth c H locs 0 0 Q (F0 m 46 ls []) := by
    intro  H locs ls h I hl
    unfold f_isFull_J46 at h
    refine lv_iconst (v := 0) X.1 X.2.1 dX3_isFull_46 (by decide) ?_
    exact k47 0 H locs ls h I (lv_sub hl [] rfl)
  have k42 : ∀  (H : Heap) (locs : List Loc) (ls : Array Slot), f_isFull_J42 n st = some r → m_I D A d s.heap st H locs → lv_has ls 2 [] → W p l e R s m args below meth c H locs 0 0 Q (F0 m 42 ls []) := by
    intro  H locs ls h I hl
    unfold f_isFull_J42 at h
    refine lv_iconst (v := 1) X.1 X.2.1 dX3_isFull_42 (by decide) ?_
    refine lv_goto (tgt := 47) X.1 X.2.1 dX3_isFull_43 (by decide) ?_
    exact k47 1 H locs ls h I (lv_sub hl [] rfl)
  have k26 : ∀ (v1 : Int32) (H : Heap) (locs : List Loc) (ls : Array Slot), f_isFull_J26 n st v1 = some r → m_I D A d s.heap st H locs → lv_has ls 2 [(0, .ref d.1), (1, .int v1)] → W p l e R s m args below meth c H locs 0 0 Q (F0 m 26 ls []) := by
    intro v1 H locs ls h I hl
    unfold f_isFull_J26 at h
    refine lv_iload_n X.1 X.2.1 dX3_isFull_26 rfl (lv_at hl 1 rfl) ?_
    refine lv_iconst (v := 2) X.1 X.2.1 dX3_isFull_27 (by decide) ?_
    refine lv_icmp_ne (tgt := 46) X.1 X.2.1 dX3_isFull_28 (by decide) (fun c3 => ?_) (fun c3 => ?_)
    · replace h := m_ifF c3 h
      exact k46  H locs ls h I (lv_sub hl [] rfl)
    · replace h := m_ifT c3 h
      refine lv_aload_n X.1 X.2.1 dX3_isFull_31 rfl (lv_at hl 0 rfl) ?_
      refine m_get X I 0 (by decide) rfl rfl rfl q1517 (v := .ref (d.2.1 0)) rfl dX3_isFull_32 ?_
      refine lv_iconst (v := 0) X.1 X.2.1 dX3_isFull_35 (by decide) ?_
      obtain ⟨g5, h⟩ := m_gS h
      refine m_iald X I 1 (n := 266) (f := st.2.1 0) rfl g5 dX3_isFull_36 ?_
      refine lv_bipush (v := 40) X.1 X.2.1 dX3_isFull_37 (by decide) ?_
      refine lv_icmp_ne (tgt := 46) X.1 X.2.1 dX3_isFull_39 (by decide) (fun c6 => ?_) (fun c6 => ?_)
      · replace h := m_ifF c6 h
        exact k46  H locs ls h I (lv_sub hl [] rfl)
      · replace h := m_ifT c6 h
        exact k42  H locs ls h I (lv_sub hl [] rfl)
  have k13 : ∀ (v1 : Int32) (H : Heap) (locs : List Loc) (ls : Array Slot), f_isFull_J13 n st v1 = some r → m_I D A d s.heap st H locs → lv_has ls 2 [(0, .ref d.1), (1, .int v1)] → W p l e R s m args below meth c H locs 0 0 Q (F0 m 13 ls []) := by
    intro v1 H locs ls h I hl
    unfold f_isFull_J13 at h
    refine lv_iload_n X.1 X.2.1 dX3_isFull_13 rfl (lv_at hl 1 rfl) ?_
    refine lv_iconst (v := 1) X.1 X.2.1 dX3_isFull_14 (by decide) ?_
    refine lv_icmp_ne (tgt := 26) X.1 X.2.1 dX3_isFull_15 (by decide) (fun c2 => ?_) (fun c2 => ?_)
    · replace h := m_ifF c2 h
      exact k26 v1 H locs ls h I (lv_sub hl [0, 1] rfl)
    · replace h := m_ifT c2 h
      refine lv_aload_n X.1 X.2.1 dX3_isFull_18 rfl (lv_at hl 0 rfl) ?_
      refine m_get X I 6 (by decide) rfl rfl rfl q1523 (v := .int (st.1 6)) rfl dX3_isFull_19 ?_
      refine lv_iconst (v := 4) X.1 X.2.1 dX3_isFull_22 (by decide) ?_
      refine lv_icmp_eq (tgt := 42) X.1 X.2.1 dX3_isFull_23 (by decide) (fun c7 => ?_) (fun c7 => ?_)
      · replace h := m_ifT c7 h
        exact k42  H locs ls h I (lv_sub hl [] rfl)
      · replace h := m_ifF c7 h
        exact k26 v1 H locs ls h I (lv_sub hl [0, 1] rfl)
  intro H locs ls I hl
  unfold f_isFull at h
  refine lv_iload_n X.1 X.2.1 dX3_isFull_0 rfl (lv_at hl 1 rfl) ?_
  refine lv_if_ne (tgt := 13) X.1 X.2.1 dX3_isFull_1 (by decide) (fun c1 => ?_) (fun c1 => ?_)
  · replace h := m_ifF c1 h
    exact k13 p0 H locs ls h I (lv_sub hl [0, 1] rfl)
  · replace h := m_ifT c1 h
    refine lv_aload_n X.1 X.2.1 dX3_isFull_4 rfl (lv_at hl 0 rfl) ?_
    refine m_get X I 5 (by decide) rfl rfl rfl q1522 (v := .int (st.1 5)) rfl dX3_isFull_5 ?_
    refine lv_bipush (v := 8) X.1 X.2.1 dX3_isFull_8 (by decide) ?_
    refine lv_icmp_eq (tgt := 42) X.1 X.2.1 dX3_isFull_10 (by decide) (fun c8 => ?_) (fun c8 => ?_)
    · replace h := m_ifT c8 h
      exact k42  H locs ls h I (lv_sub hl [] rfl)
    · replace h := m_ifF c8 h
      exact k13 p0 H locs ls h I (lv_sub hl [0, 1] rfl)
end S_isFull
theorem c_isFull (l : Launch) (n : Nat) (D : va_G) (d : MD) (st : MS) (p0 : Int32) (r : Int32) (h : f_isFull n st p0 = some r) : m_Mi l yX3_isFull cX3_isFull 2 (some .boolean) ({ frames := 0, cells := 0, slots := 0, locals := 0 } : Room) D d st [.ref d.1, .int p0] r st :=
  m_startI (lvl := [(0, .ref d.1), (1, .int p0)]) (by decide) rfl (Nat.le_of_ble_eq_true rfl) rfl (fun p e s m args below meth c ls X hr hlk hl hA I => w_isFull X hA ⟨Nat.le_refl _, Nat.le_refl _⟩ n st p0 r h (fun H locs ls pc g hd I => m_zret X I hr hlk g hd) _ _ ls I hl)

/-! method find(JII)I -/
def f_find_L3 (n : Nat) (st : MS) (v1 : Int64) (v3 : Int32) (v4 : Int32) (v5 : Int32) : Option (Int32 ⊕ (Int32 ⊕ Unit)) :=
  m_if ((v4 : Int32) ≤ (v5 : Int32)) (some (.inr (.inr (())))) (m_g (m_in (v3 + v5) 12) (m_if ((lg_cmp (st.2.2 3 (v3 + v5 : Int32).toNatClampNeg) v1 : Int32) = 0) (some (.inr (.inl v5))) (some (.inl (v5 + 1)))))
def f_find_L3l (n : Nat) (st : MS) (v1 : Int64) (v3 : Int32) (v4 : Int32) (x : Int32) : Option (Int32 ⊕ Unit) := m_lp (fun (x : Int32) => f_find_L3 n st v1 v3 v4 x) n x
def f_find (n : Nat) (st : MS) (p0 : Int64) (p1 : Int32) (p2 : Int32) : Option (Int32) :=
  m_b (f_find_L3l n st p0 p1 p2 0) (fun y7 => m_s y7 (fun z5 => some z5) (fun _ => some ((-1))))
theorem hd_find : yX3_find.cls = RX3 ∧ yX3_find.cls ≠ "java/lang/invoke/MethodHandle" ∧ yX3_find.cls ≠ "java/lang/invoke/VarHandle" ∧ (parseMethodDescriptor yX3_find.desc).map (fun d => d.parameters.length) = some 3 := by decide +kernel
section S_find
variable {p : Program} {l : Launch} {e : Env} {R : Room} {s : State} {m : MethodId} {args : Array Value} {below : List Frame} {meth : Method} {c : Code} {Q : State → Prop} {D : va_G} {A : Nat → Prop} {d : MD}
theorem wf_find_L3 (X : m_X D A d p s m c cX3_find 6 args) (hA : ∀ q, s.heap.size ≤ q → A q) (hR : 0 ≤ R.frames ∧ 0 ≤ R.locals) (n : Nat) (st : MS) (v1 : Int64) (v3 : Int32) (v4 : Int32) (x : Int32) (z : (Int32 ⊕ Unit)) (hz : f_find_L3l n st v1 v3 v4 x = some z) (hE : (m_e (fun (z : Int32) => ∀ (H : Heap) (locs : List Loc) (ls : Array Slot), m_I D A d s.heap st H locs → lv_has ls 6 [(5, .int z)] → W p l e R s m args below meth c H locs 0 0 Q (F0 m 24 ls [])) (fun (z : Unit) => ∀ (H : Heap) (locs : List Loc) (ls : Array Slot), m_I D A d s.heap st H locs → lv_has ls 6 [] → W p l e R s m args below meth c H locs 0 0 Q (F0 m 33 ls []))) z) : (fun (x : Int32) => ∀ (H : Heap) (locs : List Loc) (ls : Array Slot), m_I D A d s.heap st H locs → lv_has ls 6 [(0, .ref d.1), (1, .long v1), (3, .int v3), (4, .int v4), (5, .int x)] → W p l e R s m args below meth c H locs 0 0 Q (F0 m 3 ls [])) x := by
  refine m_lpW (G := fun (x : Int32) => ∀ (H : Heap) (locs : List Loc) (ls : Array Slot), m_I D A d s.heap st H locs → lv_has ls 6 [(0, .ref d.1), (1, .long v1), (3, .int v3), (4, .int v4), (5, .int x)] → W p l e R s m args below meth c H locs 0 0 Q (F0 m 3 ls [])) (E := m_e (fun (z : Int32) => ∀ (H : Heap) (locs : List Loc) (ls : Array Slot), m_I D A d s.heap st H locs → lv_has ls 6 [(5, .int z)] → W p l e R s m args below meth c H locs 0 0 Q (F0 m 24 ls [])) (fun (z : Unit) => ∀ (H : Heap) (locs : List Loc) (ls : Array Slot), m_I D A d s.heap st H locs → lv_has ls 6 [] → W p l e R s m args below meth c H locs 0 0 Q (F0 m 33 ls []))) ?_ n x z hz hE
  rintro v5 r h hr H locs ls I hl
  replace h : f_find_L3 n st v1 v3 v4 v5 = some r := h
  unfold f_find_L3 at h
  refine lv_iload X.1 X.2.1 dX3_find_3 (lv_at hl 4 rfl) ?_
  refine lv_iload X.1 X.2.1 dX3_find_5 (lv_at hl 3 rfl) ?_
  refine lv_icmp_ge (tgt := 33) X.1 X.2.1 dX3_find_7 (by decide) (fun c1 => ?_) (fun c1 => ?_)
  · replace h := m_ifT c1 h
    cases h
    exact hr H locs ls I (lv_sub hl [] rfl)
  · replace h := m_ifF c1 h
    refine lv_aload_n X.1 X.2.1 dX3_find_10 rfl (lv_at hl 0 rfl) ?_
    refine m_get X I 3 (by decide) rfl rfl rfl q1520 (v := .ref (d.2.1 3)) rfl dX3_find_11 ?_
    refine lv_iload_n X.1 X.2.1 dX3_find_14 rfl (lv_at hl 2 rfl) ?_
    refine lv_iload X.1 X.2.1 dX3_find_15 (lv_at hl 4 rfl) ?_
    refine lv_iadd X.1 X.2.1 dX3_find_17 ?_
    obtain ⟨g2, h⟩ := m_gS h
    refine m_lald X I 4 (n := 12) (f := st.2.2 3) rfl g2 dX3_find_18 ?_
    refine lv_lload_n X.1 X.2.1 dX3_find_19 rfl (lv_at hl 1 rfl) ?_
    refine W.lcmp X.1 X.2.1 dX3_find_20 ?_
    refine lv_if_ne (tgt := 27) X.1 X.2.1 dX3_find_21 (by decide) (fun c3 => ?_) (fun c3 => ?_)
    · replace h := m_ifF c3 h
      refine lv_iinc (v := v5 + 1) (lv' := [(5, .int (v5 + 1)), (0, .ref d.1), (1, .long v1), (3, .int v3), (4, .int v4)]) X.1 X.2.1 dX3_find_27 hl (k := 4) rfl rfl (by decide) rfl (fun ls hl => ?_)
      refine lv_goto (tgt := 3) X.1 X.2.1 dX3_find_30 (by decide) ?_
      cases h
      exact hr H locs ls I (lv_sub hl [1, 2, 3, 4, 0] rfl)
    · replace h := m_ifT c3 h
      cases h
      exact hr H locs ls I (lv_sub hl [4] rfl)
theorem w_find (X : m_X D A d p s m c cX3_find 6 args) (hA : ∀ q, s.heap.size ≤ q → A q) (hR : 0 ≤ R.frames ∧ 0 ≤ R.locals) (n : Nat) (st : MS) (p0 : Int64) (p1 : Int32) (p2 : Int32) (r : Int32) (h : f_find n st p0 p1 p2 = some r) (hret : ∀ (H : Heap) (locs : List Loc) (ls : Array Slot) (pc : Nat), decode cX3_find pc = .ok (.ireturn, 1) → m_I D A d s.heap st H locs → W p l e R s m args below meth c H locs 0 0 Q (F0 m pc ls [.int r])) : ∀ (H : Heap) (locs : List Loc) (ls : Array Slot), m_I D A d s.heap st H locs → lv_has ls 6 [(0, .ref d.1), (1, .long p0), (3, .int p1), (4, .int p2)] → W p l e R s m args below meth c H locs 0 0 Q (F0 m 0 ls []) := by
  intro H locs ls I hl
  unfold f_find at h
  refine lv_iconst (v := 0) X.1 X.2.1 dX3_find_0 (by decide) ?_
  refine lv_istore (lv' := [(5, .int 0), (0, .ref d.1), (1, .long p0), (3, .int p1), (4, .int p2)]) X.1 X.2.1 dX3_find_1 hl (by decide) rfl (fun ls hl => ?_)
  obtain ⟨z5 | _, e4, h⟩ := m_bS h
  · replace h := m_sL h
    refine wf_find_L3 X hA hR n st p0 p1 p2 _ _ e4 (fun H locs ls I hl => ?_) H locs ls I (lv_sub hl [1, 2, 3, 4, 0] rfl)
    refine lv_iload X.1 X.2.1 dX3_find_24 (lv_at hl 0 rfl) ?_
    obtain rfl := m_e1 h
    exact hret H locs ls 26 dX3_find_26 I
  · replace h := m_sR h
    refine wf_find_L3 X hA hR n st p0 p1 p2 _ _ e4 (fun H locs ls I hl => ?_) H locs ls I (lv_sub hl [1, 2, 3, 4, 0] rfl)
    refine lv_iconst (v := (-1)) X.1 X.2.1 dX3_find_33 (by decide) ?_
    obtain rfl := m_e1 h
    exact hret H locs ls 34 dX3_find_34 I
end S_find
theorem c_find (l : Launch) (n : Nat) (D : va_G) (d : MD) (st : MS) (p0 : Int64) (p1 : Int32) (p2 : Int32) (r : Int32) (h : f_find n st p0 p1 p2 = some r) : m_Mi l yX3_find cX3_find 6 (some .int) ({ frames := 0, cells := 0, slots := 0, locals := 0 } : Room) D d st [.ref d.1, .long p0, .int p1, .int p2] r st :=
  m_startI (lvl := [(0, .ref d.1), (1, .long p0), (3, .int p1), (4, .int p2)]) (by decide) rfl (Nat.le_of_ble_eq_true rfl) rfl (fun p e s m args below meth c ls X hr hlk hl hA I => w_find X hA ⟨Nat.le_refl _, Nat.le_refl _⟩ n st p0 p1 p2 r h (fun H locs ls pc hd I => m_iret X I hr hlk hd) _ _ ls I hl)

/-! method isDigit(I)Z -/
def f_isDigit (n : Nat) (p0 : Int32) : Option (Int32) :=
  m_b (f_isIn n p0.toInt64 48 57) (fun r2 => m_g (m_01 r2) (some r2))
theorem hd_isDigit : yX3_isDigit.cls = RX3 ∧ yX3_isDigit.cls ≠ "java/lang/invoke/MethodHandle" ∧ yX3_isDigit.cls ≠ "java/lang/invoke/VarHandle" ∧ (parseMethodDescriptor yX3_isDigit.desc).map (fun d => d.parameters.length) = some 1 := by decide +kernel
section S_isDigit
variable {p : Program} {l : Launch} {e : Env} {R : Room} {s : State} {m : MethodId} {args : Array Value} {below : List Frame} {meth : Method} {c : Code} {H : Heap} {locs : List Loc} {Q : State → Prop}
theorem w_isDigit (X : CallFix p m c cX3_isDigit 1 s args lw_all RX3) (hR : 1 ≤ R.frames ∧ 25 ≤ R.locals) (n : Nat) (p0 : Int32) (r : Int32) (h : f_isDigit n p0 = some r) (hret : ∀ (ls : Array Slot) (pc : Nat), m_01 r = true → decode cX3_isDigit pc = .ok (.ireturn, 1) → W p l e R s m args below meth c H locs 0 0 Q (F0 m pc ls [.int r])) : ∀ (ls : Array Slot), lv_has ls 1 [(0, .int p0)] → W p l e R s m args below meth c H locs 0 0 Q (F0 m 0 ls []) := by
  intro ls hl
  unfold f_isDigit at h
  refine lv_iload_n X.1 X.2.1 dX3_isDigit_0 rfl (lv_at hl 0 rfl) ?_
  refine lv_i2l X.1 X.2.1 dX3_isDigit_1 rfl ?_
  refine lv_ldc2 (v := 48) X.1 X.2.1 X.2.2.2.1 (X.2.2.2.2 _ q1681) dX3_isDigit_2 ?_
  refine lv_ldc2 (v := 57) X.1 X.2.1 X.2.2.2.1 (X.2.2.2.2 _ q1682) dX3_isDigit_5 ?_
  obtain ⟨r2, e1, h⟩ := m_bS h
  refine m_callS0 X hl.1 (As := [.long p0.toInt64, .long 48, .long 57]) (rest := []) (c_isIn l n p0.toInt64 48 57 _ e1) 3 q1623 q1624 q107 q1625 (hd_isIn).2 rfl rfl ⟨Nat.le_trans (Nat.le_of_ble_eq_true rfl) hR.1, Nat.le_trans (Nat.le_of_ble_eq_true rfl) hR.2⟩ ⟨rfl, rfl⟩ ⟨Nat.zero_le _, Nat.zero_le _⟩ (Nat.le_of_ble_eq_true rfl) dX3_isDigit_8 ?_
  obtain ⟨g3, h⟩ := m_gS h
  obtain rfl := m_e1 h
  exact hret ls 11 g3 dX3_isDigit_11
end S_isDigit
theorem c_isDigit (l : Launch) (n : Nat) (p0 : Int32) (r : Int32) (h : f_isDigit n p0 = some r) : m_Si l yX3_isDigit cX3_isDigit 1 (some .boolean) ({ frames := 1, cells := 0, slots := 0, locals := 25 } : Room) [.int p0] r :=
  m_startS (lvl := [(0, .int p0)]) (by decide) rfl (Nat.le_of_ble_eq_true rfl) rfl (fun p e s m args below meth c ls X hr hlk hl => w_isDigit X ⟨Nat.le_refl _, Nat.le_refl _⟩ n p0 r h (fun ls pc g hd => m_szret X hr hlk g hd) ls hl)

/-! method tradeAt(II)I -/
def f_tradeAt (n : Nat) (st : MS) (p0 : Int32) (p1 : Int32) : Option (Int32) :=
  m_g (m_in ((2 + (5 * p0)) + p1) 266) (some (st.2.1 0 ((2 + (5 * p0)) + p1 : Int32).toNatClampNeg))
theorem hd_tradeAt : yX3_tradeAt.cls = RX3 ∧ yX3_tradeAt.cls ≠ "java/lang/invoke/MethodHandle" ∧ yX3_tradeAt.cls ≠ "java/lang/invoke/VarHandle" ∧ (parseMethodDescriptor yX3_tradeAt.desc).map (fun d => d.parameters.length) = some 2 := by decide +kernel
section S_tradeAt
variable {p : Program} {l : Launch} {e : Env} {R : Room} {s : State} {m : MethodId} {args : Array Value} {below : List Frame} {meth : Method} {c : Code} {Q : State → Prop} {D : va_G} {A : Nat → Prop} {d : MD}
theorem w_tradeAt (X : m_X D A d p s m c cX3_tradeAt 3 args) (hA : ∀ q, s.heap.size ≤ q → A q) (hR : 0 ≤ R.frames ∧ 0 ≤ R.locals) (n : Nat) (st : MS) (p0 : Int32) (p1 : Int32) (r : Int32) (h : f_tradeAt n st p0 p1 = some r) (hret : ∀ (H : Heap) (locs : List Loc) (ls : Array Slot) (pc : Nat), decode cX3_tradeAt pc = .ok (.ireturn, 1) → m_I D A d s.heap st H locs → W p l e R s m args below meth c H locs 0 0 Q (F0 m pc ls [.int r])) : ∀ (H : Heap) (locs : List Loc) (ls : Array Slot), m_I D A d s.heap st H locs → lv_has ls 3 [(0, .ref d.1), (1, .int p0), (2, .int p1)] → W p l e R s m args below meth c H locs 0 0 Q (F0 m 0 ls []) := by
  intro H locs ls I hl
  unfold f_tradeAt at h
  refine lv_aload_n X.1 X.2.1 dX3_tradeAt_0 rfl (lv_at hl 0 rfl) ?_
  refine m_get X I 0 (by decide) rfl rfl rfl q1517 (v := .ref (d.2.1 0)) rfl dX3_tradeAt_1 ?_
  refine lv_iconst (v := 2) X.1 X.2.1 dX3_tradeAt_4 (by decide) ?_
  refine lv_iconst (v := 5) X.1 X.2.1 dX3_tradeAt_5 (by decide) ?_
  refine lv_iload_n X.1 X.2.1 dX3_tradeAt_6 rfl (lv_at hl 1 rfl) ?_
  refine lv_imul X.1 X.2.1 dX3_tradeAt_7 ?_
  refine lv_iadd X.1 X.2.1 dX3_tradeAt_8 ?_
  refine lv_iload_n X.1 X.2.1 dX3_tradeAt_9 rfl (lv_at hl 2 rfl) ?_
  refine lv_iadd X.1 X.2.1 dX3_tradeAt_10 ?_
  obtain ⟨g1, h⟩ := m_gS h
  refine m_iald X I 1 (n := 266) (f := st.2.1 0) rfl g1 dX3_tradeAt_11 ?_
  obtain rfl := m_e1 h
  exact hret H locs ls 12 dX3_tradeAt_12 I
end S_tradeAt
theorem c_tradeAt (l : Launch) (n : Nat) (D : va_G) (d : MD) (st : MS) (p0 : Int32) (p1 : Int32) (r : Int32) (h : f_tradeAt n st p0 p1 = some r) : m_Mi l yX3_tradeAt cX3_tradeAt 3 (some .int) ({ frames := 0, cells := 0, slots := 0, locals := 0 } : Room) D d st [.ref d.1, .int p0, .int p1] r st :=
  m_startI (lvl := [(0, .ref d.1), (1, .int p0), (2, .int p1)]) (by decide) rfl (Nat.le_of_ble_eq_true rfl) rfl (fun p e s m args below meth c ls X hr hlk hl hA I => w_tradeAt X hA ⟨Nat.le_refl _, Nat.le_refl _⟩ n st p0 p1 r h (fun H locs ls pc hd I => m_iret X I hr hlk hd) _ _ ls I hl)

/-! method adds(IIII)V -/
def f_adds (n : Nat) (st : MS) (p0 : Int32) (p1 : Int32) (p2 : Int32) (p3 : Int32) : Option (MS) :=
  m_g (m_in 0 266) (m_g (m_in (2 + (5 * (st.2.1 0 (0 : Int32).toNatClampNeg))) 266) (m_g (m_in ((2 + (5 * (st.2.1 0 (0 : Int32).toNatClampNeg))) + 1) 266) (m_g (m_in ((2 + (5 * (st.2.1 0 (0 : Int32).toNatClampNeg))) + 2) 266) (m_g (m_in ((2 + (5 * (st.2.1 0 (0 : Int32).toNatClampNeg))) + 3) 266) (m_g (m_in ((2 + (5 * (st.2.1 0 (0 : Int32).toNatClampNeg))) + 4) 266) (m_g (m_in 0 266) (m_g (m_in 0 266) (some (m_sa (m_sa (m_sa (m_sa (m_sa (m_sa st 0 (2 + (5 * (st.2.1 0 (0 : Int32).toNatClampNeg)) : Int32).toNatClampNeg p0) 0 ((2 + (5 * (st.2.1 0 (0 : Int32).toNatClampNeg))) + 1 : Int32).toNatClampNeg p1) 0 ((2 + (5 * (st.2.1 0 (0 : Int32).toNatClampNeg))) + 2 : Int32).toNatClampNeg p2) 0 ((2 + (5 * (st.2.1 0 (0 : Int32).toNatClampNeg))) + 3 : Int32).toNatClampNeg p3) 0 ((2 + (5 * (st.2.1 0 (0 : Int32).toNatClampNeg))) + 4 : Int32).toNatClampNeg 0) 0 (0 : Int32).toNatClampNeg (((m_sa (m_sa (m_sa (m_sa (m_sa st 0 (2 + (5 * (st.2.1 0 (0 : Int32).toNatClampNeg)) : Int32).toNatClampNeg p0) 0 ((2 + (5 * (st.2.1 0 (0 : Int32).toNatClampNeg))) + 1 : Int32).toNatClampNeg p1) 0 ((2 + (5 * (st.2.1 0 (0 : Int32).toNatClampNeg))) + 2 : Int32).toNatClampNeg p2) 0 ((2 + (5 * (st.2.1 0 (0 : Int32).toNatClampNeg))) + 3 : Int32).toNatClampNeg p3) 0 ((2 + (5 * (st.2.1 0 (0 : Int32).toNatClampNeg))) + 4 : Int32).toNatClampNeg 0).2.1 0 (0 : Int32).toNatClampNeg) + 1))))))))))
theorem hd_adds : yX3_adds.cls = RX3 ∧ yX3_adds.cls ≠ "java/lang/invoke/MethodHandle" ∧ yX3_adds.cls ≠ "java/lang/invoke/VarHandle" ∧ (parseMethodDescriptor yX3_adds.desc).map (fun d => d.parameters.length) = some 4 := by decide +kernel
section S_adds
variable {p : Program} {l : Launch} {e : Env} {R : Room} {s : State} {m : MethodId} {args : Array Value} {below : List Frame} {meth : Method} {c : Code} {Q : State → Prop} {D : va_G} {A : Nat → Prop} {d : MD}
theorem w_adds (X : m_X D A d p s m c cX3_adds 6 args) (hA : ∀ q, s.heap.size ≤ q → A q) (hR : 0 ≤ R.frames ∧ 0 ≤ R.locals) (n : Nat) (st : MS) (p0 : Int32) (p1 : Int32) (p2 : Int32) (p3 : Int32) (r : MS) (h : f_adds n st p0 p1 p2 p3 = some r) (hret : ∀ (H : Heap) (locs : List Loc) (ls : Array Slot) (pc : Nat), decode cX3_adds pc = .ok (.return_, 1) → m_I D A d s.heap r H locs → W p l e R s m args below meth c H locs 0 0 Q (F0 m pc ls [])) : ∀ (H : Heap) (locs : List Loc) (ls : Array Slot), m_I D A d s.heap st H locs → lv_has ls 6 [(0, .ref d.1), (1, .int p0), (2, .int p1), (3, .int p2), (4, .int p3)] → W p l e R s m args below meth c H locs 0 0 Q (F0 m 0 ls []) := by
  intro H locs ls I hl
  unfold f_adds at h
  refine lv_iconst (v := 2) X.1 X.2.1 dX3_adds_0 (by decide) ?_
  refine lv_iconst (v := 5) X.1 X.2.1 dX3_adds_1 (by decide) ?_
  refine lv_aload_n X.1 X.2.1 dX3_adds_2 rfl (lv_at hl 0 rfl) ?_
  refine m_get X I 0 (by decide) rfl rfl rfl q1517 (v := .ref (d.2.1 0)) rfl dX3_adds_3 ?_
  refine lv_iconst (v := 0) X.1 X.2.1 dX3_adds_6 (by decide) ?_
  obtain ⟨g1, h⟩ := m_gS h
  refine m_iald X I 1 (n := 266) (f := st.2.1 0) rfl g1 dX3_adds_7 ?_
  refine lv_imul X.1 X.2.1 dX3_adds_8 ?_
  refine lv_iadd X.1 X.2.1 dX3_adds_9 ?_
  refine lv_istore (lv' := [(5, .int (2 + (5 * (st.2.1 0 (0 : Int32).toNatClampNeg)))), (0, .ref d.1), (1, .int p0), (2, .int p1), (3, .int p2), (4, .int p3)]) X.1 X.2.1 dX3_adds_10 hl (by decide) rfl (fun ls hl => ?_)
  refine lv_aload_n X.1 X.2.1 dX3_adds_12 rfl (lv_at hl 1 rfl) ?_
  refine m_get X I 0 (by decide) rfl rfl rfl q1517 (v := .ref (d.2.1 0)) rfl dX3_adds_13 ?_
  refine lv_iload X.1 X.2.1 dX3_adds_16 (lv_at hl 0 rfl) ?_
  refine lv_iload_n X.1 X.2.1 dX3_adds_18 rfl (lv_at hl 2 rfl) ?_
  obtain ⟨g2, h⟩ := m_gS h
  refine m_iast X I 1 (n := 266) (f := st.2.1 0) rfl (m_st0 d _ _ _) g2 dX3_adds_19 (fun H locs I => ?_)
  refine lv_aload_n X.1 X.2.1 dX3_adds_20 rfl (lv_at hl 1 rfl) ?_
  refine m_get X I 0 (by decide) rfl rfl rfl q1517 (v := .ref (d.2.1 0)) rfl dX3_adds_21 ?_
  refine lv_iload X.1 X.2.1 dX3_adds_24 (lv_at hl 0 rfl) ?_
  refine lv_iconst (v := 1) X.1 X.2.1 dX3_adds_26 (by decide) ?_
  refine lv_iadd X.1 X.2.1 dX3_adds_27 ?_
  refine lv_iload_n X.1 X.2.1 dX3_adds_28 rfl (lv_at hl 3 rfl) ?_
  obtain ⟨g3, h⟩ := m_gS h
  refine m_iast X I 1 (n := 266) (f := (m_sa st 0 (2 + (5 * (st.2.1 0 (0 : Int32).toNatClampNeg)) : Int32).toNatClampNeg p0).2.1 0) rfl (m_st0 d _ _ _) g3 dX3_adds_29 (fun H locs I => ?_)
  refine lv_aload_n X.1 X.2.1 dX3_adds_30 rfl (lv_at hl 1 rfl) ?_
  refine m_get X I 0 (by decide) rfl rfl rfl q1517 (v := .ref (d.2.1 0)) rfl dX3_adds_31 ?_
  refine lv_iload X.1 X.2.1 dX3_adds_34 (lv_at hl 0 rfl) ?_
  refine lv_iconst (v := 2) X.1 X.2.1 dX3_adds_36 (by decide) ?_
  refine lv_iadd X.1 X.2.1 dX3_adds_37 ?_
  refine lv_iload_n X.1 X.2.1 dX3_adds_38 rfl (lv_at hl 4 rfl) ?_
  obtain ⟨g4, h⟩ := m_gS h
  refine m_iast X I 1 (n := 266) (f := (m_sa (m_sa st 0 (2 + (5 * (st.2.1 0 (0 : Int32).toNatClampNeg)) : Int32).toNatClampNeg p0) 0 ((2 + (5 * (st.2.1 0 (0 : Int32).toNatClampNeg))) + 1 : Int32).toNatClampNeg p1).2.1 0) rfl (m_st0 d _ _ _) g4 dX3_adds_39 (fun H locs I => ?_)
  refine lv_aload_n X.1 X.2.1 dX3_adds_40 rfl (lv_at hl 1 rfl) ?_
  refine m_get X I 0 (by decide) rfl rfl rfl q1517 (v := .ref (d.2.1 0)) rfl dX3_adds_41 ?_
  refine lv_iload X.1 X.2.1 dX3_adds_44 (lv_at hl 0 rfl) ?_
  refine lv_iconst (v := 3) X.1 X.2.1 dX3_adds_46 (by decide) ?_
  refine lv_iadd X.1 X.2.1 dX3_adds_47 ?_
  refine lv_iload X.1 X.2.1 dX3_adds_48 (lv_at hl 5 rfl) ?_
  obtain ⟨g5, h⟩ := m_gS h
  refine m_iast X I 1 (n := 266) (f := (m_sa (m_sa (m_sa st 0 (2 + (5 * (st.2.1 0 (0 : Int32).toNatClampNeg)) : Int32).toNatClampNeg p0) 0 ((2 + (5 * (st.2.1 0 (0 : Int32).toNatClampNeg))) + 1 : Int32).toNatClampNeg p1) 0 ((2 + (5 * (st.2.1 0 (0 : Int32).toNatClampNeg))) + 2 : Int32).toNatClampNeg p2).2.1 0) rfl (m_st0 d _ _ _) g5 dX3_adds_50 (fun H locs I => ?_)
  refine lv_aload_n X.1 X.2.1 dX3_adds_51 rfl (lv_at hl 1 rfl) ?_
  refine m_get X I 0 (by decide) rfl rfl rfl q1517 (v := .ref (d.2.1 0)) rfl dX3_adds_52 ?_
  refine lv_iload X.1 X.2.1 dX3_adds_55 (lv_at hl 0 rfl) ?_
  refine lv_iconst (v := 4) X.1 X.2.1 dX3_adds_57 (by decide) ?_
  refine lv_iadd X.1 X.2.1 dX3_adds_58 ?_
  refine lv_iconst (v := 0) X.1 X.2.1 dX3_adds_59 (by decide) ?_
  obtain ⟨g6, h⟩ := m_gS h
  refine m_iast X I 1 (n := 266) (f := (m_sa (m_sa (m_sa (m_sa st 0 (2 + (5 * (st.2.1 0 (0 : Int32).toNatClampNeg)) : Int32).toNatClampNeg p0) 0 ((2 + (5 * (st.2.1 0 (0 : Int32).toNatClampNeg))) + 1 : Int32).toNatClampNeg p1) 0 ((2 + (5 * (st.2.1 0 (0 : Int32).toNatClampNeg))) + 2 : Int32).toNatClampNeg p2) 0 ((2 + (5 * (st.2.1 0 (0 : Int32).toNatClampNeg))) + 3 : Int32).toNatClampNeg p3).2.1 0) rfl (m_st0 d _ _ _) g6 dX3_adds_60 (fun H locs I => ?_)
  refine lv_aload_n X.1 X.2.1 dX3_adds_61 rfl (lv_at hl 1 rfl) ?_
  refine m_get X I 0 (by decide) rfl rfl rfl q1517 (v := .ref (d.2.1 0)) rfl dX3_adds_62 ?_
  refine lv_iconst (v := 0) X.1 X.2.1 dX3_adds_65 (by decide) ?_
  refine lv_dup2_11 X.1 X.2.1 dX3_adds_66 rfl rfl ?_
  obtain ⟨g7, h⟩ := m_gS h
  refine m_iald X I 1 (n := 266) (f := (m_sa (m_sa (m_sa (m_sa (m_sa st 0 (2 + (5 * (st.2.1 0 (0 : Int32).toNatClampNeg)) : Int32).toNatClampNeg p0) 0 ((2 + (5 * (st.2.1 0 (0 : Int32).toNatClampNeg))) + 1 : Int32).toNatClampNeg p1) 0 ((2 + (5 * (st.2.1 0 (0 : Int32).toNatClampNeg))) + 2 : Int32).toNatClampNeg p2) 0 ((2 + (5 * (st.2.1 0 (0 : Int32).toNatClampNeg))) + 3 : Int32).toNatClampNeg p3) 0 ((2 + (5 * (st.2.1 0 (0 : Int32).toNatClampNeg))) + 4 : Int32).toNatClampNeg 0).2.1 0) rfl g7 dX3_adds_67 ?_
  refine lv_iconst (v := 1) X.1 X.2.1 dX3_adds_68 (by decide) ?_
  refine lv_iadd X.1 X.2.1 dX3_adds_69 ?_
  obtain ⟨g8, h⟩ := m_gS h
  refine m_iast X I 1 (n := 266) (f := (m_sa (m_sa (m_sa (m_sa (m_sa st 0 (2 + (5 * (st.2.1 0 (0 : Int32).toNatClampNeg)) : Int32).toNatClampNeg p0) 0 ((2 + (5 * (st.2.1 0 (0 : Int32).toNatClampNeg))) + 1 : Int32).toNatClampNeg p1) 0 ((2 + (5 * (st.2.1 0 (0 : Int32).toNatClampNeg))) + 2 : Int32).toNatClampNeg p2) 0 ((2 + (5 * (st.2.1 0 (0 : Int32).toNatClampNeg))) + 3 : Int32).toNatClampNeg p3) 0 ((2 + (5 * (st.2.1 0 (0 : Int32).toNatClampNeg))) + 4 : Int32).toNatClampNeg 0).2.1 0) rfl (m_st0 d _ _ _) g8 dX3_adds_70 (fun H locs I => ?_)
  obtain rfl := m_e1 h
  exact hret H locs ls 71 dX3_adds_71 I
end S_adds
theorem c_adds (l : Launch) (n : Nat) (D : va_G) (d : MD) (st : MS) (p0 : Int32) (p1 : Int32) (p2 : Int32) (p3 : Int32) (st' : MS) (h : f_adds n st p0 p1 p2 p3 = some st') : m_Mv l yX3_adds cX3_adds 6 none ({ frames := 0, cells := 0, slots := 0, locals := 0 } : Room) D d st [.ref d.1, .int p0, .int p1, .int p2, .int p3] st' :=
  m_startV (lvl := [(0, .ref d.1), (1, .int p0), (2, .int p1), (3, .int p2), (4, .int p3)]) (by decide) rfl (Nat.le_of_ble_eq_true rfl) rfl (fun p e s m args below meth c ls X hr hlk hl hA I => w_adds X hA ⟨Nat.le_refl _, Nat.le_refl _⟩ n st p0 p1 p2 p3 st' h (fun H locs ls pc hd I => m_vret X I hr hlk hd) _ _ ls I hl)

/-! method fault(I)I -/
def f_fault_J29 (n : Nat) (st : MS) (t0 : Int32) : Option (Int32 × MS) :=
  some (t0, st)
def f_fault (n : Nat) (st : MS) (p0 : Int32) : Option (Int32 × MS) :=
  m_if ((p0 : Int32) = 0) (f_fault_J29 n (m_sg st 8 0) ((m_sg st 8 0).1 13)) (m_if ((p0 : Int32) = (1 : Int32)) (f_fault_J29 n (m_sg st 8 0) ((m_sg st 8 0).1 14)) (f_fault_J29 n (m_sg st 8 0) ((-1))))
theorem hd_fault : yX3_fault.cls = RX3 ∧ yX3_fault.cls ≠ "java/lang/invoke/MethodHandle" ∧ yX3_fault.cls ≠ "java/lang/invoke/VarHandle" ∧ (parseMethodDescriptor yX3_fault.desc).map (fun d => d.parameters.length) = some 1 := by decide +kernel
section S_fault
variable {p : Program} {l : Launch} {e : Env} {R : Room} {s : State} {m : MethodId} {args : Array Value} {below : List Frame} {meth : Method} {c : Code} {Q : State → Prop} {D : va_G} {A : Nat → Prop} {d : MD}
theorem w_fault (X : m_X D A d p s m c cX3_fault 2 args) (hA : ∀ q, s.heap.size ≤ q → A q) (hR : 0 ≤ R.frames ∧ 0 ≤ R.locals) (n : Nat) (st : MS) (p0 : Int32) (r : (Int32 × MS)) (h : f_fault n st p0 = some r) (hret : ∀ (H : Heap) (locs : List Loc) (ls : Array Slot) (pc : Nat), decode cX3_fault pc = .ok (.ireturn, 1) → m_I D A d s.heap r.2 H locs → W p l e R s m args below meth c H locs 0 0 Q (F0 m pc ls [.int r.1])) : ∀ (H : Heap) (locs : List Loc) (ls : Array Slot), m_I D A d s.heap st H locs → lv_has ls 2 [(0, .ref d.1), (1, .int p0)] → W p l e R s m args below meth c H locs 0 0 Q (F0 m 0 ls []) := by
  obtain ⟨r0, s0⟩ := r
  have k29 : ∀ (st : MS) (t0 : Int32) (H : Heap) (locs : List Loc) (ls : Array Slot), f_fault_J29 n st t0 = some (r0, s0) → m_I D A d s.heap st H locs → lv_has ls 2 [] → W p l e R s m args below meth c H locs 0 0 Q (F0 m 29 ls [.int t0]) := by
    intro st t0 H locs ls h I hl
    unfold f_fault_J29 at h
    obtain ⟨rfl, rfl⟩ := m_e2 h
    exact hret H locs ls 29 dX3_fault_29 I
  intro H locs ls I hl
  unfold f_fault at h
  refine lv_aload_n X.1 X.2.1 dX3_fault_0 rfl (lv_at hl 0 rfl) ?_
  refine lv_iconst (v := 0) X.1 X.2.1 dX3_fault_1 (by decide) ?_
  refine m_put X I 8 (by decide) rfl rfl rfl q1525 rfl (m_set8 d _ _) dX3_fault_2 (fun H locs I => ?_)
  refine lv_iload_n X.1 X.2.1 dX3_fault_5 rfl (lv_at hl 1 rfl) ?_
  refine lv_if_ne (tgt := 16) X.1 X.2.1 dX3_fault_6 (by decide) (fun c1 => ?_) (fun c1 => ?_)
  · replace h := m_ifF c1 h
    refine lv_iload_n X.1 X.2.1 dX3_fault_16 rfl (lv_at hl 1 rfl) ?_
    refine lv_iconst (v := 1) X.1 X.2.1 dX3_fault_17 (by decide) ?_
    refine lv_icmp_ne (tgt := 28) X.1 X.2.1 dX3_fault_18 (by decide) (fun c2 => ?_) (fun c2 => ?_)
    · replace h := m_ifF c2 h
      refine lv_iconst (v := (-1)) X.1 X.2.1 dX3_fault_28 (by decide) ?_
      exact k29 (m_sg st 8 0) ((-1)) H locs ls h I (lv_sub hl [] rfl)
    · replace h := m_ifT c2 h
      refine lv_aload_n X.1 X.2.1 dX3_fault_21 rfl (lv_at hl 0 rfl) ?_
      refine m_get X I 14 (by decide) rfl rfl rfl q1531 (v := .int ((m_sg st 8 0).1 14)) rfl dX3_fault_22 ?_
      refine lv_goto (tgt := 29) X.1 X.2.1 dX3_fault_25 (by decide) ?_
      exact k29 (m_sg st 8 0) ((m_sg st 8 0).1 14) H locs ls h I (lv_sub hl [] rfl)
  · replace h := m_ifT c1 h
    refine lv_aload_n X.1 X.2.1 dX3_fault_9 rfl (lv_at hl 0 rfl) ?_
    refine m_get X I 13 (by decide) rfl rfl rfl q1530 (v := .int ((m_sg st 8 0).1 13)) rfl dX3_fault_10 ?_
    refine lv_goto (tgt := 29) X.1 X.2.1 dX3_fault_13 (by decide) ?_
    exact k29 (m_sg st 8 0) ((m_sg st 8 0).1 13) H locs ls h I (lv_sub hl [] rfl)
end S_fault
theorem c_fault (l : Launch) (n : Nat) (D : va_G) (d : MD) (st : MS) (p0 : Int32) (r : Int32) (st' : MS) (h : f_fault n st p0 = some (r, st')) : m_Mi l yX3_fault cX3_fault 2 (some .int) ({ frames := 0, cells := 0, slots := 0, locals := 0 } : Room) D d st [.ref d.1, .int p0] r st' :=
  m_startI (lvl := [(0, .ref d.1), (1, .int p0)]) (by decide) rfl (Nat.le_of_ble_eq_true rfl) rfl (fun p e s m args below meth c ls X hr hlk hl hA I => w_fault X hA ⟨Nat.le_refl _, Nat.le_refl _⟩ n st p0 (r, st') h (fun H locs ls pc hd I => m_iret X I hr hlk hd) _ _ ls I hl)

/-! method isParty(I)Z -/
def f_isParty (n : Nat) (st : MS) (p0 : Int32) : Option (Int32) :=
  m_b (f_isIn n p0.toInt64 0 (((st.1 5) - 1 : Int32).toInt64)) (fun r2 => m_g (m_01 r2) (some r2))
theorem hd_isParty : yX3_isParty.cls = RX3 ∧ yX3_isParty.cls ≠ "java/lang/invoke/MethodHandle" ∧ yX3_isParty.cls ≠ "java/lang/invoke/VarHandle" ∧ (parseMethodDescriptor yX3_isParty.desc).map (fun d => d.parameters.length) = some 1 := by decide +kernel
section S_isParty
variable {p : Program} {l : Launch} {e : Env} {R : Room} {s : State} {m : MethodId} {args : Array Value} {below : List Frame} {meth : Method} {c : Code} {Q : State → Prop} {D : va_G} {A : Nat → Prop} {d : MD}
theorem w_isParty (X : m_X D A d p s m c cX3_isParty 2 args) (hA : ∀ q, s.heap.size ≤ q → A q) (hR : 1 ≤ R.frames ∧ 25 ≤ R.locals) (n : Nat) (st : MS) (p0 : Int32) (r : Int32) (h : f_isParty n st p0 = some r) (hret : ∀ (H : Heap) (locs : List Loc) (ls : Array Slot) (pc : Nat), m_01 r = true → decode cX3_isParty pc = .ok (.ireturn, 1) → m_I D A d s.heap st H locs → W p l e R s m args below meth c H locs 0 0 Q (F0 m pc ls [.int r])) : ∀ (H : Heap) (locs : List Loc) (ls : Array Slot), m_I D A d s.heap st H locs → lv_has ls 2 [(0, .ref d.1), (1, .int p0)] → W p l e R s m args below meth c H locs 0 0 Q (F0 m 0 ls []) := by
  intro H locs ls I hl
  unfold f_isParty at h
  refine lv_iload_n X.1 X.2.1 dX3_isParty_0 rfl (lv_at hl 1 rfl) ?_
  refine lv_i2l X.1 X.2.1 dX3_isParty_1 rfl ?_
  refine lv_lconst (v := 0) X.1 X.2.1 dX3_isParty_2 (by decide) ?_
  refine lv_aload_n X.1 X.2.1 dX3_isParty_3 rfl (lv_at hl 0 rfl) ?_
  refine m_get X I 5 (by decide) rfl rfl rfl q1522 (v := .int (st.1 5)) rfl dX3_isParty_4 ?_
  refine lv_iconst (v := 1) X.1 X.2.1 dX3_isParty_7 (by decide) ?_
  refine lv_isub X.1 X.2.1 dX3_isParty_8 ?_
  refine lv_i2l X.1 X.2.1 dX3_isParty_9 rfl ?_
  obtain ⟨r2, e1, h⟩ := m_bS h
  refine m_callS X hl.1 (As := [.long p0.toInt64, .long 0, .long (((st.1 5) - 1 : Int32).toInt64)]) (rest := []) (c_isIn l n p0.toInt64 0 (((st.1 5) - 1 : Int32).toInt64) _ e1) 3 q1623 q1624 q107 q1625 (hd_isIn).2 rfl rfl ⟨Nat.le_trans (Nat.le_of_ble_eq_true rfl) hR.1, Nat.le_trans (Nat.le_of_ble_eq_true rfl) hR.2⟩ ⟨rfl, rfl⟩ ⟨Nat.zero_le _, Nat.zero_le _⟩ (Nat.le_of_ble_eq_true rfl) dX3_isParty_10 ?_
  obtain ⟨g3, h⟩ := m_gS h
  obtain rfl := m_e1 h
  exact hret H locs ls 13 g3 dX3_isParty_13 I
end S_isParty
theorem c_isParty (l : Launch) (n : Nat) (D : va_G) (d : MD) (st : MS) (p0 : Int32) (r : Int32) (h : f_isParty n st p0 = some r) : m_Mi l yX3_isParty cX3_isParty 2 (some .boolean) ({ frames := 1, cells := 0, slots := 0, locals := 25 } : Room) D d st [.ref d.1, .int p0] r st :=
  m_startI (lvl := [(0, .ref d.1), (1, .int p0)]) (by decide) rfl (Nat.le_of_ble_eq_true rfl) rfl (fun p e s m args below meth c ls X hr hlk hl hA I => w_isParty X hA ⟨Nat.le_refl _, Nat.le_refl _⟩ n st p0 r h (fun H locs ls pc g hd I => m_zret X I hr hlk g hd) _ _ ls I hl)

/-! method isKind(I)Z -/
def f_isKind (n : Nat) (st : MS) (p0 : Int32) : Option (Int32) :=
  m_b (f_isIn n p0.toInt64 0 (((st.1 6) - 1 : Int32).toInt64)) (fun r2 => m_g (m_01 r2) (some r2))
theorem hd_isKind : yX3_isKind.cls = RX3 ∧ yX3_isKind.cls ≠ "java/lang/invoke/MethodHandle" ∧ yX3_isKind.cls ≠ "java/lang/invoke/VarHandle" ∧ (parseMethodDescriptor yX3_isKind.desc).map (fun d => d.parameters.length) = some 1 := by decide +kernel
section S_isKind
variable {p : Program} {l : Launch} {e : Env} {R : Room} {s : State} {m : MethodId} {args : Array Value} {below : List Frame} {meth : Method} {c : Code} {Q : State → Prop} {D : va_G} {A : Nat → Prop} {d : MD}
theorem w_isKind (X : m_X D A d p s m c cX3_isKind 2 args) (hA : ∀ q, s.heap.size ≤ q → A q) (hR : 1 ≤ R.frames ∧ 25 ≤ R.locals) (n : Nat) (st : MS) (p0 : Int32) (r : Int32) (h : f_isKind n st p0 = some r) (hret : ∀ (H : Heap) (locs : List Loc) (ls : Array Slot) (pc : Nat), m_01 r = true → decode cX3_isKind pc = .ok (.ireturn, 1) → m_I D A d s.heap st H locs → W p l e R s m args below meth c H locs 0 0 Q (F0 m pc ls [.int r])) : ∀ (H : Heap) (locs : List Loc) (ls : Array Slot), m_I D A d s.heap st H locs → lv_has ls 2 [(0, .ref d.1), (1, .int p0)] → W p l e R s m args below meth c H locs 0 0 Q (F0 m 0 ls []) := by
  intro H locs ls I hl
  unfold f_isKind at h
  refine lv_iload_n X.1 X.2.1 dX3_isKind_0 rfl (lv_at hl 1 rfl) ?_
  refine lv_i2l X.1 X.2.1 dX3_isKind_1 rfl ?_
  refine lv_lconst (v := 0) X.1 X.2.1 dX3_isKind_2 (by decide) ?_
  refine lv_aload_n X.1 X.2.1 dX3_isKind_3 rfl (lv_at hl 0 rfl) ?_
  refine m_get X I 6 (by decide) rfl rfl rfl q1523 (v := .int (st.1 6)) rfl dX3_isKind_4 ?_
  refine lv_iconst (v := 1) X.1 X.2.1 dX3_isKind_7 (by decide) ?_
  refine lv_isub X.1 X.2.1 dX3_isKind_8 ?_
  refine lv_i2l X.1 X.2.1 dX3_isKind_9 rfl ?_
  obtain ⟨r2, e1, h⟩ := m_bS h
  refine m_callS X hl.1 (As := [.long p0.toInt64, .long 0, .long (((st.1 6) - 1 : Int32).toInt64)]) (rest := []) (c_isIn l n p0.toInt64 0 (((st.1 6) - 1 : Int32).toInt64) _ e1) 3 q1623 q1624 q107 q1625 (hd_isIn).2 rfl rfl ⟨Nat.le_trans (Nat.le_of_ble_eq_true rfl) hR.1, Nat.le_trans (Nat.le_of_ble_eq_true rfl) hR.2⟩ ⟨rfl, rfl⟩ ⟨Nat.zero_le _, Nat.zero_le _⟩ (Nat.le_of_ble_eq_true rfl) dX3_isKind_10 ?_
  obtain ⟨g3, h⟩ := m_gS h
  obtain rfl := m_e1 h
  exact hret H locs ls 13 g3 dX3_isKind_13 I
end S_isKind
theorem c_isKind (l : Launch) (n : Nat) (D : va_G) (d : MD) (st : MS) (p0 : Int32) (r : Int32) (h : f_isKind n st p0 = some r) : m_Mi l yX3_isKind cX3_isKind 2 (some .boolean) ({ frames := 1, cells := 0, slots := 0, locals := 25 } : Room) D d st [.ref d.1, .int p0] r st :=
  m_startI (lvl := [(0, .ref d.1), (1, .int p0)]) (by decide) rfl (Nat.le_of_ble_eq_true rfl) rfl (fun p e s m args below meth c ls X hr hlk hl hA I => w_isKind X hA ⟨Nat.le_refl _, Nat.le_refl _⟩ n st p0 r h (fun H locs ls pc g hd I => m_zret X I hr hlk g hd) _ _ ls I hl)

/-! method remembers()V -/
def f_remembers_L52 (n : Nat) (v1 : Int32) (st : MS) : Option ((Int32 × MS) ⊕ MS) :=
  m_if ((266 : Int32) ≤ (v1 : Int32)) (some (.inr st)) (m_g (m_in v1 266) (m_g (m_in ((266 * (st.1 7)) + v1) 2660) (some (.inl ((v1 + 1, m_sa st 2 ((266 * (st.1 7)) + v1 : Int32).toNatClampNeg (st.2.1 0 (v1 : Int32).toNatClampNeg)))))))
def f_remembers_L52l (n : Nat) (x : (Int32 × MS)) : Option MS := m_lp (fun (x : (Int32 × MS)) => f_remembers_L52 n x.1 x.2) n x
def f_remembers_L11 (n : Nat) (v1 : Int32) (st : MS) : Option ((Int32 × MS) ⊕ MS) :=
  m_if ((2394 : Int32) ≤ (v1 : Int32)) (some (.inr st)) (m_g (m_in (v1 + 266) 2660) (m_g (m_in v1 2660) (some (.inl ((v1 + 1, m_sa st 2 (v1 : Int32).toNatClampNeg (st.2.1 2 (v1 + 266 : Int32).toNatClampNeg)))))))
def f_remembers_L11l (n : Nat) (x : (Int32 × MS)) : Option MS := m_lp (fun (x : (Int32 × MS)) => f_remembers_L11 n x.1 x.2) n x
def f_remembers_J50 (n : Nat) (st : MS) : Option (MS) :=
  m_b (f_remembers_L52l n ((0, st))) (fun s6 => some (m_sg s6 7 ((s6.1 7) + 1)))
def f_remembers (n : Nat) (st : MS) : Option (MS) :=
  m_if ((st.1 7 : Int32) = (10 : Int32)) (m_b (f_remembers_L11l n ((0, st))) (fun s11 => f_remembers_J50 n (m_sg s11 7 ((s11.1 7) - 1)))) (f_remembers_J50 n st)
theorem hd_remembers : yX3_remembers.cls = RX3 ∧ yX3_remembers.cls ≠ "java/lang/invoke/MethodHandle" ∧ yX3_remembers.cls ≠ "java/lang/invoke/VarHandle" ∧ (parseMethodDescriptor yX3_remembers.desc).map (fun d => d.parameters.length) = some 0 := by decide +kernel
section S_remembers
variable {p : Program} {l : Launch} {e : Env} {R : Room} {s : State} {m : MethodId} {args : Array Value} {below : List Frame} {meth : Method} {c : Code} {Q : State → Prop} {D : va_G} {A : Nat → Prop} {d : MD}
theorem wf_remembers_L52 (X : m_X D A d p s m c cX3_remembers 2 args) (hA : ∀ q, s.heap.size ≤ q → A q) (hR : 0 ≤ R.frames ∧ 0 ≤ R.locals) (n : Nat)  (x : (Int32 × MS)) (z : MS) (hz : f_remembers_L52l n x = some z) (hE : (fun (z : MS) => ∀ (H : Heap) (locs : List Loc) (ls : Array Slot), m_I D A d s.heap z H locs → lv_has ls 2 [(0, .ref d.1)] → W p l e R s m args below meth c H locs 0 0 Q (F0 m 86 ls [])) z) : (fun (x : (Int32 × MS)) => ∀ (H : Heap) (locs : List Loc) (ls : Array Slot), m_I D A d s.heap x.2 H locs → lv_has ls 2 [(0, .ref d.1), (1, .int x.1)] → W p l e R s m args below meth c H locs 0 0 Q (F0 m 52 ls [])) x := by
  refine m_lpW (G := fun (x : (Int32 × MS)) => ∀ (H : Heap) (locs : List Loc) (ls : Array Slot), m_I D A d s.heap x.2 H locs → lv_has ls 2 [(0, .ref d.1), (1, .int x.1)] → W p l e R s m args below meth c H locs 0 0 Q (F0 m 52 ls [])) (E := fun (z : MS) => ∀ (H : Heap) (locs : List Loc) (ls : Array Slot), m_I D A d s.heap z H locs → lv_has ls 2 [(0, .ref d.1)] → W p l e R s m args below meth c H locs 0 0 Q (F0 m 86 ls [])) ?_ n x z hz hE
  rintro ⟨v1, st⟩ r h hr H locs ls I hl
  replace h : f_remembers_L52 n v1 st = some r := h
  unfold f_remembers_L52 at h
  refine lv_iload_n X.1 X.2.1 dX3_remembers_52 rfl (lv_at hl 1 rfl) ?_
  refine lv_sipush (v := 266) X.1 X.2.1 dX3_remembers_53 (by decide) ?_
  refine lv_icmp_ge (tgt := 86) X.1 X.2.1 dX3_remembers_56 (by decide) (fun c2 => ?_) (fun c2 => ?_)
  · replace h := m_ifT c2 h
    cases h
    exact hr H locs ls I (lv_sub hl [0] rfl)
  · replace h := m_ifF c2 h
    refine lv_aload_n X.1 X.2.1 dX3_remembers_59 rfl (lv_at hl 0 rfl) ?_
    refine m_get X I 2 (by decide) rfl rfl rfl q1519 (v := .ref (d.2.1 2)) rfl dX3_remembers_60 ?_
    refine lv_sipush (v := 266) X.1 X.2.1 dX3_remembers_63 (by decide) ?_
    refine lv_aload_n X.1 X.2.1 dX3_remembers_66 rfl (lv_at hl 0 rfl) ?_
    refine m_get X I 7 (by decide) rfl rfl rfl q1524 (v := .int (st.1 7)) rfl dX3_remembers_67 ?_
    refine lv_imul X.1 X.2.1 dX3_remembers_70 ?_
    refine lv_iload_n X.1 X.2.1 dX3_remembers_71 rfl (lv_at hl 1 rfl) ?_
    refine lv_iadd X.1 X.2.1 dX3_remembers_72 ?_
    refine lv_aload_n X.1 X.2.1 dX3_remembers_73 rfl (lv_at hl 0 rfl) ?_
    refine m_get X I 0 (by decide) rfl rfl rfl q1517 (v := .ref (d.2.1 0)) rfl dX3_remembers_74 ?_
    refine lv_iload_n X.1 X.2.1 dX3_remembers_77 rfl (lv_at hl 1 rfl) ?_
    obtain ⟨g3, h⟩ := m_gS h
    refine m_iald X I 1 (n := 266) (f := st.2.1 0) rfl g3 dX3_remembers_78 ?_
    obtain ⟨g4, h⟩ := m_gS h
    refine m_iast X I 3 (n := 2660) (f := st.2.1 2) rfl (m_st2 d _ _ _) g4 dX3_remembers_79 (fun H locs I => ?_)
    refine lv_iinc (v := v1 + 1) (lv' := [(1, .int (v1 + 1)), (0, .ref d.1)]) X.1 X.2.1 dX3_remembers_80 hl (k := 1) rfl rfl (by decide) rfl (fun ls hl => ?_)
    refine lv_goto (tgt := 52) X.1 X.2.1 dX3_remembers_83 (by decide) ?_
    cases h
    exact hr H locs ls I (lv_sub hl [1, 0] rfl)
theorem wf_remembers_L11 (X : m_X D A d p s m c cX3_remembers 2 args) (hA : ∀ q, s.heap.size ≤ q → A q) (hR : 0 ≤ R.frames ∧ 0 ≤ R.locals) (n : Nat)  (x : (Int32 × MS)) (z : MS) (hz : f_remembers_L11l n x = some z) (hE : (fun (z : MS) => ∀ (H : Heap) (locs : List Loc) (ls : Array Slot), m_I D A d s.heap z H locs → lv_has ls 2 [(0, .ref d.1)] → W p l e R s m args below meth c H locs 0 0 Q (F0 m 40 ls [])) z) : (fun (x : (Int32 × MS)) => ∀ (H : Heap) (locs : List Loc) (ls : Array Slot), m_I D A d s.heap x.2 H locs → lv_has ls 2 [(0, .ref d.1), (1, .int x.1)] → W p l e R s m args below meth c H locs 0 0 Q (F0 m 11 ls [])) x := by
  refine m_lpW (G := fun (x : (Int32 × MS)) => ∀ (H : Heap) (locs : List Loc) (ls : Array Slot), m_I D A d s.heap x.2 H locs → lv_has ls 2 [(0, .ref d.1), (1, .int x.1)] → W p l e R s m args below meth c H locs 0 0 Q (F0 m 11 ls [])) (E := fun (z : MS) => ∀ (H : Heap) (locs : List Loc) (ls : Array Slot), m_I D A d s.heap z H locs → lv_has ls 2 [(0, .ref d.1)] → W p l e R s m args below meth c H locs 0 0 Q (F0 m 40 ls [])) ?_ n x z hz hE
  rintro ⟨v1, st⟩ r h hr H locs ls I hl
  replace h : f_remembers_L11 n v1 st = some r := h
  unfold f_remembers_L11 at h
  refine lv_iload_n X.1 X.2.1 dX3_remembers_11 rfl (lv_at hl 1 rfl) ?_
  refine lv_sipush (v := 2394) X.1 X.2.1 dX3_remembers_12 (by decide) ?_
  refine lv_icmp_ge (tgt := 40) X.1 X.2.1 dX3_remembers_15 (by decide) (fun c7 => ?_) (fun c7 => ?_)
  · replace h := m_ifT c7 h
    cases h
    exact hr H locs ls I (lv_sub hl [0] rfl)
  · replace h := m_ifF c7 h
    refine lv_aload_n X.1 X.2.1 dX3_remembers_18 rfl (lv_at hl 0 rfl) ?_
    refine m_get X I 2 (by decide) rfl rfl rfl q1519 (v := .ref (d.2.1 2)) rfl dX3_remembers_19 ?_
    refine lv_iload_n X.1 X.2.1 dX3_remembers_22 rfl (lv_at hl 1 rfl) ?_
    refine lv_aload_n X.1 X.2.1 dX3_remembers_23 rfl (lv_at hl 0 rfl) ?_
    refine m_get X I 2 (by decide) rfl rfl rfl q1519 (v := .ref (d.2.1 2)) rfl dX3_remembers_24 ?_
    refine lv_iload_n X.1 X.2.1 dX3_remembers_27 rfl (lv_at hl 1 rfl) ?_
    refine lv_sipush (v := 266) X.1 X.2.1 dX3_remembers_28 (by decide) ?_
    refine lv_iadd X.1 X.2.1 dX3_remembers_31 ?_
    obtain ⟨g8, h⟩ := m_gS h
    refine m_iald X I 3 (n := 2660) (f := st.2.1 2) rfl g8 dX3_remembers_32 ?_
    obtain ⟨g9, h⟩ := m_gS h
    refine m_iast X I 3 (n := 2660) (f := st.2.1 2) rfl (m_st2 d _ _ _) g9 dX3_remembers_33 (fun H locs I => ?_)
    refine lv_iinc (v := v1 + 1) (lv' := [(1, .int (v1 + 1)), (0, .ref d.1)]) X.1 X.2.1 dX3_remembers_34 hl (k := 1) rfl rfl (by decide) rfl (fun ls hl => ?_)
    refine lv_goto (tgt := 11) X.1 X.2.1 dX3_remembers_37 (by decide) ?_
    cases h
    exact hr H locs ls I (lv_sub hl [1, 0] rfl)
theorem w_remembers (X : m_X D A d p s m c cX3_remembers 2 args) (hA : ∀ q, s.heap.size ≤ q → A q) (hR : 0 ≤ R.frames ∧ 0 ≤ R.locals) (n : Nat) (st : MS) (r : MS) (h : f_remembers n st = some r) (hret : ∀ (H : Heap) (locs : List Loc) (ls : Array Slot) (pc : Nat), decode cX3_remembers pc = .ok (.return_, 1) → m_I D A d s.heap r H locs → W p l e R s m args below meth c H locs 0 0 Q (F0 m pc ls [])) : ∀ (H : Heap) (locs : List Loc) (ls : Array Slot), m_I D A d s.heap st H locs → lv_has ls 2 [(0, .ref d.1)] → W p l e R s m args below meth c H locs 0 0 Q (F0 m 0 ls []) := by
  have k50 : ∀ (st : MS) (H : Heap) (locs : List Loc) (ls : Array Slot), f_remembers_J50 n st = some r → m_I D A d s.heap st H locs → lv_has ls 2 [(0, .ref d.1)] → W p l e R s m args below meth c H locs 0 0 Q (F0 m 50 ls []) := by
    intro st H locs ls h I hl
    unfold f_remembers_J50 at h
    refine lv_iconst (v := 0) X.1 X.2.1 dX3_remembers_50 (by decide) ?_
    refine lv_istore_n (lv' := [(1, .int 0), (0, .ref d.1)]) X.1 X.2.1 dX3_remembers_51 rfl hl (by decide) rfl (fun ls hl => ?_)
    obtain ⟨s6, e5, h⟩ := m_bS h
    refine wf_remembers_L52 X hA hR n  _ _ e5 (fun H locs ls I hl => ?_) H locs ls I (lv_sub hl [1, 0] rfl)
    refine lv_aload_n X.1 X.2.1 dX3_remembers_86 rfl (lv_at hl 0 rfl) ?_
    refine lv_dup X.1 X.2.1 dX3_remembers_87 rfl ?_
    refine m_get X I 7 (by decide) rfl rfl rfl q1524 (v := .int (s6.1 7)) rfl dX3_remembers_88 ?_
    refine lv_iconst (v := 1) X.1 X.2.1 dX3_remembers_91 (by decide) ?_
    refine lv_iadd X.1 X.2.1 dX3_remembers_92 ?_
    refine m_put X I 7 (by decide) rfl rfl rfl q1524 rfl (m_set7 d _ _) dX3_remembers_93 (fun H locs I => ?_)
    obtain rfl := m_e1 h
    exact hret H locs ls 96 dX3_remembers_96 I
  intro H locs ls I hl
  unfold f_remembers at h
  refine lv_aload_n X.1 X.2.1 dX3_remembers_0 rfl (lv_at hl 0 rfl) ?_
  refine m_get X I 7 (by decide) rfl rfl rfl q1524 (v := .int (st.1 7)) rfl dX3_remembers_1 ?_
  refine lv_bipush (v := 10) X.1 X.2.1 dX3_remembers_4 (by decide) ?_
  refine lv_icmp_ne (tgt := 50) X.1 X.2.1 dX3_remembers_6 (by decide) (fun c1 => ?_) (fun c1 => ?_)
  · replace h := m_ifF c1 h
    exact k50 st H locs ls h I (lv_sub hl [0] rfl)
  · replace h := m_ifT c1 h
    refine lv_iconst (v := 0) X.1 X.2.1 dX3_remembers_9 (by decide) ?_
    refine lv_istore_n (lv' := [(1, .int 0), (0, .ref d.1)]) X.1 X.2.1 dX3_remembers_10 rfl hl (by decide) rfl (fun ls hl => ?_)
    obtain ⟨s11, e10, h⟩ := m_bS h
    refine wf_remembers_L11 X hA hR n  _ _ e10 (fun H locs ls I hl => ?_) H locs ls I (lv_sub hl [1, 0] rfl)
    refine lv_aload_n X.1 X.2.1 dX3_remembers_40 rfl (lv_at hl 0 rfl) ?_
    refine lv_dup X.1 X.2.1 dX3_remembers_41 rfl ?_
    refine m_get X I 7 (by decide) rfl rfl rfl q1524 (v := .int (s11.1 7)) rfl dX3_remembers_42 ?_
    refine lv_iconst (v := 1) X.1 X.2.1 dX3_remembers_45 (by decide) ?_
    refine lv_isub X.1 X.2.1 dX3_remembers_46 ?_
    refine m_put X I 7 (by decide) rfl rfl rfl q1524 rfl (m_set7 d _ _) dX3_remembers_47 (fun H locs I => ?_)
    exact k50 (m_sg s11 7 ((s11.1 7) - 1)) H locs ls h I (lv_sub hl [0] rfl)
end S_remembers
theorem c_remembers (l : Launch) (n : Nat) (D : va_G) (d : MD) (st : MS) (st' : MS) (h : f_remembers n st = some st') : m_Mv l yX3_remembers cX3_remembers 2 none ({ frames := 0, cells := 0, slots := 0, locals := 0 } : Room) D d st [.ref d.1] st' :=
  m_startV (lvl := [(0, .ref d.1)]) (by decide) rfl (Nat.le_of_ble_eq_true rfl) rfl (fun p e s m args below meth c ls X hr hlk hl hA I => w_remembers X hA ⟨Nat.le_refl _, Nat.le_refl _⟩ n st st' h (fun H locs ls pc hd I => m_vret X I hr hlk hd) _ _ ls I hl)

/-! method isTrade(I)Z -/
def f_isTrade (n : Nat) (st : MS) (p0 : Int32) : Option (Int32) :=
  m_g (m_in 0 266) (m_b (f_isIn n p0.toInt64 0 (((st.2.1 0 (0 : Int32).toNatClampNeg) - 1 : Int32).toInt64)) (fun r3 => m_g (m_01 r3) (some r3)))
theorem hd_isTrade : yX3_isTrade.cls = RX3 ∧ yX3_isTrade.cls ≠ "java/lang/invoke/MethodHandle" ∧ yX3_isTrade.cls ≠ "java/lang/invoke/VarHandle" ∧ (parseMethodDescriptor yX3_isTrade.desc).map (fun d => d.parameters.length) = some 1 := by decide +kernel
section S_isTrade
variable {p : Program} {l : Launch} {e : Env} {R : Room} {s : State} {m : MethodId} {args : Array Value} {below : List Frame} {meth : Method} {c : Code} {Q : State → Prop} {D : va_G} {A : Nat → Prop} {d : MD}
theorem w_isTrade (X : m_X D A d p s m c cX3_isTrade 2 args) (hA : ∀ q, s.heap.size ≤ q → A q) (hR : 1 ≤ R.frames ∧ 25 ≤ R.locals) (n : Nat) (st : MS) (p0 : Int32) (r : Int32) (h : f_isTrade n st p0 = some r) (hret : ∀ (H : Heap) (locs : List Loc) (ls : Array Slot) (pc : Nat), m_01 r = true → decode cX3_isTrade pc = .ok (.ireturn, 1) → m_I D A d s.heap st H locs → W p l e R s m args below meth c H locs 0 0 Q (F0 m pc ls [.int r])) : ∀ (H : Heap) (locs : List Loc) (ls : Array Slot), m_I D A d s.heap st H locs → lv_has ls 2 [(0, .ref d.1), (1, .int p0)] → W p l e R s m args below meth c H locs 0 0 Q (F0 m 0 ls []) := by
  intro H locs ls I hl
  unfold f_isTrade at h
  refine lv_iload_n X.1 X.2.1 dX3_isTrade_0 rfl (lv_at hl 1 rfl) ?_
  refine lv_i2l X.1 X.2.1 dX3_isTrade_1 rfl ?_
  refine lv_lconst (v := 0) X.1 X.2.1 dX3_isTrade_2 (by decide) ?_
  refine lv_aload_n X.1 X.2.1 dX3_isTrade_3 rfl (lv_at hl 0 rfl) ?_
  refine m_get X I 0 (by decide) rfl rfl rfl q1517 (v := .ref (d.2.1 0)) rfl dX3_isTrade_4 ?_
  refine lv_iconst (v := 0) X.1 X.2.1 dX3_isTrade_7 (by decide) ?_
  obtain ⟨g1, h⟩ := m_gS h
  refine m_iald X I 1 (n := 266) (f := st.2.1 0) rfl g1 dX3_isTrade_8 ?_
  refine lv_iconst (v := 1) X.1 X.2.1 dX3_isTrade_9 (by decide) ?_
  refine lv_isub X.1 X.2.1 dX3_isTrade_10 ?_
  refine lv_i2l X.1 X.2.1 dX3_isTrade_11 rfl ?_
  obtain ⟨r3, e2, h⟩ := m_bS h
  refine m_callS X hl.1 (As := [.long p0.toInt64, .long 0, .long (((st.2.1 0 (0 : Int32).toNatClampNeg) - 1 : Int32).toInt64)]) (rest := []) (c_isIn l n p0.toInt64 0 (((st.2.1 0 (0 : Int32).toNatClampNeg) - 1 : Int32).toInt64) _ e2) 3 q1623 q1624 q107 q1625 (hd_isIn).2 rfl rfl ⟨Nat.le_trans (Nat.le_of_ble_eq_true rfl) hR.1, Nat.le_trans (Nat.le_of_ble_eq_true rfl) hR.2⟩ ⟨rfl, rfl⟩ ⟨Nat.zero_le _, Nat.zero_le _⟩ (Nat.le_of_ble_eq_true rfl) dX3_isTrade_12 ?_
  obtain ⟨g4, h⟩ := m_gS h
  obtain rfl := m_e1 h
  exact hret H locs ls 15 g4 dX3_isTrade_15 I
end S_isTrade
theorem c_isTrade (l : Launch) (n : Nat) (D : va_G) (d : MD) (st : MS) (p0 : Int32) (r : Int32) (h : f_isTrade n st p0 = some r) : m_Mi l yX3_isTrade cX3_isTrade 2 (some .boolean) ({ frames := 1, cells := 0, slots := 0, locals := 25 } : Room) D d st [.ref d.1, .int p0] r st :=
  m_startI (lvl := [(0, .ref d.1), (1, .int p0)]) (by decide) rfl (Nat.le_of_ble_eq_true rfl) rfl (fun p e s m args below meth c ls X hr hlk hl hA I => w_isTrade X hA ⟨Nat.le_refl _, Nat.le_refl _⟩ n st p0 r h (fun H locs ls pc g hd I => m_zret X I hr hlk g hd) _ _ ls I hl)

/-! method goes(I)V -/
def f_goes_L16 (n : Nat) (v2 : Int32) (st : MS) : Option ((Int32 × MS) ⊕ MS) :=
  m_g (m_in 0 266) (m_if ((2 + (5 * (st.2.1 0 (0 : Int32).toNatClampNeg)) : Int32) ≤ (v2 : Int32)) (some (.inr st)) (m_g (m_in (v2 + 5) 266) (m_g (m_in v2 266) (some (.inl ((v2 + 1, m_sa st 0 (v2 : Int32).toNatClampNeg (st.2.1 0 (v2 + 5 : Int32).toNatClampNeg))))))))
def f_goes_L16l (n : Nat) (x : (Int32 × MS)) : Option MS := m_lp (fun (x : (Int32 × MS)) => f_goes_L16 n x.1 x.2) n x
def f_goes (n : Nat) (st : MS) (p0 : Int32) : Option (MS) :=
  m_g (m_in 0 266) (m_g (m_in 0 266) (m_b (f_goes_L16l n ((2 + (5 * p0), m_sa st 0 (0 : Int32).toNatClampNeg ((st.2.1 0 (0 : Int32).toNatClampNeg) - 1)))) (fun s8 => some s8)))
theorem hd_goes : yX3_goes.cls = RX3 ∧ yX3_goes.cls ≠ "java/lang/invoke/MethodHandle" ∧ yX3_goes.cls ≠ "java/lang/invoke/VarHandle" ∧ (parseMethodDescriptor yX3_goes.desc).map (fun d => d.parameters.length) = some 1 := by decide +kernel
section S_goes
variable {p : Program} {l : Launch} {e : Env} {R : Room} {s : State} {m : MethodId} {args : Array Value} {below : List Frame} {meth : Method} {c : Code} {Q : State → Prop} {D : va_G} {A : Nat → Prop} {d : MD}
theorem wf_goes_L16 (X : m_X D A d p s m c cX3_goes 3 args) (hA : ∀ q, s.heap.size ≤ q → A q) (hR : 0 ≤ R.frames ∧ 0 ≤ R.locals) (n : Nat)  (x : (Int32 × MS)) (z : MS) (hz : f_goes_L16l n x = some z) (hE : (fun (z : MS) => ∀ (H : Heap) (locs : List Loc) (ls : Array Slot), m_I D A d s.heap z H locs → lv_has ls 3 [] → W p l e R s m args below meth c H locs 0 0 Q (F0 m 50 ls [])) z) : (fun (x : (Int32 × MS)) => ∀ (H : Heap) (locs : List Loc) (ls : Array Slot), m_I D A d s.heap x.2 H locs → lv_has ls 3 [(0, .ref d.1), (2, .int x.1)] → W p l e R s m args below meth c H locs 0 0 Q (F0 m 16 ls [])) x := by
  refine m_lpW (G := fun (x : (Int32 × MS)) => ∀ (H : Heap) (locs : List Loc) (ls : Array Slot), m_I D A d s.heap x.2 H locs → lv_has ls 3 [(0, .ref d.1), (2, .int x.1)] → W p l e R s m args below meth c H locs 0 0 Q (F0 m 16 ls [])) (E := fun (z : MS) => ∀ (H : Heap) (locs : List Loc) (ls : Array Slot), m_I D A d s.heap z H locs → lv_has ls 3 [] → W p l e R s m args below meth c H locs 0 0 Q (F0 m 50 ls [])) ?_ n x z hz hE
  rintro ⟨v2, st⟩ r h hr H locs ls I hl
  replace h : f_goes_L16 n v2 st = some r := h
  unfold f_goes_L16 at h
  refine lv_iload_n X.1 X.2.1 dX3_goes_16 rfl (lv_at hl 1 rfl) ?_
  refine lv_iconst (v := 2) X.1 X.2.1 dX3_goes_17 (by decide) ?_
  refine lv_iconst (v := 5) X.1 X.2.1 dX3_goes_18 (by decide) ?_
  refine lv_aload_n X.1 X.2.1 dX3_goes_19 rfl (lv_at hl 0 rfl) ?_
  refine m_get X I 0 (by decide) rfl rfl rfl q1517 (v := .ref (d.2.1 0)) rfl dX3_goes_20 ?_
  refine lv_iconst (v := 0) X.1 X.2.1 dX3_goes_23 (by decide) ?_
  obtain ⟨g3, h⟩ := m_gS h
  refine m_iald X I 1 (n := 266) (f := st.2.1 0) rfl g3 dX3_goes_24 ?_
  refine lv_imul X.1 X.2.1 dX3_goes_25 ?_
  refine lv_iadd X.1 X.2.1 dX3_goes_26 ?_
  refine lv_icmp_ge (tgt := 50) X.1 X.2.1 dX3_goes_27 (by decide) (fun c4 => ?_) (fun c4 => ?_)
  · replace h := m_ifT c4 h
    cases h
    exact hr H locs ls I (lv_sub hl [] rfl)
  · replace h := m_ifF c4 h
    refine lv_aload_n X.1 X.2.1 dX3_goes_30 rfl (lv_at hl 0 rfl) ?_
    refine m_get X I 0 (by decide) rfl rfl rfl q1517 (v := .ref (d.2.1 0)) rfl dX3_goes_31 ?_
    refine lv_iload_n X.1 X.2.1 dX3_goes_34 rfl (lv_at hl 1 rfl) ?_
    refine lv_aload_n X.1 X.2.1 dX3_goes_35 rfl (lv_at hl 0 rfl) ?_
    refine m_get X I 0 (by decide) rfl rfl rfl q1517 (v := .ref (d.2.1 0)) rfl dX3_goes_36 ?_
    refine lv_iload_n X.1 X.2.1 dX3_goes_39 rfl (lv_at hl 1 rfl) ?_
    refine lv_iconst (v := 5) X.1 X.2.1 dX3_goes_40 (by decide) ?_
    refine lv_iadd X.1 X.2.1 dX3_goes_41 ?_
    obtain ⟨g5, h⟩ := m_gS h
    refine m_iald X I 1 (n := 266) (f := st.2.1 0) rfl g5 dX3_goes_42 ?_
    obtain ⟨g6, h⟩ := m_gS h
    refine m_iast X I 1 (n := 266) (f := st.2.1 0) rfl (m_st0 d _ _ _) g6 dX3_goes_43 (fun H locs I => ?_)
    refine lv_iinc (v := v2 + 1) (lv' := [(2, .int (v2 + 1)), (0, .ref d.1)]) X.1 X.2.1 dX3_goes_44 hl (k := 1) rfl rfl (by decide) rfl (fun ls hl => ?_)
    refine lv_goto (tgt := 16) X.1 X.2.1 dX3_goes_47 (by decide) ?_
    cases h
    exact hr H locs ls I (lv_sub hl [1, 0] rfl)
theorem w_goes (X : m_X D A d p s m c cX3_goes 3 args) (hA : ∀ q, s.heap.size ≤ q → A q) (hR : 0 ≤ R.frames ∧ 0 ≤ R.locals) (n : Nat) (st : MS) (p0 : Int32) (r : MS) (h : f_goes n st p0 = some r) (hret : ∀ (H : Heap) (locs : List Loc) (ls : Array Slot) (pc : Nat), decode cX3_goes pc = .ok (.return_, 1) → m_I D A d s.heap r H locs → W p l e R s m args below meth c H locs 0 0 Q (F0 m pc ls [])) : ∀ (H : Heap) (locs : List Loc) (ls : Array Slot), m_I D A d s.heap st H locs → lv_has ls 3 [(0, .ref d.1), (1, .int p0)] → W p l e R s m args below meth c H locs 0 0 Q (F0 m 0 ls []) := by
  intro H locs ls I hl
  unfold f_goes at h
  refine lv_aload_n X.1 X.2.1 dX3_goes_0 rfl (lv_at hl 0 rfl) ?_
  refine m_get X I 0 (by decide) rfl rfl rfl q1517 (v := .ref (d.2.1 0)) rfl dX3_goes_1 ?_
  refine lv_iconst (v := 0) X.1 X.2.1 dX3_goes_4 (by decide) ?_
  refine lv_dup2_11 X.1 X.2.1 dX3_goes_5 rfl rfl ?_
  obtain ⟨g1, h⟩ := m_gS h
  refine m_iald X I 1 (n := 266) (f := st.2.1 0) rfl g1 dX3_goes_6 ?_
  refine lv_iconst (v := 1) X.1 X.2.1 dX3_goes_7 (by decide) ?_
  refine lv_isub X.1 X.2.1 dX3_goes_8 ?_
  obtain ⟨g2, h⟩ := m_gS h
  refine m_iast X I 1 (n := 266) (f := st.2.1 0) rfl (m_st0 d _ _ _) g2 dX3_goes_9 (fun H locs I => ?_)
  refine lv_iconst (v := 2) X.1 X.2.1 dX3_goes_10 (by decide) ?_
  refine lv_iconst (v := 5) X.1 X.2.1 dX3_goes_11 (by decide) ?_
  refine lv_iload_n X.1 X.2.1 dX3_goes_12 rfl (lv_at hl 1 rfl) ?_
  refine lv_imul X.1 X.2.1 dX3_goes_13 ?_
  refine lv_iadd X.1 X.2.1 dX3_goes_14 ?_
  refine lv_istore_n (lv' := [(2, .int (2 + (5 * p0))), (0, .ref d.1), (1, .int p0)]) X.1 X.2.1 dX3_goes_15 rfl hl (by decide) rfl (fun ls hl => ?_)
  obtain ⟨s8, e7, h⟩ := m_bS h
  refine wf_goes_L16 X hA hR n  _ _ e7 (fun H locs ls I hl => ?_) H locs ls I (lv_sub hl [1, 0] rfl)
  obtain rfl := m_e1 h
  exact hret H locs ls 50 dX3_goes_50 I
end S_goes
theorem c_goes (l : Launch) (n : Nat) (D : va_G) (d : MD) (st : MS) (p0 : Int32) (st' : MS) (h : f_goes n st p0 = some st') : m_Mv l yX3_goes cX3_goes 3 none ({ frames := 0, cells := 0, slots := 0, locals := 0 } : Room) D d st [.ref d.1, .int p0] st' :=
  m_startV (lvl := [(0, .ref d.1), (1, .int p0)]) (by decide) rfl (Nat.le_of_ble_eq_true rfl) rfl (fun p e s m args below meth c ls X hr hlk hl hA I => w_goes X hA ⟨Nat.le_refl _, Nat.le_refl _⟩ n st p0 st' h (fun H locs ls pc hd I => m_vret X I hr hlk hd) _ _ ls I hl)

/-! method keep(I)I -/
def f_keep (n : Nat) (st : MS) (p0 : Int32) : Option (Int32 × MS) :=
  m_b (f_isTrade n (m_sg st 8 0) p0) (fun r2 => m_if ((r2 : Int32) = 0) (some ((-2), m_sg st 8 0)) (m_b (f_remembers n (m_sg st 8 0)) (fun s5 => m_b (f_tradeAt n s5 p0 4) (fun r7 => m_g (m_in ((2 + (5 * p0)) + 4) 266) (m_b (f_tradeAt n (m_sa s5 0 ((2 + (5 * p0)) + 4 : Int32).toNatClampNeg (1 - r7)) p0 4) (fun r10 => some (r10, m_sa s5 0 ((2 + (5 * p0)) + 4 : Int32).toNatClampNeg (1 - r7))))))))
theorem hd_keep : yX3_keep.cls = RX3 ∧ yX3_keep.cls ≠ "java/lang/invoke/MethodHandle" ∧ yX3_keep.cls ≠ "java/lang/invoke/VarHandle" ∧ (parseMethodDescriptor yX3_keep.desc).map (fun d => d.parameters.length) = some 1 := by decide +kernel
section S_keep
variable {p : Program} {l : Launch} {e : Env} {R : Room} {s : State} {m : MethodId} {args : Array Value} {below : List Frame} {meth : Method} {c : Code} {Q : State → Prop} {D : va_G} {A : Nat → Prop} {d : MD}
theorem w_keep (X : m_X D A d p s m c cX3_keep 2 args) (hA : ∀ q, s.heap.size ≤ q → A q) (hR : 2 ≤ R.frames ∧ 46 ≤ R.locals) (n : Nat) (st : MS) (p0 : Int32) (r : (Int32 × MS)) (h : f_keep n st p0 = some r) (hret : ∀ (H : Heap) (locs : List Loc) (ls : Array Slot) (pc : Nat), decode cX3_keep pc = .ok (.ireturn, 1) → m_I D A d s.heap r.2 H locs → W p l e R s m args below meth c H locs 0 0 Q (F0 m pc ls [.int r.1])) : ∀ (H : Heap) (locs : List Loc) (ls : Array Slot), m_I D A d s.heap st H locs → lv_has ls 2 [(0, .ref d.1), (1, .int p0)] → W p l e R s m args below meth c H locs 0 0 Q (F0 m 0 ls []) := by
  obtain ⟨r0, s0⟩ := r
  intro H locs ls I hl
  unfold f_keep at h
  refine lv_aload_n X.1 X.2.1 dX3_keep_0 rfl (lv_at hl 0 rfl) ?_
  refine lv_iconst (v := 0) X.1 X.2.1 dX3_keep_1 (by decide) ?_
  refine m_put X I 8 (by decide) rfl rfl rfl q1525 rfl (m_set8 d _ _) dX3_keep_2 (fun H locs I => ?_)
  refine lv_aload_n X.1 X.2.1 dX3_keep_5 rfl (lv_at hl 0 rfl) ?_
  refine lv_iload_n X.1 X.2.1 dX3_keep_6 rfl (lv_at hl 1 rfl) ?_
  obtain ⟨r2, e1, h⟩ := m_bS h
  refine m_callI X hl.1 I hA (As := [.int p0]) (rest := []) (c_isTrade l n D d (m_sg st 8 0) p0 _ e1) 1 q1737 q1739 qs65 q107 q1740 (hd_isTrade) rfl rfl ⟨Nat.le_trans (Nat.le_of_ble_eq_true rfl) hR.1, Nat.le_trans (Nat.le_of_ble_eq_true rfl) hR.2⟩ ⟨rfl, rfl⟩ ⟨Nat.zero_le _, Nat.zero_le _⟩ (Nat.le_of_ble_eq_true rfl) dX3_keep_7 (fun H locs I => ?_)
  refine lv_if_ne (tgt := 16) X.1 X.2.1 dX3_keep_10 (by decide) (fun c3 => ?_) (fun c3 => ?_)
  · replace h := m_ifF c3 h
    refine lv_aload_n X.1 X.2.1 dX3_keep_16 rfl (lv_at hl 0 rfl) ?_
    obtain ⟨s5, e4, h⟩ := m_bS h
    refine m_callV X hl.1 I hA (As := []) (rest := []) (c_remembers l n D d (m_sg st 8 0)  _ e4) 0 q1729 q1731 qs64 q107 q1732 (hd_remembers) rfl rfl ⟨Nat.le_trans (Nat.le_of_ble_eq_true rfl) hR.1, Nat.le_trans (Nat.le_of_ble_eq_true rfl) hR.2⟩ ⟨rfl, rfl⟩ ⟨Nat.zero_le _, Nat.zero_le _⟩ (Nat.le_of_ble_eq_true rfl) dX3_keep_17 (fun H locs I => ?_)
    refine lv_aload_n X.1 X.2.1 dX3_keep_20 rfl (lv_at hl 0 rfl) ?_
    refine m_get X I 0 (by decide) rfl rfl rfl q1517 (v := .ref (d.2.1 0)) rfl dX3_keep_21 ?_
    refine lv_iconst (v := 2) X.1 X.2.1 dX3_keep_24 (by decide) ?_
    refine lv_iconst (v := 5) X.1 X.2.1 dX3_keep_25 (by decide) ?_
    refine lv_iload_n X.1 X.2.1 dX3_keep_26 rfl (lv_at hl 1 rfl) ?_
    refine lv_imul X.1 X.2.1 dX3_keep_27 ?_
    refine lv_iadd X.1 X.2.1 dX3_keep_28 ?_
    refine lv_iconst (v := 4) X.1 X.2.1 dX3_keep_29 (by decide) ?_
    refine lv_iadd X.1 X.2.1 dX3_keep_30 ?_
    refine lv_iconst (v := 1) X.1 X.2.1 dX3_keep_31 (by decide) ?_
    refine lv_aload_n X.1 X.2.1 dX3_keep_32 rfl (lv_at hl 0 rfl) ?_
    refine lv_iload_n X.1 X.2.1 dX3_keep_33 rfl (lv_at hl 1 rfl) ?_
    refine lv_iconst (v := 4) X.1 X.2.1 dX3_keep_34 (by decide) ?_
    obtain ⟨r7, e6, h⟩ := m_bS h
    refine m_callI X hl.1 I hA (As := [.int p0, .int 4]) (rest := [.int 1, .int ((2 + (5 * p0)) + 4), .ref (d.2.1 0)]) (c_tradeAt l n D d s5 p0 4 _ e6) 2 q1683 q1685 qs55 q107 q1686 (hd_tradeAt) rfl rfl ⟨Nat.le_trans (Nat.le_of_ble_eq_true rfl) hR.1, Nat.le_trans (Nat.le_of_ble_eq_true rfl) hR.2⟩ ⟨rfl, rfl⟩ ⟨Nat.zero_le _, Nat.zero_le _⟩ (Nat.le_of_ble_eq_true rfl) dX3_keep_35 (fun H locs I => ?_)
    refine lv_isub X.1 X.2.1 dX3_keep_38 ?_
    obtain ⟨g8, h⟩ := m_gS h
    refine m_iast X I 1 (n := 266) (f := s5.2.1 0) rfl (m_st0 d _ _ _) g8 dX3_keep_39 (fun H locs I => ?_)
    refine lv_aload_n X.1 X.2.1 dX3_keep_40 rfl (lv_at hl 0 rfl) ?_
    refine lv_iload_n X.1 X.2.1 dX3_keep_41 rfl (lv_at hl 1 rfl) ?_
    refine lv_iconst (v := 4) X.1 X.2.1 dX3_keep_42 (by decide) ?_
    obtain ⟨r10, e9, h⟩ := m_bS h
    refine m_callI X hl.1 I hA (As := [.int p0, .int 4]) (rest := []) (c_tradeAt l n D d (m_sa s5 0 ((2 + (5 * p0)) + 4 : Int32).toNatClampNeg (1 - r7)) p0 4 _ e9) 2 q1683 q1685 qs55 q107 q1686 (hd_tradeAt) rfl rfl ⟨Nat.le_trans (Nat.le_of_ble_eq_true rfl) hR.1, Nat.le_trans (Nat.le_of_ble_eq_true rfl) hR.2⟩ ⟨rfl, rfl⟩ ⟨Nat.zero_le _, Nat.zero_le _⟩ (Nat.le_of_ble_eq_true rfl) dX3_keep_43 (fun H locs I => ?_)
    obtain ⟨rfl, rfl⟩ := m_e2 h
    exact hret H locs ls 46 dX3_keep_46 I
  · replace h := m_ifT c3 h
    refine lv_bipush (v := (-2)) X.1 X.2.1 dX3_keep_13 (by decide) ?_
    obtain ⟨rfl, rfl⟩ := m_e2 h
    exact hret H locs ls 15 dX3_keep_15 I
end S_keep
theorem c_keep (l : Launch) (n : Nat) (D : va_G) (d : MD) (st : MS) (p0 : Int32) (r : Int32) (st' : MS) (h : f_keep n st p0 = some (r, st')) : m_Mi l yX3_keep cX3_keep 2 (some .int) ({ frames := 2, cells := 0, slots := 0, locals := 46 } : Room) D d st [.ref d.1, .int p0] r st' :=
  m_startI (lvl := [(0, .ref d.1), (1, .int p0)]) (by decide) rfl (Nat.le_of_ble_eq_true rfl) rfl (fun p e s m args below meth c ls X hr hlk hl hA I => w_keep X hA ⟨Nat.le_refl _, Nat.le_refl _⟩ n st p0 (r, st') h (fun H locs ls pc hd I => m_iret X I hr hlk hd) _ _ ls I hl)

/-! method mode(I)I -/
def f_mode (n : Nat) (st : MS) (p0 : Int32) : Option (Int32 × MS) :=
  m_b (f_isIn n p0.toInt64 0 3) (fun r2 => m_if ((r2 : Int32) = 0) (some ((-3), m_sg st 8 0)) (m_b (f_remembers n (m_sg st 8 0)) (fun s5 => m_g (m_in 1 266) (m_g (m_in 1 266) (some (s5.2.1 0 (1 : Int32).toNatClampNeg, m_sa s5 0 (1 : Int32).toNatClampNeg p0))))))
theorem hd_mode : yX3_mode.cls = RX3 ∧ yX3_mode.cls ≠ "java/lang/invoke/MethodHandle" ∧ yX3_mode.cls ≠ "java/lang/invoke/VarHandle" ∧ (parseMethodDescriptor yX3_mode.desc).map (fun d => d.parameters.length) = some 1 := by decide +kernel
section S_mode
variable {p : Program} {l : Launch} {e : Env} {R : Room} {s : State} {m : MethodId} {args : Array Value} {below : List Frame} {meth : Method} {c : Code} {Q : State → Prop} {D : va_G} {A : Nat → Prop} {d : MD}
theorem w_mode (X : m_X D A d p s m c cX3_mode 3 args) (hA : ∀ q, s.heap.size ≤ q → A q) (hR : 1 ≤ R.frames ∧ 25 ≤ R.locals) (n : Nat) (st : MS) (p0 : Int32) (r : (Int32 × MS)) (h : f_mode n st p0 = some r) (hret : ∀ (H : Heap) (locs : List Loc) (ls : Array Slot) (pc : Nat), decode cX3_mode pc = .ok (.ireturn, 1) → m_I D A d s.heap r.2 H locs → W p l e R s m args below meth c H locs 0 0 Q (F0 m pc ls [.int r.1])) : ∀ (H : Heap) (locs : List Loc) (ls : Array Slot), m_I D A d s.heap st H locs → lv_has ls 3 [(0, .ref d.1), (1, .int p0)] → W p l e R s m args below meth c H locs 0 0 Q (F0 m 0 ls []) := by
  obtain ⟨r0, s0⟩ := r
  intro H locs ls I hl
  unfold f_mode at h
  refine lv_aload_n X.1 X.2.1 dX3_mode_0 rfl (lv_at hl 0 rfl) ?_
  refine lv_iconst (v := 0) X.1 X.2.1 dX3_mode_1 (by decide) ?_
  refine m_put X I 8 (by decide) rfl rfl rfl q1525 rfl (m_set8 d _ _) dX3_mode_2 (fun H locs I => ?_)
  refine lv_iload_n X.1 X.2.1 dX3_mode_5 rfl (lv_at hl 1 rfl) ?_
  refine lv_i2l X.1 X.2.1 dX3_mode_6 rfl ?_
  refine lv_lconst (v := 0) X.1 X.2.1 dX3_mode_7 (by decide) ?_
  refine lv_ldc2 (v := 3) X.1 X.2.1 X.2.2.2.1 (X.2.2.1 _ q1753) dX3_mode_8 ?_
  obtain ⟨r2, e1, h⟩ := m_bS h
  refine m_callS X hl.1 (As := [.long p0.toInt64, .long 0, .long 3]) (rest := []) (c_isIn l n p0.toInt64 0 3 _ e1) 3 q1623 q1624 q107 q1625 (hd_isIn).2 rfl rfl ⟨Nat.le_trans (Nat.le_of_ble_eq_true rfl) hR.1, Nat.le_trans (Nat.le_of_ble_eq_true rfl) hR.2⟩ ⟨rfl, rfl⟩ ⟨Nat.zero_le _, Nat.zero_le _⟩ (Nat.le_of_ble_eq_true rfl) dX3_mode_11 ?_
  refine lv_if_ne (tgt := 20) X.1 X.2.1 dX3_mode_14 (by decide) (fun c3 => ?_) (fun c3 => ?_)
  · replace h := m_ifF c3 h
    refine lv_aload_n X.1 X.2.1 dX3_mode_20 rfl (lv_at hl 0 rfl) ?_
    obtain ⟨s5, e4, h⟩ := m_bS h
    refine m_callV X hl.1 I hA (As := []) (rest := []) (c_remembers l n D d (m_sg st 8 0)  _ e4) 0 q1729 q1731 qs64 q107 q1732 (hd_remembers) rfl rfl ⟨Nat.le_trans (Nat.le_of_ble_eq_true rfl) hR.1, Nat.le_trans (Nat.le_of_ble_eq_true rfl) hR.2⟩ ⟨rfl, rfl⟩ ⟨Nat.zero_le _, Nat.zero_le _⟩ (Nat.le_of_ble_eq_true rfl) dX3_mode_21 (fun H locs I => ?_)
    refine lv_aload_n X.1 X.2.1 dX3_mode_24 rfl (lv_at hl 0 rfl) ?_
    refine m_get X I 0 (by decide) rfl rfl rfl q1517 (v := .ref (d.2.1 0)) rfl dX3_mode_25 ?_
    refine lv_iconst (v := 1) X.1 X.2.1 dX3_mode_28 (by decide) ?_
    obtain ⟨g6, h⟩ := m_gS h
    refine m_iald X I 1 (n := 266) (f := s5.2.1 0) rfl g6 dX3_mode_29 ?_
    refine lv_istore_n (lv' := [(2, .int (s5.2.1 0 (1 : Int32).toNatClampNeg)), (0, .ref d.1), (1, .int p0)]) X.1 X.2.1 dX3_mode_30 rfl hl (by decide) rfl (fun ls hl => ?_)
    refine lv_aload_n X.1 X.2.1 dX3_mode_31 rfl (lv_at hl 1 rfl) ?_
    refine m_get X I 0 (by decide) rfl rfl rfl q1517 (v := .ref (d.2.1 0)) rfl dX3_mode_32 ?_
    refine lv_iconst (v := 1) X.1 X.2.1 dX3_mode_35 (by decide) ?_
    refine lv_iload_n X.1 X.2.1 dX3_mode_36 rfl (lv_at hl 2 rfl) ?_
    obtain ⟨g7, h⟩ := m_gS h
    refine m_iast X I 1 (n := 266) (f := s5.2.1 0) rfl (m_st0 d _ _ _) g7 dX3_mode_37 (fun H locs I => ?_)
    refine lv_iload_n X.1 X.2.1 dX3_mode_38 rfl (lv_at hl 0 rfl) ?_
    obtain ⟨rfl, rfl⟩ := m_e2 h
    exact hret H locs ls 39 dX3_mode_39 I
  · replace h := m_ifT c3 h
    refine lv_bipush (v := (-3)) X.1 X.2.1 dX3_mode_17 (by decide) ?_
    obtain ⟨rfl, rfl⟩ := m_e2 h
    exact hret H locs ls 19 dX3_mode_19 I
end S_mode
theorem c_mode (l : Launch) (n : Nat) (D : va_G) (d : MD) (st : MS) (p0 : Int32) (r : Int32) (st' : MS) (h : f_mode n st p0 = some (r, st')) : m_Mi l yX3_mode cX3_mode 3 (some .int) ({ frames := 1, cells := 0, slots := 0, locals := 25 } : Room) D d st [.ref d.1, .int p0] r st' :=
  m_startI (lvl := [(0, .ref d.1), (1, .int p0)]) (by decide) rfl (Nat.le_of_ble_eq_true rfl) rfl (fun p e s m args below meth c ls X hr hlk hl hA I => w_mode X hA ⟨Nat.le_refl _, Nat.le_refl _⟩ n st p0 (r, st') h (fun H locs ls pc hd I => m_iret X I hr hlk hd) _ _ ls I hl)

/-! method undo()I -/
def f_undo_L27 (n : Nat) (v1 : Int32) (st : MS) : Option ((Int32 × MS) ⊕ MS) :=
  m_if ((266 : Int32) ≤ (v1 : Int32)) (some (.inr st)) (m_g (m_in ((266 * (st.1 7)) + v1) 2660) (m_g (m_in v1 266) (some (.inl ((v1 + 1, m_sa st 0 (v1 : Int32).toNatClampNeg (st.2.1 2 ((266 * (st.1 7)) + v1 : Int32).toNatClampNeg)))))))
def f_undo_L27l (n : Nat) (x : (Int32 × MS)) : Option MS := m_lp (fun (x : (Int32 × MS)) => f_undo_L27 n x.1 x.2) n x
def f_undo (n : Nat) (st : MS) : Option (Int32 × MS) :=
  m_if (((m_sg st 8 0).1 7 : Int32) = 0) (some ((-5), m_sg st 8 0)) (m_b (f_undo_L27l n ((0, m_sg (m_sg st 8 0) 7 (((m_sg st 8 0).1 7) - 1)))) (fun s6 => some (s6.1 7, s6)))
theorem hd_undo : yX3_undo.cls = RX3 ∧ yX3_undo.cls ≠ "java/lang/invoke/MethodHandle" ∧ yX3_undo.cls ≠ "java/lang/invoke/VarHandle" ∧ (parseMethodDescriptor yX3_undo.desc).map (fun d => d.parameters.length) = some 0 := by decide +kernel
section S_undo
variable {p : Program} {l : Launch} {e : Env} {R : Room} {s : State} {m : MethodId} {args : Array Value} {below : List Frame} {meth : Method} {c : Code} {Q : State → Prop} {D : va_G} {A : Nat → Prop} {d : MD}
theorem wf_undo_L27 (X : m_X D A d p s m c cX3_undo 2 args) (hA : ∀ q, s.heap.size ≤ q → A q) (hR : 0 ≤ R.frames ∧ 0 ≤ R.locals) (n : Nat)  (x : (Int32 × MS)) (z : MS) (hz : f_undo_L27l n x = some z) (hE : (fun (z : MS) => ∀ (H : Heap) (locs : List Loc) (ls : Array Slot), m_I D A d s.heap z H locs → lv_has ls 2 [(0, .ref d.1)] → W p l e R s m args below meth c H locs 0 0 Q (F0 m 61 ls [])) z) : (fun (x : (Int32 × MS)) => ∀ (H : Heap) (locs : List Loc) (ls : Array Slot), m_I D A d s.heap x.2 H locs → lv_has ls 2 [(0, .ref d.1), (1, .int x.1)] → W p l e R s m args below meth c H locs 0 0 Q (F0 m 27 ls [])) x := by
  refine m_lpW (G := fun (x : (Int32 × MS)) => ∀ (H : Heap) (locs : List Loc) (ls : Array Slot), m_I D A d s.heap x.2 H locs → lv_has ls 2 [(0, .ref d.1), (1, .int x.1)] → W p l e R s m args below meth c H locs 0 0 Q (F0 m 27 ls [])) (E := fun (z : MS) => ∀ (H : Heap) (locs : List Loc) (ls : Array Slot), m_I D A d s.heap z H locs → lv_has ls 2 [(0, .ref d.1)] → W p l e R s m args below meth c H locs 0 0 Q (F0 m 61 ls [])) ?_ n x z hz hE
  rintro ⟨v1, st⟩ r h hr H locs ls I hl
  replace h : f_undo_L27 n v1 st = some r := h
  unfold f_undo_L27 at h
  refine lv_iload_n X.1 X.2.1 dX3_undo_27 rfl (lv_at hl 1 rfl) ?_
  refine lv_sipush (v := 266) X.1 X.2.1 dX3_undo_28 (by decide) ?_
  refine lv_icmp_ge (tgt := 61) X.1 X.2.1 dX3_undo_31 (by decide) (fun c2 => ?_) (fun c2 => ?_)
  · replace h := m_ifT c2 h
    cases h
    exact hr H locs ls I (lv_sub hl [0] rfl)
  · replace h := m_ifF c2 h
    refine lv_aload_n X.1 X.2.1 dX3_undo_34 rfl (lv_at hl 0 rfl) ?_
    refine m_get X I 0 (by decide) rfl rfl rfl q1517 (v := .ref (d.2.1 0)) rfl dX3_undo_35 ?_
    refine lv_iload_n X.1 X.2.1 dX3_undo_38 rfl (lv_at hl 1 rfl) ?_
    refine lv_aload_n X.1 X.2.1 dX3_undo_39 rfl (lv_at hl 0 rfl) ?_
    refine m_get X I 2 (by decide) rfl rfl rfl q1519 (v := .ref (d.2.1 2)) rfl dX3_undo_40 ?_
    refine lv_sipush (v := 266) X.1 X.2.1 dX3_undo_43 (by decide) ?_
    refine lv_aload_n X.1 X.2.1 dX3_undo_46 rfl (lv_at hl 0 rfl) ?_
    refine m_get X I 7 (by decide) rfl rfl rfl q1524 (v := .int (st.1 7)) rfl dX3_undo_47 ?_
    refine lv_imul X.1 X.2.1 dX3_undo_50 ?_
    refine lv_iload_n X.1 X.2.1 dX3_undo_51 rfl (lv_at hl 1 rfl) ?_
    refine lv_iadd X.1 X.2.1 dX3_undo_52 ?_
    obtain ⟨g3, h⟩ := m_gS h
    refine m_iald X I 3 (n := 2660) (f := st.2.1 2) rfl g3 dX3_undo_53 ?_
    obtain ⟨g4, h⟩ := m_gS h
    refine m_iast X I 1 (n := 266) (f := st.2.1 0) rfl (m_st0 d _ _ _) g4 dX3_undo_54 (fun H locs I => ?_)
    refine lv_iinc (v := v1 + 1) (lv' := [(1, .int (v1 + 1)), (0, .ref d.1)]) X.1 X.2.1 dX3_undo_55 hl (k := 1) rfl rfl (by decide) rfl (fun ls hl => ?_)
    refine lv_goto (tgt := 27) X.1 X.2.1 dX3_undo_58 (by decide) ?_
    cases h
    exact hr H locs ls I (lv_sub hl [1, 0] rfl)
theorem w_undo (X : m_X D A d p s m c cX3_undo 2 args) (hA : ∀ q, s.heap.size ≤ q → A q) (hR : 0 ≤ R.frames ∧ 0 ≤ R.locals) (n : Nat) (st : MS) (r : (Int32 × MS)) (h : f_undo n st = some r) (hret : ∀ (H : Heap) (locs : List Loc) (ls : Array Slot) (pc : Nat), decode cX3_undo pc = .ok (.ireturn, 1) → m_I D A d s.heap r.2 H locs → W p l e R s m args below meth c H locs 0 0 Q (F0 m pc ls [.int r.1])) : ∀ (H : Heap) (locs : List Loc) (ls : Array Slot), m_I D A d s.heap st H locs → lv_has ls 2 [(0, .ref d.1)] → W p l e R s m args below meth c H locs 0 0 Q (F0 m 0 ls []) := by
  obtain ⟨r0, s0⟩ := r
  intro H locs ls I hl
  unfold f_undo at h
  refine lv_aload_n X.1 X.2.1 dX3_undo_0 rfl (lv_at hl 0 rfl) ?_
  refine lv_iconst (v := 0) X.1 X.2.1 dX3_undo_1 (by decide) ?_
  refine m_put X I 8 (by decide) rfl rfl rfl q1525 rfl (m_set8 d _ _) dX3_undo_2 (fun H locs I => ?_)
  refine lv_aload_n X.1 X.2.1 dX3_undo_5 rfl (lv_at hl 0 rfl) ?_
  refine m_get X I 7 (by decide) rfl rfl rfl q1524 (v := .int ((m_sg st 8 0).1 7)) rfl dX3_undo_6 ?_
  refine lv_if_ne (tgt := 15) X.1 X.2.1 dX3_undo_9 (by decide) (fun c1 => ?_) (fun c1 => ?_)
  · replace h := m_ifF c1 h
    refine lv_aload_n X.1 X.2.1 dX3_undo_15 rfl (lv_at hl 0 rfl) ?_
    refine lv_dup X.1 X.2.1 dX3_undo_16 rfl ?_
    refine m_get X I 7 (by decide) rfl rfl rfl q1524 (v := .int ((m_sg st 8 0).1 7)) rfl dX3_undo_17 ?_
    refine lv_iconst (v := 1) X.1 X.2.1 dX3_undo_20 (by decide) ?_
    refine lv_isub X.1 X.2.1 dX3_undo_21 ?_
    refine m_put X I 7 (by decide) rfl rfl rfl q1524 rfl (m_set7 d _ _) dX3_undo_22 (fun H locs I => ?_)
    refine lv_iconst (v := 0) X.1 X.2.1 dX3_undo_25 (by decide) ?_
    refine lv_istore_n (lv' := [(1, .int 0), (0, .ref d.1)]) X.1 X.2.1 dX3_undo_26 rfl hl (by decide) rfl (fun ls hl => ?_)
    obtain ⟨s6, e5, h⟩ := m_bS h
    refine wf_undo_L27 X hA hR n  _ _ e5 (fun H locs ls I hl => ?_) H locs ls I (lv_sub hl [1, 0] rfl)
    refine lv_aload_n X.1 X.2.1 dX3_undo_61 rfl (lv_at hl 0 rfl) ?_
    refine m_get X I 7 (by decide) rfl rfl rfl q1524 (v := .int (s6.1 7)) rfl dX3_undo_62 ?_
    obtain ⟨rfl, rfl⟩ := m_e2 h
    exact hret H locs ls 65 dX3_undo_65 I
  · replace h := m_ifT c1 h
    refine lv_bipush (v := (-5)) X.1 X.2.1 dX3_undo_12 (by decide) ?_
    obtain ⟨rfl, rfl⟩ := m_e2 h
    exact hret H locs ls 14 dX3_undo_14 I
end S_undo
theorem c_undo (l : Launch) (n : Nat) (D : va_G) (d : MD) (st : MS) (r : Int32) (st' : MS) (h : f_undo n st = some (r, st')) : m_Mi l yX3_undo cX3_undo 2 (some .int) ({ frames := 0, cells := 0, slots := 0, locals := 0 } : Room) D d st [.ref d.1] r st' :=
  m_startI (lvl := [(0, .ref d.1)]) (by decide) rfl (Nat.le_of_ble_eq_true rfl) rfl (fun p e s m args below meth c ls X hr hlk hl hA I => w_undo X hA ⟨Nat.le_refl _, Nat.le_refl _⟩ n st (r, st') h (fun H locs ls pc hd I => m_iret X I hr hlk hd) _ _ ls I hl)

/-! method tradeOf(II)I -/
def f_tradeOf_J36 (n : Nat) (st : MS) (t0 : Int32) : Option (Int32 × MS) :=
  some (t0, st)
def f_tradeOf_J34 (n : Nat) (st : MS) : Option (Int32 × MS) :=
  f_tradeOf_J36 n st ((-2))
def f_tradeOf (n : Nat) (st : MS) (p0 : Int32) (p1 : Int32) : Option (Int32 × MS) :=
  m_b (f_isTrade n (m_sg st 8 0) p0) (fun r2 => m_if ((r2 : Int32) = 0) (f_tradeOf_J34 n (m_sg st 8 0)) (m_b (f_isIn n p1.toInt64 0 4) (fun r5 => m_if ((r5 : Int32) = 0) (f_tradeOf_J34 n (m_sg st 8 0)) (m_b (f_tradeAt n (m_sg st 8 0) p0 p1) (fun r8 => f_tradeOf_J36 n (m_sg st 8 0) r8)))))
theorem hd_tradeOf : yX3_tradeOf.cls = RX3 ∧ yX3_tradeOf.cls ≠ "java/lang/invoke/MethodHandle" ∧ yX3_tradeOf.cls ≠ "java/lang/invoke/VarHandle" ∧ (parseMethodDescriptor yX3_tradeOf.desc).map (fun d => d.parameters.length) = some 2 := by decide +kernel
section S_tradeOf
variable {p : Program} {l : Launch} {e : Env} {R : Room} {s : State} {m : MethodId} {args : Array Value} {below : List Frame} {meth : Method} {c : Code} {Q : State → Prop} {D : va_G} {A : Nat → Prop} {d : MD}
theorem w_tradeOf (X : m_X D A d p s m c cX3_tradeOf 3 args) (hA : ∀ q, s.heap.size ≤ q → A q) (hR : 2 ≤ R.frames ∧ 46 ≤ R.locals) (n : Nat) (st : MS) (p0 : Int32) (p1 : Int32) (r : (Int32 × MS)) (h : f_tradeOf n st p0 p1 = some r) (hret : ∀ (H : Heap) (locs : List Loc) (ls : Array Slot) (pc : Nat), decode cX3_tradeOf pc = .ok (.ireturn, 1) → m_I D A d s.heap r.2 H locs → W p l e R s m args below meth c H locs 0 0 Q (F0 m pc ls [.int r.1])) : ∀ (H : Heap) (locs : List Loc) (ls : Array Slot), m_I D A d s.heap st H locs → lv_has ls 3 [(0, .ref d.1), (1, .int p0), (2, .int p1)] → W p l e R s m args below meth c H locs 0 0 Q (F0 m 0 ls []) := by
  obtain ⟨r0, s0⟩ := r
  have k36 : ∀ (st : MS) (t0 : Int32) (H : Heap) (locs : List Loc) (ls : Array Slot), f_tradeOf_J36 n st t0 = some (r0, s0) → m_I D A d s.heap st H locs → lv_has ls 3 [] → W p l e R s m args below meth c H locs 0 0 Q (F0 m 36 ls [.int t0]) := by
    intro st t0 H locs ls h I hl
    unfold f_tradeOf_J36 at h
    obtain ⟨rfl, rfl⟩ := m_e2 h
    exact hret H locs ls 36 dX3_tradeOf_36 I
  have k34 : ∀ (st : MS) (H : Heap) (locs : List Loc) (ls : Array Slot), f_tradeOf_J34 n st = some (r0, s0) → m_I D A d s.heap st H locs → lv_has ls 3 [] → W p l e R s m args below meth c H locs 0 0 Q (F0 m 34 ls []) := by
    intro st H locs ls h I hl
    unfold f_tradeOf_J34 at h
    refine lv_bipush (v := (-2)) X.1 X.2.1 dX3_tradeOf_34 (by decide) ?_
    exact k36 st ((-2)) H locs ls h I (lv_sub hl [] rfl)
  intro H locs ls I hl
  unfold f_tradeOf at h
  refine lv_aload_n X.1 X.2.1 dX3_tradeOf_0 rfl (lv_at hl 0 rfl) ?_
  refine lv_iconst (v := 0) X.1 X.2.1 dX3_tradeOf_1 (by decide) ?_
  refine m_put X I 8 (by decide) rfl rfl rfl q1525 rfl (m_set8 d _ _) dX3_tradeOf_2 (fun H locs I => ?_)
  refine lv_aload_n X.1 X.2.1 dX3_tradeOf_5 rfl (lv_at hl 0 rfl) ?_
  refine lv_iload_n X.1 X.2.1 dX3_tradeOf_6 rfl (lv_at hl 1 rfl) ?_
  obtain ⟨r2, e1, h⟩ := m_bS h
  refine m_callI X hl.1 I hA (As := [.int p0]) (rest := []) (c_isTrade l n D d (m_sg st 8 0) p0 _ e1) 1 q1737 q1739 qs65 q107 q1740 (hd_isTrade) rfl rfl ⟨Nat.le_trans (Nat.le_of_ble_eq_true rfl) hR.1, Nat.le_trans (Nat.le_of_ble_eq_true rfl) hR.2⟩ ⟨rfl, rfl⟩ ⟨Nat.zero_le _, Nat.zero_le _⟩ (Nat.le_of_ble_eq_true rfl) dX3_tradeOf_7 (fun H locs I => ?_)
  refine lv_if_eq (tgt := 34) X.1 X.2.1 dX3_tradeOf_10 (by decide) (fun c3 => ?_) (fun c3 => ?_)
  · replace h := m_ifT c3 h
    exact k34 (m_sg st 8 0) H locs ls h I (lv_sub hl [] rfl)
  · replace h := m_ifF c3 h
    refine lv_iload_n X.1 X.2.1 dX3_tradeOf_13 rfl (lv_at hl 2 rfl) ?_
    refine lv_i2l X.1 X.2.1 dX3_tradeOf_14 rfl ?_
    refine lv_lconst (v := 0) X.1 X.2.1 dX3_tradeOf_15 (by decide) ?_
    refine lv_ldc2 (v := 4) X.1 X.2.1 X.2.2.2.1 (X.2.2.1 _ q1767) dX3_tradeOf_16 ?_
    obtain ⟨r5, e4, h⟩ := m_bS h
    refine m_callS X hl.1 (As := [.long p1.toInt64, .long 0, .long 4]) (rest := []) (c_isIn l n p1.toInt64 0 4 _ e4) 3 q1623 q1624 q107 q1625 (hd_isIn).2 rfl rfl ⟨Nat.le_trans (Nat.le_of_ble_eq_true rfl) hR.1, Nat.le_trans (Nat.le_of_ble_eq_true rfl) hR.2⟩ ⟨rfl, rfl⟩ ⟨Nat.zero_le _, Nat.zero_le _⟩ (Nat.le_of_ble_eq_true rfl) dX3_tradeOf_19 ?_
    refine lv_if_eq (tgt := 34) X.1 X.2.1 dX3_tradeOf_22 (by decide) (fun c6 => ?_) (fun c6 => ?_)
    · replace h := m_ifT c6 h
      exact k34 (m_sg st 8 0) H locs ls h I (lv_sub hl [] rfl)
    · replace h := m_ifF c6 h
      refine lv_aload_n X.1 X.2.1 dX3_tradeOf_25 rfl (lv_at hl 0 rfl) ?_
      refine lv_iload_n X.1 X.2.1 dX3_tradeOf_26 rfl (lv_at hl 1 rfl) ?_
      refine lv_iload_n X.1 X.2.1 dX3_tradeOf_27 rfl (lv_at hl 2 rfl) ?_
      obtain ⟨r8, e7, h⟩ := m_bS h
      refine m_callI X hl.1 I hA (As := [.int p0, .int p1]) (rest := []) (c_tradeAt l n D d (m_sg st 8 0) p0 p1 _ e7) 2 q1683 q1685 qs55 q107 q1686 (hd_tradeAt) rfl rfl ⟨Nat.le_trans (Nat.le_of_ble_eq_true rfl) hR.1, Nat.le_trans (Nat.le_of_ble_eq_true rfl) hR.2⟩ ⟨rfl, rfl⟩ ⟨Nat.zero_le _, Nat.zero_le _⟩ (Nat.le_of_ble_eq_true rfl) dX3_tradeOf_28 (fun H locs I => ?_)
      refine lv_goto (tgt := 36) X.1 X.2.1 dX3_tradeOf_31 (by decide) ?_
      exact k36 (m_sg st 8 0) r8 H locs ls h I (lv_sub hl [] rfl)
end S_tradeOf
theorem c_tradeOf (l : Launch) (n : Nat) (D : va_G) (d : MD) (st : MS) (p0 : Int32) (p1 : Int32) (r : Int32) (st' : MS) (h : f_tradeOf n st p0 p1 = some (r, st')) : m_Mi l yX3_tradeOf cX3_tradeOf 3 (some .int) ({ frames := 2, cells := 0, slots := 0, locals := 46 } : Room) D d st [.ref d.1, .int p0, .int p1] r st' :=
  m_startI (lvl := [(0, .ref d.1), (1, .int p0), (2, .int p1)]) (by decide) rfl (Nat.le_of_ble_eq_true rfl) rfl (fun p e s m args below meth c ls X hr hlk hl hA I => w_tradeOf X hA ⟨Nat.le_refl _, Nat.le_refl _⟩ n st p0 p1 (r, st') h (fun H locs ls pc hd I => m_iret X I hr hlk hd) _ _ ls I hl)

/-! method isFree(II)Z -/
def f_isFree_J24 (n : Nat) (st : MS) (t0 : Int32) : Option (Int32) :=
  m_g (m_01 t0) (some t0)
def f_isFree_J23 (n : Nat) (st : MS) : Option (Int32) :=
  f_isFree_J24 n st 0
def f_isFree (n : Nat) (st : MS) (p0 : Int32) (p1 : Int32) : Option (Int32) :=
  m_b (f_tradeAt n st p0 3) (fun r2 => m_if ((r2 : Int32) = (p1 : Int32)) (m_b (f_tradeAt n st p0 4) (fun r6 => m_if ((r6 : Int32) = 0) (f_isFree_J24 n st 1) (f_isFree_J23 n st))) (f_isFree_J23 n st))
theorem hd_isFree : yX3_isFree.cls = RX3 ∧ yX3_isFree.cls ≠ "java/lang/invoke/MethodHandle" ∧ yX3_isFree.cls ≠ "java/lang/invoke/VarHandle" ∧ (parseMethodDescriptor yX3_isFree.desc).map (fun d => d.parameters.length) = some 2 := by decide +kernel
section S_isFree
variable {p : Program} {l : Launch} {e : Env} {R : Room} {s : State} {m : MethodId} {args : Array Value} {below : List Frame} {meth : Method} {c : Code} {Q : State → Prop} {D : va_G} {A : Nat → Prop} {d : MD}
theorem w_isFree (X : m_X D A d p s m c cX3_isFree 3 args) (hA : ∀ q, s.heap.size ≤ q → A q) (hR : 1 ≤ R.frames ∧ 22 ≤ R.locals) (n : Nat) (st : MS) (p0 : Int32) (p1 : Int32) (r : Int32) (h : f_isFree n st p0 p1 = some r) (hret : ∀ (H : Heap) (locs : List Loc) (ls : Array Slot) (pc : Nat), m_01 r = true → decode cX3_isFree pc = .ok (.ireturn, 1) → m_I D A d s.heap st H locs → W p l e R s m args below meth c H locs 0 0 Q (F0 m pc ls [.int r])) : ∀ (H : Heap) (locs : List Loc) (ls : Array Slot), m_I D A d s.heap st H locs → lv_has ls 3 [(0, .ref d.1), (1, .int p0), (2, .int p1)] → W p l e R s m args below meth c H locs 0 0 Q (F0 m 0 ls []) := by
  have k24 : ∀ (t0 : Int32) (H : Heap) (locs : List Loc) (ls : Array Slot), f_isFree_J24 n st t0 = some r → m_I D A d s.heap st H locs → lv_has ls 3 [] → W p l e R s m args below meth c H locs 0 0 Q (F0 m 24 ls [.int t0]) := by
    intro t0 H locs ls h I hl
    unfold f_isFree_J24 at h
    obtain ⟨g4, h⟩ := m_gS h
    obtain rfl := m_e1 h
    exact hret H locs ls 24 g4 dX3_isFree_24 I
  have k23 : ∀  (H : Heap) (locs : List Loc) (ls : Array Slot), f_isFree_J23 n st = some r → m_I D A d s.heap st H locs → lv_has ls 3 [] → W p l e R s m args below meth c H locs 0 0 Q (F0 m 23 ls []) := by
    intro  H locs ls h I hl
    unfold f_isFree_J23 at h
    refine lv_iconst (v := 0) X.1 X.2.1 dX3_isFree_23 (by decide) ?_
    exact k24 0 H locs ls h I (lv_sub hl [] rfl)
  intro H locs ls I hl
  unfold f_isFree at h
  refine lv_aload_n X.1 X.2.1 dX3_isFree_0 rfl (lv_at hl 0 rfl) ?_
  refine lv_iload_n X.1 X.2.1 dX3_isFree_1 rfl (lv_at hl 1 rfl) ?_
  refine lv_iconst (v := 3) X.1 X.2.1 dX3_isFree_2 (by decide) ?_
  obtain ⟨r2, e1, h⟩ := m_bS h
  refine m_callI X hl.1 I hA (As := [.int p0, .int 3]) (rest := []) (c_tradeAt l n D d st p0 3 _ e1) 2 q1683 q1685 qs55 q107 q1686 (hd_tradeAt) rfl rfl ⟨Nat.le_trans (Nat.le_of_ble_eq_true rfl) hR.1, Nat.le_trans (Nat.le_of_ble_eq_true rfl) hR.2⟩ ⟨rfl, rfl⟩ ⟨Nat.zero_le _, Nat.zero_le _⟩ (Nat.le_of_ble_eq_true rfl) dX3_isFree_3 (fun H locs I => ?_)
  refine lv_iload_n X.1 X.2.1 dX3_isFree_6 rfl (lv_at hl 2 rfl) ?_
  refine lv_icmp_ne (tgt := 23) X.1 X.2.1 dX3_isFree_7 (by decide) (fun c3 => ?_) (fun c3 => ?_)
  · replace h := m_ifF c3 h
    exact k23  H locs ls h I (lv_sub hl [] rfl)
  · replace h := m_ifT c3 h
    refine lv_aload_n X.1 X.2.1 dX3_isFree_10 rfl (lv_at hl 0 rfl) ?_
    refine lv_iload_n X.1 X.2.1 dX3_isFree_11 rfl (lv_at hl 1 rfl) ?_
    refine lv_iconst (v := 4) X.1 X.2.1 dX3_isFree_12 (by decide) ?_
    obtain ⟨r6, e5, h⟩ := m_bS h
    refine m_callI X hl.1 I hA (As := [.int p0, .int 4]) (rest := []) (c_tradeAt l n D d st p0 4 _ e5) 2 q1683 q1685 qs55 q107 q1686 (hd_tradeAt) rfl rfl ⟨Nat.le_trans (Nat.le_of_ble_eq_true rfl) hR.1, Nat.le_trans (Nat.le_of_ble_eq_true rfl) hR.2⟩ ⟨rfl, rfl⟩ ⟨Nat.zero_le _, Nat.zero_le _⟩ (Nat.le_of_ble_eq_true rfl) dX3_isFree_13 (fun H locs I => ?_)
    refine lv_if_ne (tgt := 23) X.1 X.2.1 dX3_isFree_16 (by decide) (fun c7 => ?_) (fun c7 => ?_)
    · replace h := m_ifF c7 h
      exact k23  H locs ls h I (lv_sub hl [] rfl)
    · replace h := m_ifT c7 h
      refine lv_iconst (v := 1) X.1 X.2.1 dX3_isFree_19 (by decide) ?_
      refine lv_goto (tgt := 24) X.1 X.2.1 dX3_isFree_20 (by decide) ?_
      exact k24 1 H locs ls h I (lv_sub hl [] rfl)
end S_isFree
theorem c_isFree (l : Launch) (n : Nat) (D : va_G) (d : MD) (st : MS) (p0 : Int32) (p1 : Int32) (r : Int32) (h : f_isFree n st p0 p1 = some r) : m_Mi l yX3_isFree cX3_isFree 3 (some .boolean) ({ frames := 1, cells := 0, slots := 0, locals := 22 } : Room) D d st [.ref d.1, .int p0, .int p1] r st :=
  m_startI (lvl := [(0, .ref d.1), (1, .int p0), (2, .int p1)]) (by decide) rfl (Nat.le_of_ble_eq_true rfl) rfl (fun p e s m args below meth c ls X hr hlk hl hA I => w_isFree X hA ⟨Nat.le_refl _, Nat.le_refl _⟩ n st p0 p1 r h (fun H locs ls pc g hd I => m_zret X I hr hlk g hd) _ _ ls I hl)

/-! method isOf(II)Z -/
def f_isOf_J25 (n : Nat) (st : MS) (t0 : Int32) : Option (Int32) :=
  m_g (m_01 t0) (some t0)
def f_isOf_J20 (n : Nat) (st : MS) : Option (Int32) :=
  f_isOf_J25 n st 1
def f_isOf (n : Nat) (st : MS) (p0 : Int32) (p1 : Int32) : Option (Int32) :=
  m_b (f_tradeAt n st p0 0) (fun r2 => m_if ((r2 : Int32) = (p1 : Int32)) (f_isOf_J20 n st) (m_b (f_tradeAt n st p0 1) (fun r6 => m_if ((r6 : Int32) = (p1 : Int32)) (f_isOf_J20 n st) (f_isOf_J25 n st 0))))
theorem hd_isOf : yX3_isOf.cls = RX3 ∧ yX3_isOf.cls ≠ "java/lang/invoke/MethodHandle" ∧ yX3_isOf.cls ≠ "java/lang/invoke/VarHandle" ∧ (parseMethodDescriptor yX3_isOf.desc).map (fun d => d.parameters.length) = some 2 := by decide +kernel
section S_isOf
variable {p : Program} {l : Launch} {e : Env} {R : Room} {s : State} {m : MethodId} {args : Array Value} {below : List Frame} {meth : Method} {c : Code} {Q : State → Prop} {D : va_G} {A : Nat → Prop} {d : MD}
theorem w_isOf (X : m_X D A d p s m c cX3_isOf 3 args) (hA : ∀ q, s.heap.size ≤ q → A q) (hR : 1 ≤ R.frames ∧ 22 ≤ R.locals) (n : Nat) (st : MS) (p0 : Int32) (p1 : Int32) (r : Int32) (h : f_isOf n st p0 p1 = some r) (hret : ∀ (H : Heap) (locs : List Loc) (ls : Array Slot) (pc : Nat), m_01 r = true → decode cX3_isOf pc = .ok (.ireturn, 1) → m_I D A d s.heap st H locs → W p l e R s m args below meth c H locs 0 0 Q (F0 m pc ls [.int r])) : ∀ (H : Heap) (locs : List Loc) (ls : Array Slot), m_I D A d s.heap st H locs → lv_has ls 3 [(0, .ref d.1), (1, .int p0), (2, .int p1)] → W p l e R s m args below meth c H locs 0 0 Q (F0 m 0 ls []) := by
  have k25 : ∀ (t0 : Int32) (H : Heap) (locs : List Loc) (ls : Array Slot), f_isOf_J25 n st t0 = some r → m_I D A d s.heap st H locs → lv_has ls 3 [] → W p l e R s m args below meth c H locs 0 0 Q (F0 m 25 ls [.int t0]) := by
    intro t0 H locs ls h I hl
    unfold f_isOf_J25 at h
    obtain ⟨g4, h⟩ := m_gS h
    obtain rfl := m_e1 h
    exact hret H locs ls 25 g4 dX3_isOf_25 I
  have k20 : ∀  (H : Heap) (locs : List Loc) (ls : Array Slot), f_isOf_J20 n st = some r → m_I D A d s.heap st H locs → lv_has ls 3 [] → W p l e R s m args below meth c H locs 0 0 Q (F0 m 20 ls []) := by
    intro  H locs ls h I hl
    unfold f_isOf_J20 at h
    refine lv_iconst (v := 1) X.1 X.2.1 dX3_isOf_20 (by decide) ?_
    refine lv_goto (tgt := 25) X.1 X.2.1 dX3_isOf_21 (by decide) ?_
    exact k25 1 H locs ls h I (lv_sub hl [] rfl)
  intro H locs ls I hl
  unfold f_isOf at h
  refine lv_aload_n X.1 X.2.1 dX3_isOf_0 rfl (lv_at hl 0 rfl) ?_
  refine lv_iload_n X.1 X.2.1 dX3_isOf_1 rfl (lv_at hl 1 rfl) ?_
  refine lv_iconst (v := 0) X.1 X.2.1 dX3_isOf_2 (by decide) ?_
  obtain ⟨r2, e1, h⟩ := m_bS h
  refine m_callI X hl.1 I hA (As := [.int p0, .int 0]) (rest := []) (c_tradeAt l n D d st p0 0 _ e1) 2 q1683 q1685 qs55 q107 q1686 (hd_tradeAt) rfl rfl ⟨Nat.le_trans (Nat.le_of_ble_eq_true rfl) hR.1, Nat.le_trans (Nat.le_of_ble_eq_true rfl) hR.2⟩ ⟨rfl, rfl⟩ ⟨Nat.zero_le _, Nat.zero_le _⟩ (Nat.le_of_ble_eq_true rfl) dX3_isOf_3 (fun H locs I => ?_)
  refine lv_iload_n X.1 X.2.1 dX3_isOf_6 rfl (lv_at hl 2 rfl) ?_
  refine lv_icmp_eq (tgt := 20) X.1 X.2.1 dX3_isOf_7 (by decide) (fun c3 => ?_) (fun c3 => ?_)
  · replace h := m_ifT c3 h
    exact k20  H locs ls h I (lv_sub hl [] rfl)
  · replace h := m_ifF c3 h
    refine lv_aload_n X.1 X.2.1 dX3_isOf_10 rfl (lv_at hl 0 rfl) ?_
    refine lv_iload_n X.1 X.2.1 dX3_isOf_11 rfl (lv_at hl 1 rfl) ?_
    refine lv_iconst (v := 1) X.1 X.2.1 dX3_isOf_12 (by decide) ?_
    obtain ⟨r6, e5, h⟩ := m_bS h
    refine m_callI X hl.1 I hA (As := [.int p0, .int 1]) (rest := []) (c_tradeAt l n D d st p0 1 _ e5) 2 q1683 q1685 qs55 q107 q1686 (hd_tradeAt) rfl rfl ⟨Nat.le_trans (Nat.le_of_ble_eq_true rfl) hR.1, Nat.le_trans (Nat.le_of_ble_eq_true rfl) hR.2⟩ ⟨rfl, rfl⟩ ⟨Nat.zero_le _, Nat.zero_le _⟩ (Nat.le_of_ble_eq_true rfl) dX3_isOf_13 (fun H locs I => ?_)
    refine lv_iload_n X.1 X.2.1 dX3_isOf_16 rfl (lv_at hl 2 rfl) ?_
    refine lv_icmp_ne (tgt := 24) X.1 X.2.1 dX3_isOf_17 (by decide) (fun c7 => ?_) (fun c7 => ?_)
    · replace h := m_ifF c7 h
      refine lv_iconst (v := 0) X.1 X.2.1 dX3_isOf_24 (by decide) ?_
      exact k25 0 H locs ls h I (lv_sub hl [] rfl)
    · replace h := m_ifT c7 h
      exact k20  H locs ls h I (lv_sub hl [] rfl)
end S_isOf
theorem c_isOf (l : Launch) (n : Nat) (D : va_G) (d : MD) (st : MS) (p0 : Int32) (p1 : Int32) (r : Int32) (h : f_isOf n st p0 p1 = some r) : m_Mi l yX3_isOf cX3_isOf 3 (some .boolean) ({ frames := 1, cells := 0, slots := 0, locals := 22 } : Room) D d st [.ref d.1, .int p0, .int p1] r st :=
  m_startI (lvl := [(0, .ref d.1), (1, .int p0), (2, .int p1)]) (by decide) rfl (Nat.le_of_ble_eq_true rfl) rfl (fun p e s m args below meth c ls X hr hlk hl hA I => w_isOf X hA ⟨Nat.le_refl _, Nat.le_refl _⟩ n st p0 p1 r h (fun H locs ls pc g hd I => m_zret X I hr hlk g hd) _ _ ls I hl)

/-! method couple(II)I -/
def f_couple (n : Nat) (p0 : Int32) (p1 : Int32) : Option (Int32) :=
  some ((8 * p0) + p1)
theorem hd_couple : yX3_couple.cls = RX3 ∧ yX3_couple.cls ≠ "java/lang/invoke/MethodHandle" ∧ yX3_couple.cls ≠ "java/lang/invoke/VarHandle" ∧ (parseMethodDescriptor yX3_couple.desc).map (fun d => d.parameters.length) = some 2 := by decide +kernel
section S_couple
variable {p : Program} {l : Launch} {e : Env} {R : Room} {s : State} {m : MethodId} {args : Array Value} {below : List Frame} {meth : Method} {c : Code} {H : Heap} {locs : List Loc} {Q : State → Prop}
theorem w_couple (X : CallFix p m c cX3_couple 2 s args lw_all RX3) (hR : 0 ≤ R.frames ∧ 0 ≤ R.locals) (n : Nat) (p0 : Int32) (p1 : Int32) (r : Int32) (h : f_couple n p0 p1 = some r) (hret : ∀ (ls : Array Slot) (pc : Nat), decode cX3_couple pc = .ok (.ireturn, 1) → W p l e R s m args below meth c H locs 0 0 Q (F0 m pc ls [.int r])) : ∀ (ls : Array Slot), lv_has ls 2 [(0, .int p0), (1, .int p1)] → W p l e R s m args below meth c H locs 0 0 Q (F0 m 0 ls []) := by
  intro ls hl
  unfold f_couple at h
  refine lv_bipush (v := 8) X.1 X.2.1 dX3_couple_0 (by decide) ?_
  refine lv_iload_n X.1 X.2.1 dX3_couple_2 rfl (lv_at hl 0 rfl) ?_
  refine lv_imul X.1 X.2.1 dX3_couple_3 ?_
  refine lv_iload_n X.1 X.2.1 dX3_couple_4 rfl (lv_at hl 1 rfl) ?_
  refine lv_iadd X.1 X.2.1 dX3_couple_5 ?_
  obtain rfl := m_e1 h
  exact hret ls 6 dX3_couple_6
end S_couple
theorem c_couple (l : Launch) (n : Nat) (p0 : Int32) (p1 : Int32) (r : Int32) (h : f_couple n p0 p1 = some r) : m_Si l yX3_couple cX3_couple 2 (some .int) ({ frames := 0, cells := 0, slots := 0, locals := 0 } : Room) [.int p0, .int p1] r :=
  m_startS (lvl := [(0, .int p0), (1, .int p1)]) (by decide) rfl (Nat.le_of_ble_eq_true rfl) rfl (fun p e s m args below meth c ls X hr hlk hl => w_couple X ⟨Nat.le_refl _, Nat.le_refl _⟩ n p0 p1 r h (fun ls pc hd => m_siret X hr hlk hd) ls hl)

/-! method netBy(I)I -/
def f_netBy_L4 (n : Nat) (st : MS) (v1 : Int32) (v2 : Int32) (v3 : Int32) : Option ((Int32 × Int32) ⊕ Int32) :=
  m_if ((st.1 5 : Int32) ≤ (v3 : Int32)) (some (.inr v2)) (m_b (f_couple n v1 v3) (fun r3 => m_g (m_in r3 64) (m_b (f_couple n v3 v1) (fun r6 => m_g (m_in r6 64) (m_b (some (v2 + ((st.2.1 17 (r3 : Int32).toNatClampNeg) - (st.2.1 17 (r6 : Int32).toNatClampNeg)))) (fun y8 => some (.inl ((y8, v3 + 1)))))))))
def f_netBy_L4l (n : Nat) (st : MS) (v1 : Int32) (x : (Int32 × Int32)) : Option Int32 := m_lp (fun (x : (Int32 × Int32)) => f_netBy_L4 n st v1 x.1 x.2) n x
def f_netBy (n : Nat) (st : MS) (p0 : Int32) : Option (Int32) :=
  m_b (f_netBy_L4l n st p0 ((0, 0))) (fun z11 => some z11)
theorem hd_netBy : yX3_netBy.cls = RX3 ∧ yX3_netBy.cls ≠ "java/lang/invoke/MethodHandle" ∧ yX3_netBy.cls ≠ "java/lang/invoke/VarHandle" ∧ (parseMethodDescriptor yX3_netBy.desc).map (fun d => d.parameters.length) = some 1 := by decide +kernel
section S_netBy
variable {p : Program} {l : Launch} {e : Env} {R : Room} {s : State} {m : MethodId} {args : Array Value} {below : List Frame} {meth : Method} {c : Code} {Q : State → Prop} {D : va_G} {A : Nat → Prop} {d : MD}
theorem wf_netBy_L4 (X : m_X D A d p s m c cX3_netBy 4 args) (hA : ∀ q, s.heap.size ≤ q → A q) (hR : 1 ≤ R.frames ∧ 21 ≤ R.locals) (n : Nat) (st : MS) (v1 : Int32) (x : (Int32 × Int32)) (z : Int32) (hz : f_netBy_L4l n st v1 x = some z) (hE : (fun (z : Int32) => ∀ (H : Heap) (locs : List Loc) (ls : Array Slot), m_I D A d s.heap st H locs → lv_has ls 4 [(2, .int z)] → W p l e R s m args below meth c H locs 0 0 Q (F0 m 42 ls [])) z) : (fun (x : (Int32 × Int32)) => ∀ (H : Heap) (locs : List Loc) (ls : Array Slot), m_I D A d s.heap st H locs → lv_has ls 4 [(0, .ref d.1), (1, .int v1), (2, .int x.1), (3, .int x.2)] → W p l e R s m args below meth c H locs 0 0 Q (F0 m 4 ls [])) x := by
  refine m_lpW (G := fun (x : (Int32 × Int32)) => ∀ (H : Heap) (locs : List Loc) (ls : Array Slot), m_I D A d s.heap st H locs → lv_has ls 4 [(0, .ref d.1), (1, .int v1), (2, .int x.1), (3, .int x.2)] → W p l e R s m args below meth c H locs 0 0 Q (F0 m 4 ls [])) (E := fun (z : Int32) => ∀ (H : Heap) (locs : List Loc) (ls : Array Slot), m_I D A d s.heap st H locs → lv_has ls 4 [(2, .int z)] → W p l e R s m args below meth c H locs 0 0 Q (F0 m 42 ls [])) ?_ n x z hz hE
  rintro ⟨v2, v3⟩ r h hr H locs ls I hl
  replace h : f_netBy_L4 n st v1 v2 v3 = some r := h
  unfold f_netBy_L4 at h
  refine lv_iload_n X.1 X.2.1 dX3_netBy_4 rfl (lv_at hl 3 rfl) ?_
  refine lv_aload_n X.1 X.2.1 dX3_netBy_5 rfl (lv_at hl 0 rfl) ?_
  refine m_get X I 5 (by decide) rfl rfl rfl q1522 (v := .int (st.1 5)) rfl dX3_netBy_6 ?_
  refine lv_icmp_ge (tgt := 42) X.1 X.2.1 dX3_netBy_9 (by decide) (fun c1 => ?_) (fun c1 => ?_)
  · replace h := m_ifT c1 h
    cases h
    exact hr H locs ls I (lv_sub hl [2] rfl)
  · replace h := m_ifF c1 h
    refine lv_iload_n X.1 X.2.1 dX3_netBy_12 rfl (lv_at hl 2 rfl) ?_
    refine lv_aload_n X.1 X.2.1 dX3_netBy_13 rfl (lv_at hl 0 rfl) ?_
    refine m_get X I 17 (by decide) rfl rfl rfl q1534 (v := .ref (d.2.1 17)) rfl dX3_netBy_14 ?_
    refine lv_iload_n X.1 X.2.1 dX3_netBy_17 rfl (lv_at hl 1 rfl) ?_
    refine lv_iload_n X.1 X.2.1 dX3_netBy_18 rfl (lv_at hl 3 rfl) ?_
    obtain ⟨r3, e2, h⟩ := m_bS h
    refine m_callS X hl.1 (As := [.int v1, .int v3]) (rest := [.ref (d.2.1 17), .int v2]) (c_couple l n v1 v3 _ e2) 2 q1784 q1785 q107 q1786 (hd_couple).2 rfl rfl ⟨Nat.le_trans (Nat.le_of_ble_eq_true rfl) hR.1, Nat.le_trans (Nat.le_of_ble_eq_true rfl) hR.2⟩ ⟨rfl, rfl⟩ ⟨Nat.zero_le _, Nat.zero_le _⟩ (Nat.le_of_ble_eq_true rfl) dX3_netBy_19 ?_
    obtain ⟨g4, h⟩ := m_gS h
    refine m_iald X I 7 (n := 64) (f := st.2.1 17) rfl g4 dX3_netBy_22 ?_
    refine lv_aload_n X.1 X.2.1 dX3_netBy_23 rfl (lv_at hl 0 rfl) ?_
    refine m_get X I 17 (by decide) rfl rfl rfl q1534 (v := .ref (d.2.1 17)) rfl dX3_netBy_24 ?_
    refine lv_iload_n X.1 X.2.1 dX3_netBy_27 rfl (lv_at hl 3 rfl) ?_
    refine lv_iload_n X.1 X.2.1 dX3_netBy_28 rfl (lv_at hl 1 rfl) ?_
    obtain ⟨r6, e5, h⟩ := m_bS h
    refine m_callS X hl.1 (As := [.int v3, .int v1]) (rest := [.ref (d.2.1 17), .int (st.2.1 17 (r3 : Int32).toNatClampNeg), .int v2]) (c_couple l n v3 v1 _ e5) 2 q1784 q1785 q107 q1786 (hd_couple).2 rfl rfl ⟨Nat.le_trans (Nat.le_of_ble_eq_true rfl) hR.1, Nat.le_trans (Nat.le_of_ble_eq_true rfl) hR.2⟩ ⟨rfl, rfl⟩ ⟨Nat.zero_le _, Nat.zero_le _⟩ (Nat.le_of_ble_eq_true rfl) dX3_netBy_29 ?_
    obtain ⟨g7, h⟩ := m_gS h
    refine m_iald X I 7 (n := 64) (f := st.2.1 17) rfl g7 dX3_netBy_32 ?_
    refine lv_isub X.1 X.2.1 dX3_netBy_33 ?_
    refine lv_iadd X.1 X.2.1 dX3_netBy_34 ?_
    obtain ⟨y8, e9, h⟩ := m_bS h
    rw [m_e1 e9]
    refine lv_istore_n (lv' := [(2, .int y8), (0, .ref d.1), (1, .int v1), (3, .int v3)]) X.1 X.2.1 dX3_netBy_35 rfl hl (by decide) rfl (fun ls hl => ?_)
    refine lv_iinc (v := v3 + 1) (lv' := [(3, .int (v3 + 1)), (2, .int y8), (0, .ref d.1), (1, .int v1)]) X.1 X.2.1 dX3_netBy_36 hl (k := 3) rfl rfl (by decide) rfl (fun ls hl => ?_)
    refine lv_goto (tgt := 4) X.1 X.2.1 dX3_netBy_39 (by decide) ?_
    cases h
    exact hr H locs ls I (lv_sub hl [2, 3, 1, 0] rfl)
theorem w_netBy (X : m_X D A d p s m c cX3_netBy 4 args) (hA : ∀ q, s.heap.size ≤ q → A q) (hR : 1 ≤ R.frames ∧ 21 ≤ R.locals) (n : Nat) (st : MS) (p0 : Int32) (r : Int32) (h : f_netBy n st p0 = some r) (hret : ∀ (H : Heap) (locs : List Loc) (ls : Array Slot) (pc : Nat), decode cX3_netBy pc = .ok (.ireturn, 1) → m_I D A d s.heap st H locs → W p l e R s m args below meth c H locs 0 0 Q (F0 m pc ls [.int r])) : ∀ (H : Heap) (locs : List Loc) (ls : Array Slot), m_I D A d s.heap st H locs → lv_has ls 4 [(0, .ref d.1), (1, .int p0)] → W p l e R s m args below meth c H locs 0 0 Q (F0 m 0 ls []) := by
  intro H locs ls I hl
  unfold f_netBy at h
  refine lv_iconst (v := 0) X.1 X.2.1 dX3_netBy_0 (by decide) ?_
  refine lv_istore_n (lv' := [(2, .int 0), (0, .ref d.1), (1, .int p0)]) X.1 X.2.1 dX3_netBy_1 rfl hl (by decide) rfl (fun ls hl => ?_)
  refine lv_iconst (v := 0) X.1 X.2.1 dX3_netBy_2 (by decide) ?_
  refine lv_istore_n (lv' := [(3, .int 0), (2, .int 0), (0, .ref d.1), (1, .int p0)]) X.1 X.2.1 dX3_netBy_3 rfl hl (by decide) rfl (fun ls hl => ?_)
  obtain ⟨z11, e10, h⟩ := m_bS h
  refine wf_netBy_L4 X hA hR n st p0 _ _ e10 (fun H locs ls I hl => ?_) H locs ls I (lv_sub hl [2, 3, 1, 0] rfl)
  refine lv_iload_n X.1 X.2.1 dX3_netBy_42 rfl (lv_at hl 0 rfl) ?_
  obtain rfl := m_e1 h
  exact hret H locs ls 43 dX3_netBy_43 I
end S_netBy
theorem c_netBy (l : Launch) (n : Nat) (D : va_G) (d : MD) (st : MS) (p0 : Int32) (r : Int32) (h : f_netBy n st p0 = some r) : m_Mi l yX3_netBy cX3_netBy 4 (some .int) ({ frames := 1, cells := 0, slots := 0, locals := 21 } : Room) D d st [.ref d.1, .int p0] r st :=
  m_startI (lvl := [(0, .ref d.1), (1, .int p0)]) (by decide) rfl (Nat.le_of_ble_eq_true rfl) rfl (fun p e s m args below meth c ls X hr hlk hl hA I => w_netBy X hA ⟨Nat.le_refl _, Nat.le_refl _⟩ n st p0 r h (fun H locs ls pc hd I => m_iret X I hr hlk hd) _ _ ls I hl)

/-! method amounts(III)I -/
def f_amounts_J52 (n : Nat) (st : MS) (v1 : Int32) (v2 : Int32) (v3 : Int32) (v5 : Int32) (t0 : Int32) (t1 : Int32) : Option ((Int32 × Int32) ⊕ Int32) :=
  some (.inl ((t1 + t0, v5 + 1)))
def f_amounts_J51 (n : Nat) (st : MS) (v1 : Int32) (v2 : Int32) (v3 : Int32) (v5 : Int32) (t0 : Int32) : Option ((Int32 × Int32) ⊕ Int32) :=
  f_amounts_J52 n st v1 v2 v3 v5 0 t0
def f_amounts_L6 (n : Nat) (st : MS) (v1 : Int32) (v2 : Int32) (v3 : Int32) (v4 : Int32) (v5 : Int32) : Option ((Int32 × Int32) ⊕ Int32) :=
  m_g (m_in 0 266) (m_if ((st.2.1 0 (0 : Int32).toNatClampNeg : Int32) ≤ (v5 : Int32)) (some (.inr v4)) (m_b (f_tradeAt n st v5 3) (fun r4 => m_if ((r4 : Int32) = (v2 : Int32)) (m_b (f_tradeAt n st v5 v3) (fun r7 => m_if ((r7 : Int32) = (v1 : Int32)) (m_b (f_tradeAt n st v5 2) (fun r10 => f_amounts_J52 n st v1 v2 v3 v5 r10 v4)) (f_amounts_J51 n st v1 v2 v3 v5 v4))) (f_amounts_J51 n st v1 v2 v3 v5 v4))))
def f_amounts_L6l (n : Nat) (st : MS) (v1 : Int32) (v2 : Int32) (v3 : Int32) (x : (Int32 × Int32)) : Option Int32 := m_lp (fun (x : (Int32 × Int32)) => f_amounts_L6 n st v1 v2 v3 x.1 x.2) n x
def f_amounts (n : Nat) (st : MS) (p0 : Int32) (p1 : Int32) (p2 : Int32) : Option (Int32) :=
  m_b (f_amounts_L6l n st p0 p1 p2 ((0, 0))) (fun z12 => some z12)
theorem hd_amounts : yX3_amounts.cls = RX3 ∧ yX3_amounts.cls ≠ "java/lang/invoke/MethodHandle" ∧ yX3_amounts.cls ≠ "java/lang/invoke/VarHandle" ∧ (parseMethodDescriptor yX3_amounts.desc).map (fun d => d.parameters.length) = some 3 := by decide +kernel
section S_amounts
variable {p : Program} {l : Launch} {e : Env} {R : Room} {s : State} {m : MethodId} {args : Array Value} {below : List Frame} {meth : Method} {c : Code} {Q : State → Prop} {D : va_G} {A : Nat → Prop} {d : MD}
theorem wf_amounts_L6 (X : m_X D A d p s m c cX3_amounts 6 args) (hA : ∀ q, s.heap.size ≤ q → A q) (hR : 1 ≤ R.frames ∧ 22 ≤ R.locals) (n : Nat) (st : MS) (v1 : Int32) (v2 : Int32) (v3 : Int32) (x : (Int32 × Int32)) (z : Int32) (hz : f_amounts_L6l n st v1 v2 v3 x = some z) (hE : (fun (z : Int32) => ∀ (H : Heap) (locs : List Loc) (ls : Array Slot), m_I D A d s.heap st H locs → lv_has ls 6 [(4, .int z)] → W p l e R s m args below meth c H locs 0 0 Q (F0 m 61 ls [])) z) : (fun (x : (Int32 × Int32)) => ∀ (H : Heap) (locs : List Loc) (ls : Array Slot), m_I D A d s.heap st H locs → lv_has ls 6 [(0, .ref d.1), (1, .int v1), (2, .int v2), (3, .int v3), (4, .int x.1), (5, .int x.2)] → W p l e R s m args below meth c H locs 0 0 Q (F0 m 6 ls [])) x := by
  refine m_lpW (G := fun (x : (Int32 × Int32)) => ∀ (H : Heap) (locs : List Loc) (ls : Array Slot), m_I D A d s.heap st H locs → lv_has ls 6 [(0, .ref d.1), (1, .int v1), (2, .int v2), (3, .int v3), (4, .int x.1), (5, .int x.2)] → W p l e R s m args below meth c H locs 0 0 Q (F0 m 6 ls [])) (E := fun (z : Int32) => ∀ (H : Heap) (locs : List Loc) (ls : Array Slot), m_I D A d s.heap st H locs → lv_has ls 6 [(4, .int z)] → W p l e R s m args below meth c H locs 0 0 Q (F0 m 61 ls [])) ?_ n x z hz hE
  rintro ⟨v4, v5⟩ r h hr H locs ls I hl
  replace h : f_amounts_L6 n st v1 v2 v3 v4 v5 = some r := h
  have k52 : ∀ (v5 : Int32) (t0 : Int32) (t1 : Int32) (H : Heap) (locs : List Loc) (ls : Array Slot), f_amounts_J52 n st v1 v2 v3 v5 t0 t1 = some r → m_I D A d s.heap st H locs → lv_has ls 6 [(0, .ref d.1), (1, .int v1), (2, .int v2), (3, .int v3), (5, .int v5)] → W p l e R s m args below meth c H locs 0 0 Q (F0 m 52 ls [.int t0, .int t1]) := by
    intro v5 t0 t1 H locs ls h I hl
    unfold f_amounts_J52 at h
    refine lv_iadd X.1 X.2.1 dX3_amounts_52 ?_
    refine lv_istore (lv' := [(4, .int (t1 + t0)), (0, .ref d.1), (1, .int v1), (2, .int v2), (3, .int v3), (5, .int v5)]) X.1 X.2.1 dX3_amounts_53 hl (by decide) rfl (fun ls hl => ?_)
    refine lv_iinc (v := v5 + 1) (lv' := [(5, .int (v5 + 1)), (4, .int (t1 + t0)), (0, .ref d.1), (1, .int v1), (2, .int v2), (3, .int v3)]) X.1 X.2.1 dX3_amounts_55 hl (k := 5) rfl rfl (by decide) rfl (fun ls hl => ?_)
    refine lv_goto (tgt := 6) X.1 X.2.1 dX3_amounts_58 (by decide) ?_
    cases h
    exact hr H locs ls I (lv_sub hl [2, 3, 4, 5, 1, 0] rfl)
  have k51 : ∀ (v5 : Int32) (t0 : Int32) (H : Heap) (locs : List Loc) (ls : Array Slot), f_amounts_J51 n st v1 v2 v3 v5 t0 = some r → m_I D A d s.heap st H locs → lv_has ls 6 [(0, .ref d.1), (1, .int v1), (2, .int v2), (3, .int v3), (5, .int v5)] → W p l e R s m args below meth c H locs 0 0 Q (F0 m 51 ls [.int t0]) := by
    intro v5 t0 H locs ls h I hl
    unfold f_amounts_J51 at h
    refine lv_iconst (v := 0) X.1 X.2.1 dX3_amounts_51 (by decide) ?_
    exact k52 v5 0 t0 H locs ls h I (lv_sub hl [0, 1, 2, 3, 4] rfl)
  unfold f_amounts_L6 at h
  refine lv_iload X.1 X.2.1 dX3_amounts_6 (lv_at hl 5 rfl) ?_
  refine lv_aload_n X.1 X.2.1 dX3_amounts_8 rfl (lv_at hl 0 rfl) ?_
  refine m_get X I 0 (by decide) rfl rfl rfl q1517 (v := .ref (d.2.1 0)) rfl dX3_amounts_9 ?_
  refine lv_iconst (v := 0) X.1 X.2.1 dX3_amounts_12 (by decide) ?_
  obtain ⟨g1, h⟩ := m_gS h
  refine m_iald X I 1 (n := 266) (f := st.2.1 0) rfl g1 dX3_amounts_13 ?_
  refine lv_icmp_ge (tgt := 61) X.1 X.2.1 dX3_amounts_14 (by decide) (fun c2 => ?_) (fun c2 => ?_)
  · replace h := m_ifT c2 h
    cases h
    exact hr H locs ls I (lv_sub hl [4] rfl)
  · replace h := m_ifF c2 h
    refine lv_iload X.1 X.2.1 dX3_amounts_17 (lv_at hl 4 rfl) ?_
    refine lv_aload_n X.1 X.2.1 dX3_amounts_19 rfl (lv_at hl 0 rfl) ?_
    refine lv_iload X.1 X.2.1 dX3_amounts_20 (lv_at hl 5 rfl) ?_
    refine lv_iconst (v := 3) X.1 X.2.1 dX3_amounts_22 (by decide) ?_
    obtain ⟨r4, e3, h⟩ := m_bS h
    refine m_callI X hl.1 I hA (As := [.int v5, .int 3]) (rest := [.int v4]) (c_tradeAt l n D d st v5 3 _ e3) 2 q1683 q1685 qs55 q107 q1686 (hd_tradeAt) rfl rfl ⟨Nat.le_trans (Nat.le_of_ble_eq_true rfl) hR.1, Nat.le_trans (Nat.le_of_ble_eq_true rfl) hR.2⟩ ⟨rfl, rfl⟩ ⟨Nat.zero_le _, Nat.zero_le _⟩ (Nat.le_of_ble_eq_true rfl) dX3_amounts_23 (fun H locs I => ?_)
    refine lv_iload_n X.1 X.2.1 dX3_amounts_26 rfl (lv_at hl 2 rfl) ?_
    refine lv_icmp_ne (tgt := 51) X.1 X.2.1 dX3_amounts_27 (by decide) (fun c5 => ?_) (fun c5 => ?_)
    · replace h := m_ifF c5 h
      exact k51 v5 v4 H locs ls h I (lv_sub hl [0, 1, 2, 3, 5] rfl)
    · replace h := m_ifT c5 h
      refine lv_aload_n X.1 X.2.1 dX3_amounts_30 rfl (lv_at hl 0 rfl) ?_
      refine lv_iload X.1 X.2.1 dX3_amounts_31 (lv_at hl 5 rfl) ?_
      refine lv_iload_n X.1 X.2.1 dX3_amounts_33 rfl (lv_at hl 3 rfl) ?_
      obtain ⟨r7, e6, h⟩ := m_bS h
      refine m_callI X hl.1 I hA (As := [.int v5, .int v3]) (rest := [.int v4]) (c_tradeAt l n D d st v5 v3 _ e6) 2 q1683 q1685 qs55 q107 q1686 (hd_tradeAt) rfl rfl ⟨Nat.le_trans (Nat.le_of_ble_eq_true rfl) hR.1, Nat.le_trans (Nat.le_of_ble_eq_true rfl) hR.2⟩ ⟨rfl, rfl⟩ ⟨Nat.zero_le _, Nat.zero_le _⟩ (Nat.le_of_ble_eq_true rfl) dX3_amounts_34 (fun H locs I => ?_)
      refine lv_iload_n X.1 X.2.1 dX3_amounts_37 rfl (lv_at hl 1 rfl) ?_
      refine lv_icmp_ne (tgt := 51) X.1 X.2.1 dX3_amounts_38 (by decide) (fun c8 => ?_) (fun c8 => ?_)
      · replace h := m_ifF c8 h
        exact k51 v5 v4 H locs ls h I (lv_sub hl [0, 1, 2, 3, 5] rfl)
      · replace h := m_ifT c8 h
        refine lv_aload_n X.1 X.2.1 dX3_amounts_41 rfl (lv_at hl 0 rfl) ?_
        refine lv_iload X.1 X.2.1 dX3_amounts_42 (lv_at hl 5 rfl) ?_
        refine lv_iconst (v := 2) X.1 X.2.1 dX3_amounts_44 (by decide) ?_
        obtain ⟨r10, e9, h⟩ := m_bS h
        refine m_callI X hl.1 I hA (As := [.int v5, .int 2]) (rest := [.int v4]) (c_tradeAt l n D d st v5 2 _ e9) 2 q1683 q1685 qs55 q107 q1686 (hd_tradeAt) rfl rfl ⟨Nat.le_trans (Nat.le_of_ble_eq_true rfl) hR.1, Nat.le_trans (Nat.le_of_ble_eq_true rfl) hR.2⟩ ⟨rfl, rfl⟩ ⟨Nat.zero_le _, Nat.zero_le _⟩ (Nat.le_of_ble_eq_true rfl) dX3_amounts_45 (fun H locs I => ?_)
        refine lv_goto (tgt := 52) X.1 X.2.1 dX3_amounts_48 (by decide) ?_
        exact k52 v5 r10 v4 H locs ls h I (lv_sub hl [0, 1, 2, 3, 5] rfl)
theorem w_amounts (X : m_X D A d p s m c cX3_amounts 6 args) (hA : ∀ q, s.heap.size ≤ q → A q) (hR : 1 ≤ R.frames ∧ 22 ≤ R.locals) (n : Nat) (st : MS) (p0 : Int32) (p1 : Int32) (p2 : Int32) (r : Int32) (h : f_amounts n st p0 p1 p2 = some r) (hret : ∀ (H : Heap) (locs : List Loc) (ls : Array Slot) (pc : Nat), decode cX3_amounts pc = .ok (.ireturn, 1) → m_I D A d s.heap st H locs → W p l e R s m args below meth c H locs 0 0 Q (F0 m pc ls [.int r])) : ∀ (H : Heap) (locs : List Loc) (ls : Array Slot), m_I D A d s.heap st H locs → lv_has ls 6 [(0, .ref d.1), (1, .int p0), (2, .int p1), (3, .int p2)] → W p l e R s m args below meth c H locs 0 0 Q (F0 m 0 ls []) := by
  intro H locs ls I hl
  unfold f_amounts at h
  refine lv_iconst (v := 0) X.1 X.2.1 dX3_amounts_0 (by decide) ?_
  refine lv_istore (lv' := [(4, .int 0), (0, .ref d.1), (1, .int p0), (2, .int p1), (3, .int p2)]) X.1 X.2.1 dX3_amounts_1 hl (by decide) rfl (fun ls hl => ?_)
  refine lv_iconst (v := 0) X.1 X.2.1 dX3_amounts_3 (by decide) ?_
  refine lv_istore (lv' := [(5, .int 0), (4, .int 0), (0, .ref d.1), (1, .int p0), (2, .int p1), (3, .int p2)]) X.1 X.2.1 dX3_amounts_4 hl (by decide) rfl (fun ls hl => ?_)
  obtain ⟨z12, e11, h⟩ := m_bS h
  refine wf_amounts_L6 X hA hR n st p0 p1 p2 _ _ e11 (fun H locs ls I hl => ?_) H locs ls I (lv_sub hl [2, 3, 4, 5, 1, 0] rfl)
  refine lv_iload X.1 X.2.1 dX3_amounts_61 (lv_at hl 0 rfl) ?_
  obtain rfl := m_e1 h
  exact hret H locs ls 63 dX3_amounts_63 I
end S_amounts
theorem c_amounts (l : Launch) (n : Nat) (D : va_G) (d : MD) (st : MS) (p0 : Int32) (p1 : Int32) (p2 : Int32) (r : Int32) (h : f_amounts n st p0 p1 p2 = some r) : m_Mi l yX3_amounts cX3_amounts 6 (some .int) ({ frames := 1, cells := 0, slots := 0, locals := 22 } : Room) D d st [.ref d.1, .int p0, .int p1, .int p2] r st :=
  m_startI (lvl := [(0, .ref d.1), (1, .int p0), (2, .int p1), (3, .int p2)]) (by decide) rfl (Nat.le_of_ble_eq_true rfl) rfl (fun p e s m args below meth c ls X hr hlk hl hA I => w_amounts X hA ⟨Nat.le_refl _, Nat.le_refl _⟩ n st p0 p1 p2 r h (fun H locs ls pc hd I => m_iret X I hr hlk hd) _ _ ls I hl)

/-! method side(III)I -/
def f_side_J111 (n : Nat) (st : MS) (v1 : Int32) (v2 : Int32) (v4 : Int32) (v5 : Int32) : Option ((Int32 × Int32 × MS) ⊕ (Int32 × MS)) :=
  some (.inl ((v4, v5 + 1, st)))
def f_side_L55 (n : Nat) (v1 : Int32) (v2 : Int32) (v4 : Int32) (v5 : Int32) (st : MS) : Option ((Int32 × Int32 × MS) ⊕ (Int32 × MS)) :=
  m_g (m_in 0 266) (m_if ((st.2.1 0 (0 : Int32).toNatClampNeg : Int32) ≤ (v5 : Int32)) (some (.inr ((v4, st)))) (m_b (f_tradeAt n st v5 3) (fun r14 => m_if ((r14 : Int32) = (v2 : Int32)) (m_b (f_isOf n st v5 v1) (fun r17 => m_if ((r17 : Int32) = 0) (f_side_J111 n st v1 v2 v4 v5) (m_b (f_tradeAt n st v5 0) (fun r20 => m_b (f_tradeAt n st v5 1) (fun r22 => f_side_J111 n st v1 v2 (v4 ||| (1 <<< (((r20 + r22) - v1) &&& 31))) v5))))) (f_side_J111 n st v1 v2 v4 v5))))
def f_side_L55l (n : Nat) (v1 : Int32) (v2 : Int32) (x : (Int32 × Int32 × MS)) : Option (Int32 × MS) := m_lp (fun (x : (Int32 × Int32 × MS)) => f_side_L55 n v1 v2 x.1 x.2.1 x.2.2) n x
def f_side_J33 (n : Nat) (st : MS) : Option (Int32 × MS) :=
  some ((-2), st)
def f_side (n : Nat) (st : MS) (p0 : Int32) (p1 : Int32) (p2 : Int32) : Option (Int32 × MS) :=
  m_b (f_isParty n (m_sg st 8 0) p0) (fun r2 => m_if ((r2 : Int32) = 0) (f_side_J33 n (m_sg st 8 0)) (m_b (f_isKind n (m_sg st 8 0) p1) (fun r5 => m_if ((r5 : Int32) = 0) (f_side_J33 n (m_sg st 8 0)) (m_b (f_isIn n p2.toInt64 0 2) (fun r8 => m_if ((r8 : Int32) = 0) (f_side_J33 n (m_sg st 8 0)) (m_if ((2 : Int32) ≤ (p2 : Int32)) (m_b (f_side_L55l n p0 p1 ((0, 0, m_sg st 8 0))) (fun y28 => m_b (f_bitCount n y28.1) (fun r27 => some (r27, y28.2)))) (m_b (f_amounts n (m_sg st 8 0) p0 p1 p2) (fun r30 => some (r30, m_sg st 8 0)))))))))
theorem hd_side : yX3_side.cls = RX3 ∧ yX3_side.cls ≠ "java/lang/invoke/MethodHandle" ∧ yX3_side.cls ≠ "java/lang/invoke/VarHandle" ∧ (parseMethodDescriptor yX3_side.desc).map (fun d => d.parameters.length) = some 3 := by decide +kernel
section S_side
variable {p : Program} {l : Launch} {e : Env} {R : Room} {s : State} {m : MethodId} {args : Array Value} {below : List Frame} {meth : Method} {c : Code} {Q : State → Prop} {D : va_G} {A : Nat → Prop} {d : MD}
theorem wf_side_L55 (X : m_X D A d p s m c cX3_side 6 args) (hA : ∀ q, s.heap.size ≤ q → A q) (hR : 2 ≤ R.frames ∧ 47 ≤ R.locals) (n : Nat) (v1 : Int32) (v2 : Int32) (x : (Int32 × Int32 × MS)) (z : (Int32 × MS)) (hz : f_side_L55l n v1 v2 x = some z) (hE : (fun (z : (Int32 × MS)) => ∀ (H : Heap) (locs : List Loc) (ls : Array Slot), m_I D A d s.heap z.2 H locs → lv_has ls 6 [(4, .int z.1)] → W p l e R s m args below meth c H locs 0 0 Q (F0 m 117 ls [])) z) : (fun (x : (Int32 × Int32 × MS)) => ∀ (H : Heap) (locs : List Loc) (ls : Array Slot), m_I D A d s.heap x.2.2 H locs → lv_has ls 6 [(0, .ref d.1), (1, .int v1), (2, .int v2), (4, .int x.1), (5, .int x.2.1)] → W p l e R s m args below meth c H locs 0 0 Q (F0 m 55 ls [])) x := by
  refine m_lpW (G := fun (x : (Int32 × Int32 × MS)) => ∀ (H : Heap) (locs : List Loc) (ls : Array Slot), m_I D A d s.heap x.2.2 H locs → lv_has ls 6 [(0, .ref d.1), (1, .int v1), (2, .int v2), (4, .int x.1), (5, .int x.2.1)] → W p l e R s m args below meth c H locs 0 0 Q (F0 m 55 ls [])) (E := fun (z : (Int32 × MS)) => ∀ (H : Heap) (locs : List Loc) (ls : Array Slot), m_I D A d s.heap z.2 H locs → lv_has ls 6 [(4, .int z.1)] → W p l e R s m args below meth c H locs 0 0 Q (F0 m 117 ls [])) ?_ n x z hz hE
  rintro ⟨v4, v5, st⟩ r h hr H locs ls I hl
  replace h : f_side_L55 n v1 v2 v4 v5 st = some r := h
  have k111 : ∀ (st : MS) (v4 : Int32) (v5 : Int32) (H : Heap) (locs : List Loc) (ls : Array Slot), f_side_J111 n st v1 v2 v4 v5 = some r → m_I D A d s.heap st H locs → lv_has ls 6 [(0, .ref d.1), (1, .int v1), (2, .int v2), (4, .int v4), (5, .int v5)] → W p l e R s m args below meth c H locs 0 0 Q (F0 m 111 ls []) := by
    intro st v4 v5 H locs ls h I hl
    unfold f_side_J111 at h
    refine lv_iinc (v := v5 + 1) (lv' := [(5, .int (v5 + 1)), (0, .ref d.1), (1, .int v1), (2, .int v2), (4, .int v4)]) X.1 X.2.1 dX3_side_111 hl (k := 4) rfl rfl (by decide) rfl (fun ls hl => ?_)
    refine lv_goto (tgt := 55) X.1 X.2.1 dX3_side_114 (by decide) ?_
    cases h
    exact hr H locs ls I (lv_sub hl [1, 2, 3, 4, 0] rfl)
  unfold f_side_L55 at h
  refine lv_iload X.1 X.2.1 dX3_side_55 (lv_at hl 4 rfl) ?_
  refine lv_aload_n X.1 X.2.1 dX3_side_57 rfl (lv_at hl 0 rfl) ?_
  refine m_get X I 0 (by decide) rfl rfl rfl q1517 (v := .ref (d.2.1 0)) rfl dX3_side_58 ?_
  refine lv_iconst (v := 0) X.1 X.2.1 dX3_side_61 (by decide) ?_
  obtain ⟨g11, h⟩ := m_gS h
  refine m_iald X I 1 (n := 266) (f := st.2.1 0) rfl g11 dX3_side_62 ?_
  refine lv_icmp_ge (tgt := 117) X.1 X.2.1 dX3_side_63 (by decide) (fun c12 => ?_) (fun c12 => ?_)
  · replace h := m_ifT c12 h
    cases h
    exact hr H locs ls I (lv_sub hl [3] rfl)
  · replace h := m_ifF c12 h
    refine lv_aload_n X.1 X.2.1 dX3_side_66 rfl (lv_at hl 0 rfl) ?_
    refine lv_iload X.1 X.2.1 dX3_side_67 (lv_at hl 4 rfl) ?_
    refine lv_iconst (v := 3) X.1 X.2.1 dX3_side_69 (by decide) ?_
    obtain ⟨r14, e13, h⟩ := m_bS h
    refine m_callI X hl.1 I hA (As := [.int v5, .int 3]) (rest := []) (c_tradeAt l n D d st v5 3 _ e13) 2 q1683 q1685 qs55 q107 q1686 (hd_tradeAt) rfl rfl ⟨Nat.le_trans (Nat.le_of_ble_eq_true rfl) hR.1, Nat.le_trans (Nat.le_of_ble_eq_true rfl) hR.2⟩ ⟨rfl, rfl⟩ ⟨Nat.zero_le _, Nat.zero_le _⟩ (Nat.le_of_ble_eq_true rfl) dX3_side_70 (fun H locs I => ?_)
    refine lv_iload_n X.1 X.2.1 dX3_side_73 rfl (lv_at hl 2 rfl) ?_
    refine lv_icmp_ne (tgt := 111) X.1 X.2.1 dX3_side_74 (by decide) (fun c15 => ?_) (fun c15 => ?_)
    · replace h := m_ifF c15 h
      exact k111 st v4 v5 H locs ls h I (lv_sub hl [0, 1, 2, 3, 4] rfl)
    · replace h := m_ifT c15 h
      refine lv_aload_n X.1 X.2.1 dX3_side_77 rfl (lv_at hl 0 rfl) ?_
      refine lv_iload X.1 X.2.1 dX3_side_78 (lv_at hl 4 rfl) ?_
      refine lv_iload_n X.1 X.2.1 dX3_side_80 rfl (lv_at hl 1 rfl) ?_
      obtain ⟨r17, e16, h⟩ := m_bS h
      refine m_callI X hl.1 I hA (As := [.int v5, .int v1]) (rest := []) (c_isOf l n D d st v5 v1 _ e16) 2 q1780 q1782 qs69 q107 q1783 (hd_isOf) rfl rfl ⟨Nat.le_trans (Nat.le_of_ble_eq_true rfl) hR.1, Nat.le_trans (Nat.le_of_ble_eq_true rfl) hR.2⟩ ⟨rfl, rfl⟩ ⟨Nat.zero_le _, Nat.zero_le _⟩ (Nat.le_of_ble_eq_true rfl) dX3_side_81 (fun H locs I => ?_)
      refine lv_if_eq (tgt := 111) X.1 X.2.1 dX3_side_84 (by decide) (fun c18 => ?_) (fun c18 => ?_)
      · replace h := m_ifT c18 h
        exact k111 st v4 v5 H locs ls h I (lv_sub hl [0, 1, 2, 3, 4] rfl)
      · replace h := m_ifF c18 h
        refine lv_iload X.1 X.2.1 dX3_side_87 (lv_at hl 3 rfl) ?_
        refine lv_iconst (v := 1) X.1 X.2.1 dX3_side_89 (by decide) ?_
        refine lv_aload_n X.1 X.2.1 dX3_side_90 rfl (lv_at hl 0 rfl) ?_
        refine lv_iload X.1 X.2.1 dX3_side_91 (lv_at hl 4 rfl) ?_
        refine lv_iconst (v := 0) X.1 X.2.1 dX3_side_93 (by decide) ?_
        obtain ⟨r20, e19, h⟩ := m_bS h
        refine m_callI X hl.1 I hA (As := [.int v5, .int 0]) (rest := [.int 1, .int v4]) (c_tradeAt l n D d st v5 0 _ e19) 2 q1683 q1685 qs55 q107 q1686 (hd_tradeAt) rfl rfl ⟨Nat.le_trans (Nat.le_of_ble_eq_true rfl) hR.1, Nat.le_trans (Nat.le_of_ble_eq_true rfl) hR.2⟩ ⟨rfl, rfl⟩ ⟨Nat.zero_le _, Nat.zero_le _⟩ (Nat.le_of_ble_eq_true rfl) dX3_side_94 (fun H locs I => ?_)
        refine lv_aload_n X.1 X.2.1 dX3_side_97 rfl (lv_at hl 0 rfl) ?_
        refine lv_iload X.1 X.2.1 dX3_side_98 (lv_at hl 4 rfl) ?_
        refine lv_iconst (v := 1) X.1 X.2.1 dX3_side_100 (by decide) ?_
        obtain ⟨r22, e21, h⟩ := m_bS h
        refine m_callI X hl.1 I hA (As := [.int v5, .int 1]) (rest := [.int r20, .int 1, .int v4]) (c_tradeAt l n D d st v5 1 _ e21) 2 q1683 q1685 qs55 q107 q1686 (hd_tradeAt) rfl rfl ⟨Nat.le_trans (Nat.le_of_ble_eq_true rfl) hR.1, Nat.le_trans (Nat.le_of_ble_eq_true rfl) hR.2⟩ ⟨rfl, rfl⟩ ⟨Nat.zero_le _, Nat.zero_le _⟩ (Nat.le_of_ble_eq_true rfl) dX3_side_101 (fun H locs I => ?_)
        refine lv_iadd X.1 X.2.1 dX3_side_104 ?_
        refine lv_iload_n X.1 X.2.1 dX3_side_105 rfl (lv_at hl 1 rfl) ?_
        refine lv_isub X.1 X.2.1 dX3_side_106 ?_
        refine lv_ishl X.1 X.2.1 dX3_side_107 ?_
        refine lv_ior X.1 X.2.1 dX3_side_108 ?_
        refine lv_istore (lv' := [(4, .int (v4 ||| (1 <<< (((r20 + r22) - v1) &&& 31)))), (0, .ref d.1), (1, .int v1), (2, .int v2), (5, .int v5)]) X.1 X.2.1 dX3_side_109 hl (by decide) rfl (fun ls hl => ?_)
        exact k111 st (v4 ||| (1 <<< (((r20 + r22) - v1) &&& 31))) v5 H locs ls h I (lv_sub hl [1, 2, 3, 0, 4] rfl)
theorem w_side (X : m_X D A d p s m c cX3_side 6 args) (hA : ∀ q, s.heap.size ≤ q → A q) (hR : 2 ≤ R.frames ∧ 47 ≤ R.locals) (n : Nat) (st : MS) (p0 : Int32) (p1 : Int32) (p2 : Int32) (r : (Int32 × MS)) (h : f_side n st p0 p1 p2 = some r) (hret : ∀ (H : Heap) (locs : List Loc) (ls : Array Slot) (pc : Nat), decode cX3_side pc = .ok (.ireturn, 1) → m_I D A d s.heap r.2 H locs → W p l e R s m args below meth c H locs 0 0 Q (F0 m pc ls [.int r.1])) : ∀ (H : Heap) (locs : List Loc) (ls : Array Slot), m_I D A d s.heap st H locs → lv_has ls 6 [(0, .ref d.1), (1, .int p0), (2, .int p1), (3, .int p2)] → W p l e R s m args below meth c H locs 0 0 Q (F0 m 0 ls []) := by
  obtain ⟨r0, s0⟩ := r
  have k33 : ∀ (st : MS) (H : Heap) (locs : List Loc) (ls : Array Slot), f_side_J33 n st = some (r0, s0) → m_I D A d s.heap st H locs → lv_has ls 6 [] → W p l e R s m args below meth c H locs 0 0 Q (F0 m 33 ls []) := by
    intro st H locs ls h I hl
    unfold f_side_J33 at h
    refine lv_bipush (v := (-2)) X.1 X.2.1 dX3_side_33 (by decide) ?_
    obtain ⟨rfl, rfl⟩ := m_e2 h
    exact hret H locs ls 35 dX3_side_35 I
  intro H locs ls I hl
  unfold f_side at h
  refine lv_aload_n X.1 X.2.1 dX3_side_0 rfl (lv_at hl 0 rfl) ?_
  refine lv_iconst (v := 0) X.1 X.2.1 dX3_side_1 (by decide) ?_
  refine m_put X I 8 (by decide) rfl rfl rfl q1525 rfl (m_set8 d _ _) dX3_side_2 (fun H locs I => ?_)
  refine lv_aload_n X.1 X.2.1 dX3_side_5 rfl (lv_at hl 0 rfl) ?_
  refine lv_iload_n X.1 X.2.1 dX3_side_6 rfl (lv_at hl 1 rfl) ?_
  obtain ⟨r2, e1, h⟩ := m_bS h
  refine m_callI X hl.1 I hA (As := [.int p0]) (rest := []) (c_isParty l n D d (m_sg st 8 0) p0 _ e1) 1 q1720 q1722 qs62 q107 q1723 (hd_isParty) rfl rfl ⟨Nat.le_trans (Nat.le_of_ble_eq_true rfl) hR.1, Nat.le_trans (Nat.le_of_ble_eq_true rfl) hR.2⟩ ⟨rfl, rfl⟩ ⟨Nat.zero_le _, Nat.zero_le _⟩ (Nat.le_of_ble_eq_true rfl) dX3_side_7 (fun H locs I => ?_)
  refine lv_if_eq (tgt := 33) X.1 X.2.1 dX3_side_10 (by decide) (fun c3 => ?_) (fun c3 => ?_)
  · replace h := m_ifT c3 h
    exact k33 (m_sg st 8 0) H locs ls h I (lv_sub hl [] rfl)
  · replace h := m_ifF c3 h
    refine lv_aload_n X.1 X.2.1 dX3_side_13 rfl (lv_at hl 0 rfl) ?_
    refine lv_iload_n X.1 X.2.1 dX3_side_14 rfl (lv_at hl 2 rfl) ?_
    obtain ⟨r5, e4, h⟩ := m_bS h
    refine m_callI X hl.1 I hA (As := [.int p1]) (rest := []) (c_isKind l n D d (m_sg st 8 0) p1 _ e4) 1 q1724 q1726 qs63 q107 q1727 (hd_isKind) rfl rfl ⟨Nat.le_trans (Nat.le_of_ble_eq_true rfl) hR.1, Nat.le_trans (Nat.le_of_ble_eq_true rfl) hR.2⟩ ⟨rfl, rfl⟩ ⟨Nat.zero_le _, Nat.zero_le _⟩ (Nat.le_of_ble_eq_true rfl) dX3_side_15 (fun H locs I => ?_)
    refine lv_if_eq (tgt := 33) X.1 X.2.1 dX3_side_18 (by decide) (fun c6 => ?_) (fun c6 => ?_)
    · replace h := m_ifT c6 h
      exact k33 (m_sg st 8 0) H locs ls h I (lv_sub hl [] rfl)
    · replace h := m_ifF c6 h
      refine lv_iload_n X.1 X.2.1 dX3_side_21 rfl (lv_at hl 3 rfl) ?_
      refine lv_i2l X.1 X.2.1 dX3_side_22 rfl ?_
      refine lv_lconst (v := 0) X.1 X.2.1 dX3_side_23 (by decide) ?_
      refine lv_ldc2 (v := 2) X.1 X.2.1 X.2.2.2.1 (X.2.2.1 _ q1804) dX3_side_24 ?_
      obtain ⟨r8, e7, h⟩ := m_bS h
      refine m_callS X hl.1 (As := [.long p2.toInt64, .long 0, .long 2]) (rest := []) (c_isIn l n p2.toInt64 0 2 _ e7) 3 q1623 q1624 q107 q1625 (hd_isIn).2 rfl rfl ⟨Nat.le_trans (Nat.le_of_ble_eq_true rfl) hR.1, Nat.le_trans (Nat.le_of_ble_eq_true rfl) hR.2⟩ ⟨rfl, rfl⟩ ⟨Nat.zero_le _, Nat.zero_le _⟩ (Nat.le_of_ble_eq_true rfl) dX3_side_27 ?_
      refine lv_if_ne (tgt := 36) X.1 X.2.1 dX3_side_30 (by decide) (fun c9 => ?_) (fun c9 => ?_)
      · replace h := m_ifF c9 h
        refine lv_iload_n X.1 X.2.1 dX3_side_36 rfl (lv_at hl 3 rfl) ?_
        refine lv_iconst (v := 2) X.1 X.2.1 dX3_side_37 (by decide) ?_
        refine lv_icmp_ge (tgt := 49) X.1 X.2.1 dX3_side_38 (by decide) (fun c10 => ?_) (fun c10 => ?_)
        · replace h := m_ifT c10 h
          refine lv_iconst (v := 0) X.1 X.2.1 dX3_side_49 (by decide) ?_
          refine lv_istore (lv' := [(4, .int 0), (0, .ref d.1), (1, .int p0), (2, .int p1), (3, .int p2)]) X.1 X.2.1 dX3_side_50 hl (by decide) rfl (fun ls hl => ?_)
          refine lv_iconst (v := 0) X.1 X.2.1 dX3_side_52 (by decide) ?_
          refine lv_istore (lv' := [(5, .int 0), (4, .int 0), (0, .ref d.1), (1, .int p0), (2, .int p1), (3, .int p2)]) X.1 X.2.1 dX3_side_53 hl (by decide) rfl (fun ls hl => ?_)
          obtain ⟨⟨z24, s25⟩, e23, h⟩ := m_bS h
          refine wf_side_L55 X hA hR n p0 p1 _ _ e23 (fun H locs ls I hl => ?_) H locs ls I (lv_sub hl [2, 3, 4, 1, 0] rfl)
          refine lv_iload X.1 X.2.1 dX3_side_117 (lv_at hl 0 rfl) ?_
          obtain ⟨r27, e26, h⟩ := m_bS h
          refine m_callS X hl.1 (As := [.int z24]) (rest := []) (c_bitCount l n z24 _ e26) 1 q1805 q1200 q131 q1201 (hd_bitCount).2 rfl rfl ⟨Nat.le_trans (Nat.le_of_ble_eq_true rfl) hR.1, Nat.le_trans (Nat.le_of_ble_eq_true rfl) hR.2⟩ ⟨rfl, rfl⟩ ⟨Nat.zero_le _, Nat.zero_le _⟩ (Nat.le_of_ble_eq_true rfl) dX3_side_119 ?_
          obtain ⟨rfl, rfl⟩ := m_e2 h
          exact hret H locs ls 122 dX3_side_122 I
        · replace h := m_ifF c10 h
          refine lv_aload_n X.1 X.2.1 dX3_side_41 rfl (lv_at hl 0 rfl) ?_
          refine lv_iload_n X.1 X.2.1 dX3_side_42 rfl (lv_at hl 1 rfl) ?_
          refine lv_iload_n X.1 X.2.1 dX3_side_43 rfl (lv_at hl 2 rfl) ?_
          refine lv_iload_n X.1 X.2.1 dX3_side_44 rfl (lv_at hl 3 rfl) ?_
          obtain ⟨r30, e29, h⟩ := m_bS h
          refine m_callI X hl.1 I hA (As := [.int p0, .int p1, .int p2]) (rest := []) (c_amounts l n D d (m_sg st 8 0) p0 p1 p2 _ e29) 3 q1796 q1798 qs71 q107 q1799 (hd_amounts) rfl rfl ⟨Nat.le_trans (Nat.le_of_ble_eq_true rfl) hR.1, Nat.le_trans (Nat.le_of_ble_eq_true rfl) hR.2⟩ ⟨rfl, rfl⟩ ⟨Nat.zero_le _, Nat.zero_le _⟩ (Nat.le_of_ble_eq_true rfl) dX3_side_45 (fun H locs I => ?_)
          obtain ⟨rfl, rfl⟩ := m_e2 h
          exact hret H locs ls 48 dX3_side_48 I
      · replace h := m_ifT c9 h
        exact k33 (m_sg st 8 0) H locs ls h I (lv_sub hl [] rfl)
end S_side
theorem c_side (l : Launch) (n : Nat) (D : va_G) (d : MD) (st : MS) (p0 : Int32) (p1 : Int32) (p2 : Int32) (r : Int32) (st' : MS) (h : f_side n st p0 p1 p2 = some (r, st')) : m_Mi l yX3_side cX3_side 6 (some .int) ({ frames := 2, cells := 0, slots := 0, locals := 47 } : Room) D d st [.ref d.1, .int p0, .int p1, .int p2] r st' :=
  m_startI (lvl := [(0, .ref d.1), (1, .int p0), (2, .int p1), (3, .int p2)]) (by decide) rfl (Nat.le_of_ble_eq_true rfl) rfl (fun p e s m args below meth c ls X hr hlk hl hA I => w_side X hA ⟨Nat.le_refl _, Nat.le_refl _⟩ n st p0 p1 p2 (r, st') h (fun H locs ls pc hd I => m_iret X I hr hlk hd) _ _ ls I hl)

/-! method sumOfFlows()I -/
def f_sumOfFlows_L4 (n : Nat) (st : MS) (v1 : Int32) (v2 : Int32) : Option ((Int32 × Int32) ⊕ Int32) :=
  m_if ((64 : Int32) ≤ (v2 : Int32)) (some (.inr v1)) (m_g (m_in v2 64) (some (.inl ((v1 + (st.2.1 17 (v2 : Int32).toNatClampNeg), v2 + 1)))))
def f_sumOfFlows_L4l (n : Nat) (st : MS) (x : (Int32 × Int32)) : Option Int32 := m_lp (fun (x : (Int32 × Int32)) => f_sumOfFlows_L4 n st x.1 x.2) n x
def f_sumOfFlows (n : Nat) (st : MS) : Option (Int32) :=
  m_b (f_sumOfFlows_L4l n st ((0, 0))) (fun z4 => some z4)
theorem hd_sumOfFlows : yX3_sumOfFlows.cls = RX3 ∧ yX3_sumOfFlows.cls ≠ "java/lang/invoke/MethodHandle" ∧ yX3_sumOfFlows.cls ≠ "java/lang/invoke/VarHandle" ∧ (parseMethodDescriptor yX3_sumOfFlows.desc).map (fun d => d.parameters.length) = some 0 := by decide +kernel
section S_sumOfFlows
variable {p : Program} {l : Launch} {e : Env} {R : Room} {s : State} {m : MethodId} {args : Array Value} {below : List Frame} {meth : Method} {c : Code} {Q : State → Prop} {D : va_G} {A : Nat → Prop} {d : MD}
theorem wf_sumOfFlows_L4 (X : m_X D A d p s m c cX3_sumOfFlows 3 args) (hA : ∀ q, s.heap.size ≤ q → A q) (hR : 0 ≤ R.frames ∧ 0 ≤ R.locals) (n : Nat) (st : MS) (x : (Int32 × Int32)) (z : Int32) (hz : f_sumOfFlows_L4l n st x = some z) (hE : (fun (z : Int32) => ∀ (H : Heap) (locs : List Loc) (ls : Array Slot), m_I D A d s.heap st H locs → lv_has ls 3 [(1, .int z)] → W p l e R s m args below meth c H locs 0 0 Q (F0 m 25 ls [])) z) : (fun (x : (Int32 × Int32)) => ∀ (H : Heap) (locs : List Loc) (ls : Array Slot), m_I D A d s.heap st H locs → lv_has ls 3 [(0, .ref d.1), (1, .int x.1), (2, .int x.2)] → W p l e R s m args below meth c H locs 0 0 Q (F0 m 4 ls [])) x := by
  refine m_lpW (G := fun (x : (Int32 × Int32)) => ∀ (H : Heap) (locs : List Loc) (ls : Array Slot), m_I D A d s.heap st H locs → lv_has ls 3 [(0, .ref d.1), (1, .int x.1), (2, .int x.2)] → W p l e R s m args below meth c H locs 0 0 Q (F0 m 4 ls [])) (E := fun (z : Int32) => ∀ (H : Heap) (locs : List Loc) (ls : Array Slot), m_I D A d s.heap st H locs → lv_has ls 3 [(1, .int z)] → W p l e R s m args below meth c H locs 0 0 Q (F0 m 25 ls [])) ?_ n x z hz hE
  rintro ⟨v1, v2⟩ r h hr H locs ls I hl
  replace h : f_sumOfFlows_L4 n st v1 v2 = some r := h
  unfold f_sumOfFlows_L4 at h
  refine lv_iload_n X.1 X.2.1 dX3_sumOfFlows_4 rfl (lv_at hl 2 rfl) ?_
  refine lv_bipush (v := 64) X.1 X.2.1 dX3_sumOfFlows_5 (by decide) ?_
  refine lv_icmp_ge (tgt := 25) X.1 X.2.1 dX3_sumOfFlows_7 (by decide) (fun c1 => ?_) (fun c1 => ?_)
  · replace h := m_ifT c1 h
    cases h
    exact hr H locs ls I (lv_sub hl [1] rfl)
  · replace h := m_ifF c1 h
    refine lv_iload_n X.1 X.2.1 dX3_sumOfFlows_10 rfl (lv_at hl 1 rfl) ?_
    refine lv_aload_n X.1 X.2.1 dX3_sumOfFlows_11 rfl (lv_at hl 0 rfl) ?_
    refine m_get X I 17 (by decide) rfl rfl rfl q1534 (v := .ref (d.2.1 17)) rfl dX3_sumOfFlows_12 ?_
    refine lv_iload_n X.1 X.2.1 dX3_sumOfFlows_15 rfl (lv_at hl 2 rfl) ?_
    obtain ⟨g2, h⟩ := m_gS h
    refine m_iald X I 7 (n := 64) (f := st.2.1 17) rfl g2 dX3_sumOfFlows_16 ?_
    refine lv_iadd X.1 X.2.1 dX3_sumOfFlows_17 ?_
    refine lv_istore_n (lv' := [(1, .int (v1 + (st.2.1 17 (v2 : Int32).toNatClampNeg))), (0, .ref d.1), (2, .int v2)]) X.1 X.2.1 dX3_sumOfFlows_18 rfl hl (by decide) rfl (fun ls hl => ?_)
    refine lv_iinc (v := v2 + 1) (lv' := [(2, .int (v2 + 1)), (1, .int (v1 + (st.2.1 17 (v2 : Int32).toNatClampNeg))), (0, .ref d.1)]) X.1 X.2.1 dX3_sumOfFlows_19 hl (k := 2) rfl rfl (by decide) rfl (fun ls hl => ?_)
    refine lv_goto (tgt := 4) X.1 X.2.1 dX3_sumOfFlows_22 (by decide) ?_
    cases h
    exact hr H locs ls I (lv_sub hl [2, 1, 0] rfl)
theorem w_sumOfFlows (X : m_X D A d p s m c cX3_sumOfFlows 3 args) (hA : ∀ q, s.heap.size ≤ q → A q) (hR : 0 ≤ R.frames ∧ 0 ≤ R.locals) (n : Nat) (st : MS) (r : Int32) (h : f_sumOfFlows n st = some r) (hret : ∀ (H : Heap) (locs : List Loc) (ls : Array Slot) (pc : Nat), decode cX3_sumOfFlows pc = .ok (.ireturn, 1) → m_I D A d s.heap st H locs → W p l e R s m args below meth c H locs 0 0 Q (F0 m pc ls [.int r])) : ∀ (H : Heap) (locs : List Loc) (ls : Array Slot), m_I D A d s.heap st H locs → lv_has ls 3 [(0, .ref d.1)] → W p l e R s m args below meth c H locs 0 0 Q (F0 m 0 ls []) := by
  intro H locs ls I hl
  unfold f_sumOfFlows at h
  refine lv_iconst (v := 0) X.1 X.2.1 dX3_sumOfFlows_0 (by decide) ?_
  refine lv_istore_n (lv' := [(1, .int 0), (0, .ref d.1)]) X.1 X.2.1 dX3_sumOfFlows_1 rfl hl (by decide) rfl (fun ls hl => ?_)
  refine lv_iconst (v := 0) X.1 X.2.1 dX3_sumOfFlows_2 (by decide) ?_
  refine lv_istore_n (lv' := [(2, .int 0), (1, .int 0), (0, .ref d.1)]) X.1 X.2.1 dX3_sumOfFlows_3 rfl hl (by decide) rfl (fun ls hl => ?_)
  obtain ⟨z4, e3, h⟩ := m_bS h
  refine wf_sumOfFlows_L4 X hA hR n st _ _ e3 (fun H locs ls I hl => ?_) H locs ls I (lv_sub hl [2, 1, 0] rfl)
  refine lv_iload_n X.1 X.2.1 dX3_sumOfFlows_25 rfl (lv_at hl 0 rfl) ?_
  obtain rfl := m_e1 h
  exact hret H locs ls 26 dX3_sumOfFlows_26 I
end S_sumOfFlows
theorem c_sumOfFlows (l : Launch) (n : Nat) (D : va_G) (d : MD) (st : MS) (r : Int32) (h : f_sumOfFlows n st = some r) : m_Mi l yX3_sumOfFlows cX3_sumOfFlows 3 (some .int) ({ frames := 0, cells := 0, slots := 0, locals := 0 } : Room) D d st [.ref d.1] r st :=
  m_startI (lvl := [(0, .ref d.1)]) (by decide) rfl (Nat.le_of_ble_eq_true rfl) rfl (fun p e s m args below meth c ls X hr hlk hl hA I => w_sumOfFlows X hA ⟨Nat.le_refl _, Nat.le_refl _⟩ n st r h (fun H locs ls pc hd I => m_iret X I hr hlk hd) _ _ ls I hl)

/-! method positive()I -/
def f_positive_J25 (n : Nat) (st : MS) (v2 : Int32) (t0 : Int32) (t1 : Int32) : Option ((Int32 × Int32) ⊕ Int32) :=
  some (.inl ((t1 + t0, v2 + 1)))
def f_positive_L4 (n : Nat) (st : MS) (v1 : Int32) (v2 : Int32) : Option ((Int32 × Int32) ⊕ Int32) :=
  m_if ((64 : Int32) ≤ (v2 : Int32)) (some (.inr v1)) (m_g (m_in v2 64) (m_if ((st.2.1 17 (v2 : Int32).toNatClampNeg : Int32) ≤ 0) (f_positive_J25 n st v2 0 v1) (f_positive_J25 n st v2 1 v1)))
def f_positive_L4l (n : Nat) (st : MS) (x : (Int32 × Int32)) : Option Int32 := m_lp (fun (x : (Int32 × Int32)) => f_positive_L4 n st x.1 x.2) n x
def f_positive (n : Nat) (st : MS) : Option (Int32) :=
  m_b (f_positive_L4l n st ((0, 0))) (fun z5 => some z5)
theorem hd_positive : yX3_positive.cls = RX3 ∧ yX3_positive.cls ≠ "java/lang/invoke/MethodHandle" ∧ yX3_positive.cls ≠ "java/lang/invoke/VarHandle" ∧ (parseMethodDescriptor yX3_positive.desc).map (fun d => d.parameters.length) = some 0 := by decide +kernel
section S_positive
variable {p : Program} {l : Launch} {e : Env} {R : Room} {s : State} {m : MethodId} {args : Array Value} {below : List Frame} {meth : Method} {c : Code} {Q : State → Prop} {D : va_G} {A : Nat → Prop} {d : MD}
theorem wf_positive_L4 (X : m_X D A d p s m c cX3_positive 3 args) (hA : ∀ q, s.heap.size ≤ q → A q) (hR : 0 ≤ R.frames ∧ 0 ≤ R.locals) (n : Nat) (st : MS) (x : (Int32 × Int32)) (z : Int32) (hz : f_positive_L4l n st x = some z) (hE : (fun (z : Int32) => ∀ (H : Heap) (locs : List Loc) (ls : Array Slot), m_I D A d s.heap st H locs → lv_has ls 3 [(1, .int z)] → W p l e R s m args below meth c H locs 0 0 Q (F0 m 33 ls [])) z) : (fun (x : (Int32 × Int32)) => ∀ (H : Heap) (locs : List Loc) (ls : Array Slot), m_I D A d s.heap st H locs → lv_has ls 3 [(0, .ref d.1), (1, .int x.1), (2, .int x.2)] → W p l e R s m args below meth c H locs 0 0 Q (F0 m 4 ls [])) x := by
  refine m_lpW (G := fun (x : (Int32 × Int32)) => ∀ (H : Heap) (locs : List Loc) (ls : Array Slot), m_I D A d s.heap st H locs → lv_has ls 3 [(0, .ref d.1), (1, .int x.1), (2, .int x.2)] → W p l e R s m args below meth c H locs 0 0 Q (F0 m 4 ls [])) (E := fun (z : Int32) => ∀ (H : Heap) (locs : List Loc) (ls : Array Slot), m_I D A d s.heap st H locs → lv_has ls 3 [(1, .int z)] → W p l e R s m args below meth c H locs 0 0 Q (F0 m 33 ls [])) ?_ n x z hz hE
  rintro ⟨v1, v2⟩ r h hr H locs ls I hl
  replace h : f_positive_L4 n st v1 v2 = some r := h
  have k25 : ∀ (v2 : Int32) (t0 : Int32) (t1 : Int32) (H : Heap) (locs : List Loc) (ls : Array Slot), f_positive_J25 n st v2 t0 t1 = some r → m_I D A d s.heap st H locs → lv_has ls 3 [(0, .ref d.1), (2, .int v2)] → W p l e R s m args below meth c H locs 0 0 Q (F0 m 25 ls [.int t0, .int t1]) := by
    intro v2 t0 t1 H locs ls h I hl
    unfold f_positive_J25 at h
    refine lv_iadd X.1 X.2.1 dX3_positive_25 ?_
    refine lv_istore_n (lv' := [(1, .int (t1 + t0)), (0, .ref d.1), (2, .int v2)]) X.1 X.2.1 dX3_positive_26 rfl hl (by decide) rfl (fun ls hl => ?_)
    refine lv_iinc (v := v2 + 1) (lv' := [(2, .int (v2 + 1)), (1, .int (t1 + t0)), (0, .ref d.1)]) X.1 X.2.1 dX3_positive_27 hl (k := 2) rfl rfl (by decide) rfl (fun ls hl => ?_)
    refine lv_goto (tgt := 4) X.1 X.2.1 dX3_positive_30 (by decide) ?_
    cases h
    exact hr H locs ls I (lv_sub hl [2, 1, 0] rfl)
  unfold f_positive_L4 at h
  refine lv_iload_n X.1 X.2.1 dX3_positive_4 rfl (lv_at hl 2 rfl) ?_
  refine lv_bipush (v := 64) X.1 X.2.1 dX3_positive_5 (by decide) ?_
  refine lv_icmp_ge (tgt := 33) X.1 X.2.1 dX3_positive_7 (by decide) (fun c1 => ?_) (fun c1 => ?_)
  · replace h := m_ifT c1 h
    cases h
    exact hr H locs ls I (lv_sub hl [1] rfl)
  · replace h := m_ifF c1 h
    refine lv_iload_n X.1 X.2.1 dX3_positive_10 rfl (lv_at hl 1 rfl) ?_
    refine lv_aload_n X.1 X.2.1 dX3_positive_11 rfl (lv_at hl 0 rfl) ?_
    refine m_get X I 17 (by decide) rfl rfl rfl q1534 (v := .ref (d.2.1 17)) rfl dX3_positive_12 ?_
    refine lv_iload_n X.1 X.2.1 dX3_positive_15 rfl (lv_at hl 2 rfl) ?_
    obtain ⟨g2, h⟩ := m_gS h
    refine m_iald X I 7 (n := 64) (f := st.2.1 17) rfl g2 dX3_positive_16 ?_
    refine lv_if_le (tgt := 24) X.1 X.2.1 dX3_positive_17 (by decide) (fun c3 => ?_) (fun c3 => ?_)
    · replace h := m_ifT c3 h
      refine lv_iconst (v := 0) X.1 X.2.1 dX3_positive_24 (by decide) ?_
      exact k25 v2 0 v1 H locs ls h I (lv_sub hl [0, 2] rfl)
    · replace h := m_ifF c3 h
      refine lv_iconst (v := 1) X.1 X.2.1 dX3_positive_20 (by decide) ?_
      refine lv_goto (tgt := 25) X.1 X.2.1 dX3_positive_21 (by decide) ?_
      exact k25 v2 1 v1 H locs ls h I (lv_sub hl [0, 2] rfl)
theorem w_positive (X : m_X D A d p s m c cX3_positive 3 args) (hA : ∀ q, s.heap.size ≤ q → A q) (hR : 0 ≤ R.frames ∧ 0 ≤ R.locals) (n : Nat) (st : MS) (r : Int32) (h : f_positive n st = some r) (hret : ∀ (H : Heap) (locs : List Loc) (ls : Array Slot) (pc : Nat), decode cX3_positive pc = .ok (.ireturn, 1) → m_I D A d s.heap st H locs → W p l e R s m args below meth c H locs 0 0 Q (F0 m pc ls [.int r])) : ∀ (H : Heap) (locs : List Loc) (ls : Array Slot), m_I D A d s.heap st H locs → lv_has ls 3 [(0, .ref d.1)] → W p l e R s m args below meth c H locs 0 0 Q (F0 m 0 ls []) := by
  intro H locs ls I hl
  unfold f_positive at h
  refine lv_iconst (v := 0) X.1 X.2.1 dX3_positive_0 (by decide) ?_
  refine lv_istore_n (lv' := [(1, .int 0), (0, .ref d.1)]) X.1 X.2.1 dX3_positive_1 rfl hl (by decide) rfl (fun ls hl => ?_)
  refine lv_iconst (v := 0) X.1 X.2.1 dX3_positive_2 (by decide) ?_
  refine lv_istore_n (lv' := [(2, .int 0), (1, .int 0), (0, .ref d.1)]) X.1 X.2.1 dX3_positive_3 rfl hl (by decide) rfl (fun ls hl => ?_)
  obtain ⟨z5, e4, h⟩ := m_bS h
  refine wf_positive_L4 X hA hR n st _ _ e4 (fun H locs ls I hl => ?_) H locs ls I (lv_sub hl [2, 1, 0] rfl)
  refine lv_iload_n X.1 X.2.1 dX3_positive_33 rfl (lv_at hl 0 rfl) ?_
  obtain rfl := m_e1 h
  exact hret H locs ls 34 dX3_positive_34 I
end S_positive
theorem c_positive (l : Launch) (n : Nat) (D : va_G) (d : MD) (st : MS) (r : Int32) (h : f_positive n st = some r) : m_Mi l yX3_positive cX3_positive 3 (some .int) ({ frames := 0, cells := 0, slots := 0, locals := 0 } : Room) D d st [.ref d.1] r st :=
  m_startI (lvl := [(0, .ref d.1)]) (by decide) rfl (Nat.le_of_ble_eq_true rfl) rfl (fun p e s m args below meth c ls X hr hlk hl hA I => w_positive X hA ⟨Nat.le_refl _, Nat.le_refl _⟩ n st r h (fun H locs ls pc hd I => m_iret X I hr hlk hd) _ _ ls I hl)

/-! method boundOf(II)I -/
def f_boundOf_J63 (n : Nat) (st : MS) (t0 : Int32) : Option (Int32) :=
  some t0
def f_boundOf (n : Nat) (st : MS) (p0 : Int32) (p1 : Int32) : Option (Int32) :=
  m_b (f_couple n p0 p1) (fun r2 => m_g (m_in r2 64) (m_g (m_in 1 266) (m_if ((st.2.1 0 (1 : Int32).toNatClampNeg : Int32) = 0) (f_boundOf_J63 n st (st.2.1 17 (r2 : Int32).toNatClampNeg)) (m_g (m_in 1 266) (m_if ((st.2.1 0 (1 : Int32).toNatClampNeg : Int32) = (2 : Int32)) (m_b (f_couple n p0 p1) (fun r12 => m_g (m_in (202 + r12) 266) (f_boundOf_J63 n st (st.2.1 0 (202 + r12 : Int32).toNatClampNeg)))) (m_b (f_couple n p1 p0) (fun r9 => m_g (m_in r9 64) (f_boundOf_J63 n st ((st.2.1 17 (r2 : Int32).toNatClampNeg) + (st.2.1 17 (r9 : Int32).toNatClampNeg))))))))))
theorem hd_boundOf : yX3_boundOf.cls = RX3 ∧ yX3_boundOf.cls ≠ "java/lang/invoke/MethodHandle" ∧ yX3_boundOf.cls ≠ "java/lang/invoke/VarHandle" ∧ (parseMethodDescriptor yX3_boundOf.desc).map (fun d => d.parameters.length) = some 2 := by decide +kernel
section S_boundOf
variable {p : Program} {l : Launch} {e : Env} {R : Room} {s : State} {m : MethodId} {args : Array Value} {below : List Frame} {meth : Method} {c : Code} {Q : State → Prop} {D : va_G} {A : Nat → Prop} {d : MD}
theorem w_boundOf (X : m_X D A d p s m c cX3_boundOf 4 args) (hA : ∀ q, s.heap.size ≤ q → A q) (hR : 1 ≤ R.frames ∧ 21 ≤ R.locals) (n : Nat) (st : MS) (p0 : Int32) (p1 : Int32) (r : Int32) (h : f_boundOf n st p0 p1 = some r) (hret : ∀ (H : Heap) (locs : List Loc) (ls : Array Slot) (pc : Nat), decode cX3_boundOf pc = .ok (.ireturn, 1) → m_I D A d s.heap st H locs → W p l e R s m args below meth c H locs 0 0 Q (F0 m pc ls [.int r])) : ∀ (H : Heap) (locs : List Loc) (ls : Array Slot), m_I D A d s.heap st H locs → lv_has ls 4 [(0, .ref d.1), (1, .int p0), (2, .int p1)] → W p l e R s m args below meth c H locs 0 0 Q (F0 m 0 ls []) := by
  have k63 : ∀ (t0 : Int32) (H : Heap) (locs : List Loc) (ls : Array Slot), f_boundOf_J63 n st t0 = some r → m_I D A d s.heap st H locs → lv_has ls 4 [] → W p l e R s m args below meth c H locs 0 0 Q (F0 m 63 ls [.int t0]) := by
    intro t0 H locs ls h I hl
    unfold f_boundOf_J63 at h
    obtain rfl := m_e1 h
    exact hret H locs ls 63 dX3_boundOf_63 I
  intro H locs ls I hl
  unfold f_boundOf at h
  refine lv_aload_n X.1 X.2.1 dX3_boundOf_0 rfl (lv_at hl 0 rfl) ?_
  refine m_get X I 17 (by decide) rfl rfl rfl q1534 (v := .ref (d.2.1 17)) rfl dX3_boundOf_1 ?_
  refine lv_iload_n X.1 X.2.1 dX3_boundOf_4 rfl (lv_at hl 1 rfl) ?_
  refine lv_iload_n X.1 X.2.1 dX3_boundOf_5 rfl (lv_at hl 2 rfl) ?_
  obtain ⟨r2, e1, h⟩ := m_bS h
  refine m_callS X hl.1 (As := [.int p0, .int p1]) (rest := [.ref (d.2.1 17)]) (c_couple l n p0 p1 _ e1) 2 q1784 q1785 q107 q1786 (hd_couple).2 rfl rfl ⟨Nat.le_trans (Nat.le_of_ble_eq_true rfl) hR.1, Nat.le_trans (Nat.le_of_ble_eq_true rfl) hR.2⟩ ⟨rfl, rfl⟩ ⟨Nat.zero_le _, Nat.zero_le _⟩ (Nat.le_of_ble_eq_true rfl) dX3_boundOf_6 ?_
  obtain ⟨g3, h⟩ := m_gS h
  refine m_iald X I 7 (n := 64) (f := st.2.1 17) rfl g3 dX3_boundOf_9 ?_
  refine lv_istore_n (lv' := [(3, .int (st.2.1 17 (r2 : Int32).toNatClampNeg)), (0, .ref d.1), (1, .int p0), (2, .int p1)]) X.1 X.2.1 dX3_boundOf_10 rfl hl (by decide) rfl (fun ls hl => ?_)
  refine lv_aload_n X.1 X.2.1 dX3_boundOf_11 rfl (lv_at hl 1 rfl) ?_
  refine m_get X I 0 (by decide) rfl rfl rfl q1517 (v := .ref (d.2.1 0)) rfl dX3_boundOf_12 ?_
  refine lv_iconst (v := 1) X.1 X.2.1 dX3_boundOf_15 (by decide) ?_
  obtain ⟨g4, h⟩ := m_gS h
  refine m_iald X I 1 (n := 266) (f := st.2.1 0) rfl g4 dX3_boundOf_16 ?_
  refine lv_if_ne (tgt := 24) X.1 X.2.1 dX3_boundOf_17 (by decide) (fun c5 => ?_) (fun c5 => ?_)
  · replace h := m_ifF c5 h
    refine lv_aload_n X.1 X.2.1 dX3_boundOf_24 rfl (lv_at hl 1 rfl) ?_
    refine m_get X I 0 (by decide) rfl rfl rfl q1517 (v := .ref (d.2.1 0)) rfl dX3_boundOf_25 ?_
    refine lv_iconst (v := 1) X.1 X.2.1 dX3_boundOf_28 (by decide) ?_
    obtain ⟨g6, h⟩ := m_gS h
    refine m_iald X I 1 (n := 266) (f := st.2.1 0) rfl g6 dX3_boundOf_29 ?_
    refine lv_iconst (v := 2) X.1 X.2.1 dX3_boundOf_30 (by decide) ?_
    refine lv_icmp_ne (tgt := 51) X.1 X.2.1 dX3_boundOf_31 (by decide) (fun c7 => ?_) (fun c7 => ?_)
    · replace h := m_ifF c7 h
      refine lv_iload_n X.1 X.2.1 dX3_boundOf_51 rfl (lv_at hl 0 rfl) ?_
      refine lv_aload_n X.1 X.2.1 dX3_boundOf_52 rfl (lv_at hl 1 rfl) ?_
      refine m_get X I 17 (by decide) rfl rfl rfl q1534 (v := .ref (d.2.1 17)) rfl dX3_boundOf_53 ?_
      refine lv_iload_n X.1 X.2.1 dX3_boundOf_56 rfl (lv_at hl 3 rfl) ?_
      refine lv_iload_n X.1 X.2.1 dX3_boundOf_57 rfl (lv_at hl 2 rfl) ?_
      obtain ⟨r9, e8, h⟩ := m_bS h
      refine m_callS X hl.1 (As := [.int p1, .int p0]) (rest := [.ref (d.2.1 17), .int (st.2.1 17 (r2 : Int32).toNatClampNeg)]) (c_couple l n p1 p0 _ e8) 2 q1784 q1785 q107 q1786 (hd_couple).2 rfl rfl ⟨Nat.le_trans (Nat.le_of_ble_eq_true rfl) hR.1, Nat.le_trans (Nat.le_of_ble_eq_true rfl) hR.2⟩ ⟨rfl, rfl⟩ ⟨Nat.zero_le _, Nat.zero_le _⟩ (Nat.le_of_ble_eq_true rfl) dX3_boundOf_58 ?_
      obtain ⟨g10, h⟩ := m_gS h
      refine m_iald X I 7 (n := 64) (f := st.2.1 17) rfl g10 dX3_boundOf_61 ?_
      refine lv_iadd X.1 X.2.1 dX3_boundOf_62 ?_
      exact k63 ((st.2.1 17 (r2 : Int32).toNatClampNeg) + (st.2.1 17 (r9 : Int32).toNatClampNeg)) H locs ls h I (lv_sub hl [] rfl)
    · replace h := m_ifT c7 h
      refine lv_aload_n X.1 X.2.1 dX3_boundOf_34 rfl (lv_at hl 1 rfl) ?_
      refine m_get X I 0 (by decide) rfl rfl rfl q1517 (v := .ref (d.2.1 0)) rfl dX3_boundOf_35 ?_
      refine lv_sipush (v := 202) X.1 X.2.1 dX3_boundOf_38 (by decide) ?_
      refine lv_iload_n X.1 X.2.1 dX3_boundOf_41 rfl (lv_at hl 2 rfl) ?_
      refine lv_iload_n X.1 X.2.1 dX3_boundOf_42 rfl (lv_at hl 3 rfl) ?_
      obtain ⟨r12, e11, h⟩ := m_bS h
      refine m_callS X hl.1 (As := [.int p0, .int p1]) (rest := [.int 202, .ref (d.2.1 0)]) (c_couple l n p0 p1 _ e11) 2 q1784 q1785 q107 q1786 (hd_couple).2 rfl rfl ⟨Nat.le_trans (Nat.le_of_ble_eq_true rfl) hR.1, Nat.le_trans (Nat.le_of_ble_eq_true rfl) hR.2⟩ ⟨rfl, rfl⟩ ⟨Nat.zero_le _, Nat.zero_le _⟩ (Nat.le_of_ble_eq_true rfl) dX3_boundOf_43 ?_
      refine lv_iadd X.1 X.2.1 dX3_boundOf_46 ?_
      obtain ⟨g13, h⟩ := m_gS h
      refine m_iald X I 1 (n := 266) (f := st.2.1 0) rfl g13 dX3_boundOf_47 ?_
      refine lv_goto (tgt := 63) X.1 X.2.1 dX3_boundOf_48 (by decide) ?_
      exact k63 (st.2.1 0 (202 + r12 : Int32).toNatClampNeg) H locs ls h I (lv_sub hl [] rfl)
  · replace h := m_ifT c5 h
    refine lv_iload_n X.1 X.2.1 dX3_boundOf_20 rfl (lv_at hl 0 rfl) ?_
    refine lv_goto (tgt := 63) X.1 X.2.1 dX3_boundOf_21 (by decide) ?_
    exact k63 (st.2.1 17 (r2 : Int32).toNatClampNeg) H locs ls h I (lv_sub hl [] rfl)
end S_boundOf
theorem c_boundOf (l : Launch) (n : Nat) (D : va_G) (d : MD) (st : MS) (p0 : Int32) (p1 : Int32) (r : Int32) (h : f_boundOf n st p0 p1 = some r) : m_Mi l yX3_boundOf cX3_boundOf 4 (some .int) ({ frames := 1, cells := 0, slots := 0, locals := 21 } : Room) D d st [.ref d.1, .int p0, .int p1] r st :=
  m_startI (lvl := [(0, .ref d.1), (1, .int p0), (2, .int p1)]) (by decide) rfl (Nat.le_of_ble_eq_true rfl) rfl (fun p e s m args below meth c ls X hr hlk hl hA I => w_boundOf X hA ⟨Nat.le_refl _, Nat.le_refl _⟩ n st p0 p1 r h (fun H locs ls pc hd I => m_iret X I hr hlk hd) _ _ ls I hl)

/-! method goesRound(III)Z -/
def f_goesRound_J114 (n : Nat) (st : MS) (rc : MS → Int32 → Int32 → Int32 → Option (Int32 × MS)) (v1 : Int32) (v2 : Int32) (v3 : Int32) (v4 : Int32) (v5 : Int32) : Option ((Int32 × MS) ⊕ (MS ⊕ MS)) :=
  some (.inl ((v5 + 1, st)))
def f_goesRound_L50 (n : Nat) (rc : MS → Int32 → Int32 → Int32 → Option (Int32 × MS)) (v1 : Int32) (v2 : Int32) (v3 : Int32) (v4 : Int32) (v5 : Int32) (st : MS) : Option ((Int32 × MS) ⊕ (MS ⊕ MS)) :=
  m_if ((st.1 5 : Int32) ≤ (v5 : Int32)) (some (.inr (.inr st))) (m_if (((v3 >>> (v5 &&& 31)) &&& 1 : Int32) = (1 : Int32)) (f_goesRound_J114 n st rc v1 v2 v3 v4 v5) (m_b (f_couple n v4 v5) (fun r7 => m_g (m_in r7 64) (m_if ((st.2.1 17 (r7 : Int32).toNatClampNeg : Int32) = 0) (f_goesRound_J114 n st rc v1 v2 v3 v4 v5) (m_g (m_in v1 8) (m_b2 (rc (m_sa st 18 (v1 : Int32).toNatClampNeg v5) (v1 + 1) v2 (v3 ||| (1 <<< (v5 &&& 31)))) (fun r12 s13 => m_if ((r12 : Int32) = 0) (f_goesRound_J114 n s13 rc v1 v2 v3 v4 v5) (some (.inr (.inl s13))))))))))
def f_goesRound_L50l (n : Nat) (rc : MS → Int32 → Int32 → Int32 → Option (Int32 × MS)) (v1 : Int32) (v2 : Int32) (v3 : Int32) (v4 : Int32) (x : (Int32 × MS)) : Option (MS ⊕ MS) := m_lp (fun (x : (Int32 × MS)) => f_goesRound_L50 n rc v1 v2 v3 v4 x.1 x.2) n x
def f_goesRound_J39 (n : Nat) (st : MS) (rc : MS → Int32 → Int32 → Int32 → Option (Int32 × MS)) (t0 : Int32) : Option (Int32 × MS) :=
  m_g (m_01 t0) (some (t0, st))
def f_goesRound_body (n : Nat) (st : MS) (rc : MS → Int32 → Int32 → Int32 → Option (Int32 × MS)) (p0 : Int32) (p1 : Int32) (p2 : Int32) : Option (Int32 × MS) :=
  m_g (m_in (p0 - 1) 8) (m_if ((p0 : Int32) = (p1 : Int32)) (m_g (m_in 0 8) (m_b (f_couple n (st.2.1 18 (p0 - 1 : Int32).toNatClampNeg) (st.2.1 18 (0 : Int32).toNatClampNeg)) (fun r23 => m_g (m_in r23 64) (m_if ((st.2.1 17 (r23 : Int32).toNatClampNeg : Int32) ≤ 0) (f_goesRound_J39 n st rc 0) (f_goesRound_J39 n st rc 1))))) (m_g (m_in 0 8) (m_b (f_goesRound_L50l n rc p0 p1 p2 (st.2.1 18 (p0 - 1 : Int32).toNatClampNeg) (((st.2.1 18 (0 : Int32).toNatClampNeg) + 1, st))) (fun y20 => m_s y20 (fun s16 => m_g (m_01 1) (some (1, s16))) (fun s18 => m_g (m_01 0) (some (0, s18)))))))
theorem hd_goesRound : yX3_goesRound.cls = RX3 ∧ yX3_goesRound.cls ≠ "java/lang/invoke/MethodHandle" ∧ yX3_goesRound.cls ≠ "java/lang/invoke/VarHandle" ∧ (parseMethodDescriptor yX3_goesRound.desc).map (fun d => d.parameters.length) = some 3 := by decide +kernel
section S_goesRound
variable {p : Program} {l : Launch} {e : Env} {R : Room} {s : State} {m : MethodId} {args : Array Value} {below : List Frame} {meth : Method} {c : Code} {Q : State → Prop} {D : va_G} {A : Nat → Prop} {d : MD}
theorem wf_goesRound_L50 (X : m_X D A d p s m c cX3_goesRound 6 args) (hA : ∀ q, s.heap.size ≤ q → A q) (hR : 1 ≤ R.frames ∧ 21 ≤ R.locals) (n : Nat) (rc : MS → Int32 → Int32 → Int32 → Option (Int32 × MS)) (v1 : Int32) (v2 : Int32) (v3 : Int32) (v4 : Int32) (rmc : Room) (hrm : rmc.cells = 0 ∧ rmc.slots = 0) (hRc : rmc.frames + 1 ≤ R.frames ∧ 8 + (6 + 11) + rmc.locals ≤ R.locals) (hrc : ∀ (st : MS) (p0 : Int32) (p1 : Int32) (p2 : Int32) (r : Int32) (st' : MS), rc st p0 p1 p2 = some (r, st') → m_Mi l yX3_goesRound cX3_goesRound 6 (some .boolean) rmc D d st [.ref d.1, .int p0, .int p1, .int p2] r st') (x : (Int32 × MS)) (z : (MS ⊕ MS)) (hz : f_goesRound_L50l n rc v1 v2 v3 v4 x = some z) (hE : (m_e (fun (z : MS) => ∀ (H : Heap) (locs : List Loc) (ls : Array Slot), m_I D A d s.heap z H locs → lv_has ls 6 [] → W p l e R s m args below meth c H locs 0 0 Q (F0 m 112 ls [])) (fun (z : MS) => ∀ (H : Heap) (locs : List Loc) (ls : Array Slot), m_I D A d s.heap z H locs → lv_has ls 6 [] → W p l e R s m args below meth c H locs 0 0 Q (F0 m 120 ls []))) z) : (fun (x : (Int32 × MS)) => ∀ (H : Heap) (locs : List Loc) (ls : Array Slot), m_I D A d s.heap x.2 H locs → lv_has ls 6 [(0, .ref d.1), (1, .int v1), (2, .int v2), (3, .int v3), (4, .int v4), (5, .int x.1)] → W p l e R s m args below meth c H locs 0 0 Q (F0 m 50 ls [])) x := by
  refine m_lpW (G := fun (x : (Int32 × MS)) => ∀ (H : Heap) (locs : List Loc) (ls : Array Slot), m_I D A d s.heap x.2 H locs → lv_has ls 6 [(0, .ref d.1), (1, .int v1), (2, .int v2), (3, .int v3), (4, .int v4), (5, .int x.1)] → W p l e R s m args below meth c H locs 0 0 Q (F0 m 50 ls [])) (E := m_e (fun (z : MS) => ∀ (H : Heap) (locs : List Loc) (ls : Array Slot), m_I D A d s.heap z H locs → lv_has ls 6 [] → W p l e R s m args below meth c H locs 0 0 Q (F0 m 112 ls [])) (fun (z : MS) => ∀ (H : Heap) (locs : List Loc) (ls : Array Slot), m_I D A d s.heap z H locs → lv_has ls 6 [] → W p l e R s m args below meth c H locs 0 0 Q (F0 m 120 ls []))) ?_ n x z hz hE
  rintro ⟨v5, st⟩ r h hr H locs ls I hl
  replace h : f_goesRound_L50 n rc v1 v2 v3 v4 v5 st = some r := h
  have k114 : ∀ (st : MS) (v5 : Int32) (H : Heap) (locs : List Loc) (ls : Array Slot), f_goesRound_J114 n st rc v1 v2 v3 v4 v5 = some r → m_I D A d s.heap st H locs → lv_has ls 6 [(0, .ref d.1), (1, .int v1), (2, .int v2), (3, .int v3), (4, .int v4), (5, .int v5)] → W p l e R s m args below meth c H locs 0 0 Q (F0 m 114 ls []) := by
    intro st v5 H locs ls h I hl
    unfold f_goesRound_J114 at h
    refine lv_iinc (v := v5 + 1) (lv' := [(5, .int (v5 + 1)), (0, .ref d.1), (1, .int v1), (2, .int v2), (3, .int v3), (4, .int v4)]) X.1 X.2.1 dX3_goesRound_114 hl (k := 5) rfl rfl (by decide) rfl (fun ls hl => ?_)
    refine lv_goto (tgt := 50) X.1 X.2.1 dX3_goesRound_117 (by decide) ?_
    cases h
    exact hr H locs ls I (lv_sub hl [1, 2, 3, 4, 5, 0] rfl)
  unfold f_goesRound_L50 at h
  refine lv_iload X.1 X.2.1 dX3_goesRound_50 (lv_at hl 5 rfl) ?_
  refine lv_aload_n X.1 X.2.1 dX3_goesRound_52 rfl (lv_at hl 0 rfl) ?_
  refine m_get X I 5 (by decide) rfl rfl rfl q1522 (v := .int (st.1 5)) rfl dX3_goesRound_53 ?_
  refine lv_icmp_ge (tgt := 120) X.1 X.2.1 dX3_goesRound_56 (by decide) (fun c4 => ?_) (fun c4 => ?_)
  · replace h := m_ifT c4 h
    cases h
    exact hr H locs ls I (lv_sub hl [] rfl)
  · replace h := m_ifF c4 h
    refine lv_iload_n X.1 X.2.1 dX3_goesRound_59 rfl (lv_at hl 3 rfl) ?_
    refine lv_iload X.1 X.2.1 dX3_goesRound_60 (lv_at hl 5 rfl) ?_
    refine lv_ishr X.1 X.2.1 dX3_goesRound_62 ?_
    refine lv_iconst (v := 1) X.1 X.2.1 dX3_goesRound_63 (by decide) ?_
    refine lv_iand X.1 X.2.1 dX3_goesRound_64 ?_
    refine lv_iconst (v := 1) X.1 X.2.1 dX3_goesRound_65 (by decide) ?_
    refine lv_icmp_eq (tgt := 114) X.1 X.2.1 dX3_goesRound_66 (by decide) (fun c5 => ?_) (fun c5 => ?_)
    · replace h := m_ifT c5 h
      exact k114 st v5 H locs ls h I (lv_sub hl [0, 1, 2, 3, 4, 5] rfl)
    · replace h := m_ifF c5 h
      refine lv_aload_n X.1 X.2.1 dX3_goesRound_69 rfl (lv_at hl 0 rfl) ?_
      refine m_get X I 17 (by decide) rfl rfl rfl q1534 (v := .ref (d.2.1 17)) rfl dX3_goesRound_70 ?_
      refine lv_iload X.1 X.2.1 dX3_goesRound_73 (lv_at hl 4 rfl) ?_
      refine lv_iload X.1 X.2.1 dX3_goesRound_75 (lv_at hl 5 rfl) ?_
      obtain ⟨r7, e6, h⟩ := m_bS h
      refine m_callS X hl.1 (As := [.int v4, .int v5]) (rest := [.ref (d.2.1 17)]) (c_couple l n v4 v5 _ e6) 2 q1784 q1785 q107 q1786 (hd_couple).2 rfl rfl ⟨Nat.le_trans (Nat.le_of_ble_eq_true rfl) hR.1, Nat.le_trans (Nat.le_of_ble_eq_true rfl) hR.2⟩ ⟨rfl, rfl⟩ ⟨Nat.zero_le _, Nat.zero_le _⟩ (Nat.le_of_ble_eq_true rfl) dX3_goesRound_77 ?_
      obtain ⟨g8, h⟩ := m_gS h
      refine m_iald X I 7 (n := 64) (f := st.2.1 17) rfl g8 dX3_goesRound_80 ?_
      refine lv_if_ne (tgt := 87) X.1 X.2.1 dX3_goesRound_81 (by decide) (fun c9 => ?_) (fun c9 => ?_)
      · replace h := m_ifF c9 h
        refine lv_aload_n X.1 X.2.1 dX3_goesRound_87 rfl (lv_at hl 0 rfl) ?_
        refine m_get X I 18 (by decide) rfl rfl rfl q1535 (v := .ref (d.2.1 18)) rfl dX3_goesRound_88 ?_
        refine lv_iload_n X.1 X.2.1 dX3_goesRound_91 rfl (lv_at hl 1 rfl) ?_
        refine lv_iload X.1 X.2.1 dX3_goesRound_92 (lv_at hl 5 rfl) ?_
        obtain ⟨g10, h⟩ := m_gS h
        refine m_iast X I 8 (n := 8) (f := st.2.1 18) rfl (m_st18 d _ _ _) g10 dX3_goesRound_94 (fun H locs I => ?_)
        refine lv_aload_n X.1 X.2.1 dX3_goesRound_95 rfl (lv_at hl 0 rfl) ?_
        refine lv_iload_n X.1 X.2.1 dX3_goesRound_96 rfl (lv_at hl 1 rfl) ?_
        refine lv_iconst (v := 1) X.1 X.2.1 dX3_goesRound_97 (by decide) ?_
        refine lv_iadd X.1 X.2.1 dX3_goesRound_98 ?_
        refine lv_iload_n X.1 X.2.1 dX3_goesRound_99 rfl (lv_at hl 2 rfl) ?_
        refine lv_iload_n X.1 X.2.1 dX3_goesRound_100 rfl (lv_at hl 3 rfl) ?_
        refine lv_iconst (v := 1) X.1 X.2.1 dX3_goesRound_101 (by decide) ?_
        refine lv_iload X.1 X.2.1 dX3_goesRound_102 (lv_at hl 5 rfl) ?_
        refine lv_ishl X.1 X.2.1 dX3_goesRound_104 ?_
        refine lv_ior X.1 X.2.1 dX3_goesRound_105 ?_
        obtain ⟨r12, s13, e11, h⟩ := m_b2S h
        refine m_callI X hl.1 I hA (As := [.int (v1 + 1), .int v2, .int (v3 ||| (1 <<< (v5 &&& 31)))]) (rest := []) (hrc _ (v1 + 1) v2 (v3 ||| (1 <<< (v5 &&& 31))) _ _ e11) 3 q1834 q1836 qs76 q107 q1837 (hd_goesRound) rfl rfl hRc hrm ⟨Nat.zero_le _, Nat.zero_le _⟩ (Nat.le_of_ble_eq_true rfl) dX3_goesRound_106 (fun H locs I => ?_)
        refine lv_if_eq (tgt := 114) X.1 X.2.1 dX3_goesRound_109 (by decide) (fun c14 => ?_) (fun c14 => ?_)
        · replace h := m_ifT c14 h
          exact k114 s13 v5 H locs ls h I (lv_sub hl [0, 1, 2, 3, 4, 5] rfl)
        · replace h := m_ifF c14 h
          cases h
          exact hr H locs ls I (lv_sub hl [] rfl)
      · replace h := m_ifT c9 h
        refine lv_goto (tgt := 114) X.1 X.2.1 dX3_goesRound_84 (by decide) ?_
        exact k114 st v5 H locs ls h I (lv_sub hl [0, 1, 2, 3, 4, 5] rfl)
theorem w_goesRound (X : m_X D A d p s m c cX3_goesRound 6 args) (hA : ∀ q, s.heap.size ≤ q → A q) (hR : 1 ≤ R.frames ∧ 21 ≤ R.locals) (n : Nat) (st : MS) (rc : MS → Int32 → Int32 → Int32 → Option (Int32 × MS)) (p0 : Int32) (p1 : Int32) (p2 : Int32) (rmc : Room) (hrm : rmc.cells = 0 ∧ rmc.slots = 0) (hRc : rmc.frames + 1 ≤ R.frames ∧ 8 + (6 + 11) + rmc.locals ≤ R.locals) (hrc : ∀ (st : MS) (p0 : Int32) (p1 : Int32) (p2 : Int32) (r : Int32) (st' : MS), rc st p0 p1 p2 = some (r, st') → m_Mi l yX3_goesRound cX3_goesRound 6 (some .boolean) rmc D d st [.ref d.1, .int p0, .int p1, .int p2] r st') (r : (Int32 × MS)) (h : f_goesRound_body n st rc p0 p1 p2 = some r) (hret : ∀ (H : Heap) (locs : List Loc) (ls : Array Slot) (pc : Nat), m_01 r.1 = true → decode cX3_goesRound pc = .ok (.ireturn, 1) → m_I D A d s.heap r.2 H locs → W p l e R s m args below meth c H locs 0 0 Q (F0 m pc ls [.int r.1])) : ∀ (H : Heap) (locs : List Loc) (ls : Array Slot), m_I D A d s.heap st H locs → lv_has ls 6 [(0, .ref d.1), (1, .int p0), (2, .int p1), (3, .int p2)] → W p l e R s m args below meth c H locs 0 0 Q (F0 m 0 ls []) := by
  obtain ⟨r0, s0⟩ := r
  have k39 : ∀ (st : MS) (t0 : Int32) (H : Heap) (locs : List Loc) (ls : Array Slot), f_goesRound_J39 n st rc t0 = some (r0, s0) → m_I D A d s.heap st H locs → lv_has ls 6 [] → W p l e R s m args below meth c H locs 0 0 Q (F0 m 39 ls [.int t0]) := by
    intro st t0 H locs ls h I hl
    unfold f_goesRound_J39 at h
    obtain ⟨g26, h⟩ := m_gS h
    obtain ⟨rfl, rfl⟩ := m_e2 h
    exact hret H locs ls 39 g26 dX3_goesRound_39 I
  intro H locs ls I hl
  unfold f_goesRound_body at h
  refine lv_aload_n X.1 X.2.1 dX3_goesRound_0 rfl (lv_at hl 0 rfl) ?_
  refine m_get X I 18 (by decide) rfl rfl rfl q1535 (v := .ref (d.2.1 18)) rfl dX3_goesRound_1 ?_
  refine lv_iload_n X.1 X.2.1 dX3_goesRound_4 rfl (lv_at hl 1 rfl) ?_
  refine lv_iconst (v := 1) X.1 X.2.1 dX3_goesRound_5 (by decide) ?_
  refine lv_isub X.1 X.2.1 dX3_goesRound_6 ?_
  obtain ⟨g1, h⟩ := m_gS h
  refine m_iald X I 8 (n := 8) (f := st.2.1 18) rfl g1 dX3_goesRound_7 ?_
  refine lv_istore (lv' := [(4, .int (st.2.1 18 (p0 - 1 : Int32).toNatClampNeg)), (0, .ref d.1), (1, .int p0), (2, .int p1), (3, .int p2)]) X.1 X.2.1 dX3_goesRound_8 hl (by decide) rfl (fun ls hl => ?_)
  refine lv_iload_n X.1 X.2.1 dX3_goesRound_10 rfl (lv_at hl 2 rfl) ?_
  refine lv_iload_n X.1 X.2.1 dX3_goesRound_11 rfl (lv_at hl 3 rfl) ?_
  refine lv_icmp_ne (tgt := 40) X.1 X.2.1 dX3_goesRound_12 (by decide) (fun c2 => ?_) (fun c2 => ?_)
  · replace h := m_ifF c2 h
    refine lv_aload_n X.1 X.2.1 dX3_goesRound_40 rfl (lv_at hl 1 rfl) ?_
    refine m_get X I 18 (by decide) rfl rfl rfl q1535 (v := .ref (d.2.1 18)) rfl dX3_goesRound_41 ?_
    refine lv_iconst (v := 0) X.1 X.2.1 dX3_goesRound_44 (by decide) ?_
    obtain ⟨g3, h⟩ := m_gS h
    refine m_iald X I 8 (n := 8) (f := st.2.1 18) rfl g3 dX3_goesRound_45 ?_
    refine lv_iconst (v := 1) X.1 X.2.1 dX3_goesRound_46 (by decide) ?_
    refine lv_iadd X.1 X.2.1 dX3_goesRound_47 ?_
    refine lv_istore (lv' := [(5, .int ((st.2.1 18 (0 : Int32).toNatClampNeg) + 1)), (4, .int (st.2.1 18 (p0 - 1 : Int32).toNatClampNeg)), (0, .ref d.1), (1, .int p0), (2, .int p1), (3, .int p2)]) X.1 X.2.1 dX3_goesRound_48 hl (by decide) rfl (fun ls hl => ?_)
    obtain ⟨s16 | s18, e15, h⟩ := m_bS h
    · replace h := m_sL h
      refine wf_goesRound_L50 X hA hR n rc p0 p1 p2 (st.2.1 18 (p0 - 1 : Int32).toNatClampNeg) rmc hrm hRc hrc _ _ e15 (fun H locs ls I hl => ?_) H locs ls I (lv_sub hl [2, 3, 4, 5, 1, 0] rfl)
      refine lv_iconst (v := 1) X.1 X.2.1 dX3_goesRound_112 (by decide) ?_
      obtain ⟨g17, h⟩ := m_gS h
      obtain ⟨rfl, rfl⟩ := m_e2 h
      exact hret H locs ls 113 g17 dX3_goesRound_113 I
    · replace h := m_sR h
      refine wf_goesRound_L50 X hA hR n rc p0 p1 p2 (st.2.1 18 (p0 - 1 : Int32).toNatClampNeg) rmc hrm hRc hrc _ _ e15 (fun H locs ls I hl => ?_) H locs ls I (lv_sub hl [2, 3, 4, 5, 1, 0] rfl)
      refine lv_iconst (v := 0) X.1 X.2.1 dX3_goesRound_120 (by decide) ?_
      obtain ⟨g19, h⟩ := m_gS h
      obtain ⟨rfl, rfl⟩ := m_e2 h
      exact hret H locs ls 121 g19 dX3_goesRound_121 I
  · replace h := m_ifT c2 h
    refine lv_aload_n X.1 X.2.1 dX3_goesRound_15 rfl (lv_at hl 1 rfl) ?_
    refine m_get X I 17 (by decide) rfl rfl rfl q1534 (v := .ref (d.2.1 17)) rfl dX3_goesRound_16 ?_
    refine lv_iload X.1 X.2.1 dX3_goesRound_19 (lv_at hl 0 rfl) ?_
    refine lv_aload_n X.1 X.2.1 dX3_goesRound_21 rfl (lv_at hl 1 rfl) ?_
    refine m_get X I 18 (by decide) rfl rfl rfl q1535 (v := .ref (d.2.1 18)) rfl dX3_goesRound_22 ?_
    refine lv_iconst (v := 0) X.1 X.2.1 dX3_goesRound_25 (by decide) ?_
    obtain ⟨g21, h⟩ := m_gS h
    refine m_iald X I 8 (n := 8) (f := st.2.1 18) rfl g21 dX3_goesRound_26 ?_
    obtain ⟨r23, e22, h⟩ := m_bS h
    refine m_callS X hl.1 (As := [.int (st.2.1 18 (p0 - 1 : Int32).toNatClampNeg), .int (st.2.1 18 (0 : Int32).toNatClampNeg)]) (rest := [.ref (d.2.1 17)]) (c_couple l n (st.2.1 18 (p0 - 1 : Int32).toNatClampNeg) (st.2.1 18 (0 : Int32).toNatClampNeg) _ e22) 2 q1784 q1785 q107 q1786 (hd_couple).2 rfl rfl ⟨Nat.le_trans (Nat.le_of_ble_eq_true rfl) hR.1, Nat.le_trans (Nat.le_of_ble_eq_true rfl) hR.2⟩ ⟨rfl, rfl⟩ ⟨Nat.zero_le _, Nat.zero_le _⟩ (Nat.le_of_ble_eq_true rfl) dX3_goesRound_27 ?_
    obtain ⟨g24, h⟩ := m_gS h
    refine m_iald X I 7 (n := 64) (f := st.2.1 17) rfl g24 dX3_goesRound_30 ?_
    refine lv_if_le (tgt := 38) X.1 X.2.1 dX3_goesRound_31 (by decide) (fun c25 => ?_) (fun c25 => ?_)
    · replace h := m_ifT c25 h
      refine lv_iconst (v := 0) X.1 X.2.1 dX3_goesRound_38 (by decide) ?_
      exact k39 st 0 H locs ls h I (lv_sub hl [] rfl)
    · replace h := m_ifF c25 h
      refine lv_iconst (v := 1) X.1 X.2.1 dX3_goesRound_34 (by decide) ?_
      refine lv_goto (tgt := 39) X.1 X.2.1 dX3_goesRound_35 (by decide) ?_
      exact k39 st 1 H locs ls h I (lv_sub hl [] rfl)
end S_goesRound
def f_goesRound_rec (n : Nat) : Nat → MS → Int32 → Int32 → Int32 → Option (Int32 × MS)
  | 0 => fun _ _ _ _ => none
  | k + 1 => fun st p0 p1 p2 => f_goesRound_body n st (f_goesRound_rec n k) p0 p1 p2
theorem c_goesRound_rec (l : Launch) (n : Nat) (D : va_G) (d : MD) : ∀ (k : Nat) (st : MS) (p0 : Int32) (p1 : Int32) (p2 : Int32) (r : Int32) (st' : MS), f_goesRound_rec n k st p0 p1 p2 = some (r, st') → m_Mi l yX3_goesRound cX3_goesRound 6 (some .boolean) ({ frames := 1 + k, cells := 0, slots := 0, locals := 21 + k * 25 } : Room) D d st [.ref d.1, .int p0, .int p1, .int p2] r st' := by
  intro k
  induction k with
  | zero => intro st p0 p1 p2 r st' h; cases h
  | succ k ih =>
    intro st p0 p1 p2 r st' h
    exact m_startI (lvl := [(0, .ref d.1), (1, .int p0), (2, .int p1), (3, .int p2)]) (by decide) rfl (Nat.le_of_ble_eq_true rfl) rfl (fun p e s m args below meth c ls X hr hlk hl hA I => w_goesRound X hA ⟨Nat.le_add_right _ _, Nat.le_add_right _ _⟩ n st (f_goesRound_rec n k) p0 p1 p2 ({ frames := 1 + k, cells := 0, slots := 0, locals := 21 + k * 25 } : Room) ⟨rfl, rfl⟩ ⟨Nat.le_refl _, by show 8 + (6 + 11) + (21 + k * 25) ≤ 21 + (k + 1) * 25; omega⟩ ih (r, st') h (fun H locs ls pc g hd I => m_zret X I hr hlk g hd) _ _ ls I hl)
def f_goesRound (n : Nat) (st : MS) (p0 : Int32) (p1 : Int32) (p2 : Int32) : Option (Int32 × MS) := f_goesRound_rec n 9 st p0 p1 p2
theorem c_goesRound (l : Launch) (n : Nat) (D : va_G) (d : MD) (st : MS) (p0 : Int32) (p1 : Int32) (p2 : Int32) (r : Int32) (st' : MS) (h : f_goesRound n st p0 p1 p2 = some (r, st')) : m_Mi l yX3_goesRound cX3_goesRound 6 (some .boolean) ({ frames := 10, cells := 0, slots := 0, locals := 246 } : Room) D d st [.ref d.1, .int p0, .int p1, .int p2] r st' := c_goesRound_rec l n D d 9 st p0 p1 p2 r st' h

/-! method coupleOf(I)I -/
def f_coupleOf (n : Nat) (st : MS) (p0 : Int32) : Option (Int32) :=
  m_g (m_in p0 8) (m_g (decide (¬ (st.1 19 : Int32) = 0)) (m_g (m_in ((p0 + 1) - (p0 + 1) / (st.1 19) * (st.1 19)) 8) (m_b (f_couple n (st.2.1 18 (p0 : Int32).toNatClampNeg) (st.2.1 18 ((p0 + 1) - (p0 + 1) / (st.1 19) * (st.1 19) : Int32).toNatClampNeg)) (fun r5 => some r5))))
theorem hd_coupleOf : yX3_coupleOf.cls = RX3 ∧ yX3_coupleOf.cls ≠ "java/lang/invoke/MethodHandle" ∧ yX3_coupleOf.cls ≠ "java/lang/invoke/VarHandle" ∧ (parseMethodDescriptor yX3_coupleOf.desc).map (fun d => d.parameters.length) = some 1 := by decide +kernel
section S_coupleOf
variable {p : Program} {l : Launch} {e : Env} {R : Room} {s : State} {m : MethodId} {args : Array Value} {below : List Frame} {meth : Method} {c : Code} {Q : State → Prop} {D : va_G} {A : Nat → Prop} {d : MD}
theorem w_coupleOf (X : m_X D A d p s m c cX3_coupleOf 2 args) (hA : ∀ q, s.heap.size ≤ q → A q) (hR : 1 ≤ R.frames ∧ 21 ≤ R.locals) (n : Nat) (st : MS) (p0 : Int32) (r : Int32) (h : f_coupleOf n st p0 = some r) (hret : ∀ (H : Heap) (locs : List Loc) (ls : Array Slot) (pc : Nat), decode cX3_coupleOf pc = .ok (.ireturn, 1) → m_I D A d s.heap st H locs → W p l e R s m args below meth c H locs 0 0 Q (F0 m pc ls [.int r])) : ∀ (H : Heap) (locs : List Loc) (ls : Array Slot), m_I D A d s.heap st H locs → lv_has ls 2 [(0, .ref d.1), (1, .int p0)] → W p l e R s m args below meth c H locs 0 0 Q (F0 m 0 ls []) := by
  intro H locs ls I hl
  unfold f_coupleOf at h
  refine lv_aload_n X.1 X.2.1 dX3_coupleOf_0 rfl (lv_at hl 0 rfl) ?_
  refine m_get X I 18 (by decide) rfl rfl rfl q1535 (v := .ref (d.2.1 18)) rfl dX3_coupleOf_1 ?_
  refine lv_iload_n X.1 X.2.1 dX3_coupleOf_4 rfl (lv_at hl 1 rfl) ?_
  obtain ⟨g1, h⟩ := m_gS h
  refine m_iald X I 8 (n := 8) (f := st.2.1 18) rfl g1 dX3_coupleOf_5 ?_
  refine lv_aload_n X.1 X.2.1 dX3_coupleOf_6 rfl (lv_at hl 0 rfl) ?_
  refine m_get X I 18 (by decide) rfl rfl rfl q1535 (v := .ref (d.2.1 18)) rfl dX3_coupleOf_7 ?_
  refine lv_iload_n X.1 X.2.1 dX3_coupleOf_10 rfl (lv_at hl 1 rfl) ?_
  refine lv_iconst (v := 1) X.1 X.2.1 dX3_coupleOf_11 (by decide) ?_
  refine lv_iadd X.1 X.2.1 dX3_coupleOf_12 ?_
  refine lv_aload_n X.1 X.2.1 dX3_coupleOf_13 rfl (lv_at hl 0 rfl) ?_
  refine m_get X I 19 (by decide) rfl rfl rfl q1536 (v := .int (st.1 19)) rfl dX3_coupleOf_14 ?_
  obtain ⟨g2, h⟩ := m_gS h
  refine lv_irem X.1 X.2.1 dX3_coupleOf_17 (of_decide_eq_true g2) ?_
  obtain ⟨g3, h⟩ := m_gS h
  refine m_iald X I 8 (n := 8) (f := st.2.1 18) rfl g3 dX3_coupleOf_18 ?_
  obtain ⟨r5, e4, h⟩ := m_bS h
  refine m_callS X hl.1 (As := [.int (st.2.1 18 (p0 : Int32).toNatClampNeg), .int (st.2.1 18 ((p0 + 1) - (p0 + 1) / (st.1 19) * (st.1 19) : Int32).toNatClampNeg)]) (rest := []) (c_couple l n (st.2.1 18 (p0 : Int32).toNatClampNeg) (st.2.1 18 ((p0 + 1) - (p0 + 1) / (st.1 19) * (st.1 19) : Int32).toNatClampNeg) _ e4) 2 q1784 q1785 q107 q1786 (hd_couple).2 rfl rfl ⟨Nat.le_trans (Nat.le_of_ble_eq_true rfl) hR.1, Nat.le_trans (Nat.le_of_ble_eq_true rfl) hR.2⟩ ⟨rfl, rfl⟩ ⟨Nat.zero_le _, Nat.zero_le _⟩ (Nat.le_of_ble_eq_true rfl) dX3_coupleOf_19 ?_
  obtain rfl := m_e1 h
  exact hret H locs ls 22 dX3_coupleOf_22 I
end S_coupleOf
theorem c_coupleOf (l : Launch) (n : Nat) (D : va_G) (d : MD) (st : MS) (p0 : Int32) (r : Int32) (h : f_coupleOf n st p0 = some r) : m_Mi l yX3_coupleOf cX3_coupleOf 2 (some .int) ({ frames := 1, cells := 0, slots := 0, locals := 21 } : Room) D d st [.ref d.1, .int p0] r st :=
  m_startI (lvl := [(0, .ref d.1), (1, .int p0)]) (by decide) rfl (Nat.le_of_ble_eq_true rfl) rfl (fun p e s m args below meth c ls X hr hlk hl hA I => w_coupleOf X hA ⟨Nat.le_refl _, Nat.le_refl _⟩ n st p0 r h (fun H locs ls pc hd I => m_iret X I hr hlk hd) _ _ ls I hl)

/-! method laysRows()I -/
def f_laysRows_L4 (n : Nat) (v1 : Int32) (v2 : Int32) (st : MS) : Option ((Int32 × MS) ⊕ MS) :=
  m_if ((st.1 5 : Int32) ≤ (v2 : Int32)) (some (.inr st)) (m_g (m_in v2 8) (some (.inl ((v2 + 1, m_sa st 20 (v2 : Int32).toNatClampNeg 1)))))
def f_laysRows_L4l (n : Nat) (v1 : Int32) (x : (Int32 × MS)) : Option MS := m_lp (fun (x : (Int32 × MS)) => f_laysRows_L4 n v1 x.1 x.2) n x
def f_laysRows_J102 (n : Nat) (st : MS) (v1 : Int32) (v2 : Int32) (v3 : Int32) (v4 : Int32) : Option ((Int32 × MS) ⊕ MS) :=
  some (.inl ((v4 + 1, st)))
def f_laysRows_L48 (n : Nat) (v1 : Int32) (v2 : Int32) (v3 : Int32) (v4 : Int32) (st : MS) : Option ((Int32 × MS) ⊕ MS) :=
  m_if ((st.1 5 : Int32) ≤ (v4 : Int32)) (some (.inr st)) (m_b (f_couple n v3 v4) (fun r9 => m_g (m_in r9 64) (m_if ((st.2.1 17 (r9 : Int32).toNatClampNeg : Int32) ≤ 0) (f_laysRows_J102 n st v1 v2 v3 v4) (m_g (m_in v4 8) (m_g (m_in v3 8) (m_if ((st.2.1 20 (v4 : Int32).toNatClampNeg : Int32) < (st.2.1 20 (v3 : Int32).toNatClampNeg : Int32)) (f_laysRows_J102 n st v1 v2 v3 v4) (m_g (m_in v4 8) (m_g (m_in v3 8) (f_laysRows_J102 n (m_sa st 20 (v3 : Int32).toNatClampNeg ((st.2.1 20 (v4 : Int32).toNatClampNeg) + 1)) v1 v2 v3 v4)))))))))
def f_laysRows_L48l (n : Nat) (v1 : Int32) (v2 : Int32) (v3 : Int32) (x : (Int32 × MS)) : Option MS := m_lp (fun (x : (Int32 × MS)) => f_laysRows_L48 n v1 v2 v3 x.1 x.2) n x
def f_laysRows_J128 (n : Nat) (st : MS) (v2 : Int32) (v3 : Int32) (t0 : Int32) : Option ((Int32 × Int32 × MS) ⊕ (Int32 × MS)) :=
  some (.inl ((t0, v3 + 1, st)))
def f_laysRows_L37 (n : Nat) (v2 : Int32) (v1 : Int32) (v3 : Int32) (st : MS) : Option ((Int32 × Int32 × MS) ⊕ (Int32 × MS)) :=
  m_if ((st.1 5 : Int32) ≤ (v3 : Int32)) (some (.inr ((v1, st)))) (m_b (f_laysRows_L48l n v1 v2 v3 ((0, st))) (fun s18 => m_g (m_in v3 8) (m_if ((s18.2.1 20 (v3 : Int32).toNatClampNeg : Int32) ≤ (v1 : Int32)) (f_laysRows_J128 n s18 v2 v3 v1) (m_g (m_in v3 8) (f_laysRows_J128 n s18 v2 v3 (s18.2.1 20 (v3 : Int32).toNatClampNeg))))))
def f_laysRows_L37l (n : Nat) (v2 : Int32) (x : (Int32 × Int32 × MS)) : Option (Int32 × MS) := m_lp (fun (x : (Int32 × Int32 × MS)) => f_laysRows_L37 n v2 x.1 x.2.1 x.2.2) n x
def f_laysRows_L27 (n : Nat) (v1 : Int32) (v2 : Int32) (st : MS) : Option ((Int32 × Int32 × MS) ⊕ (Int32 × MS)) :=
  m_if ((st.1 5 : Int32) ≤ (v2 : Int32)) (some (.inr ((v1, st)))) (m_b (f_laysRows_L37l n v2 ((v1, 0, st))) (fun y25 => some (.inl ((y25.1, v2 + 1, y25.2)))))
def f_laysRows_L27l (n : Nat) (x : (Int32 × Int32 × MS)) : Option (Int32 × MS) := m_lp (fun (x : (Int32 × Int32 × MS)) => f_laysRows_L27 n x.1 x.2.1 x.2.2) n x
def f_laysRows_J151 (n : Nat) (st : MS) (t0 : Int32) : Option (Int32 × MS) :=
  some (t0, st)
def f_laysRows (n : Nat) (st : MS) : Option (Int32 × MS) :=
  m_b (f_laysRows_L4l n 0 ((0, st))) (fun s4 => m_b (f_laysRows_L27l n ((0, 0, s4))) (fun y30 => m_if ((2 : Int32) ≤ (y30.1 : Int32)) (f_laysRows_J151 n y30.2 y30.1) (f_laysRows_J151 n y30.2 0)))
theorem hd_laysRows : yX3_laysRows.cls = RX3 ∧ yX3_laysRows.cls ≠ "java/lang/invoke/MethodHandle" ∧ yX3_laysRows.cls ≠ "java/lang/invoke/VarHandle" ∧ (parseMethodDescriptor yX3_laysRows.desc).map (fun d => d.parameters.length) = some 0 := by decide +kernel
section S_laysRows
variable {p : Program} {l : Launch} {e : Env} {R : Room} {s : State} {m : MethodId} {args : Array Value} {below : List Frame} {meth : Method} {c : Code} {Q : State → Prop} {D : va_G} {A : Nat → Prop} {d : MD}
theorem wf_laysRows_L4 (X : m_X D A d p s m c cX3_laysRows 5 args) (hA : ∀ q, s.heap.size ≤ q → A q) (hR : 1 ≤ R.frames ∧ 21 ≤ R.locals) (n : Nat) (v1 : Int32) (x : (Int32 × MS)) (z : MS) (hz : f_laysRows_L4l n v1 x = some z) (hE : (fun (z : MS) => ∀ (H : Heap) (locs : List Loc) (ls : Array Slot), m_I D A d s.heap z H locs → lv_has ls 5 [(0, .ref d.1), (1, .int v1)] → W p l e R s m args below meth c H locs 0 0 Q (F0 m 25 ls [])) z) : (fun (x : (Int32 × MS)) => ∀ (H : Heap) (locs : List Loc) (ls : Array Slot), m_I D A d s.heap x.2 H locs → lv_has ls 5 [(0, .ref d.1), (1, .int v1), (2, .int x.1)] → W p l e R s m args below meth c H locs 0 0 Q (F0 m 4 ls [])) x := by
  refine m_lpW (G := fun (x : (Int32 × MS)) => ∀ (H : Heap) (locs : List Loc) (ls : Array Slot), m_I D A d s.heap x.2 H locs → lv_has ls 5 [(0, .ref d.1), (1, .int v1), (2, .int x.1)] → W p l e R s m args below meth c H locs 0 0 Q (F0 m 4 ls [])) (E := fun (z : MS) => ∀ (H : Heap) (locs : List Loc) (ls : Array Slot), m_I D A d s.heap z H locs → lv_has ls 5 [(0, .ref d.1), (1, .int v1)] → W p l e R s m args below meth c H locs 0 0 Q (F0 m 25 ls [])) ?_ n x z hz hE
  rintro ⟨v2, st⟩ r h hr H locs ls I hl
  replace h : f_laysRows_L4 n v1 v2 st = some r := h
  unfold f_laysRows_L4 at h
  refine lv_iload_n X.1 X.2.1 dX3_laysRows_4 rfl (lv_at hl 2 rfl) ?_
  refine lv_aload_n X.1 X.2.1 dX3_laysRows_5 rfl (lv_at hl 0 rfl) ?_
  refine m_get X I 5 (by decide) rfl rfl rfl q1522 (v := .int (st.1 5)) rfl dX3_laysRows_6 ?_
  refine lv_icmp_ge (tgt := 25) X.1 X.2.1 dX3_laysRows_9 (by decide) (fun c1 => ?_) (fun c1 => ?_)
  · replace h := m_ifT c1 h
    cases h
    exact hr H locs ls I (lv_sub hl [0, 1] rfl)
  · replace h := m_ifF c1 h
    refine lv_aload_n X.1 X.2.1 dX3_laysRows_12 rfl (lv_at hl 0 rfl) ?_
    refine m_get X I 20 (by decide) rfl rfl rfl q1537 (v := .ref (d.2.1 20)) rfl dX3_laysRows_13 ?_
    refine lv_iload_n X.1 X.2.1 dX3_laysRows_16 rfl (lv_at hl 2 rfl) ?_
    refine lv_iconst (v := 1) X.1 X.2.1 dX3_laysRows_17 (by decide) ?_
    obtain ⟨g2, h⟩ := m_gS h
    refine m_iast X I 9 (n := 8) (f := st.2.1 20) rfl (m_st20 d _ _ _) g2 dX3_laysRows_18 (fun H locs I => ?_)
    refine lv_iinc (v := v2 + 1) (lv' := [(2, .int (v2 + 1)), (0, .ref d.1), (1, .int v1)]) X.1 X.2.1 dX3_laysRows_19 hl (k := 2) rfl rfl (by decide) rfl (fun ls hl => ?_)
    refine lv_goto (tgt := 4) X.1 X.2.1 dX3_laysRows_22 (by decide) ?_
    cases h
    exact hr H locs ls I (lv_sub hl [1, 2, 0] rfl)
theorem wf_laysRows_L48 (X : m_X D A d p s m c cX3_laysRows 5 args) (hA : ∀ q, s.heap.size ≤ q → A q) (hR : 1 ≤ R.frames ∧ 21 ≤ R.locals) (n : Nat) (v1 : Int32) (v2 : Int32) (v3 : Int32) (x : (Int32 × MS)) (z : MS) (hz : f_laysRows_L48l n v1 v2 v3 x = some z) (hE : (fun (z : MS) => ∀ (H : Heap) (locs : List Loc) (ls : Array Slot), m_I D A d s.heap z H locs → lv_has ls 5 [(0, .ref d.1), (1, .int v1), (2, .int v2), (3, .int v3)] → W p l e R s m args below meth c H locs 0 0 Q (F0 m 108 ls [])) z) : (fun (x : (Int32 × MS)) => ∀ (H : Heap) (locs : List Loc) (ls : Array Slot), m_I D A d s.heap x.2 H locs → lv_has ls 5 [(0, .ref d.1), (1, .int v1), (2, .int v2), (3, .int v3), (4, .int x.1)] → W p l e R s m args below meth c H locs 0 0 Q (F0 m 48 ls [])) x := by
  refine m_lpW (G := fun (x : (Int32 × MS)) => ∀ (H : Heap) (locs : List Loc) (ls : Array Slot), m_I D A d s.heap x.2 H locs → lv_has ls 5 [(0, .ref d.1), (1, .int v1), (2, .int v2), (3, .int v3), (4, .int x.1)] → W p l e R s m args below meth c H locs 0 0 Q (F0 m 48 ls [])) (E := fun (z : MS) => ∀ (H : Heap) (locs : List Loc) (ls : Array Slot), m_I D A d s.heap z H locs → lv_has ls 5 [(0, .ref d.1), (1, .int v1), (2, .int v2), (3, .int v3)] → W p l e R s m args below meth c H locs 0 0 Q (F0 m 108 ls [])) ?_ n x z hz hE
  rintro ⟨v4, st⟩ r h hr H locs ls I hl
  replace h : f_laysRows_L48 n v1 v2 v3 v4 st = some r := h
  have k102 : ∀ (st : MS) (v4 : Int32) (H : Heap) (locs : List Loc) (ls : Array Slot), f_laysRows_J102 n st v1 v2 v3 v4 = some r → m_I D A d s.heap st H locs → lv_has ls 5 [(0, .ref d.1), (1, .int v1), (2, .int v2), (3, .int v3), (4, .int v4)] → W p l e R s m args below meth c H locs 0 0 Q (F0 m 102 ls []) := by
    intro st v4 H locs ls h I hl
    unfold f_laysRows_J102 at h
    refine lv_iinc (v := v4 + 1) (lv' := [(4, .int (v4 + 1)), (0, .ref d.1), (1, .int v1), (2, .int v2), (3, .int v3)]) X.1 X.2.1 dX3_laysRows_102 hl (k := 4) rfl rfl (by decide) rfl (fun ls hl => ?_)
    refine lv_goto (tgt := 48) X.1 X.2.1 dX3_laysRows_105 (by decide) ?_
    cases h
    exact hr H locs ls I (lv_sub hl [1, 2, 3, 4, 0] rfl)
  unfold f_laysRows_L48 at h
  refine lv_iload X.1 X.2.1 dX3_laysRows_48 (lv_at hl 4 rfl) ?_
  refine lv_aload_n X.1 X.2.1 dX3_laysRows_50 rfl (lv_at hl 0 rfl) ?_
  refine m_get X I 5 (by decide) rfl rfl rfl q1522 (v := .int (st.1 5)) rfl dX3_laysRows_51 ?_
  refine lv_icmp_ge (tgt := 108) X.1 X.2.1 dX3_laysRows_54 (by decide) (fun c7 => ?_) (fun c7 => ?_)
  · replace h := m_ifT c7 h
    cases h
    exact hr H locs ls I (lv_sub hl [0, 1, 2, 3] rfl)
  · replace h := m_ifF c7 h
    refine lv_aload_n X.1 X.2.1 dX3_laysRows_57 rfl (lv_at hl 0 rfl) ?_
    refine m_get X I 17 (by decide) rfl rfl rfl q1534 (v := .ref (d.2.1 17)) rfl dX3_laysRows_58 ?_
    refine lv_iload_n X.1 X.2.1 dX3_laysRows_61 rfl (lv_at hl 3 rfl) ?_
    refine lv_iload X.1 X.2.1 dX3_laysRows_62 (lv_at hl 4 rfl) ?_
    obtain ⟨r9, e8, h⟩ := m_bS h
    refine m_callS X hl.1 (As := [.int v3, .int v4]) (rest := [.ref (d.2.1 17)]) (c_couple l n v3 v4 _ e8) 2 q1784 q1785 q107 q1786 (hd_couple).2 rfl rfl ⟨Nat.le_trans (Nat.le_of_ble_eq_true rfl) hR.1, Nat.le_trans (Nat.le_of_ble_eq_true rfl) hR.2⟩ ⟨rfl, rfl⟩ ⟨Nat.zero_le _, Nat.zero_le _⟩ (Nat.le_of_ble_eq_true rfl) dX3_laysRows_64 ?_
    obtain ⟨g10, h⟩ := m_gS h
    refine m_iald X I 7 (n := 64) (f := st.2.1 17) rfl g10 dX3_laysRows_67 ?_
    refine lv_if_le (tgt := 102) X.1 X.2.1 dX3_laysRows_68 (by decide) (fun c11 => ?_) (fun c11 => ?_)
    · replace h := m_ifT c11 h
      exact k102 st v4 H locs ls h I (lv_sub hl [0, 1, 2, 3, 4] rfl)
    · replace h := m_ifF c11 h
      refine lv_aload_n X.1 X.2.1 dX3_laysRows_71 rfl (lv_at hl 0 rfl) ?_
      refine m_get X I 20 (by decide) rfl rfl rfl q1537 (v := .ref (d.2.1 20)) rfl dX3_laysRows_72 ?_
      refine lv_iload X.1 X.2.1 dX3_laysRows_75 (lv_at hl 4 rfl) ?_
      obtain ⟨g12, h⟩ := m_gS h
      refine m_iald X I 9 (n := 8) (f := st.2.1 20) rfl g12 dX3_laysRows_77 ?_
      refine lv_aload_n X.1 X.2.1 dX3_laysRows_78 rfl (lv_at hl 0 rfl) ?_
      refine m_get X I 20 (by decide) rfl rfl rfl q1537 (v := .ref (d.2.1 20)) rfl dX3_laysRows_79 ?_
      refine lv_iload_n X.1 X.2.1 dX3_laysRows_82 rfl (lv_at hl 3 rfl) ?_
      obtain ⟨g13, h⟩ := m_gS h
      refine m_iald X I 9 (n := 8) (f := st.2.1 20) rfl g13 dX3_laysRows_83 ?_
      refine lv_icmp_lt (tgt := 102) X.1 X.2.1 dX3_laysRows_84 (by decide) (fun c14 => ?_) (fun c14 => ?_)
      · replace h := m_ifT c14 h
        exact k102 st v4 H locs ls h I (lv_sub hl [0, 1, 2, 3, 4] rfl)
      · replace h := m_ifF c14 h
        refine lv_aload_n X.1 X.2.1 dX3_laysRows_87 rfl (lv_at hl 0 rfl) ?_
        refine m_get X I 20 (by decide) rfl rfl rfl q1537 (v := .ref (d.2.1 20)) rfl dX3_laysRows_88 ?_
        refine lv_iload_n X.1 X.2.1 dX3_laysRows_91 rfl (lv_at hl 3 rfl) ?_
        refine lv_aload_n X.1 X.2.1 dX3_laysRows_92 rfl (lv_at hl 0 rfl) ?_
        refine m_get X I 20 (by decide) rfl rfl rfl q1537 (v := .ref (d.2.1 20)) rfl dX3_laysRows_93 ?_
        refine lv_iload X.1 X.2.1 dX3_laysRows_96 (lv_at hl 4 rfl) ?_
        obtain ⟨g15, h⟩ := m_gS h
        refine m_iald X I 9 (n := 8) (f := st.2.1 20) rfl g15 dX3_laysRows_98 ?_
        refine lv_iconst (v := 1) X.1 X.2.1 dX3_laysRows_99 (by decide) ?_
        refine lv_iadd X.1 X.2.1 dX3_laysRows_100 ?_
        obtain ⟨g16, h⟩ := m_gS h
        refine m_iast X I 9 (n := 8) (f := st.2.1 20) rfl (m_st20 d _ _ _) g16 dX3_laysRows_101 (fun H locs I => ?_)
        exact k102 (m_sa st 20 (v3 : Int32).toNatClampNeg ((st.2.1 20 (v4 : Int32).toNatClampNeg) + 1)) v4 H locs ls h I (lv_sub hl [0, 1, 2, 3, 4] rfl)
theorem wf_laysRows_L37 (X : m_X D A d p s m c cX3_laysRows 5 args) (hA : ∀ q, s.heap.size ≤ q → A q) (hR : 1 ≤ R.frames ∧ 21 ≤ R.locals) (n : Nat) (v2 : Int32) (x : (Int32 × Int32 × MS)) (z : (Int32 × MS)) (hz : f_laysRows_L37l n v2 x = some z) (hE : (fun (z : (Int32 × MS)) => ∀ (H : Heap) (locs : List Loc) (ls : Array Slot), m_I D A d s.heap z.2 H locs → lv_has ls 5 [(0, .ref d.1), (1, .int z.1), (2, .int v2)] → W p l e R s m args below meth c H locs 0 0 Q (F0 m 135 ls [])) z) : (fun (x : (Int32 × Int32 × MS)) => ∀ (H : Heap) (locs : List Loc) (ls : Array Slot), m_I D A d s.heap x.2.2 H locs → lv_has ls 5 [(0, .ref d.1), (1, .int x.1), (2, .int v2), (3, .int x.2.1)] → W p l e R s m args below meth c H locs 0 0 Q (F0 m 37 ls [])) x := by
  refine m_lpW (G := fun (x : (Int32 × Int32 × MS)) => ∀ (H : Heap) (locs : List Loc) (ls : Array Slot), m_I D A d s.heap x.2.2 H locs → lv_has ls 5 [(0, .ref d.1), (1, .int x.1), (2, .int v2), (3, .int x.2.1)] → W p l e R s m args below meth c H locs 0 0 Q (F0 m 37 ls [])) (E := fun (z : (Int32 × MS)) => ∀ (H : Heap) (locs : List Loc) (ls : Array Slot), m_I D A d s.heap z.2 H locs → lv_has ls 5 [(0, .ref d.1), (1, .int z.1), (2, .int v2)] → W p l e R s m args below meth c H locs 0 0 Q (F0 m 135 ls [])) ?_ n x z hz hE
  rintro ⟨v1, v3, st⟩ r h hr H locs ls I hl
  replace h : f_laysRows_L37 n v2 v1 v3 st = some r := h
  have k128 : ∀ (st : MS) (v3 : Int32) (t0 : Int32) (H : Heap) (locs : List Loc) (ls : Array Slot), f_laysRows_J128 n st v2 v3 t0 = some r → m_I D A d s.heap st H locs → lv_has ls 5 [(0, .ref d.1), (2, .int v2), (3, .int v3)] → W p l e R s m args below meth c H locs 0 0 Q (F0 m 128 ls [.int t0]) := by
    intro st v3 t0 H locs ls h I hl
    unfold f_laysRows_J128 at h
    refine lv_istore_n (lv' := [(1, .int t0), (0, .ref d.1), (2, .int v2), (3, .int v3)]) X.1 X.2.1 dX3_laysRows_128 rfl hl (by decide) rfl (fun ls hl => ?_)
    refine lv_iinc (v := v3 + 1) (lv' := [(3, .int (v3 + 1)), (1, .int t0), (0, .ref d.1), (2, .int v2)]) X.1 X.2.1 dX3_laysRows_129 hl (k := 3) rfl rfl (by decide) rfl (fun ls hl => ?_)
    refine lv_goto (tgt := 37) X.1 X.2.1 dX3_laysRows_132 (by decide) ?_
    cases h
    exact hr H locs ls I (lv_sub hl [2, 1, 3, 0] rfl)
  unfold f_laysRows_L37 at h
  refine lv_iload_n X.1 X.2.1 dX3_laysRows_37 rfl (lv_at hl 3 rfl) ?_
  refine lv_aload_n X.1 X.2.1 dX3_laysRows_38 rfl (lv_at hl 0 rfl) ?_
  refine m_get X I 5 (by decide) rfl rfl rfl q1522 (v := .int (st.1 5)) rfl dX3_laysRows_39 ?_
  refine lv_icmp_ge (tgt := 135) X.1 X.2.1 dX3_laysRows_42 (by decide) (fun c6 => ?_) (fun c6 => ?_)
  · replace h := m_ifT c6 h
    cases h
    exact hr H locs ls I (lv_sub hl [0, 1, 2] rfl)
  · replace h := m_ifF c6 h
    refine lv_iconst (v := 0) X.1 X.2.1 dX3_laysRows_45 (by decide) ?_
    refine lv_istore (lv' := [(4, .int 0), (0, .ref d.1), (1, .int v1), (2, .int v2), (3, .int v3)]) X.1 X.2.1 dX3_laysRows_46 hl (by decide) rfl (fun ls hl => ?_)
    obtain ⟨s18, e17, h⟩ := m_bS h
    refine wf_laysRows_L48 X hA hR n v1 v2 v3 _ _ e17 (fun H locs ls I hl => ?_) H locs ls I (lv_sub hl [1, 2, 3, 4, 0] rfl)
    refine lv_aload_n X.1 X.2.1 dX3_laysRows_108 rfl (lv_at hl 0 rfl) ?_
    refine m_get X I 20 (by decide) rfl rfl rfl q1537 (v := .ref (d.2.1 20)) rfl dX3_laysRows_109 ?_
    refine lv_iload_n X.1 X.2.1 dX3_laysRows_112 rfl (lv_at hl 3 rfl) ?_
    obtain ⟨g19, h⟩ := m_gS h
    refine m_iald X I 9 (n := 8) (f := s18.2.1 20) rfl g19 dX3_laysRows_113 ?_
    refine lv_iload_n X.1 X.2.1 dX3_laysRows_114 rfl (lv_at hl 1 rfl) ?_
    refine lv_icmp_le (tgt := 127) X.1 X.2.1 dX3_laysRows_115 (by decide) (fun c20 => ?_) (fun c20 => ?_)
    · replace h := m_ifT c20 h
      refine lv_iload_n X.1 X.2.1 dX3_laysRows_127 rfl (lv_at hl 1 rfl) ?_
      exact k128 s18 v3 v1 H locs ls h I (lv_sub hl [0, 2, 3] rfl)
    · replace h := m_ifF c20 h
      refine lv_aload_n X.1 X.2.1 dX3_laysRows_118 rfl (lv_at hl 0 rfl) ?_
      refine m_get X I 20 (by decide) rfl rfl rfl q1537 (v := .ref (d.2.1 20)) rfl dX3_laysRows_119 ?_
      refine lv_iload_n X.1 X.2.1 dX3_laysRows_122 rfl (lv_at hl 3 rfl) ?_
      obtain ⟨g21, h⟩ := m_gS h
      refine m_iald X I 9 (n := 8) (f := s18.2.1 20) rfl g21 dX3_laysRows_123 ?_
      refine lv_goto (tgt := 128) X.1 X.2.1 dX3_laysRows_124 (by decide) ?_
      exact k128 s18 v3 (s18.2.1 20 (v3 : Int32).toNatClampNeg) H locs ls h I (lv_sub hl [0, 2, 3] rfl)
theorem wf_laysRows_L27 (X : m_X D A d p s m c cX3_laysRows 5 args) (hA : ∀ q, s.heap.size ≤ q → A q) (hR : 1 ≤ R.frames ∧ 21 ≤ R.locals) (n : Nat)  (x : (Int32 × Int32 × MS)) (z : (Int32 × MS)) (hz : f_laysRows_L27l n x = some z) (hE : (fun (z : (Int32 × MS)) => ∀ (H : Heap) (locs : List Loc) (ls : Array Slot), m_I D A d s.heap z.2 H locs → lv_has ls 5 [(1, .int z.1)] → W p l e R s m args below meth c H locs 0 0 Q (F0 m 141 ls [])) z) : (fun (x : (Int32 × Int32 × MS)) => ∀ (H : Heap) (locs : List Loc) (ls : Array Slot), m_I D A d s.heap x.2.2 H locs → lv_has ls 5 [(0, .ref d.1), (1, .int x.1), (2, .int x.2.1)] → W p l e R s m args below meth c H locs 0 0 Q (F0 m 27 ls [])) x := by
  refine m_lpW (G := fun (x : (Int32 × Int32 × MS)) => ∀ (H : Heap) (locs : List Loc) (ls : Array Slot), m_I D A d s.heap x.2.2 H locs → lv_has ls 5 [(0, .ref d.1), (1, .int x.1), (2, .int x.2.1)] → W p l e R s m args below meth c H locs 0 0 Q (F0 m 27 ls [])) (E := fun (z : (Int32 × MS)) => ∀ (H : Heap) (locs : List Loc) (ls : Array Slot), m_I D A d s.heap z.2 H locs → lv_has ls 5 [(1, .int z.1)] → W p l e R s m args below meth c H locs 0 0 Q (F0 m 141 ls [])) ?_ n x z hz hE
  rintro ⟨v1, v2, st⟩ r h hr H locs ls I hl
  replace h : f_laysRows_L27 n v1 v2 st = some r := h
  unfold f_laysRows_L27 at h
  refine lv_iload_n X.1 X.2.1 dX3_laysRows_27 rfl (lv_at hl 2 rfl) ?_
  refine lv_aload_n X.1 X.2.1 dX3_laysRows_28 rfl (lv_at hl 0 rfl) ?_
  refine m_get X I 5 (by decide) rfl rfl rfl q1522 (v := .int (st.1 5)) rfl dX3_laysRows_29 ?_
  refine lv_icmp_ge (tgt := 141) X.1 X.2.1 dX3_laysRows_32 (by decide) (fun c5 => ?_) (fun c5 => ?_)
  · replace h := m_ifT c5 h
    cases h
    exact hr H locs ls I (lv_sub hl [1] rfl)
  · replace h := m_ifF c5 h
    refine lv_iconst (v := 0) X.1 X.2.1 dX3_laysRows_35 (by decide) ?_
    refine lv_istore_n (lv' := [(3, .int 0), (0, .ref d.1), (1, .int v1), (2, .int v2)]) X.1 X.2.1 dX3_laysRows_36 rfl hl (by decide) rfl (fun ls hl => ?_)
    obtain ⟨⟨z23, s24⟩, e22, h⟩ := m_bS h
    refine wf_laysRows_L37 X hA hR n v2 _ _ e22 (fun H locs ls I hl => ?_) H locs ls I (lv_sub hl [1, 2, 3, 0] rfl)
    refine lv_iinc (v := v2 + 1) (lv' := [(2, .int (v2 + 1)), (0, .ref d.1), (1, .int z23)]) X.1 X.2.1 dX3_laysRows_135 hl (k := 2) rfl rfl (by decide) rfl (fun ls hl => ?_)
    refine lv_goto (tgt := 27) X.1 X.2.1 dX3_laysRows_138 (by decide) ?_
    cases h
    exact hr H locs ls I (lv_sub hl [1, 2, 0] rfl)
theorem w_laysRows (X : m_X D A d p s m c cX3_laysRows 5 args) (hA : ∀ q, s.heap.size ≤ q → A q) (hR : 1 ≤ R.frames ∧ 21 ≤ R.locals) (n : Nat) (st : MS) (r : (Int32 × MS)) (h : f_laysRows n st = some r) (hret : ∀ (H : Heap) (locs : List Loc) (ls : Array Slot) (pc : Nat), decode cX3_laysRows pc = .ok (.ireturn, 1) → m_I D A d s.heap r.2 H locs → W p l e R s m args below meth c H locs 0 0 Q (F0 m pc ls [.int r.1])) : ∀ (H : Heap) (locs : List Loc) (ls : Array Slot), m_I D A d s.heap st H locs → lv_has ls 5 [(0, .ref d.1)] → W p l e R s m args below meth c H locs 0 0 Q (F0 m 0 ls []) := by
  obtain ⟨r0, s0⟩ := r
  have k151 : ∀ (st : MS) (t0 : Int32) (H : Heap) (locs : List Loc) (ls : Array Slot), f_laysRows_J151 n st t0 = some (r0, s0) → m_I D A d s.heap st H locs → lv_has ls 5 [] → W p l e R s m args below meth c H locs 0 0 Q (F0 m 151 ls [.int t0]) := by
    intro st t0 H locs ls h I hl
    unfold f_laysRows_J151 at h
    obtain ⟨rfl, rfl⟩ := m_e2 h
    exact hret H locs ls 151 dX3_laysRows_151 I
  intro H locs ls I hl
  unfold f_laysRows at h
  refine lv_iconst (v := 0) X.1 X.2.1 dX3_laysRows_0 (by decide) ?_
  refine lv_istore_n (lv' := [(1, .int 0), (0, .ref d.1)]) X.1 X.2.1 dX3_laysRows_1 rfl hl (by decide) rfl (fun ls hl => ?_)
  refine lv_iconst (v := 0) X.1 X.2.1 dX3_laysRows_2 (by decide) ?_
  refine lv_istore_n (lv' := [(2, .int 0), (1, .int 0), (0, .ref d.1)]) X.1 X.2.1 dX3_laysRows_3 rfl hl (by decide) rfl (fun ls hl => ?_)
  obtain ⟨s4, e3, h⟩ := m_bS h
  refine wf_laysRows_L4 X hA hR n 0 _ _ e3 (fun H locs ls I hl => ?_) H locs ls I (lv_sub hl [2, 1, 0] rfl)
  refine lv_iconst (v := 0) X.1 X.2.1 dX3_laysRows_25 (by decide) ?_
  refine lv_istore_n (lv' := [(2, .int 0), (0, .ref d.1), (1, .int 0)]) X.1 X.2.1 dX3_laysRows_26 rfl hl (by decide) rfl (fun ls hl => ?_)
  obtain ⟨⟨z27, s28⟩, e26, h⟩ := m_bS h
  refine wf_laysRows_L27 X hA hR n  _ _ e26 (fun H locs ls I hl => ?_) H locs ls I (lv_sub hl [1, 2, 0] rfl)
  refine lv_iload_n X.1 X.2.1 dX3_laysRows_141 rfl (lv_at hl 0 rfl) ?_
  refine lv_iconst (v := 2) X.1 X.2.1 dX3_laysRows_142 (by decide) ?_
  refine lv_icmp_ge (tgt := 150) X.1 X.2.1 dX3_laysRows_143 (by decide) (fun c29 => ?_) (fun c29 => ?_)
  · replace h := m_ifT c29 h
    refine lv_iload_n X.1 X.2.1 dX3_laysRows_150 rfl (lv_at hl 0 rfl) ?_
    exact k151 s28 z27 H locs ls h I (lv_sub hl [] rfl)
  · replace h := m_ifF c29 h
    refine lv_iconst (v := 0) X.1 X.2.1 dX3_laysRows_146 (by decide) ?_
    refine lv_goto (tgt := 151) X.1 X.2.1 dX3_laysRows_147 (by decide) ?_
    exact k151 s28 0 H locs ls h I (lv_sub hl [] rfl)
end S_laysRows
theorem c_laysRows (l : Launch) (n : Nat) (D : va_G) (d : MD) (st : MS) (r : Int32) (st' : MS) (h : f_laysRows n st = some (r, st')) : m_Mi l yX3_laysRows cX3_laysRows 5 (some .int) ({ frames := 1, cells := 0, slots := 0, locals := 21 } : Room) D d st [.ref d.1] r st' :=
  m_startI (lvl := [(0, .ref d.1)]) (by decide) rfl (Nat.le_of_ble_eq_true rfl) rfl (fun p e s m args below meth c ls X hr hlk hl hA I => w_laysRows X hA ⟨Nat.le_refl _, Nat.le_refl _⟩ n st (r, st') h (fun H locs ls pc hd I => m_iret X I hr hlk hd) _ _ ls I hl)

/-! method nextOf(II)I -/
def f_nextOf_J35 (n : Nat) (st : MS) (v1 : Int32) (v2 : Int32) (v3 : Int32) : Option (Int32 ⊕ (Int32 ⊕ Unit)) :=
  some (.inl (v3 + 1))
def f_nextOf_L2 (n : Nat) (st : MS) (v1 : Int32) (v2 : Int32) (v3 : Int32) : Option (Int32 ⊕ (Int32 ⊕ Unit)) :=
  m_if ((st.1 5 : Int32) ≤ (v3 : Int32)) (some (.inr (.inr (())))) (m_b (f_couple n v1 v3) (fun r3 => m_g (m_in r3 64) (m_if ((st.2.1 17 (r3 : Int32).toNatClampNeg : Int32) ≤ 0) (f_nextOf_J35 n st v1 v2 v3) (m_g (m_in v3 8) (m_if ((st.2.1 20 (v3 : Int32).toNatClampNeg : Int32) = (v2 : Int32)) (some (.inr (.inl v3))) (f_nextOf_J35 n st v1 v2 v3))))))
def f_nextOf_L2l (n : Nat) (st : MS) (v1 : Int32) (v2 : Int32) (x : Int32) : Option (Int32 ⊕ Unit) := m_lp (fun (x : Int32) => f_nextOf_L2 n st v1 v2 x) n x
def f_nextOf (n : Nat) (st : MS) (p0 : Int32) (p1 : Int32) : Option (Int32) :=
  m_b (f_nextOf_L2l n st p0 p1 0) (fun y11 => m_s y11 (fun z9 => some z9) (fun _ => some ((-1))))
theorem hd_nextOf : yX3_nextOf.cls = RX3 ∧ yX3_nextOf.cls ≠ "java/lang/invoke/MethodHandle" ∧ yX3_nextOf.cls ≠ "java/lang/invoke/VarHandle" ∧ (parseMethodDescriptor yX3_nextOf.desc).map (fun d => d.parameters.length) = some 2 := by decide +kernel
section S_nextOf
variable {p : Program} {l : Launch} {e : Env} {R : Room} {s : State} {m : MethodId} {args : Array Value} {below : List Frame} {meth : Method} {c : Code} {Q : State → Prop} {D : va_G} {A : Nat → Prop} {d : MD}
theorem wf_nextOf_L2 (X : m_X D A d p s m c cX3_nextOf 4 args) (hA : ∀ q, s.heap.size ≤ q → A q) (hR : 1 ≤ R.frames ∧ 21 ≤ R.locals) (n : Nat) (st : MS) (v1 : Int32) (v2 : Int32) (x : Int32) (z : (Int32 ⊕ Unit)) (hz : f_nextOf_L2l n st v1 v2 x = some z) (hE : (m_e (fun (z : Int32) => ∀ (H : Heap) (locs : List Loc) (ls : Array Slot), m_I D A d s.heap st H locs → lv_has ls 4 [(3, .int z)] → W p l e R s m args below meth c H locs 0 0 Q (F0 m 33 ls [])) (fun (z : Unit) => ∀ (H : Heap) (locs : List Loc) (ls : Array Slot), m_I D A d s.heap st H locs → lv_has ls 4 [] → W p l e R s m args below meth c H locs 0 0 Q (F0 m 41 ls []))) z) : (fun (x : Int32) => ∀ (H : Heap) (locs : List Loc) (ls : Array Slot), m_I D A d s.heap st H locs → lv_has ls 4 [(0, .ref d.1), (1, .int v1), (2, .int v2), (3, .int x)] → W p l e R s m args below meth c H locs 0 0 Q (F0 m 2 ls [])) x := by
  refine m_lpW (G := fun (x : Int32) => ∀ (H : Heap) (locs : List Loc) (ls : Array Slot), m_I D A d s.heap st H locs → lv_has ls 4 [(0, .ref d.1), (1, .int v1), (2, .int v2), (3, .int x)] → W p l e R s m args below meth c H locs 0 0 Q (F0 m 2 ls [])) (E := m_e (fun (z : Int32) => ∀ (H : Heap) (locs : List Loc) (ls : Array Slot), m_I D A d s.heap st H locs → lv_has ls 4 [(3, .int z)] → W p l e R s m args below meth c H locs 0 0 Q (F0 m 33 ls [])) (fun (z : Unit) => ∀ (H : Heap) (locs : List Loc) (ls : Array Slot), m_I D A d s.heap st H locs → lv_has ls 4 [] → W p l e R s m args below meth c H locs 0 0 Q (F0 m 41 ls []))) ?_ n x z hz hE
  rintro v3 r h hr H locs ls I hl
  replace h : f_nextOf_L2 n st v1 v2 v3 = some r := h
  have k35 : ∀ (v3 : Int32) (H : Heap) (locs : List Loc) (ls : Array Slot), f_nextOf_J35 n st v1 v2 v3 = some r → m_I D A d s.heap st H locs → lv_has ls 4 [(0, .ref d.1), (1, .int v1), (2, .int v2), (3, .int v3)] → W p l e R s m args below meth c H locs 0 0 Q (F0 m 35 ls []) := by
    intro v3 H locs ls h I hl
    unfold f_nextOf_J35 at h
    refine lv_iinc (v := v3 + 1) (lv' := [(3, .int (v3 + 1)), (0, .ref d.1), (1, .int v1), (2, .int v2)]) X.1 X.2.1 dX3_nextOf_35 hl (k := 3) rfl rfl (by decide) rfl (fun ls hl => ?_)
    refine lv_goto (tgt := 2) X.1 X.2.1 dX3_nextOf_38 (by decide) ?_
    cases h
    exact hr H locs ls I (lv_sub hl [1, 2, 3, 0] rfl)
  unfold f_nextOf_L2 at h
  refine lv_iload_n X.1 X.2.1 dX3_nextOf_2 rfl (lv_at hl 3 rfl) ?_
  refine lv_aload_n X.1 X.2.1 dX3_nextOf_3 rfl (lv_at hl 0 rfl) ?_
  refine m_get X I 5 (by decide) rfl rfl rfl q1522 (v := .int (st.1 5)) rfl dX3_nextOf_4 ?_
  refine lv_icmp_ge (tgt := 41) X.1 X.2.1 dX3_nextOf_7 (by decide) (fun c1 => ?_) (fun c1 => ?_)
  · replace h := m_ifT c1 h
    cases h
    exact hr H locs ls I (lv_sub hl [] rfl)
  · replace h := m_ifF c1 h
    refine lv_aload_n X.1 X.2.1 dX3_nextOf_10 rfl (lv_at hl 0 rfl) ?_
    refine m_get X I 17 (by decide) rfl rfl rfl q1534 (v := .ref (d.2.1 17)) rfl dX3_nextOf_11 ?_
    refine lv_iload_n X.1 X.2.1 dX3_nextOf_14 rfl (lv_at hl 1 rfl) ?_
    refine lv_iload_n X.1 X.2.1 dX3_nextOf_15 rfl (lv_at hl 3 rfl) ?_
    obtain ⟨r3, e2, h⟩ := m_bS h
    refine m_callS X hl.1 (As := [.int v1, .int v3]) (rest := [.ref (d.2.1 17)]) (c_couple l n v1 v3 _ e2) 2 q1784 q1785 q107 q1786 (hd_couple).2 rfl rfl ⟨Nat.le_trans (Nat.le_of_ble_eq_true rfl) hR.1, Nat.le_trans (Nat.le_of_ble_eq_true rfl) hR.2⟩ ⟨rfl, rfl⟩ ⟨Nat.zero_le _, Nat.zero_le _⟩ (Nat.le_of_ble_eq_true rfl) dX3_nextOf_16 ?_
    obtain ⟨g4, h⟩ := m_gS h
    refine m_iald X I 7 (n := 64) (f := st.2.1 17) rfl g4 dX3_nextOf_19 ?_
    refine lv_if_le (tgt := 35) X.1 X.2.1 dX3_nextOf_20 (by decide) (fun c5 => ?_) (fun c5 => ?_)
    · replace h := m_ifT c5 h
      exact k35 v3 H locs ls h I (lv_sub hl [0, 1, 2, 3] rfl)
    · replace h := m_ifF c5 h
      refine lv_aload_n X.1 X.2.1 dX3_nextOf_23 rfl (lv_at hl 0 rfl) ?_
      refine m_get X I 20 (by decide) rfl rfl rfl q1537 (v := .ref (d.2.1 20)) rfl dX3_nextOf_24 ?_
      refine lv_iload_n X.1 X.2.1 dX3_nextOf_27 rfl (lv_at hl 3 rfl) ?_
      obtain ⟨g6, h⟩ := m_gS h
      refine m_iald X I 9 (n := 8) (f := st.2.1 20) rfl g6 dX3_nextOf_28 ?_
      refine lv_iload_n X.1 X.2.1 dX3_nextOf_29 rfl (lv_at hl 2 rfl) ?_
      refine lv_icmp_ne (tgt := 35) X.1 X.2.1 dX3_nextOf_30 (by decide) (fun c7 => ?_) (fun c7 => ?_)
      · replace h := m_ifF c7 h
        exact k35 v3 H locs ls h I (lv_sub hl [0, 1, 2, 3] rfl)
      · replace h := m_ifT c7 h
        cases h
        exact hr H locs ls I (lv_sub hl [3] rfl)
theorem w_nextOf (X : m_X D A d p s m c cX3_nextOf 4 args) (hA : ∀ q, s.heap.size ≤ q → A q) (hR : 1 ≤ R.frames ∧ 21 ≤ R.locals) (n : Nat) (st : MS) (p0 : Int32) (p1 : Int32) (r : Int32) (h : f_nextOf n st p0 p1 = some r) (hret : ∀ (H : Heap) (locs : List Loc) (ls : Array Slot) (pc : Nat), decode cX3_nextOf pc = .ok (.ireturn, 1) → m_I D A d s.heap st H locs → W p l e R s m args below meth c H locs 0 0 Q (F0 m pc ls [.int r])) : ∀ (H : Heap) (locs : List Loc) (ls : Array Slot), m_I D A d s.heap st H locs → lv_has ls 4 [(0, .ref d.1), (1, .int p0), (2, .int p1)] → W p l e R s m args below meth c H locs 0 0 Q (F0 m 0 ls []) := by
  intro H locs ls I hl
  unfold f_nextOf at h
  refine lv_iconst (v := 0) X.1 X.2.1 dX3_nextOf_0 (by decide) ?_
  refine lv_istore_n (lv' := [(3, .int 0), (0, .ref d.1), (1, .int p0), (2, .int p1)]) X.1 X.2.1 dX3_nextOf_1 rfl hl (by decide) rfl (fun ls hl => ?_)
  obtain ⟨z9 | _, e8, h⟩ := m_bS h
  · replace h := m_sL h
    refine wf_nextOf_L2 X hA hR n st p0 p1 _ _ e8 (fun H locs ls I hl => ?_) H locs ls I (lv_sub hl [1, 2, 3, 0] rfl)
    refine lv_iload_n X.1 X.2.1 dX3_nextOf_33 rfl (lv_at hl 0 rfl) ?_
    obtain rfl := m_e1 h
    exact hret H locs ls 34 dX3_nextOf_34 I
  · replace h := m_sR h
    refine wf_nextOf_L2 X hA hR n st p0 p1 _ _ e8 (fun H locs ls I hl => ?_) H locs ls I (lv_sub hl [1, 2, 3, 0] rfl)
    refine lv_iconst (v := (-1)) X.1 X.2.1 dX3_nextOf_41 (by decide) ?_
    obtain rfl := m_e1 h
    exact hret H locs ls 42 dX3_nextOf_42 I
end S_nextOf
theorem c_nextOf (l : Launch) (n : Nat) (D : va_G) (d : MD) (st : MS) (p0 : Int32) (p1 : Int32) (r : Int32) (h : f_nextOf n st p0 p1 = some r) : m_Mi l yX3_nextOf cX3_nextOf 4 (some .int) ({ frames := 1, cells := 0, slots := 0, locals := 21 } : Room) D d st [.ref d.1, .int p0, .int p1] r st :=
  m_startI (lvl := [(0, .ref d.1), (1, .int p0), (2, .int p1)]) (by decide) rfl (Nat.le_of_ble_eq_true rfl) rfl (fun p e s m args below meth c ls X hr hlk hl hA I => w_nextOf X hA ⟨Nat.le_refl _, Nat.le_refl _⟩ n st p0 p1 r h (fun H locs ls pc hd I => m_iret X I hr hlk hd) _ _ ls I hl)

/-! method throughBy([II)I -/
def f_throughBy_L7 (n : Nat) (st : MS) (kk : Nat) (v1 : Int32) (v2 : Int32) (v3 : Int32) (v4 : Int32) : Option ((Int32 × Int32 × Int32) ⊕ (Int32 × Int32)) :=
  m_if ((8 : Int32) ≤ (v4 : Int32)) (some (.inr ((v2, v3)))) (m_b (f_couple n v1 v4) (fun r3 => m_g (m_in r3 64) (m_b (f_couple n v4 v1) (fun r6 => m_g (m_in r6 64) (some (.inl ((v2 + (st.2.1 kk (r3 : Int32).toNatClampNeg), v3 + (st.2.1 kk (r6 : Int32).toNatClampNeg), v4 + 1))))))))
def f_throughBy_L7l (n : Nat) (st : MS) (kk : Nat) (v1 : Int32) (x : (Int32 × Int32 × Int32)) : Option (Int32 × Int32) := m_lp (fun (x : (Int32 × Int32 × Int32)) => f_throughBy_L7 n st kk v1 x.1 x.2.1 x.2.2) n x
def f_throughBy_J52 (n : Nat) (st : MS) (kk : Nat) (t0 : Int32) : Option (Int32) :=
  some t0
def f_throughBy (n : Nat) (st : MS) (kk : Nat) (p1 : Int32) : Option (Int32) :=
  m_b (f_throughBy_L7l n st kk p1 ((0, 0, 0))) (fun y12 => m_if ((y12.2 : Int32) ≤ (y12.1 : Int32)) (f_throughBy_J52 n st kk y12.2) (f_throughBy_J52 n st kk y12.1))
theorem hd_throughBy : yX3_throughBy.cls = RX3 ∧ yX3_throughBy.cls ≠ "java/lang/invoke/MethodHandle" ∧ yX3_throughBy.cls ≠ "java/lang/invoke/VarHandle" ∧ (parseMethodDescriptor yX3_throughBy.desc).map (fun d => d.parameters.length) = some 2 := by decide +kernel
section S_throughBy
variable {p : Program} {l : Launch} {e : Env} {R : Room} {s : State} {m : MethodId} {args : Array Value} {below : List Frame} {meth : Method} {c : Code} {Q : State → Prop} {D : va_G} {A : Nat → Prop} {d : MD}
theorem wf_throughBy_L7 (X : m_X D A d p s m c cX3_throughBy 5 args) (hA : ∀ q, s.heap.size ≤ q → A q) (hR : 1 ≤ R.frames ∧ 21 ≤ R.locals) (n : Nat) (st : MS) (kk : Nat) (v1 : Int32) (q0 : Nat) (ha : (m_W d st)[q0]? = some (d.2.1 kk, .inl (d.2.2.1 0, 64, .inl (st.2.1 kk)))) (x : (Int32 × Int32 × Int32)) (z : (Int32 × Int32)) (hz : f_throughBy_L7l n st kk v1 x = some z) (hE : (fun (z : (Int32 × Int32)) => ∀ (H : Heap) (locs : List Loc) (ls : Array Slot), m_I D A d s.heap st H locs → lv_has ls 5 [(2, .int z.1), (3, .int z.2)] → W p l e R s m args below meth c H locs 0 0 Q (F0 m 42 ls [])) z) : (fun (x : (Int32 × Int32 × Int32)) => ∀ (H : Heap) (locs : List Loc) (ls : Array Slot), m_I D A d s.heap st H locs → lv_has ls 5 [(0, .ref (d.2.1 kk)), (1, .int v1), (2, .int x.1), (3, .int x.2.1), (4, .int x.2.2)] → W p l e R s m args below meth c H locs 0 0 Q (F0 m 7 ls [])) x := by
  refine m_lpW (G := fun (x : (Int32 × Int32 × Int32)) => ∀ (H : Heap) (locs : List Loc) (ls : Array Slot), m_I D A d s.heap st H locs → lv_has ls 5 [(0, .ref (d.2.1 kk)), (1, .int v1), (2, .int x.1), (3, .int x.2.1), (4, .int x.2.2)] → W p l e R s m args below meth c H locs 0 0 Q (F0 m 7 ls [])) (E := fun (z : (Int32 × Int32)) => ∀ (H : Heap) (locs : List Loc) (ls : Array Slot), m_I D A d s.heap st H locs → lv_has ls 5 [(2, .int z.1), (3, .int z.2)] → W p l e R s m args below meth c H locs 0 0 Q (F0 m 42 ls [])) ?_ n x z hz hE
  rintro ⟨v2, v3, v4⟩ r h hr H locs ls I hl
  replace h : f_throughBy_L7 n st kk v1 v2 v3 v4 = some r := h
  unfold f_throughBy_L7 at h
  refine lv_iload X.1 X.2.1 dX3_throughBy_7 (lv_at hl 4 rfl) ?_
  refine lv_bipush (v := 8) X.1 X.2.1 dX3_throughBy_9 (by decide) ?_
  refine lv_icmp_ge (tgt := 42) X.1 X.2.1 dX3_throughBy_11 (by decide) (fun c1 => ?_) (fun c1 => ?_)
  · replace h := m_ifT c1 h
    cases h
    exact hr H locs ls I (lv_sub hl [2, 3] rfl)
  · replace h := m_ifF c1 h
    refine lv_iload_n X.1 X.2.1 dX3_throughBy_14 rfl (lv_at hl 2 rfl) ?_
    refine lv_aload_n X.1 X.2.1 dX3_throughBy_15 rfl (lv_at hl 0 rfl) ?_
    refine lv_iload_n X.1 X.2.1 dX3_throughBy_16 rfl (lv_at hl 1 rfl) ?_
    refine lv_iload X.1 X.2.1 dX3_throughBy_17 (lv_at hl 4 rfl) ?_
    obtain ⟨r3, e2, h⟩ := m_bS h
    refine m_callS X hl.1 (As := [.int v1, .int v4]) (rest := [.ref (d.2.1 kk), .int v2]) (c_couple l n v1 v4 _ e2) 2 q1784 q1785 q107 q1786 (hd_couple).2 rfl rfl ⟨Nat.le_trans (Nat.le_of_ble_eq_true rfl) hR.1, Nat.le_trans (Nat.le_of_ble_eq_true rfl) hR.2⟩ ⟨rfl, rfl⟩ ⟨Nat.zero_le _, Nat.zero_le _⟩ (Nat.le_of_ble_eq_true rfl) dX3_throughBy_19 ?_
    obtain ⟨g4, h⟩ := m_gS h
    refine m_iald X I q0 (n := 64) (f := st.2.1 kk) ha g4 dX3_throughBy_22 ?_
    refine lv_iadd X.1 X.2.1 dX3_throughBy_23 ?_
    refine lv_istore_n (lv' := [(2, .int (v2 + (st.2.1 kk (r3 : Int32).toNatClampNeg))), (0, .ref (d.2.1 kk)), (1, .int v1), (3, .int v3), (4, .int v4)]) X.1 X.2.1 dX3_throughBy_24 rfl hl (by decide) rfl (fun ls hl => ?_)
    refine lv_iload_n X.1 X.2.1 dX3_throughBy_25 rfl (lv_at hl 3 rfl) ?_
    refine lv_aload_n X.1 X.2.1 dX3_throughBy_26 rfl (lv_at hl 1 rfl) ?_
    refine lv_iload X.1 X.2.1 dX3_throughBy_27 (lv_at hl 4 rfl) ?_
    refine lv_iload_n X.1 X.2.1 dX3_throughBy_29 rfl (lv_at hl 2 rfl) ?_
    obtain ⟨r6, e5, h⟩ := m_bS h
    refine m_callS X hl.1 (As := [.int v4, .int v1]) (rest := [.ref (d.2.1 kk), .int v3]) (c_couple l n v4 v1 _ e5) 2 q1784 q1785 q107 q1786 (hd_couple).2 rfl rfl ⟨Nat.le_trans (Nat.le_of_ble_eq_true rfl) hR.1, Nat.le_trans (Nat.le_of_ble_eq_true rfl) hR.2⟩ ⟨rfl, rfl⟩ ⟨Nat.zero_le _, Nat.zero_le _⟩ (Nat.le_of_ble_eq_true rfl) dX3_throughBy_30 ?_
    obtain ⟨g7, h⟩ := m_gS h
    refine m_iald X I q0 (n := 64) (f := st.2.1 kk) ha g7 dX3_throughBy_33 ?_
    refine lv_iadd X.1 X.2.1 dX3_throughBy_34 ?_
    refine lv_istore_n (lv' := [(3, .int (v3 + (st.2.1 kk (r6 : Int32).toNatClampNeg))), (2, .int (v2 + (st.2.1 kk (r3 : Int32).toNatClampNeg))), (0, .ref (d.2.1 kk)), (1, .int v1), (4, .int v4)]) X.1 X.2.1 dX3_throughBy_35 rfl hl (by decide) rfl (fun ls hl => ?_)
    refine lv_iinc (v := v4 + 1) (lv' := [(4, .int (v4 + 1)), (3, .int (v3 + (st.2.1 kk (r6 : Int32).toNatClampNeg))), (2, .int (v2 + (st.2.1 kk (r3 : Int32).toNatClampNeg))), (0, .ref (d.2.1 kk)), (1, .int v1)]) X.1 X.2.1 dX3_throughBy_36 hl (k := 4) rfl rfl (by decide) rfl (fun ls hl => ?_)
    refine lv_goto (tgt := 7) X.1 X.2.1 dX3_throughBy_39 (by decide) ?_
    cases h
    exact hr H locs ls I (lv_sub hl [3, 4, 2, 1, 0] rfl)
theorem w_throughBy (X : m_X D A d p s m c cX3_throughBy 5 args) (hA : ∀ q, s.heap.size ≤ q → A q) (hR : 1 ≤ R.frames ∧ 21 ≤ R.locals) (n : Nat) (st : MS) (kk : Nat) (p1 : Int32) (q0 : Nat) (ha : (m_W d st)[q0]? = some (d.2.1 kk, .inl (d.2.2.1 0, 64, .inl (st.2.1 kk)))) (r : Int32) (h : f_throughBy n st kk p1 = some r) (hret : ∀ (H : Heap) (locs : List Loc) (ls : Array Slot) (pc : Nat), decode cX3_throughBy pc = .ok (.ireturn, 1) → m_I D A d s.heap st H locs → W p l e R s m args below meth c H locs 0 0 Q (F0 m pc ls [.int r])) : ∀ (H : Heap) (locs : List Loc) (ls : Array Slot), m_I D A d s.heap st H locs → lv_has ls 5 [(0, .ref (d.2.1 kk)), (1, .int p1)] → W p l e R s m args below meth c H locs 0 0 Q (F0 m 0 ls []) := by
  have k52 : ∀ (t0 : Int32) (H : Heap) (locs : List Loc) (ls : Array Slot), f_throughBy_J52 n st kk t0 = some r → m_I D A d s.heap st H locs → lv_has ls 5 [] → W p l e R s m args below meth c H locs 0 0 Q (F0 m 52 ls [.int t0]) := by
    intro t0 H locs ls h I hl
    unfold f_throughBy_J52 at h
    obtain rfl := m_e1 h
    exact hret H locs ls 52 dX3_throughBy_52 I
  intro H locs ls I hl
  unfold f_throughBy at h
  refine lv_iconst (v := 0) X.1 X.2.1 dX3_throughBy_0 (by decide) ?_
  refine lv_istore_n (lv' := [(2, .int 0), (0, .ref (d.2.1 kk)), (1, .int p1)]) X.1 X.2.1 dX3_throughBy_1 rfl hl (by decide) rfl (fun ls hl => ?_)
  refine lv_iconst (v := 0) X.1 X.2.1 dX3_throughBy_2 (by decide) ?_
  refine lv_istore_n (lv' := [(3, .int 0), (2, .int 0), (0, .ref (d.2.1 kk)), (1, .int p1)]) X.1 X.2.1 dX3_throughBy_3 rfl hl (by decide) rfl (fun ls hl => ?_)
  refine lv_iconst (v := 0) X.1 X.2.1 dX3_throughBy_4 (by decide) ?_
  refine lv_istore (lv' := [(4, .int 0), (3, .int 0), (2, .int 0), (0, .ref (d.2.1 kk)), (1, .int p1)]) X.1 X.2.1 dX3_throughBy_5 hl (by decide) rfl (fun ls hl => ?_)
  obtain ⟨⟨z9, z10⟩, e8, h⟩ := m_bS h
  refine wf_throughBy_L7 X hA hR n st kk p1 q0 ha _ _ e8 (fun H locs ls I hl => ?_) H locs ls I (lv_sub hl [3, 4, 2, 1, 0] rfl)
  refine lv_iload_n X.1 X.2.1 dX3_throughBy_42 rfl (lv_at hl 0 rfl) ?_
  refine lv_iload_n X.1 X.2.1 dX3_throughBy_43 rfl (lv_at hl 1 rfl) ?_
  refine lv_icmp_ge (tgt := 51) X.1 X.2.1 dX3_throughBy_44 (by decide) (fun c11 => ?_) (fun c11 => ?_)
  · replace h := m_ifT c11 h
    refine lv_iload_n X.1 X.2.1 dX3_throughBy_51 rfl (lv_at hl 1 rfl) ?_
    exact k52 z10 H locs ls h I (lv_sub hl [] rfl)
  · replace h := m_ifF c11 h
    refine lv_iload_n X.1 X.2.1 dX3_throughBy_47 rfl (lv_at hl 0 rfl) ?_
    refine lv_goto (tgt := 52) X.1 X.2.1 dX3_throughBy_48 (by decide) ?_
    exact k52 z9 H locs ls h I (lv_sub hl [] rfl)
end S_throughBy
theorem c_throughBy (l : Launch) (n : Nat) (D : va_G) (d : MD) (st : MS) (kk : Nat) (p1 : Int32) (q0 : Nat) (ha : (m_W d st)[q0]? = some (d.2.1 kk, .inl (d.2.2.1 0, 64, .inl (st.2.1 kk)))) (r : Int32) (h : f_throughBy n st kk p1 = some r) : m_Mi l yX3_throughBy cX3_throughBy 5 (some .int) ({ frames := 1, cells := 0, slots := 0, locals := 21 } : Room) D d st [.ref (d.2.1 kk), .int p1] r st :=
  m_startI (lvl := [(0, .ref (d.2.1 kk)), (1, .int p1)]) (by decide) rfl (Nat.le_of_ble_eq_true rfl) rfl (fun p e s m args below meth c ls X hr hlk hl hA I => w_throughBy X hA ⟨Nat.le_refl _, Nat.le_refl _⟩ n st kk p1 q0 ha r h (fun H locs ls pc hd I => m_iret X I hr hlk hd) _ _ ls I hl)

/-! method stepMay(II)I -/
def f_stepMay_J156 (n : Nat) (st : MS) (t0 : Int32) : Option (Int32) :=
  some t0
def f_stepMay_J103 (n : Nat) (st : MS) (t0 : Int32) : Option (Int32) :=
  some t0
def f_stepMay_J65 (n : Nat) (st : MS) (v3 : Int32) (v4 : Int32) (t0 : Int32) : Option (Int32) :=
  m_if ((v4 : Int32) = (t0 : Int32)) (m_if ((v3 : Int32) = 0) (m_g (m_in v4 8) (m_g (m_in v4 8) (f_stepMay_J103 n st ((st.2.1 23 (v4 : Int32).toNatClampNeg) - (st.2.1 24 (v4 : Int32).toNatClampNeg))))) (m_g (m_in v4 8) (f_stepMay_J103 n st (st.2.1 24 (v4 : Int32).toNatClampNeg)))) (m_b (f_couple n v4 t0) (fun r9 => m_g (m_in r9 64) (m_if ((st.2.1 26 (r9 : Int32).toNatClampNeg : Int32) = 0) (m_if ((v3 : Int32) = 0) (m_g (m_in r9 64) (f_stepMay_J156 n st (st.2.1 22 (r9 : Int32).toNatClampNeg))) (m_g (m_in r9 64) (m_g (m_in r9 64) (f_stepMay_J156 n st ((st.2.1 21 (r9 : Int32).toNatClampNeg) - (st.2.1 22 (r9 : Int32).toNatClampNeg)))))) (f_stepMay_J156 n st 0))))
def f_stepMay_J48 (n : Nat) (st : MS) (v1 : Int32) (v2 : Int32) (v3 : Int32) (t0 : Int32) : Option (Int32) :=
  m_if ((v3 : Int32) = 0) (f_stepMay_J65 n st v3 t0 (v1 - 8)) (f_stepMay_J65 n st v3 t0 (v2 - 8))
def f_stepMay_J38 (n : Nat) (st : MS) (v1 : Int32) (v2 : Int32) (t0 : Int32) : Option (Int32) :=
  m_if ((t0 : Int32) = 0) (f_stepMay_J48 n st v1 v2 t0 v2) (f_stepMay_J48 n st v1 v2 t0 v1)
def f_stepMay_J22 (n : Nat) (st : MS) (v1 : Int32) (v2 : Int32) (t0 : Int32) (t1 : Int32) : Option (Int32) :=
  m_if ((t1 : Int32) = (t0 : Int32)) (some 0) (m_if ((8 : Int32) ≤ (v1 : Int32)) (f_stepMay_J38 n st v1 v2 0) (f_stepMay_J38 n st v1 v2 1))
def f_stepMay_J11 (n : Nat) (st : MS) (v1 : Int32) (v2 : Int32) (t0 : Int32) : Option (Int32) :=
  m_if ((8 : Int32) ≤ (v2 : Int32)) (f_stepMay_J22 n st v1 v2 0 t0) (f_stepMay_J22 n st v1 v2 1 t0)
def f_stepMay (n : Nat) (st : MS) (p0 : Int32) (p1 : Int32) : Option (Int32) :=
  m_if ((8 : Int32) ≤ (p0 : Int32)) (f_stepMay_J11 n st p0 p1 0) (f_stepMay_J11 n st p0 p1 1)
theorem hd_stepMay : yX3_stepMay.cls = RX3 ∧ yX3_stepMay.cls ≠ "java/lang/invoke/MethodHandle" ∧ yX3_stepMay.cls ≠ "java/lang/invoke/VarHandle" ∧ (parseMethodDescriptor yX3_stepMay.desc).map (fun d => d.parameters.length) = some 2 := by decide +kernel
section S_stepMay
variable {p : Program} {l : Launch} {e : Env} {R : Room} {s : State} {m : MethodId} {args : Array Value} {below : List Frame} {meth : Method} {c : Code} {Q : State → Prop} {D : va_G} {A : Nat → Prop} {d : MD}
theorem w_stepMay (X : m_X D A d p s m c cX3_stepMay 7 args) (hA : ∀ q, s.heap.size ≤ q → A q) (hR : 1 ≤ R.frames ∧ 21 ≤ R.locals) (n : Nat) (st : MS) (p0 : Int32) (p1 : Int32) (r : Int32) (h : f_stepMay n st p0 p1 = some r) (hret : ∀ (H : Heap) (locs : List Loc) (ls : Array Slot) (pc : Nat), decode cX3_stepMay pc = .ok (.ireturn, 1) → m_I D A d s.heap st H locs → W p l e R s m args below meth c H locs 0 0 Q (F0 m pc ls [.int r])) : ∀ (H : Heap) (locs : List Loc) (ls : Array Slot), m_I D A d s.heap st H locs → lv_has ls 7 [(0, .ref d.1), (1, .int p0), (2, .int p1)] → W p l e R s m args below meth c H locs 0 0 Q (F0 m 0 ls []) := by
  have k156 : ∀ (t0 : Int32) (H : Heap) (locs : List Loc) (ls : Array Slot), f_stepMay_J156 n st t0 = some r → m_I D A d s.heap st H locs → lv_has ls 7 [] → W p l e R s m args below meth c H locs 0 0 Q (F0 m 156 ls [.int t0]) := by
    intro t0 H locs ls h I hl
    unfold f_stepMay_J156 at h
    obtain rfl := m_e1 h
    exact hret H locs ls 156 dX3_stepMay_156 I
  have k103 : ∀ (t0 : Int32) (H : Heap) (locs : List Loc) (ls : Array Slot), f_stepMay_J103 n st t0 = some r → m_I D A d s.heap st H locs → lv_has ls 7 [] → W p l e R s m args below meth c H locs 0 0 Q (F0 m 103 ls [.int t0]) := by
    intro t0 H locs ls h I hl
    unfold f_stepMay_J103 at h
    obtain rfl := m_e1 h
    exact hret H locs ls 103 dX3_stepMay_103 I
  have k65 : ∀ (v3 : Int32) (v4 : Int32) (t0 : Int32) (H : Heap) (locs : List Loc) (ls : Array Slot), f_stepMay_J65 n st v3 v4 t0 = some r → m_I D A d s.heap st H locs → lv_has ls 7 [(0, .ref d.1), (3, .int v3), (4, .int v4)] → W p l e R s m args below meth c H locs 0 0 Q (F0 m 65 ls [.int t0]) := by
    intro v3 v4 t0 H locs ls h I hl
    unfold f_stepMay_J65 at h
    refine lv_istore (lv' := [(5, .int t0), (0, .ref d.1), (3, .int v3), (4, .int v4)]) X.1 X.2.1 dX3_stepMay_65 hl (by decide) rfl (fun ls hl => ?_)
    refine lv_iload X.1 X.2.1 dX3_stepMay_67 (lv_at hl 3 rfl) ?_
    refine lv_iload X.1 X.2.1 dX3_stepMay_69 (lv_at hl 0 rfl) ?_
    refine lv_icmp_ne (tgt := 104) X.1 X.2.1 dX3_stepMay_71 (by decide) (fun c7 => ?_) (fun c7 => ?_)
    · replace h := m_ifF c7 h
      refine lv_iload X.1 X.2.1 dX3_stepMay_104 (lv_at hl 3 rfl) ?_
      refine lv_iload X.1 X.2.1 dX3_stepMay_106 (lv_at hl 0 rfl) ?_
      obtain ⟨r9, e8, h⟩ := m_bS h
      refine m_callS X hl.1 (As := [.int v4, .int t0]) (rest := []) (c_couple l n v4 t0 _ e8) 2 q1784 q1785 q107 q1786 (hd_couple).2 rfl rfl ⟨Nat.le_trans (Nat.le_of_ble_eq_true rfl) hR.1, Nat.le_trans (Nat.le_of_ble_eq_true rfl) hR.2⟩ ⟨rfl, rfl⟩ ⟨Nat.zero_le _, Nat.zero_le _⟩ (Nat.le_of_ble_eq_true rfl) dX3_stepMay_108 ?_
      refine lv_istore (lv' := [(6, .int r9), (5, .int t0), (0, .ref d.1), (3, .int v3), (4, .int v4)]) X.1 X.2.1 dX3_stepMay_111 hl (by decide) rfl (fun ls hl => ?_)
      refine lv_aload_n X.1 X.2.1 dX3_stepMay_113 rfl (lv_at hl 2 rfl) ?_
      refine m_get X I 26 (by decide) rfl rfl rfl q1543 (v := .ref (d.2.1 26)) rfl dX3_stepMay_114 ?_
      refine lv_iload X.1 X.2.1 dX3_stepMay_117 (lv_at hl 0 rfl) ?_
      obtain ⟨g10, h⟩ := m_gS h
      refine m_zald X I 15 (n := 64) (f := st.2.1 26) rfl g10 dX3_stepMay_119 ?_
      refine lv_if_eq (tgt := 127) X.1 X.2.1 dX3_stepMay_120 (by decide) (fun c11 => ?_) (fun c11 => ?_)
      · replace h := m_ifT c11 h
        refine lv_iload_n X.1 X.2.1 dX3_stepMay_127 rfl (lv_at hl 3 rfl) ?_
        refine lv_if_eq (tgt := 149) X.1 X.2.1 dX3_stepMay_128 (by decide) (fun c12 => ?_) (fun c12 => ?_)
        · replace h := m_ifT c12 h
          refine lv_aload_n X.1 X.2.1 dX3_stepMay_149 rfl (lv_at hl 2 rfl) ?_
          refine m_get X I 22 (by decide) rfl rfl rfl q1539 (v := .ref (d.2.1 22)) rfl dX3_stepMay_150 ?_
          refine lv_iload X.1 X.2.1 dX3_stepMay_153 (lv_at hl 0 rfl) ?_
          obtain ⟨g13, h⟩ := m_gS h
          refine m_iald X I 11 (n := 64) (f := st.2.1 22) rfl g13 dX3_stepMay_155 ?_
          exact k156 (st.2.1 22 (r9 : Int32).toNatClampNeg) H locs ls h I (lv_sub hl [] rfl)
        · replace h := m_ifF c12 h
          refine lv_aload_n X.1 X.2.1 dX3_stepMay_131 rfl (lv_at hl 2 rfl) ?_
          refine m_get X I 21 (by decide) rfl rfl rfl q1538 (v := .ref (d.2.1 21)) rfl dX3_stepMay_132 ?_
          refine lv_iload X.1 X.2.1 dX3_stepMay_135 (lv_at hl 0 rfl) ?_
          obtain ⟨g14, h⟩ := m_gS h
          refine m_iald X I 10 (n := 64) (f := st.2.1 21) rfl g14 dX3_stepMay_137 ?_
          refine lv_aload_n X.1 X.2.1 dX3_stepMay_138 rfl (lv_at hl 2 rfl) ?_
          refine m_get X I 22 (by decide) rfl rfl rfl q1539 (v := .ref (d.2.1 22)) rfl dX3_stepMay_139 ?_
          refine lv_iload X.1 X.2.1 dX3_stepMay_142 (lv_at hl 0 rfl) ?_
          obtain ⟨g15, h⟩ := m_gS h
          refine m_iald X I 11 (n := 64) (f := st.2.1 22) rfl g15 dX3_stepMay_144 ?_
          refine lv_isub X.1 X.2.1 dX3_stepMay_145 ?_
          refine lv_goto (tgt := 156) X.1 X.2.1 dX3_stepMay_146 (by decide) ?_
          exact k156 ((st.2.1 21 (r9 : Int32).toNatClampNeg) - (st.2.1 22 (r9 : Int32).toNatClampNeg)) H locs ls h I (lv_sub hl [] rfl)
      · replace h := m_ifF c11 h
        refine lv_iconst (v := 0) X.1 X.2.1 dX3_stepMay_123 (by decide) ?_
        refine lv_goto (tgt := 156) X.1 X.2.1 dX3_stepMay_124 (by decide) ?_
        exact k156 0 H locs ls h I (lv_sub hl [] rfl)
    · replace h := m_ifT c7 h
      refine lv_iload_n X.1 X.2.1 dX3_stepMay_74 rfl (lv_at hl 2 rfl) ?_
      refine lv_if_eq (tgt := 88) X.1 X.2.1 dX3_stepMay_75 (by decide) (fun c16 => ?_) (fun c16 => ?_)
      · replace h := m_ifT c16 h
        refine lv_aload_n X.1 X.2.1 dX3_stepMay_88 rfl (lv_at hl 1 rfl) ?_
        refine m_get X I 23 (by decide) rfl rfl rfl q1540 (v := .ref (d.2.1 23)) rfl dX3_stepMay_89 ?_
        refine lv_iload X.1 X.2.1 dX3_stepMay_92 (lv_at hl 3 rfl) ?_
        obtain ⟨g17, h⟩ := m_gS h
        refine m_iald X I 12 (n := 8) (f := st.2.1 23) rfl g17 dX3_stepMay_94 ?_
        refine lv_aload_n X.1 X.2.1 dX3_stepMay_95 rfl (lv_at hl 1 rfl) ?_
        refine m_get X I 24 (by decide) rfl rfl rfl q1541 (v := .ref (d.2.1 24)) rfl dX3_stepMay_96 ?_
        refine lv_iload X.1 X.2.1 dX3_stepMay_99 (lv_at hl 3 rfl) ?_
        obtain ⟨g18, h⟩ := m_gS h
        refine m_iald X I 13 (n := 8) (f := st.2.1 24) rfl g18 dX3_stepMay_101 ?_
        refine lv_isub X.1 X.2.1 dX3_stepMay_102 ?_
        exact k103 ((st.2.1 23 (v4 : Int32).toNatClampNeg) - (st.2.1 24 (v4 : Int32).toNatClampNeg)) H locs ls h I (lv_sub hl [] rfl)
      · replace h := m_ifF c16 h
        refine lv_aload_n X.1 X.2.1 dX3_stepMay_78 rfl (lv_at hl 1 rfl) ?_
        refine m_get X I 24 (by decide) rfl rfl rfl q1541 (v := .ref (d.2.1 24)) rfl dX3_stepMay_79 ?_
        refine lv_iload X.1 X.2.1 dX3_stepMay_82 (lv_at hl 3 rfl) ?_
        obtain ⟨g19, h⟩ := m_gS h
        refine m_iald X I 13 (n := 8) (f := st.2.1 24) rfl g19 dX3_stepMay_84 ?_
        refine lv_goto (tgt := 103) X.1 X.2.1 dX3_stepMay_85 (by decide) ?_
        exact k103 (st.2.1 24 (v4 : Int32).toNatClampNeg) H locs ls h I (lv_sub hl [] rfl)
  have k48 : ∀ (v1 : Int32) (v2 : Int32) (v3 : Int32) (t0 : Int32) (H : Heap) (locs : List Loc) (ls : Array Slot), f_stepMay_J48 n st v1 v2 v3 t0 = some r → m_I D A d s.heap st H locs → lv_has ls 7 [(0, .ref d.1), (1, .int v1), (2, .int v2), (3, .int v3)] → W p l e R s m args below meth c H locs 0 0 Q (F0 m 48 ls [.int t0]) := by
    intro v1 v2 v3 t0 H locs ls h I hl
    unfold f_stepMay_J48 at h
    refine lv_istore (lv' := [(4, .int t0), (0, .ref d.1), (1, .int v1), (2, .int v2), (3, .int v3)]) X.1 X.2.1 dX3_stepMay_48 hl (by decide) rfl (fun ls hl => ?_)
    refine lv_iload_n X.1 X.2.1 dX3_stepMay_50 rfl (lv_at hl 4 rfl) ?_
    refine lv_if_eq (tgt := 61) X.1 X.2.1 dX3_stepMay_51 (by decide) (fun c6 => ?_) (fun c6 => ?_)
    · replace h := m_ifT c6 h
      refine lv_iload_n X.1 X.2.1 dX3_stepMay_61 rfl (lv_at hl 2 rfl) ?_
      refine lv_bipush (v := 8) X.1 X.2.1 dX3_stepMay_62 (by decide) ?_
      refine lv_isub X.1 X.2.1 dX3_stepMay_64 ?_
      exact k65 v3 t0 (v1 - 8) H locs ls h I (lv_sub hl [1, 4, 0] rfl)
    · replace h := m_ifF c6 h
      refine lv_iload_n X.1 X.2.1 dX3_stepMay_54 rfl (lv_at hl 3 rfl) ?_
      refine lv_bipush (v := 8) X.1 X.2.1 dX3_stepMay_55 (by decide) ?_
      refine lv_isub X.1 X.2.1 dX3_stepMay_57 ?_
      refine lv_goto (tgt := 65) X.1 X.2.1 dX3_stepMay_58 (by decide) ?_
      exact k65 v3 t0 (v2 - 8) H locs ls h I (lv_sub hl [1, 4, 0] rfl)
  have k38 : ∀ (v1 : Int32) (v2 : Int32) (t0 : Int32) (H : Heap) (locs : List Loc) (ls : Array Slot), f_stepMay_J38 n st v1 v2 t0 = some r → m_I D A d s.heap st H locs → lv_has ls 7 [(0, .ref d.1), (1, .int v1), (2, .int v2)] → W p l e R s m args below meth c H locs 0 0 Q (F0 m 38 ls [.int t0]) := by
    intro v1 v2 t0 H locs ls h I hl
    unfold f_stepMay_J38 at h
    refine lv_istore_n (lv' := [(3, .int t0), (0, .ref d.1), (1, .int v1), (2, .int v2)]) X.1 X.2.1 dX3_stepMay_38 rfl hl (by decide) rfl (fun ls hl => ?_)
    refine lv_iload_n X.1 X.2.1 dX3_stepMay_39 rfl (lv_at hl 0 rfl) ?_
    refine lv_if_eq (tgt := 47) X.1 X.2.1 dX3_stepMay_40 (by decide) (fun c5 => ?_) (fun c5 => ?_)
    · replace h := m_ifT c5 h
      refine lv_iload_n X.1 X.2.1 dX3_stepMay_47 rfl (lv_at hl 3 rfl) ?_
      exact k48 v1 v2 t0 v2 H locs ls h I (lv_sub hl [1, 2, 3, 0] rfl)
    · replace h := m_ifF c5 h
      refine lv_iload_n X.1 X.2.1 dX3_stepMay_43 rfl (lv_at hl 2 rfl) ?_
      refine lv_goto (tgt := 48) X.1 X.2.1 dX3_stepMay_44 (by decide) ?_
      exact k48 v1 v2 t0 v1 H locs ls h I (lv_sub hl [1, 2, 3, 0] rfl)
  have k22 : ∀ (v1 : Int32) (v2 : Int32) (t0 : Int32) (t1 : Int32) (H : Heap) (locs : List Loc) (ls : Array Slot), f_stepMay_J22 n st v1 v2 t0 t1 = some r → m_I D A d s.heap st H locs → lv_has ls 7 [(0, .ref d.1), (1, .int v1), (2, .int v2)] → W p l e R s m args below meth c H locs 0 0 Q (F0 m 22 ls [.int t0, .int t1]) := by
    intro v1 v2 t0 t1 H locs ls h I hl
    unfold f_stepMay_J22 at h
    refine lv_icmp_ne (tgt := 27) X.1 X.2.1 dX3_stepMay_22 (by decide) (fun c3 => ?_) (fun c3 => ?_)
    · replace h := m_ifF c3 h
      refine lv_iload_n X.1 X.2.1 dX3_stepMay_27 rfl (lv_at hl 1 rfl) ?_
      refine lv_bipush (v := 8) X.1 X.2.1 dX3_stepMay_28 (by decide) ?_
      refine lv_icmp_ge (tgt := 37) X.1 X.2.1 dX3_stepMay_30 (by decide) (fun c4 => ?_) (fun c4 => ?_)
      · replace h := m_ifT c4 h
        refine lv_iconst (v := 0) X.1 X.2.1 dX3_stepMay_37 (by decide) ?_
        exact k38 v1 v2 0 H locs ls h I (lv_sub hl [0, 1, 2] rfl)
      · replace h := m_ifF c4 h
        refine lv_iconst (v := 1) X.1 X.2.1 dX3_stepMay_33 (by decide) ?_
        refine lv_goto (tgt := 38) X.1 X.2.1 dX3_stepMay_34 (by decide) ?_
        exact k38 v1 v2 1 H locs ls h I (lv_sub hl [0, 1, 2] rfl)
    · replace h := m_ifT c3 h
      refine lv_iconst (v := 0) X.1 X.2.1 dX3_stepMay_25 (by decide) ?_
      obtain rfl := m_e1 h
      exact hret H locs ls 26 dX3_stepMay_26 I
  have k11 : ∀ (v1 : Int32) (v2 : Int32) (t0 : Int32) (H : Heap) (locs : List Loc) (ls : Array Slot), f_stepMay_J11 n st v1 v2 t0 = some r → m_I D A d s.heap st H locs → lv_has ls 7 [(0, .ref d.1), (1, .int v1), (2, .int v2)] → W p l e R s m args below meth c H locs 0 0 Q (F0 m 11 ls [.int t0]) := by
    intro v1 v2 t0 H locs ls h I hl
    unfold f_stepMay_J11 at h
    refine lv_iload_n X.1 X.2.1 dX3_stepMay_11 rfl (lv_at hl 2 rfl) ?_
    refine lv_bipush (v := 8) X.1 X.2.1 dX3_stepMay_12 (by decide) ?_
    refine lv_icmp_ge (tgt := 21) X.1 X.2.1 dX3_stepMay_14 (by decide) (fun c2 => ?_) (fun c2 => ?_)
    · replace h := m_ifT c2 h
      refine lv_iconst (v := 0) X.1 X.2.1 dX3_stepMay_21 (by decide) ?_
      exact k22 v1 v2 0 t0 H locs ls h I (lv_sub hl [0, 1, 2] rfl)
    · replace h := m_ifF c2 h
      refine lv_iconst (v := 1) X.1 X.2.1 dX3_stepMay_17 (by decide) ?_
      refine lv_goto (tgt := 22) X.1 X.2.1 dX3_stepMay_18 (by decide) ?_
      exact k22 v1 v2 1 t0 H locs ls h I (lv_sub hl [0, 1, 2] rfl)
  intro H locs ls I hl
  unfold f_stepMay at h
  refine lv_iload_n X.1 X.2.1 dX3_stepMay_0 rfl (lv_at hl 1 rfl) ?_
  refine lv_bipush (v := 8) X.1 X.2.1 dX3_stepMay_1 (by decide) ?_
  refine lv_icmp_ge (tgt := 10) X.1 X.2.1 dX3_stepMay_3 (by decide) (fun c1 => ?_) (fun c1 => ?_)
  · replace h := m_ifT c1 h
    refine lv_iconst (v := 0) X.1 X.2.1 dX3_stepMay_10 (by decide) ?_
    exact k11 p0 p1 0 H locs ls h I (lv_sub hl [0, 1, 2] rfl)
  · replace h := m_ifF c1 h
    refine lv_iconst (v := 1) X.1 X.2.1 dX3_stepMay_6 (by decide) ?_
    refine lv_goto (tgt := 11) X.1 X.2.1 dX3_stepMay_7 (by decide) ?_
    exact k11 p0 p1 1 H locs ls h I (lv_sub hl [0, 1, 2] rfl)
end S_stepMay
theorem c_stepMay (l : Launch) (n : Nat) (D : va_G) (d : MD) (st : MS) (p0 : Int32) (p1 : Int32) (r : Int32) (h : f_stepMay n st p0 p1 = some r) : m_Mi l yX3_stepMay cX3_stepMay 7 (some .int) ({ frames := 1, cells := 0, slots := 0, locals := 21 } : Room) D d st [.ref d.1, .int p0, .int p1] r st :=
  m_startI (lvl := [(0, .ref d.1), (1, .int p0), (2, .int p1)]) (by decide) rfl (Nat.le_of_ble_eq_true rfl) rfl (fun p e s m args below meth c ls X hr hlk hl hA I => w_stepMay X hA ⟨Nat.le_refl _, Nat.le_refl _⟩ n st p0 p1 r h (fun H locs ls pc hd I => m_iret X I hr hlk hd) _ _ ls I hl)

/-! method stepCost(II)I -/
def f_stepCost_J34 (n : Nat) (t0 : Int32) (t1 : Int32) : Option (Int32) :=
  some (t1 + t0)
def f_stepCost_J17 (n : Nat) (t0 : Int32) : Option (Int32) :=
  f_stepCost_J34 n 0 t0
def f_stepCost (n : Nat) (p0 : Int32) (p1 : Int32) : Option (Int32) :=
  m_if ((p0 : Int32) = (p1 + 8 : Int32)) (f_stepCost_J17 n 1) (m_if ((p1 : Int32) = (p0 + 8 : Int32)) (f_stepCost_J17 n 1) (m_if ((8 : Int32) ≤ (p0 : Int32)) (f_stepCost_J34 n ((-64)) 1) (f_stepCost_J34 n 64 1)))
theorem hd_stepCost : yX3_stepCost.cls = RX3 ∧ yX3_stepCost.cls ≠ "java/lang/invoke/MethodHandle" ∧ yX3_stepCost.cls ≠ "java/lang/invoke/VarHandle" ∧ (parseMethodDescriptor yX3_stepCost.desc).map (fun d => d.parameters.length) = some 2 := by decide +kernel
section S_stepCost
variable {p : Program} {l : Launch} {e : Env} {R : Room} {s : State} {m : MethodId} {args : Array Value} {below : List Frame} {meth : Method} {c : Code} {H : Heap} {locs : List Loc} {Q : State → Prop}
theorem w_stepCost (X : CallFix p m c cX3_stepCost 2 s args lw_all RX3) (hR : 0 ≤ R.frames ∧ 0 ≤ R.locals) (n : Nat) (p0 : Int32) (p1 : Int32) (r : Int32) (h : f_stepCost n p0 p1 = some r) (hret : ∀ (ls : Array Slot) (pc : Nat), decode cX3_stepCost pc = .ok (.ireturn, 1) → W p l e R s m args below meth c H locs 0 0 Q (F0 m pc ls [.int r])) : ∀ (ls : Array Slot), lv_has ls 2 [(0, .int p0), (1, .int p1)] → W p l e R s m args below meth c H locs 0 0 Q (F0 m 0 ls []) := by
  have k34 : ∀ (t0 : Int32) (t1 : Int32) (ls : Array Slot), f_stepCost_J34 n t0 t1 = some r → lv_has ls 2 [] → W p l e R s m args below meth c H locs 0 0 Q (F0 m 34 ls [.int t0, .int t1]) := by
    intro t0 t1 ls h hl
    unfold f_stepCost_J34 at h
    refine lv_iadd X.1 X.2.1 dX3_stepCost_34 ?_
    obtain rfl := m_e1 h
    exact hret ls 35 dX3_stepCost_35
  have k17 : ∀ (t0 : Int32) (ls : Array Slot), f_stepCost_J17 n t0 = some r → lv_has ls 2 [] → W p l e R s m args below meth c H locs 0 0 Q (F0 m 17 ls [.int t0]) := by
    intro t0 ls h hl
    unfold f_stepCost_J17 at h
    refine lv_iconst (v := 0) X.1 X.2.1 dX3_stepCost_17 (by decide) ?_
    refine lv_goto (tgt := 34) X.1 X.2.1 dX3_stepCost_18 (by decide) ?_
    exact k34 0 t0 ls h (lv_sub hl [] rfl)
  intro ls hl
  unfold f_stepCost at h
  refine lv_iconst (v := 1) X.1 X.2.1 dX3_stepCost_0 (by decide) ?_
  refine lv_iload_n X.1 X.2.1 dX3_stepCost_1 rfl (lv_at hl 0 rfl) ?_
  refine lv_iload_n X.1 X.2.1 dX3_stepCost_2 rfl (lv_at hl 1 rfl) ?_
  refine lv_bipush (v := 8) X.1 X.2.1 dX3_stepCost_3 (by decide) ?_
  refine lv_iadd X.1 X.2.1 dX3_stepCost_5 ?_
  refine lv_icmp_eq (tgt := 17) X.1 X.2.1 dX3_stepCost_6 (by decide) (fun c1 => ?_) (fun c1 => ?_)
  · replace h := m_ifT c1 h
    exact k17 1 ls h (lv_sub hl [] rfl)
  · replace h := m_ifF c1 h
    refine lv_iload_n X.1 X.2.1 dX3_stepCost_9 rfl (lv_at hl 1 rfl) ?_
    refine lv_iload_n X.1 X.2.1 dX3_stepCost_10 rfl (lv_at hl 0 rfl) ?_
    refine lv_bipush (v := 8) X.1 X.2.1 dX3_stepCost_11 (by decide) ?_
    refine lv_iadd X.1 X.2.1 dX3_stepCost_13 ?_
    refine lv_icmp_ne (tgt := 21) X.1 X.2.1 dX3_stepCost_14 (by decide) (fun c2 => ?_) (fun c2 => ?_)
    · replace h := m_ifF c2 h
      refine lv_iload_n X.1 X.2.1 dX3_stepCost_21 rfl (lv_at hl 0 rfl) ?_
      refine lv_bipush (v := 8) X.1 X.2.1 dX3_stepCost_22 (by decide) ?_
      refine lv_icmp_ge (tgt := 32) X.1 X.2.1 dX3_stepCost_24 (by decide) (fun c3 => ?_) (fun c3 => ?_)
      · replace h := m_ifT c3 h
        refine lv_bipush (v := (-64)) X.1 X.2.1 dX3_stepCost_32 (by decide) ?_
        exact k34 ((-64)) 1 ls h (lv_sub hl [] rfl)
      · replace h := m_ifF c3 h
        refine lv_bipush (v := 64) X.1 X.2.1 dX3_stepCost_27 (by decide) ?_
        refine lv_goto (tgt := 34) X.1 X.2.1 dX3_stepCost_29 (by decide) ?_
        exact k34 64 1 ls h (lv_sub hl [] rfl)
    · replace h := m_ifT c2 h
      exact k17 1 ls h (lv_sub hl [] rfl)
end S_stepCost
theorem c_stepCost (l : Launch) (n : Nat) (p0 : Int32) (p1 : Int32) (r : Int32) (h : f_stepCost n p0 p1 = some r) : m_Si l yX3_stepCost cX3_stepCost 2 (some .int) ({ frames := 0, cells := 0, slots := 0, locals := 0 } : Room) [.int p0, .int p1] r :=
  m_startS (lvl := [(0, .int p0), (1, .int p1)]) (by decide) rfl (Nat.le_of_ble_eq_true rfl) rfl (fun p e s m args below meth c ls X hr hlk hl => w_stepCost X ⟨Nat.le_refl _, Nat.le_refl _⟩ n p0 p1 r h (fun ls pc hd => m_siret X hr hlk hd) ls hl)

/-! method firstOf(I)I -/
def f_firstOf_L2 (n : Nat) (st : MS) (v2 : Int32) : Option (Int32 ⊕ Int32) :=
  m_g (m_in v2 16) (m_if ((st.2.1 28 (v2 : Int32).toNatClampNeg : Int32) = ((-1) : Int32)) (some (.inr v2)) (m_g (m_in v2 16) (some (.inl (st.2.1 28 (v2 : Int32).toNatClampNeg)))))
def f_firstOf_L2l (n : Nat) (st : MS) (x : Int32) : Option Int32 := m_lp (fun (x : Int32) => f_firstOf_L2 n st x) n x
def f_firstOf (n : Nat) (st : MS) (p0 : Int32) : Option (Int32) :=
  m_b (f_firstOf_L2l n st p0) (fun z5 => some z5)
theorem hd_firstOf : yX3_firstOf.cls = RX3 ∧ yX3_firstOf.cls ≠ "java/lang/invoke/MethodHandle" ∧ yX3_firstOf.cls ≠ "java/lang/invoke/VarHandle" ∧ (parseMethodDescriptor yX3_firstOf.desc).map (fun d => d.parameters.length) = some 1 := by decide +kernel
section S_firstOf
variable {p : Program} {l : Launch} {e : Env} {R : Room} {s : State} {m : MethodId} {args : Array Value} {below : List Frame} {meth : Method} {c : Code} {Q : State → Prop} {D : va_G} {A : Nat → Prop} {d : MD}
theorem wf_firstOf_L2 (X : m_X D A d p s m c cX3_firstOf 3 args) (hA : ∀ q, s.heap.size ≤ q → A q) (hR : 0 ≤ R.frames ∧ 0 ≤ R.locals) (n : Nat) (st : MS) (x : Int32) (z : Int32) (hz : f_firstOf_L2l n st x = some z) (hE : (fun (z : Int32) => ∀ (H : Heap) (locs : List Loc) (ls : Array Slot), m_I D A d s.heap st H locs → lv_has ls 3 [(2, .int z)] → W p l e R s m args below meth c H locs 0 0 Q (F0 m 22 ls [])) z) : (fun (x : Int32) => ∀ (H : Heap) (locs : List Loc) (ls : Array Slot), m_I D A d s.heap st H locs → lv_has ls 3 [(0, .ref d.1), (2, .int x)] → W p l e R s m args below meth c H locs 0 0 Q (F0 m 2 ls [])) x := by
  refine m_lpW (G := fun (x : Int32) => ∀ (H : Heap) (locs : List Loc) (ls : Array Slot), m_I D A d s.heap st H locs → lv_has ls 3 [(0, .ref d.1), (2, .int x)] → W p l e R s m args below meth c H locs 0 0 Q (F0 m 2 ls [])) (E := fun (z : Int32) => ∀ (H : Heap) (locs : List Loc) (ls : Array Slot), m_I D A d s.heap st H locs → lv_has ls 3 [(2, .int z)] → W p l e R s m args below meth c H locs 0 0 Q (F0 m 22 ls [])) ?_ n x z hz hE
  rintro v2 r h hr H locs ls I hl
  replace h : f_firstOf_L2 n st v2 = some r := h
  unfold f_firstOf_L2 at h
  refine lv_aload_n X.1 X.2.1 dX3_firstOf_2 rfl (lv_at hl 0 rfl) ?_
  refine m_get X I 28 (by decide) rfl rfl rfl q1545 (v := .ref (d.2.1 28)) rfl dX3_firstOf_3 ?_
  refine lv_iload_n X.1 X.2.1 dX3_firstOf_6 rfl (lv_at hl 1 rfl) ?_
  obtain ⟨g1, h⟩ := m_gS h
  refine m_iald X I 17 (n := 16) (f := st.2.1 28) rfl g1 dX3_firstOf_7 ?_
  refine lv_iconst (v := (-1)) X.1 X.2.1 dX3_firstOf_8 (by decide) ?_
  refine lv_icmp_eq (tgt := 22) X.1 X.2.1 dX3_firstOf_9 (by decide) (fun c2 => ?_) (fun c2 => ?_)
  · replace h := m_ifT c2 h
    cases h
    exact hr H locs ls I (lv_sub hl [1] rfl)
  · replace h := m_ifF c2 h
    refine lv_aload_n X.1 X.2.1 dX3_firstOf_12 rfl (lv_at hl 0 rfl) ?_
    refine m_get X I 28 (by decide) rfl rfl rfl q1545 (v := .ref (d.2.1 28)) rfl dX3_firstOf_13 ?_
    refine lv_iload_n X.1 X.2.1 dX3_firstOf_16 rfl (lv_at hl 1 rfl) ?_
    obtain ⟨g3, h⟩ := m_gS h
    refine m_iald X I 17 (n := 16) (f := st.2.1 28) rfl g3 dX3_firstOf_17 ?_
    refine lv_istore_n (lv' := [(2, .int (st.2.1 28 (v2 : Int32).toNatClampNeg)), (0, .ref d.1)]) X.1 X.2.1 dX3_firstOf_18 rfl hl (by decide) rfl (fun ls hl => ?_)
    refine lv_goto (tgt := 2) X.1 X.2.1 dX3_firstOf_19 (by decide) ?_
    cases h
    exact hr H locs ls I (lv_sub hl [1, 0] rfl)
theorem w_firstOf (X : m_X D A d p s m c cX3_firstOf 3 args) (hA : ∀ q, s.heap.size ≤ q → A q) (hR : 0 ≤ R.frames ∧ 0 ≤ R.locals) (n : Nat) (st : MS) (p0 : Int32) (r : Int32) (h : f_firstOf n st p0 = some r) (hret : ∀ (H : Heap) (locs : List Loc) (ls : Array Slot) (pc : Nat), decode cX3_firstOf pc = .ok (.ireturn, 1) → m_I D A d s.heap st H locs → W p l e R s m args below meth c H locs 0 0 Q (F0 m pc ls [.int r])) : ∀ (H : Heap) (locs : List Loc) (ls : Array Slot), m_I D A d s.heap st H locs → lv_has ls 3 [(0, .ref d.1), (1, .int p0)] → W p l e R s m args below meth c H locs 0 0 Q (F0 m 0 ls []) := by
  intro H locs ls I hl
  unfold f_firstOf at h
  refine lv_iload_n X.1 X.2.1 dX3_firstOf_0 rfl (lv_at hl 1 rfl) ?_
  refine lv_istore_n (lv' := [(2, .int p0), (0, .ref d.1), (1, .int p0)]) X.1 X.2.1 dX3_firstOf_1 rfl hl (by decide) rfl (fun ls hl => ?_)
  obtain ⟨z5, e4, h⟩ := m_bS h
  refine wf_firstOf_L2 X hA hR n st _ _ e4 (fun H locs ls I hl => ?_) H locs ls I (lv_sub hl [1, 0] rfl)
  refine lv_iload_n X.1 X.2.1 dX3_firstOf_22 rfl (lv_at hl 0 rfl) ?_
  obtain rfl := m_e1 h
  exact hret H locs ls 23 dX3_firstOf_23 I
end S_firstOf
theorem c_firstOf (l : Launch) (n : Nat) (D : va_G) (d : MD) (st : MS) (p0 : Int32) (r : Int32) (h : f_firstOf n st p0 = some r) : m_Mi l yX3_firstOf cX3_firstOf 3 (some .int) ({ frames := 0, cells := 0, slots := 0, locals := 0 } : Room) D d st [.ref d.1, .int p0] r st :=
  m_startI (lvl := [(0, .ref d.1), (1, .int p0)]) (by decide) rfl (Nat.le_of_ble_eq_true rfl) rfl (fun p e s m args below meth c ls X hr hlk hl hA I => w_firstOf X hA ⟨Nat.le_refl _, Nat.le_refl _⟩ n st p0 r h (fun H locs ls pc hd I => m_iret X I hr hlk hd) _ _ ls I hl)

/-! method wayMay(II)I -/
def f_wayMay_J50 (n : Nat) (st : MS) (v4 : Int32) (t0 : Int32) : Option ((Int32 × Int32) ⊕ Int32) :=
  m_g (m_in v4 16) (some (.inl ((t0, st.2.1 28 (v4 : Int32).toNatClampNeg))))
def f_wayMay_L5 (n : Nat) (st : MS) (v3 : Int32) (v4 : Int32) : Option ((Int32 × Int32) ⊕ Int32) :=
  m_g (m_in v4 16) (m_if ((st.2.1 28 (v4 : Int32).toNatClampNeg : Int32) = ((-1) : Int32)) (some (.inr v3)) (m_g (m_in v4 16) (m_b (f_stepMay n st (st.2.1 28 (v4 : Int32).toNatClampNeg) v4) (fun r5 => m_if ((v3 : Int32) ≤ (r5 : Int32)) (f_wayMay_J50 n st v4 v3) (m_g (m_in v4 16) (m_b (f_stepMay n st (st.2.1 28 (v4 : Int32).toNatClampNeg) v4) (fun r10 => f_wayMay_J50 n st v4 r10)))))))
def f_wayMay_L5l (n : Nat) (st : MS) (x : (Int32 × Int32)) : Option Int32 := m_lp (fun (x : (Int32 × Int32)) => f_wayMay_L5 n st x.1 x.2) n x
def f_wayMay (n : Nat) (st : MS) (p0 : Int32) (p1 : Int32) : Option (Int32) :=
  m_b (f_wayMay_L5l n st ((p1, p0))) (fun z12 => some z12)
theorem hd_wayMay : yX3_wayMay.cls = RX3 ∧ yX3_wayMay.cls ≠ "java/lang/invoke/MethodHandle" ∧ yX3_wayMay.cls ≠ "java/lang/invoke/VarHandle" ∧ (parseMethodDescriptor yX3_wayMay.desc).map (fun d => d.parameters.length) = some 2 := by decide +kernel
section S_wayMay
variable {p : Program} {l : Launch} {e : Env} {R : Room} {s : State} {m : MethodId} {args : Array Value} {below : List Frame} {meth : Method} {c : Code} {Q : State → Prop} {D : va_G} {A : Nat → Prop} {d : MD}
theorem wf_wayMay_L5 (X : m_X D A d p s m c cX3_wayMay 5 args) (hA : ∀ q, s.heap.size ≤ q → A q) (hR : 2 ≤ R.frames ∧ 47 ≤ R.locals) (n : Nat) (st : MS) (x : (Int32 × Int32)) (z : Int32) (hz : f_wayMay_L5l n st x = some z) (hE : (fun (z : Int32) => ∀ (H : Heap) (locs : List Loc) (ls : Array Slot), m_I D A d s.heap st H locs → lv_has ls 5 [(3, .int z)] → W p l e R s m args below meth c H locs 0 0 Q (F0 m 63 ls [])) z) : (fun (x : (Int32 × Int32)) => ∀ (H : Heap) (locs : List Loc) (ls : Array Slot), m_I D A d s.heap st H locs → lv_has ls 5 [(0, .ref d.1), (3, .int x.1), (4, .int x.2)] → W p l e R s m args below meth c H locs 0 0 Q (F0 m 5 ls [])) x := by
  refine m_lpW (G := fun (x : (Int32 × Int32)) => ∀ (H : Heap) (locs : List Loc) (ls : Array Slot), m_I D A d s.heap st H locs → lv_has ls 5 [(0, .ref d.1), (3, .int x.1), (4, .int x.2)] → W p l e R s m args below meth c H locs 0 0 Q (F0 m 5 ls [])) (E := fun (z : Int32) => ∀ (H : Heap) (locs : List Loc) (ls : Array Slot), m_I D A d s.heap st H locs → lv_has ls 5 [(3, .int z)] → W p l e R s m args below meth c H locs 0 0 Q (F0 m 63 ls [])) ?_ n x z hz hE
  rintro ⟨v3, v4⟩ r h hr H locs ls I hl
  replace h : f_wayMay_L5 n st v3 v4 = some r := h
  have k50 : ∀ (v4 : Int32) (t0 : Int32) (H : Heap) (locs : List Loc) (ls : Array Slot), f_wayMay_J50 n st v4 t0 = some r → m_I D A d s.heap st H locs → lv_has ls 5 [(0, .ref d.1), (4, .int v4)] → W p l e R s m args below meth c H locs 0 0 Q (F0 m 50 ls [.int t0]) := by
    intro v4 t0 H locs ls h I hl
    unfold f_wayMay_J50 at h
    refine lv_istore_n (lv' := [(3, .int t0), (0, .ref d.1), (4, .int v4)]) X.1 X.2.1 dX3_wayMay_50 rfl hl (by decide) rfl (fun ls hl => ?_)
    refine lv_aload_n X.1 X.2.1 dX3_wayMay_51 rfl (lv_at hl 1 rfl) ?_
    refine m_get X I 28 (by decide) rfl rfl rfl q1545 (v := .ref (d.2.1 28)) rfl dX3_wayMay_52 ?_
    refine lv_iload X.1 X.2.1 dX3_wayMay_55 (lv_at hl 2 rfl) ?_
    obtain ⟨g7, h⟩ := m_gS h
    refine m_iald X I 17 (n := 16) (f := st.2.1 28) rfl g7 dX3_wayMay_57 ?_
    refine lv_istore (lv' := [(4, .int (st.2.1 28 (v4 : Int32).toNatClampNeg)), (3, .int t0), (0, .ref d.1)]) X.1 X.2.1 dX3_wayMay_58 hl (by decide) rfl (fun ls hl => ?_)
    refine lv_goto (tgt := 5) X.1 X.2.1 dX3_wayMay_60 (by decide) ?_
    cases h
    exact hr H locs ls I (lv_sub hl [2, 1, 0] rfl)
  unfold f_wayMay_L5 at h
  refine lv_aload_n X.1 X.2.1 dX3_wayMay_5 rfl (lv_at hl 0 rfl) ?_
  refine m_get X I 28 (by decide) rfl rfl rfl q1545 (v := .ref (d.2.1 28)) rfl dX3_wayMay_6 ?_
  refine lv_iload X.1 X.2.1 dX3_wayMay_9 (lv_at hl 2 rfl) ?_
  obtain ⟨g1, h⟩ := m_gS h
  refine m_iald X I 17 (n := 16) (f := st.2.1 28) rfl g1 dX3_wayMay_11 ?_
  refine lv_iconst (v := (-1)) X.1 X.2.1 dX3_wayMay_12 (by decide) ?_
  refine lv_icmp_eq (tgt := 63) X.1 X.2.1 dX3_wayMay_13 (by decide) (fun c2 => ?_) (fun c2 => ?_)
  · replace h := m_ifT c2 h
    cases h
    exact hr H locs ls I (lv_sub hl [1] rfl)
  · replace h := m_ifF c2 h
    refine lv_aload_n X.1 X.2.1 dX3_wayMay_16 rfl (lv_at hl 0 rfl) ?_
    refine lv_aload_n X.1 X.2.1 dX3_wayMay_17 rfl (lv_at hl 0 rfl) ?_
    refine m_get X I 28 (by decide) rfl rfl rfl q1545 (v := .ref (d.2.1 28)) rfl dX3_wayMay_18 ?_
    refine lv_iload X.1 X.2.1 dX3_wayMay_21 (lv_at hl 2 rfl) ?_
    obtain ⟨g3, h⟩ := m_gS h
    refine m_iald X I 17 (n := 16) (f := st.2.1 28) rfl g3 dX3_wayMay_23 ?_
    refine lv_iload X.1 X.2.1 dX3_wayMay_24 (lv_at hl 2 rfl) ?_
    obtain ⟨r5, e4, h⟩ := m_bS h
    refine m_callI X hl.1 I hA (As := [.int (st.2.1 28 (v4 : Int32).toNatClampNeg), .int v4]) (rest := []) (c_stepMay l n D d st (st.2.1 28 (v4 : Int32).toNatClampNeg) v4 _ e4) 2 q1900 q1902 qs85 q107 q1903 (hd_stepMay) rfl rfl ⟨Nat.le_trans (Nat.le_of_ble_eq_true rfl) hR.1, Nat.le_trans (Nat.le_of_ble_eq_true rfl) hR.2⟩ ⟨rfl, rfl⟩ ⟨Nat.zero_le _, Nat.zero_le _⟩ (Nat.le_of_ble_eq_true rfl) dX3_wayMay_26 (fun H locs I => ?_)
    refine lv_iload_n X.1 X.2.1 dX3_wayMay_29 rfl (lv_at hl 1 rfl) ?_
    refine lv_icmp_ge (tgt := 49) X.1 X.2.1 dX3_wayMay_30 (by decide) (fun c6 => ?_) (fun c6 => ?_)
    · replace h := m_ifT c6 h
      refine lv_iload_n X.1 X.2.1 dX3_wayMay_49 rfl (lv_at hl 1 rfl) ?_
      exact k50 v4 v3 H locs ls h I (lv_sub hl [0, 2] rfl)
    · replace h := m_ifF c6 h
      refine lv_aload_n X.1 X.2.1 dX3_wayMay_33 rfl (lv_at hl 0 rfl) ?_
      refine lv_aload_n X.1 X.2.1 dX3_wayMay_34 rfl (lv_at hl 0 rfl) ?_
      refine m_get X I 28 (by decide) rfl rfl rfl q1545 (v := .ref (d.2.1 28)) rfl dX3_wayMay_35 ?_
      refine lv_iload X.1 X.2.1 dX3_wayMay_38 (lv_at hl 2 rfl) ?_
      obtain ⟨g8, h⟩ := m_gS h
      refine m_iald X I 17 (n := 16) (f := st.2.1 28) rfl g8 dX3_wayMay_40 ?_
      refine lv_iload X.1 X.2.1 dX3_wayMay_41 (lv_at hl 2 rfl) ?_
      obtain ⟨r10, e9, h⟩ := m_bS h
      refine m_callI X hl.1 I hA (As := [.int (st.2.1 28 (v4 : Int32).toNatClampNeg), .int v4]) (rest := []) (c_stepMay l n D d st (st.2.1 28 (v4 : Int32).toNatClampNeg) v4 _ e9) 2 q1900 q1902 qs85 q107 q1903 (hd_stepMay) rfl rfl ⟨Nat.le_trans (Nat.le_of_ble_eq_true rfl) hR.1, Nat.le_trans (Nat.le_of_ble_eq_true rfl) hR.2⟩ ⟨rfl, rfl⟩ ⟨Nat.zero_le _, Nat.zero_le _⟩ (Nat.le_of_ble_eq_true rfl) dX3_wayMay_43 (fun H locs I => ?_)
      refine lv_goto (tgt := 50) X.1 X.2.1 dX3_wayMay_46 (by decide) ?_
      exact k50 v4 r10 H locs ls h I (lv_sub hl [0, 2] rfl)
theorem w_wayMay (X : m_X D A d p s m c cX3_wayMay 5 args) (hA : ∀ q, s.heap.size ≤ q → A q) (hR : 2 ≤ R.frames ∧ 47 ≤ R.locals) (n : Nat) (st : MS) (p0 : Int32) (p1 : Int32) (r : Int32) (h : f_wayMay n st p0 p1 = some r) (hret : ∀ (H : Heap) (locs : List Loc) (ls : Array Slot) (pc : Nat), decode cX3_wayMay pc = .ok (.ireturn, 1) → m_I D A d s.heap st H locs → W p l e R s m args below meth c H locs 0 0 Q (F0 m pc ls [.int r])) : ∀ (H : Heap) (locs : List Loc) (ls : Array Slot), m_I D A d s.heap st H locs → lv_has ls 5 [(0, .ref d.1), (1, .int p0), (2, .int p1)] → W p l e R s m args below meth c H locs 0 0 Q (F0 m 0 ls []) := by
  intro H locs ls I hl
  unfold f_wayMay at h
  refine lv_iload_n X.1 X.2.1 dX3_wayMay_0 rfl (lv_at hl 2 rfl) ?_
  refine lv_istore_n (lv' := [(3, .int p1), (0, .ref d.1), (1, .int p0), (2, .int p1)]) X.1 X.2.1 dX3_wayMay_1 rfl hl (by decide) rfl (fun ls hl => ?_)
  refine lv_iload_n X.1 X.2.1 dX3_wayMay_2 rfl (lv_at hl 2 rfl) ?_
  refine lv_istore (lv' := [(4, .int p0), (3, .int p1), (0, .ref d.1), (1, .int p0), (2, .int p1)]) X.1 X.2.1 dX3_wayMay_3 hl (by decide) rfl (fun ls hl => ?_)
  obtain ⟨z12, e11, h⟩ := m_bS h
  refine wf_wayMay_L5 X hA hR n st _ _ e11 (fun H locs ls I hl => ?_) H locs ls I (lv_sub hl [2, 1, 0] rfl)
  refine lv_iload_n X.1 X.2.1 dX3_wayMay_63 rfl (lv_at hl 0 rfl) ?_
  obtain rfl := m_e1 h
  exact hret H locs ls 64 dX3_wayMay_64 I
end S_wayMay
theorem c_wayMay (l : Launch) (n : Nat) (D : va_G) (d : MD) (st : MS) (p0 : Int32) (p1 : Int32) (r : Int32) (h : f_wayMay n st p0 p1 = some r) : m_Mi l yX3_wayMay cX3_wayMay 5 (some .int) ({ frames := 2, cells := 0, slots := 0, locals := 47 } : Room) D d st [.ref d.1, .int p0, .int p1] r st :=
  m_startI (lvl := [(0, .ref d.1), (1, .int p0), (2, .int p1)]) (by decide) rfl (Nat.le_of_ble_eq_true rfl) rfl (fun p e s m args below meth c ls X hr hlk hl hA I => w_wayMay X hA ⟨Nat.le_refl _, Nat.le_refl _⟩ n st p0 p1 r h (fun H locs ls pc hd I => m_iret X I hr hlk hd) _ _ ls I hl)

/-! method sends(II)V -/
def f_sends_J111 (n : Nat) (st : MS) (v2 : Int32) (v3 : Int32) : Option ((Int32 × MS) ⊕ MS) :=
  m_g (m_in v3 16) (some (.inl ((st.2.1 28 (v3 : Int32).toNatClampNeg, st))))
def f_sends_L2 (n : Nat) (v2 : Int32) (v3 : Int32) (st : MS) : Option ((Int32 × MS) ⊕ MS) :=
  m_g (m_in v3 16) (m_if ((st.2.1 28 (v3 : Int32).toNatClampNeg : Int32) = ((-1) : Int32)) (some (.inr st)) (m_g (m_in v3 16) (m_if ((v3 : Int32) = ((st.2.1 28 (v3 : Int32).toNatClampNeg) + 8 : Int32)) (m_g (m_in (st.2.1 28 (v3 : Int32).toNatClampNeg) 8) (m_g (m_in (st.2.1 28 (v3 : Int32).toNatClampNeg) 8) (f_sends_J111 n (m_sa st 24 (st.2.1 28 (v3 : Int32).toNatClampNeg : Int32).toNatClampNeg ((st.2.1 24 (st.2.1 28 (v3 : Int32).toNatClampNeg : Int32).toNatClampNeg) - v2)) v2 v3))) (m_if ((st.2.1 28 (v3 : Int32).toNatClampNeg : Int32) = (v3 + 8 : Int32)) (m_g (m_in v3 8) (m_g (m_in v3 8) (f_sends_J111 n (m_sa st 24 (v3 : Int32).toNatClampNeg ((st.2.1 24 (v3 : Int32).toNatClampNeg) + v2)) v2 v3))) (m_if ((8 : Int32) ≤ (st.2.1 28 (v3 : Int32).toNatClampNeg : Int32)) (m_b (f_couple n v3 ((st.2.1 28 (v3 : Int32).toNatClampNeg) - 8)) (fun r8 => m_g (m_in r8 64) (m_g (m_in r8 64) (f_sends_J111 n (m_sa st 22 (r8 : Int32).toNatClampNeg ((st.2.1 22 (r8 : Int32).toNatClampNeg) - v2)) v2 v3)))) (m_b (f_couple n (st.2.1 28 (v3 : Int32).toNatClampNeg) (v3 - 8)) (fun r13 => m_g (m_in r13 64) (m_g (m_in r13 64) (f_sends_J111 n (m_sa st 22 (r13 : Int32).toNatClampNeg ((st.2.1 22 (r13 : Int32).toNatClampNeg) + v2)) v2 v3)))))))))
def f_sends_L2l (n : Nat) (v2 : Int32) (x : (Int32 × MS)) : Option MS := m_lp (fun (x : (Int32 × MS)) => f_sends_L2 n v2 x.1 x.2) n x
def f_sends (n : Nat) (st : MS) (p0 : Int32) (p1 : Int32) : Option (MS) :=
  m_b (f_sends_L2l n p1 ((p0, st))) (fun s21 => some s21)
theorem hd_sends : yX3_sends.cls = RX3 ∧ yX3_sends.cls ≠ "java/lang/invoke/MethodHandle" ∧ yX3_sends.cls ≠ "java/lang/invoke/VarHandle" ∧ (parseMethodDescriptor yX3_sends.desc).map (fun d => d.parameters.length) = some 2 := by decide +kernel
section S_sends
variable {p : Program} {l : Launch} {e : Env} {R : Room} {s : State} {m : MethodId} {args : Array Value} {below : List Frame} {meth : Method} {c : Code} {Q : State → Prop} {D : va_G} {A : Nat → Prop} {d : MD}
theorem wf_sends_L2 (X : m_X D A d p s m c cX3_sends 5 args) (hA : ∀ q, s.heap.size ≤ q → A q) (hR : 1 ≤ R.frames ∧ 21 ≤ R.locals) (n : Nat) (v2 : Int32) (x : (Int32 × MS)) (z : MS) (hz : f_sends_L2l n v2 x = some z) (hE : (fun (z : MS) => ∀ (H : Heap) (locs : List Loc) (ls : Array Slot), m_I D A d s.heap z H locs → lv_has ls 5 [] → W p l e R s m args below meth c H locs 0 0 Q (F0 m 121 ls [])) z) : (fun (x : (Int32 × MS)) => ∀ (H : Heap) (locs : List Loc) (ls : Array Slot), m_I D A d s.heap x.2 H locs → lv_has ls 5 [(0, .ref d.1), (2, .int v2), (3, .int x.1)] → W p l e R s m args below meth c H locs 0 0 Q (F0 m 2 ls [])) x := by
  refine m_lpW (G := fun (x : (Int32 × MS)) => ∀ (H : Heap) (locs : List Loc) (ls : Array Slot), m_I D A d s.heap x.2 H locs → lv_has ls 5 [(0, .ref d.1), (2, .int v2), (3, .int x.1)] → W p l e R s m args below meth c H locs 0 0 Q (F0 m 2 ls [])) (E := fun (z : MS) => ∀ (H : Heap) (locs : List Loc) (ls : Array Slot), m_I D A d s.heap z H locs → lv_has ls 5 [] → W p l e R s m args below meth c H locs 0 0 Q (F0 m 121 ls [])) ?_ n x z hz hE
  rintro ⟨v3, st⟩ r h hr H locs ls I hl
  replace h : f_sends_L2 n v2 v3 st = some r := h
  have k111 : ∀ (st : MS) (v3 : Int32) (H : Heap) (locs : List Loc) (ls : Array Slot), f_sends_J111 n st v2 v3 = some r → m_I D A d s.heap st H locs → lv_has ls 5 [(0, .ref d.1), (2, .int v2), (3, .int v3)] → W p l e R s m args below meth c H locs 0 0 Q (F0 m 111 ls []) := by
    intro st v3 H locs ls h I hl
    unfold f_sends_J111 at h
    refine lv_aload_n X.1 X.2.1 dX3_sends_111 rfl (lv_at hl 0 rfl) ?_
    refine m_get X I 28 (by decide) rfl rfl rfl q1545 (v := .ref (d.2.1 28)) rfl dX3_sends_112 ?_
    refine lv_iload_n X.1 X.2.1 dX3_sends_115 rfl (lv_at hl 2 rfl) ?_
    obtain ⟨g11, h⟩ := m_gS h
    refine m_iald X I 17 (n := 16) (f := st.2.1 28) rfl g11 dX3_sends_116 ?_
    refine lv_istore_n (lv' := [(3, .int (st.2.1 28 (v3 : Int32).toNatClampNeg)), (0, .ref d.1), (2, .int v2)]) X.1 X.2.1 dX3_sends_117 rfl hl (by decide) rfl (fun ls hl => ?_)
    refine lv_goto (tgt := 2) X.1 X.2.1 dX3_sends_118 (by decide) ?_
    cases h
    exact hr H locs ls I (lv_sub hl [1, 2, 0] rfl)
  unfold f_sends_L2 at h
  refine lv_aload_n X.1 X.2.1 dX3_sends_2 rfl (lv_at hl 0 rfl) ?_
  refine m_get X I 28 (by decide) rfl rfl rfl q1545 (v := .ref (d.2.1 28)) rfl dX3_sends_3 ?_
  refine lv_iload_n X.1 X.2.1 dX3_sends_6 rfl (lv_at hl 2 rfl) ?_
  obtain ⟨g1, h⟩ := m_gS h
  refine m_iald X I 17 (n := 16) (f := st.2.1 28) rfl g1 dX3_sends_7 ?_
  refine lv_iconst (v := (-1)) X.1 X.2.1 dX3_sends_8 (by decide) ?_
  refine lv_icmp_eq (tgt := 121) X.1 X.2.1 dX3_sends_9 (by decide) (fun c2 => ?_) (fun c2 => ?_)
  · replace h := m_ifT c2 h
    cases h
    exact hr H locs ls I (lv_sub hl [] rfl)
  · replace h := m_ifF c2 h
    refine lv_aload_n X.1 X.2.1 dX3_sends_12 rfl (lv_at hl 0 rfl) ?_
    refine m_get X I 28 (by decide) rfl rfl rfl q1545 (v := .ref (d.2.1 28)) rfl dX3_sends_13 ?_
    refine lv_iload_n X.1 X.2.1 dX3_sends_16 rfl (lv_at hl 2 rfl) ?_
    obtain ⟨g3, h⟩ := m_gS h
    refine m_iald X I 17 (n := 16) (f := st.2.1 28) rfl g3 dX3_sends_17 ?_
    refine lv_istore (lv' := [(4, .int (st.2.1 28 (v3 : Int32).toNatClampNeg)), (0, .ref d.1), (2, .int v2), (3, .int v3)]) X.1 X.2.1 dX3_sends_18 hl (by decide) rfl (fun ls hl => ?_)
    refine lv_iload_n X.1 X.2.1 dX3_sends_20 rfl (lv_at hl 3 rfl) ?_
    refine lv_iload X.1 X.2.1 dX3_sends_21 (lv_at hl 0 rfl) ?_
    refine lv_bipush (v := 8) X.1 X.2.1 dX3_sends_23 (by decide) ?_
    refine lv_iadd X.1 X.2.1 dX3_sends_25 ?_
    refine lv_icmp_ne (tgt := 43) X.1 X.2.1 dX3_sends_26 (by decide) (fun c4 => ?_) (fun c4 => ?_)
    · replace h := m_ifF c4 h
      refine lv_iload X.1 X.2.1 dX3_sends_43 (lv_at hl 0 rfl) ?_
      refine lv_iload_n X.1 X.2.1 dX3_sends_45 rfl (lv_at hl 3 rfl) ?_
      refine lv_bipush (v := 8) X.1 X.2.1 dX3_sends_46 (by decide) ?_
      refine lv_iadd X.1 X.2.1 dX3_sends_48 ?_
      refine lv_icmp_ne (tgt := 65) X.1 X.2.1 dX3_sends_49 (by decide) (fun c5 => ?_) (fun c5 => ?_)
      · replace h := m_ifF c5 h
        refine lv_iload X.1 X.2.1 dX3_sends_65 (lv_at hl 0 rfl) ?_
        refine lv_bipush (v := 8) X.1 X.2.1 dX3_sends_67 (by decide) ?_
        refine lv_icmp_ge (tgt := 93) X.1 X.2.1 dX3_sends_69 (by decide) (fun c6 => ?_) (fun c6 => ?_)
        · replace h := m_ifT c6 h
          refine lv_aload_n X.1 X.2.1 dX3_sends_93 rfl (lv_at hl 1 rfl) ?_
          refine m_get X I 22 (by decide) rfl rfl rfl q1539 (v := .ref (d.2.1 22)) rfl dX3_sends_94 ?_
          refine lv_iload_n X.1 X.2.1 dX3_sends_97 rfl (lv_at hl 3 rfl) ?_
          refine lv_iload X.1 X.2.1 dX3_sends_98 (lv_at hl 0 rfl) ?_
          refine lv_bipush (v := 8) X.1 X.2.1 dX3_sends_100 (by decide) ?_
          refine lv_isub X.1 X.2.1 dX3_sends_102 ?_
          obtain ⟨r8, e7, h⟩ := m_bS h
          refine m_callS X hl.1 (As := [.int v3, .int ((st.2.1 28 (v3 : Int32).toNatClampNeg) - 8)]) (rest := [.ref (d.2.1 22)]) (c_couple l n v3 ((st.2.1 28 (v3 : Int32).toNatClampNeg) - 8) _ e7) 2 q1784 q1785 q107 q1786 (hd_couple).2 rfl rfl ⟨Nat.le_trans (Nat.le_of_ble_eq_true rfl) hR.1, Nat.le_trans (Nat.le_of_ble_eq_true rfl) hR.2⟩ ⟨rfl, rfl⟩ ⟨Nat.zero_le _, Nat.zero_le _⟩ (Nat.le_of_ble_eq_true rfl) dX3_sends_103 ?_
          refine lv_dup2_11 X.1 X.2.1 dX3_sends_106 rfl rfl ?_
          obtain ⟨g9, h⟩ := m_gS h
          refine m_iald X I 11 (n := 64) (f := st.2.1 22) rfl g9 dX3_sends_107 ?_
          refine lv_iload_n X.1 X.2.1 dX3_sends_108 rfl (lv_at hl 2 rfl) ?_
          refine lv_isub X.1 X.2.1 dX3_sends_109 ?_
          obtain ⟨g10, h⟩ := m_gS h
          refine m_iast X I 11 (n := 64) (f := st.2.1 22) rfl (m_st22 d _ _ _) g10 dX3_sends_110 (fun H locs I => ?_)
          exact k111 (m_sa st 22 (r8 : Int32).toNatClampNeg ((st.2.1 22 (r8 : Int32).toNatClampNeg) - v2)) v3 H locs ls h I (lv_sub hl [1, 2, 3] rfl)
        · replace h := m_ifF c6 h
          refine lv_aload_n X.1 X.2.1 dX3_sends_72 rfl (lv_at hl 1 rfl) ?_
          refine m_get X I 22 (by decide) rfl rfl rfl q1539 (v := .ref (d.2.1 22)) rfl dX3_sends_73 ?_
          refine lv_iload X.1 X.2.1 dX3_sends_76 (lv_at hl 0 rfl) ?_
          refine lv_iload_n X.1 X.2.1 dX3_sends_78 rfl (lv_at hl 3 rfl) ?_
          refine lv_bipush (v := 8) X.1 X.2.1 dX3_sends_79 (by decide) ?_
          refine lv_isub X.1 X.2.1 dX3_sends_81 ?_
          obtain ⟨r13, e12, h⟩ := m_bS h
          refine m_callS X hl.1 (As := [.int (st.2.1 28 (v3 : Int32).toNatClampNeg), .int (v3 - 8)]) (rest := [.ref (d.2.1 22)]) (c_couple l n (st.2.1 28 (v3 : Int32).toNatClampNeg) (v3 - 8) _ e12) 2 q1784 q1785 q107 q1786 (hd_couple).2 rfl rfl ⟨Nat.le_trans (Nat.le_of_ble_eq_true rfl) hR.1, Nat.le_trans (Nat.le_of_ble_eq_true rfl) hR.2⟩ ⟨rfl, rfl⟩ ⟨Nat.zero_le _, Nat.zero_le _⟩ (Nat.le_of_ble_eq_true rfl) dX3_sends_82 ?_
          refine lv_dup2_11 X.1 X.2.1 dX3_sends_85 rfl rfl ?_
          obtain ⟨g14, h⟩ := m_gS h
          refine m_iald X I 11 (n := 64) (f := st.2.1 22) rfl g14 dX3_sends_86 ?_
          refine lv_iload_n X.1 X.2.1 dX3_sends_87 rfl (lv_at hl 2 rfl) ?_
          refine lv_iadd X.1 X.2.1 dX3_sends_88 ?_
          obtain ⟨g15, h⟩ := m_gS h
          refine m_iast X I 11 (n := 64) (f := st.2.1 22) rfl (m_st22 d _ _ _) g15 dX3_sends_89 (fun H locs I => ?_)
          refine lv_goto (tgt := 111) X.1 X.2.1 dX3_sends_90 (by decide) ?_
          exact k111 (m_sa st 22 (r13 : Int32).toNatClampNeg ((st.2.1 22 (r13 : Int32).toNatClampNeg) + v2)) v3 H locs ls h I (lv_sub hl [1, 2, 3] rfl)
      · replace h := m_ifT c5 h
        refine lv_aload_n X.1 X.2.1 dX3_sends_52 rfl (lv_at hl 1 rfl) ?_
        refine m_get X I 24 (by decide) rfl rfl rfl q1541 (v := .ref (d.2.1 24)) rfl dX3_sends_53 ?_
        refine lv_iload_n X.1 X.2.1 dX3_sends_56 rfl (lv_at hl 3 rfl) ?_
        refine lv_dup2_11 X.1 X.2.1 dX3_sends_57 rfl rfl ?_
        obtain ⟨g16, h⟩ := m_gS h
        refine m_iald X I 13 (n := 8) (f := st.2.1 24) rfl g16 dX3_sends_58 ?_
        refine lv_iload_n X.1 X.2.1 dX3_sends_59 rfl (lv_at hl 2 rfl) ?_
        refine lv_iadd X.1 X.2.1 dX3_sends_60 ?_
        obtain ⟨g17, h⟩ := m_gS h
        refine m_iast X I 13 (n := 8) (f := st.2.1 24) rfl (m_st24 d _ _ _) g17 dX3_sends_61 (fun H locs I => ?_)
        refine lv_goto (tgt := 111) X.1 X.2.1 dX3_sends_62 (by decide) ?_
        exact k111 (m_sa st 24 (v3 : Int32).toNatClampNeg ((st.2.1 24 (v3 : Int32).toNatClampNeg) + v2)) v3 H locs ls h I (lv_sub hl [1, 2, 3] rfl)
    · replace h := m_ifT c4 h
      refine lv_aload_n X.1 X.2.1 dX3_sends_29 rfl (lv_at hl 1 rfl) ?_
      refine m_get X I 24 (by decide) rfl rfl rfl q1541 (v := .ref (d.2.1 24)) rfl dX3_sends_30 ?_
      refine lv_iload X.1 X.2.1 dX3_sends_33 (lv_at hl 0 rfl) ?_
      refine lv_dup2_11 X.1 X.2.1 dX3_sends_35 rfl rfl ?_
      obtain ⟨g18, h⟩ := m_gS h
      refine m_iald X I 13 (n := 8) (f := st.2.1 24) rfl g18 dX3_sends_36 ?_
      refine lv_iload_n X.1 X.2.1 dX3_sends_37 rfl (lv_at hl 2 rfl) ?_
      refine lv_isub X.1 X.2.1 dX3_sends_38 ?_
      obtain ⟨g19, h⟩ := m_gS h
      refine m_iast X I 13 (n := 8) (f := st.2.1 24) rfl (m_st24 d _ _ _) g19 dX3_sends_39 (fun H locs I => ?_)
      refine lv_goto (tgt := 111) X.1 X.2.1 dX3_sends_40 (by decide) ?_
      exact k111 (m_sa st 24 (st.2.1 28 (v3 : Int32).toNatClampNeg : Int32).toNatClampNeg ((st.2.1 24 (st.2.1 28 (v3 : Int32).toNatClampNeg : Int32).toNatClampNeg) - v2)) v3 H locs ls h I (lv_sub hl [1, 2, 3] rfl)
theorem w_sends (X : m_X D A d p s m c cX3_sends 5 args) (hA : ∀ q, s.heap.size ≤ q → A q) (hR : 1 ≤ R.frames ∧ 21 ≤ R.locals) (n : Nat) (st : MS) (p0 : Int32) (p1 : Int32) (r : MS) (h : f_sends n st p0 p1 = some r) (hret : ∀ (H : Heap) (locs : List Loc) (ls : Array Slot) (pc : Nat), decode cX3_sends pc = .ok (.return_, 1) → m_I D A d s.heap r H locs → W p l e R s m args below meth c H locs 0 0 Q (F0 m pc ls [])) : ∀ (H : Heap) (locs : List Loc) (ls : Array Slot), m_I D A d s.heap st H locs → lv_has ls 5 [(0, .ref d.1), (1, .int p0), (2, .int p1)] → W p l e R s m args below meth c H locs 0 0 Q (F0 m 0 ls []) := by
  intro H locs ls I hl
  unfold f_sends at h
  refine lv_iload_n X.1 X.2.1 dX3_sends_0 rfl (lv_at hl 1 rfl) ?_
  refine lv_istore_n (lv' := [(3, .int p0), (0, .ref d.1), (1, .int p0), (2, .int p1)]) X.1 X.2.1 dX3_sends_1 rfl hl (by decide) rfl (fun ls hl => ?_)
  obtain ⟨s21, e20, h⟩ := m_bS h
  refine wf_sends_L2 X hA hR n p1 _ _ e20 (fun H locs ls I hl => ?_) H locs ls I (lv_sub hl [1, 3, 0] rfl)
  obtain rfl := m_e1 h
  exact hret H locs ls 121 dX3_sends_121 I
end S_sends
theorem c_sends (l : Launch) (n : Nat) (D : va_G) (d : MD) (st : MS) (p0 : Int32) (p1 : Int32) (st' : MS) (h : f_sends n st p0 p1 = some st') : m_Mv l yX3_sends cX3_sends 5 none ({ frames := 1, cells := 0, slots := 0, locals := 21 } : Room) D d st [.ref d.1, .int p0, .int p1] st' :=
  m_startV (lvl := [(0, .ref d.1), (1, .int p0), (2, .int p1)]) (by decide) rfl (Nat.le_of_ble_eq_true rfl) rfl (fun p e s m args below meth c ls X hr hlk hl hA I => w_sends X hA ⟨Nat.le_refl _, Nat.le_refl _⟩ n st p0 p1 st' h (fun H locs ls pc hd I => m_vret X I hr hlk hd) _ _ ls I hl)

/-! method sumOf()I -/
def f_sumOf_L4 (n : Nat) (st : MS) (v1 : Int32) (v2 : Int32) : Option ((Int32 × Int32) ⊕ Int32) :=
  m_if ((64 : Int32) ≤ (v2 : Int32)) (some (.inr v1)) (m_g (m_in v2 64) (some (.inl ((v1 + (st.2.1 22 (v2 : Int32).toNatClampNeg), v2 + 1)))))
def f_sumOf_L4l (n : Nat) (st : MS) (x : (Int32 × Int32)) : Option Int32 := m_lp (fun (x : (Int32 × Int32)) => f_sumOf_L4 n st x.1 x.2) n x
def f_sumOf (n : Nat) (st : MS) : Option (Int32) :=
  m_b (f_sumOf_L4l n st ((0, 0))) (fun z4 => some z4)
theorem hd_sumOf : yX3_sumOf.cls = RX3 ∧ yX3_sumOf.cls ≠ "java/lang/invoke/MethodHandle" ∧ yX3_sumOf.cls ≠ "java/lang/invoke/VarHandle" ∧ (parseMethodDescriptor yX3_sumOf.desc).map (fun d => d.parameters.length) = some 0 := by decide +kernel
section S_sumOf
variable {p : Program} {l : Launch} {e : Env} {R : Room} {s : State} {m : MethodId} {args : Array Value} {below : List Frame} {meth : Method} {c : Code} {Q : State → Prop} {D : va_G} {A : Nat → Prop} {d : MD}
theorem wf_sumOf_L4 (X : m_X D A d p s m c cX3_sumOf 3 args) (hA : ∀ q, s.heap.size ≤ q → A q) (hR : 0 ≤ R.frames ∧ 0 ≤ R.locals) (n : Nat) (st : MS) (x : (Int32 × Int32)) (z : Int32) (hz : f_sumOf_L4l n st x = some z) (hE : (fun (z : Int32) => ∀ (H : Heap) (locs : List Loc) (ls : Array Slot), m_I D A d s.heap st H locs → lv_has ls 3 [(1, .int z)] → W p l e R s m args below meth c H locs 0 0 Q (F0 m 25 ls [])) z) : (fun (x : (Int32 × Int32)) => ∀ (H : Heap) (locs : List Loc) (ls : Array Slot), m_I D A d s.heap st H locs → lv_has ls 3 [(0, .ref d.1), (1, .int x.1), (2, .int x.2)] → W p l e R s m args below meth c H locs 0 0 Q (F0 m 4 ls [])) x := by
  refine m_lpW (G := fun (x : (Int32 × Int32)) => ∀ (H : Heap) (locs : List Loc) (ls : Array Slot), m_I D A d s.heap st H locs → lv_has ls 3 [(0, .ref d.1), (1, .int x.1), (2, .int x.2)] → W p l e R s m args below meth c H locs 0 0 Q (F0 m 4 ls [])) (E := fun (z : Int32) => ∀ (H : Heap) (locs : List Loc) (ls : Array Slot), m_I D A d s.heap st H locs → lv_has ls 3 [(1, .int z)] → W p l e R s m args below meth c H locs 0 0 Q (F0 m 25 ls [])) ?_ n x z hz hE
  rintro ⟨v1, v2⟩ r h hr H locs ls I hl
  replace h : f_sumOf_L4 n st v1 v2 = some r := h
  unfold f_sumOf_L4 at h
  refine lv_iload_n X.1 X.2.1 dX3_sumOf_4 rfl (lv_at hl 2 rfl) ?_
  refine lv_bipush (v := 64) X.1 X.2.1 dX3_sumOf_5 (by decide) ?_
  refine lv_icmp_ge (tgt := 25) X.1 X.2.1 dX3_sumOf_7 (by decide) (fun c1 => ?_) (fun c1 => ?_)
  · replace h := m_ifT c1 h
    cases h
    exact hr H locs ls I (lv_sub hl [1] rfl)
  · replace h := m_ifF c1 h
    refine lv_iload_n X.1 X.2.1 dX3_sumOf_10 rfl (lv_at hl 1 rfl) ?_
    refine lv_aload_n X.1 X.2.1 dX3_sumOf_11 rfl (lv_at hl 0 rfl) ?_
    refine m_get X I 22 (by decide) rfl rfl rfl q1539 (v := .ref (d.2.1 22)) rfl dX3_sumOf_12 ?_
    refine lv_iload_n X.1 X.2.1 dX3_sumOf_15 rfl (lv_at hl 2 rfl) ?_
    obtain ⟨g2, h⟩ := m_gS h
    refine m_iald X I 11 (n := 64) (f := st.2.1 22) rfl g2 dX3_sumOf_16 ?_
    refine lv_iadd X.1 X.2.1 dX3_sumOf_17 ?_
    refine lv_istore_n (lv' := [(1, .int (v1 + (st.2.1 22 (v2 : Int32).toNatClampNeg))), (0, .ref d.1), (2, .int v2)]) X.1 X.2.1 dX3_sumOf_18 rfl hl (by decide) rfl (fun ls hl => ?_)
    refine lv_iinc (v := v2 + 1) (lv' := [(2, .int (v2 + 1)), (1, .int (v1 + (st.2.1 22 (v2 : Int32).toNatClampNeg))), (0, .ref d.1)]) X.1 X.2.1 dX3_sumOf_19 hl (k := 2) rfl rfl (by decide) rfl (fun ls hl => ?_)
    refine lv_goto (tgt := 4) X.1 X.2.1 dX3_sumOf_22 (by decide) ?_
    cases h
    exact hr H locs ls I (lv_sub hl [2, 1, 0] rfl)
theorem w_sumOf (X : m_X D A d p s m c cX3_sumOf 3 args) (hA : ∀ q, s.heap.size ≤ q → A q) (hR : 0 ≤ R.frames ∧ 0 ≤ R.locals) (n : Nat) (st : MS) (r : Int32) (h : f_sumOf n st = some r) (hret : ∀ (H : Heap) (locs : List Loc) (ls : Array Slot) (pc : Nat), decode cX3_sumOf pc = .ok (.ireturn, 1) → m_I D A d s.heap st H locs → W p l e R s m args below meth c H locs 0 0 Q (F0 m pc ls [.int r])) : ∀ (H : Heap) (locs : List Loc) (ls : Array Slot), m_I D A d s.heap st H locs → lv_has ls 3 [(0, .ref d.1)] → W p l e R s m args below meth c H locs 0 0 Q (F0 m 0 ls []) := by
  intro H locs ls I hl
  unfold f_sumOf at h
  refine lv_iconst (v := 0) X.1 X.2.1 dX3_sumOf_0 (by decide) ?_
  refine lv_istore_n (lv' := [(1, .int 0), (0, .ref d.1)]) X.1 X.2.1 dX3_sumOf_1 rfl hl (by decide) rfl (fun ls hl => ?_)
  refine lv_iconst (v := 0) X.1 X.2.1 dX3_sumOf_2 (by decide) ?_
  refine lv_istore_n (lv' := [(2, .int 0), (1, .int 0), (0, .ref d.1)]) X.1 X.2.1 dX3_sumOf_3 rfl hl (by decide) rfl (fun ls hl => ?_)
  obtain ⟨z4, e3, h⟩ := m_bS h
  refine wf_sumOf_L4 X hA hR n st _ _ e3 (fun H locs ls I hl => ?_) H locs ls I (lv_sub hl [2, 1, 0] rfl)
  refine lv_iload_n X.1 X.2.1 dX3_sumOf_25 rfl (lv_at hl 0 rfl) ?_
  obtain rfl := m_e1 h
  exact hret H locs ls 26 dX3_sumOf_26 I
end S_sumOf
theorem c_sumOf (l : Launch) (n : Nat) (D : va_G) (d : MD) (st : MS) (r : Int32) (h : f_sumOf n st = some r) : m_Mi l yX3_sumOf cX3_sumOf 3 (some .int) ({ frames := 0, cells := 0, slots := 0, locals := 0 } : Room) D d st [.ref d.1] r st :=
  m_startI (lvl := [(0, .ref d.1)]) (by decide) rfl (Nat.le_of_ble_eq_true rfl) rfl (fun p e s m args below meth c ls X hr hlk hl hA I => w_sumOf X hA ⟨Nat.le_refl _, Nat.le_refl _⟩ n st r h (fun H locs ls pc hd I => m_iret X I hr hlk hd) _ _ ls I hl)

/-! method couplesNow()I -/
def f_couplesNow_J25 (n : Nat) (st : MS) (v2 : Int32) (t0 : Int32) (t1 : Int32) : Option ((Int32 × Int32) ⊕ Int32) :=
  some (.inl ((t1 + t0, v2 + 1)))
def f_couplesNow_L4 (n : Nat) (st : MS) (v1 : Int32) (v2 : Int32) : Option ((Int32 × Int32) ⊕ Int32) :=
  m_if ((64 : Int32) ≤ (v2 : Int32)) (some (.inr v1)) (m_g (m_in v2 64) (m_if ((st.2.1 22 (v2 : Int32).toNatClampNeg : Int32) ≤ 0) (f_couplesNow_J25 n st v2 0 v1) (f_couplesNow_J25 n st v2 1 v1)))
def f_couplesNow_L4l (n : Nat) (st : MS) (x : (Int32 × Int32)) : Option Int32 := m_lp (fun (x : (Int32 × Int32)) => f_couplesNow_L4 n st x.1 x.2) n x
def f_couplesNow (n : Nat) (st : MS) : Option (Int32) :=
  m_b (f_couplesNow_L4l n st ((0, 0))) (fun z5 => some z5)
theorem hd_couplesNow : yX3_couplesNow.cls = RX3 ∧ yX3_couplesNow.cls ≠ "java/lang/invoke/MethodHandle" ∧ yX3_couplesNow.cls ≠ "java/lang/invoke/VarHandle" ∧ (parseMethodDescriptor yX3_couplesNow.desc).map (fun d => d.parameters.length) = some 0 := by decide +kernel
section S_couplesNow
variable {p : Program} {l : Launch} {e : Env} {R : Room} {s : State} {m : MethodId} {args : Array Value} {below : List Frame} {meth : Method} {c : Code} {Q : State → Prop} {D : va_G} {A : Nat → Prop} {d : MD}
theorem wf_couplesNow_L4 (X : m_X D A d p s m c cX3_couplesNow 3 args) (hA : ∀ q, s.heap.size ≤ q → A q) (hR : 0 ≤ R.frames ∧ 0 ≤ R.locals) (n : Nat) (st : MS) (x : (Int32 × Int32)) (z : Int32) (hz : f_couplesNow_L4l n st x = some z) (hE : (fun (z : Int32) => ∀ (H : Heap) (locs : List Loc) (ls : Array Slot), m_I D A d s.heap st H locs → lv_has ls 3 [(1, .int z)] → W p l e R s m args below meth c H locs 0 0 Q (F0 m 33 ls [])) z) : (fun (x : (Int32 × Int32)) => ∀ (H : Heap) (locs : List Loc) (ls : Array Slot), m_I D A d s.heap st H locs → lv_has ls 3 [(0, .ref d.1), (1, .int x.1), (2, .int x.2)] → W p l e R s m args below meth c H locs 0 0 Q (F0 m 4 ls [])) x := by
  refine m_lpW (G := fun (x : (Int32 × Int32)) => ∀ (H : Heap) (locs : List Loc) (ls : Array Slot), m_I D A d s.heap st H locs → lv_has ls 3 [(0, .ref d.1), (1, .int x.1), (2, .int x.2)] → W p l e R s m args below meth c H locs 0 0 Q (F0 m 4 ls [])) (E := fun (z : Int32) => ∀ (H : Heap) (locs : List Loc) (ls : Array Slot), m_I D A d s.heap st H locs → lv_has ls 3 [(1, .int z)] → W p l e R s m args below meth c H locs 0 0 Q (F0 m 33 ls [])) ?_ n x z hz hE
  rintro ⟨v1, v2⟩ r h hr H locs ls I hl
  replace h : f_couplesNow_L4 n st v1 v2 = some r := h
  have k25 : ∀ (v2 : Int32) (t0 : Int32) (t1 : Int32) (H : Heap) (locs : List Loc) (ls : Array Slot), f_couplesNow_J25 n st v2 t0 t1 = some r → m_I D A d s.heap st H locs → lv_has ls 3 [(0, .ref d.1), (2, .int v2)] → W p l e R s m args below meth c H locs 0 0 Q (F0 m 25 ls [.int t0, .int t1]) := by
    intro v2 t0 t1 H locs ls h I hl
    unfold f_couplesNow_J25 at h
    refine lv_iadd X.1 X.2.1 dX3_couplesNow_25 ?_
    refine lv_istore_n (lv' := [(1, .int (t1 + t0)), (0, .ref d.1), (2, .int v2)]) X.1 X.2.1 dX3_couplesNow_26 rfl hl (by decide) rfl (fun ls hl => ?_)
    refine lv_iinc (v := v2 + 1) (lv' := [(2, .int (v2 + 1)), (1, .int (t1 + t0)), (0, .ref d.1)]) X.1 X.2.1 dX3_couplesNow_27 hl (k := 2) rfl rfl (by decide) rfl (fun ls hl => ?_)
    refine lv_goto (tgt := 4) X.1 X.2.1 dX3_couplesNow_30 (by decide) ?_
    cases h
    exact hr H locs ls I (lv_sub hl [2, 1, 0] rfl)
  unfold f_couplesNow_L4 at h
  refine lv_iload_n X.1 X.2.1 dX3_couplesNow_4 rfl (lv_at hl 2 rfl) ?_
  refine lv_bipush (v := 64) X.1 X.2.1 dX3_couplesNow_5 (by decide) ?_
  refine lv_icmp_ge (tgt := 33) X.1 X.2.1 dX3_couplesNow_7 (by decide) (fun c1 => ?_) (fun c1 => ?_)
  · replace h := m_ifT c1 h
    cases h
    exact hr H locs ls I (lv_sub hl [1] rfl)
  · replace h := m_ifF c1 h
    refine lv_iload_n X.1 X.2.1 dX3_couplesNow_10 rfl (lv_at hl 1 rfl) ?_
    refine lv_aload_n X.1 X.2.1 dX3_couplesNow_11 rfl (lv_at hl 0 rfl) ?_
    refine m_get X I 22 (by decide) rfl rfl rfl q1539 (v := .ref (d.2.1 22)) rfl dX3_couplesNow_12 ?_
    refine lv_iload_n X.1 X.2.1 dX3_couplesNow_15 rfl (lv_at hl 2 rfl) ?_
    obtain ⟨g2, h⟩ := m_gS h
    refine m_iald X I 11 (n := 64) (f := st.2.1 22) rfl g2 dX3_couplesNow_16 ?_
    refine lv_if_le (tgt := 24) X.1 X.2.1 dX3_couplesNow_17 (by decide) (fun c3 => ?_) (fun c3 => ?_)
    · replace h := m_ifT c3 h
      refine lv_iconst (v := 0) X.1 X.2.1 dX3_couplesNow_24 (by decide) ?_
      exact k25 v2 0 v1 H locs ls h I (lv_sub hl [0, 2] rfl)
    · replace h := m_ifF c3 h
      refine lv_iconst (v := 1) X.1 X.2.1 dX3_couplesNow_20 (by decide) ?_
      refine lv_goto (tgt := 25) X.1 X.2.1 dX3_couplesNow_21 (by decide) ?_
      exact k25 v2 1 v1 H locs ls h I (lv_sub hl [0, 2] rfl)
theorem w_couplesNow (X : m_X D A d p s m c cX3_couplesNow 3 args) (hA : ∀ q, s.heap.size ≤ q → A q) (hR : 0 ≤ R.frames ∧ 0 ≤ R.locals) (n : Nat) (st : MS) (r : Int32) (h : f_couplesNow n st = some r) (hret : ∀ (H : Heap) (locs : List Loc) (ls : Array Slot) (pc : Nat), decode cX3_couplesNow pc = .ok (.ireturn, 1) → m_I D A d s.heap st H locs → W p l e R s m args below meth c H locs 0 0 Q (F0 m pc ls [.int r])) : ∀ (H : Heap) (locs : List Loc) (ls : Array Slot), m_I D A d s.heap st H locs → lv_has ls 3 [(0, .ref d.1)] → W p l e R s m args below meth c H locs 0 0 Q (F0 m 0 ls []) := by
  intro H locs ls I hl
  unfold f_couplesNow at h
  refine lv_iconst (v := 0) X.1 X.2.1 dX3_couplesNow_0 (by decide) ?_
  refine lv_istore_n (lv' := [(1, .int 0), (0, .ref d.1)]) X.1 X.2.1 dX3_couplesNow_1 rfl hl (by decide) rfl (fun ls hl => ?_)
  refine lv_iconst (v := 0) X.1 X.2.1 dX3_couplesNow_2 (by decide) ?_
  refine lv_istore_n (lv' := [(2, .int 0), (1, .int 0), (0, .ref d.1)]) X.1 X.2.1 dX3_couplesNow_3 rfl hl (by decide) rfl (fun ls hl => ?_)
  obtain ⟨z5, e4, h⟩ := m_bS h
  refine wf_couplesNow_L4 X hA hR n st _ _ e4 (fun H locs ls I hl => ?_) H locs ls I (lv_sub hl [2, 1, 0] rfl)
  refine lv_iload_n X.1 X.2.1 dX3_couplesNow_33 rfl (lv_at hl 0 rfl) ?_
  obtain rfl := m_e1 h
  exact hret H locs ls 34 dX3_couplesNow_34 I
end S_couplesNow
theorem c_couplesNow (l : Launch) (n : Nat) (D : va_G) (d : MD) (st : MS) (r : Int32) (h : f_couplesNow n st = some r) : m_Mi l yX3_couplesNow cX3_couplesNow 3 (some .int) ({ frames := 0, cells := 0, slots := 0, locals := 0 } : Room) D d st [.ref d.1] r st :=
  m_startI (lvl := [(0, .ref d.1)]) (by decide) rfl (Nat.le_of_ble_eq_true rfl) rfl (fun p e s m args below meth c ls X hr hlk hl hA I => w_couplesNow X hA ⟨Nat.le_refl _, Nat.le_refl _⟩ n st r h (fun H locs ls pc hd I => m_iret X I hr hlk hd) _ _ ls I hl)

/-! method reliefOf(I)I -/
def f_reliefOf_L5 (n : Nat) (st : MS) (v1 : Int32) (v2 : Int32) (v3 : Int32) : Option ((Int32 × Int32) ⊕ Int32) :=
  m_if ((st.1 5 : Int32) ≤ (v3 : Int32)) (some (.inr v2)) (m_b (f_couple n v1 v3) (fun r3 => m_g (m_in r3 64) (m_b (f_couple n v3 v1) (fun r6 => m_g (m_in r6 64) (m_b (f_couple n v1 v3) (fun r9 => m_g (m_in r9 64) (m_b (f_couple n v3 v1) (fun r12 => m_g (m_in r12 64) (m_b (some (v2 + ((((st.2.1 17 (r3 : Int32).toNatClampNeg) + (st.2.1 17 (r6 : Int32).toNatClampNeg)) - (st.2.1 22 (r9 : Int32).toNatClampNeg)) - (st.2.1 22 (r12 : Int32).toNatClampNeg)))) (fun y14 => some (.inl ((y14, v3 + 1)))))))))))))
def f_reliefOf_L5l (n : Nat) (st : MS) (v1 : Int32) (x : (Int32 × Int32)) : Option Int32 := m_lp (fun (x : (Int32 × Int32)) => f_reliefOf_L5 n st v1 x.1 x.2) n x
def f_reliefOf (n : Nat) (st : MS) (p0 : Int32) : Option (Int32) :=
  m_b (f_reliefOf_L5l n st p0 ((100000000, 0))) (fun z17 => some z17)
theorem hd_reliefOf : yX3_reliefOf.cls = RX3 ∧ yX3_reliefOf.cls ≠ "java/lang/invoke/MethodHandle" ∧ yX3_reliefOf.cls ≠ "java/lang/invoke/VarHandle" ∧ (parseMethodDescriptor yX3_reliefOf.desc).map (fun d => d.parameters.length) = some 1 := by decide +kernel
section S_reliefOf
variable {p : Program} {l : Launch} {e : Env} {R : Room} {s : State} {m : MethodId} {args : Array Value} {below : List Frame} {meth : Method} {c : Code} {Q : State → Prop} {D : va_G} {A : Nat → Prop} {d : MD}
theorem wf_reliefOf_L5 (X : m_X D A d p s m c cX3_reliefOf 4 args) (hA : ∀ q, s.heap.size ≤ q → A q) (hR : 1 ≤ R.frames ∧ 21 ≤ R.locals) (n : Nat) (st : MS) (v1 : Int32) (x : (Int32 × Int32)) (z : Int32) (hz : f_reliefOf_L5l n st v1 x = some z) (hE : (fun (z : Int32) => ∀ (H : Heap) (locs : List Loc) (ls : Array Slot), m_I D A d s.heap st H locs → lv_has ls 4 [(2, .int z)] → W p l e R s m args below meth c H locs 0 0 Q (F0 m 65 ls [])) z) : (fun (x : (Int32 × Int32)) => ∀ (H : Heap) (locs : List Loc) (ls : Array Slot), m_I D A d s.heap st H locs → lv_has ls 4 [(0, .ref d.1), (1, .int v1), (2, .int x.1), (3, .int x.2)] → W p l e R s m args below meth c H locs 0 0 Q (F0 m 5 ls [])) x := by
  refine m_lpW (G := fun (x : (Int32 × Int32)) => ∀ (H : Heap) (locs : List Loc) (ls : Array Slot), m_I D A d s.heap st H locs → lv_has ls 4 [(0, .ref d.1), (1, .int v1), (2, .int x.1), (3, .int x.2)] → W p l e R s m args below meth c H locs 0 0 Q (F0 m 5 ls [])) (E := fun (z : Int32) => ∀ (H : Heap) (locs : List Loc) (ls : Array Slot), m_I D A d s.heap st H locs → lv_has ls 4 [(2, .int z)] → W p l e R s m args below meth c H locs 0 0 Q (F0 m 65 ls [])) ?_ n x z hz hE
  rintro ⟨v2, v3⟩ r h hr H locs ls I hl
  replace h : f_reliefOf_L5 n st v1 v2 v3 = some r := h
  unfold f_reliefOf_L5 at h
  refine lv_iload_n X.1 X.2.1 dX3_reliefOf_5 rfl (lv_at hl 3 rfl) ?_
  refine lv_aload_n X.1 X.2.1 dX3_reliefOf_6 rfl (lv_at hl 0 rfl) ?_
  refine m_get X I 5 (by decide) rfl rfl rfl q1522 (v := .int (st.1 5)) rfl dX3_reliefOf_7 ?_
  refine lv_icmp_ge (tgt := 65) X.1 X.2.1 dX3_reliefOf_10 (by decide) (fun c1 => ?_) (fun c1 => ?_)
  · replace h := m_ifT c1 h
    cases h
    exact hr H locs ls I (lv_sub hl [2] rfl)
  · replace h := m_ifF c1 h
    refine lv_iload_n X.1 X.2.1 dX3_reliefOf_13 rfl (lv_at hl 2 rfl) ?_
    refine lv_aload_n X.1 X.2.1 dX3_reliefOf_14 rfl (lv_at hl 0 rfl) ?_
    refine m_get X I 17 (by decide) rfl rfl rfl q1534 (v := .ref (d.2.1 17)) rfl dX3_reliefOf_15 ?_
    refine lv_iload_n X.1 X.2.1 dX3_reliefOf_18 rfl (lv_at hl 1 rfl) ?_
    refine lv_iload_n X.1 X.2.1 dX3_reliefOf_19 rfl (lv_at hl 3 rfl) ?_
    obtain ⟨r3, e2, h⟩ := m_bS h
    refine m_callS X hl.1 (As := [.int v1, .int v3]) (rest := [.ref (d.2.1 17), .int v2]) (c_couple l n v1 v3 _ e2) 2 q1784 q1785 q107 q1786 (hd_couple).2 rfl rfl ⟨Nat.le_trans (Nat.le_of_ble_eq_true rfl) hR.1, Nat.le_trans (Nat.le_of_ble_eq_true rfl) hR.2⟩ ⟨rfl, rfl⟩ ⟨Nat.zero_le _, Nat.zero_le _⟩ (Nat.le_of_ble_eq_true rfl) dX3_reliefOf_20 ?_
    obtain ⟨g4, h⟩ := m_gS h
    refine m_iald X I 7 (n := 64) (f := st.2.1 17) rfl g4 dX3_reliefOf_23 ?_
    refine lv_aload_n X.1 X.2.1 dX3_reliefOf_24 rfl (lv_at hl 0 rfl) ?_
    refine m_get X I 17 (by decide) rfl rfl rfl q1534 (v := .ref (d.2.1 17)) rfl dX3_reliefOf_25 ?_
    refine lv_iload_n X.1 X.2.1 dX3_reliefOf_28 rfl (lv_at hl 3 rfl) ?_
    refine lv_iload_n X.1 X.2.1 dX3_reliefOf_29 rfl (lv_at hl 1 rfl) ?_
    obtain ⟨r6, e5, h⟩ := m_bS h
    refine m_callS X hl.1 (As := [.int v3, .int v1]) (rest := [.ref (d.2.1 17), .int (st.2.1 17 (r3 : Int32).toNatClampNeg), .int v2]) (c_couple l n v3 v1 _ e5) 2 q1784 q1785 q107 q1786 (hd_couple).2 rfl rfl ⟨Nat.le_trans (Nat.le_of_ble_eq_true rfl) hR.1, Nat.le_trans (Nat.le_of_ble_eq_true rfl) hR.2⟩ ⟨rfl, rfl⟩ ⟨Nat.zero_le _, Nat.zero_le _⟩ (Nat.le_of_ble_eq_true rfl) dX3_reliefOf_30 ?_
    obtain ⟨g7, h⟩ := m_gS h
    refine m_iald X I 7 (n := 64) (f := st.2.1 17) rfl g7 dX3_reliefOf_33 ?_
    refine lv_iadd X.1 X.2.1 dX3_reliefOf_34 ?_
    refine lv_aload_n X.1 X.2.1 dX3_reliefOf_35 rfl (lv_at hl 0 rfl) ?_
    refine m_get X I 22 (by decide) rfl rfl rfl q1539 (v := .ref (d.2.1 22)) rfl dX3_reliefOf_36 ?_
    refine lv_iload_n X.1 X.2.1 dX3_reliefOf_39 rfl (lv_at hl 1 rfl) ?_
    refine lv_iload_n X.1 X.2.1 dX3_reliefOf_40 rfl (lv_at hl 3 rfl) ?_
    obtain ⟨r9, e8, h⟩ := m_bS h
    refine m_callS X hl.1 (As := [.int v1, .int v3]) (rest := [.ref (d.2.1 22), .int ((st.2.1 17 (r3 : Int32).toNatClampNeg) + (st.2.1 17 (r6 : Int32).toNatClampNeg)), .int v2]) (c_couple l n v1 v3 _ e8) 2 q1784 q1785 q107 q1786 (hd_couple).2 rfl rfl ⟨Nat.le_trans (Nat.le_of_ble_eq_true rfl) hR.1, Nat.le_trans (Nat.le_of_ble_eq_true rfl) hR.2⟩ ⟨rfl, rfl⟩ ⟨Nat.zero_le _, Nat.zero_le _⟩ (Nat.le_of_ble_eq_true rfl) dX3_reliefOf_41 ?_
    obtain ⟨g10, h⟩ := m_gS h
    refine m_iald X I 11 (n := 64) (f := st.2.1 22) rfl g10 dX3_reliefOf_44 ?_
    refine lv_isub X.1 X.2.1 dX3_reliefOf_45 ?_
    refine lv_aload_n X.1 X.2.1 dX3_reliefOf_46 rfl (lv_at hl 0 rfl) ?_
    refine m_get X I 22 (by decide) rfl rfl rfl q1539 (v := .ref (d.2.1 22)) rfl dX3_reliefOf_47 ?_
    refine lv_iload_n X.1 X.2.1 dX3_reliefOf_50 rfl (lv_at hl 3 rfl) ?_
    refine lv_iload_n X.1 X.2.1 dX3_reliefOf_51 rfl (lv_at hl 1 rfl) ?_
    obtain ⟨r12, e11, h⟩ := m_bS h
    refine m_callS X hl.1 (As := [.int v3, .int v1]) (rest := [.ref (d.2.1 22), .int (((st.2.1 17 (r3 : Int32).toNatClampNeg) + (st.2.1 17 (r6 : Int32).toNatClampNeg)) - (st.2.1 22 (r9 : Int32).toNatClampNeg)), .int v2]) (c_couple l n v3 v1 _ e11) 2 q1784 q1785 q107 q1786 (hd_couple).2 rfl rfl ⟨Nat.le_trans (Nat.le_of_ble_eq_true rfl) hR.1, Nat.le_trans (Nat.le_of_ble_eq_true rfl) hR.2⟩ ⟨rfl, rfl⟩ ⟨Nat.zero_le _, Nat.zero_le _⟩ (Nat.le_of_ble_eq_true rfl) dX3_reliefOf_52 ?_
    obtain ⟨g13, h⟩ := m_gS h
    refine m_iald X I 11 (n := 64) (f := st.2.1 22) rfl g13 dX3_reliefOf_55 ?_
    refine lv_isub X.1 X.2.1 dX3_reliefOf_56 ?_
    refine lv_iadd X.1 X.2.1 dX3_reliefOf_57 ?_
    obtain ⟨y14, e15, h⟩ := m_bS h
    rw [m_e1 e15]
    refine lv_istore_n (lv' := [(2, .int y14), (0, .ref d.1), (1, .int v1), (3, .int v3)]) X.1 X.2.1 dX3_reliefOf_58 rfl hl (by decide) rfl (fun ls hl => ?_)
    refine lv_iinc (v := v3 + 1) (lv' := [(3, .int (v3 + 1)), (2, .int y14), (0, .ref d.1), (1, .int v1)]) X.1 X.2.1 dX3_reliefOf_59 hl (k := 3) rfl rfl (by decide) rfl (fun ls hl => ?_)
    refine lv_goto (tgt := 5) X.1 X.2.1 dX3_reliefOf_62 (by decide) ?_
    cases h
    exact hr H locs ls I (lv_sub hl [2, 3, 1, 0] rfl)
theorem w_reliefOf (X : m_X D A d p s m c cX3_reliefOf 4 args) (hA : ∀ q, s.heap.size ≤ q → A q) (hR : 1 ≤ R.frames ∧ 21 ≤ R.locals) (n : Nat) (st : MS) (p0 : Int32) (r : Int32) (h : f_reliefOf n st p0 = some r) (hret : ∀ (H : Heap) (locs : List Loc) (ls : Array Slot) (pc : Nat), decode cX3_reliefOf pc = .ok (.ireturn, 1) → m_I D A d s.heap st H locs → W p l e R s m args below meth c H locs 0 0 Q (F0 m pc ls [.int r])) : ∀ (H : Heap) (locs : List Loc) (ls : Array Slot), m_I D A d s.heap st H locs → lv_has ls 4 [(0, .ref d.1), (1, .int p0)] → W p l e R s m args below meth c H locs 0 0 Q (F0 m 0 ls []) := by
  intro H locs ls I hl
  unfold f_reliefOf at h
  refine lv_ldc (v := 100000000) X.1 X.2.1 X.2.2.2.1 (X.2.2.1 _ q1791) dX3_reliefOf_0 ?_
  refine lv_istore_n (lv' := [(2, .int 100000000), (0, .ref d.1), (1, .int p0)]) X.1 X.2.1 dX3_reliefOf_2 rfl hl (by decide) rfl (fun ls hl => ?_)
  refine lv_iconst (v := 0) X.1 X.2.1 dX3_reliefOf_3 (by decide) ?_
  refine lv_istore_n (lv' := [(3, .int 0), (2, .int 100000000), (0, .ref d.1), (1, .int p0)]) X.1 X.2.1 dX3_reliefOf_4 rfl hl (by decide) rfl (fun ls hl => ?_)
  obtain ⟨z17, e16, h⟩ := m_bS h
  refine wf_reliefOf_L5 X hA hR n st p0 _ _ e16 (fun H locs ls I hl => ?_) H locs ls I (lv_sub hl [2, 3, 1, 0] rfl)
  refine lv_iload_n X.1 X.2.1 dX3_reliefOf_65 rfl (lv_at hl 0 rfl) ?_
  obtain rfl := m_e1 h
  exact hret H locs ls 66 dX3_reliefOf_66 I
end S_reliefOf
theorem c_reliefOf (l : Launch) (n : Nat) (D : va_G) (d : MD) (st : MS) (p0 : Int32) (r : Int32) (h : f_reliefOf n st p0 = some r) : m_Mi l yX3_reliefOf cX3_reliefOf 4 (some .int) ({ frames := 1, cells := 0, slots := 0, locals := 21 } : Room) D d st [.ref d.1, .int p0] r st :=
  m_startI (lvl := [(0, .ref d.1), (1, .int p0)]) (by decide) rfl (Nat.le_of_ble_eq_true rfl) rfl (fun p e s m args below meth c ls X hr hlk hl hA I => w_reliefOf X hA ⟨Nat.le_refl _, Nat.le_refl _⟩ n st p0 r h (fun H locs ls pc hd I => m_iret X I hr hlk hd) _ _ ls I hl)

/-! method sumBy(I)I -/
def f_sumBy_J31 (n : Nat) (st : MS) (v1 : Int32) (v3 : Int32) (t0 : Int32) (t1 : Int32) : Option ((Int32 × Int32) ⊕ Int32) :=
  some (.inl ((t1 + t0, v3 + 1)))
def f_sumBy_L4 (n : Nat) (st : MS) (v1 : Int32) (v2 : Int32) (v3 : Int32) : Option ((Int32 × Int32) ⊕ Int32) :=
  m_if ((st.1 5 : Int32) ≤ (v3 : Int32)) (some (.inr v2)) (m_if (((v1 >>> (v3 &&& 31)) &&& 1 : Int32) = (1 : Int32)) (m_b (f_netBy n st v3) (fun r4 => f_sumBy_J31 n st v1 v3 r4 v2)) (f_sumBy_J31 n st v1 v3 0 v2))
def f_sumBy_L4l (n : Nat) (st : MS) (v1 : Int32) (x : (Int32 × Int32)) : Option Int32 := m_lp (fun (x : (Int32 × Int32)) => f_sumBy_L4 n st v1 x.1 x.2) n x
def f_sumBy (n : Nat) (st : MS) (p0 : Int32) : Option (Int32) :=
  m_b (f_sumBy_L4l n st p0 ((0, 0))) (fun z6 => some z6)
theorem hd_sumBy : yX3_sumBy.cls = RX3 ∧ yX3_sumBy.cls ≠ "java/lang/invoke/MethodHandle" ∧ yX3_sumBy.cls ≠ "java/lang/invoke/VarHandle" ∧ (parseMethodDescriptor yX3_sumBy.desc).map (fun d => d.parameters.length) = some 1 := by decide +kernel
section S_sumBy
variable {p : Program} {l : Launch} {e : Env} {R : Room} {s : State} {m : MethodId} {args : Array Value} {below : List Frame} {meth : Method} {c : Code} {Q : State → Prop} {D : va_G} {A : Nat → Prop} {d : MD}
theorem wf_sumBy_L4 (X : m_X D A d p s m c cX3_sumBy 4 args) (hA : ∀ q, s.heap.size ≤ q → A q) (hR : 2 ≤ R.frames ∧ 44 ≤ R.locals) (n : Nat) (st : MS) (v1 : Int32) (x : (Int32 × Int32)) (z : Int32) (hz : f_sumBy_L4l n st v1 x = some z) (hE : (fun (z : Int32) => ∀ (H : Heap) (locs : List Loc) (ls : Array Slot), m_I D A d s.heap st H locs → lv_has ls 4 [(2, .int z)] → W p l e R s m args below meth c H locs 0 0 Q (F0 m 39 ls [])) z) : (fun (x : (Int32 × Int32)) => ∀ (H : Heap) (locs : List Loc) (ls : Array Slot), m_I D A d s.heap st H locs → lv_has ls 4 [(0, .ref d.1), (1, .int v1), (2, .int x.1), (3, .int x.2)] → W p l e R s m args below meth c H locs 0 0 Q (F0 m 4 ls [])) x := by
  refine m_lpW (G := fun (x : (Int32 × Int32)) => ∀ (H : Heap) (locs : List Loc) (ls : Array Slot), m_I D A d s.heap st H locs → lv_has ls 4 [(0, .ref d.1), (1, .int v1), (2, .int x.1), (3, .int x.2)] → W p l e R s m args below meth c H locs 0 0 Q (F0 m 4 ls [])) (E := fun (z : Int32) => ∀ (H : Heap) (locs : List Loc) (ls : Array Slot), m_I D A d s.heap st H locs → lv_has ls 4 [(2, .int z)] → W p l e R s m args below meth c H locs 0 0 Q (F0 m 39 ls [])) ?_ n x z hz hE
  rintro ⟨v2, v3⟩ r h hr H locs ls I hl
  replace h : f_sumBy_L4 n st v1 v2 v3 = some r := h
  have k31 : ∀ (v3 : Int32) (t0 : Int32) (t1 : Int32) (H : Heap) (locs : List Loc) (ls : Array Slot), f_sumBy_J31 n st v1 v3 t0 t1 = some r → m_I D A d s.heap st H locs → lv_has ls 4 [(0, .ref d.1), (1, .int v1), (3, .int v3)] → W p l e R s m args below meth c H locs 0 0 Q (F0 m 31 ls [.int t0, .int t1]) := by
    intro v3 t0 t1 H locs ls h I hl
    unfold f_sumBy_J31 at h
    refine lv_iadd X.1 X.2.1 dX3_sumBy_31 ?_
    refine lv_istore_n (lv' := [(2, .int (t1 + t0)), (0, .ref d.1), (1, .int v1), (3, .int v3)]) X.1 X.2.1 dX3_sumBy_32 rfl hl (by decide) rfl (fun ls hl => ?_)
    refine lv_iinc (v := v3 + 1) (lv' := [(3, .int (v3 + 1)), (2, .int (t1 + t0)), (0, .ref d.1), (1, .int v1)]) X.1 X.2.1 dX3_sumBy_33 hl (k := 3) rfl rfl (by decide) rfl (fun ls hl => ?_)
    refine lv_goto (tgt := 4) X.1 X.2.1 dX3_sumBy_36 (by decide) ?_
    cases h
    exact hr H locs ls I (lv_sub hl [2, 3, 1, 0] rfl)
  unfold f_sumBy_L4 at h
  refine lv_iload_n X.1 X.2.1 dX3_sumBy_4 rfl (lv_at hl 3 rfl) ?_
  refine lv_aload_n X.1 X.2.1 dX3_sumBy_5 rfl (lv_at hl 0 rfl) ?_
  refine m_get X I 5 (by decide) rfl rfl rfl q1522 (v := .int (st.1 5)) rfl dX3_sumBy_6 ?_
  refine lv_icmp_ge (tgt := 39) X.1 X.2.1 dX3_sumBy_9 (by decide) (fun c1 => ?_) (fun c1 => ?_)
  · replace h := m_ifT c1 h
    cases h
    exact hr H locs ls I (lv_sub hl [2] rfl)
  · replace h := m_ifF c1 h
    refine lv_iload_n X.1 X.2.1 dX3_sumBy_12 rfl (lv_at hl 2 rfl) ?_
    refine lv_iload_n X.1 X.2.1 dX3_sumBy_13 rfl (lv_at hl 1 rfl) ?_
    refine lv_iload_n X.1 X.2.1 dX3_sumBy_14 rfl (lv_at hl 3 rfl) ?_
    refine lv_ishr X.1 X.2.1 dX3_sumBy_15 ?_
    refine lv_iconst (v := 1) X.1 X.2.1 dX3_sumBy_16 (by decide) ?_
    refine lv_iand X.1 X.2.1 dX3_sumBy_17 ?_
    refine lv_iconst (v := 1) X.1 X.2.1 dX3_sumBy_18 (by decide) ?_
    refine lv_icmp_ne (tgt := 30) X.1 X.2.1 dX3_sumBy_19 (by decide) (fun c2 => ?_) (fun c2 => ?_)
    · replace h := m_ifF c2 h
      refine lv_iconst (v := 0) X.1 X.2.1 dX3_sumBy_30 (by decide) ?_
      exact k31 v3 0 v2 H locs ls h I (lv_sub hl [0, 1, 3] rfl)
    · replace h := m_ifT c2 h
      refine lv_aload_n X.1 X.2.1 dX3_sumBy_22 rfl (lv_at hl 0 rfl) ?_
      refine lv_iload_n X.1 X.2.1 dX3_sumBy_23 rfl (lv_at hl 3 rfl) ?_
      obtain ⟨r4, e3, h⟩ := m_bS h
      refine m_callI X hl.1 I hA (As := [.int v3]) (rest := [.int v2]) (c_netBy l n D d st v3 _ e3) 1 q1792 q1794 qs70 q107 q1795 (hd_netBy) rfl rfl ⟨Nat.le_trans (Nat.le_of_ble_eq_true rfl) hR.1, Nat.le_trans (Nat.le_of_ble_eq_true rfl) hR.2⟩ ⟨rfl, rfl⟩ ⟨Nat.zero_le _, Nat.zero_le _⟩ (Nat.le_of_ble_eq_true rfl) dX3_sumBy_24 (fun H locs I => ?_)
      refine lv_goto (tgt := 31) X.1 X.2.1 dX3_sumBy_27 (by decide) ?_
      exact k31 v3 r4 v2 H locs ls h I (lv_sub hl [0, 1, 3] rfl)
theorem w_sumBy (X : m_X D A d p s m c cX3_sumBy 4 args) (hA : ∀ q, s.heap.size ≤ q → A q) (hR : 2 ≤ R.frames ∧ 44 ≤ R.locals) (n : Nat) (st : MS) (p0 : Int32) (r : Int32) (h : f_sumBy n st p0 = some r) (hret : ∀ (H : Heap) (locs : List Loc) (ls : Array Slot) (pc : Nat), decode cX3_sumBy pc = .ok (.ireturn, 1) → m_I D A d s.heap st H locs → W p l e R s m args below meth c H locs 0 0 Q (F0 m pc ls [.int r])) : ∀ (H : Heap) (locs : List Loc) (ls : Array Slot), m_I D A d s.heap st H locs → lv_has ls 4 [(0, .ref d.1), (1, .int p0)] → W p l e R s m args below meth c H locs 0 0 Q (F0 m 0 ls []) := by
  intro H locs ls I hl
  unfold f_sumBy at h
  refine lv_iconst (v := 0) X.1 X.2.1 dX3_sumBy_0 (by decide) ?_
  refine lv_istore_n (lv' := [(2, .int 0), (0, .ref d.1), (1, .int p0)]) X.1 X.2.1 dX3_sumBy_1 rfl hl (by decide) rfl (fun ls hl => ?_)
  refine lv_iconst (v := 0) X.1 X.2.1 dX3_sumBy_2 (by decide) ?_
  refine lv_istore_n (lv' := [(3, .int 0), (2, .int 0), (0, .ref d.1), (1, .int p0)]) X.1 X.2.1 dX3_sumBy_3 rfl hl (by decide) rfl (fun ls hl => ?_)
  obtain ⟨z6, e5, h⟩ := m_bS h
  refine wf_sumBy_L4 X hA hR n st p0 _ _ e5 (fun H locs ls I hl => ?_) H locs ls I (lv_sub hl [2, 3, 1, 0] rfl)
  refine lv_iload_n X.1 X.2.1 dX3_sumBy_39 rfl (lv_at hl 0 rfl) ?_
  obtain rfl := m_e1 h
  exact hret H locs ls 40 dX3_sumBy_40 I
end S_sumBy
theorem c_sumBy (l : Launch) (n : Nat) (D : va_G) (d : MD) (st : MS) (p0 : Int32) (r : Int32) (h : f_sumBy n st p0 = some r) : m_Mi l yX3_sumBy cX3_sumBy 4 (some .int) ({ frames := 2, cells := 0, slots := 0, locals := 44 } : Room) D d st [.ref d.1, .int p0] r st :=
  m_startI (lvl := [(0, .ref d.1), (1, .int p0)]) (by decide) rfl (Nat.le_of_ble_eq_true rfl) rfl (fun p e s m args below meth c ls X hr hlk hl hA I => w_sumBy X hA ⟨Nat.le_refl _, Nat.le_refl _⟩ n st p0 r h (fun H locs ls pc hd I => m_iret X I hr hlk hd) _ _ ls I hl)

/-! method puts(I)V -/
def f_puts (n : Nat) (st : MS) (p0 : Int32) : Option (MS) :=
  m_g (m_in (st.1 31) 48) (some (m_sg (m_sa st 30 (st.1 31 : Int32).toNatClampNeg p0) 31 (((m_sa st 30 (st.1 31 : Int32).toNatClampNeg p0).1 31) + 1)))
theorem hd_puts : yX3_puts.cls = RX3 ∧ yX3_puts.cls ≠ "java/lang/invoke/MethodHandle" ∧ yX3_puts.cls ≠ "java/lang/invoke/VarHandle" ∧ (parseMethodDescriptor yX3_puts.desc).map (fun d => d.parameters.length) = some 1 := by decide +kernel
section S_puts
variable {p : Program} {l : Launch} {e : Env} {R : Room} {s : State} {m : MethodId} {args : Array Value} {below : List Frame} {meth : Method} {c : Code} {Q : State → Prop} {D : va_G} {A : Nat → Prop} {d : MD}
theorem w_puts (X : m_X D A d p s m c cX3_puts 2 args) (hA : ∀ q, s.heap.size ≤ q → A q) (hR : 0 ≤ R.frames ∧ 0 ≤ R.locals) (n : Nat) (st : MS) (p0 : Int32) (r : MS) (h : f_puts n st p0 = some r) (hret : ∀ (H : Heap) (locs : List Loc) (ls : Array Slot) (pc : Nat), decode cX3_puts pc = .ok (.return_, 1) → m_I D A d s.heap r H locs → W p l e R s m args below meth c H locs 0 0 Q (F0 m pc ls [])) : ∀ (H : Heap) (locs : List Loc) (ls : Array Slot), m_I D A d s.heap st H locs → lv_has ls 2 [(0, .ref d.1), (1, .int p0)] → W p l e R s m args below meth c H locs 0 0 Q (F0 m 0 ls []) := by
  intro H locs ls I hl
  unfold f_puts at h
  refine lv_aload_n X.1 X.2.1 dX3_puts_0 rfl (lv_at hl 0 rfl) ?_
  refine m_get X I 30 (by decide) rfl rfl rfl q1547 (v := .ref (d.2.1 30)) rfl dX3_puts_1 ?_
  refine lv_aload_n X.1 X.2.1 dX3_puts_4 rfl (lv_at hl 0 rfl) ?_
  refine m_get X I 31 (by decide) rfl rfl rfl q1548 (v := .int (st.1 31)) rfl dX3_puts_5 ?_
  refine lv_iload_n X.1 X.2.1 dX3_puts_8 rfl (lv_at hl 1 rfl) ?_
  obtain ⟨g1, h⟩ := m_gS h
  refine m_iast X I 19 (n := 48) (f := st.2.1 30) rfl (m_st30 d _ _ _) g1 dX3_puts_9 (fun H locs I => ?_)
  refine lv_aload_n X.1 X.2.1 dX3_puts_10 rfl (lv_at hl 0 rfl) ?_
  refine lv_dup X.1 X.2.1 dX3_puts_11 rfl ?_
  refine m_get X I 31 (by decide) rfl rfl rfl q1548 (v := .int ((m_sa st 30 (st.1 31 : Int32).toNatClampNeg p0).1 31)) rfl dX3_puts_12 ?_
  refine lv_iconst (v := 1) X.1 X.2.1 dX3_puts_15 (by decide) ?_
  refine lv_iadd X.1 X.2.1 dX3_puts_16 ?_
  refine m_put X I 31 (by decide) rfl rfl rfl q1548 rfl (m_set31 d _ _) dX3_puts_17 (fun H locs I => ?_)
  obtain rfl := m_e1 h
  exact hret H locs ls 20 dX3_puts_20 I
end S_puts
theorem c_puts (l : Launch) (n : Nat) (D : va_G) (d : MD) (st : MS) (p0 : Int32) (st' : MS) (h : f_puts n st p0 = some st') : m_Mv l yX3_puts cX3_puts 2 none ({ frames := 0, cells := 0, slots := 0, locals := 0 } : Room) D d st [.ref d.1, .int p0] st' :=
  m_startV (lvl := [(0, .ref d.1), (1, .int p0)]) (by decide) rfl (Nat.le_of_ble_eq_true rfl) rfl (fun p e s m args below meth c ls X hr hlk hl hA I => w_puts X hA ⟨Nat.le_refl _, Nat.le_refl _⟩ n st p0 st' h (fun H locs ls pc hd I => m_vret X I hr hlk hd) _ _ ls I hl)

/-! method putsNumber(I)V -/
def f_putsNumber_L2 (n : Nat) (v1 : Int32) (v2 : Int32) (st : MS) : Option ((Int32 × MS) ⊕ (Int32 × MS)) :=
  m_g (decide (¬ (v2 : Int32) = 0)) (m_if ((v1 / v2 : Int32) ≤ (9 : Int32)) (some (.inr ((v2, st)))) (some (.inl ((v2 * 10, st)))))
def f_putsNumber_L2l (n : Nat) (v1 : Int32) (x : (Int32 × MS)) : Option (Int32 × MS) := m_lp (fun (x : (Int32 × MS)) => f_putsNumber_L2 n v1 x.1 x.2) n x
def f_putsNumber_L20 (n : Nat) (v1 : Int32) (v3 : Int32) (st : MS) : Option ((Int32 × MS) ⊕ MS) :=
  m_if ((v3 : Int32) ≤ 0) (some (.inr st)) (m_g (decide (¬ (v3 : Int32) = 0)) (m_g (decide (¬ (10 : Int32) = 0)) (m_b (f_puts n st (48 + ((v1 / v3) - (v1 / v3) / 10 * 10))) (fun s10 => m_g (decide (¬ (10 : Int32) = 0)) (some (.inl ((v3 / 10, s10))))))))
def f_putsNumber_L20l (n : Nat) (v1 : Int32) (x : (Int32 × MS)) : Option MS := m_lp (fun (x : (Int32 × MS)) => f_putsNumber_L20 n v1 x.1 x.2) n x
def f_putsNumber (n : Nat) (st : MS) (p0 : Int32) : Option (MS) :=
  m_b (f_putsNumber_L2l n p0 ((1, st))) (fun y14 => m_b (f_putsNumber_L20l n p0 ((y14.1, y14.2))) (fun s13 => some s13))
theorem hd_putsNumber : yX3_putsNumber.cls = RX3 ∧ yX3_putsNumber.cls ≠ "java/lang/invoke/MethodHandle" ∧ yX3_putsNumber.cls ≠ "java/lang/invoke/VarHandle" ∧ (parseMethodDescriptor yX3_putsNumber.desc).map (fun d => d.parameters.length) = some 1 := by decide +kernel
section S_putsNumber
variable {p : Program} {l : Launch} {e : Env} {R : Room} {s : State} {m : MethodId} {args : Array Value} {below : List Frame} {meth : Method} {c : Code} {Q : State → Prop} {D : va_G} {A : Nat → Prop} {d : MD}
theorem wf_putsNumber_L2 (X : m_X D A d p s m c cX3_putsNumber 4 args) (hA : ∀ q, s.heap.size ≤ q → A q) (hR : 1 ≤ R.frames ∧ 21 ≤ R.locals) (n : Nat) (v1 : Int32) (x : (Int32 × MS)) (z : (Int32 × MS)) (hz : f_putsNumber_L2l n v1 x = some z) (hE : (fun (z : (Int32 × MS)) => ∀ (H : Heap) (locs : List Loc) (ls : Array Slot), m_I D A d s.heap z.2 H locs → lv_has ls 4 [(0, .ref d.1), (1, .int v1), (2, .int z.1)] → W p l e R s m args below meth c H locs 0 0 Q (F0 m 18 ls [])) z) : (fun (x : (Int32 × MS)) => ∀ (H : Heap) (locs : List Loc) (ls : Array Slot), m_I D A d s.heap x.2 H locs → lv_has ls 4 [(0, .ref d.1), (1, .int v1), (2, .int x.1)] → W p l e R s m args below meth c H locs 0 0 Q (F0 m 2 ls [])) x := by
  refine m_lpW (G := fun (x : (Int32 × MS)) => ∀ (H : Heap) (locs : List Loc) (ls : Array Slot), m_I D A d s.heap x.2 H locs → lv_has ls 4 [(0, .ref d.1), (1, .int v1), (2, .int x.1)] → W p l e R s m args below meth c H locs 0 0 Q (F0 m 2 ls [])) (E := fun (z : (Int32 × MS)) => ∀ (H : Heap) (locs : List Loc) (ls : Array Slot), m_I D A d s.heap z.2 H locs → lv_has ls 4 [(0, .ref d.1), (1, .int v1), (2, .int z.1)] → W p l e R s m args below meth c H locs 0 0 Q (F0 m 18 ls [])) ?_ n x z hz hE
  rintro ⟨v2, st⟩ r h hr H locs ls I hl
  replace h : f_putsNumber_L2 n v1 v2 st = some r := h
  unfold f_putsNumber_L2 at h
  refine lv_iload_n X.1 X.2.1 dX3_putsNumber_2 rfl (lv_at hl 1 rfl) ?_
  refine lv_iload_n X.1 X.2.1 dX3_putsNumber_3 rfl (lv_at hl 2 rfl) ?_
  obtain ⟨g1, h⟩ := m_gS h
  refine lv_idiv X.1 X.2.1 dX3_putsNumber_4 (of_decide_eq_true g1) ?_
  refine lv_bipush (v := 9) X.1 X.2.1 dX3_putsNumber_5 (by decide) ?_
  refine lv_icmp_le (tgt := 18) X.1 X.2.1 dX3_putsNumber_7 (by decide) (fun c2 => ?_) (fun c2 => ?_)
  · replace h := m_ifT c2 h
    cases h
    exact hr H locs ls I (lv_sub hl [0, 1, 2] rfl)
  · replace h := m_ifF c2 h
    refine lv_iload_n X.1 X.2.1 dX3_putsNumber_10 rfl (lv_at hl 2 rfl) ?_
    refine lv_bipush (v := 10) X.1 X.2.1 dX3_putsNumber_11 (by decide) ?_
    refine lv_imul X.1 X.2.1 dX3_putsNumber_13 ?_
    refine lv_istore_n (lv' := [(2, .int (v2 * 10)), (0, .ref d.1), (1, .int v1)]) X.1 X.2.1 dX3_putsNumber_14 rfl hl (by decide) rfl (fun ls hl => ?_)
    refine lv_goto (tgt := 2) X.1 X.2.1 dX3_putsNumber_15 (by decide) ?_
    cases h
    exact hr H locs ls I (lv_sub hl [1, 2, 0] rfl)
theorem wf_putsNumber_L20 (X : m_X D A d p s m c cX3_putsNumber 4 args) (hA : ∀ q, s.heap.size ≤ q → A q) (hR : 1 ≤ R.frames ∧ 21 ≤ R.locals) (n : Nat) (v1 : Int32) (x : (Int32 × MS)) (z : MS) (hz : f_putsNumber_L20l n v1 x = some z) (hE : (fun (z : MS) => ∀ (H : Heap) (locs : List Loc) (ls : Array Slot), m_I D A d s.heap z H locs → lv_has ls 4 [] → W p l e R s m args below meth c H locs 0 0 Q (F0 m 45 ls [])) z) : (fun (x : (Int32 × MS)) => ∀ (H : Heap) (locs : List Loc) (ls : Array Slot), m_I D A d s.heap x.2 H locs → lv_has ls 4 [(0, .ref d.1), (1, .int v1), (3, .int x.1)] → W p l e R s m args below meth c H locs 0 0 Q (F0 m 20 ls [])) x := by
  refine m_lpW (G := fun (x : (Int32 × MS)) => ∀ (H : Heap) (locs : List Loc) (ls : Array Slot), m_I D A d s.heap x.2 H locs → lv_has ls 4 [(0, .ref d.1), (1, .int v1), (3, .int x.1)] → W p l e R s m args below meth c H locs 0 0 Q (F0 m 20 ls [])) (E := fun (z : MS) => ∀ (H : Heap) (locs : List Loc) (ls : Array Slot), m_I D A d s.heap z H locs → lv_has ls 4 [] → W p l e R s m args below meth c H locs 0 0 Q (F0 m 45 ls [])) ?_ n x z hz hE
  rintro ⟨v3, st⟩ r h hr H locs ls I hl
  replace h : f_putsNumber_L20 n v1 v3 st = some r := h
  unfold f_putsNumber_L20 at h
  refine lv_iload_n X.1 X.2.1 dX3_putsNumber_20 rfl (lv_at hl 2 rfl) ?_
  refine lv_if_le (tgt := 45) X.1 X.2.1 dX3_putsNumber_21 (by decide) (fun c6 => ?_) (fun c6 => ?_)
  · replace h := m_ifT c6 h
    cases h
    exact hr H locs ls I (lv_sub hl [] rfl)
  · replace h := m_ifF c6 h
    refine lv_aload_n X.1 X.2.1 dX3_putsNumber_24 rfl (lv_at hl 0 rfl) ?_
    refine lv_bipush (v := 48) X.1 X.2.1 dX3_putsNumber_25 (by decide) ?_
    refine lv_iload_n X.1 X.2.1 dX3_putsNumber_27 rfl (lv_at hl 1 rfl) ?_
    refine lv_iload_n X.1 X.2.1 dX3_putsNumber_28 rfl (lv_at hl 2 rfl) ?_
    obtain ⟨g7, h⟩ := m_gS h
    refine lv_idiv X.1 X.2.1 dX3_putsNumber_29 (of_decide_eq_true g7) ?_
    refine lv_bipush (v := 10) X.1 X.2.1 dX3_putsNumber_30 (by decide) ?_
    obtain ⟨g8, h⟩ := m_gS h
    refine lv_irem X.1 X.2.1 dX3_putsNumber_32 (of_decide_eq_true g8) ?_
    refine lv_iadd X.1 X.2.1 dX3_putsNumber_33 ?_
    obtain ⟨s10, e9, h⟩ := m_bS h
    refine m_callV X hl.1 I hA (As := [.int (48 + ((v1 / v3) - (v1 / v3) / 10 * 10))]) (rest := []) (c_puts l n D d st (48 + ((v1 / v3) - (v1 / v3) / 10 * 10)) _ e9) 1 q2008 q2010 qs97 q107 q2011 (hd_puts) rfl rfl ⟨Nat.le_trans (Nat.le_of_ble_eq_true rfl) hR.1, Nat.le_trans (Nat.le_of_ble_eq_true rfl) hR.2⟩ ⟨rfl, rfl⟩ ⟨Nat.zero_le _, Nat.zero_le _⟩ (Nat.le_of_ble_eq_true rfl) dX3_putsNumber_34 (fun H locs I => ?_)
    refine lv_iload_n X.1 X.2.1 dX3_putsNumber_37 rfl (lv_at hl 2 rfl) ?_
    refine lv_bipush (v := 10) X.1 X.2.1 dX3_putsNumber_38 (by decide) ?_
    obtain ⟨g11, h⟩ := m_gS h
    refine lv_idiv X.1 X.2.1 dX3_putsNumber_40 (of_decide_eq_true g11) ?_
    refine lv_istore_n (lv' := [(3, .int (v3 / 10)), (0, .ref d.1), (1, .int v1)]) X.1 X.2.1 dX3_putsNumber_41 rfl hl (by decide) rfl (fun ls hl => ?_)
    refine lv_goto (tgt := 20) X.1 X.2.1 dX3_putsNumber_42 (by decide) ?_
    cases h
    exact hr H locs ls I (lv_sub hl [1, 2, 0] rfl)
theorem w_putsNumber (X : m_X D A d p s m c cX3_putsNumber 4 args) (hA : ∀ q, s.heap.size ≤ q → A q) (hR : 1 ≤ R.frames ∧ 21 ≤ R.locals) (n : Nat) (st : MS) (p0 : Int32) (r : MS) (h : f_putsNumber n st p0 = some r) (hret : ∀ (H : Heap) (locs : List Loc) (ls : Array Slot) (pc : Nat), decode cX3_putsNumber pc = .ok (.return_, 1) → m_I D A d s.heap r H locs → W p l e R s m args below meth c H locs 0 0 Q (F0 m pc ls [])) : ∀ (H : Heap) (locs : List Loc) (ls : Array Slot), m_I D A d s.heap st H locs → lv_has ls 4 [(0, .ref d.1), (1, .int p0)] → W p l e R s m args below meth c H locs 0 0 Q (F0 m 0 ls []) := by
  intro H locs ls I hl
  unfold f_putsNumber at h
  refine lv_iconst (v := 1) X.1 X.2.1 dX3_putsNumber_0 (by decide) ?_
  refine lv_istore_n (lv' := [(2, .int 1), (0, .ref d.1), (1, .int p0)]) X.1 X.2.1 dX3_putsNumber_1 rfl hl (by decide) rfl (fun ls hl => ?_)
  obtain ⟨⟨z4, s5⟩, e3, h⟩ := m_bS h
  refine wf_putsNumber_L2 X hA hR n p0 _ _ e3 (fun H locs ls I hl => ?_) H locs ls I (lv_sub hl [1, 2, 0] rfl)
  refine lv_iload_n X.1 X.2.1 dX3_putsNumber_18 rfl (lv_at hl 2 rfl) ?_
  refine lv_istore_n (lv' := [(3, .int z4), (0, .ref d.1), (1, .int p0), (2, .int z4)]) X.1 X.2.1 dX3_putsNumber_19 rfl hl (by decide) rfl (fun ls hl => ?_)
  obtain ⟨s13, e12, h⟩ := m_bS h
  refine wf_putsNumber_L20 X hA hR n p0 _ _ e12 (fun H locs ls I hl => ?_) H locs ls I (lv_sub hl [1, 2, 0] rfl)
  obtain rfl := m_e1 h
  exact hret H locs ls 45 dX3_putsNumber_45 I
end S_putsNumber
theorem c_putsNumber (l : Launch) (n : Nat) (D : va_G) (d : MD) (st : MS) (p0 : Int32) (st' : MS) (h : f_putsNumber n st p0 = some st') : m_Mv l yX3_putsNumber cX3_putsNumber 4 none ({ frames := 1, cells := 0, slots := 0, locals := 21 } : Room) D d st [.ref d.1, .int p0] st' :=
  m_startV (lvl := [(0, .ref d.1), (1, .int p0)]) (by decide) rfl (Nat.le_of_ble_eq_true rfl) rfl (fun p e s m args below meth c ls X hr hlk hl hA I => w_putsNumber X hA ⟨Nat.le_refl _, Nat.le_refl _⟩ n st p0 st' h (fun H locs ls pc hd I => m_vret X I hr hlk hd) _ _ ls I hl)

/-! method keptMany()I -/
def f_keptMany_L4 (n : Nat) (st : MS) (v1 : Int32) (v2 : Int32) : Option ((Int32 × Int32) ⊕ Int32) :=
  m_g (m_in 0 266) (m_if ((st.2.1 0 (0 : Int32).toNatClampNeg : Int32) ≤ (v2 : Int32)) (some (.inr v1)) (m_b (f_tradeAt n st v2 4) (fun r4 => some (.inl ((v1 + r4, v2 + 1))))))
def f_keptMany_L4l (n : Nat) (st : MS) (x : (Int32 × Int32)) : Option Int32 := m_lp (fun (x : (Int32 × Int32)) => f_keptMany_L4 n st x.1 x.2) n x
def f_keptMany (n : Nat) (st : MS) : Option (Int32) :=
  m_b (f_keptMany_L4l n st ((0, 0))) (fun z6 => some z6)
theorem hd_keptMany : yX3_keptMany.cls = RX3 ∧ yX3_keptMany.cls ≠ "java/lang/invoke/MethodHandle" ∧ yX3_keptMany.cls ≠ "java/lang/invoke/VarHandle" ∧ (parseMethodDescriptor yX3_keptMany.desc).map (fun d => d.parameters.length) = some 0 := by decide +kernel
section S_keptMany
variable {p : Program} {l : Launch} {e : Env} {R : Room} {s : State} {m : MethodId} {args : Array Value} {below : List Frame} {meth : Method} {c : Code} {Q : State → Prop} {D : va_G} {A : Nat → Prop} {d : MD}
theorem wf_keptMany_L4 (X : m_X D A d p s m c cX3_keptMany 3 args) (hA : ∀ q, s.heap.size ≤ q → A q) (hR : 1 ≤ R.frames ∧ 22 ≤ R.locals) (n : Nat) (st : MS) (x : (Int32 × Int32)) (z : Int32) (hz : f_keptMany_L4l n st x = some z) (hE : (fun (z : Int32) => ∀ (H : Heap) (locs : List Loc) (ls : Array Slot), m_I D A d s.heap st H locs → lv_has ls 3 [(1, .int z)] → W p l e R s m args below meth c H locs 0 0 Q (F0 m 29 ls [])) z) : (fun (x : (Int32 × Int32)) => ∀ (H : Heap) (locs : List Loc) (ls : Array Slot), m_I D A d s.heap st H locs → lv_has ls 3 [(0, .ref d.1), (1, .int x.1), (2, .int x.2)] → W p l e R s m args below meth c H locs 0 0 Q (F0 m 4 ls [])) x := by
  refine m_lpW (G := fun (x : (Int32 × Int32)) => ∀ (H : Heap) (locs : List Loc) (ls : Array Slot), m_I D A d s.heap st H locs → lv_has ls 3 [(0, .ref d.1), (1, .int x.1), (2, .int x.2)] → W p l e R s m args below meth c H locs 0 0 Q (F0 m 4 ls [])) (E := fun (z : Int32) => ∀ (H : Heap) (locs : List Loc) (ls : Array Slot), m_I D A d s.heap st H locs → lv_has ls 3 [(1, .int z)] → W p l e R s m args below meth c H locs 0 0 Q (F0 m 29 ls [])) ?_ n x z hz hE
  rintro ⟨v1, v2⟩ r h hr H locs ls I hl
  replace h : f_keptMany_L4 n st v1 v2 = some r := h
  unfold f_keptMany_L4 at h
  refine lv_iload_n X.1 X.2.1 dX3_keptMany_4 rfl (lv_at hl 2 rfl) ?_
  refine lv_aload_n X.1 X.2.1 dX3_keptMany_5 rfl (lv_at hl 0 rfl) ?_
  refine m_get X I 0 (by decide) rfl rfl rfl q1517 (v := .ref (d.2.1 0)) rfl dX3_keptMany_6 ?_
  refine lv_iconst (v := 0) X.1 X.2.1 dX3_keptMany_9 (by decide) ?_
  obtain ⟨g1, h⟩ := m_gS h
  refine m_iald X I 1 (n := 266) (f := st.2.1 0) rfl g1 dX3_keptMany_10 ?_
  refine lv_icmp_ge (tgt := 29) X.1 X.2.1 dX3_keptMany_11 (by decide) (fun c2 => ?_) (fun c2 => ?_)
  · replace h := m_ifT c2 h
    cases h
    exact hr H locs ls I (lv_sub hl [1] rfl)
  · replace h := m_ifF c2 h
    refine lv_iload_n X.1 X.2.1 dX3_keptMany_14 rfl (lv_at hl 1 rfl) ?_
    refine lv_aload_n X.1 X.2.1 dX3_keptMany_15 rfl (lv_at hl 0 rfl) ?_
    refine lv_iload_n X.1 X.2.1 dX3_keptMany_16 rfl (lv_at hl 2 rfl) ?_
    refine lv_iconst (v := 4) X.1 X.2.1 dX3_keptMany_17 (by decide) ?_
    obtain ⟨r4, e3, h⟩ := m_bS h
    refine m_callI X hl.1 I hA (As := [.int v2, .int 4]) (rest := [.int v1]) (c_tradeAt l n D d st v2 4 _ e3) 2 q1683 q1685 qs55 q107 q1686 (hd_tradeAt) rfl rfl ⟨Nat.le_trans (Nat.le_of_ble_eq_true rfl) hR.1, Nat.le_trans (Nat.le_of_ble_eq_true rfl) hR.2⟩ ⟨rfl, rfl⟩ ⟨Nat.zero_le _, Nat.zero_le _⟩ (Nat.le_of_ble_eq_true rfl) dX3_keptMany_18 (fun H locs I => ?_)
    refine lv_iadd X.1 X.2.1 dX3_keptMany_21 ?_
    refine lv_istore_n (lv' := [(1, .int (v1 + r4)), (0, .ref d.1), (2, .int v2)]) X.1 X.2.1 dX3_keptMany_22 rfl hl (by decide) rfl (fun ls hl => ?_)
    refine lv_iinc (v := v2 + 1) (lv' := [(2, .int (v2 + 1)), (1, .int (v1 + r4)), (0, .ref d.1)]) X.1 X.2.1 dX3_keptMany_23 hl (k := 2) rfl rfl (by decide) rfl (fun ls hl => ?_)
    refine lv_goto (tgt := 4) X.1 X.2.1 dX3_keptMany_26 (by decide) ?_
    cases h
    exact hr H locs ls I (lv_sub hl [2, 1, 0] rfl)
theorem w_keptMany (X : m_X D A d p s m c cX3_keptMany 3 args) (hA : ∀ q, s.heap.size ≤ q → A q) (hR : 1 ≤ R.frames ∧ 22 ≤ R.locals) (n : Nat) (st : MS) (r : Int32) (h : f_keptMany n st = some r) (hret : ∀ (H : Heap) (locs : List Loc) (ls : Array Slot) (pc : Nat), decode cX3_keptMany pc = .ok (.ireturn, 1) → m_I D A d s.heap st H locs → W p l e R s m args below meth c H locs 0 0 Q (F0 m pc ls [.int r])) : ∀ (H : Heap) (locs : List Loc) (ls : Array Slot), m_I D A d s.heap st H locs → lv_has ls 3 [(0, .ref d.1)] → W p l e R s m args below meth c H locs 0 0 Q (F0 m 0 ls []) := by
  intro H locs ls I hl
  unfold f_keptMany at h
  refine lv_iconst (v := 0) X.1 X.2.1 dX3_keptMany_0 (by decide) ?_
  refine lv_istore_n (lv' := [(1, .int 0), (0, .ref d.1)]) X.1 X.2.1 dX3_keptMany_1 rfl hl (by decide) rfl (fun ls hl => ?_)
  refine lv_iconst (v := 0) X.1 X.2.1 dX3_keptMany_2 (by decide) ?_
  refine lv_istore_n (lv' := [(2, .int 0), (1, .int 0), (0, .ref d.1)]) X.1 X.2.1 dX3_keptMany_3 rfl hl (by decide) rfl (fun ls hl => ?_)
  obtain ⟨z6, e5, h⟩ := m_bS h
  refine wf_keptMany_L4 X hA hR n st _ _ e5 (fun H locs ls I hl => ?_) H locs ls I (lv_sub hl [2, 1, 0] rfl)
  refine lv_iload_n X.1 X.2.1 dX3_keptMany_29 rfl (lv_at hl 0 rfl) ?_
  obtain rfl := m_e1 h
  exact hret H locs ls 30 dX3_keptMany_30 I
end S_keptMany
theorem c_keptMany (l : Launch) (n : Nat) (D : va_G) (d : MD) (st : MS) (r : Int32) (h : f_keptMany n st = some r) : m_Mi l yX3_keptMany cX3_keptMany 3 (some .int) ({ frames := 1, cells := 0, slots := 0, locals := 22 } : Room) D d st [.ref d.1] r st :=
  m_startI (lvl := [(0, .ref d.1)]) (by decide) rfl (Nat.le_of_ble_eq_true rfl) rfl (fun p e s m args below meth c ls X hr hlk hl hA I => w_keptMany X hA ⟨Nat.le_refl _, Nat.le_refl _⟩ n st r h (fun H locs ls pc hd I => m_iret X I hr hlk hd) _ _ ls I hl)

/-! method wordHere()I -/
def f_wordHere_L40 (n : Nat) (v1 : Int32) (v2 : Int32) (v3 : Int32) (v4 : Int32) (st : MS) : Option ((Int32 × MS) ⊕ (Int32 × MS)) :=
  m_g (m_in v4 32) (m_if ((m_kch (v4 : Int32).toNatClampNeg : Int32) = (32 : Int32)) (some (.inr ((v4, st)))) (some (.inl ((v4 + 1, st)))))
def f_wordHere_L40l (n : Nat) (v1 : Int32) (v2 : Int32) (v3 : Int32) (x : (Int32 × MS)) : Option (Int32 × MS) := m_lp (fun (x : (Int32 × MS)) => f_wordHere_L40 n v1 v2 v3 x.1 x.2) n x
def f_wordHere_J116 (n : Nat) (st : MS) (v1 : Int32) (v2 : Int32) (v3 : Int32) (v4 : Int32) (v6 : Int32) (t0 : Int32) : Option ((Int32 × Int32 × MS) ⊕ (Int32 × MS)) :=
  some (.inl ((t0, v6 + 1, st)))
def f_wordHere_L76 (n : Nat) (v1 : Int32) (v2 : Int32) (v3 : Int32) (v4 : Int32) (v5 : Int32) (v6 : Int32) (st : MS) : Option ((Int32 × Int32 × MS) ⊕ (Int32 × MS)) :=
  m_if ((v1 : Int32) ≤ (v6 : Int32)) (some (.inr ((v5, st)))) (m_if ((v5 : Int32) = 0) (some (.inr ((v5, st)))) (m_g (m_in (v3 + v6) 32) (m_g (m_in ((st.1 12) + v6) 900) (m_if ((m_kch (v3 + v6 : Int32).toNatClampNeg : Int32) = (st.2.1 9 ((st.1 12) + v6 : Int32).toNatClampNeg : Int32)) (f_wordHere_J116 n st v1 v2 v3 v4 v6 1) (f_wordHere_J116 n st v1 v2 v3 v4 v6 0)))))
def f_wordHere_L76l (n : Nat) (v1 : Int32) (v2 : Int32) (v3 : Int32) (v4 : Int32) (x : (Int32 × Int32 × MS)) : Option (Int32 × MS) := m_lp (fun (x : (Int32 × Int32 × MS)) => f_wordHere_L76 n v1 v2 v3 v4 x.1 x.2.1 x.2.2) n x
def f_wordHere_J71 (n : Nat) (st : MS) (v1 : Int32) (v2 : Int32) (v3 : Int32) (v4 : Int32) (t0 : Int32) : Option ((Int32 × Int32 × MS) ⊕ ((Int32 × MS) ⊕ MS)) :=
  m_b (f_wordHere_L76l n v1 v2 v3 v4 ((t0, 0, st))) (fun y26 => m_if ((y26.1 : Int32) = 0) (some (.inl ((v2 + 1, v4 + 1, y26.2)))) (some (.inr (.inl ((v2, y26.2))))))
def f_wordHere_L28 (n : Nat) (v1 : Int32) (v2 : Int32) (v3 : Int32) (st : MS) : Option ((Int32 × Int32 × MS) ⊕ ((Int32 × MS) ⊕ MS)) :=
  m_if ((32 : Int32) ≤ (v3 : Int32)) (some (.inr (.inr st))) (m_b (f_wordHere_L40l n v1 v2 v3 ((v3, st))) (fun y27 => m_if ((y27.1 - v3 : Int32) = (v1 : Int32)) (f_wordHere_J71 n y27.2 v1 v2 v3 y27.1 1) (f_wordHere_J71 n y27.2 v1 v2 v3 y27.1 0)))
def f_wordHere_L28l (n : Nat) (v1 : Int32) (x : (Int32 × Int32 × MS)) : Option ((Int32 × MS) ⊕ MS) := m_lp (fun (x : (Int32 × Int32 × MS)) => f_wordHere_L28 n v1 x.1 x.2.1 x.2.2) n x
def f_wordHere_J17 (n : Nat) (st : MS) : Option (Int32 × MS) :=
  some ((-1), st)
def f_wordHere (n : Nat) (st : MS) : Option (Int32 × MS) :=
  m_if ((st.1 13 : Int32) = 0) (m_b2 (f_peek n st) (fun r3 s4 => m_b (f_isLetter n r3) (fun r6 => m_if ((r6 : Int32) = 0) (f_wordHere_J17 n s4) (m_b (f_lettersHere n s4) (fun r9 => m_b (f_wordHere_L28l n r9 ((0, 1, s4))) (fun y33 => m_s y33 (fun y31 => some (y31.1, y31.2)) (fun s32 => some ((-1), s32)))))))) (f_wordHere_J17 n st)
theorem hd_wordHere : yX3_wordHere.cls = RX3 ∧ yX3_wordHere.cls ≠ "java/lang/invoke/MethodHandle" ∧ yX3_wordHere.cls ≠ "java/lang/invoke/VarHandle" ∧ (parseMethodDescriptor yX3_wordHere.desc).map (fun d => d.parameters.length) = some 0 := by decide +kernel
section S_wordHere
variable {p : Program} {l : Launch} {e : Env} {R : Room} {s : State} {m : MethodId} {args : Array Value} {below : List Frame} {meth : Method} {c : Code} {Q : State → Prop} {D : va_G} {A : Nat → Prop} {d : MD}
theorem wf_wordHere_L40 (X : m_X D A d p s m c cX3_wordHere 7 args) (hA : ∀ q, s.heap.size ≤ q → A q) (hR : 4 ≤ R.frames ∧ 85 ≤ R.locals) (n : Nat) (v1 : Int32) (v2 : Int32) (v3 : Int32) (x : (Int32 × MS)) (z : (Int32 × MS)) (hz : f_wordHere_L40l n v1 v2 v3 x = some z) (hE : (fun (z : (Int32 × MS)) => ∀ (H : Heap) (locs : List Loc) (ls : Array Slot), m_I D A d s.heap z.2 H locs → lv_has ls 7 [(0, .ref d.1), (1, .int v1), (2, .int v2), (3, .int v3), (4, .int z.1)] → W p l e R s m args below meth c H locs 0 0 Q (F0 m 58 ls [])) z) : (fun (x : (Int32 × MS)) => ∀ (H : Heap) (locs : List Loc) (ls : Array Slot), m_I D A d s.heap x.2 H locs → lv_has ls 7 [(0, .ref d.1), (1, .int v1), (2, .int v2), (3, .int v3), (4, .int x.1)] → W p l e R s m args below meth c H locs 0 0 Q (F0 m 40 ls [])) x := by
  refine m_lpW (G := fun (x : (Int32 × MS)) => ∀ (H : Heap) (locs : List Loc) (ls : Array Slot), m_I D A d s.heap x.2 H locs → lv_has ls 7 [(0, .ref d.1), (1, .int v1), (2, .int v2), (3, .int v3), (4, .int x.1)] → W p l e R s m args below meth c H locs 0 0 Q (F0 m 40 ls [])) (E := fun (z : (Int32 × MS)) => ∀ (H : Heap) (locs : List Loc) (ls : Array Slot), m_I D A d s.heap z.2 H locs → lv_has ls 7 [(0, .ref d.1), (1, .int v1), (2, .int v2), (3, .int v3), (4, .int z.1)] → W p l e R s m args below meth c H locs 0 0 Q (F0 m 58 ls [])) ?_ n x z hz hE
  rintro ⟨v4, st⟩ r h hr H locs ls I hl
  replace h : f_wordHere_L40 n v1 v2 v3 v4 st = some r := h
  unfold f_wordHere_L40 at h
  refine m_ldcK X dX3_wordHere_40 ?_
  refine lv_iload X.1 X.2.1 dX3_wordHere_42 (lv_at hl 4 rfl) ?_
  obtain ⟨g11, h⟩ := m_gS h
  refine m_schar X hl.1 I ⟨Nat.le_trans (Nat.le_of_ble_eq_true rfl) hR.1, Nat.le_trans (Nat.le_of_ble_eq_true rfl) hR.2⟩ ⟨Nat.zero_le _, Nat.zero_le _⟩ (Nat.le_of_ble_eq_true rfl) g11 dX3_wordHere_44 ?_
  refine lv_bipush (v := 32) X.1 X.2.1 dX3_wordHere_47 (by decide) ?_
  refine lv_icmp_eq (tgt := 58) X.1 X.2.1 dX3_wordHere_49 (by decide) (fun c12 => ?_) (fun c12 => ?_)
  · replace h := m_ifT c12 h
    cases h
    exact hr H locs ls I (lv_sub hl [0, 1, 2, 3, 4] rfl)
  · replace h := m_ifF c12 h
    refine lv_iinc (v := v4 + 1) (lv' := [(4, .int (v4 + 1)), (0, .ref d.1), (1, .int v1), (2, .int v2), (3, .int v3)]) X.1 X.2.1 dX3_wordHere_52 hl (k := 4) rfl rfl (by decide) rfl (fun ls hl => ?_)
    refine lv_goto (tgt := 40) X.1 X.2.1 dX3_wordHere_55 (by decide) ?_
    cases h
    exact hr H locs ls I (lv_sub hl [1, 2, 3, 4, 0] rfl)
theorem wf_wordHere_L76 (X : m_X D A d p s m c cX3_wordHere 7 args) (hA : ∀ q, s.heap.size ≤ q → A q) (hR : 4 ≤ R.frames ∧ 85 ≤ R.locals) (n : Nat) (v1 : Int32) (v2 : Int32) (v3 : Int32) (v4 : Int32) (x : (Int32 × Int32 × MS)) (z : (Int32 × MS)) (hz : f_wordHere_L76l n v1 v2 v3 v4 x = some z) (hE : (fun (z : (Int32 × MS)) => ∀ (H : Heap) (locs : List Loc) (ls : Array Slot), m_I D A d s.heap z.2 H locs → lv_has ls 7 [(0, .ref d.1), (1, .int v1), (2, .int v2), (4, .int v4), (5, .int z.1)] → W p l e R s m args below meth c H locs 0 0 Q (F0 m 124 ls [])) z) : (fun (x : (Int32 × Int32 × MS)) => ∀ (H : Heap) (locs : List Loc) (ls : Array Slot), m_I D A d s.heap x.2.2 H locs → lv_has ls 7 [(0, .ref d.1), (1, .int v1), (2, .int v2), (3, .int v3), (4, .int v4), (5, .int x.1), (6, .int x.2.1)] → W p l e R s m args below meth c H locs 0 0 Q (F0 m 76 ls [])) x := by
  refine m_lpW (G := fun (x : (Int32 × Int32 × MS)) => ∀ (H : Heap) (locs : List Loc) (ls : Array Slot), m_I D A d s.heap x.2.2 H locs → lv_has ls 7 [(0, .ref d.1), (1, .int v1), (2, .int v2), (3, .int v3), (4, .int v4), (5, .int x.1), (6, .int x.2.1)] → W p l e R s m args below meth c H locs 0 0 Q (F0 m 76 ls [])) (E := fun (z : (Int32 × MS)) => ∀ (H : Heap) (locs : List Loc) (ls : Array Slot), m_I D A d s.heap z.2 H locs → lv_has ls 7 [(0, .ref d.1), (1, .int v1), (2, .int v2), (4, .int v4), (5, .int z.1)] → W p l e R s m args below meth c H locs 0 0 Q (F0 m 124 ls [])) ?_ n x z hz hE
  rintro ⟨v5, v6, st⟩ r h hr H locs ls I hl
  replace h : f_wordHere_L76 n v1 v2 v3 v4 v5 v6 st = some r := h
  have k116 : ∀ (st : MS) (v6 : Int32) (t0 : Int32) (H : Heap) (locs : List Loc) (ls : Array Slot), f_wordHere_J116 n st v1 v2 v3 v4 v6 t0 = some r → m_I D A d s.heap st H locs → lv_has ls 7 [(0, .ref d.1), (1, .int v1), (2, .int v2), (3, .int v3), (4, .int v4), (6, .int v6)] → W p l e R s m args below meth c H locs 0 0 Q (F0 m 116 ls [.int t0]) := by
    intro st v6 t0 H locs ls h I hl
    unfold f_wordHere_J116 at h
    refine lv_istore (lv' := [(5, .int t0), (0, .ref d.1), (1, .int v1), (2, .int v2), (3, .int v3), (4, .int v4), (6, .int v6)]) X.1 X.2.1 dX3_wordHere_116 hl (by decide) rfl (fun ls hl => ?_)
    refine lv_iinc (v := v6 + 1) (lv' := [(6, .int (v6 + 1)), (5, .int t0), (0, .ref d.1), (1, .int v1), (2, .int v2), (3, .int v3), (4, .int v4)]) X.1 X.2.1 dX3_wordHere_118 hl (k := 6) rfl rfl (by decide) rfl (fun ls hl => ?_)
    refine lv_goto (tgt := 76) X.1 X.2.1 dX3_wordHere_121 (by decide) ?_
    cases h
    exact hr H locs ls I (lv_sub hl [2, 3, 4, 5, 6, 1, 0] rfl)
  unfold f_wordHere_L76 at h
  refine lv_iload X.1 X.2.1 dX3_wordHere_76 (lv_at hl 6 rfl) ?_
  refine lv_iload_n X.1 X.2.1 dX3_wordHere_78 rfl (lv_at hl 1 rfl) ?_
  refine lv_icmp_ge (tgt := 124) X.1 X.2.1 dX3_wordHere_79 (by decide) (fun c17 => ?_) (fun c17 => ?_)
  · replace h := m_ifT c17 h
    cases h
    exact hr H locs ls I (lv_sub hl [0, 1, 2, 4, 5] rfl)
  · replace h := m_ifF c17 h
    refine lv_iload X.1 X.2.1 dX3_wordHere_82 (lv_at hl 5 rfl) ?_
    refine lv_if_eq (tgt := 124) X.1 X.2.1 dX3_wordHere_84 (by decide) (fun c18 => ?_) (fun c18 => ?_)
    · replace h := m_ifT c18 h
      cases h
      exact hr H locs ls I (lv_sub hl [0, 1, 2, 4, 5] rfl)
    · replace h := m_ifF c18 h
      refine m_ldcK X dX3_wordHere_87 ?_
      refine lv_iload_n X.1 X.2.1 dX3_wordHere_89 rfl (lv_at hl 3 rfl) ?_
      refine lv_iload X.1 X.2.1 dX3_wordHere_90 (lv_at hl 6 rfl) ?_
      refine lv_iadd X.1 X.2.1 dX3_wordHere_92 ?_
      obtain ⟨g19, h⟩ := m_gS h
      refine m_schar X hl.1 I ⟨Nat.le_trans (Nat.le_of_ble_eq_true rfl) hR.1, Nat.le_trans (Nat.le_of_ble_eq_true rfl) hR.2⟩ ⟨Nat.zero_le _, Nat.zero_le _⟩ (Nat.le_of_ble_eq_true rfl) g19 dX3_wordHere_93 ?_
      refine lv_aload_n X.1 X.2.1 dX3_wordHere_96 rfl (lv_at hl 0 rfl) ?_
      refine m_get X I 9 (by decide) rfl rfl rfl q1526 (v := .ref (d.2.1 9)) rfl dX3_wordHere_97 ?_
      refine lv_aload_n X.1 X.2.1 dX3_wordHere_100 rfl (lv_at hl 0 rfl) ?_
      refine m_get X I 12 (by decide) rfl rfl rfl q1529 (v := .int (st.1 12)) rfl dX3_wordHere_101 ?_
      refine lv_iload X.1 X.2.1 dX3_wordHere_104 (lv_at hl 6 rfl) ?_
      refine lv_iadd X.1 X.2.1 dX3_wordHere_106 ?_
      obtain ⟨g20, h⟩ := m_gS h
      refine m_bald X I 6 (n := 900) (f := st.2.1 9) rfl g20 dX3_wordHere_107 ?_
      refine lv_icmp_ne (tgt := 115) X.1 X.2.1 dX3_wordHere_108 (by decide) (fun c21 => ?_) (fun c21 => ?_)
      · replace h := m_ifF c21 h
        refine lv_iconst (v := 0) X.1 X.2.1 dX3_wordHere_115 (by decide) ?_
        exact k116 st v6 0 H locs ls h I (lv_sub hl [0, 1, 2, 3, 4, 6] rfl)
      · replace h := m_ifT c21 h
        refine lv_iconst (v := 1) X.1 X.2.1 dX3_wordHere_111 (by decide) ?_
        refine lv_goto (tgt := 116) X.1 X.2.1 dX3_wordHere_112 (by decide) ?_
        exact k116 st v6 1 H locs ls h I (lv_sub hl [0, 1, 2, 3, 4, 6] rfl)
theorem wf_wordHere_L28 (X : m_X D A d p s m c cX3_wordHere 7 args) (hA : ∀ q, s.heap.size ≤ q → A q) (hR : 4 ≤ R.frames ∧ 85 ≤ R.locals) (n : Nat) (v1 : Int32) (x : (Int32 × Int32 × MS)) (z : ((Int32 × MS) ⊕ MS)) (hz : f_wordHere_L28l n v1 x = some z) (hE : (m_e (fun (z : (Int32 × MS)) => ∀ (H : Heap) (locs : List Loc) (ls : Array Slot), m_I D A d s.heap z.2 H locs → lv_has ls 7 [(2, .int z.1)] → W p l e R s m args below meth c H locs 0 0 Q (F0 m 129 ls [])) (fun (z : MS) => ∀ (H : Heap) (locs : List Loc) (ls : Array Slot), m_I D A d s.heap z H locs → lv_has ls 7 [] → W p l e R s m args below meth c H locs 0 0 Q (F0 m 142 ls []))) z) : (fun (x : (Int32 × Int32 × MS)) => ∀ (H : Heap) (locs : List Loc) (ls : Array Slot), m_I D A d s.heap x.2.2 H locs → lv_has ls 7 [(0, .ref d.1), (1, .int v1), (2, .int x.1), (3, .int x.2.1)] → W p l e R s m args below meth c H locs 0 0 Q (F0 m 28 ls [])) x := by
  refine m_lpW (G := fun (x : (Int32 × Int32 × MS)) => ∀ (H : Heap) (locs : List Loc) (ls : Array Slot), m_I D A d s.heap x.2.2 H locs → lv_has ls 7 [(0, .ref d.1), (1, .int v1), (2, .int x.1), (3, .int x.2.1)] → W p l e R s m args below meth c H locs 0 0 Q (F0 m 28 ls [])) (E := m_e (fun (z : (Int32 × MS)) => ∀ (H : Heap) (locs : List Loc) (ls : Array Slot), m_I D A d s.heap z.2 H locs → lv_has ls 7 [(2, .int z.1)] → W p l e R s m args below meth c H locs 0 0 Q (F0 m 129 ls [])) (fun (z : MS) => ∀ (H : Heap) (locs : List Loc) (ls : Array Slot), m_I D A d s.heap z H locs → lv_has ls 7 [] → W p l e R s m args below meth c H locs 0 0 Q (F0 m 142 ls []))) ?_ n x z hz hE
  rintro ⟨v2, v3, st⟩ r h hr H locs ls I hl
  replace h : f_wordHere_L28 n v1 v2 v3 st = some r := h
  have k71 : ∀ (st : MS) (v2 : Int32) (v3 : Int32) (v4 : Int32) (t0 : Int32) (H : Heap) (locs : List Loc) (ls : Array Slot), f_wordHere_J71 n st v1 v2 v3 v4 t0 = some r → m_I D A d s.heap st H locs → lv_has ls 7 [(0, .ref d.1), (1, .int v1), (2, .int v2), (3, .int v3), (4, .int v4)] → W p l e R s m args below meth c H locs 0 0 Q (F0 m 71 ls [.int t0]) := by
    intro st v2 v3 v4 t0 H locs ls h I hl
    unfold f_wordHere_J71 at h
    refine lv_istore (lv' := [(5, .int t0), (0, .ref d.1), (1, .int v1), (2, .int v2), (3, .int v3), (4, .int v4)]) X.1 X.2.1 dX3_wordHere_71 hl (by decide) rfl (fun ls hl => ?_)
    refine lv_iconst (v := 0) X.1 X.2.1 dX3_wordHere_73 (by decide) ?_
    refine lv_istore (lv' := [(6, .int 0), (5, .int t0), (0, .ref d.1), (1, .int v1), (2, .int v2), (3, .int v3), (4, .int v4)]) X.1 X.2.1 dX3_wordHere_74 hl (by decide) rfl (fun ls hl => ?_)
    obtain ⟨⟨z23, s24⟩, e22, h⟩ := m_bS h
    refine wf_wordHere_L76 X hA hR n v1 v2 v3 v4 _ _ e22 (fun H locs ls I hl => ?_) H locs ls I (lv_sub hl [2, 3, 4, 5, 6, 1, 0] rfl)
    refine lv_iload X.1 X.2.1 dX3_wordHere_124 (lv_at hl 4 rfl) ?_
    refine lv_if_eq (tgt := 131) X.1 X.2.1 dX3_wordHere_126 (by decide) (fun c25 => ?_) (fun c25 => ?_)
    · replace h := m_ifT c25 h
      refine lv_iinc (v := v2 + 1) (lv' := [(2, .int (v2 + 1)), (0, .ref d.1), (1, .int v1), (4, .int v4), (5, .int z23)]) X.1 X.2.1 dX3_wordHere_131 hl (k := 2) rfl rfl (by decide) rfl (fun ls hl => ?_)
      refine lv_iload X.1 X.2.1 dX3_wordHere_134 (lv_at hl 3 rfl) ?_
      refine lv_iconst (v := 1) X.1 X.2.1 dX3_wordHere_136 (by decide) ?_
      refine lv_iadd X.1 X.2.1 dX3_wordHere_137 ?_
      refine lv_istore_n (lv' := [(3, .int (v4 + 1)), (2, .int (v2 + 1)), (0, .ref d.1), (1, .int v1), (4, .int v4), (5, .int z23)]) X.1 X.2.1 dX3_wordHere_138 rfl hl (by decide) rfl (fun ls hl => ?_)
      refine lv_goto (tgt := 28) X.1 X.2.1 dX3_wordHere_139 (by decide) ?_
      cases h
      exact hr H locs ls I (lv_sub hl [2, 3, 1, 0] rfl)
    · replace h := m_ifF c25 h
      cases h
      exact hr H locs ls I (lv_sub hl [2] rfl)
  unfold f_wordHere_L28 at h
  refine lv_iload_n X.1 X.2.1 dX3_wordHere_28 rfl (lv_at hl 3 rfl) ?_
  refine m_ldcK X dX3_wordHere_29 ?_
  refine m_slen X hl.1 I ⟨Nat.le_trans (Nat.le_of_ble_eq_true rfl) hR.1, Nat.le_trans (Nat.le_of_ble_eq_true rfl) hR.2⟩ ⟨Nat.zero_le _, Nat.zero_le _⟩ (Nat.le_of_ble_eq_true rfl) dX3_wordHere_31 ?_
  refine lv_icmp_ge (tgt := 142) X.1 X.2.1 dX3_wordHere_34 (by decide) (fun c10 => ?_) (fun c10 => ?_)
  · replace h := m_ifT c10 h
    cases h
    exact hr H locs ls I (lv_sub hl [] rfl)
  · replace h := m_ifF c10 h
    refine lv_iload_n X.1 X.2.1 dX3_wordHere_37 rfl (lv_at hl 3 rfl) ?_
    refine lv_istore (lv' := [(4, .int v3), (0, .ref d.1), (1, .int v1), (2, .int v2), (3, .int v3)]) X.1 X.2.1 dX3_wordHere_38 hl (by decide) rfl (fun ls hl => ?_)
    obtain ⟨⟨z14, s15⟩, e13, h⟩ := m_bS h
    refine wf_wordHere_L40 X hA hR n v1 v2 v3 _ _ e13 (fun H locs ls I hl => ?_) H locs ls I (lv_sub hl [1, 2, 3, 4, 0] rfl)
    refine lv_iload X.1 X.2.1 dX3_wordHere_58 (lv_at hl 4 rfl) ?_
    refine lv_iload_n X.1 X.2.1 dX3_wordHere_60 rfl (lv_at hl 3 rfl) ?_
    refine lv_isub X.1 X.2.1 dX3_wordHere_61 ?_
    refine lv_iload_n X.1 X.2.1 dX3_wordHere_62 rfl (lv_at hl 1 rfl) ?_
    refine lv_icmp_ne (tgt := 70) X.1 X.2.1 dX3_wordHere_63 (by decide) (fun c16 => ?_) (fun c16 => ?_)
    · replace h := m_ifF c16 h
      refine lv_iconst (v := 0) X.1 X.2.1 dX3_wordHere_70 (by decide) ?_
      exact k71 s15 v2 v3 z14 0 H locs ls h I (lv_sub hl [0, 1, 2, 3, 4] rfl)
    · replace h := m_ifT c16 h
      refine lv_iconst (v := 1) X.1 X.2.1 dX3_wordHere_66 (by decide) ?_
      refine lv_goto (tgt := 71) X.1 X.2.1 dX3_wordHere_67 (by decide) ?_
      exact k71 s15 v2 v3 z14 1 H locs ls h I (lv_sub hl [0, 1, 2, 3, 4] rfl)
theorem w_wordHere (X : m_X D A d p s m c cX3_wordHere 7 args) (hA : ∀ q, s.heap.size ≤ q → A q) (hR : 4 ≤ R.frames ∧ 85 ≤ R.locals) (n : Nat) (st : MS) (r : (Int32 × MS)) (h : f_wordHere n st = some r) (hret : ∀ (H : Heap) (locs : List Loc) (ls : Array Slot) (pc : Nat), decode cX3_wordHere pc = .ok (.ireturn, 1) → m_I D A d s.heap r.2 H locs → W p l e R s m args below meth c H locs 0 0 Q (F0 m pc ls [.int r.1])) : ∀ (H : Heap) (locs : List Loc) (ls : Array Slot), m_I D A d s.heap st H locs → lv_has ls 7 [(0, .ref d.1)] → W p l e R s m args below meth c H locs 0 0 Q (F0 m 0 ls []) := by
  obtain ⟨r0, s0⟩ := r
  have k17 : ∀ (st : MS) (H : Heap) (locs : List Loc) (ls : Array Slot), f_wordHere_J17 n st = some (r0, s0) → m_I D A d s.heap st H locs → lv_has ls 7 [] → W p l e R s m args below meth c H locs 0 0 Q (F0 m 17 ls []) := by
    intro st H locs ls h I hl
    unfold f_wordHere_J17 at h
    refine lv_iconst (v := (-1)) X.1 X.2.1 dX3_wordHere_17 (by decide) ?_
    obtain ⟨rfl, rfl⟩ := m_e2 h
    exact hret H locs ls 18 dX3_wordHere_18 I
  intro H locs ls I hl
  unfold f_wordHere at h
  refine lv_aload_n X.1 X.2.1 dX3_wordHere_0 rfl (lv_at hl 0 rfl) ?_
  refine m_get X I 13 (by decide) rfl rfl rfl q1530 (v := .int (st.1 13)) rfl dX3_wordHere_1 ?_
  refine lv_if_ne (tgt := 17) X.1 X.2.1 dX3_wordHere_4 (by decide) (fun c1 => ?_) (fun c1 => ?_)
  · replace h := m_ifF c1 h
    exact k17 st H locs ls h I (lv_sub hl [] rfl)
  · replace h := m_ifT c1 h
    refine lv_aload_n X.1 X.2.1 dX3_wordHere_7 rfl (lv_at hl 0 rfl) ?_
    obtain ⟨r3, s4, e2, h⟩ := m_b2S h
    refine m_callI X hl.1 I hA (As := []) (rest := []) (c_peek l n D d st  _ _ e2) 0 q1626 q1628 qs44 q107 q1629 (hd_peek) rfl rfl ⟨Nat.le_trans (Nat.le_of_ble_eq_true rfl) hR.1, Nat.le_trans (Nat.le_of_ble_eq_true rfl) hR.2⟩ ⟨rfl, rfl⟩ ⟨Nat.zero_le _, Nat.zero_le _⟩ (Nat.le_of_ble_eq_true rfl) dX3_wordHere_8 (fun H locs I => ?_)
    obtain ⟨r6, e5, h⟩ := m_bS h
    refine m_callS X hl.1 (As := [.int r3]) (rest := []) (c_isLetter l n r3 _ e5) 1 q1638 q1639 q107 q1640 (hd_isLetter).2 rfl rfl ⟨Nat.le_trans (Nat.le_of_ble_eq_true rfl) hR.1, Nat.le_trans (Nat.le_of_ble_eq_true rfl) hR.2⟩ ⟨rfl, rfl⟩ ⟨Nat.zero_le _, Nat.zero_le _⟩ (Nat.le_of_ble_eq_true rfl) dX3_wordHere_11 ?_
    refine lv_if_ne (tgt := 19) X.1 X.2.1 dX3_wordHere_14 (by decide) (fun c7 => ?_) (fun c7 => ?_)
    · replace h := m_ifF c7 h
      refine lv_aload_n X.1 X.2.1 dX3_wordHere_19 rfl (lv_at hl 0 rfl) ?_
      obtain ⟨r9, e8, h⟩ := m_bS h
      refine m_callI X hl.1 I hA (As := []) (rest := []) (c_lettersHere l n D d s4  _ e8) 0 q1643 q1645 qs47 q107 q1646 (hd_lettersHere) rfl rfl ⟨Nat.le_trans (Nat.le_of_ble_eq_true rfl) hR.1, Nat.le_trans (Nat.le_of_ble_eq_true rfl) hR.2⟩ ⟨rfl, rfl⟩ ⟨Nat.zero_le _, Nat.zero_le _⟩ (Nat.le_of_ble_eq_true rfl) dX3_wordHere_20 (fun H locs I => ?_)
      refine lv_istore_n (lv' := [(1, .int r9), (0, .ref d.1)]) X.1 X.2.1 dX3_wordHere_23 rfl hl (by decide) rfl (fun ls hl => ?_)
      refine lv_iconst (v := 0) X.1 X.2.1 dX3_wordHere_24 (by decide) ?_
      refine lv_istore_n (lv' := [(2, .int 0), (1, .int r9), (0, .ref d.1)]) X.1 X.2.1 dX3_wordHere_25 rfl hl (by decide) rfl (fun ls hl => ?_)
      refine lv_iconst (v := 1) X.1 X.2.1 dX3_wordHere_26 (by decide) ?_
      refine lv_istore_n (lv' := [(3, .int 1), (2, .int 0), (1, .int r9), (0, .ref d.1)]) X.1 X.2.1 dX3_wordHere_27 rfl hl (by decide) rfl (fun ls hl => ?_)
      obtain ⟨⟨z29, s30⟩ | s32, e28, h⟩ := m_bS h
      · replace h := m_sL h
        refine wf_wordHere_L28 X hA hR n r9 _ _ e28 (fun H locs ls I hl => ?_) H locs ls I (lv_sub hl [3, 2, 1, 0] rfl)
        refine lv_iload_n X.1 X.2.1 dX3_wordHere_129 rfl (lv_at hl 0 rfl) ?_
        obtain ⟨rfl, rfl⟩ := m_e2 h
        exact hret H locs ls 130 dX3_wordHere_130 I
      · replace h := m_sR h
        refine wf_wordHere_L28 X hA hR n r9 _ _ e28 (fun H locs ls I hl => ?_) H locs ls I (lv_sub hl [3, 2, 1, 0] rfl)
        refine lv_iconst (v := (-1)) X.1 X.2.1 dX3_wordHere_142 (by decide) ?_
        obtain ⟨rfl, rfl⟩ := m_e2 h
        exact hret H locs ls 143 dX3_wordHere_143 I
    · replace h := m_ifT c7 h
      exact k17 s4 H locs ls h I (lv_sub hl [] rfl)
end S_wordHere
theorem c_wordHere (l : Launch) (n : Nat) (D : va_G) (d : MD) (st : MS) (r : Int32) (st' : MS) (h : f_wordHere n st = some (r, st')) : m_Mi l yX3_wordHere cX3_wordHere 7 (some .int) ({ frames := 4, cells := 0, slots := 0, locals := 85 } : Room) D d st [.ref d.1] r st' :=
  m_startI (lvl := [(0, .ref d.1)]) (by decide) rfl (Nat.le_of_ble_eq_true rfl) rfl (fun p e s m args below meth c ls X hr hlk hl hA I => w_wordHere X hA ⟨Nat.le_refl _, Nat.le_refl _⟩ n st (r, st') h (fun H locs ls pc hd I => m_iret X I hr hlk hd) _ _ ls I hl)

/-! method nameRead()J -/
def f_nameRead_L65 (n : Nat) (v3 : Int32) (v1 : Int64) (v4 : Int32) (st : MS) : Option ((Int64 × Int32 × MS) ⊕ (Int64 × MS)) :=
  m_if ((v3 : Int32) ≤ (v4 : Int32)) (some (.inr ((v1, st)))) (m_g (m_in ((st.1 12) + v4) 900) (m_b (some ((v1 <<< ((8 : Int32).toInt64 &&& 63)) ||| ((st.2.1 9 ((st.1 12) + v4 : Int32).toNatClampNeg : Int32).toInt64))) (fun y21 => some (.inl ((y21, v4 + 1, st))))))
def f_nameRead_L65l (n : Nat) (v3 : Int32) (x : (Int64 × Int32 × MS)) : Option (Int64 × MS) := m_lp (fun (x : (Int64 × Int32 × MS)) => f_nameRead_L65 n v3 x.1 x.2.1 x.2.2) n x
def f_nameRead_J36 (n : Nat) (st : MS) : Option (Int64 × MS) :=
  m_b (f_fails n st 1 (st.1 12)) (fun s9 => some (0, s9))
def f_nameRead (n : Nat) (st : MS) : Option (Int64 × MS) :=
  m_if ((st.1 13 : Int32) = 0) (m_b2 (f_peek n st) (fun r3 s4 => m_b (f_isLetter n r3) (fun r6 => m_if ((r6 : Int32) = 0) (f_nameRead_J36 n s4) (m_b (f_lettersHere n s4) (fun r11 => m_if ((8 : Int32) < (r11 : Int32)) (f_nameRead_J36 n s4) (m_b2 (f_wordHere n s4) (fun r14 s15 => m_if ((r14 : Int32) = ((-1) : Int32)) (m_b (f_lettersHere n (m_sg s15 16 (s15.1 12))) (fun r18 => m_b (f_nameRead_L65l n r18 ((0, 0, m_sg s15 16 (s15.1 12)))) (fun y26 => some (y26.1, m_sg y26.2 12 ((y26.2.1 12) + r18))))) (f_nameRead_J36 n s15)))))))) (some (0, st))
theorem hd_nameRead : yX3_nameRead.cls = RX3 ∧ yX3_nameRead.cls ≠ "java/lang/invoke/MethodHandle" ∧ yX3_nameRead.cls ≠ "java/lang/invoke/VarHandle" ∧ (parseMethodDescriptor yX3_nameRead.desc).map (fun d => d.parameters.length) = some 0 := by decide +kernel
section S_nameRead
variable {p : Program} {l : Launch} {e : Env} {R : Room} {s : State} {m : MethodId} {args : Array Value} {below : List Frame} {meth : Method} {c : Code} {Q : State → Prop} {D : va_G} {A : Nat → Prop} {d : MD}
theorem wf_nameRead_L65 (X : m_X D A d p s m c cX3_nameRead 5 args) (hA : ∀ q, s.heap.size ≤ q → A q) (hR : 5 ≤ R.frames ∧ 111 ≤ R.locals) (n : Nat) (v3 : Int32) (x : (Int64 × Int32 × MS)) (z : (Int64 × MS)) (hz : f_nameRead_L65l n v3 x = some z) (hE : (fun (z : (Int64 × MS)) => ∀ (H : Heap) (locs : List Loc) (ls : Array Slot), m_I D A d s.heap z.2 H locs → lv_has ls 5 [(0, .ref d.1), (1, .long z.1), (3, .int v3)] → W p l e R s m args below meth c H locs 0 0 Q (F0 m 96 ls [])) z) : (fun (x : (Int64 × Int32 × MS)) => ∀ (H : Heap) (locs : List Loc) (ls : Array Slot), m_I D A d s.heap x.2.2 H locs → lv_has ls 5 [(0, .ref d.1), (1, .long x.1), (3, .int v3), (4, .int x.2.1)] → W p l e R s m args below meth c H locs 0 0 Q (F0 m 65 ls [])) x := by
  refine m_lpW (G := fun (x : (Int64 × Int32 × MS)) => ∀ (H : Heap) (locs : List Loc) (ls : Array Slot), m_I D A d s.heap x.2.2 H locs → lv_has ls 5 [(0, .ref d.1), (1, .long x.1), (3, .int v3), (4, .int x.2.1)] → W p l e R s m args below meth c H locs 0 0 Q (F0 m 65 ls [])) (E := fun (z : (Int64 × MS)) => ∀ (H : Heap) (locs : List Loc) (ls : Array Slot), m_I D A d s.heap z.2 H locs → lv_has ls 5 [(0, .ref d.1), (1, .long z.1), (3, .int v3)] → W p l e R s m args below meth c H locs 0 0 Q (F0 m 96 ls [])) ?_ n x z hz hE
  rintro ⟨v1, v4, st⟩ r h hr H locs ls I hl
  replace h : f_nameRead_L65 n v3 v1 v4 st = some r := h
  unfold f_nameRead_L65 at h
  refine lv_iload X.1 X.2.1 dX3_nameRead_65 (lv_at hl 3 rfl) ?_
  refine lv_iload_n X.1 X.2.1 dX3_nameRead_67 rfl (lv_at hl 2 rfl) ?_
  refine lv_icmp_ge (tgt := 96) X.1 X.2.1 dX3_nameRead_68 (by decide) (fun c19 => ?_) (fun c19 => ?_)
  · replace h := m_ifT c19 h
    cases h
    exact hr H locs ls I (lv_sub hl [0, 1, 2] rfl)
  · replace h := m_ifF c19 h
    refine lv_lload_n X.1 X.2.1 dX3_nameRead_71 rfl (lv_at hl 1 rfl) ?_
    refine lv_bipush (v := 8) X.1 X.2.1 dX3_nameRead_72 (by decide) ?_
    refine lv_lshl X.1 X.2.1 dX3_nameRead_74 rfl ?_
    refine lv_aload_n X.1 X.2.1 dX3_nameRead_75 rfl (lv_at hl 0 rfl) ?_
    refine m_get X I 9 (by decide) rfl rfl rfl q1526 (v := .ref (d.2.1 9)) rfl dX3_nameRead_76 ?_
    refine lv_aload_n X.1 X.2.1 dX3_nameRead_79 rfl (lv_at hl 0 rfl) ?_
    refine m_get X I 12 (by decide) rfl rfl rfl q1529 (v := .int (st.1 12)) rfl dX3_nameRead_80 ?_
    refine lv_iload X.1 X.2.1 dX3_nameRead_83 (lv_at hl 3 rfl) ?_
    refine lv_iadd X.1 X.2.1 dX3_nameRead_85 ?_
    obtain ⟨g20, h⟩ := m_gS h
    refine m_bald X I 6 (n := 900) (f := st.2.1 9) rfl g20 dX3_nameRead_86 ?_
    refine lv_i2l X.1 X.2.1 dX3_nameRead_87 rfl ?_
    refine lv_lor X.1 X.2.1 dX3_nameRead_88 ?_
    obtain ⟨y21, e22, h⟩ := m_bS h
    rw [m_e1 e22]
    refine lv_lstore_n (lv' := [(1, .long y21), (0, .ref d.1), (3, .int v3), (4, .int v4)]) X.1 X.2.1 dX3_nameRead_89 rfl hl (by decide) rfl (fun ls hl => ?_)
    refine lv_iinc (v := v4 + 1) (lv' := [(4, .int (v4 + 1)), (1, .long y21), (0, .ref d.1), (3, .int v3)]) X.1 X.2.1 dX3_nameRead_90 hl (k := 3) rfl rfl (by decide) rfl (fun ls hl => ?_)
    refine lv_goto (tgt := 65) X.1 X.2.1 dX3_nameRead_93 (by decide) ?_
    cases h
    exact hr H locs ls I (lv_sub hl [2, 1, 3, 0] rfl)
theorem w_nameRead (X : m_X D A d p s m c cX3_nameRead 5 args) (hA : ∀ q, s.heap.size ≤ q → A q) (hR : 5 ≤ R.frames ∧ 111 ≤ R.locals) (n : Nat) (st : MS) (r : (Int64 × MS)) (h : f_nameRead n st = some r) (hret : ∀ (H : Heap) (locs : List Loc) (ls : Array Slot) (pc : Nat), decode cX3_nameRead pc = .ok (.lreturn, 1) → m_I D A d s.heap r.2 H locs → W p l e R s m args below meth c H locs 0 0 Q (F0 m pc ls [.long r.1])) : ∀ (H : Heap) (locs : List Loc) (ls : Array Slot), m_I D A d s.heap st H locs → lv_has ls 5 [(0, .ref d.1)] → W p l e R s m args below meth c H locs 0 0 Q (F0 m 0 ls []) := by
  obtain ⟨r0, s0⟩ := r
  have k36 : ∀ (st : MS) (H : Heap) (locs : List Loc) (ls : Array Slot), f_nameRead_J36 n st = some (r0, s0) → m_I D A d s.heap st H locs → lv_has ls 5 [(0, .ref d.1)] → W p l e R s m args below meth c H locs 0 0 Q (F0 m 36 ls []) := by
    intro st H locs ls h I hl
    unfold f_nameRead_J36 at h
    refine lv_aload_n X.1 X.2.1 dX3_nameRead_36 rfl (lv_at hl 0 rfl) ?_
    refine lv_iconst (v := 1) X.1 X.2.1 dX3_nameRead_37 (by decide) ?_
    refine lv_aload_n X.1 X.2.1 dX3_nameRead_38 rfl (lv_at hl 0 rfl) ?_
    refine m_get X I 12 (by decide) rfl rfl rfl q1529 (v := .int (st.1 12)) rfl dX3_nameRead_39 ?_
    obtain ⟨s9, e8, h⟩ := m_bS h
    refine m_callV X hl.1 I hA (As := [.int 1, .int (st.1 12)]) (rest := []) (c_fails l n D d st 1 (st.1 12) _ e8) 2 q1650 q1652 qs48 q107 q1653 (hd_fails) rfl rfl ⟨Nat.le_trans (Nat.le_of_ble_eq_true rfl) hR.1, Nat.le_trans (Nat.le_of_ble_eq_true rfl) hR.2⟩ ⟨rfl, rfl⟩ ⟨Nat.zero_le _, Nat.zero_le _⟩ (Nat.le_of_ble_eq_true rfl) dX3_nameRead_42 (fun H locs I => ?_)
    refine lv_lconst (v := 0) X.1 X.2.1 dX3_nameRead_45 (by decide) ?_
    obtain ⟨rfl, rfl⟩ := m_e2 h
    exact hret H locs ls 46 dX3_nameRead_46 I
  intro H locs ls I hl
  unfold f_nameRead at h
  refine lv_aload_n X.1 X.2.1 dX3_nameRead_0 rfl (lv_at hl 0 rfl) ?_
  refine m_get X I 13 (by decide) rfl rfl rfl q1530 (v := .int (st.1 13)) rfl dX3_nameRead_1 ?_
  refine lv_if_eq (tgt := 9) X.1 X.2.1 dX3_nameRead_4 (by decide) (fun c1 => ?_) (fun c1 => ?_)
  · replace h := m_ifT c1 h
    refine lv_aload_n X.1 X.2.1 dX3_nameRead_9 rfl (lv_at hl 0 rfl) ?_
    obtain ⟨r3, s4, e2, h⟩ := m_b2S h
    refine m_callI X hl.1 I hA (As := []) (rest := []) (c_peek l n D d st  _ _ e2) 0 q1626 q1628 qs44 q107 q1629 (hd_peek) rfl rfl ⟨Nat.le_trans (Nat.le_of_ble_eq_true rfl) hR.1, Nat.le_trans (Nat.le_of_ble_eq_true rfl) hR.2⟩ ⟨rfl, rfl⟩ ⟨Nat.zero_le _, Nat.zero_le _⟩ (Nat.le_of_ble_eq_true rfl) dX3_nameRead_10 (fun H locs I => ?_)
    obtain ⟨r6, e5, h⟩ := m_bS h
    refine m_callS X hl.1 (As := [.int r3]) (rest := []) (c_isLetter l n r3 _ e5) 1 q1638 q1639 q107 q1640 (hd_isLetter).2 rfl rfl ⟨Nat.le_trans (Nat.le_of_ble_eq_true rfl) hR.1, Nat.le_trans (Nat.le_of_ble_eq_true rfl) hR.2⟩ ⟨rfl, rfl⟩ ⟨Nat.zero_le _, Nat.zero_le _⟩ (Nat.le_of_ble_eq_true rfl) dX3_nameRead_13 ?_
    refine lv_if_eq (tgt := 36) X.1 X.2.1 dX3_nameRead_16 (by decide) (fun c7 => ?_) (fun c7 => ?_)
    · replace h := m_ifT c7 h
      exact k36 s4 H locs ls h I (lv_sub hl [0] rfl)
    · replace h := m_ifF c7 h
      refine lv_aload_n X.1 X.2.1 dX3_nameRead_19 rfl (lv_at hl 0 rfl) ?_
      obtain ⟨r11, e10, h⟩ := m_bS h
      refine m_callI X hl.1 I hA (As := []) (rest := []) (c_lettersHere l n D d s4  _ e10) 0 q1643 q1645 qs47 q107 q1646 (hd_lettersHere) rfl rfl ⟨Nat.le_trans (Nat.le_of_ble_eq_true rfl) hR.1, Nat.le_trans (Nat.le_of_ble_eq_true rfl) hR.2⟩ ⟨rfl, rfl⟩ ⟨Nat.zero_le _, Nat.zero_le _⟩ (Nat.le_of_ble_eq_true rfl) dX3_nameRead_20 (fun H locs I => ?_)
      refine lv_bipush (v := 8) X.1 X.2.1 dX3_nameRead_23 (by decide) ?_
      refine lv_icmp_gt (tgt := 36) X.1 X.2.1 dX3_nameRead_25 (by decide) (fun c12 => ?_) (fun c12 => ?_)
      · replace h := m_ifT c12 h
        exact k36 s4 H locs ls h I (lv_sub hl [0] rfl)
      · replace h := m_ifF c12 h
        refine lv_aload_n X.1 X.2.1 dX3_nameRead_28 rfl (lv_at hl 0 rfl) ?_
        obtain ⟨r14, s15, e13, h⟩ := m_b2S h
        refine m_callI X hl.1 I hA (As := []) (rest := []) (c_wordHere l n D d s4  _ _ e13) 0 q1634 q1636 qs46 q107 q1637 (hd_wordHere) rfl rfl ⟨Nat.le_trans (Nat.le_of_ble_eq_true rfl) hR.1, Nat.le_trans (Nat.le_of_ble_eq_true rfl) hR.2⟩ ⟨rfl, rfl⟩ ⟨Nat.zero_le _, Nat.zero_le _⟩ (Nat.le_of_ble_eq_true rfl) dX3_nameRead_29 (fun H locs I => ?_)
        refine lv_iconst (v := (-1)) X.1 X.2.1 dX3_nameRead_32 (by decide) ?_
        refine lv_icmp_eq (tgt := 47) X.1 X.2.1 dX3_nameRead_33 (by decide) (fun c16 => ?_) (fun c16 => ?_)
        · replace h := m_ifT c16 h
          refine lv_aload_n X.1 X.2.1 dX3_nameRead_47 rfl (lv_at hl 0 rfl) ?_
          refine lv_aload_n X.1 X.2.1 dX3_nameRead_48 rfl (lv_at hl 0 rfl) ?_
          refine m_get X I 12 (by decide) rfl rfl rfl q1529 (v := .int (s15.1 12)) rfl dX3_nameRead_49 ?_
          refine m_put X I 16 (by decide) rfl rfl rfl q1533 rfl (m_set16 d _ _) dX3_nameRead_52 (fun H locs I => ?_)
          refine lv_lconst (v := 0) X.1 X.2.1 dX3_nameRead_55 (by decide) ?_
          refine lv_lstore_n (lv' := [(1, .long 0), (0, .ref d.1)]) X.1 X.2.1 dX3_nameRead_56 rfl hl (by decide) rfl (fun ls hl => ?_)
          refine lv_aload_n X.1 X.2.1 dX3_nameRead_57 rfl (lv_at hl 1 rfl) ?_
          obtain ⟨r18, e17, h⟩ := m_bS h
          refine m_callI X hl.1 I hA (As := []) (rest := []) (c_lettersHere l n D d (m_sg s15 16 (s15.1 12))  _ e17) 0 q1643 q1645 qs47 q107 q1646 (hd_lettersHere) rfl rfl ⟨Nat.le_trans (Nat.le_of_ble_eq_true rfl) hR.1, Nat.le_trans (Nat.le_of_ble_eq_true rfl) hR.2⟩ ⟨rfl, rfl⟩ ⟨Nat.zero_le _, Nat.zero_le _⟩ (Nat.le_of_ble_eq_true rfl) dX3_nameRead_58 (fun H locs I => ?_)
          refine lv_istore_n (lv' := [(3, .int r18), (1, .long 0), (0, .ref d.1)]) X.1 X.2.1 dX3_nameRead_61 rfl hl (by decide) rfl (fun ls hl => ?_)
          refine lv_iconst (v := 0) X.1 X.2.1 dX3_nameRead_62 (by decide) ?_
          refine lv_istore (lv' := [(4, .int 0), (3, .int r18), (1, .long 0), (0, .ref d.1)]) X.1 X.2.1 dX3_nameRead_63 hl (by decide) rfl (fun ls hl => ?_)
          obtain ⟨⟨z24, s25⟩, e23, h⟩ := m_bS h
          refine wf_nameRead_L65 X hA hR n r18 _ _ e23 (fun H locs ls I hl => ?_) H locs ls I (lv_sub hl [3, 2, 1, 0] rfl)
          refine lv_aload_n X.1 X.2.1 dX3_nameRead_96 rfl (lv_at hl 0 rfl) ?_
          refine lv_dup X.1 X.2.1 dX3_nameRead_97 rfl ?_
          refine m_get X I 12 (by decide) rfl rfl rfl q1529 (v := .int (s25.1 12)) rfl dX3_nameRead_98 ?_
          refine lv_iload_n X.1 X.2.1 dX3_nameRead_101 rfl (lv_at hl 2 rfl) ?_
          refine lv_iadd X.1 X.2.1 dX3_nameRead_102 ?_
          refine m_put X I 12 (by decide) rfl rfl rfl q1529 rfl (m_set12 d _ _) dX3_nameRead_103 (fun H locs I => ?_)
          refine lv_lload_n X.1 X.2.1 dX3_nameRead_106 rfl (lv_at hl 1 rfl) ?_
          obtain ⟨rfl, rfl⟩ := m_e2 h
          exact hret H locs ls 107 dX3_nameRead_107 I
        · replace h := m_ifF c16 h
          exact k36 s15 H locs ls h I (lv_sub hl [0] rfl)
  · replace h := m_ifF c1 h
    refine lv_lconst (v := 0) X.1 X.2.1 dX3_nameRead_7 (by decide) ?_
    obtain ⟨rfl, rfl⟩ := m_e2 h
    exact hret H locs ls 8 dX3_nameRead_8 I
end S_nameRead
theorem c_nameRead (l : Launch) (n : Nat) (D : va_G) (d : MD) (st : MS) (r : Int64) (st' : MS) (h : f_nameRead n st = some (r, st')) : m_Ml l yX3_nameRead cX3_nameRead 5 (some .long) ({ frames := 5, cells := 0, slots := 0, locals := 111 } : Room) D d st [.ref d.1] r st' :=
  m_startL (lvl := [(0, .ref d.1)]) (by decide) rfl (Nat.le_of_ble_eq_true rfl) rfl (fun p e s m args below meth c ls X hr hlk hl hA I => w_nameRead X hA ⟨Nat.le_refl _, Nat.le_refl _⟩ n st (r, st') h (fun H locs ls pc hd I => m_lret X I hr hlk hd) _ _ ls I hl)

/-! method numeral(II)I -/
def f_numeral_J98 (n : Nat) (st : MS) (v1 : Int32) (v2 : Int32) (v3 : Int32) : Option ((Int32 × MS) ⊕ (Int32 × MS)) :=
  some (.inl ((v3, m_sg st 12 ((st.1 12) + 1))))
def f_numeral_L40 (n : Nat) (v1 : Int32) (v2 : Int32) (v3 : Int32) (st : MS) : Option ((Int32 × MS) ⊕ (Int32 × MS)) :=
  m_if ((st.1 11 : Int32) ≤ (st.1 12 : Int32)) (some (.inr ((v3, st)))) (m_g (m_in (st.1 12) 900) (m_b (f_isDigit n (st.2.1 9 (st.1 12 : Int32).toNatClampNeg)) (fun r11 => m_if ((r11 : Int32) = 0) (some (.inr ((v3, st)))) (m_if ((8 : Int32) ≤ ((st.1 12) - (st.1 16) : Int32)) (f_numeral_J98 n st v1 v2 v3) (m_g (m_in (st.1 12) 900) (m_b (some (((10 * v3) + (st.2.1 9 (st.1 12 : Int32).toNatClampNeg)) - 48)) (fun y15 => f_numeral_J98 n st v1 v2 y15)))))))
def f_numeral_L40l (n : Nat) (v1 : Int32) (v2 : Int32) (x : (Int32 × MS)) : Option (Int32 × MS) := m_lp (fun (x : (Int32 × MS)) => f_numeral_L40 n v1 v2 x.1 x.2) n x
def f_numeral_J158 (n : Nat) (st : MS) (t0 : Int32) : Option (Int32 × MS) :=
  some (t0, st)
def f_numeral_J146 (n : Nat) (st : MS) (v1 : Int32) (v3 : Int32) : Option (Int32 × MS) :=
  m_if ((st.1 13 : Int32) = 0) (f_numeral_J158 n st v3) (f_numeral_J158 n st v1)
def f_numeral_J137 (n : Nat) (st : MS) (v1 : Int32) (v3 : Int32) : Option (Int32 × MS) :=
  m_b (f_fails n st 2 (st.1 16)) (fun s22 => f_numeral_J146 n s22 v1 v3)
def f_numeral (n : Nat) (st : MS) (p0 : Int32) (p1 : Int32) : Option (Int32 × MS) :=
  m_if ((st.1 13 : Int32) = 0) (m_b2 (f_peek n st) (fun r3 s4 => m_b (f_isDigit n r3) (fun r6 => m_if ((r6 : Int32) = 0) (m_b (f_fails n s4 1 (s4.1 12)) (fun s29 => some (p0, s29))) (m_b (f_numeral_L40l n p0 p1 ((0, m_sg s4 16 (s4.1 12)))) (fun y27 => m_if ((8 : Int32) < ((y27.2.1 12) - (y27.2.1 16) : Int32)) (f_numeral_J137 n y27.2 p0 y27.1) (m_b (f_isIn n y27.1.toInt64 p0.toInt64 p1.toInt64) (fun r25 => m_if ((r25 : Int32) = 0) (f_numeral_J137 n y27.2 p0 y27.1) (f_numeral_J146 n y27.2 p0 y27.1)))))))) (some (p0, st))
theorem hd_numeral : yX3_numeral.cls = RX3 ∧ yX3_numeral.cls ≠ "java/lang/invoke/MethodHandle" ∧ yX3_numeral.cls ≠ "java/lang/invoke/VarHandle" ∧ (parseMethodDescriptor yX3_numeral.desc).map (fun d => d.parameters.length) = some 2 := by decide +kernel
section S_numeral
variable {p : Program} {l : Launch} {e : Env} {R : Room} {s : State} {m : MethodId} {args : Array Value} {below : List Frame} {meth : Method} {c : Code} {Q : State → Prop} {D : va_G} {A : Nat → Prop} {d : MD}
theorem wf_numeral_L40 (X : m_X D A d p s m c cX3_numeral 4 args) (hA : ∀ q, s.heap.size ≤ q → A q) (hR : 2 ≤ R.frames ∧ 45 ≤ R.locals) (n : Nat) (v1 : Int32) (v2 : Int32) (x : (Int32 × MS)) (z : (Int32 × MS)) (hz : f_numeral_L40l n v1 v2 x = some z) (hE : (fun (z : (Int32 × MS)) => ∀ (H : Heap) (locs : List Loc) (ls : Array Slot), m_I D A d s.heap z.2 H locs → lv_has ls 4 [(0, .ref d.1), (1, .int v1), (2, .int v2), (3, .int z.1)] → W p l e R s m args below meth c H locs 0 0 Q (F0 m 111 ls [])) z) : (fun (x : (Int32 × MS)) => ∀ (H : Heap) (locs : List Loc) (ls : Array Slot), m_I D A d s.heap x.2 H locs → lv_has ls 4 [(0, .ref d.1), (1, .int v1), (2, .int v2), (3, .int x.1)] → W p l e R s m args below meth c H locs 0 0 Q (F0 m 40 ls [])) x := by
  refine m_lpW (G := fun (x : (Int32 × MS)) => ∀ (H : Heap) (locs : List Loc) (ls : Array Slot), m_I D A d s.heap x.2 H locs → lv_has ls 4 [(0, .ref d.1), (1, .int v1), (2, .int v2), (3, .int x.1)] → W p l e R s m args below meth c H locs 0 0 Q (F0 m 40 ls [])) (E := fun (z : (Int32 × MS)) => ∀ (H : Heap) (locs : List Loc) (ls : Array Slot), m_I D A d s.heap z.2 H locs → lv_has ls 4 [(0, .ref d.1), (1, .int v1), (2, .int v2), (3, .int z.1)] → W p l e R s m args below meth c H locs 0 0 Q (F0 m 111 ls [])) ?_ n x z hz hE
  rintro ⟨v3, st⟩ r h hr H locs ls I hl
  replace h : f_numeral_L40 n v1 v2 v3 st = some r := h
  have k98 : ∀ (st : MS) (v3 : Int32) (H : Heap) (locs : List Loc) (ls : Array Slot), f_numeral_J98 n st v1 v2 v3 = some r → m_I D A d s.heap st H locs → lv_has ls 4 [(0, .ref d.1), (1, .int v1), (2, .int v2), (3, .int v3)] → W p l e R s m args below meth c H locs 0 0 Q (F0 m 98 ls []) := by
    intro st v3 H locs ls h I hl
    unfold f_numeral_J98 at h
    refine lv_aload_n X.1 X.2.1 dX3_numeral_98 rfl (lv_at hl 0 rfl) ?_
    refine lv_dup X.1 X.2.1 dX3_numeral_99 rfl ?_
    refine m_get X I 12 (by decide) rfl rfl rfl q1529 (v := .int (st.1 12)) rfl dX3_numeral_100 ?_
    refine lv_iconst (v := 1) X.1 X.2.1 dX3_numeral_103 (by decide) ?_
    refine lv_iadd X.1 X.2.1 dX3_numeral_104 ?_
    refine m_put X I 12 (by decide) rfl rfl rfl q1529 rfl (m_set12 d _ _) dX3_numeral_105 (fun H locs I => ?_)
    refine lv_goto (tgt := 40) X.1 X.2.1 dX3_numeral_108 (by decide) ?_
    cases h
    exact hr H locs ls I (lv_sub hl [0, 1, 2, 3] rfl)
  unfold f_numeral_L40 at h
  refine lv_aload_n X.1 X.2.1 dX3_numeral_40 rfl (lv_at hl 0 rfl) ?_
  refine m_get X I 12 (by decide) rfl rfl rfl q1529 (v := .int (st.1 12)) rfl dX3_numeral_41 ?_
  refine lv_aload_n X.1 X.2.1 dX3_numeral_44 rfl (lv_at hl 0 rfl) ?_
  refine m_get X I 11 (by decide) rfl rfl rfl q1528 (v := .int (st.1 11)) rfl dX3_numeral_45 ?_
  refine lv_icmp_ge (tgt := 111) X.1 X.2.1 dX3_numeral_48 (by decide) (fun c8 => ?_) (fun c8 => ?_)
  · replace h := m_ifT c8 h
    cases h
    exact hr H locs ls I (lv_sub hl [0, 1, 2, 3] rfl)
  · replace h := m_ifF c8 h
    refine lv_aload_n X.1 X.2.1 dX3_numeral_51 rfl (lv_at hl 0 rfl) ?_
    refine m_get X I 9 (by decide) rfl rfl rfl q1526 (v := .ref (d.2.1 9)) rfl dX3_numeral_52 ?_
    refine lv_aload_n X.1 X.2.1 dX3_numeral_55 rfl (lv_at hl 0 rfl) ?_
    refine m_get X I 12 (by decide) rfl rfl rfl q1529 (v := .int (st.1 12)) rfl dX3_numeral_56 ?_
    obtain ⟨g9, h⟩ := m_gS h
    refine m_bald X I 6 (n := 900) (f := st.2.1 9) rfl g9 dX3_numeral_59 ?_
    obtain ⟨r11, e10, h⟩ := m_bS h
    refine m_callS X hl.1 (As := [.int (st.2.1 9 (st.1 12 : Int32).toNatClampNeg)]) (rest := []) (c_isDigit l n (st.2.1 9 (st.1 12 : Int32).toNatClampNeg) _ e10) 1 q1678 q1679 q107 q1680 (hd_isDigit).2 rfl rfl ⟨Nat.le_trans (Nat.le_of_ble_eq_true rfl) hR.1, Nat.le_trans (Nat.le_of_ble_eq_true rfl) hR.2⟩ ⟨rfl, rfl⟩ ⟨Nat.zero_le _, Nat.zero_le _⟩ (Nat.le_of_ble_eq_true rfl) dX3_numeral_60 ?_
    refine lv_if_eq (tgt := 111) X.1 X.2.1 dX3_numeral_63 (by decide) (fun c12 => ?_) (fun c12 => ?_)
    · replace h := m_ifT c12 h
      cases h
      exact hr H locs ls I (lv_sub hl [0, 1, 2, 3] rfl)
    · replace h := m_ifF c12 h
      refine lv_aload_n X.1 X.2.1 dX3_numeral_66 rfl (lv_at hl 0 rfl) ?_
      refine m_get X I 12 (by decide) rfl rfl rfl q1529 (v := .int (st.1 12)) rfl dX3_numeral_67 ?_
      refine lv_aload_n X.1 X.2.1 dX3_numeral_70 rfl (lv_at hl 0 rfl) ?_
      refine m_get X I 16 (by decide) rfl rfl rfl q1533 (v := .int (st.1 16)) rfl dX3_numeral_71 ?_
      refine lv_isub X.1 X.2.1 dX3_numeral_74 ?_
      refine lv_bipush (v := 8) X.1 X.2.1 dX3_numeral_75 (by decide) ?_
      refine lv_icmp_ge (tgt := 98) X.1 X.2.1 dX3_numeral_77 (by decide) (fun c13 => ?_) (fun c13 => ?_)
      · replace h := m_ifT c13 h
        exact k98 st v3 H locs ls h I (lv_sub hl [0, 1, 2, 3] rfl)
      · replace h := m_ifF c13 h
        refine lv_bipush (v := 10) X.1 X.2.1 dX3_numeral_80 (by decide) ?_
        refine lv_iload_n X.1 X.2.1 dX3_numeral_82 rfl (lv_at hl 3 rfl) ?_
        refine lv_imul X.1 X.2.1 dX3_numeral_83 ?_
        refine lv_aload_n X.1 X.2.1 dX3_numeral_84 rfl (lv_at hl 0 rfl) ?_
        refine m_get X I 9 (by decide) rfl rfl rfl q1526 (v := .ref (d.2.1 9)) rfl dX3_numeral_85 ?_
        refine lv_aload_n X.1 X.2.1 dX3_numeral_88 rfl (lv_at hl 0 rfl) ?_
        refine m_get X I 12 (by decide) rfl rfl rfl q1529 (v := .int (st.1 12)) rfl dX3_numeral_89 ?_
        obtain ⟨g14, h⟩ := m_gS h
        refine m_bald X I 6 (n := 900) (f := st.2.1 9) rfl g14 dX3_numeral_92 ?_
        refine lv_iadd X.1 X.2.1 dX3_numeral_93 ?_
        refine lv_bipush (v := 48) X.1 X.2.1 dX3_numeral_94 (by decide) ?_
        refine lv_isub X.1 X.2.1 dX3_numeral_96 ?_
        obtain ⟨y15, e16, h⟩ := m_bS h
        rw [m_e1 e16]
        refine lv_istore_n (lv' := [(3, .int y15), (0, .ref d.1), (1, .int v1), (2, .int v2)]) X.1 X.2.1 dX3_numeral_97 rfl hl (by decide) rfl (fun ls hl => ?_)
        exact k98 st y15 H locs ls h I (lv_sub hl [1, 2, 3, 0] rfl)
theorem w_numeral (X : m_X D A d p s m c cX3_numeral 4 args) (hA : ∀ q, s.heap.size ≤ q → A q) (hR : 2 ≤ R.frames ∧ 45 ≤ R.locals) (n : Nat) (st : MS) (p0 : Int32) (p1 : Int32) (r : (Int32 × MS)) (h : f_numeral n st p0 p1 = some r) (hret : ∀ (H : Heap) (locs : List Loc) (ls : Array Slot) (pc : Nat), decode cX3_numeral pc = .ok (.ireturn, 1) → m_I D A d s.heap r.2 H locs → W p l e R s m args below meth c H locs 0 0 Q (F0 m pc ls [.int r.1])) : ∀ (H : Heap) (locs : List Loc) (ls : Array Slot), m_I D A d s.heap st H locs → lv_has ls 4 [(0, .ref d.1), (1, .int p0), (2, .int p1)] → W p l e R s m args below meth c H locs 0 0 Q (F0 m 0 ls []) := by
  obtain ⟨r0, s0⟩ := r
  have k158 : ∀ (st : MS) (t0 : Int32) (H : Heap) (locs : List Loc) (ls : Array Slot), f_numeral_J158 n st t0 = some (r0, s0) → m_I D A d s.heap st H locs → lv_has ls 4 [] → W p l e R s m args below meth c H locs 0 0 Q (F0 m 158 ls [.int t0]) := by
    intro st t0 H locs ls h I hl
    unfold f_numeral_J158 at h
    obtain ⟨rfl, rfl⟩ := m_e2 h
    exact hret H locs ls 158 dX3_numeral_158 I
  have k146 : ∀ (st : MS) (v1 : Int32) (v3 : Int32) (H : Heap) (locs : List Loc) (ls : Array Slot), f_numeral_J146 n st v1 v3 = some (r0, s0) → m_I D A d s.heap st H locs → lv_has ls 4 [(0, .ref d.1), (1, .int v1), (3, .int v3)] → W p l e R s m args below meth c H locs 0 0 Q (F0 m 146 ls []) := by
    intro st v1 v3 H locs ls h I hl
    unfold f_numeral_J146 at h
    refine lv_aload_n X.1 X.2.1 dX3_numeral_146 rfl (lv_at hl 0 rfl) ?_
    refine m_get X I 13 (by decide) rfl rfl rfl q1530 (v := .int (st.1 13)) rfl dX3_numeral_147 ?_
    refine lv_if_ne (tgt := 157) X.1 X.2.1 dX3_numeral_150 (by decide) (fun c23 => ?_) (fun c23 => ?_)
    · replace h := m_ifF c23 h
      refine lv_iload_n X.1 X.2.1 dX3_numeral_157 rfl (lv_at hl 1 rfl) ?_
      exact k158 st v1 H locs ls h I (lv_sub hl [] rfl)
    · replace h := m_ifT c23 h
      refine lv_iload_n X.1 X.2.1 dX3_numeral_153 rfl (lv_at hl 2 rfl) ?_
      refine lv_goto (tgt := 158) X.1 X.2.1 dX3_numeral_154 (by decide) ?_
      exact k158 st v3 H locs ls h I (lv_sub hl [] rfl)
  have k137 : ∀ (st : MS) (v1 : Int32) (v3 : Int32) (H : Heap) (locs : List Loc) (ls : Array Slot), f_numeral_J137 n st v1 v3 = some (r0, s0) → m_I D A d s.heap st H locs → lv_has ls 4 [(0, .ref d.1), (1, .int v1), (3, .int v3)] → W p l e R s m args below meth c H locs 0 0 Q (F0 m 137 ls []) := by
    intro st v1 v3 H locs ls h I hl
    unfold f_numeral_J137 at h
    refine lv_aload_n X.1 X.2.1 dX3_numeral_137 rfl (lv_at hl 0 rfl) ?_
    refine lv_iconst (v := 2) X.1 X.2.1 dX3_numeral_138 (by decide) ?_
    refine lv_aload_n X.1 X.2.1 dX3_numeral_139 rfl (lv_at hl 0 rfl) ?_
    refine m_get X I 16 (by decide) rfl rfl rfl q1533 (v := .int (st.1 16)) rfl dX3_numeral_140 ?_
    obtain ⟨s22, e21, h⟩ := m_bS h
    refine m_callV X hl.1 I hA (As := [.int 2, .int (st.1 16)]) (rest := []) (c_fails l n D d st 2 (st.1 16) _ e21) 2 q1650 q1652 qs48 q107 q1653 (hd_fails) rfl rfl ⟨Nat.le_trans (Nat.le_of_ble_eq_true rfl) hR.1, Nat.le_trans (Nat.le_of_ble_eq_true rfl) hR.2⟩ ⟨rfl, rfl⟩ ⟨Nat.zero_le _, Nat.zero_le _⟩ (Nat.le_of_ble_eq_true rfl) dX3_numeral_143 (fun H locs I => ?_)
    exact k146 s22 v1 v3 H locs ls h I (lv_sub hl [0, 1, 2] rfl)
  intro H locs ls I hl
  unfold f_numeral at h
  refine lv_aload_n X.1 X.2.1 dX3_numeral_0 rfl (lv_at hl 0 rfl) ?_
  refine m_get X I 13 (by decide) rfl rfl rfl q1530 (v := .int (st.1 13)) rfl dX3_numeral_1 ?_
  refine lv_if_eq (tgt := 9) X.1 X.2.1 dX3_numeral_4 (by decide) (fun c1 => ?_) (fun c1 => ?_)
  · replace h := m_ifT c1 h
    refine lv_aload_n X.1 X.2.1 dX3_numeral_9 rfl (lv_at hl 0 rfl) ?_
    obtain ⟨r3, s4, e2, h⟩ := m_b2S h
    refine m_callI X hl.1 I hA (As := []) (rest := []) (c_peek l n D d st  _ _ e2) 0 q1626 q1628 qs44 q107 q1629 (hd_peek) rfl rfl ⟨Nat.le_trans (Nat.le_of_ble_eq_true rfl) hR.1, Nat.le_trans (Nat.le_of_ble_eq_true rfl) hR.2⟩ ⟨rfl, rfl⟩ ⟨Nat.zero_le _, Nat.zero_le _⟩ (Nat.le_of_ble_eq_true rfl) dX3_numeral_10 (fun H locs I => ?_)
    obtain ⟨r6, e5, h⟩ := m_bS h
    refine m_callS X hl.1 (As := [.int r3]) (rest := []) (c_isDigit l n r3 _ e5) 1 q1678 q1679 q107 q1680 (hd_isDigit).2 rfl rfl ⟨Nat.le_trans (Nat.le_of_ble_eq_true rfl) hR.1, Nat.le_trans (Nat.le_of_ble_eq_true rfl) hR.2⟩ ⟨rfl, rfl⟩ ⟨Nat.zero_le _, Nat.zero_le _⟩ (Nat.le_of_ble_eq_true rfl) dX3_numeral_13 ?_
    refine lv_if_ne (tgt := 30) X.1 X.2.1 dX3_numeral_16 (by decide) (fun c7 => ?_) (fun c7 => ?_)
    · replace h := m_ifF c7 h
      refine lv_aload_n X.1 X.2.1 dX3_numeral_30 rfl (lv_at hl 0 rfl) ?_
      refine lv_aload_n X.1 X.2.1 dX3_numeral_31 rfl (lv_at hl 0 rfl) ?_
      refine m_get X I 12 (by decide) rfl rfl rfl q1529 (v := .int (s4.1 12)) rfl dX3_numeral_32 ?_
      refine m_put X I 16 (by decide) rfl rfl rfl q1533 rfl (m_set16 d _ _) dX3_numeral_35 (fun H locs I => ?_)
      refine lv_iconst (v := 0) X.1 X.2.1 dX3_numeral_38 (by decide) ?_
      refine lv_istore_n (lv' := [(3, .int 0), (0, .ref d.1), (1, .int p0), (2, .int p1)]) X.1 X.2.1 dX3_numeral_39 rfl hl (by decide) rfl (fun ls hl => ?_)
      obtain ⟨⟨z18, s19⟩, e17, h⟩ := m_bS h
      refine wf_numeral_L40 X hA hR n p0 p1 _ _ e17 (fun H locs ls I hl => ?_) H locs ls I (lv_sub hl [1, 2, 3, 0] rfl)
      refine lv_aload_n X.1 X.2.1 dX3_numeral_111 rfl (lv_at hl 0 rfl) ?_
      refine m_get X I 12 (by decide) rfl rfl rfl q1529 (v := .int (s19.1 12)) rfl dX3_numeral_112 ?_
      refine lv_aload_n X.1 X.2.1 dX3_numeral_115 rfl (lv_at hl 0 rfl) ?_
      refine m_get X I 16 (by decide) rfl rfl rfl q1533 (v := .int (s19.1 16)) rfl dX3_numeral_116 ?_
      refine lv_isub X.1 X.2.1 dX3_numeral_119 ?_
      refine lv_bipush (v := 8) X.1 X.2.1 dX3_numeral_120 (by decide) ?_
      refine lv_icmp_gt (tgt := 137) X.1 X.2.1 dX3_numeral_122 (by decide) (fun c20 => ?_) (fun c20 => ?_)
      · replace h := m_ifT c20 h
        exact k137 s19 p0 z18 H locs ls h I (lv_sub hl [0, 1, 3] rfl)
      · replace h := m_ifF c20 h
        refine lv_iload_n X.1 X.2.1 dX3_numeral_125 rfl (lv_at hl 3 rfl) ?_
        refine lv_i2l X.1 X.2.1 dX3_numeral_126 rfl ?_
        refine lv_iload_n X.1 X.2.1 dX3_numeral_127 rfl (lv_at hl 1 rfl) ?_
        refine lv_i2l X.1 X.2.1 dX3_numeral_128 rfl ?_
        refine lv_iload_n X.1 X.2.1 dX3_numeral_129 rfl (lv_at hl 2 rfl) ?_
        refine lv_i2l X.1 X.2.1 dX3_numeral_130 rfl ?_
        obtain ⟨r25, e24, h⟩ := m_bS h
        refine m_callS X hl.1 (As := [.long z18.toInt64, .long p0.toInt64, .long p1.toInt64]) (rest := []) (c_isIn l n z18.toInt64 p0.toInt64 p1.toInt64 _ e24) 3 q1623 q1624 q107 q1625 (hd_isIn).2 rfl rfl ⟨Nat.le_trans (Nat.le_of_ble_eq_true rfl) hR.1, Nat.le_trans (Nat.le_of_ble_eq_true rfl) hR.2⟩ ⟨rfl, rfl⟩ ⟨Nat.zero_le _, Nat.zero_le _⟩ (Nat.le_of_ble_eq_true rfl) dX3_numeral_131 ?_
        refine lv_if_ne (tgt := 146) X.1 X.2.1 dX3_numeral_134 (by decide) (fun c26 => ?_) (fun c26 => ?_)
        · replace h := m_ifF c26 h
          exact k146 s19 p0 z18 H locs ls h I (lv_sub hl [0, 1, 3] rfl)
        · replace h := m_ifT c26 h
          exact k137 s19 p0 z18 H locs ls h I (lv_sub hl [0, 1, 3] rfl)
    · replace h := m_ifT c7 h
      refine lv_aload_n X.1 X.2.1 dX3_numeral_19 rfl (lv_at hl 0 rfl) ?_
      refine lv_iconst (v := 1) X.1 X.2.1 dX3_numeral_20 (by decide) ?_
      refine lv_aload_n X.1 X.2.1 dX3_numeral_21 rfl (lv_at hl 0 rfl) ?_
      refine m_get X I 12 (by decide) rfl rfl rfl q1529 (v := .int (s4.1 12)) rfl dX3_numeral_22 ?_
      obtain ⟨s29, e28, h⟩ := m_bS h
      refine m_callV X hl.1 I hA (As := [.int 1, .int (s4.1 12)]) (rest := []) (c_fails l n D d s4 1 (s4.1 12) _ e28) 2 q1650 q1652 qs48 q107 q1653 (hd_fails) rfl rfl ⟨Nat.le_trans (Nat.le_of_ble_eq_true rfl) hR.1, Nat.le_trans (Nat.le_of_ble_eq_true rfl) hR.2⟩ ⟨rfl, rfl⟩ ⟨Nat.zero_le _, Nat.zero_le _⟩ (Nat.le_of_ble_eq_true rfl) dX3_numeral_25 (fun H locs I => ?_)
      refine lv_iload_n X.1 X.2.1 dX3_numeral_28 rfl (lv_at hl 1 rfl) ?_
      obtain ⟨rfl, rfl⟩ := m_e2 h
      exact hret H locs ls 29 dX3_numeral_29 I
  · replace h := m_ifF c1 h
    refine lv_iload_n X.1 X.2.1 dX3_numeral_7 rfl (lv_at hl 1 rfl) ?_
    obtain ⟨rfl, rfl⟩ := m_e2 h
    exact hret H locs ls 8 dX3_numeral_8 I
end S_numeral
theorem c_numeral (l : Launch) (n : Nat) (D : va_G) (d : MD) (st : MS) (p0 : Int32) (p1 : Int32) (r : Int32) (st' : MS) (h : f_numeral n st p0 p1 = some (r, st')) : m_Mi l yX3_numeral cX3_numeral 4 (some .int) ({ frames := 2, cells := 0, slots := 0, locals := 45 } : Room) D d st [.ref d.1, .int p0, .int p1] r st' :=
  m_startI (lvl := [(0, .ref d.1), (1, .int p0), (2, .int p1)]) (by decide) rfl (Nat.le_of_ble_eq_true rfl) rfl (fun p e s m args below meth c ls X hr hlk hl hA I => w_numeral X hA ⟨Nat.le_refl _, Nat.le_refl _⟩ n st p0 p1 (r, st') h (fun H locs ls pc hd I => m_iret X I hr hlk hd) _ _ ls I hl)

/-! method partyRead()I -/
def f_partyRead_J40 (n : Nat) (st : MS) (t0 : Int32) : Option (Int32 × MS) :=
  some (t0, st)
def f_partyRead_J28 (n : Nat) (st : MS) (v1 : Int32) : Option (Int32 × MS) :=
  m_if ((st.1 13 : Int32) = 0) (f_partyRead_J40 n st v1) (f_partyRead_J40 n st 0)
def f_partyRead (n : Nat) (st : MS) : Option (Int32 × MS) :=
  m_b2 (f_nameRead n st) (fun r2 s3 => m_b (f_find n s3 r2 0 (s3.1 5)) (fun r5 => m_if ((r5 : Int32) = ((-1) : Int32)) (m_b (f_fails n s3 3 (s3.1 16)) (fun s9 => f_partyRead_J28 n s9 r5)) (f_partyRead_J28 n s3 r5)))
theorem hd_partyRead : yX3_partyRead.cls = RX3 ∧ yX3_partyRead.cls ≠ "java/lang/invoke/MethodHandle" ∧ yX3_partyRead.cls ≠ "java/lang/invoke/VarHandle" ∧ (parseMethodDescriptor yX3_partyRead.desc).map (fun d => d.parameters.length) = some 0 := by decide +kernel
section S_partyRead
variable {p : Program} {l : Launch} {e : Env} {R : Room} {s : State} {m : MethodId} {args : Array Value} {below : List Frame} {meth : Method} {c : Code} {Q : State → Prop} {D : va_G} {A : Nat → Prop} {d : MD}
theorem w_partyRead (X : m_X D A d p s m c cX3_partyRead 2 args) (hA : ∀ q, s.heap.size ≤ q → A q) (hR : 6 ≤ R.frames ∧ 135 ≤ R.locals) (n : Nat) (st : MS) (r : (Int32 × MS)) (h : f_partyRead n st = some r) (hret : ∀ (H : Heap) (locs : List Loc) (ls : Array Slot) (pc : Nat), decode cX3_partyRead pc = .ok (.ireturn, 1) → m_I D A d s.heap r.2 H locs → W p l e R s m args below meth c H locs 0 0 Q (F0 m pc ls [.int r.1])) : ∀ (H : Heap) (locs : List Loc) (ls : Array Slot), m_I D A d s.heap st H locs → lv_has ls 2 [(0, .ref d.1)] → W p l e R s m args below meth c H locs 0 0 Q (F0 m 0 ls []) := by
  obtain ⟨r0, s0⟩ := r
  have k40 : ∀ (st : MS) (t0 : Int32) (H : Heap) (locs : List Loc) (ls : Array Slot), f_partyRead_J40 n st t0 = some (r0, s0) → m_I D A d s.heap st H locs → lv_has ls 2 [] → W p l e R s m args below meth c H locs 0 0 Q (F0 m 40 ls [.int t0]) := by
    intro st t0 H locs ls h I hl
    unfold f_partyRead_J40 at h
    obtain ⟨rfl, rfl⟩ := m_e2 h
    exact hret H locs ls 40 dX3_partyRead_40 I
  have k28 : ∀ (st : MS) (v1 : Int32) (H : Heap) (locs : List Loc) (ls : Array Slot), f_partyRead_J28 n st v1 = some (r0, s0) → m_I D A d s.heap st H locs → lv_has ls 2 [(0, .ref d.1), (1, .int v1)] → W p l e R s m args below meth c H locs 0 0 Q (F0 m 28 ls []) := by
    intro st v1 H locs ls h I hl
    unfold f_partyRead_J28 at h
    refine lv_aload_n X.1 X.2.1 dX3_partyRead_28 rfl (lv_at hl 0 rfl) ?_
    refine m_get X I 13 (by decide) rfl rfl rfl q1530 (v := .int (st.1 13)) rfl dX3_partyRead_29 ?_
    refine lv_if_ne (tgt := 39) X.1 X.2.1 dX3_partyRead_32 (by decide) (fun c7 => ?_) (fun c7 => ?_)
    · replace h := m_ifF c7 h
      refine lv_iconst (v := 0) X.1 X.2.1 dX3_partyRead_39 (by decide) ?_
      exact k40 st 0 H locs ls h I (lv_sub hl [] rfl)
    · replace h := m_ifT c7 h
      refine lv_iload_n X.1 X.2.1 dX3_partyRead_35 rfl (lv_at hl 1 rfl) ?_
      refine lv_goto (tgt := 40) X.1 X.2.1 dX3_partyRead_36 (by decide) ?_
      exact k40 st v1 H locs ls h I (lv_sub hl [] rfl)
  intro H locs ls I hl
  unfold f_partyRead at h
  refine lv_aload_n X.1 X.2.1 dX3_partyRead_0 rfl (lv_at hl 0 rfl) ?_
  refine lv_aload_n X.1 X.2.1 dX3_partyRead_1 rfl (lv_at hl 0 rfl) ?_
  obtain ⟨r2, s3, e1, h⟩ := m_b2S h
  refine m_callL X hl.1 I hA (As := []) (rest := [.ref d.1]) (c_nameRead l n D d st  _ _ e1) 0 q1666 q1668 qs52 q107 q1669 (hd_nameRead) rfl rfl ⟨Nat.le_trans (Nat.le_of_ble_eq_true rfl) hR.1, Nat.le_trans (Nat.le_of_ble_eq_true rfl) hR.2⟩ ⟨rfl, rfl⟩ ⟨Nat.zero_le _, Nat.zero_le _⟩ (Nat.le_of_ble_eq_true rfl) dX3_partyRead_2 (fun H locs I => ?_)
  refine lv_iconst (v := 0) X.1 X.2.1 dX3_partyRead_5 (by decide) ?_
  refine lv_aload_n X.1 X.2.1 dX3_partyRead_6 rfl (lv_at hl 0 rfl) ?_
  refine m_get X I 5 (by decide) rfl rfl rfl q1522 (v := .int (s3.1 5)) rfl dX3_partyRead_7 ?_
  obtain ⟨r5, e4, h⟩ := m_bS h
  refine m_callI X hl.1 I hA (As := [.long r2, .int 0, .int (s3.1 5)]) (rest := []) (c_find l n D d s3 r2 0 (s3.1 5) _ e4) 3 q1670 q1672 qs53 q107 q1673 (hd_find) rfl rfl ⟨Nat.le_trans (Nat.le_of_ble_eq_true rfl) hR.1, Nat.le_trans (Nat.le_of_ble_eq_true rfl) hR.2⟩ ⟨rfl, rfl⟩ ⟨Nat.zero_le _, Nat.zero_le _⟩ (Nat.le_of_ble_eq_true rfl) dX3_partyRead_10 (fun H locs I => ?_)
  refine lv_istore_n (lv' := [(1, .int r5), (0, .ref d.1)]) X.1 X.2.1 dX3_partyRead_13 rfl hl (by decide) rfl (fun ls hl => ?_)
  refine lv_iload_n X.1 X.2.1 dX3_partyRead_14 rfl (lv_at hl 0 rfl) ?_
  refine lv_iconst (v := (-1)) X.1 X.2.1 dX3_partyRead_15 (by decide) ?_
  refine lv_icmp_ne (tgt := 28) X.1 X.2.1 dX3_partyRead_16 (by decide) (fun c6 => ?_) (fun c6 => ?_)
  · replace h := m_ifF c6 h
    exact k28 s3 r5 H locs ls h I (lv_sub hl [1, 0] rfl)
  · replace h := m_ifT c6 h
    refine lv_aload_n X.1 X.2.1 dX3_partyRead_19 rfl (lv_at hl 1 rfl) ?_
    refine lv_iconst (v := 3) X.1 X.2.1 dX3_partyRead_20 (by decide) ?_
    refine lv_aload_n X.1 X.2.1 dX3_partyRead_21 rfl (lv_at hl 1 rfl) ?_
    refine m_get X I 16 (by decide) rfl rfl rfl q1533 (v := .int (s3.1 16)) rfl dX3_partyRead_22 ?_
    obtain ⟨s9, e8, h⟩ := m_bS h
    refine m_callV X hl.1 I hA (As := [.int 3, .int (s3.1 16)]) (rest := []) (c_fails l n D d s3 3 (s3.1 16) _ e8) 2 q1650 q1652 qs48 q107 q1653 (hd_fails) rfl rfl ⟨Nat.le_trans (Nat.le_of_ble_eq_true rfl) hR.1, Nat.le_trans (Nat.le_of_ble_eq_true rfl) hR.2⟩ ⟨rfl, rfl⟩ ⟨Nat.zero_le _, Nat.zero_le _⟩ (Nat.le_of_ble_eq_true rfl) dX3_partyRead_25 (fun H locs I => ?_)
    exact k28 s9 r5 H locs ls h I (lv_sub hl [1, 0] rfl)
end S_partyRead
theorem c_partyRead (l : Launch) (n : Nat) (D : va_G) (d : MD) (st : MS) (r : Int32) (st' : MS) (h : f_partyRead n st = some (r, st')) : m_Mi l yX3_partyRead cX3_partyRead 2 (some .int) ({ frames := 6, cells := 0, slots := 0, locals := 135 } : Room) D d st [.ref d.1] r st' :=
  m_startI (lvl := [(0, .ref d.1)]) (by decide) rfl (Nat.le_of_ble_eq_true rfl) rfl (fun p e s m args below meth c ls X hr hlk hl hA I => w_partyRead X hA ⟨Nat.le_refl _, Nat.le_refl _⟩ n st (r, st') h (fun H locs ls pc hd I => m_iret X I hr hlk hd) _ _ ls I hl)

/-! method otherRead(I)I -/
def f_otherRead_J26 (n : Nat) (st : MS) (v2 : Int32) : Option (Int32 × MS) :=
  some (v2, st)
def f_otherRead (n : Nat) (st : MS) (p0 : Int32) : Option (Int32 × MS) :=
  m_b2 (f_partyRead n st) (fun r2 s3 => m_if ((s3.1 13 : Int32) = 0) (m_if ((r2 : Int32) = (p0 : Int32)) (m_b (f_fails n s3 5 (s3.1 16)) (fun s7 => f_otherRead_J26 n s7 r2)) (f_otherRead_J26 n s3 r2)) (f_otherRead_J26 n s3 r2))
theorem hd_otherRead : yX3_otherRead.cls = RX3 ∧ yX3_otherRead.cls ≠ "java/lang/invoke/MethodHandle" ∧ yX3_otherRead.cls ≠ "java/lang/invoke/VarHandle" ∧ (parseMethodDescriptor yX3_otherRead.desc).map (fun d => d.parameters.length) = some 1 := by decide +kernel
section S_otherRead
variable {p : Program} {l : Launch} {e : Env} {R : Room} {s : State} {m : MethodId} {args : Array Value} {below : List Frame} {meth : Method} {c : Code} {Q : State → Prop} {D : va_G} {A : Nat → Prop} {d : MD}
theorem w_otherRead (X : m_X D A d p s m c cX3_otherRead 3 args) (hA : ∀ q, s.heap.size ≤ q → A q) (hR : 7 ≤ R.frames ∧ 156 ≤ R.locals) (n : Nat) (st : MS) (p0 : Int32) (r : (Int32 × MS)) (h : f_otherRead n st p0 = some r) (hret : ∀ (H : Heap) (locs : List Loc) (ls : Array Slot) (pc : Nat), decode cX3_otherRead pc = .ok (.ireturn, 1) → m_I D A d s.heap r.2 H locs → W p l e R s m args below meth c H locs 0 0 Q (F0 m pc ls [.int r.1])) : ∀ (H : Heap) (locs : List Loc) (ls : Array Slot), m_I D A d s.heap st H locs → lv_has ls 3 [(0, .ref d.1), (1, .int p0)] → W p l e R s m args below meth c H locs 0 0 Q (F0 m 0 ls []) := by
  obtain ⟨r0, s0⟩ := r
  have k26 : ∀ (st : MS) (v2 : Int32) (H : Heap) (locs : List Loc) (ls : Array Slot), f_otherRead_J26 n st v2 = some (r0, s0) → m_I D A d s.heap st H locs → lv_has ls 3 [(2, .int v2)] → W p l e R s m args below meth c H locs 0 0 Q (F0 m 26 ls []) := by
    intro st v2 H locs ls h I hl
    unfold f_otherRead_J26 at h
    refine lv_iload_n X.1 X.2.1 dX3_otherRead_26 rfl (lv_at hl 0 rfl) ?_
    obtain ⟨rfl, rfl⟩ := m_e2 h
    exact hret H locs ls 27 dX3_otherRead_27 I
  intro H locs ls I hl
  unfold f_otherRead at h
  refine lv_aload_n X.1 X.2.1 dX3_otherRead_0 rfl (lv_at hl 0 rfl) ?_
  obtain ⟨r2, s3, e1, h⟩ := m_b2S h
  refine m_callI X hl.1 I hA (As := []) (rest := []) (c_partyRead l n D d st  _ _ e1) 0 q1691 q1693 qs57 q107 q1694 (hd_partyRead) rfl rfl ⟨Nat.le_trans (Nat.le_of_ble_eq_true rfl) hR.1, Nat.le_trans (Nat.le_of_ble_eq_true rfl) hR.2⟩ ⟨rfl, rfl⟩ ⟨Nat.zero_le _, Nat.zero_le _⟩ (Nat.le_of_ble_eq_true rfl) dX3_otherRead_1 (fun H locs I => ?_)
  refine lv_istore_n (lv' := [(2, .int r2), (0, .ref d.1), (1, .int p0)]) X.1 X.2.1 dX3_otherRead_4 rfl hl (by decide) rfl (fun ls hl => ?_)
  refine lv_aload_n X.1 X.2.1 dX3_otherRead_5 rfl (lv_at hl 1 rfl) ?_
  refine m_get X I 13 (by decide) rfl rfl rfl q1530 (v := .int (s3.1 13)) rfl dX3_otherRead_6 ?_
  refine lv_if_ne (tgt := 26) X.1 X.2.1 dX3_otherRead_9 (by decide) (fun c4 => ?_) (fun c4 => ?_)
  · replace h := m_ifF c4 h
    exact k26 s3 r2 H locs ls h I (lv_sub hl [0] rfl)
  · replace h := m_ifT c4 h
    refine lv_iload_n X.1 X.2.1 dX3_otherRead_12 rfl (lv_at hl 0 rfl) ?_
    refine lv_iload_n X.1 X.2.1 dX3_otherRead_13 rfl (lv_at hl 2 rfl) ?_
    refine lv_icmp_ne (tgt := 26) X.1 X.2.1 dX3_otherRead_14 (by decide) (fun c5 => ?_) (fun c5 => ?_)
    · replace h := m_ifF c5 h
      exact k26 s3 r2 H locs ls h I (lv_sub hl [0] rfl)
    · replace h := m_ifT c5 h
      refine lv_aload_n X.1 X.2.1 dX3_otherRead_17 rfl (lv_at hl 1 rfl) ?_
      refine lv_iconst (v := 5) X.1 X.2.1 dX3_otherRead_18 (by decide) ?_
      refine lv_aload_n X.1 X.2.1 dX3_otherRead_19 rfl (lv_at hl 1 rfl) ?_
      refine m_get X I 16 (by decide) rfl rfl rfl q1533 (v := .int (s3.1 16)) rfl dX3_otherRead_20 ?_
      obtain ⟨s7, e6, h⟩ := m_bS h
      refine m_callV X hl.1 I hA (As := [.int 5, .int (s3.1 16)]) (rest := []) (c_fails l n D d s3 5 (s3.1 16) _ e6) 2 q1650 q1652 qs48 q107 q1653 (hd_fails) rfl rfl ⟨Nat.le_trans (Nat.le_of_ble_eq_true rfl) hR.1, Nat.le_trans (Nat.le_of_ble_eq_true rfl) hR.2⟩ ⟨rfl, rfl⟩ ⟨Nat.zero_le _, Nat.zero_le _⟩ (Nat.le_of_ble_eq_true rfl) dX3_otherRead_23 (fun H locs I => ?_)
      exact k26 s7 r2 H locs ls h I (lv_sub hl [0] rfl)
end S_otherRead
theorem c_otherRead (l : Launch) (n : Nat) (D : va_G) (d : MD) (st : MS) (p0 : Int32) (r : Int32) (st' : MS) (h : f_otherRead n st p0 = some (r, st')) : m_Mi l yX3_otherRead cX3_otherRead 3 (some .int) ({ frames := 7, cells := 0, slots := 0, locals := 156 } : Room) D d st [.ref d.1, .int p0] r st' :=
  m_startI (lvl := [(0, .ref d.1), (1, .int p0)]) (by decide) rfl (Nat.le_of_ble_eq_true rfl) rfl (fun p e s m args below meth c ls X hr hlk hl hA I => w_otherRead X hA ⟨Nat.le_refl _, Nat.le_refl _⟩ n st p0 (r, st') h (fun H locs ls pc hd I => m_iret X I hr hlk hd) _ _ ls I hl)

/-! method kindRead()I -/
def f_kindRead_J41 (n : Nat) (st : MS) (t0 : Int32) : Option (Int32 × MS) :=
  some (t0, st)
def f_kindRead_J29 (n : Nat) (st : MS) (v1 : Int32) : Option (Int32 × MS) :=
  m_if ((st.1 13 : Int32) = 0) (f_kindRead_J41 n st v1) (f_kindRead_J41 n st 0)
def f_kindRead (n : Nat) (st : MS) : Option (Int32 × MS) :=
  m_b2 (f_nameRead n st) (fun r2 s3 => m_b (f_find n s3 r2 8 (s3.1 6)) (fun r5 => m_if ((r5 : Int32) = ((-1) : Int32)) (m_b (f_fails n s3 3 (s3.1 16)) (fun s9 => f_kindRead_J29 n s9 r5)) (f_kindRead_J29 n s3 r5)))
theorem hd_kindRead : yX3_kindRead.cls = RX3 ∧ yX3_kindRead.cls ≠ "java/lang/invoke/MethodHandle" ∧ yX3_kindRead.cls ≠ "java/lang/invoke/VarHandle" ∧ (parseMethodDescriptor yX3_kindRead.desc).map (fun d => d.parameters.length) = some 0 := by decide +kernel
section S_kindRead
variable {p : Program} {l : Launch} {e : Env} {R : Room} {s : State} {m : MethodId} {args : Array Value} {below : List Frame} {meth : Method} {c : Code} {Q : State → Prop} {D : va_G} {A : Nat → Prop} {d : MD}
theorem w_kindRead (X : m_X D A d p s m c cX3_kindRead 2 args) (hA : ∀ q, s.heap.size ≤ q → A q) (hR : 6 ≤ R.frames ∧ 135 ≤ R.locals) (n : Nat) (st : MS) (r : (Int32 × MS)) (h : f_kindRead n st = some r) (hret : ∀ (H : Heap) (locs : List Loc) (ls : Array Slot) (pc : Nat), decode cX3_kindRead pc = .ok (.ireturn, 1) → m_I D A d s.heap r.2 H locs → W p l e R s m args below meth c H locs 0 0 Q (F0 m pc ls [.int r.1])) : ∀ (H : Heap) (locs : List Loc) (ls : Array Slot), m_I D A d s.heap st H locs → lv_has ls 2 [(0, .ref d.1)] → W p l e R s m args below meth c H locs 0 0 Q (F0 m 0 ls []) := by
  obtain ⟨r0, s0⟩ := r
  have k41 : ∀ (st : MS) (t0 : Int32) (H : Heap) (locs : List Loc) (ls : Array Slot), f_kindRead_J41 n st t0 = some (r0, s0) → m_I D A d s.heap st H locs → lv_has ls 2 [] → W p l e R s m args below meth c H locs 0 0 Q (F0 m 41 ls [.int t0]) := by
    intro st t0 H locs ls h I hl
    unfold f_kindRead_J41 at h
    obtain ⟨rfl, rfl⟩ := m_e2 h
    exact hret H locs ls 41 dX3_kindRead_41 I
  have k29 : ∀ (st : MS) (v1 : Int32) (H : Heap) (locs : List Loc) (ls : Array Slot), f_kindRead_J29 n st v1 = some (r0, s0) → m_I D A d s.heap st H locs → lv_has ls 2 [(0, .ref d.1), (1, .int v1)] → W p l e R s m args below meth c H locs 0 0 Q (F0 m 29 ls []) := by
    intro st v1 H locs ls h I hl
    unfold f_kindRead_J29 at h
    refine lv_aload_n X.1 X.2.1 dX3_kindRead_29 rfl (lv_at hl 0 rfl) ?_
    refine m_get X I 13 (by decide) rfl rfl rfl q1530 (v := .int (st.1 13)) rfl dX3_kindRead_30 ?_
    refine lv_if_ne (tgt := 40) X.1 X.2.1 dX3_kindRead_33 (by decide) (fun c7 => ?_) (fun c7 => ?_)
    · replace h := m_ifF c7 h
      refine lv_iconst (v := 0) X.1 X.2.1 dX3_kindRead_40 (by decide) ?_
      exact k41 st 0 H locs ls h I (lv_sub hl [] rfl)
    · replace h := m_ifT c7 h
      refine lv_iload_n X.1 X.2.1 dX3_kindRead_36 rfl (lv_at hl 1 rfl) ?_
      refine lv_goto (tgt := 41) X.1 X.2.1 dX3_kindRead_37 (by decide) ?_
      exact k41 st v1 H locs ls h I (lv_sub hl [] rfl)
  intro H locs ls I hl
  unfold f_kindRead at h
  refine lv_aload_n X.1 X.2.1 dX3_kindRead_0 rfl (lv_at hl 0 rfl) ?_
  refine lv_aload_n X.1 X.2.1 dX3_kindRead_1 rfl (lv_at hl 0 rfl) ?_
  obtain ⟨r2, s3, e1, h⟩ := m_b2S h
  refine m_callL X hl.1 I hA (As := []) (rest := [.ref d.1]) (c_nameRead l n D d st  _ _ e1) 0 q1666 q1668 qs52 q107 q1669 (hd_nameRead) rfl rfl ⟨Nat.le_trans (Nat.le_of_ble_eq_true rfl) hR.1, Nat.le_trans (Nat.le_of_ble_eq_true rfl) hR.2⟩ ⟨rfl, rfl⟩ ⟨Nat.zero_le _, Nat.zero_le _⟩ (Nat.le_of_ble_eq_true rfl) dX3_kindRead_2 (fun H locs I => ?_)
  refine lv_bipush (v := 8) X.1 X.2.1 dX3_kindRead_5 (by decide) ?_
  refine lv_aload_n X.1 X.2.1 dX3_kindRead_7 rfl (lv_at hl 0 rfl) ?_
  refine m_get X I 6 (by decide) rfl rfl rfl q1523 (v := .int (s3.1 6)) rfl dX3_kindRead_8 ?_
  obtain ⟨r5, e4, h⟩ := m_bS h
  refine m_callI X hl.1 I hA (As := [.long r2, .int 8, .int (s3.1 6)]) (rest := []) (c_find l n D d s3 r2 8 (s3.1 6) _ e4) 3 q1670 q1672 qs53 q107 q1673 (hd_find) rfl rfl ⟨Nat.le_trans (Nat.le_of_ble_eq_true rfl) hR.1, Nat.le_trans (Nat.le_of_ble_eq_true rfl) hR.2⟩ ⟨rfl, rfl⟩ ⟨Nat.zero_le _, Nat.zero_le _⟩ (Nat.le_of_ble_eq_true rfl) dX3_kindRead_11 (fun H locs I => ?_)
  refine lv_istore_n (lv' := [(1, .int r5), (0, .ref d.1)]) X.1 X.2.1 dX3_kindRead_14 rfl hl (by decide) rfl (fun ls hl => ?_)
  refine lv_iload_n X.1 X.2.1 dX3_kindRead_15 rfl (lv_at hl 0 rfl) ?_
  refine lv_iconst (v := (-1)) X.1 X.2.1 dX3_kindRead_16 (by decide) ?_
  refine lv_icmp_ne (tgt := 29) X.1 X.2.1 dX3_kindRead_17 (by decide) (fun c6 => ?_) (fun c6 => ?_)
  · replace h := m_ifF c6 h
    exact k29 s3 r5 H locs ls h I (lv_sub hl [1, 0] rfl)
  · replace h := m_ifT c6 h
    refine lv_aload_n X.1 X.2.1 dX3_kindRead_20 rfl (lv_at hl 1 rfl) ?_
    refine lv_iconst (v := 3) X.1 X.2.1 dX3_kindRead_21 (by decide) ?_
    refine lv_aload_n X.1 X.2.1 dX3_kindRead_22 rfl (lv_at hl 1 rfl) ?_
    refine m_get X I 16 (by decide) rfl rfl rfl q1533 (v := .int (s3.1 16)) rfl dX3_kindRead_23 ?_
    obtain ⟨s9, e8, h⟩ := m_bS h
    refine m_callV X hl.1 I hA (As := [.int 3, .int (s3.1 16)]) (rest := []) (c_fails l n D d s3 3 (s3.1 16) _ e8) 2 q1650 q1652 qs48 q107 q1653 (hd_fails) rfl rfl ⟨Nat.le_trans (Nat.le_of_ble_eq_true rfl) hR.1, Nat.le_trans (Nat.le_of_ble_eq_true rfl) hR.2⟩ ⟨rfl, rfl⟩ ⟨Nat.zero_le _, Nat.zero_le _⟩ (Nat.le_of_ble_eq_true rfl) dX3_kindRead_26 (fun H locs I => ?_)
    exact k29 s9 r5 H locs ls h I (lv_sub hl [1, 0] rfl)
end S_kindRead
theorem c_kindRead (l : Launch) (n : Nat) (D : va_G) (d : MD) (st : MS) (r : Int32) (st' : MS) (h : f_kindRead n st = some (r, st')) : m_Mi l yX3_kindRead cX3_kindRead 2 (some .int) ({ frames := 6, cells := 0, slots := 0, locals := 135 } : Room) D d st [.ref d.1] r st' :=
  m_startI (lvl := [(0, .ref d.1)]) (by decide) rfl (Nat.le_of_ble_eq_true rfl) rfl (fun p e s m args below meth c ls X hr hlk hl hA I => w_kindRead X hA ⟨Nat.le_refl _, Nat.le_refl _⟩ n st (r, st') h (fun H locs ls pc hd I => m_iret X I hr hlk hd) _ _ ls I hl)

/-! method areTwo(II)Z -/
def f_areTwo_J26 (n : Nat) (st : MS) (t0 : Int32) : Option (Int32) :=
  m_g (m_01 t0) (some t0)
def f_areTwo_J25 (n : Nat) (st : MS) : Option (Int32) :=
  f_areTwo_J26 n st 0
def f_areTwo (n : Nat) (st : MS) (p0 : Int32) (p1 : Int32) : Option (Int32) :=
  m_b (f_isParty n st p0) (fun r2 => m_if ((r2 : Int32) = 0) (f_areTwo_J25 n st) (m_b (f_isParty n st p1) (fun r6 => m_if ((r6 : Int32) = 0) (f_areTwo_J25 n st) (m_if ((p0 : Int32) = (p1 : Int32)) (f_areTwo_J25 n st) (f_areTwo_J26 n st 1)))))
theorem hd_areTwo : yX3_areTwo.cls = RX3 ∧ yX3_areTwo.cls ≠ "java/lang/invoke/MethodHandle" ∧ yX3_areTwo.cls ≠ "java/lang/invoke/VarHandle" ∧ (parseMethodDescriptor yX3_areTwo.desc).map (fun d => d.parameters.length) = some 2 := by decide +kernel
section S_areTwo
variable {p : Program} {l : Launch} {e : Env} {R : Room} {s : State} {m : MethodId} {args : Array Value} {below : List Frame} {meth : Method} {c : Code} {Q : State → Prop} {D : va_G} {A : Nat → Prop} {d : MD}
theorem w_areTwo (X : m_X D A d p s m c cX3_areTwo 3 args) (hA : ∀ q, s.heap.size ≤ q → A q) (hR : 2 ≤ R.frames ∧ 46 ≤ R.locals) (n : Nat) (st : MS) (p0 : Int32) (p1 : Int32) (r : Int32) (h : f_areTwo n st p0 p1 = some r) (hret : ∀ (H : Heap) (locs : List Loc) (ls : Array Slot) (pc : Nat), m_01 r = true → decode cX3_areTwo pc = .ok (.ireturn, 1) → m_I D A d s.heap st H locs → W p l e R s m args below meth c H locs 0 0 Q (F0 m pc ls [.int r])) : ∀ (H : Heap) (locs : List Loc) (ls : Array Slot), m_I D A d s.heap st H locs → lv_has ls 3 [(0, .ref d.1), (1, .int p0), (2, .int p1)] → W p l e R s m args below meth c H locs 0 0 Q (F0 m 0 ls []) := by
  have k26 : ∀ (t0 : Int32) (H : Heap) (locs : List Loc) (ls : Array Slot), f_areTwo_J26 n st t0 = some r → m_I D A d s.heap st H locs → lv_has ls 3 [] → W p l e R s m args below meth c H locs 0 0 Q (F0 m 26 ls [.int t0]) := by
    intro t0 H locs ls h I hl
    unfold f_areTwo_J26 at h
    obtain ⟨g4, h⟩ := m_gS h
    obtain rfl := m_e1 h
    exact hret H locs ls 26 g4 dX3_areTwo_26 I
  have k25 : ∀  (H : Heap) (locs : List Loc) (ls : Array Slot), f_areTwo_J25 n st = some r → m_I D A d s.heap st H locs → lv_has ls 3 [] → W p l e R s m args below meth c H locs 0 0 Q (F0 m 25 ls []) := by
    intro  H locs ls h I hl
    unfold f_areTwo_J25 at h
    refine lv_iconst (v := 0) X.1 X.2.1 dX3_areTwo_25 (by decide) ?_
    exact k26 0 H locs ls h I (lv_sub hl [] rfl)
  intro H locs ls I hl
  unfold f_areTwo at h
  refine lv_aload_n X.1 X.2.1 dX3_areTwo_0 rfl (lv_at hl 0 rfl) ?_
  refine lv_iload_n X.1 X.2.1 dX3_areTwo_1 rfl (lv_at hl 1 rfl) ?_
  obtain ⟨r2, e1, h⟩ := m_bS h
  refine m_callI X hl.1 I hA (As := [.int p0]) (rest := []) (c_isParty l n D d st p0 _ e1) 1 q1720 q1722 qs62 q107 q1723 (hd_isParty) rfl rfl ⟨Nat.le_trans (Nat.le_of_ble_eq_true rfl) hR.1, Nat.le_trans (Nat.le_of_ble_eq_true rfl) hR.2⟩ ⟨rfl, rfl⟩ ⟨Nat.zero_le _, Nat.zero_le _⟩ (Nat.le_of_ble_eq_true rfl) dX3_areTwo_2 (fun H locs I => ?_)
  refine lv_if_eq (tgt := 25) X.1 X.2.1 dX3_areTwo_5 (by decide) (fun c3 => ?_) (fun c3 => ?_)
  · replace h := m_ifT c3 h
    exact k25  H locs ls h I (lv_sub hl [] rfl)
  · replace h := m_ifF c3 h
    refine lv_aload_n X.1 X.2.1 dX3_areTwo_8 rfl (lv_at hl 0 rfl) ?_
    refine lv_iload_n X.1 X.2.1 dX3_areTwo_9 rfl (lv_at hl 2 rfl) ?_
    obtain ⟨r6, e5, h⟩ := m_bS h
    refine m_callI X hl.1 I hA (As := [.int p1]) (rest := []) (c_isParty l n D d st p1 _ e5) 1 q1720 q1722 qs62 q107 q1723 (hd_isParty) rfl rfl ⟨Nat.le_trans (Nat.le_of_ble_eq_true rfl) hR.1, Nat.le_trans (Nat.le_of_ble_eq_true rfl) hR.2⟩ ⟨rfl, rfl⟩ ⟨Nat.zero_le _, Nat.zero_le _⟩ (Nat.le_of_ble_eq_true rfl) dX3_areTwo_10 (fun H locs I => ?_)
    refine lv_if_eq (tgt := 25) X.1 X.2.1 dX3_areTwo_13 (by decide) (fun c7 => ?_) (fun c7 => ?_)
    · replace h := m_ifT c7 h
      exact k25  H locs ls h I (lv_sub hl [] rfl)
    · replace h := m_ifF c7 h
      refine lv_iload_n X.1 X.2.1 dX3_areTwo_16 rfl (lv_at hl 1 rfl) ?_
      refine lv_iload_n X.1 X.2.1 dX3_areTwo_17 rfl (lv_at hl 2 rfl) ?_
      refine lv_icmp_eq (tgt := 25) X.1 X.2.1 dX3_areTwo_18 (by decide) (fun c8 => ?_) (fun c8 => ?_)
      · replace h := m_ifT c8 h
        exact k25  H locs ls h I (lv_sub hl [] rfl)
      · replace h := m_ifF c8 h
        refine lv_iconst (v := 1) X.1 X.2.1 dX3_areTwo_21 (by decide) ?_
        refine lv_goto (tgt := 26) X.1 X.2.1 dX3_areTwo_22 (by decide) ?_
        exact k26 1 H locs ls h I (lv_sub hl [] rfl)
end S_areTwo
theorem c_areTwo (l : Launch) (n : Nat) (D : va_G) (d : MD) (st : MS) (p0 : Int32) (p1 : Int32) (r : Int32) (h : f_areTwo n st p0 p1 = some r) : m_Mi l yX3_areTwo cX3_areTwo 3 (some .boolean) ({ frames := 2, cells := 0, slots := 0, locals := 46 } : Room) D d st [.ref d.1, .int p0, .int p1] r st :=
  m_startI (lvl := [(0, .ref d.1), (1, .int p0), (2, .int p1)]) (by decide) rfl (Nat.le_of_ble_eq_true rfl) rfl (fun p e s m args below meth c ls X hr hlk hl hA I => w_areTwo X hA ⟨Nat.le_refl _, Nat.le_refl _⟩ n st p0 p1 r h (fun H locs ls pc g hd I => m_zret X I hr hlk g hd) _ _ ls I hl)

/-! method drop(I)I -/
def f_drop (n : Nat) (st : MS) (p0 : Int32) : Option (Int32 × MS) :=
  m_b (f_isTrade n (m_sg st 8 0) p0) (fun r2 => m_if ((r2 : Int32) = 0) (some ((-2), m_sg st 8 0)) (m_b (f_remembers n (m_sg st 8 0)) (fun s5 => m_b (f_goes n s5 p0) (fun s7 => m_g (m_in 0 266) (some (s7.2.1 0 (0 : Int32).toNatClampNeg, s7))))))
theorem hd_drop : yX3_drop.cls = RX3 ∧ yX3_drop.cls ≠ "java/lang/invoke/MethodHandle" ∧ yX3_drop.cls ≠ "java/lang/invoke/VarHandle" ∧ (parseMethodDescriptor yX3_drop.desc).map (fun d => d.parameters.length) = some 1 := by decide +kernel
section S_drop
variable {p : Program} {l : Launch} {e : Env} {R : Room} {s : State} {m : MethodId} {args : Array Value} {below : List Frame} {meth : Method} {c : Code} {Q : State → Prop} {D : va_G} {A : Nat → Prop} {d : MD}
theorem w_drop (X : m_X D A d p s m c cX3_drop 2 args) (hA : ∀ q, s.heap.size ≤ q → A q) (hR : 2 ≤ R.frames ∧ 46 ≤ R.locals) (n : Nat) (st : MS) (p0 : Int32) (r : (Int32 × MS)) (h : f_drop n st p0 = some r) (hret : ∀ (H : Heap) (locs : List Loc) (ls : Array Slot) (pc : Nat), decode cX3_drop pc = .ok (.ireturn, 1) → m_I D A d s.heap r.2 H locs → W p l e R s m args below meth c H locs 0 0 Q (F0 m pc ls [.int r.1])) : ∀ (H : Heap) (locs : List Loc) (ls : Array Slot), m_I D A d s.heap st H locs → lv_has ls 2 [(0, .ref d.1), (1, .int p0)] → W p l e R s m args below meth c H locs 0 0 Q (F0 m 0 ls []) := by
  obtain ⟨r0, s0⟩ := r
  intro H locs ls I hl
  unfold f_drop at h
  refine lv_aload_n X.1 X.2.1 dX3_drop_0 rfl (lv_at hl 0 rfl) ?_
  refine lv_iconst (v := 0) X.1 X.2.1 dX3_drop_1 (by decide) ?_
  refine m_put X I 8 (by decide) rfl rfl rfl q1525 rfl (m_set8 d _ _) dX3_drop_2 (fun H locs I => ?_)
  refine lv_aload_n X.1 X.2.1 dX3_drop_5 rfl (lv_at hl 0 rfl) ?_
  refine lv_iload_n X.1 X.2.1 dX3_drop_6 rfl (lv_at hl 1 rfl) ?_
  obtain ⟨r2, e1, h⟩ := m_bS h
  refine m_callI X hl.1 I hA (As := [.int p0]) (rest := []) (c_isTrade l n D d (m_sg st 8 0) p0 _ e1) 1 q1737 q1739 qs65 q107 q1740 (hd_isTrade) rfl rfl ⟨Nat.le_trans (Nat.le_of_ble_eq_true rfl) hR.1, Nat.le_trans (Nat.le_of_ble_eq_true rfl) hR.2⟩ ⟨rfl, rfl⟩ ⟨Nat.zero_le _, Nat.zero_le _⟩ (Nat.le_of_ble_eq_true rfl) dX3_drop_7 (fun H locs I => ?_)
  refine lv_if_ne (tgt := 16) X.1 X.2.1 dX3_drop_10 (by decide) (fun c3 => ?_) (fun c3 => ?_)
  · replace h := m_ifF c3 h
    refine lv_aload_n X.1 X.2.1 dX3_drop_16 rfl (lv_at hl 0 rfl) ?_
    obtain ⟨s5, e4, h⟩ := m_bS h
    refine m_callV X hl.1 I hA (As := []) (rest := []) (c_remembers l n D d (m_sg st 8 0)  _ e4) 0 q1729 q1731 qs64 q107 q1732 (hd_remembers) rfl rfl ⟨Nat.le_trans (Nat.le_of_ble_eq_true rfl) hR.1, Nat.le_trans (Nat.le_of_ble_eq_true rfl) hR.2⟩ ⟨rfl, rfl⟩ ⟨Nat.zero_le _, Nat.zero_le _⟩ (Nat.le_of_ble_eq_true rfl) dX3_drop_17 (fun H locs I => ?_)
    refine lv_aload_n X.1 X.2.1 dX3_drop_20 rfl (lv_at hl 0 rfl) ?_
    refine lv_iload_n X.1 X.2.1 dX3_drop_21 rfl (lv_at hl 1 rfl) ?_
    obtain ⟨s7, e6, h⟩ := m_bS h
    refine m_callV X hl.1 I hA (As := [.int p0]) (rest := []) (c_goes l n D d s5 p0 _ e6) 1 q1741 q1743 qs66 q107 q1744 (hd_goes) rfl rfl ⟨Nat.le_trans (Nat.le_of_ble_eq_true rfl) hR.1, Nat.le_trans (Nat.le_of_ble_eq_true rfl) hR.2⟩ ⟨rfl, rfl⟩ ⟨Nat.zero_le _, Nat.zero_le _⟩ (Nat.le_of_ble_eq_true rfl) dX3_drop_22 (fun H locs I => ?_)
    refine lv_aload_n X.1 X.2.1 dX3_drop_25 rfl (lv_at hl 0 rfl) ?_
    refine m_get X I 0 (by decide) rfl rfl rfl q1517 (v := .ref (d.2.1 0)) rfl dX3_drop_26 ?_
    refine lv_iconst (v := 0) X.1 X.2.1 dX3_drop_29 (by decide) ?_
    obtain ⟨g8, h⟩ := m_gS h
    refine m_iald X I 1 (n := 266) (f := s7.2.1 0) rfl g8 dX3_drop_30 ?_
    obtain ⟨rfl, rfl⟩ := m_e2 h
    exact hret H locs ls 31 dX3_drop_31 I
  · replace h := m_ifT c3 h
    refine lv_bipush (v := (-2)) X.1 X.2.1 dX3_drop_13 (by decide) ?_
    obtain ⟨rfl, rfl⟩ := m_e2 h
    exact hret H locs ls 15 dX3_drop_15 I
end S_drop
theorem c_drop (l : Launch) (n : Nat) (D : va_G) (d : MD) (st : MS) (p0 : Int32) (r : Int32) (st' : MS) (h : f_drop n st p0 = some (r, st')) : m_Mi l yX3_drop cX3_drop 2 (some .int) ({ frames := 2, cells := 0, slots := 0, locals := 46 } : Room) D d st [.ref d.1, .int p0] r st' :=
  m_startI (lvl := [(0, .ref d.1), (1, .int p0)]) (by decide) rfl (Nat.le_of_ble_eq_true rfl) rfl (fun p e s m args below meth c ls X hr hlk hl hA I => w_drop X hA ⟨Nat.le_refl _, Nat.le_refl _⟩ n st p0 (r, st') h (fun H locs ls pc hd I => m_iret X I hr hlk hd) _ _ ls I hl)

/-! method cap(III)I -/
def f_cap (n : Nat) (st : MS) (p0 : Int32) (p1 : Int32) (p2 : Int32) : Option (Int32 × MS) :=
  m_b (f_areTwo n (m_sg st 8 0) p0 p1) (fun r2 => m_if ((r2 : Int32) = 0) (some ((-2), m_sg st 8 0)) (m_b (f_isIn n p2.toInt64 0 99999999) (fun r5 => m_if ((r5 : Int32) = 0) (some ((-3), m_sg st 8 0)) (m_b (f_remembers n (m_sg st 8 0)) (fun s8 => m_g (m_in ((202 + (8 * p0)) + p1) 266) (m_g (m_in ((202 + (8 * p0)) + p1) 266) (some (s8.2.1 0 ((202 + (8 * p0)) + p1 : Int32).toNatClampNeg, m_sa s8 0 ((202 + (8 * p0)) + p1 : Int32).toNatClampNeg p2))))))))
theorem hd_cap : yX3_cap.cls = RX3 ∧ yX3_cap.cls ≠ "java/lang/invoke/MethodHandle" ∧ yX3_cap.cls ≠ "java/lang/invoke/VarHandle" ∧ (parseMethodDescriptor yX3_cap.desc).map (fun d => d.parameters.length) = some 3 := by decide +kernel
section S_cap
variable {p : Program} {l : Launch} {e : Env} {R : Room} {s : State} {m : MethodId} {args : Array Value} {below : List Frame} {meth : Method} {c : Code} {Q : State → Prop} {D : va_G} {A : Nat → Prop} {d : MD}
theorem w_cap (X : m_X D A d p s m c cX3_cap 5 args) (hA : ∀ q, s.heap.size ≤ q → A q) (hR : 3 ≤ R.frames ∧ 68 ≤ R.locals) (n : Nat) (st : MS) (p0 : Int32) (p1 : Int32) (p2 : Int32) (r : (Int32 × MS)) (h : f_cap n st p0 p1 p2 = some r) (hret : ∀ (H : Heap) (locs : List Loc) (ls : Array Slot) (pc : Nat), decode cX3_cap pc = .ok (.ireturn, 1) → m_I D A d s.heap r.2 H locs → W p l e R s m args below meth c H locs 0 0 Q (F0 m pc ls [.int r.1])) : ∀ (H : Heap) (locs : List Loc) (ls : Array Slot), m_I D A d s.heap st H locs → lv_has ls 5 [(0, .ref d.1), (1, .int p0), (2, .int p1), (3, .int p2)] → W p l e R s m args below meth c H locs 0 0 Q (F0 m 0 ls []) := by
  obtain ⟨r0, s0⟩ := r
  intro H locs ls I hl
  unfold f_cap at h
  refine lv_aload_n X.1 X.2.1 dX3_cap_0 rfl (lv_at hl 0 rfl) ?_
  refine lv_iconst (v := 0) X.1 X.2.1 dX3_cap_1 (by decide) ?_
  refine m_put X I 8 (by decide) rfl rfl rfl q1525 rfl (m_set8 d _ _) dX3_cap_2 (fun H locs I => ?_)
  refine lv_aload_n X.1 X.2.1 dX3_cap_5 rfl (lv_at hl 0 rfl) ?_
  refine lv_iload_n X.1 X.2.1 dX3_cap_6 rfl (lv_at hl 1 rfl) ?_
  refine lv_iload_n X.1 X.2.1 dX3_cap_7 rfl (lv_at hl 2 rfl) ?_
  obtain ⟨r2, e1, h⟩ := m_bS h
  refine m_callI X hl.1 I hA (As := [.int p0, .int p1]) (rest := []) (c_areTwo l n D d (m_sg st 8 0) p0 p1 _ e1) 2 q1716 q1718 qs61 q107 q1719 (hd_areTwo) rfl rfl ⟨Nat.le_trans (Nat.le_of_ble_eq_true rfl) hR.1, Nat.le_trans (Nat.le_of_ble_eq_true rfl) hR.2⟩ ⟨rfl, rfl⟩ ⟨Nat.zero_le _, Nat.zero_le _⟩ (Nat.le_of_ble_eq_true rfl) dX3_cap_8 (fun H locs I => ?_)
  refine lv_if_ne (tgt := 17) X.1 X.2.1 dX3_cap_11 (by decide) (fun c3 => ?_) (fun c3 => ?_)
  · replace h := m_ifF c3 h
    refine lv_iload_n X.1 X.2.1 dX3_cap_17 rfl (lv_at hl 3 rfl) ?_
    refine lv_i2l X.1 X.2.1 dX3_cap_18 rfl ?_
    refine lv_lconst (v := 0) X.1 X.2.1 dX3_cap_19 (by decide) ?_
    refine lv_ldc2 (v := 99999999) X.1 X.2.1 X.2.2.2.1 (X.2.2.1 _ q1758) dX3_cap_20 ?_
    obtain ⟨r5, e4, h⟩ := m_bS h
    refine m_callS X hl.1 (As := [.long p2.toInt64, .long 0, .long 99999999]) (rest := []) (c_isIn l n p2.toInt64 0 99999999 _ e4) 3 q1623 q1624 q107 q1625 (hd_isIn).2 rfl rfl ⟨Nat.le_trans (Nat.le_of_ble_eq_true rfl) hR.1, Nat.le_trans (Nat.le_of_ble_eq_true rfl) hR.2⟩ ⟨rfl, rfl⟩ ⟨Nat.zero_le _, Nat.zero_le _⟩ (Nat.le_of_ble_eq_true rfl) dX3_cap_23 ?_
    refine lv_if_ne (tgt := 32) X.1 X.2.1 dX3_cap_26 (by decide) (fun c6 => ?_) (fun c6 => ?_)
    · replace h := m_ifF c6 h
      refine lv_aload_n X.1 X.2.1 dX3_cap_32 rfl (lv_at hl 0 rfl) ?_
      obtain ⟨s8, e7, h⟩ := m_bS h
      refine m_callV X hl.1 I hA (As := []) (rest := []) (c_remembers l n D d (m_sg st 8 0)  _ e7) 0 q1729 q1731 qs64 q107 q1732 (hd_remembers) rfl rfl ⟨Nat.le_trans (Nat.le_of_ble_eq_true rfl) hR.1, Nat.le_trans (Nat.le_of_ble_eq_true rfl) hR.2⟩ ⟨rfl, rfl⟩ ⟨Nat.zero_le _, Nat.zero_le _⟩ (Nat.le_of_ble_eq_true rfl) dX3_cap_33 (fun H locs I => ?_)
      refine lv_aload_n X.1 X.2.1 dX3_cap_36 rfl (lv_at hl 0 rfl) ?_
      refine m_get X I 0 (by decide) rfl rfl rfl q1517 (v := .ref (d.2.1 0)) rfl dX3_cap_37 ?_
      refine lv_sipush (v := 202) X.1 X.2.1 dX3_cap_40 (by decide) ?_
      refine lv_bipush (v := 8) X.1 X.2.1 dX3_cap_43 (by decide) ?_
      refine lv_iload_n X.1 X.2.1 dX3_cap_45 rfl (lv_at hl 1 rfl) ?_
      refine lv_imul X.1 X.2.1 dX3_cap_46 ?_
      refine lv_iadd X.1 X.2.1 dX3_cap_47 ?_
      refine lv_iload_n X.1 X.2.1 dX3_cap_48 rfl (lv_at hl 2 rfl) ?_
      refine lv_iadd X.1 X.2.1 dX3_cap_49 ?_
      obtain ⟨g9, h⟩ := m_gS h
      refine m_iald X I 1 (n := 266) (f := s8.2.1 0) rfl g9 dX3_cap_50 ?_
      refine lv_istore (lv' := [(4, .int (s8.2.1 0 ((202 + (8 * p0)) + p1 : Int32).toNatClampNeg)), (0, .ref d.1), (1, .int p0), (2, .int p1), (3, .int p2)]) X.1 X.2.1 dX3_cap_51 hl (by decide) rfl (fun ls hl => ?_)
      refine lv_aload_n X.1 X.2.1 dX3_cap_53 rfl (lv_at hl 1 rfl) ?_
      refine m_get X I 0 (by decide) rfl rfl rfl q1517 (v := .ref (d.2.1 0)) rfl dX3_cap_54 ?_
      refine lv_sipush (v := 202) X.1 X.2.1 dX3_cap_57 (by decide) ?_
      refine lv_bipush (v := 8) X.1 X.2.1 dX3_cap_60 (by decide) ?_
      refine lv_iload_n X.1 X.2.1 dX3_cap_62 rfl (lv_at hl 2 rfl) ?_
      refine lv_imul X.1 X.2.1 dX3_cap_63 ?_
      refine lv_iadd X.1 X.2.1 dX3_cap_64 ?_
      refine lv_iload_n X.1 X.2.1 dX3_cap_65 rfl (lv_at hl 3 rfl) ?_
      refine lv_iadd X.1 X.2.1 dX3_cap_66 ?_
      refine lv_iload_n X.1 X.2.1 dX3_cap_67 rfl (lv_at hl 4 rfl) ?_
      obtain ⟨g10, h⟩ := m_gS h
      refine m_iast X I 1 (n := 266) (f := s8.2.1 0) rfl (m_st0 d _ _ _) g10 dX3_cap_68 (fun H locs I => ?_)
      refine lv_iload X.1 X.2.1 dX3_cap_69 (lv_at hl 0 rfl) ?_
      obtain ⟨rfl, rfl⟩ := m_e2 h
      exact hret H locs ls 71 dX3_cap_71 I
    · replace h := m_ifT c6 h
      refine lv_bipush (v := (-3)) X.1 X.2.1 dX3_cap_29 (by decide) ?_
      obtain ⟨rfl, rfl⟩ := m_e2 h
      exact hret H locs ls 31 dX3_cap_31 I
  · replace h := m_ifT c3 h
    refine lv_bipush (v := (-2)) X.1 X.2.1 dX3_cap_14 (by decide) ?_
    obtain ⟨rfl, rfl⟩ := m_e2 h
    exact hret H locs ls 16 dX3_cap_16 I
end S_cap
theorem c_cap (l : Launch) (n : Nat) (D : va_G) (d : MD) (st : MS) (p0 : Int32) (p1 : Int32) (p2 : Int32) (r : Int32) (st' : MS) (h : f_cap n st p0 p1 p2 = some (r, st')) : m_Mi l yX3_cap cX3_cap 5 (some .int) ({ frames := 3, cells := 0, slots := 0, locals := 68 } : Room) D d st [.ref d.1, .int p0, .int p1, .int p2] r st' :=
  m_startI (lvl := [(0, .ref d.1), (1, .int p0), (2, .int p1), (3, .int p2)]) (by decide) rfl (Nat.le_of_ble_eq_true rfl) rfl (fun p e s m args below meth c ls X hr hlk hl hA I => w_cap X hA ⟨Nat.le_refl _, Nat.le_refl _⟩ n st p0 p1 p2 (r, st') h (fun H locs ls pc hd I => m_iret X I hr hlk hd) _ _ ls I hl)

/-! method laysFlows(II)V -/
def f_laysFlows_L2 (n : Nat) (v1 : Int32) (v2 : Int32) (v3 : Int32) (st : MS) : Option ((Int32 × MS) ⊕ MS) :=
  m_if ((64 : Int32) ≤ (v3 : Int32)) (some (.inr st)) (m_g (m_in v3 64) (some (.inl ((v3 + 1, m_sa st 17 (v3 : Int32).toNatClampNeg 0)))))
def f_laysFlows_L2l (n : Nat) (v1 : Int32) (v2 : Int32) (x : (Int32 × MS)) : Option MS := m_lp (fun (x : (Int32 × MS)) => f_laysFlows_L2 n v1 v2 x.1 x.2) n x
def f_laysFlows_J80 (n : Nat) (st : MS) (v1 : Int32) (v2 : Int32) (v3 : Int32) : Option ((Int32 × MS) ⊕ MS) :=
  some (.inl ((v3 + 1, st)))
def f_laysFlows_L23 (n : Nat) (v1 : Int32) (v2 : Int32) (v3 : Int32) (st : MS) : Option ((Int32 × MS) ⊕ MS) :=
  m_g (m_in 0 266) (m_if ((st.2.1 0 (0 : Int32).toNatClampNeg : Int32) ≤ (v3 : Int32)) (some (.inr st)) (m_b (f_isFree n st v3 v1) (fun r8 => m_if ((r8 : Int32) = 0) (f_laysFlows_J80 n st v1 v2 v3) (m_b (f_isOf n st v3 v2) (fun r11 => m_if ((r11 : Int32) = 0) (m_b (f_tradeAt n st v3 0) (fun r14 => m_b (f_tradeAt n st v3 1) (fun r16 => m_b (f_couple n r14 r16) (fun r18 => m_g (m_in r18 64) (m_b (f_tradeAt n st v3 2) (fun r21 => m_g (m_in r18 64) (f_laysFlows_J80 n (m_sa st 17 (r18 : Int32).toNatClampNeg ((st.2.1 17 (r18 : Int32).toNatClampNeg) + r21)) v1 v2 v3))))))) (f_laysFlows_J80 n st v1 v2 v3))))))
def f_laysFlows_L23l (n : Nat) (v1 : Int32) (v2 : Int32) (x : (Int32 × MS)) : Option MS := m_lp (fun (x : (Int32 × MS)) => f_laysFlows_L23 n v1 v2 x.1 x.2) n x
def f_laysFlows (n : Nat) (st : MS) (p0 : Int32) (p1 : Int32) : Option (MS) :=
  m_b (f_laysFlows_L2l n p0 p1 ((0, st))) (fun s4 => m_b (f_laysFlows_L23l n p0 p1 ((0, s4))) (fun s24 => some s24))
theorem hd_laysFlows : yX3_laysFlows.cls = RX3 ∧ yX3_laysFlows.cls ≠ "java/lang/invoke/MethodHandle" ∧ yX3_laysFlows.cls ≠ "java/lang/invoke/VarHandle" ∧ (parseMethodDescriptor yX3_laysFlows.desc).map (fun d => d.parameters.length) = some 2 := by decide +kernel
section S_laysFlows
variable {p : Program} {l : Launch} {e : Env} {R : Room} {s : State} {m : MethodId} {args : Array Value} {below : List Frame} {meth : Method} {c : Code} {Q : State → Prop} {D : va_G} {A : Nat → Prop} {d : MD}
theorem wf_laysFlows_L2 (X : m_X D A d p s m c cX3_laysFlows 4 args) (hA : ∀ q, s.heap.size ≤ q → A q) (hR : 2 ≤ R.frames ∧ 44 ≤ R.locals) (n : Nat) (v1 : Int32) (v2 : Int32) (x : (Int32 × MS)) (z : MS) (hz : f_laysFlows_L2l n v1 v2 x = some z) (hE : (fun (z : MS) => ∀ (H : Heap) (locs : List Loc) (ls : Array Slot), m_I D A d s.heap z H locs → lv_has ls 4 [(0, .ref d.1), (1, .int v1), (2, .int v2)] → W p l e R s m args below meth c H locs 0 0 Q (F0 m 21 ls [])) z) : (fun (x : (Int32 × MS)) => ∀ (H : Heap) (locs : List Loc) (ls : Array Slot), m_I D A d s.heap x.2 H locs → lv_has ls 4 [(0, .ref d.1), (1, .int v1), (2, .int v2), (3, .int x.1)] → W p l e R s m args below meth c H locs 0 0 Q (F0 m 2 ls [])) x := by
  refine m_lpW (G := fun (x : (Int32 × MS)) => ∀ (H : Heap) (locs : List Loc) (ls : Array Slot), m_I D A d s.heap x.2 H locs → lv_has ls 4 [(0, .ref d.1), (1, .int v1), (2, .int v2), (3, .int x.1)] → W p l e R s m args below meth c H locs 0 0 Q (F0 m 2 ls [])) (E := fun (z : MS) => ∀ (H : Heap) (locs : List Loc) (ls : Array Slot), m_I D A d s.heap z H locs → lv_has ls 4 [(0, .ref d.1), (1, .int v1), (2, .int v2)] → W p l e R s m args below meth c H locs 0 0 Q (F0 m 21 ls [])) ?_ n x z hz hE
  rintro ⟨v3, st⟩ r h hr H locs ls I hl
  replace h : f_laysFlows_L2 n v1 v2 v3 st = some r := h
  unfold f_laysFlows_L2 at h
  refine lv_iload_n X.1 X.2.1 dX3_laysFlows_2 rfl (lv_at hl 3 rfl) ?_
  refine lv_bipush (v := 64) X.1 X.2.1 dX3_laysFlows_3 (by decide) ?_
  refine lv_icmp_ge (tgt := 21) X.1 X.2.1 dX3_laysFlows_5 (by decide) (fun c1 => ?_) (fun c1 => ?_)
  · replace h := m_ifT c1 h
    cases h
    exact hr H locs ls I (lv_sub hl [0, 1, 2] rfl)
  · replace h := m_ifF c1 h
    refine lv_aload_n X.1 X.2.1 dX3_laysFlows_8 rfl (lv_at hl 0 rfl) ?_
    refine m_get X I 17 (by decide) rfl rfl rfl q1534 (v := .ref (d.2.1 17)) rfl dX3_laysFlows_9 ?_
    refine lv_iload_n X.1 X.2.1 dX3_laysFlows_12 rfl (lv_at hl 3 rfl) ?_
    refine lv_iconst (v := 0) X.1 X.2.1 dX3_laysFlows_13 (by decide) ?_
    obtain ⟨g2, h⟩ := m_gS h
    refine m_iast X I 7 (n := 64) (f := st.2.1 17) rfl (m_st17 d _ _ _) g2 dX3_laysFlows_14 (fun H locs I => ?_)
    refine lv_iinc (v := v3 + 1) (lv' := [(3, .int (v3 + 1)), (0, .ref d.1), (1, .int v1), (2, .int v2)]) X.1 X.2.1 dX3_laysFlows_15 hl (k := 3) rfl rfl (by decide) rfl (fun ls hl => ?_)
    refine lv_goto (tgt := 2) X.1 X.2.1 dX3_laysFlows_18 (by decide) ?_
    cases h
    exact hr H locs ls I (lv_sub hl [1, 2, 3, 0] rfl)
theorem wf_laysFlows_L23 (X : m_X D A d p s m c cX3_laysFlows 4 args) (hA : ∀ q, s.heap.size ≤ q → A q) (hR : 2 ≤ R.frames ∧ 44 ≤ R.locals) (n : Nat) (v1 : Int32) (v2 : Int32) (x : (Int32 × MS)) (z : MS) (hz : f_laysFlows_L23l n v1 v2 x = some z) (hE : (fun (z : MS) => ∀ (H : Heap) (locs : List Loc) (ls : Array Slot), m_I D A d s.heap z H locs → lv_has ls 4 [] → W p l e R s m args below meth c H locs 0 0 Q (F0 m 86 ls [])) z) : (fun (x : (Int32 × MS)) => ∀ (H : Heap) (locs : List Loc) (ls : Array Slot), m_I D A d s.heap x.2 H locs → lv_has ls 4 [(0, .ref d.1), (1, .int v1), (2, .int v2), (3, .int x.1)] → W p l e R s m args below meth c H locs 0 0 Q (F0 m 23 ls [])) x := by
  refine m_lpW (G := fun (x : (Int32 × MS)) => ∀ (H : Heap) (locs : List Loc) (ls : Array Slot), m_I D A d s.heap x.2 H locs → lv_has ls 4 [(0, .ref d.1), (1, .int v1), (2, .int v2), (3, .int x.1)] → W p l e R s m args below meth c H locs 0 0 Q (F0 m 23 ls [])) (E := fun (z : MS) => ∀ (H : Heap) (locs : List Loc) (ls : Array Slot), m_I D A d s.heap z H locs → lv_has ls 4 [] → W p l e R s m args below meth c H locs 0 0 Q (F0 m 86 ls [])) ?_ n x z hz hE
  rintro ⟨v3, st⟩ r h hr H locs ls I hl
  replace h : f_laysFlows_L23 n v1 v2 v3 st = some r := h
  have k80 : ∀ (st : MS) (v3 : Int32) (H : Heap) (locs : List Loc) (ls : Array Slot), f_laysFlows_J80 n st v1 v2 v3 = some r → m_I D A d s.heap st H locs → lv_has ls 4 [(0, .ref d.1), (1, .int v1), (2, .int v2), (3, .int v3)] → W p l e R s m args below meth c H locs 0 0 Q (F0 m 80 ls []) := by
    intro st v3 H locs ls h I hl
    unfold f_laysFlows_J80 at h
    refine lv_iinc (v := v3 + 1) (lv' := [(3, .int (v3 + 1)), (0, .ref d.1), (1, .int v1), (2, .int v2)]) X.1 X.2.1 dX3_laysFlows_80 hl (k := 3) rfl rfl (by decide) rfl (fun ls hl => ?_)
    refine lv_goto (tgt := 23) X.1 X.2.1 dX3_laysFlows_83 (by decide) ?_
    cases h
    exact hr H locs ls I (lv_sub hl [1, 2, 3, 0] rfl)
  unfold f_laysFlows_L23 at h
  refine lv_iload_n X.1 X.2.1 dX3_laysFlows_23 rfl (lv_at hl 3 rfl) ?_
  refine lv_aload_n X.1 X.2.1 dX3_laysFlows_24 rfl (lv_at hl 0 rfl) ?_
  refine m_get X I 0 (by decide) rfl rfl rfl q1517 (v := .ref (d.2.1 0)) rfl dX3_laysFlows_25 ?_
  refine lv_iconst (v := 0) X.1 X.2.1 dX3_laysFlows_28 (by decide) ?_
  obtain ⟨g5, h⟩ := m_gS h
  refine m_iald X I 1 (n := 266) (f := st.2.1 0) rfl g5 dX3_laysFlows_29 ?_
  refine lv_icmp_ge (tgt := 86) X.1 X.2.1 dX3_laysFlows_30 (by decide) (fun c6 => ?_) (fun c6 => ?_)
  · replace h := m_ifT c6 h
    cases h
    exact hr H locs ls I (lv_sub hl [] rfl)
  · replace h := m_ifF c6 h
    refine lv_aload_n X.1 X.2.1 dX3_laysFlows_33 rfl (lv_at hl 0 rfl) ?_
    refine lv_iload_n X.1 X.2.1 dX3_laysFlows_34 rfl (lv_at hl 3 rfl) ?_
    refine lv_iload_n X.1 X.2.1 dX3_laysFlows_35 rfl (lv_at hl 1 rfl) ?_
    obtain ⟨r8, e7, h⟩ := m_bS h
    refine m_callI X hl.1 I hA (As := [.int v3, .int v1]) (rest := []) (c_isFree l n D d st v3 v1 _ e7) 2 q1776 q1778 qs68 q107 q1779 (hd_isFree) rfl rfl ⟨Nat.le_trans (Nat.le_of_ble_eq_true rfl) hR.1, Nat.le_trans (Nat.le_of_ble_eq_true rfl) hR.2⟩ ⟨rfl, rfl⟩ ⟨Nat.zero_le _, Nat.zero_le _⟩ (Nat.le_of_ble_eq_true rfl) dX3_laysFlows_36 (fun H locs I => ?_)
    refine lv_if_eq (tgt := 80) X.1 X.2.1 dX3_laysFlows_39 (by decide) (fun c9 => ?_) (fun c9 => ?_)
    · replace h := m_ifT c9 h
      exact k80 st v3 H locs ls h I (lv_sub hl [0, 1, 2, 3] rfl)
    · replace h := m_ifF c9 h
      refine lv_aload_n X.1 X.2.1 dX3_laysFlows_42 rfl (lv_at hl 0 rfl) ?_
      refine lv_iload_n X.1 X.2.1 dX3_laysFlows_43 rfl (lv_at hl 3 rfl) ?_
      refine lv_iload_n X.1 X.2.1 dX3_laysFlows_44 rfl (lv_at hl 2 rfl) ?_
      obtain ⟨r11, e10, h⟩ := m_bS h
      refine m_callI X hl.1 I hA (As := [.int v3, .int v2]) (rest := []) (c_isOf l n D d st v3 v2 _ e10) 2 q1780 q1782 qs69 q107 q1783 (hd_isOf) rfl rfl ⟨Nat.le_trans (Nat.le_of_ble_eq_true rfl) hR.1, Nat.le_trans (Nat.le_of_ble_eq_true rfl) hR.2⟩ ⟨rfl, rfl⟩ ⟨Nat.zero_le _, Nat.zero_le _⟩ (Nat.le_of_ble_eq_true rfl) dX3_laysFlows_45 (fun H locs I => ?_)
      refine lv_if_ne (tgt := 80) X.1 X.2.1 dX3_laysFlows_48 (by decide) (fun c12 => ?_) (fun c12 => ?_)
      · replace h := m_ifF c12 h
        exact k80 st v3 H locs ls h I (lv_sub hl [0, 1, 2, 3] rfl)
      · replace h := m_ifT c12 h
        refine lv_aload_n X.1 X.2.1 dX3_laysFlows_51 rfl (lv_at hl 0 rfl) ?_
        refine m_get X I 17 (by decide) rfl rfl rfl q1534 (v := .ref (d.2.1 17)) rfl dX3_laysFlows_52 ?_
        refine lv_aload_n X.1 X.2.1 dX3_laysFlows_55 rfl (lv_at hl 0 rfl) ?_
        refine lv_iload_n X.1 X.2.1 dX3_laysFlows_56 rfl (lv_at hl 3 rfl) ?_
        refine lv_iconst (v := 0) X.1 X.2.1 dX3_laysFlows_57 (by decide) ?_
        obtain ⟨r14, e13, h⟩ := m_bS h
        refine m_callI X hl.1 I hA (As := [.int v3, .int 0]) (rest := [.ref (d.2.1 17)]) (c_tradeAt l n D d st v3 0 _ e13) 2 q1683 q1685 qs55 q107 q1686 (hd_tradeAt) rfl rfl ⟨Nat.le_trans (Nat.le_of_ble_eq_true rfl) hR.1, Nat.le_trans (Nat.le_of_ble_eq_true rfl) hR.2⟩ ⟨rfl, rfl⟩ ⟨Nat.zero_le _, Nat.zero_le _⟩ (Nat.le_of_ble_eq_true rfl) dX3_laysFlows_58 (fun H locs I => ?_)
        refine lv_aload_n X.1 X.2.1 dX3_laysFlows_61 rfl (lv_at hl 0 rfl) ?_
        refine lv_iload_n X.1 X.2.1 dX3_laysFlows_62 rfl (lv_at hl 3 rfl) ?_
        refine lv_iconst (v := 1) X.1 X.2.1 dX3_laysFlows_63 (by decide) ?_
        obtain ⟨r16, e15, h⟩ := m_bS h
        refine m_callI X hl.1 I hA (As := [.int v3, .int 1]) (rest := [.int r14, .ref (d.2.1 17)]) (c_tradeAt l n D d st v3 1 _ e15) 2 q1683 q1685 qs55 q107 q1686 (hd_tradeAt) rfl rfl ⟨Nat.le_trans (Nat.le_of_ble_eq_true rfl) hR.1, Nat.le_trans (Nat.le_of_ble_eq_true rfl) hR.2⟩ ⟨rfl, rfl⟩ ⟨Nat.zero_le _, Nat.zero_le _⟩ (Nat.le_of_ble_eq_true rfl) dX3_laysFlows_64 (fun H locs I => ?_)
        obtain ⟨r18, e17, h⟩ := m_bS h
        refine m_callS X hl.1 (As := [.int r14, .int r16]) (rest := [.ref (d.2.1 17)]) (c_couple l n r14 r16 _ e17) 2 q1784 q1785 q107 q1786 (hd_couple).2 rfl rfl ⟨Nat.le_trans (Nat.le_of_ble_eq_true rfl) hR.1, Nat.le_trans (Nat.le_of_ble_eq_true rfl) hR.2⟩ ⟨rfl, rfl⟩ ⟨Nat.zero_le _, Nat.zero_le _⟩ (Nat.le_of_ble_eq_true rfl) dX3_laysFlows_67 ?_
        refine lv_dup2_11 X.1 X.2.1 dX3_laysFlows_70 rfl rfl ?_
        obtain ⟨g19, h⟩ := m_gS h
        refine m_iald X I 7 (n := 64) (f := st.2.1 17) rfl g19 dX3_laysFlows_71 ?_
        refine lv_aload_n X.1 X.2.1 dX3_laysFlows_72 rfl (lv_at hl 0 rfl) ?_
        refine lv_iload_n X.1 X.2.1 dX3_laysFlows_73 rfl (lv_at hl 3 rfl) ?_
        refine lv_iconst (v := 2) X.1 X.2.1 dX3_laysFlows_74 (by decide) ?_
        obtain ⟨r21, e20, h⟩ := m_bS h
        refine m_callI X hl.1 I hA (As := [.int v3, .int 2]) (rest := [.int (st.2.1 17 (r18 : Int32).toNatClampNeg), .int r18, .ref (d.2.1 17)]) (c_tradeAt l n D d st v3 2 _ e20) 2 q1683 q1685 qs55 q107 q1686 (hd_tradeAt) rfl rfl ⟨Nat.le_trans (Nat.le_of_ble_eq_true rfl) hR.1, Nat.le_trans (Nat.le_of_ble_eq_true rfl) hR.2⟩ ⟨rfl, rfl⟩ ⟨Nat.zero_le _, Nat.zero_le _⟩ (Nat.le_of_ble_eq_true rfl) dX3_laysFlows_75 (fun H locs I => ?_)
        refine lv_iadd X.1 X.2.1 dX3_laysFlows_78 ?_
        obtain ⟨g22, h⟩ := m_gS h
        refine m_iast X I 7 (n := 64) (f := st.2.1 17) rfl (m_st17 d _ _ _) g22 dX3_laysFlows_79 (fun H locs I => ?_)
        exact k80 (m_sa st 17 (r18 : Int32).toNatClampNeg ((st.2.1 17 (r18 : Int32).toNatClampNeg) + r21)) v3 H locs ls h I (lv_sub hl [0, 1, 2, 3] rfl)
theorem w_laysFlows (X : m_X D A d p s m c cX3_laysFlows 4 args) (hA : ∀ q, s.heap.size ≤ q → A q) (hR : 2 ≤ R.frames ∧ 44 ≤ R.locals) (n : Nat) (st : MS) (p0 : Int32) (p1 : Int32) (r : MS) (h : f_laysFlows n st p0 p1 = some r) (hret : ∀ (H : Heap) (locs : List Loc) (ls : Array Slot) (pc : Nat), decode cX3_laysFlows pc = .ok (.return_, 1) → m_I D A d s.heap r H locs → W p l e R s m args below meth c H locs 0 0 Q (F0 m pc ls [])) : ∀ (H : Heap) (locs : List Loc) (ls : Array Slot), m_I D A d s.heap st H locs → lv_has ls 4 [(0, .ref d.1), (1, .int p0), (2, .int p1)] → W p l e R s m args below meth c H locs 0 0 Q (F0 m 0 ls []) := by
  intro H locs ls I hl
  unfold f_laysFlows at h
  refine lv_iconst (v := 0) X.1 X.2.1 dX3_laysFlows_0 (by decide) ?_
  refine lv_istore_n (lv' := [(3, .int 0), (0, .ref d.1), (1, .int p0), (2, .int p1)]) X.1 X.2.1 dX3_laysFlows_1 rfl hl (by decide) rfl (fun ls hl => ?_)
  obtain ⟨s4, e3, h⟩ := m_bS h
  refine wf_laysFlows_L2 X hA hR n p0 p1 _ _ e3 (fun H locs ls I hl => ?_) H locs ls I (lv_sub hl [1, 2, 3, 0] rfl)
  refine lv_iconst (v := 0) X.1 X.2.1 dX3_laysFlows_21 (by decide) ?_
  refine lv_istore_n (lv' := [(3, .int 0), (0, .ref d.1), (1, .int p0), (2, .int p1)]) X.1 X.2.1 dX3_laysFlows_22 rfl hl (by decide) rfl (fun ls hl => ?_)
  obtain ⟨s24, e23, h⟩ := m_bS h
  refine wf_laysFlows_L23 X hA hR n p0 p1 _ _ e23 (fun H locs ls I hl => ?_) H locs ls I (lv_sub hl [1, 2, 3, 0] rfl)
  obtain rfl := m_e1 h
  exact hret H locs ls 86 dX3_laysFlows_86 I
end S_laysFlows
theorem c_laysFlows (l : Launch) (n : Nat) (D : va_G) (d : MD) (st : MS) (p0 : Int32) (p1 : Int32) (st' : MS) (h : f_laysFlows n st p0 p1 = some st') : m_Mv l yX3_laysFlows cX3_laysFlows 4 none ({ frames := 2, cells := 0, slots := 0, locals := 44 } : Room) D d st [.ref d.1, .int p0, .int p1] st' :=
  m_startV (lvl := [(0, .ref d.1), (1, .int p0), (2, .int p1)]) (by decide) rfl (Nat.le_of_ble_eq_true rfl) rfl (fun p e s m args below meth c ls X hr hlk hl hA I => w_laysFlows X hA ⟨Nat.le_refl _, Nat.le_refl _⟩ n st p0 p1 st' h (fun H locs ls pc hd I => m_vret X I hr hlk hd) _ _ ls I hl)

/-! method net(IIZ)I -/
def f_net_J21 (n : Nat) (st : MS) : Option (Int32 × MS) :=
  some ((-2), st)
def f_net_J59 (n : Nat) (st : MS) (t0 : Int32) (t1 : Int32) : Option (Int32 × MS) :=
  some (t1 + t0, st)
def f_net (n : Nat) (st : MS) (p0 : Int32) (p1 : Int32) (p2 : Int32) : Option (Int32 × MS) :=
  m_b (f_isParty n (m_sg st 8 0) p0) (fun r2 => m_if ((r2 : Int32) = 0) (f_net_J21 n (m_sg st 8 0)) (m_b (f_isKind n (m_sg st 8 0) p1) (fun r5 => m_if ((r5 : Int32) = 0) (f_net_J21 n (m_sg st 8 0)) (m_b (f_laysFlows n (m_sg st 8 0) p1 ((-1))) (fun s8 => m_if ((p2 : Int32) = 0) (m_b (f_amounts n s8 p0 p1 0) (fun r11 => m_b (f_amounts n s8 p0 p1 1) (fun r13 => f_net_J59 n s8 (r11 - r13) 100000000))) (m_b (f_netBy n s8 p0) (fun r15 => f_net_J59 n s8 r15 100000000)))))))
theorem hd_net : yX3_net.cls = RX3 ∧ yX3_net.cls ≠ "java/lang/invoke/MethodHandle" ∧ yX3_net.cls ≠ "java/lang/invoke/VarHandle" ∧ (parseMethodDescriptor yX3_net.desc).map (fun d => d.parameters.length) = some 3 := by decide +kernel
section S_net
variable {p : Program} {l : Launch} {e : Env} {R : Room} {s : State} {m : MethodId} {args : Array Value} {below : List Frame} {meth : Method} {c : Code} {Q : State → Prop} {D : va_G} {A : Nat → Prop} {d : MD}
theorem w_net (X : m_X D A d p s m c cX3_net 4 args) (hA : ∀ q, s.heap.size ≤ q → A q) (hR : 3 ≤ R.frames ∧ 67 ≤ R.locals) (n : Nat) (st : MS) (p0 : Int32) (p1 : Int32) (p2 : Int32) (r : (Int32 × MS)) (h : f_net n st p0 p1 p2 = some r) (hret : ∀ (H : Heap) (locs : List Loc) (ls : Array Slot) (pc : Nat), decode cX3_net pc = .ok (.ireturn, 1) → m_I D A d s.heap r.2 H locs → W p l e R s m args below meth c H locs 0 0 Q (F0 m pc ls [.int r.1])) : ∀ (H : Heap) (locs : List Loc) (ls : Array Slot), m_I D A d s.heap st H locs → lv_has ls 4 [(0, .ref d.1), (1, .int p0), (2, .int p1), (3, .int p2)] → W p l e R s m args below meth c H locs 0 0 Q (F0 m 0 ls []) := by
  obtain ⟨r0, s0⟩ := r
  have k21 : ∀ (st : MS) (H : Heap) (locs : List Loc) (ls : Array Slot), f_net_J21 n st = some (r0, s0) → m_I D A d s.heap st H locs → lv_has ls 4 [] → W p l e R s m args below meth c H locs 0 0 Q (F0 m 21 ls []) := by
    intro st H locs ls h I hl
    unfold f_net_J21 at h
    refine lv_bipush (v := (-2)) X.1 X.2.1 dX3_net_21 (by decide) ?_
    obtain ⟨rfl, rfl⟩ := m_e2 h
    exact hret H locs ls 23 dX3_net_23 I
  have k59 : ∀ (st : MS) (t0 : Int32) (t1 : Int32) (H : Heap) (locs : List Loc) (ls : Array Slot), f_net_J59 n st t0 t1 = some (r0, s0) → m_I D A d s.heap st H locs → lv_has ls 4 [] → W p l e R s m args below meth c H locs 0 0 Q (F0 m 59 ls [.int t0, .int t1]) := by
    intro st t0 t1 H locs ls h I hl
    unfold f_net_J59 at h
    refine lv_iadd X.1 X.2.1 dX3_net_59 ?_
    obtain ⟨rfl, rfl⟩ := m_e2 h
    exact hret H locs ls 60 dX3_net_60 I
  intro H locs ls I hl
  unfold f_net at h
  refine lv_aload_n X.1 X.2.1 dX3_net_0 rfl (lv_at hl 0 rfl) ?_
  refine lv_iconst (v := 0) X.1 X.2.1 dX3_net_1 (by decide) ?_
  refine m_put X I 8 (by decide) rfl rfl rfl q1525 rfl (m_set8 d _ _) dX3_net_2 (fun H locs I => ?_)
  refine lv_aload_n X.1 X.2.1 dX3_net_5 rfl (lv_at hl 0 rfl) ?_
  refine lv_iload_n X.1 X.2.1 dX3_net_6 rfl (lv_at hl 1 rfl) ?_
  obtain ⟨r2, e1, h⟩ := m_bS h
  refine m_callI X hl.1 I hA (As := [.int p0]) (rest := []) (c_isParty l n D d (m_sg st 8 0) p0 _ e1) 1 q1720 q1722 qs62 q107 q1723 (hd_isParty) rfl rfl ⟨Nat.le_trans (Nat.le_of_ble_eq_true rfl) hR.1, Nat.le_trans (Nat.le_of_ble_eq_true rfl) hR.2⟩ ⟨rfl, rfl⟩ ⟨Nat.zero_le _, Nat.zero_le _⟩ (Nat.le_of_ble_eq_true rfl) dX3_net_7 (fun H locs I => ?_)
  refine lv_if_eq (tgt := 21) X.1 X.2.1 dX3_net_10 (by decide) (fun c3 => ?_) (fun c3 => ?_)
  · replace h := m_ifT c3 h
    exact k21 (m_sg st 8 0) H locs ls h I (lv_sub hl [] rfl)
  · replace h := m_ifF c3 h
    refine lv_aload_n X.1 X.2.1 dX3_net_13 rfl (lv_at hl 0 rfl) ?_
    refine lv_iload_n X.1 X.2.1 dX3_net_14 rfl (lv_at hl 2 rfl) ?_
    obtain ⟨r5, e4, h⟩ := m_bS h
    refine m_callI X hl.1 I hA (As := [.int p1]) (rest := []) (c_isKind l n D d (m_sg st 8 0) p1 _ e4) 1 q1724 q1726 qs63 q107 q1727 (hd_isKind) rfl rfl ⟨Nat.le_trans (Nat.le_of_ble_eq_true rfl) hR.1, Nat.le_trans (Nat.le_of_ble_eq_true rfl) hR.2⟩ ⟨rfl, rfl⟩ ⟨Nat.zero_le _, Nat.zero_le _⟩ (Nat.le_of_ble_eq_true rfl) dX3_net_15 (fun H locs I => ?_)
    refine lv_if_ne (tgt := 24) X.1 X.2.1 dX3_net_18 (by decide) (fun c6 => ?_) (fun c6 => ?_)
    · replace h := m_ifF c6 h
      refine lv_aload_n X.1 X.2.1 dX3_net_24 rfl (lv_at hl 0 rfl) ?_
      refine lv_iload_n X.1 X.2.1 dX3_net_25 rfl (lv_at hl 2 rfl) ?_
      refine lv_iconst (v := (-1)) X.1 X.2.1 dX3_net_26 (by decide) ?_
      obtain ⟨s8, e7, h⟩ := m_bS h
      refine m_callV X hl.1 I hA (As := [.int p1, .int ((-1))]) (rest := []) (c_laysFlows l n D d (m_sg st 8 0) p1 ((-1)) _ e7) 2 q1772 q1774 qs67 q107 q1775 (hd_laysFlows) rfl rfl ⟨Nat.le_trans (Nat.le_of_ble_eq_true rfl) hR.1, Nat.le_trans (Nat.le_of_ble_eq_true rfl) hR.2⟩ ⟨rfl, rfl⟩ ⟨Nat.zero_le _, Nat.zero_le _⟩ (Nat.le_of_ble_eq_true rfl) dX3_net_27 (fun H locs I => ?_)
      refine lv_ldc (v := 100000000) X.1 X.2.1 X.2.2.2.1 (X.2.2.1 _ q1791) dX3_net_30 ?_
      refine lv_iload_n X.1 X.2.1 dX3_net_32 rfl (lv_at hl 3 rfl) ?_
      refine lv_if_eq (tgt := 44) X.1 X.2.1 dX3_net_33 (by decide) (fun c9 => ?_) (fun c9 => ?_)
      · replace h := m_ifT c9 h
        refine lv_aload_n X.1 X.2.1 dX3_net_44 rfl (lv_at hl 0 rfl) ?_
        refine lv_iload_n X.1 X.2.1 dX3_net_45 rfl (lv_at hl 1 rfl) ?_
        refine lv_iload_n X.1 X.2.1 dX3_net_46 rfl (lv_at hl 2 rfl) ?_
        refine lv_iconst (v := 0) X.1 X.2.1 dX3_net_47 (by decide) ?_
        obtain ⟨r11, e10, h⟩ := m_bS h
        refine m_callI X hl.1 I hA (As := [.int p0, .int p1, .int 0]) (rest := [.int 100000000]) (c_amounts l n D d s8 p0 p1 0 _ e10) 3 q1796 q1798 qs71 q107 q1799 (hd_amounts) rfl rfl ⟨Nat.le_trans (Nat.le_of_ble_eq_true rfl) hR.1, Nat.le_trans (Nat.le_of_ble_eq_true rfl) hR.2⟩ ⟨rfl, rfl⟩ ⟨Nat.zero_le _, Nat.zero_le _⟩ (Nat.le_of_ble_eq_true rfl) dX3_net_48 (fun H locs I => ?_)
        refine lv_aload_n X.1 X.2.1 dX3_net_51 rfl (lv_at hl 0 rfl) ?_
        refine lv_iload_n X.1 X.2.1 dX3_net_52 rfl (lv_at hl 1 rfl) ?_
        refine lv_iload_n X.1 X.2.1 dX3_net_53 rfl (lv_at hl 2 rfl) ?_
        refine lv_iconst (v := 1) X.1 X.2.1 dX3_net_54 (by decide) ?_
        obtain ⟨r13, e12, h⟩ := m_bS h
        refine m_callI X hl.1 I hA (As := [.int p0, .int p1, .int 1]) (rest := [.int r11, .int 100000000]) (c_amounts l n D d s8 p0 p1 1 _ e12) 3 q1796 q1798 qs71 q107 q1799 (hd_amounts) rfl rfl ⟨Nat.le_trans (Nat.le_of_ble_eq_true rfl) hR.1, Nat.le_trans (Nat.le_of_ble_eq_true rfl) hR.2⟩ ⟨rfl, rfl⟩ ⟨Nat.zero_le _, Nat.zero_le _⟩ (Nat.le_of_ble_eq_true rfl) dX3_net_55 (fun H locs I => ?_)
        refine lv_isub X.1 X.2.1 dX3_net_58 ?_
        exact k59 s8 (r11 - r13) 100000000 H locs ls h I (lv_sub hl [] rfl)
      · replace h := m_ifF c9 h
        refine lv_aload_n X.1 X.2.1 dX3_net_36 rfl (lv_at hl 0 rfl) ?_
        refine lv_iload_n X.1 X.2.1 dX3_net_37 rfl (lv_at hl 1 rfl) ?_
        obtain ⟨r15, e14, h⟩ := m_bS h
        refine m_callI X hl.1 I hA (As := [.int p0]) (rest := [.int 100000000]) (c_netBy l n D d s8 p0 _ e14) 1 q1792 q1794 qs70 q107 q1795 (hd_netBy) rfl rfl ⟨Nat.le_trans (Nat.le_of_ble_eq_true rfl) hR.1, Nat.le_trans (Nat.le_of_ble_eq_true rfl) hR.2⟩ ⟨rfl, rfl⟩ ⟨Nat.zero_le _, Nat.zero_le _⟩ (Nat.le_of_ble_eq_true rfl) dX3_net_38 (fun H locs I => ?_)
        refine lv_goto (tgt := 59) X.1 X.2.1 dX3_net_41 (by decide) ?_
        exact k59 s8 r15 100000000 H locs ls h I (lv_sub hl [] rfl)
    · replace h := m_ifT c6 h
      exact k21 (m_sg st 8 0) H locs ls h I (lv_sub hl [] rfl)
end S_net
theorem c_net (l : Launch) (n : Nat) (D : va_G) (d : MD) (st : MS) (p0 : Int32) (p1 : Int32) (p2 : Int32) (r : Int32) (st' : MS) (h : f_net n st p0 p1 p2 = some (r, st')) : m_Mi l yX3_net cX3_net 4 (some .int) ({ frames := 3, cells := 0, slots := 0, locals := 67 } : Room) D d st [.ref d.1, .int p0, .int p1, .int p2] r st' :=
  m_startI (lvl := [(0, .ref d.1), (1, .int p0), (2, .int p1), (3, .int p2)]) (by decide) rfl (Nat.le_of_ble_eq_true rfl) rfl (fun p e s m args below meth c ls X hr hlk hl hA I => w_net X hA ⟨Nat.le_refl _, Nat.le_refl _⟩ n st p0 p1 p2 (r, st') h (fun H locs ls pc hd I => m_iret X I hr hlk hd) _ _ ls I hl)

/-! method total(II)I -/
def f_total_J143 (n : Nat) (st : MS) (v2 : Int32) (v4 : Int32) (t0 : Int32) (t1 : Int32) : Option ((Int32 × Int32 × MS) ⊕ (Int32 × MS)) :=
  some (.inl ((t1 + t0, v4 + 1, st)))
def f_total_L114 (n : Nat) (v2 : Int32) (v3 : Int32) (v4 : Int32) (st : MS) : Option ((Int32 × Int32 × MS) ⊕ (Int32 × MS)) :=
  m_if ((st.1 5 : Int32) ≤ (v4 : Int32)) (some (.inr ((v3, st)))) (m_b (f_netBy n st v4) (fun r17 => m_if ((r17 : Int32) ≤ 0) (f_total_J143 n st v2 v4 0 v3) (m_b (f_netBy n st v4) (fun r20 => f_total_J143 n st v2 v4 r20 v3))))
def f_total_L114l (n : Nat) (v2 : Int32) (x : (Int32 × Int32 × MS)) : Option (Int32 × MS) := m_lp (fun (x : (Int32 × Int32 × MS)) => f_total_L114 n v2 x.1 x.2.1 x.2.2) n x
def f_total_J98 (n : Nat) (st : MS) (v1 : Int32) (v2 : Int32) (v4 : Int32) (t0 : Int32) (t1 : Int32) : Option ((Int32 × Int32 × MS) ⊕ (Int32 × MS)) :=
  some (.inl ((t1 + t0, v4 + 1, st)))
def f_total_J97 (n : Nat) (st : MS) (v1 : Int32) (v2 : Int32) (v4 : Int32) (t0 : Int32) : Option ((Int32 × Int32 × MS) ⊕ (Int32 × MS)) :=
  f_total_J98 n st v1 v2 v4 0 t0
def f_total_L53 (n : Nat) (v1 : Int32) (v2 : Int32) (v3 : Int32) (v4 : Int32) (st : MS) : Option ((Int32 × Int32 × MS) ⊕ (Int32 × MS)) :=
  m_g (m_in 0 266) (m_if ((st.2.1 0 (0 : Int32).toNatClampNeg : Int32) ≤ (v4 : Int32)) (some (.inr ((v3, st)))) (m_b (f_tradeAt n st v4 3) (fun r28 => m_if ((r28 : Int32) = (v1 : Int32)) (m_b (f_tradeAt n st v4 4) (fun r31 => m_if ((r31 : Int32) = (1 : Int32)) (m_b (f_tradeAt n st v4 2) (fun r34 => f_total_J98 n st v1 v2 v4 r34 v3)) (f_total_J97 n st v1 v2 v4 v3))) (f_total_J97 n st v1 v2 v4 v3))))
def f_total_L53l (n : Nat) (v1 : Int32) (v2 : Int32) (x : (Int32 × Int32 × MS)) : Option (Int32 × MS) := m_lp (fun (x : (Int32 × Int32 × MS)) => f_total_L53 n v1 v2 x.1 x.2.1 x.2.2) n x
def f_total_J25 (n : Nat) (st : MS) : Option (Int32 × MS) :=
  some ((-2), st)
def f_total_J164 (n : Nat) (st : MS) (t0 : Int32) : Option (Int32 × MS) :=
  some (t0, st)
def f_total_J151 (n : Nat) (st : MS) (v2 : Int32) (v3 : Int32) : Option (Int32 × MS) :=
  m_if ((v2 : Int32) = (1 : Int32)) (m_b (f_positive n st) (fun r14 => f_total_J164 n st r14)) (f_total_J164 n st v3)
def f_total_J106 (n : Nat) (st : MS) (v2 : Int32) (v3 : Int32) : Option (Int32 × MS) :=
  m_if ((v2 : Int32) = (3 : Int32)) (m_b (f_total_L114l n v2 ((v3, 0, st))) (fun y24 => f_total_J151 n y24.2 v2 y24.1)) (f_total_J151 n st v2 v3)
def f_total_J45 (n : Nat) (st : MS) (v1 : Int32) (v2 : Int32) (v3 : Int32) : Option (Int32 × MS) :=
  m_if ((v2 : Int32) = (2 : Int32)) (m_b (f_total_L53l n v1 v2 ((v3, 0, st))) (fun y38 => f_total_J106 n y38.2 v2 y38.1)) (f_total_J106 n st v2 v3)
def f_total (n : Nat) (st : MS) (p0 : Int32) (p1 : Int32) : Option (Int32 × MS) :=
  m_b (f_isKind n (m_sg st 8 0) p0) (fun r2 => m_if ((r2 : Int32) = 0) (f_total_J25 n (m_sg st 8 0)) (m_b (f_isIn n p1.toInt64 0 3) (fun r5 => m_if ((r5 : Int32) = 0) (f_total_J25 n (m_sg st 8 0)) (m_b (f_laysFlows n (m_sg st 8 0) p0 ((-1))) (fun s8 => m_if ((p1 : Int32) = 0) (m_b (f_sumOfFlows n s8) (fun r40 => f_total_J45 n s8 p0 p1 r40)) (f_total_J45 n s8 p0 p1 0))))))
theorem hd_total : yX3_total.cls = RX3 ∧ yX3_total.cls ≠ "java/lang/invoke/MethodHandle" ∧ yX3_total.cls ≠ "java/lang/invoke/VarHandle" ∧ (parseMethodDescriptor yX3_total.desc).map (fun d => d.parameters.length) = some 2 := by decide +kernel
section S_total
variable {p : Program} {l : Launch} {e : Env} {R : Room} {s : State} {m : MethodId} {args : Array Value} {below : List Frame} {meth : Method} {c : Code} {Q : State → Prop} {D : va_G} {A : Nat → Prop} {d : MD}
theorem wf_total_L114 (X : m_X D A d p s m c cX3_total 5 args) (hA : ∀ q, s.heap.size ≤ q → A q) (hR : 3 ≤ R.frames ∧ 67 ≤ R.locals) (n : Nat) (v2 : Int32) (x : (Int32 × Int32 × MS)) (z : (Int32 × MS)) (hz : f_total_L114l n v2 x = some z) (hE : (fun (z : (Int32 × MS)) => ∀ (H : Heap) (locs : List Loc) (ls : Array Slot), m_I D A d s.heap z.2 H locs → lv_has ls 5 [(0, .ref d.1), (2, .int v2), (3, .int z.1)] → W p l e R s m args below meth c H locs 0 0 Q (F0 m 151 ls [])) z) : (fun (x : (Int32 × Int32 × MS)) => ∀ (H : Heap) (locs : List Loc) (ls : Array Slot), m_I D A d s.heap x.2.2 H locs → lv_has ls 5 [(0, .ref d.1), (2, .int v2), (3, .int x.1), (4, .int x.2.1)] → W p l e R s m args below meth c H locs 0 0 Q (F0 m 114 ls [])) x := by
  refine m_lpW (G := fun (x : (Int32 × Int32 × MS)) => ∀ (H : Heap) (locs : List Loc) (ls : Array Slot), m_I D A d s.heap x.2.2 H locs → lv_has ls 5 [(0, .ref d.1), (2, .int v2), (3, .int x.1), (4, .int x.2.1)] → W p l e R s m args below meth c H locs 0 0 Q (F0 m 114 ls [])) (E := fun (z : (Int32 × MS)) => ∀ (H : Heap) (locs : List Loc) (ls : Array Slot), m_I D A d s.heap z.2 H locs → lv_has ls 5 [(0, .ref d.1), (2, .int v2), (3, .int z.1)] → W p l e R s m args below meth c H locs 0 0 Q (F0 m 151 ls [])) ?_ n x z hz hE
  rintro ⟨v3, v4, st⟩ r h hr H locs ls I hl
  replace h : f_total_L114 n v2 v3 v4 st = some r := h
  have k143 : ∀ (st : MS) (v4 : Int32) (t0 : Int32) (t1 : Int32) (H : Heap) (locs : List Loc) (ls : Array Slot), f_total_J143 n st v2 v4 t0 t1 = some r → m_I D A d s.heap st H locs → lv_has ls 5 [(0, .ref d.1), (2, .int v2), (4, .int v4)] → W p l e R s m args below meth c H locs 0 0 Q (F0 m 143 ls [.int t0, .int t1]) := by
    intro st v4 t0 t1 H locs ls h I hl
    unfold f_total_J143 at h
    refine lv_iadd X.1 X.2.1 dX3_total_143 ?_
    refine lv_istore_n (lv' := [(3, .int (t1 + t0)), (0, .ref d.1), (2, .int v2), (4, .int v4)]) X.1 X.2.1 dX3_total_144 rfl hl (by decide) rfl (fun ls hl => ?_)
    refine lv_iinc (v := v4 + 1) (lv' := [(4, .int (v4 + 1)), (3, .int (t1 + t0)), (0, .ref d.1), (2, .int v2)]) X.1 X.2.1 dX3_total_145 hl (k := 3) rfl rfl (by decide) rfl (fun ls hl => ?_)
    refine lv_goto (tgt := 114) X.1 X.2.1 dX3_total_148 (by decide) ?_
    cases h
    exact hr H locs ls I (lv_sub hl [2, 3, 1, 0] rfl)
  unfold f_total_L114 at h
  refine lv_iload X.1 X.2.1 dX3_total_114 (lv_at hl 3 rfl) ?_
  refine lv_aload_n X.1 X.2.1 dX3_total_116 rfl (lv_at hl 0 rfl) ?_
  refine m_get X I 5 (by decide) rfl rfl rfl q1522 (v := .int (st.1 5)) rfl dX3_total_117 ?_
  refine lv_icmp_ge (tgt := 151) X.1 X.2.1 dX3_total_120 (by decide) (fun c15 => ?_) (fun c15 => ?_)
  · replace h := m_ifT c15 h
    cases h
    exact hr H locs ls I (lv_sub hl [0, 1, 2] rfl)
  · replace h := m_ifF c15 h
    refine lv_iload_n X.1 X.2.1 dX3_total_123 rfl (lv_at hl 2 rfl) ?_
    refine lv_aload_n X.1 X.2.1 dX3_total_124 rfl (lv_at hl 0 rfl) ?_
    refine lv_iload X.1 X.2.1 dX3_total_125 (lv_at hl 3 rfl) ?_
    obtain ⟨r17, e16, h⟩ := m_bS h
    refine m_callI X hl.1 I hA (As := [.int v4]) (rest := [.int v3]) (c_netBy l n D d st v4 _ e16) 1 q1792 q1794 qs70 q107 q1795 (hd_netBy) rfl rfl ⟨Nat.le_trans (Nat.le_of_ble_eq_true rfl) hR.1, Nat.le_trans (Nat.le_of_ble_eq_true rfl) hR.2⟩ ⟨rfl, rfl⟩ ⟨Nat.zero_le _, Nat.zero_le _⟩ (Nat.le_of_ble_eq_true rfl) dX3_total_127 (fun H locs I => ?_)
    refine lv_if_le (tgt := 142) X.1 X.2.1 dX3_total_130 (by decide) (fun c18 => ?_) (fun c18 => ?_)
    · replace h := m_ifT c18 h
      refine lv_iconst (v := 0) X.1 X.2.1 dX3_total_142 (by decide) ?_
      exact k143 st v4 0 v3 H locs ls h I (lv_sub hl [0, 1, 3] rfl)
    · replace h := m_ifF c18 h
      refine lv_aload_n X.1 X.2.1 dX3_total_133 rfl (lv_at hl 0 rfl) ?_
      refine lv_iload X.1 X.2.1 dX3_total_134 (lv_at hl 3 rfl) ?_
      obtain ⟨r20, e19, h⟩ := m_bS h
      refine m_callI X hl.1 I hA (As := [.int v4]) (rest := [.int v3]) (c_netBy l n D d st v4 _ e19) 1 q1792 q1794 qs70 q107 q1795 (hd_netBy) rfl rfl ⟨Nat.le_trans (Nat.le_of_ble_eq_true rfl) hR.1, Nat.le_trans (Nat.le_of_ble_eq_true rfl) hR.2⟩ ⟨rfl, rfl⟩ ⟨Nat.zero_le _, Nat.zero_le _⟩ (Nat.le_of_ble_eq_true rfl) dX3_total_136 (fun H locs I => ?_)
      refine lv_goto (tgt := 143) X.1 X.2.1 dX3_total_139 (by decide) ?_
      exact k143 st v4 r20 v3 H locs ls h I (lv_sub hl [0, 1, 3] rfl)
theorem wf_total_L53 (X : m_X D A d p s m c cX3_total 5 args) (hA : ∀ q, s.heap.size ≤ q → A q) (hR : 3 ≤ R.frames ∧ 67 ≤ R.locals) (n : Nat) (v1 : Int32) (v2 : Int32) (x : (Int32 × Int32 × MS)) (z : (Int32 × MS)) (hz : f_total_L53l n v1 v2 x = some z) (hE : (fun (z : (Int32 × MS)) => ∀ (H : Heap) (locs : List Loc) (ls : Array Slot), m_I D A d s.heap z.2 H locs → lv_has ls 5 [(0, .ref d.1), (2, .int v2), (3, .int z.1)] → W p l e R s m args below meth c H locs 0 0 Q (F0 m 106 ls [])) z) : (fun (x : (Int32 × Int32 × MS)) => ∀ (H : Heap) (locs : List Loc) (ls : Array Slot), m_I D A d s.heap x.2.2 H locs → lv_has ls 5 [(0, .ref d.1), (1, .int v1), (2, .int v2), (3, .int x.1), (4, .int x.2.1)] → W p l e R s m args below meth c H locs 0 0 Q (F0 m 53 ls [])) x := by
  refine m_lpW (G := fun (x : (Int32 × Int32 × MS)) => ∀ (H : Heap) (locs : List Loc) (ls : Array Slot), m_I D A d s.heap x.2.2 H locs → lv_has ls 5 [(0, .ref d.1), (1, .int v1), (2, .int v2), (3, .int x.1), (4, .int x.2.1)] → W p l e R s m args below meth c H locs 0 0 Q (F0 m 53 ls [])) (E := fun (z : (Int32 × MS)) => ∀ (H : Heap) (locs : List Loc) (ls : Array Slot), m_I D A d s.heap z.2 H locs → lv_has ls 5 [(0, .ref d.1), (2, .int v2), (3, .int z.1)] → W p l e R s m args below meth c H locs 0 0 Q (F0 m 106 ls [])) ?_ n x z hz hE
  rintro ⟨v3, v4, st⟩ r h hr H locs ls I hl
  replace h : f_total_L53 n v1 v2 v3 v4 st = some r := h
  have k98 : ∀ (st : MS) (v4 : Int32) (t0 : Int32) (t1 : Int32) (H : Heap) (locs : List Loc) (ls : Array Slot), f_total_J98 n st v1 v2 v4 t0 t1 = some r → m_I D A d s.heap st H locs → lv_has ls 5 [(0, .ref d.1), (1, .int v1), (2, .int v2), (4, .int v4)] → W p l e R s m args below meth c H locs 0 0 Q (F0 m 98 ls [.int t0, .int t1]) := by
    intro st v4 t0 t1 H locs ls h I hl
    unfold f_total_J98 at h
    refine lv_iadd X.1 X.2.1 dX3_total_98 ?_
    refine lv_istore_n (lv' := [(3, .int (t1 + t0)), (0, .ref d.1), (1, .int v1), (2, .int v2), (4, .int v4)]) X.1 X.2.1 dX3_total_99 rfl hl (by decide) rfl (fun ls hl => ?_)
    refine lv_iinc (v := v4 + 1) (lv' := [(4, .int (v4 + 1)), (3, .int (t1 + t0)), (0, .ref d.1), (1, .int v1), (2, .int v2)]) X.1 X.2.1 dX3_total_100 hl (k := 4) rfl rfl (by decide) rfl (fun ls hl => ?_)
    refine lv_goto (tgt := 53) X.1 X.2.1 dX3_total_103 (by decide) ?_
    cases h
    exact hr H locs ls I (lv_sub hl [2, 3, 4, 1, 0] rfl)
  have k97 : ∀ (st : MS) (v4 : Int32) (t0 : Int32) (H : Heap) (locs : List Loc) (ls : Array Slot), f_total_J97 n st v1 v2 v4 t0 = some r → m_I D A d s.heap st H locs → lv_has ls 5 [(0, .ref d.1), (1, .int v1), (2, .int v2), (4, .int v4)] → W p l e R s m args below meth c H locs 0 0 Q (F0 m 97 ls [.int t0]) := by
    intro st v4 t0 H locs ls h I hl
    unfold f_total_J97 at h
    refine lv_iconst (v := 0) X.1 X.2.1 dX3_total_97 (by decide) ?_
    exact k98 st v4 0 t0 H locs ls h I (lv_sub hl [0, 1, 2, 3] rfl)
  unfold f_total_L53 at h
  refine lv_iload X.1 X.2.1 dX3_total_53 (lv_at hl 4 rfl) ?_
  refine lv_aload_n X.1 X.2.1 dX3_total_55 rfl (lv_at hl 0 rfl) ?_
  refine m_get X I 0 (by decide) rfl rfl rfl q1517 (v := .ref (d.2.1 0)) rfl dX3_total_56 ?_
  refine lv_iconst (v := 0) X.1 X.2.1 dX3_total_59 (by decide) ?_
  obtain ⟨g25, h⟩ := m_gS h
  refine m_iald X I 1 (n := 266) (f := st.2.1 0) rfl g25 dX3_total_60 ?_
  refine lv_icmp_ge (tgt := 106) X.1 X.2.1 dX3_total_61 (by decide) (fun c26 => ?_) (fun c26 => ?_)
  · replace h := m_ifT c26 h
    cases h
    exact hr H locs ls I (lv_sub hl [0, 2, 3] rfl)
  · replace h := m_ifF c26 h
    refine lv_iload_n X.1 X.2.1 dX3_total_64 rfl (lv_at hl 3 rfl) ?_
    refine lv_aload_n X.1 X.2.1 dX3_total_65 rfl (lv_at hl 0 rfl) ?_
    refine lv_iload X.1 X.2.1 dX3_total_66 (lv_at hl 4 rfl) ?_
    refine lv_iconst (v := 3) X.1 X.2.1 dX3_total_68 (by decide) ?_
    obtain ⟨r28, e27, h⟩ := m_bS h
    refine m_callI X hl.1 I hA (As := [.int v4, .int 3]) (rest := [.int v3]) (c_tradeAt l n D d st v4 3 _ e27) 2 q1683 q1685 qs55 q107 q1686 (hd_tradeAt) rfl rfl ⟨Nat.le_trans (Nat.le_of_ble_eq_true rfl) hR.1, Nat.le_trans (Nat.le_of_ble_eq_true rfl) hR.2⟩ ⟨rfl, rfl⟩ ⟨Nat.zero_le _, Nat.zero_le _⟩ (Nat.le_of_ble_eq_true rfl) dX3_total_69 (fun H locs I => ?_)
    refine lv_iload_n X.1 X.2.1 dX3_total_72 rfl (lv_at hl 1 rfl) ?_
    refine lv_icmp_ne (tgt := 97) X.1 X.2.1 dX3_total_73 (by decide) (fun c29 => ?_) (fun c29 => ?_)
    · replace h := m_ifF c29 h
      exact k97 st v4 v3 H locs ls h I (lv_sub hl [0, 1, 2, 4] rfl)
    · replace h := m_ifT c29 h
      refine lv_aload_n X.1 X.2.1 dX3_total_76 rfl (lv_at hl 0 rfl) ?_
      refine lv_iload X.1 X.2.1 dX3_total_77 (lv_at hl 4 rfl) ?_
      refine lv_iconst (v := 4) X.1 X.2.1 dX3_total_79 (by decide) ?_
      obtain ⟨r31, e30, h⟩ := m_bS h
      refine m_callI X hl.1 I hA (As := [.int v4, .int 4]) (rest := [.int v3]) (c_tradeAt l n D d st v4 4 _ e30) 2 q1683 q1685 qs55 q107 q1686 (hd_tradeAt) rfl rfl ⟨Nat.le_trans (Nat.le_of_ble_eq_true rfl) hR.1, Nat.le_trans (Nat.le_of_ble_eq_true rfl) hR.2⟩ ⟨rfl, rfl⟩ ⟨Nat.zero_le _, Nat.zero_le _⟩ (Nat.le_of_ble_eq_true rfl) dX3_total_80 (fun H locs I => ?_)
      refine lv_iconst (v := 1) X.1 X.2.1 dX3_total_83 (by decide) ?_
      refine lv_icmp_ne (tgt := 97) X.1 X.2.1 dX3_total_84 (by decide) (fun c32 => ?_) (fun c32 => ?_)
      · replace h := m_ifF c32 h
        exact k97 st v4 v3 H locs ls h I (lv_sub hl [0, 1, 2, 4] rfl)
      · replace h := m_ifT c32 h
        refine lv_aload_n X.1 X.2.1 dX3_total_87 rfl (lv_at hl 0 rfl) ?_
        refine lv_iload X.1 X.2.1 dX3_total_88 (lv_at hl 4 rfl) ?_
        refine lv_iconst (v := 2) X.1 X.2.1 dX3_total_90 (by decide) ?_
        obtain ⟨r34, e33, h⟩ := m_bS h
        refine m_callI X hl.1 I hA (As := [.int v4, .int 2]) (rest := [.int v3]) (c_tradeAt l n D d st v4 2 _ e33) 2 q1683 q1685 qs55 q107 q1686 (hd_tradeAt) rfl rfl ⟨Nat.le_trans (Nat.le_of_ble_eq_true rfl) hR.1, Nat.le_trans (Nat.le_of_ble_eq_true rfl) hR.2⟩ ⟨rfl, rfl⟩ ⟨Nat.zero_le _, Nat.zero_le _⟩ (Nat.le_of_ble_eq_true rfl) dX3_total_91 (fun H locs I => ?_)
        refine lv_goto (tgt := 98) X.1 X.2.1 dX3_total_94 (by decide) ?_
        exact k98 st v4 r34 v3 H locs ls h I (lv_sub hl [0, 1, 2, 4] rfl)
theorem w_total (X : m_X D A d p s m c cX3_total 5 args) (hA : ∀ q, s.heap.size ≤ q → A q) (hR : 3 ≤ R.frames ∧ 67 ≤ R.locals) (n : Nat) (st : MS) (p0 : Int32) (p1 : Int32) (r : (Int32 × MS)) (h : f_total n st p0 p1 = some r) (hret : ∀ (H : Heap) (locs : List Loc) (ls : Array Slot) (pc : Nat), decode cX3_total pc = .ok (.ireturn, 1) → m_I D A d s.heap r.2 H locs → W p l e R s m args below meth c H locs 0 0 Q (F0 m pc ls [.int r.1])) : ∀ (H : Heap) (locs : List Loc) (ls : Array Slot), m_I D A d s.heap st H locs → lv_has ls 5 [(0, .ref d.1), (1, .int p0), (2, .int p1)] → W p l e R s m args below meth c H locs 0 0 Q (F0 m 0 ls []) := by
  obtain ⟨r0, s0⟩ := r
  have k25 : ∀ (st : MS) (H : Heap) (locs : List Loc) (ls : Array Slot), f_total_J25 n st = some (r0, s0) → m_I D A d s.heap st H locs → lv_has ls 5 [] → W p l e R s m args below meth c H locs 0 0 Q (F0 m 25 ls []) := by
    intro st H locs ls h I hl
    unfold f_total_J25 at h
    refine lv_bipush (v := (-2)) X.1 X.2.1 dX3_total_25 (by decide) ?_
    obtain ⟨rfl, rfl⟩ := m_e2 h
    exact hret H locs ls 27 dX3_total_27 I
  have k164 : ∀ (st : MS) (t0 : Int32) (H : Heap) (locs : List Loc) (ls : Array Slot), f_total_J164 n st t0 = some (r0, s0) → m_I D A d s.heap st H locs → lv_has ls 5 [] → W p l e R s m args below meth c H locs 0 0 Q (F0 m 164 ls [.int t0]) := by
    intro st t0 H locs ls h I hl
    unfold f_total_J164 at h
    obtain ⟨rfl, rfl⟩ := m_e2 h
    exact hret H locs ls 164 dX3_total_164 I
  have k151 : ∀ (st : MS) (v2 : Int32) (v3 : Int32) (H : Heap) (locs : List Loc) (ls : Array Slot), f_total_J151 n st v2 v3 = some (r0, s0) → m_I D A d s.heap st H locs → lv_has ls 5 [(0, .ref d.1), (2, .int v2), (3, .int v3)] → W p l e R s m args below meth c H locs 0 0 Q (F0 m 151 ls []) := by
    intro st v2 v3 H locs ls h I hl
    unfold f_total_J151 at h
    refine lv_iload_n X.1 X.2.1 dX3_total_151 rfl (lv_at hl 1 rfl) ?_
    refine lv_iconst (v := 1) X.1 X.2.1 dX3_total_152 (by decide) ?_
    refine lv_icmp_ne (tgt := 163) X.1 X.2.1 dX3_total_153 (by decide) (fun c12 => ?_) (fun c12 => ?_)
    · replace h := m_ifF c12 h
      refine lv_iload_n X.1 X.2.1 dX3_total_163 rfl (lv_at hl 2 rfl) ?_
      exact k164 st v3 H locs ls h I (lv_sub hl [] rfl)
    · replace h := m_ifT c12 h
      refine lv_aload_n X.1 X.2.1 dX3_total_156 rfl (lv_at hl 0 rfl) ?_
      obtain ⟨r14, e13, h⟩ := m_bS h
      refine m_callI X hl.1 I hA (As := []) (rest := []) (c_positive l n D d st  _ e13) 0 q1814 q1816 qs73 q107 q1817 (hd_positive) rfl rfl ⟨Nat.le_trans (Nat.le_of_ble_eq_true rfl) hR.1, Nat.le_trans (Nat.le_of_ble_eq_true rfl) hR.2⟩ ⟨rfl, rfl⟩ ⟨Nat.zero_le _, Nat.zero_le _⟩ (Nat.le_of_ble_eq_true rfl) dX3_total_157 (fun H locs I => ?_)
      refine lv_goto (tgt := 164) X.1 X.2.1 dX3_total_160 (by decide) ?_
      exact k164 st r14 H locs ls h I (lv_sub hl [] rfl)
  have k106 : ∀ (st : MS) (v2 : Int32) (v3 : Int32) (H : Heap) (locs : List Loc) (ls : Array Slot), f_total_J106 n st v2 v3 = some (r0, s0) → m_I D A d s.heap st H locs → lv_has ls 5 [(0, .ref d.1), (2, .int v2), (3, .int v3)] → W p l e R s m args below meth c H locs 0 0 Q (F0 m 106 ls []) := by
    intro st v2 v3 H locs ls h I hl
    unfold f_total_J106 at h
    refine lv_iload_n X.1 X.2.1 dX3_total_106 rfl (lv_at hl 1 rfl) ?_
    refine lv_iconst (v := 3) X.1 X.2.1 dX3_total_107 (by decide) ?_
    refine lv_icmp_ne (tgt := 151) X.1 X.2.1 dX3_total_108 (by decide) (fun c11 => ?_) (fun c11 => ?_)
    · replace h := m_ifF c11 h
      exact k151 st v2 v3 H locs ls h I (lv_sub hl [0, 1, 2] rfl)
    · replace h := m_ifT c11 h
      refine lv_iconst (v := 0) X.1 X.2.1 dX3_total_111 (by decide) ?_
      refine lv_istore (lv' := [(4, .int 0), (0, .ref d.1), (2, .int v2), (3, .int v3)]) X.1 X.2.1 dX3_total_112 hl (by decide) rfl (fun ls hl => ?_)
      obtain ⟨⟨z22, s23⟩, e21, h⟩ := m_bS h
      refine wf_total_L114 X hA hR n v2 _ _ e21 (fun H locs ls I hl => ?_) H locs ls I (lv_sub hl [1, 2, 3, 0] rfl)
      exact k151 s23 v2 z22 H locs ls h I (lv_sub hl [0, 1, 2] rfl)
  have k45 : ∀ (st : MS) (v1 : Int32) (v2 : Int32) (v3 : Int32) (H : Heap) (locs : List Loc) (ls : Array Slot), f_total_J45 n st v1 v2 v3 = some (r0, s0) → m_I D A d s.heap st H locs → lv_has ls 5 [(0, .ref d.1), (1, .int v1), (2, .int v2), (3, .int v3)] → W p l e R s m args below meth c H locs 0 0 Q (F0 m 45 ls []) := by
    intro st v1 v2 v3 H locs ls h I hl
    unfold f_total_J45 at h
    refine lv_iload_n X.1 X.2.1 dX3_total_45 rfl (lv_at hl 2 rfl) ?_
    refine lv_iconst (v := 2) X.1 X.2.1 dX3_total_46 (by decide) ?_
    refine lv_icmp_ne (tgt := 106) X.1 X.2.1 dX3_total_47 (by decide) (fun c10 => ?_) (fun c10 => ?_)
    · replace h := m_ifF c10 h
      exact k106 st v2 v3 H locs ls h I (lv_sub hl [0, 2, 3] rfl)
    · replace h := m_ifT c10 h
      refine lv_iconst (v := 0) X.1 X.2.1 dX3_total_50 (by decide) ?_
      refine lv_istore (lv' := [(4, .int 0), (0, .ref d.1), (1, .int v1), (2, .int v2), (3, .int v3)]) X.1 X.2.1 dX3_total_51 hl (by decide) rfl (fun ls hl => ?_)
      obtain ⟨⟨z36, s37⟩, e35, h⟩ := m_bS h
      refine wf_total_L53 X hA hR n v1 v2 _ _ e35 (fun H locs ls I hl => ?_) H locs ls I (lv_sub hl [1, 2, 3, 4, 0] rfl)
      exact k106 s37 v2 z36 H locs ls h I (lv_sub hl [0, 1, 2] rfl)
  intro H locs ls I hl
  unfold f_total at h
  refine lv_aload_n X.1 X.2.1 dX3_total_0 rfl (lv_at hl 0 rfl) ?_
  refine lv_iconst (v := 0) X.1 X.2.1 dX3_total_1 (by decide) ?_
  refine m_put X I 8 (by decide) rfl rfl rfl q1525 rfl (m_set8 d _ _) dX3_total_2 (fun H locs I => ?_)
  refine lv_aload_n X.1 X.2.1 dX3_total_5 rfl (lv_at hl 0 rfl) ?_
  refine lv_iload_n X.1 X.2.1 dX3_total_6 rfl (lv_at hl 1 rfl) ?_
  obtain ⟨r2, e1, h⟩ := m_bS h
  refine m_callI X hl.1 I hA (As := [.int p0]) (rest := []) (c_isKind l n D d (m_sg st 8 0) p0 _ e1) 1 q1724 q1726 qs63 q107 q1727 (hd_isKind) rfl rfl ⟨Nat.le_trans (Nat.le_of_ble_eq_true rfl) hR.1, Nat.le_trans (Nat.le_of_ble_eq_true rfl) hR.2⟩ ⟨rfl, rfl⟩ ⟨Nat.zero_le _, Nat.zero_le _⟩ (Nat.le_of_ble_eq_true rfl) dX3_total_7 (fun H locs I => ?_)
  refine lv_if_eq (tgt := 25) X.1 X.2.1 dX3_total_10 (by decide) (fun c3 => ?_) (fun c3 => ?_)
  · replace h := m_ifT c3 h
    exact k25 (m_sg st 8 0) H locs ls h I (lv_sub hl [] rfl)
  · replace h := m_ifF c3 h
    refine lv_iload_n X.1 X.2.1 dX3_total_13 rfl (lv_at hl 2 rfl) ?_
    refine lv_i2l X.1 X.2.1 dX3_total_14 rfl ?_
    refine lv_lconst (v := 0) X.1 X.2.1 dX3_total_15 (by decide) ?_
    refine lv_ldc2 (v := 3) X.1 X.2.1 X.2.2.2.1 (X.2.2.1 _ q1753) dX3_total_16 ?_
    obtain ⟨r5, e4, h⟩ := m_bS h
    refine m_callS X hl.1 (As := [.long p1.toInt64, .long 0, .long 3]) (rest := []) (c_isIn l n p1.toInt64 0 3 _ e4) 3 q1623 q1624 q107 q1625 (hd_isIn).2 rfl rfl ⟨Nat.le_trans (Nat.le_of_ble_eq_true rfl) hR.1, Nat.le_trans (Nat.le_of_ble_eq_true rfl) hR.2⟩ ⟨rfl, rfl⟩ ⟨Nat.zero_le _, Nat.zero_le _⟩ (Nat.le_of_ble_eq_true rfl) dX3_total_19 ?_
    refine lv_if_ne (tgt := 28) X.1 X.2.1 dX3_total_22 (by decide) (fun c6 => ?_) (fun c6 => ?_)
    · replace h := m_ifF c6 h
      refine lv_aload_n X.1 X.2.1 dX3_total_28 rfl (lv_at hl 0 rfl) ?_
      refine lv_iload_n X.1 X.2.1 dX3_total_29 rfl (lv_at hl 1 rfl) ?_
      refine lv_iconst (v := (-1)) X.1 X.2.1 dX3_total_30 (by decide) ?_
      obtain ⟨s8, e7, h⟩ := m_bS h
      refine m_callV X hl.1 I hA (As := [.int p0, .int ((-1))]) (rest := []) (c_laysFlows l n D d (m_sg st 8 0) p0 ((-1)) _ e7) 2 q1772 q1774 qs67 q107 q1775 (hd_laysFlows) rfl rfl ⟨Nat.le_trans (Nat.le_of_ble_eq_true rfl) hR.1, Nat.le_trans (Nat.le_of_ble_eq_true rfl) hR.2⟩ ⟨rfl, rfl⟩ ⟨Nat.zero_le _, Nat.zero_le _⟩ (Nat.le_of_ble_eq_true rfl) dX3_total_31 (fun H locs I => ?_)
      refine lv_iconst (v := 0) X.1 X.2.1 dX3_total_34 (by decide) ?_
      refine lv_istore_n (lv' := [(3, .int 0), (0, .ref d.1), (1, .int p0), (2, .int p1)]) X.1 X.2.1 dX3_total_35 rfl hl (by decide) rfl (fun ls hl => ?_)
      refine lv_iload_n X.1 X.2.1 dX3_total_36 rfl (lv_at hl 3 rfl) ?_
      refine lv_if_ne (tgt := 45) X.1 X.2.1 dX3_total_37 (by decide) (fun c9 => ?_) (fun c9 => ?_)
      · replace h := m_ifF c9 h
        exact k45 s8 p0 p1 0 H locs ls h I (lv_sub hl [1, 2, 3, 0] rfl)
      · replace h := m_ifT c9 h
        refine lv_aload_n X.1 X.2.1 dX3_total_40 rfl (lv_at hl 1 rfl) ?_
        obtain ⟨r40, e39, h⟩ := m_bS h
        refine m_callI X hl.1 I hA (As := []) (rest := []) (c_sumOfFlows l n D d s8  _ e39) 0 q1810 q1812 qs72 q107 q1813 (hd_sumOfFlows) rfl rfl ⟨Nat.le_trans (Nat.le_of_ble_eq_true rfl) hR.1, Nat.le_trans (Nat.le_of_ble_eq_true rfl) hR.2⟩ ⟨rfl, rfl⟩ ⟨Nat.zero_le _, Nat.zero_le _⟩ (Nat.le_of_ble_eq_true rfl) dX3_total_41 (fun H locs I => ?_)
        refine lv_istore_n (lv' := [(3, .int r40), (0, .ref d.1), (1, .int p0), (2, .int p1)]) X.1 X.2.1 dX3_total_44 rfl hl (by decide) rfl (fun ls hl => ?_)
        exact k45 s8 p0 p1 r40 H locs ls h I (lv_sub hl [1, 2, 3, 0] rfl)
    · replace h := m_ifT c6 h
      exact k25 (m_sg st 8 0) H locs ls h I (lv_sub hl [] rfl)
end S_total
theorem c_total (l : Launch) (n : Nat) (D : va_G) (d : MD) (st : MS) (p0 : Int32) (p1 : Int32) (r : Int32) (st' : MS) (h : f_total n st p0 p1 = some (r, st')) : m_Mi l yX3_total cX3_total 5 (some .int) ({ frames := 3, cells := 0, slots := 0, locals := 67 } : Room) D d st [.ref d.1, .int p0, .int p1] r st' :=
  m_startI (lvl := [(0, .ref d.1), (1, .int p0), (2, .int p1)]) (by decide) rfl (Nat.le_of_ble_eq_true rfl) rfl (fun p e s m args below meth c ls X hr hlk hl hA I => w_total X hA ⟨Nat.le_refl _, Nat.le_refl _⟩ n st p0 p1 (r, st') h (fun H locs ls pc hd I => m_iret X I hr hlk hd) _ _ ls I hl)

/-! method bound(III)I -/
def f_bound_J22 (n : Nat) (st : MS) : Option (Int32 × MS) :=
  some ((-2), st)
def f_bound (n : Nat) (st : MS) (p0 : Int32) (p1 : Int32) (p2 : Int32) : Option (Int32 × MS) :=
  m_b (f_areTwo n (m_sg st 8 0) p0 p1) (fun r2 => m_if ((r2 : Int32) = 0) (f_bound_J22 n (m_sg st 8 0)) (m_b (f_isKind n (m_sg st 8 0) p2) (fun r5 => m_if ((r5 : Int32) = 0) (f_bound_J22 n (m_sg st 8 0)) (m_b (f_laysFlows n (m_sg st 8 0) p2 ((-1))) (fun s8 => m_b (f_boundOf n s8 p0 p1) (fun r10 => some (r10, s8)))))))
theorem hd_bound : yX3_bound.cls = RX3 ∧ yX3_bound.cls ≠ "java/lang/invoke/MethodHandle" ∧ yX3_bound.cls ≠ "java/lang/invoke/VarHandle" ∧ (parseMethodDescriptor yX3_bound.desc).map (fun d => d.parameters.length) = some 3 := by decide +kernel
section S_bound
variable {p : Program} {l : Launch} {e : Env} {R : Room} {s : State} {m : MethodId} {args : Array Value} {below : List Frame} {meth : Method} {c : Code} {Q : State → Prop} {D : va_G} {A : Nat → Prop} {d : MD}
theorem w_bound (X : m_X D A d p s m c cX3_bound 4 args) (hA : ∀ q, s.heap.size ≤ q → A q) (hR : 3 ≤ R.frames ∧ 68 ≤ R.locals) (n : Nat) (st : MS) (p0 : Int32) (p1 : Int32) (p2 : Int32) (r : (Int32 × MS)) (h : f_bound n st p0 p1 p2 = some r) (hret : ∀ (H : Heap) (locs : List Loc) (ls : Array Slot) (pc : Nat), decode cX3_bound pc = .ok (.ireturn, 1) → m_I D A d s.heap r.2 H locs → W p l e R s m args below meth c H locs 0 0 Q (F0 m pc ls [.int r.1])) : ∀ (H : Heap) (locs : List Loc) (ls : Array Slot), m_I D A d s.heap st H locs → lv_has ls 4 [(0, .ref d.1), (1, .int p0), (2, .int p1), (3, .int p2)] → W p l e R s m args below meth c H locs 0 0 Q (F0 m 0 ls []) := by
  obtain ⟨r0, s0⟩ := r
  have k22 : ∀ (st : MS) (H : Heap) (locs : List Loc) (ls : Array Slot), f_bound_J22 n st = some (r0, s0) → m_I D A d s.heap st H locs → lv_has ls 4 [] → W p l e R s m args below meth c H locs 0 0 Q (F0 m 22 ls []) := by
    intro st H locs ls h I hl
    unfold f_bound_J22 at h
    refine lv_bipush (v := (-2)) X.1 X.2.1 dX3_bound_22 (by decide) ?_
    obtain ⟨rfl, rfl⟩ := m_e2 h
    exact hret H locs ls 24 dX3_bound_24 I
  intro H locs ls I hl
  unfold f_bound at h
  refine lv_aload_n X.1 X.2.1 dX3_bound_0 rfl (lv_at hl 0 rfl) ?_
  refine lv_iconst (v := 0) X.1 X.2.1 dX3_bound_1 (by decide) ?_
  refine m_put X I 8 (by decide) rfl rfl rfl q1525 rfl (m_set8 d _ _) dX3_bound_2 (fun H locs I => ?_)
  refine lv_aload_n X.1 X.2.1 dX3_bound_5 rfl (lv_at hl 0 rfl) ?_
  refine lv_iload_n X.1 X.2.1 dX3_bound_6 rfl (lv_at hl 1 rfl) ?_
  refine lv_iload_n X.1 X.2.1 dX3_bound_7 rfl (lv_at hl 2 rfl) ?_
  obtain ⟨r2, e1, h⟩ := m_bS h
  refine m_callI X hl.1 I hA (As := [.int p0, .int p1]) (rest := []) (c_areTwo l n D d (m_sg st 8 0) p0 p1 _ e1) 2 q1716 q1718 qs61 q107 q1719 (hd_areTwo) rfl rfl ⟨Nat.le_trans (Nat.le_of_ble_eq_true rfl) hR.1, Nat.le_trans (Nat.le_of_ble_eq_true rfl) hR.2⟩ ⟨rfl, rfl⟩ ⟨Nat.zero_le _, Nat.zero_le _⟩ (Nat.le_of_ble_eq_true rfl) dX3_bound_8 (fun H locs I => ?_)
  refine lv_if_eq (tgt := 22) X.1 X.2.1 dX3_bound_11 (by decide) (fun c3 => ?_) (fun c3 => ?_)
  · replace h := m_ifT c3 h
    exact k22 (m_sg st 8 0) H locs ls h I (lv_sub hl [] rfl)
  · replace h := m_ifF c3 h
    refine lv_aload_n X.1 X.2.1 dX3_bound_14 rfl (lv_at hl 0 rfl) ?_
    refine lv_iload_n X.1 X.2.1 dX3_bound_15 rfl (lv_at hl 3 rfl) ?_
    obtain ⟨r5, e4, h⟩ := m_bS h
    refine m_callI X hl.1 I hA (As := [.int p2]) (rest := []) (c_isKind l n D d (m_sg st 8 0) p2 _ e4) 1 q1724 q1726 qs63 q107 q1727 (hd_isKind) rfl rfl ⟨Nat.le_trans (Nat.le_of_ble_eq_true rfl) hR.1, Nat.le_trans (Nat.le_of_ble_eq_true rfl) hR.2⟩ ⟨rfl, rfl⟩ ⟨Nat.zero_le _, Nat.zero_le _⟩ (Nat.le_of_ble_eq_true rfl) dX3_bound_16 (fun H locs I => ?_)
    refine lv_if_ne (tgt := 25) X.1 X.2.1 dX3_bound_19 (by decide) (fun c6 => ?_) (fun c6 => ?_)
    · replace h := m_ifF c6 h
      refine lv_aload_n X.1 X.2.1 dX3_bound_25 rfl (lv_at hl 0 rfl) ?_
      refine lv_iload_n X.1 X.2.1 dX3_bound_26 rfl (lv_at hl 3 rfl) ?_
      refine lv_iconst (v := (-1)) X.1 X.2.1 dX3_bound_27 (by decide) ?_
      obtain ⟨s8, e7, h⟩ := m_bS h
      refine m_callV X hl.1 I hA (As := [.int p2, .int ((-1))]) (rest := []) (c_laysFlows l n D d (m_sg st 8 0) p2 ((-1)) _ e7) 2 q1772 q1774 qs67 q107 q1775 (hd_laysFlows) rfl rfl ⟨Nat.le_trans (Nat.le_of_ble_eq_true rfl) hR.1, Nat.le_trans (Nat.le_of_ble_eq_true rfl) hR.2⟩ ⟨rfl, rfl⟩ ⟨Nat.zero_le _, Nat.zero_le _⟩ (Nat.le_of_ble_eq_true rfl) dX3_bound_28 (fun H locs I => ?_)
      refine lv_aload_n X.1 X.2.1 dX3_bound_31 rfl (lv_at hl 0 rfl) ?_
      refine lv_iload_n X.1 X.2.1 dX3_bound_32 rfl (lv_at hl 1 rfl) ?_
      refine lv_iload_n X.1 X.2.1 dX3_bound_33 rfl (lv_at hl 2 rfl) ?_
      obtain ⟨r10, e9, h⟩ := m_bS h
      refine m_callI X hl.1 I hA (As := [.int p0, .int p1]) (rest := []) (c_boundOf l n D d s8 p0 p1 _ e9) 2 q1822 q1824 qs74 q107 q1825 (hd_boundOf) rfl rfl ⟨Nat.le_trans (Nat.le_of_ble_eq_true rfl) hR.1, Nat.le_trans (Nat.le_of_ble_eq_true rfl) hR.2⟩ ⟨rfl, rfl⟩ ⟨Nat.zero_le _, Nat.zero_le _⟩ (Nat.le_of_ble_eq_true rfl) dX3_bound_34 (fun H locs I => ?_)
      obtain ⟨rfl, rfl⟩ := m_e2 h
      exact hret H locs ls 37 dX3_bound_37 I
    · replace h := m_ifT c6 h
      exact k22 (m_sg st 8 0) H locs ls h I (lv_sub hl [] rfl)
end S_bound
theorem c_bound (l : Launch) (n : Nat) (D : va_G) (d : MD) (st : MS) (p0 : Int32) (p1 : Int32) (p2 : Int32) (r : Int32) (st' : MS) (h : f_bound n st p0 p1 p2 = some (r, st')) : m_Mi l yX3_bound cX3_bound 4 (some .int) ({ frames := 3, cells := 0, slots := 0, locals := 68 } : Room) D d st [.ref d.1, .int p0, .int p1, .int p2] r st' :=
  m_startI (lvl := [(0, .ref d.1), (1, .int p0), (2, .int p1), (3, .int p2)]) (by decide) rfl (Nat.le_of_ble_eq_true rfl) rfl (fun p e s m args below meth c ls X hr hlk hl hA I => w_bound X hA ⟨Nat.le_refl _, Nat.le_refl _⟩ n st p0 p1 p2 (r, st') h (fun H locs ls pc hd I => m_iret X I hr hlk hd) _ _ ls I hl)

/-! method laysRing()I -/
def f_laysRing_L12 (n : Nat) (v1 : Int32) (v2 : Int32) (st : MS) : Option ((Int32 × MS) ⊕ (MS ⊕ MS)) :=
  m_if ((st.1 5 : Int32) ≤ (v2 : Int32)) (some (.inr (.inr st))) (m_g (m_in 0 8) (m_b2 (f_goesRound n (m_sg (m_sa st 18 (0 : Int32).toNatClampNeg v2) 19 v1) 1 v1 (1 <<< (v2 &&& 31))) (fun r5 s6 => m_if ((r5 : Int32) = 0) (some (.inl ((v2 + 1, s6)))) (some (.inr (.inl s6))))))
def f_laysRing_L12l (n : Nat) (v1 : Int32) (x : (Int32 × MS)) : Option (MS ⊕ MS) := m_lp (fun (x : (Int32 × MS)) => f_laysRing_L12 n v1 x.1 x.2) n x
def f_laysRing_L2 (n : Nat) (v1 : Int32) (st : MS) : Option ((Int32 × MS) ⊕ ((Int32 × MS) ⊕ MS)) :=
  m_if ((st.1 5 : Int32) < (v1 : Int32)) (some (.inr (.inr st))) (m_b (f_laysRing_L12l n v1 ((0, st))) (fun y11 => m_s y11 (fun s9 => some (.inr (.inl ((v1, s9))))) (fun s10 => some (.inl ((v1 + 1, s10))))))
def f_laysRing_L2l (n : Nat) (x : (Int32 × MS)) : Option ((Int32 × MS) ⊕ MS) := m_lp (fun (x : (Int32 × MS)) => f_laysRing_L2 n x.1 x.2) n x
def f_laysRing (n : Nat) (st : MS) : Option (Int32 × MS) :=
  m_b (f_laysRing_L2l n ((2, st))) (fun y17 => m_s y17 (fun y15 => some (y15.1, y15.2)) (fun s16 => some (0, m_sg s16 19 0)))
theorem hd_laysRing : yX3_laysRing.cls = RX3 ∧ yX3_laysRing.cls ≠ "java/lang/invoke/MethodHandle" ∧ yX3_laysRing.cls ≠ "java/lang/invoke/VarHandle" ∧ (parseMethodDescriptor yX3_laysRing.desc).map (fun d => d.parameters.length) = some 0 := by decide +kernel
section S_laysRing
variable {p : Program} {l : Launch} {e : Env} {R : Room} {s : State} {m : MethodId} {args : Array Value} {below : List Frame} {meth : Method} {c : Code} {Q : State → Prop} {D : va_G} {A : Nat → Prop} {d : MD}
theorem wf_laysRing_L12 (X : m_X D A d p s m c cX3_laysRing 3 args) (hA : ∀ q, s.heap.size ≤ q → A q) (hR : 11 ≤ R.frames ∧ 271 ≤ R.locals) (n : Nat) (v1 : Int32) (x : (Int32 × MS)) (z : (MS ⊕ MS)) (hz : f_laysRing_L12l n v1 x = some z) (hE : (m_e (fun (z : MS) => ∀ (H : Heap) (locs : List Loc) (ls : Array Slot), m_I D A d s.heap z H locs → lv_has ls 3 [(1, .int v1)] → W p l e R s m args below meth c H locs 0 0 Q (F0 m 44 ls [])) (fun (z : MS) => ∀ (H : Heap) (locs : List Loc) (ls : Array Slot), m_I D A d s.heap z H locs → lv_has ls 3 [(0, .ref d.1), (1, .int v1)] → W p l e R s m args below meth c H locs 0 0 Q (F0 m 52 ls []))) z) : (fun (x : (Int32 × MS)) => ∀ (H : Heap) (locs : List Loc) (ls : Array Slot), m_I D A d s.heap x.2 H locs → lv_has ls 3 [(0, .ref d.1), (1, .int v1), (2, .int x.1)] → W p l e R s m args below meth c H locs 0 0 Q (F0 m 12 ls [])) x := by
  refine m_lpW (G := fun (x : (Int32 × MS)) => ∀ (H : Heap) (locs : List Loc) (ls : Array Slot), m_I D A d s.heap x.2 H locs → lv_has ls 3 [(0, .ref d.1), (1, .int v1), (2, .int x.1)] → W p l e R s m args below meth c H locs 0 0 Q (F0 m 12 ls [])) (E := m_e (fun (z : MS) => ∀ (H : Heap) (locs : List Loc) (ls : Array Slot), m_I D A d s.heap z H locs → lv_has ls 3 [(1, .int v1)] → W p l e R s m args below meth c H locs 0 0 Q (F0 m 44 ls [])) (fun (z : MS) => ∀ (H : Heap) (locs : List Loc) (ls : Array Slot), m_I D A d s.heap z H locs → lv_has ls 3 [(0, .ref d.1), (1, .int v1)] → W p l e R s m args below meth c H locs 0 0 Q (F0 m 52 ls []))) ?_ n x z hz hE
  rintro ⟨v2, st⟩ r h hr H locs ls I hl
  replace h : f_laysRing_L12 n v1 v2 st = some r := h
  unfold f_laysRing_L12 at h
  refine lv_iload_n X.1 X.2.1 dX3_laysRing_12 rfl (lv_at hl 2 rfl) ?_
  refine lv_aload_n X.1 X.2.1 dX3_laysRing_13 rfl (lv_at hl 0 rfl) ?_
  refine m_get X I 5 (by decide) rfl rfl rfl q1522 (v := .int (st.1 5)) rfl dX3_laysRing_14 ?_
  refine lv_icmp_ge (tgt := 52) X.1 X.2.1 dX3_laysRing_17 (by decide) (fun c2 => ?_) (fun c2 => ?_)
  · replace h := m_ifT c2 h
    cases h
    exact hr H locs ls I (lv_sub hl [0, 1] rfl)
  · replace h := m_ifF c2 h
    refine lv_aload_n X.1 X.2.1 dX3_laysRing_20 rfl (lv_at hl 0 rfl) ?_
    refine m_get X I 18 (by decide) rfl rfl rfl q1535 (v := .ref (d.2.1 18)) rfl dX3_laysRing_21 ?_
    refine lv_iconst (v := 0) X.1 X.2.1 dX3_laysRing_24 (by decide) ?_
    refine lv_iload_n X.1 X.2.1 dX3_laysRing_25 rfl (lv_at hl 2 rfl) ?_
    obtain ⟨g3, h⟩ := m_gS h
    refine m_iast X I 8 (n := 8) (f := st.2.1 18) rfl (m_st18 d _ _ _) g3 dX3_laysRing_26 (fun H locs I => ?_)
    refine lv_aload_n X.1 X.2.1 dX3_laysRing_27 rfl (lv_at hl 0 rfl) ?_
    refine lv_iload_n X.1 X.2.1 dX3_laysRing_28 rfl (lv_at hl 1 rfl) ?_
    refine m_put X I 19 (by decide) rfl rfl rfl q1536 rfl (m_set19 d _ _) dX3_laysRing_29 (fun H locs I => ?_)
    refine lv_aload_n X.1 X.2.1 dX3_laysRing_32 rfl (lv_at hl 0 rfl) ?_
    refine lv_iconst (v := 1) X.1 X.2.1 dX3_laysRing_33 (by decide) ?_
    refine lv_iload_n X.1 X.2.1 dX3_laysRing_34 rfl (lv_at hl 1 rfl) ?_
    refine lv_iconst (v := 1) X.1 X.2.1 dX3_laysRing_35 (by decide) ?_
    refine lv_iload_n X.1 X.2.1 dX3_laysRing_36 rfl (lv_at hl 2 rfl) ?_
    refine lv_ishl X.1 X.2.1 dX3_laysRing_37 ?_
    obtain ⟨r5, s6, e4, h⟩ := m_b2S h
    refine m_callI X hl.1 I hA (As := [.int 1, .int v1, .int (1 <<< (v2 &&& 31))]) (rest := []) (c_goesRound l n D d (m_sg (m_sa st 18 (0 : Int32).toNatClampNeg v2) 19 v1) 1 v1 (1 <<< (v2 &&& 31)) _ _ e4) 3 q1834 q1836 qs76 q107 q1837 (hd_goesRound) rfl rfl ⟨Nat.le_trans (Nat.le_of_ble_eq_true rfl) hR.1, Nat.le_trans (Nat.le_of_ble_eq_true rfl) hR.2⟩ ⟨rfl, rfl⟩ ⟨Nat.zero_le _, Nat.zero_le _⟩ (Nat.le_of_ble_eq_true rfl) dX3_laysRing_38 (fun H locs I => ?_)
    refine lv_if_eq (tgt := 46) X.1 X.2.1 dX3_laysRing_41 (by decide) (fun c7 => ?_) (fun c7 => ?_)
    · replace h := m_ifT c7 h
      refine lv_iinc (v := v2 + 1) (lv' := [(2, .int (v2 + 1)), (0, .ref d.1), (1, .int v1)]) X.1 X.2.1 dX3_laysRing_46 hl (k := 2) rfl rfl (by decide) rfl (fun ls hl => ?_)
      refine lv_goto (tgt := 12) X.1 X.2.1 dX3_laysRing_49 (by decide) ?_
      cases h
      exact hr H locs ls I (lv_sub hl [1, 2, 0] rfl)
    · replace h := m_ifF c7 h
      cases h
      exact hr H locs ls I (lv_sub hl [1] rfl)
theorem wf_laysRing_L2 (X : m_X D A d p s m c cX3_laysRing 3 args) (hA : ∀ q, s.heap.size ≤ q → A q) (hR : 11 ≤ R.frames ∧ 271 ≤ R.locals) (n : Nat)  (x : (Int32 × MS)) (z : ((Int32 × MS) ⊕ MS)) (hz : f_laysRing_L2l n x = some z) (hE : (m_e (fun (z : (Int32 × MS)) => ∀ (H : Heap) (locs : List Loc) (ls : Array Slot), m_I D A d s.heap z.2 H locs → lv_has ls 3 [(1, .int z.1)] → W p l e R s m args below meth c H locs 0 0 Q (F0 m 44 ls [])) (fun (z : MS) => ∀ (H : Heap) (locs : List Loc) (ls : Array Slot), m_I D A d s.heap z H locs → lv_has ls 3 [(0, .ref d.1)] → W p l e R s m args below meth c H locs 0 0 Q (F0 m 58 ls []))) z) : (fun (x : (Int32 × MS)) => ∀ (H : Heap) (locs : List Loc) (ls : Array Slot), m_I D A d s.heap x.2 H locs → lv_has ls 3 [(0, .ref d.1), (1, .int x.1)] → W p l e R s m args below meth c H locs 0 0 Q (F0 m 2 ls [])) x := by
  refine m_lpW (G := fun (x : (Int32 × MS)) => ∀ (H : Heap) (locs : List Loc) (ls : Array Slot), m_I D A d s.heap x.2 H locs → lv_has ls 3 [(0, .ref d.1), (1, .int x.1)] → W p l e R s m args below meth c H locs 0 0 Q (F0 m 2 ls [])) (E := m_e (fun (z : (Int32 × MS)) => ∀ (H : Heap) (locs : List Loc) (ls : Array Slot), m_I D A d s.heap z.2 H locs → lv_has ls 3 [(1, .int z.1)] → W p l e R s m args below meth c H locs 0 0 Q (F0 m 44 ls [])) (fun (z : MS) => ∀ (H : Heap) (locs : List Loc) (ls : Array Slot), m_I D A d s.heap z H locs → lv_has ls 3 [(0, .ref d.1)] → W p l e R s m args below meth c H locs 0 0 Q (F0 m 58 ls []))) ?_ n x z hz hE
  rintro ⟨v1, st⟩ r h hr H locs ls I hl
  replace h : f_laysRing_L2 n v1 st = some r := h
  unfold f_laysRing_L2 at h
  refine lv_iload_n X.1 X.2.1 dX3_laysRing_2 rfl (lv_at hl 1 rfl) ?_
  refine lv_aload_n X.1 X.2.1 dX3_laysRing_3 rfl (lv_at hl 0 rfl) ?_
  refine m_get X I 5 (by decide) rfl rfl rfl q1522 (v := .int (st.1 5)) rfl dX3_laysRing_4 ?_
  refine lv_icmp_gt (tgt := 58) X.1 X.2.1 dX3_laysRing_7 (by decide) (fun c1 => ?_) (fun c1 => ?_)
  · replace h := m_ifT c1 h
    cases h
    exact hr H locs ls I (lv_sub hl [0] rfl)
  · replace h := m_ifF c1 h
    refine lv_iconst (v := 0) X.1 X.2.1 dX3_laysRing_10 (by decide) ?_
    refine lv_istore_n (lv' := [(2, .int 0), (0, .ref d.1), (1, .int v1)]) X.1 X.2.1 dX3_laysRing_11 rfl hl (by decide) rfl (fun ls hl => ?_)
    obtain ⟨s9 | s10, e8, h⟩ := m_bS h
    · replace h := m_sL h
      refine wf_laysRing_L12 X hA hR n v1 _ _ e8 (fun H locs ls I hl => ?_) H locs ls I (lv_sub hl [1, 2, 0] rfl)
      cases h
      exact hr H locs ls I (lv_sub hl [0] rfl)
    · replace h := m_sR h
      refine wf_laysRing_L12 X hA hR n v1 _ _ e8 (fun H locs ls I hl => ?_) H locs ls I (lv_sub hl [1, 2, 0] rfl)
      refine lv_iinc (v := v1 + 1) (lv' := [(1, .int (v1 + 1)), (0, .ref d.1)]) X.1 X.2.1 dX3_laysRing_52 hl (k := 1) rfl rfl (by decide) rfl (fun ls hl => ?_)
      refine lv_goto (tgt := 2) X.1 X.2.1 dX3_laysRing_55 (by decide) ?_
      cases h
      exact hr H locs ls I (lv_sub hl [1, 0] rfl)
theorem w_laysRing (X : m_X D A d p s m c cX3_laysRing 3 args) (hA : ∀ q, s.heap.size ≤ q → A q) (hR : 11 ≤ R.frames ∧ 271 ≤ R.locals) (n : Nat) (st : MS) (r : (Int32 × MS)) (h : f_laysRing n st = some r) (hret : ∀ (H : Heap) (locs : List Loc) (ls : Array Slot) (pc : Nat), decode cX3_laysRing pc = .ok (.ireturn, 1) → m_I D A d s.heap r.2 H locs → W p l e R s m args below meth c H locs 0 0 Q (F0 m pc ls [.int r.1])) : ∀ (H : Heap) (locs : List Loc) (ls : Array Slot), m_I D A d s.heap st H locs → lv_has ls 3 [(0, .ref d.1)] → W p l e R s m args below meth c H locs 0 0 Q (F0 m 0 ls []) := by
  obtain ⟨r0, s0⟩ := r
  intro H locs ls I hl
  unfold f_laysRing at h
  refine lv_iconst (v := 2) X.1 X.2.1 dX3_laysRing_0 (by decide) ?_
  refine lv_istore_n (lv' := [(1, .int 2), (0, .ref d.1)]) X.1 X.2.1 dX3_laysRing_1 rfl hl (by decide) rfl (fun ls hl => ?_)
  obtain ⟨⟨z13, s14⟩ | s16, e12, h⟩ := m_bS h
  · replace h := m_sL h
    refine wf_laysRing_L2 X hA hR n  _ _ e12 (fun H locs ls I hl => ?_) H locs ls I (lv_sub hl [1, 0] rfl)
    refine lv_iload_n X.1 X.2.1 dX3_laysRing_44 rfl (lv_at hl 0 rfl) ?_
    obtain ⟨rfl, rfl⟩ := m_e2 h
    exact hret H locs ls 45 dX3_laysRing_45 I
  · replace h := m_sR h
    refine wf_laysRing_L2 X hA hR n  _ _ e12 (fun H locs ls I hl => ?_) H locs ls I (lv_sub hl [1, 0] rfl)
    refine lv_aload_n X.1 X.2.1 dX3_laysRing_58 rfl (lv_at hl 0 rfl) ?_
    refine lv_iconst (v := 0) X.1 X.2.1 dX3_laysRing_59 (by decide) ?_
    refine m_put X I 19 (by decide) rfl rfl rfl q1536 rfl (m_set19 d _ _) dX3_laysRing_60 (fun H locs I => ?_)
    refine lv_iconst (v := 0) X.1 X.2.1 dX3_laysRing_63 (by decide) ?_
    obtain ⟨rfl, rfl⟩ := m_e2 h
    exact hret H locs ls 64 dX3_laysRing_64 I
end S_laysRing
theorem c_laysRing (l : Launch) (n : Nat) (D : va_G) (d : MD) (st : MS) (r : Int32) (st' : MS) (h : f_laysRing n st = some (r, st')) : m_Mi l yX3_laysRing cX3_laysRing 3 (some .int) ({ frames := 11, cells := 0, slots := 0, locals := 271 } : Room) D d st [.ref d.1] r st' :=
  m_startI (lvl := [(0, .ref d.1)]) (by decide) rfl (Nat.le_of_ble_eq_true rfl) rfl (fun p e s m args below meth c ls X hr hlk hl hA I => w_laysRing X hA ⟨Nat.le_refl _, Nat.le_refl _⟩ n st (r, st') h (fun H locs ls pc hd I => m_iret X I hr hlk hd) _ _ ls I hl)

/-! method loadOf()I -/
def f_loadOf_J49 (n : Nat) (st : MS) (v2 : Int32) (t0 : Int32) : Option ((Int32 × Int32) ⊕ Int32) :=
  some (.inl ((t0, v2 + 1)))
def f_loadOf_L13 (n : Nat) (st : MS) (v1 : Int32) (v2 : Int32) : Option ((Int32 × Int32) ⊕ Int32) :=
  m_if ((st.1 19 : Int32) ≤ (v2 : Int32)) (some (.inr v1)) (m_b (f_coupleOf n st v2) (fun r6 => m_g (m_in r6 64) (m_if ((v1 : Int32) ≤ (st.2.1 17 (r6 : Int32).toNatClampNeg : Int32)) (f_loadOf_J49 n st v2 v1) (m_b (f_coupleOf n st v2) (fun r10 => m_g (m_in r10 64) (f_loadOf_J49 n st v2 (st.2.1 17 (r10 : Int32).toNatClampNeg)))))))
def f_loadOf_L13l (n : Nat) (st : MS) (x : (Int32 × Int32)) : Option Int32 := m_lp (fun (x : (Int32 × Int32)) => f_loadOf_L13 n st x.1 x.2) n x
def f_loadOf (n : Nat) (st : MS) : Option (Int32) :=
  m_b (f_coupleOf n st 0) (fun r2 => m_g (m_in r2 64) (m_b (f_loadOf_L13l n st ((st.2.1 17 (r2 : Int32).toNatClampNeg, 1))) (fun z13 => some z13)))
theorem hd_loadOf : yX3_loadOf.cls = RX3 ∧ yX3_loadOf.cls ≠ "java/lang/invoke/MethodHandle" ∧ yX3_loadOf.cls ≠ "java/lang/invoke/VarHandle" ∧ (parseMethodDescriptor yX3_loadOf.desc).map (fun d => d.parameters.length) = some 0 := by decide +kernel
section S_loadOf
variable {p : Program} {l : Launch} {e : Env} {R : Room} {s : State} {m : MethodId} {args : Array Value} {below : List Frame} {meth : Method} {c : Code} {Q : State → Prop} {D : va_G} {A : Nat → Prop} {d : MD}
theorem wf_loadOf_L13 (X : m_X D A d p s m c cX3_loadOf 3 args) (hA : ∀ q, s.heap.size ≤ q → A q) (hR : 2 ≤ R.frames ∧ 42 ≤ R.locals) (n : Nat) (st : MS) (x : (Int32 × Int32)) (z : Int32) (hz : f_loadOf_L13l n st x = some z) (hE : (fun (z : Int32) => ∀ (H : Heap) (locs : List Loc) (ls : Array Slot), m_I D A d s.heap st H locs → lv_has ls 3 [(1, .int z)] → W p l e R s m args below meth c H locs 0 0 Q (F0 m 56 ls [])) z) : (fun (x : (Int32 × Int32)) => ∀ (H : Heap) (locs : List Loc) (ls : Array Slot), m_I D A d s.heap st H locs → lv_has ls 3 [(0, .ref d.1), (1, .int x.1), (2, .int x.2)] → W p l e R s m args below meth c H locs 0 0 Q (F0 m 13 ls [])) x := by
  refine m_lpW (G := fun (x : (Int32 × Int32)) => ∀ (H : Heap) (locs : List Loc) (ls : Array Slot), m_I D A d s.heap st H locs → lv_has ls 3 [(0, .ref d.1), (1, .int x.1), (2, .int x.2)] → W p l e R s m args below meth c H locs 0 0 Q (F0 m 13 ls [])) (E := fun (z : Int32) => ∀ (H : Heap) (locs : List Loc) (ls : Array Slot), m_I D A d s.heap st H locs → lv_has ls 3 [(1, .int z)] → W p l e R s m args below meth c H locs 0 0 Q (F0 m 56 ls [])) ?_ n x z hz hE
  rintro ⟨v1, v2⟩ r h hr H locs ls I hl
  replace h : f_loadOf_L13 n st v1 v2 = some r := h
  have k49 : ∀ (v2 : Int32) (t0 : Int32) (H : Heap) (locs : List Loc) (ls : Array Slot), f_loadOf_J49 n st v2 t0 = some r → m_I D A d s.heap st H locs → lv_has ls 3 [(0, .ref d.1), (2, .int v2)] → W p l e R s m args below meth c H locs 0 0 Q (F0 m 49 ls [.int t0]) := by
    intro v2 t0 H locs ls h I hl
    unfold f_loadOf_J49 at h
    refine lv_istore_n (lv' := [(1, .int t0), (0, .ref d.1), (2, .int v2)]) X.1 X.2.1 dX3_loadOf_49 rfl hl (by decide) rfl (fun ls hl => ?_)
    refine lv_iinc (v := v2 + 1) (lv' := [(2, .int (v2 + 1)), (1, .int t0), (0, .ref d.1)]) X.1 X.2.1 dX3_loadOf_50 hl (k := 2) rfl rfl (by decide) rfl (fun ls hl => ?_)
    refine lv_goto (tgt := 13) X.1 X.2.1 dX3_loadOf_53 (by decide) ?_
    cases h
    exact hr H locs ls I (lv_sub hl [2, 1, 0] rfl)
  unfold f_loadOf_L13 at h
  refine lv_iload_n X.1 X.2.1 dX3_loadOf_13 rfl (lv_at hl 2 rfl) ?_
  refine lv_aload_n X.1 X.2.1 dX3_loadOf_14 rfl (lv_at hl 0 rfl) ?_
  refine m_get X I 19 (by decide) rfl rfl rfl q1536 (v := .int (st.1 19)) rfl dX3_loadOf_15 ?_
  refine lv_icmp_ge (tgt := 56) X.1 X.2.1 dX3_loadOf_18 (by decide) (fun c4 => ?_) (fun c4 => ?_)
  · replace h := m_ifT c4 h
    cases h
    exact hr H locs ls I (lv_sub hl [1] rfl)
  · replace h := m_ifF c4 h
    refine lv_aload_n X.1 X.2.1 dX3_loadOf_21 rfl (lv_at hl 0 rfl) ?_
    refine m_get X I 17 (by decide) rfl rfl rfl q1534 (v := .ref (d.2.1 17)) rfl dX3_loadOf_22 ?_
    refine lv_aload_n X.1 X.2.1 dX3_loadOf_25 rfl (lv_at hl 0 rfl) ?_
    refine lv_iload_n X.1 X.2.1 dX3_loadOf_26 rfl (lv_at hl 2 rfl) ?_
    obtain ⟨r6, e5, h⟩ := m_bS h
    refine m_callI X hl.1 I hA (As := [.int v2]) (rest := [.ref (d.2.1 17)]) (c_coupleOf l n D d st v2 _ e5) 1 q1846 q1848 qs78 q107 q1849 (hd_coupleOf) rfl rfl ⟨Nat.le_trans (Nat.le_of_ble_eq_true rfl) hR.1, Nat.le_trans (Nat.le_of_ble_eq_true rfl) hR.2⟩ ⟨rfl, rfl⟩ ⟨Nat.zero_le _, Nat.zero_le _⟩ (Nat.le_of_ble_eq_true rfl) dX3_loadOf_27 (fun H locs I => ?_)
    obtain ⟨g7, h⟩ := m_gS h
    refine m_iald X I 7 (n := 64) (f := st.2.1 17) rfl g7 dX3_loadOf_30 ?_
    refine lv_iload_n X.1 X.2.1 dX3_loadOf_31 rfl (lv_at hl 1 rfl) ?_
    refine lv_icmp_ge (tgt := 48) X.1 X.2.1 dX3_loadOf_32 (by decide) (fun c8 => ?_) (fun c8 => ?_)
    · replace h := m_ifT c8 h
      refine lv_iload_n X.1 X.2.1 dX3_loadOf_48 rfl (lv_at hl 1 rfl) ?_
      exact k49 v2 v1 H locs ls h I (lv_sub hl [0, 2] rfl)
    · replace h := m_ifF c8 h
      refine lv_aload_n X.1 X.2.1 dX3_loadOf_35 rfl (lv_at hl 0 rfl) ?_
      refine m_get X I 17 (by decide) rfl rfl rfl q1534 (v := .ref (d.2.1 17)) rfl dX3_loadOf_36 ?_
      refine lv_aload_n X.1 X.2.1 dX3_loadOf_39 rfl (lv_at hl 0 rfl) ?_
      refine lv_iload_n X.1 X.2.1 dX3_loadOf_40 rfl (lv_at hl 2 rfl) ?_
      obtain ⟨r10, e9, h⟩ := m_bS h
      refine m_callI X hl.1 I hA (As := [.int v2]) (rest := [.ref (d.2.1 17)]) (c_coupleOf l n D d st v2 _ e9) 1 q1846 q1848 qs78 q107 q1849 (hd_coupleOf) rfl rfl ⟨Nat.le_trans (Nat.le_of_ble_eq_true rfl) hR.1, Nat.le_trans (Nat.le_of_ble_eq_true rfl) hR.2⟩ ⟨rfl, rfl⟩ ⟨Nat.zero_le _, Nat.zero_le _⟩ (Nat.le_of_ble_eq_true rfl) dX3_loadOf_41 (fun H locs I => ?_)
      obtain ⟨g11, h⟩ := m_gS h
      refine m_iald X I 7 (n := 64) (f := st.2.1 17) rfl g11 dX3_loadOf_44 ?_
      refine lv_goto (tgt := 49) X.1 X.2.1 dX3_loadOf_45 (by decide) ?_
      exact k49 v2 (st.2.1 17 (r10 : Int32).toNatClampNeg) H locs ls h I (lv_sub hl [0, 2] rfl)
theorem w_loadOf (X : m_X D A d p s m c cX3_loadOf 3 args) (hA : ∀ q, s.heap.size ≤ q → A q) (hR : 2 ≤ R.frames ∧ 42 ≤ R.locals) (n : Nat) (st : MS) (r : Int32) (h : f_loadOf n st = some r) (hret : ∀ (H : Heap) (locs : List Loc) (ls : Array Slot) (pc : Nat), decode cX3_loadOf pc = .ok (.ireturn, 1) → m_I D A d s.heap st H locs → W p l e R s m args below meth c H locs 0 0 Q (F0 m pc ls [.int r])) : ∀ (H : Heap) (locs : List Loc) (ls : Array Slot), m_I D A d s.heap st H locs → lv_has ls 3 [(0, .ref d.1)] → W p l e R s m args below meth c H locs 0 0 Q (F0 m 0 ls []) := by
  intro H locs ls I hl
  unfold f_loadOf at h
  refine lv_aload_n X.1 X.2.1 dX3_loadOf_0 rfl (lv_at hl 0 rfl) ?_
  refine m_get X I 17 (by decide) rfl rfl rfl q1534 (v := .ref (d.2.1 17)) rfl dX3_loadOf_1 ?_
  refine lv_aload_n X.1 X.2.1 dX3_loadOf_4 rfl (lv_at hl 0 rfl) ?_
  refine lv_iconst (v := 0) X.1 X.2.1 dX3_loadOf_5 (by decide) ?_
  obtain ⟨r2, e1, h⟩ := m_bS h
  refine m_callI X hl.1 I hA (As := [.int 0]) (rest := [.ref (d.2.1 17)]) (c_coupleOf l n D d st 0 _ e1) 1 q1846 q1848 qs78 q107 q1849 (hd_coupleOf) rfl rfl ⟨Nat.le_trans (Nat.le_of_ble_eq_true rfl) hR.1, Nat.le_trans (Nat.le_of_ble_eq_true rfl) hR.2⟩ ⟨rfl, rfl⟩ ⟨Nat.zero_le _, Nat.zero_le _⟩ (Nat.le_of_ble_eq_true rfl) dX3_loadOf_6 (fun H locs I => ?_)
  obtain ⟨g3, h⟩ := m_gS h
  refine m_iald X I 7 (n := 64) (f := st.2.1 17) rfl g3 dX3_loadOf_9 ?_
  refine lv_istore_n (lv' := [(1, .int (st.2.1 17 (r2 : Int32).toNatClampNeg)), (0, .ref d.1)]) X.1 X.2.1 dX3_loadOf_10 rfl hl (by decide) rfl (fun ls hl => ?_)
  refine lv_iconst (v := 1) X.1 X.2.1 dX3_loadOf_11 (by decide) ?_
  refine lv_istore_n (lv' := [(2, .int 1), (1, .int (st.2.1 17 (r2 : Int32).toNatClampNeg)), (0, .ref d.1)]) X.1 X.2.1 dX3_loadOf_12 rfl hl (by decide) rfl (fun ls hl => ?_)
  obtain ⟨z13, e12, h⟩ := m_bS h
  refine wf_loadOf_L13 X hA hR n st _ _ e12 (fun H locs ls I hl => ?_) H locs ls I (lv_sub hl [2, 1, 0] rfl)
  refine lv_iload_n X.1 X.2.1 dX3_loadOf_56 rfl (lv_at hl 0 rfl) ?_
  obtain rfl := m_e1 h
  exact hret H locs ls 57 dX3_loadOf_57 I
end S_loadOf
theorem c_loadOf (l : Launch) (n : Nat) (D : va_G) (d : MD) (st : MS) (r : Int32) (h : f_loadOf n st = some r) : m_Mi l yX3_loadOf cX3_loadOf 3 (some .int) ({ frames := 2, cells := 0, slots := 0, locals := 42 } : Room) D d st [.ref d.1] r st :=
  m_startI (lvl := [(0, .ref d.1)]) (by decide) rfl (Nat.le_of_ble_eq_true rfl) rfl (fun p e s m args below meth c ls X hr hlk hl hA I => w_loadOf X hA ⟨Nat.le_refl _, Nat.le_refl _⟩ n st r h (fun H locs ls pc hd I => m_iret X I hr hlk hd) _ _ ls I hl)

/-! method ringGoes()V -/
def f_ringGoes_L7 (n : Nat) (v1 : Int32) (v2 : Int32) (st : MS) : Option ((Int32 × MS) ⊕ MS) :=
  m_if ((st.1 19 : Int32) ≤ (v2 : Int32)) (some (.inr st)) (m_b (f_coupleOf n st v2) (fun r5 => m_g (m_in r5 64) (m_g (m_in r5 64) (some (.inl ((v2 + 1, m_sa st 17 (r5 : Int32).toNatClampNeg ((st.2.1 17 (r5 : Int32).toNatClampNeg) - v1))))))))
def f_ringGoes_L7l (n : Nat) (v1 : Int32) (x : (Int32 × MS)) : Option MS := m_lp (fun (x : (Int32 × MS)) => f_ringGoes_L7 n v1 x.1 x.2) n x
def f_ringGoes (n : Nat) (st : MS) : Option (MS) :=
  m_b (f_loadOf n st) (fun r2 => m_b (f_ringGoes_L7l n r2 ((0, st))) (fun s9 => some s9))
theorem hd_ringGoes : yX3_ringGoes.cls = RX3 ∧ yX3_ringGoes.cls ≠ "java/lang/invoke/MethodHandle" ∧ yX3_ringGoes.cls ≠ "java/lang/invoke/VarHandle" ∧ (parseMethodDescriptor yX3_ringGoes.desc).map (fun d => d.parameters.length) = some 0 := by decide +kernel
section S_ringGoes
variable {p : Program} {l : Launch} {e : Env} {R : Room} {s : State} {m : MethodId} {args : Array Value} {below : List Frame} {meth : Method} {c : Code} {Q : State → Prop} {D : va_G} {A : Nat → Prop} {d : MD}
theorem wf_ringGoes_L7 (X : m_X D A d p s m c cX3_ringGoes 3 args) (hA : ∀ q, s.heap.size ≤ q → A q) (hR : 3 ≤ R.frames ∧ 64 ≤ R.locals) (n : Nat) (v1 : Int32) (x : (Int32 × MS)) (z : MS) (hz : f_ringGoes_L7l n v1 x = some z) (hE : (fun (z : MS) => ∀ (H : Heap) (locs : List Loc) (ls : Array Slot), m_I D A d s.heap z H locs → lv_has ls 3 [] → W p l e R s m args below meth c H locs 0 0 Q (F0 m 35 ls [])) z) : (fun (x : (Int32 × MS)) => ∀ (H : Heap) (locs : List Loc) (ls : Array Slot), m_I D A d s.heap x.2 H locs → lv_has ls 3 [(0, .ref d.1), (1, .int v1), (2, .int x.1)] → W p l e R s m args below meth c H locs 0 0 Q (F0 m 7 ls [])) x := by
  refine m_lpW (G := fun (x : (Int32 × MS)) => ∀ (H : Heap) (locs : List Loc) (ls : Array Slot), m_I D A d s.heap x.2 H locs → lv_has ls 3 [(0, .ref d.1), (1, .int v1), (2, .int x.1)] → W p l e R s m args below meth c H locs 0 0 Q (F0 m 7 ls [])) (E := fun (z : MS) => ∀ (H : Heap) (locs : List Loc) (ls : Array Slot), m_I D A d s.heap z H locs → lv_has ls 3 [] → W p l e R s m args below meth c H locs 0 0 Q (F0 m 35 ls [])) ?_ n x z hz hE
  rintro ⟨v2, st⟩ r h hr H locs ls I hl
  replace h : f_ringGoes_L7 n v1 v2 st = some r := h
  unfold f_ringGoes_L7 at h
  refine lv_iload_n X.1 X.2.1 dX3_ringGoes_7 rfl (lv_at hl 2 rfl) ?_
  refine lv_aload_n X.1 X.2.1 dX3_ringGoes_8 rfl (lv_at hl 0 rfl) ?_
  refine m_get X I 19 (by decide) rfl rfl rfl q1536 (v := .int (st.1 19)) rfl dX3_ringGoes_9 ?_
  refine lv_icmp_ge (tgt := 35) X.1 X.2.1 dX3_ringGoes_12 (by decide) (fun c3 => ?_) (fun c3 => ?_)
  · replace h := m_ifT c3 h
    cases h
    exact hr H locs ls I (lv_sub hl [] rfl)
  · replace h := m_ifF c3 h
    refine lv_aload_n X.1 X.2.1 dX3_ringGoes_15 rfl (lv_at hl 0 rfl) ?_
    refine m_get X I 17 (by decide) rfl rfl rfl q1534 (v := .ref (d.2.1 17)) rfl dX3_ringGoes_16 ?_
    refine lv_aload_n X.1 X.2.1 dX3_ringGoes_19 rfl (lv_at hl 0 rfl) ?_
    refine lv_iload_n X.1 X.2.1 dX3_ringGoes_20 rfl (lv_at hl 2 rfl) ?_
    obtain ⟨r5, e4, h⟩ := m_bS h
    refine m_callI X hl.1 I hA (As := [.int v2]) (rest := [.ref (d.2.1 17)]) (c_coupleOf l n D d st v2 _ e4) 1 q1846 q1848 qs78 q107 q1849 (hd_coupleOf) rfl rfl ⟨Nat.le_trans (Nat.le_of_ble_eq_true rfl) hR.1, Nat.le_trans (Nat.le_of_ble_eq_true rfl) hR.2⟩ ⟨rfl, rfl⟩ ⟨Nat.zero_le _, Nat.zero_le _⟩ (Nat.le_of_ble_eq_true rfl) dX3_ringGoes_21 (fun H locs I => ?_)
    refine lv_dup2_11 X.1 X.2.1 dX3_ringGoes_24 rfl rfl ?_
    obtain ⟨g6, h⟩ := m_gS h
    refine m_iald X I 7 (n := 64) (f := st.2.1 17) rfl g6 dX3_ringGoes_25 ?_
    refine lv_iload_n X.1 X.2.1 dX3_ringGoes_26 rfl (lv_at hl 1 rfl) ?_
    refine lv_isub X.1 X.2.1 dX3_ringGoes_27 ?_
    obtain ⟨g7, h⟩ := m_gS h
    refine m_iast X I 7 (n := 64) (f := st.2.1 17) rfl (m_st17 d _ _ _) g7 dX3_ringGoes_28 (fun H locs I => ?_)
    refine lv_iinc (v := v2 + 1) (lv' := [(2, .int (v2 + 1)), (0, .ref d.1), (1, .int v1)]) X.1 X.2.1 dX3_ringGoes_29 hl (k := 2) rfl rfl (by decide) rfl (fun ls hl => ?_)
    refine lv_goto (tgt := 7) X.1 X.2.1 dX3_ringGoes_32 (by decide) ?_
    cases h
    exact hr H locs ls I (lv_sub hl [1, 2, 0] rfl)
theorem w_ringGoes (X : m_X D A d p s m c cX3_ringGoes 3 args) (hA : ∀ q, s.heap.size ≤ q → A q) (hR : 3 ≤ R.frames ∧ 64 ≤ R.locals) (n : Nat) (st : MS) (r : MS) (h : f_ringGoes n st = some r) (hret : ∀ (H : Heap) (locs : List Loc) (ls : Array Slot) (pc : Nat), decode cX3_ringGoes pc = .ok (.return_, 1) → m_I D A d s.heap r H locs → W p l e R s m args below meth c H locs 0 0 Q (F0 m pc ls [])) : ∀ (H : Heap) (locs : List Loc) (ls : Array Slot), m_I D A d s.heap st H locs → lv_has ls 3 [(0, .ref d.1)] → W p l e R s m args below meth c H locs 0 0 Q (F0 m 0 ls []) := by
  intro H locs ls I hl
  unfold f_ringGoes at h
  refine lv_aload_n X.1 X.2.1 dX3_ringGoes_0 rfl (lv_at hl 0 rfl) ?_
  obtain ⟨r2, e1, h⟩ := m_bS h
  refine m_callI X hl.1 I hA (As := []) (rest := []) (c_loadOf l n D d st  _ e1) 0 q1842 q1844 qs77 q107 q1845 (hd_loadOf) rfl rfl ⟨Nat.le_trans (Nat.le_of_ble_eq_true rfl) hR.1, Nat.le_trans (Nat.le_of_ble_eq_true rfl) hR.2⟩ ⟨rfl, rfl⟩ ⟨Nat.zero_le _, Nat.zero_le _⟩ (Nat.le_of_ble_eq_true rfl) dX3_ringGoes_1 (fun H locs I => ?_)
  refine lv_istore_n (lv' := [(1, .int r2), (0, .ref d.1)]) X.1 X.2.1 dX3_ringGoes_4 rfl hl (by decide) rfl (fun ls hl => ?_)
  refine lv_iconst (v := 0) X.1 X.2.1 dX3_ringGoes_5 (by decide) ?_
  refine lv_istore_n (lv' := [(2, .int 0), (1, .int r2), (0, .ref d.1)]) X.1 X.2.1 dX3_ringGoes_6 rfl hl (by decide) rfl (fun ls hl => ?_)
  obtain ⟨s9, e8, h⟩ := m_bS h
  refine wf_ringGoes_L7 X hA hR n r2 _ _ e8 (fun H locs ls I hl => ?_) H locs ls I (lv_sub hl [2, 1, 0] rfl)
  obtain rfl := m_e1 h
  exact hret H locs ls 35 dX3_ringGoes_35 I
end S_ringGoes
theorem c_ringGoes (l : Launch) (n : Nat) (D : va_G) (d : MD) (st : MS) (st' : MS) (h : f_ringGoes n st = some st') : m_Mv l yX3_ringGoes cX3_ringGoes 3 none ({ frames := 3, cells := 0, slots := 0, locals := 64 } : Room) D d st [.ref d.1] st' :=
  m_startV (lvl := [(0, .ref d.1)]) (by decide) rfl (Nat.le_of_ble_eq_true rfl) rfl (fun p e s m args below meth c ls X hr hlk hl hA I => w_ringGoes X hA ⟨Nat.le_refl _, Nat.le_refl _⟩ n st st' h (fun H locs ls pc hd I => m_vret X I hr hlk hd) _ _ ls I hl)

/-! method rounds(II)I -/
def f_rounds_L39 (n : Nat) (v2 : Int32) (v3 : Int32) (st : MS) : Option ((Int32 × MS) ⊕ MS) :=
  m_if ((v2 : Int32) ≤ (v3 : Int32)) (some (.inr st)) (m_b2 (f_laysRing n st) (fun r11 s12 => m_if ((r11 : Int32) ≤ 0) (some (.inr s12)) (m_b (f_ringGoes n s12) (fun s15 => some (.inl ((v3 + 1, s15)))))))
def f_rounds_L39l (n : Nat) (v2 : Int32) (x : (Int32 × MS)) : Option MS := m_lp (fun (x : (Int32 × MS)) => f_rounds_L39 n v2 x.1 x.2) n x
def f_rounds (n : Nat) (st : MS) (p0 : Int32) (p1 : Int32) : Option (Int32 × MS) :=
  m_b (f_isKind n (m_sg st 8 0) p0) (fun r2 => m_if ((r2 : Int32) = 0) (some ((-2), m_sg st 8 0)) (m_b (f_isIn n p1.toInt64 0 99) (fun r5 => m_if ((r5 : Int32) = 0) (some ((-3), m_sg st 8 0)) (m_b (f_laysFlows n (m_sg st 8 0) p0 ((-1))) (fun s8 => m_b (f_rounds_L39l n p1 ((0, s8))) (fun s17 => m_b (f_sumOfFlows n s17) (fun r19 => some (r19, s17))))))))
theorem hd_rounds : yX3_rounds.cls = RX3 ∧ yX3_rounds.cls ≠ "java/lang/invoke/MethodHandle" ∧ yX3_rounds.cls ≠ "java/lang/invoke/VarHandle" ∧ (parseMethodDescriptor yX3_rounds.desc).map (fun d => d.parameters.length) = some 2 := by decide +kernel
section S_rounds
variable {p : Program} {l : Launch} {e : Env} {R : Room} {s : State} {m : MethodId} {args : Array Value} {below : List Frame} {meth : Method} {c : Code} {Q : State → Prop} {D : va_G} {A : Nat → Prop} {d : MD}
theorem wf_rounds_L39 (X : m_X D A d p s m c cX3_rounds 4 args) (hA : ∀ q, s.heap.size ≤ q → A q) (hR : 12 ≤ R.frames ∧ 293 ≤ R.locals) (n : Nat) (v2 : Int32) (x : (Int32 × MS)) (z : MS) (hz : f_rounds_L39l n v2 x = some z) (hE : (fun (z : MS) => ∀ (H : Heap) (locs : List Loc) (ls : Array Slot), m_I D A d s.heap z H locs → lv_has ls 4 [(0, .ref d.1)] → W p l e R s m args below meth c H locs 0 0 Q (F0 m 61 ls [])) z) : (fun (x : (Int32 × MS)) => ∀ (H : Heap) (locs : List Loc) (ls : Array Slot), m_I D A d s.heap x.2 H locs → lv_has ls 4 [(0, .ref d.1), (2, .int v2), (3, .int x.1)] → W p l e R s m args below meth c H locs 0 0 Q (F0 m 39 ls [])) x := by
  refine m_lpW (G := fun (x : (Int32 × MS)) => ∀ (H : Heap) (locs : List Loc) (ls : Array Slot), m_I D A d s.heap x.2 H locs → lv_has ls 4 [(0, .ref d.1), (2, .int v2), (3, .int x.1)] → W p l e R s m args below meth c H locs 0 0 Q (F0 m 39 ls [])) (E := fun (z : MS) => ∀ (H : Heap) (locs : List Loc) (ls : Array Slot), m_I D A d s.heap z H locs → lv_has ls 4 [(0, .ref d.1)] → W p l e R s m args below meth c H locs 0 0 Q (F0 m 61 ls [])) ?_ n x z hz hE
  rintro ⟨v3, st⟩ r h hr H locs ls I hl
  replace h : f_rounds_L39 n v2 v3 st = some r := h
  unfold f_rounds_L39 at h
  refine lv_iload_n X.1 X.2.1 dX3_rounds_39 rfl (lv_at hl 2 rfl) ?_
  refine lv_iload_n X.1 X.2.1 dX3_rounds_40 rfl (lv_at hl 1 rfl) ?_
  refine lv_icmp_ge (tgt := 61) X.1 X.2.1 dX3_rounds_41 (by decide) (fun c9 => ?_) (fun c9 => ?_)
  · replace h := m_ifT c9 h
    cases h
    exact hr H locs ls I (lv_sub hl [0] rfl)
  · replace h := m_ifF c9 h
    refine lv_aload_n X.1 X.2.1 dX3_rounds_44 rfl (lv_at hl 0 rfl) ?_
    obtain ⟨r11, s12, e10, h⟩ := m_b2S h
    refine m_callI X hl.1 I hA (As := []) (rest := []) (c_laysRing l n D d st  _ _ e10) 0 q1830 q1832 qs75 q107 q1833 (hd_laysRing) rfl rfl ⟨Nat.le_trans (Nat.le_of_ble_eq_true rfl) hR.1, Nat.le_trans (Nat.le_of_ble_eq_true rfl) hR.2⟩ ⟨rfl, rfl⟩ ⟨Nat.zero_le _, Nat.zero_le _⟩ (Nat.le_of_ble_eq_true rfl) dX3_rounds_45 (fun H locs I => ?_)
    refine lv_if_le (tgt := 61) X.1 X.2.1 dX3_rounds_48 (by decide) (fun c13 => ?_) (fun c13 => ?_)
    · replace h := m_ifT c13 h
      cases h
      exact hr H locs ls I (lv_sub hl [0] rfl)
    · replace h := m_ifF c13 h
      refine lv_aload_n X.1 X.2.1 dX3_rounds_51 rfl (lv_at hl 0 rfl) ?_
      obtain ⟨s15, e14, h⟩ := m_bS h
      refine m_callV X hl.1 I hA (As := []) (rest := []) (c_ringGoes l n D d s12  _ e14) 0 q1854 q1856 qs79 q107 q1857 (hd_ringGoes) rfl rfl ⟨Nat.le_trans (Nat.le_of_ble_eq_true rfl) hR.1, Nat.le_trans (Nat.le_of_ble_eq_true rfl) hR.2⟩ ⟨rfl, rfl⟩ ⟨Nat.zero_le _, Nat.zero_le _⟩ (Nat.le_of_ble_eq_true rfl) dX3_rounds_52 (fun H locs I => ?_)
      refine lv_iinc (v := v3 + 1) (lv' := [(3, .int (v3 + 1)), (0, .ref d.1), (2, .int v2)]) X.1 X.2.1 dX3_rounds_55 hl (k := 2) rfl rfl (by decide) rfl (fun ls hl => ?_)
      refine lv_goto (tgt := 39) X.1 X.2.1 dX3_rounds_58 (by decide) ?_
      cases h
      exact hr H locs ls I (lv_sub hl [1, 2, 0] rfl)
theorem w_rounds (X : m_X D A d p s m c cX3_rounds 4 args) (hA : ∀ q, s.heap.size ≤ q → A q) (hR : 12 ≤ R.frames ∧ 293 ≤ R.locals) (n : Nat) (st : MS) (p0 : Int32) (p1 : Int32) (r : (Int32 × MS)) (h : f_rounds n st p0 p1 = some r) (hret : ∀ (H : Heap) (locs : List Loc) (ls : Array Slot) (pc : Nat), decode cX3_rounds pc = .ok (.ireturn, 1) → m_I D A d s.heap r.2 H locs → W p l e R s m args below meth c H locs 0 0 Q (F0 m pc ls [.int r.1])) : ∀ (H : Heap) (locs : List Loc) (ls : Array Slot), m_I D A d s.heap st H locs → lv_has ls 4 [(0, .ref d.1), (1, .int p0), (2, .int p1)] → W p l e R s m args below meth c H locs 0 0 Q (F0 m 0 ls []) := by
  obtain ⟨r0, s0⟩ := r
  intro H locs ls I hl
  unfold f_rounds at h
  refine lv_aload_n X.1 X.2.1 dX3_rounds_0 rfl (lv_at hl 0 rfl) ?_
  refine lv_iconst (v := 0) X.1 X.2.1 dX3_rounds_1 (by decide) ?_
  refine m_put X I 8 (by decide) rfl rfl rfl q1525 rfl (m_set8 d _ _) dX3_rounds_2 (fun H locs I => ?_)
  refine lv_aload_n X.1 X.2.1 dX3_rounds_5 rfl (lv_at hl 0 rfl) ?_
  refine lv_iload_n X.1 X.2.1 dX3_rounds_6 rfl (lv_at hl 1 rfl) ?_
  obtain ⟨r2, e1, h⟩ := m_bS h
  refine m_callI X hl.1 I hA (As := [.int p0]) (rest := []) (c_isKind l n D d (m_sg st 8 0) p0 _ e1) 1 q1724 q1726 qs63 q107 q1727 (hd_isKind) rfl rfl ⟨Nat.le_trans (Nat.le_of_ble_eq_true rfl) hR.1, Nat.le_trans (Nat.le_of_ble_eq_true rfl) hR.2⟩ ⟨rfl, rfl⟩ ⟨Nat.zero_le _, Nat.zero_le _⟩ (Nat.le_of_ble_eq_true rfl) dX3_rounds_7 (fun H locs I => ?_)
  refine lv_if_ne (tgt := 16) X.1 X.2.1 dX3_rounds_10 (by decide) (fun c3 => ?_) (fun c3 => ?_)
  · replace h := m_ifF c3 h
    refine lv_iload_n X.1 X.2.1 dX3_rounds_16 rfl (lv_at hl 2 rfl) ?_
    refine lv_i2l X.1 X.2.1 dX3_rounds_17 rfl ?_
    refine lv_lconst (v := 0) X.1 X.2.1 dX3_rounds_18 (by decide) ?_
    refine lv_ldc2 (v := 99) X.1 X.2.1 X.2.2.2.1 (X.2.2.1 _ q1862) dX3_rounds_19 ?_
    obtain ⟨r5, e4, h⟩ := m_bS h
    refine m_callS X hl.1 (As := [.long p1.toInt64, .long 0, .long 99]) (rest := []) (c_isIn l n p1.toInt64 0 99 _ e4) 3 q1623 q1624 q107 q1625 (hd_isIn).2 rfl rfl ⟨Nat.le_trans (Nat.le_of_ble_eq_true rfl) hR.1, Nat.le_trans (Nat.le_of_ble_eq_true rfl) hR.2⟩ ⟨rfl, rfl⟩ ⟨Nat.zero_le _, Nat.zero_le _⟩ (Nat.le_of_ble_eq_true rfl) dX3_rounds_22 ?_
    refine lv_if_ne (tgt := 31) X.1 X.2.1 dX3_rounds_25 (by decide) (fun c6 => ?_) (fun c6 => ?_)
    · replace h := m_ifF c6 h
      refine lv_aload_n X.1 X.2.1 dX3_rounds_31 rfl (lv_at hl 0 rfl) ?_
      refine lv_iload_n X.1 X.2.1 dX3_rounds_32 rfl (lv_at hl 1 rfl) ?_
      refine lv_iconst (v := (-1)) X.1 X.2.1 dX3_rounds_33 (by decide) ?_
      obtain ⟨s8, e7, h⟩ := m_bS h
      refine m_callV X hl.1 I hA (As := [.int p0, .int ((-1))]) (rest := []) (c_laysFlows l n D d (m_sg st 8 0) p0 ((-1)) _ e7) 2 q1772 q1774 qs67 q107 q1775 (hd_laysFlows) rfl rfl ⟨Nat.le_trans (Nat.le_of_ble_eq_true rfl) hR.1, Nat.le_trans (Nat.le_of_ble_eq_true rfl) hR.2⟩ ⟨rfl, rfl⟩ ⟨Nat.zero_le _, Nat.zero_le _⟩ (Nat.le_of_ble_eq_true rfl) dX3_rounds_34 (fun H locs I => ?_)
      refine lv_iconst (v := 0) X.1 X.2.1 dX3_rounds_37 (by decide) ?_
      refine lv_istore_n (lv' := [(3, .int 0), (0, .ref d.1), (1, .int p0), (2, .int p1)]) X.1 X.2.1 dX3_rounds_38 rfl hl (by decide) rfl (fun ls hl => ?_)
      obtain ⟨s17, e16, h⟩ := m_bS h
      refine wf_rounds_L39 X hA hR n p1 _ _ e16 (fun H locs ls I hl => ?_) H locs ls I (lv_sub hl [1, 3, 0] rfl)
      refine lv_aload_n X.1 X.2.1 dX3_rounds_61 rfl (lv_at hl 0 rfl) ?_
      obtain ⟨r19, e18, h⟩ := m_bS h
      refine m_callI X hl.1 I hA (As := []) (rest := []) (c_sumOfFlows l n D d s17  _ e18) 0 q1810 q1812 qs72 q107 q1813 (hd_sumOfFlows) rfl rfl ⟨Nat.le_trans (Nat.le_of_ble_eq_true rfl) hR.1, Nat.le_trans (Nat.le_of_ble_eq_true rfl) hR.2⟩ ⟨rfl, rfl⟩ ⟨Nat.zero_le _, Nat.zero_le _⟩ (Nat.le_of_ble_eq_true rfl) dX3_rounds_62 (fun H locs I => ?_)
      obtain ⟨rfl, rfl⟩ := m_e2 h
      exact hret H locs ls 65 dX3_rounds_65 I
    · replace h := m_ifT c6 h
      refine lv_bipush (v := (-3)) X.1 X.2.1 dX3_rounds_28 (by decide) ?_
      obtain ⟨rfl, rfl⟩ := m_e2 h
      exact hret H locs ls 30 dX3_rounds_30 I
  · replace h := m_ifT c3 h
    refine lv_bipush (v := (-2)) X.1 X.2.1 dX3_rounds_13 (by decide) ?_
    obtain ⟨rfl, rfl⟩ := m_e2 h
    exact hret H locs ls 15 dX3_rounds_15 I
end S_rounds
theorem c_rounds (l : Launch) (n : Nat) (D : va_G) (d : MD) (st : MS) (p0 : Int32) (p1 : Int32) (r : Int32) (st' : MS) (h : f_rounds n st p0 p1 = some (r, st')) : m_Mi l yX3_rounds cX3_rounds 4 (some .int) ({ frames := 12, cells := 0, slots := 0, locals := 293 } : Room) D d st [.ref d.1, .int p0, .int p1] r st' :=
  m_startI (lvl := [(0, .ref d.1), (1, .int p0), (2, .int p1)]) (by decide) rfl (Nat.le_of_ble_eq_true rfl) rfl (fun p e s m args below meth c ls X hr hlk hl hA I => w_rounds X hA ⟨Nat.le_refl _, Nat.le_refl _⟩ n st p0 p1 (r, st') h (fun H locs ls pc hd I => m_iret X I hr hlk hd) _ _ ls I hl)

/-! method chain(II)I -/
def f_chain_L30 (n : Nat) (v2 : Int32) (st : MS) : Option (MS ⊕ MS) :=
  m_b2 (f_laysRing n st) (fun r8 s9 => m_if ((r8 : Int32) ≤ 0) (some (.inr s9)) (m_b (f_ringGoes n s9) (fun s12 => some (.inl s12))))
def f_chain_L30l (n : Nat) (v2 : Int32) (x : MS) : Option MS := m_lp (fun (x : MS) => f_chain_L30 n v2 x) n x
def f_chain_L73 (n : Nat) (v2 : Int32) (v3 : Int32) (v4 : Int32) (st : MS) : Option ((Int32 × MS) ⊕ (Int32 × MS)) :=
  m_g (m_in v4 8) (m_if ((v3 : Int32) ≤ (st.2.1 20 (v4 : Int32).toNatClampNeg : Int32)) (some (.inr ((v4, st)))) (some (.inl ((v4 + 1, st)))))
def f_chain_L73l (n : Nat) (v2 : Int32) (v3 : Int32) (x : (Int32 × MS)) : Option (Int32 × MS) := m_lp (fun (x : (Int32 × MS)) => f_chain_L73 n v2 v3 x.1 x.2) n x
def f_chain_L93 (n : Nat) (v2 : Int32) (v3 : Int32) (v4 : Int32) (v5 : Int32) (st : MS) : Option ((Int32 × Int32 × MS) ⊕ (Int32 × MS)) :=
  m_if ((v2 : Int32) < (v5 : Int32)) (some (.inr ((v4, st)))) (m_b (f_nextOf n st v4 (v3 - v5)) (fun r28 => some (.inl ((r28, v5 + 1, st)))))
def f_chain_L93l (n : Nat) (v2 : Int32) (v3 : Int32) (x : (Int32 × Int32 × MS)) : Option (Int32 × MS) := m_lp (fun (x : (Int32 × Int32 × MS)) => f_chain_L93 n v2 v3 x.1 x.2.1 x.2.2) n x
def f_chain_J69 (n : Nat) (st : MS) (t0 : Int32) : Option (Int32 × MS) :=
  some (t0, st)
def f_chain_J59 (n : Nat) (st : MS) (v2 : Int32) (v3 : Int32) : Option (Int32 × MS) :=
  m_if ((v2 : Int32) = ((-1) : Int32)) (f_chain_J69 n st v3) (f_chain_J69 n st ((-1)))
def f_chain (n : Nat) (st : MS) (p0 : Int32) (p1 : Int32) : Option (Int32 × MS) :=
  m_b (f_isKind n (m_sg st 8 0) p0) (fun r2 => m_if ((r2 : Int32) = 0) (some ((-2), m_sg st 8 0)) (m_if (((-1) : Int32) ≤ (p1 : Int32)) (m_b (f_laysFlows n (m_sg st 8 0) p0 ((-1))) (fun s6 => m_b (f_chain_L30l n p1 s6) (fun s14 => m_b2 (f_laysRows n s14) (fun r16 s17 => m_if ((p1 : Int32) = ((-1) : Int32)) (f_chain_J59 n s17 p1 r16) (m_if ((p1 : Int32) < (r16 : Int32)) (m_b (f_chain_L73l n p1 r16 ((0, s17))) (fun y33 => m_b (f_chain_L93l n p1 r16 ((y33.1, 1, y33.2))) (fun y32 => some (y32.1, y32.2)))) (f_chain_J59 n s17 p1 r16)))))) (some ((-3), m_sg st 8 0))))
theorem hd_chain : yX3_chain.cls = RX3 ∧ yX3_chain.cls ≠ "java/lang/invoke/MethodHandle" ∧ yX3_chain.cls ≠ "java/lang/invoke/VarHandle" ∧ (parseMethodDescriptor yX3_chain.desc).map (fun d => d.parameters.length) = some 2 := by decide +kernel
section S_chain
variable {p : Program} {l : Launch} {e : Env} {R : Room} {s : State} {m : MethodId} {args : Array Value} {below : List Frame} {meth : Method} {c : Code} {Q : State → Prop} {D : va_G} {A : Nat → Prop} {d : MD}
theorem wf_chain_L30 (X : m_X D A d p s m c cX3_chain 6 args) (hA : ∀ q, s.heap.size ≤ q → A q) (hR : 12 ≤ R.frames ∧ 293 ≤ R.locals) (n : Nat) (v2 : Int32) (x : MS) (z : MS) (hz : f_chain_L30l n v2 x = some z) (hE : (fun (z : MS) => ∀ (H : Heap) (locs : List Loc) (ls : Array Slot), m_I D A d s.heap z H locs → lv_has ls 6 [(0, .ref d.1), (2, .int v2)] → W p l e R s m args below meth c H locs 0 0 Q (F0 m 44 ls [])) z) : (fun (x : MS) => ∀ (H : Heap) (locs : List Loc) (ls : Array Slot), m_I D A d s.heap x H locs → lv_has ls 6 [(0, .ref d.1), (2, .int v2)] → W p l e R s m args below meth c H locs 0 0 Q (F0 m 30 ls [])) x := by
  refine m_lpW (G := fun (x : MS) => ∀ (H : Heap) (locs : List Loc) (ls : Array Slot), m_I D A d s.heap x H locs → lv_has ls 6 [(0, .ref d.1), (2, .int v2)] → W p l e R s m args below meth c H locs 0 0 Q (F0 m 30 ls [])) (E := fun (z : MS) => ∀ (H : Heap) (locs : List Loc) (ls : Array Slot), m_I D A d s.heap z H locs → lv_has ls 6 [(0, .ref d.1), (2, .int v2)] → W p l e R s m args below meth c H locs 0 0 Q (F0 m 44 ls [])) ?_ n x z hz hE
  rintro st r h hr H locs ls I hl
  replace h : f_chain_L30 n v2 st = some r := h
  unfold f_chain_L30 at h
  refine lv_aload_n X.1 X.2.1 dX3_chain_30 rfl (lv_at hl 0 rfl) ?_
  obtain ⟨r8, s9, e7, h⟩ := m_b2S h
  refine m_callI X hl.1 I hA (As := []) (rest := []) (c_laysRing l n D d st  _ _ e7) 0 q1830 q1832 qs75 q107 q1833 (hd_laysRing) rfl rfl ⟨Nat.le_trans (Nat.le_of_ble_eq_true rfl) hR.1, Nat.le_trans (Nat.le_of_ble_eq_true rfl) hR.2⟩ ⟨rfl, rfl⟩ ⟨Nat.zero_le _, Nat.zero_le _⟩ (Nat.le_of_ble_eq_true rfl) dX3_chain_31 (fun H locs I => ?_)
  refine lv_if_le (tgt := 44) X.1 X.2.1 dX3_chain_34 (by decide) (fun c10 => ?_) (fun c10 => ?_)
  · replace h := m_ifT c10 h
    cases h
    exact hr H locs ls I (lv_sub hl [0, 1] rfl)
  · replace h := m_ifF c10 h
    refine lv_aload_n X.1 X.2.1 dX3_chain_37 rfl (lv_at hl 0 rfl) ?_
    obtain ⟨s12, e11, h⟩ := m_bS h
    refine m_callV X hl.1 I hA (As := []) (rest := []) (c_ringGoes l n D d s9  _ e11) 0 q1854 q1856 qs79 q107 q1857 (hd_ringGoes) rfl rfl ⟨Nat.le_trans (Nat.le_of_ble_eq_true rfl) hR.1, Nat.le_trans (Nat.le_of_ble_eq_true rfl) hR.2⟩ ⟨rfl, rfl⟩ ⟨Nat.zero_le _, Nat.zero_le _⟩ (Nat.le_of_ble_eq_true rfl) dX3_chain_38 (fun H locs I => ?_)
    refine lv_goto (tgt := 30) X.1 X.2.1 dX3_chain_41 (by decide) ?_
    cases h
    exact hr H locs ls I (lv_sub hl [0, 1] rfl)
theorem wf_chain_L73 (X : m_X D A d p s m c cX3_chain 6 args) (hA : ∀ q, s.heap.size ≤ q → A q) (hR : 12 ≤ R.frames ∧ 293 ≤ R.locals) (n : Nat) (v2 : Int32) (v3 : Int32) (x : (Int32 × MS)) (z : (Int32 × MS)) (hz : f_chain_L73l n v2 v3 x = some z) (hE : (fun (z : (Int32 × MS)) => ∀ (H : Heap) (locs : List Loc) (ls : Array Slot), m_I D A d s.heap z.2 H locs → lv_has ls 6 [(0, .ref d.1), (2, .int v2), (3, .int v3), (4, .int z.1)] → W p l e R s m args below meth c H locs 0 0 Q (F0 m 90 ls [])) z) : (fun (x : (Int32 × MS)) => ∀ (H : Heap) (locs : List Loc) (ls : Array Slot), m_I D A d s.heap x.2 H locs → lv_has ls 6 [(0, .ref d.1), (2, .int v2), (3, .int v3), (4, .int x.1)] → W p l e R s m args below meth c H locs 0 0 Q (F0 m 73 ls [])) x := by
  refine m_lpW (G := fun (x : (Int32 × MS)) => ∀ (H : Heap) (locs : List Loc) (ls : Array Slot), m_I D A d s.heap x.2 H locs → lv_has ls 6 [(0, .ref d.1), (2, .int v2), (3, .int v3), (4, .int x.1)] → W p l e R s m args below meth c H locs 0 0 Q (F0 m 73 ls [])) (E := fun (z : (Int32 × MS)) => ∀ (H : Heap) (locs : List Loc) (ls : Array Slot), m_I D A d s.heap z.2 H locs → lv_has ls 6 [(0, .ref d.1), (2, .int v2), (3, .int v3), (4, .int z.1)] → W p l e R s m args below meth c H locs 0 0 Q (F0 m 90 ls [])) ?_ n x z hz hE
  rintro ⟨v4, st⟩ r h hr H locs ls I hl
  replace h : f_chain_L73 n v2 v3 v4 st = some r := h
  unfold f_chain_L73 at h
  refine lv_aload_n X.1 X.2.1 dX3_chain_73 rfl (lv_at hl 0 rfl) ?_
  refine m_get X I 20 (by decide) rfl rfl rfl q1537 (v := .ref (d.2.1 20)) rfl dX3_chain_74 ?_
  refine lv_iload X.1 X.2.1 dX3_chain_77 (lv_at hl 3 rfl) ?_
  obtain ⟨g21, h⟩ := m_gS h
  refine m_iald X I 9 (n := 8) (f := st.2.1 20) rfl g21 dX3_chain_79 ?_
  refine lv_iload_n X.1 X.2.1 dX3_chain_80 rfl (lv_at hl 2 rfl) ?_
  refine lv_icmp_ge (tgt := 90) X.1 X.2.1 dX3_chain_81 (by decide) (fun c22 => ?_) (fun c22 => ?_)
  · replace h := m_ifT c22 h
    cases h
    exact hr H locs ls I (lv_sub hl [0, 1, 2, 3] rfl)
  · replace h := m_ifF c22 h
    refine lv_iinc (v := v4 + 1) (lv' := [(4, .int (v4 + 1)), (0, .ref d.1), (2, .int v2), (3, .int v3)]) X.1 X.2.1 dX3_chain_84 hl (k := 3) rfl rfl (by decide) rfl (fun ls hl => ?_)
    refine lv_goto (tgt := 73) X.1 X.2.1 dX3_chain_87 (by decide) ?_
    cases h
    exact hr H locs ls I (lv_sub hl [1, 2, 3, 0] rfl)
theorem wf_chain_L93 (X : m_X D A d p s m c cX3_chain 6 args) (hA : ∀ q, s.heap.size ≤ q → A q) (hR : 12 ≤ R.frames ∧ 293 ≤ R.locals) (n : Nat) (v2 : Int32) (v3 : Int32) (x : (Int32 × Int32 × MS)) (z : (Int32 × MS)) (hz : f_chain_L93l n v2 v3 x = some z) (hE : (fun (z : (Int32 × MS)) => ∀ (H : Heap) (locs : List Loc) (ls : Array Slot), m_I D A d s.heap z.2 H locs → lv_has ls 6 [(4, .int z.1)] → W p l e R s m args below meth c H locs 0 0 Q (F0 m 117 ls [])) z) : (fun (x : (Int32 × Int32 × MS)) => ∀ (H : Heap) (locs : List Loc) (ls : Array Slot), m_I D A d s.heap x.2.2 H locs → lv_has ls 6 [(0, .ref d.1), (2, .int v2), (3, .int v3), (4, .int x.1), (5, .int x.2.1)] → W p l e R s m args below meth c H locs 0 0 Q (F0 m 93 ls [])) x := by
  refine m_lpW (G := fun (x : (Int32 × Int32 × MS)) => ∀ (H : Heap) (locs : List Loc) (ls : Array Slot), m_I D A d s.heap x.2.2 H locs → lv_has ls 6 [(0, .ref d.1), (2, .int v2), (3, .int v3), (4, .int x.1), (5, .int x.2.1)] → W p l e R s m args below meth c H locs 0 0 Q (F0 m 93 ls [])) (E := fun (z : (Int32 × MS)) => ∀ (H : Heap) (locs : List Loc) (ls : Array Slot), m_I D A d s.heap z.2 H locs → lv_has ls 6 [(4, .int z.1)] → W p l e R s m args below meth c H locs 0 0 Q (F0 m 117 ls [])) ?_ n x z hz hE
  rintro ⟨v4, v5, st⟩ r h hr H locs ls I hl
  replace h : f_chain_L93 n v2 v3 v4 v5 st = some r := h
  unfold f_chain_L93 at h
  refine lv_iload X.1 X.2.1 dX3_chain_93 (lv_at hl 4 rfl) ?_
  refine lv_iload_n X.1 X.2.1 dX3_chain_95 rfl (lv_at hl 1 rfl) ?_
  refine lv_icmp_gt (tgt := 117) X.1 X.2.1 dX3_chain_96 (by decide) (fun c26 => ?_) (fun c26 => ?_)
  · replace h := m_ifT c26 h
    cases h
    exact hr H locs ls I (lv_sub hl [3] rfl)
  · replace h := m_ifF c26 h
    refine lv_aload_n X.1 X.2.1 dX3_chain_99 rfl (lv_at hl 0 rfl) ?_
    refine lv_iload X.1 X.2.1 dX3_chain_100 (lv_at hl 3 rfl) ?_
    refine lv_iload_n X.1 X.2.1 dX3_chain_102 rfl (lv_at hl 2 rfl) ?_
    refine lv_iload X.1 X.2.1 dX3_chain_103 (lv_at hl 4 rfl) ?_
    refine lv_isub X.1 X.2.1 dX3_chain_105 ?_
    obtain ⟨r28, e27, h⟩ := m_bS h
    refine m_callI X hl.1 I hA (As := [.int v4, .int (v3 - v5)]) (rest := []) (c_nextOf l n D d st v4 (v3 - v5) _ e27) 2 q1871 q1873 qs81 q107 q1874 (hd_nextOf) rfl rfl ⟨Nat.le_trans (Nat.le_of_ble_eq_true rfl) hR.1, Nat.le_trans (Nat.le_of_ble_eq_true rfl) hR.2⟩ ⟨rfl, rfl⟩ ⟨Nat.zero_le _, Nat.zero_le _⟩ (Nat.le_of_ble_eq_true rfl) dX3_chain_106 (fun H locs I => ?_)
    refine lv_istore (lv' := [(4, .int r28), (0, .ref d.1), (2, .int v2), (3, .int v3), (5, .int v5)]) X.1 X.2.1 dX3_chain_109 hl (by decide) rfl (fun ls hl => ?_)
    refine lv_iinc (v := v5 + 1) (lv' := [(5, .int (v5 + 1)), (4, .int r28), (0, .ref d.1), (2, .int v2), (3, .int v3)]) X.1 X.2.1 dX3_chain_111 hl (k := 4) rfl rfl (by decide) rfl (fun ls hl => ?_)
    refine lv_goto (tgt := 93) X.1 X.2.1 dX3_chain_114 (by decide) ?_
    cases h
    exact hr H locs ls I (lv_sub hl [2, 3, 4, 1, 0] rfl)
theorem w_chain (X : m_X D A d p s m c cX3_chain 6 args) (hA : ∀ q, s.heap.size ≤ q → A q) (hR : 12 ≤ R.frames ∧ 293 ≤ R.locals) (n : Nat) (st : MS) (p0 : Int32) (p1 : Int32) (r : (Int32 × MS)) (h : f_chain n st p0 p1 = some r) (hret : ∀ (H : Heap) (locs : List Loc) (ls : Array Slot) (pc : Nat), decode cX3_chain pc = .ok (.ireturn, 1) → m_I D A d s.heap r.2 H locs → W p l e R s m args below meth c H locs 0 0 Q (F0 m pc ls [.int r.1])) : ∀ (H : Heap) (locs : List Loc) (ls : Array Slot), m_I D A d s.heap st H locs → lv_has ls 6 [(0, .ref d.1), (1, .int p0), (2, .int p1)] → W p l e R s m args below meth c H locs 0 0 Q (F0 m 0 ls []) := by
  obtain ⟨r0, s0⟩ := r
  have k69 : ∀ (st : MS) (t0 : Int32) (H : Heap) (locs : List Loc) (ls : Array Slot), f_chain_J69 n st t0 = some (r0, s0) → m_I D A d s.heap st H locs → lv_has ls 6 [] → W p l e R s m args below meth c H locs 0 0 Q (F0 m 69 ls [.int t0]) := by
    intro st t0 H locs ls h I hl
    unfold f_chain_J69 at h
    obtain ⟨rfl, rfl⟩ := m_e2 h
    exact hret H locs ls 69 dX3_chain_69 I
  have k59 : ∀ (st : MS) (v2 : Int32) (v3 : Int32) (H : Heap) (locs : List Loc) (ls : Array Slot), f_chain_J59 n st v2 v3 = some (r0, s0) → m_I D A d s.heap st H locs → lv_has ls 6 [(2, .int v2), (3, .int v3)] → W p l e R s m args below meth c H locs 0 0 Q (F0 m 59 ls []) := by
    intro st v2 v3 H locs ls h I hl
    unfold f_chain_J59 at h
    refine lv_iload_n X.1 X.2.1 dX3_chain_59 rfl (lv_at hl 0 rfl) ?_
    refine lv_iconst (v := (-1)) X.1 X.2.1 dX3_chain_60 (by decide) ?_
    refine lv_icmp_ne (tgt := 68) X.1 X.2.1 dX3_chain_61 (by decide) (fun c19 => ?_) (fun c19 => ?_)
    · replace h := m_ifF c19 h
      refine lv_iconst (v := (-1)) X.1 X.2.1 dX3_chain_68 (by decide) ?_
      exact k69 st ((-1)) H locs ls h I (lv_sub hl [] rfl)
    · replace h := m_ifT c19 h
      refine lv_iload_n X.1 X.2.1 dX3_chain_64 rfl (lv_at hl 1 rfl) ?_
      refine lv_goto (tgt := 69) X.1 X.2.1 dX3_chain_65 (by decide) ?_
      exact k69 st v3 H locs ls h I (lv_sub hl [] rfl)
  intro H locs ls I hl
  unfold f_chain at h
  refine lv_aload_n X.1 X.2.1 dX3_chain_0 rfl (lv_at hl 0 rfl) ?_
  refine lv_iconst (v := 0) X.1 X.2.1 dX3_chain_1 (by decide) ?_
  refine m_put X I 8 (by decide) rfl rfl rfl q1525 rfl (m_set8 d _ _) dX3_chain_2 (fun H locs I => ?_)
  refine lv_aload_n X.1 X.2.1 dX3_chain_5 rfl (lv_at hl 0 rfl) ?_
  refine lv_iload_n X.1 X.2.1 dX3_chain_6 rfl (lv_at hl 1 rfl) ?_
  obtain ⟨r2, e1, h⟩ := m_bS h
  refine m_callI X hl.1 I hA (As := [.int p0]) (rest := []) (c_isKind l n D d (m_sg st 8 0) p0 _ e1) 1 q1724 q1726 qs63 q107 q1727 (hd_isKind) rfl rfl ⟨Nat.le_trans (Nat.le_of_ble_eq_true rfl) hR.1, Nat.le_trans (Nat.le_of_ble_eq_true rfl) hR.2⟩ ⟨rfl, rfl⟩ ⟨Nat.zero_le _, Nat.zero_le _⟩ (Nat.le_of_ble_eq_true rfl) dX3_chain_7 (fun H locs I => ?_)
  refine lv_if_ne (tgt := 16) X.1 X.2.1 dX3_chain_10 (by decide) (fun c3 => ?_) (fun c3 => ?_)
  · replace h := m_ifF c3 h
    refine lv_iload_n X.1 X.2.1 dX3_chain_16 rfl (lv_at hl 2 rfl) ?_
    refine lv_iconst (v := (-1)) X.1 X.2.1 dX3_chain_17 (by decide) ?_
    refine lv_icmp_ge (tgt := 24) X.1 X.2.1 dX3_chain_18 (by decide) (fun c4 => ?_) (fun c4 => ?_)
    · replace h := m_ifT c4 h
      refine lv_aload_n X.1 X.2.1 dX3_chain_24 rfl (lv_at hl 0 rfl) ?_
      refine lv_iload_n X.1 X.2.1 dX3_chain_25 rfl (lv_at hl 1 rfl) ?_
      refine lv_iconst (v := (-1)) X.1 X.2.1 dX3_chain_26 (by decide) ?_
      obtain ⟨s6, e5, h⟩ := m_bS h
      refine m_callV X hl.1 I hA (As := [.int p0, .int ((-1))]) (rest := []) (c_laysFlows l n D d (m_sg st 8 0) p0 ((-1)) _ e5) 2 q1772 q1774 qs67 q107 q1775 (hd_laysFlows) rfl rfl ⟨Nat.le_trans (Nat.le_of_ble_eq_true rfl) hR.1, Nat.le_trans (Nat.le_of_ble_eq_true rfl) hR.2⟩ ⟨rfl, rfl⟩ ⟨Nat.zero_le _, Nat.zero_le _⟩ (Nat.le_of_ble_eq_true rfl) dX3_chain_27 (fun H locs I => ?_)
      obtain ⟨s14, e13, h⟩ := m_bS h
      refine wf_chain_L30 X hA hR n p1 _ _ e13 (fun H locs ls I hl => ?_) H locs ls I (lv_sub hl [0, 2] rfl)
      refine lv_aload_n X.1 X.2.1 dX3_chain_44 rfl (lv_at hl 0 rfl) ?_
      obtain ⟨r16, s17, e15, h⟩ := m_b2S h
      refine m_callI X hl.1 I hA (As := []) (rest := []) (c_laysRows l n D d s14  _ _ e15) 0 q1867 q1869 qs80 q107 q1870 (hd_laysRows) rfl rfl ⟨Nat.le_trans (Nat.le_of_ble_eq_true rfl) hR.1, Nat.le_trans (Nat.le_of_ble_eq_true rfl) hR.2⟩ ⟨rfl, rfl⟩ ⟨Nat.zero_le _, Nat.zero_le _⟩ (Nat.le_of_ble_eq_true rfl) dX3_chain_45 (fun H locs I => ?_)
      refine lv_istore_n (lv' := [(3, .int r16), (0, .ref d.1), (2, .int p1)]) X.1 X.2.1 dX3_chain_48 rfl hl (by decide) rfl (fun ls hl => ?_)
      refine lv_iload_n X.1 X.2.1 dX3_chain_49 rfl (lv_at hl 2 rfl) ?_
      refine lv_iconst (v := (-1)) X.1 X.2.1 dX3_chain_50 (by decide) ?_
      refine lv_icmp_eq (tgt := 59) X.1 X.2.1 dX3_chain_51 (by decide) (fun c18 => ?_) (fun c18 => ?_)
      · replace h := m_ifT c18 h
        exact k59 s17 p1 r16 H locs ls h I (lv_sub hl [2, 0] rfl)
      · replace h := m_ifF c18 h
        refine lv_iload_n X.1 X.2.1 dX3_chain_54 rfl (lv_at hl 2 rfl) ?_
        refine lv_iload_n X.1 X.2.1 dX3_chain_55 rfl (lv_at hl 0 rfl) ?_
        refine lv_icmp_lt (tgt := 70) X.1 X.2.1 dX3_chain_56 (by decide) (fun c20 => ?_) (fun c20 => ?_)
        · replace h := m_ifT c20 h
          refine lv_iconst (v := 0) X.1 X.2.1 dX3_chain_70 (by decide) ?_
          refine lv_istore (lv' := [(4, .int 0), (3, .int r16), (0, .ref d.1), (2, .int p1)]) X.1 X.2.1 dX3_chain_71 hl (by decide) rfl (fun ls hl => ?_)
          obtain ⟨⟨z24, s25⟩, e23, h⟩ := m_bS h
          refine wf_chain_L73 X hA hR n p1 r16 _ _ e23 (fun H locs ls I hl => ?_) H locs ls I (lv_sub hl [2, 3, 1, 0] rfl)
          refine lv_iconst (v := 1) X.1 X.2.1 dX3_chain_90 (by decide) ?_
          refine lv_istore (lv' := [(5, .int 1), (0, .ref d.1), (2, .int p1), (3, .int r16), (4, .int z24)]) X.1 X.2.1 dX3_chain_91 hl (by decide) rfl (fun ls hl => ?_)
          obtain ⟨⟨z30, s31⟩, e29, h⟩ := m_bS h
          refine wf_chain_L93 X hA hR n p1 r16 _ _ e29 (fun H locs ls I hl => ?_) H locs ls I (lv_sub hl [1, 2, 3, 4, 0] rfl)
          refine lv_iload X.1 X.2.1 dX3_chain_117 (lv_at hl 0 rfl) ?_
          obtain ⟨rfl, rfl⟩ := m_e2 h
          exact hret H locs ls 119 dX3_chain_119 I
        · replace h := m_ifF c20 h
          exact k59 s17 p1 r16 H locs ls h I (lv_sub hl [2, 0] rfl)
    · replace h := m_ifF c4 h
      refine lv_bipush (v := (-3)) X.1 X.2.1 dX3_chain_21 (by decide) ?_
      obtain ⟨rfl, rfl⟩ := m_e2 h
      exact hret H locs ls 23 dX3_chain_23 I
  · replace h := m_ifT c3 h
    refine lv_bipush (v := (-2)) X.1 X.2.1 dX3_chain_13 (by decide) ?_
    obtain ⟨rfl, rfl⟩ := m_e2 h
    exact hret H locs ls 15 dX3_chain_15 I
end S_chain
theorem c_chain (l : Launch) (n : Nat) (D : va_G) (d : MD) (st : MS) (p0 : Int32) (p1 : Int32) (r : Int32) (st' : MS) (h : f_chain n st p0 p1 = some (r, st')) : m_Mi l yX3_chain cX3_chain 6 (some .int) ({ frames := 12, cells := 0, slots := 0, locals := 293 } : Room) D d st [.ref d.1, .int p0, .int p1] r st' :=
  m_startI (lvl := [(0, .ref d.1), (1, .int p0), (2, .int p1)]) (by decide) rfl (Nat.le_of_ble_eq_true rfl) rfl (fun p e s m args below meth c ls X hr hlk hl hA I => w_chain X hA ⟨Nat.le_refl _, Nat.le_refl _⟩ n st p0 p1 (r, st') h (fun H locs ls pc hd I => m_iret X I hr hlk hd) _ _ ls I hl)

/-! method takeRing(I)I -/
def f_takeRing_J179 (n : Nat) (st : MS) (v1 : Int32) (v2 : Int32) (v3 : Int32) (v4 : Int32) (v5 : Int32) : Option ((Int32 × Int32 × MS) ⊕ MS) :=
  some (.inl ((v4, v5 + (-1), st)))
def f_takeRing_J136 (n : Nat) (st : MS) (v1 : Int32) (v2 : Int32) (v3 : Int32) (v4 : Int32) (v5 : Int32) (t0 : Int32) : Option ((Int32 × Int32 × MS) ⊕ MS) :=
  m_g (m_in ((2 + (5 * v5)) + 2) 266) (m_g (m_in ((2 + (5 * v5)) + 2) 266) (m_b (f_tradeAt n (m_sa st 0 ((2 + (5 * v5)) + 2 : Int32).toNatClampNeg ((st.2.1 0 ((2 + (5 * v5)) + 2 : Int32).toNatClampNeg) - t0)) v5 2) (fun r36 => m_if ((r36 : Int32) = 0) (m_b (f_goes n (m_sa st 0 ((2 + (5 * v5)) + 2 : Int32).toNatClampNeg ((st.2.1 0 ((2 + (5 * v5)) + 2 : Int32).toNatClampNeg) - t0)) v5) (fun s39 => f_takeRing_J179 n s39 v1 v2 v3 (v4 - t0) v5)) (f_takeRing_J179 n (m_sa st 0 ((2 + (5 * v5)) + 2 : Int32).toNatClampNeg ((st.2.1 0 ((2 + (5 * v5)) + 2 : Int32).toNatClampNeg) - t0)) v1 v2 v3 (v4 - t0) v5))))
def f_takeRing_L64 (n : Nat) (v1 : Int32) (v2 : Int32) (v3 : Int32) (v4 : Int32) (v5 : Int32) (st : MS) : Option ((Int32 × Int32 × MS) ⊕ MS) :=
  m_if ((v5 : Int32) < 0) (some (.inr st)) (m_if ((v4 : Int32) ≤ 0) (some (.inr st)) (m_b (f_isFree n st v5 v1) (fun r19 => m_if ((r19 : Int32) = 0) (f_takeRing_J179 n st v1 v2 v3 v4 v5) (m_b (f_tradeAt n st v5 0) (fun r22 => m_b (f_tradeAt n st v5 1) (fun r24 => m_b (f_couple n r22 r24) (fun r26 => m_b (f_coupleOf n st v3) (fun r28 => m_if ((r26 : Int32) = (r28 : Int32)) (m_b (f_tradeAt n st v5 2) (fun r31 => m_if ((v4 : Int32) ≤ (r31 : Int32)) (f_takeRing_J136 n st v1 v2 v3 v4 v5 v4) (m_b (f_tradeAt n st v5 2) (fun r41 => f_takeRing_J136 n st v1 v2 v3 v4 v5 r41)))) (f_takeRing_J179 n st v1 v2 v3 v4 v5)))))))))
def f_takeRing_L64l (n : Nat) (v1 : Int32) (v2 : Int32) (v3 : Int32) (x : (Int32 × Int32 × MS)) : Option MS := m_lp (fun (x : (Int32 × Int32 × MS)) => f_takeRing_L64 n v1 v2 v3 x.1 x.2.1 x.2.2) n x
def f_takeRing_L43 (n : Nat) (v1 : Int32) (v2 : Int32) (v3 : Int32) (st : MS) : Option ((Int32 × MS) ⊕ MS) :=
  m_if ((st.1 19 : Int32) ≤ (v3 : Int32)) (some (.inr st)) (m_g (m_in 0 266) (m_b (f_takeRing_L64l n v1 v2 v3 ((v2, (st.2.1 0 (0 : Int32).toNatClampNeg) - 1, st))) (fun s43 => some (.inl ((v3 + 1, s43))))))
def f_takeRing_L43l (n : Nat) (v1 : Int32) (v2 : Int32) (x : (Int32 × MS)) : Option MS := m_lp (fun (x : (Int32 × MS)) => f_takeRing_L43 n v1 v2 x.1 x.2) n x
def f_takeRing (n : Nat) (st : MS) (p0 : Int32) : Option (Int32 × MS) :=
  m_b (f_isKind n (m_sg st 8 0) p0) (fun r2 => m_if ((r2 : Int32) = 0) (some ((-2), m_sg st 8 0)) (m_b (f_laysFlows n (m_sg st 8 0) p0 ((-1))) (fun s5 => m_b2 (f_laysRing n s5) (fun r7 s8 => m_if ((r7 : Int32) = 0) (some ((-5), s8)) (m_b (f_remembers n s8) (fun s11 => m_b (f_loadOf n s11) (fun r13 => m_b (f_takeRing_L43l n p0 r13 ((0, s11))) (fun s45 => some (r13, s45)))))))))
theorem hd_takeRing : yX3_takeRing.cls = RX3 ∧ yX3_takeRing.cls ≠ "java/lang/invoke/MethodHandle" ∧ yX3_takeRing.cls ≠ "java/lang/invoke/VarHandle" ∧ (parseMethodDescriptor yX3_takeRing.desc).map (fun d => d.parameters.length) = some 1 := by decide +kernel
section S_takeRing
variable {p : Program} {l : Launch} {e : Env} {R : Room} {s : State} {m : MethodId} {args : Array Value} {below : List Frame} {meth : Method} {c : Code} {Q : State → Prop} {D : va_G} {A : Nat → Prop} {d : MD}
theorem wf_takeRing_L64 (X : m_X D A d p s m c cX3_takeRing 7 args) (hA : ∀ q, s.heap.size ≤ q → A q) (hR : 12 ≤ R.frames ∧ 293 ≤ R.locals) (n : Nat) (v1 : Int32) (v2 : Int32) (v3 : Int32) (x : (Int32 × Int32 × MS)) (z : MS) (hz : f_takeRing_L64l n v1 v2 v3 x = some z) (hE : (fun (z : MS) => ∀ (H : Heap) (locs : List Loc) (ls : Array Slot), m_I D A d s.heap z H locs → lv_has ls 7 [(0, .ref d.1), (1, .int v1), (2, .int v2), (3, .int v3)] → W p l e R s m args below meth c H locs 0 0 Q (F0 m 185 ls [])) z) : (fun (x : (Int32 × Int32 × MS)) => ∀ (H : Heap) (locs : List Loc) (ls : Array Slot), m_I D A d s.heap x.2.2 H locs → lv_has ls 7 [(0, .ref d.1), (1, .int v1), (2, .int v2), (3, .int v3), (4, .int x.1), (5, .int x.2.1)] → W p l e R s m args below meth c H locs 0 0 Q (F0 m 64 ls [])) x := by
  refine m_lpW (G := fun (x : (Int32 × Int32 × MS)) => ∀ (H : Heap) (locs : List Loc) (ls : Array Slot), m_I D A d s.heap x.2.2 H locs → lv_has ls 7 [(0, .ref d.1), (1, .int v1), (2, .int v2), (3, .int v3), (4, .int x.1), (5, .int x.2.1)] → W p l e R s m args below meth c H locs 0 0 Q (F0 m 64 ls [])) (E := fun (z : MS) => ∀ (H : Heap) (locs : List Loc) (ls : Array Slot), m_I D A d s.heap z H locs → lv_has ls 7 [(0, .ref d.1), (1, .int v1), (2, .int v2), (3, .int v3)] → W p l e R s m args below meth c H locs 0 0 Q (F0 m 185 ls [])) ?_ n x z hz hE
  rintro ⟨v4, v5, st⟩ r h hr H locs ls I hl
  replace h : f_takeRing_L64 n v1 v2 v3 v4 v5 st = some r := h
  have k179 : ∀ (st : MS) (v4 : Int32) (v5 : Int32) (H : Heap) (locs : List Loc) (ls : Array Slot), f_takeRing_J179 n st v1 v2 v3 v4 v5 = some r → m_I D A d s.heap st H locs → lv_has ls 7 [(0, .ref d.1), (1, .int v1), (2, .int v2), (3, .int v3), (4, .int v4), (5, .int v5)] → W p l e R s m args below meth c H locs 0 0 Q (F0 m 179 ls []) := by
    intro st v4 v5 H locs ls h I hl
    unfold f_takeRing_J179 at h
    refine lv_iinc (v := v5 + (-1)) (lv' := [(5, .int (v5 + (-1))), (0, .ref d.1), (1, .int v1), (2, .int v2), (3, .int v3), (4, .int v4)]) X.1 X.2.1 dX3_takeRing_179 hl (k := 5) rfl rfl (by decide) rfl (fun ls hl => ?_)
    refine lv_goto (tgt := 64) X.1 X.2.1 dX3_takeRing_182 (by decide) ?_
    cases h
    exact hr H locs ls I (lv_sub hl [1, 2, 3, 4, 5, 0] rfl)
  have k136 : ∀ (st : MS) (v4 : Int32) (v5 : Int32) (t0 : Int32) (H : Heap) (locs : List Loc) (ls : Array Slot), f_takeRing_J136 n st v1 v2 v3 v4 v5 t0 = some r → m_I D A d s.heap st H locs → lv_has ls 7 [(0, .ref d.1), (1, .int v1), (2, .int v2), (3, .int v3), (4, .int v4), (5, .int v5)] → W p l e R s m args below meth c H locs 0 0 Q (F0 m 136 ls [.int t0]) := by
    intro st v4 v5 t0 H locs ls h I hl
    unfold f_takeRing_J136 at h
    refine lv_istore (lv' := [(6, .int t0), (0, .ref d.1), (1, .int v1), (2, .int v2), (3, .int v3), (4, .int v4), (5, .int v5)]) X.1 X.2.1 dX3_takeRing_136 hl (by decide) rfl (fun ls hl => ?_)
    refine lv_aload_n X.1 X.2.1 dX3_takeRing_138 rfl (lv_at hl 1 rfl) ?_
    refine m_get X I 0 (by decide) rfl rfl rfl q1517 (v := .ref (d.2.1 0)) rfl dX3_takeRing_139 ?_
    refine lv_iconst (v := 2) X.1 X.2.1 dX3_takeRing_142 (by decide) ?_
    refine lv_iconst (v := 5) X.1 X.2.1 dX3_takeRing_143 (by decide) ?_
    refine lv_iload X.1 X.2.1 dX3_takeRing_144 (lv_at hl 6 rfl) ?_
    refine lv_imul X.1 X.2.1 dX3_takeRing_146 ?_
    refine lv_iadd X.1 X.2.1 dX3_takeRing_147 ?_
    refine lv_iconst (v := 2) X.1 X.2.1 dX3_takeRing_148 (by decide) ?_
    refine lv_iadd X.1 X.2.1 dX3_takeRing_149 ?_
    refine lv_dup2_11 X.1 X.2.1 dX3_takeRing_150 rfl rfl ?_
    obtain ⟨g33, h⟩ := m_gS h
    refine m_iald X I 1 (n := 266) (f := st.2.1 0) rfl g33 dX3_takeRing_151 ?_
    refine lv_iload X.1 X.2.1 dX3_takeRing_152 (lv_at hl 0 rfl) ?_
    refine lv_isub X.1 X.2.1 dX3_takeRing_154 ?_
    obtain ⟨g34, h⟩ := m_gS h
    refine m_iast X I 1 (n := 266) (f := st.2.1 0) rfl (m_st0 d _ _ _) g34 dX3_takeRing_155 (fun H locs I => ?_)
    refine lv_iload X.1 X.2.1 dX3_takeRing_156 (lv_at hl 5 rfl) ?_
    refine lv_iload X.1 X.2.1 dX3_takeRing_158 (lv_at hl 0 rfl) ?_
    refine lv_isub X.1 X.2.1 dX3_takeRing_160 ?_
    refine lv_istore (lv' := [(4, .int (v4 - t0)), (6, .int t0), (0, .ref d.1), (1, .int v1), (2, .int v2), (3, .int v3), (5, .int v5)]) X.1 X.2.1 dX3_takeRing_161 hl (by decide) rfl (fun ls hl => ?_)
    refine lv_aload_n X.1 X.2.1 dX3_takeRing_163 rfl (lv_at hl 2 rfl) ?_
    refine lv_iload X.1 X.2.1 dX3_takeRing_164 (lv_at hl 6 rfl) ?_
    refine lv_iconst (v := 2) X.1 X.2.1 dX3_takeRing_166 (by decide) ?_
    obtain ⟨r36, e35, h⟩ := m_bS h
    refine m_callI X hl.1 I hA (As := [.int v5, .int 2]) (rest := []) (c_tradeAt l n D d (m_sa st 0 ((2 + (5 * v5)) + 2 : Int32).toNatClampNeg ((st.2.1 0 ((2 + (5 * v5)) + 2 : Int32).toNatClampNeg) - t0)) v5 2 _ e35) 2 q1683 q1685 qs55 q107 q1686 (hd_tradeAt) rfl rfl ⟨Nat.le_trans (Nat.le_of_ble_eq_true rfl) hR.1, Nat.le_trans (Nat.le_of_ble_eq_true rfl) hR.2⟩ ⟨rfl, rfl⟩ ⟨Nat.zero_le _, Nat.zero_le _⟩ (Nat.le_of_ble_eq_true rfl) dX3_takeRing_167 (fun H locs I => ?_)
    refine lv_if_ne (tgt := 179) X.1 X.2.1 dX3_takeRing_170 (by decide) (fun c37 => ?_) (fun c37 => ?_)
    · replace h := m_ifF c37 h
      exact k179 (m_sa st 0 ((2 + (5 * v5)) + 2 : Int32).toNatClampNeg ((st.2.1 0 ((2 + (5 * v5)) + 2 : Int32).toNatClampNeg) - t0)) (v4 - t0) v5 H locs ls h I (lv_sub hl [2, 3, 4, 5, 0, 6] rfl)
    · replace h := m_ifT c37 h
      refine lv_aload_n X.1 X.2.1 dX3_takeRing_173 rfl (lv_at hl 2 rfl) ?_
      refine lv_iload X.1 X.2.1 dX3_takeRing_174 (lv_at hl 6 rfl) ?_
      obtain ⟨s39, e38, h⟩ := m_bS h
      refine m_callV X hl.1 I hA (As := [.int v5]) (rest := []) (c_goes l n D d (m_sa st 0 ((2 + (5 * v5)) + 2 : Int32).toNatClampNeg ((st.2.1 0 ((2 + (5 * v5)) + 2 : Int32).toNatClampNeg) - t0)) v5 _ e38) 1 q1741 q1743 qs66 q107 q1744 (hd_goes) rfl rfl ⟨Nat.le_trans (Nat.le_of_ble_eq_true rfl) hR.1, Nat.le_trans (Nat.le_of_ble_eq_true rfl) hR.2⟩ ⟨rfl, rfl⟩ ⟨Nat.zero_le _, Nat.zero_le _⟩ (Nat.le_of_ble_eq_true rfl) dX3_takeRing_176 (fun H locs I => ?_)
      exact k179 s39 (v4 - t0) v5 H locs ls h I (lv_sub hl [2, 3, 4, 5, 0, 6] rfl)
  unfold f_takeRing_L64 at h
  refine lv_iload X.1 X.2.1 dX3_takeRing_64 (lv_at hl 5 rfl) ?_
  refine lv_if_lt (tgt := 185) X.1 X.2.1 dX3_takeRing_66 (by decide) (fun c16 => ?_) (fun c16 => ?_)
  · replace h := m_ifT c16 h
    cases h
    exact hr H locs ls I (lv_sub hl [0, 1, 2, 3] rfl)
  · replace h := m_ifF c16 h
    refine lv_iload X.1 X.2.1 dX3_takeRing_69 (lv_at hl 4 rfl) ?_
    refine lv_if_le (tgt := 185) X.1 X.2.1 dX3_takeRing_71 (by decide) (fun c17 => ?_) (fun c17 => ?_)
    · replace h := m_ifT c17 h
      cases h
      exact hr H locs ls I (lv_sub hl [0, 1, 2, 3] rfl)
    · replace h := m_ifF c17 h
      refine lv_aload_n X.1 X.2.1 dX3_takeRing_74 rfl (lv_at hl 0 rfl) ?_
      refine lv_iload X.1 X.2.1 dX3_takeRing_75 (lv_at hl 5 rfl) ?_
      refine lv_iload_n X.1 X.2.1 dX3_takeRing_77 rfl (lv_at hl 1 rfl) ?_
      obtain ⟨r19, e18, h⟩ := m_bS h
      refine m_callI X hl.1 I hA (As := [.int v5, .int v1]) (rest := []) (c_isFree l n D d st v5 v1 _ e18) 2 q1776 q1778 qs68 q107 q1779 (hd_isFree) rfl rfl ⟨Nat.le_trans (Nat.le_of_ble_eq_true rfl) hR.1, Nat.le_trans (Nat.le_of_ble_eq_true rfl) hR.2⟩ ⟨rfl, rfl⟩ ⟨Nat.zero_le _, Nat.zero_le _⟩ (Nat.le_of_ble_eq_true rfl) dX3_takeRing_78 (fun H locs I => ?_)
      refine lv_if_eq (tgt := 179) X.1 X.2.1 dX3_takeRing_81 (by decide) (fun c20 => ?_) (fun c20 => ?_)
      · replace h := m_ifT c20 h
        exact k179 st v4 v5 H locs ls h I (lv_sub hl [0, 1, 2, 3, 4, 5] rfl)
      · replace h := m_ifF c20 h
        refine lv_aload_n X.1 X.2.1 dX3_takeRing_84 rfl (lv_at hl 0 rfl) ?_
        refine lv_iload X.1 X.2.1 dX3_takeRing_85 (lv_at hl 5 rfl) ?_
        refine lv_iconst (v := 0) X.1 X.2.1 dX3_takeRing_87 (by decide) ?_
        obtain ⟨r22, e21, h⟩ := m_bS h
        refine m_callI X hl.1 I hA (As := [.int v5, .int 0]) (rest := []) (c_tradeAt l n D d st v5 0 _ e21) 2 q1683 q1685 qs55 q107 q1686 (hd_tradeAt) rfl rfl ⟨Nat.le_trans (Nat.le_of_ble_eq_true rfl) hR.1, Nat.le_trans (Nat.le_of_ble_eq_true rfl) hR.2⟩ ⟨rfl, rfl⟩ ⟨Nat.zero_le _, Nat.zero_le _⟩ (Nat.le_of_ble_eq_true rfl) dX3_takeRing_88 (fun H locs I => ?_)
        refine lv_aload_n X.1 X.2.1 dX3_takeRing_91 rfl (lv_at hl 0 rfl) ?_
        refine lv_iload X.1 X.2.1 dX3_takeRing_92 (lv_at hl 5 rfl) ?_
        refine lv_iconst (v := 1) X.1 X.2.1 dX3_takeRing_94 (by decide) ?_
        obtain ⟨r24, e23, h⟩ := m_bS h
        refine m_callI X hl.1 I hA (As := [.int v5, .int 1]) (rest := [.int r22]) (c_tradeAt l n D d st v5 1 _ e23) 2 q1683 q1685 qs55 q107 q1686 (hd_tradeAt) rfl rfl ⟨Nat.le_trans (Nat.le_of_ble_eq_true rfl) hR.1, Nat.le_trans (Nat.le_of_ble_eq_true rfl) hR.2⟩ ⟨rfl, rfl⟩ ⟨Nat.zero_le _, Nat.zero_le _⟩ (Nat.le_of_ble_eq_true rfl) dX3_takeRing_95 (fun H locs I => ?_)
        obtain ⟨r26, e25, h⟩ := m_bS h
        refine m_callS X hl.1 (As := [.int r22, .int r24]) (rest := []) (c_couple l n r22 r24 _ e25) 2 q1784 q1785 q107 q1786 (hd_couple).2 rfl rfl ⟨Nat.le_trans (Nat.le_of_ble_eq_true rfl) hR.1, Nat.le_trans (Nat.le_of_ble_eq_true rfl) hR.2⟩ ⟨rfl, rfl⟩ ⟨Nat.zero_le _, Nat.zero_le _⟩ (Nat.le_of_ble_eq_true rfl) dX3_takeRing_98 ?_
        refine lv_aload_n X.1 X.2.1 dX3_takeRing_101 rfl (lv_at hl 0 rfl) ?_
        refine lv_iload_n X.1 X.2.1 dX3_takeRing_102 rfl (lv_at hl 3 rfl) ?_
        obtain ⟨r28, e27, h⟩ := m_bS h
        refine m_callI X hl.1 I hA (As := [.int v3]) (rest := [.int r26]) (c_coupleOf l n D d st v3 _ e27) 1 q1846 q1848 qs78 q107 q1849 (hd_coupleOf) rfl rfl ⟨Nat.le_trans (Nat.le_of_ble_eq_true rfl) hR.1, Nat.le_trans (Nat.le_of_ble_eq_true rfl) hR.2⟩ ⟨rfl, rfl⟩ ⟨Nat.zero_le _, Nat.zero_le _⟩ (Nat.le_of_ble_eq_true rfl) dX3_takeRing_103 (fun H locs I => ?_)
        refine lv_icmp_eq (tgt := 112) X.1 X.2.1 dX3_takeRing_106 (by decide) (fun c29 => ?_) (fun c29 => ?_)
        · replace h := m_ifT c29 h
          refine lv_aload_n X.1 X.2.1 dX3_takeRing_112 rfl (lv_at hl 0 rfl) ?_
          refine lv_iload X.1 X.2.1 dX3_takeRing_113 (lv_at hl 5 rfl) ?_
          refine lv_iconst (v := 2) X.1 X.2.1 dX3_takeRing_115 (by decide) ?_
          obtain ⟨r31, e30, h⟩ := m_bS h
          refine m_callI X hl.1 I hA (As := [.int v5, .int 2]) (rest := []) (c_tradeAt l n D d st v5 2 _ e30) 2 q1683 q1685 qs55 q107 q1686 (hd_tradeAt) rfl rfl ⟨Nat.le_trans (Nat.le_of_ble_eq_true rfl) hR.1, Nat.le_trans (Nat.le_of_ble_eq_true rfl) hR.2⟩ ⟨rfl, rfl⟩ ⟨Nat.zero_le _, Nat.zero_le _⟩ (Nat.le_of_ble_eq_true rfl) dX3_takeRing_116 (fun H locs I => ?_)
          refine lv_iload X.1 X.2.1 dX3_takeRing_119 (lv_at hl 4 rfl) ?_
          refine lv_icmp_ge (tgt := 134) X.1 X.2.1 dX3_takeRing_121 (by decide) (fun c32 => ?_) (fun c32 => ?_)
          · replace h := m_ifT c32 h
            refine lv_iload X.1 X.2.1 dX3_takeRing_134 (lv_at hl 4 rfl) ?_
            exact k136 st v4 v5 v4 H locs ls h I (lv_sub hl [0, 1, 2, 3, 4, 5] rfl)
          · replace h := m_ifF c32 h
            refine lv_aload_n X.1 X.2.1 dX3_takeRing_124 rfl (lv_at hl 0 rfl) ?_
            refine lv_iload X.1 X.2.1 dX3_takeRing_125 (lv_at hl 5 rfl) ?_
            refine lv_iconst (v := 2) X.1 X.2.1 dX3_takeRing_127 (by decide) ?_
            obtain ⟨r41, e40, h⟩ := m_bS h
            refine m_callI X hl.1 I hA (As := [.int v5, .int 2]) (rest := []) (c_tradeAt l n D d st v5 2 _ e40) 2 q1683 q1685 qs55 q107 q1686 (hd_tradeAt) rfl rfl ⟨Nat.le_trans (Nat.le_of_ble_eq_true rfl) hR.1, Nat.le_trans (Nat.le_of_ble_eq_true rfl) hR.2⟩ ⟨rfl, rfl⟩ ⟨Nat.zero_le _, Nat.zero_le _⟩ (Nat.le_of_ble_eq_true rfl) dX3_takeRing_128 (fun H locs I => ?_)
            refine lv_goto (tgt := 136) X.1 X.2.1 dX3_takeRing_131 (by decide) ?_
            exact k136 st v4 v5 r41 H locs ls h I (lv_sub hl [0, 1, 2, 3, 4, 5] rfl)
        · replace h := m_ifF c29 h
          refine lv_goto (tgt := 179) X.1 X.2.1 dX3_takeRing_109 (by decide) ?_
          exact k179 st v4 v5 H locs ls h I (lv_sub hl [0, 1, 2, 3, 4, 5] rfl)
theorem wf_takeRing_L43 (X : m_X D A d p s m c cX3_takeRing 7 args) (hA : ∀ q, s.heap.size ≤ q → A q) (hR : 12 ≤ R.frames ∧ 293 ≤ R.locals) (n : Nat) (v1 : Int32) (v2 : Int32) (x : (Int32 × MS)) (z : MS) (hz : f_takeRing_L43l n v1 v2 x = some z) (hE : (fun (z : MS) => ∀ (H : Heap) (locs : List Loc) (ls : Array Slot), m_I D A d s.heap z H locs → lv_has ls 7 [(2, .int v2)] → W p l e R s m args below meth c H locs 0 0 Q (F0 m 191 ls [])) z) : (fun (x : (Int32 × MS)) => ∀ (H : Heap) (locs : List Loc) (ls : Array Slot), m_I D A d s.heap x.2 H locs → lv_has ls 7 [(0, .ref d.1), (1, .int v1), (2, .int v2), (3, .int x.1)] → W p l e R s m args below meth c H locs 0 0 Q (F0 m 43 ls [])) x := by
  refine m_lpW (G := fun (x : (Int32 × MS)) => ∀ (H : Heap) (locs : List Loc) (ls : Array Slot), m_I D A d s.heap x.2 H locs → lv_has ls 7 [(0, .ref d.1), (1, .int v1), (2, .int v2), (3, .int x.1)] → W p l e R s m args below meth c H locs 0 0 Q (F0 m 43 ls [])) (E := fun (z : MS) => ∀ (H : Heap) (locs : List Loc) (ls : Array Slot), m_I D A d s.heap z H locs → lv_has ls 7 [(2, .int v2)] → W p l e R s m args below meth c H locs 0 0 Q (F0 m 191 ls [])) ?_ n x z hz hE
  rintro ⟨v3, st⟩ r h hr H locs ls I hl
  replace h : f_takeRing_L43 n v1 v2 v3 st = some r := h
  unfold f_takeRing_L43 at h
  refine lv_iload_n X.1 X.2.1 dX3_takeRing_43 rfl (lv_at hl 3 rfl) ?_
  refine lv_aload_n X.1 X.2.1 dX3_takeRing_44 rfl (lv_at hl 0 rfl) ?_
  refine m_get X I 19 (by decide) rfl rfl rfl q1536 (v := .int (st.1 19)) rfl dX3_takeRing_45 ?_
  refine lv_icmp_ge (tgt := 191) X.1 X.2.1 dX3_takeRing_48 (by decide) (fun c14 => ?_) (fun c14 => ?_)
  · replace h := m_ifT c14 h
    cases h
    exact hr H locs ls I (lv_sub hl [2] rfl)
  · replace h := m_ifF c14 h
    refine lv_iload_n X.1 X.2.1 dX3_takeRing_51 rfl (lv_at hl 2 rfl) ?_
    refine lv_istore (lv' := [(4, .int v2), (0, .ref d.1), (1, .int v1), (2, .int v2), (3, .int v3)]) X.1 X.2.1 dX3_takeRing_52 hl (by decide) rfl (fun ls hl => ?_)
    refine lv_aload_n X.1 X.2.1 dX3_takeRing_54 rfl (lv_at hl 1 rfl) ?_
    refine m_get X I 0 (by decide) rfl rfl rfl q1517 (v := .ref (d.2.1 0)) rfl dX3_takeRing_55 ?_
    refine lv_iconst (v := 0) X.1 X.2.1 dX3_takeRing_58 (by decide) ?_
    obtain ⟨g15, h⟩ := m_gS h
    refine m_iald X I 1 (n := 266) (f := st.2.1 0) rfl g15 dX3_takeRing_59 ?_
    refine lv_iconst (v := 1) X.1 X.2.1 dX3_takeRing_60 (by decide) ?_
    refine lv_isub X.1 X.2.1 dX3_takeRing_61 ?_
    refine lv_istore (lv' := [(5, .int ((st.2.1 0 (0 : Int32).toNatClampNeg) - 1)), (4, .int v2), (0, .ref d.1), (1, .int v1), (2, .int v2), (3, .int v3)]) X.1 X.2.1 dX3_takeRing_62 hl (by decide) rfl (fun ls hl => ?_)
    obtain ⟨s43, e42, h⟩ := m_bS h
    refine wf_takeRing_L64 X hA hR n v1 v2 v3 _ _ e42 (fun H locs ls I hl => ?_) H locs ls I (lv_sub hl [2, 3, 4, 5, 1, 0] rfl)
    refine lv_iinc (v := v3 + 1) (lv' := [(3, .int (v3 + 1)), (0, .ref d.1), (1, .int v1), (2, .int v2)]) X.1 X.2.1 dX3_takeRing_185 hl (k := 3) rfl rfl (by decide) rfl (fun ls hl => ?_)
    refine lv_goto (tgt := 43) X.1 X.2.1 dX3_takeRing_188 (by decide) ?_
    cases h
    exact hr H locs ls I (lv_sub hl [1, 2, 3, 0] rfl)
theorem w_takeRing (X : m_X D A d p s m c cX3_takeRing 7 args) (hA : ∀ q, s.heap.size ≤ q → A q) (hR : 12 ≤ R.frames ∧ 293 ≤ R.locals) (n : Nat) (st : MS) (p0 : Int32) (r : (Int32 × MS)) (h : f_takeRing n st p0 = some r) (hret : ∀ (H : Heap) (locs : List Loc) (ls : Array Slot) (pc : Nat), decode cX3_takeRing pc = .ok (.ireturn, 1) → m_I D A d s.heap r.2 H locs → W p l e R s m args below meth c H locs 0 0 Q (F0 m pc ls [.int r.1])) : ∀ (H : Heap) (locs : List Loc) (ls : Array Slot), m_I D A d s.heap st H locs → lv_has ls 7 [(0, .ref d.1), (1, .int p0)] → W p l e R s m args below meth c H locs 0 0 Q (F0 m 0 ls []) := by
  obtain ⟨r0, s0⟩ := r
  intro H locs ls I hl
  unfold f_takeRing at h
  refine lv_aload_n X.1 X.2.1 dX3_takeRing_0 rfl (lv_at hl 0 rfl) ?_
  refine lv_iconst (v := 0) X.1 X.2.1 dX3_takeRing_1 (by decide) ?_
  refine m_put X I 8 (by decide) rfl rfl rfl q1525 rfl (m_set8 d _ _) dX3_takeRing_2 (fun H locs I => ?_)
  refine lv_aload_n X.1 X.2.1 dX3_takeRing_5 rfl (lv_at hl 0 rfl) ?_
  refine lv_iload_n X.1 X.2.1 dX3_takeRing_6 rfl (lv_at hl 1 rfl) ?_
  obtain ⟨r2, e1, h⟩ := m_bS h
  refine m_callI X hl.1 I hA (As := [.int p0]) (rest := []) (c_isKind l n D d (m_sg st 8 0) p0 _ e1) 1 q1724 q1726 qs63 q107 q1727 (hd_isKind) rfl rfl ⟨Nat.le_trans (Nat.le_of_ble_eq_true rfl) hR.1, Nat.le_trans (Nat.le_of_ble_eq_true rfl) hR.2⟩ ⟨rfl, rfl⟩ ⟨Nat.zero_le _, Nat.zero_le _⟩ (Nat.le_of_ble_eq_true rfl) dX3_takeRing_7 (fun H locs I => ?_)
  refine lv_if_ne (tgt := 16) X.1 X.2.1 dX3_takeRing_10 (by decide) (fun c3 => ?_) (fun c3 => ?_)
  · replace h := m_ifF c3 h
    refine lv_aload_n X.1 X.2.1 dX3_takeRing_16 rfl (lv_at hl 0 rfl) ?_
    refine lv_iload_n X.1 X.2.1 dX3_takeRing_17 rfl (lv_at hl 1 rfl) ?_
    refine lv_iconst (v := (-1)) X.1 X.2.1 dX3_takeRing_18 (by decide) ?_
    obtain ⟨s5, e4, h⟩ := m_bS h
    refine m_callV X hl.1 I hA (As := [.int p0, .int ((-1))]) (rest := []) (c_laysFlows l n D d (m_sg st 8 0) p0 ((-1)) _ e4) 2 q1772 q1774 qs67 q107 q1775 (hd_laysFlows) rfl rfl ⟨Nat.le_trans (Nat.le_of_ble_eq_true rfl) hR.1, Nat.le_trans (Nat.le_of_ble_eq_true rfl) hR.2⟩ ⟨rfl, rfl⟩ ⟨Nat.zero_le _, Nat.zero_le _⟩ (Nat.le_of_ble_eq_true rfl) dX3_takeRing_19 (fun H locs I => ?_)
    refine lv_aload_n X.1 X.2.1 dX3_takeRing_22 rfl (lv_at hl 0 rfl) ?_
    obtain ⟨r7, s8, e6, h⟩ := m_b2S h
    refine m_callI X hl.1 I hA (As := []) (rest := []) (c_laysRing l n D d s5  _ _ e6) 0 q1830 q1832 qs75 q107 q1833 (hd_laysRing) rfl rfl ⟨Nat.le_trans (Nat.le_of_ble_eq_true rfl) hR.1, Nat.le_trans (Nat.le_of_ble_eq_true rfl) hR.2⟩ ⟨rfl, rfl⟩ ⟨Nat.zero_le _, Nat.zero_le _⟩ (Nat.le_of_ble_eq_true rfl) dX3_takeRing_23 (fun H locs I => ?_)
    refine lv_if_ne (tgt := 32) X.1 X.2.1 dX3_takeRing_26 (by decide) (fun c9 => ?_) (fun c9 => ?_)
    · replace h := m_ifF c9 h
      refine lv_aload_n X.1 X.2.1 dX3_takeRing_32 rfl (lv_at hl 0 rfl) ?_
      obtain ⟨s11, e10, h⟩ := m_bS h
      refine m_callV X hl.1 I hA (As := []) (rest := []) (c_remembers l n D d s8  _ e10) 0 q1729 q1731 qs64 q107 q1732 (hd_remembers) rfl rfl ⟨Nat.le_trans (Nat.le_of_ble_eq_true rfl) hR.1, Nat.le_trans (Nat.le_of_ble_eq_true rfl) hR.2⟩ ⟨rfl, rfl⟩ ⟨Nat.zero_le _, Nat.zero_le _⟩ (Nat.le_of_ble_eq_true rfl) dX3_takeRing_33 (fun H locs I => ?_)
      refine lv_aload_n X.1 X.2.1 dX3_takeRing_36 rfl (lv_at hl 0 rfl) ?_
      obtain ⟨r13, e12, h⟩ := m_bS h
      refine m_callI X hl.1 I hA (As := []) (rest := []) (c_loadOf l n D d s11  _ e12) 0 q1842 q1844 qs77 q107 q1845 (hd_loadOf) rfl rfl ⟨Nat.le_trans (Nat.le_of_ble_eq_true rfl) hR.1, Nat.le_trans (Nat.le_of_ble_eq_true rfl) hR.2⟩ ⟨rfl, rfl⟩ ⟨Nat.zero_le _, Nat.zero_le _⟩ (Nat.le_of_ble_eq_true rfl) dX3_takeRing_37 (fun H locs I => ?_)
      refine lv_istore_n (lv' := [(2, .int r13), (0, .ref d.1), (1, .int p0)]) X.1 X.2.1 dX3_takeRing_40 rfl hl (by decide) rfl (fun ls hl => ?_)
      refine lv_iconst (v := 0) X.1 X.2.1 dX3_takeRing_41 (by decide) ?_
      refine lv_istore_n (lv' := [(3, .int 0), (2, .int r13), (0, .ref d.1), (1, .int p0)]) X.1 X.2.1 dX3_takeRing_42 rfl hl (by decide) rfl (fun ls hl => ?_)
      obtain ⟨s45, e44, h⟩ := m_bS h
      refine wf_takeRing_L43 X hA hR n p0 r13 _ _ e44 (fun H locs ls I hl => ?_) H locs ls I (lv_sub hl [2, 3, 1, 0] rfl)
      refine lv_iload_n X.1 X.2.1 dX3_takeRing_191 rfl (lv_at hl 0 rfl) ?_
      obtain ⟨rfl, rfl⟩ := m_e2 h
      exact hret H locs ls 192 dX3_takeRing_192 I
    · replace h := m_ifT c9 h
      refine lv_bipush (v := (-5)) X.1 X.2.1 dX3_takeRing_29 (by decide) ?_
      obtain ⟨rfl, rfl⟩ := m_e2 h
      exact hret H locs ls 31 dX3_takeRing_31 I
  · replace h := m_ifT c3 h
    refine lv_bipush (v := (-2)) X.1 X.2.1 dX3_takeRing_13 (by decide) ?_
    obtain ⟨rfl, rfl⟩ := m_e2 h
    exact hret H locs ls 15 dX3_takeRing_15 I
end S_takeRing
theorem c_takeRing (l : Launch) (n : Nat) (D : va_G) (d : MD) (st : MS) (p0 : Int32) (r : Int32) (st' : MS) (h : f_takeRing n st p0 = some (r, st')) : m_Mi l yX3_takeRing cX3_takeRing 7 (some .int) ({ frames := 12, cells := 0, slots := 0, locals := 293 } : Room) D d st [.ref d.1, .int p0] r st' :=
  m_startI (lvl := [(0, .ref d.1), (1, .int p0)]) (by decide) rfl (Nat.le_of_ble_eq_true rfl) rfl (fun p e s m args below meth c ls X hr hlk hl hA I => w_takeRing X hA ⟨Nat.le_refl _, Nat.le_refl _⟩ n st p0 (r, st') h (fun H locs ls pc hd I => m_iret X I hr hlk hd) _ _ ls I hl)

/-! method laysBounds(II)V -/
def f_laysBounds_J110 (n : Nat) (st : MS) (v3 : Int32) (v4 : Int32) (t0 : Int32) (t1 : Int32) : Option ((Int32 × MS) ⊕ MS) :=
  m_g (m_in t1 64) (m_b (f_couple n v3 v4) (fun r14 => m_g (m_in r14 64) (some (.inl ((v4 + 1, m_sa (m_sa st 21 (t1 : Int32).toNatClampNeg t0) 26 (r14 : Int32).toNatClampNeg (vp_nar .boolean 0)))))))
def f_laysBounds_J82 (n : Nat) (st : MS) (v3 : Int32) (v4 : Int32) (t0 : Int32) : Option ((Int32 × MS) ⊕ MS) :=
  m_b (f_couple n v3 v4) (fun r10 => m_if ((t0 : Int32) = 0) (f_laysBounds_J110 n st v3 v4 0 r10) (m_b (f_boundOf n st v3 v4) (fun r17 => f_laysBounds_J110 n st v3 v4 r17 r10)))
def f_laysBounds_J81 (n : Nat) (st : MS) (v3 : Int32) (v4 : Int32) : Option ((Int32 × MS) ⊕ MS) :=
  f_laysBounds_J82 n st v3 v4 0
def f_laysBounds_L47 (n : Nat) (v3 : Int32) (v4 : Int32) (st : MS) : Option ((Int32 × MS) ⊕ MS) :=
  m_if ((8 : Int32) ≤ (v4 : Int32)) (some (.inr st)) (m_if ((v3 : Int32) = (v4 : Int32)) (f_laysBounds_J81 n st v3 v4) (m_if ((st.1 5 : Int32) ≤ (v3 : Int32)) (f_laysBounds_J81 n st v3 v4) (m_if ((st.1 5 : Int32) ≤ (v4 : Int32)) (f_laysBounds_J81 n st v3 v4) (f_laysBounds_J82 n st v3 v4 1))))
def f_laysBounds_L47l (n : Nat) (v3 : Int32) (x : (Int32 × MS)) : Option MS := m_lp (fun (x : (Int32 × MS)) => f_laysBounds_L47 n v3 x.1 x.2) n x
def f_laysBounds_J43 (n : Nat) (st : MS) (v3 : Int32) (t0 : Int32) (t1 : Int32) : Option ((Int32 × MS) ⊕ MS) :=
  m_g (m_in t1 8) (m_b (f_laysBounds_L47l n v3 ((0, m_sa st 23 (t1 : Int32).toNatClampNeg t0))) (fun s21 => some (.inl ((v3 + 1, s21)))))
def f_laysBounds_L8 (n : Nat) (v3 : Int32) (st : MS) : Option ((Int32 × MS) ⊕ MS) :=
  m_if ((8 : Int32) ≤ (v3 : Int32)) (some (.inr st)) (m_g (m_in 1 266) (m_if ((st.2.1 0 (1 : Int32).toNatClampNeg : Int32) = (3 : Int32)) (m_b (f_throughBy n st 17 v3) (fun r23 => f_laysBounds_J43 n st v3 r23 v3)) (f_laysBounds_J43 n st v3 2000000000 v3)))
def f_laysBounds_L8l (n : Nat) (x : (Int32 × MS)) : Option MS := m_lp (fun (x : (Int32 × MS)) => f_laysBounds_L8 n x.1 x.2) n x
def f_laysBounds (n : Nat) (st : MS) (p0 : Int32) (p1 : Int32) : Option (MS) :=
  m_b (f_laysFlows n st p0 p1) (fun s2 => m_b (f_laysBounds_L8l n ((0, s2))) (fun s25 => some s25))
theorem hd_laysBounds : yX3_laysBounds.cls = RX3 ∧ yX3_laysBounds.cls ≠ "java/lang/invoke/MethodHandle" ∧ yX3_laysBounds.cls ≠ "java/lang/invoke/VarHandle" ∧ (parseMethodDescriptor yX3_laysBounds.desc).map (fun d => d.parameters.length) = some 2 := by decide +kernel
section S_laysBounds
variable {p : Program} {l : Launch} {e : Env} {R : Room} {s : State} {m : MethodId} {args : Array Value} {below : List Frame} {meth : Method} {c : Code} {Q : State → Prop} {D : va_G} {A : Nat → Prop} {d : MD}
theorem wf_laysBounds_L47 (X : m_X D A d p s m c cX3_laysBounds 6 args) (hA : ∀ q, s.heap.size ≤ q → A q) (hR : 3 ≤ R.frames ∧ 67 ≤ R.locals) (n : Nat) (v3 : Int32) (x : (Int32 × MS)) (z : MS) (hz : f_laysBounds_L47l n v3 x = some z) (hE : (fun (z : MS) => ∀ (H : Heap) (locs : List Loc) (ls : Array Slot), m_I D A d s.heap z H locs → lv_has ls 6 [(0, .ref d.1), (3, .int v3)] → W p l e R s m args below meth c H locs 0 0 Q (F0 m 129 ls [])) z) : (fun (x : (Int32 × MS)) => ∀ (H : Heap) (locs : List Loc) (ls : Array Slot), m_I D A d s.heap x.2 H locs → lv_has ls 6 [(0, .ref d.1), (3, .int v3), (4, .int x.1)] → W p l e R s m args below meth c H locs 0 0 Q (F0 m 47 ls [])) x := by
  refine m_lpW (G := fun (x : (Int32 × MS)) => ∀ (H : Heap) (locs : List Loc) (ls : Array Slot), m_I D A d s.heap x.2 H locs → lv_has ls 6 [(0, .ref d.1), (3, .int v3), (4, .int x.1)] → W p l e R s m args below meth c H locs 0 0 Q (F0 m 47 ls [])) (E := fun (z : MS) => ∀ (H : Heap) (locs : List Loc) (ls : Array Slot), m_I D A d s.heap z H locs → lv_has ls 6 [(0, .ref d.1), (3, .int v3)] → W p l e R s m args below meth c H locs 0 0 Q (F0 m 129 ls [])) ?_ n x z hz hE
  rintro ⟨v4, st⟩ r h hr H locs ls I hl
  replace h : f_laysBounds_L47 n v3 v4 st = some r := h
  have k110 : ∀ (st : MS) (v4 : Int32) (t0 : Int32) (t1 : Int32) (H : Heap) (locs : List Loc) (ls : Array Slot), f_laysBounds_J110 n st v3 v4 t0 t1 = some r → m_I D A d s.heap st H locs → lv_has ls 6 [(0, .ref d.1), (3, .int v3), (4, .int v4)] → W p l e R s m args below meth c H locs 0 0 Q (F0 m 110 ls [.int t0, .int t1, .ref (d.2.1 21)]) := by
    intro st v4 t0 t1 H locs ls h I hl
    unfold f_laysBounds_J110 at h
    obtain ⟨g12, h⟩ := m_gS h
    refine m_iast X I 10 (n := 64) (f := st.2.1 21) rfl (m_st21 d _ _ _) g12 dX3_laysBounds_110 (fun H locs I => ?_)
    refine lv_aload_n X.1 X.2.1 dX3_laysBounds_111 rfl (lv_at hl 0 rfl) ?_
    refine m_get X I 26 (by decide) rfl rfl rfl q1543 (v := .ref (d.2.1 26)) rfl dX3_laysBounds_112 ?_
    refine lv_iload_n X.1 X.2.1 dX3_laysBounds_115 rfl (lv_at hl 1 rfl) ?_
    refine lv_iload X.1 X.2.1 dX3_laysBounds_116 (lv_at hl 2 rfl) ?_
    obtain ⟨r14, e13, h⟩ := m_bS h
    refine m_callS X hl.1 (As := [.int v3, .int v4]) (rest := [.ref (d.2.1 26)]) (c_couple l n v3 v4 _ e13) 2 q1784 q1785 q107 q1786 (hd_couple).2 rfl rfl ⟨Nat.le_trans (Nat.le_of_ble_eq_true rfl) hR.1, Nat.le_trans (Nat.le_of_ble_eq_true rfl) hR.2⟩ ⟨rfl, rfl⟩ ⟨Nat.zero_le _, Nat.zero_le _⟩ (Nat.le_of_ble_eq_true rfl) dX3_laysBounds_118 ?_
    refine lv_iconst (v := 0) X.1 X.2.1 dX3_laysBounds_121 (by decide) ?_
    obtain ⟨g15, h⟩ := m_gS h
    refine m_zast X I 15 (n := 64) (f := (m_sa st 21 (t1 : Int32).toNatClampNeg t0).2.1 26) rfl (m_st26 d _ _ _) g15 dX3_laysBounds_122 (fun H locs I => ?_)
    refine lv_iinc (v := v4 + 1) (lv' := [(4, .int (v4 + 1)), (0, .ref d.1), (3, .int v3)]) X.1 X.2.1 dX3_laysBounds_123 hl (k := 2) rfl rfl (by decide) rfl (fun ls hl => ?_)
    refine lv_goto (tgt := 47) X.1 X.2.1 dX3_laysBounds_126 (by decide) ?_
    cases h
    exact hr H locs ls I (lv_sub hl [1, 2, 0] rfl)
  have k82 : ∀ (st : MS) (v4 : Int32) (t0 : Int32) (H : Heap) (locs : List Loc) (ls : Array Slot), f_laysBounds_J82 n st v3 v4 t0 = some r → m_I D A d s.heap st H locs → lv_has ls 6 [(0, .ref d.1), (3, .int v3), (4, .int v4)] → W p l e R s m args below meth c H locs 0 0 Q (F0 m 82 ls [.int t0]) := by
    intro st v4 t0 H locs ls h I hl
    unfold f_laysBounds_J82 at h
    refine lv_istore (lv' := [(5, .int t0), (0, .ref d.1), (3, .int v3), (4, .int v4)]) X.1 X.2.1 dX3_laysBounds_82 hl (by decide) rfl (fun ls hl => ?_)
    refine lv_aload_n X.1 X.2.1 dX3_laysBounds_84 rfl (lv_at hl 1 rfl) ?_
    refine m_get X I 21 (by decide) rfl rfl rfl q1538 (v := .ref (d.2.1 21)) rfl dX3_laysBounds_85 ?_
    refine lv_iload_n X.1 X.2.1 dX3_laysBounds_88 rfl (lv_at hl 2 rfl) ?_
    refine lv_iload X.1 X.2.1 dX3_laysBounds_89 (lv_at hl 3 rfl) ?_
    obtain ⟨r10, e9, h⟩ := m_bS h
    refine m_callS X hl.1 (As := [.int v3, .int v4]) (rest := [.ref (d.2.1 21)]) (c_couple l n v3 v4 _ e9) 2 q1784 q1785 q107 q1786 (hd_couple).2 rfl rfl ⟨Nat.le_trans (Nat.le_of_ble_eq_true rfl) hR.1, Nat.le_trans (Nat.le_of_ble_eq_true rfl) hR.2⟩ ⟨rfl, rfl⟩ ⟨Nat.zero_le _, Nat.zero_le _⟩ (Nat.le_of_ble_eq_true rfl) dX3_laysBounds_91 ?_
    refine lv_iload X.1 X.2.1 dX3_laysBounds_94 (lv_at hl 0 rfl) ?_
    refine lv_if_eq (tgt := 109) X.1 X.2.1 dX3_laysBounds_96 (by decide) (fun c11 => ?_) (fun c11 => ?_)
    · replace h := m_ifT c11 h
      refine lv_iconst (v := 0) X.1 X.2.1 dX3_laysBounds_109 (by decide) ?_
      exact k110 st v4 0 r10 H locs ls h I (lv_sub hl [1, 2, 3] rfl)
    · replace h := m_ifF c11 h
      refine lv_aload_n X.1 X.2.1 dX3_laysBounds_99 rfl (lv_at hl 1 rfl) ?_
      refine lv_iload_n X.1 X.2.1 dX3_laysBounds_100 rfl (lv_at hl 2 rfl) ?_
      refine lv_iload X.1 X.2.1 dX3_laysBounds_101 (lv_at hl 3 rfl) ?_
      obtain ⟨r17, e16, h⟩ := m_bS h
      refine m_callI X hl.1 I hA (As := [.int v3, .int v4]) (rest := [.int r10, .ref (d.2.1 21)]) (c_boundOf l n D d st v3 v4 _ e16) 2 q1822 q1824 qs74 q107 q1825 (hd_boundOf) rfl rfl ⟨Nat.le_trans (Nat.le_of_ble_eq_true rfl) hR.1, Nat.le_trans (Nat.le_of_ble_eq_true rfl) hR.2⟩ ⟨rfl, rfl⟩ ⟨Nat.zero_le _, Nat.zero_le _⟩ (Nat.le_of_ble_eq_true rfl) dX3_laysBounds_103 (fun H locs I => ?_)
      refine lv_goto (tgt := 110) X.1 X.2.1 dX3_laysBounds_106 (by decide) ?_
      exact k110 st v4 r17 r10 H locs ls h I (lv_sub hl [1, 2, 3] rfl)
  have k81 : ∀ (st : MS) (v4 : Int32) (H : Heap) (locs : List Loc) (ls : Array Slot), f_laysBounds_J81 n st v3 v4 = some r → m_I D A d s.heap st H locs → lv_has ls 6 [(0, .ref d.1), (3, .int v3), (4, .int v4)] → W p l e R s m args below meth c H locs 0 0 Q (F0 m 81 ls []) := by
    intro st v4 H locs ls h I hl
    unfold f_laysBounds_J81 at h
    refine lv_iconst (v := 0) X.1 X.2.1 dX3_laysBounds_81 (by decide) ?_
    exact k82 st v4 0 H locs ls h I (lv_sub hl [0, 1, 2] rfl)
  unfold f_laysBounds_L47 at h
  refine lv_iload X.1 X.2.1 dX3_laysBounds_47 (lv_at hl 2 rfl) ?_
  refine lv_bipush (v := 8) X.1 X.2.1 dX3_laysBounds_49 (by decide) ?_
  refine lv_icmp_ge (tgt := 129) X.1 X.2.1 dX3_laysBounds_51 (by decide) (fun c7 => ?_) (fun c7 => ?_)
  · replace h := m_ifT c7 h
    cases h
    exact hr H locs ls I (lv_sub hl [0, 1] rfl)
  · replace h := m_ifF c7 h
    refine lv_iload_n X.1 X.2.1 dX3_laysBounds_54 rfl (lv_at hl 1 rfl) ?_
    refine lv_iload X.1 X.2.1 dX3_laysBounds_55 (lv_at hl 2 rfl) ?_
    refine lv_icmp_eq (tgt := 81) X.1 X.2.1 dX3_laysBounds_57 (by decide) (fun c8 => ?_) (fun c8 => ?_)
    · replace h := m_ifT c8 h
      exact k81 st v4 H locs ls h I (lv_sub hl [0, 1, 2] rfl)
    · replace h := m_ifF c8 h
      refine lv_iload_n X.1 X.2.1 dX3_laysBounds_60 rfl (lv_at hl 1 rfl) ?_
      refine lv_aload_n X.1 X.2.1 dX3_laysBounds_61 rfl (lv_at hl 0 rfl) ?_
      refine m_get X I 5 (by decide) rfl rfl rfl q1522 (v := .int (st.1 5)) rfl dX3_laysBounds_62 ?_
      refine lv_icmp_ge (tgt := 81) X.1 X.2.1 dX3_laysBounds_65 (by decide) (fun c18 => ?_) (fun c18 => ?_)
      · replace h := m_ifT c18 h
        exact k81 st v4 H locs ls h I (lv_sub hl [0, 1, 2] rfl)
      · replace h := m_ifF c18 h
        refine lv_iload X.1 X.2.1 dX3_laysBounds_68 (lv_at hl 2 rfl) ?_
        refine lv_aload_n X.1 X.2.1 dX3_laysBounds_70 rfl (lv_at hl 0 rfl) ?_
        refine m_get X I 5 (by decide) rfl rfl rfl q1522 (v := .int (st.1 5)) rfl dX3_laysBounds_71 ?_
        refine lv_icmp_ge (tgt := 81) X.1 X.2.1 dX3_laysBounds_74 (by decide) (fun c19 => ?_) (fun c19 => ?_)
        · replace h := m_ifT c19 h
          exact k81 st v4 H locs ls h I (lv_sub hl [0, 1, 2] rfl)
        · replace h := m_ifF c19 h
          refine lv_iconst (v := 1) X.1 X.2.1 dX3_laysBounds_77 (by decide) ?_
          refine lv_goto (tgt := 82) X.1 X.2.1 dX3_laysBounds_78 (by decide) ?_
          exact k82 st v4 1 H locs ls h I (lv_sub hl [0, 1, 2] rfl)
theorem wf_laysBounds_L8 (X : m_X D A d p s m c cX3_laysBounds 6 args) (hA : ∀ q, s.heap.size ≤ q → A q) (hR : 3 ≤ R.frames ∧ 67 ≤ R.locals) (n : Nat)  (x : (Int32 × MS)) (z : MS) (hz : f_laysBounds_L8l n x = some z) (hE : (fun (z : MS) => ∀ (H : Heap) (locs : List Loc) (ls : Array Slot), m_I D A d s.heap z H locs → lv_has ls 6 [] → W p l e R s m args below meth c H locs 0 0 Q (F0 m 135 ls [])) z) : (fun (x : (Int32 × MS)) => ∀ (H : Heap) (locs : List Loc) (ls : Array Slot), m_I D A d s.heap x.2 H locs → lv_has ls 6 [(0, .ref d.1), (3, .int x.1)] → W p l e R s m args below meth c H locs 0 0 Q (F0 m 8 ls [])) x := by
  refine m_lpW (G := fun (x : (Int32 × MS)) => ∀ (H : Heap) (locs : List Loc) (ls : Array Slot), m_I D A d s.heap x.2 H locs → lv_has ls 6 [(0, .ref d.1), (3, .int x.1)] → W p l e R s m args below meth c H locs 0 0 Q (F0 m 8 ls [])) (E := fun (z : MS) => ∀ (H : Heap) (locs : List Loc) (ls : Array Slot), m_I D A d s.heap z H locs → lv_has ls 6 [] → W p l e R s m args below meth c H locs 0 0 Q (F0 m 135 ls [])) ?_ n x z hz hE
  rintro ⟨v3, st⟩ r h hr H locs ls I hl
  replace h : f_laysBounds_L8 n v3 st = some r := h
  have k43 : ∀ (st : MS) (v3 : Int32) (t0 : Int32) (t1 : Int32) (H : Heap) (locs : List Loc) (ls : Array Slot), f_laysBounds_J43 n st v3 t0 t1 = some r → m_I D A d s.heap st H locs → lv_has ls 6 [(0, .ref d.1), (3, .int v3)] → W p l e R s m args below meth c H locs 0 0 Q (F0 m 43 ls [.int t0, .int t1, .ref (d.2.1 23)]) := by
    intro st v3 t0 t1 H locs ls h I hl
    unfold f_laysBounds_J43 at h
    obtain ⟨g6, h⟩ := m_gS h
    refine m_iast X I 12 (n := 8) (f := st.2.1 23) rfl (m_st23 d _ _ _) g6 dX3_laysBounds_43 (fun H locs I => ?_)
    refine lv_iconst (v := 0) X.1 X.2.1 dX3_laysBounds_44 (by decide) ?_
    refine lv_istore (lv' := [(4, .int 0), (0, .ref d.1), (3, .int v3)]) X.1 X.2.1 dX3_laysBounds_45 hl (by decide) rfl (fun ls hl => ?_)
    obtain ⟨s21, e20, h⟩ := m_bS h
    refine wf_laysBounds_L47 X hA hR n v3 _ _ e20 (fun H locs ls I hl => ?_) H locs ls I (lv_sub hl [1, 2, 0] rfl)
    refine lv_iinc (v := v3 + 1) (lv' := [(3, .int (v3 + 1)), (0, .ref d.1)]) X.1 X.2.1 dX3_laysBounds_129 hl (k := 1) rfl rfl (by decide) rfl (fun ls hl => ?_)
    refine lv_goto (tgt := 8) X.1 X.2.1 dX3_laysBounds_132 (by decide) ?_
    cases h
    exact hr H locs ls I (lv_sub hl [1, 0] rfl)
  unfold f_laysBounds_L8 at h
  refine lv_iload_n X.1 X.2.1 dX3_laysBounds_8 rfl (lv_at hl 1 rfl) ?_
  refine lv_bipush (v := 8) X.1 X.2.1 dX3_laysBounds_9 (by decide) ?_
  refine lv_icmp_ge (tgt := 135) X.1 X.2.1 dX3_laysBounds_11 (by decide) (fun c3 => ?_) (fun c3 => ?_)
  · replace h := m_ifT c3 h
    cases h
    exact hr H locs ls I (lv_sub hl [] rfl)
  · replace h := m_ifF c3 h
    refine lv_aload_n X.1 X.2.1 dX3_laysBounds_14 rfl (lv_at hl 0 rfl) ?_
    refine m_get X I 23 (by decide) rfl rfl rfl q1540 (v := .ref (d.2.1 23)) rfl dX3_laysBounds_15 ?_
    refine lv_iload_n X.1 X.2.1 dX3_laysBounds_18 rfl (lv_at hl 1 rfl) ?_
    refine lv_aload_n X.1 X.2.1 dX3_laysBounds_19 rfl (lv_at hl 0 rfl) ?_
    refine m_get X I 0 (by decide) rfl rfl rfl q1517 (v := .ref (d.2.1 0)) rfl dX3_laysBounds_20 ?_
    refine lv_iconst (v := 1) X.1 X.2.1 dX3_laysBounds_23 (by decide) ?_
    obtain ⟨g4, h⟩ := m_gS h
    refine m_iald X I 1 (n := 266) (f := st.2.1 0) rfl g4 dX3_laysBounds_24 ?_
    refine lv_iconst (v := 3) X.1 X.2.1 dX3_laysBounds_25 (by decide) ?_
    refine lv_icmp_ne (tgt := 40) X.1 X.2.1 dX3_laysBounds_26 (by decide) (fun c5 => ?_) (fun c5 => ?_)
    · replace h := m_ifF c5 h
      refine lv_ldcw (v := 2000000000) X.1 X.2.1 X.2.2.2.1 (X.2.2.1 _ q1890) dX3_laysBounds_40 ?_
      exact k43 st v3 2000000000 v3 H locs ls h I (lv_sub hl [0, 1] rfl)
    · replace h := m_ifT c5 h
      refine lv_aload_n X.1 X.2.1 dX3_laysBounds_29 rfl (lv_at hl 0 rfl) ?_
      refine m_get X I 17 (by decide) rfl rfl rfl q1534 (v := .ref (d.2.1 17)) rfl dX3_laysBounds_30 ?_
      refine lv_iload_n X.1 X.2.1 dX3_laysBounds_33 rfl (lv_at hl 1 rfl) ?_
      obtain ⟨r23, e22, h⟩ := m_bS h
      refine m_callSW X hl.1 I hA (As := [.ref (d.2.1 17), .int v3]) (rest := [.int v3, .ref (d.2.1 23)]) (c_throughBy l n D d st 17 v3 7 rfl _ e22) 2 q1887 q1888 q107 q1889 (hd_throughBy).2 rfl rfl ⟨Nat.le_trans (Nat.le_of_ble_eq_true rfl) hR.1, Nat.le_trans (Nat.le_of_ble_eq_true rfl) hR.2⟩ ⟨rfl, rfl⟩ ⟨Nat.zero_le _, Nat.zero_le _⟩ (Nat.le_of_ble_eq_true rfl) dX3_laysBounds_34 (fun H locs I => ?_)
      refine lv_goto (tgt := 43) X.1 X.2.1 dX3_laysBounds_37 (by decide) ?_
      exact k43 st v3 r23 v3 H locs ls h I (lv_sub hl [0, 1] rfl)
theorem w_laysBounds (X : m_X D A d p s m c cX3_laysBounds 6 args) (hA : ∀ q, s.heap.size ≤ q → A q) (hR : 3 ≤ R.frames ∧ 67 ≤ R.locals) (n : Nat) (st : MS) (p0 : Int32) (p1 : Int32) (r : MS) (h : f_laysBounds n st p0 p1 = some r) (hret : ∀ (H : Heap) (locs : List Loc) (ls : Array Slot) (pc : Nat), decode cX3_laysBounds pc = .ok (.return_, 1) → m_I D A d s.heap r H locs → W p l e R s m args below meth c H locs 0 0 Q (F0 m pc ls [])) : ∀ (H : Heap) (locs : List Loc) (ls : Array Slot), m_I D A d s.heap st H locs → lv_has ls 6 [(0, .ref d.1), (1, .int p0), (2, .int p1)] → W p l e R s m args below meth c H locs 0 0 Q (F0 m 0 ls []) := by
  intro H locs ls I hl
  unfold f_laysBounds at h
  refine lv_aload_n X.1 X.2.1 dX3_laysBounds_0 rfl (lv_at hl 0 rfl) ?_
  refine lv_iload_n X.1 X.2.1 dX3_laysBounds_1 rfl (lv_at hl 1 rfl) ?_
  refine lv_iload_n X.1 X.2.1 dX3_laysBounds_2 rfl (lv_at hl 2 rfl) ?_
  obtain ⟨s2, e1, h⟩ := m_bS h
  refine m_callV X hl.1 I hA (As := [.int p0, .int p1]) (rest := []) (c_laysFlows l n D d st p0 p1 _ e1) 2 q1772 q1774 qs67 q107 q1775 (hd_laysFlows) rfl rfl ⟨Nat.le_trans (Nat.le_of_ble_eq_true rfl) hR.1, Nat.le_trans (Nat.le_of_ble_eq_true rfl) hR.2⟩ ⟨rfl, rfl⟩ ⟨Nat.zero_le _, Nat.zero_le _⟩ (Nat.le_of_ble_eq_true rfl) dX3_laysBounds_3 (fun H locs I => ?_)
  refine lv_iconst (v := 0) X.1 X.2.1 dX3_laysBounds_6 (by decide) ?_
  refine lv_istore_n (lv' := [(3, .int 0), (0, .ref d.1), (1, .int p0), (2, .int p1)]) X.1 X.2.1 dX3_laysBounds_7 rfl hl (by decide) rfl (fun ls hl => ?_)
  obtain ⟨s25, e24, h⟩ := m_bS h
  refine wf_laysBounds_L8 X hA hR n  _ _ e24 (fun H locs ls I hl => ?_) H locs ls I (lv_sub hl [1, 0] rfl)
  obtain rfl := m_e1 h
  exact hret H locs ls 135 dX3_laysBounds_135 I
end S_laysBounds
theorem c_laysBounds (l : Launch) (n : Nat) (D : va_G) (d : MD) (st : MS) (p0 : Int32) (p1 : Int32) (st' : MS) (h : f_laysBounds n st p0 p1 = some st') : m_Mv l yX3_laysBounds cX3_laysBounds 6 none ({ frames := 3, cells := 0, slots := 0, locals := 67 } : Room) D d st [.ref d.1, .int p0, .int p1] st' :=
  m_startV (lvl := [(0, .ref d.1), (1, .int p0), (2, .int p1)]) (by decide) rfl (Nat.le_of_ble_eq_true rfl) rfl (fun p e s m args below meth c ls X hr hlk hl hA I => w_laysBounds X hA ⟨Nat.le_refl _, Nat.le_refl _⟩ n st p0 p1 st' h (fun H locs ls pc hd I => m_vret X I hr hlk hd) _ _ ls I hl)

/-! method laysWays()V -/
def f_laysWays_J96 (n : Nat) (st : MS) (v1 : Int32) (v2 : Int32) (v3 : Int32) : Option ((Int32 × Int32 × MS) ⊕ (Int32 × MS)) :=
  some (.inl ((v1, v3 + 1, st)))
def f_laysWays_L18 (n : Nat) (v2 : Int32) (v1 : Int32) (v3 : Int32) (st : MS) : Option ((Int32 × Int32 × MS) ⊕ (Int32 × MS)) :=
  m_if ((16 : Int32) ≤ (v3 : Int32)) (some (.inr ((v1, st)))) (m_g (m_in v2 16) (m_if ((1000000 : Int32) ≤ (st.2.1 27 (v2 : Int32).toNatClampNeg : Int32)) (some (.inr ((v1, st)))) (m_b (f_stepMay n st v2 v3) (fun r7 => m_if ((r7 : Int32) ≤ 0) (f_laysWays_J96 n st v1 v2 v3) (m_g (m_in v2 16) (m_b (f_stepCost n v2 v3) (fun r11 => m_g (m_in v3 16) (m_if (((st.2.1 27 (v2 : Int32).toNatClampNeg) + r11 : Int32) < (st.2.1 27 (v3 : Int32).toNatClampNeg : Int32)) (m_g (m_in v2 16) (m_b (f_stepCost n v2 v3) (fun r16 => m_g (m_in v3 16) (m_g (m_in v3 16) (f_laysWays_J96 n (m_sa (m_sa st 27 (v3 : Int32).toNatClampNeg ((st.2.1 27 (v2 : Int32).toNatClampNeg) + r16)) 28 (v3 : Int32).toNatClampNeg v2) 1 v2 v3))))) (f_laysWays_J96 n st v1 v2 v3)))))))))
def f_laysWays_L18l (n : Nat) (v2 : Int32) (x : (Int32 × Int32 × MS)) : Option (Int32 × MS) := m_lp (fun (x : (Int32 × Int32 × MS)) => f_laysWays_L18 n v2 x.1 x.2.1 x.2.2) n x
def f_laysWays_L10 (n : Nat) (v1 : Int32) (v2 : Int32) (st : MS) : Option ((Int32 × Int32 × MS) ⊕ (Int32 × MS)) :=
  m_if ((16 : Int32) ≤ (v2 : Int32)) (some (.inr ((v1, st)))) (m_b (f_laysWays_L18l n v2 ((v1, 0, st))) (fun y22 => some (.inl ((y22.1, v2 + 1, y22.2)))))
def f_laysWays_L10l (n : Nat) (x : (Int32 × Int32 × MS)) : Option (Int32 × MS) := m_lp (fun (x : (Int32 × Int32 × MS)) => f_laysWays_L10 n x.1 x.2.1 x.2.2) n x
def f_laysWays_L2 (n : Nat) (v1 : Int32) (st : MS) : Option ((Int32 × MS) ⊕ MS) :=
  m_if ((v1 : Int32) = 0) (some (.inr st)) (m_b (f_laysWays_L10l n ((0, 0, st))) (fun y26 => some (.inl ((y26.1, y26.2)))))
def f_laysWays_L2l (n : Nat) (x : (Int32 × MS)) : Option MS := m_lp (fun (x : (Int32 × MS)) => f_laysWays_L2 n x.1 x.2) n x
def f_laysWays (n : Nat) (st : MS) : Option (MS) :=
  m_b (f_laysWays_L2l n ((1, st))) (fun s28 => some s28)
theorem hd_laysWays : yX3_laysWays.cls = RX3 ∧ yX3_laysWays.cls ≠ "java/lang/invoke/MethodHandle" ∧ yX3_laysWays.cls ≠ "java/lang/invoke/VarHandle" ∧ (parseMethodDescriptor yX3_laysWays.desc).map (fun d => d.parameters.length) = some 0 := by decide +kernel
section S_laysWays
variable {p : Program} {l : Launch} {e : Env} {R : Room} {s : State} {m : MethodId} {args : Array Value} {below : List Frame} {meth : Method} {c : Code} {Q : State → Prop} {D : va_G} {A : Nat → Prop} {d : MD}
theorem wf_laysWays_L18 (X : m_X D A d p s m c cX3_laysWays 4 args) (hA : ∀ q, s.heap.size ≤ q → A q) (hR : 2 ≤ R.frames ∧ 47 ≤ R.locals) (n : Nat) (v2 : Int32) (x : (Int32 × Int32 × MS)) (z : (Int32 × MS)) (hz : f_laysWays_L18l n v2 x = some z) (hE : (fun (z : (Int32 × MS)) => ∀ (H : Heap) (locs : List Loc) (ls : Array Slot), m_I D A d s.heap z.2 H locs → lv_has ls 4 [(0, .ref d.1), (1, .int z.1), (2, .int v2)] → W p l e R s m args below meth c H locs 0 0 Q (F0 m 102 ls [])) z) : (fun (x : (Int32 × Int32 × MS)) => ∀ (H : Heap) (locs : List Loc) (ls : Array Slot), m_I D A d s.heap x.2.2 H locs → lv_has ls 4 [(0, .ref d.1), (1, .int x.1), (2, .int v2), (3, .int x.2.1)] → W p l e R s m args below meth c H locs 0 0 Q (F0 m 18 ls [])) x := by
  refine m_lpW (G := fun (x : (Int32 × Int32 × MS)) => ∀ (H : Heap) (locs : List Loc) (ls : Array Slot), m_I D A d s.heap x.2.2 H locs → lv_has ls 4 [(0, .ref d.1), (1, .int x.1), (2, .int v2), (3, .int x.2.1)] → W p l e R s m args below meth c H locs 0 0 Q (F0 m 18 ls [])) (E := fun (z : (Int32 × MS)) => ∀ (H : Heap) (locs : List Loc) (ls : Array Slot), m_I D A d s.heap z.2 H locs → lv_has ls 4 [(0, .ref d.1), (1, .int z.1), (2, .int v2)] → W p l e R s m args below meth c H locs 0 0 Q (F0 m 102 ls [])) ?_ n x z hz hE
  rintro ⟨v1, v3, st⟩ r h hr H locs ls I hl
  replace h : f_laysWays_L18 n v2 v1 v3 st = some r := h
  have k96 : ∀ (st : MS) (v1 : Int32) (v3 : Int32) (H : Heap) (locs : List Loc) (ls : Array Slot), f_laysWays_J96 n st v1 v2 v3 = some r → m_I D A d s.heap st H locs → lv_has ls 4 [(0, .ref d.1), (1, .int v1), (2, .int v2), (3, .int v3)] → W p l e R s m args below meth c H locs 0 0 Q (F0 m 96 ls []) := by
    intro st v1 v3 H locs ls h I hl
    unfold f_laysWays_J96 at h
    refine lv_iinc (v := v3 + 1) (lv' := [(3, .int (v3 + 1)), (0, .ref d.1), (1, .int v1), (2, .int v2)]) X.1 X.2.1 dX3_laysWays_96 hl (k := 3) rfl rfl (by decide) rfl (fun ls hl => ?_)
    refine lv_goto (tgt := 18) X.1 X.2.1 dX3_laysWays_99 (by decide) ?_
    cases h
    exact hr H locs ls I (lv_sub hl [1, 2, 3, 0] rfl)
  unfold f_laysWays_L18 at h
  refine lv_iload_n X.1 X.2.1 dX3_laysWays_18 rfl (lv_at hl 3 rfl) ?_
  refine lv_bipush (v := 16) X.1 X.2.1 dX3_laysWays_19 (by decide) ?_
  refine lv_icmp_ge (tgt := 102) X.1 X.2.1 dX3_laysWays_21 (by decide) (fun c3 => ?_) (fun c3 => ?_)
  · replace h := m_ifT c3 h
    cases h
    exact hr H locs ls I (lv_sub hl [0, 1, 2] rfl)
  · replace h := m_ifF c3 h
    refine lv_aload_n X.1 X.2.1 dX3_laysWays_24 rfl (lv_at hl 0 rfl) ?_
    refine m_get X I 27 (by decide) rfl rfl rfl q1544 (v := .ref (d.2.1 27)) rfl dX3_laysWays_25 ?_
    refine lv_iload_n X.1 X.2.1 dX3_laysWays_28 rfl (lv_at hl 2 rfl) ?_
    obtain ⟨g4, h⟩ := m_gS h
    refine m_iald X I 16 (n := 16) (f := st.2.1 27) rfl g4 dX3_laysWays_29 ?_
    refine lv_ldcw (v := 1000000) X.1 X.2.1 X.2.2.2.1 (X.2.2.1 _ q1895) dX3_laysWays_30 ?_
    refine lv_icmp_ge (tgt := 102) X.1 X.2.1 dX3_laysWays_33 (by decide) (fun c5 => ?_) (fun c5 => ?_)
    · replace h := m_ifT c5 h
      cases h
      exact hr H locs ls I (lv_sub hl [0, 1, 2] rfl)
    · replace h := m_ifF c5 h
      refine lv_aload_n X.1 X.2.1 dX3_laysWays_36 rfl (lv_at hl 0 rfl) ?_
      refine lv_iload_n X.1 X.2.1 dX3_laysWays_37 rfl (lv_at hl 2 rfl) ?_
      refine lv_iload_n X.1 X.2.1 dX3_laysWays_38 rfl (lv_at hl 3 rfl) ?_
      obtain ⟨r7, e6, h⟩ := m_bS h
      refine m_callI X hl.1 I hA (As := [.int v2, .int v3]) (rest := []) (c_stepMay l n D d st v2 v3 _ e6) 2 q1900 q1902 qs85 q107 q1903 (hd_stepMay) rfl rfl ⟨Nat.le_trans (Nat.le_of_ble_eq_true rfl) hR.1, Nat.le_trans (Nat.le_of_ble_eq_true rfl) hR.2⟩ ⟨rfl, rfl⟩ ⟨Nat.zero_le _, Nat.zero_le _⟩ (Nat.le_of_ble_eq_true rfl) dX3_laysWays_39 (fun H locs I => ?_)
      refine lv_if_le (tgt := 96) X.1 X.2.1 dX3_laysWays_42 (by decide) (fun c8 => ?_) (fun c8 => ?_)
      · replace h := m_ifT c8 h
        exact k96 st v1 v3 H locs ls h I (lv_sub hl [0, 1, 2, 3] rfl)
      · replace h := m_ifF c8 h
        refine lv_aload_n X.1 X.2.1 dX3_laysWays_45 rfl (lv_at hl 0 rfl) ?_
        refine m_get X I 27 (by decide) rfl rfl rfl q1544 (v := .ref (d.2.1 27)) rfl dX3_laysWays_46 ?_
        refine lv_iload_n X.1 X.2.1 dX3_laysWays_49 rfl (lv_at hl 2 rfl) ?_
        obtain ⟨g9, h⟩ := m_gS h
        refine m_iald X I 16 (n := 16) (f := st.2.1 27) rfl g9 dX3_laysWays_50 ?_
        refine lv_iload_n X.1 X.2.1 dX3_laysWays_51 rfl (lv_at hl 2 rfl) ?_
        refine lv_iload_n X.1 X.2.1 dX3_laysWays_52 rfl (lv_at hl 3 rfl) ?_
        obtain ⟨r11, e10, h⟩ := m_bS h
        refine m_callS X hl.1 (As := [.int v2, .int v3]) (rest := [.int (st.2.1 27 (v2 : Int32).toNatClampNeg)]) (c_stepCost l n v2 v3 _ e10) 2 q1904 q1905 q107 q1906 (hd_stepCost).2 rfl rfl ⟨Nat.le_trans (Nat.le_of_ble_eq_true rfl) hR.1, Nat.le_trans (Nat.le_of_ble_eq_true rfl) hR.2⟩ ⟨rfl, rfl⟩ ⟨Nat.zero_le _, Nat.zero_le _⟩ (Nat.le_of_ble_eq_true rfl) dX3_laysWays_53 ?_
        refine lv_iadd X.1 X.2.1 dX3_laysWays_56 ?_
        refine lv_aload_n X.1 X.2.1 dX3_laysWays_57 rfl (lv_at hl 0 rfl) ?_
        refine m_get X I 27 (by decide) rfl rfl rfl q1544 (v := .ref (d.2.1 27)) rfl dX3_laysWays_58 ?_
        refine lv_iload_n X.1 X.2.1 dX3_laysWays_61 rfl (lv_at hl 3 rfl) ?_
        obtain ⟨g12, h⟩ := m_gS h
        refine m_iald X I 16 (n := 16) (f := st.2.1 27) rfl g12 dX3_laysWays_62 ?_
        refine lv_icmp_lt (tgt := 69) X.1 X.2.1 dX3_laysWays_63 (by decide) (fun c13 => ?_) (fun c13 => ?_)
        · replace h := m_ifT c13 h
          refine lv_aload_n X.1 X.2.1 dX3_laysWays_69 rfl (lv_at hl 0 rfl) ?_
          refine m_get X I 27 (by decide) rfl rfl rfl q1544 (v := .ref (d.2.1 27)) rfl dX3_laysWays_70 ?_
          refine lv_iload_n X.1 X.2.1 dX3_laysWays_73 rfl (lv_at hl 3 rfl) ?_
          refine lv_aload_n X.1 X.2.1 dX3_laysWays_74 rfl (lv_at hl 0 rfl) ?_
          refine m_get X I 27 (by decide) rfl rfl rfl q1544 (v := .ref (d.2.1 27)) rfl dX3_laysWays_75 ?_
          refine lv_iload_n X.1 X.2.1 dX3_laysWays_78 rfl (lv_at hl 2 rfl) ?_
          obtain ⟨g14, h⟩ := m_gS h
          refine m_iald X I 16 (n := 16) (f := st.2.1 27) rfl g14 dX3_laysWays_79 ?_
          refine lv_iload_n X.1 X.2.1 dX3_laysWays_80 rfl (lv_at hl 2 rfl) ?_
          refine lv_iload_n X.1 X.2.1 dX3_laysWays_81 rfl (lv_at hl 3 rfl) ?_
          obtain ⟨r16, e15, h⟩ := m_bS h
          refine m_callS X hl.1 (As := [.int v2, .int v3]) (rest := [.int (st.2.1 27 (v2 : Int32).toNatClampNeg), .int v3, .ref (d.2.1 27)]) (c_stepCost l n v2 v3 _ e15) 2 q1904 q1905 q107 q1906 (hd_stepCost).2 rfl rfl ⟨Nat.le_trans (Nat.le_of_ble_eq_true rfl) hR.1, Nat.le_trans (Nat.le_of_ble_eq_true rfl) hR.2⟩ ⟨rfl, rfl⟩ ⟨Nat.zero_le _, Nat.zero_le _⟩ (Nat.le_of_ble_eq_true rfl) dX3_laysWays_82 ?_
          refine lv_iadd X.1 X.2.1 dX3_laysWays_85 ?_
          obtain ⟨g17, h⟩ := m_gS h
          refine m_iast X I 16 (n := 16) (f := st.2.1 27) rfl (m_st27 d _ _ _) g17 dX3_laysWays_86 (fun H locs I => ?_)
          refine lv_aload_n X.1 X.2.1 dX3_laysWays_87 rfl (lv_at hl 0 rfl) ?_
          refine m_get X I 28 (by decide) rfl rfl rfl q1545 (v := .ref (d.2.1 28)) rfl dX3_laysWays_88 ?_
          refine lv_iload_n X.1 X.2.1 dX3_laysWays_91 rfl (lv_at hl 3 rfl) ?_
          refine lv_iload_n X.1 X.2.1 dX3_laysWays_92 rfl (lv_at hl 2 rfl) ?_
          obtain ⟨g18, h⟩ := m_gS h
          refine m_iast X I 17 (n := 16) (f := (m_sa st 27 (v3 : Int32).toNatClampNeg ((st.2.1 27 (v2 : Int32).toNatClampNeg) + r16)).2.1 28) rfl (m_st28 d _ _ _) g18 dX3_laysWays_93 (fun H locs I => ?_)
          refine lv_iconst (v := 1) X.1 X.2.1 dX3_laysWays_94 (by decide) ?_
          refine lv_istore_n (lv' := [(1, .int 1), (0, .ref d.1), (2, .int v2), (3, .int v3)]) X.1 X.2.1 dX3_laysWays_95 rfl hl (by decide) rfl (fun ls hl => ?_)
          exact k96 (m_sa (m_sa st 27 (v3 : Int32).toNatClampNeg ((st.2.1 27 (v2 : Int32).toNatClampNeg) + r16)) 28 (v3 : Int32).toNatClampNeg v2) 1 v3 H locs ls h I (lv_sub hl [1, 0, 2, 3] rfl)
        · replace h := m_ifF c13 h
          refine lv_goto (tgt := 96) X.1 X.2.1 dX3_laysWays_66 (by decide) ?_
          exact k96 st v1 v3 H locs ls h I (lv_sub hl [0, 1, 2, 3] rfl)
theorem wf_laysWays_L10 (X : m_X D A d p s m c cX3_laysWays 4 args) (hA : ∀ q, s.heap.size ≤ q → A q) (hR : 2 ≤ R.frames ∧ 47 ≤ R.locals) (n : Nat)  (x : (Int32 × Int32 × MS)) (z : (Int32 × MS)) (hz : f_laysWays_L10l n x = some z) (hE : (fun (z : (Int32 × MS)) => ∀ (H : Heap) (locs : List Loc) (ls : Array Slot), m_I D A d s.heap z.2 H locs → lv_has ls 4 [(0, .ref d.1), (1, .int z.1)] → W p l e R s m args below meth c H locs 0 0 Q (F0 m 108 ls [])) z) : (fun (x : (Int32 × Int32 × MS)) => ∀ (H : Heap) (locs : List Loc) (ls : Array Slot), m_I D A d s.heap x.2.2 H locs → lv_has ls 4 [(0, .ref d.1), (1, .int x.1), (2, .int x.2.1)] → W p l e R s m args below meth c H locs 0 0 Q (F0 m 10 ls [])) x := by
  refine m_lpW (G := fun (x : (Int32 × Int32 × MS)) => ∀ (H : Heap) (locs : List Loc) (ls : Array Slot), m_I D A d s.heap x.2.2 H locs → lv_has ls 4 [(0, .ref d.1), (1, .int x.1), (2, .int x.2.1)] → W p l e R s m args below meth c H locs 0 0 Q (F0 m 10 ls [])) (E := fun (z : (Int32 × MS)) => ∀ (H : Heap) (locs : List Loc) (ls : Array Slot), m_I D A d s.heap z.2 H locs → lv_has ls 4 [(0, .ref d.1), (1, .int z.1)] → W p l e R s m args below meth c H locs 0 0 Q (F0 m 108 ls [])) ?_ n x z hz hE
  rintro ⟨v1, v2, st⟩ r h hr H locs ls I hl
  replace h : f_laysWays_L10 n v1 v2 st = some r := h
  unfold f_laysWays_L10 at h
  refine lv_iload_n X.1 X.2.1 dX3_laysWays_10 rfl (lv_at hl 2 rfl) ?_
  refine lv_bipush (v := 16) X.1 X.2.1 dX3_laysWays_11 (by decide) ?_
  refine lv_icmp_ge (tgt := 108) X.1 X.2.1 dX3_laysWays_13 (by decide) (fun c2 => ?_) (fun c2 => ?_)
  · replace h := m_ifT c2 h
    cases h
    exact hr H locs ls I (lv_sub hl [0, 1] rfl)
  · replace h := m_ifF c2 h
    refine lv_iconst (v := 0) X.1 X.2.1 dX3_laysWays_16 (by decide) ?_
    refine lv_istore_n (lv' := [(3, .int 0), (0, .ref d.1), (1, .int v1), (2, .int v2)]) X.1 X.2.1 dX3_laysWays_17 rfl hl (by decide) rfl (fun ls hl => ?_)
    obtain ⟨⟨z20, s21⟩, e19, h⟩ := m_bS h
    refine wf_laysWays_L18 X hA hR n v2 _ _ e19 (fun H locs ls I hl => ?_) H locs ls I (lv_sub hl [1, 2, 3, 0] rfl)
    refine lv_iinc (v := v2 + 1) (lv' := [(2, .int (v2 + 1)), (0, .ref d.1), (1, .int z20)]) X.1 X.2.1 dX3_laysWays_102 hl (k := 2) rfl rfl (by decide) rfl (fun ls hl => ?_)
    refine lv_goto (tgt := 10) X.1 X.2.1 dX3_laysWays_105 (by decide) ?_
    cases h
    exact hr H locs ls I (lv_sub hl [1, 2, 0] rfl)
theorem wf_laysWays_L2 (X : m_X D A d p s m c cX3_laysWays 4 args) (hA : ∀ q, s.heap.size ≤ q → A q) (hR : 2 ≤ R.frames ∧ 47 ≤ R.locals) (n : Nat)  (x : (Int32 × MS)) (z : MS) (hz : f_laysWays_L2l n x = some z) (hE : (fun (z : MS) => ∀ (H : Heap) (locs : List Loc) (ls : Array Slot), m_I D A d s.heap z H locs → lv_has ls 4 [] → W p l e R s m args below meth c H locs 0 0 Q (F0 m 111 ls [])) z) : (fun (x : (Int32 × MS)) => ∀ (H : Heap) (locs : List Loc) (ls : Array Slot), m_I D A d s.heap x.2 H locs → lv_has ls 4 [(0, .ref d.1), (1, .int x.1)] → W p l e R s m args below meth c H locs 0 0 Q (F0 m 2 ls [])) x := by
  refine m_lpW (G := fun (x : (Int32 × MS)) => ∀ (H : Heap) (locs : List Loc) (ls : Array Slot), m_I D A d s.heap x.2 H locs → lv_has ls 4 [(0, .ref d.1), (1, .int x.1)] → W p l e R s m args below meth c H locs 0 0 Q (F0 m 2 ls [])) (E := fun (z : MS) => ∀ (H : Heap) (locs : List Loc) (ls : Array Slot), m_I D A d s.heap z H locs → lv_has ls 4 [] → W p l e R s m args below meth c H locs 0 0 Q (F0 m 111 ls [])) ?_ n x z hz hE
  rintro ⟨v1, st⟩ r h hr H locs ls I hl
  replace h : f_laysWays_L2 n v1 st = some r := h
  unfold f_laysWays_L2 at h
  refine lv_iload_n X.1 X.2.1 dX3_laysWays_2 rfl (lv_at hl 1 rfl) ?_
  refine lv_if_eq (tgt := 111) X.1 X.2.1 dX3_laysWays_3 (by decide) (fun c1 => ?_) (fun c1 => ?_)
  · replace h := m_ifT c1 h
    cases h
    exact hr H locs ls I (lv_sub hl [] rfl)
  · replace h := m_ifF c1 h
    refine lv_iconst (v := 0) X.1 X.2.1 dX3_laysWays_6 (by decide) ?_
    refine lv_istore_n (lv' := [(1, .int 0), (0, .ref d.1)]) X.1 X.2.1 dX3_laysWays_7 rfl hl (by decide) rfl (fun ls hl => ?_)
    refine lv_iconst (v := 0) X.1 X.2.1 dX3_laysWays_8 (by decide) ?_
    refine lv_istore_n (lv' := [(2, .int 0), (1, .int 0), (0, .ref d.1)]) X.1 X.2.1 dX3_laysWays_9 rfl hl (by decide) rfl (fun ls hl => ?_)
    obtain ⟨⟨z24, s25⟩, e23, h⟩ := m_bS h
    refine wf_laysWays_L10 X hA hR n  _ _ e23 (fun H locs ls I hl => ?_) H locs ls I (lv_sub hl [2, 1, 0] rfl)
    refine lv_goto (tgt := 2) X.1 X.2.1 dX3_laysWays_108 (by decide) ?_
    cases h
    exact hr H locs ls I (lv_sub hl [0, 1] rfl)
theorem w_laysWays (X : m_X D A d p s m c cX3_laysWays 4 args) (hA : ∀ q, s.heap.size ≤ q → A q) (hR : 2 ≤ R.frames ∧ 47 ≤ R.locals) (n : Nat) (st : MS) (r : MS) (h : f_laysWays n st = some r) (hret : ∀ (H : Heap) (locs : List Loc) (ls : Array Slot) (pc : Nat), decode cX3_laysWays pc = .ok (.return_, 1) → m_I D A d s.heap r H locs → W p l e R s m args below meth c H locs 0 0 Q (F0 m pc ls [])) : ∀ (H : Heap) (locs : List Loc) (ls : Array Slot), m_I D A d s.heap st H locs → lv_has ls 4 [(0, .ref d.1)] → W p l e R s m args below meth c H locs 0 0 Q (F0 m 0 ls []) := by
  intro H locs ls I hl
  unfold f_laysWays at h
  refine lv_iconst (v := 1) X.1 X.2.1 dX3_laysWays_0 (by decide) ?_
  refine lv_istore_n (lv' := [(1, .int 1), (0, .ref d.1)]) X.1 X.2.1 dX3_laysWays_1 rfl hl (by decide) rfl (fun ls hl => ?_)
  obtain ⟨s28, e27, h⟩ := m_bS h
  refine wf_laysWays_L2 X hA hR n  _ _ e27 (fun H locs ls I hl => ?_) H locs ls I (lv_sub hl [1, 0] rfl)
  obtain rfl := m_e1 h
  exact hret H locs ls 111 dX3_laysWays_111 I
end S_laysWays
theorem c_laysWays (l : Launch) (n : Nat) (D : va_G) (d : MD) (st : MS) (st' : MS) (h : f_laysWays n st = some st') : m_Mv l yX3_laysWays cX3_laysWays 4 none ({ frames := 2, cells := 0, slots := 0, locals := 47 } : Room) D d st [.ref d.1] st' :=
  m_startV (lvl := [(0, .ref d.1)]) (by decide) rfl (Nat.le_of_ble_eq_true rfl) rfl (fun p e s m args below meth c ls X hr hlk hl hA I => w_laysWays X hA ⟨Nat.le_refl _, Nat.le_refl _⟩ n st st' h (fun H locs ls pc hd I => m_vret X I hr hlk hd) _ _ ls I hl)

/-! method shifts(IIII)I -/
def f_shifts_J50 (n : Nat) (st : MS) (v1 : Int32) (v2 : Int32) (v3 : Int32) (v4 : Int32) (v5 : Int32) (v7 : Int32) (t0 : Int32) (t1 : Int32) : Option ((Int32 × MS) ⊕ MS) :=
  m_g (m_in t1 16) (m_g (m_in v7 16) (some (.inl ((v7 + 1, m_sa (m_sa st 27 (t1 : Int32).toNatClampNeg t0) 28 (v7 : Int32).toNatClampNeg ((-1)))))))
def f_shifts_L24 (n : Nat) (v1 : Int32) (v2 : Int32) (v3 : Int32) (v4 : Int32) (v5 : Int32) (v7 : Int32) (st : MS) : Option ((Int32 × MS) ⊕ MS) :=
  m_if ((16 : Int32) ≤ (v7 : Int32)) (some (.inr st)) (m_if ((v7 : Int32) = (v1 : Int32)) (f_shifts_J50 n st v1 v2 v3 v4 v5 v7 0 v7) (f_shifts_J50 n st v1 v2 v3 v4 v5 v7 1000000 v7))
def f_shifts_L24l (n : Nat) (v1 : Int32) (v2 : Int32) (v3 : Int32) (v4 : Int32) (v5 : Int32) (x : (Int32 × MS)) : Option MS := m_lp (fun (x : (Int32 × MS)) => f_shifts_L24 n v1 v2 v3 v4 v5 x.1 x.2) n x
def f_shifts_J153 (n : Nat) (st : MS) (v1 : Int32) (v2 : Int32) (v3 : Int32) (v4 : Int32) (v5 : Int32) (t0 : Int32) : Option ((Int32 × Int32 × MS) ⊕ (Int32 × MS)) :=
  some (.inl ((v5, t0, st)))
def f_shifts_J152 (n : Nat) (st : MS) (v1 : Int32) (v2 : Int32) (v3 : Int32) (v4 : Int32) (v5 : Int32) : Option ((Int32 × Int32 × MS) ⊕ (Int32 × MS)) :=
  f_shifts_J153 n st v1 v2 v3 v4 v5 0
def f_shifts_J131 (n : Nat) (st : MS) (v1 : Int32) (v2 : Int32) (v3 : Int32) (v4 : Int32) (v5 : Int32) (v6 : Int32) (v7 : Int32) : Option ((Int32 × Int32 × MS) ⊕ (Int32 × MS)) :=
  m_if ((v6 : Int32) = 0) (f_shifts_J152 n st v1 v2 v3 v4 (v5 - v7)) (m_if ((v5 - v7 : Int32) ≤ 0) (f_shifts_J152 n st v1 v2 v3 v4 (v5 - v7)) (f_shifts_J153 n st v1 v2 v3 v4 (v5 - v7) 1))
def f_shifts_J117 (n : Nat) (st : MS) (v1 : Int32) (v2 : Int32) (v3 : Int32) (v4 : Int32) (v5 : Int32) (v6 : Int32) (t0 : Int32) : Option ((Int32 × Int32 × MS) ⊕ (Int32 × MS)) :=
  m_if ((v6 : Int32) = 0) (f_shifts_J131 n st v1 v2 v3 v4 v5 v6 t0) (m_b (f_sends n st v2 t0) (fun s18 => f_shifts_J131 n s18 v1 v2 v3 v4 v5 v6 t0))
def f_shifts_J99 (n : Nat) (st : MS) (v1 : Int32) (v2 : Int32) (v3 : Int32) (v4 : Int32) (v5 : Int32) (t0 : Int32) : Option ((Int32 × Int32 × MS) ⊕ (Int32 × MS)) :=
  m_if ((t0 : Int32) = 0) (f_shifts_J117 n st v1 v2 v3 v4 v5 t0 0) (m_b (f_wayMay n st v2 v5) (fun r20 => f_shifts_J117 n st v1 v2 v3 v4 v5 t0 r20))
def f_shifts_J98 (n : Nat) (st : MS) (v1 : Int32) (v2 : Int32) (v3 : Int32) (v4 : Int32) (v5 : Int32) : Option ((Int32 × Int32 × MS) ⊕ (Int32 × MS)) :=
  f_shifts_J99 n st v1 v2 v3 v4 v5 0
def f_shifts_L16 (n : Nat) (v1 : Int32) (v2 : Int32) (v3 : Int32) (v4 : Int32) (v5 : Int32) (v6 : Int32) (st : MS) : Option ((Int32 × Int32 × MS) ⊕ (Int32 × MS)) :=
  m_if ((v6 : Int32) = 0) (some (.inr ((v5, st)))) (m_b (f_shifts_L24l n v1 v2 v3 v4 v5 ((0, st))) (fun s8 => m_b (f_laysWays n s8) (fun s10 => m_g (m_in v2 16) (m_if ((1000000 : Int32) ≤ (s10.2.1 27 (v2 : Int32).toNatClampNeg : Int32)) (f_shifts_J98 n s10 v1 v2 v3 v4 v5) (m_g (m_in v2 16) (m_if (((s10.2.1 27 (v2 : Int32).toNatClampNeg) >>> (6 &&& 31) : Int32) = (v3 : Int32)) (f_shifts_J99 n s10 v1 v2 v3 v4 v5 1) (f_shifts_J98 n s10 v1 v2 v3 v4 v5)))))))
def f_shifts_L16l (n : Nat) (v1 : Int32) (v2 : Int32) (v3 : Int32) (v4 : Int32) (x : (Int32 × Int32 × MS)) : Option (Int32 × MS) := m_lp (fun (x : (Int32 × Int32 × MS)) => f_shifts_L16 n v1 v2 v3 v4 x.1 x.2.1 x.2.2) n x
def f_shifts_J14 (n : Nat) (st : MS) (v1 : Int32) (v2 : Int32) (v3 : Int32) (v4 : Int32) (v5 : Int32) (t0 : Int32) : Option (Int32 × MS) :=
  m_b (f_shifts_L16l n v1 v2 v3 v4 ((v5, t0, st))) (fun y26 => some (v4 - y26.1, y26.2))
def f_shifts (n : Nat) (st : MS) (p0 : Int32) (p1 : Int32) (p2 : Int32) (p3 : Int32) : Option (Int32 × MS) :=
  m_if ((p3 : Int32) ≤ 0) (f_shifts_J14 n st p0 p1 p2 p3 p3 0) (f_shifts_J14 n st p0 p1 p2 p3 p3 1)
theorem hd_shifts : yX3_shifts.cls = RX3 ∧ yX3_shifts.cls ≠ "java/lang/invoke/MethodHandle" ∧ yX3_shifts.cls ≠ "java/lang/invoke/VarHandle" ∧ (parseMethodDescriptor yX3_shifts.desc).map (fun d => d.parameters.length) = some 4 := by decide +kernel
section S_shifts
variable {p : Program} {l : Launch} {e : Env} {R : Room} {s : State} {m : MethodId} {args : Array Value} {below : List Frame} {meth : Method} {c : Code} {Q : State → Prop} {D : va_G} {A : Nat → Prop} {d : MD}
theorem wf_shifts_L24 (X : m_X D A d p s m c cX3_shifts 8 args) (hA : ∀ q, s.heap.size ≤ q → A q) (hR : 3 ≤ R.frames ∧ 71 ≤ R.locals) (n : Nat) (v1 : Int32) (v2 : Int32) (v3 : Int32) (v4 : Int32) (v5 : Int32) (x : (Int32 × MS)) (z : MS) (hz : f_shifts_L24l n v1 v2 v3 v4 v5 x = some z) (hE : (fun (z : MS) => ∀ (H : Heap) (locs : List Loc) (ls : Array Slot), m_I D A d s.heap z H locs → lv_has ls 8 [(0, .ref d.1), (1, .int v1), (2, .int v2), (3, .int v3), (4, .int v4), (5, .int v5)] → W p l e R s m args below meth c H locs 0 0 Q (F0 m 65 ls [])) z) : (fun (x : (Int32 × MS)) => ∀ (H : Heap) (locs : List Loc) (ls : Array Slot), m_I D A d s.heap x.2 H locs → lv_has ls 8 [(0, .ref d.1), (1, .int v1), (2, .int v2), (3, .int v3), (4, .int v4), (5, .int v5), (7, .int x.1)] → W p l e R s m args below meth c H locs 0 0 Q (F0 m 24 ls [])) x := by
  refine m_lpW (G := fun (x : (Int32 × MS)) => ∀ (H : Heap) (locs : List Loc) (ls : Array Slot), m_I D A d s.heap x.2 H locs → lv_has ls 8 [(0, .ref d.1), (1, .int v1), (2, .int v2), (3, .int v3), (4, .int v4), (5, .int v5), (7, .int x.1)] → W p l e R s m args below meth c H locs 0 0 Q (F0 m 24 ls [])) (E := fun (z : MS) => ∀ (H : Heap) (locs : List Loc) (ls : Array Slot), m_I D A d s.heap z H locs → lv_has ls 8 [(0, .ref d.1), (1, .int v1), (2, .int v2), (3, .int v3), (4, .int v4), (5, .int v5)] → W p l e R s m args below meth c H locs 0 0 Q (F0 m 65 ls [])) ?_ n x z hz hE
  rintro ⟨v7, st⟩ r h hr H locs ls I hl
  replace h : f_shifts_L24 n v1 v2 v3 v4 v5 v7 st = some r := h
  have k50 : ∀ (st : MS) (v7 : Int32) (t0 : Int32) (t1 : Int32) (H : Heap) (locs : List Loc) (ls : Array Slot), f_shifts_J50 n st v1 v2 v3 v4 v5 v7 t0 t1 = some r → m_I D A d s.heap st H locs → lv_has ls 8 [(0, .ref d.1), (1, .int v1), (2, .int v2), (3, .int v3), (4, .int v4), (5, .int v5), (7, .int v7)] → W p l e R s m args below meth c H locs 0 0 Q (F0 m 50 ls [.int t0, .int t1, .ref (d.2.1 27)]) := by
    intro st v7 t0 t1 H locs ls h I hl
    unfold f_shifts_J50 at h
    obtain ⟨g5, h⟩ := m_gS h
    refine m_iast X I 16 (n := 16) (f := st.2.1 27) rfl (m_st27 d _ _ _) g5 dX3_shifts_50 (fun H locs I => ?_)
    refine lv_aload_n X.1 X.2.1 dX3_shifts_51 rfl (lv_at hl 0 rfl) ?_
    refine m_get X I 28 (by decide) rfl rfl rfl q1545 (v := .ref (d.2.1 28)) rfl dX3_shifts_52 ?_
    refine lv_iload X.1 X.2.1 dX3_shifts_55 (lv_at hl 6 rfl) ?_
    refine lv_iconst (v := (-1)) X.1 X.2.1 dX3_shifts_57 (by decide) ?_
    obtain ⟨g6, h⟩ := m_gS h
    refine m_iast X I 17 (n := 16) (f := (m_sa st 27 (t1 : Int32).toNatClampNeg t0).2.1 28) rfl (m_st28 d _ _ _) g6 dX3_shifts_58 (fun H locs I => ?_)
    refine lv_iinc (v := v7 + 1) (lv' := [(7, .int (v7 + 1)), (0, .ref d.1), (1, .int v1), (2, .int v2), (3, .int v3), (4, .int v4), (5, .int v5)]) X.1 X.2.1 dX3_shifts_59 hl (k := 6) rfl rfl (by decide) rfl (fun ls hl => ?_)
    refine lv_goto (tgt := 24) X.1 X.2.1 dX3_shifts_62 (by decide) ?_
    cases h
    exact hr H locs ls I (lv_sub hl [1, 2, 3, 4, 5, 6, 0] rfl)
  unfold f_shifts_L24 at h
  refine lv_iload X.1 X.2.1 dX3_shifts_24 (lv_at hl 6 rfl) ?_
  refine lv_bipush (v := 16) X.1 X.2.1 dX3_shifts_26 (by decide) ?_
  refine lv_icmp_ge (tgt := 65) X.1 X.2.1 dX3_shifts_28 (by decide) (fun c3 => ?_) (fun c3 => ?_)
  · replace h := m_ifT c3 h
    cases h
    exact hr H locs ls I (lv_sub hl [0, 1, 2, 3, 4, 5] rfl)
  · replace h := m_ifF c3 h
    refine lv_aload_n X.1 X.2.1 dX3_shifts_31 rfl (lv_at hl 0 rfl) ?_
    refine m_get X I 27 (by decide) rfl rfl rfl q1544 (v := .ref (d.2.1 27)) rfl dX3_shifts_32 ?_
    refine lv_iload X.1 X.2.1 dX3_shifts_35 (lv_at hl 6 rfl) ?_
    refine lv_iload X.1 X.2.1 dX3_shifts_37 (lv_at hl 6 rfl) ?_
    refine lv_iload_n X.1 X.2.1 dX3_shifts_39 rfl (lv_at hl 1 rfl) ?_
    refine lv_icmp_ne (tgt := 47) X.1 X.2.1 dX3_shifts_40 (by decide) (fun c4 => ?_) (fun c4 => ?_)
    · replace h := m_ifF c4 h
      refine lv_ldcw (v := 1000000) X.1 X.2.1 X.2.2.2.1 (X.2.2.1 _ q1895) dX3_shifts_47 ?_
      exact k50 st v7 1000000 v7 H locs ls h I (lv_sub hl [0, 1, 2, 3, 4, 5, 6] rfl)
    · replace h := m_ifT c4 h
      refine lv_iconst (v := 0) X.1 X.2.1 dX3_shifts_43 (by decide) ?_
      refine lv_goto (tgt := 50) X.1 X.2.1 dX3_shifts_44 (by decide) ?_
      exact k50 st v7 0 v7 H locs ls h I (lv_sub hl [0, 1, 2, 3, 4, 5, 6] rfl)
theorem wf_shifts_L16 (X : m_X D A d p s m c cX3_shifts 8 args) (hA : ∀ q, s.heap.size ≤ q → A q) (hR : 3 ≤ R.frames ∧ 71 ≤ R.locals) (n : Nat) (v1 : Int32) (v2 : Int32) (v3 : Int32) (v4 : Int32) (x : (Int32 × Int32 × MS)) (z : (Int32 × MS)) (hz : f_shifts_L16l n v1 v2 v3 v4 x = some z) (hE : (fun (z : (Int32 × MS)) => ∀ (H : Heap) (locs : List Loc) (ls : Array Slot), m_I D A d s.heap z.2 H locs → lv_has ls 8 [(4, .int v4), (5, .int z.1)] → W p l e R s m args below meth c H locs 0 0 Q (F0 m 158 ls [])) z) : (fun (x : (Int32 × Int32 × MS)) => ∀ (H : Heap) (locs : List Loc) (ls : Array Slot), m_I D A d s.heap x.2.2 H locs → lv_has ls 8 [(0, .ref d.1), (1, .int v1), (2, .int v2), (3, .int v3), (4, .int v4), (5, .int x.1), (6, .int x.2.1)] → W p l e R s m args below meth c H locs 0 0 Q (F0 m 16 ls [])) x := by
  refine m_lpW (G := fun (x : (Int32 × Int32 × MS)) => ∀ (H : Heap) (locs : List Loc) (ls : Array Slot), m_I D A d s.heap x.2.2 H locs → lv_has ls 8 [(0, .ref d.1), (1, .int v1), (2, .int v2), (3, .int v3), (4, .int v4), (5, .int x.1), (6, .int x.2.1)] → W p l e R s m args below meth c H locs 0 0 Q (F0 m 16 ls [])) (E := fun (z : (Int32 × MS)) => ∀ (H : Heap) (locs : List Loc) (ls : Array Slot), m_I D A d s.heap z.2 H locs → lv_has ls 8 [(4, .int v4), (5, .int z.1)] → W p l e R s m args below meth c H locs 0 0 Q (F0 m 158 ls [])) ?_ n x z hz hE
  rintro ⟨v5, v6, st⟩ r h hr H locs ls I hl
  replace h : f_shifts_L16 n v1 v2 v3 v4 v5 v6 st = some r := h
  have k153 : ∀ (st : MS) (v5 : Int32) (t0 : Int32) (H : Heap) (locs : List Loc) (ls : Array Slot), f_shifts_J153 n st v1 v2 v3 v4 v5 t0 = some r → m_I D A d s.heap st H locs → lv_has ls 8 [(0, .ref d.1), (1, .int v1), (2, .int v2), (3, .int v3), (4, .int v4), (5, .int v5)] → W p l e R s m args below meth c H locs 0 0 Q (F0 m 153 ls [.int t0]) := by
    intro st v5 t0 H locs ls h I hl
    unfold f_shifts_J153 at h
    refine lv_istore (lv' := [(6, .int t0), (0, .ref d.1), (1, .int v1), (2, .int v2), (3, .int v3), (4, .int v4), (5, .int v5)]) X.1 X.2.1 dX3_shifts_153 hl (by decide) rfl (fun ls hl => ?_)
    refine lv_goto (tgt := 16) X.1 X.2.1 dX3_shifts_155 (by decide) ?_
    cases h
    exact hr H locs ls I (lv_sub hl [1, 2, 3, 4, 5, 6, 0] rfl)
  have k152 : ∀ (st : MS) (v5 : Int32) (H : Heap) (locs : List Loc) (ls : Array Slot), f_shifts_J152 n st v1 v2 v3 v4 v5 = some r → m_I D A d s.heap st H locs → lv_has ls 8 [(0, .ref d.1), (1, .int v1), (2, .int v2), (3, .int v3), (4, .int v4), (5, .int v5)] → W p l e R s m args below meth c H locs 0 0 Q (F0 m 152 ls []) := by
    intro st v5 H locs ls h I hl
    unfold f_shifts_J152 at h
    refine lv_iconst (v := 0) X.1 X.2.1 dX3_shifts_152 (by decide) ?_
    exact k153 st v5 0 H locs ls h I (lv_sub hl [0, 1, 2, 3, 4, 5] rfl)
  have k131 : ∀ (st : MS) (v5 : Int32) (v6 : Int32) (v7 : Int32) (H : Heap) (locs : List Loc) (ls : Array Slot), f_shifts_J131 n st v1 v2 v3 v4 v5 v6 v7 = some r → m_I D A d s.heap st H locs → lv_has ls 8 [(0, .ref d.1), (1, .int v1), (2, .int v2), (3, .int v3), (4, .int v4), (5, .int v5), (6, .int v6), (7, .int v7)] → W p l e R s m args below meth c H locs 0 0 Q (F0 m 131 ls []) := by
    intro st v5 v6 v7 H locs ls h I hl
    unfold f_shifts_J131 at h
    refine lv_iload X.1 X.2.1 dX3_shifts_131 (lv_at hl 5 rfl) ?_
    refine lv_iload X.1 X.2.1 dX3_shifts_133 (lv_at hl 7 rfl) ?_
    refine lv_isub X.1 X.2.1 dX3_shifts_135 ?_
    refine lv_istore (lv' := [(5, .int (v5 - v7)), (0, .ref d.1), (1, .int v1), (2, .int v2), (3, .int v3), (4, .int v4), (6, .int v6), (7, .int v7)]) X.1 X.2.1 dX3_shifts_136 hl (by decide) rfl (fun ls hl => ?_)
    refine lv_iload X.1 X.2.1 dX3_shifts_138 (lv_at hl 6 rfl) ?_
    refine lv_if_eq (tgt := 152) X.1 X.2.1 dX3_shifts_140 (by decide) (fun c15 => ?_) (fun c15 => ?_)
    · replace h := m_ifT c15 h
      exact k152 st (v5 - v7) H locs ls h I (lv_sub hl [1, 2, 3, 4, 5, 0] rfl)
    · replace h := m_ifF c15 h
      refine lv_iload X.1 X.2.1 dX3_shifts_143 (lv_at hl 0 rfl) ?_
      refine lv_if_le (tgt := 152) X.1 X.2.1 dX3_shifts_145 (by decide) (fun c16 => ?_) (fun c16 => ?_)
      · replace h := m_ifT c16 h
        exact k152 st (v5 - v7) H locs ls h I (lv_sub hl [1, 2, 3, 4, 5, 0] rfl)
      · replace h := m_ifF c16 h
        refine lv_iconst (v := 1) X.1 X.2.1 dX3_shifts_148 (by decide) ?_
        refine lv_goto (tgt := 153) X.1 X.2.1 dX3_shifts_149 (by decide) ?_
        exact k153 st (v5 - v7) 1 H locs ls h I (lv_sub hl [1, 2, 3, 4, 5, 0] rfl)
  have k117 : ∀ (st : MS) (v5 : Int32) (v6 : Int32) (t0 : Int32) (H : Heap) (locs : List Loc) (ls : Array Slot), f_shifts_J117 n st v1 v2 v3 v4 v5 v6 t0 = some r → m_I D A d s.heap st H locs → lv_has ls 8 [(0, .ref d.1), (1, .int v1), (2, .int v2), (3, .int v3), (4, .int v4), (5, .int v5), (6, .int v6)] → W p l e R s m args below meth c H locs 0 0 Q (F0 m 117 ls [.int t0]) := by
    intro st v5 v6 t0 H locs ls h I hl
    unfold f_shifts_J117 at h
    refine lv_istore (lv' := [(7, .int t0), (0, .ref d.1), (1, .int v1), (2, .int v2), (3, .int v3), (4, .int v4), (5, .int v5), (6, .int v6)]) X.1 X.2.1 dX3_shifts_117 hl (by decide) rfl (fun ls hl => ?_)
    refine lv_iload X.1 X.2.1 dX3_shifts_119 (lv_at hl 7 rfl) ?_
    refine lv_if_eq (tgt := 131) X.1 X.2.1 dX3_shifts_121 (by decide) (fun c14 => ?_) (fun c14 => ?_)
    · replace h := m_ifT c14 h
      exact k131 st v5 v6 t0 H locs ls h I (lv_sub hl [1, 2, 3, 4, 5, 6, 7, 0] rfl)
    · replace h := m_ifF c14 h
      refine lv_aload_n X.1 X.2.1 dX3_shifts_124 rfl (lv_at hl 1 rfl) ?_
      refine lv_iload_n X.1 X.2.1 dX3_shifts_125 rfl (lv_at hl 3 rfl) ?_
      refine lv_iload X.1 X.2.1 dX3_shifts_126 (lv_at hl 0 rfl) ?_
      obtain ⟨s18, e17, h⟩ := m_bS h
      refine m_callV X hl.1 I hA (As := [.int v2, .int t0]) (rest := []) (c_sends l n D d st v2 t0 _ e17) 2 q1915 q1917 qs88 q107 q1918 (hd_sends) rfl rfl ⟨Nat.le_trans (Nat.le_of_ble_eq_true rfl) hR.1, Nat.le_trans (Nat.le_of_ble_eq_true rfl) hR.2⟩ ⟨rfl, rfl⟩ ⟨Nat.zero_le _, Nat.zero_le _⟩ (Nat.le_of_ble_eq_true rfl) dX3_shifts_128 (fun H locs I => ?_)
      exact k131 s18 v5 v6 t0 H locs ls h I (lv_sub hl [1, 2, 3, 4, 5, 6, 7, 0] rfl)
  have k99 : ∀ (st : MS) (v5 : Int32) (t0 : Int32) (H : Heap) (locs : List Loc) (ls : Array Slot), f_shifts_J99 n st v1 v2 v3 v4 v5 t0 = some r → m_I D A d s.heap st H locs → lv_has ls 8 [(0, .ref d.1), (1, .int v1), (2, .int v2), (3, .int v3), (4, .int v4), (5, .int v5)] → W p l e R s m args below meth c H locs 0 0 Q (F0 m 99 ls [.int t0]) := by
    intro st v5 t0 H locs ls h I hl
    unfold f_shifts_J99 at h
    refine lv_istore (lv' := [(6, .int t0), (0, .ref d.1), (1, .int v1), (2, .int v2), (3, .int v3), (4, .int v4), (5, .int v5)]) X.1 X.2.1 dX3_shifts_99 hl (by decide) rfl (fun ls hl => ?_)
    refine lv_iload X.1 X.2.1 dX3_shifts_101 (lv_at hl 0 rfl) ?_
    refine lv_if_eq (tgt := 116) X.1 X.2.1 dX3_shifts_103 (by decide) (fun c13 => ?_) (fun c13 => ?_)
    · replace h := m_ifT c13 h
      refine lv_iconst (v := 0) X.1 X.2.1 dX3_shifts_116 (by decide) ?_
      exact k117 st v5 t0 0 H locs ls h I (lv_sub hl [1, 2, 3, 4, 5, 6, 0] rfl)
    · replace h := m_ifF c13 h
      refine lv_aload_n X.1 X.2.1 dX3_shifts_106 rfl (lv_at hl 1 rfl) ?_
      refine lv_iload_n X.1 X.2.1 dX3_shifts_107 rfl (lv_at hl 3 rfl) ?_
      refine lv_iload X.1 X.2.1 dX3_shifts_108 (lv_at hl 6 rfl) ?_
      obtain ⟨r20, e19, h⟩ := m_bS h
      refine m_callI X hl.1 I hA (As := [.int v2, .int v5]) (rest := []) (c_wayMay l n D d st v2 v5 _ e19) 2 q1911 q1913 qs87 q107 q1914 (hd_wayMay) rfl rfl ⟨Nat.le_trans (Nat.le_of_ble_eq_true rfl) hR.1, Nat.le_trans (Nat.le_of_ble_eq_true rfl) hR.2⟩ ⟨rfl, rfl⟩ ⟨Nat.zero_le _, Nat.zero_le _⟩ (Nat.le_of_ble_eq_true rfl) dX3_shifts_110 (fun H locs I => ?_)
      refine lv_goto (tgt := 117) X.1 X.2.1 dX3_shifts_113 (by decide) ?_
      exact k117 st v5 t0 r20 H locs ls h I (lv_sub hl [1, 2, 3, 4, 5, 6, 0] rfl)
  have k98 : ∀ (st : MS) (v5 : Int32) (H : Heap) (locs : List Loc) (ls : Array Slot), f_shifts_J98 n st v1 v2 v3 v4 v5 = some r → m_I D A d s.heap st H locs → lv_has ls 8 [(0, .ref d.1), (1, .int v1), (2, .int v2), (3, .int v3), (4, .int v4), (5, .int v5)] → W p l e R s m args below meth c H locs 0 0 Q (F0 m 98 ls []) := by
    intro st v5 H locs ls h I hl
    unfold f_shifts_J98 at h
    refine lv_iconst (v := 0) X.1 X.2.1 dX3_shifts_98 (by decide) ?_
    exact k99 st v5 0 H locs ls h I (lv_sub hl [0, 1, 2, 3, 4, 5] rfl)
  unfold f_shifts_L16 at h
  refine lv_iload X.1 X.2.1 dX3_shifts_16 (lv_at hl 6 rfl) ?_
  refine lv_if_eq (tgt := 158) X.1 X.2.1 dX3_shifts_18 (by decide) (fun c2 => ?_) (fun c2 => ?_)
  · replace h := m_ifT c2 h
    cases h
    exact hr H locs ls I (lv_sub hl [4, 5] rfl)
  · replace h := m_ifF c2 h
    refine lv_iconst (v := 0) X.1 X.2.1 dX3_shifts_21 (by decide) ?_
    refine lv_istore (lv' := [(7, .int 0), (0, .ref d.1), (1, .int v1), (2, .int v2), (3, .int v3), (4, .int v4), (5, .int v5), (6, .int v6)]) X.1 X.2.1 dX3_shifts_22 hl (by decide) rfl (fun ls hl => ?_)
    obtain ⟨s8, e7, h⟩ := m_bS h
    refine wf_shifts_L24 X hA hR n v1 v2 v3 v4 v5 _ _ e7 (fun H locs ls I hl => ?_) H locs ls I (lv_sub hl [1, 2, 3, 4, 5, 6, 0] rfl)
    refine lv_aload_n X.1 X.2.1 dX3_shifts_65 rfl (lv_at hl 0 rfl) ?_
    obtain ⟨s10, e9, h⟩ := m_bS h
    refine m_callV X hl.1 I hA (As := []) (rest := []) (c_laysWays l n D d s8  _ e9) 0 q1896 q1898 qs84 q107 q1899 (hd_laysWays) rfl rfl ⟨Nat.le_trans (Nat.le_of_ble_eq_true rfl) hR.1, Nat.le_trans (Nat.le_of_ble_eq_true rfl) hR.2⟩ ⟨rfl, rfl⟩ ⟨Nat.zero_le _, Nat.zero_le _⟩ (Nat.le_of_ble_eq_true rfl) dX3_shifts_66 (fun H locs I => ?_)
    refine lv_aload_n X.1 X.2.1 dX3_shifts_69 rfl (lv_at hl 0 rfl) ?_
    refine m_get X I 27 (by decide) rfl rfl rfl q1544 (v := .ref (d.2.1 27)) rfl dX3_shifts_70 ?_
    refine lv_iload_n X.1 X.2.1 dX3_shifts_73 rfl (lv_at hl 2 rfl) ?_
    obtain ⟨g11, h⟩ := m_gS h
    refine m_iald X I 16 (n := 16) (f := s10.2.1 27) rfl g11 dX3_shifts_74 ?_
    refine lv_ldcw (v := 1000000) X.1 X.2.1 X.2.2.2.1 (X.2.2.1 _ q1895) dX3_shifts_75 ?_
    refine lv_icmp_ge (tgt := 98) X.1 X.2.1 dX3_shifts_78 (by decide) (fun c12 => ?_) (fun c12 => ?_)
    · replace h := m_ifT c12 h
      exact k98 s10 v5 H locs ls h I (lv_sub hl [0, 1, 2, 3, 4, 5] rfl)
    · replace h := m_ifF c12 h
      refine lv_aload_n X.1 X.2.1 dX3_shifts_81 rfl (lv_at hl 0 rfl) ?_
      refine m_get X I 27 (by decide) rfl rfl rfl q1544 (v := .ref (d.2.1 27)) rfl dX3_shifts_82 ?_
      refine lv_iload_n X.1 X.2.1 dX3_shifts_85 rfl (lv_at hl 2 rfl) ?_
      obtain ⟨g21, h⟩ := m_gS h
      refine m_iald X I 16 (n := 16) (f := s10.2.1 27) rfl g21 dX3_shifts_86 ?_
      refine lv_bipush (v := 6) X.1 X.2.1 dX3_shifts_87 (by decide) ?_
      refine lv_ishr X.1 X.2.1 dX3_shifts_89 ?_
      refine lv_iload_n X.1 X.2.1 dX3_shifts_90 rfl (lv_at hl 3 rfl) ?_
      refine lv_icmp_ne (tgt := 98) X.1 X.2.1 dX3_shifts_91 (by decide) (fun c22 => ?_) (fun c22 => ?_)
      · replace h := m_ifF c22 h
        exact k98 s10 v5 H locs ls h I (lv_sub hl [0, 1, 2, 3, 4, 5] rfl)
      · replace h := m_ifT c22 h
        refine lv_iconst (v := 1) X.1 X.2.1 dX3_shifts_94 (by decide) ?_
        refine lv_goto (tgt := 99) X.1 X.2.1 dX3_shifts_95 (by decide) ?_
        exact k99 s10 v5 1 H locs ls h I (lv_sub hl [0, 1, 2, 3, 4, 5] rfl)
theorem w_shifts (X : m_X D A d p s m c cX3_shifts 8 args) (hA : ∀ q, s.heap.size ≤ q → A q) (hR : 3 ≤ R.frames ∧ 71 ≤ R.locals) (n : Nat) (st : MS) (p0 : Int32) (p1 : Int32) (p2 : Int32) (p3 : Int32) (r : (Int32 × MS)) (h : f_shifts n st p0 p1 p2 p3 = some r) (hret : ∀ (H : Heap) (locs : List Loc) (ls : Array Slot) (pc : Nat), decode cX3_shifts pc = .ok (.ireturn, 1) → m_I D A d s.heap r.2 H locs → W p l e R s m args below meth c H locs 0 0 Q (F0 m pc ls [.int r.1])) : ∀ (H : Heap) (locs : List Loc) (ls : Array Slot), m_I D A d s.heap st H locs → lv_has ls 8 [(0, .ref d.1), (1, .int p0), (2, .int p1), (3, .int p2), (4, .int p3)] → W p l e R s m args below meth c H locs 0 0 Q (F0 m 0 ls []) := by
  obtain ⟨r0, s0⟩ := r
  have k14 : ∀ (st : MS) (v1 : Int32) (v2 : Int32) (v3 : Int32) (v4 : Int32) (v5 : Int32) (t0 : Int32) (H : Heap) (locs : List Loc) (ls : Array Slot), f_shifts_J14 n st v1 v2 v3 v4 v5 t0 = some (r0, s0) → m_I D A d s.heap st H locs → lv_has ls 8 [(0, .ref d.1), (1, .int v1), (2, .int v2), (3, .int v3), (4, .int v4), (5, .int v5)] → W p l e R s m args below meth c H locs 0 0 Q (F0 m 14 ls [.int t0]) := by
    intro st v1 v2 v3 v4 v5 t0 H locs ls h I hl
    unfold f_shifts_J14 at h
    refine lv_istore (lv' := [(6, .int t0), (0, .ref d.1), (1, .int v1), (2, .int v2), (3, .int v3), (4, .int v4), (5, .int v5)]) X.1 X.2.1 dX3_shifts_14 hl (by decide) rfl (fun ls hl => ?_)
    obtain ⟨⟨z24, s25⟩, e23, h⟩ := m_bS h
    refine wf_shifts_L16 X hA hR n v1 v2 v3 v4 _ _ e23 (fun H locs ls I hl => ?_) H locs ls I (lv_sub hl [1, 2, 3, 4, 5, 6, 0] rfl)
    refine lv_iload X.1 X.2.1 dX3_shifts_158 (lv_at hl 0 rfl) ?_
    refine lv_iload X.1 X.2.1 dX3_shifts_160 (lv_at hl 1 rfl) ?_
    refine lv_isub X.1 X.2.1 dX3_shifts_162 ?_
    obtain ⟨rfl, rfl⟩ := m_e2 h
    exact hret H locs ls 163 dX3_shifts_163 I
  intro H locs ls I hl
  unfold f_shifts at h
  refine lv_iload X.1 X.2.1 dX3_shifts_0 (lv_at hl 4 rfl) ?_
  refine lv_istore (lv' := [(5, .int p3), (0, .ref d.1), (1, .int p0), (2, .int p1), (3, .int p2), (4, .int p3)]) X.1 X.2.1 dX3_shifts_2 hl (by decide) rfl (fun ls hl => ?_)
  refine lv_iload X.1 X.2.1 dX3_shifts_4 (lv_at hl 0 rfl) ?_
  refine lv_if_le (tgt := 13) X.1 X.2.1 dX3_shifts_6 (by decide) (fun c1 => ?_) (fun c1 => ?_)
  · replace h := m_ifT c1 h
    refine lv_iconst (v := 0) X.1 X.2.1 dX3_shifts_13 (by decide) ?_
    exact k14 st p0 p1 p2 p3 p3 0 H locs ls h I (lv_sub hl [1, 2, 3, 4, 5, 0] rfl)
  · replace h := m_ifF c1 h
    refine lv_iconst (v := 1) X.1 X.2.1 dX3_shifts_9 (by decide) ?_
    refine lv_goto (tgt := 14) X.1 X.2.1 dX3_shifts_10 (by decide) ?_
    exact k14 st p0 p1 p2 p3 p3 1 H locs ls h I (lv_sub hl [1, 2, 3, 4, 5, 0] rfl)
end S_shifts
theorem c_shifts (l : Launch) (n : Nat) (D : va_G) (d : MD) (st : MS) (p0 : Int32) (p1 : Int32) (p2 : Int32) (p3 : Int32) (r : Int32) (st' : MS) (h : f_shifts n st p0 p1 p2 p3 = some (r, st')) : m_Mi l yX3_shifts cX3_shifts 8 (some .int) ({ frames := 3, cells := 0, slots := 0, locals := 71 } : Room) D d st [.ref d.1, .int p0, .int p1, .int p2, .int p3] r st' :=
  m_startI (lvl := [(0, .ref d.1), (1, .int p0), (2, .int p1), (3, .int p2), (4, .int p3)]) (by decide) rfl (Nat.le_of_ble_eq_true rfl) rfl (fun p e s m args below meth c ls X hr hlk hl hA I => w_shifts X hA ⟨Nat.le_refl _, Nat.le_refl _⟩ n st p0 p1 p2 p3 (r, st') h (fun H locs ls pc hd I => m_iret X I hr hlk hd) _ _ ls I hl)

/-! method fewest(II)I -/
def f_fewest_J64 (n : Nat) (st : MS) (v2 : Int32) (v4 : Int32) (t0 : Int32) (t1 : Int32) : Option ((Int32 × Int32 × MS) ⊕ (Int32 × MS)) :=
  some (.inl ((t1 ||| t0, v4 + 1, st)))
def f_fewest_L37 (n : Nat) (v2 : Int32) (v3 : Int32) (v4 : Int32) (st : MS) : Option ((Int32 × Int32 × MS) ⊕ (Int32 × MS)) :=
  m_if ((st.1 5 : Int32) ≤ (v4 : Int32)) (some (.inr ((v3, st)))) (m_b (f_netBy n st v4) (fun r11 => m_if ((r11 : Int32) = 0) (f_fewest_J64 n st v2 v4 0 v3) (f_fewest_J64 n st v2 v4 (1 <<< (v4 &&& 31)) v3)))
def f_fewest_L37l (n : Nat) (v2 : Int32) (x : (Int32 × Int32 × MS)) : Option (Int32 × MS) := m_lp (fun (x : (Int32 × Int32 × MS)) => f_fewest_L37 n v2 x.1 x.2.1 x.2.2) n x
def f_fewest_J180 (n : Nat) (st : MS) (v2 : Int32) (v3 : Int32) (v4 : Int32) (v5 : Int32) : Option ((Int32 × MS) ⊕ MS) :=
  some (.inl ((v5 + 1, st)))
def f_fewest_J179 (n : Nat) (st : MS) (v2 : Int32) (v3 : Int32) (v4 : Int32) (v5 : Int32) (t0 : Int32) (t1 : Int32) : Option ((Int32 × MS) ⊕ MS) :=
  m_g (m_in t1 256) (f_fewest_J180 n (m_sa st 29 (t1 : Int32).toNatClampNeg t0) v2 v3 v4 v5)
def f_fewest_L111 (n : Nat) (v2 : Int32) (v3 : Int32) (v4 : Int32) (v5 : Int32) (st : MS) : Option ((Int32 × MS) ⊕ MS) :=
  m_if ((st.1 5 : Int32) ≤ (v5 : Int32)) (some (.inr st)) (m_if (((v4 >>> (v5 &&& 31)) &&& 1 : Int32) = 0) (f_fewest_J180 n st v2 v3 v4 v5) (m_g (m_in (v4 &&& ((1 <<< (v5 &&& 31)) ^^^ ((-1)))) 256) (m_b (some (st.2.1 29 (v4 &&& ((1 <<< (v5 &&& 31)) ^^^ ((-1))) : Int32).toNatClampNeg)) (fun y23 => m_g (m_in v4 256) (m_if ((y23 : Int32) ≤ (st.2.1 29 (v4 : Int32).toNatClampNeg : Int32)) (m_g (m_in v4 256) (f_fewest_J179 n st v2 v3 v4 v5 (st.2.1 29 (v4 : Int32).toNatClampNeg) v4)) (f_fewest_J179 n st v2 v3 v4 v5 y23 v4))))))
def f_fewest_L111l (n : Nat) (v2 : Int32) (v3 : Int32) (v4 : Int32) (x : (Int32 × MS)) : Option MS := m_lp (fun (x : (Int32 × MS)) => f_fewest_L111 n v2 v3 v4 x.1 x.2) n x
def f_fewest_J210 (n : Nat) (st : MS) (v2 : Int32) (v3 : Int32) (v4 : Int32) : Option ((Int32 × MS) ⊕ MS) :=
  some (.inl ((v4 + 1, st)))
def f_fewest_J208 (n : Nat) (st : MS) (v2 : Int32) (v3 : Int32) (v4 : Int32) (t0 : Int32) (t1 : Int32) (t2 : Int32) : Option ((Int32 × MS) ⊕ MS) :=
  m_g (m_in t2 256) (f_fewest_J210 n (m_sa st 29 (t2 : Int32).toNatClampNeg (t1 + t0)) v2 v3 v4)
def f_fewest_L82 (n : Nat) (v2 : Int32) (v3 : Int32) (v4 : Int32) (st : MS) : Option ((Int32 × MS) ⊕ MS) :=
  m_if ((v3 : Int32) < (v4 : Int32)) (some (.inr st)) (m_g (m_in v4 256) (m_if ((v4 &&& (v3 ^^^ ((-1))) : Int32) = 0) (m_b (f_fewest_L111l n v2 v3 v4 ((0, m_sa st 29 (v4 : Int32).toNatClampNeg 0))) (fun s30 => m_g (m_in v4 256) (m_b (f_sumBy n s30 v4) (fun r33 => m_if ((r33 : Int32) = 0) (f_fewest_J208 n s30 v2 v3 v4 1 (s30.2.1 29 (v4 : Int32).toNatClampNeg) v4) (f_fewest_J208 n s30 v2 v3 v4 0 (s30.2.1 29 (v4 : Int32).toNatClampNeg) v4))))) (f_fewest_J210 n (m_sa st 29 (v4 : Int32).toNatClampNeg 0) v2 v3 v4)))
def f_fewest_L82l (n : Nat) (v2 : Int32) (v3 : Int32) (x : (Int32 × MS)) : Option MS := m_lp (fun (x : (Int32 × MS)) => f_fewest_L82 n v2 v3 x.1 x.2) n x
def f_fewest_J23 (n : Nat) (st : MS) : Option (Int32 × MS) :=
  some ((-2), st)
def f_fewest_J241 (n : Nat) (st : MS) (t0 : Int32) : Option (Int32 × MS) :=
  some (t0, st)
def f_fewest (n : Nat) (st : MS) (p0 : Int32) (p1 : Int32) : Option (Int32 × MS) :=
  m_b (f_isKind n (m_sg st 8 0) p0) (fun r2 => m_if ((r2 : Int32) = 0) (f_fewest_J23 n (m_sg st 8 0)) (m_b (f_isIn n p1.toInt64 0 1) (fun r5 => m_if ((r5 : Int32) = 0) (f_fewest_J23 n (m_sg st 8 0)) (m_b (f_laysFlows n (m_sg st 8 0) p0 ((-1))) (fun s8 => m_b (f_fewest_L37l n p1 ((0, 0, s8))) (fun y43 => m_g (m_in 0 256) (m_b (f_fewest_L82l n p1 y43.1 ((1, m_sa y43.2 29 (0 : Int32).toNatClampNeg 0))) (fun s37 => m_if ((p1 : Int32) = (1 : Int32)) (m_g (m_in y43.1 256) (f_fewest_J241 n s37 (s37.2.1 29 (y43.1 : Int32).toNatClampNeg))) (m_b (f_bitCount n y43.1) (fun r40 => m_g (m_in y43.1 256) (f_fewest_J241 n s37 (r40 - (s37.2.1 29 (y43.1 : Int32).toNatClampNeg)))))))))))))
theorem hd_fewest : yX3_fewest.cls = RX3 ∧ yX3_fewest.cls ≠ "java/lang/invoke/MethodHandle" ∧ yX3_fewest.cls ≠ "java/lang/invoke/VarHandle" ∧ (parseMethodDescriptor yX3_fewest.desc).map (fun d => d.parameters.length) = some 2 := by decide +kernel
section S_fewest
variable {p : Program} {l : Launch} {e : Env} {R : Room} {s : State} {m : MethodId} {args : Array Value} {below : List Frame} {meth : Method} {c : Code} {Q : State → Prop} {D : va_G} {A : Nat → Prop} {d : MD}
theorem wf_fewest_L37 (X : m_X D A d p s m c cX3_fewest 7 args) (hA : ∀ q, s.heap.size ≤ q → A q) (hR : 3 ≤ R.frames ∧ 67 ≤ R.locals) (n : Nat) (v2 : Int32) (x : (Int32 × Int32 × MS)) (z : (Int32 × MS)) (hz : f_fewest_L37l n v2 x = some z) (hE : (fun (z : (Int32 × MS)) => ∀ (H : Heap) (locs : List Loc) (ls : Array Slot), m_I D A d s.heap z.2 H locs → lv_has ls 7 [(0, .ref d.1), (2, .int v2), (3, .int z.1)] → W p l e R s m args below meth c H locs 0 0 Q (F0 m 72 ls [])) z) : (fun (x : (Int32 × Int32 × MS)) => ∀ (H : Heap) (locs : List Loc) (ls : Array Slot), m_I D A d s.heap x.2.2 H locs → lv_has ls 7 [(0, .ref d.1), (2, .int v2), (3, .int x.1), (4, .int x.2.1)] → W p l e R s m args below meth c H locs 0 0 Q (F0 m 37 ls [])) x := by
  refine m_lpW (G := fun (x : (Int32 × Int32 × MS)) => ∀ (H : Heap) (locs : List Loc) (ls : Array Slot), m_I D A d s.heap x.2.2 H locs → lv_has ls 7 [(0, .ref d.1), (2, .int v2), (3, .int x.1), (4, .int x.2.1)] → W p l e R s m args below meth c H locs 0 0 Q (F0 m 37 ls [])) (E := fun (z : (Int32 × MS)) => ∀ (H : Heap) (locs : List Loc) (ls : Array Slot), m_I D A d s.heap z.2 H locs → lv_has ls 7 [(0, .ref d.1), (2, .int v2), (3, .int z.1)] → W p l e R s m args below meth c H locs 0 0 Q (F0 m 72 ls [])) ?_ n x z hz hE
  rintro ⟨v3, v4, st⟩ r h hr H locs ls I hl
  replace h : f_fewest_L37 n v2 v3 v4 st = some r := h
  have k64 : ∀ (st : MS) (v4 : Int32) (t0 : Int32) (t1 : Int32) (H : Heap) (locs : List Loc) (ls : Array Slot), f_fewest_J64 n st v2 v4 t0 t1 = some r → m_I D A d s.heap st H locs → lv_has ls 7 [(0, .ref d.1), (2, .int v2), (4, .int v4)] → W p l e R s m args below meth c H locs 0 0 Q (F0 m 64 ls [.int t0, .int t1]) := by
    intro st v4 t0 t1 H locs ls h I hl
    unfold f_fewest_J64 at h
    refine lv_ior X.1 X.2.1 dX3_fewest_64 ?_
    refine lv_istore_n (lv' := [(3, .int (t1 ||| t0)), (0, .ref d.1), (2, .int v2), (4, .int v4)]) X.1 X.2.1 dX3_fewest_65 rfl hl (by decide) rfl (fun ls hl => ?_)
    refine lv_iinc (v := v4 + 1) (lv' := [(4, .int (v4 + 1)), (3, .int (t1 ||| t0)), (0, .ref d.1), (2, .int v2)]) X.1 X.2.1 dX3_fewest_66 hl (k := 3) rfl rfl (by decide) rfl (fun ls hl => ?_)
    refine lv_goto (tgt := 37) X.1 X.2.1 dX3_fewest_69 (by decide) ?_
    cases h
    exact hr H locs ls I (lv_sub hl [2, 3, 1, 0] rfl)
  unfold f_fewest_L37 at h
  refine lv_iload X.1 X.2.1 dX3_fewest_37 (lv_at hl 3 rfl) ?_
  refine lv_aload_n X.1 X.2.1 dX3_fewest_39 rfl (lv_at hl 0 rfl) ?_
  refine m_get X I 5 (by decide) rfl rfl rfl q1522 (v := .int (st.1 5)) rfl dX3_fewest_40 ?_
  refine lv_icmp_ge (tgt := 72) X.1 X.2.1 dX3_fewest_43 (by decide) (fun c9 => ?_) (fun c9 => ?_)
  · replace h := m_ifT c9 h
    cases h
    exact hr H locs ls I (lv_sub hl [0, 1, 2] rfl)
  · replace h := m_ifF c9 h
    refine lv_iload_n X.1 X.2.1 dX3_fewest_46 rfl (lv_at hl 2 rfl) ?_
    refine lv_aload_n X.1 X.2.1 dX3_fewest_47 rfl (lv_at hl 0 rfl) ?_
    refine lv_iload X.1 X.2.1 dX3_fewest_48 (lv_at hl 3 rfl) ?_
    obtain ⟨r11, e10, h⟩ := m_bS h
    refine m_callI X hl.1 I hA (As := [.int v4]) (rest := [.int v3]) (c_netBy l n D d st v4 _ e10) 1 q1792 q1794 qs70 q107 q1795 (hd_netBy) rfl rfl ⟨Nat.le_trans (Nat.le_of_ble_eq_true rfl) hR.1, Nat.le_trans (Nat.le_of_ble_eq_true rfl) hR.2⟩ ⟨rfl, rfl⟩ ⟨Nat.zero_le _, Nat.zero_le _⟩ (Nat.le_of_ble_eq_true rfl) dX3_fewest_50 (fun H locs I => ?_)
    refine lv_if_eq (tgt := 63) X.1 X.2.1 dX3_fewest_53 (by decide) (fun c12 => ?_) (fun c12 => ?_)
    · replace h := m_ifT c12 h
      refine lv_iconst (v := 0) X.1 X.2.1 dX3_fewest_63 (by decide) ?_
      exact k64 st v4 0 v3 H locs ls h I (lv_sub hl [0, 1, 3] rfl)
    · replace h := m_ifF c12 h
      refine lv_iconst (v := 1) X.1 X.2.1 dX3_fewest_56 (by decide) ?_
      refine lv_iload X.1 X.2.1 dX3_fewest_57 (lv_at hl 3 rfl) ?_
      refine lv_ishl X.1 X.2.1 dX3_fewest_59 ?_
      refine lv_goto (tgt := 64) X.1 X.2.1 dX3_fewest_60 (by decide) ?_
      exact k64 st v4 (1 <<< (v4 &&& 31)) v3 H locs ls h I (lv_sub hl [0, 1, 3] rfl)
theorem wf_fewest_L111 (X : m_X D A d p s m c cX3_fewest 7 args) (hA : ∀ q, s.heap.size ≤ q → A q) (hR : 3 ≤ R.frames ∧ 67 ≤ R.locals) (n : Nat) (v2 : Int32) (v3 : Int32) (v4 : Int32) (x : (Int32 × MS)) (z : MS) (hz : f_fewest_L111l n v2 v3 v4 x = some z) (hE : (fun (z : MS) => ∀ (H : Heap) (locs : List Loc) (ls : Array Slot), m_I D A d s.heap z H locs → lv_has ls 7 [(0, .ref d.1), (2, .int v2), (3, .int v3), (4, .int v4)] → W p l e R s m args below meth c H locs 0 0 Q (F0 m 186 ls [])) z) : (fun (x : (Int32 × MS)) => ∀ (H : Heap) (locs : List Loc) (ls : Array Slot), m_I D A d s.heap x.2 H locs → lv_has ls 7 [(0, .ref d.1), (2, .int v2), (3, .int v3), (4, .int v4), (5, .int x.1)] → W p l e R s m args below meth c H locs 0 0 Q (F0 m 111 ls [])) x := by
  refine m_lpW (G := fun (x : (Int32 × MS)) => ∀ (H : Heap) (locs : List Loc) (ls : Array Slot), m_I D A d s.heap x.2 H locs → lv_has ls 7 [(0, .ref d.1), (2, .int v2), (3, .int v3), (4, .int v4), (5, .int x.1)] → W p l e R s m args below meth c H locs 0 0 Q (F0 m 111 ls [])) (E := fun (z : MS) => ∀ (H : Heap) (locs : List Loc) (ls : Array Slot), m_I D A d s.heap z H locs → lv_has ls 7 [(0, .ref d.1), (2, .int v2), (3, .int v3), (4, .int v4)] → W p l e R s m args below meth c H locs 0 0 Q (F0 m 186 ls [])) ?_ n x z hz hE
  rintro ⟨v5, st⟩ r h hr H locs ls I hl
  replace h : f_fewest_L111 n v2 v3 v4 v5 st = some r := h
  have k180 : ∀ (st : MS) (v5 : Int32) (H : Heap) (locs : List Loc) (ls : Array Slot), f_fewest_J180 n st v2 v3 v4 v5 = some r → m_I D A d s.heap st H locs → lv_has ls 7 [(0, .ref d.1), (2, .int v2), (3, .int v3), (4, .int v4), (5, .int v5)] → W p l e R s m args below meth c H locs 0 0 Q (F0 m 180 ls []) := by
    intro st v5 H locs ls h I hl
    unfold f_fewest_J180 at h
    refine lv_iinc (v := v5 + 1) (lv' := [(5, .int (v5 + 1)), (0, .ref d.1), (2, .int v2), (3, .int v3), (4, .int v4)]) X.1 X.2.1 dX3_fewest_180 hl (k := 4) rfl rfl (by decide) rfl (fun ls hl => ?_)
    refine lv_goto (tgt := 111) X.1 X.2.1 dX3_fewest_183 (by decide) ?_
    cases h
    exact hr H locs ls I (lv_sub hl [1, 2, 3, 4, 0] rfl)
  have k179 : ∀ (st : MS) (v5 : Int32) (t0 : Int32) (t1 : Int32) (H : Heap) (locs : List Loc) (ls : Array Slot), f_fewest_J179 n st v2 v3 v4 v5 t0 t1 = some r → m_I D A d s.heap st H locs → lv_has ls 7 [(0, .ref d.1), (2, .int v2), (3, .int v3), (4, .int v4), (5, .int v5)] → W p l e R s m args below meth c H locs 0 0 Q (F0 m 179 ls [.int t0, .int t1, .ref (d.2.1 29)]) := by
    intro st v5 t0 t1 H locs ls h I hl
    unfold f_fewest_J179 at h
    obtain ⟨g28, h⟩ := m_gS h
    refine m_iast X I 18 (n := 256) (f := st.2.1 29) rfl (m_st29 d _ _ _) g28 dX3_fewest_179 (fun H locs I => ?_)
    exact k180 (m_sa st 29 (t1 : Int32).toNatClampNeg t0) v5 H locs ls h I (lv_sub hl [0, 1, 2, 3, 4] rfl)
  unfold f_fewest_L111 at h
  refine lv_iload X.1 X.2.1 dX3_fewest_111 (lv_at hl 4 rfl) ?_
  refine lv_aload_n X.1 X.2.1 dX3_fewest_113 rfl (lv_at hl 0 rfl) ?_
  refine m_get X I 5 (by decide) rfl rfl rfl q1522 (v := .int (st.1 5)) rfl dX3_fewest_114 ?_
  refine lv_icmp_ge (tgt := 186) X.1 X.2.1 dX3_fewest_117 (by decide) (fun c20 => ?_) (fun c20 => ?_)
  · replace h := m_ifT c20 h
    cases h
    exact hr H locs ls I (lv_sub hl [0, 1, 2, 3] rfl)
  · replace h := m_ifF c20 h
    refine lv_iload X.1 X.2.1 dX3_fewest_120 (lv_at hl 3 rfl) ?_
    refine lv_iload X.1 X.2.1 dX3_fewest_122 (lv_at hl 4 rfl) ?_
    refine lv_ishr X.1 X.2.1 dX3_fewest_124 ?_
    refine lv_iconst (v := 1) X.1 X.2.1 dX3_fewest_125 (by decide) ?_
    refine lv_iand X.1 X.2.1 dX3_fewest_126 ?_
    refine lv_if_ne (tgt := 133) X.1 X.2.1 dX3_fewest_127 (by decide) (fun c21 => ?_) (fun c21 => ?_)
    · replace h := m_ifF c21 h
      refine lv_aload_n X.1 X.2.1 dX3_fewest_133 rfl (lv_at hl 0 rfl) ?_
      refine m_get X I 29 (by decide) rfl rfl rfl q1546 (v := .ref (d.2.1 29)) rfl dX3_fewest_134 ?_
      refine lv_iload X.1 X.2.1 dX3_fewest_137 (lv_at hl 3 rfl) ?_
      refine lv_iconst (v := 1) X.1 X.2.1 dX3_fewest_139 (by decide) ?_
      refine lv_iload X.1 X.2.1 dX3_fewest_140 (lv_at hl 4 rfl) ?_
      refine lv_ishl X.1 X.2.1 dX3_fewest_142 ?_
      refine lv_iconst (v := (-1)) X.1 X.2.1 dX3_fewest_143 (by decide) ?_
      refine lv_ixor X.1 X.2.1 dX3_fewest_144 ?_
      refine lv_iand X.1 X.2.1 dX3_fewest_145 ?_
      obtain ⟨g22, h⟩ := m_gS h
      refine m_iald X I 18 (n := 256) (f := st.2.1 29) rfl g22 dX3_fewest_146 ?_
      obtain ⟨y23, e24, h⟩ := m_bS h
      rw [m_e1 e24]
      refine lv_istore (lv' := [(6, .int y23), (0, .ref d.1), (2, .int v2), (3, .int v3), (4, .int v4), (5, .int v5)]) X.1 X.2.1 dX3_fewest_147 hl (by decide) rfl (fun ls hl => ?_)
      refine lv_aload_n X.1 X.2.1 dX3_fewest_149 rfl (lv_at hl 1 rfl) ?_
      refine m_get X I 29 (by decide) rfl rfl rfl q1546 (v := .ref (d.2.1 29)) rfl dX3_fewest_150 ?_
      refine lv_iload X.1 X.2.1 dX3_fewest_153 (lv_at hl 4 rfl) ?_
      refine lv_iload X.1 X.2.1 dX3_fewest_155 (lv_at hl 0 rfl) ?_
      refine lv_aload_n X.1 X.2.1 dX3_fewest_157 rfl (lv_at hl 1 rfl) ?_
      refine m_get X I 29 (by decide) rfl rfl rfl q1546 (v := .ref (d.2.1 29)) rfl dX3_fewest_158 ?_
      refine lv_iload X.1 X.2.1 dX3_fewest_161 (lv_at hl 4 rfl) ?_
      obtain ⟨g25, h⟩ := m_gS h
      refine m_iald X I 18 (n := 256) (f := st.2.1 29) rfl g25 dX3_fewest_163 ?_
      refine lv_icmp_le (tgt := 172) X.1 X.2.1 dX3_fewest_164 (by decide) (fun c26 => ?_) (fun c26 => ?_)
      · replace h := m_ifT c26 h
        refine lv_aload_n X.1 X.2.1 dX3_fewest_172 rfl (lv_at hl 1 rfl) ?_
        refine m_get X I 29 (by decide) rfl rfl rfl q1546 (v := .ref (d.2.1 29)) rfl dX3_fewest_173 ?_
        refine lv_iload X.1 X.2.1 dX3_fewest_176 (lv_at hl 4 rfl) ?_
        obtain ⟨g27, h⟩ := m_gS h
        refine m_iald X I 18 (n := 256) (f := st.2.1 29) rfl g27 dX3_fewest_178 ?_
        exact k179 st v5 (st.2.1 29 (v4 : Int32).toNatClampNeg) v4 H locs ls h I (lv_sub hl [1, 2, 3, 4, 5] rfl)
      · replace h := m_ifF c26 h
        refine lv_iload X.1 X.2.1 dX3_fewest_167 (lv_at hl 0 rfl) ?_
        refine lv_goto (tgt := 179) X.1 X.2.1 dX3_fewest_169 (by decide) ?_
        exact k179 st v5 y23 v4 H locs ls h I (lv_sub hl [1, 2, 3, 4, 5] rfl)
    · replace h := m_ifT c21 h
      refine lv_goto (tgt := 180) X.1 X.2.1 dX3_fewest_130 (by decide) ?_
      exact k180 st v5 H locs ls h I (lv_sub hl [0, 1, 2, 3, 4] rfl)
theorem wf_fewest_L82 (X : m_X D A d p s m c cX3_fewest 7 args) (hA : ∀ q, s.heap.size ≤ q → A q) (hR : 3 ≤ R.frames ∧ 67 ≤ R.locals) (n : Nat) (v2 : Int32) (v3 : Int32) (x : (Int32 × MS)) (z : MS) (hz : f_fewest_L82l n v2 v3 x = some z) (hE : (fun (z : MS) => ∀ (H : Heap) (locs : List Loc) (ls : Array Slot), m_I D A d s.heap z H locs → lv_has ls 7 [(0, .ref d.1), (2, .int v2), (3, .int v3)] → W p l e R s m args below meth c H locs 0 0 Q (F0 m 216 ls [])) z) : (fun (x : (Int32 × MS)) => ∀ (H : Heap) (locs : List Loc) (ls : Array Slot), m_I D A d s.heap x.2 H locs → lv_has ls 7 [(0, .ref d.1), (2, .int v2), (3, .int v3), (4, .int x.1)] → W p l e R s m args below meth c H locs 0 0 Q (F0 m 82 ls [])) x := by
  refine m_lpW (G := fun (x : (Int32 × MS)) => ∀ (H : Heap) (locs : List Loc) (ls : Array Slot), m_I D A d s.heap x.2 H locs → lv_has ls 7 [(0, .ref d.1), (2, .int v2), (3, .int v3), (4, .int x.1)] → W p l e R s m args below meth c H locs 0 0 Q (F0 m 82 ls [])) (E := fun (z : MS) => ∀ (H : Heap) (locs : List Loc) (ls : Array Slot), m_I D A d s.heap z H locs → lv_has ls 7 [(0, .ref d.1), (2, .int v2), (3, .int v3)] → W p l e R s m args below meth c H locs 0 0 Q (F0 m 216 ls [])) ?_ n x z hz hE
  rintro ⟨v4, st⟩ r h hr H locs ls I hl
  replace h : f_fewest_L82 n v2 v3 v4 st = some r := h
  have k210 : ∀ (st : MS) (v4 : Int32) (H : Heap) (locs : List Loc) (ls : Array Slot), f_fewest_J210 n st v2 v3 v4 = some r → m_I D A d s.heap st H locs → lv_has ls 7 [(0, .ref d.1), (2, .int v2), (3, .int v3), (4, .int v4)] → W p l e R s m args below meth c H locs 0 0 Q (F0 m 210 ls []) := by
    intro st v4 H locs ls h I hl
    unfold f_fewest_J210 at h
    refine lv_iinc (v := v4 + 1) (lv' := [(4, .int (v4 + 1)), (0, .ref d.1), (2, .int v2), (3, .int v3)]) X.1 X.2.1 dX3_fewest_210 hl (k := 3) rfl rfl (by decide) rfl (fun ls hl => ?_)
    refine lv_goto (tgt := 82) X.1 X.2.1 dX3_fewest_213 (by decide) ?_
    cases h
    exact hr H locs ls I (lv_sub hl [1, 2, 3, 0] rfl)
  have k208 : ∀ (st : MS) (v4 : Int32) (t0 : Int32) (t1 : Int32) (t2 : Int32) (H : Heap) (locs : List Loc) (ls : Array Slot), f_fewest_J208 n st v2 v3 v4 t0 t1 t2 = some r → m_I D A d s.heap st H locs → lv_has ls 7 [(0, .ref d.1), (2, .int v2), (3, .int v3), (4, .int v4)] → W p l e R s m args below meth c H locs 0 0 Q (F0 m 208 ls [.int t0, .int t1, .int t2, .ref (d.2.1 29)]) := by
    intro st v4 t0 t1 t2 H locs ls h I hl
    unfold f_fewest_J208 at h
    refine lv_iadd X.1 X.2.1 dX3_fewest_208 ?_
    obtain ⟨g35, h⟩ := m_gS h
    refine m_iast X I 18 (n := 256) (f := st.2.1 29) rfl (m_st29 d _ _ _) g35 dX3_fewest_209 (fun H locs I => ?_)
    exact k210 (m_sa st 29 (t2 : Int32).toNatClampNeg (t1 + t0)) v4 H locs ls h I (lv_sub hl [0, 1, 2, 3] rfl)
  unfold f_fewest_L82 at h
  refine lv_iload X.1 X.2.1 dX3_fewest_82 (lv_at hl 3 rfl) ?_
  refine lv_iload_n X.1 X.2.1 dX3_fewest_84 rfl (lv_at hl 2 rfl) ?_
  refine lv_icmp_gt (tgt := 216) X.1 X.2.1 dX3_fewest_85 (by decide) (fun c17 => ?_) (fun c17 => ?_)
  · replace h := m_ifT c17 h
    cases h
    exact hr H locs ls I (lv_sub hl [0, 1, 2] rfl)
  · replace h := m_ifF c17 h
    refine lv_aload_n X.1 X.2.1 dX3_fewest_88 rfl (lv_at hl 0 rfl) ?_
    refine m_get X I 29 (by decide) rfl rfl rfl q1546 (v := .ref (d.2.1 29)) rfl dX3_fewest_89 ?_
    refine lv_iload X.1 X.2.1 dX3_fewest_92 (lv_at hl 3 rfl) ?_
    refine lv_iconst (v := 0) X.1 X.2.1 dX3_fewest_94 (by decide) ?_
    obtain ⟨g18, h⟩ := m_gS h
    refine m_iast X I 18 (n := 256) (f := st.2.1 29) rfl (m_st29 d _ _ _) g18 dX3_fewest_95 (fun H locs I => ?_)
    refine lv_iload X.1 X.2.1 dX3_fewest_96 (lv_at hl 3 rfl) ?_
    refine lv_iload_n X.1 X.2.1 dX3_fewest_98 rfl (lv_at hl 2 rfl) ?_
    refine lv_iconst (v := (-1)) X.1 X.2.1 dX3_fewest_99 (by decide) ?_
    refine lv_ixor X.1 X.2.1 dX3_fewest_100 ?_
    refine lv_iand X.1 X.2.1 dX3_fewest_101 ?_
    refine lv_if_eq (tgt := 108) X.1 X.2.1 dX3_fewest_102 (by decide) (fun c19 => ?_) (fun c19 => ?_)
    · replace h := m_ifT c19 h
      refine lv_iconst (v := 0) X.1 X.2.1 dX3_fewest_108 (by decide) ?_
      refine lv_istore (lv' := [(5, .int 0), (0, .ref d.1), (2, .int v2), (3, .int v3), (4, .int v4)]) X.1 X.2.1 dX3_fewest_109 hl (by decide) rfl (fun ls hl => ?_)
      obtain ⟨s30, e29, h⟩ := m_bS h
      refine wf_fewest_L111 X hA hR n v2 v3 v4 _ _ e29 (fun H locs ls I hl => ?_) H locs ls I (lv_sub hl [1, 2, 3, 4, 0] rfl)
      refine lv_aload_n X.1 X.2.1 dX3_fewest_186 rfl (lv_at hl 0 rfl) ?_
      refine m_get X I 29 (by decide) rfl rfl rfl q1546 (v := .ref (d.2.1 29)) rfl dX3_fewest_187 ?_
      refine lv_iload X.1 X.2.1 dX3_fewest_190 (lv_at hl 3 rfl) ?_
      refine lv_dup2_11 X.1 X.2.1 dX3_fewest_192 rfl rfl ?_
      obtain ⟨g31, h⟩ := m_gS h
      refine m_iald X I 18 (n := 256) (f := s30.2.1 29) rfl g31 dX3_fewest_193 ?_
      refine lv_aload_n X.1 X.2.1 dX3_fewest_194 rfl (lv_at hl 0 rfl) ?_
      refine lv_iload X.1 X.2.1 dX3_fewest_195 (lv_at hl 3 rfl) ?_
      obtain ⟨r33, e32, h⟩ := m_bS h
      refine m_callI X hl.1 I hA (As := [.int v4]) (rest := [.int (s30.2.1 29 (v4 : Int32).toNatClampNeg), .int v4, .ref (d.2.1 29)]) (c_sumBy l n D d s30 v4 _ e32) 1 q1991 q1993 qs95 q107 q1994 (hd_sumBy) rfl rfl ⟨Nat.le_trans (Nat.le_of_ble_eq_true rfl) hR.1, Nat.le_trans (Nat.le_of_ble_eq_true rfl) hR.2⟩ ⟨rfl, rfl⟩ ⟨Nat.zero_le _, Nat.zero_le _⟩ (Nat.le_of_ble_eq_true rfl) dX3_fewest_197 (fun H locs I => ?_)
      refine lv_if_ne (tgt := 207) X.1 X.2.1 dX3_fewest_200 (by decide) (fun c34 => ?_) (fun c34 => ?_)
      · replace h := m_ifF c34 h
        refine lv_iconst (v := 0) X.1 X.2.1 dX3_fewest_207 (by decide) ?_
        exact k208 s30 v4 0 (s30.2.1 29 (v4 : Int32).toNatClampNeg) v4 H locs ls h I (lv_sub hl [0, 1, 2, 3] rfl)
      · replace h := m_ifT c34 h
        refine lv_iconst (v := 1) X.1 X.2.1 dX3_fewest_203 (by decide) ?_
        refine lv_goto (tgt := 208) X.1 X.2.1 dX3_fewest_204 (by decide) ?_
        exact k208 s30 v4 1 (s30.2.1 29 (v4 : Int32).toNatClampNeg) v4 H locs ls h I (lv_sub hl [0, 1, 2, 3] rfl)
    · replace h := m_ifF c19 h
      refine lv_goto (tgt := 210) X.1 X.2.1 dX3_fewest_105 (by decide) ?_
      exact k210 (m_sa st 29 (v4 : Int32).toNatClampNeg 0) v4 H locs ls h I (lv_sub hl [0, 1, 2, 3] rfl)
theorem w_fewest (X : m_X D A d p s m c cX3_fewest 7 args) (hA : ∀ q, s.heap.size ≤ q → A q) (hR : 3 ≤ R.frames ∧ 67 ≤ R.locals) (n : Nat) (st : MS) (p0 : Int32) (p1 : Int32) (r : (Int32 × MS)) (h : f_fewest n st p0 p1 = some r) (hret : ∀ (H : Heap) (locs : List Loc) (ls : Array Slot) (pc : Nat), decode cX3_fewest pc = .ok (.ireturn, 1) → m_I D A d s.heap r.2 H locs → W p l e R s m args below meth c H locs 0 0 Q (F0 m pc ls [.int r.1])) : ∀ (H : Heap) (locs : List Loc) (ls : Array Slot), m_I D A d s.heap st H locs → lv_has ls 7 [(0, .ref d.1), (1, .int p0), (2, .int p1)] → W p l e R s m args below meth c H locs 0 0 Q (F0 m 0 ls []) := by
  obtain ⟨r0, s0⟩ := r
  have k23 : ∀ (st : MS) (H : Heap) (locs : List Loc) (ls : Array Slot), f_fewest_J23 n st = some (r0, s0) → m_I D A d s.heap st H locs → lv_has ls 7 [] → W p l e R s m args below meth c H locs 0 0 Q (F0 m 23 ls []) := by
    intro st H locs ls h I hl
    unfold f_fewest_J23 at h
    refine lv_bipush (v := (-2)) X.1 X.2.1 dX3_fewest_23 (by decide) ?_
    obtain ⟨rfl, rfl⟩ := m_e2 h
    exact hret H locs ls 25 dX3_fewest_25 I
  have k241 : ∀ (st : MS) (t0 : Int32) (H : Heap) (locs : List Loc) (ls : Array Slot), f_fewest_J241 n st t0 = some (r0, s0) → m_I D A d s.heap st H locs → lv_has ls 7 [] → W p l e R s m args below meth c H locs 0 0 Q (F0 m 241 ls [.int t0]) := by
    intro st t0 H locs ls h I hl
    unfold f_fewest_J241 at h
    obtain ⟨rfl, rfl⟩ := m_e2 h
    exact hret H locs ls 241 dX3_fewest_241 I
  intro H locs ls I hl
  unfold f_fewest at h
  refine lv_aload_n X.1 X.2.1 dX3_fewest_0 rfl (lv_at hl 0 rfl) ?_
  refine lv_iconst (v := 0) X.1 X.2.1 dX3_fewest_1 (by decide) ?_
  refine m_put X I 8 (by decide) rfl rfl rfl q1525 rfl (m_set8 d _ _) dX3_fewest_2 (fun H locs I => ?_)
  refine lv_aload_n X.1 X.2.1 dX3_fewest_5 rfl (lv_at hl 0 rfl) ?_
  refine lv_iload_n X.1 X.2.1 dX3_fewest_6 rfl (lv_at hl 1 rfl) ?_
  obtain ⟨r2, e1, h⟩ := m_bS h
  refine m_callI X hl.1 I hA (As := [.int p0]) (rest := []) (c_isKind l n D d (m_sg st 8 0) p0 _ e1) 1 q1724 q1726 qs63 q107 q1727 (hd_isKind) rfl rfl ⟨Nat.le_trans (Nat.le_of_ble_eq_true rfl) hR.1, Nat.le_trans (Nat.le_of_ble_eq_true rfl) hR.2⟩ ⟨rfl, rfl⟩ ⟨Nat.zero_le _, Nat.zero_le _⟩ (Nat.le_of_ble_eq_true rfl) dX3_fewest_7 (fun H locs I => ?_)
  refine lv_if_eq (tgt := 23) X.1 X.2.1 dX3_fewest_10 (by decide) (fun c3 => ?_) (fun c3 => ?_)
  · replace h := m_ifT c3 h
    exact k23 (m_sg st 8 0) H locs ls h I (lv_sub hl [] rfl)
  · replace h := m_ifF c3 h
    refine lv_iload_n X.1 X.2.1 dX3_fewest_13 rfl (lv_at hl 2 rfl) ?_
    refine lv_i2l X.1 X.2.1 dX3_fewest_14 rfl ?_
    refine lv_lconst (v := 0) X.1 X.2.1 dX3_fewest_15 (by decide) ?_
    refine lv_lconst (v := 1) X.1 X.2.1 dX3_fewest_16 (by decide) ?_
    obtain ⟨r5, e4, h⟩ := m_bS h
    refine m_callS X hl.1 (As := [.long p1.toInt64, .long 0, .long 1]) (rest := []) (c_isIn l n p1.toInt64 0 1 _ e4) 3 q1623 q1624 q107 q1625 (hd_isIn).2 rfl rfl ⟨Nat.le_trans (Nat.le_of_ble_eq_true rfl) hR.1, Nat.le_trans (Nat.le_of_ble_eq_true rfl) hR.2⟩ ⟨rfl, rfl⟩ ⟨Nat.zero_le _, Nat.zero_le _⟩ (Nat.le_of_ble_eq_true rfl) dX3_fewest_17 ?_
    refine lv_if_ne (tgt := 26) X.1 X.2.1 dX3_fewest_20 (by decide) (fun c6 => ?_) (fun c6 => ?_)
    · replace h := m_ifF c6 h
      refine lv_aload_n X.1 X.2.1 dX3_fewest_26 rfl (lv_at hl 0 rfl) ?_
      refine lv_iload_n X.1 X.2.1 dX3_fewest_27 rfl (lv_at hl 1 rfl) ?_
      refine lv_iconst (v := (-1)) X.1 X.2.1 dX3_fewest_28 (by decide) ?_
      obtain ⟨s8, e7, h⟩ := m_bS h
      refine m_callV X hl.1 I hA (As := [.int p0, .int ((-1))]) (rest := []) (c_laysFlows l n D d (m_sg st 8 0) p0 ((-1)) _ e7) 2 q1772 q1774 qs67 q107 q1775 (hd_laysFlows) rfl rfl ⟨Nat.le_trans (Nat.le_of_ble_eq_true rfl) hR.1, Nat.le_trans (Nat.le_of_ble_eq_true rfl) hR.2⟩ ⟨rfl, rfl⟩ ⟨Nat.zero_le _, Nat.zero_le _⟩ (Nat.le_of_ble_eq_true rfl) dX3_fewest_29 (fun H locs I => ?_)
      refine lv_iconst (v := 0) X.1 X.2.1 dX3_fewest_32 (by decide) ?_
      refine lv_istore_n (lv' := [(3, .int 0), (0, .ref d.1), (1, .int p0), (2, .int p1)]) X.1 X.2.1 dX3_fewest_33 rfl hl (by decide) rfl (fun ls hl => ?_)
      refine lv_iconst (v := 0) X.1 X.2.1 dX3_fewest_34 (by decide) ?_
      refine lv_istore (lv' := [(4, .int 0), (3, .int 0), (0, .ref d.1), (1, .int p0), (2, .int p1)]) X.1 X.2.1 dX3_fewest_35 hl (by decide) rfl (fun ls hl => ?_)
      obtain ⟨⟨z14, s15⟩, e13, h⟩ := m_bS h
      refine wf_fewest_L37 X hA hR n p1 _ _ e13 (fun H locs ls I hl => ?_) H locs ls I (lv_sub hl [2, 4, 1, 0] rfl)
      refine lv_aload_n X.1 X.2.1 dX3_fewest_72 rfl (lv_at hl 0 rfl) ?_
      refine m_get X I 29 (by decide) rfl rfl rfl q1546 (v := .ref (d.2.1 29)) rfl dX3_fewest_73 ?_
      refine lv_iconst (v := 0) X.1 X.2.1 dX3_fewest_76 (by decide) ?_
      refine lv_iconst (v := 0) X.1 X.2.1 dX3_fewest_77 (by decide) ?_
      obtain ⟨g16, h⟩ := m_gS h
      refine m_iast X I 18 (n := 256) (f := s15.2.1 29) rfl (m_st29 d _ _ _) g16 dX3_fewest_78 (fun H locs I => ?_)
      refine lv_iconst (v := 1) X.1 X.2.1 dX3_fewest_79 (by decide) ?_
      refine lv_istore (lv' := [(4, .int 1), (0, .ref d.1), (2, .int p1), (3, .int z14)]) X.1 X.2.1 dX3_fewest_80 hl (by decide) rfl (fun ls hl => ?_)
      obtain ⟨s37, e36, h⟩ := m_bS h
      refine wf_fewest_L82 X hA hR n p1 z14 _ _ e36 (fun H locs ls I hl => ?_) H locs ls I (lv_sub hl [1, 2, 3, 0] rfl)
      refine lv_iload_n X.1 X.2.1 dX3_fewest_216 rfl (lv_at hl 1 rfl) ?_
      refine lv_iconst (v := 1) X.1 X.2.1 dX3_fewest_217 (by decide) ?_
      refine lv_icmp_ne (tgt := 230) X.1 X.2.1 dX3_fewest_218 (by decide) (fun c38 => ?_) (fun c38 => ?_)
      · replace h := m_ifF c38 h
        refine lv_iload_n X.1 X.2.1 dX3_fewest_230 rfl (lv_at hl 2 rfl) ?_
        obtain ⟨r40, e39, h⟩ := m_bS h
        refine m_callS X hl.1 (As := [.int z14]) (rest := []) (c_bitCount l n z14 _ e39) 1 q1805 q1200 q131 q1201 (hd_bitCount).2 rfl rfl ⟨Nat.le_trans (Nat.le_of_ble_eq_true rfl) hR.1, Nat.le_trans (Nat.le_of_ble_eq_true rfl) hR.2⟩ ⟨rfl, rfl⟩ ⟨Nat.zero_le _, Nat.zero_le _⟩ (Nat.le_of_ble_eq_true rfl) dX3_fewest_231 ?_
        refine lv_aload_n X.1 X.2.1 dX3_fewest_234 rfl (lv_at hl 0 rfl) ?_
        refine m_get X I 29 (by decide) rfl rfl rfl q1546 (v := .ref (d.2.1 29)) rfl dX3_fewest_235 ?_
        refine lv_iload_n X.1 X.2.1 dX3_fewest_238 rfl (lv_at hl 2 rfl) ?_
        obtain ⟨g41, h⟩ := m_gS h
        refine m_iald X I 18 (n := 256) (f := s37.2.1 29) rfl g41 dX3_fewest_239 ?_
        refine lv_isub X.1 X.2.1 dX3_fewest_240 ?_
        exact k241 s37 (r40 - (s37.2.1 29 (z14 : Int32).toNatClampNeg)) H locs ls h I (lv_sub hl [] rfl)
      · replace h := m_ifT c38 h
        refine lv_aload_n X.1 X.2.1 dX3_fewest_221 rfl (lv_at hl 0 rfl) ?_
        refine m_get X I 29 (by decide) rfl rfl rfl q1546 (v := .ref (d.2.1 29)) rfl dX3_fewest_222 ?_
        refine lv_iload_n X.1 X.2.1 dX3_fewest_225 rfl (lv_at hl 2 rfl) ?_
        obtain ⟨g42, h⟩ := m_gS h
        refine m_iald X I 18 (n := 256) (f := s37.2.1 29) rfl g42 dX3_fewest_226 ?_
        refine lv_goto (tgt := 241) X.1 X.2.1 dX3_fewest_227 (by decide) ?_
        exact k241 s37 (s37.2.1 29 (z14 : Int32).toNatClampNeg) H locs ls h I (lv_sub hl [] rfl)
    · replace h := m_ifT c6 h
      exact k23 (m_sg st 8 0) H locs ls h I (lv_sub hl [] rfl)
end S_fewest
theorem c_fewest (l : Launch) (n : Nat) (D : va_G) (d : MD) (st : MS) (p0 : Int32) (p1 : Int32) (r : Int32) (st' : MS) (h : f_fewest n st p0 p1 = some (r, st')) : m_Mi l yX3_fewest cX3_fewest 7 (some .int) ({ frames := 3, cells := 0, slots := 0, locals := 67 } : Room) D d st [.ref d.1, .int p0, .int p1] r st' :=
  m_startI (lvl := [(0, .ref d.1), (1, .int p0), (2, .int p1)]) (by decide) rfl (Nat.le_of_ble_eq_true rfl) rfl (fun p e s m args below meth c ls X hr hlk hl hA I => w_fewest X hA ⟨Nat.le_refl _, Nat.le_refl _⟩ n st p0 p1 (r, st') h (fun H locs ls pc hd I => m_iret X I hr hlk hd) _ _ ls I hl)

/-! method even(II)I -/
def f_even_J31 (n : Nat) (st : MS) : Option (Int32 × MS) :=
  some ((-2), st)
def f_even_J64 (n : Nat) (st : MS) (t0 : Int32) : Option (Int32 × MS) :=
  some (t0, st)
def f_even (n : Nat) (st : MS) (p0 : Int32) (p1 : Int32) : Option (Int32 × MS) :=
  m_b (f_isKind n (m_sg st 8 0) p1) (fun r2 => m_if ((r2 : Int32) = 0) (f_even_J31 n (m_sg st 8 0)) (m_b (f_isIn n p0.toInt64 0 (((1 <<< (((m_sg st 8 0).1 5) &&& 31)) - 1 : Int32).toInt64)) (fun r5 => m_if ((r5 : Int32) = 0) (f_even_J31 n (m_sg st 8 0)) (m_b (f_bitCount n p0) (fun r8 => m_if ((2 : Int32) ≤ (r8 : Int32)) (m_b (f_laysFlows n (m_sg st 8 0) p1 ((-1))) (fun s11 => m_b (f_sumBy n s11 p0) (fun r13 => m_if ((r13 : Int32) = 0) (f_even_J64 n s11 1) (f_even_J64 n s11 0)))) (some ((-3), m_sg st 8 0)))))))
theorem hd_even : yX3_even.cls = RX3 ∧ yX3_even.cls ≠ "java/lang/invoke/MethodHandle" ∧ yX3_even.cls ≠ "java/lang/invoke/VarHandle" ∧ (parseMethodDescriptor yX3_even.desc).map (fun d => d.parameters.length) = some 2 := by decide +kernel
section S_even
variable {p : Program} {l : Launch} {e : Env} {R : Room} {s : State} {m : MethodId} {args : Array Value} {below : List Frame} {meth : Method} {c : Code} {Q : State → Prop} {D : va_G} {A : Nat → Prop} {d : MD}
theorem w_even (X : m_X D A d p s m c cX3_even 3 args) (hA : ∀ q, s.heap.size ≤ q → A q) (hR : 3 ≤ R.frames ∧ 67 ≤ R.locals) (n : Nat) (st : MS) (p0 : Int32) (p1 : Int32) (r : (Int32 × MS)) (h : f_even n st p0 p1 = some r) (hret : ∀ (H : Heap) (locs : List Loc) (ls : Array Slot) (pc : Nat), decode cX3_even pc = .ok (.ireturn, 1) → m_I D A d s.heap r.2 H locs → W p l e R s m args below meth c H locs 0 0 Q (F0 m pc ls [.int r.1])) : ∀ (H : Heap) (locs : List Loc) (ls : Array Slot), m_I D A d s.heap st H locs → lv_has ls 3 [(0, .ref d.1), (1, .int p0), (2, .int p1)] → W p l e R s m args below meth c H locs 0 0 Q (F0 m 0 ls []) := by
  obtain ⟨r0, s0⟩ := r
  have k31 : ∀ (st : MS) (H : Heap) (locs : List Loc) (ls : Array Slot), f_even_J31 n st = some (r0, s0) → m_I D A d s.heap st H locs → lv_has ls 3 [] → W p l e R s m args below meth c H locs 0 0 Q (F0 m 31 ls []) := by
    intro st H locs ls h I hl
    unfold f_even_J31 at h
    refine lv_bipush (v := (-2)) X.1 X.2.1 dX3_even_31 (by decide) ?_
    obtain ⟨rfl, rfl⟩ := m_e2 h
    exact hret H locs ls 33 dX3_even_33 I
  have k64 : ∀ (st : MS) (t0 : Int32) (H : Heap) (locs : List Loc) (ls : Array Slot), f_even_J64 n st t0 = some (r0, s0) → m_I D A d s.heap st H locs → lv_has ls 3 [] → W p l e R s m args below meth c H locs 0 0 Q (F0 m 64 ls [.int t0]) := by
    intro st t0 H locs ls h I hl
    unfold f_even_J64 at h
    obtain ⟨rfl, rfl⟩ := m_e2 h
    exact hret H locs ls 64 dX3_even_64 I
  intro H locs ls I hl
  unfold f_even at h
  refine lv_aload_n X.1 X.2.1 dX3_even_0 rfl (lv_at hl 0 rfl) ?_
  refine lv_iconst (v := 0) X.1 X.2.1 dX3_even_1 (by decide) ?_
  refine m_put X I 8 (by decide) rfl rfl rfl q1525 rfl (m_set8 d _ _) dX3_even_2 (fun H locs I => ?_)
  refine lv_aload_n X.1 X.2.1 dX3_even_5 rfl (lv_at hl 0 rfl) ?_
  refine lv_iload_n X.1 X.2.1 dX3_even_6 rfl (lv_at hl 2 rfl) ?_
  obtain ⟨r2, e1, h⟩ := m_bS h
  refine m_callI X hl.1 I hA (As := [.int p1]) (rest := []) (c_isKind l n D d (m_sg st 8 0) p1 _ e1) 1 q1724 q1726 qs63 q107 q1727 (hd_isKind) rfl rfl ⟨Nat.le_trans (Nat.le_of_ble_eq_true rfl) hR.1, Nat.le_trans (Nat.le_of_ble_eq_true rfl) hR.2⟩ ⟨rfl, rfl⟩ ⟨Nat.zero_le _, Nat.zero_le _⟩ (Nat.le_of_ble_eq_true rfl) dX3_even_7 (fun H locs I => ?_)
  refine lv_if_eq (tgt := 31) X.1 X.2.1 dX3_even_10 (by decide) (fun c3 => ?_) (fun c3 => ?_)
  · replace h := m_ifT c3 h
    exact k31 (m_sg st 8 0) H locs ls h I (lv_sub hl [] rfl)
  · replace h := m_ifF c3 h
    refine lv_iload_n X.1 X.2.1 dX3_even_13 rfl (lv_at hl 1 rfl) ?_
    refine lv_i2l X.1 X.2.1 dX3_even_14 rfl ?_
    refine lv_lconst (v := 0) X.1 X.2.1 dX3_even_15 (by decide) ?_
    refine lv_iconst (v := 1) X.1 X.2.1 dX3_even_16 (by decide) ?_
    refine lv_aload_n X.1 X.2.1 dX3_even_17 rfl (lv_at hl 0 rfl) ?_
    refine m_get X I 5 (by decide) rfl rfl rfl q1522 (v := .int ((m_sg st 8 0).1 5)) rfl dX3_even_18 ?_
    refine lv_ishl X.1 X.2.1 dX3_even_21 ?_
    refine lv_iconst (v := 1) X.1 X.2.1 dX3_even_22 (by decide) ?_
    refine lv_isub X.1 X.2.1 dX3_even_23 ?_
    refine lv_i2l X.1 X.2.1 dX3_even_24 rfl ?_
    obtain ⟨r5, e4, h⟩ := m_bS h
    refine m_callS X hl.1 (As := [.long p0.toInt64, .long 0, .long (((1 <<< (((m_sg st 8 0).1 5) &&& 31)) - 1 : Int32).toInt64)]) (rest := []) (c_isIn l n p0.toInt64 0 (((1 <<< (((m_sg st 8 0).1 5) &&& 31)) - 1 : Int32).toInt64) _ e4) 3 q1623 q1624 q107 q1625 (hd_isIn).2 rfl rfl ⟨Nat.le_trans (Nat.le_of_ble_eq_true rfl) hR.1, Nat.le_trans (Nat.le_of_ble_eq_true rfl) hR.2⟩ ⟨rfl, rfl⟩ ⟨Nat.zero_le _, Nat.zero_le _⟩ (Nat.le_of_ble_eq_true rfl) dX3_even_25 ?_
    refine lv_if_ne (tgt := 34) X.1 X.2.1 dX3_even_28 (by decide) (fun c6 => ?_) (fun c6 => ?_)
    · replace h := m_ifF c6 h
      refine lv_iload_n X.1 X.2.1 dX3_even_34 rfl (lv_at hl 1 rfl) ?_
      obtain ⟨r8, e7, h⟩ := m_bS h
      refine m_callS X hl.1 (As := [.int p0]) (rest := []) (c_bitCount l n p0 _ e7) 1 q1805 q1200 q131 q1201 (hd_bitCount).2 rfl rfl ⟨Nat.le_trans (Nat.le_of_ble_eq_true rfl) hR.1, Nat.le_trans (Nat.le_of_ble_eq_true rfl) hR.2⟩ ⟨rfl, rfl⟩ ⟨Nat.zero_le _, Nat.zero_le _⟩ (Nat.le_of_ble_eq_true rfl) dX3_even_35 ?_
      refine lv_iconst (v := 2) X.1 X.2.1 dX3_even_38 (by decide) ?_
      refine lv_icmp_ge (tgt := 45) X.1 X.2.1 dX3_even_39 (by decide) (fun c9 => ?_) (fun c9 => ?_)
      · replace h := m_ifT c9 h
        refine lv_aload_n X.1 X.2.1 dX3_even_45 rfl (lv_at hl 0 rfl) ?_
        refine lv_iload_n X.1 X.2.1 dX3_even_46 rfl (lv_at hl 2 rfl) ?_
        refine lv_iconst (v := (-1)) X.1 X.2.1 dX3_even_47 (by decide) ?_
        obtain ⟨s11, e10, h⟩ := m_bS h
        refine m_callV X hl.1 I hA (As := [.int p1, .int ((-1))]) (rest := []) (c_laysFlows l n D d (m_sg st 8 0) p1 ((-1)) _ e10) 2 q1772 q1774 qs67 q107 q1775 (hd_laysFlows) rfl rfl ⟨Nat.le_trans (Nat.le_of_ble_eq_true rfl) hR.1, Nat.le_trans (Nat.le_of_ble_eq_true rfl) hR.2⟩ ⟨rfl, rfl⟩ ⟨Nat.zero_le _, Nat.zero_le _⟩ (Nat.le_of_ble_eq_true rfl) dX3_even_48 (fun H locs I => ?_)
        refine lv_aload_n X.1 X.2.1 dX3_even_51 rfl (lv_at hl 0 rfl) ?_
        refine lv_iload_n X.1 X.2.1 dX3_even_52 rfl (lv_at hl 1 rfl) ?_
        obtain ⟨r13, e12, h⟩ := m_bS h
        refine m_callI X hl.1 I hA (As := [.int p0]) (rest := []) (c_sumBy l n D d s11 p0 _ e12) 1 q1991 q1993 qs95 q107 q1994 (hd_sumBy) rfl rfl ⟨Nat.le_trans (Nat.le_of_ble_eq_true rfl) hR.1, Nat.le_trans (Nat.le_of_ble_eq_true rfl) hR.2⟩ ⟨rfl, rfl⟩ ⟨Nat.zero_le _, Nat.zero_le _⟩ (Nat.le_of_ble_eq_true rfl) dX3_even_53 (fun H locs I => ?_)
        refine lv_if_ne (tgt := 63) X.1 X.2.1 dX3_even_56 (by decide) (fun c14 => ?_) (fun c14 => ?_)
        · replace h := m_ifF c14 h
          refine lv_iconst (v := 0) X.1 X.2.1 dX3_even_63 (by decide) ?_
          exact k64 s11 0 H locs ls h I (lv_sub hl [] rfl)
        · replace h := m_ifT c14 h
          refine lv_iconst (v := 1) X.1 X.2.1 dX3_even_59 (by decide) ?_
          refine lv_goto (tgt := 64) X.1 X.2.1 dX3_even_60 (by decide) ?_
          exact k64 s11 1 H locs ls h I (lv_sub hl [] rfl)
      · replace h := m_ifF c9 h
        refine lv_bipush (v := (-3)) X.1 X.2.1 dX3_even_42 (by decide) ?_
        obtain ⟨rfl, rfl⟩ := m_e2 h
        exact hret H locs ls 44 dX3_even_44 I
    · replace h := m_ifT c6 h
      exact k31 (m_sg st 8 0) H locs ls h I (lv_sub hl [] rfl)
end S_even
theorem c_even (l : Launch) (n : Nat) (D : va_G) (d : MD) (st : MS) (p0 : Int32) (p1 : Int32) (r : Int32) (st' : MS) (h : f_even n st p0 p1 = some (r, st')) : m_Mi l yX3_even cX3_even 3 (some .int) ({ frames := 3, cells := 0, slots := 0, locals := 67 } : Room) D d st [.ref d.1, .int p0, .int p1] r st' :=
  m_startI (lvl := [(0, .ref d.1), (1, .int p0), (2, .int p1)]) (by decide) rfl (Nat.le_of_ble_eq_true rfl) rfl (fun p e s m args below meth c ls X hr hlk hl hA I => w_even X hA ⟨Nat.le_refl _, Nat.le_refl _⟩ n st p0 p1 (r, st') h (fun H locs ls pc hd I => m_iret X I hr hlk hd) _ _ ls I hl)

/-! method putsName(J)V -/
def f_putsName_J31 (n : Nat) (st : MS) (v1 : Int64) (v3 : Int32) : Option ((Int32 × MS) ⊕ MS) :=
  some (.inl ((v3 + (-8), st)))
def f_putsName_L3 (n : Nat) (v1 : Int64) (v3 : Int32) (st : MS) : Option ((Int32 × MS) ⊕ MS) :=
  m_if ((v3 : Int32) < 0) (some (.inr st)) (m_if ((lg_cmp ((v1 >>> (v3.toInt64 &&& 63)) &&& 255) 0 : Int32) = 0) (f_putsName_J31 n st v1 v3) (m_b (f_puts n st (((v1 >>> (v3.toInt64 &&& 63)) &&& 255).toInt32)) (fun s4 => f_putsName_J31 n s4 v1 v3)))
def f_putsName_L3l (n : Nat) (v1 : Int64) (x : (Int32 × MS)) : Option MS := m_lp (fun (x : (Int32 × MS)) => f_putsName_L3 n v1 x.1 x.2) n x
def f_putsName (n : Nat) (st : MS) (p0 : Int64) : Option (MS) :=
  m_b (f_putsName_L3l n p0 ((56, st))) (fun s6 => some s6)
theorem hd_putsName : yX3_putsName.cls = RX3 ∧ yX3_putsName.cls ≠ "java/lang/invoke/MethodHandle" ∧ yX3_putsName.cls ≠ "java/lang/invoke/VarHandle" ∧ (parseMethodDescriptor yX3_putsName.desc).map (fun d => d.parameters.length) = some 1 := by decide +kernel
section S_putsName
variable {p : Program} {l : Launch} {e : Env} {R : Room} {s : State} {m : MethodId} {args : Array Value} {below : List Frame} {meth : Method} {c : Code} {Q : State → Prop} {D : va_G} {A : Nat → Prop} {d : MD}
theorem wf_putsName_L3 (X : m_X D A d p s m c cX3_putsName 4 args) (hA : ∀ q, s.heap.size ≤ q → A q) (hR : 1 ≤ R.frames ∧ 21 ≤ R.locals) (n : Nat) (v1 : Int64) (x : (Int32 × MS)) (z : MS) (hz : f_putsName_L3l n v1 x = some z) (hE : (fun (z : MS) => ∀ (H : Heap) (locs : List Loc) (ls : Array Slot), m_I D A d s.heap z H locs → lv_has ls 4 [] → W p l e R s m args below meth c H locs 0 0 Q (F0 m 37 ls [])) z) : (fun (x : (Int32 × MS)) => ∀ (H : Heap) (locs : List Loc) (ls : Array Slot), m_I D A d s.heap x.2 H locs → lv_has ls 4 [(0, .ref d.1), (1, .long v1), (3, .int x.1)] → W p l e R s m args below meth c H locs 0 0 Q (F0 m 3 ls [])) x := by
  refine m_lpW (G := fun (x : (Int32 × MS)) => ∀ (H : Heap) (locs : List Loc) (ls : Array Slot), m_I D A d s.heap x.2 H locs → lv_has ls 4 [(0, .ref d.1), (1, .long v1), (3, .int x.1)] → W p l e R s m args below meth c H locs 0 0 Q (F0 m 3 ls [])) (E := fun (z : MS) => ∀ (H : Heap) (locs : List Loc) (ls : Array Slot), m_I D A d s.heap z H locs → lv_has ls 4 [] → W p l e R s m args below meth c H locs 0 0 Q (F0 m 37 ls [])) ?_ n x z hz hE
  rintro ⟨v3, st⟩ r h hr H locs ls I hl
  replace h : f_putsName_L3 n v1 v3 st = some r := h
  have k31 : ∀ (st : MS) (v3 : Int32) (H : Heap) (locs : List Loc) (ls : Array Slot), f_putsName_J31 n st v1 v3 = some r → m_I D A d s.heap st H locs → lv_has ls 4 [(0, .ref d.1), (1, .long v1), (3, .int v3)] → W p l e R s m args below meth c H locs 0 0 Q (F0 m 31 ls []) := by
    intro st v3 H locs ls h I hl
    unfold f_putsName_J31 at h
    refine lv_iinc (v := v3 + (-8)) (lv' := [(3, .int (v3 + (-8))), (0, .ref d.1), (1, .long v1)]) X.1 X.2.1 dX3_putsName_31 hl (k := 2) rfl rfl (by decide) rfl (fun ls hl => ?_)
    refine lv_goto (tgt := 3) X.1 X.2.1 dX3_putsName_34 (by decide) ?_
    cases h
    exact hr H locs ls I (lv_sub hl [1, 2, 0] rfl)
  unfold f_putsName_L3 at h
  refine lv_iload_n X.1 X.2.1 dX3_putsName_3 rfl (lv_at hl 2 rfl) ?_
  refine lv_if_lt (tgt := 37) X.1 X.2.1 dX3_putsName_4 (by decide) (fun c1 => ?_) (fun c1 => ?_)
  · replace h := m_ifT c1 h
    cases h
    exact hr H locs ls I (lv_sub hl [] rfl)
  · replace h := m_ifF c1 h
    refine lv_lload_n X.1 X.2.1 dX3_putsName_7 rfl (lv_at hl 1 rfl) ?_
    refine lv_iload_n X.1 X.2.1 dX3_putsName_8 rfl (lv_at hl 2 rfl) ?_
    refine lv_lshr X.1 X.2.1 dX3_putsName_9 rfl ?_
    refine lv_ldc2 (v := 255) X.1 X.2.1 X.2.2.2.1 (X.2.2.1 _ q2007) dX3_putsName_10 ?_
    refine lv_land X.1 X.2.1 dX3_putsName_13 ?_
    refine lv_lconst (v := 0) X.1 X.2.1 dX3_putsName_14 (by decide) ?_
    refine W.lcmp X.1 X.2.1 dX3_putsName_15 ?_
    refine lv_if_eq (tgt := 31) X.1 X.2.1 dX3_putsName_16 (by decide) (fun c2 => ?_) (fun c2 => ?_)
    · replace h := m_ifT c2 h
      exact k31 st v3 H locs ls h I (lv_sub hl [0, 1, 2] rfl)
    · replace h := m_ifF c2 h
      refine lv_aload_n X.1 X.2.1 dX3_putsName_19 rfl (lv_at hl 0 rfl) ?_
      refine lv_lload_n X.1 X.2.1 dX3_putsName_20 rfl (lv_at hl 1 rfl) ?_
      refine lv_iload_n X.1 X.2.1 dX3_putsName_21 rfl (lv_at hl 2 rfl) ?_
      refine lv_lshr X.1 X.2.1 dX3_putsName_22 rfl ?_
      refine lv_ldc2 (v := 255) X.1 X.2.1 X.2.2.2.1 (X.2.2.1 _ q2007) dX3_putsName_23 ?_
      refine lv_land X.1 X.2.1 dX3_putsName_26 ?_
      refine lv_l2i X.1 X.2.1 dX3_putsName_27 rfl ?_
      obtain ⟨s4, e3, h⟩ := m_bS h
      refine m_callV X hl.1 I hA (As := [.int (((v1 >>> (v3.toInt64 &&& 63)) &&& 255).toInt32)]) (rest := []) (c_puts l n D d st (((v1 >>> (v3.toInt64 &&& 63)) &&& 255).toInt32) _ e3) 1 q2008 q2010 qs97 q107 q2011 (hd_puts) rfl rfl ⟨Nat.le_trans (Nat.le_of_ble_eq_true rfl) hR.1, Nat.le_trans (Nat.le_of_ble_eq_true rfl) hR.2⟩ ⟨rfl, rfl⟩ ⟨Nat.zero_le _, Nat.zero_le _⟩ (Nat.le_of_ble_eq_true rfl) dX3_putsName_28 (fun H locs I => ?_)
      exact k31 s4 v3 H locs ls h I (lv_sub hl [0, 1, 2] rfl)
theorem w_putsName (X : m_X D A d p s m c cX3_putsName 4 args) (hA : ∀ q, s.heap.size ≤ q → A q) (hR : 1 ≤ R.frames ∧ 21 ≤ R.locals) (n : Nat) (st : MS) (p0 : Int64) (r : MS) (h : f_putsName n st p0 = some r) (hret : ∀ (H : Heap) (locs : List Loc) (ls : Array Slot) (pc : Nat), decode cX3_putsName pc = .ok (.return_, 1) → m_I D A d s.heap r H locs → W p l e R s m args below meth c H locs 0 0 Q (F0 m pc ls [])) : ∀ (H : Heap) (locs : List Loc) (ls : Array Slot), m_I D A d s.heap st H locs → lv_has ls 4 [(0, .ref d.1), (1, .long p0)] → W p l e R s m args below meth c H locs 0 0 Q (F0 m 0 ls []) := by
  intro H locs ls I hl
  unfold f_putsName at h
  refine lv_bipush (v := 56) X.1 X.2.1 dX3_putsName_0 (by decide) ?_
  refine lv_istore_n (lv' := [(3, .int 56), (0, .ref d.1), (1, .long p0)]) X.1 X.2.1 dX3_putsName_2 rfl hl (by decide) rfl (fun ls hl => ?_)
  obtain ⟨s6, e5, h⟩ := m_bS h
  refine wf_putsName_L3 X hA hR n p0 _ _ e5 (fun H locs ls I hl => ?_) H locs ls I (lv_sub hl [1, 2, 0] rfl)
  obtain rfl := m_e1 h
  exact hret H locs ls 37 dX3_putsName_37 I
end S_putsName
theorem c_putsName (l : Launch) (n : Nat) (D : va_G) (d : MD) (st : MS) (p0 : Int64) (st' : MS) (h : f_putsName n st p0 = some st') : m_Mv l yX3_putsName cX3_putsName 4 none ({ frames := 1, cells := 0, slots := 0, locals := 21 } : Room) D d st [.ref d.1, .long p0] st' :=
  m_startV (lvl := [(0, .ref d.1), (1, .long p0)]) (by decide) rfl (Nat.le_of_ble_eq_true rfl) rfl (fun p e s m args below meth c ls X hr hlk hl hA I => w_putsName X hA ⟨Nat.le_refl _, Nat.le_refl _⟩ n st p0 st' h (fun H locs ls pc hd I => m_vret X I hr hlk hd) _ _ ls I hl)

/-! method count(I)I -/
def f_count (n : Nat) (st : MS) (p0 : Int32) : Option (Int32 × MS) :=
  m_if ((p0 : Int32) = 0) (some ((m_sg st 8 0).1 5, m_sg st 8 0)) (m_if ((p0 : Int32) = 1) (some ((m_sg st 8 0).1 6, m_sg st 8 0)) (m_if ((p0 : Int32) = 2) (m_g (m_in 0 266) (some ((m_sg st 8 0).2.1 0 (0 : Int32).toNatClampNeg, m_sg st 8 0))) (m_if ((p0 : Int32) = 3) (m_b (f_keptMany n (m_sg st 8 0)) (fun r4 => some (r4, m_sg st 8 0))) (m_if ((p0 : Int32) = 4) (m_g (m_in 1 266) (some ((m_sg st 8 0).2.1 0 (1 : Int32).toNatClampNeg, m_sg st 8 0))) (m_if ((p0 : Int32) = 5) (some ((m_sg st 8 0).1 7, m_sg st 8 0)) (m_if ((p0 : Int32) = 6) (some ((m_sg st 8 0).1 10, m_sg st 8 0)) (some ((-1), m_sg st 8 0))))))))
theorem hd_count : yX3_count.cls = RX3 ∧ yX3_count.cls ≠ "java/lang/invoke/MethodHandle" ∧ yX3_count.cls ≠ "java/lang/invoke/VarHandle" ∧ (parseMethodDescriptor yX3_count.desc).map (fun d => d.parameters.length) = some 1 := by decide +kernel
section S_count
variable {p : Program} {l : Launch} {e : Env} {R : Room} {s : State} {m : MethodId} {args : Array Value} {below : List Frame} {meth : Method} {c : Code} {Q : State → Prop} {D : va_G} {A : Nat → Prop} {d : MD}
theorem w_count (X : m_X D A d p s m c cX3_count 2 args) (hA : ∀ q, s.heap.size ≤ q → A q) (hR : 2 ≤ R.frames ∧ 44 ≤ R.locals) (n : Nat) (st : MS) (p0 : Int32) (r : (Int32 × MS)) (h : f_count n st p0 = some r) (hret : ∀ (H : Heap) (locs : List Loc) (ls : Array Slot) (pc : Nat), decode cX3_count pc = .ok (.ireturn, 1) → m_I D A d s.heap r.2 H locs → W p l e R s m args below meth c H locs 0 0 Q (F0 m pc ls [.int r.1])) : ∀ (H : Heap) (locs : List Loc) (ls : Array Slot), m_I D A d s.heap st H locs → lv_has ls 2 [(0, .ref d.1), (1, .int p0)] → W p l e R s m args below meth c H locs 0 0 Q (F0 m 0 ls []) := by
  obtain ⟨r0, s0⟩ := r
  intro H locs ls I hl
  unfold f_count at h
  refine lv_aload_n X.1 X.2.1 dX3_count_0 rfl (lv_at hl 0 rfl) ?_
  refine lv_iconst (v := 0) X.1 X.2.1 dX3_count_1 (by decide) ?_
  refine m_put X I 8 (by decide) rfl rfl rfl q1525 rfl (m_set8 d _ _) dX3_count_2 (fun H locs I => ?_)
  refine lv_iload_n X.1 X.2.1 dX3_count_5 rfl (lv_at hl 1 rfl) ?_
  by_cases c6 : (p0 : Int32) = 0
  · replace h := m_ifT c6 h
    refine lv_tableIn (tgt := 48) X.1 X.2.1 dX3_count_6 (by rw [c6]; decide) (by rw [c6]; decide) (by rw [c6]; rfl) (by decide) ?_
    refine lv_aload_n X.1 X.2.1 dX3_count_48 rfl (lv_at hl 0 rfl) ?_
    refine m_get X I 5 (by decide) rfl rfl rfl q1522 (v := .int ((m_sg st 8 0).1 5)) rfl dX3_count_49 ?_
    obtain ⟨rfl, rfl⟩ := m_e2 h
    exact hret H locs ls 52 dX3_count_52 I
  replace h := m_ifF c6 h
  by_cases c7 : (p0 : Int32) = 1
  · replace h := m_ifT c7 h
    refine lv_tableIn (tgt := 53) X.1 X.2.1 dX3_count_6 (by rw [c7]; decide) (by rw [c7]; decide) (by rw [c7]; rfl) (by decide) ?_
    refine lv_aload_n X.1 X.2.1 dX3_count_53 rfl (lv_at hl 0 rfl) ?_
    refine m_get X I 6 (by decide) rfl rfl rfl q1523 (v := .int ((m_sg st 8 0).1 6)) rfl dX3_count_54 ?_
    obtain ⟨rfl, rfl⟩ := m_e2 h
    exact hret H locs ls 57 dX3_count_57 I
  replace h := m_ifF c7 h
  by_cases c8 : (p0 : Int32) = 2
  · replace h := m_ifT c8 h
    refine lv_tableIn (tgt := 58) X.1 X.2.1 dX3_count_6 (by rw [c8]; decide) (by rw [c8]; decide) (by rw [c8]; rfl) (by decide) ?_
    refine lv_aload_n X.1 X.2.1 dX3_count_58 rfl (lv_at hl 0 rfl) ?_
    refine m_get X I 0 (by decide) rfl rfl rfl q1517 (v := .ref (d.2.1 0)) rfl dX3_count_59 ?_
    refine lv_iconst (v := 0) X.1 X.2.1 dX3_count_62 (by decide) ?_
    obtain ⟨g2, h⟩ := m_gS h
    refine m_iald X I 1 (n := 266) (f := (m_sg st 8 0).2.1 0) rfl g2 dX3_count_63 ?_
    obtain ⟨rfl, rfl⟩ := m_e2 h
    exact hret H locs ls 64 dX3_count_64 I
  replace h := m_ifF c8 h
  by_cases c9 : (p0 : Int32) = 3
  · replace h := m_ifT c9 h
    refine lv_tableIn (tgt := 65) X.1 X.2.1 dX3_count_6 (by rw [c9]; decide) (by rw [c9]; decide) (by rw [c9]; rfl) (by decide) ?_
    refine lv_aload_n X.1 X.2.1 dX3_count_65 rfl (lv_at hl 0 rfl) ?_
    obtain ⟨r4, e3, h⟩ := m_bS h
    refine m_callI X hl.1 I hA (As := []) (rest := []) (c_keptMany l n D d (m_sg st 8 0)  _ e3) 0 q2020 q2022 qs99 q107 q2023 (hd_keptMany) rfl rfl ⟨Nat.le_trans (Nat.le_of_ble_eq_true rfl) hR.1, Nat.le_trans (Nat.le_of_ble_eq_true rfl) hR.2⟩ ⟨rfl, rfl⟩ ⟨Nat.zero_le _, Nat.zero_le _⟩ (Nat.le_of_ble_eq_true rfl) dX3_count_66 (fun H locs I => ?_)
    obtain ⟨rfl, rfl⟩ := m_e2 h
    exact hret H locs ls 69 dX3_count_69 I
  replace h := m_ifF c9 h
  by_cases c10 : (p0 : Int32) = 4
  · replace h := m_ifT c10 h
    refine lv_tableIn (tgt := 70) X.1 X.2.1 dX3_count_6 (by rw [c10]; decide) (by rw [c10]; decide) (by rw [c10]; rfl) (by decide) ?_
    refine lv_aload_n X.1 X.2.1 dX3_count_70 rfl (lv_at hl 0 rfl) ?_
    refine m_get X I 0 (by decide) rfl rfl rfl q1517 (v := .ref (d.2.1 0)) rfl dX3_count_71 ?_
    refine lv_iconst (v := 1) X.1 X.2.1 dX3_count_74 (by decide) ?_
    obtain ⟨g5, h⟩ := m_gS h
    refine m_iald X I 1 (n := 266) (f := (m_sg st 8 0).2.1 0) rfl g5 dX3_count_75 ?_
    obtain ⟨rfl, rfl⟩ := m_e2 h
    exact hret H locs ls 76 dX3_count_76 I
  replace h := m_ifF c10 h
  by_cases c11 : (p0 : Int32) = 5
  · replace h := m_ifT c11 h
    refine lv_tableIn (tgt := 77) X.1 X.2.1 dX3_count_6 (by rw [c11]; decide) (by rw [c11]; decide) (by rw [c11]; rfl) (by decide) ?_
    refine lv_aload_n X.1 X.2.1 dX3_count_77 rfl (lv_at hl 0 rfl) ?_
    refine m_get X I 7 (by decide) rfl rfl rfl q1524 (v := .int ((m_sg st 8 0).1 7)) rfl dX3_count_78 ?_
    obtain ⟨rfl, rfl⟩ := m_e2 h
    exact hret H locs ls 81 dX3_count_81 I
  replace h := m_ifF c11 h
  by_cases c12 : (p0 : Int32) = 6
  · replace h := m_ifT c12 h
    refine lv_tableIn (tgt := 82) X.1 X.2.1 dX3_count_6 (by rw [c12]; decide) (by rw [c12]; decide) (by rw [c12]; rfl) (by decide) ?_
    refine lv_aload_n X.1 X.2.1 dX3_count_82 rfl (lv_at hl 0 rfl) ?_
    refine m_get X I 10 (by decide) rfl rfl rfl q1527 (v := .int ((m_sg st 8 0).1 10)) rfl dX3_count_83 ?_
    obtain ⟨rfl, rfl⟩ := m_e2 h
    exact hret H locs ls 86 dX3_count_86 I
  replace h := m_ifF c12 h
  refine lv_tableOut (tgt := 87) X.1 X.2.1 dX3_count_6 (m_sw0_6 _ c6 c7 c8 c9 c10 c11 c12) (by decide) ?_
  refine lv_iconst (v := (-1)) X.1 X.2.1 dX3_count_87 (by decide) ?_
  obtain ⟨rfl, rfl⟩ := m_e2 h
  exact hret H locs ls 88 dX3_count_88 I
end S_count
theorem c_count (l : Launch) (n : Nat) (D : va_G) (d : MD) (st : MS) (p0 : Int32) (r : Int32) (st' : MS) (h : f_count n st p0 = some (r, st')) : m_Mi l yX3_count cX3_count 2 (some .int) ({ frames := 2, cells := 0, slots := 0, locals := 44 } : Room) D d st [.ref d.1, .int p0] r st' :=
  m_startI (lvl := [(0, .ref d.1), (1, .int p0)]) (by decide) rfl (Nat.le_of_ble_eq_true rfl) rfl (fun p e s m args below meth c ls X hr hlk hl hA I => w_count X hA ⟨Nat.le_refl _, Nat.le_refl _⟩ n st p0 (r, st') h (fun H locs ls pc hd I => m_iret X I hr hlk hd) _ _ ls I hl)

/-! method newName(I)V -/
def f_newName_J50 (n : Nat) (st : MS) (v1 : Int32) (v2 : Int64) : Option (MS) :=
  m_g (m_in v1 12) (some (m_sb st 3 (v1 : Int32).toNatClampNeg v2))
def f_newName_J41 (n : Nat) (st : MS) (v1 : Int32) (v2 : Int64) : Option (MS) :=
  m_b (f_fails n st 3 (st.1 16)) (fun s10 => f_newName_J50 n s10 v1 v2)
def f_newName (n : Nat) (st : MS) (p0 : Int32) : Option (MS) :=
  m_b2 (f_nameRead n st) (fun r2 s3 => m_if ((s3.1 13 : Int32) = 0) (m_b (f_find n s3 r2 0 (s3.1 5)) (fun r7 => m_if ((r7 : Int32) = ((-1) : Int32)) (m_b (f_find n s3 r2 8 (s3.1 6)) (fun r12 => m_if ((r12 : Int32) = ((-1) : Int32)) (f_newName_J50 n s3 p0 r2) (f_newName_J41 n s3 p0 r2))) (f_newName_J41 n s3 p0 r2))) (f_newName_J50 n s3 p0 r2))
theorem hd_newName : yX3_newName.cls = RX3 ∧ yX3_newName.cls ≠ "java/lang/invoke/MethodHandle" ∧ yX3_newName.cls ≠ "java/lang/invoke/VarHandle" ∧ (parseMethodDescriptor yX3_newName.desc).map (fun d => d.parameters.length) = some 1 := by decide +kernel
section S_newName
variable {p : Program} {l : Launch} {e : Env} {R : Room} {s : State} {m : MethodId} {args : Array Value} {below : List Frame} {meth : Method} {c : Code} {Q : State → Prop} {D : va_G} {A : Nat → Prop} {d : MD}
theorem w_newName (X : m_X D A d p s m c cX3_newName 4 args) (hA : ∀ q, s.heap.size ≤ q → A q) (hR : 6 ≤ R.frames ∧ 135 ≤ R.locals) (n : Nat) (st : MS) (p0 : Int32) (r : MS) (h : f_newName n st p0 = some r) (hret : ∀ (H : Heap) (locs : List Loc) (ls : Array Slot) (pc : Nat), decode cX3_newName pc = .ok (.return_, 1) → m_I D A d s.heap r H locs → W p l e R s m args below meth c H locs 0 0 Q (F0 m pc ls [])) : ∀ (H : Heap) (locs : List Loc) (ls : Array Slot), m_I D A d s.heap st H locs → lv_has ls 4 [(0, .ref d.1), (1, .int p0)] → W p l e R s m args below meth c H locs 0 0 Q (F0 m 0 ls []) := by
  have k50 : ∀ (st : MS) (v1 : Int32) (v2 : Int64) (H : Heap) (locs : List Loc) (ls : Array Slot), f_newName_J50 n st v1 v2 = some r → m_I D A d s.heap st H locs → lv_has ls 4 [(0, .ref d.1), (1, .int v1), (2, .long v2)] → W p l e R s m args below meth c H locs 0 0 Q (F0 m 50 ls []) := by
    intro st v1 v2 H locs ls h I hl
    unfold f_newName_J50 at h
    refine lv_aload_n X.1 X.2.1 dX3_newName_50 rfl (lv_at hl 0 rfl) ?_
    refine m_get X I 3 (by decide) rfl rfl rfl q1520 (v := .ref (d.2.1 3)) rfl dX3_newName_51 ?_
    refine lv_iload_n X.1 X.2.1 dX3_newName_54 rfl (lv_at hl 1 rfl) ?_
    refine lv_lload_n X.1 X.2.1 dX3_newName_55 rfl (lv_at hl 2 rfl) ?_
    obtain ⟨g5, h⟩ := m_gS h
    refine m_last X I 4 (n := 12) (f := st.2.2 3) rfl (m_st3 d _ _ _) g5 dX3_newName_56 (fun H locs I => ?_)
    obtain rfl := m_e1 h
    exact hret H locs ls 57 dX3_newName_57 I
  have k41 : ∀ (st : MS) (v1 : Int32) (v2 : Int64) (H : Heap) (locs : List Loc) (ls : Array Slot), f_newName_J41 n st v1 v2 = some r → m_I D A d s.heap st H locs → lv_has ls 4 [(0, .ref d.1), (1, .int v1), (2, .long v2)] → W p l e R s m args below meth c H locs 0 0 Q (F0 m 41 ls []) := by
    intro st v1 v2 H locs ls h I hl
    unfold f_newName_J41 at h
    refine lv_aload_n X.1 X.2.1 dX3_newName_41 rfl (lv_at hl 0 rfl) ?_
    refine lv_iconst (v := 3) X.1 X.2.1 dX3_newName_42 (by decide) ?_
    refine lv_aload_n X.1 X.2.1 dX3_newName_43 rfl (lv_at hl 0 rfl) ?_
    refine m_get X I 16 (by decide) rfl rfl rfl q1533 (v := .int (st.1 16)) rfl dX3_newName_44 ?_
    obtain ⟨s10, e9, h⟩ := m_bS h
    refine m_callV X hl.1 I hA (As := [.int 3, .int (st.1 16)]) (rest := []) (c_fails l n D d st 3 (st.1 16) _ e9) 2 q1650 q1652 qs48 q107 q1653 (hd_fails) rfl rfl ⟨Nat.le_trans (Nat.le_of_ble_eq_true rfl) hR.1, Nat.le_trans (Nat.le_of_ble_eq_true rfl) hR.2⟩ ⟨rfl, rfl⟩ ⟨Nat.zero_le _, Nat.zero_le _⟩ (Nat.le_of_ble_eq_true rfl) dX3_newName_47 (fun H locs I => ?_)
    exact k50 s10 v1 v2 H locs ls h I (lv_sub hl [0, 1, 2] rfl)
  intro H locs ls I hl
  unfold f_newName at h
  refine lv_aload_n X.1 X.2.1 dX3_newName_0 rfl (lv_at hl 0 rfl) ?_
  obtain ⟨r2, s3, e1, h⟩ := m_b2S h
  refine m_callL X hl.1 I hA (As := []) (rest := []) (c_nameRead l n D d st  _ _ e1) 0 q1666 q1668 qs52 q107 q1669 (hd_nameRead) rfl rfl ⟨Nat.le_trans (Nat.le_of_ble_eq_true rfl) hR.1, Nat.le_trans (Nat.le_of_ble_eq_true rfl) hR.2⟩ ⟨rfl, rfl⟩ ⟨Nat.zero_le _, Nat.zero_le _⟩ (Nat.le_of_ble_eq_true rfl) dX3_newName_1 (fun H locs I => ?_)
  refine lv_lstore_n (lv' := [(2, .long r2), (0, .ref d.1), (1, .int p0)]) X.1 X.2.1 dX3_newName_4 rfl hl (by decide) rfl (fun ls hl => ?_)
  refine lv_aload_n X.1 X.2.1 dX3_newName_5 rfl (lv_at hl 1 rfl) ?_
  refine m_get X I 13 (by decide) rfl rfl rfl q1530 (v := .int (s3.1 13)) rfl dX3_newName_6 ?_
  refine lv_if_ne (tgt := 50) X.1 X.2.1 dX3_newName_9 (by decide) (fun c4 => ?_) (fun c4 => ?_)
  · replace h := m_ifF c4 h
    exact k50 s3 p0 r2 H locs ls h I (lv_sub hl [1, 2, 0] rfl)
  · replace h := m_ifT c4 h
    refine lv_aload_n X.1 X.2.1 dX3_newName_12 rfl (lv_at hl 1 rfl) ?_
    refine lv_lload_n X.1 X.2.1 dX3_newName_13 rfl (lv_at hl 0 rfl) ?_
    refine lv_iconst (v := 0) X.1 X.2.1 dX3_newName_14 (by decide) ?_
    refine lv_aload_n X.1 X.2.1 dX3_newName_15 rfl (lv_at hl 1 rfl) ?_
    refine m_get X I 5 (by decide) rfl rfl rfl q1522 (v := .int (s3.1 5)) rfl dX3_newName_16 ?_
    obtain ⟨r7, e6, h⟩ := m_bS h
    refine m_callI X hl.1 I hA (As := [.long r2, .int 0, .int (s3.1 5)]) (rest := []) (c_find l n D d s3 r2 0 (s3.1 5) _ e6) 3 q1670 q1672 qs53 q107 q1673 (hd_find) rfl rfl ⟨Nat.le_trans (Nat.le_of_ble_eq_true rfl) hR.1, Nat.le_trans (Nat.le_of_ble_eq_true rfl) hR.2⟩ ⟨rfl, rfl⟩ ⟨Nat.zero_le _, Nat.zero_le _⟩ (Nat.le_of_ble_eq_true rfl) dX3_newName_19 (fun H locs I => ?_)
    refine lv_iconst (v := (-1)) X.1 X.2.1 dX3_newName_22 (by decide) ?_
    refine lv_icmp_ne (tgt := 41) X.1 X.2.1 dX3_newName_23 (by decide) (fun c8 => ?_) (fun c8 => ?_)
    · replace h := m_ifF c8 h
      exact k41 s3 p0 r2 H locs ls h I (lv_sub hl [1, 2, 0] rfl)
    · replace h := m_ifT c8 h
      refine lv_aload_n X.1 X.2.1 dX3_newName_26 rfl (lv_at hl 1 rfl) ?_
      refine lv_lload_n X.1 X.2.1 dX3_newName_27 rfl (lv_at hl 0 rfl) ?_
      refine lv_bipush (v := 8) X.1 X.2.1 dX3_newName_28 (by decide) ?_
      refine lv_aload_n X.1 X.2.1 dX3_newName_30 rfl (lv_at hl 1 rfl) ?_
      refine m_get X I 6 (by decide) rfl rfl rfl q1523 (v := .int (s3.1 6)) rfl dX3_newName_31 ?_
      obtain ⟨r12, e11, h⟩ := m_bS h
      refine m_callI X hl.1 I hA (As := [.long r2, .int 8, .int (s3.1 6)]) (rest := []) (c_find l n D d s3 r2 8 (s3.1 6) _ e11) 3 q1670 q1672 qs53 q107 q1673 (hd_find) rfl rfl ⟨Nat.le_trans (Nat.le_of_ble_eq_true rfl) hR.1, Nat.le_trans (Nat.le_of_ble_eq_true rfl) hR.2⟩ ⟨rfl, rfl⟩ ⟨Nat.zero_le _, Nat.zero_le _⟩ (Nat.le_of_ble_eq_true rfl) dX3_newName_34 (fun H locs I => ?_)
      refine lv_iconst (v := (-1)) X.1 X.2.1 dX3_newName_37 (by decide) ?_
      refine lv_icmp_eq (tgt := 50) X.1 X.2.1 dX3_newName_38 (by decide) (fun c13 => ?_) (fun c13 => ?_)
      · replace h := m_ifT c13 h
        exact k50 s3 p0 r2 H locs ls h I (lv_sub hl [1, 2, 0] rfl)
      · replace h := m_ifF c13 h
        exact k41 s3 p0 r2 H locs ls h I (lv_sub hl [1, 2, 0] rfl)
end S_newName
theorem c_newName (l : Launch) (n : Nat) (D : va_G) (d : MD) (st : MS) (p0 : Int32) (st' : MS) (h : f_newName n st p0 = some st') : m_Mv l yX3_newName cX3_newName 4 none ({ frames := 6, cells := 0, slots := 0, locals := 135 } : Room) D d st [.ref d.1, .int p0] st' :=
  m_startV (lvl := [(0, .ref d.1), (1, .int p0)]) (by decide) rfl (Nat.le_of_ble_eq_true rfl) rfl (fun p e s m args below meth c ls X hr hlk hl hA I => w_newName X hA ⟨Nat.le_refl _, Nat.le_refl _⟩ n st p0 st' h (fun H locs ls pc hd I => m_vret X I hr hlk hd) _ _ ls I hl)

/-! method twoRead(I)V -/
def f_twoRead_J97 (n : Nat) (st : MS) : Option (MS) :=
  some st
def f_twoRead_J52 (n : Nat) (st : MS) (v1 : Int32) (v2 : Int32) (v3 : Int32) (v4 : Int32) (t0 : Int32) : Option (MS) :=
  m_if ((st.1 13 : Int32) = 0) (m_if ((v1 : Int32) = (2 : Int32)) (m_b (f_adds n st v2 v3 v4 t0) (fun s17 => f_twoRead_J97 n s17)) (m_g (m_in ((202 + (8 * v2)) + v3) 266) (f_twoRead_J97 n (m_sa st 0 ((202 + (8 * v2)) + v3 : Int32).toNatClampNeg v4)))) (some st)
def f_twoRead_J34 (n : Nat) (st : MS) (v1 : Int32) (v2 : Int32) (v3 : Int32) (t0 : Int32) (t1 : Int32) : Option (MS) :=
  m_b2 (f_numeral n st t1 t0) (fun r10 s11 => m_if ((v1 : Int32) = (2 : Int32)) (m_b2 (f_kindRead n s11) (fun r19 s20 => f_twoRead_J52 n s20 v1 v2 v3 r10 r19)) (f_twoRead_J52 n s11 v1 v2 v3 r10 0))
def f_twoRead_J22 (n : Nat) (st : MS) (v1 : Int32) (v2 : Int32) (v3 : Int32) (t0 : Int32) : Option (MS) :=
  m_if ((v1 : Int32) = (2 : Int32)) (f_twoRead_J34 n st v1 v2 v3 999999 t0) (f_twoRead_J34 n st v1 v2 v3 99999999 t0)
def f_twoRead (n : Nat) (st : MS) (p0 : Int32) : Option (MS) :=
  m_b2 (f_partyRead n st) (fun r2 s3 => m_b2 (f_otherRead n s3 r2) (fun r5 s6 => m_if ((p0 : Int32) = (2 : Int32)) (f_twoRead_J22 n s6 p0 r2 r5 1) (f_twoRead_J22 n s6 p0 r2 r5 0)))
theorem hd_twoRead : yX3_twoRead.cls = RX3 ∧ yX3_twoRead.cls ≠ "java/lang/invoke/MethodHandle" ∧ yX3_twoRead.cls ≠ "java/lang/invoke/VarHandle" ∧ (parseMethodDescriptor yX3_twoRead.desc).map (fun d => d.parameters.length) = some 1 := by decide +kernel
section S_twoRead
variable {p : Program} {l : Launch} {e : Env} {R : Room} {s : State} {m : MethodId} {args : Array Value} {below : List Frame} {meth : Method} {c : Code} {Q : State → Prop} {D : va_G} {A : Nat → Prop} {d : MD}
theorem w_twoRead (X : m_X D A d p s m c cX3_twoRead 6 args) (hA : ∀ q, s.heap.size ≤ q → A q) (hR : 8 ≤ R.frames ∧ 178 ≤ R.locals) (n : Nat) (st : MS) (p0 : Int32) (r : MS) (h : f_twoRead n st p0 = some r) (hret : ∀ (H : Heap) (locs : List Loc) (ls : Array Slot) (pc : Nat), decode cX3_twoRead pc = .ok (.return_, 1) → m_I D A d s.heap r H locs → W p l e R s m args below meth c H locs 0 0 Q (F0 m pc ls [])) : ∀ (H : Heap) (locs : List Loc) (ls : Array Slot), m_I D A d s.heap st H locs → lv_has ls 6 [(0, .ref d.1), (1, .int p0)] → W p l e R s m args below meth c H locs 0 0 Q (F0 m 0 ls []) := by
  have k97 : ∀ (st : MS) (H : Heap) (locs : List Loc) (ls : Array Slot), f_twoRead_J97 n st = some r → m_I D A d s.heap st H locs → lv_has ls 6 [] → W p l e R s m args below meth c H locs 0 0 Q (F0 m 97 ls []) := by
    intro st H locs ls h I hl
    unfold f_twoRead_J97 at h
    obtain rfl := m_e1 h
    exact hret H locs ls 97 dX3_twoRead_97 I
  have k52 : ∀ (st : MS) (v1 : Int32) (v2 : Int32) (v3 : Int32) (v4 : Int32) (t0 : Int32) (H : Heap) (locs : List Loc) (ls : Array Slot), f_twoRead_J52 n st v1 v2 v3 v4 t0 = some r → m_I D A d s.heap st H locs → lv_has ls 6 [(0, .ref d.1), (1, .int v1), (2, .int v2), (3, .int v3), (4, .int v4)] → W p l e R s m args below meth c H locs 0 0 Q (F0 m 52 ls [.int t0]) := by
    intro st v1 v2 v3 v4 t0 H locs ls h I hl
    unfold f_twoRead_J52 at h
    refine lv_istore (lv' := [(5, .int t0), (0, .ref d.1), (1, .int v1), (2, .int v2), (3, .int v3), (4, .int v4)]) X.1 X.2.1 dX3_twoRead_52 hl (by decide) rfl (fun ls hl => ?_)
    refine lv_aload_n X.1 X.2.1 dX3_twoRead_54 rfl (lv_at hl 1 rfl) ?_
    refine m_get X I 13 (by decide) rfl rfl rfl q1530 (v := .int (st.1 13)) rfl dX3_twoRead_55 ?_
    refine lv_if_eq (tgt := 62) X.1 X.2.1 dX3_twoRead_58 (by decide) (fun c13 => ?_) (fun c13 => ?_)
    · replace h := m_ifT c13 h
      refine lv_iload_n X.1 X.2.1 dX3_twoRead_62 rfl (lv_at hl 2 rfl) ?_
      refine lv_iconst (v := 2) X.1 X.2.1 dX3_twoRead_63 (by decide) ?_
      refine lv_icmp_ne (tgt := 80) X.1 X.2.1 dX3_twoRead_64 (by decide) (fun c14 => ?_) (fun c14 => ?_)
      · replace h := m_ifF c14 h
        refine lv_aload_n X.1 X.2.1 dX3_twoRead_80 rfl (lv_at hl 1 rfl) ?_
        refine m_get X I 0 (by decide) rfl rfl rfl q1517 (v := .ref (d.2.1 0)) rfl dX3_twoRead_81 ?_
        refine lv_sipush (v := 202) X.1 X.2.1 dX3_twoRead_84 (by decide) ?_
        refine lv_bipush (v := 8) X.1 X.2.1 dX3_twoRead_87 (by decide) ?_
        refine lv_iload_n X.1 X.2.1 dX3_twoRead_89 rfl (lv_at hl 3 rfl) ?_
        refine lv_imul X.1 X.2.1 dX3_twoRead_90 ?_
        refine lv_iadd X.1 X.2.1 dX3_twoRead_91 ?_
        refine lv_iload_n X.1 X.2.1 dX3_twoRead_92 rfl (lv_at hl 4 rfl) ?_
        refine lv_iadd X.1 X.2.1 dX3_twoRead_93 ?_
        refine lv_iload X.1 X.2.1 dX3_twoRead_94 (lv_at hl 5 rfl) ?_
        obtain ⟨g15, h⟩ := m_gS h
        refine m_iast X I 1 (n := 266) (f := st.2.1 0) rfl (m_st0 d _ _ _) g15 dX3_twoRead_96 (fun H locs I => ?_)
        exact k97 (m_sa st 0 ((202 + (8 * v2)) + v3 : Int32).toNatClampNeg v4) H locs ls h I (lv_sub hl [] rfl)
      · replace h := m_ifT c14 h
        refine lv_aload_n X.1 X.2.1 dX3_twoRead_67 rfl (lv_at hl 1 rfl) ?_
        refine lv_iload_n X.1 X.2.1 dX3_twoRead_68 rfl (lv_at hl 3 rfl) ?_
        refine lv_iload_n X.1 X.2.1 dX3_twoRead_69 rfl (lv_at hl 4 rfl) ?_
        refine lv_iload X.1 X.2.1 dX3_twoRead_70 (lv_at hl 5 rfl) ?_
        refine lv_iload X.1 X.2.1 dX3_twoRead_72 (lv_at hl 0 rfl) ?_
        obtain ⟨s17, e16, h⟩ := m_bS h
        refine m_callV X hl.1 I hA (As := [.int v2, .int v3, .int v4, .int t0]) (rest := []) (c_adds l n D d st v2 v3 v4 t0 _ e16) 4 q1704 q1706 qs60 q107 q1707 (hd_adds) rfl rfl ⟨Nat.le_trans (Nat.le_of_ble_eq_true rfl) hR.1, Nat.le_trans (Nat.le_of_ble_eq_true rfl) hR.2⟩ ⟨rfl, rfl⟩ ⟨Nat.zero_le _, Nat.zero_le _⟩ (Nat.le_of_ble_eq_true rfl) dX3_twoRead_74 (fun H locs I => ?_)
        refine lv_goto (tgt := 97) X.1 X.2.1 dX3_twoRead_77 (by decide) ?_
        exact k97 s17 H locs ls h I (lv_sub hl [] rfl)
    · replace h := m_ifF c13 h
      obtain rfl := m_e1 h
      exact hret H locs ls 61 dX3_twoRead_61 I
  have k34 : ∀ (st : MS) (v1 : Int32) (v2 : Int32) (v3 : Int32) (t0 : Int32) (t1 : Int32) (H : Heap) (locs : List Loc) (ls : Array Slot), f_twoRead_J34 n st v1 v2 v3 t0 t1 = some r → m_I D A d s.heap st H locs → lv_has ls 6 [(0, .ref d.1), (1, .int v1), (2, .int v2), (3, .int v3)] → W p l e R s m args below meth c H locs 0 0 Q (F0 m 34 ls [.int t0, .int t1, .ref d.1]) := by
    intro st v1 v2 v3 t0 t1 H locs ls h I hl
    unfold f_twoRead_J34 at h
    obtain ⟨r10, s11, e9, h⟩ := m_b2S h
    refine m_callI X hl.1 I hA (As := [.int t1, .int t0]) (rest := []) (c_numeral l n D d st t1 t0 _ _ e9) 2 q1674 q1676 qs54 q107 q1677 (hd_numeral) rfl rfl ⟨Nat.le_trans (Nat.le_of_ble_eq_true rfl) hR.1, Nat.le_trans (Nat.le_of_ble_eq_true rfl) hR.2⟩ ⟨rfl, rfl⟩ ⟨Nat.zero_le _, Nat.zero_le _⟩ (Nat.le_of_ble_eq_true rfl) dX3_twoRead_34 (fun H locs I => ?_)
    refine lv_istore (lv' := [(4, .int r10), (0, .ref d.1), (1, .int v1), (2, .int v2), (3, .int v3)]) X.1 X.2.1 dX3_twoRead_37 hl (by decide) rfl (fun ls hl => ?_)
    refine lv_iload_n X.1 X.2.1 dX3_twoRead_39 rfl (lv_at hl 2 rfl) ?_
    refine lv_iconst (v := 2) X.1 X.2.1 dX3_twoRead_40 (by decide) ?_
    refine lv_icmp_ne (tgt := 51) X.1 X.2.1 dX3_twoRead_41 (by decide) (fun c12 => ?_) (fun c12 => ?_)
    · replace h := m_ifF c12 h
      refine lv_iconst (v := 0) X.1 X.2.1 dX3_twoRead_51 (by decide) ?_
      exact k52 s11 v1 v2 v3 r10 0 H locs ls h I (lv_sub hl [1, 2, 3, 4, 0] rfl)
    · replace h := m_ifT c12 h
      refine lv_aload_n X.1 X.2.1 dX3_twoRead_44 rfl (lv_at hl 1 rfl) ?_
      obtain ⟨r19, s20, e18, h⟩ := m_b2S h
      refine m_callI X hl.1 I hA (As := []) (rest := []) (c_kindRead l n D d s11  _ _ e18) 0 q1700 q1702 qs59 q107 q1703 (hd_kindRead) rfl rfl ⟨Nat.le_trans (Nat.le_of_ble_eq_true rfl) hR.1, Nat.le_trans (Nat.le_of_ble_eq_true rfl) hR.2⟩ ⟨rfl, rfl⟩ ⟨Nat.zero_le _, Nat.zero_le _⟩ (Nat.le_of_ble_eq_true rfl) dX3_twoRead_45 (fun H locs I => ?_)
      refine lv_goto (tgt := 52) X.1 X.2.1 dX3_twoRead_48 (by decide) ?_
      exact k52 s20 v1 v2 v3 r10 r19 H locs ls h I (lv_sub hl [1, 2, 3, 4, 0] rfl)
  have k22 : ∀ (st : MS) (v1 : Int32) (v2 : Int32) (v3 : Int32) (t0 : Int32) (H : Heap) (locs : List Loc) (ls : Array Slot), f_twoRead_J22 n st v1 v2 v3 t0 = some r → m_I D A d s.heap st H locs → lv_has ls 6 [(0, .ref d.1), (1, .int v1), (2, .int v2), (3, .int v3)] → W p l e R s m args below meth c H locs 0 0 Q (F0 m 22 ls [.int t0, .ref d.1]) := by
    intro st v1 v2 v3 t0 H locs ls h I hl
    unfold f_twoRead_J22 at h
    refine lv_iload_n X.1 X.2.1 dX3_twoRead_22 rfl (lv_at hl 1 rfl) ?_
    refine lv_iconst (v := 2) X.1 X.2.1 dX3_twoRead_23 (by decide) ?_
    refine lv_icmp_ne (tgt := 32) X.1 X.2.1 dX3_twoRead_24 (by decide) (fun c8 => ?_) (fun c8 => ?_)
    · replace h := m_ifF c8 h
      refine lv_ldc (v := 99999999) X.1 X.2.1 X.2.2.2.1 (X.2.2.1 _ q1516) dX3_twoRead_32 ?_
      exact k34 st v1 v2 v3 99999999 t0 H locs ls h I (lv_sub hl [0, 1, 2, 3] rfl)
    · replace h := m_ifT c8 h
      refine lv_ldc (v := 999999) X.1 X.2.1 X.2.2.2.1 (X.2.2.1 _ q1699) dX3_twoRead_27 ?_
      refine lv_goto (tgt := 34) X.1 X.2.1 dX3_twoRead_29 (by decide) ?_
      exact k34 st v1 v2 v3 999999 t0 H locs ls h I (lv_sub hl [0, 1, 2, 3] rfl)
  intro H locs ls I hl
  unfold f_twoRead at h
  refine lv_aload_n X.1 X.2.1 dX3_twoRead_0 rfl (lv_at hl 0 rfl) ?_
  obtain ⟨r2, s3, e1, h⟩ := m_b2S h
  refine m_callI X hl.1 I hA (As := []) (rest := []) (c_partyRead l n D d st  _ _ e1) 0 q1691 q1693 qs57 q107 q1694 (hd_partyRead) rfl rfl ⟨Nat.le_trans (Nat.le_of_ble_eq_true rfl) hR.1, Nat.le_trans (Nat.le_of_ble_eq_true rfl) hR.2⟩ ⟨rfl, rfl⟩ ⟨Nat.zero_le _, Nat.zero_le _⟩ (Nat.le_of_ble_eq_true rfl) dX3_twoRead_1 (fun H locs I => ?_)
  refine lv_istore_n (lv' := [(2, .int r2), (0, .ref d.1), (1, .int p0)]) X.1 X.2.1 dX3_twoRead_4 rfl hl (by decide) rfl (fun ls hl => ?_)
  refine lv_aload_n X.1 X.2.1 dX3_twoRead_5 rfl (lv_at hl 1 rfl) ?_
  refine lv_iload_n X.1 X.2.1 dX3_twoRead_6 rfl (lv_at hl 0 rfl) ?_
  obtain ⟨r5, s6, e4, h⟩ := m_b2S h
  refine m_callI X hl.1 I hA (As := [.int r2]) (rest := []) (c_otherRead l n D d s3 r2 _ _ e4) 1 q1695 q1697 qs58 q107 q1698 (hd_otherRead) rfl rfl ⟨Nat.le_trans (Nat.le_of_ble_eq_true rfl) hR.1, Nat.le_trans (Nat.le_of_ble_eq_true rfl) hR.2⟩ ⟨rfl, rfl⟩ ⟨Nat.zero_le _, Nat.zero_le _⟩ (Nat.le_of_ble_eq_true rfl) dX3_twoRead_7 (fun H locs I => ?_)
  refine lv_istore_n (lv' := [(3, .int r5), (2, .int r2), (0, .ref d.1), (1, .int p0)]) X.1 X.2.1 dX3_twoRead_10 rfl hl (by decide) rfl (fun ls hl => ?_)
  refine lv_aload_n X.1 X.2.1 dX3_twoRead_11 rfl (lv_at hl 2 rfl) ?_
  refine lv_iload_n X.1 X.2.1 dX3_twoRead_12 rfl (lv_at hl 3 rfl) ?_
  refine lv_iconst (v := 2) X.1 X.2.1 dX3_twoRead_13 (by decide) ?_
  refine lv_icmp_ne (tgt := 21) X.1 X.2.1 dX3_twoRead_14 (by decide) (fun c7 => ?_) (fun c7 => ?_)
  · replace h := m_ifF c7 h
    refine lv_iconst (v := 0) X.1 X.2.1 dX3_twoRead_21 (by decide) ?_
    exact k22 s6 p0 r2 r5 0 H locs ls h I (lv_sub hl [2, 3, 1, 0] rfl)
  · replace h := m_ifT c7 h
    refine lv_iconst (v := 1) X.1 X.2.1 dX3_twoRead_17 (by decide) ?_
    refine lv_goto (tgt := 22) X.1 X.2.1 dX3_twoRead_18 (by decide) ?_
    exact k22 s6 p0 r2 r5 1 H locs ls h I (lv_sub hl [2, 3, 1, 0] rfl)
end S_twoRead
theorem c_twoRead (l : Launch) (n : Nat) (D : va_G) (d : MD) (st : MS) (p0 : Int32) (st' : MS) (h : f_twoRead n st p0 = some st') : m_Mv l yX3_twoRead cX3_twoRead 6 none ({ frames := 8, cells := 0, slots := 0, locals := 178 } : Room) D d st [.ref d.1, .int p0] st' :=
  m_startV (lvl := [(0, .ref d.1), (1, .int p0)]) (by decide) rfl (Nat.le_of_ble_eq_true rfl) rfl (fun p e s m args below meth c ls X hr hlk hl hA I => w_twoRead X hA ⟨Nat.le_refl _, Nat.le_refl _⟩ n st p0 st' h (fun H locs ls pc hd I => m_vret X I hr hlk hd) _ _ ls I hl)

/-! method trade(IIII)I -/
def f_trade_J23 (n : Nat) (st : MS) : Option (Int32 × MS) :=
  some ((-2), st)
def f_trade (n : Nat) (st : MS) (p0 : Int32) (p1 : Int32) (p2 : Int32) (p3 : Int32) : Option (Int32 × MS) :=
  m_b (f_areTwo n (m_sg st 8 0) p0 p1) (fun r2 => m_if ((r2 : Int32) = 0) (f_trade_J23 n (m_sg st 8 0)) (m_b (f_isKind n (m_sg st 8 0) p3) (fun r5 => m_if ((r5 : Int32) = 0) (f_trade_J23 n (m_sg st 8 0)) (m_b (f_isIn n p2.toInt64 1 999999) (fun r8 => m_if ((r8 : Int32) = 0) (some ((-3), m_sg st 8 0)) (m_g (m_in 0 266) (m_if (((m_sg st 8 0).2.1 0 (0 : Int32).toNatClampNeg : Int32) = (40 : Int32)) (some ((-4), m_sg st 8 0)) (m_b (f_remembers n (m_sg st 8 0)) (fun s13 => m_b (f_adds n s13 p0 p1 p2 p3) (fun s15 => m_g (m_in 0 266) (some ((s15.2.1 0 (0 : Int32).toNatClampNeg) - 1, s15))))))))))))
theorem hd_trade : yX3_trade.cls = RX3 ∧ yX3_trade.cls ≠ "java/lang/invoke/MethodHandle" ∧ yX3_trade.cls ≠ "java/lang/invoke/VarHandle" ∧ (parseMethodDescriptor yX3_trade.desc).map (fun d => d.parameters.length) = some 4 := by decide +kernel
section S_trade
variable {p : Program} {l : Launch} {e : Env} {R : Room} {s : State} {m : MethodId} {args : Array Value} {below : List Frame} {meth : Method} {c : Code} {Q : State → Prop} {D : va_G} {A : Nat → Prop} {d : MD}
theorem w_trade (X : m_X D A d p s m c cX3_trade 5 args) (hA : ∀ q, s.heap.size ≤ q → A q) (hR : 3 ≤ R.frames ∧ 68 ≤ R.locals) (n : Nat) (st : MS) (p0 : Int32) (p1 : Int32) (p2 : Int32) (p3 : Int32) (r : (Int32 × MS)) (h : f_trade n st p0 p1 p2 p3 = some r) (hret : ∀ (H : Heap) (locs : List Loc) (ls : Array Slot) (pc : Nat), decode cX3_trade pc = .ok (.ireturn, 1) → m_I D A d s.heap r.2 H locs → W p l e R s m args below meth c H locs 0 0 Q (F0 m pc ls [.int r.1])) : ∀ (H : Heap) (locs : List Loc) (ls : Array Slot), m_I D A d s.heap st H locs → lv_has ls 5 [(0, .ref d.1), (1, .int p0), (2, .int p1), (3, .int p2), (4, .int p3)] → W p l e R s m args below meth c H locs 0 0 Q (F0 m 0 ls []) := by
  obtain ⟨r0, s0⟩ := r
  have k23 : ∀ (st : MS) (H : Heap) (locs : List Loc) (ls : Array Slot), f_trade_J23 n st = some (r0, s0) → m_I D A d s.heap st H locs → lv_has ls 5 [] → W p l e R s m args below meth c H locs 0 0 Q (F0 m 23 ls []) := by
    intro st H locs ls h I hl
    unfold f_trade_J23 at h
    refine lv_bipush (v := (-2)) X.1 X.2.1 dX3_trade_23 (by decide) ?_
    obtain ⟨rfl, rfl⟩ := m_e2 h
    exact hret H locs ls 25 dX3_trade_25 I
  intro H locs ls I hl
  unfold f_trade at h
  refine lv_aload_n X.1 X.2.1 dX3_trade_0 rfl (lv_at hl 0 rfl) ?_
  refine lv_iconst (v := 0) X.1 X.2.1 dX3_trade_1 (by decide) ?_
  refine m_put X I 8 (by decide) rfl rfl rfl q1525 rfl (m_set8 d _ _) dX3_trade_2 (fun H locs I => ?_)
  refine lv_aload_n X.1 X.2.1 dX3_trade_5 rfl (lv_at hl 0 rfl) ?_
  refine lv_iload_n X.1 X.2.1 dX3_trade_6 rfl (lv_at hl 1 rfl) ?_
  refine lv_iload_n X.1 X.2.1 dX3_trade_7 rfl (lv_at hl 2 rfl) ?_
  obtain ⟨r2, e1, h⟩ := m_bS h
  refine m_callI X hl.1 I hA (As := [.int p0, .int p1]) (rest := []) (c_areTwo l n D d (m_sg st 8 0) p0 p1 _ e1) 2 q1716 q1718 qs61 q107 q1719 (hd_areTwo) rfl rfl ⟨Nat.le_trans (Nat.le_of_ble_eq_true rfl) hR.1, Nat.le_trans (Nat.le_of_ble_eq_true rfl) hR.2⟩ ⟨rfl, rfl⟩ ⟨Nat.zero_le _, Nat.zero_le _⟩ (Nat.le_of_ble_eq_true rfl) dX3_trade_8 (fun H locs I => ?_)
  refine lv_if_eq (tgt := 23) X.1 X.2.1 dX3_trade_11 (by decide) (fun c3 => ?_) (fun c3 => ?_)
  · replace h := m_ifT c3 h
    exact k23 (m_sg st 8 0) H locs ls h I (lv_sub hl [] rfl)
  · replace h := m_ifF c3 h
    refine lv_aload_n X.1 X.2.1 dX3_trade_14 rfl (lv_at hl 0 rfl) ?_
    refine lv_iload X.1 X.2.1 dX3_trade_15 (lv_at hl 4 rfl) ?_
    obtain ⟨r5, e4, h⟩ := m_bS h
    refine m_callI X hl.1 I hA (As := [.int p3]) (rest := []) (c_isKind l n D d (m_sg st 8 0) p3 _ e4) 1 q1724 q1726 qs63 q107 q1727 (hd_isKind) rfl rfl ⟨Nat.le_trans (Nat.le_of_ble_eq_true rfl) hR.1, Nat.le_trans (Nat.le_of_ble_eq_true rfl) hR.2⟩ ⟨rfl, rfl⟩ ⟨Nat.zero_le _, Nat.zero_le _⟩ (Nat.le_of_ble_eq_true rfl) dX3_trade_17 (fun H locs I => ?_)
    refine lv_if_ne (tgt := 26) X.1 X.2.1 dX3_trade_20 (by decide) (fun c6 => ?_) (fun c6 => ?_)
    · replace h := m_ifF c6 h
      refine lv_iload_n X.1 X.2.1 dX3_trade_26 rfl (lv_at hl 3 rfl) ?_
      refine lv_i2l X.1 X.2.1 dX3_trade_27 rfl ?_
      refine lv_lconst (v := 1) X.1 X.2.1 dX3_trade_28 (by decide) ?_
      refine lv_ldc2 (v := 999999) X.1 X.2.1 X.2.2.2.1 (X.2.2.1 _ q1728) dX3_trade_29 ?_
      obtain ⟨r8, e7, h⟩ := m_bS h
      refine m_callS X hl.1 (As := [.long p2.toInt64, .long 1, .long 999999]) (rest := []) (c_isIn l n p2.toInt64 1 999999 _ e7) 3 q1623 q1624 q107 q1625 (hd_isIn).2 rfl rfl ⟨Nat.le_trans (Nat.le_of_ble_eq_true rfl) hR.1, Nat.le_trans (Nat.le_of_ble_eq_true rfl) hR.2⟩ ⟨rfl, rfl⟩ ⟨Nat.zero_le _, Nat.zero_le _⟩ (Nat.le_of_ble_eq_true rfl) dX3_trade_32 ?_
      refine lv_if_ne (tgt := 41) X.1 X.2.1 dX3_trade_35 (by decide) (fun c9 => ?_) (fun c9 => ?_)
      · replace h := m_ifF c9 h
        refine lv_aload_n X.1 X.2.1 dX3_trade_41 rfl (lv_at hl 0 rfl) ?_
        refine m_get X I 0 (by decide) rfl rfl rfl q1517 (v := .ref (d.2.1 0)) rfl dX3_trade_42 ?_
        refine lv_iconst (v := 0) X.1 X.2.1 dX3_trade_45 (by decide) ?_
        obtain ⟨g10, h⟩ := m_gS h
        refine m_iald X I 1 (n := 266) (f := (m_sg st 8 0).2.1 0) rfl g10 dX3_trade_46 ?_
        refine lv_bipush (v := 40) X.1 X.2.1 dX3_trade_47 (by decide) ?_
        refine lv_icmp_ne (tgt := 55) X.1 X.2.1 dX3_trade_49 (by decide) (fun c11 => ?_) (fun c11 => ?_)
        · replace h := m_ifF c11 h
          refine lv_aload_n X.1 X.2.1 dX3_trade_55 rfl (lv_at hl 0 rfl) ?_
          obtain ⟨s13, e12, h⟩ := m_bS h
          refine m_callV X hl.1 I hA (As := []) (rest := []) (c_remembers l n D d (m_sg st 8 0)  _ e12) 0 q1729 q1731 qs64 q107 q1732 (hd_remembers) rfl rfl ⟨Nat.le_trans (Nat.le_of_ble_eq_true rfl) hR.1, Nat.le_trans (Nat.le_of_ble_eq_true rfl) hR.2⟩ ⟨rfl, rfl⟩ ⟨Nat.zero_le _, Nat.zero_le _⟩ (Nat.le_of_ble_eq_true rfl) dX3_trade_56 (fun H locs I => ?_)
          refine lv_aload_n X.1 X.2.1 dX3_trade_59 rfl (lv_at hl 0 rfl) ?_
          refine lv_iload_n X.1 X.2.1 dX3_trade_60 rfl (lv_at hl 1 rfl) ?_
          refine lv_iload_n X.1 X.2.1 dX3_trade_61 rfl (lv_at hl 2 rfl) ?_
          refine lv_iload_n X.1 X.2.1 dX3_trade_62 rfl (lv_at hl 3 rfl) ?_
          refine lv_iload X.1 X.2.1 dX3_trade_63 (lv_at hl 4 rfl) ?_
          obtain ⟨s15, e14, h⟩ := m_bS h
          refine m_callV X hl.1 I hA (As := [.int p0, .int p1, .int p2, .int p3]) (rest := []) (c_adds l n D d s13 p0 p1 p2 p3 _ e14) 4 q1704 q1706 qs60 q107 q1707 (hd_adds) rfl rfl ⟨Nat.le_trans (Nat.le_of_ble_eq_true rfl) hR.1, Nat.le_trans (Nat.le_of_ble_eq_true rfl) hR.2⟩ ⟨rfl, rfl⟩ ⟨Nat.zero_le _, Nat.zero_le _⟩ (Nat.le_of_ble_eq_true rfl) dX3_trade_65 (fun H locs I => ?_)
          refine lv_aload_n X.1 X.2.1 dX3_trade_68 rfl (lv_at hl 0 rfl) ?_
          refine m_get X I 0 (by decide) rfl rfl rfl q1517 (v := .ref (d.2.1 0)) rfl dX3_trade_69 ?_
          refine lv_iconst (v := 0) X.1 X.2.1 dX3_trade_72 (by decide) ?_
          obtain ⟨g16, h⟩ := m_gS h
          refine m_iald X I 1 (n := 266) (f := s15.2.1 0) rfl g16 dX3_trade_73 ?_
          refine lv_iconst (v := 1) X.1 X.2.1 dX3_trade_74 (by decide) ?_
          refine lv_isub X.1 X.2.1 dX3_trade_75 ?_
          obtain ⟨rfl, rfl⟩ := m_e2 h
          exact hret H locs ls 76 dX3_trade_76 I
        · replace h := m_ifT c11 h
          refine lv_bipush (v := (-4)) X.1 X.2.1 dX3_trade_52 (by decide) ?_
          obtain ⟨rfl, rfl⟩ := m_e2 h
          exact hret H locs ls 54 dX3_trade_54 I
      · replace h := m_ifT c9 h
        refine lv_bipush (v := (-3)) X.1 X.2.1 dX3_trade_38 (by decide) ?_
        obtain ⟨rfl, rfl⟩ := m_e2 h
        exact hret H locs ls 40 dX3_trade_40 I
    · replace h := m_ifT c6 h
      exact k23 (m_sg st 8 0) H locs ls h I (lv_sub hl [] rfl)
end S_trade
theorem c_trade (l : Launch) (n : Nat) (D : va_G) (d : MD) (st : MS) (p0 : Int32) (p1 : Int32) (p2 : Int32) (p3 : Int32) (r : Int32) (st' : MS) (h : f_trade n st p0 p1 p2 p3 = some (r, st')) : m_Mi l yX3_trade cX3_trade 5 (some .int) ({ frames := 3, cells := 0, slots := 0, locals := 68 } : Room) D d st [.ref d.1, .int p0, .int p1, .int p2, .int p3] r st' :=
  m_startI (lvl := [(0, .ref d.1), (1, .int p0), (2, .int p1), (3, .int p2), (4, .int p3)]) (by decide) rfl (Nat.le_of_ble_eq_true rfl) rfl (fun p e s m args below meth c ls X hr hlk hl hA I => w_trade X hA ⟨Nat.le_refl _, Nat.le_refl _⟩ n st p0 p1 p2 p3 (r, st') h (fun H locs ls pc hd I => m_iret X I hr hlk hd) _ _ ls I hl)

/-! method flow(III)I -/
def f_flow_J22 (n : Nat) (st : MS) : Option (Int32 × MS) :=
  some ((-2), st)
def f_flow (n : Nat) (st : MS) (p0 : Int32) (p1 : Int32) (p2 : Int32) : Option (Int32 × MS) :=
  m_b (f_areTwo n (m_sg st 8 0) p0 p1) (fun r2 => m_if ((r2 : Int32) = 0) (f_flow_J22 n (m_sg st 8 0)) (m_b (f_isKind n (m_sg st 8 0) p2) (fun r5 => m_if ((r5 : Int32) = 0) (f_flow_J22 n (m_sg st 8 0)) (m_b (f_laysFlows n (m_sg st 8 0) p2 ((-1))) (fun s8 => m_b (f_couple n p0 p1) (fun r10 => m_g (m_in r10 64) (some (s8.2.1 17 (r10 : Int32).toNatClampNeg, s8))))))))
theorem hd_flow : yX3_flow.cls = RX3 ∧ yX3_flow.cls ≠ "java/lang/invoke/MethodHandle" ∧ yX3_flow.cls ≠ "java/lang/invoke/VarHandle" ∧ (parseMethodDescriptor yX3_flow.desc).map (fun d => d.parameters.length) = some 3 := by decide +kernel
section S_flow
variable {p : Program} {l : Launch} {e : Env} {R : Room} {s : State} {m : MethodId} {args : Array Value} {below : List Frame} {meth : Method} {c : Code} {Q : State → Prop} {D : va_G} {A : Nat → Prop} {d : MD}
theorem w_flow (X : m_X D A d p s m c cX3_flow 4 args) (hA : ∀ q, s.heap.size ≤ q → A q) (hR : 3 ≤ R.frames ∧ 68 ≤ R.locals) (n : Nat) (st : MS) (p0 : Int32) (p1 : Int32) (p2 : Int32) (r : (Int32 × MS)) (h : f_flow n st p0 p1 p2 = some r) (hret : ∀ (H : Heap) (locs : List Loc) (ls : Array Slot) (pc : Nat), decode cX3_flow pc = .ok (.ireturn, 1) → m_I D A d s.heap r.2 H locs → W p l e R s m args below meth c H locs 0 0 Q (F0 m pc ls [.int r.1])) : ∀ (H : Heap) (locs : List Loc) (ls : Array Slot), m_I D A d s.heap st H locs → lv_has ls 4 [(0, .ref d.1), (1, .int p0), (2, .int p1), (3, .int p2)] → W p l e R s m args below meth c H locs 0 0 Q (F0 m 0 ls []) := by
  obtain ⟨r0, s0⟩ := r
  have k22 : ∀ (st : MS) (H : Heap) (locs : List Loc) (ls : Array Slot), f_flow_J22 n st = some (r0, s0) → m_I D A d s.heap st H locs → lv_has ls 4 [] → W p l e R s m args below meth c H locs 0 0 Q (F0 m 22 ls []) := by
    intro st H locs ls h I hl
    unfold f_flow_J22 at h
    refine lv_bipush (v := (-2)) X.1 X.2.1 dX3_flow_22 (by decide) ?_
    obtain ⟨rfl, rfl⟩ := m_e2 h
    exact hret H locs ls 24 dX3_flow_24 I
  intro H locs ls I hl
  unfold f_flow at h
  refine lv_aload_n X.1 X.2.1 dX3_flow_0 rfl (lv_at hl 0 rfl) ?_
  refine lv_iconst (v := 0) X.1 X.2.1 dX3_flow_1 (by decide) ?_
  refine m_put X I 8 (by decide) rfl rfl rfl q1525 rfl (m_set8 d _ _) dX3_flow_2 (fun H locs I => ?_)
  refine lv_aload_n X.1 X.2.1 dX3_flow_5 rfl (lv_at hl 0 rfl) ?_
  refine lv_iload_n X.1 X.2.1 dX3_flow_6 rfl (lv_at hl 1 rfl) ?_
  refine lv_iload_n X.1 X.2.1 dX3_flow_7 rfl (lv_at hl 2 rfl) ?_
  obtain ⟨r2, e1, h⟩ := m_bS h
  refine m_callI X hl.1 I hA (As := [.int p0, .int p1]) (rest := []) (c_areTwo l n D d (m_sg st 8 0) p0 p1 _ e1) 2 q1716 q1718 qs61 q107 q1719 (hd_areTwo) rfl rfl ⟨Nat.le_trans (Nat.le_of_ble_eq_true rfl) hR.1, Nat.le_trans (Nat.le_of_ble_eq_true rfl) hR.2⟩ ⟨rfl, rfl⟩ ⟨Nat.zero_le _, Nat.zero_le _⟩ (Nat.le_of_ble_eq_true rfl) dX3_flow_8 (fun H locs I => ?_)
  refine lv_if_eq (tgt := 22) X.1 X.2.1 dX3_flow_11 (by decide) (fun c3 => ?_) (fun c3 => ?_)
  · replace h := m_ifT c3 h
    exact k22 (m_sg st 8 0) H locs ls h I (lv_sub hl [] rfl)
  · replace h := m_ifF c3 h
    refine lv_aload_n X.1 X.2.1 dX3_flow_14 rfl (lv_at hl 0 rfl) ?_
    refine lv_iload_n X.1 X.2.1 dX3_flow_15 rfl (lv_at hl 3 rfl) ?_
    obtain ⟨r5, e4, h⟩ := m_bS h
    refine m_callI X hl.1 I hA (As := [.int p2]) (rest := []) (c_isKind l n D d (m_sg st 8 0) p2 _ e4) 1 q1724 q1726 qs63 q107 q1727 (hd_isKind) rfl rfl ⟨Nat.le_trans (Nat.le_of_ble_eq_true rfl) hR.1, Nat.le_trans (Nat.le_of_ble_eq_true rfl) hR.2⟩ ⟨rfl, rfl⟩ ⟨Nat.zero_le _, Nat.zero_le _⟩ (Nat.le_of_ble_eq_true rfl) dX3_flow_16 (fun H locs I => ?_)
    refine lv_if_ne (tgt := 25) X.1 X.2.1 dX3_flow_19 (by decide) (fun c6 => ?_) (fun c6 => ?_)
    · replace h := m_ifF c6 h
      refine lv_aload_n X.1 X.2.1 dX3_flow_25 rfl (lv_at hl 0 rfl) ?_
      refine lv_iload_n X.1 X.2.1 dX3_flow_26 rfl (lv_at hl 3 rfl) ?_
      refine lv_iconst (v := (-1)) X.1 X.2.1 dX3_flow_27 (by decide) ?_
      obtain ⟨s8, e7, h⟩ := m_bS h
      refine m_callV X hl.1 I hA (As := [.int p2, .int ((-1))]) (rest := []) (c_laysFlows l n D d (m_sg st 8 0) p2 ((-1)) _ e7) 2 q1772 q1774 qs67 q107 q1775 (hd_laysFlows) rfl rfl ⟨Nat.le_trans (Nat.le_of_ble_eq_true rfl) hR.1, Nat.le_trans (Nat.le_of_ble_eq_true rfl) hR.2⟩ ⟨rfl, rfl⟩ ⟨Nat.zero_le _, Nat.zero_le _⟩ (Nat.le_of_ble_eq_true rfl) dX3_flow_28 (fun H locs I => ?_)
      refine lv_aload_n X.1 X.2.1 dX3_flow_31 rfl (lv_at hl 0 rfl) ?_
      refine m_get X I 17 (by decide) rfl rfl rfl q1534 (v := .ref (d.2.1 17)) rfl dX3_flow_32 ?_
      refine lv_iload_n X.1 X.2.1 dX3_flow_35 rfl (lv_at hl 1 rfl) ?_
      refine lv_iload_n X.1 X.2.1 dX3_flow_36 rfl (lv_at hl 2 rfl) ?_
      obtain ⟨r10, e9, h⟩ := m_bS h
      refine m_callS X hl.1 (As := [.int p0, .int p1]) (rest := [.ref (d.2.1 17)]) (c_couple l n p0 p1 _ e9) 2 q1784 q1785 q107 q1786 (hd_couple).2 rfl rfl ⟨Nat.le_trans (Nat.le_of_ble_eq_true rfl) hR.1, Nat.le_trans (Nat.le_of_ble_eq_true rfl) hR.2⟩ ⟨rfl, rfl⟩ ⟨Nat.zero_le _, Nat.zero_le _⟩ (Nat.le_of_ble_eq_true rfl) dX3_flow_37 ?_
      obtain ⟨g11, h⟩ := m_gS h
      refine m_iald X I 7 (n := 64) (f := s8.2.1 17) rfl g11 dX3_flow_40 ?_
      obtain ⟨rfl, rfl⟩ := m_e2 h
      exact hret H locs ls 41 dX3_flow_41 I
    · replace h := m_ifT c6 h
      exact k22 (m_sg st 8 0) H locs ls h I (lv_sub hl [] rfl)
end S_flow
theorem c_flow (l : Launch) (n : Nat) (D : va_G) (d : MD) (st : MS) (p0 : Int32) (p1 : Int32) (p2 : Int32) (r : Int32) (st' : MS) (h : f_flow n st p0 p1 p2 = some (r, st')) : m_Mi l yX3_flow cX3_flow 4 (some .int) ({ frames := 3, cells := 0, slots := 0, locals := 68 } : Room) D d st [.ref d.1, .int p0, .int p1, .int p2] r st' :=
  m_startI (lvl := [(0, .ref d.1), (1, .int p0), (2, .int p1), (3, .int p2)]) (by decide) rfl (Nat.le_of_ble_eq_true rfl) rfl (fun p e s m args below meth c ls X hr hlk hl hA I => w_flow X hA ⟨Nat.le_refl _, Nat.le_refl _⟩ n st p0 p1 p2 (r, st') h (fun H locs ls pc hd I => m_iret X I hr hlk hd) _ _ ls I hl)

/-! method ring(II)I -/
def f_ring_J67 (n : Nat) (st : MS) (t0 : Int32) : Option (Int32 × MS) :=
  some (t0, st)
def f_ring (n : Nat) (st : MS) (p0 : Int32) (p1 : Int32) : Option (Int32 × MS) :=
  m_b (f_isKind n (m_sg st 8 0) p0) (fun r2 => m_if ((r2 : Int32) = 0) (some ((-2), m_sg st 8 0)) (m_if (((-1) : Int32) ≤ (p1 : Int32)) (m_b (f_laysFlows n (m_sg st 8 0) p0 ((-1))) (fun s6 => m_b2 (f_laysRing n s6) (fun r8 s9 => m_if ((r8 : Int32) = 0) (f_ring_J67 n s9 ((-1))) (m_if ((p1 : Int32) = ((-1) : Int32)) (f_ring_J67 n s9 r8) (m_if ((r8 : Int32) ≤ (p1 : Int32)) (f_ring_J67 n s9 ((-1))) (m_g (m_in p1 8) (f_ring_J67 n s9 (s9.2.1 18 (p1 : Int32).toNatClampNeg)))))))) (some ((-3), m_sg st 8 0))))
theorem hd_ring : yX3_ring.cls = RX3 ∧ yX3_ring.cls ≠ "java/lang/invoke/MethodHandle" ∧ yX3_ring.cls ≠ "java/lang/invoke/VarHandle" ∧ (parseMethodDescriptor yX3_ring.desc).map (fun d => d.parameters.length) = some 2 := by decide +kernel
section S_ring
variable {p : Program} {l : Launch} {e : Env} {R : Room} {s : State} {m : MethodId} {args : Array Value} {below : List Frame} {meth : Method} {c : Code} {Q : State → Prop} {D : va_G} {A : Nat → Prop} {d : MD}
theorem w_ring (X : m_X D A d p s m c cX3_ring 4 args) (hA : ∀ q, s.heap.size ≤ q → A q) (hR : 12 ≤ R.frames ∧ 293 ≤ R.locals) (n : Nat) (st : MS) (p0 : Int32) (p1 : Int32) (r : (Int32 × MS)) (h : f_ring n st p0 p1 = some r) (hret : ∀ (H : Heap) (locs : List Loc) (ls : Array Slot) (pc : Nat), decode cX3_ring pc = .ok (.ireturn, 1) → m_I D A d s.heap r.2 H locs → W p l e R s m args below meth c H locs 0 0 Q (F0 m pc ls [.int r.1])) : ∀ (H : Heap) (locs : List Loc) (ls : Array Slot), m_I D A d s.heap st H locs → lv_has ls 4 [(0, .ref d.1), (1, .int p0), (2, .int p1)] → W p l e R s m args below meth c H locs 0 0 Q (F0 m 0 ls []) := by
  obtain ⟨r0, s0⟩ := r
  have k67 : ∀ (st : MS) (t0 : Int32) (H : Heap) (locs : List Loc) (ls : Array Slot), f_ring_J67 n st t0 = some (r0, s0) → m_I D A d s.heap st H locs → lv_has ls 4 [] → W p l e R s m args below meth c H locs 0 0 Q (F0 m 67 ls [.int t0]) := by
    intro st t0 H locs ls h I hl
    unfold f_ring_J67 at h
    obtain ⟨rfl, rfl⟩ := m_e2 h
    exact hret H locs ls 67 dX3_ring_67 I
  intro H locs ls I hl
  unfold f_ring at h
  refine lv_aload_n X.1 X.2.1 dX3_ring_0 rfl (lv_at hl 0 rfl) ?_
  refine lv_iconst (v := 0) X.1 X.2.1 dX3_ring_1 (by decide) ?_
  refine m_put X I 8 (by decide) rfl rfl rfl q1525 rfl (m_set8 d _ _) dX3_ring_2 (fun H locs I => ?_)
  refine lv_aload_n X.1 X.2.1 dX3_ring_5 rfl (lv_at hl 0 rfl) ?_
  refine lv_iload_n X.1 X.2.1 dX3_ring_6 rfl (lv_at hl 1 rfl) ?_
  obtain ⟨r2, e1, h⟩ := m_bS h
  refine m_callI X hl.1 I hA (As := [.int p0]) (rest := []) (c_isKind l n D d (m_sg st 8 0) p0 _ e1) 1 q1724 q1726 qs63 q107 q1727 (hd_isKind) rfl rfl ⟨Nat.le_trans (Nat.le_of_ble_eq_true rfl) hR.1, Nat.le_trans (Nat.le_of_ble_eq_true rfl) hR.2⟩ ⟨rfl, rfl⟩ ⟨Nat.zero_le _, Nat.zero_le _⟩ (Nat.le_of_ble_eq_true rfl) dX3_ring_7 (fun H locs I => ?_)
  refine lv_if_ne (tgt := 16) X.1 X.2.1 dX3_ring_10 (by decide) (fun c3 => ?_) (fun c3 => ?_)
  · replace h := m_ifF c3 h
    refine lv_iload_n X.1 X.2.1 dX3_ring_16 rfl (lv_at hl 2 rfl) ?_
    refine lv_iconst (v := (-1)) X.1 X.2.1 dX3_ring_17 (by decide) ?_
    refine lv_icmp_ge (tgt := 24) X.1 X.2.1 dX3_ring_18 (by decide) (fun c4 => ?_) (fun c4 => ?_)
    · replace h := m_ifT c4 h
      refine lv_aload_n X.1 X.2.1 dX3_ring_24 rfl (lv_at hl 0 rfl) ?_
      refine lv_iload_n X.1 X.2.1 dX3_ring_25 rfl (lv_at hl 1 rfl) ?_
      refine lv_iconst (v := (-1)) X.1 X.2.1 dX3_ring_26 (by decide) ?_
      obtain ⟨s6, e5, h⟩ := m_bS h
      refine m_callV X hl.1 I hA (As := [.int p0, .int ((-1))]) (rest := []) (c_laysFlows l n D d (m_sg st 8 0) p0 ((-1)) _ e5) 2 q1772 q1774 qs67 q107 q1775 (hd_laysFlows) rfl rfl ⟨Nat.le_trans (Nat.le_of_ble_eq_true rfl) hR.1, Nat.le_trans (Nat.le_of_ble_eq_true rfl) hR.2⟩ ⟨rfl, rfl⟩ ⟨Nat.zero_le _, Nat.zero_le _⟩ (Nat.le_of_ble_eq_true rfl) dX3_ring_27 (fun H locs I => ?_)
      refine lv_aload_n X.1 X.2.1 dX3_ring_30 rfl (lv_at hl 0 rfl) ?_
      obtain ⟨r8, s9, e7, h⟩ := m_b2S h
      refine m_callI X hl.1 I hA (As := []) (rest := []) (c_laysRing l n D d s6  _ _ e7) 0 q1830 q1832 qs75 q107 q1833 (hd_laysRing) rfl rfl ⟨Nat.le_trans (Nat.le_of_ble_eq_true rfl) hR.1, Nat.le_trans (Nat.le_of_ble_eq_true rfl) hR.2⟩ ⟨rfl, rfl⟩ ⟨Nat.zero_le _, Nat.zero_le _⟩ (Nat.le_of_ble_eq_true rfl) dX3_ring_31 (fun H locs I => ?_)
      refine lv_istore_n (lv' := [(3, .int r8), (0, .ref d.1), (1, .int p0), (2, .int p1)]) X.1 X.2.1 dX3_ring_34 rfl hl (by decide) rfl (fun ls hl => ?_)
      refine lv_iload_n X.1 X.2.1 dX3_ring_35 rfl (lv_at hl 0 rfl) ?_
      refine lv_if_ne (tgt := 43) X.1 X.2.1 dX3_ring_36 (by decide) (fun c10 => ?_) (fun c10 => ?_)
      · replace h := m_ifF c10 h
        refine lv_iload_n X.1 X.2.1 dX3_ring_43 rfl (lv_at hl 3 rfl) ?_
        refine lv_iconst (v := (-1)) X.1 X.2.1 dX3_ring_44 (by decide) ?_
        refine lv_icmp_ne (tgt := 52) X.1 X.2.1 dX3_ring_45 (by decide) (fun c11 => ?_) (fun c11 => ?_)
        · replace h := m_ifF c11 h
          refine lv_iload_n X.1 X.2.1 dX3_ring_52 rfl (lv_at hl 3 rfl) ?_
          refine lv_iload_n X.1 X.2.1 dX3_ring_53 rfl (lv_at hl 0 rfl) ?_
          refine lv_icmp_ge (tgt := 66) X.1 X.2.1 dX3_ring_54 (by decide) (fun c12 => ?_) (fun c12 => ?_)
          · replace h := m_ifT c12 h
            refine lv_iconst (v := (-1)) X.1 X.2.1 dX3_ring_66 (by decide) ?_
            exact k67 s9 ((-1)) H locs ls h I (lv_sub hl [] rfl)
          · replace h := m_ifF c12 h
            refine lv_aload_n X.1 X.2.1 dX3_ring_57 rfl (lv_at hl 1 rfl) ?_
            refine m_get X I 18 (by decide) rfl rfl rfl q1535 (v := .ref (d.2.1 18)) rfl dX3_ring_58 ?_
            refine lv_iload_n X.1 X.2.1 dX3_ring_61 rfl (lv_at hl 3 rfl) ?_
            obtain ⟨g13, h⟩ := m_gS h
            refine m_iald X I 8 (n := 8) (f := s9.2.1 18) rfl g13 dX3_ring_62 ?_
            refine lv_goto (tgt := 67) X.1 X.2.1 dX3_ring_63 (by decide) ?_
            exact k67 s9 (s9.2.1 18 (p1 : Int32).toNatClampNeg) H locs ls h I (lv_sub hl [] rfl)
        · replace h := m_ifT c11 h
          refine lv_iload_n X.1 X.2.1 dX3_ring_48 rfl (lv_at hl 0 rfl) ?_
          refine lv_goto (tgt := 67) X.1 X.2.1 dX3_ring_49 (by decide) ?_
          exact k67 s9 r8 H locs ls h I (lv_sub hl [] rfl)
      · replace h := m_ifT c10 h
        refine lv_iconst (v := (-1)) X.1 X.2.1 dX3_ring_39 (by decide) ?_
        refine lv_goto (tgt := 67) X.1 X.2.1 dX3_ring_40 (by decide) ?_
        exact k67 s9 ((-1)) H locs ls h I (lv_sub hl [] rfl)
    · replace h := m_ifF c4 h
      refine lv_bipush (v := (-3)) X.1 X.2.1 dX3_ring_21 (by decide) ?_
      obtain ⟨rfl, rfl⟩ := m_e2 h
      exact hret H locs ls 23 dX3_ring_23 I
  · replace h := m_ifT c3 h
    refine lv_bipush (v := (-2)) X.1 X.2.1 dX3_ring_13 (by decide) ?_
    obtain ⟨rfl, rfl⟩ := m_e2 h
    exact hret H locs ls 15 dX3_ring_15 I
end S_ring
theorem c_ring (l : Launch) (n : Nat) (D : va_G) (d : MD) (st : MS) (p0 : Int32) (p1 : Int32) (r : Int32) (st' : MS) (h : f_ring n st p0 p1 = some (r, st')) : m_Mi l yX3_ring cX3_ring 4 (some .int) ({ frames := 12, cells := 0, slots := 0, locals := 293 } : Room) D d st [.ref d.1, .int p0, .int p1] r st' :=
  m_startI (lvl := [(0, .ref d.1), (1, .int p0), (2, .int p1)]) (by decide) rfl (Nat.le_of_ble_eq_true rfl) rfl (fun p e s m args below meth c ls X hr hlk hl hA I => w_ring X hA ⟨Nat.le_refl _, Nat.le_refl _⟩ n st p0 p1 (r, st') h (fun H locs ls pc hd I => m_iret X I hr hlk hd) _ _ ls I hl)

/-! method load(I)I -/
def f_load_J37 (n : Nat) (st : MS) (t0 : Int32) : Option (Int32 × MS) :=
  some (t0, st)
def f_load (n : Nat) (st : MS) (p0 : Int32) : Option (Int32 × MS) :=
  m_b (f_isKind n (m_sg st 8 0) p0) (fun r2 => m_if ((r2 : Int32) = 0) (some ((-2), m_sg st 8 0)) (m_b (f_laysFlows n (m_sg st 8 0) p0 ((-1))) (fun s5 => m_b2 (f_laysRing n s5) (fun r7 s8 => m_if ((r7 : Int32) = 0) (f_load_J37 n s8 ((-1))) (m_b (f_loadOf n s8) (fun r11 => f_load_J37 n s8 r11))))))
theorem hd_load : yX3_load.cls = RX3 ∧ yX3_load.cls ≠ "java/lang/invoke/MethodHandle" ∧ yX3_load.cls ≠ "java/lang/invoke/VarHandle" ∧ (parseMethodDescriptor yX3_load.desc).map (fun d => d.parameters.length) = some 1 := by decide +kernel
section S_load
variable {p : Program} {l : Launch} {e : Env} {R : Room} {s : State} {m : MethodId} {args : Array Value} {below : List Frame} {meth : Method} {c : Code} {Q : State → Prop} {D : va_G} {A : Nat → Prop} {d : MD}
theorem w_load (X : m_X D A d p s m c cX3_load 2 args) (hA : ∀ q, s.heap.size ≤ q → A q) (hR : 12 ≤ R.frames ∧ 293 ≤ R.locals) (n : Nat) (st : MS) (p0 : Int32) (r : (Int32 × MS)) (h : f_load n st p0 = some r) (hret : ∀ (H : Heap) (locs : List Loc) (ls : Array Slot) (pc : Nat), decode cX3_load pc = .ok (.ireturn, 1) → m_I D A d s.heap r.2 H locs → W p l e R s m args below meth c H locs 0 0 Q (F0 m pc ls [.int r.1])) : ∀ (H : Heap) (locs : List Loc) (ls : Array Slot), m_I D A d s.heap st H locs → lv_has ls 2 [(0, .ref d.1), (1, .int p0)] → W p l e R s m args below meth c H locs 0 0 Q (F0 m 0 ls []) := by
  obtain ⟨r0, s0⟩ := r
  have k37 : ∀ (st : MS) (t0 : Int32) (H : Heap) (locs : List Loc) (ls : Array Slot), f_load_J37 n st t0 = some (r0, s0) → m_I D A d s.heap st H locs → lv_has ls 2 [] → W p l e R s m args below meth c H locs 0 0 Q (F0 m 37 ls [.int t0]) := by
    intro st t0 H locs ls h I hl
    unfold f_load_J37 at h
    obtain ⟨rfl, rfl⟩ := m_e2 h
    exact hret H locs ls 37 dX3_load_37 I
  intro H locs ls I hl
  unfold f_load at h
  refine lv_aload_n X.1 X.2.1 dX3_load_0 rfl (lv_at hl 0 rfl) ?_
  refine lv_iconst (v := 0) X.1 X.2.1 dX3_load_1 (by decide) ?_
  refine m_put X I 8 (by decide) rfl rfl rfl q1525 rfl (m_set8 d _ _) dX3_load_2 (fun H locs I => ?_)
  refine lv_aload_n X.1 X.2.1 dX3_load_5 rfl (lv_at hl 0 rfl) ?_
  refine lv_iload_n X.1 X.2.1 dX3_load_6 rfl (lv_at hl 1 rfl) ?_
  obtain ⟨r2, e1, h⟩ := m_bS h
  refine m_callI X hl.1 I hA (As := [.int p0]) (rest := []) (c_isKind l n D d (m_sg st 8 0) p0 _ e1) 1 q1724 q1726 qs63 q107 q1727 (hd_isKind) rfl rfl ⟨Nat.le_trans (Nat.le_of_ble_eq_true rfl) hR.1, Nat.le_trans (Nat.le_of_ble_eq_true rfl) hR.2⟩ ⟨rfl, rfl⟩ ⟨Nat.zero_le _, Nat.zero_le _⟩ (Nat.le_of_ble_eq_true rfl) dX3_load_7 (fun H locs I => ?_)
  refine lv_if_ne (tgt := 16) X.1 X.2.1 dX3_load_10 (by decide) (fun c3 => ?_) (fun c3 => ?_)
  · replace h := m_ifF c3 h
    refine lv_aload_n X.1 X.2.1 dX3_load_16 rfl (lv_at hl 0 rfl) ?_
    refine lv_iload_n X.1 X.2.1 dX3_load_17 rfl (lv_at hl 1 rfl) ?_
    refine lv_iconst (v := (-1)) X.1 X.2.1 dX3_load_18 (by decide) ?_
    obtain ⟨s5, e4, h⟩ := m_bS h
    refine m_callV X hl.1 I hA (As := [.int p0, .int ((-1))]) (rest := []) (c_laysFlows l n D d (m_sg st 8 0) p0 ((-1)) _ e4) 2 q1772 q1774 qs67 q107 q1775 (hd_laysFlows) rfl rfl ⟨Nat.le_trans (Nat.le_of_ble_eq_true rfl) hR.1, Nat.le_trans (Nat.le_of_ble_eq_true rfl) hR.2⟩ ⟨rfl, rfl⟩ ⟨Nat.zero_le _, Nat.zero_le _⟩ (Nat.le_of_ble_eq_true rfl) dX3_load_19 (fun H locs I => ?_)
    refine lv_aload_n X.1 X.2.1 dX3_load_22 rfl (lv_at hl 0 rfl) ?_
    obtain ⟨r7, s8, e6, h⟩ := m_b2S h
    refine m_callI X hl.1 I hA (As := []) (rest := []) (c_laysRing l n D d s5  _ _ e6) 0 q1830 q1832 qs75 q107 q1833 (hd_laysRing) rfl rfl ⟨Nat.le_trans (Nat.le_of_ble_eq_true rfl) hR.1, Nat.le_trans (Nat.le_of_ble_eq_true rfl) hR.2⟩ ⟨rfl, rfl⟩ ⟨Nat.zero_le _, Nat.zero_le _⟩ (Nat.le_of_ble_eq_true rfl) dX3_load_23 (fun H locs I => ?_)
    refine lv_if_ne (tgt := 33) X.1 X.2.1 dX3_load_26 (by decide) (fun c9 => ?_) (fun c9 => ?_)
    · replace h := m_ifF c9 h
      refine lv_aload_n X.1 X.2.1 dX3_load_33 rfl (lv_at hl 0 rfl) ?_
      obtain ⟨r11, e10, h⟩ := m_bS h
      refine m_callI X hl.1 I hA (As := []) (rest := []) (c_loadOf l n D d s8  _ e10) 0 q1842 q1844 qs77 q107 q1845 (hd_loadOf) rfl rfl ⟨Nat.le_trans (Nat.le_of_ble_eq_true rfl) hR.1, Nat.le_trans (Nat.le_of_ble_eq_true rfl) hR.2⟩ ⟨rfl, rfl⟩ ⟨Nat.zero_le _, Nat.zero_le _⟩ (Nat.le_of_ble_eq_true rfl) dX3_load_34 (fun H locs I => ?_)
      exact k37 s8 r11 H locs ls h I (lv_sub hl [] rfl)
    · replace h := m_ifT c9 h
      refine lv_iconst (v := (-1)) X.1 X.2.1 dX3_load_29 (by decide) ?_
      refine lv_goto (tgt := 37) X.1 X.2.1 dX3_load_30 (by decide) ?_
      exact k37 s8 ((-1)) H locs ls h I (lv_sub hl [] rfl)
  · replace h := m_ifT c3 h
    refine lv_bipush (v := (-2)) X.1 X.2.1 dX3_load_13 (by decide) ?_
    obtain ⟨rfl, rfl⟩ := m_e2 h
    exact hret H locs ls 15 dX3_load_15 I
end S_load
theorem c_load (l : Launch) (n : Nat) (D : va_G) (d : MD) (st : MS) (p0 : Int32) (r : Int32) (st' : MS) (h : f_load n st p0 = some (r, st')) : m_Mi l yX3_load cX3_load 2 (some .int) ({ frames := 12, cells := 0, slots := 0, locals := 293 } : Room) D d st [.ref d.1, .int p0] r st' :=
  m_startI (lvl := [(0, .ref d.1), (1, .int p0)]) (by decide) rfl (Nat.le_of_ble_eq_true rfl) rfl (fun p e s m args below meth c ls X hr hlk hl hA I => w_load X hA ⟨Nat.le_refl _, Nat.le_refl _⟩ n st p0 (r, st') h (fun H locs ls pc hd I => m_iret X I hr hlk hd) _ _ ls I hl)

/-! method cleared(II)I -/
def f_cleared_L39 (n : Nat) (v2 : Int32) (v3 : Int32) (v4 : Int32) (st : MS) : Option ((Int32 × Int32 × MS) ⊕ (Int32 × Int32 × MS)) :=
  m_b2 (f_laysRing n st) (fun r10 s11 => m_if ((r10 : Int32) ≤ 0) (some (.inr ((v3, v4, s11)))) (m_b (f_loadOf n s11) (fun r14 => m_b (f_ringGoes n s11) (fun s16 => some (.inl ((v3 + (r14 * (s11.1 19)), v4 + 1, s16)))))))
def f_cleared_L39l (n : Nat) (v2 : Int32) (x : (Int32 × Int32 × MS)) : Option (Int32 × Int32 × MS) := m_lp (fun (x : (Int32 × Int32 × MS)) => f_cleared_L39 n v2 x.1 x.2.1 x.2.2) n x
def f_cleared_J25 (n : Nat) (st : MS) : Option (Int32 × MS) :=
  some ((-2), st)
def f_cleared_J90 (n : Nat) (st : MS) (t0 : Int32) : Option (Int32 × MS) :=
  some (t0, st)
def f_cleared (n : Nat) (st : MS) (p0 : Int32) (p1 : Int32) : Option (Int32 × MS) :=
  m_b (f_isKind n (m_sg st 8 0) p0) (fun r2 => m_if ((r2 : Int32) = 0) (f_cleared_J25 n (m_sg st 8 0)) (m_b (f_isIn n p1.toInt64 0 2) (fun r5 => m_if ((r5 : Int32) = 0) (f_cleared_J25 n (m_sg st 8 0)) (m_b (f_laysFlows n (m_sg st 8 0) p0 ((-1))) (fun s8 => m_b (f_cleared_L39l n p1 ((0, 0, s8))) (fun y25 => m_if ((p1 : Int32) = 0) (f_cleared_J90 n y25.2.2 y25.1) (m_if ((p1 : Int32) = (1 : Int32)) (f_cleared_J90 n y25.2.2 y25.2.1) (m_b (f_positive n y25.2.2) (fun r24 => f_cleared_J90 n y25.2.2 r24)))))))))
theorem hd_cleared : yX3_cleared.cls = RX3 ∧ yX3_cleared.cls ≠ "java/lang/invoke/MethodHandle" ∧ yX3_cleared.cls ≠ "java/lang/invoke/VarHandle" ∧ (parseMethodDescriptor yX3_cleared.desc).map (fun d => d.parameters.length) = some 2 := by decide +kernel
section S_cleared
variable {p : Program} {l : Launch} {e : Env} {R : Room} {s : State} {m : MethodId} {args : Array Value} {below : List Frame} {meth : Method} {c : Code} {Q : State → Prop} {D : va_G} {A : Nat → Prop} {d : MD}
theorem wf_cleared_L39 (X : m_X D A d p s m c cX3_cleared 5 args) (hA : ∀ q, s.heap.size ≤ q → A q) (hR : 12 ≤ R.frames ∧ 293 ≤ R.locals) (n : Nat) (v2 : Int32) (x : (Int32 × Int32 × MS)) (z : (Int32 × Int32 × MS)) (hz : f_cleared_L39l n v2 x = some z) (hE : (fun (z : (Int32 × Int32 × MS)) => ∀ (H : Heap) (locs : List Loc) (ls : Array Slot), m_I D A d s.heap z.2.2 H locs → lv_has ls 5 [(0, .ref d.1), (2, .int v2), (3, .int z.1), (4, .int z.2.1)] → W p l e R s m args below meth c H locs 0 0 Q (F0 m 68 ls [])) z) : (fun (x : (Int32 × Int32 × MS)) => ∀ (H : Heap) (locs : List Loc) (ls : Array Slot), m_I D A d s.heap x.2.2 H locs → lv_has ls 5 [(0, .ref d.1), (2, .int v2), (3, .int x.1), (4, .int x.2.1)] → W p l e R s m args below meth c H locs 0 0 Q (F0 m 39 ls [])) x := by
  refine m_lpW (G := fun (x : (Int32 × Int32 × MS)) => ∀ (H : Heap) (locs : List Loc) (ls : Array Slot), m_I D A d s.heap x.2.2 H locs → lv_has ls 5 [(0, .ref d.1), (2, .int v2), (3, .int x.1), (4, .int x.2.1)] → W p l e R s m args below meth c H locs 0 0 Q (F0 m 39 ls [])) (E := fun (z : (Int32 × Int32 × MS)) => ∀ (H : Heap) (locs : List Loc) (ls : Array Slot), m_I D A d s.heap z.2.2 H locs → lv_has ls 5 [(0, .ref d.1), (2, .int v2), (3, .int z.1), (4, .int z.2.1)] → W p l e R s m args below meth c H locs 0 0 Q (F0 m 68 ls [])) ?_ n x z hz hE
  rintro ⟨v3, v4, st⟩ r h hr H locs ls I hl
  replace h : f_cleared_L39 n v2 v3 v4 st = some r := h
  unfold f_cleared_L39 at h
  refine lv_aload_n X.1 X.2.1 dX3_cleared_39 rfl (lv_at hl 0 rfl) ?_
  obtain ⟨r10, s11, e9, h⟩ := m_b2S h
  refine m_callI X hl.1 I hA (As := []) (rest := []) (c_laysRing l n D d st  _ _ e9) 0 q1830 q1832 qs75 q107 q1833 (hd_laysRing) rfl rfl ⟨Nat.le_trans (Nat.le_of_ble_eq_true rfl) hR.1, Nat.le_trans (Nat.le_of_ble_eq_true rfl) hR.2⟩ ⟨rfl, rfl⟩ ⟨Nat.zero_le _, Nat.zero_le _⟩ (Nat.le_of_ble_eq_true rfl) dX3_cleared_40 (fun H locs I => ?_)
  refine lv_if_le (tgt := 68) X.1 X.2.1 dX3_cleared_43 (by decide) (fun c12 => ?_) (fun c12 => ?_)
  · replace h := m_ifT c12 h
    cases h
    exact hr H locs ls I (lv_sub hl [0, 1, 2, 3] rfl)
  · replace h := m_ifF c12 h
    refine lv_iload_n X.1 X.2.1 dX3_cleared_46 rfl (lv_at hl 2 rfl) ?_
    refine lv_aload_n X.1 X.2.1 dX3_cleared_47 rfl (lv_at hl 0 rfl) ?_
    obtain ⟨r14, e13, h⟩ := m_bS h
    refine m_callI X hl.1 I hA (As := []) (rest := [.int v3]) (c_loadOf l n D d s11  _ e13) 0 q1842 q1844 qs77 q107 q1845 (hd_loadOf) rfl rfl ⟨Nat.le_trans (Nat.le_of_ble_eq_true rfl) hR.1, Nat.le_trans (Nat.le_of_ble_eq_true rfl) hR.2⟩ ⟨rfl, rfl⟩ ⟨Nat.zero_le _, Nat.zero_le _⟩ (Nat.le_of_ble_eq_true rfl) dX3_cleared_48 (fun H locs I => ?_)
    refine lv_aload_n X.1 X.2.1 dX3_cleared_51 rfl (lv_at hl 0 rfl) ?_
    refine m_get X I 19 (by decide) rfl rfl rfl q1536 (v := .int (s11.1 19)) rfl dX3_cleared_52 ?_
    refine lv_imul X.1 X.2.1 dX3_cleared_55 ?_
    refine lv_iadd X.1 X.2.1 dX3_cleared_56 ?_
    refine lv_istore_n (lv' := [(3, .int (v3 + (r14 * (s11.1 19)))), (0, .ref d.1), (2, .int v2), (4, .int v4)]) X.1 X.2.1 dX3_cleared_57 rfl hl (by decide) rfl (fun ls hl => ?_)
    refine lv_aload_n X.1 X.2.1 dX3_cleared_58 rfl (lv_at hl 1 rfl) ?_
    obtain ⟨s16, e15, h⟩ := m_bS h
    refine m_callV X hl.1 I hA (As := []) (rest := []) (c_ringGoes l n D d s11  _ e15) 0 q1854 q1856 qs79 q107 q1857 (hd_ringGoes) rfl rfl ⟨Nat.le_trans (Nat.le_of_ble_eq_true rfl) hR.1, Nat.le_trans (Nat.le_of_ble_eq_true rfl) hR.2⟩ ⟨rfl, rfl⟩ ⟨Nat.zero_le _, Nat.zero_le _⟩ (Nat.le_of_ble_eq_true rfl) dX3_cleared_59 (fun H locs I => ?_)
    refine lv_iinc (v := v4 + 1) (lv' := [(4, .int (v4 + 1)), (3, .int (v3 + (r14 * (s11.1 19)))), (0, .ref d.1), (2, .int v2)]) X.1 X.2.1 dX3_cleared_62 hl (k := 3) rfl rfl (by decide) rfl (fun ls hl => ?_)
    refine lv_goto (tgt := 39) X.1 X.2.1 dX3_cleared_65 (by decide) ?_
    cases h
    exact hr H locs ls I (lv_sub hl [2, 3, 1, 0] rfl)
theorem w_cleared (X : m_X D A d p s m c cX3_cleared 5 args) (hA : ∀ q, s.heap.size ≤ q → A q) (hR : 12 ≤ R.frames ∧ 293 ≤ R.locals) (n : Nat) (st : MS) (p0 : Int32) (p1 : Int32) (r : (Int32 × MS)) (h : f_cleared n st p0 p1 = some r) (hret : ∀ (H : Heap) (locs : List Loc) (ls : Array Slot) (pc : Nat), decode cX3_cleared pc = .ok (.ireturn, 1) → m_I D A d s.heap r.2 H locs → W p l e R s m args below meth c H locs 0 0 Q (F0 m pc ls [.int r.1])) : ∀ (H : Heap) (locs : List Loc) (ls : Array Slot), m_I D A d s.heap st H locs → lv_has ls 5 [(0, .ref d.1), (1, .int p0), (2, .int p1)] → W p l e R s m args below meth c H locs 0 0 Q (F0 m 0 ls []) := by
  obtain ⟨r0, s0⟩ := r
  have k25 : ∀ (st : MS) (H : Heap) (locs : List Loc) (ls : Array Slot), f_cleared_J25 n st = some (r0, s0) → m_I D A d s.heap st H locs → lv_has ls 5 [] → W p l e R s m args below meth c H locs 0 0 Q (F0 m 25 ls []) := by
    intro st H locs ls h I hl
    unfold f_cleared_J25 at h
    refine lv_bipush (v := (-2)) X.1 X.2.1 dX3_cleared_25 (by decide) ?_
    obtain ⟨rfl, rfl⟩ := m_e2 h
    exact hret H locs ls 27 dX3_cleared_27 I
  have k90 : ∀ (st : MS) (t0 : Int32) (H : Heap) (locs : List Loc) (ls : Array Slot), f_cleared_J90 n st t0 = some (r0, s0) → m_I D A d s.heap st H locs → lv_has ls 5 [] → W p l e R s m args below meth c H locs 0 0 Q (F0 m 90 ls [.int t0]) := by
    intro st t0 H locs ls h I hl
    unfold f_cleared_J90 at h
    obtain ⟨rfl, rfl⟩ := m_e2 h
    exact hret H locs ls 90 dX3_cleared_90 I
  intro H locs ls I hl
  unfold f_cleared at h
  refine lv_aload_n X.1 X.2.1 dX3_cleared_0 rfl (lv_at hl 0 rfl) ?_
  refine lv_iconst (v := 0) X.1 X.2.1 dX3_cleared_1 (by decide) ?_
  refine m_put X I 8 (by decide) rfl rfl rfl q1525 rfl (m_set8 d _ _) dX3_cleared_2 (fun H locs I => ?_)
  refine lv_aload_n X.1 X.2.1 dX3_cleared_5 rfl (lv_at hl 0 rfl) ?_
  refine lv_iload_n X.1 X.2.1 dX3_cleared_6 rfl (lv_at hl 1 rfl) ?_
  obtain ⟨r2, e1, h⟩ := m_bS h
  refine m_callI X hl.1 I hA (As := [.int p0]) (rest := []) (c_isKind l n D d (m_sg st 8 0) p0 _ e1) 1 q1724 q1726 qs63 q107 q1727 (hd_isKind) rfl rfl ⟨Nat.le_trans (Nat.le_of_ble_eq_true rfl) hR.1, Nat.le_trans (Nat.le_of_ble_eq_true rfl) hR.2⟩ ⟨rfl, rfl⟩ ⟨Nat.zero_le _, Nat.zero_le _⟩ (Nat.le_of_ble_eq_true rfl) dX3_cleared_7 (fun H locs I => ?_)
  refine lv_if_eq (tgt := 25) X.1 X.2.1 dX3_cleared_10 (by decide) (fun c3 => ?_) (fun c3 => ?_)
  · replace h := m_ifT c3 h
    exact k25 (m_sg st 8 0) H locs ls h I (lv_sub hl [] rfl)
  · replace h := m_ifF c3 h
    refine lv_iload_n X.1 X.2.1 dX3_cleared_13 rfl (lv_at hl 2 rfl) ?_
    refine lv_i2l X.1 X.2.1 dX3_cleared_14 rfl ?_
    refine lv_lconst (v := 0) X.1 X.2.1 dX3_cleared_15 (by decide) ?_
    refine lv_ldc2 (v := 2) X.1 X.2.1 X.2.2.2.1 (X.2.2.1 _ q1804) dX3_cleared_16 ?_
    obtain ⟨r5, e4, h⟩ := m_bS h
    refine m_callS X hl.1 (As := [.long p1.toInt64, .long 0, .long 2]) (rest := []) (c_isIn l n p1.toInt64 0 2 _ e4) 3 q1623 q1624 q107 q1625 (hd_isIn).2 rfl rfl ⟨Nat.le_trans (Nat.le_of_ble_eq_true rfl) hR.1, Nat.le_trans (Nat.le_of_ble_eq_true rfl) hR.2⟩ ⟨rfl, rfl⟩ ⟨Nat.zero_le _, Nat.zero_le _⟩ (Nat.le_of_ble_eq_true rfl) dX3_cleared_19 ?_
    refine lv_if_ne (tgt := 28) X.1 X.2.1 dX3_cleared_22 (by decide) (fun c6 => ?_) (fun c6 => ?_)
    · replace h := m_ifF c6 h
      refine lv_aload_n X.1 X.2.1 dX3_cleared_28 rfl (lv_at hl 0 rfl) ?_
      refine lv_iload_n X.1 X.2.1 dX3_cleared_29 rfl (lv_at hl 1 rfl) ?_
      refine lv_iconst (v := (-1)) X.1 X.2.1 dX3_cleared_30 (by decide) ?_
      obtain ⟨s8, e7, h⟩ := m_bS h
      refine m_callV X hl.1 I hA (As := [.int p0, .int ((-1))]) (rest := []) (c_laysFlows l n D d (m_sg st 8 0) p0 ((-1)) _ e7) 2 q1772 q1774 qs67 q107 q1775 (hd_laysFlows) rfl rfl ⟨Nat.le_trans (Nat.le_of_ble_eq_true rfl) hR.1, Nat.le_trans (Nat.le_of_ble_eq_true rfl) hR.2⟩ ⟨rfl, rfl⟩ ⟨Nat.zero_le _, Nat.zero_le _⟩ (Nat.le_of_ble_eq_true rfl) dX3_cleared_31 (fun H locs I => ?_)
      refine lv_iconst (v := 0) X.1 X.2.1 dX3_cleared_34 (by decide) ?_
      refine lv_istore_n (lv' := [(3, .int 0), (0, .ref d.1), (1, .int p0), (2, .int p1)]) X.1 X.2.1 dX3_cleared_35 rfl hl (by decide) rfl (fun ls hl => ?_)
      refine lv_iconst (v := 0) X.1 X.2.1 dX3_cleared_36 (by decide) ?_
      refine lv_istore (lv' := [(4, .int 0), (3, .int 0), (0, .ref d.1), (1, .int p0), (2, .int p1)]) X.1 X.2.1 dX3_cleared_37 hl (by decide) rfl (fun ls hl => ?_)
      obtain ⟨⟨z18, z19, s20⟩, e17, h⟩ := m_bS h
      refine wf_cleared_L39 X hA hR n p1 _ _ e17 (fun H locs ls I hl => ?_) H locs ls I (lv_sub hl [2, 4, 1, 0] rfl)
      refine lv_iload_n X.1 X.2.1 dX3_cleared_68 rfl (lv_at hl 1 rfl) ?_
      refine lv_if_ne (tgt := 76) X.1 X.2.1 dX3_cleared_69 (by decide) (fun c21 => ?_) (fun c21 => ?_)
      · replace h := m_ifF c21 h
        refine lv_iload_n X.1 X.2.1 dX3_cleared_76 rfl (lv_at hl 1 rfl) ?_
        refine lv_iconst (v := 1) X.1 X.2.1 dX3_cleared_77 (by decide) ?_
        refine lv_icmp_ne (tgt := 86) X.1 X.2.1 dX3_cleared_78 (by decide) (fun c22 => ?_) (fun c22 => ?_)
        · replace h := m_ifF c22 h
          refine lv_aload_n X.1 X.2.1 dX3_cleared_86 rfl (lv_at hl 0 rfl) ?_
          obtain ⟨r24, e23, h⟩ := m_bS h
          refine m_callI X hl.1 I hA (As := []) (rest := []) (c_positive l n D d s20  _ e23) 0 q1814 q1816 qs73 q107 q1817 (hd_positive) rfl rfl ⟨Nat.le_trans (Nat.le_of_ble_eq_true rfl) hR.1, Nat.le_trans (Nat.le_of_ble_eq_true rfl) hR.2⟩ ⟨rfl, rfl⟩ ⟨Nat.zero_le _, Nat.zero_le _⟩ (Nat.le_of_ble_eq_true rfl) dX3_cleared_87 (fun H locs I => ?_)
          exact k90 s20 r24 H locs ls h I (lv_sub hl [] rfl)
        · replace h := m_ifT c22 h
          refine lv_iload X.1 X.2.1 dX3_cleared_81 (lv_at hl 3 rfl) ?_
          refine lv_goto (tgt := 90) X.1 X.2.1 dX3_cleared_83 (by decide) ?_
          exact k90 s20 z19 H locs ls h I (lv_sub hl [] rfl)
      · replace h := m_ifT c21 h
        refine lv_iload_n X.1 X.2.1 dX3_cleared_72 rfl (lv_at hl 2 rfl) ?_
        refine lv_goto (tgt := 90) X.1 X.2.1 dX3_cleared_73 (by decide) ?_
        exact k90 s20 z18 H locs ls h I (lv_sub hl [] rfl)
    · replace h := m_ifT c6 h
      exact k25 (m_sg st 8 0) H locs ls h I (lv_sub hl [] rfl)
end S_cleared
theorem c_cleared (l : Launch) (n : Nat) (D : va_G) (d : MD) (st : MS) (p0 : Int32) (p1 : Int32) (r : Int32) (st' : MS) (h : f_cleared n st p0 p1 = some (r, st')) : m_Mi l yX3_cleared cX3_cleared 5 (some .int) ({ frames := 12, cells := 0, slots := 0, locals := 293 } : Room) D d st [.ref d.1, .int p0, .int p1] r st' :=
  m_startI (lvl := [(0, .ref d.1), (1, .int p0), (2, .int p1)]) (by decide) rfl (Nat.le_of_ble_eq_true rfl) rfl (fun p e s m args below meth c ls X hr hlk hl hA I => w_cleared X hA ⟨Nat.le_refl _, Nat.le_refl _⟩ n st p0 p1 (r, st') h (fun H locs ls pc hd I => m_iret X I hr hlk hd) _ _ ls I hl)

/-! method presses()Z -/
def f_presses_L2 (n : Nat) (v1 : Int32) (st : MS) : Option ((Int32 × MS) ⊕ MS) :=
  m_if ((64 : Int32) ≤ (v1 : Int32)) (some (.inr st)) (m_g (m_in v1 64) (some (.inl ((v1 + 1, m_sa st 22 (v1 : Int32).toNatClampNeg 0)))))
def f_presses_L2l (n : Nat) (x : (Int32 × MS)) : Option MS := m_lp (fun (x : (Int32 × MS)) => f_presses_L2 n x.1 x.2) n x
def f_presses_J58 (n : Nat) (st : MS) (v1 : Int32) (t0 : Int32) (t1 : Int32) : Option ((Int32 × MS) ⊕ MS) :=
  m_g (m_in t1 8) (some (.inl ((v1 + 1, m_sa st 25 (t1 : Int32).toNatClampNeg t0))))
def f_presses_L23 (n : Nat) (v1 : Int32) (st : MS) : Option ((Int32 × MS) ⊕ MS) :=
  m_if ((8 : Int32) ≤ (v1 : Int32)) (some (.inr st)) (m_g (m_in v1 8) (m_if (((m_sa st 24 (v1 : Int32).toNatClampNeg 0).1 5 : Int32) ≤ (v1 : Int32)) (f_presses_J58 n (m_sa st 24 (v1 : Int32).toNatClampNeg 0) v1 0 v1) (m_b (f_netBy n (m_sa st 24 (v1 : Int32).toNatClampNeg 0) v1) (fun r10 => f_presses_J58 n (m_sa st 24 (v1 : Int32).toNatClampNeg 0) v1 r10 v1))))
def f_presses_L23l (n : Nat) (x : (Int32 × MS)) : Option MS := m_lp (fun (x : (Int32 × MS)) => f_presses_L23 n x.1 x.2) n x
def f_presses_J144 (n : Nat) (st : MS) (v2 : Int32) (t0 : Int32) : Option ((Int32 × Int32 × MS) ⊕ (Int32 × MS)) :=
  some (.inl ((t0, v2 + 1, st)))
def f_presses_J139 (n : Nat) (st : MS) (v2 : Int32) : Option ((Int32 × Int32 × MS) ⊕ (Int32 × MS)) :=
  f_presses_J144 n st v2 1
def f_presses_J96 (n : Nat) (st : MS) (v1 : Int32) (v2 : Int32) (t0 : Int32) (t1 : Int32) : Option ((Int32 × Int32 × MS) ⊕ (Int32 × MS)) :=
  m_g (m_in t1 16) (m_g (m_in (v2 + 8) 16) (m_g (m_in v2 16) (m_g (m_in (v2 + 8) 16) (m_if ((v1 : Int32) = 0) (m_g (m_in v2 8) (m_if (((m_sa (m_sa (m_sa (m_sa st 27 (t1 : Int32).toNatClampNeg t0) 27 (v2 + 8 : Int32).toNatClampNeg 1000000) 28 (v2 : Int32).toNatClampNeg ((-1))) 28 (v2 + 8 : Int32).toNatClampNeg ((-1))).2.1 25 (v2 : Int32).toNatClampNeg : Int32) ≤ 0) (f_presses_J144 n (m_sa (m_sa (m_sa (m_sa st 27 (t1 : Int32).toNatClampNeg t0) 27 (v2 + 8 : Int32).toNatClampNeg 1000000) 28 (v2 : Int32).toNatClampNeg ((-1))) 28 (v2 + 8 : Int32).toNatClampNeg ((-1))) v2 0) (f_presses_J139 n (m_sa (m_sa (m_sa (m_sa st 27 (t1 : Int32).toNatClampNeg t0) 27 (v2 + 8 : Int32).toNatClampNeg 1000000) 28 (v2 : Int32).toNatClampNeg ((-1))) 28 (v2 + 8 : Int32).toNatClampNeg ((-1))) v2))) (f_presses_J139 n (m_sa (m_sa (m_sa (m_sa st 27 (t1 : Int32).toNatClampNeg t0) 27 (v2 + 8 : Int32).toNatClampNeg 1000000) 28 (v2 : Int32).toNatClampNeg ((-1))) 28 (v2 + 8 : Int32).toNatClampNeg ((-1))) v2)))))
def f_presses_L69 (n : Nat) (v1 : Int32) (v2 : Int32) (st : MS) : Option ((Int32 × Int32 × MS) ⊕ (Int32 × MS)) :=
  m_if ((8 : Int32) ≤ (v2 : Int32)) (some (.inr ((v1, st)))) (m_g (m_in v2 8) (m_if ((st.2.1 25 (v2 : Int32).toNatClampNeg : Int32) ≤ 0) (f_presses_J96 n st v1 v2 1000000 v2) (f_presses_J96 n st v1 v2 0 v2)))
def f_presses_L69l (n : Nat) (x : (Int32 × Int32 × MS)) : Option (Int32 × MS) := m_lp (fun (x : (Int32 × Int32 × MS)) => f_presses_L69 n x.1 x.2.1 x.2.2) n x
def f_presses_J223 (n : Nat) (st : MS) (v2 : Int32) (v3 : Int32) : Option ((Int32 × Int32 × MS) ⊕ (Int32 × MS)) :=
  some (.inl ((v2, v3 + 1, st)))
def f_presses_J221 (n : Nat) (st : MS) (v3 : Int32) : Option ((Int32 × Int32 × MS) ⊕ (Int32 × MS)) :=
  f_presses_J223 n st v3 v3
def f_presses_L165 (n : Nat) (v2 : Int32) (v3 : Int32) (st : MS) : Option ((Int32 × Int32 × MS) ⊕ (Int32 × MS)) :=
  m_if ((8 : Int32) ≤ (v3 : Int32)) (some (.inr ((v2, st)))) (m_g (m_in v3 8) (m_if (0 ≤ (st.2.1 25 (v3 : Int32).toNatClampNeg : Int32)) (f_presses_J223 n st v2 v3) (m_g (m_in (v3 + 8) 16) (m_if ((1000000 : Int32) ≤ (st.2.1 27 (v3 + 8 : Int32).toNatClampNeg : Int32)) (f_presses_J223 n st v2 v3) (m_if ((v2 : Int32) = ((-1) : Int32)) (f_presses_J221 n st v3) (m_g (m_in (v3 + 8) 16) (m_g (m_in (v2 + 8) 16) (m_if ((st.2.1 27 (v2 + 8 : Int32).toNatClampNeg : Int32) ≤ (st.2.1 27 (v3 + 8 : Int32).toNatClampNeg : Int32)) (f_presses_J223 n st v2 v3) (f_presses_J221 n st v3)))))))))
def f_presses_L165l (n : Nat) (x : (Int32 × Int32 × MS)) : Option (Int32 × MS) := m_lp (fun (x : (Int32 × Int32 × MS)) => f_presses_L165 n x.1 x.2.1 x.2.2) n x
def f_presses_J282 (n : Nat) (st : MS) (v2 : Int32) (v3 : Int32) (t0 : Int32) (t1 : Int32) : Option (MS ⊕ (MS ⊕ MS)) :=
  m_b (f_wayMay n st t1 t0) (fun r49 => m_b (f_sends n st (v2 + 8) r49) (fun s51 => m_g (m_in v3 8) (m_g (m_in v3 8) (m_g (m_in v2 8) (m_g (m_in v2 8) (some (.inl (m_sa (m_sa s51 25 (v3 : Int32).toNatClampNeg ((s51.2.1 25 (v3 : Int32).toNatClampNeg) - r49)) 25 (v2 : Int32).toNatClampNeg (((m_sa s51 25 (v3 : Int32).toNatClampNeg ((s51.2.1 25 (v3 : Int32).toNatClampNeg) - r49)).2.1 25 (v2 : Int32).toNatClampNeg) + r49)))))))))
def f_presses_L65 (n : Nat) (st : MS) : Option (MS ⊕ (MS ⊕ MS)) :=
  m_b (f_presses_L69l n ((0, 0, st))) (fun y58 => m_if ((y58.1 : Int32) = 0) (some (.inr (.inl y58.2))) (m_b (f_laysWays n y58.2) (fun s28 => m_b (f_presses_L165l n (((-1), 0, s28))) (fun y57 => m_if ((y57.1 : Int32) = ((-1) : Int32)) (some (.inr (.inr y57.2))) (m_b (f_firstOf n y57.2 (y57.1 + 8)) (fun r43 => m_g (m_in r43 8) (m_g (m_in y57.1 8) (m_if ((-(y57.2.2.1 25 (y57.1 : Int32).toNatClampNeg) : Int32) ≤ (y57.2.2.1 25 (r43 : Int32).toNatClampNeg : Int32)) (m_g (m_in y57.1 8) (f_presses_J282 n y57.2 y57.1 r43 (-(y57.2.2.1 25 (y57.1 : Int32).toNatClampNeg)) (y57.1 + 8))) (m_g (m_in r43 8) (f_presses_J282 n y57.2 y57.1 r43 (y57.2.2.1 25 (r43 : Int32).toNatClampNeg) (y57.1 + 8)))))))))))
def f_presses_L65l (n : Nat) (x : MS) : Option (MS ⊕ MS) := m_lp (fun (x : MS) => f_presses_L65 n x) n x
def f_presses (n : Nat) (st : MS) : Option (Int32 × MS) :=
  m_b (f_presses_L2l n ((0, st))) (fun s4 => m_b (f_presses_L23l n ((0, s4))) (fun s12 => m_b (f_presses_L65l n s12) (fun y64 => m_s y64 (fun s60 => m_g (m_01 1) (some (1, s60))) (fun s62 => m_g (m_01 0) (some (0, s62))))))
theorem hd_presses : yX3_presses.cls = RX3 ∧ yX3_presses.cls ≠ "java/lang/invoke/MethodHandle" ∧ yX3_presses.cls ≠ "java/lang/invoke/VarHandle" ∧ (parseMethodDescriptor yX3_presses.desc).map (fun d => d.parameters.length) = some 0 := by decide +kernel
section S_presses
variable {p : Program} {l : Launch} {e : Env} {R : Room} {s : State} {m : MethodId} {args : Array Value} {below : List Frame} {meth : Method} {c : Code} {Q : State → Prop} {D : va_G} {A : Nat → Prop} {d : MD}
theorem wf_presses_L2 (X : m_X D A d p s m c cX3_presses 5 args) (hA : ∀ q, s.heap.size ≤ q → A q) (hR : 3 ≤ R.frames ∧ 71 ≤ R.locals) (n : Nat)  (x : (Int32 × MS)) (z : MS) (hz : f_presses_L2l n x = some z) (hE : (fun (z : MS) => ∀ (H : Heap) (locs : List Loc) (ls : Array Slot), m_I D A d s.heap z H locs → lv_has ls 5 [(0, .ref d.1)] → W p l e R s m args below meth c H locs 0 0 Q (F0 m 21 ls [])) z) : (fun (x : (Int32 × MS)) => ∀ (H : Heap) (locs : List Loc) (ls : Array Slot), m_I D A d s.heap x.2 H locs → lv_has ls 5 [(0, .ref d.1), (1, .int x.1)] → W p l e R s m args below meth c H locs 0 0 Q (F0 m 2 ls [])) x := by
  refine m_lpW (G := fun (x : (Int32 × MS)) => ∀ (H : Heap) (locs : List Loc) (ls : Array Slot), m_I D A d s.heap x.2 H locs → lv_has ls 5 [(0, .ref d.1), (1, .int x.1)] → W p l e R s m args below meth c H locs 0 0 Q (F0 m 2 ls [])) (E := fun (z : MS) => ∀ (H : Heap) (locs : List Loc) (ls : Array Slot), m_I D A d s.heap z H locs → lv_has ls 5 [(0, .ref d.1)] → W p l e R s m args below meth c H locs 0 0 Q (F0 m 21 ls [])) ?_ n x z hz hE
  rintro ⟨v1, st⟩ r h hr H locs ls I hl
  replace h : f_presses_L2 n v1 st = some r := h
  unfold f_presses_L2 at h
  refine lv_iload_n X.1 X.2.1 dX3_presses_2 rfl (lv_at hl 1 rfl) ?_
  refine lv_bipush (v := 64) X.1 X.2.1 dX3_presses_3 (by decide) ?_
  refine lv_icmp_ge (tgt := 21) X.1 X.2.1 dX3_presses_5 (by decide) (fun c1 => ?_) (fun c1 => ?_)
  · replace h := m_ifT c1 h
    cases h
    exact hr H locs ls I (lv_sub hl [0] rfl)
  · replace h := m_ifF c1 h
    refine lv_aload_n X.1 X.2.1 dX3_presses_8 rfl (lv_at hl 0 rfl) ?_
    refine m_get X I 22 (by decide) rfl rfl rfl q1539 (v := .ref (d.2.1 22)) rfl dX3_presses_9 ?_
    refine lv_iload_n X.1 X.2.1 dX3_presses_12 rfl (lv_at hl 1 rfl) ?_
    refine lv_iconst (v := 0) X.1 X.2.1 dX3_presses_13 (by decide) ?_
    obtain ⟨g2, h⟩ := m_gS h
    refine m_iast X I 11 (n := 64) (f := st.2.1 22) rfl (m_st22 d _ _ _) g2 dX3_presses_14 (fun H locs I => ?_)
    refine lv_iinc (v := v1 + 1) (lv' := [(1, .int (v1 + 1)), (0, .ref d.1)]) X.1 X.2.1 dX3_presses_15 hl (k := 1) rfl rfl (by decide) rfl (fun ls hl => ?_)
    refine lv_goto (tgt := 2) X.1 X.2.1 dX3_presses_18 (by decide) ?_
    cases h
    exact hr H locs ls I (lv_sub hl [1, 0] rfl)
theorem wf_presses_L23 (X : m_X D A d p s m c cX3_presses 5 args) (hA : ∀ q, s.heap.size ≤ q → A q) (hR : 3 ≤ R.frames ∧ 71 ≤ R.locals) (n : Nat)  (x : (Int32 × MS)) (z : MS) (hz : f_presses_L23l n x = some z) (hE : (fun (z : MS) => ∀ (H : Heap) (locs : List Loc) (ls : Array Slot), m_I D A d s.heap z H locs → lv_has ls 5 [(0, .ref d.1)] → W p l e R s m args below meth c H locs 0 0 Q (F0 m 65 ls [])) z) : (fun (x : (Int32 × MS)) => ∀ (H : Heap) (locs : List Loc) (ls : Array Slot), m_I D A d s.heap x.2 H locs → lv_has ls 5 [(0, .ref d.1), (1, .int x.1)] → W p l e R s m args below meth c H locs 0 0 Q (F0 m 23 ls [])) x := by
  refine m_lpW (G := fun (x : (Int32 × MS)) => ∀ (H : Heap) (locs : List Loc) (ls : Array Slot), m_I D A d s.heap x.2 H locs → lv_has ls 5 [(0, .ref d.1), (1, .int x.1)] → W p l e R s m args below meth c H locs 0 0 Q (F0 m 23 ls [])) (E := fun (z : MS) => ∀ (H : Heap) (locs : List Loc) (ls : Array Slot), m_I D A d s.heap z H locs → lv_has ls 5 [(0, .ref d.1)] → W p l e R s m args below meth c H locs 0 0 Q (F0 m 65 ls [])) ?_ n x z hz hE
  rintro ⟨v1, st⟩ r h hr H locs ls I hl
  replace h : f_presses_L23 n v1 st = some r := h
  have k58 : ∀ (st : MS) (v1 : Int32) (t0 : Int32) (t1 : Int32) (H : Heap) (locs : List Loc) (ls : Array Slot), f_presses_J58 n st v1 t0 t1 = some r → m_I D A d s.heap st H locs → lv_has ls 5 [(0, .ref d.1), (1, .int v1)] → W p l e R s m args below meth c H locs 0 0 Q (F0 m 58 ls [.int t0, .int t1, .ref (d.2.1 25)]) := by
    intro st v1 t0 t1 H locs ls h I hl
    unfold f_presses_J58 at h
    obtain ⟨g8, h⟩ := m_gS h
    refine m_iast X I 14 (n := 8) (f := st.2.1 25) rfl (m_st25 d _ _ _) g8 dX3_presses_58 (fun H locs I => ?_)
    refine lv_iinc (v := v1 + 1) (lv' := [(1, .int (v1 + 1)), (0, .ref d.1)]) X.1 X.2.1 dX3_presses_59 hl (k := 1) rfl rfl (by decide) rfl (fun ls hl => ?_)
    refine lv_goto (tgt := 23) X.1 X.2.1 dX3_presses_62 (by decide) ?_
    cases h
    exact hr H locs ls I (lv_sub hl [1, 0] rfl)
  unfold f_presses_L23 at h
  refine lv_iload_n X.1 X.2.1 dX3_presses_23 rfl (lv_at hl 1 rfl) ?_
  refine lv_bipush (v := 8) X.1 X.2.1 dX3_presses_24 (by decide) ?_
  refine lv_icmp_ge (tgt := 65) X.1 X.2.1 dX3_presses_26 (by decide) (fun c5 => ?_) (fun c5 => ?_)
  · replace h := m_ifT c5 h
    cases h
    exact hr H locs ls I (lv_sub hl [0] rfl)
  · replace h := m_ifF c5 h
    refine lv_aload_n X.1 X.2.1 dX3_presses_29 rfl (lv_at hl 0 rfl) ?_
    refine m_get X I 24 (by decide) rfl rfl rfl q1541 (v := .ref (d.2.1 24)) rfl dX3_presses_30 ?_
    refine lv_iload_n X.1 X.2.1 dX3_presses_33 rfl (lv_at hl 1 rfl) ?_
    refine lv_iconst (v := 0) X.1 X.2.1 dX3_presses_34 (by decide) ?_
    obtain ⟨g6, h⟩ := m_gS h
    refine m_iast X I 13 (n := 8) (f := st.2.1 24) rfl (m_st24 d _ _ _) g6 dX3_presses_35 (fun H locs I => ?_)
    refine lv_aload_n X.1 X.2.1 dX3_presses_36 rfl (lv_at hl 0 rfl) ?_
    refine m_get X I 25 (by decide) rfl rfl rfl q1542 (v := .ref (d.2.1 25)) rfl dX3_presses_37 ?_
    refine lv_iload_n X.1 X.2.1 dX3_presses_40 rfl (lv_at hl 1 rfl) ?_
    refine lv_iload_n X.1 X.2.1 dX3_presses_41 rfl (lv_at hl 1 rfl) ?_
    refine lv_aload_n X.1 X.2.1 dX3_presses_42 rfl (lv_at hl 0 rfl) ?_
    refine m_get X I 5 (by decide) rfl rfl rfl q1522 (v := .int ((m_sa st 24 (v1 : Int32).toNatClampNeg 0).1 5)) rfl dX3_presses_43 ?_
    refine lv_icmp_ge (tgt := 57) X.1 X.2.1 dX3_presses_46 (by decide) (fun c7 => ?_) (fun c7 => ?_)
    · replace h := m_ifT c7 h
      refine lv_iconst (v := 0) X.1 X.2.1 dX3_presses_57 (by decide) ?_
      exact k58 (m_sa st 24 (v1 : Int32).toNatClampNeg 0) v1 0 v1 H locs ls h I (lv_sub hl [0, 1] rfl)
    · replace h := m_ifF c7 h
      refine lv_aload_n X.1 X.2.1 dX3_presses_49 rfl (lv_at hl 0 rfl) ?_
      refine lv_iload_n X.1 X.2.1 dX3_presses_50 rfl (lv_at hl 1 rfl) ?_
      obtain ⟨r10, e9, h⟩ := m_bS h
      refine m_callI X hl.1 I hA (As := [.int v1]) (rest := [.int v1, .ref (d.2.1 25)]) (c_netBy l n D d (m_sa st 24 (v1 : Int32).toNatClampNeg 0) v1 _ e9) 1 q1792 q1794 qs70 q107 q1795 (hd_netBy) rfl rfl ⟨Nat.le_trans (Nat.le_of_ble_eq_true rfl) hR.1, Nat.le_trans (Nat.le_of_ble_eq_true rfl) hR.2⟩ ⟨rfl, rfl⟩ ⟨Nat.zero_le _, Nat.zero_le _⟩ (Nat.le_of_ble_eq_true rfl) dX3_presses_51 (fun H locs I => ?_)
      refine lv_goto (tgt := 58) X.1 X.2.1 dX3_presses_54 (by decide) ?_
      exact k58 (m_sa st 24 (v1 : Int32).toNatClampNeg 0) v1 r10 v1 H locs ls h I (lv_sub hl [0, 1] rfl)
theorem wf_presses_L69 (X : m_X D A d p s m c cX3_presses 5 args) (hA : ∀ q, s.heap.size ≤ q → A q) (hR : 3 ≤ R.frames ∧ 71 ≤ R.locals) (n : Nat)  (x : (Int32 × Int32 × MS)) (z : (Int32 × MS)) (hz : f_presses_L69l n x = some z) (hE : (fun (z : (Int32 × MS)) => ∀ (H : Heap) (locs : List Loc) (ls : Array Slot), m_I D A d s.heap z.2 H locs → lv_has ls 5 [(0, .ref d.1), (1, .int z.1)] → W p l e R s m args below meth c H locs 0 0 Q (F0 m 151 ls [])) z) : (fun (x : (Int32 × Int32 × MS)) => ∀ (H : Heap) (locs : List Loc) (ls : Array Slot), m_I D A d s.heap x.2.2 H locs → lv_has ls 5 [(0, .ref d.1), (1, .int x.1), (2, .int x.2.1)] → W p l e R s m args below meth c H locs 0 0 Q (F0 m 69 ls [])) x := by
  refine m_lpW (G := fun (x : (Int32 × Int32 × MS)) => ∀ (H : Heap) (locs : List Loc) (ls : Array Slot), m_I D A d s.heap x.2.2 H locs → lv_has ls 5 [(0, .ref d.1), (1, .int x.1), (2, .int x.2.1)] → W p l e R s m args below meth c H locs 0 0 Q (F0 m 69 ls [])) (E := fun (z : (Int32 × MS)) => ∀ (H : Heap) (locs : List Loc) (ls : Array Slot), m_I D A d s.heap z.2 H locs → lv_has ls 5 [(0, .ref d.1), (1, .int z.1)] → W p l e R s m args below meth c H locs 0 0 Q (F0 m 151 ls [])) ?_ n x z hz hE
  rintro ⟨v1, v2, st⟩ r h hr H locs ls I hl
  replace h : f_presses_L69 n v1 v2 st = some r := h
  have k144 : ∀ (st : MS) (v2 : Int32) (t0 : Int32) (H : Heap) (locs : List Loc) (ls : Array Slot), f_presses_J144 n st v2 t0 = some r → m_I D A d s.heap st H locs → lv_has ls 5 [(0, .ref d.1), (2, .int v2)] → W p l e R s m args below meth c H locs 0 0 Q (F0 m 144 ls [.int t0]) := by
    intro st v2 t0 H locs ls h I hl
    unfold f_presses_J144 at h
    refine lv_istore_n (lv' := [(1, .int t0), (0, .ref d.1), (2, .int v2)]) X.1 X.2.1 dX3_presses_144 rfl hl (by decide) rfl (fun ls hl => ?_)
    refine lv_iinc (v := v2 + 1) (lv' := [(2, .int (v2 + 1)), (1, .int t0), (0, .ref d.1)]) X.1 X.2.1 dX3_presses_145 hl (k := 2) rfl rfl (by decide) rfl (fun ls hl => ?_)
    refine lv_goto (tgt := 69) X.1 X.2.1 dX3_presses_148 (by decide) ?_
    cases h
    exact hr H locs ls I (lv_sub hl [2, 1, 0] rfl)
  have k139 : ∀ (st : MS) (v2 : Int32) (H : Heap) (locs : List Loc) (ls : Array Slot), f_presses_J139 n st v2 = some r → m_I D A d s.heap st H locs → lv_has ls 5 [(0, .ref d.1), (2, .int v2)] → W p l e R s m args below meth c H locs 0 0 Q (F0 m 139 ls []) := by
    intro st v2 H locs ls h I hl
    unfold f_presses_J139 at h
    refine lv_iconst (v := 1) X.1 X.2.1 dX3_presses_139 (by decide) ?_
    refine lv_goto (tgt := 144) X.1 X.2.1 dX3_presses_140 (by decide) ?_
    exact k144 st v2 1 H locs ls h I (lv_sub hl [0, 1] rfl)
  have k96 : ∀ (st : MS) (v1 : Int32) (v2 : Int32) (t0 : Int32) (t1 : Int32) (H : Heap) (locs : List Loc) (ls : Array Slot), f_presses_J96 n st v1 v2 t0 t1 = some r → m_I D A d s.heap st H locs → lv_has ls 5 [(0, .ref d.1), (1, .int v1), (2, .int v2)] → W p l e R s m args below meth c H locs 0 0 Q (F0 m 96 ls [.int t0, .int t1, .ref (d.2.1 27)]) := by
    intro st v1 v2 t0 t1 H locs ls h I hl
    unfold f_presses_J96 at h
    obtain ⟨g16, h⟩ := m_gS h
    refine m_iast X I 16 (n := 16) (f := st.2.1 27) rfl (m_st27 d _ _ _) g16 dX3_presses_96 (fun H locs I => ?_)
    refine lv_aload_n X.1 X.2.1 dX3_presses_97 rfl (lv_at hl 0 rfl) ?_
    refine m_get X I 27 (by decide) rfl rfl rfl q1544 (v := .ref (d.2.1 27)) rfl dX3_presses_98 ?_
    refine lv_iload_n X.1 X.2.1 dX3_presses_101 rfl (lv_at hl 2 rfl) ?_
    refine lv_bipush (v := 8) X.1 X.2.1 dX3_presses_102 (by decide) ?_
    refine lv_iadd X.1 X.2.1 dX3_presses_104 ?_
    refine lv_ldcw (v := 1000000) X.1 X.2.1 X.2.2.2.1 (X.2.2.1 _ q1895) dX3_presses_105 ?_
    obtain ⟨g17, h⟩ := m_gS h
    refine m_iast X I 16 (n := 16) (f := (m_sa st 27 (t1 : Int32).toNatClampNeg t0).2.1 27) rfl (m_st27 d _ _ _) g17 dX3_presses_108 (fun H locs I => ?_)
    refine lv_aload_n X.1 X.2.1 dX3_presses_109 rfl (lv_at hl 0 rfl) ?_
    refine m_get X I 28 (by decide) rfl rfl rfl q1545 (v := .ref (d.2.1 28)) rfl dX3_presses_110 ?_
    refine lv_iload_n X.1 X.2.1 dX3_presses_113 rfl (lv_at hl 2 rfl) ?_
    refine lv_iconst (v := (-1)) X.1 X.2.1 dX3_presses_114 (by decide) ?_
    obtain ⟨g18, h⟩ := m_gS h
    refine m_iast X I 17 (n := 16) (f := (m_sa (m_sa st 27 (t1 : Int32).toNatClampNeg t0) 27 (v2 + 8 : Int32).toNatClampNeg 1000000).2.1 28) rfl (m_st28 d _ _ _) g18 dX3_presses_115 (fun H locs I => ?_)
    refine lv_aload_n X.1 X.2.1 dX3_presses_116 rfl (lv_at hl 0 rfl) ?_
    refine m_get X I 28 (by decide) rfl rfl rfl q1545 (v := .ref (d.2.1 28)) rfl dX3_presses_117 ?_
    refine lv_iload_n X.1 X.2.1 dX3_presses_120 rfl (lv_at hl 2 rfl) ?_
    refine lv_bipush (v := 8) X.1 X.2.1 dX3_presses_121 (by decide) ?_
    refine lv_iadd X.1 X.2.1 dX3_presses_123 ?_
    refine lv_iconst (v := (-1)) X.1 X.2.1 dX3_presses_124 (by decide) ?_
    obtain ⟨g19, h⟩ := m_gS h
    refine m_iast X I 17 (n := 16) (f := (m_sa (m_sa (m_sa st 27 (t1 : Int32).toNatClampNeg t0) 27 (v2 + 8 : Int32).toNatClampNeg 1000000) 28 (v2 : Int32).toNatClampNeg ((-1))).2.1 28) rfl (m_st28 d _ _ _) g19 dX3_presses_125 (fun H locs I => ?_)
    refine lv_iload_n X.1 X.2.1 dX3_presses_126 rfl (lv_at hl 1 rfl) ?_
    refine lv_if_ne (tgt := 139) X.1 X.2.1 dX3_presses_127 (by decide) (fun c20 => ?_) (fun c20 => ?_)
    · replace h := m_ifF c20 h
      exact k139 (m_sa (m_sa (m_sa (m_sa st 27 (t1 : Int32).toNatClampNeg t0) 27 (v2 + 8 : Int32).toNatClampNeg 1000000) 28 (v2 : Int32).toNatClampNeg ((-1))) 28 (v2 + 8 : Int32).toNatClampNeg ((-1))) v2 H locs ls h I (lv_sub hl [0, 2] rfl)
    · replace h := m_ifT c20 h
      refine lv_aload_n X.1 X.2.1 dX3_presses_130 rfl (lv_at hl 0 rfl) ?_
      refine m_get X I 25 (by decide) rfl rfl rfl q1542 (v := .ref (d.2.1 25)) rfl dX3_presses_131 ?_
      refine lv_iload_n X.1 X.2.1 dX3_presses_134 rfl (lv_at hl 2 rfl) ?_
      obtain ⟨g21, h⟩ := m_gS h
      refine m_iald X I 14 (n := 8) (f := (m_sa (m_sa (m_sa (m_sa st 27 (t1 : Int32).toNatClampNeg t0) 27 (v2 + 8 : Int32).toNatClampNeg 1000000) 28 (v2 : Int32).toNatClampNeg ((-1))) 28 (v2 + 8 : Int32).toNatClampNeg ((-1))).2.1 25) rfl g21 dX3_presses_135 ?_
      refine lv_if_le (tgt := 143) X.1 X.2.1 dX3_presses_136 (by decide) (fun c22 => ?_) (fun c22 => ?_)
      · replace h := m_ifT c22 h
        refine lv_iconst (v := 0) X.1 X.2.1 dX3_presses_143 (by decide) ?_
        exact k144 (m_sa (m_sa (m_sa (m_sa st 27 (t1 : Int32).toNatClampNeg t0) 27 (v2 + 8 : Int32).toNatClampNeg 1000000) 28 (v2 : Int32).toNatClampNeg ((-1))) 28 (v2 + 8 : Int32).toNatClampNeg ((-1))) v2 0 H locs ls h I (lv_sub hl [0, 2] rfl)
      · replace h := m_ifF c22 h
        exact k139 (m_sa (m_sa (m_sa (m_sa st 27 (t1 : Int32).toNatClampNeg t0) 27 (v2 + 8 : Int32).toNatClampNeg 1000000) 28 (v2 : Int32).toNatClampNeg ((-1))) 28 (v2 + 8 : Int32).toNatClampNeg ((-1))) v2 H locs ls h I (lv_sub hl [0, 2] rfl)
  unfold f_presses_L69 at h
  refine lv_iload_n X.1 X.2.1 dX3_presses_69 rfl (lv_at hl 2 rfl) ?_
  refine lv_bipush (v := 8) X.1 X.2.1 dX3_presses_70 (by decide) ?_
  refine lv_icmp_ge (tgt := 151) X.1 X.2.1 dX3_presses_72 (by decide) (fun c13 => ?_) (fun c13 => ?_)
  · replace h := m_ifT c13 h
    cases h
    exact hr H locs ls I (lv_sub hl [0, 1] rfl)
  · replace h := m_ifF c13 h
    refine lv_aload_n X.1 X.2.1 dX3_presses_75 rfl (lv_at hl 0 rfl) ?_
    refine m_get X I 27 (by decide) rfl rfl rfl q1544 (v := .ref (d.2.1 27)) rfl dX3_presses_76 ?_
    refine lv_iload_n X.1 X.2.1 dX3_presses_79 rfl (lv_at hl 2 rfl) ?_
    refine lv_aload_n X.1 X.2.1 dX3_presses_80 rfl (lv_at hl 0 rfl) ?_
    refine m_get X I 25 (by decide) rfl rfl rfl q1542 (v := .ref (d.2.1 25)) rfl dX3_presses_81 ?_
    refine lv_iload_n X.1 X.2.1 dX3_presses_84 rfl (lv_at hl 2 rfl) ?_
    obtain ⟨g14, h⟩ := m_gS h
    refine m_iald X I 14 (n := 8) (f := st.2.1 25) rfl g14 dX3_presses_85 ?_
    refine lv_if_le (tgt := 93) X.1 X.2.1 dX3_presses_86 (by decide) (fun c15 => ?_) (fun c15 => ?_)
    · replace h := m_ifT c15 h
      refine lv_ldcw (v := 1000000) X.1 X.2.1 X.2.2.2.1 (X.2.2.1 _ q1895) dX3_presses_93 ?_
      exact k96 st v1 v2 1000000 v2 H locs ls h I (lv_sub hl [0, 1, 2] rfl)
    · replace h := m_ifF c15 h
      refine lv_iconst (v := 0) X.1 X.2.1 dX3_presses_89 (by decide) ?_
      refine lv_goto (tgt := 96) X.1 X.2.1 dX3_presses_90 (by decide) ?_
      exact k96 st v1 v2 0 v2 H locs ls h I (lv_sub hl [0, 1, 2] rfl)
theorem wf_presses_L165 (X : m_X D A d p s m c cX3_presses 5 args) (hA : ∀ q, s.heap.size ≤ q → A q) (hR : 3 ≤ R.frames ∧ 71 ≤ R.locals) (n : Nat)  (x : (Int32 × Int32 × MS)) (z : (Int32 × MS)) (hz : f_presses_L165l n x = some z) (hE : (fun (z : (Int32 × MS)) => ∀ (H : Heap) (locs : List Loc) (ls : Array Slot), m_I D A d s.heap z.2 H locs → lv_has ls 5 [(0, .ref d.1), (2, .int z.1)] → W p l e R s m args below meth c H locs 0 0 Q (F0 m 229 ls [])) z) : (fun (x : (Int32 × Int32 × MS)) => ∀ (H : Heap) (locs : List Loc) (ls : Array Slot), m_I D A d s.heap x.2.2 H locs → lv_has ls 5 [(0, .ref d.1), (2, .int x.1), (3, .int x.2.1)] → W p l e R s m args below meth c H locs 0 0 Q (F0 m 165 ls [])) x := by
  refine m_lpW (G := fun (x : (Int32 × Int32 × MS)) => ∀ (H : Heap) (locs : List Loc) (ls : Array Slot), m_I D A d s.heap x.2.2 H locs → lv_has ls 5 [(0, .ref d.1), (2, .int x.1), (3, .int x.2.1)] → W p l e R s m args below meth c H locs 0 0 Q (F0 m 165 ls [])) (E := fun (z : (Int32 × MS)) => ∀ (H : Heap) (locs : List Loc) (ls : Array Slot), m_I D A d s.heap z.2 H locs → lv_has ls 5 [(0, .ref d.1), (2, .int z.1)] → W p l e R s m args below meth c H locs 0 0 Q (F0 m 229 ls [])) ?_ n x z hz hE
  rintro ⟨v2, v3, st⟩ r h hr H locs ls I hl
  replace h : f_presses_L165 n v2 v3 st = some r := h
  have k223 : ∀ (st : MS) (v2 : Int32) (v3 : Int32) (H : Heap) (locs : List Loc) (ls : Array Slot), f_presses_J223 n st v2 v3 = some r → m_I D A d s.heap st H locs → lv_has ls 5 [(0, .ref d.1), (2, .int v2), (3, .int v3)] → W p l e R s m args below meth c H locs 0 0 Q (F0 m 223 ls []) := by
    intro st v2 v3 H locs ls h I hl
    unfold f_presses_J223 at h
    refine lv_iinc (v := v3 + 1) (lv' := [(3, .int (v3 + 1)), (0, .ref d.1), (2, .int v2)]) X.1 X.2.1 dX3_presses_223 hl (k := 2) rfl rfl (by decide) rfl (fun ls hl => ?_)
    refine lv_goto (tgt := 165) X.1 X.2.1 dX3_presses_226 (by decide) ?_
    cases h
    exact hr H locs ls I (lv_sub hl [1, 2, 0] rfl)
  have k221 : ∀ (st : MS) (v3 : Int32) (H : Heap) (locs : List Loc) (ls : Array Slot), f_presses_J221 n st v3 = some r → m_I D A d s.heap st H locs → lv_has ls 5 [(0, .ref d.1), (3, .int v3)] → W p l e R s m args below meth c H locs 0 0 Q (F0 m 221 ls []) := by
    intro st v3 H locs ls h I hl
    unfold f_presses_J221 at h
    refine lv_iload_n X.1 X.2.1 dX3_presses_221 rfl (lv_at hl 1 rfl) ?_
    refine lv_istore_n (lv' := [(2, .int v3), (0, .ref d.1), (3, .int v3)]) X.1 X.2.1 dX3_presses_222 rfl hl (by decide) rfl (fun ls hl => ?_)
    exact k223 st v3 v3 H locs ls h I (lv_sub hl [1, 0, 2] rfl)
  unfold f_presses_L165 at h
  refine lv_iload_n X.1 X.2.1 dX3_presses_165 rfl (lv_at hl 2 rfl) ?_
  refine lv_bipush (v := 8) X.1 X.2.1 dX3_presses_166 (by decide) ?_
  refine lv_icmp_ge (tgt := 229) X.1 X.2.1 dX3_presses_168 (by decide) (fun c29 => ?_) (fun c29 => ?_)
  · replace h := m_ifT c29 h
    cases h
    exact hr H locs ls I (lv_sub hl [0, 1] rfl)
  · replace h := m_ifF c29 h
    refine lv_aload_n X.1 X.2.1 dX3_presses_171 rfl (lv_at hl 0 rfl) ?_
    refine m_get X I 25 (by decide) rfl rfl rfl q1542 (v := .ref (d.2.1 25)) rfl dX3_presses_172 ?_
    refine lv_iload_n X.1 X.2.1 dX3_presses_175 rfl (lv_at hl 2 rfl) ?_
    obtain ⟨g30, h⟩ := m_gS h
    refine m_iald X I 14 (n := 8) (f := st.2.1 25) rfl g30 dX3_presses_176 ?_
    refine lv_if_ge (tgt := 223) X.1 X.2.1 dX3_presses_177 (by decide) (fun c31 => ?_) (fun c31 => ?_)
    · replace h := m_ifT c31 h
      exact k223 st v2 v3 H locs ls h I (lv_sub hl [0, 1, 2] rfl)
    · replace h := m_ifF c31 h
      refine lv_aload_n X.1 X.2.1 dX3_presses_180 rfl (lv_at hl 0 rfl) ?_
      refine m_get X I 27 (by decide) rfl rfl rfl q1544 (v := .ref (d.2.1 27)) rfl dX3_presses_181 ?_
      refine lv_iload_n X.1 X.2.1 dX3_presses_184 rfl (lv_at hl 2 rfl) ?_
      refine lv_bipush (v := 8) X.1 X.2.1 dX3_presses_185 (by decide) ?_
      refine lv_iadd X.1 X.2.1 dX3_presses_187 ?_
      obtain ⟨g32, h⟩ := m_gS h
      refine m_iald X I 16 (n := 16) (f := st.2.1 27) rfl g32 dX3_presses_188 ?_
      refine lv_ldcw (v := 1000000) X.1 X.2.1 X.2.2.2.1 (X.2.2.1 _ q1895) dX3_presses_189 ?_
      refine lv_icmp_ge (tgt := 223) X.1 X.2.1 dX3_presses_192 (by decide) (fun c33 => ?_) (fun c33 => ?_)
      · replace h := m_ifT c33 h
        exact k223 st v2 v3 H locs ls h I (lv_sub hl [0, 1, 2] rfl)
      · replace h := m_ifF c33 h
        refine lv_iload_n X.1 X.2.1 dX3_presses_195 rfl (lv_at hl 1 rfl) ?_
        refine lv_iconst (v := (-1)) X.1 X.2.1 dX3_presses_196 (by decide) ?_
        refine lv_icmp_eq (tgt := 221) X.1 X.2.1 dX3_presses_197 (by decide) (fun c34 => ?_) (fun c34 => ?_)
        · replace h := m_ifT c34 h
          exact k221 st v3 H locs ls h I (lv_sub hl [0, 2] rfl)
        · replace h := m_ifF c34 h
          refine lv_aload_n X.1 X.2.1 dX3_presses_200 rfl (lv_at hl 0 rfl) ?_
          refine m_get X I 27 (by decide) rfl rfl rfl q1544 (v := .ref (d.2.1 27)) rfl dX3_presses_201 ?_
          refine lv_iload_n X.1 X.2.1 dX3_presses_204 rfl (lv_at hl 2 rfl) ?_
          refine lv_bipush (v := 8) X.1 X.2.1 dX3_presses_205 (by decide) ?_
          refine lv_iadd X.1 X.2.1 dX3_presses_207 ?_
          obtain ⟨g35, h⟩ := m_gS h
          refine m_iald X I 16 (n := 16) (f := st.2.1 27) rfl g35 dX3_presses_208 ?_
          refine lv_aload_n X.1 X.2.1 dX3_presses_209 rfl (lv_at hl 0 rfl) ?_
          refine m_get X I 27 (by decide) rfl rfl rfl q1544 (v := .ref (d.2.1 27)) rfl dX3_presses_210 ?_
          refine lv_iload_n X.1 X.2.1 dX3_presses_213 rfl (lv_at hl 1 rfl) ?_
          refine lv_bipush (v := 8) X.1 X.2.1 dX3_presses_214 (by decide) ?_
          refine lv_iadd X.1 X.2.1 dX3_presses_216 ?_
          obtain ⟨g36, h⟩ := m_gS h
          refine m_iald X I 16 (n := 16) (f := st.2.1 27) rfl g36 dX3_presses_217 ?_
          refine lv_icmp_ge (tgt := 223) X.1 X.2.1 dX3_presses_218 (by decide) (fun c37 => ?_) (fun c37 => ?_)
          · replace h := m_ifT c37 h
            exact k223 st v2 v3 H locs ls h I (lv_sub hl [0, 1, 2] rfl)
          · replace h := m_ifF c37 h
            exact k221 st v3 H locs ls h I (lv_sub hl [0, 2] rfl)
theorem wf_presses_L65 (X : m_X D A d p s m c cX3_presses 5 args) (hA : ∀ q, s.heap.size ≤ q → A q) (hR : 3 ≤ R.frames ∧ 71 ≤ R.locals) (n : Nat)  (x : MS) (z : (MS ⊕ MS)) (hz : f_presses_L65l n x = some z) (hE : (m_e (fun (z : MS) => ∀ (H : Heap) (locs : List Loc) (ls : Array Slot), m_I D A d s.heap z H locs → lv_has ls 5 [] → W p l e R s m args below meth c H locs 0 0 Q (F0 m 155 ls [])) (fun (z : MS) => ∀ (H : Heap) (locs : List Loc) (ls : Array Slot), m_I D A d s.heap z H locs → lv_has ls 5 [] → W p l e R s m args below meth c H locs 0 0 Q (F0 m 234 ls []))) z) : (fun (x : MS) => ∀ (H : Heap) (locs : List Loc) (ls : Array Slot), m_I D A d s.heap x H locs → lv_has ls 5 [(0, .ref d.1)] → W p l e R s m args below meth c H locs 0 0 Q (F0 m 65 ls [])) x := by
  refine m_lpW (G := fun (x : MS) => ∀ (H : Heap) (locs : List Loc) (ls : Array Slot), m_I D A d s.heap x H locs → lv_has ls 5 [(0, .ref d.1)] → W p l e R s m args below meth c H locs 0 0 Q (F0 m 65 ls [])) (E := m_e (fun (z : MS) => ∀ (H : Heap) (locs : List Loc) (ls : Array Slot), m_I D A d s.heap z H locs → lv_has ls 5 [] → W p l e R s m args below meth c H locs 0 0 Q (F0 m 155 ls [])) (fun (z : MS) => ∀ (H : Heap) (locs : List Loc) (ls : Array Slot), m_I D A d s.heap z H locs → lv_has ls 5 [] → W p l e R s m args below meth c H locs 0 0 Q (F0 m 234 ls []))) ?_ n x z hz hE
  rintro st r h hr H locs ls I hl
  replace h : f_presses_L65 n st = some r := h
  have k282 : ∀ (st : MS) (v2 : Int32) (v3 : Int32) (t0 : Int32) (t1 : Int32) (H : Heap) (locs : List Loc) (ls : Array Slot), f_presses_J282 n st v2 v3 t0 t1 = some r → m_I D A d s.heap st H locs → lv_has ls 5 [(0, .ref d.1), (2, .int v2), (3, .int v3)] → W p l e R s m args below meth c H locs 0 0 Q (F0 m 282 ls [.int t0, .int t1, .ref d.1]) := by
    intro st v2 v3 t0 t1 H locs ls h I hl
    unfold f_presses_J282 at h
    obtain ⟨r49, e48, h⟩ := m_bS h
    refine m_callI X hl.1 I hA (As := [.int t1, .int t0]) (rest := []) (c_wayMay l n D d st t1 t0 _ e48) 2 q1911 q1913 qs87 q107 q1914 (hd_wayMay) rfl rfl ⟨Nat.le_trans (Nat.le_of_ble_eq_true rfl) hR.1, Nat.le_trans (Nat.le_of_ble_eq_true rfl) hR.2⟩ ⟨rfl, rfl⟩ ⟨Nat.zero_le _, Nat.zero_le _⟩ (Nat.le_of_ble_eq_true rfl) dX3_presses_282 (fun H locs I => ?_)
    refine lv_istore (lv' := [(4, .int r49), (0, .ref d.1), (2, .int v2), (3, .int v3)]) X.1 X.2.1 dX3_presses_285 hl (by decide) rfl (fun ls hl => ?_)
    refine lv_aload_n X.1 X.2.1 dX3_presses_287 rfl (lv_at hl 1 rfl) ?_
    refine lv_iload_n X.1 X.2.1 dX3_presses_288 rfl (lv_at hl 2 rfl) ?_
    refine lv_bipush (v := 8) X.1 X.2.1 dX3_presses_289 (by decide) ?_
    refine lv_iadd X.1 X.2.1 dX3_presses_291 ?_
    refine lv_iload X.1 X.2.1 dX3_presses_292 (lv_at hl 0 rfl) ?_
    obtain ⟨s51, e50, h⟩ := m_bS h
    refine m_callV X hl.1 I hA (As := [.int (v2 + 8), .int r49]) (rest := []) (c_sends l n D d st (v2 + 8) r49 _ e50) 2 q1915 q1917 qs88 q107 q1918 (hd_sends) rfl rfl ⟨Nat.le_trans (Nat.le_of_ble_eq_true rfl) hR.1, Nat.le_trans (Nat.le_of_ble_eq_true rfl) hR.2⟩ ⟨rfl, rfl⟩ ⟨Nat.zero_le _, Nat.zero_le _⟩ (Nat.le_of_ble_eq_true rfl) dX3_presses_294 (fun H locs I => ?_)
    refine lv_aload_n X.1 X.2.1 dX3_presses_297 rfl (lv_at hl 1 rfl) ?_
    refine m_get X I 25 (by decide) rfl rfl rfl q1542 (v := .ref (d.2.1 25)) rfl dX3_presses_298 ?_
    refine lv_iload_n X.1 X.2.1 dX3_presses_301 rfl (lv_at hl 3 rfl) ?_
    refine lv_dup2_11 X.1 X.2.1 dX3_presses_302 rfl rfl ?_
    obtain ⟨g52, h⟩ := m_gS h
    refine m_iald X I 14 (n := 8) (f := s51.2.1 25) rfl g52 dX3_presses_303 ?_
    refine lv_iload X.1 X.2.1 dX3_presses_304 (lv_at hl 0 rfl) ?_
    refine lv_isub X.1 X.2.1 dX3_presses_306 ?_
    obtain ⟨g53, h⟩ := m_gS h
    refine m_iast X I 14 (n := 8) (f := s51.2.1 25) rfl (m_st25 d _ _ _) g53 dX3_presses_307 (fun H locs I => ?_)
    refine lv_aload_n X.1 X.2.1 dX3_presses_308 rfl (lv_at hl 1 rfl) ?_
    refine m_get X I 25 (by decide) rfl rfl rfl q1542 (v := .ref (d.2.1 25)) rfl dX3_presses_309 ?_
    refine lv_iload_n X.1 X.2.1 dX3_presses_312 rfl (lv_at hl 2 rfl) ?_
    refine lv_dup2_11 X.1 X.2.1 dX3_presses_313 rfl rfl ?_
    obtain ⟨g54, h⟩ := m_gS h
    refine m_iald X I 14 (n := 8) (f := (m_sa s51 25 (v3 : Int32).toNatClampNeg ((s51.2.1 25 (v3 : Int32).toNatClampNeg) - r49)).2.1 25) rfl g54 dX3_presses_314 ?_
    refine lv_iload X.1 X.2.1 dX3_presses_315 (lv_at hl 0 rfl) ?_
    refine lv_iadd X.1 X.2.1 dX3_presses_317 ?_
    obtain ⟨g55, h⟩ := m_gS h
    refine m_iast X I 14 (n := 8) (f := (m_sa s51 25 (v3 : Int32).toNatClampNeg ((s51.2.1 25 (v3 : Int32).toNatClampNeg) - r49)).2.1 25) rfl (m_st25 d _ _ _) g55 dX3_presses_318 (fun H locs I => ?_)
    refine lv_goto (tgt := 65) X.1 X.2.1 dX3_presses_319 (by decide) ?_
    cases h
    exact hr H locs ls I (lv_sub hl [1] rfl)
  unfold f_presses_L65 at h
  refine lv_iconst (v := 0) X.1 X.2.1 dX3_presses_65 (by decide) ?_
  refine lv_istore_n (lv' := [(1, .int 0), (0, .ref d.1)]) X.1 X.2.1 dX3_presses_66 rfl hl (by decide) rfl (fun ls hl => ?_)
  refine lv_iconst (v := 0) X.1 X.2.1 dX3_presses_67 (by decide) ?_
  refine lv_istore_n (lv' := [(2, .int 0), (1, .int 0), (0, .ref d.1)]) X.1 X.2.1 dX3_presses_68 rfl hl (by decide) rfl (fun ls hl => ?_)
  obtain ⟨⟨z24, s25⟩, e23, h⟩ := m_bS h
  refine wf_presses_L69 X hA hR n  _ _ e23 (fun H locs ls I hl => ?_) H locs ls I (lv_sub hl [2, 1, 0] rfl)
  refine lv_iload_n X.1 X.2.1 dX3_presses_151 rfl (lv_at hl 1 rfl) ?_
  refine lv_if_ne (tgt := 157) X.1 X.2.1 dX3_presses_152 (by decide) (fun c26 => ?_) (fun c26 => ?_)
  · replace h := m_ifF c26 h
    refine lv_aload_n X.1 X.2.1 dX3_presses_157 rfl (lv_at hl 0 rfl) ?_
    obtain ⟨s28, e27, h⟩ := m_bS h
    refine m_callV X hl.1 I hA (As := []) (rest := []) (c_laysWays l n D d s25  _ e27) 0 q1896 q1898 qs84 q107 q1899 (hd_laysWays) rfl rfl ⟨Nat.le_trans (Nat.le_of_ble_eq_true rfl) hR.1, Nat.le_trans (Nat.le_of_ble_eq_true rfl) hR.2⟩ ⟨rfl, rfl⟩ ⟨Nat.zero_le _, Nat.zero_le _⟩ (Nat.le_of_ble_eq_true rfl) dX3_presses_158 (fun H locs I => ?_)
    refine lv_iconst (v := (-1)) X.1 X.2.1 dX3_presses_161 (by decide) ?_
    refine lv_istore_n (lv' := [(2, .int ((-1))), (0, .ref d.1), (1, .int z24)]) X.1 X.2.1 dX3_presses_162 rfl hl (by decide) rfl (fun ls hl => ?_)
    refine lv_iconst (v := 0) X.1 X.2.1 dX3_presses_163 (by decide) ?_
    refine lv_istore_n (lv' := [(3, .int 0), (2, .int ((-1))), (0, .ref d.1), (1, .int z24)]) X.1 X.2.1 dX3_presses_164 rfl hl (by decide) rfl (fun ls hl => ?_)
    obtain ⟨⟨z39, s40⟩, e38, h⟩ := m_bS h
    refine wf_presses_L165 X hA hR n  _ _ e38 (fun H locs ls I hl => ?_) H locs ls I (lv_sub hl [2, 1, 0] rfl)
    refine lv_iload_n X.1 X.2.1 dX3_presses_229 rfl (lv_at hl 1 rfl) ?_
    refine lv_iconst (v := (-1)) X.1 X.2.1 dX3_presses_230 (by decide) ?_
    refine lv_icmp_ne (tgt := 236) X.1 X.2.1 dX3_presses_231 (by decide) (fun c41 => ?_) (fun c41 => ?_)
    · replace h := m_ifF c41 h
      refine lv_aload_n X.1 X.2.1 dX3_presses_236 rfl (lv_at hl 0 rfl) ?_
      refine lv_iload_n X.1 X.2.1 dX3_presses_237 rfl (lv_at hl 1 rfl) ?_
      refine lv_bipush (v := 8) X.1 X.2.1 dX3_presses_238 (by decide) ?_
      refine lv_iadd X.1 X.2.1 dX3_presses_240 ?_
      obtain ⟨r43, e42, h⟩ := m_bS h
      refine m_callI X hl.1 I hA (As := [.int (z39 + 8)]) (rest := []) (c_firstOf l n D d s40 (z39 + 8) _ e42) 1 q1907 q1909 qs86 q107 q1910 (hd_firstOf) rfl rfl ⟨Nat.le_trans (Nat.le_of_ble_eq_true rfl) hR.1, Nat.le_trans (Nat.le_of_ble_eq_true rfl) hR.2⟩ ⟨rfl, rfl⟩ ⟨Nat.zero_le _, Nat.zero_le _⟩ (Nat.le_of_ble_eq_true rfl) dX3_presses_241 (fun H locs I => ?_)
      refine lv_istore_n (lv' := [(3, .int r43), (0, .ref d.1), (2, .int z39)]) X.1 X.2.1 dX3_presses_244 rfl hl (by decide) rfl (fun ls hl => ?_)
      refine lv_aload_n X.1 X.2.1 dX3_presses_245 rfl (lv_at hl 1 rfl) ?_
      refine lv_iload_n X.1 X.2.1 dX3_presses_246 rfl (lv_at hl 2 rfl) ?_
      refine lv_bipush (v := 8) X.1 X.2.1 dX3_presses_247 (by decide) ?_
      refine lv_iadd X.1 X.2.1 dX3_presses_249 ?_
      refine lv_aload_n X.1 X.2.1 dX3_presses_250 rfl (lv_at hl 1 rfl) ?_
      refine m_get X I 25 (by decide) rfl rfl rfl q1542 (v := .ref (d.2.1 25)) rfl dX3_presses_251 ?_
      refine lv_iload_n X.1 X.2.1 dX3_presses_254 rfl (lv_at hl 0 rfl) ?_
      obtain ⟨g44, h⟩ := m_gS h
      refine m_iald X I 14 (n := 8) (f := s40.2.1 25) rfl g44 dX3_presses_255 ?_
      refine lv_aload_n X.1 X.2.1 dX3_presses_256 rfl (lv_at hl 1 rfl) ?_
      refine m_get X I 25 (by decide) rfl rfl rfl q1542 (v := .ref (d.2.1 25)) rfl dX3_presses_257 ?_
      refine lv_iload_n X.1 X.2.1 dX3_presses_260 rfl (lv_at hl 2 rfl) ?_
      obtain ⟨g45, h⟩ := m_gS h
      refine m_iald X I 14 (n := 8) (f := s40.2.1 25) rfl g45 dX3_presses_261 ?_
      refine lv_ineg X.1 X.2.1 dX3_presses_262 ?_
      refine lv_icmp_ge (tgt := 275) X.1 X.2.1 dX3_presses_263 (by decide) (fun c46 => ?_) (fun c46 => ?_)
      · replace h := m_ifT c46 h
        refine lv_aload_n X.1 X.2.1 dX3_presses_275 rfl (lv_at hl 1 rfl) ?_
        refine m_get X I 25 (by decide) rfl rfl rfl q1542 (v := .ref (d.2.1 25)) rfl dX3_presses_276 ?_
        refine lv_iload_n X.1 X.2.1 dX3_presses_279 rfl (lv_at hl 2 rfl) ?_
        obtain ⟨g47, h⟩ := m_gS h
        refine m_iald X I 14 (n := 8) (f := s40.2.1 25) rfl g47 dX3_presses_280 ?_
        refine lv_ineg X.1 X.2.1 dX3_presses_281 ?_
        exact k282 s40 z39 r43 (-(s40.2.1 25 (z39 : Int32).toNatClampNeg)) (z39 + 8) H locs ls h I (lv_sub hl [1, 2, 0] rfl)
      · replace h := m_ifF c46 h
        refine lv_aload_n X.1 X.2.1 dX3_presses_266 rfl (lv_at hl 1 rfl) ?_
        refine m_get X I 25 (by decide) rfl rfl rfl q1542 (v := .ref (d.2.1 25)) rfl dX3_presses_267 ?_
        refine lv_iload_n X.1 X.2.1 dX3_presses_270 rfl (lv_at hl 0 rfl) ?_
        obtain ⟨g56, h⟩ := m_gS h
        refine m_iald X I 14 (n := 8) (f := s40.2.1 25) rfl g56 dX3_presses_271 ?_
        refine lv_goto (tgt := 282) X.1 X.2.1 dX3_presses_272 (by decide) ?_
        exact k282 s40 z39 r43 (s40.2.1 25 (r43 : Int32).toNatClampNeg) (z39 + 8) H locs ls h I (lv_sub hl [1, 2, 0] rfl)
    · replace h := m_ifT c41 h
      cases h
      exact hr H locs ls I (lv_sub hl [] rfl)
  · replace h := m_ifT c26 h
    cases h
    exact hr H locs ls I (lv_sub hl [] rfl)
theorem w_presses (X : m_X D A d p s m c cX3_presses 5 args) (hA : ∀ q, s.heap.size ≤ q → A q) (hR : 3 ≤ R.frames ∧ 71 ≤ R.locals) (n : Nat) (st : MS) (r : (Int32 × MS)) (h : f_presses n st = some r) (hret : ∀ (H : Heap) (locs : List Loc) (ls : Array Slot) (pc : Nat), m_01 r.1 = true → decode cX3_presses pc = .ok (.ireturn, 1) → m_I D A d s.heap r.2 H locs → W p l e R s m args below meth c H locs 0 0 Q (F0 m pc ls [.int r.1])) : ∀ (H : Heap) (locs : List Loc) (ls : Array Slot), m_I D A d s.heap st H locs → lv_has ls 5 [(0, .ref d.1)] → W p l e R s m args below meth c H locs 0 0 Q (F0 m 0 ls []) := by
  obtain ⟨r0, s0⟩ := r
  intro H locs ls I hl
  unfold f_presses at h
  refine lv_iconst (v := 0) X.1 X.2.1 dX3_presses_0 (by decide) ?_
  refine lv_istore_n (lv' := [(1, .int 0), (0, .ref d.1)]) X.1 X.2.1 dX3_presses_1 rfl hl (by decide) rfl (fun ls hl => ?_)
  obtain ⟨s4, e3, h⟩ := m_bS h
  refine wf_presses_L2 X hA hR n  _ _ e3 (fun H locs ls I hl => ?_) H locs ls I (lv_sub hl [1, 0] rfl)
  refine lv_iconst (v := 0) X.1 X.2.1 dX3_presses_21 (by decide) ?_
  refine lv_istore_n (lv' := [(1, .int 0), (0, .ref d.1)]) X.1 X.2.1 dX3_presses_22 rfl hl (by decide) rfl (fun ls hl => ?_)
  obtain ⟨s12, e11, h⟩ := m_bS h
  refine wf_presses_L23 X hA hR n  _ _ e11 (fun H locs ls I hl => ?_) H locs ls I (lv_sub hl [1, 0] rfl)
  obtain ⟨s60 | s62, e59, h⟩ := m_bS h
  · replace h := m_sL h
    refine wf_presses_L65 X hA hR n  _ _ e59 (fun H locs ls I hl => ?_) H locs ls I (lv_sub hl [0] rfl)
    refine lv_iconst (v := 1) X.1 X.2.1 dX3_presses_155 (by decide) ?_
    obtain ⟨g61, h⟩ := m_gS h
    obtain ⟨rfl, rfl⟩ := m_e2 h
    exact hret H locs ls 156 g61 dX3_presses_156 I
  · replace h := m_sR h
    refine wf_presses_L65 X hA hR n  _ _ e59 (fun H locs ls I hl => ?_) H locs ls I (lv_sub hl [0] rfl)
    refine lv_iconst (v := 0) X.1 X.2.1 dX3_presses_234 (by decide) ?_
    obtain ⟨g63, h⟩ := m_gS h
    obtain ⟨rfl, rfl⟩ := m_e2 h
    exact hret H locs ls 235 g63 dX3_presses_235 I
end S_presses
theorem c_presses (l : Launch) (n : Nat) (D : va_G) (d : MD) (st : MS) (r : Int32) (st' : MS) (h : f_presses n st = some (r, st')) : m_Mi l yX3_presses cX3_presses 5 (some .boolean) ({ frames := 3, cells := 0, slots := 0, locals := 71 } : Room) D d st [.ref d.1] r st' :=
  m_startI (lvl := [(0, .ref d.1)]) (by decide) rfl (Nat.le_of_ble_eq_true rfl) rfl (fun p e s m args below meth c ls X hr hlk hl hA I => w_presses X hA ⟨Nat.le_refl _, Nat.le_refl _⟩ n st (r, st') h (fun H locs ls pc g hd I => m_zret X I hr hlk g hd) _ _ ls I hl)

/-! method turns(IIZ)V -/
def f_turns_J84 (n : Nat) (st : MS) : Option (MS) :=
  some st
def f_turns (n : Nat) (st : MS) (p0 : Int32) (p1 : Int32) (p2 : Int32) : Option (MS) :=
  m_b (f_couple n p0 p1) (fun r2 => m_g (m_in r2 64) (m_if ((p2 : Int32) = 0) (m_g (m_in r2 64) (m_g (m_in r2 64) (m_b2 (f_shifts n (m_sa st 26 (r2 : Int32).toNatClampNeg (vp_nar .boolean 1)) p0 (p1 + 8) 1 ((m_sa st 26 (r2 : Int32).toNatClampNeg (vp_nar .boolean 1)).2.1 22 (r2 : Int32).toNatClampNeg)) (fun r8 s9 => m_g (m_in r2 64) (f_turns_J84 n (m_sa s9 22 (r2 : Int32).toNatClampNeg (((m_sa st 26 (r2 : Int32).toNatClampNeg (vp_nar .boolean 1)).2.1 22 (r2 : Int32).toNatClampNeg) - r8))))))) (m_g (m_in r2 64) (m_g (m_in r2 64) (m_g (m_in r2 64) (m_b2 (f_shifts n (m_sa st 26 (r2 : Int32).toNatClampNeg (vp_nar .boolean 1)) (p1 + 8) p0 ((-1)) (((m_sa st 26 (r2 : Int32).toNatClampNeg (vp_nar .boolean 1)).2.1 21 (r2 : Int32).toNatClampNeg) - ((m_sa st 26 (r2 : Int32).toNatClampNeg (vp_nar .boolean 1)).2.1 22 (r2 : Int32).toNatClampNeg))) (fun r15 s16 => m_g (m_in r2 64) (f_turns_J84 n (m_sa s16 22 (r2 : Int32).toNatClampNeg (((m_sa st 26 (r2 : Int32).toNatClampNeg (vp_nar .boolean 1)).2.1 22 (r2 : Int32).toNatClampNeg) + r15))))))))))
theorem hd_turns : yX3_turns.cls = RX3 ∧ yX3_turns.cls ≠ "java/lang/invoke/MethodHandle" ∧ yX3_turns.cls ≠ "java/lang/invoke/VarHandle" ∧ (parseMethodDescriptor yX3_turns.desc).map (fun d => d.parameters.length) = some 3 := by decide +kernel
section S_turns
variable {p : Program} {l : Launch} {e : Env} {R : Room} {s : State} {m : MethodId} {args : Array Value} {below : List Frame} {meth : Method} {c : Code} {Q : State → Prop} {D : va_G} {A : Nat → Prop} {d : MD}
theorem w_turns (X : m_X D A d p s m c cX3_turns 5 args) (hA : ∀ q, s.heap.size ≤ q → A q) (hR : 4 ≤ R.frames ∧ 98 ≤ R.locals) (n : Nat) (st : MS) (p0 : Int32) (p1 : Int32) (p2 : Int32) (r : MS) (h : f_turns n st p0 p1 p2 = some r) (hret : ∀ (H : Heap) (locs : List Loc) (ls : Array Slot) (pc : Nat), decode cX3_turns pc = .ok (.return_, 1) → m_I D A d s.heap r H locs → W p l e R s m args below meth c H locs 0 0 Q (F0 m pc ls [])) : ∀ (H : Heap) (locs : List Loc) (ls : Array Slot), m_I D A d s.heap st H locs → lv_has ls 5 [(0, .ref d.1), (1, .int p0), (2, .int p1), (3, .int p2)] → W p l e R s m args below meth c H locs 0 0 Q (F0 m 0 ls []) := by
  have k84 : ∀ (st : MS) (H : Heap) (locs : List Loc) (ls : Array Slot), f_turns_J84 n st = some r → m_I D A d s.heap st H locs → lv_has ls 5 [] → W p l e R s m args below meth c H locs 0 0 Q (F0 m 84 ls []) := by
    intro st H locs ls h I hl
    unfold f_turns_J84 at h
    obtain rfl := m_e1 h
    exact hret H locs ls 84 dX3_turns_84 I
  intro H locs ls I hl
  unfold f_turns at h
  refine lv_iload_n X.1 X.2.1 dX3_turns_0 rfl (lv_at hl 1 rfl) ?_
  refine lv_iload_n X.1 X.2.1 dX3_turns_1 rfl (lv_at hl 2 rfl) ?_
  obtain ⟨r2, e1, h⟩ := m_bS h
  refine m_callS X hl.1 (As := [.int p0, .int p1]) (rest := []) (c_couple l n p0 p1 _ e1) 2 q1784 q1785 q107 q1786 (hd_couple).2 rfl rfl ⟨Nat.le_trans (Nat.le_of_ble_eq_true rfl) hR.1, Nat.le_trans (Nat.le_of_ble_eq_true rfl) hR.2⟩ ⟨rfl, rfl⟩ ⟨Nat.zero_le _, Nat.zero_le _⟩ (Nat.le_of_ble_eq_true rfl) dX3_turns_2 ?_
  refine lv_istore (lv' := [(4, .int r2), (0, .ref d.1), (1, .int p0), (2, .int p1), (3, .int p2)]) X.1 X.2.1 dX3_turns_5 hl (by decide) rfl (fun ls hl => ?_)
  refine lv_aload_n X.1 X.2.1 dX3_turns_7 rfl (lv_at hl 1 rfl) ?_
  refine m_get X I 26 (by decide) rfl rfl rfl q1543 (v := .ref (d.2.1 26)) rfl dX3_turns_8 ?_
  refine lv_iload X.1 X.2.1 dX3_turns_11 (lv_at hl 0 rfl) ?_
  refine lv_iconst (v := 1) X.1 X.2.1 dX3_turns_13 (by decide) ?_
  obtain ⟨g3, h⟩ := m_gS h
  refine m_zast X I 15 (n := 64) (f := st.2.1 26) rfl (m_st26 d _ _ _) g3 dX3_turns_14 (fun H locs I => ?_)
  refine lv_iload_n X.1 X.2.1 dX3_turns_15 rfl (lv_at hl 4 rfl) ?_
  refine lv_if_eq (tgt := 57) X.1 X.2.1 dX3_turns_16 (by decide) (fun c4 => ?_) (fun c4 => ?_)
  · replace h := m_ifT c4 h
    refine lv_aload_n X.1 X.2.1 dX3_turns_57 rfl (lv_at hl 1 rfl) ?_
    refine m_get X I 22 (by decide) rfl rfl rfl q1539 (v := .ref (d.2.1 22)) rfl dX3_turns_58 ?_
    refine lv_iload X.1 X.2.1 dX3_turns_61 (lv_at hl 0 rfl) ?_
    refine lv_dup2_11 X.1 X.2.1 dX3_turns_63 rfl rfl ?_
    obtain ⟨g5, h⟩ := m_gS h
    refine m_iald X I 11 (n := 64) (f := (m_sa st 26 (r2 : Int32).toNatClampNeg (vp_nar .boolean 1)).2.1 22) rfl g5 dX3_turns_64 ?_
    refine lv_aload_n X.1 X.2.1 dX3_turns_65 rfl (lv_at hl 1 rfl) ?_
    refine lv_iload_n X.1 X.2.1 dX3_turns_66 rfl (lv_at hl 2 rfl) ?_
    refine lv_iload_n X.1 X.2.1 dX3_turns_67 rfl (lv_at hl 3 rfl) ?_
    refine lv_bipush (v := 8) X.1 X.2.1 dX3_turns_68 (by decide) ?_
    refine lv_iadd X.1 X.2.1 dX3_turns_70 ?_
    refine lv_iconst (v := 1) X.1 X.2.1 dX3_turns_71 (by decide) ?_
    refine lv_aload_n X.1 X.2.1 dX3_turns_72 rfl (lv_at hl 1 rfl) ?_
    refine m_get X I 22 (by decide) rfl rfl rfl q1539 (v := .ref (d.2.1 22)) rfl dX3_turns_73 ?_
    refine lv_iload X.1 X.2.1 dX3_turns_76 (lv_at hl 0 rfl) ?_
    obtain ⟨g6, h⟩ := m_gS h
    refine m_iald X I 11 (n := 64) (f := (m_sa st 26 (r2 : Int32).toNatClampNeg (vp_nar .boolean 1)).2.1 22) rfl g6 dX3_turns_78 ?_
    obtain ⟨r8, s9, e7, h⟩ := m_b2S h
    refine m_callI X hl.1 I hA (As := [.int p0, .int (p1 + 8), .int 1, .int ((m_sa st 26 (r2 : Int32).toNatClampNeg (vp_nar .boolean 1)).2.1 22 (r2 : Int32).toNatClampNeg)]) (rest := [.int ((m_sa st 26 (r2 : Int32).toNatClampNeg (vp_nar .boolean 1)).2.1 22 (r2 : Int32).toNatClampNeg), .int r2, .ref (d.2.1 22)]) (c_shifts l n D d (m_sa st 26 (r2 : Int32).toNatClampNeg (vp_nar .boolean 1)) p0 (p1 + 8) 1 ((m_sa st 26 (r2 : Int32).toNatClampNeg (vp_nar .boolean 1)).2.1 22 (r2 : Int32).toNatClampNeg) _ _ e7) 4 q1935 q1937 qs92 q107 q1938 (hd_shifts) rfl rfl ⟨Nat.le_trans (Nat.le_of_ble_eq_true rfl) hR.1, Nat.le_trans (Nat.le_of_ble_eq_true rfl) hR.2⟩ ⟨rfl, rfl⟩ ⟨Nat.zero_le _, Nat.zero_le _⟩ (Nat.le_of_ble_eq_true rfl) dX3_turns_79 (fun H locs I => ?_)
    refine lv_isub X.1 X.2.1 dX3_turns_82 ?_
    obtain ⟨g10, h⟩ := m_gS h
    refine m_iast X I 11 (n := 64) (f := s9.2.1 22) rfl (m_st22 d _ _ _) g10 dX3_turns_83 (fun H locs I => ?_)
    exact k84 (m_sa s9 22 (r2 : Int32).toNatClampNeg (((m_sa st 26 (r2 : Int32).toNatClampNeg (vp_nar .boolean 1)).2.1 22 (r2 : Int32).toNatClampNeg) - r8)) H locs ls h I (lv_sub hl [] rfl)
  · replace h := m_ifF c4 h
    refine lv_aload_n X.1 X.2.1 dX3_turns_19 rfl (lv_at hl 1 rfl) ?_
    refine m_get X I 22 (by decide) rfl rfl rfl q1539 (v := .ref (d.2.1 22)) rfl dX3_turns_20 ?_
    refine lv_iload X.1 X.2.1 dX3_turns_23 (lv_at hl 0 rfl) ?_
    refine lv_dup2_11 X.1 X.2.1 dX3_turns_25 rfl rfl ?_
    obtain ⟨g11, h⟩ := m_gS h
    refine m_iald X I 11 (n := 64) (f := (m_sa st 26 (r2 : Int32).toNatClampNeg (vp_nar .boolean 1)).2.1 22) rfl g11 dX3_turns_26 ?_
    refine lv_aload_n X.1 X.2.1 dX3_turns_27 rfl (lv_at hl 1 rfl) ?_
    refine lv_iload_n X.1 X.2.1 dX3_turns_28 rfl (lv_at hl 3 rfl) ?_
    refine lv_bipush (v := 8) X.1 X.2.1 dX3_turns_29 (by decide) ?_
    refine lv_iadd X.1 X.2.1 dX3_turns_31 ?_
    refine lv_iload_n X.1 X.2.1 dX3_turns_32 rfl (lv_at hl 2 rfl) ?_
    refine lv_iconst (v := (-1)) X.1 X.2.1 dX3_turns_33 (by decide) ?_
    refine lv_aload_n X.1 X.2.1 dX3_turns_34 rfl (lv_at hl 1 rfl) ?_
    refine m_get X I 21 (by decide) rfl rfl rfl q1538 (v := .ref (d.2.1 21)) rfl dX3_turns_35 ?_
    refine lv_iload X.1 X.2.1 dX3_turns_38 (lv_at hl 0 rfl) ?_
    obtain ⟨g12, h⟩ := m_gS h
    refine m_iald X I 10 (n := 64) (f := (m_sa st 26 (r2 : Int32).toNatClampNeg (vp_nar .boolean 1)).2.1 21) rfl g12 dX3_turns_40 ?_
    refine lv_aload_n X.1 X.2.1 dX3_turns_41 rfl (lv_at hl 1 rfl) ?_
    refine m_get X I 22 (by decide) rfl rfl rfl q1539 (v := .ref (d.2.1 22)) rfl dX3_turns_42 ?_
    refine lv_iload X.1 X.2.1 dX3_turns_45 (lv_at hl 0 rfl) ?_
    obtain ⟨g13, h⟩ := m_gS h
    refine m_iald X I 11 (n := 64) (f := (m_sa st 26 (r2 : Int32).toNatClampNeg (vp_nar .boolean 1)).2.1 22) rfl g13 dX3_turns_47 ?_
    refine lv_isub X.1 X.2.1 dX3_turns_48 ?_
    obtain ⟨r15, s16, e14, h⟩ := m_b2S h
    refine m_callI X hl.1 I hA (As := [.int (p1 + 8), .int p0, .int ((-1)), .int (((m_sa st 26 (r2 : Int32).toNatClampNeg (vp_nar .boolean 1)).2.1 21 (r2 : Int32).toNatClampNeg) - ((m_sa st 26 (r2 : Int32).toNatClampNeg (vp_nar .boolean 1)).2.1 22 (r2 : Int32).toNatClampNeg))]) (rest := [.int ((m_sa st 26 (r2 : Int32).toNatClampNeg (vp_nar .boolean 1)).2.1 22 (r2 : Int32).toNatClampNeg), .int r2, .ref (d.2.1 22)]) (c_shifts l n D d (m_sa st 26 (r2 : Int32).toNatClampNeg (vp_nar .boolean 1)) (p1 + 8) p0 ((-1)) (((m_sa st 26 (r2 : Int32).toNatClampNeg (vp_nar .boolean 1)).2.1 21 (r2 : Int32).toNatClampNeg) - ((m_sa st 26 (r2 : Int32).toNatClampNeg (vp_nar .boolean 1)).2.1 22 (r2 : Int32).toNatClampNeg)) _ _ e14) 4 q1935 q1937 qs92 q107 q1938 (hd_shifts) rfl rfl ⟨Nat.le_trans (Nat.le_of_ble_eq_true rfl) hR.1, Nat.le_trans (Nat.le_of_ble_eq_true rfl) hR.2⟩ ⟨rfl, rfl⟩ ⟨Nat.zero_le _, Nat.zero_le _⟩ (Nat.le_of_ble_eq_true rfl) dX3_turns_49 (fun H locs I => ?_)
    refine lv_iadd X.1 X.2.1 dX3_turns_52 ?_
    obtain ⟨g17, h⟩ := m_gS h
    refine m_iast X I 11 (n := 64) (f := s16.2.1 22) rfl (m_st22 d _ _ _) g17 dX3_turns_53 (fun H locs I => ?_)
    refine lv_goto (tgt := 84) X.1 X.2.1 dX3_turns_54 (by decide) ?_
    exact k84 (m_sa s16 22 (r2 : Int32).toNatClampNeg (((m_sa st 26 (r2 : Int32).toNatClampNeg (vp_nar .boolean 1)).2.1 22 (r2 : Int32).toNatClampNeg) + r15)) H locs ls h I (lv_sub hl [] rfl)
end S_turns
theorem c_turns (l : Launch) (n : Nat) (D : va_G) (d : MD) (st : MS) (p0 : Int32) (p1 : Int32) (p2 : Int32) (st' : MS) (h : f_turns n st p0 p1 p2 = some st') : m_Mv l yX3_turns cX3_turns 5 none ({ frames := 4, cells := 0, slots := 0, locals := 98 } : Room) D d st [.ref d.1, .int p0, .int p1, .int p2] st' :=
  m_startV (lvl := [(0, .ref d.1), (1, .int p0), (2, .int p1), (3, .int p2)]) (by decide) rfl (Nat.le_of_ble_eq_true rfl) rfl (fun p e s m args below meth c ls X hr hlk hl hA I => w_turns X hA ⟨Nat.le_refl _, Nat.le_refl _⟩ n st p0 p1 p2 st' h (fun H locs ls pc hd I => m_vret X I hr hlk hd) _ _ ls I hl)

/-! method span(IIII)I -/
def f_span_J22 (n : Nat) (st : MS) : Option (Int32 × MS) :=
  some ((-2), st)
def f_span_J68 (n : Nat) (st : MS) (v1 : Int32) (v2 : Int32) (t0 : Int32) (t1 : Int32) (t2 : Int32) : Option (Int32 × MS) :=
  m_b (f_turns n st t2 t1 t0) (fun s18 => m_b (f_couple n v1 v2) (fun r20 => m_g (m_in r20 64) (some (s18.2.1 22 (r20 : Int32).toNatClampNeg, s18))))
def f_span (n : Nat) (st : MS) (p0 : Int32) (p1 : Int32) (p2 : Int32) (p3 : Int32) : Option (Int32 × MS) :=
  m_b (f_areTwo n (m_sg st 8 0) p0 p1) (fun r2 => m_if ((r2 : Int32) = 0) (f_span_J22 n (m_sg st 8 0)) (m_b (f_isKind n (m_sg st 8 0) p2) (fun r5 => m_if ((r5 : Int32) = 0) (f_span_J22 n (m_sg st 8 0)) (m_b (f_isIn n p3.toInt64 0 1) (fun r8 => m_if ((r8 : Int32) = 0) (some ((-3), m_sg st 8 0)) (m_b (f_laysBounds n (m_sg st 8 0) p2 ((-1))) (fun s11 => m_b2 (f_presses n s11) (fun r13 s14 => m_if ((r13 : Int32) = 0) (some ((-1), s14)) (m_if ((p3 : Int32) = (1 : Int32)) (f_span_J68 n s14 p0 p1 1 p1 p0) (f_span_J68 n s14 p0 p1 0 p1 p0))))))))))
theorem hd_span : yX3_span.cls = RX3 ∧ yX3_span.cls ≠ "java/lang/invoke/MethodHandle" ∧ yX3_span.cls ≠ "java/lang/invoke/VarHandle" ∧ (parseMethodDescriptor yX3_span.desc).map (fun d => d.parameters.length) = some 4 := by decide +kernel
section S_span
variable {p : Program} {l : Launch} {e : Env} {R : Room} {s : State} {m : MethodId} {args : Array Value} {below : List Frame} {meth : Method} {c : Code} {Q : State → Prop} {D : va_G} {A : Nat → Prop} {d : MD}
theorem w_span (X : m_X D A d p s m c cX3_span 5 args) (hA : ∀ q, s.heap.size ≤ q → A q) (hR : 5 ≤ R.frames ∧ 122 ≤ R.locals) (n : Nat) (st : MS) (p0 : Int32) (p1 : Int32) (p2 : Int32) (p3 : Int32) (r : (Int32 × MS)) (h : f_span n st p0 p1 p2 p3 = some r) (hret : ∀ (H : Heap) (locs : List Loc) (ls : Array Slot) (pc : Nat), decode cX3_span pc = .ok (.ireturn, 1) → m_I D A d s.heap r.2 H locs → W p l e R s m args below meth c H locs 0 0 Q (F0 m pc ls [.int r.1])) : ∀ (H : Heap) (locs : List Loc) (ls : Array Slot), m_I D A d s.heap st H locs → lv_has ls 5 [(0, .ref d.1), (1, .int p0), (2, .int p1), (3, .int p2), (4, .int p3)] → W p l e R s m args below meth c H locs 0 0 Q (F0 m 0 ls []) := by
  obtain ⟨r0, s0⟩ := r
  have k22 : ∀ (st : MS) (H : Heap) (locs : List Loc) (ls : Array Slot), f_span_J22 n st = some (r0, s0) → m_I D A d s.heap st H locs → lv_has ls 5 [] → W p l e R s m args below meth c H locs 0 0 Q (F0 m 22 ls []) := by
    intro st H locs ls h I hl
    unfold f_span_J22 at h
    refine lv_bipush (v := (-2)) X.1 X.2.1 dX3_span_22 (by decide) ?_
    obtain ⟨rfl, rfl⟩ := m_e2 h
    exact hret H locs ls 24 dX3_span_24 I
  have k68 : ∀ (st : MS) (v1 : Int32) (v2 : Int32) (t0 : Int32) (t1 : Int32) (t2 : Int32) (H : Heap) (locs : List Loc) (ls : Array Slot), f_span_J68 n st v1 v2 t0 t1 t2 = some (r0, s0) → m_I D A d s.heap st H locs → lv_has ls 5 [(0, .ref d.1), (1, .int v1), (2, .int v2)] → W p l e R s m args below meth c H locs 0 0 Q (F0 m 68 ls [.int t0, .int t1, .int t2, .ref d.1]) := by
    intro st v1 v2 t0 t1 t2 H locs ls h I hl
    unfold f_span_J68 at h
    obtain ⟨s18, e17, h⟩ := m_bS h
    refine m_callV X hl.1 I hA (As := [.int t2, .int t1, .int t0]) (rest := []) (c_turns l n D d st t2 t1 t0 _ e17) 3 q1931 q1933 qs91 q107 q1934 (hd_turns) rfl rfl ⟨Nat.le_trans (Nat.le_of_ble_eq_true rfl) hR.1, Nat.le_trans (Nat.le_of_ble_eq_true rfl) hR.2⟩ ⟨rfl, rfl⟩ ⟨Nat.zero_le _, Nat.zero_le _⟩ (Nat.le_of_ble_eq_true rfl) dX3_span_68 (fun H locs I => ?_)
    refine lv_aload_n X.1 X.2.1 dX3_span_71 rfl (lv_at hl 0 rfl) ?_
    refine m_get X I 22 (by decide) rfl rfl rfl q1539 (v := .ref (d.2.1 22)) rfl dX3_span_72 ?_
    refine lv_iload_n X.1 X.2.1 dX3_span_75 rfl (lv_at hl 1 rfl) ?_
    refine lv_iload_n X.1 X.2.1 dX3_span_76 rfl (lv_at hl 2 rfl) ?_
    obtain ⟨r20, e19, h⟩ := m_bS h
    refine m_callS X hl.1 (As := [.int v1, .int v2]) (rest := [.ref (d.2.1 22)]) (c_couple l n v1 v2 _ e19) 2 q1784 q1785 q107 q1786 (hd_couple).2 rfl rfl ⟨Nat.le_trans (Nat.le_of_ble_eq_true rfl) hR.1, Nat.le_trans (Nat.le_of_ble_eq_true rfl) hR.2⟩ ⟨rfl, rfl⟩ ⟨Nat.zero_le _, Nat.zero_le _⟩ (Nat.le_of_ble_eq_true rfl) dX3_span_77 ?_
    obtain ⟨g21, h⟩ := m_gS h
    refine m_iald X I 11 (n := 64) (f := s18.2.1 22) rfl g21 dX3_span_80 ?_
    obtain ⟨rfl, rfl⟩ := m_e2 h
    exact hret H locs ls 81 dX3_span_81 I
  intro H locs ls I hl
  unfold f_span at h
  refine lv_aload_n X.1 X.2.1 dX3_span_0 rfl (lv_at hl 0 rfl) ?_
  refine lv_iconst (v := 0) X.1 X.2.1 dX3_span_1 (by decide) ?_
  refine m_put X I 8 (by decide) rfl rfl rfl q1525 rfl (m_set8 d _ _) dX3_span_2 (fun H locs I => ?_)
  refine lv_aload_n X.1 X.2.1 dX3_span_5 rfl (lv_at hl 0 rfl) ?_
  refine lv_iload_n X.1 X.2.1 dX3_span_6 rfl (lv_at hl 1 rfl) ?_
  refine lv_iload_n X.1 X.2.1 dX3_span_7 rfl (lv_at hl 2 rfl) ?_
  obtain ⟨r2, e1, h⟩ := m_bS h
  refine m_callI X hl.1 I hA (As := [.int p0, .int p1]) (rest := []) (c_areTwo l n D d (m_sg st 8 0) p0 p1 _ e1) 2 q1716 q1718 qs61 q107 q1719 (hd_areTwo) rfl rfl ⟨Nat.le_trans (Nat.le_of_ble_eq_true rfl) hR.1, Nat.le_trans (Nat.le_of_ble_eq_true rfl) hR.2⟩ ⟨rfl, rfl⟩ ⟨Nat.zero_le _, Nat.zero_le _⟩ (Nat.le_of_ble_eq_true rfl) dX3_span_8 (fun H locs I => ?_)
  refine lv_if_eq (tgt := 22) X.1 X.2.1 dX3_span_11 (by decide) (fun c3 => ?_) (fun c3 => ?_)
  · replace h := m_ifT c3 h
    exact k22 (m_sg st 8 0) H locs ls h I (lv_sub hl [] rfl)
  · replace h := m_ifF c3 h
    refine lv_aload_n X.1 X.2.1 dX3_span_14 rfl (lv_at hl 0 rfl) ?_
    refine lv_iload_n X.1 X.2.1 dX3_span_15 rfl (lv_at hl 3 rfl) ?_
    obtain ⟨r5, e4, h⟩ := m_bS h
    refine m_callI X hl.1 I hA (As := [.int p2]) (rest := []) (c_isKind l n D d (m_sg st 8 0) p2 _ e4) 1 q1724 q1726 qs63 q107 q1727 (hd_isKind) rfl rfl ⟨Nat.le_trans (Nat.le_of_ble_eq_true rfl) hR.1, Nat.le_trans (Nat.le_of_ble_eq_true rfl) hR.2⟩ ⟨rfl, rfl⟩ ⟨Nat.zero_le _, Nat.zero_le _⟩ (Nat.le_of_ble_eq_true rfl) dX3_span_16 (fun H locs I => ?_)
    refine lv_if_ne (tgt := 25) X.1 X.2.1 dX3_span_19 (by decide) (fun c6 => ?_) (fun c6 => ?_)
    · replace h := m_ifF c6 h
      refine lv_iload X.1 X.2.1 dX3_span_25 (lv_at hl 4 rfl) ?_
      refine lv_i2l X.1 X.2.1 dX3_span_27 rfl ?_
      refine lv_lconst (v := 0) X.1 X.2.1 dX3_span_28 (by decide) ?_
      refine lv_lconst (v := 1) X.1 X.2.1 dX3_span_29 (by decide) ?_
      obtain ⟨r8, e7, h⟩ := m_bS h
      refine m_callS X hl.1 (As := [.long p3.toInt64, .long 0, .long 1]) (rest := []) (c_isIn l n p3.toInt64 0 1 _ e7) 3 q1623 q1624 q107 q1625 (hd_isIn).2 rfl rfl ⟨Nat.le_trans (Nat.le_of_ble_eq_true rfl) hR.1, Nat.le_trans (Nat.le_of_ble_eq_true rfl) hR.2⟩ ⟨rfl, rfl⟩ ⟨Nat.zero_le _, Nat.zero_le _⟩ (Nat.le_of_ble_eq_true rfl) dX3_span_30 ?_
      refine lv_if_ne (tgt := 39) X.1 X.2.1 dX3_span_33 (by decide) (fun c9 => ?_) (fun c9 => ?_)
      · replace h := m_ifF c9 h
        refine lv_aload_n X.1 X.2.1 dX3_span_39 rfl (lv_at hl 0 rfl) ?_
        refine lv_iload_n X.1 X.2.1 dX3_span_40 rfl (lv_at hl 3 rfl) ?_
        refine lv_iconst (v := (-1)) X.1 X.2.1 dX3_span_41 (by decide) ?_
        obtain ⟨s11, e10, h⟩ := m_bS h
        refine m_callV X hl.1 I hA (As := [.int p2, .int ((-1))]) (rest := []) (c_laysBounds l n D d (m_sg st 8 0) p2 ((-1)) _ e10) 2 q1883 q1885 qs82 q107 q1886 (hd_laysBounds) rfl rfl ⟨Nat.le_trans (Nat.le_of_ble_eq_true rfl) hR.1, Nat.le_trans (Nat.le_of_ble_eq_true rfl) hR.2⟩ ⟨rfl, rfl⟩ ⟨Nat.zero_le _, Nat.zero_le _⟩ (Nat.le_of_ble_eq_true rfl) dX3_span_42 (fun H locs I => ?_)
        refine lv_aload_n X.1 X.2.1 dX3_span_45 rfl (lv_at hl 0 rfl) ?_
        obtain ⟨r13, s14, e12, h⟩ := m_b2S h
        refine m_callI X hl.1 I hA (As := []) (rest := []) (c_presses l n D d s11  _ _ e12) 0 q1891 q1893 qs83 q107 q1894 (hd_presses) rfl rfl ⟨Nat.le_trans (Nat.le_of_ble_eq_true rfl) hR.1, Nat.le_trans (Nat.le_of_ble_eq_true rfl) hR.2⟩ ⟨rfl, rfl⟩ ⟨Nat.zero_le _, Nat.zero_le _⟩ (Nat.le_of_ble_eq_true rfl) dX3_span_46 (fun H locs I => ?_)
        refine lv_if_ne (tgt := 54) X.1 X.2.1 dX3_span_49 (by decide) (fun c15 => ?_) (fun c15 => ?_)
        · replace h := m_ifF c15 h
          refine lv_aload_n X.1 X.2.1 dX3_span_54 rfl (lv_at hl 0 rfl) ?_
          refine lv_iload_n X.1 X.2.1 dX3_span_55 rfl (lv_at hl 1 rfl) ?_
          refine lv_iload_n X.1 X.2.1 dX3_span_56 rfl (lv_at hl 2 rfl) ?_
          refine lv_iload X.1 X.2.1 dX3_span_57 (lv_at hl 4 rfl) ?_
          refine lv_iconst (v := 1) X.1 X.2.1 dX3_span_59 (by decide) ?_
          refine lv_icmp_ne (tgt := 67) X.1 X.2.1 dX3_span_60 (by decide) (fun c16 => ?_) (fun c16 => ?_)
          · replace h := m_ifF c16 h
            refine lv_iconst (v := 0) X.1 X.2.1 dX3_span_67 (by decide) ?_
            exact k68 s14 p0 p1 0 p1 p0 H locs ls h I (lv_sub hl [0, 1, 2] rfl)
          · replace h := m_ifT c16 h
            refine lv_iconst (v := 1) X.1 X.2.1 dX3_span_63 (by decide) ?_
            refine lv_goto (tgt := 68) X.1 X.2.1 dX3_span_64 (by decide) ?_
            exact k68 s14 p0 p1 1 p1 p0 H locs ls h I (lv_sub hl [0, 1, 2] rfl)
        · replace h := m_ifT c15 h
          refine lv_iconst (v := (-1)) X.1 X.2.1 dX3_span_52 (by decide) ?_
          obtain ⟨rfl, rfl⟩ := m_e2 h
          exact hret H locs ls 53 dX3_span_53 I
      · replace h := m_ifT c9 h
        refine lv_bipush (v := (-3)) X.1 X.2.1 dX3_span_36 (by decide) ?_
        obtain ⟨rfl, rfl⟩ := m_e2 h
        exact hret H locs ls 38 dX3_span_38 I
    · replace h := m_ifT c6 h
      exact k22 (m_sg st 8 0) H locs ls h I (lv_sub hl [] rfl)
end S_span
theorem c_span (l : Launch) (n : Nat) (D : va_G) (d : MD) (st : MS) (p0 : Int32) (p1 : Int32) (p2 : Int32) (p3 : Int32) (r : Int32) (st' : MS) (h : f_span n st p0 p1 p2 p3 = some (r, st')) : m_Mi l yX3_span cX3_span 5 (some .int) ({ frames := 5, cells := 0, slots := 0, locals := 122 } : Room) D d st [.ref d.1, .int p0, .int p1, .int p2, .int p3] r st' :=
  m_startI (lvl := [(0, .ref d.1), (1, .int p0), (2, .int p1), (3, .int p2), (4, .int p3)]) (by decide) rfl (Nat.le_of_ble_eq_true rfl) rfl (fun p e s m args below meth c ls X hr hlk hl hA I => w_span X hA ⟨Nat.le_refl _, Nat.le_refl _⟩ n st p0 p1 p2 p3 (r, st') h (fun H locs ls pc hd I => m_iret X I hr hlk hd) _ _ ls I hl)

/-! method gain(III)I -/
def f_gain_J22 (n : Nat) (st : MS) : Option (Int32 × MS) :=
  some ((-2), st)
def f_gain (n : Nat) (st : MS) (p0 : Int32) (p1 : Int32) (p2 : Int32) : Option (Int32 × MS) :=
  m_b (f_areTwo n (m_sg st 8 0) p0 p1) (fun r2 => m_if ((r2 : Int32) = 0) (f_gain_J22 n (m_sg st 8 0)) (m_b (f_isKind n (m_sg st 8 0) p2) (fun r5 => m_if ((r5 : Int32) = 0) (f_gain_J22 n (m_sg st 8 0)) (m_b (f_laysBounds n (m_sg st 8 0) p2 ((-1))) (fun s8 => m_b2 (f_presses n s8) (fun r10 s11 => m_if ((r10 : Int32) = 0) (some ((-1), s11)) (m_b (f_sumOf n s11) (fun r14 => m_b (f_couple n p0 p1) (fun r16 => m_g (m_in r16 64) (m_g (m_in r16 64) (m_b2 (f_presses n (m_sa s11 21 (r16 : Int32).toNatClampNeg ((s11.2.1 21 (r16 : Int32).toNatClampNeg) + 1))) (fun r20 s21 => m_b (f_sumOf n s21) (fun r23 => some (r14 - r23, s21))))))))))))))
theorem hd_gain : yX3_gain.cls = RX3 ∧ yX3_gain.cls ≠ "java/lang/invoke/MethodHandle" ∧ yX3_gain.cls ≠ "java/lang/invoke/VarHandle" ∧ (parseMethodDescriptor yX3_gain.desc).map (fun d => d.parameters.length) = some 3 := by decide +kernel
section S_gain
variable {p : Program} {l : Launch} {e : Env} {R : Room} {s : State} {m : MethodId} {args : Array Value} {below : List Frame} {meth : Method} {c : Code} {Q : State → Prop} {D : va_G} {A : Nat → Prop} {d : MD}
theorem w_gain (X : m_X D A d p s m c cX3_gain 5 args) (hA : ∀ q, s.heap.size ≤ q → A q) (hR : 4 ≤ R.frames ∧ 95 ≤ R.locals) (n : Nat) (st : MS) (p0 : Int32) (p1 : Int32) (p2 : Int32) (r : (Int32 × MS)) (h : f_gain n st p0 p1 p2 = some r) (hret : ∀ (H : Heap) (locs : List Loc) (ls : Array Slot) (pc : Nat), decode cX3_gain pc = .ok (.ireturn, 1) → m_I D A d s.heap r.2 H locs → W p l e R s m args below meth c H locs 0 0 Q (F0 m pc ls [.int r.1])) : ∀ (H : Heap) (locs : List Loc) (ls : Array Slot), m_I D A d s.heap st H locs → lv_has ls 5 [(0, .ref d.1), (1, .int p0), (2, .int p1), (3, .int p2)] → W p l e R s m args below meth c H locs 0 0 Q (F0 m 0 ls []) := by
  obtain ⟨r0, s0⟩ := r
  have k22 : ∀ (st : MS) (H : Heap) (locs : List Loc) (ls : Array Slot), f_gain_J22 n st = some (r0, s0) → m_I D A d s.heap st H locs → lv_has ls 5 [] → W p l e R s m args below meth c H locs 0 0 Q (F0 m 22 ls []) := by
    intro st H locs ls h I hl
    unfold f_gain_J22 at h
    refine lv_bipush (v := (-2)) X.1 X.2.1 dX3_gain_22 (by decide) ?_
    obtain ⟨rfl, rfl⟩ := m_e2 h
    exact hret H locs ls 24 dX3_gain_24 I
  intro H locs ls I hl
  unfold f_gain at h
  refine lv_aload_n X.1 X.2.1 dX3_gain_0 rfl (lv_at hl 0 rfl) ?_
  refine lv_iconst (v := 0) X.1 X.2.1 dX3_gain_1 (by decide) ?_
  refine m_put X I 8 (by decide) rfl rfl rfl q1525 rfl (m_set8 d _ _) dX3_gain_2 (fun H locs I => ?_)
  refine lv_aload_n X.1 X.2.1 dX3_gain_5 rfl (lv_at hl 0 rfl) ?_
  refine lv_iload_n X.1 X.2.1 dX3_gain_6 rfl (lv_at hl 1 rfl) ?_
  refine lv_iload_n X.1 X.2.1 dX3_gain_7 rfl (lv_at hl 2 rfl) ?_
  obtain ⟨r2, e1, h⟩ := m_bS h
  refine m_callI X hl.1 I hA (As := [.int p0, .int p1]) (rest := []) (c_areTwo l n D d (m_sg st 8 0) p0 p1 _ e1) 2 q1716 q1718 qs61 q107 q1719 (hd_areTwo) rfl rfl ⟨Nat.le_trans (Nat.le_of_ble_eq_true rfl) hR.1, Nat.le_trans (Nat.le_of_ble_eq_true rfl) hR.2⟩ ⟨rfl, rfl⟩ ⟨Nat.zero_le _, Nat.zero_le _⟩ (Nat.le_of_ble_eq_true rfl) dX3_gain_8 (fun H locs I => ?_)
  refine lv_if_eq (tgt := 22) X.1 X.2.1 dX3_gain_11 (by decide) (fun c3 => ?_) (fun c3 => ?_)
  · replace h := m_ifT c3 h
    exact k22 (m_sg st 8 0) H locs ls h I (lv_sub hl [] rfl)
  · replace h := m_ifF c3 h
    refine lv_aload_n X.1 X.2.1 dX3_gain_14 rfl (lv_at hl 0 rfl) ?_
    refine lv_iload_n X.1 X.2.1 dX3_gain_15 rfl (lv_at hl 3 rfl) ?_
    obtain ⟨r5, e4, h⟩ := m_bS h
    refine m_callI X hl.1 I hA (As := [.int p2]) (rest := []) (c_isKind l n D d (m_sg st 8 0) p2 _ e4) 1 q1724 q1726 qs63 q107 q1727 (hd_isKind) rfl rfl ⟨Nat.le_trans (Nat.le_of_ble_eq_true rfl) hR.1, Nat.le_trans (Nat.le_of_ble_eq_true rfl) hR.2⟩ ⟨rfl, rfl⟩ ⟨Nat.zero_le _, Nat.zero_le _⟩ (Nat.le_of_ble_eq_true rfl) dX3_gain_16 (fun H locs I => ?_)
    refine lv_if_ne (tgt := 25) X.1 X.2.1 dX3_gain_19 (by decide) (fun c6 => ?_) (fun c6 => ?_)
    · replace h := m_ifF c6 h
      refine lv_aload_n X.1 X.2.1 dX3_gain_25 rfl (lv_at hl 0 rfl) ?_
      refine lv_iload_n X.1 X.2.1 dX3_gain_26 rfl (lv_at hl 3 rfl) ?_
      refine lv_iconst (v := (-1)) X.1 X.2.1 dX3_gain_27 (by decide) ?_
      obtain ⟨s8, e7, h⟩ := m_bS h
      refine m_callV X hl.1 I hA (As := [.int p2, .int ((-1))]) (rest := []) (c_laysBounds l n D d (m_sg st 8 0) p2 ((-1)) _ e7) 2 q1883 q1885 qs82 q107 q1886 (hd_laysBounds) rfl rfl ⟨Nat.le_trans (Nat.le_of_ble_eq_true rfl) hR.1, Nat.le_trans (Nat.le_of_ble_eq_true rfl) hR.2⟩ ⟨rfl, rfl⟩ ⟨Nat.zero_le _, Nat.zero_le _⟩ (Nat.le_of_ble_eq_true rfl) dX3_gain_28 (fun H locs I => ?_)
      refine lv_aload_n X.1 X.2.1 dX3_gain_31 rfl (lv_at hl 0 rfl) ?_
      obtain ⟨r10, s11, e9, h⟩ := m_b2S h
      refine m_callI X hl.1 I hA (As := []) (rest := []) (c_presses l n D d s8  _ _ e9) 0 q1891 q1893 qs83 q107 q1894 (hd_presses) rfl rfl ⟨Nat.le_trans (Nat.le_of_ble_eq_true rfl) hR.1, Nat.le_trans (Nat.le_of_ble_eq_true rfl) hR.2⟩ ⟨rfl, rfl⟩ ⟨Nat.zero_le _, Nat.zero_le _⟩ (Nat.le_of_ble_eq_true rfl) dX3_gain_32 (fun H locs I => ?_)
      refine lv_if_ne (tgt := 40) X.1 X.2.1 dX3_gain_35 (by decide) (fun c12 => ?_) (fun c12 => ?_)
      · replace h := m_ifF c12 h
        refine lv_aload_n X.1 X.2.1 dX3_gain_40 rfl (lv_at hl 0 rfl) ?_
        obtain ⟨r14, e13, h⟩ := m_bS h
        refine m_callI X hl.1 I hA (As := []) (rest := []) (c_sumOf l n D d s11  _ e13) 0 q1919 q1921 qs89 q107 q1922 (hd_sumOf) rfl rfl ⟨Nat.le_trans (Nat.le_of_ble_eq_true rfl) hR.1, Nat.le_trans (Nat.le_of_ble_eq_true rfl) hR.2⟩ ⟨rfl, rfl⟩ ⟨Nat.zero_le _, Nat.zero_le _⟩ (Nat.le_of_ble_eq_true rfl) dX3_gain_41 (fun H locs I => ?_)
        refine lv_istore (lv' := [(4, .int r14), (0, .ref d.1), (1, .int p0), (2, .int p1), (3, .int p2)]) X.1 X.2.1 dX3_gain_44 hl (by decide) rfl (fun ls hl => ?_)
        refine lv_aload_n X.1 X.2.1 dX3_gain_46 rfl (lv_at hl 1 rfl) ?_
        refine m_get X I 21 (by decide) rfl rfl rfl q1538 (v := .ref (d.2.1 21)) rfl dX3_gain_47 ?_
        refine lv_iload_n X.1 X.2.1 dX3_gain_50 rfl (lv_at hl 2 rfl) ?_
        refine lv_iload_n X.1 X.2.1 dX3_gain_51 rfl (lv_at hl 3 rfl) ?_
        obtain ⟨r16, e15, h⟩ := m_bS h
        refine m_callS X hl.1 (As := [.int p0, .int p1]) (rest := [.ref (d.2.1 21)]) (c_couple l n p0 p1 _ e15) 2 q1784 q1785 q107 q1786 (hd_couple).2 rfl rfl ⟨Nat.le_trans (Nat.le_of_ble_eq_true rfl) hR.1, Nat.le_trans (Nat.le_of_ble_eq_true rfl) hR.2⟩ ⟨rfl, rfl⟩ ⟨Nat.zero_le _, Nat.zero_le _⟩ (Nat.le_of_ble_eq_true rfl) dX3_gain_52 ?_
        refine lv_dup2_11 X.1 X.2.1 dX3_gain_55 rfl rfl ?_
        obtain ⟨g17, h⟩ := m_gS h
        refine m_iald X I 10 (n := 64) (f := s11.2.1 21) rfl g17 dX3_gain_56 ?_
        refine lv_iconst (v := 1) X.1 X.2.1 dX3_gain_57 (by decide) ?_
        refine lv_iadd X.1 X.2.1 dX3_gain_58 ?_
        obtain ⟨g18, h⟩ := m_gS h
        refine m_iast X I 10 (n := 64) (f := s11.2.1 21) rfl (m_st21 d _ _ _) g18 dX3_gain_59 (fun H locs I => ?_)
        refine lv_aload_n X.1 X.2.1 dX3_gain_60 rfl (lv_at hl 1 rfl) ?_
        obtain ⟨r20, s21, e19, h⟩ := m_b2S h
        refine m_callI X hl.1 I hA (As := []) (rest := []) (c_presses l n D d (m_sa s11 21 (r16 : Int32).toNatClampNeg ((s11.2.1 21 (r16 : Int32).toNatClampNeg) + 1))  _ _ e19) 0 q1891 q1893 qs83 q107 q1894 (hd_presses) rfl rfl ⟨Nat.le_trans (Nat.le_of_ble_eq_true rfl) hR.1, Nat.le_trans (Nat.le_of_ble_eq_true rfl) hR.2⟩ ⟨rfl, rfl⟩ ⟨Nat.zero_le _, Nat.zero_le _⟩ (Nat.le_of_ble_eq_true rfl) dX3_gain_61 (fun H locs I => ?_)
        refine lv_pop X.1 X.2.1 dX3_gain_64 rfl ?_
        refine lv_iload X.1 X.2.1 dX3_gain_65 (lv_at hl 0 rfl) ?_
        refine lv_aload_n X.1 X.2.1 dX3_gain_67 rfl (lv_at hl 1 rfl) ?_
        obtain ⟨r23, e22, h⟩ := m_bS h
        refine m_callI X hl.1 I hA (As := []) (rest := [.int r14]) (c_sumOf l n D d s21  _ e22) 0 q1919 q1921 qs89 q107 q1922 (hd_sumOf) rfl rfl ⟨Nat.le_trans (Nat.le_of_ble_eq_true rfl) hR.1, Nat.le_trans (Nat.le_of_ble_eq_true rfl) hR.2⟩ ⟨rfl, rfl⟩ ⟨Nat.zero_le _, Nat.zero_le _⟩ (Nat.le_of_ble_eq_true rfl) dX3_gain_68 (fun H locs I => ?_)
        refine lv_isub X.1 X.2.1 dX3_gain_71 ?_
        obtain ⟨rfl, rfl⟩ := m_e2 h
        exact hret H locs ls 72 dX3_gain_72 I
      · replace h := m_ifT c12 h
        refine lv_iconst (v := (-1)) X.1 X.2.1 dX3_gain_38 (by decide) ?_
        obtain ⟨rfl, rfl⟩ := m_e2 h
        exact hret H locs ls 39 dX3_gain_39 I
    · replace h := m_ifT c6 h
      exact k22 (m_sg st 8 0) H locs ls h I (lv_sub hl [] rfl)
end S_gain
theorem c_gain (l : Launch) (n : Nat) (D : va_G) (d : MD) (st : MS) (p0 : Int32) (p1 : Int32) (p2 : Int32) (r : Int32) (st' : MS) (h : f_gain n st p0 p1 p2 = some (r, st')) : m_Mi l yX3_gain cX3_gain 5 (some .int) ({ frames := 4, cells := 0, slots := 0, locals := 95 } : Room) D d st [.ref d.1, .int p0, .int p1, .int p2] r st' :=
  m_startI (lvl := [(0, .ref d.1), (1, .int p0), (2, .int p1), (3, .int p2)]) (by decide) rfl (Nat.le_of_ble_eq_true rfl) rfl (fun p e s m args below meth c ls X hr hlk hl hA I => w_gain X hA ⟨Nat.le_refl _, Nat.le_refl _⟩ n st p0 p1 p2 (r, st') h (fun H locs ls pc hd I => m_iret X I hr hlk hd) _ _ ls I hl)

/-! method without(II)I -/
def f_without_J90 (n : Nat) (st : MS) (v1 : Int32) (v2 : Int32) (v4 : Int32) (t0 : Int32) (t1 : Int32) : Option ((Int32 × Int32 × MS) ⊕ (Int32 × MS)) :=
  some (.inl ((t1 + t0, v4 + 1, st)))
def f_without_J89 (n : Nat) (st : MS) (v1 : Int32) (v2 : Int32) (v4 : Int32) (t0 : Int32) : Option ((Int32 × Int32 × MS) ⊕ (Int32 × MS)) :=
  f_without_J90 n st v1 v2 v4 0 t0
def f_without_L47 (n : Nat) (v1 : Int32) (v2 : Int32) (v3 : Int32) (v4 : Int32) (st : MS) : Option ((Int32 × Int32 × MS) ⊕ (Int32 × MS)) :=
  m_g (m_in 0 266) (m_if ((st.2.1 0 (0 : Int32).toNatClampNeg : Int32) ≤ (v4 : Int32)) (some (.inr ((v3, st)))) (m_b (f_isFree n st v4 v2) (fun r18 => m_if ((r18 : Int32) = 0) (f_without_J89 n st v1 v2 v4 v3) (m_b (f_isOf n st v4 v1) (fun r21 => m_if ((r21 : Int32) = 0) (f_without_J89 n st v1 v2 v4 v3) (m_b (f_tradeAt n st v4 2) (fun r24 => f_without_J90 n st v1 v2 v4 r24 v3)))))))
def f_without_L47l (n : Nat) (v1 : Int32) (v2 : Int32) (x : (Int32 × Int32 × MS)) : Option (Int32 × MS) := m_lp (fun (x : (Int32 × Int32 × MS)) => f_without_L47 n v1 v2 x.1 x.2.1 x.2.2) n x
def f_without_J21 (n : Nat) (st : MS) : Option (Int32 × MS) :=
  some ((-2), st)
def f_without (n : Nat) (st : MS) (p0 : Int32) (p1 : Int32) : Option (Int32 × MS) :=
  m_b (f_isParty n (m_sg st 8 0) p0) (fun r2 => m_if ((r2 : Int32) = 0) (f_without_J21 n (m_sg st 8 0)) (m_b (f_isKind n (m_sg st 8 0) p1) (fun r5 => m_if ((r5 : Int32) = 0) (f_without_J21 n (m_sg st 8 0)) (m_b (f_laysBounds n (m_sg st 8 0) p1 p0) (fun s8 => m_b2 (f_presses n s8) (fun r10 s11 => m_if ((r10 : Int32) = 0) (some ((-1), s11)) (m_b (f_sumOf n s11) (fun r14 => m_b (f_without_L47l n p0 p1 ((r14, 0, s11))) (fun y28 => some (y28.1, y28.2))))))))))
theorem hd_without : yX3_without.cls = RX3 ∧ yX3_without.cls ≠ "java/lang/invoke/MethodHandle" ∧ yX3_without.cls ≠ "java/lang/invoke/VarHandle" ∧ (parseMethodDescriptor yX3_without.desc).map (fun d => d.parameters.length) = some 2 := by decide +kernel
section S_without
variable {p : Program} {l : Launch} {e : Env} {R : Room} {s : State} {m : MethodId} {args : Array Value} {below : List Frame} {meth : Method} {c : Code} {Q : State → Prop} {D : va_G} {A : Nat → Prop} {d : MD}
theorem wf_without_L47 (X : m_X D A d p s m c cX3_without 5 args) (hA : ∀ q, s.heap.size ≤ q → A q) (hR : 4 ≤ R.frames ∧ 95 ≤ R.locals) (n : Nat) (v1 : Int32) (v2 : Int32) (x : (Int32 × Int32 × MS)) (z : (Int32 × MS)) (hz : f_without_L47l n v1 v2 x = some z) (hE : (fun (z : (Int32 × MS)) => ∀ (H : Heap) (locs : List Loc) (ls : Array Slot), m_I D A d s.heap z.2 H locs → lv_has ls 5 [(3, .int z.1)] → W p l e R s m args below meth c H locs 0 0 Q (F0 m 98 ls [])) z) : (fun (x : (Int32 × Int32 × MS)) => ∀ (H : Heap) (locs : List Loc) (ls : Array Slot), m_I D A d s.heap x.2.2 H locs → lv_has ls 5 [(0, .ref d.1), (1, .int v1), (2, .int v2), (3, .int x.1), (4, .int x.2.1)] → W p l e R s m args below meth c H locs 0 0 Q (F0 m 47 ls [])) x := by
  refine m_lpW (G := fun (x : (Int32 × Int32 × MS)) => ∀ (H : Heap) (locs : List Loc) (ls : Array Slot), m_I D A d s.heap x.2.2 H locs → lv_has ls 5 [(0, .ref d.1), (1, .int v1), (2, .int v2), (3, .int x.1), (4, .int x.2.1)] → W p l e R s m args below meth c H locs 0 0 Q (F0 m 47 ls [])) (E := fun (z : (Int32 × MS)) => ∀ (H : Heap) (locs : List Loc) (ls : Array Slot), m_I D A d s.heap z.2 H locs → lv_has ls 5 [(3, .int z.1)] → W p l e R s m args below meth c H locs 0 0 Q (F0 m 98 ls [])) ?_ n x z hz hE
  rintro ⟨v3, v4, st⟩ r h hr H locs ls I hl
  replace h : f_without_L47 n v1 v2 v3 v4 st = some r := h
  have k90 : ∀ (st : MS) (v4 : Int32) (t0 : Int32) (t1 : Int32) (H : Heap) (locs : List Loc) (ls : Array Slot), f_without_J90 n st v1 v2 v4 t0 t1 = some r → m_I D A d s.heap st H locs → lv_has ls 5 [(0, .ref d.1), (1, .int v1), (2, .int v2), (4, .int v4)] → W p l e R s m args below meth c H locs 0 0 Q (F0 m 90 ls [.int t0, .int t1]) := by
    intro st v4 t0 t1 H locs ls h I hl
    unfold f_without_J90 at h
    refine lv_iadd X.1 X.2.1 dX3_without_90 ?_
    refine lv_istore_n (lv' := [(3, .int (t1 + t0)), (0, .ref d.1), (1, .int v1), (2, .int v2), (4, .int v4)]) X.1 X.2.1 dX3_without_91 rfl hl (by decide) rfl (fun ls hl => ?_)
    refine lv_iinc (v := v4 + 1) (lv' := [(4, .int (v4 + 1)), (3, .int (t1 + t0)), (0, .ref d.1), (1, .int v1), (2, .int v2)]) X.1 X.2.1 dX3_without_92 hl (k := 4) rfl rfl (by decide) rfl (fun ls hl => ?_)
    refine lv_goto (tgt := 47) X.1 X.2.1 dX3_without_95 (by decide) ?_
    cases h
    exact hr H locs ls I (lv_sub hl [2, 3, 4, 1, 0] rfl)
  have k89 : ∀ (st : MS) (v4 : Int32) (t0 : Int32) (H : Heap) (locs : List Loc) (ls : Array Slot), f_without_J89 n st v1 v2 v4 t0 = some r → m_I D A d s.heap st H locs → lv_has ls 5 [(0, .ref d.1), (1, .int v1), (2, .int v2), (4, .int v4)] → W p l e R s m args below meth c H locs 0 0 Q (F0 m 89 ls [.int t0]) := by
    intro st v4 t0 H locs ls h I hl
    unfold f_without_J89 at h
    refine lv_iconst (v := 0) X.1 X.2.1 dX3_without_89 (by decide) ?_
    exact k90 st v4 0 t0 H locs ls h I (lv_sub hl [0, 1, 2, 3] rfl)
  unfold f_without_L47 at h
  refine lv_iload X.1 X.2.1 dX3_without_47 (lv_at hl 4 rfl) ?_
  refine lv_aload_n X.1 X.2.1 dX3_without_49 rfl (lv_at hl 0 rfl) ?_
  refine m_get X I 0 (by decide) rfl rfl rfl q1517 (v := .ref (d.2.1 0)) rfl dX3_without_50 ?_
  refine lv_iconst (v := 0) X.1 X.2.1 dX3_without_53 (by decide) ?_
  obtain ⟨g15, h⟩ := m_gS h
  refine m_iald X I 1 (n := 266) (f := st.2.1 0) rfl g15 dX3_without_54 ?_
  refine lv_icmp_ge (tgt := 98) X.1 X.2.1 dX3_without_55 (by decide) (fun c16 => ?_) (fun c16 => ?_)
  · replace h := m_ifT c16 h
    cases h
    exact hr H locs ls I (lv_sub hl [3] rfl)
  · replace h := m_ifF c16 h
    refine lv_iload_n X.1 X.2.1 dX3_without_58 rfl (lv_at hl 3 rfl) ?_
    refine lv_aload_n X.1 X.2.1 dX3_without_59 rfl (lv_at hl 0 rfl) ?_
    refine lv_iload X.1 X.2.1 dX3_without_60 (lv_at hl 4 rfl) ?_
    refine lv_iload_n X.1 X.2.1 dX3_without_62 rfl (lv_at hl 2 rfl) ?_
    obtain ⟨r18, e17, h⟩ := m_bS h
    refine m_callI X hl.1 I hA (As := [.int v4, .int v2]) (rest := [.int v3]) (c_isFree l n D d st v4 v2 _ e17) 2 q1776 q1778 qs68 q107 q1779 (hd_isFree) rfl rfl ⟨Nat.le_trans (Nat.le_of_ble_eq_true rfl) hR.1, Nat.le_trans (Nat.le_of_ble_eq_true rfl) hR.2⟩ ⟨rfl, rfl⟩ ⟨Nat.zero_le _, Nat.zero_le _⟩ (Nat.le_of_ble_eq_true rfl) dX3_without_63 (fun H locs I => ?_)
    refine lv_if_eq (tgt := 89) X.1 X.2.1 dX3_without_66 (by decide) (fun c19 => ?_) (fun c19 => ?_)
    · replace h := m_ifT c19 h
      exact k89 st v4 v3 H locs ls h I (lv_sub hl [0, 1, 2, 4] rfl)
    · replace h := m_ifF c19 h
      refine lv_aload_n X.1 X.2.1 dX3_without_69 rfl (lv_at hl 0 rfl) ?_
      refine lv_iload X.1 X.2.1 dX3_without_70 (lv_at hl 4 rfl) ?_
      refine lv_iload_n X.1 X.2.1 dX3_without_72 rfl (lv_at hl 1 rfl) ?_
      obtain ⟨r21, e20, h⟩ := m_bS h
      refine m_callI X hl.1 I hA (As := [.int v4, .int v1]) (rest := [.int v3]) (c_isOf l n D d st v4 v1 _ e20) 2 q1780 q1782 qs69 q107 q1783 (hd_isOf) rfl rfl ⟨Nat.le_trans (Nat.le_of_ble_eq_true rfl) hR.1, Nat.le_trans (Nat.le_of_ble_eq_true rfl) hR.2⟩ ⟨rfl, rfl⟩ ⟨Nat.zero_le _, Nat.zero_le _⟩ (Nat.le_of_ble_eq_true rfl) dX3_without_73 (fun H locs I => ?_)
      refine lv_if_eq (tgt := 89) X.1 X.2.1 dX3_without_76 (by decide) (fun c22 => ?_) (fun c22 => ?_)
      · replace h := m_ifT c22 h
        exact k89 st v4 v3 H locs ls h I (lv_sub hl [0, 1, 2, 4] rfl)
      · replace h := m_ifF c22 h
        refine lv_aload_n X.1 X.2.1 dX3_without_79 rfl (lv_at hl 0 rfl) ?_
        refine lv_iload X.1 X.2.1 dX3_without_80 (lv_at hl 4 rfl) ?_
        refine lv_iconst (v := 2) X.1 X.2.1 dX3_without_82 (by decide) ?_
        obtain ⟨r24, e23, h⟩ := m_bS h
        refine m_callI X hl.1 I hA (As := [.int v4, .int 2]) (rest := [.int v3]) (c_tradeAt l n D d st v4 2 _ e23) 2 q1683 q1685 qs55 q107 q1686 (hd_tradeAt) rfl rfl ⟨Nat.le_trans (Nat.le_of_ble_eq_true rfl) hR.1, Nat.le_trans (Nat.le_of_ble_eq_true rfl) hR.2⟩ ⟨rfl, rfl⟩ ⟨Nat.zero_le _, Nat.zero_le _⟩ (Nat.le_of_ble_eq_true rfl) dX3_without_83 (fun H locs I => ?_)
        refine lv_goto (tgt := 90) X.1 X.2.1 dX3_without_86 (by decide) ?_
        exact k90 st v4 r24 v3 H locs ls h I (lv_sub hl [0, 1, 2, 4] rfl)
theorem w_without (X : m_X D A d p s m c cX3_without 5 args) (hA : ∀ q, s.heap.size ≤ q → A q) (hR : 4 ≤ R.frames ∧ 95 ≤ R.locals) (n : Nat) (st : MS) (p0 : Int32) (p1 : Int32) (r : (Int32 × MS)) (h : f_without n st p0 p1 = some r) (hret : ∀ (H : Heap) (locs : List Loc) (ls : Array Slot) (pc : Nat), decode cX3_without pc = .ok (.ireturn, 1) → m_I D A d s.heap r.2 H locs → W p l e R s m args below meth c H locs 0 0 Q (F0 m pc ls [.int r.1])) : ∀ (H : Heap) (locs : List Loc) (ls : Array Slot), m_I D A d s.heap st H locs → lv_has ls 5 [(0, .ref d.1), (1, .int p0), (2, .int p1)] → W p l e R s m args below meth c H locs 0 0 Q (F0 m 0 ls []) := by
  obtain ⟨r0, s0⟩ := r
  have k21 : ∀ (st : MS) (H : Heap) (locs : List Loc) (ls : Array Slot), f_without_J21 n st = some (r0, s0) → m_I D A d s.heap st H locs → lv_has ls 5 [] → W p l e R s m args below meth c H locs 0 0 Q (F0 m 21 ls []) := by
    intro st H locs ls h I hl
    unfold f_without_J21 at h
    refine lv_bipush (v := (-2)) X.1 X.2.1 dX3_without_21 (by decide) ?_
    obtain ⟨rfl, rfl⟩ := m_e2 h
    exact hret H locs ls 23 dX3_without_23 I
  intro H locs ls I hl
  unfold f_without at h
  refine lv_aload_n X.1 X.2.1 dX3_without_0 rfl (lv_at hl 0 rfl) ?_
  refine lv_iconst (v := 0) X.1 X.2.1 dX3_without_1 (by decide) ?_
  refine m_put X I 8 (by decide) rfl rfl rfl q1525 rfl (m_set8 d _ _) dX3_without_2 (fun H locs I => ?_)
  refine lv_aload_n X.1 X.2.1 dX3_without_5 rfl (lv_at hl 0 rfl) ?_
  refine lv_iload_n X.1 X.2.1 dX3_without_6 rfl (lv_at hl 1 rfl) ?_
  obtain ⟨r2, e1, h⟩ := m_bS h
  refine m_callI X hl.1 I hA (As := [.int p0]) (rest := []) (c_isParty l n D d (m_sg st 8 0) p0 _ e1) 1 q1720 q1722 qs62 q107 q1723 (hd_isParty) rfl rfl ⟨Nat.le_trans (Nat.le_of_ble_eq_true rfl) hR.1, Nat.le_trans (Nat.le_of_ble_eq_true rfl) hR.2⟩ ⟨rfl, rfl⟩ ⟨Nat.zero_le _, Nat.zero_le _⟩ (Nat.le_of_ble_eq_true rfl) dX3_without_7 (fun H locs I => ?_)
  refine lv_if_eq (tgt := 21) X.1 X.2.1 dX3_without_10 (by decide) (fun c3 => ?_) (fun c3 => ?_)
  · replace h := m_ifT c3 h
    exact k21 (m_sg st 8 0) H locs ls h I (lv_sub hl [] rfl)
  · replace h := m_ifF c3 h
    refine lv_aload_n X.1 X.2.1 dX3_without_13 rfl (lv_at hl 0 rfl) ?_
    refine lv_iload_n X.1 X.2.1 dX3_without_14 rfl (lv_at hl 2 rfl) ?_
    obtain ⟨r5, e4, h⟩ := m_bS h
    refine m_callI X hl.1 I hA (As := [.int p1]) (rest := []) (c_isKind l n D d (m_sg st 8 0) p1 _ e4) 1 q1724 q1726 qs63 q107 q1727 (hd_isKind) rfl rfl ⟨Nat.le_trans (Nat.le_of_ble_eq_true rfl) hR.1, Nat.le_trans (Nat.le_of_ble_eq_true rfl) hR.2⟩ ⟨rfl, rfl⟩ ⟨Nat.zero_le _, Nat.zero_le _⟩ (Nat.le_of_ble_eq_true rfl) dX3_without_15 (fun H locs I => ?_)
    refine lv_if_ne (tgt := 24) X.1 X.2.1 dX3_without_18 (by decide) (fun c6 => ?_) (fun c6 => ?_)
    · replace h := m_ifF c6 h
      refine lv_aload_n X.1 X.2.1 dX3_without_24 rfl (lv_at hl 0 rfl) ?_
      refine lv_iload_n X.1 X.2.1 dX3_without_25 rfl (lv_at hl 2 rfl) ?_
      refine lv_iload_n X.1 X.2.1 dX3_without_26 rfl (lv_at hl 1 rfl) ?_
      obtain ⟨s8, e7, h⟩ := m_bS h
      refine m_callV X hl.1 I hA (As := [.int p1, .int p0]) (rest := []) (c_laysBounds l n D d (m_sg st 8 0) p1 p0 _ e7) 2 q1883 q1885 qs82 q107 q1886 (hd_laysBounds) rfl rfl ⟨Nat.le_trans (Nat.le_of_ble_eq_true rfl) hR.1, Nat.le_trans (Nat.le_of_ble_eq_true rfl) hR.2⟩ ⟨rfl, rfl⟩ ⟨Nat.zero_le _, Nat.zero_le _⟩ (Nat.le_of_ble_eq_true rfl) dX3_without_27 (fun H locs I => ?_)
      refine lv_aload_n X.1 X.2.1 dX3_without_30 rfl (lv_at hl 0 rfl) ?_
      obtain ⟨r10, s11, e9, h⟩ := m_b2S h
      refine m_callI X hl.1 I hA (As := []) (rest := []) (c_presses l n D d s8  _ _ e9) 0 q1891 q1893 qs83 q107 q1894 (hd_presses) rfl rfl ⟨Nat.le_trans (Nat.le_of_ble_eq_true rfl) hR.1, Nat.le_trans (Nat.le_of_ble_eq_true rfl) hR.2⟩ ⟨rfl, rfl⟩ ⟨Nat.zero_le _, Nat.zero_le _⟩ (Nat.le_of_ble_eq_true rfl) dX3_without_31 (fun H locs I => ?_)
      refine lv_if_ne (tgt := 39) X.1 X.2.1 dX3_without_34 (by decide) (fun c12 => ?_) (fun c12 => ?_)
      · replace h := m_ifF c12 h
        refine lv_aload_n X.1 X.2.1 dX3_without_39 rfl (lv_at hl 0 rfl) ?_
        obtain ⟨r14, e13, h⟩ := m_bS h
        refine m_callI X hl.1 I hA (As := []) (rest := []) (c_sumOf l n D d s11  _ e13) 0 q1919 q1921 qs89 q107 q1922 (hd_sumOf) rfl rfl ⟨Nat.le_trans (Nat.le_of_ble_eq_true rfl) hR.1, Nat.le_trans (Nat.le_of_ble_eq_true rfl) hR.2⟩ ⟨rfl, rfl⟩ ⟨Nat.zero_le _, Nat.zero_le _⟩ (Nat.le_of_ble_eq_true rfl) dX3_without_40 (fun H locs I => ?_)
        refine lv_istore_n (lv' := [(3, .int r14), (0, .ref d.1), (1, .int p0), (2, .int p1)]) X.1 X.2.1 dX3_without_43 rfl hl (by decide) rfl (fun ls hl => ?_)
        refine lv_iconst (v := 0) X.1 X.2.1 dX3_without_44 (by decide) ?_
        refine lv_istore (lv' := [(4, .int 0), (3, .int r14), (0, .ref d.1), (1, .int p0), (2, .int p1)]) X.1 X.2.1 dX3_without_45 hl (by decide) rfl (fun ls hl => ?_)
        obtain ⟨⟨z26, s27⟩, e25, h⟩ := m_bS h
        refine wf_without_L47 X hA hR n p0 p1 _ _ e25 (fun H locs ls I hl => ?_) H locs ls I (lv_sub hl [2, 3, 4, 1, 0] rfl)
        refine lv_iload_n X.1 X.2.1 dX3_without_98 rfl (lv_at hl 0 rfl) ?_
        obtain ⟨rfl, rfl⟩ := m_e2 h
        exact hret H locs ls 99 dX3_without_99 I
      · replace h := m_ifT c12 h
        refine lv_iconst (v := (-1)) X.1 X.2.1 dX3_without_37 (by decide) ?_
        obtain ⟨rfl, rfl⟩ := m_e2 h
        exact hret H locs ls 38 dX3_without_38 I
    · replace h := m_ifT c6 h
      exact k21 (m_sg st 8 0) H locs ls h I (lv_sub hl [] rfl)
end S_without
theorem c_without (l : Launch) (n : Nat) (D : va_G) (d : MD) (st : MS) (p0 : Int32) (p1 : Int32) (r : Int32) (st' : MS) (h : f_without n st p0 p1 = some (r, st')) : m_Mi l yX3_without cX3_without 5 (some .int) ({ frames := 4, cells := 0, slots := 0, locals := 95 } : Room) D d st [.ref d.1, .int p0, .int p1] r st' :=
  m_startI (lvl := [(0, .ref d.1), (1, .int p0), (2, .int p1)]) (by decide) rfl (Nat.le_of_ble_eq_true rfl) rfl (fun p e s m args below meth c ls X hr hlk hl hA I => w_without X hA ⟨Nat.le_refl _, Nat.le_refl _⟩ n st p0 p1 (r, st') h (fun H locs ls pc hd I => m_iret X I hr hlk hd) _ _ ls I hl)

/-! method all()I -/
def f_all_L9 (n : Nat) (v1 : Int32) (v2 : Int32) (st : MS) : Option ((Int32 × Int32 × MS) ⊕ (MS ⊕ (Int32 × MS))) :=
  m_if ((st.1 6 : Int32) ≤ (v2 : Int32)) (some (.inr (.inr ((v1, st))))) (m_b (f_laysBounds n st v2 ((-1))) (fun s3 => m_b2 (f_presses n s3) (fun r5 s6 => m_if ((r5 : Int32) = 0) (some (.inr (.inl s6))) (m_b (f_sumOf n s6) (fun r9 => some (.inl ((v1 + r9, v2 + 1, s6))))))))
def f_all_L9l (n : Nat) (x : (Int32 × Int32 × MS)) : Option (MS ⊕ (Int32 × MS)) := m_lp (fun (x : (Int32 × Int32 × MS)) => f_all_L9 n x.1 x.2.1 x.2.2) n x
def f_all (n : Nat) (st : MS) : Option (Int32 × MS) :=
  m_b (f_all_L9l n ((0, 0, m_sg st 8 0))) (fun y15 => m_s y15 (fun s11 => some ((-1), s11)) (fun y14 => some (y14.1, y14.2)))
theorem hd_all : yX3_all.cls = RX3 ∧ yX3_all.cls ≠ "java/lang/invoke/MethodHandle" ∧ yX3_all.cls ≠ "java/lang/invoke/VarHandle" ∧ (parseMethodDescriptor yX3_all.desc).map (fun d => d.parameters.length) = some 0 := by decide +kernel
section S_all
variable {p : Program} {l : Launch} {e : Env} {R : Room} {s : State} {m : MethodId} {args : Array Value} {below : List Frame} {meth : Method} {c : Code} {Q : State → Prop} {D : va_G} {A : Nat → Prop} {d : MD}
theorem wf_all_L9 (X : m_X D A d p s m c cX3_all 3 args) (hA : ∀ q, s.heap.size ≤ q → A q) (hR : 4 ≤ R.frames ∧ 95 ≤ R.locals) (n : Nat)  (x : (Int32 × Int32 × MS)) (z : (MS ⊕ (Int32 × MS))) (hz : f_all_L9l n x = some z) (hE : (m_e (fun (z : MS) => ∀ (H : Heap) (locs : List Loc) (ls : Array Slot), m_I D A d s.heap z H locs → lv_has ls 3 [] → W p l e R s m args below meth c H locs 0 0 Q (F0 m 30 ls [])) (fun (z : (Int32 × MS)) => ∀ (H : Heap) (locs : List Loc) (ls : Array Slot), m_I D A d s.heap z.2 H locs → lv_has ls 3 [(1, .int z.1)] → W p l e R s m args below meth c H locs 0 0 Q (F0 m 45 ls []))) z) : (fun (x : (Int32 × Int32 × MS)) => ∀ (H : Heap) (locs : List Loc) (ls : Array Slot), m_I D A d s.heap x.2.2 H locs → lv_has ls 3 [(0, .ref d.1), (1, .int x.1), (2, .int x.2.1)] → W p l e R s m args below meth c H locs 0 0 Q (F0 m 9 ls [])) x := by
  refine m_lpW (G := fun (x : (Int32 × Int32 × MS)) => ∀ (H : Heap) (locs : List Loc) (ls : Array Slot), m_I D A d s.heap x.2.2 H locs → lv_has ls 3 [(0, .ref d.1), (1, .int x.1), (2, .int x.2.1)] → W p l e R s m args below meth c H locs 0 0 Q (F0 m 9 ls [])) (E := m_e (fun (z : MS) => ∀ (H : Heap) (locs : List Loc) (ls : Array Slot), m_I D A d s.heap z H locs → lv_has ls 3 [] → W p l e R s m args below meth c H locs 0 0 Q (F0 m 30 ls [])) (fun (z : (Int32 × MS)) => ∀ (H : Heap) (locs : List Loc) (ls : Array Slot), m_I D A d s.heap z.2 H locs → lv_has ls 3 [(1, .int z.1)] → W p l e R s m args below meth c H locs 0 0 Q (F0 m 45 ls []))) ?_ n x z hz hE
  rintro ⟨v1, v2, st⟩ r h hr H locs ls I hl
  replace h : f_all_L9 n v1 v2 st = some r := h
  unfold f_all_L9 at h
  refine lv_iload_n X.1 X.2.1 dX3_all_9 rfl (lv_at hl 2 rfl) ?_
  refine lv_aload_n X.1 X.2.1 dX3_all_10 rfl (lv_at hl 0 rfl) ?_
  refine m_get X I 6 (by decide) rfl rfl rfl q1523 (v := .int (st.1 6)) rfl dX3_all_11 ?_
  refine lv_icmp_ge (tgt := 45) X.1 X.2.1 dX3_all_14 (by decide) (fun c1 => ?_) (fun c1 => ?_)
  · replace h := m_ifT c1 h
    cases h
    exact hr H locs ls I (lv_sub hl [1] rfl)
  · replace h := m_ifF c1 h
    refine lv_aload_n X.1 X.2.1 dX3_all_17 rfl (lv_at hl 0 rfl) ?_
    refine lv_iload_n X.1 X.2.1 dX3_all_18 rfl (lv_at hl 2 rfl) ?_
    refine lv_iconst (v := (-1)) X.1 X.2.1 dX3_all_19 (by decide) ?_
    obtain ⟨s3, e2, h⟩ := m_bS h
    refine m_callV X hl.1 I hA (As := [.int v2, .int ((-1))]) (rest := []) (c_laysBounds l n D d st v2 ((-1)) _ e2) 2 q1883 q1885 qs82 q107 q1886 (hd_laysBounds) rfl rfl ⟨Nat.le_trans (Nat.le_of_ble_eq_true rfl) hR.1, Nat.le_trans (Nat.le_of_ble_eq_true rfl) hR.2⟩ ⟨rfl, rfl⟩ ⟨Nat.zero_le _, Nat.zero_le _⟩ (Nat.le_of_ble_eq_true rfl) dX3_all_20 (fun H locs I => ?_)
    refine lv_aload_n X.1 X.2.1 dX3_all_23 rfl (lv_at hl 0 rfl) ?_
    obtain ⟨r5, s6, e4, h⟩ := m_b2S h
    refine m_callI X hl.1 I hA (As := []) (rest := []) (c_presses l n D d s3  _ _ e4) 0 q1891 q1893 qs83 q107 q1894 (hd_presses) rfl rfl ⟨Nat.le_trans (Nat.le_of_ble_eq_true rfl) hR.1, Nat.le_trans (Nat.le_of_ble_eq_true rfl) hR.2⟩ ⟨rfl, rfl⟩ ⟨Nat.zero_le _, Nat.zero_le _⟩ (Nat.le_of_ble_eq_true rfl) dX3_all_24 (fun H locs I => ?_)
    refine lv_if_ne (tgt := 32) X.1 X.2.1 dX3_all_27 (by decide) (fun c7 => ?_) (fun c7 => ?_)
    · replace h := m_ifF c7 h
      refine lv_iload_n X.1 X.2.1 dX3_all_32 rfl (lv_at hl 1 rfl) ?_
      refine lv_aload_n X.1 X.2.1 dX3_all_33 rfl (lv_at hl 0 rfl) ?_
      obtain ⟨r9, e8, h⟩ := m_bS h
      refine m_callI X hl.1 I hA (As := []) (rest := [.int v1]) (c_sumOf l n D d s6  _ e8) 0 q1919 q1921 qs89 q107 q1922 (hd_sumOf) rfl rfl ⟨Nat.le_trans (Nat.le_of_ble_eq_true rfl) hR.1, Nat.le_trans (Nat.le_of_ble_eq_true rfl) hR.2⟩ ⟨rfl, rfl⟩ ⟨Nat.zero_le _, Nat.zero_le _⟩ (Nat.le_of_ble_eq_true rfl) dX3_all_34 (fun H locs I => ?_)
      refine lv_iadd X.1 X.2.1 dX3_all_37 ?_
      refine lv_istore_n (lv' := [(1, .int (v1 + r9)), (0, .ref d.1), (2, .int v2)]) X.1 X.2.1 dX3_all_38 rfl hl (by decide) rfl (fun ls hl => ?_)
      refine lv_iinc (v := v2 + 1) (lv' := [(2, .int (v2 + 1)), (1, .int (v1 + r9)), (0, .ref d.1)]) X.1 X.2.1 dX3_all_39 hl (k := 2) rfl rfl (by decide) rfl (fun ls hl => ?_)
      refine lv_goto (tgt := 9) X.1 X.2.1 dX3_all_42 (by decide) ?_
      cases h
      exact hr H locs ls I (lv_sub hl [2, 1, 0] rfl)
    · replace h := m_ifT c7 h
      cases h
      exact hr H locs ls I (lv_sub hl [] rfl)
theorem w_all (X : m_X D A d p s m c cX3_all 3 args) (hA : ∀ q, s.heap.size ≤ q → A q) (hR : 4 ≤ R.frames ∧ 95 ≤ R.locals) (n : Nat) (st : MS) (r : (Int32 × MS)) (h : f_all n st = some r) (hret : ∀ (H : Heap) (locs : List Loc) (ls : Array Slot) (pc : Nat), decode cX3_all pc = .ok (.ireturn, 1) → m_I D A d s.heap r.2 H locs → W p l e R s m args below meth c H locs 0 0 Q (F0 m pc ls [.int r.1])) : ∀ (H : Heap) (locs : List Loc) (ls : Array Slot), m_I D A d s.heap st H locs → lv_has ls 3 [(0, .ref d.1)] → W p l e R s m args below meth c H locs 0 0 Q (F0 m 0 ls []) := by
  obtain ⟨r0, s0⟩ := r
  intro H locs ls I hl
  unfold f_all at h
  refine lv_aload_n X.1 X.2.1 dX3_all_0 rfl (lv_at hl 0 rfl) ?_
  refine lv_iconst (v := 0) X.1 X.2.1 dX3_all_1 (by decide) ?_
  refine m_put X I 8 (by decide) rfl rfl rfl q1525 rfl (m_set8 d _ _) dX3_all_2 (fun H locs I => ?_)
  refine lv_iconst (v := 0) X.1 X.2.1 dX3_all_5 (by decide) ?_
  refine lv_istore_n (lv' := [(1, .int 0), (0, .ref d.1)]) X.1 X.2.1 dX3_all_6 rfl hl (by decide) rfl (fun ls hl => ?_)
  refine lv_iconst (v := 0) X.1 X.2.1 dX3_all_7 (by decide) ?_
  refine lv_istore_n (lv' := [(2, .int 0), (1, .int 0), (0, .ref d.1)]) X.1 X.2.1 dX3_all_8 rfl hl (by decide) rfl (fun ls hl => ?_)
  obtain ⟨s11 | ⟨z12, s13⟩, e10, h⟩ := m_bS h
  · replace h := m_sL h
    refine wf_all_L9 X hA hR n  _ _ e10 (fun H locs ls I hl => ?_) H locs ls I (lv_sub hl [2, 1, 0] rfl)
    refine lv_iconst (v := (-1)) X.1 X.2.1 dX3_all_30 (by decide) ?_
    obtain ⟨rfl, rfl⟩ := m_e2 h
    exact hret H locs ls 31 dX3_all_31 I
  · replace h := m_sR h
    refine wf_all_L9 X hA hR n  _ _ e10 (fun H locs ls I hl => ?_) H locs ls I (lv_sub hl [2, 1, 0] rfl)
    refine lv_iload_n X.1 X.2.1 dX3_all_45 rfl (lv_at hl 0 rfl) ?_
    obtain ⟨rfl, rfl⟩ := m_e2 h
    exact hret H locs ls 46 dX3_all_46 I
end S_all
theorem c_all (l : Launch) (n : Nat) (D : va_G) (d : MD) (st : MS) (r : Int32) (st' : MS) (h : f_all n st = some (r, st')) : m_Mi l yX3_all cX3_all 3 (some .int) ({ frames := 4, cells := 0, slots := 0, locals := 95 } : Room) D d st [.ref d.1] r st' :=
  m_startI (lvl := [(0, .ref d.1)]) (by decide) rfl (Nat.le_of_ble_eq_true rfl) rfl (fun p e s m args below meth c ls X hr hlk hl hA I => w_all X hA ⟨Nat.le_refl _, Nat.le_refl _⟩ n st (r, st') h (fun H locs ls pc hd I => m_iret X I hr hlk hd) _ _ ls I hl)

/-! method enough(III)I -/
def f_enough_J22 (n : Nat) (st : MS) : Option (Int32 × MS) :=
  some ((-2), st)
def f_enough (n : Nat) (st : MS) (p0 : Int32) (p1 : Int32) (p2 : Int32) : Option (Int32 × MS) :=
  m_b (f_areTwo n (m_sg st 8 0) p0 p1) (fun r2 => m_if ((r2 : Int32) = 0) (f_enough_J22 n (m_sg st 8 0)) (m_b (f_isKind n (m_sg st 8 0) p2) (fun r5 => m_if ((r5 : Int32) = 0) (f_enough_J22 n (m_sg st 8 0)) (m_b (f_laysBounds n (m_sg st 8 0) p2 ((-1))) (fun s8 => m_b (f_couple n p0 p1) (fun r10 => m_g (m_in r10 64) (m_b2 (f_presses n (m_sa s8 21 (r10 : Int32).toNatClampNeg 99999999)) (fun r13 s14 => m_if ((r13 : Int32) = 0) (some ((-1), s14)) (m_b (f_turns n s14 p0 p1 0) (fun s17 => m_b (f_couple n p0 p1) (fun r19 => m_g (m_in r19 64) (some (s17.2.1 22 (r19 : Int32).toNatClampNeg, s17)))))))))))))
theorem hd_enough : yX3_enough.cls = RX3 ∧ yX3_enough.cls ≠ "java/lang/invoke/MethodHandle" ∧ yX3_enough.cls ≠ "java/lang/invoke/VarHandle" ∧ (parseMethodDescriptor yX3_enough.desc).map (fun d => d.parameters.length) = some 3 := by decide +kernel
section S_enough
variable {p : Program} {l : Launch} {e : Env} {R : Room} {s : State} {m : MethodId} {args : Array Value} {below : List Frame} {meth : Method} {c : Code} {Q : State → Prop} {D : va_G} {A : Nat → Prop} {d : MD}
theorem w_enough (X : m_X D A d p s m c cX3_enough 4 args) (hA : ∀ q, s.heap.size ≤ q → A q) (hR : 5 ≤ R.frames ∧ 122 ≤ R.locals) (n : Nat) (st : MS) (p0 : Int32) (p1 : Int32) (p2 : Int32) (r : (Int32 × MS)) (h : f_enough n st p0 p1 p2 = some r) (hret : ∀ (H : Heap) (locs : List Loc) (ls : Array Slot) (pc : Nat), decode cX3_enough pc = .ok (.ireturn, 1) → m_I D A d s.heap r.2 H locs → W p l e R s m args below meth c H locs 0 0 Q (F0 m pc ls [.int r.1])) : ∀ (H : Heap) (locs : List Loc) (ls : Array Slot), m_I D A d s.heap st H locs → lv_has ls 4 [(0, .ref d.1), (1, .int p0), (2, .int p1), (3, .int p2)] → W p l e R s m args below meth c H locs 0 0 Q (F0 m 0 ls []) := by
  obtain ⟨r0, s0⟩ := r
  have k22 : ∀ (st : MS) (H : Heap) (locs : List Loc) (ls : Array Slot), f_enough_J22 n st = some (r0, s0) → m_I D A d s.heap st H locs → lv_has ls 4 [] → W p l e R s m args below meth c H locs 0 0 Q (F0 m 22 ls []) := by
    intro st H locs ls h I hl
    unfold f_enough_J22 at h
    refine lv_bipush (v := (-2)) X.1 X.2.1 dX3_enough_22 (by decide) ?_
    obtain ⟨rfl, rfl⟩ := m_e2 h
    exact hret H locs ls 24 dX3_enough_24 I
  intro H locs ls I hl
  unfold f_enough at h
  refine lv_aload_n X.1 X.2.1 dX3_enough_0 rfl (lv_at hl 0 rfl) ?_
  refine lv_iconst (v := 0) X.1 X.2.1 dX3_enough_1 (by decide) ?_
  refine m_put X I 8 (by decide) rfl rfl rfl q1525 rfl (m_set8 d _ _) dX3_enough_2 (fun H locs I => ?_)
  refine lv_aload_n X.1 X.2.1 dX3_enough_5 rfl (lv_at hl 0 rfl) ?_
  refine lv_iload_n X.1 X.2.1 dX3_enough_6 rfl (lv_at hl 1 rfl) ?_
  refine lv_iload_n X.1 X.2.1 dX3_enough_7 rfl (lv_at hl 2 rfl) ?_
  obtain ⟨r2, e1, h⟩ := m_bS h
  refine m_callI X hl.1 I hA (As := [.int p0, .int p1]) (rest := []) (c_areTwo l n D d (m_sg st 8 0) p0 p1 _ e1) 2 q1716 q1718 qs61 q107 q1719 (hd_areTwo) rfl rfl ⟨Nat.le_trans (Nat.le_of_ble_eq_true rfl) hR.1, Nat.le_trans (Nat.le_of_ble_eq_true rfl) hR.2⟩ ⟨rfl, rfl⟩ ⟨Nat.zero_le _, Nat.zero_le _⟩ (Nat.le_of_ble_eq_true rfl) dX3_enough_8 (fun H locs I => ?_)
  refine lv_if_eq (tgt := 22) X.1 X.2.1 dX3_enough_11 (by decide) (fun c3 => ?_) (fun c3 => ?_)
  · replace h := m_ifT c3 h
    exact k22 (m_sg st 8 0) H locs ls h I (lv_sub hl [] rfl)
  · replace h := m_ifF c3 h
    refine lv_aload_n X.1 X.2.1 dX3_enough_14 rfl (lv_at hl 0 rfl) ?_
    refine lv_iload_n X.1 X.2.1 dX3_enough_15 rfl (lv_at hl 3 rfl) ?_
    obtain ⟨r5, e4, h⟩ := m_bS h
    refine m_callI X hl.1 I hA (As := [.int p2]) (rest := []) (c_isKind l n D d (m_sg st 8 0) p2 _ e4) 1 q1724 q1726 qs63 q107 q1727 (hd_isKind) rfl rfl ⟨Nat.le_trans (Nat.le_of_ble_eq_true rfl) hR.1, Nat.le_trans (Nat.le_of_ble_eq_true rfl) hR.2⟩ ⟨rfl, rfl⟩ ⟨Nat.zero_le _, Nat.zero_le _⟩ (Nat.le_of_ble_eq_true rfl) dX3_enough_16 (fun H locs I => ?_)
    refine lv_if_ne (tgt := 25) X.1 X.2.1 dX3_enough_19 (by decide) (fun c6 => ?_) (fun c6 => ?_)
    · replace h := m_ifF c6 h
      refine lv_aload_n X.1 X.2.1 dX3_enough_25 rfl (lv_at hl 0 rfl) ?_
      refine lv_iload_n X.1 X.2.1 dX3_enough_26 rfl (lv_at hl 3 rfl) ?_
      refine lv_iconst (v := (-1)) X.1 X.2.1 dX3_enough_27 (by decide) ?_
      obtain ⟨s8, e7, h⟩ := m_bS h
      refine m_callV X hl.1 I hA (As := [.int p2, .int ((-1))]) (rest := []) (c_laysBounds l n D d (m_sg st 8 0) p2 ((-1)) _ e7) 2 q1883 q1885 qs82 q107 q1886 (hd_laysBounds) rfl rfl ⟨Nat.le_trans (Nat.le_of_ble_eq_true rfl) hR.1, Nat.le_trans (Nat.le_of_ble_eq_true rfl) hR.2⟩ ⟨rfl, rfl⟩ ⟨Nat.zero_le _, Nat.zero_le _⟩ (Nat.le_of_ble_eq_true rfl) dX3_enough_28 (fun H locs I => ?_)
      refine lv_aload_n X.1 X.2.1 dX3_enough_31 rfl (lv_at hl 0 rfl) ?_
      refine m_get X I 21 (by decide) rfl rfl rfl q1538 (v := .ref (d.2.1 21)) rfl dX3_enough_32 ?_
      refine lv_iload_n X.1 X.2.1 dX3_enough_35 rfl (lv_at hl 1 rfl) ?_
      refine lv_iload_n X.1 X.2.1 dX3_enough_36 rfl (lv_at hl 2 rfl) ?_
      obtain ⟨r10, e9, h⟩ := m_bS h
      refine m_callS X hl.1 (As := [.int p0, .int p1]) (rest := [.ref (d.2.1 21)]) (c_couple l n p0 p1 _ e9) 2 q1784 q1785 q107 q1786 (hd_couple).2 rfl rfl ⟨Nat.le_trans (Nat.le_of_ble_eq_true rfl) hR.1, Nat.le_trans (Nat.le_of_ble_eq_true rfl) hR.2⟩ ⟨rfl, rfl⟩ ⟨Nat.zero_le _, Nat.zero_le _⟩ (Nat.le_of_ble_eq_true rfl) dX3_enough_37 ?_
      refine lv_ldc (v := 99999999) X.1 X.2.1 X.2.2.2.1 (X.2.2.1 _ q1516) dX3_enough_40 ?_
      obtain ⟨g11, h⟩ := m_gS h
      refine m_iast X I 10 (n := 64) (f := s8.2.1 21) rfl (m_st21 d _ _ _) g11 dX3_enough_42 (fun H locs I => ?_)
      refine lv_aload_n X.1 X.2.1 dX3_enough_43 rfl (lv_at hl 0 rfl) ?_
      obtain ⟨r13, s14, e12, h⟩ := m_b2S h
      refine m_callI X hl.1 I hA (As := []) (rest := []) (c_presses l n D d (m_sa s8 21 (r10 : Int32).toNatClampNeg 99999999)  _ _ e12) 0 q1891 q1893 qs83 q107 q1894 (hd_presses) rfl rfl ⟨Nat.le_trans (Nat.le_of_ble_eq_true rfl) hR.1, Nat.le_trans (Nat.le_of_ble_eq_true rfl) hR.2⟩ ⟨rfl, rfl⟩ ⟨Nat.zero_le _, Nat.zero_le _⟩ (Nat.le_of_ble_eq_true rfl) dX3_enough_44 (fun H locs I => ?_)
      refine lv_if_ne (tgt := 52) X.1 X.2.1 dX3_enough_47 (by decide) (fun c15 => ?_) (fun c15 => ?_)
      · replace h := m_ifF c15 h
        refine lv_aload_n X.1 X.2.1 dX3_enough_52 rfl (lv_at hl 0 rfl) ?_
        refine lv_iload_n X.1 X.2.1 dX3_enough_53 rfl (lv_at hl 1 rfl) ?_
        refine lv_iload_n X.1 X.2.1 dX3_enough_54 rfl (lv_at hl 2 rfl) ?_
        refine lv_iconst (v := 0) X.1 X.2.1 dX3_enough_55 (by decide) ?_
        obtain ⟨s17, e16, h⟩ := m_bS h
        refine m_callV X hl.1 I hA (As := [.int p0, .int p1, .int 0]) (rest := []) (c_turns l n D d s14 p0 p1 0 _ e16) 3 q1931 q1933 qs91 q107 q1934 (hd_turns) rfl rfl ⟨Nat.le_trans (Nat.le_of_ble_eq_true rfl) hR.1, Nat.le_trans (Nat.le_of_ble_eq_true rfl) hR.2⟩ ⟨rfl, rfl⟩ ⟨Nat.zero_le _, Nat.zero_le _⟩ (Nat.le_of_ble_eq_true rfl) dX3_enough_56 (fun H locs I => ?_)
        refine lv_aload_n X.1 X.2.1 dX3_enough_59 rfl (lv_at hl 0 rfl) ?_
        refine m_get X I 22 (by decide) rfl rfl rfl q1539 (v := .ref (d.2.1 22)) rfl dX3_enough_60 ?_
        refine lv_iload_n X.1 X.2.1 dX3_enough_63 rfl (lv_at hl 1 rfl) ?_
        refine lv_iload_n X.1 X.2.1 dX3_enough_64 rfl (lv_at hl 2 rfl) ?_
        obtain ⟨r19, e18, h⟩ := m_bS h
        refine m_callS X hl.1 (As := [.int p0, .int p1]) (rest := [.ref (d.2.1 22)]) (c_couple l n p0 p1 _ e18) 2 q1784 q1785 q107 q1786 (hd_couple).2 rfl rfl ⟨Nat.le_trans (Nat.le_of_ble_eq_true rfl) hR.1, Nat.le_trans (Nat.le_of_ble_eq_true rfl) hR.2⟩ ⟨rfl, rfl⟩ ⟨Nat.zero_le _, Nat.zero_le _⟩ (Nat.le_of_ble_eq_true rfl) dX3_enough_65 ?_
        obtain ⟨g20, h⟩ := m_gS h
        refine m_iald X I 11 (n := 64) (f := s17.2.1 22) rfl g20 dX3_enough_68 ?_
        obtain ⟨rfl, rfl⟩ := m_e2 h
        exact hret H locs ls 69 dX3_enough_69 I
      · replace h := m_ifT c15 h
        refine lv_iconst (v := (-1)) X.1 X.2.1 dX3_enough_50 (by decide) ?_
        obtain ⟨rfl, rfl⟩ := m_e2 h
        exact hret H locs ls 51 dX3_enough_51 I
    · replace h := m_ifT c6 h
      exact k22 (m_sg st 8 0) H locs ls h I (lv_sub hl [] rfl)
end S_enough
theorem c_enough (l : Launch) (n : Nat) (D : va_G) (d : MD) (st : MS) (p0 : Int32) (p1 : Int32) (p2 : Int32) (r : Int32) (st' : MS) (h : f_enough n st p0 p1 p2 = some (r, st')) : m_Mi l yX3_enough cX3_enough 4 (some .int) ({ frames := 5, cells := 0, slots := 0, locals := 122 } : Room) D d st [.ref d.1, .int p0, .int p1, .int p2] r st' :=
  m_startI (lvl := [(0, .ref d.1), (1, .int p0), (2, .int p1), (3, .int p2)]) (by decide) rfl (Nat.le_of_ble_eq_true rfl) rfl (fun p e s m args below meth c ls X hr hlk hl hA I => w_enough X hA ⟨Nat.le_refl _, Nat.le_refl _⟩ n st p0 p1 p2 (r, st') h (fun H locs ls pc hd I => m_iret X I hr hlk hd) _ _ ls I hl)

/-! method line(II)I -/
def f_line_J144 (n : Nat) (st : MS) (t0 : Int32) : Option (Int32 × MS) :=
  some (t0, st)
def f_line_J126 (n : Nat) (st : MS) (v2 : Int32) : Option (Int32 × MS) :=
  m_if ((st.1 31 : Int32) ≤ (v2 : Int32)) (f_line_J144 n st ((-1))) (m_g (m_in v2 48) (f_line_J144 n st (st.2.1 30 (v2 : Int32).toNatClampNeg)))
def f_line (n : Nat) (st : MS) (p0 : Int32) (p1 : Int32) : Option (Int32 × MS) :=
  m_b (f_isTrade n (m_sg st 8 0) p0) (fun r2 => m_if ((r2 : Int32) = 0) (some ((-2), m_sg st 8 0)) (m_if (0 ≤ (p1 : Int32)) (m_b (f_tradeAt n (m_sg (m_sg st 8 0) 31 0) p0 0) (fun r6 => m_g (m_in r6 12) (m_b (f_putsName n (m_sg (m_sg st 8 0) 31 0) ((m_sg (m_sg st 8 0) 31 0).2.2 3 (r6 : Int32).toNatClampNeg)) (fun s9 => m_b (f_puts n s9 62) (fun s11 => m_b (f_tradeAt n s11 p0 1) (fun r13 => m_g (m_in r13 12) (m_b (f_putsName n s11 (s11.2.2 3 (r13 : Int32).toNatClampNeg)) (fun s16 => m_b (f_puts n s16 32) (fun s18 => m_b (f_tradeAt n s18 p0 2) (fun r20 => m_b (f_putsNumber n s18 r20) (fun s22 => m_b (f_puts n s22 32) (fun s24 => m_b (f_tradeAt n s24 p0 3) (fun r26 => m_g (m_in (8 + r26) 12) (m_b (f_putsName n s24 (s24.2.2 3 (8 + r26 : Int32).toNatClampNeg)) (fun s29 => m_b (f_tradeAt n s29 p0 4) (fun r31 => m_if ((r31 : Int32) = (1 : Int32)) (m_b (f_puts n s29 32) (fun s36 => m_b (f_puts n s36 42) (fun s38 => f_line_J126 n s38 p1))) (f_line_J126 n s29 p1))))))))))))))))) (some ((-3), m_sg st 8 0))))
theorem hd_line : yX3_line.cls = RX3 ∧ yX3_line.cls ≠ "java/lang/invoke/MethodHandle" ∧ yX3_line.cls ≠ "java/lang/invoke/VarHandle" ∧ (parseMethodDescriptor yX3_line.desc).map (fun d => d.parameters.length) = some 2 := by decide +kernel
section S_line
variable {p : Program} {l : Launch} {e : Env} {R : Room} {s : State} {m : MethodId} {args : Array Value} {below : List Frame} {meth : Method} {c : Code} {Q : State → Prop} {D : va_G} {A : Nat → Prop} {d : MD}
theorem w_line (X : m_X D A d p s m c cX3_line 3 args) (hA : ∀ q, s.heap.size ≤ q → A q) (hR : 2 ≤ R.frames ∧ 46 ≤ R.locals) (n : Nat) (st : MS) (p0 : Int32) (p1 : Int32) (r : (Int32 × MS)) (h : f_line n st p0 p1 = some r) (hret : ∀ (H : Heap) (locs : List Loc) (ls : Array Slot) (pc : Nat), decode cX3_line pc = .ok (.ireturn, 1) → m_I D A d s.heap r.2 H locs → W p l e R s m args below meth c H locs 0 0 Q (F0 m pc ls [.int r.1])) : ∀ (H : Heap) (locs : List Loc) (ls : Array Slot), m_I D A d s.heap st H locs → lv_has ls 3 [(0, .ref d.1), (1, .int p0), (2, .int p1)] → W p l e R s m args below meth c H locs 0 0 Q (F0 m 0 ls []) := by
  obtain ⟨r0, s0⟩ := r
  have k144 : ∀ (st : MS) (t0 : Int32) (H : Heap) (locs : List Loc) (ls : Array Slot), f_line_J144 n st t0 = some (r0, s0) → m_I D A d s.heap st H locs → lv_has ls 3 [] → W p l e R s m args below meth c H locs 0 0 Q (F0 m 144 ls [.int t0]) := by
    intro st t0 H locs ls h I hl
    unfold f_line_J144 at h
    obtain ⟨rfl, rfl⟩ := m_e2 h
    exact hret H locs ls 144 dX3_line_144 I
  have k126 : ∀ (st : MS) (v2 : Int32) (H : Heap) (locs : List Loc) (ls : Array Slot), f_line_J126 n st v2 = some (r0, s0) → m_I D A d s.heap st H locs → lv_has ls 3 [(0, .ref d.1), (2, .int v2)] → W p l e R s m args below meth c H locs 0 0 Q (F0 m 126 ls []) := by
    intro st v2 H locs ls h I hl
    unfold f_line_J126 at h
    refine lv_iload_n X.1 X.2.1 dX3_line_126 rfl (lv_at hl 1 rfl) ?_
    refine lv_aload_n X.1 X.2.1 dX3_line_127 rfl (lv_at hl 0 rfl) ?_
    refine m_get X I 31 (by decide) rfl rfl rfl q1548 (v := .int (st.1 31)) rfl dX3_line_128 ?_
    refine lv_icmp_ge (tgt := 143) X.1 X.2.1 dX3_line_131 (by decide) (fun c33 => ?_) (fun c33 => ?_)
    · replace h := m_ifT c33 h
      refine lv_iconst (v := (-1)) X.1 X.2.1 dX3_line_143 (by decide) ?_
      exact k144 st ((-1)) H locs ls h I (lv_sub hl [] rfl)
    · replace h := m_ifF c33 h
      refine lv_aload_n X.1 X.2.1 dX3_line_134 rfl (lv_at hl 0 rfl) ?_
      refine m_get X I 30 (by decide) rfl rfl rfl q1547 (v := .ref (d.2.1 30)) rfl dX3_line_135 ?_
      refine lv_iload_n X.1 X.2.1 dX3_line_138 rfl (lv_at hl 1 rfl) ?_
      obtain ⟨g34, h⟩ := m_gS h
      refine m_iald X I 19 (n := 48) (f := st.2.1 30) rfl g34 dX3_line_139 ?_
      refine lv_goto (tgt := 144) X.1 X.2.1 dX3_line_140 (by decide) ?_
      exact k144 st (st.2.1 30 (v2 : Int32).toNatClampNeg) H locs ls h I (lv_sub hl [] rfl)
  intro H locs ls I hl
  unfold f_line at h
  refine lv_aload_n X.1 X.2.1 dX3_line_0 rfl (lv_at hl 0 rfl) ?_
  refine lv_iconst (v := 0) X.1 X.2.1 dX3_line_1 (by decide) ?_
  refine m_put X I 8 (by decide) rfl rfl rfl q1525 rfl (m_set8 d _ _) dX3_line_2 (fun H locs I => ?_)
  refine lv_aload_n X.1 X.2.1 dX3_line_5 rfl (lv_at hl 0 rfl) ?_
  refine lv_iload_n X.1 X.2.1 dX3_line_6 rfl (lv_at hl 1 rfl) ?_
  obtain ⟨r2, e1, h⟩ := m_bS h
  refine m_callI X hl.1 I hA (As := [.int p0]) (rest := []) (c_isTrade l n D d (m_sg st 8 0) p0 _ e1) 1 q1737 q1739 qs65 q107 q1740 (hd_isTrade) rfl rfl ⟨Nat.le_trans (Nat.le_of_ble_eq_true rfl) hR.1, Nat.le_trans (Nat.le_of_ble_eq_true rfl) hR.2⟩ ⟨rfl, rfl⟩ ⟨Nat.zero_le _, Nat.zero_le _⟩ (Nat.le_of_ble_eq_true rfl) dX3_line_7 (fun H locs I => ?_)
  refine lv_if_ne (tgt := 16) X.1 X.2.1 dX3_line_10 (by decide) (fun c3 => ?_) (fun c3 => ?_)
  · replace h := m_ifF c3 h
    refine lv_iload_n X.1 X.2.1 dX3_line_16 rfl (lv_at hl 2 rfl) ?_
    refine lv_if_ge (tgt := 23) X.1 X.2.1 dX3_line_17 (by decide) (fun c4 => ?_) (fun c4 => ?_)
    · replace h := m_ifT c4 h
      refine lv_aload_n X.1 X.2.1 dX3_line_23 rfl (lv_at hl 0 rfl) ?_
      refine lv_iconst (v := 0) X.1 X.2.1 dX3_line_24 (by decide) ?_
      refine m_put X I 31 (by decide) rfl rfl rfl q1548 rfl (m_set31 d _ _) dX3_line_25 (fun H locs I => ?_)
      refine lv_aload_n X.1 X.2.1 dX3_line_28 rfl (lv_at hl 0 rfl) ?_
      refine lv_aload_n X.1 X.2.1 dX3_line_29 rfl (lv_at hl 0 rfl) ?_
      refine m_get X I 3 (by decide) rfl rfl rfl q1520 (v := .ref (d.2.1 3)) rfl dX3_line_30 ?_
      refine lv_aload_n X.1 X.2.1 dX3_line_33 rfl (lv_at hl 0 rfl) ?_
      refine lv_iload_n X.1 X.2.1 dX3_line_34 rfl (lv_at hl 1 rfl) ?_
      refine lv_iconst (v := 0) X.1 X.2.1 dX3_line_35 (by decide) ?_
      obtain ⟨r6, e5, h⟩ := m_bS h
      refine m_callI X hl.1 I hA (As := [.int p0, .int 0]) (rest := [.ref (d.2.1 3), .ref d.1]) (c_tradeAt l n D d (m_sg (m_sg st 8 0) 31 0) p0 0 _ e5) 2 q1683 q1685 qs55 q107 q1686 (hd_tradeAt) rfl rfl ⟨Nat.le_trans (Nat.le_of_ble_eq_true rfl) hR.1, Nat.le_trans (Nat.le_of_ble_eq_true rfl) hR.2⟩ ⟨rfl, rfl⟩ ⟨Nat.zero_le _, Nat.zero_le _⟩ (Nat.le_of_ble_eq_true rfl) dX3_line_36 (fun H locs I => ?_)
      obtain ⟨g7, h⟩ := m_gS h
      refine m_lald X I 4 (n := 12) (f := (m_sg (m_sg st 8 0) 31 0).2.2 3) rfl g7 dX3_line_39 ?_
      obtain ⟨s9, e8, h⟩ := m_bS h
      refine m_callV X hl.1 I hA (As := [.long ((m_sg (m_sg st 8 0) 31 0).2.2 3 (r6 : Int32).toNatClampNeg)]) (rest := []) (c_putsName l n D d (m_sg (m_sg st 8 0) 31 0) ((m_sg (m_sg st 8 0) 31 0).2.2 3 (r6 : Int32).toNatClampNeg) _ e8) 1 q2003 q2005 qs96 q107 q2006 (hd_putsName) rfl rfl ⟨Nat.le_trans (Nat.le_of_ble_eq_true rfl) hR.1, Nat.le_trans (Nat.le_of_ble_eq_true rfl) hR.2⟩ ⟨rfl, rfl⟩ ⟨Nat.zero_le _, Nat.zero_le _⟩ (Nat.le_of_ble_eq_true rfl) dX3_line_40 (fun H locs I => ?_)
      refine lv_aload_n X.1 X.2.1 dX3_line_43 rfl (lv_at hl 0 rfl) ?_
      refine lv_bipush (v := 62) X.1 X.2.1 dX3_line_44 (by decide) ?_
      obtain ⟨s11, e10, h⟩ := m_bS h
      refine m_callV X hl.1 I hA (As := [.int 62]) (rest := []) (c_puts l n D d s9 62 _ e10) 1 q2008 q2010 qs97 q107 q2011 (hd_puts) rfl rfl ⟨Nat.le_trans (Nat.le_of_ble_eq_true rfl) hR.1, Nat.le_trans (Nat.le_of_ble_eq_true rfl) hR.2⟩ ⟨rfl, rfl⟩ ⟨Nat.zero_le _, Nat.zero_le _⟩ (Nat.le_of_ble_eq_true rfl) dX3_line_46 (fun H locs I => ?_)
      refine lv_aload_n X.1 X.2.1 dX3_line_49 rfl (lv_at hl 0 rfl) ?_
      refine lv_aload_n X.1 X.2.1 dX3_line_50 rfl (lv_at hl 0 rfl) ?_
      refine m_get X I 3 (by decide) rfl rfl rfl q1520 (v := .ref (d.2.1 3)) rfl dX3_line_51 ?_
      refine lv_aload_n X.1 X.2.1 dX3_line_54 rfl (lv_at hl 0 rfl) ?_
      refine lv_iload_n X.1 X.2.1 dX3_line_55 rfl (lv_at hl 1 rfl) ?_
      refine lv_iconst (v := 1) X.1 X.2.1 dX3_line_56 (by decide) ?_
      obtain ⟨r13, e12, h⟩ := m_bS h
      refine m_callI X hl.1 I hA (As := [.int p0, .int 1]) (rest := [.ref (d.2.1 3), .ref d.1]) (c_tradeAt l n D d s11 p0 1 _ e12) 2 q1683 q1685 qs55 q107 q1686 (hd_tradeAt) rfl rfl ⟨Nat.le_trans (Nat.le_of_ble_eq_true rfl) hR.1, Nat.le_trans (Nat.le_of_ble_eq_true rfl) hR.2⟩ ⟨rfl, rfl⟩ ⟨Nat.zero_le _, Nat.zero_le _⟩ (Nat.le_of_ble_eq_true rfl) dX3_line_57 (fun H locs I => ?_)
      obtain ⟨g14, h⟩ := m_gS h
      refine m_lald X I 4 (n := 12) (f := s11.2.2 3) rfl g14 dX3_line_60 ?_
      obtain ⟨s16, e15, h⟩ := m_bS h
      refine m_callV X hl.1 I hA (As := [.long (s11.2.2 3 (r13 : Int32).toNatClampNeg)]) (rest := []) (c_putsName l n D d s11 (s11.2.2 3 (r13 : Int32).toNatClampNeg) _ e15) 1 q2003 q2005 qs96 q107 q2006 (hd_putsName) rfl rfl ⟨Nat.le_trans (Nat.le_of_ble_eq_true rfl) hR.1, Nat.le_trans (Nat.le_of_ble_eq_true rfl) hR.2⟩ ⟨rfl, rfl⟩ ⟨Nat.zero_le _, Nat.zero_le _⟩ (Nat.le_of_ble_eq_true rfl) dX3_line_61 (fun H locs I => ?_)
      refine lv_aload_n X.1 X.2.1 dX3_line_64 rfl (lv_at hl 0 rfl) ?_
      refine lv_bipush (v := 32) X.1 X.2.1 dX3_line_65 (by decide) ?_
      obtain ⟨s18, e17, h⟩ := m_bS h
      refine m_callV X hl.1 I hA (As := [.int 32]) (rest := []) (c_puts l n D d s16 32 _ e17) 1 q2008 q2010 qs97 q107 q2011 (hd_puts) rfl rfl ⟨Nat.le_trans (Nat.le_of_ble_eq_true rfl) hR.1, Nat.le_trans (Nat.le_of_ble_eq_true rfl) hR.2⟩ ⟨rfl, rfl⟩ ⟨Nat.zero_le _, Nat.zero_le _⟩ (Nat.le_of_ble_eq_true rfl) dX3_line_67 (fun H locs I => ?_)
      refine lv_aload_n X.1 X.2.1 dX3_line_70 rfl (lv_at hl 0 rfl) ?_
      refine lv_aload_n X.1 X.2.1 dX3_line_71 rfl (lv_at hl 0 rfl) ?_
      refine lv_iload_n X.1 X.2.1 dX3_line_72 rfl (lv_at hl 1 rfl) ?_
      refine lv_iconst (v := 2) X.1 X.2.1 dX3_line_73 (by decide) ?_
      obtain ⟨r20, e19, h⟩ := m_bS h
      refine m_callI X hl.1 I hA (As := [.int p0, .int 2]) (rest := [.ref d.1]) (c_tradeAt l n D d s18 p0 2 _ e19) 2 q1683 q1685 qs55 q107 q1686 (hd_tradeAt) rfl rfl ⟨Nat.le_trans (Nat.le_of_ble_eq_true rfl) hR.1, Nat.le_trans (Nat.le_of_ble_eq_true rfl) hR.2⟩ ⟨rfl, rfl⟩ ⟨Nat.zero_le _, Nat.zero_le _⟩ (Nat.le_of_ble_eq_true rfl) dX3_line_74 (fun H locs I => ?_)
      obtain ⟨s22, e21, h⟩ := m_bS h
      refine m_callV X hl.1 I hA (As := [.int r20]) (rest := []) (c_putsNumber l n D d s18 r20 _ e21) 1 q2012 q2014 qs98 q107 q2015 (hd_putsNumber) rfl rfl ⟨Nat.le_trans (Nat.le_of_ble_eq_true rfl) hR.1, Nat.le_trans (Nat.le_of_ble_eq_true rfl) hR.2⟩ ⟨rfl, rfl⟩ ⟨Nat.zero_le _, Nat.zero_le _⟩ (Nat.le_of_ble_eq_true rfl) dX3_line_77 (fun H locs I => ?_)
      refine lv_aload_n X.1 X.2.1 dX3_line_80 rfl (lv_at hl 0 rfl) ?_
      refine lv_bipush (v := 32) X.1 X.2.1 dX3_line_81 (by decide) ?_
      obtain ⟨s24, e23, h⟩ := m_bS h
      refine m_callV X hl.1 I hA (As := [.int 32]) (rest := []) (c_puts l n D d s22 32 _ e23) 1 q2008 q2010 qs97 q107 q2011 (hd_puts) rfl rfl ⟨Nat.le_trans (Nat.le_of_ble_eq_true rfl) hR.1, Nat.le_trans (Nat.le_of_ble_eq_true rfl) hR.2⟩ ⟨rfl, rfl⟩ ⟨Nat.zero_le _, Nat.zero_le _⟩ (Nat.le_of_ble_eq_true rfl) dX3_line_83 (fun H locs I => ?_)
      refine lv_aload_n X.1 X.2.1 dX3_line_86 rfl (lv_at hl 0 rfl) ?_
      refine lv_aload_n X.1 X.2.1 dX3_line_87 rfl (lv_at hl 0 rfl) ?_
      refine m_get X I 3 (by decide) rfl rfl rfl q1520 (v := .ref (d.2.1 3)) rfl dX3_line_88 ?_
      refine lv_bipush (v := 8) X.1 X.2.1 dX3_line_91 (by decide) ?_
      refine lv_aload_n X.1 X.2.1 dX3_line_93 rfl (lv_at hl 0 rfl) ?_
      refine lv_iload_n X.1 X.2.1 dX3_line_94 rfl (lv_at hl 1 rfl) ?_
      refine lv_iconst (v := 3) X.1 X.2.1 dX3_line_95 (by decide) ?_
      obtain ⟨r26, e25, h⟩ := m_bS h
      refine m_callI X hl.1 I hA (As := [.int p0, .int 3]) (rest := [.int 8, .ref (d.2.1 3), .ref d.1]) (c_tradeAt l n D d s24 p0 3 _ e25) 2 q1683 q1685 qs55 q107 q1686 (hd_tradeAt) rfl rfl ⟨Nat.le_trans (Nat.le_of_ble_eq_true rfl) hR.1, Nat.le_trans (Nat.le_of_ble_eq_true rfl) hR.2⟩ ⟨rfl, rfl⟩ ⟨Nat.zero_le _, Nat.zero_le _⟩ (Nat.le_of_ble_eq_true rfl) dX3_line_96 (fun H locs I => ?_)
      refine lv_iadd X.1 X.2.1 dX3_line_99 ?_
      obtain ⟨g27, h⟩ := m_gS h
      refine m_lald X I 4 (n := 12) (f := s24.2.2 3) rfl g27 dX3_line_100 ?_
      obtain ⟨s29, e28, h⟩ := m_bS h
      refine m_callV X hl.1 I hA (As := [.long (s24.2.2 3 (8 + r26 : Int32).toNatClampNeg)]) (rest := []) (c_putsName l n D d s24 (s24.2.2 3 (8 + r26 : Int32).toNatClampNeg) _ e28) 1 q2003 q2005 qs96 q107 q2006 (hd_putsName) rfl rfl ⟨Nat.le_trans (Nat.le_of_ble_eq_true rfl) hR.1, Nat.le_trans (Nat.le_of_ble_eq_true rfl) hR.2⟩ ⟨rfl, rfl⟩ ⟨Nat.zero_le _, Nat.zero_le _⟩ (Nat.le_of_ble_eq_true rfl) dX3_line_101 (fun H locs I => ?_)
      refine lv_aload_n X.1 X.2.1 dX3_line_104 rfl (lv_at hl 0 rfl) ?_
      refine lv_iload_n X.1 X.2.1 dX3_line_105 rfl (lv_at hl 1 rfl) ?_
      refine lv_iconst (v := 4) X.1 X.2.1 dX3_line_106 (by decide) ?_
      obtain ⟨r31, e30, h⟩ := m_bS h
      refine m_callI X hl.1 I hA (As := [.int p0, .int 4]) (rest := []) (c_tradeAt l n D d s29 p0 4 _ e30) 2 q1683 q1685 qs55 q107 q1686 (hd_tradeAt) rfl rfl ⟨Nat.le_trans (Nat.le_of_ble_eq_true rfl) hR.1, Nat.le_trans (Nat.le_of_ble_eq_true rfl) hR.2⟩ ⟨rfl, rfl⟩ ⟨Nat.zero_le _, Nat.zero_le _⟩ (Nat.le_of_ble_eq_true rfl) dX3_line_107 (fun H locs I => ?_)
      refine lv_iconst (v := 1) X.1 X.2.1 dX3_line_110 (by decide) ?_
      refine lv_icmp_ne (tgt := 126) X.1 X.2.1 dX3_line_111 (by decide) (fun c32 => ?_) (fun c32 => ?_)
      · replace h := m_ifF c32 h
        exact k126 s29 p1 H locs ls h I (lv_sub hl [0, 2] rfl)
      · replace h := m_ifT c32 h
        refine lv_aload_n X.1 X.2.1 dX3_line_114 rfl (lv_at hl 0 rfl) ?_
        refine lv_bipush (v := 32) X.1 X.2.1 dX3_line_115 (by decide) ?_
        obtain ⟨s36, e35, h⟩ := m_bS h
        refine m_callV X hl.1 I hA (As := [.int 32]) (rest := []) (c_puts l n D d s29 32 _ e35) 1 q2008 q2010 qs97 q107 q2011 (hd_puts) rfl rfl ⟨Nat.le_trans (Nat.le_of_ble_eq_true rfl) hR.1, Nat.le_trans (Nat.le_of_ble_eq_true rfl) hR.2⟩ ⟨rfl, rfl⟩ ⟨Nat.zero_le _, Nat.zero_le _⟩ (Nat.le_of_ble_eq_true rfl) dX3_line_117 (fun H locs I => ?_)
        refine lv_aload_n X.1 X.2.1 dX3_line_120 rfl (lv_at hl 0 rfl) ?_
        refine lv_bipush (v := 42) X.1 X.2.1 dX3_line_121 (by decide) ?_
        obtain ⟨s38, e37, h⟩ := m_bS h
        refine m_callV X hl.1 I hA (As := [.int 42]) (rest := []) (c_puts l n D d s36 42 _ e37) 1 q2008 q2010 qs97 q107 q2011 (hd_puts) rfl rfl ⟨Nat.le_trans (Nat.le_of_ble_eq_true rfl) hR.1, Nat.le_trans (Nat.le_of_ble_eq_true rfl) hR.2⟩ ⟨rfl, rfl⟩ ⟨Nat.zero_le _, Nat.zero_le _⟩ (Nat.le_of_ble_eq_true rfl) dX3_line_123 (fun H locs I => ?_)
        exact k126 s38 p1 H locs ls h I (lv_sub hl [0, 2] rfl)
    · replace h := m_ifF c4 h
      refine lv_bipush (v := (-3)) X.1 X.2.1 dX3_line_20 (by decide) ?_
      obtain ⟨rfl, rfl⟩ := m_e2 h
      exact hret H locs ls 22 dX3_line_22 I
  · replace h := m_ifT c3 h
    refine lv_bipush (v := (-2)) X.1 X.2.1 dX3_line_13 (by decide) ?_
    obtain ⟨rfl, rfl⟩ := m_e2 h
    exact hret H locs ls 15 dX3_line_15 I
end S_line
theorem c_line (l : Launch) (n : Nat) (D : va_G) (d : MD) (st : MS) (p0 : Int32) (p1 : Int32) (r : Int32) (st' : MS) (h : f_line n st p0 p1 = some (r, st')) : m_Mi l yX3_line cX3_line 3 (some .int) ({ frames := 2, cells := 0, slots := 0, locals := 46 } : Room) D d st [.ref d.1, .int p0, .int p1] r st' :=
  m_startI (lvl := [(0, .ref d.1), (1, .int p0), (2, .int p1)]) (by decide) rfl (Nat.le_of_ble_eq_true rfl) rfl (fun p e s m args below meth c ls X hr hlk hl hA I => w_line X hA ⟨Nat.le_refl _, Nat.le_refl _⟩ n st p0 p1 (r, st') h (fun H locs ls pc hd I => m_iret X I hr hlk hd) _ _ ls I hl)

/-! method behind(I)V -/
def f_behind_J169 (n : Nat) (st : MS) : Option (MS) :=
  some st
def f_behind_J141 (n : Nat) (st : MS) : Option (MS) :=
  f_behind_J169 n st
def f_behind_J121 (n : Nat) (st : MS) (v2 : Int32) : Option (MS) :=
  m_if ((st.1 13 : Int32) = 0) (m_g (m_in ((2 + (5 * v2)) + 4) 266) (f_behind_J141 n (m_sa st 0 ((2 + (5 * v2)) + 4 : Int32).toNatClampNeg 1))) (f_behind_J141 n st)
def f_behind_J69 (n : Nat) (st : MS) (t0 : Int32) (t1 : Int32) : Option (MS) :=
  f_behind_J169 n (m_sg st 6 (t1 + t0))
def f_behind_J29 (n : Nat) (st : MS) (t0 : Int32) (t1 : Int32) : Option (MS) :=
  f_behind_J169 n (m_sg st 5 (t1 + t0))
def f_behind (n : Nat) (st : MS) (p0 : Int32) : Option (MS) :=
  m_if ((p0 : Int32) = 0) (m_b (f_newName n st (st.1 5)) (fun s27 => m_if ((s27.1 13 : Int32) = 0) (f_behind_J29 n s27 1 (s27.1 5)) (f_behind_J29 n s27 0 (s27.1 5)))) (m_if ((p0 : Int32) = (1 : Int32)) (m_b (f_newName n st (8 + (st.1 6))) (fun s24 => m_if ((s24.1 13 : Int32) = 0) (f_behind_J69 n s24 1 (s24.1 6)) (f_behind_J69 n s24 0 (s24.1 6)))) (m_if ((p0 : Int32) = (3 : Int32)) (m_g (m_in 0 266) (m_b2 (f_numeral n st 0 ((st.2.1 0 (0 : Int32).toNatClampNeg) - 1)) (fun r13 s14 => m_if ((s14.1 13 : Int32) = 0) (m_b (f_tradeAt n s14 r13 4) (fun r19 => m_if ((r19 : Int32) = (1 : Int32)) (m_b (f_fails n s14 5 (s14.1 16)) (fun s22 => f_behind_J121 n s22 r13)) (f_behind_J121 n s14 r13))) (f_behind_J121 n s14 r13)))) (m_if ((p0 : Int32) = (5 : Int32)) (m_b2 (f_numeral n st 0 3) (fun r8 s9 => m_g (m_in 1 266) (f_behind_J169 n (m_sa s9 0 (1 : Int32).toNatClampNeg r8)))) (m_b (f_twoRead n st p0) (fun s6 => f_behind_J169 n s6)))))
theorem hd_behind : yX3_behind.cls = RX3 ∧ yX3_behind.cls ≠ "java/lang/invoke/MethodHandle" ∧ yX3_behind.cls ≠ "java/lang/invoke/VarHandle" ∧ (parseMethodDescriptor yX3_behind.desc).map (fun d => d.parameters.length) = some 1 := by decide +kernel
section S_behind
variable {p : Program} {l : Launch} {e : Env} {R : Room} {s : State} {m : MethodId} {args : Array Value} {below : List Frame} {meth : Method} {c : Code} {Q : State → Prop} {D : va_G} {A : Nat → Prop} {d : MD}
theorem w_behind (X : m_X D A d p s m c cX3_behind 3 args) (hA : ∀ q, s.heap.size ≤ q → A q) (hR : 9 ≤ R.frames ∧ 203 ≤ R.locals) (n : Nat) (st : MS) (p0 : Int32) (r : MS) (h : f_behind n st p0 = some r) (hret : ∀ (H : Heap) (locs : List Loc) (ls : Array Slot) (pc : Nat), decode cX3_behind pc = .ok (.return_, 1) → m_I D A d s.heap r H locs → W p l e R s m args below meth c H locs 0 0 Q (F0 m pc ls [])) : ∀ (H : Heap) (locs : List Loc) (ls : Array Slot), m_I D A d s.heap st H locs → lv_has ls 3 [(0, .ref d.1), (1, .int p0)] → W p l e R s m args below meth c H locs 0 0 Q (F0 m 0 ls []) := by
  have k169 : ∀ (st : MS) (H : Heap) (locs : List Loc) (ls : Array Slot), f_behind_J169 n st = some r → m_I D A d s.heap st H locs → lv_has ls 3 [] → W p l e R s m args below meth c H locs 0 0 Q (F0 m 169 ls []) := by
    intro st H locs ls h I hl
    unfold f_behind_J169 at h
    obtain rfl := m_e1 h
    exact hret H locs ls 169 dX3_behind_169 I
  have k141 : ∀ (st : MS) (H : Heap) (locs : List Loc) (ls : Array Slot), f_behind_J141 n st = some r → m_I D A d s.heap st H locs → lv_has ls 3 [] → W p l e R s m args below meth c H locs 0 0 Q (F0 m 141 ls []) := by
    intro st H locs ls h I hl
    unfold f_behind_J141 at h
    refine lv_goto (tgt := 169) X.1 X.2.1 dX3_behind_141 (by decide) ?_
    exact k169 st H locs ls h I (lv_sub hl [] rfl)
  have k121 : ∀ (st : MS) (v2 : Int32) (H : Heap) (locs : List Loc) (ls : Array Slot), f_behind_J121 n st v2 = some r → m_I D A d s.heap st H locs → lv_has ls 3 [(0, .ref d.1), (2, .int v2)] → W p l e R s m args below meth c H locs 0 0 Q (F0 m 121 ls []) := by
    intro st v2 H locs ls h I hl
    unfold f_behind_J121 at h
    refine lv_aload_n X.1 X.2.1 dX3_behind_121 rfl (lv_at hl 0 rfl) ?_
    refine m_get X I 13 (by decide) rfl rfl rfl q1530 (v := .int (st.1 13)) rfl dX3_behind_122 ?_
    refine lv_if_ne (tgt := 141) X.1 X.2.1 dX3_behind_125 (by decide) (fun c16 => ?_) (fun c16 => ?_)
    · replace h := m_ifF c16 h
      exact k141 st H locs ls h I (lv_sub hl [] rfl)
    · replace h := m_ifT c16 h
      refine lv_aload_n X.1 X.2.1 dX3_behind_128 rfl (lv_at hl 0 rfl) ?_
      refine m_get X I 0 (by decide) rfl rfl rfl q1517 (v := .ref (d.2.1 0)) rfl dX3_behind_129 ?_
      refine lv_iconst (v := 2) X.1 X.2.1 dX3_behind_132 (by decide) ?_
      refine lv_iconst (v := 5) X.1 X.2.1 dX3_behind_133 (by decide) ?_
      refine lv_iload_n X.1 X.2.1 dX3_behind_134 rfl (lv_at hl 1 rfl) ?_
      refine lv_imul X.1 X.2.1 dX3_behind_135 ?_
      refine lv_iadd X.1 X.2.1 dX3_behind_136 ?_
      refine lv_iconst (v := 4) X.1 X.2.1 dX3_behind_137 (by decide) ?_
      refine lv_iadd X.1 X.2.1 dX3_behind_138 ?_
      refine lv_iconst (v := 1) X.1 X.2.1 dX3_behind_139 (by decide) ?_
      obtain ⟨g17, h⟩ := m_gS h
      refine m_iast X I 1 (n := 266) (f := st.2.1 0) rfl (m_st0 d _ _ _) g17 dX3_behind_140 (fun H locs I => ?_)
      exact k141 (m_sa st 0 ((2 + (5 * v2)) + 4 : Int32).toNatClampNeg 1) H locs ls h I (lv_sub hl [] rfl)
  have k69 : ∀ (st : MS) (t0 : Int32) (t1 : Int32) (H : Heap) (locs : List Loc) (ls : Array Slot), f_behind_J69 n st t0 t1 = some r → m_I D A d s.heap st H locs → lv_has ls 3 [] → W p l e R s m args below meth c H locs 0 0 Q (F0 m 69 ls [.int t0, .int t1, .ref d.1]) := by
    intro st t0 t1 H locs ls h I hl
    unfold f_behind_J69 at h
    refine lv_iadd X.1 X.2.1 dX3_behind_69 ?_
    refine m_put X I 6 (by decide) rfl rfl rfl q1523 rfl (m_set6 d _ _) dX3_behind_70 (fun H locs I => ?_)
    refine lv_goto (tgt := 169) X.1 X.2.1 dX3_behind_73 (by decide) ?_
    exact k169 (m_sg st 6 (t1 + t0)) H locs ls h I (lv_sub hl [] rfl)
  have k29 : ∀ (st : MS) (t0 : Int32) (t1 : Int32) (H : Heap) (locs : List Loc) (ls : Array Slot), f_behind_J29 n st t0 t1 = some r → m_I D A d s.heap st H locs → lv_has ls 3 [] → W p l e R s m args below meth c H locs 0 0 Q (F0 m 29 ls [.int t0, .int t1, .ref d.1]) := by
    intro st t0 t1 H locs ls h I hl
    unfold f_behind_J29 at h
    refine lv_iadd X.1 X.2.1 dX3_behind_29 ?_
    refine m_put X I 5 (by decide) rfl rfl rfl q1522 rfl (m_set5 d _ _) dX3_behind_30 (fun H locs I => ?_)
    refine lv_goto (tgt := 169) X.1 X.2.1 dX3_behind_33 (by decide) ?_
    exact k169 (m_sg st 5 (t1 + t0)) H locs ls h I (lv_sub hl [] rfl)
  intro H locs ls I hl
  unfold f_behind at h
  refine lv_iload_n X.1 X.2.1 dX3_behind_0 rfl (lv_at hl 1 rfl) ?_
  refine lv_if_ne (tgt := 36) X.1 X.2.1 dX3_behind_1 (by decide) (fun c1 => ?_) (fun c1 => ?_)
  · replace h := m_ifF c1 h
    refine lv_iload_n X.1 X.2.1 dX3_behind_36 rfl (lv_at hl 1 rfl) ?_
    refine lv_iconst (v := 1) X.1 X.2.1 dX3_behind_37 (by decide) ?_
    refine lv_icmp_ne (tgt := 76) X.1 X.2.1 dX3_behind_38 (by decide) (fun c2 => ?_) (fun c2 => ?_)
    · replace h := m_ifF c2 h
      refine lv_iload_n X.1 X.2.1 dX3_behind_76 rfl (lv_at hl 1 rfl) ?_
      refine lv_iconst (v := 3) X.1 X.2.1 dX3_behind_77 (by decide) ?_
      refine lv_icmp_ne (tgt := 144) X.1 X.2.1 dX3_behind_78 (by decide) (fun c3 => ?_) (fun c3 => ?_)
      · replace h := m_ifF c3 h
        refine lv_iload_n X.1 X.2.1 dX3_behind_144 rfl (lv_at hl 1 rfl) ?_
        refine lv_iconst (v := 5) X.1 X.2.1 dX3_behind_145 (by decide) ?_
        refine lv_icmp_ne (tgt := 164) X.1 X.2.1 dX3_behind_146 (by decide) (fun c4 => ?_) (fun c4 => ?_)
        · replace h := m_ifF c4 h
          refine lv_aload_n X.1 X.2.1 dX3_behind_164 rfl (lv_at hl 0 rfl) ?_
          refine lv_iload_n X.1 X.2.1 dX3_behind_165 rfl (lv_at hl 1 rfl) ?_
          obtain ⟨s6, e5, h⟩ := m_bS h
          refine m_callV X hl.1 I hA (As := [.int p0]) (rest := []) (c_twoRead l n D d st p0 _ e5) 1 q1687 q1689 qs56 q107 q1690 (hd_twoRead) rfl rfl ⟨Nat.le_trans (Nat.le_of_ble_eq_true rfl) hR.1, Nat.le_trans (Nat.le_of_ble_eq_true rfl) hR.2⟩ ⟨rfl, rfl⟩ ⟨Nat.zero_le _, Nat.zero_le _⟩ (Nat.le_of_ble_eq_true rfl) dX3_behind_166 (fun H locs I => ?_)
          exact k169 s6 H locs ls h I (lv_sub hl [] rfl)
        · replace h := m_ifT c4 h
          refine lv_aload_n X.1 X.2.1 dX3_behind_149 rfl (lv_at hl 0 rfl) ?_
          refine m_get X I 0 (by decide) rfl rfl rfl q1517 (v := .ref (d.2.1 0)) rfl dX3_behind_150 ?_
          refine lv_iconst (v := 1) X.1 X.2.1 dX3_behind_153 (by decide) ?_
          refine lv_aload_n X.1 X.2.1 dX3_behind_154 rfl (lv_at hl 0 rfl) ?_
          refine lv_iconst (v := 0) X.1 X.2.1 dX3_behind_155 (by decide) ?_
          refine lv_iconst (v := 3) X.1 X.2.1 dX3_behind_156 (by decide) ?_
          obtain ⟨r8, s9, e7, h⟩ := m_b2S h
          refine m_callI X hl.1 I hA (As := [.int 0, .int 3]) (rest := [.int 1, .ref (d.2.1 0)]) (c_numeral l n D d st 0 3 _ _ e7) 2 q1674 q1676 qs54 q107 q1677 (hd_numeral) rfl rfl ⟨Nat.le_trans (Nat.le_of_ble_eq_true rfl) hR.1, Nat.le_trans (Nat.le_of_ble_eq_true rfl) hR.2⟩ ⟨rfl, rfl⟩ ⟨Nat.zero_le _, Nat.zero_le _⟩ (Nat.le_of_ble_eq_true rfl) dX3_behind_157 (fun H locs I => ?_)
          obtain ⟨g10, h⟩ := m_gS h
          refine m_iast X I 1 (n := 266) (f := s9.2.1 0) rfl (m_st0 d _ _ _) g10 dX3_behind_160 (fun H locs I => ?_)
          refine lv_goto (tgt := 169) X.1 X.2.1 dX3_behind_161 (by decide) ?_
          exact k169 (m_sa s9 0 (1 : Int32).toNatClampNeg r8) H locs ls h I (lv_sub hl [] rfl)
      · replace h := m_ifT c3 h
        refine lv_aload_n X.1 X.2.1 dX3_behind_81 rfl (lv_at hl 0 rfl) ?_
        refine lv_iconst (v := 0) X.1 X.2.1 dX3_behind_82 (by decide) ?_
        refine lv_aload_n X.1 X.2.1 dX3_behind_83 rfl (lv_at hl 0 rfl) ?_
        refine m_get X I 0 (by decide) rfl rfl rfl q1517 (v := .ref (d.2.1 0)) rfl dX3_behind_84 ?_
        refine lv_iconst (v := 0) X.1 X.2.1 dX3_behind_87 (by decide) ?_
        obtain ⟨g11, h⟩ := m_gS h
        refine m_iald X I 1 (n := 266) (f := st.2.1 0) rfl g11 dX3_behind_88 ?_
        refine lv_iconst (v := 1) X.1 X.2.1 dX3_behind_89 (by decide) ?_
        refine lv_isub X.1 X.2.1 dX3_behind_90 ?_
        obtain ⟨r13, s14, e12, h⟩ := m_b2S h
        refine m_callI X hl.1 I hA (As := [.int 0, .int ((st.2.1 0 (0 : Int32).toNatClampNeg) - 1)]) (rest := []) (c_numeral l n D d st 0 ((st.2.1 0 (0 : Int32).toNatClampNeg) - 1) _ _ e12) 2 q1674 q1676 qs54 q107 q1677 (hd_numeral) rfl rfl ⟨Nat.le_trans (Nat.le_of_ble_eq_true rfl) hR.1, Nat.le_trans (Nat.le_of_ble_eq_true rfl) hR.2⟩ ⟨rfl, rfl⟩ ⟨Nat.zero_le _, Nat.zero_le _⟩ (Nat.le_of_ble_eq_true rfl) dX3_behind_91 (fun H locs I => ?_)
        refine lv_istore_n (lv' := [(2, .int r13), (0, .ref d.1), (1, .int p0)]) X.1 X.2.1 dX3_behind_94 rfl hl (by decide) rfl (fun ls hl => ?_)
        refine lv_aload_n X.1 X.2.1 dX3_behind_95 rfl (lv_at hl 1 rfl) ?_
        refine m_get X I 13 (by decide) rfl rfl rfl q1530 (v := .int (s14.1 13)) rfl dX3_behind_96 ?_
        refine lv_if_ne (tgt := 121) X.1 X.2.1 dX3_behind_99 (by decide) (fun c15 => ?_) (fun c15 => ?_)
        · replace h := m_ifF c15 h
          exact k121 s14 r13 H locs ls h I (lv_sub hl [1, 0] rfl)
        · replace h := m_ifT c15 h
          refine lv_aload_n X.1 X.2.1 dX3_behind_102 rfl (lv_at hl 1 rfl) ?_
          refine lv_iload_n X.1 X.2.1 dX3_behind_103 rfl (lv_at hl 0 rfl) ?_
          refine lv_iconst (v := 4) X.1 X.2.1 dX3_behind_104 (by decide) ?_
          obtain ⟨r19, e18, h⟩ := m_bS h
          refine m_callI X hl.1 I hA (As := [.int r13, .int 4]) (rest := []) (c_tradeAt l n D d s14 r13 4 _ e18) 2 q1683 q1685 qs55 q107 q1686 (hd_tradeAt) rfl rfl ⟨Nat.le_trans (Nat.le_of_ble_eq_true rfl) hR.1, Nat.le_trans (Nat.le_of_ble_eq_true rfl) hR.2⟩ ⟨rfl, rfl⟩ ⟨Nat.zero_le _, Nat.zero_le _⟩ (Nat.le_of_ble_eq_true rfl) dX3_behind_105 (fun H locs I => ?_)
          refine lv_iconst (v := 1) X.1 X.2.1 dX3_behind_108 (by decide) ?_
          refine lv_icmp_ne (tgt := 121) X.1 X.2.1 dX3_behind_109 (by decide) (fun c20 => ?_) (fun c20 => ?_)
          · replace h := m_ifF c20 h
            exact k121 s14 r13 H locs ls h I (lv_sub hl [1, 0] rfl)
          · replace h := m_ifT c20 h
            refine lv_aload_n X.1 X.2.1 dX3_behind_112 rfl (lv_at hl 1 rfl) ?_
            refine lv_iconst (v := 5) X.1 X.2.1 dX3_behind_113 (by decide) ?_
            refine lv_aload_n X.1 X.2.1 dX3_behind_114 rfl (lv_at hl 1 rfl) ?_
            refine m_get X I 16 (by decide) rfl rfl rfl q1533 (v := .int (s14.1 16)) rfl dX3_behind_115 ?_
            obtain ⟨s22, e21, h⟩ := m_bS h
            refine m_callV X hl.1 I hA (As := [.int 5, .int (s14.1 16)]) (rest := []) (c_fails l n D d s14 5 (s14.1 16) _ e21) 2 q1650 q1652 qs48 q107 q1653 (hd_fails) rfl rfl ⟨Nat.le_trans (Nat.le_of_ble_eq_true rfl) hR.1, Nat.le_trans (Nat.le_of_ble_eq_true rfl) hR.2⟩ ⟨rfl, rfl⟩ ⟨Nat.zero_le _, Nat.zero_le _⟩ (Nat.le_of_ble_eq_true rfl) dX3_behind_118 (fun H locs I => ?_)
            exact k121 s22 r13 H locs ls h I (lv_sub hl [1, 0] rfl)
    · replace h := m_ifT c2 h
      refine lv_aload_n X.1 X.2.1 dX3_behind_41 rfl (lv_at hl 0 rfl) ?_
      refine lv_bipush (v := 8) X.1 X.2.1 dX3_behind_42 (by decide) ?_
      refine lv_aload_n X.1 X.2.1 dX3_behind_44 rfl (lv_at hl 0 rfl) ?_
      refine m_get X I 6 (by decide) rfl rfl rfl q1523 (v := .int (st.1 6)) rfl dX3_behind_45 ?_
      refine lv_iadd X.1 X.2.1 dX3_behind_48 ?_
      obtain ⟨s24, e23, h⟩ := m_bS h
      refine m_callV X hl.1 I hA (As := [.int (8 + (st.1 6))]) (rest := []) (c_newName l n D d st (8 + (st.1 6)) _ e23) 1 q1662 q1664 qs51 q107 q1665 (hd_newName) rfl rfl ⟨Nat.le_trans (Nat.le_of_ble_eq_true rfl) hR.1, Nat.le_trans (Nat.le_of_ble_eq_true rfl) hR.2⟩ ⟨rfl, rfl⟩ ⟨Nat.zero_le _, Nat.zero_le _⟩ (Nat.le_of_ble_eq_true rfl) dX3_behind_49 (fun H locs I => ?_)
      refine lv_aload_n X.1 X.2.1 dX3_behind_52 rfl (lv_at hl 0 rfl) ?_
      refine lv_dup X.1 X.2.1 dX3_behind_53 rfl ?_
      refine m_get X I 6 (by decide) rfl rfl rfl q1523 (v := .int (s24.1 6)) rfl dX3_behind_54 ?_
      refine lv_aload_n X.1 X.2.1 dX3_behind_57 rfl (lv_at hl 0 rfl) ?_
      refine m_get X I 13 (by decide) rfl rfl rfl q1530 (v := .int (s24.1 13)) rfl dX3_behind_58 ?_
      refine lv_if_ne (tgt := 68) X.1 X.2.1 dX3_behind_61 (by decide) (fun c25 => ?_) (fun c25 => ?_)
      · replace h := m_ifF c25 h
        refine lv_iconst (v := 0) X.1 X.2.1 dX3_behind_68 (by decide) ?_
        exact k69 s24 0 (s24.1 6) H locs ls h I (lv_sub hl [] rfl)
      · replace h := m_ifT c25 h
        refine lv_iconst (v := 1) X.1 X.2.1 dX3_behind_64 (by decide) ?_
        refine lv_goto (tgt := 69) X.1 X.2.1 dX3_behind_65 (by decide) ?_
        exact k69 s24 1 (s24.1 6) H locs ls h I (lv_sub hl [] rfl)
  · replace h := m_ifT c1 h
    refine lv_aload_n X.1 X.2.1 dX3_behind_4 rfl (lv_at hl 0 rfl) ?_
    refine lv_aload_n X.1 X.2.1 dX3_behind_5 rfl (lv_at hl 0 rfl) ?_
    refine m_get X I 5 (by decide) rfl rfl rfl q1522 (v := .int (st.1 5)) rfl dX3_behind_6 ?_
    obtain ⟨s27, e26, h⟩ := m_bS h
    refine m_callV X hl.1 I hA (As := [.int (st.1 5)]) (rest := []) (c_newName l n D d st (st.1 5) _ e26) 1 q1662 q1664 qs51 q107 q1665 (hd_newName) rfl rfl ⟨Nat.le_trans (Nat.le_of_ble_eq_true rfl) hR.1, Nat.le_trans (Nat.le_of_ble_eq_true rfl) hR.2⟩ ⟨rfl, rfl⟩ ⟨Nat.zero_le _, Nat.zero_le _⟩ (Nat.le_of_ble_eq_true rfl) dX3_behind_9 (fun H locs I => ?_)
    refine lv_aload_n X.1 X.2.1 dX3_behind_12 rfl (lv_at hl 0 rfl) ?_
    refine lv_dup X.1 X.2.1 dX3_behind_13 rfl ?_
    refine m_get X I 5 (by decide) rfl rfl rfl q1522 (v := .int (s27.1 5)) rfl dX3_behind_14 ?_
    refine lv_aload_n X.1 X.2.1 dX3_behind_17 rfl (lv_at hl 0 rfl) ?_
    refine m_get X I 13 (by decide) rfl rfl rfl q1530 (v := .int (s27.1 13)) rfl dX3_behind_18 ?_
    refine lv_if_ne (tgt := 28) X.1 X.2.1 dX3_behind_21 (by decide) (fun c28 => ?_) (fun c28 => ?_)
    · replace h := m_ifF c28 h
      refine lv_iconst (v := 0) X.1 X.2.1 dX3_behind_28 (by decide) ?_
      exact k29 s27 0 (s27.1 5) H locs ls h I (lv_sub hl [] rfl)
    · replace h := m_ifT c28 h
      refine lv_iconst (v := 1) X.1 X.2.1 dX3_behind_24 (by decide) ?_
      refine lv_goto (tgt := 29) X.1 X.2.1 dX3_behind_25 (by decide) ?_
      exact k29 s27 1 (s27.1 5) H locs ls h I (lv_sub hl [] rfl)
end S_behind
theorem c_behind (l : Launch) (n : Nat) (D : va_G) (d : MD) (st : MS) (p0 : Int32) (st' : MS) (h : f_behind n st p0 = some st') : m_Mv l yX3_behind cX3_behind 3 none ({ frames := 9, cells := 0, slots := 0, locals := 203 } : Room) D d st [.ref d.1, .int p0] st' :=
  m_startV (lvl := [(0, .ref d.1), (1, .int p0)]) (by decide) rfl (Nat.le_of_ble_eq_true rfl) rfl (fun p e s m args below meth c ls X hr hlk hl hA I => w_behind X hA ⟨Nat.le_refl _, Nat.le_refl _⟩ n st p0 st' h (fun H locs ls pc hd I => m_vret X I hr hlk hd) _ _ ls I hl)

/-! method least(I)I -/
def f_least_J37 (n : Nat) (st : MS) (t0 : Int32) : Option (Int32 × MS) :=
  some (t0, st)
def f_least (n : Nat) (st : MS) (p0 : Int32) : Option (Int32 × MS) :=
  m_b (f_isKind n (m_sg st 8 0) p0) (fun r2 => m_if ((r2 : Int32) = 0) (some ((-2), m_sg st 8 0)) (m_b (f_laysBounds n (m_sg st 8 0) p0 ((-1))) (fun s5 => m_b2 (f_presses n s5) (fun r7 s8 => m_if ((r7 : Int32) = 0) (f_least_J37 n s8 ((-1))) (m_b (f_sumOf n s8) (fun r11 => f_least_J37 n s8 r11))))))
theorem hd_least : yX3_least.cls = RX3 ∧ yX3_least.cls ≠ "java/lang/invoke/MethodHandle" ∧ yX3_least.cls ≠ "java/lang/invoke/VarHandle" ∧ (parseMethodDescriptor yX3_least.desc).map (fun d => d.parameters.length) = some 1 := by decide +kernel
section S_least
variable {p : Program} {l : Launch} {e : Env} {R : Room} {s : State} {m : MethodId} {args : Array Value} {below : List Frame} {meth : Method} {c : Code} {Q : State → Prop} {D : va_G} {A : Nat → Prop} {d : MD}
theorem w_least (X : m_X D A d p s m c cX3_least 2 args) (hA : ∀ q, s.heap.size ≤ q → A q) (hR : 4 ≤ R.frames ∧ 95 ≤ R.locals) (n : Nat) (st : MS) (p0 : Int32) (r : (Int32 × MS)) (h : f_least n st p0 = some r) (hret : ∀ (H : Heap) (locs : List Loc) (ls : Array Slot) (pc : Nat), decode cX3_least pc = .ok (.ireturn, 1) → m_I D A d s.heap r.2 H locs → W p l e R s m args below meth c H locs 0 0 Q (F0 m pc ls [.int r.1])) : ∀ (H : Heap) (locs : List Loc) (ls : Array Slot), m_I D A d s.heap st H locs → lv_has ls 2 [(0, .ref d.1), (1, .int p0)] → W p l e R s m args below meth c H locs 0 0 Q (F0 m 0 ls []) := by
  obtain ⟨r0, s0⟩ := r
  have k37 : ∀ (st : MS) (t0 : Int32) (H : Heap) (locs : List Loc) (ls : Array Slot), f_least_J37 n st t0 = some (r0, s0) → m_I D A d s.heap st H locs → lv_has ls 2 [] → W p l e R s m args below meth c H locs 0 0 Q (F0 m 37 ls [.int t0]) := by
    intro st t0 H locs ls h I hl
    unfold f_least_J37 at h
    obtain ⟨rfl, rfl⟩ := m_e2 h
    exact hret H locs ls 37 dX3_least_37 I
  intro H locs ls I hl
  unfold f_least at h
  refine lv_aload_n X.1 X.2.1 dX3_least_0 rfl (lv_at hl 0 rfl) ?_
  refine lv_iconst (v := 0) X.1 X.2.1 dX3_least_1 (by decide) ?_
  refine m_put X I 8 (by decide) rfl rfl rfl q1525 rfl (m_set8 d _ _) dX3_least_2 (fun H locs I => ?_)
  refine lv_aload_n X.1 X.2.1 dX3_least_5 rfl (lv_at hl 0 rfl) ?_
  refine lv_iload_n X.1 X.2.1 dX3_least_6 rfl (lv_at hl 1 rfl) ?_
  obtain ⟨r2, e1, h⟩ := m_bS h
  refine m_callI X hl.1 I hA (As := [.int p0]) (rest := []) (c_isKind l n D d (m_sg st 8 0) p0 _ e1) 1 q1724 q1726 qs63 q107 q1727 (hd_isKind) rfl rfl ⟨Nat.le_trans (Nat.le_of_ble_eq_true rfl) hR.1, Nat.le_trans (Nat.le_of_ble_eq_true rfl) hR.2⟩ ⟨rfl, rfl⟩ ⟨Nat.zero_le _, Nat.zero_le _⟩ (Nat.le_of_ble_eq_true rfl) dX3_least_7 (fun H locs I => ?_)
  refine lv_if_ne (tgt := 16) X.1 X.2.1 dX3_least_10 (by decide) (fun c3 => ?_) (fun c3 => ?_)
  · replace h := m_ifF c3 h
    refine lv_aload_n X.1 X.2.1 dX3_least_16 rfl (lv_at hl 0 rfl) ?_
    refine lv_iload_n X.1 X.2.1 dX3_least_17 rfl (lv_at hl 1 rfl) ?_
    refine lv_iconst (v := (-1)) X.1 X.2.1 dX3_least_18 (by decide) ?_
    obtain ⟨s5, e4, h⟩ := m_bS h
    refine m_callV X hl.1 I hA (As := [.int p0, .int ((-1))]) (rest := []) (c_laysBounds l n D d (m_sg st 8 0) p0 ((-1)) _ e4) 2 q1883 q1885 qs82 q107 q1886 (hd_laysBounds) rfl rfl ⟨Nat.le_trans (Nat.le_of_ble_eq_true rfl) hR.1, Nat.le_trans (Nat.le_of_ble_eq_true rfl) hR.2⟩ ⟨rfl, rfl⟩ ⟨Nat.zero_le _, Nat.zero_le _⟩ (Nat.le_of_ble_eq_true rfl) dX3_least_19 (fun H locs I => ?_)
    refine lv_aload_n X.1 X.2.1 dX3_least_22 rfl (lv_at hl 0 rfl) ?_
    obtain ⟨r7, s8, e6, h⟩ := m_b2S h
    refine m_callI X hl.1 I hA (As := []) (rest := []) (c_presses l n D d s5  _ _ e6) 0 q1891 q1893 qs83 q107 q1894 (hd_presses) rfl rfl ⟨Nat.le_trans (Nat.le_of_ble_eq_true rfl) hR.1, Nat.le_trans (Nat.le_of_ble_eq_true rfl) hR.2⟩ ⟨rfl, rfl⟩ ⟨Nat.zero_le _, Nat.zero_le _⟩ (Nat.le_of_ble_eq_true rfl) dX3_least_23 (fun H locs I => ?_)
    refine lv_if_eq (tgt := 36) X.1 X.2.1 dX3_least_26 (by decide) (fun c9 => ?_) (fun c9 => ?_)
    · replace h := m_ifT c9 h
      refine lv_iconst (v := (-1)) X.1 X.2.1 dX3_least_36 (by decide) ?_
      exact k37 s8 ((-1)) H locs ls h I (lv_sub hl [] rfl)
    · replace h := m_ifF c9 h
      refine lv_aload_n X.1 X.2.1 dX3_least_29 rfl (lv_at hl 0 rfl) ?_
      obtain ⟨r11, e10, h⟩ := m_bS h
      refine m_callI X hl.1 I hA (As := []) (rest := []) (c_sumOf l n D d s8  _ e10) 0 q1919 q1921 qs89 q107 q1922 (hd_sumOf) rfl rfl ⟨Nat.le_trans (Nat.le_of_ble_eq_true rfl) hR.1, Nat.le_trans (Nat.le_of_ble_eq_true rfl) hR.2⟩ ⟨rfl, rfl⟩ ⟨Nat.zero_le _, Nat.zero_le _⟩ (Nat.le_of_ble_eq_true rfl) dX3_least_30 (fun H locs I => ?_)
      refine lv_goto (tgt := 37) X.1 X.2.1 dX3_least_33 (by decide) ?_
      exact k37 s8 r11 H locs ls h I (lv_sub hl [] rfl)
  · replace h := m_ifT c3 h
    refine lv_bipush (v := (-2)) X.1 X.2.1 dX3_least_13 (by decide) ?_
    obtain ⟨rfl, rfl⟩ := m_e2 h
    exact hret H locs ls 15 dX3_least_15 I
end S_least
theorem c_least (l : Launch) (n : Nat) (D : va_G) (d : MD) (st : MS) (p0 : Int32) (r : Int32) (st' : MS) (h : f_least n st p0 = some (r, st')) : m_Mi l yX3_least cX3_least 2 (some .int) ({ frames := 4, cells := 0, slots := 0, locals := 95 } : Room) D d st [.ref d.1, .int p0] r st' :=
  m_startI (lvl := [(0, .ref d.1), (1, .int p0)]) (by decide) rfl (Nat.le_of_ble_eq_true rfl) rfl (fun p e s m args below meth c ls X hr hlk hl hA I => w_least X hA ⟨Nat.le_refl _, Nat.le_refl _⟩ n st p0 (r, st') h (fun H locs ls pc hd I => m_iret X I hr hlk hd) _ _ ls I hl)

/-! method pressesFirst(I)Z -/
def f_pressesFirst_J47 (n : Nat) (st : MS) (v2 : Int32) (v3 : Int32) : Option ((Int32 × MS) ⊕ MS) :=
  some (.inl ((v3 + 1, st)))
def f_pressesFirst_L27 (n : Nat) (v2 : Int32) (v3 : Int32) (st : MS) : Option ((Int32 × MS) ⊕ MS) :=
  m_if ((st.1 5 : Int32) ≤ (v3 : Int32)) (some (.inr st)) (m_if ((v2 : Int32) = (v3 : Int32)) (f_pressesFirst_J47 n st v2 v3) (m_b (f_turns n st v2 v3 0) (fun s11 => f_pressesFirst_J47 n s11 v2 v3)))
def f_pressesFirst_L27l (n : Nat) (v2 : Int32) (x : (Int32 × MS)) : Option MS := m_lp (fun (x : (Int32 × MS)) => f_pressesFirst_L27 n v2 x.1 x.2) n x
def f_pressesFirst_L17 (n : Nat) (v2 : Int32) (st : MS) : Option ((Int32 × MS) ⊕ MS) :=
  m_if ((st.1 5 : Int32) ≤ (v2 : Int32)) (some (.inr st)) (m_b (f_pressesFirst_L27l n v2 ((0, st))) (fun s13 => some (.inl ((v2 + 1, s13)))))
def f_pressesFirst_L17l (n : Nat) (x : (Int32 × MS)) : Option MS := m_lp (fun (x : (Int32 × MS)) => f_pressesFirst_L17 n x.1 x.2) n x
def f_pressesFirst (n : Nat) (st : MS) (p0 : Int32) : Option (Int32 × MS) :=
  m_b (f_laysBounds n st p0 ((-1))) (fun s2 => m_b2 (f_presses n s2) (fun r4 s5 => m_if ((r4 : Int32) = 0) (m_g (m_01 0) (some (0, s5))) (m_b (f_pressesFirst_L17l n ((0, s5))) (fun s15 => m_g (m_01 1) (some (1, s15))))))
theorem hd_pressesFirst : yX3_pressesFirst.cls = RX3 ∧ yX3_pressesFirst.cls ≠ "java/lang/invoke/MethodHandle" ∧ yX3_pressesFirst.cls ≠ "java/lang/invoke/VarHandle" ∧ (parseMethodDescriptor yX3_pressesFirst.desc).map (fun d => d.parameters.length) = some 1 := by decide +kernel
section S_pressesFirst
variable {p : Program} {l : Launch} {e : Env} {R : Room} {s : State} {m : MethodId} {args : Array Value} {below : List Frame} {meth : Method} {c : Code} {Q : State → Prop} {D : va_G} {A : Nat → Prop} {d : MD}
theorem wf_pressesFirst_L27 (X : m_X D A d p s m c cX3_pressesFirst 4 args) (hA : ∀ q, s.heap.size ≤ q → A q) (hR : 5 ≤ R.frames ∧ 122 ≤ R.locals) (n : Nat) (v2 : Int32) (x : (Int32 × MS)) (z : MS) (hz : f_pressesFirst_L27l n v2 x = some z) (hE : (fun (z : MS) => ∀ (H : Heap) (locs : List Loc) (ls : Array Slot), m_I D A d s.heap z H locs → lv_has ls 4 [(0, .ref d.1), (2, .int v2)] → W p l e R s m args below meth c H locs 0 0 Q (F0 m 53 ls [])) z) : (fun (x : (Int32 × MS)) => ∀ (H : Heap) (locs : List Loc) (ls : Array Slot), m_I D A d s.heap x.2 H locs → lv_has ls 4 [(0, .ref d.1), (2, .int v2), (3, .int x.1)] → W p l e R s m args below meth c H locs 0 0 Q (F0 m 27 ls [])) x := by
  refine m_lpW (G := fun (x : (Int32 × MS)) => ∀ (H : Heap) (locs : List Loc) (ls : Array Slot), m_I D A d s.heap x.2 H locs → lv_has ls 4 [(0, .ref d.1), (2, .int v2), (3, .int x.1)] → W p l e R s m args below meth c H locs 0 0 Q (F0 m 27 ls [])) (E := fun (z : MS) => ∀ (H : Heap) (locs : List Loc) (ls : Array Slot), m_I D A d s.heap z H locs → lv_has ls 4 [(0, .ref d.1), (2, .int v2)] → W p l e R s m args below meth c H locs 0 0 Q (F0 m 53 ls [])) ?_ n x z hz hE
  rintro ⟨v3, st⟩ r h hr H locs ls I hl
  replace h : f_pressesFirst_L27 n v2 v3 st = some r := h
  have k47 : ∀ (st : MS) (v3 : Int32) (H : Heap) (locs : List Loc) (ls : Array Slot), f_pressesFirst_J47 n st v2 v3 = some r → m_I D A d s.heap st H locs → lv_has ls 4 [(0, .ref d.1), (2, .int v2), (3, .int v3)] → W p l e R s m args below meth c H locs 0 0 Q (F0 m 47 ls []) := by
    intro st v3 H locs ls h I hl
    unfold f_pressesFirst_J47 at h
    refine lv_iinc (v := v3 + 1) (lv' := [(3, .int (v3 + 1)), (0, .ref d.1), (2, .int v2)]) X.1 X.2.1 dX3_pressesFirst_47 hl (k := 2) rfl rfl (by decide) rfl (fun ls hl => ?_)
    refine lv_goto (tgt := 27) X.1 X.2.1 dX3_pressesFirst_50 (by decide) ?_
    cases h
    exact hr H locs ls I (lv_sub hl [1, 2, 0] rfl)
  unfold f_pressesFirst_L27 at h
  refine lv_iload_n X.1 X.2.1 dX3_pressesFirst_27 rfl (lv_at hl 2 rfl) ?_
  refine lv_aload_n X.1 X.2.1 dX3_pressesFirst_28 rfl (lv_at hl 0 rfl) ?_
  refine m_get X I 5 (by decide) rfl rfl rfl q1522 (v := .int (st.1 5)) rfl dX3_pressesFirst_29 ?_
  refine lv_icmp_ge (tgt := 53) X.1 X.2.1 dX3_pressesFirst_32 (by decide) (fun c8 => ?_) (fun c8 => ?_)
  · replace h := m_ifT c8 h
    cases h
    exact hr H locs ls I (lv_sub hl [0, 1] rfl)
  · replace h := m_ifF c8 h
    refine lv_iload_n X.1 X.2.1 dX3_pressesFirst_35 rfl (lv_at hl 1 rfl) ?_
    refine lv_iload_n X.1 X.2.1 dX3_pressesFirst_36 rfl (lv_at hl 2 rfl) ?_
    refine lv_icmp_eq (tgt := 47) X.1 X.2.1 dX3_pressesFirst_37 (by decide) (fun c9 => ?_) (fun c9 => ?_)
    · replace h := m_ifT c9 h
      exact k47 st v3 H locs ls h I (lv_sub hl [0, 1, 2] rfl)
    · replace h := m_ifF c9 h
      refine lv_aload_n X.1 X.2.1 dX3_pressesFirst_40 rfl (lv_at hl 0 rfl) ?_
      refine lv_iload_n X.1 X.2.1 dX3_pressesFirst_41 rfl (lv_at hl 1 rfl) ?_
      refine lv_iload_n X.1 X.2.1 dX3_pressesFirst_42 rfl (lv_at hl 2 rfl) ?_
      refine lv_iconst (v := 0) X.1 X.2.1 dX3_pressesFirst_43 (by decide) ?_
      obtain ⟨s11, e10, h⟩ := m_bS h
      refine m_callV X hl.1 I hA (As := [.int v2, .int v3, .int 0]) (rest := []) (c_turns l n D d st v2 v3 0 _ e10) 3 q1931 q1933 qs91 q107 q1934 (hd_turns) rfl rfl ⟨Nat.le_trans (Nat.le_of_ble_eq_true rfl) hR.1, Nat.le_trans (Nat.le_of_ble_eq_true rfl) hR.2⟩ ⟨rfl, rfl⟩ ⟨Nat.zero_le _, Nat.zero_le _⟩ (Nat.le_of_ble_eq_true rfl) dX3_pressesFirst_44 (fun H locs I => ?_)
      exact k47 s11 v3 H locs ls h I (lv_sub hl [0, 1, 2] rfl)
theorem wf_pressesFirst_L17 (X : m_X D A d p s m c cX3_pressesFirst 4 args) (hA : ∀ q, s.heap.size ≤ q → A q) (hR : 5 ≤ R.frames ∧ 122 ≤ R.locals) (n : Nat)  (x : (Int32 × MS)) (z : MS) (hz : f_pressesFirst_L17l n x = some z) (hE : (fun (z : MS) => ∀ (H : Heap) (locs : List Loc) (ls : Array Slot), m_I D A d s.heap z H locs → lv_has ls 4 [] → W p l e R s m args below meth c H locs 0 0 Q (F0 m 59 ls [])) z) : (fun (x : (Int32 × MS)) => ∀ (H : Heap) (locs : List Loc) (ls : Array Slot), m_I D A d s.heap x.2 H locs → lv_has ls 4 [(0, .ref d.1), (2, .int x.1)] → W p l e R s m args below meth c H locs 0 0 Q (F0 m 17 ls [])) x := by
  refine m_lpW (G := fun (x : (Int32 × MS)) => ∀ (H : Heap) (locs : List Loc) (ls : Array Slot), m_I D A d s.heap x.2 H locs → lv_has ls 4 [(0, .ref d.1), (2, .int x.1)] → W p l e R s m args below meth c H locs 0 0 Q (F0 m 17 ls [])) (E := fun (z : MS) => ∀ (H : Heap) (locs : List Loc) (ls : Array Slot), m_I D A d s.heap z H locs → lv_has ls 4 [] → W p l e R s m args below meth c H locs 0 0 Q (F0 m 59 ls [])) ?_ n x z hz hE
  rintro ⟨v2, st⟩ r h hr H locs ls I hl
  replace h : f_pressesFirst_L17 n v2 st = some r := h
  unfold f_pressesFirst_L17 at h
  refine lv_iload_n X.1 X.2.1 dX3_pressesFirst_17 rfl (lv_at hl 1 rfl) ?_
  refine lv_aload_n X.1 X.2.1 dX3_pressesFirst_18 rfl (lv_at hl 0 rfl) ?_
  refine m_get X I 5 (by decide) rfl rfl rfl q1522 (v := .int (st.1 5)) rfl dX3_pressesFirst_19 ?_
  refine lv_icmp_ge (tgt := 59) X.1 X.2.1 dX3_pressesFirst_22 (by decide) (fun c7 => ?_) (fun c7 => ?_)
  · replace h := m_ifT c7 h
    cases h
    exact hr H locs ls I (lv_sub hl [] rfl)
  · replace h := m_ifF c7 h
    refine lv_iconst (v := 0) X.1 X.2.1 dX3_pressesFirst_25 (by decide) ?_
    refine lv_istore_n (lv' := [(3, .int 0), (0, .ref d.1), (2, .int v2)]) X.1 X.2.1 dX3_pressesFirst_26 rfl hl (by decide) rfl (fun ls hl => ?_)
    obtain ⟨s13, e12, h⟩ := m_bS h
    refine wf_pressesFirst_L27 X hA hR n v2 _ _ e12 (fun H locs ls I hl => ?_) H locs ls I (lv_sub hl [1, 2, 0] rfl)
    refine lv_iinc (v := v2 + 1) (lv' := [(2, .int (v2 + 1)), (0, .ref d.1)]) X.1 X.2.1 dX3_pressesFirst_53 hl (k := 1) rfl rfl (by decide) rfl (fun ls hl => ?_)
    refine lv_goto (tgt := 17) X.1 X.2.1 dX3_pressesFirst_56 (by decide) ?_
    cases h
    exact hr H locs ls I (lv_sub hl [1, 0] rfl)
theorem w_pressesFirst (X : m_X D A d p s m c cX3_pressesFirst 4 args) (hA : ∀ q, s.heap.size ≤ q → A q) (hR : 5 ≤ R.frames ∧ 122 ≤ R.locals) (n : Nat) (st : MS) (p0 : Int32) (r : (Int32 × MS)) (h : f_pressesFirst n st p0 = some r) (hret : ∀ (H : Heap) (locs : List Loc) (ls : Array Slot) (pc : Nat), m_01 r.1 = true → decode cX3_pressesFirst pc = .ok (.ireturn, 1) → m_I D A d s.heap r.2 H locs → W p l e R s m args below meth c H locs 0 0 Q (F0 m pc ls [.int r.1])) : ∀ (H : Heap) (locs : List Loc) (ls : Array Slot), m_I D A d s.heap st H locs → lv_has ls 4 [(0, .ref d.1), (1, .int p0)] → W p l e R s m args below meth c H locs 0 0 Q (F0 m 0 ls []) := by
  obtain ⟨r0, s0⟩ := r
  intro H locs ls I hl
  unfold f_pressesFirst at h
  refine lv_aload_n X.1 X.2.1 dX3_pressesFirst_0 rfl (lv_at hl 0 rfl) ?_
  refine lv_iload_n X.1 X.2.1 dX3_pressesFirst_1 rfl (lv_at hl 1 rfl) ?_
  refine lv_iconst (v := (-1)) X.1 X.2.1 dX3_pressesFirst_2 (by decide) ?_
  obtain ⟨s2, e1, h⟩ := m_bS h
  refine m_callV X hl.1 I hA (As := [.int p0, .int ((-1))]) (rest := []) (c_laysBounds l n D d st p0 ((-1)) _ e1) 2 q1883 q1885 qs82 q107 q1886 (hd_laysBounds) rfl rfl ⟨Nat.le_trans (Nat.le_of_ble_eq_true rfl) hR.1, Nat.le_trans (Nat.le_of_ble_eq_true rfl) hR.2⟩ ⟨rfl, rfl⟩ ⟨Nat.zero_le _, Nat.zero_le _⟩ (Nat.le_of_ble_eq_true rfl) dX3_pressesFirst_3 (fun H locs I => ?_)
  refine lv_aload_n X.1 X.2.1 dX3_pressesFirst_6 rfl (lv_at hl 0 rfl) ?_
  obtain ⟨r4, s5, e3, h⟩ := m_b2S h
  refine m_callI X hl.1 I hA (As := []) (rest := []) (c_presses l n D d s2  _ _ e3) 0 q1891 q1893 qs83 q107 q1894 (hd_presses) rfl rfl ⟨Nat.le_trans (Nat.le_of_ble_eq_true rfl) hR.1, Nat.le_trans (Nat.le_of_ble_eq_true rfl) hR.2⟩ ⟨rfl, rfl⟩ ⟨Nat.zero_le _, Nat.zero_le _⟩ (Nat.le_of_ble_eq_true rfl) dX3_pressesFirst_7 (fun H locs I => ?_)
  refine lv_if_ne (tgt := 15) X.1 X.2.1 dX3_pressesFirst_10 (by decide) (fun c6 => ?_) (fun c6 => ?_)
  · replace h := m_ifF c6 h
    refine lv_iconst (v := 0) X.1 X.2.1 dX3_pressesFirst_15 (by decide) ?_
    refine lv_istore_n (lv' := [(2, .int 0), (0, .ref d.1), (1, .int p0)]) X.1 X.2.1 dX3_pressesFirst_16 rfl hl (by decide) rfl (fun ls hl => ?_)
    obtain ⟨s15, e14, h⟩ := m_bS h
    refine wf_pressesFirst_L17 X hA hR n  _ _ e14 (fun H locs ls I hl => ?_) H locs ls I (lv_sub hl [1, 0] rfl)
    refine lv_iconst (v := 1) X.1 X.2.1 dX3_pressesFirst_59 (by decide) ?_
    obtain ⟨g16, h⟩ := m_gS h
    obtain ⟨rfl, rfl⟩ := m_e2 h
    exact hret H locs ls 60 g16 dX3_pressesFirst_60 I
  · replace h := m_ifT c6 h
    refine lv_iconst (v := 0) X.1 X.2.1 dX3_pressesFirst_13 (by decide) ?_
    obtain ⟨g17, h⟩ := m_gS h
    obtain ⟨rfl, rfl⟩ := m_e2 h
    exact hret H locs ls 14 g17 dX3_pressesFirst_14 I
end S_pressesFirst
theorem c_pressesFirst (l : Launch) (n : Nat) (D : va_G) (d : MD) (st : MS) (p0 : Int32) (r : Int32) (st' : MS) (h : f_pressesFirst n st p0 = some (r, st')) : m_Mi l yX3_pressesFirst cX3_pressesFirst 4 (some .boolean) ({ frames := 5, cells := 0, slots := 0, locals := 122 } : Room) D d st [.ref d.1, .int p0] r st' :=
  m_startI (lvl := [(0, .ref d.1), (1, .int p0)]) (by decide) rfl (Nat.le_of_ble_eq_true rfl) rfl (fun p e s m args below meth c ls X hr hlk hl hA I => w_pressesFirst X hA ⟨Nat.le_refl _, Nat.le_refl _⟩ n st p0 (r, st') h (fun H locs ls pc g hd I => m_zret X I hr hlk g hd) _ _ ls I hl)

/-! method couples(I)I -/
def f_couples_J32 (n : Nat) (st : MS) (t0 : Int32) : Option (Int32 × MS) :=
  some (t0, st)
def f_couples (n : Nat) (st : MS) (p0 : Int32) : Option (Int32 × MS) :=
  m_b (f_isKind n (m_sg st 8 0) p0) (fun r2 => m_if ((r2 : Int32) = 0) (some ((-2), m_sg st 8 0)) (m_b2 (f_pressesFirst n (m_sg st 8 0) p0) (fun r5 s6 => m_if ((r5 : Int32) = 0) (f_couples_J32 n s6 ((-1))) (m_b (f_couplesNow n s6) (fun r9 => f_couples_J32 n s6 r9)))))
theorem hd_couples : yX3_couples.cls = RX3 ∧ yX3_couples.cls ≠ "java/lang/invoke/MethodHandle" ∧ yX3_couples.cls ≠ "java/lang/invoke/VarHandle" ∧ (parseMethodDescriptor yX3_couples.desc).map (fun d => d.parameters.length) = some 1 := by decide +kernel
section S_couples
variable {p : Program} {l : Launch} {e : Env} {R : Room} {s : State} {m : MethodId} {args : Array Value} {below : List Frame} {meth : Method} {c : Code} {Q : State → Prop} {D : va_G} {A : Nat → Prop} {d : MD}
theorem w_couples (X : m_X D A d p s m c cX3_couples 2 args) (hA : ∀ q, s.heap.size ≤ q → A q) (hR : 6 ≤ R.frames ∧ 145 ≤ R.locals) (n : Nat) (st : MS) (p0 : Int32) (r : (Int32 × MS)) (h : f_couples n st p0 = some r) (hret : ∀ (H : Heap) (locs : List Loc) (ls : Array Slot) (pc : Nat), decode cX3_couples pc = .ok (.ireturn, 1) → m_I D A d s.heap r.2 H locs → W p l e R s m args below meth c H locs 0 0 Q (F0 m pc ls [.int r.1])) : ∀ (H : Heap) (locs : List Loc) (ls : Array Slot), m_I D A d s.heap st H locs → lv_has ls 2 [(0, .ref d.1), (1, .int p0)] → W p l e R s m args below meth c H locs 0 0 Q (F0 m 0 ls []) := by
  obtain ⟨r0, s0⟩ := r
  have k32 : ∀ (st : MS) (t0 : Int32) (H : Heap) (locs : List Loc) (ls : Array Slot), f_couples_J32 n st t0 = some (r0, s0) → m_I D A d s.heap st H locs → lv_has ls 2 [] → W p l e R s m args below meth c H locs 0 0 Q (F0 m 32 ls [.int t0]) := by
    intro st t0 H locs ls h I hl
    unfold f_couples_J32 at h
    obtain ⟨rfl, rfl⟩ := m_e2 h
    exact hret H locs ls 32 dX3_couples_32 I
  intro H locs ls I hl
  unfold f_couples at h
  refine lv_aload_n X.1 X.2.1 dX3_couples_0 rfl (lv_at hl 0 rfl) ?_
  refine lv_iconst (v := 0) X.1 X.2.1 dX3_couples_1 (by decide) ?_
  refine m_put X I 8 (by decide) rfl rfl rfl q1525 rfl (m_set8 d _ _) dX3_couples_2 (fun H locs I => ?_)
  refine lv_aload_n X.1 X.2.1 dX3_couples_5 rfl (lv_at hl 0 rfl) ?_
  refine lv_iload_n X.1 X.2.1 dX3_couples_6 rfl (lv_at hl 1 rfl) ?_
  obtain ⟨r2, e1, h⟩ := m_bS h
  refine m_callI X hl.1 I hA (As := [.int p0]) (rest := []) (c_isKind l n D d (m_sg st 8 0) p0 _ e1) 1 q1724 q1726 qs63 q107 q1727 (hd_isKind) rfl rfl ⟨Nat.le_trans (Nat.le_of_ble_eq_true rfl) hR.1, Nat.le_trans (Nat.le_of_ble_eq_true rfl) hR.2⟩ ⟨rfl, rfl⟩ ⟨Nat.zero_le _, Nat.zero_le _⟩ (Nat.le_of_ble_eq_true rfl) dX3_couples_7 (fun H locs I => ?_)
  refine lv_if_ne (tgt := 16) X.1 X.2.1 dX3_couples_10 (by decide) (fun c3 => ?_) (fun c3 => ?_)
  · replace h := m_ifF c3 h
    refine lv_aload_n X.1 X.2.1 dX3_couples_16 rfl (lv_at hl 0 rfl) ?_
    refine lv_iload_n X.1 X.2.1 dX3_couples_17 rfl (lv_at hl 1 rfl) ?_
    obtain ⟨r5, s6, e4, h⟩ := m_b2S h
    refine m_callI X hl.1 I hA (As := [.int p0]) (rest := []) (c_pressesFirst l n D d (m_sg st 8 0) p0 _ _ e4) 1 q1927 q1929 qs90 q107 q1930 (hd_pressesFirst) rfl rfl ⟨Nat.le_trans (Nat.le_of_ble_eq_true rfl) hR.1, Nat.le_trans (Nat.le_of_ble_eq_true rfl) hR.2⟩ ⟨rfl, rfl⟩ ⟨Nat.zero_le _, Nat.zero_le _⟩ (Nat.le_of_ble_eq_true rfl) dX3_couples_18 (fun H locs I => ?_)
    refine lv_if_eq (tgt := 31) X.1 X.2.1 dX3_couples_21 (by decide) (fun c7 => ?_) (fun c7 => ?_)
    · replace h := m_ifT c7 h
      refine lv_iconst (v := (-1)) X.1 X.2.1 dX3_couples_31 (by decide) ?_
      exact k32 s6 ((-1)) H locs ls h I (lv_sub hl [] rfl)
    · replace h := m_ifF c7 h
      refine lv_aload_n X.1 X.2.1 dX3_couples_24 rfl (lv_at hl 0 rfl) ?_
      obtain ⟨r9, e8, h⟩ := m_bS h
      refine m_callI X hl.1 I hA (As := []) (rest := []) (c_couplesNow l n D d s6  _ e8) 0 q1943 q1945 qs93 q107 q1946 (hd_couplesNow) rfl rfl ⟨Nat.le_trans (Nat.le_of_ble_eq_true rfl) hR.1, Nat.le_trans (Nat.le_of_ble_eq_true rfl) hR.2⟩ ⟨rfl, rfl⟩ ⟨Nat.zero_le _, Nat.zero_le _⟩ (Nat.le_of_ble_eq_true rfl) dX3_couples_25 (fun H locs I => ?_)
      refine lv_goto (tgt := 32) X.1 X.2.1 dX3_couples_28 (by decide) ?_
      exact k32 s6 r9 H locs ls h I (lv_sub hl [] rfl)
  · replace h := m_ifT c3 h
    refine lv_bipush (v := (-2)) X.1 X.2.1 dX3_couples_13 (by decide) ?_
    obtain ⟨rfl, rfl⟩ := m_e2 h
    exact hret H locs ls 15 dX3_couples_15 I
end S_couples
theorem c_couples (l : Launch) (n : Nat) (D : va_G) (d : MD) (st : MS) (p0 : Int32) (r : Int32) (st' : MS) (h : f_couples n st p0 = some (r, st')) : m_Mi l yX3_couples cX3_couples 2 (some .int) ({ frames := 6, cells := 0, slots := 0, locals := 145 } : Room) D d st [.ref d.1, .int p0] r st' :=
  m_startI (lvl := [(0, .ref d.1), (1, .int p0)]) (by decide) rfl (Nat.le_of_ble_eq_true rfl) rfl (fun p e s m args below meth c ls X hr hlk hl hA I => w_couples X hA ⟨Nat.le_refl _, Nat.le_refl _⟩ n st p0 (r, st') h (fun H locs ls pc hd I => m_iret X I hr hlk hd) _ _ ls I hl)

/-! method relief(II)I -/
def f_relief_J21 (n : Nat) (st : MS) : Option (Int32 × MS) :=
  some ((-2), st)
def f_relief_J41 (n : Nat) (st : MS) (t0 : Int32) : Option (Int32 × MS) :=
  some (t0, st)
def f_relief (n : Nat) (st : MS) (p0 : Int32) (p1 : Int32) : Option (Int32 × MS) :=
  m_b (f_isParty n (m_sg st 8 0) p0) (fun r2 => m_if ((r2 : Int32) = 0) (f_relief_J21 n (m_sg st 8 0)) (m_b (f_isKind n (m_sg st 8 0) p1) (fun r5 => m_if ((r5 : Int32) = 0) (f_relief_J21 n (m_sg st 8 0)) (m_b2 (f_pressesFirst n (m_sg st 8 0) p1) (fun r8 s9 => m_if ((r8 : Int32) = 0) (f_relief_J41 n s9 ((-1))) (m_b (f_reliefOf n s9 p0) (fun r12 => f_relief_J41 n s9 r12)))))))
theorem hd_relief : yX3_relief.cls = RX3 ∧ yX3_relief.cls ≠ "java/lang/invoke/MethodHandle" ∧ yX3_relief.cls ≠ "java/lang/invoke/VarHandle" ∧ (parseMethodDescriptor yX3_relief.desc).map (fun d => d.parameters.length) = some 2 := by decide +kernel
section S_relief
variable {p : Program} {l : Launch} {e : Env} {R : Room} {s : State} {m : MethodId} {args : Array Value} {below : List Frame} {meth : Method} {c : Code} {Q : State → Prop} {D : va_G} {A : Nat → Prop} {d : MD}
theorem w_relief (X : m_X D A d p s m c cX3_relief 3 args) (hA : ∀ q, s.heap.size ≤ q → A q) (hR : 6 ≤ R.frames ∧ 145 ≤ R.locals) (n : Nat) (st : MS) (p0 : Int32) (p1 : Int32) (r : (Int32 × MS)) (h : f_relief n st p0 p1 = some r) (hret : ∀ (H : Heap) (locs : List Loc) (ls : Array Slot) (pc : Nat), decode cX3_relief pc = .ok (.ireturn, 1) → m_I D A d s.heap r.2 H locs → W p l e R s m args below meth c H locs 0 0 Q (F0 m pc ls [.int r.1])) : ∀ (H : Heap) (locs : List Loc) (ls : Array Slot), m_I D A d s.heap st H locs → lv_has ls 3 [(0, .ref d.1), (1, .int p0), (2, .int p1)] → W p l e R s m args below meth c H locs 0 0 Q (F0 m 0 ls []) := by
  obtain ⟨r0, s0⟩ := r
  have k21 : ∀ (st : MS) (H : Heap) (locs : List Loc) (ls : Array Slot), f_relief_J21 n st = some (r0, s0) → m_I D A d s.heap st H locs → lv_has ls 3 [] → W p l e R s m args below meth c H locs 0 0 Q (F0 m 21 ls []) := by
    intro st H locs ls h I hl
    unfold f_relief_J21 at h
    refine lv_bipush (v := (-2)) X.1 X.2.1 dX3_relief_21 (by decide) ?_
    obtain ⟨rfl, rfl⟩ := m_e2 h
    exact hret H locs ls 23 dX3_relief_23 I
  have k41 : ∀ (st : MS) (t0 : Int32) (H : Heap) (locs : List Loc) (ls : Array Slot), f_relief_J41 n st t0 = some (r0, s0) → m_I D A d s.heap st H locs → lv_has ls 3 [] → W p l e R s m args below meth c H locs 0 0 Q (F0 m 41 ls [.int t0]) := by
    intro st t0 H locs ls h I hl
    unfold f_relief_J41 at h
    obtain ⟨rfl, rfl⟩ := m_e2 h
    exact hret H locs ls 41 dX3_relief_41 I
  intro H locs ls I hl
  unfold f_relief at h
  refine lv_aload_n X.1 X.2.1 dX3_relief_0 rfl (lv_at hl 0 rfl) ?_
  refine lv_iconst (v := 0) X.1 X.2.1 dX3_relief_1 (by decide) ?_
  refine m_put X I 8 (by decide) rfl rfl rfl q1525 rfl (m_set8 d _ _) dX3_relief_2 (fun H locs I => ?_)
  refine lv_aload_n X.1 X.2.1 dX3_relief_5 rfl (lv_at hl 0 rfl) ?_
  refine lv_iload_n X.1 X.2.1 dX3_relief_6 rfl (lv_at hl 1 rfl) ?_
  obtain ⟨r2, e1, h⟩ := m_bS h
  refine m_callI X hl.1 I hA (As := [.int p0]) (rest := []) (c_isParty l n D d (m_sg st 8 0) p0 _ e1) 1 q1720 q1722 qs62 q107 q1723 (hd_isParty) rfl rfl ⟨Nat.le_trans (Nat.le_of_ble_eq_true rfl) hR.1, Nat.le_trans (Nat.le_of_ble_eq_true rfl) hR.2⟩ ⟨rfl, rfl⟩ ⟨Nat.zero_le _, Nat.zero_le _⟩ (Nat.le_of_ble_eq_true rfl) dX3_relief_7 (fun H locs I => ?_)
  refine lv_if_eq (tgt := 21) X.1 X.2.1 dX3_relief_10 (by decide) (fun c3 => ?_) (fun c3 => ?_)
  · replace h := m_ifT c3 h
    exact k21 (m_sg st 8 0) H locs ls h I (lv_sub hl [] rfl)
  · replace h := m_ifF c3 h
    refine lv_aload_n X.1 X.2.1 dX3_relief_13 rfl (lv_at hl 0 rfl) ?_
    refine lv_iload_n X.1 X.2.1 dX3_relief_14 rfl (lv_at hl 2 rfl) ?_
    obtain ⟨r5, e4, h⟩ := m_bS h
    refine m_callI X hl.1 I hA (As := [.int p1]) (rest := []) (c_isKind l n D d (m_sg st 8 0) p1 _ e4) 1 q1724 q1726 qs63 q107 q1727 (hd_isKind) rfl rfl ⟨Nat.le_trans (Nat.le_of_ble_eq_true rfl) hR.1, Nat.le_trans (Nat.le_of_ble_eq_true rfl) hR.2⟩ ⟨rfl, rfl⟩ ⟨Nat.zero_le _, Nat.zero_le _⟩ (Nat.le_of_ble_eq_true rfl) dX3_relief_15 (fun H locs I => ?_)
    refine lv_if_ne (tgt := 24) X.1 X.2.1 dX3_relief_18 (by decide) (fun c6 => ?_) (fun c6 => ?_)
    · replace h := m_ifF c6 h
      refine lv_aload_n X.1 X.2.1 dX3_relief_24 rfl (lv_at hl 0 rfl) ?_
      refine lv_iload_n X.1 X.2.1 dX3_relief_25 rfl (lv_at hl 2 rfl) ?_
      obtain ⟨r8, s9, e7, h⟩ := m_b2S h
      refine m_callI X hl.1 I hA (As := [.int p1]) (rest := []) (c_pressesFirst l n D d (m_sg st 8 0) p1 _ _ e7) 1 q1927 q1929 qs90 q107 q1930 (hd_pressesFirst) rfl rfl ⟨Nat.le_trans (Nat.le_of_ble_eq_true rfl) hR.1, Nat.le_trans (Nat.le_of_ble_eq_true rfl) hR.2⟩ ⟨rfl, rfl⟩ ⟨Nat.zero_le _, Nat.zero_le _⟩ (Nat.le_of_ble_eq_true rfl) dX3_relief_26 (fun H locs I => ?_)
      refine lv_if_eq (tgt := 40) X.1 X.2.1 dX3_relief_29 (by decide) (fun c10 => ?_) (fun c10 => ?_)
      · replace h := m_ifT c10 h
        refine lv_iconst (v := (-1)) X.1 X.2.1 dX3_relief_40 (by decide) ?_
        exact k41 s9 ((-1)) H locs ls h I (lv_sub hl [] rfl)
      · replace h := m_ifF c10 h
        refine lv_aload_n X.1 X.2.1 dX3_relief_32 rfl (lv_at hl 0 rfl) ?_
        refine lv_iload_n X.1 X.2.1 dX3_relief_33 rfl (lv_at hl 1 rfl) ?_
        obtain ⟨r12, e11, h⟩ := m_bS h
        refine m_callI X hl.1 I hA (As := [.int p0]) (rest := []) (c_reliefOf l n D d s9 p0 _ e11) 1 q1963 q1965 qs94 q107 q1966 (hd_reliefOf) rfl rfl ⟨Nat.le_trans (Nat.le_of_ble_eq_true rfl) hR.1, Nat.le_trans (Nat.le_of_ble_eq_true rfl) hR.2⟩ ⟨rfl, rfl⟩ ⟨Nat.zero_le _, Nat.zero_le _⟩ (Nat.le_of_ble_eq_true rfl) dX3_relief_34 (fun H locs I => ?_)
        refine lv_goto (tgt := 41) X.1 X.2.1 dX3_relief_37 (by decide) ?_
        exact k41 s9 r12 H locs ls h I (lv_sub hl [] rfl)
    · replace h := m_ifT c6 h
      exact k21 (m_sg st 8 0) H locs ls h I (lv_sub hl [] rfl)
end S_relief
theorem c_relief (l : Launch) (n : Nat) (D : va_G) (d : MD) (st : MS) (p0 : Int32) (p1 : Int32) (r : Int32) (st' : MS) (h : f_relief n st p0 p1 = some (r, st')) : m_Mi l yX3_relief cX3_relief 3 (some .int) ({ frames := 6, cells := 0, slots := 0, locals := 145 } : Room) D d st [.ref d.1, .int p0, .int p1] r st' :=
  m_startI (lvl := [(0, .ref d.1), (1, .int p0), (2, .int p1)]) (by decide) rfl (Nat.le_of_ble_eq_true rfl) rfl (fun p e s m args below meth c ls X hr hlk hl hA I => w_relief X hA ⟨Nat.le_refl _, Nat.le_refl _⟩ n st p0 p1 (r, st') h (fun H locs ls pc hd I => m_iret X I hr hlk hd) _ _ ls I hl)

/-! method relieved(I)I -/
def f_relieved_J58 (n : Nat) (st : MS) (v2 : Int32) (v3 : Int32) : Option ((Int32 × Int32 × MS) ⊕ (Int32 × MS)) :=
  some (.inl ((v2, v3 + 1, st)))
def f_relieved_J56 (n : Nat) (st : MS) (v3 : Int32) : Option ((Int32 × Int32 × MS) ⊕ (Int32 × MS)) :=
  f_relieved_J58 n st v3 v3
def f_relieved_L30 (n : Nat) (v2 : Int32) (v3 : Int32) (st : MS) : Option ((Int32 × Int32 × MS) ⊕ (Int32 × MS)) :=
  m_if ((st.1 5 : Int32) ≤ (v3 : Int32)) (some (.inr ((v2, st)))) (m_if ((v2 : Int32) = ((-1) : Int32)) (f_relieved_J56 n st v3) (m_b (f_reliefOf n st v3) (fun r11 => m_b (f_reliefOf n st v2) (fun r13 => m_if ((r11 : Int32) ≤ (r13 : Int32)) (f_relieved_J58 n st v2 v3) (f_relieved_J56 n st v3)))))
def f_relieved_L30l (n : Nat) (x : (Int32 × Int32 × MS)) : Option (Int32 × MS) := m_lp (fun (x : (Int32 × Int32 × MS)) => f_relieved_L30 n x.1 x.2.1 x.2.2) n x
def f_relieved (n : Nat) (st : MS) (p0 : Int32) : Option (Int32 × MS) :=
  m_b (f_isKind n (m_sg st 8 0) p0) (fun r2 => m_if ((r2 : Int32) = 0) (some ((-2), m_sg st 8 0)) (m_b2 (f_pressesFirst n (m_sg st 8 0) p0) (fun r5 s6 => m_if ((r5 : Int32) = 0) (some ((-1), s6)) (m_b (f_relieved_L30l n (((-1), 0, s6))) (fun y18 => some (y18.1, y18.2))))))
theorem hd_relieved : yX3_relieved.cls = RX3 ∧ yX3_relieved.cls ≠ "java/lang/invoke/MethodHandle" ∧ yX3_relieved.cls ≠ "java/lang/invoke/VarHandle" ∧ (parseMethodDescriptor yX3_relieved.desc).map (fun d => d.parameters.length) = some 1 := by decide +kernel
section S_relieved
variable {p : Program} {l : Launch} {e : Env} {R : Room} {s : State} {m : MethodId} {args : Array Value} {below : List Frame} {meth : Method} {c : Code} {Q : State → Prop} {D : va_G} {A : Nat → Prop} {d : MD}
theorem wf_relieved_L30 (X : m_X D A d p s m c cX3_relieved 4 args) (hA : ∀ q, s.heap.size ≤ q → A q) (hR : 6 ≤ R.frames ∧ 145 ≤ R.locals) (n : Nat)  (x : (Int32 × Int32 × MS)) (z : (Int32 × MS)) (hz : f_relieved_L30l n x = some z) (hE : (fun (z : (Int32 × MS)) => ∀ (H : Heap) (locs : List Loc) (ls : Array Slot), m_I D A d s.heap z.2 H locs → lv_has ls 4 [(2, .int z.1)] → W p l e R s m args below meth c H locs 0 0 Q (F0 m 64 ls [])) z) : (fun (x : (Int32 × Int32 × MS)) => ∀ (H : Heap) (locs : List Loc) (ls : Array Slot), m_I D A d s.heap x.2.2 H locs → lv_has ls 4 [(0, .ref d.1), (2, .int x.1), (3, .int x.2.1)] → W p l e R s m args below meth c H locs 0 0 Q (F0 m 30 ls [])) x := by
  refine m_lpW (G := fun (x : (Int32 × Int32 × MS)) => ∀ (H : Heap) (locs : List Loc) (ls : Array Slot), m_I D A d s.heap x.2.2 H locs → lv_has ls 4 [(0, .ref d.1), (2, .int x.1), (3, .int x.2.1)] → W p l e R s m args below meth c H locs 0 0 Q (F0 m 30 ls [])) (E := fun (z : (Int32 × MS)) => ∀ (H : Heap) (locs : List Loc) (ls : Array Slot), m_I D A d s.heap z.2 H locs → lv_has ls 4 [(2, .int z.1)] → W p l e R s m args below meth c H locs 0 0 Q (F0 m 64 ls [])) ?_ n x z hz hE
  rintro ⟨v2, v3, st⟩ r h hr H locs ls I hl
  replace h : f_relieved_L30 n v2 v3 st = some r := h
  have k58 : ∀ (st : MS) (v2 : Int32) (v3 : Int32) (H : Heap) (locs : List Loc) (ls : Array Slot), f_relieved_J58 n st v2 v3 = some r → m_I D A d s.heap st H locs → lv_has ls 4 [(0, .ref d.1), (2, .int v2), (3, .int v3)] → W p l e R s m args below meth c H locs 0 0 Q (F0 m 58 ls []) := by
    intro st v2 v3 H locs ls h I hl
    unfold f_relieved_J58 at h
    refine lv_iinc (v := v3 + 1) (lv' := [(3, .int (v3 + 1)), (0, .ref d.1), (2, .int v2)]) X.1 X.2.1 dX3_relieved_58 hl (k := 2) rfl rfl (by decide) rfl (fun ls hl => ?_)
    refine lv_goto (tgt := 30) X.1 X.2.1 dX3_relieved_61 (by decide) ?_
    cases h
    exact hr H locs ls I (lv_sub hl [1, 2, 0] rfl)
  have k56 : ∀ (st : MS) (v3 : Int32) (H : Heap) (locs : List Loc) (ls : Array Slot), f_relieved_J56 n st v3 = some r → m_I D A d s.heap st H locs → lv_has ls 4 [(0, .ref d.1), (3, .int v3)] → W p l e R s m args below meth c H locs 0 0 Q (F0 m 56 ls []) := by
    intro st v3 H locs ls h I hl
    unfold f_relieved_J56 at h
    refine lv_iload_n X.1 X.2.1 dX3_relieved_56 rfl (lv_at hl 1 rfl) ?_
    refine lv_istore_n (lv' := [(2, .int v3), (0, .ref d.1), (3, .int v3)]) X.1 X.2.1 dX3_relieved_57 rfl hl (by decide) rfl (fun ls hl => ?_)
    exact k58 st v3 v3 H locs ls h I (lv_sub hl [1, 0, 2] rfl)
  unfold f_relieved_L30 at h
  refine lv_iload_n X.1 X.2.1 dX3_relieved_30 rfl (lv_at hl 2 rfl) ?_
  refine lv_aload_n X.1 X.2.1 dX3_relieved_31 rfl (lv_at hl 0 rfl) ?_
  refine m_get X I 5 (by decide) rfl rfl rfl q1522 (v := .int (st.1 5)) rfl dX3_relieved_32 ?_
  refine lv_icmp_ge (tgt := 64) X.1 X.2.1 dX3_relieved_35 (by decide) (fun c8 => ?_) (fun c8 => ?_)
  · replace h := m_ifT c8 h
    cases h
    exact hr H locs ls I (lv_sub hl [1] rfl)
  · replace h := m_ifF c8 h
    refine lv_iload_n X.1 X.2.1 dX3_relieved_38 rfl (lv_at hl 1 rfl) ?_
    refine lv_iconst (v := (-1)) X.1 X.2.1 dX3_relieved_39 (by decide) ?_
    refine lv_icmp_eq (tgt := 56) X.1 X.2.1 dX3_relieved_40 (by decide) (fun c9 => ?_) (fun c9 => ?_)
    · replace h := m_ifT c9 h
      exact k56 st v3 H locs ls h I (lv_sub hl [0, 2] rfl)
    · replace h := m_ifF c9 h
      refine lv_aload_n X.1 X.2.1 dX3_relieved_43 rfl (lv_at hl 0 rfl) ?_
      refine lv_iload_n X.1 X.2.1 dX3_relieved_44 rfl (lv_at hl 2 rfl) ?_
      obtain ⟨r11, e10, h⟩ := m_bS h
      refine m_callI X hl.1 I hA (As := [.int v3]) (rest := []) (c_reliefOf l n D d st v3 _ e10) 1 q1963 q1965 qs94 q107 q1966 (hd_reliefOf) rfl rfl ⟨Nat.le_trans (Nat.le_of_ble_eq_true rfl) hR.1, Nat.le_trans (Nat.le_of_ble_eq_true rfl) hR.2⟩ ⟨rfl, rfl⟩ ⟨Nat.zero_le _, Nat.zero_le _⟩ (Nat.le_of_ble_eq_true rfl) dX3_relieved_45 (fun H locs I => ?_)
      refine lv_aload_n X.1 X.2.1 dX3_relieved_48 rfl (lv_at hl 0 rfl) ?_
      refine lv_iload_n X.1 X.2.1 dX3_relieved_49 rfl (lv_at hl 1 rfl) ?_
      obtain ⟨r13, e12, h⟩ := m_bS h
      refine m_callI X hl.1 I hA (As := [.int v2]) (rest := [.int r11]) (c_reliefOf l n D d st v2 _ e12) 1 q1963 q1965 qs94 q107 q1966 (hd_reliefOf) rfl rfl ⟨Nat.le_trans (Nat.le_of_ble_eq_true rfl) hR.1, Nat.le_trans (Nat.le_of_ble_eq_true rfl) hR.2⟩ ⟨rfl, rfl⟩ ⟨Nat.zero_le _, Nat.zero_le _⟩ (Nat.le_of_ble_eq_true rfl) dX3_relieved_50 (fun H locs I => ?_)
      refine lv_icmp_le (tgt := 58) X.1 X.2.1 dX3_relieved_53 (by decide) (fun c14 => ?_) (fun c14 => ?_)
      · replace h := m_ifT c14 h
        exact k58 st v2 v3 H locs ls h I (lv_sub hl [0, 1, 2] rfl)
      · replace h := m_ifF c14 h
        exact k56 st v3 H locs ls h I (lv_sub hl [0, 2] rfl)
theorem w_relieved (X : m_X D A d p s m c cX3_relieved 4 args) (hA : ∀ q, s.heap.size ≤ q → A q) (hR : 6 ≤ R.frames ∧ 145 ≤ R.locals) (n : Nat) (st : MS) (p0 : Int32) (r : (Int32 × MS)) (h : f_relieved n st p0 = some r) (hret : ∀ (H : Heap) (locs : List Loc) (ls : Array Slot) (pc : Nat), decode cX3_relieved pc = .ok (.ireturn, 1) → m_I D A d s.heap r.2 H locs → W p l e R s m args below meth c H locs 0 0 Q (F0 m pc ls [.int r.1])) : ∀ (H : Heap) (locs : List Loc) (ls : Array Slot), m_I D A d s.heap st H locs → lv_has ls 4 [(0, .ref d.1), (1, .int p0)] → W p l e R s m args below meth c H locs 0 0 Q (F0 m 0 ls []) := by
  obtain ⟨r0, s0⟩ := r
  intro H locs ls I hl
  unfold f_relieved at h
  refine lv_aload_n X.1 X.2.1 dX3_relieved_0 rfl (lv_at hl 0 rfl) ?_
  refine lv_iconst (v := 0) X.1 X.2.1 dX3_relieved_1 (by decide) ?_
  refine m_put X I 8 (by decide) rfl rfl rfl q1525 rfl (m_set8 d _ _) dX3_relieved_2 (fun H locs I => ?_)
  refine lv_aload_n X.1 X.2.1 dX3_relieved_5 rfl (lv_at hl 0 rfl) ?_
  refine lv_iload_n X.1 X.2.1 dX3_relieved_6 rfl (lv_at hl 1 rfl) ?_
  obtain ⟨r2, e1, h⟩ := m_bS h
  refine m_callI X hl.1 I hA (As := [.int p0]) (rest := []) (c_isKind l n D d (m_sg st 8 0) p0 _ e1) 1 q1724 q1726 qs63 q107 q1727 (hd_isKind) rfl rfl ⟨Nat.le_trans (Nat.le_of_ble_eq_true rfl) hR.1, Nat.le_trans (Nat.le_of_ble_eq_true rfl) hR.2⟩ ⟨rfl, rfl⟩ ⟨Nat.zero_le _, Nat.zero_le _⟩ (Nat.le_of_ble_eq_true rfl) dX3_relieved_7 (fun H locs I => ?_)
  refine lv_if_ne (tgt := 16) X.1 X.2.1 dX3_relieved_10 (by decide) (fun c3 => ?_) (fun c3 => ?_)
  · replace h := m_ifF c3 h
    refine lv_aload_n X.1 X.2.1 dX3_relieved_16 rfl (lv_at hl 0 rfl) ?_
    refine lv_iload_n X.1 X.2.1 dX3_relieved_17 rfl (lv_at hl 1 rfl) ?_
    obtain ⟨r5, s6, e4, h⟩ := m_b2S h
    refine m_callI X hl.1 I hA (As := [.int p0]) (rest := []) (c_pressesFirst l n D d (m_sg st 8 0) p0 _ _ e4) 1 q1927 q1929 qs90 q107 q1930 (hd_pressesFirst) rfl rfl ⟨Nat.le_trans (Nat.le_of_ble_eq_true rfl) hR.1, Nat.le_trans (Nat.le_of_ble_eq_true rfl) hR.2⟩ ⟨rfl, rfl⟩ ⟨Nat.zero_le _, Nat.zero_le _⟩ (Nat.le_of_ble_eq_true rfl) dX3_relieved_18 (fun H locs I => ?_)
    refine lv_if_ne (tgt := 26) X.1 X.2.1 dX3_relieved_21 (by decide) (fun c7 => ?_) (fun c7 => ?_)
    · replace h := m_ifF c7 h
      refine lv_iconst (v := (-1)) X.1 X.2.1 dX3_relieved_26 (by decide) ?_
      refine lv_istore_n (lv' := [(2, .int ((-1))), (0, .ref d.1), (1, .int p0)]) X.1 X.2.1 dX3_relieved_27 rfl hl (by decide) rfl (fun ls hl => ?_)
      refine lv_iconst (v := 0) X.1 X.2.1 dX3_relieved_28 (by decide) ?_
      refine lv_istore_n (lv' := [(3, .int 0), (2, .int ((-1))), (0, .ref d.1), (1, .int p0)]) X.1 X.2.1 dX3_relieved_29 rfl hl (by decide) rfl (fun ls hl => ?_)
      obtain ⟨⟨z16, s17⟩, e15, h⟩ := m_bS h
      refine wf_relieved_L30 X hA hR n  _ _ e15 (fun H locs ls I hl => ?_) H locs ls I (lv_sub hl [2, 1, 0] rfl)
      refine lv_iload_n X.1 X.2.1 dX3_relieved_64 rfl (lv_at hl 0 rfl) ?_
      obtain ⟨rfl, rfl⟩ := m_e2 h
      exact hret H locs ls 65 dX3_relieved_65 I
    · replace h := m_ifT c7 h
      refine lv_iconst (v := (-1)) X.1 X.2.1 dX3_relieved_24 (by decide) ?_
      obtain ⟨rfl, rfl⟩ := m_e2 h
      exact hret H locs ls 25 dX3_relieved_25 I
  · replace h := m_ifT c3 h
    refine lv_bipush (v := (-2)) X.1 X.2.1 dX3_relieved_13 (by decide) ?_
    obtain ⟨rfl, rfl⟩ := m_e2 h
    exact hret H locs ls 15 dX3_relieved_15 I
end S_relieved
theorem c_relieved (l : Launch) (n : Nat) (D : va_G) (d : MD) (st : MS) (p0 : Int32) (r : Int32) (st' : MS) (h : f_relieved n st p0 = some (r, st')) : m_Mi l yX3_relieved cX3_relieved 4 (some .int) ({ frames := 6, cells := 0, slots := 0, locals := 145 } : Room) D d st [.ref d.1, .int p0] r st' :=
  m_startI (lvl := [(0, .ref d.1), (1, .int p0)]) (by decide) rfl (Nat.le_of_ble_eq_true rfl) rfl (fun p e s m args below meth c ls X hr hlk hl hA I => w_relieved X hA ⟨Nat.le_refl _, Nat.le_refl _⟩ n st p0 (r, st') h (fun H locs ls pc hd I => m_iret X I hr hlk hd) _ _ ls I hl)

/-! method through(III)I -/
def f_through_J31 (n : Nat) (st : MS) : Option (Int32 × MS) :=
  some ((-2), st)
def f_through_J59 (n : Nat) (st : MS) (t0 : Int32) : Option (Int32 × MS) :=
  some (t0, st)
def f_through (n : Nat) (st : MS) (p0 : Int32) (p1 : Int32) (p2 : Int32) : Option (Int32 × MS) :=
  m_b (f_isParty n (m_sg st 8 0) p0) (fun r2 => m_if ((r2 : Int32) = 0) (f_through_J31 n (m_sg st 8 0)) (m_b (f_isKind n (m_sg st 8 0) p1) (fun r5 => m_if ((r5 : Int32) = 0) (f_through_J31 n (m_sg st 8 0)) (m_b (f_isIn n p2.toInt64 0 1) (fun r8 => m_if ((r8 : Int32) = 0) (f_through_J31 n (m_sg st 8 0)) (m_if ((p2 : Int32) = (1 : Int32)) (m_b2 (f_pressesFirst n (m_sg st 8 0) p1) (fun r16 s17 => m_if ((r16 : Int32) = 0) (f_through_J59 n s17 ((-1))) (m_b (f_throughBy n s17 22 p0) (fun r20 => f_through_J59 n s17 r20)))) (m_b (f_laysFlows n (m_sg st 8 0) p1 ((-1))) (fun s12 => m_b (f_throughBy n s12 17 p0) (fun r14 => some (r14, s12))))))))))
theorem hd_through : yX3_through.cls = RX3 ∧ yX3_through.cls ≠ "java/lang/invoke/MethodHandle" ∧ yX3_through.cls ≠ "java/lang/invoke/VarHandle" ∧ (parseMethodDescriptor yX3_through.desc).map (fun d => d.parameters.length) = some 3 := by decide +kernel
section S_through
variable {p : Program} {l : Launch} {e : Env} {R : Room} {s : State} {m : MethodId} {args : Array Value} {below : List Frame} {meth : Method} {c : Code} {Q : State → Prop} {D : va_G} {A : Nat → Prop} {d : MD}
theorem w_through (X : m_X D A d p s m c cX3_through 4 args) (hA : ∀ q, s.heap.size ≤ q → A q) (hR : 6 ≤ R.frames ∧ 145 ≤ R.locals) (n : Nat) (st : MS) (p0 : Int32) (p1 : Int32) (p2 : Int32) (r : (Int32 × MS)) (h : f_through n st p0 p1 p2 = some r) (hret : ∀ (H : Heap) (locs : List Loc) (ls : Array Slot) (pc : Nat), decode cX3_through pc = .ok (.ireturn, 1) → m_I D A d s.heap r.2 H locs → W p l e R s m args below meth c H locs 0 0 Q (F0 m pc ls [.int r.1])) : ∀ (H : Heap) (locs : List Loc) (ls : Array Slot), m_I D A d s.heap st H locs → lv_has ls 4 [(0, .ref d.1), (1, .int p0), (2, .int p1), (3, .int p2)] → W p l e R s m args below meth c H locs 0 0 Q (F0 m 0 ls []) := by
  obtain ⟨r0, s0⟩ := r
  have k31 : ∀ (st : MS) (H : Heap) (locs : List Loc) (ls : Array Slot), f_through_J31 n st = some (r0, s0) → m_I D A d s.heap st H locs → lv_has ls 4 [] → W p l e R s m args below meth c H locs 0 0 Q (F0 m 31 ls []) := by
    intro st H locs ls h I hl
    unfold f_through_J31 at h
    refine lv_bipush (v := (-2)) X.1 X.2.1 dX3_through_31 (by decide) ?_
    obtain ⟨rfl, rfl⟩ := m_e2 h
    exact hret H locs ls 33 dX3_through_33 I
  have k59 : ∀ (st : MS) (t0 : Int32) (H : Heap) (locs : List Loc) (ls : Array Slot), f_through_J59 n st t0 = some (r0, s0) → m_I D A d s.heap st H locs → lv_has ls 4 [] → W p l e R s m args below meth c H locs 0 0 Q (F0 m 59 ls [.int t0]) := by
    intro st t0 H locs ls h I hl
    unfold f_through_J59 at h
    obtain ⟨rfl, rfl⟩ := m_e2 h
    exact hret H locs ls 59 dX3_through_59 I
  intro H locs ls I hl
  unfold f_through at h
  refine lv_aload_n X.1 X.2.1 dX3_through_0 rfl (lv_at hl 0 rfl) ?_
  refine lv_iconst (v := 0) X.1 X.2.1 dX3_through_1 (by decide) ?_
  refine m_put X I 8 (by decide) rfl rfl rfl q1525 rfl (m_set8 d _ _) dX3_through_2 (fun H locs I => ?_)
  refine lv_aload_n X.1 X.2.1 dX3_through_5 rfl (lv_at hl 0 rfl) ?_
  refine lv_iload_n X.1 X.2.1 dX3_through_6 rfl (lv_at hl 1 rfl) ?_
  obtain ⟨r2, e1, h⟩ := m_bS h
  refine m_callI X hl.1 I hA (As := [.int p0]) (rest := []) (c_isParty l n D d (m_sg st 8 0) p0 _ e1) 1 q1720 q1722 qs62 q107 q1723 (hd_isParty) rfl rfl ⟨Nat.le_trans (Nat.le_of_ble_eq_true rfl) hR.1, Nat.le_trans (Nat.le_of_ble_eq_true rfl) hR.2⟩ ⟨rfl, rfl⟩ ⟨Nat.zero_le _, Nat.zero_le _⟩ (Nat.le_of_ble_eq_true rfl) dX3_through_7 (fun H locs I => ?_)
  refine lv_if_eq (tgt := 31) X.1 X.2.1 dX3_through_10 (by decide) (fun c3 => ?_) (fun c3 => ?_)
  · replace h := m_ifT c3 h
    exact k31 (m_sg st 8 0) H locs ls h I (lv_sub hl [] rfl)
  · replace h := m_ifF c3 h
    refine lv_aload_n X.1 X.2.1 dX3_through_13 rfl (lv_at hl 0 rfl) ?_
    refine lv_iload_n X.1 X.2.1 dX3_through_14 rfl (lv_at hl 2 rfl) ?_
    obtain ⟨r5, e4, h⟩ := m_bS h
    refine m_callI X hl.1 I hA (As := [.int p1]) (rest := []) (c_isKind l n D d (m_sg st 8 0) p1 _ e4) 1 q1724 q1726 qs63 q107 q1727 (hd_isKind) rfl rfl ⟨Nat.le_trans (Nat.le_of_ble_eq_true rfl) hR.1, Nat.le_trans (Nat.le_of_ble_eq_true rfl) hR.2⟩ ⟨rfl, rfl⟩ ⟨Nat.zero_le _, Nat.zero_le _⟩ (Nat.le_of_ble_eq_true rfl) dX3_through_15 (fun H locs I => ?_)
    refine lv_if_eq (tgt := 31) X.1 X.2.1 dX3_through_18 (by decide) (fun c6 => ?_) (fun c6 => ?_)
    · replace h := m_ifT c6 h
      exact k31 (m_sg st 8 0) H locs ls h I (lv_sub hl [] rfl)
    · replace h := m_ifF c6 h
      refine lv_iload_n X.1 X.2.1 dX3_through_21 rfl (lv_at hl 3 rfl) ?_
      refine lv_i2l X.1 X.2.1 dX3_through_22 rfl ?_
      refine lv_lconst (v := 0) X.1 X.2.1 dX3_through_23 (by decide) ?_
      refine lv_lconst (v := 1) X.1 X.2.1 dX3_through_24 (by decide) ?_
      obtain ⟨r8, e7, h⟩ := m_bS h
      refine m_callS X hl.1 (As := [.long p2.toInt64, .long 0, .long 1]) (rest := []) (c_isIn l n p2.toInt64 0 1 _ e7) 3 q1623 q1624 q107 q1625 (hd_isIn).2 rfl rfl ⟨Nat.le_trans (Nat.le_of_ble_eq_true rfl) hR.1, Nat.le_trans (Nat.le_of_ble_eq_true rfl) hR.2⟩ ⟨rfl, rfl⟩ ⟨Nat.zero_le _, Nat.zero_le _⟩ (Nat.le_of_ble_eq_true rfl) dX3_through_25 ?_
      refine lv_if_ne (tgt := 34) X.1 X.2.1 dX3_through_28 (by decide) (fun c9 => ?_) (fun c9 => ?_)
      · replace h := m_ifF c9 h
        refine lv_iload_n X.1 X.2.1 dX3_through_34 rfl (lv_at hl 3 rfl) ?_
        refine lv_iconst (v := 1) X.1 X.2.1 dX3_through_35 (by decide) ?_
        refine lv_icmp_ne (tgt := 60) X.1 X.2.1 dX3_through_36 (by decide) (fun c10 => ?_) (fun c10 => ?_)
        · replace h := m_ifF c10 h
          refine lv_aload_n X.1 X.2.1 dX3_through_60 rfl (lv_at hl 0 rfl) ?_
          refine lv_iload_n X.1 X.2.1 dX3_through_61 rfl (lv_at hl 2 rfl) ?_
          refine lv_iconst (v := (-1)) X.1 X.2.1 dX3_through_62 (by decide) ?_
          obtain ⟨s12, e11, h⟩ := m_bS h
          refine m_callV X hl.1 I hA (As := [.int p1, .int ((-1))]) (rest := []) (c_laysFlows l n D d (m_sg st 8 0) p1 ((-1)) _ e11) 2 q1772 q1774 qs67 q107 q1775 (hd_laysFlows) rfl rfl ⟨Nat.le_trans (Nat.le_of_ble_eq_true rfl) hR.1, Nat.le_trans (Nat.le_of_ble_eq_true rfl) hR.2⟩ ⟨rfl, rfl⟩ ⟨Nat.zero_le _, Nat.zero_le _⟩ (Nat.le_of_ble_eq_true rfl) dX3_through_63 (fun H locs I => ?_)
          refine lv_aload_n X.1 X.2.1 dX3_through_66 rfl (lv_at hl 0 rfl) ?_
          refine m_get X I 17 (by decide) rfl rfl rfl q1534 (v := .ref (d.2.1 17)) rfl dX3_through_67 ?_
          refine lv_iload_n X.1 X.2.1 dX3_through_70 rfl (lv_at hl 1 rfl) ?_
          obtain ⟨r14, e13, h⟩ := m_bS h
          refine m_callSW X hl.1 I hA (As := [.ref (d.2.1 17), .int p0]) (rest := []) (c_throughBy l n D d s12 17 p0 7 rfl _ e13) 2 q1887 q1888 q107 q1889 (hd_throughBy).2 rfl rfl ⟨Nat.le_trans (Nat.le_of_ble_eq_true rfl) hR.1, Nat.le_trans (Nat.le_of_ble_eq_true rfl) hR.2⟩ ⟨rfl, rfl⟩ ⟨Nat.zero_le _, Nat.zero_le _⟩ (Nat.le_of_ble_eq_true rfl) dX3_through_71 (fun H locs I => ?_)
          obtain ⟨rfl, rfl⟩ := m_e2 h
          exact hret H locs ls 74 dX3_through_74 I
        · replace h := m_ifT c10 h
          refine lv_aload_n X.1 X.2.1 dX3_through_39 rfl (lv_at hl 0 rfl) ?_
          refine lv_iload_n X.1 X.2.1 dX3_through_40 rfl (lv_at hl 2 rfl) ?_
          obtain ⟨r16, s17, e15, h⟩ := m_b2S h
          refine m_callI X hl.1 I hA (As := [.int p1]) (rest := []) (c_pressesFirst l n D d (m_sg st 8 0) p1 _ _ e15) 1 q1927 q1929 qs90 q107 q1930 (hd_pressesFirst) rfl rfl ⟨Nat.le_trans (Nat.le_of_ble_eq_true rfl) hR.1, Nat.le_trans (Nat.le_of_ble_eq_true rfl) hR.2⟩ ⟨rfl, rfl⟩ ⟨Nat.zero_le _, Nat.zero_le _⟩ (Nat.le_of_ble_eq_true rfl) dX3_through_41 (fun H locs I => ?_)
          refine lv_if_eq (tgt := 58) X.1 X.2.1 dX3_through_44 (by decide) (fun c18 => ?_) (fun c18 => ?_)
          · replace h := m_ifT c18 h
            refine lv_iconst (v := (-1)) X.1 X.2.1 dX3_through_58 (by decide) ?_
            exact k59 s17 ((-1)) H locs ls h I (lv_sub hl [] rfl)
          · replace h := m_ifF c18 h
            refine lv_aload_n X.1 X.2.1 dX3_through_47 rfl (lv_at hl 0 rfl) ?_
            refine m_get X I 22 (by decide) rfl rfl rfl q1539 (v := .ref (d.2.1 22)) rfl dX3_through_48 ?_
            refine lv_iload_n X.1 X.2.1 dX3_through_51 rfl (lv_at hl 1 rfl) ?_
            obtain ⟨r20, e19, h⟩ := m_bS h
            refine m_callSW X hl.1 I hA (As := [.ref (d.2.1 22), .int p0]) (rest := []) (c_throughBy l n D d s17 22 p0 11 rfl _ e19) 2 q1887 q1888 q107 q1889 (hd_throughBy).2 rfl rfl ⟨Nat.le_trans (Nat.le_of_ble_eq_true rfl) hR.1, Nat.le_trans (Nat.le_of_ble_eq_true rfl) hR.2⟩ ⟨rfl, rfl⟩ ⟨Nat.zero_le _, Nat.zero_le _⟩ (Nat.le_of_ble_eq_true rfl) dX3_through_52 (fun H locs I => ?_)
            refine lv_goto (tgt := 59) X.1 X.2.1 dX3_through_55 (by decide) ?_
            exact k59 s17 r20 H locs ls h I (lv_sub hl [] rfl)
      · replace h := m_ifT c9 h
        exact k31 (m_sg st 8 0) H locs ls h I (lv_sub hl [] rfl)
end S_through
theorem c_through (l : Launch) (n : Nat) (D : va_G) (d : MD) (st : MS) (p0 : Int32) (p1 : Int32) (p2 : Int32) (r : Int32) (st' : MS) (h : f_through n st p0 p1 p2 = some (r, st')) : m_Mi l yX3_through cX3_through 4 (some .int) ({ frames := 6, cells := 0, slots := 0, locals := 145 } : Room) D d st [.ref d.1, .int p0, .int p1, .int p2] r st' :=
  m_startI (lvl := [(0, .ref d.1), (1, .int p0), (2, .int p1), (3, .int p2)]) (by decide) rfl (Nat.le_of_ble_eq_true rfl) rfl (fun p e s m args below meth c ls X hr hlk hl hA I => w_through X hA ⟨Nat.le_refl _, Nat.le_refl _⟩ n st p0 p1 p2 (r, st') h (fun H locs ls pc hd I => m_iret X I hr hlk hd) _ _ ls I hl)

/-! method press(I)I -/
def f_press_J59 (n : Nat) (st : MS) (v1 : Int32) (v3 : Int32) (t0 : Int32) (t1 : Int32) : Option ((Int32 × Int32 × MS) ⊕ (Int32 × MS)) :=
  some (.inl ((t1 + t0, v3 + 1, st)))
def f_press_L34 (n : Nat) (v1 : Int32) (v2 : Int32) (v3 : Int32) (st : MS) : Option ((Int32 × Int32 × MS) ⊕ (Int32 × MS)) :=
  m_g (m_in 0 266) (m_if ((st.2.1 0 (0 : Int32).toNatClampNeg : Int32) ≤ (v3 : Int32)) (some (.inr ((v2, st)))) (m_b (f_isFree n st v3 v1) (fun r13 => m_if ((r13 : Int32) = 0) (f_press_J59 n st v1 v3 1 v2) (f_press_J59 n st v1 v3 0 v2))))
def f_press_L34l (n : Nat) (v1 : Int32) (x : (Int32 × Int32 × MS)) : Option (Int32 × MS) := m_lp (fun (x : (Int32 × Int32 × MS)) => f_press_L34 n v1 x.1 x.2.1 x.2.2) n x
def f_press_J107 (n : Nat) (st : MS) (v1 : Int32) (v3 : Int32) : Option ((Int32 × MS) ⊕ MS) :=
  some (.inl ((v3 + (-1), st)))
def f_press_L89 (n : Nat) (v1 : Int32) (v3 : Int32) (st : MS) : Option ((Int32 × MS) ⊕ MS) :=
  m_if ((v3 : Int32) < 0) (some (.inr st)) (m_b (f_isFree n st v3 v1) (fun r24 => m_if ((r24 : Int32) = 0) (f_press_J107 n st v1 v3) (m_b (f_goes n st v3) (fun s27 => f_press_J107 n s27 v1 v3))))
def f_press_L89l (n : Nat) (v1 : Int32) (x : (Int32 × MS)) : Option MS := m_lp (fun (x : (Int32 × MS)) => f_press_L89 n v1 x.1 x.2) n x
def f_press_J149 (n : Nat) (st : MS) (v1 : Int32) (v3 : Int32) : Option ((Int32 × MS) ⊕ MS) :=
  some (.inl ((v3 + 1, st)))
def f_press_L115 (n : Nat) (v1 : Int32) (v3 : Int32) (st : MS) : Option ((Int32 × MS) ⊕ MS) :=
  m_if ((64 : Int32) ≤ (v3 : Int32)) (some (.inr st)) (m_g (m_in v3 64) (m_if ((st.2.1 22 (v3 : Int32).toNatClampNeg : Int32) ≤ 0) (f_press_J149 n st v1 v3) (m_g (decide (¬ (8 : Int32) = 0)) (m_g (decide (¬ (8 : Int32) = 0)) (m_g (m_in v3 64) (m_b (f_adds n st (v3 / 8) (v3 - v3 / 8 * 8) (st.2.1 22 (v3 : Int32).toNatClampNeg) v1) (fun s37 => f_press_J149 n s37 v1 v3)))))))
def f_press_L115l (n : Nat) (v1 : Int32) (x : (Int32 × MS)) : Option MS := m_lp (fun (x : (Int32 × MS)) => f_press_L115 n v1 x.1 x.2) n x
def f_press (n : Nat) (st : MS) (p0 : Int32) : Option (Int32 × MS) :=
  m_b (f_isKind n (m_sg st 8 0) p0) (fun r2 => m_if ((r2 : Int32) = 0) (some ((-2), m_sg st 8 0)) (m_b2 (f_pressesFirst n (m_sg st 8 0) p0) (fun r5 s6 => m_if ((r5 : Int32) = 0) (some ((-5), s6)) (m_b (f_couplesNow n s6) (fun r9 => m_b (f_press_L34l n p0 ((r9, 0, s6))) (fun y41 => m_if ((y41.1 : Int32) ≤ (40 : Int32)) (m_b (f_remembers n y41.2) (fun s20 => m_g (m_in 0 266) (m_b (f_press_L89l n p0 (((s20.2.1 0 (0 : Int32).toNatClampNeg) - 1, s20))) (fun s29 => m_b (f_press_L115l n p0 ((0, s29))) (fun s39 => m_g (m_in 0 266) (some (s39.2.1 0 (0 : Int32).toNatClampNeg, s39))))))) (some ((-4), y41.2))))))))
theorem hd_press : yX3_press.cls = RX3 ∧ yX3_press.cls ≠ "java/lang/invoke/MethodHandle" ∧ yX3_press.cls ≠ "java/lang/invoke/VarHandle" ∧ (parseMethodDescriptor yX3_press.desc).map (fun d => d.parameters.length) = some 1 := by decide +kernel
section S_press
variable {p : Program} {l : Launch} {e : Env} {R : Room} {s : State} {m : MethodId} {args : Array Value} {below : List Frame} {meth : Method} {c : Code} {Q : State → Prop} {D : va_G} {A : Nat → Prop} {d : MD}
theorem wf_press_L34 (X : m_X D A d p s m c cX3_press 4 args) (hA : ∀ q, s.heap.size ≤ q → A q) (hR : 6 ≤ R.frames ∧ 145 ≤ R.locals) (n : Nat) (v1 : Int32) (x : (Int32 × Int32 × MS)) (z : (Int32 × MS)) (hz : f_press_L34l n v1 x = some z) (hE : (fun (z : (Int32 × MS)) => ∀ (H : Heap) (locs : List Loc) (ls : Array Slot), m_I D A d s.heap z.2 H locs → lv_has ls 4 [(0, .ref d.1), (1, .int v1), (2, .int z.1)] → W p l e R s m args below meth c H locs 0 0 Q (F0 m 67 ls [])) z) : (fun (x : (Int32 × Int32 × MS)) => ∀ (H : Heap) (locs : List Loc) (ls : Array Slot), m_I D A d s.heap x.2.2 H locs → lv_has ls 4 [(0, .ref d.1), (1, .int v1), (2, .int x.1), (3, .int x.2.1)] → W p l e R s m args below meth c H locs 0 0 Q (F0 m 34 ls [])) x := by
  refine m_lpW (G := fun (x : (Int32 × Int32 × MS)) => ∀ (H : Heap) (locs : List Loc) (ls : Array Slot), m_I D A d s.heap x.2.2 H locs → lv_has ls 4 [(0, .ref d.1), (1, .int v1), (2, .int x.1), (3, .int x.2.1)] → W p l e R s m args below meth c H locs 0 0 Q (F0 m 34 ls [])) (E := fun (z : (Int32 × MS)) => ∀ (H : Heap) (locs : List Loc) (ls : Array Slot), m_I D A d s.heap z.2 H locs → lv_has ls 4 [(0, .ref d.1), (1, .int v1), (2, .int z.1)] → W p l e R s m args below meth c H locs 0 0 Q (F0 m 67 ls [])) ?_ n x z hz hE
  rintro ⟨v2, v3, st⟩ r h hr H locs ls I hl
  replace h : f_press_L34 n v1 v2 v3 st = some r := h
  have k59 : ∀ (st : MS) (v3 : Int32) (t0 : Int32) (t1 : Int32) (H : Heap) (locs : List Loc) (ls : Array Slot), f_press_J59 n st v1 v3 t0 t1 = some r → m_I D A d s.heap st H locs → lv_has ls 4 [(0, .ref d.1), (1, .int v1), (3, .int v3)] → W p l e R s m args below meth c H locs 0 0 Q (F0 m 59 ls [.int t0, .int t1]) := by
    intro st v3 t0 t1 H locs ls h I hl
    unfold f_press_J59 at h
    refine lv_iadd X.1 X.2.1 dX3_press_59 ?_
    refine lv_istore_n (lv' := [(2, .int (t1 + t0)), (0, .ref d.1), (1, .int v1), (3, .int v3)]) X.1 X.2.1 dX3_press_60 rfl hl (by decide) rfl (fun ls hl => ?_)
    refine lv_iinc (v := v3 + 1) (lv' := [(3, .int (v3 + 1)), (2, .int (t1 + t0)), (0, .ref d.1), (1, .int v1)]) X.1 X.2.1 dX3_press_61 hl (k := 3) rfl rfl (by decide) rfl (fun ls hl => ?_)
    refine lv_goto (tgt := 34) X.1 X.2.1 dX3_press_64 (by decide) ?_
    cases h
    exact hr H locs ls I (lv_sub hl [2, 3, 1, 0] rfl)
  unfold f_press_L34 at h
  refine lv_iload_n X.1 X.2.1 dX3_press_34 rfl (lv_at hl 3 rfl) ?_
  refine lv_aload_n X.1 X.2.1 dX3_press_35 rfl (lv_at hl 0 rfl) ?_
  refine m_get X I 0 (by decide) rfl rfl rfl q1517 (v := .ref (d.2.1 0)) rfl dX3_press_36 ?_
  refine lv_iconst (v := 0) X.1 X.2.1 dX3_press_39 (by decide) ?_
  obtain ⟨g10, h⟩ := m_gS h
  refine m_iald X I 1 (n := 266) (f := st.2.1 0) rfl g10 dX3_press_40 ?_
  refine lv_icmp_ge (tgt := 67) X.1 X.2.1 dX3_press_41 (by decide) (fun c11 => ?_) (fun c11 => ?_)
  · replace h := m_ifT c11 h
    cases h
    exact hr H locs ls I (lv_sub hl [0, 1, 2] rfl)
  · replace h := m_ifF c11 h
    refine lv_iload_n X.1 X.2.1 dX3_press_44 rfl (lv_at hl 2 rfl) ?_
    refine lv_aload_n X.1 X.2.1 dX3_press_45 rfl (lv_at hl 0 rfl) ?_
    refine lv_iload_n X.1 X.2.1 dX3_press_46 rfl (lv_at hl 3 rfl) ?_
    refine lv_iload_n X.1 X.2.1 dX3_press_47 rfl (lv_at hl 1 rfl) ?_
    obtain ⟨r13, e12, h⟩ := m_bS h
    refine m_callI X hl.1 I hA (As := [.int v3, .int v1]) (rest := [.int v2]) (c_isFree l n D d st v3 v1 _ e12) 2 q1776 q1778 qs68 q107 q1779 (hd_isFree) rfl rfl ⟨Nat.le_trans (Nat.le_of_ble_eq_true rfl) hR.1, Nat.le_trans (Nat.le_of_ble_eq_true rfl) hR.2⟩ ⟨rfl, rfl⟩ ⟨Nat.zero_le _, Nat.zero_le _⟩ (Nat.le_of_ble_eq_true rfl) dX3_press_48 (fun H locs I => ?_)
    refine lv_if_eq (tgt := 58) X.1 X.2.1 dX3_press_51 (by decide) (fun c14 => ?_) (fun c14 => ?_)
    · replace h := m_ifT c14 h
      refine lv_iconst (v := 1) X.1 X.2.1 dX3_press_58 (by decide) ?_
      exact k59 st v3 1 v2 H locs ls h I (lv_sub hl [0, 1, 3] rfl)
    · replace h := m_ifF c14 h
      refine lv_iconst (v := 0) X.1 X.2.1 dX3_press_54 (by decide) ?_
      refine lv_goto (tgt := 59) X.1 X.2.1 dX3_press_55 (by decide) ?_
      exact k59 st v3 0 v2 H locs ls h I (lv_sub hl [0, 1, 3] rfl)
theorem wf_press_L89 (X : m_X D A d p s m c cX3_press 4 args) (hA : ∀ q, s.heap.size ≤ q → A q) (hR : 6 ≤ R.frames ∧ 145 ≤ R.locals) (n : Nat) (v1 : Int32) (x : (Int32 × MS)) (z : MS) (hz : f_press_L89l n v1 x = some z) (hE : (fun (z : MS) => ∀ (H : Heap) (locs : List Loc) (ls : Array Slot), m_I D A d s.heap z H locs → lv_has ls 4 [(0, .ref d.1), (1, .int v1)] → W p l e R s m args below meth c H locs 0 0 Q (F0 m 113 ls [])) z) : (fun (x : (Int32 × MS)) => ∀ (H : Heap) (locs : List Loc) (ls : Array Slot), m_I D A d s.heap x.2 H locs → lv_has ls 4 [(0, .ref d.1), (1, .int v1), (3, .int x.1)] → W p l e R s m args below meth c H locs 0 0 Q (F0 m 89 ls [])) x := by
  refine m_lpW (G := fun (x : (Int32 × MS)) => ∀ (H : Heap) (locs : List Loc) (ls : Array Slot), m_I D A d s.heap x.2 H locs → lv_has ls 4 [(0, .ref d.1), (1, .int v1), (3, .int x.1)] → W p l e R s m args below meth c H locs 0 0 Q (F0 m 89 ls [])) (E := fun (z : MS) => ∀ (H : Heap) (locs : List Loc) (ls : Array Slot), m_I D A d s.heap z H locs → lv_has ls 4 [(0, .ref d.1), (1, .int v1)] → W p l e R s m args below meth c H locs 0 0 Q (F0 m 113 ls [])) ?_ n x z hz hE
  rintro ⟨v3, st⟩ r h hr H locs ls I hl
  replace h : f_press_L89 n v1 v3 st = some r := h
  have k107 : ∀ (st : MS) (v3 : Int32) (H : Heap) (locs : List Loc) (ls : Array Slot), f_press_J107 n st v1 v3 = some r → m_I D A d s.heap st H locs → lv_has ls 4 [(0, .ref d.1), (1, .int v1), (3, .int v3)] → W p l e R s m args below meth c H locs 0 0 Q (F0 m 107 ls []) := by
    intro st v3 H locs ls h I hl
    unfold f_press_J107 at h
    refine lv_iinc (v := v3 + (-1)) (lv' := [(3, .int (v3 + (-1))), (0, .ref d.1), (1, .int v1)]) X.1 X.2.1 dX3_press_107 hl (k := 2) rfl rfl (by decide) rfl (fun ls hl => ?_)
    refine lv_goto (tgt := 89) X.1 X.2.1 dX3_press_110 (by decide) ?_
    cases h
    exact hr H locs ls I (lv_sub hl [1, 2, 0] rfl)
  unfold f_press_L89 at h
  refine lv_iload_n X.1 X.2.1 dX3_press_89 rfl (lv_at hl 2 rfl) ?_
  refine lv_if_lt (tgt := 113) X.1 X.2.1 dX3_press_90 (by decide) (fun c22 => ?_) (fun c22 => ?_)
  · replace h := m_ifT c22 h
    cases h
    exact hr H locs ls I (lv_sub hl [0, 1] rfl)
  · replace h := m_ifF c22 h
    refine lv_aload_n X.1 X.2.1 dX3_press_93 rfl (lv_at hl 0 rfl) ?_
    refine lv_iload_n X.1 X.2.1 dX3_press_94 rfl (lv_at hl 2 rfl) ?_
    refine lv_iload_n X.1 X.2.1 dX3_press_95 rfl (lv_at hl 1 rfl) ?_
    obtain ⟨r24, e23, h⟩ := m_bS h
    refine m_callI X hl.1 I hA (As := [.int v3, .int v1]) (rest := []) (c_isFree l n D d st v3 v1 _ e23) 2 q1776 q1778 qs68 q107 q1779 (hd_isFree) rfl rfl ⟨Nat.le_trans (Nat.le_of_ble_eq_true rfl) hR.1, Nat.le_trans (Nat.le_of_ble_eq_true rfl) hR.2⟩ ⟨rfl, rfl⟩ ⟨Nat.zero_le _, Nat.zero_le _⟩ (Nat.le_of_ble_eq_true rfl) dX3_press_96 (fun H locs I => ?_)
    refine lv_if_eq (tgt := 107) X.1 X.2.1 dX3_press_99 (by decide) (fun c25 => ?_) (fun c25 => ?_)
    · replace h := m_ifT c25 h
      exact k107 st v3 H locs ls h I (lv_sub hl [0, 1, 2] rfl)
    · replace h := m_ifF c25 h
      refine lv_aload_n X.1 X.2.1 dX3_press_102 rfl (lv_at hl 0 rfl) ?_
      refine lv_iload_n X.1 X.2.1 dX3_press_103 rfl (lv_at hl 2 rfl) ?_
      obtain ⟨s27, e26, h⟩ := m_bS h
      refine m_callV X hl.1 I hA (As := [.int v3]) (rest := []) (c_goes l n D d st v3 _ e26) 1 q1741 q1743 qs66 q107 q1744 (hd_goes) rfl rfl ⟨Nat.le_trans (Nat.le_of_ble_eq_true rfl) hR.1, Nat.le_trans (Nat.le_of_ble_eq_true rfl) hR.2⟩ ⟨rfl, rfl⟩ ⟨Nat.zero_le _, Nat.zero_le _⟩ (Nat.le_of_ble_eq_true rfl) dX3_press_104 (fun H locs I => ?_)
      exact k107 s27 v3 H locs ls h I (lv_sub hl [0, 1, 2] rfl)
theorem wf_press_L115 (X : m_X D A d p s m c cX3_press 4 args) (hA : ∀ q, s.heap.size ≤ q → A q) (hR : 6 ≤ R.frames ∧ 145 ≤ R.locals) (n : Nat) (v1 : Int32) (x : (Int32 × MS)) (z : MS) (hz : f_press_L115l n v1 x = some z) (hE : (fun (z : MS) => ∀ (H : Heap) (locs : List Loc) (ls : Array Slot), m_I D A d s.heap z H locs → lv_has ls 4 [(0, .ref d.1)] → W p l e R s m args below meth c H locs 0 0 Q (F0 m 155 ls [])) z) : (fun (x : (Int32 × MS)) => ∀ (H : Heap) (locs : List Loc) (ls : Array Slot), m_I D A d s.heap x.2 H locs → lv_has ls 4 [(0, .ref d.1), (1, .int v1), (3, .int x.1)] → W p l e R s m args below meth c H locs 0 0 Q (F0 m 115 ls [])) x := by
  refine m_lpW (G := fun (x : (Int32 × MS)) => ∀ (H : Heap) (locs : List Loc) (ls : Array Slot), m_I D A d s.heap x.2 H locs → lv_has ls 4 [(0, .ref d.1), (1, .int v1), (3, .int x.1)] → W p l e R s m args below meth c H locs 0 0 Q (F0 m 115 ls [])) (E := fun (z : MS) => ∀ (H : Heap) (locs : List Loc) (ls : Array Slot), m_I D A d s.heap z H locs → lv_has ls 4 [(0, .ref d.1)] → W p l e R s m args below meth c H locs 0 0 Q (F0 m 155 ls [])) ?_ n x z hz hE
  rintro ⟨v3, st⟩ r h hr H locs ls I hl
  replace h : f_press_L115 n v1 v3 st = some r := h
  have k149 : ∀ (st : MS) (v3 : Int32) (H : Heap) (locs : List Loc) (ls : Array Slot), f_press_J149 n st v1 v3 = some r → m_I D A d s.heap st H locs → lv_has ls 4 [(0, .ref d.1), (1, .int v1), (3, .int v3)] → W p l e R s m args below meth c H locs 0 0 Q (F0 m 149 ls []) := by
    intro st v3 H locs ls h I hl
    unfold f_press_J149 at h
    refine lv_iinc (v := v3 + 1) (lv' := [(3, .int (v3 + 1)), (0, .ref d.1), (1, .int v1)]) X.1 X.2.1 dX3_press_149 hl (k := 2) rfl rfl (by decide) rfl (fun ls hl => ?_)
    refine lv_goto (tgt := 115) X.1 X.2.1 dX3_press_152 (by decide) ?_
    cases h
    exact hr H locs ls I (lv_sub hl [1, 2, 0] rfl)
  unfold f_press_L115 at h
  refine lv_iload_n X.1 X.2.1 dX3_press_115 rfl (lv_at hl 2 rfl) ?_
  refine lv_bipush (v := 64) X.1 X.2.1 dX3_press_116 (by decide) ?_
  refine lv_icmp_ge (tgt := 155) X.1 X.2.1 dX3_press_118 (by decide) (fun c30 => ?_) (fun c30 => ?_)
  · replace h := m_ifT c30 h
    cases h
    exact hr H locs ls I (lv_sub hl [0] rfl)
  · replace h := m_ifF c30 h
    refine lv_aload_n X.1 X.2.1 dX3_press_121 rfl (lv_at hl 0 rfl) ?_
    refine m_get X I 22 (by decide) rfl rfl rfl q1539 (v := .ref (d.2.1 22)) rfl dX3_press_122 ?_
    refine lv_iload_n X.1 X.2.1 dX3_press_125 rfl (lv_at hl 2 rfl) ?_
    obtain ⟨g31, h⟩ := m_gS h
    refine m_iald X I 11 (n := 64) (f := st.2.1 22) rfl g31 dX3_press_126 ?_
    refine lv_if_le (tgt := 149) X.1 X.2.1 dX3_press_127 (by decide) (fun c32 => ?_) (fun c32 => ?_)
    · replace h := m_ifT c32 h
      exact k149 st v3 H locs ls h I (lv_sub hl [0, 1, 2] rfl)
    · replace h := m_ifF c32 h
      refine lv_aload_n X.1 X.2.1 dX3_press_130 rfl (lv_at hl 0 rfl) ?_
      refine lv_iload_n X.1 X.2.1 dX3_press_131 rfl (lv_at hl 2 rfl) ?_
      refine lv_bipush (v := 8) X.1 X.2.1 dX3_press_132 (by decide) ?_
      obtain ⟨g33, h⟩ := m_gS h
      refine lv_idiv X.1 X.2.1 dX3_press_134 (of_decide_eq_true g33) ?_
      refine lv_iload_n X.1 X.2.1 dX3_press_135 rfl (lv_at hl 2 rfl) ?_
      refine lv_bipush (v := 8) X.1 X.2.1 dX3_press_136 (by decide) ?_
      obtain ⟨g34, h⟩ := m_gS h
      refine lv_irem X.1 X.2.1 dX3_press_138 (of_decide_eq_true g34) ?_
      refine lv_aload_n X.1 X.2.1 dX3_press_139 rfl (lv_at hl 0 rfl) ?_
      refine m_get X I 22 (by decide) rfl rfl rfl q1539 (v := .ref (d.2.1 22)) rfl dX3_press_140 ?_
      refine lv_iload_n X.1 X.2.1 dX3_press_143 rfl (lv_at hl 2 rfl) ?_
      obtain ⟨g35, h⟩ := m_gS h
      refine m_iald X I 11 (n := 64) (f := st.2.1 22) rfl g35 dX3_press_144 ?_
      refine lv_iload_n X.1 X.2.1 dX3_press_145 rfl (lv_at hl 1 rfl) ?_
      obtain ⟨s37, e36, h⟩ := m_bS h
      refine m_callV X hl.1 I hA (As := [.int (v3 / 8), .int (v3 - v3 / 8 * 8), .int (st.2.1 22 (v3 : Int32).toNatClampNeg), .int v1]) (rest := []) (c_adds l n D d st (v3 / 8) (v3 - v3 / 8 * 8) (st.2.1 22 (v3 : Int32).toNatClampNeg) v1 _ e36) 4 q1704 q1706 qs60 q107 q1707 (hd_adds) rfl rfl ⟨Nat.le_trans (Nat.le_of_ble_eq_true rfl) hR.1, Nat.le_trans (Nat.le_of_ble_eq_true rfl) hR.2⟩ ⟨rfl, rfl⟩ ⟨Nat.zero_le _, Nat.zero_le _⟩ (Nat.le_of_ble_eq_true rfl) dX3_press_146 (fun H locs I => ?_)
      exact k149 s37 v3 H locs ls h I (lv_sub hl [0, 1, 2] rfl)
theorem w_press (X : m_X D A d p s m c cX3_press 4 args) (hA : ∀ q, s.heap.size ≤ q → A q) (hR : 6 ≤ R.frames ∧ 145 ≤ R.locals) (n : Nat) (st : MS) (p0 : Int32) (r : (Int32 × MS)) (h : f_press n st p0 = some r) (hret : ∀ (H : Heap) (locs : List Loc) (ls : Array Slot) (pc : Nat), decode cX3_press pc = .ok (.ireturn, 1) → m_I D A d s.heap r.2 H locs → W p l e R s m args below meth c H locs 0 0 Q (F0 m pc ls [.int r.1])) : ∀ (H : Heap) (locs : List Loc) (ls : Array Slot), m_I D A d s.heap st H locs → lv_has ls 4 [(0, .ref d.1), (1, .int p0)] → W p l e R s m args below meth c H locs 0 0 Q (F0 m 0 ls []) := by
  obtain ⟨r0, s0⟩ := r
  intro H locs ls I hl
  unfold f_press at h
  refine lv_aload_n X.1 X.2.1 dX3_press_0 rfl (lv_at hl 0 rfl) ?_
  refine lv_iconst (v := 0) X.1 X.2.1 dX3_press_1 (by decide) ?_
  refine m_put X I 8 (by decide) rfl rfl rfl q1525 rfl (m_set8 d _ _) dX3_press_2 (fun H locs I => ?_)
  refine lv_aload_n X.1 X.2.1 dX3_press_5 rfl (lv_at hl 0 rfl) ?_
  refine lv_iload_n X.1 X.2.1 dX3_press_6 rfl (lv_at hl 1 rfl) ?_
  obtain ⟨r2, e1, h⟩ := m_bS h
  refine m_callI X hl.1 I hA (As := [.int p0]) (rest := []) (c_isKind l n D d (m_sg st 8 0) p0 _ e1) 1 q1724 q1726 qs63 q107 q1727 (hd_isKind) rfl rfl ⟨Nat.le_trans (Nat.le_of_ble_eq_true rfl) hR.1, Nat.le_trans (Nat.le_of_ble_eq_true rfl) hR.2⟩ ⟨rfl, rfl⟩ ⟨Nat.zero_le _, Nat.zero_le _⟩ (Nat.le_of_ble_eq_true rfl) dX3_press_7 (fun H locs I => ?_)
  refine lv_if_ne (tgt := 16) X.1 X.2.1 dX3_press_10 (by decide) (fun c3 => ?_) (fun c3 => ?_)
  · replace h := m_ifF c3 h
    refine lv_aload_n X.1 X.2.1 dX3_press_16 rfl (lv_at hl 0 rfl) ?_
    refine lv_iload_n X.1 X.2.1 dX3_press_17 rfl (lv_at hl 1 rfl) ?_
    obtain ⟨r5, s6, e4, h⟩ := m_b2S h
    refine m_callI X hl.1 I hA (As := [.int p0]) (rest := []) (c_pressesFirst l n D d (m_sg st 8 0) p0 _ _ e4) 1 q1927 q1929 qs90 q107 q1930 (hd_pressesFirst) rfl rfl ⟨Nat.le_trans (Nat.le_of_ble_eq_true rfl) hR.1, Nat.le_trans (Nat.le_of_ble_eq_true rfl) hR.2⟩ ⟨rfl, rfl⟩ ⟨Nat.zero_le _, Nat.zero_le _⟩ (Nat.le_of_ble_eq_true rfl) dX3_press_18 (fun H locs I => ?_)
    refine lv_if_ne (tgt := 27) X.1 X.2.1 dX3_press_21 (by decide) (fun c7 => ?_) (fun c7 => ?_)
    · replace h := m_ifF c7 h
      refine lv_aload_n X.1 X.2.1 dX3_press_27 rfl (lv_at hl 0 rfl) ?_
      obtain ⟨r9, e8, h⟩ := m_bS h
      refine m_callI X hl.1 I hA (As := []) (rest := []) (c_couplesNow l n D d s6  _ e8) 0 q1943 q1945 qs93 q107 q1946 (hd_couplesNow) rfl rfl ⟨Nat.le_trans (Nat.le_of_ble_eq_true rfl) hR.1, Nat.le_trans (Nat.le_of_ble_eq_true rfl) hR.2⟩ ⟨rfl, rfl⟩ ⟨Nat.zero_le _, Nat.zero_le _⟩ (Nat.le_of_ble_eq_true rfl) dX3_press_28 (fun H locs I => ?_)
      refine lv_istore_n (lv' := [(2, .int r9), (0, .ref d.1), (1, .int p0)]) X.1 X.2.1 dX3_press_31 rfl hl (by decide) rfl (fun ls hl => ?_)
      refine lv_iconst (v := 0) X.1 X.2.1 dX3_press_32 (by decide) ?_
      refine lv_istore_n (lv' := [(3, .int 0), (2, .int r9), (0, .ref d.1), (1, .int p0)]) X.1 X.2.1 dX3_press_33 rfl hl (by decide) rfl (fun ls hl => ?_)
      obtain ⟨⟨z16, s17⟩, e15, h⟩ := m_bS h
      refine wf_press_L34 X hA hR n p0 _ _ e15 (fun H locs ls I hl => ?_) H locs ls I (lv_sub hl [2, 3, 1, 0] rfl)
      refine lv_iload_n X.1 X.2.1 dX3_press_67 rfl (lv_at hl 2 rfl) ?_
      refine lv_bipush (v := 40) X.1 X.2.1 dX3_press_68 (by decide) ?_
      refine lv_icmp_le (tgt := 76) X.1 X.2.1 dX3_press_70 (by decide) (fun c18 => ?_) (fun c18 => ?_)
      · replace h := m_ifT c18 h
        refine lv_aload_n X.1 X.2.1 dX3_press_76 rfl (lv_at hl 0 rfl) ?_
        obtain ⟨s20, e19, h⟩ := m_bS h
        refine m_callV X hl.1 I hA (As := []) (rest := []) (c_remembers l n D d s17  _ e19) 0 q1729 q1731 qs64 q107 q1732 (hd_remembers) rfl rfl ⟨Nat.le_trans (Nat.le_of_ble_eq_true rfl) hR.1, Nat.le_trans (Nat.le_of_ble_eq_true rfl) hR.2⟩ ⟨rfl, rfl⟩ ⟨Nat.zero_le _, Nat.zero_le _⟩ (Nat.le_of_ble_eq_true rfl) dX3_press_77 (fun H locs I => ?_)
        refine lv_aload_n X.1 X.2.1 dX3_press_80 rfl (lv_at hl 0 rfl) ?_
        refine m_get X I 0 (by decide) rfl rfl rfl q1517 (v := .ref (d.2.1 0)) rfl dX3_press_81 ?_
        refine lv_iconst (v := 0) X.1 X.2.1 dX3_press_84 (by decide) ?_
        obtain ⟨g21, h⟩ := m_gS h
        refine m_iald X I 1 (n := 266) (f := s20.2.1 0) rfl g21 dX3_press_85 ?_
        refine lv_iconst (v := 1) X.1 X.2.1 dX3_press_86 (by decide) ?_
        refine lv_isub X.1 X.2.1 dX3_press_87 ?_
        refine lv_istore_n (lv' := [(3, .int ((s20.2.1 0 (0 : Int32).toNatClampNeg) - 1)), (0, .ref d.1), (1, .int p0), (2, .int z16)]) X.1 X.2.1 dX3_press_88 rfl hl (by decide) rfl (fun ls hl => ?_)
        obtain ⟨s29, e28, h⟩ := m_bS h
        refine wf_press_L89 X hA hR n p0 _ _ e28 (fun H locs ls I hl => ?_) H locs ls I (lv_sub hl [1, 2, 0] rfl)
        refine lv_iconst (v := 0) X.1 X.2.1 dX3_press_113 (by decide) ?_
        refine lv_istore_n (lv' := [(3, .int 0), (0, .ref d.1), (1, .int p0)]) X.1 X.2.1 dX3_press_114 rfl hl (by decide) rfl (fun ls hl => ?_)
        obtain ⟨s39, e38, h⟩ := m_bS h
        refine wf_press_L115 X hA hR n p0 _ _ e38 (fun H locs ls I hl => ?_) H locs ls I (lv_sub hl [1, 2, 0] rfl)
        refine lv_aload_n X.1 X.2.1 dX3_press_155 rfl (lv_at hl 0 rfl) ?_
        refine m_get X I 0 (by decide) rfl rfl rfl q1517 (v := .ref (d.2.1 0)) rfl dX3_press_156 ?_
        refine lv_iconst (v := 0) X.1 X.2.1 dX3_press_159 (by decide) ?_
        obtain ⟨g40, h⟩ := m_gS h
        refine m_iald X I 1 (n := 266) (f := s39.2.1 0) rfl g40 dX3_press_160 ?_
        obtain ⟨rfl, rfl⟩ := m_e2 h
        exact hret H locs ls 161 dX3_press_161 I
      · replace h := m_ifF c18 h
        refine lv_bipush (v := (-4)) X.1 X.2.1 dX3_press_73 (by decide) ?_
        obtain ⟨rfl, rfl⟩ := m_e2 h
        exact hret H locs ls 75 dX3_press_75 I
    · replace h := m_ifT c7 h
      refine lv_bipush (v := (-5)) X.1 X.2.1 dX3_press_24 (by decide) ?_
      obtain ⟨rfl, rfl⟩ := m_e2 h
      exact hret H locs ls 26 dX3_press_26 I
  · replace h := m_ifT c3 h
    refine lv_bipush (v := (-2)) X.1 X.2.1 dX3_press_13 (by decide) ?_
    obtain ⟨rfl, rfl⟩ := m_e2 h
    exact hret H locs ls 15 dX3_press_15 I
end S_press
theorem c_press (l : Launch) (n : Nat) (D : va_G) (d : MD) (st : MS) (p0 : Int32) (r : Int32) (st' : MS) (h : f_press n st p0 = some (r, st')) : m_Mi l yX3_press cX3_press 4 (some .int) ({ frames := 6, cells := 0, slots := 0, locals := 145 } : Room) D d st [.ref d.1, .int p0] r st' :=
  m_startI (lvl := [(0, .ref d.1), (1, .int p0)]) (by decide) rfl (Nat.le_of_ble_eq_true rfl) rfl (fun p e s m args below meth c ls X hr hlk hl hA I => w_press X hA ⟨Nat.le_refl _, Nat.le_refl _⟩ n st p0 (r, st') h (fun H locs ls pc hd I => m_iret X I hr hlk hd) _ _ ls I hl)

/-! method lineRead()V -/
def f_lineRead_J118 (n : Nat) (st : MS) : Option (MS) :=
  some (m_sg st 12 ((st.1 12) + 1))
def f_lineRead_J55 (n : Nat) (st : MS) (v1 : Int32) : Option (MS) :=
  m_if ((st.1 13 : Int32) = 0) (m_b (f_lettersHere n (m_sg st 15 ((st.1 15) ||| (1 <<< (v1 &&& 31))))) (fun r9 => m_b (f_behind n (m_sg (m_sg st 15 ((st.1 15) ||| (1 <<< (v1 &&& 31)))) 12 (((m_sg st 15 ((st.1 15) ||| (1 <<< (v1 &&& 31)))).1 12) + r9)) v1) (fun s11 => m_if ((s11.1 13 : Int32) = 0) (m_b2 (f_peek n s11) (fun r14 s15 => m_if ((r14 : Int32) = (59 : Int32)) (f_lineRead_J118 n s15) (m_b (f_fails n s15 1 (s15.1 12)) (fun s18 => f_lineRead_J118 n s18)))) (f_lineRead_J118 n s11)))) (some st)
def f_lineRead_J32 (n : Nat) (st : MS) (v1 : Int32) (v2 : Int32) : Option (MS) :=
  m_b (f_fails n st 1 v2) (fun s6 => f_lineRead_J55 n s6 v1)
def f_lineRead_J41 (n : Nat) (st : MS) (v1 : Int32) (v2 : Int32) : Option (MS) :=
  m_b (f_isFull n st v1) (fun r21 => m_if ((r21 : Int32) = 0) (f_lineRead_J55 n st v1) (m_b (f_fails n st 4 v2) (fun s24 => f_lineRead_J55 n s24 v1)))
def f_lineRead (n : Nat) (st : MS) : Option (MS) :=
  m_b2 (f_wordHere n st) (fun r2 s3 => m_if ((r2 : Int32) = ((-1) : Int32)) (f_lineRead_J32 n s3 r2 (s3.1 12)) (m_if ((r2 : Int32) = (5 : Int32)) (m_if ((((s3.1 15) >>> (5 &&& 31)) &&& 1 : Int32) = (1 : Int32)) (f_lineRead_J32 n s3 r2 (s3.1 12)) (f_lineRead_J41 n s3 r2 (s3.1 12))) (f_lineRead_J41 n s3 r2 (s3.1 12))))
theorem hd_lineRead : yX3_lineRead.cls = RX3 ∧ yX3_lineRead.cls ≠ "java/lang/invoke/MethodHandle" ∧ yX3_lineRead.cls ≠ "java/lang/invoke/VarHandle" ∧ (parseMethodDescriptor yX3_lineRead.desc).map (fun d => d.parameters.length) = some 0 := by decide +kernel
section S_lineRead
variable {p : Program} {l : Launch} {e : Env} {R : Room} {s : State} {m : MethodId} {args : Array Value} {below : List Frame} {meth : Method} {c : Code} {Q : State → Prop} {D : va_G} {A : Nat → Prop} {d : MD}
theorem w_lineRead (X : m_X D A d p s m c cX3_lineRead 3 args) (hA : ∀ q, s.heap.size ≤ q → A q) (hR : 10 ≤ R.frames ∧ 225 ≤ R.locals) (n : Nat) (st : MS) (r : MS) (h : f_lineRead n st = some r) (hret : ∀ (H : Heap) (locs : List Loc) (ls : Array Slot) (pc : Nat), decode cX3_lineRead pc = .ok (.return_, 1) → m_I D A d s.heap r H locs → W p l e R s m args below meth c H locs 0 0 Q (F0 m pc ls [])) : ∀ (H : Heap) (locs : List Loc) (ls : Array Slot), m_I D A d s.heap st H locs → lv_has ls 3 [(0, .ref d.1)] → W p l e R s m args below meth c H locs 0 0 Q (F0 m 0 ls []) := by
  have k118 : ∀ (st : MS) (H : Heap) (locs : List Loc) (ls : Array Slot), f_lineRead_J118 n st = some r → m_I D A d s.heap st H locs → lv_has ls 3 [(0, .ref d.1)] → W p l e R s m args below meth c H locs 0 0 Q (F0 m 118 ls []) := by
    intro st H locs ls h I hl
    unfold f_lineRead_J118 at h
    refine lv_aload_n X.1 X.2.1 dX3_lineRead_118 rfl (lv_at hl 0 rfl) ?_
    refine lv_dup X.1 X.2.1 dX3_lineRead_119 rfl ?_
    refine m_get X I 12 (by decide) rfl rfl rfl q1529 (v := .int (st.1 12)) rfl dX3_lineRead_120 ?_
    refine lv_iconst (v := 1) X.1 X.2.1 dX3_lineRead_123 (by decide) ?_
    refine lv_iadd X.1 X.2.1 dX3_lineRead_124 ?_
    refine m_put X I 12 (by decide) rfl rfl rfl q1529 rfl (m_set12 d _ _) dX3_lineRead_125 (fun H locs I => ?_)
    obtain rfl := m_e1 h
    exact hret H locs ls 128 dX3_lineRead_128 I
  have k55 : ∀ (st : MS) (v1 : Int32) (H : Heap) (locs : List Loc) (ls : Array Slot), f_lineRead_J55 n st v1 = some r → m_I D A d s.heap st H locs → lv_has ls 3 [(0, .ref d.1), (1, .int v1)] → W p l e R s m args below meth c H locs 0 0 Q (F0 m 55 ls []) := by
    intro st v1 H locs ls h I hl
    unfold f_lineRead_J55 at h
    refine lv_aload_n X.1 X.2.1 dX3_lineRead_55 rfl (lv_at hl 0 rfl) ?_
    refine m_get X I 13 (by decide) rfl rfl rfl q1530 (v := .int (st.1 13)) rfl dX3_lineRead_56 ?_
    refine lv_if_eq (tgt := 63) X.1 X.2.1 dX3_lineRead_59 (by decide) (fun c7 => ?_) (fun c7 => ?_)
    · replace h := m_ifT c7 h
      refine lv_aload_n X.1 X.2.1 dX3_lineRead_63 rfl (lv_at hl 0 rfl) ?_
      refine lv_dup X.1 X.2.1 dX3_lineRead_64 rfl ?_
      refine m_get X I 15 (by decide) rfl rfl rfl q1532 (v := .int (st.1 15)) rfl dX3_lineRead_65 ?_
      refine lv_iconst (v := 1) X.1 X.2.1 dX3_lineRead_68 (by decide) ?_
      refine lv_iload_n X.1 X.2.1 dX3_lineRead_69 rfl (lv_at hl 1 rfl) ?_
      refine lv_ishl X.1 X.2.1 dX3_lineRead_70 ?_
      refine lv_ior X.1 X.2.1 dX3_lineRead_71 ?_
      refine m_put X I 15 (by decide) rfl rfl rfl q1532 rfl (m_set15 d _ _) dX3_lineRead_72 (fun H locs I => ?_)
      refine lv_aload_n X.1 X.2.1 dX3_lineRead_75 rfl (lv_at hl 0 rfl) ?_
      refine lv_dup X.1 X.2.1 dX3_lineRead_76 rfl ?_
      refine m_get X I 12 (by decide) rfl rfl rfl q1529 (v := .int ((m_sg st 15 ((st.1 15) ||| (1 <<< (v1 &&& 31)))).1 12)) rfl dX3_lineRead_77 ?_
      refine lv_aload_n X.1 X.2.1 dX3_lineRead_80 rfl (lv_at hl 0 rfl) ?_
      obtain ⟨r9, e8, h⟩ := m_bS h
      refine m_callI X hl.1 I hA (As := []) (rest := [.int ((m_sg st 15 ((st.1 15) ||| (1 <<< (v1 &&& 31)))).1 12), .ref d.1]) (c_lettersHere l n D d (m_sg st 15 ((st.1 15) ||| (1 <<< (v1 &&& 31))))  _ e8) 0 q1643 q1645 qs47 q107 q1646 (hd_lettersHere) rfl rfl ⟨Nat.le_trans (Nat.le_of_ble_eq_true rfl) hR.1, Nat.le_trans (Nat.le_of_ble_eq_true rfl) hR.2⟩ ⟨rfl, rfl⟩ ⟨Nat.zero_le _, Nat.zero_le _⟩ (Nat.le_of_ble_eq_true rfl) dX3_lineRead_81 (fun H locs I => ?_)
      refine lv_iadd X.1 X.2.1 dX3_lineRead_84 ?_
      refine m_put X I 12 (by decide) rfl rfl rfl q1529 rfl (m_set12 d _ _) dX3_lineRead_85 (fun H locs I => ?_)
      refine lv_aload_n X.1 X.2.1 dX3_lineRead_88 rfl (lv_at hl 0 rfl) ?_
      refine lv_iload_n X.1 X.2.1 dX3_lineRead_89 rfl (lv_at hl 1 rfl) ?_
      obtain ⟨s11, e10, h⟩ := m_bS h
      refine m_callV X hl.1 I hA (As := [.int v1]) (rest := []) (c_behind l n D d (m_sg (m_sg st 15 ((st.1 15) ||| (1 <<< (v1 &&& 31)))) 12 (((m_sg st 15 ((st.1 15) ||| (1 <<< (v1 &&& 31)))).1 12) + r9)) v1 _ e10) 1 q1658 q1660 qs50 q107 q1661 (hd_behind) rfl rfl ⟨Nat.le_trans (Nat.le_of_ble_eq_true rfl) hR.1, Nat.le_trans (Nat.le_of_ble_eq_true rfl) hR.2⟩ ⟨rfl, rfl⟩ ⟨Nat.zero_le _, Nat.zero_le _⟩ (Nat.le_of_ble_eq_true rfl) dX3_lineRead_90 (fun H locs I => ?_)
      refine lv_aload_n X.1 X.2.1 dX3_lineRead_93 rfl (lv_at hl 0 rfl) ?_
      refine m_get X I 13 (by decide) rfl rfl rfl q1530 (v := .int (s11.1 13)) rfl dX3_lineRead_94 ?_
      refine lv_if_ne (tgt := 118) X.1 X.2.1 dX3_lineRead_97 (by decide) (fun c12 => ?_) (fun c12 => ?_)
      · replace h := m_ifF c12 h
        exact k118 s11 H locs ls h I (lv_sub hl [0] rfl)
      · replace h := m_ifT c12 h
        refine lv_aload_n X.1 X.2.1 dX3_lineRead_100 rfl (lv_at hl 0 rfl) ?_
        obtain ⟨r14, s15, e13, h⟩ := m_b2S h
        refine m_callI X hl.1 I hA (As := []) (rest := []) (c_peek l n D d s11  _ _ e13) 0 q1626 q1628 qs44 q107 q1629 (hd_peek) rfl rfl ⟨Nat.le_trans (Nat.le_of_ble_eq_true rfl) hR.1, Nat.le_trans (Nat.le_of_ble_eq_true rfl) hR.2⟩ ⟨rfl, rfl⟩ ⟨Nat.zero_le _, Nat.zero_le _⟩ (Nat.le_of_ble_eq_true rfl) dX3_lineRead_101 (fun H locs I => ?_)
        refine lv_bipush (v := 59) X.1 X.2.1 dX3_lineRead_104 (by decide) ?_
        refine lv_icmp_eq (tgt := 118) X.1 X.2.1 dX3_lineRead_106 (by decide) (fun c16 => ?_) (fun c16 => ?_)
        · replace h := m_ifT c16 h
          exact k118 s15 H locs ls h I (lv_sub hl [0] rfl)
        · replace h := m_ifF c16 h
          refine lv_aload_n X.1 X.2.1 dX3_lineRead_109 rfl (lv_at hl 0 rfl) ?_
          refine lv_iconst (v := 1) X.1 X.2.1 dX3_lineRead_110 (by decide) ?_
          refine lv_aload_n X.1 X.2.1 dX3_lineRead_111 rfl (lv_at hl 0 rfl) ?_
          refine m_get X I 12 (by decide) rfl rfl rfl q1529 (v := .int (s15.1 12)) rfl dX3_lineRead_112 ?_
          obtain ⟨s18, e17, h⟩ := m_bS h
          refine m_callV X hl.1 I hA (As := [.int 1, .int (s15.1 12)]) (rest := []) (c_fails l n D d s15 1 (s15.1 12) _ e17) 2 q1650 q1652 qs48 q107 q1653 (hd_fails) rfl rfl ⟨Nat.le_trans (Nat.le_of_ble_eq_true rfl) hR.1, Nat.le_trans (Nat.le_of_ble_eq_true rfl) hR.2⟩ ⟨rfl, rfl⟩ ⟨Nat.zero_le _, Nat.zero_le _⟩ (Nat.le_of_ble_eq_true rfl) dX3_lineRead_115 (fun H locs I => ?_)
          exact k118 s18 H locs ls h I (lv_sub hl [0] rfl)
    · replace h := m_ifF c7 h
      obtain rfl := m_e1 h
      exact hret H locs ls 62 dX3_lineRead_62 I
  have k32 : ∀ (st : MS) (v1 : Int32) (v2 : Int32) (H : Heap) (locs : List Loc) (ls : Array Slot), f_lineRead_J32 n st v1 v2 = some r → m_I D A d s.heap st H locs → lv_has ls 3 [(0, .ref d.1), (1, .int v1), (2, .int v2)] → W p l e R s m args below meth c H locs 0 0 Q (F0 m 32 ls []) := by
    intro st v1 v2 H locs ls h I hl
    unfold f_lineRead_J32 at h
    refine lv_aload_n X.1 X.2.1 dX3_lineRead_32 rfl (lv_at hl 0 rfl) ?_
    refine lv_iconst (v := 1) X.1 X.2.1 dX3_lineRead_33 (by decide) ?_
    refine lv_iload_n X.1 X.2.1 dX3_lineRead_34 rfl (lv_at hl 2 rfl) ?_
    obtain ⟨s6, e5, h⟩ := m_bS h
    refine m_callV X hl.1 I hA (As := [.int 1, .int v2]) (rest := []) (c_fails l n D d st 1 v2 _ e5) 2 q1650 q1652 qs48 q107 q1653 (hd_fails) rfl rfl ⟨Nat.le_trans (Nat.le_of_ble_eq_true rfl) hR.1, Nat.le_trans (Nat.le_of_ble_eq_true rfl) hR.2⟩ ⟨rfl, rfl⟩ ⟨Nat.zero_le _, Nat.zero_le _⟩ (Nat.le_of_ble_eq_true rfl) dX3_lineRead_35 (fun H locs I => ?_)
    refine lv_goto (tgt := 55) X.1 X.2.1 dX3_lineRead_38 (by decide) ?_
    exact k55 s6 v1 H locs ls h I (lv_sub hl [0, 1] rfl)
  have k41 : ∀ (st : MS) (v1 : Int32) (v2 : Int32) (H : Heap) (locs : List Loc) (ls : Array Slot), f_lineRead_J41 n st v1 v2 = some r → m_I D A d s.heap st H locs → lv_has ls 3 [(0, .ref d.1), (1, .int v1), (2, .int v2)] → W p l e R s m args below meth c H locs 0 0 Q (F0 m 41 ls []) := by
    intro st v1 v2 H locs ls h I hl
    unfold f_lineRead_J41 at h
    refine lv_aload_n X.1 X.2.1 dX3_lineRead_41 rfl (lv_at hl 0 rfl) ?_
    refine lv_iload_n X.1 X.2.1 dX3_lineRead_42 rfl (lv_at hl 1 rfl) ?_
    obtain ⟨r21, e20, h⟩ := m_bS h
    refine m_callI X hl.1 I hA (As := [.int v1]) (rest := []) (c_isFull l n D d st v1 _ e20) 1 q1654 q1656 qs49 q107 q1657 (hd_isFull) rfl rfl ⟨Nat.le_trans (Nat.le_of_ble_eq_true rfl) hR.1, Nat.le_trans (Nat.le_of_ble_eq_true rfl) hR.2⟩ ⟨rfl, rfl⟩ ⟨Nat.zero_le _, Nat.zero_le _⟩ (Nat.le_of_ble_eq_true rfl) dX3_lineRead_43 (fun H locs I => ?_)
    refine lv_if_eq (tgt := 55) X.1 X.2.1 dX3_lineRead_46 (by decide) (fun c22 => ?_) (fun c22 => ?_)
    · replace h := m_ifT c22 h
      exact k55 st v1 H locs ls h I (lv_sub hl [0, 1] rfl)
    · replace h := m_ifF c22 h
      refine lv_aload_n X.1 X.2.1 dX3_lineRead_49 rfl (lv_at hl 0 rfl) ?_
      refine lv_iconst (v := 4) X.1 X.2.1 dX3_lineRead_50 (by decide) ?_
      refine lv_iload_n X.1 X.2.1 dX3_lineRead_51 rfl (lv_at hl 2 rfl) ?_
      obtain ⟨s24, e23, h⟩ := m_bS h
      refine m_callV X hl.1 I hA (As := [.int 4, .int v2]) (rest := []) (c_fails l n D d st 4 v2 _ e23) 2 q1650 q1652 qs48 q107 q1653 (hd_fails) rfl rfl ⟨Nat.le_trans (Nat.le_of_ble_eq_true rfl) hR.1, Nat.le_trans (Nat.le_of_ble_eq_true rfl) hR.2⟩ ⟨rfl, rfl⟩ ⟨Nat.zero_le _, Nat.zero_le _⟩ (Nat.le_of_ble_eq_true rfl) dX3_lineRead_52 (fun H locs I => ?_)
      exact k55 s24 v1 H locs ls h I (lv_sub hl [0, 1] rfl)
  intro H locs ls I hl
  unfold f_lineRead at h
  refine lv_aload_n X.1 X.2.1 dX3_lineRead_0 rfl (lv_at hl 0 rfl) ?_
  obtain ⟨r2, s3, e1, h⟩ := m_b2S h
  refine m_callI X hl.1 I hA (As := []) (rest := []) (c_wordHere l n D d st  _ _ e1) 0 q1634 q1636 qs46 q107 q1637 (hd_wordHere) rfl rfl ⟨Nat.le_trans (Nat.le_of_ble_eq_true rfl) hR.1, Nat.le_trans (Nat.le_of_ble_eq_true rfl) hR.2⟩ ⟨rfl, rfl⟩ ⟨Nat.zero_le _, Nat.zero_le _⟩ (Nat.le_of_ble_eq_true rfl) dX3_lineRead_1 (fun H locs I => ?_)
  refine lv_istore_n (lv' := [(1, .int r2), (0, .ref d.1)]) X.1 X.2.1 dX3_lineRead_4 rfl hl (by decide) rfl (fun ls hl => ?_)
  refine lv_aload_n X.1 X.2.1 dX3_lineRead_5 rfl (lv_at hl 1 rfl) ?_
  refine m_get X I 12 (by decide) rfl rfl rfl q1529 (v := .int (s3.1 12)) rfl dX3_lineRead_6 ?_
  refine lv_istore_n (lv' := [(2, .int (s3.1 12)), (1, .int r2), (0, .ref d.1)]) X.1 X.2.1 dX3_lineRead_9 rfl hl (by decide) rfl (fun ls hl => ?_)
  refine lv_iload_n X.1 X.2.1 dX3_lineRead_10 rfl (lv_at hl 1 rfl) ?_
  refine lv_iconst (v := (-1)) X.1 X.2.1 dX3_lineRead_11 (by decide) ?_
  refine lv_icmp_eq (tgt := 32) X.1 X.2.1 dX3_lineRead_12 (by decide) (fun c4 => ?_) (fun c4 => ?_)
  · replace h := m_ifT c4 h
    exact k32 s3 r2 (s3.1 12) H locs ls h I (lv_sub hl [2, 1, 0] rfl)
  · replace h := m_ifF c4 h
    refine lv_iload_n X.1 X.2.1 dX3_lineRead_15 rfl (lv_at hl 1 rfl) ?_
    refine lv_iconst (v := 5) X.1 X.2.1 dX3_lineRead_16 (by decide) ?_
    refine lv_icmp_ne (tgt := 41) X.1 X.2.1 dX3_lineRead_17 (by decide) (fun c19 => ?_) (fun c19 => ?_)
    · replace h := m_ifF c19 h
      exact k41 s3 r2 (s3.1 12) H locs ls h I (lv_sub hl [2, 1, 0] rfl)
    · replace h := m_ifT c19 h
      refine lv_aload_n X.1 X.2.1 dX3_lineRead_20 rfl (lv_at hl 2 rfl) ?_
      refine m_get X I 15 (by decide) rfl rfl rfl q1532 (v := .int (s3.1 15)) rfl dX3_lineRead_21 ?_
      refine lv_iconst (v := 5) X.1 X.2.1 dX3_lineRead_24 (by decide) ?_
      refine lv_ishr X.1 X.2.1 dX3_lineRead_25 ?_
      refine lv_iconst (v := 1) X.1 X.2.1 dX3_lineRead_26 (by decide) ?_
      refine lv_iand X.1 X.2.1 dX3_lineRead_27 ?_
      refine lv_iconst (v := 1) X.1 X.2.1 dX3_lineRead_28 (by decide) ?_
      refine lv_icmp_ne (tgt := 41) X.1 X.2.1 dX3_lineRead_29 (by decide) (fun c25 => ?_) (fun c25 => ?_)
      · replace h := m_ifF c25 h
        exact k41 s3 r2 (s3.1 12) H locs ls h I (lv_sub hl [2, 1, 0] rfl)
      · replace h := m_ifT c25 h
        exact k32 s3 r2 (s3.1 12) H locs ls h I (lv_sub hl [2, 1, 0] rfl)
end S_lineRead
theorem c_lineRead (l : Launch) (n : Nat) (D : va_G) (d : MD) (st : MS) (st' : MS) (h : f_lineRead n st = some st') : m_Mv l yX3_lineRead cX3_lineRead 3 none ({ frames := 10, cells := 0, slots := 0, locals := 225 } : Room) D d st [.ref d.1] st' :=
  m_startV (lvl := [(0, .ref d.1)]) (by decide) rfl (Nat.le_of_ble_eq_true rfl) rfl (fun p e s m args below meth c ls X hr hlk hl hA I => w_lineRead X hA ⟨Nat.le_refl _, Nat.le_refl _⟩ n st st' h (fun H locs ls pc hd I => m_vret X I hr hlk hd) _ _ ls I hl)

/-! method pressed(III)I -/
def f_pressed_J22 (n : Nat) (st : MS) : Option (Int32 × MS) :=
  some ((-2), st)
def f_pressed_J47 (n : Nat) (st : MS) (t0 : Int32) : Option (Int32 × MS) :=
  some (t0, st)
def f_pressed (n : Nat) (st : MS) (p0 : Int32) (p1 : Int32) (p2 : Int32) : Option (Int32 × MS) :=
  m_b (f_areTwo n (m_sg st 8 0) p0 p1) (fun r2 => m_if ((r2 : Int32) = 0) (f_pressed_J22 n (m_sg st 8 0)) (m_b (f_isKind n (m_sg st 8 0) p2) (fun r5 => m_if ((r5 : Int32) = 0) (f_pressed_J22 n (m_sg st 8 0)) (m_b2 (f_pressesFirst n (m_sg st 8 0) p2) (fun r8 s9 => m_if ((r8 : Int32) = 0) (f_pressed_J47 n s9 ((-1))) (m_b (f_couple n p0 p1) (fun r12 => m_g (m_in r12 64) (f_pressed_J47 n s9 (s9.2.1 22 (r12 : Int32).toNatClampNeg)))))))))
theorem hd_pressed : yX3_pressed.cls = RX3 ∧ yX3_pressed.cls ≠ "java/lang/invoke/MethodHandle" ∧ yX3_pressed.cls ≠ "java/lang/invoke/VarHandle" ∧ (parseMethodDescriptor yX3_pressed.desc).map (fun d => d.parameters.length) = some 3 := by decide +kernel
section S_pressed
variable {p : Program} {l : Launch} {e : Env} {R : Room} {s : State} {m : MethodId} {args : Array Value} {below : List Frame} {meth : Method} {c : Code} {Q : State → Prop} {D : va_G} {A : Nat → Prop} {d : MD}
theorem w_pressed (X : m_X D A d p s m c cX3_pressed 4 args) (hA : ∀ q, s.heap.size ≤ q → A q) (hR : 6 ≤ R.frames ∧ 145 ≤ R.locals) (n : Nat) (st : MS) (p0 : Int32) (p1 : Int32) (p2 : Int32) (r : (Int32 × MS)) (h : f_pressed n st p0 p1 p2 = some r) (hret : ∀ (H : Heap) (locs : List Loc) (ls : Array Slot) (pc : Nat), decode cX3_pressed pc = .ok (.ireturn, 1) → m_I D A d s.heap r.2 H locs → W p l e R s m args below meth c H locs 0 0 Q (F0 m pc ls [.int r.1])) : ∀ (H : Heap) (locs : List Loc) (ls : Array Slot), m_I D A d s.heap st H locs → lv_has ls 4 [(0, .ref d.1), (1, .int p0), (2, .int p1), (3, .int p2)] → W p l e R s m args below meth c H locs 0 0 Q (F0 m 0 ls []) := by
  obtain ⟨r0, s0⟩ := r
  have k22 : ∀ (st : MS) (H : Heap) (locs : List Loc) (ls : Array Slot), f_pressed_J22 n st = some (r0, s0) → m_I D A d s.heap st H locs → lv_has ls 4 [] → W p l e R s m args below meth c H locs 0 0 Q (F0 m 22 ls []) := by
    intro st H locs ls h I hl
    unfold f_pressed_J22 at h
    refine lv_bipush (v := (-2)) X.1 X.2.1 dX3_pressed_22 (by decide) ?_
    obtain ⟨rfl, rfl⟩ := m_e2 h
    exact hret H locs ls 24 dX3_pressed_24 I
  have k47 : ∀ (st : MS) (t0 : Int32) (H : Heap) (locs : List Loc) (ls : Array Slot), f_pressed_J47 n st t0 = some (r0, s0) → m_I D A d s.heap st H locs → lv_has ls 4 [] → W p l e R s m args below meth c H locs 0 0 Q (F0 m 47 ls [.int t0]) := by
    intro st t0 H locs ls h I hl
    unfold f_pressed_J47 at h
    obtain ⟨rfl, rfl⟩ := m_e2 h
    exact hret H locs ls 47 dX3_pressed_47 I
  intro H locs ls I hl
  unfold f_pressed at h
  refine lv_aload_n X.1 X.2.1 dX3_pressed_0 rfl (lv_at hl 0 rfl) ?_
  refine lv_iconst (v := 0) X.1 X.2.1 dX3_pressed_1 (by decide) ?_
  refine m_put X I 8 (by decide) rfl rfl rfl q1525 rfl (m_set8 d _ _) dX3_pressed_2 (fun H locs I => ?_)
  refine lv_aload_n X.1 X.2.1 dX3_pressed_5 rfl (lv_at hl 0 rfl) ?_
  refine lv_iload_n X.1 X.2.1 dX3_pressed_6 rfl (lv_at hl 1 rfl) ?_
  refine lv_iload_n X.1 X.2.1 dX3_pressed_7 rfl (lv_at hl 2 rfl) ?_
  obtain ⟨r2, e1, h⟩ := m_bS h
  refine m_callI X hl.1 I hA (As := [.int p0, .int p1]) (rest := []) (c_areTwo l n D d (m_sg st 8 0) p0 p1 _ e1) 2 q1716 q1718 qs61 q107 q1719 (hd_areTwo) rfl rfl ⟨Nat.le_trans (Nat.le_of_ble_eq_true rfl) hR.1, Nat.le_trans (Nat.le_of_ble_eq_true rfl) hR.2⟩ ⟨rfl, rfl⟩ ⟨Nat.zero_le _, Nat.zero_le _⟩ (Nat.le_of_ble_eq_true rfl) dX3_pressed_8 (fun H locs I => ?_)
  refine lv_if_eq (tgt := 22) X.1 X.2.1 dX3_pressed_11 (by decide) (fun c3 => ?_) (fun c3 => ?_)
  · replace h := m_ifT c3 h
    exact k22 (m_sg st 8 0) H locs ls h I (lv_sub hl [] rfl)
  · replace h := m_ifF c3 h
    refine lv_aload_n X.1 X.2.1 dX3_pressed_14 rfl (lv_at hl 0 rfl) ?_
    refine lv_iload_n X.1 X.2.1 dX3_pressed_15 rfl (lv_at hl 3 rfl) ?_
    obtain ⟨r5, e4, h⟩ := m_bS h
    refine m_callI X hl.1 I hA (As := [.int p2]) (rest := []) (c_isKind l n D d (m_sg st 8 0) p2 _ e4) 1 q1724 q1726 qs63 q107 q1727 (hd_isKind) rfl rfl ⟨Nat.le_trans (Nat.le_of_ble_eq_true rfl) hR.1, Nat.le_trans (Nat.le_of_ble_eq_true rfl) hR.2⟩ ⟨rfl, rfl⟩ ⟨Nat.zero_le _, Nat.zero_le _⟩ (Nat.le_of_ble_eq_true rfl) dX3_pressed_16 (fun H locs I => ?_)
    refine lv_if_ne (tgt := 25) X.1 X.2.1 dX3_pressed_19 (by decide) (fun c6 => ?_) (fun c6 => ?_)
    · replace h := m_ifF c6 h
      refine lv_aload_n X.1 X.2.1 dX3_pressed_25 rfl (lv_at hl 0 rfl) ?_
      refine lv_iload_n X.1 X.2.1 dX3_pressed_26 rfl (lv_at hl 3 rfl) ?_
      obtain ⟨r8, s9, e7, h⟩ := m_b2S h
      refine m_callI X hl.1 I hA (As := [.int p2]) (rest := []) (c_pressesFirst l n D d (m_sg st 8 0) p2 _ _ e7) 1 q1927 q1929 qs90 q107 q1930 (hd_pressesFirst) rfl rfl ⟨Nat.le_trans (Nat.le_of_ble_eq_true rfl) hR.1, Nat.le_trans (Nat.le_of_ble_eq_true rfl) hR.2⟩ ⟨rfl, rfl⟩ ⟨Nat.zero_le _, Nat.zero_le _⟩ (Nat.le_of_ble_eq_true rfl) dX3_pressed_27 (fun H locs I => ?_)
      refine lv_if_eq (tgt := 46) X.1 X.2.1 dX3_pressed_30 (by decide) (fun c10 => ?_) (fun c10 => ?_)
      · replace h := m_ifT c10 h
        refine lv_iconst (v := (-1)) X.1 X.2.1 dX3_pressed_46 (by decide) ?_
        exact k47 s9 ((-1)) H locs ls h I (lv_sub hl [] rfl)
      · replace h := m_ifF c10 h
        refine lv_aload_n X.1 X.2.1 dX3_pressed_33 rfl (lv_at hl 0 rfl) ?_
        refine m_get X I 22 (by decide) rfl rfl rfl q1539 (v := .ref (d.2.1 22)) rfl dX3_pressed_34 ?_
        refine lv_iload_n X.1 X.2.1 dX3_pressed_37 rfl (lv_at hl 1 rfl) ?_
        refine lv_iload_n X.1 X.2.1 dX3_pressed_38 rfl (lv_at hl 2 rfl) ?_
        obtain ⟨r12, e11, h⟩ := m_bS h
        refine m_callS X hl.1 (As := [.int p0, .int p1]) (rest := [.ref (d.2.1 22)]) (c_couple l n p0 p1 _ e11) 2 q1784 q1785 q107 q1786 (hd_couple).2 rfl rfl ⟨Nat.le_trans (Nat.le_of_ble_eq_true rfl) hR.1, Nat.le_trans (Nat.le_of_ble_eq_true rfl) hR.2⟩ ⟨rfl, rfl⟩ ⟨Nat.zero_le _, Nat.zero_le _⟩ (Nat.le_of_ble_eq_true rfl) dX3_pressed_39 ?_
        obtain ⟨g13, h⟩ := m_gS h
        refine m_iald X I 11 (n := 64) (f := s9.2.1 22) rfl g13 dX3_pressed_42 ?_
        refine lv_goto (tgt := 47) X.1 X.2.1 dX3_pressed_43 (by decide) ?_
        exact k47 s9 (s9.2.1 22 (r12 : Int32).toNatClampNeg) H locs ls h I (lv_sub hl [] rfl)
    · replace h := m_ifT c6 h
      exact k22 (m_sg st 8 0) H locs ls h I (lv_sub hl [] rfl)
end S_pressed
theorem c_pressed (l : Launch) (n : Nat) (D : va_G) (d : MD) (st : MS) (p0 : Int32) (p1 : Int32) (p2 : Int32) (r : Int32) (st' : MS) (h : f_pressed n st p0 p1 p2 = some (r, st')) : m_Mi l yX3_pressed cX3_pressed 4 (some .int) ({ frames := 6, cells := 0, slots := 0, locals := 145 } : Room) D d st [.ref d.1, .int p0, .int p1, .int p2] r st' :=
  m_startI (lvl := [(0, .ref d.1), (1, .int p0), (2, .int p1), (3, .int p2)]) (by decide) rfl (Nat.le_of_ble_eq_true rfl) rfl (fun p e s m args below meth c ls X hr hlk hl hA I => w_pressed X hA ⟨Nat.le_refl _, Nat.le_refl _⟩ n st p0 p1 p2 (r, st') h (fun H locs ls pc hd I => m_iret X I hr hlk hd) _ _ ls I hl)

/-! method tell(I)I -/
def f_tell_L65 (n : Nat) (v2 : Int32) (v3 : Int32) (v4 : Int32) (st : MS) : Option ((Int32 × MS) ⊕ MS) :=
  m_if ((266 : Int32) ≤ (v4 : Int32)) (some (.inr st)) (m_g (m_in v4 266) (m_g (m_in v4 266) (some (.inl ((v4 + 1, m_sa st 1 (v4 : Int32).toNatClampNeg (st.2.1 0 (v4 : Int32).toNatClampNeg)))))))
def f_tell_L65l (n : Nat) (v2 : Int32) (v3 : Int32) (x : (Int32 × MS)) : Option MS := m_lp (fun (x : (Int32 × MS)) => f_tell_L65 n v2 v3 x.1 x.2) n x
def f_tell_L96 (n : Nat) (v2 : Int32) (v3 : Int32) (v4 : Int32) (st : MS) : Option ((Int32 × MS) ⊕ MS) :=
  m_if ((12 : Int32) ≤ (v4 : Int32)) (some (.inr st)) (m_g (m_in v4 12) (m_g (m_in v4 12) (some (.inl ((v4 + 1, m_sb st 4 (v4 : Int32).toNatClampNeg (st.2.2 3 (v4 : Int32).toNatClampNeg)))))))
def f_tell_L96l (n : Nat) (v2 : Int32) (v3 : Int32) (x : (Int32 × MS)) : Option MS := m_lp (fun (x : (Int32 × MS)) => f_tell_L96 n v2 v3 x.1 x.2) n x
def f_tell_L127 (n : Nat) (v2 : Int32) (v3 : Int32) (st : MS) : Option (MS ⊕ MS) :=
  m_if ((st.1 13 : Int32) = 0) (m_b2 (f_peek n st) (fun r22 s23 => m_if ((r22 : Int32) = ((-1) : Int32)) (some (.inr s23)) (m_b (f_lineRead n s23) (fun s26 => some (.inl s26))))) (some (.inr st))
def f_tell_L127l (n : Nat) (v2 : Int32) (v3 : Int32) (x : MS) : Option MS := m_lp (fun (x : MS) => f_tell_L127 n v2 v3 x) n x
def f_tell_L181 (n : Nat) (v4 : Int32) (st : MS) : Option ((Int32 × MS) ⊕ MS) :=
  m_if ((266 : Int32) ≤ (v4 : Int32)) (some (.inr st)) (m_g (m_in v4 266) (m_g (m_in v4 266) (some (.inl ((v4 + 1, m_sa st 0 (v4 : Int32).toNatClampNeg (st.2.1 1 (v4 : Int32).toNatClampNeg)))))))
def f_tell_L181l (n : Nat) (x : (Int32 × MS)) : Option MS := m_lp (fun (x : (Int32 × MS)) => f_tell_L181 n x.1 x.2) n x
def f_tell_L212 (n : Nat) (v4 : Int32) (st : MS) : Option ((Int32 × MS) ⊕ MS) :=
  m_if ((12 : Int32) ≤ (v4 : Int32)) (some (.inr st)) (m_g (m_in v4 12) (m_g (m_in v4 12) (some (.inl ((v4 + 1, m_sb st 3 (v4 : Int32).toNatClampNeg (st.2.2 4 (v4 : Int32).toNatClampNeg)))))))
def f_tell_L212l (n : Nat) (x : (Int32 × MS)) : Option MS := m_lp (fun (x : (Int32 × MS)) => f_tell_L212 n x.1 x.2) n x
def f_tell (n : Nat) (st : MS) (p0 : Int32) : Option (Int32 × MS) :=
  m_b (f_isIn n p0.toInt64 0 (((m_sg st 8 0).1 10 : Int32).toInt64)) (fun r2 => m_if ((r2 : Int32) = 0) (some ((-3), m_sg st 8 0)) (m_b (some ((m_sg (m_sg (m_sg (m_sg (m_sg (m_sg (m_sg st 8 0) 10 0) 11 p0) 12 0) 13 0) 14 ((-1))) 15 0).1 5)) (fun y4 => m_b (some ((m_sg (m_sg (m_sg (m_sg (m_sg (m_sg (m_sg st 8 0) 10 0) 11 p0) 12 0) 13 0) 14 ((-1))) 15 0).1 6)) (fun y6 => m_b (f_tell_L65l n y4 y6 ((0, m_sg (m_sg (m_sg (m_sg (m_sg (m_sg (m_sg st 8 0) 10 0) 11 p0) 12 0) 13 0) 14 ((-1))) 15 0))) (fun s12 => m_b (f_tell_L96l n y4 y6 ((0, s12))) (fun s17 => m_b (f_plain n s17) (fun s19 => m_b (f_tell_L127l n y4 y6 s19) (fun s28 => m_if ((s28.1 13 : Int32) = 0) (m_g (m_in 0 266) (some ((m_sg s28 7 0).2.1 0 (0 : Int32).toNatClampNeg, m_sg s28 7 0))) (m_b (f_tell_L181l n ((0, m_sg (m_sg s28 5 y4) 6 y6))) (fun s34 => m_b (f_tell_L212l n ((0, s34))) (fun s39 => some (((-30)) - (s39.1 13), s39))))))))))))
theorem hd_tell : yX3_tell.cls = RX3 ∧ yX3_tell.cls ≠ "java/lang/invoke/MethodHandle" ∧ yX3_tell.cls ≠ "java/lang/invoke/VarHandle" ∧ (parseMethodDescriptor yX3_tell.desc).map (fun d => d.parameters.length) = some 1 := by decide +kernel
section S_tell
variable {p : Program} {l : Launch} {e : Env} {R : Room} {s : State} {m : MethodId} {args : Array Value} {below : List Frame} {meth : Method} {c : Code} {Q : State → Prop} {D : va_G} {A : Nat → Prop} {d : MD}
theorem wf_tell_L65 (X : m_X D A d p s m c cX3_tell 5 args) (hA : ∀ q, s.heap.size ≤ q → A q) (hR : 11 ≤ R.frames ∧ 247 ≤ R.locals) (n : Nat) (v2 : Int32) (v3 : Int32) (x : (Int32 × MS)) (z : MS) (hz : f_tell_L65l n v2 v3 x = some z) (hE : (fun (z : MS) => ∀ (H : Heap) (locs : List Loc) (ls : Array Slot), m_I D A d s.heap z H locs → lv_has ls 5 [(0, .ref d.1), (2, .int v2), (3, .int v3)] → W p l e R s m args below meth c H locs 0 0 Q (F0 m 93 ls [])) z) : (fun (x : (Int32 × MS)) => ∀ (H : Heap) (locs : List Loc) (ls : Array Slot), m_I D A d s.heap x.2 H locs → lv_has ls 5 [(0, .ref d.1), (2, .int v2), (3, .int v3), (4, .int x.1)] → W p l e R s m args below meth c H locs 0 0 Q (F0 m 65 ls [])) x := by
  refine m_lpW (G := fun (x : (Int32 × MS)) => ∀ (H : Heap) (locs : List Loc) (ls : Array Slot), m_I D A d s.heap x.2 H locs → lv_has ls 5 [(0, .ref d.1), (2, .int v2), (3, .int v3), (4, .int x.1)] → W p l e R s m args below meth c H locs 0 0 Q (F0 m 65 ls [])) (E := fun (z : MS) => ∀ (H : Heap) (locs : List Loc) (ls : Array Slot), m_I D A d s.heap z H locs → lv_has ls 5 [(0, .ref d.1), (2, .int v2), (3, .int v3)] → W p l e R s m args below meth c H locs 0 0 Q (F0 m 93 ls [])) ?_ n x z hz hE
  rintro ⟨v4, st⟩ r h hr H locs ls I hl
  replace h : f_tell_L65 n v2 v3 v4 st = some r := h
  unfold f_tell_L65 at h
  refine lv_iload X.1 X.2.1 dX3_tell_65 (lv_at hl 3 rfl) ?_
  refine lv_sipush (v := 266) X.1 X.2.1 dX3_tell_67 (by decide) ?_
  refine lv_icmp_ge (tgt := 93) X.1 X.2.1 dX3_tell_70 (by decide) (fun c8 => ?_) (fun c8 => ?_)
  · replace h := m_ifT c8 h
    cases h
    exact hr H locs ls I (lv_sub hl [0, 1, 2] rfl)
  · replace h := m_ifF c8 h
    refine lv_aload_n X.1 X.2.1 dX3_tell_73 rfl (lv_at hl 0 rfl) ?_
    refine m_get X I 1 (by decide) rfl rfl rfl q1518 (v := .ref (d.2.1 1)) rfl dX3_tell_74 ?_
    refine lv_iload X.1 X.2.1 dX3_tell_77 (lv_at hl 3 rfl) ?_
    refine lv_aload_n X.1 X.2.1 dX3_tell_79 rfl (lv_at hl 0 rfl) ?_
    refine m_get X I 0 (by decide) rfl rfl rfl q1517 (v := .ref (d.2.1 0)) rfl dX3_tell_80 ?_
    refine lv_iload X.1 X.2.1 dX3_tell_83 (lv_at hl 3 rfl) ?_
    obtain ⟨g9, h⟩ := m_gS h
    refine m_iald X I 1 (n := 266) (f := st.2.1 0) rfl g9 dX3_tell_85 ?_
    obtain ⟨g10, h⟩ := m_gS h
    refine m_iast X I 2 (n := 266) (f := st.2.1 1) rfl (m_st1 d _ _ _) g10 dX3_tell_86 (fun H locs I => ?_)
    refine lv_iinc (v := v4 + 1) (lv' := [(4, .int (v4 + 1)), (0, .ref d.1), (2, .int v2), (3, .int v3)]) X.1 X.2.1 dX3_tell_87 hl (k := 3) rfl rfl (by decide) rfl (fun ls hl => ?_)
    refine lv_goto (tgt := 65) X.1 X.2.1 dX3_tell_90 (by decide) ?_
    cases h
    exact hr H locs ls I (lv_sub hl [1, 2, 3, 0] rfl)
theorem wf_tell_L96 (X : m_X D A d p s m c cX3_tell 5 args) (hA : ∀ q, s.heap.size ≤ q → A q) (hR : 11 ≤ R.frames ∧ 247 ≤ R.locals) (n : Nat) (v2 : Int32) (v3 : Int32) (x : (Int32 × MS)) (z : MS) (hz : f_tell_L96l n v2 v3 x = some z) (hE : (fun (z : MS) => ∀ (H : Heap) (locs : List Loc) (ls : Array Slot), m_I D A d s.heap z H locs → lv_has ls 5 [(0, .ref d.1), (2, .int v2), (3, .int v3)] → W p l e R s m args below meth c H locs 0 0 Q (F0 m 123 ls [])) z) : (fun (x : (Int32 × MS)) => ∀ (H : Heap) (locs : List Loc) (ls : Array Slot), m_I D A d s.heap x.2 H locs → lv_has ls 5 [(0, .ref d.1), (2, .int v2), (3, .int v3), (4, .int x.1)] → W p l e R s m args below meth c H locs 0 0 Q (F0 m 96 ls [])) x := by
  refine m_lpW (G := fun (x : (Int32 × MS)) => ∀ (H : Heap) (locs : List Loc) (ls : Array Slot), m_I D A d s.heap x.2 H locs → lv_has ls 5 [(0, .ref d.1), (2, .int v2), (3, .int v3), (4, .int x.1)] → W p l e R s m args below meth c H locs 0 0 Q (F0 m 96 ls [])) (E := fun (z : MS) => ∀ (H : Heap) (locs : List Loc) (ls : Array Slot), m_I D A d s.heap z H locs → lv_has ls 5 [(0, .ref d.1), (2, .int v2), (3, .int v3)] → W p l e R s m args below meth c H locs 0 0 Q (F0 m 123 ls [])) ?_ n x z hz hE
  rintro ⟨v4, st⟩ r h hr H locs ls I hl
  replace h : f_tell_L96 n v2 v3 v4 st = some r := h
  unfold f_tell_L96 at h
  refine lv_iload X.1 X.2.1 dX3_tell_96 (lv_at hl 3 rfl) ?_
  refine lv_bipush (v := 12) X.1 X.2.1 dX3_tell_98 (by decide) ?_
  refine lv_icmp_ge (tgt := 123) X.1 X.2.1 dX3_tell_100 (by decide) (fun c13 => ?_) (fun c13 => ?_)
  · replace h := m_ifT c13 h
    cases h
    exact hr H locs ls I (lv_sub hl [0, 1, 2] rfl)
  · replace h := m_ifF c13 h
    refine lv_aload_n X.1 X.2.1 dX3_tell_103 rfl (lv_at hl 0 rfl) ?_
    refine m_get X I 4 (by decide) rfl rfl rfl q1521 (v := .ref (d.2.1 4)) rfl dX3_tell_104 ?_
    refine lv_iload X.1 X.2.1 dX3_tell_107 (lv_at hl 3 rfl) ?_
    refine lv_aload_n X.1 X.2.1 dX3_tell_109 rfl (lv_at hl 0 rfl) ?_
    refine m_get X I 3 (by decide) rfl rfl rfl q1520 (v := .ref (d.2.1 3)) rfl dX3_tell_110 ?_
    refine lv_iload X.1 X.2.1 dX3_tell_113 (lv_at hl 3 rfl) ?_
    obtain ⟨g14, h⟩ := m_gS h
    refine m_lald X I 4 (n := 12) (f := st.2.2 3) rfl g14 dX3_tell_115 ?_
    obtain ⟨g15, h⟩ := m_gS h
    refine m_last X I 5 (n := 12) (f := st.2.2 4) rfl (m_st4 d _ _ _) g15 dX3_tell_116 (fun H locs I => ?_)
    refine lv_iinc (v := v4 + 1) (lv' := [(4, .int (v4 + 1)), (0, .ref d.1), (2, .int v2), (3, .int v3)]) X.1 X.2.1 dX3_tell_117 hl (k := 3) rfl rfl (by decide) rfl (fun ls hl => ?_)
    refine lv_goto (tgt := 96) X.1 X.2.1 dX3_tell_120 (by decide) ?_
    cases h
    exact hr H locs ls I (lv_sub hl [1, 2, 3, 0] rfl)
theorem wf_tell_L127 (X : m_X D A d p s m c cX3_tell 5 args) (hA : ∀ q, s.heap.size ≤ q → A q) (hR : 11 ≤ R.frames ∧ 247 ≤ R.locals) (n : Nat) (v2 : Int32) (v3 : Int32) (x : MS) (z : MS) (hz : f_tell_L127l n v2 v3 x = some z) (hE : (fun (z : MS) => ∀ (H : Heap) (locs : List Loc) (ls : Array Slot), m_I D A d s.heap z H locs → lv_has ls 5 [(0, .ref d.1), (2, .int v2), (3, .int v3)] → W p l e R s m args below meth c H locs 0 0 Q (F0 m 149 ls [])) z) : (fun (x : MS) => ∀ (H : Heap) (locs : List Loc) (ls : Array Slot), m_I D A d s.heap x H locs → lv_has ls 5 [(0, .ref d.1), (2, .int v2), (3, .int v3)] → W p l e R s m args below meth c H locs 0 0 Q (F0 m 127 ls [])) x := by
  refine m_lpW (G := fun (x : MS) => ∀ (H : Heap) (locs : List Loc) (ls : Array Slot), m_I D A d s.heap x H locs → lv_has ls 5 [(0, .ref d.1), (2, .int v2), (3, .int v3)] → W p l e R s m args below meth c H locs 0 0 Q (F0 m 127 ls [])) (E := fun (z : MS) => ∀ (H : Heap) (locs : List Loc) (ls : Array Slot), m_I D A d s.heap z H locs → lv_has ls 5 [(0, .ref d.1), (2, .int v2), (3, .int v3)] → W p l e R s m args below meth c H locs 0 0 Q (F0 m 149 ls [])) ?_ n x z hz hE
  rintro st r h hr H locs ls I hl
  replace h : f_tell_L127 n v2 v3 st = some r := h
  unfold f_tell_L127 at h
  refine lv_aload_n X.1 X.2.1 dX3_tell_127 rfl (lv_at hl 0 rfl) ?_
  refine m_get X I 13 (by decide) rfl rfl rfl q1530 (v := .int (st.1 13)) rfl dX3_tell_128 ?_
  refine lv_if_ne (tgt := 149) X.1 X.2.1 dX3_tell_131 (by decide) (fun c20 => ?_) (fun c20 => ?_)
  · replace h := m_ifF c20 h
    cases h
    exact hr H locs ls I (lv_sub hl [0, 1, 2] rfl)
  · replace h := m_ifT c20 h
    refine lv_aload_n X.1 X.2.1 dX3_tell_134 rfl (lv_at hl 0 rfl) ?_
    obtain ⟨r22, s23, e21, h⟩ := m_b2S h
    refine m_callI X hl.1 I hA (As := []) (rest := []) (c_peek l n D d st  _ _ e21) 0 q1626 q1628 qs44 q107 q1629 (hd_peek) rfl rfl ⟨Nat.le_trans (Nat.le_of_ble_eq_true rfl) hR.1, Nat.le_trans (Nat.le_of_ble_eq_true rfl) hR.2⟩ ⟨rfl, rfl⟩ ⟨Nat.zero_le _, Nat.zero_le _⟩ (Nat.le_of_ble_eq_true rfl) dX3_tell_135 (fun H locs I => ?_)
    refine lv_iconst (v := (-1)) X.1 X.2.1 dX3_tell_138 (by decide) ?_
    refine lv_icmp_eq (tgt := 149) X.1 X.2.1 dX3_tell_139 (by decide) (fun c24 => ?_) (fun c24 => ?_)
    · replace h := m_ifT c24 h
      cases h
      exact hr H locs ls I (lv_sub hl [0, 1, 2] rfl)
    · replace h := m_ifF c24 h
      refine lv_aload_n X.1 X.2.1 dX3_tell_142 rfl (lv_at hl 0 rfl) ?_
      obtain ⟨s26, e25, h⟩ := m_bS h
      refine m_callV X hl.1 I hA (As := []) (rest := []) (c_lineRead l n D d s23  _ e25) 0 q1630 q1632 qs45 q107 q1633 (hd_lineRead) rfl rfl ⟨Nat.le_trans (Nat.le_of_ble_eq_true rfl) hR.1, Nat.le_trans (Nat.le_of_ble_eq_true rfl) hR.2⟩ ⟨rfl, rfl⟩ ⟨Nat.zero_le _, Nat.zero_le _⟩ (Nat.le_of_ble_eq_true rfl) dX3_tell_143 (fun H locs I => ?_)
      refine lv_goto (tgt := 127) X.1 X.2.1 dX3_tell_146 (by decide) ?_
      cases h
      exact hr H locs ls I (lv_sub hl [0, 1, 2] rfl)
theorem wf_tell_L181 (X : m_X D A d p s m c cX3_tell 5 args) (hA : ∀ q, s.heap.size ≤ q → A q) (hR : 11 ≤ R.frames ∧ 247 ≤ R.locals) (n : Nat)  (x : (Int32 × MS)) (z : MS) (hz : f_tell_L181l n x = some z) (hE : (fun (z : MS) => ∀ (H : Heap) (locs : List Loc) (ls : Array Slot), m_I D A d s.heap z H locs → lv_has ls 5 [(0, .ref d.1)] → W p l e R s m args below meth c H locs 0 0 Q (F0 m 209 ls [])) z) : (fun (x : (Int32 × MS)) => ∀ (H : Heap) (locs : List Loc) (ls : Array Slot), m_I D A d s.heap x.2 H locs → lv_has ls 5 [(0, .ref d.1), (4, .int x.1)] → W p l e R s m args below meth c H locs 0 0 Q (F0 m 181 ls [])) x := by
  refine m_lpW (G := fun (x : (Int32 × MS)) => ∀ (H : Heap) (locs : List Loc) (ls : Array Slot), m_I D A d s.heap x.2 H locs → lv_has ls 5 [(0, .ref d.1), (4, .int x.1)] → W p l e R s m args below meth c H locs 0 0 Q (F0 m 181 ls [])) (E := fun (z : MS) => ∀ (H : Heap) (locs : List Loc) (ls : Array Slot), m_I D A d s.heap z H locs → lv_has ls 5 [(0, .ref d.1)] → W p l e R s m args below meth c H locs 0 0 Q (F0 m 209 ls [])) ?_ n x z hz hE
  rintro ⟨v4, st⟩ r h hr H locs ls I hl
  replace h : f_tell_L181 n v4 st = some r := h
  unfold f_tell_L181 at h
  refine lv_iload X.1 X.2.1 dX3_tell_181 (lv_at hl 1 rfl) ?_
  refine lv_sipush (v := 266) X.1 X.2.1 dX3_tell_183 (by decide) ?_
  refine lv_icmp_ge (tgt := 209) X.1 X.2.1 dX3_tell_186 (by decide) (fun c30 => ?_) (fun c30 => ?_)
  · replace h := m_ifT c30 h
    cases h
    exact hr H locs ls I (lv_sub hl [0] rfl)
  · replace h := m_ifF c30 h
    refine lv_aload_n X.1 X.2.1 dX3_tell_189 rfl (lv_at hl 0 rfl) ?_
    refine m_get X I 0 (by decide) rfl rfl rfl q1517 (v := .ref (d.2.1 0)) rfl dX3_tell_190 ?_
    refine lv_iload X.1 X.2.1 dX3_tell_193 (lv_at hl 1 rfl) ?_
    refine lv_aload_n X.1 X.2.1 dX3_tell_195 rfl (lv_at hl 0 rfl) ?_
    refine m_get X I 1 (by decide) rfl rfl rfl q1518 (v := .ref (d.2.1 1)) rfl dX3_tell_196 ?_
    refine lv_iload X.1 X.2.1 dX3_tell_199 (lv_at hl 1 rfl) ?_
    obtain ⟨g31, h⟩ := m_gS h
    refine m_iald X I 2 (n := 266) (f := st.2.1 1) rfl g31 dX3_tell_201 ?_
    obtain ⟨g32, h⟩ := m_gS h
    refine m_iast X I 1 (n := 266) (f := st.2.1 0) rfl (m_st0 d _ _ _) g32 dX3_tell_202 (fun H locs I => ?_)
    refine lv_iinc (v := v4 + 1) (lv' := [(4, .int (v4 + 1)), (0, .ref d.1)]) X.1 X.2.1 dX3_tell_203 hl (k := 1) rfl rfl (by decide) rfl (fun ls hl => ?_)
    refine lv_goto (tgt := 181) X.1 X.2.1 dX3_tell_206 (by decide) ?_
    cases h
    exact hr H locs ls I (lv_sub hl [1, 0] rfl)
theorem wf_tell_L212 (X : m_X D A d p s m c cX3_tell 5 args) (hA : ∀ q, s.heap.size ≤ q → A q) (hR : 11 ≤ R.frames ∧ 247 ≤ R.locals) (n : Nat)  (x : (Int32 × MS)) (z : MS) (hz : f_tell_L212l n x = some z) (hE : (fun (z : MS) => ∀ (H : Heap) (locs : List Loc) (ls : Array Slot), m_I D A d s.heap z H locs → lv_has ls 5 [(0, .ref d.1)] → W p l e R s m args below meth c H locs 0 0 Q (F0 m 239 ls [])) z) : (fun (x : (Int32 × MS)) => ∀ (H : Heap) (locs : List Loc) (ls : Array Slot), m_I D A d s.heap x.2 H locs → lv_has ls 5 [(0, .ref d.1), (4, .int x.1)] → W p l e R s m args below meth c H locs 0 0 Q (F0 m 212 ls [])) x := by
  refine m_lpW (G := fun (x : (Int32 × MS)) => ∀ (H : Heap) (locs : List Loc) (ls : Array Slot), m_I D A d s.heap x.2 H locs → lv_has ls 5 [(0, .ref d.1), (4, .int x.1)] → W p l e R s m args below meth c H locs 0 0 Q (F0 m 212 ls [])) (E := fun (z : MS) => ∀ (H : Heap) (locs : List Loc) (ls : Array Slot), m_I D A d s.heap z H locs → lv_has ls 5 [(0, .ref d.1)] → W p l e R s m args below meth c H locs 0 0 Q (F0 m 239 ls [])) ?_ n x z hz hE
  rintro ⟨v4, st⟩ r h hr H locs ls I hl
  replace h : f_tell_L212 n v4 st = some r := h
  unfold f_tell_L212 at h
  refine lv_iload X.1 X.2.1 dX3_tell_212 (lv_at hl 1 rfl) ?_
  refine lv_bipush (v := 12) X.1 X.2.1 dX3_tell_214 (by decide) ?_
  refine lv_icmp_ge (tgt := 239) X.1 X.2.1 dX3_tell_216 (by decide) (fun c35 => ?_) (fun c35 => ?_)
  · replace h := m_ifT c35 h
    cases h
    exact hr H locs ls I (lv_sub hl [0] rfl)
  · replace h := m_ifF c35 h
    refine lv_aload_n X.1 X.2.1 dX3_tell_219 rfl (lv_at hl 0 rfl) ?_
    refine m_get X I 3 (by decide) rfl rfl rfl q1520 (v := .ref (d.2.1 3)) rfl dX3_tell_220 ?_
    refine lv_iload X.1 X.2.1 dX3_tell_223 (lv_at hl 1 rfl) ?_
    refine lv_aload_n X.1 X.2.1 dX3_tell_225 rfl (lv_at hl 0 rfl) ?_
    refine m_get X I 4 (by decide) rfl rfl rfl q1521 (v := .ref (d.2.1 4)) rfl dX3_tell_226 ?_
    refine lv_iload X.1 X.2.1 dX3_tell_229 (lv_at hl 1 rfl) ?_
    obtain ⟨g36, h⟩ := m_gS h
    refine m_lald X I 5 (n := 12) (f := st.2.2 4) rfl g36 dX3_tell_231 ?_
    obtain ⟨g37, h⟩ := m_gS h
    refine m_last X I 4 (n := 12) (f := st.2.2 3) rfl (m_st3 d _ _ _) g37 dX3_tell_232 (fun H locs I => ?_)
    refine lv_iinc (v := v4 + 1) (lv' := [(4, .int (v4 + 1)), (0, .ref d.1)]) X.1 X.2.1 dX3_tell_233 hl (k := 1) rfl rfl (by decide) rfl (fun ls hl => ?_)
    refine lv_goto (tgt := 212) X.1 X.2.1 dX3_tell_236 (by decide) ?_
    cases h
    exact hr H locs ls I (lv_sub hl [1, 0] rfl)
theorem w_tell (X : m_X D A d p s m c cX3_tell 5 args) (hA : ∀ q, s.heap.size ≤ q → A q) (hR : 11 ≤ R.frames ∧ 247 ≤ R.locals) (n : Nat) (st : MS) (p0 : Int32) (r : (Int32 × MS)) (h : f_tell n st p0 = some r) (hret : ∀ (H : Heap) (locs : List Loc) (ls : Array Slot) (pc : Nat), decode cX3_tell pc = .ok (.ireturn, 1) → m_I D A d s.heap r.2 H locs → W p l e R s m args below meth c H locs 0 0 Q (F0 m pc ls [.int r.1])) : ∀ (H : Heap) (locs : List Loc) (ls : Array Slot), m_I D A d s.heap st H locs → lv_has ls 5 [(0, .ref d.1), (1, .int p0)] → W p l e R s m args below meth c H locs 0 0 Q (F0 m 0 ls []) := by
  obtain ⟨r0, s0⟩ := r
  intro H locs ls I hl
  unfold f_tell at h
  refine lv_aload_n X.1 X.2.1 dX3_tell_0 rfl (lv_at hl 0 rfl) ?_
  refine lv_iconst (v := 0) X.1 X.2.1 dX3_tell_1 (by decide) ?_
  refine m_put X I 8 (by decide) rfl rfl rfl q1525 rfl (m_set8 d _ _) dX3_tell_2 (fun H locs I => ?_)
  refine lv_iload_n X.1 X.2.1 dX3_tell_5 rfl (lv_at hl 1 rfl) ?_
  refine lv_i2l X.1 X.2.1 dX3_tell_6 rfl ?_
  refine lv_lconst (v := 0) X.1 X.2.1 dX3_tell_7 (by decide) ?_
  refine lv_aload_n X.1 X.2.1 dX3_tell_8 rfl (lv_at hl 0 rfl) ?_
  refine m_get X I 10 (by decide) rfl rfl rfl q1527 (v := .int ((m_sg st 8 0).1 10)) rfl dX3_tell_9 ?_
  refine lv_i2l X.1 X.2.1 dX3_tell_12 rfl ?_
  obtain ⟨r2, e1, h⟩ := m_bS h
  refine m_callS X hl.1 (As := [.long p0.toInt64, .long 0, .long (((m_sg st 8 0).1 10 : Int32).toInt64)]) (rest := []) (c_isIn l n p0.toInt64 0 (((m_sg st 8 0).1 10 : Int32).toInt64) _ e1) 3 q1623 q1624 q107 q1625 (hd_isIn).2 rfl rfl ⟨Nat.le_trans (Nat.le_of_ble_eq_true rfl) hR.1, Nat.le_trans (Nat.le_of_ble_eq_true rfl) hR.2⟩ ⟨rfl, rfl⟩ ⟨Nat.zero_le _, Nat.zero_le _⟩ (Nat.le_of_ble_eq_true rfl) dX3_tell_13 ?_
  refine lv_if_ne (tgt := 22) X.1 X.2.1 dX3_tell_16 (by decide) (fun c3 => ?_) (fun c3 => ?_)
  · replace h := m_ifF c3 h
    refine lv_aload_n X.1 X.2.1 dX3_tell_22 rfl (lv_at hl 0 rfl) ?_
    refine lv_iconst (v := 0) X.1 X.2.1 dX3_tell_23 (by decide) ?_
    refine m_put X I 10 (by decide) rfl rfl rfl q1527 rfl (m_set10 d _ _) dX3_tell_24 (fun H locs I => ?_)
    refine lv_aload_n X.1 X.2.1 dX3_tell_27 rfl (lv_at hl 0 rfl) ?_
    refine lv_iload_n X.1 X.2.1 dX3_tell_28 rfl (lv_at hl 1 rfl) ?_
    refine m_put X I 11 (by decide) rfl rfl rfl q1528 rfl (m_set11 d _ _) dX3_tell_29 (fun H locs I => ?_)
    refine lv_aload_n X.1 X.2.1 dX3_tell_32 rfl (lv_at hl 0 rfl) ?_
    refine lv_iconst (v := 0) X.1 X.2.1 dX3_tell_33 (by decide) ?_
    refine m_put X I 12 (by decide) rfl rfl rfl q1529 rfl (m_set12 d _ _) dX3_tell_34 (fun H locs I => ?_)
    refine lv_aload_n X.1 X.2.1 dX3_tell_37 rfl (lv_at hl 0 rfl) ?_
    refine lv_iconst (v := 0) X.1 X.2.1 dX3_tell_38 (by decide) ?_
    refine m_put X I 13 (by decide) rfl rfl rfl q1530 rfl (m_set13 d _ _) dX3_tell_39 (fun H locs I => ?_)
    refine lv_aload_n X.1 X.2.1 dX3_tell_42 rfl (lv_at hl 0 rfl) ?_
    refine lv_iconst (v := (-1)) X.1 X.2.1 dX3_tell_43 (by decide) ?_
    refine m_put X I 14 (by decide) rfl rfl rfl q1531 rfl (m_set14 d _ _) dX3_tell_44 (fun H locs I => ?_)
    refine lv_aload_n X.1 X.2.1 dX3_tell_47 rfl (lv_at hl 0 rfl) ?_
    refine lv_iconst (v := 0) X.1 X.2.1 dX3_tell_48 (by decide) ?_
    refine m_put X I 15 (by decide) rfl rfl rfl q1532 rfl (m_set15 d _ _) dX3_tell_49 (fun H locs I => ?_)
    refine lv_aload_n X.1 X.2.1 dX3_tell_52 rfl (lv_at hl 0 rfl) ?_
    refine m_get X I 5 (by decide) rfl rfl rfl q1522 (v := .int ((m_sg (m_sg (m_sg (m_sg (m_sg (m_sg (m_sg st 8 0) 10 0) 11 p0) 12 0) 13 0) 14 ((-1))) 15 0).1 5)) rfl dX3_tell_53 ?_
    obtain ⟨y4, e5, h⟩ := m_bS h
    rw [m_e1 e5]
    refine lv_istore_n (lv' := [(2, .int y4), (0, .ref d.1), (1, .int p0)]) X.1 X.2.1 dX3_tell_56 rfl hl (by decide) rfl (fun ls hl => ?_)
    refine lv_aload_n X.1 X.2.1 dX3_tell_57 rfl (lv_at hl 1 rfl) ?_
    refine m_get X I 6 (by decide) rfl rfl rfl q1523 (v := .int ((m_sg (m_sg (m_sg (m_sg (m_sg (m_sg (m_sg st 8 0) 10 0) 11 p0) 12 0) 13 0) 14 ((-1))) 15 0).1 6)) rfl dX3_tell_58 ?_
    obtain ⟨y6, e7, h⟩ := m_bS h
    rw [m_e1 e7]
    refine lv_istore_n (lv' := [(3, .int y6), (2, .int y4), (0, .ref d.1), (1, .int p0)]) X.1 X.2.1 dX3_tell_61 rfl hl (by decide) rfl (fun ls hl => ?_)
    refine lv_iconst (v := 0) X.1 X.2.1 dX3_tell_62 (by decide) ?_
    refine lv_istore (lv' := [(4, .int 0), (3, .int y6), (2, .int y4), (0, .ref d.1), (1, .int p0)]) X.1 X.2.1 dX3_tell_63 hl (by decide) rfl (fun ls hl => ?_)
    obtain ⟨s12, e11, h⟩ := m_bS h
    refine wf_tell_L65 X hA hR n y4 y6 _ _ e11 (fun H locs ls I hl => ?_) H locs ls I (lv_sub hl [3, 2, 1, 0] rfl)
    refine lv_iconst (v := 0) X.1 X.2.1 dX3_tell_93 (by decide) ?_
    refine lv_istore (lv' := [(4, .int 0), (0, .ref d.1), (2, .int y4), (3, .int y6)]) X.1 X.2.1 dX3_tell_94 hl (by decide) rfl (fun ls hl => ?_)
    obtain ⟨s17, e16, h⟩ := m_bS h
    refine wf_tell_L96 X hA hR n y4 y6 _ _ e16 (fun H locs ls I hl => ?_) H locs ls I (lv_sub hl [1, 2, 3, 0] rfl)
    refine lv_aload_n X.1 X.2.1 dX3_tell_123 rfl (lv_at hl 0 rfl) ?_
    obtain ⟨s19, e18, h⟩ := m_bS h
    refine m_callV X hl.1 I hA (As := []) (rest := []) (c_plain l n D d s17  _ e18) 0 q1512 q1514 qs43 q107 q1515 (hd_plain) rfl rfl ⟨Nat.le_trans (Nat.le_of_ble_eq_true rfl) hR.1, Nat.le_trans (Nat.le_of_ble_eq_true rfl) hR.2⟩ ⟨rfl, rfl⟩ ⟨Nat.zero_le _, Nat.zero_le _⟩ (Nat.le_of_ble_eq_true rfl) dX3_tell_124 (fun H locs I => ?_)
    obtain ⟨s28, e27, h⟩ := m_bS h
    refine wf_tell_L127 X hA hR n y4 y6 _ _ e27 (fun H locs ls I hl => ?_) H locs ls I (lv_sub hl [0, 1, 2] rfl)
    refine lv_aload_n X.1 X.2.1 dX3_tell_149 rfl (lv_at hl 0 rfl) ?_
    refine m_get X I 13 (by decide) rfl rfl rfl q1530 (v := .int (s28.1 13)) rfl dX3_tell_150 ?_
    refine lv_if_ne (tgt := 168) X.1 X.2.1 dX3_tell_153 (by decide) (fun c29 => ?_) (fun c29 => ?_)
    · replace h := m_ifF c29 h
      refine lv_aload_n X.1 X.2.1 dX3_tell_168 rfl (lv_at hl 0 rfl) ?_
      refine lv_iload_n X.1 X.2.1 dX3_tell_169 rfl (lv_at hl 1 rfl) ?_
      refine m_put X I 5 (by decide) rfl rfl rfl q1522 rfl (m_set5 d _ _) dX3_tell_170 (fun H locs I => ?_)
      refine lv_aload_n X.1 X.2.1 dX3_tell_173 rfl (lv_at hl 0 rfl) ?_
      refine lv_iload_n X.1 X.2.1 dX3_tell_174 rfl (lv_at hl 2 rfl) ?_
      refine m_put X I 6 (by decide) rfl rfl rfl q1523 rfl (m_set6 d _ _) dX3_tell_175 (fun H locs I => ?_)
      refine lv_iconst (v := 0) X.1 X.2.1 dX3_tell_178 (by decide) ?_
      refine lv_istore (lv' := [(4, .int 0), (0, .ref d.1), (2, .int y4), (3, .int y6)]) X.1 X.2.1 dX3_tell_179 hl (by decide) rfl (fun ls hl => ?_)
      obtain ⟨s34, e33, h⟩ := m_bS h
      refine wf_tell_L181 X hA hR n  _ _ e33 (fun H locs ls I hl => ?_) H locs ls I (lv_sub hl [1, 0] rfl)
      refine lv_iconst (v := 0) X.1 X.2.1 dX3_tell_209 (by decide) ?_
      refine lv_istore (lv' := [(4, .int 0), (0, .ref d.1)]) X.1 X.2.1 dX3_tell_210 hl (by decide) rfl (fun ls hl => ?_)
      obtain ⟨s39, e38, h⟩ := m_bS h
      refine wf_tell_L212 X hA hR n  _ _ e38 (fun H locs ls I hl => ?_) H locs ls I (lv_sub hl [1, 0] rfl)
      refine lv_bipush (v := (-30)) X.1 X.2.1 dX3_tell_239 (by decide) ?_
      refine lv_aload_n X.1 X.2.1 dX3_tell_241 rfl (lv_at hl 0 rfl) ?_
      refine m_get X I 13 (by decide) rfl rfl rfl q1530 (v := .int (s39.1 13)) rfl dX3_tell_242 ?_
      refine lv_isub X.1 X.2.1 dX3_tell_245 ?_
      obtain ⟨rfl, rfl⟩ := m_e2 h
      exact hret H locs ls 246 dX3_tell_246 I
    · replace h := m_ifT c29 h
      refine lv_aload_n X.1 X.2.1 dX3_tell_156 rfl (lv_at hl 0 rfl) ?_
      refine lv_iconst (v := 0) X.1 X.2.1 dX3_tell_157 (by decide) ?_
      refine m_put X I 7 (by decide) rfl rfl rfl q1524 rfl (m_set7 d _ _) dX3_tell_158 (fun H locs I => ?_)
      refine lv_aload_n X.1 X.2.1 dX3_tell_161 rfl (lv_at hl 0 rfl) ?_
      refine m_get X I 0 (by decide) rfl rfl rfl q1517 (v := .ref (d.2.1 0)) rfl dX3_tell_162 ?_
      refine lv_iconst (v := 0) X.1 X.2.1 dX3_tell_165 (by decide) ?_
      obtain ⟨g40, h⟩ := m_gS h
      refine m_iald X I 1 (n := 266) (f := (m_sg s28 7 0).2.1 0) rfl g40 dX3_tell_166 ?_
      obtain ⟨rfl, rfl⟩ := m_e2 h
      exact hret H locs ls 167 dX3_tell_167 I
  · replace h := m_ifT c3 h
    refine lv_bipush (v := (-3)) X.1 X.2.1 dX3_tell_19 (by decide) ?_
    obtain ⟨rfl, rfl⟩ := m_e2 h
    exact hret H locs ls 21 dX3_tell_21 I
end S_tell
theorem c_tell (l : Launch) (n : Nat) (D : va_G) (d : MD) (st : MS) (p0 : Int32) (r : Int32) (st' : MS) (h : f_tell n st p0 = some (r, st')) : m_Mi l yX3_tell cX3_tell 5 (some .int) ({ frames := 11, cells := 0, slots := 0, locals := 247 } : Room) D d st [.ref d.1, .int p0] r st' :=
  m_startI (lvl := [(0, .ref d.1), (1, .int p0)]) (by decide) rfl (Nat.le_of_ble_eq_true rfl) rfl (fun p e s m args below meth c ls X hr hlk hl hA I => w_tell X hA ⟨Nat.le_refl _, Nat.le_refl _⟩ n st p0 (r, st') h (fun H locs ls pc hd I => m_iret X I hr hlk hd) _ _ ls I hl)
