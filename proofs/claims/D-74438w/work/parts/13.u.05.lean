set_option maxRecDepth 100000
set_option maxHeartbeats 4000000
/-! SwapPress.others(II)I -/
def uf_X0_others_J85 (n : Nat) (d : UD) (u : UM) (v0 : Nat) (v1 : Int32) (v2 : Int32) (v3 : Int32) (v4 : Int32) : Option ((Int32 × Int32) ⊕ Int32) :=
  some (.inl ((v3, v4 + 1)))
def uf_X0_others_J67 (n : Nat) (d : UD) (u : UM) (v0 : Nat) (v1 : Int32) (v2 : Int32) (v3 : Int32) (v4 : Int32) (v5 : Nat) : Option ((Int32 × Int32) ⊕ Int32) :=
  m_b (u_ni u 6 0 v5) (fun b26 => m_b (u_ni u 6 1 v5) (fun b28 => uf_X0_others_J85 n d u v0 v1 v2 (v3 ||| (1 <<< (((b26 + b28) - v1) &&& 31))) v4))
def uf_X0_others_L5 (n : Nat) (d : UD) (u : UM) (v0 : Nat) (v1 : Int32) (v2 : Int32) (v3 : Int32) (v4 : Int32) : Option ((Int32 × Int32) ⊕ Int32) :=
  m_b (u_fr d u 1 0 v0) (fun b1 => m_b (u_nr u 2 2 b1) (fun b3 => m_b (u_cl u 13 b3) (fun f5 => m_b (uf_J2_size n d u b3) (fun r8 => m_if ((r8 : Int32) ≤ (v4 : Int32)) (some (.inr v3)) (m_b (u_fr d u 1 0 v0) (fun b10 => m_b (u_nr u 2 2 b10) (fun b12 => m_b (u_cl u 13 b12) (fun f14 => m_b (uf_J2_get n d u b12 v4) (fun r17 => m_b (u_cl u 6 r17) (fun f18 => m_b (u_ni u 6 3 r17) (fun b20 => m_if ((b20 : Int32) = (v2 : Int32)) (m_b (u_ni u 6 0 r17) (fun b23 => m_if ((b23 : Int32) = (v1 : Int32)) (uf_X0_others_J67 n d u v0 v1 v2 v3 v4 r17) (m_b (u_ni u 6 1 r17) (fun b30 => m_if ((b30 : Int32) = (v1 : Int32)) (uf_X0_others_J67 n d u v0 v1 v2 v3 v4 r17) (uf_X0_others_J85 n d u v0 v1 v2 v3 v4))))) (uf_X0_others_J85 n d u v0 v1 v2 v3 v4))))))))))))
def uf_X0_others_L5l (n : Nat) (d : UD) (u : UM) (v0 : Nat) (v1 : Int32) (v2 : Int32) (x : (Int32 × Int32)) : Option Int32 := m_lp (fun (x : (Int32 × Int32)) => uf_X0_others_L5 n d u v0 v1 v2 x.1 x.2) n x
def uf_X0_others (n : Nat) (d : UD) (u : UM) (t : Nat) (p0 : Int32) (p1 : Int32) : Option Int32 :=
  m_b (uf_X0_others_L5l n d u t p0 p1 ((0, 0))) (fun z34 => m_b (uf_J15_bitCount n d u z34) (fun r36 => some r36))
theorem uh_X0_others : yX0_others.cls = RX0 ∧ yX0_others.cls ≠ "java/lang/invoke/MethodHandle" ∧ yX0_others.cls ≠ "java/lang/invoke/VarHandle" ∧ (parseMethodDescriptor yX0_others.desc).map (fun d => d.parameters.length) = some 2 := by decide +kernel
section S_X0_others
variable {p : Program} {l : Launch} {e : Env} {R : Room} {s : State} {m : MethodId} {args : Array Value} {below : List Frame} {meth : Method} {c : Code} {Q : State → Prop} {D : va_G} {A : Nat → Prop} {d : UD} {cells slots : Nat}
theorem wuf_X0_others_L5 (X : u_X RX0 D A d p s m c cX0_others 6 args) (hA : ∀ q, s.heap.size ≤ q → A q) (hR : 3 ≤ R.frames ∧ 64 ≤ R.locals) (hf : cells ≤ R.cells ∧ slots ≤ R.slots) (n : Nat) (u : UM) (v0 : Nat) (v1 : Int32) (v2 : Int32) (x : (Int32 × Int32)) (z : Int32) (hz : uf_X0_others_L5l n d u v0 v1 v2 x = some z) (hE : (fun (z : Int32) => ∀ (H : Heap) (locs : List Loc) (ls : Array Slot), u_I D A s.heap u H locs cells → lv_has ls 6 [(3, .int z)] → W p l e R s m args below meth c H locs cells slots Q (F0 m 91 ls [])) z) : (fun (x : (Int32 × Int32)) => ∀ (H : Heap) (locs : List Loc) (ls : Array Slot), u_I D A s.heap u H locs cells → lv_has ls 6 [(0, .ref v0), (1, .int v1), (2, .int v2), (3, .int x.1), (4, .int x.2)] → W p l e R s m args below meth c H locs cells slots Q (F0 m 5 ls [])) x := by
  refine m_lpW (G := fun (x : (Int32 × Int32)) => ∀ (H : Heap) (locs : List Loc) (ls : Array Slot), u_I D A s.heap u H locs cells → lv_has ls 6 [(0, .ref v0), (1, .int v1), (2, .int v2), (3, .int x.1), (4, .int x.2)] → W p l e R s m args below meth c H locs cells slots Q (F0 m 5 ls [])) (E := fun (z : Int32) => ∀ (H : Heap) (locs : List Loc) (ls : Array Slot), u_I D A s.heap u H locs cells → lv_has ls 6 [(3, .int z)] → W p l e R s m args below meth c H locs cells slots Q (F0 m 91 ls [])) ?_ n x z hz hE
  rintro ⟨v3, v4⟩ r h hr H locs ls I hl
  replace h : uf_X0_others_L5 n d u v0 v1 v2 v3 v4 = some r := h
  have k85 : ∀ (v3 : Int32) (v4 : Int32) (H : Heap) (locs : List Loc) (ls : Array Slot), uf_X0_others_J85 n d u v0 v1 v2 v3 v4 = some r → u_I D A s.heap u H locs cells → lv_has ls 6 [(0, .ref v0), (1, .int v1), (2, .int v2), (3, .int v3), (4, .int v4)] → W p l e R s m args below meth c H locs cells slots Q (F0 m 85 ls []) := by
    intro v3 v4 H locs ls h I hl
    unfold uf_X0_others_J85 at h
    refine lv_iinc (v := v4 + 1) (lv' := [(4, .int (v4 + 1)), (0, .ref v0), (1, .int v1), (2, .int v2), (3, .int v3)]) X.1 X.2.1 dX0_others_85 hl (k := 4) rfl rfl (by decide) rfl (fun ls hl => ?_)
    refine lv_goto (tgt := 5) X.1 X.2.1 dX0_others_88 (by decide) ?_
    cases h
    exact hr H locs ls I (lv_sub hl [1, 2, 3, 4, 0] rfl)
  have k67 : ∀ (v3 : Int32) (v4 : Int32) (v5 : Nat) (H : Heap) (locs : List Loc) (ls : Array Slot), uf_X0_others_J67 n d u v0 v1 v2 v3 v4 v5 = some r → u_I D A s.heap u H locs cells → lv_has ls 6 [(0, .ref v0), (1, .int v1), (2, .int v2), (3, .int v3), (4, .int v4), (5, .ref v5)] → W p l e R s m args below meth c H locs cells slots Q (F0 m 67 ls []) := by
    intro v3 v4 v5 H locs ls h I hl
    unfold uf_X0_others_J67 at h
    refine lv_iload_n X.1 X.2.1 dX0_others_67 rfl (lv_at hl 3 rfl) ?_
    refine lv_iconst (v := 1) X.1 X.2.1 dX0_others_68 (by decide) ?_
    refine lv_aload X.1 X.2.1 dX0_others_69 (lv_at hl 5 rfl) ?_
    obtain ⟨b26, e27, h⟩ := m_bS h
    refine u_GiN X I e27 (C := RX6) (T := TX6) (N := 5) (ref := "SwapPress$Trade") (host := "SwapPress") in_X6 rfl (by decide) rfl rfl 15 rfl (fun _ h => h) dX0_others_71 ?_
    refine lv_aload X.1 X.2.1 dX0_others_74 (lv_at hl 5 rfl) ?_
    obtain ⟨b28, e29, h⟩ := m_bS h
    refine u_GiN X I e29 (C := RX6) (T := TX6) (N := 5) (ref := "SwapPress$Trade") (host := "SwapPress") in_X6 rfl (by decide) rfl rfl 17 rfl (fun _ h => h) dX0_others_76 ?_
    refine lv_iadd X.1 X.2.1 dX0_others_79 ?_
    refine lv_iload_n X.1 X.2.1 dX0_others_80 rfl (lv_at hl 1 rfl) ?_
    refine lv_isub X.1 X.2.1 dX0_others_81 ?_
    refine lv_ishl X.1 X.2.1 dX0_others_82 ?_
    refine lv_ior X.1 X.2.1 dX0_others_83 ?_
    refine lv_istore_n (lv' := [(3, .int (v3 ||| (1 <<< (((b26 + b28) - v1) &&& 31)))), (0, .ref v0), (1, .int v1), (2, .int v2), (4, .int v4), (5, .ref v5)]) X.1 X.2.1 dX0_others_84 rfl hl (by decide) rfl (fun ls hl => ?_)
    exact k85 (v3 ||| (1 <<< (((b26 + b28) - v1) &&& 31))) v4 H locs ls h I (lv_sub hl [1, 2, 3, 0, 4] rfl)
  unfold uf_X0_others_L5 at h
  refine lv_iload X.1 X.2.1 dX0_others_5 (lv_at hl 4 rfl) ?_
  refine lv_aload_n X.1 X.2.1 dX0_others_7 rfl (lv_at hl 0 rfl) ?_
  obtain ⟨b1, e2, h⟩ := m_bS h
  refine u_Gr X I e2 (C := RX0) (T := TX0) (N := 9) (ref := "SwapPress") in_X0 rfl (by decide) rfl rfl q235 (fun _ h => h) dX0_others_8 ?_
  obtain ⟨b3, e4, h⟩ := m_bS h
  refine u_GrN X I e4 (C := RX1) (T := TX1) (N := 5) (ref := "SwapPress$State") (host := "SwapPress") in_X1 rfl (by decide) rfl rfl 4 rfl (fun _ h => h) dX0_others_11 ?_
  obtain ⟨f5, e6, h⟩ := m_bS h
  obtain ⟨r8, e7, h⟩ := m_bS h
  refine u_callVp X hl.1 I hA (As := []) (rest := [.int v4]) (uk_J2_size l n D d u b3 _ e7) (u_clS e6) (C := RJ2) (T := TJ2) (N := 3) rfl 0 q853 q667 q668 q105 q669 uh_J2_size rfl rfl ⟨Nat.le_trans (Nat.le_of_ble_eq_true rfl) hR.1, Nat.le_trans (Nat.le_of_ble_eq_true rfl) hR.2⟩ hf (stk := [.int r8, .int v4]) rfl (Nat.le_of_ble_eq_true rfl) dX0_others_14 (fun H locs I => ?_)
  refine lv_icmp_ge (tgt := 91) X.1 X.2.1 dX0_others_17 (by decide) (fun c9 => ?_) (fun c9 => ?_)
  · replace h := m_ifT c9 h
    cases h
    exact hr H locs ls I (lv_sub hl [3] rfl)
  · replace h := m_ifF c9 h
    refine lv_aload_n X.1 X.2.1 dX0_others_20 rfl (lv_at hl 0 rfl) ?_
    obtain ⟨b10, e11, h⟩ := m_bS h
    refine u_Gr X I e11 (C := RX0) (T := TX0) (N := 9) (ref := "SwapPress") in_X0 rfl (by decide) rfl rfl q235 (fun _ h => h) dX0_others_21 ?_
    obtain ⟨b12, e13, h⟩ := m_bS h
    refine u_GrN X I e13 (C := RX1) (T := TX1) (N := 5) (ref := "SwapPress$State") (host := "SwapPress") in_X1 rfl (by decide) rfl rfl 4 rfl (fun _ h => h) dX0_others_24 ?_
    refine lv_iload X.1 X.2.1 dX0_others_27 (lv_at hl 4 rfl) ?_
    obtain ⟨f14, e15, h⟩ := m_bS h
    obtain ⟨r17, e16, h⟩ := m_bS h
    refine u_callVp X hl.1 I hA (As := [.int v4]) (rest := []) (uk_J2_get l n D d u b12 v4 _ e16) (u_clS e15) (C := RJ2) (T := TJ2) (N := 3) rfl 1 q929 q823 q824 q105 q825 uh_J2_get rfl rfl ⟨Nat.le_trans (Nat.le_of_ble_eq_true rfl) hR.1, Nat.le_trans (Nat.le_of_ble_eq_true rfl) hR.2⟩ hf (stk := [.ref r17]) rfl (Nat.le_of_ble_eq_true rfl) dX0_others_29 (fun H locs I => ?_)
    obtain ⟨f18, e19, h⟩ := m_bS h
    refine u_cast X I (u_clS e19) (C := RX6) (T := TX6) (N := 5) rfl q915 dX0_others_32 ?_
    refine lv_astore (lv' := [(5, .ref r17), (0, .ref v0), (1, .int v1), (2, .int v2), (3, .int v3), (4, .int v4)]) X.1 X.2.1 dX0_others_35 hl (by decide) rfl (fun ls hl => ?_)
    refine lv_aload X.1 X.2.1 dX0_others_37 (lv_at hl 0 rfl) ?_
    obtain ⟨b20, e21, h⟩ := m_bS h
    refine u_GiN X I e21 (C := RX6) (T := TX6) (N := 5) (ref := "SwapPress$Trade") (host := "SwapPress") in_X6 rfl (by decide) rfl rfl 21 rfl (fun _ h => h) dX0_others_39 ?_
    refine lv_iload_n X.1 X.2.1 dX0_others_42 rfl (lv_at hl 3 rfl) ?_
    refine lv_icmp_ne (tgt := 85) X.1 X.2.1 dX0_others_43 (by decide) (fun c22 => ?_) (fun c22 => ?_)
    · replace h := m_ifF c22 h
      exact k85 v3 v4 H locs ls h I (lv_sub hl [1, 2, 3, 4, 5] rfl)
    · replace h := m_ifT c22 h
      refine lv_aload X.1 X.2.1 dX0_others_46 (lv_at hl 0 rfl) ?_
      obtain ⟨b23, e24, h⟩ := m_bS h
      refine u_GiN X I e24 (C := RX6) (T := TX6) (N := 5) (ref := "SwapPress$Trade") (host := "SwapPress") in_X6 rfl (by decide) rfl rfl 15 rfl (fun _ h => h) dX0_others_48 ?_
      refine lv_iload_n X.1 X.2.1 dX0_others_51 rfl (lv_at hl 2 rfl) ?_
      refine lv_icmp_eq (tgt := 67) X.1 X.2.1 dX0_others_52 (by decide) (fun c25 => ?_) (fun c25 => ?_)
      · replace h := m_ifT c25 h
        exact k67 v3 v4 r17 H locs ls h I (lv_sub hl [1, 2, 3, 4, 5, 0] rfl)
      · replace h := m_ifF c25 h
        refine lv_aload X.1 X.2.1 dX0_others_55 (lv_at hl 0 rfl) ?_
        obtain ⟨b30, e31, h⟩ := m_bS h
        refine u_GiN X I e31 (C := RX6) (T := TX6) (N := 5) (ref := "SwapPress$Trade") (host := "SwapPress") in_X6 rfl (by decide) rfl rfl 17 rfl (fun _ h => h) dX0_others_57 ?_
        refine lv_iload_n X.1 X.2.1 dX0_others_60 rfl (lv_at hl 2 rfl) ?_
        refine lv_icmp_eq (tgt := 67) X.1 X.2.1 dX0_others_61 (by decide) (fun c32 => ?_) (fun c32 => ?_)
        · replace h := m_ifT c32 h
          exact k67 v3 v4 r17 H locs ls h I (lv_sub hl [1, 2, 3, 4, 5, 0] rfl)
        · replace h := m_ifF c32 h
          refine lv_goto (tgt := 85) X.1 X.2.1 dX0_others_64 (by decide) ?_
          exact k85 v3 v4 H locs ls h I (lv_sub hl [1, 2, 3, 4, 5] rfl)
theorem uw_X0_others (X : u_X RX0 D A d p s m c cX0_others 6 args) (hA : ∀ q, s.heap.size ≤ q → A q) (hR : 3 ≤ R.frames ∧ 64 ≤ R.locals) (hf : cells ≤ R.cells ∧ slots ≤ R.slots) (n : Nat) (u : UM) (t : Nat) (p0 : Int32) (p1 : Int32) (r : Int32) (h : uf_X0_others n d u t p0 p1 = some r) (hret : ∀ (H : Heap) (locs : List Loc) (ls : Array Slot) (pc : Nat), decode cX0_others pc = .ok (.ireturn, 1) → u_I D A s.heap u H locs cells → W p l e R s m args below meth c H locs cells slots Q (F0 m pc ls [.int r])) : ∀ (H : Heap) (locs : List Loc) (ls : Array Slot), u_I D A s.heap u H locs cells → lv_has ls 6 [(0, .ref t), (1, .int p0), (2, .int p1)] → W p l e R s m args below meth c H locs cells slots Q (F0 m 0 ls []) := by
  intro H locs ls I hl
  unfold uf_X0_others at h
  refine lv_iconst (v := 0) X.1 X.2.1 dX0_others_0 (by decide) ?_
  refine lv_istore_n (lv' := [(3, .int 0), (0, .ref t), (1, .int p0), (2, .int p1)]) X.1 X.2.1 dX0_others_1 rfl hl (by decide) rfl (fun ls hl => ?_)
  refine lv_iconst (v := 0) X.1 X.2.1 dX0_others_2 (by decide) ?_
  refine lv_istore (lv' := [(4, .int 0), (3, .int 0), (0, .ref t), (1, .int p0), (2, .int p1)]) X.1 X.2.1 dX0_others_3 hl (by decide) rfl (fun ls hl => ?_)
  obtain ⟨z34, e33, h⟩ := m_bS h
  refine wuf_X0_others_L5 X hA hR hf n u t p0 p1 _ _ e33 (fun H locs ls I hl => ?_) H locs ls I (lv_sub hl [2, 3, 4, 1, 0] rfl)
  refine lv_iload_n X.1 X.2.1 dX0_others_91 rfl (lv_at hl 0 rfl) ?_
  obtain ⟨r36, e35, h⟩ := m_bS h
  refine u_callSp X hl.1 I hA (As := [.int z34]) (rest := []) (uk_J15_bitCount l n D d u z34 _ e35) 1 q1199 q1200 q131 q1201 uh_J15_bitCount.2 rfl rfl ⟨Nat.le_trans (Nat.le_of_ble_eq_true rfl) hR.1, Nat.le_trans (Nat.le_of_ble_eq_true rfl) hR.2⟩ hf (stk := [.int r36]) rfl (Nat.le_of_ble_eq_true rfl) dX0_others_92 (fun H locs I => ?_)
  obtain rfl := m_e1 h
  exact hret H locs ls 95 dX0_others_95 I
end S_X0_others
theorem uk_X0_others (l : Launch) (n : Nat) (D : va_G) (d : UD) (u : UM) (t : Nat) (p0 : Int32) (p1 : Int32) (r : Int32) (h : uf_X0_others n d u t p0 p1 = some r) : u_M l yX0_others (ws_ yX0_others cX0_others 6 (some .int)) 3 64 (0, 0) D d u [.ref t, .int p0, .int p1] (some (.int r)) u :=
  u_start (own := RX0) (lvl := [(0, .ref t), (1, .int p0), (2, .int p1)]) (by decide) rfl (Nat.le_of_ble_eq_true rfl) rfl (fun p e s m args below meth c ls X hr hlk hI hl hA I hC => uw_X0_others X hA ⟨Nat.le_refl _, Nat.le_refl _⟩ ⟨Nat.zero_le _, Nat.zero_le _⟩ n u t p0 p1 r h (fun H locs ls pc hd I => u_iret X I hr hlk ⟨rfl, rfl⟩ hd) _ _ ls I hl)

/-! SwapPress.longFrom([II[I)I -/
def uf_X0_longFrom_J55 (n : Nat) (d : UD) (rc : UM → Nat → Nat → Int32 → Nat → Option ((Int32 × UM) × UC)) (u : UM) (v0 : Nat) (v1 : Nat) (v2 : Int32) (v3 : Nat) (v4 : Int32) (v5 : Int32) : Option (((Int32 × Int32 × UM) ⊕ (Int32 × UM)) × UC) :=
  some (.inl ((v4, v5 + 1, u)), (0, 0))
def uf_X0_longFrom_L16 (n : Nat) (d : UD) (rc : UM → Nat → Nat → Int32 → Nat → Option ((Int32 × UM) × UC)) (v0 : Nat) (v1 : Nat) (v2 : Int32) (v3 : Nat) (v4 : Int32) (v5 : Int32) (u : UM) : Option (((Int32 × Int32 × UM) ⊕ (Int32 × UM)) × UC) :=
  m_b (u_fr d u 1 0 v0) (fun b4 => m_b (u_cl u 2 b4) (fun f6 => m_b (uf_X1_many n d u b4) (fun r9 => m_if ((r9 : Int32) ≤ (v5 : Int32)) (some (.inr ((v4, u)), (0, 0))) (m_b (u_ldI d u v1 ((8 * v2) + v5)) (fun b11 => m_if ((b11 : Int32) ≤ 0) (uf_X0_longFrom_J55 n d rc u v0 v1 v2 v3 v4 v5) (m_b (u_cl u 1 v0) (fun f14 => u_bc u.2 (rc u v0 v1 v5 v3) (fun r17 u18 => m_b (some (if (v4 : Int32) < (r17 : Int32) then (r17 : Int32) else (v4 : Int32))) (fun y22 => uf_X0_longFrom_J55 n d rc u18 v0 v1 v2 v3 y22 v5)))))))))
def uf_X0_longFrom_L16l (n : Nat) (d : UD) (rc : UM → Nat → Nat → Int32 → Nat → Option ((Int32 × UM) × UC)) (v0 : Nat) (v1 : Nat) (v2 : Int32) (v3 : Nat) (x : (Int32 × Int32 × UM)) : Option ((Int32 × UM) × UC) := u_lp (fun (x : (Int32 × Int32 × UM)) => uf_X0_longFrom_L16 n d rc v0 v1 v2 v3 x.1 x.2.1 x.2.2) n x
def uf_X0_longFrom_body (n : Nat) (d : UD) (rc : UM → Nat → Nat → Int32 → Nat → Option ((Int32 × UM) × UC)) (u : UM) (t : Nat) (p0 : Nat) (p1 : Int32) (p2 : Nat) : Option ((Int32 × UM) × UC) :=
  m_b (u_ldI d u p2 p1) (fun b1 => m_if ((b1 : Int32) ≤ 0) (u_bl (uf_X0_longFrom_L16l n d rc t p0 p1 p2 ((0, 0, u))) (fun y31 => m_b (u_stI d y31.2 p2 p1 (y31.1 + 1)) (fun w27 => m_b (u_ldI d (w27, y31.2.2) p2 p1) (fun b29 => some ((b29, (w27, y31.2.2)), (0, 0)))))) (m_b (u_ldI d u p2 p1) (fun b34 => some ((b34, u), (0, 0)))))
theorem uh_X0_longFrom : yX0_longFrom.cls = RX0 ∧ yX0_longFrom.cls ≠ "java/lang/invoke/MethodHandle" ∧ yX0_longFrom.cls ≠ "java/lang/invoke/VarHandle" ∧ (parseMethodDescriptor yX0_longFrom.desc).map (fun d => d.parameters.length) = some 3 := by decide +kernel
section S_X0_longFrom
variable {p : Program} {l : Launch} {e : Env} {R : Room} {s : State} {m : MethodId} {args : Array Value} {below : List Frame} {meth : Method} {c : Code} {Q : State → Prop} {D : va_G} {A : Nat → Prop} {d : UD}
theorem wuf_X0_longFrom_L16 (X : u_X RX0 D A d p s m c cX0_longFrom 6 args) (hA : ∀ q, s.heap.size ≤ q → A q) (hR : 2 ≤ R.frames ∧ 40 ≤ R.locals) (rc : UM → Nat → Nat → Int32 → Nat → Option ((Int32 × UM) × UC)) {rcfr rclo : Nat} (hRc : rcfr + 1 ≤ R.frames ∧ 8 + (6 + 11) + rclo ≤ R.locals) (hrc : ∀ (u : UM) (t : Nat) (p0 : Nat) (p1 : Int32) (p2 : Nat) (r0 : Int32) (ur : UM) (C : UC), rc u t p0 p1 p2 = some ((r0, ur), C) → u_M l yX0_longFrom (ws_ yX0_longFrom cX0_longFrom 6 (some .int)) rcfr rclo C D d u [.ref t, .ref p0, .int p1, .ref p2] (some (.int r0)) ur) (n : Nat) (v0 : Nat) (v1 : Nat) (v2 : Int32) (v3 : Nat) (x : (Int32 × Int32 × UM)) (z : (Int32 × UM)) (C cr : UC) (hz : uf_X0_longFrom_L16l n d rc v0 v1 v2 v3 x = some (z, C)) (hE : (fun (z : (Int32 × UM)) (C : UC) => ∀ (H : Heap) (locs : List Loc) (ls : Array Slot) (cells slots : Nat), u_left R cells slots C → u_I D A s.heap z.2 H locs cells → lv_has ls 6 [(2, .int v2), (3, .ref v3), (4, .int z.1)] → W p l e R s m args below meth c H locs cells slots Q (F0 m 61 ls [])) z cr) : (fun (x : (Int32 × Int32 × UM)) (C : UC) => ∀ (H : Heap) (locs : List Loc) (ls : Array Slot) (cells slots : Nat), u_left R cells slots C → u_I D A s.heap x.2.2 H locs cells → lv_has ls 6 [(0, .ref v0), (1, .ref v1), (2, .int v2), (3, .ref v3), (4, .int x.1), (5, .int x.2.1)] → W p l e R s m args below meth c H locs cells slots Q (F0 m 16 ls [])) x (u_add C cr) := by
  refine u_lpW (G := fun (x : (Int32 × Int32 × UM)) (C : UC) => ∀ (H : Heap) (locs : List Loc) (ls : Array Slot) (cells slots : Nat), u_left R cells slots C → u_I D A s.heap x.2.2 H locs cells → lv_has ls 6 [(0, .ref v0), (1, .ref v1), (2, .int v2), (3, .ref v3), (4, .int x.1), (5, .int x.2.1)] → W p l e R s m args below meth c H locs cells slots Q (F0 m 16 ls [])) (E := fun (z : (Int32 × UM)) (C : UC) => ∀ (H : Heap) (locs : List Loc) (ls : Array Slot) (cells slots : Nat), u_left R cells slots C → u_I D A s.heap z.2 H locs cells → lv_has ls 6 [(2, .int v2), (3, .ref v3), (4, .int z.1)] → W p l e R s m args below meth c H locs cells slots Q (F0 m 61 ls [])) ?_ n x z C cr hz hE
  rintro ⟨v4, v5, u⟩ r C cr h hr H locs ls cells slots hC I hl
  replace h : uf_X0_longFrom_L16 n d rc v0 v1 v2 v3 v4 v5 u = some (r, C) := h
  have k55 : ∀ (u : UM) (v4 : Int32) (v5 : Int32) (H : Heap) (locs : List Loc) (ls : Array Slot) (cells slots : Nat) (C : UC), uf_X0_longFrom_J55 n d rc u v0 v1 v2 v3 v4 v5 = some (r, C) → u_left R cells slots (u_add C cr) → u_I D A s.heap u H locs cells → lv_has ls 6 [(0, .ref v0), (1, .ref v1), (2, .int v2), (3, .ref v3), (4, .int v4), (5, .int v5)] → W p l e R s m args below meth c H locs cells slots Q (F0 m 55 ls []) := by
    intro u v4 v5 H locs ls cells slots C h hC I hl
    unfold uf_X0_longFrom_J55 at h
    refine lv_iinc (v := v5 + 1) (lv' := [(5, .int (v5 + 1)), (0, .ref v0), (1, .ref v1), (2, .int v2), (3, .ref v3), (4, .int v4)]) X.1 X.2.1 dX0_longFrom_55 hl (k := 5) rfl rfl (by decide) rfl (fun ls hl => ?_)
    refine lv_goto (tgt := 16) X.1 X.2.1 dX0_longFrom_58 (by decide) ?_
    obtain ⟨rfl, rfl⟩ := m_e3 h
    exact hr H locs ls _ _ (u_left0 hC) I (lv_sub hl [1, 2, 3, 4, 5, 0] rfl)
  unfold uf_X0_longFrom_L16 at h
  refine lv_iload X.1 X.2.1 dX0_longFrom_16 (lv_at hl 5 rfl) ?_
  refine lv_aload_n X.1 X.2.1 dX0_longFrom_18 rfl (lv_at hl 0 rfl) ?_
  obtain ⟨b4, e5, h⟩ := m_bS h
  refine u_Gr X I e5 (C := RX0) (T := TX0) (N := 9) (ref := "SwapPress") in_X0 rfl (by decide) rfl rfl q235 (fun _ h => h) dX0_longFrom_19 ?_
  obtain ⟨f6, e7, h⟩ := m_bS h
  obtain ⟨r9, e8, h⟩ := m_bS h
  refine u_callVp X hl.1 I hA (As := []) (rest := [.int v5]) (uk_X1_many l n D d u b4 _ e8) (u_clS e7) (C := RX1) (T := TX1) (N := 5) rfl 0 q870 q871 q872 q102 q873 uh_X1_many rfl rfl ⟨Nat.le_trans (Nat.le_of_ble_eq_true rfl) hR.1, Nat.le_trans (Nat.le_of_ble_eq_true rfl) hR.2⟩ (u_leftLe hC) (stk := [.int r9, .int v5]) rfl (Nat.le_of_ble_eq_true rfl) dX0_longFrom_22 (fun H locs I => ?_)
  refine lv_icmp_ge (tgt := 61) X.1 X.2.1 dX0_longFrom_25 (by decide) (fun c10 => ?_) (fun c10 => ?_)
  · replace h := m_ifT c10 h
    obtain ⟨rfl, rfl⟩ := m_e3 h
    exact hr H locs ls _ _ (u_left0 hC) I (lv_sub hl [2, 3, 4] rfl)
  · replace h := m_ifF c10 h
    refine lv_aload_n X.1 X.2.1 dX0_longFrom_28 rfl (lv_at hl 1 rfl) ?_
    refine lv_bipush (v := 8) X.1 X.2.1 dX0_longFrom_29 (by decide) ?_
    refine lv_iload_n X.1 X.2.1 dX0_longFrom_31 rfl (lv_at hl 2 rfl) ?_
    refine lv_imul X.1 X.2.1 dX0_longFrom_32 ?_
    refine lv_iload X.1 X.2.1 dX0_longFrom_33 (lv_at hl 5 rfl) ?_
    refine lv_iadd X.1 X.2.1 dX0_longFrom_35 ?_
    obtain ⟨b11, e12, h⟩ := m_bS h
    refine u_LI X I e12 dX0_longFrom_36 ?_
    refine lv_if_le (tgt := 55) X.1 X.2.1 dX0_longFrom_37 (by decide) (fun c13 => ?_) (fun c13 => ?_)
    · replace h := m_ifT c13 h
      exact k55 u v4 v5 H locs ls _ _ _ h hC I (lv_sub hl [0, 1, 2, 3, 4, 5] rfl)
    · replace h := m_ifF c13 h
      refine lv_iload X.1 X.2.1 dX0_longFrom_40 (lv_at hl 4 rfl) ?_
      refine lv_aload_n X.1 X.2.1 dX0_longFrom_42 rfl (lv_at hl 0 rfl) ?_
      refine lv_aload_n X.1 X.2.1 dX0_longFrom_43 rfl (lv_at hl 1 rfl) ?_
      refine lv_iload X.1 X.2.1 dX0_longFrom_44 (lv_at hl 5 rfl) ?_
      refine lv_aload_n X.1 X.2.1 dX0_longFrom_46 rfl (lv_at hl 3 rfl) ?_
      obtain ⟨f14, e15, h⟩ := m_bS h
      obtain ⟨r17, u18, C19, C20, e16, z21, h, hq⟩ := u_bcS h
      rw [hq] at hC
      refine u_callV X hl.1 I hA (As := [.ref v1, .int v5, .ref v3]) (rest := [.int v4]) (hrc u v0 v1 v5 v3 _ _ _ e16) z21 (u_clS e15) (C := RX0) (T := TX0) (N := 9) rfl 3 q1255 q1257 qs35 q101 q1258 uh_X0_longFrom rfl rfl hRc hC (stk := [.int r17, .int v4]) rfl (Nat.le_of_ble_eq_true rfl) dX0_longFrom_47 (fun H locs cells slots hC I => ?_)
      refine va_mmax X.1 X.2.1 (X.2.2.2.2.2.1.trans hl.1.symm) X.2.2.2.1 (X.2.2.1 _ q1213) (X.2.2.1 _ q383) (X.2.2.1 _ q114) (X.2.2.1 _ q384) (Nat.le_trans (Nat.le_of_ble_eq_true rfl) hR.1) (Nat.le_trans (Nat.le_of_ble_eq_true rfl) hR.2) (u_leftLe hC).1 (u_leftLe hC).2 dX0_longFrom_50 ?_
      obtain ⟨y22, e23, h⟩ := m_bS h
      rw [m_e1 e23]
      refine lv_istore (lv' := [(4, .int y22), (0, .ref v0), (1, .ref v1), (2, .int v2), (3, .ref v3), (5, .int v5)]) X.1 X.2.1 dX0_longFrom_53 hl (by decide) rfl (fun ls hl => ?_)
      exact k55 u18 y22 v5 H locs ls _ _ _ h hC I (lv_sub hl [1, 2, 3, 4, 0, 5] rfl)
theorem uw_X0_longFrom (X : u_X RX0 D A d p s m c cX0_longFrom 6 args) (hA : ∀ q, s.heap.size ≤ q → A q) (hR : 2 ≤ R.frames ∧ 40 ≤ R.locals) (rc : UM → Nat → Nat → Int32 → Nat → Option ((Int32 × UM) × UC)) {rcfr rclo : Nat} (hRc : rcfr + 1 ≤ R.frames ∧ 8 + (6 + 11) + rclo ≤ R.locals) (hrc : ∀ (u : UM) (t : Nat) (p0 : Nat) (p1 : Int32) (p2 : Nat) (r0 : Int32) (ur : UM) (C : UC), rc u t p0 p1 p2 = some ((r0, ur), C) → u_M l yX0_longFrom (ws_ yX0_longFrom cX0_longFrom 6 (some .int)) rcfr rclo C D d u [.ref t, .ref p0, .int p1, .ref p2] (some (.int r0)) ur) (n : Nat) (u : UM) (t : Nat) (p0 : Nat) (p1 : Int32) (p2 : Nat) (r0 : Int32) (ur : UM) (C : UC) (h : uf_X0_longFrom_body n d rc u t p0 p1 p2 = some ((r0, ur), C)) (hret : ∀ (H : Heap) (locs : List Loc) (ls : Array Slot) (pc cells slots : Nat), decode cX0_longFrom pc = .ok (.ireturn, 1) → u_left R cells slots (u_add (0, 0) (0, 0)) → u_I D A s.heap ur H locs cells → W p l e R s m args below meth c H locs cells slots Q (F0 m pc ls [.int r0])) : ∀ (H : Heap) (locs : List Loc) (ls : Array Slot) (cells slots : Nat), u_left R cells slots (u_add C (0, 0)) → u_I D A s.heap u H locs cells → lv_has ls 6 [(0, .ref t), (1, .ref p0), (2, .int p1), (3, .ref p2)] → W p l e R s m args below meth c H locs cells slots Q (F0 m 0 ls []) := by
  intro H locs ls cells slots hC I hl
  unfold uf_X0_longFrom_body at h
  refine lv_aload_n X.1 X.2.1 dX0_longFrom_0 rfl (lv_at hl 3 rfl) ?_
  refine lv_iload_n X.1 X.2.1 dX0_longFrom_1 rfl (lv_at hl 2 rfl) ?_
  obtain ⟨b1, e2, h⟩ := m_bS h
  refine u_LI X I e2 dX0_longFrom_2 ?_
  refine lv_if_le (tgt := 10) X.1 X.2.1 dX0_longFrom_3 (by decide) (fun c3 => ?_) (fun c3 => ?_)
  · replace h := m_ifT c3 h
    refine lv_iconst (v := 0) X.1 X.2.1 dX0_longFrom_10 (by decide) ?_
    refine lv_istore (lv' := [(4, .int 0), (0, .ref t), (1, .ref p0), (2, .int p1), (3, .ref p2)]) X.1 X.2.1 dX0_longFrom_11 hl (by decide) rfl (fun ls hl => ?_)
    refine lv_iconst (v := 0) X.1 X.2.1 dX0_longFrom_13 (by decide) ?_
    refine lv_istore (lv' := [(5, .int 0), (4, .int 0), (0, .ref t), (1, .ref p0), (2, .int p1), (3, .ref p2)]) X.1 X.2.1 dX0_longFrom_14 hl (by decide) rfl (fun ls hl => ?_)
    obtain ⟨⟨z25, u26⟩, C32, C33, e24, h, hq⟩ := u_blS h
    rw [hq] at hC
    refine wuf_X0_longFrom_L16 X hA hR rc hRc hrc n t p0 p1 p2 _ _ _ _ e24 (fun H locs ls cells slots hC I hl => ?_) H locs ls _ _ (u_left2 hC) I (lv_sub hl [2, 3, 4, 5, 1, 0] rfl)
    refine lv_aload_n X.1 X.2.1 dX0_longFrom_61 rfl (lv_at hl 1 rfl) ?_
    refine lv_iload_n X.1 X.2.1 dX0_longFrom_62 rfl (lv_at hl 0 rfl) ?_
    refine lv_iload X.1 X.2.1 dX0_longFrom_63 (lv_at hl 2 rfl) ?_
    refine lv_iconst (v := 1) X.1 X.2.1 dX0_longFrom_65 (by decide) ?_
    refine lv_iadd X.1 X.2.1 dX0_longFrom_66 ?_
    obtain ⟨w27, e28, h⟩ := m_bS h
    refine u_SI X I e28 dX0_longFrom_67 (fun H locs I => ?_)
    refine lv_aload_n X.1 X.2.1 dX0_longFrom_68 rfl (lv_at hl 1 rfl) ?_
    refine lv_iload_n X.1 X.2.1 dX0_longFrom_69 rfl (lv_at hl 0 rfl) ?_
    obtain ⟨b29, e30, h⟩ := m_bS h
    refine u_LI X I e30 dX0_longFrom_70 ?_
    obtain ⟨he, rfl⟩ := m_e3 h
    obtain ⟨rfl, rfl⟩ := m_e4 he
    exact hret H locs ls 71 _ _ dX0_longFrom_71 hC I
  · replace h := m_ifF c3 h
    refine lv_aload_n X.1 X.2.1 dX0_longFrom_6 rfl (lv_at hl 3 rfl) ?_
    refine lv_iload_n X.1 X.2.1 dX0_longFrom_7 rfl (lv_at hl 2 rfl) ?_
    obtain ⟨b34, e35, h⟩ := m_bS h
    refine u_LI X I e35 dX0_longFrom_8 ?_
    obtain ⟨he, rfl⟩ := m_e3 h
    obtain ⟨rfl, rfl⟩ := m_e4 he
    exact hret H locs ls 9 _ _ dX0_longFrom_9 hC I
end S_X0_longFrom
def uf_X0_longFrom_rec (n : Nat) (d : UD) : Nat → UM → Nat → Nat → Int32 → Nat → Option ((Int32 × UM) × UC)
  | 0 => fun _ _ _ _ _ => none
  | k + 1 => fun u t p0 p1 p2 => uf_X0_longFrom_body n d (uf_X0_longFrom_rec n d k) u t p0 p1 p2
theorem uk_X0_longFrom_rec (l : Launch) (n : Nat) (D : va_G) (d : UD) : ∀ (k : Nat) (u : UM) (t : Nat) (p0 : Nat) (p1 : Int32) (p2 : Nat) (r0 : Int32) (ur : UM) (C : UC), uf_X0_longFrom_rec n d k u t p0 p1 p2 = some ((r0, ur), C) → u_M l yX0_longFrom (ws_ yX0_longFrom cX0_longFrom 6 (some .int)) (2 + k) (40 + k * 25) C D d u [.ref t, .ref p0, .int p1, .ref p2] (some (.int r0)) ur := by
  intro k
  induction k with
  | zero => intro u t p0 p1 p2 r0 ur C h; cases h
  | succ k ih =>
    intro u t p0 p1 p2 r0 ur C h
    exact u_start (own := RX0) (lvl := [(0, .ref t), (1, .ref p0), (2, .int p1), (3, .ref p2)]) (by decide) rfl (Nat.le_of_ble_eq_true rfl) rfl (fun p e s m args below meth c ls X hr hlk hI hl hA I hC => uw_X0_longFrom X hA ⟨Nat.le_add_right _ _, Nat.le_add_right _ _⟩ (uf_X0_longFrom_rec n d k) ⟨Nat.le_refl _, by show 8 + (6 + 11) + (40 + k * 25) ≤ 40 + (k + 1) * 25; omega⟩ ih n u t p0 p1 p2 r0 ur C h (fun H locs ls pc cells slots hd hC I => u_iret X I hr hlk (u_leftE hC) hd) _ _ ls _ _ hC I hl)
def uf_X0_longFrom (n : Nat) (d : UD) (u : UM) (t : Nat) (p0 : Nat) (p1 : Int32) (p2 : Nat) : Option ((Int32 × UM) × UC) := uf_X0_longFrom_rec n d 9 u t p0 p1 p2
theorem uk_X0_longFrom (l : Launch) (n : Nat) (D : va_G) (d : UD) (u : UM) (t : Nat) (p0 : Nat) (p1 : Int32) (p2 : Nat) (r0 : Int32) (ur : UM) (C : UC) (h : uf_X0_longFrom n d u t p0 p1 p2 = some ((r0, ur), C)) : u_M l yX0_longFrom (ws_ yX0_longFrom cX0_longFrom 6 (some .int)) 11 265 C D d u [.ref t, .ref p0, .int p1, .ref p2] (some (.int r0)) ur := uk_X0_longFrom_rec l n D d 9 u t p0 p1 p2 r0 ur C h

/-! SwapPress$State.flows(I)[I -/
def uf_X1_flows_J66 (n : Nat) (d : UD) (u : UM) (v0 : Nat) (v1 : Int32) (v2 : Nat) (v3 : Int32) (t0 : Int32) (t1 : Int32) (t2 : Int32) (t3 : Nat) : Option (((Int32 × UM) ⊕ UM) × UC) :=
  m_b (u_stI d u t3 t2 (t1 + t0)) (fun w31 => some (.inl ((v3 + 1, (w31, u.2))), (0, 0)))
def uf_X1_flows_L7 (n : Nat) (d : UD) (v0 : Nat) (v1 : Int32) (v2 : Nat) (v3 : Int32) (u : UM) : Option (((Int32 × UM) ⊕ UM) × UC) :=
  m_b (u_fr d u 2 2 v0) (fun b5 => m_b (u_cl u 13 b5) (fun f7 => m_b (uf_J2_size n d u b5) (fun r10 => m_if ((r10 : Int32) ≤ (v3 : Int32)) (some (.inr u, (0, 0))) (m_b (u_fr d u 2 2 v0) (fun b12 => m_b (u_cl u 13 b12) (fun f14 => m_b (uf_J2_get n d u b12 v3) (fun r17 => m_b (u_cl u 6 r17) (fun f18 => m_b (u_ni u 6 0 r17) (fun b20 => m_b (u_ni u 6 1 r17) (fun b22 => m_b (u_ldI d u v2 ((8 * b20) + b22)) (fun b24 => m_b (u_cl u 6 r17) (fun f26 => m_b (uf_X6_isFree n d u r17 v1) (fun r29 => m_if ((r29 : Int32) = 0) (uf_X1_flows_J66 n d u v0 v1 v2 v3 0 b24 ((8 * b20) + b22) v2) (m_b (u_ni u 6 2 r17) (fun b33 => uf_X1_flows_J66 n d u v0 v1 v2 v3 b33 b24 ((8 * b20) + b22) v2)))))))))))))))
def uf_X1_flows_L7l (n : Nat) (d : UD) (v0 : Nat) (v1 : Int32) (v2 : Nat) (x : (Int32 × UM)) : Option (UM × UC) := u_lp (fun (x : (Int32 × UM)) => uf_X1_flows_L7 n d v0 v1 v2 x.1 x.2) n x
def uf_X1_flows (n : Nat) (d : UD) (u : UM) (t : Nat) (p0 : Int32) : Option ((Nat × UM) × UC) :=
  m_g (u_ln 64) (u_ac (1, (64 : Int32).toNatClampNeg) (m_b (some (u_nw u (.inl (d.1 0, (64 : Int32).toNatClampNeg, .inl (fun _ => 0))))) (fun u2 => u_bl (uf_X1_flows_L7l n d t p0 u.2 ((0, u2))) (fun u36 => some ((u.2, u36), (0, 0))))))
theorem uh_X1_flows : yX1_flows.cls = RX1 ∧ yX1_flows.cls ≠ "java/lang/invoke/MethodHandle" ∧ yX1_flows.cls ≠ "java/lang/invoke/VarHandle" ∧ (parseMethodDescriptor yX1_flows.desc).map (fun d => d.parameters.length) = some 1 := by decide +kernel
section S_X1_flows
variable {p : Program} {l : Launch} {e : Env} {R : Room} {s : State} {m : MethodId} {args : Array Value} {below : List Frame} {meth : Method} {c : Code} {Q : State → Prop} {D : va_G} {A : Nat → Prop} {d : UD}
theorem wuf_X1_flows_L7 (X : u_X RX1 D A d p s m c cX1_flows 5 args) (hA : ∀ q, s.heap.size ≤ q → A q) (hR : 3 ≤ R.frames ∧ 64 ≤ R.locals) (n : Nat) (v0 : Nat) (v1 : Int32) (v2 : Nat) (x : (Int32 × UM)) (z : UM) (C cr : UC) (hz : uf_X1_flows_L7l n d v0 v1 v2 x = some (z, C)) (hE : (fun (z : UM) (C : UC) => ∀ (H : Heap) (locs : List Loc) (ls : Array Slot) (cells slots : Nat), u_left R cells slots C → u_I D A s.heap z H locs cells → lv_has ls 5 [(2, .ref v2)] → W p l e R s m args below meth c H locs cells slots Q (F0 m 74 ls [])) z cr) : (fun (x : (Int32 × UM)) (C : UC) => ∀ (H : Heap) (locs : List Loc) (ls : Array Slot) (cells slots : Nat), u_left R cells slots C → u_I D A s.heap x.2 H locs cells → lv_has ls 5 [(0, .ref v0), (1, .int v1), (2, .ref v2), (3, .int x.1)] → W p l e R s m args below meth c H locs cells slots Q (F0 m 7 ls [])) x (u_add C cr) := by
  refine u_lpW (G := fun (x : (Int32 × UM)) (C : UC) => ∀ (H : Heap) (locs : List Loc) (ls : Array Slot) (cells slots : Nat), u_left R cells slots C → u_I D A s.heap x.2 H locs cells → lv_has ls 5 [(0, .ref v0), (1, .int v1), (2, .ref v2), (3, .int x.1)] → W p l e R s m args below meth c H locs cells slots Q (F0 m 7 ls [])) (E := fun (z : UM) (C : UC) => ∀ (H : Heap) (locs : List Loc) (ls : Array Slot) (cells slots : Nat), u_left R cells slots C → u_I D A s.heap z H locs cells → lv_has ls 5 [(2, .ref v2)] → W p l e R s m args below meth c H locs cells slots Q (F0 m 74 ls [])) ?_ n x z C cr hz hE
  rintro ⟨v3, u⟩ r C cr h hr H locs ls cells slots hC I hl
  replace h : uf_X1_flows_L7 n d v0 v1 v2 v3 u = some (r, C) := h
  have k66 : ∀ (u : UM) (v3 : Int32) (t0 : Int32) (t1 : Int32) (t2 : Int32) (t3 : Nat) (H : Heap) (locs : List Loc) (ls : Array Slot) (cells slots : Nat) (C : UC), uf_X1_flows_J66 n d u v0 v1 v2 v3 t0 t1 t2 t3 = some (r, C) → u_left R cells slots (u_add C cr) → u_I D A s.heap u H locs cells → lv_has ls 5 [(0, .ref v0), (1, .int v1), (2, .ref v2), (3, .int v3)] → W p l e R s m args below meth c H locs cells slots Q (F0 m 66 ls [.int t0, .int t1, .int t2, .ref t3]) := by
    intro u v3 t0 t1 t2 t3 H locs ls cells slots C h hC I hl
    unfold uf_X1_flows_J66 at h
    refine lv_iadd X.1 X.2.1 dX1_flows_66 ?_
    obtain ⟨w31, e32, h⟩ := m_bS h
    refine u_SI X I e32 dX1_flows_67 (fun H locs I => ?_)
    refine lv_iinc (v := v3 + 1) (lv' := [(3, .int (v3 + 1)), (0, .ref v0), (1, .int v1), (2, .ref v2)]) X.1 X.2.1 dX1_flows_68 hl (k := 3) rfl rfl (by decide) rfl (fun ls hl => ?_)
    refine lv_goto (tgt := 7) X.1 X.2.1 dX1_flows_71 (by decide) ?_
    obtain ⟨rfl, rfl⟩ := m_e3 h
    exact hr H locs ls _ _ (u_left0 hC) I (lv_sub hl [1, 2, 3, 0] rfl)
  unfold uf_X1_flows_L7 at h
  refine lv_iload_n X.1 X.2.1 dX1_flows_7 rfl (lv_at hl 3 rfl) ?_
  refine lv_aload_n X.1 X.2.1 dX1_flows_8 rfl (lv_at hl 0 rfl) ?_
  obtain ⟨b5, e6, h⟩ := m_bS h
  refine u_Gr X I e6 (C := RX1) (T := TX1) (N := 5) (ref := "SwapPress$State") in_X1 rfl (by decide) rfl rfl q180 (fun _ h => h) dX1_flows_9 ?_
  obtain ⟨f7, e8, h⟩ := m_bS h
  obtain ⟨r10, e9, h⟩ := m_bS h
  refine u_callVp X hl.1 I hA (As := []) (rest := [.int v3]) (uk_J2_size l n D d u b5 _ e9) (u_clS e8) (C := RJ2) (T := TJ2) (N := 3) rfl 0 q874 q667 q668 q105 q669 uh_J2_size rfl rfl ⟨Nat.le_trans (Nat.le_of_ble_eq_true rfl) hR.1, Nat.le_trans (Nat.le_of_ble_eq_true rfl) hR.2⟩ (u_leftLe hC) (stk := [.int r10, .int v3]) rfl (Nat.le_of_ble_eq_true rfl) dX1_flows_12 (fun H locs I => ?_)
  refine lv_icmp_ge (tgt := 74) X.1 X.2.1 dX1_flows_15 (by decide) (fun c11 => ?_) (fun c11 => ?_)
  · replace h := m_ifT c11 h
    obtain ⟨rfl, rfl⟩ := m_e3 h
    exact hr H locs ls _ _ (u_left0 hC) I (lv_sub hl [2] rfl)
  · replace h := m_ifF c11 h
    refine lv_aload_n X.1 X.2.1 dX1_flows_18 rfl (lv_at hl 0 rfl) ?_
    obtain ⟨b12, e13, h⟩ := m_bS h
    refine u_Gr X I e13 (C := RX1) (T := TX1) (N := 5) (ref := "SwapPress$State") in_X1 rfl (by decide) rfl rfl q180 (fun _ h => h) dX1_flows_19 ?_
    refine lv_iload_n X.1 X.2.1 dX1_flows_22 rfl (lv_at hl 3 rfl) ?_
    obtain ⟨f14, e15, h⟩ := m_bS h
    obtain ⟨r17, e16, h⟩ := m_bS h
    refine u_callVp X hl.1 I hA (As := [.int v3]) (rest := []) (uk_J2_get l n D d u b12 v3 _ e16) (u_clS e15) (C := RJ2) (T := TJ2) (N := 3) rfl 1 q955 q823 q824 q105 q825 uh_J2_get rfl rfl ⟨Nat.le_trans (Nat.le_of_ble_eq_true rfl) hR.1, Nat.le_trans (Nat.le_of_ble_eq_true rfl) hR.2⟩ (u_leftLe hC) (stk := [.ref r17]) rfl (Nat.le_of_ble_eq_true rfl) dX1_flows_23 (fun H locs I => ?_)
    obtain ⟨f18, e19, h⟩ := m_bS h
    refine u_cast X I (u_clS e19) (C := RX6) (T := TX6) (N := 5) rfl q956 dX1_flows_26 ?_
    refine lv_astore (lv' := [(4, .ref r17), (0, .ref v0), (1, .int v1), (2, .ref v2), (3, .int v3)]) X.1 X.2.1 dX1_flows_29 hl (by decide) rfl (fun ls hl => ?_)
    refine lv_aload_n X.1 X.2.1 dX1_flows_31 rfl (lv_at hl 3 rfl) ?_
    refine lv_bipush (v := 8) X.1 X.2.1 dX1_flows_32 (by decide) ?_
    refine lv_aload X.1 X.2.1 dX1_flows_34 (lv_at hl 0 rfl) ?_
    obtain ⟨b20, e21, h⟩ := m_bS h
    refine u_GiN X I e21 (C := RX6) (T := TX6) (N := 5) (ref := "SwapPress$Trade") (host := "SwapPress") in_X6 rfl (by decide) rfl rfl 14 rfl (fun _ h => h) dX1_flows_36 ?_
    refine lv_imul X.1 X.2.1 dX1_flows_39 ?_
    refine lv_aload X.1 X.2.1 dX1_flows_40 (lv_at hl 0 rfl) ?_
    obtain ⟨b22, e23, h⟩ := m_bS h
    refine u_GiN X I e23 (C := RX6) (T := TX6) (N := 5) (ref := "SwapPress$Trade") (host := "SwapPress") in_X6 rfl (by decide) rfl rfl 16 rfl (fun _ h => h) dX1_flows_42 ?_
    refine lv_iadd X.1 X.2.1 dX1_flows_45 ?_
    refine lv_dup2_11 X.1 X.2.1 dX1_flows_46 rfl rfl ?_
    obtain ⟨b24, e25, h⟩ := m_bS h
    refine u_LI X I e25 dX1_flows_47 ?_
    refine lv_aload X.1 X.2.1 dX1_flows_48 (lv_at hl 0 rfl) ?_
    refine lv_iload_n X.1 X.2.1 dX1_flows_50 rfl (lv_at hl 2 rfl) ?_
    obtain ⟨f26, e27, h⟩ := m_bS h
    obtain ⟨r29, e28, h⟩ := m_bS h
    refine u_callVp X hl.1 I hA (As := [.int v1]) (rest := [.int b24, .int ((8 * b20) + b22), .ref v2]) (uk_X6_isFree l n D d u r17 v1 _ e28) (u_clS e27) (C := RX6) (T := TX6) (N := 5) rfl 1 q957 q958 q959 q122 q960 uh_X6_isFree rfl rfl ⟨Nat.le_trans (Nat.le_of_ble_eq_true rfl) hR.1, Nat.le_trans (Nat.le_of_ble_eq_true rfl) hR.2⟩ (u_leftLe hC) (stk := [.int r29, .int b24, .int ((8 * b20) + b22), .ref v2]) rfl (Nat.le_of_ble_eq_true rfl) dX1_flows_51 (fun H locs I => ?_)
    refine lv_if_eq (tgt := 65) X.1 X.2.1 dX1_flows_54 (by decide) (fun c30 => ?_) (fun c30 => ?_)
    · replace h := m_ifT c30 h
      refine lv_iconst (v := 0) X.1 X.2.1 dX1_flows_65 (by decide) ?_
      exact k66 u v3 0 b24 ((8 * b20) + b22) v2 H locs ls _ _ _ h hC I (lv_sub hl [1, 2, 3, 4] rfl)
    · replace h := m_ifF c30 h
      refine lv_aload X.1 X.2.1 dX1_flows_57 (lv_at hl 0 rfl) ?_
      obtain ⟨b33, e34, h⟩ := m_bS h
      refine u_GiN X I e34 (C := RX6) (T := TX6) (N := 5) (ref := "SwapPress$Trade") (host := "SwapPress") in_X6 rfl (by decide) rfl rfl 18 rfl (fun _ h => h) dX1_flows_59 ?_
      refine lv_goto (tgt := 66) X.1 X.2.1 dX1_flows_62 (by decide) ?_
      exact k66 u v3 b33 b24 ((8 * b20) + b22) v2 H locs ls _ _ _ h hC I (lv_sub hl [1, 2, 3, 4] rfl)
theorem uw_X1_flows (X : u_X RX1 D A d p s m c cX1_flows 5 args) (hA : ∀ q, s.heap.size ≤ q → A q) (hR : 3 ≤ R.frames ∧ 64 ≤ R.locals) (n : Nat) (u : UM) (t : Nat) (p0 : Int32) (r0 : Nat) (ur : UM) (C : UC) (h : uf_X1_flows n d u t p0 = some ((r0, ur), C)) (hret : ∀ (H : Heap) (locs : List Loc) (ls : Array Slot) (pc cells slots : Nat), decode cX1_flows pc = .ok (.areturn, 1) → u_left R cells slots (u_add (0, 0) (0, 0)) → u_I D A s.heap ur H locs cells → W p l e R s m args below meth c H locs cells slots Q (F0 m pc ls [.ref r0])) : ∀ (H : Heap) (locs : List Loc) (ls : Array Slot) (cells slots : Nat), u_left R cells slots (u_add C (0, 0)) → u_I D A s.heap u H locs cells → lv_has ls 5 [(0, .ref t), (1, .int p0)] → W p l e R s m args below meth c H locs cells slots Q (F0 m 0 ls []) := by
  intro H locs ls cells slots hC I hl
  unfold uf_X1_flows at h
  refine lv_bipush (v := 64) X.1 X.2.1 dX1_flows_0 (by decide) ?_
  obtain ⟨g3, h⟩ := m_gS h
  obtain ⟨C1, h, hq⟩ := u_acS h
  rw [hq] at hC
  obtain ⟨u2, e4, h⟩ := m_bS h
  refine u_NP X I hA 0 (atype := .int) rfl q200 (x := (_, .inl (fun _ => 0))) (fun _ => rfl) (by decide) g3 e4 hC dX1_flows_2 (fun H cells slots hC I => ?_)
  refine lv_astore_n (lv' := [(2, .ref u.2), (0, .ref t), (1, .int p0)]) X.1 X.2.1 dX1_flows_4 rfl hl (by decide) rfl (fun ls hl => ?_)
  refine lv_iconst (v := 0) X.1 X.2.1 dX1_flows_5 (by decide) ?_
  refine lv_istore_n (lv' := [(3, .int 0), (2, .ref u.2), (0, .ref t), (1, .int p0)]) X.1 X.2.1 dX1_flows_6 rfl hl (by decide) rfl (fun ls hl => ?_)
  obtain ⟨u36, C37, C38, e35, h, hq⟩ := u_blS h
  rw [hq] at hC
  refine wuf_X1_flows_L7 X hA hR n t p0 u.2 _ _ _ _ e35 (fun H locs ls cells slots hC I hl => ?_) H locs ls _ _ (u_left2 hC) I (lv_sub hl [2, 3, 1, 0] rfl)
  refine lv_aload_n X.1 X.2.1 dX1_flows_74 rfl (lv_at hl 0 rfl) ?_
  obtain ⟨he, rfl⟩ := m_e3 h
  obtain ⟨rfl, rfl⟩ := m_e4 he
  exact hret H locs ls 75 _ _ dX1_flows_75 hC I
end S_X1_flows
theorem uk_X1_flows (l : Launch) (n : Nat) (D : va_G) (d : UD) (u : UM) (t : Nat) (p0 : Int32) (r0 : Nat) (ur : UM) (C : UC) (h : uf_X1_flows n d u t p0 = some ((r0, ur), C)) : u_M l yX1_flows (ws_ yX1_flows cX1_flows 5 (some (.array .int))) 3 64 C D d u [.ref t, .int p0] (some (.ref r0)) ur :=
  u_start (own := RX1) (lvl := [(0, .ref t), (1, .int p0)]) (by decide) rfl (Nat.le_of_ble_eq_true rfl) rfl (fun p e s m args below meth c ls X hr hlk hI hl hA I hC => uw_X1_flows X hA ⟨Nat.le_refl _, Nat.le_refl _⟩ n u t p0 r0 ur C h (fun H locs ls pc cells slots hd hC I => u_aret (r := some r0) X I hr (Or.inr ⟨_, rfl⟩) hlk (u_leftE hC) hd) _ _ ls _ _ hC I hl)

/-! SwapPress$State.flow(III)I -/
def uf_X1_flow_J70 (n : Nat) (d : UD) (u : UM) (v0 : Nat) (v1 : Int32) (v2 : Int32) (v3 : Int32) (v5 : Int32) (t0 : Int32) (t1 : Int32) : Option ((Int32 × Int32) ⊕ Int32) :=
  some (.inl ((t1 + t0, v5 + 1)))
def uf_X1_flow_J69 (n : Nat) (d : UD) (u : UM) (v0 : Nat) (v1 : Int32) (v2 : Int32) (v3 : Int32) (v5 : Int32) (t0 : Int32) : Option ((Int32 × Int32) ⊕ Int32) :=
  uf_X1_flow_J70 n d u v0 v1 v2 v3 v5 0 t0
def uf_X1_flow_L6 (n : Nat) (d : UD) (u : UM) (v0 : Nat) (v1 : Int32) (v2 : Int32) (v3 : Int32) (v4 : Int32) (v5 : Int32) : Option ((Int32 × Int32) ⊕ Int32) :=
  m_b (u_fr d u 2 2 v0) (fun b1 => m_b (u_cl u 13 b1) (fun f3 => m_b (uf_J2_size n d u b1) (fun r6 => m_if ((r6 : Int32) ≤ (v5 : Int32)) (some (.inr v4)) (m_b (u_fr d u 2 2 v0) (fun b8 => m_b (u_cl u 13 b8) (fun f10 => m_b (uf_J2_get n d u b8 v5) (fun r13 => m_b (u_cl u 6 r13) (fun f14 => m_b (u_cl u 6 r13) (fun f16 => m_b (uf_X6_isFree n d u r13 v3) (fun r19 => m_if ((r19 : Int32) = 0) (uf_X1_flow_J69 n d u v0 v1 v2 v3 v5 v4) (m_b (u_ni u 6 0 r13) (fun b21 => m_if ((b21 : Int32) = (v1 : Int32)) (m_b (u_ni u 6 1 r13) (fun b24 => m_if ((b24 : Int32) = (v2 : Int32)) (m_b (u_ni u 6 2 r13) (fun b27 => uf_X1_flow_J70 n d u v0 v1 v2 v3 v5 b27 v4)) (uf_X1_flow_J69 n d u v0 v1 v2 v3 v5 v4))) (uf_X1_flow_J69 n d u v0 v1 v2 v3 v5 v4)))))))))))))
def uf_X1_flow_L6l (n : Nat) (d : UD) (u : UM) (v0 : Nat) (v1 : Int32) (v2 : Int32) (v3 : Int32) (x : (Int32 × Int32)) : Option Int32 := m_lp (fun (x : (Int32 × Int32)) => uf_X1_flow_L6 n d u v0 v1 v2 v3 x.1 x.2) n x
def uf_X1_flow (n : Nat) (d : UD) (u : UM) (t : Nat) (p0 : Int32) (p1 : Int32) (p2 : Int32) : Option Int32 :=
  m_b (uf_X1_flow_L6l n d u t p0 p1 p2 ((0, 0))) (fun z30 => some z30)
theorem uh_X1_flow : yX1_flow.cls = RX1 ∧ yX1_flow.cls ≠ "java/lang/invoke/MethodHandle" ∧ yX1_flow.cls ≠ "java/lang/invoke/VarHandle" ∧ (parseMethodDescriptor yX1_flow.desc).map (fun d => d.parameters.length) = some 3 := by decide +kernel
section S_X1_flow
variable {p : Program} {l : Launch} {e : Env} {R : Room} {s : State} {m : MethodId} {args : Array Value} {below : List Frame} {meth : Method} {c : Code} {Q : State → Prop} {D : va_G} {A : Nat → Prop} {d : UD} {cells slots : Nat}
theorem wuf_X1_flow_L6 (X : u_X RX1 D A d p s m c cX1_flow 7 args) (hA : ∀ q, s.heap.size ≤ q → A q) (hR : 3 ≤ R.frames ∧ 64 ≤ R.locals) (hf : cells ≤ R.cells ∧ slots ≤ R.slots) (n : Nat) (u : UM) (v0 : Nat) (v1 : Int32) (v2 : Int32) (v3 : Int32) (x : (Int32 × Int32)) (z : Int32) (hz : uf_X1_flow_L6l n d u v0 v1 v2 v3 x = some z) (hE : (fun (z : Int32) => ∀ (H : Heap) (locs : List Loc) (ls : Array Slot), u_I D A s.heap u H locs cells → lv_has ls 7 [(4, .int z)] → W p l e R s m args below meth c H locs cells slots Q (F0 m 79 ls [])) z) : (fun (x : (Int32 × Int32)) => ∀ (H : Heap) (locs : List Loc) (ls : Array Slot), u_I D A s.heap u H locs cells → lv_has ls 7 [(0, .ref v0), (1, .int v1), (2, .int v2), (3, .int v3), (4, .int x.1), (5, .int x.2)] → W p l e R s m args below meth c H locs cells slots Q (F0 m 6 ls [])) x := by
  refine m_lpW (G := fun (x : (Int32 × Int32)) => ∀ (H : Heap) (locs : List Loc) (ls : Array Slot), u_I D A s.heap u H locs cells → lv_has ls 7 [(0, .ref v0), (1, .int v1), (2, .int v2), (3, .int v3), (4, .int x.1), (5, .int x.2)] → W p l e R s m args below meth c H locs cells slots Q (F0 m 6 ls [])) (E := fun (z : Int32) => ∀ (H : Heap) (locs : List Loc) (ls : Array Slot), u_I D A s.heap u H locs cells → lv_has ls 7 [(4, .int z)] → W p l e R s m args below meth c H locs cells slots Q (F0 m 79 ls [])) ?_ n x z hz hE
  rintro ⟨v4, v5⟩ r h hr H locs ls I hl
  replace h : uf_X1_flow_L6 n d u v0 v1 v2 v3 v4 v5 = some r := h
  have k70 : ∀ (v5 : Int32) (t0 : Int32) (t1 : Int32) (H : Heap) (locs : List Loc) (ls : Array Slot), uf_X1_flow_J70 n d u v0 v1 v2 v3 v5 t0 t1 = some r → u_I D A s.heap u H locs cells → lv_has ls 7 [(0, .ref v0), (1, .int v1), (2, .int v2), (3, .int v3), (5, .int v5)] → W p l e R s m args below meth c H locs cells slots Q (F0 m 70 ls [.int t0, .int t1]) := by
    intro v5 t0 t1 H locs ls h I hl
    unfold uf_X1_flow_J70 at h
    refine lv_iadd X.1 X.2.1 dX1_flow_70 ?_
    refine lv_istore (lv' := [(4, .int (t1 + t0)), (0, .ref v0), (1, .int v1), (2, .int v2), (3, .int v3), (5, .int v5)]) X.1 X.2.1 dX1_flow_71 hl (by decide) rfl (fun ls hl => ?_)
    refine lv_iinc (v := v5 + 1) (lv' := [(5, .int (v5 + 1)), (4, .int (t1 + t0)), (0, .ref v0), (1, .int v1), (2, .int v2), (3, .int v3)]) X.1 X.2.1 dX1_flow_73 hl (k := 5) rfl rfl (by decide) rfl (fun ls hl => ?_)
    refine lv_goto (tgt := 6) X.1 X.2.1 dX1_flow_76 (by decide) ?_
    cases h
    exact hr H locs ls I (lv_sub hl [2, 3, 4, 5, 1, 0] rfl)
  have k69 : ∀ (v5 : Int32) (t0 : Int32) (H : Heap) (locs : List Loc) (ls : Array Slot), uf_X1_flow_J69 n d u v0 v1 v2 v3 v5 t0 = some r → u_I D A s.heap u H locs cells → lv_has ls 7 [(0, .ref v0), (1, .int v1), (2, .int v2), (3, .int v3), (5, .int v5)] → W p l e R s m args below meth c H locs cells slots Q (F0 m 69 ls [.int t0]) := by
    intro v5 t0 H locs ls h I hl
    unfold uf_X1_flow_J69 at h
    refine lv_iconst (v := 0) X.1 X.2.1 dX1_flow_69 (by decide) ?_
    exact k70 v5 0 t0 H locs ls h I (lv_sub hl [0, 1, 2, 3, 4] rfl)
  unfold uf_X1_flow_L6 at h
  refine lv_iload X.1 X.2.1 dX1_flow_6 (lv_at hl 5 rfl) ?_
  refine lv_aload_n X.1 X.2.1 dX1_flow_8 rfl (lv_at hl 0 rfl) ?_
  obtain ⟨b1, e2, h⟩ := m_bS h
  refine u_Gr X I e2 (C := RX1) (T := TX1) (N := 5) (ref := "SwapPress$State") in_X1 rfl (by decide) rfl rfl q180 (fun _ h => h) dX1_flow_9 ?_
  obtain ⟨f3, e4, h⟩ := m_bS h
  obtain ⟨r6, e5, h⟩ := m_bS h
  refine u_callVp X hl.1 I hA (As := []) (rest := [.int v5]) (uk_J2_size l n D d u b1 _ e5) (u_clS e4) (C := RJ2) (T := TJ2) (N := 3) rfl 0 q874 q667 q668 q105 q669 uh_J2_size rfl rfl ⟨Nat.le_trans (Nat.le_of_ble_eq_true rfl) hR.1, Nat.le_trans (Nat.le_of_ble_eq_true rfl) hR.2⟩ hf (stk := [.int r6, .int v5]) rfl (Nat.le_of_ble_eq_true rfl) dX1_flow_12 (fun H locs I => ?_)
  refine lv_icmp_ge (tgt := 79) X.1 X.2.1 dX1_flow_15 (by decide) (fun c7 => ?_) (fun c7 => ?_)
  · replace h := m_ifT c7 h
    cases h
    exact hr H locs ls I (lv_sub hl [4] rfl)
  · replace h := m_ifF c7 h
    refine lv_aload_n X.1 X.2.1 dX1_flow_18 rfl (lv_at hl 0 rfl) ?_
    obtain ⟨b8, e9, h⟩ := m_bS h
    refine u_Gr X I e9 (C := RX1) (T := TX1) (N := 5) (ref := "SwapPress$State") in_X1 rfl (by decide) rfl rfl q180 (fun _ h => h) dX1_flow_19 ?_
    refine lv_iload X.1 X.2.1 dX1_flow_22 (lv_at hl 5 rfl) ?_
    obtain ⟨f10, e11, h⟩ := m_bS h
    obtain ⟨r13, e12, h⟩ := m_bS h
    refine u_callVp X hl.1 I hA (As := [.int v5]) (rest := []) (uk_J2_get l n D d u b8 v5 _ e12) (u_clS e11) (C := RJ2) (T := TJ2) (N := 3) rfl 1 q955 q823 q824 q105 q825 uh_J2_get rfl rfl ⟨Nat.le_trans (Nat.le_of_ble_eq_true rfl) hR.1, Nat.le_trans (Nat.le_of_ble_eq_true rfl) hR.2⟩ hf (stk := [.ref r13]) rfl (Nat.le_of_ble_eq_true rfl) dX1_flow_24 (fun H locs I => ?_)
    obtain ⟨f14, e15, h⟩ := m_bS h
    refine u_cast X I (u_clS e15) (C := RX6) (T := TX6) (N := 5) rfl q956 dX1_flow_27 ?_
    refine lv_astore (lv' := [(6, .ref r13), (0, .ref v0), (1, .int v1), (2, .int v2), (3, .int v3), (4, .int v4), (5, .int v5)]) X.1 X.2.1 dX1_flow_30 hl (by decide) rfl (fun ls hl => ?_)
    refine lv_iload X.1 X.2.1 dX1_flow_32 (lv_at hl 5 rfl) ?_
    refine lv_aload X.1 X.2.1 dX1_flow_34 (lv_at hl 0 rfl) ?_
    refine lv_iload_n X.1 X.2.1 dX1_flow_36 rfl (lv_at hl 4 rfl) ?_
    obtain ⟨f16, e17, h⟩ := m_bS h
    obtain ⟨r19, e18, h⟩ := m_bS h
    refine u_callVp X hl.1 I hA (As := [.int v3]) (rest := [.int v4]) (uk_X6_isFree l n D d u r13 v3 _ e18) (u_clS e17) (C := RX6) (T := TX6) (N := 5) rfl 1 q957 q958 q959 q122 q960 uh_X6_isFree rfl rfl ⟨Nat.le_trans (Nat.le_of_ble_eq_true rfl) hR.1, Nat.le_trans (Nat.le_of_ble_eq_true rfl) hR.2⟩ hf (stk := [.int r19, .int v4]) rfl (Nat.le_of_ble_eq_true rfl) dX1_flow_37 (fun H locs I => ?_)
    refine lv_if_eq (tgt := 69) X.1 X.2.1 dX1_flow_40 (by decide) (fun c20 => ?_) (fun c20 => ?_)
    · replace h := m_ifT c20 h
      exact k69 v5 v4 H locs ls h I (lv_sub hl [1, 2, 3, 4, 6] rfl)
    · replace h := m_ifF c20 h
      refine lv_aload X.1 X.2.1 dX1_flow_43 (lv_at hl 0 rfl) ?_
      obtain ⟨b21, e22, h⟩ := m_bS h
      refine u_GiN X I e22 (C := RX6) (T := TX6) (N := 5) (ref := "SwapPress$Trade") (host := "SwapPress") in_X6 rfl (by decide) rfl rfl 14 rfl (fun _ h => h) dX1_flow_45 ?_
      refine lv_iload_n X.1 X.2.1 dX1_flow_48 rfl (lv_at hl 2 rfl) ?_
      refine lv_icmp_ne (tgt := 69) X.1 X.2.1 dX1_flow_49 (by decide) (fun c23 => ?_) (fun c23 => ?_)
      · replace h := m_ifF c23 h
        exact k69 v5 v4 H locs ls h I (lv_sub hl [1, 2, 3, 4, 6] rfl)
      · replace h := m_ifT c23 h
        refine lv_aload X.1 X.2.1 dX1_flow_52 (lv_at hl 0 rfl) ?_
        obtain ⟨b24, e25, h⟩ := m_bS h
        refine u_GiN X I e25 (C := RX6) (T := TX6) (N := 5) (ref := "SwapPress$Trade") (host := "SwapPress") in_X6 rfl (by decide) rfl rfl 16 rfl (fun _ h => h) dX1_flow_54 ?_
        refine lv_iload_n X.1 X.2.1 dX1_flow_57 rfl (lv_at hl 3 rfl) ?_
        refine lv_icmp_ne (tgt := 69) X.1 X.2.1 dX1_flow_58 (by decide) (fun c26 => ?_) (fun c26 => ?_)
        · replace h := m_ifF c26 h
          exact k69 v5 v4 H locs ls h I (lv_sub hl [1, 2, 3, 4, 6] rfl)
        · replace h := m_ifT c26 h
          refine lv_aload X.1 X.2.1 dX1_flow_61 (lv_at hl 0 rfl) ?_
          obtain ⟨b27, e28, h⟩ := m_bS h
          refine u_GiN X I e28 (C := RX6) (T := TX6) (N := 5) (ref := "SwapPress$Trade") (host := "SwapPress") in_X6 rfl (by decide) rfl rfl 18 rfl (fun _ h => h) dX1_flow_63 ?_
          refine lv_goto (tgt := 70) X.1 X.2.1 dX1_flow_66 (by decide) ?_
          exact k70 v5 b27 v4 H locs ls h I (lv_sub hl [1, 2, 3, 4, 6] rfl)
theorem uw_X1_flow (X : u_X RX1 D A d p s m c cX1_flow 7 args) (hA : ∀ q, s.heap.size ≤ q → A q) (hR : 3 ≤ R.frames ∧ 64 ≤ R.locals) (hf : cells ≤ R.cells ∧ slots ≤ R.slots) (n : Nat) (u : UM) (t : Nat) (p0 : Int32) (p1 : Int32) (p2 : Int32) (r : Int32) (h : uf_X1_flow n d u t p0 p1 p2 = some r) (hret : ∀ (H : Heap) (locs : List Loc) (ls : Array Slot) (pc : Nat), decode cX1_flow pc = .ok (.ireturn, 1) → u_I D A s.heap u H locs cells → W p l e R s m args below meth c H locs cells slots Q (F0 m pc ls [.int r])) : ∀ (H : Heap) (locs : List Loc) (ls : Array Slot), u_I D A s.heap u H locs cells → lv_has ls 7 [(0, .ref t), (1, .int p0), (2, .int p1), (3, .int p2)] → W p l e R s m args below meth c H locs cells slots Q (F0 m 0 ls []) := by
  intro H locs ls I hl
  unfold uf_X1_flow at h
  refine lv_iconst (v := 0) X.1 X.2.1 dX1_flow_0 (by decide) ?_
  refine lv_istore (lv' := [(4, .int 0), (0, .ref t), (1, .int p0), (2, .int p1), (3, .int p2)]) X.1 X.2.1 dX1_flow_1 hl (by decide) rfl (fun ls hl => ?_)
  refine lv_iconst (v := 0) X.1 X.2.1 dX1_flow_3 (by decide) ?_
  refine lv_istore (lv' := [(5, .int 0), (4, .int 0), (0, .ref t), (1, .int p0), (2, .int p1), (3, .int p2)]) X.1 X.2.1 dX1_flow_4 hl (by decide) rfl (fun ls hl => ?_)
  obtain ⟨z30, e29, h⟩ := m_bS h
  refine wuf_X1_flow_L6 X hA hR hf n u t p0 p1 p2 _ _ e29 (fun H locs ls I hl => ?_) H locs ls I (lv_sub hl [2, 3, 4, 5, 1, 0] rfl)
  refine lv_iload X.1 X.2.1 dX1_flow_79 (lv_at hl 0 rfl) ?_
  obtain rfl := m_e1 h
  exact hret H locs ls 81 dX1_flow_81 I
end S_X1_flow
theorem uk_X1_flow (l : Launch) (n : Nat) (D : va_G) (d : UD) (u : UM) (t : Nat) (p0 : Int32) (p1 : Int32) (p2 : Int32) (r : Int32) (h : uf_X1_flow n d u t p0 p1 p2 = some r) : u_M l yX1_flow (ws_ yX1_flow cX1_flow 7 (some .int)) 3 64 (0, 0) D d u [.ref t, .int p0, .int p1, .int p2] (some (.int r)) u :=
  u_start (own := RX1) (lvl := [(0, .ref t), (1, .int p0), (2, .int p1), (3, .int p2)]) (by decide) rfl (Nat.le_of_ble_eq_true rfl) rfl (fun p e s m args below meth c ls X hr hlk hI hl hA I hC => uw_X1_flow X hA ⟨Nat.le_refl _, Nat.le_refl _⟩ ⟨Nat.zero_le _, Nat.zero_le _⟩ n u t p0 p1 p2 r h (fun H locs ls pc hd I => u_iret X I hr hlk ⟨rfl, rfl⟩ hd) _ _ ls I hl)

/-! SwapPress$State.side(IIZZ)I -/
def uf_X1_side_J86 (n : Nat) (d : UD) (u : UM) (v0 : Nat) (v1 : Int32) (v2 : Int32) (v3 : Int32) (v4 : Int32) (v6 : Int32) (t0 : Int32) (t1 : Int32) : Option ((Int32 × Int32) ⊕ Int32) :=
  some (.inl ((t1 + t0, v6 + 1)))
def uf_X1_side_J85 (n : Nat) (d : UD) (u : UM) (v0 : Nat) (v1 : Int32) (v2 : Int32) (v3 : Int32) (v4 : Int32) (v6 : Int32) (t0 : Int32) : Option ((Int32 × Int32) ⊕ Int32) :=
  uf_X1_side_J86 n d u v0 v1 v2 v3 v4 v6 0 t0
def uf_X1_side_J73 (n : Nat) (d : UD) (u : UM) (v0 : Nat) (v1 : Int32) (v2 : Int32) (v3 : Int32) (v4 : Int32) (v6 : Int32) (v7 : Nat) (t0 : Int32) (t1 : Int32) : Option ((Int32 × Int32) ⊕ Int32) :=
  m_if ((t0 : Int32) = (v1 : Int32)) (m_b (u_ni u 6 2 v7) (fun b24 => uf_X1_side_J86 n d u v0 v1 v2 v3 v4 v6 b24 t1)) (uf_X1_side_J85 n d u v0 v1 v2 v3 v4 v6 t1)
def uf_X1_side_J56 (n : Nat) (d : UD) (u : UM) (v0 : Nat) (v1 : Int32) (v2 : Int32) (v3 : Int32) (v4 : Int32) (v6 : Int32) (v7 : Nat) (t0 : Int32) : Option ((Int32 × Int32) ⊕ Int32) :=
  m_if ((v3 : Int32) = 0) (m_b (u_ni u 6 1 v7) (fun b21 => uf_X1_side_J73 n d u v0 v1 v2 v3 v4 v6 v7 b21 t0)) (m_b (u_ni u 6 0 v7) (fun b26 => uf_X1_side_J73 n d u v0 v1 v2 v3 v4 v6 v7 b26 t0))
def uf_X1_side_L6 (n : Nat) (d : UD) (u : UM) (v0 : Nat) (v1 : Int32) (v2 : Int32) (v3 : Int32) (v4 : Int32) (v5 : Int32) (v6 : Int32) : Option ((Int32 × Int32) ⊕ Int32) :=
  m_b (u_fr d u 2 2 v0) (fun b1 => m_b (u_cl u 13 b1) (fun f3 => m_b (uf_J2_size n d u b1) (fun r6 => m_if ((r6 : Int32) ≤ (v6 : Int32)) (some (.inr v5)) (m_b (u_fr d u 2 2 v0) (fun b8 => m_b (u_cl u 13 b8) (fun f10 => m_b (uf_J2_get n d u b8 v6) (fun r13 => m_b (u_cl u 6 r13) (fun f14 => m_b (u_ni u 6 3 r13) (fun b16 => m_if ((b16 : Int32) = (v2 : Int32)) (m_if ((v4 : Int32) = 0) (uf_X1_side_J56 n d u v0 v1 v2 v3 v4 v6 r13 v5) (m_b (u_ni u 6 4 r13) (fun b28 => m_if ((b28 : Int32) = 0) (uf_X1_side_J56 n d u v0 v1 v2 v3 v4 v6 r13 v5) (uf_X1_side_J85 n d u v0 v1 v2 v3 v4 v6 v5)))) (uf_X1_side_J85 n d u v0 v1 v2 v3 v4 v6 v5))))))))))
def uf_X1_side_L6l (n : Nat) (d : UD) (u : UM) (v0 : Nat) (v1 : Int32) (v2 : Int32) (v3 : Int32) (v4 : Int32) (x : (Int32 × Int32)) : Option Int32 := m_lp (fun (x : (Int32 × Int32)) => uf_X1_side_L6 n d u v0 v1 v2 v3 v4 x.1 x.2) n x
def uf_X1_side (n : Nat) (d : UD) (u : UM) (t : Nat) (p0 : Int32) (p1 : Int32) (p2 : Int32) (p3 : Int32) : Option Int32 :=
  m_b (uf_X1_side_L6l n d u t p0 p1 p2 p3 ((0, 0))) (fun z32 => some z32)
theorem uh_X1_side : yX1_side.cls = RX1 ∧ yX1_side.cls ≠ "java/lang/invoke/MethodHandle" ∧ yX1_side.cls ≠ "java/lang/invoke/VarHandle" ∧ (parseMethodDescriptor yX1_side.desc).map (fun d => d.parameters.length) = some 4 := by decide +kernel
section S_X1_side
variable {p : Program} {l : Launch} {e : Env} {R : Room} {s : State} {m : MethodId} {args : Array Value} {below : List Frame} {meth : Method} {c : Code} {Q : State → Prop} {D : va_G} {A : Nat → Prop} {d : UD} {cells slots : Nat}
theorem wuf_X1_side_L6 (X : u_X RX1 D A d p s m c cX1_side 8 args) (hA : ∀ q, s.heap.size ≤ q → A q) (hR : 3 ≤ R.frames ∧ 64 ≤ R.locals) (hf : cells ≤ R.cells ∧ slots ≤ R.slots) (n : Nat) (u : UM) (v0 : Nat) (v1 : Int32) (v2 : Int32) (v3 : Int32) (v4 : Int32) (x : (Int32 × Int32)) (z : Int32) (hz : uf_X1_side_L6l n d u v0 v1 v2 v3 v4 x = some z) (hE : (fun (z : Int32) => ∀ (H : Heap) (locs : List Loc) (ls : Array Slot), u_I D A s.heap u H locs cells → lv_has ls 8 [(5, .int z)] → W p l e R s m args below meth c H locs cells slots Q (F0 m 95 ls [])) z) : (fun (x : (Int32 × Int32)) => ∀ (H : Heap) (locs : List Loc) (ls : Array Slot), u_I D A s.heap u H locs cells → lv_has ls 8 [(0, .ref v0), (1, .int v1), (2, .int v2), (3, .int v3), (4, .int v4), (5, .int x.1), (6, .int x.2)] → W p l e R s m args below meth c H locs cells slots Q (F0 m 6 ls [])) x := by
  refine m_lpW (G := fun (x : (Int32 × Int32)) => ∀ (H : Heap) (locs : List Loc) (ls : Array Slot), u_I D A s.heap u H locs cells → lv_has ls 8 [(0, .ref v0), (1, .int v1), (2, .int v2), (3, .int v3), (4, .int v4), (5, .int x.1), (6, .int x.2)] → W p l e R s m args below meth c H locs cells slots Q (F0 m 6 ls [])) (E := fun (z : Int32) => ∀ (H : Heap) (locs : List Loc) (ls : Array Slot), u_I D A s.heap u H locs cells → lv_has ls 8 [(5, .int z)] → W p l e R s m args below meth c H locs cells slots Q (F0 m 95 ls [])) ?_ n x z hz hE
  rintro ⟨v5, v6⟩ r h hr H locs ls I hl
  replace h : uf_X1_side_L6 n d u v0 v1 v2 v3 v4 v5 v6 = some r := h
  have k86 : ∀ (v6 : Int32) (t0 : Int32) (t1 : Int32) (H : Heap) (locs : List Loc) (ls : Array Slot), uf_X1_side_J86 n d u v0 v1 v2 v3 v4 v6 t0 t1 = some r → u_I D A s.heap u H locs cells → lv_has ls 8 [(0, .ref v0), (1, .int v1), (2, .int v2), (3, .int v3), (4, .int v4), (6, .int v6)] → W p l e R s m args below meth c H locs cells slots Q (F0 m 86 ls [.int t0, .int t1]) := by
    intro v6 t0 t1 H locs ls h I hl
    unfold uf_X1_side_J86 at h
    refine lv_iadd X.1 X.2.1 dX1_side_86 ?_
    refine lv_istore (lv' := [(5, .int (t1 + t0)), (0, .ref v0), (1, .int v1), (2, .int v2), (3, .int v3), (4, .int v4), (6, .int v6)]) X.1 X.2.1 dX1_side_87 hl (by decide) rfl (fun ls hl => ?_)
    refine lv_iinc (v := v6 + 1) (lv' := [(6, .int (v6 + 1)), (5, .int (t1 + t0)), (0, .ref v0), (1, .int v1), (2, .int v2), (3, .int v3), (4, .int v4)]) X.1 X.2.1 dX1_side_89 hl (k := 6) rfl rfl (by decide) rfl (fun ls hl => ?_)
    refine lv_goto (tgt := 6) X.1 X.2.1 dX1_side_92 (by decide) ?_
    cases h
    exact hr H locs ls I (lv_sub hl [2, 3, 4, 5, 6, 1, 0] rfl)
  have k85 : ∀ (v6 : Int32) (t0 : Int32) (H : Heap) (locs : List Loc) (ls : Array Slot), uf_X1_side_J85 n d u v0 v1 v2 v3 v4 v6 t0 = some r → u_I D A s.heap u H locs cells → lv_has ls 8 [(0, .ref v0), (1, .int v1), (2, .int v2), (3, .int v3), (4, .int v4), (6, .int v6)] → W p l e R s m args below meth c H locs cells slots Q (F0 m 85 ls [.int t0]) := by
    intro v6 t0 H locs ls h I hl
    unfold uf_X1_side_J85 at h
    refine lv_iconst (v := 0) X.1 X.2.1 dX1_side_85 (by decide) ?_
    exact k86 v6 0 t0 H locs ls h I (lv_sub hl [0, 1, 2, 3, 4, 5] rfl)
  have k73 : ∀ (v6 : Int32) (v7 : Nat) (t0 : Int32) (t1 : Int32) (H : Heap) (locs : List Loc) (ls : Array Slot), uf_X1_side_J73 n d u v0 v1 v2 v3 v4 v6 v7 t0 t1 = some r → u_I D A s.heap u H locs cells → lv_has ls 8 [(0, .ref v0), (1, .int v1), (2, .int v2), (3, .int v3), (4, .int v4), (6, .int v6), (7, .ref v7)] → W p l e R s m args below meth c H locs cells slots Q (F0 m 73 ls [.int t0, .int t1]) := by
    intro v6 v7 t0 t1 H locs ls h I hl
    unfold uf_X1_side_J73 at h
    refine lv_iload_n X.1 X.2.1 dX1_side_73 rfl (lv_at hl 1 rfl) ?_
    refine lv_icmp_ne (tgt := 85) X.1 X.2.1 dX1_side_74 (by decide) (fun c23 => ?_) (fun c23 => ?_)
    · replace h := m_ifF c23 h
      exact k85 v6 t1 H locs ls h I (lv_sub hl [0, 1, 2, 3, 4, 5] rfl)
    · replace h := m_ifT c23 h
      refine lv_aload X.1 X.2.1 dX1_side_77 (lv_at hl 6 rfl) ?_
      obtain ⟨b24, e25, h⟩ := m_bS h
      refine u_GiN X I e25 (C := RX6) (T := TX6) (N := 5) (ref := "SwapPress$Trade") (host := "SwapPress") in_X6 rfl (by decide) rfl rfl 18 rfl (fun _ h => h) dX1_side_79 ?_
      refine lv_goto (tgt := 86) X.1 X.2.1 dX1_side_82 (by decide) ?_
      exact k86 v6 b24 t1 H locs ls h I (lv_sub hl [0, 1, 2, 3, 4, 5] rfl)
  have k56 : ∀ (v6 : Int32) (v7 : Nat) (t0 : Int32) (H : Heap) (locs : List Loc) (ls : Array Slot), uf_X1_side_J56 n d u v0 v1 v2 v3 v4 v6 v7 t0 = some r → u_I D A s.heap u H locs cells → lv_has ls 8 [(0, .ref v0), (1, .int v1), (2, .int v2), (3, .int v3), (4, .int v4), (6, .int v6), (7, .ref v7)] → W p l e R s m args below meth c H locs cells slots Q (F0 m 56 ls [.int t0]) := by
    intro v6 v7 t0 H locs ls h I hl
    unfold uf_X1_side_J56 at h
    refine lv_iload_n X.1 X.2.1 dX1_side_56 rfl (lv_at hl 3 rfl) ?_
    refine lv_if_eq (tgt := 68) X.1 X.2.1 dX1_side_57 (by decide) (fun c20 => ?_) (fun c20 => ?_)
    · replace h := m_ifT c20 h
      refine lv_aload X.1 X.2.1 dX1_side_68 (lv_at hl 6 rfl) ?_
      obtain ⟨b21, e22, h⟩ := m_bS h
      refine u_GiN X I e22 (C := RX6) (T := TX6) (N := 5) (ref := "SwapPress$Trade") (host := "SwapPress") in_X6 rfl (by decide) rfl rfl 16 rfl (fun _ h => h) dX1_side_70 ?_
      exact k73 v6 v7 b21 t0 H locs ls h I (lv_sub hl [0, 1, 2, 3, 4, 5, 6] rfl)
    · replace h := m_ifF c20 h
      refine lv_aload X.1 X.2.1 dX1_side_60 (lv_at hl 6 rfl) ?_
      obtain ⟨b26, e27, h⟩ := m_bS h
      refine u_GiN X I e27 (C := RX6) (T := TX6) (N := 5) (ref := "SwapPress$Trade") (host := "SwapPress") in_X6 rfl (by decide) rfl rfl 14 rfl (fun _ h => h) dX1_side_62 ?_
      refine lv_goto (tgt := 73) X.1 X.2.1 dX1_side_65 (by decide) ?_
      exact k73 v6 v7 b26 t0 H locs ls h I (lv_sub hl [0, 1, 2, 3, 4, 5, 6] rfl)
  unfold uf_X1_side_L6 at h
  refine lv_iload X.1 X.2.1 dX1_side_6 (lv_at hl 6 rfl) ?_
  refine lv_aload_n X.1 X.2.1 dX1_side_8 rfl (lv_at hl 0 rfl) ?_
  obtain ⟨b1, e2, h⟩ := m_bS h
  refine u_Gr X I e2 (C := RX1) (T := TX1) (N := 5) (ref := "SwapPress$State") in_X1 rfl (by decide) rfl rfl q180 (fun _ h => h) dX1_side_9 ?_
  obtain ⟨f3, e4, h⟩ := m_bS h
  obtain ⟨r6, e5, h⟩ := m_bS h
  refine u_callVp X hl.1 I hA (As := []) (rest := [.int v6]) (uk_J2_size l n D d u b1 _ e5) (u_clS e4) (C := RJ2) (T := TJ2) (N := 3) rfl 0 q874 q667 q668 q105 q669 uh_J2_size rfl rfl ⟨Nat.le_trans (Nat.le_of_ble_eq_true rfl) hR.1, Nat.le_trans (Nat.le_of_ble_eq_true rfl) hR.2⟩ hf (stk := [.int r6, .int v6]) rfl (Nat.le_of_ble_eq_true rfl) dX1_side_12 (fun H locs I => ?_)
  refine lv_icmp_ge (tgt := 95) X.1 X.2.1 dX1_side_15 (by decide) (fun c7 => ?_) (fun c7 => ?_)
  · replace h := m_ifT c7 h
    cases h
    exact hr H locs ls I (lv_sub hl [5] rfl)
  · replace h := m_ifF c7 h
    refine lv_aload_n X.1 X.2.1 dX1_side_18 rfl (lv_at hl 0 rfl) ?_
    obtain ⟨b8, e9, h⟩ := m_bS h
    refine u_Gr X I e9 (C := RX1) (T := TX1) (N := 5) (ref := "SwapPress$State") in_X1 rfl (by decide) rfl rfl q180 (fun _ h => h) dX1_side_19 ?_
    refine lv_iload X.1 X.2.1 dX1_side_22 (lv_at hl 6 rfl) ?_
    obtain ⟨f10, e11, h⟩ := m_bS h
    obtain ⟨r13, e12, h⟩ := m_bS h
    refine u_callVp X hl.1 I hA (As := [.int v6]) (rest := []) (uk_J2_get l n D d u b8 v6 _ e12) (u_clS e11) (C := RJ2) (T := TJ2) (N := 3) rfl 1 q955 q823 q824 q105 q825 uh_J2_get rfl rfl ⟨Nat.le_trans (Nat.le_of_ble_eq_true rfl) hR.1, Nat.le_trans (Nat.le_of_ble_eq_true rfl) hR.2⟩ hf (stk := [.ref r13]) rfl (Nat.le_of_ble_eq_true rfl) dX1_side_24 (fun H locs I => ?_)
    obtain ⟨f14, e15, h⟩ := m_bS h
    refine u_cast X I (u_clS e15) (C := RX6) (T := TX6) (N := 5) rfl q956 dX1_side_27 ?_
    refine lv_astore (lv' := [(7, .ref r13), (0, .ref v0), (1, .int v1), (2, .int v2), (3, .int v3), (4, .int v4), (5, .int v5), (6, .int v6)]) X.1 X.2.1 dX1_side_30 hl (by decide) rfl (fun ls hl => ?_)
    refine lv_iload X.1 X.2.1 dX1_side_32 (lv_at hl 6 rfl) ?_
    refine lv_aload X.1 X.2.1 dX1_side_34 (lv_at hl 0 rfl) ?_
    obtain ⟨b16, e17, h⟩ := m_bS h
    refine u_GiN X I e17 (C := RX6) (T := TX6) (N := 5) (ref := "SwapPress$Trade") (host := "SwapPress") in_X6 rfl (by decide) rfl rfl 20 rfl (fun _ h => h) dX1_side_36 ?_
    refine lv_iload_n X.1 X.2.1 dX1_side_39 rfl (lv_at hl 3 rfl) ?_
    refine lv_icmp_ne (tgt := 85) X.1 X.2.1 dX1_side_40 (by decide) (fun c18 => ?_) (fun c18 => ?_)
    · replace h := m_ifF c18 h
      exact k85 v6 v5 H locs ls h I (lv_sub hl [1, 2, 3, 4, 5, 7] rfl)
    · replace h := m_ifT c18 h
      refine lv_iload X.1 X.2.1 dX1_side_43 (lv_at hl 5 rfl) ?_
      refine lv_if_eq (tgt := 56) X.1 X.2.1 dX1_side_45 (by decide) (fun c19 => ?_) (fun c19 => ?_)
      · replace h := m_ifT c19 h
        exact k56 v6 r13 v5 H locs ls h I (lv_sub hl [1, 2, 3, 4, 5, 7, 0] rfl)
      · replace h := m_ifF c19 h
        refine lv_aload X.1 X.2.1 dX1_side_48 (lv_at hl 0 rfl) ?_
        obtain ⟨b28, e29, h⟩ := m_bS h
        refine u_GiN X I e29 (C := RX6) (T := TX6) (N := 5) (ref := "SwapPress$Trade") (host := "SwapPress") in_X6 rfl (by decide) rfl rfl 22 rfl (fun _ h => h) dX1_side_50 ?_
        refine lv_if_ne (tgt := 85) X.1 X.2.1 dX1_side_53 (by decide) (fun c30 => ?_) (fun c30 => ?_)
        · replace h := m_ifF c30 h
          exact k85 v6 v5 H locs ls h I (lv_sub hl [1, 2, 3, 4, 5, 7] rfl)
        · replace h := m_ifT c30 h
          exact k56 v6 r13 v5 H locs ls h I (lv_sub hl [1, 2, 3, 4, 5, 7, 0] rfl)
theorem uw_X1_side (X : u_X RX1 D A d p s m c cX1_side 8 args) (hA : ∀ q, s.heap.size ≤ q → A q) (hR : 3 ≤ R.frames ∧ 64 ≤ R.locals) (hf : cells ≤ R.cells ∧ slots ≤ R.slots) (n : Nat) (u : UM) (t : Nat) (p0 : Int32) (p1 : Int32) (p2 : Int32) (p3 : Int32) (r : Int32) (h : uf_X1_side n d u t p0 p1 p2 p3 = some r) (hret : ∀ (H : Heap) (locs : List Loc) (ls : Array Slot) (pc : Nat), decode cX1_side pc = .ok (.ireturn, 1) → u_I D A s.heap u H locs cells → W p l e R s m args below meth c H locs cells slots Q (F0 m pc ls [.int r])) : ∀ (H : Heap) (locs : List Loc) (ls : Array Slot), u_I D A s.heap u H locs cells → lv_has ls 8 [(0, .ref t), (1, .int p0), (2, .int p1), (3, .int p2), (4, .int p3)] → W p l e R s m args below meth c H locs cells slots Q (F0 m 0 ls []) := by
  intro H locs ls I hl
  unfold uf_X1_side at h
  refine lv_iconst (v := 0) X.1 X.2.1 dX1_side_0 (by decide) ?_
  refine lv_istore (lv' := [(5, .int 0), (0, .ref t), (1, .int p0), (2, .int p1), (3, .int p2), (4, .int p3)]) X.1 X.2.1 dX1_side_1 hl (by decide) rfl (fun ls hl => ?_)
  refine lv_iconst (v := 0) X.1 X.2.1 dX1_side_3 (by decide) ?_
  refine lv_istore (lv' := [(6, .int 0), (5, .int 0), (0, .ref t), (1, .int p0), (2, .int p1), (3, .int p2), (4, .int p3)]) X.1 X.2.1 dX1_side_4 hl (by decide) rfl (fun ls hl => ?_)
  obtain ⟨z32, e31, h⟩ := m_bS h
  refine wuf_X1_side_L6 X hA hR hf n u t p0 p1 p2 p3 _ _ e31 (fun H locs ls I hl => ?_) H locs ls I (lv_sub hl [2, 3, 4, 5, 6, 1, 0] rfl)
  refine lv_iload X.1 X.2.1 dX1_side_95 (lv_at hl 0 rfl) ?_
  obtain rfl := m_e1 h
  exact hret H locs ls 97 dX1_side_97 I
end S_X1_side
theorem uk_X1_side (l : Launch) (n : Nat) (D : va_G) (d : UD) (u : UM) (t : Nat) (p0 : Int32) (p1 : Int32) (p2 : Int32) (p3 : Int32) (r : Int32) (h : uf_X1_side n d u t p0 p1 p2 p3 = some r) : u_M l yX1_side (ws_ yX1_side cX1_side 8 (some .int)) 3 64 (0, 0) D d u [.ref t, .int p0, .int p1, .int p2, .int p3] (some (.int r)) u :=
  u_start (own := RX1) (lvl := [(0, .ref t), (1, .int p0), (2, .int p1), (3, .int p2), (4, .int p3)]) (by decide) rfl (Nat.le_of_ble_eq_true rfl) rfl (fun p e s m args below meth c ls X hr hlk hI hl hA I hC => uw_X1_side X hA ⟨Nat.le_refl _, Nat.le_refl _⟩ ⟨Nat.zero_le _, Nat.zero_le _⟩ n u t p0 p1 p2 p3 r h (fun H locs ls pc hd I => u_iret X I hr hlk ⟨rfl, rfl⟩ hd) _ _ ls I hl)

/-! SwapPress$State.kept()I -/
def uf_X1_kept_L4 (n : Nat) (d : UD) (u : UM) (v0 : Nat) (v1 : Int32) (v2 : Int32) : Option ((Int32 × Int32) ⊕ Int32) :=
  m_b (u_fr d u 2 2 v0) (fun b1 => m_b (u_cl u 13 b1) (fun f3 => m_b (uf_J2_size n d u b1) (fun r6 => m_if ((r6 : Int32) ≤ (v2 : Int32)) (some (.inr v1)) (m_b (u_fr d u 2 2 v0) (fun b8 => m_b (u_cl u 13 b8) (fun f10 => m_b (uf_J2_get n d u b8 v2) (fun r13 => m_b (u_cl u 6 r13) (fun f14 => m_b (u_ni u 6 4 r13) (fun b16 => m_b (uf_X0_one n d u b16) (fun r19 => some (.inl ((v1 + r19, v2 + 1)))))))))))))
def uf_X1_kept_L4l (n : Nat) (d : UD) (u : UM) (v0 : Nat) (x : (Int32 × Int32)) : Option Int32 := m_lp (fun (x : (Int32 × Int32)) => uf_X1_kept_L4 n d u v0 x.1 x.2) n x
def uf_X1_kept (n : Nat) (d : UD) (u : UM) (t : Nat) : Option Int32 :=
  m_b (uf_X1_kept_L4l n d u t ((0, 0))) (fun z21 => some z21)
theorem uh_X1_kept : yX1_kept.cls = RX1 ∧ yX1_kept.cls ≠ "java/lang/invoke/MethodHandle" ∧ yX1_kept.cls ≠ "java/lang/invoke/VarHandle" ∧ (parseMethodDescriptor yX1_kept.desc).map (fun d => d.parameters.length) = some 0 := by decide +kernel
section S_X1_kept
variable {p : Program} {l : Launch} {e : Env} {R : Room} {s : State} {m : MethodId} {args : Array Value} {below : List Frame} {meth : Method} {c : Code} {Q : State → Prop} {D : va_G} {A : Nat → Prop} {d : UD} {cells slots : Nat}
theorem wuf_X1_kept_L4 (X : u_X RX1 D A d p s m c cX1_kept 3 args) (hA : ∀ q, s.heap.size ≤ q → A q) (hR : 3 ≤ R.frames ∧ 64 ≤ R.locals) (hf : cells ≤ R.cells ∧ slots ≤ R.slots) (n : Nat) (u : UM) (v0 : Nat) (x : (Int32 × Int32)) (z : Int32) (hz : uf_X1_kept_L4l n d u v0 x = some z) (hE : (fun (z : Int32) => ∀ (H : Heap) (locs : List Loc) (ls : Array Slot), u_I D A s.heap u H locs cells → lv_has ls 3 [(1, .int z)] → W p l e R s m args below meth c H locs cells slots Q (F0 m 41 ls [])) z) : (fun (x : (Int32 × Int32)) => ∀ (H : Heap) (locs : List Loc) (ls : Array Slot), u_I D A s.heap u H locs cells → lv_has ls 3 [(0, .ref v0), (1, .int x.1), (2, .int x.2)] → W p l e R s m args below meth c H locs cells slots Q (F0 m 4 ls [])) x := by
  refine m_lpW (G := fun (x : (Int32 × Int32)) => ∀ (H : Heap) (locs : List Loc) (ls : Array Slot), u_I D A s.heap u H locs cells → lv_has ls 3 [(0, .ref v0), (1, .int x.1), (2, .int x.2)] → W p l e R s m args below meth c H locs cells slots Q (F0 m 4 ls [])) (E := fun (z : Int32) => ∀ (H : Heap) (locs : List Loc) (ls : Array Slot), u_I D A s.heap u H locs cells → lv_has ls 3 [(1, .int z)] → W p l e R s m args below meth c H locs cells slots Q (F0 m 41 ls [])) ?_ n x z hz hE
  rintro ⟨v1, v2⟩ r h hr H locs ls I hl
  replace h : uf_X1_kept_L4 n d u v0 v1 v2 = some r := h
  unfold uf_X1_kept_L4 at h
  refine lv_iload_n X.1 X.2.1 dX1_kept_4 rfl (lv_at hl 2 rfl) ?_
  refine lv_aload_n X.1 X.2.1 dX1_kept_5 rfl (lv_at hl 0 rfl) ?_
  obtain ⟨b1, e2, h⟩ := m_bS h
  refine u_Gr X I e2 (C := RX1) (T := TX1) (N := 5) (ref := "SwapPress$State") in_X1 rfl (by decide) rfl rfl q180 (fun _ h => h) dX1_kept_6 ?_
  obtain ⟨f3, e4, h⟩ := m_bS h
  obtain ⟨r6, e5, h⟩ := m_bS h
  refine u_callVp X hl.1 I hA (As := []) (rest := [.int v2]) (uk_J2_size l n D d u b1 _ e5) (u_clS e4) (C := RJ2) (T := TJ2) (N := 3) rfl 0 q874 q667 q668 q105 q669 uh_J2_size rfl rfl ⟨Nat.le_trans (Nat.le_of_ble_eq_true rfl) hR.1, Nat.le_trans (Nat.le_of_ble_eq_true rfl) hR.2⟩ hf (stk := [.int r6, .int v2]) rfl (Nat.le_of_ble_eq_true rfl) dX1_kept_9 (fun H locs I => ?_)
  refine lv_icmp_ge (tgt := 41) X.1 X.2.1 dX1_kept_12 (by decide) (fun c7 => ?_) (fun c7 => ?_)
  · replace h := m_ifT c7 h
    cases h
    exact hr H locs ls I (lv_sub hl [1] rfl)
  · replace h := m_ifF c7 h
    refine lv_iload_n X.1 X.2.1 dX1_kept_15 rfl (lv_at hl 1 rfl) ?_
    refine lv_aload_n X.1 X.2.1 dX1_kept_16 rfl (lv_at hl 0 rfl) ?_
    obtain ⟨b8, e9, h⟩ := m_bS h
    refine u_Gr X I e9 (C := RX1) (T := TX1) (N := 5) (ref := "SwapPress$State") in_X1 rfl (by decide) rfl rfl q180 (fun _ h => h) dX1_kept_17 ?_
    refine lv_iload_n X.1 X.2.1 dX1_kept_20 rfl (lv_at hl 2 rfl) ?_
    obtain ⟨f10, e11, h⟩ := m_bS h
    obtain ⟨r13, e12, h⟩ := m_bS h
    refine u_callVp X hl.1 I hA (As := [.int v2]) (rest := [.int v1]) (uk_J2_get l n D d u b8 v2 _ e12) (u_clS e11) (C := RJ2) (T := TJ2) (N := 3) rfl 1 q955 q823 q824 q105 q825 uh_J2_get rfl rfl ⟨Nat.le_trans (Nat.le_of_ble_eq_true rfl) hR.1, Nat.le_trans (Nat.le_of_ble_eq_true rfl) hR.2⟩ hf (stk := [.ref r13, .int v1]) rfl (Nat.le_of_ble_eq_true rfl) dX1_kept_21 (fun H locs I => ?_)
    obtain ⟨f14, e15, h⟩ := m_bS h
    refine u_cast X I (u_clS e15) (C := RX6) (T := TX6) (N := 5) rfl q956 dX1_kept_24 ?_
    obtain ⟨b16, e17, h⟩ := m_bS h
    refine u_GiN X I e17 (C := RX6) (T := TX6) (N := 5) (ref := "SwapPress$Trade") (host := "SwapPress") in_X6 rfl (by decide) rfl rfl 22 rfl (fun _ h => h) dX1_kept_27 ?_
    obtain ⟨r19, e18, h⟩ := m_bS h
    refine u_callSNp X hl.1 I hA (As := [.int b16]) (rest := [.int v1]) (uk_X0_one l n D d u b16 _ e18) 1 4 rfl q933 q101 q934 uh_X0_one.2 rfl rfl ⟨Nat.le_trans (Nat.le_of_ble_eq_true rfl) hR.1, Nat.le_trans (Nat.le_of_ble_eq_true rfl) hR.2⟩ hf (stk := [.int r19, .int v1]) rfl (Nat.le_of_ble_eq_true rfl) dX1_kept_30 (fun H locs I => ?_)
    refine lv_iadd X.1 X.2.1 dX1_kept_33 ?_
    refine lv_istore_n (lv' := [(1, .int (v1 + r19)), (0, .ref v0), (2, .int v2)]) X.1 X.2.1 dX1_kept_34 rfl hl (by decide) rfl (fun ls hl => ?_)
    refine lv_iinc (v := v2 + 1) (lv' := [(2, .int (v2 + 1)), (1, .int (v1 + r19)), (0, .ref v0)]) X.1 X.2.1 dX1_kept_35 hl (k := 2) rfl rfl (by decide) rfl (fun ls hl => ?_)
    refine lv_goto (tgt := 4) X.1 X.2.1 dX1_kept_38 (by decide) ?_
    cases h
    exact hr H locs ls I (lv_sub hl [2, 1, 0] rfl)
theorem uw_X1_kept (X : u_X RX1 D A d p s m c cX1_kept 3 args) (hA : ∀ q, s.heap.size ≤ q → A q) (hR : 3 ≤ R.frames ∧ 64 ≤ R.locals) (hf : cells ≤ R.cells ∧ slots ≤ R.slots) (n : Nat) (u : UM) (t : Nat) (r : Int32) (h : uf_X1_kept n d u t = some r) (hret : ∀ (H : Heap) (locs : List Loc) (ls : Array Slot) (pc : Nat), decode cX1_kept pc = .ok (.ireturn, 1) → u_I D A s.heap u H locs cells → W p l e R s m args below meth c H locs cells slots Q (F0 m pc ls [.int r])) : ∀ (H : Heap) (locs : List Loc) (ls : Array Slot), u_I D A s.heap u H locs cells → lv_has ls 3 [(0, .ref t)] → W p l e R s m args below meth c H locs cells slots Q (F0 m 0 ls []) := by
  intro H locs ls I hl
  unfold uf_X1_kept at h
  refine lv_iconst (v := 0) X.1 X.2.1 dX1_kept_0 (by decide) ?_
  refine lv_istore_n (lv' := [(1, .int 0), (0, .ref t)]) X.1 X.2.1 dX1_kept_1 rfl hl (by decide) rfl (fun ls hl => ?_)
  refine lv_iconst (v := 0) X.1 X.2.1 dX1_kept_2 (by decide) ?_
  refine lv_istore_n (lv' := [(2, .int 0), (1, .int 0), (0, .ref t)]) X.1 X.2.1 dX1_kept_3 rfl hl (by decide) rfl (fun ls hl => ?_)
  obtain ⟨z21, e20, h⟩ := m_bS h
  refine wuf_X1_kept_L4 X hA hR hf n u t _ _ e20 (fun H locs ls I hl => ?_) H locs ls I (lv_sub hl [2, 1, 0] rfl)
  refine lv_iload_n X.1 X.2.1 dX1_kept_41 rfl (lv_at hl 0 rfl) ?_
  obtain rfl := m_e1 h
  exact hret H locs ls 42 dX1_kept_42 I
end S_X1_kept
theorem uk_X1_kept (l : Launch) (n : Nat) (D : va_G) (d : UD) (u : UM) (t : Nat) (r : Int32) (h : uf_X1_kept n d u t = some r) : u_M l yX1_kept (ws_ yX1_kept cX1_kept 3 (some .int)) 3 64 (0, 0) D d u [.ref t] (some (.int r)) u :=
  u_start (own := RX1) (lvl := [(0, .ref t)]) (by decide) rfl (Nat.le_of_ble_eq_true rfl) rfl (fun p e s m args below meth c ls X hr hlk hI hl hA I hC => uw_X1_kept X hA ⟨Nat.le_refl _, Nat.le_refl _⟩ ⟨Nat.zero_le _, Nat.zero_le _⟩ n u t r h (fun H locs ls pc hd I => u_iret X I hr hlk ⟨rfl, rfl⟩ hd) _ _ ls I hl)

/-! SwapPress$Reader.wrong(I)LSwapPress$Wrong; -/
def uf_X4_wrong (n : Nat) (d : UD) (u : UM) (t : Nat) (p0 : Int32) : Option ((Nat × UM) × UC) :=
  u_ac (1, 8) (m_b (some (u_nw u (.inr (5, [.null, .null, .null, .null, .null, .int 0, .int 0, .int 0])))) (fun u2 => m_b (u_fi d u2 4 3 t) (fun b4 => u_bc u2.2 (uf_X5_init n d u2 u.2 p0 b4) (fun r7 u8 => some ((u.2, u8), (0, 0))))))
theorem uh_X4_wrong : yX4_wrong.cls = RX4 ∧ yX4_wrong.cls ≠ "java/lang/invoke/MethodHandle" ∧ yX4_wrong.cls ≠ "java/lang/invoke/VarHandle" ∧ (parseMethodDescriptor yX4_wrong.desc).map (fun d => d.parameters.length) = some 1 := by decide +kernel
section S_X4_wrong
variable {p : Program} {l : Launch} {e : Env} {R : Room} {s : State} {m : MethodId} {args : Array Value} {below : List Frame} {meth : Method} {c : Code} {Q : State → Prop} {D : va_G} {A : Nat → Prop} {d : UD}
theorem uw_X4_wrong (X : u_X RX4 D A d p s m c cX4_wrong 2 args) (hA : ∀ q, s.heap.size ≤ q → A q) (hR : 4 ≤ R.frames ∧ 90 ≤ R.locals) (n : Nat) (u : UM) (t : Nat) (p0 : Int32) (r0 : Nat) (ur : UM) (C : UC) (h : uf_X4_wrong n d u t p0 = some ((r0, ur), C)) (hret : ∀ (H : Heap) (locs : List Loc) (ls : Array Slot) (pc cells slots : Nat), decode cX4_wrong pc = .ok (.areturn, 1) → u_left R cells slots (u_add (0, 0) (0, 0)) → u_I D A s.heap ur H locs cells → W p l e R s m args below meth c H locs cells slots Q (F0 m pc ls [.ref r0])) : ∀ (H : Heap) (locs : List Loc) (ls : Array Slot) (cells slots : Nat), u_left R cells slots (u_add C (0, 0)) → u_I D A s.heap u H locs cells → lv_has ls 2 [(0, .ref t), (1, .int p0)] → W p l e R s m args below meth c H locs cells slots Q (F0 m 0 ls []) := by
  intro H locs ls cells slots hC I hl
  unfold uf_X4_wrong at h
  obtain ⟨C1, h, hq⟩ := u_acS h
  rw [hq] at hC
  obtain ⟨u2, e3, h⟩ := m_bS h
  refine u_NO X I hA 5 (C := RX5) (T := TX5) (N := 8) in_X5 tyX5 tyX5_ok q528 q529 q121 rfl (fs := [.null, .null, .null, .null, .null, .int 0, .int 0, .int 0]) e3 (fun j hj => by match j, hj with | 0, _ => rfl | 1, _ => rfl | 2, _ => rfl | 3, _ => rfl | 4, _ => rfl | 5, _ => rfl | 6, _ => rfl | 7, _ => rfl) hC dX4_wrong_0 (fun H cells slots hC I => ?_)
  refine lv_dup X.1 X.2.1 dX4_wrong_3 rfl ?_
  refine lv_iload_n X.1 X.2.1 dX4_wrong_4 rfl (lv_at hl 1 rfl) ?_
  refine lv_aload_n X.1 X.2.1 dX4_wrong_5 rfl (lv_at hl 0 rfl) ?_
  obtain ⟨b4, e5, h⟩ := m_bS h
  refine u_Gi X I e5 (C := RX4) (T := TX4) (N := 7) (ref := "SwapPress$Reader") in_X4 rfl (by decide) rfl rfl q293 (fun _ h => h) dX4_wrong_6 ?_
  obtain ⟨r7, u8, C9, C10, e6, z11, h, hq⟩ := u_bcS h
  rw [hq] at hC
  refine u_callI X hl.1 I hA (As := [.int p0, .int b4]) (rest := [.ref u.2]) (uk_X5_init l n D d u2 u.2 p0 b4 _ _ e6) z11 2 q565 q566 q121 q567 rfl uh_X5_init.2 rfl rfl ⟨Nat.le_trans (Nat.le_of_ble_eq_true rfl) hR.1, Nat.le_trans (Nat.le_of_ble_eq_true rfl) hR.2⟩ hC (Nat.le_of_ble_eq_true rfl) dX4_wrong_9 (fun H locs cells slots hC I => ?_)
  obtain ⟨he, rfl⟩ := m_e3 h
  obtain ⟨rfl, rfl⟩ := m_e4 he
  exact hret H locs ls 12 _ _ dX4_wrong_12 hC I
end S_X4_wrong
theorem uk_X4_wrong (l : Launch) (n : Nat) (D : va_G) (d : UD) (u : UM) (t : Nat) (p0 : Int32) (r0 : Nat) (ur : UM) (C : UC) (h : uf_X4_wrong n d u t p0 = some ((r0, ur), C)) : u_M l yX4_wrong (ws_ yX4_wrong cX4_wrong 2 (some (.object "SwapPress$Wrong"))) 4 90 C D d u [.ref t, .int p0] (some (.ref r0)) ur :=
  u_start (own := RX4) (lvl := [(0, .ref t), (1, .int p0)]) (by decide) rfl (Nat.le_of_ble_eq_true rfl) rfl (fun p e s m args below meth c ls X hr hlk hI hl hA I hC => uw_X4_wrong X hA ⟨Nat.le_refl _, Nat.le_refl _⟩ n u t p0 r0 ur C h (fun H locs ls pc cells slots hd hC I => u_aret (r := some r0) X I hr (Or.inl ⟨_, rfl⟩) hlk (u_leftE hC) hd) _ _ ls _ _ hC I hl)

/-! SwapPress$Reader.number(II)I -/
def uf_X4_number_J75 (n : Nat) (d : UD) (u : UM) (v0 : Nat) (v1 : Int32) (v2 : Int32) (t0 : Int32) : Option (((Int32 × UM) ⊕ (Int32 × UM)) × UC) :=
  m_b (u_fi d u 4 2 v0) (fun b35 => m_b (u_pf u 4 2 v0 (.int (b35 + 1))) (fun w37 => some (.inl ((t0, (w37, u.2))), (0, 0))))
def uf_X4_number_L26 (n : Nat) (d : UD) (v0 : Nat) (v1 : Int32) (v2 : Int32) (v3 : Int32) (u : UM) : Option (((Int32 × UM) ⊕ (Int32 × UM)) × UC) :=
  m_b (u_cl u 4 v0) (fun f25 => m_b (uf_X4_isAt n d u v0 48 57) (fun r28 => m_if ((r28 : Int32) = 0) (some (.inr ((v3, u)), (0, 0))) (m_b (u_fi d u 4 2 v0) (fun b30 => m_b (u_fi d u 4 3 v0) (fun b32 => m_if ((8 : Int32) ≤ (b30 - b32 : Int32)) (uf_X4_number_J75 n d u v0 v1 v2 v3) (m_b (u_fr d u 4 6 v0) (fun b39 => m_b (u_nr u 1 5 b39) (fun b41 => m_b (u_fi d u 4 2 v0) (fun b43 => m_b (u_ai d u 2 b41 b43) (fun b45 => uf_X4_number_J75 n d u v0 v1 v2 (((10 * v3) + b45) - 48)))))))))))
def uf_X4_number_L26l (n : Nat) (d : UD) (v0 : Nat) (v1 : Int32) (v2 : Int32) (x : (Int32 × UM)) : Option ((Int32 × UM) × UC) := u_lp (fun (x : (Int32 × UM)) => uf_X4_number_L26 n d v0 v1 v2 x.1 x.2) n x
def uf_X4_number_J18 (n : Nat) (d : UD) (u : UM) (v0 : Nat) : Option (((Int32 ⊕ Nat) × UM) × UC) :=
  m_b (u_cl u 4 v0) (fun f10 => u_bc u.2 (uf_X4_wrong n d u v0 1) (fun r13 u14 => m_b (u_cl u14 5 r13) (fun f18 => some ((.inr r13, u14), (0, 0)))))
def uf_X4_number_J115 (n : Nat) (d : UD) (u : UM) (v0 : Nat) : Option (((Int32 ⊕ Nat) × UM) × UC) :=
  m_b (u_cl u 4 v0) (fun f55 => u_bc u.2 (uf_X4_wrong n d u v0 2) (fun r58 u59 => m_b (u_cl u59 5 r58) (fun f63 => some ((.inr r58, u59), (0, 0)))))
def uf_X4_number (n : Nat) (d : UD) (u : UM) (t : Nat) (p0 : Int32) (p1 : Int32) : Option (((Int32 ⊕ Nat) × UM) × UC) :=
  m_b (u_cl u 4 t) (fun f1 => u_bc u.2 (uf_X4_isEnd n d u t) (fun r4 u5 => m_if ((r4 : Int32) = 0) (m_b (u_cl u5 4 t) (fun f20 => m_b (uf_X4_isAt n d u5 t 48 57) (fun r23 => m_if ((r23 : Int32) = 0) (uf_X4_number_J18 n d u5 t) (u_bl (uf_X4_number_L26l n d t p0 p1 ((0, u5))) (fun y68 => m_b (u_fi d y68.2 4 2 t) (fun b50 => m_b (u_fi d y68.2 4 3 t) (fun b52 => m_if ((8 : Int32) < (b50 - b52 : Int32)) (uf_X4_number_J115 n d y68.2 t) (m_b (uf_X0_in n d y68.2 ((y68.1 : Int32).toInt64) ((p0 : Int32).toInt64) ((p1 : Int32).toInt64)) (fun r66 => m_if ((r66 : Int32) = 0) (uf_X4_number_J115 n d y68.2 t) (some ((.inl y68.1, y68.2), (0, 0)))))))))))) (uf_X4_number_J18 n d u5 t)))
theorem uh_X4_number : yX4_number.cls = RX4 ∧ yX4_number.cls ≠ "java/lang/invoke/MethodHandle" ∧ yX4_number.cls ≠ "java/lang/invoke/VarHandle" ∧ (parseMethodDescriptor yX4_number.desc).map (fun d => d.parameters.length) = some 2 := by decide +kernel
section S_X4_number
variable {p : Program} {l : Launch} {e : Env} {R : Room} {s : State} {m : MethodId} {args : Array Value} {below : List Frame} {meth : Method} {c : Code} {Q : State → Prop} {D : va_G} {A : Nat → Prop} {d : UD}
theorem wuf_X4_number_L26 (X : u_X RX4 D A d p s m c cX4_number 4 args) (hA : ∀ q, s.heap.size ≤ q → A q) (hR : 5 ≤ R.frames ∧ 111 ≤ R.locals) (n : Nat) (v0 : Nat) (v1 : Int32) (v2 : Int32) (x : (Int32 × UM)) (z : (Int32 × UM)) (C cr : UC) (hz : uf_X4_number_L26l n d v0 v1 v2 x = some (z, C)) (hE : (fun (z : (Int32 × UM)) (C : UC) => ∀ (H : Heap) (locs : List Loc) (ls : Array Slot) (cells slots : Nat), u_left R cells slots C → u_I D A s.heap z.2 H locs cells → lv_has ls 4 [(0, .ref v0), (1, .int v1), (2, .int v2), (3, .int z.1)] → W p l e R s m args below meth c H locs cells slots Q (F0 m 89 ls [])) z cr) : (fun (x : (Int32 × UM)) (C : UC) => ∀ (H : Heap) (locs : List Loc) (ls : Array Slot) (cells slots : Nat), u_left R cells slots C → u_I D A s.heap x.2 H locs cells → lv_has ls 4 [(0, .ref v0), (1, .int v1), (2, .int v2), (3, .int x.1)] → W p l e R s m args below meth c H locs cells slots Q (F0 m 26 ls [])) x (u_add C cr) := by
  refine u_lpW (G := fun (x : (Int32 × UM)) (C : UC) => ∀ (H : Heap) (locs : List Loc) (ls : Array Slot) (cells slots : Nat), u_left R cells slots C → u_I D A s.heap x.2 H locs cells → lv_has ls 4 [(0, .ref v0), (1, .int v1), (2, .int v2), (3, .int x.1)] → W p l e R s m args below meth c H locs cells slots Q (F0 m 26 ls [])) (E := fun (z : (Int32 × UM)) (C : UC) => ∀ (H : Heap) (locs : List Loc) (ls : Array Slot) (cells slots : Nat), u_left R cells slots C → u_I D A s.heap z.2 H locs cells → lv_has ls 4 [(0, .ref v0), (1, .int v1), (2, .int v2), (3, .int z.1)] → W p l e R s m args below meth c H locs cells slots Q (F0 m 89 ls [])) ?_ n x z C cr hz hE
  rintro ⟨v3, u⟩ r C cr h hr H locs ls cells slots hC I hl
  replace h : uf_X4_number_L26 n d v0 v1 v2 v3 u = some (r, C) := h
  have k75 : ∀ (u : UM) (t0 : Int32) (H : Heap) (locs : List Loc) (ls : Array Slot) (cells slots : Nat) (C : UC), uf_X4_number_J75 n d u v0 v1 v2 t0 = some (r, C) → u_left R cells slots (u_add C cr) → u_I D A s.heap u H locs cells → lv_has ls 4 [(0, .ref v0), (1, .int v1), (2, .int v2)] → W p l e R s m args below meth c H locs cells slots Q (F0 m 75 ls [.int t0]) := by
    intro u t0 H locs ls cells slots C h hC I hl
    unfold uf_X4_number_J75 at h
    refine lv_istore_n (lv' := [(3, .int t0), (0, .ref v0), (1, .int v1), (2, .int v2)]) X.1 X.2.1 dX4_number_75 rfl hl (by decide) rfl (fun ls hl => ?_)
    refine lv_aload_n X.1 X.2.1 dX4_number_76 rfl (lv_at hl 1 rfl) ?_
    refine lv_dup X.1 X.2.1 dX4_number_77 rfl ?_
    obtain ⟨b35, e36, h⟩ := m_bS h
    refine u_Gi X I e36 (C := RX4) (T := TX4) (N := 7) (ref := "SwapPress$Reader") in_X4 rfl (by decide) rfl rfl q292 (fun _ h => h) dX4_number_78 ?_
    refine lv_iconst (v := 1) X.1 X.2.1 dX4_number_81 (by decide) ?_
    refine lv_iadd X.1 X.2.1 dX4_number_82 ?_
    obtain ⟨w37, e38, h⟩ := m_bS h
    refine u_P X I e38 (C := RX4) (T := TX4) (N := 7) (ref := "SwapPress$Reader") in_X4 tyX4 tyX4_ok nmX4 rfl (by decide) rfl rfl q292 (fun _ h => h) rfl rfl rfl dX4_number_83 (fun H locs I => ?_)
    refine lv_goto (tgt := 26) X.1 X.2.1 dX4_number_86 (by decide) ?_
    obtain ⟨rfl, rfl⟩ := m_e3 h
    exact hr H locs ls _ _ (u_left0 hC) I (lv_sub hl [1, 2, 3, 0] rfl)
  unfold uf_X4_number_L26 at h
  refine lv_aload_n X.1 X.2.1 dX4_number_26 rfl (lv_at hl 0 rfl) ?_
  refine lv_bipush (v := 48) X.1 X.2.1 dX4_number_27 (by decide) ?_
  refine lv_bipush (v := 57) X.1 X.2.1 dX4_number_29 (by decide) ?_
  obtain ⟨f25, e26, h⟩ := m_bS h
  obtain ⟨r28, e27, h⟩ := m_bS h
  refine u_callVp X hl.1 I hA (As := [.int 48, .int 57]) (rest := []) (uk_X4_isAt l n D d u v0 48 57 _ e27) (u_clS e26) (C := RX4) (T := TX4) (N := 7) rfl 2 q320 q322 qs2 q108 q323 uh_X4_isAt rfl rfl ⟨Nat.le_trans (Nat.le_of_ble_eq_true rfl) hR.1, Nat.le_trans (Nat.le_of_ble_eq_true rfl) hR.2⟩ (u_leftLe hC) (stk := [.int r28]) rfl (Nat.le_of_ble_eq_true rfl) dX4_number_31 (fun H locs I => ?_)
  refine lv_if_eq (tgt := 89) X.1 X.2.1 dX4_number_34 (by decide) (fun c29 => ?_) (fun c29 => ?_)
  · replace h := m_ifT c29 h
    obtain ⟨rfl, rfl⟩ := m_e3 h
    exact hr H locs ls _ _ (u_left0 hC) I (lv_sub hl [0, 1, 2, 3] rfl)
  · replace h := m_ifF c29 h
    refine lv_aload_n X.1 X.2.1 dX4_number_37 rfl (lv_at hl 0 rfl) ?_
    obtain ⟨b30, e31, h⟩ := m_bS h
    refine u_Gi X I e31 (C := RX4) (T := TX4) (N := 7) (ref := "SwapPress$Reader") in_X4 rfl (by decide) rfl rfl q292 (fun _ h => h) dX4_number_38 ?_
    refine lv_aload_n X.1 X.2.1 dX4_number_41 rfl (lv_at hl 0 rfl) ?_
    obtain ⟨b32, e33, h⟩ := m_bS h
    refine u_Gi X I e33 (C := RX4) (T := TX4) (N := 7) (ref := "SwapPress$Reader") in_X4 rfl (by decide) rfl rfl q293 (fun _ h => h) dX4_number_42 ?_
    refine lv_isub X.1 X.2.1 dX4_number_45 ?_
    refine lv_bipush (v := 8) X.1 X.2.1 dX4_number_46 (by decide) ?_
    refine lv_icmp_ge (tgt := 74) X.1 X.2.1 dX4_number_48 (by decide) (fun c34 => ?_) (fun c34 => ?_)
    · replace h := m_ifT c34 h
      refine lv_iload_n X.1 X.2.1 dX4_number_74 rfl (lv_at hl 3 rfl) ?_
      exact k75 u v3 H locs ls _ _ _ h hC I (lv_sub hl [0, 1, 2] rfl)
    · replace h := m_ifF c34 h
      refine lv_bipush (v := 10) X.1 X.2.1 dX4_number_51 (by decide) ?_
      refine lv_iload_n X.1 X.2.1 dX4_number_53 rfl (lv_at hl 3 rfl) ?_
      refine lv_imul X.1 X.2.1 dX4_number_54 ?_
      refine lv_aload_n X.1 X.2.1 dX4_number_55 rfl (lv_at hl 0 rfl) ?_
      obtain ⟨b39, e40, h⟩ := m_bS h
      refine u_Gr X I e40 (C := RX4) (T := TX4) (N := 7) (ref := "SwapPress$Reader") in_X4 rfl (by decide) rfl rfl q296 (fun _ h => h) dX4_number_56 ?_
      obtain ⟨b41, e42, h⟩ := m_bS h
      refine u_GrN X I e42 (C := RX0) (T := TX0) (N := 9) (ref := "SwapPress") (host := "SwapPress") in_X0 rfl (by decide) rfl rfl 11 rfl (fun _ h => h) dX4_number_59 ?_
      refine lv_aload_n X.1 X.2.1 dX4_number_62 rfl (lv_at hl 0 rfl) ?_
      obtain ⟨b43, e44, h⟩ := m_bS h
      refine u_Gi X I e44 (C := RX4) (T := TX4) (N := 7) (ref := "SwapPress$Reader") in_X4 rfl (by decide) rfl rfl q292 (fun _ h => h) dX4_number_63 ?_
      obtain ⟨b45, e46, h⟩ := m_bS h
      refine u_LB X I e46 dX4_number_66 ?_
      refine lv_iadd X.1 X.2.1 dX4_number_67 ?_
      refine lv_bipush (v := 48) X.1 X.2.1 dX4_number_68 (by decide) ?_
      refine lv_isub X.1 X.2.1 dX4_number_70 ?_
      refine lv_goto (tgt := 75) X.1 X.2.1 dX4_number_71 (by decide) ?_
      exact k75 u (((10 * v3) + b45) - 48) H locs ls _ _ _ h hC I (lv_sub hl [0, 1, 2] rfl)
theorem uw_X4_number (X : u_X RX4 D A d p s m c cX4_number 4 args) (hA : ∀ q, s.heap.size ≤ q → A q) (hR : 5 ≤ R.frames ∧ 111 ≤ R.locals) (n : Nat) (u : UM) (t : Nat) (p0 : Int32) (p1 : Int32) (r0 : Int32 ⊕ Nat) (ur : UM) (C : UC) (h : uf_X4_number n d u t p0 p1 = some ((r0, ur), C)) (hret : ∀ (H : Heap) (locs : List Loc) (ls : Array Slot) (pc cells slots : Nat) (v0 : Int32), r0 = .inl v0 → decode cX4_number pc = .ok (.ireturn, 1) → u_left R cells slots (u_add (0, 0) (0, 0)) → u_I D A s.heap ur H locs cells → W p l e R s m args below meth c H locs cells slots Q (F0 m pc ls [.int v0])) (hthr : ∀ (H : Heap) (locs : List Loc) (ls : Array Slot) (pc : Nat) (rest : List Value) (cells slots q : Nat), r0 = .inr q → (∃ fs, u_get ur.1 q = some (.inr (5, fs))) → u_left R cells slots (u_add (0, 0) (0, 0)) → u_I D A s.heap ur H locs cells → vx_W p l e R s m args below meth c H locs cells slots Q (F0 m pc ls rest) q) : ∀ (H : Heap) (locs : List Loc) (ls : Array Slot) (cells slots : Nat), u_left R cells slots (u_add C (0, 0)) → u_I D A s.heap u H locs cells → lv_has ls 4 [(0, .ref t), (1, .int p0), (2, .int p1)] → W p l e R s m args below meth c H locs cells slots Q (F0 m 0 ls []) := by
  have k18 : ∀ (u : UM) (v0 : Nat) (H : Heap) (locs : List Loc) (ls : Array Slot) (cells slots : Nat) (C : UC), uf_X4_number_J18 n d u v0 = some ((r0, ur), C) → u_left R cells slots (u_add C (0, 0)) → u_I D A s.heap u H locs cells → lv_has ls 4 [(0, .ref v0)] → W p l e R s m args below meth c H locs cells slots Q (F0 m 18 ls []) := by
    intro u v0 H locs ls cells slots C h hC I hl
    unfold uf_X4_number_J18 at h
    refine lv_aload_n X.1 X.2.1 dX4_number_18 rfl (lv_at hl 0 rfl) ?_
    refine lv_iconst (v := 1) X.1 X.2.1 dX4_number_19 (by decide) ?_
    obtain ⟨f10, e11, h⟩ := m_bS h
    obtain ⟨r13, u14, C15, C16, e12, z17, h, hq⟩ := u_bcS h
    rw [hq] at hC
    refine u_callV X hl.1 I hA (As := [.int 1]) (rest := []) (uk_X4_wrong l n D d u v0 1 _ _ _ e12) z17 (u_clS e11) (C := RX4) (T := TX4) (N := 7) rfl 1 q524 q526 qs5 q108 q527 uh_X4_wrong rfl rfl ⟨Nat.le_trans (Nat.le_of_ble_eq_true rfl) hR.1, Nat.le_trans (Nat.le_of_ble_eq_true rfl) hR.2⟩ hC (stk := [.ref r13]) rfl (Nat.le_of_ble_eq_true rfl) dX4_number_20 (fun H locs cells slots hC I => ?_)
    obtain ⟨f18, e19, h⟩ := m_bS h
    obtain ⟨he, rfl⟩ := m_e3 h
    obtain ⟨rfl, rfl⟩ := m_e4 he
    exact vx_athrow X.1 X.2.1 dX4_number_23 (hthr H locs ls 23 _ _ _ _ rfl ⟨_, u_clS e19⟩ hC I)
  have k115 : ∀ (u : UM) (v0 : Nat) (H : Heap) (locs : List Loc) (ls : Array Slot) (cells slots : Nat) (C : UC), uf_X4_number_J115 n d u v0 = some ((r0, ur), C) → u_left R cells slots (u_add C (0, 0)) → u_I D A s.heap u H locs cells → lv_has ls 4 [(0, .ref v0)] → W p l e R s m args below meth c H locs cells slots Q (F0 m 115 ls []) := by
    intro u v0 H locs ls cells slots C h hC I hl
    unfold uf_X4_number_J115 at h
    refine lv_aload_n X.1 X.2.1 dX4_number_115 rfl (lv_at hl 0 rfl) ?_
    refine lv_iconst (v := 2) X.1 X.2.1 dX4_number_116 (by decide) ?_
    obtain ⟨f55, e56, h⟩ := m_bS h
    obtain ⟨r58, u59, C60, C61, e57, z62, h, hq⟩ := u_bcS h
    rw [hq] at hC
    refine u_callV X hl.1 I hA (As := [.int 2]) (rest := []) (uk_X4_wrong l n D d u v0 2 _ _ _ e57) z62 (u_clS e56) (C := RX4) (T := TX4) (N := 7) rfl 1 q524 q526 qs5 q108 q527 uh_X4_wrong rfl rfl ⟨Nat.le_trans (Nat.le_of_ble_eq_true rfl) hR.1, Nat.le_trans (Nat.le_of_ble_eq_true rfl) hR.2⟩ hC (stk := [.ref r58]) rfl (Nat.le_of_ble_eq_true rfl) dX4_number_117 (fun H locs cells slots hC I => ?_)
    obtain ⟨f63, e64, h⟩ := m_bS h
    obtain ⟨he, rfl⟩ := m_e3 h
    obtain ⟨rfl, rfl⟩ := m_e4 he
    exact vx_athrow X.1 X.2.1 dX4_number_120 (hthr H locs ls 120 _ _ _ _ rfl ⟨_, u_clS e64⟩ hC I)
  intro H locs ls cells slots hC I hl
  unfold uf_X4_number at h
  refine lv_aload_n X.1 X.2.1 dX4_number_0 rfl (lv_at hl 0 rfl) ?_
  obtain ⟨f1, e2, h⟩ := m_bS h
  obtain ⟨r4, u5, C6, C7, e3, z8, h, hq⟩ := u_bcS h
  rw [hq] at hC
  refine u_callV X hl.1 I hA (As := []) (rest := []) (uk_X4_isEnd l n D d u t _ _ _ e3) z8 (u_clS e2) (C := RX4) (T := TX4) (N := 7) rfl 0 q316 q318 qs1 q108 q319 uh_X4_isEnd rfl rfl ⟨Nat.le_trans (Nat.le_of_ble_eq_true rfl) hR.1, Nat.le_trans (Nat.le_of_ble_eq_true rfl) hR.2⟩ hC (stk := [.int r4]) rfl (Nat.le_of_ble_eq_true rfl) dX4_number_1 (fun H locs cells slots hC I => ?_)
  refine lv_if_ne (tgt := 18) X.1 X.2.1 dX4_number_4 (by decide) (fun c9 => ?_) (fun c9 => ?_)
  · replace h := m_ifF c9 h
    exact k18 u5 t H locs ls _ _ _ h hC I (lv_sub hl [0] rfl)
  · replace h := m_ifT c9 h
    refine lv_aload_n X.1 X.2.1 dX4_number_7 rfl (lv_at hl 0 rfl) ?_
    refine lv_bipush (v := 48) X.1 X.2.1 dX4_number_8 (by decide) ?_
    refine lv_bipush (v := 57) X.1 X.2.1 dX4_number_10 (by decide) ?_
    obtain ⟨f20, e21, h⟩ := m_bS h
    obtain ⟨r23, e22, h⟩ := m_bS h
    refine u_callVp X hl.1 I hA (As := [.int 48, .int 57]) (rest := []) (uk_X4_isAt l n D d u5 t 48 57 _ e22) (u_clS e21) (C := RX4) (T := TX4) (N := 7) rfl 2 q320 q322 qs2 q108 q323 uh_X4_isAt rfl rfl ⟨Nat.le_trans (Nat.le_of_ble_eq_true rfl) hR.1, Nat.le_trans (Nat.le_of_ble_eq_true rfl) hR.2⟩ (u_leftLe hC) (stk := [.int r23]) rfl (Nat.le_of_ble_eq_true rfl) dX4_number_12 (fun H locs I => ?_)
    refine lv_if_ne (tgt := 24) X.1 X.2.1 dX4_number_15 (by decide) (fun c24 => ?_) (fun c24 => ?_)
    · replace h := m_ifF c24 h
      refine lv_iconst (v := 0) X.1 X.2.1 dX4_number_24 (by decide) ?_
      refine lv_istore_n (lv' := [(3, .int 0), (0, .ref t), (1, .int p0), (2, .int p1)]) X.1 X.2.1 dX4_number_25 rfl hl (by decide) rfl (fun ls hl => ?_)
      obtain ⟨⟨z48, u49⟩, C69, C70, e47, h, hq⟩ := u_blS h
      rw [hq] at hC
      refine wuf_X4_number_L26 X hA hR n t p0 p1 _ _ _ _ e47 (fun H locs ls cells slots hC I hl => ?_) H locs ls _ _ (u_left2 hC) I (lv_sub hl [1, 2, 3, 0] rfl)
      refine lv_aload_n X.1 X.2.1 dX4_number_89 rfl (lv_at hl 0 rfl) ?_
      obtain ⟨b50, e51, h⟩ := m_bS h
      refine u_Gi X I e51 (C := RX4) (T := TX4) (N := 7) (ref := "SwapPress$Reader") in_X4 rfl (by decide) rfl rfl q292 (fun _ h => h) dX4_number_90 ?_
      refine lv_aload_n X.1 X.2.1 dX4_number_93 rfl (lv_at hl 0 rfl) ?_
      obtain ⟨b52, e53, h⟩ := m_bS h
      refine u_Gi X I e53 (C := RX4) (T := TX4) (N := 7) (ref := "SwapPress$Reader") in_X4 rfl (by decide) rfl rfl q293 (fun _ h => h) dX4_number_94 ?_
      refine lv_isub X.1 X.2.1 dX4_number_97 ?_
      refine lv_bipush (v := 8) X.1 X.2.1 dX4_number_98 (by decide) ?_
      refine lv_icmp_gt (tgt := 115) X.1 X.2.1 dX4_number_100 (by decide) (fun c54 => ?_) (fun c54 => ?_)
      · replace h := m_ifT c54 h
        exact k115 u49 t H locs ls _ _ _ h hC I (lv_sub hl [0] rfl)
      · replace h := m_ifF c54 h
        refine lv_iload_n X.1 X.2.1 dX4_number_103 rfl (lv_at hl 3 rfl) ?_
        refine lv_i2l X.1 X.2.1 dX4_number_104 rfl ?_
        refine lv_iload_n X.1 X.2.1 dX4_number_105 rfl (lv_at hl 1 rfl) ?_
        refine lv_i2l X.1 X.2.1 dX4_number_106 rfl ?_
        refine lv_iload_n X.1 X.2.1 dX4_number_107 rfl (lv_at hl 2 rfl) ?_
        refine lv_i2l X.1 X.2.1 dX4_number_108 rfl ?_
        obtain ⟨r66, e65, h⟩ := m_bS h
        refine u_callSNp X hl.1 I hA (As := [.long ((z48 : Int32).toInt64), .long ((p0 : Int32).toInt64), .long ((p1 : Int32).toInt64)]) (rest := []) (uk_X0_in l n D d u49 ((z48 : Int32).toInt64) ((p0 : Int32).toInt64) ((p1 : Int32).toInt64) _ e65) 3 1 rfl q280 q101 q281 uh_X0_in.2 rfl rfl ⟨Nat.le_trans (Nat.le_of_ble_eq_true rfl) hR.1, Nat.le_trans (Nat.le_of_ble_eq_true rfl) hR.2⟩ (u_leftLe hC) (stk := [.int r66]) rfl (Nat.le_of_ble_eq_true rfl) dX4_number_109 (fun H locs I => ?_)
        refine lv_if_ne (tgt := 121) X.1 X.2.1 dX4_number_112 (by decide) (fun c67 => ?_) (fun c67 => ?_)
        · replace h := m_ifF c67 h
          refine lv_iload_n X.1 X.2.1 dX4_number_121 rfl (lv_at hl 3 rfl) ?_
          obtain ⟨he, rfl⟩ := m_e3 h
          obtain ⟨rfl, rfl⟩ := m_e4 he
          exact hret H locs ls 122 _ _ _ rfl dX4_number_122 hC I
        · replace h := m_ifT c67 h
          exact k115 u49 t H locs ls _ _ _ h hC I (lv_sub hl [0] rfl)
    · replace h := m_ifT c24 h
      exact k18 u5 t H locs ls _ _ _ h hC I (lv_sub hl [0] rfl)
end S_X4_number
theorem uk_X4_number (l : Launch) (n : Nat) (D : va_G) (d : UD) (u : UM) (t : Nat) (p0 : Int32) (p1 : Int32) (r0 : Int32 ⊕ Nat) (ur : UM) (C : UC) (h : uf_X4_number n d u t p0 p1 = some ((r0, ur), C)) : u_MX l yX4_number (ws_ yX4_number cX4_number 4 (some .int)) 5 111 C D d u [.ref t, .int p0, .int p1] (u_ov (fun (v0 : Int32) => some (.int v0)) r0) ur :=
  u_startX (own := RX4) (lvl := [(0, .ref t), (1, .int p0), (2, .int p1)]) (by decide) rfl (Nat.le_of_ble_eq_true rfl) rfl (fun p e s m args below meth c ls X hr hlk htab hl hA I hC => uw_X4_number X hA ⟨Nat.le_refl _, Nat.le_refl _⟩ n u t p0 p1 r0 ur C h (fun H locs ls pc cells slots v0 hv hd hC I => by subst hv; exact vx_ret (u_iret X I hr hlk (u_leftE hC) hd)) (fun H locs ls pc rest cells slots q hv hfs hC I => by subst hv; exact u_outX X I hlk htab hfs (u_leftE hC)) _ _ ls _ _ hC I hl)

/-! SwapPress$Reader.keep()V -/
def uf_X4_keep (n : Nat) (d : UD) (u : UM) (t : Nat) : Option (((Unit ⊕ Nat) × UM) × UC) :=
  m_b (u_fr d u 4 1 t) (fun b1 => m_b (u_nr u 2 2 b1) (fun b3 => m_b (u_cl u 13 b3) (fun f5 => m_b (uf_J2_size n d u b3) (fun r8 => m_b (u_cl u 4 t) (fun f9 => u_bx u.2 (uf_X4_number n d u t 0 (r8 - 1)) (fun r12 u13 => m_b (u_fr d u13 4 1 t) (fun b23 => m_b (u_nr u13 2 2 b23) (fun b25 => m_b (u_cl u13 13 b25) (fun f27 => m_b (uf_J2_get n d u13 b25 r12) (fun r30 => m_b (u_cl u13 6 r30) (fun f31 => m_b (u_ni u13 6 4 r30) (fun b33 => m_if ((b33 : Int32) = 0) (m_b (u_fr d u13 4 1 t) (fun b36 => m_b (u_nr u13 2 2 b36) (fun b38 => m_b (u_fr d u13 4 1 t) (fun b40 => m_b (u_nr u13 2 2 b40) (fun b42 => m_b (u_cl u13 13 b42) (fun f44 => m_b (uf_J2_get n d u13 b42 r12) (fun r47 => m_b (u_cl u13 6 r47) (fun f48 => m_b (u_cl u13 6 r47) (fun f50 => u_bc u13.2 (uf_X6_turned n d u13 r47) (fun r53 u54 => m_b (u_cl u54 13 b38) (fun f58 => u_bc u54.2 (uf_J2_set n d u54 b38 r12 r53) (fun r61 u62 => some ((.inl (()), u62), (0, 0)))))))))))))) (m_b (u_cl u13 4 t) (fun f66 => u_bc u13.2 (uf_X4_wrong n d u13 t 5) (fun r69 u70 => m_b (u_cl u70 5 r69) (fun f74 => some ((.inr r69, u70), (0, 0))))))))))))) (fun q17 u18 => some ((.inr q17, u18), (0, 0))))))))
theorem uh_X4_keep : yX4_keep.cls = RX4 ∧ yX4_keep.cls ≠ "java/lang/invoke/MethodHandle" ∧ yX4_keep.cls ≠ "java/lang/invoke/VarHandle" ∧ (parseMethodDescriptor yX4_keep.desc).map (fun d => d.parameters.length) = some 0 := by decide +kernel
section S_X4_keep
variable {p : Program} {l : Launch} {e : Env} {R : Room} {s : State} {m : MethodId} {args : Array Value} {below : List Frame} {meth : Method} {c : Code} {Q : State → Prop} {D : va_G} {A : Nat → Prop} {d : UD}
theorem uw_X4_keep (X : u_X RX4 D A d p s m c cX4_keep 2 args) (hA : ∀ q, s.heap.size ≤ q → A q) (hR : 6 ≤ R.frames ∧ 134 ≤ R.locals) (n : Nat) (u : UM) (t : Nat) (r0 : Unit ⊕ Nat) (ur : UM) (C : UC) (h : uf_X4_keep n d u t = some ((r0, ur), C)) (hret : ∀ (H : Heap) (locs : List Loc) (ls : Array Slot) (pc cells slots : Nat) (v0 : Unit), r0 = .inl v0 → decode cX4_keep pc = .ok (.return_, 1) → u_left R cells slots (u_add (0, 0) (0, 0)) → u_I D A s.heap ur H locs cells → W p l e R s m args below meth c H locs cells slots Q (F0 m pc ls [])) (hthr : ∀ (H : Heap) (locs : List Loc) (ls : Array Slot) (pc : Nat) (rest : List Value) (cells slots q : Nat), r0 = .inr q → (∃ fs, u_get ur.1 q = some (.inr (5, fs))) → u_left R cells slots (u_add (0, 0) (0, 0)) → u_I D A s.heap ur H locs cells → vx_W p l e R s m args below meth c H locs cells slots Q (F0 m pc ls rest) q) : ∀ (H : Heap) (locs : List Loc) (ls : Array Slot) (cells slots : Nat), u_left R cells slots (u_add C (0, 0)) → u_I D A s.heap u H locs cells → lv_has ls 2 [(0, .ref t)] → W p l e R s m args below meth c H locs cells slots Q (F0 m 0 ls []) := by
  intro H locs ls cells slots hC I hl
  unfold uf_X4_keep at h
  refine lv_aload_n X.1 X.2.1 dX4_keep_0 rfl (lv_at hl 0 rfl) ?_
  refine lv_iconst (v := 0) X.1 X.2.1 dX4_keep_1 (by decide) ?_
  refine lv_aload_n X.1 X.2.1 dX4_keep_2 rfl (lv_at hl 0 rfl) ?_
  obtain ⟨b1, e2, h⟩ := m_bS h
  refine u_Gr X I e2 (C := RX4) (T := TX4) (N := 7) (ref := "SwapPress$Reader") in_X4 rfl (by decide) rfl rfl q291 (fun _ h => h) dX4_keep_3 ?_
  obtain ⟨b3, e4, h⟩ := m_bS h
  refine u_GrN X I e4 (C := RX1) (T := TX1) (N := 5) (ref := "SwapPress$State") (host := "SwapPress") in_X1 rfl (by decide) rfl rfl 5 rfl (fun _ h => h) dX4_keep_6 ?_
  obtain ⟨f5, e6, h⟩ := m_bS h
  obtain ⟨r8, e7, h⟩ := m_bS h
  refine u_callVp X hl.1 I hA (As := []) (rest := [.int 0, .ref t]) (uk_J2_size l n D d u b3 _ e7) (u_clS e6) (C := RJ2) (T := TJ2) (N := 3) rfl 0 q666 q667 q668 q105 q669 uh_J2_size rfl rfl ⟨Nat.le_trans (Nat.le_of_ble_eq_true rfl) hR.1, Nat.le_trans (Nat.le_of_ble_eq_true rfl) hR.2⟩ (u_leftLe hC) (stk := [.int r8, .int 0, .ref t]) rfl (Nat.le_of_ble_eq_true rfl) dX4_keep_9 (fun H locs I => ?_)
  refine lv_iconst (v := 1) X.1 X.2.1 dX4_keep_12 (by decide) ?_
  refine lv_isub X.1 X.2.1 dX4_keep_13 ?_
  obtain ⟨f9, e10, h⟩ := m_bS h
  rcases Or.symm (u_bxS h) with ⟨q17, u18, C19, C20, e21, z22, h, hq⟩ | ⟨r12, u13, C14, C15, e11, z16, h, hq⟩
  · rw [hq] at hC
    obtain ⟨he, rfl⟩ := m_e3 h
    obtain ⟨rfl, rfl⟩ := m_e4 he
    exact u_callX0 X hl.1 I hA (As := [.int 0, .int (r8 - 1)]) (rest := []) (uk_X4_number l n D d u t 0 (r8 - 1) _ _ _ e21) z22 (u_clS e10) (C := RX4) (T := TX4) (N := 7) rfl 2 q781 q783 qs15 q108 q784 uh_X4_number rfl rfl ⟨Nat.le_trans (Nat.le_of_ble_eq_true rfl) hR.1, Nat.le_trans (Nat.le_of_ble_eq_true rfl) hR.2⟩ hC (Nat.le_of_ble_eq_true rfl) dX4_keep_14 (fun H locs cells slots hfs hC I => hthr H locs ls 14 _ _ _ _ rfl hfs hC I)
  rw [hq] at hC
  refine u_callX1 X hl.1 I hA (As := [.int 0, .int (r8 - 1)]) (rest := []) (uk_X4_number l n D d u t 0 (r8 - 1) _ _ _ e11) z16 (u_clS e10) (C := RX4) (T := TX4) (N := 7) rfl 2 q781 q783 qs15 q108 q784 uh_X4_number rfl rfl ⟨Nat.le_trans (Nat.le_of_ble_eq_true rfl) hR.1, Nat.le_trans (Nat.le_of_ble_eq_true rfl) hR.2⟩ hC (stk := [.int r12]) rfl (Nat.le_of_ble_eq_true rfl) dX4_keep_14 (fun H locs cells slots hC I => ?_)
  refine lv_istore_n (lv' := [(1, .int r12), (0, .ref t)]) X.1 X.2.1 dX4_keep_17 rfl hl (by decide) rfl (fun ls hl => ?_)
  refine lv_aload_n X.1 X.2.1 dX4_keep_18 rfl (lv_at hl 1 rfl) ?_
  obtain ⟨b23, e24, h⟩ := m_bS h
  refine u_Gr X I e24 (C := RX4) (T := TX4) (N := 7) (ref := "SwapPress$Reader") in_X4 rfl (by decide) rfl rfl q291 (fun _ h => h) dX4_keep_19 ?_
  obtain ⟨b25, e26, h⟩ := m_bS h
  refine u_GrN X I e26 (C := RX1) (T := TX1) (N := 5) (ref := "SwapPress$State") (host := "SwapPress") in_X1 rfl (by decide) rfl rfl 5 rfl (fun _ h => h) dX4_keep_22 ?_
  refine lv_iload_n X.1 X.2.1 dX4_keep_25 rfl (lv_at hl 0 rfl) ?_
  obtain ⟨f27, e28, h⟩ := m_bS h
  obtain ⟨r30, e29, h⟩ := m_bS h
  refine u_callVp X hl.1 I hA (As := [.int r12]) (rest := []) (uk_J2_get l n D d u13 b25 r12 _ e29) (u_clS e28) (C := RJ2) (T := TJ2) (N := 3) rfl 1 q822 q823 q824 q105 q825 uh_J2_get rfl rfl ⟨Nat.le_trans (Nat.le_of_ble_eq_true rfl) hR.1, Nat.le_trans (Nat.le_of_ble_eq_true rfl) hR.2⟩ (u_leftLe hC) (stk := [.ref r30]) rfl (Nat.le_of_ble_eq_true rfl) dX4_keep_26 (fun H locs I => ?_)
  obtain ⟨f31, e32, h⟩ := m_bS h
  refine u_cast X I (u_clS e32) (C := RX6) (T := TX6) (N := 5) rfl q785 dX4_keep_29 ?_
  obtain ⟨b33, e34, h⟩ := m_bS h
  refine u_GiN X I e34 (C := RX6) (T := TX6) (N := 5) (ref := "SwapPress$Trade") (host := "SwapPress") in_X6 rfl (by decide) rfl rfl 23 rfl (fun _ h => h) dX4_keep_32 ?_
  refine lv_if_eq (tgt := 44) X.1 X.2.1 dX4_keep_35 (by decide) (fun c35 => ?_) (fun c35 => ?_)
  · replace h := m_ifT c35 h
    refine lv_aload_n X.1 X.2.1 dX4_keep_44 rfl (lv_at hl 1 rfl) ?_
    obtain ⟨b36, e37, h⟩ := m_bS h
    refine u_Gr X I e37 (C := RX4) (T := TX4) (N := 7) (ref := "SwapPress$Reader") in_X4 rfl (by decide) rfl rfl q291 (fun _ h => h) dX4_keep_45 ?_
    obtain ⟨b38, e39, h⟩ := m_bS h
    refine u_GrN X I e39 (C := RX1) (T := TX1) (N := 5) (ref := "SwapPress$State") (host := "SwapPress") in_X1 rfl (by decide) rfl rfl 5 rfl (fun _ h => h) dX4_keep_48 ?_
    refine lv_iload_n X.1 X.2.1 dX4_keep_51 rfl (lv_at hl 0 rfl) ?_
    refine lv_aload_n X.1 X.2.1 dX4_keep_52 rfl (lv_at hl 1 rfl) ?_
    obtain ⟨b40, e41, h⟩ := m_bS h
    refine u_Gr X I e41 (C := RX4) (T := TX4) (N := 7) (ref := "SwapPress$Reader") in_X4 rfl (by decide) rfl rfl q291 (fun _ h => h) dX4_keep_53 ?_
    obtain ⟨b42, e43, h⟩ := m_bS h
    refine u_GrN X I e43 (C := RX1) (T := TX1) (N := 5) (ref := "SwapPress$State") (host := "SwapPress") in_X1 rfl (by decide) rfl rfl 5 rfl (fun _ h => h) dX4_keep_56 ?_
    refine lv_iload_n X.1 X.2.1 dX4_keep_59 rfl (lv_at hl 0 rfl) ?_
    obtain ⟨f44, e45, h⟩ := m_bS h
    obtain ⟨r47, e46, h⟩ := m_bS h
    refine u_callVp X hl.1 I hA (As := [.int r12]) (rest := [.int r12, .ref b38]) (uk_J2_get l n D d u13 b42 r12 _ e46) (u_clS e45) (C := RJ2) (T := TJ2) (N := 3) rfl 1 q822 q823 q824 q105 q825 uh_J2_get rfl rfl ⟨Nat.le_trans (Nat.le_of_ble_eq_true rfl) hR.1, Nat.le_trans (Nat.le_of_ble_eq_true rfl) hR.2⟩ (u_leftLe hC) (stk := [.ref r47, .int r12, .ref b38]) rfl (Nat.le_of_ble_eq_true rfl) dX4_keep_60 (fun H locs I => ?_)
    obtain ⟨f48, e49, h⟩ := m_bS h
    refine u_cast X I (u_clS e49) (C := RX6) (T := TX6) (N := 5) rfl q785 dX4_keep_63 ?_
    obtain ⟨f50, e51, h⟩ := m_bS h
    obtain ⟨r53, u54, C55, C56, e52, z57, h, hq⟩ := u_bcS h
    rw [hq] at hC
    refine u_callV X hl.1 I hA (As := []) (rest := [.int r12, .ref b38]) (uk_X6_turned l n D d u13 r47 _ _ _ e52) z57 (u_clS e51) (C := RX6) (T := TX6) (N := 5) rfl 0 q834 q835 q836 q122 q837 uh_X6_turned rfl rfl ⟨Nat.le_trans (Nat.le_of_ble_eq_true rfl) hR.1, Nat.le_trans (Nat.le_of_ble_eq_true rfl) hR.2⟩ hC (stk := [.ref r53, .int r12, .ref b38]) rfl (Nat.le_of_ble_eq_true rfl) dX4_keep_66 (fun H locs cells slots hC I => ?_)
    obtain ⟨f58, e59, h⟩ := m_bS h
    obtain ⟨r61, u62, C63, C64, e60, z65, h, hq⟩ := u_bcS h
    rw [hq] at hC
    refine u_callV X hl.1 I hA (As := [.int r12, .ref r53]) (rest := []) (uk_J2_set l n D d u54 b38 r12 r53 _ _ _ e60) z65 (u_clS e59) (C := RJ2) (T := TJ2) (N := 3) rfl 2 q840 q841 q842 q105 q843 uh_J2_set rfl rfl ⟨Nat.le_trans (Nat.le_of_ble_eq_true rfl) hR.1, Nat.le_trans (Nat.le_of_ble_eq_true rfl) hR.2⟩ hC (stk := [.ref r61]) rfl (Nat.le_of_ble_eq_true rfl) dX4_keep_69 (fun H locs cells slots hC I => ?_)
    refine lv_pop X.1 X.2.1 dX4_keep_72 rfl ?_
    obtain ⟨he, rfl⟩ := m_e3 h
    obtain ⟨rfl, rfl⟩ := m_e4 he
    exact hret H locs ls 73 _ _ _ rfl dX4_keep_73 hC I
  · replace h := m_ifF c35 h
    refine lv_aload_n X.1 X.2.1 dX4_keep_38 rfl (lv_at hl 1 rfl) ?_
    refine lv_iconst (v := 5) X.1 X.2.1 dX4_keep_39 (by decide) ?_
    obtain ⟨f66, e67, h⟩ := m_bS h
    obtain ⟨r69, u70, C71, C72, e68, z73, h, hq⟩ := u_bcS h
    rw [hq] at hC
    refine u_callV X hl.1 I hA (As := [.int 5]) (rest := []) (uk_X4_wrong l n D d u13 t 5 _ _ _ e68) z73 (u_clS e67) (C := RX4) (T := TX4) (N := 7) rfl 1 q524 q526 qs5 q108 q527 uh_X4_wrong rfl rfl ⟨Nat.le_trans (Nat.le_of_ble_eq_true rfl) hR.1, Nat.le_trans (Nat.le_of_ble_eq_true rfl) hR.2⟩ hC (stk := [.ref r69]) rfl (Nat.le_of_ble_eq_true rfl) dX4_keep_40 (fun H locs cells slots hC I => ?_)
    obtain ⟨f74, e75, h⟩ := m_bS h
    obtain ⟨he, rfl⟩ := m_e3 h
    obtain ⟨rfl, rfl⟩ := m_e4 he
    exact vx_athrow X.1 X.2.1 dX4_keep_43 (hthr H locs ls 43 _ _ _ _ rfl ⟨_, u_clS e75⟩ hC I)
end S_X4_keep
theorem uk_X4_keep (l : Launch) (n : Nat) (D : va_G) (d : UD) (u : UM) (t : Nat) (r0 : Unit ⊕ Nat) (ur : UM) (C : UC) (h : uf_X4_keep n d u t = some ((r0, ur), C)) : u_MX l yX4_keep (ws_ yX4_keep cX4_keep 2 none) 6 134 C D d u [.ref t] (u_ov (fun (_ : Unit) => none) r0) ur :=
  u_startX (own := RX4) (lvl := [(0, .ref t)]) (by decide) rfl (Nat.le_of_ble_eq_true rfl) rfl (fun p e s m args below meth c ls X hr hlk htab hl hA I hC => uw_X4_keep X hA ⟨Nat.le_refl _, Nat.le_refl _⟩ n u t r0 ur C h (fun H locs ls pc cells slots v0 hv hd hC I => by subst hv; exact vx_ret (u_vret X I hr hlk (u_leftE hC) hd)) (fun H locs ls pc rest cells slots q hv hfs hC I => by subst hv; exact u_outX X I hlk htab hfs (u_leftE hC)) _ _ ls _ _ hC I hl)

/-! SwapPress$Rings.finds()Z -/
def uf_X7_finds_L18 (n : Nat) (d : UD) (v0 : Nat) (v1 : Int32) (u : UM) : Option (((Int32 × UM) ⊕ (UM ⊕ UM)) × UC) :=
  m_b (u_fi d u 7 0 v0) (fun b8 => m_if ((b8 : Int32) ≤ (v1 : Int32)) (some (.inr ((.inr u)), (0, 0))) (m_b (u_fr d u 7 2 v0) (fun b11 => m_b (u_stI d u b11 0 v1) (fun w13 => m_b (u_cl (w13, u.2) 7 v0) (fun f15 => u_bc u.2 (uf_X7_goesOn n d (w13, u.2) v0 1 (1 <<< (v1 &&& 31))) (fun r18 u19 => m_if ((r18 : Int32) = 0) (some (.inl ((v1 + 1, u19)), (0, 0))) (some (.inr ((.inl u19)), (0, 0)))))))))
def uf_X7_finds_L18l (n : Nat) (d : UD) (v0 : Nat) (x : (Int32 × UM)) : Option ((UM ⊕ UM) × UC) := u_lp (fun (x : (Int32 × UM)) => uf_X7_finds_L18 n d v0 x.1 x.2) n x
def uf_X7_finds_L5 (n : Nat) (d : UD) (v0 : Nat) (u : UM) : Option ((UM ⊕ (UM ⊕ UM)) × UC) :=
  m_b (u_fi d u 7 3 v0) (fun b3 => m_b (u_fi d u 7 0 v0) (fun b5 => m_if ((b5 : Int32) < (b3 : Int32)) (some (.inr ((.inr u)), (0, 0))) (u_bl (uf_X7_finds_L18l n d v0 ((0, u))) (fun y31 => m_s y31 (fun u25 => some (.inr ((.inl u25)), (0, 0))) (fun u26 => m_b (u_fi d u26 7 3 v0) (fun b27 => m_b (u_pf u26 7 3 v0 (.int (b27 + 1))) (fun w29 => some (.inl ((w29, u26.2)), (0, 0)))))))))
def uf_X7_finds_L5l (n : Nat) (d : UD) (v0 : Nat) (x : UM) : Option ((UM ⊕ UM) × UC) := u_lp (fun (x : UM) => uf_X7_finds_L5 n d v0 x) n x
def uf_X7_finds (n : Nat) (d : UD) (u : UM) (t : Nat) : Option ((Int32 × UM) × UC) :=
  m_b (u_pf u 7 3 t (.int 2)) (fun w1 => u_bl (uf_X7_finds_L5l n d t ((w1, u.2))) (fun y41 => m_s y41 (fun u35 => m_g (m_01 1) (some ((1, u35), (0, 0)))) (fun u37 => m_b (u_pf u37 7 3 t (.int 0)) (fun w38 => m_g (m_01 0) (some ((0, (w38, u37.2)), (0, 0)))))))
theorem uh_X7_finds : yX7_finds.cls = RX7 ∧ yX7_finds.cls ≠ "java/lang/invoke/MethodHandle" ∧ yX7_finds.cls ≠ "java/lang/invoke/VarHandle" ∧ (parseMethodDescriptor yX7_finds.desc).map (fun d => d.parameters.length) = some 0 := by decide +kernel
section S_X7_finds
variable {p : Program} {l : Launch} {e : Env} {R : Room} {s : State} {m : MethodId} {args : Array Value} {below : List Frame} {meth : Method} {c : Code} {Q : State → Prop} {D : va_G} {A : Nat → Prop} {d : UD}
theorem wuf_X7_finds_L18 (X : u_X RX7 D A d p s m c cX7_finds 2 args) (hA : ∀ q, s.heap.size ≤ q → A q) (hR : 11 ≤ R.frames ∧ 252 ≤ R.locals) (n : Nat) (v0 : Nat) (x : (Int32 × UM)) (z : (UM ⊕ UM)) (C cr : UC) (hz : uf_X7_finds_L18l n d v0 x = some (z, C)) (hE : (u_e (fun (z : UM) (C : UC) => ∀ (H : Heap) (locs : List Loc) (ls : Array Slot) (cells slots : Nat), u_left R cells slots C → u_I D A s.heap z H locs cells → lv_has ls 2 [] → W p l e R s m args below meth c H locs cells slots Q (F0 m 44 ls [])) (fun (z : UM) (C : UC) => ∀ (H : Heap) (locs : List Loc) (ls : Array Slot) (cells slots : Nat), u_left R cells slots C → u_I D A s.heap z H locs cells → lv_has ls 2 [(0, .ref v0)] → W p l e R s m args below meth c H locs cells slots Q (F0 m 52 ls []))) z cr) : (fun (x : (Int32 × UM)) (C : UC) => ∀ (H : Heap) (locs : List Loc) (ls : Array Slot) (cells slots : Nat), u_left R cells slots C → u_I D A s.heap x.2 H locs cells → lv_has ls 2 [(0, .ref v0), (1, .int x.1)] → W p l e R s m args below meth c H locs cells slots Q (F0 m 18 ls [])) x (u_add C cr) := by
  refine u_lpW (G := fun (x : (Int32 × UM)) (C : UC) => ∀ (H : Heap) (locs : List Loc) (ls : Array Slot) (cells slots : Nat), u_left R cells slots C → u_I D A s.heap x.2 H locs cells → lv_has ls 2 [(0, .ref v0), (1, .int x.1)] → W p l e R s m args below meth c H locs cells slots Q (F0 m 18 ls [])) (E := u_e (fun (z : UM) (C : UC) => ∀ (H : Heap) (locs : List Loc) (ls : Array Slot) (cells slots : Nat), u_left R cells slots C → u_I D A s.heap z H locs cells → lv_has ls 2 [] → W p l e R s m args below meth c H locs cells slots Q (F0 m 44 ls [])) (fun (z : UM) (C : UC) => ∀ (H : Heap) (locs : List Loc) (ls : Array Slot) (cells slots : Nat), u_left R cells slots C → u_I D A s.heap z H locs cells → lv_has ls 2 [(0, .ref v0)] → W p l e R s m args below meth c H locs cells slots Q (F0 m 52 ls []))) ?_ n x z C cr hz hE
  rintro ⟨v1, u⟩ r C cr h hr H locs ls cells slots hC I hl
  replace h : uf_X7_finds_L18 n d v0 v1 u = some (r, C) := h
  unfold uf_X7_finds_L18 at h
  refine lv_iload_n X.1 X.2.1 dX7_finds_18 rfl (lv_at hl 1 rfl) ?_
  refine lv_aload_n X.1 X.2.1 dX7_finds_19 rfl (lv_at hl 0 rfl) ?_
  obtain ⟨b8, e9, h⟩ := m_bS h
  refine u_Gi X I e9 (C := RX7) (T := TX7) (N := 4) (ref := "SwapPress$Rings") in_X7 rfl (by decide) rfl rfl q965 (fun _ h => h) dX7_finds_20 ?_
  refine lv_icmp_ge (tgt := 52) X.1 X.2.1 dX7_finds_23 (by decide) (fun c10 => ?_) (fun c10 => ?_)
  · replace h := m_ifT c10 h
    obtain ⟨rfl, rfl⟩ := m_e3 h
    exact hr H locs ls _ _ (u_left0 hC) I (lv_sub hl [0] rfl)
  · replace h := m_ifF c10 h
    refine lv_aload_n X.1 X.2.1 dX7_finds_26 rfl (lv_at hl 0 rfl) ?_
    obtain ⟨b11, e12, h⟩ := m_bS h
    refine u_Gr X I e12 (C := RX7) (T := TX7) (N := 4) (ref := "SwapPress$Rings") in_X7 rfl (by decide) rfl rfl q967 (fun _ h => h) dX7_finds_27 ?_
    refine lv_iconst (v := 0) X.1 X.2.1 dX7_finds_30 (by decide) ?_
    refine lv_iload_n X.1 X.2.1 dX7_finds_31 rfl (lv_at hl 1 rfl) ?_
    obtain ⟨w13, e14, h⟩ := m_bS h
    refine u_SI X I e14 dX7_finds_32 (fun H locs I => ?_)
    refine lv_aload_n X.1 X.2.1 dX7_finds_33 rfl (lv_at hl 0 rfl) ?_
    refine lv_iconst (v := 1) X.1 X.2.1 dX7_finds_34 (by decide) ?_
    refine lv_iconst (v := 1) X.1 X.2.1 dX7_finds_35 (by decide) ?_
    refine lv_iload_n X.1 X.2.1 dX7_finds_36 rfl (lv_at hl 1 rfl) ?_
    refine lv_ishl X.1 X.2.1 dX7_finds_37 ?_
    obtain ⟨f15, e16, h⟩ := m_bS h
    obtain ⟨r18, u19, C20, C21, e17, z22, h, hq⟩ := u_bcS h
    rw [hq] at hC
    refine u_callV X hl.1 I hA (As := [.int 1, .int (1 <<< (v1 &&& 31))]) (rest := []) (uk_X7_goesOn l n D d (w13, u.2) v0 1 (1 <<< (v1 &&& 31)) _ _ _ e17) z22 (u_clS e16) (C := RX7) (T := TX7) (N := 4) rfl 2 q984 q986 qs24 q124 q987 uh_X7_goesOn rfl rfl ⟨Nat.le_trans (Nat.le_of_ble_eq_true rfl) hR.1, Nat.le_trans (Nat.le_of_ble_eq_true rfl) hR.2⟩ hC (stk := [.int r18]) rfl (Nat.le_of_ble_eq_true rfl) dX7_finds_38 (fun H locs cells slots hC I => ?_)
    refine lv_if_eq (tgt := 46) X.1 X.2.1 dX7_finds_41 (by decide) (fun c23 => ?_) (fun c23 => ?_)
    · replace h := m_ifT c23 h
      refine lv_iinc (v := v1 + 1) (lv' := [(1, .int (v1 + 1)), (0, .ref v0)]) X.1 X.2.1 dX7_finds_46 hl (k := 1) rfl rfl (by decide) rfl (fun ls hl => ?_)
      refine lv_goto (tgt := 18) X.1 X.2.1 dX7_finds_49 (by decide) ?_
      obtain ⟨rfl, rfl⟩ := m_e3 h
      exact hr H locs ls _ _ (u_left0 hC) I (lv_sub hl [1, 0] rfl)
    · replace h := m_ifF c23 h
      obtain ⟨rfl, rfl⟩ := m_e3 h
      exact hr H locs ls _ _ (u_left0 hC) I (lv_sub hl [] rfl)
theorem wuf_X7_finds_L5 (X : u_X RX7 D A d p s m c cX7_finds 2 args) (hA : ∀ q, s.heap.size ≤ q → A q) (hR : 11 ≤ R.frames ∧ 252 ≤ R.locals) (n : Nat) (v0 : Nat) (x : UM) (z : (UM ⊕ UM)) (C cr : UC) (hz : uf_X7_finds_L5l n d v0 x = some (z, C)) (hE : (u_e (fun (z : UM) (C : UC) => ∀ (H : Heap) (locs : List Loc) (ls : Array Slot) (cells slots : Nat), u_left R cells slots C → u_I D A s.heap z H locs cells → lv_has ls 2 [] → W p l e R s m args below meth c H locs cells slots Q (F0 m 44 ls [])) (fun (z : UM) (C : UC) => ∀ (H : Heap) (locs : List Loc) (ls : Array Slot) (cells slots : Nat), u_left R cells slots C → u_I D A s.heap z H locs cells → lv_has ls 2 [(0, .ref v0)] → W p l e R s m args below meth c H locs cells slots Q (F0 m 65 ls []))) z cr) : (fun (x : UM) (C : UC) => ∀ (H : Heap) (locs : List Loc) (ls : Array Slot) (cells slots : Nat), u_left R cells slots C → u_I D A s.heap x H locs cells → lv_has ls 2 [(0, .ref v0)] → W p l e R s m args below meth c H locs cells slots Q (F0 m 5 ls [])) x (u_add C cr) := by
  refine u_lpW (G := fun (x : UM) (C : UC) => ∀ (H : Heap) (locs : List Loc) (ls : Array Slot) (cells slots : Nat), u_left R cells slots C → u_I D A s.heap x H locs cells → lv_has ls 2 [(0, .ref v0)] → W p l e R s m args below meth c H locs cells slots Q (F0 m 5 ls [])) (E := u_e (fun (z : UM) (C : UC) => ∀ (H : Heap) (locs : List Loc) (ls : Array Slot) (cells slots : Nat), u_left R cells slots C → u_I D A s.heap z H locs cells → lv_has ls 2 [] → W p l e R s m args below meth c H locs cells slots Q (F0 m 44 ls [])) (fun (z : UM) (C : UC) => ∀ (H : Heap) (locs : List Loc) (ls : Array Slot) (cells slots : Nat), u_left R cells slots C → u_I D A s.heap z H locs cells → lv_has ls 2 [(0, .ref v0)] → W p l e R s m args below meth c H locs cells slots Q (F0 m 65 ls []))) ?_ n x z C cr hz hE
  rintro u r C cr h hr H locs ls cells slots hC I hl
  replace h : uf_X7_finds_L5 n d v0 u = some (r, C) := h
  unfold uf_X7_finds_L5 at h
  refine lv_aload_n X.1 X.2.1 dX7_finds_5 rfl (lv_at hl 0 rfl) ?_
  obtain ⟨b3, e4, h⟩ := m_bS h
  refine u_Gi X I e4 (C := RX7) (T := TX7) (N := 4) (ref := "SwapPress$Rings") in_X7 rfl (by decide) rfl rfl q969 (fun _ h => h) dX7_finds_6 ?_
  refine lv_aload_n X.1 X.2.1 dX7_finds_9 rfl (lv_at hl 0 rfl) ?_
  obtain ⟨b5, e6, h⟩ := m_bS h
  refine u_Gi X I e6 (C := RX7) (T := TX7) (N := 4) (ref := "SwapPress$Rings") in_X7 rfl (by decide) rfl rfl q965 (fun _ h => h) dX7_finds_10 ?_
  refine lv_icmp_gt (tgt := 65) X.1 X.2.1 dX7_finds_13 (by decide) (fun c7 => ?_) (fun c7 => ?_)
  · replace h := m_ifT c7 h
    obtain ⟨rfl, rfl⟩ := m_e3 h
    exact hr H locs ls _ _ (u_left0 hC) I (lv_sub hl [0] rfl)
  · replace h := m_ifF c7 h
    refine lv_iconst (v := 0) X.1 X.2.1 dX7_finds_16 (by decide) ?_
    refine lv_istore_n (lv' := [(1, .int 0), (0, .ref v0)]) X.1 X.2.1 dX7_finds_17 rfl hl (by decide) rfl (fun ls hl => ?_)
    obtain ⟨u25 | u26, C32, C33, e24, h, hq⟩ := u_blS h
    · rw [hq] at hC
      replace h := m_sL h
      refine wuf_X7_finds_L18 X hA hR n v0 _ _ _ _ e24 (fun H locs ls cells slots hC I hl => ?_) H locs ls _ _ (u_left2 hC) I (lv_sub hl [1, 0] rfl)
      obtain ⟨rfl, rfl⟩ := m_e3 h
      exact hr H locs ls _ _ (u_left0 hC) I (lv_sub hl [] rfl)
    · rw [hq] at hC
      replace h := m_sR h
      refine wuf_X7_finds_L18 X hA hR n v0 _ _ _ _ e24 (fun H locs ls cells slots hC I hl => ?_) H locs ls _ _ (u_left2 hC) I (lv_sub hl [1, 0] rfl)
      refine lv_aload_n X.1 X.2.1 dX7_finds_52 rfl (lv_at hl 0 rfl) ?_
      refine lv_dup X.1 X.2.1 dX7_finds_53 rfl ?_
      obtain ⟨b27, e28, h⟩ := m_bS h
      refine u_Gi X I e28 (C := RX7) (T := TX7) (N := 4) (ref := "SwapPress$Rings") in_X7 rfl (by decide) rfl rfl q969 (fun _ h => h) dX7_finds_54 ?_
      refine lv_iconst (v := 1) X.1 X.2.1 dX7_finds_57 (by decide) ?_
      refine lv_iadd X.1 X.2.1 dX7_finds_58 ?_
      obtain ⟨w29, e30, h⟩ := m_bS h
      refine u_P X I e30 (C := RX7) (T := TX7) (N := 4) (ref := "SwapPress$Rings") in_X7 tyX7 tyX7_ok nmX7 rfl (by decide) rfl rfl q969 (fun _ h => h) rfl rfl rfl dX7_finds_59 (fun H locs I => ?_)
      refine lv_goto (tgt := 5) X.1 X.2.1 dX7_finds_62 (by decide) ?_
      obtain ⟨rfl, rfl⟩ := m_e3 h
      exact hr H locs ls _ _ (u_left0 hC) I (lv_sub hl [0] rfl)
theorem uw_X7_finds (X : u_X RX7 D A d p s m c cX7_finds 2 args) (hA : ∀ q, s.heap.size ≤ q → A q) (hR : 11 ≤ R.frames ∧ 252 ≤ R.locals) (n : Nat) (u : UM) (t : Nat) (r0 : Int32) (ur : UM) (C : UC) (h : uf_X7_finds n d u t = some ((r0, ur), C)) (hret : ∀ (H : Heap) (locs : List Loc) (ls : Array Slot) (pc cells slots : Nat), m_01 r0 = true → decode cX7_finds pc = .ok (.ireturn, 1) → u_left R cells slots (u_add (0, 0) (0, 0)) → u_I D A s.heap ur H locs cells → W p l e R s m args below meth c H locs cells slots Q (F0 m pc ls [.int r0])) : ∀ (H : Heap) (locs : List Loc) (ls : Array Slot) (cells slots : Nat), u_left R cells slots (u_add C (0, 0)) → u_I D A s.heap u H locs cells → lv_has ls 2 [(0, .ref t)] → W p l e R s m args below meth c H locs cells slots Q (F0 m 0 ls []) := by
  intro H locs ls cells slots hC I hl
  unfold uf_X7_finds at h
  refine lv_aload_n X.1 X.2.1 dX7_finds_0 rfl (lv_at hl 0 rfl) ?_
  refine lv_iconst (v := 2) X.1 X.2.1 dX7_finds_1 (by decide) ?_
  obtain ⟨w1, e2, h⟩ := m_bS h
  refine u_P X I e2 (C := RX7) (T := TX7) (N := 4) (ref := "SwapPress$Rings") in_X7 tyX7 tyX7_ok nmX7 rfl (by decide) rfl rfl q969 (fun _ h => h) rfl rfl rfl dX7_finds_2 (fun H locs I => ?_)
  obtain ⟨u35 | u37, C42, C43, e34, h, hq⟩ := u_blS h
  · rw [hq] at hC
    replace h := m_sL h
    refine wuf_X7_finds_L5 X hA hR n t _ _ _ _ e34 (fun H locs ls cells slots hC I hl => ?_) H locs ls _ _ (u_left2 hC) I (lv_sub hl [0] rfl)
    refine lv_iconst (v := 1) X.1 X.2.1 dX7_finds_44 (by decide) ?_
    obtain ⟨g36, h⟩ := m_gS h
    obtain ⟨he, rfl⟩ := m_e3 h
    obtain ⟨rfl, rfl⟩ := m_e4 he
    exact hret H locs ls 45 _ _ g36 dX7_finds_45 hC I
  · rw [hq] at hC
    replace h := m_sR h
    refine wuf_X7_finds_L5 X hA hR n t _ _ _ _ e34 (fun H locs ls cells slots hC I hl => ?_) H locs ls _ _ (u_left2 hC) I (lv_sub hl [0] rfl)
    refine lv_aload_n X.1 X.2.1 dX7_finds_65 rfl (lv_at hl 0 rfl) ?_
    refine lv_iconst (v := 0) X.1 X.2.1 dX7_finds_66 (by decide) ?_
    obtain ⟨w38, e39, h⟩ := m_bS h
    refine u_P X I e39 (C := RX7) (T := TX7) (N := 4) (ref := "SwapPress$Rings") in_X7 tyX7 tyX7_ok nmX7 rfl (by decide) rfl rfl q969 (fun _ h => h) rfl rfl rfl dX7_finds_67 (fun H locs I => ?_)
    refine lv_iconst (v := 0) X.1 X.2.1 dX7_finds_70 (by decide) ?_
    obtain ⟨g40, h⟩ := m_gS h
    obtain ⟨he, rfl⟩ := m_e3 h
    obtain ⟨rfl, rfl⟩ := m_e4 he
    exact hret H locs ls 71 _ _ g40 dX7_finds_71 hC I
end S_X7_finds
theorem uk_X7_finds (l : Launch) (n : Nat) (D : va_G) (d : UD) (u : UM) (t : Nat) (r0 : Int32) (ur : UM) (C : UC) (h : uf_X7_finds n d u t = some ((r0, ur), C)) : u_M l yX7_finds (ws_ yX7_finds cX7_finds 2 (some .boolean)) 11 252 C D d u [.ref t] (some (.int r0)) ur :=
  u_start (own := RX7) (lvl := [(0, .ref t)]) (by decide) rfl (Nat.le_of_ble_eq_true rfl) rfl (fun p e s m args below meth c ls X hr hlk hI hl hA I hC => uw_X7_finds X hA ⟨Nat.le_refl _, Nat.le_refl _⟩ n u t r0 ur C h (fun H locs ls pc cells slots g hd hC I => u_zret X I hr hlk g (u_leftE hC) hd) _ _ ls _ _ hC I hl)

/-! SwapPress$Press.first()[I -/
def uf_X8_first_J87 (n : Nat) (d : UD) (u : UM) (v0 : Nat) (v1 : Nat) (v2 : Int32) (v3 : Int32) : Option (((Int32 × UM) ⊕ UM) × UC) :=
  some (.inl ((v3 + 1, u)), (0, 0))
def uf_X8_first_L28 (n : Nat) (d : UD) (v0 : Nat) (v1 : Nat) (v2 : Int32) (v3 : Int32) (u : UM) : Option (((Int32 × UM) ⊕ UM) × UC) :=
  m_b (u_fi d u 8 0 v0) (fun b17 => m_if ((b17 : Int32) ≤ (v3 : Int32)) (some (.inr u, (0, 0))) (m_if ((v2 : Int32) = (v3 : Int32)) (uf_X8_first_J87 n d u v0 v1 v2 v3) (m_b (u_fr d u 8 2 v0) (fun b21 => m_b (u_ldL d u b21 ((8 * v2) + v3)) (fun b23 => m_if ((lg_cmp b23 0 : Int32) = 0) (uf_X8_first_J87 n d u v0 v1 v2 v3) (m_b (u_cl u 8 v0) (fun f26 => u_bc u.2 (uf_X8_span n d u v0 v2 v3 0) (fun r29 u30 => m_b (u_stI d u30 v1 ((8 * v2) + v3) r29) (fun w34 => m_b (u_fr d (w34, u30.2) 8 2 v0) (fun b36 => m_b (u_ldI d (w34, u30.2) v1 ((8 * v2) + v3)) (fun b38 => m_b (u_stL d (w34, u30.2) b36 ((8 * v2) + v3) ((b38 : Int32).toInt64)) (fun w40 => uf_X8_first_J87 n d (w40, u30.2) v0 v1 v2 v3))))))))))))
def uf_X8_first_L28l (n : Nat) (d : UD) (v0 : Nat) (v1 : Nat) (v2 : Int32) (x : (Int32 × UM)) : Option (UM × UC) := u_lp (fun (x : (Int32 × UM)) => uf_X8_first_L28 n d v0 v1 v2 x.1 x.2) n x
def uf_X8_first_L18 (n : Nat) (d : UD) (v0 : Nat) (v1 : Nat) (v2 : Int32) (u : UM) : Option (((Int32 × UM) ⊕ UM) × UC) :=
  m_b (u_fi d u 8 0 v0) (fun b14 => m_if ((b14 : Int32) ≤ (v2 : Int32)) (some (.inr u, (0, 0))) (u_bl (uf_X8_first_L28l n d v0 v1 v2 ((0, u))) (fun u43 => some (.inl ((v2 + 1, u43)), (0, 0)))))
def uf_X8_first_L18l (n : Nat) (d : UD) (v0 : Nat) (v1 : Nat) (x : (Int32 × UM)) : Option (UM × UC) := u_lp (fun (x : (Int32 × UM)) => uf_X8_first_L18 n d v0 v1 x.1 x.2) n x
def uf_X8_first (n : Nat) (d : UD) (u : UM) (t : Nat) : Option (((Option Nat) × UM) × UC) :=
  m_b (u_cl u 8 t) (fun f1 => u_bc u.2 (uf_X8_goes n d u t ((-1)) 0) (fun r4 u5 => m_if ((r4 : Int32) = 0) (some ((none, u5), (0, 0))) (m_g (u_ln 64) (u_ac (1, (64 : Int32).toNatClampNeg) (m_b (some (u_nw u5 (.inl (d.1 0, (64 : Int32).toNatClampNeg, .inl (fun _ => 0))))) (fun u11 => u_bl (uf_X8_first_L18l n d t u5.2 ((0, u11))) (fun u47 => some ((some u5.2, u47), (0, 0)))))))))
theorem uh_X8_first : yX8_first.cls = RX8 ∧ yX8_first.cls ≠ "java/lang/invoke/MethodHandle" ∧ yX8_first.cls ≠ "java/lang/invoke/VarHandle" ∧ (parseMethodDescriptor yX8_first.desc).map (fun d => d.parameters.length) = some 0 := by decide +kernel
section S_X8_first
variable {p : Program} {l : Launch} {e : Env} {R : Room} {s : State} {m : MethodId} {args : Array Value} {below : List Frame} {meth : Method} {c : Code} {Q : State → Prop} {D : va_G} {A : Nat → Prop} {d : UD}
theorem wuf_X8_first_L28 (X : u_X RX8 D A d p s m c cX8_first 5 args) (hA : ∀ q, s.heap.size ≤ q → A q) (hR : 5 ≤ R.frames ∧ 139 ≤ R.locals) (n : Nat) (v0 : Nat) (v1 : Nat) (v2 : Int32) (x : (Int32 × UM)) (z : UM) (C cr : UC) (hz : uf_X8_first_L28l n d v0 v1 v2 x = some (z, C)) (hE : (fun (z : UM) (C : UC) => ∀ (H : Heap) (locs : List Loc) (ls : Array Slot) (cells slots : Nat), u_left R cells slots C → u_I D A s.heap z H locs cells → lv_has ls 5 [(0, .ref v0), (1, .ref v1), (2, .int v2)] → W p l e R s m args below meth c H locs cells slots Q (F0 m 93 ls [])) z cr) : (fun (x : (Int32 × UM)) (C : UC) => ∀ (H : Heap) (locs : List Loc) (ls : Array Slot) (cells slots : Nat), u_left R cells slots C → u_I D A s.heap x.2 H locs cells → lv_has ls 5 [(0, .ref v0), (1, .ref v1), (2, .int v2), (3, .int x.1)] → W p l e R s m args below meth c H locs cells slots Q (F0 m 28 ls [])) x (u_add C cr) := by
  refine u_lpW (G := fun (x : (Int32 × UM)) (C : UC) => ∀ (H : Heap) (locs : List Loc) (ls : Array Slot) (cells slots : Nat), u_left R cells slots C → u_I D A s.heap x.2 H locs cells → lv_has ls 5 [(0, .ref v0), (1, .ref v1), (2, .int v2), (3, .int x.1)] → W p l e R s m args below meth c H locs cells slots Q (F0 m 28 ls [])) (E := fun (z : UM) (C : UC) => ∀ (H : Heap) (locs : List Loc) (ls : Array Slot) (cells slots : Nat), u_left R cells slots C → u_I D A s.heap z H locs cells → lv_has ls 5 [(0, .ref v0), (1, .ref v1), (2, .int v2)] → W p l e R s m args below meth c H locs cells slots Q (F0 m 93 ls [])) ?_ n x z C cr hz hE
  rintro ⟨v3, u⟩ r C cr h hr H locs ls cells slots hC I hl
  replace h : uf_X8_first_L28 n d v0 v1 v2 v3 u = some (r, C) := h
  have k87 : ∀ (u : UM) (v3 : Int32) (H : Heap) (locs : List Loc) (ls : Array Slot) (cells slots : Nat) (C : UC), uf_X8_first_J87 n d u v0 v1 v2 v3 = some (r, C) → u_left R cells slots (u_add C cr) → u_I D A s.heap u H locs cells → lv_has ls 5 [(0, .ref v0), (1, .ref v1), (2, .int v2), (3, .int v3)] → W p l e R s m args below meth c H locs cells slots Q (F0 m 87 ls []) := by
    intro u v3 H locs ls cells slots C h hC I hl
    unfold uf_X8_first_J87 at h
    refine lv_iinc (v := v3 + 1) (lv' := [(3, .int (v3 + 1)), (0, .ref v0), (1, .ref v1), (2, .int v2)]) X.1 X.2.1 dX8_first_87 hl (k := 3) rfl rfl (by decide) rfl (fun ls hl => ?_)
    refine lv_goto (tgt := 28) X.1 X.2.1 dX8_first_90 (by decide) ?_
    obtain ⟨rfl, rfl⟩ := m_e3 h
    exact hr H locs ls _ _ (u_left0 hC) I (lv_sub hl [1, 2, 3, 0] rfl)
  unfold uf_X8_first_L28 at h
  refine lv_iload_n X.1 X.2.1 dX8_first_28 rfl (lv_at hl 3 rfl) ?_
  refine lv_aload_n X.1 X.2.1 dX8_first_29 rfl (lv_at hl 0 rfl) ?_
  obtain ⟨b17, e18, h⟩ := m_bS h
  refine u_Gi X I e18 (C := RX8) (T := TX8) (N := 6) (ref := "SwapPress$Press") in_X8 rfl (by decide) rfl rfl q1097 (fun _ h => h) dX8_first_30 ?_
  refine lv_icmp_ge (tgt := 93) X.1 X.2.1 dX8_first_33 (by decide) (fun c19 => ?_) (fun c19 => ?_)
  · replace h := m_ifT c19 h
    obtain ⟨rfl, rfl⟩ := m_e3 h
    exact hr H locs ls _ _ (u_left0 hC) I (lv_sub hl [0, 1, 2] rfl)
  · replace h := m_ifF c19 h
    refine lv_bipush (v := 8) X.1 X.2.1 dX8_first_36 (by decide) ?_
    refine lv_iload_n X.1 X.2.1 dX8_first_38 rfl (lv_at hl 2 rfl) ?_
    refine lv_imul X.1 X.2.1 dX8_first_39 ?_
    refine lv_iload_n X.1 X.2.1 dX8_first_40 rfl (lv_at hl 3 rfl) ?_
    refine lv_iadd X.1 X.2.1 dX8_first_41 ?_
    refine lv_istore (lv' := [(4, .int ((8 * v2) + v3)), (0, .ref v0), (1, .ref v1), (2, .int v2), (3, .int v3)]) X.1 X.2.1 dX8_first_42 hl (by decide) rfl (fun ls hl => ?_)
    refine lv_iload_n X.1 X.2.1 dX8_first_44 rfl (lv_at hl 3 rfl) ?_
    refine lv_iload_n X.1 X.2.1 dX8_first_45 rfl (lv_at hl 4 rfl) ?_
    refine lv_icmp_eq (tgt := 87) X.1 X.2.1 dX8_first_46 (by decide) (fun c20 => ?_) (fun c20 => ?_)
    · replace h := m_ifT c20 h
      exact k87 u v3 H locs ls _ _ _ h hC I (lv_sub hl [1, 2, 3, 4] rfl)
    · replace h := m_ifF c20 h
      refine lv_aload_n X.1 X.2.1 dX8_first_49 rfl (lv_at hl 1 rfl) ?_
      obtain ⟨b21, e22, h⟩ := m_bS h
      refine u_Gr X I e22 (C := RX8) (T := TX8) (N := 6) (ref := "SwapPress$Press") in_X8 rfl (by decide) rfl rfl q1099 (fun _ h => h) dX8_first_50 ?_
      refine lv_iload X.1 X.2.1 dX8_first_53 (lv_at hl 0 rfl) ?_
      obtain ⟨b23, e24, h⟩ := m_bS h
      refine u_LL X I e24 dX8_first_55 ?_
      refine lv_lconst (v := 0) X.1 X.2.1 dX8_first_56 (by decide) ?_
      refine W.lcmp X.1 X.2.1 dX8_first_57 ?_
      refine lv_if_ne (tgt := 64) X.1 X.2.1 dX8_first_58 (by decide) (fun c25 => ?_) (fun c25 => ?_)
      · replace h := m_ifF c25 h
        refine lv_aload_n X.1 X.2.1 dX8_first_64 rfl (lv_at hl 2 rfl) ?_
        refine lv_iload X.1 X.2.1 dX8_first_65 (lv_at hl 0 rfl) ?_
        refine lv_aload_n X.1 X.2.1 dX8_first_67 rfl (lv_at hl 1 rfl) ?_
        refine lv_iload_n X.1 X.2.1 dX8_first_68 rfl (lv_at hl 3 rfl) ?_
        refine lv_iload_n X.1 X.2.1 dX8_first_69 rfl (lv_at hl 4 rfl) ?_
        refine lv_iconst (v := 0) X.1 X.2.1 dX8_first_70 (by decide) ?_
        obtain ⟨f26, e27, h⟩ := m_bS h
        obtain ⟨r29, u30, C31, C32, e28, z33, h, hq⟩ := u_bcS h
        rw [hq] at hC
        refine u_callV X hl.1 I hA (As := [.int v2, .int v3, .int 0]) (rest := [.int ((8 * v2) + v3), .ref v1]) (uk_X8_span l n D d u v0 v2 v3 0 _ _ _ e28) z33 (u_clS e27) (C := RX8) (T := TX8) (N := 6) rfl 3 q1142 q1143 q1144 q125 q1145 uh_X8_span rfl rfl ⟨Nat.le_trans (Nat.le_of_ble_eq_true rfl) hR.1, Nat.le_trans (Nat.le_of_ble_eq_true rfl) hR.2⟩ hC (stk := [.int r29, .int ((8 * v2) + v3), .ref v1]) rfl (Nat.le_of_ble_eq_true rfl) dX8_first_71 (fun H locs cells slots hC I => ?_)
        obtain ⟨w34, e35, h⟩ := m_bS h
        refine u_SI X I e35 dX8_first_74 (fun H locs I => ?_)
        refine lv_aload_n X.1 X.2.1 dX8_first_75 rfl (lv_at hl 1 rfl) ?_
        obtain ⟨b36, e37, h⟩ := m_bS h
        refine u_Gr X I e37 (C := RX8) (T := TX8) (N := 6) (ref := "SwapPress$Press") in_X8 rfl (by decide) rfl rfl q1099 (fun _ h => h) dX8_first_76 ?_
        refine lv_iload X.1 X.2.1 dX8_first_79 (lv_at hl 0 rfl) ?_
        refine lv_aload_n X.1 X.2.1 dX8_first_81 rfl (lv_at hl 2 rfl) ?_
        refine lv_iload X.1 X.2.1 dX8_first_82 (lv_at hl 0 rfl) ?_
        obtain ⟨b38, e39, h⟩ := m_bS h
        refine u_LI X I e39 dX8_first_84 ?_
        refine lv_i2l X.1 X.2.1 dX8_first_85 rfl ?_
        obtain ⟨w40, e41, h⟩ := m_bS h
        refine u_SL X I e41 dX8_first_86 (fun H locs I => ?_)
        exact k87 (w40, u30.2) v3 H locs ls _ _ _ h hC I (lv_sub hl [1, 2, 3, 4] rfl)
      · replace h := m_ifT c25 h
        refine lv_goto (tgt := 87) X.1 X.2.1 dX8_first_61 (by decide) ?_
        exact k87 u v3 H locs ls _ _ _ h hC I (lv_sub hl [1, 2, 3, 4] rfl)
theorem wuf_X8_first_L18 (X : u_X RX8 D A d p s m c cX8_first 5 args) (hA : ∀ q, s.heap.size ≤ q → A q) (hR : 5 ≤ R.frames ∧ 139 ≤ R.locals) (n : Nat) (v0 : Nat) (v1 : Nat) (x : (Int32 × UM)) (z : UM) (C cr : UC) (hz : uf_X8_first_L18l n d v0 v1 x = some (z, C)) (hE : (fun (z : UM) (C : UC) => ∀ (H : Heap) (locs : List Loc) (ls : Array Slot) (cells slots : Nat), u_left R cells slots C → u_I D A s.heap z H locs cells → lv_has ls 5 [(1, .ref v1)] → W p l e R s m args below meth c H locs cells slots Q (F0 m 99 ls [])) z cr) : (fun (x : (Int32 × UM)) (C : UC) => ∀ (H : Heap) (locs : List Loc) (ls : Array Slot) (cells slots : Nat), u_left R cells slots C → u_I D A s.heap x.2 H locs cells → lv_has ls 5 [(0, .ref v0), (1, .ref v1), (2, .int x.1)] → W p l e R s m args below meth c H locs cells slots Q (F0 m 18 ls [])) x (u_add C cr) := by
  refine u_lpW (G := fun (x : (Int32 × UM)) (C : UC) => ∀ (H : Heap) (locs : List Loc) (ls : Array Slot) (cells slots : Nat), u_left R cells slots C → u_I D A s.heap x.2 H locs cells → lv_has ls 5 [(0, .ref v0), (1, .ref v1), (2, .int x.1)] → W p l e R s m args below meth c H locs cells slots Q (F0 m 18 ls [])) (E := fun (z : UM) (C : UC) => ∀ (H : Heap) (locs : List Loc) (ls : Array Slot) (cells slots : Nat), u_left R cells slots C → u_I D A s.heap z H locs cells → lv_has ls 5 [(1, .ref v1)] → W p l e R s m args below meth c H locs cells slots Q (F0 m 99 ls [])) ?_ n x z C cr hz hE
  rintro ⟨v2, u⟩ r C cr h hr H locs ls cells slots hC I hl
  replace h : uf_X8_first_L18 n d v0 v1 v2 u = some (r, C) := h
  unfold uf_X8_first_L18 at h
  refine lv_iload_n X.1 X.2.1 dX8_first_18 rfl (lv_at hl 2 rfl) ?_
  refine lv_aload_n X.1 X.2.1 dX8_first_19 rfl (lv_at hl 0 rfl) ?_
  obtain ⟨b14, e15, h⟩ := m_bS h
  refine u_Gi X I e15 (C := RX8) (T := TX8) (N := 6) (ref := "SwapPress$Press") in_X8 rfl (by decide) rfl rfl q1097 (fun _ h => h) dX8_first_20 ?_
  refine lv_icmp_ge (tgt := 99) X.1 X.2.1 dX8_first_23 (by decide) (fun c16 => ?_) (fun c16 => ?_)
  · replace h := m_ifT c16 h
    obtain ⟨rfl, rfl⟩ := m_e3 h
    exact hr H locs ls _ _ (u_left0 hC) I (lv_sub hl [1] rfl)
  · replace h := m_ifF c16 h
    refine lv_iconst (v := 0) X.1 X.2.1 dX8_first_26 (by decide) ?_
    refine lv_istore_n (lv' := [(3, .int 0), (0, .ref v0), (1, .ref v1), (2, .int v2)]) X.1 X.2.1 dX8_first_27 rfl hl (by decide) rfl (fun ls hl => ?_)
    obtain ⟨u43, C44, C45, e42, h, hq⟩ := u_blS h
    rw [hq] at hC
    refine wuf_X8_first_L28 X hA hR n v0 v1 v2 _ _ _ _ e42 (fun H locs ls cells slots hC I hl => ?_) H locs ls _ _ (u_left2 hC) I (lv_sub hl [1, 2, 3, 0] rfl)
    refine lv_iinc (v := v2 + 1) (lv' := [(2, .int (v2 + 1)), (0, .ref v0), (1, .ref v1)]) X.1 X.2.1 dX8_first_93 hl (k := 2) rfl rfl (by decide) rfl (fun ls hl => ?_)
    refine lv_goto (tgt := 18) X.1 X.2.1 dX8_first_96 (by decide) ?_
    obtain ⟨rfl, rfl⟩ := m_e3 h
    exact hr H locs ls _ _ (u_left0 hC) I (lv_sub hl [1, 2, 0] rfl)
theorem uw_X8_first (X : u_X RX8 D A d p s m c cX8_first 5 args) (hA : ∀ q, s.heap.size ≤ q → A q) (hR : 5 ≤ R.frames ∧ 139 ≤ R.locals) (n : Nat) (u : UM) (t : Nat) (r0 : (Option Nat)) (ur : UM) (C : UC) (h : uf_X8_first n d u t = some ((r0, ur), C)) (hret : ∀ (H : Heap) (locs : List Loc) (ls : Array Slot) (pc cells slots : Nat), decode cX8_first pc = .ok (.areturn, 1) → u_left R cells slots (u_add (0, 0) (0, 0)) → u_I D A s.heap ur H locs cells → W p l e R s m args below meth c H locs cells slots Q (F0 m pc ls [va_rf r0])) : ∀ (H : Heap) (locs : List Loc) (ls : Array Slot) (cells slots : Nat), u_left R cells slots (u_add C (0, 0)) → u_I D A s.heap u H locs cells → lv_has ls 5 [(0, .ref t)] → W p l e R s m args below meth c H locs cells slots Q (F0 m 0 ls []) := by
  intro H locs ls cells slots hC I hl
  unfold uf_X8_first at h
  refine lv_aload_n X.1 X.2.1 dX8_first_0 rfl (lv_at hl 0 rfl) ?_
  refine lv_iconst (v := (-1)) X.1 X.2.1 dX8_first_1 (by decide) ?_
  refine lv_iconst (v := 0) X.1 X.2.1 dX8_first_2 (by decide) ?_
  obtain ⟨f1, e2, h⟩ := m_bS h
  obtain ⟨r4, u5, C6, C7, e3, z8, h, hq⟩ := u_bcS h
  rw [hq] at hC
  refine u_callV X hl.1 I hA (As := [.int ((-1)), .int 0]) (rest := []) (uk_X8_goes l n D d u t ((-1)) 0 _ _ _ e3) z8 (u_clS e2) (C := RX8) (T := TX8) (N := 6) rfl 2 q1120 q1121 q1122 q125 q1123 uh_X8_goes rfl rfl ⟨Nat.le_trans (Nat.le_of_ble_eq_true rfl) hR.1, Nat.le_trans (Nat.le_of_ble_eq_true rfl) hR.2⟩ hC (stk := [.int r4]) rfl (Nat.le_of_ble_eq_true rfl) dX8_first_3 (fun H locs cells slots hC I => ?_)
  refine lv_if_ne (tgt := 11) X.1 X.2.1 dX8_first_6 (by decide) (fun c9 => ?_) (fun c9 => ?_)
  · replace h := m_ifF c9 h
    refine lv_bipush (v := 64) X.1 X.2.1 dX8_first_11 (by decide) ?_
    obtain ⟨g12, h⟩ := m_gS h
    obtain ⟨C10, h, hq⟩ := u_acS h
    rw [hq] at hC
    obtain ⟨u11, e13, h⟩ := m_bS h
    refine u_NP X I hA 0 (atype := .int) rfl q200 (x := (_, .inl (fun _ => 0))) (fun _ => rfl) (by decide) g12 e13 hC dX8_first_13 (fun H cells slots hC I => ?_)
    refine lv_astore_n (lv' := [(1, .ref u5.2), (0, .ref t)]) X.1 X.2.1 dX8_first_15 rfl hl (by decide) rfl (fun ls hl => ?_)
    refine lv_iconst (v := 0) X.1 X.2.1 dX8_first_16 (by decide) ?_
    refine lv_istore_n (lv' := [(2, .int 0), (1, .ref u5.2), (0, .ref t)]) X.1 X.2.1 dX8_first_17 rfl hl (by decide) rfl (fun ls hl => ?_)
    obtain ⟨u47, C48, C49, e46, h, hq⟩ := u_blS h
    rw [hq] at hC
    refine wuf_X8_first_L18 X hA hR n t u5.2 _ _ _ _ e46 (fun H locs ls cells slots hC I hl => ?_) H locs ls _ _ (u_left2 hC) I (lv_sub hl [2, 1, 0] rfl)
    refine lv_aload_n X.1 X.2.1 dX8_first_99 rfl (lv_at hl 0 rfl) ?_
    obtain ⟨he, rfl⟩ := m_e3 h
    obtain ⟨rfl, rfl⟩ := m_e4 he
    exact hret H locs ls 100 _ _ dX8_first_100 hC I
  · replace h := m_ifT c9 h
    refine lv_null X.1 X.2.1 dX8_first_9 ?_
    obtain ⟨he, rfl⟩ := m_e3 h
    obtain ⟨rfl, rfl⟩ := m_e4 he
    exact hret H locs ls 10 _ _ dX8_first_10 hC I
end S_X8_first
theorem uk_X8_first (l : Launch) (n : Nat) (D : va_G) (d : UD) (u : UM) (t : Nat) (r0 : (Option Nat)) (ur : UM) (C : UC) (h : uf_X8_first n d u t = some ((r0, ur), C)) : u_M l yX8_first (ws_ yX8_first cX8_first 5 (some (.array .int))) 5 139 C D d u [.ref t] (some (va_rf r0)) ur :=
  u_start (own := RX8) (lvl := [(0, .ref t)]) (by decide) rfl (Nat.le_of_ble_eq_true rfl) rfl (fun p e s m args below meth c ls X hr hlk hI hl hA I hC => uw_X8_first X hA ⟨Nat.le_refl _, Nat.le_refl _⟩ n u t r0 ur C h (fun H locs ls pc cells slots hd hC I => u_aret (r := r0) X I hr (Or.inr ⟨_, rfl⟩) hlk (u_leftE hC) hd) _ _ ls _ _ hC I hl)

/-! java/util/ArrayList.indexOfRange(Ljava/lang/Object;II)I -/
def uf_J2_indexOfRange_L42 (n : Nat) (d : UD) (u : UM) (v1 : Nat) (v3 : Int32) (v4 : Nat) (v5 : Int32) : Option (Int32 ⊕ (Int32 ⊕ Unit)) :=
  m_if ((v3 : Int32) ≤ (v5 : Int32)) (some (.inr ((.inr (()))))) (m_b (u_ldR d u v4 v5) (fun b4 => m_b (u_cl u 15 v1) (fun f6 => m_b (uf_J5_equals n d u v1 b4) (fun r9 => m_if ((r9 : Int32) = 0) (some (.inl (v5 + 1))) (some (.inr ((.inl v5))))))))
def uf_J2_indexOfRange_L42l (n : Nat) (d : UD) (u : UM) (v1 : Nat) (v3 : Int32) (v4 : Nat) (x : Int32) : Option (Int32 ⊕ Unit) := m_lp (fun (x : Int32) => uf_J2_indexOfRange_L42 n d u v1 v3 v4 x) n x
def uf_J2_indexOfRange_J69 (n : Nat) (d : UD) (u : UM) : Option Int32 :=
  some ((-1))
def uf_J2_indexOfRange (n : Nat) (d : UD) (u : UM) (t : Nat) (p0 : Nat) (p1 : Int32) (p2 : Int32) : Option Int32 :=
  m_b (u_fr d u 13 1 t) (fun b1 => m_b (uf_J2_indexOfRange_L42l n d u p0 p2 b1 p1) (fun y13 => m_s y13 (fun z12 => some z12) (fun _ => uf_J2_indexOfRange_J69 n d u )))
theorem uh_J2_indexOfRange : yJ2_indexOfRange.cls = RJ2 ∧ yJ2_indexOfRange.cls ≠ "java/lang/invoke/MethodHandle" ∧ yJ2_indexOfRange.cls ≠ "java/lang/invoke/VarHandle" ∧ (parseMethodDescriptor yJ2_indexOfRange.desc).map (fun d => d.parameters.length) = some 3 := by decide +kernel
section S_J2_indexOfRange
variable {p : Program} {l : Launch} {e : Env} {R : Room} {s : State} {m : MethodId} {args : Array Value} {below : List Frame} {meth : Method} {c : Code} {Q : State → Prop} {D : va_G} {A : Nat → Prop} {d : UD} {cells slots : Nat}
theorem wuf_J2_indexOfRange_L42 (X : u_X RJ2 D A d p s m c cJ2_indexOfRange 6 args) (hA : ∀ q, s.heap.size ≤ q → A q) (hR : 2 ≤ R.frames ∧ 44 ≤ R.locals) (hf : cells ≤ R.cells ∧ slots ≤ R.slots) (n : Nat) (u : UM) (v1 : Nat) (v3 : Int32) (v4 : Nat) (x : Int32) (z : (Int32 ⊕ Unit)) (hz : uf_J2_indexOfRange_L42l n d u v1 v3 v4 x = some z) (hE : (m_e (fun (z : Int32) => ∀ (H : Heap) (locs : List Loc) (ls : Array Slot), u_I D A s.heap u H locs cells → lv_has ls 6 [(5, .int z)] → W p l e R s m args below meth c H locs cells slots Q (F0 m 60 ls [])) (fun (z : Unit) => ∀ (H : Heap) (locs : List Loc) (ls : Array Slot), u_I D A s.heap u H locs cells → lv_has ls 6 [] → W p l e R s m args below meth c H locs cells slots Q (F0 m 69 ls []))) z) : (fun (x : Int32) => ∀ (H : Heap) (locs : List Loc) (ls : Array Slot), u_I D A s.heap u H locs cells → lv_has ls 6 [(1, .ref v1), (3, .int v3), (4, .ref v4), (5, .int x)] → W p l e R s m args below meth c H locs cells slots Q (F0 m 42 ls [])) x := by
  refine m_lpW (G := fun (x : Int32) => ∀ (H : Heap) (locs : List Loc) (ls : Array Slot), u_I D A s.heap u H locs cells → lv_has ls 6 [(1, .ref v1), (3, .int v3), (4, .ref v4), (5, .int x)] → W p l e R s m args below meth c H locs cells slots Q (F0 m 42 ls [])) (E := m_e (fun (z : Int32) => ∀ (H : Heap) (locs : List Loc) (ls : Array Slot), u_I D A s.heap u H locs cells → lv_has ls 6 [(5, .int z)] → W p l e R s m args below meth c H locs cells slots Q (F0 m 60 ls [])) (fun (z : Unit) => ∀ (H : Heap) (locs : List Loc) (ls : Array Slot), u_I D A s.heap u H locs cells → lv_has ls 6 [] → W p l e R s m args below meth c H locs cells slots Q (F0 m 69 ls []))) ?_ n x z hz hE
  rintro v5 r h hr H locs ls I hl
  replace h : uf_J2_indexOfRange_L42 n d u v1 v3 v4 v5 = some r := h
  unfold uf_J2_indexOfRange_L42 at h
  refine lv_iload X.1 X.2.1 dJ2_indexOfRange_42 (lv_at hl 3 rfl) ?_
  refine lv_iload_n X.1 X.2.1 dJ2_indexOfRange_44 rfl (lv_at hl 1 rfl) ?_
  refine lv_icmp_ge (tgt := 69) X.1 X.2.1 dJ2_indexOfRange_45 (by decide) (fun c3 => ?_) (fun c3 => ?_)
  · replace h := m_ifT c3 h
    cases h
    exact hr H locs ls I (lv_sub hl [] rfl)
  · replace h := m_ifF c3 h
    refine lv_aload_n X.1 X.2.1 dJ2_indexOfRange_48 rfl (lv_at hl 0 rfl) ?_
    refine lv_aload X.1 X.2.1 dJ2_indexOfRange_49 (lv_at hl 2 rfl) ?_
    refine lv_iload X.1 X.2.1 dJ2_indexOfRange_51 (lv_at hl 3 rfl) ?_
    obtain ⟨b4, e5, h⟩ := m_bS h
    refine u_LR X I e5 dJ2_indexOfRange_53 ?_
    obtain ⟨f6, e7, h⟩ := m_bS h
    obtain ⟨r9, e8, h⟩ := m_bS h
    refine u_callOp X hl.1 I hA (As := [.ref b4]) (rest := []) (uk_J5_equals l n D d u v1 b4 _ e8) (u_clS e7) (C := RJ5) (T := TJ5) (N := 4) rfl 1 q717 q698 q700 q699 q714 q650 q111 q652 uh_J16_equals.2 rfl rfl ⟨Nat.le_trans (Nat.le_of_ble_eq_true rfl) hR.1, Nat.le_trans (Nat.le_of_ble_eq_true rfl) hR.2⟩ hf (stk := [.int r9]) rfl (Nat.le_of_ble_eq_true rfl) dJ2_indexOfRange_54 (fun H locs I => ?_)
    refine lv_if_eq (tgt := 63) X.1 X.2.1 dJ2_indexOfRange_57 (by decide) (fun c10 => ?_) (fun c10 => ?_)
    · replace h := m_ifT c10 h
      refine lv_iinc (v := v5 + 1) (lv' := [(5, .int (v5 + 1)), (1, .ref v1), (3, .int v3), (4, .ref v4)]) X.1 X.2.1 dJ2_indexOfRange_63 hl (k := 3) rfl rfl (by decide) rfl (fun ls hl => ?_)
      refine lv_goto (tgt := 42) X.1 X.2.1 dJ2_indexOfRange_66 (by decide) ?_
      cases h
      exact hr H locs ls I (lv_sub hl [1, 2, 3, 0] rfl)
    · replace h := m_ifF c10 h
      cases h
      exact hr H locs ls I (lv_sub hl [3] rfl)
theorem uw_J2_indexOfRange (X : u_X RJ2 D A d p s m c cJ2_indexOfRange 6 args) (hA : ∀ q, s.heap.size ≤ q → A q) (hR : 2 ≤ R.frames ∧ 44 ≤ R.locals) (hf : cells ≤ R.cells ∧ slots ≤ R.slots) (n : Nat) (u : UM) (t : Nat) (p0 : Nat) (p1 : Int32) (p2 : Int32) (r : Int32) (h : uf_J2_indexOfRange n d u t p0 p1 p2 = some r) (hret : ∀ (H : Heap) (locs : List Loc) (ls : Array Slot) (pc : Nat), decode cJ2_indexOfRange pc = .ok (.ireturn, 1) → u_I D A s.heap u H locs cells → W p l e R s m args below meth c H locs cells slots Q (F0 m pc ls [.int r])) : ∀ (H : Heap) (locs : List Loc) (ls : Array Slot), u_I D A s.heap u H locs cells → lv_has ls 6 [(0, .ref t), (1, .ref p0), (2, .int p1), (3, .int p2)] → W p l e R s m args below meth c H locs cells slots Q (F0 m 0 ls []) := by
  have k69 : ∀  (H : Heap) (locs : List Loc) (ls : Array Slot), uf_J2_indexOfRange_J69 n d u = some r → u_I D A s.heap u H locs cells → lv_has ls 6 [] → W p l e R s m args below meth c H locs cells slots Q (F0 m 69 ls []) := by
    intro  H locs ls h I hl
    unfold uf_J2_indexOfRange_J69 at h
    refine lv_iconst (v := (-1)) X.1 X.2.1 dJ2_indexOfRange_69 (by decide) ?_
    obtain rfl := m_e1 h
    exact hret H locs ls 70 dJ2_indexOfRange_70 I
  intro H locs ls I hl
  unfold uf_J2_indexOfRange at h
  refine lv_aload_n X.1 X.2.1 dJ2_indexOfRange_0 rfl (lv_at hl 0 rfl) ?_
  obtain ⟨b1, e2, h⟩ := m_bS h
  refine u_Gr X I e2 (C := RJ2) (T := TJ2) (N := 3) (ref := "java/util/ArrayList") in_J2 rfl (by decide) rfl rfl q161 (fun _ h => h) dJ2_indexOfRange_1 ?_
  refine lv_astore (lv' := [(4, .ref b1), (0, .ref t), (1, .ref p0), (2, .int p1), (3, .int p2)]) X.1 X.2.1 dJ2_indexOfRange_4 hl (by decide) rfl (fun ls hl => ?_)
  refine lv_aload_n X.1 X.2.1 dJ2_indexOfRange_6 rfl (lv_at hl 2 rfl) ?_
  refine lv_ifnonnull (tgt := 39) X.1 X.2.1 dJ2_indexOfRange_7 (by decide) ?_
  refine lv_iload_n X.1 X.2.1 dJ2_indexOfRange_39 rfl (lv_at hl 3 rfl) ?_
  refine lv_istore (lv' := [(5, .int p1), (4, .ref b1), (0, .ref t), (1, .ref p0), (2, .int p1), (3, .int p2)]) X.1 X.2.1 dJ2_indexOfRange_40 hl (by decide) rfl (fun ls hl => ?_)
  obtain ⟨z12 | _, e11, h⟩ := m_bS h
  · replace h := m_sL h
    refine wuf_J2_indexOfRange_L42 X hA hR hf n u p0 p2 b1 _ _ e11 (fun H locs ls I hl => ?_) H locs ls I (lv_sub hl [3, 5, 1, 0] rfl)
    refine lv_iload X.1 X.2.1 dJ2_indexOfRange_60 (lv_at hl 0 rfl) ?_
    obtain rfl := m_e1 h
    exact hret H locs ls 62 dJ2_indexOfRange_62 I
  · replace h := m_sR h
    refine wuf_J2_indexOfRange_L42 X hA hR hf n u p0 p2 b1 _ _ e11 (fun H locs ls I hl => ?_) H locs ls I (lv_sub hl [3, 5, 1, 0] rfl)
    exact k69  H locs ls h I (lv_sub hl [] rfl)
end S_J2_indexOfRange
theorem uk_J2_indexOfRange (l : Launch) (n : Nat) (D : va_G) (d : UD) (u : UM) (t : Nat) (p0 : Nat) (p1 : Int32) (p2 : Int32) (r : Int32) (h : uf_J2_indexOfRange n d u t p0 p1 p2 = some r) : u_M l yJ2_indexOfRange (ws_ yJ2_indexOfRange cJ2_indexOfRange 6 (some .int)) 2 44 (0, 0) D d u [.ref t, .ref p0, .int p1, .int p2] (some (.int r)) u :=
  u_start (own := RJ2) (lvl := [(0, .ref t), (1, .ref p0), (2, .int p1), (3, .int p2)]) (by decide) rfl (Nat.le_of_ble_eq_true rfl) rfl (fun p e s m args below meth c ls X hr hlk hI hl hA I hC => uw_J2_indexOfRange X hA ⟨Nat.le_refl _, Nat.le_refl _⟩ ⟨Nat.zero_le _, Nat.zero_le _⟩ n u t p0 p1 p2 r h (fun H locs ls pc hd I => u_iret X I hr hlk ⟨rfl, rfl⟩ hd) _ _ ls I hl)

/-! java/util/ArrayList.grow(I)[Ljava/lang/Object; -/
def uf_J2_grow_2_J20 (n : Nat) (d : UD) (u : UM) (v0 : Nat) (v1 : Int32) (v2 : Int32) : Option ((Nat × UM) × UC) :=
  m_b (uf_J7_newLength n d u v2 (v1 - v2) (v2 >>> (1 &&& 31))) (fun r7 => m_b (u_fr d u 13 1 v0) (fun b8 => u_bc u.2 (uf_J9_copyOf_2 n d u b8 r7) (fun r11 u12 => m_b (u_pf u12 13 1 v0 (.ref r11)) (fun w16 => some ((r11, (w16, u12.2)), (0, 0))))))
def uf_J2_grow_2 (n : Nat) (d : UD) (u : UM) (t : Nat) (p0 : Int32) : Option ((Nat × UM) × UC) :=
  m_b (u_fr d u 13 1 t) (fun b1 => m_b (u_lnI d u 4 b1) (fun b3 => m_if (0 < (b3 : Int32)) (uf_J2_grow_2_J20 n d u t p0 b3) (m_b (u_fr d u 13 1 t) (fun b18 => m_if ((some b18 : Option Nat) = some (d.2 0)) (m_g (u_ln (if (10 : Int32) < (p0 : Int32) then (p0 : Int32) else (10 : Int32))) (u_ac (1, (if (10 : Int32) < (p0 : Int32) then (p0 : Int32) else (10 : Int32) : Int32).toNatClampNeg) (m_b (some (u_nw u (.inl (d.1 4, (if (10 : Int32) < (p0 : Int32) then (p0 : Int32) else (10 : Int32) : Int32).toNatClampNeg, .inr (.inr (.inr (.inr (fun _ => none)))))))) (fun u22 => m_b (u_pf u22 13 1 t (.ref u.2)) (fun w25 => some ((u.2, (w25, u22.2)), (0, 0))))))) (uf_J2_grow_2_J20 n d u t p0 b3)))))
theorem uh_J2_grow_2 : yJ2_grow_2.cls = RJ2 ∧ yJ2_grow_2.cls ≠ "java/lang/invoke/MethodHandle" ∧ yJ2_grow_2.cls ≠ "java/lang/invoke/VarHandle" ∧ (parseMethodDescriptor yJ2_grow_2.desc).map (fun d => d.parameters.length) = some 1 := by decide +kernel
section S_J2_grow_2
variable {p : Program} {l : Launch} {e : Env} {R : Room} {s : State} {m : MethodId} {args : Array Value} {below : List Frame} {meth : Method} {c : Code} {Q : State → Prop} {D : va_G} {A : Nat → Prop} {d : UD}
theorem uw_J2_grow_2 (X : u_X RJ2 D A d p s m c cJ2_grow_2 4 args) (hA : ∀ q, s.heap.size ≤ q → A q) (hR : 3 ≤ R.frames ∧ 104 ≤ R.locals) (n : Nat) (u : UM) (t : Nat) (p0 : Int32) (r0 : Nat) (ur : UM) (C : UC) (h : uf_J2_grow_2 n d u t p0 = some ((r0, ur), C)) (hret : ∀ (H : Heap) (locs : List Loc) (ls : Array Slot) (pc cells slots : Nat), decode cJ2_grow_2 pc = .ok (.areturn, 1) → u_left R cells slots (u_add (0, 0) (0, 0)) → u_I D A s.heap ur H locs cells → W p l e R s m args below meth c H locs cells slots Q (F0 m pc ls [.ref r0])) : ∀ (H : Heap) (locs : List Loc) (ls : Array Slot) (cells slots : Nat), u_left R cells slots (u_add C (0, 0)) → u_I D A s.heap u H locs cells → lv_has ls 4 [(0, .ref t), (1, .int p0)] → W p l e R s m args below meth c H locs cells slots Q (F0 m 0 ls []) := by
  have k20 : ∀ (u : UM) (v0 : Nat) (v1 : Int32) (v2 : Int32) (H : Heap) (locs : List Loc) (ls : Array Slot) (cells slots : Nat) (C : UC), uf_J2_grow_2_J20 n d u v0 v1 v2 = some ((r0, ur), C) → u_left R cells slots (u_add C (0, 0)) → u_I D A s.heap u H locs cells → lv_has ls 4 [(0, .ref v0), (1, .int v1), (2, .int v2)] → W p l e R s m args below meth c H locs cells slots Q (F0 m 20 ls []) := by
    intro u v0 v1 v2 H locs ls cells slots C h hC I hl
    unfold uf_J2_grow_2_J20 at h
    refine lv_iload_n X.1 X.2.1 dJ2_grow_2_20 rfl (lv_at hl 2 rfl) ?_
    refine lv_iload_n X.1 X.2.1 dJ2_grow_2_21 rfl (lv_at hl 1 rfl) ?_
    refine lv_iload_n X.1 X.2.1 dJ2_grow_2_22 rfl (lv_at hl 2 rfl) ?_
    refine lv_isub X.1 X.2.1 dJ2_grow_2_23 ?_
    refine lv_iload_n X.1 X.2.1 dJ2_grow_2_24 rfl (lv_at hl 2 rfl) ?_
    refine lv_iconst (v := 1) X.1 X.2.1 dJ2_grow_2_25 (by decide) ?_
    refine lv_ishr X.1 X.2.1 dJ2_grow_2_26 ?_
    obtain ⟨r7, e6, h⟩ := m_bS h
    refine u_callSp X hl.1 I hA (As := [.int v2, .int (v1 - v2), .int (v2 >>> (1 &&& 31))]) (rest := []) (uk_J7_newLength l n D d u v2 (v1 - v2) (v2 >>> (1 &&& 31)) _ e6) 3 q734 q380 q113 q381 uh_J7_newLength.2 rfl rfl ⟨Nat.le_trans (Nat.le_of_ble_eq_true rfl) hR.1, Nat.le_trans (Nat.le_of_ble_eq_true rfl) hR.2⟩ (u_leftLe hC) (stk := [.int r7]) rfl (Nat.le_of_ble_eq_true rfl) dJ2_grow_2_27 (fun H locs I => ?_)
    refine lv_istore_n (lv' := [(3, .int r7), (0, .ref v0), (1, .int v1), (2, .int v2)]) X.1 X.2.1 dJ2_grow_2_30 rfl hl (by decide) rfl (fun ls hl => ?_)
    refine lv_aload_n X.1 X.2.1 dJ2_grow_2_31 rfl (lv_at hl 1 rfl) ?_
    refine lv_aload_n X.1 X.2.1 dJ2_grow_2_32 rfl (lv_at hl 1 rfl) ?_
    obtain ⟨b8, e9, h⟩ := m_bS h
    refine u_Gr X I e9 (C := RJ2) (T := TJ2) (N := 3) (ref := "java/util/ArrayList") in_J2 rfl (by decide) rfl rfl q161 (fun _ h => h) dJ2_grow_2_33 ?_
    refine lv_iload_n X.1 X.2.1 dJ2_grow_2_36 rfl (lv_at hl 0 rfl) ?_
    obtain ⟨r11, u12, C13, C14, e10, z15, h, hq⟩ := u_bcS h
    rw [hq] at hC
    refine u_callS X hl.1 I hA (As := [.ref b8, .int r7]) (rest := [.ref v0]) (uk_J9_copyOf_2 l n D d u b8 r7 _ _ _ e10) z15 2 q735 q736 q115 q737 uh_J9_copyOf_2.2 rfl rfl ⟨Nat.le_trans (Nat.le_of_ble_eq_true rfl) hR.1, Nat.le_trans (Nat.le_of_ble_eq_true rfl) hR.2⟩ hC (stk := [.ref r11, .ref v0]) rfl (Nat.le_of_ble_eq_true rfl) dJ2_grow_2_37 (fun H locs cells slots hC I => ?_)
    refine lv_dup_x1 X.1 X.2.1 dJ2_grow_2_40 rfl rfl ?_
    obtain ⟨w16, e17, h⟩ := m_bS h
    refine u_P X I e17 (C := RJ2) (T := TJ2) (N := 3) (ref := "java/util/ArrayList") in_J2 tyJ2 tyJ2_ok nmJ2 rfl (by decide) rfl rfl q161 (fun _ h => h) rfl rfl rfl dJ2_grow_2_41 (fun H locs I => ?_)
    obtain ⟨he, rfl⟩ := m_e3 h
    obtain ⟨rfl, rfl⟩ := m_e4 he
    exact hret H locs ls 44 _ _ dJ2_grow_2_44 hC I
  intro H locs ls cells slots hC I hl
  unfold uf_J2_grow_2 at h
  refine lv_aload_n X.1 X.2.1 dJ2_grow_2_0 rfl (lv_at hl 0 rfl) ?_
  obtain ⟨b1, e2, h⟩ := m_bS h
  refine u_Gr X I e2 (C := RJ2) (T := TJ2) (N := 3) (ref := "java/util/ArrayList") in_J2 rfl (by decide) rfl rfl q161 (fun _ h => h) dJ2_grow_2_1 ?_
  obtain ⟨b3, e4, h⟩ := m_bS h
  refine u_LN X I (by decide) e4 dJ2_grow_2_4 ?_
  refine lv_istore_n (lv' := [(2, .int b3), (0, .ref t), (1, .int p0)]) X.1 X.2.1 dJ2_grow_2_5 rfl hl (by decide) rfl (fun ls hl => ?_)
  refine lv_iload_n X.1 X.2.1 dJ2_grow_2_6 rfl (lv_at hl 0 rfl) ?_
  refine lv_if_gt (tgt := 20) X.1 X.2.1 dJ2_grow_2_7 (by decide) (fun c5 => ?_) (fun c5 => ?_)
  · replace h := m_ifT c5 h
    exact k20 u t p0 b3 H locs ls _ _ _ h hC I (lv_sub hl [1, 2, 0] rfl)
  · replace h := m_ifF c5 h
    refine lv_aload_n X.1 X.2.1 dJ2_grow_2_10 rfl (lv_at hl 1 rfl) ?_
    obtain ⟨b18, e19, h⟩ := m_bS h
    refine u_Gr X I e19 (C := RJ2) (T := TJ2) (N := 3) (ref := "java/util/ArrayList") in_J2 rfl (by decide) rfl rfl q161 (fun _ h => h) dJ2_grow_2_11 ?_
    refine u_gs0 X I q159 dJ2_grow_2_14 ?_
    refine lv_acmp_eq (rx := some b18) (ry := some (d.2 0)) (tgt := 45) X.1 X.2.1 dJ2_grow_2_17 (by decide) (fun c20 => ?_) (fun c20 => ?_)
    · replace h := m_ifT c20 h
      refine lv_aload_n X.1 X.2.1 dJ2_grow_2_45 rfl (lv_at hl 1 rfl) ?_
      refine lv_bipush (v := 10) X.1 X.2.1 dJ2_grow_2_46 (by decide) ?_
      refine lv_iload_n X.1 X.2.1 dJ2_grow_2_48 rfl (lv_at hl 2 rfl) ?_
      refine va_mmax X.1 X.2.1 (X.2.2.2.2.2.1.trans hl.1.symm) X.2.2.2.1 (X.2.2.1 _ q765) (X.2.2.1 _ q383) (X.2.2.1 _ q114) (X.2.2.1 _ q384) (Nat.le_trans (Nat.le_of_ble_eq_true rfl) hR.1) (Nat.le_trans (Nat.le_of_ble_eq_true rfl) hR.2) (u_leftLe hC).1 (u_leftLe hC).2 dJ2_grow_2_49 ?_
      obtain ⟨g23, h⟩ := m_gS h
      obtain ⟨C21, h, hq⟩ := u_acS h
      rw [hq] at hC
      obtain ⟨u22, e24, h⟩ := m_bS h
      refine u_NQ X I hA q766 g23 e24 hC dJ2_grow_2_52 (fun H cells slots hC I => ?_)
      refine lv_dup_x1 X.1 X.2.1 dJ2_grow_2_55 rfl rfl ?_
      obtain ⟨w25, e26, h⟩ := m_bS h
      refine u_P X I e26 (C := RJ2) (T := TJ2) (N := 3) (ref := "java/util/ArrayList") in_J2 tyJ2 tyJ2_ok nmJ2 rfl (by decide) rfl rfl q161 (fun _ h => h) rfl rfl rfl dJ2_grow_2_56 (fun H locs I => ?_)
      obtain ⟨he, rfl⟩ := m_e3 h
      obtain ⟨rfl, rfl⟩ := m_e4 he
      exact hret H locs ls 59 _ _ dJ2_grow_2_59 hC I
    · replace h := m_ifF c20 h
      exact k20 u t p0 b3 H locs ls _ _ _ h hC I (lv_sub hl [1, 2, 0] rfl)
end S_J2_grow_2
theorem uk_J2_grow_2 (l : Launch) (n : Nat) (D : va_G) (d : UD) (u : UM) (t : Nat) (p0 : Int32) (r0 : Nat) (ur : UM) (C : UC) (h : uf_J2_grow_2 n d u t p0 = some ((r0, ur), C)) : u_M l yJ2_grow_2 (ws_ yJ2_grow_2 cJ2_grow_2 4 (some (.array (.object "java/lang/Object")))) 3 104 C D d u [.ref t, .int p0] (some (.ref r0)) ur :=
  u_start (own := RJ2) (lvl := [(0, .ref t), (1, .int p0)]) (by decide) rfl (Nat.le_of_ble_eq_true rfl) rfl (fun p e s m args below meth c ls X hr hlk hI hl hA I hC => uw_J2_grow_2 X hA ⟨Nat.le_refl _, Nat.le_refl _⟩ n u t p0 r0 ur C h (fun H locs ls pc cells slots hd hC I => u_aret (r := some r0) X I hr (Or.inr ⟨_, rfl⟩) hlk (u_leftE hC) hd) _ _ ls _ _ hC I hl)

/-! java/util/ArrayList.toArray()[Ljava/lang/Object; -/
def uf_J2_toArray (n : Nat) (d : UD) (u : UM) (t : Nat) : Option ((Nat × UM) × UC) :=
  m_b (u_fr d u 13 1 t) (fun b1 => m_b (u_fi d u 13 2 t) (fun b3 => u_bc u.2 (uf_J9_copyOf_2 n d u b1 b3) (fun r6 u7 => some ((r6, u7), (0, 0)))))
theorem uh_J2_toArray : yJ2_toArray.cls = RJ2 ∧ yJ2_toArray.cls ≠ "java/lang/invoke/MethodHandle" ∧ yJ2_toArray.cls ≠ "java/lang/invoke/VarHandle" ∧ (parseMethodDescriptor yJ2_toArray.desc).map (fun d => d.parameters.length) = some 0 := by decide +kernel
section S_J2_toArray
variable {p : Program} {l : Launch} {e : Env} {R : Room} {s : State} {m : MethodId} {args : Array Value} {below : List Frame} {meth : Method} {c : Code} {Q : State → Prop} {D : va_G} {A : Nat → Prop} {d : UD}
theorem uw_J2_toArray (X : u_X RJ2 D A d p s m c cJ2_toArray 1 args) (hA : ∀ q, s.heap.size ≤ q → A q) (hR : 3 ≤ R.frames ∧ 104 ≤ R.locals) (n : Nat) (u : UM) (t : Nat) (r0 : Nat) (ur : UM) (C : UC) (h : uf_J2_toArray n d u t = some ((r0, ur), C)) (hret : ∀ (H : Heap) (locs : List Loc) (ls : Array Slot) (pc cells slots : Nat), decode cJ2_toArray pc = .ok (.areturn, 1) → u_left R cells slots (u_add (0, 0) (0, 0)) → u_I D A s.heap ur H locs cells → W p l e R s m args below meth c H locs cells slots Q (F0 m pc ls [.ref r0])) : ∀ (H : Heap) (locs : List Loc) (ls : Array Slot) (cells slots : Nat), u_left R cells slots (u_add C (0, 0)) → u_I D A s.heap u H locs cells → lv_has ls 1 [(0, .ref t)] → W p l e R s m args below meth c H locs cells slots Q (F0 m 0 ls []) := by
  intro H locs ls cells slots hC I hl
  unfold uf_J2_toArray at h
  refine lv_aload_n X.1 X.2.1 dJ2_toArray_0 rfl (lv_at hl 0 rfl) ?_
  obtain ⟨b1, e2, h⟩ := m_bS h
  refine u_Gr X I e2 (C := RJ2) (T := TJ2) (N := 3) (ref := "java/util/ArrayList") in_J2 rfl (by decide) rfl rfl q161 (fun _ h => h) dJ2_toArray_1 ?_
  refine lv_aload_n X.1 X.2.1 dJ2_toArray_4 rfl (lv_at hl 0 rfl) ?_
  obtain ⟨b3, e4, h⟩ := m_bS h
  refine u_Gi X I e4 (C := RJ2) (T := TJ2) (N := 3) (ref := "java/util/ArrayList") in_J2 rfl (by decide) rfl rfl q162 (fun _ h => h) dJ2_toArray_5 ?_
  obtain ⟨r6, u7, C8, C9, e5, z10, h, hq⟩ := u_bcS h
  rw [hq] at hC
  refine u_callS X hl.1 I hA (As := [.ref b1, .int b3]) (rest := []) (uk_J9_copyOf_2 l n D d u b1 b3 _ _ _ e5) z10 2 q735 q736 q115 q737 uh_J9_copyOf_2.2 rfl rfl ⟨Nat.le_trans (Nat.le_of_ble_eq_true rfl) hR.1, Nat.le_trans (Nat.le_of_ble_eq_true rfl) hR.2⟩ hC (stk := [.ref r6]) rfl (Nat.le_of_ble_eq_true rfl) dJ2_toArray_8 (fun H locs cells slots hC I => ?_)
  obtain ⟨he, rfl⟩ := m_e3 h
  obtain ⟨rfl, rfl⟩ := m_e4 he
  exact hret H locs ls 11 _ _ dJ2_toArray_11 hC I
end S_J2_toArray
theorem uk_J2_toArray (l : Launch) (n : Nat) (D : va_G) (d : UD) (u : UM) (t : Nat) (r0 : Nat) (ur : UM) (C : UC) (h : uf_J2_toArray n d u t = some ((r0, ur), C)) : u_M l yJ2_toArray (ws_ yJ2_toArray cJ2_toArray 1 (some (.array (.object "java/lang/Object")))) 3 104 C D d u [.ref t] (some (.ref r0)) ur :=
  u_start (own := RJ2) (lvl := [(0, .ref t)]) (by decide) rfl (Nat.le_of_ble_eq_true rfl) rfl (fun p e s m args below meth c ls X hr hlk hI hl hA I hC => uw_J2_toArray X hA ⟨Nat.le_refl _, Nat.le_refl _⟩ n u t r0 ur C h (fun H locs ls pc cells slots hd hC I => u_aret (r := some r0) X I hr (Or.inr ⟨_, rfl⟩) hlk (u_leftE hC) hd) _ _ ls _ _ hC I hl)

/-! java/lang/AbstractStringBuilder.ensureCapacityInternal(I)V -/
def uf_J3_ensureCapacityInternal_J38 (n : Nat) (d : UD) (u : UM) : Option ((Unit × UM) × UC) :=
  some (((), u), (0, 0))
def uf_J3_ensureCapacityInternal (n : Nat) (d : UD) (u : UM) (t : Nat) (p0 : Int32) : Option ((Unit × UM) × UC) :=
  m_b (u_fr d u 14 0 t) (fun b1 => m_b (u_lnI d u 2 b1) (fun b3 => m_b (u_fi d u 14 1 t) (fun b5 => m_if ((p0 - (b3 >>> (b5 &&& 31)) : Int32) ≤ 0) (uf_J3_ensureCapacityInternal_J38 n d u ) (m_b (u_fr d u 14 0 t) (fun b8 => m_b (u_cl u 14 t) (fun f10 => u_bc u.2 (uf_J3_newCapacity n d u t p0) (fun r13 u14 => m_b (u_fi d u14 14 1 t) (fun b18 => u_bc u14.2 (uf_J9_copyOf n d u14 b8 (r13 <<< (b18 &&& 31))) (fun r21 u22 => m_b (u_pf u22 14 0 t (.ref r21)) (fun w26 => uf_J3_ensureCapacityInternal_J38 n d (w26, u22.2) ))))))))))
theorem uh_J3_ensureCapacityInternal : yJ3_ensureCapacityInternal.cls = RJ3 ∧ yJ3_ensureCapacityInternal.cls ≠ "java/lang/invoke/MethodHandle" ∧ yJ3_ensureCapacityInternal.cls ≠ "java/lang/invoke/VarHandle" ∧ (parseMethodDescriptor yJ3_ensureCapacityInternal.desc).map (fun d => d.parameters.length) = some 1 := by decide +kernel
section S_J3_ensureCapacityInternal
variable {p : Program} {l : Launch} {e : Env} {R : Room} {s : State} {m : MethodId} {args : Array Value} {below : List Frame} {meth : Method} {c : Code} {Q : State → Prop} {D : va_G} {A : Nat → Prop} {d : UD}
theorem uw_J3_ensureCapacityInternal (X : u_X RJ3 D A d p s m c cJ3_ensureCapacityInternal 3 args) (hA : ∀ q, s.heap.size ≤ q → A q) (hR : 3 ≤ R.frames ∧ 88 ≤ R.locals) (n : Nat) (u : UM) (t : Nat) (p0 : Int32) (r0 : Unit) (ur : UM) (C : UC) (h : uf_J3_ensureCapacityInternal n d u t p0 = some ((r0, ur), C)) (hret : ∀ (H : Heap) (locs : List Loc) (ls : Array Slot) (pc cells slots : Nat), decode cJ3_ensureCapacityInternal pc = .ok (.return_, 1) → u_left R cells slots (u_add (0, 0) (0, 0)) → u_I D A s.heap ur H locs cells → W p l e R s m args below meth c H locs cells slots Q (F0 m pc ls [])) : ∀ (H : Heap) (locs : List Loc) (ls : Array Slot) (cells slots : Nat), u_left R cells slots (u_add C (0, 0)) → u_I D A s.heap u H locs cells → lv_has ls 3 [(0, .ref t), (1, .int p0)] → W p l e R s m args below meth c H locs cells slots Q (F0 m 0 ls []) := by
  have k38 : ∀ (u : UM) (H : Heap) (locs : List Loc) (ls : Array Slot) (cells slots : Nat) (C : UC), uf_J3_ensureCapacityInternal_J38 n d u = some ((r0, ur), C) → u_left R cells slots (u_add C (0, 0)) → u_I D A s.heap u H locs cells → lv_has ls 3 [] → W p l e R s m args below meth c H locs cells slots Q (F0 m 38 ls []) := by
    intro u H locs ls cells slots C h hC I hl
    unfold uf_J3_ensureCapacityInternal_J38 at h
    obtain ⟨he, rfl⟩ := m_e3 h
    obtain ⟨rfl, rfl⟩ := m_e4 he
    exact hret H locs ls 38 _ _ dJ3_ensureCapacityInternal_38 hC I
  intro H locs ls cells slots hC I hl
  unfold uf_J3_ensureCapacityInternal at h
  refine lv_aload_n X.1 X.2.1 dJ3_ensureCapacityInternal_0 rfl (lv_at hl 0 rfl) ?_
  obtain ⟨b1, e2, h⟩ := m_bS h
  refine u_Gr X I e2 (C := RJ4) (T := TJ4) (N := 4) (ref := "java/lang/AbstractStringBuilder") in_J4 rfl (by decide) rfl rfl q351 (fun _ h => h) dJ3_ensureCapacityInternal_1 ?_
  obtain ⟨b3, e4, h⟩ := m_bS h
  refine u_LN X I (by decide) e4 dJ3_ensureCapacityInternal_4 ?_
  refine lv_aload_n X.1 X.2.1 dJ3_ensureCapacityInternal_5 rfl (lv_at hl 0 rfl) ?_
  obtain ⟨b5, e6, h⟩ := m_bS h
  refine u_Gi X I e6 (C := RJ4) (T := TJ4) (N := 4) (ref := "java/lang/AbstractStringBuilder") in_J4 rfl (by decide) rfl rfl q352 (fun _ h => h) dJ3_ensureCapacityInternal_6 ?_
  refine lv_ishr X.1 X.2.1 dJ3_ensureCapacityInternal_9 ?_
  refine lv_istore_n (lv' := [(2, .int (b3 >>> (b5 &&& 31))), (0, .ref t), (1, .int p0)]) X.1 X.2.1 dJ3_ensureCapacityInternal_10 rfl hl (by decide) rfl (fun ls hl => ?_)
  refine lv_iload_n X.1 X.2.1 dJ3_ensureCapacityInternal_11 rfl (lv_at hl 2 rfl) ?_
  refine lv_iload_n X.1 X.2.1 dJ3_ensureCapacityInternal_12 rfl (lv_at hl 0 rfl) ?_
  refine lv_isub X.1 X.2.1 dJ3_ensureCapacityInternal_13 ?_
  refine lv_if_le (tgt := 38) X.1 X.2.1 dJ3_ensureCapacityInternal_14 (by decide) (fun c7 => ?_) (fun c7 => ?_)
  · replace h := m_ifT c7 h
    exact k38 u H locs ls _ _ _ h hC I (lv_sub hl [] rfl)
  · replace h := m_ifF c7 h
    refine lv_aload_n X.1 X.2.1 dJ3_ensureCapacityInternal_17 rfl (lv_at hl 1 rfl) ?_
    refine lv_aload_n X.1 X.2.1 dJ3_ensureCapacityInternal_18 rfl (lv_at hl 1 rfl) ?_
    obtain ⟨b8, e9, h⟩ := m_bS h
    refine u_Gr X I e9 (C := RJ4) (T := TJ4) (N := 4) (ref := "java/lang/AbstractStringBuilder") in_J4 rfl (by decide) rfl rfl q351 (fun _ h => h) dJ3_ensureCapacityInternal_19 ?_
    refine lv_aload_n X.1 X.2.1 dJ3_ensureCapacityInternal_22 rfl (lv_at hl 1 rfl) ?_
    refine lv_iload_n X.1 X.2.1 dJ3_ensureCapacityInternal_23 rfl (lv_at hl 2 rfl) ?_
    obtain ⟨f10, e11, h⟩ := m_bS h
    obtain ⟨r13, u14, C15, C16, e12, z17, h, hq⟩ := u_bcS h
    rw [hq] at hC
    refine u_callB X hl.1 I hA (As := [.int p0]) (rest := [.ref b8, .ref t]) (uk_J3_newCapacity l n D d u t p0 _ _ _ e12) z17 (u_clS e11) (T := TJ4) (N := 4) rfl 1 1 rfl q375 q377 q109 q378 uh_J3_newCapacity.2 rfl rfl ⟨Nat.le_trans (Nat.le_of_ble_eq_true rfl) hR.1, Nat.le_trans (Nat.le_of_ble_eq_true rfl) hR.2⟩ hC (stk := [.int r13, .ref b8, .ref t]) rfl (Nat.le_of_ble_eq_true rfl) dJ3_ensureCapacityInternal_24 (fun H locs cells slots hC I => ?_)
    refine lv_aload_n X.1 X.2.1 dJ3_ensureCapacityInternal_27 rfl (lv_at hl 1 rfl) ?_
    obtain ⟨b18, e19, h⟩ := m_bS h
    refine u_Gi X I e19 (C := RJ4) (T := TJ4) (N := 4) (ref := "java/lang/AbstractStringBuilder") in_J4 rfl (by decide) rfl rfl q352 (fun _ h => h) dJ3_ensureCapacityInternal_28 ?_
    refine lv_ishl X.1 X.2.1 dJ3_ensureCapacityInternal_31 ?_
    obtain ⟨r21, u22, C23, C24, e20, z25, h, hq⟩ := u_bcS h
    rw [hq] at hC
    refine u_callS X hl.1 I hA (As := [.ref b8, .int (r13 <<< (b18 &&& 31))]) (rest := [.ref t]) (uk_J9_copyOf l n D d u14 b8 (r13 <<< (b18 &&& 31)) _ _ _ e20) z25 2 q390 q391 q115 q392 uh_J9_copyOf.2 rfl rfl ⟨Nat.le_trans (Nat.le_of_ble_eq_true rfl) hR.1, Nat.le_trans (Nat.le_of_ble_eq_true rfl) hR.2⟩ hC (stk := [.ref r21, .ref t]) rfl (Nat.le_of_ble_eq_true rfl) dJ3_ensureCapacityInternal_32 (fun H locs cells slots hC I => ?_)
    obtain ⟨w26, e27, h⟩ := m_bS h
    refine u_P X I e27 (C := RJ4) (T := TJ4) (N := 4) (ref := "java/lang/AbstractStringBuilder") in_J4 tyJ4 tyJ4_ok nmJ4 rfl (by decide) rfl rfl q351 (fun _ h => h) rfl rfl rfl dJ3_ensureCapacityInternal_35 (fun H locs I => ?_)
    exact k38 (w26, u22.2) H locs ls _ _ _ h hC I (lv_sub hl [] rfl)
end S_J3_ensureCapacityInternal
theorem uk_J3_ensureCapacityInternal (l : Launch) (n : Nat) (D : va_G) (d : UD) (u : UM) (t : Nat) (p0 : Int32) (ur : UM) (C : UC) (h : uf_J3_ensureCapacityInternal n d u t p0 = some (((), ur), C)) : u_M l yJ3_ensureCapacityInternal (ws_ yJ3_ensureCapacityInternal cJ3_ensureCapacityInternal 3 none) 3 88 C D d u [.ref t, .int p0] none ur :=
  u_start (own := RJ3) (lvl := [(0, .ref t), (1, .int p0)]) (by decide) rfl (Nat.le_of_ble_eq_true rfl) rfl (fun p e s m args below meth c ls X hr hlk hI hl hA I hC => uw_J3_ensureCapacityInternal X hA ⟨Nat.le_refl _, Nat.le_refl _⟩ n u t p0 () ur C h (fun H locs ls pc cells slots hd hC I => u_vret X I hr hlk (u_leftE hC) hd) _ _ ls _ _ hC I hl)

/-! java/lang/AbstractStringBuilder.appendNull()Ljava/lang/AbstractStringBuilder; -/
def uf_J3_appendNull_J76 (n : Nat) (d : UD) (u : UM) (v0 : Nat) (v1 : Int32) : Option ((Nat × UM) × UC) :=
  m_b (u_pf u 14 3 v0 (.int v1)) (fun w28 => some ((v0, (w28, u.2)), (0, 0)))
def uf_J3_appendNull (n : Nat) (d : UD) (u : UM) (t : Nat) : Option ((Nat × UM) × UC) :=
  m_b (u_fi d u 14 3 t) (fun b1 => m_b (u_cl u 14 t) (fun f3 => u_bc u.2 (uf_J3_ensureCapacityInternal n d u t (b1 + 4)) (fun r6 u7 => m_b (u_fi d u7 14 3 t) (fun b11 => m_b (u_fr d u7 14 0 t) (fun b13 => m_b (u_cl u7 14 t) (fun f15 => m_b (uf_J3_isLatin1 n d u7 t) (fun r18 => m_if ((r18 : Int32) = 0) (none) (m_b (u_stB d u7 b13 b11 110) (fun w20 => m_b (u_stB d (w20, u7.2) b13 (b11 + 1) 117) (fun w22 => m_b (u_stB d (w22, u7.2) b13 ((b11 + 1) + 1) 108) (fun w24 => m_b (u_stB d (w24, u7.2) b13 (((b11 + 1) + 1) + 1) 108) (fun w26 => uf_J3_appendNull_J76 n d (w26, u7.2) t ((((b11 + 1) + 1) + 1) + 1)))))))))))))
theorem uh_J3_appendNull : yJ3_appendNull.cls = RJ3 ∧ yJ3_appendNull.cls ≠ "java/lang/invoke/MethodHandle" ∧ yJ3_appendNull.cls ≠ "java/lang/invoke/VarHandle" ∧ (parseMethodDescriptor yJ3_appendNull.desc).map (fun d => d.parameters.length) = some 0 := by decide +kernel
section S_J3_appendNull
variable {p : Program} {l : Launch} {e : Env} {R : Room} {s : State} {m : MethodId} {args : Array Value} {below : List Frame} {meth : Method} {c : Code} {Q : State → Prop} {D : va_G} {A : Nat → Prop} {d : UD}
theorem uw_J3_appendNull (X : u_X RJ3 D A d p s m c cJ3_appendNull 3 args) (hA : ∀ q, s.heap.size ≤ q → A q) (hR : 4 ≤ R.frames ∧ 110 ≤ R.locals) (n : Nat) (u : UM) (t : Nat) (r0 : Nat) (ur : UM) (C : UC) (h : uf_J3_appendNull n d u t = some ((r0, ur), C)) (hret : ∀ (H : Heap) (locs : List Loc) (ls : Array Slot) (pc cells slots : Nat), decode cJ3_appendNull pc = .ok (.areturn, 1) → u_left R cells slots (u_add (0, 0) (0, 0)) → u_I D A s.heap ur H locs cells → W p l e R s m args below meth c H locs cells slots Q (F0 m pc ls [.ref r0])) : ∀ (H : Heap) (locs : List Loc) (ls : Array Slot) (cells slots : Nat), u_left R cells slots (u_add C (0, 0)) → u_I D A s.heap u H locs cells → lv_has ls 3 [(0, .ref t)] → W p l e R s m args below meth c H locs cells slots Q (F0 m 0 ls []) := by
  have k76 : ∀ (u : UM) (v0 : Nat) (v1 : Int32) (H : Heap) (locs : List Loc) (ls : Array Slot) (cells slots : Nat) (C : UC), uf_J3_appendNull_J76 n d u v0 v1 = some ((r0, ur), C) → u_left R cells slots (u_add C (0, 0)) → u_I D A s.heap u H locs cells → lv_has ls 3 [(0, .ref v0), (1, .int v1)] → W p l e R s m args below meth c H locs cells slots Q (F0 m 76 ls []) := by
    intro u v0 v1 H locs ls cells slots C h hC I hl
    unfold uf_J3_appendNull_J76 at h
    refine lv_aload_n X.1 X.2.1 dJ3_appendNull_76 rfl (lv_at hl 0 rfl) ?_
    refine lv_iload_n X.1 X.2.1 dJ3_appendNull_77 rfl (lv_at hl 1 rfl) ?_
    obtain ⟨w28, e29, h⟩ := m_bS h
    refine u_P X I e29 (C := RJ4) (T := TJ4) (N := 4) (ref := "java/lang/AbstractStringBuilder") in_J4 tyJ4 tyJ4_ok nmJ4 rfl (by decide) rfl rfl q354 (fun _ h => h) rfl rfl rfl dJ3_appendNull_78 (fun H locs I => ?_)
    refine lv_aload_n X.1 X.2.1 dJ3_appendNull_81 rfl (lv_at hl 0 rfl) ?_
    obtain ⟨he, rfl⟩ := m_e3 h
    obtain ⟨rfl, rfl⟩ := m_e4 he
    exact hret H locs ls 82 _ _ dJ3_appendNull_82 hC I
  intro H locs ls cells slots hC I hl
  unfold uf_J3_appendNull at h
  refine lv_aload_n X.1 X.2.1 dJ3_appendNull_0 rfl (lv_at hl 0 rfl) ?_
  refine lv_aload_n X.1 X.2.1 dJ3_appendNull_1 rfl (lv_at hl 0 rfl) ?_
  obtain ⟨b1, e2, h⟩ := m_bS h
  refine u_Gi X I e2 (C := RJ4) (T := TJ4) (N := 4) (ref := "java/lang/AbstractStringBuilder") in_J4 rfl (by decide) rfl rfl q354 (fun _ h => h) dJ3_appendNull_2 ?_
  refine lv_iconst (v := 4) X.1 X.2.1 dJ3_appendNull_5 (by decide) ?_
  refine lv_iadd X.1 X.2.1 dJ3_appendNull_6 ?_
  obtain ⟨f3, e4, h⟩ := m_bS h
  obtain ⟨r6, u7, C8, C9, e5, z10, h, hq⟩ := u_bcS h
  rw [hq] at hC
  refine u_callB X hl.1 I hA (As := [.int (b1 + 4)]) (rest := []) (uk_J3_ensureCapacityInternal l n D d u t (b1 + 4) _ _ e5) z10 (u_clS e4) (T := TJ4) (N := 4) rfl 1 0 rfl q371 q373 q109 q374 uh_J3_ensureCapacityInternal.2 rfl rfl ⟨Nat.le_trans (Nat.le_of_ble_eq_true rfl) hR.1, Nat.le_trans (Nat.le_of_ble_eq_true rfl) hR.2⟩ hC (stk := []) rfl (Nat.le_of_ble_eq_true rfl) dJ3_appendNull_7 (fun H locs cells slots hC I => ?_)
  refine lv_aload_n X.1 X.2.1 dJ3_appendNull_10 rfl (lv_at hl 0 rfl) ?_
  obtain ⟨b11, e12, h⟩ := m_bS h
  refine u_Gi X I e12 (C := RJ4) (T := TJ4) (N := 4) (ref := "java/lang/AbstractStringBuilder") in_J4 rfl (by decide) rfl rfl q354 (fun _ h => h) dJ3_appendNull_11 ?_
  refine lv_istore_n (lv' := [(1, .int b11), (0, .ref t)]) X.1 X.2.1 dJ3_appendNull_14 rfl hl (by decide) rfl (fun ls hl => ?_)
  refine lv_aload_n X.1 X.2.1 dJ3_appendNull_15 rfl (lv_at hl 1 rfl) ?_
  obtain ⟨b13, e14, h⟩ := m_bS h
  refine u_Gr X I e14 (C := RJ4) (T := TJ4) (N := 4) (ref := "java/lang/AbstractStringBuilder") in_J4 rfl (by decide) rfl rfl q351 (fun _ h => h) dJ3_appendNull_16 ?_
  refine lv_astore_n (lv' := [(2, .ref b13), (1, .int b11), (0, .ref t)]) X.1 X.2.1 dJ3_appendNull_19 rfl hl (by decide) rfl (fun ls hl => ?_)
  refine lv_aload_n X.1 X.2.1 dJ3_appendNull_20 rfl (lv_at hl 2 rfl) ?_
  obtain ⟨f15, e16, h⟩ := m_bS h
  obtain ⟨r18, e17, h⟩ := m_bS h
  refine u_callUp X hl.1 I hA (As := []) (rest := []) (uk_J3_isLatin1 l n D d u7 t _ e17) (u_clS e16) (C := RJ4) (T := TJ4) (N := 4) rfl 0 q406 q408 q409 q407 q109 q410 rfl uh_J3_isLatin1.2 rfl rfl ⟨Nat.le_trans (Nat.le_of_ble_eq_true rfl) hR.1, Nat.le_trans (Nat.le_of_ble_eq_true rfl) hR.2⟩ (u_leftLe hC) (stk := [.int r18]) rfl (Nat.le_of_ble_eq_true rfl) dJ3_appendNull_21 (fun H locs I => ?_)
  refine lv_if_eq (tgt := 62) X.1 X.2.1 dJ3_appendNull_24 (by decide) (fun c19 => ?_) (fun c19 => ?_)
  · replace h := m_ifT c19 h
    refine lv_aload_n X.1 X.2.1 dJ3_appendNull_62 rfl (lv_at hl 0 rfl) ?_
    refine lv_iload_n X.1 X.2.1 dJ3_appendNull_63 rfl (lv_at hl 1 rfl) ?_
    refine lv_bipush (v := 110) X.1 X.2.1 dJ3_appendNull_64 (by decide) ?_
    refine lv_bipush (v := 117) X.1 X.2.1 dJ3_appendNull_66 (by decide) ?_
    refine lv_bipush (v := 108) X.1 X.2.1 dJ3_appendNull_68 (by decide) ?_
    refine lv_bipush (v := 108) X.1 X.2.1 dJ3_appendNull_70 (by decide) ?_
    cases h
  · replace h := m_ifF c19 h
    refine lv_aload_n X.1 X.2.1 dJ3_appendNull_27 rfl (lv_at hl 0 rfl) ?_
    refine lv_iload_n X.1 X.2.1 dJ3_appendNull_28 rfl (lv_at hl 1 rfl) ?_
    refine lv_iinc (v := b11 + 1) (lv' := [(1, .int (b11 + 1)), (2, .ref b13), (0, .ref t)]) X.1 X.2.1 dJ3_appendNull_29 hl (k := 1) rfl rfl (by decide) rfl (fun ls hl => ?_)
    refine lv_bipush (v := 110) X.1 X.2.1 dJ3_appendNull_32 (by decide) ?_
    obtain ⟨w20, e21, h⟩ := m_bS h
    refine u_SB X I e21 dJ3_appendNull_34 (fun H locs I => ?_)
    refine lv_aload_n X.1 X.2.1 dJ3_appendNull_35 rfl (lv_at hl 1 rfl) ?_
    refine lv_iload_n X.1 X.2.1 dJ3_appendNull_36 rfl (lv_at hl 0 rfl) ?_
    refine lv_iinc (v := (b11 + 1) + 1) (lv' := [(1, .int ((b11 + 1) + 1)), (2, .ref b13), (0, .ref t)]) X.1 X.2.1 dJ3_appendNull_37 hl (k := 0) rfl rfl (by decide) rfl (fun ls hl => ?_)
    refine lv_bipush (v := 117) X.1 X.2.1 dJ3_appendNull_40 (by decide) ?_
    obtain ⟨w22, e23, h⟩ := m_bS h
    refine u_SB X I e23 dJ3_appendNull_42 (fun H locs I => ?_)
    refine lv_aload_n X.1 X.2.1 dJ3_appendNull_43 rfl (lv_at hl 1 rfl) ?_
    refine lv_iload_n X.1 X.2.1 dJ3_appendNull_44 rfl (lv_at hl 0 rfl) ?_
    refine lv_iinc (v := ((b11 + 1) + 1) + 1) (lv' := [(1, .int (((b11 + 1) + 1) + 1)), (2, .ref b13), (0, .ref t)]) X.1 X.2.1 dJ3_appendNull_45 hl (k := 0) rfl rfl (by decide) rfl (fun ls hl => ?_)
    refine lv_bipush (v := 108) X.1 X.2.1 dJ3_appendNull_48 (by decide) ?_
    obtain ⟨w24, e25, h⟩ := m_bS h
    refine u_SB X I e25 dJ3_appendNull_50 (fun H locs I => ?_)
    refine lv_aload_n X.1 X.2.1 dJ3_appendNull_51 rfl (lv_at hl 1 rfl) ?_
    refine lv_iload_n X.1 X.2.1 dJ3_appendNull_52 rfl (lv_at hl 0 rfl) ?_
    refine lv_iinc (v := (((b11 + 1) + 1) + 1) + 1) (lv' := [(1, .int ((((b11 + 1) + 1) + 1) + 1)), (2, .ref b13), (0, .ref t)]) X.1 X.2.1 dJ3_appendNull_53 hl (k := 0) rfl rfl (by decide) rfl (fun ls hl => ?_)
    refine lv_bipush (v := 108) X.1 X.2.1 dJ3_appendNull_56 (by decide) ?_
    obtain ⟨w26, e27, h⟩ := m_bS h
    refine u_SB X I e27 dJ3_appendNull_58 (fun H locs I => ?_)
    refine lv_goto (tgt := 76) X.1 X.2.1 dJ3_appendNull_59 (by decide) ?_
    exact k76 (w26, u7.2) t ((((b11 + 1) + 1) + 1) + 1) H locs ls _ _ _ h hC I (lv_sub hl [2, 0] rfl)
end S_J3_appendNull
theorem uk_J3_appendNull (l : Launch) (n : Nat) (D : va_G) (d : UD) (u : UM) (t : Nat) (r0 : Nat) (ur : UM) (C : UC) (h : uf_J3_appendNull n d u t = some ((r0, ur), C)) : u_M l yJ3_appendNull (ws_ yJ3_appendNull cJ3_appendNull 3 (some (.object "java/lang/AbstractStringBuilder"))) 4 110 C D d u [.ref t] (some (.ref r0)) ur :=
  u_start (own := RJ3) (lvl := [(0, .ref t)]) (by decide) rfl (Nat.le_of_ble_eq_true rfl) rfl (fun p e s m args below meth c ls X hr hlk hI hl hA I hC => uw_J3_appendNull X hA ⟨Nat.le_refl _, Nat.le_refl _⟩ n u t r0 ur C h (fun H locs ls pc cells slots hd hC I => u_aret (r := some r0) X I hr (Or.inl ⟨_, rfl⟩) hlk (u_leftE hC) hd) _ _ ls _ _ hC I hl)

/-! java/lang/AbstractStringBuilder.putStringAt(ILjava/lang/String;)V -/
def uf_J3_putStringAt (n : Nat) (d : UD) (u : UM) (t : Nat) (p0 : Int32) (p1 : Nat) : Option ((Unit × UM) × UC) :=
  m_b (u_cl u 14 t) (fun f1 => u_bc u.2 (uf_J3_inflateIfNeededFor n d u t p1) (fun r4 u5 => m_b (u_fr d u5 14 0 t) (fun b9 => m_b (u_fi d u5 14 1 t) (fun b11 => m_b (u_tx d u5 p1) (fun f13 => u_bc u5.2 (uf_J5_getBytes n d u5 p1 b9 p0 b11) (fun r16 u17 => some (((), u17), (0, 0))))))))
theorem uh_J3_putStringAt : yJ3_putStringAt.cls = RJ3 ∧ yJ3_putStringAt.cls ≠ "java/lang/invoke/MethodHandle" ∧ yJ3_putStringAt.cls ≠ "java/lang/invoke/VarHandle" ∧ (parseMethodDescriptor yJ3_putStringAt.desc).map (fun d => d.parameters.length) = some 2 := by decide +kernel
section S_J3_putStringAt
variable {p : Program} {l : Launch} {e : Env} {R : Room} {s : State} {m : MethodId} {args : Array Value} {below : List Frame} {meth : Method} {c : Code} {Q : State → Prop} {D : va_G} {A : Nat → Prop} {d : UD}
theorem uw_J3_putStringAt (X : u_X RJ3 D A d p s m c cJ3_putStringAt 3 args) (hA : ∀ q, s.heap.size ≤ q → A q) (hR : 3 ≤ R.frames ∧ 83 ≤ R.locals) (n : Nat) (u : UM) (t : Nat) (p0 : Int32) (p1 : Nat) (r0 : Unit) (ur : UM) (C : UC) (h : uf_J3_putStringAt n d u t p0 p1 = some ((r0, ur), C)) (hret : ∀ (H : Heap) (locs : List Loc) (ls : Array Slot) (pc cells slots : Nat), decode cJ3_putStringAt pc = .ok (.return_, 1) → u_left R cells slots (u_add (0, 0) (0, 0)) → u_I D A s.heap ur H locs cells → W p l e R s m args below meth c H locs cells slots Q (F0 m pc ls [])) : ∀ (H : Heap) (locs : List Loc) (ls : Array Slot) (cells slots : Nat), u_left R cells slots (u_add C (0, 0)) → u_I D A s.heap u H locs cells → lv_has ls 3 [(0, .ref t), (1, .int p0), (2, .ref p1)] → W p l e R s m args below meth c H locs cells slots Q (F0 m 0 ls []) := by
  intro H locs ls cells slots hC I hl
  unfold uf_J3_putStringAt at h
  refine lv_aload_n X.1 X.2.1 dJ3_putStringAt_0 rfl (lv_at hl 0 rfl) ?_
  refine lv_aload_n X.1 X.2.1 dJ3_putStringAt_1 rfl (lv_at hl 2 rfl) ?_
  obtain ⟨f1, e2, h⟩ := m_bS h
  obtain ⟨r4, u5, C6, C7, e3, z8, h, hq⟩ := u_bcS h
  rw [hq] at hC
  refine u_callB X hl.1 I hA (As := [.ref p1]) (rest := []) (uk_J3_inflateIfNeededFor l n D d u t p1 _ _ e3) z8 (u_clS e2) (T := TJ4) (N := 4) rfl 1 5 rfl q1418 q1420 q109 q1421 uh_J3_inflateIfNeededFor.2 rfl rfl ⟨Nat.le_trans (Nat.le_of_ble_eq_true rfl) hR.1, Nat.le_trans (Nat.le_of_ble_eq_true rfl) hR.2⟩ hC (stk := []) rfl (Nat.le_of_ble_eq_true rfl) dJ3_putStringAt_2 (fun H locs cells slots hC I => ?_)
  refine lv_aload_n X.1 X.2.1 dJ3_putStringAt_5 rfl (lv_at hl 2 rfl) ?_
  refine lv_aload_n X.1 X.2.1 dJ3_putStringAt_6 rfl (lv_at hl 0 rfl) ?_
  obtain ⟨b9, e10, h⟩ := m_bS h
  refine u_Gr X I e10 (C := RJ4) (T := TJ4) (N := 4) (ref := "java/lang/AbstractStringBuilder") in_J4 rfl (by decide) rfl rfl q351 (fun _ h => h) dJ3_putStringAt_7 ?_
  refine lv_iload_n X.1 X.2.1 dJ3_putStringAt_10 rfl (lv_at hl 1 rfl) ?_
  refine lv_aload_n X.1 X.2.1 dJ3_putStringAt_11 rfl (lv_at hl 0 rfl) ?_
  obtain ⟨b11, e12, h⟩ := m_bS h
  refine u_Gi X I e12 (C := RJ4) (T := TJ4) (N := 4) (ref := "java/lang/AbstractStringBuilder") in_J4 rfl (by decide) rfl rfl q352 (fun _ h => h) dJ3_putStringAt_12 ?_
  obtain ⟨f13, e14, h⟩ := m_bS h
  obtain ⟨r16, u17, C18, C19, e15, z20, h, hq⟩ := u_bcS h
  rw [hq] at hC
  refine u_callVT X hl.1 I hA (As := [.ref b9, .int p0, .int b11]) (rest := []) (uk_J5_getBytes l n D d u5 p1 b9 p0 b11 _ _ e15) z20 (u_txS e14) 3 q1423 q1424 q1425 q111 q1426 uh_J5_getBytes rfl rfl ⟨Nat.le_trans (Nat.le_of_ble_eq_true rfl) hR.1, Nat.le_trans (Nat.le_of_ble_eq_true rfl) hR.2⟩ hC (stk := []) rfl (Nat.le_of_ble_eq_true rfl) dJ3_putStringAt_15 (fun H locs cells slots hC I => ?_)
  obtain ⟨he, rfl⟩ := m_e3 h
  obtain ⟨rfl, rfl⟩ := m_e4 he
  exact hret H locs ls 18 _ _ dJ3_putStringAt_18 hC I
end S_J3_putStringAt
theorem uk_J3_putStringAt (l : Launch) (n : Nat) (D : va_G) (d : UD) (u : UM) (t : Nat) (p0 : Int32) (p1 : Nat) (ur : UM) (C : UC) (h : uf_J3_putStringAt n d u t p0 p1 = some (((), ur), C)) : u_M l yJ3_putStringAt (ws_ yJ3_putStringAt cJ3_putStringAt 3 none) 3 83 C D d u [.ref t, .int p0, .ref p1] none ur :=
  u_start (own := RJ3) (lvl := [(0, .ref t), (1, .int p0), (2, .ref p1)]) (by decide) rfl (Nat.le_of_ble_eq_true rfl) rfl (fun p e s m args below meth c ls X hr hlk hI hl hA I hC => uw_J3_putStringAt X hA ⟨Nat.le_refl _, Nat.le_refl _⟩ n u t p0 p1 () ur C h (fun H locs ls pc cells slots hd hC I => u_vret X I hr hlk (u_leftE hC) hd) _ _ ls _ _ hC I hl)

/-! java/lang/AbstractStringBuilder.append(I)Ljava/lang/AbstractStringBuilder; -/
def uf_J3_append_3_J48 (n : Nat) (d : UD) (u : UM) (v0 : Nat) (v3 : Int32) : Option ((Nat × UM) × UC) :=
  m_b (u_pf u 14 3 v0 (.int v3)) (fun w28 => some ((v0, (w28, u.2)), (0, 0)))
def uf_J3_append_3 (n : Nat) (d : UD) (u : UM) (t : Nat) (p0 : Int32) : Option ((Nat × UM) × UC) :=
  m_b (u_fi d u 14 3 t) (fun b1 => m_b (uf_J15_stringSize n d u p0) (fun r4 => m_b (u_cl u 14 t) (fun f5 => u_bc u.2 (uf_J3_ensureCapacityInternal n d u t (b1 + r4)) (fun r8 u9 => m_b (u_cl u9 14 t) (fun f13 => m_b (uf_J3_isLatin1 n d u9 t) (fun r16 => m_if ((r16 : Int32) = 0) (m_b (u_fr d u9 14 0 t) (fun b18 => none)) (m_b (u_fr d u9 14 0 t) (fun b20 => u_bc u9.2 (uf_J15_getChars n d u9 p0 (b1 + r4) b20) (fun r23 u24 => uf_J3_append_3_J48 n d u24 t (b1 + r4))))))))))
theorem uh_J3_append_3 : yJ3_append_3.cls = RJ3 ∧ yJ3_append_3.cls ≠ "java/lang/invoke/MethodHandle" ∧ yJ3_append_3.cls ≠ "java/lang/invoke/VarHandle" ∧ (parseMethodDescriptor yJ3_append_3.desc).map (fun d => d.parameters.length) = some 1 := by decide +kernel
section S_J3_append_3
variable {p : Program} {l : Launch} {e : Env} {R : Room} {s : State} {m : MethodId} {args : Array Value} {below : List Frame} {meth : Method} {c : Code} {Q : State → Prop} {D : va_G} {A : Nat → Prop} {d : UD}
theorem uw_J3_append_3 (X : u_X RJ3 D A d p s m c cJ3_append_3 4 args) (hA : ∀ q, s.heap.size ≤ q → A q) (hR : 4 ≤ R.frames ∧ 110 ≤ R.locals) (n : Nat) (u : UM) (t : Nat) (p0 : Int32) (r0 : Nat) (ur : UM) (C : UC) (h : uf_J3_append_3 n d u t p0 = some ((r0, ur), C)) (hret : ∀ (H : Heap) (locs : List Loc) (ls : Array Slot) (pc cells slots : Nat), decode cJ3_append_3 pc = .ok (.areturn, 1) → u_left R cells slots (u_add (0, 0) (0, 0)) → u_I D A s.heap ur H locs cells → W p l e R s m args below meth c H locs cells slots Q (F0 m pc ls [.ref r0])) : ∀ (H : Heap) (locs : List Loc) (ls : Array Slot) (cells slots : Nat), u_left R cells slots (u_add C (0, 0)) → u_I D A s.heap u H locs cells → lv_has ls 4 [(0, .ref t), (1, .int p0)] → W p l e R s m args below meth c H locs cells slots Q (F0 m 0 ls []) := by
  have k48 : ∀ (u : UM) (v0 : Nat) (v3 : Int32) (H : Heap) (locs : List Loc) (ls : Array Slot) (cells slots : Nat) (C : UC), uf_J3_append_3_J48 n d u v0 v3 = some ((r0, ur), C) → u_left R cells slots (u_add C (0, 0)) → u_I D A s.heap u H locs cells → lv_has ls 4 [(0, .ref v0), (3, .int v3)] → W p l e R s m args below meth c H locs cells slots Q (F0 m 48 ls []) := by
    intro u v0 v3 H locs ls cells slots C h hC I hl
    unfold uf_J3_append_3_J48 at h
    refine lv_aload_n X.1 X.2.1 dJ3_append_3_48 rfl (lv_at hl 0 rfl) ?_
    refine lv_iload_n X.1 X.2.1 dJ3_append_3_49 rfl (lv_at hl 1 rfl) ?_
    obtain ⟨w28, e29, h⟩ := m_bS h
    refine u_P X I e29 (C := RJ4) (T := TJ4) (N := 4) (ref := "java/lang/AbstractStringBuilder") in_J4 tyJ4 tyJ4_ok nmJ4 rfl (by decide) rfl rfl q354 (fun _ h => h) rfl rfl rfl dJ3_append_3_50 (fun H locs I => ?_)
    refine lv_aload_n X.1 X.2.1 dJ3_append_3_53 rfl (lv_at hl 0 rfl) ?_
    obtain ⟨he, rfl⟩ := m_e3 h
    obtain ⟨rfl, rfl⟩ := m_e4 he
    exact hret H locs ls 54 _ _ dJ3_append_3_54 hC I
  intro H locs ls cells slots hC I hl
  unfold uf_J3_append_3 at h
  refine lv_aload_n X.1 X.2.1 dJ3_append_3_0 rfl (lv_at hl 0 rfl) ?_
  obtain ⟨b1, e2, h⟩ := m_bS h
  refine u_Gi X I e2 (C := RJ4) (T := TJ4) (N := 4) (ref := "java/lang/AbstractStringBuilder") in_J4 rfl (by decide) rfl rfl q354 (fun _ h => h) dJ3_append_3_1 ?_
  refine lv_istore_n (lv' := [(2, .int b1), (0, .ref t), (1, .int p0)]) X.1 X.2.1 dJ3_append_3_4 rfl hl (by decide) rfl (fun ls hl => ?_)
  refine lv_iload_n X.1 X.2.1 dJ3_append_3_5 rfl (lv_at hl 0 rfl) ?_
  refine lv_iload_n X.1 X.2.1 dJ3_append_3_6 rfl (lv_at hl 2 rfl) ?_
  obtain ⟨r4, e3, h⟩ := m_bS h
  refine u_callSp X hl.1 I hA (As := [.int p0]) (rest := [.int b1]) (uk_J15_stringSize l n D d u p0 _ e3) 1 q1438 q1439 q131 q1440 uh_J15_stringSize.2 rfl rfl ⟨Nat.le_trans (Nat.le_of_ble_eq_true rfl) hR.1, Nat.le_trans (Nat.le_of_ble_eq_true rfl) hR.2⟩ (u_leftLe hC) (stk := [.int r4, .int b1]) rfl (Nat.le_of_ble_eq_true rfl) dJ3_append_3_7 (fun H locs I => ?_)
  refine lv_iadd X.1 X.2.1 dJ3_append_3_10 ?_
  refine lv_istore_n (lv' := [(3, .int (b1 + r4)), (2, .int b1), (0, .ref t), (1, .int p0)]) X.1 X.2.1 dJ3_append_3_11 rfl hl (by decide) rfl (fun ls hl => ?_)
  refine lv_aload_n X.1 X.2.1 dJ3_append_3_12 rfl (lv_at hl 2 rfl) ?_
  refine lv_iload_n X.1 X.2.1 dJ3_append_3_13 rfl (lv_at hl 0 rfl) ?_
  obtain ⟨f5, e6, h⟩ := m_bS h
  obtain ⟨r8, u9, C10, C11, e7, z12, h, hq⟩ := u_bcS h
  rw [hq] at hC
  refine u_callB X hl.1 I hA (As := [.int (b1 + r4)]) (rest := []) (uk_J3_ensureCapacityInternal l n D d u t (b1 + r4) _ _ e7) z12 (u_clS e6) (T := TJ4) (N := 4) rfl 1 0 rfl q371 q373 q109 q374 uh_J3_ensureCapacityInternal.2 rfl rfl ⟨Nat.le_trans (Nat.le_of_ble_eq_true rfl) hR.1, Nat.le_trans (Nat.le_of_ble_eq_true rfl) hR.2⟩ hC (stk := []) rfl (Nat.le_of_ble_eq_true rfl) dJ3_append_3_14 (fun H locs cells slots hC I => ?_)
  refine lv_aload_n X.1 X.2.1 dJ3_append_3_17 rfl (lv_at hl 2 rfl) ?_
  obtain ⟨f13, e14, h⟩ := m_bS h
  obtain ⟨r16, e15, h⟩ := m_bS h
  refine u_callUp X hl.1 I hA (As := []) (rest := []) (uk_J3_isLatin1 l n D d u9 t _ e15) (u_clS e14) (C := RJ4) (T := TJ4) (N := 4) rfl 0 q406 q408 q409 q407 q109 q410 rfl uh_J3_isLatin1.2 rfl rfl ⟨Nat.le_trans (Nat.le_of_ble_eq_true rfl) hR.1, Nat.le_trans (Nat.le_of_ble_eq_true rfl) hR.2⟩ (u_leftLe hC) (stk := [.int r16]) rfl (Nat.le_of_ble_eq_true rfl) dJ3_append_3_18 (fun H locs I => ?_)
  refine lv_if_eq (tgt := 37) X.1 X.2.1 dJ3_append_3_21 (by decide) (fun c17 => ?_) (fun c17 => ?_)
  · replace h := m_ifT c17 h
    refine lv_iload_n X.1 X.2.1 dJ3_append_3_37 rfl (lv_at hl 3 rfl) ?_
    refine lv_iload_n X.1 X.2.1 dJ3_append_3_38 rfl (lv_at hl 1 rfl) ?_
    refine lv_iload_n X.1 X.2.1 dJ3_append_3_39 rfl (lv_at hl 0 rfl) ?_
    refine lv_aload_n X.1 X.2.1 dJ3_append_3_40 rfl (lv_at hl 2 rfl) ?_
    obtain ⟨b18, e19, h⟩ := m_bS h
    refine u_Gr X I e19 (C := RJ4) (T := TJ4) (N := 4) (ref := "java/lang/AbstractStringBuilder") in_J4 rfl (by decide) rfl rfl q351 (fun _ h => h) dJ3_append_3_41 ?_
    cases h
  · replace h := m_ifF c17 h
    refine lv_iload_n X.1 X.2.1 dJ3_append_3_24 rfl (lv_at hl 3 rfl) ?_
    refine lv_iload_n X.1 X.2.1 dJ3_append_3_25 rfl (lv_at hl 0 rfl) ?_
    refine lv_aload_n X.1 X.2.1 dJ3_append_3_26 rfl (lv_at hl 2 rfl) ?_
    obtain ⟨b20, e21, h⟩ := m_bS h
    refine u_Gr X I e21 (C := RJ4) (T := TJ4) (N := 4) (ref := "java/lang/AbstractStringBuilder") in_J4 rfl (by decide) rfl rfl q351 (fun _ h => h) dJ3_append_3_27 ?_
    obtain ⟨r23, u24, C25, C26, e22, z27, h, hq⟩ := u_bcS h
    rw [hq] at hC
    refine u_callS X hl.1 I hA (As := [.int p0, .int (b1 + r4), .ref b20]) (rest := []) (uk_J15_getChars l n D d u9 p0 (b1 + r4) b20 _ _ _ e22) z27 3 q1441 q1442 q131 q1443 uh_J15_getChars.2 rfl rfl ⟨Nat.le_trans (Nat.le_of_ble_eq_true rfl) hR.1, Nat.le_trans (Nat.le_of_ble_eq_true rfl) hR.2⟩ hC (stk := [.int r23]) rfl (Nat.le_of_ble_eq_true rfl) dJ3_append_3_30 (fun H locs cells slots hC I => ?_)
    refine lv_pop X.1 X.2.1 dJ3_append_3_33 rfl ?_
    refine lv_goto (tgt := 48) X.1 X.2.1 dJ3_append_3_34 (by decide) ?_
    exact k48 u24 t (b1 + r4) H locs ls _ _ _ h hC I (lv_sub hl [2, 0] rfl)
end S_J3_append_3
theorem uk_J3_append_3 (l : Launch) (n : Nat) (D : va_G) (d : UD) (u : UM) (t : Nat) (p0 : Int32) (r0 : Nat) (ur : UM) (C : UC) (h : uf_J3_append_3 n d u t p0 = some ((r0, ur), C)) : u_M l yJ3_append_3 (ws_ yJ3_append_3 cJ3_append_3 4 (some (.object "java/lang/AbstractStringBuilder"))) 4 110 C D d u [.ref t, .int p0] (some (.ref r0)) ur :=
  u_start (own := RJ3) (lvl := [(0, .ref t), (1, .int p0)]) (by decide) rfl (Nat.le_of_ble_eq_true rfl) rfl (fun p e s m args below meth c ls X hr hlk hI hl hA I hC => uw_J3_append_3 X hA ⟨Nat.le_refl _, Nat.le_refl _⟩ n u t p0 r0 ur C h (fun H locs ls pc cells slots hd hC I => u_aret (r := some r0) X I hr (Or.inl ⟨_, rfl⟩) hlk (u_leftE hC) hd) _ _ ls _ _ hC I hl)

/-! java/lang/AbstractStringBuilder.charAt(I)C -/
def uf_J3_charAt (n : Nat) (d : UD) (u : UM) (t : Nat) (p0 : Int32) : Option Int32 :=
  m_b (u_fi d u 14 1 t) (fun b1 => m_b (u_fr d u 14 0 t) (fun b3 => m_b (u_fi d u 14 3 t) (fun b5 => m_b (u_lnI d u 2 b3) (fun b7 => m_b (some (if (b7 >>> (b1 &&& 31) : Int32) < (b5 : Int32) then (b7 >>> (b1 &&& 31) : Int32) else (b5 : Int32))) (fun y9 => m_b (uf_J5_checkIndex n d u p0 y9) (fun r12 => m_if ((b1 : Int32) = 0) (m_b (u_ai d u 2 b3 p0) (fun b14 => m_g (u_ch (((b14 &&& 255 : Int32).toUInt32 % 65536).toInt32)) (some (((b14 &&& 255 : Int32).toUInt32 % 65536).toInt32)))) (none)))))))
theorem uh_J3_charAt : yJ3_charAt.cls = RJ3 ∧ yJ3_charAt.cls ≠ "java/lang/invoke/MethodHandle" ∧ yJ3_charAt.cls ≠ "java/lang/invoke/VarHandle" ∧ (parseMethodDescriptor yJ3_charAt.desc).map (fun d => d.parameters.length) = some 1 := by decide +kernel
section S_J3_charAt
variable {p : Program} {l : Launch} {e : Env} {R : Room} {s : State} {m : MethodId} {args : Array Value} {below : List Frame} {meth : Method} {c : Code} {Q : State → Prop} {D : va_G} {A : Nat → Prop} {d : UD} {cells slots : Nat}
theorem uw_J3_charAt (X : u_X RJ3 D A d p s m c cJ3_charAt 5 args) (hA : ∀ q, s.heap.size ≤ q → A q) (hR : 2 ≤ R.frames ∧ 43 ≤ R.locals) (hf : cells ≤ R.cells ∧ slots ≤ R.slots) (n : Nat) (u : UM) (t : Nat) (p0 : Int32) (r : Int32) (h : uf_J3_charAt n d u t p0 = some r) (hret : ∀ (H : Heap) (locs : List Loc) (ls : Array Slot) (pc : Nat), u_ch r = true → decode cJ3_charAt pc = .ok (.ireturn, 1) → u_I D A s.heap u H locs cells → W p l e R s m args below meth c H locs cells slots Q (F0 m pc ls [.int r])) : ∀ (H : Heap) (locs : List Loc) (ls : Array Slot), u_I D A s.heap u H locs cells → lv_has ls 5 [(0, .ref t), (1, .int p0)] → W p l e R s m args below meth c H locs cells slots Q (F0 m 0 ls []) := by
  intro H locs ls I hl
  unfold uf_J3_charAt at h
  refine lv_aload_n X.1 X.2.1 dJ3_charAt_0 rfl (lv_at hl 0 rfl) ?_
  obtain ⟨b1, e2, h⟩ := m_bS h
  refine u_Gi X I e2 (C := RJ4) (T := TJ4) (N := 4) (ref := "java/lang/AbstractStringBuilder") in_J4 rfl (by decide) rfl rfl q352 (fun _ h => h) dJ3_charAt_1 ?_
  refine lv_istore_n (lv' := [(2, .int b1), (0, .ref t), (1, .int p0)]) X.1 X.2.1 dJ3_charAt_4 rfl hl (by decide) rfl (fun ls hl => ?_)
  refine lv_aload_n X.1 X.2.1 dJ3_charAt_5 rfl (lv_at hl 1 rfl) ?_
  obtain ⟨b3, e4, h⟩ := m_bS h
  refine u_Gr X I e4 (C := RJ4) (T := TJ4) (N := 4) (ref := "java/lang/AbstractStringBuilder") in_J4 rfl (by decide) rfl rfl q351 (fun _ h => h) dJ3_charAt_6 ?_
  refine lv_astore_n (lv' := [(3, .ref b3), (2, .int b1), (0, .ref t), (1, .int p0)]) X.1 X.2.1 dJ3_charAt_9 rfl hl (by decide) rfl (fun ls hl => ?_)
  refine lv_aload_n X.1 X.2.1 dJ3_charAt_10 rfl (lv_at hl 2 rfl) ?_
  obtain ⟨b5, e6, h⟩ := m_bS h
  refine u_Gi X I e6 (C := RJ4) (T := TJ4) (N := 4) (ref := "java/lang/AbstractStringBuilder") in_J4 rfl (by decide) rfl rfl q354 (fun _ h => h) dJ3_charAt_11 ?_
  refine lv_aload_n X.1 X.2.1 dJ3_charAt_14 rfl (lv_at hl 0 rfl) ?_
  obtain ⟨b7, e8, h⟩ := m_bS h
  refine u_LN X I (by decide) e8 dJ3_charAt_15 ?_
  refine lv_iload_n X.1 X.2.1 dJ3_charAt_16 rfl (lv_at hl 1 rfl) ?_
  refine lv_ishr X.1 X.2.1 dJ3_charAt_17 ?_
  refine va_mmin X.1 X.2.1 (X.2.2.2.2.2.1.trans hl.1.symm) X.2.2.2.1 (X.2.2.1 _ q1494) (X.2.2.1 _ q401) (X.2.2.1 _ q114) (X.2.2.1 _ q402) (Nat.le_trans (Nat.le_of_ble_eq_true rfl) hR.1) (Nat.le_trans (Nat.le_of_ble_eq_true rfl) hR.2) hf.1 hf.2 dJ3_charAt_18 ?_
  obtain ⟨y9, e10, h⟩ := m_bS h
  rw [m_e1 e10]
  refine lv_istore (lv' := [(4, .int y9), (3, .ref b3), (2, .int b1), (0, .ref t), (1, .int p0)]) X.1 X.2.1 dJ3_charAt_21 hl (by decide) rfl (fun ls hl => ?_)
  refine lv_iload_n X.1 X.2.1 dJ3_charAt_23 rfl (lv_at hl 4 rfl) ?_
  refine lv_iload X.1 X.2.1 dJ3_charAt_24 (lv_at hl 0 rfl) ?_
  obtain ⟨r12, e11, h⟩ := m_bS h
  refine u_callSp X hl.1 I hA (As := [.int p0, .int y9]) (rest := []) (uk_J5_checkIndex l n D d u p0 y9 _ e11) 2 q1495 q454 q111 q455 uh_J5_checkIndex.2 rfl rfl ⟨Nat.le_trans (Nat.le_of_ble_eq_true rfl) hR.1, Nat.le_trans (Nat.le_of_ble_eq_true rfl) hR.2⟩ hf (stk := []) rfl (Nat.le_of_ble_eq_true rfl) dJ3_charAt_26 (fun H locs I => ?_)
  refine lv_iload_n X.1 X.2.1 dJ3_charAt_29 rfl (lv_at hl 2 rfl) ?_
  refine lv_if_ne (tgt := 42) X.1 X.2.1 dJ3_charAt_30 (by decide) (fun c13 => ?_) (fun c13 => ?_)
  · replace h := m_ifF c13 h
    refine lv_aload_n X.1 X.2.1 dJ3_charAt_42 rfl (lv_at hl 1 rfl) ?_
    refine lv_iload_n X.1 X.2.1 dJ3_charAt_43 rfl (lv_at hl 4 rfl) ?_
    cases h
  · replace h := m_ifT c13 h
    refine lv_aload_n X.1 X.2.1 dJ3_charAt_33 rfl (lv_at hl 1 rfl) ?_
    refine lv_iload_n X.1 X.2.1 dJ3_charAt_34 rfl (lv_at hl 4 rfl) ?_
    obtain ⟨b14, e15, h⟩ := m_bS h
    refine u_LB X I e15 dJ3_charAt_35 ?_
    refine lv_sipush (v := 255) X.1 X.2.1 dJ3_charAt_36 (by decide) ?_
    refine lv_iand X.1 X.2.1 dJ3_charAt_39 ?_
    refine lv_i2c X.1 X.2.1 dJ3_charAt_40 rfl ?_
    obtain ⟨g16, h⟩ := m_gS h
    obtain rfl := m_e1 h
    exact hret H locs ls 41 g16 dJ3_charAt_41 I
end S_J3_charAt
theorem uk_J3_charAt (l : Launch) (n : Nat) (D : va_G) (d : UD) (u : UM) (t : Nat) (p0 : Int32) (r : Int32) (h : uf_J3_charAt n d u t p0 = some r) : u_M l yJ3_charAt (ws_ yJ3_charAt cJ3_charAt 5 (some .char)) 2 43 (0, 0) D d u [.ref t, .int p0] (some (.int r)) u :=
  u_start (own := RJ3) (lvl := [(0, .ref t), (1, .int p0)]) (by decide) rfl (Nat.le_of_ble_eq_true rfl) rfl (fun p e s m args below meth c ls X hr hlk hI hl hA I hC => uw_J3_charAt X hA ⟨Nat.le_refl _, Nat.le_refl _⟩ ⟨Nat.zero_le _, Nat.zero_le _⟩ n u t p0 r h (fun H locs ls pc g hd I => u_cret X I hr hlk g ⟨rfl, rfl⟩ hd) _ _ ls I hl)

/-! java/lang/StringBuilder.append(I)Ljava/lang/StringBuilder; -/
def uf_J4_append_3 (n : Nat) (d : UD) (u : UM) (t : Nat) (p0 : Int32) : Option ((Nat × UM) × UC) :=
  m_b (u_cl u 14 t) (fun f1 => u_bc u.2 (uf_J3_append_3 n d u t p0) (fun r4 u5 => some ((t, u5), (0, 0))))
theorem uh_J4_append_3 : yJ4_append_3.cls = RJ4 ∧ yJ4_append_3.cls ≠ "java/lang/invoke/MethodHandle" ∧ yJ4_append_3.cls ≠ "java/lang/invoke/VarHandle" ∧ (parseMethodDescriptor yJ4_append_3.desc).map (fun d => d.parameters.length) = some 1 := by decide +kernel
section S_J4_append_3
variable {p : Program} {l : Launch} {e : Env} {R : Room} {s : State} {m : MethodId} {args : Array Value} {below : List Frame} {meth : Method} {c : Code} {Q : State → Prop} {D : va_G} {A : Nat → Prop} {d : UD}
theorem uw_J4_append_3 (X : u_X RJ4 D A d p s m c cJ4_append_3 2 args) (hA : ∀ q, s.heap.size ≤ q → A q) (hR : 5 ≤ R.frames ∧ 133 ≤ R.locals) (n : Nat) (u : UM) (t : Nat) (p0 : Int32) (r0 : Nat) (ur : UM) (C : UC) (h : uf_J4_append_3 n d u t p0 = some ((r0, ur), C)) (hret : ∀ (H : Heap) (locs : List Loc) (ls : Array Slot) (pc cells slots : Nat), decode cJ4_append_3 pc = .ok (.areturn, 1) → u_left R cells slots (u_add (0, 0) (0, 0)) → u_I D A s.heap ur H locs cells → W p l e R s m args below meth c H locs cells slots Q (F0 m pc ls [.ref r0])) : ∀ (H : Heap) (locs : List Loc) (ls : Array Slot) (cells slots : Nat), u_left R cells slots (u_add C (0, 0)) → u_I D A s.heap u H locs cells → lv_has ls 2 [(0, .ref t), (1, .int p0)] → W p l e R s m args below meth c H locs cells slots Q (F0 m 0 ls []) := by
  intro H locs ls cells slots hC I hl
  unfold uf_J4_append_3 at h
  refine lv_aload_n X.1 X.2.1 dJ4_append_3_0 rfl (lv_at hl 0 rfl) ?_
  refine lv_iload_n X.1 X.2.1 dJ4_append_3_1 rfl (lv_at hl 1 rfl) ?_
  obtain ⟨f1, e2, h⟩ := m_bS h
  obtain ⟨r4, u5, C6, C7, e3, z8, h, hq⟩ := u_bcS h
  rw [hq] at hC
  refine u_callSU X hl.1 I hA (As := [.int p0]) (rest := []) (uk_J3_append_3 l n D d u t p0 _ _ _ e3) z8 (u_clS e2) (C := RJ4) (T := TJ4) (N := 4) rfl 1 q1435 q2034 q363 q1436 q109 q1437 ⟨by decide, uh_J3_append_3.2.2.2⟩ rfl rfl ⟨Nat.le_trans (Nat.le_of_ble_eq_true rfl) hR.1, Nat.le_trans (Nat.le_of_ble_eq_true rfl) hR.2⟩ hC (stk := [.ref r4]) rfl (Nat.le_of_ble_eq_true rfl) dJ4_append_3_2 (fun H locs cells slots hC I => ?_)
  refine lv_pop X.1 X.2.1 dJ4_append_3_5 rfl ?_
  refine lv_aload_n X.1 X.2.1 dJ4_append_3_6 rfl (lv_at hl 0 rfl) ?_
  obtain ⟨he, rfl⟩ := m_e3 h
  obtain ⟨rfl, rfl⟩ := m_e4 he
  exact hret H locs ls 7 _ _ dJ4_append_3_7 hC I
end S_J4_append_3
theorem uk_J4_append_3 (l : Launch) (n : Nat) (D : va_G) (d : UD) (u : UM) (t : Nat) (p0 : Int32) (r0 : Nat) (ur : UM) (C : UC) (h : uf_J4_append_3 n d u t p0 = some ((r0, ur), C)) : u_M l yJ4_append_3 (ws_ yJ4_append_3 cJ4_append_3 2 (some (.object "java/lang/StringBuilder"))) 5 133 C D d u [.ref t, .int p0] (some (.ref r0)) ur :=
  u_start (own := RJ4) (lvl := [(0, .ref t), (1, .int p0)]) (by decide) rfl (Nat.le_of_ble_eq_true rfl) rfl (fun p e s m args below meth c ls X hr hlk hI hl hA I hC => uw_J4_append_3 X hA ⟨Nat.le_refl _, Nat.le_refl _⟩ n u t p0 r0 ur C h (fun H locs ls pc cells slots hd hC I => u_aret (r := some r0) X I hr (Or.inl ⟨_, rfl⟩) hlk (u_leftE hC) hd) _ _ ls _ _ hC I hl)
