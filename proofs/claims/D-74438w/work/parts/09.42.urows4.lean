set_option maxRecDepth 100000
/-! System.arraycopy, clone, class objects -/
def u_bf (f : Nat → Int32) (sp n : Nat) : Bool := (List.range n).all (fun i => fits .byte (.int (f (sp + i))))
theorem u_bfS {f : Nat → Int32} {sp n : Nat} (h : u_bf f sp n = true) : ∀ i, i < n → fits .byte (.int (f (sp + i))) = true := fun i hi => List.all_eq_true.mp h i (List.mem_range.mpr hi)
def u_rg (sp dp n : Int32) (n0 n1 : Nat) : Bool := decide (¬ sp < 0 ∧ ¬ dp < 0 ∧ ¬ n < 0 ∧ sp.toNatClampNeg + n.toNatClampNeg ≤ n0 ∧ dp.toNatClampNeg + n.toNatClampNeg ≤ n1)
/-- an array of bytes, of the world or a constant -/
def u_arB (d : UD) (u : UM) (a : Nat) : Option (Nat × (Nat → Int32)) := match u_rd d u a with
  | some (.inl (c, n, .inl f)) => if c = d.1 2 then some (n, f) else none
  | _ => none
theorem u_arBS {d : UD} {u : UM} {a n : Nat} {f : Nat → Int32} (h : u_arB d u a = some (n, f)) : u_rd d u a = some (.inl (d.1 2, n, .inl f)) := by
  unfold u_arB at h
  split at h
  · rename_i c n f he
    split at h
    · rename_i hc
      cases h
      rw [← hc]; exact he
    · cases h
  · cases h
def u_xcB (d : UD) (u : UM) (a0 : Nat) (sp : Int32) (a1 : Nat) (dp n : Int32) : Option va_W := m_b (u_arB d u a0) (fun q0 => m_b (u_arI d u 2 a1) (fun q1 => m_g (u_rg sp dp n q0.1 q1.1) (m_g (u_bf q0.2 sp.toNatClampNeg n.toNatClampNeg) (some (u_set u.1 a1 (.inl (d.1 2, q1.1, .inl (va_cpy q0.2 q1.2 sp.toNatClampNeg dp.toNatClampNeg n.toNatClampNeg))))))))
def u_xcI (d : UD) (u : UM) (a0 : Nat) (sp : Int32) (a1 : Nat) (dp n : Int32) : Option va_W := m_b (u_arI d u 0 a0) (fun q0 => m_b (u_arI d u 0 a1) (fun q1 => m_g (u_rg sp dp n q0.1 q1.1) (some (u_set u.1 a1 (.inl (d.1 0, q1.1, .inl (va_cpy q0.2 q1.2 sp.toNatClampNeg dp.toNatClampNeg n.toNatClampNeg)))))))
/-- an array of objects, of the world or the empty constant -/
def u_arO (d : UD) (u : UM) (a : Nat) : Option (Nat × (Nat → Option Nat)) := match u_rd d u a with
  | some (.inl (c, n, .inr (.inr (.inr (.inr f))))) => if c = d.1 4 then some (n, f) else none
  | _ => none
theorem u_arOS {d : UD} {u : UM} {a n : Nat} {f : Nat → Option Nat} (h : u_arO d u a = some (n, f)) : u_rd d u a = some (.inl (d.1 4, n, .inr (.inr (.inr (.inr f))))) := by
  unfold u_arO at h
  split at h
  · rename_i c n f he
    split at h
    · rename_i hc
      cases h
      rw [← hc]; exact he
    · cases h
  · cases h
def u_elf (u : UM) (f : Nat → Option Nat) (sp n : Nat) : Bool := (List.range n).all (fun i => match f (sp + i) with
  | none => true
  | some y => u_el u y)
theorem u_elfS {u : UM} {f : Nat → Option Nat} {sp n : Nat} (h : u_elf u f sp n = true) : ∀ i, i < n → ∀ y, f (sp + i) = some y → u_el u y = true := fun i hi y hy => by
  have h1 := List.all_eq_true.mp h i (List.mem_range.mpr hi)
  rw [hy] at h1
  exact h1
def u_xcQ (d : UD) (u : UM) (a0 : Nat) (sp : Int32) (a1 : Nat) (dp n : Int32) : Option va_W := m_b (u_arO d u a0) (fun q0 => m_b (u_arQ d u a1) (fun q1 => m_g (u_rg sp dp n q0.1 q1.1) (m_g (u_elf u q0.2 sp.toNatClampNeg n.toNatClampNeg) (some (u_set u.1 a1 (.inl (d.1 4, q1.1, .inr (.inr (.inr (.inr (va_cpy q0.2 q1.2 sp.toNatClampNeg dp.toNatClampNeg n.toNatClampNeg)))))))))))
section UR4
variable {p : Program} {l : Launch} {e : Env} {R : Room} {s : State} {m : MethodId} {args : Array Value} {below : List Frame} {meth : Method} {c : Code} {H : Heap} {locs : List Loc} {cells slots : Nat} {Q : State → Prop} {pc : Nat} {ls : Array Slot} {rest st0 : List Value} {cc : ByteArray} {nL : Nat} {own : String} {D : va_G} {A : Nat → Prop} {d : UD} {u u' : UM} {C1 C2 cr : UC} {w : va_W} {res : Option Value}
theorem u_modc (X : u_X own D A d p s m c cc nL args) (x : ClassId × Class × Nat × Field) (h : s.fieldFound? "java/util/AbstractList" "modCount" "I" = some x) : s.fieldFound? "java/util/ArrayList" "modCount" "I" = some x := u_same (X.2.2.1 _ q165) x h
theorem u_ldcw (X : u_X own D A d p s m c cc nL args) (j : Nat) {index k : Nat} {tx : String} (hj : g_ref[j]? = some (own, index, tx, k)) (hdg : decode cc pc = .ok (.ldc_w index, 3)) (kk : W p l e R s m args below meth c H locs cells slots Q (F0 m (pc + 3) ls (.ref (d.2 (10 + k)) :: rest))) : W p l e R s m args below meth c H locs cells slots Q (F0 m pc ls rest) := by
  have h0 := X.2.2.2.2.2.2.2.1 _ (List.mem_of_getElem? hj)
  have hown := X.2.2.2.1
  have hexec := X.1
  obtain ⟨hcst, hev⟩ := h0
  intro T hT XS
  obtain ⟨t, a1, b1⟩ := kk T hT XS
  refine ⟨t, ?_, b1⟩
  obtain ⟨k0, cf, i, a', hk, hcf, hcp, -, hr, hev'⟩ := Cond.stringRef_spec hown hcst
  cases hev.symm.trans hev'
  obtain ⟨k', hk', he⟩ := XS.warmed.alike.2.2 _ _ hk
  have hr' : k'.resolved[index]? = some (some (.string (d.2 (10 + k)))) := by
    rcases XS.warmed.entry hk hk' index with h | ⟨h, -⟩
    · rw [h]; exact hr
    · rw [hr] at h; cases h
  have hdg' : decode c.code pc = .ok (.ldc_w index, 3) := by rw [X.2.1]; exact hdg
  have g : JFrame := F0 m pc ls rest
  jvm_step XS.here [hexec, hdg', ldc_w.wp_string (e := e) (s := T) (f := F0 m pc ls rest) XS.here.top hk' (by rw [he]; exact hcf) hcp hr']
  exact a1
theorem u_nn0 (z : Int32) (hz : ¬ z < 0) : z.toInt = (z.toNatClampNeg : Int) := by
  have hz0 : (0 : Int) ≤ z.toInt := by
    have := Int32.not_lt.mp hz
    simpa using Int32.le_iff_toInt_le.mp this
  show z.toInt = ((z.toInt.toNat : Nat) : Int)
  omega
/-- an array's cell is another one now -/
theorem u_setc (I : u_I D A s.heap u H locs cells) {a : Nat} {x y : ClassId × vp_A} (he : u_get u.1 a = some (.inl x)) (L : List Loc) (hL : ∀ q ∈ L, q.base = a) : u_I D A s.heap (u_set u.1 a (.inl y), u.2) (H.setIfInBounds a (vp_cell y.1 y.2)) (locs ++ L) cells := by
  obtain ⟨q1, e1, e2⟩ := u_at he
  obtain ⟨hP, hD, hS, hz, hc⟩ := I
  have hl : a < H.size := (Array.getElem?_eq_some_iff.mp (hP q1 _ e1)).1
  have oq : ∀ q : Nat, q ≠ a → (H.setIfInBounds a (vp_cell y.1 y.2))[q]? = H[q]? := fun q hq => by simp [Array.getElem?_setIfInBounds, Ne.symm hq]
  have hAa : A a := hD.2 q1 _ e1
  refine ⟨?_, ?_, ⟨by simp; exact hS.1, fun q g1 g2 => ?_, fun q hq => ?_⟩, by simp; exact hz, hc⟩
  · show va_P D gCl (u_set u.1 a (.inl y)) _
    rw [← e2]
    exact hP.set hD e1 (show (H.setIfInBounds a _)[a]? = some _ by simp [Array.getElem?_setIfInBounds, hl]) oq
  · show va_D A (u_set u.1 a (.inl y))
    rw [← e2]
    exact hD.set e1
  · rw [oq q (fun e => g2 (by rw [e]; exact hAa))]
    exact hS.2.1 q g1 g2
  · rcases List.mem_append.mp hq with h | h
    · exact hS.2.2 q h
    · rw [hL q h]; exact hAa
theorem u_CI (X : u_X own D A d p s m c cc nL args) (hl : ls.size = nL) (I : u_I D A s.heap u H locs cells) {index : Nat} (h1 : Cond.methodLink own index arraycopyName ∈ lw_all) (h2 : Cond.native arraycopyName ∈ lw_all) (h3 : Cond.static arraycopyName ∈ lw_all) (h4 : Cond.initialized "java/lang/System" ∈ lw_all) {a0 a1 : Nat} {sp dp n : Int32} (hm : u_xcI d u a0 sp a1 dp n = some w) (hframes : 1 ≤ R.frames) (hlocals : 60 ≤ R.locals) (hrest : (rest.map fun v => v.category).sum ≤ 8) (hdg : decode cc pc = .ok (.invokestatic index, 3)) (kk : ∀ (H : Heap) (locs : List Loc), u_I D A s.heap (w, u.2) H locs cells → W p l e R s m args below meth c H locs cells slots Q (F0 m (pc + 3) ls rest)) : W p l e R s m args below meth c H locs cells slots Q (F0 m pc ls (.int n :: .int dp :: .ref a1 :: .int sp :: .ref a0 :: rest)) := by
  obtain ⟨⟨n0, f⟩, g1, hm⟩ := m_bS hm
  obtain ⟨⟨n1, g⟩, g2, hm⟩ := m_bS hm
  obtain ⟨g3, hm⟩ := m_gS hm
  cases hm
  obtain ⟨q0, e0, -⟩ := u_at (u_arIS g1)
  obtain ⟨q1, e1, e2⟩ := u_at (u_arIS g2)
  obtain ⟨n1', n2', n3', n4', n5'⟩ := of_decide_eq_true g3
  refine va_copyi (ty := .int) X.1 X.2.1 (X.2.2.2.2.2.1.trans hl.symm) X.2.2.2.1 (X.2.2.1 _ h1) (X.2.2.1 _ h2) (X.2.2.1 _ h3) (X.2.2.1 _ h4) X.2.2.2.2.1 I.1 I.2.1 (u_here I) q0 q1 0 0 e0 e1 rfl rfl rfl n1' n2' n3' n4' n5' (fun _ _ => rfl) hframes (Nat.le_trans (Nat.add_le_add hrest (Nat.le_refl _)) (Nat.le_trans (by decide +kernel) hlocals)) hdg (fun H1 locs1 hP hD hS => ?_)
  rw [e2] at hP hD
  exact u_fix I hP hD hS (kk H1 locs1)
theorem u_CB (X : u_X own D A d p s m c cc nL args) (hl : ls.size = nL) (I : u_I D A s.heap u H locs cells) {index : Nat} (h1 : Cond.methodLink own index arraycopyName ∈ lw_all) (h2 : Cond.native arraycopyName ∈ lw_all) (h3 : Cond.static arraycopyName ∈ lw_all) (h4 : Cond.initialized "java/lang/System" ∈ lw_all) {a0 a1 : Nat} {sp dp n : Int32} (hm : u_xcB d u a0 sp a1 dp n = some w) (hframes : 1 ≤ R.frames) (hlocals : 60 ≤ R.locals) (hrest : (rest.map fun v => v.category).sum ≤ 8) (hdg : decode cc pc = .ok (.invokestatic index, 3)) (kk : ∀ (H : Heap) (locs : List Loc), u_I D A s.heap (w, u.2) H locs cells → W p l e R s m args below meth c H locs cells slots Q (F0 m (pc + 3) ls rest)) : W p l e R s m args below meth c H locs cells slots Q (F0 m pc ls (.int n :: .int dp :: .ref a1 :: .int sp :: .ref a0 :: rest)) := by
  obtain ⟨⟨n0, f⟩, g1, hm⟩ := m_bS hm
  obtain ⟨⟨n1, g⟩, g2, hm⟩ := m_bS hm
  obtain ⟨g3, hm⟩ := m_gS hm
  obtain ⟨g4, hm⟩ := m_gS hm
  cases hm
  obtain ⟨q1, e1, e2⟩ := u_at (u_arIS g2)
  obtain ⟨n1', n2', n3', n4', n5'⟩ := of_decide_eq_true g3
  have hlo : (rest.map fun v => v.category).sum + (nativeFrameWords "java/lang/System" "arraycopy" 5 + 11) ≤ R.locals := Nat.le_trans (Nat.add_le_add hrest (Nat.le_refl _)) (Nat.le_trans (by decide +kernel) hlocals)
  rcases u_rdS (u_arBS g1) with he | he
  · obtain ⟨q0, e0, -⟩ := u_at he
    refine va_copyi (ty := .byte) X.1 X.2.1 (X.2.2.2.2.2.1.trans hl.symm) X.2.2.2.1 (X.2.2.1 _ h1) (X.2.2.1 _ h2) (X.2.2.1 _ h3) (X.2.2.1 _ h4) X.2.2.2.2.1 I.1 I.2.1 (u_here I) q0 q1 2 2 e0 e1 rfl rfl rfl n1' n2' n3' n4' n5' (u_bfS g4) hframes hlo hdg (fun H1 locs1 hP hD hS => ?_)
    rw [e2] at hP hD
    exact u_fix I hP hD hS (kk H1 locs1)
  · rcases u_csA (c := d.1) X.2.2.2.2.2.2 he with ⟨-, f', e, hT⟩ | ⟨e, -⟩
    · cases e
      replace hT : va_T .byte a0 n0 (fun j => .int (f j)) A s s.heap := hT
      obtain ⟨scr, hs1, ⟨hs2, k0, hk0, cm0, hkk0⟩, hs3, hs4, -, hs5, -⟩ := hT.kept I.2.2.1.2.1
      have hc1 := I.1 q1 _ e1
      obtain ⟨-, k1, hk1, cm1, hkk1⟩ := (X.2.2.2.2.1.2 2 _ rfl).1 n1 (fun j => .int (g j))
      intro T hTT XS
      obtain ⟨vm', X', step⟩ := XS.arraycopy X.1 X.2.2.2.1 (X.2.2.1 _ h1) (X.2.2.1 _ h2) (X.2.2.1 _ h3) (X.2.2.1 _ h4) (src := a0) (dst := a1) (cs := scr) (cd := vp_cell (d.1 2) (n1, .inl g)) (srcPos := sp) (destPos := dp) (n := n) (by rw [hTT]; exact hs1) (by rw [hTT]; exact hc1)
        hs2 (fun _ h => by cases h) hs3 (fun h => by cases h) hk0 hk1 hkk0 hkk1 (by simp [refKind]) n1' n2' n3'
        (by rw [u_nn0 sp n1', u_nn0 n n3']; omega)
        (by rw [u_nn0 dp n2', u_nn0 n n3']; show ¬ _ > ((arrV (d.1 2) n1 (fun j => .int (g j))).slots.size : Int); rw [arrV_size]; omega)
        (fun vm₁ _ i hi => by
          have e : scr.slots.getD (sp.toNatClampNeg + i) .null = .int (f (sp.toNatClampNeg + i)) := by
            rw [Array.getD_eq_getD_getElem?, hs5 _ (by omega)]
            rfl
          refine ⟨?_, ?_⟩
          · rw [e]
            exact u_bfS g4 i hi
          · rw [e]
            exact trivial)
        (g := F0 m pc ls (.int n :: .int dp :: .ref a1 :: .int sp :: .ref a0 :: rest)) rfl (by rw [X.2.2.2.2.2.1, ← hl]) (rest := rest) rfl (by rw [X.2.1]; exact hdg) hframes (by show 2 * 0 + _ + _ ≤ _; omega)
      have e1' : copied scr (vp_cell (d.1 2) (n1, .inl g)) sp dp n = vp_cell (d.1 2) (n1, .inl (va_cpy f g sp.toNatClampNeg dp.toNatClampNeg n.toNatClampNeg)) := va_copiedX (fun z => .int z) scr (d.1 2) f g hs5 n4'
      rw [e1'] at X' step
      have hheap : ((T.setVm vm').setCell a1 (vp_cell (d.1 2) (n1, .inl (va_cpy f g sp.toNatClampNeg dp.toNatClampNeg n.toNatClampNeg)))).heap = H.setIfInBounds a1 (vp_cell (d.1 2) (n1, .inl (va_cpy f g sp.toNatClampNeg dp.toNatClampNeg n.toNatClampNeg))) := by rw [← hTT]; rfl
      obtain ⟨t, b1, b2⟩ := kk _ _ (u_setc I (y := (d.1 2, n1, .inl (va_cpy f g sp.toNatClampNeg dp.toNatClampNeg n.toNatClampNeg))) (u_arIS g2) _ (fun q h => by
        obtain ⟨z, -, hz⟩ := List.mem_map.mp h
        rw [← hz])) _ hheap X'
      exact ⟨t, step t b1, b2⟩
    · have e2 := congrArg (fun q => q.2) e
      cases e2
theorem u_CQ (X : u_X own D A d p s m c cc nL args) (hl : ls.size = nL) (I : u_I D A s.heap u H locs cells) {index : Nat} (h1 : Cond.methodLink own index arraycopyName ∈ lw_all) (h2 : Cond.native arraycopyName ∈ lw_all) (h3 : Cond.static arraycopyName ∈ lw_all) (h4 : Cond.initialized "java/lang/System" ∈ lw_all) {a0 a1 : Nat} {sp dp n : Int32} (hm : u_xcQ d u a0 sp a1 dp n = some w) (hframes : 1 ≤ R.frames) (hlocals : 60 ≤ R.locals) (hrest : (rest.map fun v => v.category).sum ≤ 8) (hdg : decode cc pc = .ok (.invokestatic index, 3)) (kk : ∀ (H : Heap) (locs : List Loc), u_I D A s.heap (w, u.2) H locs cells → W p l e R s m args below meth c H locs cells slots Q (F0 m (pc + 3) ls rest)) : W p l e R s m args below meth c H locs cells slots Q (F0 m pc ls (.int n :: .int dp :: .ref a1 :: .int sp :: .ref a0 :: rest)) := by
  obtain ⟨⟨n0, f⟩, g1, hm⟩ := m_bS hm
  obtain ⟨⟨n1, g⟩, g2, hm⟩ := m_bS hm
  obtain ⟨g3, hm⟩ := m_gS hm
  obtain ⟨g4, hm⟩ := m_gS hm
  cases hm
  obtain ⟨q1, e1, e2⟩ := u_at (u_arQS g2)
  obtain ⟨n1', n2', n3', n4', n5'⟩ := of_decide_eq_true g3
  have hlo : (rest.map fun v => v.category).sum + (nativeFrameWords "java/lang/System" "arraycopy" 5 + 11) ≤ R.locals := Nat.le_trans (Nat.add_le_add hrest (Nat.le_refl _)) (Nat.le_trans (by decide +kernel) hlocals)
  rcases u_rdS (u_arOS g1) with he | he
  · obtain ⟨q0, e0, -⟩ := u_at he
    refine va_copyM X.1 X.2.1 (X.2.2.2.2.2.1.trans hl.symm) X.2.2.2.1 (X.2.2.1 _ h1) (X.2.2.1 _ h2) (X.2.2.1 _ h3) (X.2.2.1 _ h4) X.2.2.2.2.1 I.1 I.2.1 (u_here I) q0 q1 4 4 e0 e1 rfl rfl n1' n2' n3' n4' n5' (fun i hi y hy => ?_) hframes hlo hdg (fun H1 locs1 hP hD hS => ?_)
    · obtain ⟨ci, fs, k1, k2⟩ := u_elS (u_elfS g4 i hi y hy)
      obtain ⟨qy, ey, -⟩ := u_at k1
      have hlt : ci < gCl.length := by rcases k2 with rfl | rfl | rfl <;> decide
      have hc := List.getElem?_eq_getElem hlt
      refine va_rAny X.2.2.2.2.1 I.1 ey hc (fun comp c0 f1 f2 => ?_)
      obtain ⟨c1, t1, f3, f4, f5⟩ := Cond.castable_spec (va_Nw.use (A := args) rfl (u_caO X k2 hc))
      cases f2.symm.trans f3
      cases f1.symm.trans f4
      exact f5
    · rw [e2] at hP hD
      exact u_fix I hP hD hS (kk H1 locs1)
  · rcases u_csA (c := d.1) X.2.2.2.2.2.2 he with ⟨-, f', e, -⟩ | ⟨e, -, hT⟩
    · cases e
    · have e3 := congrArg (fun q => q.2) e
      cases e3
      obtain ⟨scr, hs1, ⟨hs2, k0, hk0, cm0, hkk0⟩, hs3, hs4, -, -, -⟩ := hT.kept I.2.2.1.2.1
      have hc1 := I.1 q1 _ e1
      obtain ⟨-, k1, hk1, cm1, hkk1⟩ := (X.2.2.2.2.1.2 4 _ rfl).1 n1 (fun j => va_rf (g j))
      intro T hTT XS
      obtain ⟨vm', X', step⟩ := XS.arraycopy X.1 X.2.2.2.1 (X.2.2.1 _ h1) (X.2.2.1 _ h2) (X.2.2.1 _ h3) (X.2.2.1 _ h4) (src := a0) (dst := a1) (cs := scr) (cd := vp_cell (d.1 4) (n1, .inr (.inr (.inr (.inr g))))) (srcPos := sp) (destPos := dp) (n := n) (by rw [hTT]; exact hs1) (by rw [hTT]; exact hc1)
        hs2 (fun _ h => by cases h) hs3 (fun h => by cases h) hk0 hk1 hkk0 hkk1 rfl n1' n2' n3'
        (by rw [u_nn0 sp n1', u_nn0 n n3']; omega)
        (by rw [u_nn0 dp n2', u_nn0 n n3']; show ¬ _ > ((arrV (d.1 4) n1 (fun j => va_rf (g j))).slots.size : Int); rw [arrV_size]; omega)
        (fun vm₁ hal i hi => absurd hi (by omega))
        (g := F0 m pc ls (.int n :: .int dp :: .ref a1 :: .int sp :: .ref a0 :: rest)) rfl (by rw [X.2.2.2.2.2.1, ← hl]) (rest := rest) rfl (by rw [X.2.1]; exact hdg) hframes (by show 2 * 0 + _ + _ ≤ _; omega)
      have e1' : copied scr (vp_cell (d.1 4) (n1, .inr (.inr (.inr (.inr g))))) sp dp n = vp_cell (d.1 4) (n1, .inr (.inr (.inr (.inr (va_cpy (fun _ => none) g sp.toNatClampNeg dp.toNatClampNeg n.toNatClampNeg))))) := by
        rw [vp_cell_q, vp_cell_q]
        exact va_copiedX (fun z => va_rf z) scr (d.1 4) (fun _ => none) g (fun j hj => absurd hj (Nat.not_lt_zero j)) n4'
      rw [e1'] at X' step
      have hheap : ((T.setVm vm').setCell a1 (vp_cell (d.1 4) (n1, .inr (.inr (.inr (.inr (va_cpy (fun _ => none) g sp.toNatClampNeg dp.toNatClampNeg n.toNatClampNeg))))))).heap = H.setIfInBounds a1 (vp_cell (d.1 4) (n1, .inr (.inr (.inr (.inr (va_cpy (fun _ => none) g sp.toNatClampNeg dp.toNatClampNeg n.toNatClampNeg)))))) := by rw [← hTT]; rfl
      obtain ⟨t, b1, b2⟩ := kk _ _ (u_setc I (y := (d.1 4, n1, .inr (.inr (.inr (.inr (va_cpy (fun _ => none) g sp.toNatClampNeg dp.toNatClampNeg n.toNatClampNeg)))))) (u_arQS g2) _ (fun q h => by
        obtain ⟨z, -, hz⟩ := List.mem_map.mp h
        rw [← hz])) _ hheap X'
      exact ⟨t, step t b1, b2⟩
/-- the class object of an array of objects -/
theorem u_oarr (X : u_X own D A d p s m c cc nL args) (I : u_I D A s.heap u H locs cells) {a n : Nat} {f : Nat → Option Nat} (he : u_rd d u a = some (.inl (d.1 4, n, .inr (.inr (.inr (.inr f)))))) : ∃ cell : Cell, H[a]? = some cell ∧ cell.vm.isStatics = false ∧ s.vm.findClass "[Ljava/lang/Object;" = some cell.cls := by
  rcases u_rdS he with he | he
  · obtain ⟨q0, e0, -⟩ := u_at he
    have h1 := I.1 q0 _ e0
    obtain ⟨_, _, _, _, _, h2⟩ := (X.2.2.2.2.1.2 4 _ rfl).2
    exact ⟨_, h1, rfl, h2⟩
  · rcases u_csA (c := d.1) X.2.2.2.2.2.2 he with ⟨-, f', e, hT⟩ | ⟨-, rfl, -⟩
    · cases e
    · obtain ⟨cell, g1, g2, g3, -⟩ := X.2.2.2.2.2.2.2.2.2.2.2.2.2.2.1.2.2.kept I.2.2.1.2.1
      exact ⟨cell, g1, g2, g3⟩
end UR4
