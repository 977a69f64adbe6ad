set_option maxRecDepth 100000
theorem u_sw0_2 (x : Int32) (h0 : ¬ x = 0) (h1 : ¬ x = 1) (h2 : ¬ x = 2) : x.toInt < 0 ∨ 2 < x.toInt := by
  have e0 : ¬ x.toInt = 0 := fun e => h0 (Int32.toInt_inj.mp e)
  have e1 : ¬ x.toInt = 1 := fun e => h1 (Int32.toInt_inj.mp e)
  have e2 : ¬ x.toInt = 2 := fun e => h2 (Int32.toInt_inj.mp e)
  omega
theorem u_sw0_4 (x : Int32) (h0 : ¬ x = 0) (h1 : ¬ x = 1) (h2 : ¬ x = 2) (h3 : ¬ x = 3) (h4 : ¬ x = 4) : x.toInt < 0 ∨ 4 < x.toInt := by
  have e0 : ¬ x.toInt = 0 := fun e => h0 (Int32.toInt_inj.mp e)
  have e1 : ¬ x.toInt = 1 := fun e => h1 (Int32.toInt_inj.mp e)
  have e2 : ¬ x.toInt = 2 := fun e => h2 (Int32.toInt_inj.mp e)
  have e3 : ¬ x.toInt = 3 := fun e => h3 (Int32.toInt_inj.mp e)
  have e4 : ¬ x.toInt = 4 := fun e => h4 (Int32.toInt_inj.mp e)
  omega
theorem u_sw0_6 (x : Int32) (h0 : ¬ x = 0) (h1 : ¬ x = 1) (h2 : ¬ x = 2) (h3 : ¬ x = 3) (h4 : ¬ x = 4) (h5 : ¬ x = 5) (h6 : ¬ x = 6) : x.toInt < 0 ∨ 6 < x.toInt := by
  have e0 : ¬ x.toInt = 0 := fun e => h0 (Int32.toInt_inj.mp e)
  have e1 : ¬ x.toInt = 1 := fun e => h1 (Int32.toInt_inj.mp e)
  have e2 : ¬ x.toInt = 2 := fun e => h2 (Int32.toInt_inj.mp e)
  have e3 : ¬ x.toInt = 3 := fun e => h3 (Int32.toInt_inj.mp e)
  have e4 : ¬ x.toInt = 4 := fun e => h4 (Int32.toInt_inj.mp e)
  have e5 : ¬ x.toInt = 5 := fun e => h5 (Int32.toInt_inj.mp e)
  have e6 : ¬ x.toInt = 6 := fun e => h6 (Int32.toInt_inj.mp e)
  omega
theorem u_sw4_10 (x : Int32) (h4 : ¬ x = 4) (h5 : ¬ x = 5) (h6 : ¬ x = 6) (h7 : ¬ x = 7) (h8 : ¬ x = 8) (h9 : ¬ x = 9) (h10 : ¬ x = 10) : x.toInt < 4 ∨ 10 < x.toInt := by
  have e4 : ¬ x.toInt = 4 := fun e => h4 (Int32.toInt_inj.mp e)
  have e5 : ¬ x.toInt = 5 := fun e => h5 (Int32.toInt_inj.mp e)
  have e6 : ¬ x.toInt = 6 := fun e => h6 (Int32.toInt_inj.mp e)
  have e7 : ¬ x.toInt = 7 := fun e => h7 (Int32.toInt_inj.mp e)
  have e8 : ¬ x.toInt = 8 := fun e => h8 (Int32.toInt_inj.mp e)
  have e9 : ¬ x.toInt = 9 := fun e => h9 (Int32.toInt_inj.mp e)
  have e10 : ¬ x.toInt = 10 := fun e => h10 (Int32.toInt_inj.mp e)
  omega
theorem u_lkc {v k : Int32} {a o dflt : Int} {r : List (Int × Int)} (hk : k.toInt = a) (h : ¬ v = k) (hr : Op.lookupswitch.offset r dflt v.toInt = dflt) : Op.lookupswitch.offset ((a, o) :: r) dflt v.toInt = dflt := by
  rw [Op.lookupswitch.offset_cons, if_neg (fun e => h (Int32.toInt_inj.mp (by rw [hk, e]))), hr]
/-- a char -/
def u_ch (x : Int32) : Bool := decide (x.toUInt32.toUInt16.toUInt32.toInt32 = x)
theorem u_chS {x : Int32} (h : u_ch x = true) : narrow .char (.int x) = .int x := by
  show Value.int _ = Value.int _
  rw [of_decide_eq_true h]
section UR5
variable {p : Program} {l : Launch} {e : Env} {R : Room} {s : State} {m : MethodId} {args : Array Value} {below : List Frame} {meth : Method} {c : Code} {H : Heap} {locs : List Loc} {cells slots : Nat} {Q : State → Prop} {pc : Nat} {ls : Array Slot} {rest st0 : List Value} {cc : ByteArray} {nL : Nat} {own : String} {D : va_G} {A : Nat → Prop} {d : UD} {u u' u0 : UM} {C C1 C2 cr : UC} {w : va_W} {res : Option Value}
theorem u_cret (X : u_X own D A d p s m c cc nL args) (I : u_I D (va_A u0.1 u0.2) s.heap u H locs cells) (hr : meth.sig.returnType = some .char) (hlk : meth.locks = false) {r : Int32} (h01 : u_ch r = true) (hC : cells = C.1 ∧ slots = C.2) (hdg : decode cc pc = .ok (.ireturn, 1)) : W p l e R s m args below meth c H locs cells slots (MQ below (u_Q D d (va_A u0.1 u0.2) (some (.int r)) u) args s C.1 C.2 (va_A u0.1 u0.2)) (F0 m pc ls [.int r]) := by
  rw [← hC.1, ← hC.2]
  exact W.zret X.1 X.2.1 hr (u_chS h01) (fun t ht hW => u_fin X I t ht hW) I.2.2.1.2.2 hdg hlk
theorem u_bret (X : u_X own D A d p s m c cc nL args) (I : u_I D (va_A u0.1 u0.2) s.heap u H locs cells) (hr : meth.sig.returnType = some .byte) (hlk : meth.locks = false) {r : Int32} (h01 : m_01 r = true) (hC : cells = C.1 ∧ slots = C.2) (hdg : decode cc pc = .ok (.ireturn, 1)) : W p l e R s m args below meth c H locs cells slots (MQ below (u_Q D d (va_A u0.1 u0.2) (some (.int r)) u) args s C.1 C.2 (va_A u0.1 u0.2)) (F0 m pc ls [.int r]) := by
  rw [← hC.1, ← hC.2]
  exact W.zret X.1 X.2.1 hr (u_01b h01) (fun t ht hW => u_fin X I t ht hW) I.2.2.1.2.2 hdg hlk
/-- getClass of an array of objects -/
theorem u_GC (X : u_X own D A d p s m c cc nL args) (hl : ls.size = nL) (I : u_I D A s.heap u H locs cells) {a : Nat} {q : Nat × (Nat → Option Nat)} (hm : u_arO d u a = some q) {index : Nat} (h1 : Cond.methodLink own index ⟨"java/lang/Object", "getClass", "()Ljava/lang/Class;"⟩ ∈ lw_all) (h2 : Cond.selects "[Ljava/lang/Object;" ⟨"java/lang/Object", "getClass", "()Ljava/lang/Class;"⟩ ⟨"java/lang/Object", "getClass", "()Ljava/lang/Class;"⟩ ∈ lw_all) (h3 : Cond.instanceMethod ⟨"java/lang/Object", "getClass", "()Ljava/lang/Class;"⟩ ∈ lw_all) (h4 : Cond.native ⟨"java/lang/Object", "getClass", "()Ljava/lang/Class;"⟩ ∈ lw_all) (hframes : 1 ≤ R.frames) (hlocals : 40 ≤ R.locals) (hrest : (rest.map fun v => v.category).sum ≤ 8) (hdg : decode cc pc = .ok (.invokevirtual index, 3)) (kk : W p l e R s m args below meth c H locs cells slots Q (F0 m (pc + 3) ls (.ref (d.2 54) :: rest))) : W p l e R s m args below meth c H locs cells slots Q (F0 m pc ls (.ref a :: rest)) := by
  obtain ⟨n, f⟩ := q
  exact va_getC X.1 X.2.1 (X.2.2.2.2.2.1.trans hl.symm) X.2.2.2.1 (X.2.2.1 _ h1) ((X.2.2.2.2.2.2.2.2.2.2.2.2.2.2.2.2.2.2.1 ⟨"java/lang/Object", "getClass", "()Ljava/lang/Class;"⟩ (by decide +kernel)).use rfl) (X.2.2.1 _ h2) (X.2.2.1 _ h3) (X.2.2.1 _ h4) X.2.2.2.2.2.2.2.2.2.2.2.2.2.2.1.2.1 (u_oarr X I (u_arOS hm)) hframes (by omega) hdg kk
/-- the class constant -/
theorem u_LM (X : u_X own D A d p s m c cc nL args) {index : Nat} (h1 : Cond.classLink own index "[Ljava/lang/Object;" ∈ lw_all) (hdg : decode cc pc = .ok (.ldc index, 2)) (kk : W p l e R s m args below meth c H locs cells slots Q (F0 m (pc + 2) ls (.ref (d.2 54) :: rest))) : W p l e R s m args below meth c H locs cells slots Q (F0 m pc ls rest) :=
  va_ldcM X.1 X.2.1 X.2.2.2.1 (X.2.2.1 _ h1) X.2.2.2.2.2.2.2.2.2.2.2.2.2.2.1.2.1 hdg kk
/-- a cast to an array of bytes -/
theorem u_KB (X : u_X own D A d p s m c cc nL args) (I : u_I D A s.heap u H locs cells) {a : Nat} {q : Nat × (Nat → Int32)} (hm : u_arI d u 2 a = some q) {index : Nat} (h1 : Cond.classLink own index "[B" ∈ lw_all) (hdg : decode cc pc = .ok (.checkcast index, 3)) (kk : W p l e R s m args below meth c H locs cells slots Q (F0 m (pc + 3) ls (.ref a :: rest))) : W p l e R s m args below meth c H locs cells slots Q (F0 m pc ls (.ref a :: rest)) := by
  obtain ⟨n, f⟩ := q
  obtain ⟨q0, e0, -⟩ := u_at (u_arIS hm)
  exact va_castA X.1 X.2.1 X.2.2.2.1 (X.2.2.1 _ h1) I.1 q0 e0 (X.2.2.2.2.1.2 2 _ rfl).2 hdg kk
/-- an array of bytes is cloned -/
theorem u_CL (X : u_X own D A d p s m c cc nL args) (hl : ls.size = nL) (I : u_I D A s.heap u H locs cells) (hA : ∀ q, s.heap.size ≤ q → A q) {a : Nat} {q : Nat × (Nat → Int32)} (hm : u_arI d u 2 a = some q) (hg : u_bf q.2 0 q.1 = true) {index : Nat} (h1 : Cond.methodLink own index ⟨"[B", "clone", "()Ljava/lang/Object;"⟩ ∈ lw_all) (h2 : Cond.sameMethod "[B" "java/lang/Object" "clone" "()Ljava/lang/Object;" ∈ lw_all) (h3 : Cond.native ⟨"java/lang/Object", "clone", "()Ljava/lang/Object;"⟩ ∈ lw_all) (h4 : Cond.instanceMethod ⟨"java/lang/Object", "clone", "()Ljava/lang/Object;"⟩ ∈ lw_all) (h5 : Cond.selects "[B" ⟨"[B", "clone", "()Ljava/lang/Object;"⟩ ⟨"java/lang/Object", "clone", "()Ljava/lang/Object;"⟩ ∈ lw_all) (hm2 : some (u_nw u (.inl (d.1 2, q.1, .inl q.2))) = some u') (hC : u_left R cells slots (u_add (u_add (1, q.1) C2) cr)) (hframes : 1 ≤ R.frames) (hlocals : 40 ≤ R.locals) (hrest : (rest.map fun v => v.category).sum ≤ 8) (hdg : decode cc pc = .ok (.invokevirtual index, 3)) (kk : ∀ (H : Heap) (cells slots : Nat), u_left R cells slots (u_add C2 cr) → u_I D A s.heap u' H locs cells → W p l e R s m args below meth c H locs cells slots Q (F0 m (pc + 3) ls (.ref u.2 :: rest))) : W p l e R s m args below meth c H locs cells slots Q (F0 m pc ls (.ref a :: rest)) := by
  obtain ⟨n, f⟩ := q
  cases hm2
  obtain ⟨q0, e0, -⟩ := u_at (u_arIS hm)
  have hL := u_leftL hC
  have hcl := (X.2.2.2.2.2.2.2.2.2.2.2.2.2.2.2.2.2.1 ("[B", "java/lang/Cloneable") (by decide +kernel))
  have hnm : s.vm.findClass "[B" = some (d.1 2) := (X.2.2.2.2.1.2 2 _ rfl).2
  obtain ⟨c0, t0', f1, f2, f3⟩ := Cond.castable_spec (va_Nw.use (A := args) rfl hcl)
  cases hnm.symm.trans f1
  have hcell := I.1 q0 _ e0
  have hz := I.2.2.2.1
  intro T hT XS
  have hcellT : T.heap[a]? = some (vp_cell (d.1 2) (n, .inl f)) := by rw [hT]; exact hcell
  obtain ⟨-, kA, hkA, comp, hkind⟩ := State.isArrayOf_alike XS.warmed.alike ((X.2.2.2.2.1.2 2 _ rfl).1 0 (fun _ => .null))
  obtain ⟨-, kS, hkS, compS, hkindS⟩ := (X.2.2.2.2.1.2 2 _ rfl).1 0 (fun _ => .null)
  obtain ⟨vm', X', st⟩ := XS.cloneArray X.1 X.2.2.2.1 (X.2.2.1 _ h1) (X.2.2.1 _ h2) (X.2.2.1 _ h3) (X.2.2.1 _ h4) (X.2.2.1 _ h5) (a := a) (cell := vp_cell (d.1 2) (n, .inl f)) hcellT (fun k h => by cases h) (fun h => by cases h) hnm f2 f3
    (fun i v hv => by
      have hk' : T.vm.classes[d.1 2]? = some kA := hkA
      have hfit : fits .byte v = true := by
        have hi : i < n := by
          have := (Array.getElem?_eq_some_iff.mp hv).1
          rw [show (vp_cell (d.1 2) (n, .inl f)).slots.size = n from arrV_size _ _ _] at this
          exact this
        have h2 := arrV_read (d.1 2) (fun j => .int (f j)) hi
        have h3 : some v = some (Value.int (f i)) := hv.symm.trans h2
        cases h3
        have := u_bfS hg i hi
        rw [Nat.zero_add] at this
        exact this
      simpa [State.fitsSlot, State.slotType?, hk', hkind, show (vp_cell (d.1 2) (n, .inl f)).cls = d.1 2 from rfl] using hfit)
    (g := F0 m pc ls (.ref a :: rest)) rfl (by rw [X.2.2.2.2.2.1, ← hl]) rfl (by rw [X.2.1]; exact hdg) hframes (by show 2 * 0 + _ + 14 ≤ _; omega) hL.1 (by rw [show (vp_cell (d.1 2) (n, .inl f)).slots.size = n from arrV_size _ _ _]; exact hL.2) (hloader := Vm.clonesLoader_of_array hkS hkindS)
  have hsz : (vp_cell (d.1 2) (n, .inl f)).slots.size = n := arrV_size _ _ _
  rw [show ({ cls := (vp_cell (d.1 2) (n, .inl f)).cls, slots := (vp_cell (d.1 2) (n, .inl f)).slots } : Cell) = vp_cell (d.1 2) (n, .inl f) from rfl, hsz] at X'
  obtain ⟨t, b1, b2⟩ := kk (H.push (vp_cell (d.1 2) (n, .inl f))) _ _ (u_left1 hC) (u_push I hA (by rw [← hz, Array.getElem?_push_size]) (by rw [Array.size_push, hz]) (fun q hq => by rw [Array.getElem?_push, if_neg (by omega)])) ((T.setVm vm').pushCell (vp_cell (d.1 2) (n, .inl f))) (by rw [← hT]; rfl) X'
  refine ⟨t, st t ?_, b2⟩
  rw [hT, hz]
  exact b1
end UR5
/-- a text's fields, of the world or a constant -/
def u_tx (d : UD) (u : UM) (a : Nat) : Option (List Value) := match u_rd d u a with
  | some (.inr (c, fs)) => if c = 15 then some fs else none
  | _ => none
theorem u_txS {d : UD} {u : UM} {a : Nat} {fs : List Value} (h : u_tx d u a = some fs) : u_rd d u a = some (.inr (15, fs)) := by
  unfold u_tx at h
  split at h
  · rename_i c fs he
    split at h
    · rename_i hc
      subst hc
      cases h
      exact he
    · cases h
  · cases h
/-- one class after the other -/
def u_fc {β : Type} (x : Option (List Value)) (k0 k1 : Option β) : Option β := match x with
  | some _ => k0
  | none => k1
theorem u_fcS {β : Type} {x : Option (List Value)} {k0 k1 : Option β} {r : β} (h : u_fc x k0 k1 = some r) : (∃ f, x = some f ∧ k0 = some r) ∨ k1 = some r := by
  cases x with
  | some f => exact Or.inl ⟨f, rfl, h⟩
  | none => exact Or.inr h
theorem u_sw0_5 (x : Int32) (h0 : ¬ x = 0) (h1 : ¬ x = 1) (h2 : ¬ x = 2) (h3 : ¬ x = 3) (h4 : ¬ x = 4) (h5 : ¬ x = 5) : x.toInt < 0 ∨ 5 < x.toInt := by
  have e0 : ¬ x.toInt = 0 := fun e => h0 (Int32.toInt_inj.mp e)
  have e1 : ¬ x.toInt = 1 := fun e => h1 (Int32.toInt_inj.mp e)
  have e2 : ¬ x.toInt = 2 := fun e => h2 (Int32.toInt_inj.mp e)
  have e3 : ¬ x.toInt = 3 := fun e => h3 (Int32.toInt_inj.mp e)
  have e4 : ¬ x.toInt = 4 := fun e => h4 (Int32.toInt_inj.mp e)
  have e5 : ¬ x.toInt = 5 := fun e => h5 (Int32.toInt_inj.mp e)
  omega
