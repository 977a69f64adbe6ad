set_option maxRecDepth 100000
/-! A default method of an interface -/
section UR6
variable {p : Program} {l : Launch} {e : Env} {R : Room} {s : State} {m : MethodId} {args : Array Value} {below : List Frame} {meth : Method} {c : Code} {H : Heap} {locs : List Loc} {cells slots : Nat} {Q : State → Prop} {pc : Nat} {ls : Array Slot} {rest st0 : List Value} {cc : ByteArray} {nL : Nat} {own : String} {D : va_G} {A : Nat → Prop} {d : UD} {u u' : UM} {C1 C2 cr : UC} {w : va_W} {res : Option Value}
theorem u_iFD {T : State} (X : Stand p l e R s m args below meth c T locs cells slots) (hexec : p.tables.exec = Jvm.exec) {C : String} {index count : Nat} {x : MethodName} {bytes : ByteArray} {maxL : Nat} {ret : Option FieldType}
    (hown : s.vm.findClass own = some m.cls) (hlink : (Cond.methodLink own index x).before args s = true) (hF : va_Fw C x x s) (hL : g_Ld C x s) (hinst : (Cond.instanceMethod x).before args s = true) (hx : x.cls ≠ "java/lang/invoke/MethodHandle" ∧ x.cls ≠ "java/lang/invoke/VarHandle")
    {W : Nat} {Pre : Pt → Array Value → Prop} {Post : Pt → Array Value → Option Value → Pt → Prop} (hK : Back l R p e below s args x 5 W Pre Post)
    {b : Addr} {cellB : Cell} {kB : Class} (hcell : T.heap[b]? = some cellB) (hobj : cellB.vm.isStatics = false) (hcls : s.vm.findClass C = some cellB.cls) (hkB : s.vm.classes[cellB.cls]? = some kB)
    {g : JFrame} (hg : g.method = m) (hsize : g.locals.size = c.maxLocals) {argsL rest : List Value} (hlen : ∀ sig, parseMethodDescriptor x.desc = some sig → argsL.length = sig.parameters.length)
    (hstack : g.stack = argsL.reverse ++ .ref b :: rest) (hW : 2 * g.monitorRoom + (rest.map fun v => v.category).sum ≤ W) (hdg : decode c.code g.pc = .ok (.invokeinterface index count, 5))
    (hpre : ∀ vm₁, s.WarmedH vm₁ → Pre ⟨T.setVm vm₁, locs, cells, slots⟩ (Value.ref b :: argsL).toArray) :
    ∃ (v : Option Value) (vm₁ : Vm) (B : Pt), s.WarmedH vm₁ ∧ Stand p l e R s m args below meth c B.U B.locs B.cells B.slots ∧ Post ⟨T.setVm vm₁, locs, cells, slots⟩ (Value.ref b :: argsL).toArray v B ∧
      ∀ target, Steps p.tables e below (B.U.setTop { g with pc := g.pc + 5, stack := v.toList ++ rest }) target → Steps p.tables e below (T.setTop g) target := by
  obtain ⟨r0, r, hn, hrm, hstR, hsigR⟩ := Cond.declares_spec (va_any (A' := args) rfl hF.1)
  obtain ⟨cL, kL, r1, hcL, hkL, hiL, hfoundL, hn1⟩ := Cond.interfaceMethod_spec (va_any (A' := args) rfl hF.2.1)
  cases hn.symm.trans hn1
  have hr0cls : r0.cls = cL := Option.some.inj ((findClass_of_methodNamed hn).symm.trans hcL)
  obtain ⟨hnameR, hdescR⟩ := name_of_methodNamed hn hrm
  obtain ⟨mk, methM, hnamed, hmethM, -, habM⟩ := Cond.instanceMethod_spec hinst
  obtain ⟨c2, m2, q1, q2, q4⟩ := hL
  cases hcls.symm.trans q1
  cases hnamed.symm.trans q2
  cases hn.symm.trans hnamed
  have hselP : selectMethod e.platform s.vm cellB.cls r0 = .method r0 := by rw [Launch.admits_selectMethod X.admits]; exact q4
  have hpubM : hasFlag methM.accessFlags Acc.public_ = true := Cond.publicMethod_spec hnamed hmethM (va_any (A' := args) rfl hF.2.2.1)
  have hway : ((cellB.cls :: s.vm.superclasses cellB.cls).any fun k => (declaredIn s.vm r.name r.desc k).any fun (_, z) => z.isPrivate || z.isStatic) = false := by
    rw [hnameR, hdescR]; exact Cond.unhidden_spec hcls (va_any (A' := args) rfl hF.2.2.2.1)
  obtain ⟨c3, t3, w1, w2, w3⟩ := Cond.castable_spec (va_any (A' := args) rfl hF.2.2.2.2)
  cases hcls.symm.trans w1
  cases hcL.symm.trans w2
  obtain ⟨vm₁, X₁, hstep₁⟩ := X.invokeinterface hexec hown hlink hn hrm hstR (by rw [hr0cls]; exact hkL) hiL hx (a := b) (cell := cellB) (kcell := kB) hcell
    (fun z h => by rw [h] at hobj; cases hobj) hkB (by rw [hr0cls]; exact w3) hselP hmethM hway hpubM habM (g := g) hg (argsL := argsL) (rest := rest) (hlen _ hsigR) hstack hdg
  obtain ⟨v, B, X', hpost, hsteps⟩ := hK m meth c ⟨T.setVm vm₁, locs, cells, slots⟩ { g with stack := rest } (.invokeinterface index count) r0 (Value.ref b :: argsL).toArray X₁ hg hsize hdg hW (X₁.named hnamed) (hpre vm₁ X₁.warmed)
  exact ⟨v, vm₁, B, X₁.warmed, X', hpost, fun target h => hstep₁ _ fun acts => by rw [doInvoke_state]; exact hsteps.trans h⟩
theorem u_callFD (X : u_X own D A d p s m c cc nL args) (hl : ls.size = nL) (I : u_I D A s.heap u H locs cells) (hA : ∀ q, s.heap.size ≤ q → A q) {bytes : ByteArray} {maxL index fr lo : Nat} {ret : Option FieldType} {As : List Value} {b count : Nat} (hM : u_M l g_but (ws_ g_but bytes maxL ret) fr lo C1 D d u (.ref b :: As) res u') (hz : u'.2 = u.2 + C1.1) {C : String} {T : u_T} {N ci : Nat} {fs : List Value} (hb : u_get u.1 b = some (.inr (ci, fs))) (hc : gCl[ci]? = some (C, T, N)) (n : Nat) (i j : Nat) (hi : g_fw[i]? = some (C, g_but, g_but)) (hj : g_ld[j]? = some C) (h1 : Cond.methodLink own index g_but ∈ lw_all) (h4 : Cond.instanceMethod g_but ∈ lw_all) (h6 : Cond.initialized g_but.cls ∈ lw_all) (h5 : Cond.code g_but bytes maxL ret ∈ lw_all) (hd : g_but.cls ≠ "java/lang/invoke/MethodHandle" ∧ g_but.cls ≠ "java/lang/invoke/VarHandle" ∧ (parseMethodDescriptor g_but.desc).map (fun d => d.parameters.length) = some n) (hn : As.length = n) (hst : st0 = As.reverse ++ .ref b :: rest) (hR : fr + 1 ≤ R.frames ∧ 8 + (maxL + 11) + lo ≤ R.locals) (hC : u_left R cells slots (u_add (u_add C1 C2) cr)) {stk : List Value} (hsk : res.toList ++ rest = stk) (hrest : (rest.map fun v => v.category).sum ≤ 8) (hdg : decode cc pc = .ok (.invokeinterface index count, 5)) (kk : ∀ (H : Heap) (locs : List Loc) (cells slots : Nat), u_left R cells slots (u_add C2 cr) → u_I D A s.heap u' H locs cells → W p l e R s m args below meth c H locs cells slots Q (F0 m (pc + 5) ls stk)) : W p l e R s m args below meth c H locs cells slots Q (F0 m pc ls st0) := by
  subst hst
  subst hsk
  have hf := u_leftL hC
  have hp := u_preV X I hA (av := As) hb hc
  have hws : ∀ w ∈ ws_ g_but bytes maxL ret, ∀ (a' : Array Value) (U : State), s.WarmedH U.vm → w.before a' U = true := pay_in X.2.2.1 (lw_meth h5)
  have hini : (Cond.initialized g_but.cls).before args s = true := X.2.2.1 _ h6
  have hK : Back l R p e below s args g_but 5 8 (PreOf R C1.1 C1.2 (u_Pc D d u (.ref b :: As))) (PostOf (u_Q D d (va_A u.1 u.2) res u') C1.1 C1.2 (va_A u.1 u.2)) := back_of (bytes := bytes) (maxL := maxL) (ret := ret) hM hp.1 rfl rfl hR.1 hR.2 hws List.mem_cons_self (fun a' U hW => word_at hW (Or.inl rfl) hini)
  obtain ⟨hx, hbb, hml, ho, -⟩ := u_fx X
  obtain ⟨-, ⟨cellB, hcB, hoB, hclB⟩, hPc⟩ := hp
  obtain ⟨hfc, kB, hkB, -⟩ := (X.2.2.2.2.1.1 ci _ hc).2
  rw [Option.some.inj (hfc.symm.trans hclB)] at hkB
  refine u_go5 (d := d) (a := (Value.ref b :: As).toArray) (fun T hT XS => ?_) I hA hz (fun H1 locs1 I1 => kk H1 locs1 _ _ (u_left1 hC) I1)
  obtain ⟨v, vm₁, ⟨U', l2, c2, s2⟩, hW₁, X', ⟨g', mk, t, L, e1, e2, hq, h1', hL, h2', h3'⟩, st⟩ := u_iFD XS hx (C := C) (bytes := bytes) (maxL := maxL) (ret := ret) ho (X.2.2.1 _ h1) (X.2.2.2.2.2.2.2.2.2.2.2.2.2.2.2.2.2.2.2.1 _ (List.mem_of_getElem? hi)) (X.2.2.2.2.2.2.2.2.2.2.2.2.2.2.2.2.2.2.2.2.2.2.2 _ (List.mem_of_getElem? hj)) (X.2.2.1 _ h4) ⟨hd.1, hd.2.1⟩ hK (by rw [hT]; exact hcB) hoB hclB hkB rfl (hl.trans hml.symm) (argsL := As) (rest := rest) (fun sig h => by
      have h2 := hd.2.2
      rw [h] at h2
      exact hn.trans (Option.some.inj h2).symm) rfl (lv_room hrest) (by rw [hbb]; exact hdg)
    (fun vm₁ hW₁ => ⟨hf.1, hf.2, hPc (T.setVm vm₁) hT hW₁⟩)
  dsimp only [Pt.U, Pt.locs, Pt.cells, Pt.slots] at X' e1 e2 h1' h2' h3' st
  subst h1'; subst h2'; subst h3'
  exact ⟨v, (T.setVm vm₁).calling g' mk (Value.ref b :: As).toArray, t, U', L, hT, X', hL, e1, e2, hq, st⟩
end UR6
