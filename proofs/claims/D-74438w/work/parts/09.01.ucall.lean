set_option maxRecDepth 100000
/-! Contracts over the map world -/
abbrev UC : Type := Nat × Nat
def u_add (a b : UC) : UC := (a.1 + b.1, a.2 + b.2)
/-- what is left of the room is just what is owed -/
def u_left (R : Room) (cells slots : Nat) (C : UC) : Prop := cells + C.1 = R.cells ∧ slots + C.2 = R.slots
theorem u_left0 {R : Room} {cells slots : Nat} {C : UC} (h : u_left R cells slots (u_add (0, 0) C)) : u_left R cells slots C := by
  unfold u_left u_add at *
  dsimp only at h
  omega
theorem u_left1 {R : Room} {cells slots : Nat} {a b C : UC} (h : u_left R cells slots (u_add (u_add a b) C)) : u_left R (cells + a.1) (slots + a.2) (u_add b C) := by
  unfold u_left u_add at *
  dsimp only at h ⊢
  omega
theorem u_left2 {R : Room} {cells slots : Nat} {a b C : UC} (h : u_left R cells slots (u_add (u_add a b) C)) : u_left R cells slots (u_add a (u_add b C)) := by
  unfold u_left u_add at *
  dsimp only at h ⊢
  omega
theorem u_leftL {R : Room} {cells slots : Nat} {a b C : UC} (h : u_left R cells slots (u_add (u_add a b) C)) : cells + a.1 ≤ R.cells ∧ slots + a.2 ≤ R.slots := by
  unfold u_left u_add at h
  dsimp only at h
  omega
theorem u_leftE {R : Room} {cells slots : Nat} (h : u_left R cells slots (u_add (0, 0) (0, 0))) : cells = R.cells ∧ slots = R.slots := by
  unfold u_left u_add at h
  dsimp only at h
  omega
def u_Pc (D : va_G) (d : UD) (u : UM) (av : List Value) : Array Value → State → Prop := va_Pc av (fun U => U.heap.size = u.2 ∧ va_P D gCl u.1 U.heap ∧ u_K D d.1 U ∧ va_D (fun _ => True) u.1 ∧ g_E d.2 (va_A u.1 u.2) U U.heap)
def u_B (D : va_G) (d : UD) (A : Nat → Prop) (u : UM) (t : State) : Prop := t.heap.size = u.2 ∧ va_P D gCl u.1 t.heap ∧ u_K D d.1 t ∧ va_D A u.1
def u_Q (D : va_G) (d : UD) (A : Nat → Prop) (res : Option Value) (u : UM) : Array Value → State → Outcome → State → Prop := fun _ st oc t => (oc = .returned res ∧ u_B D d A u t) ∧ va_F A st t
def u_rm (fr lo : Nat) (C : UC) : Room := { frames := fr, cells := C.1, slots := C.2, locals := lo }
/-- the contract: from the world u, with the values av, it answers res and leaves the world u', making C -/
def u_M (l : Launch) (y : MethodName) (ws : List Cond) (fr lo : Nat) (C : UC) (D : va_G) (d : UD) (u : UM) (av : List Value) (res : Option Value) (u' : UM) : Prop := Met l y ws (u_rm fr lo C) (u_Pc D d u av) (u_Q D d (va_A u.1 u.2) res u') C.1 C.2 (va_A u.1 u.2)
theorem u_blind {D : va_G} {d : UD} {u : UM} {av : List Value} : FrameBlind (u_Pc D d u av) := fun a U g mk q => by
  obtain ⟨q0, q1, qP, qK, qD, qE⟩ := q
  exact ⟨q0, q1, qP, va_K.moved (u := U) (U := U.calling g mk a) (Vm.Alike.refl U.vm) qK, qD, qE.calling⟩
theorem u_inA {D : va_G} {A : Nat → Prop} {H0 H : Heap} {u : UM} {locs : List Loc} {cells : Nat} (I : u_I D A H0 u H locs cells) (hA : ∀ q, H0.size ≤ q → A q) : ∀ q, va_A u.1 u.2 q → A q := fun q h => by
  rcases h with ⟨k, x, h⟩ | h
  · exact I.2.1.2 k (q, x) h
  · exact hA q (by have := I.2.2.1.1; have := I.2.2.2.1; omega)
theorem u_D {A A' : Nat → Prop} {w : va_W} (h : va_D A' w) (hAA : ∀ q, A' q → A q) : va_D A w := ⟨h.1, fun k q hk => hAA _ (h.2 k q hk)⟩
section UC
variable {p : Program} {l : Launch} {e : Env} {R : Room} {s : State} {m : MethodId} {args : Array Value} {below : List Frame} {meth : Method} {c : Code} {H H0 : Heap} {locs : List Loc} {cells slots : Nat} {Q : State → Prop} {pc : Nat} {ls : Array Slot} {rest st0 : List Value} {cc : ByteArray} {nL : Nat} {own : String} {D : va_G} {A : Nat → Prop} {d : UD} {u u' : UM} {a : Array Value} {res : Option Value} {C1 C2 cr : UC}
theorem u_go (hr : va_Run p l e R s m args below meth c H locs cells slots C1.1 C1.2 (F0 m pc ls st0) rest (u_Q D d (va_A u.1 u.2) res u' a) (va_A u.1 u.2)) (I : u_I D A s.heap u H locs cells) (hA : ∀ q, s.heap.size ≤ q → A q) (hz : u'.2 = u.2 + C1.1)
    (kk : ∀ (H : Heap) (locs : List Loc), u_I D A s.heap u' H locs (cells + C1.1) → W p l e R s m args below meth c H locs (cells + C1.1) (slots + C1.2) Q (F0 m (pc + 3) ls (res.toList ++ rest))) : W p l e R s m args below meth c H locs cells slots Q (F0 m pc ls st0) := by
  intro T hT X
  obtain ⟨v, st₀, t, T', L, h0, X', hL, e1, e2, ⟨⟨hv, hb⟩, hz1, hk⟩, st⟩ := hr T hT X
  cases hv
  rw [h0] at hz1 hk
  have hin := u_inA I hA
  have hS := I.2.2.1
  obtain ⟨t2, a1, b1⟩ := kk T'.heap (locs ++ L) ⟨by rw [e1]; exact hb.2.1, u_D hb.2.2.2 hin, ⟨Nat.le_trans hS.1 (by rw [e1]; exact hz1), fun q h1 h2 => by rw [e1, hk q (Nat.lt_of_lt_of_le h1 hS.1) (fun z => h2 (hin q z))]; exact hS.2.1 q h1 h2, fun q hq => by
      rcases List.mem_append.mp hq with h | h
      · exact hS.2.2 q h
      · exact hin _ (hL q h)⟩, by rw [e1]; exact hb.1, by rw [hz]; have := I.2.2.2.2; omega⟩ T' rfl X'
  exact ⟨t2, st t2 a1, b1⟩
theorem u_go5 (hr : va_Run5 p l e R s m args below meth c H locs cells slots C1.1 C1.2 (F0 m pc ls st0) rest (u_Q D d (va_A u.1 u.2) res u' a) (va_A u.1 u.2)) (I : u_I D A s.heap u H locs cells) (hA : ∀ q, s.heap.size ≤ q → A q) (hz : u'.2 = u.2 + C1.1)
    (kk : ∀ (H : Heap) (locs : List Loc), u_I D A s.heap u' H locs (cells + C1.1) → W p l e R s m args below meth c H locs (cells + C1.1) (slots + C1.2) Q (F0 m (pc + 5) ls (res.toList ++ rest))) : W p l e R s m args below meth c H locs cells slots Q (F0 m pc ls st0) := by
  intro T hT X
  obtain ⟨v, st₀, t, T', L, h0, X', hL, e1, e2, ⟨⟨hv, hb⟩, hz1, hk⟩, st⟩ := hr T hT X
  cases hv
  rw [h0] at hz1 hk
  have hin := u_inA I hA
  have hS := I.2.2.1
  obtain ⟨t2, a1, b1⟩ := kk T'.heap (locs ++ L) ⟨by rw [e1]; exact hb.2.1, u_D hb.2.2.2 hin, ⟨Nat.le_trans hS.1 (by rw [e1]; exact hz1), fun q h1 h2 => by rw [e1, hk q (Nat.lt_of_lt_of_le h1 hS.1) (fun z => h2 (hin q z))]; exact hS.2.1 q h1 h2, fun q hq => by
      rcases List.mem_append.mp hq with h | h
      · exact hS.2.2 q h
      · exact hin _ (hL q h)⟩, by rw [e1]; exact hb.1, by rw [hz]; have := I.2.2.2.2; omega⟩ T' rfl X'
  exact ⟨t2, st t2 a1, b1⟩
/-- at a call: what the callee asks of the start -/
theorem u_pc (X : u_X own D A d p s m c cc nL args) (I : u_I D A s.heap u H locs cells) (hA : ∀ q, s.heap.size ≤ q → A q) {av : List Value} (U : State) (hU : U.heap = H) (hW : s.WarmedH U.vm) : u_Pc D d u av av.toArray U :=
  ⟨rfl, by rw [hU]; exact I.2.2.2.1, by rw [hU]; exact I.1, va_K.moved hW.alike X.2.2.2.2.1, I.2.1.weaken (fun _ _ _ _ => trivial), X.2.2.2.2.2.2.go I.2.2.1 (u_inA I hA) hW hU⟩
theorem u_preS (X : u_X own D A d p s m c cc nL args) (I : u_I D A s.heap u H locs cells) (hA : ∀ q, s.heap.size ≤ q → A q) {av : List Value} : PreS s H (u_Pc D d u av) av := ⟨u_blind, fun U hU hW => u_pc X I hA U hU hW⟩
theorem u_preV (X : u_X own D A d p s m c cc nL args) (I : u_I D A s.heap u H locs cells) (hA : ∀ q, s.heap.size ≤ q → A q) {C : String} {T : u_T} {N ci b : Nat} {fs : List Value} {av : List Value} (hb : u_get u.1 b = some (.inr (ci, fs))) (hc : gCl[ci]? = some (C, T, N)) : PreV s H C b (u_Pc D d u (.ref b :: av)) av := by
  obtain ⟨q0, h1, -⟩ := u_at hb
  exact ⟨u_blind, va_recv X.2.2.2.2.1 I.1 hc h1, fun U hU hW => u_pc X I hA U hU hW⟩
theorem u_fx (X : u_X own D A d p s m c cc nL args) : CallFix p m c cc nL s args lw_all own := ⟨X.1, X.2.1, X.2.2.2.2.2.1, X.2.2.2.1, X.2.2.1⟩
/-- a method of the receiver's own class -/
theorem u_callV (X : u_X own D A d p s m c cc nL args) (hl : ls.size = nL) (I : u_I D A s.heap u H locs cells) (hA : ∀ q, s.heap.size ≤ q → A q) {y : MethodName} {bytes : ByteArray} {maxL index fr lo : Nat} {ret : Option FieldType} {As : List Value} {C : String} {T : u_T} {N ci b : Nat} {fs : List Value} (hM : u_M l y (ws_ y bytes maxL ret) fr lo C1 D d u (.ref b :: As) res u') (hz : u'.2 = u.2 + C1.1) (hb : u_get u.1 b = some (.inr (ci, fs))) (hc : gCl[ci]? = some (C, T, N)) (n : Nat) (h1 : Cond.methodLink own index y ∈ lw_all) (h2 : Cond.instanceMethod y ∈ lw_all) (h3 : Cond.selects C y y ∈ lw_all) (h4 : Cond.initialized C ∈ lw_all) (h5 : Cond.code y bytes maxL ret ∈ lw_all) (hd : y.cls = C ∧ y.cls ≠ "java/lang/invoke/MethodHandle" ∧ y.cls ≠ "java/lang/invoke/VarHandle" ∧ (parseMethodDescriptor y.desc).map (fun d => d.parameters.length) = some n) (hn : As.length = n) (hst : st0 = As.reverse ++ .ref b :: rest) (hR : fr + 1 ≤ R.frames ∧ 8 + (maxL + 11) + lo ≤ R.locals) (hC : u_left R cells slots (u_add (u_add C1 C2) cr)) {stk : List Value} (hsk : res.toList ++ rest = stk) (hrest : (rest.map fun v => v.category).sum ≤ 8) (hdg : decode cc pc = .ok (.invokevirtual index, 3)) (kk : ∀ (H : Heap) (locs : List Loc) (cells slots : Nat), u_left R cells slots (u_add C2 cr) → u_I D A s.heap u' H locs cells → W p l e R s m args below meth c H locs cells slots Q (F0 m (pc + 3) ls stk)) : W p l e R s m args below meth c H locs cells slots Q (F0 m pc ls st0) := by
  subst hst
  subst hsk
  refine u_go (va_runV (As := As) (rest := rest) (u_fx X) hM (cwV n X.2.2.1 (lw_V h1 h2 h3 h4 h5) rfl rfl rfl hd hR) (u_preV X I hA hb hc) rfl hn hl rfl (lv_room hrest) hdg (u_leftL hC)) I hA hz (fun H1 locs1 I1 => kk H1 locs1 _ _ (u_left1 hC) I1)
/-- a static method -/
theorem u_callS (X : u_X own D A d p s m c cc nL args) (hl : ls.size = nL) (I : u_I D A s.heap u H locs cells) (hA : ∀ q, s.heap.size ≤ q → A q) {y : MethodName} {bytes : ByteArray} {maxL index fr lo : Nat} {ret : Option FieldType} {As : List Value} (hM : u_M l y (ws_ y bytes maxL ret) fr lo C1 D d u As res u') (hz : u'.2 = u.2 + C1.1) (n : Nat) (h1 : Cond.methodLink own index y ∈ lw_all) (h2 : Cond.static y ∈ lw_all) (h4 : Cond.initialized y.cls ∈ lw_all) (h5 : Cond.code y bytes maxL ret ∈ lw_all) (hd : y.cls ≠ "java/lang/invoke/MethodHandle" ∧ y.cls ≠ "java/lang/invoke/VarHandle" ∧ (parseMethodDescriptor y.desc).map (fun d => d.parameters.length) = some n) (hn : As.length = n) (hst : st0 = As.reverse ++ rest) (hR : fr + 1 ≤ R.frames ∧ 8 + (maxL + 11) + lo ≤ R.locals) (hC : u_left R cells slots (u_add (u_add C1 C2) cr)) {stk : List Value} (hsk : res.toList ++ rest = stk) (hrest : (rest.map fun v => v.category).sum ≤ 8) (hdg : decode cc pc = .ok (.invokestatic index, 3)) (kk : ∀ (H : Heap) (locs : List Loc) (cells slots : Nat), u_left R cells slots (u_add C2 cr) → u_I D A s.heap u' H locs cells → W p l e R s m args below meth c H locs cells slots Q (F0 m (pc + 3) ls stk)) : W p l e R s m args below meth c H locs cells slots Q (F0 m pc ls st0) := by
  subst hst
  subst hsk
  refine u_go (va_runS (As := As) (rest := rest) (u_fx X) hM (va_cwS n X.2.2.1 (lw_S h1 h2 h4 h5) rfl rfl rfl hd hR) (u_preS X I hA) rfl hn hl rfl (lv_room hrest) hdg (u_leftL hC)) I hA hz (fun H1 locs1 I1 => kk H1 locs1 _ _ (u_left1 hC) I1)
/-- a constructor -/
theorem u_callI (X : u_X own D A d p s m c cc nL args) (hl : ls.size = nL) (I : u_I D A s.heap u H locs cells) (hA : ∀ q, s.heap.size ≤ q → A q) {y : MethodName} {bytes : ByteArray} {maxL index fr lo b : Nat} {As : List Value} (hM : u_M l y (ws_ y bytes maxL none) fr lo C1 D d u (.ref b :: As) none u') (hz : u'.2 = u.2 + C1.1) (n : Nat) (h1 : Cond.methodLink own index y ∈ lw_all) (h2 : Cond.instanceMethod y ∈ lw_all) (h4 : Cond.initialized y.cls ∈ lw_all) (h5 : Cond.code y bytes maxL none ∈ lw_all) (hy : y.name = "<init>") (hd : y.cls ≠ "java/lang/invoke/MethodHandle" ∧ y.cls ≠ "java/lang/invoke/VarHandle" ∧ (parseMethodDescriptor y.desc).map (fun d => d.parameters.length) = some n) (hn : As.length = n) (hst : st0 = As.reverse ++ .ref b :: rest) (hR : fr + 1 ≤ R.frames ∧ 8 + (maxL + 11) + lo ≤ R.locals) (hC : u_left R cells slots (u_add (u_add C1 C2) cr)) (hrest : (rest.map fun v => v.category).sum ≤ 8) (hdg : decode cc pc = .ok (.invokespecial index, 3)) (kk : ∀ (H : Heap) (locs : List Loc) (cells slots : Nat), u_left R cells slots (u_add C2 cr) → u_I D A s.heap u' H locs cells → W p l e R s m args below meth c H locs cells slots Q (F0 m (pc + 3) ls rest)) : W p l e R s m args below meth c H locs cells slots Q (F0 m pc ls st0) := by
  subst hst
  refine u_go (va_runI (As := As) (rest := rest) (u_fx X) hM (cwI n X.2.2.1 (lw_meth h5) rfl rfl rfl (X.2.2.1 _ h4) (X.2.2.1 _ h1) (X.2.2.1 _ h2) hy hd hR) (u_preS X I hA) rfl hn hl rfl (lv_room hrest) hdg (u_leftL hC)) I hA hz (fun H1 locs1 I1 => kk H1 locs1 _ _ (u_left1 hC) I1)
/-- a start -/
theorem u_start {y : MethodName} {ret : Option FieldType} {fr lo : Nat} {av : List Value} {lvl : List (Nat × Value)} {C : UC} (hy : plainName y.cls = true) (hc : y.cls = own) (hlen : (lg_sl av).length ≤ nL) (hlv : lv_args 0 av = lvl) (body : ∀ (p : Program) (e : Env) (s : State) (m : MethodId) (args : Array Value) (below : List Frame) (meth : Method) (c : Code) (ls : Array Slot), u_X own D (va_A u.1 u.2) d p s m c cc nL args → meth.sig.returnType = ret → meth.locks = false → meth.name = y.name → lv_has ls nL lvl → (∀ q, s.heap.size ≤ q → va_A u.1 u.2 q) → u_I D (va_A u.1 u.2) s.heap u s.heap [] 0 → u_left (u_rm fr lo C) 0 0 (u_add C (0, 0)) → W p l e (u_rm fr lo C) s m args below meth c s.heap [] 0 0 (MQ below (u_Q D d (va_A u.1 u.2) res u') args s C.1 C.2 (va_A u.1 u.2)) (F0 m 0 ls [])) : u_M l y (ws_ y cc nL ret) fr lo C D d u av res u' := by
  refine Met.ofW (cc := cc) (maxL := nL) (ret := ret) hy rfl ?_
  intro p e s m args below meth c s₁ B hml hv
  obtain ⟨rfl, hsz, hP, hK, hD0, hE⟩ := hv
  have hts := atoms_spec (ws := ws_ y cc nL ret) B.pre
  have hts : ∀ w ∈ lw_all, w.before _ s = true := fun w h => hts w (List.mem_cons_of_mem _ h)
  have hown : s.vm.findClass own = some m.cls := by rw [← hc]; exact findClass_of_methodNamed B.named
  have hl := lv_entry av (n := nL) hlen
  rw [lg_entry_eq]
  rw [hlv] at hl
  refine body p e s m _ below meth c _ ⟨B.exec, B.bytes, hts, hown, hK, hml, hE⟩ B.returns B.notSynchronized ?_ hl (fun q h => Or.inr (by omega)) ⟨hP, ?_, va_S.rf, hsz, hsz.symm⟩ ?_
  · exact (name_of_methodNamed B.named B.method).1
  · have h := hD0.self (sz := s.heap.size)
    rw [hsz] at h
    exact h
  · unfold u_left u_add u_rm; dsimp only; omega
end UC
