set_option maxRecDepth 100000
/-! Methods that may throw (a Wrong), over the map world -/
def u_QX (D : va_G) (d : UD) (A : Nat → Prop) (o : Option Value ⊕ Nat) (u : UM) : Array Value → State → Outcome → State → Prop := fun a st oc t => match o with
  | .inl res => u_Q D d A res u a st oc t
  | .inr _ => False
def u_XC (D : va_G) (d : UD) (A : Nat → Prop) (o : Option Value ⊕ Nat) (u : UM) : String → Addr → State → State → Prop := fun E q st t => match o with
  | .inl _ => False
  | .inr a => E = "SwapPress$Wrong" ∧ q = a ∧ (∃ fs, u_get u.1 a = some (.inr (5, fs))) ∧ u_B D d A u t ∧ va_F A st t
/-- the contract: it answers (inl), or throws the object at a place (inr) -/
def u_MX (l : Launch) (y : MethodName) (ws : List Cond) (fr lo : Nat) (C : UC) (D : va_G) (d : UD) (u : UM) (av : List Value) (o : Option Value ⊕ Nat) (u' : UM) : Prop := vx_Met l y ws (u_rm fr lo C) (u_Pc D d u av) (u_QX D d (va_A u.1 u.2) o u') (u_XC D d (va_A u.1 u.2) o u') C.1 C.2 (va_A u.1 u.2)
/-- a call that makes something and may throw -/
def u_bx {α β : Type} (z : Nat) (x : Option (((α ⊕ Nat) × UM) × UC)) (k : α → UM → Option (β × UC)) (th : Nat → UM → Option (β × UC)) : Option (β × UC) := match x with
  | some ((.inl a, u), c) => m_g (decide (u.2 = z + c.1)) (u_ac c (k a u))
  | some ((.inr q, u), c) => m_g (decide (u.2 = z + c.1)) (u_ac c (th q u))
  | none => none
theorem u_bxS {α β : Type} {z : Nat} {x : Option (((α ⊕ Nat) × UM) × UC)} {k : α → UM → Option (β × UC)} {th : Nat → UM → Option (β × UC)} {b : β} {C : UC} (h : u_bx z x k th = some (b, C)) : (∃ a u c e, x = some ((.inl a, u), c) ∧ u.2 = z + c.1 ∧ k a u = some (b, e) ∧ C = u_add c e) ∨ (∃ q u c e, x = some ((.inr q, u), c) ∧ u.2 = z + c.1 ∧ th q u = some (b, e) ∧ C = u_add c e) := by
  cases x with
  | none => cases h
  | some w =>
    obtain ⟨⟨a | q, u⟩, c⟩ := w
    · obtain ⟨h1, h2⟩ := m_gS h
      obtain ⟨e, h3, h4⟩ := u_acS h2
      exact Or.inl ⟨a, u, c, e, rfl, of_decide_eq_true h1, h3, h4⟩
    · obtain ⟨h1, h2⟩ := m_gS h
      obtain ⟨e, h3, h4⟩ := u_acS h2
      exact Or.inr ⟨q, u, c, e, rfl, of_decide_eq_true h1, h3, h4⟩
section UX
variable {p : Program} {l : Launch} {e : Env} {R : Room} {s : State} {m : MethodId} {args : Array Value} {below : List Frame} {meth : Method} {c : Code} {H H0 : Heap} {locs : List Loc} {cells slots : Nat} {Q : State → Prop} {pc : Nat} {ls : Array Slot} {rest st0 : List Value} {cc : ByteArray} {nL : Nat} {own : String} {D : va_G} {A : Nat → Prop} {d : UD} {u u' u0 : UM} {a : Array Value} {res : Option Value} {o : Option Value ⊕ Nat} {C C1 C2 cr : UC}
theorem u_goX1 (hr : vx_Run p l e R s m args below meth c H locs cells slots C1.1 C1.2 (F0 m pc ls st0) rest (u_QX D d (va_A u.1 u.2) (.inl res) u' a) (u_XC D d (va_A u.1 u.2) (.inl res) u') (va_A u.1 u.2)) (I : u_I D A s.heap u H locs cells) (hA : ∀ q, s.heap.size ≤ q → A q) (hz : u'.2 = u.2 + C1.1)
    (kk : ∀ (H : Heap) (locs : List Loc), u_I D A s.heap u' H locs (cells + C1.1) → W p l e R s m args below meth c H locs (cells + C1.1) (slots + C1.2) Q (F0 m (pc + 3) ls (res.toList ++ rest))) : W p l e R s m args below meth c H locs cells slots Q (F0 m pc ls st0) := by
  intro T hT X
  rcases hr T hT X with ⟨v, st₀, t, T', L, h0, X', hL, e1, e2, ⟨⟨hv, hb⟩, hz1, hk⟩, st⟩ | ⟨q, st₀, t, T', L, E, ce, h0, X', hL, e1, e2, hx, -⟩
  · cases hv
    rw [h0] at hz1 hk
    have hin := u_inA I hA
    have hS := I.2.2.1
    obtain ⟨t2, a1, b1⟩ := kk T'.heap (locs ++ L) ⟨by rw [e1]; exact hb.2.1, u_D hb.2.2.2 hin, ⟨Nat.le_trans hS.1 (by rw [e1]; exact hz1), fun q h1 h2 => by rw [e1, hk q (Nat.lt_of_lt_of_le h1 hS.1) (fun z => h2 (hin q z))]; exact hS.2.1 q h1 h2, fun q hq => by
        rcases List.mem_append.mp hq with h | h
        · exact hS.2.2 q h
        · exact hin _ (hL q h)⟩, by rw [e1]; exact hb.1, by rw [hz]; have := I.2.2.2.2; omega⟩ T' rfl X'
    exact ⟨t2, st t2 a1, b1⟩
  · exact hx.elim
theorem u_goX0 {q0 : Nat} (hr : vx_Run p l e R s m args below meth c H locs cells slots C1.1 C1.2 (F0 m pc ls st0) rest (u_QX D d (va_A u.1 u.2) (.inr q0) u' a) (u_XC D d (va_A u.1 u.2) (.inr q0) u') (va_A u.1 u.2)) (I : u_I D A s.heap u H locs cells) (hA : ∀ q, s.heap.size ≤ q → A q) (hz : u'.2 = u.2 + C1.1)
    (kk : ∀ (H : Heap) (locs : List Loc), (∃ fs, u_get u'.1 q0 = some (.inr (5, fs))) → u_I D A s.heap u' H locs (cells + C1.1) → vx_W p l e R s m args below meth c H locs (cells + C1.1) (slots + C1.2) Q (F0 m pc ls rest) q0) : W p l e R s m args below meth c H locs cells slots Q (F0 m pc ls st0) := by
  intro T hT X
  rcases hr T hT X with ⟨v, st₀, t, T', L, h0, X', hL, e1, e2, hx, st⟩ | ⟨q, st₀, t, T', L, E, ce, h0, X', hL, e1, e2, ⟨-, rfl, hfs, hb, hz1, hk⟩, -, -, -, st⟩
  · exact hx.elim
  · rw [h0] at hz1 hk
    have hin := u_inA I hA
    have hS := I.2.2.1
    obtain ⟨t2, a1, b1⟩ := kk T'.heap (locs ++ L) hfs ⟨by rw [e1]; exact hb.2.1, u_D hb.2.2.2 hin, ⟨Nat.le_trans hS.1 (by rw [e1]; exact hz1), fun q h1 h2 => by rw [e1, hk q (Nat.lt_of_lt_of_le h1 hS.1) (fun z => h2 (hin q z))]; exact hS.2.1 q h1 h2, fun q hq => by
        rcases List.mem_append.mp hq with h | h
        · exact hS.2.2 q h
        · exact hin _ (hL q h)⟩, by rw [e1]; exact hb.1, by rw [hz]; have := I.2.2.2.2; omega⟩ T' rfl X'
    exact ⟨t2, st.trans a1, b1⟩
theorem u_callX1 (X : u_X own D A d p s m c cc nL args) (hl : ls.size = nL) (I : u_I D A s.heap u H locs cells) (hA : ∀ q, s.heap.size ≤ q → A q) {y : MethodName} {bytes : ByteArray} {maxL index fr lo : Nat} {ret : Option FieldType} {As : List Value} {C : String} {T : u_T} {N ci b : Nat} {fs : List Value} (hM : u_MX l y (ws_ y bytes maxL ret) fr lo C1 D d u (.ref b :: As) (.inl res) u') (hz : u'.2 = u.2 + C1.1) (hb : u_get u.1 b = some (.inr (ci, fs))) (hc : gCl[ci]? = some (C, T, N)) (n : Nat) (h1 : Cond.methodLink own index y ∈ lw_all) (h2 : Cond.instanceMethod y ∈ lw_all) (h3 : Cond.selects C y y ∈ lw_all) (h4 : Cond.initialized C ∈ lw_all) (h5 : Cond.code y bytes maxL ret ∈ lw_all) (hd : y.cls = C ∧ y.cls ≠ "java/lang/invoke/MethodHandle" ∧ y.cls ≠ "java/lang/invoke/VarHandle" ∧ (parseMethodDescriptor y.desc).map (fun d => d.parameters.length) = some n) (hn : As.length = n) (hst : st0 = As.reverse ++ .ref b :: rest) (hR : fr + 1 ≤ R.frames ∧ 8 + (maxL + 11) + lo ≤ R.locals) (hC : u_left R cells slots (u_add (u_add C1 C2) cr)) {stk : List Value} (hsk : res.toList ++ rest = stk) (hrest : (rest.map fun v => v.category).sum ≤ 8) (hdg : decode cc pc = .ok (.invokevirtual index, 3)) (kk : ∀ (H : Heap) (locs : List Loc) (cells slots : Nat), u_left R cells slots (u_add C2 cr) → u_I D A s.heap u' H locs cells → W p l e R s m args below meth c H locs cells slots Q (F0 m (pc + 3) ls stk)) : W p l e R s m args below meth c H locs cells slots Q (F0 m pc ls st0) := by
  subst hst
  subst hsk
  exact u_goX1 (vx_runV (As := As) (rest := rest) (u_fx X) hM (cwV n X.2.2.1 (lw_V h1 h2 h3 h4 h5) rfl rfl rfl hd hR) (u_preV X I hA hb hc) rfl hn hl rfl (lv_room hrest) hdg (u_leftL hC)) I hA hz (fun H1 locs1 I1 => kk H1 locs1 _ _ (u_left1 hC) I1)
theorem u_callX0 (X : u_X own D A d p s m c cc nL args) (hl : ls.size = nL) (I : u_I D A s.heap u H locs cells) (hA : ∀ q, s.heap.size ≤ q → A q) {y : MethodName} {bytes : ByteArray} {maxL index fr lo q0 : Nat} {ret : Option FieldType} {As : List Value} {C : String} {T : u_T} {N ci b : Nat} {fs : List Value} (hM : u_MX l y (ws_ y bytes maxL ret) fr lo C1 D d u (.ref b :: As) (.inr q0) u') (hz : u'.2 = u.2 + C1.1) (hb : u_get u.1 b = some (.inr (ci, fs))) (hc : gCl[ci]? = some (C, T, N)) (n : Nat) (h1 : Cond.methodLink own index y ∈ lw_all) (h2 : Cond.instanceMethod y ∈ lw_all) (h3 : Cond.selects C y y ∈ lw_all) (h4 : Cond.initialized C ∈ lw_all) (h5 : Cond.code y bytes maxL ret ∈ lw_all) (hd : y.cls = C ∧ y.cls ≠ "java/lang/invoke/MethodHandle" ∧ y.cls ≠ "java/lang/invoke/VarHandle" ∧ (parseMethodDescriptor y.desc).map (fun d => d.parameters.length) = some n) (hn : As.length = n) (hst : st0 = As.reverse ++ .ref b :: rest) (hR : fr + 1 ≤ R.frames ∧ 8 + (maxL + 11) + lo ≤ R.locals) (hC : u_left R cells slots (u_add (u_add C1 C2) cr)) (hrest : (rest.map fun v => v.category).sum ≤ 8) (hdg : decode cc pc = .ok (.invokevirtual index, 3)) (kk : ∀ (H : Heap) (locs : List Loc) (cells slots : Nat), (∃ fs, u_get u'.1 q0 = some (.inr (5, fs))) → u_left R cells slots (u_add C2 cr) → u_I D A s.heap u' H locs cells → vx_W p l e R s m args below meth c H locs cells slots Q (F0 m pc ls rest) q0) : W p l e R s m args below meth c H locs cells slots Q (F0 m pc ls st0) := by
  subst hst
  exact u_goX0 (vx_runV (As := As) (rest := rest) (u_fx X) hM (cwV n X.2.2.1 (lw_V h1 h2 h3 h4 h5) rfl rfl rfl hd hR) (u_preV X I hA hb hc) rfl hn hl rfl (lv_room hrest) hdg (u_leftL hC)) I hA hz (fun H1 locs1 hfs I1 => kk H1 locs1 _ _ hfs (u_left1 hC) I1)
/-- a start -/
theorem u_startX {y : MethodName} {ret : Option FieldType} {fr lo : Nat} {av : List Value} {lvl : List (Nat × Value)} {C : UC} (hy : plainName y.cls = true) (hc : y.cls = own) (hlen : (lg_sl av).length ≤ nL) (hlv : lv_args 0 av = lvl) (body : ∀ (p : Program) (e : Env) (s : State) (m : MethodId) (args : Array Value) (below : List Frame) (meth : Method) (c : Code) (ls : Array Slot), u_X own D (va_A u.1 u.2) d p s m c cc nL args → meth.sig.returnType = ret → meth.locks = false → (∀ x ∈ c.exceptionTable.toList, False) → lv_has ls nL lvl → (∀ q, s.heap.size ≤ q → va_A u.1 u.2 q) → u_I D (va_A u.1 u.2) s.heap u s.heap [] 0 → u_left (u_rm fr lo C) 0 0 (u_add C (0, 0)) → W p l e (u_rm fr lo C) s m args below meth c s.heap [] 0 0 (vx_MQ below (u_QX D d (va_A u.1 u.2) o u') (u_XC D d (va_A u.1 u.2) o u') args s C.1 C.2 (va_A u.1 u.2)) (F0 m 0 ls [])) : u_MX l y (ws_ y cc nL ret) fr lo C D d u av o u' := by
  refine vx_ofW (cc := cc) (maxL := nL) (ret := ret) hy rfl ?_
  intro p e s m args below meth c s₁ B hml htab hv
  obtain ⟨rfl, hsz, hP, hK, hD0, hE⟩ := hv
  have hts := atoms_spec (ws := ws_ y cc nL ret) B.pre
  have hts : ∀ w ∈ lw_all, w.before _ s = true := fun w h => hts w (List.mem_cons_of_mem _ h)
  have hown : s.vm.findClass own = some m.cls := by rw [← hc]; exact findClass_of_methodNamed B.named
  have hl := lv_entry av (n := nL) hlen
  rw [lg_entry_eq]
  rw [hlv] at hl
  refine body p e s m _ below meth c _ ⟨B.exec, B.bytes, hts, hown, hK, hml, hE⟩ B.returns B.notSynchronized htab hl (fun q h => Or.inr (by omega)) ⟨hP, ?_, va_S.rf, hsz, hsz.symm⟩ ?_
  · have h := hD0.self (sz := s.heap.size)
    rw [hsz] at h
    exact h
  · unfold u_left u_add u_rm; dsimp only; omega
/-- it leaves the method -/
theorem u_outX (X : u_X own D A d p s m c cc nL args) (I : u_I D (va_A u0.1 u0.2) s.heap u H locs cells) (hlk : meth.locks = false) (htab : ∀ x ∈ c.exceptionTable.toList, False) {q : Nat} (hq : ∃ fs, u_get u.1 q = some (.inr (5, fs))) (hC : cells = C.1 ∧ slots = C.2) : vx_W p l e R s m args below meth c H locs cells slots (vx_MQ below (u_QX D d (va_A u0.1 u0.2) (.inr q) u) (u_XC D d (va_A u0.1 u0.2) (.inr q) u) args s C.1 C.2 (va_A u0.1 u0.2)) (F0 m pc ls rest) q := by
  obtain ⟨fs, hg⟩ := hq
  obtain ⟨q1, e1, -⟩ := u_at hg
  obtain ⟨r, h1, cell, k1, k2, k3, -⟩ := I.1 q1 _ e1
  cases h1
  have hcl : s.vm.findClass "SwapPress$Wrong" = some cell.cls := by
    have h := (X.2.2.2.2.1.1 5 _ rfl).2.1
    rw [k2]; exact h
  exact vx_out (E := "SwapPress$Wrong") (ce := cell) (fun x hx => (htab x hx).elim) hlk k1 k3 hcl (fun t ht hv => ⟨rfl, rfl, ⟨fs, hg⟩, ⟨by rw [ht]; exact I.2.2.2.1, by rw [ht]; exact I.1, va_K.moved hv X.2.2.2.2.1, I.2.1⟩, I.2.2.1.F ht⟩) I.2.2.1.2.2 (Nat.le_of_eq hC.1) (Nat.le_of_eq hC.2)
end UX
def u_ov {α : Type} (f : α → Option Value) (r : α ⊕ Nat) : Option Value ⊕ Nat := match r with
  | .inl v => .inl (f v)
  | .inr q => .inr q
