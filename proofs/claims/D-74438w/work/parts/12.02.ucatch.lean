set_option maxRecDepth 100000
/-! A method with a handler -/
section UH
variable {p : Program} {l : Launch} {e : Env} {R : Room} {s : State} {m : MethodId} {args : Array Value} {below : List Frame} {meth : Method} {c : Code} {H H0 : Heap} {locs : List Loc} {cells slots : Nat} {Q : State → Prop} {pc : Nat} {ls : Array Slot} {rest st0 : List Value} {cc : ByteArray} {nL : Nat} {own : String} {D : va_G} {A : Nat → Prop} {d : UD} {u u' u0 : UM} {a : Array Value} {res : Option Value} {o : Option Value ⊕ Nat} {C C1 C2 cr : UC}
theorem u_startH {y : MethodName} {ret : Option FieldType} {fr lo : Nat} {av : List Value} {lvl : List (Nat × Value)} {C : UC} {hh : List (Nat × Nat × Nat × Nat)} (hy : plainName y.cls = true) (hc : y.cls = own) (hlen : (lg_sl av).length ≤ nL) (hlv : lv_args 0 av = lvl) (body : ∀ (p : Program) (e : Env) (s : State) (m : MethodId) (args : Array Value) (below : List Frame) (meth : Method) (c : Code) (ls : Array Slot), u_X own D (va_A u.1 u.2) d p s m c cc nL args → meth.sig.returnType = ret → meth.locks = false → c.exceptionTable.toList = tableOf hh → lv_has ls nL lvl → (∀ q, s.heap.size ≤ q → va_A u.1 u.2 q) → u_I D (va_A u.1 u.2) s.heap u s.heap [] 0 → u_left (u_rm fr lo C) 0 0 (u_add C (0, 0)) → W p l e (u_rm fr lo C) s m args below meth c s.heap [] 0 0 (vx_MQ below (u_QX D d (va_A u.1 u.2) o u') (u_XC D d (va_A u.1 u.2) o u') args s C.1 C.2 (va_A u.1 u.2)) (F0 m 0 ls [])) : u_MX l y (wsW_ y cc nL ret hh) fr lo C D d u av o u' := by
  refine vx_ofWH (cc := cc) (maxL := nL) (ret := ret) hy rfl ?_
  intro p e s m args below meth c s₁ B hml hv
  obtain ⟨rfl, hsz, hP, hK, hD0, hE⟩ := hv
  have hts := atoms_spec (ws := wsW_ y cc nL ret hh) B.pre
  have htab := vx_table (x := y) B (hts _ List.mem_cons_self)
  have hts : ∀ w ∈ lw_all, w.before _ s = true := fun w h => hts w (List.mem_cons_of_mem _ h)
  have hown : s.vm.findClass own = some m.cls := by rw [← hc]; exact findClass_of_methodNamed B.named
  have hl := lv_entry av (n := nL) hlen
  rw [lg_entry_eq]
  rw [hlv] at hl
  refine body p e s m _ below meth c _ ⟨B.exec, B.bytes, hts, hown, hK, hml, hE⟩ B.returns B.notSynchronized htab hl (fun q h => Or.inr (by omega)) ⟨hP, ?_, va_S.rf, hsz, hsz.symm⟩ ?_
  · have h := hD0.self (sz := s.heap.size)
    rw [hsz] at h
    exact h
  · unfold u_left u_add u_rm; dsimp only; omega
/-- a Wrong is caught -/
theorem u_catch (X : u_X own D A d p s m c cc nL args) (I : u_I D A s.heap u H locs cells) {q : Nat} (hq : ∃ fs, u_get u.1 q = some (.inr (5, fs))) {x : ExceptionTableEntry} (htab : c.exceptionTable.toList = [x]) (hx : covers x pc = true) (h0 : x.catchType ≠ 0) (hlink : Cond.classLink own x.catchType "SwapPress$Wrong" ∈ lw_all) (kk : W p l e R s m args below meth c H locs cells slots Q (F0 m x.handlerPc ls [.ref q])) : vx_W p l e R s m args below meth c H locs cells slots Q (F0 m pc ls rest) q := by
  obtain ⟨fs, hg⟩ := hq
  obtain ⟨q1, e1, -⟩ := u_at hg
  obtain ⟨r, h1, cell, k1, k2, k3, -⟩ := I.1 q1 _ e1
  cases h1
  have hcl : s.vm.findClass "SwapPress$Wrong" = some cell.cls := by
    have h := (X.2.2.2.2.1.1 5 _ rfl).2.1
    rw [k2]; exact h
  exact vx_catch (E := "SwapPress$Wrong") (name := "SwapPress$Wrong") X.2.2.2.1 [] x [] htab (fun z hz => by cases hz) hx h0 (X.2.2.1 _ hlink) ((X.2.2.2.2.2.2.2.2.2.2.2.2.2.2.2.2.2.1 ("SwapPress$Wrong", "SwapPress$Wrong") (by decide +kernel)).use rfl) k1 k3 hcl kk
end UH
