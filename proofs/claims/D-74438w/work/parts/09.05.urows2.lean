set_option maxRecDepth 100000
/-! references that aren't null, read at once -/
def u_fr (d : UD) (u : UM) (ci k a : Nat) : Option Nat := m_b (u_fq d u ci k a) (fun q => q)
def u_nr (u : UM) (ci k a : Nat) : Option Nat := m_b (u_nq u ci k a) (fun q => q)
def u_ldR (d : UD) (u : UM) (a : Nat) (i : Int32) : Option Nat := m_b (u_ldQ d u a i) (fun q => q)
theorem u_idS {x : Option (Option Nat)} {v : Nat} (h : m_b x (fun q => q) = some v) : x = some (some v) := by
  obtain ⟨q, h1, h2⟩ := m_bS h
  rw [h1, h2]
theorem u_cat (x : Option Nat) : (va_rf x).category = 1 := by cases x <;> rfl
/-- how two references are compared -/
def u_qb {β : Type} (x : Option Nat) (k0 : Option β) (k1 : Option β) : Option β := match x with
  | none => k0
  | some _ => k1
section UR2
variable {p : Program} {l : Launch} {e : Env} {R : Room} {s : State} {m : MethodId} {args : Array Value} {below : List Frame} {meth : Method} {c : Code} {H : Heap} {locs : List Loc} {cells slots : Nat} {Q : State → Prop} {pc : Nat} {ls : Array Slot} {rest st0 : List Value} {cc : ByteArray} {nL : Nat} {own : String} {D : va_G} {A : Nat → Prop} {d : UD} {u u' : UM} {C1 C2 cr : UC} {w : va_W} {res : Option Value}
theorem u_Gr (X : u_X own D A d p s m c cc nL args) (I : u_I D A s.heap u H locs cells) {ci k a v : Nat} (hm : u_fr d u ci k a = some v) {C ref : String} {T : u_T} {N : Nat} (hin : ∀ w ∈ u_ws C T N, w ∈ lw_all) (hc : gCl[ci]? = some (C, T, N)) (hk : k < N) {index : Nat} {nm ds : String} (e1 : (T k).2.1 = nm) (e2 : (T k).2.2.1 = ds) (hlink : Cond.fieldLink own index ref nm ds ∈ lw_all) (hsame : ∀ x, s.fieldFound? (T k).1 (T k).2.1 (T k).2.2.1 = some x → s.fieldFound? ref (T k).2.1 (T k).2.2.1 = some x) (hdg : decode cc pc = .ok (.getfield index, 3)) (kk : W p l e R s m args below meth c H locs cells slots Q (F0 m (pc + 3) ls (.ref v :: rest))) : W p l e R s m args below meth c H locs cells slots Q (F0 m pc ls (.ref a :: rest)) := u_Gq (v := some v) X I (u_idS hm) hin hc hk e1 e2 hlink hsame hdg kk
theorem u_GrN (X : u_X own D A d p s m c cc nL args) (I : u_I D A s.heap u H locs cells) {ci k a v : Nat} (hm : u_nr u ci k a = some v) {C ref host : String} {T : u_T} {N : Nat} (hin : ∀ w ∈ u_ws C T N, w ∈ lw_all) (hc : gCl[ci]? = some (C, T, N)) (hk : k < N) {index : Nat} {nm ds : String} (e1 : (T k).2.1 = nm) (e2 : (T k).2.2.1 = ds) (i : Nat) (hi : g_fn[i]? = some (own, index, ref, nm, ds, host)) (hsame : ∀ x, s.fieldFound? (T k).1 (T k).2.1 (T k).2.2.1 = some x → s.fieldFound? ref (T k).2.1 (T k).2.2.1 = some x) (hdg : decode cc pc = .ok (.getfield index, 3)) (kk : W p l e R s m args below meth c H locs cells slots Q (F0 m (pc + 3) ls (.ref v :: rest))) : W p l e R s m args below meth c H locs cells slots Q (F0 m pc ls (.ref a :: rest)) := u_GqN (v := some v) X I (u_idS hm) hin hc hk e1 e2 i hi hsame hdg kk
theorem u_LR (X : u_X own D A d p s m c cc nL args) (I : u_I D A s.heap u H locs cells) {a v : Nat} {i : Int32} (hm : u_ldR d u a i = some v) (hdg : decode cc pc = .ok (.aaload, 1)) (kk : W p l e R s m args below meth c H locs cells slots Q (F0 m (pc + 1) ls (.ref v :: rest))) : W p l e R s m args below meth c H locs cells slots Q (F0 m pc ls (.int i :: .ref a :: rest)) := u_LQ (v := some v) X I (u_idS hm) hdg kk
/-- nullable locals -/
theorem u_aldn (hx : p.tables.exec = Jvm.exec) (hb : c.code = cc) {k : Fin 4} {i : Nat} {x : Option Nat} (hdg : decode cc pc = .ok (.aload_n k, 1)) (hi : (k : Nat) = i) (hl : ls[i]? = some (.val (va_rf x))) (kk : W p l e R s m args below meth c H locs cells slots Q (F0 m (pc + 1) ls (va_rf x :: rest))) : W p l e R s m args below meth c H locs cells slots Q (F0 m pc ls rest) := by
  cases x with
  | none => exact lv_aload_nN hx hb hdg hi hl kk
  | some a => exact lv_aload_n hx hb hdg hi hl kk
theorem u_ald (hx : p.tables.exec = Jvm.exec) (hb : c.code = cc) {i : Nat} {x : Option Nat} (hdg : decode cc pc = .ok (.aload i, 2)) (hl : ls[i]? = some (.val (va_rf x))) (kk : W p l e R s m args below meth c H locs cells slots Q (F0 m (pc + 2) ls (va_rf x :: rest))) : W p l e R s m args below meth c H locs cells slots Q (F0 m pc ls rest) := by
  cases x with
  | none => exact lv_aloadN hx hb hdg hl kk
  | some a => exact lv_aload hx hb hdg hl kk
theorem u_astn (hx : p.tables.exec = Jvm.exec) (hb : c.code = cc) {k : Fin 4} {i nL : Nat} {x : Option Nat} {lv lv' : List (Nat × Value)} (hdg : decode cc pc = .ok (.astore_n k, 1)) (hi : (k : Nat) = i) (h : lv_has ls nL lv) (hn : i < nL) (hl : ∀ v : Value, (i, v) :: lv.filter (fun q => !(q.1 == i) && !(q.1 + 1 == i && q.2.category == 2)) = (i, v) :: lv') (kk : ∀ ls : Array Slot, lv_has ls nL ((i, va_rf x) :: lv') → W p l e R s m args below meth c H locs cells slots Q (F0 m (pc + 1) ls rest)) : W p l e R s m args below meth c H locs cells slots Q (F0 m pc ls (va_rf x :: rest)) := by
  cases x with
  | none => exact lv_astore_nN hx hb hdg hi h hn (hl .null) kk
  | some a => exact lv_astore_n hx hb hdg hi h hn (hl (.ref a)) kk
theorem u_ast (hx : p.tables.exec = Jvm.exec) (hb : c.code = cc) {i nL : Nat} {x : Option Nat} {lv lv' : List (Nat × Value)} (hdg : decode cc pc = .ok (.astore i, 2)) (h : lv_has ls nL lv) (hn : i < nL) (hl : ∀ v : Value, (i, v) :: lv.filter (fun q => !(q.1 == i) && !(q.1 + 1 == i && q.2.category == 2)) = (i, v) :: lv') (kk : ∀ ls : Array Slot, lv_has ls nL ((i, va_rf x) :: lv') → W p l e R s m args below meth c H locs cells slots Q (F0 m (pc + 2) ls rest)) : W p l e R s m args below meth c H locs cells slots Q (F0 m pc ls (va_rf x :: rest)) := by
  cases x with
  | none => exact lv_astoreN hx hb hdg h hn (hl .null) kk
  | some a => exact lv_astore hx hb hdg h hn (hl (.ref a)) kk
theorem u_ifnn (hx : p.tables.exec = Jvm.exec) (hb : c.code = cc) {x : Option Nat} {off : Int} {tgt : Nat} (hdg : decode cc pc = .ok (.ifnonnull off, 3)) (ht : (pc : Int) + off = (tgt : Int)) (k1 : ∀ a, x = some a → W p l e R s m args below meth c H locs cells slots Q (F0 m tgt ls rest)) (k0 : x = none → W p l e R s m args below meth c H locs cells slots Q (F0 m (pc + 3) ls rest)) : W p l e R s m args below meth c H locs cells slots Q (F0 m pc ls (va_rf x :: rest)) := by
  cases x with
  | none => exact lv_ifnonnullN hx hb hdg (k0 rfl)
  | some a => exact lv_ifnonnull hx hb hdg ht (k1 a rfl)
/-- an inherited method -/
theorem u_callU (X : u_X own D A d p s m c cc nL args) (hl : ls.size = nL) (I : u_I D A s.heap u H locs cells) (hA : ∀ q, s.heap.size ≤ q → A q) {x y : MethodName} {bytes : ByteArray} {maxL index fr lo : Nat} {ret : Option FieldType} {As : List Value} {C owner : String} {T : u_T} {N ci b : Nat} {fs : List Value} (hM : u_M l y (ws_ y bytes maxL ret) fr lo C1 D d u (.ref b :: As) res u') (hz : u'.2 = u.2 + C1.1) (hb : u_get u.1 b = some (.inr (ci, fs))) (hc : gCl[ci]? = some (C, T, N)) (n : Nat) (h1 : Cond.methodLink own index x ∈ lw_all) (h2 : Cond.sameMethod x.cls owner x.name x.desc ∈ lw_all) (h3 : Cond.selects C x y ∈ lw_all) (h4 : Cond.instanceMethod y ∈ lw_all) (h6 : Cond.initialized y.cls ∈ lw_all) (h5 : Cond.code y bytes maxL ret ∈ lw_all) (hyx : y = ⟨owner, x.name, x.desc⟩) (hd : owner ≠ "java/lang/invoke/MethodHandle" ∧ owner ≠ "java/lang/invoke/VarHandle" ∧ (parseMethodDescriptor x.desc).map (fun d => d.parameters.length) = some n) (hn : As.length = n) (hst : st0 = As.reverse ++ .ref b :: rest) (hR : fr + 1 ≤ R.frames ∧ 8 + (maxL + 11) + lo ≤ R.locals) (hC : u_left R cells slots (u_add (u_add C1 C2) cr)) {stk : List Value} (hsk : res.toList ++ rest = stk) (hrest : (rest.map fun v => v.category).sum ≤ 8) (hdg : decode cc pc = .ok (.invokevirtual index, 3)) (kk : ∀ (H : Heap) (locs : List Loc) (cells slots : Nat), u_left R cells slots (u_add C2 cr) → u_I D A s.heap u' H locs cells → W p l e R s m args below meth c H locs cells slots Q (F0 m (pc + 3) ls stk)) : W p l e R s m args below meth c H locs cells slots Q (F0 m pc ls st0) := by
  subst hst
  subst hsk
  have hG : GoodIn lw_all (va_wsU own index C owner x y (ws_ y bytes maxL ret)) := lw_app (fun w h => by
    simp only [List.mem_cons, List.not_mem_nil, or_false] at h
    rcases h with rfl | rfl | rfl | rfl | rfl
    · exact h1
    · exact h2
    · exact h3
    · exact h4
    · exact h6) (lw_meth h5)
  refine u_go (va_runU (As := As) (rest := rest) (u_fx X) hM (va_cwU n X.2.2.1 hG rfl rfl rfl hyx hd hR) (u_preV X I hA hb hc) rfl hn hl rfl (lv_room hrest) hdg (u_leftL hC)) I hA hz (fun H1 locs1 I1 => kk H1 locs1 _ _ (u_left1 hC) I1)
end UR2
