set_option maxRecDepth 100000
/-! Rows, by the mirrors' words -/
def u_ldI (d : UD) (u : UM) (a : Nat) (i : Int32) : Option Int32 := m_b (u_arI d u 0 a) (fun q => u_ld q i)
def u_ldL (d : UD) (u : UM) (a : Nat) (i : Int32) : Option Int64 := m_b (u_arL d u a) (fun q => u_ld q i)
def u_ldQ (d : UD) (u : UM) (a : Nat) (i : Int32) : Option (Option Nat) := m_b (u_arQ d u a) (fun q => u_ld q i)
/-- an element that a list may have: a state, a trade, a text -/
def u_el (u : UM) (a : Nat) : Bool := match u_get u.1 a with
  | some (.inr (ci, _)) => ci == 2 || ci == 6 || ci == 15
  | _ => false
theorem u_elS {u : UM} {a : Nat} (h : u_el u a = true) : ∃ ci fs, u_get u.1 a = some (.inr (ci, fs)) ∧ (ci = 2 ∨ ci = 6 ∨ ci = 15) := by
  unfold u_el at h
  split at h
  · rename_i ci fs he
    refine ⟨ci, fs, he, ?_⟩
    simpa [or_assoc] using h
  · cases h
section UR
variable {p : Program} {l : Launch} {e : Env} {R : Room} {s : State} {m : MethodId} {args : Array Value} {below : List Frame} {meth : Method} {c : Code} {H : Heap} {locs : List Loc} {cells slots : Nat} {Q : State → Prop} {pc : Nat} {ls : Array Slot} {rest : List Value} {cc : ByteArray} {nL : Nat} {own : String} {D : va_G} {A : Nat → Prop} {d : UD} {u u' : UM} {C2 cr : UC} {w : va_W}
theorem u_Gi (X : u_X own D A d p s m c cc nL args) (I : u_I D A s.heap u H locs cells) {ci k a : Nat} {v : Int32} (hm : u_fi d u ci k a = some v) {C ref : String} {T : u_T} {N : Nat} (hin : ∀ w ∈ u_ws C T N, w ∈ lw_all) (hc : gCl[ci]? = some (C, T, N)) (hk : k < N) {index : Nat} {nm ds : String} (e1 : (T k).2.1 = nm) (e2 : (T k).2.2.1 = ds) (hlink : Cond.fieldLink own index ref nm ds ∈ lw_all) (hsame : ∀ x, s.fieldFound? (T k).1 (T k).2.1 (T k).2.2.1 = some x → s.fieldFound? ref (T k).2.1 (T k).2.2.1 = some x) (hdg : decode cc pc = .ok (.getfield index, 3)) (kk : W p l e R s m args below meth c H locs cells slots Q (F0 m (pc + 3) ls (.int v :: rest))) : W p l e R s m args below meth c H locs cells slots Q (F0 m pc ls (.ref a :: rest)) := by
  obtain ⟨fs, h1, h2⟩ := u_fiS hm
  exact u_getf X I ci k hin h1 hc hk e1 e2 (X.2.2.1 _ hlink) hsame h2 hdg kk
theorem u_Gl (X : u_X own D A d p s m c cc nL args) (I : u_I D A s.heap u H locs cells) {ci k a : Nat} {v : Int64} (hm : u_fl d u ci k a = some v) {C ref : String} {T : u_T} {N : Nat} (hin : ∀ w ∈ u_ws C T N, w ∈ lw_all) (hc : gCl[ci]? = some (C, T, N)) (hk : k < N) {index : Nat} {nm ds : String} (e1 : (T k).2.1 = nm) (e2 : (T k).2.2.1 = ds) (hlink : Cond.fieldLink own index ref nm ds ∈ lw_all) (hsame : ∀ x, s.fieldFound? (T k).1 (T k).2.1 (T k).2.2.1 = some x → s.fieldFound? ref (T k).2.1 (T k).2.2.1 = some x) (hdg : decode cc pc = .ok (.getfield index, 3)) (kk : W p l e R s m args below meth c H locs cells slots Q (F0 m (pc + 3) ls (.long v :: rest))) : W p l e R s m args below meth c H locs cells slots Q (F0 m pc ls (.ref a :: rest)) := by
  obtain ⟨fs, h1, h2⟩ := u_flS hm
  exact u_getf X I ci k hin h1 hc hk e1 e2 (X.2.2.1 _ hlink) hsame h2 hdg kk
theorem u_Gq (X : u_X own D A d p s m c cc nL args) (I : u_I D A s.heap u H locs cells) {ci k a : Nat} {v : Option Nat} (hm : u_fq d u ci k a = some v) {C ref : String} {T : u_T} {N : Nat} (hin : ∀ w ∈ u_ws C T N, w ∈ lw_all) (hc : gCl[ci]? = some (C, T, N)) (hk : k < N) {index : Nat} {nm ds : String} (e1 : (T k).2.1 = nm) (e2 : (T k).2.2.1 = ds) (hlink : Cond.fieldLink own index ref nm ds ∈ lw_all) (hsame : ∀ x, s.fieldFound? (T k).1 (T k).2.1 (T k).2.2.1 = some x → s.fieldFound? ref (T k).2.1 (T k).2.2.1 = some x) (hdg : decode cc pc = .ok (.getfield index, 3)) (kk : W p l e R s m args below meth c H locs cells slots Q (F0 m (pc + 3) ls (va_rf v :: rest))) : W p l e R s m args below meth c H locs cells slots Q (F0 m pc ls (.ref a :: rest)) := by
  obtain ⟨fs, h1, h2⟩ := u_fqS hm
  exact u_getf X I ci k hin h1 hc hk e1 e2 (X.2.2.1 _ hlink) hsame h2 hdg kk
theorem u_nlink (X : u_X own D A d p s m c cc nL args) (i : Nat) {own2 ref nm ds host : String} {index : Nat} (hi : g_fn[i]? = some (own2, index, ref, nm, ds, host)) : (Cond.fieldLinkNest own2 index ref nm ds host).before args s = true := ((X.2.2.2.2.2.2.2.2.2.2.2.2.2.2.2.1 _ (List.mem_of_getElem? hi))).use rfl
theorem u_GiN (X : u_X own D A d p s m c cc nL args) (I : u_I D A s.heap u H locs cells) {ci k a : Nat} {v : Int32} (hm : u_ni u ci k a = some v) {C ref host : String} {T : u_T} {N : Nat} (hin : ∀ w ∈ u_ws C T N, w ∈ lw_all) (hc : gCl[ci]? = some (C, T, N)) (hk : k < N) {index : Nat} {nm ds : String} (e1 : (T k).2.1 = nm) (e2 : (T k).2.2.1 = ds) (i : Nat) (hi : g_fn[i]? = some (own, index, ref, nm, ds, host)) (hsame : ∀ x, s.fieldFound? (T k).1 (T k).2.1 (T k).2.2.1 = some x → s.fieldFound? ref (T k).2.1 (T k).2.2.1 = some x) (hdg : decode cc pc = .ok (.getfield index, 3)) (kk : W p l e R s m args below meth c H locs cells slots Q (F0 m (pc + 3) ls (.int v :: rest))) : W p l e R s m args below meth c H locs cells slots Q (F0 m pc ls (.ref a :: rest)) := by
  obtain ⟨fs, h1, h2⟩ := u_niS hm
  exact u_getfN X I ci k hin h1 hc hk e1 e2 (u_nlink X i hi) hsame h2 hdg kk
theorem u_GqN (X : u_X own D A d p s m c cc nL args) (I : u_I D A s.heap u H locs cells) {ci k a : Nat} {v : Option Nat} (hm : u_nq u ci k a = some v) {C ref host : String} {T : u_T} {N : Nat} (hin : ∀ w ∈ u_ws C T N, w ∈ lw_all) (hc : gCl[ci]? = some (C, T, N)) (hk : k < N) {index : Nat} {nm ds : String} (e1 : (T k).2.1 = nm) (e2 : (T k).2.2.1 = ds) (i : Nat) (hi : g_fn[i]? = some (own, index, ref, nm, ds, host)) (hsame : ∀ x, s.fieldFound? (T k).1 (T k).2.1 (T k).2.2.1 = some x → s.fieldFound? ref (T k).2.1 (T k).2.2.1 = some x) (hdg : decode cc pc = .ok (.getfield index, 3)) (kk : W p l e R s m args below meth c H locs cells slots Q (F0 m (pc + 3) ls (va_rf v :: rest))) : W p l e R s m args below meth c H locs cells slots Q (F0 m pc ls (.ref a :: rest)) := by
  obtain ⟨fs, h1, h2⟩ := u_nqS hm
  exact u_getfN X I ci k hin h1 hc hk e1 e2 (u_nlink X i hi) hsame h2 hdg kk
theorem u_P (X : u_X own D A d p s m c cc nL args) (I : u_I D A s.heap u H locs cells) {ci k a : Nat} {v : Value} (hm : u_pf u ci k a v = some w) {C ref : String} {T : u_T} {N : Nat} (hin : ∀ w ∈ u_ws C T N, w ∈ lw_all) (ty0 : Nat → FieldType) (hty : ∀ k, k < N → parseFieldDescriptor (T k).2.2.1 = some (ty0 k)) (hnm : ∀ a, a < N → ∀ b, b < N → a ≠ b → (T a).2.1 ≠ (T b).2.1) (hc : gCl[ci]? = some (C, T, N)) (hk : k < N) {index : Nat} {nm ds : String} (e1 : (T k).2.1 = nm) (e2 : (T k).2.2.1 = ds) (hlink : Cond.fieldLink own index ref nm ds ∈ lw_all) (hsame : ∀ x, s.fieldFound? (T k).1 (T k).2.1 (T k).2.2.1 = some x → s.fieldFound? ref (T k).2.1 (T k).2.2.1 = some x) (hfin : (T k).2.2.2 = false) (hn : narrow (ty0 k) v = v) (hfit : fits (ty0 k) v = true) (hdg : decode cc pc = .ok (.putfield index, 3)) (kk : ∀ (H : Heap) (locs : List Loc), u_I D A s.heap (w, u.2) H locs cells → W p l e R s m args below meth c H locs cells slots Q (F0 m (pc + 3) ls rest)) : W p l e R s m args below meth c H locs cells slots Q (F0 m pc ls (v :: .ref a :: rest)) := by
  obtain ⟨fs, h1, h2, rfl⟩ := u_pfS hm
  exact u_putf X I ci k hin ty0 hty hnm h1 hc hk e1 e2 (X.2.2.1 _ hlink) hsame hfin hn hfit h2 hdg kk
theorem u_PF (X : u_X own D A d p s m c cc nL args) (I : u_I D A s.heap u H locs cells) {ci k a : Nat} {v : Value} (hm : u_pf u ci k a v = some w) {C ref : String} {T : u_T} {N : Nat} (hin : ∀ w ∈ u_ws C T N, w ∈ lw_all) (ty0 : Nat → FieldType) (hty : ∀ k, k < N → parseFieldDescriptor (T k).2.2.1 = some (ty0 k)) (hnm : ∀ a, a < N → ∀ b, b < N → a ≠ b → (T a).2.1 ≠ (T b).2.1) (hc : gCl[ci]? = some (C, T, N)) (hk : k < N) {index : Nat} {nm ds : String} (e1 : (T k).2.1 = nm) (e2 : (T k).2.2.1 = ds) (hlink : Cond.fieldLink own index ref nm ds ∈ lw_all) (hsame : ∀ x, s.fieldFound? (T k).1 (T k).2.1 (T k).2.2.1 = some x → s.fieldFound? ref (T k).2.1 (T k).2.2.1 = some x) (hfin : (T k).2.2.2 = true) (hin2 : meth.name = "<init>") (hdecl : (T k).1 = own) (hn : narrow (ty0 k) v = v) (hfit : fits (ty0 k) v = true) (hdg : decode cc pc = .ok (.putfield index, 3)) (kk : ∀ (H : Heap) (locs : List Loc), u_I D A s.heap (w, u.2) H locs cells → W p l e R s m args below meth c H locs cells slots Q (F0 m (pc + 3) ls rest)) : W p l e R s m args below meth c H locs cells slots Q (F0 m pc ls (v :: .ref a :: rest)) := by
  obtain ⟨fs, h1, h2, rfl⟩ := u_pfS hm
  exact u_putfF X I ci k hin ty0 hty hnm h1 hc hk e1 e2 (X.2.2.1 _ hlink) hsame hfin hin2 hdecl hn hfit h2 hdg kk
theorem u_PN (X : u_X own D A d p s m c cc nL args) (I : u_I D A s.heap u H locs cells) {ci k a : Nat} {v : Value} (hm : u_pf u ci k a v = some w) {C ref host : String} {T : u_T} {N : Nat} (hin : ∀ w ∈ u_ws C T N, w ∈ lw_all) (ty0 : Nat → FieldType) (hty : ∀ k, k < N → parseFieldDescriptor (T k).2.2.1 = some (ty0 k)) (hnm : ∀ a, a < N → ∀ b, b < N → a ≠ b → (T a).2.1 ≠ (T b).2.1) (hc : gCl[ci]? = some (C, T, N)) (hk : k < N) {index : Nat} {nm ds : String} (e1 : (T k).2.1 = nm) (e2 : (T k).2.2.1 = ds) (i : Nat) (hi : g_fn[i]? = some (own, index, ref, nm, ds, host)) (hsame : ∀ x, s.fieldFound? (T k).1 (T k).2.1 (T k).2.2.1 = some x → s.fieldFound? ref (T k).2.1 (T k).2.2.1 = some x) (hfin : (T k).2.2.2 = false) (hn : narrow (ty0 k) v = v) (hfit : fits (ty0 k) v = true) (hdg : decode cc pc = .ok (.putfield index, 3)) (kk : ∀ (H : Heap) (locs : List Loc), u_I D A s.heap (w, u.2) H locs cells → W p l e R s m args below meth c H locs cells slots Q (F0 m (pc + 3) ls rest)) : W p l e R s m args below meth c H locs cells slots Q (F0 m pc ls (v :: .ref a :: rest)) := by
  obtain ⟨fs, h1, h2, rfl⟩ := u_pfS hm
  exact u_putfN X I ci k hin ty0 hty hnm h1 hc hk e1 e2 (u_nlink X i hi) hsame hfin hn hfit h2 hdg kk
theorem u_LI (X : u_X own D A d p s m c cc nL args) (I : u_I D A s.heap u H locs cells) {a : Nat} {i v : Int32} (hm : u_ldI d u a i = some v) (hdg : decode cc pc = .ok (.iaload, 1)) (kk : W p l e R s m args below meth c H locs cells slots Q (F0 m (pc + 1) ls (.int v :: rest))) : W p l e R s m args below meth c H locs cells slots Q (F0 m pc ls (.int i :: .ref a :: rest)) := by
  obtain ⟨⟨n, f⟩, h1, h2⟩ := m_bS hm
  obtain ⟨h3, rfl⟩ := u_ldS h2
  exact u_iald X I (u_arIS h1) h3 hdg kk
theorem u_LL (X : u_X own D A d p s m c cc nL args) (I : u_I D A s.heap u H locs cells) {a : Nat} {i : Int32} {v : Int64} (hm : u_ldL d u a i = some v) (hdg : decode cc pc = .ok (.laload, 1)) (kk : W p l e R s m args below meth c H locs cells slots Q (F0 m (pc + 1) ls (.long v :: rest))) : W p l e R s m args below meth c H locs cells slots Q (F0 m pc ls (.int i :: .ref a :: rest)) := by
  obtain ⟨⟨n, f⟩, h1, h2⟩ := m_bS hm
  obtain ⟨h3, rfl⟩ := u_ldS h2
  exact u_lald X I (u_arLS h1) h3 hdg kk
theorem u_LQ (X : u_X own D A d p s m c cc nL args) (I : u_I D A s.heap u H locs cells) {a : Nat} {i : Int32} {v : Option Nat} (hm : u_ldQ d u a i = some v) (hdg : decode cc pc = .ok (.aaload, 1)) (kk : W p l e R s m args below meth c H locs cells slots Q (F0 m (pc + 1) ls (va_rf v :: rest))) : W p l e R s m args below meth c H locs cells slots Q (F0 m pc ls (.int i :: .ref a :: rest)) := by
  obtain ⟨⟨n, f⟩, h1, h2⟩ := m_bS hm
  obtain ⟨h3, rfl⟩ := u_ldS h2
  exact u_qald X I (u_arQS h1) h3 hdg kk
theorem u_LB (X : u_X own D A d p s m c cc nL args) (I : u_I D A s.heap u H locs cells) {a : Nat} {i v : Int32} (hm : u_ai d u 2 a i = some v) (hdg : decode cc pc = .ok (.baload, 1)) (kk : W p l e R s m args below meth c H locs cells slots Q (F0 m (pc + 1) ls (.int v :: rest))) : W p l e R s m args below meth c H locs cells slots Q (F0 m pc ls (.int i :: .ref a :: rest)) := by
  obtain ⟨n, f, h1, h2, rfl⟩ := u_aiS hm
  exact u_bald X I h1 h2 hdg kk
theorem u_LN (X : u_X own D A d p s m c cc nL args) (I : u_I D A s.heap u H locs cells) {t a : Nat} (ht : t < 5) {v : Int32} (hm : u_lnI d u t a = some v) (hdg : decode cc pc = .ok (.arraylength, 1)) (kk : W p l e R s m args below meth c H locs cells slots Q (F0 m (pc + 1) ls (.int v :: rest))) : W p l e R s m args below meth c H locs cells slots Q (F0 m pc ls (.ref a :: rest)) := by
  obtain ⟨x, h1, rfl⟩ := u_lnIS hm
  exact u_alen X I t ht h1 hdg kk
theorem u_SI (X : u_X own D A d p s m c cc nL args) (I : u_I D A s.heap u H locs cells) {a : Nat} {i x : Int32} (hm : u_stI d u a i x = some w) (hdg : decode cc pc = .ok (.iastore, 1)) (kk : ∀ (H : Heap) (locs : List Loc), u_I D A s.heap (w, u.2) H locs cells → W p l e R s m args below meth c H locs cells slots Q (F0 m (pc + 1) ls rest)) : W p l e R s m args below meth c H locs cells slots Q (F0 m pc ls (.int x :: .int i :: .ref a :: rest)) := by
  obtain ⟨n, f, h1, h2, rfl⟩ := u_stIS hm
  exact u_iast X I h1 h2 hdg kk
theorem u_SB (X : u_X own D A d p s m c cc nL args) (I : u_I D A s.heap u H locs cells) {a : Nat} {i x : Int32} (hm : u_stB d u a i x = some w) (hdg : decode cc pc = .ok (.bastore, 1)) (kk : ∀ (H : Heap) (locs : List Loc), u_I D A s.heap (w, u.2) H locs cells → W p l e R s m args below meth c H locs cells slots Q (F0 m (pc + 1) ls rest)) : W p l e R s m args below meth c H locs cells slots Q (F0 m pc ls (.int x :: .int i :: .ref a :: rest)) := by
  obtain ⟨n, f, h1, h2, rfl⟩ := u_stBS hm
  exact u_bast X I h1 h2 hdg kk
theorem u_SL (X : u_X own D A d p s m c cc nL args) (I : u_I D A s.heap u H locs cells) {a : Nat} {i : Int32} {x : Int64} (hm : u_stL d u a i x = some w) (hdg : decode cc pc = .ok (.lastore, 1)) (kk : ∀ (H : Heap) (locs : List Loc), u_I D A s.heap (w, u.2) H locs cells → W p l e R s m args below meth c H locs cells slots Q (F0 m (pc + 1) ls rest)) : W p l e R s m args below meth c H locs cells slots Q (F0 m pc ls (.long x :: .int i :: .ref a :: rest)) := by
  obtain ⟨n, f, h1, h2, rfl⟩ := u_stLS hm
  exact u_last X I h1 h2 hdg kk
theorem u_caO (X : u_X own D A d p s m c cc nL args) {ci : Nat} {r : vw_C} (h : ci = 2 ∨ ci = 6 ∨ ci = 15) (hc : gCl[ci]? = some r) : va_Nw (.castable r.1 "java/lang/Object") s := by
  have hg := X.2.2.2.2.2.2.2.2.2.2.2.2.2.2.2.2.2.1
  rcases h with rfl | rfl | rfl <;> cases hc
  · exact hg ("SwapPress$State", "java/lang/Object") (by decide +kernel)
  · exact hg ("SwapPress$Trade", "java/lang/Object") (by decide +kernel)
  · exact hg ("java/lang/String", "java/lang/Object") (by decide +kernel)
theorem u_SQ (X : u_X own D A d p s m c cc nL args) (I : u_I D A s.heap u H locs cells) {a v : Nat} {i : Int32} (hv : u_el u v = true) (hm : u_stQ d u a i (some v) = some w) (hdg : decode cc pc = .ok (.aastore, 1)) (kk : ∀ (H : Heap) (locs : List Loc), u_I D A s.heap (w, u.2) H locs cells → W p l e R s m args below meth c H locs cells slots Q (F0 m (pc + 1) ls rest)) : W p l e R s m args below meth c H locs cells slots Q (F0 m pc ls (.ref v :: .int i :: .ref a :: rest)) := by
  obtain ⟨n, f, h1, h2, rfl⟩ := u_stQS hm
  obtain ⟨ci, fs, h3, h4⟩ := u_elS hv
  have hlt : ci < gCl.length := by rcases h4 with rfl | rfl | rfl <;> decide
  exact u_qast X I h1 h3 (List.getElem?_eq_getElem hlt) (u_caO X h4 (List.getElem?_eq_getElem hlt)) h2 hdg kk
theorem u_SN (X : u_X own D A d p s m c cc nL args) (I : u_I D A s.heap u H locs cells) {a : Nat} {i : Int32} (hm : u_stQ d u a i none = some w) (hdg : decode cc pc = .ok (.aastore, 1)) (kk : ∀ (H : Heap) (locs : List Loc), u_I D A s.heap (w, u.2) H locs cells → W p l e R s m args below meth c H locs cells slots Q (F0 m (pc + 1) ls rest)) : W p l e R s m args below meth c H locs cells slots Q (F0 m pc ls (.null :: .int i :: .ref a :: rest)) := by
  obtain ⟨n, f, h1, h2, rfl⟩ := u_stQS hm
  exact u_nast X I h1 h2 hdg kk
theorem u_NO (X : u_X own D A d p s m c cc nL args) (I : u_I D A s.heap u H locs cells) (hA : ∀ q, s.heap.size ≤ q → A q) (ci : Nat) {C : String} {T : u_T} {N index : Nat} (hin : ∀ w ∈ u_ws C T N, w ∈ lw_all) (ty : Nat → FieldType) (hty : ∀ k, k < N → parseFieldDescriptor (T k).2.2.1 = some (ty k)) (hcl : Cond.classLink own index C ∈ lw_all) (hinst : Cond.instantiable C N ∈ lw_all) (hini : Cond.initialized C ∈ lw_all) (hc : gCl[ci]? = some (C, T, N)) {fs : List Value} (hm : some (u_nw u (.inr (ci, fs))) = some u') (hfs : ∀ j, j < N → defaultValue (ty j) = vp_V fs j) (hC : u_left R cells slots (u_add (u_add (1, N) C2) cr)) (hdg : decode cc pc = .ok (.new index, 3)) (kk : ∀ (H : Heap) (cells slots : Nat), u_left R cells slots (u_add C2 cr) → u_I D A s.heap u' H locs cells → W p l e R s m args below meth c H locs cells slots Q (F0 m (pc + 3) ls (.ref u.2 :: rest))) : W p l e R s m args below meth c H locs cells slots Q (F0 m pc ls rest) := by
  cases hm
  have hL := u_leftL hC
  exact u_newo X I hA ci hin ty hty hcl hinst hini hc hfs hL.1 hL.2 hdg (fun H1 I1 => kk H1 _ _ (u_left1 hC) I1)
theorem u_NP (X : u_X own D A d p s m c cc nL args) (I : u_I D A s.heap u H locs cells) (hA : ∀ q, s.heap.size ≤ q → A q) (t0 : Nat) {atype : ArrayType} (ht : (u_tys d.1)[t0]? = some (d.1 t0, newarray.typeOf atype)) (harr : Cond.arrayClass (newarray.typeOf atype) ∈ lw_all) {n : Int32} {x : vp_A} (hx : ∀ cA : ClassId, vp_cell cA x = arrV cA n.toNatClampNeg (fun _ => defaultValue (newarray.typeOf atype))) (hc8 : componentBytes (newarray.typeOf atype) ≤ 8) (hn : u_ln n = true) (hm : some (u_nw u (.inl (d.1 t0, x))) = some u') (hC : u_left R cells slots (u_add (u_add (1, n.toNatClampNeg) C2) cr)) (hdg : decode cc pc = .ok (.newarray atype, 2)) (kk : ∀ (H : Heap) (cells slots : Nat), u_left R cells slots (u_add C2 cr) → u_I D A s.heap u' H locs cells → W p l e R s m args below meth c H locs cells slots Q (F0 m (pc + 2) ls (.ref u.2 :: rest))) : W p l e R s m args below meth c H locs cells slots Q (F0 m pc ls (.int n :: rest)) := by
  cases hm
  exact u_newp X I hA t0 ht harr hx hc8 hn hC hdg kk
theorem u_NQ (X : u_X own D A d p s m c cc nL args) (I : u_I D A s.heap u H locs cells) (hA : ∀ q, s.heap.size ≤ q → A q) {index : Nat} (hcl : Cond.classLink own index "java/lang/Object" ∈ lw_all) {n : Int32} (hn : u_ln n = true) (hm : some (u_nw u (.inl (d.1 4, n.toNatClampNeg, .inr (.inr (.inr (.inr (fun _ => none))))))) = some u') (hC : u_left R cells slots (u_add (u_add (1, n.toNatClampNeg) C2) cr)) (hdg : decode cc pc = .ok (.anewarray index, 3)) (kk : ∀ (H : Heap) (cells slots : Nat), u_left R cells slots (u_add C2 cr) → u_I D A s.heap u' H locs cells → W p l e R s m args below meth c H locs cells slots Q (F0 m (pc + 3) ls (.ref u.2 :: rest))) : W p l e R s m args below meth c H locs cells slots Q (F0 m pc ls (.int n :: rest)) := by
  cases hm
  exact u_newq X I hA hcl (X.2.2.2.2.2.2.2.2.2.2.2.2.2.2.2.2.2.2.2.2.1.use) hn hC hdg kk
/-- a nullable reference that isn't null -/
theorem u_de {x : Option Nat} {a : Nat} (h : x = some a) (kk : W p l e R s m args below meth c H locs cells slots Q (F0 m pc ls (.ref a :: rest))) : W p l e R s m args below meth c H locs cells slots Q (F0 m pc ls (va_rf x :: rest)) := by
  subst h; exact kk
theorem u_de1 {x : Option Nat} {a : Nat} {v1 : Value} (h : x = some a) (kk : W p l e R s m args below meth c H locs cells slots Q (F0 m pc ls (v1 :: .ref a :: rest))) : W p l e R s m args below meth c H locs cells slots Q (F0 m pc ls (v1 :: va_rf x :: rest)) := by
  subst h; exact kk
theorem u_de2 {x : Option Nat} {a : Nat} {v1 v2 : Value} (h : x = some a) (kk : W p l e R s m args below meth c H locs cells slots Q (F0 m pc ls (v1 :: v2 :: .ref a :: rest))) : W p l e R s m args below meth c H locs cells slots Q (F0 m pc ls (v1 :: v2 :: va_rf x :: rest)) := by
  subst h; exact kk
/-- the constants' texts -/
theorem u_ldc (X : u_X own D A d p s m c cc nL args) (j : Nat) {index k : Nat} {tx : String} (hj : g_ref[j]? = some (own, index, tx, k)) (hdg : decode cc pc = .ok (.ldc index, 2)) (kk : W p l e R s m args below meth c H locs cells slots Q (F0 m (pc + 2) ls (.ref (d.2 (10 + k)) :: rest))) : W p l e R s m args below meth c H locs cells slots Q (F0 m pc ls rest) := by
  have h := X.2.2.2.2.2.2.2.1 _ (List.mem_of_getElem? hj)
  exact va_ldcS X.1 X.2.1 X.2.2.2.1 h hdg kk
end UR
