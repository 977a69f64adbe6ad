set_option maxRecDepth 100000
/-! Rows over the map world. A world: cells, and the heap's size. -/
/-- array classes (0 int, 1 long, 2 byte, 3 boolean, 4 Object), the constants' places -/
abbrev UD : Type := (Nat → ClassId) × (Nat → Nat)
abbrev UM : Type := va_W × Nat
def u_tys (c : Nat → ClassId) : List (ClassId × FieldType) := [(c 0, .int), (c 1, .long), (c 2, .byte), (c 3, .boolean), (c 4, .object "java/lang/Object")]
def u_K (D : va_G) (c : Nat → ClassId) (s : State) : Prop := va_K D gCl (u_tys c) s
def u_X (own : String) (D : va_G) (A : Nat → Prop) (d : UD) (p : Program) (s : State) (m : MethodId) (c : Code) (cc : ByteArray) (nL : Nat) (args : Array Value) : Prop := p.tables.exec = Jvm.exec ∧ c.code = cc ∧ (∀ w ∈ lw_all, w.before args s = true) ∧ s.vm.findClass own = some m.cls ∧ u_K D d.1 s ∧ c.maxLocals = nL ∧ g_E d.2 A s s.heap
/-- the world now: H has these cells among A's, the size told; 'cells' are new since H0 -/
def u_I (D : va_G) (A : Nat → Prop) (H0 : Heap) (u : UM) (H : Heap) (locs : List Loc) (cells : Nat) : Prop := va_P D gCl u.1 H ∧ va_D A u.1 ∧ va_S A H0 H locs ∧ H.size = u.2 ∧ u.2 = H0.size + cells
/-- the constants' cells -/
def u_cs (d : UD) : va_W := (List.range 9).map (fun i => (d.2 (10 + i), .inr (15, [.ref (d.2 (30 + i)), .int 0, .int ((g_str.getD i ([], 0)).2), .int 0]))) ++ (List.range 9).map (fun i => (d.2 (30 + i), .inl (d.1 2, (g_str.getD i ([], 0)).1.length, .inl (fun j => ((g_str.getD i ([], 0)).1.getD j 0))))) ++ [(d.2 0, .inl (d.1 4, 0, .inr (.inr (.inr (.inr (fun _ => none)))))), (d.2 50, .inl (d.1 2, 100, .inl g_ones)), (d.2 51, .inl (d.1 2, 100, .inl g_tens))]
/-- what lies at an address: in the world, or as a constant -/
def u_rd (d : UD) (u : UM) (a : Nat) : Option va_E := (u_get u.1 a).or (u_get (u_cs d) a)
theorem u_rdS {d : UD} {u : UM} {a : Nat} {x : va_E} (h : u_rd d u a = some x) : u_get u.1 a = some x ∨ u_get (u_cs d) a = some x := by
  unfold u_rd at h
  cases hg : u_get u.1 a with
  | none => rw [hg] at h; exact Or.inr h
  | some y => rw [hg] at h; exact Or.inl h
theorem u_mem : ∀ {ws : va_W} {a : Nat} {x : va_E}, u_get ws a = some x → (a, x) ∈ ws
  | [], _, _, h => by cases h
  | q :: ws, a, x, h => by
    unfold u_get at h
    by_cases e : q.1 = a
    · rw [if_pos e] at h
      cases h
      rw [← e]
      exact List.mem_cons_self
    · rw [if_neg e] at h
      exact List.mem_cons_of_mem _ (u_mem h)
theorem u_csO {G : Nat → Nat} {c : Nat → ClassId} {A : Nat → Prop} {U : State} {H : Heap} (hE : g_E G A U H) {a ci : Nat} {fs : List Value} (h : u_get (u_cs (c, G)) a = some (.inr (ci, fs))) : ci = 15 ∧ ∃ (b : Nat) (bs : List Int32) (hs : Int32), fs = [.ref b, .int 0, .int hs, .int 0] ∧ g_S a b bs hs A U H := by
  have hm := u_mem h
  unfold u_cs at hm
  rcases List.mem_append.mp hm with hm | hm
  · rcases List.mem_append.mp hm with hm | hm
    · obtain ⟨i, hi, e⟩ := List.mem_map.mp hm
      have hi : i < 9 := List.mem_range.mp hi
      cases e
      refine ⟨rfl, _, (g_str.getD i ([], 0)).1, _, rfl, hE.1 i _ ?_⟩
      rw [List.getD_eq_getElem?_getD, List.getElem?_eq_getElem (show i < g_str.length from hi)]
      rfl
    · obtain ⟨i, hi, e⟩ := List.mem_map.mp hm
      cases e
  · simp at hm
theorem u_csA {G : Nat → Nat} {c : Nat → ClassId} {A : Nat → Prop} {U : State} {H : Heap} (hE : g_E G A U H) {a : Nat} {x : ClassId × vp_A} (h : u_get (u_cs (c, G)) a = some (.inl x)) : (x.1 = c 2 ∧ ∃ f : Nat → Int32, x.2.2 = .inl f ∧ va_T .byte a x.2.1 (fun j => .int (f j)) A U H) ∨ (x = (c 4, 0, .inr (.inr (.inr (.inr (fun _ => none))))) ∧ a = G 0 ∧ va_T (.object "java/lang/Object") a 0 (fun _ => .null) A U H) := by
  have hm := u_mem h
  unfold u_cs at hm
  rcases List.mem_append.mp hm with hm | hm
  · rcases List.mem_append.mp hm with hm | hm
    · obtain ⟨i, hi, e⟩ := List.mem_map.mp hm
      cases e
    · obtain ⟨i, hi, e⟩ := List.mem_map.mp hm
      have hi : i < 9 := List.mem_range.mp hi
      cases e
      refine Or.inl ⟨rfl, _, rfl, ?_⟩
      have := (hE.1 i (g_str.getD i ([], 0)) (by
        rw [List.getD_eq_getElem?_getD, List.getElem?_eq_getElem (show i < g_str.length from hi)]
        rfl)).2.2.2.2.2
      exact this
  · rcases List.mem_cons.mp hm with e | hm
    · cases e
      exact Or.inr ⟨rfl, rfl, hE.2.2.2.2.1.2⟩
    · rcases List.mem_cons.mp hm with e | hm
      · cases e
        exact Or.inl ⟨rfl, _, rfl, hE.2.2.2.2.2.1.2⟩
      · rcases List.mem_cons.mp hm with e | hm
        · cases e
          exact Or.inl ⟨rfl, _, rfl, hE.2.2.2.2.2.2.1.2⟩
        · cases hm
section US
variable {p : Program} {l : Launch} {e : Env} {R : Room} {s : State} {m : MethodId} {args : Array Value} {below : List Frame} {meth : Method} {c : Code} {H : Heap} {locs : List Loc} {cells slots : Nat} {Q : State → Prop} {pc : Nat} {ls : Array Slot} {rest : List Value} {cc : ByteArray} {nL : Nat} {own : String} {D : va_G} {A : Nat → Prop} {d : UD} {u : UM}
theorem u_size {g : JFrame} (k : H.size ≤ s.heap.size + cells → W p l e R s m args below meth c H locs cells slots Q g) : W p l e R s m args below meth c H locs cells slots Q g := fun T hT X => k (by have h := X.same.2.2.1; rw [← hT]; exact h) T hT X
/-- the world as it is, nothing having changed: a start for a row that writes -/
theorem u_here (I : u_I D A s.heap u H locs cells) : va_S A H H locs := ⟨Nat.le_refl _, fun _ _ _ => rfl, I.2.2.1.2.2⟩
/-- behind a row that writes, and makes nothing -/
theorem u_fix {g : JFrame} (I : u_I D A s.heap u H locs cells) {w1 : va_W} {H1 : Heap} {locs1 : List Loc} (hP : va_P D gCl w1 H1) (hD : va_D A w1) (hS : va_S A H H1 locs1) (k : u_I D A s.heap (w1, u.2) H1 locs1 cells → W p l e R s m args below meth c H1 locs1 cells slots Q g) : W p l e R s m args below meth c H1 locs1 cells slots Q g := by
  refine u_size (fun hz => k ⟨hP, hD, ⟨Nat.le_trans I.2.2.1.1 hS.1, fun q h1 h2 => (hS.2.1 q (Nat.lt_of_lt_of_le h1 I.2.2.1.1) h2).trans (I.2.2.1.2.1 q h1 h2), hS.2.2⟩, ?_, I.2.2.2.2⟩)
  have h1 := I.2.2.2.1
  have h2 := I.2.2.2.2
  have h3 := hS.1
  show H1.size = u.2
  omega
/-- a field is read -/
theorem u_getf (X : u_X own D A d p s m c cc nL args) (I : u_I D A s.heap u H locs cells) (ci k : Nat) {C ref : String} {T : u_T} {N a : Nat} {fs : List Value} (hin : ∀ w ∈ u_ws C T N, w ∈ lw_all) (he : u_rd d u a = some (.inr (ci, fs))) (hc : gCl[ci]? = some (C, T, N)) (hk : k < N) {index : Nat} {nm ds : String} (e1 : (T k).2.1 = nm) (e2 : (T k).2.2.1 = ds) (hlink : (Cond.fieldLink own index ref nm ds).before args s = true) (hsame : ∀ x, s.fieldFound? (T k).1 (T k).2.1 (T k).2.2.1 = some x → s.fieldFound? ref (T k).2.1 (T k).2.2.1 = some x) {v : Value} (hv : fs[k]? = some v) (hdg : decode cc pc = .ok (.getfield index, 3)) (kk : W p l e R s m args below meth c H locs cells slots Q (F0 m (pc + 3) ls (v :: rest))) : W p l e R s m args below meth c H locs cells slots Q (F0 m pc ls (.ref a :: rest)) := by
  subst e1
  subst e2
  rcases u_rdS he with he | he
  · obtain ⟨q0, h1, -⟩ := u_at he
    exact va_get (D := D) (ci := ci) (ref := ref) X.1 X.2.1 X.2.2.1 hin X.2.2.2.1 X.2.2.2.2.1 I.1 q0 h1 hc k hk hlink hsame hv hdg kk
  · obtain ⟨rfl, b, bs, hs, rfl, hO⟩ := u_csO (c := d.1) X.2.2.2.2.2.2 he
    cases hc
    have hF : va_OF (TJ5 k).1 (TJ5 k).2.1 (TJ5 k).2.2.1 v a A s s.heap := by
      match k, hk with
      | 0, _ => cases hv; exact hO.2.2.1
      | 1, _ => cases hv; exact hO.2.1
      | 2, _ => cases hv; exact hO.2.2.2.1
      | 3, _ => cases hv; exact hO.2.2.2.2.1
    exact vk_getf X.1 X.2.1 hF I.2.2.1 X.2.2.2.1 hlink hsame hdg kk
theorem u_getfN (X : u_X own D A d p s m c cc nL args) (I : u_I D A s.heap u H locs cells) (ci k : Nat) {C ref host : String} {T : u_T} {N a : Nat} {fs : List Value} (hin : ∀ w ∈ u_ws C T N, w ∈ lw_all) (he : u_get u.1 a = some (.inr (ci, fs))) (hc : gCl[ci]? = some (C, T, N)) (hk : k < N) {index : Nat} {nm ds : String} (e1 : (T k).2.1 = nm) (e2 : (T k).2.2.1 = ds) (hlink : (Cond.fieldLinkNest own index ref nm ds host).before args s = true) (hsame : ∀ x, s.fieldFound? (T k).1 (T k).2.1 (T k).2.2.1 = some x → s.fieldFound? ref (T k).2.1 (T k).2.2.1 = some x) {v : Value} (hv : fs[k]? = some v) (hdg : decode cc pc = .ok (.getfield index, 3)) (kk : W p l e R s m args below meth c H locs cells slots Q (F0 m (pc + 3) ls (v :: rest))) : W p l e R s m args below meth c H locs cells slots Q (F0 m pc ls (.ref a :: rest)) := by
  subst e1
  subst e2
  obtain ⟨q0, h1, -⟩ := u_at he
  exact va_getN (D := D) (ci := ci) (ref := ref) (host := host) X.1 X.2.1 X.2.2.1 hin X.2.2.2.1 X.2.2.2.2.1 I.1 q0 h1 hc k hk hlink hsame hv hdg kk
/-- a field is written -/
theorem u_putf (X : u_X own D A d p s m c cc nL args) (I : u_I D A s.heap u H locs cells) (ci k : Nat) {C ref : String} {T : u_T} {N a : Nat} {fs : List Value} (hin : ∀ w ∈ u_ws C T N, w ∈ lw_all) (ty0 : Nat → FieldType) (hty : ∀ k, k < N → parseFieldDescriptor (T k).2.2.1 = some (ty0 k)) (hnm : ∀ a, a < N → ∀ b, b < N → a ≠ b → (T a).2.1 ≠ (T b).2.1) (he : u_get u.1 a = some (.inr (ci, fs))) (hc : gCl[ci]? = some (C, T, N)) (hk : k < N) {index : Nat} {nm ds : String} (e1 : (T k).2.1 = nm) (e2 : (T k).2.2.1 = ds) (hlink : (Cond.fieldLink own index ref nm ds).before args s = true) (hsame : ∀ x, s.fieldFound? (T k).1 (T k).2.1 (T k).2.2.1 = some x → s.fieldFound? ref (T k).2.1 (T k).2.2.1 = some x) (hfin : (T k).2.2.2 = false) {v : Value} (hn : narrow (ty0 k) v = v) (hfit : fits (ty0 k) v = true) (hlen : k < fs.length) (hdg : decode cc pc = .ok (.putfield index, 3)) (kk : ∀ (H : Heap) (locs : List Loc), u_I D A s.heap (u_set u.1 a (.inr (ci, fs.set k v)), u.2) H locs cells → W p l e R s m args below meth c H locs cells slots Q (F0 m (pc + 3) ls rest)) : W p l e R s m args below meth c H locs cells slots Q (F0 m pc ls (v :: .ref a :: rest)) := by
  subst e1
  subst e2
  obtain ⟨q0, h1, h2⟩ := u_at he
  refine va_put (D := D) (ci := ci) (C := C) (T := T) (N := N) (ty := ty0 k) (v := v) (ref := ref) X.1 X.2.1 X.2.2.1 hin ty0 hty hnm X.2.2.2.1 X.2.2.2.2.1 I.1 I.2.1 (u_here I) q0 h1 hc k hk hlink hsame hfin (hty k hk) hn hfit hlen hdg (fun H1 locs1 hP hD hS => ?_)
  rw [h2] at hP hD
  exact u_fix I hP hD hS (kk H1 locs1)
theorem u_putfF (X : u_X own D A d p s m c cc nL args) (I : u_I D A s.heap u H locs cells) (ci k : Nat) {C ref : String} {T : u_T} {N a : Nat} {fs : List Value} (hin : ∀ w ∈ u_ws C T N, w ∈ lw_all) (ty0 : Nat → FieldType) (hty : ∀ k, k < N → parseFieldDescriptor (T k).2.2.1 = some (ty0 k)) (hnm : ∀ a, a < N → ∀ b, b < N → a ≠ b → (T a).2.1 ≠ (T b).2.1) (he : u_get u.1 a = some (.inr (ci, fs))) (hc : gCl[ci]? = some (C, T, N)) (hk : k < N) {index : Nat} {nm ds : String} (e1 : (T k).2.1 = nm) (e2 : (T k).2.2.1 = ds) (hlink : (Cond.fieldLink own index ref nm ds).before args s = true) (hsame : ∀ x, s.fieldFound? (T k).1 (T k).2.1 (T k).2.2.1 = some x → s.fieldFound? ref (T k).2.1 (T k).2.2.1 = some x) (hfin : (T k).2.2.2 = true) (hin2 : meth.name = "<init>") (hdecl : (T k).1 = own) {v : Value} (hn : narrow (ty0 k) v = v) (hfit : fits (ty0 k) v = true) (hlen : k < fs.length) (hdg : decode cc pc = .ok (.putfield index, 3)) (kk : ∀ (H : Heap) (locs : List Loc), u_I D A s.heap (u_set u.1 a (.inr (ci, fs.set k v)), u.2) H locs cells → W p l e R s m args below meth c H locs cells slots Q (F0 m (pc + 3) ls rest)) : W p l e R s m args below meth c H locs cells slots Q (F0 m pc ls (v :: .ref a :: rest)) := by
  subst e1
  subst e2
  obtain ⟨q0, h1, h2⟩ := u_at he
  refine va_putF (D := D) (ci := ci) (C := C) (T := T) (N := N) (ty := ty0 k) (v := v) (ref := ref) X.1 X.2.1 X.2.2.1 hin ty0 hty hnm X.2.2.2.1 X.2.2.2.2.1 I.1 I.2.1 (u_here I) q0 h1 hc k hk hlink hsame hfin hin2 hdecl (hty k hk) hn hfit hlen hdg (fun H1 locs1 hP hD hS => ?_)
  rw [h2] at hP hD
  exact u_fix I hP hD hS (kk H1 locs1)
theorem u_putfN (X : u_X own D A d p s m c cc nL args) (I : u_I D A s.heap u H locs cells) (ci k : Nat) {C ref host : String} {T : u_T} {N a : Nat} {fs : List Value} (hin : ∀ w ∈ u_ws C T N, w ∈ lw_all) (ty0 : Nat → FieldType) (hty : ∀ k, k < N → parseFieldDescriptor (T k).2.2.1 = some (ty0 k)) (hnm : ∀ a, a < N → ∀ b, b < N → a ≠ b → (T a).2.1 ≠ (T b).2.1) (he : u_get u.1 a = some (.inr (ci, fs))) (hc : gCl[ci]? = some (C, T, N)) (hk : k < N) {index : Nat} {nm ds : String} (e1 : (T k).2.1 = nm) (e2 : (T k).2.2.1 = ds) (hlink : (Cond.fieldLinkNest own index ref nm ds host).before args s = true) (hsame : ∀ x, s.fieldFound? (T k).1 (T k).2.1 (T k).2.2.1 = some x → s.fieldFound? ref (T k).2.1 (T k).2.2.1 = some x) (hfin : (T k).2.2.2 = false) {v : Value} (hn : narrow (ty0 k) v = v) (hfit : fits (ty0 k) v = true) (hlen : k < fs.length) (hdg : decode cc pc = .ok (.putfield index, 3)) (kk : ∀ (H : Heap) (locs : List Loc), u_I D A s.heap (u_set u.1 a (.inr (ci, fs.set k v)), u.2) H locs cells → W p l e R s m args below meth c H locs cells slots Q (F0 m (pc + 3) ls rest)) : W p l e R s m args below meth c H locs cells slots Q (F0 m pc ls (v :: .ref a :: rest)) := by
  subst e1
  subst e2
  obtain ⟨q0, h1, h2⟩ := u_at he
  refine va_putN (D := D) (ci := ci) (C := C) (T := T) (N := N) (ty := ty0 k) (v := v) (ref := ref) (host := host) X.1 X.2.1 X.2.2.1 hin ty0 hty hnm X.2.2.2.1 X.2.2.2.2.1 I.1 I.2.1 (u_here I) q0 h1 hc k hk hlink hsame hfin (hty k hk) hn hfit hlen hdg (fun H1 locs1 hP hD hS => ?_)
  rw [h2] at hP hD
  exact u_fix I hP hD hS (kk H1 locs1)
/-- arrays: loads -/
theorem u_iald (X : u_X own D A d p s m c cc nL args) (I : u_I D A s.heap u H locs cells) {a n : Nat} {f : Nat → Int32} (he : u_get u.1 a = some (.inl (d.1 0, n, .inl f))) {i : Int32} (hin : m_in i n = true) (hdg : decode cc pc = .ok (.iaload, 1)) (kk : W p l e R s m args below meth c H locs cells slots Q (F0 m (pc + 1) ls (.int (f i.toNatClampNeg) :: rest))) : W p l e R s m args below meth c H locs cells slots Q (F0 m pc ls (.int i :: .ref a :: rest)) := by
  obtain ⟨q0, h1, -⟩ := u_at he
  exact va_iald X.1 X.2.1 X.2.2.2.2.1 I.1 q0 0 h1 rfl (m_inS hin) hdg kk
theorem u_lald (X : u_X own D A d p s m c cc nL args) (I : u_I D A s.heap u H locs cells) {a n : Nat} {f : Nat → Int64} (he : u_get u.1 a = some (.inl (d.1 1, n, .inr (.inl f)))) {i : Int32} (hin : m_in i n = true) (hdg : decode cc pc = .ok (.laload, 1)) (kk : W p l e R s m args below meth c H locs cells slots Q (F0 m (pc + 1) ls (.long (f i.toNatClampNeg) :: rest))) : W p l e R s m args below meth c H locs cells slots Q (F0 m pc ls (.int i :: .ref a :: rest)) := by
  obtain ⟨q0, h1, -⟩ := u_at he
  exact va_lald X.1 X.2.1 X.2.2.2.2.1 I.1 q0 1 h1 rfl (m_inS hin) hdg kk
theorem u_qald (X : u_X own D A d p s m c cc nL args) (I : u_I D A s.heap u H locs cells) {a n : Nat} {f : Nat → Option Nat} (he : u_get u.1 a = some (.inl (d.1 4, n, .inr (.inr (.inr (.inr f)))))) {i : Int32} (hin : m_in i n = true) (hdg : decode cc pc = .ok (.aaload, 1)) (kk : W p l e R s m args below meth c H locs cells slots Q (F0 m (pc + 1) ls (va_rf (f i.toNatClampNeg) :: rest))) : W p l e R s m args below meth c H locs cells slots Q (F0 m pc ls (.int i :: .ref a :: rest)) := by
  obtain ⟨q0, h1, -⟩ := u_at he
  exact va_aldq X.1 X.2.1 X.2.2.2.2.1 I.1 q0 4 h1 rfl (m_inS hin) hdg kk
theorem u_bald (X : u_X own D A d p s m c cc nL args) (I : u_I D A s.heap u H locs cells) {a n : Nat} {f : Nat → Int32} (he : u_rd d u a = some (.inl (d.1 2, n, .inl f))) {i : Int32} (hin : m_in i n = true) (hdg : decode cc pc = .ok (.baload, 1)) (kk : W p l e R s m args below meth c H locs cells slots Q (F0 m (pc + 1) ls (.int (f i.toNatClampNeg) :: rest))) : W p l e R s m args below meth c H locs cells slots Q (F0 m pc ls (.int i :: .ref a :: rest)) := by
  rcases u_rdS he with he | he
  · obtain ⟨q0, h1, -⟩ := u_at he
    exact va_bald X.1 X.2.1 X.2.2.2.2.1 I.1 q0 2 h1 rfl (m_inS hin) hdg kk
  · rcases u_csA (c := d.1) X.2.2.2.2.2.2 he with ⟨-, f', e, hT⟩ | ⟨e, -⟩
    · cases e
      exact va_tb X.1 X.2.1 hT I.2.2.1 (m_inS hin) rfl hdg kk
    · have e2 := congrArg (fun q => q.2) e
      cases e2
/-- an array's length -/
theorem u_alen (X : u_X own D A d p s m c cc nL args) (I : u_I D A s.heap u H locs cells) (t0 : Nat) (ht0 : t0 < 5) {a : Nat} {x : vp_A} (he : u_rd d u a = some (.inl (d.1 t0, x))) (hdg : decode cc pc = .ok (.arraylength, 1)) (kk : W p l e R s m args below meth c H locs cells slots Q (F0 m (pc + 1) ls (.int (Int32.ofNat x.1) :: rest))) : W p l e R s m args below meth c H locs cells slots Q (F0 m pc ls (.ref a :: rest)) := by
  rcases u_rdS he with he | he
  · obtain ⟨q0, h1, -⟩ := u_at he
    match t0, ht0 with
    | 0, _ => exact va_alen X.1 X.2.1 X.2.2.2.2.1 I.1 q0 0 h1 rfl rfl hdg kk
    | 1, _ => exact va_alen X.1 X.2.1 X.2.2.2.2.1 I.1 q0 1 h1 rfl rfl hdg kk
    | 2, _ => exact va_alen X.1 X.2.1 X.2.2.2.2.1 I.1 q0 2 h1 rfl rfl hdg kk
    | 3, _ => exact va_alen X.1 X.2.1 X.2.2.2.2.1 I.1 q0 3 h1 rfl rfl hdg kk
    | 4, _ => exact va_alen X.1 X.2.1 X.2.2.2.2.1 I.1 q0 4 h1 rfl rfl hdg kk
  · rcases u_csA (c := d.1) X.2.2.2.2.2.2 he with ⟨-, f', e, hT⟩ | ⟨e, -, hT⟩
    · exact va_tlen X.1 X.2.1 hT I.2.2.1 rfl hdg kk
    · have e2 := congrArg (fun q => q.2) e
      cases e2
      exact va_tlen X.1 X.2.1 hT I.2.2.1 rfl hdg kk
/-- stores -/
theorem u_iast (X : u_X own D A d p s m c cc nL args) (I : u_I D A s.heap u H locs cells) {a n : Nat} {f : Nat → Int32} (he : u_get u.1 a = some (.inl (d.1 0, n, .inl f))) {i x : Int32} (hin : m_in i n = true) (hdg : decode cc pc = .ok (.iastore, 1)) (kk : ∀ (H : Heap) (locs : List Loc), u_I D A s.heap (u_set u.1 a (.inl (d.1 0, n, .inl (upd f i.toNatClampNeg x))), u.2) H locs cells → W p l e R s m args below meth c H locs cells slots Q (F0 m (pc + 1) ls rest)) : W p l e R s m args below meth c H locs cells slots Q (F0 m pc ls (.int x :: .int i :: .ref a :: rest)) := by
  obtain ⟨q0, h1, h2⟩ := u_at he
  refine va_iast X.1 X.2.1 X.2.2.2.2.1 I.1 I.2.1 (u_here I) q0 0 h1 rfl (m_inS hin) hdg (fun H1 locs1 hP hD hS => ?_)
  rw [h2] at hP hD
  exact u_fix I hP hD hS (kk H1 locs1)
theorem u_bast (X : u_X own D A d p s m c cc nL args) (I : u_I D A s.heap u H locs cells) {a n : Nat} {f : Nat → Int32} (he : u_get u.1 a = some (.inl (d.1 2, n, .inl f))) {i x : Int32} (hin : m_in i n = true) (hdg : decode cc pc = .ok (.bastore, 1)) (kk : ∀ (H : Heap) (locs : List Loc), u_I D A s.heap (u_set u.1 a (.inl (d.1 2, n, .inl (upd f i.toNatClampNeg (vp_nar .byte x)))), u.2) H locs cells → W p l e R s m args below meth c H locs cells slots Q (F0 m (pc + 1) ls rest)) : W p l e R s m args below meth c H locs cells slots Q (F0 m pc ls (.int x :: .int i :: .ref a :: rest)) := by
  obtain ⟨q0, h1, h2⟩ := u_at he
  refine va_bast X.1 X.2.1 X.2.2.2.2.1 I.1 I.2.1 (u_here I) q0 2 h1 rfl (m_inS hin) hdg (fun H1 locs1 hP hD hS => ?_)
  rw [h2] at hP hD
  exact u_fix I hP hD hS (kk H1 locs1)
theorem u_last (X : u_X own D A d p s m c cc nL args) (I : u_I D A s.heap u H locs cells) {a n : Nat} {f : Nat → Int64} (he : u_get u.1 a = some (.inl (d.1 1, n, .inr (.inl f)))) {i : Int32} {x : Int64} (hin : m_in i n = true) (hdg : decode cc pc = .ok (.lastore, 1)) (kk : ∀ (H : Heap) (locs : List Loc), u_I D A s.heap (u_set u.1 a (.inl (d.1 1, n, .inr (.inl (vp_updL f i.toNatClampNeg x)))), u.2) H locs cells → W p l e R s m args below meth c H locs cells slots Q (F0 m (pc + 1) ls rest)) : W p l e R s m args below meth c H locs cells slots Q (F0 m pc ls (.long x :: .int i :: .ref a :: rest)) := by
  obtain ⟨q0, h1, h2⟩ := u_at he
  refine va_last X.1 X.2.1 X.2.2.2.2.1 I.1 I.2.1 (u_here I) q0 1 h1 rfl (m_inS hin) hdg (fun H1 locs1 hP hD hS => ?_)
  rw [h2] at hP hD
  exact u_fix I hP hD hS (kk H1 locs1)
theorem u_nast (X : u_X own D A d p s m c cc nL args) (I : u_I D A s.heap u H locs cells) {a n : Nat} {f : Nat → Option Nat} (he : u_get u.1 a = some (.inl (d.1 4, n, .inr (.inr (.inr (.inr f)))))) {i : Int32} (hin : m_in i n = true) (hdg : decode cc pc = .ok (.aastore, 1)) (kk : ∀ (H : Heap) (locs : List Loc), u_I D A s.heap (u_set u.1 a (.inl (d.1 4, n, .inr (.inr (.inr (.inr (va_up f i.toNatClampNeg none)))))), u.2) H locs cells → W p l e R s m args below meth c H locs cells slots Q (F0 m (pc + 1) ls rest)) : W p l e R s m args below meth c H locs cells slots Q (F0 m pc ls (.null :: .int i :: .ref a :: rest)) := by
  obtain ⟨q0, h1, h2⟩ := u_at he
  refine va_astqN X.1 X.2.1 X.2.2.2.2.1 I.1 I.2.1 (u_here I) q0 4 h1 rfl (m_inS hin) hdg (fun H1 locs1 hP hD hS => ?_)
  rw [h2] at hP hD
  exact u_fix I hP hD hS (kk H1 locs1)
/-- an object of the world into an array of objects -/
theorem u_qast (X : u_X own D A d p s m c cc nL args) (I : u_I D A s.heap u H locs cells) {a n v ci : Nat} {r : vw_C} {vs : List Value} {f : Nat → Option Nat} (he : u_get u.1 a = some (.inl (d.1 4, n, .inr (.inr (.inr (.inr f)))))) (hv : u_get u.1 v = some (.inr (ci, vs))) (hc : gCl[ci]? = some r) (hca : va_Nw (.castable r.1 "java/lang/Object") s) {i : Int32} (hin : m_in i n = true) (hdg : decode cc pc = .ok (.aastore, 1)) (kk : ∀ (H : Heap) (locs : List Loc), u_I D A s.heap (u_set u.1 a (.inl (d.1 4, n, .inr (.inr (.inr (.inr (va_up f i.toNatClampNeg (some v))))))), u.2) H locs cells → W p l e R s m args below meth c H locs cells slots Q (F0 m (pc + 1) ls rest)) : W p l e R s m args below meth c H locs cells slots Q (F0 m pc ls (.ref v :: .int i :: .ref a :: rest)) := by
  obtain ⟨q0, h1, h2⟩ := u_at he
  obtain ⟨qk, hk, -⟩ := u_at hv
  refine va_astqO X.1 X.2.1 X.2.2.2.2.1 I.1 I.2.1 (u_here I) q0 4 qk ci h1 rfl hca hk hc (m_inS hin) hdg (fun H1 locs1 hP hD hS => ?_)
  rw [h2] at hP hD
  exact u_fix I hP hD hS (kk H1 locs1)
/-- a new object -/
theorem u_newo (X : u_X own D A d p s m c cc nL args) (I : u_I D A s.heap u H locs cells) (hA : ∀ q, s.heap.size ≤ q → A q) (ci : Nat) {C : String} {T : u_T} {N index : Nat} (hin : ∀ w ∈ u_ws C T N, w ∈ lw_all) (ty : Nat → FieldType) (hty : ∀ k, k < N → parseFieldDescriptor (T k).2.2.1 = some (ty k)) (hcl : Cond.classLink own index C ∈ lw_all) (hinst : Cond.instantiable C N ∈ lw_all) (hini : Cond.initialized C ∈ lw_all) (hc : gCl[ci]? = some (C, T, N)) {fs : List Value} (hfs : ∀ j, j < N → defaultValue (ty j) = vp_V fs j) (h1 : cells + 1 ≤ R.cells) (h2 : slots + N ≤ R.slots) (hdg : decode cc pc = .ok (.new index, 3)) (kk : ∀ (H : Heap), u_I D A s.heap (u.1 ++ [(u.2, .inr (ci, fs))], u.2 + 1) H locs (cells + 1) → W p l e R s m args below meth c H locs (cells + 1) (slots + N) Q (F0 m (pc + 3) ls (.ref u.2 :: rest))) : W p l e R s m args below meth c H locs cells slots Q (F0 m pc ls rest) := by
  obtain ⟨hP, hD, hS, hz, hc0⟩ := I
  have hKn := X.2.2.2.2.1.1 ci _ hc
  refine W.newcK X.1 X.2.1 X.2.2.2.1 (X.2.2.1 _ hcl) (X.2.2.1 _ hinst) (X.2.2.1 _ hini) rfl hdg h1 h2 hKn.2.1 hz fun H1 kC hkC e1 z1 o1 => ?_
  have hk : ∀ (k : Nat) (x : Nat × va_E), u.1[k]? = some x → H1[x.1]? = H[x.1]? := fun k x hx => o1 x.1 (by have := (hP k x hx).lt; omega)
  refine kk H1 ⟨(hP.kept hk).app (fun k x hx => ?_), hD.push hP hz.symm (hA _ (by have := hS.1; omega)), ⟨Nat.le_trans hS.1 (by omega), fun x h1 h2 => (o1 x (by have := hS.1; omega)).trans (hS.2.1 x h1 h2), hS.2.2⟩, by rw [z1], by show u.2 + 1 = s.heap.size + (cells + 1); omega⟩
  have hz : k < 1 := (List.getElem?_eq_some_iff.mp hx).1
  rw [show k = 0 by omega] at hx
  cases hx
  exact ⟨_, hc, (u_born ty X.2.2.1 hin hKn hkC e1 hty).to hfs⟩
end US
