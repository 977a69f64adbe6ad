set_option maxRecDepth 100000
/-- the reference's state: int fields, arrays of ints (bytes, booleans), arrays of longs, by the field's number -/
abbrev MS : Type := (Nat → Int32) × (Nat → Nat → Int32) × (Nat → Nat → Int64)
/-- where it lies: the object, its arrays by the field's number, the arrays' classes (0 int, 1 long, 2 byte, 3 boolean), the constants' places -/
abbrev MD : Type := Nat × (Nat → Nat) × (Nat → ClassId) × (Nat → Nat)
def m_sg (st : MS) (k : Nat) (v : Int32) : MS := (va_up st.1 k v, st.2.1, st.2.2)
def m_sa (st : MS) (k i : Nat) (v : Int32) : MS := (st.1, va_up st.2.1 k (upd (st.2.1 k) i v), st.2.2)
def m_sb (st : MS) (k i : Nat) (v : Int64) : MS := (st.1, st.2.1, va_up st.2.2 k (vp_updL (st.2.2 k) i v))
def m_fs (d : MD) (st : MS) : List Value := [.ref (d.2.1 0), .ref (d.2.1 1), .ref (d.2.1 2), .ref (d.2.1 3), .ref (d.2.1 4), .int (st.1 5), .int (st.1 6), .int (st.1 7), .int (st.1 8), .ref (d.2.1 9), .int (st.1 10), .int (st.1 11), .int (st.1 12), .int (st.1 13), .int (st.1 14), .int (st.1 15), .int (st.1 16), .ref (d.2.1 17), .ref (d.2.1 18), .int (st.1 19), .ref (d.2.1 20), .ref (d.2.1 21), .ref (d.2.1 22), .ref (d.2.1 23), .ref (d.2.1 24), .ref (d.2.1 25), .ref (d.2.1 26), .ref (d.2.1 27), .ref (d.2.1 28), .ref (d.2.1 29), .ref (d.2.1 30), .int (st.1 31)]
def m_W (d : MD) (st : MS) : va_W := [(d.1, .inr (0, m_fs d st)), (d.2.1 0, .inl (d.2.2.1 0, 266, .inl (st.2.1 0))), (d.2.1 1, .inl (d.2.2.1 0, 266, .inl (st.2.1 1))), (d.2.1 2, .inl (d.2.2.1 0, 2660, .inl (st.2.1 2))), (d.2.1 3, .inl (d.2.2.1 1, 12, .inr (.inl (st.2.2 3)))), (d.2.1 4, .inl (d.2.2.1 1, 12, .inr (.inl (st.2.2 4)))), (d.2.1 9, .inl (d.2.2.1 2, 900, .inl (st.2.1 9))), (d.2.1 17, .inl (d.2.2.1 0, 64, .inl (st.2.1 17))), (d.2.1 18, .inl (d.2.2.1 0, 8, .inl (st.2.1 18))), (d.2.1 20, .inl (d.2.2.1 0, 8, .inl (st.2.1 20))), (d.2.1 21, .inl (d.2.2.1 0, 64, .inl (st.2.1 21))), (d.2.1 22, .inl (d.2.2.1 0, 64, .inl (st.2.1 22))), (d.2.1 23, .inl (d.2.2.1 0, 8, .inl (st.2.1 23))), (d.2.1 24, .inl (d.2.2.1 0, 8, .inl (st.2.1 24))), (d.2.1 25, .inl (d.2.2.1 0, 8, .inl (st.2.1 25))), (d.2.1 26, .inl (d.2.2.1 3, 64, .inl (st.2.1 26))), (d.2.1 27, .inl (d.2.2.1 0, 16, .inl (st.2.1 27))), (d.2.1 28, .inl (d.2.2.1 0, 16, .inl (st.2.1 28))), (d.2.1 29, .inl (d.2.2.1 0, 256, .inl (st.2.1 29))), (d.2.1 30, .inl (d.2.2.1 0, 48, .inl (st.2.1 30)))]
theorem m_set5 (d : MD) (st : MS) (v : Int32) : (m_W d st).set 0 (d.1, .inr (0, (m_fs d st).set 5 (.int v))) = m_W d (m_sg st 5 v) := rfl
theorem m_set6 (d : MD) (st : MS) (v : Int32) : (m_W d st).set 0 (d.1, .inr (0, (m_fs d st).set 6 (.int v))) = m_W d (m_sg st 6 v) := rfl
theorem m_set7 (d : MD) (st : MS) (v : Int32) : (m_W d st).set 0 (d.1, .inr (0, (m_fs d st).set 7 (.int v))) = m_W d (m_sg st 7 v) := rfl
theorem m_set8 (d : MD) (st : MS) (v : Int32) : (m_W d st).set 0 (d.1, .inr (0, (m_fs d st).set 8 (.int v))) = m_W d (m_sg st 8 v) := rfl
theorem m_set10 (d : MD) (st : MS) (v : Int32) : (m_W d st).set 0 (d.1, .inr (0, (m_fs d st).set 10 (.int v))) = m_W d (m_sg st 10 v) := rfl
theorem m_set11 (d : MD) (st : MS) (v : Int32) : (m_W d st).set 0 (d.1, .inr (0, (m_fs d st).set 11 (.int v))) = m_W d (m_sg st 11 v) := rfl
theorem m_set12 (d : MD) (st : MS) (v : Int32) : (m_W d st).set 0 (d.1, .inr (0, (m_fs d st).set 12 (.int v))) = m_W d (m_sg st 12 v) := rfl
theorem m_set13 (d : MD) (st : MS) (v : Int32) : (m_W d st).set 0 (d.1, .inr (0, (m_fs d st).set 13 (.int v))) = m_W d (m_sg st 13 v) := rfl
theorem m_set14 (d : MD) (st : MS) (v : Int32) : (m_W d st).set 0 (d.1, .inr (0, (m_fs d st).set 14 (.int v))) = m_W d (m_sg st 14 v) := rfl
theorem m_set15 (d : MD) (st : MS) (v : Int32) : (m_W d st).set 0 (d.1, .inr (0, (m_fs d st).set 15 (.int v))) = m_W d (m_sg st 15 v) := rfl
theorem m_set16 (d : MD) (st : MS) (v : Int32) : (m_W d st).set 0 (d.1, .inr (0, (m_fs d st).set 16 (.int v))) = m_W d (m_sg st 16 v) := rfl
theorem m_set19 (d : MD) (st : MS) (v : Int32) : (m_W d st).set 0 (d.1, .inr (0, (m_fs d st).set 19 (.int v))) = m_W d (m_sg st 19 v) := rfl
theorem m_set31 (d : MD) (st : MS) (v : Int32) : (m_W d st).set 0 (d.1, .inr (0, (m_fs d st).set 31 (.int v))) = m_W d (m_sg st 31 v) := rfl
theorem m_st0 (d : MD) (st : MS) (i : Nat) (v : Int32) : (m_W d st).set 1 (d.2.1 0, .inl (d.2.2.1 0, 266, .inl (upd (st.2.1 0) i v))) = m_W d (m_sa st 0 i v) := rfl
theorem m_st1 (d : MD) (st : MS) (i : Nat) (v : Int32) : (m_W d st).set 2 (d.2.1 1, .inl (d.2.2.1 0, 266, .inl (upd (st.2.1 1) i v))) = m_W d (m_sa st 1 i v) := rfl
theorem m_st2 (d : MD) (st : MS) (i : Nat) (v : Int32) : (m_W d st).set 3 (d.2.1 2, .inl (d.2.2.1 0, 2660, .inl (upd (st.2.1 2) i v))) = m_W d (m_sa st 2 i v) := rfl
theorem m_st3 (d : MD) (st : MS) (i : Nat) (v : Int64) : (m_W d st).set 4 (d.2.1 3, .inl (d.2.2.1 1, 12, .inr (.inl (vp_updL (st.2.2 3) i v)))) = m_W d (m_sb st 3 i v) := rfl
theorem m_st4 (d : MD) (st : MS) (i : Nat) (v : Int64) : (m_W d st).set 5 (d.2.1 4, .inl (d.2.2.1 1, 12, .inr (.inl (vp_updL (st.2.2 4) i v)))) = m_W d (m_sb st 4 i v) := rfl
theorem m_st9 (d : MD) (st : MS) (i : Nat) (v : Int32) : (m_W d st).set 6 (d.2.1 9, .inl (d.2.2.1 2, 900, .inl (upd (st.2.1 9) i v))) = m_W d (m_sa st 9 i v) := rfl
theorem m_st17 (d : MD) (st : MS) (i : Nat) (v : Int32) : (m_W d st).set 7 (d.2.1 17, .inl (d.2.2.1 0, 64, .inl (upd (st.2.1 17) i v))) = m_W d (m_sa st 17 i v) := rfl
theorem m_st18 (d : MD) (st : MS) (i : Nat) (v : Int32) : (m_W d st).set 8 (d.2.1 18, .inl (d.2.2.1 0, 8, .inl (upd (st.2.1 18) i v))) = m_W d (m_sa st 18 i v) := rfl
theorem m_st20 (d : MD) (st : MS) (i : Nat) (v : Int32) : (m_W d st).set 9 (d.2.1 20, .inl (d.2.2.1 0, 8, .inl (upd (st.2.1 20) i v))) = m_W d (m_sa st 20 i v) := rfl
theorem m_st21 (d : MD) (st : MS) (i : Nat) (v : Int32) : (m_W d st).set 10 (d.2.1 21, .inl (d.2.2.1 0, 64, .inl (upd (st.2.1 21) i v))) = m_W d (m_sa st 21 i v) := rfl
theorem m_st22 (d : MD) (st : MS) (i : Nat) (v : Int32) : (m_W d st).set 11 (d.2.1 22, .inl (d.2.2.1 0, 64, .inl (upd (st.2.1 22) i v))) = m_W d (m_sa st 22 i v) := rfl
theorem m_st23 (d : MD) (st : MS) (i : Nat) (v : Int32) : (m_W d st).set 12 (d.2.1 23, .inl (d.2.2.1 0, 8, .inl (upd (st.2.1 23) i v))) = m_W d (m_sa st 23 i v) := rfl
theorem m_st24 (d : MD) (st : MS) (i : Nat) (v : Int32) : (m_W d st).set 13 (d.2.1 24, .inl (d.2.2.1 0, 8, .inl (upd (st.2.1 24) i v))) = m_W d (m_sa st 24 i v) := rfl
theorem m_st25 (d : MD) (st : MS) (i : Nat) (v : Int32) : (m_W d st).set 14 (d.2.1 25, .inl (d.2.2.1 0, 8, .inl (upd (st.2.1 25) i v))) = m_W d (m_sa st 25 i v) := rfl
theorem m_st26 (d : MD) (st : MS) (i : Nat) (v : Int32) : (m_W d st).set 15 (d.2.1 26, .inl (d.2.2.1 3, 64, .inl (upd (st.2.1 26) i v))) = m_W d (m_sa st 26 i v) := rfl
theorem m_st27 (d : MD) (st : MS) (i : Nat) (v : Int32) : (m_W d st).set 16 (d.2.1 27, .inl (d.2.2.1 0, 16, .inl (upd (st.2.1 27) i v))) = m_W d (m_sa st 27 i v) := rfl
theorem m_st28 (d : MD) (st : MS) (i : Nat) (v : Int32) : (m_W d st).set 17 (d.2.1 28, .inl (d.2.2.1 0, 16, .inl (upd (st.2.1 28) i v))) = m_W d (m_sa st 28 i v) := rfl
theorem m_st29 (d : MD) (st : MS) (i : Nat) (v : Int32) : (m_W d st).set 18 (d.2.1 29, .inl (d.2.2.1 0, 256, .inl (upd (st.2.1 29) i v))) = m_W d (m_sa st 29 i v) := rfl
theorem m_st30 (d : MD) (st : MS) (i : Nat) (v : Int32) : (m_W d st).set 19 (d.2.1 30, .inl (d.2.2.1 0, 48, .inl (upd (st.2.1 30) i v))) = m_W d (m_sa st 30 i v) := rfl

def m_K (D : va_G) (d : MD) (s : State) : Prop := va_K D gCl [(d.2.2.1 0, .int), (d.2.2.1 1, .long), (d.2.2.1 2, .byte), (d.2.2.1 3, .boolean)] s
/-- a method's fixed ground -/
def m_X (D : va_G) (A : Nat → Prop) (d : MD) (p : Program) (s : State) (m : MethodId) (c : Code) (cc : ByteArray) (nL : Nat) (args : Array Value) : Prop := p.tables.exec = Jvm.exec ∧ c.code = cc ∧ (∀ w ∈ lw_all, w.before args s = true) ∧ s.vm.findClass RX3 = some m.cls ∧ m_K D d s ∧ c.maxLocals = nL ∧ g_E d.2.2.2 A s s.heap
/-- the world as it is now -/
def m_I (D : va_G) (A : Nat → Prop) (d : MD) (H0 : Heap) (st : MS) (H : Heap) (locs : List Loc) : Prop := va_P D gCl (m_W d st) H ∧ va_D A (m_W d st) ∧ va_S A H0 H locs
def m_in (i : Int32) (n : Nat) : Bool := decide (¬ (i < 0 ∨ n ≤ i.toNatClampNeg))
theorem m_inS {i : Int32} {n : Nat} (h : m_in i n = true) : vp_in i n := by unfold vp_in; exact of_decide_eq_true h
def m_g {α : Type} (b : Bool) (x : Option α) : Option α := match b with
  | true => x
  | false => none
theorem m_gS {α : Type} {b : Bool} {x : Option α} {r : α} (h : m_g b x = some r) : b = true ∧ x = some r := by
  cases b with
  | true => exact ⟨rfl, h⟩
  | false => cases h
def m_b {α β : Type} (x : Option α) (k : α → Option β) : Option β := match x with
  | some a => k a
  | none => none
theorem m_bS {α β : Type} {x : Option α} {k : α → Option β} {r : β} (h : m_b x k = some r) : ∃ a, x = some a ∧ k a = some r := by
  cases x with
  | some a => exact ⟨a, rfl, h⟩
  | none => cases h
def m_if {α : Type} (c : Prop) [Decidable c] (x y : Option α) : Option α := if c then x else y
theorem m_ifT {α : Type} {c : Prop} [Decidable c] {x y : Option α} {r : α} (hc : c) (h : m_if c x y = some r) : x = some r := by
  unfold m_if at h; rwa [if_pos hc] at h
theorem m_ifF {α : Type} {c : Prop} [Decidable c] {x y : Option α} {r : α} (hc : ¬ c) (h : m_if c x y = some r) : y = some r := by
  unfold m_if at h; rwa [if_neg hc] at h
def m_lp {σ ρ : Type} (B : σ → Option (σ ⊕ ρ)) : Nat → σ → Option ρ
  | 0, _ => none
  | n + 1, x => m_b (B x) (fun r => match r with
    | .inl y => m_lp B n y
    | .inr z => some z)
theorem m_lpW {σ ρ : Type} {B : σ → Option (σ ⊕ ρ)} (G : σ → Prop) (E : ρ → Prop) (hs : ∀ x r, B x = some r → (match r with | .inl y => G y | .inr z => E z) → G x) : ∀ (n : Nat) (x : σ) (z : ρ), m_lp B n x = some z → E z → G x := by
  intro n
  induction n with
  | zero => intro x z h; cases h
  | succ n ih =>
    intro x z h hz
    obtain ⟨r, h1, h2⟩ := m_bS h
    refine hs x r h1 ?_
    cases r with
    | inl y => exact ih y z h2 hz
    | inr z' => cases h2; exact hz
section ML
variable {p : Program} {l : Launch} {e : Env} {R : Room} {s : State} {m : MethodId} {args : Array Value} {below : List Frame} {meth : Method} {c : Code} {H H0 : Heap} {locs : List Loc} {cells slots : Nat} {Q : State → Prop} {pc : Nat} {ls : Array Slot} {rest : List Value} {cc : ByteArray} {nL : Nat} {D : va_G} {A : Nat → Prop} {d : MD} {st : MS}
theorem m_get (X : m_X D A d p s m c cc nL args) (I : m_I D A d H0 st H locs) (k : Nat) (hk : k < 32) {index : Nat} {nm ds : String} (e1 : (TX3 k).2.1 = nm) (e2 : (TX3 k).2.2.1 = ds) (e3 : (TX3 k).1 = "SwapPressModel") (hlink : Cond.fieldLink "SwapPressModel" index "SwapPressModel" nm ds ∈ lw_all) {v : Value} (hv : (m_fs d st)[k]? = some v) (hdg : decode cc pc = .ok (.getfield index, 3)) (kk : W p l e R s m args below meth c H locs cells slots Q (F0 m (pc + 3) ls (v :: rest))) : W p l e R s m args below meth c H locs cells slots Q (F0 m pc ls (.ref d.1 :: rest)) := by
  subst e1 e2
  exact va_get (D := D) (ci := 0) (C := RX3) (T := TX3) (N := 32) (ref := "SwapPressModel") X.1 X.2.1 X.2.2.1 in_X3 X.2.2.2.1 X.2.2.2.2.1 I.1 0 rfl rfl k hk (X.2.2.1 _ hlink) (fun _ h => by rw [← e3]; exact h) hv hdg kk
theorem m_put (X : m_X D A d p s m c cc nL args) (I : m_I D A d H0 st H locs) (k : Nat) (hk : k < 32) {index : Nat} {nm : String} (e1 : (TX3 k).2.1 = nm) (e2 : (TX3 k).2.2.1 = "I") (e3 : (TX3 k).1 = "SwapPressModel") (hlink : Cond.fieldLink "SwapPressModel" index "SwapPressModel" nm "I" ∈ lw_all) (hfin : (TX3 k).2.2.2 = false) {v : Int32} (hset : (m_W d st).set 0 (d.1, .inr (0, (m_fs d st).set k (.int v))) = m_W d (m_sg st k v)) (hdg : decode cc pc = .ok (.putfield index, 3)) (kk : ∀ (H : Heap) (locs : List Loc), m_I D A d H0 (m_sg st k v) H locs → W p l e R s m args below meth c H locs cells slots Q (F0 m (pc + 3) ls rest)) : W p l e R s m args below meth c H locs cells slots Q (F0 m pc ls (.int v :: .ref d.1 :: rest)) := by
  subst e1
  have hlink' : Cond.fieldLink "SwapPressModel" index "SwapPressModel" (TX3 k).2.1 (TX3 k).2.2.1 ∈ lw_all := by rw [e2]; exact hlink
  refine va_put (D := D) (ci := 0) (C := RX3) (T := TX3) (N := 32) (ty := .int) (v := .int v) (ref := "SwapPressModel") X.1 X.2.1 X.2.2.1 in_X3 tyX3 tyX3_ok nmX3 X.2.2.2.1 X.2.2.2.2.1 I.1 I.2.1 I.2.2 0 rfl rfl k hk (X.2.2.1 _ hlink') (fun _ h => by rw [← e3]; exact h) hfin (by rw [e2]; decide +kernel) rfl rfl (by show k < 32; exact hk) hdg (fun H locs hP hD hS => ?_)
  rw [hset] at hP hD
  exact kk H locs ⟨hP, hD, hS⟩
theorem m_iald (X : m_X D A d p s m c cc nL args) (I : m_I D A d H0 st H locs) (q0 : Nat) {a n : Nat} {f : Nat → Int32} (ha : (m_W d st)[q0]? = some (a, .inl (d.2.2.1 0, n, .inl f))) {i : Int32} (hin : m_in i n = true) (hdg : decode cc pc = .ok (.iaload, 1)) (kk : W p l e R s m args below meth c H locs cells slots Q (F0 m (pc + 1) ls (.int (f i.toNatClampNeg) :: rest))) : W p l e R s m args below meth c H locs cells slots Q (F0 m pc ls (.int i :: .ref a :: rest)) := va_iald X.1 X.2.1 X.2.2.2.2.1 I.1 q0 0 ha rfl (m_inS hin) hdg kk
theorem m_lald (X : m_X D A d p s m c cc nL args) (I : m_I D A d H0 st H locs) (q0 : Nat) {a n : Nat} {f : Nat → Int64} (ha : (m_W d st)[q0]? = some (a, .inl (d.2.2.1 1, n, .inr (.inl f)))) {i : Int32} (hin : m_in i n = true) (hdg : decode cc pc = .ok (.laload, 1)) (kk : W p l e R s m args below meth c H locs cells slots Q (F0 m (pc + 1) ls (.long (f i.toNatClampNeg) :: rest))) : W p l e R s m args below meth c H locs cells slots Q (F0 m pc ls (.int i :: .ref a :: rest)) := va_lald X.1 X.2.1 X.2.2.2.2.1 I.1 q0 1 ha rfl (m_inS hin) hdg kk
theorem m_bald (X : m_X D A d p s m c cc nL args) (I : m_I D A d H0 st H locs) (q0 : Nat) {a n : Nat} {f : Nat → Int32} (ha : (m_W d st)[q0]? = some (a, .inl (d.2.2.1 2, n, .inl f))) {i : Int32} (hin : m_in i n = true) (hdg : decode cc pc = .ok (.baload, 1)) (kk : W p l e R s m args below meth c H locs cells slots Q (F0 m (pc + 1) ls (.int (f i.toNatClampNeg) :: rest))) : W p l e R s m args below meth c H locs cells slots Q (F0 m pc ls (.int i :: .ref a :: rest)) := va_bald X.1 X.2.1 X.2.2.2.2.1 I.1 q0 2 ha rfl (m_inS hin) hdg kk
theorem m_zald (X : m_X D A d p s m c cc nL args) (I : m_I D A d H0 st H locs) (q0 : Nat) {a n : Nat} {f : Nat → Int32} (ha : (m_W d st)[q0]? = some (a, .inl (d.2.2.1 3, n, .inl f))) {i : Int32} (hin : m_in i n = true) (hdg : decode cc pc = .ok (.baload, 1)) (kk : W p l e R s m args below meth c H locs cells slots Q (F0 m (pc + 1) ls (.int (f i.toNatClampNeg) :: rest))) : W p l e R s m args below meth c H locs cells slots Q (F0 m pc ls (.int i :: .ref a :: rest)) := va_zald X.1 X.2.1 X.2.2.2.2.1 I.1 q0 3 ha rfl (m_inS hin) hdg kk
theorem m_iast (X : m_X D A d p s m c cc nL args) (I : m_I D A d H0 st H locs) (q0 : Nat) {a n : Nat} {f : Nat → Int32} (ha : (m_W d st)[q0]? = some (a, .inl (d.2.2.1 0, n, .inl f))) {i x : Int32} {st' : MS} (hset : (m_W d st).set q0 (a, .inl (d.2.2.1 0, n, .inl (upd f i.toNatClampNeg x))) = m_W d st') (hin : m_in i n = true) (hdg : decode cc pc = .ok (.iastore, 1)) (kk : ∀ (H : Heap) (locs : List Loc), m_I D A d H0 st' H locs → W p l e R s m args below meth c H locs cells slots Q (F0 m (pc + 1) ls rest)) : W p l e R s m args below meth c H locs cells slots Q (F0 m pc ls (.int x :: .int i :: .ref a :: rest)) := by
  refine va_iast X.1 X.2.1 X.2.2.2.2.1 I.1 I.2.1 I.2.2 q0 0 ha rfl (m_inS hin) hdg (fun H locs hP hD hS => ?_)
  rw [hset] at hP hD
  exact kk H locs ⟨hP, hD, hS⟩
theorem m_last (X : m_X D A d p s m c cc nL args) (I : m_I D A d H0 st H locs) (q0 : Nat) {a n : Nat} {f : Nat → Int64} (ha : (m_W d st)[q0]? = some (a, .inl (d.2.2.1 1, n, .inr (.inl f)))) {i : Int32} {x : Int64} {st' : MS} (hset : (m_W d st).set q0 (a, .inl (d.2.2.1 1, n, .inr (.inl (vp_updL f i.toNatClampNeg x)))) = m_W d st') (hin : m_in i n = true) (hdg : decode cc pc = .ok (.lastore, 1)) (kk : ∀ (H : Heap) (locs : List Loc), m_I D A d H0 st' H locs → W p l e R s m args below meth c H locs cells slots Q (F0 m (pc + 1) ls rest)) : W p l e R s m args below meth c H locs cells slots Q (F0 m pc ls (.long x :: .int i :: .ref a :: rest)) := by
  refine va_last X.1 X.2.1 X.2.2.2.2.1 I.1 I.2.1 I.2.2 q0 1 ha rfl (m_inS hin) hdg (fun H locs hP hD hS => ?_)
  rw [hset] at hP hD
  exact kk H locs ⟨hP, hD, hS⟩
theorem m_bast (X : m_X D A d p s m c cc nL args) (I : m_I D A d H0 st H locs) (q0 : Nat) {a n : Nat} {f : Nat → Int32} (ha : (m_W d st)[q0]? = some (a, .inl (d.2.2.1 2, n, .inl f))) {i x : Int32} {st' : MS} (hset : (m_W d st).set q0 (a, .inl (d.2.2.1 2, n, .inl (upd f i.toNatClampNeg (vp_nar .byte x)))) = m_W d st') (hin : m_in i n = true) (hdg : decode cc pc = .ok (.bastore, 1)) (kk : ∀ (H : Heap) (locs : List Loc), m_I D A d H0 st' H locs → W p l e R s m args below meth c H locs cells slots Q (F0 m (pc + 1) ls rest)) : W p l e R s m args below meth c H locs cells slots Q (F0 m pc ls (.int x :: .int i :: .ref a :: rest)) := by
  refine va_bast X.1 X.2.1 X.2.2.2.2.1 I.1 I.2.1 I.2.2 q0 2 ha rfl (m_inS hin) hdg (fun H locs hP hD hS => ?_)
  rw [hset] at hP hD
  exact kk H locs ⟨hP, hD, hS⟩
theorem m_zast (X : m_X D A d p s m c cc nL args) (I : m_I D A d H0 st H locs) (q0 : Nat) {a n : Nat} {f : Nat → Int32} (ha : (m_W d st)[q0]? = some (a, .inl (d.2.2.1 3, n, .inl f))) {i x : Int32} {st' : MS} (hset : (m_W d st).set q0 (a, .inl (d.2.2.1 3, n, .inl (upd f i.toNatClampNeg (vp_nar .boolean x)))) = m_W d st') (hin : m_in i n = true) (hdg : decode cc pc = .ok (.bastore, 1)) (kk : ∀ (H : Heap) (locs : List Loc), m_I D A d H0 st' H locs → W p l e R s m args below meth c H locs cells slots Q (F0 m (pc + 1) ls rest)) : W p l e R s m args below meth c H locs cells slots Q (F0 m pc ls (.int x :: .int i :: .ref a :: rest)) := by
  refine va_zast X.1 X.2.1 X.2.2.2.2.1 I.1 I.2.1 I.2.2 q0 3 ha rfl (m_inS hin) hdg (fun H locs hP hD hS => ?_)
  rw [hset] at hP hD
  exact kk H locs ⟨hP, hD, hS⟩
end ML

def m_Pc (D : va_G) (d : MD) (st : MS) (av : List Value) (sz : Nat) : Array Value → State → Prop := va_Pc av (fun U => U.heap.size = sz ∧ va_P D gCl (m_W d st) U.heap ∧ m_K D d U ∧ va_D (fun _ => True) (m_W d st) ∧ g_E d.2.2.2 (va_A (m_W d st) sz) U U.heap)
def m_B (D : va_G) (d : MD) (A : Nat → Prop) (u : MS) (t : State) : Prop := va_P D gCl (m_W d u) t.heap ∧ m_K D d t ∧ va_D A (m_W d u)
def m_Mi (l : Launch) (y : MethodName) (b : ByteArray) (nL : Nat) (ret : Option FieldType) (rm : Room) (D : va_G) (d : MD) (st : MS) (av : List Value) (r : Int32) (st' : MS) : Prop := ∀ sz : Nat, Met l y (ws_ y b nL ret) rm (m_Pc D d st av sz) (va_Qi (fun (r' : Int32) (u : MS) => r' = r ∧ u = st') (m_B D d (va_A (m_W d st) sz)) (va_A (m_W d st) sz)) 0 0 (va_A (m_W d st) sz)
def m_Ml (l : Launch) (y : MethodName) (b : ByteArray) (nL : Nat) (ret : Option FieldType) (rm : Room) (D : va_G) (d : MD) (st : MS) (av : List Value) (r : Int64) (st' : MS) : Prop := ∀ sz : Nat, Met l y (ws_ y b nL ret) rm (m_Pc D d st av sz) (va_Ql (fun (r' : Int64) (u : MS) => r' = r ∧ u = st') (m_B D d (va_A (m_W d st) sz)) (va_A (m_W d st) sz)) 0 0 (va_A (m_W d st) sz)
def m_Mv (l : Launch) (y : MethodName) (b : ByteArray) (nL : Nat) (ret : Option FieldType) (rm : Room) (D : va_G) (d : MD) (st : MS) (av : List Value) (st' : MS) : Prop := ∀ sz : Nat, Met l y (ws_ y b nL ret) rm (m_Pc D d st av sz) (va_Qv (fun (u : MS) => u = st') (m_B D d (va_A (m_W d st) sz)) (va_A (m_W d st) sz)) 0 0 (va_A (m_W d st) sz)
/-- a static method of plain numbers -/
def m_Si (l : Launch) (y : MethodName) (b : ByteArray) (nL : Nat) (ret : Option FieldType) (rm : Room) (av : List Value) (r : Int32) : Prop := Met l y (ws_ y b nL ret) rm (va_Pc av (fun _ => True)) (vp_Si (fun r' => r' = r)) 0 0 (fun _ => False)
theorem m_blind {D : va_G} {d : MD} {st : MS} {av : List Value} {sz : Nat} : FrameBlind (m_Pc D d st av sz) := fun a U g mk q => by
  obtain ⟨q0, q1, qP, qK, qD, qE⟩ := q
  exact ⟨q0, q1, qP, va_K.moved (u := U) (U := U.calling g mk a) (Vm.Alike.refl U.vm) qK, qD, qE.calling⟩
theorem m_inA {D : va_G} {A : Nat → Prop} {d : MD} {H0 H : Heap} {st : MS} {locs : List Loc} (I : m_I D A d H0 st H locs) (hA : ∀ q, H0.size ≤ q → A q) : ∀ q, va_A (m_W d st) H.size q → A q := fun q h => by
  rcases h with ⟨k, x, h⟩ | h
  · exact I.2.1.2 k (q, x) h
  · exact hA q (Nat.le_trans I.2.2.1 h)
theorem m_D {A A' : Nat → Prop} {d : MD} {st st' : MS} (h : va_D A' (m_W d st')) (h0 : va_D A (m_W d st)) : va_D A (m_W d st') := by
  refine ⟨h.1, fun k q hk => ?_⟩
  have e : (m_W d st').map (fun q => q.1) = (m_W d st).map (fun q => q.1) := rfl
  have h1 : ((m_W d st').map (fun q => q.1))[k]? = some q.1 := by rw [List.getElem?_map, hk]; rfl
  rw [e, List.getElem?_map] at h1
  cases hq : (m_W d st)[k]? with
  | none => rw [hq] at h1; cases h1
  | some q' => rw [hq] at h1; have h2 := h0.2 k q' hq; rw [← Option.some.inj h1]; exact h2
section MC
variable {p : Program} {l : Launch} {e : Env} {R : Room} {s : State} {m : MethodId} {args : Array Value} {below : List Frame} {meth : Method} {c : Code} {H H0 : Heap} {locs : List Loc} {cells slots : Nat} {Q : State → Prop} {pc : Nat} {ls : Array Slot} {rest : List Value} {cc : ByteArray} {nL : Nat} {D : va_G} {A : Nat → Prop} {d : MD} {st : MS}
theorem m_pre {As : List Value} (X : m_X D A d p s m c cc nL args) (I : m_I D A d s.heap st H locs) (hA : ∀ q, s.heap.size ≤ q → A q) : PreV s H RX3 d.1 (m_Pc D d st (.ref d.1 :: As) H.size) As :=
  ⟨m_blind, va_recv X.2.2.2.2.1 I.1 (ci := 0) (q0 := 0) rfl rfl, fun U hU hW => ⟨rfl, by rw [hU], by rw [hU]; exact I.1, va_K.moved hW.alike X.2.2.2.2.1, I.2.1.weaken (fun _ _ _ _ => trivial), by rw [show va_A (m_W d st) H.size = va_A (m_W d st) H.size from rfl]; exact X.2.2.2.2.2.2.go I.2.2 (m_inA I hA) hW hU⟩⟩
theorem m_preS {As : List Value} (X : m_X D A d p s m c cc nL args) (I : m_I D A d s.heap st H locs) (hA : ∀ q, s.heap.size ≤ q → A q) : PreS s H (m_Pc D d st As H.size) As :=
  ⟨m_blind, fun U hU hW => ⟨rfl, by rw [hU], by rw [hU]; exact I.1, va_K.moved hW.alike X.2.2.2.2.1, I.2.1.weaken (fun _ _ _ _ => trivial), by rw [show va_A (m_W d st) H.size = va_A (m_W d st) H.size from rfl]; exact X.2.2.2.2.2.2.go I.2.2 (m_inA I hA) hW hU⟩⟩
theorem m_callI (X : m_X D A d p s m c cc nL args) (hl : ls.size = nL) (I : m_I D A d s.heap st H locs) (hA : ∀ q, s.heap.size ≤ q → A q) {y : MethodName} {bytes : ByteArray} {maxL index : Nat} {ret : Option FieldType} {rm : Room} {st0 As : List Value} {r : Int32} {st' : MS} (hM : m_Mi l y bytes maxL ret rm D d st (.ref d.1 :: As) r st') (n : Nat) (h1 : Cond.methodLink RX3 index y ∈ lw_all) (h2 : Cond.instanceMethod y ∈ lw_all) (h3 : Cond.selects RX3 y y ∈ lw_all) (h4 : Cond.initialized RX3 ∈ lw_all) (h5 : Cond.code y bytes maxL ret ∈ lw_all) (hd : y.cls = RX3 ∧ y.cls ≠ "java/lang/invoke/MethodHandle" ∧ y.cls ≠ "java/lang/invoke/VarHandle" ∧ (parseMethodDescriptor y.desc).map (fun d => d.parameters.length) = some n) (hn : As.length = n) (hst : st0 = As.reverse ++ .ref d.1 :: rest) (hR : rm.frames + 1 ≤ R.frames ∧ 8 + (maxL + 11) + rm.locals ≤ R.locals) (hrm : rm.cells = 0 ∧ rm.slots = 0) (hf : cells ≤ R.cells ∧ slots ≤ R.slots) (hrest : (rest.map fun v => v.category).sum ≤ 8) (hdg : decode cc pc = .ok (.invokevirtual index, 3)) (kk : ∀ (H : Heap) (locs : List Loc), m_I D A d s.heap st' H locs → W p l e R s m args below meth c H locs cells slots Q (F0 m (pc + 3) ls (.int r :: rest))) : W p l e R s m args below meth c H locs cells slots Q (F0 m pc ls st0) := by
  subst hst
  refine va_calli (va_runV (As := As) (rest := rest) (C := RX3) ⟨X.1, X.2.1, X.2.2.2.2.2.1, X.2.2.2.1, X.2.2.1⟩ (hM H.size) (cwV n X.2.2.1 (lw_V h1 h2 h3 h4 h5) rfl hrm.1 hrm.2 hd hR) (m_pre X I hA) rfl hn hl rfl (lv_room hrest) hdg hf) I.2.2 (fun q _ h => m_inA I hA q h) (m_inA I hA) (fun r1 u t H1 locs1 ht hvm hw hB hz hk hS => ?_)
  obtain ⟨rfl, rfl⟩ := hw
  obtain ⟨hP1, hK1, hD1⟩ := hB
  rw [ht] at hP1
  exact kk H1 locs1 ⟨hP1, m_D hD1 I.2.1, hS⟩
theorem m_callL (X : m_X D A d p s m c cc nL args) (hl : ls.size = nL) (I : m_I D A d s.heap st H locs) (hA : ∀ q, s.heap.size ≤ q → A q) {y : MethodName} {bytes : ByteArray} {maxL index : Nat} {ret : Option FieldType} {rm : Room} {st0 As : List Value} {r : Int64} {st' : MS} (hM : m_Ml l y bytes maxL ret rm D d st (.ref d.1 :: As) r st') (n : Nat) (h1 : Cond.methodLink RX3 index y ∈ lw_all) (h2 : Cond.instanceMethod y ∈ lw_all) (h3 : Cond.selects RX3 y y ∈ lw_all) (h4 : Cond.initialized RX3 ∈ lw_all) (h5 : Cond.code y bytes maxL ret ∈ lw_all) (hd : y.cls = RX3 ∧ y.cls ≠ "java/lang/invoke/MethodHandle" ∧ y.cls ≠ "java/lang/invoke/VarHandle" ∧ (parseMethodDescriptor y.desc).map (fun d => d.parameters.length) = some n) (hn : As.length = n) (hst : st0 = As.reverse ++ .ref d.1 :: rest) (hR : rm.frames + 1 ≤ R.frames ∧ 8 + (maxL + 11) + rm.locals ≤ R.locals) (hrm : rm.cells = 0 ∧ rm.slots = 0) (hf : cells ≤ R.cells ∧ slots ≤ R.slots) (hrest : (rest.map fun v => v.category).sum ≤ 8) (hdg : decode cc pc = .ok (.invokevirtual index, 3)) (kk : ∀ (H : Heap) (locs : List Loc), m_I D A d s.heap st' H locs → W p l e R s m args below meth c H locs cells slots Q (F0 m (pc + 3) ls (.long r :: rest))) : W p l e R s m args below meth c H locs cells slots Q (F0 m pc ls st0) := by
  subst hst
  refine va_calll (va_runV (As := As) (rest := rest) (C := RX3) ⟨X.1, X.2.1, X.2.2.2.2.2.1, X.2.2.2.1, X.2.2.1⟩ (hM H.size) (cwV n X.2.2.1 (lw_V h1 h2 h3 h4 h5) rfl hrm.1 hrm.2 hd hR) (m_pre X I hA) rfl hn hl rfl (lv_room hrest) hdg hf) I.2.2 (fun q _ h => m_inA I hA q h) (m_inA I hA) (fun r1 u t H1 locs1 ht hvm hw hB hz hk hS => ?_)
  obtain ⟨rfl, rfl⟩ := hw
  obtain ⟨hP1, hK1, hD1⟩ := hB
  rw [ht] at hP1
  exact kk H1 locs1 ⟨hP1, m_D hD1 I.2.1, hS⟩
theorem m_callV (X : m_X D A d p s m c cc nL args) (hl : ls.size = nL) (I : m_I D A d s.heap st H locs) (hA : ∀ q, s.heap.size ≤ q → A q) {y : MethodName} {bytes : ByteArray} {maxL index : Nat} {ret : Option FieldType} {rm : Room} {st0 As : List Value} {st' : MS} (hM : m_Mv l y bytes maxL ret rm D d st (.ref d.1 :: As) st') (n : Nat) (h1 : Cond.methodLink RX3 index y ∈ lw_all) (h2 : Cond.instanceMethod y ∈ lw_all) (h3 : Cond.selects RX3 y y ∈ lw_all) (h4 : Cond.initialized RX3 ∈ lw_all) (h5 : Cond.code y bytes maxL ret ∈ lw_all) (hd : y.cls = RX3 ∧ y.cls ≠ "java/lang/invoke/MethodHandle" ∧ y.cls ≠ "java/lang/invoke/VarHandle" ∧ (parseMethodDescriptor y.desc).map (fun d => d.parameters.length) = some n) (hn : As.length = n) (hst : st0 = As.reverse ++ .ref d.1 :: rest) (hR : rm.frames + 1 ≤ R.frames ∧ 8 + (maxL + 11) + rm.locals ≤ R.locals) (hrm : rm.cells = 0 ∧ rm.slots = 0) (hf : cells ≤ R.cells ∧ slots ≤ R.slots) (hrest : (rest.map fun v => v.category).sum ≤ 8) (hdg : decode cc pc = .ok (.invokevirtual index, 3)) (kk : ∀ (H : Heap) (locs : List Loc), m_I D A d s.heap st' H locs → W p l e R s m args below meth c H locs cells slots Q (F0 m (pc + 3) ls rest)) : W p l e R s m args below meth c H locs cells slots Q (F0 m pc ls st0) := by
  subst hst
  refine va_callv (va_runV (As := As) (rest := rest) (C := RX3) ⟨X.1, X.2.1, X.2.2.2.2.2.1, X.2.2.2.1, X.2.2.1⟩ (hM H.size) (cwV n X.2.2.1 (lw_V h1 h2 h3 h4 h5) rfl hrm.1 hrm.2 hd hR) (m_pre X I hA) rfl hn hl rfl (lv_room hrest) hdg hf) I.2.2 (fun q _ h => m_inA I hA q h) (m_inA I hA) (fun u t H1 locs1 ht hvm hw hB hz hk hS => ?_)
  subst hw
  obtain ⟨hP1, hK1, hD1⟩ := hB
  rw [ht] at hP1
  exact kk H1 locs1 ⟨hP1, m_D hD1 I.2.1, hS⟩
/-- a static method over the same world (an array of it among the arguments) -/
theorem m_callSW (X : m_X D A d p s m c cc nL args) (hl : ls.size = nL) (I : m_I D A d s.heap st H locs) (hA : ∀ q, s.heap.size ≤ q → A q) {y : MethodName} {bytes : ByteArray} {maxL index : Nat} {ret : Option FieldType} {rm : Room} {st0 As : List Value} {r : Int32} {st' : MS} (hM : m_Mi l y bytes maxL ret rm D d st As r st') (n : Nat) (h1 : Cond.methodLink RX3 index y ∈ lw_all) (h2 : Cond.static y ∈ lw_all) (h4 : Cond.initialized y.cls ∈ lw_all) (h5 : Cond.code y bytes maxL ret ∈ lw_all) (hd : y.cls ≠ "java/lang/invoke/MethodHandle" ∧ y.cls ≠ "java/lang/invoke/VarHandle" ∧ (parseMethodDescriptor y.desc).map (fun d => d.parameters.length) = some n) (hn : As.length = n) (hst : st0 = As.reverse ++ rest) (hR : rm.frames + 1 ≤ R.frames ∧ 8 + (maxL + 11) + rm.locals ≤ R.locals) (hrm : rm.cells = 0 ∧ rm.slots = 0) (hf : cells ≤ R.cells ∧ slots ≤ R.slots) (hrest : (rest.map fun v => v.category).sum ≤ 8) (hdg : decode cc pc = .ok (.invokestatic index, 3)) (kk : ∀ (H : Heap) (locs : List Loc), m_I D A d s.heap st' H locs → W p l e R s m args below meth c H locs cells slots Q (F0 m (pc + 3) ls (.int r :: rest))) : W p l e R s m args below meth c H locs cells slots Q (F0 m pc ls st0) := by
  subst hst
  refine va_calli (va_runS (As := As) (rest := rest) ⟨X.1, X.2.1, X.2.2.2.2.2.1, X.2.2.2.1, X.2.2.1⟩ (hM H.size) (va_cwS n X.2.2.1 (lw_S h1 h2 h4 h5) rfl hrm.1 hrm.2 hd hR) (m_preS X I hA) rfl hn hl rfl (lv_room hrest) hdg hf) I.2.2 (fun q _ h => m_inA I hA q h) (m_inA I hA) (fun r1 u t H1 locs1 ht hvm hw hB hz hk hS => ?_)
  obtain ⟨rfl, rfl⟩ := hw
  obtain ⟨hP1, hK1, hD1⟩ := hB
  rw [ht] at hP1
  exact kk H1 locs1 ⟨hP1, m_D hD1 I.2.1, hS⟩
end MC

def m_b2 {α β γ : Type} (x : Option (α × β)) (k : α → β → Option γ) : Option γ := match x with
  | some (a, b) => k a b
  | none => none
theorem m_b2S {α β γ : Type} {x : Option (α × β)} {k : α → β → Option γ} {r : γ} (h : m_b2 x k = some r) : ∃ a b, x = some (a, b) ∧ k a b = some r := by
  cases x with
  | some q => obtain ⟨a, b⟩ := q; exact ⟨a, b, rfl, h⟩
  | none => cases h
def m_s {α β γ : Type} (z : α ⊕ β) (f : α → Option γ) (g : β → Option γ) : Option γ := match z with
  | .inl a => f a
  | .inr b => g b
theorem m_sL {α β γ : Type} {a : α} {f : α → Option γ} {g : β → Option γ} {r : γ} (h : m_s (.inl a) f g = some r) : f a = some r := h
theorem m_sR {α β γ : Type} {b : β} {f : α → Option γ} {g : β → Option γ} {r : γ} (h : m_s (.inr b) f g = some r) : g b = some r := h
def m_e {α β : Type} (E1 : α → Prop) (E2 : β → Prop) (z : α ⊕ β) : Prop := match z with
  | .inl a => E1 a
  | .inr b => E2 b
theorem m_e1 {α : Type} {a b : α} (h : some a = some b) : a = b := Option.some.inj h
theorem m_e2 {α β : Type} {a a' : α} {b b' : β} (h : some (a, b) = some (a', b')) : a = a' ∧ b = b' := by
  have := Option.some.inj h
  exact ⟨congrArg Prod.fst this, congrArg Prod.snd this⟩
theorem m_sw0_6 (x : Int32) (h0 : ¬ x = 0) (h1 : ¬ x = 1) (h2 : ¬ x = 2) (h3 : ¬ x = 3) (h4 : ¬ x = 4) (h5 : ¬ x = 5) (h6 : ¬ x = 6) : x.toInt < 0 ∨ 6 < x.toInt := by
  rcases Int.lt_or_le x.toInt 0 with h | h
  · exact Or.inl h
  · rcases Int.lt_or_le 6 x.toInt with h' | h'
    · exact Or.inr h'
    · exfalso
      have e : ∀ k : Int32, x.toInt = k.toInt → x = k := fun k hk => Int32.toInt_inj.mp hk
      have q0 := e 0; have q1 := e 1; have q2 := e 2; have q3 := e 3; have q4 := e 4; have q5 := e 5; have q6 := e 6
      have z0 : (0 : Int32).toInt = 0 := by decide
      have z1 : (1 : Int32).toInt = 1 := by decide
      have z2 : (2 : Int32).toInt = 2 := by decide
      have z3 : (3 : Int32).toInt = 3 := by decide
      have z4 : (4 : Int32).toInt = 4 := by decide
      have z5 : (5 : Int32).toInt = 5 := by decide
      have z6 : (6 : Int32).toInt = 6 := by decide
      rw [z0] at q0; rw [z1] at q1; rw [z2] at q2; rw [z3] at q3; rw [z4] at q4; rw [z5] at q5; rw [z6] at q6
      have : x.toInt = 0 ∨ x.toInt = 1 ∨ x.toInt = 2 ∨ x.toInt = 3 ∨ x.toInt = 4 ∨ x.toInt = 5 ∨ x.toInt = 6 := by omega
      rcases this with t | t | t | t | t | t | t
      · exact h0 (q0 t)
      · exact h1 (q1 t)
      · exact h2 (q2 t)
      · exact h3 (q3 t)
      · exact h4 (q4 t)
      · exact h5 (q5 t)
      · exact h6 (q6 t)
def m_01 (x : Int32) : Bool := decide (x = 0 ∨ x = 1)
theorem m_01S {x : Int32} (h : m_01 x = true) : narrow .boolean (.int x) = .int x := by
  rcases of_decide_eq_true h with h | h <;> subst h <;> rfl
section ME
variable {p : Program} {l : Launch} {e : Env} {R : Room} {s : State} {m : MethodId} {args : Array Value} {below : List Frame} {meth : Method} {c : Code} {H H0 : Heap} {locs : List Loc} {Q : State → Prop} {pc : Nat} {ls : Array Slot} {rest : List Value} {cc : ByteArray} {nL : Nat} {D : va_G} {d : MD} {st st0 : MS}
theorem m_iret (X : m_X D (va_A (m_W d st0) s.heap.size) d p s m c cc nL args) (I : m_I D (va_A (m_W d st0) s.heap.size) d s.heap st H locs) (hr : meth.sig.returnType = some .int) (hlk : meth.locks = false) {r : Int32} (hdg : decode cc pc = .ok (.ireturn, 1)) : W p l e R s m args below meth c H locs 0 0 (MQ below (va_Qi (fun (r' : Int32) (u : MS) => r' = r ∧ u = st) (m_B D d (va_A (m_W d st0) s.heap.size)) (va_A (m_W d st0) s.heap.size)) args s 0 0 (va_A (m_W d st0) s.heap.size)) (F0 m pc ls [.int r]) :=
  W.iret X.1 X.2.1 hr (fun t ht hW => ⟨⟨r, st, rfl, ⟨rfl, rfl⟩, by rw [ht]; exact I.1, va_K.moved hW.alike X.2.2.2.2.1, I.2.1⟩, I.2.2.F ht⟩) I.2.2.2.2 hdg hlk
theorem m_zret (X : m_X D (va_A (m_W d st0) s.heap.size) d p s m c cc nL args) (I : m_I D (va_A (m_W d st0) s.heap.size) d s.heap st H locs) (hr : meth.sig.returnType = some .boolean) (hlk : meth.locks = false) {r : Int32} (h01 : m_01 r = true) (hdg : decode cc pc = .ok (.ireturn, 1)) : W p l e R s m args below meth c H locs 0 0 (MQ below (va_Qi (fun (r' : Int32) (u : MS) => r' = r ∧ u = st) (m_B D d (va_A (m_W d st0) s.heap.size)) (va_A (m_W d st0) s.heap.size)) args s 0 0 (va_A (m_W d st0) s.heap.size)) (F0 m pc ls [.int r]) :=
  W.zret X.1 X.2.1 hr (m_01S h01) (fun t ht hW => ⟨⟨r, st, rfl, ⟨rfl, rfl⟩, by rw [ht]; exact I.1, va_K.moved hW.alike X.2.2.2.2.1, I.2.1⟩, I.2.2.F ht⟩) I.2.2.2.2 hdg hlk
theorem m_lret (X : m_X D (va_A (m_W d st0) s.heap.size) d p s m c cc nL args) (I : m_I D (va_A (m_W d st0) s.heap.size) d s.heap st H locs) (hr : meth.sig.returnType = some .long) (hlk : meth.locks = false) {r : Int64} (hdg : decode cc pc = .ok (.lreturn, 1)) : W p l e R s m args below meth c H locs 0 0 (MQ below (va_Ql (fun (r' : Int64) (u : MS) => r' = r ∧ u = st) (m_B D d (va_A (m_W d st0) s.heap.size)) (va_A (m_W d st0) s.heap.size)) args s 0 0 (va_A (m_W d st0) s.heap.size)) (F0 m pc ls [.long r]) :=
  W.lret X.1 X.2.1 hr (fun t ht hW => ⟨⟨r, st, rfl, ⟨rfl, rfl⟩, by rw [ht]; exact I.1, va_K.moved hW.alike X.2.2.2.2.1, I.2.1⟩, I.2.2.F ht⟩) I.2.2.2.2 hdg hlk
theorem m_vret (X : m_X D (va_A (m_W d st0) s.heap.size) d p s m c cc nL args) (I : m_I D (va_A (m_W d st0) s.heap.size) d s.heap st H locs) (hr : meth.sig.returnType = none) (hlk : meth.locks = false) (hdg : decode cc pc = .ok (.return_, 1)) : W p l e R s m args below meth c H locs 0 0 (MQ below (va_Qv (fun (u : MS) => u = st) (m_B D d (va_A (m_W d st0) s.heap.size)) (va_A (m_W d st0) s.heap.size)) args s 0 0 (va_A (m_W d st0) s.heap.size)) (F0 m pc ls []) :=
  W.vret X.1 X.2.1 hr (fun t ht hW => ⟨⟨st, rfl, rfl, by rw [ht]; exact I.1, va_K.moved hW.alike X.2.2.2.2.1, I.2.1⟩, I.2.2.F ht⟩) I.2.2.2.2 hdg hlk
theorem m_callS {A : Nat → Prop} (X : m_X D A d p s m c cc nL args) (hl : ls.size = nL) {y : MethodName} {bytes : ByteArray} {maxL index : Nat} {ret : Option FieldType} {rm : Room} {st0 As : List Value} {r : Int32} {cells slots : Nat} (hM : m_Si l y bytes maxL ret rm As r) (n : Nat) (h1 : Cond.methodLink RX3 index y ∈ lw_all) (h2 : Cond.static y ∈ lw_all) (h4 : Cond.initialized y.cls ∈ lw_all) (h5 : Cond.code y bytes maxL ret ∈ lw_all) (hd : y.cls ≠ "java/lang/invoke/MethodHandle" ∧ y.cls ≠ "java/lang/invoke/VarHandle" ∧ (parseMethodDescriptor y.desc).map (fun d => d.parameters.length) = some n) (hn : As.length = n) (hst : st0 = As.reverse ++ rest) (hR : rm.frames + 1 ≤ R.frames ∧ 8 + (maxL + 11) + rm.locals ≤ R.locals) (hrm : rm.cells = 0 ∧ rm.slots = 0) (hf : cells ≤ R.cells ∧ slots ≤ R.slots) (hrest : (rest.map fun v => v.category).sum ≤ 8) (hdg : decode cc pc = .ok (.invokestatic index, 3)) (kk : W p l e R s m args below meth c H locs cells slots Q (F0 m (pc + 3) ls (.int r :: rest))) : W p l e R s m args below meth c H locs cells slots Q (F0 m pc ls st0) := by
  subst hst
  refine vp_callSi (W.runS (As := As) (rest := rest) ⟨X.1, X.2.1, X.2.2.2.2.2.1, X.2.2.2.1, X.2.2.1⟩ hM (va_cwS n X.2.2.1 (lw_S h1 h2 h4 h5) rfl hrm.1 hrm.2 hd hR) ⟨fun a U g mk q => q, fun U _ _ => ⟨rfl, trivial⟩⟩ rfl hn hl rfl (lv_room hrest) hdg hf) (fun r' h => ?_)
  subst h
  exact kk
theorem m_callS0 {own : String} (X : CallFix p m c cc nL s args lw_all own) (hl : ls.size = nL) {y : MethodName} {bytes : ByteArray} {maxL index : Nat} {ret : Option FieldType} {rm : Room} {st0 As : List Value} {r : Int32} {cells slots : Nat} (hM : m_Si l y bytes maxL ret rm As r) (n : Nat) (h1 : Cond.methodLink own index y ∈ lw_all) (h2 : Cond.static y ∈ lw_all) (h4 : Cond.initialized y.cls ∈ lw_all) (h5 : Cond.code y bytes maxL ret ∈ lw_all) (hd : y.cls ≠ "java/lang/invoke/MethodHandle" ∧ y.cls ≠ "java/lang/invoke/VarHandle" ∧ (parseMethodDescriptor y.desc).map (fun d => d.parameters.length) = some n) (hn : As.length = n) (hst : st0 = As.reverse ++ rest) (hR : rm.frames + 1 ≤ R.frames ∧ 8 + (maxL + 11) + rm.locals ≤ R.locals) (hrm : rm.cells = 0 ∧ rm.slots = 0) (hf : cells ≤ R.cells ∧ slots ≤ R.slots) (hrest : (rest.map fun v => v.category).sum ≤ 8) (hdg : decode cc pc = .ok (.invokestatic index, 3)) (kk : W p l e R s m args below meth c H locs cells slots Q (F0 m (pc + 3) ls (.int r :: rest))) : W p l e R s m args below meth c H locs cells slots Q (F0 m pc ls st0) := by
  subst hst
  refine vp_callSi (W.runS (As := As) (rest := rest) X hM (va_cwS n X.2.2.2.2 (lw_S h1 h2 h4 h5) rfl hrm.1 hrm.2 hd hR) ⟨fun a U g mk q => q, fun U _ _ => ⟨rfl, trivial⟩⟩ rfl hn hl rfl (lv_room hrest) hdg hf) (fun r' h => ?_)
  subst h
  exact kk
theorem m_startS {own : String} {y : MethodName} {ret : Option FieldType} {rm : Room} {av : List Value} {lvl : List (Nat × Value)} {r : Int32} (hy : plainName y.cls = true) (hc : y.cls = own) (hlen : (lg_sl av).length ≤ nL) (hlv : lv_args 0 av = lvl) (body : ∀ (p : Program) (e : Env) (s : State) (m : MethodId) (args : Array Value) (below : List Frame) (meth : Method) (c : Code) (ls : Array Slot), CallFix p m c cc nL s args lw_all own → meth.sig.returnType = ret → meth.locks = false → lv_has ls nL lvl → W p l e rm s m args below meth c s.heap [] 0 0 (MQ below (vp_Si (fun r' => r' = r)) args s 0 0 (fun _ => False)) (F0 m 0 ls [])) : m_Si l y cc nL ret rm av r := by
  refine Met.ofW (cc := cc) (maxL := nL) (ret := ret) hy rfl ?_
  intro p e s m args below meth c s₁ B hml hv
  obtain ⟨rfl, -⟩ := hv
  have hts := atoms_spec (ws := ws_ y cc nL ret) B.pre
  have hts : ∀ w ∈ lw_all, w.before _ s = true := fun w h => hts w (List.mem_cons_of_mem _ h)
  have hown : s.vm.findClass own = some m.cls := by rw [← hc]; exact findClass_of_methodNamed B.named
  have hl := lv_entry av (n := nL) hlen
  rw [lg_entry_eq]
  rw [hlv] at hl
  exact body p e s m _ below meth c _ ⟨B.exec, B.bytes, hml, hown, hts⟩ B.returns B.notSynchronized hl
theorem m_siret {own : String} (X : CallFix p m c cc nL s args lw_all own) (hr : meth.sig.returnType = some .int) (hlk : meth.locks = false) {r : Int32} (hdg : decode cc pc = .ok (.ireturn, 1)) : W p l e R s m args below meth c s.heap [] 0 0 (MQ below (vp_Si (fun r' => r' = r)) args s 0 0 (fun _ => False)) (F0 m pc ls [.int r]) :=
  W.iret X.1 X.2.1 hr (fun t ht hW => ⟨r, rfl, rfl, ht⟩) (fun q h => by cases h) hdg hlk
theorem m_szret {own : String} (X : CallFix p m c cc nL s args lw_all own) (hr : meth.sig.returnType = some .boolean) (hlk : meth.locks = false) {r : Int32} (h01 : m_01 r = true) (hdg : decode cc pc = .ok (.ireturn, 1)) : W p l e R s m args below meth c s.heap [] 0 0 (MQ below (vp_Si (fun r' => r' = r)) args s 0 0 (fun _ => False)) (F0 m pc ls [.int r]) :=
  W.zret X.1 X.2.1 hr (m_01S h01) (fun t ht hW => ⟨r, rfl, rfl, ht⟩) (fun q h => by cases h) hdg hlk
theorem m_startI {y : MethodName} {ret : Option FieldType} {rm : Room} {av : List Value} {lvl : List (Nat × Value)} {r : Int32} {st' : MS} (hy : plainName y.cls = true) (hc : y.cls = RX3) (hlen : (lg_sl av).length ≤ nL) (hlv : lv_args 0 av = lvl) (body : ∀ (p : Program) (e : Env) (s : State) (m : MethodId) (args : Array Value) (below : List Frame) (meth : Method) (c : Code) (ls : Array Slot), m_X D (va_A (m_W d st) s.heap.size) d p s m c cc nL args → meth.sig.returnType = ret → meth.locks = false → lv_has ls nL lvl → (∀ q, s.heap.size ≤ q → va_A (m_W d st) s.heap.size q) → m_I D (va_A (m_W d st) s.heap.size) d s.heap st s.heap [] → W p l e rm s m args below meth c s.heap [] 0 0 (MQ below (va_Qi (fun (r' : Int32) (u : MS) => r' = r ∧ u = st') (m_B D d (va_A (m_W d st) s.heap.size)) (va_A (m_W d st) s.heap.size)) args s 0 0 (va_A (m_W d st) s.heap.size)) (F0 m 0 ls [])) : m_Mi l y cc nL ret rm D d st av r st' := by
  intro sz
  refine Met.ofW (cc := cc) (maxL := nL) (ret := ret) hy rfl ?_
  intro p e s m args below meth c s₁ B hml hv
  obtain ⟨rfl, hsz, hP, hK, hD0, hE⟩ := hv
  have hts := atoms_spec (ws := ws_ y cc nL ret) B.pre
  have hts : ∀ w ∈ lw_all, w.before _ s = true := fun w h => hts w (List.mem_cons_of_mem _ h)
  have hown : s.vm.findClass RX3 = some m.cls := by rw [← hc]; exact findClass_of_methodNamed B.named
  subst hsz
  have hl := lv_entry av (n := nL) hlen
  rw [lg_entry_eq]
  rw [hlv] at hl
  exact body p e s m _ below meth c _ ⟨B.exec, B.bytes, hts, hown, hK, hml, hE⟩ B.returns B.notSynchronized hl (fun q h => Or.inr h) ⟨hP, hD0.self, va_S.rf⟩
theorem m_startL {y : MethodName} {ret : Option FieldType} {rm : Room} {av : List Value} {lvl : List (Nat × Value)} {r : Int64} {st' : MS} (hy : plainName y.cls = true) (hc : y.cls = RX3) (hlen : (lg_sl av).length ≤ nL) (hlv : lv_args 0 av = lvl) (body : ∀ (p : Program) (e : Env) (s : State) (m : MethodId) (args : Array Value) (below : List Frame) (meth : Method) (c : Code) (ls : Array Slot), m_X D (va_A (m_W d st) s.heap.size) d p s m c cc nL args → meth.sig.returnType = ret → meth.locks = false → lv_has ls nL lvl → (∀ q, s.heap.size ≤ q → va_A (m_W d st) s.heap.size q) → m_I D (va_A (m_W d st) s.heap.size) d s.heap st s.heap [] → W p l e rm s m args below meth c s.heap [] 0 0 (MQ below (va_Ql (fun (r' : Int64) (u : MS) => r' = r ∧ u = st') (m_B D d (va_A (m_W d st) s.heap.size)) (va_A (m_W d st) s.heap.size)) args s 0 0 (va_A (m_W d st) s.heap.size)) (F0 m 0 ls [])) : m_Ml l y cc nL ret rm D d st av r st' := by
  intro sz
  refine Met.ofW (cc := cc) (maxL := nL) (ret := ret) hy rfl ?_
  intro p e s m args below meth c s₁ B hml hv
  obtain ⟨rfl, hsz, hP, hK, hD0, hE⟩ := hv
  have hts := atoms_spec (ws := ws_ y cc nL ret) B.pre
  have hts : ∀ w ∈ lw_all, w.before _ s = true := fun w h => hts w (List.mem_cons_of_mem _ h)
  have hown : s.vm.findClass RX3 = some m.cls := by rw [← hc]; exact findClass_of_methodNamed B.named
  subst hsz
  have hl := lv_entry av (n := nL) hlen
  rw [lg_entry_eq]
  rw [hlv] at hl
  exact body p e s m _ below meth c _ ⟨B.exec, B.bytes, hts, hown, hK, hml, hE⟩ B.returns B.notSynchronized hl (fun q h => Or.inr h) ⟨hP, hD0.self, va_S.rf⟩
theorem m_startV {y : MethodName} {ret : Option FieldType} {rm : Room} {av : List Value} {lvl : List (Nat × Value)} {st' : MS} (hy : plainName y.cls = true) (hc : y.cls = RX3) (hlen : (lg_sl av).length ≤ nL) (hlv : lv_args 0 av = lvl) (body : ∀ (p : Program) (e : Env) (s : State) (m : MethodId) (args : Array Value) (below : List Frame) (meth : Method) (c : Code) (ls : Array Slot), m_X D (va_A (m_W d st) s.heap.size) d p s m c cc nL args → meth.sig.returnType = ret → meth.locks = false → lv_has ls nL lvl → (∀ q, s.heap.size ≤ q → va_A (m_W d st) s.heap.size q) → m_I D (va_A (m_W d st) s.heap.size) d s.heap st s.heap [] → W p l e rm s m args below meth c s.heap [] 0 0 (MQ below (va_Qv (fun (u : MS) => u = st') (m_B D d (va_A (m_W d st) s.heap.size)) (va_A (m_W d st) s.heap.size)) args s 0 0 (va_A (m_W d st) s.heap.size)) (F0 m 0 ls [])) : m_Mv l y cc nL ret rm D d st av st' := by
  intro sz
  refine Met.ofW (cc := cc) (maxL := nL) (ret := ret) hy rfl ?_
  intro p e s m args below meth c s₁ B hml hv
  obtain ⟨rfl, hsz, hP, hK, hD0, hE⟩ := hv
  have hts := atoms_spec (ws := ws_ y cc nL ret) B.pre
  have hts : ∀ w ∈ lw_all, w.before _ s = true := fun w h => hts w (List.mem_cons_of_mem _ h)
  have hown : s.vm.findClass RX3 = some m.cls := by rw [← hc]; exact findClass_of_methodNamed B.named
  subst hsz
  have hl := lv_entry av (n := nL) hlen
  rw [lg_entry_eq]
  rw [hlv] at hl
  exact body p e s m _ below meth c _ ⟨B.exec, B.bytes, hts, hown, hK, hml, hE⟩ B.returns B.notSynchronized hl (fun q h => Or.inr h) ⟨hP, hD0.self, va_S.rf⟩
end ME

/-- the reference's word list, as characters -/
def m_kch (j : Nat) : Int32 := ((((g_str.getD 8 ([], 0)).1.getD j 0) &&& 255).toUInt32 % 65536).toInt32
theorem g_E.str {G : Nat → Nat} {A : Nat → Prop} {s : State} {H : Heap} {locs : List Loc} (h : g_E G A s s.heap) (hS : va_S A s.heap H locs) {i : Nat} {q : List Int32 × Int32} (hq : g_str[i]? = some q) : o_S (G (10 + i)) (G (30 + i)) q.1.length (fun j => q.1.getD j 0) s H := by
  have h1 := ((h.1 i q hq).kept hS.2.1).narrow (B := o_F) (fun _ z => z.elim)
  exact ⟨h1.1, h1.2.1, h1.2.2.1, h1.2.2.2.2.2⟩
theorem g_E.z {G : Nat → Nat} {A : Nat → Prop} {s : State} {H : Heap} {locs : List Loc} (h : g_E G A s s.heap) (hS : va_S A s.heap H locs) : o_Z s H := by
  have h0 := (h.kept hS.2.1).narrow (B := o_F) (fun _ z => z.elim)
  have hz : va_Z "jdk/internal/util/Preconditions" "SIOOBE_FORMATTER" "Ljava/util/function/BiFunction;" (va_rf (g_oq (G (60 + 0)))) o_F s H := h0.2.2.2.1 0 _ rfl
  refine ⟨h0.2.2.1 ("java/lang/String", "COMPACT_STRINGS", "Z", 1) (List.mem_of_getElem? (i := 0) rfl), ?_⟩
  cases hq : g_oq (G (60 + 0)) with
  | none => rw [hq] at hz; exact Or.inl hz
  | some t => rw [hq] at hz; exact Or.inr ⟨t, hz⟩
section MK
variable {p : Program} {l : Launch} {e : Env} {R : Room} {s : State} {m : MethodId} {args : Array Value} {below : List Frame} {meth : Method} {c : Code} {H : Heap} {locs : List Loc} {cells slots : Nat} {Q : State → Prop} {pc : Nat} {ls : Array Slot} {rest : List Value} {cc : ByteArray} {nL : Nat} {D : va_G} {A : Nat → Prop} {d : MD} {st : MS}
theorem m_ldcK (X : m_X D A d p s m c cc nL args) (hdg : decode cc pc = .ok (.ldc 122, 2)) (k : W p l e R s m args below meth c H locs cells slots Q (F0 m (pc + 2) ls (.ref (d.2.2.2 18) :: rest))) : W p l e R s m args below meth c H locs cells slots Q (F0 m pc ls rest) :=
  va_ldcS X.1 X.2.1 X.2.2.2.1 (X.2.2.2.2.2.2.2.1 ("SwapPressModel", 122, " party kind trade keep cap mode ", 8) (List.mem_of_getElem? (i := 14) rfl)) hdg k
theorem m_slen (X : m_X D A d p s m c cc nL args) (hl : ls.size = nL) (I : m_I D A d s.heap st H locs) (hR : 2 ≤ R.frames ∧ 40 ≤ R.locals) (hf : cells ≤ R.cells ∧ slots ≤ R.slots) (hrest : (rest.map fun v => v.category).sum ≤ 8) (hdg : decode cc pc = .ok (.invokevirtual 124, 3)) (kk : W p l e R s m args below meth c H locs cells slots Q (F0 m (pc + 3) ls (.int 32 :: rest))) : W p l e R s m args below meth c H locs cells slots Q (F0 m pc ls (.ref (d.2.2.2 18) :: rest)) := by
  have hS := X.2.2.2.2.2.2.str I.2.2 (i := 8) rfl
  have hZ := X.2.2.2.2.2.2.z I.2.2
  exact p_callV (own := RX3) (C := RJ5) ⟨X.1, X.2.1, X.2.2.2.2.2.1, X.2.2.2.1, X.2.2.1⟩ hl (As := []) (rest := rest) (p_slen l (d.2.2.2 18) (d.2.2.2 38) 32 _ (by decide)) 0 q1648 q1407 q1408 q111 q1409 hd_slen rfl rfl ⟨Nat.le_trans (Nat.le_of_ble_eq_true rfl) hR.1, Nat.le_trans (Nat.le_of_ble_eq_true rfl) hR.2⟩ ⟨rfl, rfl⟩ hf hrest o_SZ.B hS.1 (fun U hU hW => ⟨by rw [hU]; exact hS.moved hW.alike, by rw [hU]; exact hZ.moved hW.alike⟩) hdg kk
theorem m_schar (X : m_X D A d p s m c cc nL args) (hl : ls.size = nL) (I : m_I D A d s.heap st H locs) (hR : 4 ≤ R.frames ∧ 85 ≤ R.locals) (hf : cells ≤ R.cells ∧ slots ≤ R.slots) (hrest : (rest.map fun v => v.category).sum ≤ 8) {i : Int32} (hin : m_in i 32 = true) (hdg : decode cc pc = .ok (.invokevirtual 129, 3)) (kk : W p l e R s m args below meth c H locs cells slots Q (F0 m (pc + 3) ls (.int (m_kch i.toNatClampNeg) :: rest))) : W p l e R s m args below meth c H locs cells slots Q (F0 m pc ls (.int i :: .ref (d.2.2.2 18) :: rest)) := by
  have hS : o_S (d.2.2.2 18) (d.2.2.2 38) 32 (fun j => (g_str.getD 8 ([], 0)).1.getD j 0) s H := X.2.2.2.2.2.2.str I.2.2 (i := 8) (q := g_str.getD 8 ([], 0)) rfl
  have hZ := X.2.2.2.2.2.2.z I.2.2
  obtain ⟨j, hj, rfl⟩ := vp_in_of (m_inS hin) (by decide)
  rw [nI_clamp (by omega)] at kk
  unfold m_kch at kk
  generalize (g_str.getD 8 ([], 0)).1 = ks at hS kk
  exact p_callV (own := RX3) (C := RJ5) ⟨X.1, X.2.1, X.2.2.2.2.2.1, X.2.2.2.1, X.2.2.1⟩ hl (As := [.int (nI j)]) (rest := rest) (p_schar l (d.2.2.2 18) (d.2.2.2 38) 32 j (fun j => ks.getD j 0) hj (by decide)) 1 q1649 q1476 q2036 q111 q1478 hd_schar rfl rfl ⟨Nat.le_trans (Nat.le_of_ble_eq_true rfl) hR.1, Nat.le_trans (Nat.le_of_ble_eq_true rfl) hR.2⟩ ⟨rfl, rfl⟩ hf hrest o_SZ.B hS.1 (fun U hU hW => ⟨by rw [hU]; exact hS.moved hW.alike, by rw [hU]; exact hZ.moved hW.alike⟩) hdg kk
end MK

