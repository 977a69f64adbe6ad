set_option maxRecDepth 100000
/-! Words of the mirrors over the map world -/
def u_ac {α : Type} (c : UC) (x : Option (α × UC)) : Option (α × UC) := match x with
  | some (a, e) => some (a, u_add c e)
  | none => none
theorem u_acS {α : Type} {c C : UC} {x : Option (α × UC)} {a : α} (h : u_ac c x = some (a, C)) : ∃ e, x = some (a, e) ∧ C = u_add c e := by
  cases x with
  | none => cases h
  | some q => obtain ⟨b, e⟩ := q; cases h; exact ⟨e, rfl, rfl⟩
/-- a call that makes something: its world's size is as its count says -/
def u_bc {α β : Type} (z : Nat) (x : Option ((α × UM) × UC)) (k : α → UM → Option (β × UC)) : Option (β × UC) := match x with
  | some ((a, u), c) => m_g (decide (u.2 = z + c.1)) (u_ac c (k a u))
  | none => none
theorem u_bcS {α β : Type} {z : Nat} {x : Option ((α × UM) × UC)} {k : α → UM → Option (β × UC)} {b : β} {C : UC} (h : u_bc z x k = some (b, C)) : ∃ a u c e, x = some ((a, u), c) ∧ u.2 = z + c.1 ∧ k a u = some (b, e) ∧ C = u_add c e := by
  cases x with
  | none => cases h
  | some q =>
    obtain ⟨⟨a, u⟩, c⟩ := q
    obtain ⟨h1, h2⟩ := m_gS h
    obtain ⟨e, h3, h4⟩ := u_acS h2
    exact ⟨a, u, c, e, rfl, of_decide_eq_true h1, h3, h4⟩
/-- a loop that makes something -/
def u_bl {α β : Type} (x : Option (α × UC)) (k : α → Option (β × UC)) : Option (β × UC) := match x with
  | some (a, c) => u_ac c (k a)
  | none => none
theorem u_blS {α β : Type} {x : Option (α × UC)} {k : α → Option (β × UC)} {b : β} {C : UC} (h : u_bl x k = some (b, C)) : ∃ a c e, x = some (a, c) ∧ k a = some (b, e) ∧ C = u_add c e := by
  cases x with
  | none => cases h
  | some q =>
    obtain ⟨a, c⟩ := q
    obtain ⟨e, h3, h4⟩ := u_acS h
    exact ⟨a, c, e, rfl, h3, h4⟩
def u_lp {σ ρ : Type} (B : σ → Option ((σ ⊕ ρ) × UC)) : Nat → σ → Option (ρ × UC)
  | 0, _ => none
  | n + 1, x => u_bl (B x) (fun r => match r with
    | .inl y => u_lp B n y
    | .inr z => some (z, (0, 0)))
theorem u_add_assoc (a b c : UC) : u_add (u_add a b) c = u_add a (u_add b c) := by unfold u_add; simp only [Nat.add_assoc]
theorem u_add_0 (a : UC) : u_add (0, 0) a = a := by unfold u_add; simp only [Nat.zero_add]
theorem u_lpW {σ ρ : Type} {B : σ → Option ((σ ⊕ ρ) × UC)} (G : σ → UC → Prop) (E : ρ → UC → Prop) (hs : ∀ x r c cr, B x = some (r, c) → (match r with | .inl y => G y cr | .inr z => E z cr) → G x (u_add c cr)) : ∀ (n : Nat) (x : σ) (z : ρ) (C cr : UC), u_lp B n x = some (z, C) → E z cr → G x (u_add C cr) := by
  intro n
  induction n with
  | zero => intro x z C cr h; cases h
  | succ n ih =>
    intro x z C cr h hz
    obtain ⟨r, c, e, h1, h2, rfl⟩ := u_blS h
    rw [u_add_assoc]
    refine hs x r c _ h1 ?_
    cases r with
    | inl y => exact ih y z e cr h2 hz
    | inr z' => cases h2; show E z (u_add (0, 0) cr); rw [u_add_0]; exact hz
theorem m_e3 {α : Type} {a b : α} {c C : UC} (h : some (a, c) = some (b, C)) : a = b ∧ c = C := by cases h; exact ⟨rfl, rfl⟩
/-- a reference that isn't null -/
def u_nn {β : Type} (x : Option Nat) (k : Nat → Option β) : Option β := match x with
  | some a => k a
  | none => none
theorem u_nnS {β : Type} {x : Option Nat} {k : Nat → Option β} {r : β} (h : u_nn x k = some r) : ∃ a, x = some a ∧ k a = some r := by
  cases x with
  | some a => exact ⟨a, rfl, h⟩
  | none => cases h
/-- fields -/
def u_fi (d : UD) (u : UM) (ci k a : Nat) : Option Int32 := match u_rd d u a with
  | some (.inr (c, fs)) => if c = ci then (match fs[k]? with
    | some (.int v) => some v
    | _ => none) else none
  | _ => none
theorem u_fiS {d : UD} {u : UM} {ci k a : Nat} {v : Int32} (h : u_fi d u ci k a = some v) : ∃ fs, u_rd d u a = some (.inr (ci, fs)) ∧ fs[k]? = some (.int v) := by
  unfold u_fi at h
  split at h
  · rename_i c fs he
    split at h
    · rename_i hc
      subst hc
      split at h
      · rename_i w hw
        cases h
        exact ⟨fs, he, hw⟩
      · cases h
    · cases h
  · cases h
def u_fl (d : UD) (u : UM) (ci k a : Nat) : Option Int64 := match u_rd d u a with
  | some (.inr (c, fs)) => if c = ci then (match fs[k]? with
    | some (.long v) => some v
    | _ => none) else none
  | _ => none
theorem u_flS {d : UD} {u : UM} {ci k a : Nat} {v : Int64} (h : u_fl d u ci k a = some v) : ∃ fs, u_rd d u a = some (.inr (ci, fs)) ∧ fs[k]? = some (.long v) := by
  unfold u_fl at h
  split at h
  · rename_i c fs he
    split at h
    · rename_i hc
      subst hc
      split at h
      · rename_i w hw
        cases h
        exact ⟨fs, he, hw⟩
      · cases h
    · cases h
  · cases h
def u_fq (d : UD) (u : UM) (ci k a : Nat) : Option (Option Nat) := match u_rd d u a with
  | some (.inr (c, fs)) => if c = ci then (match fs[k]? with
    | some (.ref v) => some (some v)
    | some .null => some none
    | _ => none) else none
  | _ => none
theorem u_fqS {d : UD} {u : UM} {ci k a : Nat} {v : Option Nat} (h : u_fq d u ci k a = some v) : ∃ fs, u_rd d u a = some (.inr (ci, fs)) ∧ fs[k]? = some (va_rf v) := by
  unfold u_fq at h
  split at h
  · rename_i c fs he
    split at h
    · rename_i hc
      subst hc
      split at h
      · rename_i w hw
        cases h
        exact ⟨fs, he, hw⟩
      · rename_i hw
        cases h
        exact ⟨fs, he, hw⟩
      · cases h
    · cases h
  · cases h
/-- the same of the world's own cells (a nest mate's fields, an object that is written) -/
def u_cl (u : UM) (ci a : Nat) : Option (List Value) := match u_get u.1 a with
  | some (.inr (c, fs)) => if c = ci then some fs else none
  | _ => none
theorem u_clS {u : UM} {ci a : Nat} {fs : List Value} (h : u_cl u ci a = some fs) : u_get u.1 a = some (.inr (ci, fs)) := by
  unfold u_cl at h
  split at h
  · rename_i c fs he
    split at h
    · rename_i hc
      subst hc
      cases h
      exact he
    · cases h
  · cases h
def u_ni (u : UM) (ci k a : Nat) : Option Int32 := m_b (u_cl u ci a) (fun fs => match fs[k]? with
  | some (.int v) => some v
  | _ => none)
theorem u_niS {u : UM} {ci k a : Nat} {v : Int32} (h : u_ni u ci k a = some v) : ∃ fs, u_get u.1 a = some (.inr (ci, fs)) ∧ fs[k]? = some (.int v) := by
  obtain ⟨fs, h1, h2⟩ := m_bS h
  refine ⟨fs, u_clS h1, ?_⟩
  split at h2
  · rename_i w hw; cases h2; exact hw
  · cases h2
def u_nq (u : UM) (ci k a : Nat) : Option (Option Nat) := m_b (u_cl u ci a) (fun fs => match fs[k]? with
  | some (.ref v) => some (some v)
  | some .null => some none
  | _ => none)
theorem u_nqS {u : UM} {ci k a : Nat} {v : Option Nat} (h : u_nq u ci k a = some v) : ∃ fs, u_get u.1 a = some (.inr (ci, fs)) ∧ fs[k]? = some (va_rf v) := by
  obtain ⟨fs, h1, h2⟩ := m_bS h
  refine ⟨fs, u_clS h1, ?_⟩
  split at h2
  · rename_i w hw; cases h2; exact hw
  · rename_i hw; cases h2; exact hw
  · cases h2
/-- a field is written: the new cells -/
def u_pf (u : UM) (ci k a : Nat) (v : Value) : Option va_W := m_b (u_cl u ci a) (fun fs => m_g (decide (k < fs.length)) (some (u_set u.1 a (.inr (ci, fs.set k v)))))
theorem u_pfS {u : UM} {ci k a : Nat} {v : Value} {w : va_W} (h : u_pf u ci k a v = some w) : ∃ fs, u_get u.1 a = some (.inr (ci, fs)) ∧ k < fs.length ∧ w = u_set u.1 a (.inr (ci, fs.set k v)) := by
  obtain ⟨fs, h1, h2⟩ := m_bS h
  obtain ⟨h3, h4⟩ := m_gS h2
  exact ⟨fs, u_clS h1, of_decide_eq_true h3, (Option.some.inj h4).symm⟩
/-- arrays -/
def u_ai (d : UD) (u : UM) (t a : Nat) (i : Int32) : Option Int32 := match u_rd d u a with
  | some (.inl (c, n, .inl f)) => if c = d.1 t ∧ m_in i n = true then some (f i.toNatClampNeg) else none
  | _ => none
theorem u_aiS {d : UD} {u : UM} {t a : Nat} {i v : Int32} (h : u_ai d u t a i = some v) : ∃ n f, u_rd d u a = some (.inl (d.1 t, n, .inl f)) ∧ m_in i n = true ∧ v = f i.toNatClampNeg := by
  unfold u_ai at h
  split at h
  · rename_i c n f he
    split at h
    · rename_i hc
      cases h
      exact ⟨n, f, by rw [← hc.1]; exact he, hc.2, rfl⟩
    · cases h
  · cases h
/-- of the world's own -/
def u_arI (d : UD) (u : UM) (t a : Nat) : Option (Nat × (Nat → Int32)) := match u_get u.1 a with
  | some (.inl (c, n, .inl f)) => if c = d.1 t then some (n, f) else none
  | _ => none
theorem u_arIS {d : UD} {u : UM} {t a n : Nat} {f : Nat → Int32} (h : u_arI d u t a = some (n, f)) : u_get u.1 a = some (.inl (d.1 t, n, .inl f)) := by
  unfold u_arI at h
  split at h
  · rename_i c n f he
    split at h
    · rename_i hc
      cases h
      rw [← hc]; exact he
    · cases h
  · cases h
def u_arL (d : UD) (u : UM) (a : Nat) : Option (Nat × (Nat → Int64)) := match u_get u.1 a with
  | some (.inl (c, n, .inr (.inl f))) => if c = d.1 1 then some (n, f) else none
  | _ => none
theorem u_arLS {d : UD} {u : UM} {a n : Nat} {f : Nat → Int64} (h : u_arL d u a = some (n, f)) : u_get u.1 a = some (.inl (d.1 1, n, .inr (.inl f))) := by
  unfold u_arL at h
  split at h
  · rename_i c n f he
    split at h
    · rename_i hc
      cases h
      rw [← hc]; exact he
    · cases h
  · cases h
def u_arQ (d : UD) (u : UM) (a : Nat) : Option (Nat × (Nat → Option Nat)) := match u_get u.1 a with
  | some (.inl (c, n, .inr (.inr (.inr (.inr f))))) => if c = d.1 4 then some (n, f) else none
  | _ => none
theorem u_arQS {d : UD} {u : UM} {a n : Nat} {f : Nat → Option Nat} (h : u_arQ d u a = some (n, f)) : u_get u.1 a = some (.inl (d.1 4, n, .inr (.inr (.inr (.inr f))))) := by
  unfold u_arQ at h
  split at h
  · rename_i c n f he
    split at h
    · rename_i hc
      cases h
      rw [← hc]; exact he
    · cases h
  · cases h
def u_ld {α : Type} (q : Nat × (Nat → α)) (i : Int32) : Option α := m_g (m_in i q.1) (some (q.2 i.toNatClampNeg))
theorem u_ldS {α : Type} {q : Nat × (Nat → α)} {i : Int32} {v : α} (h : u_ld q i = some v) : m_in i q.1 = true ∧ v = q.2 i.toNatClampNeg := by
  obtain ⟨h1, h2⟩ := m_gS h
  exact ⟨h1, (Option.some.inj h2).symm⟩
def u_lnI (d : UD) (u : UM) (t a : Nat) : Option Int32 := match u_rd d u a with
  | some (.inl (c, x)) => if c = d.1 t then some (Int32.ofNat x.1) else none
  | _ => none
theorem u_lnIS {d : UD} {u : UM} {t a : Nat} {v : Int32} (h : u_lnI d u t a = some v) : ∃ x : vp_A, u_rd d u a = some (.inl (d.1 t, x)) ∧ v = Int32.ofNat x.1 := by
  unfold u_lnI at h
  split at h
  · rename_i c x he
    split at h
    · rename_i hc
      cases h
      exact ⟨x, by rw [← hc]; exact he, rfl⟩
    · cases h
  · cases h
/-- stores: the new cells -/
def u_stI (d : UD) (u : UM) (a : Nat) (i x : Int32) : Option va_W := m_b (u_arI d u 0 a) (fun q => m_g (m_in i q.1) (some (u_set u.1 a (.inl (d.1 0, q.1, .inl (upd q.2 i.toNatClampNeg x))))))
def u_stB (d : UD) (u : UM) (a : Nat) (i x : Int32) : Option va_W := m_b (u_arI d u 2 a) (fun q => m_g (m_in i q.1) (some (u_set u.1 a (.inl (d.1 2, q.1, .inl (upd q.2 i.toNatClampNeg (vp_nar .byte x)))))))
def u_stL (d : UD) (u : UM) (a : Nat) (i : Int32) (x : Int64) : Option va_W := m_b (u_arL d u a) (fun q => m_g (m_in i q.1) (some (u_set u.1 a (.inl (d.1 1, q.1, .inr (.inl (vp_updL q.2 i.toNatClampNeg x)))))))
def u_stQ (d : UD) (u : UM) (a : Nat) (i : Int32) (x : Option Nat) : Option va_W := m_b (u_arQ d u a) (fun q => m_g (m_in i q.1) (some (u_set u.1 a (.inl (d.1 4, q.1, .inr (.inr (.inr (.inr (va_up q.2 i.toNatClampNeg x)))))))))
theorem u_stIS {d : UD} {u : UM} {a : Nat} {i x : Int32} {w : va_W} (h : u_stI d u a i x = some w) : ∃ n f, u_get u.1 a = some (.inl (d.1 0, n, .inl f)) ∧ m_in i n = true ∧ w = u_set u.1 a (.inl (d.1 0, n, .inl (upd f i.toNatClampNeg x))) := by
  obtain ⟨⟨n, f⟩, h1, h2⟩ := m_bS h
  obtain ⟨h3, h4⟩ := m_gS h2
  exact ⟨n, f, u_arIS h1, h3, (Option.some.inj h4).symm⟩
theorem u_stBS {d : UD} {u : UM} {a : Nat} {i x : Int32} {w : va_W} (h : u_stB d u a i x = some w) : ∃ n f, u_get u.1 a = some (.inl (d.1 2, n, .inl f)) ∧ m_in i n = true ∧ w = u_set u.1 a (.inl (d.1 2, n, .inl (upd f i.toNatClampNeg (vp_nar .byte x)))) := by
  obtain ⟨⟨n, f⟩, h1, h2⟩ := m_bS h
  obtain ⟨h3, h4⟩ := m_gS h2
  exact ⟨n, f, u_arIS h1, h3, (Option.some.inj h4).symm⟩
theorem u_stLS {d : UD} {u : UM} {a : Nat} {i : Int32} {x : Int64} {w : va_W} (h : u_stL d u a i x = some w) : ∃ n f, u_get u.1 a = some (.inl (d.1 1, n, .inr (.inl f))) ∧ m_in i n = true ∧ w = u_set u.1 a (.inl (d.1 1, n, .inr (.inl (vp_updL f i.toNatClampNeg x)))) := by
  obtain ⟨⟨n, f⟩, h1, h2⟩ := m_bS h
  obtain ⟨h3, h4⟩ := m_gS h2
  exact ⟨n, f, u_arLS h1, h3, (Option.some.inj h4).symm⟩
theorem u_stQS {d : UD} {u : UM} {a : Nat} {i : Int32} {x : Option Nat} {w : va_W} (h : u_stQ d u a i x = some w) : ∃ n f, u_get u.1 a = some (.inl (d.1 4, n, .inr (.inr (.inr (.inr f))))) ∧ m_in i n = true ∧ w = u_set u.1 a (.inl (d.1 4, n, .inr (.inr (.inr (.inr (va_up f i.toNatClampNeg x)))))) := by
  obtain ⟨⟨n, f⟩, h1, h2⟩ := m_bS h
  obtain ⟨h3, h4⟩ := m_gS h2
  exact ⟨n, f, u_arQS h1, h3, (Option.some.inj h4).symm⟩
/-- what is new at the end of the cells -/
def u_nw (u : UM) (x : va_E) : UM := (u.1 ++ [(u.2, x)], u.2 + 1)
/-- a length that an array may have -/
def u_ln (n : Int32) : Bool := decide (0 ≤ n ∧ n.toNatClampNeg ≤ 50000000)
theorem u_lnS {n : Int32} (h : u_ln n = true) : ¬ n < 0 ∧ n.toNatClampNeg ≤ 50000000 := by
  have h := of_decide_eq_true h
  exact ⟨Int32.not_lt.mpr h.1, h.2⟩
section UN
variable {p : Program} {l : Launch} {e : Env} {R : Room} {s : State} {m : MethodId} {args : Array Value} {below : List Frame} {meth : Method} {c : Code} {H : Heap} {locs : List Loc} {cells slots : Nat} {Q : State → Prop} {pc : Nat} {ls : Array Slot} {rest : List Value} {cc : ByteArray} {nL : Nat} {own : String} {D : va_G} {A : Nat → Prop} {d : UD} {u u0 : UM} {C2 cr : UC}
/-- a new cell that has been pushed -/
theorem u_push (I : u_I D A s.heap u H locs cells) (hA : ∀ q, s.heap.size ≤ q → A q) {H1 : Heap} {cA : ClassId} {x : vp_A} (e1 : H1[u.2]? = some (vp_cell cA x)) (z1 : H1.size = u.2 + 1) (o1 : ∀ q, q < u.2 → H1[q]? = H[q]?) : u_I D A s.heap (u_nw u (.inl (cA, x))) H1 locs (cells + 1) := by
  obtain ⟨hP, hD, hS, hz, hc0⟩ := I
  have hk : ∀ (k : Nat) (x : Nat × va_E), u.1[k]? = some x → H1[x.1]? = H[x.1]? := fun k x hx => o1 x.1 (by have := (hP k x hx).lt; omega)
  refine ⟨(hP.kept hk).app (fun k x hx => ?_), hD.push hP hz.symm (hA _ (by have := hS.1; omega)), ⟨Nat.le_trans hS.1 (by omega), fun x h1 h2 => (o1 x (by have := hS.1; omega)).trans (hS.2.1 x h1 h2), hS.2.2⟩, by rw [z1]; rfl, by show u.2 + 1 = s.heap.size + (cells + 1); omega⟩
  have hz : k < 1 := (List.getElem?_eq_some_iff.mp hx).1
  rw [show k = 0 by omega] at hx
  cases hx
  exact e1
theorem u_newp (X : u_X own D A d p s m c cc nL args) (I : u_I D A s.heap u H locs cells) (hA : ∀ q, s.heap.size ≤ q → A q) (t0 : Nat) {atype : ArrayType} (ht : (u_tys d.1)[t0]? = some (d.1 t0, newarray.typeOf atype)) (harr : Cond.arrayClass (newarray.typeOf atype) ∈ lw_all) {n : Int32} {x : vp_A} (hx : ∀ cA : ClassId, vp_cell cA x = arrV cA n.toNatClampNeg (fun _ => defaultValue (newarray.typeOf atype))) (hc8 : componentBytes (newarray.typeOf atype) ≤ 8) (hn : u_ln n = true) (hC : u_left R cells slots (u_add (u_add (1, n.toNatClampNeg) C2) cr)) (hdg : decode cc pc = .ok (.newarray atype, 2)) (kk : ∀ (H : Heap) (cells slots : Nat), u_left R cells slots (u_add C2 cr) → u_I D A s.heap (u_nw u (.inl (d.1 t0, x))) H locs cells → W p l e R s m args below meth c H locs cells slots Q (F0 m (pc + 2) ls (.ref u.2 :: rest))) : W p l e R s m args below meth c H locs cells slots Q (F0 m pc ls (.int n :: rest)) := by
  obtain ⟨hn1, hn2⟩ := u_lnS hn
  have hL := u_leftL hC
  refine va_newaK X.1 X.2.1 (X.2.2.1 _ harr) rfl hdg rfl hn1 rfl (by
    have : n.toNatClampNeg * componentBytes (newarray.typeOf atype) ≤ 50000000 * 8 := Nat.mul_le_mul hn2 hc8
    omega) hL.1 hL.2 I.2.2.2.1 (fun H1 cA e1 z1 o1 hAr hNm => ?_)
  have e : cA = d.1 t0 := by
    have h2 := (X.2.2.2.2.1.2 t0 _ ht).2
    have h1 : va_RA s cA (newarray.typeOf atype) := by cases atype <;> exact hNm
    exact g_RAeq h1 h2
  subst e
  exact kk H1 _ _ (u_left1 hC) (u_push I hA (by rw [hx]; exact e1) z1 o1)
theorem u_newq (X : u_X own D A d p s m c cc nL args) (I : u_I D A s.heap u H locs cells) (hA : ∀ q, s.heap.size ≤ q → A q) {index : Nat} (hcl : Cond.classLink own index "java/lang/Object" ∈ lw_all) (hover : (Cond.arrayOver (.object "java/lang/Object")).before args s = true) {n : Int32} (hn : u_ln n = true) (hC : u_left R cells slots (u_add (u_add (1, n.toNatClampNeg) C2) cr)) (hdg : decode cc pc = .ok (.anewarray index, 3)) (kk : ∀ (H : Heap) (cells slots : Nat), u_left R cells slots (u_add C2 cr) → u_I D A s.heap (u_nw u (.inl (d.1 4, n.toNatClampNeg, .inr (.inr (.inr (.inr (fun _ => none))))))) H locs cells → W p l e R s m args below meth c H locs cells slots Q (F0 m (pc + 3) ls (.ref u.2 :: rest))) : W p l e R s m args below meth c H locs cells slots Q (F0 m pc ls (.int n :: rest)) := by
  obtain ⟨hn1, hn2⟩ := u_lnS hn
  have hL := u_leftL hC
  refine W.anew X.1 X.2.1 X.2.2.2.1 (X.2.2.1 _ hcl) hover rfl hdg rfl hn1 (by omega) hL.1 hL.2 fun cA kA comp f1 f2 f3 f4 => ?_
  have e : cA = d.1 4 := by
    obtain ⟨_, _, _, _, _, e2⟩ := (X.2.2.2.2.1.2 4 _ rfl).2
    exact Option.some.inj (f1.symm.trans e2)
  subst e
  generalize hH1 : H.push ({ cls := d.1 4, slots := Array.replicate n.toNatClampNeg .null, vm := .none } : Cell) = H1
  have hz := I.2.2.2.1
  rw [hz]
  refine kk H1 _ _ (u_left1 hC) (u_push I hA ?_ (by rw [← hH1, Array.size_push, hz]) (fun q hq => by rw [← hH1, Array.getElem?_push, if_neg (by omega)]))
  rw [← hH1, ← hz, Array.getElem?_push_size]
  have ev : vp_cell (d.1 4) (n.toNatClampNeg, .inr (.inr (.inr (.inr (fun _ => none))))) = arrV (d.1 4) n.toNatClampNeg (fun _ => .null) := rfl
  rw [ev, ← arrV_new]
/-- System.arraycopy of ints -/
theorem u_cpI (X : u_X own D A d p s m c cc nL args) (hl : ls.size = nL) (I : u_I D A s.heap u H locs cells) {index : Nat} (h1 : Cond.methodLink own index arraycopyName ∈ lw_all) (h2 : Cond.native arraycopyName ∈ lw_all) (h3 : Cond.static arraycopyName ∈ lw_all) (h4 : Cond.initialized "java/lang/System" ∈ lw_all) {a0 a1 n0 n1 : Nat} {f g : Nat → Int32} (ha0 : u_get u.1 a0 = some (.inl (d.1 0, n0, .inl f))) (ha1 : u_get u.1 a1 = some (.inl (d.1 0, n1, .inl g))) {sp dp n : Int32} (hn : decide (¬ sp < 0 ∧ ¬ dp < 0 ∧ ¬ n < 0 ∧ sp.toNatClampNeg + n.toNatClampNeg ≤ n0 ∧ dp.toNatClampNeg + n.toNatClampNeg ≤ n1) = true) (hframes : 1 ≤ R.frames) (hlocals : (rest.map fun v => v.category).sum + (nativeFrameWords "java/lang/System" "arraycopy" 5 + 11) ≤ R.locals) (hdg : decode cc pc = .ok (.invokestatic index, 3)) (kk : ∀ (H : Heap) (locs : List Loc), u_I D A s.heap (u_set u.1 a1 (.inl (d.1 0, n1, .inl (va_cpy f g sp.toNatClampNeg dp.toNatClampNeg n.toNatClampNeg))), u.2) H locs cells → W p l e R s m args below meth c H locs cells slots Q (F0 m (pc + 3) ls rest)) : W p l e R s m args below meth c H locs cells slots Q (F0 m pc ls (.int n :: .int dp :: .ref a1 :: .int sp :: .ref a0 :: rest)) := by
  obtain ⟨q0, e0, -⟩ := u_at ha0
  obtain ⟨q1, e1, e2⟩ := u_at ha1
  obtain ⟨n1', n2', n3', n4', n5'⟩ := of_decide_eq_true hn
  refine va_copyi (ty := .int) X.1 X.2.1 (X.2.2.2.2.2.1.trans hl.symm) X.2.2.2.1 (X.2.2.1 _ h1) (X.2.2.1 _ h2) (X.2.2.1 _ h3) (X.2.2.1 _ h4) X.2.2.2.2.1 I.1 I.2.1 (u_here I) q0 q1 0 0 e0 e1 rfl rfl rfl n1' n2' n3' n4' n5' (fun _ _ => rfl) hframes hlocals hdg (fun H1 locs1 hP hD hS => ?_)
  rw [e2] at hP hD
  exact u_fix I hP hD hS (kk H1 locs1)
end UN
