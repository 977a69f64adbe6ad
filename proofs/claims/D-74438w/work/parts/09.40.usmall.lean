set_option maxRecDepth 100000
theorem m_e4 {α β : Type} {a a' : α} {b b' : β} (h : (a, b) = (a', b')) : a = a' ∧ b = b' := by cases h; exact ⟨rfl, rfl⟩
theorem u_qb1 {β : Type} {a : Nat} {k0 k1 : Option β} {r : β} (h : u_qb (some a) k0 k1 = some r) : k1 = some r := h
theorem u_qb0 {β : Type} {k0 k1 : Option β} {r : β} (h : u_qb none k0 k1 = some r) : k0 = some r := h
def u_e {α β : Type} (E1 : α → UC → Prop) (E2 : β → UC → Prop) (z : α ⊕ β) (C : UC) : Prop := match z with
  | .inl a => E1 a C
  | .inr b => E2 b C
theorem u_nar {t : FieldType} (x : Option Nat) : narrow t (va_rf x) = va_rf x := by cases x <;> cases t <;> rfl
theorem u_fit {t : FieldType} (x : Option Nat) : fits (.array t) (va_rf x) = true := by cases x <;> rfl
theorem u_01b {x : Int32} (h : m_01 x = true) : narrow .byte (.int x) = .int x := by
  rcases of_decide_eq_true h with h | h <;> subst h <;> rfl
theorem u_01f {x : Int32} (h : m_01 x = true) : fits .byte (.int x) = true := by
  rcases of_decide_eq_true h with h | h <;> subst h <;> rfl
theorem u_01z {x : Int32} (h : m_01 x = true) : fits .boolean (.int x) = true := by
  rcases of_decide_eq_true h with h | h <;> subst h <;> rfl
theorem u_fitO {C : String} (x : Option Nat) : fits (.object C) (va_rf x) = true := by cases x <;> rfl
def u_qn {β : Type} (x : Option Nat) (k0 : Option β) (k1 : Nat → Option β) : Option β := match x with
  | none => k0
  | some a => k1 a
theorem u_qn1 {β : Type} {a : Nat} {k0 : Option β} {k1 : Nat → Option β} {r : β} (h : u_qn (some a) k0 k1 = some r) : k1 a = some r := h
theorem u_qn0 {β : Type} {k0 : Option β} {k1 : Nat → Option β} {r : β} (h : u_qn none k0 k1 = some r) : k0 = some r := h
theorem uh_J16_equals : yJ16_equals.cls = RJ16 ∧ yJ16_equals.cls ≠ "java/lang/invoke/MethodHandle" ∧ yJ16_equals.cls ≠ "java/lang/invoke/VarHandle" ∧ (parseMethodDescriptor yJ16_equals.desc).map (fun d => d.parameters.length) = some 1 := by decide +kernel
