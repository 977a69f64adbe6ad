set_option maxRecDepth 100000
/-! The Ways: edges from the source and to the sink -/
def eT_ (np : Nat) (nu : Nat → Int) (i : Nat) (e : Nat) : Prop := cT_ np np 0 e ∨ (∃ x, x < i ∧ 0 < nu x ∧ e = 18 * 16 + (8 + x)) ∨ ∃ x, x < i ∧ nu x < 0 ∧ e = 18 * x + 17
theorem eT_0 {np : Nat} (h8 : np ≤ 8) {nu : Nat → Int} {i x : Nat} (hi : i ≤ 8) (hx : i ≤ x) (hx8 : x < 8) : (¬ eT_ np nu i (18 * 16 + (8 + x)) ∧ ¬ eT_ np nu i (cn_rev (18 * 16 + (8 + x)))) ∧ (¬ eT_ np nu i (18 * x + 17) ∧ ¬ eT_ np nu i (cn_rev (18 * x + 17))) := by
  rw [cn_rev_at (show 16 < 18 by omega) (show 8 + x < 18 by omega), cn_rev_at (show x < 18 by omega) (show 17 < 18 by omega)]
  refine ⟨⟨fun z => ?_, fun z => ?_⟩, fun z => ?_, fun z => ?_⟩ <;>
    rcases z with (⟨y, q1, q2⟩ | ⟨x', y', q1, q2, q3, q4, q5⟩) | ⟨y, q1, q2, q3⟩ | ⟨y, q1, q2, q3⟩ <;> omega
theorem eT_s {np : Nat} {nu : Nat → Int} {i : Nat} (e : Nat) : eT_ np nu (i + 1) e ↔ (eT_ np nu i e ∨ (0 < nu i ∧ e = 18 * 16 + (8 + i)) ∨ (nu i < 0 ∧ e = 18 * i + 17)) := by
  unfold eT_
  constructor
  · intro z
    rcases z with z | ⟨x, q1, q2, q3⟩ | ⟨x, q1, q2, q3⟩
    · exact Or.inl (Or.inl z)
    · by_cases c : x = i
      · subst c; exact Or.inr (Or.inl ⟨q2, q3⟩)
      · exact Or.inl (Or.inr (Or.inl ⟨x, by omega, q2, q3⟩))
    · by_cases c : x = i
      · subst c; exact Or.inr (Or.inr ⟨q2, q3⟩)
      · exact Or.inl (Or.inr (Or.inr ⟨x, by omega, q2, q3⟩))
  · intro z
    rcases z with (z | ⟨x, q1, q2, q3⟩ | ⟨x, q1, q2, q3⟩) | ⟨q2, q3⟩ | ⟨q2, q3⟩
    · exact Or.inl z
    · exact Or.inr (Or.inl ⟨x, by omega, q2, q3⟩)
    · exact Or.inr (Or.inr ⟨x, by omega, q2, q3⟩)
    · exact Or.inr (Or.inl ⟨i, by omega, q2, q3⟩)
    · exact Or.inr (Or.inr ⟨i, by omega, q2, q3⟩)
/-- the places of the couples' edges stay when an edge more is laid -/
theorem pl_add {np x y m : Nat} {E : Nat → Nat} {f6 : Nat → Int32} (h : pl_ np x y m E f6) (e : Nat) : pl_ np x y (m + 2) (eA_ m E e) f6 := fun x' y' q1 q2 q3 q4 => by
  obtain ⟨j, j1, j2, j3, j4⟩ := h x' y' q1 q2 q3 q4
  exact ⟨j, by omega, j2, by rw [eA_o _ _ (by omega)]; exact j3, by rw [eA_o _ _ (by omega)]; exact j4⟩
