set_option maxRecDepth 100000
/-! A world in two halves: what a callee works on, and the rest -/
theorem fr_get {α : Type} {l r : List α} {k : Nat} {q : α} (h : (l ++ r)[k]? = some q) : l[k]? = some q ∨ ∃ j, k = l.length + j ∧ r[j]? = some q := by
  by_cases hk : k < l.length
  · rw [List.getElem?_append_left hk] at h; exact Or.inl h
  · rw [List.getElem?_append_right (by omega)] at h; exact Or.inr ⟨k - l.length, by omega, h⟩
theorem fr_inl {α : Type} {l r : List α} {k : Nat} {q : α} (h : l[k]? = some q) : (l ++ r)[k]? = some q := by
  rw [List.getElem?_append_left (List.getElem?_eq_some_iff.mp h).1]; exact h
theorem fr_inr {α : Type} {l r : List α} {k : Nat} {q : α} (h : r[k]? = some q) : (l ++ r)[l.length + k]? = some q := by
  rw [List.getElem?_append_right (by omega), Nat.add_sub_cancel_left]; exact h
theorem fr_l {D : va_G} {cl : List vw_C} {ws wx : va_W} {H : Heap} (h : va_P D cl (ws ++ wx) H) : va_P D cl ws H := fun k q hk => h k q (fr_inl hk)
theorem fr_r {D : va_G} {cl : List vw_C} {ws wx : va_W} {H : Heap} (h : va_P D cl (ws ++ wx) H) : va_P D cl wx H := fun k q hk => h _ q (fr_inr hk)
theorem fr_app {D : va_G} {cl : List vw_C} {ws wx : va_W} {H : Heap} (h : va_P D cl ws H) (h2 : va_P D cl wx H) : va_P D cl (ws ++ wx) H := fun k q hk => by
  rcases fr_get hk with e | ⟨j, -, e⟩
  · exact h k q e
  · exact h2 j q e
theorem fr_Dl {A : Nat → Prop} {ws wx : va_W} (h : va_D A (ws ++ wx)) : va_D A ws := ⟨fun i j p q hi hj e => h.1 i j p q (fr_inl hi) (fr_inl hj) e, fun k q hk => h.2 k q (fr_inl hk)⟩
theorem fr_Dr {A : Nat → Prop} {ws wx : va_W} (h : va_D A (ws ++ wx)) : va_D A wx := ⟨fun i j p q hi hj e => by have := h.1 _ _ p q (fr_inr hi) (fr_inr hj) e; omega, fun k q hk => h.2 _ q (fr_inr hk)⟩
/-- the two halves share no cell -/
theorem fr_ne {A : Nat → Prop} {ws wx : va_W} (h : va_D A (ws ++ wx)) {i j : Nat} {p q : Nat × va_E} (hi : ws[i]? = some p) (hj : wx[j]? = some q) : p.1 ≠ q.1 := fun e => by
  have h1 := h.1 _ _ p q (fr_inl hi) (fr_inr hj) e
  have h2 := (List.getElem?_eq_some_iff.mp hi).1
  omega
theorem fr_out {D : va_G} {cl : List vw_C} {A : Nat → Prop} {ws wx : va_W} {H : Heap} (hP : va_P D cl (ws ++ wx) H) (hD : va_D A (ws ++ wx)) {j : Nat} {q : Nat × va_E} (hj : wx[j]? = some q) : q.1 < H.size ∧ ¬ va_A ws H.size q.1 := by
  have hlt : q.1 < H.size := ((fr_r hP) j q hj).lt
  refine ⟨hlt, fun h => ?_⟩
  rcases h with ⟨k, e, hk⟩ | h
  · exact fr_ne hD hk hj rfl
  · omega
/-- behind a call on the first half: its new world, and the other half as it was -/
theorem fr_join {D : va_G} {cl : List vw_C} {A : Nat → Prop} {ws wx w1 : va_W} {H H1 : Heap} (hP : va_P D cl (ws ++ wx) H) (hD : va_D A (ws ++ wx)) (hA : ∀ q, va_A ws H.size q → A q) (hk : ∀ q : Nat, q < H.size → ¬ va_A ws H.size q → H1[q]? = H[q]?) (hP1 : va_P D cl w1 H1) (hD1 : va_D (va_A ws H.size) w1) : va_P D cl (w1 ++ wx) H1 ∧ va_D A (w1 ++ wx) := by
  refine ⟨fr_app hP1 ((fr_r hP).kept (fun k x hx => ?_)), ⟨fun i j p q hi hj e => ?_, fun k q hkq => ?_⟩⟩
  · obtain ⟨h1, h2⟩ := fr_out hP hD hx
    exact hk x.1 h1 h2
  · rcases fr_get hi with a | ⟨i', ei, a⟩ <;> rcases fr_get hj with b | ⟨j', ej, b⟩
    · exact hD1.1 i j p q a b e
    · exact absurd (e ▸ hD1.2 i p a) (fr_out hP hD b).2
    · exact absurd (e ▸ hD1.2 j q b) (fr_out hP hD a).2
    · have := (fr_Dr hD).1 i' j' p q a b e
      omega
  · rcases fr_get hkq with a | ⟨k', -, a⟩
    · exact hA q.1 (hD1.2 k q a)
    · exact (fr_Dr hD).2 k' q a
/-- the order of the halves may be changed -/
theorem fr_sw {D : va_G} {cl : List vw_C} {ws wx : va_W} {H : Heap} (h : va_P D cl (ws ++ wx) H) : va_P D cl (wx ++ ws) H := fr_app (fr_r h) (fr_l h)
theorem fr_Dsw {A : Nat → Prop} {ws wx : va_W} (h : va_D A (ws ++ wx)) : va_D A (wx ++ ws) := by
  refine ⟨fun i j p q hi hj e => ?_, fun k q hk => ?_⟩
  · rcases fr_get hi with a | ⟨i', ei, a⟩ <;> rcases fr_get hj with b | ⟨j', ej, b⟩
    · exact (fr_Dr h).1 i j p q a b e
    · exact absurd e.symm (fr_ne h b a)
    · exact absurd e (fr_ne h a b)
    · have := (fr_Dl h).1 i' j' p q a b e
      omega
  · rcases fr_get hk with a | ⟨k', -, a⟩
    · exact (fr_Dr h).2 k q a
    · exact (fr_Dl h).2 k' q a
