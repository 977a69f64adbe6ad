set_option maxRecDepth 100000
/-! The map world: cells read and written by their address -/
def u_get : va_W → Nat → Option va_E
  | [], _ => none
  | q :: ws, a => if q.1 = a then some q.2 else u_get ws a
def u_set : va_W → Nat → va_E → va_W
  | [], _, _ => []
  | q :: ws, a, x => if q.1 = a then (q.1, x) :: ws else q :: u_set ws a x
/-- what is read by its address lies at some place, and writing there is writing by the address -/
theorem u_at : ∀ {ws : va_W} {a : Nat} {x : va_E}, u_get ws a = some x → ∃ q0 : Nat, ws[q0]? = some (a, x) ∧ ∀ y : va_E, ws.set q0 (a, y) = u_set ws a y
  | [], _, _, h => by cases h
  | q :: ws, a, x, h => by
    unfold u_get at h
    by_cases e : q.1 = a
    · rw [if_pos e] at h
      cases h
      refine ⟨0, by rw [← e]; rfl, fun y => ?_⟩
      unfold u_set
      rw [if_pos e, ← e]
      rfl
    · rw [if_neg e] at h
      obtain ⟨q0, h1, h2⟩ := u_at h
      refine ⟨q0 + 1, h1, fun y => ?_⟩
      show q :: ws.set q0 (a, y) = u_set (q :: ws) a y
      unfold u_set
      rw [if_neg e, h2]
/-- the other way: cells being apart -/
theorem u_of {A : Nat → Prop} : ∀ {ws : va_W} {a : Nat} {x : va_E} {k : Nat}, va_D A ws → ws[k]? = some (a, x) → u_get ws a = some x
  | [], _, _, _, _, h => by cases h
  | q :: ws, a, x, 0, _, h => by
    cases h
    unfold u_get
    rw [if_pos rfl]
  | q :: ws, a, x, k + 1, hD, h => by
    unfold u_get
    rw [if_neg (fun e => by
      have := hD.1 0 (k + 1) q (a, x) rfl h e
      omega)]
    exact u_of ⟨fun i j p r hi hj e => by
      have := hD.1 (i + 1) (j + 1) p r hi hj e
      omega, fun k q hk => hD.2 (k + 1) q hk⟩ h
theorem u_get_set : ∀ {ws : va_W} {a : Nat} {x y : va_E}, u_get ws a = some x → u_get (u_set ws a y) a = some y
  | [], _, _, _, h => by cases h
  | q :: ws, a, x, y, h => by
    unfold u_get at h
    unfold u_set
    by_cases e : q.1 = a
    · rw [if_pos e]
      unfold u_get
      rw [if_pos e]
    · rw [if_neg e] at h
      rw [if_neg e]
      unfold u_get
      rw [if_neg e]
      exact u_get_set h
theorem u_get_ne : ∀ {ws : va_W} {a b : Nat} {y : va_E}, a ≠ b → u_get (u_set ws a y) b = u_get ws b
  | [], _, _, _, _ => rfl
  | q :: ws, a, b, y, h => by
    unfold u_set
    by_cases e : q.1 = a
    · rw [if_pos e]
      unfold u_get
      rw [if_neg (fun z => h (e.symm.trans z)), if_neg (fun z => h (e.symm.trans z))]
    · rw [if_neg e]
      unfold u_get
      by_cases e2 : q.1 = b
      · rw [if_pos e2, if_pos e2]
      · rw [if_neg e2, if_neg e2]
        exact u_get_ne h
theorem u_get_cons (q : Nat × va_E) (ws : va_W) (a : Nat) : u_get (q :: ws) a = if q.1 = a then some q.2 else u_get ws a := rfl
theorem u_get_app : ∀ {ws wx : va_W} {a : Nat}, u_get (ws ++ wx) a = (u_get ws a).or (u_get wx a)
  | [], _, _ => rfl
  | q :: ws, wx, a => by
    rw [List.cons_append, u_get_cons, u_get_cons]
    by_cases e : q.1 = a
    · rw [if_pos e, if_pos e]; rfl
    · rw [if_neg e, if_neg e]
      exact u_get_app
