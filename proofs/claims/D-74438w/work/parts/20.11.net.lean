set_option maxRecDepth 100000
/-! A net: nodes below N, arcs below m, each with its reverse; left: what may go yet -/
def fw_Net (N m : Nat) (src dst rev : Nat → Nat) : Prop := ∀ e, e < m → src e < N ∧ dst e < N ∧ rev e < m ∧ rev (rev e) = e ∧ src (rev e) = dst e ∧ dst (rev e) = src e
def fw_D (m : Nat) (src : Nat → Nat) (L : Nat → Int) (v : Nat) : Int := fw_sm m (fun e => if src e = v then L e else 0)
theorem fw_piD {N m : Nat} {src : Nat → Nat} (h : ∀ e, e < m → src e < N) (p L : Nat → Int) : fw_sm m (fun e => p (src e) * L e) = fw_sm N (fun v => p v * fw_D m src L v) := by
  have h1 : fw_sm N (fun v => p v * fw_D m src L v) = fw_sm N (fun v => fw_sm m (fun e => if src e = v then p v * L e else 0)) := fw_sm_congr (fun v _ => by
    unfold fw_D; rw [← fw_sm_mul]; exact fw_sm_congr (fun e _ => by by_cases c : src e = v <;> simp [c]))
  rw [h1, fw_sm_swap]
  exact fw_sm_congr (fun e he => (fw_sm_one' (h e he) (fun v => p v * L e)).symm)
theorem fw_D_sub (m : Nat) (src : Nat → Nat) (L L' : Nat → Int) (v : Nat) : fw_D m src (fun e => L e - L' e) v = fw_D m src L v - fw_D m src L' v := by
  unfold fw_D; rw [← fw_sm_sub]; exact fw_sm_congr (fun e _ => by by_cases c : src e = v <;> simp [c])
/-- costs of a left with prices under which no arc that may be used is too cheap are the best -/
theorem fw_opt {N m : Nat} {src dst rev : Nat → Nat} (net : fw_Net N m src dst rev) {c : Nat → Int} (hc : ∀ e, e < m → c (rev e) = - c e) {L L' : Nat → Int}
    (hL : ∀ e, e < m → 0 ≤ L e) (hL' : ∀ e, e < m → 0 ≤ L' e) (hcap : ∀ e, e < m → L e + L (rev e) = L' e + L' (rev e)) (hD : ∀ v, v < N → fw_D m src L v = fw_D m src L' v)
    (p : Nat → Int) (hp : ∀ e, e < m → 0 < L e → 0 ≤ c e + p (src e) - p (dst e)) : fw_sm m (fun e => c e * L' e) ≤ fw_sm m (fun e => c e * L e) := by
  have hs : ∀ e, e < m → src e < N := fun e he => (net e he).1
  have z1 : fw_sm m (fun e => p (src e) * (L e - L' e)) = 0 := by
    rw [fw_piD hs p (fun e => L e - L' e)]
    exact fw_sm_z (fun v hv => by rw [fw_D_sub, hD v hv, Int.sub_self, Int.mul_zero])
  have z2 : fw_sm m (fun e => p (dst e) * (L e - L' e)) = 0 := by
    have h1 : fw_sm m (fun e => p (dst e) * (L e - L' e)) = fw_sm m (fun e => p (dst (rev e)) * (L (rev e) - L' (rev e))) :=
      (fw_sm_rev (fun e he => ⟨(net e he).2.2.1, (net e he).2.2.2.1⟩) (fun e => p (dst e) * (L e - L' e))).symm
    have h2 : fw_sm m (fun e => p (dst (rev e)) * (L (rev e) - L' (rev e))) = fw_sm m (fun e => - (p (src e) * (L e - L' e))) := fw_sm_congr (fun e he => by
      rw [(net e he).2.2.2.2.2, ← Int.mul_neg]
      congr 1
      have := hcap e he
      omega)
    rw [h1, h2, fw_sm_neg, z1]; rfl
  have hk : 0 ≤ fw_sm m (fun e => (c e + p (src e) - p (dst e)) * (L e - L' e)) := fw_sm_nonneg (fun e he => by
    rcases Int.lt_trichotomy (c e + p (src e) - p (dst e)) 0 with h | h | h
    · have h0 : L e = 0 := by
        have h1 := hL e he
        rcases Int.lt_or_eq_of_le h1 with h2 | h2
        · have := hp e he h2; omega
        · exact h2.symm
      rw [h0]
      have := hL' e he
      exact Int.mul_nonneg_of_nonpos_of_nonpos (by omega) (by omega)
    · rw [h, Int.zero_mul]; exact Int.le_refl _
    · have hr := net e he
      have h0 : L (rev e) = 0 := by
        have h1 := hL (rev e) hr.2.2.1
        rcases Int.lt_or_eq_of_le h1 with h2 | h2
        · have h3 := hp (rev e) hr.2.2.1 h2
          rw [hc e he, hr.2.2.2.2.1, hr.2.2.2.2.2] at h3; omega
        · exact h2.symm
      have h1 := hcap e he
      have h2 := hL' (rev e) hr.2.2.1
      exact Int.mul_nonneg (by omega) (by omega))
  have hsum : fw_sm m (fun e => (c e + p (src e) - p (dst e)) * (L e - L' e)) = (fw_sm m (fun e => c e * L e) - fw_sm m (fun e => c e * L' e)) + fw_sm m (fun e => p (src e) * (L e - L' e)) - fw_sm m (fun e => p (dst e) * (L e - L' e)) := by
    rw [← fw_sm_sub, ← fw_sm_add, ← fw_sm_sub]
    exact fw_sm_congr (fun e _ => by simp only [Int.sub_mul, Int.add_mul, Int.mul_sub]; omega)
  rw [hsum, z1, z2] at hk
  omega
/-! Chains: from a node back, by the arc that was laid for it, to a root -/
def fw_Ch (pr : Nat → Nat) (root : Nat → Prop) : List Nat → Prop
  | [] => False
  | [v] => root v
  | v :: u :: l => ¬ root v ∧ pr v = u ∧ fw_Ch pr root (u :: l)
theorem fw_Ch_ne {pr : Nat → Nat} {root : Nat → Prop} {l : List Nat} (h : fw_Ch pr root l) : l ≠ [] := by
  intro e; subst e; exact h
/-- a chain is one by its first node -/
theorem fw_Ch_uniq {pr : Nat → Nat} {root : Nat → Prop} : ∀ (l l' : List Nat) (v : Nat), fw_Ch pr root (v :: l) → fw_Ch pr root (v :: l') → l = l' := by
  intro l
  induction l with
  | nil =>
    intro l' v h h'
    cases l' with
    | nil => rfl
    | cons u l' => exact absurd h h'.1
  | cons u l ih =>
    intro l' v h h'
    cases l' with
    | nil => exact absurd h' h.1
    | cons u' l' =>
      have e : u = u' := h.2.1.symm.trans h'.2.1
      subst e
      rw [ih l' u h.2.2 h'.2.2]
theorem fw_Ch_suf {pr : Nat → Nat} {root : Nat → Prop} : ∀ (a : List Nat) (v : Nat) (b : List Nat), fw_Ch pr root (a ++ v :: b) → fw_Ch pr root (v :: b) := by
  intro a
  induction a with
  | nil => intro v b h; exact h
  | cons x a ih =>
    intro v b h
    cases a with
    | nil => exact h.2.2
    | cons y a => exact ih v b h.2.2
theorem fw_Ch_nodup {pr : Nat → Nat} {root : Nat → Prop} : ∀ (l : List Nat), fw_Ch pr root l → l.Nodup := by
  intro l
  induction l with
  | nil => intro h; exact h.elim
  | cons v l ih =>
    intro h
    cases l with
    | nil => exact List.nodup_cons.mpr ⟨List.not_mem_nil, List.nodup_nil⟩
    | cons u l =>
      refine List.nodup_cons.mpr ⟨fun hm => ?_, ih h.2.2⟩
      obtain ⟨a, b, e⟩ := List.append_of_mem hm
      have h1 : fw_Ch pr root (v :: b) := fw_Ch_suf a v b (e ▸ h.2.2)
      have h2 := fw_Ch_uniq _ _ v h h1
      have h3 := congrArg List.length (e.symm.trans h2)
      simp only [List.length_append, List.length_cons] at h3
      omega
/-- another arc for a node that isn't on a chain -/
theorem fw_Ch_off {pr : Nat → Nat} {root : Nat → Prop} {v u : Nat} : ∀ (l : List Nat), v ∉ l → fw_Ch pr root l → fw_Ch (fun x => if x = v then u else pr x) (fun x => root x ∧ x ≠ v) l := by
  intro l
  induction l with
  | nil => intro _ h; exact h
  | cons x l ih =>
    intro hv h
    have hx : x ≠ v := fun e => hv (e ▸ List.mem_cons_self)
    cases l with
    | nil => exact ⟨h, hx⟩
    | cons y l => exact ⟨fun r => h.1 r.1, by show (if x = v then u else pr x) = y; rw [if_neg hx]; exact h.2.1, ih (fun hm => hv (List.mem_cons_of_mem _ hm)) h.2.2⟩
theorem fw_Ch_on {pr : Nat → Nat} {root : Nat → Prop} {v u : Nat} {k : List Nat} (hk : fw_Ch pr root (u :: k)) (hv : v ∉ u :: k) : ∀ (a b : List Nat), v ∉ a → fw_Ch pr root (a ++ v :: b) → fw_Ch (fun x => if x = v then u else pr x) (fun x => root x ∧ x ≠ v) (a ++ v :: u :: k) := by
  intro a
  induction a with
  | nil => intro b _ _; exact ⟨fun r => r.2 rfl, if_pos rfl, fw_Ch_off _ hv hk⟩
  | cons x a ih =>
    intro b ha h
    have hx : x ≠ v := fun e => ha (e ▸ List.mem_cons_self)
    cases a with
    | nil => exact ⟨fun r => h.1 r.1, by show (if x = v then u else pr x) = v; rw [if_neg hx]; exact h.2.1, ih b List.not_mem_nil h.2.2⟩
    | cons y a => exact ⟨fun r => h.1 r.1, by show (if x = v then u else pr x) = y; rw [if_neg hx]; exact h.2.1, ih b (fun hm => ha (List.mem_cons_of_mem _ hm)) h.2.2⟩
