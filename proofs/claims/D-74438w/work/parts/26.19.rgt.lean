set_option maxRecDepth 100000
/-! No ring: then each party has a longest row -/
theorem rg_t_none {f : Nat → Int} {row : List Nat} {rec : List Nat → Option (List Nat)} : ∀ (m b0 : Nat), rg_t f row rec m b0 = none → ∀ b, b0 ≤ b → b < b0 + m → b ∉ row → f (8 * row.getD (row.length - 1) 0 + b) ≠ 0 → rec (row ++ [b]) = none := by
  intro m
  induction m with
  | zero => intro b0 _ b h1 h2; omega
  | succ m ih =>
    intro b0 h b h1 h2 h3 h4
    unfold rg_t at h
    by_cases c : b0 ∈ row ∨ f (8 * row.getD (row.length - 1) 0 + b0) = 0
    · rw [if_pos c] at h
      have : b ≠ b0 := fun e => by subst e; rcases c with c | c <;> contradiction
      exact ih (b0 + 1) h b (by omega) (by omega) h3 h4
    · rw [if_neg c] at h
      cases hr : rec (row ++ [b0]) with
      | some r => rw [hr] at h; cases h
      | none =>
        rw [hr] at h
        by_cases e : b = b0
        · rw [e]; exact hr
        · exact ih (b0 + 1) h b (by omega) (by omega) h3 h4
theorem rg_a_none {np : Nat} {f : Nat → Int} {many : Nat} : ∀ (m a0 : Nat), rg_a np f many m a0 = none → ∀ a, a0 ≤ a → a < a0 + m → rg_go np f many 9 [a] = none := by
  intro m
  induction m with
  | zero => intro a0 _ a h1 h2; omega
  | succ m ih =>
    intro a0 h a h1 h2
    unfold rg_a at h
    cases hr : rg_go np f many 9 [a0] with
    | some r => rw [hr] at h; cases h
    | none =>
      rw [hr] at h
      by_cases e : a = a0
      · rw [e]; exact hr
      · exact ih (a0 + 1) h a (by omega) (by omega)
theorem rg_m_none {np : Nat} {f : Nat → Int} : ∀ (m k0 : Nat), rg_m np f m k0 = none → ∀ k, k0 ≤ k → k < k0 + m → rg_a np f k np 0 = none := by
  intro m
  induction m with
  | zero => intro k0 _ k h1 h2; omega
  | succ m ih =>
    intro k0 h k h1 h2
    unfold rg_m at h
    cases hr : rg_a np f k0 np 0 with
    | some r => rw [hr] at h; cases h
    | none =>
      rw [hr] at h
      by_cases e : k = k0
      · rw [e]; exact hr
      · exact ih (k0 + 1) h k (by omega) (by omega)
/-- a ring by a walk that comes round -/
def cy_ (np : Nat) (f : Nat → Int) (m : Nat) (w : Nat → Nat) : Prop := (∀ i, i < m → w i < np) ∧ (∀ i j, i < m → j < m → w i = w j → i = j) ∧ ∀ i, i < m → 0 < f (8 * w i + (if i + 1 = m then w 0 else w (i + 1)))
theorem mr_get (w : Nat → Nat) {j i : Nat} (h : i < j) : ((List.range j).map w).getD i 0 = w i := by
  rw [List.getD_eq_getElem?_getD, List.getElem?_map, List.getElem?_range h]; rfl
theorem mr_len (w : Nat → Nat) (j : Nat) : ((List.range j).map w).length = j := by simp
theorem rg_go_full {np : Nat} {f : Nat → Int} {m : Nat} {w : Nat → Nat} (h : cy_ np f m w) (h0 : ∀ i, 0 < i → i < m → w 0 < w i) : ∀ (d j : Nat), 1 ≤ j → j ≤ m → m + 1 ≤ d + j → rg_go np f m d ((List.range j).map w) ≠ none := by
  intro d
  induction d with
  | zero => intro j h1 h2 h3; omega
  | succ d ih =>
    intro j h1 h2 h3 hn
    unfold rg_go at hn
    rw [mr_len, mr_get w (show j - 1 < j by omega), mr_get w (show 0 < j by omega)] at hn
    by_cases c : j = m
    · subst c
      have := h.2.2 (j - 1) (by omega)
      rw [if_pos (by omega)] at this
      rw [if_pos rfl, if_pos this] at hn
      cases hn
    · rw [if_neg c] at hn
      have hj : j < m := by omega
      have a1 := h.1 j hj
      have a2 := h0 j (by omega) hj
      have a3 := h.2.2 (j - 1) (by omega)
      rw [if_neg (by omega), show j - 1 + 1 = j by omega] at a3
      have nm : w j ∉ (List.range j).map w := fun q => by
        obtain ⟨i, hi, e⟩ := List.mem_map.mp q
        have := h.2.1 i j (by have := List.mem_range.mp hi; omega) hj e
        have := List.mem_range.mp hi
        omega
      have := rg_t_none _ _ hn (w j) (by omega) (by omega) nm (by rw [mr_len, mr_get w (show j - 1 < j by omega)]; omega)
      refine ih (j + 1) (by omega) (by omega) (by omega) ?_
      rw [List.range_succ, List.map_append]; exact this
theorem mn_ex (w : Nat → Nat) : ∀ m, 0 < m → ∃ k, k < m ∧ ∀ i, i < m → w k ≤ w i := by
  intro m
  induction m with
  | zero => intro h; omega
  | succ m ih =>
    intro _
    by_cases c : m = 0
    · subst c; exact ⟨0, by omega, fun i hi => by rw [show i = 0 by omega]; exact Nat.le_refl _⟩
    · obtain ⟨k, hk, h⟩ := ih (by omega)
      by_cases q : w m < w k
      · exact ⟨m, by omega, fun i hi => by
          by_cases e : i = m
          · rw [e]; exact Nat.le_refl _
          · have := h i (by omega); omega⟩
      · exact ⟨k, by omega, fun i hi => by
          by_cases e : i = m
          · rw [e]; omega
          · exact h i (by omega)⟩
theorem cy_no {np : Nat} (h8 : np ≤ 8) {f : Nat → Int} (hn : rg_ring np f = none) {m : Nat} (h2 : 2 ≤ m) {w : Nat → Nat} : ¬ cy_ np f m w := fun h => by
  have hmn : m ≤ np := by
    have := fw_pigeon np ((List.range m).map w) (by
      rw [List.Nodup, List.pairwise_iff_getElem]
      intro i j hi hj hij e
      rw [mr_len] at hi hj
      simp only [List.getElem_map, List.getElem_range] at e
      have := h.2.1 i j hi hj e
      omega) (fun x hx => by
      obtain ⟨i, hi, e⟩ := List.mem_map.mp hx
      rw [← e]; exact h.1 i (List.mem_range.mp hi))
    rwa [mr_len] at this
  obtain ⟨k, hk, hmin⟩ := mn_ex w m (by omega)
  let r : Nat → Nat := fun i => if k + i < m then k + i else k + i - m
  have hr : ∀ i, i < m → r i < m := fun i hi => by show (if k + i < m then k + i else k + i - m) < m; split <;> omega
  have r0 : r 0 = k := by show (if k + 0 < m then k + 0 else k + 0 - m) = k; rw [if_pos (by omega)]; rfl
  have hc : cy_ np f m (fun i => w (r i)) := by
    refine ⟨fun i hi => h.1 _ (hr i hi), fun i j hi hj e => ?_, fun i hi => ?_⟩
    · have := h.2.1 _ _ (hr i hi) (hr j hj) e
      have e' : (if k + i < m then k + i else k + i - m) = (if k + j < m then k + j else k + j - m) := this
      split at e' <;> split at e' <;> omega
    · have := h.2.2 _ (hr i hi)
      dsimp only
      rw [r0]
      by_cases c : i + 1 = m
      · rw [if_pos c]
        have e : r i + 1 = if k = 0 then m else k := by
          show (if k + i < m then k + i else k + i - m) + 1 = _
          split <;> split <;> omega
        by_cases ck : k = 0
        · rw [if_pos ck] at e; rw [if_pos e] at this; rw [ck]; exact this
        · rw [if_neg ck] at e; rw [if_neg (by omega), e] at this; exact this
      · rw [if_neg c]
        by_cases c2 : r i + 1 = m
        · rw [if_pos c2] at this
          have : r (i + 1) = 0 := by
            have e' : (if k + i < m then k + i else k + i - m) + 1 = m := c2
            show (if k + (i + 1) < m then k + (i + 1) else k + (i + 1) - m) = 0
            split at e' <;> split <;> omega
          rw [this]; assumption
        · rw [if_neg c2] at this
          have e2 : r (i + 1) = r i + 1 := by
            have e' : ¬ (if k + i < m then k + i else k + i - m) + 1 = m := c2
            show (if k + (i + 1) < m then k + (i + 1) else k + (i + 1) - m) = (if k + i < m then k + i else k + i - m) + 1
            split at e' <;> split <;> omega
          rw [e2]; exact this
  have hmin' : ∀ i, 0 < i → i < m → w (r 0) < w (r i) := fun i h0 hi => by
    have a := hmin _ (hr i hi)
    rw [r0]
    have b : w k ≠ w (r i) := fun e => by
      have := h.2.1 _ _ hk (hr i hi) e
      have e' : k = (if k + i < m then k + i else k + i - m) := this
      split at e' <;> omega
    omega
  have g1 := rg_m_none _ _ (show rg_m np f (np - 1) 2 = none from hn) m (by omega) (by omega)
  have g2 := rg_a_none _ _ g1 (w (r 0)) (by omega) (by have := h.1 k hk; rw [r0]; omega)
  exact rg_go_full hc hmin' 9 1 (by omega) (by omega) (by omega) g2
/-- no walk comes back -/
theorem wk_no {np : Nat} (h8 : np ≤ 8) {f : Nat → Int} (hn : rg_ring np f = none) (hd : ∀ p, f (8 * p + p) ≤ 0) {w : Nat → Nat} {M : Nat} (hw : ∀ i, i ≤ M → w i < np) (ha : ∀ i, i < M → 0 < f (8 * w i + w (i + 1))) : ∀ (dl i : Nat), 1 ≤ dl → i + dl ≤ M → w (i + dl) ≠ w i := by
  intro dl
  induction dl using Nat.strongRecOn with
  | _ dl ih =>
    intro i h1 h2 e
    by_cases c : ∀ a b, a < b → b < dl → w (i + a) ≠ w (i + b)
    · have hc : cy_ np f dl (fun t => w (i + t)) := by
        refine ⟨fun t ht => hw _ (by omega), fun a b ha hb e' => ?_, fun t ht => ?_⟩
        · rcases Nat.lt_trichotomy a b with q | q | q
          · exact absurd e' (c a b q hb)
          · exact q
          · exact absurd e'.symm (c b a q ha)
        · dsimp only
          by_cases ct : t + 1 = dl
          · rw [if_pos ct, Nat.add_zero, ← e, ← ct]; exact ha (i + t) (by omega)
          · rw [if_neg ct]; exact ha (i + t) (by omega)
      by_cases d1 : dl = 1
      · subst d1
        have a := ha i (by omega)
        rw [e] at a
        have := hd (w i)
        omega
      · exact cy_no h8 hn (by omega) hc
    · have : ∃ a b, a < b ∧ b < dl ∧ w (i + a) = w (i + b) := Classical.byContradiction fun q => c (fun a b h3 h4 h5 => q ⟨a, b, h3, h4, h5⟩)
      obtain ⟨a, b, h3, h4, h5⟩ := this
      exact ih (b - a) (by omega) (i + a) (by omega) (by omega) (by rw [show i + a + (b - a) = i + b by omega]; exact h5.symm)
theorem wk_len {np : Nat} (h8 : np ≤ 8) {f : Nat → Int} (hn : rg_ring np f = none) (hd : ∀ p, f (8 * p + p) ≤ 0) {w : Nat → Nat} (hw : ∀ i, i ≤ np → w i < np) (ha : ∀ i, i < np → 0 < f (8 * w i + w (i + 1))) : False := by
  have := fw_pigeon np ((List.range (np + 1)).map w) (by
    rw [List.Nodup, List.pairwise_iff_getElem]
    intro i j hi hj hij e
    rw [mr_len] at hi hj
    simp only [List.getElem_map, List.getElem_range] at e
    have := wk_no h8 hn hd hw ha (j - i) i (by omega) (by omega)
    rw [show i + (j - i) = j by omega] at this
    exact this e.symm) (fun x hx => by
    obtain ⟨i, hi, e⟩ := List.mem_map.mp hx
    rw [← e]; exact hw i (by have := List.mem_range.mp hi; omega))
  rw [mr_len] at this
  omega
/-! how long rows are -/
def lmx_ (f : Nat → Int) (p : Nat) (g : Nat → Nat) : Nat → Nat
  | 0 => 0
  | q + 1 => max (lmx_ f p g q) (if 0 < f (8 * p + q) then g q else 0)
theorem lmx_ge {f : Nat → Int} {p : Nat} {g : Nat → Nat} : ∀ {n q : Nat}, q < n → 0 < f (8 * p + q) → g q ≤ lmx_ f p g n := by
  intro n
  induction n with
  | zero => intro q h; omega
  | succ n ih =>
    intro q h hq
    simp only [lmx_]
    by_cases e : q = n
    · subst e; rw [if_pos hq]; omega
    · have := ih (show q < n by omega) hq; omega
theorem lmx_ex (f : Nat → Int) (p : Nat) (g : Nat → Nat) : ∀ n, lmx_ f p g n = 0 ∨ ∃ q, q < n ∧ 0 < f (8 * p + q) ∧ lmx_ f p g n = g q := by
  intro n
  induction n with
  | zero => exact Or.inl rfl
  | succ n ih =>
    simp only [lmx_]
    by_cases c : 0 < f (8 * p + n)
    · rw [if_pos c]
      by_cases d : lmx_ f p g n ≤ g n
      · exact Or.inr ⟨n, by omega, c, by omega⟩
      · rcases ih with e | ⟨q, h1, h2, h3⟩
        · omega
        · exact Or.inr ⟨q, by omega, h2, by omega⟩
    · rw [if_neg c, Nat.max_eq_left (Nat.zero_le _)]
      rcases ih with e | ⟨q, h1, h2, h3⟩
      · exact Or.inl e
      · exact Or.inr ⟨q, by omega, h2, h3⟩
def lk_ (np : Nat) (f : Nat → Int) : Nat → Nat → Nat
  | 0, _ => 1
  | k + 1, p => 1 + lmx_ f p (lk_ np f k) np
theorem lk_mono (np : Nat) (f : Nat → Int) : ∀ k p, lk_ np f k p ≤ lk_ np f (k + 1) p := by
  intro k
  induction k with
  | zero => intro p; show 1 ≤ 1 + _; omega
  | succ k ih =>
    intro p
    show 1 + lmx_ f p (lk_ np f k) np ≤ 1 + lmx_ f p (lk_ np f (k + 1)) np
    rcases lmx_ex f p (lk_ np f k) np with e | ⟨q, h1, h2, h3⟩
    · omega
    · have a := lmx_ge (g := lk_ np f (k + 1)) h1 h2
      have b := ih q
      omega
theorem lk_le (np : Nat) (f : Nat → Int) : ∀ k p, 1 ≤ lk_ np f k p ∧ lk_ np f k p ≤ k + 1 := by
  intro k
  induction k with
  | zero => intro p; exact ⟨Nat.le_refl _, Nat.le_refl _⟩
  | succ k ih =>
    intro p
    show 1 ≤ 1 + lmx_ f p (lk_ np f k) np ∧ 1 + lmx_ f p (lk_ np f k) np ≤ k + 1 + 1
    rcases lmx_ex f p (lk_ np f k) np with e | ⟨q, h1, h2, h3⟩
    · omega
    · have := ih q; omega
theorem lkw_ {np : Nat} {f : Nat → Int} : ∀ k p, p < np → lk_ np f k p < lk_ np f (k + 1) p → ∃ w : Nat → Nat, w 0 = p ∧ (∀ i, i ≤ k + 1 → w i < np) ∧ ∀ i, i < k + 1 → 0 < f (8 * w i + w (i + 1)) := by
  intro k
  induction k with
  | zero =>
    intro p hp h
    have h : 1 < 1 + lmx_ f p (lk_ np f 0) np := h
    rcases lmx_ex f p (lk_ np f 0) np with e | ⟨q, h1, h2, h3⟩
    · omega
    · exact ⟨fun i => if i = 0 then p else q, rfl, fun i hi => by dsimp only; split <;> assumption, fun i hi => by rw [show i = 0 by omega]; exact h2⟩
  | succ k ih =>
    intro p hp h
    have h : 1 + lmx_ f p (lk_ np f k) np < 1 + lmx_ f p (lk_ np f (k + 1)) np := h
    rcases lmx_ex f p (lk_ np f (k + 1)) np with e | ⟨q, h1, h2, h3⟩
    · omega
    · have a := lmx_ge (g := lk_ np f k) h1 h2
      obtain ⟨w, w0, w1, w2⟩ := ih q h1 (by omega)
      refine ⟨fun i => if i = 0 then p else w (i - 1), rfl, fun i hi => ?_, fun i hi => ?_⟩
      · dsimp only
        by_cases c : i = 0
        · rw [if_pos c]; exact hp
        · rw [if_neg c]; exact w1 _ (by omega)
      · dsimp only
        by_cases c : i = 0
        · rw [c, if_pos rfl, if_neg (by omega)]
          show 0 < f (8 * p + w 0)
          rw [w0]; exact h2
        · rw [if_neg c, if_neg (by omega)]
          have := w2 (i - 1) (by omega)
          rw [show i - 1 + 1 = i by omega] at this
          exact this
/-- of each party the longest row's length -/
def Lg_ (np : Nat) (f : Nat → Int) (L : Nat → Nat) : Prop := ∀ p, p < np → 1 ≤ L p ∧ L p ≤ np ∧ (∀ q, q < np → 0 < f (8 * p + q) → L q < L p) ∧ (L p = 1 ∨ ∃ q, q < np ∧ 0 < f (8 * p + q) ∧ L p = L q + 1)
theorem Lg_ex {np : Nat} (h8 : np ≤ 8) {f : Nat → Int} (hn : rg_ring np f = none) (hd : ∀ p, f (8 * p + p) ≤ 0) : ∃ L, Lg_ np f L := by
  refine ⟨lk_ np f (np - 1), fun p hp => ?_⟩
  obtain ⟨k, hk⟩ : ∃ k, np = k + 1 := ⟨np - 1, by omega⟩
  have e : ∀ q, q < np → lk_ np f k q = lk_ np f (k + 1) q := fun q hq => by
    rcases Nat.lt_or_ge (lk_ np f k q) (lk_ np f (k + 1) q) with c | c
    · obtain ⟨w, w0, w1, w2⟩ := lkw_ k q hq c
      exact absurd (wk_len h8 hn hd (fun i hi => w1 i (by omega)) (fun i hi => w2 i (by omega))) (fun h => h)
    · have := lk_mono np f k q; omega
  rw [show np - 1 = k by omega]
  have l := lk_le np f k p
  have ep : lk_ np f k p = 1 + lmx_ f p (lk_ np f k) np := e p hp
  refine ⟨l.1, by omega, fun q hq ha => ?_, ?_⟩
  · have := lmx_ge (g := lk_ np f k) hq ha; omega
  · rcases lmx_ex f p (lk_ np f k) np with c | ⟨q, h1, h2, h3⟩
    · exact Or.inl (by omega)
    · exact Or.inr ⟨q, h1, h2, by omega⟩
theorem Lg_le {np : Nat} {f : Nat → Int} {L L' : Nat → Nat} (h : Lg_ np f L) (h' : Lg_ np f L') : ∀ m p, p < np → L p ≤ m → L p ≤ L' p := by
  intro m
  induction m with
  | zero => intro p hp hm; have := (h p hp).1; omega
  | succ m ih =>
    intro p hp hm
    rcases (h p hp).2.2.2 with c | ⟨q, h1, h2, h3⟩
    · have := (h' p hp).1; omega
    · have a := ih q h1 (by omega)
      have b := (h' p hp).2.2.1 q h1 h2
      omega
theorem Lg_u {np : Nat} {f : Nat → Int} {L L' : Nat → Nat} (h : Lg_ np f L) (h' : Lg_ np f L') {p : Nat} (hp : p < np) : L p = L' p := by
  have a := Lg_le h h' _ p hp (Nat.le_refl _)
  have b := Lg_le h' h _ p hp (Nat.le_refl _)
  omega
