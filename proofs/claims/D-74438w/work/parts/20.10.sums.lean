set_option maxRecDepth 100000
/-! Finite sums of integers -/
def fw_sm : Nat → (Nat → Int) → Int
  | 0, _ => 0
  | k + 1, f => fw_sm k f + f k
theorem fw_sm_congr {n : Nat} {f g : Nat → Int} (h : ∀ i, i < n → f i = g i) : fw_sm n f = fw_sm n g := by
  induction n with
  | zero => rfl
  | succ n ih =>
    show fw_sm n f + f n = fw_sm n g + g n
    rw [ih (fun i hi => h i (Nat.lt_succ_of_lt hi)), h n (Nat.lt_succ_self n)]
theorem fw_sm_add (n : Nat) (f g : Nat → Int) : fw_sm n (fun i => f i + g i) = fw_sm n f + fw_sm n g := by
  induction n with
  | zero => rfl
  | succ n ih => simp only [fw_sm, ih]; omega
theorem fw_sm_sub (n : Nat) (f g : Nat → Int) : fw_sm n (fun i => f i - g i) = fw_sm n f - fw_sm n g := by
  induction n with
  | zero => rfl
  | succ n ih => simp only [fw_sm, ih]; omega
theorem fw_sm_neg (n : Nat) (f : Nat → Int) : fw_sm n (fun i => - f i) = - fw_sm n f := by
  induction n with
  | zero => rfl
  | succ n ih => simp only [fw_sm, ih]; omega
theorem fw_sm_mul (n : Nat) (c : Int) (f : Nat → Int) : fw_sm n (fun i => c * f i) = c * fw_sm n f := by
  induction n with
  | zero => simp only [fw_sm, Int.mul_zero]
  | succ n ih => simp only [fw_sm, ih, Int.mul_add]
theorem fw_sm_le {n : Nat} {f g : Nat → Int} (h : ∀ i, i < n → f i ≤ g i) : fw_sm n f ≤ fw_sm n g := by
  induction n with
  | zero => exact Int.le_refl _
  | succ n ih =>
    show fw_sm n f + f n ≤ fw_sm n g + g n
    have := ih (fun i hi => h i (Nat.lt_succ_of_lt hi))
    have := h n (Nat.lt_succ_self n)
    omega
theorem fw_sm_zero (n : Nat) : fw_sm n (fun _ => 0) = 0 := by
  induction n with
  | zero => rfl
  | succ n ih => simp only [fw_sm, ih]; rfl
theorem fw_sm_z {n : Nat} {f : Nat → Int} (h : ∀ i, i < n → f i = 0) : fw_sm n f = 0 := by
  rw [fw_sm_congr (g := fun _ => 0) h, fw_sm_zero]
theorem fw_sm_nonneg {n : Nat} {f : Nat → Int} (h : ∀ i, i < n → 0 ≤ f i) : 0 ≤ fw_sm n f := by
  have := fw_sm_le (f := fun _ => 0) h
  rwa [fw_sm_zero] at this
theorem fw_sm_swap (n m : Nat) (f : Nat → Nat → Int) : fw_sm n (fun i => fw_sm m (fun j => f i j)) = fw_sm m (fun j => fw_sm n (fun i => f i j)) := by
  induction n with
  | zero => simp only [fw_sm, fw_sm_zero]
  | succ n ih => simp only [fw_sm, ih, fw_sm_add]
theorem fw_sm_one {n k : Nat} (hk : k < n) (f : Nat → Int) : fw_sm n (fun i => if i = k then f i else 0) = f k := by
  induction n with
  | zero => omega
  | succ n ih =>
    simp only [fw_sm]
    by_cases h : k = n
    · subst h
      rw [fw_sm_z (fun i hi => if_neg (Nat.ne_of_lt hi)), if_pos rfl]; omega
    · rw [ih (by omega), if_neg (fun e => h e.symm)]; omega
theorem fw_sm_one' {n k : Nat} (hk : k < n) (f : Nat → Int) : fw_sm n (fun i => if k = i then f i else 0) = f k := by
  rw [← fw_sm_one hk f]; exact fw_sm_congr (fun i _ => by by_cases h : k = i <;> simp [h, eq_comm])
theorem fw_sm_none {n k : Nat} (hk : ¬ k < n) (f : Nat → Int) : fw_sm n (fun i => if i = k then f i else 0) = 0 :=
  fw_sm_z (fun i hi => if_neg (fun (e : i = k) => hk (e ▸ hi)))
theorem fw_sm_ge1 {n k : Nat} {f : Nat → Int} (h : ∀ i, i < n → 0 ≤ f i) (hk : k < n) : f k ≤ fw_sm n f := by
  rw [← fw_sm_one hk f]; exact fw_sm_le (fun i hi => by by_cases e : i = k <;> simp [e, h k hk, h i hi])
theorem fw_sm_eq {n : Nat} {f g : Nat → Int} (h : ∀ i, i < n → f i ≤ g i) (hs : fw_sm n g ≤ fw_sm n f) : ∀ i, i < n → f i = g i := by
  intro i hi
  have h1 := fw_sm_ge1 (f := fun i => g i - f i) (fun j hj => by have := h j hj; omega) hi
  rw [fw_sm_sub] at h1
  have := h i hi
  omega
theorem fw_sm_ex {n : Nat} {f : Nat → Int} (h : 0 < fw_sm n f) : ∃ i, i < n ∧ 0 < f i := by
  apply Classical.byContradiction
  intro hn
  have : fw_sm n f ≤ fw_sm n (fun _ => 0) := fw_sm_le (fun i hi => by
    apply Classical.byContradiction; intro h'; exact hn ⟨i, hi, by omega⟩)
  rw [fw_sm_zero] at this; omega
/-- one place of a function set anew -/
def fw_up (f : Nat → Int) (k : Nat) (v : Int) : Nat → Int := fun i => if i = k then v else f i
theorem fw_up_at (f : Nat → Int) (k : Nat) (v : Int) : fw_up f k v k = v := if_pos rfl
theorem fw_up_ne {f : Nat → Int} {k : Nat} {v : Int} {i : Nat} (h : i ≠ k) : fw_up f k v i = f i := if_neg h
theorem fw_sm_up {n k : Nat} (hk : k < n) (f : Nat → Int) (v : Int) : fw_sm n (fw_up f k v) = fw_sm n f + (v - f k) := by
  have : fw_sm n (fw_up f k v) = fw_sm n (fun i => f i + (if i = k then (v - f i) else 0)) := fw_sm_congr (fun i _ => by
    by_cases e : i = k
    · subst e; rw [fw_up_at, if_pos rfl]; omega
    · rw [fw_up_ne e, if_neg e]; omega)
  rw [this, fw_sm_add, fw_sm_one hk (fun i => v - f i)]
/-- a sum by an involution -/
theorem fw_sm_rev {m : Nat} {rev : Nat → Nat} (h : ∀ e, e < m → rev e < m ∧ rev (rev e) = e) (f : Nat → Int) : fw_sm m (fun e => f (rev e)) = fw_sm m f := by
  have h1 : fw_sm m (fun e => f (rev e)) = fw_sm m (fun e => fw_sm m (fun k => if k = rev e then f k else 0)) :=
    fw_sm_congr (fun e he => (fw_sm_one (h e he).1 f).symm)
  rw [h1, fw_sm_swap]
  refine fw_sm_congr (fun k hk => ?_)
  have h2 : fw_sm m (fun e => if k = rev e then f k else 0) = fw_sm m (fun e => if e = rev k then f k else 0) := fw_sm_congr (fun e he => by
    by_cases c : k = rev e
    · rw [if_pos c, if_pos (by rw [c, (h e he).2])]
    · rw [if_neg c, if_neg (fun d => c (by rw [d, (h k hk).2]))])
  rw [h2]
  exact fw_sm_one (h k hk).1 (fun _ => f k)
theorem fw_pigeon : ∀ (N : Nat) (l : List Nat), l.Nodup → (∀ x ∈ l, x < N) → l.length ≤ N := by
  intro N
  induction N with
  | zero =>
    intro l _ h
    cases l with
    | nil => exact Nat.le_refl _
    | cons a l => exact absurd (h a List.mem_cons_self) (Nat.not_lt_zero _)
  | succ N ih =>
    intro l hn h
    by_cases c : N ∈ l
    · have h1 := ih (l.erase N) (hn.erase N) (fun x hx => by
        have hx' := (hn.mem_erase_iff).mp hx
        have := h x hx'.2
        omega)
      rw [List.length_erase_of_mem c] at h1
      omega
    · have := ih l hn (fun x hx => by
        have h1 := h x hx
        have h2 : x ≠ N := fun e => c (e ▸ hx)
        omega)
      omega
