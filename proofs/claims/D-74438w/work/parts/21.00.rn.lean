set_option maxRecDepth 100000
/-! The reference's net: 16 ends (0 .. 7 send, 8 .. 15 get), an arc for each two of them -/
theorem fw_sm_grid (n m : Nat) (f : Nat → Int) : fw_sm (n * m) f = fw_sm n (fun i => fw_sm m (fun j => f (m * i + j))) := by
  induction n with
  | zero => rw [Nat.zero_mul]; rfl
  | succ n ih =>
    have h : ∀ k, fw_sm (n * m + k) f = fw_sm (n * m) f + fw_sm k (fun j => f (m * n + j)) := by
      intro k
      induction k with
      | zero => simp only [fw_sm, Nat.add_zero]; omega
      | succ k ih2 => rw [Nat.add_succ]; simp only [fw_sm]; rw [ih2, Nat.mul_comm n m]; omega
    rw [Nat.succ_mul, h m, ih]; rfl
def rn_src (e : Nat) : Nat := e / 16
def rn_dst (e : Nat) : Nat := e % 16
def rn_rev (e : Nat) : Nat := 16 * (e % 16) + e / 16
theorem rn_net : fw_Net 16 256 rn_src rn_dst rn_rev := by
  intro e he
  unfold rn_src rn_dst rn_rev
  refine ⟨?_, ?_, ?_, ?_, ?_, ?_⟩ <;> omega
def rn_c (e : Nat) : Int := if (e / 16 < 8) = (e % 16 < 8) then 0 else if e / 16 < 8 then (if e % 16 = e / 16 + 8 then 0 else 1) else (if e / 16 = e % 16 + 8 then 0 else -1)
theorem rn_c_rev (e : Nat) (he : e < 256) : rn_c (rn_rev e) = - rn_c e := by
  have h1 : rn_rev e / 16 = e % 16 := by unfold rn_rev; omega
  have h2 : rn_rev e % 16 = e / 16 := by unfold rn_rev; omega
  unfold rn_c
  rw [h1, h2]
  by_cases c1 : e / 16 < 8 <;> by_cases c2 : e % 16 < 8 <;> simp only [c1, c2, if_true, if_false] <;> (try rfl)
  · by_cases c3 : e % 16 = e / 16 + 8 <;> simp [c3]
  · by_cases c3 : e / 16 = e % 16 + 8 <;> simp [c3]
theorem rn_c_1 (e : Nat) : -1 ≤ rn_c e ∧ rn_c e ≤ 1 := by
  unfold rn_c
  split
  · omega
  · split <;> split <;> omega
/-- what may go yet along an arc -/
def rn_L (be may : Nat → Int) (fx : Nat → Bool) (x t : Nat → Int) (e : Nat) : Int :=
  if (e / 16 < 8) = (e % 16 < 8) then 0
  else if e / 16 < 8 then (if e / 16 = e % 16 - 8 then t (e / 16) else if fx (8 * (e / 16) + (e % 16 - 8)) then 0 else be (8 * (e / 16) + (e % 16 - 8)) - x (8 * (e / 16) + (e % 16 - 8)))
  else (if e % 16 = e / 16 - 8 then may (e % 16) - t (e % 16) else if fx (8 * (e % 16) + (e / 16 - 8)) then 0 else x (8 * (e % 16) + (e / 16 - 8)))
theorem rn_L_s (be may : Nat → Int) (fx : Nat → Bool) (x t : Nat → Int) {a b : Nat} (ha : a < 8) (hb : b < 8) : rn_L be may fx x t (16 * a + (8 + b)) = if a = b then t a else if fx (8 * a + b) then 0 else be (8 * a + b) - x (8 * a + b) := by
  have h1 : (16 * a + (8 + b)) / 16 = a := by omega
  have h2 : (16 * a + (8 + b)) % 16 = 8 + b := by omega
  have h3 : 8 + b - 8 = b := by omega
  unfold rn_L
  rw [h1, h2, h3, if_neg (by simp only [eq_iff_iff]; omega), if_pos ha]
theorem rn_L_g (be may : Nat → Int) (fx : Nat → Bool) (x t : Nat → Int) {a b : Nat} (ha : a < 8) (hb : b < 8) : rn_L be may fx x t (16 * (8 + b) + a) = if a = b then may a - t a else if fx (8 * a + b) then 0 else x (8 * a + b) := by
  have h1 : (16 * (8 + b) + a) / 16 = 8 + b := by omega
  have h2 : (16 * (8 + b) + a) % 16 = a := by omega
  have h3 : 8 + b - 8 = b := by omega
  unfold rn_L
  rw [h1, h2, h3, if_neg (by simp only [eq_iff_iff]; omega), if_neg (by omega)]
theorem rn_L_0 (be may : Nat → Int) (fx : Nat → Bool) (x t : Nat → Int) {p q : Nat} (hq : q < 16) (h : p < 8 ↔ q < 8) : rn_L be may fx x t (16 * p + q) = 0 := by
  have h1 : (16 * p + q) / 16 = p := by omega
  have h2 : (16 * p + q) % 16 = q := by omega
  unfold rn_L
  rw [h1, h2, if_pos (by simp only [eq_iff_iff]; exact h)]
/-- every arc is one of these -/
theorem rn_cases (e : Nat) (he : e < 256) : (∃ p q, p < 16 ∧ q < 16 ∧ (p < 8 ↔ q < 8) ∧ e = 16 * p + q) ∨ (∃ a b, a < 8 ∧ b < 8 ∧ e = 16 * a + (8 + b)) ∨ (∃ a b, a < 8 ∧ b < 8 ∧ e = 16 * (8 + b) + a) := by
  by_cases c1 : e / 16 < 8 <;> by_cases c2 : e % 16 < 8
  · exact Or.inl ⟨e / 16, e % 16, by omega, by omega, by omega, by omega⟩
  · exact Or.inr (Or.inl ⟨e / 16, e % 16 - 8, by omega, by omega, by omega⟩)
  · exact Or.inr (Or.inr ⟨e % 16, e / 16 - 8, by omega, by omega, by omega⟩)
  · exact Or.inl ⟨e / 16, e % 16, by omega, by omega, by omega, by omega⟩
theorem rn_c_s {a b : Nat} (ha : a < 8) (hb : b < 8) : rn_c (16 * a + (8 + b)) = if a = b then 0 else 1 := by
  have h1 : (16 * a + (8 + b)) / 16 = a := by omega
  have h2 : (16 * a + (8 + b)) % 16 = 8 + b := by omega
  unfold rn_c
  rw [h1, h2, if_neg (by simp only [eq_iff_iff]; omega), if_pos ha]
  by_cases c : a = b
  · rw [if_pos (by omega), if_pos c]
  · rw [if_neg (by omega), if_neg c]
theorem rn_c_g {a b : Nat} (ha : a < 8) (hb : b < 8) : rn_c (16 * (8 + b) + a) = if a = b then 0 else -1 := by
  have h1 : (16 * (8 + b) + a) / 16 = 8 + b := by omega
  have h2 : (16 * (8 + b) + a) % 16 = a := by omega
  unfold rn_c
  rw [h1, h2, if_neg (by simp only [eq_iff_iff]; omega), if_neg (by omega)]
  by_cases c : a = b
  · rw [if_pos (by omega), if_pos c]
  · rw [if_neg (by omega), if_neg c]
theorem rn_c_0 {p q : Nat} (hq : q < 16) (h : p < 8 ↔ q < 8) : rn_c (16 * p + q) = 0 := by
  have h1 : (16 * p + q) / 16 = p := by omega
  have h2 : (16 * p + q) % 16 = q := by omega
  unfold rn_c
  rw [h1, h2, if_pos (by simp only [eq_iff_iff]; exact h)]
theorem rn_rev_at {p q : Nat} (hp : p < 16) (hq : q < 16) : rn_rev (16 * p + q) = 16 * q + p := by unfold rn_rev; omega
theorem rn_src_at {p q : Nat} (hq : q < 16) : rn_src (16 * p + q) = p := by unfold rn_src; omega
theorem rn_dst_at {p q : Nat} (hq : q < 16) : rn_dst (16 * p + q) = q := by unfold rn_dst; omega
/-! sums over arcs by their two ends -/
theorem rn_sm2 (f : Nat → Int) : fw_sm 256 f = fw_sm 16 (fun p => fw_sm 16 (fun q => f (16 * p + q))) := fw_sm_grid 16 16 f
theorem fw_sm_16 (f : Nat → Int) : fw_sm 16 f = fw_sm 8 f + fw_sm 8 (fun b => f (8 + b)) := by
  simp only [fw_sm, Nat.reduceAdd]; omega
theorem rn_D (L : Nat → Int) {v : Nat} (hv : v < 16) : fw_D 256 rn_src L v = fw_sm 16 (fun q => L (16 * v + q)) := by
  unfold fw_D
  rw [rn_sm2]
  have : ∀ p, p < 16 → fw_sm 16 (fun q => if rn_src (16 * p + q) = v then L (16 * p + q) else 0) = if p = v then fw_sm 16 (fun q => L (16 * p + q)) else 0 := fun p _ => by
    by_cases c : p = v
    · rw [if_pos c]; exact fw_sm_congr (fun q hq => by rw [rn_src_at hq, if_pos c])
    · rw [if_neg c]; exact fw_sm_z (fun q hq => by rw [rn_src_at hq, if_neg c])
  rw [fw_sm_congr this, fw_sm_one hv]
/-- by a party that sends: what is left beside what goes -/
theorem rn_D_s (be may : Nat → Int) (fx : Nat → Bool) (x t : Nat → Int) {p : Nat} (hp : p < 8) (hx : x (8 * p + p) = 0) : fw_D 256 rn_src (rn_L be may fx x t) p = fw_sm 8 (fun b => if p = b ∨ fx (8 * p + b) then x (8 * p + b) else be (8 * p + b)) - (fs_out x p - t p) := by
  rw [rn_D _ (by omega), fw_sm_16, fw_sm_z (fun q hq => rn_L_0 be may fx x t (by omega) (by omega)), fw_sm_congr (fun b hb => rn_L_s be may fx x t hp hb)]
  unfold fs_out
  have h1 : fw_sm 8 (fun b => if p = b then t p else if fx (8 * p + b) then 0 else be (8 * p + b) - x (8 * p + b)) = fw_sm 8 (fun b => ((if p = b ∨ fx (8 * p + b) then x (8 * p + b) else be (8 * p + b)) - x (8 * p + b)) + (if p = b then t p else 0)) := fw_sm_congr (fun b _ => by
    by_cases c : p = b
    · subst c; simp [hx]
    · by_cases c2 : fx (8 * p + b) = true <;> simp [c, c2])
  rw [h1, fw_sm_add, fw_sm_sub, fw_sm_one' hp (fun _ => t p)]
  omega
theorem rn_D_g (be may : Nat → Int) (fx : Nat → Bool) (x t : Nat → Int) {p : Nat} (hp : p < 8) (hx : x (8 * p + p) = 0) : fw_D 256 rn_src (rn_L be may fx x t) (8 + p) = may p - fw_sm 8 (fun a => if a = p ∨ fx (8 * a + p) then x (8 * a + p) else 0) + (fs_in x p - t p) := by
  rw [rn_D _ (by omega), fw_sm_16, fw_sm_congr (fun a ha => rn_L_g be may fx x t ha hp), fw_sm_z (f := fun b => rn_L be may fx x t (16 * (8 + p) + (8 + b))) (fun q hq => rn_L_0 be may fx x t (by omega) (by omega))]
  unfold fs_in
  have h1 : fw_sm 8 (fun a => if a = p then may a - t a else if fx (8 * a + p) then 0 else x (8 * a + p)) = fw_sm 8 (fun a => (x (8 * a + p) - (if a = p ∨ fx (8 * a + p) then x (8 * a + p) else 0)) + (if a = p then may a - t a else 0)) := fw_sm_congr (fun b _ => by
    by_cases c : b = p
    · subst c; simp [hx]
    · by_cases c2 : fx (8 * b + p) = true <;> simp [c, c2])
  rw [h1, fw_sm_add, fw_sm_sub, fw_sm_one hp (fun a => may a - t a)]
  omega
