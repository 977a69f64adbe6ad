set_option maxRecDepth 100000
/-! The component's end -/
def cn_Z (nu be th x t sx tx : Nat → Int) (e : Nat) : Int :=
  if e / 18 < 8 then (if e % 18 < 8 then 0 else if e % 18 < 16 then (if e % 18 - 8 = e / 18 then th (e / 18) - t (e / 18) else x (8 * (e % 18 - 8) + e / 18)) else if e % 18 = 16 then 0 else max (- nu (e / 18)) 0 - tx (e / 18))
  else if e / 18 < 16 then (if e % 18 < 8 then (if e % 18 = e / 18 - 8 then t (e / 18 - 8) else be (8 * (e / 18 - 8) + e % 18) - x (8 * (e / 18 - 8) + e % 18)) else if e % 18 < 16 then 0 else if e % 18 = 16 then sx (e / 18 - 8) else 0)
  else if e / 18 = 16 then (if e % 18 < 8 then 0 else if e % 18 < 16 then max (nu (e % 18 - 8)) 0 - sx (e % 18 - 8) else 0)
  else (if e % 18 < 8 then tx (e % 18) else 0)
section
variable (nu be th x t sx tx : Nat → Int)
theorem cn_Z_g {a q : Nat} (ha : a < 8) (hq : q < 18) : cn_Z nu be th x t sx tx (18 * a + q) = if q < 8 then 0 else if q < 16 then (if q - 8 = a then th a - t a else x (8 * (q - 8) + a)) else if q = 16 then 0 else max (- nu a) 0 - tx a := by
  have h1 : (18 * a + q) / 18 = a := by omega
  have h2 : (18 * a + q) % 18 = q := by omega
  unfold cn_Z; rw [h1, h2, if_pos ha]
theorem cn_Z_s {a q : Nat} (ha : a < 8) (hq : q < 18) : cn_Z nu be th x t sx tx (18 * (8 + a) + q) = if q < 8 then (if q = a then t a else be (8 * a + q) - x (8 * a + q)) else if q < 16 then 0 else if q = 16 then sx a else 0 := by
  have h1 : (18 * (8 + a) + q) / 18 = 8 + a := by omega
  have h2 : (18 * (8 + a) + q) % 18 = q := by omega
  have h3 : 8 + a - 8 = a := by omega
  unfold cn_Z; rw [h1, h2, h3, if_neg (by omega), if_pos (by omega)]
theorem cn_Z_b {q : Nat} (hq : q < 18) : cn_Z nu be th x t sx tx (18 * 16 + q) = if q < 8 then 0 else if q < 16 then max (nu (q - 8)) 0 - sx (q - 8) else 0 := by
  have h1 : (18 * 16 + q) / 18 = 16 := by omega
  have h2 : (18 * 16 + q) % 18 = q := by omega
  unfold cn_Z; rw [h1, h2, if_neg (by omega), if_neg (by omega), if_pos rfl]
theorem cn_Z_e {q : Nat} (hq : q < 18) : cn_Z nu be th x t sx tx (18 * 17 + q) = if q < 8 then tx q else 0 := by
  have h1 : (18 * 17 + q) / 18 = 17 := by omega
  have h2 : (18 * 17 + q) % 18 = q := by omega
  unfold cn_Z; rw [h1, h2, if_neg (by omega), if_neg (by omega), if_neg (by omega)]
theorem cn_cases (e : Nat) (he : e < 324) : (∃ a q, a < 8 ∧ q < 18 ∧ e = 18 * a + q) ∨ (∃ a q, a < 8 ∧ q < 18 ∧ e = 18 * (8 + a) + q) ∨ (∃ q, q < 18 ∧ e = 18 * 16 + q) ∨ (∃ q, q < 18 ∧ e = 18 * 17 + q) := by
  by_cases c1 : e / 18 < 8
  · exact Or.inl ⟨e / 18, e % 18, by omega, by omega, by omega⟩
  · by_cases c2 : e / 18 < 16
    · exact Or.inr (Or.inl ⟨e / 18 - 8, e % 18, by omega, by omega, by omega⟩)
    · by_cases c3 : e / 18 = 16
      · exact Or.inr (Or.inr (Or.inl ⟨e % 18, by omega, by omega⟩))
      · exact Or.inr (Or.inr (Or.inr ⟨e % 18, by omega, by omega⟩))
theorem fw_sm_18 (f : Nat → Int) : fw_sm 18 f = fw_sm 8 f + fw_sm 8 (fun b => f (8 + b)) + f 16 + f 17 := by
  show fw_sm 16 f + f 16 + f 17 = _
  rw [fw_sm_16]
theorem cn_D (L : Nat → Int) {v : Nat} (hv : v < 18) : fw_D 324 cn_src L v = fw_sm 18 (fun q => L (18 * v + q)) := by
  unfold fw_D
  rw [show (324 : Nat) = 18 * 18 from rfl, fw_sm_grid]
  have : ∀ p, p < 18 → fw_sm 18 (fun q => if cn_src (18 * p + q) = v then L (18 * p + q) else 0) = if p = v then fw_sm 18 (fun q => L (18 * p + q)) else 0 := fun p _ => by
    by_cases c : p = v
    · rw [if_pos c]; exact fw_sm_congr (fun q hq => by rw [cn_src_at hq, if_pos c])
    · rw [if_neg c]; exact fw_sm_z (fun q hq => by rw [cn_src_at hq, if_neg c])
  rw [fw_sm_congr this, fw_sm_one hv]
theorem cn_D_g (hx : ∀ p, p < 8 → x (8 * p + p) = 0) {a : Nat} (ha : a < 8) : fw_D 324 cn_src (cn_Z nu be th x t sx tx) a = th a + max (- nu a) 0 + (fs_in x a - t a - tx a) := by
  rw [cn_D _ (by omega), fw_sm_18, fw_sm_z (fun q hq => by rw [cn_Z_g _ _ _ _ _ _ _ ha (by omega), if_pos hq]), cn_Z_g _ _ _ _ _ _ _ ha (by omega), cn_Z_g _ _ _ _ _ _ _ ha (by omega)]
  have : fw_sm 8 (fun b => cn_Z nu be th x t sx tx (18 * a + (8 + b))) = fw_sm 8 (fun b => x (8 * b + a) + (if b = a then th a - t a else 0)) := fw_sm_congr (fun b hb => by
    rw [cn_Z_g _ _ _ _ _ _ _ ha (by omega), if_neg (by omega), if_pos (by omega), show 8 + b - 8 = b by omega]
    by_cases c : b = a
    · subst c; rw [if_pos rfl, if_pos rfl, hx b hb]; omega
    · rw [if_neg c, if_neg c]; omega)
  rw [this, fw_sm_add, fw_sm_one ha (fun _ => th a - t a)]
  simp
  unfold fs_in
  omega
theorem cn_D_s (hx : ∀ p, p < 8 → x (8 * p + p) = 0) {a : Nat} (ha : a < 8) : fw_D 324 cn_src (cn_Z nu be th x t sx tx) (8 + a) = fw_sm 8 (fun b => if b = a then 0 else be (8 * a + b)) + (t a + sx a - fs_out x a) := by
  rw [cn_D _ (by omega), fw_sm_18, fw_sm_z (f := fun b => cn_Z nu be th x t sx tx (18 * (8 + a) + (8 + b))) (fun q hq => by rw [cn_Z_s _ _ _ _ _ _ _ ha (by omega), if_neg (by omega), if_pos (by omega)]), cn_Z_s _ _ _ _ _ _ _ ha (by omega), cn_Z_s _ _ _ _ _ _ _ ha (by omega)]
  have : fw_sm 8 (fun b => cn_Z nu be th x t sx tx (18 * (8 + a) + b)) = fw_sm 8 (fun b => ((if b = a then 0 else be (8 * a + b)) - x (8 * a + b)) + (if b = a then t a else 0)) := fw_sm_congr (fun b hb => by
    rw [cn_Z_s _ _ _ _ _ _ _ ha (by omega), if_pos hb]
    by_cases c : b = a
    · subst c; rw [if_pos rfl, if_pos rfl, if_pos rfl, hx b hb]; omega
    · rw [if_neg c, if_neg c, if_neg c]; omega)
  rw [this, fw_sm_add, fw_sm_sub, fw_sm_one ha (fun _ => t a)]
  simp
  unfold fs_out
  omega
theorem cn_D_b : fw_D 324 cn_src (cn_Z nu be th x t sx tx) 16 = fw_sm 8 (fun a => max (nu a) 0) - fw_sm 8 sx := by
  rw [cn_D _ (by omega), fw_sm_18, fw_sm_z (fun q hq => by rw [cn_Z_b _ _ _ _ _ _ _ (by omega), if_pos hq]), cn_Z_b _ _ _ _ _ _ _ (by omega), cn_Z_b _ _ _ _ _ _ _ (by omega), ← fw_sm_sub]
  rw [fw_sm_congr (g := fun a => max (nu a) 0 - sx a) (fun b hb => by rw [cn_Z_b _ _ _ _ _ _ _ (by omega), if_neg (by omega), if_pos (by omega), show 8 + b - 8 = b by omega])]
  simp
theorem cn_D_e : fw_D 324 cn_src (cn_Z nu be th x t sx tx) 17 = fw_sm 8 tx := by
  rw [cn_D _ (by omega), fw_sm_18, fw_sm_z (f := fun b => cn_Z nu be th x t sx tx (18 * 17 + (8 + b))) (fun q hq => by rw [cn_Z_e _ _ _ _ _ _ _ (by omega), if_neg (by omega)]), cn_Z_e _ _ _ _ _ _ _ (by omega), cn_Z_e _ _ _ _ _ _ _ (by omega)]
  rw [fw_sm_congr (g := tx) (fun b hb => by rw [cn_Z_e _ _ _ _ _ _ _ (by omega), if_pos hb])]
  simp
theorem cn_Z_0 (e : Nat) (he : e < 324) : cn_L0 nu be th e = cn_Z nu be th (fun _ => 0) (fun _ => 0) (fun _ => 0) (fun _ => 0) e := by
  rcases cn_cases e he with ⟨a, q, ha, hq, rfl⟩ | ⟨a, q, ha, hq, rfl⟩ | ⟨q, hq, rfl⟩ | ⟨q, hq, rfl⟩
  · rw [cn_Z_g _ _ _ _ _ _ _ ha hq]
    have h1 : (18 * a + q) / 18 = a := by omega
    have h2 : (18 * a + q) % 18 = q := by omega
    unfold cn_L0
    rw [h1, h2]
    by_cases c1 : q < 8
    · rw [if_pos c1, if_neg (by omega), if_neg (by omega), if_neg (by omega), if_neg (by omega)]
    · rw [if_neg c1]
      by_cases c2 : q < 16
      · rw [if_pos c2]
        by_cases c3 : q - 8 = a
        · rw [if_pos c3, if_pos (by omega)]; (try dsimp only); omega
        · rw [if_neg c3, if_neg (by omega), if_neg (by omega), if_neg (by omega), if_neg (by omega)]
      · rw [if_neg c2]
        by_cases c3 : q = 16
        · rw [if_pos c3, if_neg (by omega), if_neg (by omega), if_neg (by omega), if_neg (by omega)]
        · rw [if_neg c3, if_neg (by omega), if_neg (by omega), if_neg (by omega), if_pos (by omega)]; (try dsimp only); omega
  · rw [cn_Z_s _ _ _ _ _ _ _ ha hq]
    have h1 : (18 * (8 + a) + q) / 18 = 8 + a := by omega
    have h2 : (18 * (8 + a) + q) % 18 = q := by omega
    have h3 : 8 + a - 8 = a := by omega
    unfold cn_L0
    rw [h1, h2, h3, if_neg (by omega)]
    by_cases c1 : q < 8
    · rw [if_pos c1]
      by_cases c3 : q = a
      · rw [if_pos c3, if_neg (by omega), if_neg (by omega), if_neg (by omega)]
      · rw [if_neg c3, if_pos (by omega)]; (try dsimp only); omega
    · rw [if_neg c1, if_neg (by omega), if_neg (by omega), if_neg (by omega)]
      split
      · rfl
      · split <;> rfl
  · rw [cn_Z_b _ _ _ _ _ _ _ hq]
    have h1 : (18 * 16 + q) / 18 = 16 := by omega
    have h2 : (18 * 16 + q) % 18 = q := by omega
    unfold cn_L0
    rw [h1, h2, if_neg (by omega), if_neg (by omega)]
    by_cases c1 : q < 8
    · rw [if_pos c1, if_neg (by omega), if_neg (by omega)]
    · rw [if_neg c1]
      by_cases c2 : q < 16
      · rw [if_pos c2, if_pos (by omega)]; (try dsimp only); omega
      · rw [if_neg c2, if_neg (by omega), if_neg (by omega)]
  · rw [cn_Z_e _ _ _ _ _ _ _ hq]
    have h1 : (18 * 17 + q) / 18 = 17 := by omega
    have h2 : (18 * 17 + q) % 18 = q := by omega
    unfold cn_L0
    rw [h1, h2, if_neg (by omega), if_neg (by omega), if_neg (by omega), if_neg (by omega)]
    split <;> rfl
end
/-- what is left, read as what goes -/
def cn_x (L : Nat → Int) (k : Nat) : Int := if k / 8 = k % 8 then 0 else L (cn_kr k)
theorem cn_read {nu be th L : Nat → Int} (h1 : ∀ e, e < 324 → 0 ≤ L e) (h2 : ∀ e, e < 324 → L e + L (cn_rev e) = cn_L0 nu be th e + cn_L0 nu be th (cn_rev e)) : ∀ e, e < 324 → L e = cn_Z nu be th (cn_x L) (fun a => L (18 * (8 + a) + a)) (fun a => L (18 * (8 + a) + 16)) (fun a => L (18 * 17 + a)) e := by
  intro e he
  have key : ∀ p q, p < 18 → q < 18 → L (18 * p + q) + L (18 * q + p) = cn_Z nu be th (fun _ => 0) (fun _ => 0) (fun _ => 0) (fun _ => 0) (18 * p + q) + cn_Z nu be th (fun _ => 0) (fun _ => 0) (fun _ => 0) (fun _ => 0) (18 * q + p) := fun p q hp hq => by
    have := h2 (18 * p + q) (by omega)
    rw [cn_rev_at hp hq, cn_Z_0 _ _ _ _ (by omega), cn_Z_0 _ _ _ _ (by omega)] at this
    exact this
  have nn : ∀ p q, p < 18 → q < 18 → 0 ≤ L (18 * p + q) := fun p q hp hq => h1 _ (by omega)
  rcases cn_cases e he with ⟨a, q, ha, hq, rfl⟩ | ⟨a, q, ha, hq, rfl⟩ | ⟨q, hq, rfl⟩ | ⟨q, hq, rfl⟩
  · rw [cn_Z_g _ _ _ _ _ _ _ ha hq]
    have k1 := key a q (by omega) hq
    have n1 := nn a q (by omega) hq
    have n2 := nn q a hq (by omega)
    rw [cn_Z_g _ _ _ _ _ _ _ ha hq] at k1
    by_cases c1 : q < 8
    · rw [if_pos c1] at k1 ⊢
      rw [cn_Z_g _ _ _ _ _ _ _ c1 (by omega), if_pos ha] at k1
      omega
    · rw [if_neg c1] at k1 ⊢
      by_cases c2 : q < 16
      · rw [if_pos c2] at k1 ⊢
        by_cases c3 : q - 8 = a
        · rw [if_pos c3] at k1 ⊢
          have e1 : q = 8 + a := by omega
          subst e1
          rw [cn_Z_s _ _ _ _ _ _ _ ha (by omega), if_pos ha, if_pos rfl] at k1
          try dsimp only at k1 ⊢
          omega
        · rw [if_neg c3]
          have e1 : (8 * (q - 8) + a) / 8 = q - 8 := by omega
          have e2 : (8 * (q - 8) + a) % 8 = a := by omega
          unfold cn_x cn_kr
          rw [e1, e2, if_neg c3, show 8 + (q - 8) = q by omega]
      · rw [if_neg c2] at k1 ⊢
        by_cases c3 : q = 16
        · rw [if_pos c3] at k1 ⊢
          subst c3
          rw [cn_Z_b _ _ _ _ _ _ _ (by omega), if_pos ha] at k1
          omega
        · rw [if_neg c3] at k1 ⊢
          have e1 : q = 17 := by omega
          subst e1
          rw [cn_Z_e _ _ _ _ _ _ _ (by omega), if_pos ha] at k1
          try dsimp only at k1 ⊢
          omega
  · rw [cn_Z_s _ _ _ _ _ _ _ ha hq]
    have k1 := key (8 + a) q (by omega) hq
    have n1 := nn (8 + a) q (by omega) hq
    have n2 := nn q (8 + a) hq (by omega)
    rw [cn_Z_s _ _ _ _ _ _ _ ha hq] at k1
    by_cases c1 : q < 8
    · rw [if_pos c1] at k1 ⊢
      by_cases c3 : q = a
      · rw [if_pos c3]; subst c3; rfl
      · rw [if_neg c3] at k1 ⊢
        rw [cn_Z_g _ _ _ _ _ _ _ c1 (by omega), if_neg (by omega), if_pos (by omega), if_neg (by omega)] at k1
        have e1 : (8 * a + q) / 8 = a := by omega
        have e2 : (8 * a + q) % 8 = q := by omega
        unfold cn_x cn_kr
        rw [e1, e2, if_neg (fun z => c3 z.symm)]
        try dsimp only at k1
        omega
    · rw [if_neg c1] at k1 ⊢
      by_cases c2 : q < 16
      · rw [if_pos c2] at k1 ⊢
        have e1 : q = 8 + (q - 8) := by omega
        rw [e1, cn_Z_s _ _ _ _ _ _ _ (show q - 8 < 8 by omega) (by omega), if_neg (by omega), if_pos (by omega), ← e1] at k1
        omega
      · rw [if_neg c2] at k1 ⊢
        by_cases c3 : q = 16
        · rw [if_pos c3]; subst c3; rfl
        · rw [if_neg c3] at k1 ⊢
          have e1 : q = 17 := by omega
          subst e1
          rw [cn_Z_e _ _ _ _ _ _ _ (by omega), if_neg (by omega)] at k1
          omega
  · rw [cn_Z_b _ _ _ _ _ _ _ hq]
    have k1 := key 16 q (by omega) hq
    have n1 := nn 16 q (by omega) hq
    have n2 := nn q 16 hq (by omega)
    rw [cn_Z_b _ _ _ _ _ _ _ hq] at k1
    by_cases c1 : q < 8
    · rw [if_pos c1] at k1 ⊢
      rw [cn_Z_g _ _ _ _ _ _ _ c1 (by omega), if_neg (by omega), if_neg (by omega), if_pos rfl] at k1
      omega
    · rw [if_neg c1] at k1 ⊢
      by_cases c2 : q < 16
      · rw [if_pos c2] at k1 ⊢
        have e1 : q = 8 + (q - 8) := by omega
        have k2 : cn_Z nu be th (fun _ => 0) (fun _ => 0) (fun _ => 0) (fun _ => 0) (18 * q + 16) = 0 := by
          rw [e1, cn_Z_s _ _ _ _ _ _ _ (show q - 8 < 8 by omega) (by omega), if_neg (by omega), if_neg (by omega), if_pos rfl]
        rw [k2] at k1
        try dsimp only at k1 ⊢
        rw [show 8 + (q - 8) = q by omega]
        omega
      · rw [if_neg c2] at k1 ⊢
        have : cn_Z nu be th (fun _ => 0) (fun _ => 0) (fun _ => 0) (fun _ => 0) (18 * q + 16) = 0 := by
          by_cases c3 : q = 16
          · subst c3; rw [cn_Z_b _ _ _ _ _ _ _ (by omega), if_neg (by omega), if_neg (by omega)]
          · have e1 : q = 17 := by omega
            subst e1; rw [cn_Z_e _ _ _ _ _ _ _ (by omega), if_neg (by omega)]
        rw [this] at k1
        omega
  · rw [cn_Z_e _ _ _ _ _ _ _ hq]
    by_cases c1 : q < 8
    · rw [if_pos c1]
    · have k1 := key 17 q (by omega) hq
      have n1 := nn 17 q (by omega) hq
      have n2 := nn q 17 hq (by omega)
      rw [cn_Z_e _ _ _ _ _ _ _ hq, if_neg c1] at k1
      rw [if_neg c1]
      have : cn_Z nu be th (fun _ => 0) (fun _ => 0) (fun _ => 0) (fun _ => 0) (18 * q + 17) = 0 := by
        by_cases c2 : q < 16
        · have e1 : q = 8 + (q - 8) := by omega
          rw [e1, cn_Z_s _ _ _ _ _ _ _ (show q - 8 < 8 by omega) (by omega), if_neg (by omega), if_neg (by omega), if_neg (by omega)]
        · by_cases c3 : q = 16
          · subst c3; rw [cn_Z_b _ _ _ _ _ _ _ (by omega), if_neg (by omega), if_neg (by omega)]
          · have e1 : q = 17 := by omega
            subst e1; rw [cn_Z_e _ _ _ _ _ _ _ (by omega), if_neg (by omega)]
      rw [this] at k1
      omega
