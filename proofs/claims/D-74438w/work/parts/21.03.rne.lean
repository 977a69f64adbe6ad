set_option maxRecDepth 100000
/-! The reference's end: least totals; none -/
theorem fw_sm_64 (f : Nat → Int) : fw_sm 64 f = fw_sm 8 (fun a => fw_sm 8 (fun b => f (8 * a + b))) := fw_sm_grid 8 8 f
theorem rn_cost (be may : Nat → Int) (fx : Nat → Bool) (x t : Nat → Int) : fw_sm 256 (fun e => rn_c e * rn_L be may fx x t e) = fw_sm 64 (fun k => if k / 8 = k % 8 ∨ fx k = true then 0 else be k - 2 * x k) := by
  rw [rn_sm2, fw_sm_16, fw_sm_64]
  have h1 : ∀ a, a < 8 → fw_sm 16 (fun q => rn_c (16 * a + q) * rn_L be may fx x t (16 * a + q)) = fw_sm 8 (fun b => if a = b ∨ fx (8 * a + b) = true then 0 else be (8 * a + b) - x (8 * a + b)) := fun a ha => by
    rw [fw_sm_16, fw_sm_z (fun q hq => by rw [rn_L_0 _ _ _ _ _ (show q < 16 by omega) (by omega)]; exact Int.mul_zero _)]
    rw [fw_sm_congr (g := fun b => if a = b ∨ fx (8 * a + b) = true then 0 else be (8 * a + b) - x (8 * a + b)) (fun b hb => by
      rw [rn_c_s ha hb, rn_L_s _ _ _ _ _ ha hb]
      by_cases c : a = b
      · simp [c]
      · by_cases c2 : fx (8 * a + b) = true <;> simp [c, c2])]
    omega
  have h2 : ∀ b, b < 8 → fw_sm 16 (fun q => rn_c (16 * (8 + b) + q) * rn_L be may fx x t (16 * (8 + b) + q)) = fw_sm 8 (fun a => if a = b ∨ fx (8 * a + b) = true then 0 else - x (8 * a + b)) := fun b hb => by
    rw [fw_sm_16, fw_sm_z (f := fun q => rn_c (16 * (8 + b) + (8 + q)) * rn_L be may fx x t (16 * (8 + b) + (8 + q))) (fun q hq => by rw [rn_L_0 _ _ _ _ _ (show 8 + q < 16 by omega) (by omega)]; exact Int.mul_zero _)]
    rw [fw_sm_congr (g := fun a => if a = b ∨ fx (8 * a + b) = true then 0 else - x (8 * a + b)) (fun a ha => by
      rw [rn_c_g ha hb, rn_L_g _ _ _ _ _ ha hb]
      by_cases c : a = b
      · simp [c]
      · by_cases c2 : fx (8 * a + b) = true <;> simp [c, c2])]
    omega
  rw [fw_sm_congr h1, fw_sm_congr h2, fw_sm_swap 8 8 (fun b a => if a = b ∨ fx (8 * a + b) = true then 0 else - x (8 * a + b)), ← fw_sm_add]
  refine fw_sm_congr (fun a ha => ?_)
  rw [← fw_sm_add]
  refine fw_sm_congr (fun b hb => ?_)
  have e1 : (8 * a + b) / 8 = a := by omega
  have e2 : (8 * a + b) % 8 = b := by omega
  rw [e1, e2]
  by_cases c : a = b ∨ fx (8 * a + b) = true
  · rw [if_pos c, if_pos c, if_pos c]; rfl
  · rw [if_neg c, if_neg c, if_neg c]; omega
/-- what the asked and the reference's own words have in common -/
def rn_A (n : Nat) (nu be : Nat → Int) (th : Option (Nat → Int)) (may : Nat → Int) : Prop := n ≤ 8 ∧ (∀ k, k < 64 → 0 ≤ be k) ∧ (∀ k, k < 64 → ¬ fs_cp n k → be k = 0) ∧ (∀ p, p < 8 → 0 ≤ may p) ∧ (∀ p, n ≤ p → p < 8 → nu p = 0) ∧ fw_sm 8 nu = 0 ∧
  (∀ y, fs_F n nu be th y → ∀ p, p < 8 → min (fs_out y p) (fs_in y p) ≤ may p) ∧ (∀ y, ∀ p, p < n → min (fs_out y p) (fs_in y p) ≤ may p → fs_thr th y p)
theorem fs_cp_at {n a b : Nat} (hb : b < 8) : fs_cp n (8 * a + b) ↔ (a < n ∧ b < n ∧ a ≠ b) := by
  have e1 : (8 * a + b) / 8 = a := by omega
  have e2 : (8 * a + b) % 8 = b := by omega
  unfold fs_cp; rw [e1, e2]
theorem fs_F_0 {n : Nat} (hn : n ≤ 8) {nu be : Nat → Int} {th : Option (Nat → Int)} {y : Nat → Int} (h : fs_F n nu be th y) {p : Nat} (h1 : n ≤ p) (h2 : p < 8) : fs_out y p = 0 ∧ fs_in y p = 0 := by
  constructor
  · exact fw_sm_z (fun b hb => h.2.1 _ (by omega) (by rw [fs_cp_at hb]; omega))
  · exact fw_sm_z (fun b hb => h.2.1 _ (by omega) (by rw [fs_cp_at h2]; omega))
theorem fs_F_nn {n : Nat} {nu be : Nat → Int} {th : Option (Nat → Int)} {y : Nat → Int} (h : fs_F n nu be th y) {k : Nat} (hk : k < 64) : 0 ≤ y k := by
  by_cases c : fs_cp n k
  · exact (h.1 k hk c).1
  · rw [h.2.1 k hk c]; exact Int.le_refl _
theorem fs_F_le {n : Nat} {nu be : Nat → Int} {th : Option (Nat → Int)} {y : Nat → Int} (h : fs_F n nu be th y) (hb : ∀ k, k < 64 → 0 ≤ be k) {k : Nat} (hk : k < 64) : y k ≤ be k := by
  by_cases c : fs_cp n k
  · exact (h.1 k hk c).2
  · rw [h.2.1 k hk c]; exact hb k hk
/-- one that is asked, in the net: what goes through its parties -/
def rn_t (nu y : Nat → Int) (p : Nat) : Int := fs_out y p - max (nu p) 0
theorem rn_y {n : Nat} {nu be : Nat → Int} {th : Option (Nat → Int)} {may : Nat → Int} (A : rn_A n nu be th may) {y : Nat → Int} (h : fs_F n nu be th y) : (∀ e, e < 256 → 0 ≤ rn_L be may rn_no y (rn_t nu y) e) ∧ (∀ p, p < 8 → fs_out y p - rn_t nu y p = max (nu p) 0 ∧ fs_in y p - rn_t nu y p = max (- nu p) 0) ∧ (∀ p, p < 8 → y (8 * p + p) = 0) ∧ (∀ p, p < 8 → 0 ≤ rn_t nu y p ∧ rn_t nu y p ≤ may p) := by
  obtain ⟨a1, a2, a3, a4, a5, a6, a7, a8⟩ := A
  have hnet : ∀ p, p < 8 → fs_out y p - fs_in y p = nu p := fun p hp => by
    by_cases c : p < n
    · exact h.2.2.1 p c
    · obtain ⟨z1, z2⟩ := fs_F_0 a1 h (by omega) hp
      rw [z1, z2, a5 p (by omega) hp]; rfl
  have hon : ∀ p, p < 8 → 0 ≤ fs_out y p ∧ 0 ≤ fs_in y p := fun p hp => ⟨fw_sm_nonneg (fun b hb => fs_F_nn h (by omega)), fw_sm_nonneg (fun b hb => fs_F_nn h (by omega))⟩
  have ht : ∀ p, p < 8 → 0 ≤ rn_t nu y p ∧ rn_t nu y p ≤ may p := fun p hp => by
    have h1 := hnet p hp
    have h2 := hon p hp
    have h3 := a7 y h p hp
    unfold rn_t
    omega
  refine ⟨fun e he => rn_L_nn (fun a b ha hb _ _ => ⟨fs_F_nn h (by omega), fs_F_le h a2 (by omega)⟩) ht e he, fun p hp => ?_, fun p hp => h.2.1 _ (by omega) (by rw [fs_cp_at hp]; omega), ht⟩
  have h1 := hnet p hp
  unfold rn_t
  omega
theorem fs_tot_diag {be x : Nat → Int} (hx : ∀ p, p < 8 → x (8 * p + p) = 0) : fw_sm 64 (fun k => if k / 8 = k % 8 ∨ rn_no k = true then 0 else be k - 2 * x k) = fw_sm 64 (fun k => if k / 8 = k % 8 then 0 else be k) - 2 * fs_tot x := by
  unfold fs_tot
  rw [← fw_sm_mul, ← fw_sm_sub]
  refine fw_sm_congr (fun k hk => ?_)
  by_cases c : k / 8 = k % 8
  · have := hx (k / 8) (by omega)
    rw [show 8 * (k / 8) + k / 8 = k by omega] at this
    simp [c, this]
  · simp [c, rn_no]
/-- all that was to be sent is sent: what goes is of the least total -/
theorem rn_end {n : Nat} {nu be : Nat → Int} {th : Option (Nat → Int)} {may : Nat → Int} (A : rn_A n nu be th may) {x t nd : Nat → Int} (I : rn_I nu be may x t nd) (h0 : ∀ p, p < 8 → nd p ≤ 0) (hx : ∀ k, k < 64 → ¬ fs_cp n k → x k = 0) : fs_O n nu be th x ∧ (∀ p, p < 8 → t p = rn_t nu x p) ∧ ∀ p, p < 8 → nd p = 0 := by
  obtain ⟨i1, i2, i3, i4, i5, pi, i6⟩ := I
  have hz : ∀ p, p < 8 → nd p = 0 := fw_sm_eq (g := fun _ => 0) h0 (by rw [fw_sm_zero, i5]; exact Int.le_refl _)
  obtain ⟨j1, j2⟩ := rn_L_nn' i1
  have ht : ∀ p, p < 8 → t p = rn_t nu x p := fun p hp => by
    have := i3 p hp
    have := hz p hp
    unfold rn_t
    omega
  have hF : fs_F n nu be th x := by
    refine ⟨fun k hk hc => ?_, hx, fun a ha => ?_, fun a ha => ?_⟩
    · have := j1 (k / 8) (k % 8) (by omega) (by omega) hc.2.2 rfl
      rwa [show 8 * (k / 8) + k % 8 = k by omega] at this
    · have := i3 a (by have := A.1; omega)
      have := hz a (by have := A.1; omega)
      omega
    · have ha8 : a < 8 := by have := A.1; omega
      refine A.2.2.2.2.2.2.2 x a ha ?_
      have := i3 a ha8
      have := hz a ha8
      have := j2 a ha8
      omega
  refine ⟨⟨hF, fun y hy => ?_⟩, ht, hz⟩
  obtain ⟨y1, y2, y3, y4⟩ := rn_y A hy
  have := fw_opt rn_net (c := rn_c) rn_c_rev (L := rn_L be may rn_no x t) (L' := rn_L be may rn_no y (rn_t nu y)) i1 y1 (fun e he => rn_L_cap be may rn_no x t y (rn_t nu y) e he) (fun v hv => by
    by_cases c : v < 8
    · have h1 := (rn_D_eq (be := be) (may := may) (fx := rn_no) (x := x) (t := t) (x' := y) (t' := rn_t nu y) (fun a b ha hb c => by
        rcases c with c | c
        · subst c; rw [i2 a ha, y3 a ha]
        · cases c) i2 c).1
      have := i3 v c
      have := hz v c
      have := y2 v c
      omega
    · have hv8 : v - 8 < 8 := by omega
      have h1 := (rn_D_eq (be := be) (may := may) (fx := rn_no) (x := x) (t := t) (x' := y) (t' := rn_t nu y) (fun a b ha hb c => by
        rcases c with c | c
        · subst c; rw [i2 a ha, y3 a ha]
        · cases c) i2 hv8).2
      rw [show 8 + (v - 8) = v by omega] at h1
      have := i3 _ hv8
      have := hz _ hv8
      have := y2 _ hv8
      omega) pi i6
  rw [rn_cost, rn_cost, fs_tot_diag i2, fs_tot_diag y3] at this
  omega
/-- something is to be sent and none can get it: nothing can be -/
theorem rn_none {n : Nat} {nu be : Nat → Int} {th : Option (Nat → Int)} {may : Nat → Int} (A : rn_A n nu be th may) {x t nd : Nat → Int} (I : rn_I nu be may x t nd) {pi : Nat → Int} {lb : Int} {root : Nat → Prop} {dist : Nat → Int} {pe : Nat → Nat} (B : rn_B (rn_L be may rn_no x t) pi lb root dist pe) (F : rn_X (rn_L be may rn_no x t) dist)
    (h1 : ∀ p, p < 8 → 0 < nd p → dist p < 1000000) (h2 : ∀ p, p < 8 → nd p < 0 → ¬ dist (8 + p) < 1000000) (h3 : ∃ p, p < 8 ∧ 0 < nd p) : ∀ y, ¬ fs_F n nu be th y := by
  intro y hy
  obtain ⟨i1, i2, i3, i4, i5, _⟩ := I
  obtain ⟨y1, y2, y3, y4⟩ := rn_y A hy
  have hc := fw_cut rn_net (L := rn_L be may rn_no x t) (L' := rn_L be may rn_no y (rn_t nu y)) y1 i1 (fun e he => rn_L_cap be may rn_no x t y (rn_t nu y) e he) (fun v => if dist v < 1000000 then 1 else 0) (fun v => by
    by_cases c : dist v < 1000000
    · exact Or.inr (if_pos c)
    · exact Or.inl (if_neg c)) (fun e he ho hr => by
    have c : dist (rn_src e) < 1000000 := by
      apply Classical.byContradiction
      intro c; rw [if_neg c] at hr; omega
    exact if_pos (rn_closed B F he ho c).1)
  rw [fw_sm_16, fw_sm_16] at hc
  obtain ⟨p0, hp0, hnd0⟩ := h3
  have hdiag : ∀ a b, a < 8 → b < 8 → (a = b ∨ rn_no (8 * a + b) = true) → x (8 * a + b) = y (8 * a + b) := fun a b ha hb c => by
    rcases c with c | c
    · subst c; rw [i2 a ha, y3 a ha]
    · cases c
  have k1 : fw_sm 8 (fun v => (if dist v < 1000000 then 1 else 0) * fw_D 256 rn_src (rn_L be may rn_no x t) v) = fw_sm 8 (fun v => (if dist v < 1000000 then 1 else 0) * fw_D 256 rn_src (rn_L be may rn_no y (rn_t nu y)) v + max (nd v) 0) := fw_sm_congr (fun v hv => by
    have g1 := (rn_D_eq (be := be) (may := may) (fx := rn_no) (t := t) (t' := rn_t nu y) hdiag i2 hv).1
    have g2 := i3 v hv
    have g3 := y2 v hv
    by_cases c : dist v < 1000000
    · rw [if_pos c]; omega
    · rw [if_neg c]
      have : ¬ 0 < nd v := fun q => c (h1 v hv q)
      omega)
  have k2 : fw_sm 8 (fun v => (if dist (8 + v) < 1000000 then 1 else 0) * fw_D 256 rn_src (rn_L be may rn_no x t) (8 + v)) = fw_sm 8 (fun v => (if dist (8 + v) < 1000000 then 1 else 0) * fw_D 256 rn_src (rn_L be may rn_no y (rn_t nu y)) (8 + v)) := fw_sm_congr (fun v hv => by
    have g1 := (rn_D_eq (be := be) (may := may) (fx := rn_no) (t := t) (t' := rn_t nu y) hdiag i2 hv).2
    have g2 := i3 v hv
    have g3 := y2 v hv
    by_cases c : dist (8 + v) < 1000000
    · rw [if_pos c]
      have : ¬ nd v < 0 := fun q => h2 v hv q c
      omega
    · rw [if_neg c]; simp)
  rw [k1, k2, fw_sm_add] at hc
  have := fw_sm_ge1 (f := fun v => max (nd v) 0) (n := 8) (fun i _ => by omega) hp0
  omega
