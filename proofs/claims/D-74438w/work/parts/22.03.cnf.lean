set_option maxRecDepth 100000
/-! What the component's ways come to -/
theorem cn_c_g {a q : Nat} (ha : a < 8) (hq : q < 18) : cn_c (18 * a + q) = if 8 ≤ q ∧ q < 16 ∧ q - 8 ≠ a then -1 else 0 := by
  have h1 : (18 * a + q) / 18 = a := by omega
  have h2 : (18 * a + q) % 18 = q := by omega
  unfold cn_c; rw [h1, h2, if_neg (by omega)]
  by_cases c : 8 ≤ q ∧ q < 16 ∧ q - 8 ≠ a
  · rw [if_pos c, if_pos (by omega)]
  · rw [if_neg c, if_neg (by omega)]
theorem cn_c_s {a q : Nat} (ha : a < 8) (hq : q < 18) : cn_c (18 * (8 + a) + q) = if q < 8 ∧ q ≠ a then 1 else 0 := by
  have h1 : (18 * (8 + a) + q) / 18 = 8 + a := by omega
  have h2 : (18 * (8 + a) + q) % 18 = q := by omega
  unfold cn_c; rw [h1, h2]
  by_cases c : q < 8 ∧ q ≠ a
  · rw [if_pos c, if_pos (by omega)]
  · rw [if_neg c, if_neg (by omega), if_neg (by omega)]
theorem cn_c_be {v q : Nat} (hv : v = 16 ∨ v = 17) (hq : q < 18) : cn_c (18 * v + q) = 0 := by
  have h1 : (18 * v + q) / 18 = v := by omega
  unfold cn_c; rw [h1, if_neg (by omega), if_neg (by omega)]
theorem cn_Z_gs (nu be th x t sx tx : Nat → Int) {a b : Nat} (ha : a < 8) (hb : b < 8) : cn_Z nu be th x t sx tx (18 * a + (8 + b)) = if b = a then th a - t a else x (8 * b + a) := by
  rw [cn_Z_g _ _ _ _ _ _ _ ha (by omega), if_neg (by omega), if_pos (by omega), show 8 + b - 8 = b by omega]
theorem cn_Z_sg (nu be th x t sx tx : Nat → Int) {a b : Nat} (ha : a < 8) (hb : b < 8) : cn_Z nu be th x t sx tx (18 * (8 + a) + b) = if b = a then t a else be (8 * a + b) - x (8 * a + b) := by
  rw [cn_Z_s _ _ _ _ _ _ _ ha (by omega), if_pos hb]
theorem cn_cost (nu be th x t sx tx : Nat → Int) (hx : ∀ p, p < 8 → x (8 * p + p) = 0) : fw_sm 324 (fun e => cn_c e * cn_Z nu be th x t sx tx e) = fw_sm 64 (fun k => if k / 8 = k % 8 then 0 else be k) - 2 * fs_tot x := by
  rw [show (324 : Nat) = 18 * 18 from rfl, fw_sm_grid, fw_sm_18]
  have h1 : ∀ a, a < 8 → fw_sm 18 (fun q => cn_c (18 * a + q) * cn_Z nu be th x t sx tx (18 * a + q)) = - fs_in x a := fun a ha => by
    rw [fw_sm_18, fw_sm_z (fun q hq => by rw [cn_Z_g _ _ _ _ _ _ _ ha (by omega), if_pos hq, Int.mul_zero]), cn_c_g ha (by omega), cn_c_g ha (by omega)]
    rw [fw_sm_congr (g := fun b => - x (8 * b + a)) (fun b hb => by
      rw [cn_Z_gs _ _ _ _ _ _ _ ha hb, cn_c_g ha (by omega), show 8 + b - 8 = b by omega]
      by_cases c : b = a
      · subst c; rw [if_neg (by omega), hx b hb]; simp
      · rw [if_pos (by omega), if_neg c]; omega), fw_sm_neg]
    simp [fs_in]
  have h2 : ∀ a, a < 8 → fw_sm 18 (fun q => cn_c (18 * (8 + a) + q) * cn_Z nu be th x t sx tx (18 * (8 + a) + q)) = fw_sm 8 (fun b => if a = b then 0 else be (8 * a + b)) - fs_out x a := fun a ha => by
    rw [fw_sm_18, fw_sm_z (f := fun b => cn_c (18 * (8 + a) + (8 + b)) * cn_Z nu be th x t sx tx (18 * (8 + a) + (8 + b))) (fun q hq => by rw [cn_Z_s _ _ _ _ _ _ _ ha (by omega), if_neg (by omega), if_pos (by omega), Int.mul_zero]), cn_c_s ha (by omega), cn_c_s ha (by omega)]
    rw [fw_sm_congr (g := fun b => (if a = b then 0 else be (8 * a + b)) - x (8 * a + b)) (fun b hb => by
      rw [cn_c_s ha (by omega), cn_Z_s _ _ _ _ _ _ _ ha (by omega), if_pos hb]
      by_cases c : b = a
      · subst c; rw [if_neg (by omega), if_pos rfl, hx b hb]; simp
      · rw [if_pos (by omega), if_neg c, if_neg (fun z => c z.symm)]; omega), fw_sm_sub]
    simp [fs_out]
  have h3 : ∀ v, v = 16 ∨ v = 17 → fw_sm 18 (fun q => cn_c (18 * v + q) * cn_Z nu be th x t sx tx (18 * v + q)) = 0 := fun v hv => fw_sm_z (fun q hq => by rw [cn_c_be hv hq, Int.zero_mul])
  rw [fw_sm_congr h1, fw_sm_congr h2, h3 16 (Or.inl rfl), h3 17 (Or.inr rfl), fw_sm_neg, fw_sm_sub]
  have h4 : fw_sm 8 (fun a => fs_in x a) = fs_tot x := by unfold fs_in fs_tot; rw [fw_sm_64, fw_sm_swap]
  have h5 : fw_sm 8 (fun a => fs_out x a) = fs_tot x := by unfold fs_out fs_tot; rw [fw_sm_64]
  have h6 : fw_sm 64 (fun k => if k / 8 = k % 8 then 0 else be k) = fw_sm 8 (fun a => fw_sm 8 (fun b => if a = b then 0 else be (8 * a + b))) := by
    rw [fw_sm_64]
    exact fw_sm_congr (fun a ha => fw_sm_congr (fun b hb => by rw [show (8 * a + b) / 8 = a by omega, show (8 * a + b) % 8 = b by omega]))
  rw [h4, h5, h6]
  omega
theorem cn_dcost (nu be th x t sx tx : Nat → Int) {k : Nat} (hk : k < 64) (hkd : k / 8 ≠ k % 8) (d : Int) : fw_sm 324 (fun e => cn_d k d e * cn_Z nu be th x t sx tx e) = d * (be k - x k) - d * x k := by
  have e1 : fw_sm 324 (fun e => cn_d k d e * cn_Z nu be th x t sx tx e) = fw_sm 324 (fun e => (if e = cn_k k then d * cn_Z nu be th x t sx tx e else 0) + (if e = cn_kr k then - (d * cn_Z nu be th x t sx tx e) else 0)) := fw_sm_congr (fun e _ => by
    unfold cn_d
    rw [Int.add_mul]
    congr 1
    · split
      · rfl
      · exact Int.zero_mul _
    · split
      · exact Int.neg_mul _ _
      · exact Int.zero_mul _)
  rw [e1, fw_sm_add, fw_sm_one (by unfold cn_k; omega) (fun e => d * cn_Z nu be th x t sx tx e), fw_sm_one (by unfold cn_kr; omega) (fun e => - (d * cn_Z nu be th x t sx tx e))]
  unfold cn_k cn_kr
  rw [cn_Z_s _ _ _ _ _ _ _ (by omega) (by omega), if_pos (by omega), if_neg (fun z => hkd z.symm), cn_Z_g _ _ _ _ _ _ _ (by omega) (by omega), if_neg (by omega), if_pos (by omega), if_neg (by omega), show 8 + k / 8 - 8 = k / 8 by omega, show 8 * (k / 8) + k % 8 = k by omega]
  omega
theorem cn_wcost (nu be th x t sx tx : Nat → Int) (hx : ∀ p, p < 8 → x (8 * p + p) = 0) {k : Nat} (hk : k < 64) (hkd : k / 8 ≠ k % 8) (d : Int) : fw_sm 324 (fun e => cn_w k d e * cn_Z nu be th x t sx tx e) = cn_W * (fw_sm 64 (fun k => if k / 8 = k % 8 then 0 else be k) - 2 * fs_tot x) + (d * (be k - x k) - d * x k) := by
  rw [← cn_cost nu be th x t sx tx hx, ← cn_dcost nu be th x t sx tx hk hkd d, ← fw_sm_mul, ← fw_sm_add]
  exact fw_sm_congr (fun e _ => by unfold cn_w; rw [Int.add_mul, Int.mul_assoc])
theorem cn_D0 {nu be th : Nat → Int} (v : Nat) : fw_D 324 cn_src (cn_L0 nu be th) v = fw_D 324 cn_src (cn_Z nu be th (fun _ => 0) (fun _ => 0) (fun _ => 0) (fun _ => 0)) v := fw_D_congr (fun e he => cn_Z_0 nu be th e he) v
theorem cn_Z_cap (nu be th x t sx tx x' t' sx' tx' : Nat → Int) (e : Nat) (he : e < 324) : cn_Z nu be th x t sx tx e + cn_Z nu be th x t sx tx (cn_rev e) = cn_Z nu be th x' t' sx' tx' e + cn_Z nu be th x' t' sx' tx' (cn_rev e) := by
  rcases cn_cases e he with ⟨a, q, ha, hq, rfl⟩ | ⟨a, q, ha, hq, rfl⟩ | ⟨q, hq, rfl⟩ | ⟨q, hq, rfl⟩
  · rw [cn_rev_at (by omega) hq]
    rcases cn_cases (18 * q + a) (by omega) with ⟨a', q', ha', hq', e1⟩ | ⟨a', q', ha', hq', e1⟩ | ⟨q', hq', e1⟩ | ⟨q', hq', e1⟩
    · rw [e1, cn_Z_g _ _ _ _ _ _ _ ha hq, cn_Z_g _ _ _ _ _ _ _ ha' hq', cn_Z_g _ _ _ _ _ _ _ ha hq, cn_Z_g _ _ _ _ _ _ _ ha' hq', if_pos (by omega), if_pos (by omega), if_pos (by omega), if_pos (by omega)]
    · have e2 : q = 8 + a' := by omega
      have e3 : q' = a := by omega
      subst e2; subst e3
      rw [cn_Z_gs _ _ _ _ _ _ _ ha ha', cn_Z_sg _ _ _ _ _ _ _ ha' ha, cn_Z_gs _ _ _ _ _ _ _ ha ha', cn_Z_sg _ _ _ _ _ _ _ ha' ha]
      by_cases c : a' = q'
      · subst c; simp only [if_true]; omega
      · rw [if_neg c, if_neg (fun z => c z.symm), if_neg c, if_neg (fun z => c z.symm)]; omega
    · have e2 : q = 16 := by omega
      have e3 : q' = a := by omega
      subst e2; subst e3
      rw [cn_Z_g _ _ _ _ _ _ _ ha hq, cn_Z_b _ _ _ _ _ _ _ hq', cn_Z_g _ _ _ _ _ _ _ ha hq, cn_Z_b _ _ _ _ _ _ _ hq', if_pos ha, if_pos ha]
      simp
    · have e2 : q = 17 := by omega
      have e3 : q' = a := by omega
      subst e2; subst e3
      rw [cn_Z_g _ _ _ _ _ _ _ ha hq, cn_Z_e _ _ _ _ _ _ _ hq', cn_Z_g _ _ _ _ _ _ _ ha hq, cn_Z_e _ _ _ _ _ _ _ hq', if_pos ha, if_pos ha]
      simp
  · rw [cn_rev_at (by omega) hq]
    rcases cn_cases (18 * q + (8 + a)) (by omega) with ⟨a', q', ha', hq', e1⟩ | ⟨a', q', ha', hq', e1⟩ | ⟨q', hq', e1⟩ | ⟨q', hq', e1⟩
    · have e2 : q = a' := by omega
      have e3 : q' = 8 + a := by omega
      subst e2; subst e3
      rw [cn_Z_gs _ _ _ _ _ _ _ ha' ha, cn_Z_sg _ _ _ _ _ _ _ ha ha', cn_Z_gs _ _ _ _ _ _ _ ha' ha, cn_Z_sg _ _ _ _ _ _ _ ha ha']
      by_cases c : a = q
      · subst c; simp only [if_true]; omega
      · rw [if_neg c, if_neg (fun z => c z.symm), if_neg c, if_neg (fun z => c z.symm)]; omega
    · have e2 : q = 8 + a' := by omega
      subst e2
      have e3 : q' = 8 + a := by omega
      subst e3
      rw [cn_Z_s _ _ _ _ _ _ _ ha hq, cn_Z_s _ _ _ _ _ _ _ ha' hq', cn_Z_s _ _ _ _ _ _ _ ha hq, cn_Z_s _ _ _ _ _ _ _ ha' hq', if_neg (by omega), if_pos (by omega), if_neg (by omega), if_pos (by omega), if_neg (by omega), if_pos (by omega), if_neg (by omega), if_pos (by omega)]
    · have e2 : q = 16 := by omega
      subst e2
      have e3 : q' = 8 + a := by omega
      subst e3
      rw [cn_Z_s _ _ _ _ _ _ _ ha hq, cn_Z_b _ _ _ _ _ _ _ hq', cn_Z_s _ _ _ _ _ _ _ ha hq, cn_Z_b _ _ _ _ _ _ _ hq', if_neg (by omega), if_neg (by omega), if_pos rfl, if_neg (by omega), if_pos (by omega), if_neg (by omega), if_neg (by omega), if_pos rfl, if_neg (by omega), if_pos (by omega), show 8 + a - 8 = a by omega]
      omega
    · have e2 : q = 17 := by omega
      subst e2
      have e3 : q' = 8 + a := by omega
      subst e3
      rw [cn_Z_s _ _ _ _ _ _ _ ha hq, cn_Z_e _ _ _ _ _ _ _ hq', cn_Z_s _ _ _ _ _ _ _ ha hq, cn_Z_e _ _ _ _ _ _ _ hq', if_neg (by omega), if_neg (by omega), if_neg (by omega), if_neg (by omega), if_neg (by omega), if_neg (by omega), if_neg (by omega), if_neg (by omega)]
  · rw [cn_rev_at (by omega) hq]
    rcases cn_cases (18 * q + 16) (by omega) with ⟨a', q', ha', hq', e1⟩ | ⟨a', q', ha', hq', e1⟩ | ⟨q', hq', e1⟩ | ⟨q', hq', e1⟩
    · have e2 : q = a' := by omega
      subst e2
      rw [cn_Z_b _ _ _ _ _ _ _ hq, cn_Z_g _ _ _ _ _ _ _ ha' (by omega), cn_Z_b _ _ _ _ _ _ _ hq, cn_Z_g _ _ _ _ _ _ _ ha' (by omega), if_pos ha', if_pos ha']
      simp
    · have e2 : q = 8 + a' := by omega
      subst e2
      rw [cn_Z_b _ _ _ _ _ _ _ hq, cn_Z_s _ _ _ _ _ _ _ ha' (by omega), cn_Z_b _ _ _ _ _ _ _ hq, cn_Z_s _ _ _ _ _ _ _ ha' (by omega), if_neg (by omega), if_pos (by omega), if_neg (by omega), if_neg (by omega), if_pos rfl, if_neg (by omega), if_pos (by omega), if_neg (by omega), if_neg (by omega), if_pos rfl, show 8 + a' - 8 = a' by omega]
      omega
    · have e2 : q = 16 := by omega
      subst e2
      rw [cn_Z_b _ _ _ _ _ _ _ hq, cn_Z_b _ _ _ _ _ _ _ hq]
      simp
    · have e2 : q = 17 := by omega
      subst e2
      rw [cn_Z_b _ _ _ _ _ _ _ hq, cn_Z_e _ _ _ _ _ _ _ (by omega), cn_Z_b _ _ _ _ _ _ _ hq, cn_Z_e _ _ _ _ _ _ _ (by omega)]
      simp
  · rw [cn_rev_at (by omega) hq]
    rcases cn_cases (18 * q + 17) (by omega) with ⟨a', q', ha', hq', e1⟩ | ⟨a', q', ha', hq', e1⟩ | ⟨q', hq', e1⟩ | ⟨q', hq', e1⟩
    · have e2 : q = a' := by omega
      subst e2
      rw [cn_Z_e _ _ _ _ _ _ _ hq, cn_Z_g _ _ _ _ _ _ _ ha' (by omega), cn_Z_e _ _ _ _ _ _ _ hq, cn_Z_g _ _ _ _ _ _ _ ha' (by omega), if_pos ha', if_pos ha']
      simp; omega
    · have e2 : q = 8 + a' := by omega
      subst e2
      rw [cn_Z_e _ _ _ _ _ _ _ hq, cn_Z_s _ _ _ _ _ _ _ ha' (by omega), cn_Z_e _ _ _ _ _ _ _ hq, cn_Z_s _ _ _ _ _ _ _ ha' (by omega), if_neg (by omega), if_neg (by omega), if_neg (by omega), if_neg (by omega), if_neg (by omega), if_neg (by omega), if_neg (by omega), if_neg (by omega)]
    · have e2 : q = 16 := by omega
      subst e2
      rw [cn_Z_e _ _ _ _ _ _ _ hq, cn_Z_b _ _ _ _ _ _ _ (by omega), cn_Z_e _ _ _ _ _ _ _ hq, cn_Z_b _ _ _ _ _ _ _ (by omega)]
      simp
    · have e2 : q = 17 := by omega
      subst e2
      rw [cn_Z_e _ _ _ _ _ _ _ hq, cn_Z_e _ _ _ _ _ _ _ hq]
      simp
/-- one that is asked, in the net -/
theorem cn_y {n : Nat} {nu be : Nat → Int} {th : Option (Nat → Int)} {may : Nat → Int} (A : rn_A n nu be th may) {y : Nat → Int} (h : fs_F n nu be th y) : ∀ e, e < 324 → 0 ≤ cn_Z nu be may y (rn_t nu y) (fun a => max (nu a) 0) (fun a => max (- nu a) 0) e := by
  obtain ⟨_, _, _, y4⟩ := rn_y A h
  intro e he
  rcases cn_cases e he with ⟨a, q, ha, hq, rfl⟩ | ⟨a, q, ha, hq, rfl⟩ | ⟨q, hq, rfl⟩ | ⟨q, hq, rfl⟩
  · rw [cn_Z_g _ _ _ _ _ _ _ ha hq]
    have := y4 a ha
    split
    · omega
    · split
      · split
        · omega
        · exact fs_F_nn h (by omega)
      · split <;> omega
  · rw [cn_Z_s _ _ _ _ _ _ _ ha hq]
    have := y4 a ha
    split
    · split
      · omega
      · have := fs_F_le h A.2.1 (show 8 * a + q < 64 by omega); omega
    · split
      · omega
      · split <;> omega
  · rw [cn_Z_b _ _ _ _ _ _ _ hq]
    split
    · omega
    · split <;> omega
  · rw [cn_Z_e _ _ _ _ _ _ _ hq]
    split <;> omega
theorem fs_nu_sum {nu : Nat → Int} (h : fw_sm 8 nu = 0) : fw_sm 8 (fun a => max (- nu a) 0) = fw_sm 8 (fun a => max (nu a) 0) := by
  have : fw_sm 8 (fun a => max (nu a) 0) - fw_sm 8 (fun a => max (- nu a) 0) = fw_sm 8 nu := by
    rw [← fw_sm_sub]; exact fw_sm_congr (fun a _ => by omega)
  omega
/-- all is sent: of the least total, and of those the least (the greatest) at the couple -/
theorem cn_end {n : Nat} {nu be : Nat → Int} {th : Option (Nat → Int)} {may : Nat → Int} (A : rn_A n nu be th may) {k : Nat} (hk : k < 64) (hkd : k / 8 ≠ k % 8) {d : Int} (hd : -1 ≤ d ∧ d ≤ 1) {L : Nat → Int} (I : cn_I nu be may k d L (fw_sm 8 (fun a => max (nu a) 0))) : fs_O n nu be th (cn_x L) ∧ ∀ y, fs_O n nu be th y → d * cn_x L k ≤ d * y k := by
  obtain ⟨i1, i2, i3, p, q, i4, i5⟩ := I
  have hr := cn_read i1 i2
  have hdiag : ∀ p, p < 8 → cn_x L (8 * p + p) = 0 := fun p hp => by unfold cn_x; rw [if_pos (by omega)]
  generalize hx : cn_x L = x at *
  generalize ht : (fun a => L (18 * (8 + a) + a)) = t at *
  generalize hsx : (fun a => L (18 * (8 + a) + 16)) = sx at *
  generalize htx : (fun a => L (18 * 17 + a)) = tx at *
  have hDr : ∀ v, fw_D 324 cn_src L v = fw_D 324 cn_src (cn_Z nu be may x t sx tx) v := fun v => fw_D_congr hr v
  have z0 : ∀ p, p < 8 → (fun _ : Nat => (0 : Int)) (8 * p + p) = 0 := fun _ _ => rfl
  have hin : ∀ a, a < 8 → fs_in x a - t a - tx a = 0 := fun a ha => by
    have := i3 a (by omega)
    rw [hDr, cn_D0, cn_D_g _ _ _ _ _ _ _ hdiag ha, cn_D_g _ _ _ _ _ _ _ z0 ha, if_neg (by omega), if_neg (by omega)] at this
    have z1 : fs_in (fun _ => 0) a = 0 := fw_sm_zero 8
    rw [z1] at this
    omega
  have hout : ∀ a, a < 8 → t a + sx a - fs_out x a = 0 := fun a ha => by
    have := i3 (8 + a) (by omega)
    rw [hDr, cn_D0, cn_D_s _ _ _ _ _ _ _ hdiag ha, cn_D_s _ _ _ _ _ _ _ z0 ha, if_neg (by omega), if_neg (by omega)] at this
    have z1 : fs_out (fun _ => 0) a = 0 := fw_sm_zero 8
    rw [z1] at this
    omega
  have hsxs : ∀ a, a < 8 → sx a = max (nu a) 0 := by
    refine fw_sm_eq (fun a ha => ?_) ?_
    · have := i1 (18 * 16 + (8 + a)) (by omega)
      rw [hr _ (by omega), cn_Z_b _ _ _ _ _ _ _ (by omega), if_neg (by omega), if_pos (by omega), show 8 + a - 8 = a by omega] at this
      omega
    · have := i3 16 (by omega)
      rw [hDr, cn_D0, cn_D_b, cn_D_b, if_neg (by omega), if_pos rfl, fw_sm_zero] at this
      omega
  have htxs : ∀ a, a < 8 → tx a = max (- nu a) 0 := by
    refine fw_sm_eq (fun a ha => ?_) ?_
    · have := i1 (18 * a + 17) (by omega)
      rw [hr _ (by omega), cn_Z_g _ _ _ _ _ _ _ ha (by omega), if_neg (by omega), if_neg (by omega), if_neg (by omega)] at this
      omega
    · have := i3 17 (by omega)
      rw [hDr, cn_D0, cn_D_e, cn_D_e, if_pos rfl, if_neg (by omega), fw_sm_zero] at this
      have := fs_nu_sum A.2.2.2.2.2.1
      omega
  have htn : ∀ a, a < 8 → 0 ≤ t a ∧ t a ≤ may a := fun a ha => by
    have h1 := i1 (18 * a + (8 + a)) (by omega)
    have h2 := i1 (18 * (8 + a) + a) (by omega)
    rw [hr _ (by omega), cn_Z_g _ _ _ _ _ _ _ ha (by omega), if_neg (by omega), if_pos (by omega), if_pos (by omega)] at h1
    rw [hr _ (by omega), cn_Z_s _ _ _ _ _ _ _ ha (by omega), if_pos ha, if_pos rfl] at h2
    omega
  have hxb : ∀ a b, a < 8 → b < 8 → a ≠ b → 0 ≤ x (8 * a + b) ∧ x (8 * a + b) ≤ be (8 * a + b) := fun a b ha hb hab => by
    have h1 := i1 (18 * (8 + a) + b) (by omega)
    have h2 := i1 (18 * b + (8 + a)) (by omega)
    rw [hr _ (by omega), cn_Z_s _ _ _ _ _ _ _ ha (by omega), if_pos hb, if_neg (fun z => hab z.symm)] at h1
    rw [hr _ (by omega), cn_Z_g _ _ _ _ _ _ _ hb (by omega), if_neg (by omega), if_pos (by omega), if_neg (by omega), show 8 + a - 8 = a by omega] at h2
    omega
  have hF : fs_F n nu be th x := by
    refine ⟨fun j hj c => ?_, fun j hj c => ?_, fun a ha => ?_, fun a ha => ?_⟩
    · have := hxb (j / 8) (j % 8) (by omega) (by omega) c.2.2
      rwa [show 8 * (j / 8) + j % 8 = j by omega] at this
    · by_cases c2 : j / 8 = j % 8
      · have := hdiag (j / 8) (by omega)
        rwa [show 8 * (j / 8) + j / 8 = j by omega] at this
      · have := hxb (j / 8) (j % 8) (by omega) (by omega) c2
        rw [show 8 * (j / 8) + j % 8 = j by omega] at this
        have := A.2.2.1 j hj c
        omega
    · have ha8 : a < 8 := by have := A.1; omega
      have := hin a ha8
      have := hout a ha8
      have := hsxs a ha8
      have := htxs a ha8
      omega
    · have ha8 : a < 8 := by have := A.1; omega
      refine A.2.2.2.2.2.2.2 x a ha ?_
      have := hin a ha8
      have := hout a ha8
      have := hsxs a ha8
      have := htxs a ha8
      have := htn a ha8
      omega
  have hcmp : ∀ y, fs_F n nu be th y → fs_tot x ≤ fs_tot y ∧ cn_W * (2 * fs_tot x) + 2 * (d * x k) ≤ cn_W * (2 * fs_tot y) + 2 * (d * y k) := fun y hy => by
    obtain ⟨y1, y2, y3, y4⟩ := rn_y A hy
    have hL' := cn_y A hy
    have hcap : ∀ e, e < 324 → L e + L (cn_rev e) = cn_Z nu be may y (rn_t nu y) (fun a => max (nu a) 0) (fun a => max (- nu a) 0) e + cn_Z nu be may y (rn_t nu y) (fun a => max (nu a) 0) (fun a => max (- nu a) 0) (cn_rev e) := fun e he => by
      rw [hr e he, hr _ (cn_net e he).2.2.1]; exact cn_Z_cap _ _ _ _ _ _ _ _ _ _ _ e he
    have hDD : ∀ v, v < 18 → fw_D 324 cn_src L v = fw_D 324 cn_src (cn_Z nu be may y (rn_t nu y) (fun a => max (nu a) 0) (fun a => max (- nu a) 0)) v := fun v hv => by
      rw [hDr]
      by_cases c1 : v < 8
      · rw [cn_D_g _ _ _ _ _ _ _ hdiag c1, cn_D_g _ _ _ _ _ _ _ y3 c1]
        have := hin v c1
        have := y2 v c1
        omega
      · by_cases c2 : v < 16
        · have e1 : v = 8 + (v - 8) := by omega
          rw [e1, cn_D_s _ _ _ _ _ _ _ hdiag (show v - 8 < 8 by omega), cn_D_s _ _ _ _ _ _ _ y3 (show v - 8 < 8 by omega)]
          have := hout (v - 8) (by omega)
          have := y2 (v - 8) (by omega)
          omega
        · by_cases c3 : v = 16
          · subst c3
            rw [cn_D_b, cn_D_b, fw_sm_congr hsxs]
          · have e1 : v = 17 := by omega
            subst e1
            rw [cn_D_e, cn_D_e, fw_sm_congr htxs]
    have o1 := fw_opt cn_net (c := cn_c) cn_c_rev i1 hL' hcap hDD p (fun e he ho => by
      have g1 := i5 e he ho
      have g2 := i4 (cn_src e) (cn_net e he).1
      have g3 := i4 (cn_dst e) (cn_net e he).2.1
      have g4 := cn_d_1 hk hd e
      unfold cn_w cn_W at g1
      omega)
    have o2 := fw_opt cn_net (c := cn_w k d) (cn_w_rev hk d) i1 hL' hcap hDD (fun v => cn_W * p v + q v) i5
    rw [cn_cost _ _ _ _ _ _ _ y3, fw_sm_congr (f := fun e => cn_c e * L e) (fun e he => by rw [hr e he]), cn_cost _ _ _ _ _ _ _ hdiag] at o1
    rw [cn_wcost _ _ _ _ _ _ _ y3 hk hkd, fw_sm_congr (f := fun e => cn_w k d e * L e) (fun e he => by rw [hr e he]), cn_wcost _ _ _ _ _ _ _ hdiag hk hkd] at o2
    simp only [Int.mul_sub] at o2 ⊢
    constructor <;> omega
  refine ⟨⟨hF, fun y hy => (hcmp y hy).1⟩, fun y hy => ?_⟩
  have h1 := hcmp y hy.1
  have h2 := hy.2 x hF
  have h3 : fs_tot x = fs_tot y := by omega
  have h4 := h1.2
  rw [h3] at h4
  omega
/-- nothing comes to the end and not all is sent: nothing can be -/
theorem cn_none {n : Nat} {nu be : Nat → Int} {th : Option (Nat → Int)} {may : Nat → Int} (A : rn_A n nu be th may) {k : Nat} (hk : k < 64) {d : Int} (hd : -1 ≤ d ∧ d ≤ 1) {L : Nat → Int} {sent : Int} (I : cn_I nu be may k d L sent) {p q : Nat → Int} {root : Nat → Prop} {dist : Nat → Int} {pe : Nat → Nat} (B : cn_B L k d p q root dist pe) (F : cn_X L k d dist) (h16 : dist 16 < cn_FAR) (h17 : ¬ dist 17 < cn_FAR)
    (hs : sent < fw_sm 8 (fun a => max (nu a) 0)) : ∀ y, ¬ fs_F n nu be th y := by
  intro y hy
  obtain ⟨i1, i2, i3, _⟩ := I
  obtain ⟨y1, y2, y3, y4⟩ := rn_y A hy
  have hL' := cn_y A hy
  have hcap : ∀ e, e < 324 → L e + L (cn_rev e) = cn_Z nu be may y (rn_t nu y) (fun a => max (nu a) 0) (fun a => max (- nu a) 0) e + cn_Z nu be may y (rn_t nu y) (fun a => max (nu a) 0) (fun a => max (- nu a) 0) (cn_rev e) := fun e he => by
    rw [i2 e he, cn_Z_0 _ _ _ _ he, cn_Z_0 _ _ _ _ (cn_net e he).2.2.1]; exact cn_Z_cap _ _ _ _ _ _ _ _ _ _ _ e he
  have hDy : ∀ v, v < 18 → fw_D 324 cn_src (cn_Z nu be may y (rn_t nu y) (fun a => max (nu a) 0) (fun a => max (- nu a) 0)) v = fw_D 324 cn_src (cn_L0 nu be may) v + (if v = 17 then fw_sm 8 (fun a => max (nu a) 0) else 0) - (if v = 16 then fw_sm 8 (fun a => max (nu a) 0) else 0) := fun v hv => by
    have z0 : ∀ p, p < 8 → (fun _ : Nat => (0 : Int)) (8 * p + p) = 0 := fun _ _ => rfl
    have z1 : ∀ a, fs_in (fun _ => 0) a = 0 := fun a => fw_sm_zero 8
    have z2 : ∀ a, fs_out (fun _ => 0) a = 0 := fun a => fw_sm_zero 8
    rw [cn_D0]
    by_cases c1 : v < 8
    · rw [cn_D_g _ _ _ _ _ _ _ y3 c1, cn_D_g _ _ _ _ _ _ _ z0 c1, if_neg (by omega), if_neg (by omega), z1]
      have := y2 v c1
      omega
    · by_cases c2 : v < 16
      · have e1 : v = 8 + (v - 8) := by omega
        have hv8 : v - 8 < 8 := by omega
        have := y2 (v - 8) hv8
        generalize v - 8 = a at *
        subst e1
        rw [cn_D_s _ _ _ _ _ _ _ y3 hv8, cn_D_s _ _ _ _ _ _ _ z0 hv8, if_neg (by omega), if_neg (by omega), z2]
        omega
      · by_cases c3 : v = 16
        · subst c3
          rw [cn_D_b, cn_D_b, if_neg (by omega), if_pos rfl, fw_sm_zero]; omega
        · have e1 : v = 17 := by omega
          subst e1
          rw [cn_D_e, cn_D_e, if_pos rfl, if_neg (by omega), fw_sm_zero, fs_nu_sum A.2.2.2.2.2.1]; omega
  have hc := fw_cut cn_net hL' i1 hcap (fun v => if dist v < cn_FAR then 1 else 0) (fun v => by
    by_cases c : dist v < cn_FAR
    · exact Or.inr (if_pos c)
    · exact Or.inl (if_neg c)) (fun e he ho hr => by
    have c : dist (cn_src e) < cn_FAR := by
      apply Classical.byContradiction
      intro c; rw [if_neg c] at hr; omega
    exact if_pos (cn_closed hk hd B F he ho c).1)
  rw [fw_sm_congr (g := fun v => (if dist v < cn_FAR then 1 else 0) * fw_D 324 cn_src (cn_L0 nu be may) v + (if v = 16 then - sent else 0)) (fun v hv => by
      rw [i3 v hv]
      by_cases c1 : v = 16
      · subst c1; rw [if_pos h16, if_neg (by omega), if_pos rfl, if_pos rfl]; omega
      · by_cases c2 : v = 17
        · subst c2; rw [if_neg h17, if_neg c1]; omega
        · rw [if_neg c1, if_neg c2, if_neg c1, Int.add_zero, Int.sub_zero, Int.add_zero]),
    fw_sm_congr (f := fun v => (if dist v < cn_FAR then 1 else 0) * fw_D 324 cn_src (cn_Z nu be may y (rn_t nu y) (fun a => max (nu a) 0) (fun a => max (- nu a) 0)) v) (g := fun v => (if dist v < cn_FAR then 1 else 0) * fw_D 324 cn_src (cn_L0 nu be may) v + (if v = 16 then - fw_sm 8 (fun a => max (nu a) 0) else 0)) (fun v hv => by
      rw [hDy v hv]
      by_cases c1 : v = 16
      · subst c1; rw [if_pos h16, if_neg (by omega), if_pos rfl, if_pos rfl]; omega
      · by_cases c2 : v = 17
        · subst c2; rw [if_neg h17, if_neg c1]; omega
        · rw [if_neg c1, if_neg c2, if_neg c1, Int.add_zero, Int.sub_zero, Int.add_zero]),
    fw_sm_add, fw_sm_add, fw_sm_one (by omega) (fun _ => - sent), fw_sm_one (by omega) (fun _ => - fw_sm 8 (fun a => max (nu a) 0))] at hc
  omega
