set_option maxRecDepth 100000
/-! The end of a turn: no less (no more) can be -/
section
variable {n : Nat} {nu be : Nat → Int} {th : Option (Nat → Int)} {may : Nat → Int} {fx : Nat → Bool} {X t : Nat → Int} {a b : Nat}
def rn_cd (a b : Nat) (d : Int) (e : Nat) : Int := rn_c e + (if e = 16 * a + (8 + b) then d else 0) + (if e = 16 * (8 + b) + a then - d else 0)
theorem rn_cd_rev {a b : Nat} (ha : a < 8) (hb : b < 8) (d : Int) (e : Nat) (he : e < 256) : rn_cd a b d (rn_rev e) = - rn_cd a b d e := by
  unfold rn_cd
  rw [rn_c_rev e he]
  have h1 : (rn_rev e = 16 * a + (8 + b)) = (e = 16 * (8 + b) + a) := by unfold rn_rev; simp only [eq_iff_iff]; omega
  have h2 : (rn_rev e = 16 * (8 + b) + a) = (e = 16 * a + (8 + b)) := by unfold rn_rev; simp only [eq_iff_iff]; omega
  simp only [h1, h2]
  by_cases c1 : e = 16 * (8 + b) + a <;> by_cases c2 : e = 16 * a + (8 + b) <;> simp only [c1, c2, if_true, if_false] <;> omega
/-- two of a kind held against each other, a couple's cost being another one -/
theorem rn_cmp (A : rn_A n nu be th may) (ha : a < 8) (hb : b < 8) (hab : a ≠ b) (hfx : fx (8 * a + b) = false) {be' x1 y1 t ty pi : Nat → Int} (d : Int) (h1 : ∀ e, e < 256 → 0 ≤ rn_L be' may fx x1 t e) (h2 : ∀ e, e < 256 → 0 ≤ rn_L be' may fx y1 ty e)
    (hD : ∀ v, v < 16 → fw_D 256 rn_src (rn_L be' may fx x1 t) v = fw_D 256 rn_src (rn_L be' may fx y1 ty) v) (hp : ∀ e, e < 256 → 0 < rn_L be' may fx x1 t e → 0 ≤ rn_cd a b d e + pi (rn_src e) - pi (rn_dst e)) (hag : ∀ i j, i < 8 → j < 8 → (i = j ∨ fx (8 * i + j) = true) → y1 (8 * i + j) = x1 (8 * i + j)) :
    fs_tot x1 + d * x1 (8 * a + b) ≤ fs_tot y1 + d * y1 (8 * a + b) := by
  have := fw_opt rn_net (c := rn_cd a b d) (rn_cd_rev ha hb d) h1 h2 (fun e he => rn_L_cap be' may fx x1 t y1 ty e he) hD pi hp
  have hsum : ∀ z tz : Nat → Int, fw_sm 256 (fun e => rn_cd a b d e * rn_L be' may fx z tz e) = fw_sm 256 (fun e => rn_c e * rn_L be' may fx z tz e) + d * (be' (8 * a + b) - z (8 * a + b)) - d * z (8 * a + b) := fun z tz => by
    have e1 : fw_sm 256 (fun e => rn_cd a b d e * rn_L be' may fx z tz e) = fw_sm 256 (fun e => (rn_c e * rn_L be' may fx z tz e + (if e = 16 * a + (8 + b) then d * rn_L be' may fx z tz e else 0)) + (if e = 16 * (8 + b) + a then - (d * rn_L be' may fx z tz e) else 0)) := fw_sm_congr (fun e _ => by
      unfold rn_cd
      rw [Int.add_mul, Int.add_mul]
      congr 1
      · congr 1
        split
        · rfl
        · exact Int.zero_mul _
      · split
        · exact Int.neg_mul _ _
        · exact Int.zero_mul _)
    rw [e1, fw_sm_add, fw_sm_add, fw_sm_one (by omega) (fun e => d * rn_L be' may fx z tz e), fw_sm_one (by omega) (fun e => - (d * rn_L be' may fx z tz e)), rn_L_s _ _ _ _ _ ha hb, rn_L_g _ _ _ _ _ ha hb, if_neg hab, if_neg hab]
    simp only [hfx, if_false, Bool.false_eq_true]
    omega
  rw [hsum, hsum, rn_cost, rn_cost] at this
  have hcd := rn_cost_diff (be := be') (fx := fx) (x := y1) (y := x1) hag
  simp only [Int.mul_sub] at this
  omega
theorem rn_D2 {be' x1 y1 tx ty : Nat → Int} (hag : ∀ i j, i < 8 → j < 8 → (i = j ∨ fx (8 * i + j) = true) → y1 (8 * i + j) = x1 (8 * i + j)) (hd : ∀ p, p < 8 → x1 (8 * p + p) = 0) (h : ∀ p, p < 8 → fs_out x1 p - tx p = fs_out y1 p - ty p ∧ fs_in x1 p - tx p = fs_in y1 p - ty p) : ∀ v, v < 16 → fw_D 256 rn_src (rn_L be' may fx x1 tx) v = fw_D 256 rn_src (rn_L be' may fx y1 ty) v := by
  intro v hv
  by_cases c : v < 8
  · have := (rn_D_eq (be := be') (may := may) (fx := fx) (x := x1) (t := tx) (x' := y1) (t' := ty) (fun i j hi hj q => (hag i j hi hj q).symm) hd c).1
    have := h v c
    omega
  · have h1 := (rn_D_eq (be := be') (may := may) (fx := fx) (x := x1) (t := tx) (x' := y1) (t' := ty) (fun i j hi hj q => (hag i j hi hj q).symm) hd (show v - 8 < 8 by omega)).2
    rw [show 8 + (v - 8) = v by omega] at h1
    have := h (v - 8) (by omega)
    omega
theorem rn_low_end (A : rn_A n nu be th may) (T : rn_T n nu be th may fx X t) (ha : a < 8) (hb : b < 8) (hc : fs_cp n (8 * a + b)) (hfx : fx (8 * a + b) = false) {pi : Nat → Int} (P : rn_P (rn_L be may fx X t) pi)
    (h : X (8 * a + b) ≤ 0 ∨ ∃ (root : Nat → Prop) (dist : Nat → Int) (pe : Nat → Nat), rn_B (rn_L be may (rn_fxu fx (8 * a + b)) X t) pi (- (64 * pi a)) root dist pe ∧ rn_X (rn_L be may (rn_fxu fx (8 * a + b)) X t) dist ∧ dist a ≤ 0 ∧ ¬ (dist (8 + b) < 1000000 ∧ dist (8 + b) / 64 = 1)) :
    ∀ y, fs_O n nu be th y → (∀ j, j < 64 → fx j = true → y j = X j) → X (8 * a + b) ≤ y (8 * a + b) := by
  intro y hy hag
  have hyk := hy.1.1 _ (show 8 * a + b < 64 by omega) hc
  rcases h with h | ⟨root, dist, pe, B, F, hda, hno⟩
  · omega
  · apply Classical.byContradiction
    intro hlt
    have hab : a ≠ b := ((fs_cp_at hb).mp hc).2.2
    have hPk : 0 ≤ -1 + pi (8 + b) - pi a := by
      have := P (16 * (8 + b) + a) (by omega) (by rw [rn_L_g _ _ _ _ _ ha hb, if_neg hab, if_neg (by simp [hfx])]; omega)
      rwa [rn_c_g ha hb, if_neg hab, rn_src_at (by omega), rn_dst_at (by omega)] at this
    obtain ⟨pi', p1, p2, p3⟩ := rn_price (rn_P_mono P (x' := X) (fun _ _ => rfl)) B F 2
    have hd0 : dist a = 0 := by
      have : - (64 * pi a) ≤ dist a - 64 * pi a := B.2.1 a (by omega) (by omega)
      omega
    have q1 : pi' a = 0 := by rw [p2 a (by omega) (by omega), hd0]; rfl
    have q2 : 2 ≤ pi' (8 + b) := by
      by_cases c : dist (8 + b) < 1000000
      · have : - (64 * pi a) ≤ dist (8 + b) - 64 * pi (8 + b) := B.2.1 (8 + b) (by omega) c
        rw [p2 _ (by omega) c]
        omega
      · exact p3 _ (by omega) c
    have hX := T.1.1
    obtain ⟨y1, y2, y3, y4⟩ := rn_y A hy.1
    obtain ⟨x1, x2, x3, x4⟩ := rn_y A hX
    have hag' : ∀ i j, i < 8 → j < 8 → (i = j ∨ fx (8 * i + j) = true) → y (8 * i + j) = X (8 * i + j) := fun i j hi hj q => by
      rcases q with q | q
      · subst q; rw [y3 i hi, x3 i hi]
      · exact hag _ (by omega) q
    have hcmp := rn_cmp (be' := fw_up be (8 * a + b) (X (8 * a + b))) A ha hb hab hfx (x1 := X) (y1 := y) (t := t) (ty := rn_t nu y) (pi := pi') 1
      (rn_L_nn (fun i j hi hj _ _ => by
        by_cases c : 8 * i + j = 8 * a + b
        · rw [c, fw_up_at]; exact ⟨fs_F_nn hX (by omega), Int.le_refl _⟩
        · rw [fw_up_ne c]; exact ⟨fs_F_nn hX (by omega), fs_F_le hX A.2.1 (by omega)⟩) (fun p hp => by rw [T.2.1 p hp]; exact x4 p hp))
      (rn_L_nn (fun i j hi hj _ _ => by
        by_cases c : 8 * i + j = 8 * a + b
        · rw [c, fw_up_at]; exact ⟨hyk.1, by omega⟩
        · rw [fw_up_ne c]; exact ⟨fs_F_nn hy.1 (by omega), fs_F_le hy.1 A.2.1 (by omega)⟩) y4)
      (rn_D2 hag' x3 (fun p hp => by
        have := x2 p hp
        have := y2 p hp
        rw [T.2.1 p hp]
        omega)) (fun e he ho => by
        by_cases c1 : e = 16 * a + (8 + b)
        · subst c1
          rw [rn_L_s _ _ _ _ _ ha hb, if_neg hab, if_neg (by simp [hfx]), fw_up_at] at ho
          omega
        · by_cases c2 : e = 16 * (8 + b) + a
          · subst c2
            unfold rn_cd
            rw [rn_c_g ha hb, if_neg hab, rn_src_at (by omega), rn_dst_at (by omega), if_neg c1, if_pos rfl]; omega
          · unfold rn_cd
            rw [if_neg c1, if_neg c2, Int.add_zero, Int.add_zero]
            refine p1 e he ?_
            have e1 := rn_L_k (be := fw_up be (8 * a + b) (X (8 * a + b))) (may := may) (fx := fx) (x := X) (t := t) ha hb hab he c1 c2 (x' := X) (be' := be) (fun _ _ => rfl) (fun j hj => (fw_up_ne hj).symm)
            rw [e1]; exact ho) hag'
    have := fs_O_uniq T.1 hy
    omega
theorem rn_high_end (A : rn_A n nu be th may) (T : rn_T n nu be th may fx X t) (ha : a < 8) (hb : b < 8) (hc : fs_cp n (8 * a + b)) (hfx : fx (8 * a + b) = false) {pi : Nat → Int} (P : rn_P (rn_L be may fx X t) pi)
    (h : be (8 * a + b) ≤ X (8 * a + b) ∨ ∃ (root : Nat → Prop) (dist : Nat → Int) (pe : Nat → Nat), rn_B (rn_L be may (rn_fxu fx (8 * a + b)) X t) pi (- (64 * pi (8 + b))) root dist pe ∧ rn_X (rn_L be may (rn_fxu fx (8 * a + b)) X t) dist ∧ dist (8 + b) ≤ 0 ∧ ¬ (dist a < 1000000 ∧ dist a / 64 = -1)) :
    ∀ y, fs_O n nu be th y → (∀ j, j < 64 → fx j = true → y j = X j) → y (8 * a + b) ≤ X (8 * a + b) := by
  intro y hy hag
  have hyk := hy.1.1 _ (show 8 * a + b < 64 by omega) hc
  have hXk := T.1.1.1 _ (show 8 * a + b < 64 by omega) hc
  rcases h with h | ⟨root, dist, pe, B, F, hda, hno⟩
  · omega
  · apply Classical.byContradiction
    intro hlt
    have hab : a ≠ b := ((fs_cp_at hb).mp hc).2.2
    have hPk : 0 ≤ 1 + pi a - pi (8 + b) := by
      have := P (16 * a + (8 + b)) (by omega) (by rw [rn_L_s _ _ _ _ _ ha hb, if_neg hab, if_neg (by simp [hfx])]; omega)
      rwa [rn_c_s ha hb, if_neg hab, rn_src_at (by omega), rn_dst_at (by omega)] at this
    obtain ⟨pi', p1, p2, p3⟩ := rn_price (rn_P_mono P (x' := X) (fun _ _ => rfl)) B F 0
    have hd0 : dist (8 + b) = 0 := by
      have : - (64 * pi (8 + b)) ≤ dist (8 + b) - 64 * pi (8 + b) := B.2.1 (8 + b) (by omega) (by omega)
      omega
    have q1 : pi' (8 + b) = 0 := by rw [p2 _ (by omega) (by omega), hd0]; rfl
    have q2 : 0 ≤ pi' a := by
      by_cases c : dist a < 1000000
      · have : - (64 * pi (8 + b)) ≤ dist a - 64 * pi a := B.2.1 a (by omega) c
        rw [p2 _ (by omega) c]
        omega
      · exact p3 _ (by omega) c
    have hX := T.1.1
    obtain ⟨y1, y2, y3, y4⟩ := rn_y A hy.1
    obtain ⟨x1, x2, x3, x4⟩ := rn_y A hX
    have hkd : ∀ p, p < 8 → 8 * p + p ≠ 8 * a + b := fun p hp => by omega
    have hag' : ∀ i j, i < 8 → j < 8 → (i = j ∨ fx (8 * i + j) = true) → fw_up y (8 * a + b) (y (8 * a + b) - X (8 * a + b)) (8 * i + j) = fw_up X (8 * a + b) 0 (8 * i + j) := fun i j hi hj q => by
      rcases q with q | q
      · subst q; rw [fw_up_ne (hkd i hi), fw_up_ne (hkd i hi), y3 i hi, x3 i hi]
      · have hne : 8 * i + j ≠ 8 * a + b := fun z => by rw [z, hfx] at q; cases q
        rw [fw_up_ne hne, fw_up_ne hne]; exact hag _ (by omega) q
    have hcmp := rn_cmp (be' := fw_up be (8 * a + b) (be (8 * a + b) - X (8 * a + b))) A ha hb hab hfx (x1 := fw_up X (8 * a + b) 0) (y1 := fw_up y (8 * a + b) (y (8 * a + b) - X (8 * a + b))) (t := t) (ty := rn_t nu y) (pi := pi') (-1)
      (rn_L_nn (fun i j hi hj _ _ => by
        by_cases c : 8 * i + j = 8 * a + b
        · rw [c, fw_up_at, fw_up_at]; omega
        · rw [fw_up_ne c, fw_up_ne c]; exact ⟨fs_F_nn hX (by omega), fs_F_le hX A.2.1 (by omega)⟩) (fun p hp => by rw [T.2.1 p hp]; exact x4 p hp))
      (rn_L_nn (fun i j hi hj _ _ => by
        by_cases c : 8 * i + j = 8 * a + b
        · rw [c, fw_up_at, fw_up_at]; omega
        · rw [fw_up_ne c, fw_up_ne c]; exact ⟨fs_F_nn hy.1 (by omega), fs_F_le hy.1 A.2.1 (by omega)⟩) y4)
      (rn_D2 hag' (fun p hp => by rw [fw_up_ne (hkd p hp)]; exact x3 p hp) (fun p hp => by
        have := x2 p hp
        have := y2 p hp
        obtain ⟨o1, o2⟩ := fs_out_up (x := X) ha hb 0 p hp
        obtain ⟨o3, o4⟩ := fs_out_up (x := y) ha hb (y (8 * a + b) - X (8 * a + b)) p hp
        rw [T.2.1 p hp, o1, o2, o3, o4]
        by_cases c1 : p = a <;> by_cases c2 : p = b <;> simp only [c1, c2, if_true, if_false] <;> (try subst c1) <;> (try subst c2) <;> omega)) (fun e he ho => by
        by_cases c1 : e = 16 * a + (8 + b)
        · subst c1
          unfold rn_cd
          rw [rn_c_s ha hb, if_neg hab, rn_src_at (by omega), rn_dst_at (by omega), if_pos rfl, if_neg (by omega)]; omega
        · by_cases c2 : e = 16 * (8 + b) + a
          · subst c2
            rw [rn_L_g _ _ _ _ _ ha hb, if_neg hab, if_neg (by simp [hfx]), fw_up_at] at ho
            omega
          · unfold rn_cd
            rw [if_neg c1, if_neg c2, Int.add_zero, Int.add_zero]
            refine p1 e he ?_
            have e1 := rn_L_k (be := fw_up be (8 * a + b) (be (8 * a + b) - X (8 * a + b))) (may := may) (fx := fx) (x := fw_up X (8 * a + b) 0) (t := t) ha hb hab he c1 c2 (x' := X) (be' := be) (fun j hj => (fw_up_ne hj).symm) (fun j hj => (fw_up_ne hj).symm)
            rw [e1]; exact ho) hag'
    have ht := fs_O_uniq T.1 hy
    have e1 : fs_tot (fw_up X (8 * a + b) 0) = fs_tot X - X (8 * a + b) := by unfold fs_tot; rw [fw_sm_up (by omega)]; omega
    have e2 : fs_tot (fw_up y (8 * a + b) (y (8 * a + b) - X (8 * a + b))) = fs_tot y - X (8 * a + b) := by unfold fs_tot; rw [fw_sm_up (by omega)]; omega
    rw [e1, e2, fw_up_at, fw_up_at] at hcmp
    omega
end
