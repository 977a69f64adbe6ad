set_option maxRecDepth 100000
/-! Shifts, step by step -/
theorem rn_cost_diff {be : Nat → Int} {fx : Nat → Bool} {x y : Nat → Int} (h : ∀ i j, i < 8 → j < 8 → (i = j ∨ fx (8 * i + j) = true) → x (8 * i + j) = y (8 * i + j)) : fw_sm 64 (fun k => if k / 8 = k % 8 ∨ fx k = true then 0 else be k - 2 * x k) - fw_sm 64 (fun k => if k / 8 = k % 8 ∨ fx k = true then 0 else be k - 2 * y k) = 2 * (fs_tot y - fs_tot x) := by
  unfold fs_tot
  rw [← fw_sm_sub, ← fw_sm_sub, ← fw_sm_mul]
  refine fw_sm_congr (fun k hk => ?_)
  by_cases c : k / 8 = k % 8 ∨ fx k = true
  · have := h (k / 8) (k % 8) (by omega) (by omega) (by rw [show 8 * (k / 8) + k % 8 = k by omega]; exact c)
    rw [show 8 * (k / 8) + k % 8 = k by omega] at this
    rw [if_pos c, if_pos c, this]; omega
  · rw [if_neg c, if_neg c]; omega
section
variable {n : Nat} {nu be : Nat → Int} {th : Option (Nat → Int)} {may : Nat → Int} {fx : Nat → Bool} {X t : Nat → Int} {a b : Nat}
theorem rn_shift_core (A : rn_A n nu be th may) (T : rn_T n nu be th may fx X t) (ha : a < 8) (hb : b < 8) (hc : fs_cp n (8 * a + b)) {x' t' : Nat → Int} (hx' : ∀ i j, i < 8 → j < 8 → (i = j ∨ rn_fxu fx (8 * a + b) (8 * i + j) = true) → x' (8 * i + j) = X (8 * i + j)) {mm : Int}
    (hL : ∀ e, e < 256 → 0 ≤ rn_L be may (rn_fxu fx (8 * a + b)) x' t' e) (h1 : ∀ p, p < 8 → fs_out x' p - t' p = fs_out X p - t p + (if p = a then mm else 0) ∧ fs_in x' p - t' p = fs_in X p - t p + (if p = b then mm else 0)) (h2 : fs_tot x' = fs_tot X + mm) (h3 : 0 ≤ X (8 * a + b) - mm ∧ X (8 * a + b) - mm ≤ be (8 * a + b))
    {pi : Nat → Int} (P : rn_P (rn_L be may (rn_fxu fx (8 * a + b)) x' t') pi) (h4 : 1 + pi a - pi (8 + b) = 0) : rn_T n nu be th may fx (fw_up x' (8 * a + b) (X (8 * a + b) - mm)) t' := by
  obtain ⟨⟨hF, hO⟩, ht, _⟩ := T
  have hab : a ≠ b := ((fs_cp_at hb).mp hc).2.2
  obtain ⟨j1, j2⟩ := rn_L_nn' hL
  have hk : x' (8 * a + b) = X (8 * a + b) := hx' a b ha hb (Or.inr (by unfold rn_fxu; rw [if_pos rfl]))
  have hnu : ∀ p, p < 8 → fs_out X p - t p = max (nu p) 0 ∧ fs_in X p - t p = max (- nu p) 0 := fun p hp => by
    have := (rn_y A hF).2.1 p hp
    rw [ht p hp]; exact this
  have hZ : ∀ p, p < 8 → fs_out (fw_up x' (8 * a + b) (X (8 * a + b) - mm)) p - t' p = max (nu p) 0 ∧ fs_in (fw_up x' (8 * a + b) (X (8 * a + b) - mm)) p - t' p = max (- nu p) 0 := fun p hp => by
    obtain ⟨o1, o2⟩ := fs_out_up (x := x') ha hb (X (8 * a + b) - mm) p hp
    have g1 := h1 p hp
    have g2 := hnu p hp
    rw [hk] at o1 o2
    rw [o1, o2]
    by_cases c1 : p = a <;> by_cases c2 : p = b <;> simp only [c1, c2, if_true, if_false] at g1 ⊢ <;> (try subst c1) <;> (try subst c2) <;> omega
  have hval : ∀ j, j < 64 → j ≠ 8 * a + b → (fs_cp n j → 0 ≤ x' j ∧ x' j ≤ be j) ∧ (¬ fs_cp n j → x' j = 0) := fun j hj hne => by
    have ej : 8 * (j / 8) + j % 8 = j := by omega
    by_cases cd : j / 8 = j % 8
    · have := hx' (j / 8) (j % 8) (by omega) (by omega) (Or.inl cd)
      rw [ej] at this
      exact ⟨fun q => absurd cd q.2.2, fun q => by rw [this]; exact hF.2.1 j hj q⟩
    · by_cases cf : fx j = true
      · have := hx' (j / 8) (j % 8) (by omega) (by omega) (Or.inr (by rw [ej]; unfold rn_fxu; rw [if_neg hne]; exact cf))
        rw [ej] at this
        rw [this]
        exact ⟨fun q => hF.1 j hj q, fun q => hF.2.1 j hj q⟩
      · have g := j1 (j / 8) (j % 8) (by omega) (by omega) cd (by rw [ej]; unfold rn_fxu; rw [if_neg hne]; simpa using cf)
        rw [ej] at g
        refine ⟨fun _ => g, fun q => ?_⟩
        have := A.2.2.1 j hj q
        omega
  have hFZ : fs_F n nu be th (fw_up x' (8 * a + b) (X (8 * a + b) - mm)) := by
    refine ⟨fun j hj q => ?_, fun j hj q => ?_, fun p hp => ?_, fun p hp => ?_⟩
    · by_cases c : j = 8 * a + b
      · subst c; rw [fw_up_at]; exact h3
      · rw [fw_up_ne c]; exact (hval j hj c).1 q
    · by_cases c : j = 8 * a + b
      · subst c; exact absurd hc q
      · rw [fw_up_ne c]; exact (hval j hj c).2 q
    · have := hZ p (by have := A.1; omega)
      omega
    · have hp8 : p < 8 := by have := A.1; omega
      refine A.2.2.2.2.2.2.2 _ p hp ?_
      have := hZ p hp8
      have := j2 p hp8
      omega
  refine ⟨⟨hFZ, fun y hy => ?_⟩, fun p hp => ?_, pi, fun e he ho => ?_⟩
  · have : fs_tot (fw_up x' (8 * a + b) (X (8 * a + b) - mm)) = fs_tot X := by
      unfold fs_tot at h2 ⊢
      rw [fw_sm_up (by omega), h2, hk]; omega
    rw [this]; exact hO y hy
  · have := hZ p hp
    unfold rn_t
    omega
  · by_cases c1 : e = 16 * a + (8 + b)
    · subst c1
      rw [rn_c_s ha hb, if_neg hab, rn_src_at (by omega), rn_dst_at (by omega)]; omega
    · by_cases c2 : e = 16 * (8 + b) + a
      · subst c2
        rw [rn_c_g ha hb, if_neg hab, rn_src_at (by omega), rn_dst_at (by omega)]; omega
      · rw [← rn_L_k ha hb hab he c1 c2 (x' := x') (be' := be) (fun j hj => (fw_up_ne hj).symm) (fun _ _ => rfl)] at ho
        exact P e he ho
/-- what a way of a shift does, be it from one end or the other -/
theorem rn_shift_way (A : rn_A n nu be th may) (T : rn_T n nu be th may fx X t) {pi : Nat → Int} (P : rn_P (rn_L be may (rn_fxu fx (8 * a + b)) X t) pi) {r v : Nat} (hv : v < 16) {root : Nat → Prop} {dist : Nat → Int} {pe : Nat → Nat} (hr16 : r < 16)
    (B : rn_B (rn_L be may (rn_fxu fx (8 * a + b)) X t) pi (- (64 * pi r)) root dist pe) (F : rn_X (rn_L be may (rn_fxu fx (8 * a + b)) X t) dist) (hroot : ∀ w, root w → w = r) (hdr : dist r ≤ 0) (hd : dist v < 1000000) {l : List Nat} (hl : fw_Ch (fun x => rn_src (pe x)) root (v :: l)) {much : Int} (hm : 0 ≤ much)
    (hmu : ∀ w ∈ v :: l, ¬ root w → much ≤ rn_L be may (rn_fxu fx (8 * a + b)) X t (pe w)) {x' t' : Nat → Int} (hL : ∀ e, e < 256 → rn_L be may (rn_fxu fx (8 * a + b)) x' t' e = fw_aug rn_rev pe much (v :: l) (rn_L be may (rn_fxu fx (8 * a + b)) X t) e)
    (hx' : ∀ i j, i < 8 → j < 8 → (i = j ∨ rn_fxu fx (8 * a + b) (8 * i + j) = true) → x' (8 * i + j) = X (8 * i + j)) :
    (∀ e, e < 256 → 0 ≤ rn_L be may (rn_fxu fx (8 * a + b)) x' t' e) ∧ (∀ p, p < 8 → fs_out x' p - t' p = fs_out X p - t p - ((if v = p then much else 0) + (if r = p then - much else 0)) ∧ fs_in x' p - t' p = fs_in X p - t p + ((if v = 8 + p then much else 0) + (if r = 8 + p then - much else 0))) ∧
    fs_tot x' = fs_tot X + much * (dist v / 64) ∧ ∃ pi', rn_P (rn_L be may (rn_fxu fx (8 * a + b)) x' t') pi' ∧ pi' v = dist v / 64 ∧ pi' r = 0 := by
  have hF := T.1.1
  have hLX : ∀ e, e < 256 → 0 ≤ rn_L be may (rn_fxu fx (8 * a + b)) X t e := fun e he => rn_L_nn (fun i j hi hj _ _ => ⟨fs_F_nn hF (by omega), fs_F_le hF A.2.1 (by omega)⟩) (fun p hp => by rw [T.2.1 p hp]; exact (rn_y A hF).2.2.2 p hp) e he
  obtain ⟨l', hl', hall⟩ := rn_chain P B hv hd
  have e := fw_Ch_uniq _ _ _ hl hl'
  subst e
  have hts : ∀ w ∈ v :: l, ¬ root w → pe w < 256 ∧ rn_dst (pe w) = w ∧ dist w / 64 = dist (rn_src (pe w)) / 64 + rn_c (pe w) := fun w hw hr => by
    obtain ⟨v1, v2⟩ := hall w hw
    obtain ⟨t1, t2, t3, t4, t5, t6⟩ := rn_tight B F v1 v2 hr
    exact ⟨t1, t3, t6⟩
  obtain ⟨a1, a2, a3, a4, _⟩ := fw_aug_ok rn_net hm l v (rn_L be may (rn_fxu fx (8 * a + b)) X t) hl (fun w hw hr => ⟨(hts w hw hr).1, (hts w hw hr).2.1, hmu w hw hr⟩) hLX
  have hlast : fw_last v l = r := hroot _ (fw_last_root l _ hl)
  rw [hlast] at a3
  have hd0 : dist r = 0 := by
    have : - (64 * pi r) ≤ dist r - 64 * pi r := B.2.1 r hr16 (by omega)
    omega
  have hdiag : ∀ p, p < 8 → X (8 * p + p) = 0 := fun p hp => hF.2.1 _ (by omega) (by rw [fs_cp_at hp]; omega)
  have hDD : ∀ w, fw_D 256 rn_src (rn_L be may (rn_fxu fx (8 * a + b)) x' t') w = fw_D 256 rn_src (rn_L be may (rn_fxu fx (8 * a + b)) X t) w + (if v = w then much else 0) + (if r = w then - much else 0) := fun w => by rw [fw_D_congr hL, a3]
  refine ⟨fun e he => by rw [hL e he]; exact a1 e he, fun p hp => ?_, ?_, ?_⟩
  · obtain ⟨g1, g2⟩ := rn_D_eq (be := be) (may := may) (fx := rn_fxu fx (8 * a + b)) (x := X) (t := t) (x' := x') (t' := t') (fun i j hi hj c => (hx' i j hi hj c).symm) hdiag hp
    have c1 := hDD p
    have c2 := hDD (8 + p)
    omega
  · have hcost := fw_aug_cost rn_net (root := root) (pe := pe) (c := rn_c) rn_c_rev (fun w => dist w / 64) (much := much) l v (rn_L be may (rn_fxu fx (8 * a + b)) X t) hl hts
    rw [hlast, hd0] at hcost
    rw [← fw_sm_congr (f := fun e => rn_c e * rn_L be may (rn_fxu fx (8 * a + b)) x' t' e) (fun e he => by rw [hL e he]), rn_cost, rn_cost] at hcost
    have := rn_cost_diff (be := be) (fx := rn_fxu fx (8 * a + b)) (x := x') (y := X) hx'
    have e0 : (0 : Int) / 64 = 0 := rfl
    rw [e0, Int.sub_zero] at hcost
    omega
  · obtain ⟨pi', p1, p2, _⟩ := rn_price P B F 0
    refine ⟨pi', fun e he ho => ?_, p2 v hv hd, by rw [p2 r hr16 (by omega), hd0]; rfl⟩
    rw [hL e he] at ho
    exact rn_price_aug P B F p1 p2 (L' := fw_aug rn_rev pe much (v :: l) (rn_L be may (rn_fxu fx (8 * a + b)) X t)) hall (fun e he => a4 e he) e he ho
theorem rn_shift_lo (A : rn_A n nu be th may) (T : rn_T n nu be th may fx X t) (ha : a < 8) (hb : b < 8) (hc : fs_cp n (8 * a + b)) {pi : Nat → Int} (P : rn_P (rn_L be may (rn_fxu fx (8 * a + b)) X t) pi) {root : Nat → Prop} {dist : Nat → Int} {pe : Nat → Nat}
    (B : rn_B (rn_L be may (rn_fxu fx (8 * a + b)) X t) pi (- (64 * pi a)) root dist pe) (F : rn_X (rn_L be may (rn_fxu fx (8 * a + b)) X t) dist) (hroot : ∀ w, root w → w = a) (hdr : dist a ≤ 0) (hd : dist (8 + b) < 1000000) (hd1 : dist (8 + b) / 64 = 1) {l : List Nat} (hl : fw_Ch (fun x => rn_src (pe x)) root ((8 + b) :: l)) {much : Int} (hm : 0 ≤ much) (hmk : much ≤ X (8 * a + b))
    (hmu : ∀ w ∈ (8 + b) :: l, ¬ root w → much ≤ rn_L be may (rn_fxu fx (8 * a + b)) X t (pe w)) {x' t' : Nat → Int} (hL : ∀ e, e < 256 → rn_L be may (rn_fxu fx (8 * a + b)) x' t' e = fw_aug rn_rev pe much ((8 + b) :: l) (rn_L be may (rn_fxu fx (8 * a + b)) X t) e)
    (hx' : ∀ i j, i < 8 → j < 8 → (i = j ∨ rn_fxu fx (8 * a + b) (8 * i + j) = true) → x' (8 * i + j) = X (8 * i + j)) : rn_T n nu be th may fx (fw_up x' (8 * a + b) (X (8 * a + b) - much)) t' := by
  obtain ⟨w1, w2, w3, pi', w4, w5, w6⟩ := rn_shift_way A T P (show 8 + b < 16 by omega) (show a < 16 by omega) B F hroot hdr hd hl hm hmu hL hx'
  have hk := T.1.1.1 _ (by omega) hc
  refine rn_shift_core A T ha hb hc hx' w1 (fun p hp => ?_) (by rw [w3, hd1]; omega) ⟨by omega, by omega⟩ w4 (by rw [w5, w6, hd1]; rfl)
  have g := w2 p hp
  rw [if_neg (show ¬ 8 + b = p by omega), if_neg (show ¬ a = 8 + p by omega)] at g
  by_cases c1 : p = a
  · rw [if_pos c1.symm] at g
    rw [if_pos c1]
    by_cases c2 : p = b
    · rw [if_pos (by omega)] at g; rw [if_pos c2]; omega
    · rw [if_neg (by omega)] at g; rw [if_neg c2]; omega
  · rw [if_neg (fun q => c1 q.symm)] at g
    rw [if_neg c1]
    by_cases c2 : p = b
    · rw [if_pos (by omega)] at g; rw [if_pos c2]; omega
    · rw [if_neg (by omega)] at g; rw [if_neg c2]; omega
theorem rn_shift_hi (A : rn_A n nu be th may) (T : rn_T n nu be th may fx X t) (ha : a < 8) (hb : b < 8) (hc : fs_cp n (8 * a + b)) {pi : Nat → Int} (P : rn_P (rn_L be may (rn_fxu fx (8 * a + b)) X t) pi) {root : Nat → Prop} {dist : Nat → Int} {pe : Nat → Nat}
    (B : rn_B (rn_L be may (rn_fxu fx (8 * a + b)) X t) pi (- (64 * pi (8 + b))) root dist pe) (F : rn_X (rn_L be may (rn_fxu fx (8 * a + b)) X t) dist) (hroot : ∀ w, root w → w = 8 + b) (hdr : dist (8 + b) ≤ 0) (hd : dist a < 1000000) (hd1 : dist a / 64 = -1) {l : List Nat} (hl : fw_Ch (fun x => rn_src (pe x)) root (a :: l)) {much : Int} (hm : 0 ≤ much) (hmk : much ≤ be (8 * a + b) - X (8 * a + b))
    (hmu : ∀ w ∈ a :: l, ¬ root w → much ≤ rn_L be may (rn_fxu fx (8 * a + b)) X t (pe w)) {x' t' : Nat → Int} (hL : ∀ e, e < 256 → rn_L be may (rn_fxu fx (8 * a + b)) x' t' e = fw_aug rn_rev pe much (a :: l) (rn_L be may (rn_fxu fx (8 * a + b)) X t) e)
    (hx' : ∀ i j, i < 8 → j < 8 → (i = j ∨ rn_fxu fx (8 * a + b) (8 * i + j) = true) → x' (8 * i + j) = X (8 * i + j)) : rn_T n nu be th may fx (fw_up x' (8 * a + b) (X (8 * a + b) + much)) t' := by
  obtain ⟨w1, w2, w3, pi', w4, w5, w6⟩ := rn_shift_way A T P (show a < 16 by omega) (show 8 + b < 16 by omega) B F hroot hdr hd hl hm hmu hL hx'
  have hk := T.1.1.1 _ (by omega) hc
  have := rn_shift_core (mm := - much) A T ha hb hc hx' w1 (fun p hp => by
    have g := w2 p hp
    rw [if_neg (show ¬ 8 + b = p by omega), if_neg (show ¬ a = 8 + p by omega)] at g
    by_cases c1 : p = a
    · rw [if_pos c1.symm] at g
      rw [if_pos c1]
      by_cases c2 : p = b
      · rw [if_pos (by omega)] at g; rw [if_pos c2]; omega
      · rw [if_neg (by omega)] at g; rw [if_neg c2]; omega
    · rw [if_neg (fun q => c1 q.symm)] at g
      rw [if_neg c1]
      by_cases c2 : p = b
      · rw [if_pos (by omega)] at g; rw [if_pos c2]; omega
      · rw [if_neg (by omega)] at g; rw [if_neg c2]; omega) (by rw [w3, hd1]; omega) ⟨by omega, by omega⟩ w4 (by rw [w5, w6, hd1]; rfl)
  rwa [Int.sub_neg] at this
end
