set_option maxRecDepth 100000
/-! The reference presses -/
def rn_no : Nat → Bool := fun _ => false
def rn_I (nu be may x t nd : Nat → Int) : Prop := (∀ e, e < 256 → 0 ≤ rn_L be may rn_no x t e) ∧ (∀ p, p < 8 → x (8 * p + p) = 0) ∧
  (∀ p, p < 8 → fs_out x p - t p = max (nu p) 0 - max (nd p) 0 ∧ fs_in x p - t p = max (- nu p) 0 - max (- nd p) 0) ∧
  (∀ p, p < 8 → (0 ≤ nd p ∧ nd p ≤ nu p) ∨ (nu p ≤ nd p ∧ nd p ≤ 0)) ∧ fw_sm 8 nd = 0 ∧ ∃ pi, rn_P (rn_L be may rn_no x t) pi
theorem rn_L_cap (be may : Nat → Int) (fx : Nat → Bool) (x t x' t' : Nat → Int) (e : Nat) (he : e < 256) : rn_L be may fx x t e + rn_L be may fx x t (rn_rev e) = rn_L be may fx x' t' e + rn_L be may fx x' t' (rn_rev e) := by
  rcases rn_cases e he with ⟨p, q, hp, hq, hpq, rfl⟩ | ⟨a, b, ha, hb, rfl⟩ | ⟨a, b, ha, hb, rfl⟩
  · rw [rn_rev_at hp hq, rn_L_0 _ _ _ _ _ hq hpq, rn_L_0 _ _ _ _ _ hp hpq.symm, rn_L_0 _ _ _ _ _ hq hpq, rn_L_0 _ _ _ _ _ hp hpq.symm]
  · rw [rn_rev_at (by omega) (by omega), rn_L_s _ _ _ _ _ ha hb, rn_L_g _ _ _ _ _ ha hb, rn_L_s _ _ _ _ _ ha hb, rn_L_g _ _ _ _ _ ha hb]
    by_cases c : a = b
    · simp only [c, if_true]; omega
    · simp only [c, if_false]; split <;> omega
  · rw [rn_rev_at (by omega) (by omega), rn_L_s _ _ _ _ _ ha hb, rn_L_g _ _ _ _ _ ha hb, rn_L_s _ _ _ _ _ ha hb, rn_L_g _ _ _ _ _ ha hb]
    by_cases c : a = b
    · simp only [c, if_true]; omega
    · simp only [c, if_false]; split <;> omega
theorem rn_L_nn {be may : Nat → Int} {fx : Nat → Bool} {x t : Nat → Int} (hx : ∀ a b, a < 8 → b < 8 → a ≠ b → fx (8 * a + b) = false → 0 ≤ x (8 * a + b) ∧ x (8 * a + b) ≤ be (8 * a + b)) (ht : ∀ p, p < 8 → 0 ≤ t p ∧ t p ≤ may p) (e : Nat) (he : e < 256) : 0 ≤ rn_L be may fx x t e := by
  rcases rn_cases e he with ⟨p, q, hp, hq, hpq, rfl⟩ | ⟨a, b, ha, hb, rfl⟩ | ⟨a, b, ha, hb, rfl⟩
  · rw [rn_L_0 _ _ _ _ _ hq hpq]; exact Int.le_refl _
  · rw [rn_L_s _ _ _ _ _ ha hb]
    by_cases c : a = b
    · rw [if_pos c]; exact (ht a ha).1
    · rw [if_neg c]
      by_cases c2 : fx (8 * a + b) = true
      · rw [if_pos c2]; exact Int.le_refl _
      · rw [if_neg c2]; have := hx a b ha hb c (by simpa using c2); omega
  · rw [rn_L_g _ _ _ _ _ ha hb]
    by_cases c : a = b
    · rw [if_pos c]; have := (ht a ha).2; omega
    · rw [if_neg c]
      by_cases c2 : fx (8 * a + b) = true
      · rw [if_pos c2]; exact Int.le_refl _
      · rw [if_neg c2]; have := hx a b ha hb c (by simpa using c2); omega
theorem rn_L_nn' {be may : Nat → Int} {fx : Nat → Bool} {x t : Nat → Int} (h : ∀ e, e < 256 → 0 ≤ rn_L be may fx x t e) : (∀ a b, a < 8 → b < 8 → a ≠ b → fx (8 * a + b) = false → 0 ≤ x (8 * a + b) ∧ x (8 * a + b) ≤ be (8 * a + b)) ∧ (∀ p, p < 8 → 0 ≤ t p ∧ t p ≤ may p) := by
  refine ⟨fun a b ha hb c c2 => ?_, fun p hp => ?_⟩
  · have h1 := h (16 * a + (8 + b)) (by omega)
    have h2 := h (16 * (8 + b) + a) (by omega)
    rw [rn_L_s _ _ _ _ _ ha hb, if_neg c, if_neg (by simp [c2])] at h1
    rw [rn_L_g _ _ _ _ _ ha hb, if_neg c, if_neg (by simp [c2])] at h2
    omega
  · have h1 := h (16 * p + (8 + p)) (by omega)
    have h2 := h (16 * (8 + p) + p) (by omega)
    rw [rn_L_s _ _ _ _ _ hp hp, if_pos rfl] at h1
    rw [rn_L_g _ _ _ _ _ hp hp, if_pos rfl] at h2
    omega
theorem rn_I0 {nu be may : Nat → Int} (hb : ∀ k, k < 64 → 0 ≤ be k) (hm : ∀ p, p < 8 → 0 ≤ may p) (hs : fw_sm 8 nu = 0) : rn_I nu be may (fun _ => 0) (fun _ => 0) nu := by
  refine ⟨fun e he => rn_L_nn (fun a b ha hb' _ _ => ⟨Int.le_refl _, hb _ (by omega)⟩) (fun p hp => ⟨Int.le_refl _, hm p hp⟩) e he, fun p _ => rfl, fun p _ => ?_, fun p _ => by omega, hs, fun _ => 0, fun e he ho => ?_⟩
  · unfold fs_out fs_in; rw [fw_sm_zero]; dsimp only; omega
  · rcases rn_cases e he with ⟨p, q, hp, hq, hpq, rfl⟩ | ⟨a, b, ha, hb, rfl⟩ | ⟨a, b, ha, hb, rfl⟩
    · rw [rn_L_0 _ _ _ _ _ hq hpq] at ho; omega
    · rw [rn_c_s ha hb]; dsimp only; split <;> omega
    · rw [rn_L_g _ _ _ _ _ ha hb] at ho
      rw [rn_c_g ha hb]
      dsimp only
      by_cases c : a = b
      · rw [if_pos c]; omega
      · rw [if_neg c, if_neg (by simp [rn_no])] at ho; omega
/-- how the sums by nodes tell what goes -/
theorem rn_D_eq {be may : Nat → Int} {fx : Nat → Bool} {x t x' t' : Nat → Int} (hf : ∀ a b, a < 8 → b < 8 → (a = b ∨ fx (8 * a + b) = true) → x (8 * a + b) = x' (8 * a + b)) (hd : ∀ p, p < 8 → x (8 * p + p) = 0) {p : Nat} (hp : p < 8) :
    fw_D 256 rn_src (rn_L be may fx x t) p + (fs_out x p - t p) = fw_D 256 rn_src (rn_L be may fx x' t') p + (fs_out x' p - t' p) ∧ fw_D 256 rn_src (rn_L be may fx x t) (8 + p) - (fs_in x p - t p) = fw_D 256 rn_src (rn_L be may fx x' t') (8 + p) - (fs_in x' p - t' p) := by
  have hd' : x' (8 * p + p) = 0 := by rw [← hf p p hp hp (Or.inl rfl)]; exact hd p hp
  rw [rn_D_s _ _ _ _ _ hp (hd p hp), rn_D_s _ _ _ _ _ hp hd', rn_D_g _ _ _ _ _ hp (hd p hp), rn_D_g _ _ _ _ _ hp hd']
  have e1 : fw_sm 8 (fun b => if p = b ∨ fx (8 * p + b) then x (8 * p + b) else be (8 * p + b)) = fw_sm 8 (fun b => if p = b ∨ fx (8 * p + b) then x' (8 * p + b) else be (8 * p + b)) := fw_sm_congr (fun b hb => by
    by_cases c : p = b ∨ fx (8 * p + b) = true
    · rw [if_pos c, if_pos c, hf p b hp hb c]
    · rw [if_neg c, if_neg c])
  have e2 : fw_sm 8 (fun a => if a = p ∨ fx (8 * a + p) then x (8 * a + p) else 0) = fw_sm 8 (fun a => if a = p ∨ fx (8 * a + p) then x' (8 * a + p) else 0) := fw_sm_congr (fun a ha => by
    by_cases c : a = p ∨ fx (8 * a + p) = true
    · rw [if_pos c, if_pos c, hf a p ha hp c]
    · rw [if_neg c, if_neg c])
  rw [e1, e2]
  omega
theorem fw_D_congr {m : Nat} {src : Nat → Nat} {L L' : Nat → Int} (h : ∀ e, e < m → L e = L' e) (v : Nat) : fw_D m src L v = fw_D m src L' v := fw_sm_congr (fun e he => by rw [h e he])
theorem fw_sm_8 (f : Nat → Int) : fw_sm 8 f = f 0 + f 1 + f 2 + f 3 + f 4 + f 5 + f 6 + f 7 := by simp only [fw_sm]; omega
/-- one way more -/
theorem rn_I_step {nu be may x t nd : Nat → Int} (I : rn_I nu be may x t nd) {pi : Nat → Int} (P : rn_P (rn_L be may rn_no x t) pi) {lb : Int} {root : Nat → Prop} {dist : Nat → Int} {pe : Nat → Nat} (B : rn_B (rn_L be may rn_no x t) pi lb root dist pe) (F : rn_X (rn_L be may rn_no x t) dist)
    (hroot : ∀ v, root v → v < 8 ∧ 0 < nd v) {to : Nat} (hto : to < 8) (hnd : nd to < 0) (hd : dist (8 + to) < 1000000) {l : List Nat} (hl : fw_Ch (fun x => rn_src (pe x)) root ((8 + to) :: l)) {much : Int} (hm : 0 ≤ much) (hmu : ∀ v ∈ (8 + to) :: l, ¬ root v → much ≤ rn_L be may rn_no x t (pe v))
    (h1 : much ≤ nd (fw_last (8 + to) l)) (h2 : much ≤ - nd to) {x' t' nd' : Nat → Int} (hL : ∀ e, e < 256 → rn_L be may rn_no x' t' e = fw_aug rn_rev pe much ((8 + to) :: l) (rn_L be may rn_no x t) e) (hx' : ∀ p, p < 8 → x' (8 * p + p) = 0)
    (hnd' : ∀ p, p < 8 → nd' p = if p = fw_last (8 + to) l then nd p - much else if p = to then nd p + much else nd p) : rn_I nu be may x' t' nd' := by
  obtain ⟨i1, i2, i3, i4, i5, _⟩ := I
  obtain ⟨l', hl', hall⟩ := rn_chain P B (show 8 + to < 16 by omega) hd
  have e := fw_Ch_uniq _ _ _ hl hl'
  subst e
  obtain ⟨a1, a2, a3, a4, _⟩ := fw_aug_ok rn_net hm l (8 + to) (rn_L be may rn_no x t) hl (fun v hv hr => by
    obtain ⟨v1, v2⟩ := hall v hv
    obtain ⟨t1, t2, t3, t4, t5, t6⟩ := rn_tight B F v1 v2 hr
    exact ⟨t1, t3, hmu v hv hr⟩) i1
  obtain ⟨s1, s2⟩ := hroot _ (fw_last_root l _ hl)
  have hne : fw_last (8 + to) l ≠ to := fun q => by rw [q] at s2; omega
  generalize hsv : fw_last (8 + to) l = s at *
  have hDD : ∀ v, fw_D 256 rn_src (rn_L be may rn_no x' t') v = fw_D 256 rn_src (rn_L be may rn_no x t) v + (if 8 + to = v then much else 0) + (if s = v then - much else 0) := fun v => by
    rw [fw_D_congr hL, a3]
  refine ⟨fun e he => by rw [hL e he]; exact a1 e he, hx', fun p hp => ?_, fun p hp => ?_, ?_, ?_⟩
  · obtain ⟨b1, b2⟩ := rn_D_eq (be := be) (may := may) (fx := rn_no) (x := x) (t := t) (x' := x') (t' := t') (fun a b ha hb c => by
      rcases c with c | c
      · subst c; rw [i2 a ha, hx' a ha]
      · cases c) i2 hp
    have c1 := hDD p
    have c2 := hDD (8 + p)
    rw [if_neg (by omega)] at c1
    rw [if_neg (show ¬ s = 8 + p by omega)] at c2
    have b3 := i3 p hp
    have b4 := i4 p hp
    rw [hnd' p hp]
    by_cases d1 : s = p
    · rw [if_pos d1] at c1
      subst d1
      rw [if_pos rfl]
      rw [if_neg (by omega)] at c2
      omega
    · rw [if_neg d1] at c1
      rw [if_neg (fun q => d1 q.symm)]
      by_cases d2 : p = to
      · subst d2
        rw [if_pos rfl] at c2
        rw [if_pos rfl]
        omega
      · rw [if_neg (by omega)] at c2
        rw [if_neg d2]
        omega
  · have b4 := i4 p hp
    rw [hnd' p hp]
    by_cases d1 : p = s
    · subst d1; rw [if_pos rfl]; omega
    · rw [if_neg d1]
      by_cases d2 : p = to
      · subst d2; rw [if_pos rfl]; omega
      · rw [if_neg d2]; exact b4
  · have : fw_sm 8 nd' = fw_sm 8 (fun p => (nd p + (if p = s then - much else 0)) + (if p = to then much else 0)) := fw_sm_congr (fun p hp => by
      rw [hnd' p hp]
      by_cases d1 : p = s
      · subst d1; rw [if_pos rfl, if_pos rfl, if_neg hne]; omega
      · rw [if_neg d1, if_neg d1]
        by_cases d2 : p = to
        · rw [if_pos d2, if_pos d2]; omega
        · rw [if_neg d2, if_neg d2]; omega)
    rw [this, fw_sm_add, fw_sm_add, fw_sm_one s1 (fun _ => - much), fw_sm_one hto (fun _ => much), i5]
    omega
  · obtain ⟨pi', p1, p2, _⟩ := rn_price P B F 0
    refine ⟨pi', ?_⟩
    have := rn_price_aug P B F p1 p2 (L' := fw_aug rn_rev pe much ((8 + to) :: l) (rn_L be may rn_no x t)) hall (fun e he => a4 e he)
    intro e he ho
    rw [hL e he] at ho
    exact this e he ho
