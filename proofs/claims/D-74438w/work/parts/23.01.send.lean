set_option maxRecDepth 100000
/-! What a step of the reference's sending does to what is left -/
section
variable (be may : Nat → Int) (fx : Nat → Bool) (x t : Nat → Int) {a b : Nat} (ha : a < 8) (hb : b < 8) (much : Int)
theorem rn_rev_s (ha : a < 8) (hb : b < 8) : rn_rev (16 * a + (8 + b)) = 16 * (8 + b) + a := rn_rev_at (by omega) (by omega)
theorem rn_rev_g (ha : a < 8) (hb : b < 8) : rn_rev (16 * (8 + b) + a) = 16 * a + (8 + b) := rn_rev_at (by omega) (by omega)
theorem rn_send_x (ha : a < 8) (hb : b < 8) (hab : a ≠ b) (hf : fx (8 * a + b) = false) (v : Int) (k : Nat) (hk : k < 256) : rn_L be may fx (fw_up x (8 * a + b) v) t k = rn_L be may fx x t k + (if k = 16 * a + (8 + b) then x (8 * a + b) - v else 0) + (if k = 16 * (8 + b) + a then v - x (8 * a + b) else 0) := by
  rcases rn_cases k hk with ⟨p, q, hp, hq, hpq, rfl⟩ | ⟨c, d, hc, hd, rfl⟩ | ⟨c, d, hc, hd, rfl⟩
  · rw [rn_L_0 _ _ _ _ _ hq hpq, rn_L_0 _ _ _ _ _ hq hpq, if_neg (by omega), if_neg (by omega)]; rfl
  · rw [rn_L_s _ _ _ _ _ hc hd, rn_L_s _ _ _ _ _ hc hd, if_neg (show ¬ 16 * c + (8 + d) = 16 * (8 + b) + a by omega)]
    by_cases e : c = d
    · rw [if_pos e, if_pos e, if_neg (by omega)]; omega
    · rw [if_neg e, if_neg e]
      by_cases e2 : 8 * c + d = 8 * a + b
      · rw [e2, fw_up_at, if_neg (by simp [hf]), if_neg (by simp [hf]), if_pos (by omega)]; omega
      · rw [fw_up_ne e2, if_neg (show ¬ 16 * c + (8 + d) = 16 * a + (8 + b) by omega)]; omega
  · rw [rn_L_g _ _ _ _ _ hc hd, rn_L_g _ _ _ _ _ hc hd, if_neg (show ¬ 16 * (8 + d) + c = 16 * a + (8 + b) by omega)]
    by_cases e : c = d
    · rw [if_pos e, if_pos e, if_neg (by omega)]; omega
    · rw [if_neg e, if_neg e]
      by_cases e2 : 8 * c + d = 8 * a + b
      · rw [e2, fw_up_at, if_neg (by simp [hf]), if_neg (by simp [hf]), if_pos (by omega)]; omega
      · rw [fw_up_ne e2, if_neg (show ¬ 16 * (8 + d) + c = 16 * (8 + b) + a by omega)]; omega
theorem rn_send_t (ha : a < 8) (v : Int) (k : Nat) (hk : k < 256) : rn_L be may fx x (fw_up t a v) k = rn_L be may fx x t k + (if k = 16 * a + (8 + a) then v - t a else 0) + (if k = 16 * (8 + a) + a then t a - v else 0) := by
  rcases rn_cases k hk with ⟨p, q, hp, hq, hpq, rfl⟩ | ⟨c, d, hc, hd, rfl⟩ | ⟨c, d, hc, hd, rfl⟩
  · rw [rn_L_0 _ _ _ _ _ hq hpq, rn_L_0 _ _ _ _ _ hq hpq, if_neg (show ¬ 16 * p + q = 16 * a + (8 + a) from fun z => by
      have : p = a := by omega
      omega), if_neg (show ¬ 16 * p + q = 16 * (8 + a) + a from fun z => by
      have : p = 8 + a := by omega
      omega)]; rfl
  · rw [rn_L_s _ _ _ _ _ hc hd, rn_L_s _ _ _ _ _ hc hd, if_neg (show ¬ 16 * c + (8 + d) = 16 * (8 + a) + a by omega)]
    by_cases e : c = d
    · rw [if_pos e, if_pos e]
      by_cases e2 : c = a
      · subst e2; rw [fw_up_at, if_pos (by omega)]; omega
      · rw [fw_up_ne e2, if_neg (by omega)]; omega
    · rw [if_neg e, if_neg e, if_neg (show ¬ 16 * c + (8 + d) = 16 * a + (8 + a) from fun z => by
        have : c = a := by omega
        omega)]; omega
  · rw [rn_L_g _ _ _ _ _ hc hd, rn_L_g _ _ _ _ _ hc hd, if_neg (show ¬ 16 * (8 + d) + c = 16 * a + (8 + a) by omega)]
    by_cases e : c = d
    · rw [if_pos e, if_pos e]
      by_cases e2 : c = a
      · subst e2; rw [fw_up_at, if_pos (by omega)]; omega
      · rw [fw_up_ne e2, if_neg (by omega)]; omega
    · rw [if_neg e, if_neg e, if_neg (show ¬ 16 * (8 + d) + c = 16 * (8 + a) + a from fun z => by
        have : c = a := by omega
        omega)]; omega
end
/-- one step along an arc -/
theorem rn_send {be may : Nat → Int} {fx : Nat → Bool} {x0 t0 : Nat → Int} (x t : Nat → Int) {e : Nat} (he : e < 256) (ho : 0 < rn_L be may fx x0 t0 e) (much : Int) : (∃ a b, a < 8 ∧ b < 8 ∧ a ≠ b ∧ fx (8 * a + b) = false ∧ e = 16 * a + (8 + b) ∧ ∀ k, k < 256 → rn_L be may fx (fw_up x (8 * a + b) (x (8 * a + b) + much)) t k = fw_st rn_rev (rn_L be may fx x t) e much k) ∨
    (∃ a b, a < 8 ∧ b < 8 ∧ a ≠ b ∧ fx (8 * a + b) = false ∧ e = 16 * (8 + b) + a ∧ ∀ k, k < 256 → rn_L be may fx (fw_up x (8 * a + b) (x (8 * a + b) - much)) t k = fw_st rn_rev (rn_L be may fx x t) e much k) ∨
    (∃ a, a < 8 ∧ e = 16 * a + (8 + a) ∧ ∀ k, k < 256 → rn_L be may fx x (fw_up t a (t a - much)) k = fw_st rn_rev (rn_L be may fx x t) e much k) ∨
    (∃ a, a < 8 ∧ e = 16 * (8 + a) + a ∧ ∀ k, k < 256 → rn_L be may fx x (fw_up t a (t a + much)) k = fw_st rn_rev (rn_L be may fx x t) e much k) := by
  rcases rn_cases e he with ⟨p, q, hp, hq, hpq, rfl⟩ | ⟨a, b, ha, hb, rfl⟩ | ⟨a, b, ha, hb, rfl⟩
  · rw [rn_L_0 _ _ _ _ _ hq hpq] at ho; omega
  · by_cases c : a = b
    · subst c
      refine Or.inr (Or.inr (Or.inl ⟨a, ha, rfl, fun k hk => ?_⟩))
      rw [rn_send_t be may fx x t ha _ k hk, fw_st_at (by rw [rn_rev_s ha ha]; omega), rn_rev_s ha ha]
      split <;> split <;> omega
    · have hf : fx (8 * a + b) = false := by
        rw [rn_L_s _ _ _ _ _ ha hb, if_neg c] at ho
        by_cases c2 : fx (8 * a + b) = true
        · rw [if_pos c2] at ho; omega
        · simpa using c2
      refine Or.inl ⟨a, b, ha, hb, c, hf, rfl, fun k hk => ?_⟩
      rw [rn_send_x be may fx x t ha hb c hf _ k hk, fw_st_at (by rw [rn_rev_s ha hb]; omega), rn_rev_s ha hb]
      split <;> split <;> omega
  · by_cases c : a = b
    · subst c
      refine Or.inr (Or.inr (Or.inr ⟨a, ha, rfl, fun k hk => ?_⟩))
      rw [rn_send_t be may fx x t ha _ k hk, fw_st_at (by rw [rn_rev_g ha ha]; omega), rn_rev_g ha ha]
      split <;> split <;> omega
    · have hf : fx (8 * a + b) = false := by
        rw [rn_L_g _ _ _ _ _ ha hb, if_neg c] at ho
        by_cases c2 : fx (8 * a + b) = true
        · rw [if_pos c2] at ho; omega
        · simpa using c2
      refine Or.inr (Or.inl ⟨a, b, ha, hb, c, hf, rfl, fun k hk => ?_⟩)
      rw [rn_send_x be may fx x t ha hb c hf _ k hk, fw_st_at (by rw [rn_rev_g ha hb]; omega), rn_rev_g ha hb]
      split <;> split <;> omega
/-- numbers of nodes on chains aren't too low -/
theorem fw_B_low {N m : Nat} {src dst : Nat → Nat} {ok : Nat → Prop} {w pi : Nat → Int} {FAR lb : Int} {root : Nat → Prop} {dist : Nat → Int} {pe : Nat → Nat} (B : fw_B N m src dst ok w pi FAR lb root dist pe) {wm : Int} (hw0 : 0 ≤ wm) (hw : ∀ e, e < m → - wm ≤ w e) {v : Nat} (hv : v < N) (h : dist v < FAR) : - (wm * N) ≤ dist v := by
  have key : ∀ (l : List Nat) (v : Nat), v < N → dist v < FAR → fw_Ch (fun x => src (pe x)) root (v :: l) → (∀ x ∈ v :: l, x < N) ∧ - (wm * l.length) ≤ dist v := by
    intro l
    induction l with
    | nil =>
      intro v hv h hc
      rcases B.2.2.1 v hv h with h1 | h1
      · exact ⟨fun x hx => (List.mem_cons.mp hx).elim (fun z => z ▸ hv) (fun q => by cases q), by simp [h1.2]⟩
      · exact absurd hc h1.1
    | cons u l ih =>
      intro v hv h hc
      rcases B.2.2.1 v hv h with h1 | ⟨g1, g2, g3, g4, g5, g6, g7⟩
      · exact absurd h1.1 hc.1
      · have hu : src (pe v) = u := hc.2.1
        subst hu
        obtain ⟨k1, k2⟩ := ih _ g5 g6 hc.2.2
        refine ⟨fun x hx => (List.mem_cons.mp hx).elim (fun z => z ▸ hv) (fun q => k1 x q), ?_⟩
        have := hw _ g2
        simp only [List.length_cons, Int.natCast_add, Int.mul_add]
        omega
  obtain ⟨l, hl⟩ := B.2.2.2 v hv h
  obtain ⟨k1, k2⟩ := key l v hv h hl
  have k3 := fw_pigeon N (v :: l) (fw_Ch_nodup _ hl) k1
  have k4 : (l.length : Int) ≤ N := by simp only [List.length_cons] at k3; omega
  have := Int.mul_le_mul_of_nonneg_left k4 hw0
  omega
