set_option maxRecDepth 100000
/-! The reference's ways of least cost, of like ones of the fewest steps -/
def rn_w (e : Nat) : Int := 64 * rn_c e + 1
def rn_P (L pi : Nat → Int) : Prop := ∀ e, e < 256 → 0 < L e → 0 ≤ rn_c e + pi (rn_src e) - pi (rn_dst e)
def rn_B (L pi : Nat → Int) (lb : Int) (root : Nat → Prop) (dist : Nat → Int) (pe : Nat → Nat) : Prop := fw_B 16 256 rn_src rn_dst (fun e => 0 < L e) rn_w (fun v => 64 * pi v) 1000000 lb root dist pe
def rn_X (L : Nat → Int) (dist : Nat → Int) : Prop := fw_Fix 256 rn_src rn_dst (fun e => 0 < L e) rn_w 1000000 dist
theorem rn_pot {L pi : Nat → Int} (h : rn_P L pi) : fw_Pot 256 rn_src rn_dst (fun e => 0 < L e) rn_w (fun v => 64 * pi v) := by
  intro e he ho
  have := h e he ho
  show 0 ≤ (64 * rn_c e + 1) + 64 * pi (rn_src e) - 64 * pi (rn_dst e)
  omega
theorem rn_bnd (N : Nat) (f g : Nat → Int) : ∃ M : Int, ∀ u v, u < N → v < N → f v - g u ≤ M := by
  obtain ⟨G, hG, _⟩ := fw_floor N g 0
  obtain ⟨F, hF, _⟩ := fw_floor N (fun v => - f v) 0
  exact ⟨- F - G, fun u v hu hv => by have := hG u hu; have := hF v hv; omega⟩
section
variable {L pi : Nat → Int} {lb : Int} {root : Nat → Prop} {dist : Nat → Int} {pe : Nat → Nat}
/-- a number: its cost by 64, its steps -/
theorem rn_dec (B : rn_B L pi lb root dist pe) (F : rn_X L dist) {v : Nat} (hv : v < 16) (h : dist v < 1000000) : ∃ j : Int, 0 ≤ j ∧ j < 16 ∧ dist v = 64 * (dist v / 64) + j ∧ -16 < dist v / 64 ∧ dist v / 64 < 16 := by
  obtain ⟨i, j, k, h1, h2, h3, h4, h5, h6⟩ := fw_fix_dec B F (W := 64) (c := rn_c) (dl := fun _ => 1) (lo := 1) (hi := 1) (fun e _ => rfl) (fun e _ => rn_c_1 e) (fun e _ => ⟨Int.le_refl _, Int.le_refl _⟩) v hv h
  refine ⟨j, by omega, by omega, by omega, by omega, by omega⟩
theorem rn_closed (B : rn_B L pi lb root dist pe) (F : rn_X L dist) {e : Nat} (he : e < 256) (ho : 0 < L e) (h : dist (rn_src e) < 1000000) : dist (rn_dst e) < 1000000 ∧ dist (rn_dst e) / 64 ≤ dist (rn_src e) / 64 + rn_c e := by
  have h1 := F e he ho h
  obtain ⟨j, a1, a2, a3, a4, a5⟩ := rn_dec B F (rn_net e he).1 h
  have hc := rn_c_1 e
  unfold rn_w at h1
  have h2 : dist (rn_dst e) < 1000000 := by omega
  obtain ⟨j', b1, b2, b3, b4, b5⟩ := rn_dec B F (rn_net e he).2.1 h2
  exact ⟨h2, by omega⟩
theorem rn_tight (B : rn_B L pi lb root dist pe) (F : rn_X L dist) {v : Nat} (hv : v < 16) (h : dist v < 1000000) (hr : ¬ root v) : pe v < 256 ∧ 0 < L (pe v) ∧ rn_dst (pe v) = v ∧ rn_src (pe v) < 16 ∧ dist (rn_src (pe v)) < 1000000 ∧ dist v / 64 = dist (rn_src (pe v)) / 64 + rn_c (pe v) := by
  rcases B.2.2.1 v hv h with h1 | ⟨_, g2, g3, g4, g5, g6, g7⟩
  · exact absurd h1.1 hr
  · refine ⟨g2, g3, g4, g5, g6, ?_⟩
    have h1 := F (pe v) g2 g3 g6
    rw [g4] at h1
    obtain ⟨j, a1, a2, a3, a4, a5⟩ := rn_dec B F g5 g6
    obtain ⟨j', b1, b2, b3, b4, b5⟩ := rn_dec B F hv h
    unfold rn_w at g7 h1
    omega
/-- new prices: the costs of the ways; where none leads they are as high as one likes -/
theorem rn_price (P : rn_P L pi) (B : rn_B L pi lb root dist pe) (F : rn_X L dist) (K : Int) : ∃ pi' : Nat → Int, rn_P L pi' ∧ (∀ v, v < 16 → dist v < 1000000 → pi' v = dist v / 64) ∧ (∀ v, v < 16 → ¬ dist v < 1000000 → K ≤ pi' v) := by
  obtain ⟨M, hM⟩ := rn_bnd 16 (fun v => dist v / 64) pi
  obtain ⟨M2, hM2⟩ := rn_bnd 16 (fun _ => K) pi
  refine ⟨fun v => if dist v < 1000000 then dist v / 64 else pi v + (max M M2 + 1), fun e he ho => ?_, fun v _ h => if_pos h, fun v hv h => ?_⟩
  · obtain ⟨n1, n2, _⟩ := rn_net e he
    have hc := rn_c_1 e
    show 0 ≤ rn_c e + (if dist (rn_src e) < 1000000 then _ else _) - (if dist (rn_dst e) < 1000000 then _ else _)
    by_cases c : dist (rn_src e) < 1000000
    · obtain ⟨h1, h2⟩ := rn_closed B F he ho c
      rw [if_pos c, if_pos h1]; omega
    · rw [if_neg c]
      by_cases c' : dist (rn_dst e) < 1000000
      · rw [if_pos c']
        have := hM _ _ n1 n2
        omega
      · rw [if_neg c']
        have := P e he ho
        omega
  · show K ≤ (if dist v < 1000000 then _ else _)
    rw [if_neg h]
    have := hM2 v v hv hv
    omega
/-- what goes along a chain leaves such prices good -/
theorem rn_price_aug (P : rn_P L pi) (B : rn_B L pi lb root dist pe) (F : rn_X L dist) {pi' : Nat → Int} (P' : rn_P L pi') (hpi : ∀ v, v < 16 → dist v < 1000000 → pi' v = dist v / 64) {L' : Nat → Int} {l : List Nat} (hl : ∀ x ∈ l, x < 16 ∧ dist x < 1000000)
    (h : ∀ e, e < 256 → L' e ≤ L e ∨ ∃ x ∈ l, ¬ root x ∧ e = rn_rev (pe x)) : rn_P L' pi' := by
  intro e he ho
  rcases h e he with h1 | ⟨x, hx, hr, rfl⟩
  · exact P' e he (by omega)
  · obtain ⟨x1, x2⟩ := hl x hx
    obtain ⟨t1, t2, t3, t4, t5, t6⟩ := rn_tight B F x1 x2 hr
    have n := rn_net _ t1
    rw [rn_c_rev _ t1, n.2.2.2.2.1, n.2.2.2.2.2, t3, hpi _ x1 x2, hpi _ t4 t5]
    omega
theorem rn_chain (P : rn_P L pi) (B : rn_B L pi lb root dist pe) {v : Nat} (hv : v < 16) (h : dist v < 1000000) : ∃ l, fw_Ch (fun x => rn_src (pe x)) root (v :: l) ∧ ∀ x ∈ v :: l, x < 16 ∧ dist x < 1000000 := by
  obtain ⟨l, hl⟩ := B.2.2.2 v hv h
  exact ⟨l, hl, fun x hx => ⟨(fw_B_mono (rn_pot P) B l v hv h hl x hx).1, (fw_B_mono (rn_pot P) B l v hv h hl x hx).2.1⟩⟩
end
