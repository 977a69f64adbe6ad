set_option maxRecDepth 100000
/-! Sums and counts of the reference -/
def ct_ : Nat → (Nat → Int) → Nat
  | 0, _ => 0
  | k + 1, f => ct_ k f + (if 0 < f k then 1 else 0)
theorem ct_le (n : Nat) (f : Nat → Int) : ct_ n f ≤ n := by
  induction n with
  | zero => exact Nat.le_refl _
  | succ n ih => simp only [ct_]; split <;> omega
theorem rf_positive {st : MS} {f : Nat → Int} (hf : ∀ c, c < 64 → st.2.1 17 c = q_ (f c)) (hb : ∀ c, c < 64 → 0 ≤ f c ∧ f c < 2147483648) : Ev_ (fun n => f_positive n st) (fun r => r = n_ (ct_ 64 f)) := by
  unfold f_positive
  refine ev_b (P := fun r => r = n_ (ct_ 64 f)) ?_ (fun r hr => ev_some hr)
  unfold f_positive_L4l
  refine ev_for 64 (fun i x => x = (n_ (ct_ i f), n_ i)) (fun i x hi hP => ?_) (fun x hP => ?_) (0, 0) (by rw [← n_lit 0]; rfl)
  · subst hP
    have h1 := hb i hi
    refine ev_eq (r := .inl (n_ (ct_ (i + 1) f), n_ (i + 1))) (fun n => ?_) ⟨_, rfl, rfl⟩
    unfold f_positive_L4 f_positive_J25
    dsimp only
    simp (disch := omega) only [n_lit, n_add, n_in, n_nat, m_gT, n_le, hf i hi, qn_le]
    rw [ef_F (by omega)]
    by_cases c : f i ≤ ((0 : Nat) : Int)
    · rw [ef_T c, show ct_ (i + 1) f = ct_ i f + 0 from by simp only [ct_]; rw [if_neg (by omega)]]
    · rw [ef_F c, show ct_ (i + 1) f = ct_ i f + 1 from by simp only [ct_]; rw [if_pos (by omega)]]
  · subst hP
    refine ev_eq (r := .inr (n_ (ct_ 64 f))) (fun n => ?_) ⟨_, rfl, rfl⟩
    unfold f_positive_L4
    dsimp only
    simp (disch := omega) only [n_lit, n_le]
    rw [ef_T (by omega)]
theorem rf_couplesNow {st : MS} {f : Nat → Int} (hf : ∀ c, c < 64 → st.2.1 22 c = q_ (f c)) (hb : ∀ c, c < 64 → 0 ≤ f c ∧ f c < 2147483648) : Ev_ (fun n => f_couplesNow n st) (fun r => r = n_ (ct_ 64 f)) := by
  unfold f_couplesNow
  refine ev_b (P := fun r => r = n_ (ct_ 64 f)) ?_ (fun r hr => ev_some hr)
  unfold f_couplesNow_L4l
  refine ev_for 64 (fun i x => x = (n_ (ct_ i f), n_ i)) (fun i x hi hP => ?_) (fun x hP => ?_) (0, 0) (by rw [← n_lit 0]; rfl)
  · subst hP
    have h1 := hb i hi
    refine ev_eq (r := .inl (n_ (ct_ (i + 1) f), n_ (i + 1))) (fun n => ?_) ⟨_, rfl, rfl⟩
    unfold f_couplesNow_L4 f_couplesNow_J25
    dsimp only
    simp (disch := omega) only [n_lit, n_add, n_in, n_nat, m_gT, n_le, hf i hi, qn_le]
    rw [ef_F (by omega)]
    by_cases c : f i ≤ ((0 : Nat) : Int)
    · rw [ef_T c, show ct_ (i + 1) f = ct_ i f + 0 from by simp only [ct_]; rw [if_neg (by omega)]]
    · rw [ef_F c, show ct_ (i + 1) f = ct_ i f + 1 from by simp only [ct_]; rw [if_pos (by omega)]]
  · subst hP
    refine ev_eq (r := .inr (n_ (ct_ 64 f))) (fun n => ?_) ⟨_, rfl, rfl⟩
    unfold f_couplesNow_L4
    dsimp only
    simp (disch := omega) only [n_lit, n_le]
    rw [ef_T (by omega)]
theorem rf_sumOfFlows {st : MS} {f : Nat → Int} (hf : ∀ c, c < 64 → st.2.1 17 c = q_ (f c)) : Ev_ (fun n => f_sumOfFlows n st) (fun r => r = q_ (fs_tot f)) := by
  unfold f_sumOfFlows fs_tot
  refine ev_b (P := fun r => r = q_ (fw_sm 64 f)) ?_ (fun r hr => ev_some hr)
  unfold f_sumOfFlows_L4l
  refine ev_for 64 (fun i x => x = (q_ (fw_sm i f), n_ i)) (fun i x hi hP => ?_) (fun x hP => ?_) (0, 0) (by rw [← n_lit 0]; rfl)
  · subst hP
    refine ev_eq (r := .inl (q_ (fw_sm (i + 1) f), n_ (i + 1))) (fun n => ?_) ⟨_, rfl, rfl⟩
    unfold f_sumOfFlows_L4
    dsimp only
    simp (disch := omega) only [n_lit, n_add, n_in, n_nat, m_gT, n_le, hf i hi, q_add]
    rw [ef_F (by omega)]; rfl
  · subst hP
    refine ev_eq (r := .inr (q_ (fw_sm 64 f))) (fun n => ?_) ⟨_, rfl, rfl⟩
    unfold f_sumOfFlows_L4
    dsimp only
    simp (disch := omega) only [n_lit, n_le]
    rw [ef_T (by omega)]
theorem rf_sumOf {st : MS} {f : Nat → Int} (hf : ∀ c, c < 64 → st.2.1 22 c = q_ (f c)) : Ev_ (fun n => f_sumOf n st) (fun r => r = q_ (fs_tot f)) := by
  unfold f_sumOf fs_tot
  refine ev_b (P := fun r => r = q_ (fw_sm 64 f)) ?_ (fun r hr => ev_some hr)
  unfold f_sumOf_L4l
  refine ev_for 64 (fun i x => x = (q_ (fw_sm i f), n_ i)) (fun i x hi hP => ?_) (fun x hP => ?_) (0, 0) (by rw [← n_lit 0]; rfl)
  · subst hP
    refine ev_eq (r := .inl (q_ (fw_sm (i + 1) f), n_ (i + 1))) (fun n => ?_) ⟨_, rfl, rfl⟩
    unfold f_sumOf_L4
    dsimp only
    simp (disch := omega) only [n_lit, n_add, n_in, n_nat, m_gT, n_le, hf i hi, q_add]
    rw [ef_F (by omega)]; rfl
  · subst hP
    refine ev_eq (r := .inr (q_ (fw_sm 64 f))) (fun n => ?_) ⟨_, rfl, rfl⟩
    unfold f_sumOf_L4
    dsimp only
    simp (disch := omega) only [n_lit, n_le]
    rw [ef_T (by omega)]
/-- the lesser of what goes out and what comes -/
theorem rf_throughBy {st : MS} {kk : Nat} {f : Nat → Int} (hf : ∀ c, c < 64 → st.2.1 kk c = q_ (f c)) {p : Nat} (hp : p < 8) (ho : -2147483648 ≤ fs_out f p ∧ fs_out f p < 2147483648) (hi : -2147483648 ≤ fs_in f p ∧ fs_in f p < 2147483648) : Ev_ (fun n => f_throughBy n st kk (n_ p)) (fun r => r = q_ (min (fs_out f p) (fs_in f p))) := by
  unfold f_throughBy
  refine ev_b (P := fun r => r = (q_ (fs_out f p), q_ (fs_in f p))) ?_ (fun r hr => ?_)
  · unfold f_throughBy_L7l
    refine ev_for 8 (fun i x => x = (q_ (fw_sm i (fun b => f (8 * p + b))), q_ (fw_sm i (fun b => f (8 * b + p))), n_ i)) (fun i x hi hP => ?_) (fun x hP => ?_) (0, 0, 0) (by rw [← n_lit 0]; rfl)
    · subst hP
      refine ev_eq (r := .inl (q_ (fw_sm (i + 1) (fun b => f (8 * p + b))), q_ (fw_sm (i + 1) (fun b => f (8 * b + p))), n_ (i + 1))) (fun n => ?_) ⟨_, rfl, rfl⟩
      unfold f_throughBy_L7
      dsimp only
      simp (disch := omega) only [n_lit, n_add, rf_couple, m_bs, n_in, n_nat, m_gT, n_le, hf, q_add]
      rw [ef_F (by omega)]; rfl
    · subst hP
      refine ev_eq (r := .inr (q_ (fs_out f p), q_ (fs_in f p))) (fun n => ?_) ⟨_, rfl, rfl⟩
      unfold f_throughBy_L7
      dsimp only
      simp (disch := omega) only [n_lit, n_le]
      rw [ef_T (by omega)]; rfl
  · subst hr
    refine ev_eq (r := q_ (min (fs_out f p) (fs_in f p))) (fun n => ?_) rfl
    unfold f_throughBy_J52
    dsimp only
    simp (disch := omega) only [q_le']
    by_cases c : fs_in f p ≤ fs_out f p
    · rw [ef_T c, show min (fs_out f p) (fs_in f p) = fs_in f p by omega]
    · rw [ef_F c, show min (fs_out f p) (fs_in f p) = fs_out f p by omega]
/-- bounds, by the mode -/
def ss_bd (s : SS_) (f : Nat → Int) (c : Nat) : Int := if s.2.2 = 0 then f c else if s.2.2 = 2 then s.2.1 c else f c + f (8 * (c % 8) + c / 8)
theorem rf_boundOf (n : Nat) {np nk : Nat} {s : SS_} (ok : ss_ok np nk s) {st : MS} (h : rf_V s (st.2.1 0)) {f : Nat → Int} (hf : ∀ c, c < 64 → st.2.1 17 c = q_ (f c)) {a b : Nat} (ha : a < 8) (hb : b < 8) : f_boundOf n st (n_ a) (n_ b) = some (q_ (ss_bd s f (8 * a + b))) := by
  obtain ⟨_, _, _, _, _, h4⟩ := ok
  unfold f_boundOf f_boundOf_J63
  simp (disch := omega) only [n_lit, n_add, rf_couple, m_bs, n_in, n_nat, m_gT, hf, q_add, h.2.1, h.2.2.2, n_eq]
  unfold ss_bd
  rw [show (8 * a + b) % 8 = b by omega, show (8 * a + b) / 8 = a by omega]
  by_cases c : s.2.2 = 0
  · rw [ef_T c, if_pos c]
  · rw [ef_F c, if_neg c]
    by_cases c2 : s.2.2 = 2
    · rw [ef_T c2, if_pos c2]
    · rw [ef_F c2, if_neg c2]
