set_option maxRecDepth 100000
/-! The reference's ways -/
def rp_ (st : MS) (be may : Nat → Int) (fx : Nat → Bool) (x t : Nat → Int) : Prop := (∀ c, c < 64 → st.2.1 21 c = q_ (be c)) ∧ (∀ c, c < 64 → st.2.1 22 c = q_ (x c)) ∧ (∀ p, p < 8 → st.2.1 23 p = q_ (may p)) ∧ (∀ p, p < 8 → st.2.1 24 p = q_ (t p)) ∧ (∀ c, c < 64 → st.2.1 26 c = n_ (if fx c then 1 else 0))
theorem rp_ms {ks : List Nat} {st st' : MS} {be may : Nat → Int} {fx : Nat → Bool} {x t : Nat → Int} (h : rp_ st be may fx x t) (m : ms_ ks st st') (hk : 21 ∉ ks ∧ 22 ∉ ks ∧ 23 ∉ ks ∧ 24 ∉ ks ∧ 26 ∉ ks) : rp_ st' be may fx x t := by
  refine ⟨fun c hc => ?_, fun c hc => ?_, fun c hc => ?_, fun c hc => ?_, fun c hc => ?_⟩
  · rw [m.2.2 _ hk.1]; exact h.1 c hc
  · rw [m.2.2 _ hk.2.1]; exact h.2.1 c hc
  · rw [m.2.2 _ hk.2.2.1]; exact h.2.2.1 c hc
  · rw [m.2.2 _ hk.2.2.2.1]; exact h.2.2.2.1 c hc
  · rw [m.2.2 _ hk.2.2.2.2]; exact h.2.2.2.2 c hc
theorem rf_stepMay (n : Nat) {st : MS} {be may : Nat → Int} {fx : Nat → Bool} {x t : Nat → Int} (h : rp_ st be may fx x t) {p q : Nat} (hp : p < 16) (hq : q < 16) : f_stepMay n st (n_ p) (n_ q) = some (q_ (rn_L be may fx x t (16 * p + q))) := by
  obtain ⟨h1, h2, h3, h4, h5⟩ := h
  unfold f_stepMay f_stepMay_J11 f_stepMay_J22 f_stepMay_J38 f_stepMay_J48 f_stepMay_J65 f_stepMay_J103 f_stepMay_J156
  by_cases c1 : p < 8
  · by_cases c2 : q < 8
    · rw [rn_L_0 _ _ _ _ _ hq (by omega)]
      simp (disch := omega) only [n_lit, n_le, n_eq]
      rw [ef_F (show ¬ 8 ≤ p by omega), ef_F (show ¬ 8 ≤ q by omega), ef_T trivial]; rfl
    · obtain ⟨b, rfl⟩ : ∃ b, q = 8 + b := ⟨q - 8, by omega⟩
      have hb : b < 8 := by omega
      rw [rn_L_s _ _ _ _ _ c1 hb]
      simp (disch := omega) only [n_lit, n_le, n_eq, n_sub]
      rw [ef_F (show ¬ 8 ≤ p by omega), ef_T (show 8 ≤ 8 + b by omega), ef_F (show ¬ 1 = 0 by omega), ef_F (show ¬ 8 ≤ p by omega), ef_F (show ¬ 1 = 0 by omega), ef_F (show ¬ 1 = 0 by omega), show 8 + b - 8 = b by omega]
      by_cases e : p = b
      · subst e
        simp (disch := omega) only [n_in, m_gT, n_nat, h4]
        rw [ef_T trivial, ef_F (show ¬ 1 = 0 by omega), if_pos trivial]
      · simp (disch := omega) only [rf_couple, m_bs, n_in, m_gT, n_nat, h1, h2, h5, q_sub]
        rw [ef_F (by omega), if_neg e]
        by_cases f : fx (8 * p + b) = true
        · rw [if_pos f, if_pos f, ef_F (by rw [n_eq (by omega) (by omega)]; omega)]; rfl
        · rw [if_neg f, if_neg f, ef_T rfl, ef_F (show ¬ 1 = 0 by omega)]
  · obtain ⟨b, rfl⟩ : ∃ b, p = 8 + b := ⟨p - 8, by omega⟩
    have hb : b < 8 := by omega
    by_cases c2 : q < 8
    · rw [rn_L_g _ _ _ _ _ c2 hb]
      simp (disch := omega) only [n_lit, n_le, n_eq, n_sub]
      rw [ef_T (show 8 ≤ 8 + b by omega), ef_F (show ¬ 8 ≤ q by omega), ef_F (show ¬ 0 = 1 by omega), ef_T (show 8 ≤ 8 + b by omega), ef_T trivial, ef_T trivial, show 8 + b - 8 = b by omega]
      by_cases e : q = b
      · subst e
        simp (disch := omega) only [n_in, m_gT, n_nat, h3, h4, q_sub]
        rw [ef_T trivial, ef_T trivial, if_pos trivial]
      · simp (disch := omega) only [rf_couple, m_bs, n_in, m_gT, n_nat, h1, h2, h5, q_sub]
        rw [ef_F (by omega), if_neg e]
        by_cases f : fx (8 * q + b) = true
        · rw [if_pos f, if_pos f, ef_F (by rw [n_eq (by omega) (by omega)]; omega)]; rfl
        · rw [if_neg f, if_neg f, ef_T rfl, ef_T trivial]
    · rw [rn_L_0 _ _ _ _ _ hq (by omega)]
      simp (disch := omega) only [n_lit, n_le, n_eq]
      rw [ef_T (show 8 ≤ 8 + b by omega), ef_T (show 8 ≤ q by omega), ef_T trivial]; rfl
theorem n_neg (a : Nat) : - n_ a = q_ (- (a : Int)) := by unfold n_; rw [q_neg]
theorem rf_stepCost (n : Nat) {p q : Nat} (hp : p < 16) (hq : q < 16) (h : ¬ (p < 8 ↔ q < 8)) : f_stepCost n (n_ p) (n_ q) = some (q_ (rn_w (16 * p + q))) := by
  unfold f_stepCost f_stepCost_J17 f_stepCost_J34 rn_w
  by_cases c1 : p < 8
  · obtain ⟨b, rfl⟩ : ∃ b, q = 8 + b := ⟨q - 8, by omega⟩
    rw [rn_c_s c1 (by omega)]
    simp (disch := omega) only [n_lit, n_add, n_le, n_eq]
    rw [ef_F (show ¬ p = 8 + b + 8 by omega)]
    by_cases e : p = b
    · rw [ef_T (by omega), if_pos e]; rfl
    · rw [ef_F (by omega), ef_F (by omega), if_neg e]; rfl
  · obtain ⟨b, rfl⟩ : ∃ b, p = 8 + b := ⟨p - 8, by omega⟩
    rw [rn_c_g (by omega) (by omega)]
    simp (disch := omega) only [n_lit, n_add, n_le, n_eq, n_neg, nq_add]
    by_cases e : q = b
    · rw [ef_T (by omega), if_pos e]; rfl
    · rw [ef_F (by omega), ef_F (by omega), ef_T (by omega), if_neg e]; rfl
/-- the ways as they lie in the reference's rows -/
def rw_ (st : MS) (root : Nat → Prop) (dist : Nat → Int) (pe : Nat → Nat) : Prop := (∀ v, v < 16 → st.2.1 27 v = q_ (dist v)) ∧ (∀ v, v < 16 → (root v ∨ ¬ dist v < 1000000) → st.2.1 28 v = q_ (-1)) ∧ (∀ v, v < 16 → ¬ root v → dist v < 1000000 → st.2.1 28 v = n_ (rn_src (pe v)))
/-- what is held all through the laying of ways -/
def rl_ (L pi : Nat → Int) (lb : Int) (R0 : Nat → Prop) (st : MS) (root : Nat → Prop) (dist : Nat → Int) (pe : Nat → Nat) : Prop := rn_B L pi lb root dist pe ∧ rw_ st root dist pe ∧ (∀ v, root v → R0 v) ∧ (∀ v, v < 16 → R0 v → dist v ≤ 0)
theorem rn_w_1 (e : Nat) : -63 ≤ rn_w e ∧ rn_w e ≤ 65 := by unfold rn_w; have := rn_c_1 e; omega
theorem rl_fit {L pi : Nat → Int} {lb : Int} {R0 : Nat → Prop} {st : MS} {root : Nat → Prop} {dist : Nat → Int} {pe : Nat → Nat} (h : rl_ L pi lb R0 st root dist pe) {v : Nat} (hv : v < 16) : -2000 ≤ dist v ∧ dist v ≤ 1000000 := by
  have h1 := h.1.1 v hv
  refine ⟨?_, h1⟩
  by_cases c : dist v < 1000000
  · have := fw_B_low h.1 (wm := 63) (by omega) (fun e _ => (rn_w_1 e).1) hv c
    omega
  · omega
theorem rl_step {L pi : Nat → Int} (P : rn_P L pi) {lb : Int} {R0 : Nat → Prop} {st : MS} {root : Nat → Prop} {dist : Nat → Int} {pe : Nat → Nat} (h : rl_ L pi lb R0 st root dist pe) {p q : Nat} (hp : p < 16) (hq : q < 16) (ho : 0 < L (16 * p + q)) (h1 : dist p < 1000000) (h2 : dist p + rn_w (16 * p + q) < dist q) :
    rl_ L pi lb R0 (m_sa (m_sa st 27 q (q_ (dist p + rn_w (16 * p + q)))) 28 q (n_ p)) (fun x => root x ∧ x ≠ q) (fw_up dist q (dist p + rn_w (16 * p + q))) (fw_un pe q (16 * p + q)) ∧ fw_sm 16 (fw_up dist q (dist p + rn_w (16 * p + q))) < fw_sm 16 dist := by
  obtain ⟨B, ⟨w1, w2, w3⟩, r1, r2⟩ := h
  have hs : rn_src (16 * p + q) = p := rn_src_at hq
  have hd : rn_dst (16 * p + q) = q := rn_dst_at hq
  have B' := fw_B_step (fun e he => ⟨(rn_net e he).1, (rn_net e he).2.1⟩) (rn_pot P) B (e := 16 * p + q) (by omega) ho (by rw [hs]; exact h1) (by rw [hs, hd]; exact h2)
  rw [hs, hd] at B'
  have hfar := B.1 q hq
  refine ⟨⟨B', ⟨fun v hv => ?_, fun v hv hr => ?_, fun v hv hr hv2 => ?_⟩, fun v hv => r1 v hv.1, fun v hv hr => ?_⟩, ?_⟩
  · rw [sa_ne _ (by omega), sa_at]
    by_cases e : v = q
    · rw [e, upd_at, fw_up_at]
    · rw [upd_ne e, fw_up_ne e]; exact w1 v hv
  · rw [sa_at]
    by_cases e : v = q
    · rw [e, fw_up_at] at hr
      rcases hr with hr | hr
      · exact absurd rfl hr.2
      · omega
    · rw [fw_up_ne e] at hr
      rw [upd_ne e, sa_ne _ (by omega)]
      exact w2 v hv (hr.elim (fun z => Or.inl z.1) Or.inr)
  · rw [sa_at]
    by_cases e : v = q
    · rw [e, upd_at]; unfold fw_un; rw [if_pos rfl, hs]
    · rw [upd_ne e, sa_ne _ (by omega)]
      rw [fw_up_ne e] at hv2
      unfold fw_un; rw [if_neg e]
      exact w3 v hv (fun z => hr ⟨z, e⟩) hv2
  · by_cases e : v = q
    · rw [e, fw_up_at]
      have := r2 v hv hr
      rw [e] at this; omega
    · rw [fw_up_ne e]; exact r2 v hv hr
  · rw [fw_sm_up hq]; omega
