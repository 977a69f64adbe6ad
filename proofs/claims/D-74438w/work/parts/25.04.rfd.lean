set_option maxRecDepth 100000
/-! The reference lays bounds -/
theorem nar_b0 : vp_nar .boolean (n_ 0) = n_ 0 := by
  rw [← n_lit 0]; rfl
theorem nar_b1 : vp_nar .boolean (n_ 1) = n_ 1 := by
  rw [← n_lit 1]; rfl
noncomputable def ss_be (np : Nat) (s : SS_) (f : Nat → Int) (c : Nat) : Int := if c / 8 < np ∧ c % 8 < np ∧ c / 8 ≠ c % 8 then ss_bd s f c else 0
noncomputable def ss_may (s : SS_) (f : Nat → Int) (p : Nat) : Int := if s.2.2 = 3 then min (fs_out f p) (fs_in f p) else 2000000000
theorem rf_laysBounds {np nk : Nat} {s : SS_} (ok : ss_ok np nk s) {st : MS} (h : rf_V s (st.2.1 0)) (h5 : st.1 5 = n_ np) {k : Nat} (hk : k < 4) {w : Int} (hw : -1 ≤ w ∧ w < 8) (hfit : ∀ p, p < 8 → (-2147483648 ≤ fs_out (fl_wo w (ss_fl s.1 k)) p ∧ fs_out (fl_wo w (ss_fl s.1 k)) p < 2147483648) ∧ (-2147483648 ≤ fs_in (fl_wo w (ss_fl s.1 k)) p ∧ fs_in (fl_wo w (ss_fl s.1 k)) p < 2147483648)) :
    Ev_ (fun n => f_laysBounds n st (n_ k) (q_ w)) (fun st' => ms_ [17, 21, 23, 26] st st' ∧ (∀ c, c < 64 → st'.2.1 17 c = q_ (fl_wo w (ss_fl s.1 k) c)) ∧ (∀ c, c < 64 → st'.2.1 21 c = q_ (ss_be np s (fl_wo w (ss_fl s.1 k)) c)) ∧ (∀ c, c < 64 → st'.2.1 26 c = n_ 0) ∧ ∀ p, p < 8 → st'.2.1 23 p = q_ (ss_may s (fl_wo w (ss_fl s.1 k)) p)) := by
  have h8 := ok.1
  have hm := ok.2.2.2.2.2
  unfold f_laysBounds
  refine ev_b (rf_laysFlows ok h hk hw) (fun s1 h1 => ?_)
  obtain ⟨h1, h2⟩ := h1
  generalize hfdef : fl_wo w (ss_fl s.1 k) = f at *
  refine ev_b (P := fun st' => ms_ [17, 21, 23, 26] st st' ∧ (∀ c, c < 64 → st'.2.1 17 c = q_ (f c)) ∧ (∀ c, c < 64 → st'.2.1 21 c = q_ (ss_be np s f c)) ∧ (∀ c, c < 64 → st'.2.1 26 c = n_ 0) ∧ ∀ p, p < 8 → st'.2.1 23 p = q_ (ss_may s f p)) ?_ (fun r hr => ev_some hr)
  unfold f_laysBounds_L8l
  refine ev_for 8 (fun i x => x.1 = n_ i ∧ ms_ [17, 21, 23, 26] st x.2 ∧ (∀ c, c < 64 → x.2.2.1 17 c = q_ (f c)) ∧ (∀ c, c < 8 * i → x.2.2.1 21 c = q_ (ss_be np s f c)) ∧ (∀ c, c < 8 * i → x.2.2.1 26 c = n_ 0) ∧ ∀ p, p < i → x.2.2.1 23 p = q_ (ss_may s f p)) (fun i x hi hP => ?_) (fun x hP => ?_) (0, s1) ⟨n_lit 0, ms_sub h1 (by simp), h2, fun c hc => absurd hc (Nat.not_lt_zero _), fun c hc => absurd hc (Nat.not_lt_zero _), fun c hc => absurd hc (Nat.not_lt_zero _)⟩
  · obtain ⟨v, s2⟩ := x
    obtain ⟨rfl, g1, g2, g3, g4, g5⟩ := hP
    have hV : rf_V s (s2.2.1 0) := by rw [g1.2.2 0 (by simp)]; exact h
    have h52 : s2.1 5 = n_ np := by rw [g1.1]; exact h5
    have inner : Ev_ (fun n => f_laysBounds_J43 n s2 (n_ i) (q_ (ss_may s f i)) (n_ i)) (fun r => ∃ s', r = .inl s' ∧ s'.1 = n_ (i + 1) ∧ ms_ [17, 21, 23, 26] st s'.2 ∧ (∀ c, c < 64 → s'.2.2.1 17 c = q_ (f c)) ∧ (∀ c, c < 8 * (i + 1) → s'.2.2.1 21 c = q_ (ss_be np s f c)) ∧ (∀ c, c < 8 * (i + 1) → s'.2.2.1 26 c = n_ 0) ∧ ∀ p, p < i + 1 → s'.2.2.1 23 p = q_ (ss_may s f p)) := by
      unfold f_laysBounds_J43
      refine ev_g (n_in (by omega) (by omega)) ?_
      rw [n_nat (by omega)]
      refine ev_b (P := fun s' => ms_ [17, 21, 23, 26] st s' ∧ (∀ c, c < 64 → s'.2.1 17 c = q_ (f c)) ∧ (∀ c, c < 8 * (i + 1) → s'.2.1 21 c = q_ (ss_be np s f c)) ∧ (∀ c, c < 8 * (i + 1) → s'.2.1 26 c = n_ 0) ∧ ∀ p, p < i + 1 → s'.2.1 23 p = q_ (ss_may s f p)) ?_ (fun r hr => ?_)
      · unfold f_laysBounds_L47l
        refine ev_for 8 (fun j x => x.1 = n_ j ∧ ms_ [17, 21, 23, 26] st x.2 ∧ (∀ c, c < 64 → x.2.2.1 17 c = q_ (f c)) ∧ (∀ c, c < 8 * i + j → x.2.2.1 21 c = q_ (ss_be np s f c)) ∧ (∀ c, c < 8 * i + j → x.2.2.1 26 c = n_ 0) ∧ ∀ p, p < i + 1 → x.2.2.1 23 p = q_ (ss_may s f p)) (fun j x hj hP => ?_) (fun x hP => ?_) (0, _) ⟨n_lit 0, ms_tr g1 (ms_sa (by simp) _ _ _), ?_, ?_, ?_, ?_⟩
        · obtain ⟨v, s3⟩ := x
          obtain ⟨rfl, k1, k2, k3, k4, k5⟩ := hP
          have hV3 : rf_V s (s3.2.1 0) := by rw [k1.2.2 0 (by simp)]; exact h
          have h53 : s3.1 5 = n_ np := by rw [k1.1]; exact h5
          refine ev_eq (r := .inl (n_ (j + 1), m_sa (m_sa s3 21 (8 * i + j) (q_ (ss_be np s f (8 * i + j)))) 26 (8 * i + j) (n_ 0))) (fun n => ?_) ⟨_, rfl, rfl, ms_tr k1 (ms_tr (ms_sa (by simp) _ _ _) (ms_sa (by simp) _ _ _)), fun c hc => ?_, fun c hc => ?_, fun c hc => ?_, fun p hp => ?_⟩
          · unfold f_laysBounds_L47 f_laysBounds_J81 f_laysBounds_J82 f_laysBounds_J110
            dsimp only
            rw [h53, rf_boundOf n ok hV3 k2 hi hj]
            simp (disch := omega) only [n_lit, n_add, rf_couple, m_bs, n_in, n_nat, m_gT, n_le, n_eq, nar_b0]
            rw [ef_F (by omega), ef_T trivial, ef_F (show ¬ 1 = 0 by omega)]
            unfold ss_be
            rw [show (8 * i + j) / 8 = i by omega, show (8 * i + j) % 8 = j by omega]
            by_cases c1 : i = j
            · rw [ef_T c1, if_neg (by omega)]; rfl
            · rw [ef_F c1]
              by_cases c2 : np ≤ i
              · rw [ef_T c2, if_neg (by omega)]; rfl
              · rw [ef_F c2]
                by_cases c3 : np ≤ j
                · rw [ef_T c3, if_neg (by omega)]; rfl
                · rw [ef_F c3, if_pos (by omega)]
          · dsimp only; rw [sa_ne _ (by omega), sa_ne _ (by omega)]; exact k2 c hc
          · dsimp only; rw [sa_ne _ (by omega), sa_at]
            by_cases e : c = 8 * i + j
            · rw [e, upd_at]
            · rw [upd_ne e]; exact k3 c (by omega)
          · dsimp only; rw [sa_at]
            by_cases e : c = 8 * i + j
            · rw [e, upd_at]
            · rw [upd_ne e, sa_ne _ (by omega)]; exact k4 c (by omega)
          · dsimp only; rw [sa_ne _ (by omega), sa_ne _ (by omega)]; exact k5 p hp
        · obtain ⟨v, s3⟩ := x
          obtain ⟨rfl, k1, k2, k3, k4, k5⟩ := hP
          refine ev_eq (r := .inr s3) (fun n => ?_) ⟨_, rfl, k1, k2, fun c hc => k3 c (by omega), fun c hc => k4 c (by omega), k5⟩
          unfold f_laysBounds_L47
          dsimp only
          simp (disch := omega) only [n_lit, n_le]
          rw [ef_T (by omega)]
        · intro c hc; dsimp only; rw [sa_ne _ (by omega)]; exact g2 c hc
        · intro c hc; dsimp only; rw [sa_ne _ (by omega)]; exact g3 c hc
        · intro c hc; dsimp only; rw [sa_ne _ (by omega)]; exact g4 c hc
        · intro p hp; dsimp only; rw [sa_at]
          by_cases e : p = i
          · rw [e, upd_at]
          · rw [upd_ne e]; exact g5 p (by omega)
      · refine ev_eq (r := .inl (n_ (i + 1), r)) (fun n => ?_) ⟨_, rfl, rfl, hr⟩
        simp only [n_lit, n_add]
    have hpre : ∀ n, f_laysBounds_L8 n (n_ i) s2 = m_if (s.2.2 = 3) (m_b (f_throughBy n s2 17 (n_ i)) (fun r23 => f_laysBounds_J43 n s2 (n_ i) r23 (n_ i))) (f_laysBounds_J43 n s2 (n_ i) (n_ 2000000000) (n_ i)) := fun n => by
      unfold f_laysBounds_L8
      simp (disch := omega) only [n_lit, n_add, n_in, n_nat, m_gT, n_le, hV.2.1, n_eq]
      rw [ef_F (by omega)]
    simp only [hpre]
    refine ev_if (fun c => ?_) (fun c => ?_)
    · refine ev_b (rf_throughBy g2 hi (hfit i hi).1 (hfit i hi).2) (fun r hr => ?_)
      subst hr
      have e : min (fs_out f i) (fs_in f i) = ss_may s f i := by unfold ss_may; rw [if_pos c]
      rw [e]; exact inner
    · have e : n_ 2000000000 = q_ (ss_may s f i) := by unfold ss_may; rw [if_neg c]; rfl
      rw [e]; exact inner
  · obtain ⟨v, s2⟩ := x
    obtain ⟨rfl, g1, g2, g3, g4, g5⟩ := hP
    refine ev_eq (r := .inr s2) (fun n => ?_) ⟨_, rfl, g1, g2, g3, g4, g5⟩
    unfold f_laysBounds_L8
    dsimp only
    simp (disch := omega) only [n_lit, n_le]
    rw [ef_T (by omega)]
