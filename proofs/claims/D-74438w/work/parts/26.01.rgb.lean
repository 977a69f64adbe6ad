set_option maxRecDepth 100000
/-! The reference's totals -/
def ks_ (ts : List Tr_) (k : Nat) : Int := ts_sum (fun t => decide (t.2.2.2.1 = k) && t.2.2.2.2) ts
noncomputable def Sp_total (g : GS_) (z w : Int32) (r : Int32) : Prop := Sp_k g z (fun k r => if 0 ≤ w.toInt ∧ w.toInt ≤ 3 then r = (if w.toInt = 0 then q_ (fs_tot (ss_fl (g_s g).1 k)) else if w.toInt = 1 then n_ (ct_ 64 (ss_fl (g_s g).1 k)) else if w.toInt = 2 then q_ (ks_ (g_s g).1 k) else q_ (fw_sm (g_np g) (fun p => max 0 (fs_out (ss_fl (g_s g).1 k) p - fs_in (ss_fl (g_s g).1 k) p)))) else r = q_ (-2)) r
theorem rf_total_kept {np nk : Nat} {s : SS_} (ok : ss_ok np nk s) {st : MS} (h : rf_V s (st.2.1 0)) {k : Nat} (hk : k < 4) (v2 : Int32) : Ev_ (fun n => f_total_L53l n (n_ k) v2 (0, 0, st)) (fun r => r = (q_ (ks_ s.1 k), st)) := by
  have h40 := ok.2.2.1
  have hnk := ok.2.1
  unfold f_total_L53l
  refine ev_for s.1.length (fun i y => y = (q_ (ks_ (s.1.take i) k), n_ i, st)) (fun i y hi hP => ?_) (fun y hP => ?_) _ (by rw [← n_lit 0]; simp [ks_, ts_sum]; rfl)
  · subst hP
    obtain ⟨g1, g2, g3, g4, g5⟩ := h.2.2.1 i hi
    obtain ⟨t1, t2, _, _, _, t6⟩ := ok.2.2.2.1 _ (List.getElem_mem hi)
    refine ev_eq (r := .inl (q_ (ks_ (s.1.take (i + 1)) k), n_ (i + 1), st)) (fun n => ?_) ⟨_, rfl, rfl⟩
    unfold f_total_L53 f_total_J97 f_total_J98
    dsimp only
    rw [z_nat, h.1]
    simp (disch := omega) only [n_lit, n_add, n_in, m_gT, rf_tradeAt, g3, g4, g5, m_bs, n_le, n_eq, q_add, qn_add]
    rw [ef_F (by omega)]
    unfold ks_
    rw [ts_sum_take _ _ hi]
    by_cases c1 : (s.1[i]).2.2.2.1 = k
    · rw [ef_T c1]
      by_cases c2 : (s.1[i]).2.2.2.2 = true
      · rw [if_pos c2, ef_T (by rw [n_eq (by omega) (by omega)]), if_pos (by simp [c1, c2])]
      · rw [if_neg c2, ef_F (by rw [n_eq (by omega) (by omega)]; omega), if_neg (by simp [c2])]; rfl
    · rw [ef_F c1, if_neg (by simp [c1])]; rfl
  · subst hP
    refine ev_eq (r := .inr (q_ (ks_ s.1 k), st)) (fun n => ?_) ⟨_, rfl, rfl⟩
    unfold f_total_L53
    dsimp only
    rw [z_nat, h.1, List.take_length]
    simp (disch := omega) only [n_lit, n_in, m_gT, n_le]
    rw [ef_T (by omega)]
theorem rf_total_net {np nk : Nat} {s : SS_} (ok : ss_ok np nk s) {k : Nat} (hfl : fl_ok np (ss_fl s.1 k)) {st : MS} (h5 : st.1 5 = n_ np) (h17 : ∀ c, c < 64 → st.2.1 17 c = q_ (ss_fl s.1 k c)) (v2 : Int32) : Ev_ (fun n => f_total_L114l n v2 (0, 0, st)) (fun r => r = (q_ (fw_sm np (fun p => max 0 (fs_out (ss_fl s.1 k) p - fs_in (ss_fl s.1 k) p))), st)) := by
  have h8 := ok.1
  unfold f_total_L114l
  refine ev_for np (fun i y => y = (q_ (fw_sm i (fun p => max 0 (fs_out (ss_fl s.1 k) p - fs_in (ss_fl s.1 k) p))), n_ i, st)) (fun i y hi hP => ?_) (fun y hP => ?_) _ (by rw [← n_lit 0]; rfl)
  · subst hP
    have hs : ∀ n, f_total_L114 n v2 (q_ (fw_sm i (fun p => max 0 (fs_out (ss_fl s.1 k) p - fs_in (ss_fl s.1 k) p)))) (n_ i) st = m_b (f_netBy n st (n_ i)) (fun r17 => m_if (r17 ≤ 0) (some (.inl (q_ (fw_sm i (fun p => max 0 (fs_out (ss_fl s.1 k) p - fs_in (ss_fl s.1 k) p))) + 0, n_ (i + 1), st))) (m_b (f_netBy n st (n_ i)) (fun r20 => some (.inl (q_ (fw_sm i (fun p => max 0 (fs_out (ss_fl s.1 k) p - fs_in (ss_fl s.1 k) p))) + r20, n_ (i + 1), st))))) := fun n => by
      unfold f_total_L114 f_total_J143
      rw [h5, show n_ i + 1 = n_ (i + 1) from by rw [n_lit 1, n_add]]
      simp (disch := omega) only [n_le]
      rw [ef_F (show ¬ np ≤ i by omega)]
    simp only [hs]
    have hn := rf_netBy h8 h5 h17 (show i < 8 by omega)
    rw [fl_nu' ok hi] at hn
    have hfit := fl_fit hfl (show i < 8 by omega)
    rw [fl_nu hfl (by omega)] at hfit
    refine ev_b hn (fun r hr => ?_)
    subst hr
    refine ev_ifq (c' := fs_out (ss_fl s.1 k) i - fs_in (ss_fl s.1 k) i ≤ 0) (by rw [show (0 : Int32) = q_ 0 from rfl]; exact q_le ⟨by omega, by omega⟩ ⟨by omega, by omega⟩) (fun c => ?_) (fun c => ?_)
    · refine ev_some ⟨_, rfl, ?_⟩
      rw [show (0 : Int32) = q_ 0 from rfl, q_add]
      show _ = (q_ (fw_sm i _ + max 0 _), _, _)
      rw [show max 0 (fs_out (ss_fl s.1 k) i - fs_in (ss_fl s.1 k) i) = 0 by omega]
    · refine ev_b hn (fun r hr => ?_)
      subst hr
      refine ev_some ⟨_, rfl, ?_⟩
      rw [q_add]
      show _ = (q_ (fw_sm i _ + max 0 _), _, _)
      rw [show max 0 (fs_out (ss_fl s.1 k) i - fs_in (ss_fl s.1 k) i) = fs_out (ss_fl s.1 k) i - fs_in (ss_fl s.1 k) i by omega]
  · subst hP
    refine ev_eq (r := .inr (q_ (fw_sm np (fun p => max 0 (fs_out (ss_fl s.1 k) p - fs_in (ss_fl s.1 k) p))), st)) (fun n => ?_) ⟨_, rfl, rfl⟩
    unfold f_total_L114
    dsimp only
    rw [h5]
    simp (disch := omega) only [n_le]
    rw [ef_T (by omega)]
theorem rf_total {g : GS_} (ok : g_ok g) (nw : ss_nw (g_np g) (g_nk g) (g_s g)) {st : MS} (R0 : rf_R g st) (z w : Int32) : Ev_ (fun n => f_total n st z w) (fun r => rf_R g r.2 ∧ Sp_total g z w r.1) := by
  have R := rf_R_8 R0
  unfold f_total f_total_J25
  refine rf_k ok R z (fun k hk ez => ?_)
  subst ez
  have hk4 : k < 4 := by have := ok.2.1; omega
  have hfl := fl_s_ok ok.2.2.1 nw hk
  simp only [isIn3, m_bs, m_ifb]
  by_cases c : 0 ≤ w.toInt ∧ w.toInt ≤ 3
  · simp only [if_pos c]
    obtain ⟨e, he, rfl, ee⟩ := pi_ (np := 4) (show 0 ≤ w.toInt ∧ w.toInt < (4 : Nat) by omega)
    have hte : (n_ e).toInt = e := n_toInt (by omega)
    rw [hte]
    refine ev_b (rf_lays ok R hk) (fun s hs => ?_)
    obtain ⟨Rs, m1, h17⟩ := hs
    have e0 : (n_ e = (0 : Int32)) ↔ e = 0 := by rw [n_lit 0, n_eq (by omega) (by omega)]
    have e1 : (n_ e = (1 : Int32)) ↔ e = 1 := by rw [n_lit 1, n_eq (by omega) (by omega)]
    have e2 : (n_ e = (2 : Int32)) ↔ e = 2 := by rw [n_lit 2, n_eq (by omega) (by omega)]
    have e3 : (n_ e = (3 : Int32)) ↔ e = 3 := by rw [n_lit 3, n_eq (by omega) (by omega)]
    unfold f_total_J45 f_total_J106 f_total_J151 f_total_J164
    refine ev_ifq e0 (fun c0 => ?_) (fun c0 => ?_)
    · subst c0
      refine ev_b (rf_sumOfFlows h17) (fun r hr => ?_)
      subst hr
      refine ev_ifF (fun z => by rw [e2] at z; omega) (ev_ifF (fun z => by rw [e3] at z; omega) (ev_ifF (fun z => by rw [e1] at z; omega) (ev_some ⟨Rs, ?_⟩)))
      rw [if_pos (by omega)]
    · refine ev_ifq e2 (fun c2 => ?_) (fun c2 => ?_)
      · subst c2
        refine ev_b (rf_total_kept ok.2.2.1 Rs.2.2.2.2.2.2.1 hk4 _) (fun y hy => ?_)
        subst hy
        refine ev_ifF (fun z => by rw [e3] at z; omega) (ev_ifF (fun z => by rw [e1] at z; omega) (ev_some ⟨Rs, ?_⟩))
        rw [if_neg (by omega), if_neg (by omega), if_pos (by omega)]
      · refine ev_ifq e3 (fun c3 => ?_) (fun c3 => ?_)
        · subst c3
          refine ev_b (rf_total_net ok.2.2.1 hfl Rs.1 h17 _) (fun y hy => ?_)
          subst hy
          refine ev_ifF (fun z => by rw [e1] at z; omega) (ev_some ⟨Rs, ?_⟩)
          rw [if_neg (by omega), if_neg (by omega), if_neg (by omega)]
        · have c1 : e = 1 := by omega
          subst c1
          refine ev_ifT (e1.mpr rfl) (ev_b (rf_positive h17 (fun c hc => by have := fl_c hfl hc; omega)) (fun r hr => ev_some ⟨Rs, ?_⟩))
          rw [hr, if_neg (by omega), if_pos (by omega)]
  · simp only [if_neg c]
    exact ev_some ⟨R, m2_q⟩
