set_option maxRecDepth 100000
/-! The reference's groups, on -/
theorem rf_fewest_111 {np : Nat} (h8 : np ≤ 8) {T : Nat → Int} {s : Nat} (hs0 : 0 < s) (hs : s < 256) (hT : ∀ i, i < s → 0 ≤ T i ∧ T i ≤ i) {st : MS} (h5 : st.1 5 = n_ np) (h29 : ∀ i, i < s → st.2.1 29 i = q_ (T i)) (h29s : st.2.1 29 s = q_ 0) (v2 v3 : Int32) : Ev_ (fun n => f_fewest_L111l n v2 v3 (n_ s) (0, st)) (fun s1 => ms_ [29] st s1 ∧ (∀ i, i < s → s1.2.1 29 i = q_ (T i)) ∧ s1.2.1 29 s = q_ (mx_ T s np)) := by
  unfold f_fewest_L111l
  refine ev_for np (fun (p : Nat) (y : Int32 × MS) => y.1 = n_ p ∧ ms_ [29] st y.2 ∧ (∀ i, i < s → y.2.2.1 29 i = q_ (T i)) ∧ y.2.2.1 29 s = q_ (mx_ T s p)) (fun p y hp hP => ?_) (fun y hP => ?_) _ ⟨n_lit 0, ms_rfl _ _, h29, h29s⟩
  · obtain ⟨v, s1⟩ := y
    obtain ⟨e0, g1, g2, g3⟩ := hP
    dsimp only at e0 g1 g2 g3 ⊢
    subst e0
    have h51 : s1.1 5 = n_ np := by rw [g1.1]; exact h5
    have hidx : n_ p + 1 = n_ (p + 1) := by rw [n_lit 1, n_add]
    unfold f_fewest_L111 f_fewest_J179 f_fewest_J180
    rw [h51, hidx]
    refine ev_ifF (by rw [n_le (by omega) (by omega)]; omega) ?_
    refine ev_ifq (bt_test0 (by omega) (n_ s)) (fun c => ?_) (fun c => ?_)
    · refine ev_some ⟨_, rfl, rfl, g1, g2, ?_⟩
      simp only [mx_]
      rw [if_neg c]; exact g3
    · have c' : bt_ (n_ s) p = true := by
        cases hb : bt_ (n_ s) p with
        | true => rfl
        | false => exact absurd (by rw [hb]; simp) c
      obtain ⟨k1, k2⟩ := an_pw (show p < 8 by omega) hs c'
      have hpp : 0 < 2 ^ p := Nat.pow_pos (by omega)
      have hlt : s - 2 ^ p < s := by omega
      rw [k2]
      refine ev_g (n_in (by omega) (by omega)) ?_
      rw [n_nat (by omega), g2 _ hlt]
      refine ev_b1 rfl ?_
      refine ev_g (n_in hs (by omega)) ?_
      rw [n_nat (by omega), g3]
      have b1 := hT _ hlt
      have b2 := mx_b hT hs0 hs p (by omega)
      have fin : ∀ v : Int, v = max (mx_ T s p) (T (s - 2 ^ p)) → Ev_ (fun n => m_g (m_in (n_ s) 256) (some (Sum.inl (n_ (p + 1), m_sa s1 29 s (q_ v)) : (Int32 × MS) ⊕ MS))) (fun r => ∃ s', r = Sum.inl s' ∧ s'.1 = n_ (p + 1) ∧ ms_ [29] st s'.2 ∧ (∀ i, i < s → s'.2.2.1 29 i = q_ (T i)) ∧ s'.2.2.1 29 s = q_ (mx_ T s (p + 1))) := fun v hv => by
        refine ev_g (n_in hs (by omega)) (ev_some ⟨_, rfl, rfl, ms_tr g1 (ms_sa (by simp) _ _ _), fun i hi => ?_, ?_⟩)
        · dsimp only; rw [sa_at, upd_ne (by omega)]; exact g2 i hi
        · dsimp only; rw [sa_at, upd_at, hv]; simp only [mx_]; rw [if_pos c']
      refine ev_ifq (q_le ⟨by omega, by omega⟩ ⟨by omega, by omega⟩) (fun c2 => ?_) (fun c2 => ?_)
      · exact ev_g (n_in hs (by omega)) (fin _ (by omega))
      · exact fin _ (by omega)
  · obtain ⟨v, s1⟩ := y
    obtain ⟨e0, g1, g2, g3⟩ := hP
    dsimp only at e0 g1 g2 g3 ⊢
    subst e0
    refine ev_eq (r := .inr s1) (fun n => ?_) ⟨_, rfl, g1, g2, g3⟩
    unfold f_fewest_L111
    rw [g1.1, h5]
    simp (disch := omega) only [n_le]
    rw [ef_T (by omega)]
theorem rf_fewest_82 {np nk : Nat} {ss : SS_} (ok : ss_ok np nk ss) {k h : Nat} (hh : h < 256) {st : MS} (h5 : st.1 5 = n_ np) (h17 : ∀ c, c < 64 → st.2.1 17 c = q_ (ss_fl ss.1 k c)) (h0 : st.2.1 29 0 = q_ 0) (v2 : Int32) : Ev_ (fun n => f_fewest_L82l n v2 (n_ h) (1, st)) (fun s1 => ms_ [29] st s1 ∧ ∀ i, i ≤ h → s1.2.1 29 i = q_ (gt_ np (ss_fl ss.1 k) h (h + 1) i)) := by
  have h8 := ok.1
  unfold f_fewest_L82l
  refine ev_for h (fun (j : Nat) (y : Int32 × MS) => y.1 = n_ (j + 1) ∧ ms_ [29] st y.2 ∧ ∀ i, i < j + 1 → y.2.2.1 29 i = q_ (gt_ np (ss_fl ss.1 k) h (j + 1) i)) (fun j y hj hP => ?_) (fun y hP => ?_) _ ⟨n_lit 1, ms_rfl _ _, fun i hi => ?_⟩
  · obtain ⟨v, s1⟩ := y
    obtain ⟨e0, g1, g2⟩ := hP
    dsimp only at e0 g1 g2 ⊢
    subst e0
    generalize hsv : j + 1 = s at *
    have hs0 : 0 < s := by omega
    have hs : s < 256 := by omega
    have h51 : s1.1 5 = n_ np := by rw [g1.1]; exact h5
    have hidx : n_ s + 1 = n_ (s + 1) := by rw [n_lit 1, n_add]
    have hgt : gt_ np (ss_fl ss.1 k) h (s + 1) = fw_up (gt_ np (ss_fl ss.1 k) h s) s (gv_ np (ss_fl ss.1 k) h (gt_ np (ss_fl ss.1 k) h s) s) := by
      simp only [gt_]; rw [if_neg (by omega)]
    have hTb := fun i => gt_b h8 (ss_fl ss.1 k) h s (by omega) i
    -- the end of a round
    have fin : ∀ (s2 : MS) (v : Int), ms_ [29] st s2 → (∀ i, i < s → s2.2.1 29 i = q_ (gt_ np (ss_fl ss.1 k) h s i)) → v = gv_ np (ss_fl ss.1 k) h (gt_ np (ss_fl ss.1 k) h s) s → ∃ s', (Sum.inl (n_ (s + 1), m_sa s2 29 s (q_ v)) : (Int32 × MS) ⊕ MS) = Sum.inl s' ∧ s'.1 = n_ (s + 1) ∧ ms_ [29] st s'.2 ∧ ∀ i, i < s + 1 → s'.2.2.1 29 i = q_ (gt_ np (ss_fl ss.1 k) h (s + 1) i) := fun s2 v m2 a2 ev => by
      refine ⟨_, rfl, rfl, ms_tr m2 (ms_sa (by simp) _ _ _), fun i hi => ?_⟩
      dsimp only
      rw [sa_at, hgt]
      by_cases e : i = s
      · rw [e, upd_at, fw_up_at, ev]
      · rw [upd_ne e, fw_up_ne e]; exact a2 i (by omega)
    unfold f_fewest_L82 f_fewest_J208 f_fewest_J210
    rw [hidx, n_nat (by omega)]
    refine ev_ifF (by rw [n_lt (by omega) (by omega)]; omega) (ev_g (n_in hs (by omega)) ?_)
    refine ev_if (fun c => ?_) (fun c => ?_)
    · rw [show (0 : Int32) = q_ 0 from rfl]
      rw [show ((q_ 0 : Int32), m_sa s1 29 s (q_ 0)) = ((0 : Int32), m_sa s1 29 s (q_ 0)) from rfl]
      refine ev_b (rf_fewest_111 h8 hs0 hs (fun i _ => hTb i) (st := m_sa s1 29 s (q_ 0)) h51 (fun i hi => by rw [sa_at, upd_ne (by omega)]; exact g2 i hi) (by rw [sa_at, upd_at]) v2 (n_ h)) (fun s2 hs2 => ?_)
      obtain ⟨m2, a2, a3⟩ := hs2
      have m2' : ms_ [29] st s2 := ms_tr g1 (ms_tr (ms_sa (by simp) _ _ _) m2)
      refine ev_g (n_in hs (by omega)) ?_
      refine ev_b (rf_sumBy ok (by rw [m2'.1]; exact h5) (fun c hc => by rw [m2'.2.2 17 (by simp)]; exact h17 c hc) (n_ s)) (fun r hr => ?_)
      subst hr
      rw [a3]
      refine ev_if (fun c2 => ?_) (fun c2 => ?_)
      · refine ev_g (n_in hs (by omega)) (ev_some ?_)
        rw [show (1 : Int32) = q_ 1 from rfl, q_add]
        exact fin s2 _ m2' a2 (by unfold gv_; rw [if_pos c, if_pos (show q_ (gs_ np (ss_fl ss.1 k) (n_ s)) = (0 : Int32) from c2)])
      · refine ev_g (n_in hs (by omega)) (ev_some ?_)
        rw [q_add]
        exact fin s2 _ m2' a2 (by unfold gv_; rw [if_pos c, if_neg (show ¬ q_ (gs_ np (ss_fl ss.1 k) (n_ s)) = (0 : Int32) from c2)])
    · refine ev_some ?_
      rw [show (0 : Int32) = q_ 0 from rfl]
      exact fin s1 0 g1 g2 (by unfold gv_; rw [if_neg c])
  · obtain ⟨v, s1⟩ := y
    obtain ⟨e0, g1, g2⟩ := hP
    dsimp only at e0 g1 g2 ⊢
    subst e0
    refine ev_eq (r := .inr s1) (fun n => ?_) ⟨_, rfl, g1, fun i hi => g2 i (by omega)⟩
    unfold f_fewest_L82
    rw [ef_T (by rw [n_lt (by omega) (by omega)]; omega)]
  · dsimp only at hi ⊢
    rw [show i = 0 by omega]
    exact h0
theorem rf_fewest {g : GS_} (ok : g_ok g) (nw : ss_nw (g_np g) (g_nk g) (g_s g)) {st : MS} (R0 : rf_R g st) (z w : Int32) : Ev_ (fun n => f_fewest n st z w) (fun r => rf_R g r.2 ∧ Sp_fewest g z w r.1) := by
  have R := rf_R_8 R0
  have h8 := ok.1
  unfold f_fewest f_fewest_J23 f_fewest_J241
  refine rf_k ok R z (fun k hk ez => ?_)
  subst ez
  have hfl := fl_s_ok ok.2.2.1 nw hk
  simp only [isIn01, m_bs, m_ifb]
  by_cases c : 0 ≤ w.toInt ∧ w.toInt ≤ 1
  · simp only [if_pos c]
    refine ev_b (rf_lays ok R hk) (fun s hs => ?_)
    refine ev_b (rf_fewest_37 ok.2.2.1 hfl hs.1.1 hs.2.2 w) (fun y hy => ?_)
    subst hy
    have hlt : hN_ (ss_fl (g_s g).1 k) (g_np g) < 256 := by
      have h1 := hN_lt (ss_fl (g_s g).1 k) (g_np g)
      have h2 : 2 ^ g_np g ≤ 2 ^ 8 := Nat.pow_le_pow_right (by omega) h8
      omega
    generalize hN_ (ss_fl (g_s g).1 k) (g_np g) = hv at *
    dsimp only
    refine ev_g (by rw [n_lit 0]; exact n_in (by omega) (by omega)) ?_
    rw [z_nat]
    refine ev_b (rf_fewest_82 ok.2.2.1 hlt (st := m_sa s 29 0 0) hs.1.1 (fun c hc => by rw [sa_ne _ (by omega)]; exact hs.2.2 c hc) (by rw [sa_at, upd_at]; rfl) w) (fun s1 hs1 => ?_)
    have R1 := rf_R_ms hs.1 (ms_tr (ks := [29]) (ms_sa (by simp) _ _ _) hs1.1) (by decide)
    have ev := hs1.2 hv (Nat.le_refl _)
    refine ev_ifq (c' := w.toInt = 1) ⟨fun z => by rw [z]; rfl, fun z => Int32.toInt_inj.mp (by rw [z]; rfl)⟩ (fun e => ?_) (fun e => ?_)
    · simp only [if_pos e]
      refine ev_g (n_in hlt (by omega)) ?_
      rw [n_nat (by omega), ev]
      exact ev_some ⟨R1, rfl⟩
    · simp only [if_neg e]
      refine ev_bn (fun n => rf_bc n _) (ev_g (n_in hlt (by omega)) ?_)
      rw [n_nat (by omega), ev]
      exact ev_some ⟨R1, rfl⟩
  · simp only [if_neg c]
    exact ev_some ⟨R, m2_q⟩
