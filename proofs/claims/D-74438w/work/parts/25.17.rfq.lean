set_option maxRecDepth 100000
/-! More of the reference's public methods that press -/
theorem isIn01 (n : Nat) (w : Int32) : f_isIn n w.toInt64 0 1 = some (b_ (0 ≤ w.toInt ∧ w.toInt ≤ 1)) := by
  rw [rf_isIn, Int32.toInt_toInt64]; rfl
theorem be_up_b {np nk : Nat} {s : SS_} (ok : ss_ok np nk s) {f : Nat → Int} (h : fl_ok np f) {k : Nat} (hk : k < 64) {v : Int} (hv : v ≤ ss_bd s f k + 100000000) : ∀ c, c < 64 → fs_cp np c → fw_up (ss_be np s f) k v c ≤ ss_bd s f c + 100000000 := fun c hc hcp => by
  by_cases e : c = k
  · subst e; rw [fw_up_at]; exact hv
  · rw [fw_up_ne e]; exact ss_be_b np s f c hcp
/-- a turn behind a press -/
theorem rf_turnK {g : GS_} (ok : g_ok g) (nw : ss_nw (g_np g) (g_nk g) (g_s g)) {st0 s : MS} (R : rf_R g st0) {k : Nat} (hk : k < g_nk g) {be : Nat → Int} (hb : ∀ c, c < 64 → 0 ≤ be c ∧ be c < 2147483648) (hb0 : ∀ c, c < 64 → ¬ fs_cp (g_np g) c → be c = 0) (hbb : ∀ c, c < 64 → fs_cp (g_np g) c → be c ≤ ss_bd (g_s g) (ss_fl (g_s g).1 k) c + 100000000) {a b : Nat} (ha : a < g_np g) (hb8 : b < g_np g) (hab : a ≠ b) (hi : Bool) {X t : Nat → Int} (m : ms_ [17, 21, 22, 23, 24, 25, 26, 27, 28] st0 s) (hrp : rp_ s be (ss_may (g_s g) (ss_fl (g_s g).1 k)) rn_no X t) (T : rn_T (g_np g) (ss_nu (g_np g) (ss_fl (g_s g).1 k)) be (some (ss_may (g_s g) (ss_fl (g_s g).1 k))) (ss_may (g_s g) (ss_fl (g_s g).1 k)) rn_no X t) :
    Ev_ (fun n => m_b (f_turns n s (n_ a) (n_ b) (n_ (if hi then 1 else 0))) (fun s18 => m_b (f_couple n (n_ a) (n_ b)) (fun r20 => m_g (m_in r20 64) (some (s18.2.1 22 (r20 : Int32).toNatClampNeg, s18))))) (fun r => rf_R g r.2 ∧ spK_ hi (g_np g) (g_s g) (ss_fl (g_s g).1 k) be (8 * a + b) r.1) := by
  have hfl := fl_s_ok ok.2.2.1 nw hk
  have h8 := ok.1
  have A := rf_A (g_s g) hfl (be := be) (fun c hc => (hb c hc).1) hb0
  refine ev_b (rf_turns A hb (fun p hp => ss_may_fit (g_s g) hfl hp) (show a < 8 by omega) (show b < 8 by omega) (by rw [fs_cp_at (by omega)]; exact ⟨ha, hb8, hab⟩) rfl hi hrp T) (fun s1 hs1 => ?_)
  obtain ⟨m1, X', t', hrp', T', _, hs⟩ := hs1
  refine ev_bn (fun n => rf_couple n a b) (ev_g (n_in (by omega) (by omega)) ?_)
  rw [n_nat (by omega), hrp'.2.1 _ (by omega)]
  refine ev_some ⟨rf_R_ms R (ms_tr (ks := [17, 21, 22, 23, 24, 25, 26, 27, 28]) m (ms_sub m1 (by simp))) sc_p, Or.inl ⟨X', (th_any ok.2.2.1 hfl hbb X').mp T'.1, fun y hy => ?_, rfl⟩⟩
  exact hs y ((th_any ok.2.2.1 hfl hbb y).mpr hy) (fun j _ q => by cases q)
theorem be_c0 {np : Nat} (s : SS_) (f : Nat → Int) : ∀ c, c < 64 → ¬ fs_cp np c → ss_be np s f c = 0 := fun c _ hn => by unfold ss_be; exact if_neg hn
noncomputable def Sp_span (g : GS_) (x y z w : Int32) (r : Int32) : Prop := Sp_2 g x y z (fun a b k r => if 0 ≤ w.toInt ∧ w.toInt ≤ 1 then spK_ (decide (w.toInt = 1)) (g_np g) (g_s g) (ss_fl (g_s g).1 k) (ss_be (g_np g) (g_s g) (ss_fl (g_s g).1 k)) (8 * a + b) r else r = q_ (-3)) r
theorem rf_span {g : GS_} (ok : g_ok g) (nw : ss_nw (g_np g) (g_nk g) (g_s g)) {st : MS} (R0 : rf_R g st) (x y z w : Int32) : Ev_ (fun n => f_span n st x y z w) (fun r => rf_R g r.2 ∧ Sp_span g x y z w r.1) := by
  have R := rf_R_8 R0
  unfold f_span f_span_J22 f_span_J68
  refine rf_2 ok R x y z (fun a b k ha hb hab hk ex ey ez => ?_)
  subst ex; subst ey; subst ez
  simp only [isIn01, m_bs, m_ifb]
  by_cases c : 0 ≤ w.toInt ∧ w.toInt ≤ 1
  · simp only [if_pos c]
    rw [m1_q]
    refine rf_LP ok nw R hk (w := -1) ⟨by omega, by omega⟩ (fun s X t m1 _ hrp T => ?_) (fun s m1 hN => ?_)
    · refine ev_ifF n_10 ?_
      rw [fl_wo_1] at hrp T
      have hfl := fl_s_ok ok.2.2.1 nw hk
      have key := fun hi => rf_turnK ok nw R hk (fun c hc => by have := ss_be_fit ok.2.2.1 hfl hc; omega) (be_c0 _ _) (fun c _ hc => ss_be_b _ _ _ c hc) ha hb hab hi m1 hrp T
      refine ev_ifq (c' := w.toInt = 1) ⟨fun z => by rw [z]; rfl, fun z => Int32.toInt_inj.mp (by rw [z]; rfl)⟩ (fun e => ?_) (fun e => ?_)
      · have := key true
        rw [if_pos rfl, ← n_lit 1] at this
        rw [show decide (w.toInt = 1) = true by simp [e]]
        exact this
      · have := key false
        rw [if_neg (by simp), ← n_lit 0] at this
        rw [show decide (w.toInt = 1) = false by simp [e]]
        exact this
    · rw [fl_wo_1] at hN
      exact ev_ifT (n_lit 0).symm (ev_some ⟨rf_R_ms R m1 sc_p, Or.inr ⟨hN, rfl⟩⟩)
  · simp only [if_neg c]
    exact ev_some ⟨R, m3_q⟩
/-- a press behind another, a couple's bound being another one -/
theorem rf_press2 {g : GS_} (ok : g_ok g) (nw : ss_nw (g_np g) (g_nk g) (g_s g)) {st0 s : MS} (R : rf_R g st0) {k : Nat} (hk : k < g_nk g) {be : Nat → Int} (hb : ∀ c, c < 64 → 0 ≤ be c ∧ be c < 2147483648) (hb0 : ∀ c, c < 64 → ¬ fs_cp (g_np g) c → be c = 0) (hbb : ∀ c, c < 64 → fs_cp (g_np g) c → be c ≤ ss_bd (g_s g) (ss_fl (g_s g).1 k) c + 100000000) (m : ms_ [17, 21, 22, 23, 24, 25, 26, 27, 28] st0 s) (h17 : ∀ c, c < 64 → s.2.1 17 c = q_ (ss_fl (g_s g).1 k c)) (h21 : ∀ c, c < 64 → s.2.1 21 c = q_ (be c)) (h23 : ∀ p, p < 8 → s.2.1 23 p = q_ (ss_may (g_s g) (ss_fl (g_s g).1 k) p)) (h26 : ∀ c, c < 64 → s.2.1 26 c = n_ 0) {β : Type} {K : Nat → Int32 → MS → Option β} {Q : β → Prop}
    (hT : ∀ s' X t, ms_ [17, 21, 22, 23, 24, 25, 26, 27, 28] st0 s' → rp_ s' be (ss_may (g_s g) (ss_fl (g_s g).1 k)) rn_no X t → rn_T (g_np g) (ss_nu (g_np g) (ss_fl (g_s g).1 k)) be (some (ss_may (g_s g) (ss_fl (g_s g).1 k))) (ss_may (g_s g) (ss_fl (g_s g).1 k)) rn_no X t → Ev_ (fun n => K n (n_ 1) s') Q)
    (hN : ∀ s', ms_ [17, 21, 22, 23, 24, 25, 26, 27, 28] st0 s' → QN_ (g_np g) (g_s g) (ss_fl (g_s g).1 k) be → Ev_ (fun n => K n (n_ 0) s') Q) : Ev_ (fun n => m_b2 (f_presses n s) (K n)) Q := by
  have hfl := fl_s_ok ok.2.2.1 nw hk
  have A := rf_A (g_s g) hfl (be := be) (fun c hc => (hb c hc).1) hb0
  refine ev_b2 (rf_presses A hb (fun p hp => ss_may_fit (g_s g) hfl hp) (fun p hp => by have := fl_fit hfl hp; omega) (by rw [m.1]; exact R.1) h17 h21 h23 h26) (fun r s2 hr => ?_)
  rcases hr with ⟨e, m2, hz, _⟩ | ⟨e, m2, _, hz⟩
  · dsimp only at e
    subst e
    obtain ⟨X, t, hrp, T⟩ := hz rfl
    exact hT s2 X t (ms_tr m (ms_sub m2 (by simp))) hrp T
  · dsimp only at e
    subst e
    exact hN s2 (ms_tr m (ms_sub m2 (by simp))) ((th_F ok.2.2.1 hfl hbb).mp (hz rfl))
def spG_ (np : Nat) (s : SS_) (f : Nat → Int) (k : Nat) (r : Int32) : Prop := (∃ X Y, QO_ np s f (ss_be np s f) X ∧ QO_ np s f (fw_up (ss_be np s f) k (ss_be np s f k + 1)) Y ∧ r = q_ (fs_tot X - fs_tot Y)) ∨ (QN_ np s f (ss_be np s f) ∧ r = q_ (-1))
theorem rf_gain {g : GS_} (ok : g_ok g) (nw : ss_nw (g_np g) (g_nk g) (g_s g)) {st : MS} (R0 : rf_R g st) (x y z : Int32) : Ev_ (fun n => f_gain n st x y z) (fun r => rf_R g r.2 ∧ Sp_2 g x y z (fun a b k r => spG_ (g_np g) (g_s g) (ss_fl (g_s g).1 k) (8 * a + b) r) r.1) := by
  have R := rf_R_8 R0
  have h8 := ok.1
  unfold f_gain f_gain_J22
  refine rf_2 ok R x y z (fun a b k ha hb hab hk ex ey ez => ?_)
  subst ex; subst ey; subst ez
  rw [m1_q]
  have hfl := fl_s_ok ok.2.2.1 nw hk
  refine rf_LP ok nw R hk (w := -1) ⟨by omega, by omega⟩ (fun s X t m1 h17 hrp T => ?_) (fun s m1 hN => ?_)
  · refine ev_ifF n_10 ?_
    rw [fl_wo_1] at hrp T h17
    refine ev_b (rf_sumOf hrp.2.1) (fun r14 hr14 => ?_)
    subst hr14
    refine ev_bn (fun n => rf_couple n a b) (ev_g (n_in (by omega) (by omega)) (ev_g (n_in (by omega) (by omega)) ?_))
    rw [n_nat (by omega), hrp.1 _ (by omega), show (1 : Int32) = q_ 1 from rfl, q_add]
    have hfit := ss_be_fit ok.2.2.1 hfl (show 8 * a + b < 64 by omega)
    have hcp : fs_cp (g_np g) (8 * a + b) := by rw [fs_cp_at (by omega)]; exact ⟨ha, hb, hab⟩
    have hbd : ss_be (g_np g) (g_s g) (ss_fl (g_s g).1 k) (8 * a + b) = ss_bd (g_s g) (ss_fl (g_s g).1 k) (8 * a + b) := by
      unfold ss_be; exact if_pos hcp
    refine rf_press2 ok nw R hk (be := fw_up (ss_be (g_np g) (g_s g) (ss_fl (g_s g).1 k)) (8 * a + b) (ss_be (g_np g) (g_s g) (ss_fl (g_s g).1 k) (8 * a + b) + 1)) (fun c hc => ?_) (fun c hc hn => ?_) (be_up_b ok.2.2.1 hfl (by omega) (by omega)) (ms_tr m1 (ms_sa (by simp) _ _ _)) (fun c hc => ?_) (fun c hc => ?_) (fun p hp => ?_) (fun c hc => ?_) (fun s' Y t' m2 hrp' T' => ?_) (fun s' m2 hN => ?_)
    · by_cases e : c = 8 * a + b
      · rw [e, fw_up_at]; omega
      · rw [fw_up_ne e]; have := ss_be_fit ok.2.2.1 hfl hc; omega
    · rw [fw_up_ne (fun e => hn (by rw [e]; exact hcp))]; exact be_c0 _ _ c hc hn
    · rw [sa_ne _ (by omega)]; exact h17 c hc
    · rw [sa_at]
      by_cases e : c = 8 * a + b
      · rw [e, upd_at, fw_up_at]
      · rw [upd_ne e, fw_up_ne e]; exact hrp.1 c hc
    · rw [sa_ne _ (by omega)]; exact hrp.2.2.1 p hp
    · rw [sa_ne _ (by omega)]; exact hrp.2.2.2.2 c hc
    · refine ev_b (rf_sumOf hrp'.2.1) (fun r23 hr23 => ?_)
      subst hr23
      rw [q_sub]
      exact ev_some ⟨rf_R_ms R m2 sc_p, Or.inl ⟨X, Y, (th_any ok.2.2.1 hfl (fun c hc => ss_be_b _ _ _ c) X).mp T.1, (th_any ok.2.2.1 hfl (be_up_b ok.2.2.1 hfl (by omega) (by omega)) Y).mp T'.1, rfl⟩⟩
    · have hX := ((th_any ok.2.2.1 hfl (fun c hc => ss_be_b _ _ _ c) X).mp T.1).1
      exact absurd ⟨fun j hj q => by
        have := hX.1 j hj q
        by_cases e : j = 8 * a + b
        · rw [e, fw_up_at]; rw [e] at this; (try dsimp only at this); omega
        · rw [fw_up_ne e]; exact this, hX.2.1, hX.2.2.1, hX.2.2.2⟩ (hN X)
  · rw [fl_wo_1] at hN
    exact ev_ifT (n_lit 0).symm (ev_some ⟨rf_R_ms R m1 sc_p, Or.inr ⟨hN, rfl⟩⟩)
noncomputable def be_en (np : Nat) (s : SS_) (f : Nat → Int) (k : Nat) : Nat → Int := fw_up (ss_be np s f) k 99999999
theorem rf_enough {g : GS_} (ok : g_ok g) (nw : ss_nw (g_np g) (g_nk g) (g_s g)) {st : MS} (R0 : rf_R g st) (x y z : Int32) : Ev_ (fun n => f_enough n st x y z) (fun r => rf_R g r.2 ∧ Sp_2 g x y z (fun a b k r => spK_ false (g_np g) (g_s g) (ss_fl (g_s g).1 k) (be_en (g_np g) (g_s g) (ss_fl (g_s g).1 k) (8 * a + b)) (8 * a + b) r) r.1) := by
  have R := rf_R_8 R0
  have h8 := ok.1
  unfold f_enough f_enough_J22
  refine rf_2 ok R x y z (fun a b k ha hb hab hk ex ey ez => ?_)
  subst ex; subst ey; subst ez
  rw [m1_q]
  have hfl := fl_s_ok ok.2.2.1 nw hk
  have hk4 : k < 4 := by have := ok.2.1; omega
  refine ev_b (rf_laysBounds ok.2.2.1 R.2.2.2.2.2.2.1 R.1 hk4 ⟨by omega, by omega⟩ (fun p hp => by rw [fl_wo_1]; have := fl_fit hfl hp; omega)) (fun s1 hs1 => ?_)
  rw [fl_wo_1] at hs1
  obtain ⟨m1, g17, g21, g26, g23⟩ := hs1
  refine ev_bn (fun n => rf_couple n a b) (ev_g (n_in (by omega) (by omega)) ?_)
  rw [n_nat (by omega), show (99999999 : Int32) = q_ 99999999 from rfl]
  have hcp : fs_cp (g_np g) (8 * a + b) := by rw [fs_cp_at (by omega)]; exact ⟨ha, hb, hab⟩
  have hbd := ss_bd_fit ok.2.2.1 hfl (show 8 * a + b < 64 by omega)
  have hb1 : ∀ c, c < 64 → 0 ≤ be_en (g_np g) (g_s g) (ss_fl (g_s g).1 k) (8 * a + b) c ∧ be_en (g_np g) (g_s g) (ss_fl (g_s g).1 k) (8 * a + b) c < 2147483648 := fun c hc => by
    unfold be_en
    by_cases e : c = 8 * a + b
    · rw [e, fw_up_at]; omega
    · rw [fw_up_ne e]; have := ss_be_fit ok.2.2.1 hfl hc; omega
  have hb2 : ∀ c, c < 64 → ¬ fs_cp (g_np g) c → be_en (g_np g) (g_s g) (ss_fl (g_s g).1 k) (8 * a + b) c = 0 := fun c hc hn => by
    unfold be_en
    rw [fw_up_ne (fun e => hn (by rw [e]; exact hcp))]; exact be_c0 _ _ c hc hn
  have hb3 : ∀ c, c < 64 → fs_cp (g_np g) c → be_en (g_np g) (g_s g) (ss_fl (g_s g).1 k) (8 * a + b) c ≤ ss_bd (g_s g) (ss_fl (g_s g).1 k) c + 100000000 := be_up_b ok.2.2.1 hfl (by omega) (by omega)
  refine rf_press2 ok nw R hk hb1 hb2 hb3 (ms_tr (ms_sub m1 (by simp)) (ms_sa (by simp) _ _ _)) (fun c hc => ?_) (fun c hc => ?_) (fun p hp => ?_) (fun c hc => ?_) (fun s' Y t' m2 hrp' T' => ?_) (fun s' m2 hN => ?_)
  · rw [sa_ne _ (by omega)]; exact g17 c hc
  · rw [sa_at]
    unfold be_en
    by_cases e : c = 8 * a + b
    · rw [e, upd_at, fw_up_at]
    · rw [upd_ne e, fw_up_ne e]; exact g21 c hc
  · rw [sa_ne _ (by omega)]; exact g23 p hp
  · rw [sa_ne _ (by omega)]; exact g26 c hc
  · refine ev_ifF n_10 ?_
    have key := rf_turnK ok nw R hk hb1 hb2 hb3 ha hb hab false m2 hrp' T'
    rw [if_neg (by simp), ← n_lit 0] at key
    exact key
  · exact ev_ifT (n_lit 0).symm (ev_some ⟨rf_R_ms R m2 sc_p, Or.inr ⟨hN, rfl⟩⟩)
