set_option maxRecDepth 100000
/-! Relief, what goes through, all kinds -/
theorem Q1_0 {np nk : Nat} {s : SS_} (ok : ss_ok np nk s) (nw : ss_nw np nk s) {k : Nat} (hk : k < nk) {X : Nat → Int} (hX : Q1_ np s (ss_fl s.1 k) X) : ∀ c, c < 64 → ¬ fs_cp np c → ss_fl s.1 k c = 0 ∧ X c = 0 := fun c hc hn => ⟨ss_fl_cp ok k c hn, hX.1.1.2.1 c hc hn⟩
theorem rf_relief {g : GS_} (ok : g_ok g) (nw : ss_nw (g_np g) (g_nk g) (g_s g)) {st : MS} (R0 : rf_R g st) (x z : Int32) : Ev_ (fun n => f_relief n st x z) (fun r => rf_R g r.2 ∧ Sp_pk g x z (fun p k r => sp1_ (g_np g) (g_s g) (ss_fl (g_s g).1 k) (fun X => q_ (100000000 + rl_f (ss_fl (g_s g).1 k) X p)) (q_ (-1)) r) r.1) := by
  have R := rf_R_8 R0
  have h8 := ok.1
  unfold f_relief f_relief_J21 f_relief_J41
  refine rf_pk ok R x z (fun p k hp hk ex ez => ?_)
  subst ex; subst ez
  refine rf_P1 ok nw R hk (fun s X m1 h17 h22 hX => ?_) (fun s m1 hN => ?_)
  · exact ev_ifF n_10 (ev_b (rf_reliefOf h8 (by rw [m1.1]; exact R.1) h17 h22 (Q1_0 ok.2.2.1 nw hk hX) (by omega)) (fun r hr => ev_some ⟨rf_R_ms R m1 sc_p, Or.inl ⟨X, hX, hr⟩⟩))
  · exact ev_ifT (n_lit 0).symm (ev_some ⟨rf_R_ms R m1 sc_p, Or.inr ⟨hN, rfl⟩⟩)
/-- sums of a row at a party: no more than the flows' or seven caps -/
theorem Q1_sum {np nk : Nat} {s : SS_} (ok : ss_ok np nk s) {f : Nat → Int} (h : fl_ok np f) {X : Nat → Int} (hX : Q1_ np s f X) {p : Nat} (hp : p < 8) : 0 ≤ fs_out X p + fs_in X p ∧ fs_out X p + fs_in X p < 2047483648 := by
  have hn := fs_O_no2 h.1 hX.1
  have hnn : ∀ k, k < 64 → 0 ≤ X k := fun k hk => fs_F_nn hX.1.1 hk
  constructor
  · have h1 : 0 ≤ fs_out X p := fw_sm_nonneg (fun b hb => hnn _ (by omega))
    have h2 : 0 ≤ fs_in X p := fw_sm_nonneg (fun b hb => hnn _ (by omega))
    omega
  · have key : ∀ a b, a < 8 → b < 8 → X (8 * a + b) ≤ (if s.2.2 = 2 then 99999999 else f (8 * a + b) + f (8 * b + a)) := fun a b ha hb8 => by
      have n1 := h.2.1 (8 * a + b)
      have n2 := h.2.1 (8 * b + a)
      by_cases c : fs_cp np (8 * a + b)
      · have g1 := (hX.1.1.1 _ (by omega) c).2
        have g2 : ss_be np s f (8 * a + b) = ss_bd s f (8 * a + b) := by unfold ss_be; exact if_pos c
        have g3 := ok.2.2.2.2.1 (8 * a + b) (by omega)
        rw [g2] at g1
        unfold ss_bd at g1
        rw [show (8 * a + b) % 8 = b by omega, show (8 * a + b) / 8 = a by omega] at g1
        by_cases c0 : s.2.2 = 0
        · rw [if_pos c0] at g1; rw [if_neg (by omega)]; omega
        · rw [if_neg c0] at g1
          by_cases cm : s.2.2 = 2
          · rw [if_pos cm] at g1 ⊢; omega
          · rw [if_neg cm] at g1 ⊢; omega
      · rw [hX.1.1.2.1 _ (by omega) c]; split <;> omega
    have hsum : fs_out X p + fs_in X p ≤ fw_sm 8 (fun b => if s.2.2 = 2 then 99999999 else f (8 * p + b) + f (8 * b + p)) := by
      unfold fs_out fs_in
      rw [← fw_sm_add]
      refine fw_sm_le (fun b hb8 => ?_)
      have k1 := key p b hp hb8
      have k2 := key b p hb8 hp
      have k3 := hnn (8 * p + b) (by omega)
      have k4 := hnn (8 * b + p) (by omega)
      rcases hn p b hp hb8 with q | q
      · rw [q]; rw [show f (8 * b + p) + f (8 * p + b) = f (8 * p + b) + f (8 * b + p) by omega] at k2; omega
      · rw [q]; omega
    by_cases cm : s.2.2 = 2
    · simp only [if_pos cm, fw_sm_8] at hsum
      omega
    · simp only [if_neg cm] at hsum
      have h3 : fw_sm 8 (fun b => f (8 * p + b) + f (8 * b + p)) = fs_out f p + fs_in f p := by
        unfold fs_out fs_in; rw [fw_sm_add]
      have h4 := h.2.2.2 p hp
      omega
theorem rlf_fit {np nk : Nat} {s : SS_} (ok : ss_ok np nk s) {f : Nat → Int} (h : fl_ok np f) {X : Nat → Int} (hX : Q1_ np s f X) {p : Nat} (hp : p < 8) : -2047483648 < rl_f f X p ∧ rl_f f X p < 2047483648 := by
  have h1 := Q1_sum ok h hX hp
  have h2 := h.2.2.2 p hp
  have h3 := fs_out_nn h.2.1 p
  unfold rl_f
  omega
/-- the first of the greatest -/
def am_ (v : Nat → Int) : Nat → Int
  | 0 => -1
  | n + 1 => if am_ v n = -1 ∨ v n > v (am_ v n).toNat then n else am_ v n
theorem am_b (v : Nat → Int) : ∀ n, -1 ≤ am_ v n ∧ am_ v n < n := by
  intro n
  induction n with
  | zero => exact ⟨by simp [am_], by simp [am_]⟩
  | succ n ih => simp only [am_]; split <;> omega
theorem rf_relieved {g : GS_} (ok : g_ok g) (nw : ss_nw (g_np g) (g_nk g) (g_s g)) {st : MS} (R0 : rf_R g st) (z : Int32) : Ev_ (fun n => f_relieved n st z) (fun r => rf_R g r.2 ∧ Sp_k g z (fun k r => sp1_ (g_np g) (g_s g) (ss_fl (g_s g).1 k) (fun X => q_ (am_ (rl_f (ss_fl (g_s g).1 k) X) (g_np g))) (q_ (-1)) r) r.1) := by
  have R := rf_R_8 R0
  have h8 := ok.1
  unfold f_relieved
  refine rf_k ok R z (fun k hk ez => ?_)
  subst ez
  have hfl := fl_s_ok ok.2.2.1 nw hk
  refine rf_P1 ok nw R hk (fun s X m1 h17 h22 hX => ?_) (fun s m1 hN => ?_)
  · refine ev_ifF n_10 ?_
    have h5 : s.1 5 = n_ (g_np g) := by rw [m1.1]; exact R.1
    refine ev_b (P := fun y => y = (q_ (am_ (rl_f (ss_fl (g_s g).1 k) X) (g_np g)), s)) ?_ (fun y hy => by subst hy; exact ev_some ⟨rf_R_ms R m1 sc_p, Or.inl ⟨X, hX, rfl⟩⟩)
    unfold f_relieved_L30l
    refine ev_for (g_np g) (fun i y => y = (q_ (am_ (rl_f (ss_fl (g_s g).1 k) X) i), n_ i, s)) (fun i y hi hP => ?_) (fun y hP => ?_) _ (by rw [← n_lit 0]; rfl)
    · subst hP
      have hb := am_b (rl_f (ss_fl (g_s g).1 k) X) i
      have hs : ∀ n, f_relieved_L30 n (q_ (am_ (rl_f (ss_fl (g_s g).1 k) X) i)) (n_ i) s = m_if (am_ (rl_f (ss_fl (g_s g).1 k) X) i = -1) (some (.inl (n_ i, n_ (i + 1), s))) (m_b (f_reliefOf n s (n_ i)) (fun r11 => m_b (f_reliefOf n s (q_ (am_ (rl_f (ss_fl (g_s g).1 k) X) i))) (fun r13 => m_if (r11 ≤ r13) (some (.inl (q_ (am_ (rl_f (ss_fl (g_s g).1 k) X) i), n_ (i + 1), s))) (some (.inl (n_ i, n_ (i + 1), s)))))) := fun n => by
        unfold f_relieved_L30 f_relieved_J56 f_relieved_J58
        rw [h5, m1_q, show n_ i + 1 = n_ (i + 1) from by rw [n_lit 1, n_add]]
        simp (disch := omega) only [n_le, q_eq']
        rw [ef_F (show ¬ g_np g ≤ i by omega)]
      simp only [hs]
      refine ev_if (fun c => ?_) (fun c => ?_)
      · refine ev_some ⟨_, rfl, ?_⟩
        simp only [am_]
        rw [if_pos (Or.inl c)]; rfl
      · refine ev_b (rf_reliefOf h8 h5 h17 h22 (Q1_0 ok.2.2.1 nw hk hX) (show i < 8 by omega)) (fun r hr => ?_)
        subst hr
        have eb : q_ (am_ (rl_f (ss_fl (g_s g).1 k) X) i) = n_ (am_ (rl_f (ss_fl (g_s g).1 k) X) i).toNat := by
          unfold n_; rw [Int.toNat_of_nonneg (by omega)]
        have hb8 : (am_ (rl_f (ss_fl (g_s g).1 k) X) i).toNat < 8 := by omega
        rw [eb]
        refine ev_b (rf_reliefOf h8 h5 h17 h22 (Q1_0 ok.2.2.1 nw hk hX) hb8) (fun r hr => ?_)
        subst hr
        have f1 := rlf_fit ok.2.2.1 hfl hX (show i < 8 by omega)
        have f2 := rlf_fit ok.2.2.1 hfl hX hb8
        refine ev_ifq (q_le ⟨by omega, by omega⟩ ⟨by omega, by omega⟩) (fun c2 => ?_) (fun c2 => ?_)
        · refine ev_some ⟨_, rfl, ?_⟩
          simp only [am_]
          rw [if_neg (fun z => z.elim c (fun z => by omega)), eb]
        · refine ev_some ⟨_, rfl, ?_⟩
          simp only [am_]
          rw [if_pos (Or.inr (by omega))]; rfl
    · subst hP
      refine ev_eq (r := .inr (q_ (am_ (rl_f (ss_fl (g_s g).1 k) X) (g_np g)), s)) (fun n => ?_) ⟨_, rfl, rfl⟩
      unfold f_relieved_L30
      dsimp only
      rw [h5]
      simp (disch := omega) only [n_le]
      rw [ef_T (by omega)]
  · exact ev_ifT (n_lit 0).symm (ev_some ⟨rf_R_ms R m1 sc_p, Or.inr ⟨hN, rfl⟩⟩)
noncomputable def Sp_through (g : GS_) (x z w : Int32) (r : Int32) : Prop := Sp_pk g x z (fun p k r => if 0 ≤ w.toInt ∧ w.toInt ≤ 1 then (if w.toInt = 1 then sp1_ (g_np g) (g_s g) (ss_fl (g_s g).1 k) (fun X => q_ (min (fs_out X p) (fs_in X p))) (q_ (-1)) r else r = q_ (min (fs_out (ss_fl (g_s g).1 k) p) (fs_in (ss_fl (g_s g).1 k) p))) else r = q_ (-2)) r
theorem rf_through {g : GS_} (ok : g_ok g) (nw : ss_nw (g_np g) (g_nk g) (g_s g)) {st : MS} (R0 : rf_R g st) (x z w : Int32) : Ev_ (fun n => f_through n st x z w) (fun r => rf_R g r.2 ∧ Sp_through g x z w r.1) := by
  have R := rf_R_8 R0
  have h8 := ok.1
  unfold f_through f_through_J31 f_through_J59
  refine rf_pk ok R x z (fun p k hp hk ex ez => ?_)
  subst ex; subst ez
  have hfl := fl_s_ok ok.2.2.1 nw hk
  have hk4 : k < 4 := by have := ok.2.1; omega
  simp only [isIn01, m_bs, m_ifb]
  by_cases c : 0 ≤ w.toInt ∧ w.toInt ≤ 1
  · simp only [if_pos c]
    refine ev_ifq (c' := w.toInt = 1) ⟨fun z => by rw [z]; rfl, fun z => Int32.toInt_inj.mp (by rw [z]; rfl)⟩ (fun e => ?_) (fun e => ?_)
    · simp only [if_pos e]
      refine rf_P1 ok nw R hk (fun s X m1 h17 h22 hX => ?_) (fun s m1 hN => ?_)
      · have h1 := Q1_sum ok.2.2.1 hfl hX (show p < 8 by omega)
        have h2 : 0 ≤ fs_out X p := fw_sm_nonneg (fun b hb => fs_F_nn hX.1.1 (by omega))
        have h3 : 0 ≤ fs_in X p := fw_sm_nonneg (fun b hb => fs_F_nn hX.1.1 (by omega))
        exact ev_ifF n_10 (ev_b (rf_throughBy h22 (by omega) ⟨by omega, by omega⟩ ⟨by omega, by omega⟩) (fun r hr => ev_some ⟨rf_R_ms R m1 sc_p, Or.inl ⟨X, hX, hr⟩⟩))
      · exact ev_ifT (n_lit 0).symm (ev_some ⟨rf_R_ms R m1 sc_p, Or.inr ⟨hN, rfl⟩⟩)
    · simp only [if_neg e]
      rw [m1_q]
      refine ev_b (rf_laysFlows ok.2.2.1 R.2.2.2.2.2.2.1 hk4 (w := -1) ⟨by omega, by omega⟩) (fun s hs => ?_)
      rw [fl_wo_1] at hs
      have f1 := fl_fit hfl (show p < 8 by omega)
      exact ev_b (rf_throughBy hs.2 (by omega) ⟨by omega, by omega⟩ ⟨by omega, by omega⟩) (fun r hr => ev_some ⟨rf_R_ms R hs.1 (by decide), hr⟩)
  · simp only [if_neg c]
    exact ev_some ⟨R, m2_q⟩
/-- the least totals of all kinds, or none -/
def Sp_all (g : GS_) (r : Int32) : Prop := (∃ T : Nat → Int, (∀ k, k < g_nk g → ∃ X, QO_ (g_np g) (g_s g) (ss_fl (g_s g).1 k) (ss_be (g_np g) (g_s g) (ss_fl (g_s g).1 k)) X ∧ T k = fs_tot X) ∧ r = q_ (fw_sm (g_nk g) T)) ∨ ((∃ k, k < g_nk g ∧ QN_ (g_np g) (g_s g) (ss_fl (g_s g).1 k) (ss_be (g_np g) (g_s g) (ss_fl (g_s g).1 k))) ∧ r = q_ (-1))
theorem rf_all {g : GS_} (ok : g_ok g) (nw : ss_nw (g_np g) (g_nk g) (g_s g)) {st : MS} (R0 : rf_R g st) : Ev_ (fun n => f_all n st) (fun r => rf_R g r.2 ∧ Sp_all g r.1) := by
  have R := rf_R_8 R0
  have h4 := ok.2.1
  unfold f_all
  refine ev_b (P := lq_ (fun s => rf_R g s ∧ ∃ k, k < g_nk g ∧ QN_ (g_np g) (g_s g) (ss_fl (g_s g).1 k) (ss_be (g_np g) (g_s g) (ss_fl (g_s g).1 k))) (fun y => rf_R g y.2 ∧ Sp_all g y.1)) ?_ (fun y hy => ?_)
  · unfold f_all_L9l
    refine ev_lpg (β := Nat × (Nat → Int)) (fun b => g_nk g - b.1) (fun b y => b.1 ≤ g_nk g ∧ y.1 = q_ (fw_sm b.1 b.2) ∧ y.2.1 = n_ b.1 ∧ rf_R g y.2.2 ∧ ∀ k, k < b.1 → ∃ X, QO_ (g_np g) (g_s g) (ss_fl (g_s g).1 k) (ss_be (g_np g) (g_s g) (ss_fl (g_s g).1 k)) X ∧ b.2 k = fs_tot X) (fun b y hb => ?_) (0, fun _ => 0) _ ⟨by omega, rfl, n_lit 0, R, fun k hk => absurd hk (Nat.not_lt_zero _)⟩
    obtain ⟨i, T⟩ := b
    obtain ⟨v1, v2, s⟩ := y
    obtain ⟨hi, e1, e2, Rs, hT⟩ := hb
    dsimp only at hi e1 e2 Rs hT ⊢
    subst e1; subst e2
    by_cases c : i = g_nk g
    · subst c
      refine ev_eq (r := .inr (.inr (q_ (fw_sm (g_nk g) T), s))) (fun n => ?_) ⟨Rs, Or.inl ⟨T, hT, rfl⟩⟩
      unfold f_all_L9
      rw [Rs.2.1]
      simp (disch := omega) only [n_le]
      rw [ef_T (by omega)]
    · have hik : i < g_nk g := by omega
      have hs : ∀ n, f_all_L9 n (q_ (fw_sm i T)) (n_ i) s = m_b (f_laysBounds n s (n_ i) (q_ (-1))) (fun s3 => m_b2 (f_presses n s3) (fun r5 s6 => m_if (r5 = 0) (some (.inr (.inl s6))) (m_b (f_sumOf n s6) (fun r9 => some (.inl (q_ (fw_sm i T) + r9, n_ (i + 1), s6)))))) := fun n => by
        unfold f_all_L9
        rw [Rs.2.1, m1_q, show n_ i + 1 = n_ (i + 1) from by rw [n_lit 1, n_add]]
        simp (disch := omega) only [n_le]
        rw [ef_F (show ¬ g_nk g ≤ i by omega)]
      simp only [hs]
      refine rf_LP ok nw Rs hik (w := -1) ⟨by omega, by omega⟩ (fun s1 X t m1 _ hrp TT => ?_) (fun s1 m1 hN => ?_)
      · refine ev_ifF n_10 (ev_b (rf_sumOf hrp.2.1) (fun r hr => ?_))
        subst hr
        rw [fl_wo_1] at TT
        rw [q_add]
        refine ev_some ⟨(i + 1, fw_up T i (fs_tot X)), ⟨by dsimp only; omega, ?_, rfl, rf_R_ms Rs m1 sc_p, fun k hk => ?_⟩, by dsimp only; omega⟩
        · dsimp only
          show _ = q_ (fw_sm i (fw_up T i (fs_tot X)) + fw_up T i (fs_tot X) i)
          rw [fw_up_at, fw_sm_congr (fun j hj => fw_up_ne (by omega))]
        · dsimp only at hk ⊢
          by_cases e : k = i
          · subst e
            exact ⟨X, (th_any ok.2.2.1 (fl_s_ok ok.2.2.1 nw hik) (fun c hc => ss_be_b _ _ _ c) X).mp TT.1, fw_up_at _ _ _⟩
          · rw [fw_up_ne e]; exact hT k (by omega)
      · rw [fl_wo_1] at hN
        exact ev_ifT (n_lit 0).symm (ev_some ⟨rf_R_ms Rs m1 sc_p, i, hik, hN⟩)
  · cases y with
    | inl s => exact ev_sL (ev_some ⟨hy.1, Or.inr ⟨hy.2, rfl⟩⟩)
    | inr y => exact ev_sR (ev_some hy)
