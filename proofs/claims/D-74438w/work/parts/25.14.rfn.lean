set_option maxRecDepth 100000
/-! The reference presses, couple by couple the least -/
/-- what the flows of a kind are: between parties, none below nothing, and their sums fit -/
def fl_ok (np : Nat) (f : Nat → Int) : Prop := np ≤ 8 ∧ (∀ c, 0 ≤ f c) ∧ (∀ c, c < 64 → ¬ fs_cp np c → f c = 0) ∧ (∀ p, p < 8 → fs_out f p + fs_in f p < 2047483648)
theorem fl_nu {np : Nat} {f : Nat → Int} (h : fl_ok np f) {p : Nat} (hp : p < 8) : ss_nu np f p = fs_out f p - fs_in f p := by
  obtain ⟨h8, h1, h2, _⟩ := h
  have ext : ∀ (g : Nat → Int), (∀ b, np ≤ b → b < 8 → g b = 0) → fw_sm 8 g = fw_sm np g := fun g hg => by
    have : ∀ m, np + m ≤ 8 → fw_sm (np + m) g = fw_sm np g := by
      intro m
      induction m with
      | zero => intro _; rfl
      | succ m ih => intro hm; show fw_sm (np + m) g + g (np + m) = _; rw [ih (by omega), hg _ (by omega) (by omega)]; omega
    have := this (8 - np) (by omega)
    rwa [show np + (8 - np) = 8 by omega] at this
  unfold ss_nu
  by_cases c : p < np
  · rw [if_pos c, fw_sm_sub]
    unfold fs_out fs_in
    rw [ext (fun b => f (8 * p + b)) (fun b hb hb8 => h2 _ (by omega) (by rw [fs_cp_at hb8]; omega)), ext (fun b => f (8 * b + p)) (fun b hb hb8 => h2 _ (by omega) (by rw [fs_cp_at hp]; omega))]
  · rw [if_neg c]
    unfold fs_out fs_in
    rw [fw_sm_z (fun b hb => h2 _ (by omega) (by rw [fs_cp_at hb]; omega)), fw_sm_z (fun b hb => h2 _ (by omega) (by rw [fs_cp_at hp]; omega))]; rfl
theorem fl_nu0 {np : Nat} {f : Nat → Int} (h : fl_ok np f) : fw_sm 8 (ss_nu np f) = 0 := by
  rw [fw_sm_congr (fun p hp => fl_nu h hp), fw_sm_sub]
  unfold fs_out fs_in
  rw [fw_sm_swap 8 8 (fun p b => f (8 * b + p))]; omega
theorem fl_fit {np : Nat} {f : Nat → Int} (h : fl_ok np f) {p : Nat} (hp : p < 8) : (0 ≤ fs_out f p ∧ fs_out f p < 2047483648) ∧ (0 ≤ fs_in f p ∧ fs_in f p < 2047483648) ∧ (-2047483648 < ss_nu np f p ∧ ss_nu np f p < 2047483648) := by
  have h1 := fs_out_nn h.2.1 p
  have h2 := h.2.2.2 p hp
  rw [fl_nu h hp]
  omega
theorem fl_c {np : Nat} {f : Nat → Int} (h : fl_ok np f) {c : Nat} (hc : c < 64) : 0 ≤ f c ∧ f c < 2047483648 := by
  have h1 := fs_out_ge h.2.1 (p := c / 8) (q := c % 8) (by omega)
  rw [show 8 * (c / 8) + c % 8 = c by omega] at h1
  have h2 := (fl_fit h (show c / 8 < 8 by omega)).1
  exact ⟨h.2.1 c, by omega⟩
/-- a couple's two flows are among a party's -/
theorem fl_c2 {np : Nat} {f : Nat → Int} (h : fl_ok np f) {c : Nat} (hc : c < 64) : f c + f (8 * (c % 8) + c / 8) < 2047483648 := by
  have h1 := fs_out_ge h.2.1 (p := c / 8) (q := c % 8) (by omega)
  have h3 := fs_in_ge h.2.1 (p := c / 8) (q := c % 8) (by omega)
  rw [show 8 * (c / 8) + c % 8 = c by omega] at h1
  have h2 := h.2.2.2 (c / 8) (by omega)
  omega
theorem ss_bd_fit {np nk : Nat} {s : SS_} (ok : ss_ok np nk s) {f : Nat → Int} (h : fl_ok np f) {c : Nat} (hc : c < 64) : 0 ≤ ss_bd s f c ∧ ss_bd s f c < 2047483648 := by
  have h1 := fl_c h hc
  have h2 := fl_c2 h hc
  have h3 := h.2.1 (8 * (c % 8) + c / 8)
  have h4 := ok.2.2.2.2.1 c hc
  unfold ss_bd
  split
  · omega
  · split <;> omega
theorem ss_be_fit {np nk : Nat} {s : SS_} (ok : ss_ok np nk s) {f : Nat → Int} (h : fl_ok np f) {c : Nat} (hc : c < 64) : 0 ≤ ss_be np s f c ∧ ss_be np s f c < 2047483648 := by
  unfold ss_be
  split
  · exact ss_bd_fit ok h hc
  · omega
theorem ss_may_fit (s : SS_) {np : Nat} {f : Nat → Int} (h : fl_ok np f) {p : Nat} (hp : p < 8) : 0 ≤ ss_may s f p ∧ ss_may s f p < 2147483648 := by
  have := fl_fit h hp
  unfold ss_may
  split <;> omega
/-- the reference's own words for what is asked; bounds may be otherwise for a couple -/
theorem rf_A {np : Nat} (s : SS_) {f : Nat → Int} (h : fl_ok np f) {be : Nat → Int} (hb : ∀ k, k < 64 → 0 ≤ be k) (hb0 : ∀ k, k < 64 → ¬ fs_cp np k → be k = 0) : rn_A np (ss_nu np f) be (some (ss_may s f)) (ss_may s f) := by
  refine ⟨h.1, hb, hb0, fun p hp => (ss_may_fit s h hp).1, fun p h1 h2 => by unfold ss_nu; rw [if_neg (by omega)], fl_nu0 h, fun y hy p hp => ?_, fun y p hp hy => hy⟩
  by_cases c : p < np
  · exact hy.2.2.2 p c
  · obtain ⟨z1, z2⟩ := fs_F_0 h.1 hy (by omega) hp
    rw [z1, z2]
    have := (ss_may_fit s h hp).1
    omega
theorem fl_wo_ok {np nk : Nat} {s : SS_} (ok : ss_ok np nk s) (nw : ss_nw np nk s) {k : Nat} (hk : k < nk) (w : Int) : fl_ok np (fl_wo w (ss_fl s.1 k)) := by
  have hle : ∀ c, 0 ≤ fl_wo w (ss_fl s.1 k) c ∧ fl_wo w (ss_fl s.1 k) c ≤ ss_fl s.1 k c := fun c => by
    have := ss_fl_nn ok k c
    unfold fl_wo
    split <;> omega
  refine ⟨ok.1, fun c => (hle c).1, fun c hc hn => by have := hle c; rw [ss_fl_cp ok k c hn] at this; omega, fun p hp => ?_⟩
  have h1 : fs_out (fl_wo w (ss_fl s.1 k)) p ≤ fs_out (ss_fl s.1 k) p := fw_sm_le (fun i _ => (hle _).2)
  have h2 : fs_in (fl_wo w (ss_fl s.1 k)) p ≤ fs_in (ss_fl s.1 k) p := fw_sm_le (fun i _ => (hle _).2)
  by_cases c : p < np
  · have := nw.1 k hk p c; omega
  · have z1 : fs_out (ss_fl s.1 k) p = 0 := fw_sm_z (fun b hb => ss_fl_cp ok k _ (by rw [fs_cp_at hb]; omega))
    have z2 : fs_in (ss_fl s.1 k) p = 0 := fw_sm_z (fun b hb => ss_fl_cp ok k _ (by rw [fs_cp_at hp]; omega))
    omega
theorem fl_wo_1 (f : Nat → Int) : fl_wo (-1) f = f := by
  funext c
  unfold fl_wo
  rw [if_neg (by omega)]
theorem fl_s_ok {np nk : Nat} {s : SS_} (ok : ss_ok np nk s) (nw : ss_nw np nk s) {k : Nat} (hk : k < nk) : fl_ok np (ss_fl s.1 k) := by
  have := fl_wo_ok ok nw hk (-1)
  rwa [fl_wo_1] at this
theorem rf_pressesFirst {np nk : Nat} {s : SS_} (ok : ss_ok np nk s) (nw : ss_nw np nk s) {st : MS} (h : rf_V s (st.2.1 0)) (h5 : st.1 5 = n_ np) {k : Nat} (hk : k < nk) :
    Ev_ (fun n => f_pressesFirst n st (n_ k)) (fun r => ms_ [17, 21, 22, 23, 24, 25, 26, 27, 28] st r.2 ∧ (∀ c, c < 64 → r.2.2.1 17 c = q_ (ss_fl s.1 k c)) ∧ ((r.1 = n_ 1 ∧ ∃ X, (∀ c, c < 64 → r.2.2.1 22 c = q_ (X c)) ∧ fs_1 np (ss_nu np (ss_fl s.1 k)) (ss_be np s (ss_fl s.1 k)) (some (ss_may s (ss_fl s.1 k))) X) ∨ (r.1 = n_ 0 ∧ ∀ y, ¬ fs_F np (ss_nu np (ss_fl s.1 k)) (ss_be np s (ss_fl s.1 k)) (some (ss_may s (ss_fl s.1 k))) y))) := by
  have hfl := fl_s_ok ok nw hk
  have h8 := ok.1
  have hk4 : k < 4 := by have := ok.2.1; omega
  unfold f_pressesFirst
  rw [m1_q]
  refine ev_b (rf_laysBounds ok h h5 hk4 ⟨by omega, by omega⟩ (fun p hp => by
    rw [fl_wo_1]; have := fl_fit hfl hp; omega)) (fun s1 hs1 => ?_)
  rw [fl_wo_1] at hs1
  obtain ⟨m1, g17, g21, g26, g23⟩ := hs1
  generalize hf : ss_fl s.1 k = f at *
  have A := rf_A s hfl (be := ss_be np s f) (fun c hc => (ss_be_fit ok hfl hc).1) (fun c hc hn => by unfold ss_be; exact if_neg hn)
  have hb : ∀ c, c < 64 → 0 ≤ ss_be np s f c ∧ ss_be np s f c < 2147483648 := fun c hc => by have := ss_be_fit ok hfl hc; omega
  have hm : ∀ p, p < 8 → 0 ≤ ss_may s f p ∧ ss_may s f p < 2147483648 := fun p hp => ss_may_fit s hfl hp
  have h51 : s1.1 5 = n_ np := by rw [m1.1]; exact h5
  refine ev_b2 (rf_presses A hb hm (fun p hp => by have := fl_fit hfl hp; omega) h51 g17 g21 g23 g26) (fun r s2 hr => ?_)
  rcases hr with ⟨e, m2, hz, _⟩ | ⟨e, m2, _, hz⟩
  · dsimp only at e
    subst e
    obtain ⟨X, t, hrp, T⟩ := hz rfl
    refine ev_ifF n_10 ?_
    have e0 : rn_no = fx_ np 0 := by funext j; unfold rn_no fx_; simp
    have start : rg_ np (ss_nu np f) (ss_be np s f) (some (ss_may s f)) (ss_may s f) s2 0 s2 := ⟨ms_rfl _ _, X, t, by rw [← e0]; exact hrp, by rw [← e0]; exact T, fun j hj => absurd hj (Nat.not_lt_zero _)⟩
    have h52 : s2.1 5 = n_ np := by rw [m2.1]; exact h51
    refine ev_b (P := fun s3 => rg_ np (ss_nu np f) (ss_be np s f) (some (ss_may s f)) (ss_may s f) s2 (8 * np) s3) ?_ (fun s3 hs3 => ?_)
    · unfold f_pressesFirst_L17l
      refine ev_for np (fun i y => y.1 = n_ i ∧ rg_ np (ss_nu np f) (ss_be np s f) (some (ss_may s f)) (ss_may s f) s2 (8 * i) y.2) (fun i y hi hP => ?_) (fun y hP => ?_) _ ⟨n_lit 0, start⟩
      · obtain ⟨v, s3⟩ := y
        obtain ⟨e0, g1⟩ := hP
        dsimp only at e0 g1 ⊢
        subst e0
        have h53 : s3.1 5 = n_ np := by rw [g1.1.1]; exact h52
        have hb1 : ∀ n, f_pressesFirst_L17 n (n_ i) s3 = m_b (f_pressesFirst_L27l n (n_ i) (n_ 0, s3)) (fun s13 => some (.inl (n_ (i + 1), s13))) := fun n => by
          unfold f_pressesFirst_L17
          rw [h53]
          simp (disch := omega) only [n_lit, n_le, n_add]
          rw [ef_F (show ¬ np ≤ i by omega)]
        simp only [hb1]
        refine ev_b (P := fun s4 => rg_ np (ss_nu np f) (ss_be np s f) (some (ss_may s f)) (ss_may s f) s2 (8 * (i + 1)) s4) ?_ (fun s4 hs4 => ev_some ⟨_, rfl, rfl, hs4⟩)
        unfold f_pressesFirst_L27l
        refine ev_for np (fun j y => y.1 = n_ j ∧ rg_ np (ss_nu np f) (ss_be np s f) (some (ss_may s f)) (ss_may s f) s2 (8 * i + j) y.2) (fun j y hj hP => ?_) (fun y hP => ?_) _ ⟨rfl, g1⟩
        · obtain ⟨v, s4⟩ := y
          obtain ⟨e0, g2⟩ := hP
          dsimp only at e0 g2 ⊢
          subst e0
          have h54 : s4.1 5 = n_ np := by rw [g2.1.1]; exact h52
          have hb2 : ∀ n, f_pressesFirst_L27 n (n_ i) (n_ j) s4 = m_if (i = j) (some (.inl (n_ (j + 1), s4))) (m_b (f_turns n s4 (n_ i) (n_ j) 0) (fun s11 => some (.inl (n_ (j + 1), s11)))) := fun n => by
            unfold f_pressesFirst_L27 f_pressesFirst_J47
            rw [h54]
            simp (disch := omega) only [n_eq, n_le]
            rw [ef_F (show ¬ np ≤ j by omega)]
            rw [show n_ j + 1 = n_ (j + 1) from by rw [n_lit 1, n_add]]
          simp only [hb2]
          refine ev_if (fun c => ?_) (fun c => ?_)
          · exact ev_some ⟨_, rfl, rfl, rg_skip (k := 8 * i + j) (by omega) (by rw [fs_cp_at (by omega)]; omega) g2⟩
          · refine ev_b (rf_turns_1 A hb hm (show i < 8 by omega) (show j < 8 by omega) (by rw [fs_cp_at (by omega)]; exact ⟨hi, hj, c⟩) g2) (fun s5 hs5 => ev_some ⟨_, rfl, rfl, hs5⟩)
        · obtain ⟨v, s4⟩ := y
          obtain ⟨e0, g2⟩ := hP
          dsimp only at e0 g2 ⊢
          subst e0
          have h54 : s4.1 5 = n_ np := by rw [g2.1.1]; exact h52
          -- the couples behind are none
          have skip : ∀ m, np + m ≤ 8 → rg_ np (ss_nu np f) (ss_be np s f) (some (ss_may s f)) (ss_may s f) s2 (8 * i + (np + m)) s4 := by
            intro m
            induction m with
            | zero => intro _; exact g2
            | succ m ih => intro hm; exact rg_skip (k := 8 * i + (np + m)) (by omega) (by rw [fs_cp_at (by omega)]; omega) (ih (by omega))
          have h9 := skip (8 - np) (by omega)
          rw [show 8 * i + (np + (8 - np)) = 8 * (i + 1) by omega] at h9
          refine ev_eq (r := .inr s4) (fun n => ?_) ⟨_, rfl, h9⟩
          unfold f_pressesFirst_L27
          rw [h54]
          simp (disch := omega) only [n_le]
          rw [ef_T (by omega)]
      · obtain ⟨v, s3⟩ := y
        obtain ⟨e0, g1⟩ := hP
        dsimp only at e0 g1 ⊢
        subst e0
        have h53 : s3.1 5 = n_ np := by rw [g1.1.1]; exact h52
        refine ev_eq (r := .inr s3) (fun n => ?_) ⟨_, rfl, g1⟩
        unfold f_pressesFirst_L17
        rw [h53]
        simp (disch := omega) only [n_le]
        rw [ef_T (by omega)]
    · have skip : ∀ m, 8 * np + m ≤ 64 → rg_ np (ss_nu np f) (ss_be np s f) (some (ss_may s f)) (ss_may s f) s2 (8 * np + m) s3 := by
        intro m
        induction m with
        | zero => intro _; exact hs3
        | succ m ih => intro hm; exact rg_skip (k := 8 * np + m) (by omega) (by unfold fs_cp; omega) (ih (by omega))
      have h9 := skip (64 - 8 * np) (by omega)
      rw [show 8 * np + (64 - 8 * np) = 64 by omega] at h9
      obtain ⟨m3, X', t', hrp', T', h1'⟩ := h9
      refine ev_eq (r := (n_ 1, s3)) (fun n => ?_) ⟨ms_tr (ms_sub m1 (by simp)) (ms_tr (ms_sub m2 (by simp)) (ms_sub m3 (by simp))), fun c hc => ?_, Or.inl ⟨rfl, X', hrp'.2.1, T'.1, h1'⟩⟩
      · rw [n_lit 1, n_01.1, m_gT]
      · rw [m3.2.2 17 (by simp), m2.2.2 17 (by simp)]; exact g17 c hc
  · dsimp only at e
    subst e
    refine ev_ifT (n_lit 0).symm ?_
    refine ev_eq (r := (n_ 0, s2)) (fun n => ?_) ⟨ms_tr (ms_sub m1 (by simp)) (ms_sub m2 (by simp)), fun c hc => ?_, Or.inr ⟨rfl, hz rfl⟩⟩
    · rw [n_lit 0, n_01.2, m_gT]
    · rw [m2.2.2 17 (by simp)]; exact g17 c hc
