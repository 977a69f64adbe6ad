set_option maxRecDepth 100000
/-! The component's questions by least totals, by a couple's least -/
theorem yT_least {d : UD} {b : Nat} {o : Nat → Nat} {u : UM} {t : Nat} {g : GS_} {a : Nat} {nu be may : Nat → Int} {th : Option (Nat → Int)} (h : yT_ d b o u t g a nu be may) (A : pA_ (g_np g) nu be th may) : Ev_ (fun n => uf_X8_least n d u a) (fun r => r.2 = (0, 0) ∧ r.1.2.2 = u.2 ∧ yR_ d b o r.1.2 t g ∧ ((r.1.1 = q_ (-1) ∧ (∀ y, ¬ fs_F (g_np g) nu be th y)) ∨ ∃ X, fs_O (g_np g) nu be th X ∧ r.1.1 = q_ (fs_tot X))) := by
  obtain ⟨aW, R, W, A', fn, fb, fc, ft, Z, P⟩ := h
  refine ev_w (up_least R W Z P A) (fun r hr => ?_)
  obtain ⟨q1, q2, q3, q4, q5⟩ := hr
  exact ⟨q1, q2, ⟨aW, yR0_keep R q3 KQ_T, q4⟩, q5⟩
theorem yT_span {d : UD} {b : Nat} {o : Nat → Nat} {u : UM} {t : Nat} {g : GS_} {a : Nat} {nu be may : Nat → Int} {th : Option (Nat → Int)} (h : yT_ d b o u t g a nu be may) (A : pA_ (g_np g) nu be th may) {x y : Nat} (hx : x < g_np g) (hy : y < g_np g) (hne : x ≠ y) (hi : Bool) {p2 : Int32} (hp : p2 = if hi then 1 else 0) : Ev_ (fun n => uf_X8_span n d u a (n_ x) (n_ y) p2) (fun r => r.2 = (0, 0) ∧ r.1.2.2 = u.2 ∧ yR_ d b o r.1.2 t g ∧ ((r.1.1 = q_ (-1) ∧ (∀ y, ¬ fs_F (g_np g) nu be th y)) ∨ ∃ X, fs_O (g_np g) nu be th X ∧ (∀ z, fs_O (g_np g) nu be th z → if hi then z (8 * x + y) ≤ X (8 * x + y) else X (8 * x + y) ≤ z (8 * x + y)) ∧ r.1.1 = q_ (X (8 * x + y)))) := by
  obtain ⟨aW, R, W, A', fn, fb, fc, ft, Z, P⟩ := h
  refine ev_w (up_span R W Z P A hx hy hne hi hp) (fun r hr => ?_)
  obtain ⟨q1, q2, q3, _, q4, q5⟩ := hr
  exact ⟨q1, q2, ⟨aW, yR0_keep R q3 KQ_T, q4⟩, q5⟩
/-- bounds of a kind as they are fit -/
theorem ss_pA {np nk : Nat} {s : SS_} (ok : ss_ok np nk s) {f : Nat → Int} (h : fl_ok np f) : pA_ np (ss_nu np f) (ss_be np s f) (ss_th s f) (cm_ np s f) :=
  cm_A s h (fun k hk => by have := ss_be_fit ok h hk; omega) (fun k hk hn => by unfold ss_be; exact if_neg hn)
theorem ss_pAu {np nk : Nat} {s : SS_} (ok : ss_ok np nk s) {f : Nat → Int} (h : fl_ok np f) {j : Nat} (hj : j < 64) (hc : fs_cp np j) {v : Int} (hv : 0 ≤ v ∧ v < 2147483648) : pA_ np (ss_nu np f) (fw_up (ss_be np s f) j v) (ss_th s f) (cm_ np s f) := by
  refine cm_A s h (fun k hk => ?_) (fun k hk hn => ?_)
  · by_cases c : k = j
    · subst c; rw [fw_up_at]; exact hv
    · rw [fw_up_ne c]; have := ss_be_fit ok h hk; omega
  · rw [fw_up_ne (fun z => hn (by rw [z]; exact hc))]; unfold ss_be; exact if_neg hn
section
variable {d : UD} {b : Nat} {o : Nat → Nat} {u : UM} {t : Nat} {g : GS_}
theorem uq_least (h : yR_ d b o u t g) (ok : g_ok g) (nw : ss_nw (g_np g) (g_nk g) (g_s g)) (z : Int32) : Ev_ (fun n => uf_X0_least n d u t z) (fun r => yO_ d b u t g r ∧ Sp_least g z r.1.1) := by
  obtain ⟨h0, aN, s0, fs, k1, k2, k3, _⟩ := yR_N h
  have sok := ok.2.2.1
  unfold uf_X0_least uf_X0_least_J21 Sp_least
  simp only [k2, m_bs, uq_isKind _ h ok, m_ifb]
  by_cases c : 0 ≤ z.toInt ∧ z.toInt < g_nk g
  · simp only [if_pos c]
    obtain ⟨k, hk, rfl, e1⟩ := pi_ c
    rw [e1]
    refine ev_bc (P := fun a u' c => c = (7, 215) ∧ u'.2 = u.2 + 7 ∧ ∃ o', ygt_ b K2_ o u o' u' ∧ yT_ d b o' u' t g a (ss_nu (g_np g) (ss_fl (g_s g).1 k)) (ss_be (g_np g) (g_s g) (ss_fl (g_s g).1 k)) (cm_ (g_np g) (g_s g) (ss_fl (g_s g).1 k))) (uq_pressing h ok nw hk) (fun a u' c hp => by rw [hp.1]; exact hp.2.1) (fun a u10 c hp => ?_)
    obtain ⟨rfl, z1, o1, g1, T1⟩ := hp
    obtain ⟨f8, hcl⟩ := yT_cl T1
    refine ev_b1 hcl ?_
    have A1 := ss_pA sok (fl_s_ok sok nw hk)
    refine ev_bc (P := fun r u' c => c = (0, 0) ∧ u'.2 = u10.2 ∧ yR_ d b o1 u' t g ∧ ((r = q_ (-1) ∧ (∀ y, ¬ fs_F (g_np g) (ss_nu (g_np g) (ss_fl (g_s g).1 k)) (ss_be (g_np g) (g_s g) (ss_fl (g_s g).1 k)) (ss_th (g_s g) (ss_fl (g_s g).1 k)) y)) ∨ ∃ X, fs_O (g_np g) (ss_nu (g_np g) (ss_fl (g_s g).1 k)) (ss_be (g_np g) (g_s g) (ss_fl (g_s g).1 k)) (ss_th (g_s g) (ss_fl (g_s g).1 k)) X ∧ r = q_ (fs_tot X))) (yT_least T1 A1) (fun a u' c hp => by rw [hp.1]; exact hp.2.1) (fun r u18 c hp => ?_)
    obtain ⟨rfl, z2, R2, hq⟩ := hp
    refine ev_some ⟨⟨o1, R2, by show u18.2 = u.2 + 7; rw [z2, z1], Nat.le_of_ble_eq_true rfl, Nat.le_of_ble_eq_true rfl⟩, ?_⟩
    rcases hq with ⟨rfl, hn⟩ | ⟨X, hX, rfl⟩
    · exact Or.inr ⟨hn, rfl⟩
    · exact Or.inl ⟨X, hX, rfl⟩
  · simp only [if_neg c]
    exact ev_some ⟨yO_0 h _, m2_q⟩
theorem uq_span (h : yR_ d b o u t g) (ok : g_ok g) (nw : ss_nw (g_np g) (g_nk g) (g_s g)) (x y z w : Int32) : Ev_ (fun n => uf_X0_span n d u t x y z w) (fun r => yO_ d b u t g r ∧ Sp_span g x y z w r.1.1) := by
  obtain ⟨h0, aN, s0, fs, k1, k2, k3, _⟩ := yR_N h
  have sok := ok.2.2.1
  unfold uf_X0_span uf_X0_span_J42 uf_X0_span_J50 Sp_span Sp_2
  simp only [k2, m_bs, uq_areAll _ h ok, m_ifb]
  by_cases c : ((0 ≤ x.toInt ∧ x.toInt < g_np g) ∧ (0 ≤ y.toInt ∧ y.toInt < g_np g) ∧ x.toInt ≠ y.toInt) ∧ (0 ≤ z.toInt ∧ z.toInt < g_nk g)
  · simp only [if_pos c]
    have hne := c.1.2.2
    obtain ⟨a1, ha, rfl, e1⟩ := pi_ c.1.1
    obtain ⟨b1, hb, rfl, e2⟩ := pi_ c.1.2.1
    obtain ⟨k, hk, rfl, e3⟩ := pi_ c.2
    rw [e1, e2, e3]
    have hne' : a1 ≠ b1 := fun q => hne (by rw [q])
    simp only [uin_lit _ d u w (lo := 0) (hi := 1) (a := 0) (c := 1) rfl rfl, m_bs, m_ifb]
    by_cases cw : 0 ≤ w.toInt ∧ w.toInt ≤ 1
    · simp only [if_pos cw]
      refine ev_bc (P := fun a u' c => c = (7, 215) ∧ u'.2 = u.2 + 7 ∧ ∃ o', ygt_ b K2_ o u o' u' ∧ yT_ d b o' u' t g a (ss_nu (g_np g) (ss_fl (g_s g).1 k)) (ss_be (g_np g) (g_s g) (ss_fl (g_s g).1 k)) (cm_ (g_np g) (g_s g) (ss_fl (g_s g).1 k))) (uq_pressing h ok nw hk) (fun a u' c hp => by rw [hp.1]; exact hp.2.1) (fun a u10 c hp => ?_)
      obtain ⟨rfl, z1, o1, g1, T1⟩ := hp
      obtain ⟨f8, hcl⟩ := yT_cl T1
      have A1 := ss_pA sok (fl_s_ok sok nw hk)
      have core : ∀ (hi : Bool) (v : Int32), (v = if hi then 1 else 0) → hi = decide (w.toInt = 1) → Ev_ (fun n => m_b (u_cl u10 8 a) (fun _ => u_bc u10.2 (uf_X8_span n d u10 a (n_ a1) (n_ b1) v) (fun r21 u22 => some ((r21, u22), ((0, 0) : UC))))) (fun r => yO_ d b u t g (r.1, u_add (7, 215) r.2) ∧ spK_ (decide (w.toInt = 1)) (g_np g) (g_s g) (ss_fl (g_s g).1 k) (ss_be (g_np g) (g_s g) (ss_fl (g_s g).1 k)) (8 * a1 + b1) r.1.1) := fun hi v hv hh => by
        refine ev_b1 hcl ?_
        refine ev_bc (P := fun r u' c => c = (0, 0) ∧ u'.2 = u10.2 ∧ yR_ d b o1 u' t g ∧ ((r = q_ (-1) ∧ (∀ y, ¬ fs_F (g_np g) (ss_nu (g_np g) (ss_fl (g_s g).1 k)) (ss_be (g_np g) (g_s g) (ss_fl (g_s g).1 k)) (ss_th (g_s g) (ss_fl (g_s g).1 k)) y)) ∨ ∃ X, fs_O (g_np g) (ss_nu (g_np g) (ss_fl (g_s g).1 k)) (ss_be (g_np g) (g_s g) (ss_fl (g_s g).1 k)) (ss_th (g_s g) (ss_fl (g_s g).1 k)) X ∧ (∀ z, fs_O (g_np g) (ss_nu (g_np g) (ss_fl (g_s g).1 k)) (ss_be (g_np g) (g_s g) (ss_fl (g_s g).1 k)) (ss_th (g_s g) (ss_fl (g_s g).1 k)) z → if hi then z (8 * a1 + b1) ≤ X (8 * a1 + b1) else X (8 * a1 + b1) ≤ z (8 * a1 + b1)) ∧ r = q_ (X (8 * a1 + b1)))) (yT_span T1 A1 ha hb hne' hi hv) (fun a u' c hp => by rw [hp.1]; exact hp.2.1) (fun r u18 c hp => ?_)
        obtain ⟨rfl, z2, R2, hq⟩ := hp
        refine ev_some ⟨⟨o1, R2, by show u18.2 = u.2 + 7; rw [z2, z1], Nat.le_of_ble_eq_true rfl, Nat.le_of_ble_eq_true rfl⟩, ?_⟩
        rcases hq with ⟨rfl, hn⟩ | ⟨X, hX, hm, rfl⟩
        · exact Or.inr ⟨hn, rfl⟩
        · rw [← hh]
          exact Or.inl ⟨X, hX, hm, rfl⟩
      refine ev_ifq (c' := w.toInt = 1) (eq_li rfl) (fun c1 => ?_) (fun c1 => ?_)
      · exact core true 1 rfl (by rw [c1]; rfl)
      · exact core false 0 rfl (by rw [decide_eq_false c1])
    · simp only [if_neg cw]
      exact ev_some ⟨yO_0 h _, m3_q⟩
  · simp only [if_neg c]
    exact ev_some ⟨yO_0 h _, m2_q⟩
theorem uq_bounds (h : yR_ d b o u t g) (ok : g_ok g) {k : Nat} (hk : k < g_nk g) : Ev_ (fun n => uf_X0_bounds n d u t (n_ k)) (fun r => r.2 = (2, 65) ∧ r.1.2.2 = u.2 + 2 ∧ ∃ o' tc, ygt_ b K2_ o u o' r.1.2 ∧ yR_ d b o' r.1.2 t g ∧ yB_ d o' r.1.2 r.1.1 tc (ss_bd (g_s g) (ss_fl (g_s g).1 k))) := by
  obtain ⟨aW, R, W⟩ := h
  have h0 := R.1
  have h4 := ok.2.1
  have sok := ok.2.2.1
  have hmode := sok.2.2.2.2.2
  obtain ⟨aN, aC, s0, fC, fs, fs1, k1, k2, k3, k4, k5, k6, k7, k8, k9, k10, k11⟩ := yR0_C R
  unfold uf_X0_bounds
  simp only [k1, k2, k4, m_bs]
  refine ev_bc (P := fun a u' c => c = (1, 64) ∧ a = u.2 ∧ u'.2 = u.2 + 1 ∧ ygt_ b K0_ o u (ot_ o u.2 21) u' ∧ ∃ f, iA_ d u' u.2 64 f ∧ ∀ c, c < 64 → f c = q_ (ss_fl (g_s g).1 k c)) (us_flows h0 k11 sok (show k < 4 by omega)) (fun a u' c hp => by rw [hp.1]; exact hp.2.2.1) (fun a u7 c hp => ?_)
  obtain ⟨rfl, rfl, p3, p4, f, p5, p6⟩ := hp
  have R7 := yR0_keep R p4 (fun x hx => hx.elim)
  have W7 := yW_keep h0 p4 W (fun _ _ _ z => z)
  have t7 : ot_ o u.2 21 u.2 = 21 := ot_at _ _ _
  generalize ot_ o u.2 21 = o7 at *
  obtain ⟨aN', aC', s0', fC', fs', fs1', j1, j2, j3, j4, j5, j6, j7, j8, j9, j10, j11⟩ := yR0_C R7
  refine ev_b1 j1 (ev_b1 j5 ?_)
  refine ev_bc (P := fun a u' c => c = (1, 1) ∧ a = u7.2 ∧ u'.2 = u7.2 + 1 ∧ ygt_ b K0_ o7 u7 (ot_ o7 u7.2 26) u' ∧ yB_ d (ot_ o7 u7.2 26) u' u7.2 (16 * s0' + 7) (ss_bd (g_s g) (ss_fl (g_s g).1 k))) (ub_by R7.1 p5 t7 p6 j6 j7 j9 (by omega)) (fun a u' c hp => by rw [hp.1]; exact hp.2.2.1) (fun a u20 c hp => ?_)
  obtain ⟨rfl, rfl, q3, q4, q5⟩ := hp
  exact ev_some ⟨rfl, by show u20.2 = u.2 + 2; rw [q3, p3], _, _, ygt_tr h0 (ygt_sub p4 (fun x hx => hx.elim)) (ygt_sub q4 (fun x hx => hx.elim)), ⟨aW, yR0_keep R7 q4 (fun x hx => hx.elim), yW_keep R7.1 q4 W7 (fun _ _ _ z => z)⟩, q5⟩
theorem uq_bound (h : yR_ d b o u t g) (ok : g_ok g) (x y z : Int32) : Ev_ (fun n => uf_X0_bound n d u t x y z) (fun r => yO_ d b u t g r ∧ Sp_2 g x y z (fun a b k r => r = q_ (ss_bd (g_s g) (ss_fl (g_s g).1 k) (8 * a + b))) r.1.1) := by
  obtain ⟨h0, aN, s0, fs, k1, k2, k3, _⟩ := yR_N h
  have h8 := ok.1
  unfold uf_X0_bound uf_X0_bound_J27 Sp_2
  simp only [k2, m_bs, uq_areAll _ h ok, m_ifb]
  by_cases c : ((0 ≤ x.toInt ∧ x.toInt < g_np g) ∧ (0 ≤ y.toInt ∧ y.toInt < g_np g) ∧ x.toInt ≠ y.toInt) ∧ (0 ≤ z.toInt ∧ z.toInt < g_nk g)
  · simp only [if_pos c]
    obtain ⟨a1, ha, rfl, e1⟩ := pi_ c.1.1
    obtain ⟨b1, hb, rfl, e2⟩ := pi_ c.1.2.1
    obtain ⟨k, hk, rfl, e3⟩ := pi_ c.2
    rw [e1, e2, e3]
    refine ev_bc (P := fun a u' c => c = (2, 65) ∧ u'.2 = u.2 + 2 ∧ ∃ o' tc, ygt_ b K2_ o u o' u' ∧ yR_ d b o' u' t g ∧ yB_ d o' u' a tc (ss_bd (g_s g) (ss_fl (g_s g).1 k))) (uq_bounds h ok hk) (fun a u' c hp => by rw [hp.1]; exact hp.2.1) (fun a u10 c hp => ?_)
    obtain ⟨rfl, z1, o1, tc, g1, R1, B1⟩ := hp
    refine ev_bn (fun n => uc_of (Or.inl B1) n (show a1 < 8 by omega) (show b1 < 8 by omega)) ?_
    exact ev_some ⟨⟨o1, R1, by show u10.2 = u.2 + 2; rw [z1], Nat.le_of_ble_eq_true rfl, Nat.le_of_ble_eq_true rfl⟩, rfl⟩
  · simp only [if_neg c]
    exact ev_some ⟨yO_0 h _, m2_q⟩
end
