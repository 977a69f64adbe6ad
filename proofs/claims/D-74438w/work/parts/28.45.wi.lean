set_option maxRecDepth 100000
/-! The component's questions with a couple's bound otherwise -/
theorem ub_is {d : UD} {o : Nat → Nat} {u : UM} {a tc : Nat} {be : Nat → Int} (h : yB_ d o u a tc be) : u_fc (u_cl u 9 a) (some ()) (u_fc (u_cl u 10 a) (some ()) (u_fc (u_cl u 11 a) (some ()) none)) = some () := by
  obtain ⟨e1, x, f, e2, e3⟩ := h
  rcases e3 with ⟨p1, _⟩ | ⟨p1, _⟩ | ⟨p1, _⟩
  · rw [cl_e p1]; rfl
  · rw [cl_ne p1 (by omega), cl_e p1]; rfl
  · rw [cl_ne p1 (by omega), cl_ne p1 (by omega), cl_e p1]; rfl
section
variable {d : UD} {b : Nat} {o : Nat → Nat} {u : UM} {t : Nat} {g : GS_}
theorem uq_pressing2 (h : yR_ d b o u t g) (ok : g_ok g) (nw : ss_nw (g_np g) (g_nk g) (g_s g)) {k : Nat} (hk : k < g_nk g) {x y : Nat} (hx : x < g_np g) (hy : y < g_np g) (hne : x ≠ y) {v : Int} (hv : 0 ≤ v ∧ v < 2147483648) :
    Ev_ (fun n => uf_X0_pressing_2 n d u t (n_ k) (n_ x) (n_ y) (q_ v)) (fun r => r.2 = (8, 219) ∧ r.1.2.2 = u.2 + 8 ∧ ∃ o', ygt_ b K2_ o u o' r.1.2 ∧ yT_ d b o' r.1.2 t g r.1.1 (ss_nu (g_np g) (ss_fl (g_s g).1 k)) (fw_up (ss_be (g_np g) (g_s g) (ss_fl (g_s g).1 k)) (8 * x + y) v) (cm_ (g_np g) (g_s g) (ss_fl (g_s g).1 k))) := by
  obtain ⟨aW, R, W⟩ := h
  have h0 := R.1
  have h8 := ok.1
  have h4 := ok.2.1
  have sok := ok.2.2.1
  have hmode := sok.2.2.2.2.2
  have fl := fl_s_ok sok nw hk
  generalize hF : ss_fl (g_s g).1 k = F at *
  obtain ⟨aN0, aC0, s00, fC0, fs0, fs10, i1, i2, i3, i4, i5, i6, i7, i8, i9, i10, i11⟩ := yR0_C R
  unfold uf_X0_pressing_2
  refine ev_b1 i1 (ev_b1 i2 ?_)
  refine ev_bc (P := fun a u' c => c = (1, 64) ∧ a = u.2 ∧ u'.2 = u.2 + 1 ∧ ygt_ b K0_ o u (ot_ o u.2 21) u' ∧ ∃ f, iA_ d u' u.2 64 f ∧ ∀ c, c < 64 → f c = q_ (ss_fl (g_s g).1 k c)) (us_flows h0 i11 sok (show k < 4 by omega)) (fun a u' c hp => by rw [hp.1]; exact hp.2.2.1) (fun a u7 c hp => ?_)
  obtain ⟨rfl, rfl, p3, p4, f, hf7, eF⟩ := hp
  rw [hF] at eF
  have R7 := yR0_keep R p4 (fun x hx => hx.elim)
  have W7 := yW_keep h0 p4 W (fun _ _ _ z => z)
  have tf7 : ot_ o u.2 21 u.2 = 21 := ot_at _ _ _
  generalize ot_ o u.2 21 = o7 at *
  refine ev_ac (ev_nw R7.1 (fun u2 c2 => ?_))
  have g2 := ygt_nw (K := K0_) (o := o7) R7.1 c2 27
  have R2 := yR0_keep R7 g2 (fun x hx => hx.elim)
  have W2 := yW_keep R7.1 g2 W7 (fun _ _ _ z => z)
  have f2 := ygt_at R7.1 g2 hf7 (fun z => z)
  have t2 : ot_ o7 u7.2 27 u7.2 = 27 := ot_at _ _ _
  have tf2 : ot_ o7 u7.2 27 u.2 = 21 := f2.2.trans tf7
  generalize ot_ o7 u7.2 27 = o2 at *
  obtain ⟨aN, aC, s0, fC, fs, fs1, k1, k2, k3, k4, k5, k6, k7, k8, k9, k10, k11⟩ := yR0_C R2
  simp only [k1, k2, k3, k4, k5, m_bs]
  refine ev_bc (P := fun a u' c => c = (1, 1) ∧ a = u2.2 ∧ u'.2 = u2.2 + 1 ∧ ygt_ b K0_ o2 u2 (ot_ o2 u2.2 26) u' ∧ yB_ d (ot_ o2 u2.2 26) u' u2.2 (16 * s0 + 7) (ss_bd (g_s g) F)) (ub_by R2.1 f2.1 tf2 eF k6 k7 k9 (by omega)) (fun a u' c hp => by rw [hp.1]; exact hp.2.2.1) (fun a u30 c hp => ?_)
  obtain ⟨rfl, rfl, q3, q4, q5⟩ := hp
  have R30 := yR0_keep R2 q4 (fun x hx => hx.elim)
  have W30 := yW_keep R2.1 q4 W2 (fun _ _ _ z => z)
  have f30 := ygt_at R2.1 q4 f2.1 (fun z => z)
  have a30 := ygt_at R2.1 q4 c2.2.1 (fun z => z)
  have tf30 := f30.2.trans tf2
  have ta30 := a30.2.trans t2
  generalize ot_ o2 u2.2 26 = o30 at *
  refine ev_b1 (ub_is q5) ?_
  refine ev_bc (P := fun a u' c => c = (1, 4) ∧ a = u30.2 ∧ u'.2 = u30.2 + 1 ∧ ygt_ b K0_ o30 u30 (ot_ o30 u30.2 26) u' ∧ yC_ d (ot_ o30 u30.2 26) u' u30.2 (16 * s0 + 7) (fun c => if c = 8 * x + y then v else ss_bd (g_s g) F c)) (ub_but R30.1 q5 (show x < 8 by omega) (show y < 8 by omega) v) (fun a u' c hp => by rw [hp.1]; exact hp.2.2.1) (fun a u37 c hp => ?_)
  obtain ⟨rfl, rfl, w3, w4, w5⟩ := hp
  have R37 := yR0_keep R30 w4 (fun x hx => hx.elim)
  have W37 := yW_keep R30.1 w4 W30 (fun _ _ _ z => z)
  have f37 := ygt_at R30.1 w4 f30.1 (fun z => z)
  have a37 := ygt_at R30.1 w4 a30.1 (fun z => z)
  have tf37 := f37.2.trans tf30
  have ta37 := a37.2.trans ta30
  generalize ot_ o30 u30.2 26 = o37 at *
  obtain ⟨aN', aC', s0', fC', fs', fs1', j1, j2, j3, j4, j5, j6, j7, j8, j9, j10, j11⟩ := yR0_C R37
  have hfit := fun p (hp : p < g_np g) => fl_fit fl (show p < 8 by omega)
  have core : ∀ v5 : Int32, ((v5 = 0 ∧ ∀ y, y < g_np g → cm_ (g_np g) (g_s g) F y = cn_FAR) ∨ (¬ v5 = 0 ∧ ∀ y, y < g_np g → cm_ (g_np g) (g_s g) F y = min (fs_out F y) (fs_in F y))) → Ev_ (fun n => uf_X0_pressing_2_J68 n d u37 v5 u30.2 u.2 (n_ (g_np g)) t u7.2 u7.2) (fun r => u_add (1, 64) (u_add (1, 6) (u_add (1, 1) (u_add (1, 4) r.2))) = (8, 219) ∧ r.1.2.2 = u.2 + 8 ∧ ∃ o', ygt_ b K2_ o u o' r.1.2 ∧ yT_ d b o' r.1.2 t g r.1.1 (ss_nu (g_np g) F) (fw_up (ss_be (g_np g) (g_s g) F) (8 * x + y) v) (cm_ (g_np g) (g_s g) F)) := fun v5 hv5 => by
    unfold uf_X0_pressing_2_J68
    refine ev_bc (P := fun _ u' c => c = (4, 144) ∧ u'.2 = u37.2 + 4 ∧ ∃ o', ygt_ b KP_ o37 u37 o' u' ∧ ∃ A fn fb fc ft, yZ_ d o' u' u7.2 t (g_np g) A fn fb fc ft ∧ pN_ (g_np g) (g_np g) F (fun c => if c = 8 * x + y then v else ss_bd (g_s g) F c) fn fb ∧ ∀ y, y < g_np g → ft y = lz_ (cm_ (g_np g) (g_s g) F y)) (up_init R37.1 a37.1 ta37 f37.1 tf37 eF w5 (by unfold KP_; omega) (fun c hc _ => by
      have := ss_bd_fit sok fl hc
      split
      · exact ⟨by omega, by omega⟩
      · exact ⟨by omega, by omega⟩) h8 fl.2.2.1 (fun p hp => by have := hfit p hp; omega) hv5) (fun a u' c hp => by rw [hp.1]; exact hp.2.1) (fun _ u48 c hp => ?_)
    obtain ⟨rfl, z3, o3, g3, A, fn, fb, fc, ft, Z3, N3, T3⟩ := hp
    refine ev_some ⟨rfl, by show u48.2 = u.2 + 8; rw [z3, w3, q3, c2.1, p3], o3, ?_, aW, yR0_keep R37 g3 (fun x hx => Or.inr (K2_P x hx)), yW_keep R37.1 g3 W37 (fun t h1 h2 z => by unfold KP_ at z; omega), A, fn, fb, fc, ft, Z3, fun x' hx' => ?_, fun x' y' hx' hy' hne' => ?_, T3⟩
    · exact ygt_tr h0 (ygt_sub p4 (fun x hx => hx.elim)) (ygt_tr R7.1 (ygt_sub g2 (fun x hx => hx.elim)) (ygt_tr R2.1 (ygt_sub q4 (fun x hx => hx.elim)) (ygt_tr R30.1 (ygt_sub w4 (fun x hx => hx.elim)) (ygt_sub g3 K2_P))))
    · rw [N3.2.1 x' hx']; unfold ss_nu; rw [if_pos hx']
    · rw [N3.2.2 x' y' hx' hy' hne']
      dsimp only
      by_cases q : 8 * x' + y' = 8 * x + y
      · rw [if_pos q, q, fw_up_at]
      · rw [if_neg q, fw_up_ne q]
        unfold ss_be
        rw [if_pos (by have : y' < 8 := by omega
                       refine ⟨by omega, by omega, by omega⟩)]
  refine ev_b1 j1 (ev_b1 j4 ?_)
  refine ev_ifq (c' := (g_s g).2.2 = 3) (by rw [n_lit 3, n_eq (by omega) (by omega)]) (fun c => ?_) (fun c => ?_)
  · exact core 1 (Or.inr ⟨by decide, fun y _ => by unfold cm_; rw [if_pos c]⟩)
  · exact core 0 (Or.inl ⟨rfl, fun y hy => by unfold cm_; rw [if_neg c, if_pos hy]⟩)
theorem uq_enough (h : yR_ d b o u t g) (ok : g_ok g) (nw : ss_nw (g_np g) (g_nk g) (g_s g)) (x y z : Int32) : Ev_ (fun n => uf_X0_enough n d u t x y z) (fun r => yO_ d b u t g r ∧ Sp_2 g x y z (fun a b k r => spK_ false (g_np g) (g_s g) (ss_fl (g_s g).1 k) (be_en (g_np g) (g_s g) (ss_fl (g_s g).1 k) (8 * a + b)) (8 * a + b) r) r.1.1) := by
  obtain ⟨h0, aN, s0, fs, k1, k2, k3, _⟩ := yR_N h
  have sok := ok.2.2.1
  have h8 := ok.1
  unfold uf_X0_enough uf_X0_enough_J31 Sp_2
  simp only [k2, m_bs, uq_areAll _ h ok, m_ifb]
  by_cases c : ((0 ≤ x.toInt ∧ x.toInt < g_np g) ∧ (0 ≤ y.toInt ∧ y.toInt < g_np g) ∧ x.toInt ≠ y.toInt) ∧ (0 ≤ z.toInt ∧ z.toInt < g_nk g)
  · simp only [if_pos c]
    have hne := c.1.2.2
    obtain ⟨a1, ha, rfl, e1⟩ := pi_ c.1.1
    obtain ⟨b1, hb, rfl, e2⟩ := pi_ c.1.2.1
    obtain ⟨k, hk, rfl, e3⟩ := pi_ c.2
    rw [e1, e2, e3]
    have hne' : a1 ≠ b1 := fun q => hne (by rw [q])
    have hq9 : (99999999 : Int32) = q_ 99999999 := q_lit 99999999
    rw [hq9]
    refine ev_bc (P := fun a u' c => c = (8, 219) ∧ u'.2 = u.2 + 8 ∧ ∃ o', ygt_ b K2_ o u o' u' ∧ yT_ d b o' u' t g a (ss_nu (g_np g) (ss_fl (g_s g).1 k)) (fw_up (ss_be (g_np g) (g_s g) (ss_fl (g_s g).1 k)) (8 * a1 + b1) 99999999) (cm_ (g_np g) (g_s g) (ss_fl (g_s g).1 k))) (uq_pressing2 h ok nw hk ha hb hne' (by omega)) (fun a u' c hp => by rw [hp.1]; exact hp.2.1) (fun a u10 c hp => ?_)
    obtain ⟨rfl, z1, o1, g1, T1⟩ := hp
    obtain ⟨f8, hcl⟩ := yT_cl T1
    refine ev_b1 hcl ?_
    have A1 := ss_pAu sok (fl_s_ok sok nw hk) (j := 8 * a1 + b1) (by omega) ((fs_cp_at (by omega)).mpr ⟨ha, hb, hne'⟩) (v := 99999999) (by omega)
    refine ev_bc (P := fun r u' c => c = (0, 0) ∧ u'.2 = u10.2 ∧ yR_ d b o1 u' t g ∧ ((r = q_ (-1) ∧ (∀ y, ¬ fs_F (g_np g) (ss_nu (g_np g) (ss_fl (g_s g).1 k)) (fw_up (ss_be (g_np g) (g_s g) (ss_fl (g_s g).1 k)) (8 * a1 + b1) 99999999) (ss_th (g_s g) (ss_fl (g_s g).1 k)) y)) ∨ ∃ X, fs_O (g_np g) (ss_nu (g_np g) (ss_fl (g_s g).1 k)) (fw_up (ss_be (g_np g) (g_s g) (ss_fl (g_s g).1 k)) (8 * a1 + b1) 99999999) (ss_th (g_s g) (ss_fl (g_s g).1 k)) X ∧ (∀ z, fs_O (g_np g) (ss_nu (g_np g) (ss_fl (g_s g).1 k)) (fw_up (ss_be (g_np g) (g_s g) (ss_fl (g_s g).1 k)) (8 * a1 + b1) 99999999) (ss_th (g_s g) (ss_fl (g_s g).1 k)) z → if false = true then z (8 * a1 + b1) ≤ X (8 * a1 + b1) else X (8 * a1 + b1) ≤ z (8 * a1 + b1)) ∧ r = q_ (X (8 * a1 + b1)))) (yT_span T1 A1 ha hb hne' false rfl) (fun a u' c hp => by rw [hp.1]; exact hp.2.1) (fun r u18 c hp => ?_)
    obtain ⟨rfl, z2, R2, hq⟩ := hp
    refine ev_some ⟨⟨o1, R2, by show u18.2 = u.2 + 8; rw [z2, z1], Nat.le_of_ble_eq_true rfl, Nat.le_of_ble_eq_true rfl⟩, ?_⟩
    rcases hq with ⟨rfl, hn⟩ | ⟨X, hX, hm, rfl⟩
    · exact Or.inr ⟨hn, rfl⟩
    · exact Or.inl ⟨X, hX, hm, rfl⟩
  · simp only [if_neg c]
    exact ev_some ⟨yO_0 h _, m2_q⟩
/-- a least total is no int's -1 -/
theorem QO_tot {np nk : Nat} {s : SS_} (ok : ss_ok np nk s) {f : Nat → Int} (h : fl_ok np f) (ht : fs_tot f < 4294967295) {X : Nat → Int} (hX : QO_ np s f (ss_be np s f) X) : 0 ≤ fs_tot X ∧ fs_tot X < 4294967295 := by
  have nn : 0 ≤ fs_tot X := fw_sm_nonneg (fun k hk => fs_F_nn hX.1 hk)
  refine ⟨nn, ?_⟩
  by_cases c2 : s.2.2 = 2
  · have hno := fs_O_no2 h.1 hX
    have key : ∀ a b, a < 8 → b < 8 → X (8 * a + b) + X (8 * b + a) ≤ 99999999 := fun a b ha hb => by
      have up : ∀ a b, a < 8 → b < 8 → X (8 * a + b) ≤ 99999999 := fun a b ha hb => by
        by_cases c : fs_cp np (8 * a + b)
        · have g1 := (hX.1.1 _ (by omega) c).2
          have g2 : ss_be np s f (8 * a + b) = ss_bd s f (8 * a + b) := by unfold ss_be; exact if_pos c
          have g3 := ok.2.2.2.2.1 (8 * a + b) (by omega)
          rw [g2] at g1
          unfold ss_bd at g1
          rw [if_neg (by omega), if_pos c2] at g1
          omega
        · rw [hX.1.2.1 _ (by omega) c]; omega
      have u1 := up a b ha hb
      have u2 := up b a hb ha
      rcases hno a b ha hb with q | q <;> omega
    have e1 : fs_tot X = fw_sm 8 (fun a => fw_sm 8 (fun b => X (8 * a + b))) := fw_sm_64 X
    have e2 : fs_tot X = fw_sm 8 (fun a => fw_sm 8 (fun b => X (8 * b + a))) := by rw [e1]; exact fw_sm_swap 8 8 (fun a b => X (8 * a + b))
    have e3 : fs_tot X + fs_tot X ≤ fw_sm 8 (fun _ => fw_sm 8 (fun _ => 99999999)) := by
      rw [show fs_tot X + fs_tot X = fw_sm 8 (fun a => fw_sm 8 (fun b => X (8 * a + b) + X (8 * b + a))) by
        conv => lhs; arg 1; rw [e1]
        conv => lhs; arg 2; rw [e2]
        rw [← fw_sm_add]
        exact fw_sm_congr (fun a _ => (fw_sm_add 8 _ _).symm)]
      exact fw_sm_le (fun a ha => fw_sm_le (fun b hb => key a b ha hb))
    simp only [fw_sm_8] at e3
    omega
  · have hF : fs_F np (ss_nu np f) (ss_be np s f) (ss_th s f) f := by
      refine ⟨fun k hk hc => ⟨h.2.1 k, ?_⟩, h.2.2.1, fun a ha => ?_, fun a ha => ?_⟩
      · have g2 : ss_be np s f k = ss_bd s f k := by unfold ss_be; exact if_pos hc
        rw [g2]
        unfold ss_bd
        have := h.2.1 (8 * (k % 8) + k / 8)
        split
        · exact Int.le_refl _
        · omega
      · rw [fl_nu h (show a < 8 by have := h.1; omega)]
      · unfold ss_th
        split
        · exact Int.le_refl _
        · trivial
    have := hX.2 f hF
    omega
theorem q_ne1 {v : Int} (h : 0 ≤ v ∧ v < 4294967295) : ¬ q_ v = q_ (-1) := fun z => by
  have h1 : (q_ v).toInt = -1 := by rw [z]; exact q_toInt ⟨by omega, by omega⟩
  unfold q_ at h1
  rw [Int32.toInt_ofInt] at h1
  have h2 := Int.bmod_def (x := v) (m := Int32.size)
  rw [h1] at h2
  have h3 : Int32.size = 4294967296 := rfl
  rw [h3] at h2
  split at h2 <;> omega
theorem uq_gain (h : yR_ d b o u t g) (ok : g_ok g) (nw : ss_nw (g_np g) (g_nk g) (g_s g)) (x y z : Int32) : Ev_ (fun n => uf_X0_gain n d u t x y z) (fun r => yO_ d b u t g r ∧ Sp_2 g x y z (fun a b k r => spG_ (g_np g) (g_s g) (ss_fl (g_s g).1 k) (8 * a + b) r) r.1.1) := by
  obtain ⟨h0, aN, s0, fs, k1, k2, k3, _⟩ := yR_N h
  have sok := ok.2.2.1
  have h8 := ok.1
  unfold uf_X0_gain uf_X0_gain_J60 Sp_2
  simp only [k2, m_bs, uq_areAll _ h ok, m_ifb]
  by_cases c : ((0 ≤ x.toInt ∧ x.toInt < g_np g) ∧ (0 ≤ y.toInt ∧ y.toInt < g_np g) ∧ x.toInt ≠ y.toInt) ∧ (0 ≤ z.toInt ∧ z.toInt < g_nk g)
  · simp only [if_pos c]
    have hne := c.1.2.2
    obtain ⟨a1, ha, rfl, e1⟩ := pi_ c.1.1
    obtain ⟨b1, hb, rfl, e2⟩ := pi_ c.1.2.1
    obtain ⟨k, hk, rfl, e3⟩ := pi_ c.2
    rw [e1, e2, e3]
    have hne' : a1 ≠ b1 := fun q => hne (by rw [q])
    have fl := fl_s_ok sok nw hk
    have A1 := ss_pA sok fl
    have hcp : fs_cp (g_np g) (8 * a1 + b1) := (fs_cp_at (by omega)).mpr ⟨ha, hb, hne'⟩
    have ebd : ss_be (g_np g) (g_s g) (ss_fl (g_s g).1 k) (8 * a1 + b1) = ss_bd (g_s g) (ss_fl (g_s g).1 k) (8 * a1 + b1) := by unfold ss_be; exact if_pos hcp
    have hfit := ss_be_fit sok fl (show 8 * a1 + b1 < 64 by omega)
    refine ev_bc (P := fun a u' c => c = (7, 215) ∧ u'.2 = u.2 + 7 ∧ ∃ o', ygt_ b K2_ o u o' u' ∧ yT_ d b o' u' t g a (ss_nu (g_np g) (ss_fl (g_s g).1 k)) (ss_be (g_np g) (g_s g) (ss_fl (g_s g).1 k)) (cm_ (g_np g) (g_s g) (ss_fl (g_s g).1 k))) (uq_pressing h ok nw hk) (fun a u' c hp => by rw [hp.1]; exact hp.2.1) (fun a u10 c hp => ?_)
    obtain ⟨rfl, z1, o1, g1, T1⟩ := hp
    obtain ⟨f8, hcl⟩ := yT_cl T1
    refine ev_b1 hcl ?_
    refine ev_bc (P := fun r u' c => c = (0, 0) ∧ u'.2 = u10.2 ∧ yR_ d b o1 u' t g ∧ ((r = q_ (-1) ∧ (∀ y, ¬ fs_F (g_np g) (ss_nu (g_np g) (ss_fl (g_s g).1 k)) (ss_be (g_np g) (g_s g) (ss_fl (g_s g).1 k)) (ss_th (g_s g) (ss_fl (g_s g).1 k)) y)) ∨ ∃ X, fs_O (g_np g) (ss_nu (g_np g) (ss_fl (g_s g).1 k)) (ss_be (g_np g) (g_s g) (ss_fl (g_s g).1 k)) (ss_th (g_s g) (ss_fl (g_s g).1 k)) X ∧ r = q_ (fs_tot X))) (yT_least T1 A1) (fun a u' c hp => by rw [hp.1]; exact hp.2.1) (fun r u18 c hp => ?_)
    obtain ⟨rfl, z2, R2, hq⟩ := hp
    have Z2 : u18.2 = u.2 + 7 := by rw [z2, z1]
    rcases hq with ⟨rfl, hn⟩ | ⟨X, hX, rfl⟩
    · exact ev_ifT m1_q.symm (ev_some ⟨⟨o1, R2, Z2, Nat.le_of_ble_eq_true rfl, Nat.le_of_ble_eq_true rfl⟩, Or.inr ⟨hn, m1_q⟩⟩)
    · have hXt := QO_tot sok fl (nw.2 k hk) hX
      refine ev_ifF (by rw [m1_q]; exact q_ne1 hXt) ?_
      obtain ⟨_, _, _, fs2, _, l2, _⟩ := yR_N R2
      refine ev_b1 l2 ?_
      refine ev_bc (P := fun a u' c => c = (2, 65) ∧ u'.2 = u18.2 + 2 ∧ ∃ o' tc, ygt_ b K2_ o1 u18 o' u' ∧ yR_ d b o' u' t g ∧ yB_ d o' u' a tc (ss_bd (g_s g) (ss_fl (g_s g).1 k))) (uq_bounds R2 ok hk) (fun a u' c hp => by rw [hp.1]; exact hp.2.1) (fun aB u27 c hp => ?_)
      obtain ⟨rfl, z3, o3, tc, g3, R3, B3⟩ := hp
      refine ev_bn (fun n => uc_of (Or.inl B3) n (show a1 < 8 by omega) (show b1 < 8 by omega)) ?_
      obtain ⟨_, _, _, fs3, _, l3, _⟩ := yR_N R3
      refine ev_b1 l3 ?_
      rw [q_1, q_add]
      refine ev_bc (P := fun a u' c => c = (8, 219) ∧ u'.2 = u27.2 + 8 ∧ ∃ o', ygt_ b K2_ o3 u27 o' u' ∧ yT_ d b o' u' t g a (ss_nu (g_np g) (ss_fl (g_s g).1 k)) (fw_up (ss_be (g_np g) (g_s g) (ss_fl (g_s g).1 k)) (8 * a1 + b1) (ss_bd (g_s g) (ss_fl (g_s g).1 k) (8 * a1 + b1) + 1)) (cm_ (g_np g) (g_s g) (ss_fl (g_s g).1 k))) (uq_pressing2 R3 ok nw hk ha hb hne' (by rw [← ebd]; omega)) (fun a u' c hp => by rw [hp.1]; exact hp.2.1) (fun aQ u37 c hp => ?_)
      obtain ⟨rfl, z4, o4, g4, T4⟩ := hp
      obtain ⟨f9, hcl4⟩ := yT_cl T4
      refine ev_b1 hcl4 ?_
      have A4 := ss_pAu sok fl (j := 8 * a1 + b1) (by omega) hcp (v := ss_bd (g_s g) (ss_fl (g_s g).1 k) (8 * a1 + b1) + 1) (by rw [← ebd]; omega)
      refine ev_bc (P := fun r u' c => c = (0, 0) ∧ u'.2 = u37.2 ∧ yR_ d b o4 u' t g ∧ ((r = q_ (-1) ∧ (∀ y, ¬ fs_F (g_np g) (ss_nu (g_np g) (ss_fl (g_s g).1 k)) (fw_up (ss_be (g_np g) (g_s g) (ss_fl (g_s g).1 k)) (8 * a1 + b1) (ss_bd (g_s g) (ss_fl (g_s g).1 k) (8 * a1 + b1) + 1)) (ss_th (g_s g) (ss_fl (g_s g).1 k)) y)) ∨ ∃ X, fs_O (g_np g) (ss_nu (g_np g) (ss_fl (g_s g).1 k)) (fw_up (ss_be (g_np g) (g_s g) (ss_fl (g_s g).1 k)) (8 * a1 + b1) (ss_bd (g_s g) (ss_fl (g_s g).1 k) (8 * a1 + b1) + 1)) (ss_th (g_s g) (ss_fl (g_s g).1 k)) X ∧ r = q_ (fs_tot X))) (yT_least T4 A4) (fun a u' c hp => by rw [hp.1]; exact hp.2.1) (fun r u45 c hp => ?_)
      obtain ⟨rfl, z5, R5, hq⟩ := hp
      refine ev_some ⟨⟨o4, R5, by show u45.2 = u.2 + 17; rw [z5, z4, z3, Z2], Nat.le_of_ble_eq_true rfl, Nat.le_of_ble_eq_true rfl⟩, ?_⟩
      rcases hq with ⟨rfl, hn⟩ | ⟨Y, hY, rfl⟩
      · refine absurd ?_ (hn X)
        refine ⟨fun j hj hc => ?_, hX.1.2.1, hX.1.2.2.1, hX.1.2.2.2⟩
        have q := hX.1.1 j hj hc
        by_cases cj : j = 8 * a1 + b1
        · subst cj; rw [fw_up_at, ← ebd]; omega
        · rw [fw_up_ne cj]; exact q
      · refine Or.inl ⟨X, Y, hX, ?_, by rw [q_sub]⟩
        rw [ebd]; exact hY
  · simp only [if_neg c]
    exact ev_some ⟨yO_0 h _, m2_q⟩
theorem uq_all (h : yR_ d b o u t g) (ok : g_ok g) (nw : ss_nw (g_np g) (g_nk g) (g_s g)) : Ev_ (fun n => uf_X0_all n d u t) (fun r => yO_ d b u t g r ∧ Sp_all g r.1.1) := by
  have sok := ok.2.2.1
  have h8 := ok.1
  have h4 := ok.2.1
  unfold uf_X0_all
  refine ev_bl (P := fun (y : UM ⊕ (Int32 × UM)) c => (match y with
    | .inl s => s
    | .inr y => y.2).2 = u.2 + c.1 ∧ c.1 ≤ 28 ∧ c.2 ≤ 860 ∧ (match y with
    | .inl s => (∃ o', yR_ d b o' s t g) ∧ ∃ k, k < g_nk g ∧ QN_ (g_np g) (g_s g) (ss_fl (g_s g).1 k) (ss_be (g_np g) (g_s g) (ss_fl (g_s g).1 k))
    | .inr y => (∃ o', yR_ d b o' y.2 t g) ∧ ∃ T : Nat → Int, (∀ k, k < g_nk g → ∃ X, QO_ (g_np g) (g_s g) (ss_fl (g_s g).1 k) (ss_be (g_np g) (g_s g) (ss_fl (g_s g).1 k)) X ∧ T k = fs_tot X) ∧ y.1 = q_ (fw_sm (g_nk g) T))) ?_ (fun y c hp => ?_)
  · unfold uf_X0_all_L4l
    refine ev_ul (Q := fun (y : UM ⊕ (Int32 × UM)) (c : UC) => (match y with
      | .inl s => s
      | .inr y => y.2).2 = u.2 + c.1 ∧ c.1 ≤ 28 ∧ c.2 ≤ 860 ∧ (match y with
      | .inl s => (∃ o', yR_ d b o' s t g) ∧ ∃ k, k < g_nk g ∧ QN_ (g_np g) (g_s g) (ss_fl (g_s g).1 k) (ss_be (g_np g) (g_s g) (ss_fl (g_s g).1 k))
      | .inr y => (∃ o', yR_ d b o' y.2 t g) ∧ ∃ T : Nat → Int, (∀ k, k < g_nk g → ∃ X, QO_ (g_np g) (g_s g) (ss_fl (g_s g).1 k) (ss_be (g_np g) (g_s g) (ss_fl (g_s g).1 k)) X ∧ T k = fs_tot X) ∧ y.1 = q_ (fw_sm (g_nk g) T))) (fun (i : Nat) => g_nk g - i) (fun (i : Nat) (y : Int32 × Int32 × UM) (c : UC) => i ≤ g_nk g ∧ c = (7 * i, 215 * i) ∧ y.2.2.2 = u.2 + 7 * i ∧ y.2.1 = n_ i ∧ (∃ o', yR_ d b o' y.2.2 t g) ∧ ∃ T : Nat → Int, (∀ k, k < i → ∃ X, QO_ (g_np g) (g_s g) (ss_fl (g_s g).1 k) (ss_be (g_np g) (g_s g) (ss_fl (g_s g).1 k)) X ∧ T k = fs_tot X) ∧ y.1 = q_ (fw_sm i T)) (fun i y c hy => ?_) 0 (0, 0, u) ⟨Nat.zero_le _, rfl, rfl, n_lit 0, ⟨o, h⟩, fun _ => 0, fun k hk => absurd hk (Nat.not_lt_zero _), rfl⟩
    obtain ⟨v1, v2, u1⟩ := y
    obtain ⟨hi, rfl, z1, e2, ⟨o1, R1⟩, T, hT, e1⟩ := hy
    dsimp only at z1 e2 R1 e1 ⊢
    subst e1; subst e2
    obtain ⟨h01, aN, s0, fs, k1, k2, k3, _⟩ := yR_N R1
    obtain ⟨aK, lK, fk, q1, q2, q3, q4, _⟩ := ys_K k3
    have q4' : ∀ n, uf_J2_size n d u1 aK = some (n_ (g_nk g)) := q4
    unfold uf_X0_all_L4
    simp only [k1, q1, q3, q4', k2, m_bs]
    refine ev_ifq (c' := g_nk g ≤ i) (by rw [n_le (by omega) (by omega)]) (fun c0 => ?_) (fun c0 => ?_)
    · have e : i = g_nk g := by omega
      refine ev_some ⟨z1, ?_, ?_, ⟨o1, R1⟩, T, fun k hk => hT k (by omega), by rw [e]⟩
      · show 7 * i ≤ 28; omega
      · show 215 * i ≤ 860; omega
    · have hk : i < g_nk g := by omega
      have fl := fl_s_ok sok nw hk
      refine ev_bc (P := fun a u' c => c = (7, 215) ∧ u'.2 = u1.2 + 7 ∧ ∃ o', ygt_ b K2_ o1 u1 o' u' ∧ yT_ d b o' u' t g a (ss_nu (g_np g) (ss_fl (g_s g).1 i)) (ss_be (g_np g) (g_s g) (ss_fl (g_s g).1 i)) (cm_ (g_np g) (g_s g) (ss_fl (g_s g).1 i))) (uq_pressing R1 ok nw hk) (fun a u' c hp => by rw [hp.1]; exact hp.2.1) (fun a u10 c hp => ?_)
      obtain ⟨rfl, z2, o2, g2, T2⟩ := hp
      obtain ⟨f8, hcl⟩ := yT_cl T2
      refine ev_b1 hcl ?_
      refine ev_bc (P := fun r u' c => c = (0, 0) ∧ u'.2 = u10.2 ∧ yR_ d b o2 u' t g ∧ ((r = q_ (-1) ∧ (∀ y, ¬ fs_F (g_np g) (ss_nu (g_np g) (ss_fl (g_s g).1 i)) (ss_be (g_np g) (g_s g) (ss_fl (g_s g).1 i)) (ss_th (g_s g) (ss_fl (g_s g).1 i)) y)) ∨ ∃ X, fs_O (g_np g) (ss_nu (g_np g) (ss_fl (g_s g).1 i)) (ss_be (g_np g) (g_s g) (ss_fl (g_s g).1 i)) (ss_th (g_s g) (ss_fl (g_s g).1 i)) X ∧ r = q_ (fs_tot X))) (yT_least T2 (ss_pA sok fl)) (fun a u' c hp => by rw [hp.1]; exact hp.2.1) (fun r u18 c hp => ?_)
      obtain ⟨rfl, z3, R3, hq⟩ := hp
      rcases hq with ⟨rfl, hn⟩ | ⟨X, hX, rfl⟩
      · refine ev_ifT m1_q.symm (ev_some ⟨?_, ?_, ?_, ⟨o2, R3⟩, i, hk, hn⟩)
        · show u18.2 = u.2 + (7 * i + (7 + (0 + 0))); rw [z3, z2, z1]; omega
        · show 7 * i + (7 + (0 + 0)) ≤ 28; omega
        · show 215 * i + (215 + (0 + 0)) ≤ 860; omega
      · have hXt := QO_tot sok fl (nw.2 i hk) hX
        refine ev_ifF (by rw [m1_q]; exact q_ne1 hXt) ?_
        refine ev_some ⟨i + 1, ⟨by omega, ?_, ?_, ?_, ⟨o2, R3⟩, fun k => if k = i then fs_tot X else T k, fun k hk' => ?_, ?_⟩, by omega⟩
        · show (7 * i + (7 + (0 + 0)), 215 * i + (215 + (0 + 0))) = _
          congr 1 <;> omega
        · show u18.2 = u.2 + 7 * (i + 1); rw [z3, z2, z1]; omega
        · show n_ i + 1 = n_ (i + 1); rw [n_lit 1, n_add]
        · dsimp only
          by_cases c : k = i
          · subst c; rw [if_pos rfl]; exact ⟨X, hX, rfl⟩
          · rw [if_neg c]; exact hT k (by omega)
        · show q_ (fw_sm i T) + q_ (fs_tot X) = q_ (fw_sm i (fun k => if k = i then fs_tot X else T k) + (if i = i then fs_tot X else T i))
          rw [q_add, if_pos rfl]
          congr 2
          exact fw_sm_congr (fun k hk' => by rw [if_neg (by omega)])
  · obtain ⟨p1, p2, p3, p4⟩ := hp
    cases y with
    | inl s =>
      obtain ⟨⟨o1, R1⟩, p5⟩ := p4
      exact ev_some ⟨⟨o1, R1, p1, by show c.1 + 0 ≤ 4000; omega, by show c.2 + 0 ≤ 100000; omega⟩, Or.inr ⟨p5, m1_q⟩⟩
    | inr y =>
      obtain ⟨⟨o1, R1⟩, p5⟩ := p4
      exact ev_some ⟨⟨o1, R1, p1, by show c.1 + 0 ≤ 4000; omega, by show c.2 + 0 ≤ 100000; omega⟩, Or.inl p5⟩
end
