set_option maxRecDepth 100000
/-! The component's presses: how they begin -/
/-- what may go through, as the component has it -/
noncomputable def cm_ (np : Nat) (s : SS_) (f : Nat → Int) (p : Nat) : Int := if s.2.2 = 3 then min (fs_out f p) (fs_in f p) else if p < np then cn_FAR else 0
theorem cm_A {np : Nat} (s : SS_) {f : Nat → Int} (h : fl_ok np f) {be : Nat → Int} (hb : ∀ k, k < 64 → 0 ≤ be k ∧ be k < 2147483648) (hb0 : ∀ k, k < 64 → ¬ fs_cp np k → be k = 0) : pA_ np (ss_nu np f) be (ss_th s f) (cm_ np s f) := by
  have far : cn_FAR = 2305843009213693951 := rfl
  have h8 := h.1
  have z0 : ∀ x, np ≤ x → x < 8 → fs_out f x = 0 ∧ fs_in f x = 0 := fun x h1 h2 => ⟨fw_sm_z (fun c hc => h.2.2.1 _ (by omega) (fun z => by have := ((fs_cp_at hc).mp z).1; omega)), fw_sm_z (fun c hc => h.2.2.1 _ (by omega) (fun z => by have := ((fs_cp_at h2).mp z).2.1; omega))⟩
  have fit := fun p (hp : p < 8) => fl_fit h hp
  refine ⟨⟨h8, fun k hk => (hb k hk).1, hb0, fun p hp => ?_, fun p h1 _ => by unfold ss_nu; rw [if_neg (by omega)], fl_nu0 h, fun y hy p hp => ?_, fun y p hp hle => ?_⟩, fun x h1 h2 => ?_, fun p hp => ?_, fun k hk => (hb k hk).2, fun x hx => by have := fit x hx; omega⟩
  · unfold cm_
    have := fit p hp
    split
    · omega
    · split <;> omega
  · by_cases c : p < np
    · unfold cm_
      by_cases c3 : s.2.2 = 3
      · rw [if_pos c3]
        have := hy.2.2.2 p c
        unfold ss_th at this
        rw [if_pos c3] at this
        exact this
      · rw [if_neg c3, if_pos c]
        have h1 : fs_out y p ≤ fw_sm 8 (fun _ => 2147483648) := fw_sm_le (fun b hb8 => by
          have := fs_F_le hy (fun k hk => (hb k hk).1) (show 8 * p + b < 64 by omega)
          have := (hb (8 * p + b) (by omega)).2
          omega)
        rw [fw_sm_8] at h1
        omega
    · obtain ⟨e1, e2⟩ := fs_F_0 h8 hy (show np ≤ p by omega) hp
      rw [e1, e2]
      have : 0 ≤ cm_ np s f p := by
        unfold cm_
        have := fit p hp
        split
        · omega
        · exact Int.le_refl _
      omega
  · unfold ss_th
    by_cases c3 : s.2.2 = 3
    · rw [if_pos c3]
      unfold cm_ at hle
      rw [if_pos c3] at hle
      exact hle
    · rw [if_neg c3]; trivial
  · unfold cm_
    obtain ⟨e1, e2⟩ := z0 x h1 h2
    split
    · rw [e1, e2]; rfl
    · rw [if_neg (by omega)]
  · unfold cm_
    have := fit p hp
    split
    · omega
    · split <;> omega
/-- the state now, from the picture without the Ways -/
theorem yR0_C {d : UD} {b : Nat} {o : Nat → Nat} {u : UM} {t aW : Nat} {g : GS_} (h : yR0_ d b o u t aW g) : ∃ aN aC s0 fC fs fs1, u_fr d u 1 0 t = some aN ∧ u_cl u 2 aN = some fs ∧ (∀ n, uf_X1_many n d u aN = some (n_ (g_np g))) ∧ u_ni u 2 4 aN = some (n_ (g_s g).2.2) ∧ u_nr u 2 3 aN = some aC ∧ iA_ d u aC 64 fC ∧ o aC = 16 * s0 + 7 ∧ 10 ≤ s0 ∧ (∀ c, c < 64 → fC c = q_ ((g_s g).2.1 c)) ∧ u_cl u 1 t = some fs1 ∧ ys_ d o u aN s0 g.1 g.2.1 (g_s g) := by
  obtain ⟨h0, hc, aN, aL, aT, fk, fr, s0, ids, lS, f, e1, e2, e3, e4, e5, e6, e7, e8, e9, e10⟩ := h
  obtain ⟨aP, aK, aT', aC, lP, lK, lT, fC, c1, c2, c3, c4, c5, c6, c7, c8, c9, c10, c11⟩ := id e5
  exact ⟨aN, aC, s0, fC, _, _, fr_e e1 rfl, cl_e c1, fun n => us_many n e5, ni_e c1 rfl, nr_e c1 rfl, c6, c7, e4 s0 (by simp), c8, cl_e e1, e5⟩
/-- a Press lies ready -/
def yT_ (d : UD) (b : Nat) (o : Nat → Nat) (u : UM) (t : Nat) (g : GS_) (a : Nat) (nu be may : Nat → Int) : Prop := ∃ aW, yR0_ d b o u t aW g ∧ yW_ d o u aW ∧ ∃ A fn fb fc ft, yZ_ d o u a t (g_np g) A fn fb fc ft ∧ pR_ (g_np g) nu be may fn fb ft
theorem yT_R {d : UD} {b : Nat} {o : Nat → Nat} {u : UM} {t : Nat} {g : GS_} {a : Nat} {nu be may : Nat → Int} (h : yT_ d b o u t g a nu be may) : yR_ d b o u t g := by
  obtain ⟨aW, h1, h2, _⟩ := h
  exact ⟨aW, h1, h2⟩
theorem yT_cl {d : UD} {b : Nat} {o : Nat → Nat} {u : UM} {t : Nat} {g : GS_} {a : Nat} {nu be may : Nat → Int} (h : yT_ d b o u t g a nu be may) : ∃ fs, u_cl u 8 a = some fs := by
  obtain ⟨aW, h1, h2, A, fn, fb, fc, ft, Z, _⟩ := h
  exact ⟨_, cl_e Z.1⟩
theorem K2_P : ∀ x, KP_ x → K2_ x := fun x hx => by unfold KP_ at hx; unfold K2_; omega
theorem uq_press2 {d : UD} {b : Nat} {o : Nat → Nat} {u : UM} {t : Nat} {g : GS_} (h : yR_ d b o u t g) (ok : g_ok g) {af : Nat} {f : Nat → Int32} (hf : iA_ d u af 64 f) (tf : o af = 21) {F : Nat → Int} (eF : ∀ c, c < 64 → f c = q_ (F c)) (fl : fl_ok (g_np g) F) :
    Ev_ (fun n => uf_X0_press_2 n d u t af) (fun r => r.1.1 = u.2 ∧ r.2 = (6, 151) ∧ r.1.2.2 = u.2 + 6 ∧ ∃ o', ygt_ b K2_ o u o' r.1.2 ∧ yT_ d b o' r.1.2 t g u.2 (ss_nu (g_np g) F) (ss_be (g_np g) (g_s g) F) (cm_ (g_np g) (g_s g) F)) := by
  obtain ⟨aW, R, W⟩ := h
  have h0 := R.1
  have h8 := fl.1
  have sok := ok.2.2.1
  have hmode := sok.2.2.2.2.2
  unfold uf_X0_press_2
  refine ev_ac (ev_nw h0 (fun u2 c2 => ?_))
  have g2 := ygt_nw (K := K0_) (o := o) h0 c2 27
  have R2 := yR0_keep R g2 (fun x hx => hx.elim)
  have W2 := yW_keep h0 g2 W (fun _ _ _ z => z)
  have f2 := ygt_at h0 g2 hf (fun z => z)
  have t2 : ot_ o u.2 27 u.2 = 27 := ot_at _ _ _
  have tf2 : ot_ o u.2 27 af = 21 := f2.2.trans tf
  generalize ot_ o u.2 27 = o2 at *
  obtain ⟨aN, aC, s0, fC, fs, fs1, k1, k2, k3, k4, k5, k6, k7, k8, k9, k10, k11⟩ := yR0_C R2
  simp only [k1, k2, k3, k4, k5, m_bs]
  refine ev_bc (P := fun a u' c => c = (1, 1) ∧ a = u2.2 ∧ u'.2 = u2.2 + 1 ∧ ygt_ b K0_ o2 u2 (ot_ o2 u2.2 26) u' ∧ yB_ d (ot_ o2 u2.2 26) u' u2.2 (16 * s0 + 7) (ss_bd (g_s g) F)) (ub_by R2.1 f2.1 tf2 eF k6 k7 k9 (by omega)) (fun a u' c hp => by rw [hp.1]; exact hp.2.2.1) (fun a u20 c hp => ?_)
  obtain ⟨rfl, rfl, p3, p4, p5⟩ := hp
  have R20 := yR0_keep R2 p4 (fun x hx => hx.elim)
  have W20 := yW_keep R2.1 p4 W2 (fun _ _ _ z => z)
  have f20 := ygt_at R2.1 p4 f2.1 (fun z => z)
  have a20 := ygt_at R2.1 p4 c2.2.1 (fun z => z)
  generalize ot_ o2 u2.2 26 = o20 at *
  obtain ⟨aN', aC', s0', fC', fs', fs1', j1, j2, j3, j4, j5, j6, j7, j8, j9, j10, j11⟩ := yR0_C R20
  have hfit := fun p (hp : p < g_np g) => fl_fit fl (show p < 8 by omega)
  have core : ∀ v5 : Int32, ((v5 = 0 ∧ ∀ y, y < g_np g → cm_ (g_np g) (g_s g) F y = cn_FAR) ∨ (¬ v5 = 0 ∧ ∀ y, y < g_np g → cm_ (g_np g) (g_s g) F y = min (fs_out F y) (fs_in F y))) → Ev_ (fun n => uf_X0_press_2_J47 n d u20 v5 u2.2 af (n_ (g_np g)) t u.2 u.2) (fun r => r.1.1 = u.2 ∧ u_add (1, 6) (u_add (1, 1) r.2) = (6, 151) ∧ r.1.2.2 = u.2 + 6 ∧ ∃ o', ygt_ b K2_ o u o' r.1.2 ∧ yT_ d b o' r.1.2 t g u.2 (ss_nu (g_np g) F) (ss_be (g_np g) (g_s g) F) (cm_ (g_np g) (g_s g) F)) := fun v5 hv => by
    unfold uf_X0_press_2_J47
    refine ev_bc (P := fun _ u' c => c = (4, 144) ∧ u'.2 = u20.2 + 4 ∧ ∃ o', ygt_ b KP_ o20 u20 o' u' ∧ ∃ A fn fb fc ft, yZ_ d o' u' u.2 t (g_np g) A fn fb fc ft ∧ pN_ (g_np g) (g_np g) F (ss_bd (g_s g) F) fn fb ∧ ∀ y, y < g_np g → ft y = lz_ (cm_ (g_np g) (g_s g) F y)) (up_init R20.1 a20.1 (a20.2.trans t2) f20.1 (f20.2.trans tf2) eF (Or.inl p5) (by unfold KP_; omega) (fun c hc _ => by have := ss_bd_fit sok fl hc; exact ⟨by omega, by omega⟩) h8 fl.2.2.1 (fun p hp => by have := hfit p hp; omega) hv) (fun a u' c hp => by rw [hp.1]; exact hp.2.1) (fun _ u31 c hp => ?_)
    obtain ⟨rfl, z3, o3, g3, A, fn, fb, fc, ft, Z3, N3, T3⟩ := hp
    refine ev_some ⟨rfl, rfl, by show u31.2 = u.2 + 6; rw [z3, p3, c2.1], o3, ?_, aW, yR0_keep R20 g3 (fun x hx => Or.inr (K2_P x hx)), yW_keep R20.1 g3 W20 (fun t h1 h2 z => by unfold KP_ at z; omega), A, fn, fb, fc, ft, Z3, fun x hx => ?_, fun x y hx hy hne => ?_, T3⟩
    · exact ygt_tr h0 (ygt_sub g2 (fun x hx => hx.elim)) (ygt_tr R2.1 (ygt_sub p4 (fun x hx => hx.elim)) (ygt_sub g3 K2_P))
    · rw [N3.2.1 x hx]; unfold ss_nu; rw [if_pos hx]
    · rw [N3.2.2 x y hx hy hne]
      unfold ss_be
      rw [if_pos (by have : y < 8 := by omega
                     refine ⟨by omega, by omega, by omega⟩)]
  refine ev_b1 j1 (ev_b1 j4 ?_)
  refine ev_ifq (c' := (g_s g).2.2 = 3) (by rw [n_lit 3, n_eq (by omega) (by omega)]) (fun c => ?_) (fun c => ?_)
  · exact core 1 (Or.inr ⟨by decide, fun y _ => by unfold cm_; rw [if_pos c]⟩)
  · exact core 0 (Or.inl ⟨rfl, fun y hy => by unfold cm_; rw [if_neg c, if_pos hy]⟩)
/-- flows of a kind, then the Press -/
theorem uq_pressing {d : UD} {b : Nat} {o : Nat → Nat} {u : UM} {t : Nat} {g : GS_} (h : yR_ d b o u t g) (ok : g_ok g) (nw : ss_nw (g_np g) (g_nk g) (g_s g)) {k : Nat} (hk : k < g_nk g) :
    Ev_ (fun n => uf_X0_pressing n d u t (n_ k)) (fun r => r.2 = (7, 215) ∧ r.1.2.2 = u.2 + 7 ∧ ∃ o', ygt_ b K2_ o u o' r.1.2 ∧ yT_ d b o' r.1.2 t g r.1.1 (ss_nu (g_np g) (ss_fl (g_s g).1 k)) (ss_be (g_np g) (g_s g) (ss_fl (g_s g).1 k)) (cm_ (g_np g) (g_s g) (ss_fl (g_s g).1 k))) := by
  obtain ⟨h0, aN, s0, fs, k1, k2, k3, _⟩ := yR_N h
  obtain ⟨fn, hfn⟩ := ys_cl k3
  have h4 := ok.2.1
  have sok := ok.2.2.1
  unfold uf_X0_pressing
  refine ev_b1 k1 (ev_b1 hfn ?_)
  refine ev_bc (P := fun a u' c => c = (1, 64) ∧ a = u.2 ∧ u'.2 = u.2 + 1 ∧ ygt_ b K0_ o u (ot_ o u.2 21) u' ∧ ∃ f, iA_ d u' u.2 64 f ∧ ∀ c, c < 64 → f c = q_ (ss_fl (g_s g).1 k c)) (us_flows h0 k3 sok (show k < 4 by omega)) (fun a u' c hp => by rw [hp.1]; exact hp.2.2.1) (fun a u7 c hp => ?_)
  obtain ⟨rfl, rfl, p3, p4, f, p5, p6⟩ := hp
  have R7 := yR_keep h p4 (fun x hx => hx.elim)
  obtain ⟨_, _, _, fs7, _, q2, _⟩ := yR_N R7
  refine ev_b1 q2 ?_
  refine ev_bc (P := fun a u' c => a = u7.2 ∧ c = (6, 151) ∧ u'.2 = u7.2 + 6 ∧ ∃ o', ygt_ b K2_ (ot_ o u.2 21) u7 o' u' ∧ yT_ d b o' u' t g u7.2 (ss_nu (g_np g) (ss_fl (g_s g).1 k)) (ss_be (g_np g) (g_s g) (ss_fl (g_s g).1 k)) (cm_ (g_np g) (g_s g) (ss_fl (g_s g).1 k))) (uq_press2 R7 ok p5 (ot_at _ _ _) p6 (fl_s_ok sok nw hk)) (fun a u' c hp => by rw [hp.2.1]; exact hp.2.2.1) (fun a u15 c hp => ?_)
  obtain ⟨rfl, rfl, z2, o2, g2, T2⟩ := hp
  exact ev_some ⟨rfl, by show u15.2 = u.2 + 7; rw [z2, p3], o2, ygt_tr h0 (ygt_sub p4 (fun x hx => hx.elim)) g2, T2⟩
