set_option maxRecDepth 100000
/-! The component: without one -/
section
variable {d : UD} {b : Nat} {o : Nat → Nat} {u : UM} {t : Nat} {g : GS_}
def wo_i (p i : Nat) (F : Nat → Int) (c : Nat) : Int := if (c / 8 = p ∧ c % 8 < i) ∨ (c % 8 = p ∧ c / 8 < i) then 0 else F c
theorem uq_wo34 {o1 : Nat → Nat} {u17 : UM} (R : yR_ d b o1 u17 t g) (ok : g_ok g) {a : Nat} {f : Nat → Int32} (ha : iA_ d u17 a 64 f) (ta : o1 a = 21) {F : Nat → Int} (eF : ∀ c, c < 64 → f c = q_ (F c)) (hz : ∀ c, c < 64 → ¬ fs_cp (g_np g) c → F c = 0) {p : Nat} (hp : p < g_np g) : Ev_ (fun n => uf_X0_without_L34l n d t (n_ p) a (0, 0, u17)) (fun r => r.2 = (0, 0) ∧ r.1.2.2 = u17.2 ∧ r.1.1 = q_ (fs_out F p + fs_in F p) ∧ yR_ d b o1 r.1.2 t g ∧ ∃ f', iA_ d r.1.2 a 64 f' ∧ ∀ c, c < 64 → f' c = q_ (fl_wo p F c)) := by
  have h8 := ok.1
  have h0 := (yR_N R).1
  have eo : fs_out F p = fw_sm (g_np g) (fun b => F (8 * p + b)) := fw_sm_ext h8 (fun b h1 h2 => hz _ (by omega) (fun z => by have := ((fs_cp_at h2).mp z).2.1; omega))
  have ei : fs_in F p = fw_sm (g_np g) (fun b => F (8 * b + p)) := fw_sm_ext h8 (fun b h1 h2 => hz _ (by omega) (fun z => by have := ((fs_cp_at (by omega)).mp z).1; omega))
  unfold uf_X0_without_L34l
  refine ev_uf (Q := fun (y : Int32 × UM) => y.2.2 = u17.2 ∧ y.1 = q_ (fs_out F p + fs_in F p) ∧ yR_ d b o1 y.2 t g ∧ ∃ f', iA_ d y.2 a 64 f' ∧ ∀ c, c < 64 → f' c = q_ (fl_wo p F c)) (g_np g) (fun (i : Nat) (y : Int32 × Int32 × UM) => y.1 = q_ (fw_sm i (fun b => F (8 * p + b)) + fw_sm i (fun b => F (8 * b + p))) ∧ y.2.1 = n_ i ∧ y.2.2.2 = u17.2 ∧ yR_ d b o1 y.2.2 t g ∧ ∃ f', iA_ d y.2.2 a 64 f' ∧ ∀ c, c < 64 → f' c = q_ (wo_i p i F c)) (fun i y hi hP => ?_) (fun y hP => ?_) (0, 0, u17) ⟨rfl, n_lit 0, rfl, R, f, ha, fun c hc => by unfold wo_i; rw [if_neg (by omega)]; exact eF c hc⟩
  · obtain ⟨v4, v5, u1⟩ := y
    obtain ⟨e1, e2, z1, R1, f1, a1, eF1⟩ := hP
    dsimp only at e1 e2 z1 R1 a1 ⊢
    subst e1; subst e2
    obtain ⟨h01, aN, s0, fs, k1, k2, k3, _⟩ := yR_N R1
    obtain ⟨fn, hfn⟩ := ys_cl k3
    have hmany : ∀ n, uf_X1_many n d u1 aN = some (n_ (g_np g)) := fun n => us_many n k3
    have i1 : 8 * n_ p + n_ i = n_ (8 * p + i) := by rw [n_lit 8, n_mul, n_add]
    have i2 : 8 * n_ i + n_ p = n_ (8 * i + p) := by rw [n_lit 8, n_mul, n_add]
    have r1 : f1 (8 * p + i) = q_ (F (8 * p + i)) := by
      rw [eF1 _ (by omega)]; unfold wo_i; rw [if_neg (by omega)]
    have r2 : f1 (8 * i + p) = q_ (F (8 * i + p)) := by
      rw [eF1 _ (by omega)]; unfold wo_i; rw [if_neg (by omega)]
    unfold uf_X0_without_L34
    simp only [k1, hfn, hmany, m_bs, i1, i2]
    refine ev_ifF (by rw [n_le (by omega) (by omega)]; omega) ?_
    refine ev_b1 (ldI_e a1 (show 8 * p + i < 64 by omega) (by omega)) (ev_b1 (ldI_e a1 (show 8 * i + p < 64 by omega) (by omega)) ?_)
    rw [r1, r2]
    refine ev_b1 (stI_e a1 (show 8 * p + i < 64 by omega) (by omega) 0) ?_
    have c3 := ch_set a1 (.inl (d.1 0, 64, .inl (upd f1 (8 * p + i) 0)))
    generalize u_set u1.1 a (.inl (d.1 0, 64, .inl (upd f1 (8 * p + i) 0))) = w32 at c3 ⊢
    have g3 : ygt_ b (K1_ 21) o1 u1 o1 (w32, u1.2) := ygt_ch h01 a1 c3 (kd1_a _ _) ta
    have a2 : iA_ d (w32, u1.2) a 64 (upd f1 (8 * p + i) 0) := c3.2.1
    refine ev_b1 (stI_e a2 (show 8 * i + p < 64 by omega) (by omega) 0) ?_
    have c4 := ch_set a2 (.inl (d.1 0, 64, .inl (upd (upd f1 (8 * p + i) 0) (8 * i + p) 0)))
    generalize u_set (w32, u1.2).1 a (.inl (d.1 0, 64, .inl (upd (upd f1 (8 * p + i) 0) (8 * i + p) 0))) = w34 at c4 ⊢
    have g4 : ygt_ b (K1_ 21) o1 (w32, u1.2) o1 (w34, u1.2) := ygt_ch g3.1 a2 c4 (kd1_a _ _) ta
    have R4 := yR_keep R1 (ygt_tr h01 g3 g4) (fun x hx => by cases hx; exact K2_21)
    refine ev_some ⟨_, rfl, ?_, ?_, z1, R4, _, c4.2.1, fun c hc => ?_⟩
    · show q_ _ + (q_ _ + q_ _) = q_ ((fw_sm i (fun b => F (8 * p + b)) + F (8 * p + i)) + (fw_sm i (fun b => F (8 * b + p)) + F (8 * i + p)))
      rw [q_add, q_add]; congr 1; omega
    · show n_ i + 1 = n_ (i + 1); rw [n_lit 1, n_add]
    · unfold wo_i
      by_cases q1 : c = 8 * i + p
      · rw [q1, upd_at, if_pos (by omega)]; rfl
      · rw [upd_ne q1]
        by_cases q2 : c = 8 * p + i
        · rw [q2, upd_at, if_pos (by omega)]; rfl
        · rw [upd_ne q2, eF1 c hc]
          unfold wo_i
          by_cases q3 : (c / 8 = p ∧ c % 8 < i) ∨ (c % 8 = p ∧ c / 8 < i)
          · rw [if_pos q3, if_pos (by omega)]
          · rw [if_neg q3, if_neg (by omega)]
  · obtain ⟨v4, v5, u1⟩ := y
    obtain ⟨e1, e2, z1, R1, f1, a1, eF1⟩ := hP
    dsimp only at e1 e2 z1 R1 a1 ⊢
    subst e1; subst e2
    obtain ⟨h01, aN, s0, fs, k1, k2, k3, _⟩ := yR_N R1
    obtain ⟨fn, hfn⟩ := ys_cl k3
    have hmany : ∀ n, uf_X1_many n d u1 aN = some (n_ (g_np g)) := fun n => us_many n k3
    unfold uf_X0_without_L34
    simp only [k1, hfn, hmany, m_bs]
    refine ev_ifT (by rw [n_le (by omega) (by omega)]; omega) (ev_some ⟨_, rfl, z1, by rw [eo, ei], R1, f1, a1, fun c hc => ?_⟩)
    rw [eF1 c hc]
    unfold wo_i fl_wo
    by_cases q3 : (c / 8 = p ∧ c % 8 < g_np g) ∨ (c % 8 = p ∧ c / 8 < g_np g)
    · rw [if_pos q3, if_pos (by omega)]
    · rw [if_neg q3]
      by_cases q4 : ((c / 8 : Nat) : Int) = (p : Int) ∨ ((c % 8 : Nat) : Int) = (p : Int)
      · rw [if_pos q4, hz c hc (fun z => by
          obtain ⟨z1, z2, z3⟩ := z
          omega)]
      · rw [if_neg q4]
theorem fl_wo_tot {f : Nat → Int} (hn : ∀ c, 0 ≤ f c) (w : Int) : fs_tot (fl_wo w f) ≤ fs_tot f := fw_sm_le (fun c _ => by
  unfold fl_wo
  split
  · exact hn c
  · exact Int.le_refl _)
theorem uq_without (h : yR_ d b o u t g) (ok : g_ok g) (nw : ss_nw (g_np g) (g_nk g) (g_s g)) (x z : Int32) : Ev_ (fun n => uf_X0_without n d u t x z) (fun r => yO_ d b u t g r ∧ Sp_pk g x z (fun p k r => spT_ (g_np g) (g_s g) (fl_wo p (ss_fl (g_s g).1 k)) (ss_be (g_np g) (g_s g) (fl_wo p (ss_fl (g_s g).1 k))) (fun T => q_ (T + (fs_out (ss_fl (g_s g).1 k) p + fs_in (ss_fl (g_s g).1 k) p))) (q_ (-1)) r) r.1.1) := by
  obtain ⟨h0, aN, s0, fs, k1, k2, k3, _⟩ := yR_N h
  obtain ⟨fn, hfn⟩ := ys_cl k3
  have h8 := ok.1
  have h4 := ok.2.1
  have sok := ok.2.2.1
  unfold uf_X0_without uf_X0_without_J16 uf_X0_without_J121 Sp_pk
  simp only [k2, m_bs, uq_isParty _ h ok, uq_isKind _ h ok, m_ifb]
  by_cases c1 : 0 ≤ x.toInt ∧ x.toInt < g_np g
  · by_cases c2 : 0 ≤ z.toInt ∧ z.toInt < g_nk g
    · simp only [if_pos c1, if_pos c2, if_pos (show (0 ≤ x.toInt ∧ x.toInt < g_np g) ∧ (0 ≤ z.toInt ∧ z.toInt < g_nk g) from ⟨c1, c2⟩)]
      obtain ⟨p, hp, rfl, e1⟩ := pi_ c1
      obtain ⟨k, hk, rfl, e3⟩ := pi_ c2
      rw [e1, e3]
      have hfl := fl_s_ok sok nw hk
      have hwo := fl_wo_ok sok nw hk (p : Int)
      refine ev_b1 k1 (ev_b1 hfn ?_)
      refine ev_bc (P := fun a u' c => c = (1, 64) ∧ a = u.2 ∧ u'.2 = u.2 + 1 ∧ ygt_ b K0_ o u (ot_ o u.2 21) u' ∧ ∃ f, iA_ d u' u.2 64 f ∧ ∀ c, c < 64 → f c = q_ (ss_fl (g_s g).1 k c)) (us_flows h0 k3 sok (show k < 4 by omega)) (fun a u' c hp => by rw [hp.1]; exact hp.2.2.1) (fun a u17 c hp' => ?_)
      obtain ⟨rfl, rfl, p3, p4, f, p5, p6⟩ := hp'
      have R17 := yR_keep h p4 (fun x hx => hx.elim)
      have t17 : ot_ o u.2 21 u.2 = 21 := ot_at _ _ _
      generalize ot_ o u.2 21 = o17 at *
      refine ev_bl (P := fun y c => c = (0, 0) ∧ y.2.2 = u17.2 ∧ y.1 = q_ (fs_out (ss_fl (g_s g).1 k) p + fs_in (ss_fl (g_s g).1 k) p) ∧ yR_ d b o17 y.2 t g ∧ ∃ f', iA_ d y.2 u.2 64 f' ∧ ∀ c, c < 64 → f' c = q_ (fl_wo p (ss_fl (g_s g).1 k) c)) (uq_wo34 R17 ok p5 t17 p6 hfl.2.2.1 hp) (fun y c hp' => ?_)
      obtain ⟨v, u2⟩ := y
      obtain ⟨rfl, z2, e2, R2, f2, a2, eF2⟩ := hp'
      dsimp only at z2 e2 R2 a2 ⊢
      subst e2
      obtain ⟨_, _, _, fs2, _, l2, _⟩ := yR_N R2
      refine ev_b1 l2 ?_
      refine ev_bc (P := fun a u' c => a = u2.2 ∧ c = (6, 151) ∧ u'.2 = u2.2 + 6 ∧ ∃ o', ygt_ b K2_ o17 u2 o' u' ∧ yT_ d b o' u' t g u2.2 (ss_nu (g_np g) (fl_wo p (ss_fl (g_s g).1 k))) (ss_be (g_np g) (g_s g) (fl_wo p (ss_fl (g_s g).1 k))) (cm_ (g_np g) (g_s g) (fl_wo p (ss_fl (g_s g).1 k)))) (uq_press2 R2 ok a2 t17 eF2 hwo) (fun a u' c hp => by rw [hp.2.1]; exact hp.2.2.1) (fun a u43 c hp' => ?_)
      obtain ⟨rfl, rfl, z3, o3, g3, T3⟩ := hp'
      obtain ⟨f8, hcl⟩ := yT_cl T3
      refine ev_b1 hcl ?_
      refine ev_bc (P := fun r u' c => c = (0, 0) ∧ u'.2 = u43.2 ∧ yR_ d b o3 u' t g ∧ ((r = q_ (-1) ∧ (∀ y, ¬ fs_F (g_np g) (ss_nu (g_np g) (fl_wo p (ss_fl (g_s g).1 k))) (ss_be (g_np g) (g_s g) (fl_wo p (ss_fl (g_s g).1 k))) (ss_th (g_s g) (fl_wo p (ss_fl (g_s g).1 k))) y)) ∨ ∃ X, fs_O (g_np g) (ss_nu (g_np g) (fl_wo p (ss_fl (g_s g).1 k))) (ss_be (g_np g) (g_s g) (fl_wo p (ss_fl (g_s g).1 k))) (ss_th (g_s g) (fl_wo p (ss_fl (g_s g).1 k))) X ∧ r = q_ (fs_tot X))) (yT_least T3 (ss_pA sok hwo)) (fun a u' c hp => by rw [hp.1]; exact hp.2.1) (fun r u51 c hp' => ?_)
      obtain ⟨rfl, z4, R4, hq⟩ := hp'
      have zz : u51.2 = u.2 + 7 := by rw [z4, z3, z2, p3]
      rcases hq with ⟨rfl, hn⟩ | ⟨X, hX, rfl⟩
      · exact ev_ifT m1_q.symm (ev_some ⟨⟨o3, R4, zz, Nat.le_of_ble_eq_true rfl, Nat.le_of_ble_eq_true rfl⟩, Or.inr ⟨hn, m1_q⟩⟩)
      · have htot : fs_tot (fl_wo p (ss_fl (g_s g).1 k)) < 4294967295 := by
          have := fl_wo_tot hfl.2.1 (p : Int)
          have := nw.2 k hk
          omega
        have hXt := QO_tot sok hwo htot hX
        refine ev_ifF (by rw [m1_q]; exact q_ne1 hXt) ?_
        exact ev_some ⟨⟨o3, R4, zz, Nat.le_of_ble_eq_true rfl, Nat.le_of_ble_eq_true rfl⟩, Or.inl ⟨X, hX, by rw [q_add]⟩⟩
    · simp only [if_pos c1, if_neg c2, if_neg (show ¬ ((0 ≤ x.toInt ∧ x.toInt < g_np g) ∧ (0 ≤ z.toInt ∧ z.toInt < g_nk g)) from fun q => c2 q.2)]
      exact ev_some ⟨yO_0 h _, m2_q⟩
  · simp only [if_neg c1, if_neg (show ¬ ((0 ≤ x.toInt ∧ x.toInt < g_np g) ∧ (0 ≤ z.toInt ∧ z.toInt < g_nk g)) from fun q => c1 q.1)]
    exact ev_some ⟨yO_0 h _, m2_q⟩
end
