set_option maxRecDepth 100000
/-! The component's first row; what is asked of it -/
section
variable {d : UD} {b : Nat} {o : Nat → Nat} {u : UM} {t : Nat} {g : GS_}
/-- the first row as it lies, or none -/
def yY_ (d : UD) (o : Nat → Nat) (u : UM) (g : GS_) (k : Nat) (r : Option Nat) : Prop := (∃ a f X, r = some a ∧ iA_ d u a 64 f ∧ o a = 13 ∧ Q1_ (g_np g) (g_s g) (ss_fl (g_s g).1 k) X ∧ ∀ c, c < 64 → f c = q_ (X c)) ∨ (r = none ∧ QN_ (g_np g) (g_s g) (ss_fl (g_s g).1 k) (ss_be (g_np g) (g_s g) (ss_fl (g_s g).1 k)))
theorem KF_2 : ∀ x, KF_ x → KT_ x := KF_T
theorem uq_first (h : yR_ d b o u t g) (ok : g_ok g) (nw : ss_nw (g_np g) (g_nk g) (g_s g)) {k : Nat} (hk : k < g_nk g) : Ev_ (fun n => uf_X0_first n d u t (n_ k)) (fun r => ∃ o', r.1.2.2 = u.2 + r.2.1 ∧ r.2.1 ≤ 8 ∧ r.2.2 ≤ 279 ∧ yR_ d b o' r.1.2 t g ∧ yY_ d o' r.1.2 g k r.1.1) := by
  obtain ⟨aW, R, W⟩ := h
  have h4 := ok.2.1
  have sok := ok.2.2.1
  have fl := fl_s_ok sok nw hk
  obtain ⟨h0, hc, aN, aL, aT, fk, fr, s0, ids, lS, f, e1, e2, e3, e4, e5, e6, e7, e8, e9, e10⟩ := id R
  have hfk : u_fi d u 1 3 t = some fk := fi_e e1 rfl
  unfold uf_X0_first uf_X0_first_J34
  refine ev_b1 hfk ?_
  refine ev_if (fun c => ?_) (fun c => ?_)
  · have hfr : u_fq d u 1 4 t = some fr := fq_e e1 rfl
    refine ev_b1 hfr (ev_some ⟨o, rfl, Nat.zero_le _, Nat.zero_le _, ⟨aW, R, W⟩, ?_⟩)
    rcases e7 with e7 | ⟨k', hk', ek, e7⟩
    · rw [c, n_q, q_eq ⟨by omega, by omega⟩ ⟨by omega, by omega⟩] at e7
      omega
    · rw [c, n_eq (by omega) (by omega)] at ek
      subst ek
      rcases e7 with ⟨a, f', X, q1, q2, q3, q4, q5⟩ | ⟨q1, q2⟩
      · exact Or.inl ⟨a, f', X, q1, q2, q3, q4, q5⟩
      · exact Or.inr ⟨q1, q2⟩
  · obtain ⟨fn, hfn⟩ := ys_cl e5
    refine ev_b1 (fr_e e1 rfl) (ev_b1 hfn ?_)
    refine ev_bc (P := fun a u' c => c = (1, 64) ∧ a = u.2 ∧ u'.2 = u.2 + 1 ∧ ygt_ b K0_ o u (ot_ o u.2 21) u' ∧ ∃ f, iA_ d u' u.2 64 f ∧ ∀ c, c < 64 → f c = q_ (ss_fl (g_s g).1 k c)) (us_flows h0 e5 sok (show k < 4 by omega)) (fun a u' c hp => by rw [hp.1]; exact hp.2.2.1) (fun a u7 c hp => ?_)
    obtain ⟨rfl, rfl, p3, p4, f7, p5, p6⟩ := hp
    have R7 : yR_ d b (ot_ o u.2 21) u7 t g := yR_keep ⟨aW, R, W⟩ p4 (fun x hx => hx.elim)
    obtain ⟨_, _, _, fs7, _, q2, _⟩ := yR_N R7
    refine ev_b1 q2 ?_
    refine ev_bc (P := fun a u' c => a = u7.2 ∧ c = (6, 151) ∧ u'.2 = u7.2 + 6 ∧ ∃ o', ygt_ b K2_ (ot_ o u.2 21) u7 o' u' ∧ yT_ d b o' u' t g u7.2 (ss_nu (g_np g) (ss_fl (g_s g).1 k)) (ss_be (g_np g) (g_s g) (ss_fl (g_s g).1 k)) (cm_ (g_np g) (g_s g) (ss_fl (g_s g).1 k))) (uq_press2 R7 ok p5 (ot_at _ _ _) p6 fl) (fun a u' c hp => by rw [hp.2.1]; exact hp.2.2.1) (fun a u20 c hp => ?_)
    obtain ⟨rfl, rfl, z2, o2, g2, aW2, R2, W2, A, fn2, fb, fc, ft, Z2, P2⟩ := hp
    refine ev_b1 (cl_e Z2.1) ?_
    refine ev_bc (P := fun r u' c => ∃ o', u'.2 = u20.2 + c.1 ∧ c.1 ≤ 1 ∧ c.2 ≤ 64 ∧ ygt_ b KF_ o2 u20 o' u' ∧ yW_ d o' u' aW2 ∧ ((r = none ∧ ∀ y, ¬ fs_F (g_np g) (ss_nu (g_np g) (ss_fl (g_s g).1 k)) (ss_be (g_np g) (g_s g) (ss_fl (g_s g).1 k)) (ss_th (g_s g) (ss_fl (g_s g).1 k)) y) ∨ ∃ ar f X, r = some ar ∧ iA_ d u' ar 64 f ∧ o' ar = 13 ∧ u20.2 ≤ ar ∧ fs_1 (g_np g) (ss_nu (g_np g) (ss_fl (g_s g).1 k)) (ss_be (g_np g) (g_s g) (ss_fl (g_s g).1 k)) (ss_th (g_s g) (ss_fl (g_s g).1 k)) X ∧ ∀ c, c < 64 → f c = q_ (X c))) (up_first R2 W2 Z2 P2 (ss_pA sok fl)) (fun r u' c hp => by obtain ⟨o', q, _⟩ := hp; exact q) (fun r u28 c hp => ?_)
    obtain ⟨o3, z3, b1, b2, g3, W3, hq⟩ := hp
    have R3 := yR0_keep R2 g3 KF_T
    have hY : yY_ d o3 u28 g k r := by
      rcases hq with ⟨q1, q2⟩ | ⟨ar, f', X, q1, q2, q3, _, q4, q5⟩
      · exact Or.inr ⟨q1, q2⟩
      · exact Or.inl ⟨ar, f', X, q1, q2, q3, q4, q5⟩
    obtain ⟨h03, hc3, aN3, aL3, aT3, fk3, fr3, s3, ids3, lS3, f3, d1, d2, d3, d4, d5, d6, d7, d8, d9, d10⟩ := R3
    refine ev_pf d1 (by simp) (fun w32 c32 => ?_)
    have g32 : ygt_ b (K1_ 1) o3 u28 o3 (w32, u28.2) := ygt_ch h03 d1 c32 (kd1_o _ _ _) d2
    refine ev_pf (u := (w32, u28.2)) c32.2.1 (by simp) (fun w34 c34 => ?_)
    have g34 : ygt_ b (K1_ 1) o3 u28 o3 (w34, u28.2) := ygt_tr h03 g32 (ygt_ch g32.1 c32.2.1 c34 (kd1_o _ _ _) d2)
    have d34 : ob_ (w34, u28.2) t 1 [.ref aN3, .ref aL3, .ref aW2, .int (n_ k), va_rf r, .ref aT3, .int (n_ g.2.2.2.2.2.1), .int (q_ g.2.2.2.2.2.2.1), .int (q_ g.2.2.2.2.2.2.2)] := c34.2.1
    have hfq : u_fq d (w34, u28.2) 1 4 t = some r := fq_e d34 rfl
    have hY4 : yY_ d o3 (w34, u28.2) g k r := by
      rcases hY with ⟨a, f', X, q1, q2, q3, q4⟩ | hY
      · exact Or.inl ⟨a, f', X, q1, (ygt_at h03 g34 q2 (by rw [q3]; intro z; cases z)).1, q3, q4⟩
      · exact Or.inr hY
    have n1 : ∀ s, 10 ≤ s → ∀ r, r < 8 → ¬ K1_ 1 (16 * s + r) := fun s hs r hr z => by unfold K1_ at z; omega
    have m1 := ygt_at h03 g34 d8 (by rw [d9]; intro z; cases z)
    refine ev_b1 hfq (ev_some ⟨o3, ?_, ?_, ?_, ⟨aW2, ⟨g34.1, hc3, aN3, aL3, aT3, n_ k, r, s3, ids3, lS3, f3, d34, d2, d3, d4, ys_keep h03 g34 d5 (by intro z; cases z) (n1 s3 (d4 s3 (by simp))), yP_keep h03 g34 d6 (by intro z; cases z) (by intro z; cases z) (by intro z; cases z) (fun s hs => n1 s (d4 s (List.mem_cons_of_mem _ hs))), Or.inr ⟨k, hk, rfl, hY4⟩, m1.1, m1.2.trans d9, d10⟩, yW_keep h03 g34 W3 (fun t h1 h2 z => by cases z; omega)⟩, hY4⟩)
    · show u28.2 = u.2 + (1 + (6 + (c.1 + 0)))
      rw [z3, z2, p3]; omega
    · show 1 + (6 + (c.1 + 0)) ≤ 8; omega
    · show 64 + (151 + (c.2 + 0)) ≤ 279; omega
end
