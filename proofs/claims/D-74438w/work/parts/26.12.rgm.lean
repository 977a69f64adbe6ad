set_option maxRecDepth 100000
/-! The reference is fed -/
def by_ (v : Int32) (s : Nat) : Int32 := vp_nar .byte ((v >>> (n_ s &&& 31)).toInt8.toInt32)
/-- the k-th of twenty bytes -/
def fd_ (a b c d e : Int32) (k : Nat) : Int32 := by_ (if k < 4 then a else if k < 8 then b else if k < 12 then c else if k < 16 then d else e) (24 - 8 * (k % 4))
def g_tape (g : GS_) (T : Nat → Int32) (n : Nat) : GS_ := (g.1, g.2.1, g.2.2.1, g.2.2.2.1, T, n, g.2.2.2.2.2.2)
def ac_feed (g : GS_) (a b c d e : Int32) : Int32 × GS_ := if g.2.2.2.2.2.1 + 20 ≤ 900 then (n_ (g.2.2.2.2.2.1 + 20), g_tape g (fun i => if i < g.2.2.2.2.2.1 then g.2.2.2.2.1 i else fd_ a b c d e (i - g.2.2.2.2.2.1)) (g.2.2.2.2.2.1 + 20)) else (q_ (-4), g)
theorem rf_feed_77 (n : Nat) {st : MS} {t : Nat} (ht : t < 900) (h10 : st.1 10 = n_ t) (v1 v2 v3 v4 v5 v : Int32) {k : Nat} (hk : k < 20) : f_feed_J77 n st v1 v2 v3 v4 v5 (n_ k) v = some (.inl (n_ (k + 1), m_sg (m_sa st 9 t (by_ v (24 - 8 * (k % 4)))) 10 (n_ (t + 1)))) := by
  unfold f_feed_J77
  have h4 : decide (¬ (4 : Int32) = 0) = true := by decide
  have hle : k / 4 * 4 ≤ k := Nat.div_mul_le_self _ _
  have e : k - k / 4 * 4 = k % 4 := by omega
  have e24 : 8 * (k % 4) ≤ 24 := by omega
  have esh : (24 : Int32) - 8 * (n_ k - n_ k / 4 * 4) = n_ (24 - 8 * (k % 4)) := by
    rw [n_lit 4, n_div (by omega) (by omega) (by omega), n_mul, n_sub hle, e, n_lit 8, n_mul, n_lit 24, n_sub e24]
  have h10' : ∀ x, (m_sa st 9 t x).1 10 = n_ t := fun x => h10
  rw [h4, m_gT, esh, h10, n_nat (by omega), n_in (by omega) (by omega), m_gT, h10', show n_ k + 1 = n_ (k + 1) from by rw [n_lit 1, n_add], show n_ t + 1 = n_ (t + 1) from by rw [n_lit 1, n_add]]
  rfl
theorem rf_feed {g : GS_} (ok : g_ok g) {st : MS} (R0 : rf_R g st) (a b c d e : Int32) : Ev_ (fun n => f_feed n st a b c d e) (fun r => rf_R (ac_feed g a b c d e).2 r.2 ∧ r.1 = (ac_feed g a b c d e).1) := by
  have R := rf_R_8 R0
  obtain ⟨h5, h6, h7, h10, h13, h14, hV, hP, hN1, hN2, hT⟩ := id R
  have h900 : g.2.2.2.2.2.1 ≤ 900 := ok.2.2.2.2.2.2.2.2
  unfold f_feed ac_feed
  generalize hst : m_sg st 8 0 = st1 at *
  generalize htv : g.2.2.2.2.2.1 = t at *
  rw [h10]
  refine ev_ifq (c' := t + 20 ≤ 900) (by rw [n_lit 20, n_add, n_lit 900, n_le (by omega) (by omega)]) (fun c1 => ?_) (fun c1 => ?_)
  · rw [if_pos c1]
    refine ev_b (P := fun s => mt_ [10] [9] st1 s ∧ s.1 10 = n_ (t + 20) ∧ (∀ i, i < t → s.2.1 9 i = st1.2.1 9 i) ∧ ∀ i, i < 20 → s.2.1 9 (t + i) = fd_ a b c d e i) ?_ (fun s hs => ?_)
    · unfold f_feed_L24l
      refine ev_for 20 (fun (i : Nat) (y : Int32 × MS) => y.1 = n_ i ∧ mt_ [10] [9] st1 y.2 ∧ y.2.1 10 = n_ (t + i) ∧ (∀ j, j < t → y.2.2.1 9 j = st1.2.1 9 j) ∧ ∀ j, j < i → y.2.2.1 9 (t + j) = fd_ a b c d e j) (fun i y hi hP => ?_) (fun y hP => ?_) _ ⟨n_lit 0, mt_rfl _ _ _, h10, fun j _ => rfl, fun j hj => absurd hj (Nat.not_lt_zero _)⟩
      · obtain ⟨v, s1⟩ := y
        obtain ⟨e0, g1, g2, g3, g4⟩ := hP
        dsimp only at e0 g1 g2 g3 g4 ⊢
        subst e0
        have hs : ∀ n, f_feed_L24 n a b c d e (n_ i) s1 = some (.inl (n_ (i + 1), m_sg (m_sa s1 9 (t + i) (fd_ a b c d e i)) 10 (n_ (t + i + 1)))) := fun n => by
          unfold f_feed_L24 fd_
          simp only [rf_feed_77 n (show t + i < 900 by omega) g2 a b c d e _ hi]
          simp (disch := omega) only [n_lit, n_le]
          rw [ef_F (show ¬ 20 ≤ i by omega)]
          by_cases c4 : i < 4
          · rw [if_pos c4, ef_F (by omega)]
          · rw [if_neg c4, ef_T (by omega)]
            by_cases c8 : i < 8
            · rw [if_pos c8, ef_F (by omega)]
            · rw [if_neg c8, ef_T (by omega)]
              by_cases c12 : i < 12
              · rw [if_pos c12, ef_F (by omega)]
              · rw [if_neg c12, ef_T (by omega)]
                by_cases c16 : i < 16
                · rw [if_pos c16, ef_F (by omega)]
                · rw [if_neg c16, ef_T (by omega)]
        refine ev_eq hs ⟨_, rfl, rfl, mt_tr g1 (mt_tr (mt_of (ms_sa (by simp) _ _ _)) (mt_sg (by simp) _ _)), sg_at _ _ _, fun j hj => ?_, fun j hj => ?_⟩
        · show (m_sa s1 9 (t + i) (fd_ a b c d e i)).2.1 9 j = _
          rw [sa_at, upd_ne (by omega)]; exact g3 j hj
        · show (m_sa s1 9 (t + i) (fd_ a b c d e i)).2.1 9 (t + j) = _
          rw [sa_at]
          by_cases ej : j = i
          · rw [ej, upd_at]
          · rw [upd_ne (by omega)]; exact g4 j (by omega)
      · obtain ⟨v, s1⟩ := y
        obtain ⟨e0, g1, g2, g3, g4⟩ := hP
        dsimp only at e0 g1 g2 g3 g4 ⊢
        subst e0
        refine ev_eq (r := .inr s1) (fun n => ?_) ⟨_, rfl, g1, g2, g3, g4⟩
        unfold f_feed_L24
        simp (disch := omega) only [n_lit, n_le]
        rw [ef_T (by omega)]
    · obtain ⟨m1, g2, g3, g4⟩ := hs
      rw [g2]
      refine ev_some ⟨⟨by rw [m1.1 5 (by simp)]; exact h5, by rw [m1.1 6 (by simp)]; exact h6, by rw [m1.1 7 (by simp)]; exact h7, g2, by rw [m1.1 13 (by simp)]; exact h13, by rw [m1.1 14 (by simp)]; exact h14, by rw [m1.2.2 0 (by simp)]; exact hV, fun i hi => by rw [m1.2.2 2 (by simp)]; exact hP i hi, fun i hi => by rw [m1.2.1]; exact hN1 i hi, fun i hi => by rw [m1.2.1]; exact hN2 i hi, fun i hi => ?_⟩, rfl⟩
      have hi' : i < t + 20 := hi
      show s.2.1 9 i = (if i < t then g.2.2.2.2.1 i else fd_ a b c d e (i - t))
      by_cases ci : i < t
      · rw [if_pos ci, g3 i ci]; exact hT i (by omega)
      · rw [if_neg ci]
        have := g4 (i - t) (by omega)
        rwa [show t + (i - t) = i by omega] at this
  · rw [if_neg c1]
    exact ev_some ⟨R, m4_q⟩
