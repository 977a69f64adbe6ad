set_option maxRecDepth 100000
/-! The reference presses, whole -/
def ss_nu (np : Nat) (f : Nat → Int) (p : Nat) : Int := if p < np then fw_sm np (fun b => f (8 * p + b) - f (8 * b + p)) else 0
theorem n_01 : m_01 (n_ 1) = true ∧ m_01 (n_ 0) = true := by
  rw [← n_lit 0, ← n_lit 1]; exact ⟨by decide, by decide⟩
theorem rf_presses {np : Nat} {be : Nat → Int} {th : Option (Nat → Int)} {may f : Nat → Int} (A : rn_A np (ss_nu np f) be th may) (hb : ∀ c, c < 64 → 0 ≤ be c ∧ be c < 2147483648) (hm : ∀ p, p < 8 → 0 ≤ may p ∧ may p < 2147483648) (hnu : ∀ p, p < 8 → -2147483648 < ss_nu np f p ∧ ss_nu np f p < 2147483648) {st : MS} (h5 : st.1 5 = n_ np) (h17 : ∀ c, c < 64 → st.2.1 17 c = q_ (f c)) (h21 : ∀ c, c < 64 → st.2.1 21 c = q_ (be c)) (h23 : ∀ p, p < 8 → st.2.1 23 p = q_ (may p)) (h26 : ∀ c, c < 64 → st.2.1 26 c = n_ 0) :
    Ev_ (fun n => f_presses n st) (fun r => (r.1 = n_ 1 ∧ rz_ np (ss_nu np f) be th may st true r.2) ∨ (r.1 = n_ 0 ∧ rz_ np (ss_nu np f) be th may st false r.2)) := by
  have h8 := A.1
  unfold f_presses
  refine ev_b (P := fun s1 => ms_ [22] st s1 ∧ ∀ c, c < 64 → s1.2.1 22 c = q_ 0) ?_ (fun s1 hs1 => ?_)
  · unfold f_presses_L2l
    refine ev_for 64 (fun i y => y.1 = n_ i ∧ ms_ [22] st y.2 ∧ ∀ c, c < i → y.2.2.1 22 c = q_ 0) (fun i y hi hP => ?_) (fun y hP => ?_) (0, st) ⟨n_lit 0, ms_rfl _ _, fun c hc => absurd hc (Nat.not_lt_zero _)⟩
    · obtain ⟨v, s1⟩ := y
      obtain ⟨e0, g1, g2⟩ := hP
      dsimp only at e0 g1 g2 ⊢
      subst e0
      refine ev_eq (r := .inl (n_ (i + 1), m_sa s1 22 i (q_ 0))) (fun n => ?_) ⟨_, rfl, rfl, ms_tr g1 (ms_sa (by simp) _ _ _), fun c hc => ?_⟩
      · unfold f_presses_L2
        simp (disch := omega) only [n_lit, n_le, n_in, m_gT, n_nat, n_add]
        rw [ef_F (show ¬ 64 ≤ i by omega)]; rfl
      · dsimp only
        rw [sa_at]
        by_cases e : c = i
        · rw [e, upd_at]
        · rw [upd_ne e]; exact g2 c (by omega)
    · obtain ⟨v, s1⟩ := y
      obtain ⟨e0, g1, g2⟩ := hP
      dsimp only at e0 g1 g2 ⊢
      subst e0
      refine ev_eq (r := .inr s1) (fun n => ?_) ⟨_, rfl, g1, g2⟩
      unfold f_presses_L2
      simp (disch := omega) only [n_lit, n_le]
      rw [ef_T (by omega)]
  · obtain ⟨m1, z1⟩ := hs1
    refine ev_b (P := fun s2 => ms_ [22, 24, 25] st s2 ∧ (∀ c, c < 64 → s2.2.1 22 c = q_ 0) ∧ (∀ p, p < 8 → s2.2.1 24 p = q_ 0) ∧ ∀ p, p < 8 → s2.2.1 25 p = q_ (ss_nu np f p)) ?_ (fun s2 hs2 => ?_)
    · unfold f_presses_L23l
      refine ev_for 8 (fun i y => y.1 = n_ i ∧ ms_ [22, 24, 25] st y.2 ∧ (∀ c, c < 64 → y.2.2.1 22 c = q_ 0) ∧ (∀ p, p < i → y.2.2.1 24 p = q_ 0) ∧ ∀ p, p < i → y.2.2.1 25 p = q_ (ss_nu np f p)) (fun i y hi hP => ?_) (fun y hP => ?_) (0, s1) ⟨n_lit 0, ms_sub m1 (by simp), z1, fun c hc => absurd hc (Nat.not_lt_zero _), fun c hc => absurd hc (Nat.not_lt_zero _)⟩
      · obtain ⟨v, s2⟩ := y
        obtain ⟨e0, g1, g2, g3, g4⟩ := hP
        dsimp only at e0 g1 g2 g3 g4 ⊢
        subst e0
        have fin : ∀ n, f_presses_J58 n (m_sa s2 24 i (q_ 0)) (n_ i) (q_ (ss_nu np f i)) (n_ i) = some (.inl (n_ (i + 1), m_sa (m_sa s2 24 i (q_ 0)) 25 i (q_ (ss_nu np f i)))) := fun n => by
          unfold f_presses_J58
          simp (disch := omega) only [n_lit, n_in, m_gT, n_nat, n_add]
        have post : ∃ s', (Sum.inl (n_ (i + 1), m_sa (m_sa s2 24 i (q_ 0)) 25 i (q_ (ss_nu np f i))) : (Int32 × MS) ⊕ MS) = .inl s' ∧ s'.1 = n_ (i + 1) ∧ ms_ [22, 24, 25] st s'.2 ∧ (∀ c, c < 64 → s'.2.2.1 22 c = q_ 0) ∧ (∀ p, p < i + 1 → s'.2.2.1 24 p = q_ 0) ∧ ∀ p, p < i + 1 → s'.2.2.1 25 p = q_ (ss_nu np f p) := by
          refine ⟨_, rfl, rfl, ms_tr g1 (ms_tr (ms_sa (by simp) _ _ _) (ms_sa (by simp) _ _ _)), fun c hc => ?_, fun p hp => ?_, fun p hp => ?_⟩
          · dsimp only; rw [sa_ne _ (by omega), sa_ne _ (by omega)]; exact g2 c hc
          · dsimp only; rw [sa_ne _ (by omega), sa_at]
            by_cases e : p = i
            · rw [e, upd_at]
            · rw [upd_ne e]; exact g3 p (by omega)
          · dsimp only; rw [sa_at]
            by_cases e : p = i
            · rw [e, upd_at]
            · rw [upd_ne e, sa_ne _ (by omega)]; exact g4 p (by omega)
        have h5' : (m_sa s2 24 i (q_ 0)).1 5 = n_ np := by show s2.1 5 = n_ np; rw [g1.1]; exact h5
        have h17' : ∀ c, c < 64 → (m_sa s2 24 i (q_ 0)).2.1 17 c = q_ (f c) := fun c hc => by rw [sa_ne _ (by omega), g1.2.2 17 (by simp)]; exact h17 c hc
        have hs : ∀ n, f_presses_L23 n (n_ i) s2 = m_if (np ≤ i) (f_presses_J58 n (m_sa s2 24 i (q_ 0)) (n_ i) (n_ 0) (n_ i)) (m_b (f_netBy n (m_sa s2 24 i (q_ 0)) (n_ i)) (fun r10 => f_presses_J58 n (m_sa s2 24 i (q_ 0)) (n_ i) r10 (n_ i))) := fun n => by
          unfold f_presses_L23
          rw [show (0 : Int32) = q_ 0 from rfl, n_nat (by omega), h5']
          simp (disch := omega) only [n_lit, n_le, n_in, m_gT]
          rw [ef_F (show ¬ 8 ≤ i by omega)]; rfl
        simp only [hs]
        refine ev_if (fun c => ?_) (fun c => ?_)
        · have e : n_ 0 = q_ (ss_nu np f i) := by unfold ss_nu; rw [if_neg (by omega)]; rfl
          rw [e]; exact ev_eq fin post
        · refine ev_b (rf_netBy h8 h5' h17' hi) (fun r hr => ?_)
          subst hr
          have e : fw_sm np (fun b => f (8 * i + b) - f (8 * b + i)) = ss_nu np f i := by unfold ss_nu; rw [if_pos (by omega)]
          rw [e]; exact ev_eq fin post
      · obtain ⟨v, s2⟩ := y
        obtain ⟨e0, g1, g2, g3, g4⟩ := hP
        dsimp only at e0 g1 g2 g3 g4 ⊢
        subst e0
        refine ev_eq (r := .inr s2) (fun n => ?_) ⟨_, rfl, g1, g2, g3, g4⟩
        unfold f_presses_L23
        simp (disch := omega) only [n_lit, n_le]
        rw [ef_T (by omega)]
    · obtain ⟨m2, z2, z3, z4⟩ := hs2
      have hq : rq_ (ss_nu np f) be may st s2 (fun _ => 0) (fun _ => 0) (ss_nu np f) := by
        refine ⟨ms_sub m2 (by simp), ⟨fun c hc => ?_, z2, fun p hp => ?_, z3, fun c hc => ?_⟩, z4, rn_I0 (fun k hk => (hb k hk).1) (fun p hp => (hm p hp).1) A.2.2.2.2.2.1⟩
        · rw [m2.2.2 21 (by simp)]; exact h21 c hc
        · rw [m2.2.2 23 (by simp)]; exact h23 p hp
        · rw [m2.2.2 26 (by simp)]; exact h26 c hc
      refine ev_b (rf_presses_loop A hb hm hnu hq) (fun r hr => ?_)
      cases r with
      | inl s =>
        refine ev_eq (r := (n_ 1, s)) (fun n => ?_) (Or.inl ⟨rfl, hr⟩)
        show m_g (m_01 1) (some (1, s)) = _
        rw [n_lit 1, n_01.1, m_gT]
      | inr s =>
        refine ev_eq (r := (n_ 0, s)) (fun n => ?_) (Or.inr ⟨rfl, hr⟩)
        show m_g (m_01 0) (some (0, s)) = _
        rw [n_lit 0, n_01.2, m_gT]
