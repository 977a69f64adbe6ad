set_option maxRecDepth 100000
/-! The reference presses -/
theorem rl_init {L pi : Nat → Int} {lb : Int} {R0 : Nat → Prop} {st : MS} {dist : Nat → Int} (h : ∀ v, v < 16 → (R0 v ∧ dist v = 0) ∨ (¬ R0 v ∧ dist v = 1000000)) (hlb : ∀ v, v < 16 → R0 v → lb ≤ - (64 * pi v)) (hR : ∀ v, R0 v → v < 16) (h27 : ∀ v, v < 16 → st.2.1 27 v = q_ (dist v)) (h28 : ∀ v, v < 16 → st.2.1 28 v = q_ (-1)) : rl_ L pi lb R0 st R0 dist (fun _ => 0) := by
  refine ⟨⟨fun v hv => ?_, fun v hv hd => ?_, fun v hv hd => ?_, fun v hv hd => ?_⟩, ⟨h27, fun v hv _ => h28 v hv, fun v hv _ _ => ?_⟩, fun v hv => hv, fun v hv hr => ?_⟩
  · rcases h v hv with h1 | h1 <;> omega
  · rcases h v hv with h1 | h1
    · have := hlb v hv h1.1
      show lb ≤ dist v - 64 * pi v
      omega
    · omega
  · rcases h v hv with h1 | h1
    · exact Or.inl h1
    · omega
  · rcases h v hv with h1 | h1
    · exact ⟨[], h1.1⟩
    · omega
  · rename_i h1 h2
    rcases h v hv with h3 | h3
    · exact absurd h3.1 h1
    · omega
  · rcases h v hv with h1 | h1
    · omega
    · exact absurd hr h1.1
def rn_nd (st : MS) (nd : Nat → Int) : Prop := ∀ p, p < 8 → st.2.1 25 p = q_ (nd p)
theorem rf_presses_69 {st0 : MS} {nd : Nat → Int} (hnd : rn_nd st0 nd) (hfit : ∀ p, p < 8 → -2147483648 ≤ nd p ∧ nd p < 2147483648) : Ev_ (fun n => f_presses_L69l n (n_ 0, n_ 0, st0)) (fun r => ms_ [27, 28] st0 r.2 ∧ (∀ v, v < 8 → r.2.2.1 27 v = q_ (if 0 < nd v then 0 else 1000000)) ∧ (∀ v, v < 8 → r.2.2.1 27 (v + 8) = q_ 1000000) ∧ (∀ v, v < 16 → r.2.2.1 28 v = q_ (-1)) ∧ ((r.1 = n_ 1 ∧ ∃ p, p < 8 ∧ 0 < nd p) ∨ (r.1 = n_ 0 ∧ ∀ p, p < 8 → nd p ≤ 0))) := by
  unfold f_presses_L69l
  refine ev_for 8 (fun i y => y.2.1 = n_ i ∧ ms_ [27, 28] st0 y.2.2 ∧ (∀ v, v < i → y.2.2.2.1 27 v = q_ (if 0 < nd v then 0 else 1000000)) ∧ (∀ v, v < i → y.2.2.2.1 27 (v + 8) = q_ 1000000) ∧ (∀ v, v < i → y.2.2.2.1 28 v = q_ (-1) ∧ y.2.2.2.1 28 (v + 8) = q_ (-1)) ∧ ((y.1 = n_ 1 ∧ ∃ p, p < i ∧ 0 < nd p) ∨ (y.1 = n_ 0 ∧ ∀ p, p < i → nd p ≤ 0))) (fun i y hi hP => ?_) (fun y hP => ?_) _ ⟨rfl, ms_rfl _ _, fun v hv => absurd hv (Nat.not_lt_zero _), fun v hv => absurd hv (Nat.not_lt_zero _), fun v hv => absurd hv (Nat.not_lt_zero _), Or.inr ⟨rfl, fun v hv => absurd hv (Nat.not_lt_zero _)⟩⟩
  · obtain ⟨v1, v2, s1⟩ := y
    obtain ⟨e0, g1, g2, g3, g4, g5⟩ := hP
    dsimp only at e0 g1 g2 g3 g4 g5 ⊢
    subst e0
    have h25 : ∀ p, p < 8 → s1.2.1 25 p = q_ (nd p) := fun p hp => by rw [g1.2.2 25 (by simp)]; exact hnd p hp
    have hi25 := h25 i hi
    have hfi := hfit i hi
    have hs : ∀ n, f_presses_L69 n v1 (n_ i) s1 = some (.inl ((if 0 < nd i ∨ v1 ≠ n_ 0 then n_ 1 else n_ 0), n_ (i + 1), m_sa (m_sa (m_sa (m_sa s1 27 i (q_ (if 0 < nd i then 0 else 1000000))) 27 (i + 8) (q_ 1000000)) 28 i (q_ (-1))) 28 (i + 8) (q_ (-1)))) := fun n => by
      unfold f_presses_L69 f_presses_J96 f_presses_J139 f_presses_J144
      simp (disch := omega) only [n_lit, n_add, n_le, n_in, m_gT, n_nat, sa_ne, hi25, qn_le]
      rw [ef_F (show ¬ 8 ≤ i by omega), show (- n_ 1 : Int32) = q_ (-1) from n_neg 1, show n_ 1000000 = q_ 1000000 from rfl, show n_ 0 = q_ 0 from rfl]
      by_cases c : nd i ≤ ((0 : Nat) : Int)
      · rw [ef_T c, if_neg (show ¬ 0 < nd i by omega)]
        by_cases c2 : v1 = q_ 0
        · rw [ef_T c2, ef_T c, if_neg (fun z => z.elim (by omega) (fun z => z c2))]
        · rw [ef_F c2, if_pos (Or.inr c2)]
      · rw [ef_F c, if_pos (show 0 < nd i by omega), ef_F c]
        by_cases c2 : v1 = q_ 0
        · rw [ef_T c2, if_pos (Or.inl (by omega))]
        · rw [ef_F c2, if_pos (Or.inr c2)]
    refine ev_eq hs ⟨_, rfl, rfl, ms_tr g1 (ms_tr (ms_sa (by simp) _ _ _) (ms_tr (ms_sa (by simp) _ _ _) (ms_tr (ms_sa (by simp) _ _ _) (ms_sa (by simp) _ _ _)))), fun v hv => ?_, fun v hv => ?_, fun v hv => ?_, ?_⟩
    · dsimp only
      rw [sa_ne _ (by omega), sa_ne _ (by omega), sa_at, upd_ne (by omega), sa_at]
      by_cases e : v = i
      · rw [e, upd_at]
      · rw [upd_ne e]; exact g2 v (by omega)
    · dsimp only
      rw [sa_ne _ (by omega), sa_ne _ (by omega), sa_at]
      by_cases e : v = i
      · rw [e, upd_at]
      · rw [upd_ne (by omega), sa_at, upd_ne (by omega)]; exact g3 v (by omega)
    · dsimp only
      rw [sa_at]
      by_cases e : v = i
      · rw [e, upd_at, upd_ne (by omega), sa_at, upd_at]; exact ⟨rfl, rfl⟩
      · rw [upd_ne (by omega), upd_ne (by omega), sa_at, upd_ne e, upd_ne (by omega), sa_ne _ (by omega), sa_ne _ (by omega)]; exact g4 v (by omega)
    · dsimp only
      by_cases c : 0 < nd i ∨ v1 ≠ n_ 0
      · rw [if_pos c]
        refine Or.inl ⟨rfl, ?_⟩
        rcases c with c | c
        · exact ⟨i, by omega, c⟩
        · rcases g5 with ⟨_, p, hp, hp2⟩ | ⟨e, _⟩
          · exact ⟨p, by omega, hp2⟩
          · exact absurd e c
      · rw [if_neg c]
        refine Or.inr ⟨rfl, fun p hp => ?_⟩
        rcases g5 with ⟨e, _⟩ | ⟨_, e⟩
        · exact absurd (Or.inr (by rw [e]; exact fun z => by rw [n_eq (by omega) (by omega)] at z; omega)) c
        · by_cases e2 : p = i
          · have : ¬ 0 < nd i := fun z => c (Or.inl z)
            rw [e2]; omega
          · exact e p (by omega)
  · obtain ⟨v1, v2, s1⟩ := y
    obtain ⟨e0, g1, g2, g3, g4, g5⟩ := hP
    dsimp only at e0 g1 g2 g3 g4 g5 ⊢
    subst e0
    refine ev_eq (r := .inr (v1, s1)) (fun n => ?_) ⟨_, rfl, g1, g2, g3, fun v hv => ?_, g5⟩
    · unfold f_presses_L69
      simp (disch := omega) only [n_lit, n_le]
      rw [ef_T (by omega)]
    · by_cases c : v < 8
      · exact (g4 v c).1
      · have := (g4 (v - 8) (by omega)).2
        rwa [show v - 8 + 8 = v by omega] at this
/-- to whom -/
theorem rf_presses_165 {st : MS} {nd dist : Nat → Int} (hnd : rn_nd st nd) (hfit : ∀ p, p < 8 → -2147483648 ≤ nd p ∧ nd p < 2147483648) (h27 : ∀ v, v < 16 → st.2.1 27 v = q_ (dist v)) (hdf : ∀ v, v < 16 → -2000 ≤ dist v ∧ dist v ≤ 1000000) : Ev_ (fun n => f_presses_L165l n (q_ (-1), n_ 0, st)) (fun r => r.2 = st ∧ ((r.1 = q_ (-1) ∧ ∀ p, p < 8 → nd p < 0 → ¬ dist (8 + p) < 1000000) ∨ ∃ to, to < 8 ∧ r.1 = n_ to ∧ nd to < 0 ∧ dist (8 + to) < 1000000)) := by
  unfold f_presses_L165l
  refine ev_for 8 (fun i y => y.2.1 = n_ i ∧ y.2.2 = st ∧ ((y.1 = q_ (-1) ∧ ∀ p, p < i → nd p < 0 → ¬ dist (8 + p) < 1000000) ∨ ∃ to, to < 8 ∧ y.1 = n_ to ∧ nd to < 0 ∧ dist (8 + to) < 1000000)) (fun i y hi hP => ?_) (fun y hP => ?_) _ ⟨rfl, rfl, Or.inl ⟨rfl, fun v hv => absurd hv (Nat.not_lt_zero _)⟩⟩
  · obtain ⟨v2, v3, s1⟩ := y
    obtain ⟨e0, e1, g⟩ := hP
    dsimp only at e0 e1 g ⊢
    subst e0; subst e1
    have hi25 := hnd i hi
    have hfi := hfit i hi
    have hd := h27 (i + 8) (by omega)
    have hdd := hdf (i + 8) (by omega)
    have e8 : 8 + i = i + 8 := by omega
    rcases g with ⟨g1, g2⟩ | ⟨to, g1, g2, g3, g4⟩
    · subst g1
      have hs : ∀ n, f_presses_L165 n (q_ (-1)) (n_ i) s1 = some (.inl ((if 0 ≤ nd i ∨ 1000000 ≤ dist (i + 8) then q_ (-1) else n_ i), n_ (i + 1), s1)) := fun n => by
        unfold f_presses_L165 f_presses_J221 f_presses_J223
        simp (disch := omega) only [n_lit, n_add, n_le, n_in, m_gT, n_nat, hi25, nq_le, hd]
        rw [ef_F (show ¬ 8 ≤ i by omega), show (- n_ 1 : Int32) = q_ (-1) from n_neg 1]
        by_cases c : ((0 : Nat) : Int) ≤ nd i
        · rw [ef_T c, if_pos (Or.inl (by omega))]
        · rw [ef_F c]
          by_cases c2 : ((1000000 : Nat) : Int) ≤ dist (i + 8)
          · rw [ef_T c2, if_pos (Or.inr (by omega))]
          · rw [ef_F c2, ef_T rfl, if_neg (fun z => z.elim (by omega) (by omega))]
      refine ev_eq hs ⟨_, rfl, rfl, rfl, ?_⟩
      dsimp only
      by_cases c : 0 ≤ nd i ∨ 1000000 ≤ dist (i + 8)
      · rw [if_pos c]
        refine Or.inl ⟨rfl, fun p hp hn => ?_⟩
        by_cases e : p = i
        · rw [e] at hn ⊢; rw [e8]; omega
        · exact g2 p (by omega) hn
      · rw [if_neg c]
        exact Or.inr ⟨i, hi, rfl, by omega, by rw [e8]; omega⟩
    · subst g2
      have hdt := h27 (to + 8) (by omega)
      have hddt := hdf (to + 8) (by omega)
      have hs : ∀ n, f_presses_L165 n (n_ to) (n_ i) s1 = some (.inl ((if 0 ≤ nd i ∨ 1000000 ≤ dist (i + 8) ∨ dist (to + 8) ≤ dist (i + 8) then n_ to else n_ i), n_ (i + 1), s1)) := fun n => by
        unfold f_presses_L165 f_presses_J221 f_presses_J223
        simp (disch := omega) only [n_lit, n_add, n_le, n_in, m_gT, n_nat, hi25, nq_le, hd, hdt, q_le']
        rw [ef_F (show ¬ 8 ≤ i by omega), show (- n_ 1 : Int32) = q_ (-1) from n_neg 1]
        by_cases c : ((0 : Nat) : Int) ≤ nd i
        · rw [ef_T c, if_pos (Or.inl (by omega))]
        · rw [ef_F c]
          by_cases c2 : ((1000000 : Nat) : Int) ≤ dist (i + 8)
          · rw [ef_T c2, if_pos (Or.inr (Or.inl (by omega)))]
          · rw [ef_F c2, ef_F (n_ne1 (by omega))]
            by_cases c3 : dist (to + 8) ≤ dist (i + 8)
            · rw [ef_T c3, if_pos (Or.inr (Or.inr c3))]
            · rw [ef_F c3, if_neg (fun z => z.elim (by omega) (fun z => z.elim (by omega) c3))]
      refine ev_eq hs ⟨_, rfl, rfl, rfl, Or.inr ?_⟩
      dsimp only
      by_cases c : 0 ≤ nd i ∨ 1000000 ≤ dist (i + 8) ∨ dist (to + 8) ≤ dist (i + 8)
      · rw [if_pos c]; exact ⟨to, g1, rfl, g3, g4⟩
      · rw [if_neg c]; exact ⟨i, hi, rfl, by omega, by rw [e8]; omega⟩
  · obtain ⟨v2, v3, s1⟩ := y
    obtain ⟨e0, e1, g⟩ := hP
    dsimp only at e0 e1 g ⊢
    subst e0; subst e1
    refine ev_eq (r := .inr (v2, s1)) (fun n => ?_) ⟨_, rfl, rfl, g⟩
    unfold f_presses_L165
    simp (disch := omega) only [n_lit, n_le]
    rw [ef_T (by omega)]
