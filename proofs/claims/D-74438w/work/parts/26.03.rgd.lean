set_option maxRecDepth 100000
/-! The reference's acts, on -/
theorem rf_goes {s : SS_} {st : MS} (h : rf_V s (st.2.1 0)) (h40 : s.1.length ≤ 40) {t : Nat} (ht : t < s.1.length) : Ev_ (fun n => f_goes n st (n_ t)) (fun st' => ms_ [0] st st' ∧ rf_V (s.1.eraseIdx t, s.2.1, s.2.2) (st'.2.1 0)) := by
  unfold f_goes
  refine ev_g (by rw [n_lit 0]; exact n_in (by omega) (by omega)) (ev_g (by rw [n_lit 0]; exact n_in (by omega) (by omega)) ?_)
  rw [z_nat, h.1, n_lit 2, n_lit 5, n_mul, n_add, n_lit 1, n_sub (by omega)]
  refine ev_b (P := fun s1 => ms_ [0] st s1 ∧ s1.2.1 0 0 = n_ (s.1.length - 1) ∧ (∀ j, 0 < j → j < 2 + 5 * t → s1.2.1 0 j = st.2.1 0 j) ∧ (∀ j, 2 + 5 * t ≤ j → j < 2 + 5 * (s.1.length - 1) → s1.2.1 0 j = st.2.1 0 (j + 5)) ∧ (∀ j, 202 ≤ j → s1.2.1 0 j = st.2.1 0 j)) ?_ (fun s1 hs1 => ?_)
  · unfold f_goes_L16l
    refine ev_for (5 * (s.1.length - 1 - t)) (fun i y => y.1 = n_ (2 + 5 * t + i) ∧ ms_ [0] st y.2 ∧ y.2.2.1 0 0 = n_ (s.1.length - 1) ∧ (∀ j, 0 < j → j < 2 + 5 * t → y.2.2.1 0 j = st.2.1 0 j) ∧ (∀ j, 2 + 5 * t ≤ j → j < 2 + 5 * t + i → y.2.2.1 0 j = st.2.1 0 (j + 5)) ∧ (∀ j, 2 + 5 * t + i ≤ j → y.2.2.1 0 j = st.2.1 0 j)) (fun i y hi hP => ?_) (fun y hP => ?_) _ ⟨rfl, ms_sa (by simp) _ _ _, ?_, ?_, ?_, ?_⟩
    · obtain ⟨v, s1⟩ := y
      obtain ⟨e0, g1, g2, g3, g4, g5⟩ := hP
      dsimp only at e0 g1 g2 g3 g4 g5 ⊢
      subst e0
      refine ev_eq (r := .inl (n_ (2 + 5 * t + (i + 1)), m_sa s1 0 (2 + 5 * t + i) (st.2.1 0 (2 + 5 * t + i + 5)))) (fun n => ?_) ⟨_, rfl, rfl, ms_tr g1 (ms_sa (by simp) _ _ _), ?_, fun j h0 hj => ?_, fun j h0 hj => ?_, fun j hj => ?_⟩
      · unfold f_goes_L16
        rw [z_nat, g2]
        simp (disch := omega) only [n_lit, n_add, n_mul, n_le, n_in, m_gT, n_nat]
        rw [ef_F (by omega), g5 _ (by omega)]; rfl
      · dsimp only; rw [sa_at, upd_ne (by omega)]; exact g2
      · dsimp only; rw [sa_at, upd_ne (by omega)]; exact g3 j h0 hj
      · dsimp only; rw [sa_at]
        by_cases e : j = 2 + 5 * t + i
        · rw [e, upd_at]
        · rw [upd_ne e]; exact g4 j h0 (by omega)
      · dsimp only; rw [sa_at, upd_ne (by omega)]; exact g5 j (by omega)
    · obtain ⟨v, s1⟩ := y
      obtain ⟨e0, g1, g2, g3, g4, g5⟩ := hP
      dsimp only at e0 g1 g2 g3 g4 g5 ⊢
      subst e0
      refine ev_eq (r := .inr s1) (fun n => ?_) ⟨_, rfl, g1, g2, g3, fun j h0 hj => g4 j h0 (by omega), fun j hj => g5 j (by omega)⟩
      unfold f_goes_L16
      rw [z_nat, g2]
      simp (disch := omega) only [n_lit, n_add, n_mul, n_le, n_in, m_gT]
      rw [ef_T (by omega)]
    · dsimp only; rw [sa_at, upd_at]
    · intro j h0 hj; dsimp only; rw [sa_at, upd_ne (by omega)]
    · intro j h0 hj; omega
    · intro j hj; dsimp only; rw [sa_at, upd_ne (by omega)]
  · obtain ⟨m1, g2, g3, g4, g5⟩ := hs1
    refine ev_some ⟨m1, ?_, ?_, fun i hi => ?_, fun k hk => ?_⟩
    · rw [g2, List.length_eraseIdx_of_lt ht]
    · rw [g3 1 (by omega) (by omega)]; exact h.2.1
    · rw [List.length_eraseIdx_of_lt ht] at hi
      rw [List.getElem_eraseIdx]
      by_cases c : i < t
      · rw [dif_pos c, g3 _ (by omega) (by omega), g3 _ (by omega) (by omega), g3 _ (by omega) (by omega), g3 _ (by omega) (by omega), g3 _ (by omega) (by omega)]
        exact h.2.2.1 i (by omega)
      · rw [dif_neg c, g4 _ (by omega) (by omega), g4 _ (by omega) (by omega), g4 _ (by omega) (by omega), g4 _ (by omega) (by omega), g4 _ (by omega) (by omega)]
        have := h.2.2.1 (i + 1) (by omega)
        rw [show 2 + 5 * (i + 1) = 2 + 5 * i + 5 by omega] at this
        refine ⟨this.1, ?_, ?_, ?_, ?_⟩
        · rw [show 2 + 5 * i + 1 + 5 = 2 + 5 * i + 5 + 1 by omega]; exact this.2.1
        · rw [show 2 + 5 * i + 2 + 5 = 2 + 5 * i + 5 + 2 by omega]; exact this.2.2.1
        · rw [show 2 + 5 * i + 3 + 5 = 2 + 5 * i + 5 + 3 by omega]; exact this.2.2.2.1
        · rw [show 2 + 5 * i + 4 + 5 = 2 + 5 * i + 5 + 4 by omega]; exact this.2.2.2.2
    · rw [g5 _ (by omega)]; exact h.2.2.2 k hk
/-! What acts answer, and the state behind them -/
def ac_trade (g : GS_) (x y m z : Int32) : Int32 × GS_ := if ((0 ≤ x.toInt ∧ x.toInt < g_np g) ∧ (0 ≤ y.toInt ∧ y.toInt < g_np g) ∧ x.toInt ≠ y.toInt) ∧ (0 ≤ z.toInt ∧ z.toInt < g_nk g) then (if 1 ≤ m.toInt ∧ m.toInt ≤ 999999 then (if (g_s g).1.length = 40 then (q_ (-4), g) else (n_ (g_s g).1.length, g_set (g_push g) ((g_s g).1 ++ [(x.toInt.toNat, y.toInt.toNat, m.toInt, z.toInt.toNat, false)], (g_s g).2.1, (g_s g).2.2))) else (q_ (-3), g)) else (q_ (-2), g)
theorem q_of' (x : Int32) : x = q_ x.toInt := (Int32.ofInt_toInt x).symm
theorem rf_trade {g : GS_} (ok : g_ok g) {st : MS} (R0 : rf_R g st) (x y m z : Int32) : Ev_ (fun n => f_trade n st x y m z) (fun r => rf_R (ac_trade g x y m z).2 r.2 ∧ r.1 = (ac_trade g x y m z).1) := by
  have R := rf_R_8 R0
  have hV := R.2.2.2.2.2.2.1
  have h40 := ok.2.2.1.2.2.1
  have h1 := fun n => rf_areTwo n R.1 ok.1 x y
  have h2 := fun n => rf_isKind n R.2.1 ok.2.1 z
  have h3 : ∀ n, f_isIn n m.toInt64 1 999999 = some (b_ (1 ≤ m.toInt ∧ m.toInt ≤ 999999)) := fun n => by rw [rf_isIn, Int32.toInt_toInt64]; rfl
  unfold f_trade f_trade_J23 ac_trade
  simp only [h1, h2, h3, m_bs, m_ifb]
  by_cases c1 : (0 ≤ x.toInt ∧ x.toInt < g_np g) ∧ (0 ≤ y.toInt ∧ y.toInt < g_np g) ∧ x.toInt ≠ y.toInt
  · by_cases c2 : 0 ≤ z.toInt ∧ z.toInt < g_nk g
    · simp only [if_pos c1, if_pos c2, if_pos (And.intro c1 c2)]
      by_cases c3 : 1 ≤ m.toInt ∧ m.toInt ≤ 999999
      · simp only [if_pos c3]
        refine ev_g (by rw [n_lit 0]; exact n_in (by omega) (by omega)) ?_
        rw [z_nat, hV.1]
        refine ev_ifq (c' := (g_s g).1.length = 40) (by rw [n_lit 40, n_eq (by omega) (by omega)]) (fun c4 => ?_) (fun c4 => ?_)
        · simp only [if_pos c4]
          exact ev_some ⟨R, m4_q⟩
        · simp only [if_neg c4]
          refine ev_b (rf_remembers ok R) (fun s1 R1 => ?_)
          have hV1 : rf_V (g_s g) (s1.2.1 0) := R1.2.2.2.2.2.2.1
          rw [n_of c1.1.1, n_of c1.2.1.1, n_of c2.1, q_of' m]
          obtain ⟨s2, e2, m2, V2⟩ := rf_adds 0 hV1 (by omega) x.toInt.toNat y.toInt.toNat z.toInt.toNat m.toInt
          have e2' : ∀ n, f_adds n s1 (n_ x.toInt.toNat) (n_ y.toInt.toNat) (q_ m.toInt) (n_ z.toInt.toNat) = some s2 := fun n => by rw [← e2]; rfl
          refine ev_bn e2' (ev_g (by rw [n_lit 0]; exact n_in (by omega) (by omega)) ?_)
          rw [show s2.2.1 0 0 = n_ ((g_s g).1.length + 1) by rw [V2.1, List.length_append]; rfl, n_lit 1, n_sub (by omega)]
          have R2 := rf_R_set R1 m2 V2
          rw [← n_of c1.1.1, ← n_of c1.2.1.1, ← n_of c2.1, ← q_of' m]
          exact ev_some ⟨R2, rfl⟩
      · simp only [if_neg c3]
        exact ev_some ⟨R, m3_q⟩
    · simp only [if_pos c1, if_neg c2, if_neg (fun q : _ ∧ _ => c2 q.2)]
      exact ev_some ⟨R, m2_q⟩
  · simp only [if_neg c1, if_neg (fun q : _ ∧ _ => c1 q.1)]
    exact ev_some ⟨R, m2_q⟩
def ac_drop (g : GS_) (x : Int32) : Int32 × GS_ := if 0 ≤ x.toInt ∧ x.toInt < (g_s g).1.length then (n_ ((g_s g).1.length - 1), g_set (g_push g) ((g_s g).1.eraseIdx x.toInt.toNat, (g_s g).2.1, (g_s g).2.2)) else (q_ (-2), g)
theorem rf_drop {g : GS_} (ok : g_ok g) {st : MS} (R0 : rf_R g st) (x : Int32) : Ev_ (fun n => f_drop n st x) (fun r => rf_R (ac_drop g x).2 r.2 ∧ r.1 = (ac_drop g x).1) := by
  have R := rf_R_8 R0
  have hV := R.2.2.2.2.2.2.1
  have h40 := ok.2.2.1.2.2.1
  have h1 := fun n => rf_isTrade n hV h40 x
  unfold f_drop ac_drop
  simp only [h1, m_bs, m_ifb]
  by_cases c : 0 ≤ x.toInt ∧ x.toInt < (g_s g).1.length
  · simp only [if_pos c]
    obtain ⟨t, ht, rfl, e⟩ := pi_ c
    rw [e]
    refine ev_b (rf_remembers ok R) (fun s1 R1 => ?_)
    have hV1 : rf_V (g_s g) (s1.2.1 0) := R1.2.2.2.2.2.2.1
    refine ev_b (rf_goes hV1 h40 ht) (fun s2 hs2 => ?_)
    refine ev_g (by rw [n_lit 0]; exact n_in (by omega) (by omega)) ?_
    rw [z_nat, hs2.2.1, List.length_eraseIdx_of_lt ht]
    exact ev_some ⟨rf_R_set R1 hs2.1 hs2.2, rfl⟩
  · simp only [if_neg c]
    exact ev_some ⟨R, m2_q⟩
def tr_turn (t : Tr_) : Tr_ := (t.1, t.2.1, t.2.2.1, t.2.2.2.1, !t.2.2.2.2)
def ac_keep (g : GS_) (x : Int32) : Int32 × GS_ := if 0 ≤ x.toInt ∧ x.toInt < (g_s g).1.length then (n_ (if (((g_s g).1[x.toInt.toNat]?).map (fun t => t.2.2.2.2)).getD false then 0 else 1), g_set (g_push g) ((g_s g).1.modify x.toInt.toNat tr_turn, (g_s g).2.1, (g_s g).2.2)) else (q_ (-2), g)
theorem rf_keep {g : GS_} (ok : g_ok g) {st : MS} (R0 : rf_R g st) (x : Int32) : Ev_ (fun n => f_keep n st x) (fun r => rf_R (ac_keep g x).2 r.2 ∧ r.1 = (ac_keep g x).1) := by
  have R := rf_R_8 R0
  have hV := R.2.2.2.2.2.2.1
  have h40 := ok.2.2.1.2.2.1
  have h1 := fun n => rf_isTrade n hV h40 x
  unfold f_keep ac_keep
  simp only [h1, m_bs, m_ifb]
  by_cases c : 0 ≤ x.toInt ∧ x.toInt < (g_s g).1.length
  · simp only [if_pos c]
    obtain ⟨t, ht, rfl, e⟩ := pi_ c
    rw [e]
    refine ev_b (rf_remembers ok R) (fun s1 R1 => ?_)
    have hV1 : rf_V (g_s g) (s1.2.1 0) := R1.2.2.2.2.2.2.1
    obtain ⟨g1, g2, g3, g4, g5⟩ := hV1.2.2.1 t ht
    rw [n_lit 4]
    refine ev_bn (fun n => rf_tradeAt n (by omega) (by omega)) ?_
    rw [g5, n_lit 2, n_lit 5, n_mul, n_add, n_add, n_lit 1, n_sub (by split <;> omega)]
    refine ev_g (n_in (by omega) (by omega)) ?_
    rw [n_nat (by omega)]
    refine ev_bn (fun n => rf_tradeAt n (by omega) (by omega)) ?_
    rw [sa_at, upd_at]
    have eb : (if (((g_s g).1[t]?).map (fun t => t.2.2.2.2)).getD false then 0 else 1) = 1 - (if ((g_s g).1[t]).2.2.2.2 = true then 1 else 0) := by
      rw [List.getElem?_eq_getElem ht]
      simp only [Option.map_some, Option.getD_some]
      split <;> rfl
    rw [eb]
    refine ev_some ⟨rf_R_set R1 (ms_sa (by simp) _ _ _) ?_, rfl⟩
    rw [sa_at]
    refine ⟨by rw [upd_ne (by omega), List.length_modify]; exact hV1.1, by rw [upd_ne (by omega)]; exact hV1.2.1, fun i hi => ?_, fun k hk => by rw [upd_ne (by omega)]; exact hV1.2.2.2 k hk⟩
    rw [List.length_modify] at hi
    have hi' := hV1.2.2.1 i hi
    rw [List.getElem_modify]
    by_cases ci : t = i
    · subst ci
      rw [if_pos rfl, upd_ne (by omega), upd_ne (by omega), upd_ne (by omega), upd_ne (by omega), upd_at]
      refine ⟨hi'.1, hi'.2.1, hi'.2.2.1, hi'.2.2.2.1, ?_⟩
      unfold tr_turn
      cases ((g_s g).1[t]).2.2.2.2 <;> rfl
    · rw [if_neg ci, upd_ne (by omega), upd_ne (by omega), upd_ne (by omega), upd_ne (by omega), upd_ne (by omega)]
      exact hi'
  · simp only [if_neg c]
    exact ev_some ⟨R, m2_q⟩
def ac_mode (g : GS_) (x : Int32) : Int32 × GS_ := if 0 ≤ x.toInt ∧ x.toInt ≤ 3 then (n_ (g_s g).2.2, g_set (g_push g) ((g_s g).1, (g_s g).2.1, x.toInt.toNat)) else (q_ (-3), g)
theorem rf_mode {g : GS_} (ok : g_ok g) {st : MS} (R0 : rf_R g st) (x : Int32) : Ev_ (fun n => f_mode n st x) (fun r => rf_R (ac_mode g x).2 r.2 ∧ r.1 = (ac_mode g x).1) := by
  have R := rf_R_8 R0
  have h40 := ok.2.2.1.2.2.1
  unfold f_mode ac_mode
  simp only [isIn3, m_bs, m_ifb]
  by_cases c : 0 ≤ x.toInt ∧ x.toInt ≤ 3
  · simp only [if_pos c]
    refine ev_b (rf_remembers ok R) (fun s1 R1 => ?_)
    have hV1 : rf_V (g_s g) (s1.2.1 0) := R1.2.2.2.2.2.2.1
    refine ev_g (by rw [n_lit 1]; exact n_in (by omega) (by omega)) (ev_g (by rw [n_lit 1]; exact n_in (by omega) (by omega)) ?_)
    rw [o_nat, hV1.2.1]
    refine ev_some ⟨rf_R_set R1 (ms_sa (by simp) _ _ _) ?_, rfl⟩
    rw [sa_at]
    refine ⟨by rw [upd_ne (by omega)]; exact hV1.1, by rw [upd_at]; exact n_of c.1, fun i hi => ?_, fun k hk => by rw [upd_ne (by omega)]; exact hV1.2.2.2 k hk⟩
    rw [upd_ne (by omega), upd_ne (by omega), upd_ne (by omega), upd_ne (by omega), upd_ne (by omega)]
    exact hV1.2.2.1 i hi
  · simp only [if_neg c]
    exact ev_some ⟨R, m3_q⟩
def ac_cap (g : GS_) (x y m : Int32) : Int32 × GS_ := if (0 ≤ x.toInt ∧ x.toInt < g_np g) ∧ (0 ≤ y.toInt ∧ y.toInt < g_np g) ∧ x.toInt ≠ y.toInt then (if 0 ≤ m.toInt ∧ m.toInt ≤ 99999999 then (q_ ((g_s g).2.1 (8 * x.toInt.toNat + y.toInt.toNat)), g_set (g_push g) ((g_s g).1, fw_up (g_s g).2.1 (8 * x.toInt.toNat + y.toInt.toNat) m.toInt, (g_s g).2.2)) else (q_ (-3), g)) else (q_ (-2), g)
theorem rf_cap {g : GS_} (ok : g_ok g) {st : MS} (R0 : rf_R g st) (x y m : Int32) : Ev_ (fun n => f_cap n st x y m) (fun r => rf_R (ac_cap g x y m).2 r.2 ∧ r.1 = (ac_cap g x y m).1) := by
  have R := rf_R_8 R0
  have h40 := ok.2.2.1.2.2.1
  have h8 := ok.1
  have h1 := fun n => rf_areTwo n R.1 ok.1 x y
  have h3 : ∀ n, f_isIn n m.toInt64 0 99999999 = some (b_ (0 ≤ m.toInt ∧ m.toInt ≤ 99999999)) := fun n => by rw [rf_isIn, Int32.toInt_toInt64]; rfl
  unfold f_cap ac_cap
  simp only [h1, h3, m_bs, m_ifb]
  by_cases c1 : (0 ≤ x.toInt ∧ x.toInt < g_np g) ∧ (0 ≤ y.toInt ∧ y.toInt < g_np g) ∧ x.toInt ≠ y.toInt
  · simp only [if_pos c1]
    by_cases c3 : 0 ≤ m.toInt ∧ m.toInt ≤ 99999999
    · simp only [if_pos c3]
      obtain ⟨a, ha, rfl, ea⟩ := pi_ c1.1
      obtain ⟨b, hb, rfl, eb⟩ := pi_ c1.2.1
      rw [ea, eb]
      refine ev_b (rf_remembers ok R) (fun s1 R1 => ?_)
      have hV1 : rf_V (g_s g) (s1.2.1 0) := R1.2.2.2.2.2.2.1
      rw [n_lit 202, n_lit 8, n_mul, n_add, n_add]
      refine ev_g (n_in (by omega) (by omega)) (ev_g (n_in (by omega) (by omega)) ?_)
      rw [n_nat (by omega), show 202 + 8 * a + b = 202 + (8 * a + b) by omega, hV1.2.2.2 _ (by omega)]
      refine ev_some ⟨rf_R_set R1 (ms_sa (by simp) _ _ _) ?_, rfl⟩
      rw [sa_at]
      refine ⟨by rw [upd_ne (by omega)]; exact hV1.1, by rw [upd_ne (by omega)]; exact hV1.2.1, fun i hi => ?_, fun k hk => ?_⟩
      · have hi' : i < (g_s g).1.length := hi
        rw [upd_ne (by omega), upd_ne (by omega), upd_ne (by omega), upd_ne (by omega), upd_ne (by omega)]
        exact hV1.2.2.1 i hi
      · by_cases e : k = 8 * a + b
        · rw [e, upd_at]; show m = q_ (fw_up _ _ _ _); rw [fw_up_at]; exact q_of' m
        · rw [upd_ne (by omega)]; show _ = q_ (fw_up _ _ _ _); rw [fw_up_ne e]; exact hV1.2.2.2 k hk
    · simp only [if_neg c3]
      exact ev_some ⟨R, m3_q⟩
  · simp only [if_neg c1]
    exact ev_some ⟨R, m2_q⟩
