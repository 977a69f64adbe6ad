set_option maxRecDepth 100000
/-! The reference is told a text -/
theorem rf_plain (st : MS) : Ev_ (fun m => f_plain m st) (fun s => mt_ [5, 6] [0] st s ∧ s.1 5 = 0 ∧ s.1 6 = 0 ∧ rf_V ([], fun _ => 99999999, 0) (s.2.1 0)) := by
  unfold f_plain
  have m0 : mt_ [5, 6] [0] st (m_sg (m_sg st 5 0) 6 0) := mt_tr (mt_sg (by simp) _ _) (mt_sg (by simp) _ _)
  have e5 : (m_sg (m_sg st 5 0) 6 0).1 5 = 0 := by rw [sg_ne _ (by omega), sg_at]
  have e6 : (m_sg (m_sg st 5 0) 6 0).1 6 = 0 := sg_at _ _ _
  generalize m_sg (m_sg st 5 0) 6 0 = s0 at *
  refine ev_b (P := fun s => ms_ [0] s0 s ∧ ∀ k, k < 266 → s.2.1 0 k = if k < 202 then 0 else 99999999) ?_ (fun s hs => ev_some ⟨mt_tr m0 (mt_of hs.1), by rw [hs.1.1]; exact e5, by rw [hs.1.1]; exact e6, by rw [hs.2 0 (by omega)]; rfl, by rw [hs.2 1 (by omega)]; rfl, fun i hi => absurd hi (Nat.not_lt_zero _), fun k hk => by rw [hs.2 _ (by omega), if_neg (by omega)]; rfl⟩)
  unfold f_plain_L12l
  refine ev_for 266 (fun (i : Nat) (y : Int32 × MS) => y.1 = n_ i ∧ ms_ [0] s0 y.2 ∧ ∀ k, k < i → y.2.2.1 0 k = if k < 202 then 0 else 99999999) (fun i y hi hP => ?_) (fun y hP => ?_) _ ⟨n_lit 0, ms_rfl _ _, fun k hk => absurd hk (Nat.not_lt_zero _)⟩
  · obtain ⟨v, s1⟩ := y
    obtain ⟨e0, g1, g2⟩ := hP
    dsimp only at e0 g1 g2 ⊢
    subst e0
    refine ev_eq (r := .inl (n_ (i + 1), m_sa s1 0 i (if i < 202 then 0 else 99999999))) (fun m => ?_) ⟨_, rfl, rfl, ms_tr g1 (ms_sa (by simp) _ _ _), fun k hk => ?_⟩
    · unfold f_plain_L12 f_plain_J37
      rw [ef_F (by rw [n_lit 266, n_le (by omega) (by omega)]; omega), n_in (show i < 266 by omega) (by omega), m_gT, m_gT, n_nat (by omega), show n_ i + 1 = n_ (i + 1) from by rw [n_lit 1, n_add]]
      by_cases c : i < 202
      · rw [ef_F (by rw [n_lit 202, n_le (by omega) (by omega)]; omega), if_pos c]
      · rw [ef_T (by rw [n_lit 202, n_le (by omega) (by omega)]; omega), if_neg c]
    · dsimp only
      rw [sa_at]
      by_cases e : k = i
      · rw [e, upd_at]
      · rw [upd_ne e]; exact g2 k (by omega)
  · obtain ⟨v, s1⟩ := y
    obtain ⟨e0, g1, g2⟩ := hP
    dsimp only at e0 g1 g2 ⊢
    subst e0
    refine ev_eq (r := .inr s1) (fun m => ?_) ⟨_, rfl, g1, g2⟩
    unfold f_plain_L12
    rw [ef_T (by decide)]
/-- which longs may change -/
def ml_ (ls : List Nat) (st st' : MS) : Prop := st'.1 = st.1 ∧ st'.2.1 = st.2.1 ∧ ∀ k, k ∉ ls → st'.2.2 k = st.2.2 k
theorem ml_rfl (ls : List Nat) (st : MS) : ml_ ls st st := ⟨rfl, rfl, fun _ _ => rfl⟩
theorem ml_tr {ls : List Nat} {a b c : MS} (h : ml_ ls a b) (g : ml_ ls b c) : ml_ ls a c := ⟨g.1.trans h.1, g.2.1.trans h.2.1, fun k hk => (g.2.2 k hk).trans (h.2.2 k hk)⟩
theorem ml_sb {ls : List Nat} {k : Nat} (hk : k ∈ ls) (st : MS) (i : Nat) (v : Int64) : ml_ ls st (m_sb st k i v) := ⟨rfl, rfl, fun j hj => by
  have hne : j ≠ k := fun e => hj (e ▸ hk)
  show va_up st.2.2 k _ j = _
  exact if_neg hne⟩
theorem sbk_at (st : MS) (k i : Nat) (v : Int64) : (m_sb st k i v).2.2 k = vp_updL (st.2.2 k) i v := by show va_up st.2.2 k _ k = _; exact if_pos rfl
theorem rf_tell65 (v2 v3 : Int32) (st : MS) : Ev_ (fun m => f_tell_L65l m v2 v3 (0, st)) (fun s => ms_ [1] st s ∧ ∀ k, k < 266 → s.2.1 1 k = st.2.1 0 k) := by
  unfold f_tell_L65l
  refine ev_for 266 (fun (i : Nat) (y : Int32 × MS) => y.1 = n_ i ∧ ms_ [1] st y.2 ∧ ∀ k, k < i → y.2.2.1 1 k = st.2.1 0 k) (fun i y hi hP => ?_) (fun y hP => ?_) _ ⟨n_lit 0, ms_rfl _ _, fun k hk => absurd hk (Nat.not_lt_zero _)⟩
  · obtain ⟨v, s1⟩ := y
    obtain ⟨e0, g1, g2⟩ := hP
    dsimp only at e0 g1 g2 ⊢
    subst e0
    refine ev_eq (r := .inl (n_ (i + 1), m_sa s1 1 i (st.2.1 0 i))) (fun m => ?_) ⟨_, rfl, rfl, ms_tr g1 (ms_sa (by simp) _ _ _), fun k hk => ?_⟩
    · unfold f_tell_L65
      rw [ef_F (by rw [n_lit 266, n_le (by omega) (by omega)]; omega), n_in (show i < 266 by omega) (by omega), m_gT, m_gT, n_nat (by omega), show n_ i + 1 = n_ (i + 1) from by rw [n_lit 1, n_add], g1.2.2 0 (by simp)]
    · dsimp only
      rw [sa_at]
      by_cases e : k = i
      · rw [e, upd_at]
      · rw [upd_ne e]; exact g2 k (by omega)
  · obtain ⟨v, s1⟩ := y
    obtain ⟨e0, g1, g2⟩ := hP
    dsimp only at e0 g1 g2 ⊢
    subst e0
    refine ev_eq (r := .inr s1) (fun m => ?_) ⟨_, rfl, g1, g2⟩
    unfold f_tell_L65
    rw [ef_T (by decide)]
theorem rf_tell181 (st : MS) : Ev_ (fun m => f_tell_L181l m (0, st)) (fun s => ms_ [0] st s ∧ ∀ k, k < 266 → s.2.1 0 k = st.2.1 1 k) := by
  unfold f_tell_L181l
  refine ev_for 266 (fun (i : Nat) (y : Int32 × MS) => y.1 = n_ i ∧ ms_ [0] st y.2 ∧ ∀ k, k < i → y.2.2.1 0 k = st.2.1 1 k) (fun i y hi hP => ?_) (fun y hP => ?_) _ ⟨n_lit 0, ms_rfl _ _, fun k hk => absurd hk (Nat.not_lt_zero _)⟩
  · obtain ⟨v, s1⟩ := y
    obtain ⟨e0, g1, g2⟩ := hP
    dsimp only at e0 g1 g2 ⊢
    subst e0
    refine ev_eq (r := .inl (n_ (i + 1), m_sa s1 0 i (st.2.1 1 i))) (fun m => ?_) ⟨_, rfl, rfl, ms_tr g1 (ms_sa (by simp) _ _ _), fun k hk => ?_⟩
    · unfold f_tell_L181
      rw [ef_F (by rw [n_lit 266, n_le (by omega) (by omega)]; omega), n_in (show i < 266 by omega) (by omega), m_gT, m_gT, n_nat (by omega), show n_ i + 1 = n_ (i + 1) from by rw [n_lit 1, n_add], g1.2.2 1 (by simp)]
    · dsimp only
      rw [sa_at]
      by_cases e : k = i
      · rw [e, upd_at]
      · rw [upd_ne e]; exact g2 k (by omega)
  · obtain ⟨v, s1⟩ := y
    obtain ⟨e0, g1, g2⟩ := hP
    dsimp only at e0 g1 g2 ⊢
    subst e0
    refine ev_eq (r := .inr s1) (fun m => ?_) ⟨_, rfl, g1, g2⟩
    unfold f_tell_L181
    rw [ef_T (by decide)]
theorem rf_tell96 (v2 v3 : Int32) (st : MS) : Ev_ (fun m => f_tell_L96l m v2 v3 (0, st)) (fun s => ml_ [4] st s ∧ ∀ k, k < 12 → s.2.2 4 k = st.2.2 3 k) := by
  unfold f_tell_L96l
  refine ev_for 12 (fun (i : Nat) (y : Int32 × MS) => y.1 = n_ i ∧ ml_ [4] st y.2 ∧ ∀ k, k < i → y.2.2.2 4 k = st.2.2 3 k) (fun i y hi hP => ?_) (fun y hP => ?_) _ ⟨n_lit 0, ml_rfl _ _, fun k hk => absurd hk (Nat.not_lt_zero _)⟩
  · obtain ⟨v, s1⟩ := y
    obtain ⟨e0, g1, g2⟩ := hP
    dsimp only at e0 g1 g2 ⊢
    subst e0
    refine ev_eq (r := .inl (n_ (i + 1), m_sb s1 4 i (st.2.2 3 i))) (fun m => ?_) ⟨_, rfl, rfl, ml_tr g1 (ml_sb (by simp) _ _ _), fun k hk => ?_⟩
    · unfold f_tell_L96
      rw [ef_F (by rw [n_lit 12, n_le (by omega) (by omega)]; omega), n_in (show i < 12 by omega) (by omega), m_gT, m_gT, n_nat (by omega), show n_ i + 1 = n_ (i + 1) from by rw [n_lit 1, n_add], g1.2.2 3 (by simp)]
    · dsimp only
      rw [sbk_at]
      by_cases e : k = i
      · rw [e, updL_at]
      · rw [updL_ne e]; exact g2 k (by omega)
  · obtain ⟨v, s1⟩ := y
    obtain ⟨e0, g1, g2⟩ := hP
    dsimp only at e0 g1 g2 ⊢
    subst e0
    refine ev_eq (r := .inr s1) (fun m => ?_) ⟨_, rfl, g1, g2⟩
    unfold f_tell_L96
    rw [ef_T (by decide)]
theorem rf_tell212 (st : MS) : Ev_ (fun m => f_tell_L212l m (0, st)) (fun s => ml_ [3] st s ∧ ∀ k, k < 12 → s.2.2 3 k = st.2.2 4 k) := by
  unfold f_tell_L212l
  refine ev_for 12 (fun (i : Nat) (y : Int32 × MS) => y.1 = n_ i ∧ ml_ [3] st y.2 ∧ ∀ k, k < i → y.2.2.2 3 k = st.2.2 4 k) (fun i y hi hP => ?_) (fun y hP => ?_) _ ⟨n_lit 0, ml_rfl _ _, fun k hk => absurd hk (Nat.not_lt_zero _)⟩
  · obtain ⟨v, s1⟩ := y
    obtain ⟨e0, g1, g2⟩ := hP
    dsimp only at e0 g1 g2 ⊢
    subst e0
    refine ev_eq (r := .inl (n_ (i + 1), m_sb s1 3 i (st.2.2 4 i))) (fun m => ?_) ⟨_, rfl, rfl, ml_tr g1 (ml_sb (by simp) _ _ _), fun k hk => ?_⟩
    · unfold f_tell_L212
      rw [ef_F (by rw [n_lit 12, n_le (by omega) (by omega)]; omega), n_in (show i < 12 by omega) (by omega), m_gT, m_gT, n_nat (by omega), show n_ i + 1 = n_ (i + 1) from by rw [n_lit 1, n_add], g1.2.2 4 (by simp)]
    · dsimp only
      rw [sbk_at]
      by_cases e : k = i
      · rw [e, updL_at]
      · rw [updL_ne e]; exact g2 k (by omega)
  · obtain ⟨v, s1⟩ := y
    obtain ⟨e0, g1, g2⟩ := hP
    dsimp only at e0 g1 g2 ⊢
    subst e0
    refine ev_eq (r := .inr s1) (fun m => ?_) ⟨_, rfl, g1, g2⟩
    unfold f_tell_L212
    rw [ef_T (by decide)]
theorem rd0_ok : rd_ok rd0_ := ⟨by decide, by decide, ⟨by decide, by decide, by decide, fun t ht => absurd ht (by simp [rd0_]), fun k _ => ⟨by show (0 : Int) ≤ 99999999; omega, by show (99999999 : Int) ≤ 99999999; omega⟩, by decide⟩, fun w hw => absurd hw (by simp [rd0_]), fun w hw => absurd hw (by simp [rd0_]), by simp [rd0_]⟩
/-- the tape holds bytes -/
def g_tb (g : GS_) : Prop := tb_ g.2.2.2.2.1 g.2.2.2.2.2.1
theorem rf_tell {g : GS_} (ok : g_ok g) (tb : g_tb g) {st : MS} (R0 : rf_R g st) (x : Int32) : Ev_ (fun n => f_tell n st x) (fun r => rf_R (ac_tell g x).2 r.2 ∧ r.1 = (ac_tell g x).1) := by
  have R := rf_R_8 R0
  unfold f_tell ac_tell
  generalize m_sg st 8 0 = s0 at *
  obtain ⟨h5, h6, h7, h10, h13, h14, hV, hP, hN1, hN2, hT⟩ := id R
  have h900 : g.2.2.2.2.2.1 ≤ 900 := ok.2.2.2.2.2.2.2.2
  have h40 := ok.2.2.1.2.2.1
  have hin : ∀ m, f_isIn m x.toInt64 0 ((s0.1 10 : Int32).toInt64) = some (b_ (0 ≤ x.toInt ∧ x.toInt ≤ g.2.2.2.2.2.1)) := fun m => by
    rw [rf_isIn, Int32.toInt_toInt64, h10, Int32.toInt_toInt64, n_toInt (by omega)]; rfl
  refine ev_bn hin ?_
  simp only [m_ifb]
  by_cases c : 0 ≤ x.toInt ∧ x.toInt ≤ g.2.2.2.2.2.1
  · simp only [if_pos c]
    obtain ⟨n, hn, ex, ei⟩ : ∃ n : Nat, n ≤ g.2.2.2.2.2.1 ∧ x = n_ n ∧ x.toInt = n := ⟨x.toInt.toNat, by omega, n_of c.1, by omega⟩
    rw [ei, Int.toNat_natCast]
    subst ex
    simp only [m_bs]
    have m1 : mt_ [10, 11, 12, 13, 14, 15] [] s0 (m_sg (m_sg (m_sg (m_sg (m_sg (m_sg s0 10 0) 11 (n_ n)) 12 0) 13 0) 14 (-1)) 15 0) := mt_tr (mt_sg (by simp) _ _) (mt_tr (mt_sg (by simp) _ _) (mt_tr (mt_sg (by simp) _ _) (mt_tr (mt_sg (by simp) _ _) (mt_tr (mt_sg (by simp) _ _) (mt_sg (by simp) _ _)))))
    have k10 : (m_sg (m_sg (m_sg (m_sg (m_sg (m_sg s0 10 0) 11 (n_ n)) 12 0) 13 0) 14 (-1)) 15 0).1 10 = 0 := by rw [sg_ne _ (by omega), sg_ne _ (by omega), sg_ne _ (by omega), sg_ne _ (by omega), sg_ne _ (by omega), sg_at]
    have k11 : (m_sg (m_sg (m_sg (m_sg (m_sg (m_sg s0 10 0) 11 (n_ n)) 12 0) 13 0) 14 (-1)) 15 0).1 11 = n_ n := by rw [sg_ne _ (by omega), sg_ne _ (by omega), sg_ne _ (by omega), sg_ne _ (by omega), sg_at]
    have k12 : (m_sg (m_sg (m_sg (m_sg (m_sg (m_sg s0 10 0) 11 (n_ n)) 12 0) 13 0) 14 (-1)) 15 0).1 12 = 0 := by rw [sg_ne _ (by omega), sg_ne _ (by omega), sg_ne _ (by omega), sg_at]
    have k13 : (m_sg (m_sg (m_sg (m_sg (m_sg (m_sg s0 10 0) 11 (n_ n)) 12 0) 13 0) 14 (-1)) 15 0).1 13 = 0 := by rw [sg_ne _ (by omega), sg_ne _ (by omega), sg_at]
    have k14 : (m_sg (m_sg (m_sg (m_sg (m_sg (m_sg s0 10 0) 11 (n_ n)) 12 0) 13 0) 14 (-1)) 15 0).1 14 = -1 := by rw [sg_ne _ (by omega), sg_at]
    have k15 : (m_sg (m_sg (m_sg (m_sg (m_sg (m_sg s0 10 0) 11 (n_ n)) 12 0) 13 0) 14 (-1)) 15 0).1 15 = 0 := sg_at _ _ _
    generalize m_sg (m_sg (m_sg (m_sg (m_sg (m_sg s0 10 0) 11 (n_ n)) 12 0) 13 0) 14 (-1)) 15 0 = s1 at *
    have k5 : s1.1 5 = n_ (g_np g) := by rw [m1.1 5 (by simp)]; exact h5
    have k6 : s1.1 6 = n_ (g_nk g) := by rw [m1.1 6 (by simp)]; exact h6
    rw [k5, k6]
    refine ev_b (rf_tell65 _ _ s1) (fun s12 h12 => ?_)
    obtain ⟨m2, c2⟩ := h12
    refine ev_b (rf_tell96 _ _ s12) (fun s17 h17 => ?_)
    obtain ⟨m3, c3⟩ := h17
    refine ev_b (rf_plain s17) (fun s19 h19 => ?_)
    obtain ⟨m4, p5, p6, pV⟩ := h19
    -- fields and arrays that stay all the way
    have f19 : ∀ k, k ≠ 5 → k ≠ 6 → s19.1 k = s1.1 k := fun k a b => by rw [m4.1 k (by simp [a, b]), m3.1, m2.1]
    have a19 : ∀ k, k ≠ 0 → k ≠ 1 → s19.2.1 k = s0.2.1 k := fun k a b => by rw [m4.2.2 k (by simp [a]), m3.2.1, m2.2.2 k (by simp [b]), m1.2.2 k (by simp)]
    have b19 : ∀ k, k < 266 → s19.2.1 1 k = s0.2.1 0 k := fun k hk => by rw [m4.2.2 1 (by simp), m3.2.1, c2 k hk, m1.2.2 0 (by simp)]
    have l19 : ∀ k, k < 12 → s19.2.2 4 k = s0.2.2 3 k := fun k hk => by rw [m4.2.1, c3 k hk, m2.2.1, m1.2.1]
    have start : rdq_ s19 g.2.2.2.2.1 n rd0_ s19 := by
      refine ⟨mu_rfl _, ⟨by rw [f19 11 (by omega) (by omega)]; exact k11, by rw [f19 12 (by omega) (by omega), k12]; exact n_lit 0, Nat.zero_le _, by omega, fun y hy => by rw [a19 9 (by omega) (by omega)]; exact hT y (by omega), fun y hy => tb y (by omega)⟩, by rw [f19 13 (by omega) (by omega)]; exact k13, by rw [f19 14 (by omega) (by omega), k14]; exact m1_q, ⟨by rw [p5]; exact n_lit 0, by rw [p6]; exact n_lit 0, fun i hi => absurd hi (Nat.not_lt_zero _), fun i hi => absurd hi (Nat.not_lt_zero _)⟩, pV, by rw [f19 15 (by omega) (by omega), k15]; exact bt_0 5, rd0_ok⟩
    refine ev_b (rf_tell127 start (m0 := n + 1) (by show n - 0 < n + 1; omega) _ _) (fun s28 h28 => ?_)
    cases hx : rdA_ g.2.2.2.2.1 n (n + 1) rd0_ with
    | inl e =>
      rw [hx] at h28
      have q : rqe_ s19 e s28 := h28
      obtain ⟨q1, q2, q3, q4, q5, _⟩ := id q
      dsimp only
      refine ev_ifF (rqe_13 q) ?_
      have m5 : mt_ [5, 6] [] s28 (m_sg (m_sg s28 5 (n_ (g_np g))) 6 (n_ (g_nk g))) := mt_tr (mt_sg (by simp) _ _) (mt_sg (by simp) _ _)
      have e5 : (m_sg (m_sg s28 5 (n_ (g_np g))) 6 (n_ (g_nk g))).1 5 = n_ (g_np g) := by rw [sg_ne _ (by omega), sg_at]
      have e6 : (m_sg (m_sg s28 5 (n_ (g_np g))) 6 (n_ (g_nk g))).1 6 = n_ (g_nk g) := sg_at _ _ _
      generalize m_sg (m_sg s28 5 (n_ (g_np g))) 6 (n_ (g_nk g)) = s30 at *
      refine ev_b (rf_tell181 s30) (fun s34 h34 => ?_)
      obtain ⟨m6, c6⟩ := h34
      refine ev_b (rf_tell212 s34) (fun s39 h39 => ?_)
      obtain ⟨m7, c7⟩ := h39
      have ff : ∀ k, s39.1 k = s30.1 k := fun k => by rw [m7.1, m6.1]
      have f30 : ∀ k, k ∉ rf_fs → s30.1 k = s1.1 k := fun k hk => by
        rw [m5.1 k (fun z => hk (by simp only [List.mem_cons, List.not_mem_nil, or_false] at z; rcases z with rfl | rfl <;> decide)), q1.1 k hk]
        exact f19 k (fun z => hk (by subst z; decide)) (fun z => hk (by subst z; decide))
      have e13 : s39.1 13 = n_ e.1 := by rw [ff, m5.1 13 (by simp)]; exact q2
      have e14 : s39.1 14 = n_ e.2 := by rw [ff, m5.1 14 (by simp)]; exact q5
      have aa : ∀ k, k ≠ 0 → k ≠ 1 → s39.2.1 k = s0.2.1 k := fun k a b => by rw [m7.2.1, m6.2.2 k (by simp [a]), m5.2.2 k (by simp), q1.2.2 k a]; exact a19 k a b
      have a0 : ∀ k, k < 266 → s39.2.1 0 k = s0.2.1 0 k := fun k hk => by rw [m7.2.1, c6 k hk, m5.2.2 1 (by simp), q1.2.2 1 (by omega)]; exact b19 k hk
      have ll : ∀ k, k < 12 → s39.2.2 3 k = s0.2.2 3 k := fun k hk => by rw [c7 k hk, m6.2.1, m5.2.1, q1.2.1 4 (by omega)]; exact l19 k hk
      rw [e13]
      refine ev_some ⟨⟨by rw [ff]; exact e5, by rw [ff]; exact e6, by rw [ff, f30 7 (by decide), m1.1 7 (by simp)]; exact h7, by rw [ff, f30 10 (by decide), k10]; exact n_lit 0, e13, e14, rf_V_congr h40 a0 hV, fun i hi => ?_, fun i hi => ?_, fun i hi => ?_, fun i hi => absurd hi (Nat.not_lt_zero _)⟩, ?_⟩
      · rw [aa 2 (by omega) (by omega)]; exact hP i hi
      · have hi' : i < g.1.length := hi
        have h8 : g.1.length ≤ 8 := ok.1
        rw [ll i (by omega)]; exact hN1 i hi
      · have hi' : i < g.2.1.length := hi
        have h4 : g.2.1.length ≤ 4 := ok.2.1
        rw [ll (8 + i) (by omega)]; exact hN2 i hi
      · rw [n_q, show (-30 : Int32) = q_ (-30) from rfl, q_sub]
    | inr s =>
      rw [hx] at h28
      obtain ⟨i0, q⟩ := h28
      dsimp only
      obtain ⟨q1, q2, q3, q4, q5, q6, q7, q8⟩ := q
      refine ev_ifT q3 (ev_g (by decide) ?_)
      rw [z_nat]
      have m5 : mt_ [7] [] s28 (m_sg s28 7 0) := mt_sg (by simp) _ _
      have f28 : ∀ k, k ∉ rf_fs → s28.1 k = s1.1 k := fun k hk => by
        rw [q1.1 k hk]
        exact f19 k (fun z => hk (by subst z; decide)) (fun z => hk (by subst z; decide))
      have eA : (m_sg s28 7 0).2.1 0 0 = n_ s.2.2.2.1.1.length := q6.1
      rw [eA]
      refine ev_some ⟨⟨by rw [sg_ne _ (by omega)]; exact q5.1, by rw [sg_ne _ (by omega)]; exact q5.2.1, by rw [sg_at]; exact n_lit 0, by rw [sg_ne _ (by omega), f28 10 (by decide), k10]; exact n_lit 0, by rw [sg_ne _ (by omega), q3]; rfl, by rw [sg_ne _ (by omega)]; exact q4, q6, fun i hi => absurd hi (Nat.not_lt_zero _), q5.2.2.1, q5.2.2.2, fun i hi => absurd hi (Nat.not_lt_zero _)⟩, rfl⟩
  · simp only [if_neg c]
    exact ev_some ⟨R, m3_q⟩
/-- the first state -/
def g_0 : GS_ := ([], [], ([], fun _ => 99999999, 0), [], fun _ => 0, 0, 0, -1)
theorem g_0_ok : g_ok g_0 := ⟨by decide, by decide, rd0_ok.2.2.1, fun s hs => absurd hs (by simp [g_0, g_past]), by decide, fun w hw => absurd hw (by simp [g_0]), fun w hw => absurd hw (by simp [g_0]), by simp [g_0], by decide⟩
theorem rf_init : Ev_ (fun m => f_plain m m_z) (fun s => rf_R g_0 s) := by
  refine ev_w (rf_plain m_z) (fun s h => ?_)
  obtain ⟨m1, p5, p6, pV⟩ := h
  refine ⟨by rw [p5]; exact n_lit 0, by rw [p6]; exact n_lit 0, by rw [m1.1 7 (by simp)]; exact n_lit 0, by rw [m1.1 10 (by simp)]; exact n_lit 0, by rw [m1.1 13 (by simp)]; rfl, by rw [m1.1 14 (by simp)]; exact m1_q, pV, fun i hi => absurd hi (Nat.not_lt_zero _), fun i hi => absurd hi (Nat.not_lt_zero _), fun i hi => absurd hi (Nat.not_lt_zero _), fun i hi => absurd hi (Nat.not_lt_zero _)⟩
