set_option maxRecDepth 100000
/-! The reference's acts -/
theorem rf_V_congr {s : SS_} {A B : Nat → Int32} (h40 : s.1.length ≤ 40) (h : ∀ j, j < 266 → B j = A j) (hV : rf_V s A) : rf_V s B := by
  obtain ⟨h1, h2, h3, h4⟩ := hV
  refine ⟨by rw [h 0 (by omega)]; exact h1, by rw [h 1 (by omega)]; exact h2, fun i hi => ?_, fun k hk => by rw [h _ (by omega)]; exact h4 k hk⟩
  rw [h _ (by omega), h _ (by omega), h _ (by omega), h _ (by omega), h _ (by omega)]
  exact h3 i hi
/-- the state goes to those ahead of it; the eleventh goes -/
def g_push (g : GS_) : GS_ := (g.1, g.2.1, g.2.2.1, (if (g_past g).length = 10 then (g_past g).tail else g_past g) ++ [g_s g], g.2.2.2.2)
/-- another state -/
def g_set (g : GS_) (s : SS_) : GS_ := (g.1, g.2.1, s, g.2.2.2.1, g.2.2.2.2)
theorem rf_remembers_52 {st : MS} {m : Nat} (hm : m < 10) (h7 : st.1 7 = n_ m) : Ev_ (fun n => f_remembers_L52l n (0, st)) (fun s => ms_ [2] st s ∧ (∀ j, j < 266 → s.2.1 2 (266 * m + j) = st.2.1 0 j) ∧ ∀ j, j < 266 * m → s.2.1 2 j = st.2.1 2 j) := by
  unfold f_remembers_L52l
  refine ev_for 266 (fun i y => y.1 = n_ i ∧ ms_ [2] st y.2 ∧ (∀ j, j < i → y.2.2.1 2 (266 * m + j) = st.2.1 0 j) ∧ ∀ j, j < 266 * m → y.2.2.1 2 j = st.2.1 2 j) (fun i y hi hP => ?_) (fun y hP => ?_) _ ⟨n_lit 0, ms_rfl _ _, fun j hj => absurd hj (Nat.not_lt_zero _), fun j _ => rfl⟩
  · obtain ⟨v, s1⟩ := y
    obtain ⟨e0, g1, g2, g3⟩ := hP
    dsimp only at e0 g1 g2 g3 ⊢
    subst e0
    have h71 : s1.1 7 = n_ m := by rw [g1.1]; exact h7
    refine ev_eq (r := .inl (n_ (i + 1), m_sa s1 2 (266 * m + i) (st.2.1 0 i))) (fun n => ?_) ⟨_, rfl, rfl, ms_tr g1 (ms_sa (by simp) _ _ _), fun j hj => ?_, fun j hj => ?_⟩
    · unfold f_remembers_L52
      rw [h71]
      simp (disch := omega) only [n_lit, n_add, n_mul, n_le, n_in, m_gT, n_nat]
      rw [ef_F (show ¬ 266 ≤ i by omega), g1.2.2 0 (by simp)]
    · dsimp only
      rw [sa_at]
      by_cases e : j = i
      · rw [e, upd_at]
      · rw [upd_ne (by omega)]; exact g2 j (by omega)
    · dsimp only
      rw [sa_at, upd_ne (by omega)]; exact g3 j hj
  · obtain ⟨v, s1⟩ := y
    obtain ⟨e0, g1, g2, g3⟩ := hP
    dsimp only at e0 g1 g2 g3 ⊢
    subst e0
    refine ev_eq (r := .inr s1) (fun n => ?_) ⟨_, rfl, g1, g2, g3⟩
    unfold f_remembers_L52
    simp (disch := omega) only [n_lit, n_le]
    rw [ef_T (by omega)]
theorem rf_remembers_11 {st : MS} : Ev_ (fun n => f_remembers_L11l n (0, st)) (fun s => ms_ [2] st s ∧ ∀ j, j < 2394 → s.2.1 2 j = st.2.1 2 (j + 266)) := by
  unfold f_remembers_L11l
  refine ev_for 2394 (fun i y => y.1 = n_ i ∧ ms_ [2] st y.2 ∧ (∀ j, j < i → y.2.2.1 2 j = st.2.1 2 (j + 266)) ∧ ∀ j, i ≤ j → y.2.2.1 2 j = st.2.1 2 j) (fun i y hi hP => ?_) (fun y hP => ?_) _ ⟨n_lit 0, ms_rfl _ _, fun j hj => absurd hj (Nat.not_lt_zero _), fun j _ => rfl⟩
  · obtain ⟨v, s1⟩ := y
    obtain ⟨e0, g1, g2, g3⟩ := hP
    dsimp only at e0 g1 g2 g3 ⊢
    subst e0
    refine ev_eq (r := .inl (n_ (i + 1), m_sa s1 2 i (st.2.1 2 (i + 266)))) (fun n => ?_) ⟨_, rfl, rfl, ms_tr g1 (ms_sa (by simp) _ _ _), fun j hj => ?_, fun j hj => ?_⟩
    · unfold f_remembers_L11
      simp (disch := omega) only [n_lit, n_add, n_le, n_in, m_gT, n_nat]
      rw [ef_F (show ¬ 2394 ≤ i by omega), g3 _ (by omega)]
    · dsimp only
      rw [sa_at]
      by_cases e : j = i
      · rw [e, upd_at]
      · rw [upd_ne e]; exact g2 j (by omega)
    · dsimp only
      rw [sa_at, upd_ne (by omega)]; exact g3 j (by omega)
  · obtain ⟨v, s1⟩ := y
    obtain ⟨e0, g1, g2, g3⟩ := hP
    dsimp only at e0 g1 g2 g3 ⊢
    subst e0
    refine ev_eq (r := .inr s1) (fun n => ?_) ⟨_, rfl, g1, g2⟩
    unfold f_remembers_L11
    simp (disch := omega) only [n_lit, n_le]
    rw [ef_T (by omega)]
theorem sg_at (st : MS) (k : Nat) (v : Int32) : (m_sg st k v).1 k = v := if_pos (rfl)
theorem sg_ne (st : MS) {k j : Nat} (h : j ≠ k) (v : Int32) : (m_sg st k v).1 j = st.1 j := if_neg h
theorem rf_remembers' {g : GS_} (ok : g_ok g) {st : MS} (R : rf_R g st) : Ev_ (fun n => f_remembers n st) (fun s => rf_R (g_push g) s ∧ (∀ k, k ≠ 2 → s.2.1 k = st.2.1 k) ∧ ∀ k, k ≠ 7 → s.1 k = st.1 k) := by
  obtain ⟨h5, h6, h7, h10, h13, h14, hV, hP, hN1, hN2, hT⟩ := R
  have h40 := ok.2.2.1.2.2.1
  have hl := ok.2.2.2.2.1
  unfold f_remembers
  -- the second half
  have half : ∀ (s1 : MS) (m : Nat) (ps : List SS_), m < 10 → s1.1 7 = n_ m → ps.length = m → (∀ k, k ≠ 7 → s1.1 k = st.1 k) → s1.2.2 = st.2.2 → (∀ k, k ≠ 2 → s1.2.1 k = st.2.1 k) → (∀ i (h : i < ps.length), rf_V (ps[i]) (fun j => s1.2.1 2 (266 * i + j))) → (∀ q ∈ ps, q.1.length ≤ 40) → g_push g = (g.1, g.2.1, g.2.2.1, ps ++ [g_s g], g.2.2.2.2) → Ev_ (fun n => f_remembers_J50 n s1) (fun s => rf_R (g_push g) s ∧ (∀ k, k ≠ 2 → s.2.1 k = st.2.1 k) ∧ ∀ k, k ≠ 7 → s.1 k = st.1 k) := fun s1 m ps hm e7 elen ef el ea hps hps40 eg => by
    unfold f_remembers_J50
    refine ev_b (rf_remembers_52 hm e7) (fun s2 hs2 => ?_)
    obtain ⟨m2, a1, a2⟩ := hs2
    rw [show s2.1 7 = n_ m by rw [m2.1]; exact e7]
    refine ev_some ⟨?_, fun k hk => by show s2.2.1 k = _; rw [m2.2.2 k (by simp [hk])]; exact ea k hk, fun k hk => by rw [sg_ne _ hk, m2.1]; exact ef k hk⟩
    rw [eg]
    have hf : ∀ k, k ≠ 7 → (m_sg s2 7 (n_ m + 1)).1 k = st.1 k := fun k hk => by rw [sg_ne _ hk, m2.1]; exact ef k hk
    have ha : ∀ k, k ≠ 2 → s2.2.1 k = st.2.1 k := fun k hk => by rw [m2.2.2 k (by simp [hk])]; exact ea k hk
    have key : ∀ i (h : i < (ps ++ [g_s g]).length), rf_V ((ps ++ [g_s g])[i]) (fun j => s2.2.1 2 (266 * i + j)) := fun i hi => by
      have hi' : i < (ps ++ [g_s g]).length := hi
      rw [List.length_append, elen] at hi'
      simp only [List.length_singleton] at hi'
      by_cases c : i < m
      · rw [List.getElem_append_left (by omega)]
        refine rf_V_congr (hps40 _ (List.getElem_mem _)) (fun j hj => ?_) (hps i (by omega))
        rw [a2 _ (by omega)]
      · have e : i = m := by omega
        subst e
        rw [List.getElem_append_right (by omega)]
        simp only [elen, Nat.sub_self, List.getElem_cons_zero]
        refine rf_V_congr h40 (fun j hj => ?_) hV
        rw [a1 j hj, ea 0 (by omega)]
    refine ⟨by rw [hf 5 (by omega)]; exact h5, by rw [hf 6 (by omega)]; exact h6, ?_, by rw [hf 10 (by omega)]; exact h10, by rw [hf 13 (by omega)]; exact h13, by rw [hf 14 (by omega)]; exact h14, ?_, fun i hi => ?_, fun i hi => ?_, fun i hi => ?_, fun i hi => ?_⟩
    · rw [sg_at]
      show n_ m + 1 = n_ (ps ++ [g_s g]).length
      rw [n_lit 1, n_add, List.length_append, elen]; rfl
    · show rf_V (g_s g) (s2.2.1 0)
      rw [ha 0 (by omega)]; exact hV
    · exact key i hi
    · show s2.2.2 3 i = _
      rw [m2.2.1, el]; exact hN1 i hi
    · show s2.2.2 3 (8 + i) = _
      rw [m2.2.1, el]; exact hN2 i hi
    · show s2.2.1 9 i = _
      rw [ha 9 (by omega)]; exact hT i hi
  refine ev_ifq (c' := (g_past g).length = 10) (by rw [h7, n_lit 10, n_eq (by omega) (by omega)]) (fun c => ?_) (fun c => ?_)
  · refine ev_b rf_remembers_11 (fun s1 hs1 => ?_)
    obtain ⟨m1, a1⟩ := hs1
    have e7 : s1.1 7 = n_ 10 := by rw [m1.1, h7, c]
    rw [e7]
    refine half _ 9 (g_past g).tail (by omega) ?_ (by rw [List.length_tail, c]) (fun k hk => ?_) ?_ (fun k hk => ?_) (fun i hi => ?_) (fun q hq => ?_) ?_
    · rw [sg_at, n_lit 1, n_sub (by omega)]
    · rw [sg_ne _ hk, m1.1]
    · exact m1.2.1
    · exact m1.2.2 k (by simp [hk])
    · have hi' : i < 9 := by rw [List.length_tail, c] at hi; exact hi
      rw [List.getElem_tail]
      refine rf_V_congr (ok.2.2.2.1 _ (List.getElem_mem _)).2.2.1 (fun j hj => ?_) (hP (i + 1) (by omega))
      show s1.2.1 2 (266 * i + j) = _
      rw [a1 _ (by omega), show 266 * i + j + 266 = 266 * (i + 1) + j by omega]
    · exact (ok.2.2.2.1 q (List.mem_of_mem_tail hq)).2.2.1
    · unfold g_push; rw [if_pos c]
  · refine half st (g_past g).length (g_past g) (by omega) h7 rfl (fun _ _ => rfl) rfl (fun _ _ => rfl) hP (fun q hq => (ok.2.2.2.1 q hq).2.2.1) ?_
    unfold g_push; rw [if_neg c]
theorem rf_remembers {g : GS_} (ok : g_ok g) {st : MS} (R : rf_R g st) : Ev_ (fun n => f_remembers n st) (fun s => rf_R (g_push g) s) := ev_w (rf_remembers' ok R) (fun _ h => h.1)
theorem g_push_ok {g : GS_} (ok : g_ok g) : g_ok (g_push g) := by
  obtain ⟨h1, h2, h3, h4, h5, h6⟩ := ok
  refine ⟨h1, h2, h3, fun s hs => ?_, ?_, h6⟩
  · have hs' : s ∈ (if (g_past g).length = 10 then (g_past g).tail else g_past g) ++ [g_s g] := hs
    rcases List.mem_append.mp hs' with h | h
    · by_cases c : (g_past g).length = 10
      · rw [if_pos c] at h; exact h4 s (List.mem_of_mem_tail h)
      · rw [if_neg c] at h; exact h4 s h
    · rw [List.mem_singleton.mp h]; exact h3
  · show ((if (g_past g).length = 10 then (g_past g).tail else g_past g) ++ [g_s g]).length ≤ 10
    rw [List.length_append]
    by_cases c : (g_past g).length = 10
    · rw [if_pos c, List.length_tail, c]; simp
    · rw [if_neg c]; simp; omega
/-- the state's row alone changes -/
theorem rf_R_set {g : GS_} {st st' : MS} (R : rf_R g st) (m : ms_ [0] st st') {s : SS_} (hV : rf_V s (st'.2.1 0)) : rf_R (g_set g s) st' := by
  obtain ⟨h5, h6, h7, h10, h13, h14, _, hP, hN1, hN2, hT⟩ := R
  refine ⟨by rw [m.1]; exact h5, by rw [m.1]; exact h6, by rw [m.1]; exact h7, by rw [m.1]; exact h10, by rw [m.1]; exact h13, by rw [m.1]; exact h14, hV, fun i hi => ?_, fun i hi => ?_, fun i hi => ?_, fun i hi => ?_⟩
  · rw [m.2.2 2 (by simp)]; exact hP i hi
  · rw [m.2.1]; exact hN1 i hi
  · rw [m.2.1]; exact hN2 i hi
  · rw [m.2.2 9 (by simp)]; exact hT i hi
theorem rf_adds (n : Nat) {s : SS_} {st : MS} (h : rf_V s (st.2.1 0)) (hl : s.1.length < 40) (a b k : Nat) (m : Int) : ∃ st', f_adds n st (n_ a) (n_ b) (q_ m) (n_ k) = some st' ∧ ms_ [0] st st' ∧ rf_V (s.1 ++ [(a, b, m, k, false)], s.2.1, s.2.2) (st'.2.1 0) := by
  refine ⟨m_sa (m_sa (m_sa (m_sa (m_sa (m_sa st 0 (2 + 5 * s.1.length) (n_ a)) 0 (2 + 5 * s.1.length + 1) (n_ b)) 0 (2 + 5 * s.1.length + 2) (q_ m)) 0 (2 + 5 * s.1.length + 3) (n_ k)) 0 (2 + 5 * s.1.length + 4) (n_ 0)) 0 0 (n_ (s.1.length + 1)), ?_, ?_, ?_⟩
  · unfold f_adds
    rw [z_nat, h.1]
    simp (disch := omega) only [n_lit, n_add, n_mul, n_in, m_gT, n_nat, sa_at]
    rw [upd_ne (by omega), upd_ne (by omega), upd_ne (by omega), upd_ne (by omega), upd_ne (by omega), h.1, n_add]
  · exact ms_tr (ms_sa (by simp) _ _ _) (ms_tr (ms_sa (by simp) _ _ _) (ms_tr (ms_sa (by simp) _ _ _) (ms_tr (ms_sa (by simp) _ _ _) (ms_tr (ms_sa (by simp) _ _ _) (ms_sa (by simp) _ _ _)))))
  · simp only [sa_at]
    refine ⟨by rw [upd_at, List.length_append]; rfl, ?_, fun i hi => ?_, fun j hj => ?_⟩
    · rw [upd_ne (by omega), upd_ne (by omega), upd_ne (by omega), upd_ne (by omega), upd_ne (by omega), upd_ne (by omega)]; exact h.2.1
    · rw [List.length_append] at hi
      simp only [List.length_singleton] at hi
      by_cases c : i < s.1.length
      · rw [List.getElem_append_left c]
        have := h.2.2.1 i c
        refine ⟨?_, ?_, ?_, ?_, ?_⟩ <;> rw [upd_ne (by omega), upd_ne (by omega), upd_ne (by omega), upd_ne (by omega), upd_ne (by omega), upd_ne (by omega)]
        · exact this.1
        · exact this.2.1
        · exact this.2.2.1
        · exact this.2.2.2.1
        · exact this.2.2.2.2
      · have e : i = s.1.length := by omega
        subst e
        rw [List.getElem_append_right (by omega)]
        simp only [Nat.sub_self, List.getElem_cons_zero]
        refine ⟨?_, ?_, ?_, ?_, ?_⟩
        · rw [upd_ne (by omega), upd_ne (by omega), upd_ne (by omega), upd_ne (by omega), upd_ne (by omega), upd_at]
        · rw [upd_ne (by omega), upd_ne (by omega), upd_ne (by omega), upd_ne (by omega), upd_at]
        · rw [upd_ne (by omega), upd_ne (by omega), upd_ne (by omega), upd_at]
        · rw [upd_ne (by omega), upd_ne (by omega), upd_at]
        · rw [upd_ne (by omega), upd_at]; rfl
    · rw [upd_ne (by omega), upd_ne (by omega), upd_ne (by omega), upd_ne (by omega), upd_ne (by omega), upd_ne (by omega)]; exact h.2.2.2 j hj
