set_option maxRecDepth 100000
/-! The reference presses for good -/
theorem rf_press_89 {np nk : Nat} {s : SS_} (ok : ss_ok np nk s) {st : MS} (h : rf_V s (st.2.1 0)) {k : Nat} (hk : k < 4) : Ev_ (fun n => f_press_L89l n (n_ k) (q_ ((s.1.length : Int) - 1), st)) (fun s1 => ms_ [0] st s1 ∧ rf_V (nf_ k s.1, s.2.1, s.2.2) (s1.2.1 0)) := by
  have h40 := ok.2.2.1
  have hnk := ok.2.1
  unfold f_press_L89l
  refine ev_for s.1.length (fun i y => y.1 = q_ ((s.1.length : Int) - 1 - i) ∧ ms_ [0] st y.2 ∧ rf_V (s.1.take (s.1.length - i) ++ nf_ k (s.1.drop (s.1.length - i)), s.2.1, s.2.2) (y.2.2.1 0)) (fun i y hi hP => ?_) (fun y hP => ?_) _ ⟨by dsimp only; congr 1; omega, ms_rfl _ _, ?_⟩
  · obtain ⟨v, s1⟩ := y
    obtain ⟨e0, g1, g2⟩ := hP
    dsimp only at e0 g1 g2 ⊢
    subst e0
    have ht : s.1.length - 1 - i < s.1.length := by omega
    have et : (s.1.length : Int) - 1 - i = ((s.1.length - 1 - i : Nat) : Int) := by omega
    rw [et, ← n_q]
    generalize htv : s.1.length - 1 - i = t at *
    have e1 : s.1.length - i = t + 1 := by omega
    have e2 : s.1.length - (i + 1) = t := by omega
    rw [e1, List.take_succ_eq_append_getElem ht] at g2
    rw [e2]
    have hlen : (s.1.take t).length = t := by rw [List.length_take]; omega
    have hdrop : s.1.drop t = s.1[t] :: s.1.drop (t + 1) := List.drop_eq_getElem_cons ht
    have hsub : ∀ x ∈ nf_ k (s.1.drop (t + 1)), x ∈ s.1 := fun x hx => List.mem_of_mem_drop (List.mem_filter.mp hx).1
    have hcur : s.1.take t ++ [s.1[t]] ++ nf_ k (s.1.drop (t + 1)) = s.1.take t ++ s.1[t] :: nf_ k (s.1.drop (t + 1)) := by rw [List.append_assoc]; rfl
    rw [hcur] at g2
    have hL : (s.1.take t ++ s.1[t] :: nf_ k (s.1.drop (t + 1))).length ≤ 40 := by
      have : (nf_ k (s.1.drop (t + 1))).length ≤ (s.1.drop (t + 1)).length := List.length_filter_le _ _
      rw [List.length_drop] at this
      simp only [List.length_append, List.length_cons, hlen]; omega
    have hget : (s.1.take t ++ s.1[t] :: nf_ k (s.1.drop (t + 1)))[t]'(by simp only [List.length_append, List.length_cons, hlen]; omega) = s.1[t] := by
      rw [List.getElem_append_right (by omega)]; simp [hlen]
    have hfree := fun n => rf_isFree n (s := (s.1.take t ++ s.1[t] :: nf_ k (s.1.drop (t + 1)), s.2.1, s.2.2)) g2 hL (nk := nk) (fun x hx => by
      have hx' : x ∈ s.1.take t ++ s.1[t] :: nf_ k (s.1.drop (t + 1)) := hx
      rcases List.mem_append.mp hx' with q | q
      · exact (ok.2.2.2.1 x (List.mem_of_mem_take q)).2.2.2.2.2
      · rcases List.mem_cons.mp q with q | q
        · rw [q]; exact (ok.2.2.2.1 _ (List.getElem_mem ht)).2.2.2.2.2
        · exact (ok.2.2.2.1 x (hsub x q)).2.2.2.2.2) hnk hk (i := t) (by show t < (s.1.take t ++ s.1[t] :: nf_ k (s.1.drop (t + 1))).length; simp only [List.length_append, List.length_cons, hlen]; omega)
    have hfree' : ∀ n, f_isFree n s1 (n_ t) (n_ k) = some (b_ (tr_fr k (s.1[t]) = true)) := fun n => by
      rw [hfree n]
      exact congrArg (fun z => some (b_ (tr_fr k z = true))) hget
    have hidx : n_ t + -1 = q_ ((s.1.length : Int) - 1 - ((i + 1 : Nat) : Int)) := by
      rw [m1_q, n_q, q_add]; congr 1; omega
    have hs : ∀ n, f_press_L89 n (n_ k) (n_ t) s1 = if tr_fr k (s.1[t]) = true then m_b (f_goes n s1 (n_ t)) (fun s27 => some (.inl (q_ ((s.1.length : Int) - 1 - ((i + 1 : Nat) : Int)), s27))) else some (.inl (q_ ((s.1.length : Int) - 1 - ((i + 1 : Nat) : Int)), s1)) := fun n => by
      unfold f_press_L89 f_press_J107
      rw [hfree' n, m_bs, m_ifb, hidx, ef_F (by rw [n_lit 0, n_lt (by omega) (by omega)]; omega)]
    simp only [hs]
    by_cases c : tr_fr k (s.1[t]) = true
    · simp only [if_pos c]
      have hgo := rf_goes (s := (s.1.take t ++ s.1[t] :: nf_ k (s.1.drop (t + 1)), s.2.1, s.2.2)) g2 hL (t := t) (by show t < (s.1.take t ++ s.1[t] :: nf_ k (s.1.drop (t + 1))).length; simp only [List.length_append, List.length_cons, hlen]; omega)
      refine ev_b hgo (fun s2 hs2 => ev_some ⟨_, rfl, rfl, ms_tr g1 hs2.1, ?_⟩)
      have e3 : (s.1.take t ++ s.1[t] :: nf_ k (s.1.drop (t + 1))).eraseIdx t = s.1.take t ++ nf_ k (s.1.drop t) := by
        have := er_mid (s.1.take t) (s.1[t]) (nf_ k (s.1.drop (t + 1)))
        rw [hlen] at this
        rw [this, hdrop]
        unfold nf_
        rw [List.filter_cons_of_neg (by simp [c])]
      have hV2 := hs2.2
      dsimp only at hV2 ⊢
      rw [e3] at hV2
      exact hV2
    · simp only [if_neg c]
      refine ev_some ⟨_, rfl, rfl, g1, ?_⟩
      dsimp only
      rw [hdrop]
      unfold nf_ at g2 ⊢
      rw [List.filter_cons_of_pos (by simp [c])]
      exact g2
  · obtain ⟨v, s1⟩ := y
    obtain ⟨e0, g1, g2⟩ := hP
    dsimp only at e0 g1 g2 ⊢
    subst e0
    refine ev_eq (r := .inr s1) (fun n => ?_) ⟨_, rfl, g1, ?_⟩
    · unfold f_press_L89
      rw [ef_T (by rw [n_lit 0, n_q, q_lt ⟨by omega, by omega⟩ ⟨by omega, by omega⟩]; omega)]
    · rw [Nat.sub_self] at g2
      simpa using g2
  · dsimp only
    rw [Nat.sub_zero, List.take_length, List.drop_length]
    simpa [nf_] using h
theorem rf_press_115 {s : SS_} {st : MS} {X : Nat → Int} (h : rf_V s (st.2.1 0)) (hl : s.1.length + ct_ 64 X ≤ 40) (h22 : ∀ c, c < 64 → st.2.1 22 c = q_ (X c)) (hX : ∀ c, c < 64 → 0 ≤ X c ∧ X c < 2147483648) (k : Nat) : Ev_ (fun n => f_press_L115l n (n_ k) (0, st)) (fun s1 => ms_ [0] st s1 ∧ rf_V (s.1 ++ pr_new X k 64, s.2.1, s.2.2) (s1.2.1 0)) := by
  unfold f_press_L115l
  refine ev_for 64 (fun i y => y.1 = n_ i ∧ ms_ [0] st y.2 ∧ rf_V (s.1 ++ pr_new X k i, s.2.1, s.2.2) (y.2.2.1 0)) (fun i y hi hP => ?_) (fun y hP => ?_) _ ⟨n_lit 0, ms_rfl _ _, by dsimp only; simp only [pr_new, List.append_nil]; exact h⟩
  · obtain ⟨v, s1⟩ := y
    obtain ⟨e0, g1, g2⟩ := hP
    dsimp only at e0 g1 g2 ⊢
    subst e0
    have h22i : s1.2.1 22 i = q_ (X i) := by rw [g1.2.2 22 (by simp)]; exact h22 i hi
    have hXi := hX i hi
    have h8 : decide (¬ (8 : Int32) = 0) = true := by decide
    have hidx : n_ i + 1 = n_ (i + 1) := by rw [n_lit 1, n_add]
    have hs : ∀ n, f_press_L115 n (n_ k) (n_ i) s1 = m_if (X i ≤ 0) (some (.inl (n_ (i + 1), s1))) (m_b (f_adds n s1 (n_ (i / 8)) (n_ (i % 8)) (q_ (X i)) (n_ k)) (fun s37 => some (.inl (n_ (i + 1), s37)))) := fun n => by
      unfold f_press_L115 f_press_J149
      rw [h8, hidx, n_lit 8]
      simp (disch := omega) only [n_lit, n_le, n_in, m_gT, n_nat, h22i, qn_le, n_div, n_mul, n_sub]
      rw [ef_F (show ¬ 64 ≤ i by omega), show i - i / 8 * 8 = i % 8 by omega]
      rfl
    simp only [hs]
    refine ev_if (fun c => ?_) (fun c => ?_)
    · refine ev_some ⟨_, rfl, rfl, g1, ?_⟩
      dsimp only
      simp only [pr_new]
      rw [if_neg (by omega), List.append_nil]; exact g2
    · have hct : ct_ (i + 1) X ≤ ct_ 64 X := ct_mono X (by omega)
      rw [show ct_ (i + 1) X = ct_ i X + 1 from by show ct_ i X + (if 0 < X i then 1 else 0) = _; rw [if_pos (by omega)]] at hct
      have hlen : (s.1 ++ pr_new X k i).length < 40 := by rw [List.length_append, pr_len]; omega
      obtain ⟨s2, e2, m2, V2⟩ := rf_adds 0 g2 hlen (i / 8) (i % 8) k (X i)
      have e2' : ∀ n, f_adds n s1 (n_ (i / 8)) (n_ (i % 8)) (q_ (X i)) (n_ k) = some s2 := fun n => by rw [← e2]; rfl
      refine ev_bn e2' (ev_some ⟨_, rfl, rfl, ms_tr g1 m2, ?_⟩)
      dsimp only
      simp only [pr_new]
      rw [if_pos (by omega), ← List.append_assoc]
      exact V2
  · obtain ⟨v, s1⟩ := y
    obtain ⟨e0, g1, g2⟩ := hP
    dsimp only at e0 g1 g2 ⊢
    subst e0
    refine ev_eq (r := .inr s1) (fun n => ?_) ⟨_, rfl, g1, g2⟩
    unfold f_press_L115
    simp (disch := omega) only [n_lit, n_le]
    rw [ef_T (by omega)]
theorem nf_take (k : Nat) (l : List Tr_) {i : Nat} (hi : i < l.length) : (nf_ k (l.take (i + 1))).length = (nf_ k (l.take i)).length + (if tr_fr k (l[i]) = true then 0 else 1) := by
  unfold nf_
  rw [List.take_succ_eq_append_getElem hi, List.filter_append, List.length_append]
  by_cases c : tr_fr k (l[i]) = true
  · simp [c]
  · simp [c]
theorem rf_press {g : GS_} (ok : g_ok g) (nw : ss_nw (g_np g) (g_nk g) (g_s g)) {st : MS} (R0 : rf_R g st) (z : Int32) : Ev_ (fun n => f_press n st z) (fun r => ∃ g', rf_R g' r.2 ∧ Ac_press g z r.1 g') := by
  have R := rf_R_8 R0
  have h40 := ok.2.2.1.2.2.1
  have h1 := fun n => rf_isKind n R.2.1 ok.2.1 z
  unfold f_press Ac_press
  simp only [h1, m_bs, m_ifb]
  by_cases c : 0 ≤ z.toInt ∧ z.toInt < g_nk g
  · simp only [if_pos c]
    obtain ⟨k, hkk, rfl, e⟩ := ki_ ok.2.1 c
    rw [e]
    have hk4 : k < 4 := by have := ok.2.1; omega
    have hfl := fl_s_ok ok.2.2.1 nw hkk
    refine rf_P1 ok nw R hkk (fun s X m1 h17 h22 hX => ?_) (fun s m1 hN => ?_)
    · have hXf := Q1_fit ok.2.2.1 hfl hX
      have Rs := rf_R_ms R m1 sc_p
      have hV := Rs.2.2.2.2.2.2.1
      refine ev_ifF n_10 (ev_b (rf_couplesNow h22 hXf) (fun r9 hr9 => ?_))
      subst hr9
      have hct := ct_le 64 X
      refine ev_b (P := fun y => y = (n_ (ct_ 64 X + (nf_ k (g_s g).1).length), s)) ?_ (fun y hy => ?_)
      · unfold f_press_L34l
        refine ev_for (g_s g).1.length (fun i y => y = (n_ (ct_ 64 X + (nf_ k ((g_s g).1.take i)).length), n_ i, s)) (fun i y hi hP => ?_) (fun y hP => ?_) _ (by rw [← n_lit 0]; simp [nf_])
        · subst hP
          refine ev_eq (r := .inl (n_ (ct_ 64 X + (nf_ k ((g_s g).1.take (i + 1))).length), n_ (i + 1), s)) (fun n => ?_) ⟨_, rfl, rfl⟩
          unfold f_press_L34 f_press_J59
          dsimp only
          rw [z_nat, hV.1, rf_isFree n hV h40 (fun t ht => (ok.2.2.1.2.2.2.1 t ht).2.2.2.2.2) ok.2.1 hk4 hi]
          simp only [m_bs, m_ifb]
          simp (disch := omega) only [n_lit, n_add, n_in, m_gT, n_le]
          rw [ef_F (by omega), nf_take k _ hi]
          by_cases c1 : tr_fr k ((g_s g).1[i]) = true
          · rw [if_pos c1, if_pos c1]; rfl
          · rw [if_neg c1, if_neg c1]; rfl
        · subst hP
          refine ev_eq (r := .inr (n_ (ct_ 64 X + (nf_ k (g_s g).1).length), s)) (fun n => ?_) ⟨_, rfl, rfl⟩
          unfold f_press_L34
          dsimp only
          rw [z_nat, hV.1, List.take_length]
          simp (disch := omega) only [n_lit, n_in, m_gT, n_le]
          rw [ef_T (by omega)]
      · subst hy
        have hnl : (nf_ k (g_s g).1).length ≤ 40 := by
          have : (nf_ k (g_s g).1).length ≤ (g_s g).1.length := List.length_filter_le _ _
          omega
        refine ev_ifq (c' := (nf_ k (g_s g).1).length + ct_ 64 X ≤ 40) (by rw [n_lit 40, n_le (by omega) (by omega)]; omega) (fun c4 => ?_) (fun c4 => ?_)
        · refine ev_b (rf_remembers' ok Rs) (fun s1 hs1 => ?_)
          obtain ⟨R1, ha1, _⟩ := hs1
          have hV1 : rf_V (g_s g) (s1.2.1 0) := R1.2.2.2.2.2.2.1
          refine ev_g (by rw [n_lit 0]; exact n_in (by omega) (by omega)) ?_
          rw [z_nat, hV1.1, show n_ (g_s g).1.length - 1 = q_ (((g_s g).1.length : Int) - 1) from by rw [n_q, show (1 : Int32) = q_ 1 from rfl, q_sub]]
          refine ev_b (rf_press_89 ok.2.2.1 hV1 hk4) (fun s2 hs2 => ?_)
          have h222 : ∀ c, c < 64 → s2.2.1 22 c = q_ (X c) := fun c hc => by rw [hs2.1.2.2 22 (by simp), ha1 22 (by omega)]; exact h22 c hc
          refine ev_b (rf_press_115 hs2.2 c4 h222 hXf k) (fun s3 hs3 => ?_)
          refine ev_g (by rw [n_lit 0]; exact n_in (by omega) (by omega)) ?_
          rw [hs3.2.1]
          have R3 := rf_R_set R1 (ms_tr hs2.1 hs3.1) hs3.2
          refine ev_some ⟨_, R3, Or.inl ⟨X, hX, ?_, ?_⟩⟩
          · unfold pr_r; rw [if_pos c4]; show n_ _ = n_ _; rw [List.length_append, pr_len]
          · unfold pr_r; rw [if_pos c4]
        · refine ev_some ⟨g, Rs, Or.inl ⟨X, hX, ?_, ?_⟩⟩
          · unfold pr_r; rw [if_neg c4]; exact m4_q
          · unfold pr_r; rw [if_neg c4]
    · exact ev_ifT (n_lit 0).symm (ev_some ⟨g, rf_R_ms R m1 sc_p, Or.inr ⟨hN, m5_q, rfl⟩⟩)
  · simp only [if_neg c]
    exact ev_some ⟨g, R, m2_q, rfl⟩
