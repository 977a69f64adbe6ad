set_option maxRecDepth 100000
/-! The reference lays flows -/
theorem ts_sum_take (p : Tr_ → Bool) (l : List Tr_) {i : Nat} (hi : i < l.length) : ts_sum p (l.take (i + 1)) = ts_sum p (l.take i) + (if p (l[i]) then (l[i]).2.2.1 else 0) := by
  rw [List.take_succ_eq_append_getElem hi, ts_sum_app]
  simp [ts_sum]
theorem ts_sum_all (p : Tr_ → Bool) (l : List Tr_) : ts_sum p (l.take l.length) = ts_sum p l := by rw [List.take_length]
theorem ts_sum_congr {p p' : Tr_ → Bool} : ∀ {l : List Tr_}, (∀ t ∈ l, p t = p' t) → ts_sum p l = ts_sum p' l := by
  intro l
  induction l with
  | nil => intro _; rfl
  | cons t l ih =>
    intro h
    simp only [ts_sum, h t List.mem_cons_self, ih (fun x hx => h x (List.mem_cons_of_mem _ hx))]
def tr_fw (k : Nat) (w : Int) (c : Nat) (t : Tr_) : Bool := tr_fr k t && decide (¬ ((t.1 : Int) = w ∨ (t.2.1 : Int) = w)) && decide (8 * t.1 + t.2.1 = c)
theorem fl_wo_eq {np nk : Nat} {s : SS_} (ok : ss_ok np nk s) (k : Nat) (w : Int) (c : Nat) : ts_sum (tr_fw k w c) s.1 = fl_wo w (ss_fl s.1 k) c := by
  unfold fl_wo
  by_cases h : ((c / 8 : Nat) : Int) = w ∨ ((c % 8 : Nat) : Int) = w
  · rw [if_pos h]
    refine ts_sum_0 (fun t ht => ?_)
    have h2 := (ok.2.2.2.1 t ht).2.1
    have h8 := ok.1
    unfold tr_fw
    by_cases e : 8 * t.1 + t.2.1 = c
    · have e1 : c / 8 = t.1 := by omega
      have e2 : c % 8 = t.2.1 := by omega
      rw [e1, e2] at h
      simp [h]
    · simp [e]
  · rw [if_neg h]
    unfold ss_fl
    refine ts_sum_congr (fun t ht => ?_)
    have h2 := (ok.2.2.2.1 t ht).2.1
    have h8 := ok.1
    unfold tr_fw
    by_cases e : 8 * t.1 + t.2.1 = c
    · have e1 : c / 8 = t.1 := by omega
      have e2 : c % 8 = t.2.1 := by omega
      rw [e1, e2] at h
      simp [h]
    · simp [e]
theorem rf_laysFlows_s {np nk : Nat} {s : SS_} (ok : ss_ok np nk s) {s2 : MS} (hV : rf_V s (s2.2.1 0)) {k : Nat} (hk : k < 4) {w : Int} (hw : -1 ≤ w ∧ w < 8) {i : Nat} (hi : i < s.1.length) (n : Nat) : f_laysFlows_L23 n (n_ k) (q_ w) (n_ i) s2 = some (.inl (n_ (i + 1), if tr_fr k (s.1[i]) = true ∧ ¬ (((s.1[i]).1 : Int) = w ∨ ((s.1[i]).2.1 : Int) = w) then m_sa s2 17 (8 * (s.1[i]).1 + (s.1[i]).2.1) (s2.2.1 17 (8 * (s.1[i]).1 + (s.1[i]).2.1) + q_ (s.1[i]).2.2.1) else s2)) := by
  obtain ⟨g1, g2, g3, g4, g5⟩ := hV.2.2.1 i hi
  obtain ⟨ht1, ht2, _⟩ := ok.2.2.2.1 _ (List.getElem_mem hi)
  have h8 := ok.1
  have h40 := ok.2.2.1
  unfold f_laysFlows_L23 f_laysFlows_J80
  rw [z_nat, hV.1, rf_isFree n hV h40 (fun t ht => (ok.2.2.2.1 t ht).2.2.2.2.2) ok.2.1 hk hi, rf_isOf n hV ok hw hi]
  simp only [m_bs, m_ifb]
  simp (disch := omega) only [n_lit, n_add, n_in, m_gT, rf_tradeAt, Nat.add_zero, g1, g2, g3, m_bs, rf_couple, n_nat, n_le]
  rw [ef_F (by omega)]
  by_cases c1 : tr_fr k (s.1[i]) = true
  · by_cases c2 : ((s.1[i]).1 : Int) = w ∨ ((s.1[i]).2.1 : Int) = w
    · rw [if_pos c1, if_pos c2, if_neg (fun q => q.2 c2)]
    · rw [if_pos c1, if_neg c2, if_pos ⟨c1, c2⟩]
  · rw [if_neg c1, if_neg (fun q => c1 q.1)]
theorem rf_laysFlows {np nk : Nat} {s : SS_} (ok : ss_ok np nk s) {st : MS} (h : rf_V s (st.2.1 0)) {k : Nat} (hk : k < 4) {w : Int} (hw : -1 ≤ w ∧ w < 8) : Ev_ (fun n => f_laysFlows n st (n_ k) (q_ w)) (fun st' => ms_ [17] st st' ∧ ∀ c, c < 64 → st'.2.1 17 c = q_ (fl_wo w (ss_fl s.1 k) c)) := by
  unfold f_laysFlows
  refine ev_b (P := fun st' => ms_ [17] st st' ∧ ∀ c, c < 64 → st'.2.1 17 c = q_ 0) ?_ (fun s1 h1 => ?_)
  · unfold f_laysFlows_L2l
    refine ev_for 64 (fun i x => x.1 = n_ i ∧ ms_ [17] st x.2 ∧ ∀ c, c < i → x.2.2.1 17 c = q_ 0) (fun i x hi hP => ?_) (fun x hP => ?_) (0, st) ⟨n_lit 0, ms_rfl _ _, fun c hc => absurd hc (Nat.not_lt_zero _)⟩
    · obtain ⟨v, s1⟩ := x
      obtain ⟨rfl, h2, h3⟩ := hP
      refine ev_eq (r := .inl (n_ (i + 1), m_sa s1 17 i 0)) (fun n => ?_) ⟨_, rfl, rfl, ms_tr h2 (ms_sa (by simp) _ _ _), fun c hc => ?_⟩
      · unfold f_laysFlows_L2 m_if
        simp (disch := omega) only [n_lit, n_add, n_in, n_nat, m_gT, n_le]
        rw [if_neg (by omega)]
      · dsimp only
        rw [sa_at]
        by_cases e : c = i
        · subst e; rw [upd_at]; rfl
        · rw [upd_ne e]; exact h3 c (by omega)
    · obtain ⟨v, s1⟩ := x
      obtain ⟨rfl, h2, h3⟩ := hP
      refine ev_eq (r := .inr s1) (fun n => ?_) ⟨_, rfl, h2, h3⟩
      unfold f_laysFlows_L2 m_if
      simp (disch := omega) only [n_lit, n_le, Nat.le_refl, if_true]
  · obtain ⟨h1, h2⟩ := h1
    refine ev_b (P := fun st' => ms_ [17] st st' ∧ ∀ c, c < 64 → st'.2.1 17 c = q_ (fl_wo w (ss_fl s.1 k) c)) ?_ (fun s2 h2 => ev_some h2)
    unfold f_laysFlows_L23l
    have h40 := ok.2.2.1
    refine ev_for s.1.length (fun i x => x.1 = n_ i ∧ ms_ [17] st x.2 ∧ ∀ c, c < 64 → x.2.2.1 17 c = q_ (ts_sum (tr_fw k w c) (s.1.take i))) (fun i x hi hP => ?_) (fun x hP => ?_) (0, s1) ⟨n_lit 0, h1, fun c hc => h2 c hc⟩
    · obtain ⟨v, s2⟩ := x
      obtain ⟨rfl, h3, h4⟩ := hP
      have hV : rf_V s (s2.2.1 0) := by rw [h3.2.2 0 (by simp)]; exact h
      obtain ⟨g1, g2, g3, g4, g5⟩ := hV.2.2.1 i hi
      refine ev_eq (rf_laysFlows_s ok hV hk hw hi) ⟨_, rfl, rfl, ?_, fun c hc => ?_⟩
      · dsimp only
        split
        · exact ms_tr h3 (ms_sa (by simp) _ _ _)
        · exact h3
      · dsimp only
        rw [ts_sum_take _ _ hi]
        by_cases cc : tr_fr k (s.1[i]) = true ∧ ¬ (((s.1[i]).1 : Int) = w ∨ ((s.1[i]).2.1 : Int) = w)
        · rw [if_pos cc, sa_at]
          by_cases e : c = 8 * (s.1[i]).1 + (s.1[i]).2.1
          · have ht := ok.2.2.2.1 _ (List.getElem_mem hi)
            have ht1 := ht.1
            have ht2 := ht.2.1
            have h8 := ok.1
            rw [e, upd_at, h4 _ (by omega), q_add, if_pos (by unfold tr_fw; simp [cc.1, cc.2])]
          · rw [upd_ne e, h4 c hc, if_neg (by unfold tr_fw; simp only [Bool.and_eq_true, decide_eq_true_eq]; exact fun q => e q.2.symm), Int.add_zero]
        · rw [if_neg cc, h4 c hc, if_neg (by unfold tr_fw; simp only [Bool.and_eq_true, decide_eq_true_eq]; exact fun q => cc q.1), Int.add_zero]
    · obtain ⟨v, s2⟩ := x
      obtain ⟨rfl, h3, h4⟩ := hP
      have hV : rf_V s (s2.2.1 0) := by rw [h3.2.2 0 (by simp)]; exact h
      refine ev_eq (r := .inr s2) (fun n => ?_) ⟨_, rfl, h3, fun c hc => by rw [h4 c hc, ts_sum_all, fl_wo_eq ok]⟩
      unfold f_laysFlows_L23 m_if
      rw [show (0 : Int32).toNatClampNeg = 0 from rfl, hV.1]
      simp (disch := omega) only [n_lit, n_le, n_in, m_gT, Nat.le_refl, if_true]
/-- nets, by flows that lie there -/
theorem rf_netBy {np : Nat} (h8 : np ≤ 8) {st : MS} (h5 : st.1 5 = n_ np) {f : Nat → Int} (hf : ∀ c, c < 64 → st.2.1 17 c = q_ (f c)) {p : Nat} (hp : p < 8) : Ev_ (fun n => f_netBy n st (n_ p)) (fun r => r = q_ (fw_sm np (fun b => f (8 * p + b) - f (8 * b + p)))) := by
  unfold f_netBy
  refine ev_b (P := fun r => r = q_ (fw_sm np (fun b => f (8 * p + b) - f (8 * b + p)))) ?_ (fun r hr => ev_some hr)
  unfold f_netBy_L4l
  refine ev_for np (fun i x => x = (q_ (fw_sm i (fun b => f (8 * p + b) - f (8 * b + p))), n_ i)) (fun i x hi hP => ?_) (fun x hP => ?_) (0, 0) (by rw [← n_lit 0]; rfl)
  · subst hP
    refine ev_eq (r := .inl (q_ (fw_sm (i + 1) (fun b => f (8 * p + b) - f (8 * b + p))), n_ (i + 1))) (fun n => ?_) ⟨_, rfl, rfl⟩
    unfold f_netBy_L4 m_if
    dsimp only
    rw [h5, rf_couple, rf_couple]
    simp (disch := omega) only [n_lit, n_add, n_in, n_nat, m_gT, n_le, m_bs]
    rw [if_neg (by omega), hf _ (by omega), hf _ (by omega), q_sub, q_add]
    rfl
  · subst hP
    refine ev_eq (r := .inr (q_ (fw_sm np (fun b => f (8 * p + b) - f (8 * b + p))))) (fun n => ?_) ⟨_, rfl, rfl⟩
    unfold f_netBy_L4 m_if
    dsimp only
    rw [h5]
    simp (disch := omega) only [n_le, Nat.le_refl, if_true]
