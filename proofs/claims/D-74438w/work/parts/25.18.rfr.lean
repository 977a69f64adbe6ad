set_option maxRecDepth 100000
/-! Still more of them -/
theorem ss_fl_cons (t : Tr_) (ts : List Tr_) (k c : Nat) : ss_fl (t :: ts) k c = (if tr_fr k t && decide (8 * t.1 + t.2.1 = c) then t.2.2.1 else 0) + ss_fl ts k c := rfl
theorem fs_out_ts {k p : Nat} : ∀ {ts : List Tr_}, (∀ t ∈ ts, t.2.1 < 8) → fs_out (ss_fl ts k) p = ts_sum (fun t => tr_fr k t && decide (t.1 = p)) ts := by
  intro ts
  induction ts with
  | nil => intro _; exact fw_sm_z (fun _ _ => rfl)
  | cons t ts ih =>
    intro h
    have h1 := h t List.mem_cons_self
    simp only [ts_sum]
    rw [← ih (fun x hx => h x (List.mem_cons_of_mem _ hx))]
    unfold fs_out
    rw [fw_sm_congr (fun b _ => ss_fl_cons t ts k (8 * p + b)), fw_sm_add]
    congr 1
    by_cases c : tr_fr k t = true
    · by_cases e : t.1 = p
      · rw [if_pos (by simp [c, e])]
        rw [fw_sm_congr (g := fun b => if b = t.2.1 then t.2.2.1 else 0) (fun b hb => by
          by_cases e2 : b = t.2.1
          · rw [if_pos e2, if_pos (by simp [c]; omega)]
          · rw [if_neg e2, if_neg (by simp [c]; omega)])]
        exact fw_sm_one h1 (fun _ => t.2.2.1)
      · rw [if_neg (by simp [e])]
        exact fw_sm_z (fun b hb => if_neg (by simp [c]; omega))
    · rw [if_neg (by simp [c])]
      exact fw_sm_z (fun b hb => if_neg (by simp [c]))
theorem fs_in_ts {k p : Nat} (hp : p < 8) : ∀ {ts : List Tr_}, (∀ t ∈ ts, t.1 < 8 ∧ t.2.1 < 8) → fs_in (ss_fl ts k) p = ts_sum (fun t => tr_fr k t && decide (t.2.1 = p)) ts := by
  intro ts
  induction ts with
  | nil => intro _; exact fw_sm_z (fun _ _ => rfl)
  | cons t ts ih =>
    intro h
    have h1 := h t List.mem_cons_self
    simp only [ts_sum]
    rw [← ih (fun x hx => h x (List.mem_cons_of_mem _ hx))]
    unfold fs_in
    rw [fw_sm_congr (fun b _ => ss_fl_cons t ts k (8 * b + p)), fw_sm_add]
    congr 1
    by_cases c : tr_fr k t = true
    · by_cases e : t.2.1 = p
      · rw [if_pos (by simp [c, e])]
        rw [fw_sm_congr (g := fun b => if b = t.1 then t.2.2.1 else 0) (fun b hb => by
          by_cases e2 : b = t.1
          · rw [if_pos e2, if_pos (by simp [c]; omega)]
          · rw [if_neg e2, if_neg (by simp [c]; omega)])]
        exact fw_sm_one h1.1 (fun _ => t.2.2.1)
      · rw [if_neg (by simp [e])]
        exact fw_sm_z (fun b hb => if_neg (by simp [c]; omega))
    · rw [if_neg (by simp [c])]
      exact fw_sm_z (fun b hb => if_neg (by simp [c]))
theorem ts_sum_or {p q r : Tr_ → Bool} : ∀ {l : List Tr_}, (∀ t ∈ l, (if r t then t.2.2.1 else 0) = (if p t then t.2.2.1 else 0) + (if q t then t.2.2.1 else 0)) → ts_sum r l = ts_sum p l + ts_sum q l := by
  intro l
  induction l with
  | nil => intro _; rfl
  | cons t l ih =>
    intro h
    have h1 := h t List.mem_cons_self
    have h2 := ih (fun x hx => h x (List.mem_cons_of_mem _ hx))
    simp only [ts_sum]
    omega
theorem ss_8 {np nk : Nat} {s : SS_} (ok : ss_ok np nk s) : ∀ t ∈ s.1, t.1 < 8 ∧ t.2.1 < 8 := fun t ht => by
  have h1 := (ok.2.2.2.1 t ht).1
  have h2 := (ok.2.2.2.1 t ht).2.1
  have := ok.1
  omega
theorem ts_of {np nk : Nat} {s : SS_} (ok : ss_ok np nk s) {k p : Nat} (hp : p < 8) : ts_sum (fun t => tr_fr k t && decide ((t.1 : Int) = (p : Int) ∨ (t.2.1 : Int) = (p : Int))) s.1 = fs_out (ss_fl s.1 k) p + fs_in (ss_fl s.1 k) p := by
  rw [fs_out_ts (fun t ht => (ss_8 ok t ht).2), fs_in_ts hp (ss_8 ok)]
  refine ts_sum_or (fun t ht => ?_)
  have hne := (ok.2.2.2.1 t ht).2.2.1
  by_cases c : tr_fr k t = true
  · by_cases e1 : t.1 = p
    · have e2 : ¬ t.2.1 = p := by omega
      simp [c, e1, e2]
    · by_cases e2 : t.2.1 = p
      · simp [c, e1, e2]
      · have e3 : ¬ ((t.1 : Int) = p) := by omega
        have e4 : ¬ ((t.2.1 : Int) = p) := by omega
        simp [c, e1, e2, e3, e4]
  · simp [c]
theorem rf_without {g : GS_} (ok : g_ok g) (nw : ss_nw (g_np g) (g_nk g) (g_s g)) {st : MS} (R0 : rf_R g st) (x z : Int32) : Ev_ (fun n => f_without n st x z) (fun r => rf_R g r.2 ∧ Sp_pk g x z (fun p k r => spT_ (g_np g) (g_s g) (fl_wo p (ss_fl (g_s g).1 k)) (ss_be (g_np g) (g_s g) (fl_wo p (ss_fl (g_s g).1 k))) (fun T => q_ (T + (fs_out (ss_fl (g_s g).1 k) p + fs_in (ss_fl (g_s g).1 k) p))) (q_ (-1)) r) r.1) := by
  have R := rf_R_8 R0
  have h8 := ok.1
  have okS := ok.2.2.1
  unfold f_without f_without_J21
  refine rf_pk ok R x z (fun p k hp hk ex ez => ?_)
  subst ex; subst ez
  have hp8 : p < 8 := by omega
  have hk4 : k < 4 := by have := ok.2.1; omega
  have hfl := fl_wo_ok okS nw hk (p : Int)
  rw [show f_laysBounds = f_laysBounds from rfl]
  refine rf_LP ok nw R hk (w := p) ⟨by omega, by omega⟩ (fun s X t m1 _ hrp T => ?_) (fun s m1 hN => ?_)
  · refine ev_ifF n_10 ?_
    refine ev_b (rf_sumOf hrp.2.1) (fun r14 hr14 => ?_)
    subst hr14
    have hV : rf_V (g_s g) (s.2.1 0) := by rw [m1.2.2 0 (by simp)]; exact R.2.2.2.2.2.2.1
    have h40 := okS.2.2.1
    refine ev_b (P := fun y => y = (q_ (fs_tot X + (fs_out (ss_fl (g_s g).1 k) p + fs_in (ss_fl (g_s g).1 k) p)), s)) ?_ (fun y hy => ?_)
    · unfold f_without_L47l
      refine ev_for (g_s g).1.length (fun i y => y = (q_ (fs_tot X + ts_sum (fun t => tr_fr k t && decide ((t.1 : Int) = (p : Int) ∨ (t.2.1 : Int) = (p : Int))) ((g_s g).1.take i)), n_ i, s)) (fun i y hi hP => ?_) (fun y hP => ?_) _ (by rw [← n_lit 0]; simp [ts_sum])
      · subst hP
        obtain ⟨g1, g2, g3, g4, g5⟩ := hV.2.2.1 i hi
        refine ev_eq (r := .inl (q_ (fs_tot X + ts_sum (fun t => tr_fr k t && decide ((t.1 : Int) = (p : Int) ∨ (t.2.1 : Int) = (p : Int))) ((g_s g).1.take (i + 1))), n_ (i + 1), s)) (fun n => ?_) ⟨_, rfl, rfl⟩
        unfold f_without_L47 f_without_J89 f_without_J90
        dsimp only
        rw [z_nat, hV.1, rf_isFree n hV h40 (fun t ht => (okS.2.2.2.1 t ht).2.2.2.2.2) okS.2.1 hk4 hi, n_q p, rf_isOf n hV okS (w := p) ⟨by omega, by omega⟩ hi]
        simp only [m_bs, m_ifb]
        simp (disch := omega) only [n_lit, n_add, n_in, m_gT, rf_tradeAt, g3, m_bs, n_le, q_add, qn_add]
        rw [ef_F (by omega), ts_sum_take _ _ hi]
        by_cases c1 : tr_fr k ((g_s g).1[i]) = true
        · rw [if_pos c1]
          by_cases c2 : (((g_s g).1[i]).1 : Int) = (p : Int) ∨ (((g_s g).1[i]).2.1 : Int) = (p : Int)
          · rw [if_pos c2, if_pos (by simp only [c1, c2, decide_true, Bool.and_self])]
            rw [Int.add_assoc]
          · rw [if_neg c2, if_neg (by simp only [c1, c2, decide_false, Bool.and_false]; simp)]; rw [Int.add_zero]; simp
        · rw [if_neg c1, if_neg (by simp [c1])]; rw [Int.add_zero]; simp
      · subst hP
        refine ev_eq (r := .inr (q_ (fs_tot X + (fs_out (ss_fl (g_s g).1 k) p + fs_in (ss_fl (g_s g).1 k) p)), s)) (fun n => ?_) ⟨_, rfl, rfl⟩
        unfold f_without_L47
        dsimp only
        rw [z_nat, hV.1]
        simp (disch := omega) only [n_lit, n_in, m_gT, n_le]
        rw [ef_T (by omega), ts_sum_all, ts_of okS hp8]
    · subst hy
      exact ev_some ⟨rf_R_ms R m1 sc_p, Or.inl ⟨X, (th_any okS hfl (fun c hc => ss_be_b _ _ _ c) X).mp T.1, rfl⟩⟩
  · exact ev_ifT (n_lit 0).symm (ev_some ⟨rf_R_ms R m1 sc_p, Or.inr ⟨hN, rfl⟩⟩)
/-- sums over parties alone -/
theorem fw_sm_ext {np : Nat} (h8 : np ≤ 8) {g : Nat → Int} (hg : ∀ b, np ≤ b → b < 8 → g b = 0) : fw_sm 8 g = fw_sm np g := by
  have : ∀ m, np + m ≤ 8 → fw_sm (np + m) g = fw_sm np g := by
    intro m
    induction m with
    | zero => intro _; rfl
    | succ m ih => intro hm; show fw_sm (np + m) g + g (np + m) = _; rw [ih (by omega), hg _ (by omega) (by omega)]; omega
  have := this (8 - np) (by omega)
  rwa [show np + (8 - np) = 8 by omega] at this
/-- how much less a party has -/
def rl_f (f X : Nat → Int) (p : Nat) : Int := fs_out f p + fs_in f p - fs_out X p - fs_in X p
theorem rf_reliefOf {np : Nat} (h8 : np ≤ 8) {st : MS} (h5 : st.1 5 = n_ np) {f X : Nat → Int} (h17 : ∀ c, c < 64 → st.2.1 17 c = q_ (f c)) (h22 : ∀ c, c < 64 → st.2.1 22 c = q_ (X c)) (hf : ∀ c, c < 64 → ¬ fs_cp np c → f c = 0 ∧ X c = 0) {p : Nat} (hp : p < 8) : Ev_ (fun n => f_reliefOf n st (n_ p)) (fun r => r = q_ (100000000 + rl_f f X p)) := by
  have e : rl_f f X p = fw_sm np (fun b => f (8 * p + b) + f (8 * b + p) - X (8 * p + b) - X (8 * b + p)) := by
    rw [← fw_sm_ext h8 (fun b hb hb8 => by
      have h1 := hf (8 * p + b) (by omega) (by rw [fs_cp_at hb8]; omega)
      have h2 := hf (8 * b + p) (by omega) (by rw [fs_cp_at hp]; omega)
      omega)]
    unfold rl_f fs_out fs_in
    simp only [fw_sm_8]; omega
  rw [e]
  unfold f_reliefOf
  refine ev_b (P := fun r => r = q_ (100000000 + fw_sm np (fun b => f (8 * p + b) + f (8 * b + p) - X (8 * p + b) - X (8 * b + p)))) ?_ (fun r hr => ev_some hr)
  unfold f_reliefOf_L5l
  refine ev_for np (fun i x => x = (q_ (100000000 + fw_sm i (fun b => f (8 * p + b) + f (8 * b + p) - X (8 * p + b) - X (8 * b + p))), n_ i)) (fun i x hi hP => ?_) (fun x hP => ?_) _ (by rw [← n_lit 0]; rfl)
  · subst hP
    refine ev_eq (r := .inl (q_ (100000000 + fw_sm (i + 1) (fun b => f (8 * p + b) + f (8 * b + p) - X (8 * p + b) - X (8 * b + p))), n_ (i + 1))) (fun n => ?_) ⟨_, rfl, rfl⟩
    unfold f_reliefOf_L5
    dsimp only
    rw [h5, rf_couple, rf_couple]
    simp (disch := omega) only [n_lit, n_add, n_in, n_nat, m_gT, n_le, m_bs, h17, h22, q_add, q_sub]
    rw [ef_F (by omega), Int.add_assoc]; rfl
  · subst hP
    refine ev_eq (r := .inr (q_ (100000000 + fw_sm np (fun b => f (8 * p + b) + f (8 * b + p) - X (8 * p + b) - X (8 * b + p))))) (fun n => ?_) ⟨_, rfl, rfl⟩
    unfold f_reliefOf_L5
    dsimp only
    rw [h5]
    simp (disch := omega) only [n_le]
    rw [ef_T (by omega)]
