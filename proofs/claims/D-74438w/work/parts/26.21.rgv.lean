set_option maxRecDepth 100000
/-! The reference's longest row -/
theorem rg_tn_none {np : Nat} (h8 : np ≤ 8) : ∀ (m : Nat) (f : Nat → Int), ff_ f → ct_ 64 f < m → rg_ring np (rg_tn np m f) = none ∧ ff_ (rg_tn np m f) ∧ ∀ c, rg_tn np m f c ≤ f c := by
  intro m
  induction m with
  | zero => intro f _ h; omega
  | succ m ih =>
    intro f hf h
    simp only [rg_tn]
    cases hr : rg_ring np f with
    | none => exact ⟨hr, hf, fun c => Int.le_refl _⟩
    | some row =>
      have rok := rg_ring_ok h8 (fun c hc => hf.1 c) hr
      have hct := ct_tk h8 hf rok
      obtain ⟨a, b, c⟩ := ih (rg_tk f row) (ff_tk h8 hf rok) (by omega)
      exact ⟨a, b, fun k => Int.le_trans (c k) ((rg_tk_le h8 hf.1 rok).1 k).2⟩
theorem ss_fl_d {np nk : Nat} {s : SS_} (ok : ss_ok np nk s) (k p : Nat) : ss_fl s.1 k (8 * p + p) = 0 := ss_fl_cp ok k _ (fun h => by
  have h8 := ok.1
  obtain ⟨h1, h2, h3⟩ := h
  omega)
/-- all rings taken out -/
def rg_all (np : Nat) (f : Nat → Int) : Nat → Int := rg_tn np 65 f
theorem rg_all_ok {np nk : Nat} {s : SS_} (ok : ss_ok np nk s) (nw : ss_nw np nk s) {k : Nat} (hk : k < nk) : rg_ring np (rg_all np (ss_fl s.1 k)) = none ∧ ff_ (rg_all np (ss_fl s.1 k)) ∧ ∀ p, rg_all np (ss_fl s.1 k) (8 * p + p) ≤ 0 := by
  obtain ⟨a, b, c⟩ := rg_tn_none (np := np) ok.1 65 _ (ff_s ok nw hk) (by have := ct_le 64 (ss_fl s.1 k); omega)
  exact ⟨a, b, fun p => by have := c (8 * p + p); rw [ss_fl_d ok] at this; exact this⟩
def cA_ (np : Nat) (F : Nat → Int) (L : Nat → Nat) (w : Int) : Int32 := if w = -1 then n_ (cN_ np L) else if w < cN_ np L then n_ (cw_ np F L (cN_ np L) w.toNat) else q_ (-1)
noncomputable def Sp_chain (g : GS_) (z w : Int32) (r : Int32) : Prop := Sp_k g z (fun k r => if -1 ≤ w.toInt then ∃ L, Lg_ (g_np g) (rg_all (g_np g) (ss_fl (g_s g).1 k)) L ∧ r = cA_ (g_np g) (rg_all (g_np g) (ss_fl (g_s g).1 k)) L w.toInt else r = q_ (-3)) r
theorem cA_u {np : Nat} {F : Nat → Int} {L L' : Nat → Nat} (h : Lg_ np F L) (h' : Lg_ np F L') (w : Int) : cA_ np F L w = cA_ np F L' w := by
  have e : ∀ p, p < np → L p = L' p := fun p hp => Lg_u h h' hp
  unfold cA_
  have en : cN_ np L = cN_ np L' := by unfold cN_; rw [lxx_congr e]
  rw [en, cw_congr e]
theorem rf_nextOf {np : Nat} (h8 : np ≤ 8) {f : Nat → Int} (hf : ff_ f) {L : Nat → Nat} (hL : Lg_ np f L) {st : MS} (h5 : st.1 5 = n_ np) (h17 : ∀ c, c < 64 → st.2.1 17 c = q_ (f c)) (hR : rwz_ np st L) {p m : Nat} (hp : p < np) (hm : m < 100) (hex : ∃ q, q < np ∧ 0 < f (8 * p + q) ∧ L q = m) : Ev_ (fun n => f_nextOf n st (n_ p) (n_ m)) (fun r => r = n_ (fi_ (fun q => decide (0 < f (8 * p + q)) && decide (L q = m)) np 0)) := by
  obtain ⟨q, q1, q2, q3⟩ := hex
  obtain ⟨i1, i2⟩ := fi_lt (P := fun q => decide (0 < f (8 * p + q)) && decide (L q = m)) (m := np) (b := 0) (x := q) (by omega) (by omega) (by simp [q2, q3])
  obtain ⟨_, _, i3, _⟩ := fi_spec (fun q => decide (0 < f (8 * p + q)) && decide (L q = m)) np 0
  generalize hq0 : fi_ (fun q => decide (0 < f (8 * p + q)) && decide (L q = m)) np 0 = q0 at *
  unfold f_nextOf
  refine ev_b (P := fun y => y = .inl (n_ q0)) ?_ (fun y hy => by subst hy; exact ev_some rfl)
  unfold f_nextOf_L2l
  refine ev_for q0 (fun (i : Nat) (y : Int32) => y = n_ i) (fun i y hi hP => ?_) (fun y hP => ?_) _ (n_lit 0)
  · subst hP
    have hc : 8 * p + i < 64 := by omega
    have f0 := hf.1 (8 * p + i)
    have f1 := hf.2 (8 * p + i) hc
    have hLi := (hL i (by omega)).2.1
    have hno := i3 i (by omega) hi
    refine ev_eq (r := .inl (n_ (i + 1))) (fun n => ?_) ⟨_, rfl, rfl⟩
    unfold f_nextOf_L2 f_nextOf_J35
    rw [h5, ef_F (by rw [n_le (by omega) (by omega)]; omega), rf_couple, m_bs, n_in hc (by omega), m_gT, n_nat (by omega), h17 _ hc, show n_ i + 1 = n_ (i + 1) from by rw [n_lit 1, n_add]]
    by_cases c1 : 0 < f (8 * p + i)
    · have c2 : L i ≠ m := fun e => by simp [c1, e] at hno
      rw [ef_F (by rw [q_0, q_le' (by omega) (by omega) (by omega) (by omega)]; omega), n_in (show i < 8 by omega) (by omega), m_gT, n_nat (by omega), hR i (by omega), ef_F (by rw [n_eq (by omega) (by omega)]; exact c2)]
    · rw [ef_T (by rw [q_0, q_le' (by omega) (by omega) (by omega) (by omega)]; omega)]
  · subst hP
    have hc : 8 * p + q0 < 64 := by omega
    have f0 := hf.1 (8 * p + q0)
    have f1 := hf.2 (8 * p + q0) hc
    have hLi := (hL q0 (by omega)).2.1
    simp at i2
    refine ev_eq (r := .inr (.inl (n_ q0))) (fun n => ?_) ⟨_, rfl, rfl⟩
    unfold f_nextOf_L2
    rw [h5, ef_F (by rw [n_le (by omega) (by omega)]; omega), rf_couple, m_bs, n_in hc (by omega), m_gT, n_nat (by omega), h17 _ hc, ef_F (by rw [q_0, q_le' (by omega) (by omega) (by omega) (by omega)]; omega), n_in (show q0 < 8 by omega) (by omega), m_gT, n_nat (by omega), hR q0 (by omega), ef_T (by rw [n_eq (by omega) (by omega)]; exact i2.2)]
theorem rf_chain_30 {np : Nat} (h8 : np ≤ 8) (v2 : Int32) {f : Nat → Int} (hf : ff_ f) {st : MS} (h5 : st.1 5 = n_ np) (h17 : ∀ c, c < 64 → st.2.1 17 c = q_ (f c)) : Ev_ (fun n => f_chain_L30l n v2 st) (fun s => mt_ [19] [17, 18] st s ∧ ∀ c, c < 64 → s.2.1 17 c = q_ (rg_all np f c)) := by
  unfold f_chain_L30l rg_all
  generalize htg : rg_tn np 65 f = tg
  refine ev_lpg (β := Nat × (Nat → Int)) (fun b => b.1) (fun b y => ct_ 64 b.2 < b.1 ∧ ff_ b.2 ∧ rg_tn np b.1 b.2 = tg ∧ mt_ [19] [17, 18] st y ∧ ∀ c, c < 64 → y.2.1 17 c = q_ (b.2 c)) (fun b y hb => ?_) (65, f) _ ⟨by have := ct_le 64 f; dsimp only; omega, hf, htg, mt_rfl _ _ _, h17⟩
  obtain ⟨m, f1⟩ := b
  obtain ⟨b1, b2, b3, g1, g2⟩ := hb
  dsimp only at b1 b2 b3 g1 g2 ⊢
  obtain ⟨m, rfl⟩ : ∃ m', m = m' + 1 := ⟨m - 1, by omega⟩
  simp only [rg_tn] at b3
  unfold f_chain_L30
  refine rf_LR h8 b2 (by rw [g1.1 5 (by simp)]; exact h5) g2 (fun s2 row m1 e1 rok rr => ?_) (fun s2 m1 e1 => ?_)
  · have h172 : ∀ c, c < 64 → s2.2.1 17 c = q_ (f1 c) := fun c hc => by rw [m1.2.2 17 (by simp)]; exact g2 c hc
    refine ev_ifF (n_pos rok.1 (by have := rok.2.1; omega)) ?_
    refine ev_b (rf_ringGoes h8 (ff_c b2) h172 rr rok) (fun s3 hs3 => ?_)
    rw [e1] at b3
    have hct := ct_tk h8 b2 rok
    exact ev_some ⟨(m, rg_tk f1 row), ⟨by dsimp only; omega, ff_tk h8 b2 rok, b3, mt_tr g1 (mt_tr (mt_sub m1 (by simp) (by simp)) (mt_sub (mt_of (fs := [19]) hs3.1) (by simp) (by simp))), hs3.2⟩, by dsimp only; omega⟩
  · rw [e1] at b3
    refine ev_ifT n_0le (ev_some ⟨mt_tr g1 (mt_sub m1 (by simp) (by simp)), fun c hc => ?_⟩)
    rw [← b3, m1.2.2 17 (by simp)]; exact g2 c hc
theorem le_m1 (x : Int32) : ((-1 : Int32) ≤ x) ↔ -1 ≤ x.toInt := Int32.le_iff_toInt_le
theorem eq_m1 (x : Int32) : (x = (-1 : Int32)) ↔ x.toInt = -1 := by
  rw [← Int32.toInt_inj]; exact Iff.rfl
theorem rf_chain {g : GS_} (ok : g_ok g) (nw : ss_nw (g_np g) (g_nk g) (g_s g)) {st : MS} (R0 : rf_R g st) (z w : Int32) : Ev_ (fun n => f_chain n st z w) (fun r => rf_R g r.2 ∧ Sp_chain g z w r.1) := by
  have R := rf_R_8 R0
  have h8 := ok.1
  unfold f_chain
  refine rf_k ok R z (fun k hk ez => ?_)
  subst ez
  have hf := ff_s ok.2.2.1 nw hk
  obtain ⟨hnone, hF, hd⟩ := rg_all_ok ok.2.2.1 nw hk
  obtain ⟨L, hL⟩ := Lg_ex h8 hnone hd
  generalize hFe : rg_all (g_np g) (ss_fl (g_s g).1 k) = F at *
  refine ev_ifq (le_m1 w) (fun c1 => ?_) (fun c1 => ?_)
  · simp only [if_pos c1]
    refine ev_b (rf_lays ok R hk) (fun s6 hs6 => ?_)
    refine ev_b (rf_chain_30 h8 w hf hs6.1.1 hs6.2.2) (fun s14 h14 => ?_)
    obtain ⟨m14, f14⟩ := h14
    rw [hFe] at f14
    have R14 := rf_R_mt hs6.1 (mt_sub m14 (fs' := sc_f) (ks' := sc_a) (by decide) (by decide))
    refine ev_b2 (rf_laysRows h8 hF hd hL R14.1 f14) (fun r16 s17 h17 => ?_)
    obtain ⟨m17, r17, e17⟩ := h17
    dsimp only at m17 r17 e17
    subst e17
    have R17 := rf_R_ms R14 m17 (by decide)
    have hlx : cN_ (g_np g) L ≤ 8 := by
      have := lxx_le (L := L) (m := 8) (n := g_np g) (fun p hp => by have := (hL p hp).2.1; omega)
      unfold cN_; split <;> omega
    unfold f_chain_J59 f_chain_J69
    refine ev_ifq (eq_m1 w) (fun c2 => ?_) (fun c2 => ?_)
    · exact ev_ifT ((eq_m1 w).mpr c2) (ev_some ⟨R17, L, hL, by unfold cA_; rw [if_pos c2]⟩)
    · obtain ⟨i, hi⟩ : ∃ i : Nat, w = n_ i ∧ w.toInt = i := ⟨w.toInt.toNat, n_of (by omega), by omega⟩
      obtain ⟨ew, ei⟩ := hi
      have hib : i < 2147483648 := by have := Int32.toInt_lt w; omega
      refine ev_ifq (c' := i < cN_ (g_np g) L) (by rw [ew, n_lt hib (by omega)]) (fun c3 => ?_) (fun c3 => ?_)
      · obtain ⟨w1, w2⟩ := cw_ok hL 0 (by omega)
        have e0 : cw_ (g_np g) F L (cN_ (g_np g) L) 0 = fi_ (fun p => decide (L p = cN_ (g_np g) L)) (g_np g) 0 := rfl
        refine ev_b (P := fun y => y = (n_ (cw_ (g_np g) F L (cN_ (g_np g) L) 0), s17)) ?_ (fun y hy => ?_)
        · obtain ⟨_, _, i3, _⟩ := fi_spec (fun p => decide (L p = cN_ (g_np g) L)) (g_np g) 0
          rw [← e0] at i3
          generalize cw_ (g_np g) F L (cN_ (g_np g) L) 0 = p0 at *
          unfold f_chain_L73l
          refine ev_for p0 (fun (i : Nat) (y : Int32 × MS) => y = (n_ i, s17)) (fun i y hi hP => ?_) (fun y hP => ?_) _ (by rw [n_lit 0])
          · subst hP
            have hno := i3 i (by omega) hi
            simp at hno
            have hle := lxx_ge (L := L) (show i < g_np g by omega)
            have hLi := (hL i (by omega)).2.1
            refine ev_eq (r := .inl (n_ (i + 1), s17)) (fun n => ?_) ⟨_, rfl, rfl⟩
            unfold f_chain_L73
            dsimp only
            have : cN_ (g_np g) L = lxx_ L (g_np g) := by
              unfold cN_ at c3 ⊢
              by_cases c : lxx_ L (g_np g) < 2
              · rw [if_pos c] at c3; omega
              · rw [if_neg c]
            rw [n_in (show i < 8 by omega) (by omega), m_gT, n_nat (by omega), r17 i (by omega), ef_F (by rw [n_le (by omega) (by omega)]; omega), show n_ i + 1 = n_ (i + 1) from by rw [n_lit 1, n_add]]
          · subst hP
            refine ev_eq (r := .inr (n_ p0, s17)) (fun n => ?_) ⟨_, rfl, rfl⟩
            unfold f_chain_L73
            dsimp only
            rw [n_in (show p0 < 8 by omega) (by omega), m_gT, n_nat (by omega), r17 p0 w1, w2, ef_T (by rw [n_le (by omega) (by omega)]; omega)]
        · subst hy
          refine ev_b (P := fun y => y = (n_ (cw_ (g_np g) F L (cN_ (g_np g) L) i), s17)) ?_ (fun y hy => ?_)
          · unfold f_chain_L93l
            refine ev_for i (fun (j : Nat) (y : Int32 × Int32 × MS) => y = (n_ (cw_ (g_np g) F L (cN_ (g_np g) L) j), n_ (j + 1), s17)) (fun j y hj hP => ?_) (fun y hP => ?_) _ (by rw [n_lit 1])
            · subst hP
              obtain ⟨v1, v2⟩ := cw_ok hL j (by omega)
              unfold f_chain_L93
              dsimp only
              refine ev_ifF (by rw [ew, n_lt hib (by omega)]; omega) ?_
              rw [n_sub (show j + 1 ≤ cN_ (g_np g) L by omega)]
              refine ev_b (rf_nextOf h8 hF hL R17.1 (fun c hc => by rw [m17.2.2 17 (by simp)]; exact f14 c hc) r17 v1 (by omega) ?_) (fun r hr => ?_)
              · rcases (hL _ v1).2.2.2 with c | ⟨q, q1, q2, q3⟩
                · omega
                · exact ⟨q, q1, q2, by omega⟩
              · subst hr
                rw [show n_ (j + 1) + 1 = n_ (j + 1 + 1) from by rw [n_lit 1, n_add]]
                exact ev_some ⟨_, rfl, rfl⟩
            · subst hP
              unfold f_chain_L93
              dsimp only
              refine ev_ifT (by rw [ew, n_lt hib (by omega)]; omega) (ev_some ⟨_, rfl, rfl⟩)
          · subst hy
            refine ev_some ⟨R17, L, hL, ?_⟩
            unfold cA_
            rw [if_neg c2, ei, if_pos (by omega), Int.toNat_natCast]
      · refine ev_ifF (fun h => c2 ((eq_m1 w).mp h)) (ev_some ⟨R17, L, hL, ?_⟩)
        unfold cA_
        rw [if_neg c2, ei, if_neg (by omega), m1_q]
  · simp only [if_neg c1]
    exact ev_some ⟨R, m3_q⟩
