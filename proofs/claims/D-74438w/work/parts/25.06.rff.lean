set_option maxRecDepth 100000
/-! The reference lays ways until no step is left -/
/-- a pass, up to an arc -/
def rl_P (L pi : Nat → Int) (lb : Int) (R0 : Nat → Prop) (st0 : MS) (S0 : Int) (e : Nat) (v1 : Int32) (st : MS) : Prop := ms_ [27, 28] st0 st ∧ ∃ root dist pe, rl_ L pi lb R0 st root dist pe ∧ ((v1 = n_ 0 ∧ fw_sm 16 dist = S0 ∧ ∀ e', e' < e → 0 < L e' → dist (rn_src e') < 1000000 → dist (rn_dst e') ≤ dist (rn_src e') + rn_w e') ∨ (v1 = n_ 1 ∧ fw_sm 16 dist < S0))
theorem rf_laysWays_b (n : Nat) {be may : Nat → Int} {fx : Nat → Bool} {x t : Nat → Int} {s1 : MS} (hrp : rp_ s1 be may fx x t) (hfit : ∀ e, e < 256 → 0 ≤ rn_L be may fx x t e ∧ rn_L be may fx x t e < 2147483648) {dist : Nat → Int} (hd : ∀ v, v < 16 → s1.2.1 27 v = q_ (dist v)) (hdf : ∀ v, v < 16 → -2000 ≤ dist v ∧ dist v ≤ 1000000) {p q : Nat} (hp : p < 16) (hq : q < 16) (c2 : dist p < 1000000) (v1 : Int32) :
    f_laysWays_L18 n (n_ p) v1 (n_ q) s1 = if 0 < rn_L be may fx x t (16 * p + q) ∧ dist p + rn_w (16 * p + q) < dist q then some (.inl (n_ 1, n_ (q + 1), m_sa (m_sa s1 27 q (q_ (dist p + rn_w (16 * p + q)))) 28 q (n_ p))) else some (.inl (v1, n_ (q + 1), s1)) := by
  have hfp := hdf p hp
  have hfq := hdf q hq
  have hl := hfit (16 * p + q) (by omega)
  have hw := rn_w_1 (16 * p + q)
  have h27p := hd p hp
  have h27q := hd q hq
  unfold f_laysWays_L18 f_laysWays_J96
  rw [rf_stepMay n hrp hp hq]
  by_cases c : 0 < rn_L be may fx x t (16 * p + q)
  · have hside : ¬ (p < 8 ↔ q < 8) := fun z => by rw [rn_L_0 _ _ _ _ _ hq z] at c; omega
    rw [rf_stepCost n hp hq hside]
    simp (disch := omega) only [n_lit, n_le, n_in, m_gT, n_nat, h27p, h27q, nq_le, qn_le, n_add, m_bs, q_add, q_lt']
    rw [ef_F (show ¬ 16 ≤ q by omega), ef_F (show ¬ ((1000000 : Nat) : Int) ≤ dist p by omega), ef_F (show ¬ rn_L be may fx x t (16 * p + q) ≤ ((0 : Nat) : Int) by omega)]
    by_cases e : dist p + rn_w (16 * p + q) < dist q
    · rw [ef_T e, if_pos ⟨c, e⟩]
    · rw [ef_F e, if_neg (fun z => e z.2)]
  · simp (disch := omega) only [n_lit, n_le, n_in, m_gT, n_nat, h27p, h27q, nq_le, qn_le, n_add, m_bs]
    rw [ef_F (show ¬ 16 ≤ q by omega), ef_F (show ¬ ((1000000 : Nat) : Int) ≤ dist p by omega), ef_T (show rn_L be may fx x t (16 * p + q) ≤ ((0 : Nat) : Int) by omega), if_neg (fun z => c z.1)]
theorem rf_laysWays_q {be may : Nat → Int} {fx : Nat → Bool} {x t : Nat → Int} (hfit : ∀ e, e < 256 → 0 ≤ rn_L be may fx x t e ∧ rn_L be may fx x t e < 2147483648) {pi : Nat → Int} (P : rn_P (rn_L be may fx x t) pi) {lb : Int} {R0 : Nat → Prop} {st0 : MS} (hrp : rp_ st0 be may fx x t) {S0 : Int} {p : Nat} (hp : p < 16) {v1 : Int32} {st : MS} (h : rl_P (rn_L be may fx x t) pi lb R0 st0 S0 (16 * p) v1 st) : Ev_ (fun n => f_laysWays_L18l n (n_ p) (v1, n_ 0, st)) (fun r => rl_P (rn_L be may fx x t) pi lb R0 st0 S0 (16 * (p + 1)) r.1 r.2) := by
  unfold f_laysWays_L18l
  refine ev_lp (fun y => ∃ q, q ≤ 16 ∧ y.2.1 = n_ q ∧ rl_P (rn_L be may fx x t) pi lb R0 st0 S0 (16 * p + q) y.1 y.2.2) (fun y => 16 - y.2.1.toNatClampNeg) (fun y hy => ?_) _ ⟨0, by omega, rfl, by rw [Nat.add_zero]; exact h⟩
  obtain ⟨v1, v3, s1⟩ := y
  obtain ⟨q, hq, e0, g1, root, dist, pe, g2, g3⟩ := hy
  dsimp only at e0 g1 g2 g3 ⊢
  subst e0
  have hrp1 : rp_ s1 be may fx x t := rp_ms hrp g1 (by simp)
  have hfp := rl_fit g2 hp
  have h27p := g2.2.1.1 p hp
  by_cases c1 : q = 16
  · subst c1
    refine ev_eq (r := .inr (v1, s1)) (fun n => ?_) ⟨g1, root, dist, pe, g2, by rw [show 16 * (p + 1) = 16 * p + 16 by omega]; exact g3⟩
    unfold f_laysWays_L18
    simp (disch := omega) only [n_lit, n_le]
    rw [ef_T (by omega)]
  · have hq16 : q < 16 := by omega
    have hfq := rl_fit g2 hq16
    by_cases c2 : 1000000 ≤ dist p
    · refine ev_eq (r := .inr (v1, s1)) (fun n => ?_) ⟨g1, root, dist, pe, g2, ?_⟩
      · unfold f_laysWays_L18
        simp (disch := omega) only [n_lit, n_le, n_in, m_gT, n_nat, h27p, nq_le]
        rw [ef_F (show ¬ 16 ≤ q by omega), ef_T (show ((1000000 : Nat) : Int) ≤ dist p by omega)]
      · rcases g3 with ⟨e1, e2, e3⟩ | g3
        · refine Or.inl ⟨e1, e2, fun e' he' ho hd => ?_⟩
          by_cases c3 : e' < 16 * p + q
          · exact e3 e' c3 ho hd
          · have : rn_src e' = p := by unfold rn_src; omega
            rw [this] at hd; omega
        · exact Or.inr g3
    · have hb := fun n => rf_laysWays_b n hrp1 hfit g2.2.1.1 (fun v hv => rl_fit g2 hv) hp hq16 (by omega) v1
      simp only [hb]
      by_cases c3 : 0 < rn_L be may fx x t (16 * p + q) ∧ dist p + rn_w (16 * p + q) < dist q
      · simp only [if_pos c3]
        obtain ⟨k1, k2⟩ := rl_step P g2 hp hq16 c3.1 (by omega) c3.2
        refine ev_some ⟨⟨q + 1, by omega, rfl, ms_tr g1 (ms_tr (ms_sa (by simp) _ _ _) (ms_sa (by simp) _ _ _)), _, _, _, k1, Or.inr ⟨rfl, ?_⟩⟩, ?_⟩
        · rcases g3 with ⟨_, e2, _⟩ | ⟨_, e2⟩ <;> omega
        · rw [n_nat (by omega), n_nat (by omega)]; omega
      · simp only [if_neg c3]
        refine ev_some ⟨⟨q + 1, by omega, rfl, g1, root, dist, pe, g2, ?_⟩, ?_⟩
        · rcases g3 with ⟨e1, e2, e3⟩ | g3
          · refine Or.inl ⟨e1, e2, fun e' he' ho hd => ?_⟩
            by_cases c4 : e' < 16 * p + q
            · exact e3 e' c4 ho hd
            · have e4 : e' = 16 * p + q := by omega
              subst e4
              rw [rn_src_at hq16, rn_dst_at hq16]
              apply Classical.byContradiction
              intro hn
              exact c3 ⟨ho, by omega⟩
          · exact Or.inr g3
        · rw [n_nat (by omega), n_nat (by omega)]; omega
theorem rf_laysWays {be may : Nat → Int} {fx : Nat → Bool} {x t : Nat → Int} (hfit : ∀ e, e < 256 → 0 ≤ rn_L be may fx x t e ∧ rn_L be may fx x t e < 2147483648) {pi : Nat → Int} (P : rn_P (rn_L be may fx x t) pi) {lb : Int} {R0 : Nat → Prop} {st0 : MS} (hrp : rp_ st0 be may fx x t) {root : Nat → Prop} {dist : Nat → Int} {pe : Nat → Nat} (h : rl_ (rn_L be may fx x t) pi lb R0 st0 root dist pe) :
    Ev_ (fun n => f_laysWays n st0) (fun st => ms_ [27, 28] st0 st ∧ ∃ root dist pe, rl_ (rn_L be may fx x t) pi lb R0 st root dist pe ∧ rn_X (rn_L be may fx x t) dist) := by
  unfold f_laysWays
  refine ev_b (P := fun st => ms_ [27, 28] st0 st ∧ ∃ root dist pe, rl_ (rn_L be may fx x t) pi lb R0 st root dist pe ∧ rn_X (rn_L be may fx x t) dist) ?_ (fun r hr => ev_some hr)
  unfold f_laysWays_L2l
  obtain ⟨G, hG1, hG2⟩ := fw_floor 16 (fun v => lb + 64 * pi v) 1000000
  -- the sum of the numbers as it lies in the rows
  refine ev_lp (fun y => ms_ [27, 28] st0 y.2 ∧ ∃ root dist pe, rl_ (rn_L be may fx x t) pi lb R0 y.2 root dist pe ∧ ((y.1 = n_ 0 ∧ rn_X (rn_L be may fx x t) dist) ∨ y.1 = n_ 1)) (fun y => 2 * (fw_sm 16 (fun v => (y.2.2.1 27 v).toInt) - fw_sm 16 (fun _ => G)).toNat + (if y.1 = n_ 0 then 0 else 1)) (fun y hy => ?_) _ ⟨ms_rfl _ _, root, dist, pe, h, Or.inr (n_lit 1)⟩
  obtain ⟨v1, s1⟩ := y
  obtain ⟨g1, root, dist, pe, g2, g3⟩ := hy
  dsimp only at g1 g2 g3 ⊢
  have hsum : ∀ (s : MS) (rt : Nat → Prop) (ds : Nat → Int) (p' : Nat → Nat), rl_ (rn_L be may fx x t) pi lb R0 s rt ds p' → fw_sm 16 (fun v => (s.2.1 27 v).toInt) = fw_sm 16 ds ∧ fw_sm 16 (fun _ => G) ≤ fw_sm 16 ds := fun s rt ds p' hs => ⟨fw_sm_congr (fun v hv => by rw [hs.2.1.1 v hv, q_toInt ⟨by have := rl_fit hs hv; omega, by have := rl_fit hs hv; omega⟩]), fw_B_floor hs.1 hG1 hG2⟩
  rcases g3 with ⟨e1, e2⟩ | e1
  · subst e1
    refine ev_eq (r := .inr s1) (fun n => ?_) ⟨g1, root, dist, pe, g2, e2⟩
    unfold f_laysWays_L2
    simp (disch := omega) only [n_lit, n_eq]
    rw [ef_T trivial]
  · subst e1
    have hb : ∀ n, f_laysWays_L2 n (n_ 1) s1 = m_b (f_laysWays_L10l n (n_ 0, n_ 0, s1)) (fun y26 => some (.inl (y26.1, y26.2))) := fun n => by
      unfold f_laysWays_L2
      simp (disch := omega) only [n_lit, n_eq]
      rw [ef_F (show ¬ 1 = 0 by omega)]
    simp only [hb]
    refine ev_b (P := fun r => rl_P (rn_L be may fx x t) pi lb R0 st0 (fw_sm 16 dist) 256 r.1 r.2) ?_ (fun r hr => ?_)
    · unfold f_laysWays_L10l
      refine ev_for 16 (fun i y => y.2.1 = n_ i ∧ rl_P (rn_L be may fx x t) pi lb R0 st0 (fw_sm 16 dist) (16 * i) y.1 y.2.2) (fun i y hi hP => ?_) (fun y hP => ?_) _ ⟨rfl, g1, root, dist, pe, g2, Or.inl ⟨rfl, rfl, fun e' he' => absurd he' (Nat.not_lt_zero _)⟩⟩
      · obtain ⟨w1, w2, s2⟩ := y
        obtain ⟨e0, k1⟩ := hP
        dsimp only at e0 k1 ⊢
        subst e0
        have hb2 : ∀ n, f_laysWays_L10 n w1 (n_ i) s2 = m_b (f_laysWays_L18l n (n_ i) (w1, n_ 0, s2)) (fun y22 => some (.inl (y22.1, n_ (i + 1), y22.2))) := fun n => by
          unfold f_laysWays_L10
          simp (disch := omega) only [n_lit, n_le, n_add]
          rw [ef_F (show ¬ 16 ≤ i by omega)]
        simp only [hb2]
        refine ev_b (rf_laysWays_q hfit P hrp hi k1) (fun r hr => ev_some ⟨_, rfl, rfl, hr⟩)
      · obtain ⟨w1, w2, s2⟩ := y
        obtain ⟨e0, k1⟩ := hP
        dsimp only at e0 k1 ⊢
        subst e0
        refine ev_eq (r := .inr (w1, s2)) (fun n => ?_) ⟨_, rfl, k1⟩
        unfold f_laysWays_L10
        simp (disch := omega) only [n_lit, n_le]
        rw [ef_T (by omega)]
    · obtain ⟨k1, rt, ds, p', k2, k3⟩ := hr
      have hs0 := hsum s1 root dist pe g2
      have hs1 := hsum r.2 rt ds p' k2
      rcases k3 with ⟨e1, e2, e3⟩ | ⟨e1, e2⟩
      · refine ev_some ⟨⟨k1, rt, ds, p', k2, Or.inl ⟨e1, fun e he ho hd => e3 e he ho hd⟩⟩, ?_⟩
        dsimp only
        rw [e1, hs1.1, hs0.1, e2, if_pos rfl, if_neg (by rw [n_eq (by omega) (by omega)]; omega)]
        omega
      · refine ev_some ⟨⟨k1, rt, ds, p', k2, Or.inr e1⟩, ?_⟩
        dsimp only
        rw [e1, hs1.1, hs0.1, if_neg (by rw [n_eq (by omega) (by omega)]; omega)]
        omega
