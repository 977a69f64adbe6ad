set_option maxRecDepth 100000
/-! The reference turns couples -/
theorem rp_fx {st : MS} {be may : Nat → Int} {fx : Nat → Bool} {x t : Nat → Int} (h : rp_ st be may fx x t) {k : Nat} (hk : k < 64) : rp_ (m_sa st 26 k (n_ 1)) be may (rn_fxu fx k) x t := by
  refine ⟨fun c hc => ?_, fun c hc => ?_, fun c hc => ?_, fun c hc => ?_, fun c hc => ?_⟩
  · rw [sa_ne _ (by omega)]; exact h.1 c hc
  · rw [sa_ne _ (by omega)]; exact h.2.1 c hc
  · rw [sa_ne _ (by omega)]; exact h.2.2.1 c hc
  · rw [sa_ne _ (by omega)]; exact h.2.2.2.1 c hc
  · rw [sa_at]
    unfold rn_fxu
    by_cases e : c = k
    · rw [e, upd_at, if_pos rfl]; rfl
    · rw [upd_ne e, if_neg e]; exact h.2.2.2.2 c hc
theorem rf_turns {n : Nat} {nu be : Nat → Int} {th : Option (Nat → Int)} {may : Nat → Int} (A : rn_A n nu be th may) (hb : ∀ c, c < 64 → 0 ≤ be c ∧ be c < 2147483648) (hm : ∀ p, p < 8 → 0 ≤ may p ∧ may p < 2147483648) {fx : Nat → Bool} {a b : Nat} (ha : a < 8) (hb8 : b < 8) (hc : fs_cp n (8 * a + b)) (hfx : fx (8 * a + b) = false) (hi : Bool) {st0 : MS} {X0 t0 : Nat → Int} (hrp0 : rp_ st0 be may fx X0 t0) (T0 : rn_T n nu be th may fx X0 t0) :
    Ev_ (fun n => f_turns n st0 (n_ a) (n_ b) (n_ (if hi then 1 else 0))) (fun s => ms_ [22, 24, 26, 27, 28] st0 s ∧ ∃ X t, rp_ s be may (rn_fxu fx (8 * a + b)) X t ∧ rn_T n nu be th may fx X t ∧ (∀ j, j < 64 → fx j = true → X j = X0 j) ∧ sm_ hi n nu be th fx (8 * a + b) X) := by
  have hrp1 := rp_fx hrp0 (show 8 * a + b < 64 by omega)
  have h21 := hrp1.1 (8 * a + b) (by omega)
  have h22 := hrp1.2.1 (8 * a + b) (by omega)
  have fin : ∀ (y : Int32 × MS) (v : Int), (∃ X x t, ms_ [22, 24, 27, 28] (m_sa st0 26 (8 * a + b) (n_ 1)) y.2 ∧ rp_ y.2 be may (rn_fxu fx (8 * a + b)) x t ∧ (∀ j, j ≠ 8 * a + b → x j = X j) ∧ x (8 * a + b) = X0 (8 * a + b) ∧ rn_T n nu be th may fx X t ∧ (∀ j, j < 64 → fx j = true → X j = X0 j) ∧ sm_ hi n nu be th fx (8 * a + b) X ∧ v = X (8 * a + b)) → (ms_ [22, 24, 26, 27, 28] st0 (m_sa y.2 22 (8 * a + b) (q_ v)) ∧ ∃ X t, rp_ (m_sa y.2 22 (8 * a + b) (q_ v)) be may (rn_fxu fx (8 * a + b)) X t ∧ rn_T n nu be th may fx X t ∧ (∀ j, j < 64 → fx j = true → X j = X0 j) ∧ sm_ hi n nu be th fx (8 * a + b) X) := fun y v h => by
    obtain ⟨X, x, t, g1, g2, g3, g4, g5, g6, g7, g8⟩ := h
    refine ⟨ms_tr (ms_sa (by simp) _ _ _) (ms_tr (ms_sub g1 (by simp)) (ms_sa (by simp) _ _ _)), X, t, ?_, g5, g6, g7⟩
    have := rp_x g2 (k := 8 * a + b) (by omega) v
    have e : fw_up x (8 * a + b) v = X := by
      funext j
      by_cases c : j = 8 * a + b
      · rw [c, fw_up_at, g8]
      · rw [fw_up_ne c]; exact g3 j c
    rwa [e] at this
  have hu : ∀ n, f_turns n st0 (n_ a) (n_ b) (n_ (if hi then 1 else 0)) = m_if (hi = false) (m_b2 (f_shifts n (m_sa st0 26 (8 * a + b) (n_ 1)) (n_ a) (n_ (8 + b)) (q_ 1) (q_ (X0 (8 * a + b)))) (fun r8 s9 => some (m_sa s9 22 (8 * a + b) (q_ (X0 (8 * a + b)) - r8)))) (m_b2 (f_shifts n (m_sa st0 26 (8 * a + b) (n_ 1)) (n_ (8 + b)) (n_ a) (q_ (-1)) (q_ (be (8 * a + b) - X0 (8 * a + b)))) (fun r15 s16 => some (m_sa s16 22 (8 * a + b) (q_ (X0 (8 * a + b)) + r15)))) := fun n => by
    unfold f_turns f_turns_J84
    rw [rf_couple, m_bs]
    simp (disch := omega) only [n_lit, n_in, m_gT, n_nat, n_add, nar_b1, h21, h22, q_sub, Nat.add_comm b 8]
    rw [show (- n_ 1 : Int32) = q_ (-1) from n_neg 1]
    cases hi with
    | false => rw [ef_T (show n_ (if false = true then 1 else 0) = n_ 0 from rfl), ef_T rfl]; rfl
    | true => rw [ef_F (by rw [n_eq (by simp) (by omega)]; simp), ef_F (by simp)]
  simp only [hu]
  cases hi with
  | false =>
    refine ev_ifT rfl ?_
    refine ev_b2 (rf_shifts A hb hm ha hb8 hc hfx (hi := false) (r := a) (v := 8 + b) (ka := 1) (lf := fun X => X (8 * a + b)) (nx := fun X m => X (8 * a + b) - m) (Or.inl ⟨rfl, rfl, rfl, rfl, rfl, rfl⟩) hrp1 T0) (fun r8 s9 h => ?_)
    obtain ⟨X, x, t, g1, g2, g3, g4, g5, g6, g7, g8⟩ := h
    dsimp only at g8
    rw [g8, q_sub]
    exact ev_some (fin (r8, s9) _ ⟨X, x, t, g1, g2, g3, g4, g5, g6, g7, by omega⟩)
  | true =>
    refine ev_ifF (by simp) ?_
    refine ev_b2 (rf_shifts A hb hm ha hb8 hc hfx (hi := true) (r := 8 + b) (v := a) (ka := -1) (lf := fun X => be (8 * a + b) - X (8 * a + b)) (nx := fun X m => X (8 * a + b) + m) (Or.inr ⟨rfl, rfl, rfl, rfl, rfl, rfl⟩) hrp1 T0) (fun r8 s9 h => ?_)
    obtain ⟨X, x, t, g1, g2, g3, g4, g5, g6, g7, g8⟩ := h
    dsimp only at g8
    rw [g8, q_add]
    exact ev_some (fin (r8, s9) _ ⟨X, x, t, g1, g2, g3, g4, g5, g6, g7, by omega⟩)
/-- couples that are turned already -/
def fx_ (n k : Nat) (j : Nat) : Bool := decide (j < k ∧ j / 8 < n ∧ j % 8 < n ∧ j / 8 ≠ j % 8)
/-- couple by couple the least, up to one -/
def r1_ (n : Nat) (nu be : Nat → Int) (th : Option (Nat → Int)) (k : Nat) (X : Nat → Int) : Prop := ∀ j, j < k → ∀ y, fs_O n nu be th y → (∀ i, i < j → y i = X i) → X j ≤ y j
def rg_ (n : Nat) (nu be : Nat → Int) (th : Option (Nat → Int)) (may : Nat → Int) (st0 : MS) (k : Nat) (st : MS) : Prop := ms_ [22, 24, 26, 27, 28] st0 st ∧ ∃ X t, rp_ st be may (fx_ n k) X t ∧ rn_T n nu be th may (fx_ n k) X t ∧ r1_ n nu be th k X
theorem rg_skip {n : Nat} {nu be : Nat → Int} {th : Option (Nat → Int)} {may : Nat → Int} {st0 st : MS} {k : Nat} (hk : k < 64) (hc : ¬ fs_cp n k) (h : rg_ n nu be th may st0 k st) : rg_ n nu be th may st0 (k + 1) st := by
  obtain ⟨h1, X, t, h2, h3, h4⟩ := h
  have e : fx_ n (k + 1) = fx_ n k := by
    funext j
    unfold fx_
    rw [decide_eq_decide]
    constructor
    · intro q
      by_cases c : j = k
      · subst c; exact absurd q.2 hc
      · exact ⟨by omega, q.2⟩
    · intro q; exact ⟨by omega, q.2⟩
  refine ⟨h1, X, t, by rw [e]; exact h2, by rw [e]; exact h3, fun j hj y hy hag => ?_⟩
  by_cases c : j = k
  · subst c
    rw [h3.1.1.2.1 j hk hc, hy.1.2.1 j hk hc]; exact Int.le_refl _
  · exact h4 j (by omega) y hy hag
theorem fx_u {n k : Nat} (hc : fs_cp n k) : rn_fxu (fx_ n k) k = fx_ n (k + 1) := by
  funext j
  unfold rn_fxu fx_
  by_cases c : j = k
  · subst c; rw [if_pos rfl]; simp [hc.1, hc.2.1, hc.2.2]
  · rw [if_neg c, decide_eq_decide]
    constructor
    · intro q; exact ⟨by omega, q.2⟩
    · intro q; exact ⟨by omega, q.2⟩
theorem rf_turns_1 {n : Nat} {nu be : Nat → Int} {th : Option (Nat → Int)} {may : Nat → Int} (A : rn_A n nu be th may) (hb : ∀ c, c < 64 → 0 ≤ be c ∧ be c < 2147483648) (hm : ∀ p, p < 8 → 0 ≤ may p ∧ may p < 2147483648) {a b : Nat} (ha : a < 8) (hb8 : b < 8) (hc : fs_cp n (8 * a + b)) {st0 st : MS} (h : rg_ n nu be th may st0 (8 * a + b) st) : Ev_ (fun n => f_turns n st (n_ a) (n_ b) 0) (fun s => rg_ n nu be th may st0 (8 * a + b + 1) s) := by
  obtain ⟨h1, X0, t0, h2, h3, h4⟩ := h
  have hf : fx_ n (8 * a + b) (8 * a + b) = false := by unfold fx_; simp
  rw [n_lit 0]
  refine ev_w (rf_turns A hb hm ha hb8 hc hf false h2 h3) (fun s hs => ?_)
  obtain ⟨g1, X, t, g2, g3, g4, g5⟩ := hs
  have same : ∀ j, j < 8 * a + b → X j = X0 j := fun j hj => by
    by_cases c : fs_cp n j
    · exact g4 j (by omega) (by unfold fx_; simp [c.1, c.2.1, c.2.2]; exact hj)
    · rw [g3.1.1.2.1 j (by omega) c, h3.1.1.2.1 j (by omega) c]
  refine ⟨ms_tr h1 g1, X, t, by rw [← fx_u hc]; exact g2, ⟨g3.1, g3.2.1, ?_⟩, fun j hj y hy hag => ?_⟩
  · obtain ⟨pi, P⟩ := g3.2.2
    exact ⟨pi, by rw [← fx_u hc]; exact rn_P_mono P (fun _ _ => rfl)⟩
  · by_cases c : j = 8 * a + b
    · subst c
      exact g5 y hy (fun i hi hf => hag i (by unfold fx_ at hf; simp at hf; exact hf.1))
    · rw [same j (by omega)]
      exact h4 j (by omega) y hy (fun i hi => by rw [hag i hi, same i (by omega)])
