set_option maxRecDepth 100000
/-! Rings, on: what they carry, and taking them -/
def ld_ (f : Nat → Int) (row : List Nat) : Nat → Int
  | 0 => f (rg_c row 0)
  | i + 1 => min (ld_ f row i) (f (rg_c row (i + 1)))
/-- a ring's load -/
def rg_ld (f : Nat → Int) (row : List Nat) : Int := ld_ f row (row.length - 1)
def tk_ (f : Nat → Int) (row : List Nat) (l : Int) : Nat → (Nat → Int)
  | 0 => f
  | i + 1 => fw_up (tk_ f row l i) (rg_c row i) (tk_ f row l i (rg_c row i) - l)
/-- a ring is taken -/
def rg_tk (f : Nat → Int) (row : List Nat) : Nat → Int := tk_ f row (rg_ld f row) row.length
theorem ld_le (f : Nat → Int) (row : List Nat) : ∀ i j, j ≤ i → ld_ f row i ≤ f (rg_c row j) := by
  intro i
  induction i with
  | zero => intro j hj; rw [show j = 0 by omega]; exact Int.le_refl _
  | succ i ih =>
    intro j hj
    simp only [ld_]
    by_cases c : j = i + 1
    · rw [c]; omega
    · have := ih j (by omega); omega
theorem ld_ex (f : Nat → Int) (row : List Nat) : ∀ i, ∃ j, j ≤ i ∧ ld_ f row i = f (rg_c row j) := by
  intro i
  induction i with
  | zero => exact ⟨0, by omega, rfl⟩
  | succ i ih =>
    obtain ⟨j, h1, h2⟩ := ih
    simp only [ld_]
    rcases Int.le_total (ld_ f row i) (f (rg_c row (i + 1))) with c | c
    · exact ⟨j, by omega, by rw [← h2]; omega⟩
    · exact ⟨i + 1, by omega, by omega⟩
theorem gD_inj {row : List Nat} (h : row.Nodup) {i j : Nat} (hi : i < row.length) (hj : j < row.length) (e : row.getD i 0 = row.getD j 0) : i = j := by
  rw [List.getD_eq_getElem?_getD, List.getD_eq_getElem?_getD, List.getElem?_eq_getElem hi, List.getElem?_eq_getElem hj] at e
  simp only [Option.getD_some] at e
  have hp := List.pairwise_iff_getElem.mp h
  rcases Nat.lt_trichotomy i j with q | q | q
  · exact absurd e (hp i j hi hj q)
  · exact q
  · exact absurd e.symm (hp j i hj hi q)
theorem rg_c_lt {np : Nat} (h8 : np ≤ 8) {row : List Nat} (h2 : 2 ≤ row.length) (h : ∀ x ∈ row, x < np) {i : Nat} (hi : i < row.length) : rg_c row i < 64 ∧ rg_c row i / 8 = row.getD i 0 := by
  have h1 := gD_lt h hi
  have h3 := gD_lt h (show (i + 1) % row.length < row.length from Nat.mod_lt _ (by omega))
  unfold rg_c
  omega
theorem rg_c_inj {np : Nat} (h8 : np ≤ 8) {f : Nat → Int} {row : List Nat} (h : rg_ok np f row) {i j : Nat} (hi : i < row.length) (hj : j < row.length) (e : rg_c row i = rg_c row j) : i = j := by
  have h1 := (rg_c_lt h8 h.1 h.2.2.1 hi).2
  have h2 := (rg_c_lt h8 h.1 h.2.2.1 hj).2
  rw [e] at h1
  exact gD_inj h.2.2.2.1 hi hj (h1.symm.trans h2)
theorem tk_at {np : Nat} (h8 : np ≤ 8) {f : Nat → Int} {row : List Nat} (h : rg_ok np f row) (l : Int) : ∀ i, i ≤ row.length → (∀ j, j < row.length → tk_ f row l i (rg_c row j) = f (rg_c row j) - (if j < i then l else 0)) ∧ (∀ c, (∀ j, j < row.length → c ≠ rg_c row j) → tk_ f row l i c = f c) := by
  intro i
  induction i with
  | zero => intro _; exact ⟨fun j _ => by simp [tk_], fun c _ => rfl⟩
  | succ i ih =>
    intro hi
    obtain ⟨k1, k2⟩ := ih (by omega)
    refine ⟨fun j hj => ?_, fun c hc => ?_⟩
    · simp only [tk_]
      by_cases e : j = i
      · subst e; rw [fw_up_at, k1 j hj, if_neg (by omega), if_pos (by omega)]; omega
      · rw [fw_up_ne (fun z => e (rg_c_inj h8 h hj (by omega) z)), k1 j hj]
        by_cases c : j < i
        · rw [if_pos c, if_pos (by omega)]
        · rw [if_neg c, if_neg (by omega)]
    · simp only [tk_]
      rw [fw_up_ne (hc i (by omega))]; exact k2 c hc
/-- taking a ring: nothing falls below nothing, nothing grows, and one couple less has something -/
theorem rg_tk_le {np : Nat} (h8 : np ≤ 8) {f : Nat → Int} (hf : ∀ c, 0 ≤ f c) {row : List Nat} (h : rg_ok np f row) : (∀ c, 0 ≤ rg_tk f row c ∧ rg_tk f row c ≤ f c) ∧ 0 < rg_ld f row ∧ ∃ c, c < 64 ∧ 0 < f c ∧ rg_tk f row c = 0 := by
  obtain ⟨k1, k2⟩ := tk_at h8 h (rg_ld f row) row.length (Nat.le_refl _)
  have hl := h.1
  obtain ⟨j0, hj0, ej0⟩ := ld_ex f row (row.length - 1)
  have hpos : 0 < rg_ld f row := by unfold rg_ld; rw [ej0]; exact h.2.2.2.2 j0 (by omega)
  refine ⟨fun c => ?_, hpos, rg_c row j0, (rg_c_lt h8 h.1 h.2.2.1 (by omega)).1, h.2.2.2.2 j0 (by omega), ?_⟩
  · by_cases q : ∃ j, j < row.length ∧ c = rg_c row j
    · obtain ⟨j, hj, rfl⟩ := q
      unfold rg_tk
      rw [k1 j hj, if_pos hj]
      have := ld_le f row (row.length - 1) j (by omega)
      have e : rg_ld f row = ld_ f row (row.length - 1) := rfl
      omega
    · unfold rg_tk
      rw [k2 c (fun j hj e => q ⟨j, hj, e⟩)]
      exact ⟨hf c, Int.le_refl _⟩
  · unfold rg_tk
    rw [k1 j0 (by omega), if_pos (by omega)]
    have e : rg_ld f row = ld_ f row (row.length - 1) := rfl
    rw [e, ej0]; omega
theorem ct_lt {f g : Nat → Int} : ∀ n, (∀ c, c < n → g c ≤ f c) → (∃ c, c < n ∧ 0 < f c ∧ g c ≤ 0) → ct_ n g < ct_ n f := by
  have le : ∀ n, (∀ c, c < n → g c ≤ f c) → ct_ n g ≤ ct_ n f := by
    intro n
    induction n with
    | zero => intro _; exact Nat.le_refl _
    | succ n ih =>
      intro h
      have h1 := ih (fun c hc => h c (by omega))
      have h2 := h n (by omega)
      simp only [ct_]
      by_cases c1 : 0 < g n
      · rw [if_pos c1, if_pos (by omega)]; omega
      · rw [if_neg c1]; split <;> omega
  intro n
  induction n with
  | zero => intro _ ⟨c, hc, _⟩; omega
  | succ n ih =>
    intro h ⟨c, hc, c1, c2⟩
    simp only [ct_]
    by_cases e : c = n
    · subst e
      have := le c (fun j hj => h j (by omega))
      rw [if_neg (show ¬ 0 < g c by omega), if_pos c1]; omega
    · have h1 := ih (fun j hj => h j (by omega)) ⟨c, by omega, c1, c2⟩
      have h2 := h n (by omega)
      by_cases c3 : 0 < g n
      · rw [if_pos c3, if_pos (by omega)]; omega
      · rw [if_neg c3]; split <;> omega
theorem rf_coupleOf (n : Nat) {st : MS} {row : List Nat} (h : rr_ st row) (h2 : 2 ≤ row.length) (h8 : row.length ≤ 8) {i : Nat} (hi : i < row.length) : f_coupleOf n st (n_ i) = some (n_ (rg_c row i)) := by
  have hmod : (i + 1) % row.length < row.length := Nat.mod_lt _ (by omega)
  have e : i + 1 - (i + 1) / row.length * row.length = (i + 1) % row.length := by
    have := Nat.div_add_mod (i + 1) row.length
    rw [Nat.mul_comm] at this
    omega
  have hle : (i + 1) / row.length * row.length ≤ i + 1 := Nat.div_mul_le_self _ _
  unfold f_coupleOf
  rw [h.1, show n_ i + 1 = n_ (i + 1) from by rw [n_lit 1, n_add]]
  have hne : decide (¬ (n_ row.length : Int32) = 0) = true := by
    rw [decide_eq_true_eq, n_lit 0, n_eq (by omega) (by omega)]; omega
  rw [hne, n_div (by omega) (by omega) (by omega), n_mul, n_sub hle, e]
  simp (disch := omega) only [n_in, m_gT, n_nat]
  rw [h.2 i hi, h.2 _ hmod, rf_couple, m_bs]
  rfl
theorem rf_loadOf {np : Nat} (h8 : np ≤ 8) {f : Nat → Int} (hf : ∀ c, c < 64 → 0 ≤ f c ∧ f c < 2147483648) {st : MS} {row : List Nat} (h17 : ∀ c, c < 64 → st.2.1 17 c = q_ (f c)) (hr : rr_ st row) (ok : rg_ok np f row) : Ev_ (fun n => f_loadOf n st) (fun r => r = q_ (rg_ld f row)) := by
  have hl := ok.2.1
  have h2 := ok.1
  have hc := fun i (hi : i < row.length) => (rg_c_lt h8 h2 ok.2.2.1 hi).1
  have hb : ∀ i, i < row.length → 0 ≤ ld_ f row i ∧ ld_ f row i < 2147483648 := fun i hi => by
    obtain ⟨j, hj, ej⟩ := ld_ex f row i
    rw [ej]; exact hf _ (hc j (by omega))
  unfold f_loadOf
  rw [n_lit 0]
  refine ev_bn (fun n => rf_coupleOf n hr h2 (by omega) (show 0 < row.length by omega)) (ev_g (n_in (hc 0 (by omega)) (by omega)) ?_)
  rw [n_nat (by have := hc 0 (by omega); omega), h17 _ (hc 0 (by omega))]
  refine ev_b (P := fun r => r = q_ (rg_ld f row)) ?_ (fun r hr => ev_some hr)
  unfold f_loadOf_L13l
  refine ev_for (row.length - 1) (fun i y => y = (q_ (ld_ f row i), n_ (i + 1))) (fun i y hi hP => ?_) (fun y hP => ?_) _ (by rw [← n_lit 1]; rfl)
  · subst hP
    have hci := hc (i + 1) (by omega)
    have h17i := h17 _ hci
    have b1 := hb i (by omega)
    have b2 := hf _ hci
    refine ev_eq (r := .inl (q_ (ld_ f row (i + 1)), n_ (i + 2))) (fun n => ?_) ⟨_, rfl, rfl⟩
    unfold f_loadOf_L13 f_loadOf_J49
    dsimp only
    rw [hr.1, rf_coupleOf n hr h2 (by omega) (show i + 1 < row.length by omega)]
    simp (disch := omega) only [n_lit, n_add, m_bs, n_le, n_in, m_gT, n_nat, h17i, q_le']
    rw [ef_F (show ¬ row.length ≤ i + 1 by omega)]
    simp only [ld_]
    by_cases c : ld_ f row i ≤ f (rg_c row (i + 1))
    · rw [ef_T c, show min (ld_ f row i) (f (rg_c row (i + 1))) = ld_ f row i by omega]
    · rw [ef_F c, show min (ld_ f row i) (f (rg_c row (i + 1))) = f (rg_c row (i + 1)) by omega]
  · subst hP
    refine ev_eq (r := .inr (q_ (rg_ld f row))) (fun n => ?_) ⟨_, rfl, rfl⟩
    unfold f_loadOf_L13
    dsimp only
    rw [hr.1]
    simp (disch := omega) only [n_le]
    rw [ef_T (by omega)]; rfl
theorem rf_ringGoes {np : Nat} (h8 : np ≤ 8) {f : Nat → Int} (hf : ∀ c, c < 64 → 0 ≤ f c ∧ f c < 2147483648) {st : MS} {row : List Nat} (h17 : ∀ c, c < 64 → st.2.1 17 c = q_ (f c)) (hr : rr_ st row) (ok : rg_ok np f row) : Ev_ (fun n => f_ringGoes n st) (fun s => ms_ [17] st s ∧ ∀ c, c < 64 → s.2.1 17 c = q_ (rg_tk f row c)) := by
  have hl := ok.2.1
  have h2 := ok.1
  have hc := fun i (hi : i < row.length) => (rg_c_lt h8 h2 ok.2.2.1 hi).1
  unfold f_ringGoes
  refine ev_b (rf_loadOf h8 hf h17 hr ok) (fun r hr' => ?_)
  subst hr'
  refine ev_b (P := fun s => ms_ [17] st s ∧ ∀ c, c < 64 → s.2.1 17 c = q_ (rg_tk f row c)) ?_ (fun r hr => ev_some hr)
  unfold f_ringGoes_L7l
  refine ev_for row.length (fun i y => y.1 = n_ i ∧ ms_ [17] st y.2 ∧ ∀ c, c < 64 → y.2.2.1 17 c = q_ (tk_ f row (rg_ld f row) i c)) (fun i y hi hP => ?_) (fun y hP => ?_) _ ⟨n_lit 0, ms_rfl _ _, h17⟩
  · obtain ⟨v, s1⟩ := y
    obtain ⟨e0, g1, g2⟩ := hP
    dsimp only at e0 g1 g2 ⊢
    subst e0
    have hci := hc i hi
    have hr1 : rr_ s1 row := ⟨by rw [g1.1]; exact hr.1, fun j hj => by rw [g1.2.2 18 (by simp)]; exact hr.2 j hj⟩
    have g2i := g2 _ hci
    refine ev_eq (r := .inl (n_ (i + 1), m_sa s1 17 (rg_c row i) (q_ (tk_ f row (rg_ld f row) i (rg_c row i) - rg_ld f row)))) (fun n => ?_) ⟨_, rfl, rfl, ms_tr g1 (ms_sa (by simp) _ _ _), fun c hc => ?_⟩
    · unfold f_ringGoes_L7
      rw [hr1.1, rf_coupleOf n hr1 h2 (by omega) hi]
      simp (disch := omega) only [n_lit, n_add, m_bs, n_le, n_in, m_gT, n_nat, g2i, q_sub]
      rw [ef_F (show ¬ row.length ≤ i by omega)]
    · dsimp only
      rw [sa_at]
      simp only [tk_]
      by_cases e : c = rg_c row i
      · rw [e, upd_at, fw_up_at]
      · rw [upd_ne e, fw_up_ne e]; exact g2 c hc
  · obtain ⟨v, s1⟩ := y
    obtain ⟨e0, g1, g2⟩ := hP
    dsimp only at e0 g1 g2 ⊢
    subst e0
    refine ev_eq (r := .inr s1) (fun n => ?_) ⟨_, rfl, g1, g2⟩
    unfold f_ringGoes_L7
    rw [g1.1, hr.1]
    simp (disch := omega) only [n_le]
    rw [ef_T (by omega)]
