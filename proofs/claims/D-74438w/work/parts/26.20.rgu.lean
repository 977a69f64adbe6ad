set_option maxRecDepth 100000
/-! The reference's rows -/
def lxx_ (L : Nat → Nat) : Nat → Nat
  | 0 => 0
  | p + 1 => max (lxx_ L p) (L p)
theorem lxx_ge {L : Nat → Nat} : ∀ {n p : Nat}, p < n → L p ≤ lxx_ L n := by
  intro n
  induction n with
  | zero => intro p h; omega
  | succ n ih =>
    intro p h
    simp only [lxx_]
    by_cases e : p = n
    · subst e; omega
    · have := ih (show p < n by omega); omega
theorem lxx_le {L : Nat → Nat} {m : Nat} : ∀ {n : Nat}, (∀ p, p < n → L p ≤ m) → lxx_ L n ≤ m := by
  intro n
  induction n with
  | zero => intro _; exact Nat.zero_le _
  | succ n ih =>
    intro h
    simp only [lxx_]
    have a := ih (fun p hp => h p (by omega))
    have b := h n (by omega)
    omega
theorem lxx_ex (L : Nat → Nat) : ∀ n, 0 < n → ∃ p, p < n ∧ lxx_ L n = L p := by
  intro n
  induction n with
  | zero => intro h; omega
  | succ n ih =>
    intro _
    simp only [lxx_]
    by_cases c : lxx_ L n ≤ L n
    · exact ⟨n, by omega, by omega⟩
    · by_cases z : n = 0
      · subst z; exact ⟨0, by omega, by simp only [lxx_] at c; omega⟩
      · obtain ⟨p, h1, h2⟩ := ih (by omega)
        exact ⟨p, by omega, by omega⟩
theorem lxx_congr {L L' : Nat → Nat} : ∀ {n : Nat}, (∀ p, p < n → L p = L' p) → lxx_ L n = lxx_ L' n := by
  intro n
  induction n with
  | zero => intro _; rfl
  | succ n ih => intro h; simp only [lxx_, ih (fun p hp => h p (by omega)), h n (by omega)]
/-- how many the longest row has -/
def cN_ (np : Nat) (L : Nat → Nat) : Nat := if lxx_ L np < 2 then 0 else lxx_ L np
/-- the first that is so -/
def fi_ (P : Nat → Bool) : Nat → Nat → Nat
  | 0, b => b
  | m + 1, b => if P b = true then b else fi_ P m (b + 1)
theorem fi_spec (P : Nat → Bool) : ∀ m b, b ≤ fi_ P m b ∧ fi_ P m b ≤ b + m ∧ (∀ x, b ≤ x → x < fi_ P m b → P x = false) ∧ (fi_ P m b < b + m → P (fi_ P m b) = true) := by
  intro m
  induction m with
  | zero => intro b; exact ⟨Nat.le_refl _, Nat.le_refl _, fun x h1 h2 => by simp only [fi_] at h2; omega, fun h => by simp only [fi_] at h; omega⟩
  | succ m ih =>
    intro b
    simp only [fi_]
    by_cases c : P b = true
    · rw [if_pos c]; exact ⟨Nat.le_refl _, by omega, fun x h1 h2 => by omega, fun _ => c⟩
    · rw [if_neg c]
      obtain ⟨h1, h2, h3, h4⟩ := ih (b + 1)
      refine ⟨by omega, by omega, fun x g1 g2 => ?_, fun h => h4 (by omega)⟩
      by_cases e : x = b
      · rw [e]; simpa using c
      · exact h3 x (by omega) g2
theorem fi_lt {P : Nat → Bool} {m b x : Nat} (h1 : b ≤ x) (h2 : x < b + m) (h : P x = true) : fi_ P m b ≤ x ∧ P (fi_ P m b) = true := by
  obtain ⟨g1, g2, g3, g4⟩ := fi_spec P m b
  have : fi_ P m b ≤ x := by
    rcases Nat.lt_or_ge x (fi_ P m b) with c | c
    · have := g3 x h1 c; rw [this] at h; cases h
    · exact c
  exact ⟨this, g4 (by omega)⟩
theorem fi_congr {P P' : Nat → Bool} : ∀ {m b : Nat}, (∀ x, b ≤ x → x < b + m → P x = P' x) → fi_ P m b = fi_ P' m b := by
  intro m
  induction m with
  | zero => intro b _; rfl
  | succ m ih =>
    intro b h
    simp only [fi_, h b (by omega) (by omega), ih (b := b + 1) (fun x h1 h2 => h x (by omega) (by omega))]
/-- the longest row, party by party -/
def cw_ (np : Nat) (f : Nat → Int) (L : Nat → Nat) (N : Nat) : Nat → Nat
  | 0 => fi_ (fun p => decide (L p = N)) np 0
  | k + 1 => fi_ (fun q => decide (0 < f (8 * cw_ np f L N k + q)) && decide (L q = N - (k + 1))) np 0
theorem cw_ok {np : Nat} {f : Nat → Int} {L : Nat → Nat} (h : Lg_ np f L) : ∀ k, k < cN_ np L → cw_ np f L (cN_ np L) k < np ∧ L (cw_ np f L (cN_ np L) k) = cN_ np L - k := by
  intro k
  induction k with
  | zero =>
    intro hk
    have c : ¬ lxx_ L np < 2 := fun c => by unfold cN_ at hk; rw [if_pos c] at hk; omega
    have e : cN_ np L = lxx_ L np := by unfold cN_; rw [if_neg c]
    have h0 : 0 < np := by
      rcases Nat.eq_zero_or_pos np with z | z
      · subst z; simp only [lxx_] at c; omega
      · exact z
    obtain ⟨p, hp, ep⟩ := lxx_ex L np h0
    obtain ⟨g1, g2⟩ := fi_lt (P := fun p => decide (L p = cN_ np L)) (m := np) (b := 0) (x := p) (by omega) (by omega) (by simp [e, ep])
    refine ⟨by show fi_ _ _ _ < np; omega, ?_⟩
    show L (fi_ _ _ _) = _
    simpa using g2
  | succ k ih =>
    intro hk
    obtain ⟨a1, a2⟩ := ih (by omega)
    rcases (h _ a1).2.2.2 with c | ⟨q, q1, q2, q3⟩
    · omega
    · obtain ⟨g1, g2⟩ := fi_lt (P := fun q => decide (0 < f (8 * cw_ np f L (cN_ np L) k + q)) && decide (L q = cN_ np L - (k + 1))) (m := np) (b := 0) (x := q) (by omega) (by omega) (by simp [q2]; omega)
      refine ⟨by show fi_ _ _ _ < np; omega, ?_⟩
      show L (fi_ _ _ _) = _
      simp at g2
      exact g2.2
theorem cw_congr {np : Nat} {f : Nat → Int} {L L' : Nat → Nat} (h : ∀ p, p < np → L p = L' p) (N : Nat) : ∀ k, cw_ np f L N k = cw_ np f L' N k := by
  intro k
  induction k with
  | zero => exact fi_congr (fun x _ hx => by rw [h x (by omega)])
  | succ k ih => simp only [cw_, ih]; exact fi_congr (fun x _ hx => by rw [h x (by omega)])
def rwz_ (np : Nat) (st : MS) (R : Nat → Nat) : Prop := ∀ x, x < np → st.2.1 20 x = n_ (R x)
theorem rf_rows_48 {np : Nat} (h8 : np ≤ 8) {f : Nat → Int} (hf : ff_ f) (hd : ∀ p, f (8 * p + p) ≤ 0) {L : Nat → Nat} (hL : Lg_ np f L) {st : MS} (h5 : st.1 5 = n_ np) (h17 : ∀ c, c < 64 → st.2.1 17 c = q_ (f c)) {R : Nat → Nat} (hR : rwz_ np st R) (hb : ∀ x, x < np → R x ≤ L x) (v1 v2 : Int32) {p : Nat} (hp : p < np) : Ev_ (fun n => f_laysRows_L48l n v1 v2 (n_ p) (0, st)) (fun s => ms_ [20] st s ∧ ∃ R', rwz_ np s R' ∧ (∀ x, x < np → R' x ≤ L x) ∧ (∀ x, x ≠ p → R' x = R x) ∧ R p ≤ R' p ∧ ∀ q, q < np → 0 < f (8 * p + q) → R q < R' p) := by
  unfold f_laysRows_L48l
  refine ev_for np (fun (i : Nat) (y : Int32 × MS) => y.1 = n_ i ∧ ms_ [20] st y.2 ∧ ∃ R', rwz_ np y.2 R' ∧ (∀ x, x < np → R' x ≤ L x) ∧ (∀ x, x ≠ p → R' x = R x) ∧ R p ≤ R' p ∧ ∀ q, q < i → 0 < f (8 * p + q) → R q < R' p) (fun i y hi hP => ?_) (fun y hP => ?_) _ ⟨n_lit 0, ms_rfl _ _, R, hR, hb, fun _ _ => rfl, Nat.le_refl _, fun q hq => absurd hq (Nat.not_lt_zero _)⟩
  · obtain ⟨v, s1⟩ := y
    obtain ⟨e0, g1, R', g2, g3, g4, g5, g6⟩ := hP
    dsimp only at e0 g1 g2 ⊢
    subst e0
    have hc : 8 * p + i < 64 := by omega
    have h171 : s1.2.1 17 (8 * p + i) = q_ (f (8 * p + i)) := by rw [g1.2.2 17 (by simp)]; exact h17 _ hc
    have f0 := hf.1 (8 * p + i)
    have f1 := hf.2 (8 * p + i) hc
    have hLi := (hL i hi).2.1
    have hLp := (hL p hp).2.1
    have bi := g3 i hi
    have bp := g3 p hp
    have hn1 : n_ i + 1 = n_ (i + 1) := by rw [n_lit 1, n_add]
    by_cases c1 : 0 < f (8 * p + i)
    · have hip : i ≠ p := fun e => by subst e; have := hd i; omega
      have hlt := (hL p hp).2.2.1 i hi c1
      by_cases c2 : R' i < R' p
      · refine ev_eq (r := .inl (n_ (i + 1), s1)) (fun n => ?_) ⟨_, rfl, rfl, g1, R', g2, g3, g4, g5, fun q hq hfq => ?_⟩
        · unfold f_laysRows_L48 f_laysRows_J102
          rw [show s1.1 5 = n_ np by rw [g1.1]; exact h5, ef_F (by rw [n_le (by omega) (by omega)]; omega), rf_couple, m_bs, n_in hc (by omega), m_gT, n_nat (by omega), h171, ef_F (by rw [q_0, q_le' (by omega) (by omega) (by omega) (by omega)]; omega), n_in (show i < 8 by omega) (by omega), n_in (show p < 8 by omega) (by omega), m_gT, m_gT, n_nat (by omega), n_nat (by omega), g2 i hi, g2 p hp, ef_T (by rw [n_lt (by omega) (by omega)]; exact c2), hn1]
        · by_cases e : q = i
          · rw [e, ← g4 i hip]; exact c2
          · exact g6 q (by omega) hfq
      · refine ev_eq (r := .inl (n_ (i + 1), m_sa s1 20 p (n_ (R' i + 1)))) (fun n => ?_) ⟨_, rfl, rfl, ms_tr g1 (ms_sa (by simp) _ _ _), fun x => if x = p then R' i + 1 else R' x, fun x hx => ?_, fun x hx => ?_, fun x hx => ?_, ?_, fun q hq hfq => ?_⟩
        · unfold f_laysRows_L48 f_laysRows_J102
          rw [show s1.1 5 = n_ np by rw [g1.1]; exact h5, ef_F (by rw [n_le (by omega) (by omega)]; omega), rf_couple, m_bs, n_in hc (by omega), m_gT, n_nat (by omega), h171, ef_F (by rw [q_0, q_le' (by omega) (by omega) (by omega) (by omega)]; omega), n_in (show i < 8 by omega) (by omega), n_in (show p < 8 by omega) (by omega), m_gT, m_gT, n_nat (by omega), n_nat (by omega), g2 i hi, g2 p hp, ef_F (by rw [n_lt (by omega) (by omega)]; exact c2), m_gT, m_gT, hn1, show n_ (R' i) + 1 = n_ (R' i + 1) from by rw [n_lit 1, n_add]]
        · dsimp only
          rw [sa_at]
          by_cases e : x = p
          · rw [e, upd_at, if_pos rfl]
          · rw [upd_ne e, if_neg e]; exact g2 x hx
        · dsimp only
          by_cases e : x = p
          · rw [if_pos e, e]; omega
          · rw [if_neg e]; exact g3 x hx
        · dsimp only; rw [if_neg hx]; exact g4 x hx
        · dsimp only; rw [if_pos rfl]; omega
        · dsimp only; rw [if_pos rfl]
          by_cases e : q = i
          · rw [e, ← g4 i hip]; omega
          · have := g6 q (by omega) hfq; omega
    · refine ev_eq (r := .inl (n_ (i + 1), s1)) (fun n => ?_) ⟨_, rfl, rfl, g1, R', g2, g3, g4, g5, fun q hq hfq => ?_⟩
      · unfold f_laysRows_L48 f_laysRows_J102
        rw [show s1.1 5 = n_ np by rw [g1.1]; exact h5, ef_F (by rw [n_le (by omega) (by omega)]; omega), rf_couple, m_bs, n_in hc (by omega), m_gT, n_nat (by omega), h171, ef_T (by rw [q_0, q_le' (by omega) (by omega) (by omega) (by omega)]; omega), hn1]
      · by_cases e : q = i
        · rw [e] at hfq; omega
        · exact g6 q (by omega) hfq
  · obtain ⟨v, s1⟩ := y
    obtain ⟨e0, g1, R', g2, g3, g4, g5, g6⟩ := hP
    dsimp only at e0 g1 g2 ⊢
    subst e0
    refine ev_eq (r := .inr s1) (fun n => ?_) ⟨_, rfl, g1, R', g2, g3, g4, g5, g6⟩
    unfold f_laysRows_L48
    rw [show s1.1 5 = n_ np by rw [g1.1]; exact h5, ef_T (by rw [n_le (by omega) (by omega)]; omega)]
theorem rf_rows_37 {np : Nat} (h8 : np ≤ 8) {f : Nat → Int} (hf : ff_ f) (hd : ∀ p, f (8 * p + p) ≤ 0) {L : Nat → Nat} (hL : Lg_ np f L) {st : MS} (h5 : st.1 5 = n_ np) (h17 : ∀ c, c < 64 → st.2.1 17 c = q_ (f c)) {R : Nat → Nat} (hR : rwz_ np st R) {r mo : Nat} (hb : ∀ x, x < np → R x ≤ L x ∧ min (L x) (r + 1) ≤ R x) (hmo : mo ≤ lxx_ L np) (v2 : Int32) : Ev_ (fun n => f_laysRows_L37l n v2 (n_ mo, 0, st)) (fun y => ms_ [20] st y.2 ∧ ∃ R' mo', rwz_ np y.2 R' ∧ y.1 = n_ mo' ∧ mo' ≤ lxx_ L np ∧ (∀ x, x < np → R' x ≤ L x ∧ min (L x) (r + 2) ≤ R' x) ∧ ∀ x, x < np → min (L x) (r + 2) ≤ mo') := by
  have hlx : lxx_ L np ≤ 8 := lxx_le (fun p hp => by have := (hL p hp).2.1; omega)
  unfold f_laysRows_L37l
  refine ev_for np (fun (i : Nat) (y : Int32 × Int32 × MS) => y.2.1 = n_ i ∧ ms_ [20] st y.2.2 ∧ ∃ R' mo', rwz_ np y.2.2 R' ∧ y.1 = n_ mo' ∧ mo' ≤ lxx_ L np ∧ (∀ x, x < np → R' x ≤ L x ∧ min (L x) (r + 1) ≤ R' x ∧ (x < i → min (L x) (r + 2) ≤ R' x)) ∧ ∀ x, x < i → min (L x) (r + 2) ≤ mo') (fun i y hi hP => ?_) (fun y hP => ?_) _ ⟨n_lit 0, ms_rfl _ _, R, mo, hR, rfl, hmo, fun x hx => ⟨(hb x hx).1, (hb x hx).2, fun h => absurd h (Nat.not_lt_zero _)⟩, fun x h => absurd h (Nat.not_lt_zero _)⟩
  · obtain ⟨w1, w3, s1⟩ := y
    obtain ⟨e0, g1, R', mo', g2, e1, g3, g4, g5⟩ := hP
    dsimp only at e0 g1 g2 e1 ⊢
    subst e0; subst e1
    unfold f_laysRows_L37
    rw [show s1.1 5 = n_ np by rw [g1.1]; exact h5]
    refine ev_ifF (by rw [n_le (by omega) (by omega)]; omega) ?_
    refine ev_b (rf_rows_48 h8 hf hd hL (by rw [g1.1]; exact h5) (fun c hc => by rw [g1.2.2 17 (by simp)]; exact h17 c hc) g2 (fun x hx => (g4 x hx).1) _ v2 hi) (fun s2 hs2 => ?_)
    obtain ⟨m2, R2, a1, a2, a3, a4, a5⟩ := hs2
    have hLi := (hL i hi).2.1
    have bi := a2 i hi
    have key : min (L i) (r + 2) ≤ R2 i := by
      rcases (hL i hi).2.2.2 with c | ⟨q, q1, q2, q3⟩
      · have := (g4 i hi).2.1; omega
      · have b1 := a5 q q1 q2
        have b2 := (g4 q q1).2.1
        omega
    refine ev_g (n_in (by omega) (by omega)) ?_
    unfold f_laysRows_J128
    rw [n_nat (by omega), a1 i hi, show n_ i + 1 = n_ (i + 1) from by rw [n_lit 1, n_add]]
    have hbnd : ∀ x, x < np → R2 x ≤ L x ∧ min (L x) (r + 1) ≤ R2 x ∧ (x < i + 1 → min (L x) (r + 2) ≤ R2 x) := fun x hx => by
      by_cases e : x = i
      · subst e; exact ⟨bi, by have := (g4 x hx).2.1; omega, fun _ => key⟩
      · rw [a3 x e]; exact ⟨(g4 x hx).1, (g4 x hx).2.1, fun h => (g4 x hx).2.2 (by omega)⟩
    refine ev_ifq (c' := R2 i ≤ mo') (by rw [n_le (by omega) (by omega)]) (fun c => ?_) (fun c => ?_)
    · exact ev_some ⟨_, rfl, rfl, ms_tr g1 m2, R2, mo', a1, rfl, g3, hbnd, fun x hx => by
        by_cases e : x = i
        · subst e; omega
        · exact g5 x (by omega)⟩
    · refine ev_g (n_in (by omega) (by omega)) ?_
      exact ev_some ⟨_, rfl, rfl, ms_tr g1 m2, R2, R2 i, a1, rfl, by have := lxx_ge (L := L) hi; omega, hbnd, fun x hx => by
        by_cases e : x = i
        · subst e; exact key
        · have := g5 x (by omega); omega⟩
  · obtain ⟨w1, w3, s1⟩ := y
    obtain ⟨e0, g1, R', mo', g2, e1, g3, g4, g5⟩ := hP
    dsimp only at e0 g1 g2 e1 ⊢
    subst e0; subst e1
    refine ev_eq (r := .inr (n_ mo', s1)) (fun n => ?_) ⟨_, rfl, g1, R', mo', g2, rfl, g3, fun x hx => ⟨(g4 x hx).1, (g4 x hx).2.2 hx⟩, g5⟩
    unfold f_laysRows_L37
    rw [show s1.1 5 = n_ np by rw [g1.1]; exact h5, ef_T (by rw [n_le (by omega) (by omega)]; omega)]
theorem rf_laysRows {np : Nat} (h8 : np ≤ 8) {f : Nat → Int} (hf : ff_ f) (hd : ∀ p, f (8 * p + p) ≤ 0) {L : Nat → Nat} (hL : Lg_ np f L) {st : MS} (h5 : st.1 5 = n_ np) (h17 : ∀ c, c < 64 → st.2.1 17 c = q_ (f c)) : Ev_ (fun n => f_laysRows n st) (fun r => ms_ [20] st r.2 ∧ rwz_ np r.2 L ∧ r.1 = n_ (cN_ np L)) := by
  have hlx : lxx_ L np ≤ 8 := lxx_le (fun p hp => by have := (hL p hp).2.1; omega)
  unfold f_laysRows
  refine ev_b (P := fun s => ms_ [20] st s ∧ rwz_ np s (fun _ => 1)) ?_ (fun s4 h4 => ?_)
  · unfold f_laysRows_L4l
    refine ev_for np (fun (i : Nat) (y : Int32 × MS) => y.1 = n_ i ∧ ms_ [20] st y.2 ∧ rwz_ i y.2 (fun _ => 1)) (fun i y hi hP => ?_) (fun y hP => ?_) _ ⟨n_lit 0, ms_rfl _ _, fun x hx => absurd hx (Nat.not_lt_zero _)⟩
    · obtain ⟨v, s1⟩ := y
      obtain ⟨e0, g1, g2⟩ := hP
      dsimp only at e0 g1 g2 ⊢
      subst e0
      refine ev_eq (r := .inl (n_ (i + 1), m_sa s1 20 i 1)) (fun n => ?_) ⟨_, rfl, rfl, ms_tr g1 (ms_sa (by simp) _ _ _), fun x hx => ?_⟩
      · unfold f_laysRows_L4
        rw [show s1.1 5 = n_ np by rw [g1.1]; exact h5, ef_F (by rw [n_le (by omega) (by omega)]; omega), n_in (show i < 8 by omega) (by omega), m_gT, n_nat (by omega), show n_ i + 1 = n_ (i + 1) from by rw [n_lit 1, n_add]]
      · dsimp only
        rw [sa_at]
        by_cases e : x = i
        · rw [e, upd_at, n_lit 1]
        · rw [upd_ne e]; exact g2 x (by omega)
    · obtain ⟨v, s1⟩ := y
      obtain ⟨e0, g1, g2⟩ := hP
      dsimp only at e0 g1 g2 ⊢
      subst e0
      refine ev_eq (r := .inr s1) (fun n => ?_) ⟨_, rfl, g1, g2⟩
      unfold f_laysRows_L4
      rw [show s1.1 5 = n_ np by rw [g1.1]; exact h5, ef_T (by rw [n_le (by omega) (by omega)]; omega)]
  · refine ev_b (P := fun y => ms_ [20] st y.2 ∧ rwz_ np y.2 L ∧ y.1 = n_ (lxx_ L np)) ?_ (fun y hy => ?_)
    · unfold f_laysRows_L27l
      refine ev_for np (fun (i : Nat) (y : Int32 × Int32 × MS) => y.2.1 = n_ i ∧ ms_ [20] st y.2.2 ∧ ∃ R mo, rwz_ np y.2.2 R ∧ y.1 = n_ mo ∧ mo ≤ lxx_ L np ∧ (∀ x, x < np → R x ≤ L x ∧ min (L x) (i + 1) ≤ R x) ∧ (i = 0 ∨ ∀ x, x < np → min (L x) (i + 1) ≤ mo)) (fun i y hi hP => ?_) (fun y hP => ?_) _ ⟨n_lit 0, h4.1, fun _ => 1, 0, h4.2, n_lit 0, Nat.zero_le _, fun x hx => by have := (hL x hx).1; dsimp only; omega, Or.inl rfl⟩
      · obtain ⟨w1, w2, s1⟩ := y
        obtain ⟨e0, g1, R, mo, g2, e1, g3, g4, g5⟩ := hP
        dsimp only at e0 g1 g2 e1 ⊢
        subst e0; subst e1
        unfold f_laysRows_L27
        rw [show s1.1 5 = n_ np by rw [g1.1]; exact h5]
        refine ev_ifF (by rw [n_le (by omega) (by omega)]; omega) ?_
        refine ev_b (rf_rows_37 h8 hf hd hL (by rw [g1.1]; exact h5) (fun c hc => by rw [g1.2.2 17 (by simp)]; exact h17 c hc) g2 g4 g3 _) (fun y2 hy2 => ?_)
        obtain ⟨m2, R2, mo2, a1, a2, a3, a4, a5⟩ := hy2
        rw [show n_ i + 1 = n_ (i + 1) from by rw [n_lit 1, n_add]]
        exact ev_some ⟨_, rfl, rfl, ms_tr g1 m2, R2, mo2, a1, a2, a3, a4, Or.inr a5⟩
      · obtain ⟨w1, w2, s1⟩ := y
        obtain ⟨e0, g1, R, mo, g2, e1, g3, g4, g5⟩ := hP
        dsimp only at e0 g1 g2 e1 ⊢
        subst e0; subst e1
        have hmo : mo = lxx_ L np := by
          rcases g5 with c | c
          · subst c; simp only [lxx_] at g3 ⊢; omega
          · have := lxx_le (L := L) (m := mo) (n := np) (fun p hp => by have := c p hp; have := (hL p hp).2.1; omega)
            omega
        refine ev_eq (r := .inr (n_ mo, s1)) (fun n => ?_) ⟨_, rfl, g1, fun x hx => ?_, by rw [hmo]⟩
        · unfold f_laysRows_L27
          rw [show s1.1 5 = n_ np by rw [g1.1]; exact h5, ef_T (by rw [n_le (by omega) (by omega)]; omega)]
        · rw [g2 x hx]
          congr 1
          have := g4 x hx
          have := (hL x hx).2.1
          omega
    · obtain ⟨m1, r1, e1⟩ := hy
      rw [e1]
      unfold f_laysRows_J151
      refine ev_ifq (c' := 2 ≤ lxx_ L np) (by rw [n_lit 2, n_le (by omega) (by omega)]) (fun c => ?_) (fun c => ?_)
      · exact ev_some ⟨m1, r1, by unfold cN_; rw [if_neg (by omega)]⟩
      · exact ev_some ⟨m1, r1, by unfold cN_; rw [if_pos (by omega)]; exact n_lit 0⟩
