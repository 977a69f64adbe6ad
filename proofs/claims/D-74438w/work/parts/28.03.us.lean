set_option maxRecDepth 100000
/-! Texts, trades, states as they lie. Tags: 14 what never changes; state s: 16 s .. 16 s + 7 -/
def al2_ {α β : Type} (R : α → β → Prop) (l : List α) (m : List β) : Prop := l.length = m.length ∧ ∀ i (h : i < l.length) (h' : i < m.length), R l[i] m[i]
theorem al2_mono {α β : Type} {R R' : α → β → Prop} {l : List α} {m : List β} (h : al2_ R l m) (hr : ∀ a b, a ∈ l → R a b → R' a b) : al2_ R' l m := ⟨h.1, fun i h1 h2 => hr _ _ (List.getElem_mem _) (h.2 i h1 h2)⟩
theorem al2_app {α β : Type} {R : α → β → Prop} {l : List α} {m : List β} (h : al2_ R l m) {a : α} {b : β} (hr : R a b) : al2_ R (l ++ [a]) (m ++ [b]) := by
  refine ⟨by simp [h.1], fun i h1 h2 => ?_⟩
  simp at h1 h2
  by_cases c : i < l.length
  · rw [List.getElem_append_left c, List.getElem_append_left (by have := h.1; omega)]; exact h.2 i c (by have := h.1; omega)
  · have e := h.1
    rw [List.getElem_append_right (by omega), List.getElem_append_right (by omega)]
    simp only [List.getElem_singleton]; exact hr
theorem al2_nil {α β : Type} {R : α → β → Prop} : al2_ R ([] : List α) ([] : List β) := ⟨rfl, fun i h _ => absurd h (Nat.not_lt_zero _)⟩
theorem al2_set {α β : Type} {R : α → β → Prop} {l : List α} {m : List β} (h : al2_ R l m) {a : α} {b : β} (hr : R a b) (i : Nat) : al2_ R (l.set i a) (m.set i b) := by
  refine ⟨by simp [h.1], fun j h1 h2 => ?_⟩
  simp at h1 h2
  rw [List.getElem_set, List.getElem_set]
  by_cases c : i = j
  · rw [if_pos c, if_pos c]; exact hr
  · rw [if_neg c, if_neg c]; exact h.2 j h1 h2
theorem al2_erase {α β : Type} {R : α → β → Prop} {l : List α} {m : List β} (h : al2_ R l m) {i : Nat} (hi : i < l.length) : al2_ R (l.eraseIdx i) (m.eraseIdx i) := by
  have e := h.1
  have e1 := List.length_eraseIdx_of_lt hi
  have e2 := List.length_eraseIdx_of_lt (l := m) (i := i) (by omega)
  refine ⟨by rw [e1, e2, e], fun j h1 h2 => ?_⟩
  by_cases c : j < i
  · rw [List.getElem_eraseIdx_of_lt h1 c, List.getElem_eraseIdx_of_lt h2 c]; exact h.2 j (by omega) (by omega)
  · rw [List.getElem_eraseIdx_of_ge h1 (by omega), List.getElem_eraseIdx_of_ge h2 (by omega)]; exact h.2 (j + 1) (by omega) (by omega)
/-- a text's letters -/
def sg_ (d : UD) (o : Nat → Nat) (u : UM) (a : Nat) (w : List Nat) : Prop := ∃ v h z f, ob_ u a 15 [.ref v, .int 0, .int h, .int z] ∧ bA_ d u v w.length f ∧ (∀ i (hi : i < w.length), f i = n_ w[i]) ∧ o a = 14 ∧ o v = 14
def td_ (o : Nat → Nat) (u : UM) (a : Nat) (t : Tr_) : Prop := ob_ u a 6 [.int (n_ t.1), .int (n_ t.2.1), .int (q_ t.2.2.1), .int (n_ t.2.2.2.1), .int (n_ (if t.2.2.2.2 then 1 else 0))] ∧ o a = 14
theorem sg_keep {d : UD} {b : Nat} {K : Nat → Prop} {o o' : Nat → Nat} {u u' : UM} (h0 : uw_ b u) (g : ygt_ b K o u o' u') {a : Nat} {w : List Nat} (h : sg_ d o u a w) (hk : ¬ K 14) : sg_ d o' u' a w := by
  obtain ⟨v, hh, z, f, e1, e2, e3, e4, e5⟩ := h
  obtain ⟨a1, a2⟩ := ygt_at h0 g e1 (by rw [e4]; exact hk)
  obtain ⟨b1, b2⟩ := ygt_at h0 g e2 (by rw [e5]; exact hk)
  exact ⟨v, hh, z, f, a1, b1, e3, by rw [a2]; exact e4, by rw [b2]; exact e5⟩
theorem td_keep {b : Nat} {K : Nat → Prop} {o o' : Nat → Nat} {u u' : UM} (h0 : uw_ b u) (g : ygt_ b K o u o' u') {a : Nat} {t : Tr_} (h : td_ o u a t) (hk : ¬ K 14) : td_ o' u' a t := by
  obtain ⟨a1, a2⟩ := ygt_at h0 g h.1 (by rw [h.2]; exact hk)
  exact ⟨a1, by rw [a2]; exact h.2⟩
theorem sg_el {d : UD} {o : Nat → Nat} {u : UM} {a : Nat} {w : List Nat} (h : sg_ d o u a w) : u_el u a = true := by
  obtain ⟨v, hh, z, f, e1, _⟩ := h
  unfold u_el; rw [show u_get u.1 a = _ from e1]; rfl
theorem td_el {o : Nat → Nat} {u : UM} {a : Nat} {t : Tr_} (h : td_ o u a t) : u_el u a = true := by
  unfold u_el; rw [show u_get u.1 a = _ from h.1]; rfl
theorem al2_el {d : UD} {o : Nat → Nat} {u : UM} {l : List Nat} {m : List (List Nat)} (h : al2_ (sg_ d o u) l m) : ∀ x ∈ l, u_el u x = true := fun x hx => by
  obtain ⟨i, hi, e⟩ := List.getElem_of_mem hx
  rw [← e]; exact sg_el (h.2 i hi (by rw [← h.1]; exact hi))
theorem al2_elt {o : Nat → Nat} {u : UM} {l : List Nat} {m : List Tr_} (h : al2_ (td_ o u) l m) : ∀ x ∈ l, u_el u x = true := fun x hx => by
  obtain ⟨i, hi, e⟩ := List.getElem_of_mem hx
  rw [← e]; exact td_el (h.2 i hi (by rw [← h.1]; exact hi))
/-- a state -/
def ys_ (d : UD) (o : Nat → Nat) (u : UM) (a s : Nat) (ps ks : List (List Nat)) (x : SS_) : Prop := ∃ aP aK aT aC lP lK lT f, ob_ u a 2 [.ref aP, .ref aK, .ref aT, .ref aC, .int (n_ x.2.2)] ∧ o a = 16 * s ∧ al_ d o u aP (16 * s + 1) (16 * s + 4) lP ∧ al_ d o u aK (16 * s + 2) (16 * s + 5) lK ∧ al_ d o u aT (16 * s + 3) (16 * s + 6) lT ∧ iA_ d u aC 64 f ∧ o aC = 16 * s + 7 ∧ (∀ k, k < 64 → f k = q_ (x.2.1 k)) ∧ al2_ (sg_ d o u) lP ps ∧ al2_ (sg_ d o u) lK ks ∧ al2_ (td_ o u) lT x.1
theorem ys_keep {d : UD} {b : Nat} {K : Nat → Prop} {o o' : Nat → Nat} {u u' : UM} (h0 : uw_ b u) (g : ygt_ b K o u o' u') {a s : Nat} {ps ks : List (List Nat)} {x : SS_} (h : ys_ d o u a s ps ks x) (h14 : ¬ K 14) (hs : ∀ r, r < 8 → ¬ K (16 * s + r)) : ys_ d o' u' a s ps ks x := by
  obtain ⟨aP, aK, aT, aC, lP, lK, lT, f, e1, e2, e3, e4, e5, e6, e7, e8, e9, e10, e11⟩ := h
  obtain ⟨a1, a2⟩ := ygt_at h0 g e1 (by rw [e2]; exact hs 0 (by omega))
  obtain ⟨b1, b2⟩ := ygt_at h0 g e6 (by rw [e7]; exact hs 7 (by omega))
  exact ⟨aP, aK, aT, aC, lP, lK, lT, f, a1, by rw [a2]; exact e2, al_keep h0 g e3 (hs 1 (by omega)) (hs 4 (by omega)), al_keep h0 g e4 (hs 2 (by omega)) (hs 5 (by omega)), al_keep h0 g e5 (hs 3 (by omega)) (hs 6 (by omega)), b1, by rw [b2]; exact e7, e8, al2_mono e9 (fun _ _ _ h => sg_keep h0 g h h14), al2_mono e10 (fun _ _ _ h => sg_keep h0 g h h14), al2_mono e11 (fun _ _ _ h => td_keep h0 g h h14)⟩
/-! what is asked of a state -/
theorem us_many (n : Nat) {d : UD} {o : Nat → Nat} {u : UM} {a s : Nat} {ps ks : List (List Nat)} {x : SS_} (h : ys_ d o u a s ps ks x) : uf_X1_many n d u a = some (n_ ps.length) := by
  obtain ⟨aP, aK, aT, aC, lP, lK, lT, f, e1, e2, e3, e4, e5, e6, e7, e8, e9, e10, e11⟩ := h
  obtain ⟨fs, hfs⟩ := al_cl e3
  unfold uf_X1_many
  rw [fr_e e1 rfl, m_bs, hfs, m_bs, ul_size n e3, m_bs, e9.1]
theorem ut_isFree (n : Nat) {d : UD} {o : Nat → Nat} {u : UM} {a : Nat} {t : Tr_} (h : td_ o u a t) (ht : t.2.2.2.1 < 4) {k : Nat} (hk : k < 4) : uf_X6_isFree n d u a (n_ k) = some (b_ (tr_fr k t = true)) := by
  unfold uf_X6_isFree uf_X6_isFree_J19 uf_X6_isFree_J20
  rw [fi_e h.1 rfl, m_bs, fi_e h.1 rfl, m_bs, show m_01 1 = true from by decide, show m_01 0 = true from by decide, m_gT, m_gT]
  unfold tr_fr
  by_cases c : t.2.2.2.1 = k
  · rw [ef_T (by rw [n_eq (by omega) (by omega)]; exact c)]
    cases hk : t.2.2.2.2 with
    | true => rw [ef_F (by decide), b_F (by simp)]
    | false => rw [ef_T (by decide), b_T (by simp [c])]
  · rw [ef_F (by rw [n_eq (by omega) (by omega)]; exact c), b_F (by simp [c])]
theorem uo_one (n : Nat) (d : UD) (u : UM) {p : Prop} [Decidable p] : uf_X0_one n d u (b_ p) = some (b_ p) := by
  unfold uf_X0_one uf_X0_one_J9
  by_cases c : p
  · rw [b_T c]; rfl
  · rw [b_F c]; rfl
theorem b_n {p : Prop} [Decidable p] : b_ p = n_ (if p then 1 else 0) := by
  by_cases c : p
  · rw [b_T c, if_pos c]; exact n_lit 1
  · rw [b_F c, if_neg c]; exact n_lit 0
theorem us_kept {d : UD} {o : Nat → Nat} {u : UM} {a s : Nat} {ps ks : List (List Nat)} {x : SS_} (h : ys_ d o u a s ps ks x) (h40 : x.1.length ≤ 40) : Ev_ (fun n => uf_X1_kept n d u a) (fun r => r = n_ (kp_ x.1)) := by
  obtain ⟨aP, aK, aT, aC, lP, lK, lT, f, e1, e2, e3, e4, e5, e6, e7, e8, e9, e10, e11⟩ := h
  obtain ⟨fs, hfs⟩ := al_cl e5
  have hfr : u_fr d u 2 2 a = some aT := fr_e e1 rfl
  have hsz : ∀ n, uf_J2_size n d u aT = some (n_ lT.length) := fun n => ul_size n e5
  have el := e11.1
  unfold uf_X1_kept
  refine ev_b (P := fun r => r = n_ (kp_ x.1)) ?_ (fun r hr => ev_some hr)
  unfold uf_X1_kept_L4l
  refine ev_for x.1.length (fun (i : Nat) (y : Int32 × Int32) => y = (n_ (kp_ (x.1.take i)), n_ i)) (fun i y hi hP => ?_) (fun y hP => ?_) _ (by rw [← n_lit 0]; rfl)
  · subst hP
    have ht := e11.2 i (by omega) hi
    have hgt : ∀ n, uf_J2_get n d u aT (n_ i) = some (lT[i]'(by omega)) := fun n => ul_get n e5 (show i < lT.length by omega)
    have hc6 := cl_e ht.1
    have hn0 : u_ni u 6 0 (lT[i]'(by omega)) = some (n_ (x.1[i]).1) := ni_e ht.1 rfl
    have hn1 : u_ni u 6 1 (lT[i]'(by omega)) = some (n_ (x.1[i]).2.1) := ni_e ht.1 rfl
    have hn2 : u_ni u 6 2 (lT[i]'(by omega)) = some (q_ (x.1[i]).2.2.1) := ni_e ht.1 rfl
    have hn3 : u_ni u 6 3 (lT[i]'(by omega)) = some (n_ (x.1[i]).2.2.2.1) := ni_e ht.1 rfl
    have hn4 : u_ni u 6 4 (lT[i]'(by omega)) = some (n_ (if (x.1[i]).2.2.2.2 then 1 else 0)) := ni_e ht.1 rfl
    refine ev_eq (r := .inl (n_ (kp_ (x.1.take (i + 1))), n_ (i + 1))) (fun n => ?_) ⟨_, rfl, rfl⟩
    unfold uf_X1_kept_L4
    dsimp only
    simp only [hfr, hfs, hsz, m_bs, hgt, hc6, hn4]
    rw [ef_F (by rw [n_le (by omega) (by omega)]; omega), ← b_n, uo_one, m_bs, b_n, n_add, show n_ i + 1 = n_ (i + 1) from by rw [n_lit 1, n_add]]
    unfold kp_
    rw [List.take_succ_eq_append_getElem hi, List.map_append, List.sum_append]
    simp
  · subst hP
    refine ev_eq (r := .inr (n_ (kp_ x.1))) (fun n => ?_) ⟨_, rfl, rfl⟩
    unfold uf_X1_kept_L4
    dsimp only
    simp only [hfr, hfs, hsz, m_bs]
    rw [ef_T (by rw [n_le (by omega) (by omega)]; omega), List.take_length]
theorem us_flow {d : UD} {o : Nat → Nat} {u : UM} {a s : Nat} {ps ks : List (List Nat)} {x : SS_} (h : ys_ d o u a s ps ks x) {np nk : Nat} (ok : ss_ok np nk x) {p q k : Nat} (hp : p < 8) (hq : q < 8) (hk : k < 4) : Ev_ (fun n => uf_X1_flow n d u a (n_ p) (n_ q) (n_ k)) (fun r => r = q_ (ss_fl x.1 k (8 * p + q))) := by
  obtain ⟨aP, aK, aT, aC, lP, lK, lT, f, e1, e2, e3, e4, e5, e6, e7, e8, e9, e10, e11⟩ := h
  obtain ⟨fs, hfs⟩ := al_cl e5
  have hfr : u_fr d u 2 2 a = some aT := fr_e e1 rfl
  have hsz : ∀ n, uf_J2_size n d u aT = some (n_ lT.length) := fun n => ul_size n e5
  have el := e11.1
  have h40 := ok.2.2.1
  have h8 := ok.1
  have h4 := ok.2.1
  unfold uf_X1_flow ss_fl
  refine ev_b (P := fun r => r = q_ (ts_sum (fun t => tr_fr k t && decide (8 * t.1 + t.2.1 = 8 * p + q)) x.1)) ?_ (fun r hr => ev_some hr)
  unfold uf_X1_flow_L6l
  refine ev_for x.1.length (fun (i : Nat) (y : Int32 × Int32) => y = (q_ (ts_sum (fun t => tr_fr k t && decide (8 * t.1 + t.2.1 = 8 * p + q)) (x.1.take i)), n_ i)) (fun i y hi hP => ?_) (fun y hP => ?_) _ (by rw [← n_lit 0]; simp [ts_sum]; rfl)
  · subst hP
    have ht := e11.2 i (by omega) hi
    have hgt : ∀ n, uf_J2_get n d u aT (n_ i) = some (lT[i]'(by omega)) := fun n => ul_get n e5 (show i < lT.length by omega)
    have hc6 := cl_e ht.1
    have hn0 : u_ni u 6 0 (lT[i]'(by omega)) = some (n_ (x.1[i]).1) := ni_e ht.1 rfl
    have hn1 : u_ni u 6 1 (lT[i]'(by omega)) = some (n_ (x.1[i]).2.1) := ni_e ht.1 rfl
    have hn2 : u_ni u 6 2 (lT[i]'(by omega)) = some (q_ (x.1[i]).2.2.1) := ni_e ht.1 rfl
    have hn3 : u_ni u 6 3 (lT[i]'(by omega)) = some (n_ (x.1[i]).2.2.2.1) := ni_e ht.1 rfl
    have hn4 : u_ni u 6 4 (lT[i]'(by omega)) = some (n_ (if (x.1[i]).2.2.2.2 then 1 else 0)) := ni_e ht.1 rfl
    obtain ⟨t1, t2, _, _, _, t6⟩ := ok.2.2.2.1 _ (List.getElem_mem hi)
    refine ev_eq (r := .inl (q_ (ts_sum (fun t => tr_fr k t && decide (8 * t.1 + t.2.1 = 8 * p + q)) (x.1.take (i + 1))), n_ (i + 1))) (fun n => ?_) ⟨_, rfl, rfl⟩
    unfold uf_X1_flow_L6 uf_X1_flow_J69 uf_X1_flow_J70
    dsimp only
    simp only [hfr, hfs, hsz, m_bs, hgt, hc6, hn0, hn1, hn2]
    rw [ef_F (by rw [n_le (by omega) (by omega)]; omega), ut_isFree n ht (by omega) hk, m_bs, m_ifb, show n_ i + 1 = n_ (i + 1) from by rw [n_lit 1, n_add], ts_sum_take _ _ hi, show (0 : Int32) = q_ 0 from rfl, q_add, q_add]
    by_cases c : tr_fr k (x.1[i]) = true
    · rw [if_pos c]
      by_cases c1 : (x.1[i]).1 = p
      · rw [ef_T (by rw [n_eq (by omega) (by omega)]; exact c1)]
        by_cases c2 : (x.1[i]).2.1 = q
        · rw [ef_T (by rw [n_eq (by omega) (by omega)]; exact c2), if_pos (by simp [c]; omega)]
        · rw [ef_F (by rw [n_eq (by omega) (by omega)]; exact c2), if_neg (by simp [c]; omega)]
      · rw [ef_F (by rw [n_eq (by omega) (by omega)]; exact c1), if_neg (by simp [c]; omega)]
    · rw [if_neg c, if_neg (by simp [c])]
  · subst hP
    refine ev_eq (r := .inr (q_ (ts_sum (fun t => tr_fr k t && decide (8 * t.1 + t.2.1 = 8 * p + q)) x.1))) (fun n => ?_) ⟨_, rfl, rfl⟩
    unfold uf_X1_flow_L6
    dsimp only
    simp only [hfr, hfs, hsz, m_bs]
    rw [ef_T (by rw [n_le (by omega) (by omega)]; omega), ts_sum_all]
/-- what a side's sum counts -/
def sd_ (k p : Nat) (out free : Bool) (t : Tr_) : Bool := decide (t.2.2.2.1 = k) && (!free || !t.2.2.2.2) && decide ((if out then t.1 else t.2.1) = p)
theorem us_side {d : UD} {o : Nat → Nat} {u : UM} {a s : Nat} {ps ks : List (List Nat)} {x : SS_} (h : ys_ d o u a s ps ks x) {np nk : Nat} (ok : ss_ok np nk x) {p k : Nat} (hp : p < 8) (hk : k < 4) (out free : Int32) : Ev_ (fun n => uf_X1_side n d u a (n_ p) (n_ k) out free) (fun r => r = q_ (ts_sum (sd_ k p (decide (¬ out = 0)) (decide (¬ free = 0))) x.1)) := by
  obtain ⟨aP, aK, aT, aC, lP, lK, lT, f, e1, e2, e3, e4, e5, e6, e7, e8, e9, e10, e11⟩ := h
  obtain ⟨fs, hfs⟩ := al_cl e5
  have hfr : u_fr d u 2 2 a = some aT := fr_e e1 rfl
  have hsz : ∀ n, uf_J2_size n d u aT = some (n_ lT.length) := fun n => ul_size n e5
  have el := e11.1
  have h40 := ok.2.2.1
  have h8 := ok.1
  have h4 := ok.2.1
  generalize hP0 : sd_ k p (decide (¬ out = 0)) (decide (¬ free = 0)) = P0
  unfold uf_X1_side
  refine ev_b (P := fun r => r = q_ (ts_sum P0 x.1)) ?_ (fun r hr => ev_some hr)
  unfold uf_X1_side_L6l
  refine ev_for x.1.length (fun (i : Nat) (y : Int32 × Int32) => y = (q_ (ts_sum P0 (x.1.take i)), n_ i)) (fun i y hi hP => ?_) (fun y hP => ?_) _ (by rw [← n_lit 0]; simp [ts_sum]; rfl)
  · subst hP
    have ht := e11.2 i (by omega) hi
    have hgt : ∀ n, uf_J2_get n d u aT (n_ i) = some (lT[i]'(by omega)) := fun n => ul_get n e5 (show i < lT.length by omega)
    have hc6 := cl_e ht.1
    have hn0 : u_ni u 6 0 (lT[i]'(by omega)) = some (n_ (x.1[i]).1) := ni_e ht.1 rfl
    have hn1 : u_ni u 6 1 (lT[i]'(by omega)) = some (n_ (x.1[i]).2.1) := ni_e ht.1 rfl
    have hn2 : u_ni u 6 2 (lT[i]'(by omega)) = some (q_ (x.1[i]).2.2.1) := ni_e ht.1 rfl
    have hn3 : u_ni u 6 3 (lT[i]'(by omega)) = some (n_ (x.1[i]).2.2.2.1) := ni_e ht.1 rfl
    have hn4 : u_ni u 6 4 (lT[i]'(by omega)) = some (n_ (if (x.1[i]).2.2.2.2 then 1 else 0)) := ni_e ht.1 rfl
    obtain ⟨t1, t2, _, _, _, t6⟩ := ok.2.2.2.1 _ (List.getElem_mem hi)
    refine ev_eq (r := .inl (q_ (ts_sum P0 (x.1.take (i + 1))), n_ (i + 1))) (fun n => ?_) ⟨_, rfl, rfl⟩
    unfold uf_X1_side_L6 uf_X1_side_J56 uf_X1_side_J73 uf_X1_side_J85 uf_X1_side_J86
    dsimp only
    simp only [hfr, hfs, hsz, m_bs, hgt, hc6, hn0, hn1, hn2, hn3, hn4]
    rw [ef_F (by rw [n_le (by omega) (by omega)]; omega), show n_ i + 1 = n_ (i + 1) from by rw [n_lit 1, n_add], ts_sum_take _ _ hi, q_add, show q_ (ts_sum P0 (x.1.take i)) + 0 = q_ (ts_sum P0 (x.1.take i) + 0) from by rw [show (0 : Int32) = q_ 0 from rfl, q_add]]
    subst hP0
    unfold sd_
    by_cases c : (x.1[i]).2.2.2.1 = k
    · rw [ef_T (by rw [n_eq (by omega) (by omega)]; exact c)]
      have inner : m_if (out = 0) (m_if (n_ (x.1[i]).2.1 = n_ p) (some (Sum.inl (q_ (ts_sum (fun t => decide (t.2.2.2.1 = k) && (!decide (¬ free = 0) || !t.2.2.2.2) && decide ((if decide (¬ out = 0) = true then t.1 else t.2.1) = p)) (x.1.take i) + (x.1[i]).2.2.1), n_ (i + 1))) : Option ((Int32 × Int32) ⊕ Int32)) (some (Sum.inl (q_ (ts_sum (fun t => decide (t.2.2.2.1 = k) && (!decide (¬ free = 0) || !t.2.2.2.2) && decide ((if decide (¬ out = 0) = true then t.1 else t.2.1) = p)) (x.1.take i) + 0), n_ (i + 1))))) (m_if (n_ (x.1[i]).1 = n_ p) (some (Sum.inl (q_ (ts_sum (fun t => decide (t.2.2.2.1 = k) && (!decide (¬ free = 0) || !t.2.2.2.2) && decide ((if decide (¬ out = 0) = true then t.1 else t.2.1) = p)) (x.1.take i) + (x.1[i]).2.2.1), n_ (i + 1)))) (some (Sum.inl (q_ (ts_sum (fun t => decide (t.2.2.2.1 = k) && (!decide (¬ free = 0) || !t.2.2.2.2) && decide ((if decide (¬ out = 0) = true then t.1 else t.2.1) = p)) (x.1.take i) + 0), n_ (i + 1))))) = some (Sum.inl (q_ (ts_sum (fun t => decide (t.2.2.2.1 = k) && (!decide (¬ free = 0) || !t.2.2.2.2) && decide ((if decide (¬ out = 0) = true then t.1 else t.2.1) = p)) (x.1.take i) + (if (if decide (¬ out = 0) = true then (x.1[i]).1 else (x.1[i]).2.1) = p then (x.1[i]).2.2.1 else 0)), n_ (i + 1))) := by
        by_cases co : out = 0
        · rw [ef_T co]
          simp only [co, not_true_eq_false, decide_false, Bool.false_eq_true, if_false]
          by_cases c1 : (x.1[i]).2.1 = p
          · rw [ef_T (by rw [n_eq (by omega) (by omega)]; exact c1), if_pos c1]
          · rw [ef_F (by rw [n_eq (by omega) (by omega)]; exact c1), if_neg c1]
        · rw [ef_F co]
          simp only [co, not_false_eq_true, decide_true, if_true]
          by_cases c1 : (x.1[i]).1 = p
          · rw [ef_T (by rw [n_eq (by omega) (by omega)]; exact c1), if_pos c1]
          · rw [ef_F (by rw [n_eq (by omega) (by omega)]; exact c1), if_neg c1]
      rw [inner]
      by_cases cf : free = 0
      · rw [ef_T cf]
        simp [cf, c]
      · rw [ef_F cf]
        cases hk : (x.1[i]).2.2.2.2 with
        | true => rw [ef_F (by decide)]; simp [cf, c]
        | false => rw [ef_T (by decide)]; simp [cf, c]
    · rw [ef_F (by rw [n_eq (by omega) (by omega)]; exact c), if_neg (by simp [c])]
  · subst hP
    refine ev_eq (r := .inr (q_ (ts_sum P0 x.1))) (fun n => ?_) ⟨_, rfl, rfl⟩
    unfold uf_X1_side_L6
    dsimp only
    simp only [hfr, hfs, hsz, m_bs]
    rw [ef_T (by rw [n_le (by omega) (by omega)]; omega), ts_sum_all]
