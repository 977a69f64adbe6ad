set_option maxRecDepth 100000
/-! The reference reads: a line, all lines -/
theorem pb_r {α β : Type} {x : PR_ α} {k : α → PR_ β} {b : β} (h : pb_ x k = .inr b) : ∃ a, x = .inr a ∧ k a = .inr b := by
  cases x with
  | inl e => cases h
  | inr a => exact ⟨a, rfl, h⟩
theorem rdW_pos {T : Nat → Int32} {n i : Nat} (hi : i ≤ n) {v : List Nat × Nat × Nat} (h : rdW_ T n i = .inr v) : i ≤ v.2.1 ∧ v.2.1 < v.2.2 ∧ v.2.2 ≤ n := by
  unfold rdW_ at h
  have a := sk_le (T := T) hi
  have b := le_at (T := T) a.2
  split at h
  · cases h; dsimp only; omega
  · cases h
theorem rdN_pos {T : Nat → Int32} {n i : Nat} (hi : i ≤ n) {v : List Nat × Nat × Nat} (h : rdN_ T n i = .inr v) : i ≤ v.2.1 ∧ v.2.1 < v.2.2 ∧ v.2.2 ≤ n := by
  obtain ⟨a, h1, h2⟩ := pb_r h
  have := rdW_pos hi h1
  split at h2
  · cases h2
  · cases h2; exact this
theorem rdI_pos {T : Nat → Int32} {n i : Nat} {l : List (List Nat)} (hi : i ≤ n) {v : Nat × Nat × Nat} (h : rdI_ T n l i = .inr v) : i ≤ v.2.1 ∧ v.2.1 < v.2.2 ∧ v.2.2 ≤ n := by
  obtain ⟨a, h1, h2⟩ := pb_r h
  have := rdN_pos hi h1
  split at h2
  · cases h2; exact this
  · cases h2
theorem rdO_pos {T : Nat → Int32} {n i b : Nat} {l : List (List Nat)} (hi : i ≤ n) {v : Nat × Nat × Nat} (h : rdO_ T n l b i = .inr v) : i ≤ v.2.1 ∧ v.2.1 < v.2.2 ∧ v.2.2 ≤ n := by
  obtain ⟨a, h1, h2⟩ := pb_r h
  have := rdI_pos hi h1
  split at h2
  · cases h2
  · cases h2; exact this
theorem rdD_pos {T : Nat → Int32} {n i : Nat} {lo up : Int} (hi : i ≤ n) {v : Int × Nat × Nat} (h : rdD_ T n lo up i = .inr v) : i ≤ v.2.1 ∧ v.2.1 < v.2.2 ∧ v.2.2 ≤ n := by
  unfold rdD_ at h
  have a := sk_le (T := T) hi
  have b := de_at (T := T) a.2
  split at h
  · cases h
  · split at h
    · cases h
    · cases h; dsimp only; omega
theorem rdNew_pos {T : Nat → Int32} {n i : Nat} {ps ks : List (List Nat)} (hi : i ≤ n) {v : List Nat × Nat} (h : rdNew_ T n ps ks i = .inr v) : i < v.2 ∧ v.2 ≤ n := by
  obtain ⟨a, h1, h2⟩ := pb_r h
  have := rdN_pos hi h1
  split at h2
  · cases h2
  · cases h2; dsimp only; omega
theorem rdB_pos {T : Nat → Int32} {n j : Nat} {s s' : RD_} (hi : s.1 ≤ n) (h : rdB_ T n j s = .inr s') : s.1 < s'.1 ∧ s'.1 ≤ n := by
  unfold rdB_ at h
  split at h
  · obtain ⟨a, h1, h2⟩ := pb_r h
    have := rdNew_pos hi h1
    cases h2; exact this
  split at h
  · obtain ⟨a, h1, h2⟩ := pb_r h
    have := rdNew_pos hi h1
    cases h2; exact this
  split at h
  · obtain ⟨a, h1, h2⟩ := pb_r h
    have p1 := rdI_pos hi h1
    obtain ⟨b, h3, h4⟩ := pb_r h2
    have p2 := rdO_pos p1.2.2 h3
    obtain ⟨m, h5, h6⟩ := pb_r h4
    have p3 := rdD_pos p2.2.2 h5
    obtain ⟨k, h7, h8⟩ := pb_r h6
    have p4 := rdI_pos p3.2.2 h7
    cases h8; dsimp only; omega
  split at h
  · obtain ⟨a, h1, h2⟩ := pb_r h
    have p1 := rdD_pos hi h1
    split at h2
    · cases h2
    · cases h2; dsimp only; omega
  split at h
  · obtain ⟨a, h1, h2⟩ := pb_r h
    have p1 := rdI_pos hi h1
    obtain ⟨b, h3, h4⟩ := pb_r h2
    have p2 := rdO_pos p1.2.2 h3
    obtain ⟨m, h5, h6⟩ := pb_r h4
    have p3 := rdD_pos p2.2.2 h5
    cases h6; dsimp only; omega
  · obtain ⟨a, h1, h2⟩ := pb_r h
    have p1 := rdD_pos hi h1
    cases h2; dsimp only; omega
theorem rdL_pos {T : Nat → Int32} {n : Nat} {s s' : RD_} (hi : s.1 ≤ n) (h : rdL_ T n s = .inr s') : s.1 < s'.1 ∧ s'.1 ≤ n := by
  obtain ⟨a, h1, h2⟩ := pb_r h
  have p1 := rdW_pos hi h1
  split at h2
  · cases h2
  split at h2
  · cases h2
  obtain ⟨b, h3, h4⟩ := pb_r h2
  have p2 := rdB_pos (s := (a.2.2, s.2)) p1.2.2 h3
  have p3 := sk_le (T := T) p2.2
  split at h4
  · cases h4; dsimp only at p2 ⊢; omega
  · cases h4
theorem kwi_len {w : List Nat} (h : kwi_ w < 6) : 1 ≤ w.length ∧ w.length ≤ 5 := by
  have := (fi_spec (fun j => decide (kw_.getD j [] = w)) 6 0).2.2.2 (by show kwi_ w < _; omega)
  have e : kw_.getD (kwi_ w) [] = w := of_decide_eq_true this
  have k : ∀ j : Fin 6, 1 ≤ (kw_.getD j.val []).length ∧ (kw_.getD j.val []).length ≤ 5 := by decide
  have := k ⟨kwi_ w, h⟩
  dsimp only at this
  rw [e] at this
  exact this
theorem kwi_le (w : List Nat) : kwi_ w ≤ 6 := by
  have := (fi_spec (fun j => decide (kw_.getD j [] = w)) 6 0).2.1
  show fi_ _ _ _ ≤ 6
  omega
theorem rdB_fl {T : Nat → Int32} {n : Nat} (i : Nat) (a b : List (List Nat)) (x : SS_) (f g : Bool) : rdB_ T n 5 (i, a, b, x, f) = rdB_ T n 5 (i, a, b, x, g) := rfl
theorem rf_line55 {st0 st : MS} {T : Nat → Int32} {n : Nat} {s : RD_} (h : rdq_ st0 T n s st) {b j : Nat} (hs : s.1 = b) (hb : b < le_ T n b) (hj : j < 6) (hF : rdF_ j s = false) : Ev_ (fun m => f_lineRead_J55 m st (n_ j)) (oq_ st0 T n (pb_ (rdB_ T n j (le_ T n b, s.2)) (fun s' => if sk_ T n s'.1 < n ∧ T (sk_ T n s'.1) = 59 then .inr (sk_ T n s'.1 + 1, s'.2) else .inl (1, sk_ T n s'.1)))) := by
  obtain ⟨g1, g2, g3, g4, g5, g6, g7, g8⟩ := id h
  have h900 := g2.2.2.2.1
  have hbn : b ≤ n := by rw [← hs]; exact g2.2.2.1
  obtain ⟨l1, l2, l3, l4⟩ := le_at (T := T) hbn
  unfold f_lineRead_J55 f_lineRead_J118
  refine ev_ifT g3 ?_
  have hbt : bt_ (st.1 15 ||| (1 <<< (n_ j &&& 31))) 5 = (s.2.2.2.2 || decide (5 = j)) := by
    rw [bt_or, g7, bt_shl (by omega) (by omega)]
  have q1 := rdq_sg h _ hbt
  generalize m_sg st 15 (st.1 15 ||| (1 <<< (n_ j &&& 31))) = s1 at *
  have r1 : rdp_ T n b s1 := by rw [← hs]; exact q1.2.1
  refine ev_b (rf_lettersHere r1) (fun r9 hr9 => ?_)
  subst hr9
  rw [r1.2.1, n_add, show b + (le_ T n b - b) = le_ T n b by omega]
  have q2 := rdq_12 q1 l2
  dsimp only at q2
  have hB : rdB_ T n j (le_ T n b, s.2) = rdB_ T n j (le_ T n b, s.2.1, s.2.2.1, s.2.2.2.1, (s.2.2.2.2 || decide (5 = j))) := by
    by_cases e : j = 5
    · subst e; exact rdB_fl _ _ _ _ _ _
    · rw [decide_eq_false (fun z => e z.symm), Bool.or_false]
  rw [hB]
  refine ev_b (rf_behind q2 hj hF (fun e => by rw [e]; simp)) (fun s11 h11 => ?_)
  cases hx : rdB_ T n j (le_ T n b, s.2.1, s.2.2.1, s.2.2.2.1, (s.2.2.2.2 || decide (5 = j))) with
  | inl e =>
    rw [hx] at h11
    have q : rqe_ st0 e s11 := h11
    exact ev_ifF (rqe_13 q) (ev_some (rqe_sg q (Or.inl rfl) _))
  | inr s' =>
    rw [hx] at h11
    have q : rdq_ st0 T n s' s11 := h11
    refine ev_ifT q.2.2.1 ?_
    refine ev_b2 (rf_peek q.2.1) (fun r14 s15 h15 => ?_)
    obtain ⟨m1, r15, a1, a2, a3, a4⟩ := h15
    dsimp only at m1 r15 a1 a2 a3 a4
    have hsk := sk_le (T := T) q.2.1.2.2.1
    have q3 := rq_mt q (mt_sub m1 (fs' := [12, 16]) (ks' := []) (by simp) (by simp)) r15
    rw [r15.2.1]
    unfold pb_ oq_
    dsimp only
    refine ev_ifq a3 (fun c => ?_) (fun c => ?_)
    · rw [if_pos c, n_lit 1, n_add]
      exact ev_some (rdq_12 (s := (sk_ T n s'.1, s'.2)) q3 (by omega))
    · rw [if_neg c]
      refine ev_bn (fun m => rf_fails m q3.2.2.1 _ _) ?_
      rw [n_lit 1]
      have qf := rq_fail (st' := st) q3 1 (sk_ T n s'.1) (by omega) (by omega)
      exact ev_some (rqe_sg qf (Or.inl rfl) _)
theorem rf_line55E {st0 st : MS} {e : Nat × Nat} (q : rqe_ st0 e st) (x : Int32) : Ev_ (fun m => f_lineRead_J55 m st x) (fun s => s = st) := by
  unfold f_lineRead_J55
  exact ev_ifF (rqe_13 q) (ev_some rfl)
theorem rf_lineRead {st0 st : MS} {T : Nat → Int32} {n : Nat} {s : RD_} (h : rdq_ st0 T n s st) : Ev_ (fun m => f_lineRead m st) (oq_ st0 T n (rdL_ T n s)) := by
  obtain ⟨g1, g2, g3, g4, g5, g6, g7, g8⟩ := id h
  unfold f_lineRead
  refine ev_b2 (rf_wordHere g2 g3) (fun r2 s3 h3 => ?_)
  obtain ⟨m1, r1, e1⟩ := h3
  dsimp only at m1 r1 e1
  subst e1
  have hsk := sk_le (T := T) g2.2.2.1
  have q := rq_mt h (mt_sub m1 (fs' := [12, 16]) (ks' := []) (by simp) (by simp)) r1
  rw [r1.2.1]
  unfold rdL_ rdW_
  generalize sk_ T n s.1 = b at *
  obtain ⟨l1, l2, l3, l4⟩ := le_at (T := T) hsk.2
  have bad : ∀ (x : Int32) (k : Nat), 1 ≤ k → k ≤ 5 → Ev_ (fun m => m_b (f_fails m s3 (n_ k) (n_ b)) (fun s6 => f_lineRead_J55 m s6 x)) (fun st' => rqe_ st0 (k, b) st') := fun x k h1 h5 => by
    refine ev_bn (fun m => rf_fails m q.2.2.1 _ _) ?_
    have qf := rq_fail (st' := st) q k b h1 h5
    exact ev_w (rf_line55E qf x) (fun s hs => by rw [hs]; exact qf)
  have bad1 : ∀ x : Int32, Ev_ (fun m => f_lineRead_J32 m s3 x (n_ b)) (fun st' => rqe_ st0 (1, b) st') := fun x => by
    unfold f_lineRead_J32
    rw [n_lit 1]; exact bad x 1 (by omega) (by omega)
  by_cases cw : 1 ≤ le_ T n b - b ∧ le_ T n b - b ≤ 8
  · rw [if_pos cw]
    have hbn : b < n := by omega
    have hL := l3 b (Nat.le_refl _) (by omega)
    unfold wh_ pb_
    dsimp only
    have hk6 := kwi_le (wd_ T b (le_ T n b))
    generalize kwi_ (wd_ T b (le_ T n b)) = j at *
    by_cases c6 : j < 6
    · rw [if_pos ⟨hbn, hL, c6⟩]
      refine ev_ifF (by rw [m1_q, n_q, q_eq' (by omega) (by omega) (by omega) (by omega)]; omega) ?_
      have full : (¬ (j = 6 ∨ j = 5 ∧ s.2.2.2.2 = true)) → Ev_ (fun m => f_lineRead_J41 m s3 (n_ j) (n_ b)) (oq_ st0 T n (if j = 6 ∨ j = 5 ∧ s.2.2.2.2 = true then .inl (1, b) else if rdF_ j s = true then .inl (4, b) else pb_ (rdB_ T n j (le_ T n b, s.2)) (fun s' => if sk_ T n s'.1 < n ∧ T (sk_ T n s'.1) = 59 then .inr (sk_ T n s'.1 + 1, s'.2) else .inl (1, sk_ T n s'.1)))) := fun hc => by
        rw [if_neg hc]
        unfold f_lineRead_J41
        have hfe : rdF_ j (b, s.2) = rdF_ j s := rfl
        refine ev_bn (fun m => rf_isFull m q c6) ?_
        simp only [m_ifb, hfe]
        by_cases cF : rdF_ j s = true
        · simp only [if_pos cF]
          rw [n_lit 4]; exact bad _ 4 (by omega) (by omega)
        · simp only [if_neg cF]
          exact rf_line55 q rfl (by omega) c6 (by rw [hfe]; simpa using cF)
      refine ev_ifq (c' := j = 5) (by rw [n_lit 5, n_eq (by omega) (by omega)]) (fun c5 => ?_) (fun c5 => ?_)
      · subst c5
        have h15 : bt_ (s3.1 15) 5 = s.2.2.2.2 := q.2.2.2.2.2.2.1
        refine ev_ifq (c' := s.2.2.2.2 = true) (by rw [show (5 : Int32) = n_ 5 from n_lit 5, bt_test (by omega), h15]) (fun cm => ?_) (fun cm => ?_)
        · rw [if_pos (Or.inr ⟨rfl, cm⟩)]; exact bad1 _
        · exact full (fun z => by rcases z with z | z
                                  · omega
                                  · exact cm z.2)
      · exact full (fun z => by omega)
    · rw [if_neg (fun z => c6 z.2.2)]
      refine ev_ifT (by rw [m1_q]) ?_
      rw [if_pos (Or.inl (by omega))]
      exact bad1 _
  · rw [if_neg cw]
    have : wh_ T n b = q_ (-1) := by
      unfold wh_
      refine if_neg (fun z => ?_)
      have k1 := kwi_len z.2.2
      rw [wd_len] at k1
      omega
    rw [this]
    refine ev_ifT (by rw [m1_q]) ?_
    exact bad1 _
theorem rdL_sk {T : Nat → Int32} {n : Nat} {s : RD_} (h : s.1 ≤ n) : rdL_ T n (sk_ T n s.1, s.2) = rdL_ T n s := by
  unfold rdL_ rdW_
  dsimp only
  rw [sk_id h]
  rfl
theorem rf_tell127 {st0 st : MS} {T : Nat → Int32} {n : Nat} {s : RD_} (h : rdq_ st0 T n s st) {m0 : Nat} (hm : n - s.1 < m0) (v2 v3 : Int32) : Ev_ (fun m => f_tell_L127l m v2 v3 st) (fun st' => match rdA_ T n m0 s with
    | .inl e => rqe_ st0 e st'
    | .inr s' => ∃ i, rdq_ st0 T n (i, s'.2) st') := by
  unfold f_tell_L127l
  generalize htg : rdA_ T n m0 s = tg
  refine ev_lpg (β := Nat × PR_ RD_) (fun b => b.1 + (match b.2 with | .inl _ => 0 | .inr _ => 1)) (fun b y => (match b.2 with
    | .inl e => tg = .inl e ∧ rqe_ st0 e y
    | .inr s' => rdA_ T n b.1 s' = tg ∧ n - s'.1 < b.1 ∧ rdq_ st0 T n s' y)) (fun b y hb => ?_) (m0, .inr s) st ⟨htg, hm, h⟩
  obtain ⟨k, x⟩ := b
  cases x with
  | inl e =>
    obtain ⟨e1, q⟩ := hb
    subst e1
    unfold f_tell_L127
    exact ev_ifF (rqe_13 q) (ev_some q)
  | inr s' =>
    obtain ⟨e1, e2, q⟩ := hb
    dsimp only at e1 e2 q
    obtain ⟨k, rfl⟩ : ∃ k', k = k' + 1 := ⟨k - 1, by omega⟩
    unfold f_tell_L127
    refine ev_ifT q.2.2.1 ?_
    refine ev_b2 (rf_peek q.2.1) (fun r22 s23 h23 => ?_)
    obtain ⟨m1, r1, a1, a2, a3, a4⟩ := h23
    dsimp only at m1 r1 a1 a2 a3 a4
    have hin := q.2.1.2.2.1
    have q1 := rq_mt q (mt_sub m1 (fs' := [12, 16]) (ks' := []) (by simp) (by simp)) r1
    unfold rdA_ at e1
    refine ev_ifq a4 (fun c => ?_) (fun c => ?_)
    · rw [if_pos c] at e1
      subst e1
      exact ev_some ⟨_, q1⟩
    · rw [if_neg c] at e1
      refine ev_b (rf_lineRead q1) (fun s26 h26 => ?_)
      rw [rdL_sk hin] at h26
      cases hx : rdL_ T n s' with
      | inl e =>
        rw [hx] at h26 e1
        exact ev_some ⟨(k, .inl e), ⟨e1.symm, h26⟩, by dsimp only; omega⟩
      | inr s2 =>
        rw [hx] at h26 e1
        have := rdL_pos hin hx
        exact ev_some ⟨(k, .inr s2), ⟨e1, by dsimp only; omega, h26⟩, by dsimp only; omega⟩
