set_option maxRecDepth 100000
/-! The reference reads: names that are known -/
theorem nm_bd {w : List Nat} (hw : nm_ok w) : 0 ≤ nm_ w 0 ∧ nm_ w 0 < 9223372036854775808 := by
  obtain ⟨w1, w2, w3⟩ := hw
  obtain ⟨d0, d1, d2⟩ := nm_dig w.length w rfl (fun c hc => by have := w3 c hc; omega)
  refine ⟨d0, ?_⟩
  rcases Nat.lt_or_ge w.length 8 with q | q
  · have : (256 : Int) ^ w.length ≤ 256 ^ 7 := by exact_mod_cast Nat.pow_le_pow_right (show 256 > 0 by omega) (show w.length ≤ 7 by omega)
    have e : (256 : Int) ^ 7 = 72057594037927936 := by decide
    omega
  · have e8 : w.length = 8 := by omega
    have t := d2 7
    rw [e8, if_pos (by omega)] at t
    have c := w3 (w.getD 0 0) (by rw [List.getD_eq_getElem?_getD, List.getElem?_eq_getElem (by omega)]; exact List.getElem_mem _)
    rw [e8] at d1
    have e : (256 : Int) ^ 7 = 72057594037927936 := by decide
    have e' : (256 : Int) ^ 8 = 18446744073709551616 := by decide
    rw [e] at t
    rw [e'] at d1
    have c2 := c.2
    simp only [show 8 - 1 - 7 = 0 from rfl] at t
    omega
theorem nm_inj {w w' : List Nat} (hw : nm_ok w) (hw' : nm_ok w') (h : nm_ w 0 = nm_ w' 0) : w = w' := by
  obtain ⟨w1, w2, w3⟩ := hw
  obtain ⟨v1, v2, v3⟩ := hw'
  obtain ⟨d0, d1, d2⟩ := nm_dig w.length w rfl (fun c hc => by have := w3 c hc; omega)
  obtain ⟨e0, e1, e2⟩ := nm_dig w'.length w' rfl (fun c hc => by have := v3 c hc; omega)
  have mem : ∀ (l : List Nat) i, i < l.length → l.getD i 0 ∈ l := fun l i hi => by rw [List.getD_eq_getElem?_getD, List.getElem?_eq_getElem hi]; exact List.getElem_mem _
  have hl : w.length = w'.length := by
    rcases Nat.lt_trichotomy w.length w'.length with q | q | q
    · have a := d2 (w'.length - 1)
      have b := e2 (w'.length - 1)
      rw [if_neg (by omega), h] at a
      rw [if_pos (by omega), a] at b
      have := (v3 _ (mem w' (w'.length - 1 - (w'.length - 1)) (by omega))).1
      omega
    · exact q
    · have a := d2 (w.length - 1)
      have b := e2 (w.length - 1)
      rw [if_neg (by omega), ← h] at b
      rw [if_pos (by omega), b] at a
      have := (w3 _ (mem w (w.length - 1 - (w.length - 1)) (by omega))).1
      omega
  refine gD_ext hl (fun i hi => ?_)
  have a := d2 (w.length - 1 - i)
  have b := e2 (w.length - 1 - i)
  rw [if_pos (by omega), show w.length - 1 - (w.length - 1 - i) = i by omega, h] at a
  rw [if_pos (by omega), show w'.length - 1 - (w.length - 1 - i) = i by omega, a] at b
  omega
theorem cmp_eq (x y : Int64) : (lg_cmp x y = (0 : Int32)) ↔ x.toInt = y.toInt := by
  constructor
  · intro h
    have a : ¬ lg_cmp x y < (0 : Int32) := by rw [h]; decide
    have b : ¬ (0 : Int32) < lg_cmp x y := by rw [h]; decide
    rw [cmp_lt] at a
    rw [cmp_gt] at b
    omega
  · intro h
    have : x = y := Int64.toInt_inj.mp h
    subst this
    unfold lg_cmp
    rw [if_neg (by simp), if_pos rfl]
theorem rf_find {l : List (List Nat)} {w : List Nat} (hl : ∀ x ∈ l, nm_ok x) (hw : nm_ok w) {base : Nat} (hb : base + l.length ≤ 12) {st : MS} (hn : ∀ i (h : i < l.length), st.2.2 3 (base + i) = Int64.ofInt (nm_ (l[i]) 0)) : Ev_ (fun m => f_find m st (Int64.ofInt (nm_ w 0)) (n_ base) (n_ l.length)) (fun r => r = if ix_ l w < l.length then n_ (ix_ l w) else q_ (-1)) := by
  obtain ⟨f1, f2, f3, f4⟩ := fi_spec (fun j => decide (l.getD j [] = w)) l.length 0
  have hJ : fi_ (fun j => decide (l.getD j [] = w)) l.length 0 = ix_ l w := rfl
  rw [hJ] at f1 f2 f3 f4
  generalize ix_ l w = J at *
  have key : ∀ i (h : i < l.length), ((lg_cmp (st.2.2 3 (base + i)) (Int64.ofInt (nm_ w 0)) : Int32) = 0) ↔ l.getD i [] = w := fun i h => by
    have o1 := hl _ (List.getElem_mem h)
    obtain ⟨b1, b2⟩ := nm_bd o1
    obtain ⟨c1, c2⟩ := nm_bd hw
    rw [cmp_eq, hn i h, Int64.toInt_ofInt_of_le (by omega) b2, Int64.toInt_ofInt_of_le (by omega) c2, gD_get h]
    exact ⟨fun q => nm_inj o1 hw q, fun q => by rw [q]⟩
  unfold f_find
  refine ev_b (P := fun y => y = if J < l.length then .inl (n_ J) else .inr ()) ?_ (fun y hy => ?_)
  · unfold f_find_L3l
    refine ev_for J (fun (i : Nat) (y : Int32) => y = n_ i) (fun i y hi hP => ?_) (fun y hP => ?_) _ (n_lit 0)
    · subst hP
      have hno := f3 i (by omega) hi
      simp only [decide_eq_false_iff_not] at hno
      refine ev_eq (r := .inl (n_ (i + 1))) (fun m => ?_) ⟨_, rfl, rfl⟩
      unfold f_find_L3
      rw [ef_F (by rw [n_le (by omega) (by omega)]; omega), n_add, n_in (by omega) (by omega), m_gT, n_nat (by omega), ef_F (fun q => hno ((key i (by omega)).mp q)), show n_ i + 1 = n_ (i + 1) from by rw [n_lit 1, n_add]]
    · subst hP
      by_cases c : J < l.length
      · have hyes := f4 (by omega)
        simp only [decide_eq_true_eq] at hyes
        rw [if_pos c]
        refine ev_eq (r := .inr (.inl (n_ J))) (fun m => ?_) ⟨_, rfl, rfl⟩
        unfold f_find_L3
        rw [ef_F (by rw [n_le (by omega) (by omega)]; omega), n_add, n_in (by omega) (by omega), m_gT, n_nat (by omega), ef_T ((key J c).mpr hyes)]
      · rw [if_neg c]
        refine ev_eq (r := .inr (.inr ())) (fun m => ?_) ⟨_, rfl, rfl⟩
        unfold f_find_L3
        rw [ef_T (by rw [n_le (by omega) (by omega)]; omega)]
  · subst hy
    by_cases c : J < l.length
    · rw [if_pos c, if_pos c]; exact ev_some rfl
    · rw [if_neg c, if_neg c]; exact ev_some m1_q
/-- whatever the name: it ends -/
theorem rf_findE {base len : Nat} (hb : base + len ≤ 12) (st : MS) (x : Int64) : Ev_ (fun m => f_find m st x (n_ base) (n_ len)) (fun _ => True) := by
  unfold f_find
  refine ev_b (P := fun _ => True) ?_ (fun y _ => ?_)
  · unfold f_find_L3l
    refine ev_lpg (β := Nat) (fun i => len + 1 - i) (fun i (y : Int32) => y = n_ i ∧ i ≤ len) (fun i y hP => ?_) 0 _ ⟨n_lit 0, Nat.zero_le _⟩
    obtain ⟨rfl, hi⟩ := hP
    unfold f_find_L3
    refine ev_ifq (c' := len ≤ i) (by rw [n_le (by omega) (by omega)]) (fun c => ev_some trivial) (fun c => ?_)
    rw [n_add]
    refine ev_g (n_in (by omega) (by omega)) ?_
    refine ev_if (fun _ => ev_some trivial) (fun _ => ?_)
    rw [show n_ i + 1 = n_ (i + 1) from by rw [n_lit 1, n_add]]
    exact ev_some ⟨i + 1, ⟨rfl, by omega⟩, by omega⟩
  · cases y with
    | inl a => exact ev_some trivial
    | inr a => exact ev_some trivial
/-! where one is while one reads -/
def rf_fs : List Nat := [5, 6, 12, 13, 14, 15, 16]
def mu_ (st st' : MS) : Prop := (∀ k, k ∉ rf_fs → st'.1 k = st.1 k) ∧ (∀ k, k ≠ 3 → st'.2.2 k = st.2.2 k) ∧ ∀ k, k ≠ 0 → st'.2.1 k = st.2.1 k
theorem mu_rfl (st : MS) : mu_ st st := ⟨fun _ _ => rfl, fun _ _ => rfl, fun _ _ => rfl⟩
theorem mu_tr {a b c : MS} (h : mu_ a b) (g : mu_ b c) : mu_ a c := ⟨fun k hk => (g.1 k hk).trans (h.1 k hk), fun k hk => (g.2.1 k hk).trans (h.2.1 k hk), fun k hk => (g.2.2 k hk).trans (h.2.2 k hk)⟩
theorem mu_mt {fs : List Nat} {a b : MS} (h : mt_ fs [0] a b) (hf : ∀ k ∈ fs, k ∈ rf_fs) : mu_ a b := ⟨fun k hk => h.1 k (fun z => hk (hf k z)), fun k _ => by rw [h.2.1], fun k hk => h.2.2 k (by simp [hk])⟩
theorem mu_m0 {fs : List Nat} {a b : MS} (h : mt_ fs [] a b) (hf : ∀ k ∈ fs, k ∈ rf_fs) : mu_ a b := mu_mt (mt_sub h (fun _ h => h) (by simp)) hf
def nmR_ (ps ks : List (List Nat)) (st : MS) : Prop := st.1 5 = n_ ps.length ∧ st.1 6 = n_ ks.length ∧ (∀ i (h : i < ps.length), st.2.2 3 i = Int64.ofInt (nm_ (ps[i]) 0)) ∧ ∀ i (h : i < ks.length), st.2.2 3 (8 + i) = Int64.ofInt (nm_ (ks[i]) 0)
def rd_ok (s : RD_) : Prop := s.2.1.length ≤ 8 ∧ s.2.2.1.length ≤ 4 ∧ ss_ok s.2.1.length s.2.2.1.length s.2.2.2.1 ∧ (∀ w ∈ s.2.1, nm_ok w) ∧ (∀ w ∈ s.2.2.1, nm_ok w) ∧ (s.2.1 ++ s.2.2.1).Nodup
def rdq_ (st0 : MS) (T : Nat → Int32) (n : Nat) (s : RD_) (st : MS) : Prop := mu_ st0 st ∧ rdp_ T n s.1 st ∧ st.1 13 = 0 ∧ st.1 14 = q_ (-1) ∧ nmR_ s.2.1 s.2.2.1 st ∧ rf_V s.2.2.2.1 (st.2.1 0) ∧ bt_ (st.1 15) 5 = s.2.2.2.2 ∧ rd_ok s
def rqe_ (st0 : MS) (e : Nat × Nat) (st : MS) : Prop := mu_ st0 st ∧ st.1 13 = n_ e.1 ∧ 1 ≤ e.1 ∧ e.1 ≤ 5 ∧ st.1 14 = n_ e.2 ∧ ∃ a c, st.1 5 = n_ a ∧ a ≤ 8 ∧ st.1 6 = n_ c ∧ c ≤ 4
theorem rqe_13 {st0 st : MS} {e : Nat × Nat} (h : rqe_ st0 e st) : ¬ st.1 13 = 0 := fun q => by
  obtain ⟨_, h2, h3, h4, _⟩ := h
  rw [h2, n_lit 0, n_eq (by omega) (by omega)] at q
  omega
theorem rq_er {st0 st st' : MS} {T : Nat → Int32} {n : Nat} {s : RD_} (h : rdq_ st0 T n s st) {e : Nat × Nat} (he : er_ st e st') (h1 : 1 ≤ e.1) (h5 : e.1 ≤ 5) : rqe_ st0 e st' := by
  obtain ⟨g1, g2, g3, g4, g5, g6, g7, g8⟩ := h
  refine ⟨mu_tr g1 (mu_m0 he.1 (by decide)), he.2.1, h1, h5, he.2.2, s.2.1.length, s.2.2.1.length, by rw [he.1.1 5 (by simp)]; exact g5.1, g8.1, by rw [he.1.1 6 (by simp)]; exact g5.2.1, g8.2.1⟩
theorem rq_mt {st0 st st' : MS} {T : Nat → Int32} {n : Nat} {s : RD_} (h : rdq_ st0 T n s st) {i : Nat} (m : mt_ [12, 16] [] st st') (r : rdp_ T n i st') : rdq_ st0 T n (i, s.2) st' := by
  obtain ⟨g1, g2, g3, g4, g5, g6, g7, g8⟩ := h
  refine ⟨mu_tr g1 (mu_m0 m (by decide)), r, by rw [m.1 13 (by simp)]; exact g3, by rw [m.1 14 (by simp)]; exact g4, ⟨by rw [m.1 5 (by simp)]; exact g5.1, by rw [m.1 6 (by simp)]; exact g5.2.1, fun i hi => by rw [m.2.1]; exact g5.2.2.1 i hi, fun i hi => by rw [m.2.1]; exact g5.2.2.2 i hi⟩, by rw [m.2.2 0 (by simp)]; exact g6, by rw [m.1 15 (by simp)]; exact g7, g8⟩
/-- a fault more -/
theorem rq_fail {st0 st st' : MS} {T : Nat → Int32} {n : Nat} {s : RD_} (h : rdq_ st0 T n s st) (k p : Nat) (h1 : 1 ≤ k) (h5 : k ≤ 5) : rqe_ st0 (k, p) (m_sg (m_sg st 13 (n_ k)) 14 (n_ p)) := rq_er h (er_of (mt_rfl [] [] st) (by simp) k p) h1 h5
def pq_ (st0 : MS) (T : Nat → Int32) (n : Nat) (s : RD_) (x : PR_ (Nat × Nat × Nat)) (r : Int32 × MS) : Prop := match x with
  | .inl e => rqe_ st0 e r.2
  | .inr v => rdq_ st0 T n (v.2.2, s.2) r.2 ∧ r.2.1 16 = n_ v.2.1 ∧ r.1 = n_ v.1
theorem rdN_er {T : Nat → Int32} {n i : Nat} {e : Nat × Nat} (h : rdN_ T n i = .inl e) : e.1 = 1 := by
  unfold rdN_ rdW_ pb_ at h
  split at h
  · rename_i x hx
    split at hx
    · cases hx
    · cases hx; cases h; rfl
  · dsimp only at h
    split at h
    · cases h; rfl
    · cases h
theorem rdD_er {T : Nat → Int32} {n i : Nat} {lo hi : Int} {e : Nat × Nat} (h : rdD_ T n lo hi i = .inl e) : 1 ≤ e.1 ∧ e.1 ≤ 2 := by
  unfold rdD_ at h
  split at h
  · cases h; dsimp only; omega
  · split at h
    · cases h; dsimp only; omega
    · cases h
theorem rf_partyRead {st0 st : MS} {T : Nat → Int32} {n : Nat} {s : RD_} (h : rdq_ st0 T n s st) : Ev_ (fun m => f_partyRead m st) (pq_ st0 T n s (rdI_ T n s.2.1 s.1)) := by
  obtain ⟨g1, g2, g3, g4, g5, g6, g7, g8⟩ := id h
  unfold f_partyRead f_partyRead_J28 f_partyRead_J40
  refine ev_b2 (rf_nameRead g2 g3) (fun r2 s3 hr => ?_)
  dsimp only at hr
  unfold rdI_ pb_ pq_
  cases hx : rdN_ T n s.1 with
  | inl e =>
    rw [hx] at hr
    dsimp only at hr ⊢
    have he := rdN_er hx
    have q := rq_er h hr (by omega) (by omega)
    obtain ⟨_, _, _, _, _, a, c, e5, a8, _⟩ := id q
    rw [e5, n_lit 0]
    refine ev_b (rf_findE (show 0 + a ≤ 12 by omega) s3 r2) (fun r5 _ => ?_)
    rw [← n_lit 0]
    refine ev_if (fun _ => ?_) (fun _ => ?_)
    · refine ev_bn (fun m => rf_failsE m (rqe_13 q) _ _) ?_
      exact ev_ifF (rqe_13 q) (ev_some q)
    · exact ev_ifF (rqe_13 q) (ev_some q)
  | inr v =>
    rw [hx] at hr
    obtain ⟨⟨o1, o2, o3⟩, er, nok⟩ := hr
    dsimp only at o1 o2 o3 er nok ⊢
    subst er
    have q := rq_mt h o1 o2
    have q5 := q.2.2.2.2.1
    rw [q5.1, n_lit 0]
    have l8 := g8.1
    refine ev_b (rf_find g8.2.2.2.1 nok (show 0 + s.2.1.length ≤ 12 by omega) (fun i hi => by rw [Nat.zero_add]; exact q5.2.2.1 i hi)) (fun r5 hr5 => ?_)
    rw [← n_lit 0]
    by_cases c : ix_ s.2.1 v.1 < s.2.1.length
    · rw [if_pos c] at hr5 ⊢
      subst hr5
      refine ev_ifF (by rw [m1_q, n_q, q_eq' (by omega) (by omega) (by omega) (by omega)]; omega) ?_
      exact ev_ifT q.2.2.1 (ev_some ⟨q, o3, rfl⟩)
    · rw [if_neg c] at hr5 ⊢
      subst hr5
      refine ev_ifT (by rw [m1_q]) ?_
      refine ev_bn (fun m => rf_fails m q.2.2.1 _ _) ?_
      rw [o3, n_lit 3]
      have qf := rq_fail (st' := st) q 3 v.2.1 (by omega) (by omega)
      exact ev_ifF (rqe_13 qf) (ev_some qf)
theorem rf_partyReadE {st0 st : MS} {e : Nat × Nat} (q : rqe_ st0 e st) : Ev_ (fun m => f_partyRead m st) (fun r => r.2 = st) := by
  unfold f_partyRead f_partyRead_J28 f_partyRead_J40
  refine ev_b2 (P := fun r => r = (0, st)) (ev_eq (fun m => rf_nameReadE m (rqe_13 q)) rfl) (fun r2 s3 hr => ?_)
  cases hr
  obtain ⟨_, _, _, _, _, a, c, e5, a8, _⟩ := id q
  rw [e5, show (0 : Int32) = n_ 0 from n_lit 0]
  refine ev_b (rf_findE (show 0 + a ≤ 12 by omega) st _) (fun r5 _ => ?_)
  rw [← n_lit 0]
  refine ev_if (fun _ => ?_) (fun _ => ?_)
  · refine ev_bn (fun m => rf_failsE m (rqe_13 q) _ _) ?_
    exact ev_ifF (rqe_13 q) (ev_some rfl)
  · exact ev_ifF (rqe_13 q) (ev_some rfl)
theorem rf_kindRead {st0 st : MS} {T : Nat → Int32} {n : Nat} {s : RD_} (h : rdq_ st0 T n s st) : Ev_ (fun m => f_kindRead m st) (pq_ st0 T n s (rdI_ T n s.2.2.1 s.1)) := by
  obtain ⟨g1, g2, g3, g4, g5, g6, g7, g8⟩ := id h
  unfold f_kindRead f_kindRead_J29 f_kindRead_J41
  refine ev_b2 (rf_nameRead g2 g3) (fun r2 s3 hr => ?_)
  dsimp only at hr
  unfold rdI_ pb_ pq_
  cases hx : rdN_ T n s.1 with
  | inl e =>
    rw [hx] at hr
    dsimp only at hr ⊢
    have he := rdN_er hx
    have q := rq_er h hr (by omega) (by omega)
    obtain ⟨_, _, _, _, _, a, c, e5, a8, e6, c4⟩ := id q
    rw [e6, n_lit 8]
    refine ev_b (rf_findE (show 8 + c ≤ 12 by omega) s3 r2) (fun r5 _ => ?_)
    refine ev_if (fun _ => ?_) (fun _ => ?_)
    · refine ev_bn (fun m => rf_failsE m (rqe_13 q) _ _) ?_
      exact ev_ifF (rqe_13 q) (ev_some q)
    · exact ev_ifF (rqe_13 q) (ev_some q)
  | inr v =>
    rw [hx] at hr
    obtain ⟨⟨o1, o2, o3⟩, er, nok⟩ := hr
    dsimp only at o1 o2 o3 er nok ⊢
    subst er
    have q := rq_mt h o1 o2
    have q5 := q.2.2.2.2.1
    rw [q5.2.1, n_lit 8]
    have l8 := g8.2.1
    refine ev_b (rf_find g8.2.2.2.2.1 nok (show 8 + s.2.2.1.length ≤ 12 by omega) (fun i hi => q5.2.2.2 i hi)) (fun r5 hr5 => ?_)
    by_cases c : ix_ s.2.2.1 v.1 < s.2.2.1.length
    · rw [if_pos c] at hr5 ⊢
      subst hr5
      refine ev_ifF (by rw [m1_q, n_q, q_eq' (by omega) (by omega) (by omega) (by omega)]; omega) ?_
      exact ev_ifT q.2.2.1 (ev_some ⟨q, o3, rfl⟩)
    · rw [if_neg c] at hr5 ⊢
      subst hr5
      refine ev_ifT (by rw [m1_q]) ?_
      refine ev_bn (fun m => rf_fails m q.2.2.1 _ _) ?_
      rw [o3, n_lit 3]
      have qf := rq_fail (st' := st) q 3 v.2.1 (by omega) (by omega)
      exact ev_ifF (rqe_13 qf) (ev_some qf)
theorem rf_kindReadE {st0 st : MS} {e : Nat × Nat} (q : rqe_ st0 e st) : Ev_ (fun m => f_kindRead m st) (fun r => r.2 = st) := by
  unfold f_kindRead f_kindRead_J29 f_kindRead_J41
  refine ev_b2 (P := fun r => r = (0, st)) (ev_eq (fun m => rf_nameReadE m (rqe_13 q)) rfl) (fun r2 s3 hr => ?_)
  cases hr
  obtain ⟨_, _, _, _, _, a, c, e5, a8, e6, c4⟩ := id q
  rw [e6, n_lit 8]
  refine ev_b (rf_findE (show 8 + c ≤ 12 by omega) st _) (fun r5 _ => ?_)
  refine ev_if (fun _ => ?_) (fun _ => ?_)
  · refine ev_bn (fun m => rf_failsE m (rqe_13 q) _ _) ?_
    exact ev_ifF (rqe_13 q) (ev_some rfl)
  · exact ev_ifF (rqe_13 q) (ev_some rfl)
theorem rdI_lt {T : Nat → Int32} {n : Nat} {l : List (List Nat)} {i : Nat} {v : Nat × Nat × Nat} (h : rdI_ T n l i = .inr v) : v.1 < l.length := by
  unfold rdI_ pb_ at h
  split at h
  · cases h
  · dsimp only at h
    split at h
    · rename_i c; cases h; exact c
    · cases h
theorem rf_otherRead {st0 st : MS} {T : Nat → Int32} {n : Nat} {s : RD_} (h : rdq_ st0 T n s st) {a : Nat} (ha : a < 8) : Ev_ (fun m => f_otherRead m st (n_ a)) (pq_ st0 T n s (rdO_ T n s.2.1 a s.1)) := by
  unfold f_otherRead f_otherRead_J26
  have l8 := h.2.2.2.2.2.2.2.1
  refine ev_b2 (rf_partyRead h) (fun r2 s3 hr => ?_)
  unfold rdO_ pb_
  cases hx : rdI_ T n s.2.1 s.1 with
  | inl e =>
    rw [hx] at hr
    have q : rqe_ st0 e s3 := hr
    exact ev_ifF (rqe_13 q) (ev_some q)
  | inr v =>
    rw [hx] at hr
    obtain ⟨q, q16, qv⟩ := hr
    dsimp only at q q16 qv ⊢
    subst qv
    have hv := rdI_lt hx
    refine ev_ifT q.2.2.1 ?_
    refine ev_ifq (c' := v.1 = a) (by rw [n_eq (by omega) (by omega)]) (fun c => ?_) (fun c => ?_)
    · rw [if_pos c]
      refine ev_bn (fun m => rf_fails m q.2.2.1 _ _) ?_
      rw [q16, n_lit 5]
      exact ev_some (rq_fail (st' := st) q 5 v.2.1 (by omega) (by omega))
    · rw [if_neg c]
      exact ev_some ⟨q, q16, rfl⟩
theorem rf_otherReadE {st0 st : MS} {e : Nat × Nat} (q : rqe_ st0 e st) (x : Int32) : Ev_ (fun m => f_otherRead m st x) (fun r => r.2 = st) := by
  unfold f_otherRead f_otherRead_J26
  refine ev_b2 (rf_partyReadE q) (fun r2 s3 hr => ?_)
  dsimp only at hr
  subst hr
  exact ev_ifF (rqe_13 q) (ev_some rfl)
