set_option maxRecDepth 100000
/-! A state's trades; flows; a new state -/
theorem ys_T {d : UD} {o : Nat → Nat} {u : UM} {a s : Nat} {ps ks : List (List Nat)} {x : SS_} (h : ys_ d o u a s ps ks x) : ∃ aT lT fs, u_fr d u 2 2 a = some aT ∧ u_nr u 2 2 a = some aT ∧ u_cl u 13 aT = some fs ∧ (∀ n, uf_J2_size n d u aT = some (n_ x.1.length)) ∧ lT.length = x.1.length ∧ (∀ n i (hi : i < lT.length), uf_J2_get n d u aT (n_ i) = some lT[i]) ∧ al2_ (td_ o u) lT x.1 ∧ al_ d o u aT (16 * s + 3) (16 * s + 6) lT := by
  obtain ⟨aP, aK, aT, aC, lP, lK, lT, f, e1, e2, e3, e4, e5, e6, e7, e8, e9, e10, e11⟩ := h
  obtain ⟨fs, hfs⟩ := al_cl e5
  exact ⟨aT, lT, fs, fr_e e1 rfl, nr_e e1 rfl, hfs, fun n => by rw [ul_size n e5, e11.1], e11.1, fun n i hi => ul_get n e5 hi, e11, e5⟩
theorem ys_cl {d : UD} {o : Nat → Nat} {u : UM} {a s : Nat} {ps ks : List (List Nat)} {x : SS_} (h : ys_ d o u a s ps ks x) : ∃ fs, u_cl u 2 a = some fs := by
  obtain ⟨aP, aK, aT, aC, lP, lK, lT, f, e1, _⟩ := h
  exact ⟨_, cl_e e1⟩
theorem td_ni {o : Nat → Nat} {u : UM} {a : Nat} {t : Tr_} (h : td_ o u a t) : u_cl u 6 a = some [.int (n_ t.1), .int (n_ t.2.1), .int (q_ t.2.2.1), .int (n_ t.2.2.2.1), .int (n_ (if t.2.2.2.2 then 1 else 0))] ∧ u_ni u 6 0 a = some (n_ t.1) ∧ u_ni u 6 1 a = some (n_ t.2.1) ∧ u_ni u 6 2 a = some (q_ t.2.2.1) ∧ u_ni u 6 3 a = some (n_ t.2.2.2.1) ∧ u_ni u 6 4 a = some (n_ (if t.2.2.2.2 then 1 else 0)) :=
  ⟨cl_e h.1, ni_e h.1 rfl, ni_e h.1 rfl, ni_e h.1 rfl, ni_e h.1 rfl, ni_e h.1 rfl⟩
theorem ln_e {k : Nat} (h : k ≤ 100000) : u_ln (n_ k) = true := by
  unfold u_ln
  rw [decide_eq_true_eq, n_nat (by omega), n_lit 0, n_le (by omega) (by omega)]
  omega
theorem us_flows {d : UD} {b : Nat} {o : Nat → Nat} {u : UM} (h0 : uw_ b u) {a s : Nat} {ps ks : List (List Nat)} {x : SS_} (h : ys_ d o u a s ps ks x) {np nk : Nat} (ok : ss_ok np nk x) {k : Nat} (hk : k < 4) : Ev_ (fun n => uf_X1_flows n d u a (n_ k)) (fun r => r.2 = (1, 64) ∧ r.1.1 = u.2 ∧ r.1.2.2 = u.2 + 1 ∧ ygt_ b K0_ o u (ot_ o u.2 21) r.1.2 ∧ ∃ f, iA_ d r.1.2 u.2 64 f ∧ ∀ c, c < 64 → f c = q_ (ss_fl x.1 k c)) := by
  have h40 := ok.2.2.1
  have h8 := ok.1
  have h4 := ok.2.1
  unfold uf_X1_flows
  rw [show (64 : Int32) = n_ 64 from n_lit 64]
  refine ev_g (ln_e (by omega)) (ev_ac ?_)
  rw [n_nat (by omega)]
  refine ev_nw h0 (fun u2 c2 => ?_)
  have g2 := ygt_nw (K := K0_) (o := o) h0 c2 21
  refine ev_bl (P := fun u' c => c = (0, 0) ∧ u'.2 = u.2 + 1 ∧ ygt_ b K0_ o u (ot_ o u.2 21) u' ∧ ∃ f, iA_ d u' u.2 64 f ∧ ∀ c, c < 64 → f c = q_ (ss_fl x.1 k c)) ?_ (fun u' c hp => ?_)
  · unfold uf_X1_flows_L7l
    refine ev_uf (Q := fun u' => u'.2 = u.2 + 1 ∧ ygt_ b K0_ o u (ot_ o u.2 21) u' ∧ ∃ f, iA_ d u' u.2 64 f ∧ ∀ c, c < 64 → f c = q_ (ss_fl x.1 k c)) x.1.length (fun (i : Nat) (y : Int32 × UM) => y.1 = n_ i ∧ y.2.2 = u.2 + 1 ∧ ygt_ b K0_ o u (ot_ o u.2 21) y.2 ∧ ∃ f, iA_ d y.2 u.2 64 f ∧ ∀ c, c < 64 → f c = q_ (ss_fl (x.1.take i) k c)) (fun i y hi hP => ?_) (fun y hP => ?_) (0, u2) ⟨n_lit 0, c2.1, g2, (fun _ => 0), c2.2.1, fun c _ => rfl⟩
    · obtain ⟨v, u1⟩ := y
      obtain ⟨r1, r2, r3, f, r4, r5⟩ := hP
      dsimp only at r1 r2 r3 r4 ⊢
      subst r1
      have h1 := ys_keep h0 r3 h (fun z => z) (fun r _ z => z)
      obtain ⟨aT, lT, fs, k1, k2, k3, k4, k5, k6, k7, k8⟩ := ys_T h1
      have ht := k7.2 i (by omega) hi
      obtain ⟨t0, t1, t2, t3, t4, t5⟩ := td_ni ht
      obtain ⟨o1, o2, o3, _, _, o6⟩ := ok.2.2.2.1 _ (List.getElem_mem hi)
      unfold uf_X1_flows_L7 uf_X1_flows_J66
      have hgt := fun n => k6 n i (by omega)
      have hld : u_ldI d u1 u.2 (8 * n_ (x.1[i]).1 + n_ (x.1[i]).2.1) = some (f (8 * (x.1[i]).1 + (x.1[i]).2.1)) := by
        rw [n_lit 8, n_mul, n_add]; exact ldI_e r4 (by omega) (by omega)
      have hif := fun n => ut_isFree n (d := d) ht (by omega) hk
      simp only [k1, k3, k4, m_bs, hgt, t0, t1, t2, t3, hld, hif, m_ifb]
      refine ev_ifF (by rw [n_le (by omega) (by omega)]; omega) ?_
      have fin : ∀ v : Int, v = (if tr_fr k (x.1[i]) = true then (x.1[i]).2.2.1 else 0) → Ev_ (fun _ => m_b (u_stI d u1 u.2 (8 * n_ (x.1[i]).1 + n_ (x.1[i]).2.1) (f (8 * (x.1[i]).1 + (x.1[i]).2.1) + q_ v)) (fun w31 => some ((.inl ((n_ i + 1, (w31, u1.2))) : (Int32 × UM) ⊕ UM), ((0, 0) : UC)))) (fun r => ∃ s', r = (.inl s', (0, 0)) ∧ s'.1 = n_ (i + 1) ∧ s'.2.2 = u.2 + 1 ∧ ygt_ b K0_ o u (ot_ o u.2 21) s'.2 ∧ ∃ f, iA_ d s'.2 u.2 64 f ∧ ∀ c, c < 64 → f c = q_ (ss_fl (x.1.take (i + 1)) k c)) := fun v hv => by
        rw [n_lit 8, n_mul, n_add]
        refine ev_b1 (stI_e r4 (show 8 * (x.1[i]).1 + (x.1[i]).2.1 < 64 by omega) (by omega) _) ?_
        have c3 := ch_set r4 (.inl (d.1 0, 64, .inl (upd f (8 * (x.1[i]).1 + (x.1[i]).2.1) (f (8 * (x.1[i]).1 + (x.1[i]).2.1) + q_ v))))
        refine ev_some ⟨_, rfl, by rw [n_lit 1, n_add], r2, ygt_chn h0 r3 (Nat.le_refl _) r4 c3 (kd1_a _ _), _, c3.2.1, fun c hc => ?_⟩
        unfold ss_fl
        rw [ts_sum_take _ _ hi]
        by_cases e : c = 8 * (x.1[i]).1 + (x.1[i]).2.1
        · subst e
          rw [upd_at, r5 _ hc, q_add, hv]
          unfold ss_fl
          congr 2
          by_cases cf : tr_fr k (x.1[i]) = true
          · rw [if_pos cf, if_pos (by simp [cf])]
          · rw [if_neg cf, if_neg (by simp [cf])]
        · rw [upd_ne e, r5 _ hc]
          unfold ss_fl
          congr 1
          rw [if_neg (by simp; intro _; omega)]
          omega
      by_cases cf : tr_fr k (x.1[i]) = true
      · simp only [if_pos cf]
        exact fin _ (by rw [if_pos cf])
      · simp only [if_neg cf]
        exact fin 0 (by rw [if_neg cf])
    · obtain ⟨v, u1⟩ := y
      obtain ⟨r1, r2, r3, f, r4, r5⟩ := hP
      dsimp only at r1 r2 r3 r4 ⊢
      subst r1
      have h1 := ys_keep h0 r3 h (fun z => z) (fun r _ z => z)
      obtain ⟨aT, lT, fs, k1, k2, k3, k4, k5, k6, k7, k8⟩ := ys_T h1
      unfold uf_X1_flows_L7
      simp only [k1, k3, k4, m_bs]
      refine ev_ifT (by rw [n_le (by omega) (by omega)]; omega) (ev_some ⟨_, rfl, r2, r3, f, r4, ?_⟩)
      rw [List.take_length] at r5; exact r5
  · obtain ⟨rfl, p2, p3, p4⟩ := hp
    exact ev_some ⟨rfl, rfl, p2, p3, p4⟩
/-! tags not yet used -/
theorem tag_ex (o : Nat → Nat) : ∀ m, ∃ B, ∀ a, a < m → o a < B := by
  intro m
  induction m with
  | zero => exact ⟨0, fun a h => absurd h (Nat.not_lt_zero _)⟩
  | succ m ih =>
    obtain ⟨B, hB⟩ := ih
    refine ⟨max B (o m + 1), fun a ha => ?_⟩
    by_cases e : a = m
    · subst e; omega
    · have := hB a (by omega); omega
/-- a state's number that is free -/
theorem tag_new {b : Nat} (o : Nat → Nat) {u : UM} (h0 : uw_ b u) (ids : List Nat) : ∃ s, 10 ≤ s ∧ s ∉ ids ∧ ∀ a, a < u.2 → o a < 16 * s := by
  obtain ⟨B, hB⟩ := tag_ex o u.2
  obtain ⟨B2, hB2⟩ : ∃ B2, ∀ x ∈ ids, x < B2 := by
    clear hB
    induction ids with
    | nil => exact ⟨0, fun x h => absurd h (by simp)⟩
    | cons y l ih =>
      obtain ⟨B2, h2⟩ := ih
      refine ⟨max B2 (y + 1), fun x hx => ?_⟩
      rcases List.mem_cons.mp hx with z | z
      · subst z; omega
      · have := h2 x z; omega
  refine ⟨B + B2 + 10, by omega, fun h => ?_, fun a ha => ?_⟩
  · have := hB2 _ h; omega
  · have := hB a ha; omega
/-! a new list in a new state: its object made, laid, put into the state's field -/
theorem us_newl {d : UD} {b : Nat} {o : Nat → Nat} {u : UM} (h0 : uw_ b u) {t c tc k tl ta : Nat} {fs : List Value} (et : ob_ u t c fs) (ht : o t = tc) (hk : k < fs.length) (hfr : ∀ a, a < u.2 → o a ≠ tl) {α : Type} {G : Nat → va_W → UM → Option (α × UC)} {Q : α × UC → Prop} (g : ∀ w (v : UM) o', v.2 = u.2 + 1 → ygt_ b (K1_ tc) o u o' (w, v.2) → ob_ (w, v.2) t c (fs.set k (.ref u.2)) → o' t = tc → al_ d o' (w, v.2) u.2 tl ta [] → ob_ (w, v.2) u.2 13 [.int 0, .ref (d.2 0), .int 0] → o' = ot_ o u.2 tl → Ev_ (fun n => G n w v) (fun r => Q (r.1, u_add (1, 3) r.2))) : Ev_ (fun n => u_ac (1, 3) (m_b (some (u_nw u (.inr (13, [.int 0, .null, .int 0])))) (fun u2 => u_bc u2.2 (uf_J2_init n d u2 u.2) (fun _ u6 => m_b (u_pf u6 c k t (.ref u.2)) (fun w10 => G n w10 u6))))) Q := by
  refine ev_ac (ev_nw h0 (fun u2 c2 => ?_))
  have htu : t ≠ u.2 := by have := (h0.2 _ _ et).2; omega
  have g2 := ygt_nw (K := K1_ tc) (o := o) h0 c2 tl
  have hin := ul_init (d := d) (ta := ta) g2.1 c2.2.1 (ot_at o u.2 tl)
  refine ev_bc (P := fun _ u6 c => c = (0, 0) ∧ u6.2 = u2.2 ∧ al_ d (ot_ o u.2 tl) u6 u.2 tl ta [] ∧ ob_ u6 u.2 13 [.int 0, .ref (d.2 0), .int 0] ∧ ygt_ b (K1_ tl) (ot_ o u.2 tl) u2 (ot_ o u.2 tl) u6) ?_ (fun _ u6 c hp => by rw [hp.1]; exact hp.2.1) (fun _ u6 c' hp => ?_)
  · -- the init once more, with the object told
    unfold uf_J2_init
    refine ev_bc (P := fun _ u' c => c = (0, 0) ∧ u'.2 = u2.2 ∧ ob_ u' u.2 13 [.int 0, .null, .int 0] ∧ ygt_ b (K1_ tl) (ot_ o u.2 tl) u2 (ot_ o u.2 tl) u') ?_ (fun _ u' c hp => by rw [hp.1]; exact hp.2.1) (fun _ u' c hp => ?_)
    · unfold uf_J1_init uf_J0_init
      refine ev_b1 rfl (ev_pf c2.2.1 (by simp) (fun w c => ?_))
      exact ev_some ⟨rfl, rfl, c.2.1, ygt_ch g2.1 c2.2.1 c (kd1_o _ _ _) (ot_at _ _ _)⟩
    · obtain ⟨rfl, p2, p3, p4⟩ := hp
      refine ev_pf p3 (by simp) (fun w c => ?_)
      exact ev_some ⟨rfl, p2, ⟨0, d.2 0, 0, fun _ => none, c.2.1, ot_at _ _ _, Nat.le_refl _, by omega, Or.inr ⟨rfl, rfl⟩⟩, c.2.1, ygt_tr g2.1 p4 (ygt_ch p4.1 p3 c (kd1_o _ _ _) (ot_at _ _ _))⟩
  · obtain ⟨rfl, p2, p3, p5, p4⟩ := hp
    have g3 := ygt_trn h0 g2 p4 (fun a x ha z => absurd z (hfr a ((h0.2 _ _ ha).2)))
    have ht' : ot_ o u.2 tl t = tc := by rw [ot_ne htu]; exact ht
    have et6 : ob_ u6 t c fs := by
      have e2 : u_get u2.1 t = _ := (c2.2.2 t htu).trans et
      exact (ygt_at g2.1 p4 e2 (fun z => hfr t ((h0.2 _ _ et).2) (by rw [ot_ne htu] at z; exact z))).1
    refine ev_pf et6 hk (fun w10 c10 => ?_)
    have g4 := ygt_tr h0 g3 (ygt_ch (K := K1_ tc) g3.1 et6 c10 (kd1_o _ _ _) ht')
    have g5 := ygt_ch (K := K1_ tc) g3.1 et6 c10 (kd1_o _ _ _) ht'
    have := g w10 u6 (ot_ o u.2 tl) (by rw [p2, c2.1]) g4 c10.2.1 ht' (by
      obtain ⟨mc, b', n, f, q1, q2, q3, q4, q5⟩ := p3
      refine ⟨mc, b', n, f, (c10.2.2 u.2 (fun z => htu z.symm)).trans q1, q2, q3, q4, ?_⟩
      rcases q5 with ⟨z1, z2, z3, z4⟩ | z
      · refine Or.inl ⟨(c10.2.2 b' (fun e => ?_)).trans z1, z2, z3, z4⟩
        subst e
        have := et6.symm.trans z1
        cases this
      · exact Or.inr z) ((c10.2.2 u.2 (fun z => htu z.symm)).trans p5) rfl
    exact ev_w this (fun r hr => by
      show Q (r.1, u_add (1, 3) (u_add (0, 0) r.2))
      rw [u_add_0]; exact hr)
