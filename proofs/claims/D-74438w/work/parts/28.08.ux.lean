set_option maxRecDepth 100000
/-! The component: nets, sides, totals, even -/
theorem ts_cg {p q : Tr_ → Bool} {l : List Tr_} (h : ∀ t ∈ l, p t = q t) : ts_sum p l = ts_sum q l := by
  induction l with
  | nil => rfl
  | cons t l ih =>
    simp only [ts_sum, h t List.mem_cons_self, ih (fun x hx => h x (List.mem_cons_of_mem _ hx))]
theorem sd_0 (k p : Nat) (ts : List Tr_) : ts_sum (sd_ k p true false) ts = am0_ ts k p ∧ ts_sum (sd_ k p false false) ts = am1_ ts k p := by
  constructor
  · exact ts_cg (fun t _ => by unfold sd_; simp)
  · exact ts_cg (fun t _ => by unfold sd_; simp)
theorem sd_1 {np nk : Nat} {s : SS_} (ok : ss_ok np nk s) (k : Nat) {p : Nat} (hp : p < 8) : ts_sum (sd_ k p true true) s.1 = fs_out (ss_fl s.1 k) p ∧ ts_sum (sd_ k p false true) s.1 = fs_in (ss_fl s.1 k) p := by
  have h8 := ok.1
  have hb : ∀ t ∈ s.1, t.1 < 8 ∧ t.2.1 < 8 := fun t ht => by
    obtain ⟨a, b, _⟩ := ok.2.2.2.1 t ht
    omega
  rw [fs_out_ts (fun t ht => (hb t ht).2), fs_in_ts hp hb]
  constructor
  · exact ts_cg (fun t _ => by unfold sd_ tr_fr; simp)
  · exact ts_cg (fun t _ => by unfold sd_ tr_fr; simp)
theorem us_net {d : UD} {o : Nat → Nat} {u : UM} {a s : Nat} {ps ks : List (List Nat)} {x : SS_} (h : ys_ d o u a s ps ks x) {np nk : Nat} (ok : ss_ok np nk x) {p k : Nat} (hp : p < 8) (hk : k < 4) (w : Int32) : Ev_ (fun n => uf_X1_net n d u a (n_ p) (n_ k) w) (fun r => r = q_ (if w = 0 then am0_ x.1 k p - am1_ x.1 k p else nt_ (ss_fl x.1 k) p)) := by
  obtain ⟨fs, hfs⟩ := ys_cl h
  unfold uf_X1_net
  simp only [hfs, m_bs]
  have a1 := us_side h ok hp hk 1 w
  have a0 := us_side h ok hp hk 0 w
  refine ev_b a1 (fun r1 hr1 => ev_b a0 (fun r0 hr0 => ev_some ?_))
  subst hr1; subst hr0
  rw [q_sub]
  congr 1
  have o1 : decide (¬ (1 : Int32) = 0) = true := by decide
  have o0 : decide (¬ (0 : Int32) = 0) = false := by decide
  rw [o1, o0]
  by_cases c : w = 0
  · rw [if_pos c]
    subst c
    rw [o0, (sd_0 k p x.1).1, (sd_0 k p x.1).2]
  · rw [if_neg c, decide_eq_true c, (sd_1 ok k hp).1, (sd_1 ok k hp).2]; rfl
theorem uq_net {d : UD} {b : Nat} {o : Nat → Nat} {u : UM} {t : Nat} {g : GS_} (h : yR_ d b o u t g) (ok : g_ok g) (x z w : Int32) : Ev_ (fun n => uf_X0_net n d u t x z w) (fun r => Sp_net g x z w r) := by
  obtain ⟨h0, aN, s0, fs, k1, k2, k3, _⟩ := yR_N h
  obtain ⟨fn, hfn⟩ := ys_cl k3
  have h8 := ok.1
  have h4 := ok.2.1
  unfold uf_X0_net uf_X0_net_J33 uf_X0_net_J35 Sp_net Sp_pk
  simp only [k2, m_bs, uq_isParty _ h ok, uq_isKind _ h ok, m_ifb, k1, hfn]
  by_cases c1 : 0 ≤ x.toInt ∧ x.toInt < g_np g
  · by_cases c2 : 0 ≤ z.toInt ∧ z.toInt < g_nk g
    · simp only [if_pos c1, if_pos c2, if_pos (And.intro c1 c2)]
      obtain ⟨p, hp, rfl, e1⟩ := pi_ c1
      obtain ⟨k, hk, rfl, e3⟩ := pi_ c2
      rw [e1, e3]
      refine ev_b (us_net k3 ok.2.2.1 (show p < 8 by omega) (show k < 4 by omega) w) (fun r hr => ev_some ?_)
      rw [hr, show (100000000 : Int32) = q_ 100000000 from rfl, q_add]
      rfl
    · simp only [if_pos c1, if_neg c2, if_neg (fun q : _ ∧ _ => c2 q.2)]
      exact ev_some m2_q
  · simp only [if_neg c1, if_neg (fun q : _ ∧ _ => c1 q.1)]
    exact ev_some m2_q
theorem uq_others {d : UD} {b : Nat} {o : Nat → Nat} {u : UM} {t : Nat} {g : GS_} (h : yR_ d b o u t g) (ok : g_ok g) {p k : Nat} (hp : p < 8) (hk : k < 4) : Ev_ (fun n => uf_X0_others n d u t (n_ p) (n_ k)) (fun r => r = bc_ ((g_s g).1.foldl (so_ k p) 0)) := by
  obtain ⟨h0, aN, s0, fs, k1, k2, k3, _⟩ := yR_N h
  obtain ⟨aT, lT, ft, w1, w2, w3, w4, w5, w6, w7, w8⟩ := ys_T k3
  have h8 := ok.1
  have h4 := ok.2.1
  have sok := ok.2.2.1
  have h40 := sok.2.2.1
  unfold uf_X0_others
  refine ev_b (P := fun r => r = (g_s g).1.foldl (so_ k p) 0) ?_ (fun r hr => by subst hr; exact ev_bn (fun n => uf_bc n d u _) (ev_some rfl))
  unfold uf_X0_others_L5l
  refine ev_for (g_s g).1.length (fun (i : Nat) (y : Int32 × Int32) => y = (((g_s g).1.take i).foldl (so_ k p) 0, n_ i)) (fun i y hi hP => ?_) (fun y hP => ?_) _ (by rw [← n_lit 0]; rfl)
  · subst hP
    have ht := w7.2 i (by omega) hi
    obtain ⟨t0, t1, t2, t3, t4, t5⟩ := td_ni ht
    obtain ⟨o1, o2, _, _, _, o6⟩ := sok.2.2.2.1 _ (List.getElem_mem hi)
    have hgt := fun n => w6 n i (by omega)
    refine ev_eq (r := .inl (((g_s g).1.take (i + 1)).foldl (so_ k p) 0, n_ (i + 1))) (fun n => ?_) ⟨_, rfl, rfl⟩
    unfold uf_X0_others_L5 uf_X0_others_J67 uf_X0_others_J85
    dsimp only
    simp only [k1, m_bs, w2, w3, w4, hgt, t0, t1, t2, t4]
    rw [ef_F (by rw [n_le (by omega) (by omega)]; omega), show n_ i + 1 = n_ (i + 1) from by rw [n_lit 1, n_add], fold_take _ _ _ hi]
    unfold so_
    by_cases c : ((g_s g).1[i]).2.2.2.1 = k
    · rw [ef_T (by rw [n_eq (by omega) (by omega)]; exact c)]
      by_cases c1 : ((g_s g).1[i]).1 = p
      · rw [ef_T (by rw [n_eq (by omega) (by omega)]; exact c1), if_pos ⟨c, Or.inl c1⟩]
      · rw [ef_F (by rw [n_eq (by omega) (by omega)]; exact c1)]
        by_cases c2 : ((g_s g).1[i]).2.1 = p
        · rw [ef_T (by rw [n_eq (by omega) (by omega)]; exact c2), if_pos ⟨c, Or.inr c2⟩]
        · rw [ef_F (by rw [n_eq (by omega) (by omega)]; exact c2), if_neg (fun z => by rcases z.2 with z | z <;> contradiction)]
    · rw [ef_F (by rw [n_eq (by omega) (by omega)]; exact c), if_neg (fun z => c z.1)]
  · subst hP
    refine ev_eq (r := .inr ((g_s g).1.foldl (so_ k p) 0)) (fun n => ?_) ⟨_, rfl, rfl⟩
    unfold uf_X0_others_L5
    dsimp only
    simp only [k1, m_bs, w2, w3, w4]
    rw [ef_T (by rw [n_le (by omega) (by omega)]; omega), List.take_length]
theorem eq_li {x k : Int32} {v : Int} (hk : k.toInt = v) : (x = k) ↔ x.toInt = v := by
  rw [← Int32.toInt_inj, hk]
theorem uin_lit (n : Nat) (d : UD) (u : UM) (w : Int32) {lo hi : Int64} {a c : Int} (h1 : lo.toInt = a) (h2 : hi.toInt = c) : uf_X0_in n d u w.toInt64 lo hi = some (b_ (a ≤ w.toInt ∧ w.toInt ≤ c)) := by
  rw [uq_in, h1, h2, Int32.toInt_toInt64]
theorem uq_side {d : UD} {b : Nat} {o : Nat → Nat} {u : UM} {t : Nat} {g : GS_} (h : yR_ d b o u t g) (ok : g_ok g) (x z w : Int32) : Ev_ (fun n => uf_X0_side n d u t x z w) (fun r => Sp_side g x z w r) := by
  obtain ⟨h0, aN, s0, fs, k1, k2, k3, _⟩ := yR_N h
  obtain ⟨fn, hfn⟩ := ys_cl k3
  have h8 := ok.1
  have h4 := ok.2.1
  have hin := fun n => uin_lit n d u w (lo := 0) (hi := 2) (a := 0) (c := 2) rfl rfl
  unfold uf_X0_side uf_X0_side_J28 uf_X0_side_J60 uf_X0_side_J64 Sp_side Sp_pk
  simp only [k2, m_bs, uq_isParty _ h ok, uq_isKind _ h ok, m_ifb, k1, hfn, hin]
  by_cases c1 : 0 ≤ x.toInt ∧ x.toInt < g_np g
  · by_cases c2 : 0 ≤ z.toInt ∧ z.toInt < g_nk g
    · simp only [if_pos c1, if_pos c2, if_pos (And.intro c1 c2)]
      obtain ⟨p, hp, rfl, e1⟩ := pi_ c1
      obtain ⟨k, hk, rfl, e3⟩ := pi_ c2
      rw [e1, e3]
      by_cases c3 : 0 ≤ w.toInt ∧ w.toInt ≤ 2
      · simp only [if_pos c3]
        rw [show (2 : Int32) = n_ 2 from n_lit 2]
        refine ev_ifq (eq_lit (by omega)) (fun d2 => ?_) (fun d2 => ?_)
        · refine ev_b (uq_others h ok (show p < 8 by omega) (show k < 4 by omega)) (fun r hr => ev_some ?_)
          rw [hr, if_pos (by omega)]
        · refine ev_ifq (eq_li (v := 0) rfl) (fun d0 => ?_) (fun d0 => ?_)
          · refine ev_b (us_side k3 ok.2.2.1 (show p < 8 by omega) (show k < 4 by omega) 1 0) (fun r hr => ev_some ?_)
            rw [hr, if_neg (by omega), if_pos (by omega)]
            congr 1
            exact (sd_0 k p _).1
          · refine ev_b (us_side k3 ok.2.2.1 (show p < 8 by omega) (show k < 4 by omega) 0 0) (fun r hr => ev_some ?_)
            rw [hr, if_neg (by omega), if_neg (by omega)]
            congr 1
            exact (sd_0 k p _).2
      · simp only [if_neg c3]
        exact ev_some m2_q
    · simp only [if_pos c1, if_neg c2, if_neg (fun q : _ ∧ _ => c2 q.2)]
      exact ev_some m2_q
  · simp only [if_neg c1, if_neg (fun q : _ ∧ _ => c1 q.1)]
    exact ev_some m2_q
/-! rows -/
theorem uq_sum {d : UD} {u : UM} {a : Nat} {f : Nat → Int32} (h : iA_ d u a 64 f) {F : Nat → Int} (hf : ∀ c, c < 64 → f c = q_ (F c)) : Ev_ (fun n => uf_X0_sum n d u a) (fun r => r = q_ (fs_tot F)) := by
  unfold uf_X0_sum fs_tot
  refine ev_b1 (lnI_e h) ?_
  refine ev_b (P := fun r => r = q_ (fw_sm 64 F)) ?_ (fun r hr => ev_some hr)
  unfold uf_X0_sum_L10l
  refine ev_for 64 (fun (i : Nat) (y : Int32 × Int32) => y = (q_ (fw_sm i F), n_ i)) (fun i y hi hP => ?_) (fun y hP => ?_) _ (by rw [← n_lit 0]; rfl)
  · subst hP
    refine ev_eq (r := .inl (q_ (fw_sm (i + 1) F), n_ (i + 1))) (fun n => ?_) ⟨_, rfl, rfl⟩
    unfold uf_X0_sum_L10
    dsimp only
    rw [ef_F (by rw [n_le (by omega) (by omega)]; omega), ldI_e h hi (by omega), m_bs, hf i hi, q_add, show n_ i + 1 = n_ (i + 1) from by rw [n_lit 1, n_add]]
    rfl
  · subst hP
    refine ev_eq (r := .inr (q_ (fw_sm 64 F))) (fun n => ?_) ⟨_, rfl, rfl⟩
    unfold uf_X0_sum_L10
    dsimp only
    rw [ef_T (by rw [n_le (by omega) (by omega)]; omega)]
theorem uq_above {d : UD} {u : UM} {a : Nat} {f : Nat → Int32} (h : iA_ d u a 64 f) {F : Nat → Int} (hf : ∀ c, c < 64 → f c = q_ (F c)) (hb : ∀ c, c < 64 → 0 ≤ F c ∧ F c < 2147483648) : Ev_ (fun n => uf_X0_above n d u a) (fun r => r = n_ (ct_ 64 F)) := by
  unfold uf_X0_above
  refine ev_b1 (lnI_e h) ?_
  refine ev_b (P := fun r => r = n_ (ct_ 64 F)) ?_ (fun r hr => ev_some hr)
  unfold uf_X0_above_L10l
  refine ev_for 64 (fun (i : Nat) (y : Int32 × Int32) => y = (n_ (ct_ i F), n_ i)) (fun i y hi hP => ?_) (fun y hP => ?_) _ (by rw [← n_lit 0]; rfl)
  · subst hP
    have hbi := hb i hi
    refine ev_eq (r := .inl (n_ (ct_ (i + 1) F), n_ (i + 1))) (fun n => ?_) ⟨_, rfl, rfl⟩
    unfold uf_X0_above_L10 uf_X0_above_J33 uf_X0_one uf_X0_one_J9
    dsimp only
    rw [ef_F (by rw [n_le (by omega) (by omega)]; omega), ldI_e h hi (by omega), m_bs, hf i hi, show n_ i + 1 = n_ (i + 1) from by rw [n_lit 1, n_add]]
    by_cases c : F i ≤ 0
    · rw [ef_T (by rw [q_0, q_le' (by omega) (by omega) (by omega) (by omega)]; exact c), ef_T rfl, m_bs, show ct_ (i + 1) F = ct_ i F + 0 from by simp only [ct_]; rw [if_neg (by omega)], n_lit 0, n_add]
    · rw [ef_F (by rw [q_0, q_le' (by omega) (by omega) (by omega) (by omega)]; exact c), ef_F (by decide), m_bs, show ct_ (i + 1) F = ct_ i F + 1 from by simp only [ct_]; rw [if_pos (by omega)], n_lit 1, n_add]
  · subst hP
    refine ev_eq (r := .inr (n_ (ct_ 64 F))) (fun n => ?_) ⟨_, rfl, rfl⟩
    unfold uf_X0_above_L10
    dsimp only
    rw [ef_T (by rw [n_le (by omega) (by omega)]; omega)]
/-- what a method leaves: the picture, costs -/
def yO_ (d : UD) (b : Nat) (u : UM) (t : Nat) (g : GS_) (r : (Int32 × UM) × UC) : Prop := ∃ o', yR_ d b o' r.1.2 t g ∧ r.1.2.2 = u.2 + r.2.1 ∧ r.2.1 ≤ 4000 ∧ r.2.2 ≤ 100000
theorem yO_0 {d : UD} {b : Nat} {o : Nat → Nat} {u : UM} {t : Nat} {g : GS_} (h : yR_ d b o u t g) (v : Int32) : yO_ d b u t g ((v, u), (0, 0)) := ⟨o, h, rfl, Nat.zero_le _, Nat.zero_le _⟩
theorem yO_c {d : UD} {b : Nat} {u u' : UM} {t : Nat} {g : GS_} {v : Int32} {c : UC} (h : yO_ d b u t g ((v, u'), c)) (v' : Int32) {c' : UC} (hc : c' = c) : yO_ d b u t g ((v', u'), c') := by
  subst hc; exact h
theorem uq_total {d : UD} {b : Nat} {o : Nat → Nat} {u : UM} {t : Nat} {g : GS_} (h : yR_ d b o u t g) (ok : g_ok g) (nw : ss_nw (g_np g) (g_nk g) (g_s g)) (z w : Int32) : Ev_ (fun n => uf_X0_total n d u t z w) (fun r => yO_ d b u t g r ∧ Sp_total g z w r.1.1) := by
  obtain ⟨h0, aN, s0, fs, k1, k2, k3, _⟩ := yR_N h
  obtain ⟨fn, hfn⟩ := ys_cl k3
  have h8 := ok.1
  have h4 := ok.2.1
  have sok := ok.2.2.1
  have h40 := sok.2.2.1
  have hin := fun n => uin_lit n d u w (lo := 0) (hi := 3) (a := 0) (c := 3) rfl rfl
  unfold uf_X0_total uf_X0_total_J20 Sp_total Sp_k
  simp only [k2, m_bs, uq_isKind _ h ok, m_ifb, k1, hfn, hin]
  by_cases c1 : 0 ≤ z.toInt ∧ z.toInt < g_nk g
  · simp only [if_pos c1]
    by_cases c3 : 0 ≤ w.toInt ∧ w.toInt ≤ 3
    · simp only [if_pos c3]
      obtain ⟨k, hk, rfl, e3⟩ := pi_ c1
      rw [e3]
      have hfl := fl_s_ok sok nw hk
      have flows : ∀ {G : Nat → Nat → UM → Option (Int32)} {v : Int32}, (∀ u' f, iA_ d u' u.2 64 f → (∀ c, c < 64 → f c = q_ (ss_fl (g_s g).1 k c)) → Ev_ (fun n => G n u.2 u') (fun r => r = v)) → Ev_ (fun n => u_bc u.2 (uf_X1_flows n d u aN (n_ k)) (fun r35 u36 => m_b (G n r35 u36) (fun r41 => some ((r41, u36), (0, 0))))) (fun r => yO_ d b u t g r ∧ r.1.1 = v) := fun {G v} hG => by
        refine ev_bc (P := fun a u' c => c = (1, 64) ∧ a = u.2 ∧ u'.2 = u.2 + 1 ∧ ygt_ b K0_ o u (ot_ o u.2 21) u' ∧ ∃ f, iA_ d u' u.2 64 f ∧ ∀ c, c < 64 → f c = q_ (ss_fl (g_s g).1 k c)) (us_flows h0 k3 sok (show k < 4 by omega)) (fun a u' c hp => by rw [hp.1]; exact hp.2.2.1) (fun a u' c hp => ?_)
        obtain ⟨rfl, rfl, p3, p4, f, p5, p6⟩ := hp
        refine ev_b (hG u' f p5 p6) (fun r hr => ev_some ⟨⟨_, yR_keep h p4 (fun x hx => hx.elim), p3, by show 1 + 0 ≤ 4000; omega, by show 64 + 0 ≤ 100000; omega⟩, hr⟩)
      refine ev_ifq (eq_li (v := 0) rfl) (fun d0 => ?_) (fun d0 => ?_)
      · rw [if_pos (by omega)]
        exact flows (fun u' f q1 q2 => uq_sum q1 q2)
      refine ev_ifq (eq_li (v := 1) rfl) (fun d1 => ?_) (fun d1 => ?_)
      · rw [if_neg (by omega), if_pos (by omega)]
        exact flows (fun u' f q1 q2 => uq_above q1 q2 (fun c hc => by have := fl_c hfl hc; omega))
      refine ev_ifq (eq_li (v := 2) rfl) (fun d2 => ?_) (fun d2 => ?_)
      · rw [if_neg (by omega), if_neg (by omega), if_pos (by omega)]
        obtain ⟨aT, lT, ft, w1, w2, w3, w4, w5, w6, w7, w8⟩ := ys_T k3
        refine ev_bl (P := fun y c => c = (0, 0) ∧ y = (q_ (ks_ (g_s g).1 k), u)) ?_ (fun y c hp => by obtain ⟨rfl, rfl⟩ := hp; exact ev_some ⟨yO_0 h _, rfl⟩)
        unfold uf_X0_total_L79l ks_
        refine ev_uf (Q := fun y => y = (q_ (ts_sum (fun t => decide (t.2.2.2.1 = k) && t.2.2.2.2) (g_s g).1), u)) (g_s g).1.length (fun (i : Nat) (y : Int32 × Int32 × UM) => y = (q_ (ts_sum (fun t => decide (t.2.2.2.1 = k) && t.2.2.2.2) ((g_s g).1.take i)), n_ i, u)) (fun i y hi hP => ?_) (fun y hP => ?_) _ (by rw [← n_lit 0]; simp [ts_sum]; rfl)
        · subst hP
          have ht := w7.2 i (by omega) hi
          obtain ⟨t0, t1, t2, t3, t4, t5⟩ := td_ni ht
          obtain ⟨o1, o2, _, _, _, o6⟩ := sok.2.2.2.1 _ (List.getElem_mem hi)
          have hgt := fun n => w6 n i (by omega)
          refine ev_eq (r := (.inl (q_ (ts_sum (fun t => decide (t.2.2.2.1 = k) && t.2.2.2.2) ((g_s g).1.take (i + 1))), n_ (i + 1), u), (0, 0))) (fun n => ?_) ⟨_, rfl, rfl⟩
          unfold uf_X0_total_L79 uf_X0_total_J159 uf_X0_total_J160
          dsimp only
          simp only [k1, m_bs, w2, w3, w4, hgt, t0, t3, t4, t5]
          rw [ef_F (by rw [n_le (by omega) (by omega)]; omega), show n_ i + 1 = n_ (i + 1) from by rw [n_lit 1, n_add], ts_sum_take _ _ hi, q_add, show q_ (ts_sum (fun t => decide (t.2.2.2.1 = k) && t.2.2.2.2) ((g_s g).1.take i)) + 0 = q_ (ts_sum (fun t => decide (t.2.2.2.1 = k) && t.2.2.2.2) ((g_s g).1.take i) + 0) from by rw [show (0 : Int32) = q_ 0 from rfl, q_add]]
          by_cases c : ((g_s g).1[i]).2.2.2.1 = k
          · rw [ef_T (by rw [n_eq (by omega) (by omega)]; exact c)]
            by_cases ck : ((g_s g).1[i]).2.2.2.2 = true
            · rw [if_pos (show (decide (((g_s g).1[i]).2.2.2.1 = k) && ((g_s g).1[i]).2.2.2.2) = true by simp [c, ck]), if_pos ck, ef_F (by decide)]
            · rw [if_neg (show ¬ (decide (((g_s g).1[i]).2.2.2.1 = k) && ((g_s g).1[i]).2.2.2.2) = true by simp [c, ck]), if_neg ck, ef_T (by decide)]
          · rw [ef_F (by rw [n_eq (by omega) (by omega)]; exact c), if_neg (by simp [c])]
        · subst hP
          refine ev_eq (r := (.inr (q_ (ts_sum (fun t => decide (t.2.2.2.1 = k) && t.2.2.2.2) (g_s g).1), u), (0, 0))) (fun n => ?_) ⟨_, rfl, rfl⟩
          unfold uf_X0_total_L79
          dsimp only
          simp only [k1, m_bs, w2, w3, w4]
          rw [ef_T (by rw [n_le (by omega) (by omega)]; omega), ts_sum_all]
      · rw [if_neg (by omega), if_neg (by omega), if_neg (by omega)]
        refine ev_bl (P := fun y c => c = (0, 0) ∧ y = (q_ (fw_sm (g_np g) (fun p => max 0 (nt_ (ss_fl (g_s g).1 k) p))), u)) ?_ (fun y c hp => by obtain ⟨rfl, rfl⟩ := hp; exact ev_some ⟨yO_0 h _, rfl⟩)
        unfold uf_X0_total_L173l
        refine ev_uf (Q := fun y => y = (q_ (fw_sm (g_np g) (fun p => max 0 (nt_ (ss_fl (g_s g).1 k) p))), u)) (g_np g) (fun (i : Nat) (y : Int32 × Int32 × UM) => y = (q_ (fw_sm i (fun p => max 0 (nt_ (ss_fl (g_s g).1 k) p))), n_ i, u)) (fun i y hi hP => ?_) (fun y hP => ?_) _ (by rw [← n_lit 0]; rfl)
        · subst hP
          unfold uf_X0_total_L173
          dsimp only
          have hmany := fun n => us_many n k3
          simp only [k1, m_bs, hfn, hmany]
          refine ev_ifF (by show ¬ n_ (g_np g) ≤ n_ i; rw [n_le (by omega) (by omega)]; omega) ?_
          refine ev_b (us_net k3 sok (show i < 8 by omega) (show k < 4 by omega) 1) (fun r hr => ?_)
          rw [if_neg (by decide)] at hr
          subst hr
          have hfit : -2147483648 ≤ nt_ (ss_fl (g_s g).1 k) i ∧ nt_ (ss_fl (g_s g).1 k) i < 2147483648 := by
            have := hfl.2.2.2 i (by omega)
            have := fs_out_nn hfl.2.1 i
            unfold nt_; omega
          have hmx : (if (0 : Int32) < (q_ (nt_ (ss_fl (g_s g).1 k) i) : Int32) then (q_ (nt_ (ss_fl (g_s g).1 k) i) : Int32) else (0 : Int32)) = q_ (max 0 (nt_ (ss_fl (g_s g).1 k) i)) := by
            by_cases c : 0 < nt_ (ss_fl (g_s g).1 k) i
            · rw [if_pos (by rw [q_0, q_lt' (by omega) (by omega) hfit.1 hfit.2]; exact c), show max 0 (nt_ (ss_fl (g_s g).1 k) i) = nt_ (ss_fl (g_s g).1 k) i by omega]
            · rw [if_neg (by rw [q_0, q_lt' (by omega) (by omega) hfit.1 hfit.2]; exact c), show max 0 (nt_ (ss_fl (g_s g).1 k) i) = 0 by omega]; rfl
          rw [hmx, q_add, show n_ i + 1 = n_ (i + 1) from by rw [n_lit 1, n_add]]
          exact ev_some ⟨_, rfl, rfl⟩
        · subst hP
          unfold uf_X0_total_L173
          dsimp only
          have hmany := fun n => us_many n k3
          simp only [k1, m_bs, hfn, hmany]
          exact ev_ifT (by show n_ (g_np g) ≤ n_ (g_np g); rw [n_le (by omega) (by omega)]; omega) (ev_some ⟨_, rfl, rfl⟩)
    · simp only [if_neg c3]
      exact ev_some ⟨yO_0 h _, m2_q⟩
  · simp only [if_neg c1]
    exact ev_some ⟨yO_0 h _, m2_q⟩
/-! sets -/
theorem uq_netOf {d : UD} {b : Nat} {o : Nat → Nat} {u : UM} {t : Nat} {g : GS_} (h : yR_ d b o u t g) (ok : g_ok g) {k : Nat} (hk : k < g_nk g) (v : Int32) : Ev_ (fun n => uf_X0_netOf n d u t v (n_ k)) (fun r => r = q_ (gs_ (g_np g) (ss_fl (g_s g).1 k) v)) := by
  obtain ⟨h0, aN, s0, fs, k1, k2, k3, _⟩ := yR_N h
  obtain ⟨fn, hfn⟩ := ys_cl k3
  have h8 := ok.1
  have h4 := ok.2.1
  have sok := ok.2.2.1
  have hmany := fun n => us_many n k3
  unfold uf_X0_netOf gs_
  refine ev_b (P := fun r => r = q_ (fw_sm (g_np g) (fun p => if bt_ v p then nt_ (ss_fl (g_s g).1 k) p else 0))) ?_ (fun r hr => ev_some hr)
  unfold uf_X0_netOf_L5l
  refine ev_for (g_np g) (fun (i : Nat) (y : Int32 × Int32) => y = (q_ (fw_sm i (fun p => if bt_ v p then nt_ (ss_fl (g_s g).1 k) p else 0)), n_ i)) (fun i y hi hP => ?_) (fun y hP => ?_) _ (by rw [← n_lit 0]; rfl)
  · subst hP
    unfold uf_X0_netOf_L5 uf_X0_netOf_J43
    dsimp only
    simp only [k1, m_bs, hfn, hmany]
    refine ev_ifF (by show ¬ n_ (g_np g) ≤ n_ i; rw [n_le (by omega) (by omega)]; omega) ?_
    rw [show n_ i + 1 = n_ (i + 1) from by rw [n_lit 1, n_add]]
    refine ev_ifq (bt_test (by omega) v) (fun c => ?_) (fun c => ?_)
    · refine ev_b (us_net k3 sok (show i < 8 by omega) (show k < 4 by omega) 1) (fun r hr => ?_)
      rw [if_neg (by decide)] at hr
      subst hr
      refine ev_some ⟨_, rfl, ?_⟩
      rw [q_add]
      show _ = (q_ (fw_sm i _ + (if bt_ v i then nt_ (ss_fl (g_s g).1 k) i else 0)), _)
      rw [if_pos c]
    · refine ev_some ⟨_, rfl, ?_⟩
      rw [show (0 : Int32) = q_ 0 from rfl, q_add]
      show _ = (q_ (fw_sm i _ + (if bt_ v i then nt_ (ss_fl (g_s g).1 k) i else 0)), _)
      rw [if_neg c]
  · subst hP
    unfold uf_X0_netOf_L5
    dsimp only
    simp only [k1, m_bs, hfn, hmany]
    exact ev_ifT (by show n_ (g_np g) ≤ n_ (g_np g); rw [n_le (by omega) (by omega)]; omega) (ev_some ⟨_, rfl, rfl⟩)
theorem uq_even {d : UD} {b : Nat} {o : Nat → Nat} {u : UM} {t : Nat} {g : GS_} (h : yR_ d b o u t g) (ok : g_ok g) (x z : Int32) : Ev_ (fun n => uf_X0_even n d u t x z) (fun r => Sp_even g x z r) := by
  obtain ⟨h0, aN, s0, fs, k1, k2, k3, _⟩ := yR_N h
  obtain ⟨fn, hfn⟩ := ys_cl k3
  have h8 := ok.1
  have h4 := ok.2.1
  have hmany : ∀ n, uf_X1_many n d u aN = some (n_ (g_np g)) := fun n => us_many n k3
  have hin := fun n => uin_lit n d u x (lo := 0) (hi := ((1 <<< ((n_ (g_np g)) &&& 31)) - 1 : Int32).toInt64) (a := 0) (c := 2 ^ (g_np g) - 1) rfl (pw_np h8)
  unfold uf_X0_even uf_X0_even_J29 uf_X0_even_J59 uf_X0_even_J62 Sp_even Sp_k
  simp only [k2, m_bs, uq_isKind _ h ok, m_ifb, k1, hfn, hmany, hin, uf_bc]
  by_cases c1 : 0 ≤ z.toInt ∧ z.toInt < g_nk g
  · simp only [if_pos c1]
    obtain ⟨k, hk, rfl, e3⟩ := pi_ c1
    rw [e3]
    by_cases c2 : 0 ≤ x.toInt ∧ x.toInt ≤ 2 ^ (g_np g) - 1
    · simp only [if_pos c2]
      by_cases c3 : (2 : Int32) ≤ bc_ x
      · refine ev_ifT c3 ?_
        simp only [if_pos c3]
        refine ev_b (uq_netOf h ok hk x) (fun r hr => ?_)
        subst hr
        refine ev_if (fun c4 => ?_) (fun c4 => ?_)
        · refine ev_b1 rfl (ev_some ?_)
          rw [if_pos c4]; exact n_lit 1
        · refine ev_b1 rfl (ev_some ?_)
          rw [if_neg c4]; exact n_lit 0
      · refine ev_ifF c3 ?_
        simp only [if_neg c3]
        exact ev_some m3_q
    · simp only [if_neg c2]
      exact ev_some m2_q
  · simp only [if_neg c1]
    exact ev_some m2_q
