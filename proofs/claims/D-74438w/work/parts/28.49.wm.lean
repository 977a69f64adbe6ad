set_option maxRecDepth 100000
/-! The component presses for good -/
section
variable {d : UD} {b : Nat} {o : Nat → Nat} {u : UM} {t : Nat} {g : GS_}
theorem uq_p29 (h : yR_ d b o u t g) (ok : g_ok g) {k : Nat} (hk : k < 4) (a : Nat) : Ev_ (fun n => uf_X0_press_L29l n d t (n_ k) a (0, 0, u)) (fun r => r.2 = (0, 0) ∧ r.1 = (n_ ((g_s g).1.length - (nf_ k (g_s g).1).length), u)) := by
  obtain ⟨h0, aN, s0, fs, k1, k2, k3, _⟩ := yR_N h
  obtain ⟨aT, lT, ft, w1, w2, w3, w4, w5, w6, w7, w8⟩ := ys_T k3
  have h40 : (g_s g).1.length ≤ 40 := ok.2.2.1.2.2.1
  have h4 := ok.2.1
  unfold uf_X0_press_L29l
  refine ev_uf (Q := fun (y : Int32 × UM) => y = (n_ ((g_s g).1.length - (nf_ k (g_s g).1).length), u)) (g_s g).1.length (fun (i : Nat) (y : Int32 × Int32 × UM) => y = (n_ (i - (nf_ k ((g_s g).1.take i)).length), n_ i, u)) (fun i y hi hP => ?_) (fun y hP => ?_) _ (by simp [nf_]; exact n_lit 0)
  · subst hP
    have hil : i < lT.length := by omega
    have ht := w7.2 i hil hi
    obtain ⟨t0, t1, t2, t3, t4, t5⟩ := td_ni ht
    have hok := ok.2.2.1.2.2.2.1 _ (List.getElem_mem hi)
    have hlen : (nf_ k ((g_s g).1.take i)).length ≤ i := by
      have : (nf_ k ((g_s g).1.take i)).length ≤ ((g_s g).1.take i).length := List.length_filter_le _ _
      rw [List.length_take] at this; omega
    refine ev_eq (r := (.inl (n_ (i + 1 - (nf_ k ((g_s g).1.take (i + 1))).length), n_ (i + 1), u), (0, 0))) (fun n => ?_) ⟨_, rfl, rfl⟩
    unfold uf_X0_press_L29
    simp only [k1, w2, w3, w4, w6 _ i hil, t0, m_bs]
    rw [ef_F (by rw [n_le (by omega) (by omega)]; omega), ut_isFree n ht (by have := hok.2.2.2.2.2; omega) hk, m_bs, uo_one, m_bs, b_n, n_add, show n_ i + 1 = n_ (i + 1) from by rw [n_lit 1, n_add], nf_take k _ hi]
    by_cases c : tr_fr k ((g_s g).1[i]) = true
    · rw [if_pos c, if_pos c]; congr 6; omega
    · rw [if_neg c, if_neg c]; congr 6; omega
  · subst hP
    refine ev_eq (r := (.inr (n_ ((g_s g).1.length - (nf_ k (g_s g).1).length), u), (0, 0))) (fun n => ?_) ⟨_, rfl, rfl⟩
    unfold uf_X0_press_L29
    simp only [k1, w2, w3, w4, m_bs]
    rw [ef_T (by rw [n_le (by omega) (by omega)]; omega), List.take_length]
theorem uq_p118 {l : List Tr_} {caps : Nat → Int} {mode aN s0 : Nat} (R : yRm_ d b o u t (g_set g (l, caps, mode)) aN s0) (h40 : l.length ≤ 40) (hl : ∀ t ∈ l, t.2.2.2.1 < 4) {k : Nat} (hk : k < 4) (a : Nat) : Ev_ (fun n => uf_X0_press_L118l n d t (n_ k) a (q_ ((l.length : Int) - 1), u)) (fun r => r.2 = (0, 0) ∧ r.1.2 = u.2 ∧ yRm_ d b o r.1 t (g_set g (nf_ k l, caps, mode)) aN s0 ∧ ygt_ b (Ks_ s0) o u o r.1) := by
  have h0 := (yRm_N R).1
  unfold uf_X0_press_L118l
  refine ev_uf (Q := fun (s : UM) => s.2 = u.2 ∧ yRm_ d b o s t (g_set g (nf_ k l, caps, mode)) aN s0 ∧ ygt_ b (Ks_ s0) o u o s) l.length (fun (i : Nat) (y : Int32 × UM) => y.1 = q_ ((l.length : Int) - 1 - i) ∧ y.2.2 = u.2 ∧ yRm_ d b o y.2 t (g_set g (l.take (l.length - i) ++ nf_ k (l.drop (l.length - i)), caps, mode)) aN s0 ∧ ygt_ b (Ks_ s0) o u o y.2) (fun i y hi hP => ?_) (fun y hP => ?_) _ ⟨by dsimp only; congr 1; omega, rfl, ?_, ygt_rfl h0⟩
  · obtain ⟨v, u1⟩ := y
    obtain ⟨e0, z1, R1, G1⟩ := hP
    dsimp only at e0 z1 R1 G1 ⊢
    subst e0
    have ht : l.length - 1 - i < l.length := by omega
    have et : (l.length : Int) - 1 - i = ((l.length - 1 - i : Nat) : Int) := by omega
    rw [et, ← n_q]
    generalize htv : l.length - 1 - i = m at *
    have e1 : l.length - i = m + 1 := by omega
    have e2 : l.length - (i + 1) = m := by omega
    rw [e1, List.take_succ_eq_append_getElem ht, List.append_assoc] at R1
    rw [e2]
    change yRm_ d b o u1 t (g_set g (l.take m ++ l[m] :: nf_ k (l.drop (m + 1)), caps, mode)) aN s0 at R1
    have hlen : (l.take m).length = m := by rw [List.length_take]; omega
    have hdrop : l.drop m = l[m] :: l.drop (m + 1) := List.drop_eq_getElem_cons ht
    have htl : m < (l.take m ++ l[m] :: nf_ k (l.drop (m + 1))).length := by simp only [List.length_append, List.length_cons, hlen]; omega
    have hget : (l.take m ++ l[m] :: nf_ k (l.drop (m + 1)))[m]'htl = l[m] := by rw [List.getElem_append_right (by omega)]; simp [hlen]
    obtain ⟨p0, pc, p1, ⟨pf, p2⟩, p3, p4⟩ := yRm_N R1
    obtain ⟨aT, lT, ft, x1, x2, x3, x4, x5, x6, x7, x8⟩ := ys_T p3
    have x7 : al2_ (td_ o u1) lT (l.take m ++ l[m] :: nf_ k (l.drop (m + 1))) := x7
    have x5 : lT.length = (l.take m ++ l[m] :: nf_ k (l.drop (m + 1))).length := x5
    have hil : m < lT.length := by omega
    have htd : td_ o u1 lT[m] l[m] := by
      have := x7.2 m hil htl
      rw [hget] at this; exact this
    obtain ⟨t0, t1, t2, t3, t4, t5⟩ := td_ni htd
    have hgt := fun n => x6 n m hil
    have hfree := fun n => ut_isFree n (d := d) htd (hl _ (List.getElem_mem ht)) hk
    have hidx : n_ m + -1 = q_ ((l.length : Int) - 1 - ((i + 1 : Nat) : Int)) := by rw [m1_q, n_q, q_add]; congr 1; omega
    unfold uf_X0_press_L118 uf_X0_press_J158
    simp only [p1, x2, x3, hgt, t0, hfree, m_bs, m_ifb, hidx]
    refine ev_ifF (by rw [n_lit 0, n_lt (by omega) (by omega)]; omega) ?_
    by_cases c : tr_fr k (l[m]) = true
    · simp only [if_pos c]
      have nk14 : ¬ Kl_ (16 * s0 + 3) (16 * s0 + 6) 14 := fun z => by rcases z with z | z <;> omega
      have kls : ∀ z, Kl_ (16 * s0 + 3) (16 * s0 + 6) z → Ks_ s0 z := fun z hz => by rcases hz with hz | hz <;> unfold Ks_ <;> omega
      refine ev_bc (P := fun _ u48 c => c = (0, 0) ∧ u48.2 = u1.2 ∧ al_ d o u48 aT (16 * s0 + 3) (16 * s0 + 6) (lT.eraseIdx m) ∧ ygt_ b (Kl_ (16 * s0 + 3) (16 * s0 + 6)) o u1 o u48) (ev_w (ul_remove p0 x8 (al2_elt x7) hil) (fun r hr => ⟨hr.1, hr.2.2⟩)) (fun _ u48 c hp => by rw [hp.1]; exact hp.2.1) (fun _ u48 c' hp => ?_)
      obtain ⟨rfl, y1, y4, y5⟩ := hp
      have S2 := ys_setT p0 p3 y5 p4 x2 y4 (al2_erase (al2_mono x7 (fun _ _ _ h => td_keep p0 y5 h nk14)) hil)
      have e3 : (l.take m ++ l[m] :: nf_ k (l.drop (m + 1))).eraseIdx m = l.take m ++ nf_ k (l.drop m) := by
        have := er_mid (l.take m) (l[m]) (nf_ k (l.drop (m + 1)))
        rw [hlen] at this
        rw [this, hdrop]
        unfold nf_
        rw [List.filter_cons_of_neg (by simp [c])]
      rw [e3] at S2
      have R3 := yRm_set R1 y5 (fun x hx => Kl_s hx) S2
      exact ev_some ⟨_, rfl, rfl, y1.trans z1, R3, ygt_tr h0 G1 (ygt_sub y5 kls)⟩
    · simp only [if_neg c]
      refine ev_some ⟨_, rfl, rfl, z1, ?_, G1⟩
      have e3 : l.take m ++ nf_ k (l.drop m) = l.take m ++ l[m] :: nf_ k (l.drop (m + 1)) := by
        rw [hdrop]
        unfold nf_
        rw [List.filter_cons_of_pos (by simp [c])]
      rw [e3]; exact R1
  · obtain ⟨v, u1⟩ := y
    obtain ⟨e0, z1, R1, G1⟩ := hP
    dsimp only at e0 z1 R1 G1 ⊢
    subst e0
    unfold uf_X0_press_L118
    refine ev_ifT (by rw [q_0, q_lt ⟨by omega, by omega⟩ ⟨by omega, by omega⟩]; omega) (ev_some ⟨_, rfl, z1, ?_, G1⟩)
    rw [Nat.sub_self] at R1
    simpa using R1
  · dsimp only
    rw [Nat.sub_zero, List.take_length, List.drop_length]
    simpa [nf_] using R
theorem uq_p167 {l : List Tr_} {caps : Nat → Int} {mode aN s0 : Nat} (R : yRm_ d b o u t (g_set g (l, caps, mode)) aN s0) {k : Nat} {a : Nat} {f : Nat → Int32} (ha : iA_ d u a 64 f) (ta : o a = 13) {X : Nat → Int} (eX : ∀ c, c < 64 → f c = q_ (X c)) (hX : ∀ c, c < 64 → 0 ≤ X c ∧ X c < 2147483648) (hl : l.length + ct_ 64 X ≤ 40) : Ev_ (fun n => uf_X0_press_L167l n d t (n_ k) a (0, u)) (fun r => ∃ o', r.1.2 = u.2 + r.2.1 ∧ r.2.1 ≤ 80 ∧ r.2.2 ≤ 16200 ∧ yRm_ d b o' r.1 t (g_set g (l ++ pr_new X k 64, caps, mode)) aN s0) := by
  have h0 := (yRm_N R).1
  have s10 : 10 ≤ s0 := (yRm_N R).2.2.2.2.2
  unfold uf_X0_press_L167l
  refine ev_ul (Q := fun (s : UM) (c : UC) => ∃ o', s.2 = u.2 + c.1 ∧ c.1 ≤ 80 ∧ c.2 ≤ 16200 ∧ yRm_ d b o' s t (g_set g (l ++ pr_new X k 64, caps, mode)) aN s0) (fun (i : Nat) => 64 - i) (fun (i : Nat) (y : Int32 × UM) (c : UC) => i ≤ 64 ∧ y.1 = n_ i ∧ y.2.2 = u.2 + c.1 ∧ c.1 ≤ 2 * ct_ i X ∧ c.2 ≤ 405 * ct_ i X ∧ ∃ o', yRm_ d b o' y.2 t (g_set g (l ++ pr_new X k i, caps, mode)) aN s0 ∧ iA_ d y.2 a 64 f ∧ o' a = 13) (fun i y c hy => ?_) 0 (0, u) ⟨by omega, n_lit 0, rfl, Nat.zero_le _, Nat.zero_le _, o, by simp only [pr_new, List.append_nil]; exact R, ha, ta⟩
  obtain ⟨v, u1⟩ := y
  obtain ⟨hi, e0, z1, b1, b2, o1, R1, a1, t1⟩ := hy
  dsimp only at e0 z1 R1 a1 ⊢
  subst e0
  have hidx : n_ i + 1 = n_ (i + 1) := by rw [n_lit 1, n_add]
  have c64 := ct_mono X (show i ≤ 64 by omega)
  unfold uf_X0_press_L167 uf_X0_press_J215
  refine ev_b1 (lnI_e a1) ?_
  refine ev_ifq (c' := 64 ≤ i) (by rw [n_le (by omega) (by omega)]) (fun c0 => ?_) (fun c0 => ?_)
  · have e : i = 64 := by omega
    subst e
    exact ev_some ⟨o1, z1, by show c.1 + 0 ≤ 80; omega, by show c.2 + 0 ≤ 16200; omega, R1⟩
  · have hi64 : i < 64 := by omega
    have hXi := hX i hi64
    refine ev_b1 (ldI_e a1 hi64 (by omega)) ?_
    rw [eX i hi64, hidx]
    refine ev_ifq (c' := X i ≤ 0) (by rw [q_0, q_le' (by omega) (by omega) (by omega) (by omega)]) (fun c1 => ?_) (fun c1 => ?_)
    · have ec : ct_ (i + 1) X = ct_ i X := by show ct_ i X + (if 0 < X i then 1 else 0) = _; rw [if_neg (by omega)]; rfl
      refine ev_some ⟨i + 1, ⟨by omega, rfl, z1, by show c.1 + 0 ≤ _; rw [ec]; omega, by show c.2 + 0 ≤ _; rw [ec]; omega, o1, ?_, a1, t1⟩, by omega⟩
      simp only [pr_new]
      rw [if_neg (by omega), List.append_nil]; exact R1
    · have ec : ct_ (i + 1) X = ct_ i X + 1 := by show ct_ i X + (if 0 < X i then 1 else 0) = _; rw [if_pos (by omega)]
      have c65 := ct_mono X (show i + 1 ≤ 64 by omega)
      rw [ec] at c65
      obtain ⟨q0, qc, q1, ⟨f1, q2⟩, q3, q4⟩ := yRm_N R1
      obtain ⟨aT1, lT1, ft1, v1, v2, v3, v4, v5, v6, v7, v8⟩ := ys_T q3
      have v5 : lT1.length = (l ++ pr_new X k i).length := v5
      have hlen : (l ++ pr_new X k i).length < 40 := by rw [List.length_append, pr_len]; omega
      refine ev_b1 q1 (ev_b1 v2 ?_)
      refine ev_ac (ev_nw q0 (fun u112 c112 => ?_))
      have g112 := ygt_nw (K := K0_) (o := o1) q0 c112 14
      have a112 := ygt_at q0 g112 a1 (fun z => z)
      have t14 : ot_ o1 u1.2 14 u1.2 = 14 := ot_at _ _ _
      have ta112 := a112.2.trans t1
      have R2 : ys_ d (ot_ o1 u1.2 14) u112 aN s0 g.1 g.2.1 (l ++ pr_new X k i, caps, mode) := ys_keep q0 g112 q3 (fun z => z) (fun r _ z => z)
      generalize ot_ o1 u1.2 14 = o2 at *
      refine ev_g (by decide) (ev_g (by decide) ?_)
      refine ev_b1 (ldI_e a112.1 hi64 (by omega)) ?_
      rw [eX i hi64]
      have d1 : n_ i / 8 = n_ (i / 8) := by rw [n_lit 8, n_div (by omega) (by omega) (by omega)]
      have d2 : n_ i - n_ i / 8 * 8 = n_ (i % 8) := by rw [d1, n_lit 8, n_mul, n_sub (by omega), show i - i / 8 * 8 = i % 8 by omega]
      rw [d2, d1]
      refine ev_bc (P := fun _ u6 c => c = (0, 0) ∧ u6.2 = u112.2 ∧ ch_ u112 u6 u1.2 (.inr (6, [.int (n_ (i / 8)), .int (n_ (i % 8)), .int (q_ (X i)), .int (n_ k), .int 0]))) (ut_init (o := o2) g112.1 c112.2.1 _ _ _ _ _ (by decide)) (fun _ u6 c hp => by rw [hp.1]; exact hp.2.1) (fun _ u120 c2 hp => ?_)
      obtain ⟨rfl, z2, c120⟩ := hp
      have g120 : ygt_ b K0_ o1 u1 o2 u120 := ygt_chn q0 g112 (Nat.le_refl _) c112.2.1 c120 (kd1_o _ _ _)
      have hd : td_ o2 u120 u1.2 (i / 8, i % 8, X i, k, false) := ⟨by rw [show (if (i / 8, i % 8, X i, k, false).2.2.2.2 = true then 1 else 0) = 0 from rfl, ← n_lit 0]; exact c120.2.1, t14⟩
      have R3 : ys_ d o2 u120 aN s0 g.1 g.2.1 (l ++ pr_new X k i, caps, mode) := ys_keep q0 g120 q3 (fun z => z) (fun r _ z => z)
      have Rm3 := yRm_set R1 g120 (fun x hx => hx.elim) R3
      have a120 := ygt_at q0 g120 a1 (fun z => z)
      have x8 := al_keep q0 g120 v8 (fun z => z) (fun z => z)
      have x7 := al2_mono v7 (fun _ _ _ h => td_keep q0 g120 h (fun z => z))
      have x2' : u_nr u120 2 2 aN = some aT1 := by
        obtain ⟨aP, aK, aT', aC, lP, lK, lT', f, w1, w2, _⟩ := q3
        have w1' := (ygt_at q0 g120 w1 (fun z => z)).1
        have a := nr_e w1 (k := 2) rfl
        have b := nr_e w1' (k := 2) rfl
        rw [v2] at a
        rw [b]; exact congrArg some (Option.some.inj a).symm
      obtain ⟨fl2, hfl2⟩ := al_cl x8
      refine ev_b1 hfl2 ?_
      refine ev_bc (P := fun _ u48 c => ∃ o', u48.2 = u120.2 + c.1 ∧ c.1 ≤ 1 ∧ c.2 ≤ 400 ∧ al_ d o' u48 aT1 (16 * s0 + 3) (16 * s0 + 6) (lT1 ++ [u1.2]) ∧ ygt_ b (Kl_ (16 * s0 + 3) (16 * s0 + 6)) o2 u120 o' u48) (ul_add g120.1 qc x8 (al2_elt x7) (by omega) (td_el hd)) (fun _ u48 c hp => by obtain ⟨o', h2, _⟩ := hp; exact h2) (fun _ u48 c' hp => ?_)
      obtain ⟨o3, y1, y2, y3, y4, y5⟩ := hp
      have nk14 : ¬ Kl_ (16 * s0 + 3) (16 * s0 + 6) 14 := fun z => by rcases z with z | z <;> omega
      have S2 := ys_setT g120.1 R3 y5 q4 x2' y4 (al2_app (al2_mono x7 (fun _ _ _ h => td_keep g120.1 y5 h nk14)) (td_keep g120.1 y5 hd nk14))
      have R4 := yRm_set Rm3 y5 (fun x hx => Kl_s hx) S2
      have a48 := ygt_at g120.1 y5 a120.1 (by rw [a120.2, t1]; intro z; rcases z with z | z <;> omega)
      have zc : u112.2 = u1.2 + 1 := c112.1
      refine ev_some ⟨i + 1, ⟨by omega, rfl, ?_, ?_, ?_, o3, ?_, a48.1, a48.2.trans (a120.2.trans t1)⟩, by omega⟩
      · show u48.2 = u.2 + (c.1 + (1 + (0 + (c'.1 + 0)))); omega
      · show c.1 + (1 + (0 + (c'.1 + 0))) ≤ _; rw [ec]; omega
      · show c.2 + (5 + (0 + (c'.2 + 0))) ≤ _; rw [ec]; omega
      · simp only [pr_new]
        rw [if_pos (by omega), ← List.append_assoc]
        exact R4
theorem uq_press (h : yR_ d b o u t g) (ok : g_ok g) (nw : ss_nw (g_np g) (g_nk g) (g_s g)) (z : Int32) : Ev_ (fun n => uf_X0_press n d u t z) (fun r => ∃ g', yO_ d b u t g' r ∧ Ac_press g z r.1.1 g') := by
  obtain ⟨h0, aN, s0, fs, k1, k2, k3, _⟩ := yR_N h
  have h4 := ok.2.1
  have sok := ok.2.2.1
  have h40 : (g_s g).1.length ≤ 40 := sok.2.2.1
  unfold uf_X0_press Ac_press
  simp only [k2, m_bs, uq_isKind _ h ok, m_ifb]
  by_cases c : 0 ≤ z.toInt ∧ z.toInt < g_nk g
  · simp only [if_pos c]
    obtain ⟨k, hk, rfl, e3⟩ := pi_ c
    rw [e3]
    have hfl := fl_s_ok sok nw hk
    refine ev_bc (P := fun r u' c => ∃ o', u'.2 = u.2 + c.1 ∧ c.1 ≤ 8 ∧ c.2 ≤ 279 ∧ yR_ d b o' u' t g ∧ yY_ d o' u' g k r) (uq_first h ok nw hk) (fun a u' c hp => by obtain ⟨_, q, _⟩ := hp; exact q) (fun r u10 c1 hp => ?_)
    obtain ⟨o1, z1, b1, b2, R1, hY⟩ := hp
    rcases hY with ⟨a, f, X, rfl, q2, q3, q4, q5⟩ | ⟨rfl, q1⟩
    · refine ev_qS ?_
      have hXf := Q1_fit sok hfl q4
      have hct := ct_le 64 X
      have hnl : (nf_ k (g_s g).1).length ≤ (g_s g).1.length := List.length_filter_le _ _
      refine ev_bl (P := fun y c => c = (0, 0) ∧ y = (n_ ((g_s g).1.length - (nf_ k (g_s g).1).length), u10)) (uq_p29 R1 ok (show k < 4 by omega) a) (fun y c hp => ?_)
      obtain ⟨rfl, rfl⟩ := hp
      obtain ⟨h01, aN1, s1, fs1, l1, l2, l3, _⟩ := yR_N R1
      obtain ⟨aT, lT, ft, w1, w2, w3, w4, w5, w6, w7, w8⟩ := ys_T l3
      dsimp only
      simp only [l1, w2, w3, w4, l2, m_bs]
      refine ev_b (uq_above q2 q5 hXf) (fun r53 hr53 => ?_)
      subst hr53
      rw [n_sub (by omega), n_add, show (g_s g).1.length - ((g_s g).1.length - (nf_ k (g_s g).1).length) = (nf_ k (g_s g).1).length by omega]
      refine ev_ifq (c' := (nf_ k (g_s g).1).length + ct_ 64 X ≤ 40) (by rw [n_lit 40, n_le (by omega) (by omega)]) (fun c4 => ?_) (fun c4 => ?_)
      · refine ev_bc (P := fun _ u27 c => ∃ o' aN s0, yRm_ d b o' u27 t (g_push g) aN s0 ∧ u27.2 = u10.2 + c.1 ∧ c.1 ≤ 25 ∧ c.2 ≤ 2500 ∧ ygt_ b (fun x => x ≤ 3) o1 u10 o' u27) (uq_actsK R1 ok) (fun _ u27 c hp => by obtain ⟨o', aN, s0, _, h2, _⟩ := hp; exact h2) (fun _ u59 c2 hp => ?_)
        obtain ⟨o2, aN2, s2, R2, z2, d1, d2, g2⟩ := hp
        obtain ⟨p0, pc, p1, ⟨pf, p2⟩, p3, p4⟩ := yRm_N R2
        obtain ⟨aT2, lT2, ft2, x1, x2, x3, x4, x5, x6, x7, x8⟩ := ys_T p3
        have x4 : ∀ n, uf_J2_size n d u59 aT2 = some (n_ (g_s g).1.length) := x4
        have a59 := ygt_at h01 g2 q2 (by rw [q3]; omega)
        refine ev_b1 p1 (ev_b1 x2 (ev_b1 x3 (ev_bn x4 ?_)))
        rw [show n_ (g_s g).1.length - 1 = q_ (((g_s g).1.length : Int) - 1) from by rw [n_q, show (1 : Int32) = q_ 1 from rfl, q_sub]]
        have R2' : yRm_ d b o2 u59 t (g_set (g_push g) ((g_s g).1, (g_s g).2.1, (g_s g).2.2)) aN2 s2 := R2
        refine ev_bl (P := fun s c => c = (0, 0) ∧ s.2 = u59.2 ∧ yRm_ d b o2 s t (g_set (g_push g) (nf_ k (g_s g).1, (g_s g).2.1, (g_s g).2.2)) aN2 s2 ∧ ygt_ b (Ks_ s2) o2 u59 o2 s) (uq_p118 R2' h40 (fun t ht => by have := (sok.2.2.2.1 t ht).2.2.2.2.2; omega) (show k < 4 by omega) a) (fun u100 c hp => ?_)
        obtain ⟨rfl, z3, R3, g3⟩ := hp
        have a100 := ygt_at p0 g3 a59.1 (by rw [a59.2, q3]; unfold Ks_; omega)
        refine ev_bl (P := fun s c => ∃ o', s.2 = u100.2 + c.1 ∧ c.1 ≤ 80 ∧ c.2 ≤ 16200 ∧ yRm_ d b o' s t (g_set (g_push g) (nf_ k (g_s g).1 ++ pr_new X k 64, (g_s g).2.1, (g_s g).2.2)) aN2 s2) (uq_p167 R3 a100.1 (a100.2.trans (a59.2.trans q3)) q5 hXf c4) (fun u133 c5 hp => ?_)
        obtain ⟨o4, z4, e1, e2, R4⟩ := hp
        obtain ⟨p0', pc', p1', ⟨pf', p2'⟩, p3', p4'⟩ := yRm_N R4
        obtain ⟨aT4, lT4, ft4, y1, y2, y3, y4, _⟩ := ys_T p3'
        have y4 : ∀ n, uf_J2_size n d u133 aT4 = some (n_ (nf_ k (g_s g).1 ++ pr_new X k 64).length) := y4
        refine ev_b1 p1' (ev_b1 y2 (ev_b1 y3 (ev_bn y4 ?_)))
        refine ev_some ⟨_, yO_i (yRm_R R4) ?_ ?_ ?_, Or.inl ⟨X, q4, ?_, ?_⟩⟩
        · show u133.2 = u.2 + (c1.1 + (0 + (c2.1 + (0 + (c5.1 + 0))))); omega
        · show c1.1 + (0 + (c2.1 + (0 + (c5.1 + 0)))) ≤ 4000; omega
        · show c1.2 + (0 + (c2.2 + (0 + (c5.2 + 0)))) ≤ 100000; omega
        · unfold pr_r; rw [if_pos c4, List.length_append, pr_len]
        · unfold pr_r; rw [if_pos c4]
      · refine ev_some ⟨g, ⟨o1, R1, z1, by show c1.1 + (0 + 0) ≤ 4000; omega, by show c1.2 + (0 + 0) ≤ 100000; omega⟩, Or.inl ⟨X, q4, ?_, ?_⟩⟩
        · unfold pr_r; rw [if_neg c4]; exact m4_q
        · unfold pr_r; rw [if_neg c4]
    · refine ev_qN (ev_some ⟨g, ⟨o1, R1, z1, by show c1.1 + 0 ≤ 4000; omega, by show c1.2 + 0 ≤ 100000; omega⟩, Or.inr ⟨q1, m5_q, rfl⟩⟩)
  · simp only [if_neg c]
    exact ev_some ⟨g, yO_0 h _, m2_q, rfl⟩
end
