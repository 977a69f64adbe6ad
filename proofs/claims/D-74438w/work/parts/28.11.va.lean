set_option maxRecDepth 100000
/-! The component: trades by hand -/
theorem yRm_N {d : UD} {b : Nat} {o : Nat → Nat} {u : UM} {t : Nat} {g : GS_} {aN s0 : Nat} (h : yRm_ d b o u t g aN s0) : uw_ b u ∧ cE_ d b ∧ u_fr d u 1 0 t = some aN ∧ (∃ fs, u_cl u 1 t = some fs) ∧ ys_ d o u aN s0 g.1 g.2.1 (g_s g) ∧ 10 ≤ s0 := by
  obtain ⟨aW, hW, h0, hc, aL, aT, fr, ids, lS, f, e1, e2, e3, e4, e5, e6, e7, e8, e9⟩ := h
  exact ⟨h0, hc, fr_e e1 rfl, ⟨_, cl_e e1⟩, e5, e4 s0 (by simp)⟩
theorem ys_setT {d : UD} {b : Nat} {o o' : Nat → Nat} {u u' : UM} (h0 : uw_ b u) {a s : Nat} {ps ks : List (List Nat)} {x : SS_} (h : ys_ d o u a s ps ks x) (g : ygt_ b (Kl_ (16 * s + 3) (16 * s + 6)) o u o' u') (hs : 10 ≤ s) {aT : Nat} {lT : List Nat} {ts : List Tr_} (hT : u_nr u 2 2 a = some aT) (hal : al_ d o' u' aT (16 * s + 3) (16 * s + 6) lT) (h2 : al2_ (td_ o' u') lT ts) : ys_ d o' u' a s ps ks (ts, x.2) := by
  obtain ⟨aP, aK, aT', aC, lP, lK, lT', f, e1, e2, e3, e4, e5, e6, e7, e8, e9, e10, e11⟩ := h
  have : aT' = aT := by
    have := nr_e e1 (k := 2) rfl
    rw [hT] at this; exact (Option.some.inj this).symm
  subst this
  have nk : ∀ y, y ≠ 16 * s + 3 → y ≠ 16 * s + 6 → ¬ Kl_ (16 * s + 3) (16 * s + 6) y := fun y h1 h2 z => by rcases z with z | z <;> contradiction
  obtain ⟨a1, a2⟩ := ygt_at h0 g e1 (by rw [e2]; exact nk _ (by omega) (by omega))
  obtain ⟨b1, b2⟩ := ygt_at h0 g e6 (by rw [e7]; exact nk _ (by omega) (by omega))
  exact ⟨aP, aK, aT', aC, lP, lK, lT, f, a1, a2.trans e2, al_keep h0 g e3 (nk _ (by omega) (by omega)) (nk _ (by omega) (by omega)), al_keep h0 g e4 (nk _ (by omega) (by omega)) (nk _ (by omega) (by omega)), hal, b1, b2.trans e7, e8, al2_mono e9 (fun _ _ _ h => sg_keep h0 g h (nk _ (by omega) (by omega))), al2_mono e10 (fun _ _ _ h => sg_keep h0 g h (nk _ (by omega) (by omega))), h2⟩
theorem Kl_s {s x : Nat} (h : Kl_ (16 * s + 3) (16 * s + 6) x) : Ks_ s x ∨ K2_ x := by
  left
  rcases h with h | h <;> unfold Ks_ <;> omega
/-- a method's costs and picture -/
theorem yO_i {d : UD} {b : Nat} {o' : Nat → Nat} {u u' : UM} {t : Nat} {g : GS_} {v : Int32} {c : UC} (h : yR_ d b o' u' t g) (h1 : u'.2 = u.2 + c.1) (h2 : c.1 ≤ 4000) (h3 : c.2 ≤ 100000) : yO_ d b u t g ((v, u'), c) := ⟨o', h, h1, h2, h3⟩
theorem uq_trade {d : UD} {b : Nat} {o : Nat → Nat} {u : UM} {t : Nat} {g : GS_} (h : yR_ d b o u t g) (ok : g_ok g) (x y m z : Int32) : Ev_ (fun n => uf_X0_trade n d u t x y m z) (fun r => yO_ d b u t (ac_trade g x y m z).2 r ∧ r.1.1 = (ac_trade g x y m z).1) := by
  obtain ⟨h0, aN, s0, fs, k1, k2, k3, _⟩ := yR_N h
  obtain ⟨aT, lT, ft, w1, w2, w3, w4, w5, w6, w7, w8⟩ := ys_T k3
  have h40 : (g_s g).1.length ≤ 40 := ok.2.2.1.2.2.1
  have hin := fun n => uin_lit n d u m (lo := 1) (hi := 999999) (a := 1) (c := 999999) rfl rfl
  unfold uf_X0_trade uf_X0_trade_J18 ac_trade
  simp only [k2, m_bs, uq_areTwo _ h ok, uq_isKind _ h ok, m_ifb, hin, k1, w2, w3, w4]
  by_cases c1 : (0 ≤ x.toInt ∧ x.toInt < g_np g) ∧ (0 ≤ y.toInt ∧ y.toInt < g_np g) ∧ x.toInt ≠ y.toInt
  · by_cases c2 : 0 ≤ z.toInt ∧ z.toInt < g_nk g
    · simp only [if_pos c1, if_pos c2, if_pos (And.intro c1 c2)]
      by_cases c3 : 1 ≤ m.toInt ∧ m.toInt ≤ 999999
      · simp only [if_pos c3]
        refine ev_ifq (c' := (g_s g).1.length = 40) (by rw [n_lit 40, n_eq (by omega) (by omega)]) (fun c4 => ?_) (fun c4 => ?_)
        · rw [if_pos c4]
          exact ev_some ⟨yO_0 h _, m4_q⟩
        · rw [if_neg c4]
          refine ev_bc (P := fun _ u27 c => ∃ o' aN s0, yRm_ d b o' u27 t (g_push g) aN s0 ∧ u27.2 = u.2 + c.1 ∧ c.1 ≤ 25 ∧ c.2 ≤ 2500) (uq_acts h ok) (fun _ u27 c hp => by obtain ⟨o', aN, s0, _, h2, _⟩ := hp; exact h2) (fun _ u27 c hp => ?_)
          obtain ⟨o1, aN1, s1, R1, z1, d1, d2⟩ := hp
          obtain ⟨q0, qc, q1, ⟨f1, q2⟩, q3, q4⟩ := yRm_N R1
          obtain ⟨aT1, lT1, ft1, v1, v2, v3, v4, v5, v6, v7, v8⟩ := ys_T q3
          refine ev_b1 q1 (ev_b1 v2 ?_)
          refine ut_new (o := o1) q0 (x.toInt.toNat, y.toInt.toNat, m.toInt, z.toInt.toNat, false) (n_of c1.1.1) (n_of c1.2.1.1) (q_of' m) (n_of c2.1) (n_lit 0) (fun u40 zz gg hd => ?_)
          have R2 : ys_ d (ot_ o1 u27.2 14) u40 aN1 s1 g.1 g.2.1 (g_s g) := ys_keep q0 gg q3 (fun z => z) (fun r _ z => z)
          obtain ⟨aT2, lT2, ft2, x1, x2, x3, x4, x5, x6, x7, x8⟩ := ys_T R2
          have eT : aT2 = aT1 := by
            obtain ⟨aP, aK, aT', aC, lP, lK, lT', f, e1, e2, _⟩ := q3
            have e1' := (ygt_at q0 gg e1 (fun z => z)).1
            have a := nr_e e1 (k := 2) rfl
            have b := nr_e e1' (k := 2) rfl
            rw [v2] at a; rw [x2] at b
            exact (Option.some.inj b).trans (Option.some.inj a).symm
          subst eT
          refine ev_b1 x3 ?_
          refine ev_bc (P := fun _ u48 c => ∃ o', u48.2 = u40.2 + c.1 ∧ c.1 ≤ 1 ∧ c.2 ≤ 400 ∧ al_ d o' u48 aT2 (16 * s1 + 3) (16 * s1 + 6) (lT2 ++ [u27.2]) ∧ ygt_ b (Kl_ (16 * s1 + 3) (16 * s1 + 6)) (ot_ o1 u27.2 14) u40 o' u48) (ul_add gg.1 qc x8 (al2_elt x7) (by omega) (td_el hd)) (fun _ u48 c hp => by obtain ⟨o', h2, _⟩ := hp; exact h2) (fun _ u48 c' hp => ?_)
          obtain ⟨o2, y1, y2, y3, y4, y5⟩ := hp
          have nk14 : ¬ Kl_ (16 * s1 + 3) (16 * s1 + 6) 14 := fun z => by rcases z with z | z <;> omega
          have S2 := ys_setT gg.1 R2 y5 q4 x2 y4 (al2_app (al2_mono x7 (fun _ _ _ h => td_keep gg.1 y5 h nk14)) (td_keep gg.1 y5 hd nk14))
          have R3 := yRm_set (yRm_set R1 gg (fun x hx => hx.elim) R2) y5 (fun x hx => Kl_s hx) S2
          obtain ⟨q0', qc', q1', ⟨f1', q2'⟩, q3', q4'⟩ := yRm_N R3
          obtain ⟨aT3, lT3, ft3, t1, t2, t3, t4, _⟩ := ys_T q3'
          refine ev_b1 q1' (ev_b1 t2 (ev_b1 t3 (ev_bn t4 ?_)))
          refine ev_some ⟨yO_i (yRm_R R3) ?_ ?_ ?_, ?_⟩
          · show u48.2 = u.2 + (c.1 + (1 + (c'.1 + 0))); omega
          · show c.1 + (1 + (c'.1 + 0)) ≤ 4000; omega
          · show c.2 + (5 + (c'.2 + 0)) ≤ 100000; omega
          · show n_ (((g_s g).1 ++ [(x.toInt.toNat, y.toInt.toNat, m.toInt, z.toInt.toNat, false)]).length) - 1 = n_ (g_s g).1.length
            rw [List.length_append, n_lit 1, n_sub (by simp)]
            rfl
      · simp only [if_neg c3]
        exact ev_some ⟨yO_0 h _, m3_q⟩
    · simp only [if_pos c1, if_neg c2, if_neg (fun q : _ ∧ _ => c2 q.2)]
      exact ev_some ⟨yO_0 h _, m2_q⟩
  · simp only [if_neg c1, if_neg (fun q : _ ∧ _ => c1 q.1)]
    exact ev_some ⟨yO_0 h _, m2_q⟩
theorem uq_drop {d : UD} {b : Nat} {o : Nat → Nat} {u : UM} {t : Nat} {g : GS_} (h : yR_ d b o u t g) (ok : g_ok g) (x : Int32) : Ev_ (fun n => uf_X0_drop n d u t x) (fun r => yO_ d b u t (ac_drop g x).2 r ∧ r.1.1 = (ac_drop g x).1) := by
  obtain ⟨h0, aN, s0, fs, k1, k2, k3, _⟩ := yR_N h
  have h40 : (g_s g).1.length ≤ 40 := ok.2.2.1.2.2.1
  unfold uf_X0_drop ac_drop
  simp only [k2, m_bs, uq_isTrade _ h ok, m_ifb]
  by_cases c1 : 0 ≤ x.toInt ∧ x.toInt < (g_s g).1.length
  · simp only [if_pos c1]
    obtain ⟨i, hi, rfl, e1⟩ := pi_ c1
    rw [e1]
    refine ev_bc (P := fun _ u27 c => ∃ o' aN s0, yRm_ d b o' u27 t (g_push g) aN s0 ∧ u27.2 = u.2 + c.1 ∧ c.1 ≤ 25 ∧ c.2 ≤ 2500) (uq_acts h ok) (fun _ u27 c hp => by obtain ⟨o', aN, s0, _, h2, _⟩ := hp; exact h2) (fun _ u27 c hp => ?_)
    obtain ⟨o1, aN1, s1, R1, z1, d1, d2⟩ := hp
    obtain ⟨q0, qc, q1, ⟨f1, q2⟩, q3, q4⟩ := yRm_N R1
    obtain ⟨aT1, lT1, ft1, v1, v2, v3, v4, v5, v6, v7, v8⟩ := ys_T q3
    have v5 : lT1.length = (g_s g).1.length := v5
    refine ev_b1 q1 (ev_b1 v2 (ev_b1 v3 ?_))
    refine ev_bc (P := fun _ u48 c => c = (0, 0) ∧ u48.2 = u27.2 ∧ al_ d o1 u48 aT1 (16 * s1 + 3) (16 * s1 + 6) (lT1.eraseIdx i) ∧ ygt_ b (Kl_ (16 * s1 + 3) (16 * s1 + 6)) o1 u27 o1 u48) (ev_w (ul_remove q0 v8 (al2_elt v7) (show i < lT1.length by omega)) (fun r hr => ⟨hr.1, hr.2.2⟩)) (fun _ u48 c hp => by rw [hp.1]; exact hp.2.1) (fun _ u48 c' hp => ?_)
    obtain ⟨rfl, y1, y4, y5⟩ := hp
    have nk14 : ¬ Kl_ (16 * s1 + 3) (16 * s1 + 6) 14 := fun z => by rcases z with z | z <;> omega
    have S2 := ys_setT q0 q3 y5 q4 v2 y4 (al2_erase (al2_mono v7 (fun _ _ _ h => td_keep q0 y5 h nk14)) (show i < lT1.length by omega))
    have R3 := yRm_set R1 y5 (fun x hx => Kl_s hx) S2
    obtain ⟨q0', qc', q1', ⟨f1', q2'⟩, q3', q4'⟩ := yRm_N R3
    obtain ⟨aT3, lT3, ft3, t1, t2, t3, t4, _⟩ := ys_T q3'
    refine ev_b1 q1' (ev_b1 t2 (ev_b1 t3 (ev_bn t4 ?_)))
    refine ev_some ⟨yO_i (yRm_R R3) ?_ ?_ ?_, ?_⟩
    · show u48.2 = u.2 + (c.1 + (0 + 0)); omega
    · show c.1 + (0 + 0) ≤ 4000; omega
    · show c.2 + (0 + 0) ≤ 100000; omega
    · show n_ ((g_s g).1.eraseIdx i).length = n_ ((g_s g).1.length - 1)
      rw [List.length_eraseIdx_of_lt hi]
  · simp only [if_neg c1]
    exact ev_some ⟨yO_0 h _, m2_q⟩
/-- a trade with other numbers -/
theorem ut_turned {d : UD} {b : Nat} {o : Nat → Nat} {u : UM} (h0 : uw_ b u) {a : Nat} {t : Tr_} (h : td_ o u a t) : Ev_ (fun n => uf_X6_turned n d u a) (fun r => r.2 = (1, 5) ∧ r.1.1 = u.2 ∧ r.1.2.2 = u.2 + 1 ∧ ygt_ b K0_ o u (ot_ o u.2 14) r.1.2 ∧ td_ (ot_ o u.2 14) r.1.2 u.2 (tr_turn t)) := by
  unfold uf_X6_turned uf_X6_turned_J32
  refine ev_ac (ev_nw h0 (fun u2 c2 => ?_))
  have g2 := ygt_nw (K := K0_) (o := o) h0 c2 14
  have hd := td_keep h0 g2 h (fun z => z)
  have f0 : u_fi d u2 6 0 a = some (n_ t.1) := fi_e hd.1 rfl
  have f1 : u_fi d u2 6 1 a = some (n_ t.2.1) := fi_e hd.1 rfl
  have f2 : u_fi d u2 6 2 a = some (q_ t.2.2.1) := fi_e hd.1 rfl
  have f3 : u_fi d u2 6 3 a = some (n_ t.2.2.2.1) := fi_e hd.1 rfl
  have f4 : u_fi d u2 6 4 a = some (n_ (if t.2.2.2.2 then 1 else 0)) := fi_e hd.1 rfl
  simp only [f0, f1, f2, f3, f4, m_bs]
  have fin : ∀ v : Int32, m_01 v = true → v = n_ (if (tr_turn t).2.2.2.2 then 1 else 0) → Ev_ (fun n => u_bc u2.2 (uf_X6_init n d u2 u.2 (n_ t.1) (n_ t.2.1) (q_ t.2.2.1) (n_ t.2.2.2.1) v) (fun _ u17 => some ((u.2, u17), ((0, 0) : UC)))) (fun r => (u_add (1, 5) r.2) = (1, 5) ∧ r.1.1 = u.2 ∧ r.1.2.2 = u.2 + 1 ∧ ygt_ b K0_ o u (ot_ o u.2 14) r.1.2 ∧ td_ (ot_ o u.2 14) r.1.2 u.2 (tr_turn t)) := fun v h4 hv => by
    refine ev_bc (P := fun _ u6 c => c = (0, 0) ∧ u6.2 = u2.2 ∧ ch_ u2 u6 u.2 (.inr (6, [.int (n_ t.1), .int (n_ t.2.1), .int (q_ t.2.2.1), .int (n_ t.2.2.2.1), .int v]))) (ut_init (o := o) g2.1 c2.2.1 _ _ _ _ _ h4) (fun _ u6 c hp => by rw [hp.1]; exact hp.2.1) (fun _ u6 c hp => ?_)
    obtain ⟨rfl, p2, p3⟩ := hp
    refine ev_some ⟨rfl, rfl, by show u6.2 = u.2 + 1; rw [p2, c2.1], ygt_chn h0 g2 (Nat.le_refl _) c2.2.1 p3 (kd1_o _ _ _), ?_, ot_at _ _ _⟩
    rw [← hv]; exact p3.2.1
  by_cases ck : t.2.2.2.2 = true
  · simp only [if_pos ck]
    refine ev_ifF (by decide) (fin 0 (by decide) ?_)
    unfold tr_turn
    rw [ck]; exact n_lit 0
  · simp only [if_neg ck]
    refine ev_ifT (by decide) (fin 1 (by decide) ?_)
    unfold tr_turn
    have : t.2.2.2.2 = false := by simpa using ck
    rw [this]; exact n_lit 1
theorem mod_set {l : List Tr_} {i : Nat} (hi : i < l.length) (f : Tr_ → Tr_) : l.modify i f = l.set i (f l[i]) := by
  apply List.ext_getElem (by simp)
  intro j h1 h2
  simp at h1 h2
  rw [List.getElem_modify, List.getElem_set]
  by_cases c : i = j
  · subst c; rw [if_pos rfl]
  · rw [if_neg c, if_neg c]
theorem uq_keep {d : UD} {b : Nat} {o : Nat → Nat} {u : UM} {t : Nat} {g : GS_} (h : yR_ d b o u t g) (ok : g_ok g) (x : Int32) : Ev_ (fun n => uf_X0_keep n d u t x) (fun r => yO_ d b u t (ac_keep g x).2 r ∧ r.1.1 = (ac_keep g x).1) := by
  obtain ⟨h0, aN, s0, fs, k1, k2, k3, _⟩ := yR_N h
  have h40 : (g_s g).1.length ≤ 40 := ok.2.2.1.2.2.1
  unfold uf_X0_keep ac_keep
  simp only [k2, m_bs, uq_isTrade _ h ok, m_ifb]
  by_cases c1 : 0 ≤ x.toInt ∧ x.toInt < (g_s g).1.length
  · simp only [if_pos c1]
    obtain ⟨i, hi, rfl, e1⟩ := pi_ c1
    rw [e1]
    refine ev_bc (P := fun _ u27 c => ∃ o' aN s0, yRm_ d b o' u27 t (g_push g) aN s0 ∧ u27.2 = u.2 + c.1 ∧ c.1 ≤ 25 ∧ c.2 ≤ 2500) (uq_acts h ok) (fun _ u27 c hp => by obtain ⟨o', aN, s0, _, h2, _⟩ := hp; exact h2) (fun _ u27 c hp => ?_)
    obtain ⟨o1, aN1, s1, R1, z1, d1, d2⟩ := hp
    obtain ⟨q0, qc, q1, ⟨f1, q2⟩, q3, q4⟩ := yRm_N R1
    obtain ⟨aT1, lT1, ft1, v1, v2, v3, v4, v5, v6, v7, v8⟩ := ys_T q3
    have v5 : lT1.length = (g_s g).1.length := v5
    have ht := v7.2 i (by omega) hi
    obtain ⟨t0, _⟩ := td_ni ht
    refine ev_b1 q1 (ev_b1 v2 (ev_b1 v3 (ev_bn (fun n => v6 n i (by omega)) (ev_b1 t0 (ev_b1 t0 ?_)))))
    refine ev_bc (P := fun r u28 c => c = (1, 5) ∧ r = u27.2 ∧ u28.2 = u27.2 + 1 ∧ ygt_ b K0_ o1 u27 (ot_ o1 u27.2 14) u28 ∧ td_ (ot_ o1 u27.2 14) u28 u27.2 (tr_turn ((g_s g).1[i]))) (ut_turned q0 ht) (fun r u28 c hp => by rw [hp.1]; exact hp.2.2.1) (fun r u28 c2 hp => ?_)
    obtain ⟨rfl, rfl, z2, gg, hd⟩ := hp
    have R2 : ys_ d (ot_ o1 u27.2 14) u28 aN1 s1 g.1 g.2.1 (g_s g) := ys_keep q0 gg q3 (fun z => z) (fun r _ z => z)
    have R2' := yRm_set R1 gg (fun x hx => hx.elim) R2
    obtain ⟨p0, pc, p1, ⟨pf, p2⟩, p3, p4⟩ := yRm_N R2'
    obtain ⟨aT2, lT2, ft2, x1, x2, x3, x4, x5, x6, x7, x8⟩ := ys_T R2
    have x5 : lT2.length = (g_s g).1.length := x5
    refine ev_b1 p1 (ev_b1 x2 (ev_b1 x3 ?_))
    refine ev_bc (P := fun _ u40 c => c = (0, 0) ∧ u40.2 = u28.2 ∧ al_ d (ot_ o1 u27.2 14) u40 aT2 (16 * s1 + 3) (16 * s1 + 6) (lT2.set i u27.2) ∧ ygt_ b (Kl_ (16 * s1 + 3) (16 * s1 + 6)) (ot_ o1 u27.2 14) u28 (ot_ o1 u27.2 14) u40) (ul_set gg.1 (by omega) x8 (show i < lT2.length by omega) (td_el hd)) (fun _ u40 c hp => by rw [hp.1]; exact hp.2.1) (fun _ u40 c' hp => ?_)
    obtain ⟨rfl, y1, y4, y5⟩ := hp
    have nk14 : ¬ Kl_ (16 * s1 + 3) (16 * s1 + 6) 14 := fun z => by rcases z with z | z <;> omega
    have hd' := td_keep gg.1 y5 hd nk14
    have S2 := ys_setT gg.1 R2 y5 q4 x2 y4 (al2_set (al2_mono x7 (fun _ _ _ h => td_keep gg.1 y5 h nk14)) hd' i)
    rw [← mod_set hi tr_turn] at S2
    have R3 := yRm_set R2' y5 (fun x hx => Kl_s hx) S2
    obtain ⟨_, _, _, _, _, t5⟩ := td_ni hd'
    refine ev_b1 t5 ?_
    refine ev_bn (fun n => by rw [← b_n, uo_one]) ?_
    refine ev_some ⟨yO_i (yRm_R R3) ?_ ?_ ?_, ?_⟩
    · show u40.2 = u.2 + (c.1 + (1 + (0 + 0))); omega
    · show c.1 + (1 + (0 + 0)) ≤ 4000; omega
    · show c.2 + (5 + (0 + 0)) ≤ 100000; omega
    · show b_ ((tr_turn ((g_s g).1[i])).2.2.2.2 = true) = _
      rw [b_n, List.getElem?_eq_getElem hi]
      simp only [Option.map_some, Option.getD_some]
      unfold tr_turn
      congr 1
      by_cases ck : ((g_s g).1[i]).2.2.2.2 = true
      · simp [ck]
      · simp [ck]
  · simp only [if_neg c1]
    exact ev_some ⟨yO_0 h _, m2_q⟩
