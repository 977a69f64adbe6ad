set_option maxRecDepth 100000
/-! The component's rings: taking one; a new object; the questions -/
theorem yH_keep {d : UD} {b : Nat} {K : Nat → Prop} {o o' : Nat → Nat} {u u' : UM} (h0 : uw_ b u) (g : ygt_ b K o u o' u') {a np ae ar : Nat} {F : Nat → Int} {row : List Nat} (h : yH_ d o u a np ae ar F row) (h1 : ¬ K 21) (h3 : ¬ K 23) (h4 : ¬ K 24) : yH_ d o' u' a np ae ar F row := by
  obtain ⟨hG, fr, hA, hR⟩ := h
  obtain ⟨a1, a2⟩ := ygt_at h0 g hA (by rw [hG.2.2.2.1]; exact h4)
  exact ⟨yG_keep h0 g hG h1 h3 a2, fr, a1, hR⟩
theorem ug_takes {np : Nat} (h8 : np ≤ 8) {F : Nat → Int} (hf : ∀ c, c < 64 → 0 ≤ F c ∧ F c < 2147483648) {d : UD} {b : Nat} {o : Nat → Nat} {u : UM} (h0 : uw_ b u) {a ae ar : Nat} {row : List Nat} (h : yH_ d o u a np ae ar F row) (ok : rg_ok np F row) : Ev_ (fun n => uf_X7_takes n d u a) (fun r => r.2 = (0, 0) ∧ r.1.2.2 = u.2 ∧ ygt_ b (K1_ 21) o u o r.1.2 ∧ r.1.1 = q_ (rg_ld F row * row.length) ∧ yH_ d o r.1.2 a np ae ar (rg_tk F row) row) := by
  have hl := ok.2.1
  have h2 := ok.1
  have hc := fun i (hi : i < row.length) => (rg_c_lt h8 h2 ok.2.2.1 hi).1
  unfold uf_X7_takes
  refine ev_b1 (cl_e h.1.1) (ev_b (ug_load h8 hf h ok) (fun r4 hr4 => ?_))
  subst hr4
  refine ev_bl (P := fun s c => c = (0, 0) ∧ s.2 = u.2 ∧ ygt_ b (K1_ 21) o u o s ∧ yH_ d o s a np ae ar (rg_tk F row) row) ?_ (fun s c hp => ?_)
  · unfold uf_X7_takes_L7l
    refine ev_uf (Q := fun s => s.2 = u.2 ∧ ygt_ b (K1_ 21) o u o s ∧ yH_ d o s a np ae ar (rg_tk F row) row) row.length (fun (i : Nat) (y : Int32 × UM) => y.1 = n_ i ∧ y.2.2 = u.2 ∧ ygt_ b (K1_ 21) o u o y.2 ∧ yH_ d o y.2 a np ae ar (tk_ F row (rg_ld F row) i) row) (fun i y hi hP => ?_) (fun y hP => ?_) (0, u) ⟨n_lit 0, rfl, ygt_rfl h0, h⟩
    · obtain ⟨v, u1⟩ := y
      obtain ⟨e0, z1, g1, H1⟩ := hP
      dsimp only at e0 z1 g1 H1 ⊢
      subst e0
      have hnx := fun n => ug_next n H1 h2 (by omega) hi
      obtain ⟨hG, fr, hA, hR⟩ := H1
      have hci := hc i hi
      obtain ⟨e1, e2, e3, e4, f, e5, e6⟩ := hG
      have x1 : u_fr d u1 7 1 a = some ae := fr_e e1 rfl
      have x2 : u_fr d u1 7 2 a = some ar := fr_e e1 rfl
      have x3 : u_fi d u1 7 3 a = some (n_ row.length) := fi_e e1 rfl
      have xc := cl_e e1
      have hld := (ldI_e hA (show i < 8 by omega) (by omega)).trans (congrArg some (hR i hi))
      unfold uf_X7_takes_L7
      have hix : 8 * n_ (row.getD i 0) + n_ (row.getD ((i + 1) % row.length) 0) = n_ (rg_c row i) := by rw [n_lit 8, n_mul, n_add]; rfl
      have hl2 : u_ldI d u1 ae (n_ (rg_c row i)) = some (q_ (tk_ F row (rg_ld F row) i (rg_c row i))) := by rw [ldI_e e5 hci (by omega), e6 _ hci]
      simp only [x1, x2, x3, xc, m_bs, hld, hnx, hix, hl2]
      refine ev_ifF (by rw [n_le (by omega) (by omega)]; omega) ?_
      rw [q_sub]
      refine ev_b1 (stI_e e5 hci (by omega) _) ?_
      have c20 := ch_set e5 (.inl (d.1 0, 64, .inl (upd f (rg_c row i) (q_ (tk_ F row (rg_ld F row) i (rg_c row i) - rg_ld F row)))))
      have g20 := ygt_ch (K := K1_ 21) g1.1 e5 c20 (kd1_a _ _) e3
      have hne : ar ≠ ae := fun z => by rw [z, e3] at e4; cases e4
      refine ev_some ⟨_, rfl, by rw [n_lit 1, n_add], z1, ygt_tr h0 g1 g20, ⟨(c20.2.2 a (get_ne e1 e5 (fun z => by cases z))).trans e1, e2, e3, e4, _, c20.2.1, fun c hcc => ?_⟩, fr, (c20.2.2 ar hne).trans hA, hR⟩
      simp only [tk_]
      by_cases e : c = rg_c row i
      · rw [e, upd_at, fw_up_at]
      · rw [upd_ne e, fw_up_ne e]; exact e6 c hcc
    · obtain ⟨v, u1⟩ := y
      obtain ⟨e0, z1, g1, H1⟩ := hP
      dsimp only at e0 z1 g1 H1 ⊢
      subst e0
      have x3 : u_fi d u1 7 3 a = some (n_ row.length) := fi_e H1.1.1 rfl
      unfold uf_X7_takes_L7
      refine ev_b1 x3 (ev_ifT (by rw [n_le (by omega) (by omega)]; omega) (ev_some ⟨_, rfl, z1, g1, H1⟩))
  · obtain ⟨rfl, p1, p2, p3⟩ := hp
    have x3 : u_fi d s 7 3 a = some (n_ row.length) := fi_e p3.1.1 rfl
    refine ev_b1 x3 (ev_some ⟨rfl, p1, p2, ?_, p3⟩)
    rw [n_q row.length, q_mul]
theorem ug_init {d : UD} {b : Nat} {o : Nat → Nat} {u : UM} (h0 : uw_ b u) {a ae np : Nat} (ha : ob_ u a 7 [.int 0, .null, .null, .int 0]) (ta : o a = 23) {f : Nat → Int32} (he : iA_ d u ae 64 f) (te : o ae = 21) {F : Nat → Int} (hF : ∀ c, c < 64 → f c = q_ (F c)) : Ev_ (fun n => uf_X7_init n d u a (n_ np) ae) (fun r => r.2 = (1, 8) ∧ r.1.2.2 = u.2 + 1 ∧ ygt_ b (K1_ 23) o u (ot_ o u.2 24) r.1.2 ∧ yG_ d (ot_ o u.2 24) r.1.2 a np 0 ae u.2 F ∧ ∃ fr, iA_ d r.1.2 u.2 8 fr) := by
  unfold uf_X7_init
  rw [show (8 : Int32) = n_ 8 from n_lit 8]
  refine ev_g (ln_e (by omega)) (ev_ac ?_)
  rw [n_nat (by omega)]
  refine ev_nw h0 (fun u2 c2 => ?_)
  have g2 := ygt_nw (K := K1_ 23) (o := o) h0 c2 24
  have hau : a ≠ u.2 := by have := (h0.2 _ _ ha).2; omega
  have heu : ae ≠ u.2 := by have := (h0.2 _ _ he).2; omega
  have hae : ae ≠ a := get_ne he ha (fun z => by cases z)
  have ta2 : K1_ 23 (ot_ o u.2 24 a) := by rw [ot_ne hau]; exact ta
  have e2 : ob_ u2 a 7 _ := (c2.2.2 a hau).trans ha
  refine ev_pf e2 (by simp) (fun w5 c5 => ?_)
  have g5 := ygt_ch g2.1 e2 c5 (kd1_o _ _ _) ta2
  refine ev_pf (u := (w5, u2.2)) c5.2.1 (by simp) (fun w7 c7 => ?_)
  have g7 := ygt_ch g5.1 c5.2.1 c7 (kd1_o _ _ _) ta2
  refine ev_pf (u := (w7, u2.2)) c7.2.1 (by simp) (fun w9 c9 => ?_)
  have g9 := ygt_ch g7.1 c7.2.1 c9 (kd1_o _ _ _) ta2
  have fin : ∀ x, x ≠ a → u_get w9 x = u_get u2.1 x := fun x hx => (c9.2.2 x hx).trans ((c7.2.2 x hx).trans (c5.2.2 x hx))
  refine ev_some ⟨rfl, c2.1, ygt_tr h0 g2 (ygt_tr g2.1 g5 (ygt_tr g5.1 g7 g9)), ⟨?_, (ot_ne hau).trans ta, (ot_ne heu).trans te, ot_at _ _ _, f, ?_, hF⟩, _, (fin u.2 (fun z => hau z.symm)).trans c2.2.1⟩
  · have := c9.2.1
    rw [← n_lit 0]; exact this
  · exact (fin ae hae).trans ((c2.2.2 ae heu).trans he)
/-- the picture's object and what is now, in a later world -/
theorem K2_21 : K2_ 21 := ⟨by omega, by omega⟩
theorem K2_g {x : Nat} (h : Kg_ x) : K2_ x := by rcases h with h | h <;> subst h <;> exact ⟨by omega, by omega⟩
theorem ug_startA {d : UD} {b : Nat} {o : Nat → Nat} {u : UM} {t : Nat} {g : GS_} (h : yR_ d b o u t g) (ok : g_ok g) (nw : ss_nw (g_np g) (g_nk g) (g_s g)) {k : Nat} (hk : k < g_nk g) {α : Type} {G : Nat → Int32 → UM → Option (α × UC)} {Q : α × UC → Prop}
    (hS : ∀ o' u' ae ar row, rg_ring (g_np g) (ss_fl (g_s g).1 k) = some row → rg_ok (g_np g) (ss_fl (g_s g).1 k) row → yR_ d b o' u' t g → yH_ d o' u' u.2 (g_np g) ae ar (ss_fl (g_s g).1 k) row → u'.2 = u.2 + 3 → Ev_ (fun n => G n (n_ 1) u') (fun r => Q (r.1, u_add (3, 76) r.2)))
    (hN : ∀ o' u', rg_ring (g_np g) (ss_fl (g_s g).1 k) = none → yR_ d b o' u' t g → u'.2 = u.2 + 3 → Ev_ (fun n => G n (n_ 0) u') (fun r => Q (r.1, u_add (3, 76) r.2))) :
    Ev_ (fun n => u_ac (1, 4) (m_b (some (u_nw u (.inr (7, [.int 0, .null, .null, .int 0])))) (fun u8 => m_b (u_fr d u8 1 0 t) (fun b10 => m_b (u_cl u8 2 b10) (fun _ => m_b (uf_X1_many n d u8 b10) (fun r15 => m_b (u_fr d u8 1 0 t) (fun b16 => m_b (u_cl u8 2 b16) (fun _ => u_bc u8.2 (uf_X1_flows n d u8 b16 (n_ k)) (fun r21 u22 => u_bc u22.2 (uf_X7_init n d u22 u.2 r15 r21) (fun _ u28 => m_b (u_cl u28 7 u.2) (fun _ => u_bc u28.2 (uf_X7_finds n d u28 u.2) (fun r35 u36 => G n r35 u36)))))))))))) Q := by
  have h0 := (yR_N h).1
  have h8 := ok.1
  have h4 := ok.2.1
  have sok := ok.2.2.1
  have hf := ff_s sok nw hk
  refine ev_ac (ev_nw h0 (fun u8 c8 => ?_))
  have g8 := ygt_nw (K := K2_) (o := o) h0 c8 23
  have R8 := yR_keep h g8 (fun x hx => hx)
  obtain ⟨h08, aN, s0, fs, k1, k2, k3, _⟩ := yR_N R8
  obtain ⟨fn, hfn⟩ := ys_cl k3
  have hmany : ∀ n, uf_X1_many n d u8 aN = some (n_ (g_np g)) := fun n => us_many n k3
  simp only [k1, hfn, hmany, m_bs]
  refine ev_bc (P := fun a u' c => c = (1, 64) ∧ a = u8.2 ∧ u'.2 = u8.2 + 1 ∧ ygt_ b K0_ (ot_ o u.2 23) u8 (ot_ (ot_ o u.2 23) u8.2 21) u' ∧ ∃ f, iA_ d u' u8.2 64 f ∧ ∀ c, c < 64 → f c = q_ (ss_fl (g_s g).1 k c)) (us_flows h08 k3 sok (show k < 4 by omega)) (fun a u' c hp => by rw [hp.1]; exact hp.2.2.1) (fun a u22 c hp => ?_)
  obtain ⟨rfl, rfl, p3, p4, f, p5, p6⟩ := hp
  have R22 := yR_keep R8 p4 (fun x hx => hx.elim)
  obtain ⟨q1, q2⟩ := ygt_at h08 p4 c8.2.1 (fun z => z.elim)
  have t1 : ot_ (ot_ o u.2 23) u8.2 21 u.2 = 23 := q2.trans (ot_at _ _ _)
  have t2 : ot_ (ot_ o u.2 23) u8.2 21 u8.2 = 21 := ot_at _ _ _
  generalize ot_ (ot_ o u.2 23) u8.2 21 = o2 at *
  refine ev_bc (P := fun _ u' c => c = (1, 8) ∧ u'.2 = u22.2 + 1 ∧ ygt_ b (K1_ 23) o2 u22 (ot_ o2 u22.2 24) u' ∧ yG_ d (ot_ o2 u22.2 24) u' u.2 (g_np g) 0 u8.2 u22.2 (ss_fl (g_s g).1 k) ∧ ∃ fr, iA_ d u' u22.2 8 fr) (ug_init p4.1 q1 t1 p5 t2 p6) (fun a u' c hp => by rw [hp.1]; exact hp.2.1) (fun _ u28 c hp => ?_)
  obtain ⟨rfl, w1, w2, w3, fr, w4⟩ := hp
  have R28 := yR_keep R22 w2 (fun x hx => by cases hx; exact ⟨by omega, by omega⟩)
  generalize ot_ o2 u22.2 24 = o3 at *
  refine ev_b1 (cl_e w3.1) ?_
  refine ev_bc (P := fun r u' c => c = (0, 0) ∧ u'.2 = u28.2 ∧ ygt_ b Kg_ o3 u28 o3 u' ∧ ((∃ row, rg_ring (g_np g) (ss_fl (g_s g).1 k) = some row ∧ r = n_ 1 ∧ yH_ d o3 u' u.2 (g_np g) u8.2 u22.2 (ss_fl (g_s g).1 k) row) ∨ (rg_ring (g_np g) (ss_fl (g_s g).1 k) = none ∧ r = n_ 0 ∧ yG_ d o3 u' u.2 (g_np g) 0 u8.2 u22.2 (ss_fl (g_s g).1 k) ∧ ∃ fr, iA_ d u' u22.2 8 fr))) (ug_finds h8 (ff_c hf) w2.1 w3 w4) (fun a u' c hp => by rw [hp.1]; exact hp.2.1) (fun r u36 c hp => ?_)
  obtain ⟨rfl, v1, v2, v3⟩ := hp
  have R36 := yR_keep R28 v2 (fun x hx => K2_g hx)
  have hz : u36.2 = u.2 + 3 := by rw [v1, w1, p3, c8.1]
  rcases v3 with ⟨row, e1, rfl, e2⟩ | ⟨e1, rfl, e2⟩
  · exact ev_w (hS o3 u36 _ _ row e1 (rg_ring_ok h8 (fun c _ => hf.1 c) e1) R36 e2 hz) (fun r hr => by
      show Q (r.1, u_add (1, 4) (u_add (1, 64) (u_add (1, 8) (u_add (0, 0) r.2))))
      rw [← u_add_assoc, ← u_add_assoc, ← u_add_assoc]; exact hr)
  · exact ev_w (hN o3 u36 e1 R36 hz) (fun r hr => by
      show Q (r.1, u_add (1, 4) (u_add (1, 64) (u_add (1, 8) (u_add (0, 0) r.2))))
      rw [← u_add_assoc, ← u_add_assoc, ← u_add_assoc]; exact hr)
theorem uq_ring {d : UD} {b : Nat} {o : Nat → Nat} {u : UM} {t : Nat} {g : GS_} (h : yR_ d b o u t g) (ok : g_ok g) (nw : ss_nw (g_np g) (g_nk g) (g_s g)) (z w : Int32) : Ev_ (fun n => uf_X0_ring n d u t z w) (fun r => yO_ d b u t g r ∧ Sp_ring g z w r.1.1) := by
  obtain ⟨h0, aN, s0, fs, k1, k2, k3, _⟩ := yR_N h
  have h8 := ok.1
  unfold uf_X0_ring uf_X0_ring_J81 Sp_ring Sp_k
  simp only [k2, m_bs, uq_isKind _ h ok, m_ifb]
  by_cases c1 : 0 ≤ z.toInt ∧ z.toInt < g_nk g
  · simp only [if_pos c1]
    obtain ⟨k, hk, rfl, e3⟩ := pi_ c1
    rw [e3]
    have ew : ((-1 : Int32) ≤ w) ↔ -1 ≤ w.toInt := by rw [Int32.le_iff_toInt_le]; rfl
    refine ev_ifq ew (fun c => ?_) (fun c => ?_)
    · simp only [if_pos c]
      refine ug_startA h ok nw hk (fun o' u' ae ar row e1 rok R H hz => ?_) (fun o' u' e1 R hz => ?_)
      · have hl := rok.2.1
        have h2 := rok.1
        refine ev_ifF n_10 ?_
        rw [e1]
        dsimp only
        have x3 : u_ni u' 7 3 u.2 = some (n_ row.length) := ni_e H.1.1 rfl
        have x2 : u_nr u' 7 2 u.2 = some ar := nr_e H.1.1 rfl
        have O : ∀ v : Int32, yO_ d b u t g ((v, u'), u_add (3, 76) (0, 0)) := fun v => ⟨o', R, hz, by show 3 + 0 ≤ 4000; omega, by show 76 + 0 ≤ 100000; omega⟩
        simp only [x3, m_bs]
        refine ev_ifq (eq_li (v := -1) rfl) (fun c1 => ?_) (fun c1 => ?_)
        · rw [if_pos c1]; exact ev_some ⟨O _, rfl⟩
        · rw [if_neg c1]
          obtain ⟨i, hi⟩ : ∃ i : Nat, w.toInt = i := ⟨w.toInt.toNat, by omega⟩
          have hw : w = n_ i := by rw [n_of (x := w) (by omega), hi]; rfl
          have hi2 : i < 2147483648 := by have := Int32.toInt_lt w; omega
          rw [hw, n_toInt hi2]
          refine ev_ifq (c' := row.length ≤ i) (by rw [n_le (by omega) hi2]) (fun c2 => ?_) (fun c2 => ?_)
          · rw [if_neg (by omega)]; exact ev_some ⟨O _, m1_q⟩
          · rw [if_pos (by omega)]
            obtain ⟨hG, fr, hA, hR⟩ := H
            refine ev_b1 x2 (ev_b1 (ldI_e hA (show i < 8 by omega) (by omega)) (ev_some ⟨O _, ?_⟩))
            show fr i = n_ (row.getD (Int.toNat (i : Int)) 0)
            rw [hR i (by omega)]; rfl
      · rw [e1]
        exact ev_ifT (n_lit 0).symm (ev_some ⟨⟨o', R, hz, by show 3 + 0 ≤ 4000; omega, by show 76 + 0 ≤ 100000; omega⟩, m1_q⟩)
    · simp only [if_neg c]
      exact ev_some ⟨yO_0 h _, m3_q⟩
  · simp only [if_neg c1]
    exact ev_some ⟨yO_0 h _, m2_q⟩
theorem uq_load {d : UD} {b : Nat} {o : Nat → Nat} {u : UM} {t : Nat} {g : GS_} (h : yR_ d b o u t g) (ok : g_ok g) (nw : ss_nw (g_np g) (g_nk g) (g_s g)) (z : Int32) : Ev_ (fun n => uf_X0_load n d u t z) (fun r => yO_ d b u t g r ∧ Sp_load g z r.1.1) := by
  obtain ⟨h0, aN, s0, fs, k1, k2, k3, _⟩ := yR_N h
  have h8 := ok.1
  unfold uf_X0_load uf_X0_load_J49 Sp_load Sp_k
  simp only [k2, m_bs, uq_isKind _ h ok, m_ifb]
  by_cases c1 : 0 ≤ z.toInt ∧ z.toInt < g_nk g
  · simp only [if_pos c1]
    obtain ⟨k, hk, rfl, e3⟩ := pi_ c1
    rw [e3]
    have hf := ff_s ok.2.2.1 nw hk
    refine ug_startA h ok nw hk (fun o' u' ae ar row e1 rok R H hz => ?_) (fun o' u' e1 R hz => ?_)
    · refine ev_ifF n_10 ?_
      rw [e1]
      dsimp only
      refine ev_b1 (cl_e H.1.1) (ev_b (ug_load h8 (ff_c hf) H rok) (fun r hr => ev_some ⟨⟨o', R, hz, by show 3 + 0 ≤ 4000; omega, by show 76 + 0 ≤ 100000; omega⟩, hr⟩))
    · rw [e1]
      exact ev_ifT (n_lit 0).symm (ev_some ⟨⟨o', R, hz, by show 3 + 0 ≤ 4000; omega, by show 76 + 0 ≤ 100000; omega⟩, m1_q⟩)
  · simp only [if_neg c1]
    exact ev_some ⟨yO_0 h _, m2_q⟩
