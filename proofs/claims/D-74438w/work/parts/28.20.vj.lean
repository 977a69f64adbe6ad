set_option maxRecDepth 100000
/-! The component takes a ring, whole -/
theorem uq_takeRing {d : UD} {b : Nat} {o : Nat → Nat} {u : UM} {t : Nat} {g : GS_} (h : yR_ d b o u t g) (ok : g_ok g) (nw : ss_nw (g_np g) (g_nk g) (g_s g)) (z : Int32) : Ev_ (fun n => uf_X0_takeRing n d u t z) (fun r => yO_ d b u t (ac_takeRing g z).2 r ∧ r.1.1 = (ac_takeRing g z).1) := by
  obtain ⟨h0, aN, s0, fs, k1, k2, k3, _⟩ := yR_N h
  have h8 := ok.1
  have okS := ok.2.2.1
  have h40 := okS.2.2.1
  unfold uf_X0_takeRing ac_takeRing
  simp only [k2, m_bs, uq_isKind _ h ok, m_ifb]
  by_cases c1 : 0 ≤ z.toInt ∧ z.toInt < g_nk g
  · simp only [if_pos c1]
    obtain ⟨k, hk, rfl, e3⟩ := pi_ c1
    rw [e3]
    have hk4 : k < 4 := by have := ok.2.1; omega
    have hf := ff_s okS nw hk
    refine ug_startA h ok nw hk (fun o' u' ae ar row e1 rok R H hz => ?_) (fun o' u' e1 R hz => ?_)
    · have hl := rok.2.1
      have h2 := rok.1
      refine ev_ifF n_10 ?_
      rw [e1]
      dsimp only
      obtain ⟨h0', _, _, fs', _, k2', _⟩ := yR_N R
      refine ev_b1 k2' ?_
      refine ev_bc (P := fun _ u27 c => ∃ o2 aN s0, yRm_ d b o2 u27 t (g_push g) aN s0 ∧ u27.2 = u'.2 + c.1 ∧ c.1 ≤ 25 ∧ c.2 ≤ 2500 ∧ ygt_ b (fun x => x ≤ 3) o' u' o2 u27) (uq_actsK R ok) (fun _ u27 c hp => by obtain ⟨o', aN, s0, _, h2, _⟩ := hp; exact h2) (fun _ u44 c hp => ?_)
      obtain ⟨o1, aN1, s1, R1, z1, d1, d2, g1⟩ := hp
      have H1 := yH_keep h0' g1 H (fun z => by omega) (fun z => by omega) (fun z => by omega)
      obtain ⟨q0, qc, q1, ⟨f1, q2⟩, q3, q4⟩ := yRm_N R1
      refine ev_b1 (cl_e H1.1.1) (ev_b (ug_load h8 (ff_c hf) H1 rok) (fun r hr => ?_))
      subst hr
      have hld : 0 ≤ rg_ld (ss_fl (g_s g).1 k) row ∧ rg_ld (ss_fl (g_s g).1 k) row < 2147483648 := by
        obtain ⟨j, hj, ej⟩ := ld_ex (ss_fl (g_s g).1 k) row (row.length - 1)
        unfold rg_ld
        rw [ej]
        exact ff_c hf _ (rg_c_lt h8 h2 rok.2.2.1 (by omega)).1
      generalize hldv : rg_ld (ss_fl (g_s g).1 k) row = ld at *
      have hall := tr_ring_all (P := fun t => t.1 < 8 ∧ t.2.1 < 8 ∧ t.2.2.2.1 < 4 ∧ 0 < t.2.2.1 ∧ t.2.2.1 < 2147483648) (fun t v ht h0 h1 => ⟨ht.1, ht.2.1, ht.2.2.1, h0, by have := ht.2.2.2.2; show v < _; omega⟩) k row ld (g_s g).1 (fun t ht => by
        have := okS.2.2.2.1 t ht
        have h4 := ok.2.1
        obtain ⟨t1, t2, _, t4, t5, t6⟩ := this
        exact ⟨by omega, by omega, by omega, by omega, t5⟩)
      refine ev_bl (P := fun s cc => ∃ o2, yRm_ d b o2 s t (g_set (g_push g) (tr_ring k row ld row.length (g_s g).1, (g_s g).2.1, (g_s g).2.2)) aN1 s1 ∧ s.2 = u44.2 + cc.1 ∧ cc.1 ≤ 320 ∧ cc.2 ≤ 1600) ?_ (fun s cc hp => ?_)
      · unfold uf_X0_takeRing_L56l
        refine ev_ul (Q := fun (s : UM) (cc : UC) => ∃ o2, yRm_ d b o2 s t (g_set (g_push g) (tr_ring k row ld row.length (g_s g).1, (g_s g).2.1, (g_s g).2.2)) aN1 s1 ∧ s.2 = u44.2 + cc.1 ∧ cc.1 ≤ 320 ∧ cc.2 ≤ 1600) (β := Nat) (fun i => row.length - i) (fun i (y : Int32 × UM) (cc : UC) => i ≤ row.length ∧ y.1 = n_ i ∧ y.2.2 = u44.2 + cc.1 ∧ cc.1 ≤ 40 * i ∧ cc.2 ≤ 200 * i ∧ ∃ o2, yRm_ d b o2 y.2 t (g_set (g_push g) (tr_ring k row ld i (g_s g).1, (g_s g).2.1, (g_s g).2.2)) aN1 s1 ∧ ygt_ b (Ks_ s1) o1 u44 o2 y.2) (fun i y cc hP => ?_) 0 (0, u44) ⟨by omega, n_lit 0, rfl, by omega, by omega, o1, R1, ygt_rfl q0⟩
        obtain ⟨v, u1⟩ := y
        obtain ⟨b1, e0, z2, d3, d4, o2, R2, G2⟩ := hP
        dsimp only at e0 z2 R2 G2 ⊢
        subst e0
        have nks : ∀ x, x < 160 → ¬ Ks_ s1 x := fun x hx z => by unfold Ks_ at z; omega
        have H2 := yH_keep q0 G2 H1 (nks _ (by omega)) (nks _ (by omega)) (nks _ (by omega))
        obtain ⟨p0, pc, p1, ⟨pf, p2⟩, p3, p4⟩ := yRm_N R2
        have x3 : u_ni u1 7 3 u.2 = some (n_ row.length) := ni_e H2.1.1 rfl
        have x2 : u_nr u1 7 2 u.2 = some ar := nr_e H2.1.1 rfl
        have xc := cl_e H2.1.1
        unfold uf_X0_takeRing_L56
        refine ev_b1 x3 ?_
        refine ev_ifq (c' := row.length ≤ i) (by rw [n_le (by omega) (by omega)]) (fun c2 => ?_) (fun c2 => ?_)
        · rw [show i = row.length by omega] at R2
          exact ev_some ⟨o2, R2, by show u1.2 = u44.2 + (cc.1 + 0); omega, by show cc.1 + 0 ≤ 320; omega, by show cc.2 + 0 ≤ 1600; omega⟩
        · have hi : i < row.length := by omega
          obtain ⟨hG, fr, hA, hR⟩ := id H2
          have hld2 : u_ldI d u1 ar (n_ i) = some (n_ (row.getD i 0)) := by rw [ldI_e hA (by omega) (by omega), hR i hi]
          refine ev_b1 x2 (ev_b1 hld2 (ev_b1 xc (ev_bn (fun n => ug_next n H2 h2 (by omega) hi) (ev_b1 p2 ?_))))
          have hlt1 := gD_lt rok.2.2.1 hi
          have hlt2 := gD_lt rok.2.2.1 (show (i + 1) % row.length < row.length from Nat.mod_lt _ (by omega))
          have hlen := (hall i).2
          refine ev_bc (P := fun _ u67 c => ∃ o', yRm_ d b o' u67 t (g_set (g_push g) (tr_ring k row ld (i + 1) (g_s g).1, (g_s g).2.1, (g_s g).2.2)) aN1 s1 ∧ u67.2 = u1.2 + c.1 ∧ c.1 ≤ 40 ∧ c.2 ≤ 200 ∧ ygt_ b (Ks_ s1) o2 u1 o' u67) (ux_lessens R2 (by omega) (hall i).1 hk4 (show row.getD i 0 < 8 by omega) (show row.getD ((i + 1) % row.length) 0 < 8 by omega) hld) (fun _ u67 c hp => by obtain ⟨o', _, h2, _⟩ := hp; exact h2) (fun _ u67 c3 hp => ?_)
          obtain ⟨o3, R3, z3, d5, d6, G3⟩ := hp
          rw [show n_ i + 1 = n_ (i + 1) from by rw [n_lit 1, n_add]]
          exact ev_some ⟨i + 1, ⟨by omega, rfl, by show u67.2 = u44.2 + (cc.1 + (c3.1 + 0)); omega, by show cc.1 + (c3.1 + 0) ≤ 40 * (i + 1); omega, by show cc.2 + (c3.2 + 0) ≤ 200 * (i + 1); omega, o3, R3, ygt_tr q0 G2 G3⟩, by omega⟩
      · obtain ⟨o2, R2, z2, d3, d4⟩ := hp
        refine ev_some ⟨yO_i (yRm_R R2) ?_ ?_ ?_, rfl⟩
        · show s.2 = u.2 + (3 + (c.1 + (cc.1 + 0))); omega
        · show 3 + (c.1 + (cc.1 + 0)) ≤ 4000; omega
        · show 76 + (c.2 + (cc.2 + 0)) ≤ 100000; omega
    · rw [e1]
      exact ev_ifT (n_lit 0).symm (ev_some ⟨⟨o', R, hz, by show 3 + 0 ≤ 4000; omega, by show 76 + 0 ≤ 100000; omega⟩, m5_q⟩)
  · simp only [if_neg c1]
    exact ev_some ⟨yO_0 h _, m2_q⟩
