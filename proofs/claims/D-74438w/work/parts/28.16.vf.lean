set_option maxRecDepth 100000
/-! The component's rings: cleared, rounds -/
theorem ug_startB {d : UD} {b : Nat} {o : Nat → Nat} {u : UM} {t : Nat} {g : GS_} (h : yR_ d b o u t g) (ok : g_ok g) {k : Nat} (hk : k < g_nk g) {α : Type} {G : Nat → Nat → UM → UM → Option (α × UC)} {Q : α × UC → Prop}
    (hS : ∀ o' u15 u' ar fr, u15.2 = u.2 + 1 → ygt_ b K2_ o u o' u' → yR_ d b o' u' t g → yG_ d o' u' (u.2 + 1) (g_np g) 0 u.2 ar (ss_fl (g_s g).1 k) → iA_ d u' ar 8 fr → u'.2 = u.2 + 3 → Ev_ (fun n => G n u.2 u15 u') (fun r => Q (r.1, u_add (3, 76) r.2))) :
    Ev_ (fun n => m_b (u_fr d u 1 0 t) (fun b9 => m_b (u_cl u 2 b9) (fun _ => u_bc u.2 (uf_X1_flows n d u b9 (n_ k)) (fun r14 u15 => u_ac (1, 4) (m_b (some (u_nw u15 (.inr (7, [.int 0, .null, .null, .int 0])))) (fun u20 => m_b (u_fr d u20 1 0 t) (fun b22 => m_b (u_cl u20 2 b22) (fun _ => m_b (uf_X1_many n d u20 b22) (fun r27 => u_bc u20.2 (uf_X7_init n d u20 u15.2 r27 r14) (fun _ u30 => G n r14 u15 u30)))))))))) Q := by
  obtain ⟨h0, aN, s0, fs, k1, k2, k3, _⟩ := yR_N h
  obtain ⟨fn, hfn⟩ := ys_cl k3
  have h8 := ok.1
  have h4 := ok.2.1
  have sok := ok.2.2.1
  refine ev_b1 k1 (ev_b1 hfn ?_)
  refine ev_bc (P := fun a u' c => c = (1, 64) ∧ a = u.2 ∧ u'.2 = u.2 + 1 ∧ ygt_ b K0_ o u (ot_ o u.2 21) u' ∧ ∃ f, iA_ d u' u.2 64 f ∧ ∀ c, c < 64 → f c = q_ (ss_fl (g_s g).1 k c)) (us_flows h0 k3 sok (show k < 4 by omega)) (fun a u' c hp => by rw [hp.1]; exact hp.2.2.1) (fun a u15 c hp => ?_)
  obtain ⟨rfl, rfl, p3, p4, f, p5, p6⟩ := hp
  have g15 := ygt_sub p4 (K' := K2_) (fun x hx => hx.elim)
  have R15 := yR_keep h p4 (fun x hx => hx.elim)
  have t1 : ot_ o u.2 21 u.2 = 21 := ot_at _ _ _
  generalize ot_ o u.2 21 = o1 at *
  refine ev_ac (ev_nw p4.1 (fun u20 c20 => ?_))
  have g20 := ygt_nw (K := K2_) (o := o1) p4.1 c20 23
  have R20 := yR_keep R15 g20 (fun x hx => hx)
  obtain ⟨h020, aN2, s2, fs2, m1, m2, m3, _⟩ := yR_N R20
  obtain ⟨fn2, hfn2⟩ := ys_cl m3
  have hmany : ∀ n, uf_X1_many n d u20 aN2 = some (n_ (g_np g)) := fun n => us_many n m3
  simp only [m1, hfn2, hmany, m_bs]
  have ne1 : u.2 ≠ u15.2 := by omega
  have t2 : ot_ o1 u15.2 23 u.2 = 21 := (ot_ne ne1).trans t1
  have t3 : ot_ o1 u15.2 23 u15.2 = 23 := ot_at _ _ _
  have e20 : iA_ d u20 u.2 64 f := (c20.2.2 u.2 ne1).trans p5
  generalize ot_ o1 u15.2 23 = o2 at *
  refine ev_bc (P := fun _ u' c => c = (1, 8) ∧ u'.2 = u20.2 + 1 ∧ ygt_ b (K1_ 23) o2 u20 (ot_ o2 u20.2 24) u' ∧ yG_ d (ot_ o2 u20.2 24) u' u15.2 (g_np g) 0 u.2 u20.2 (ss_fl (g_s g).1 k) ∧ ∃ fr, iA_ d u' u20.2 8 fr) (ug_init g20.1 c20.2.1 t3 e20 t2 p6) (fun a u' c hp => by rw [hp.1]; exact hp.2.1) (fun _ u30 c hp => ?_)
  obtain ⟨rfl, w1, w2, w3, fr, w4⟩ := hp
  have w2' := ygt_sub w2 (K' := K2_) (fun x hx => by cases hx; exact ⟨by omega, by omega⟩)
  have R30 := yR_keep R20 w2' (fun x hx => hx)
  rw [p3] at w3
  refine ev_w (hS _ u15 u30 _ fr p3 (ygt_tr h0 g15 (ygt_tr p4.1 g20 w2')) R30 w3 w4 (by rw [w1, c20.1, p3])) (fun r hr => ?_)
  show Q (r.1, u_add (1, 64) (u_add (1, 4) (u_add (1, 8) r.2)))
  rw [← u_add_assoc, ← u_add_assoc]; exact hr
/-- finds, and takes what is found -/
theorem ug_fC {np : Nat} (h8 : np ≤ 8) {F : Nat → Int} (hf : ff_ F) {d : UD} {b : Nat} {o : Nat → Nat} {u : UM} (h0 : uw_ b u) {a many ae ar : Nat} (hG : yG_ d o u a np many ae ar F) {fr : Nat → Int32} (hA : iA_ d u ar 8 fr) {α : Type} {G1 : Nat → UM → Option (α × UC)} {G2 : Nat → Int32 → UM → Option (α × UC)} {Q : α × UC → Prop}
    (hN : ∀ u' m fr', rg_ring np F = none → ygt_ b (fun x => x = 21 ∨ Kg_ x) o u o u' → u'.2 = u.2 → yG_ d o u' a np m ae ar F → iA_ d u' ar 8 fr' → Ev_ (fun n => G1 n u') Q)
    (hS : ∀ u' fr' row, rg_ring np F = some row → rg_ok np F row → ygt_ b (fun x => x = 21 ∨ Kg_ x) o u o u' → u'.2 = u.2 → yG_ d o u' a np row.length ae ar (rg_tk F row) → iA_ d u' ar 8 fr' → Ev_ (fun n => G2 n (q_ (rg_ld F row * row.length)) u') Q) :
    Ev_ (fun n => m_b (u_cl u 7 a) (fun _ => u_bc u.2 (uf_X7_finds n d u a) (fun r37 u38 => m_if ((r37 : Int32) = 0) (G1 n u38) (m_b (u_cl u38 7 a) (fun _ => u_bc u38.2 (uf_X7_takes n d u38 a) (fun r46 u47 => G2 n r46 u47)))))) Q := by
  refine ev_b1 (cl_e hG.1) ?_
  refine ev_bc (P := fun r u' c => c = (0, 0) ∧ u'.2 = u.2 ∧ ygt_ b Kg_ o u o u' ∧ ((∃ row, rg_ring np F = some row ∧ r = n_ 1 ∧ yH_ d o u' a np ae ar F row) ∨ (rg_ring np F = none ∧ r = n_ 0 ∧ yG_ d o u' a np 0 ae ar F ∧ ∃ fr, iA_ d u' ar 8 fr))) (ug_finds h8 (ff_c hf) h0 hG hA) (fun a u' c hp => by rw [hp.1]; exact hp.2.1) (fun r u38 c hp => ?_)
  obtain ⟨rfl, v1, v2, v3⟩ := hp
  have v2' := ygt_sub v2 (K' := fun x => x = 21 ∨ Kg_ x) (fun x hx => Or.inr hx)
  rcases v3 with ⟨row, e1, rfl, e2⟩ | ⟨e1, rfl, e2, fr', e3⟩
  · have rok := rg_ring_ok h8 (fun c _ => hf.1 c) e1
    refine ev_ifF n_10 (ev_b1 (cl_e e2.1.1) ?_)
    refine ev_bc (P := fun r u' c => c = (0, 0) ∧ u'.2 = u38.2 ∧ ygt_ b (K1_ 21) o u38 o u' ∧ r = q_ (rg_ld F row * row.length) ∧ yH_ d o u' a np ae ar (rg_tk F row) row) (ug_takes h8 (ff_c hf) v2.1 e2 rok) (fun a u' c hp => by rw [hp.1]; exact hp.2.1) (fun r u47 c hp => ?_)
    obtain ⟨rfl, x1, x2, rfl, x3, fr', x4, _⟩ := hp
    refine ev_w (hS u47 fr' row e1 rok (ygt_tr h0 v2' (ygt_sub x2 (fun x hx => Or.inl hx))) (x1.trans v1) x3 x4) (fun r hr => ?_)
    show Q (r.1, u_add (0, 0) (u_add (0, 0) r.2))
    rw [u_add_0, u_add_0]; exact hr
  · refine ev_ifT (n_lit 0).symm ?_
    refine ev_w (hN u38 0 fr' e1 v2' v1 e2 e3) (fun r hr => ?_)
    show Q (r.1, u_add (0, 0) r.2)
    rw [u_add_0]; exact hr
theorem K2_t {x : Nat} (h : x = 21 ∨ Kg_ x) : K2_ x := by rcases h with h | h | h <;> subst h <;> exact ⟨by omega, by omega⟩
theorem uq_cleared {d : UD} {b : Nat} {o : Nat → Nat} {u : UM} {t : Nat} {g : GS_} (h : yR_ d b o u t g) (ok : g_ok g) (nw : ss_nw (g_np g) (g_nk g) (g_s g)) (z w : Int32) : Ev_ (fun n => uf_X0_cleared n d u t z w) (fun r => yO_ d b u t g r ∧ Sp_cleared g z w r.1.1) := by
  obtain ⟨h0, aN, s0, fs, k1, k2, k3, _⟩ := yR_N h
  have h8 := ok.1
  have hin := fun n => uin_lit n d u w (lo := 0) (hi := 2) (a := 0) (c := 2) rfl rfl
  unfold uf_X0_cleared uf_X0_cleared_J20 uf_X0_cleared_J102 Sp_cleared Sp_k
  simp only [k2, m_bs, uq_isKind _ h ok, m_ifb, hin]
  by_cases c1 : 0 ≤ z.toInt ∧ z.toInt < g_nk g
  · simp only [if_pos c1]
    obtain ⟨k, hk, rfl, e3⟩ := pi_ c1
    rw [e3]
    have hf := ff_s ok.2.2.1 nw hk
    by_cases c : 0 ≤ w.toInt ∧ w.toInt ≤ 2
    · simp only [if_pos c]
      refine ug_startB h ok hk (fun o' u15 u30 ar fr e15 g0 R hG hA hz => ?_)
      rw [e15]
      generalize htg : rg_cl (g_np g) 65 (ss_fl (g_s g).1 k) 0 0 = tg
      refine ev_bl (P := fun y c => c = (0, 0) ∧ y.1 = q_ tg.2.1 ∧ y.2.1 = n_ tg.2.2 ∧ ff_ tg.1 ∧ y.2.2.2 = u30.2 ∧ ygt_ b (fun x => x = 21 ∨ Kg_ x) o' u30 o' y.2.2 ∧ ∃ m, yG_ d o' y.2.2 (u.2 + 1) (g_np g) m u.2 ar tg.1) ?_ (fun y c' hp => ?_)
      · unfold uf_X0_cleared_L55l
        refine ev_ul (Q := fun (y : Int32 × Int32 × UM) c => c = (0, 0) ∧ y.1 = q_ tg.2.1 ∧ y.2.1 = n_ tg.2.2 ∧ ff_ tg.1 ∧ y.2.2.2 = u30.2 ∧ ygt_ b (fun x => x = 21 ∨ Kg_ x) o' u30 o' y.2.2 ∧ ∃ m, yG_ d o' y.2.2 (u.2 + 1) (g_np g) m u.2 ar tg.1) (β := Nat × (Nat → Int) × Int × Nat) (fun b => b.1) (fun q (y : Int32 × Int32 × UM) c => c = (0, 0) ∧ ct_ 64 q.2.1 < q.1 ∧ ff_ q.2.1 ∧ rg_cl (g_np g) q.1 q.2.1 q.2.2.1 q.2.2.2 = tg ∧ y.1 = q_ q.2.2.1 ∧ y.2.1 = n_ q.2.2.2 ∧ y.2.2.2 = u30.2 ∧ ygt_ b (fun x => x = 21 ∨ Kg_ x) o' u30 o' y.2.2 ∧ (∃ m, yG_ d o' y.2.2 (u.2 + 1) (g_np g) m u.2 ar q.2.1) ∧ ∃ fr, iA_ d y.2.2 ar 8 fr) (fun q y c' hb => ?_) (65, ss_fl (g_s g).1 k, 0, 0) (0, 0, u30) ⟨rfl, by have := ct_le 64 (ss_fl (g_s g).1 k); dsimp only; omega, hf, htg, rfl, n_lit 0, rfl, ygt_rfl g0.1, ⟨0, hG⟩, fr, hA⟩
        obtain ⟨m, f1, a, nn⟩ := q
        obtain ⟨v3, v4, u1⟩ := y
        obtain ⟨rfl, b1, b2, b3, e1, e2, z1, g1, ⟨mm, hG1⟩, fr1, hA1⟩ := hb
        dsimp only at b1 b2 b3 e1 e2 z1 g1 hG1 hA1 ⊢
        subst e1; subst e2
        obtain ⟨m, rfl⟩ : ∃ m', m = m' + 1 := ⟨m - 1, by omega⟩
        simp only [rg_cl] at b3
        unfold uf_X0_cleared_L55
        refine ug_fC h8 b2 g1.1 hG1 hA1 (fun u2 m2 fr2 e1 g2 z2 hG2 hA2 => ?_) (fun u2 fr2 row e1 rok g2 z2 hG2 hA2 => ?_)
        · rw [e1] at b3
          refine ev_some ?_
          rw [← b3]
          exact ⟨rfl, rfl, rfl, b2, z2.trans z1, ygt_tr g0.1 g1 g2, m2, hG2⟩
        · rw [e1] at b3
          rw [q_add, show n_ nn + 1 = n_ (nn + 1) from by rw [n_lit 1, n_add]]
          have hct := ct_tk h8 b2 rok
          exact ev_some ⟨(m, rg_tk f1 row, a + rg_ld f1 row * row.length, nn + 1), ⟨rfl, by dsimp only; omega, ff_tk h8 b2 rok, b3, rfl, rfl, z2.trans z1, ygt_tr g0.1 g1 g2, ⟨_, hG2⟩, fr2, hA2⟩, by dsimp only; omega⟩
      · obtain ⟨v1, v2, u1⟩ := y
        obtain ⟨rfl, e1, e2, e4, z1, g1, m, hG1⟩ := hp
        dsimp only at e1 e2 z1 g1 hG1 ⊢
        subst e1; subst e2
        have O : ∀ v : Int32, yO_ d b u t g ((v, u1), u_add (3, 76) (u_add (0, 0) (0, 0))) := fun v => ⟨o', yR_keep R g1 (fun x hx => K2_t hx), z1.trans hz, by show 3 + (0 + 0) ≤ 4000; omega, by show 76 + (0 + 0) ≤ 100000; omega⟩
        refine ev_ifq (eq_li (v := 0) rfl) (fun c0 => ?_) (fun c0 => ?_)
        · rw [if_pos c0]; exact ev_some ⟨O _, rfl⟩
        · rw [if_neg c0]
          refine ev_ifq (eq_li (v := 1) rfl) (fun c1 => ?_) (fun c1 => ?_)
          · rw [if_pos c1]; exact ev_some ⟨O _, rfl⟩
          · rw [if_neg c1]
            obtain ⟨_, _, _, _, f, q5, q6⟩ := hG1
            exact ev_b (uq_above q5 q6 (ff_c e4)) (fun r hr => ev_some ⟨O _, hr⟩)
    · simp only [if_neg c]
      exact ev_some ⟨yO_0 h _, m2_q⟩
  · simp only [if_neg c1]
    exact ev_some ⟨yO_0 h _, m2_q⟩
theorem uq_taken {d : UD} {b : Nat} {o : Nat → Nat} {u : UM} {t : Nat} {g : GS_} (h : yR_ d b o u t g) (ok : g_ok g) (nw : ss_nw (g_np g) (g_nk g) (g_s g)) {k : Nat} (hk : k < g_nk g) {w : Nat} (hw : w < 2147483648) : Ev_ (fun n => uf_X0_taken n d u t (n_ k) (n_ w)) (fun r => r.1.1 = u.2 ∧ r.1.2.2 = u.2 + r.2.1 ∧ r.2 = (3, 76) ∧ ∃ o', ygt_ b K2_ o u o' r.1.2 ∧ yR_ d b o' r.1.2 t g ∧ o' u.2 = 21 ∧ ∃ f, iA_ d r.1.2 u.2 64 f ∧ ∀ c, c < 64 → f c = q_ (rg_tn (g_np g) w (ss_fl (g_s g).1 k) c)) := by
  have h8 := ok.1
  have h0 := (yR_N h).1
  have hf := ff_s ok.2.2.1 nw hk
  unfold uf_X0_taken
  refine ug_startB h ok hk (fun o' u15 u30 ar fr e15 g0 R hG hA hz => ?_)
  rw [e15]
  refine ev_bl (P := fun y c => c = (0, 0) ∧ y.2 = u30.2 ∧ ygt_ b (fun x => x = 21 ∨ Kg_ x) o' u30 o' y ∧ ∃ m F, yG_ d o' y (u.2 + 1) (g_np g) m u.2 ar F ∧ ∀ c, c < 64 → F c = rg_tn (g_np g) w (ss_fl (g_s g).1 k) c) ?_ (fun y c' hp => ?_)
  · unfold uf_X0_taken_L29l
    refine ev_ul (Q := fun y c => c = (0, 0) ∧ y.2 = u30.2 ∧ ygt_ b (fun x => x = 21 ∨ Kg_ x) o' u30 o' y ∧ ∃ m F, yG_ d o' y (u.2 + 1) (g_np g) m u.2 ar F ∧ ∀ c, c < 64 → F c = rg_tn (g_np g) w (ss_fl (g_s g).1 k) c) (β := Nat × (Nat → Int)) (fun b => w - b.1) (fun q y c => c = (0, 0) ∧ q.1 ≤ w ∧ ff_ q.2 ∧ rg_tn (g_np g) (w - q.1) q.2 = rg_tn (g_np g) w (ss_fl (g_s g).1 k) ∧ y.1 = n_ q.1 ∧ y.2.2 = u30.2 ∧ ygt_ b (fun x => x = 21 ∨ Kg_ x) o' u30 o' y.2 ∧ (∃ m, yG_ d o' y.2 (u.2 + 1) (g_np g) m u.2 ar q.2) ∧ ∃ fr, iA_ d y.2 ar 8 fr) (fun q y c' hb => ?_) (0, ss_fl (g_s g).1 k) (0, u30) ⟨rfl, by dsimp only; omega, hf, rfl, n_lit 0, rfl, ygt_rfl g0.1, ⟨0, hG⟩, fr, hA⟩
    obtain ⟨i, f1⟩ := q
    obtain ⟨v3, u1⟩ := y
    obtain ⟨rfl, b1, b2, b3, e1, z1, g1, ⟨mm, hG1⟩, fr1, hA1⟩ := hb
    dsimp only at b1 b2 b3 e1 z1 g1 hG1 hA1 ⊢
    subst e1
    unfold uf_X0_taken_L29
    refine ev_ifq (c' := w ≤ i) (by rw [n_le (by omega) (by omega)]) (fun c1 => ?_) (fun c1 => ?_)
    · rw [show w - i = 0 by omega] at b3
      refine ev_some ⟨rfl, z1, g1, mm, f1, hG1, fun c hc => ?_⟩
      rw [← b3]; rfl
    · obtain ⟨m, hm⟩ : ∃ m, w - i = m + 1 := ⟨w - i - 1, by omega⟩
      rw [hm] at b3
      simp only [rg_tn] at b3
      refine ug_fC h8 b2 g1.1 hG1 hA1 (fun u2 m2 fr2 e1 g2 z2 hG2 hA2 => ?_) (fun u2 fr2 row e1 rok g2 z2 hG2 hA2 => ?_)
      · rw [e1] at b3
        refine ev_some ⟨rfl, z2.trans z1, ygt_tr g0.1 g1 g2, m2, f1, hG2, fun c hc => ?_⟩
        rw [← b3]
      · rw [e1] at b3
        rw [show n_ i + 1 = n_ (i + 1) from by rw [n_lit 1, n_add]]
        exact ev_some ⟨(i + 1, rg_tk f1 row), ⟨rfl, by dsimp only; omega, ff_tk h8 b2 rok, by dsimp only; rw [show w - (i + 1) = m by omega]; exact b3, rfl, z2.trans z1, ygt_tr g0.1 g1 g2, ⟨_, hG2⟩, fr2, hA2⟩, by dsimp only; omega⟩
  · obtain ⟨rfl, z1, g1, m, F, hG1, e1⟩ := hp
    obtain ⟨q1, q2, q3, q4, f, q5, q6⟩ := hG1
    exact ev_some ⟨rfl, by show y.2 = u.2 + (3 + (0 + 0)); rw [z1, hz], rfl, o', ygt_tr h0 g0 (ygt_sub g1 (fun x hx => K2_t hx)), yR_keep R g1 (fun x hx => K2_t hx), q3, f, q5, fun c hc => by rw [q6 c hc, e1 c hc]⟩
theorem uq_rounds {d : UD} {b : Nat} {o : Nat → Nat} {u : UM} {t : Nat} {g : GS_} (h : yR_ d b o u t g) (ok : g_ok g) (nw : ss_nw (g_np g) (g_nk g) (g_s g)) (z w : Int32) : Ev_ (fun n => uf_X0_rounds n d u t z w) (fun r => yO_ d b u t g r ∧ Sp_rounds g z w r.1.1) := by
  obtain ⟨h0, aN, s0, fs, k1, k2, k3, _⟩ := yR_N h
  have h8 := ok.1
  have hin := fun n => uin_lit n d u w (lo := 0) (hi := 99) (a := 0) (c := 99) rfl rfl
  unfold uf_X0_rounds uf_X0_rounds_J37 Sp_rounds Sp_k
  simp only [k2, m_bs, uq_isKind _ h ok, m_ifb, hin]
  by_cases c1 : 0 ≤ z.toInt ∧ z.toInt < g_nk g
  · simp only [if_pos c1]
    obtain ⟨k, hk, rfl, e3⟩ := pi_ c1
    rw [e3]
    by_cases c : 0 ≤ w.toInt ∧ w.toInt ≤ 99
    · simp only [if_pos c]
      obtain ⟨i, hi, rfl, e⟩ := pi_ (np := 100) (show 0 ≤ w.toInt ∧ w.toInt < (100 : Nat) by omega)
      rw [e]
      refine ev_bc (P := fun a u' c => a = u.2 ∧ u'.2 = u.2 + c.1 ∧ c = (3, 76) ∧ ∃ o', ygt_ b K2_ o u o' u' ∧ yR_ d b o' u' t g ∧ o' u.2 = 21 ∧ ∃ f, iA_ d u' u.2 64 f ∧ ∀ c, c < 64 → f c = q_ (rg_tn (g_np g) i (ss_fl (g_s g).1 k) c)) (uq_taken h ok nw hk (show i < 2147483648 by omega)) (fun a u' c hp => hp.2.1) (fun a u' c hp => ?_)
      obtain ⟨rfl, p1, rfl, o', p2, p3, _, f, p4, p5⟩ := hp
      exact ev_b (uq_sum p4 p5) (fun r hr => ev_some ⟨⟨o', p3, p1, by show 3 + 0 ≤ 4000; omega, by show 76 + 0 ≤ 100000; omega⟩, hr⟩)
    · simp only [if_neg c]
      exact ev_some ⟨yO_0 h _, m3_q⟩
  · simp only [if_neg c1]
    exact ev_some ⟨yO_0 h _, m2_q⟩
