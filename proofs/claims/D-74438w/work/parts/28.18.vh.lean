set_option maxRecDepth 100000
/-! The component's chain -/
theorem lM_sub {d : UD} {u : UM} {al np : Nat} {L : Nat → Nat} {S S' : Nat → Prop} (h : lM_ d u al np L S) (hs : ∀ x, x < np → S' x → S x) : lM_ d u al np L S' := by
  obtain ⟨fl, a, b, c⟩ := h
  exact ⟨fl, a, b, fun x hx q => c x hx (hs x hx q)⟩
theorem n_m1 {p : Nat} (h : p < 100) : ¬ n_ p = (-1 : Int32) := fun e => by
  have := (eq_m1 _).mp e
  rw [n_toInt (by omega)] at this
  omega
theorem uc_best {d : UD} {b : Nat} {o : Nat → Nat} {t : Nat} {g : GS_} (ok : g_ok g) {F : Nat → Int} (hF : ff_ F) {L : Nat → Nat} (hL : Lg_ (g_np g) F L) {af al : Nat} (ta : o af = 21) (tl : o al = 25) {f : Nat → Int32} (hf : ∀ c, c < 64 → f c = q_ (F c)) {u : UM} (R : yR_ d b o u t g) (hA : iA_ d u af 64 f) (hM : lM_ d u al (g_np g) L (fun _ => False)) (v2 : Int32) : Ev_ (fun n => uf_X0_chain_L40l n d t v2 af al (-1, 0, u)) (fun r => r.2 = (0, 0) ∧ r.1.2.2 = u.2 ∧ ygt_ b (K1_ 25) o u o r.1.2 ∧ ((g_np g = 0 ∧ r.1.1 = -1) ∨ ∃ p0, p0 < g_np g ∧ r.1.1 = n_ p0 ∧ (∀ x, x < g_np g → L x ≤ L p0) ∧ (∀ x, x < p0 → L x < L p0) ∧ lM_ d r.1.2 al (g_np g) L (fun x => x ≠ p0))) := by
  have h8 := ok.1
  have h0 := (yR_N R).1
  unfold uf_X0_chain_L40l
  refine ev_uf (Q := fun (y : Int32 × UM) => y.2.2 = u.2 ∧ ygt_ b (K1_ 25) o u o y.2 ∧ ((g_np g = 0 ∧ y.1 = -1) ∨ ∃ p0, p0 < g_np g ∧ y.1 = n_ p0 ∧ (∀ x, x < g_np g → L x ≤ L p0) ∧ (∀ x, x < p0 → L x < L p0) ∧ lM_ d y.2 al (g_np g) L (fun x => x ≠ p0))) (g_np g) (fun (i : Nat) (y : Int32 × Int32 × UM) => y.2.2.2 = u.2 ∧ ygt_ b (K1_ 25) o u o y.2.2 ∧ y.2.1 = n_ i ∧ ((i = 0 ∧ y.1 = -1 ∧ lM_ d y.2.2 al (g_np g) L (fun _ => False)) ∨ ∃ p0, p0 < i ∧ y.1 = n_ p0 ∧ (∀ x, x < i → L x ≤ L p0) ∧ (∀ x, x < p0 → L x < L p0) ∧ lM_ d y.2.2 al (g_np g) L (fun x => x < i ∧ x ≠ p0))) (fun i y hi hP => ?_) (fun y hP => ?_) (-1, 0, u) ⟨rfl, ygt_rfl h0, n_lit 0, Or.inl ⟨rfl, rfl, hM⟩⟩
  · obtain ⟨v5, v6, u1⟩ := y
    obtain ⟨z1, g1, e1, hP⟩ := hP
    dsimp only at z1 g1 e1 hP ⊢
    subst e1
    have R1 := yR_keep R g1 (fun x hx => by cases hx; exact ⟨by omega, by omega⟩)
    have hA1 := (ygt_at h0 g1 hA (by rw [ta]; exact fun z => by cases z)).1
    obtain ⟨h01, aN, s0, fs, k1, k2, k3, _⟩ := yR_N R1
    obtain ⟨fn, hfn⟩ := ys_cl k3
    have hmany : ∀ n, uf_X1_many n d u1 aN = some (n_ (g_np g)) := fun n => us_many n k3
    unfold uf_X0_chain_L40 uf_X0_chain_J79 uf_X0_chain_J83
    simp only [k1, hfn, hmany, m_bs, k2]
    refine ev_ifF (by rw [n_le (by omega) (by omega)]; omega) ?_
    rw [show n_ i + 1 = n_ (i + 1) from by rw [n_lit 1, n_add]]
    rcases hP with ⟨rfl, rfl, hM1⟩ | ⟨p0, q1, rfl, q2, q3, hM1⟩
    · refine ev_ifT rfl (ev_some ⟨_, rfl, z1, g1, rfl, Or.inr ⟨0, by omega, rfl, fun x hx => ?_, fun x hx => by omega, lM_sub hM1 (fun x hx q => by omega)⟩⟩)
      rw [show x = 0 by omega]; exact Nat.le_refl _
    · refine ev_ifF (n_m1 (by omega)) ?_
      have hLi := (hL i hi).2.1
      have hLp := (hL p0 (by omega)).2.1
      refine ev_bc (P := fun r u' c => c = (0, 0) ∧ u'.2 = u1.2 ∧ ygt_ b (K1_ 25) o u1 o u' ∧ r = n_ (L i) ∧ lM_ d u' al (g_np g) L (fun x => (x < i ∧ x ≠ p0) ∨ x = i)) (uc_long ok hF hL ta tl hf 9 i u1 _ R1 hA1 hM1 hi (by omega)) (fun r u' c hp => by rw [hp.1]; exact hp.2.1) (fun r u2 c hp => ?_)
      obtain ⟨rfl, z2, g2, rfl, hM2⟩ := hp
      have R2 := yR_keep R1 g2 (fun x hx => by cases hx; exact ⟨by omega, by omega⟩)
      have hA2 := (ygt_at h01 g2 hA1 (by rw [ta]; exact fun z => by cases z)).1
      obtain ⟨h02, _, _, fs2, _, k22, _⟩ := yR_N R2
      refine ev_b1 k22 ?_
      refine ev_bc (P := fun r u' c => c = (0, 0) ∧ u'.2 = u2.2 ∧ ygt_ b (K1_ 25) o u2 o u' ∧ r = n_ (L p0) ∧ lM_ d u' al (g_np g) L (fun x => ((x < i ∧ x ≠ p0) ∨ x = i) ∨ x = p0)) (uc_long ok hF hL ta tl hf 9 p0 u2 _ R2 hA2 hM2 (by omega) (by omega)) (fun r u' c hp => by rw [hp.1]; exact hp.2.1) (fun r u3 c hp => ?_)
      obtain ⟨rfl, z3, g3, rfl, hM3⟩ := hp
      have GG := ygt_tr h0 g1 (ygt_tr h01 g2 g3)
      have ZZ := z3.trans (z2.trans z1)
      refine ev_ifq (c' := L i ≤ L p0) (by rw [n_le (by omega) (by omega)]) (fun c => ?_) (fun c => ?_)
      · refine ev_some ⟨_, rfl, ZZ, GG, rfl, Or.inr ⟨p0, by omega, rfl, fun x hx => ?_, q3, lM_sub hM3 (fun x hx q => by omega)⟩⟩
        by_cases e : x = i
        · rw [e]; exact c
        · exact q2 x (by omega)
      · refine ev_some ⟨_, rfl, ZZ, GG, rfl, Or.inr ⟨i, by omega, rfl, fun x hx => ?_, fun x hx => ?_, lM_sub hM3 (fun x hx q => by omega)⟩⟩
        · by_cases e : x = i
          · rw [e]; exact Nat.le_refl _
          · have := q2 x (by omega); omega
        · have := q2 x (by omega); omega
  · obtain ⟨v5, v6, u1⟩ := y
    obtain ⟨z1, g1, e1, hP⟩ := hP
    dsimp only at z1 g1 e1 hP ⊢
    subst e1
    have R1 := yR_keep R g1 (fun x hx => by cases hx; exact ⟨by omega, by omega⟩)
    obtain ⟨h01, aN, s0, fs, k1, k2, k3, _⟩ := yR_N R1
    obtain ⟨fn, hfn⟩ := ys_cl k3
    have hmany : ∀ n, uf_X1_many n d u1 aN = some (n_ (g_np g)) := fun n => us_many n k3
    unfold uf_X0_chain_L40
    simp only [k1, hfn, hmany, m_bs]
    refine ev_ifT (by rw [n_le (by omega) (by omega)]; omega) (ev_some ⟨_, rfl, z1, g1, ?_⟩)
    rcases hP with ⟨e, rfl, hM1⟩ | ⟨p0, q1, rfl, q2, q3, hM1⟩
    · exact Or.inl ⟨e, rfl⟩
    · exact Or.inr ⟨p0, q1, rfl, q2, q3, lM_sub hM1 (fun x hx q => ⟨hx, q⟩)⟩
theorem uq_chain {d : UD} {b : Nat} {o : Nat → Nat} {u : UM} {t : Nat} {g : GS_} (h : yR_ d b o u t g) (ok : g_ok g) (nw : ss_nw (g_np g) (g_nk g) (g_s g)) (z w : Int32) : Ev_ (fun n => uf_X0_chain n d u t z w) (fun r => yO_ d b u t g r ∧ Sp_chain g z w r.1.1) := by
  obtain ⟨h0, aN, s0, fs, k1, k2, k3, _⟩ := yR_N h
  have h8 := ok.1
  unfold uf_X0_chain Sp_chain Sp_k
  simp only [k2, m_bs, uq_isKind _ h ok, m_ifb]
  by_cases c1 : 0 ≤ z.toInt ∧ z.toInt < g_nk g
  · simp only [if_pos c1]
    obtain ⟨k, hk, rfl, e3⟩ := pi_ c1
    rw [e3]
    have hf0 := ff_s ok.2.2.1 nw hk
    obtain ⟨hnone, hF, hd⟩ := rg_all_ok ok.2.2.1 nw hk
    obtain ⟨L, hL⟩ := Lg_ex h8 hnone hd
    refine ev_ifq (le_m1 w) (fun c2 => ?_) (fun c2 => ?_)
    · simp only [if_pos c2]
      have hbig : ∀ W, 65 ≤ W → rg_tn (g_np g) W (ss_fl (g_s g).1 k) = rg_all (g_np g) (ss_fl (g_s g).1 k) := fun W hW => rg_tn_big h8 65 _ hf0 (by have := ct_le 64 (ss_fl (g_s g).1 k); omega) W hW
      generalize rg_all (g_np g) (ss_fl (g_s g).1 k) = F at *
      rw [n_lit 2147483647]
      have hW : 65 ≤ 2147483647 ∧ 2147483647 < 2147483648 := ⟨by omega, by omega⟩
      generalize 2147483647 = W at hW ⊢
      refine ev_bc (P := fun a u' c => a = u.2 ∧ u'.2 = u.2 + c.1 ∧ c = (3, 76) ∧ ∃ o', ygt_ b K2_ o u o' u' ∧ yR_ d b o' u' t g ∧ o' u.2 = 21 ∧ ∃ f, iA_ d u' u.2 64 f ∧ ∀ c, c < 64 → f c = q_ (rg_tn (g_np g) W (ss_fl (g_s g).1 k) c)) (uq_taken h ok nw hk hW.2) (fun a u' c hp => hp.2.1) (fun a u11 c hp => ?_)
      obtain ⟨rfl, p1, rfl, o1, p2, R11, t1, f, p4, p5⟩ := hp
      rw [hbig W hW.1] at p5
      rw [show (8 : Int32) = n_ 8 from n_lit 8]
      refine ev_g (ln_e (by omega)) (ev_ac ?_)
      rw [n_nat (by omega)]
      have c16 := nw_nw p2.1 (.inl (d.1 0, 8, .inl (fun _ => (0 : Int32))))
      generalize u_nw u11 (.inl (d.1 0, 8, .inl (fun _ => (0 : Int32)))) = u16 at *
      have g16 := ygt_nw (K := K2_) (o := o1) p2.1 c16 25
      have R16 := yR_keep R11 g16 (fun x hx => hx)
      have ne1 : u.2 ≠ u11.2 := by rw [p1]; show u.2 ≠ u.2 + 3; omega
      have hA16 : iA_ d u16 u.2 64 f := (c16.2.2 u.2 ne1).trans p4
      have ta : ot_ o1 u11.2 25 u.2 = 21 := (ot_ne ne1).trans t1
      have tl : ot_ o1 u11.2 25 u11.2 = 25 := ot_at _ _ _
      have hz16 : u16.2 = u.2 + 4 := by rw [c16.1, p1]
      have hM16 : lM_ d u16 u11.2 (g_np g) L (fun _ => False) := ⟨_, c16.2.1, fun x hx => Or.inl (n_lit 0), fun x hx q => q.elim⟩
      have h016 := g16.1
      generalize ot_ o1 u11.2 25 = o2 at *
      have O : ∀ (v : Int32) (u' : UM), ygt_ b (K1_ 25) o2 u16 o2 u' → u'.2 = u16.2 → ∀ cc : UC, cc = (4, 84) → yO_ d b u t g ((v, u'), cc) := fun v u' gg hz cc hcc => by
        subst hcc
        exact ⟨o2, yR_keep R16 gg (fun x hx => by cases hx; exact ⟨by omega, by omega⟩), hz.trans hz16, by show 4 ≤ 4000; omega, by show 84 ≤ 100000; omega⟩
      refine ev_bl (P := fun y c => c = (0, 0) ∧ y.2.2 = u16.2 ∧ ygt_ b (K1_ 25) o2 u16 o2 y.2 ∧ ((g_np g = 0 ∧ y.1 = -1) ∨ ∃ p0, p0 < g_np g ∧ y.1 = n_ p0 ∧ (∀ x, x < g_np g → L x ≤ L p0) ∧ (∀ x, x < p0 → L x < L p0) ∧ lM_ d y.2 u11.2 (g_np g) L (fun x => x ≠ p0))) (uc_best ok hF hL ta tl p5 R16 hA16 hM16 w) (fun y c hp => ?_)
      obtain ⟨v5, u1⟩ := y
      obtain ⟨rfl, z1, g1, hp⟩ := hp
      dsimp only at z1 g1 hp ⊢
      have J0 : ∀ (u' : UM) (v5 : Int32), ygt_ b (K1_ 25) o2 u16 o2 u' → u'.2 = u16.2 → cN_ (g_np g) L = 0 → Ev_ (fun n => uf_X0_chain_J108 n d u' t w u.2 u11.2 v5) (fun r => r.2 = (0, 0) ∧ r.1.2 = u' ∧ ∃ L, Lg_ (g_np g) F L ∧ r.1.1 = cA_ (g_np g) F L w.toInt) := fun u' v5 gg hz hc => by
        unfold uf_X0_chain_J108 uf_X0_chain_J121
        refine ev_ifq (eq_m1 w) (fun d1 => ?_) (fun d1 => ?_)
        · exact ev_some ⟨rfl, rfl, L, hL, by unfold cA_; rw [if_pos d1, hc]; exact n_lit 0⟩
        · refine ev_ifF (fun q => ?_) (ev_some ⟨rfl, rfl, L, hL, ?_⟩)
          · have : w.toInt < (0 : Int32).toInt := Int32.lt_iff_toInt_lt.mp q
            have e0 : (0 : Int32).toInt = 0 := rfl
            omega
          · unfold cA_; rw [if_neg d1, hc, if_neg (by omega)]; exact m1_q
      rcases hp with ⟨e0, rfl⟩ | ⟨p0, q1, rfl, q2, q3, hM1⟩
      · refine ev_ifT rfl (ev_w (J0 u1 (-1) g1 z1 (by unfold cN_; rw [e0]; rfl)) (fun r hr => ?_))
        obtain ⟨⟨v, u'⟩, cc⟩ := r
        obtain ⟨rfl, rfl, hr⟩ := hr
        exact ⟨O v u' g1 z1 _ rfl, hr⟩
      · refine ev_ifF (n_m1 (by omega)) ?_
        have R1 := yR_keep R16 g1 (fun x hx => by cases hx; exact ⟨by omega, by omega⟩)
        have hA1 := (ygt_at h016 g1 hA16 (by rw [ta]; exact fun z => by cases z)).1
        obtain ⟨h01, _, _, fs1, _, k21, _⟩ := yR_N R1
        have hLp := hL p0 q1
        refine ev_b1 k21 ?_
        refine ev_bc (P := fun r u' c => c = (0, 0) ∧ u'.2 = u1.2 ∧ ygt_ b (K1_ 25) o2 u1 o2 u' ∧ r = n_ (L p0) ∧ lM_ d u' u11.2 (g_np g) L (fun x => x ≠ p0 ∨ x = p0)) (uc_long ok hF hL ta tl p5 9 p0 u1 _ R1 hA1 hM1 q1 (by omega)) (fun r u' c hp => by rw [hp.1]; exact hp.2.1) (fun r u2 c hp => ?_)
        obtain ⟨rfl, z2, g2, rfl, hM2⟩ := hp
        have G2 := ygt_tr h016 g1 g2
        have Z2 := z2.trans z1
        have R2 := yR_keep R1 g2 (fun x hx => by cases hx; exact ⟨by omega, by omega⟩)
        have hA2 := (ygt_at h01 g2 hA1 (by rw [ta]; exact fun z => by cases z)).1
        obtain ⟨h02, _, _, fs2, _, k22, _⟩ := yR_N R2
        have hlxx : lxx_ L (g_np g) = L p0 := by
          have a1 := lxx_le (L := L) (m := L p0) (n := g_np g) q2
          have a2 := lxx_ge (L := L) q1
          omega
        refine ev_ifq (c' := L p0 = 1) (by rw [n_lit 1, n_eq (by omega) (by omega)]) (fun d1 => ?_) (fun d1 => ?_)
        · refine ev_w (J0 u2 _ G2 Z2 (by unfold cN_; rw [hlxx, d1]; rfl)) (fun r hr => ?_)
          obtain ⟨⟨v, u'⟩, cc⟩ := r
          obtain ⟨rfl, rfl, hr⟩ := hr
          exact ⟨O v u' G2 Z2 _ rfl, hr⟩
        · have hcN : cN_ (g_np g) L = L p0 := by unfold cN_; rw [hlxx, if_neg (by omega)]
          refine ev_b1 k22 ?_
          refine ev_bc (P := fun r u' c => c = (0, 0) ∧ u'.2 = u2.2 ∧ ygt_ b (K1_ 25) o2 u2 o2 u' ∧ r = n_ (L p0) ∧ lM_ d u' u11.2 (g_np g) L (fun x => (x ≠ p0 ∨ x = p0) ∨ x = p0)) (uc_long ok hF hL ta tl p5 9 p0 u2 _ R2 hA2 hM2 q1 (by omega)) (fun r u' c hp => by rw [hp.1]; exact hp.2.1) (fun r u3 c hp => ?_)
          obtain ⟨rfl, z3, g3, rfl, hM3⟩ := hp
          have G3 := ygt_tr h016 G2 g3
          have Z3 := z3.trans Z2
          have R3 := yR_keep R2 g3 (fun x hx => by cases hx; exact ⟨by omega, by omega⟩)
          have hA3 := (ygt_at h02 g3 hA2 (by rw [ta]; exact fun z => by cases z)).1
          obtain ⟨h03, _, _, fs3, _, k23, _⟩ := yR_N R3
          unfold uf_X0_chain_J121
          refine ev_ifq (eq_m1 w) (fun d2 => ?_) (fun d2 => ?_)
          · exact ev_some ⟨O _ u3 G3 Z3 _ rfl, L, hL, by unfold cA_; rw [if_pos d2, hcN]⟩
          · obtain ⟨i, hi⟩ : ∃ i : Nat, w = n_ i ∧ w.toInt = i := ⟨w.toInt.toNat, n_of (by omega), by omega⟩
            obtain ⟨ew, ei⟩ := hi
            have hib : i < 2147483648 := by have := Int32.toInt_lt w; omega
            refine ev_ifq (c' := i < L p0) (by rw [ew, n_lt hib (by omega)]) (fun d3 => ?_) (fun d3 => ?_)
            · have e0 : cw_ (g_np g) F L (cN_ (g_np g) L) 0 = p0 := by
                show fi_ (fun p => decide (L p = cN_ (g_np g) L)) (g_np g) 0 = p0
                obtain ⟨i1, i2⟩ := fi_lt (P := fun p => decide (L p = cN_ (g_np g) L)) (m := g_np g) (b := 0) (x := p0) (by omega) (by omega) (by simp [hcN])
                simp [hcN] at i2
                rw [hcN] at i1 ⊢
                rcases Nat.lt_or_ge (fi_ (fun p => decide (L p = L p0)) (g_np g) 0) p0 with q | q
                · have := q3 _ q; omega
                · omega
              refine ev_bl (P := fun y c => c = (0, 0) ∧ y = (n_ (cw_ (g_np g) F L (cN_ (g_np g) L) i), u3)) ?_ (fun y c hp => ?_)
              · unfold uf_X0_chain_L142l
                refine ev_uf (Q := fun (y : Int32 × UM) => y = (n_ (cw_ (g_np g) F L (cN_ (g_np g) L) i), u3)) i (fun (j : Nat) (y : Int32 × Int32 × UM) => y = (n_ (cw_ (g_np g) F L (cN_ (g_np g) L) j), n_ j, u3)) (fun j y hj hP => ?_) (fun y hP => ?_) _ (by rw [e0, ← n_lit 0])
                · subst hP
                  obtain ⟨v1, v2⟩ := cw_ok hL j (by omega)
                  unfold uf_X0_chain_L142
                  dsimp only
                  refine ev_ifF (by rw [ew, n_le hib (by omega)]; omega) ?_
                  refine ev_b1 k23 ?_
                  refine ev_b (uc_next h8 hF hL hA3 p5 hM3 (fun x hx => Or.inl (by by_cases e : x = p0 <;> simp [e])) v1 ?_) (fun r hr => ?_)
                  · rcases (hL _ v1).2.2.2 with c | c
                    · omega
                    · exact c
                  · subst hr
                    rw [show n_ j + 1 = n_ (j + 1) from by rw [n_lit 1, n_add]]
                    refine ev_some ⟨_, rfl, ?_⟩
                    rw [v2, Nat.sub_sub]; rfl
                · subst hP
                  unfold uf_X0_chain_L142
                  dsimp only
                  exact ev_ifT (by rw [ew, n_le hib (by omega)]; omega) (ev_some ⟨_, rfl, rfl⟩)
              · obtain ⟨rfl, rfl⟩ := hp
                refine ev_some ⟨O _ u3 G3 Z3 _ rfl, L, hL, ?_⟩
                unfold cA_
                rw [if_neg d2, ei, if_pos (by omega), Int.toNat_natCast]
            · refine ev_some ⟨O _ u3 G3 Z3 _ rfl, L, hL, ?_⟩
              unfold cA_
              rw [if_neg d2, ei, if_neg (by omega)]; exact m1_q
    · simp only [if_neg c2]
      exact ev_some ⟨yO_0 h _, m3_q⟩
  · simp only [if_neg c1]
    exact ev_some ⟨yO_0 h _, m2_q⟩
