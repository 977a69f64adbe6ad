set_option maxRecDepth 100000
/-! The component takes a ring -/
theorem ut_less {d : UD} {b : Nat} {o : Nat → Nat} {u : UM} (h0 : uw_ b u) {a : Nat} {t : Tr_} (h : td_ o u a t) (v : Int) : Ev_ (fun n => uf_X6_less n d u a (q_ v)) (fun r => r.2 = (1, 5) ∧ r.1.1 = u.2 ∧ r.1.2.2 = u.2 + 1 ∧ ygt_ b K0_ o u (ot_ o u.2 14) r.1.2 ∧ td_ (ot_ o u.2 14) r.1.2 u.2 (tr_am t (t.2.2.1 - v))) := by
  unfold uf_X6_less
  refine ev_ac (ev_nw h0 (fun u2 c2 => ?_))
  have g2 := ygt_nw (K := K0_) (o := o) h0 c2 14
  have hd := td_keep h0 g2 h (fun z => z)
  have f0 : u_fi d u2 6 0 a = some (n_ t.1) := fi_e hd.1 rfl
  have f1 : u_fi d u2 6 1 a = some (n_ t.2.1) := fi_e hd.1 rfl
  have f2 : u_fi d u2 6 2 a = some (q_ t.2.2.1) := fi_e hd.1 rfl
  have f3 : u_fi d u2 6 3 a = some (n_ t.2.2.2.1) := fi_e hd.1 rfl
  have f4 : u_fi d u2 6 4 a = some (n_ (if t.2.2.2.2 then 1 else 0)) := fi_e hd.1 rfl
  simp only [f0, f1, f2, f3, f4, m_bs, q_sub]
  have h4 : m_01 (n_ (if t.2.2.2.2 then 1 else 0)) = true := by
    by_cases ck : t.2.2.2.2 = true
    · rw [if_pos ck, ← n_lit 1]; decide
    · rw [if_neg ck, ← n_lit 0]; decide
  refine ev_bc (P := fun _ u6 c => c = (0, 0) ∧ u6.2 = u2.2 ∧ ch_ u2 u6 u.2 (.inr (6, [.int (n_ t.1), .int (n_ t.2.1), .int (q_ (t.2.2.1 - v)), .int (n_ t.2.2.2.1), .int (n_ (if t.2.2.2.2 then 1 else 0))]))) (ut_init (o := o) g2.1 c2.2.1 _ _ _ _ _ h4) (fun _ u6 c hp => by rw [hp.1]; exact hp.2.1) (fun _ u6 c hp => ?_)
  obtain ⟨rfl, p2, p3⟩ := hp
  exact ev_some ⟨rfl, rfl, by show u6.2 = u.2 + 1; rw [p2, c2.1], ygt_chn h0 g2 (Nat.le_refl _) c2.2.1 p3 (kd1_o _ _ _), p3.2.1, ot_at _ _ _⟩
theorem ux_lessens {d : UD} {b : Nat} {o : Nat → Nat} {u : UM} {t : Nat} {g : GS_} {l : List Tr_} {caps : Nat → Int} {mode aN s0 : Nat} (R : yRm_ d b o u t (g_set g (l, caps, mode)) aN s0) (h40 : l.length ≤ 40) (hl : ∀ t ∈ l, t.1 < 8 ∧ t.2.1 < 8 ∧ t.2.2.2.1 < 4 ∧ 0 < t.2.2.1 ∧ t.2.2.1 < 2147483648) {k x y : Nat} (hk : k < 4) (hx : x < 8) (hy : y < 8) {left0 : Int} (hl0 : 0 ≤ left0 ∧ left0 < 2147483648) : Ev_ (fun n => uf_X0_lessens n d u t (n_ x) (n_ y) (n_ k) (q_ left0)) (fun r => ∃ o', yRm_ d b o' r.1.2 t (g_set g (ls_ k (8 * x + y) l left0, caps, mode)) aN s0 ∧ r.1.2.2 = u.2 + r.2.1 ∧ r.2.1 ≤ 40 ∧ r.2.2 ≤ 200 ∧ ygt_ b (Ks_ s0) o u o' r.1.2) := by
  obtain ⟨q0, qc, q1, ⟨f1, q2⟩, q3, q4⟩ := yRm_N R
  obtain ⟨aT1, lT1, ft1, v1, v2, v3, v4, v5, v6, v7, v8⟩ := ys_T q3
  have v4 : ∀ n, uf_J2_size n d u aT1 = some (n_ l.length) := v4
  unfold uf_X0_lessens
  simp only [q1, v2, v3, v4, m_bs]
  rw [show n_ l.length - 1 = q_ ((l.length : Int) - 1) from by rw [n_q, show (1 : Int32) = q_ 1 from rfl, q_sub]]
  refine ev_bl (P := fun s c => ∃ o', yRm_ d b o' s t (g_set g (ls_ k (8 * x + y) l left0, caps, mode)) aN s0 ∧ s.2 = u.2 + c.1 ∧ c.1 ≤ 40 ∧ c.2 ≤ 200 ∧ ygt_ b (Ks_ s0) o u o' s) ?_ (fun s c hp => ?_)
  · unfold uf_X0_lessens_L18l
    refine ev_ul (Q := fun (s : UM) (c : UC) => ∃ o', yRm_ d b o' s t (g_set g (ls_ k (8 * x + y) l left0, caps, mode)) aN s0 ∧ s.2 = u.2 + c.1 ∧ c.1 ≤ 40 ∧ c.2 ≤ 200 ∧ ygt_ b (Ks_ s0) o u o' s) (β := Nat × List Tr_ × Int) (fun q => q.1) (fun q (s : Int32 × Int32 × UM) (c : UC) => q.1 ≤ l.length ∧ (l.take q.1 ++ q.2.1).length ≤ 40 ∧ (0 ≤ q.2.2 ∧ q.2.2 < 2147483648) ∧ ls_ k (8 * x + y) (l.take q.1) q.2.2 ++ q.2.1 = ls_ k (8 * x + y) l left0 ∧ s.1 = q_ q.2.2 ∧ s.2.1 = q_ ((q.1 : Int) - 1) ∧ s.2.2.2 = u.2 + c.1 ∧ c.1 + q.1 ≤ l.length ∧ c.2 + 5 * q.1 ≤ 5 * l.length ∧ ∃ o', yRm_ d b o' s.2.2 t (g_set g (l.take q.1 ++ q.2.1, caps, mode)) aN s0 ∧ ygt_ b (Ks_ s0) o u o' s.2.2) (fun q s c hb => ?_) (l.length, [], left0) (q_ left0, q_ ((l.length : Int) - 1), u) ⟨by dsimp only; omega, by dsimp only; rw [List.take_length, List.append_nil]; exact h40, hl0, by dsimp only; rw [List.take_length, List.append_nil], rfl, rfl, rfl, by dsimp only; omega, by dsimp only; omega, o, by dsimp only; rw [List.take_length, List.append_nil]; exact R, ygt_rfl q0⟩
    obtain ⟨m, suf, left⟩ := q
    obtain ⟨w5, w6, u1⟩ := s
    obtain ⟨b1, b2, b3, b4, e1, e2, z1, d1, d2, o1, R1, G1⟩ := hb
    dsimp only at b1 b2 b3 b4 e1 e2 z1 d1 d2 R1 G1 ⊢
    subst e1; subst e2
    unfold uf_X0_lessens_L18
    refine ev_ifq (c' := m = 0) (by rw [show (0 : Int32) = q_ 0 from rfl, q_lt ⟨by omega, by omega⟩ ⟨by omega, by omega⟩]; omega) (fun c0 => ?_) (fun c0 => ?_)
    · subst c0
      refine ev_some ⟨o1, ?_, z1, by show c.1 + 0 ≤ 40; omega, by show c.2 + 0 ≤ 200; omega, G1⟩
      rw [← b4]
      simpa [ls_, lr_] using R1
    · refine ev_ifq (c' := left ≤ 0) (by rw [show (0 : Int32) = q_ 0 from rfl]; exact q_le ⟨by omega, by omega⟩ ⟨by omega, by omega⟩) (fun c1 => ?_) (fun c1 => ?_)
      · refine ev_some ⟨o1, ?_, z1, by show c.1 + 0 ≤ 40; omega, by show c.2 + 0 ≤ 200; omega, G1⟩
        rw [← b4]
        unfold ls_
        rw [lr_0 _ _ _ c1, List.reverse_reverse]; exact R1
      · obtain ⟨i, rfl⟩ : ∃ i, m = i + 1 := ⟨m - 1, by omega⟩
        have hi : i < l.length := by omega
        have hlen : (l.take i).length = i := by rw [List.length_take]; omega
        have htake : l.take (i + 1) ++ suf = l.take i ++ l[i] :: suf := by rw [List.take_succ_eq_append_getElem hi, List.append_assoc]; rfl
        rw [htake] at R1 b2
        have hit := hl _ (List.getElem_mem hi)
        rw [show ((i + 1 : Nat) : Int) - 1 = (i : Int) by omega, ← n_q]
        have htl : i < (l.take i ++ l[i] :: suf).length := by simp only [List.length_append, List.length_cons, hlen]; omega
        have hget : (l.take i ++ l[i] :: suf)[i]'htl = l[i] := by rw [List.getElem_append_right (by omega)]; simp [hlen]
        obtain ⟨p0, pc, p1, ⟨pf, p2⟩, p3, p4⟩ := yRm_N R1
        obtain ⟨aT, lT, ft, x1, x2, x3, x4, x5, x6, x7, x8⟩ := ys_T p3
        have x7 : al2_ (td_ o1 u1) lT (l.take i ++ l[i] :: suf) := x7
        have x5 : lT.length = (l.take i ++ l[i] :: suf).length := x5
        have hil : i < lT.length := by omega
        have ht : td_ o1 u1 lT[i] l[i] := by
          have := x7.2 i hil htl
          rw [hget] at this; exact this
        obtain ⟨t0, t1, t2, t3, t4, t5⟩ := td_ni ht
        have hgt := fun n => x6 n i hil
        have hfree := fun n => ut_isFree n (d := d) ht hit.2.2.1 hk
        have hidx : n_ i + -1 = q_ ((i : Int) - 1) := by rw [m1_q, n_q, q_add]; congr 1
        have hrev : (l.take (i + 1)).reverse = l[i] :: (l.take i).reverse := by rw [List.take_succ_eq_append_getElem hi, List.reverse_append]; rfl
        unfold ls_ at b4
        rw [hrev] at b4
        simp only [lr_] at b4
        rw [if_neg c1] at b4
        unfold uf_X0_lessens_J140
        simp only [p1, x2, x3, hgt, t0, t1, t2, t3, hfree, m_bs, m_ifb, hidx]
        have skip : ¬ (tr_fr k (l[i]) = true ∧ 8 * (l[i]).1 + (l[i]).2.1 = 8 * x + y) → ∃ b' : Nat × List Tr_ × Int, (b'.1 ≤ l.length ∧ (l.take b'.1 ++ b'.2.1).length ≤ 40 ∧ (0 ≤ b'.2.2 ∧ b'.2.2 < 2147483648) ∧ ls_ k (8 * x + y) (l.take b'.1) b'.2.2 ++ b'.2.1 = ls_ k (8 * x + y) l left0 ∧ q_ left = q_ b'.2.2 ∧ q_ ((i : Int) - 1) = q_ ((b'.1 : Int) - 1) ∧ u1.2 = u.2 + (u_add c (0, 0)).1 ∧ (u_add c (0, 0)).1 + b'.1 ≤ l.length ∧ (u_add c (0, 0)).2 + 5 * b'.1 ≤ 5 * l.length ∧ ∃ o', yRm_ d b o' u1 t (g_set g (l.take b'.1 ++ b'.2.1, caps, mode)) aN s0 ∧ ygt_ b (Ks_ s0) o u o' u1) ∧ b'.1 < i + 1 := fun hn => by
          rw [if_neg hn] at b4
          refine ⟨(i, l[i] :: suf, left), ⟨by dsimp only; omega, b2, b3, ?_, rfl, rfl, z1, by show c.1 + 0 + i ≤ l.length; omega, by show c.2 + 0 + 5 * i ≤ 5 * l.length; omega, o1, R1, G1⟩, by dsimp only; omega⟩
          dsimp only
          unfold ls_
          rw [← b4, List.reverse_cons, List.append_assoc]; rfl
        by_cases c2 : tr_fr k (l[i]) = true
        · simp only [if_pos c2]
          refine ev_ifq (c' := (l[i]).1 = x) (by rw [n_eq (by omega) (by omega)]) (fun c3 => ?_) (fun c3 => ev_some (skip (fun z => c3 (by omega))))
          refine ev_ifq (c' := (l[i]).2.1 = y) (by rw [n_eq (by omega) (by omega)]) (fun c4 => ?_) (fun c4 => ev_some (skip (fun z => c4 (by omega))))
          rw [if_pos ⟨c2, by omega⟩] at b4
          have nk14 : ¬ Kl_ (16 * s0 + 3) (16 * s0 + 6) 14 := fun z => by rcases z with z | z <;> omega
          have kls : ∀ z, Kl_ (16 * s0 + 3) (16 * s0 + 6) z → Ks_ s0 z := fun z hz => by rcases hz with hz | hz <;> unfold Ks_ <;> omega
          by_cases c5 : (l[i]).2.2.1 ≤ left
          · rw [if_pos c5] at b4
            have hmin : (if (q_ (l[i]).2.2.1 : Int32) < (q_ left : Int32) then (q_ (l[i]).2.2.1 : Int32) else (q_ left : Int32)) = q_ (l[i]).2.2.1 := by
              by_cases c6 : (l[i]).2.2.1 < left
              · rw [if_pos (by rw [q_lt' (by omega) (by omega) (by omega) (by omega)]; exact c6)]
              · rw [if_neg (by rw [q_lt' (by omega) (by omega) (by omega) (by omega)]; exact c6), show left = (l[i]).2.2.1 by omega]
            rw [hmin]
            refine ev_ifT rfl ?_
            rw [q_sub]
            refine ev_bc (P := fun _ u48 c => c = (0, 0) ∧ u48.2 = u1.2 ∧ al_ d o1 u48 aT (16 * s0 + 3) (16 * s0 + 6) (lT.eraseIdx i) ∧ ygt_ b (Kl_ (16 * s0 + 3) (16 * s0 + 6)) o1 u1 o1 u48) (ev_w (ul_remove p0 x8 (al2_elt x7) hil) (fun r hr => ⟨hr.1, hr.2.2⟩)) (fun _ u48 c hp => by rw [hp.1]; exact hp.2.1) (fun _ u48 c' hp => ?_)
            obtain ⟨rfl, y1, y4, y5⟩ := hp
            have S2 := ys_setT p0 p3 y5 p4 x2 y4 (al2_erase (al2_mono x7 (fun _ _ _ h => td_keep p0 y5 h nk14)) hil)
            have e3 : (l.take i ++ l[i] :: suf).eraseIdx i = l.take i ++ suf := by
              have := er_mid (l.take i) (l[i]) suf
              rw [hlen] at this; exact this
            rw [e3] at S2
            have R3 := yRm_set R1 y5 (fun x hx => Kl_s hx) S2
            refine ev_some ⟨(i, suf, left - (l[i]).2.2.1), ⟨by dsimp only; omega, ?_, by dsimp only; omega, ?_, rfl, rfl, by show u48.2 = u.2 + (c.1 + (0 + 0)); omega, by show c.1 + (0 + 0) + i ≤ l.length; omega, by show c.2 + (0 + 0) + 5 * i ≤ 5 * l.length; omega, o1, R3, ygt_tr q0 G1 (ygt_sub y5 kls)⟩, by dsimp only; omega⟩
            · dsimp only; simp only [List.length_append, List.length_cons] at b2 ⊢; omega
            · dsimp only; unfold ls_; rw [← b4]
          · rw [if_neg c5] at b4
            have hmin : (if (q_ (l[i]).2.2.1 : Int32) < (q_ left : Int32) then (q_ (l[i]).2.2.1 : Int32) else (q_ left : Int32)) = q_ left := if_neg (by rw [q_lt' (by omega) (by omega) (by omega) (by omega)]; omega)
            rw [hmin]
            refine ev_ifF (by rw [q_eq ⟨by omega, by omega⟩ ⟨by omega, by omega⟩]; omega) ?_
            rw [q_sub]
            refine ev_bc (P := fun r u28 c => c = (1, 5) ∧ r = u1.2 ∧ u28.2 = u1.2 + 1 ∧ ygt_ b K0_ o1 u1 (ot_ o1 u1.2 14) u28 ∧ td_ (ot_ o1 u1.2 14) u28 u1.2 (tr_am (l[i]) ((l[i]).2.2.1 - left))) (ut_less p0 ht left) (fun r u28 c hp => by rw [hp.1]; exact hp.2.2.1) (fun r u28 c2 hp => ?_)
            obtain ⟨rfl, rfl, z2, gg, hd⟩ := hp
            have R2 := ys_keep p0 gg p3 (fun z => z) (fun r _ z => z)
            have R2' := yRm_set R1 gg (fun x hx => hx.elim) R2
            have x8' := al_keep p0 gg x8 (fun z => z) (fun z => z)
            have x7' := al2_mono x7 (fun _ _ _ h => td_keep p0 gg h (fun z => z))
            have x2' : u_nr u28 2 2 aN = some aT := by
              obtain ⟨aP, aK, aT', aC, lP, lK, lT', f, w1, w2, _⟩ := p3
              have w1' := (ygt_at p0 gg w1 (fun z => z)).1
              have a := nr_e w1 (k := 2) rfl
              have b := nr_e w1' (k := 2) rfl
              rw [x2] at a
              rw [b]; exact congrArg some (Option.some.inj a).symm
            obtain ⟨fl2, hfl2⟩ := al_cl x8'
            refine ev_b1 hfl2 ?_
            refine ev_bc (P := fun _ u40 c => c = (0, 0) ∧ u40.2 = u28.2 ∧ al_ d (ot_ o1 u1.2 14) u40 aT (16 * s0 + 3) (16 * s0 + 6) (lT.set i u1.2) ∧ ygt_ b (Kl_ (16 * s0 + 3) (16 * s0 + 6)) (ot_ o1 u1.2 14) u28 (ot_ o1 u1.2 14) u40) (ul_set gg.1 (by omega) x8' hil (td_el hd)) (fun _ u40 c hp => by rw [hp.1]; exact hp.2.1) (fun _ u40 c' hp => ?_)
            obtain ⟨rfl, y1, y4, y5⟩ := hp
            have hd' := td_keep gg.1 y5 hd nk14
            have S2 := ys_setT gg.1 R2 y5 p4 x2' y4 (al2_set (al2_mono x7' (fun _ _ _ h => td_keep gg.1 y5 h nk14)) hd' i)
            have hset : (l.take i ++ l[i] :: suf).set i (tr_am (l[i]) ((l[i]).2.2.1 - left)) = l.take i ++ tr_am (l[i]) ((l[i]).2.2.1 - left) :: suf := by
              rw [List.set_append_right _ _ (by omega), hlen, Nat.sub_self, List.set_cons_zero]
            rw [hset] at S2
            have R3 := yRm_set R2' y5 (fun x hx => Kl_s hx) S2
            refine ev_some ⟨(i, tr_am (l[i]) ((l[i]).2.2.1 - left) :: suf, left - left), ⟨by dsimp only; omega, ?_, by dsimp only; omega, ?_, rfl, rfl, by show u40.2 = u.2 + (c.1 + (1 + (0 + 0))); omega, by show c.1 + (1 + (0 + 0)) + i ≤ l.length; omega, by show c.2 + (5 + (0 + 0)) + 5 * i ≤ 5 * l.length; omega, _, R3, ygt_tr q0 (ygt_tr q0 G1 (ygt_sub gg (fun z hz => hz.elim))) (ygt_sub y5 kls)⟩, by dsimp only; omega⟩
            · dsimp only; simp only [List.length_append, List.length_cons] at b2 ⊢; exact b2
            · dsimp only
              unfold ls_
              rw [lr_0 _ _ _ (by omega), ← b4, List.reverse_reverse, List.reverse_cons, List.reverse_reverse, List.append_assoc]; rfl
        · simp only [if_neg c2]
          exact ev_some (skip (fun z => c2 z.1))
  · obtain ⟨o', h1, h2, h3, h4, h5⟩ := hp
    exact ev_some ⟨o', h1, h2, h3, h4, h5⟩
