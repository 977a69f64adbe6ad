set_option maxRecDepth 100000
/-! The Reader: keeps, trades -/
section
variable {d : UD} {b : Nat} {o0 : Nat → Nat} {u0 : UM} {sN t a aS : Nat} {T : Nat → Int32} {n : Nat} {o : Nat → Nat} {u : UM} {i bg : Nat} {hm : Bool} {wv : Value} {ps ks : List (List Nat)} {x : SS_}
theorem ur_keep (h00 : uw_ b u0) (hT : tb_ T n) (h : yD_ d b o0 u0 sN t a aS T n o u i bg hm wv ps ks x) (rok : rd_ok (i, ps, ks, x, hm)) : Ev_ (fun m => uf_X4_keep m d u a) (fun r => r.1.2.2 = u.2 + r.2.1 ∧ rZ_ d b o0 u0 sN t a aS T n i 1 5 (rdB_ T n 3 (i, ps, ks, x, hm)) r) := by
  have s10 := h.2.2.2.2.2.2
  have r40 : x.1.length ≤ 40 := rok.2.2.1.2.2.1
  obtain ⟨aP, aK, aT, aC, lP, lK, lT, f, k1, k2, k3, k4, k5, k6, k7, k8, k9, k10, k11, k12, k13, k14⟩ := yD_P h
  obtain ⟨fsT, hclT⟩ := al_cl k8
  have eB : rdB_ T n 3 (i, ps, ks, x, hm) = pb_ (rdD_ T n 0 ((x.1.length : Int) - 1) i) (fun t => if (x.1.getD t.1.toNat (0, 0, 0, 0, false)).2.2.2.2 then .inl (5, t.2.1) else .inr (t.2.2, ps, ks, (x.1.modify t.1.toNat tr_turn, x.2), hm)) := rfl
  rw [eB]
  unfold uf_X4_keep
  refine ev_b1 k1 (ev_b1 k4 (ev_b1 hclT (ev_bn (fun m => ul_size m k8) (ev_b1 (yD_cl h) ?_))))
  rw [k14.1, show n_ x.1.length - 1 = q_ ((x.1.length : Int) - 1) from by rw [n_q, show (1 : Int32) = q_ 1 from rfl, q_sub], show (0 : Int32) = q_ 0 from q_0]
  refine ev_bxD (S := fun v' y u' c => y = .inl (q_ v'.1) ∧ c = (0, 0) ∧ i ≤ v'.2.1 ∧ v'.2.1 < v'.2.2 ∧ v'.2.2 ≤ n ∧ 0 ≤ v'.1 ∧ v'.1 ≤ (x.1.length : Int) - 1 ∧ ygt_ b (K1_ 37) o u o u' ∧ yD_ d b o0 u0 sN t a aS T n o u' v'.2.2 v'.2.1 hm wv ps ks x) (ur_numberD h00 h hT ⟨by omega, by omega⟩ ⟨by omega, by omega⟩) (fun v y u' c hp => ⟨_, hp.1⟩) (fun v y u13 c hX z13 hp => ?_) (fun e q u13 c hX z13 hc hE => ⟨z13, Or.inl ⟨e, pb_ll hX _, q, rfl, cst_up hc (Nat.le_refl _) (by omega) (by omega), hE⟩⟩)
  obtain ⟨hy, hc0, m1, m2, m3, m4, m5, g13, D13⟩ := hp
  cases hy
  subst hc0
  rw [pb_rr hX]
  have hj : v.1.toNat < x.1.length := by omega
  have ej : q_ v.1 = n_ v.1.toNat := by unfold n_; rw [Int.toNat_of_nonneg m4]
  rw [ej]
  obtain ⟨aP', aK', aT', aC', lP', lK', lT', f', j1, j2, j3, j4, j5, j6, j7, j8, j9, j10, j11, j12, j13, j14⟩ := yD_P D13
  have hl : v.1.toNat < lT'.length := by rw [j14.1]; exact hj
  obtain ⟨fsT', hclT'⟩ := al_cl j8
  have htd := j14.2 _ hl hj
  obtain ⟨t0, t1, t2, t3, t4, t5⟩ := td_ni htd
  have hgt := fun m => ul_get m j8 hl
  have hgd : x.1.getD v.1.toNat (0, 0, 0, 0, false) = x.1[v.1.toNat] := by simp [List.getD_eq_getElem?_getD, List.getElem?_eq_getElem hj]
  rw [hgd]
  refine ev_b1 j1 (ev_b1 j4 (ev_b1 hclT' (ev_bn hgt (ev_b1 t0 (ev_b1 t5 ?_)))))
  refine ev_ifq (c' := ¬ (x.1[v.1.toNat]).2.2.2.2 = true) (by rw [← b_n, ← q_0, b_0]) (fun ck => ?_) (fun ck => ?_)
  · simp only [if_neg ck]
    refine ev_b1 j1 (ev_b1 j4 (ev_b1 j1 (ev_b1 j4 (ev_b1 hclT' (ev_bn hgt (ev_b1 t0 (ev_b1 t0 ?_)))))))
    refine ev_bc (P := fun r u' c => c = (1, 5) ∧ r = u13.2 ∧ u'.2 = u13.2 + 1 ∧ ygt_ b K0_ o u13 (ot_ o u13.2 14) u' ∧ td_ (ot_ o u13.2 14) u' u13.2 (tr_turn (x.1[v.1.toNat]))) (ut_turned D13.1.1 htd) (fun r u' c hp => by rw [hp.1]; exact hp.2.2.1) (fun r u54 c hp => ?_)
    obtain ⟨rfl, rfl, z54, g54, d54⟩ := hp
    have D54 := yD_keep h00 D13 g54 (fun _ z => z.elim)
    have l54 := al_keep D13.1.1 g54 j8 (fun z => z) (fun z => z)
    have t54 : al2_ (td_ (ot_ o u13.2 14) u54) lT' x.1 := al2_mono j14 (fun _ _ _ q => td_keep D13.1.1 g54 q (fun z => z))
    have n54 : u_nr u54 2 2 aS = some aT' := by
      obtain ⟨_, _, _, _, _, _, _, _, w1, w2, _⟩ := D13.2.2.2.1
      have w1' := (ygt_at D13.1.1 g54 w1 (fun z => z)).1
      have q1 := nr_e w1 (k := 2) rfl
      have q2 := nr_e w1' (k := 2) rfl
      rw [j4] at q1; rw [q2]; exact q1.symm
    obtain ⟨fs54, hcl54⟩ := al_cl l54
    refine ev_b1 hcl54 ?_
    refine ev_bc (P := fun _ u40 c => c = (0, 0) ∧ u40.2 = u54.2 ∧ al_ d (ot_ o u13.2 14) u40 aT' (16 * sN + 3) (16 * sN + 6) (lT'.set v.1.toNat u13.2) ∧ ygt_ b (Kl_ (16 * sN + 3) (16 * sN + 6)) (ot_ o u13.2 14) u54 (ot_ o u13.2 14) u40) (ul_set g54.1 (by omega) l54 hl (td_el d54)) (fun _ u40 c hp => by rw [hp.1]; exact hp.2.1) (fun _ u62 c' hp => ?_)
    obtain ⟨rfl, z62, y4, y5⟩ := hp
    have nk14 : ¬ Kl_ (16 * sN + 3) (16 * sN + 6) 14 := fun z => by rcases z with z | z <;> omega
    have S2 := ys_setT g54.1 D54.2.2.2.1 y5 s10 n54 y4 (al2_set (al2_mono t54 (fun _ _ _ h => td_keep g54.1 y5 h nk14)) (td_keep g54.1 y5 d54 nk14) v.1.toNat)
    rw [← mod_set hj] at S2
    have D62 := yD_set h00 D54 y5 (fun z hz => Or.inl (by unfold Ks_; rcases hz with hz | hz <;> omega)) S2
    refine ev_some ⟨?_, Or.inr ⟨_, rfl, rfl, ⟨?_, ?_⟩, ?_, _, v.2.1, wv, D62⟩⟩
    · show u62.2 = u.2 + (0 + (1 + (0 + 0)))
      have : u13.2 = u.2 + 0 := z13
      omega
    · show 0 + (1 + (0 + 0)) ≤ 4 * (v.2.2 - i) + 1; omega
    · show 0 + (5 + (0 + 0)) ≤ 40 * (v.2.2 - i) + 5; omega
    · show i < v.2.2; omega
  · have ck' : (x.1[v.1.toNat]).2.2.2.2 = true := Classical.not_not.mp ck
    simp only [if_pos ck']
    refine ur_throw h00 D13 (k := 5) (n_lit 5) (fun q u' z' E' => ⟨?_, Or.inl ⟨_, rfl, q, rfl, ⟨?_, ?_⟩, E'⟩⟩)
    · show u'.2 = u.2 + (0 + 1)
      have : u13.2 = u.2 + 0 := z13
      omega
    · show 0 + 1 ≤ _; omega
    · show 0 + 8 ≤ _; omega
theorem rdO_lt {pa : Nat} {v : Nat × Nat × Nat} (h : rdO_ T n ps pa i = .inr v) : v.1 < ps.length := by
  unfold rdO_ at h
  cases hI : rdI_ T n ps i with
  | inl e => rw [pb_ll hI] at h; cases h
  | inr vv =>
    rw [pb_rr hI] at h
    split at h
    · cases h
    · cases h; exact rdI_lt hI
theorem ur_trade (h00 : uw_ b u0) (hs : cS_ d b) (hc : cE_ d b) (hT : tb_ T n) (h : yD_ d b o0 u0 sN t a aS T n o u i bg hm wv ps ks x) (rok : rd_ok (i, ps, ks, x, hm)) : Ev_ (fun m => uf_X4_trade m d u a) (fun r => r.1.2.2 = u.2 + r.2.1 ∧ if x.1.length = 40 then rE_ b o0 u0 sN i n 5 100 (4, bg) r else rZ_ d b o0 u0 sN t a aS T n i 2 405 (rdB_ T n 2 (i, ps, ks, x, hm)) r) := by
  have s10 := h.2.2.2.2.2.2
  have r8 : ps.length ≤ 8 := rok.1
  have r4 : ks.length ≤ 4 := rok.2.1
  have rP : ∀ w ∈ ps, nm_ok w := rok.2.2.2.1
  have rK : ∀ w ∈ ks, nm_ok w := rok.2.2.2.2.1
  have r40 : x.1.length ≤ 40 := rok.2.2.1.2.2.1
  obtain ⟨aP, aK, aT, aC, lP, lK, lT, f, k1, k2, k3, k4, k5, k6, k7, k8, k9, k10, k11, k12, k13, k14⟩ := yD_P h
  obtain ⟨fsT, hclT⟩ := al_cl k8
  have eB : rdB_ T n 2 (i, ps, ks, x, hm) = pb_ (rdI_ T n ps i) (fun a => pb_ (rdO_ T n ps a.1 a.2.2) (fun b => pb_ (rdD_ T n 1 999999 b.2.2) (fun m => pb_ (rdI_ T n ks m.2.2) (fun k => .inr (k.2.2, ps, ks, (x.1 ++ [(a.1, b.1, m.1, k.1, false)], x.2), hm))))) := rfl
  rw [eB]
  unfold uf_X4_trade
  refine ev_b1 k1 (ev_b1 k4 (ev_b1 hclT (ev_bn (fun m => ul_size m k8) ?_)))
  rw [k14.1]
  refine ev_ifq (c' := x.1.length = 40) (by rw [n_lit 40, n_eq (by omega) (by omega)]) (fun cf => ?_) (fun cf => ?_)
  · simp only [if_pos cf]
    exact ur_throw h00 h (k := 4) (n_lit 4) (fun q u' z' E' => ⟨z', q, rfl, ⟨by show 1 ≤ _; omega, by show 8 ≤ _; omega⟩, E'⟩)
  · simp only [if_neg cf]
    refine ev_b1 k1 (ev_b1 k2 (ev_b1 (yD_cl h) ?_))
    refine ev_bxD (S := fun v y u' c => y = .inl (n_ v.1) ∧ ∃ w, rN_ d b o0 u0 sN t a aS T n o u i hm ps ks x w v.2.1 v.2.2 u' c) (ur_namedD h00 hs h k6 k12 rP (by omega) (by omega)) (fun v y u' c hp => ⟨_, hp.1⟩) (fun v y u9 c hX z9 hp => ?_) (fun e q u9 c hX z9 hc hE => ⟨z9, Or.inl ⟨e, pb_ll hX _, q, rfl, cst_up hc (Nat.le_refl _) (by omega) (by omega), hE⟩⟩)
    obtain ⟨hy, w9, cs9, i1, i2, i3, o9, p9, pu9, g9, s9, D9⟩ := hp
    cases hy
    rw [pb_rr hX]
    have va := rdI_lt hX
    refine ev_b1 (yD_cl D9) ?_
    refine ev_bxD (S := fun v' y u' c => y = .inl (n_ v'.1) ∧ ∃ w, rN_ d b o0 u0 sN t a aS T n o9 u9 v.2.2 hm ps ks x w v'.2.1 v'.2.2 u' c) (ur_otherD h00 hs D9 rP (by omega) (show v.1 < 8 by omega)) (fun v y u' c hp => ⟨_, hp.1⟩) (fun v2 y u23 c2 hX2 z23 hp => ?_) (fun e q u23 c2 hX2 z23 hc' hE => ⟨?_, Or.inl ⟨e, pb_ll hX2 _, q, rfl, ?_, hE⟩⟩)
    · obtain ⟨hy, w23, cs23, l1, l2, l3, o23, p23, pu23, g23, s23, D23⟩ := hp
      cases hy
      rw [pb_rr hX2]
      have vb := rdO_lt hX2
      refine ev_b1 (yD_cl D23) ?_
      rw [show (1 : Int32) = q_ 1 from q_1, show (999999 : Int32) = q_ 999999 from q_lit 999999]
      refine ev_bxD (S := fun v' y u' c => y = .inl (q_ v'.1) ∧ c = (0, 0) ∧ v2.2.2 ≤ v'.2.1 ∧ v'.2.1 < v'.2.2 ∧ v'.2.2 ≤ n ∧ 1 ≤ v'.1 ∧ v'.1 ≤ 999999 ∧ ygt_ b (K1_ 37) o23 u23 o23 u' ∧ yD_ d b o0 u0 sN t a aS T n o23 u' v'.2.2 v'.2.1 hm (.ref p23) ps ks x) (ur_numberD h00 D23 hT ⟨by omega, by omega⟩ ⟨by omega, by omega⟩) (fun v y u' c hp => ⟨_, hp.1⟩) (fun v3 y u41 c3 hX3 z41 hp => ?_) (fun e q u41 c3 hX3 z41 hc' hE => ⟨?_, Or.inl ⟨e, pb_ll hX3 _, q, rfl, ?_, hE⟩⟩)
      · obtain ⟨hy, hc0, m1, m2, m3, m4, m5, g41, D41⟩ := hp
        cases hy
        subst hc0
        rw [pb_rr hX3]
        obtain ⟨aP', aK', aT', aC', lP', lK', lT', f', j1, j2, j3, j4, j5, j6, j7, j8, j9, j10, j11, j12, j13, j14⟩ := yD_P D41
        refine ev_b1 j1 (ev_b1 j4 ?_)
        refine ev_ac (ev_nw D41.1.1 (fun u61 c61 => ?_))
        have g61 := ygt_nw (K := K0_) (o := o23) D41.1.1 c61 42
        have D61 := yD_keep h00 D41 g61 (fun _ z => z.elim)
        have t42 : ot_ o23 u41.2 42 u41.2 = 42 := ot_at _ _ _
        have l61 := al_keep D41.1.1 g61 j8 (fun z => z) (fun z => z)
        generalize ot_ o23 u41.2 42 = o61 at *
        obtain ⟨aP6, aK6, aT6, aC6, lP6, lK6, lT6, f6, e61, e62, e63, e64, e65, e66, e67, e68, e69, e610, e611, e612, e613, e614⟩ := yD_P D61
        have eT6 : aT6 = aT' := by
          obtain ⟨_, _, _, _, _, _, _, _, w1, w2, _⟩ := D41.2.2.2.1
          have w1' := (ygt_at D41.1.1 g61 w1 (fun z => z)).1
          have q1 := nr_e w1 (k := 2) rfl
          have q2 := nr_e w1' (k := 2) rfl
          rw [j4] at q1; rw [e64] at q2
          exact (Option.some.inj q2).trans (Option.some.inj q1).symm
        subst eT6
        refine ev_b1 e61 (ev_b1 e63 (ev_b1 (yD_cl D61) ?_))
        refine ev_bxD (S := fun v y u' c => y = .inl (n_ v.1) ∧ ∃ w, rN_ d b o0 u0 sN t a aS T n o61 u61 v3.2.2 hm ps ks x w v.2.1 v.2.2 u' c) (ur_namedD h00 hs D61 e67 e613 rK (by omega) (by omega)) (fun v y u' c hp => ⟨_, hp.1⟩) (fun v4 y u71 c4 hX4 z71 hp => ?_) (fun e q u71 c4 hX4 z71 hc' hE => ⟨?_, Or.inl ⟨e, pb_ll hX4 _, q, rfl, ?_, hE⟩⟩)
        · obtain ⟨hy, w71, cs71, n1, n2, n3, o71, p71, pu71, g71, s71, D71⟩ := hp
          cases hy
          rw [pb_rr hX4]
          have vk := rdI_lt hX4
          have e71 := ygt_at D61.1.1 g71 c61.2.1 (by rw [t42]; intro z; unfold KV_ at z; omega)
          have t71 : o71 u41.2 = 42 := e71.2.trans t42
          refine ev_bc (P := fun (_ : Unit) u' c => c = (0, 0) ∧ u'.2 = u71.2 ∧ ch_ u71 u' u41.2 (.inr (6, [.int (n_ v.1), .int (n_ v2.1), .int (q_ v3.1), .int (n_ v4.1), .int 0]))) (ut_init (o := o71) g71.1 e71.1 _ _ _ _ _ (by decide)) (fun _ u' c hp => by rw [hp.1]; exact hp.2.1) (fun _ u83 c8 hp => ?_)
          obtain ⟨rfl, z83, c83⟩ := hp
          have g83 : ygt_ b (K1_ 42) o71 u71 o71 u83 := ygt_ch g71.1 e71.1 c83 (kd1_o _ _ _) t71
          have D83 := yD_keep h00 D71 g83 (fun z hz => by cases hz; exact ⟨⟨by omega, by omega⟩, by omega⟩)
          have hu0 : u0.2 ≤ u41.2 := by have := D41.1.2.2.1.1; omega
          have D84 := yD_rt (tp := 42) ⟨t71, by omega, by omega, by omega⟩ hu0 D83
          have d84 : td_ (ot_ o71 u41.2 14) u83 u41.2 (v.1, v2.1, v3.1, v4.1, false) := ⟨by rw [show (if (v.1, v2.1, v3.1, v4.1, false).2.2.2.2 = true then 1 else 0) = 0 from rfl, ← n_lit 0]; exact c83.2.1, ot_at _ _ _⟩
          generalize ot_ o71 u41.2 14 = o84 at *
          obtain ⟨aP8, aK8, aT8, aC8, lP8, lK8, lT8, f8, e81, e82, e83, e84, e85, e86, e87, e88, e89, e810, e811, e812, e813, e814⟩ := yD_P D84
          have eT8 : aT8 = aT6 := by
            obtain ⟨_, _, _, _, _, _, _, _, w1, w2, _⟩ := D61.2.2.2.1
            have w1' := (ygt_at D61.1.1 g71 w1 (by rw [w2]; exact KV_n (by omega))).1
            have tt := (ygt_at D61.1.1 g71 w1 (by rw [w2]; exact KV_n (by omega))).2
            have w1'' := (ygt_at g71.1 g83 w1' (by rw [tt, w2]; intro z; unfold K1_ at z; omega)).1
            have q1 := nr_e w1 (k := 2) rfl
            have q2 := nr_e w1'' (k := 2) rfl
            rw [e64] at q1; rw [e84] at q2
            exact (Option.some.inj q2).trans (Option.some.inj q1).symm
          subst eT8
          obtain ⟨fs8, hcl8⟩ := al_cl e88
          refine ev_b1 hcl8 ?_
          refine ev_bc (P := fun _ u48 c => ∃ o', u48.2 = u83.2 + c.1 ∧ c.1 ≤ 1 ∧ c.2 ≤ 400 ∧ al_ d o' u48 aT8 (16 * sN + 3) (16 * sN + 6) (lT8 ++ [u41.2]) ∧ ygt_ b (Kl_ (16 * sN + 3) (16 * sN + 6)) o84 u83 o' u48) (ul_add D84.1.1 hc e88 (al2_elt e814) (by rw [e814.1]; omega) (td_el d84)) (fun _ u48 c hp => by obtain ⟨o', h2, _⟩ := hp; exact h2) (fun _ u91 c9 hp => ?_)
          obtain ⟨o91, y1, y2, y3, y4, y5⟩ := hp
          have nk14 : ¬ Kl_ (16 * sN + 3) (16 * sN + 6) 14 := fun z => by rcases z with z | z <;> omega
          have S2 := ys_setT D84.1.1 D84.2.2.2.1 y5 s10 e84 y4 (al2_app (al2_mono e814 (fun _ _ _ h => td_keep D84.1.1 y5 h nk14)) (td_keep D84.1.1 y5 d84 nk14))
          have D91 := yD_set h00 D84 y5 (fun z hz => Or.inl (by unfold Ks_; rcases hz with hz | hz <;> omega)) S2
          have z41' : u41.2 = u23.2 + 0 := z41
          have z61 : u61.2 = u41.2 + 1 := c61.1
          refine ev_some ⟨?_, Or.inr ⟨_, rfl, rfl, ⟨?_, ?_⟩, ?_, _, v4.2.1, .ref p71, D91⟩⟩
          · show u91.2 = u.2 + (c.1 + (c2.1 + (0 + (1 + (c4.1 + (0 + (c9.1 + 0))))))); omega
          · show c.1 + (c2.1 + (0 + (1 + (c4.1 + (0 + (c9.1 + 0)))))) ≤ 4 * (v4.2.2 - i) + 2; unfold cst_ at cs9 cs23 cs71; omega
          · show c.2 + (c2.2 + (0 + (5 + (c4.2 + (0 + (c9.2 + 0)))))) ≤ 40 * (v4.2.2 - i) + 405; unfold cst_ at cs9 cs23 cs71; omega
          · show i < v4.2.2; omega
        · have z41' : u41.2 = u23.2 + 0 := z41
          have z61 : u61.2 = u41.2 + 1 := c61.1
          show u71.2 = u.2 + (c.1 + (c2.1 + (0 + (1 + c4.1)))); omega
        · refine ⟨?_, ?_⟩
          · show c.1 + (c2.1 + (0 + (1 + c4.1))) ≤ 4 * (n - i) + 7; unfold cst_ at cs9 cs23 hc'; omega
          · show c.2 + (c2.2 + (0 + (5 + c4.2))) ≤ 40 * (n - i) + 505; unfold cst_ at cs9 cs23 hc'; omega
      · show u41.2 = u.2 + (c.1 + (c2.1 + c3.1)); omega
      · refine ⟨?_, ?_⟩
        · show c.1 + (c2.1 + c3.1) ≤ 4 * (n - i) + 7; unfold cst_ at cs9 cs23 hc'; omega
        · show c.2 + (c2.2 + c3.2) ≤ 40 * (n - i) + 505; unfold cst_ at cs9 cs23 hc'; omega
    · show u23.2 = u.2 + (c.1 + c2.1); omega
    · refine ⟨?_, ?_⟩
      · show c.1 + c2.1 ≤ 4 * (n - i) + 7; unfold cst_ at cs9 hc'; omega
      · show c.2 + c2.2 ≤ 40 * (n - i) + 505; unfold cst_ at cs9 hc'; omega
end
