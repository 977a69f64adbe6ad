set_option maxRecDepth 100000
/-! The component: mode, cap, undo, feed -/
theorem uq_mode {d : UD} {b : Nat} {o : Nat → Nat} {u : UM} {t : Nat} {g : GS_} (h : yR_ d b o u t g) (ok : g_ok g) (x : Int32) : Ev_ (fun n => uf_X0_mode n d u t x) (fun r => yO_ d b u t (ac_mode g x).2 r ∧ r.1.1 = (ac_mode g x).1) := by
  obtain ⟨h0, aN, s0, fs, k1, k2, k3, _⟩ := yR_N h
  have hin := fun n => uin_lit n d u x (lo := 0) (hi := 3) (a := 0) (c := 3) rfl rfl
  unfold uf_X0_mode ac_mode
  simp only [k2, m_bs, hin, m_ifb]
  by_cases c1 : 0 ≤ x.toInt ∧ x.toInt ≤ 3
  · simp only [if_pos c1]
    refine ev_bc (P := fun _ u27 c => ∃ o' aN s0, yRm_ d b o' u27 t (g_push g) aN s0 ∧ u27.2 = u.2 + c.1 ∧ c.1 ≤ 25 ∧ c.2 ≤ 2500) (uq_acts h ok) (fun _ u27 c hp => by obtain ⟨o', aN, s0, _, h2, _⟩ := hp; exact h2) (fun _ u27 c hp => ?_)
    obtain ⟨o1, aN1, s1, R1, z1, d1, d2⟩ := hp
    obtain ⟨q0, qc, q1, ⟨f1, q2⟩, q3, q4⟩ := yRm_N R1
    obtain ⟨aP, aK, aT, aC, lP, lK, lT, f, e1, e2, e3, e4, e5, e6, e7, e8, e9, e10, e11⟩ := q3
    refine ev_b1 q1 (ev_b1 (ni_e e1 rfl) (ev_b1 q1 ?_))
    refine ev_pf e1 (by simp) (fun w c18 => ?_)
    have g3 := ygt_ch (K := K1_ (16 * s1)) q0 e1 c18 (kd1_o _ _ _) e2
    have nk : ∀ y, y ≠ 16 * s1 → ¬ K1_ (16 * s1) y := fun y h1 z => h1 z
    have S : ys_ d o1 (w, u27.2) aN1 s1 g.1 g.2.1 ((g_s g).1, (g_s g).2.1, x.toInt.toNat) := by
      refine ⟨aP, aK, aT, aC, lP, lK, lT, f, ?_, e2, al_keep q0 g3 e3 (nk _ (by omega)) (nk _ (by omega)), al_keep q0 g3 e4 (nk _ (by omega)) (nk _ (by omega)), al_keep q0 g3 e5 (nk _ (by omega)) (nk _ (by omega)), (ygt_at q0 g3 e6 (by rw [e7]; exact nk _ (by omega))).1, e7, e8, al2_mono e9 (fun _ _ _ h => sg_keep q0 g3 h (nk _ (by omega))), al2_mono e10 (fun _ _ _ h => sg_keep q0 g3 h (nk _ (by omega))), al2_mono e11 (fun _ _ _ h => td_keep q0 g3 h (nk _ (by omega)))⟩
      have := c18.2.1
      rw [n_of c1.1] at this
      exact this
    have R3 := yRm_set R1 g3 (fun y hy => Or.inl (by have : y = 16 * s1 := hy; unfold Ks_; omega)) S
    refine ev_some ⟨yO_i (yRm_R R3) ?_ ?_ ?_, rfl⟩
    · show u27.2 = u.2 + (c.1 + 0); omega
    · show c.1 + 0 ≤ 4000; omega
    · show c.2 + 0 ≤ 100000; omega
  · simp only [if_neg c1]
    exact ev_some ⟨yO_0 h _, m3_q⟩
theorem uq_cap {d : UD} {b : Nat} {o : Nat → Nat} {u : UM} {t : Nat} {g : GS_} (h : yR_ d b o u t g) (ok : g_ok g) (x y m : Int32) : Ev_ (fun n => uf_X0_cap n d u t x y m) (fun r => yO_ d b u t (ac_cap g x y m).2 r ∧ r.1.1 = (ac_cap g x y m).1) := by
  obtain ⟨h0, aN, s0, fs, k1, k2, k3, _⟩ := yR_N h
  have h8 := ok.1
  have hin := fun n => uin_lit n d u m (lo := 0) (hi := 99999999) (a := 0) (c := 99999999) rfl rfl
  unfold uf_X0_cap ac_cap
  simp only [k2, m_bs, uq_areTwo _ h ok, hin, m_ifb]
  by_cases c1 : (0 ≤ x.toInt ∧ x.toInt < g_np g) ∧ (0 ≤ y.toInt ∧ y.toInt < g_np g) ∧ x.toInt ≠ y.toInt
  · simp only [if_pos c1]
    by_cases c3 : 0 ≤ m.toInt ∧ m.toInt ≤ 99999999
    · simp only [if_pos c3]
      obtain ⟨p, hp, rfl, ep⟩ := pi_ c1.1
      obtain ⟨q, hq, rfl, eq⟩ := pi_ c1.2.1
      rw [ep, eq]
      refine ev_bc (P := fun _ u27 c => ∃ o' aN s0, yRm_ d b o' u27 t (g_push g) aN s0 ∧ u27.2 = u.2 + c.1 ∧ c.1 ≤ 25 ∧ c.2 ≤ 2500) (uq_acts h ok) (fun _ u27 c hp => by obtain ⟨o', aN, s0, _, h2, _⟩ := hp; exact h2) (fun _ u27 c hp => ?_)
      obtain ⟨o1, aN1, s1, R1, z1, d1, d2⟩ := hp
      obtain ⟨q0, qc, q1, ⟨f1, q2⟩, q3, q4⟩ := yRm_N R1
      obtain ⟨aP, aK, aT, aC, lP, lK, lT, f, e1, e2, e3, e4, e5, e6, e7, e8, e9, e10, e11⟩ := q3
      have hidx : (8 : Int32) * n_ p + n_ q = n_ (8 * p + q) := by rw [n_lit 8, n_mul, n_add]
      rw [hidx]
      refine ev_b1 q1 (ev_b1 (nr_e e1 rfl) (ev_b1 (ldI_e e6 (show 8 * p + q < 64 by omega) (by omega)) (ev_b1 q1 (ev_b1 (nr_e e1 rfl) (ev_b1 (stI_e e6 (show 8 * p + q < 64 by omega) (by omega) m) ?_)))))
      have c18 := ch_set e6 (.inl (d.1 0, 64, .inl (upd f (8 * p + q) m)))
      have g3 := ygt_ch (K := K1_ (16 * s1 + 7)) q0 e6 c18 (kd1_a _ _) e7
      have nk : ∀ y, y ≠ 16 * s1 + 7 → ¬ K1_ (16 * s1 + 7) y := fun y h1 z => h1 z
      have S : ys_ d o1 (u_set u27.1 aC (.inl (d.1 0, 64, .inl (upd f (8 * p + q) m))), u27.2) aN1 s1 g.1 g.2.1 ((g_s g).1, fw_up (g_s g).2.1 (8 * p + q) m.toInt, (g_s g).2.2) := by
        refine ⟨aP, aK, aT, aC, lP, lK, lT, upd f (8 * p + q) m, (ygt_at q0 g3 e1 (by rw [e2]; exact nk _ (by omega))).1, e2, al_keep q0 g3 e3 (nk _ (by omega)) (nk _ (by omega)), al_keep q0 g3 e4 (nk _ (by omega)) (nk _ (by omega)), al_keep q0 g3 e5 (nk _ (by omega)) (nk _ (by omega)), c18.2.1, e7, fun k hk => ?_, al2_mono e9 (fun _ _ _ h => sg_keep q0 g3 h (nk _ (by omega))), al2_mono e10 (fun _ _ _ h => sg_keep q0 g3 h (nk _ (by omega))), al2_mono e11 (fun _ _ _ h => td_keep q0 g3 h (nk _ (by omega)))⟩
        show upd f (8 * p + q) m k = q_ (fw_up _ _ _ k)
        by_cases e : k = 8 * p + q
        · rw [e, upd_at, fw_up_at]; exact q_of' m
        · rw [upd_ne e, fw_up_ne e]; exact e8 k hk
      have R3 := yRm_set R1 g3 (fun y hy => Or.inl (by have : y = 16 * s1 + 7 := hy; unfold Ks_; omega)) S
      refine ev_some ⟨yO_i (yRm_R R3) ?_ ?_ ?_, e8 _ (by omega)⟩
      · show u27.2 = u.2 + (c.1 + 0); omega
      · show c.1 + 0 ≤ 4000; omega
      · show c.2 + 0 ≤ 100000; omega
    · simp only [if_neg c3]
      exact ev_some ⟨yO_0 h _, m3_q⟩
  · simp only [if_neg c1]
    exact ev_some ⟨yO_0 h _, m2_q⟩
theorem uq_undo {d : UD} {b : Nat} {o : Nat → Nat} {u : UM} {t : Nat} {g : GS_} (h : yR_ d b o u t g) (ok : g_ok g) : Ev_ (fun n => uf_X0_undo n d u t) (fun r => yO_ d b u t (ac_undo g).2 r ∧ r.1.1 = (ac_undo g).1) := by
  obtain ⟨aW, ⟨h0, hc, aN, aL, aT, fk, fr, s0, ids, lS, f, e1, e2, e3, e4, e5, e6, e7, e8, e9, e10⟩, hW⟩ := id h
  have h10 := ok.2.2.2.2.1
  have l3 := e6.2.2.1
  have l1 := e6.2.1
  obtain ⟨fl, hfl⟩ := al_cl e6.1
  have hfr : u_fr d u 1 1 t = some aL := fr_e e1 rfl
  unfold uf_X0_undo ac_undo
  simp only [hfr, m_bs, hfl, ul_isEmpty _ e6.1, m_ifb, ul_size _ e6.1]
  by_cases c1 : (g_past g).length = 0
  · simp only [if_pos c1, if_pos (show lS.length = 0 by omega)]
    exact ev_some ⟨yO_0 h _, m5_q⟩
  · simp only [if_neg c1, if_neg (show ¬ lS.length = 0 by omega)]
    rw [n_lit 1, n_sub (show 1 ≤ lS.length by omega)]
    have hlt : lS.length - 1 < lS.length := by omega
    refine ev_bc (P := fun r u20 c => c = (0, 0) ∧ r = lS[lS.length - 1] ∧ u20.2 = u.2 ∧ al_ d o u20 aL 2 3 (lS.eraseIdx (lS.length - 1)) ∧ ygt_ b (Kl_ 2 3) o u o u20) (ul_remove h0 e6.1 (yP_el e6) hlt) (fun r u20 c hp => by rw [hp.1]; exact hp.2.2.1) (fun r u20 c hp => ?_)
    obtain ⟨rfl, rfl, z1, l2, g2⟩ := hp
    have k2 : ∀ x, x ≠ 2 → x ≠ 3 → ¬ Kl_ 2 3 x := fun x h1 h2 z => by rcases z with z | z <;> omega
    have hS := e6.2.2.2 (lS.length - 1) hlt (by omega) (by omega)
    have hid : ids[lS.length - 1]'(by omega) ∈ ids := List.getElem_mem _
    have h10' := e4 _ (List.mem_cons_of_mem s0 hid)
    have hS1 := ys_keep h0 g2 hS (k2 _ (by omega) (by omega)) (fun r hr => k2 _ (by omega) (by omega))
    obtain ⟨fn, hfn⟩ := ys_cl hS1
    obtain ⟨a1, a2⟩ := ygt_at h0 g2 e1 (k2 _ (by rw [e2]; omega) (by rw [e2]; omega))
    obtain ⟨b1, b2⟩ := ygt_at h0 g2 e8 (k2 _ (by rw [e9]; omega) (by rw [e9]; omega))
    refine ev_b1 hfn ?_
    refine ev_pf a1 (by simp) (fun w26 c26 => ?_)
    have g3 := ygt_ch (K := K1_ 1) g2.1 a1 c26 (kd1_o _ _ _) e2
    refine ev_pf (u := (w26, u20.2)) c26.2.1 (by simp) (fun w28 c28 => ?_)
    have g4 := ygt_tr g2.1 g3 (ygt_ch (K := K1_ 1) g3.1 c26.2.1 c28 (kd1_o _ _ _) e2)
    have k1 : ∀ x, x ≠ 1 → ¬ K1_ 1 x := fun x h1 z => h1 z
    have R3 : yRm_ d b o (w28, u20.2) t (g.1, g.2.1, ((g_past g)[(g_past g).length - 1]?).getD (g_s g), (g_past g).dropLast, g.2.2.2.2) (lS[lS.length - 1]) (ids[lS.length - 1]'(by omega)) := by
      have ee : ((g_past g)[(g_past g).length - 1]?).getD (g_s g) = (g_past g)[lS.length - 1]'(by omega) := by
        rw [List.getElem?_eq_getElem (by omega)]
        simp only [Option.getD_some]
        congr 1
        omega
      refine ⟨aW, yW_keep g2.1 g4 (yW_keep h0 g2 hW (fun t _ _ => k2 _ (by omega) (by omega))) (fun t _ _ => k1 _ (by omega)), g4.1, hc, aL, aT, fr, ids.dropLast, lS.dropLast, f, ?_, e2, ?_, fun s hs => ?_, ?_, ⟨?_, ?_, ?_, fun i hi hi' hi'' => ?_⟩, (ygt_at g2.1 g4 b1 (k1 _ (by rw [e9]; omega))).1, e9, e10⟩
      · rw [← m1_q]; exact c28.2.1
      · have hn := (List.nodup_cons.mp e3).2
        rw [List.nodup_cons]
        refine ⟨fun hm => ?_, hn.sublist (List.dropLast_sublist _)⟩
        obtain ⟨j, hj, ej⟩ := List.getElem_of_mem hm
        rw [List.length_dropLast] at hj
        rw [List.getElem_dropLast] at ej
        have := (List.pairwise_iff_getElem.mp hn) j (lS.length - 1) (by omega) (by omega) (by omega)
        exact this ej
      · rcases List.mem_cons.mp hs with z | z
        · rw [z]; exact h10'
        · exact e4 s (List.mem_cons_of_mem _ ((List.dropLast_sublist ids).subset z))
      · show ys_ d o (w28, u20.2) _ _ g.1 g.2.1 (((g_past g)[(g_past g).length - 1]?).getD (g_s g))
        rw [ee]
        exact ys_keep g2.1 g4 hS1 (k1 _ (by omega)) (fun r hr => k1 _ (by omega))
      · have : lS.eraseIdx (lS.length - 1) = lS.dropLast := List.eraseIdx_length_sub_one
        rw [← this]
        exact al_keep g2.1 g4 l2 (k1 _ (by omega)) (k1 _ (by omega))
      · show ids.dropLast.length = (g_past g).dropLast.length
        rw [List.length_dropLast, List.length_dropLast, l1]
      · show lS.dropLast.length = (g_past g).dropLast.length
        rw [List.length_dropLast, List.length_dropLast, l3]
      · show ys_ d o (w28, u20.2) lS.dropLast[i] ids.dropLast[i] g.1 g.2.1 ((g_past g).dropLast[i]'hi'')
        have et := List.getElem_dropLast (xs := g_past g) (i := i) hi''
        rw [List.length_dropLast] at hi hi'
        rw [List.getElem_dropLast, List.getElem_dropLast, et]
        have hid2 : ids[i]'(by omega) ∈ ids := List.getElem_mem _
        have h102 := e4 _ (List.mem_cons_of_mem s0 hid2)
        exact ys_keep g2.1 g4 (ys_keep h0 g2 (e6.2.2.2 i (by omega) (by omega) (by omega)) (k2 _ (by omega) (by omega)) (fun r hr => k2 _ (by omega) (by omega))) (k1 _ (by omega)) (fun r hr => k1 _ (by omega))
    obtain ⟨_, aN', s0', fs', k1', k2', k3', k4', k5', k6', aL', lS', fl', k7', k8', k9', k10'⟩ := yR_N (yRm_R R3)
    refine ev_b1 k7' (ev_b1 k8' (ev_bn (fun n => ul_size n k10') ?_))
    refine ev_some ⟨yO_i (yRm_R R3) ?_ ?_ ?_, ?_⟩
    · show u20.2 = u.2 + (0 + 0); omega
    · show 0 + 0 ≤ 4000; omega
    · show 0 + 0 ≤ 100000; omega
    · show n_ lS'.length = n_ ((g_past g).length - 1)
      rw [k9']
      show n_ (g_past g).dropLast.length = _
      rw [List.length_dropLast]
/-! feeding -/
theorem yR_tape {d : UD} {b : Nat} {o : Nat → Nat} {u : UM} {t : Nat} {g : GS_} {T T' : Nat → Int32} {m : Nat} (h : yR_ d b o u t (g_tape g T m)) (he : ∀ i, i < m → T i = T' i) : yR_ d b o u t (g_tape g T' m) := by
  obtain ⟨aW, ⟨h0, hc, aN, aL, aT, fk, fr, s0, ids, lS, f, e1, e2, e3, e4, e5, e6, e7, e8, e9, e10⟩, hW⟩ := h
  exact ⟨aW, ⟨h0, hc, aN, aL, aT, fk, fr, s0, ids, lS, f, e1, e2, e3, e4, e5, e6, e7, e8, e9, fun i hi => (e10 i hi).trans (he i hi)⟩, hW⟩
theorem uq_byte {d : UD} {b : Nat} {o : Nat → Nat} {u : UM} {t : Nat} {g : GS_} {T : Nat → Int32} {m : Nat} (h : yR_ d b o u t (g_tape g T m)) (hm : m < 900) (v1 v2 : Int32) : Ev_ (fun _ => m_b (u_fr d u 1 5 t) (fun b2 => m_b (u_fi d u 1 6 t) (fun b4 => m_b (u_stB d u b2 b4 v1) (fun w6 => m_b (u_fi d (w6, u.2) 1 6 t) (fun b8 => m_b (u_pf (w6, u.2) 1 6 t (.int (b8 + 1))) (fun w10 => some ((.inl ((v2, (w10, u.2))) : (Int32 × UM) ⊕ UM), ((0, 0) : UC)))))))) (fun r => ∃ s', r = (.inl s', (0, 0)) ∧ s'.1 = v2 ∧ s'.2.2 = u.2 ∧ yR_ d b o s'.2 t (g_tape g (fun i => if i < m then T i else vp_nar .byte v1) (m + 1))) := by
  obtain ⟨aW, ⟨h0, hc, aN, aL, aT, fk, fr, s0, ids, lS, f, e1, e2, e3, e4, e5, e6, e7, e8, e9, e10⟩, hW⟩ := h
  have e1 : ob_ u t 1 [.ref aN, .ref aL, .ref aW, .int fk, va_rf fr, .ref aT, .int (n_ m), .int (q_ g.2.2.2.2.2.2.1), .int (q_ g.2.2.2.2.2.2.2)] := e1
  refine ev_b1 (fr_e e1 rfl) (ev_b1 (fi_e e1 rfl) (ev_b1 (stB_e e8 hm (by omega) v1) ?_))
  have c6 := ch_set e8 (.inl (d.1 2, 900, .inl (upd f m (vp_nar .byte v1))))
  have g6 := ygt_ch (K := K1_ 12) h0 e8 c6 (kd1_a _ _) e9
  generalize u_set u.1 aT (.inl (d.1 2, 900, .inl (upd f m (vp_nar .byte v1)))) = w6 at *
  have k12 : ∀ x, x ≠ 12 → ¬ K1_ 12 x := fun x h1 z => h1 z
  have k1 : ∀ x, x ≠ 1 → ¬ K1_ 1 x := fun x h1 z => h1 z
  obtain ⟨a1, _⟩ := ygt_at h0 g6 e1 (k12 _ (by rw [e2]; omega))
  refine ev_b1 (fi_e a1 rfl) ?_
  refine ev_pf a1 (by simp) (fun w10 c10 => ?_)
  have g10 := ygt_ch (K := K1_ 1) g6.1 a1 c10 (kd1_o _ _ _) e2
  refine ev_some ⟨_, rfl, rfl, rfl, aW, ⟨g10.1, hc, aN, aL, aT, fk, fr, s0, ids, lS, upd f m (vp_nar .byte v1), ?_, e2, e3, e4, ys_keep g6.1 g10 (ys_keep h0 g6 e5 (k12 _ (by omega)) (fun r hr => k12 _ (by have := e4 s0 (by simp); omega))) (k1 _ (by omega)) (fun r hr => k1 _ (by have := e4 s0 (by simp); omega)), yP_keep g6.1 g10 (yP_keep h0 g6 e6 (k12 _ (by omega)) (k12 _ (by omega)) (k12 _ (by omega)) (fun s hs r hr => k12 _ (by have := e4 s (List.mem_cons_of_mem _ hs); omega))) (k1 _ (by omega)) (k1 _ (by omega)) (k1 _ (by omega)) (fun s hs r hr => k1 _ (by have := e4 s (List.mem_cons_of_mem _ hs); omega)), yF_keep g6.1 g10 (yF_keep h0 g6 e7 (k12 _ (by omega))) (k1 _ (by omega)), (ygt_at g6.1 g10 c6.2.1 (k1 _ (by rw [e9]; omega))).1, e9, fun i hi => ?_⟩, yW_keep g6.1 g10 (yW_keep h0 g6 hW (fun t _ _ => k12 _ (by omega))) (fun t _ _ => k1 _ (by omega))⟩
  · have := c10.2.1
    rw [show n_ m + 1 = n_ (m + 1) from by rw [n_lit 1, n_add]] at this
    exact this
  · have hi' : i < m + 1 := hi
    show upd f m (vp_nar .byte v1) i = if i < m then T i else vp_nar .byte v1
    by_cases e : i = m
    · rw [e, upd_at, if_neg (by omega)]
    · rw [upd_ne e, if_pos (by omega)]; exact e10 i (by show i < m; omega)
theorem uq_bytes {d : UD} {b : Nat} {o : Nat → Nat} {u : UM} {t : Nat} {g : GS_} {T : Nat → Int32} {m : Nat} (h : yR_ d b o u t (g_tape g T m)) (hm : m + 4 ≤ 900) (v : Int32) : Ev_ (fun n => uf_X0_bytes n d u t v) (fun r => r.2 = (0, 0) ∧ r.1.2.2 = u.2 ∧ yR_ d b o r.1.2 t (g_tape g (fun i => if i < m then T i else by_ v (24 - 8 * (i - m))) (m + 4))) := by
  unfold uf_X0_bytes
  refine ev_bl (P := fun u' c => c = (0, 0) ∧ u'.2 = u.2 ∧ yR_ d b o u' t (g_tape g (fun i => if i < m then T i else by_ v (24 - 8 * (i - m))) (m + 4))) ?_ (fun u' c hp => by obtain ⟨rfl, h1, h2⟩ := hp; exact ev_some ⟨rfl, h1, h2⟩)
  unfold uf_X0_bytes_L3l
  refine ev_uf (Q := fun u' => u'.2 = u.2 ∧ yR_ d b o u' t (g_tape g (fun i => if i < m then T i else by_ v (24 - 8 * (i - m))) (m + 4))) 4 (fun (j : Nat) (y : Int32 × UM) => y.1 = q_ (24 - 8 * (j : Int)) ∧ y.2.2 = u.2 ∧ yR_ d b o y.2 t (g_tape g (fun i => if i < m then T i else by_ v (24 - 8 * (i - m))) (m + j))) (fun j y hj hP => ?_) (fun y hP => ?_) (24, u) ⟨rfl, rfl, yR_tape h (fun i hi => by rw [if_pos (show i < m by omega)])⟩
  · obtain ⟨w, u1⟩ := y
    obtain ⟨r1, r2, r3⟩ := hP
    dsimp only at r1 r2 r3 ⊢
    have ew : w = n_ (24 - 8 * j) := by rw [r1, n_q]; congr 1; omega
    unfold uf_X0_bytes_L3
    refine ev_ifF (by rw [ew, n_lit 0, n_lt (by omega) (by omega)]; omega) ?_
    refine ev_w (uq_byte r3 (by omega) _ _) (fun r hr => ?_)
    obtain ⟨s', rfl, q1, q2, q3⟩ := hr
    refine ⟨s', rfl, ?_, q2.trans r2, ?_⟩
    · rw [q1, r1, show (-8 : Int32) = q_ (-8) from rfl, q_add]; congr 1; omega
    · refine yR_tape q3 (fun i hi => ?_)
      by_cases c : i < m + j
      · rw [if_pos c]
      · have e : i = m + j := by omega
        subst e
        rw [if_neg (by omega), if_neg (by omega), show m + j - m = j by omega, ew]; rfl
  · obtain ⟨w, u1⟩ := y
    obtain ⟨r1, r2, r3⟩ := hP
    dsimp only at r1 r2 r3 ⊢
    unfold uf_X0_bytes_L3
    exact ev_ifT (by rw [r1]; decide) (ev_some ⟨_, rfl, r2, r3⟩)
theorem uq_feed {d : UD} {b : Nat} {o : Nat → Nat} {u : UM} {t : Nat} {g : GS_} (h : yR_ d b o u t g) (ok : g_ok g) (a1 a2 a3 a4 a5 : Int32) : Ev_ (fun n => uf_X0_feed n d u t a1 a2 a3 a4 a5) (fun r => yO_ d b u t (ac_feed g a1 a2 a3 a4 a5).2 r ∧ r.1.1 = (ac_feed g a1 a2 a3 a4 a5).1) := by
  have h900 : g.2.2.2.2.2.1 ≤ 900 := ok.2.2.2.2.2.2.2.2
  have ht : yR_ d b o u t (g_tape g g.2.2.2.2.1 g.2.2.2.2.2.1) := h
  obtain ⟨_, aN, s0, fs, k1, k2, k3, k4, _⟩ := yR_N h
  unfold uf_X0_feed ac_feed
  generalize hm : g.2.2.2.2.2.1 = m at *
  generalize hT : g.2.2.2.2.1 = T at *
  refine ev_b1 k4 ?_
  refine ev_ifq (c' := m + 20 ≤ 900) (by rw [n_lit 20, n_add, n_lit 900, n_le (by omega) (by omega)]) (fun c => ?_) (fun c => ?_)
  · rw [if_pos c]
    have stp : ∀ {u1 : UM} {T1 : Nat → Int32} {m1 : Nat} (v : Int32) {G : Nat → UM → Option ((Int32 × UM) × UC)} {Q : ((Int32 × UM) × UC) → Prop}, m1 + 4 ≤ 900 → yR_ d b o u1 t (g_tape g T1 m1) → (∀ u2, u2.2 = u1.2 → yR_ d b o u2 t (g_tape g (fun i => if i < m1 then T1 i else by_ v (24 - 8 * (i - m1))) (m1 + 4)) → Ev_ (fun n => G n u2) Q) → Ev_ (fun n => m_b (u_cl u1 1 t) (fun _ => u_bc u1.2 (uf_X0_bytes n d u1 t v) (fun _ u8 => G n u8))) Q := fun {u1 T1 m1} v {G Q} hm1 h1 hG => by
      obtain ⟨_, _, _, fs1, _, kk, _⟩ := yR_N h1
      refine ev_b1 kk ?_
      refine ev_bc (P := fun _ u2 c => c = (0, 0) ∧ u2.2 = u1.2 ∧ yR_ d b o u2 t (g_tape g (fun i => if i < m1 then T1 i else by_ v (24 - 8 * (i - m1))) (m1 + 4))) (uq_bytes h1 hm1 v) (fun _ u2 c hp => by rw [hp.1]; exact hp.2.1) (fun _ u2 c hp => ?_)
      obtain ⟨rfl, p1, p2⟩ := hp
      exact ev_w (hG u2 p1 p2) (fun r hr => by rw [u_add_0]; exact hr)
    refine stp a1 (by omega) ht (fun u8 z8 h8 => ?_)
    refine stp a2 (by omega) h8 (fun u16 z16 h16 => ?_)
    refine stp a3 (by omega) h16 (fun u24 z24 h24 => ?_)
    refine stp a4 (by omega) h24 (fun u32 z32 h32 => ?_)
    refine stp a5 (by omega) h32 (fun u40 z40 h40 => ?_)
    have h40' : yR_ d b o u40 t (g_tape g (fun i => if i < m then T i else fd_ a1 a2 a3 a4 a5 (i - m)) (m + 20)) := by
      refine yR_tape h40 (fun i hi => ?_)
      by_cases c0 : i < m
      · rw [if_pos (show i < m + 4 + 4 + 4 + 4 by omega), if_pos (show i < m + 4 + 4 + 4 by omega), if_pos (show i < m + 4 + 4 by omega), if_pos (show i < m + 4 by omega), if_pos c0, if_pos c0]
      · rw [if_neg (show ¬ i < m from c0)]
        unfold fd_
        by_cases d1 : i < m + 4
        · rw [if_pos (show i < m + 4 + 4 + 4 + 4 by omega), if_pos (show i < m + 4 + 4 + 4 by omega), if_pos (show i < m + 4 + 4 by omega), if_pos (show i < m + 4 by omega), if_neg c0, if_pos (show i - m < 4 by omega)]
          exact congrArg (by_ a1) (by omega)
        · rw [if_neg (show ¬ i - m < 4 by omega)]
          by_cases d2 : i < m + 8
          · rw [if_pos (show i < m + 4 + 4 + 4 + 4 by omega), if_pos (show i < m + 4 + 4 + 4 by omega), if_pos (show i < m + 4 + 4 by omega), if_neg (show ¬ i < m + 4 by omega), if_pos (show i - m < 8 by omega)]
            rw [if_neg c0]; exact congrArg (by_ a2) (by omega)
          · rw [if_neg (show ¬ i - m < 8 by omega)]
            by_cases d3 : i < m + 12
            · rw [if_pos (show i < m + 4 + 4 + 4 + 4 by omega), if_pos (show i < m + 4 + 4 + 4 by omega), if_neg (show ¬ i < m + 4 + 4 by omega), if_pos (show i - m < 12 by omega)]
              rw [if_neg c0]; exact congrArg (by_ a3) (by omega)
            · rw [if_neg (show ¬ i - m < 12 by omega)]
              by_cases d4 : i < m + 16
              · rw [if_pos (show i < m + 4 + 4 + 4 + 4 by omega), if_neg (show ¬ i < m + 4 + 4 + 4 by omega), if_pos (show i - m < 16 by omega)]
                rw [if_neg c0]; exact congrArg (by_ a4) (by omega)
              · rw [if_neg (show ¬ i < m + 4 + 4 + 4 + 4 by omega), if_neg (show ¬ i - m < 16 by omega)]
                rw [if_neg c0]; exact congrArg (by_ a5) (by omega)
    obtain ⟨_, _, _, _, _, _, _, kk, _⟩ := yR_N h40'
    refine ev_b1 kk (ev_some ⟨yO_i h40' ?_ ?_ ?_, rfl⟩)
    · show u40.2 = u.2 + 0; omega
    · show 0 ≤ 4000; omega
    · show 0 ≤ 100000; omega
  · rw [if_neg c]
    exact ev_some ⟨yO_0 h _, m4_q⟩
