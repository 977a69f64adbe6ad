set_option maxRecDepth 100000
/-! The component's groups -/
theorem mx_8 {T : Nat → Int} {s np : Nat} (hs : s < 2 ^ np) (hs2 : s < 256) : ∀ m, np + m ≤ 8 → mx_ T s (np + m) = mx_ T s np := by
  intro m
  induction m with
  | zero => intro _; rfl
  | succ m ih =>
    intro h
    show mx_ T s (np + m + 1) = _
    simp only [mx_]
    rw [if_neg (fun c => ?_), ih (by omega)]
    have := (an_pw (show np + m < 8 by omega) hs2 c).1
    have : 2 ^ np ≤ 2 ^ (np + m) := Nat.pow_le_pow_right (by omega) (by omega)
    omega
theorem uq_gr36 {d : UD} {u : UM} {a : Nat} {f : Nat → Int32} (hA : iA_ d u a 256 f) {T : Nat → Int} {s : Nat} (hs0 : 0 < s) (hs : s < 256) (hT : ∀ i, i < s → 0 ≤ T i ∧ T i ≤ i) (hf : ∀ i, i < s → f i = q_ (T i)) (v0 : Nat) (v1 v2 : Int32) : Ev_ (fun n => uf_X0_groups_L36l n d v0 v1 v2 a (n_ s) (0, 0, u)) (fun r => r.2 = (0, 0) ∧ r.1 = (q_ (mx_ T s 8), u)) := by
  unfold uf_X0_groups_L36l
  refine ev_uf (Q := fun y => y = (q_ (mx_ T s 8), u)) 8 (fun (p : Nat) (y : Int32 × Int32 × UM) => y = (q_ (mx_ T s p), n_ p, u)) (fun p y hp hP => ?_) (fun y hP => ?_) _ (by rw [← n_lit 0]; rfl)
  · subst hP
    unfold uf_X0_groups_L36 uf_X0_groups_J72
    dsimp only
    refine ev_ifF (by rw [n_lit 8, n_le (by omega) (by omega)]; omega) ?_
    rw [show n_ p + 1 = n_ (p + 1) from by rw [n_lit 1, n_add]]
    refine ev_ifq (bt_test (by omega) (n_ s)) (fun c => ?_) (fun c => ?_)
    · obtain ⟨k1, k2⟩ := an_pw (show p < 8 by omega) hs c
      have hpp : 0 < 2 ^ p := Nat.pow_pos (by omega)
      have b1 := hT (s - 2 ^ p) (by omega)
      have b2 := mx_b hT hs0 hs p (by omega)
      rw [k2]
      refine ev_b1 (ldI_e hA (show s - 2 ^ p < 256 by omega) (by omega)) ?_
      rw [hf _ (by omega)]
      refine ev_b1 rfl (ev_some ⟨_, rfl, ?_⟩)
      simp only [mx_]
      rw [if_pos c]
      congr 1
      by_cases c2 : mx_ T s p < T (s - 2 ^ p)
      · rw [if_pos (by rw [q_lt' (by omega) (by omega) (by omega) (by omega)]; exact c2), show max (mx_ T s p) (T (s - 2 ^ p)) = T (s - 2 ^ p) by omega]
      · rw [if_neg (by rw [q_lt' (by omega) (by omega) (by omega) (by omega)]; exact c2), show max (mx_ T s p) (T (s - 2 ^ p)) = mx_ T s p by omega]
    · refine ev_some ⟨_, rfl, ?_⟩
      simp only [mx_]
      rw [if_neg c]
  · subst hP
    unfold uf_X0_groups_L36
    dsimp only
    exact ev_ifT (by decide) (ev_some ⟨_, rfl, rfl⟩)
theorem uq_groups {d : UD} {b : Nat} {o : Nat → Nat} {u : UM} {t : Nat} {g : GS_} (h : yR_ d b o u t g) (ok : g_ok g) {k : Nat} (hk : k < g_nk g) {hv : Nat} (hh : hv < 2 ^ g_np g) : Ev_ (fun n => uf_X0_groups n d u t (n_ k) (n_ hv)) (fun r => yO_ d b u t g r ∧ r.1.1 = q_ (gt_ (g_np g) (ss_fl (g_s g).1 k) hv (hv + 1) hv)) := by
  have h8 := ok.1
  have h0 := (yR_N h).1
  have hh2 : hv < 256 := by
    have h2 : 2 ^ g_np g ≤ 2 ^ 8 := Nat.pow_le_pow_right (by omega) h8
    omega
  unfold uf_X0_groups
  rw [show (256 : Int32) = n_ 256 from n_lit 256]
  refine ev_g (ln_e (by omega)) (ev_ac ?_)
  rw [n_nat (by omega)]
  refine ev_nw h0 (fun u2 c2 => ?_)
  have g2 := ygt_nw (K := K2_) (o := o) h0 c2 22
  have tg : ot_ o u.2 22 u.2 = 22 := ot_at _ _ _
  have K22 : K2_ 22 := ⟨by omega, by omega⟩
  refine ev_bl (P := fun u' c => c = (0, 0) ∧ u'.2 = u2.2 ∧ ygt_ b K2_ (ot_ o u.2 22) u2 (ot_ o u.2 22) u' ∧ ∃ f, iA_ d u' u.2 256 f ∧ ∀ i, i < hv + 1 → f i = q_ (gt_ (g_np g) (ss_fl (g_s g).1 k) hv (hv + 1) i)) ?_ (fun u' c hp => ?_)
  · unfold uf_X0_groups_L12l
    refine ev_uf (Q := fun u' => u'.2 = u2.2 ∧ ygt_ b K2_ (ot_ o u.2 22) u2 (ot_ o u.2 22) u' ∧ ∃ f, iA_ d u' u.2 256 f ∧ ∀ i, i < hv + 1 → f i = q_ (gt_ (g_np g) (ss_fl (g_s g).1 k) hv (hv + 1) i)) hv (fun (j : Nat) (y : Int32 × UM) => y.1 = n_ (j + 1) ∧ y.2.2 = u2.2 ∧ ygt_ b K2_ (ot_ o u.2 22) u2 (ot_ o u.2 22) y.2 ∧ ∃ f, iA_ d y.2 u.2 256 f ∧ (∀ i, i < j + 1 → f i = q_ (gt_ (g_np g) (ss_fl (g_s g).1 k) hv (j + 1) i)) ∧ ∀ i, j + 1 ≤ i → f i = 0) (fun j y hj hP => ?_) (fun y hP => ?_) (1, u2) ⟨n_lit 1, rfl, ygt_rfl g2.1, (fun _ => 0), c2.2.1, fun i hi => by rw [show i = 0 by omega]; rfl, fun _ _ => rfl⟩
    · obtain ⟨v, u1⟩ := y
      obtain ⟨r1, r2, r3, f, r4, r5, r6⟩ := hP
      dsimp only at r1 r2 r3 r4 ⊢
      subst r1
      generalize hsv : j + 1 = s at *
      have hs0 : 0 < s := by omega
      have hs : s < 256 := by omega
      have R1 := yR_keep (yR_keep h g2 (fun x hx => hx)) r3 (fun x hx => hx)
      obtain ⟨_, aN, s0, fs, k1, k2, k3, _⟩ := yR_N R1
      have hTb := fun i => gt_b h8 (ss_fl (g_s g).1 k) hv s (by omega) i
      have hgt : gt_ (g_np g) (ss_fl (g_s g).1 k) hv (s + 1) = fw_up (gt_ (g_np g) (ss_fl (g_s g).1 k) hv s) s (gv_ (g_np g) (ss_fl (g_s g).1 k) hv (gt_ (g_np g) (ss_fl (g_s g).1 k) hv s) s) := by
        simp only [gt_]; rw [if_neg (by omega)]
      unfold uf_X0_groups_L12 uf_X0_groups_J98 uf_X0_groups_J103
      rw [show n_ s + 1 = n_ (s + 1) from by rw [n_lit 1, n_add]]
      refine ev_ifF (by rw [n_lt (by omega) (by omega)]; omega) ?_
      refine ev_if (fun c => ?_) (fun c => ?_)
      · refine ev_bl (P := fun y c => c = (0, 0) ∧ y = (q_ (mx_ (gt_ (g_np g) (ss_fl (g_s g).1 k) hv s) s 8), u1)) (uq_gr36 r4 hs0 hs (fun i _ => hTb i) r5 t (n_ k) (n_ hv)) (fun y c' hp => ?_)
        obtain ⟨rfl, rfl⟩ := hp
        dsimp only
        refine ev_b1 k2 ?_
        refine ev_b (uq_netOf R1 ok hk (n_ s)) (fun r hr => ?_)
        subst hr
        have hmx : mx_ (gt_ (g_np g) (ss_fl (g_s g).1 k) hv s) s 8 = mx_ (gt_ (g_np g) (ss_fl (g_s g).1 k) hv s) s (g_np g) := by
          have := mx_8 (T := gt_ (g_np g) (ss_fl (g_s g).1 k) hv s) (s := s) (np := g_np g) (by omega) hs (8 - g_np g) (by omega)
          rwa [show g_np g + (8 - g_np g) = 8 by omega] at this
        have fin : ∀ (v : Int), mx_ (gt_ (g_np g) (ss_fl (g_s g).1 k) hv s) s 8 + v = gv_ (g_np g) (ss_fl (g_s g).1 k) hv (gt_ (g_np g) (ss_fl (g_s g).1 k) hv s) s → Ev_ (fun _ => m_b (u_stI d u1 u.2 (n_ s) (q_ (mx_ (gt_ (g_np g) (ss_fl (g_s g).1 k) hv s) s 8) + q_ v)) (fun w23 => some ((.inl ((n_ (s + 1), (w23, u1.2))) : (Int32 × UM) ⊕ UM), ((0, 0) : UC)))) (fun r => ∃ s', (r.1, u_add (0, 0) r.2) = (.inl s', (0, 0)) ∧ s'.1 = n_ (s + 1) ∧ s'.2.2 = u2.2 ∧ ygt_ b K2_ (ot_ o u.2 22) u2 (ot_ o u.2 22) s'.2 ∧ ∃ f, iA_ d s'.2 u.2 256 f ∧ (∀ i, i < s + 1 → f i = q_ (gt_ (g_np g) (ss_fl (g_s g).1 k) hv (s + 1) i)) ∧ ∀ i, s + 1 ≤ i → f i = 0) := fun v hvv => by
          refine ev_b1 (stI_e r4 hs (by omega) _) ?_
          rw [q_add, hvv]
          have c3 := ch_set r4 (.inl (d.1 0, 256, .inl (upd f s (q_ (gv_ (g_np g) (ss_fl (g_s g).1 k) hv (gt_ (g_np g) (ss_fl (g_s g).1 k) hv s) s)))))
          refine ev_some ⟨_, rfl, rfl, r2, ygt_tr g2.1 r3 (ygt_ch r3.1 r4 c3 (kd1_a _ _) (by rw [tg]; exact K22)), _, c3.2.1, fun i hi => ?_, fun i hi => ?_⟩
          · rw [hgt]
            by_cases e : i = s
            · rw [e, upd_at, fw_up_at]
            · rw [upd_ne e, fw_up_ne e]; exact r5 i (by omega)
          · rw [upd_ne (by omega)]; exact r6 i (by omega)
        refine ev_if (fun c2 => ?_) (fun c2 => ?_)
        · refine ev_b1 rfl ?_
          exact fin 1 (by unfold gv_; rw [if_pos c, if_pos c2, hmx])
        · refine ev_b1 rfl ?_
          exact fin 0 (by unfold gv_; rw [if_pos c, if_neg c2, hmx])
      · refine ev_some ⟨_, rfl, rfl, r2, r3, f, r4, fun i hi => ?_, fun i hi => r6 i (by omega)⟩
        rw [hgt]
        by_cases e : i = s
        · rw [e, fw_up_at, r6 s (by omega)]
          unfold gv_
          rw [if_neg c]; rfl
        · rw [fw_up_ne e]; exact r5 i (by omega)
    · obtain ⟨v, u1⟩ := y
      obtain ⟨r1, r2, r3, f, r4, r5, r6⟩ := hP
      dsimp only at r1 r2 r3 r4 ⊢
      subst r1
      unfold uf_X0_groups_L12
      exact ev_ifT (by rw [n_lt (by omega) (by omega)]; omega) (ev_some ⟨_, rfl, r2, r3, f, r4, r5⟩)
  · obtain ⟨rfl, p2, p3, f, p4, p5⟩ := hp
    refine ev_b1 (ldI_e p4 hh2 (by omega)) (ev_some ⟨⟨_, yR_keep (yR_keep h g2 (fun x hx => hx)) p3 (fun x hx => hx), ?_, ?_, ?_⟩, p5 hv (by omega)⟩)
    · show u'.2 = u.2 + (1 + 0); rw [p2, c2.1]
    · show 1 + (0 + 0) ≤ 4000; omega
    · show 256 + (0 + 0) ≤ 100000; omega
theorem or_z (x : Int32) {p : Nat} (hp : p < 32) : x ||| ((0 : Int32) <<< (n_ p &&& 31)) = x := by
  apply Int32.toBitVec_inj.mp
  rw [Int32.toBitVec_or, n_and31 hp, shl_bv hp]
  show x.toBitVec ||| (0#32 <<< p) = x.toBitVec
  simp
theorem uq_fewest {d : UD} {b : Nat} {o : Nat → Nat} {u : UM} {t : Nat} {g : GS_} (h : yR_ d b o u t g) (ok : g_ok g) (nw : ss_nw (g_np g) (g_nk g) (g_s g)) (z w : Int32) : Ev_ (fun n => uf_X0_fewest n d u t z w) (fun r => yO_ d b u t g r ∧ Sp_fewest g z w r.1.1) := by
  obtain ⟨h0, aN, s0, fs, k1, k2, k3, _⟩ := yR_N h
  obtain ⟨fn, hfn⟩ := ys_cl k3
  have h8 := ok.1
  have h4 := ok.2.1
  have sok := ok.2.2.1
  have hmany : ∀ n, uf_X1_many n d u aN = some (n_ (g_np g)) := fun n => us_many n k3
  have hin := fun n => uin_lit n d u w (lo := 0) (hi := 1) (a := 0) (c := 1) rfl rfl
  unfold uf_X0_fewest uf_X0_fewest_J18 uf_X0_fewest_J97 Sp_fewest Sp_k
  simp only [k2, m_bs, uq_isKind _ h ok, m_ifb, hin]
  by_cases c1 : 0 ≤ z.toInt ∧ z.toInt < g_nk g
  · simp only [if_pos c1]
    by_cases c3 : 0 ≤ w.toInt ∧ w.toInt ≤ 1
    · simp only [if_pos c3]
      obtain ⟨k, hk, rfl, e3⟩ := pi_ c1
      rw [e3]
      have hfl := fl_s_ok sok nw hk
      refine ev_bl (P := fun y c => c = (0, 0) ∧ y = (n_ (hN_ (ss_fl (g_s g).1 k) (g_np g)), u)) ?_ (fun y c hp => ?_)
      · unfold uf_X0_fewest_L26l
        refine ev_uf (Q := fun y => y = (n_ (hN_ (ss_fl (g_s g).1 k) (g_np g)), u)) (g_np g) (fun (i : Nat) (y : Int32 × Int32 × UM) => y = (n_ (hN_ (ss_fl (g_s g).1 k) i), n_ i, u)) (fun i y hi hP => ?_) (fun y hP => ?_) _ (by rw [← n_lit 0]; rfl)
        · subst hP
          unfold uf_X0_fewest_L26 uf_X0_fewest_J58
          dsimp only
          simp only [k1, m_bs, hfn, hmany]
          refine ev_ifF (by rw [n_le (by omega) (by omega)]; omega) ?_
          refine ev_b (us_net k3 sok (show i < 8 by omega) (show k < 4 by omega) 1) (fun r hr => ?_)
          rw [if_neg (by decide)] at hr
          subst hr
          have hfit : -2147483648 ≤ nt_ (ss_fl (g_s g).1 k) i ∧ nt_ (ss_fl (g_s g).1 k) i < 2147483648 := by
            have := hfl.2.2.2 i (by omega)
            have := fs_out_nn hfl.2.1 i
            unfold nt_; omega
          rw [show n_ i + 1 = n_ (i + 1) from by rw [n_lit 1, n_add]]
          refine ev_ifq (c' := nt_ (ss_fl (g_s g).1 k) i = 0) (by rw [q_0, q_eq' hfit.1 hfit.2 (by omega) (by omega)]) (fun c => ?_) (fun c => ?_)
          · refine ev_b1 rfl (ev_some ⟨_, rfl, ?_⟩)
            rw [or_z _ (by omega)]
            simp only [hN_]
            rw [if_pos c]
          · refine ev_b1 rfl (ev_some ⟨_, rfl, ?_⟩)
            rw [or_pw (show i < 8 by omega) (hN_lt _ i)]
            simp only [hN_]
            rw [if_neg c]
        · subst hP
          unfold uf_X0_fewest_L26
          dsimp only
          simp only [k1, m_bs, hfn, hmany]
          exact ev_ifT (by rw [n_le (by omega) (by omega)]; omega) (ev_some ⟨_, rfl, rfl⟩)
      · obtain ⟨rfl, rfl⟩ := hp
        dsimp only
        refine ev_b1 k2 ?_
        refine ev_bc (P := fun r u' c => yO_ d b u t g ((r, u'), c) ∧ r = q_ (gt_ (g_np g) (ss_fl (g_s g).1 k) (hN_ (ss_fl (g_s g).1 k) (g_np g)) (hN_ (ss_fl (g_s g).1 k) (g_np g) + 1) (hN_ (ss_fl (g_s g).1 k) (g_np g)))) (uq_groups h ok hk (hN_lt _ _)) (fun r u' c hp => by obtain ⟨⟨o', _, h2, _⟩, _⟩ := hp; exact h2) (fun r u' c hp => ?_)
        obtain ⟨hO, rfl⟩ := hp
        refine ev_ifq (eq_li (v := 1) rfl) (fun d1 => ?_) (fun d1 => ?_)
        · exact ev_some ⟨yO_c hO _ (by rw [u_add_0]; rfl), by rw [if_pos d1]⟩
        · exact ev_bn (fun n => uf_bc n d u' _) (ev_some ⟨yO_c hO _ (by rw [u_add_0]; rfl), by rw [if_neg d1]⟩)
    · simp only [if_neg c3]
      exact ev_some ⟨yO_0 h _, m2_q⟩
  · simp only [if_neg c1]
    exact ev_some ⟨yO_0 h _, m2_q⟩
