set_option maxRecDepth 100000
/-! The reference shifts -/
theorem rn_L_fxu {be may : Nat → Int} {fx : Nat → Bool} {k : Nat} {x X t : Nat → Int} (h : ∀ j, j ≠ k → x j = X j) : rn_L be may (rn_fxu fx k) x t = rn_L be may (rn_fxu fx k) X t := by
  funext e
  have hj : ∀ j : Nat, ∀ z : Int, (if rn_fxu fx k j = true then z else x j) = (if rn_fxu fx k j = true then z else X j) := fun j z => by
    by_cases c : j = k
    · have : rn_fxu fx k j = true := by unfold rn_fxu; rw [if_pos c]
      rw [if_pos this, if_pos this]
    · rw [h j c]
  have hj2 : ∀ j : Nat, ∀ z : Int, (if rn_fxu fx k j = true then z else be j - x j) = (if rn_fxu fx k j = true then z else be j - X j) := fun j z => by
    by_cases c : j = k
    · have : rn_fxu fx k j = true := by unfold rn_fxu; rw [if_pos c]
      rw [if_pos this, if_pos this]
    · rw [h j c]
  unfold rn_L
  rw [hj, hj2]
/-- ways from one end alone -/
theorem rf_shifts_24 {st0 : MS} {r : Nat} (hr : r < 16) (v2 v3 v4 v5 : Int32) : Ev_ (fun n => f_shifts_L24l n (n_ r) v2 v3 v4 v5 (0, st0)) (fun s => ms_ [27, 28] st0 s ∧ (∀ v, v < 16 → s.2.1 27 v = q_ (if v = r then 0 else 1000000)) ∧ ∀ v, v < 16 → s.2.1 28 v = q_ (-1)) := by
  unfold f_shifts_L24l
  refine ev_for 16 (fun i y => y.1 = n_ i ∧ ms_ [27, 28] st0 y.2 ∧ (∀ v, v < i → y.2.2.1 27 v = q_ (if v = r then 0 else 1000000)) ∧ ∀ v, v < i → y.2.2.1 28 v = q_ (-1)) (fun i y hi hP => ?_) (fun y hP => ?_) _ ⟨n_lit 0, ms_rfl _ _, fun v hv => absurd hv (Nat.not_lt_zero _), fun v hv => absurd hv (Nat.not_lt_zero _)⟩
  · obtain ⟨v, s1⟩ := y
    obtain ⟨e0, g1, g2, g3⟩ := hP
    dsimp only at e0 g1 g2 g3 ⊢
    subst e0
    refine ev_eq (r := .inl (n_ (i + 1), m_sa (m_sa s1 27 i (q_ (if i = r then 0 else 1000000))) 28 i (q_ (-1)))) (fun n => ?_) ⟨_, rfl, rfl, ms_tr g1 (ms_tr (ms_sa (by simp) _ _ _) (ms_sa (by simp) _ _ _)), fun v hv => ?_, fun v hv => ?_⟩
    · unfold f_shifts_L24 f_shifts_J50
      simp (disch := omega) only [n_lit, n_le, n_in, m_gT, n_nat, n_add, n_eq]
      rw [ef_F (show ¬ 16 ≤ i by omega), show (- n_ 1 : Int32) = q_ (-1) from n_neg 1]
      by_cases c : i = r
      · rw [ef_T c, if_pos c]; rfl
      · rw [ef_F c, if_neg c]; rfl
    · dsimp only
      rw [sa_ne _ (by omega), sa_at]
      by_cases e : v = i
      · rw [e, upd_at]
      · rw [upd_ne e]; exact g2 v (by omega)
    · dsimp only
      rw [sa_at]
      by_cases e : v = i
      · rw [e, upd_at]
      · rw [upd_ne e, sa_ne _ (by omega)]; exact g3 v (by omega)
  · obtain ⟨v, s1⟩ := y
    obtain ⟨e0, g1, g2, g3⟩ := hP
    dsimp only at e0 g1 g2 g3 ⊢
    subst e0
    refine ev_eq (r := .inr s1) (fun n => ?_) ⟨_, rfl, g1, g2, g3⟩
    unfold f_shifts_L24
    simp (disch := omega) only [n_lit, n_le]
    rw [ef_T (by omega)]
/-- which way: from where, to where, at what cost, how much at most, and what the couple has then -/
def sh_ (hi : Bool) (a b : Nat) (be : Nat → Int) (r v : Nat) (ka : Int) (lf : (Nat → Int) → Int) (nx : (Nat → Int) → Int → Int) : Prop :=
  (hi = false ∧ r = a ∧ v = 8 + b ∧ ka = 1 ∧ lf = (fun X => X (8 * a + b)) ∧ nx = (fun X m => X (8 * a + b) - m)) ∨ (hi = true ∧ r = 8 + b ∧ v = a ∧ ka = -1 ∧ lf = (fun X => be (8 * a + b) - X (8 * a + b)) ∧ nx = (fun X m => X (8 * a + b) + m))
/-- no less (no more) can be -/
def sm_ (hi : Bool) (n : Nat) (nu be : Nat → Int) (th : Option (Nat → Int)) (fx : Nat → Bool) (k : Nat) (X : Nat → Int) : Prop := ∀ y, fs_O n nu be th y → (∀ j, j < 64 → fx j = true → y j = X j) → (if hi then y k ≤ X k else X k ≤ y k)
/-- the state of it -/
def si_ (hi : Bool) (n : Nat) (nu be : Nat → Int) (th : Option (Nat → Int)) (may : Nat → Int) (fx : Nat → Bool) (k : Nat) (X0 : Nat → Int) (lf : (Nat → Int) → Int) (st0 : MS) (v5 v6 : Int32) (st : MS) (X x t : Nat → Int) : Prop :=
  ms_ [22, 24, 27, 28] st0 st ∧ rp_ st be may (rn_fxu fx k) x t ∧ (∀ j, j ≠ k → x j = X j) ∧ x k = X0 k ∧ rn_T n nu be th may fx X t ∧ (∀ j, j < 64 → fx j = true → X j = X0 j) ∧ v5 = q_ (lf X) ∧ 0 ≤ lf X ∧ ((v6 = n_ 1 ∧ 0 < lf X) ∨ (v6 = n_ 0 ∧ sm_ hi n nu be th fx k X))
theorem rf_shifts {n : Nat} {nu be : Nat → Int} {th : Option (Nat → Int)} {may : Nat → Int} (A : rn_A n nu be th may) (hb : ∀ c, c < 64 → 0 ≤ be c ∧ be c < 2147483648) (hm : ∀ p, p < 8 → 0 ≤ may p ∧ may p < 2147483648) {fx : Nat → Bool} {a b : Nat} (ha : a < 8) (hb8 : b < 8) (hc : fs_cp n (8 * a + b)) (hfx : fx (8 * a + b) = false) {hi : Bool} {r v : Nat} {ka : Int} {lf : (Nat → Int) → Int} {nx : (Nat → Int) → Int → Int} (D : sh_ hi a b be r v ka lf nx)
    {st0 : MS} {X0 t0 : Nat → Int} (hrp0 : rp_ st0 be may (rn_fxu fx (8 * a + b)) X0 t0) (T0 : rn_T n nu be th may fx X0 t0) :
    Ev_ (fun n => f_shifts n st0 (n_ r) (n_ v) (q_ ka) (q_ (lf X0))) (fun y => ∃ X x t, ms_ [22, 24, 27, 28] st0 y.2 ∧ rp_ y.2 be may (rn_fxu fx (8 * a + b)) x t ∧ (∀ j, j ≠ 8 * a + b → x j = X j) ∧ x (8 * a + b) = X0 (8 * a + b) ∧ rn_T n nu be th may fx X t ∧ (∀ j, j < 64 → fx j = true → X j = X0 j) ∧ sm_ hi n nu be th fx (8 * a + b) X ∧ y.1 = q_ (lf X0 - lf X)) := by
  have hr : r < 16 := by rcases D with ⟨_, h, _⟩ | ⟨_, h, _⟩ <;> omega
  have hv : v < 16 := by rcases D with ⟨_, _, h, _⟩ | ⟨_, _, h, _⟩ <;> omega
  have hka : -1 ≤ ka ∧ ka ≤ 1 := by rcases D with ⟨_, _, _, h, _⟩ | ⟨_, _, _, h, _⟩ <;> omega
  have hlf : ∀ X t, rn_T n nu be th may fx X t → 0 ≤ lf X ∧ lf X < 2147483648 := fun X t T => by
    have h1 := T.1.1.1 _ (show 8 * a + b < 64 by omega) hc
    have h2 := hb (8 * a + b) (by omega)
    rcases D with ⟨_, _, _, _, h, _⟩ | ⟨_, _, _, _, h, _⟩ <;> rw [h] <;> dsimp only <;> omega
  have hdone : ∀ X, lf X = 0 → sm_ hi n nu be th fx (8 * a + b) X := fun X h y hy _ => by
    have h1 := hy.1.1 _ (show 8 * a + b < 64 by omega) hc
    rcases D with ⟨e, _, _, _, h2, _⟩ | ⟨e, _, _, _, h2, _⟩ <;> rw [h2] at h <;> dsimp only at h <;> subst e
    · show X (8 * a + b) ≤ y (8 * a + b); omega
    · show y (8 * a + b) ≤ X (8 * a + b); omega
  have loop : ∀ (v6 : Int32), ((v6 = n_ 1 ∧ 0 < lf X0) ∨ (v6 = n_ 0 ∧ sm_ hi n nu be th fx (8 * a + b) X0)) → Ev_ (fun n => f_shifts_J14 n st0 (n_ r) (n_ v) (q_ ka) (q_ (lf X0)) (q_ (lf X0)) v6) (fun y => ∃ X x t, ms_ [22, 24, 27, 28] st0 y.2 ∧ rp_ y.2 be may (rn_fxu fx (8 * a + b)) x t ∧ (∀ j, j ≠ 8 * a + b → x j = X j) ∧ x (8 * a + b) = X0 (8 * a + b) ∧ rn_T n nu be th may fx X t ∧ (∀ j, j < 64 → fx j = true → X j = X0 j) ∧ sm_ hi n nu be th fx (8 * a + b) X ∧ y.1 = q_ (lf X0 - lf X)) := fun v6 hv6 => by
    unfold f_shifts_J14
    refine ev_b (P := fun y => ∃ X x t, si_ hi n nu be th may fx (8 * a + b) X0 lf st0 y.1 (n_ 0) y.2 X x t) ?_ (fun y hy => ?_)
    · unfold f_shifts_L16l
      refine ev_lpg (β := (Nat → Int) × (Nat → Int) × (Nat → Int) × Nat) (fun b => 2 * (lf b.1).toNat + b.2.2.2) (fun b' s => si_ hi n nu be th may fx (8 * a + b) X0 lf st0 s.1 s.2.1 s.2.2 b'.1 b'.2.1 b'.2.2.1 ∧ s.2.1 = n_ b'.2.2.2 ∧ b'.2.2.2 < 2) (fun b' s hs => ?_) (X0, X0, t0, if v6 = n_ 1 then 1 else 0) _ ⟨⟨ms_rfl _ _, hrp0, fun _ _ => rfl, rfl, T0, fun _ _ _ => rfl, rfl, (hlf _ _ T0).1, hv6⟩, ?_, ?_⟩
      · obtain ⟨X, x, t, fl⟩ := b'
        obtain ⟨v5, v6, s⟩ := s
        obtain ⟨⟨m1, hrp, hx1, hx2, T, hX0, e5, hl0, h6⟩, e6, hfl⟩ := hs
        dsimp only at m1 hrp hx1 hx2 T hX0 e5 hl0 h6 e6 hfl ⊢
        subst e5; subst e6
        obtain ⟨_, hlb⟩ := hlf X t T
        unfold f_shifts_L16
        rcases h6 with ⟨e6, hpos⟩ | ⟨e6, hmin⟩
        · -- one more try
          rw [n_eq (by omega) (by omega)] at e6
          subst e6
          refine ev_ifF n_10 ?_
          refine ev_b (rf_shifts_24 hr _ _ _ _) (fun s1 hs1 => ?_)
          obtain ⟨m2, d1, d2⟩ := hs1
          have hrp1 : rp_ s1 be may (rn_fxu fx (8 * a + b)) x t := rp_ms hrp m2 (by simp)
          obtain ⟨pi, P⟩ := T.2.2
          have hLx : rn_L be may (rn_fxu fx (8 * a + b)) x t = rn_L be may (rn_fxu fx (8 * a + b)) X t := rn_L_fxu hx1
          have P' : rn_P (rn_L be may (rn_fxu fx (8 * a + b)) X t) pi := rn_P_mono P (fun _ _ => rfl)
          have hLX : ∀ e, e < 256 → 0 ≤ rn_L be may (rn_fxu fx (8 * a + b)) X t e := fun e he => rn_L_nn (fun i j hi hj _ _ => ⟨fs_F_nn T.1.1 (by omega), fs_F_le T.1.1 A.2.1 (by omega)⟩) (fun p hp => by rw [T.2.1 p hp]; exact (rn_y A T.1.1).2.2.2 p hp) e he
          have hfit : ∀ e, e < 256 → 0 ≤ rn_L be may (rn_fxu fx (8 * a + b)) x t e ∧ rn_L be may (rn_fxu fx (8 * a + b)) x t e < 2147483648 := by rw [hLx]; exact rn_L_fit hLX hb hm
          have hinit : rl_ (rn_L be may (rn_fxu fx (8 * a + b)) x t) pi (- (64 * pi r)) (fun w => w = r) s1 (fun w => w = r) (fun w => if w = r then 0 else 1000000) (fun _ => 0) := rl_init (fun w hw => by
              by_cases c : w = r
              · exact Or.inl ⟨c, if_pos c⟩
              · exact Or.inr ⟨c, if_neg c⟩) (fun w hw e => by rw [e]; exact Int.le_refl _) (fun w e => by rw [e]; exact hr) d1 d2
          refine ev_b (rf_laysWays hfit (by rw [hLx]; exact P') hrp1 hinit) (fun s2 hs2 => ?_)
          obtain ⟨m3, root, dist, pe, hl2, hXf⟩ := hs2
          have hrp2 : rp_ s2 be may (rn_fxu fx (8 * a + b)) x t := rp_ms hrp1 m3 (by simp)
          have m4 : ms_ [22, 24, 27, 28] st0 s2 := ms_tr m1 (ms_tr (ms_sub m2 (by simp)) (ms_sub m3 (by simp)))
          have h27 := hl2.2.1.1 v hv
          have hdf := rl_fit hl2 hv
          rw [hLx] at hl2 hXf
          -- none: the end
          have stop : ¬ (dist v < 1000000 ∧ dist v / 64 = ka) → Ev_ (fun n' => f_shifts_J98 n' s2 (n_ r) (n_ v) (q_ ka) (q_ (lf X0)) (q_ (lf X))) (lq_ (fun s' => ∃ b' : (Nat → Int) × (Nat → Int) × (Nat → Int) × Nat, (si_ hi n nu be th may fx (8 * a + b) X0 lf st0 s'.1 s'.2.1 s'.2.2 b'.1 b'.2.1 b'.2.2.1 ∧ s'.2.1 = n_ b'.2.2.2 ∧ b'.2.2.2 < 2) ∧ 2 * (lf b'.1).toNat + b'.2.2.2 < 2 * (lf X).toNat + 1) (fun y => ∃ X x t, si_ hi n nu be th may fx (8 * a + b) X0 lf st0 y.1 (n_ 0) y.2 X x t)) := fun hno => by
            refine ev_eq (r := .inl (q_ (lf X), n_ 0, s2)) (fun n' => ?_) ⟨(X, x, t, 0), ⟨⟨m4, hrp2, hx1, hx2, T, hX0, rfl, hl0, Or.inr ⟨rfl, ?_⟩⟩, rfl, by dsimp only; omega⟩, by dsimp only; omega⟩
            · unfold f_shifts_J98 f_shifts_J99 f_shifts_J117 f_shifts_J131 f_shifts_J152 f_shifts_J153
              simp (disch := omega) only [n_lit, n_eq]
              rw [ef_T trivial, ef_T trivial, ef_T trivial, n_q 0, q_sub, show lf X - ((0 : Nat) : Int) = lf X by omega]
            · have hdr := hl2.2.2.2 r hr rfl
              rcases D with ⟨e1, e2, e3, e4, e5, e6⟩ | ⟨e1, e2, e3, e4, e5, e6⟩
              · subst e1; subst e2; subst e3; subst e4
                exact fun y hy hag => rn_low_end A T ha hb8 hc hfx P (Or.inr ⟨root, dist, pe, hl2.1, hXf, hdr, hno⟩) y hy hag
              · subst e1; subst e2; subst e3; subst e4
                exact fun y hy hag => rn_high_end A T ha hb8 hc hfx P (Or.inr ⟨root, dist, pe, hl2.1, hXf, hdr, hno⟩) y hy hag
          refine ev_g (n_in hv (by omega)) ?_
          rw [n_nat (by omega), h27]
          refine ev_ifq (c' := 1000000 ≤ dist v) (by rw [n_lit, show n_ 1000000 = q_ 1000000 from rfl]; exact q_le ⟨by omega, by omega⟩ ⟨by omega, by omega⟩) (fun c1 => stop (fun z => by omega)) (fun c1 => ?_)
          refine ev_g (n_in hv (by omega)) ?_
          rw [q_shr6 (by omega) (by omega)]
          refine ev_ifq (q_eq ⟨by omega, by omega⟩ ⟨by omega, by omega⟩) (fun c2 => ?_) (fun c2 => stop (fun z => c2 z.2))
          -- something goes
          obtain ⟨l, hch, hall⟩ := rn_chain P' hl2.1 hv (by omega)
          have hrc := rc_of hl2 l v hch hall
          have hts : ∀ w ∈ v :: l, ¬ root w → pe w < 256 ∧ rn_dst (pe w) = w ∧ 0 < rn_L be may (rn_fxu fx (8 * a + b)) X t (pe w) := fun w hw hr => by
            obtain ⟨w1, w2⟩ := hall w hw
            obtain ⟨t1, t2, t3, _⟩ := rn_tight hl2.1 hXf w1 w2 hr
            exact ⟨t1, t3, t2⟩
          unfold f_shifts_J99
          refine ev_ifF (by rw [n_lit 1]; exact n_10) ?_
          refine ev_b (rf_wayMay hrp2 hfit hrc ⟨hl0, hlb⟩) (fun y hy => ?_)
          subst hy
          rw [hLx]
          obtain ⟨k1, k2⟩ := rc_min_ok (L := rn_L be may (rn_fxu fx (8 * a + b)) X t) l v (lf X) hch hts hpos
          have k3 := rc_min_le (rn_L be may (rn_fxu fx (8 * a + b)) X t) l (lf X) v
          generalize rc_min (rn_L be may (rn_fxu fx (8 * a + b)) X t) (lf X) v l = much at *
          unfold f_shifts_J117
          refine ev_ifF (by rw [n_lit 1]; exact n_10) ?_
          refine ev_b (rf_sends hrp2 hrc (by rw [hLx]; exact rc_pos_of l _ hch hts) much) (fun s4 hs4 => ?_)
          obtain ⟨m5, x', t', hrp4, hx', hL4⟩ := hs4
          rw [hLx] at hL4
          have hkx : x' (8 * a + b) = X0 (8 * a + b) := by
            rw [hx' a b ha hb8 (Or.inr (by unfold rn_fxu; rw [if_pos rfl])), hx2]
          -- beside it, with the couple as it is held to be
          have hxX : ∀ i j, i < 8 → j < 8 → (i = j ∨ rn_fxu fx (8 * a + b) (8 * i + j) = true) → fw_up x' (8 * a + b) (X (8 * a + b)) (8 * i + j) = X (8 * i + j) := fun i j hi hj q => by
            by_cases e : 8 * i + j = 8 * a + b
            · rw [e, fw_up_at]
            · rw [fw_up_ne e, hx' i j hi hj q, hx1 _ e]
          have hLu : ∀ e, e < 256 → rn_L be may (rn_fxu fx (8 * a + b)) (fw_up x' (8 * a + b) (X (8 * a + b))) t' e = fw_aug rn_rev pe much (v :: l) (rn_L be may (rn_fxu fx (8 * a + b)) X t) e := fun e he => by
            rw [rn_L_fxu (X := x') (fun j hj => fw_up_ne hj), hL4 e he, rc_pe l _ _ hch (fun w hw hr => ⟨(hts w hw hr).1, (hts w hw hr).2.1⟩)]
          have hup : fw_up (fw_up x' (8 * a + b) (X (8 * a + b))) (8 * a + b) (nx X much) = fw_up x' (8 * a + b) (nx X much) := by
            funext j
            by_cases e : j = 8 * a + b
            · rw [e, fw_up_at, fw_up_at]
            · rw [fw_up_ne e, fw_up_ne e, fw_up_ne e]
          have hdr := hl2.2.2.2 r hr rfl
          have T' : rn_T n nu be th may fx (fw_up x' (8 * a + b) (nx X much)) t' ∧ lf (fw_up x' (8 * a + b) (nx X much)) = lf X - much := by
            rw [← hup]
            rcases D with ⟨e1, e2, e3, e4, e5, e6⟩ | ⟨e1, e2, e3, e4, e5, e6⟩
            · subst e2; subst e3; subst e4; rw [e5] at k3 ⊢; rw [e6]
              exact ⟨rn_shift_lo A T ha hb8 hc P' hl2.1 hXf hl2.2.2.1 hdr (by omega) c2 hch (Int.le_of_lt k2) k3 (fun w hw hr => k1 w hw hr) hLu hxX, by dsimp only; rw [fw_up_at]⟩
            · subst e2; subst e3; subst e4; rw [e5] at k3 ⊢; rw [e6]
              exact ⟨rn_shift_hi A T ha hb8 hc P' hl2.1 hXf hl2.2.2.1 hdr (by omega) c2 hch (Int.le_of_lt k2) k3 (fun w hw hr => k1 w hw hr) hLu hxX, by dsimp only; rw [fw_up_at]; omega⟩
          obtain ⟨T', hlf'⟩ := T'
          have hfixed : ∀ j, j < 64 → fx j = true → fw_up x' (8 * a + b) (nx X much) j = X0 j := fun j hj hf => by
            have hne : j ≠ 8 * a + b := fun z => by rw [z, hfx] at hf; cases hf
            rw [fw_up_ne hne, ← hX0 j hj hf, ← hx1 j hne]
            have := hx' (j / 8) (j % 8) (by omega) (by omega) (Or.inr (by rw [show 8 * (j / 8) + j % 8 = j by omega]; unfold rn_fxu; rw [if_neg hne]; exact hf))
            rwa [show 8 * (j / 8) + j % 8 = j by omega] at this
          have m6 : ms_ [22, 24, 27, 28] st0 s4 := ms_tr m4 (ms_sub m5 (by simp))
          unfold f_shifts_J131 f_shifts_J152 f_shifts_J153
          refine ev_ifF (by rw [n_lit 1]; exact n_10) ?_
          rw [q_sub, ← hlf']
          refine ev_ifq (c' := lf (fw_up x' (8 * a + b) (nx X much)) ≤ 0) (by rw [show (0 : Int32) = q_ 0 from rfl]; exact q_le ⟨by omega, by omega⟩ ⟨by omega, by omega⟩) (fun c3 => ?_) (fun c3 => ?_)
          · refine ev_some ⟨(fw_up x' (8 * a + b) (nx X much), x', t', 0), ⟨⟨m6, hrp4, fun j hj => (fw_up_ne hj).symm, hkx, T', hfixed, rfl, by dsimp only; omega, Or.inr ⟨n_lit 0, hdone _ (by dsimp only; omega)⟩⟩, n_lit 0, by dsimp only; omega⟩, by dsimp only; omega⟩
          · refine ev_some ⟨(fw_up x' (8 * a + b) (nx X much), x', t', 1), ⟨⟨m6, hrp4, fun j hj => (fw_up_ne hj).symm, hkx, T', hfixed, rfl, by dsimp only; omega, Or.inl ⟨n_lit 1, by dsimp only; omega⟩⟩, n_lit 1, by dsimp only; omega⟩, by dsimp only; omega⟩
        · rw [e6]
          refine ev_ifT (n_lit 0).symm (ev_some ⟨X, x, t, m1, hrp, hx1, hx2, T, hX0, rfl, hl0, Or.inr ⟨rfl, hmin⟩⟩)
      · dsimp only
        rcases hv6 with ⟨e, _⟩ | ⟨e, _⟩
        · rw [if_pos e, e]
        · rw [if_neg (by rw [e, n_eq (by omega) (by omega)]; omega), e]
      · dsimp only
        split <;> omega
    · obtain ⟨X, x, t, m1, hrp, hx1, hx2, T, hX0, e5, hl0, h6⟩ := hy
      refine ev_eq (r := (q_ (lf X0 - lf X), y.2)) (fun n' => by rw [e5, q_sub]) ⟨X, x, t, m1, hrp, hx1, hx2, T, hX0, ?_, rfl⟩
      rcases h6 with ⟨z, _⟩ | ⟨_, z⟩
      · rw [n_eq (by omega) (by omega)] at z; omega
      · exact z
  have h0 := hlf X0 t0 T0
  unfold f_shifts
  refine ev_ifq (c' := lf X0 ≤ 0) (by rw [show (0 : Int32) = q_ 0 from rfl]; exact q_le ⟨by omega, by omega⟩ ⟨by omega, by omega⟩) (fun c => ?_) (fun c => ?_)
  · exact loop 0 (Or.inr ⟨n_lit 0, hdone _ (by omega)⟩)
  · exact loop 1 (Or.inl ⟨n_lit 1, by omega⟩)
