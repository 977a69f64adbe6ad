set_option maxRecDepth 100000
/-! The reference presses: its loop -/
/-- the state of it -/
def rq_ (nu be may : Nat → Int) (st0 st : MS) (x t nd : Nat → Int) : Prop := ms_ [22, 24, 25, 27, 28] st0 st ∧ rp_ st be may rn_no x t ∧ rn_nd st nd ∧ rn_I nu be may x t nd
theorem n_10 : ¬ (n_ 1 = (0 : Int32)) := by
  intro h
  have h1 := congrArg Int32.toInt h
  rw [show (n_ 1).toInt = 1 from q_toInt (i := 1) ⟨by omega, by omega⟩] at h1
  exact absurd h1 (by decide)
/-- how it ends -/
def rz_ (n : Nat) (nu be : Nat → Int) (th : Option (Nat → Int)) (may : Nat → Int) (st0 : MS) (b : Bool) (st : MS) : Prop := ms_ [22, 24, 25, 27, 28] st0 st ∧ (b = true → ∃ x t, rp_ st be may rn_no x t ∧ rn_T n nu be th may rn_no x t) ∧ (b = false → ∀ y, ¬ fs_F n nu be th y)
theorem rn_L_fit {be may : Nat → Int} {fx : Nat → Bool} {x t : Nat → Int} (h : ∀ e, e < 256 → 0 ≤ rn_L be may fx x t e) (hb : ∀ c, c < 64 → 0 ≤ be c ∧ be c < 2147483648) (hm : ∀ p, p < 8 → 0 ≤ may p ∧ may p < 2147483648) : ∀ e, e < 256 → 0 ≤ rn_L be may fx x t e ∧ rn_L be may fx x t e < 2147483648 := by
  intro e he
  refine ⟨h e he, ?_⟩
  have h1 := h e he
  have h2 := h _ (rn_net e he).2.2.1
  have h3 := rn_L_cap be may fx x t (fun _ => 0) (fun _ => 0) e he
  rcases rn_cases e he with ⟨p, q, hp, hq, hpq, rfl⟩ | ⟨a, b, ha, hb', rfl⟩ | ⟨a, b, ha, hb', rfl⟩
  · rw [rn_L_0 _ _ _ _ _ hq hpq]; omega
  · rw [rn_rev_s ha hb'] at h2 h3
    rw [rn_L_s be may fx (fun _ => 0) (fun _ => 0) ha hb', rn_L_g be may fx (fun _ => 0) (fun _ => 0) ha hb'] at h3
    have g1 := hb (8 * a + b) (by omega)
    have g2 := hm a ha
    by_cases c : a = b
    · rw [if_pos c, if_pos c] at h3; omega
    · rw [if_neg c, if_neg c] at h3
      by_cases c2 : fx (8 * a + b) = true
      · rw [if_pos c2, if_pos c2] at h3; omega
      · rw [if_neg c2, if_neg c2] at h3; omega
  · rw [rn_rev_g ha hb'] at h2 h3
    rw [rn_L_s be may fx (fun _ => 0) (fun _ => 0) ha hb', rn_L_g be may fx (fun _ => 0) (fun _ => 0) ha hb'] at h3
    have g1 := hb (8 * a + b) (by omega)
    have g2 := hm a ha
    by_cases c : a = b
    · rw [if_pos c, if_pos c] at h3; omega
    · rw [if_neg c, if_neg c] at h3
      by_cases c2 : fx (8 * a + b) = true
      · rw [if_pos c2, if_pos c2] at h3; omega
      · rw [if_neg c2, if_neg c2] at h3; omega
theorem rn_I_x0 {n : Nat} {nu be : Nat → Int} {th : Option (Nat → Int)} {may : Nat → Int} (A : rn_A n nu be th may) {x t nd : Nat → Int} (I : rn_I nu be may x t nd) : ∀ k, k < 64 → ¬ fs_cp n k → x k = 0 := by
  intro k hk hc
  obtain ⟨j1, _⟩ := rn_L_nn' I.1
  have ek : 8 * (k / 8) + k % 8 = k := by omega
  by_cases c : k / 8 = k % 8
  · have := I.2.1 (k / 8) (by omega)
    rwa [show 8 * (k / 8) + k / 8 = k by omega] at this
  · have g := j1 (k / 8) (k % 8) (by omega) (by omega) c rfl
    rw [ek] at g
    have := A.2.2.1 k hk hc
    omega
theorem fw_sm_lt {n : Nat} {f g : Nat → Int} (h : ∀ i, i < n → f i ≤ g i) {k : Nat} (hk : k < n) (hl : f k < g k) : fw_sm n f < fw_sm n g := by
  have h1 := fw_sm_ge1 (f := fun i => g i - f i) (fun j hj => by have := h j hj; omega) hk
  rw [fw_sm_sub] at h1
  omega
theorem rf_presses_loop {n : Nat} {nu be : Nat → Int} {th : Option (Nat → Int)} {may : Nat → Int} (A : rn_A n nu be th may) (hb : ∀ c, c < 64 → 0 ≤ be c ∧ be c < 2147483648) (hm : ∀ p, p < 8 → 0 ≤ may p ∧ may p < 2147483648) (hnu : ∀ p, p < 8 → -2147483648 < nu p ∧ nu p < 2147483648) {st0 st : MS} {x t nd : Nat → Int} (h : rq_ nu be may st0 st x t nd) :
    Ev_ (fun n => f_presses_L65l n st) (lq_ (fun s => rz_ n nu be th may st0 true s) (fun s => rz_ n nu be th may st0 false s)) := by
  unfold f_presses_L65l
  refine ev_lpg (β := (Nat → Int) × (Nat → Int) × (Nat → Int)) (fun b => (fw_sm 8 (fun p => max (b.2.2 p) 0)).toNat) (fun b s => rq_ nu be may st0 s b.1 b.2.1 b.2.2) (fun b s hs => ?_) (x, t, nd) st h
  obtain ⟨x, t, nd⟩ := b
  dsimp only at hs ⊢
  obtain ⟨m0, hrp, hnd, I⟩ := hs
  have hndf : ∀ p, p < 8 → -2147483648 < nd p ∧ nd p < 2147483648 := fun p hp => by
    have := I.2.2.2.1 p hp
    have := hnu p hp
    omega
  have hndf' : ∀ p, p < 8 → -2147483648 ≤ nd p ∧ nd p < 2147483648 := fun p hp => by have := hndf p hp; omega
  have hfit := rn_L_fit I.1 hb hm
  unfold f_presses_L65
  rw [show ((0 : Int32), (0 : Int32), s) = (n_ 0, n_ 0, s) from by rw [← n_lit 0]]
  refine ev_b (rf_presses_69 hnd hndf') (fun r hr => ?_)
  obtain ⟨v1, s1⟩ := r
  obtain ⟨m1, d1, d2, d3, d4⟩ := hr
  dsimp only at m1 d1 d2 d3 d4 ⊢
  have hrp1 : rp_ s1 be may rn_no x t := rp_ms hrp m1 (by simp)
  rcases d4 with ⟨e1, e2⟩ | ⟨e1, e2⟩
  · subst e1
    refine ev_ifF n_10 ?_
    obtain ⟨pi, P⟩ := I.2.2.2.2.2
    obtain ⟨lb, hlb, _⟩ := fw_floor 16 (fun v => - (64 * pi v)) 0
    have hinit : rl_ (rn_L be may rn_no x t) pi lb (fun v => v < 8 ∧ 0 < nd v) s1 (fun v => v < 8 ∧ 0 < nd v) (fun v => if v < 8 ∧ 0 < nd v then 0 else 1000000) (fun _ => 0) := rl_init (fun v hv => by
        by_cases c : v < 8 ∧ 0 < nd v
        · exact Or.inl ⟨c, if_pos c⟩
        · exact Or.inr ⟨c, if_neg c⟩) (fun v hv _ => hlb v hv) (fun v hv => by omega) (fun v hv => by
        by_cases c : v < 8
        · rw [d1 v c]
          by_cases c2 : 0 < nd v
          · rw [if_pos c2, if_pos ⟨c, c2⟩]
          · rw [if_neg c2, if_neg (fun z => c2 z.2)]
        · have := d2 (v - 8) (by omega)
          rw [show v - 8 + 8 = v by omega] at this
          rw [this, if_neg (fun z => c z.1)]) d3
    refine ev_b (rf_laysWays hfit P hrp1 hinit) (fun s2 hs2 => ?_)
    obtain ⟨m2, root, dist, pe, hl2, hX⟩ := hs2
    have hrp2 : rp_ s2 be may rn_no x t := rp_ms hrp1 m2 (by simp)
    have hnd2 : rn_nd s2 nd := fun p hp => by rw [m2.2.2 25 (by simp), m1.2.2 25 (by simp)]; exact hnd p hp
    have m02 : ms_ [22, 24, 25, 27, 28] st0 s2 := ms_tr m0 (ms_tr (ms_sub m1 (by simp)) (ms_sub m2 (by simp)))
    rw [show ((-1 : Int32), (0 : Int32), s2) = (q_ (-1), n_ 0, s2) from by rw [← n_lit 0, m1_q]]
    refine ev_b (rf_presses_165 hnd2 hndf' hl2.2.1.1 (fun v hv => rl_fit hl2 hv)) (fun r hr => ?_)
    obtain ⟨v2, s3⟩ := r
    obtain ⟨e3, d5⟩ := hr
    dsimp only at e3 d5 ⊢
    subst e3
    rcases d5 with ⟨e4, e5⟩ | ⟨to, hto, e4, e5, e6⟩
    · subst e4
      refine ev_ifT rfl (ev_some ⟨m02, fun z => Bool.noConfusion z, fun _ => ?_⟩)
      refine rn_none A I hl2.1 hX (fun p hp hp2 => ?_) e5 e2
      have := hl2.2.2.2 p (by omega) ⟨hp, hp2⟩
      omega
    · subst e4
      refine ev_ifF (by rw [m1_q]; exact n_ne1 (by omega)) ?_
      obtain ⟨l, hch, hall⟩ := rn_chain P hl2.1 (show 8 + to < 16 by omega) e6
      have hrc := rc_of hl2 l (8 + to) hch hall
      have hts : ∀ w ∈ (8 + to) :: l, ¬ root w → pe w < 256 ∧ rn_dst (pe w) = w ∧ 0 < rn_L be may rn_no x t (pe w) := fun w hw hr => by
        obtain ⟨w1, w2⟩ := hall w hw
        obtain ⟨t1, t2, t3, _⟩ := rn_tight hl2.1 hX w1 w2 hr
        exact ⟨t1, t3, t2⟩
      obtain ⟨hs1, hs2⟩ := hl2.2.2.1 _ (fw_last_root l _ hch)
      rw [show (n_ to + 8 : Int32) = n_ (8 + to) from by rw [n_lit, n_add, Nat.add_comm]]
      refine ev_b (rf_firstOf hrc) (fun r hr => ?_)
      subst hr
      generalize hsv : fw_last (8 + to) l = sv at *
      have h25s := hnd2 sv hs1
      have h25t := hnd2 to hto
      have hfs := hndf sv hs1
      have hft := hndf to hto
      -- the rest, with what can go
      have rest : ∀ most : Int, 0 < most → most ≤ nd sv → most ≤ - nd to → Ev_ (fun n => f_presses_J282 n s3 (n_ to) (n_ sv) (q_ most) (n_ (8 + to))) (lq_ (fun s' => ∃ b' : (Nat → Int) × (Nat → Int) × (Nat → Int), rq_ nu be may st0 s' b'.1 b'.2.1 b'.2.2 ∧ (fw_sm 8 (fun p => max (b'.2.2 p) 0)).toNat < (fw_sm 8 (fun p => max (nd p) 0)).toNat) (lq_ (fun s => rz_ n nu be th may st0 true s) (fun s => rz_ n nu be th may st0 false s))) := fun most hm0 hm1 hm2 => by
        unfold f_presses_J282
        refine ev_b (rf_wayMay hrp2 hfit hrc ⟨by omega, by omega⟩) (fun r hr => ?_)
        subst hr
        obtain ⟨k1, k2⟩ := rc_min_ok (L := rn_L be may rn_no x t) l (8 + to) most hch hts hm0
        have k3 := rc_min_le (rn_L be may rn_no x t) l most (8 + to)
        generalize rc_min (rn_L be may rn_no x t) most (8 + to) l = much at *
        rw [show (n_ to + 8 : Int32) = n_ (8 + to) from by rw [n_lit, n_add, Nat.add_comm]]
        refine ev_b (rf_sends hrp2 hrc (rc_pos_of l _ hch hts) much) (fun s4 hs4 => ?_)
        obtain ⟨m4, x', t', hrp4, hx', hL4⟩ := hs4
        have hnd4 : rn_nd s4 nd := fun p hp => by rw [m4.2.2 25 (by simp)]; exact hnd2 p hp
        have h4s := hnd4 sv hs1
        have h4t := hnd4 to hto
        have hne : sv ≠ to := fun z => by rw [z] at hs2; omega
        refine ev_eq (r := .inl (m_sa (m_sa s4 25 sv (q_ (nd sv - much))) 25 to (q_ (nd to + much)))) (fun n => ?_) ⟨(x', t', fun p => if p = sv then nd p - much else if p = to then nd p + much else nd p), ⟨?_, ?_, ?_, ?_⟩, ?_⟩
        · simp (disch := omega) only [n_in, m_gT, n_nat, h4s, q_sub, sa_at]
          rw [upd_ne (fun z => hne z.symm), h4t, q_add]
        · exact ms_tr m02 (ms_tr (ms_sub m4 (by simp)) (ms_tr (ms_sa (by simp) _ _ _) (ms_sa (by simp) _ _ _)))
        · exact rp_ms hrp4 (ms_tr (ms_sa (ks := [25]) (by simp) _ _ _) (ms_sa (by simp) _ _ _)) (by simp)
        · intro p hp
          dsimp only
          rw [sa_at]
          by_cases c1 : p = sv
          · rw [if_pos c1, c1, upd_ne hne, sa_at, upd_at]
          · rw [if_neg c1]
            by_cases c2 : p = to
            · rw [if_pos c2, c2, upd_at]
            · rw [if_neg c2, upd_ne c2, sa_at, upd_ne c1]; exact hnd4 p hp
        · refine rn_I_step I P hl2.1 hX hl2.2.2.1 hto e5 e6 hch (Int.le_of_lt k2) (fun w hw hr => k1 w hw hr) (by rw [hsv]; omega) (by omega) (fun e he => ?_) (fun p hp => ?_) (fun p hp => by dsimp only; rw [hsv])
          · dsimp only; rw [hL4 e he, rc_pe l _ _ hch (fun w hw hr => ⟨(hts w hw hr).1, (hts w hw hr).2.1⟩)]
          · dsimp only; rw [hx' p p hp hp (Or.inl rfl)]; exact I.2.1 p hp
        · have : fw_sm 8 (fun p => max (if p = sv then nd p - much else if p = to then nd p + much else nd p) 0) < fw_sm 8 (fun p => max (nd p) 0) := fw_sm_lt (fun p hp => by
            by_cases c1 : p = sv
            · rw [if_pos c1]; omega
            · rw [if_neg c1]
              by_cases c2 : p = to
              · rw [if_pos c2, c2]; omega
              · rw [if_neg c2]; exact Int.le_refl _) hs1 (by rw [if_pos rfl]; omega)
          have h0 : 0 ≤ fw_sm 8 (fun p => max (if p = sv then nd p - much else if p = to then nd p + much else nd p) 0) := fw_sm_nonneg (fun p _ => by omega)
          dsimp only
          omega
      refine ev_g (n_in hs1 (by omega)) (ev_g (n_in hto (by omega)) ?_)
      rw [n_nat (by omega), n_nat (by omega), h25s, h25t, q_neg]
      refine ev_ifq (q_le ⟨by omega, by omega⟩ ⟨by omega, by omega⟩) (fun c => ?_) (fun c => ?_)
      · exact ev_g (n_in hto (by omega)) (rest (- nd to) (by omega) (by omega) (by omega))
      · exact ev_g (n_in hs1 (by omega)) (rest (nd sv) (by omega) (by omega) (by omega))
  · subst e1
    refine ev_ifT (n_lit 0).symm (ev_some ⟨ms_tr m0 (ms_sub m1 (by simp)), fun _ => ?_, fun z => Bool.noConfusion z⟩)
    obtain ⟨k1, k2, _⟩ := rn_end A I e2 (rn_I_x0 A I)
    exact ⟨x, t, hrp1, k1, k2, I.2.2.2.2.2⟩
