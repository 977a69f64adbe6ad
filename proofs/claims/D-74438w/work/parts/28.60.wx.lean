set_option maxRecDepth 100000
/-! The Reader: a name more. A word's tags become those of what never changes -/
section RT
variable {d : UD} {b : Nat} {o : Nat → Nat} {u : UM} {p tp : Nat}
theorem rt_ne (hp : o p = tp ∧ 20 ≤ tp ∧ tp < 160 ∧ tp ≠ 37) {y r : Nat} (hy : o y = r) (h1 : r ≠ tp) : ot_ o p 14 y = r := (ot_ne (fun z => by subst z; omega)).trans hy
theorem al_rt (hp : o p = tp ∧ 20 ≤ tp ∧ tp < 160 ∧ tp ≠ 37) {a tl ta : Nat} {l : List Nat} (h : al_ d o u a tl ta l) (h1 : 160 ≤ tl) (h2 : 160 ≤ ta) : al_ d (ot_ o p 14) u a tl ta l := by
  obtain ⟨mc, b', n, f, e1, e2, e3, e4, e5⟩ := h
  refine ⟨mc, b', n, f, e1, rt_ne hp e2 (by omega), e3, e4, ?_⟩
  rcases e5 with ⟨q1, q2, q3⟩ | q
  · exact Or.inl ⟨q1, rt_ne hp q2 (by omega), q3⟩
  · exact Or.inr q
theorem sg_rt (hp : o p = tp ∧ 20 ≤ tp ∧ tp < 160 ∧ tp ≠ 37) {a : Nat} {w : List Nat} (h : sg_ d o u a w) : sg_ d (ot_ o p 14) u a w := by
  obtain ⟨v, hh, z, f, e1, e2, e3, e4, e5⟩ := h
  exact ⟨v, hh, z, f, e1, e2, e3, rt_ne hp e4 (by omega), rt_ne hp e5 (by omega)⟩
theorem td_rt (hp : o p = tp ∧ 20 ≤ tp ∧ tp < 160 ∧ tp ≠ 37) {a : Nat} {t : Tr_} (h : td_ o u a t) : td_ (ot_ o p 14) u a t := ⟨h.1, rt_ne hp h.2 (by omega)⟩
theorem ys_rt (hp : o p = tp ∧ 20 ≤ tp ∧ tp < 160 ∧ tp ≠ 37) {a s : Nat} {ps ks : List (List Nat)} {x : SS_} (h : ys_ d o u a s ps ks x) (hs : 10 ≤ s) : ys_ d (ot_ o p 14) u a s ps ks x := by
  obtain ⟨aP, aK, aT, aC, lP, lK, lT, f, e1, e2, e3, e4, e5, e6, e7, e8, e9, e10, e11⟩ := h
  exact ⟨aP, aK, aT, aC, lP, lK, lT, f, e1, rt_ne hp e2 (by omega), al_rt hp e3 (by omega) (by omega), al_rt hp e4 (by omega) (by omega), al_rt hp e5 (by omega) (by omega), e6, rt_ne hp e7 (by omega), e8, al2_mono e9 (fun _ _ _ q => sg_rt hp q), al2_mono e10 (fun _ _ _ q => sg_rt hp q), al2_mono e11 (fun _ _ _ q => td_rt hp q)⟩
theorem yD_rt {o0 : Nat → Nat} {u0 : UM} {sN t a aS : Nat} {T : Nat → Int32} {n i bg : Nat} {hm : Bool} {wv : Value} {ps ks : List (List Nat)} {x : SS_} (hp : o p = tp ∧ 20 ≤ tp ∧ tp < 160 ∧ tp ≠ 37) (hu : u0.2 ≤ p) (h : yD_ d b o0 u0 sN t a aS T n o u i bg hm wv ps ks x) : yD_ d b o0 u0 sN t a aS T n (ot_ o p 14) u i bg hm wv ps ks x := by
  obtain ⟨G, e1, e2, e3, e4, e5, e6⟩ := h
  obtain ⟨aT, f, fs, q1, q2, q3, q4, q5, q6⟩ := e4
  exact ⟨ygt_re G 14 hu, e1, rt_ne hp e2 (by omega), ys_rt hp e3 e6, ⟨aT, f, fs, q1, q2, rt_ne hp q3 (by omega), q4, rt_ne hp q5 (by omega), q6⟩, e5, e6⟩
/-- a word is there for good -/
theorem yD_rt2 {o0 : Nat → Nat} {u0 : UM} {sN t a aS : Nat} {T : Nat → Int32} {n i bg : Nat} {hm : Bool} {wv : Value} {ps ks : List (List Nat)} {x : SS_} {w : List Nat} (hs : stt_ d o u p w) (hu : u0.2 ≤ p) (h : yD_ d b o0 u0 sN t a aS T n o u i bg hm wv ps ks x) : ∃ o', yD_ d b o0 u0 sN t a aS T n o' u i bg hm wv ps ks x ∧ sg_ d o' u p w := by
  obtain ⟨v, hh, z, f, e1, e2, e3, e4, e5, e6, e7, e8⟩ := hs
  have nvp : v ≠ p := get_ne e3 e1 (fun z => by cases z)
  have hv : ot_ o p 14 v = 36 := (ot_ne nvp).trans e4
  refine ⟨ot_ (ot_ o p 14) v 14, yD_rt (tp := 36) ⟨hv, by omega, by omega, by omega⟩ (by omega) (yD_rt (tp := 35) ⟨e2, by omega, by omega, by omega⟩ hu h), v, hh, z, f, e1, e3, e5, ?_, ot_at _ _ _⟩
  exact (ot_ne (fun q => nvp q.symm)).trans (ot_at _ _ _)
end RT
section
variable {d : UD} {b : Nat} {o0 : Nat → Nat} {u0 : UM} {sN t a aS : Nat} {T : Nat → Int32} {n : Nat} {o : Nat → Nat} {u : UM} {i bg : Nat} {hm : Bool} {wv : Value} {ps ks : List (List Nat)} {x : SS_}
/-- what a line's part leaves -/
def rS_ (d : UD) (b : Nat) (o0 : Nat → Nat) (u0 : UM) (sN t a aS : Nat) (T : Nat → Int32) (n : Nat) (i k1 k2 : Nat) (s' : RD_) (u' : UM) (c : UC) : Prop := cst_ c i s'.1 k1 k2 ∧ i < s'.1 ∧ ∃ o' bg' wv', yD_ d b o0 u0 sN t a aS T n o' u' s'.1 bg' s'.2.2.2.2 wv' s'.2.1 s'.2.2.1 s'.2.2.2.1
/-- another world: one list, its array, may be otherwise -/
theorem yD_set (h00 : uw_ b u0) {o' : Nat → Nat} {u' : UM} {K : Nat → Prop} (h : yD_ d b o0 u0 sN t a aS T n o u i bg hm wv ps ks x) (g : ygt_ b K o u o' u') (hK : ∀ z, K z → Ks_ sN z ∨ (K2_ z ∧ z ≠ 37)) {ps' ks' : List (List Nat)} {x' : SS_} (hx : ys_ d o' u' aS sN ps' ks' x') : yD_ d b o0 u0 sN t a aS T n o' u' i bg hm wv ps' ks' x' := by
  obtain ⟨G, e1, e2, e3, e4, e5, e6⟩ := h
  have nk : ∀ z, (¬ Ks_ sN z) → (¬ K2_ z ∨ z = 37) → ¬ K z := fun z h1 h2 q => by
    rcases hK z q with q | q
    · exact h1 q
    · rcases h2 with h2 | h2
      · exact h2 q.1
      · exact q.2 h2
  obtain ⟨x1, x2⟩ := ygt_at G.1 g e1 (by rw [e2]; exact nk 37 (by unfold Ks_; omega) (Or.inr rfl))
  refine ⟨ygt_tr h00 G (ygt_sub g (fun z hz => (hK z hz).elim Or.inr (fun q => Or.inl q.1))), x1, x2.trans e2, hx, tp_keep G.1 g e4 (nk 1 (by unfold Ks_; omega) (Or.inl (by unfold K2_; omega))) (nk 12 (by unfold Ks_; omega) (Or.inl (by unfold K2_; omega))), e5, e6⟩
/-- a party more, a kind more -/
theorem ys_addP (h0 : uw_ b u) (h : ys_ d o u aS sN ps ks x) (hs : 10 ≤ sN) {aP : Nat} {lP : List Nat} (hP : u_nr u 2 0 aS = some aP) (h2 : al2_ (sg_ d o u) lP ps) {o' : Nat → Nat} {u' : UM} (g : ygt_ b (Kl_ (16 * sN + 1) (16 * sN + 4)) o u o' u') {p : Nat} {w : List Nat} (hal : al_ d o' u' aP (16 * sN + 1) (16 * sN + 4) (lP ++ [p])) (hp : sg_ d o u p w) : ys_ d o' u' aS sN (ps ++ [w]) ks x := by
  obtain ⟨aP', aK, aT, aC, lP', lK, lT, f, e1, e2, e3, e4, e5, e6, e7, e8, e9, e10, e11⟩ := h
  have eP : aP' = aP := by have := nr_e e1 (k := 0) rfl; rw [hP] at this; exact (Option.some.inj this).symm
  subst eP
  have nk : ∀ z, z ≠ 16 * sN + 1 → z ≠ 16 * sN + 4 → ¬ Kl_ (16 * sN + 1) (16 * sN + 4) z := fun z h1 h2 q => by rcases q with q | q <;> omega
  obtain ⟨a1, a2⟩ := ygt_at h0 g e1 (by rw [e2]; exact nk _ (by omega) (by omega))
  obtain ⟨b1, b2⟩ := ygt_at h0 g e6 (by rw [e7]; exact nk _ (by omega) (by omega))
  have k14 := nk 14 (by omega) (by omega)
  exact ⟨aP', aK, aT, aC, lP ++ [p], lK, lT, f, a1, a2.trans e2, hal, al_keep h0 g e4 (nk _ (by omega) (by omega)) (nk _ (by omega) (by omega)), al_keep h0 g e5 (nk _ (by omega) (by omega)) (nk _ (by omega) (by omega)), b1, b2.trans e7, e8, al2_app (al2_mono h2 (fun _ _ _ q => sg_keep h0 g q k14)) (sg_keep h0 g hp k14), al2_mono e10 (fun _ _ _ q => sg_keep h0 g q k14), al2_mono e11 (fun _ _ _ q => td_keep h0 g q k14)⟩
theorem ys_addK (h0 : uw_ b u) (h : ys_ d o u aS sN ps ks x) (hs : 10 ≤ sN) {aK : Nat} {lK : List Nat} (hP : u_nr u 2 1 aS = some aK) (h2 : al2_ (sg_ d o u) lK ks) {o' : Nat → Nat} {u' : UM} (g : ygt_ b (Kl_ (16 * sN + 2) (16 * sN + 5)) o u o' u') {p : Nat} {w : List Nat} (hal : al_ d o' u' aK (16 * sN + 2) (16 * sN + 5) (lK ++ [p])) (hp : sg_ d o u p w) : ys_ d o' u' aS sN ps (ks ++ [w]) x := by
  obtain ⟨aP, aK', aT, aC, lP, lK', lT, f, e1, e2, e3, e4, e5, e6, e7, e8, e9, e10, e11⟩ := h
  have eP : aK' = aK := by have := nr_e e1 (k := 1) rfl; rw [hP] at this; exact (Option.some.inj this).symm
  subst eP
  have nk : ∀ z, z ≠ 16 * sN + 2 → z ≠ 16 * sN + 5 → ¬ Kl_ (16 * sN + 2) (16 * sN + 5) z := fun z h1 h2 q => by rcases q with q | q <;> omega
  obtain ⟨a1, a2⟩ := ygt_at h0 g e1 (by rw [e2]; exact nk _ (by omega) (by omega))
  obtain ⟨b1, b2⟩ := ygt_at h0 g e6 (by rw [e7]; exact nk _ (by omega) (by omega))
  have k14 := nk 14 (by omega) (by omega)
  exact ⟨aP, aK', aT, aC, lP, lK ++ [p], lT, f, a1, a2.trans e2, al_keep h0 g e3 (nk _ (by omega) (by omega)) (nk _ (by omega) (by omega)), hal, al_keep h0 g e5 (nk _ (by omega) (by omega)) (nk _ (by omega) (by omega)), b1, b2.trans e7, e8, al2_mono e9 (fun _ _ _ q => sg_keep h0 g q k14), al2_app (al2_mono h2 (fun _ _ _ q => sg_keep h0 g q k14)) (sg_keep h0 g hp k14), al2_mono e11 (fun _ _ _ q => td_keep h0 g q k14)⟩
/-- a name that comes: w which list (true: of kinds) -/
theorem ur_comes (h00 : uw_ b u0) (hs : cS_ d b) (hc : cE_ d b) (h : yD_ d b o0 u0 sN t a aS T n o u i bg hm wv ps ks x) (rok : rd_ok (i, ps, ks, x, hm)) (kd : Bool) {p0 : Nat} (hp0 : u_nr u 2 (if kd then 1 else 0) aS = some p0) {mo : Nat} (hmo : mo = if kd then 4 else 8) : Ev_ (fun m => uf_X4_comes m d u a p0 (n_ mo)) (fun r => r.1.2.2 = u.2 + r.2.1 ∧ if (if kd then ks else ps).length = mo then rE_ b o0 u0 sN i n 5 100 (4, bg) r else match rdNew_ T n ps ks i with
    | .inl e => rE_ b o0 u0 sN i n 5 100 e r
    | .inr v => r.1.1 = .inl () ∧ rS_ d b o0 u0 sN t a aS T n i 1 400 (v.2, (if kd then ps else ps ++ [v.1]), (if kd then ks ++ [v.1] else ks), x, hm) r.1.2 r.2) := by
  have s10 := h.2.2.2.2.2.2
  have h0 := h.1.1
  obtain ⟨aP, aK, aT, aC, lP, lK, lT, f, k1, k2, k3, k4, k5, k6, k7, k8, k9, k10, k11, k12, k13, k14⟩ := yD_P h
  have r8 : ps.length ≤ 8 := rok.1
  have r4 : ks.length ≤ 4 := rok.2.1
  have rP : ∀ w ∈ ps, nm_ok w := rok.2.2.2.1
  have rK : ∀ w ∈ ks, nm_ok w := rok.2.2.2.2.1
  have hsz : (∃ fs, u_cl u 13 p0 = some fs) ∧ ∀ m, uf_J2_size m d u p0 = some (n_ (if kd then ks else ps).length) := by
    cases kd with
    | true =>
      have e : p0 = aK := by rw [show (if true = true then 1 else 0) = 1 from rfl, k3] at hp0; exact (Option.some.inj hp0).symm
      subst e
      exact ⟨al_cl k7, fun m => by rw [ul_size m k7, k13.1]; rfl⟩
    | false =>
      have e : p0 = aP := by rw [show (if false = true then 1 else 0) = 0 from rfl, k2] at hp0; exact (Option.some.inj hp0).symm
      subst e
      exact ⟨al_cl k6, fun m => by rw [ul_size m k6, k12.1]; rfl⟩
  have hle : (if kd then ks else ps).length ≤ 8 := by cases kd <;> simp <;> omega
  obtain ⟨⟨fs, hcl⟩, hsz⟩ := hsz
  unfold uf_X4_comes
  refine ev_b1 hcl (ev_bn hsz ?_)
  refine ev_ifq (c' := (if kd then ks else ps).length = mo) (by rw [n_eq (by omega) (by cases kd <;> simp at hmo <;> omega)]) (fun cf => ?_) (fun cf => ?_)
  · simp only [if_pos cf]
    exact ur_throw h00 h (k := 4) (n_lit 4) (fun q u' z' E' => ⟨z', q, rfl, ⟨by show 1 ≤ _; omega, by show 8 ≤ _; omega⟩, E'⟩)
  · simp only [if_neg cf]
    refine ev_b1 (yD_cl h) ?_
    refine ev_bx (P := fun r u' c => u'.2 = u.2 + c.1 ∧ match rdN_ T n i with
      | .inl e => rE_ b o0 u0 sN i n 5 100 e ((r, u'), c)
      | .inr v => r = .inl () ∧ rN_ d b o0 u0 sN t a aS T n o u i hm ps ks x v.1 v.2.1 v.2.2 u' c) (ur_name h00 hs h) (fun r u' c hp => hp.1) (fun r u10 c hp => ?_) (fun q u10 c hp => ?_)
    · obtain ⟨z5, hp⟩ := hp
      unfold rdNew_ pb_
      cases hn : rdN_ T n i with
      | inl e =>
        rw [hn] at hp
        obtain ⟨q, hq, _⟩ := hp
        cases hq
      | inr v =>
        rw [hn] at hp
        dsimp only at hp ⊢
        obtain ⟨_, hN⟩ := hp
        obtain ⟨cs, i1, i2, i3, o5, p, pu, g5, s5, D5⟩ := id hN
        have f5 : u_fr d u10 4 5 a = some p := fr_e D5.2.1 rfl
        have kP5 := al_keep h0 g5 k6 (KV_n (by omega)) (KV_n (by omega))
        have kK5 := al_keep h0 g5 k7 (KV_n (by omega)) (KV_n (by omega))
        have n14 : ¬ KV_ 14 := fun z => by unfold KV_ at z; omega
        have sP5 : al2_ (sg_ d o5 u10) lP ps := al2_mono k12 (fun _ _ _ q => sg_keep h0 g5 q n14)
        have sK5 : al2_ (sg_ d o5 u10) lK ks := al2_mono k13 (fun _ _ _ q => sg_keep h0 g5 q n14)
        obtain ⟨aP', aK', aT', aC', lP', lK', lT', f', j1, j2, j3, j4, j5, j6, j7, j8, j9, j10, j11, j12, j13, j14⟩ := yD_P D5
        have eP : aP' = aP := by
          obtain ⟨_, _, _, _, _, _, _, _, w1, w2, _⟩ := h.2.2.2.1
          have w1' := (ygt_at h0 g5 w1 (by rw [w2]; exact KV_n (by omega))).1
          have q1 := nr_e w1 (k := 0) rfl
          have q2 := nr_e w1' (k := 0) rfl
          rw [k2] at q1; rw [j2] at q2
          exact (Option.some.inj q2).trans (Option.some.inj q1).symm
        have eK : aK' = aK := by
          obtain ⟨_, _, _, _, _, _, _, _, w1, w2, _⟩ := h.2.2.2.1
          have w1' := (ygt_at h0 g5 w1 (by rw [w2]; exact KV_n (by omega))).1
          have q1 := nr_e w1 (k := 1) rfl
          have q2 := nr_e w1' (k := 1) rfl
          rw [k3] at q1; rw [j3] at q2
          exact (Option.some.inj q2).trans (Option.some.inj q1).symm
        subst eP; subst eK
        obtain ⟨fsP, hclP⟩ := al_cl kP5
        obtain ⟨fsK, hclK⟩ := al_cl kK5
        have lPl := k12.1
        have lKl := k13.1
        have thr3 : Ev_ (fun m => uf_X4_comes_J52 m d u10 a) (fun r => r.1.2.2 = u.2 + (u_add c r.2).1 ∧ rE_ b o0 u0 sN i n 5 100 (3, v.2.1) (r.1, u_add c r.2)) := by
          unfold uf_X4_comes_J52
          refine ur_throw h00 D5 (k := 3) (n_lit 3) (fun q u' z' E' => ⟨?_, q, rfl, ⟨?_, ?_⟩, E'⟩)
          · show u'.2 = u.2 + (c.1 + 1); omega
          · show c.1 + 1 ≤ 4 * (n - i) + 5; unfold cst_ at cs; omega
          · show c.2 + 8 ≤ 40 * (n - i) + 100; unfold cst_ at cs; omega
        refine ev_b1 j1 (ev_b1 j2 (ev_b1 f5 (ev_b1 hclP (ev_b (ul_contains g5.1 kP5 sP5 rP s5 (by omega)) (fun r29 hr => ?_)))))
        subst hr
        by_cases c1 : ix_ ps v.1 < ps.length
        · rw [b_T c1]
          simp only [if_pos (show ix_ ps v.1 < ps.length ∨ ix_ ks v.1 < ks.length from Or.inl c1)]
          exact ev_ifF (by decide) thr3
        · rw [b_F c1]
          refine ev_ifT rfl (ev_b1 j1 (ev_b1 j3 (ev_b1 f5 (ev_b1 hclK (ev_b (ul_contains g5.1 kK5 sK5 rK s5 (by omega)) (fun r50 hr => ?_))))))
          subst hr
          by_cases c2 : ix_ ks v.1 < ks.length
          · rw [b_T c2]
            simp only [if_pos (show ix_ ps v.1 < ps.length ∨ ix_ ks v.1 < ks.length from Or.inr c2)]
            exact ev_ifF (by decide) thr3
          · rw [b_F c2]
            simp only [if_neg (show ¬ (ix_ ps v.1 < ps.length ∨ ix_ ks v.1 < ks.length) from fun z => z.elim c1 c2)]
            refine ev_ifT trivial (ev_b1 f5 ?_)
            have pu0 : u0.2 ≤ p := by have := h.1.2.2.1.1; omega
            obtain ⟨o6, D6, s6⟩ := yD_rt2 s5 pu0 D5
            obtain ⟨aP6, aK6, aT6, aC6, lP6, lK6, lT6, f6, i61, i62, i63, i64, i65, i66, i67, i68, i69, i610, i611, i612, i613, i614⟩ := yD_P D6
            have eP6 : aP6 = aP' := by rw [j2] at i62; exact (Option.some.inj i62).symm
            have eK6 : aK6 = aK' := by rw [j3] at i63; exact (Option.some.inj i63).symm
            subst eP6; subst eK6
            cases kd with
            | false =>
              have e0 : p0 = aP6 := by rw [show (if false = true then 1 else 0) = 0 from rfl, k2] at hp0; exact (Option.some.inj hp0).symm
              subst e0
              refine ev_b1 hclP ?_
              refine ev_bc (P := fun _ u48 c => ∃ o', u48.2 = u10.2 + c.1 ∧ c.1 ≤ 1 ∧ c.2 ≤ 400 ∧ al_ d o' u48 p0 (16 * sN + 1) (16 * sN + 4) (lP6 ++ [p]) ∧ ygt_ b (Kl_ (16 * sN + 1) (16 * sN + 4)) o6 u10 o' u48) (ul_add D6.1.1 hc i66 (al2_el i612) (by rw [i612.1]; omega) (sg_el s6)) (fun _ u48 c hp => by obtain ⟨o', h2, _⟩ := hp; exact h2) (fun _ u58 c' hp => ?_)
              obtain ⟨o7, y1, y2, y3, y4, y5⟩ := hp
              have Y7 := ys_addP D6.1.1 D6.2.2.2.1 s10 i62 i612 y5 y4 s6
              have D7 := yD_set h00 D6 y5 (fun z hz => Or.inl (by unfold Ks_; rcases hz with hz | hz <;> omega)) Y7
              refine ev_some ⟨?_, rfl, ⟨?_, ?_⟩, by show i < v.2.2; omega, o7, v.2.1, .ref p, D7⟩
              · show u58.2 = u.2 + (c.1 + (c'.1 + 0)); omega
              · show c.1 + (c'.1 + 0) ≤ 4 * (v.2.2 - i) + 1; unfold cst_ at cs; omega
              · show c.2 + (c'.2 + 0) ≤ 40 * (v.2.2 - i) + 400; unfold cst_ at cs; omega
            | true =>
              have e0 : p0 = aK6 := by rw [show (if true = true then 1 else 0) = 1 from rfl, k3] at hp0; exact (Option.some.inj hp0).symm
              subst e0
              refine ev_b1 hclK ?_
              refine ev_bc (P := fun _ u48 c => ∃ o', u48.2 = u10.2 + c.1 ∧ c.1 ≤ 1 ∧ c.2 ≤ 400 ∧ al_ d o' u48 p0 (16 * sN + 2) (16 * sN + 5) (lK6 ++ [p]) ∧ ygt_ b (Kl_ (16 * sN + 2) (16 * sN + 5)) o6 u10 o' u48) (ul_add D6.1.1 hc i67 (al2_el i613) (by rw [i613.1]; omega) (sg_el s6)) (fun _ u48 c hp => by obtain ⟨o', h2, _⟩ := hp; exact h2) (fun _ u58 c' hp => ?_)
              obtain ⟨o7, y1, y2, y3, y4, y5⟩ := hp
              have Y7 := ys_addK D6.1.1 D6.2.2.2.1 s10 i63 i613 y5 y4 s6
              have D7 := yD_set h00 D6 y5 (fun z hz => Or.inl (by unfold Ks_; rcases hz with hz | hz <;> omega)) Y7
              refine ev_some ⟨?_, rfl, ⟨?_, ?_⟩, by show i < v.2.2; omega, o7, v.2.1, .ref p, D7⟩
              · show u58.2 = u.2 + (c.1 + (c'.1 + 0)); omega
              · show c.1 + (c'.1 + 0) ≤ 4 * (v.2.2 - i) + 1; unfold cst_ at cs; omega
              · show c.2 + (c'.2 + 0) ≤ 40 * (v.2.2 - i) + 400; unfold cst_ at cs; omega
    · obtain ⟨z5, hp⟩ := hp
      unfold rdNew_ pb_
      cases hn : rdN_ T n i with
      | inl e =>
        rw [hn] at hp
        dsimp only at hp ⊢
        obtain ⟨q', hq, cs, E⟩ := hp
        cases hq
        exact ev_some ⟨by show u10.2 = u.2 + (c.1 + 0); omega, q, rfl, cs, E⟩
      | inr v =>
        rw [hn] at hp
        obtain ⟨hq, _⟩ := hp
        cases hq
end
