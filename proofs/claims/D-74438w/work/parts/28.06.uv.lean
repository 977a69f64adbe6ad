set_option maxRecDepth 100000
/-! A state's copy -/
/-- tags of state s alone -/
def Ks_ (s t : Nat) : Prop := 16 * s ≤ t ∧ t < 16 * s + 8
theorem xcI_e {d : UD} {u : UM} {a0 a1 n : Nat} {f g : Nat → Int32} (h : iA_ d u a0 n f) (h' : iA_ d u a1 n g) (hn : n < 2147483648) : u_xcI d u a0 0 a1 0 (n_ n) = some (u_set u.1 a1 (.inl (d.1 0, n, .inl (va_cpy f g 0 0 n)))) := by
  unfold u_xcI
  rw [arI_e h, m_bs, arI_e h', m_bs]
  have hrg : u_rg 0 0 (n_ n) n n = true := by
    unfold u_rg
    rw [decide_eq_true_eq, n_nat (by omega), z_nat, n_lit 0, n_lt (by omega) (by omega), n_lt (by omega) (by omega)]
    omega
  dsimp only
  rw [hrg, m_gT, z_nat, n_nat (by omega)]
theorem us_copy {d : UD} {b : Nat} {o : Nat → Nat} {u : UM} (h0 : uw_ b u) (hc : cE_ d b) {t s0 s : Nat} {ps ks : List (List Nat)} {x : SS_} (h : ys_ d o u t s0 ps ks x) (hx : x.1.length ≤ 40 ∧ ps.length ≤ 8 ∧ ks.length ≤ 4) (hs : 10 ≤ s) (hfr : ∀ a, a < u.2 → o a < 16 * s) : Ev_ (fun n => uf_X1_copy n d u t) (fun r => ∃ o', r.1.1 = u.2 ∧ r.1.2.2 = u.2 + r.2.1 ∧ r.2.1 ≤ 20 ∧ r.2.2 ≤ 2000 ∧ ygt_ b K0_ o u o' r.1.2 ∧ ys_ d o' r.1.2 u.2 s ps ks x) := by
  unfold uf_X1_copy
  refine ev_ac (ev_nw h0 (fun u2 c2 => ?_))
  have g2 := ygt_nw (K := K0_) (o := o) h0 c2 (16 * s)
  have hin := us_init (d := d) (s := s) g2.1 c2.2.1 (ot_at _ _ _) (fun a ha hne => by
    rw [ot_ne hne]; exact hfr a (by rw [c2.1] at ha; omega))
  have old : ∀ {K : Nat → Prop} {o1 o2 : Nat → Nat} {v w : UM}, ygt_ b K0_ o u o1 v → ygt_ b K o1 v o2 w → (∀ t, K t → 16 * s ≤ t) → ygt_ b K0_ o u o2 w := fun ga gb hk => ygt_trn h0 ga gb (fun a y ha z => by have := hk _ z; have := hfr a ((h0.2 _ _ ha).2); omega)
  refine ev_bc (P := fun _ u6 c => ∃ o', c = (4, 73) ∧ u6.2 = u2.2 + 4 ∧ ygt_ b (K1_ (16 * s)) (ot_ o u.2 (16 * s)) u2 o' u6 ∧ ∃ aP aK aT aC f, ob_ u6 u.2 2 [.ref aP, .ref aK, .ref aT, .ref aC, .int 0] ∧ ob_ u6 aP 13 [.int 0, .ref (d.2 0), .int 0] ∧ ob_ u6 aK 13 [.int 0, .ref (d.2 0), .int 0] ∧ ob_ u6 aT 13 [.int 0, .ref (d.2 0), .int 0] ∧ o' aP = 16 * s + 1 ∧ o' aK = 16 * s + 2 ∧ o' aT = 16 * s + 3 ∧ o' aC = 16 * s + 7 ∧ iA_ d u6 aC 64 f) (ev_w hin (fun r hr => ?_)) (fun _ u6 c hp => by obtain ⟨o', rfl, h2, _⟩ := hp; exact h2) (fun _ u6 c hp => ?_)
  · obtain ⟨o', r1, r2, r3, r4, aP, aK, aT, aC, f, r5, r6, r7, r8, r9, r10, r11, r12, r13, _⟩ := hr
    exact ⟨o', r1, r2, r3, aP, aK, aT, aC, f, r5, r6, r7, r8, r9, r10, r11, r12, r13⟩
  obtain ⟨o6, rfl, z6, g6, aP, aK, aT, aC, f, k1, k2, k3, k4, k5, k6, k7, k8, k9⟩ := hp
  have G6 := old g2 g6 (fun t z => by have : t = 16 * s := z; omega)
  have tn : o6 u.2 = 16 * s := by rw [g6.2.1 u.2 (by rw [c2.1]; omega)]; exact ot_at _ _ _
  -- the old state stays
  obtain ⟨bP, bK, bT, bC, lP, lK, lT, fo, e1, e2, e3, e4, e5, e6, e7, e8, e9, e10, e11⟩ := id h
  have hs0 : s0 < s := by have := hfr t ((h0.2 _ _ e1).2); omega
  have stay : ∀ {o' : Nat → Nat} {v : UM}, ygt_ b K0_ o u o' v → ob_ v t 2 [.ref bP, .ref bK, .ref bT, .ref bC, .int (n_ x.2.2)] ∧ al_ d o' v bP (16 * s0 + 1) (16 * s0 + 4) lP ∧ al_ d o' v bK (16 * s0 + 2) (16 * s0 + 5) lK ∧ al_ d o' v bT (16 * s0 + 3) (16 * s0 + 6) lT ∧ iA_ d v bC 64 fo ∧ al2_ (sg_ d o' v) lP ps ∧ al2_ (sg_ d o' v) lK ks ∧ al2_ (td_ o' v) lT x.1 := fun g => ⟨(ygt_at h0 g e1 (fun z => z)).1, al_keep h0 g e3 (fun z => z) (fun z => z), al_keep h0 g e4 (fun z => z) (fun z => z), al_keep h0 g e5 (fun z => z) (fun z => z), (ygt_at h0 g e6 (fun z => z)).1, al2_mono e9 (fun _ _ _ h => sg_keep h0 g h (fun z => z)), al2_mono e10 (fun _ _ _ h => sg_keep h0 g h (fun z => z)), al2_mono e11 (fun _ _ _ h => td_keep h0 g h (fun z => z))⟩
  -- parties
  obtain ⟨f1, f2, f3, f4, f5, f6, f7, f8⟩ := stay G6
  have hfr6 : u_fr d u6 2 0 u.2 = some aP := fr_e k1 rfl
  have hft6 : u_fr d u6 2 0 t = some bP := fr_e f1 rfl
  refine ev_b1 hfr6 (ev_b1 hft6 (ev_b1 (cl_e k2) ?_))
  have lenP : lP.length ≤ 100 := by have := e9.1; omega
  have lenK : lK.length ≤ 100 := by have := e10.1; omega
  have lenT : lT.length ≤ 100 := by have := e11.1; omega
  refine ev_bc (P := fun _ u' c => ∃ o', u'.2 = u6.2 + c.1 ∧ c.1 ≤ 2 ∧ c.2 ≤ 600 ∧ al_ d o' u' aP (16 * s + 1) (16 * s + 4) lP ∧ ygt_ b (Kl_ (16 * s + 1) (16 * s + 4)) o6 u6 o' u') (ul_addAll G6.1 hc k2 k5 f2 (al2_el f6) lenP (by omega) (by omega)) (fun _ u' c hp => by obtain ⟨o', h1, _⟩ := hp; exact h1) (fun _ u18 c1 hp => ?_)
  obtain ⟨o18, z18, c18, d18, a18, g18⟩ := hp
  have G18 := old G6 g18 (fun t z => by rcases z with z | z <;> omega)
  have nl1 : ∀ r, r ≠ 1 → r ≠ 4 → ¬ Kl_ (16 * s + 1) (16 * s + 4) (16 * s + r) := fun r h1 h2 z => by rcases z with z | z <;> omega
  obtain ⟨m1, m1'⟩ := ygt_at G6.1 g18 k1 (by rw [tn]; exact nl1 0 (by omega) (by omega))
  obtain ⟨m3, m3'⟩ := ygt_at G6.1 g18 k3 (by rw [k6]; exact nl1 2 (by omega) (by omega))
  obtain ⟨m4, m4'⟩ := ygt_at G6.1 g18 k4 (by rw [k7]; exact nl1 3 (by omega) (by omega))
  obtain ⟨m9, m9'⟩ := ygt_at G6.1 g18 k9 (by rw [k8]; exact nl1 7 (by omega) (by omega))
  -- kinds
  obtain ⟨f1, f2, f3, f4, f5, f6, f7, f8⟩ := stay G18
  have hfr18 : u_fr d u18 2 1 u.2 = some aK := fr_e m1 rfl
  have hft18 : u_fr d u18 2 1 t = some bK := fr_e f1 rfl
  refine ev_b1 hfr18 (ev_b1 hft18 (ev_b1 (cl_e m3) ?_))
  refine ev_bc (P := fun _ u' c => ∃ o', u'.2 = u18.2 + c.1 ∧ c.1 ≤ 2 ∧ c.2 ≤ 600 ∧ al_ d o' u' aK (16 * s + 2) (16 * s + 5) lK ∧ ygt_ b (Kl_ (16 * s + 2) (16 * s + 5)) o18 u18 o' u') (ul_addAll G18.1 hc m3 (m3'.trans k6) f3 (al2_el f7) lenK (by omega) (by omega)) (fun _ u' c hp => by obtain ⟨o', h1, _⟩ := hp; exact h1) (fun _ u30 c2' hp => ?_)
  obtain ⟨o30, z30, c30, d30, a30, g30⟩ := hp
  have G30 := old G18 g30 (fun t z => by rcases z with z | z <;> omega)
  have nl2 : ∀ r, r ≠ 2 → r ≠ 5 → ¬ Kl_ (16 * s + 2) (16 * s + 5) (16 * s + r) := fun r h1 h2 z => by rcases z with z | z <;> omega
  obtain ⟨n1, n1'⟩ := ygt_at G18.1 g30 m1 (by rw [m1', tn]; exact nl2 0 (by omega) (by omega))
  obtain ⟨n4, n4'⟩ := ygt_at G18.1 g30 m4 (by rw [m4', k7]; exact nl2 3 (by omega) (by omega))
  obtain ⟨n9, n9'⟩ := ygt_at G18.1 g30 m9 (by rw [m9', k8]; exact nl2 7 (by omega) (by omega))
  have aP30 := al_keep G18.1 g30 a18 (nl2 1 (by omega) (by omega)) (nl2 4 (by omega) (by omega))
  -- trades
  obtain ⟨f1, f2, f3, f4, f5, f6, f7, f8⟩ := stay G30
  have hfr30 : u_fr d u30 2 2 u.2 = some aT := fr_e n1 rfl
  have hft30 : u_fr d u30 2 2 t = some bT := fr_e f1 rfl
  refine ev_b1 hfr30 (ev_b1 hft30 (ev_b1 (cl_e n4) ?_))
  refine ev_bc (P := fun _ u' c => ∃ o', u'.2 = u30.2 + c.1 ∧ c.1 ≤ 2 ∧ c.2 ≤ 600 ∧ al_ d o' u' aT (16 * s + 3) (16 * s + 6) lT ∧ ygt_ b (Kl_ (16 * s + 3) (16 * s + 6)) o30 u30 o' u') (ul_addAll G30.1 hc n4 ((n4'.trans m4').trans k7) f4 (al2_elt f8) lenT (by omega) (by omega)) (fun _ u' c hp => by obtain ⟨o', h1, _⟩ := hp; exact h1) (fun _ u42 c3' hp => ?_)
  obtain ⟨o42, z42, c42, d42, a42, g42⟩ := hp
  have G42 := old G30 g42 (fun t z => by rcases z with z | z <;> omega)
  have nl3 : ∀ r, r ≠ 3 → r ≠ 6 → ¬ Kl_ (16 * s + 3) (16 * s + 6) (16 * s + r) := fun r h1 h2 z => by rcases z with z | z <;> omega
  obtain ⟨q1, q1'⟩ := ygt_at G30.1 g42 n1 (by rw [n1', m1', tn]; exact nl3 0 (by omega) (by omega))
  obtain ⟨q9, q9'⟩ := ygt_at G30.1 g42 n9 (by rw [n9', m9', k8]; exact nl3 7 (by omega) (by omega))
  have aP42 := al_keep G30.1 g42 aP30 (nl3 1 (by omega) (by omega)) (nl3 4 (by omega) (by omega))
  have aK42 := al_keep G30.1 g42 a30 (nl3 2 (by omega) (by omega)) (nl3 5 (by omega) (by omega))
  obtain ⟨f1, f2, f3, f4, f5, f6, f7, f8⟩ := stay G42
  have t0 : o42 u.2 = 16 * s := ((q1'.trans n1').trans m1').trans tn
  have t7 : o42 aC = 16 * s + 7 := ((q9'.trans n9').trans m9').trans k8
  have ha1 : u_fr d u42 2 3 t = some bC := fr_e f1 rfl
  have ha2 : u_fr d u42 2 3 u.2 = some aC := fr_e q1 rfl
  refine ev_b1 ha1 (ev_b1 ha2 (ev_b1 ha1 (ev_b1 (lnI_e f5) (ev_b1 (xcI_e f5 q9 (by omega)) ?_))))
  have c5 := ch_set q9 (.inl (d.1 0, 64, .inl (va_cpy fo f 0 0 64)))
  have g5 := ygt_ch (K := K1_ (16 * s + 7)) G42.1 q9 c5 (kd1_a _ _) t7
  have G5 := old G42 g5 (fun t z => by have : t = 16 * s + 7 := z; omega)
  obtain ⟨f1, f2, f3, f4, f5, f6, f7, f8⟩ := stay G5
  refine ev_b1 (fi_e f1 rfl) ?_
  have nk7 : ∀ r, r ≠ 7 → ¬ K1_ (16 * s + 7) (16 * s + r) := fun r h1 z => by have : 16 * s + r = 16 * s + 7 := z; omega
  obtain ⟨w1, w1'⟩ := ygt_at G42.1 g5 q1 (by rw [t0]; exact nk7 0 (by omega))
  refine ev_pf w1 (by simp) (fun w58 c58 => ?_)
  have g6' := ygt_ch (K := K1_ (16 * s)) G5.1 w1 c58 (kd1_o _ _ _) t0
  have G7 := old G5 g6' (fun t z => by have : t = 16 * s := z; omega)
  have nk0 : ∀ r, 1 ≤ r → ¬ K1_ (16 * s) (16 * s + r) := fun r h1 z => by have : 16 * s + r = 16 * s := z; omega
  obtain ⟨f1, f2, f3, f4, f5, f6, f7, f8⟩ := stay G7
  refine ev_some ⟨o42, rfl, ?_, ?_, ?_, G7, aP, aK, aT, aC, lP, lK, lT, va_cpy fo f 0 0 64, c58.2.1, t0, al_keep G5.1 g6' (al_keep G42.1 g5 aP42 (nk7 1 (by omega)) (nk7 4 (by omega))) (nk0 1 (by omega)) (nk0 4 (by omega)), al_keep G5.1 g6' (al_keep G42.1 g5 aK42 (nk7 2 (by omega)) (nk7 5 (by omega))) (nk0 2 (by omega)) (nk0 5 (by omega)), al_keep G5.1 g6' (al_keep G42.1 g5 a42 (nk7 3 (by omega)) (nk7 6 (by omega))) (nk0 3 (by omega)) (nk0 6 (by omega)), (ygt_at G5.1 g6' c5.2.1 (by rw [t7]; exact nk0 7 (by omega))).1, t7, fun k hk => ?_, f6, f7, f8⟩
  · show u42.2 = u.2 + (1 + (4 + (c1.1 + (c2'.1 + (c3'.1 + 0)))))
    have := c2.1; omega
  · show 1 + (4 + (c1.1 + (c2'.1 + (c3'.1 + 0)))) ≤ 20; omega
  · show 5 + (73 + (c1.2 + (c2'.2 + (c3'.2 + 0)))) ≤ 2000; omega
  · unfold va_cpy
    rw [if_pos (by omega), show 0 + (k - 0) = k by omega]
    exact e8 k hk
/-! trades that are made -/
theorem ut_init {d : UD} {b : Nat} {o : Nat → Nat} {u : UM} (h0 : uw_ b u) {a : Nat} {x0 x1 x2 x3 x4 : Value} (e : ob_ u a 6 [x0, x1, x2, x3, x4]) (v0 v1 v2 v3 v4 : Int32) (h4 : m_01 v4 = true) : Ev_ (fun n => uf_X6_init n d u a v0 v1 v2 v3 v4) (fun r => r.2 = (0, 0) ∧ r.1.2.2 = u.2 ∧ ch_ u r.1.2 a (.inr (6, [.int v0, .int v1, .int v2, .int v3, .int v4]))) := by
  have tr : ∀ {u v w : UM} {a : Nat} {x y : va_E}, ch_ u v a x → ch_ v w a y → ch_ u w a y := fun h g => ⟨g.1.trans h.1, g.2.1, fun c hc => (g.2.2 c hc).trans (h.2.2 c hc)⟩
  unfold uf_X6_init
  refine ev_pf e (by simp) (fun w1 c1 => ?_)
  refine ev_pf (u := (w1, u.2)) c1.2.1 (by simp) (fun w2 c2 => ?_)
  refine ev_pf (u := (w2, u.2)) c2.2.1 (by simp) (fun w3 c3 => ?_)
  refine ev_pf (u := (w3, u.2)) c3.2.1 (by simp) (fun w4 c4 => ?_)
  refine ev_g h4 ?_
  refine ev_pf (u := (w4, u.2)) c4.2.1 (by simp) (fun w5 c5 => ?_)
  exact ev_some ⟨rfl, rfl, tr c1 (tr c2 (tr c3 (tr c4 c5)))⟩
/-- a new trade -/
theorem ut_new {d : UD} {b : Nat} {o : Nat → Nat} {u : UM} (h0 : uw_ b u) (t : Tr_) {v0 v1 v2 v3 v4 : Int32} (e0 : v0 = n_ t.1) (e1 : v1 = n_ t.2.1) (e2 : v2 = q_ t.2.2.1) (e3 : v3 = n_ t.2.2.2.1) (e4 : v4 = n_ (if t.2.2.2.2 then 1 else 0)) {α : Type} {G : Nat → UM → Option (α × UC)} {Q : α × UC → Prop} (g : ∀ v, v.2 = u.2 + 1 → ygt_ b K0_ o u (ot_ o u.2 14) v → td_ (ot_ o u.2 14) v u.2 t → Ev_ (fun n => G n v) (fun r => Q (r.1, u_add (1, 5) r.2))) : Ev_ (fun n => u_ac (1, 5) (m_b (some (u_nw u (.inr (6, [.int 0, .int 0, .int 0, .int 0, .int 0])))) (fun u2 => u_bc u2.2 (uf_X6_init n d u2 u.2 v0 v1 v2 v3 v4) (fun _ u6 => G n u6)))) Q := by
  refine ev_ac (ev_nw h0 (fun u2 c2 => ?_))
  have g2 := ygt_nw (K := K0_) (o := o) h0 c2 14
  have h4 : m_01 v4 = true := by rw [e4]; split <;> decide
  refine ev_bc (P := fun _ u6 c => c = (0, 0) ∧ u6.2 = u2.2 ∧ ch_ u2 u6 u.2 (.inr (6, [.int v0, .int v1, .int v2, .int v3, .int v4]))) (ut_init (o := o) g2.1 c2.2.1 v0 v1 v2 v3 v4 h4) (fun _ u6 c hp => by rw [hp.1]; exact hp.2.1) (fun _ u6 c hp => ?_)
  obtain ⟨rfl, p2, p3⟩ := hp
  have := g u6 (by rw [p2, c2.1]) (ygt_chn h0 g2 (Nat.le_refl _) c2.2.1 p3 (kd1_o _ _ _)) ⟨by rw [← e0, ← e1, ← e2, ← e3, ← e4]; exact p3.2.1, ot_at _ _ _⟩
  exact ev_w this (fun r hr => by
    show Q (r.1, u_add (1, 5) (u_add (0, 0) r.2))
    rw [u_add_0]; exact hr)
