set_option maxRecDepth 100000
/-! The component's acts -/
/-- the picture, no first row being known, the state now at aN with number s0 -/
def yRm_ (d : UD) (b : Nat) (o : Nat → Nat) (u : UM) (t : Nat) (g : GS_) (aN s0 : Nat) : Prop := ∃ aW, yW_ d o u aW ∧ uw_ b u ∧ cE_ d b ∧ ∃ aL aT fr ids lS f, ob_ u t 1 [.ref aN, .ref aL, .ref aW, .int (q_ (-1)), va_rf fr, .ref aT, .int (n_ g.2.2.2.2.2.1), .int (q_ g.2.2.2.2.2.2.1), .int (q_ g.2.2.2.2.2.2.2)] ∧ o t = 1 ∧ (s0 :: ids).Nodup ∧ (∀ s ∈ s0 :: ids, 10 ≤ s) ∧ ys_ d o u aN s0 g.1 g.2.1 (g_s g) ∧ yP_ d o u aL g.1 g.2.1 ids lS (g_past g) ∧ bA_ d u aT 900 f ∧ o aT = 12 ∧ ∀ i, i < g.2.2.2.2.2.1 → f i = g.2.2.2.2.1 i
theorem yRm_R {d : UD} {b : Nat} {o : Nat → Nat} {u : UM} {t : Nat} {g : GS_} {aN s0 : Nat} (h : yRm_ d b o u t g aN s0) : yR_ d b o u t g := by
  obtain ⟨aW, hW, h0, hc, aL, aT, fr, ids, lS, f, e1, e2, e3, e4, e5, e6, e7, e8, e9⟩ := h
  exact ⟨aW, ⟨h0, hc, aN, aL, aT, q_ (-1), fr, s0, ids, lS, f, e1, e2, e3, e4, e5, e6, Or.inl rfl, e7, e8, e9⟩, hW⟩
/-- the state now changes -/
theorem yRm_set {d : UD} {b : Nat} {K : Nat → Prop} {o o' : Nat → Nat} {u u' : UM} {t : Nat} {g : GS_} {aN s0 : Nat} (h : yRm_ d b o u t g aN s0) (gg : ygt_ b K o u o' u') (hK : ∀ x, K x → Ks_ s0 x ∨ K2_ x) {x : SS_} (hx : ys_ d o' u' aN s0 g.1 g.2.1 x) : yRm_ d b o' u' t (g_set g x) aN s0 := by
  obtain ⟨aW, hW, h0, hc, aL, aT, fr, ids, lS, f, e1, e2, e3, e4, e5, e6, e7, e8, e9⟩ := h
  have s10 := e4 s0 (by simp)
  have nk : ∀ x, ¬ (Ks_ s0 x ∨ K2_ x) → ¬ K x := fun x hx z => hx (hK x z)
  have sm : ∀ x, x ≤ 14 → ¬ K x := fun x hx => nk _ (fun z => by
    rcases z with z | z
    · unfold Ks_ at z; omega
    · unfold K2_ at z; omega)
  have big : ∀ s ∈ ids, ∀ r, r < 8 → ¬ K (16 * s + r) := fun s hs r hr => nk _ (fun z => by
    have h1 := e4 s (List.mem_cons_of_mem _ hs)
    have h2 : s0 ≠ s := fun e => (List.nodup_cons.mp e3).1 (e ▸ hs)
    rcases z with z | z
    · unfold Ks_ at z; omega
    · unfold K2_ at z; omega)
  obtain ⟨a1, a2⟩ := ygt_at h0 gg e1 (by rw [e2]; exact sm 1 (by omega))
  obtain ⟨b1, b2⟩ := ygt_at h0 gg e7 (by rw [e8]; exact sm 12 (by omega))
  exact ⟨aW, yW_keep h0 gg hW (fun t h4 h11 => sm t (by omega)), gg.1, hc, aL, aT, fr, ids, lS, f, a1, a2.trans e2, e3, e4, hx, yP_keep h0 gg e6 (sm 14 (by omega)) (sm 2 (by omega)) (sm 3 (by omega)) big, b1, b2.trans e8, e9⟩
theorem yS_el {d : UD} {o : Nat → Nat} {u : UM} {a s : Nat} {ps ks : List (List Nat)} {x : SS_} (h : ys_ d o u a s ps ks x) : u_el u a = true := by
  obtain ⟨aP, aK, aT, aC, lP, lK, lT, f, e1, _⟩ := h
  unfold u_el; rw [show u_get u.1 a = _ from e1]; rfl
theorem yP_el {d : UD} {o : Nat → Nat} {u : UM} {a : Nat} {ps ks : List (List Nat)} {ids lS : List Nat} {xs : List SS_} (h : yP_ d o u a ps ks ids lS xs) : ∀ x ∈ lS, u_el u x = true := fun x hx => by
  obtain ⟨i, hi, e⟩ := List.getElem_of_mem hx
  rw [← e]; exact yS_el (h.2.2.2 i hi (by rw [h.2.1, ← h.2.2.1]; exact hi) (by rw [← h.2.2.1]; exact hi))
/-- the past is another one -/
def g_pst (g : GS_) (xs : List SS_) : GS_ := (g.1, g.2.1, g.2.2.1, xs, g.2.2.2.2)
theorem uq_acts21 {d : UD} {b : Nat} {o : Nat → Nat} {u : UM} {t : Nat} {g : GS_} (h : yR_ d b o u t g) (ok : g_ok g) : Ev_ (fun n => uf_X0_acts_J21 n d u t) (fun r => ∃ o' aN s0, yRm_ d b o' r.1.2 t (g_pst g (g_past g ++ [g_s g])) aN s0 ∧ r.1.2.2 = u.2 + r.2.1 ∧ r.2.1 ≤ 25 ∧ r.2.2 ≤ 2500 ∧ ygt_ b (fun x => x ≤ 3) o u o' r.1.2) := by
  obtain ⟨aW, ⟨h0, hc, aN, aL, aT, fk, fr, s0, ids, lS, f, e1, e2, e3, e4, e5, e6, e7, e8, e9, e10⟩, hW⟩ := h
  obtain ⟨fn, hfn⟩ := ys_cl e5
  have h40 := ok.2.2.1.2.2.1
  have h8 : g.1.length ≤ 8 := ok.1
  have h4 : g.2.1.length ≤ 4 := ok.2.1
  have h10 := ok.2.2.2.2.1
  obtain ⟨s, hs10, hsn, hsf⟩ := tag_new o h0 (s0 :: ids)
  have s010 := e4 s0 (by simp)
  unfold uf_X0_acts_J21
  refine ev_b1 (fr_e e1 rfl) (ev_b1 (fr_e e1 rfl) (ev_b1 hfn ?_))
  refine ev_bc (P := fun r u16 c => ∃ o', r = u.2 ∧ u16.2 = u.2 + c.1 ∧ c.1 ≤ 20 ∧ c.2 ≤ 2000 ∧ ygt_ b K0_ o u o' u16 ∧ ys_ d o' u16 u.2 s g.1 g.2.1 (g_s g)) (us_copy h0 hc e5 ⟨h40, h8, h4⟩ hs10 hsf) (fun r u16 c hp => by obtain ⟨o', _, h2, _⟩ := hp; exact h2) (fun r u16 c hp => ?_)
  obtain ⟨o1, rfl, z1, c1, c2, g1, y1⟩ := hp
  have k0 : ∀ x, ¬ K0_ x := fun x z => z
  obtain ⟨a1, a2⟩ := ygt_at h0 g1 e1 (k0 _)
  have p1 := yP_keep h0 g1 e6 (k0 _) (k0 _) (k0 _) (fun s hs r hr => k0 _)
  have n1 := ys_keep h0 g1 e5 (k0 _) (fun r hr => k0 _)
  have w1 := yW_keep h0 g1 hW (fun t _ _ => k0 _)
  obtain ⟨b1, b2⟩ := ygt_at h0 g1 e8 (k0 _)
  obtain ⟨fl, hfl⟩ := al_cl p1.1
  refine ev_b1 hfl ?_
  have lenS : lS.length ≤ 100 := by have := e6.2.2.1; omega
  refine ev_bc (P := fun _ u24 c => ∃ o', u24.2 = u16.2 + c.1 ∧ c.1 ≤ 1 ∧ c.2 ≤ 400 ∧ al_ d o' u24 aL 2 3 (lS ++ [u.2]) ∧ ygt_ b (Kl_ 2 3) o1 u16 o' u24) (ul_add g1.1 hc p1.1 (yP_el p1) lenS (yS_el y1)) (fun r u24 c hp => by obtain ⟨o', h2, _⟩ := hp; exact h2) (fun _ u24 c' hp => ?_)
  obtain ⟨o2, z2, d1, d2, l2, g2⟩ := hp
  have k2 : ∀ x, x ≠ 2 → x ≠ 3 → ¬ Kl_ 2 3 x := fun x h1 h2 z => by rcases z with z | z <;> omega
  obtain ⟨a3, a4⟩ := ygt_at g1.1 g2 a1 (k2 _ (by rw [a2, e2]; omega) (by rw [a2, e2]; omega))
  have n2 := ys_keep g1.1 g2 n1 (k2 _ (by omega) (by omega)) (fun r hr => k2 _ (by omega) (by omega))
  have y2 := ys_keep g1.1 g2 y1 (k2 _ (by omega) (by omega)) (fun r hr => k2 _ (by omega) (by omega))
  have w2 := yW_keep g1.1 g2 w1 (fun t _ _ => k2 _ (by omega) (by omega))
  obtain ⟨b3, b4⟩ := ygt_at g1.1 g2 b1 (k2 _ (by rw [b2, e9]; omega) (by rw [b2, e9]; omega))
  refine ev_pf a3 (by simp) (fun w28 c28 => ?_)
  have t2 : o2 t = 1 := (a4.trans a2).trans e2
  have g3 := ygt_ch (K := K1_ 1) g2.1 a3 c28 (kd1_o _ _ _) t2
  have k1 : ∀ x, x ≠ 1 → ¬ K1_ 1 x := fun x h1 z => h1 z
  refine ev_some ⟨o2, aN, s0, ⟨aW, yW_keep g2.1 g3 w2 (fun t _ _ => k1 _ (by omega)), g3.1, hc, aL, aT, fr, ids ++ [s], lS ++ [u.2], f, ?_, t2, ?_, fun x hx => ?_, ys_keep g2.1 g3 n2 (k1 _ (by omega)) (fun r hr => k1 _ (by omega)), ⟨al_keep g2.1 g3 l2 (k1 _ (by omega)) (k1 _ (by omega)), ?_, ?_, fun i hi hi' hi'' => ?_⟩, (ygt_at g2.1 g3 b3 (k1 _ (by rw [b4, b2, e9]; omega))).1, (b4.trans b2).trans e9, e10⟩, ?_, ?_, ?_, ygt_tr h0 (ygt_sub g1 (fun x z => z.elim)) (ygt_tr g1.1 (ygt_sub g2 (fun x z => by rcases z with z | z <;> omega)) (ygt_sub g3 (fun x z => by cases z; omega)))⟩
  · rw [← m1_q]; exact c28.2.1
  · rw [← List.cons_append, List.nodup_append]
    refine ⟨e3, by simp, fun x hx y hy => ?_⟩
    rw [List.mem_singleton.mp hy]
    exact fun e => hsn (e ▸ hx)
  · rw [← List.cons_append] at hx
    rcases List.mem_append.mp hx with z | z
    · exact e4 x z
    · rw [List.mem_singleton.mp z]; exact hs10
  · show (ids ++ [s]).length = (g_past g ++ [g_s g]).length
    rw [List.length_append, List.length_append, e6.2.1]; rfl
  · show (lS ++ [u.2]).length = (g_past g ++ [g_s g]).length
    rw [List.length_append, List.length_append, e6.2.2.1]; rfl
  · have l1 := e6.2.1
    have l3 := e6.2.2.1
    have hi1 : i < (lS ++ [u.2]).length := hi
    rw [List.length_append] at hi1
    simp only [List.length_singleton] at hi1
    show ys_ d o2 (w28, u24.2) (lS ++ [u.2])[i] (ids ++ [s])[i] g.1 g.2.1 ((g_past g ++ [g_s g])[i]'hi'')
    by_cases c : i < lS.length
    · have e' := List.getElem_append_left (bs := [g_s g]) (h' := hi'') (show i < (g_past g).length by omega)
      rw [List.getElem_append_left c, List.getElem_append_left (show i < ids.length by omega), e']
      have hid : ids[i] ∈ ids := List.getElem_mem _
      have h10' := e4 _ (List.mem_cons_of_mem s0 hid)
      exact ys_keep g2.1 g3 (ys_keep g1.1 g2 (p1.2.2.2 i c (by omega) (by omega)) (k2 _ (by omega) (by omega)) (fun r hr => k2 _ (by omega) (by omega))) (k1 _ (by omega)) (fun r hr => k1 _ (by omega))
    · have e' := List.getElem_append_right (bs := [g_s g]) (h₂ := hi'') (show (g_past g).length ≤ i by omega)
      rw [List.getElem_append_right (by omega), List.getElem_append_right (by omega), e']
      simp only [List.getElem_singleton]
      exact ys_keep g2.1 g3 y2 (k1 _ (by omega)) (fun r hr => k1 _ (by omega))
  · show u24.2 = u.2 + (c.1 + (c'.1 + 0)); omega
  · show c.1 + (c'.1 + 0) ≤ 25; omega
  · show c.2 + (c'.2 + 0) ≤ 2500; omega
theorem uq_actsK {d : UD} {b : Nat} {o : Nat → Nat} {u : UM} {t : Nat} {g : GS_} (h : yR_ d b o u t g) (ok : g_ok g) : Ev_ (fun n => uf_X0_acts n d u t) (fun r => ∃ o' aN s0, yRm_ d b o' r.1.2 t (g_push g) aN s0 ∧ r.1.2.2 = u.2 + r.2.1 ∧ r.2.1 ≤ 25 ∧ r.2.2 ≤ 2500 ∧ ygt_ b (fun x => x ≤ 3) o u o' r.1.2) := by
  obtain ⟨h0', aN', s0', fs', k1', k2', k3', k4', k5', k6', aL', lS', fl', k7', k8', k9', k10'⟩ := yR_N h
  have h10 := ok.2.2.2.2.1
  unfold uf_X0_acts
  refine ev_b1 k7' (ev_b1 k8' (ev_bn (fun n => ul_size n k10') ?_))
  rw [k9']
  refine ev_ifq (c' := (g_past g).length = 10) (by rw [n_lit 10, n_eq (by omega) (by omega)]) (fun c => ?_) (fun c => ?_)
  · refine ev_b1 k7' (ev_b1 k8' ?_)
    obtain ⟨aW, ⟨h0, hc, aN, aL, aT, fk, fr, s0, ids, lS, f, e1, e2, e3, e4, e5, e6, e7, e8, e9, e10⟩, hW⟩ := id h
    have eL : aL' = aL := by
      have := fr_e (d := d) e1 (k := 1) rfl
      rw [k7'] at this; exact Option.some.inj this
    subst eL
    have l3 := e6.2.2.1
    have l1 := e6.2.1
    rw [show (0 : Int32) = n_ 0 from n_lit 0]
    refine ev_bc (P := fun _ u36 c => c = (0, 0) ∧ u36.2 = u.2 ∧ al_ d o u36 aL' 2 3 (lS.eraseIdx 0) ∧ ygt_ b (Kl_ 2 3) o u o u36) (ev_w (ul_remove h0 e6.1 (yP_el e6) (show 0 < lS.length by omega)) (fun r hr => ⟨hr.1, hr.2.2⟩)) (fun _ u36 c hp => by rw [hp.1]; exact hp.2.1) (fun _ u36 c' hp => ?_)
    obtain ⟨rfl, z1, l2, g2⟩ := hp
    have k2 : ∀ x, x ≠ 2 → x ≠ 3 → ¬ Kl_ 2 3 x := fun x h1 h2 z => by rcases z with z | z <;> omega
    have s010 := e4 s0 (by simp)
    obtain ⟨a1, a2⟩ := ygt_at h0 g2 e1 (k2 _ (by rw [e2]; omega) (by rw [e2]; omega))
    obtain ⟨b1, b2⟩ := ygt_at h0 g2 e8 (k2 _ (by rw [e9]; omega) (by rw [e9]; omega))
    have R1 : yR_ d b o u36 t (g_pst g (g_past g).tail) := by
      refine ⟨aW, ⟨g2.1, hc, aN, aL', aT, fk, fr, s0, ids.tail, lS.tail, f, a1, e2, ?_, fun s hs => e4 s ?_, ys_keep h0 g2 e5 (k2 _ (by omega) (by omega)) (fun r hr => k2 _ (by omega) (by omega)), ⟨by rw [← List.eraseIdx_zero]; exact l2, ?_, ?_, fun i hi hi' hi'' => ?_⟩, yF_keep h0 g2 e7 (k2 _ (by omega) (by omega)), b1, e9, e10⟩, yW_keep h0 g2 hW (fun t _ _ => k2 _ (by omega) (by omega))⟩
      · have := List.nodup_cons.mp e3
        exact List.nodup_cons.mpr ⟨fun z => this.1 (List.mem_of_mem_tail z), this.2.sublist (List.tail_sublist _)⟩
      · rcases List.mem_cons.mp hs with z | z
        · rw [z]; simp
        · exact List.mem_cons_of_mem _ (List.mem_of_mem_tail z)
      · show ids.tail.length = (g_past g).tail.length
        rw [List.length_tail, List.length_tail, l1]
      · show lS.tail.length = (g_past g).tail.length
        rw [List.length_tail, List.length_tail, l3]
      · show ys_ d o u36 lS.tail[i] ids.tail[i] g.1 g.2.1 ((g_past g).tail[i]'hi'')
        rw [List.length_tail] at hi hi'
        have et := List.getElem_tail (l := g_past g) (i := i) hi''
        rw [List.getElem_tail, List.getElem_tail, et]
        have hid : ids[i + 1] ∈ ids := List.getElem_mem _
        have h10' := e4 _ (List.mem_cons_of_mem s0 hid)
        exact ys_keep h0 g2 (e6.2.2.2 (i + 1) (by omega) (by omega) (by omega)) (k2 _ (by omega) (by omega)) (fun r hr => k2 _ (by omega) (by omega))
    have ok1 : g_ok (g_pst g (g_past g).tail) := ⟨ok.1, ok.2.1, ok.2.2.1, fun s hs => ok.2.2.2.1 s (List.mem_of_mem_tail hs), by show (g_past g).tail.length ≤ 10; rw [List.length_tail]; omega, ok.2.2.2.2.2⟩
    refine ev_w (uq_acts21 R1 ok1) (fun r hr => ?_)
    obtain ⟨o', aN1, s1, q1, q2, q3, q4, q5⟩ := hr
    refine ⟨o', aN1, s1, ?_, ?_, ?_, ?_, ygt_tr h0 (ygt_sub g2 (fun x z => by rcases z with z | z <;> omega)) q5⟩
    · have : g_push g = g_pst (g_pst g (g_past g).tail) (g_past (g_pst g (g_past g).tail) ++ [g_s (g_pst g (g_past g).tail)]) := by
        unfold g_push; rw [if_pos c]; rfl
      rw [this]; exact q1
    · rw [u_add_0]; rw [z1] at q2; exact q2
    · rw [u_add_0]; exact q3
    · rw [u_add_0]; exact q4
  · refine ev_w (uq_acts21 h ok) (fun r hr => ?_)
    obtain ⟨o', aN1, s1, q1, q2⟩ := hr
    refine ⟨o', aN1, s1, ?_, q2⟩
    have : g_push g = g_pst g (g_past g ++ [g_s g]) := by unfold g_push; rw [if_neg c]; rfl
    rw [this]; exact q1
theorem uq_acts {d : UD} {b : Nat} {o : Nat → Nat} {u : UM} {t : Nat} {g : GS_} (h : yR_ d b o u t g) (ok : g_ok g) : Ev_ (fun n => uf_X0_acts n d u t) (fun r => ∃ o' aN s0, yRm_ d b o' r.1.2 t (g_push g) aN s0 ∧ r.1.2.2 = u.2 + r.2.1 ∧ r.2.1 ≤ 25 ∧ r.2.2 ≤ 2500) :=
  ev_w (uq_actsK h ok) (fun r hr => by
    obtain ⟨o', aN, s0, q1, q2, q3, q4, _⟩ := hr
    exact ⟨o', aN, s0, q1, q2, q3, q4⟩)
