set_option maxRecDepth 100000
/-! A new state; trades that are made -/
theorem us_init {d : UD} {b : Nat} {o : Nat → Nat} {u : UM} (h0 : uw_ b u) {t s : Nat} (et : ob_ u t 2 [.null, .null, .null, .null, .int 0]) (ht : o t = 16 * s) (hfr : ∀ a, a < u.2 → a ≠ t → o a < 16 * s) : Ev_ (fun n => uf_X1_init n d u t) (fun r => ∃ o', r.2 = (4, 73) ∧ r.1.2.2 = u.2 + 4 ∧ ygt_ b (K1_ (16 * s)) o u o' r.1.2 ∧ ys_ d o' r.1.2 t s [] [] ([], fun _ => 99999999, 0) ∧ ∃ aP aK aT aC f, ob_ r.1.2 t 2 [.ref aP, .ref aK, .ref aT, .ref aC, .int 0] ∧ ob_ r.1.2 aP 13 [.int 0, .ref (d.2 0), .int 0] ∧ ob_ r.1.2 aK 13 [.int 0, .ref (d.2 0), .int 0] ∧ ob_ r.1.2 aT 13 [.int 0, .ref (d.2 0), .int 0] ∧ o' aP = 16 * s + 1 ∧ o' aK = 16 * s + 2 ∧ o' aT = 16 * s + 3 ∧ o' aC = 16 * s + 7 ∧ iA_ d r.1.2 aC 64 f ∧ ∀ a, a < r.1.2.2 → a < u.2 ∧ o' a = o a ∨ 16 * s + 1 ≤ o' a ∧ o' a ≤ 16 * s + 7) := by
  have htb := (h0.2 _ _ et).2
  have hne : ∀ a, a < u.2 → ∀ r, 1 ≤ r → o a ≠ 16 * s + r := fun a ha r hr => by
    by_cases e : a = t
    · rw [e, ht]; omega
    · have := hfr a ha e; omega
  unfold uf_X1_init
  refine us_newl (k := 0) (tl := 16 * s + 1) (ta := 16 * s + 4) h0 et ht (by simp) (fun a ha => hne a ha 1 (by omega)) (fun w1 v1 o1 hz1 g1 e1 t1 l1 b1 ho1 => ?_)
  generalize v1.2 = z1 at *
  have hn1 : ∀ a, a < z1 → o1 a ≠ 16 * s + 2 ∧ o1 a ≠ 16 * s + 3 := fun a ha => by
    rw [ho1]
    by_cases e : a = u.2
    · rw [e, ot_at]; omega
    · rw [ot_ne e]; exact ⟨hne a (by omega) 2 (by omega), hne a (by omega) 3 (by omega)⟩
  refine us_newl (k := 1) (u := (w1, z1)) (o := o1) (tl := 16 * s + 2) (ta := 16 * s + 5) g1.1 e1 t1 (by simp) (fun a ha => (hn1 a ha).1) (fun w2 v2 o2 hz2 g2 e2 t2 l2 b2 ho2 => ?_)
  generalize v2.2 = z2 at *
  have hn2 : ∀ a, a < z2 → o2 a ≠ 16 * s + 3 := fun a ha => by
    rw [ho2]
    dsimp only at hz2 ⊢
    by_cases e : a = z1
    · rw [e, ot_at]; omega
    · rw [ot_ne e]; exact (hn1 a (by omega)).2
  refine us_newl (k := 2) (u := (w2, z2)) (o := o2) (tl := 16 * s + 3) (ta := 16 * s + 6) g2.1 e2 t2 (by simp) hn2 (fun w3 v3 o3 hz3 g3 e3 t3 l3 b3 ho3 => ?_)
  generalize v3.2 = z3 at *
  dsimp only at hz1 hz2 hz3 e1 e2 e3 b1 b2 b3 l1 l2 l3
  -- how the three lists lie now
  have d1 : ∀ {K : Nat → Prop} {o o' : Nat → Nat} {x y : UM} {a r : Nat} {fs : List Value}, uw_ b x → ygt_ b K o x o' y → ob_ x a 13 fs → o a = r → ¬ K r → ob_ y a 13 fs ∧ o' a = r := fun hx g hb ho hk => by
    obtain ⟨q1, q2⟩ := ygt_at hx g hb (by rw [ho]; exact hk)
    exact ⟨q1, q2.trans ho⟩
  have tag1 : o1 u.2 = 16 * s + 1 := by rw [ho1]; exact ot_at _ _ _
  have tag2 : o2 z1 = 16 * s + 2 := by rw [ho2]; exact ot_at _ _ _
  have tag3 : o3 z2 = 16 * s + 3 := by rw [ho3]; exact ot_at _ _ _
  have m1 := d1 g1.1 g2 b1 tag1 (by unfold K1_; omega)
  have m1 := d1 g2.1 g3 m1.1 m1.2 (by unfold K1_; omega)
  have m2 := d1 g2.1 g3 b2 tag2 (by unfold K1_; omega)
  have n1 := al_keep g2.1 g3 (al_keep g1.1 g2 l1 (by unfold K1_; omega) (by unfold K1_; omega)) (by unfold K1_; omega) (by unfold K1_; omega)
  have n2 := al_keep g2.1 g3 l2 (by unfold K1_; omega) (by unfold K1_; omega)
  have G3 := ygt_tr h0 g1 (ygt_tr g1.1 g2 g3)
  rw [show (64 : Int32) = n_ 64 from n_lit 64]
  refine ev_g (ln_e (by omega)) (ev_ac ?_)
  rw [n_nat (by omega)]
  refine ev_nw g3.1 (fun u4 c4 => ?_)
  have g4 := ygt_nw (K := K1_ (16 * s)) (o := o3) g3.1 c4 (16 * s + 7)
  have htz : t ≠ z3 := by omega
  have e4 : ob_ u4 t 2 ((([Value.null, .null, .null, .null, .int 0].set 0 (.ref u.2)).set 1 (.ref z1)).set 2 (.ref z2)) := (c4.2.2 t htz).trans e3
  refine ev_pf e4 (by simp) (fun w5 c5 => ?_)
  have t4 : ot_ o3 z3 (16 * s + 7) t = 16 * s := by rw [ot_ne htz]; exact t3
  have g5 := ygt_ch (K := K1_ (16 * s)) g4.1 e4 c5 (kd1_o _ _ _) t4
  have e5 : ob_ (w5, u4.2) t 2 [.ref u.2, .ref z1, .ref z2, .ref z3, .int 0] := c5.2.1
  have a5 : iA_ d (w5, u4.2) z3 64 (fun _ => 0) := (c5.2.2 z3 (fun z => htz z.symm)).trans c4.2.1
  have p1 := d1 g4.1 g5 (d1 g3.1 g4 m1.1 m1.2 (by unfold K1_; omega)).1 (d1 g3.1 g4 m1.1 m1.2 (by unfold K1_; omega)).2 (by unfold K1_; omega)
  have p2 := d1 g4.1 g5 (d1 g3.1 g4 m2.1 m2.2 (by unfold K1_; omega)).1 (d1 g3.1 g4 m2.1 m2.2 (by unfold K1_; omega)).2 (by unfold K1_; omega)
  have p3 := d1 g4.1 g5 (d1 g3.1 g4 b3 tag3 (by unfold K1_; omega)).1 (d1 g3.1 g4 b3 tag3 (by unfold K1_; omega)).2 (by unfold K1_; omega)
  have q1 := al_keep g4.1 g5 (al_keep g3.1 g4 n1 (by unfold K1_; omega) (by unfold K1_; omega)) (by unfold K1_; omega) (by unfold K1_; omega)
  have q2 := al_keep g4.1 g5 (al_keep g3.1 g4 n2 (by unfold K1_; omega) (by unfold K1_; omega)) (by unfold K1_; omega) (by unfold K1_; omega)
  have q3 := al_keep g4.1 g5 (al_keep g3.1 g4 l3 (by unfold K1_; omega) (by unfold K1_; omega)) (by unfold K1_; omega) (by unfold K1_; omega)
  have G5 := ygt_tr h0 G3 (ygt_tr g3.1 g4 g5)
  have hz5 : u4.2 = u.2 + 4 := by rw [c4.1]; dsimp only; omega
  have t5 : ot_ o3 z3 (16 * s + 7) z3 = 16 * s + 7 := ot_at _ _ _
  have K7 : ∀ (u' : UM) (f : Nat → Int32), ygt_ b (K1_ (16 * s + 7)) (ot_ o3 z3 (16 * s + 7)) (w5, u4.2) (ot_ o3 z3 (16 * s + 7)) u' → ygt_ b (K1_ (16 * s)) o u (ot_ o3 z3 (16 * s + 7)) u' := fun u' f g => ygt_trn h0 G5 g (fun a x ha z => absurd z (hne a ((h0.2 _ _ ha).2) 7 (by omega)))
  refine ev_bl (P := fun u' c => c = (0, 0) ∧ u'.2 = u4.2 ∧ ygt_ b (K1_ (16 * s + 7)) (ot_ o3 z3 (16 * s + 7)) (w5, u4.2) (ot_ o3 z3 (16 * s + 7)) u' ∧ ∃ f, iA_ d u' z3 64 f ∧ ∀ k, k < 64 → f k = 99999999) ?_ (fun u' c hp => ?_)
  · unfold uf_X1_init_L47l
    refine ev_uf (Q := fun u' => u'.2 = u4.2 ∧ ygt_ b (K1_ (16 * s + 7)) (ot_ o3 z3 (16 * s + 7)) (w5, u4.2) (ot_ o3 z3 (16 * s + 7)) u' ∧ ∃ f, iA_ d u' z3 64 f ∧ ∀ k, k < 64 → f k = 99999999) 64 (fun (i : Nat) (y : Int32 × UM) => y.1 = n_ i ∧ y.2.2 = u4.2 ∧ ygt_ b (K1_ (16 * s + 7)) (ot_ o3 z3 (16 * s + 7)) (w5, u4.2) (ot_ o3 z3 (16 * s + 7)) y.2 ∧ ∃ f, iA_ d y.2 z3 64 f ∧ ∀ k, k < i → f k = 99999999) (fun i y hi hP => ?_) (fun y hP => ?_) (0, (w5, u4.2)) ⟨n_lit 0, rfl, ygt_rfl g5.1, _, a5, fun k hk => absurd hk (Nat.not_lt_zero _)⟩
    · obtain ⟨v, u1⟩ := y
      obtain ⟨r1, r2, r3, f, r4, r5⟩ := hP
      dsimp only at r1 r2 r3 r4 ⊢
      subst r1
      obtain ⟨e6, _⟩ := ygt_at g5.1 r3 e5 (by rw [t4]; unfold K1_; omega)
      have hfr : u_fr d u1 2 3 t = some z3 := fr_e e6 rfl
      unfold uf_X1_init_L47
      simp only [hfr, m_bs, lnI_e r4]
      refine ev_ifF (by rw [n_le (by omega) (by omega)]; omega) ?_
      refine ev_b1 (stI_e r4 hi (by omega) 99999999) ?_
      have c6 := ch_set r4 (.inl (d.1 0, 64, .inl (upd f i 99999999)))
      refine ev_some ⟨_, rfl, by rw [n_lit 1, n_add], r2, ygt_tr g5.1 r3 (ygt_ch r3.1 r4 c6 (kd1_a _ _) t5), _, c6.2.1, fun k hk => ?_⟩
      by_cases e : k = i
      · rw [e, upd_at]
      · rw [upd_ne e]; exact r5 k (by omega)
    · obtain ⟨v, u1⟩ := y
      obtain ⟨r1, r2, r3, f, r4, r5⟩ := hP
      dsimp only at r1 r2 r3 r4 ⊢
      subst r1
      obtain ⟨e6, _⟩ := ygt_at g5.1 r3 e5 (by rw [t4]; unfold K1_; omega)
      have hfr : u_fr d u1 2 3 t = some z3 := fr_e e6 rfl
      unfold uf_X1_init_L47
      simp only [hfr, m_bs, lnI_e r4]
      refine ev_ifT (by rw [n_le (by omega) (by omega)]; omega) (ev_some ⟨_, rfl, r2, r3, f, r4, r5⟩)
  · obtain ⟨rfl, x2, x3, f, x4, x5⟩ := hp
    have nk : ∀ r, r ≠ 16 * s + 7 → ¬ K1_ (16 * s + 7) r := fun r hr z => hr z
    obtain ⟨e6, t6⟩ := ygt_at g5.1 x3 e5 (by rw [t4]; exact nk _ (by omega))
    have y1 := d1 g5.1 x3 p1.1 p1.2 (nk _ (by omega))
    have y2 := d1 g5.1 x3 p2.1 p2.2 (nk _ (by omega))
    have y3 := d1 g5.1 x3 p3.1 p3.2 (nk _ (by omega))
    refine ev_some ⟨ot_ o3 z3 (16 * s + 7), rfl, x2.trans hz5, K7 u' f x3, ⟨u.2, z1, z2, z3, [], [], [], f, ?_, t4, al_keep g5.1 x3 q1 (nk _ (by omega)) (nk _ (by omega)), al_keep g5.1 x3 q2 (nk _ (by omega)) (nk _ (by omega)), al_keep g5.1 x3 q3 (nk _ (by omega)) (nk _ (by omega)), x4, t5, fun k hk => by rw [x5 k hk]; rfl, al2_nil, al2_nil, al2_nil⟩, u.2, z1, z2, z3, f, e6, y1.1, y2.1, y3.1, y1.2, y2.2, y3.2, t5, x4, fun a ha => ?_⟩
    · rw [show n_ (([] : List Tr_), (fun (_ : Nat) => (99999999 : Int)), 0).2.2 = 0 from (n_lit 0).symm]; exact e6
    · have ha' : a < u.2 + 4 := by
        have : a < u'.2 := ha
        rw [x2, hz5] at this; exact this
      by_cases c3 : a = z3
      · right; rw [c3, ot_at]; omega
      · rw [ot_ne c3, ho3]
        by_cases c2 : a = z2
        · right; rw [show z2 = (w2, z2).2 from rfl] at c2; rw [c2, ot_at]; omega
        · rw [ot_ne c2, ho2]
          by_cases c1 : a = z1
          · right; rw [show z1 = (w1, z1).2 from rfl] at c1; rw [c1, ot_at]; omega
          · rw [ot_ne c1, ho1]
            by_cases c0 : a = u.2
            · right; rw [c0, ot_at]; omega
            · left; exact ⟨by omega, ot_ne c0⟩
