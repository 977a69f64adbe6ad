set_option maxRecDepth 100000
/-! Bounds made; the Ways as they lie (printed by yE.py from the picture on) -/
theorem ub_by {d : UD} {b : Nat} {o : Nat → Nat} {u : UM} (h0 : uw_ b u) {af ac tc : Nat} {f fc : Nat → Int32} (hf : iA_ d u af 64 f) (tf : o af = 21) {F : Nat → Int} (eF : ∀ c, c < 64 → f c = q_ (F c)) (hc : iA_ d u ac 64 fc) (tC : o ac = tc) {s : SS_} (eC : ∀ c, c < 64 → fc c = q_ (s.2.1 c)) (hm : s.2.2 < 100) : Ev_ (fun n => uf_X9_by n d u (n_ s.2.2) af ac) (fun r => r.2 = (1, 1) ∧ r.1.1 = u.2 ∧ r.1.2.2 = u.2 + 1 ∧ ygt_ b K0_ o u (ot_ o u.2 26) r.1.2 ∧ yB_ d (ot_ o u.2 26) r.1.2 u.2 tc (ss_bd s F)) := by
  have nf : af ≠ u.2 := by have := (h0.2 _ _ hf).2; omega
  have nc : ac ≠ u.2 := by have := (h0.2 _ _ hc).2; omega
  unfold uf_X9_by uf_X10_init uf_X11_init uf_X12_init
  have core : ∀ (cl x : Nat) (fx : Nat → Int32), iA_ d u x 64 fx → x ≠ u.2 → (∀ w : UM, ob_ w u.2 cl [.ref x] → iA_ d w x 64 fx → yB_ d (ot_ o u.2 26) w u.2 tc (ss_bd s F)) → Ev_ (fun _ => u_ac (1, 1) (m_b (some (u_nw u (.inr (cl, [.null])))) (fun u11 => u_bc u11.2 (m_b (u_pf u11 cl 0 u.2 (.ref x)) (fun w1 => some (((), (w1, u11.2)), ((0, 0) : UC)))) (fun (_ : Unit) u15 => some ((u.2, u15), ((0, 0) : UC)))))) (fun r => r.2 = (1, 1) ∧ r.1.1 = u.2 ∧ r.1.2.2 = u.2 + 1 ∧ ygt_ b K0_ o u (ot_ o u.2 26) r.1.2 ∧ yB_ d (ot_ o u.2 26) r.1.2 u.2 tc (ss_bd s F)) := fun cl x fx hx nx hB => by
    refine ev_ac (ev_nw h0 (fun u2 c2 => ?_))
    have g2 := ygt_nw (K := K0_) (o := o) h0 c2 26
    refine ev_bc (P := fun _ u6 c => c = (0, 0) ∧ u6.2 = u2.2 ∧ ch_ u2 u6 u.2 (.inr (cl, [.ref x]))) (ev_pf c2.2.1 (by simp) (fun w c => ev_some ⟨rfl, rfl, c⟩)) (fun _ u6 c hp => by rw [hp.1]; exact hp.2.1) (fun _ u6 c hp => ?_)
    obtain ⟨rfl, p2, p3⟩ := hp
    refine ev_some ⟨rfl, rfl, by show u6.2 = u.2 + 1; rw [p2, c2.1], ygt_chn h0 g2 (Nat.le_refl _) c2.2.1 p3 (kd1_o _ _ _), hB u6 p3.2.1 ?_⟩
    exact (p3.2.2 x nx).trans ((c2.2.2 x nx).trans hx)
  have tt : ot_ o u.2 26 u.2 = 26 := ot_at _ _ _
  refine ev_ifq (c' := s.2.2 = 0) (by rw [n_lit 0, n_eq (by omega) (by omega)]) (fun c0 => ?_) (fun c0 => ?_)
  · exact core 9 af f hf nf (fun w h1 h2 => ⟨tt, af, f, h2, Or.inl ⟨h1, (ot_ne nf).trans tf, fun c hc => by unfold ss_bd; rw [if_pos c0]; exact eF c hc⟩⟩)
  · refine ev_ifq (c' := s.2.2 = 2) (by rw [n_lit 2, n_eq (by omega) (by omega)]) (fun c2 => ?_) (fun c2 => ?_)
    · exact core 10 ac fc hc nc (fun w h1 h2 => ⟨tt, ac, fc, h2, Or.inr (Or.inl ⟨h1, (ot_ne nc).trans tC, fun c hc => by unfold ss_bd; rw [if_neg c0, if_pos c2]; exact eC c hc⟩)⟩)
    · exact core 11 af f hf nf (fun w h1 h2 => ⟨tt, af, f, h2, Or.inr (Or.inr ⟨h1, (ot_ne nf).trans tf, F, eF, fun p q hp hq => by unfold ss_bd; rw [if_neg c0, if_neg c2, show (8 * p + q) % 8 = q by omega, show (8 * p + q) / 8 = p by omega]⟩)⟩)
theorem ub_but {d : UD} {b : Nat} {o : Nat → Nat} {u : UM} (h0 : uw_ b u) {a1 tc : Nat} {be : Nat → Int} (h : yB_ d o u a1 tc be) {x y : Nat} (hx : x < 8) (hy : y < 8) (v : Int) : Ev_ (fun n => uf_X9_but n d u a1 (n_ x) (n_ y) (q_ v)) (fun r => r.2 = (1, 4) ∧ r.1.1 = u.2 ∧ r.1.2.2 = u.2 + 1 ∧ ygt_ b K0_ o u (ot_ o u.2 26) r.1.2 ∧ yC_ d (ot_ o u.2 26) r.1.2 u.2 tc (fun c => if c = 8 * x + y then v else be c)) := by
  unfold uf_X9_but uf_X13_init
  refine ev_ac (ev_nw h0 (fun u2 c2 => ?_))
  have g2 := ygt_nw (K := K0_) (o := o) h0 c2 26
  have tt : ot_ o u.2 26 u.2 = 26 := ot_at _ _ _
  refine ev_bc (P := fun _ u6 c => c = (0, 0) ∧ u6.2 = u2.2 ∧ ch_ u2 u6 u.2 (.inr (12, [.ref a1, .int (n_ x), .int (n_ y), .int (q_ v)]))) ?_ (fun _ u6 c hp => by rw [hp.1]; exact hp.2.1) (fun _ u6 c hp => ?_)
  · refine ev_pf c2.2.1 (by simp) (fun w1 d1 => ?_)
    refine ev_pf (u := (w1, u2.2)) d1.2.1 (by simp) (fun w2 d2 => ?_)
    refine ev_pf (u := (w2, u2.2)) d2.2.1 (by simp) (fun w3 d3 => ?_)
    refine ev_pf (u := (w3, u2.2)) d3.2.1 (by simp) (fun w4 d4 => ?_)
    exact ev_some ⟨rfl, rfl, rfl, d4.2.1, fun c hc => (d4.2.2 c hc).trans ((d3.2.2 c hc).trans ((d2.2.2 c hc).trans (d1.2.2 c hc)))⟩
  · obtain ⟨rfl, p2, p3⟩ := hp
    have g3 := ygt_chn h0 g2 (Nat.le_refl _) c2.2.1 p3 (kd1_o _ _ _)
    refine ev_some ⟨rfl, rfl, by show u6.2 = u.2 + 1; rw [p2, c2.1], g3, Or.inr ⟨tt, a1, x, y, v, be, p3.2.1, hx, hy, yB_keep h0 g3 h (fun z => z) (fun z => z) (fun z => z), fun p q hp hq => ?_⟩⟩
    dsimp only
    by_cases c : p = x ∧ q = y
    · rw [if_pos c, if_pos (by omega)]
    · rw [if_neg c, if_neg (by omega)]
/-- the Ways as they lie: arrays from, to, left, cost, dist, by, place; so many edges -/
def yE_ (d : UD) (o : Nat → Nat) (u : UM) (a : Nat) (A : Nat → Nat) (m : Nat) (f0 f1 : Nat → Int32) (f2 f3 f4 : Nat → Int64) (f5 f6 : Nat → Int32) : Prop := ob_ u a 3 [.ref (A 0), .ref (A 1), .ref (A 2), .ref (A 3), .ref (A 4), .ref (A 5), .ref (A 6), .int (n_ m)] ∧ o a = 4 ∧ iA_ d u (A 0) 144 f0 ∧ o (A 0) = 5 ∧ iA_ d u (A 1) 144 f1 ∧ o (A 1) = 6 ∧ lA_ d u (A 2) 144 f2 ∧ o (A 2) = 7 ∧ lA_ d u (A 3) 144 f3 ∧ o (A 3) = 8 ∧ lA_ d u (A 4) 18 f4 ∧ o (A 4) = 9 ∧ iA_ d u (A 5) 18 f5 ∧ o (A 5) = 10 ∧ iA_ d u (A 6) 64 f6 ∧ o (A 6) = 11
theorem yE_W {d : UD} {o : Nat → Nat} {u : UM} {a : Nat} {A : Nat → Nat} {m : Nat} {f0 f1 : Nat → Int32} {f2 f3 f4 : Nat → Int64} {f5 f6 : Nat → Int32} (h : yE_ d o u a A m f0 f1 f2 f3 f4 f5 f6) : yW_ d o u a := by
  obtain ⟨h1, t1, c0, s0, c1, s1, c2, s2, c3, s3, c4, s4, c5, s5, c6, s6⟩ := h
  exact ⟨A 0, A 1, A 2, A 3, A 4, A 5, A 6, _, _, _, _, _, _, _, _, h1, t1, c0, s0, c1, s1, c2, s2, c3, s3, c4, s4, c5, s5, c6, s6⟩
theorem yE_f0 {d : UD} {o : Nat → Nat} {u : UM} {a : Nat} {A : Nat → Nat} {m : Nat} {f0 f1 : Nat → Int32} {f2 f3 f4 : Nat → Int64} {f5 f6 : Nat → Int32} (h : yE_ d o u a A m f0 f1 f2 f3 f4 f5 f6) : u_fr d u 3 0 a = some (A 0) := fr_e h.1 rfl
theorem yE_l0 {d : UD} {o : Nat → Nat} {u : UM} {a : Nat} {A : Nat → Nat} {m : Nat} {f0 f1 : Nat → Int32} {f2 f3 f4 : Nat → Int64} {f5 f6 : Nat → Int32} (h : yE_ d o u a A m f0 f1 f2 f3 f4 f5 f6) {i : Nat} (hi : i < 144) : u_ldI d u (A 0) (n_ i) = some (f0 i) := by
  obtain ⟨h1, t1, c0, s0, c1, s1, c2, s2, c3, s3, c4, s4, c5, s5, c6, s6⟩ := h
  exact ldI_e c0 hi (by omega)
theorem yE_s0 {d : UD} {b : Nat} {o : Nat → Nat} {u : UM} (h0 : uw_ b u) {a : Nat} {A : Nat → Nat} {m : Nat} {f0 f1 : Nat → Int32} {f2 f3 f4 : Nat → Int64} {f5 f6 : Nat → Int32} (h : yE_ d o u a A m f0 f1 f2 f3 f4 f5 f6) {i : Nat} (hi : i < 144) (x : Int32) {α : Type} {G : Nat → va_W → Option α} {Q : α → Prop} (g : ∀ w, yE_ d o (w, u.2) a A m (upd f0 i x) f1 f2 f3 f4 f5 f6 → ygt_ b (K1_ 5) o u o (w, u.2) → Ev_ (fun n => G n w) Q) : Ev_ (fun n => m_b (u_stI d u (A 0) (n_ i) x) (G n)) Q := by
  obtain ⟨h1, t1, c0, s0, c1, s1, c2, s2, c3, s3, c4, s4, c5, s5, c6, s6⟩ := h
  refine ev_b1 (stI_e c0 hi (by omega) x) ?_
  have c := ch_set c0 (.inl (d.1 0, 144, .inl (upd f0 i x)))
  have e : ∀ y, o y ≠ 5 → u_get (u_set u.1 (A 0) (.inl (d.1 0, 144, .inl (upd f0 i x)))) y = u_get u.1 y := fun y hy => c.2.2 y (fun z => hy (by rw [z]; exact s0))
  exact g _ ⟨(e _ (by rw [t1]; omega)).trans h1, t1, c.2.1, s0, (e _ (by rw [s1]; omega)).trans c1, s1, (e _ (by rw [s2]; omega)).trans c2, s2, (e _ (by rw [s3]; omega)).trans c3, s3, (e _ (by rw [s4]; omega)).trans c4, s4, (e _ (by rw [s5]; omega)).trans c5, s5, (e _ (by rw [s6]; omega)).trans c6, s6⟩ (ygt_ch h0 c0 c (kd1_a _ _) s0)
theorem yE_f1 {d : UD} {o : Nat → Nat} {u : UM} {a : Nat} {A : Nat → Nat} {m : Nat} {f0 f1 : Nat → Int32} {f2 f3 f4 : Nat → Int64} {f5 f6 : Nat → Int32} (h : yE_ d o u a A m f0 f1 f2 f3 f4 f5 f6) : u_fr d u 3 1 a = some (A 1) := fr_e h.1 rfl
theorem yE_l1 {d : UD} {o : Nat → Nat} {u : UM} {a : Nat} {A : Nat → Nat} {m : Nat} {f0 f1 : Nat → Int32} {f2 f3 f4 : Nat → Int64} {f5 f6 : Nat → Int32} (h : yE_ d o u a A m f0 f1 f2 f3 f4 f5 f6) {i : Nat} (hi : i < 144) : u_ldI d u (A 1) (n_ i) = some (f1 i) := by
  obtain ⟨h1, t1, c0, s0, c1, s1, c2, s2, c3, s3, c4, s4, c5, s5, c6, s6⟩ := h
  exact ldI_e c1 hi (by omega)
theorem yE_s1 {d : UD} {b : Nat} {o : Nat → Nat} {u : UM} (h0 : uw_ b u) {a : Nat} {A : Nat → Nat} {m : Nat} {f0 f1 : Nat → Int32} {f2 f3 f4 : Nat → Int64} {f5 f6 : Nat → Int32} (h : yE_ d o u a A m f0 f1 f2 f3 f4 f5 f6) {i : Nat} (hi : i < 144) (x : Int32) {α : Type} {G : Nat → va_W → Option α} {Q : α → Prop} (g : ∀ w, yE_ d o (w, u.2) a A m f0 (upd f1 i x) f2 f3 f4 f5 f6 → ygt_ b (K1_ 6) o u o (w, u.2) → Ev_ (fun n => G n w) Q) : Ev_ (fun n => m_b (u_stI d u (A 1) (n_ i) x) (G n)) Q := by
  obtain ⟨h1, t1, c0, s0, c1, s1, c2, s2, c3, s3, c4, s4, c5, s5, c6, s6⟩ := h
  refine ev_b1 (stI_e c1 hi (by omega) x) ?_
  have c := ch_set c1 (.inl (d.1 0, 144, .inl (upd f1 i x)))
  have e : ∀ y, o y ≠ 6 → u_get (u_set u.1 (A 1) (.inl (d.1 0, 144, .inl (upd f1 i x)))) y = u_get u.1 y := fun y hy => c.2.2 y (fun z => hy (by rw [z]; exact s1))
  exact g _ ⟨(e _ (by rw [t1]; omega)).trans h1, t1, (e _ (by rw [s0]; omega)).trans c0, s0, c.2.1, s1, (e _ (by rw [s2]; omega)).trans c2, s2, (e _ (by rw [s3]; omega)).trans c3, s3, (e _ (by rw [s4]; omega)).trans c4, s4, (e _ (by rw [s5]; omega)).trans c5, s5, (e _ (by rw [s6]; omega)).trans c6, s6⟩ (ygt_ch h0 c1 c (kd1_a _ _) s1)
theorem yE_f2 {d : UD} {o : Nat → Nat} {u : UM} {a : Nat} {A : Nat → Nat} {m : Nat} {f0 f1 : Nat → Int32} {f2 f3 f4 : Nat → Int64} {f5 f6 : Nat → Int32} (h : yE_ d o u a A m f0 f1 f2 f3 f4 f5 f6) : u_fr d u 3 2 a = some (A 2) := fr_e h.1 rfl
theorem yE_l2 {d : UD} {o : Nat → Nat} {u : UM} {a : Nat} {A : Nat → Nat} {m : Nat} {f0 f1 : Nat → Int32} {f2 f3 f4 : Nat → Int64} {f5 f6 : Nat → Int32} (h : yE_ d o u a A m f0 f1 f2 f3 f4 f5 f6) {i : Nat} (hi : i < 144) : u_ldL d u (A 2) (n_ i) = some (f2 i) := by
  obtain ⟨h1, t1, c0, s0, c1, s1, c2, s2, c3, s3, c4, s4, c5, s5, c6, s6⟩ := h
  exact ldL_e c2 hi (by omega)
theorem yE_s2 {d : UD} {b : Nat} {o : Nat → Nat} {u : UM} (h0 : uw_ b u) {a : Nat} {A : Nat → Nat} {m : Nat} {f0 f1 : Nat → Int32} {f2 f3 f4 : Nat → Int64} {f5 f6 : Nat → Int32} (h : yE_ d o u a A m f0 f1 f2 f3 f4 f5 f6) {i : Nat} (hi : i < 144) (x : Int64) {α : Type} {G : Nat → va_W → Option α} {Q : α → Prop} (g : ∀ w, yE_ d o (w, u.2) a A m f0 f1 (vp_updL f2 i x) f3 f4 f5 f6 → ygt_ b (K1_ 7) o u o (w, u.2) → Ev_ (fun n => G n w) Q) : Ev_ (fun n => m_b (u_stL d u (A 2) (n_ i) x) (G n)) Q := by
  obtain ⟨h1, t1, c0, s0, c1, s1, c2, s2, c3, s3, c4, s4, c5, s5, c6, s6⟩ := h
  refine ev_b1 (stL_e c2 hi (by omega) x) ?_
  have c := ch_set c2 (.inl (d.1 1, 144, .inr (.inl (vp_updL f2 i x))))
  have e : ∀ y, o y ≠ 7 → u_get (u_set u.1 (A 2) (.inl (d.1 1, 144, .inr (.inl (vp_updL f2 i x))))) y = u_get u.1 y := fun y hy => c.2.2 y (fun z => hy (by rw [z]; exact s2))
  exact g _ ⟨(e _ (by rw [t1]; omega)).trans h1, t1, (e _ (by rw [s0]; omega)).trans c0, s0, (e _ (by rw [s1]; omega)).trans c1, s1, c.2.1, s2, (e _ (by rw [s3]; omega)).trans c3, s3, (e _ (by rw [s4]; omega)).trans c4, s4, (e _ (by rw [s5]; omega)).trans c5, s5, (e _ (by rw [s6]; omega)).trans c6, s6⟩ (ygt_ch h0 c2 c (kd1_a _ _) s2)
theorem yE_f3 {d : UD} {o : Nat → Nat} {u : UM} {a : Nat} {A : Nat → Nat} {m : Nat} {f0 f1 : Nat → Int32} {f2 f3 f4 : Nat → Int64} {f5 f6 : Nat → Int32} (h : yE_ d o u a A m f0 f1 f2 f3 f4 f5 f6) : u_fr d u 3 3 a = some (A 3) := fr_e h.1 rfl
theorem yE_l3 {d : UD} {o : Nat → Nat} {u : UM} {a : Nat} {A : Nat → Nat} {m : Nat} {f0 f1 : Nat → Int32} {f2 f3 f4 : Nat → Int64} {f5 f6 : Nat → Int32} (h : yE_ d o u a A m f0 f1 f2 f3 f4 f5 f6) {i : Nat} (hi : i < 144) : u_ldL d u (A 3) (n_ i) = some (f3 i) := by
  obtain ⟨h1, t1, c0, s0, c1, s1, c2, s2, c3, s3, c4, s4, c5, s5, c6, s6⟩ := h
  exact ldL_e c3 hi (by omega)
theorem yE_s3 {d : UD} {b : Nat} {o : Nat → Nat} {u : UM} (h0 : uw_ b u) {a : Nat} {A : Nat → Nat} {m : Nat} {f0 f1 : Nat → Int32} {f2 f3 f4 : Nat → Int64} {f5 f6 : Nat → Int32} (h : yE_ d o u a A m f0 f1 f2 f3 f4 f5 f6) {i : Nat} (hi : i < 144) (x : Int64) {α : Type} {G : Nat → va_W → Option α} {Q : α → Prop} (g : ∀ w, yE_ d o (w, u.2) a A m f0 f1 f2 (vp_updL f3 i x) f4 f5 f6 → ygt_ b (K1_ 8) o u o (w, u.2) → Ev_ (fun n => G n w) Q) : Ev_ (fun n => m_b (u_stL d u (A 3) (n_ i) x) (G n)) Q := by
  obtain ⟨h1, t1, c0, s0, c1, s1, c2, s2, c3, s3, c4, s4, c5, s5, c6, s6⟩ := h
  refine ev_b1 (stL_e c3 hi (by omega) x) ?_
  have c := ch_set c3 (.inl (d.1 1, 144, .inr (.inl (vp_updL f3 i x))))
  have e : ∀ y, o y ≠ 8 → u_get (u_set u.1 (A 3) (.inl (d.1 1, 144, .inr (.inl (vp_updL f3 i x))))) y = u_get u.1 y := fun y hy => c.2.2 y (fun z => hy (by rw [z]; exact s3))
  exact g _ ⟨(e _ (by rw [t1]; omega)).trans h1, t1, (e _ (by rw [s0]; omega)).trans c0, s0, (e _ (by rw [s1]; omega)).trans c1, s1, (e _ (by rw [s2]; omega)).trans c2, s2, c.2.1, s3, (e _ (by rw [s4]; omega)).trans c4, s4, (e _ (by rw [s5]; omega)).trans c5, s5, (e _ (by rw [s6]; omega)).trans c6, s6⟩ (ygt_ch h0 c3 c (kd1_a _ _) s3)
theorem yE_f4 {d : UD} {o : Nat → Nat} {u : UM} {a : Nat} {A : Nat → Nat} {m : Nat} {f0 f1 : Nat → Int32} {f2 f3 f4 : Nat → Int64} {f5 f6 : Nat → Int32} (h : yE_ d o u a A m f0 f1 f2 f3 f4 f5 f6) : u_fr d u 3 4 a = some (A 4) := fr_e h.1 rfl
theorem yE_l4 {d : UD} {o : Nat → Nat} {u : UM} {a : Nat} {A : Nat → Nat} {m : Nat} {f0 f1 : Nat → Int32} {f2 f3 f4 : Nat → Int64} {f5 f6 : Nat → Int32} (h : yE_ d o u a A m f0 f1 f2 f3 f4 f5 f6) {i : Nat} (hi : i < 18) : u_ldL d u (A 4) (n_ i) = some (f4 i) := by
  obtain ⟨h1, t1, c0, s0, c1, s1, c2, s2, c3, s3, c4, s4, c5, s5, c6, s6⟩ := h
  exact ldL_e c4 hi (by omega)
theorem yE_s4 {d : UD} {b : Nat} {o : Nat → Nat} {u : UM} (h0 : uw_ b u) {a : Nat} {A : Nat → Nat} {m : Nat} {f0 f1 : Nat → Int32} {f2 f3 f4 : Nat → Int64} {f5 f6 : Nat → Int32} (h : yE_ d o u a A m f0 f1 f2 f3 f4 f5 f6) {i : Nat} (hi : i < 18) (x : Int64) {α : Type} {G : Nat → va_W → Option α} {Q : α → Prop} (g : ∀ w, yE_ d o (w, u.2) a A m f0 f1 f2 f3 (vp_updL f4 i x) f5 f6 → ygt_ b (K1_ 9) o u o (w, u.2) → Ev_ (fun n => G n w) Q) : Ev_ (fun n => m_b (u_stL d u (A 4) (n_ i) x) (G n)) Q := by
  obtain ⟨h1, t1, c0, s0, c1, s1, c2, s2, c3, s3, c4, s4, c5, s5, c6, s6⟩ := h
  refine ev_b1 (stL_e c4 hi (by omega) x) ?_
  have c := ch_set c4 (.inl (d.1 1, 18, .inr (.inl (vp_updL f4 i x))))
  have e : ∀ y, o y ≠ 9 → u_get (u_set u.1 (A 4) (.inl (d.1 1, 18, .inr (.inl (vp_updL f4 i x))))) y = u_get u.1 y := fun y hy => c.2.2 y (fun z => hy (by rw [z]; exact s4))
  exact g _ ⟨(e _ (by rw [t1]; omega)).trans h1, t1, (e _ (by rw [s0]; omega)).trans c0, s0, (e _ (by rw [s1]; omega)).trans c1, s1, (e _ (by rw [s2]; omega)).trans c2, s2, (e _ (by rw [s3]; omega)).trans c3, s3, c.2.1, s4, (e _ (by rw [s5]; omega)).trans c5, s5, (e _ (by rw [s6]; omega)).trans c6, s6⟩ (ygt_ch h0 c4 c (kd1_a _ _) s4)
theorem yE_f5 {d : UD} {o : Nat → Nat} {u : UM} {a : Nat} {A : Nat → Nat} {m : Nat} {f0 f1 : Nat → Int32} {f2 f3 f4 : Nat → Int64} {f5 f6 : Nat → Int32} (h : yE_ d o u a A m f0 f1 f2 f3 f4 f5 f6) : u_fr d u 3 5 a = some (A 5) := fr_e h.1 rfl
theorem yE_l5 {d : UD} {o : Nat → Nat} {u : UM} {a : Nat} {A : Nat → Nat} {m : Nat} {f0 f1 : Nat → Int32} {f2 f3 f4 : Nat → Int64} {f5 f6 : Nat → Int32} (h : yE_ d o u a A m f0 f1 f2 f3 f4 f5 f6) {i : Nat} (hi : i < 18) : u_ldI d u (A 5) (n_ i) = some (f5 i) := by
  obtain ⟨h1, t1, c0, s0, c1, s1, c2, s2, c3, s3, c4, s4, c5, s5, c6, s6⟩ := h
  exact ldI_e c5 hi (by omega)
theorem yE_s5 {d : UD} {b : Nat} {o : Nat → Nat} {u : UM} (h0 : uw_ b u) {a : Nat} {A : Nat → Nat} {m : Nat} {f0 f1 : Nat → Int32} {f2 f3 f4 : Nat → Int64} {f5 f6 : Nat → Int32} (h : yE_ d o u a A m f0 f1 f2 f3 f4 f5 f6) {i : Nat} (hi : i < 18) (x : Int32) {α : Type} {G : Nat → va_W → Option α} {Q : α → Prop} (g : ∀ w, yE_ d o (w, u.2) a A m f0 f1 f2 f3 f4 (upd f5 i x) f6 → ygt_ b (K1_ 10) o u o (w, u.2) → Ev_ (fun n => G n w) Q) : Ev_ (fun n => m_b (u_stI d u (A 5) (n_ i) x) (G n)) Q := by
  obtain ⟨h1, t1, c0, s0, c1, s1, c2, s2, c3, s3, c4, s4, c5, s5, c6, s6⟩ := h
  refine ev_b1 (stI_e c5 hi (by omega) x) ?_
  have c := ch_set c5 (.inl (d.1 0, 18, .inl (upd f5 i x)))
  have e : ∀ y, o y ≠ 10 → u_get (u_set u.1 (A 5) (.inl (d.1 0, 18, .inl (upd f5 i x)))) y = u_get u.1 y := fun y hy => c.2.2 y (fun z => hy (by rw [z]; exact s5))
  exact g _ ⟨(e _ (by rw [t1]; omega)).trans h1, t1, (e _ (by rw [s0]; omega)).trans c0, s0, (e _ (by rw [s1]; omega)).trans c1, s1, (e _ (by rw [s2]; omega)).trans c2, s2, (e _ (by rw [s3]; omega)).trans c3, s3, (e _ (by rw [s4]; omega)).trans c4, s4, c.2.1, s5, (e _ (by rw [s6]; omega)).trans c6, s6⟩ (ygt_ch h0 c5 c (kd1_a _ _) s5)
theorem yE_f6 {d : UD} {o : Nat → Nat} {u : UM} {a : Nat} {A : Nat → Nat} {m : Nat} {f0 f1 : Nat → Int32} {f2 f3 f4 : Nat → Int64} {f5 f6 : Nat → Int32} (h : yE_ d o u a A m f0 f1 f2 f3 f4 f5 f6) : u_fr d u 3 6 a = some (A 6) := fr_e h.1 rfl
theorem yE_l6 {d : UD} {o : Nat → Nat} {u : UM} {a : Nat} {A : Nat → Nat} {m : Nat} {f0 f1 : Nat → Int32} {f2 f3 f4 : Nat → Int64} {f5 f6 : Nat → Int32} (h : yE_ d o u a A m f0 f1 f2 f3 f4 f5 f6) {i : Nat} (hi : i < 64) : u_ldI d u (A 6) (n_ i) = some (f6 i) := by
  obtain ⟨h1, t1, c0, s0, c1, s1, c2, s2, c3, s3, c4, s4, c5, s5, c6, s6⟩ := h
  exact ldI_e c6 hi (by omega)
theorem yE_s6 {d : UD} {b : Nat} {o : Nat → Nat} {u : UM} (h0 : uw_ b u) {a : Nat} {A : Nat → Nat} {m : Nat} {f0 f1 : Nat → Int32} {f2 f3 f4 : Nat → Int64} {f5 f6 : Nat → Int32} (h : yE_ d o u a A m f0 f1 f2 f3 f4 f5 f6) {i : Nat} (hi : i < 64) (x : Int32) {α : Type} {G : Nat → va_W → Option α} {Q : α → Prop} (g : ∀ w, yE_ d o (w, u.2) a A m f0 f1 f2 f3 f4 f5 (upd f6 i x) → ygt_ b (K1_ 11) o u o (w, u.2) → Ev_ (fun n => G n w) Q) : Ev_ (fun n => m_b (u_stI d u (A 6) (n_ i) x) (G n)) Q := by
  obtain ⟨h1, t1, c0, s0, c1, s1, c2, s2, c3, s3, c4, s4, c5, s5, c6, s6⟩ := h
  refine ev_b1 (stI_e c6 hi (by omega) x) ?_
  have c := ch_set c6 (.inl (d.1 0, 64, .inl (upd f6 i x)))
  have e : ∀ y, o y ≠ 11 → u_get (u_set u.1 (A 6) (.inl (d.1 0, 64, .inl (upd f6 i x)))) y = u_get u.1 y := fun y hy => c.2.2 y (fun z => hy (by rw [z]; exact s6))
  exact g _ ⟨(e _ (by rw [t1]; omega)).trans h1, t1, (e _ (by rw [s0]; omega)).trans c0, s0, (e _ (by rw [s1]; omega)).trans c1, s1, (e _ (by rw [s2]; omega)).trans c2, s2, (e _ (by rw [s3]; omega)).trans c3, s3, (e _ (by rw [s4]; omega)).trans c4, s4, (e _ (by rw [s5]; omega)).trans c5, s5, c.2.1, s6⟩ (ygt_ch h0 c6 c (kd1_a _ _) s6)
theorem yE_e {d : UD} {o : Nat → Nat} {u : UM} {a : Nat} {A : Nat → Nat} {m : Nat} {f0 f1 : Nat → Int32} {f2 f3 f4 : Nat → Int64} {f5 f6 : Nat → Int32} (h : yE_ d o u a A m f0 f1 f2 f3 f4 f5 f6) : u_fi d u 3 7 a = some (n_ m) := fi_e h.1 rfl
theorem yE_m {d : UD} {b : Nat} {o : Nat → Nat} {u : UM} (h0 : uw_ b u) {a : Nat} {A : Nat → Nat} {m : Nat} {f0 f1 : Nat → Int32} {f2 f3 f4 : Nat → Int64} {f5 f6 : Nat → Int32} (h : yE_ d o u a A m f0 f1 f2 f3 f4 f5 f6) {v : Int32} {m' : Nat} (hv : v = n_ m') {α : Type} {G : Nat → va_W → Option α} {Q : α → Prop} (g : ∀ w, yE_ d o (w, u.2) a A m' f0 f1 f2 f3 f4 f5 f6 → ygt_ b (K1_ 4) o u o (w, u.2) → Ev_ (fun n => G n w) Q) : Ev_ (fun n => m_b (u_pf u 3 7 a (.int v)) (G n)) Q := by
  subst hv
  obtain ⟨h1, t1, c0, s0, c1, s1, c2, s2, c3, s3, c4, s4, c5, s5, c6, s6⟩ := h
  refine ev_pf h1 (by simp) (fun w c => ?_)
  have e : ∀ y, o y ≠ 4 → u_get w y = u_get u.1 y := fun y hy => c.2.2 y (fun z => hy (by rw [z]; exact t1))
  exact g w ⟨c.2.1, t1, (e _ (by rw [s0]; omega)).trans c0, s0, (e _ (by rw [s1]; omega)).trans c1, s1, (e _ (by rw [s2]; omega)).trans c2, s2, (e _ (by rw [s3]; omega)).trans c3, s3, (e _ (by rw [s4]; omega)).trans c4, s4, (e _ (by rw [s5]; omega)).trans c5, s5, (e _ (by rw [s6]; omega)).trans c6, s6⟩ (ygt_ch h0 h1 c (kd1_o _ _ _) t1)
theorem yE_keep {d : UD} {b : Nat} {K : Nat → Prop} {o o' : Nat → Nat} {u u' : UM} (h0 : uw_ b u) (g : ygt_ b K o u o' u') {a : Nat} {A : Nat → Nat} {m : Nat} {f0 f1 : Nat → Int32} {f2 f3 f4 : Nat → Int64} {f5 f6 : Nat → Int32} (h : yE_ d o u a A m f0 f1 f2 f3 f4 f5 f6) (hk : ∀ t, 4 ≤ t → t ≤ 11 → ¬ K t) : yE_ d o' u' a A m f0 f1 f2 f3 f4 f5 f6 := by
  obtain ⟨h1, t1, c0, s0, c1, s1, c2, s2, c3, s3, c4, s4, c5, s5, c6, s6⟩ := h
  have k : ∀ {x : Nat} {y : va_E} {r : Nat}, u_get u.1 x = some y → o x = r → 4 ≤ r → r ≤ 11 → u_get u'.1 x = some y ∧ o' x = r := fun hx ho h4 h11 => by
    obtain ⟨z1, z2⟩ := ygt_at h0 g hx (by rw [ho]; exact hk _ h4 h11)
    exact ⟨z1, z2.trans ho⟩
  exact ⟨(k h1 t1 (by omega) (by omega)).1, (k h1 t1 (by omega) (by omega)).2, (k c0 s0 (by omega) (by omega)).1, (k c0 s0 (by omega) (by omega)).2, (k c1 s1 (by omega) (by omega)).1, (k c1 s1 (by omega) (by omega)).2, (k c2 s2 (by omega) (by omega)).1, (k c2 s2 (by omega) (by omega)).2, (k c3 s3 (by omega) (by omega)).1, (k c3 s3 (by omega) (by omega)).2, (k c4 s4 (by omega) (by omega)).1, (k c4 s4 (by omega) (by omega)).2, (k c5 s5 (by omega) (by omega)).1, (k c5 s5 (by omega) (by omega)).2, (k c6 s6 (by omega) (by omega)).1, (k c6 s6 (by omega) (by omega)).2⟩
