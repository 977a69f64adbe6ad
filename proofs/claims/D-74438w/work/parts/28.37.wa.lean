set_option maxRecDepth 100000
/-! The Press as it lies (printed by yZ.py) -/
def yZ_ (d : UD) (o : Nat → Nat) (u : UM) (a t np : Nat) (A : Nat → Nat) (fn : Nat → Int32) (fb fc ft : Nat → Int64) : Prop := ob_ u a 8 [.int (n_ np), .ref (A 0), .ref (A 1), .ref (A 2), .ref (A 3), .ref t] ∧ o a = 27 ∧ iA_ d u (A 0) 8 fn ∧ o (A 0) = 28 ∧ lA_ d u (A 1) 64 fb ∧ o (A 1) = 29 ∧ lA_ d u (A 2) 64 fc ∧ o (A 2) = 30 ∧ lA_ d u (A 3) 8 ft ∧ o (A 3) = 31
theorem yZ_n {d : UD} {o : Nat → Nat} {u : UM} {a t np : Nat} {A : Nat → Nat} {fn : Nat → Int32} {fb fc ft : Nat → Int64} (h : yZ_ d o u a t np A fn fb fc ft) : u_fi d u 8 0 a = some (n_ np) := fi_e h.1 rfl
theorem yZ_f0 {d : UD} {o : Nat → Nat} {u : UM} {a t np : Nat} {A : Nat → Nat} {fn : Nat → Int32} {fb fc ft : Nat → Int64} (h : yZ_ d o u a t np A fn fb fc ft) : u_fr d u 8 1 a = some (A 0) := fr_e h.1 rfl
theorem yZ_f1 {d : UD} {o : Nat → Nat} {u : UM} {a t np : Nat} {A : Nat → Nat} {fn : Nat → Int32} {fb fc ft : Nat → Int64} (h : yZ_ d o u a t np A fn fb fc ft) : u_fr d u 8 2 a = some (A 1) := fr_e h.1 rfl
theorem yZ_f2 {d : UD} {o : Nat → Nat} {u : UM} {a t np : Nat} {A : Nat → Nat} {fn : Nat → Int32} {fb fc ft : Nat → Int64} (h : yZ_ d o u a t np A fn fb fc ft) : u_fr d u 8 3 a = some (A 2) := fr_e h.1 rfl
theorem yZ_f3 {d : UD} {o : Nat → Nat} {u : UM} {a t np : Nat} {A : Nat → Nat} {fn : Nat → Int32} {fb fc ft : Nat → Int64} (h : yZ_ d o u a t np A fn fb fc ft) : u_fr d u 8 4 a = some (A 3) := fr_e h.1 rfl
theorem yZ_t {d : UD} {o : Nat → Nat} {u : UM} {a t np : Nat} {A : Nat → Nat} {fn : Nat → Int32} {fb fc ft : Nat → Int64} (h : yZ_ d o u a t np A fn fb fc ft) : u_fr d u 8 5 a = some t := fr_e h.1 rfl
theorem yZ_l0 {d : UD} {o : Nat → Nat} {u : UM} {a t np : Nat} {A : Nat → Nat} {fn : Nat → Int32} {fb fc ft : Nat → Int64} (h : yZ_ d o u a t np A fn fb fc ft) {i : Nat} (hi : i < 8) : u_ldI d u (A 0) (n_ i) = some (fn i) := by
  obtain ⟨h1, t1, c0, s0, c1, s1, c2, s2, c3, s3⟩ := h
  exact ldI_e c0 hi (by omega)
theorem yZ_s0 {d : UD} {b : Nat} {o : Nat → Nat} {u : UM} (h0 : uw_ b u) {a t np : Nat} {A : Nat → Nat} {fn : Nat → Int32} {fb fc ft : Nat → Int64} (h : yZ_ d o u a t np A fn fb fc ft) {i : Nat} (hi : i < 8) (x : Int32) {α : Type} {G : Nat → va_W → Option α} {Q : α → Prop} (g : ∀ w, yZ_ d o (w, u.2) a t np A (upd fn i x) fb fc ft → ygt_ b (K1_ 28) o u o (w, u.2) → Ev_ (fun n => G n w) Q) : Ev_ (fun n => m_b (u_stI d u (A 0) (n_ i) x) (G n)) Q := by
  obtain ⟨h1, t1, c0, s0, c1, s1, c2, s2, c3, s3⟩ := h
  refine ev_b1 (stI_e c0 hi (by omega) x) ?_
  have c := ch_set c0 (.inl (d.1 0, 8, .inl (upd fn i x)))
  have e : ∀ y, o y ≠ 28 → u_get (u_set u.1 (A 0) (.inl (d.1 0, 8, .inl (upd fn i x)))) y = u_get u.1 y := fun y hy => c.2.2 y (fun z => hy (by rw [z]; exact s0))
  exact g _ ⟨(e _ (by rw [t1]; omega)).trans h1, t1, c.2.1, s0, (e _ (by rw [s1]; omega)).trans c1, s1, (e _ (by rw [s2]; omega)).trans c2, s2, (e _ (by rw [s3]; omega)).trans c3, s3⟩ (ygt_ch h0 c0 c (kd1_a _ _) s0)
theorem yZ_l1 {d : UD} {o : Nat → Nat} {u : UM} {a t np : Nat} {A : Nat → Nat} {fn : Nat → Int32} {fb fc ft : Nat → Int64} (h : yZ_ d o u a t np A fn fb fc ft) {i : Nat} (hi : i < 64) : u_ldL d u (A 1) (n_ i) = some (fb i) := by
  obtain ⟨h1, t1, c0, s0, c1, s1, c2, s2, c3, s3⟩ := h
  exact ldL_e c1 hi (by omega)
theorem yZ_s1 {d : UD} {b : Nat} {o : Nat → Nat} {u : UM} (h0 : uw_ b u) {a t np : Nat} {A : Nat → Nat} {fn : Nat → Int32} {fb fc ft : Nat → Int64} (h : yZ_ d o u a t np A fn fb fc ft) {i : Nat} (hi : i < 64) (x : Int64) {α : Type} {G : Nat → va_W → Option α} {Q : α → Prop} (g : ∀ w, yZ_ d o (w, u.2) a t np A fn (vp_updL fb i x) fc ft → ygt_ b (K1_ 29) o u o (w, u.2) → Ev_ (fun n => G n w) Q) : Ev_ (fun n => m_b (u_stL d u (A 1) (n_ i) x) (G n)) Q := by
  obtain ⟨h1, t1, c0, s0, c1, s1, c2, s2, c3, s3⟩ := h
  refine ev_b1 (stL_e c1 hi (by omega) x) ?_
  have c := ch_set c1 (.inl (d.1 1, 64, .inr (.inl (vp_updL fb i x))))
  have e : ∀ y, o y ≠ 29 → u_get (u_set u.1 (A 1) (.inl (d.1 1, 64, .inr (.inl (vp_updL fb i x))))) y = u_get u.1 y := fun y hy => c.2.2 y (fun z => hy (by rw [z]; exact s1))
  exact g _ ⟨(e _ (by rw [t1]; omega)).trans h1, t1, (e _ (by rw [s0]; omega)).trans c0, s0, c.2.1, s1, (e _ (by rw [s2]; omega)).trans c2, s2, (e _ (by rw [s3]; omega)).trans c3, s3⟩ (ygt_ch h0 c1 c (kd1_a _ _) s1)
theorem yZ_l2 {d : UD} {o : Nat → Nat} {u : UM} {a t np : Nat} {A : Nat → Nat} {fn : Nat → Int32} {fb fc ft : Nat → Int64} (h : yZ_ d o u a t np A fn fb fc ft) {i : Nat} (hi : i < 64) : u_ldL d u (A 2) (n_ i) = some (fc i) := by
  obtain ⟨h1, t1, c0, s0, c1, s1, c2, s2, c3, s3⟩ := h
  exact ldL_e c2 hi (by omega)
theorem yZ_s2 {d : UD} {b : Nat} {o : Nat → Nat} {u : UM} (h0 : uw_ b u) {a t np : Nat} {A : Nat → Nat} {fn : Nat → Int32} {fb fc ft : Nat → Int64} (h : yZ_ d o u a t np A fn fb fc ft) {i : Nat} (hi : i < 64) (x : Int64) {α : Type} {G : Nat → va_W → Option α} {Q : α → Prop} (g : ∀ w, yZ_ d o (w, u.2) a t np A fn fb (vp_updL fc i x) ft → ygt_ b (K1_ 30) o u o (w, u.2) → Ev_ (fun n => G n w) Q) : Ev_ (fun n => m_b (u_stL d u (A 2) (n_ i) x) (G n)) Q := by
  obtain ⟨h1, t1, c0, s0, c1, s1, c2, s2, c3, s3⟩ := h
  refine ev_b1 (stL_e c2 hi (by omega) x) ?_
  have c := ch_set c2 (.inl (d.1 1, 64, .inr (.inl (vp_updL fc i x))))
  have e : ∀ y, o y ≠ 30 → u_get (u_set u.1 (A 2) (.inl (d.1 1, 64, .inr (.inl (vp_updL fc i x))))) y = u_get u.1 y := fun y hy => c.2.2 y (fun z => hy (by rw [z]; exact s2))
  exact g _ ⟨(e _ (by rw [t1]; omega)).trans h1, t1, (e _ (by rw [s0]; omega)).trans c0, s0, (e _ (by rw [s1]; omega)).trans c1, s1, c.2.1, s2, (e _ (by rw [s3]; omega)).trans c3, s3⟩ (ygt_ch h0 c2 c (kd1_a _ _) s2)
theorem yZ_l3 {d : UD} {o : Nat → Nat} {u : UM} {a t np : Nat} {A : Nat → Nat} {fn : Nat → Int32} {fb fc ft : Nat → Int64} (h : yZ_ d o u a t np A fn fb fc ft) {i : Nat} (hi : i < 8) : u_ldL d u (A 3) (n_ i) = some (ft i) := by
  obtain ⟨h1, t1, c0, s0, c1, s1, c2, s2, c3, s3⟩ := h
  exact ldL_e c3 hi (by omega)
theorem yZ_s3 {d : UD} {b : Nat} {o : Nat → Nat} {u : UM} (h0 : uw_ b u) {a t np : Nat} {A : Nat → Nat} {fn : Nat → Int32} {fb fc ft : Nat → Int64} (h : yZ_ d o u a t np A fn fb fc ft) {i : Nat} (hi : i < 8) (x : Int64) {α : Type} {G : Nat → va_W → Option α} {Q : α → Prop} (g : ∀ w, yZ_ d o (w, u.2) a t np A fn fb fc (vp_updL ft i x) → ygt_ b (K1_ 31) o u o (w, u.2) → Ev_ (fun n => G n w) Q) : Ev_ (fun n => m_b (u_stL d u (A 3) (n_ i) x) (G n)) Q := by
  obtain ⟨h1, t1, c0, s0, c1, s1, c2, s2, c3, s3⟩ := h
  refine ev_b1 (stL_e c3 hi (by omega) x) ?_
  have c := ch_set c3 (.inl (d.1 1, 8, .inr (.inl (vp_updL ft i x))))
  have e : ∀ y, o y ≠ 31 → u_get (u_set u.1 (A 3) (.inl (d.1 1, 8, .inr (.inl (vp_updL ft i x))))) y = u_get u.1 y := fun y hy => c.2.2 y (fun z => hy (by rw [z]; exact s3))
  exact g _ ⟨(e _ (by rw [t1]; omega)).trans h1, t1, (e _ (by rw [s0]; omega)).trans c0, s0, (e _ (by rw [s1]; omega)).trans c1, s1, (e _ (by rw [s2]; omega)).trans c2, s2, c.2.1, s3⟩ (ygt_ch h0 c3 c (kd1_a _ _) s3)
theorem yZ_keep {d : UD} {b : Nat} {K : Nat → Prop} {o o' : Nat → Nat} {u u' : UM} (h0 : uw_ b u) (g : ygt_ b K o u o' u') {a t np : Nat} {A : Nat → Nat} {fn : Nat → Int32} {fb fc ft : Nat → Int64} (h : yZ_ d o u a t np A fn fb fc ft) (hk : ∀ t, 27 ≤ t → t ≤ 31 → ¬ K t) : yZ_ d o' u' a t np A fn fb fc ft := by
  obtain ⟨h1, t1, c0, s0, c1, s1, c2, s2, c3, s3⟩ := h
  have k : ∀ {x : Nat} {y : va_E} {r : Nat}, u_get u.1 x = some y → o x = r → 27 ≤ r → r ≤ 31 → u_get u'.1 x = some y ∧ o' x = r := fun hx ho h4 h11 => by
    obtain ⟨z1, z2⟩ := ygt_at h0 g hx (by rw [ho]; exact hk _ h4 h11)
    exact ⟨z1, z2.trans ho⟩
  exact ⟨(k h1 t1 (by omega) (by omega)).1, (k h1 t1 (by omega) (by omega)).2, (k c0 s0 (by omega) (by omega)).1, (k c0 s0 (by omega) (by omega)).2, (k c1 s1 (by omega) (by omega)).1, (k c1 s1 (by omega) (by omega)).2, (k c2 s2 (by omega) (by omega)).1, (k c2 s2 (by omega) (by omega)).2, (k c3 s3 (by omega) (by omega)).1, (k c3 s3 (by omega) (by omega)).2⟩
