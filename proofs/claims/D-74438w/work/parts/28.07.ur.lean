set_option maxRecDepth 100000
/-! The component's object as it lies; its plain questions -/
/-- ways (edges and their rows; what they hold doesn't matter) -/
def yW_ (d : UD) (o : Nat → Nat) (u : UM) (a : Nat) : Prop := ∃ a0 a1 a2 a3 a4 a5 a6 f0 f1 f2 f3 f4 f5 f6 e, ob_ u a 3 [.ref a0, .ref a1, .ref a2, .ref a3, .ref a4, .ref a5, .ref a6, .int e] ∧ o a = 4 ∧ iA_ d u a0 144 f0 ∧ o a0 = 5 ∧ iA_ d u a1 144 f1 ∧ o a1 = 6 ∧ lA_ d u a2 144 f2 ∧ o a2 = 7 ∧ lA_ d u a3 144 f3 ∧ o a3 = 8 ∧ lA_ d u a4 18 f4 ∧ o a4 = 9 ∧ iA_ d u a5 18 f5 ∧ o a5 = 10 ∧ iA_ d u a6 64 f6 ∧ o a6 = 11
/-- the latest first row -/
def yF_ (d : UD) (o : Nat → Nat) (u : UM) (g : GS_) (fk : Int32) (fr : Option Nat) : Prop := fk = q_ (-1) ∨ ∃ k, k < g_nk g ∧ fk = n_ k ∧ ((∃ a f X, fr = some a ∧ iA_ d u a 64 f ∧ o a = 13 ∧ Q1_ (g_np g) (g_s g) (ss_fl (g_s g).1 k) X ∧ ∀ c, c < 64 → f c = q_ (X c)) ∨ (fr = none ∧ QN_ (g_np g) (g_s g) (ss_fl (g_s g).1 k) (ss_be (g_np g) (g_s g) (ss_fl (g_s g).1 k))))
/-- states ahead of the one now -/
def yP_ (d : UD) (o : Nat → Nat) (u : UM) (a : Nat) (ps ks : List (List Nat)) (ids lS : List Nat) (xs : List SS_) : Prop := al_ d o u a 2 3 lS ∧ ids.length = xs.length ∧ lS.length = xs.length ∧ ∀ i (h : i < lS.length) (h' : i < ids.length) (h'' : i < xs.length), ys_ d o u lS[i] ids[i] ps ks xs[i]
/-- all but the ways -/
def yR0_ (d : UD) (b : Nat) (o : Nat → Nat) (u : UM) (t aW : Nat) (g : GS_) : Prop := uw_ b u ∧ cE_ d b ∧ ∃ aN aL aT fk fr s0 ids lS f, ob_ u t 1 [.ref aN, .ref aL, .ref aW, .int fk, va_rf fr, .ref aT, .int (n_ g.2.2.2.2.2.1), .int (q_ g.2.2.2.2.2.2.1), .int (q_ g.2.2.2.2.2.2.2)] ∧ o t = 1 ∧ (s0 :: ids).Nodup ∧ (∀ s ∈ s0 :: ids, 10 ≤ s) ∧ ys_ d o u aN s0 g.1 g.2.1 (g_s g) ∧ yP_ d o u aL g.1 g.2.1 ids lS (g_past g) ∧ yF_ d o u g fk fr ∧ bA_ d u aT 900 f ∧ o aT = 12 ∧ ∀ i, i < g.2.2.2.2.2.1 → f i = g.2.2.2.2.1 i
def yR_ (d : UD) (b : Nat) (o : Nat → Nat) (u : UM) (t : Nat) (g : GS_) : Prop := ∃ aW, yR0_ d b o u t aW g ∧ yW_ d o u aW
/-- scratch: ways and what is for the time being -/
def KT_ (t : Nat) : Prop := (4 ≤ t ∧ t ≤ 11) ∨ (20 ≤ t ∧ t < 160)
theorem yP_keep {d : UD} {b : Nat} {K : Nat → Prop} {o o' : Nat → Nat} {u u' : UM} (h0 : uw_ b u) (g : ygt_ b K o u o' u') {a : Nat} {ps ks : List (List Nat)} {ids lS : List Nat} {xs : List SS_} (h : yP_ d o u a ps ks ids lS xs) (h14 : ¬ K 14) (h2 : ¬ K 2) (h3 : ¬ K 3) (hs : ∀ s ∈ ids, ∀ r, r < 8 → ¬ K (16 * s + r)) : yP_ d o' u' a ps ks ids lS xs := by
  obtain ⟨e1, e2, e3, e4⟩ := h
  exact ⟨al_keep h0 g e1 h2 h3, e2, e3, fun i h h' h'' => ys_keep h0 g (e4 i h h' h'') h14 (hs _ (List.getElem_mem _))⟩
theorem yF_keep {d : UD} {b : Nat} {K : Nat → Prop} {o o' : Nat → Nat} {u u' : UM} (h0 : uw_ b u) (g : ygt_ b K o u o' u') {x : GS_} {fk : Int32} {fr : Option Nat} (h : yF_ d o u x fk fr) (h13 : ¬ K 13) : yF_ d o' u' x fk fr := by
  rcases h with h | ⟨k, hk, e, h⟩
  · exact Or.inl h
  · refine Or.inr ⟨k, hk, e, ?_⟩
    rcases h with ⟨a, f, X, q1, q2, q3, q4⟩ | h
    · obtain ⟨z1, z2⟩ := ygt_at h0 g q2 (by rw [q3]; exact h13)
      exact Or.inl ⟨a, f, X, q1, z1, z2.trans q3, q4⟩
    · exact Or.inr h
/-- what is done in scratch leaves the picture -/
theorem yR0_keep {d : UD} {b : Nat} {K : Nat → Prop} {o o' : Nat → Nat} {u u' : UM} {t aW : Nat} {g : GS_} (h : yR0_ d b o u t aW g) (gg : ygt_ b K o u o' u') (hK : ∀ x, K x → KT_ x) : yR0_ d b o' u' t aW g := by
  obtain ⟨h0, hc, aN, aL, aT, fk, fr, s0, ids, lS, f, e1, e2, e3, e4, e5, e6, e7, e8, e9, e10⟩ := h
  have nk : ∀ x, ¬ KT_ x → ¬ K x := fun x hx z => hx (hK x z)
  have big : ∀ s, 10 ≤ s → ∀ r, r < 8 → ¬ K (16 * s + r) := fun s hs r hr => nk _ (fun z => by rcases z with z | z <;> omega)
  have sm : ∀ x, x = 1 ∨ x = 2 ∨ x = 3 ∨ x = 12 ∨ x = 13 ∨ x = 14 → ¬ K x := fun x hx => nk _ (fun z => by rcases z with z | z <;> omega)
  obtain ⟨a1, a2⟩ := ygt_at h0 gg e1 (by rw [e2]; exact sm 1 (by omega))
  obtain ⟨b1, b2⟩ := ygt_at h0 gg e8 (by rw [e9]; exact sm 12 (by omega))
  exact ⟨gg.1, hc, aN, aL, aT, fk, fr, s0, ids, lS, f, a1, a2.trans e2, e3, e4, ys_keep h0 gg e5 (sm 14 (by omega)) (big s0 (e4 s0 (by simp))), yP_keep h0 gg e6 (sm 14 (by omega)) (sm 2 (by omega)) (sm 3 (by omega)) (fun s hs => big s (e4 s (List.mem_cons_of_mem _ hs))), yF_keep h0 gg e7 (sm 13 (by omega)), b1, b2.trans e9, e10⟩
theorem yW_keep {d : UD} {b : Nat} {K : Nat → Prop} {o o' : Nat → Nat} {u u' : UM} (h0 : uw_ b u) (g : ygt_ b K o u o' u') {a : Nat} (h : yW_ d o u a) (hk : ∀ t, 4 ≤ t → t ≤ 11 → ¬ K t) : yW_ d o' u' a := by
  obtain ⟨a0, a1, a2, a3, a4, a5, a6, f0, f1, f2, f3, f4, f5, f6, e, h1, t1, h2, t2, h3, t3, h4, t4, h5, t5, h6, t6, h7, t7, h8, t8⟩ := h
  have k : ∀ {x : Nat} {y : va_E} {r : Nat}, u_get u.1 x = some y → o x = r → 4 ≤ r → r ≤ 11 → u_get u'.1 x = some y ∧ o' x = r := fun hx ho h4 h11 => by
    obtain ⟨z1, z2⟩ := ygt_at h0 g hx (by rw [ho]; exact hk _ h4 h11)
    exact ⟨z1, z2.trans ho⟩
  exact ⟨a0, a1, a2, a3, a4, a5, a6, f0, f1, f2, f3, f4, f5, f6, e, (k h1 t1 (by omega) (by omega)).1, (k h1 t1 (by omega) (by omega)).2, (k h2 t2 (by omega) (by omega)).1, (k h2 t2 (by omega) (by omega)).2, (k h3 t3 (by omega) (by omega)).1, (k h3 t3 (by omega) (by omega)).2, (k h4 t4 (by omega) (by omega)).1, (k h4 t4 (by omega) (by omega)).2, (k h5 t5 (by omega) (by omega)).1, (k h5 t5 (by omega) (by omega)).2, (k h6 t6 (by omega) (by omega)).1, (k h6 t6 (by omega) (by omega)).2, (k h7 t7 (by omega) (by omega)).1, (k h7 t7 (by omega) (by omega)).2, (k h8 t8 (by omega) (by omega)).1, (k h8 t8 (by omega) (by omega)).2⟩
/-- what is for the time being alone -/
def K2_ (t : Nat) : Prop := 20 ≤ t ∧ t < 160
theorem yR_keep {d : UD} {b : Nat} {K : Nat → Prop} {o o' : Nat → Nat} {u u' : UM} {t : Nat} {g : GS_} (h : yR_ d b o u t g) (gg : ygt_ b K o u o' u') (hK : ∀ x, K x → K2_ x) : yR_ d b o' u' t g := by
  obtain ⟨aW, h1, h2⟩ := h
  exact ⟨aW, yR0_keep h1 gg (fun x hx => Or.inr (hK x hx)), yW_keep h1.1 gg h2 (fun t h4 h11 z => by have := hK t z; unfold K2_ at this; omega)⟩
/-- the state now -/
theorem yR_N {d : UD} {b : Nat} {o : Nat → Nat} {u : UM} {t : Nat} {g : GS_} (h : yR_ d b o u t g) : uw_ b u ∧ ∃ aN s0 fs, u_fr d u 1 0 t = some aN ∧ u_cl u 1 t = some fs ∧ ys_ d o u aN s0 g.1 g.2.1 (g_s g) ∧ u_fi d u 1 6 t = some (n_ g.2.2.2.2.2.1) ∧ u_fi d u 1 7 t = some (q_ g.2.2.2.2.2.2.1) ∧ u_fi d u 1 8 t = some (q_ g.2.2.2.2.2.2.2) ∧ ∃ aL lS fl, u_fr d u 1 1 t = some aL ∧ u_cl u 13 aL = some fl ∧ lS.length = (g_past g).length ∧ al_ d o u aL 2 3 lS := by
  obtain ⟨aW, ⟨h0, hc, aN, aL, aT, fk, fr, s0, ids, lS, f, e1, e2, e3, e4, e5, e6, e7, e8, e9, e10⟩, _⟩ := h
  obtain ⟨fl, hfl⟩ := al_cl e6.1
  exact ⟨h0, aN, s0, _, fr_e e1 rfl, cl_e e1, e5, fi_e e1 rfl, fi_e e1 rfl, fi_e e1 rfl, aL, lS, fl, fr_e e1 rfl, hfl, e6.2.2.1, e6.1⟩
theorem uq_in (n : Nat) (d : UD) (u : UM) (x y z : Int64) : uf_X0_in n d u x y z = some (b_ (y.toInt ≤ x.toInt ∧ x.toInt ≤ z.toInt)) := by
  unfold uf_X0_in uf_X0_in_J17 uf_X0_in_J18
  rw [show m_01 1 = true from by decide, show m_01 0 = true from by decide, m_gT, m_gT]
  unfold m_if
  by_cases h1 : x.toInt < y.toInt
  · rw [if_pos ((cmp_lt x y).mpr h1), b_F (by omega)]
  · rw [if_neg (fun q => h1 ((cmp_lt x y).mp q))]
    by_cases h2 : z.toInt < x.toInt
    · rw [if_pos ((cmp_gt x z).mpr h2), b_F (by omega)]
    · rw [if_neg (fun q => h2 ((cmp_gt x z).mp q)), b_T (by omega)]
theorem b_cg {p q : Prop} [Decidable p] [Decidable q] (h : p ↔ q) : b_ p = b_ q := by
  by_cases c : p
  · rw [b_T c, b_T (h.mp c)]
  · rw [b_F c, b_F (fun z => c (h.mpr z))]
theorem nm1 {m : Nat} (h : m ≤ 100) : (n_ m - 1).toInt64.toInt = (m : Int) - 1 := by
  rw [n_q, q_1, q_sub, q_64 ⟨by omega, by omega⟩]
theorem uq_lt (n : Nat) (d : UD) (u : UM) (x : Int32) {m : Nat} (h : m ≤ 100) : m_b (uf_X0_in n d u x.toInt64 0 (n_ m - 1).toInt64) (fun r => m_g (m_01 r) (some r)) = some (b_ (0 ≤ x.toInt ∧ x.toInt < m)) := by
  rw [uq_in, m_bs, b_01, m_gT, nm1 h, Int32.toInt_toInt64]
  congr 1
  apply b_cg
  show (0 ≤ x.toInt ∧ _) ↔ _
  omega
theorem uq_isParty (n : Nat) {d : UD} {b : Nat} {o : Nat → Nat} {u : UM} {t : Nat} {g : GS_} (h : yR_ d b o u t g) (ok : g_ok g) (x : Int32) : uf_X0_isParty n d u t x = some (b_ (0 ≤ x.toInt ∧ x.toInt < g_np g)) := by
  obtain ⟨h0, aN, s0, fs, k1, k2, k3, _⟩ := yR_N h
  obtain ⟨fn, hfn⟩ := ys_cl k3
  have h8 : g.1.length ≤ 8 := ok.1
  unfold uf_X0_isParty
  rw [k1, m_bs, hfn, m_bs, us_many n k3, m_bs]
  exact uq_lt n d u x (by omega)
theorem ys_K {d : UD} {o : Nat → Nat} {u : UM} {a s : Nat} {ps ks : List (List Nat)} {x : SS_} (h : ys_ d o u a s ps ks x) : ∃ aK lK fs, u_nr u 2 1 a = some aK ∧ u_fr d u 2 1 a = some aK ∧ u_cl u 13 aK = some fs ∧ (∀ n, uf_J2_size n d u aK = some (n_ ks.length)) ∧ al_ d o u aK (16 * s + 2) (16 * s + 5) lK ∧ al2_ (sg_ d o u) lK ks := by
  obtain ⟨aP, aK, aT, aC, lP, lK, lT, f, e1, e2, e3, e4, e5, e6, e7, e8, e9, e10, e11⟩ := h
  obtain ⟨fs, hfs⟩ := al_cl e4
  exact ⟨aK, lK, fs, nr_e e1 rfl, fr_e e1 rfl, hfs, fun n => by rw [ul_size n e4, e10.1], e4, e10⟩
theorem uq_isKind (n : Nat) {d : UD} {b : Nat} {o : Nat → Nat} {u : UM} {t : Nat} {g : GS_} (h : yR_ d b o u t g) (ok : g_ok g) (x : Int32) : uf_X0_isKind n d u t x = some (b_ (0 ≤ x.toInt ∧ x.toInt < g_nk g)) := by
  obtain ⟨h0, aN, s0, fs, k1, k2, k3, _⟩ := yR_N h
  obtain ⟨aK, lK, fk, q1, q2, q3, q4, _⟩ := ys_K k3
  have h4 : g.2.1.length ≤ 4 := ok.2.1
  unfold uf_X0_isKind
  rw [k1, m_bs, q1, m_bs, q3, m_bs, q4, m_bs]
  exact uq_lt n d u x (by omega)
theorem uq_isTrade (n : Nat) {d : UD} {b : Nat} {o : Nat → Nat} {u : UM} {t : Nat} {g : GS_} (h : yR_ d b o u t g) (ok : g_ok g) (x : Int32) : uf_X0_isTrade n d u t x = some (b_ (0 ≤ x.toInt ∧ x.toInt < (g_s g).1.length)) := by
  obtain ⟨h0, aN, s0, fs, k1, k2, k3, _⟩ := yR_N h
  obtain ⟨aT, lT, ft, q1, q2, q3, q4, _⟩ := ys_T k3
  have h40 : (g_s g).1.length ≤ 40 := ok.2.2.1.2.2.1
  unfold uf_X0_isTrade
  rw [k1, m_bs, q2, m_bs, q3, m_bs, q4, m_bs]
  exact uq_lt n d u x (by omega)
theorem uq_areTwo (n : Nat) {d : UD} {b : Nat} {o : Nat → Nat} {u : UM} {t : Nat} {g : GS_} (h : yR_ d b o u t g) (ok : g_ok g) (x y : Int32) : uf_X0_areTwo n d u t x y = some (b_ ((0 ≤ x.toInt ∧ x.toInt < g_np g) ∧ (0 ≤ y.toInt ∧ y.toInt < g_np g) ∧ x.toInt ≠ y.toInt)) := by
  obtain ⟨h0, aN, s0, fs, k1, k2, k3, _⟩ := yR_N h
  unfold uf_X0_areTwo uf_X0_areTwo_J25 uf_X0_areTwo_J26
  simp only [k2, m_bs, uq_isParty n h ok, m_ifb]
  rw [show m_01 1 = true from by decide, show m_01 0 = true from by decide, m_gT, m_gT]
  by_cases c1 : 0 ≤ x.toInt ∧ x.toInt < g_np g
  · rw [if_pos c1]
    by_cases c2 : 0 ≤ y.toInt ∧ y.toInt < g_np g
    · rw [if_pos c2]
      by_cases c3 : x = y
      · rw [ef_T c3, b_F (fun z => z.2.2 (by rw [c3]))]
      · rw [ef_F c3, b_T ⟨c1, c2, fun z => c3 (Int32.toInt_inj.mp z)⟩]
    · rw [if_neg c2, b_F (fun z => c2 z.2.1)]
  · rw [if_neg c1, b_F (fun z => c1 z.1)]
theorem uq_areAll (n : Nat) {d : UD} {b : Nat} {o : Nat → Nat} {u : UM} {t : Nat} {g : GS_} (h : yR_ d b o u t g) (ok : g_ok g) (x y z : Int32) : uf_X0_areAll n d u t x y z = some (b_ (((0 ≤ x.toInt ∧ x.toInt < g_np g) ∧ (0 ≤ y.toInt ∧ y.toInt < g_np g) ∧ x.toInt ≠ y.toInt) ∧ (0 ≤ z.toInt ∧ z.toInt < g_nk g))) := by
  obtain ⟨h0, aN, s0, fs, k1, k2, k3, _⟩ := yR_N h
  unfold uf_X0_areAll uf_X0_areAll_J21 uf_X0_areAll_J22
  simp only [k2, m_bs, uq_areTwo n h ok, uq_isKind n h ok, m_ifb]
  rw [show m_01 1 = true from by decide, show m_01 0 = true from by decide, m_gT, m_gT]
  by_cases c1 : (0 ≤ x.toInt ∧ x.toInt < g_np g) ∧ (0 ≤ y.toInt ∧ y.toInt < g_np g) ∧ x.toInt ≠ y.toInt
  · rw [if_pos c1]
    by_cases c2 : 0 ≤ z.toInt ∧ z.toInt < g_nk g
    · rw [if_pos c2, b_T ⟨c1, c2⟩]
    · rw [if_neg c2, b_F (fun q => c2 q.2)]
  · rw [if_neg c1, b_F (fun q => c1 q.1)]
/-! the plain questions -/
theorem uq_fault {d : UD} {b : Nat} {o : Nat → Nat} {u : UM} {t : Nat} {g : GS_} (h : yR_ d b o u t g) (x : Int32) : Ev_ (fun n => uf_X0_fault n d u t x) (fun r => Sp_fault g x r) := by
  obtain ⟨h0, aN, s0, fs, k1, k2, k3, k4, k5, k6, _⟩ := yR_N h
  unfold uf_X0_fault uf_X0_fault_J24 Sp_fault
  refine ev_if (fun c => ev_b1 k5 (ev_some (by rw [if_pos c]))) (fun c => ?_)
  refine ev_if (fun c2 => ev_b1 k6 (ev_some (by rw [if_neg c, if_pos c2]))) (fun c2 => ?_)
  exact ev_some (by rw [if_neg c, if_neg c2]; exact m1_q)
theorem uq_count {d : UD} {b : Nat} {o : Nat → Nat} {u : UM} {t : Nat} {g : GS_} (h : yR_ d b o u t g) (ok : g_ok g) (x : Int32) : Ev_ (fun n => uf_X0_count n d u t x) (fun r => Sp_count g x r) := by
  obtain ⟨h0, aN, s0, fs, k1, k2, k3, k4, k5, k6, aL, lS, fl, k7, k8, k9, k10⟩ := yR_N h
  obtain ⟨fn, hfn⟩ := ys_cl k3
  obtain ⟨aK, lK, fk, q1, q2, q3, q4, _⟩ := ys_K k3
  obtain ⟨aT, lT, ft, w1, w2, w3, w4, _⟩ := ys_T k3
  have h40 : (g_s g).1.length ≤ 40 := ok.2.2.1.2.2.1
  have hmode : u_ni u 2 4 aN = some (n_ (g_s g).2.2) := by
    obtain ⟨aP, aK, aT, aC, lP, lK, lT, f, e1, _⟩ := k3
    exact ni_e e1 rfl
  unfold uf_X0_count Sp_count
  simp only [k1, m_bs, hfn, q1, q3, q4, w2, w3, w4, hmode, k7, k8, k4, us_many _ k3, ul_size _ k10, k9]
  refine ev_if (fun c0 => ev_some (by rw [if_pos c0]; rfl)) (fun c0 => ?_)
  refine ev_if (fun c1 => ev_some (by rw [if_neg c0, if_pos c1]; rfl)) (fun c1 => ?_)
  refine ev_if (fun c2 => ev_some (by rw [if_neg c0, if_neg c1, if_pos c2])) (fun c2 => ?_)
  refine ev_if (fun c3 => ev_b (us_kept k3 h40) (fun r hr => ev_some (by rw [hr, if_neg c0, if_neg c1, if_neg c2, if_pos c3]))) (fun c3 => ?_)
  refine ev_if (fun c4 => ev_some (by rw [if_neg c0, if_neg c1, if_neg c2, if_neg c3, if_pos c4])) (fun c4 => ?_)
  refine ev_if (fun c5 => ev_some (by rw [if_neg c0, if_neg c1, if_neg c2, if_neg c3, if_neg c4, if_pos c5])) (fun c5 => ?_)
  refine ev_if (fun c6 => ev_some (by rw [if_neg c0, if_neg c1, if_neg c2, if_neg c3, if_neg c4, if_neg c5, if_pos c6])) (fun c6 => ?_)
  exact ev_some (by rw [if_neg c0, if_neg c1, if_neg c2, if_neg c3, if_neg c4, if_neg c5, if_neg c6]; exact m1_q)
theorem eq_lit {x : Int32} {k : Nat} (hk : k < 2147483648) : (x = n_ k) ↔ x.toInt = k := by
  rw [← Int32.toInt_inj, n_toInt hk]
theorem uq_tradeOf {d : UD} {b : Nat} {o : Nat → Nat} {u : UM} {t : Nat} {g : GS_} (h : yR_ d b o u t g) (ok : g_ok g) (x w : Int32) : Ev_ (fun n => uf_X0_tradeOf n d u t x w) (fun r => Sp_tradeOf g x w r) := by
  obtain ⟨h0, aN, s0, fs, k1, k2, k3, k4, k5, k6, _⟩ := yR_N h
  obtain ⟨aT, lT, ft, w1, w2, w3, w4, w5, w6, w7, w8⟩ := ys_T k3
  unfold uf_X0_tradeOf Sp_tradeOf
  simp only [k2, m_bs, uq_isTrade _ h ok, m_ifb, k1, w2, w3]
  by_cases c1 : 0 ≤ x.toInt ∧ x.toInt < (g_s g).1.length
  · simp only [if_pos c1]
    obtain ⟨i, hi, rfl, e1⟩ := pi_ c1
    rw [e1]
    have ht := w7.2 i (by omega) hi
    obtain ⟨t0, t1, t2, t3, t4, t5⟩ := td_ni ht
    refine ev_bn (fun n => w6 n i (by omega)) ?_
    have hone : ∀ n, uf_X0_one n d u (n_ (if ((g_s g).1[i]).2.2.2.2 then 1 else 0)) = some (n_ (if ((g_s g).1[i]).2.2.2.2 then 1 else 0)) := fun n => by rw [← b_n, uo_one]
    simp only [t0, t1, t2, t3, t4, t5, m_bs, hone]
    have fin : ∀ (v : Int32) (c : 0 ≤ w.toInt ∧ w.toInt ≤ 4), v = (if w.toInt = 0 then n_ ((g_s g).1[i]).1 else if w.toInt = 1 then n_ ((g_s g).1[i]).2.1 else if w.toInt = 2 then q_ ((g_s g).1[i]).2.2.1 else if w.toInt = 3 then n_ ((g_s g).1[i]).2.2.2.1 else n_ (if ((g_s g).1[i]).2.2.2.2 then 1 else 0)) → Ev_ (fun _ => some v) (fun r => if h : (0 ≤ (n_ i).toInt ∧ (n_ i).toInt < (g_s g).1.length) ∧ (0 ≤ w.toInt ∧ w.toInt ≤ 4) then ∃ t, (g_s g).1[i]? = some t ∧ r = (if w.toInt = 0 then n_ t.1 else if w.toInt = 1 then n_ t.2.1 else if w.toInt = 2 then q_ t.2.2.1 else if w.toInt = 3 then n_ t.2.2.2.1 else n_ (if t.2.2.2.2 then 1 else 0)) else r = q_ (-2)) := fun v c hv => by
      refine ev_some ?_
      rw [dif_pos ⟨c1, c⟩]
      exact ⟨_, List.getElem?_eq_getElem hi, hv⟩
    rw [show (0 : Int32) = n_ 0 from n_lit 0, show (1 : Int32) = n_ 1 from n_lit 1, show (2 : Int32) = n_ 2 from n_lit 2, show (3 : Int32) = n_ 3 from n_lit 3, show (4 : Int32) = n_ 4 from n_lit 4]
    refine ev_ifq (eq_lit (by omega)) (fun c => fin _ (by omega) (by rw [if_pos (by omega)])) (fun d0 => ?_)
    refine ev_ifq (eq_lit (by omega)) (fun c => fin _ (by omega) (by rw [if_neg (by omega), if_pos (by omega)])) (fun d1 => ?_)
    refine ev_ifq (eq_lit (by omega)) (fun c => fin _ (by omega) (by rw [if_neg (by omega), if_neg (by omega), if_pos (by omega)])) (fun d2 => ?_)
    refine ev_ifq (eq_lit (by omega)) (fun c => fin _ (by omega) (by rw [if_neg (by omega), if_neg (by omega), if_neg (by omega), if_pos (by omega)])) (fun d3 => ?_)
    refine ev_ifq (eq_lit (by omega)) (fun c => fin _ (by omega) (by rw [if_neg (show ¬ w.toInt = 0 by omega), if_neg (show ¬ w.toInt = 1 by omega), if_neg (show ¬ w.toInt = 2 by omega), if_neg (show ¬ w.toInt = 3 by omega)])) (fun d4 => ?_)
    refine ev_some ?_
    rw [dif_neg (fun z => by omega)]
    exact m2_q
  · simp only [if_neg c1, dif_neg (fun q : _ ∧ _ => c1 q.1)]
    exact ev_some m2_q
theorem uq_flow {d : UD} {b : Nat} {o : Nat → Nat} {u : UM} {t : Nat} {g : GS_} (h : yR_ d b o u t g) (ok : g_ok g) (x y z : Int32) : Ev_ (fun n => uf_X0_flow n d u t x y z) (fun r => Sp_2 g x y z (fun a b k r => r = q_ (ss_fl (g_s g).1 k (8 * a + b))) r) := by
  obtain ⟨h0, aN, s0, fs, k1, k2, k3, k4, k5, k6, _⟩ := yR_N h
  obtain ⟨fn, hfn⟩ := ys_cl k3
  have h8 := ok.1
  have h4 := ok.2.1
  unfold uf_X0_flow uf_X0_flow_J25 Sp_2
  simp only [k2, m_bs, uq_areAll _ h ok, m_ifb, k1, hfn]
  by_cases c : ((0 ≤ x.toInt ∧ x.toInt < g_np g) ∧ (0 ≤ y.toInt ∧ y.toInt < g_np g) ∧ x.toInt ≠ y.toInt) ∧ (0 ≤ z.toInt ∧ z.toInt < g_nk g)
  · simp only [if_pos c]
    obtain ⟨a, ha, rfl, e1⟩ := pi_ c.1.1
    obtain ⟨b', hb, rfl, e2⟩ := pi_ c.1.2.1
    obtain ⟨k, hk, rfl, e3⟩ := pi_ c.2
    rw [e1, e2, e3]
    exact ev_b (us_flow k3 ok.2.2.1 (by omega) (by omega) (by omega)) (fun r hr => ev_some hr)
  · simp only [if_neg c]
    exact ev_some m2_q
