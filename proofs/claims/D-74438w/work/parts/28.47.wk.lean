set_option maxRecDepth 100000
/-! The component's questions by the first row -/
theorem ev_qS {α : Type} {a : Nat} {A : Nat → Option α} {B : Nat → Nat → Option α} {Q : α → Prop} (h : Ev_ (fun n => B n a) Q) : Ev_ (fun n => u_qn (some a) (A n) (B n)) Q := h
theorem ev_qN {α : Type} {A : Nat → Option α} {B : Nat → Nat → Option α} {Q : α → Prop} (h : Ev_ A Q) : Ev_ (fun n => u_qn none (A n) (B n)) Q := h
section
variable {d : UD} {b : Nat} {o : Nat → Nat} {u : UM} {t : Nat} {g : GS_}
/-- an answer by the first row, or none -/
theorem uq_by1 (h : yR_ d b o u t g) (ok : g_ok g) (nw : ss_nw (g_np g) (g_nk g) (g_s g)) {k : Nat} (hk : k < g_nk g) {A : (Nat → Int) → Int32} {no : Int32} {G0 : Nat → UM → Option ((Int32 × UM) × UC)} {G1 : Nat → UM → Nat → Option ((Int32 × UM) × UC)}
    (h0 : ∀ u', Ev_ (fun n => G0 n u') (fun r => r = ((no, u'), (0, 0)))) (h1 : ∀ o' u' a f X, yR_ d b o' u' t g → iA_ d u' a 64 f → Q1_ (g_np g) (g_s g) (ss_fl (g_s g).1 k) X → (∀ c, c < 64 → f c = q_ (X c)) → Ev_ (fun n => G1 n u' a) (fun r => r = ((A X, u'), (0, 0)))) :
    Ev_ (fun n => u_bc u.2 (uf_X0_first n d u t (n_ k)) (fun r9 u10 => u_qn r9 (G0 n u10) (fun a15 => G1 n u10 a15))) (fun r => yO_ d b u t g r ∧ sp1_ (g_np g) (g_s g) (ss_fl (g_s g).1 k) A no r.1.1) := by
  refine ev_bc (P := fun r u' c => ∃ o', u'.2 = u.2 + c.1 ∧ c.1 ≤ 8 ∧ c.2 ≤ 279 ∧ yR_ d b o' u' t g ∧ yY_ d o' u' g k r) (uq_first h ok nw hk) (fun a u' c hp => by obtain ⟨_, q, _⟩ := hp; exact q) (fun r u' c hp => ?_)
  obtain ⟨o', z1, b1, b2, R1, hY⟩ := hp
  rcases hY with ⟨a, f, X, rfl, q2, q3, q4, q5⟩ | ⟨rfl, q1⟩
  · refine ev_qS (ev_w (h1 o' u' a f X R1 q2 q4 q5) (fun r hr => ?_))
    subst hr
    exact ⟨⟨o', R1, z1, by show c.1 + 0 ≤ 4000; omega, by show c.2 + 0 ≤ 100000; omega⟩, Or.inl ⟨X, q4, rfl⟩⟩
  · refine ev_qN (ev_w (h0 u') (fun r hr => ?_))
    subst hr
    exact ⟨⟨o', R1, z1, by show c.1 + 0 ≤ 4000; omega, by show c.2 + 0 ≤ 100000; omega⟩, Or.inr ⟨q1, rfl⟩⟩
theorem uq_pressed (h : yR_ d b o u t g) (ok : g_ok g) (nw : ss_nw (g_np g) (g_nk g) (g_s g)) (x y z : Int32) : Ev_ (fun n => uf_X0_pressed n d u t x y z) (fun r => yO_ d b u t g r ∧ Sp_2 g x y z (fun a b k r => sp1_ (g_np g) (g_s g) (ss_fl (g_s g).1 k) (fun X => q_ (X (8 * a + b))) (q_ (-1)) r) r.1.1) := by
  obtain ⟨h0, aN, s0, fs, k1, k2, k3, _⟩ := yR_N h
  have h8 := ok.1
  unfold uf_X0_pressed uf_X0_pressed_J38 Sp_2
  simp only [k2, m_bs, uq_areAll _ h ok, m_ifb]
  by_cases c : ((0 ≤ x.toInt ∧ x.toInt < g_np g) ∧ (0 ≤ y.toInt ∧ y.toInt < g_np g) ∧ x.toInt ≠ y.toInt) ∧ (0 ≤ z.toInt ∧ z.toInt < g_nk g)
  · simp only [if_pos c]
    obtain ⟨a1, ha, rfl, e1⟩ := pi_ c.1.1
    obtain ⟨b1, hb, rfl, e2⟩ := pi_ c.1.2.1
    obtain ⟨k, hk, rfl, e3⟩ := pi_ c.2
    rw [e1, e2, e3]
    refine uq_by1 h ok nw hk (A := fun X => q_ (X (8 * a1 + b1))) (no := q_ (-1)) (G0 := fun _ u10 => some (((-1), u10), (0, 0))) (G1 := fun _ u10 a15 => m_b (u_ldI d u10 a15 ((8 * n_ a1) + n_ b1)) (fun b16 => some ((b16, u10), (0, 0)))) (fun u' => ev_some (by rw [m1_q])) (fun o' u' a f X R1 q2 q4 q5 => ?_)
    rw [show 8 * n_ a1 + n_ b1 = n_ (8 * a1 + b1) from by rw [n_lit 8, n_mul, n_add]]
    refine ev_b1 (ldI_e q2 (show 8 * a1 + b1 < 64 by omega) (by omega)) (ev_some (by rw [q5 _ (by omega)]))
  · simp only [if_neg c]
    exact ev_some ⟨yO_0 h _, m2_q⟩
theorem uq_couples (h : yR_ d b o u t g) (ok : g_ok g) (nw : ss_nw (g_np g) (g_nk g) (g_s g)) (z : Int32) : Ev_ (fun n => uf_X0_couples n d u t z) (fun r => yO_ d b u t g r ∧ Sp_1 g z (fun _ X => n_ (ct_ 64 X)) (q_ (-1)) r.1.1) := by
  obtain ⟨h0, aN, s0, fs, k1, k2, k3, _⟩ := yR_N h
  unfold uf_X0_couples uf_X0_couples_J29 Sp_1
  simp only [k2, m_bs, uq_isKind _ h ok, m_ifb]
  by_cases c : 0 ≤ z.toInt ∧ z.toInt < g_nk g
  · simp only [if_pos c]
    obtain ⟨k, hk, rfl, e3⟩ := pi_ c
    rw [e3]
    refine uq_by1 h ok nw hk (A := fun X => n_ (ct_ 64 X)) (no := q_ (-1)) (G0 := fun _ u10 => some (((-1), u10), (0, 0))) (G1 := fun n u10 a15 => m_b (uf_X0_above n d u10 a15) (fun r17 => some ((r17, u10), (0, 0)))) (fun u' => ev_some (by rw [m1_q])) (fun o' u' a f X R1 q2 q4 q5 => ?_)
    exact ev_b (uq_above q2 q5 (Q1_fit ok.2.2.1 (fl_s_ok ok.2.2.1 nw hk) q4)) (fun r hr => ev_some (by rw [hr]))
  · simp only [if_neg c]
    exact ev_some ⟨yO_0 h _, m2_q⟩
theorem uq_reliefOf (h : yR_ d b o u t g) (ok : g_ok g) {k : Nat} (hk : k < g_nk g) {a : Nat} {f : Nat → Int32} (ha : iA_ d u a 64 f) {X : Nat → Int} (eX : ∀ c, c < 64 → f c = q_ (X c)) (hz : ∀ c, c < 64 → ¬ fs_cp (g_np g) c → X c = 0) {p : Nat} (hp : p < 8) : Ev_ (fun n => uf_X0_reliefOf n d u t (n_ p) (n_ k) a) (fun r => r = q_ (rl_f (ss_fl (g_s g).1 k) X p)) := by
  obtain ⟨h0, aN, s0, fs, k1, k2, k3, _⟩ := yR_N h
  obtain ⟨fn, hfn⟩ := ys_cl k3
  have h8 := ok.1
  have h4 := ok.2.1
  have sok := ok.2.2.1
  have hmany : ∀ n, uf_X1_many n d u aN = some (n_ (g_np g)) := fun n => us_many n k3
  obtain ⟨s1, s2⟩ := sd_1 sok k hp
  unfold uf_X0_reliefOf
  refine ev_b1 k1 (ev_b1 hfn ?_)
  refine ev_b (us_side k3 sok hp (show k < 4 by omega) 1 1) (fun r6 hr6 => ?_)
  refine ev_b1 k1 (ev_b1 hfn ?_)
  refine ev_b (us_side k3 sok hp (show k < 4 by omega) 0 1) (fun r12 hr12 => ?_)
  have e6 : r6 = q_ (fs_out (ss_fl (g_s g).1 k) p) := by rw [hr6, ← s1]; rfl
  have e12 : r12 = q_ (fs_in (ss_fl (g_s g).1 k) p) := by rw [hr12, ← s2]; rfl
  rw [e6, e12, q_add]
  have eo : fs_out X p = fw_sm (g_np g) (fun b => X (8 * p + b)) := fw_sm_ext h8 (fun b h1 h2 => hz _ (by omega) (fun z => by have := ((fs_cp_at h2).mp z).2.1; omega))
  have ei : fs_in X p = fw_sm (g_np g) (fun b => X (8 * b + p)) := fw_sm_ext h8 (fun b h1 h2 => hz _ (by omega) (fun z => by have := ((fs_cp_at hp).mp z).1; omega))
  generalize hs : fs_out (ss_fl (g_s g).1 k) p + fs_in (ss_fl (g_s g).1 k) p = s
  refine ev_b (P := fun r => r = q_ (s - fs_out X p - fs_in X p)) ?_ (fun r hr => ev_some (by rw [hr]; unfold rl_f; rw [hs]))
  unfold uf_X0_reliefOf_L28l
  refine ev_for (g_np g) (fun (i : Nat) (y : Int32 × Int32) => y = (q_ (s - fw_sm i (fun b => X (8 * p + b)) - fw_sm i (fun b => X (8 * b + p))), n_ i)) (fun i y hi hP => ?_) (fun y hP => ?_) _ (by rw [show s - fw_sm 0 (fun b => X (8 * p + b)) - fw_sm 0 (fun b => X (8 * b + p)) = s by simp [fw_sm]]; rfl)
  · subst hP
    refine ev_eq (r := .inl (q_ (s - fw_sm (i + 1) (fun b => X (8 * p + b)) - fw_sm (i + 1) (fun b => X (8 * b + p))), n_ (i + 1))) (fun n => ?_) ⟨_, rfl, rfl⟩
    unfold uf_X0_reliefOf_L28
    dsimp only
    rw [k1, m_bs, hfn, m_bs, hmany, m_bs, ef_F (by rw [n_le (by omega) (by omega)]; omega), show 8 * n_ p + n_ i = n_ (8 * p + i) from by rw [n_lit 8, n_mul, n_add], show 8 * n_ i + n_ p = n_ (8 * i + p) from by rw [n_lit 8, n_mul, n_add], ldI_e ha (by omega) (by omega), m_bs, ldI_e ha (by omega) (by omega), m_bs, eX _ (by omega), eX _ (by omega), q_add, q_sub, show n_ i + 1 = n_ (i + 1) from by rw [n_lit 1, n_add]]
    rw [show fw_sm (i + 1) (fun b => X (8 * p + b)) = fw_sm i (fun b => X (8 * p + b)) + X (8 * p + i) from rfl, show fw_sm (i + 1) (fun b => X (8 * b + p)) = fw_sm i (fun b => X (8 * b + p)) + X (8 * i + p) from rfl]
    congr 4
    omega
  · subst hP
    refine ev_eq (r := .inr (q_ (s - fs_out X p - fs_in X p))) (fun n => ?_) ⟨_, rfl, rfl⟩
    unfold uf_X0_reliefOf_L28
    dsimp only
    rw [k1, m_bs, hfn, m_bs, hmany, m_bs, ef_T (by rw [n_le (by omega) (by omega)]; omega), eo, ei]
theorem uq_relief (h : yR_ d b o u t g) (ok : g_ok g) (nw : ss_nw (g_np g) (g_nk g) (g_s g)) (x z : Int32) : Ev_ (fun n => uf_X0_relief n d u t x z) (fun r => yO_ d b u t g r ∧ Sp_pk g x z (fun p k r => sp1_ (g_np g) (g_s g) (ss_fl (g_s g).1 k) (fun X => q_ (100000000 + rl_f (ss_fl (g_s g).1 k) X p)) (q_ (-1)) r) r.1.1) := by
  obtain ⟨h0, aN, s0, fs, k1, k2, k3, _⟩ := yR_N h
  have h8 := ok.1
  unfold uf_X0_relief uf_X0_relief_J16 uf_X0_relief_J44 Sp_pk
  simp only [k2, m_bs, uq_isParty _ h ok, uq_isKind _ h ok, m_ifb]
  by_cases c1 : 0 ≤ x.toInt ∧ x.toInt < g_np g
  · by_cases c2 : 0 ≤ z.toInt ∧ z.toInt < g_nk g
    · simp only [if_pos c1, if_pos c2, if_pos (show (0 ≤ x.toInt ∧ x.toInt < g_np g) ∧ (0 ≤ z.toInt ∧ z.toInt < g_nk g) from ⟨c1, c2⟩)]
      obtain ⟨p, hp, rfl, e1⟩ := pi_ c1
      obtain ⟨k, hk, rfl, e3⟩ := pi_ c2
      rw [e1, e3]
      refine uq_by1 h ok nw hk (A := fun X => q_ (100000000 + rl_f (ss_fl (g_s g).1 k) X p)) (no := q_ (-1)) (G0 := fun _ u10 => some (((-1), u10), (0, 0))) (G1 := fun n u15 a20 => m_b (u_cl u15 1 t) (fun _ => m_b (uf_X0_reliefOf n d u15 t (n_ p) (n_ k) a20) (fun r24 => some ((100000000 + r24, u15), (0, 0))))) (fun u' => ev_some (by rw [m1_q])) (fun o' u' a f X R1 q2 q4 q5 => ?_)
      obtain ⟨_, _, _, fs1, _, l2, _⟩ := yR_N R1
      refine ev_b1 l2 (ev_b (uq_reliefOf R1 ok hk q2 q5 q4.1.1.2.1 (show p < 8 by omega)) (fun r hr => ev_some ?_))
      rw [hr, q_lit 100000000, q_add]; rfl
    · simp only [if_pos c1, if_neg c2, if_neg (show ¬ ((0 ≤ x.toInt ∧ x.toInt < g_np g) ∧ (0 ≤ z.toInt ∧ z.toInt < g_nk g)) from fun q => c2 q.2)]
      exact ev_some ⟨yO_0 h _, m2_q⟩
  · simp only [if_neg c1, if_neg (show ¬ ((0 ≤ x.toInt ∧ x.toInt < g_np g) ∧ (0 ≤ z.toInt ∧ z.toInt < g_nk g)) from fun q => c1 q.1)]
    exact ev_some ⟨yO_0 h _, m2_q⟩
theorem uq_relieved (h : yR_ d b o u t g) (ok : g_ok g) (nw : ss_nw (g_np g) (g_nk g) (g_s g)) (z : Int32) : Ev_ (fun n => uf_X0_relieved n d u t z) (fun r => yO_ d b u t g r ∧ Sp_k g z (fun k r => sp1_ (g_np g) (g_s g) (ss_fl (g_s g).1 k) (fun X => q_ (am_ (rl_f (ss_fl (g_s g).1 k) X) (g_np g))) (q_ (-1)) r) r.1.1) := by
  obtain ⟨h0, aN, s0, fs, k1, k2, k3, _⟩ := yR_N h
  have h8 := ok.1
  unfold uf_X0_relieved Sp_k
  simp only [k2, m_bs, uq_isKind _ h ok, m_ifb]
  by_cases c : 0 ≤ z.toInt ∧ z.toInt < g_nk g
  · simp only [if_pos c]
    obtain ⟨k, hk, rfl, e3⟩ := pi_ c
    rw [e3]
    have hfl := fl_s_ok ok.2.2.1 nw hk
    refine uq_by1 h ok nw hk (A := fun X => q_ (am_ (rl_f (ss_fl (g_s g).1 k) X) (g_np g))) (no := q_ (-1)) (G0 := fun _ u10 => some (((-1), u10), (0, 0))) (G1 := fun n u10 a15 => u_bl (uf_X0_relieved_L28l n d t (n_ k) a15 (((-1), 0, u10))) (fun y36 => some ((y36.1, y36.2), (0, 0)))) (fun u' => ev_some (by rw [m1_q])) (fun o' u' a f X R1 q2 q4 q5 => ?_)
    obtain ⟨_, aN1, s1, fs1, l1, l2, l3, _⟩ := yR_N R1
    obtain ⟨fn1, hfn1⟩ := ys_cl l3
    have hmany : ∀ n, uf_X1_many n d u' aN1 = some (n_ (g_np g)) := fun n => us_many n l3
    have hrel := fun {p : Nat} (hp : p < 8) => uq_reliefOf R1 ok hk q2 q5 q4.1.1.2.1 hp
    refine ev_bl (P := fun y c => c = (0, 0) ∧ y = (q_ (am_ (rl_f (ss_fl (g_s g).1 k) X) (g_np g)), u')) ?_ (fun y c hp => by obtain ⟨rfl, rfl⟩ := hp; exact ev_some rfl)
    generalize hv : rl_f (ss_fl (g_s g).1 k) X = v at *
    have hfit : ∀ p, p < 8 → -2047483648 < v p ∧ v p < 2047483648 := fun p hp => by rw [← hv]; exact rlf_fit ok.2.2.1 hfl q4 hp
    unfold uf_X0_relieved_L28l
    refine ev_uf (Q := fun (y : Int32 × UM) => y = (q_ (am_ v (g_np g)), u')) (g_np g) (fun (i : Nat) (y : Int32 × Int32 × UM) => y = (q_ (am_ v i), n_ i, u')) (fun i y hi hP => ?_) (fun y hP => ?_) _ (by rw [m1_q, ← n_lit 0]; rfl)
    · subst hP
      have hb := am_b v i
      unfold uf_X0_relieved_L28 uf_X0_relieved_J63 uf_X0_relieved_J66
      simp only [l1, hfn1, hmany, l2, m_bs, show n_ i + 1 = n_ (i + 1) from by rw [n_lit 1, n_add]]
      refine ev_ifF (by rw [n_le (by omega) (by omega)]; omega) ?_
      refine ev_ifq (c' := am_ v i = -1) (by rw [m1_q, q_eq ⟨by omega, by omega⟩ ⟨by omega, by omega⟩]) (fun c => ?_) (fun c => ?_)
      · refine ev_some ⟨_, rfl, ?_⟩
        simp only [am_]
        rw [if_pos (Or.inl c)]; rfl
      · refine ev_b (hrel (show i < 8 by omega)) (fun r hr => ?_)
        subst hr
        have eb : q_ (am_ v i) = n_ (am_ v i).toNat := by
          unfold n_; rw [Int.toNat_of_nonneg (by omega)]
        have hb8 : (am_ v i).toNat < 8 := by omega
        rw [eb]
        refine ev_b (hrel hb8) (fun r hr => ?_)
        subst hr
        have f1 := hfit i (by omega)
        have f2 := hfit _ hb8
        refine ev_ifq (q_le ⟨by omega, by omega⟩ ⟨by omega, by omega⟩) (fun c2 => ?_) (fun c2 => ?_)
        · refine ev_some ⟨_, rfl, ?_⟩
          simp only [am_]
          rw [if_neg (fun z => z.elim c (fun z => by omega)), eb]
        · refine ev_some ⟨_, rfl, ?_⟩
          simp only [am_]
          rw [if_pos (Or.inr (by omega))]; rfl
    · subst hP
      unfold uf_X0_relieved_L28
      simp only [l1, hfn1, hmany, m_bs]
      exact ev_ifT (by rw [n_le (by omega) (by omega)]; omega) (ev_some ⟨_, rfl, rfl⟩)
  · simp only [if_neg c]
    exact ev_some ⟨yO_0 h _, m2_q⟩
theorem uq_through (h : yR_ d b o u t g) (ok : g_ok g) (nw : ss_nw (g_np g) (g_nk g) (g_s g)) (x z w : Int32) : Ev_ (fun n => uf_X0_through n d u t x z w) (fun r => yO_ d b u t g r ∧ Sp_through g x z w r.1.1) := by
  obtain ⟨h0, aN, s0, fs, k1, k2, k3, _⟩ := yR_N h
  obtain ⟨fn, hfn⟩ := ys_cl k3
  have h8 := ok.1
  have h4 := ok.2.1
  have sok := ok.2.2.1
  have hin := fun n => uin_lit n d u w (lo := 0) (hi := 1) (a := 0) (c := 1) rfl rfl
  unfold uf_X0_through uf_X0_through_J26 Sp_through Sp_pk
  simp only [k2, m_bs, uq_isParty _ h ok, uq_isKind _ h ok, hin, m_ifb]
  by_cases c1 : 0 ≤ x.toInt ∧ x.toInt < g_np g
  · by_cases c2 : 0 ≤ z.toInt ∧ z.toInt < g_nk g
    · simp only [if_pos c1, if_pos c2, if_pos (show (0 ≤ x.toInt ∧ x.toInt < g_np g) ∧ (0 ≤ z.toInt ∧ z.toInt < g_nk g) from ⟨c1, c2⟩)]
      by_cases c3 : 0 ≤ w.toInt ∧ w.toInt ≤ 1
      · simp only [if_pos c3]
        obtain ⟨p, hp, rfl, e1⟩ := pi_ c1
        obtain ⟨k, hk, rfl, e3⟩ := pi_ c2
        rw [e1, e3]
        have hfl := fl_s_ok sok nw hk
        have core : ∀ {o' : Nat → Nat} {u' : UM} {a : Nat} {f : Nat → Int32} {F : Nat → Int}, yR_ d b o' u' t g → iA_ d u' a 64 f → (∀ c, c < 64 → f c = q_ (F c)) → (∀ c, c < 64 → ¬ fs_cp (g_np g) c → F c = 0) → (0 ≤ fs_out F p ∧ fs_out F p < 2147483648) → (0 ≤ fs_in F p ∧ fs_in F p < 2147483648) → Ev_ (fun n => m_b (u_fr d u' 1 0 t) (fun b25 => m_b (u_cl u' 2 b25) (fun _ => m_b (uf_X1_many n d u' b25) (fun r30 => m_b (uf_X0_throughOf n d u' r30 a (n_ p)) (fun r32 => some ((r32, u'), ((0, 0) : UC))))))) (fun r => r = ((q_ (min (fs_out F p) (fs_in F p)), u'), (0, 0))) := fun {o' u' a f F} R1 q2 q5 hz i1 i2 => by
          obtain ⟨_, aN1, s1, fs1, l1, l2, l3, _⟩ := yR_N R1
          obtain ⟨fn1, hfn1⟩ := ys_cl l3
          refine ev_b1 l1 (ev_b1 hfn1 (ev_bn (fun n => us_many n l3) ?_))
          exact ev_b (ux_thr q2 q5 h8 hz (show p < 8 by omega) i1 i2) (fun r hr => ev_some (by rw [hr]))
        refine ev_ifq (eq_li (v := 0) rfl) (fun d0 => ?_) (fun d0 => ?_)
        · simp only [if_neg (show ¬ w.toInt = 1 by omega)]
          refine ev_b1 k1 (ev_b1 hfn ?_)
          refine ev_bc (P := fun a u' c => c = (1, 64) ∧ a = u.2 ∧ u'.2 = u.2 + 1 ∧ ygt_ b K0_ o u (ot_ o u.2 21) u' ∧ ∃ f, iA_ d u' u.2 64 f ∧ ∀ c, c < 64 → f c = q_ (ss_fl (g_s g).1 k c)) (us_flows h0 k3 sok (show k < 4 by omega)) (fun a u' c hp => by rw [hp.1]; exact hp.2.2.1) (fun a u' c hp => ?_)
          obtain ⟨rfl, rfl, p3, p4, f, p5, p6⟩ := hp
          have R1 := yR_keep h p4 (fun x hx => hx.elim)
          have fit := fl_fit hfl (show p < 8 by omega)
          unfold uf_X0_through_J49 uf_X0_through_J73
          refine ev_qS (ev_w (core R1 p5 p6 hfl.2.2.1 (by omega) (by omega)) (fun r hr => ?_))
          subst hr
          exact ⟨⟨_, R1, p3, Nat.le_of_ble_eq_true rfl, Nat.le_of_ble_eq_true rfl⟩, rfl⟩
        · simp only [if_pos (show w.toInt = 1 by omega)]
          unfold uf_X0_through_J49 uf_X0_through_J73
          refine uq_by1 h ok nw hk (A := fun X => q_ (min (fs_out X p) (fs_in X p))) (no := q_ (-1)) (G0 := fun _ u10 => some (((-1), u10), (0, 0))) (G1 := fun n u' a => m_b (u_fr d u' 1 0 t) (fun b25 => m_b (u_cl u' 2 b25) (fun _ => m_b (uf_X1_many n d u' b25) (fun r30 => m_b (uf_X0_throughOf n d u' r30 a (n_ p)) (fun r32 => some ((r32, u'), ((0, 0) : UC))))))) (fun u' => ev_some (by rw [m1_q])) (fun o' u' a f X R1 q2 q4 q5 => ?_)
          have s1 := Q1_sum sok hfl q4 (show p < 8 by omega)
          have nn : 0 ≤ fs_out X p := fw_sm_nonneg (fun i hi => (Q1_fit sok hfl q4 _ (by omega)).1)
          have nn2 : 0 ≤ fs_in X p := fw_sm_nonneg (fun i hi => (Q1_fit sok hfl q4 _ (by omega)).1)
          exact core R1 q2 q5 q4.1.1.2.1 (by omega) (by omega)
      · simp only [if_neg c3]
        exact ev_some ⟨yO_0 h _, m2_q⟩
    · simp only [if_pos c1, if_neg c2, if_neg (show ¬ ((0 ≤ x.toInt ∧ x.toInt < g_np g) ∧ (0 ≤ z.toInt ∧ z.toInt < g_nk g)) from fun q => c2 q.2)]
      exact ev_some ⟨yO_0 h _, m2_q⟩
  · simp only [if_neg c1, if_neg (show ¬ ((0 ≤ x.toInt ∧ x.toInt < g_np g) ∧ (0 ≤ z.toInt ∧ z.toInt < g_nk g)) from fun q => c1 q.1)]
    exact ev_some ⟨yO_0 h _, m2_q⟩
end
