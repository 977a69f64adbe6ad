set_option maxRecDepth 100000
/-! The reference's public methods that press -/
theorem n_toInt {k : Nat} (h : k < 2147483648) : (n_ k).toInt = k := q_toInt ⟨by omega, by omega⟩
theorem ki_ {nk : Nat} (h4 : nk ≤ 4) {x : Int32} (c : 0 ≤ x.toInt ∧ x.toInt < nk) : ∃ k, k < nk ∧ x = n_ k ∧ x.toInt.toNat = k := ⟨x.toInt.toNat, by omega, n_of c.1, rfl⟩
theorem rf_LP {g : GS_} (ok : g_ok g) (nw : ss_nw (g_np g) (g_nk g) (g_s g)) {st : MS} (R : rf_R g st) {k : Nat} (hk : k < g_nk g) {w : Int} (hw : -1 ≤ w ∧ w < 8) {β : Type} {K : Nat → Int32 → MS → Option β} {Q : β → Prop}
    (hT : ∀ s X t, ms_ [17, 21, 22, 23, 24, 25, 26, 27, 28] st s → (∀ c, c < 64 → s.2.1 17 c = q_ (fl_wo w (ss_fl (g_s g).1 k) c)) → rp_ s (ss_be (g_np g) (g_s g) (fl_wo w (ss_fl (g_s g).1 k))) (ss_may (g_s g) (fl_wo w (ss_fl (g_s g).1 k))) rn_no X t → rn_T (g_np g) (ss_nu (g_np g) (fl_wo w (ss_fl (g_s g).1 k))) (ss_be (g_np g) (g_s g) (fl_wo w (ss_fl (g_s g).1 k))) (some (ss_may (g_s g) (fl_wo w (ss_fl (g_s g).1 k)))) (ss_may (g_s g) (fl_wo w (ss_fl (g_s g).1 k))) rn_no X t → Ev_ (fun n => K n (n_ 1) s) Q)
    (hN : ∀ s, ms_ [17, 21, 22, 23, 24, 25, 26, 27, 28] st s → QN_ (g_np g) (g_s g) (fl_wo w (ss_fl (g_s g).1 k)) (ss_be (g_np g) (g_s g) (fl_wo w (ss_fl (g_s g).1 k))) → Ev_ (fun n => K n (n_ 0) s) Q) :
    Ev_ (fun n => m_b (f_laysBounds n st (n_ k) (q_ w)) (fun s5 => m_b2 (f_presses n s5) (K n))) Q := by
  have okS := ok.2.2.1
  have hfl := fl_wo_ok okS nw hk w
  have hk4 : k < 4 := by have := ok.2.1; omega
  refine ev_b (rf_laysBounds okS R.2.2.2.2.2.2.1 R.1 hk4 hw (fun p hp => by have := fl_fit hfl hp; omega)) (fun s1 hs1 => ?_)
  obtain ⟨m1, g17, g21, g26, g23⟩ := hs1
  generalize hf : fl_wo w (ss_fl (g_s g).1 k) = f at *
  have A := rf_A (g_s g) hfl (be := ss_be (g_np g) (g_s g) f) (fun c hc => (ss_be_fit okS hfl hc).1) (fun c hc hn => by unfold ss_be; exact if_neg hn)
  refine ev_b2 (rf_presses A (fun c hc => by have := ss_be_fit okS hfl hc; omega) (fun p hp => ss_may_fit (g_s g) hfl hp) (fun p hp => by have := fl_fit hfl hp; omega) (by rw [m1.1]; exact R.1) g17 g21 g23 g26) (fun r s2 hr => ?_)
  rcases hr with ⟨e, m2, hz, _⟩ | ⟨e, m2, _, hz⟩
  · dsimp only at e
    subst e
    obtain ⟨X, t, hrp, T⟩ := hz rfl
    refine hT s2 X t (ms_tr (ms_sub m1 (by simp)) (ms_sub m2 (by simp))) (fun c hc => ?_) hrp T
    rw [m2.2.2 17 (by simp)]; exact g17 c hc
  · dsimp only at e
    subst e
    exact hN s2 (ms_tr (ms_sub m1 (by simp)) (ms_sub m2 (by simp))) ((th_F okS hfl (fun c hc => ss_be_b _ _ _ c)).mp (hz rfl))
def Sp_least (g : GS_) (x : Int32) (r : Int32) : Prop := if 0 ≤ x.toInt ∧ x.toInt < g_nk g then spT_ (g_np g) (g_s g) (ss_fl (g_s g).1 x.toInt.toNat) (ss_be (g_np g) (g_s g) (ss_fl (g_s g).1 x.toInt.toNat)) q_ (q_ (-1)) r else r = q_ (-2)
theorem m2_q : (-2 : Int32) = q_ (-2) := rfl
theorem m3_q : (-3 : Int32) = q_ (-3) := rfl
theorem m4_q : (-4 : Int32) = q_ (-4) := rfl
theorem m5_q : (-5 : Int32) = q_ (-5) := rfl
theorem sc_p : ∀ k ∈ [17, 21, 22, 23, 24, 25, 26, 27, 28], k ∈ sc_a := by decide
theorem rf_least {g : GS_} (ok : g_ok g) (nw : ss_nw (g_np g) (g_nk g) (g_s g)) {st : MS} (R0 : rf_R g st) (x : Int32) : Ev_ (fun n => f_least n st x) (fun r => rf_R g r.2 ∧ Sp_least g x r.1) := by
  have R := rf_R_8 R0
  have hk := fun n => rf_isKind n R.2.1 ok.2.1 x
  unfold Sp_least
  simp only [f_least, f_least_J37, hk, m_bs, m_ifb]
  by_cases c : 0 ≤ x.toInt ∧ x.toInt < g_nk g
  · simp only [if_pos c]
    obtain ⟨k, hkk, rfl, e⟩ := ki_ ok.2.1 c
    rw [e, m1_q]
    refine rf_LP ok nw R hkk (w := -1) ⟨by omega, by omega⟩ (fun s X t m1 _ hrp T => ?_) (fun s m1 hN => ?_)
    · refine ev_ifF n_10 (ev_b (rf_sumOf hrp.2.1) (fun r hr => ev_some ⟨rf_R_ms R m1 sc_p, Or.inl ⟨X, ?_, hr⟩⟩))
      rw [fl_wo_1] at T
      exact (th_any ok.2.2.1 (fl_s_ok ok.2.2.1 nw hkk) (fun c hc => ss_be_b _ _ _ c) X).mp T.1
    · rw [fl_wo_1] at hN
      exact ev_ifT (n_lit 0).symm (ev_some ⟨rf_R_ms R m1 sc_p, Or.inr ⟨hN, rfl⟩⟩)
  · simp only [if_neg c]
    exact ev_some ⟨R, m2_q⟩
def Sp_1 (g : GS_) (x : Int32) (A : (Nat → Int) → (Nat → Int) → Int32) (no : Int32) (r : Int32) : Prop := if 0 ≤ x.toInt ∧ x.toInt < g_nk g then sp1_ (g_np g) (g_s g) (ss_fl (g_s g).1 x.toInt.toNat) (A (ss_fl (g_s g).1 x.toInt.toNat)) no r else r = q_ (-2)
/-- pressing a kind: the first row, or none -/
theorem rf_P1 {g : GS_} (ok : g_ok g) (nw : ss_nw (g_np g) (g_nk g) (g_s g)) {st : MS} (R : rf_R g st) {k : Nat} (hk : k < g_nk g) {β : Type} {K : Nat → Int32 → MS → Option β} {Q : β → Prop}
    (hT : ∀ s X, ms_ [17, 21, 22, 23, 24, 25, 26, 27, 28] st s → (∀ c, c < 64 → s.2.1 17 c = q_ (ss_fl (g_s g).1 k c)) → (∀ c, c < 64 → s.2.1 22 c = q_ (X c)) → Q1_ (g_np g) (g_s g) (ss_fl (g_s g).1 k) X → Ev_ (fun n => K n (n_ 1) s) Q)
    (hN : ∀ s, ms_ [17, 21, 22, 23, 24, 25, 26, 27, 28] st s → QN_ (g_np g) (g_s g) (ss_fl (g_s g).1 k) (ss_be (g_np g) (g_s g) (ss_fl (g_s g).1 k)) → Ev_ (fun n => K n (n_ 0) s) Q) :
    Ev_ (fun n => m_b2 (f_pressesFirst n st (n_ k)) (K n)) Q := by
  have hfl := fl_s_ok ok.2.2.1 nw hk
  refine ev_b2 (rf_pressesFirst ok.2.2.1 nw R.2.2.2.2.2.2.1 R.1 hk) (fun r s hr => ?_)
  obtain ⟨m1, g17, hr⟩ := hr
  dsimp only at hr
  rcases hr with ⟨e, X, h22, h1⟩ | ⟨e, hz⟩
  · subst e
    exact hT s X m1 g17 h22 (th_1 ok.2.2.1 hfl (fun c hc => ss_be_b _ _ _ c) h1)
  · subst e
    exact hN s m1 ((th_F ok.2.2.1 hfl (fun c hc => ss_be_b _ _ _ c)).mp hz)
/-- numbers of the first row fit -/
theorem Q1_fit {np nk : Nat} {s : SS_} (ok : ss_ok np nk s) {f : Nat → Int} (h : fl_ok np f) {X : Nat → Int} (hX : Q1_ np s f X) : ∀ c, c < 64 → 0 ≤ X c ∧ X c < 2147483648 := fun c hc => by
  have h1 := fs_F_nn hX.1.1 hc
  have h2 := fs_F_le hX.1.1 (fun c hc => (ss_be_fit ok h hc).1) hc
  have := ss_be_fit ok h hc
  omega
theorem rf_couples {g : GS_} (ok : g_ok g) (nw : ss_nw (g_np g) (g_nk g) (g_s g)) {st : MS} (R0 : rf_R g st) (x : Int32) : Ev_ (fun n => f_couples n st x) (fun r => rf_R g r.2 ∧ Sp_1 g x (fun _ X => n_ (ct_ 64 X)) (q_ (-1)) r.1) := by
  have R := rf_R_8 R0
  have hk := fun n => rf_isKind n R.2.1 ok.2.1 x
  unfold Sp_1
  simp only [f_couples, f_couples_J32, hk, m_bs, m_ifb]
  by_cases c : 0 ≤ x.toInt ∧ x.toInt < g_nk g
  · simp only [if_pos c]
    obtain ⟨k, hkk, rfl, e⟩ := ki_ ok.2.1 c
    rw [e]
    refine rf_P1 ok nw R hkk (fun s X m1 _ h22 hX => ?_) (fun s m1 hN => ?_)
    · exact ev_ifF n_10 (ev_b (rf_couplesNow h22 (Q1_fit ok.2.2.1 (fl_s_ok ok.2.2.1 nw hkk) hX)) (fun r hr => ev_some ⟨rf_R_ms R m1 sc_p, Or.inl ⟨X, hX, hr⟩⟩))
    · exact ev_ifT (n_lit 0).symm (ev_some ⟨rf_R_ms R m1 sc_p, Or.inr ⟨hN, rfl⟩⟩)
  · simp only [if_neg c]
    exact ev_some ⟨R, m2_q⟩
def ar_ (g : GS_) (x : Int32) : Prop := 0 ≤ x.toInt ∧ x.toInt < g_np g
/-- two parties and a kind -/
def a2_ (g : GS_) (x y : Int32) : Prop := (0 ≤ x.toInt ∧ x.toInt < g_np g) ∧ (0 ≤ y.toInt ∧ y.toInt < g_np g) ∧ x.toInt ≠ y.toInt
theorem pi_ {np : Nat} {x : Int32} (c : 0 ≤ x.toInt ∧ x.toInt < np) : ∃ p, p < np ∧ x = n_ p ∧ x.toInt.toNat = p := ⟨x.toInt.toNat, by omega, n_of c.1, rfl⟩
noncomputable def Sp_2 (g : GS_) (x y z : Int32) (P : Nat → Nat → Nat → Int32 → Prop) (r : Int32) : Prop := if ((0 ≤ x.toInt ∧ x.toInt < g_np g) ∧ (0 ≤ y.toInt ∧ y.toInt < g_np g) ∧ x.toInt ≠ y.toInt) ∧ (0 ≤ z.toInt ∧ z.toInt < g_nk g) then P x.toInt.toNat y.toInt.toNat z.toInt.toNat r else r = q_ (-2)
/-- the start of methods with two parties and a kind -/
theorem rf_2 {g : GS_} (ok : g_ok g) {st : MS} (R : rf_R g (m_sg st 8 0)) (x y z : Int32) {K : Nat → Option (Int32 × MS)} {P : Nat → Nat → Nat → Int32 → Prop} (h : ∀ a b k, a < g_np g → b < g_np g → a ≠ b → k < g_nk g → x = n_ a → y = n_ b → z = n_ k → Ev_ K (fun r => rf_R g r.2 ∧ P a b k r.1)) :
    Ev_ (fun n => m_b (f_areTwo n (m_sg st 8 0) x y) (fun r2 => m_if (r2 = 0) (some (-2, m_sg st 8 0)) (m_b (f_isKind n (m_sg st 8 0) z) (fun r5 => m_if (r5 = 0) (some (-2, m_sg st 8 0)) (K n))))) (fun r => rf_R g r.2 ∧ Sp_2 g x y z P r.1) := by
  have h1 := fun n => rf_areTwo n R.1 ok.1 x y
  have h2 := fun n => rf_isKind n R.2.1 ok.2.1 z
  unfold Sp_2
  simp only [h1, h2, m_bs, m_ifb]
  by_cases c1 : (0 ≤ x.toInt ∧ x.toInt < g_np g) ∧ (0 ≤ y.toInt ∧ y.toInt < g_np g) ∧ x.toInt ≠ y.toInt
  · by_cases c2 : 0 ≤ z.toInt ∧ z.toInt < g_nk g
    · simp only [if_pos c1, if_pos c2, if_pos (And.intro c1 c2)]
      exact h _ _ _ (by omega) (by omega) (by omega) (by omega) (n_of c1.1.1) (n_of c1.2.1.1) (n_of c2.1)
    · simp only [if_pos c1, if_neg c2, if_neg (fun q : _ ∧ _ => c2 q.2)]
      exact ev_some ⟨R, m2_q⟩
  · simp only [if_neg c1, if_neg (fun q : _ ∧ _ => c1 q.1)]
    exact ev_some ⟨R, m2_q⟩
theorem rf_pressed {g : GS_} (ok : g_ok g) (nw : ss_nw (g_np g) (g_nk g) (g_s g)) {st : MS} (R0 : rf_R g st) (x y z : Int32) : Ev_ (fun n => f_pressed n st x y z) (fun r => rf_R g r.2 ∧ Sp_2 g x y z (fun a b k r => sp1_ (g_np g) (g_s g) (ss_fl (g_s g).1 k) (fun X => q_ (X (8 * a + b))) (q_ (-1)) r) r.1) := by
  have R := rf_R_8 R0
  unfold f_pressed f_pressed_J22 f_pressed_J47
  refine rf_2 ok R x y z (fun a b k ha hb hab hk ex ey ez => ?_)
  subst ex; subst ey; subst ez
  have h8 := ok.1
  refine rf_P1 ok nw R hk (fun s X m1 _ h22 hX => ?_) (fun s m1 hN => ?_)
  · refine ev_ifF n_10 ?_
    refine ev_bn (fun n => rf_couple n a b) (ev_g (n_in (by omega) (by omega)) ?_)
    rw [n_nat (by omega), h22 _ (by omega)]
    exact ev_some ⟨rf_R_ms R m1 sc_p, Or.inl ⟨X, hX, rfl⟩⟩
  · exact ev_ifT (n_lit 0).symm (ev_some ⟨rf_R_ms R m1 sc_p, Or.inr ⟨hN, rfl⟩⟩)
/-- the start of methods with a kind -/
noncomputable def Sp_k (g : GS_) (z : Int32) (P : Nat → Int32 → Prop) (r : Int32) : Prop := if 0 ≤ z.toInt ∧ z.toInt < g_nk g then P z.toInt.toNat r else r = q_ (-2)
theorem rf_k {g : GS_} (ok : g_ok g) {st : MS} (R : rf_R g (m_sg st 8 0)) (z : Int32) {K : Nat → Option (Int32 × MS)} {P : Nat → Int32 → Prop} (h : ∀ k, k < g_nk g → z = n_ k → Ev_ K (fun r => rf_R g r.2 ∧ P k r.1)) :
    Ev_ (fun n => m_b (f_isKind n (m_sg st 8 0) z) (fun r5 => m_if (r5 = 0) (some (-2, m_sg st 8 0)) (K n))) (fun r => rf_R g r.2 ∧ Sp_k g z P r.1) := by
  have h2 := fun n => rf_isKind n R.2.1 ok.2.1 z
  unfold Sp_k
  simp only [h2, m_bs, m_ifb]
  by_cases c2 : 0 ≤ z.toInt ∧ z.toInt < g_nk g
  · simp only [if_pos c2]
    exact h _ (by omega) (n_of c2.1)
  · simp only [if_neg c2]
    exact ev_some ⟨R, m2_q⟩
noncomputable def Sp_pk (g : GS_) (x z : Int32) (P : Nat → Nat → Int32 → Prop) (r : Int32) : Prop := if (0 ≤ x.toInt ∧ x.toInt < g_np g) ∧ (0 ≤ z.toInt ∧ z.toInt < g_nk g) then P x.toInt.toNat z.toInt.toNat r else r = q_ (-2)
theorem rf_pk {g : GS_} (ok : g_ok g) {st : MS} (R : rf_R g (m_sg st 8 0)) (x z : Int32) {K : Nat → Option (Int32 × MS)} {P : Nat → Nat → Int32 → Prop} (h : ∀ p k, p < g_np g → k < g_nk g → x = n_ p → z = n_ k → Ev_ K (fun r => rf_R g r.2 ∧ P p k r.1)) :
    Ev_ (fun n => m_b (f_isParty n (m_sg st 8 0) x) (fun r2 => m_if (r2 = 0) (some (-2, m_sg st 8 0)) (m_b (f_isKind n (m_sg st 8 0) z) (fun r5 => m_if (r5 = 0) (some (-2, m_sg st 8 0)) (K n))))) (fun r => rf_R g r.2 ∧ Sp_pk g x z P r.1) := by
  have h1 := fun n => rf_isParty n R.1 ok.1 x
  have h2 := fun n => rf_isKind n R.2.1 ok.2.1 z
  unfold Sp_pk
  simp only [h1, h2, m_bs, m_ifb]
  by_cases c1 : 0 ≤ x.toInt ∧ x.toInt < g_np g
  · by_cases c2 : 0 ≤ z.toInt ∧ z.toInt < g_nk g
    · simp only [if_pos c1, if_pos c2, if_pos (And.intro c1 c2)]
      exact h _ _ (by omega) (by omega) (n_of c1.1) (n_of c2.1)
    · simp only [if_pos c1, if_neg c2, if_neg (fun q : _ ∧ _ => c2 q.2)]
      exact ev_some ⟨R, m2_q⟩
  · simp only [if_neg c1, if_neg (fun q : _ ∧ _ => c1 q.1)]
    exact ev_some ⟨R, m2_q⟩
