set_option maxRecDepth 100000
/-! The reference's questions about rings -/
/-- flows that are none below nothing and fit -/
def ff_ (f : Nat → Int) : Prop := (∀ c, 0 ≤ f c) ∧ ∀ c, c < 64 → f c < 2147483648
theorem ff_c {f : Nat → Int} (h : ff_ f) : ∀ c, c < 64 → 0 ≤ f c ∧ f c < 2147483648 := fun c hc => ⟨h.1 c, h.2 c hc⟩
theorem ff_s {np nk : Nat} {s : SS_} (ok : ss_ok np nk s) (nw : ss_nw np nk s) {k : Nat} (hk : k < nk) : ff_ (ss_fl s.1 k) := ⟨fun c => ss_fl_nn ok k c, fun c hc => by have := fl_c (fl_s_ok ok nw hk) hc; omega⟩
theorem ff_tk {np : Nat} (h8 : np ≤ 8) {f : Nat → Int} (hf : ff_ f) {row : List Nat} (h : rg_ok np f row) : ff_ (rg_tk f row) := by
  obtain ⟨k1, _, _⟩ := rg_tk_le h8 hf.1 h
  exact ⟨fun c => (k1 c).1, fun c hc => by have := (k1 c).2; have := hf.2 c hc; omega⟩
theorem ct_tk {np : Nat} (h8 : np ≤ 8) {f : Nat → Int} (hf : ff_ f) {row : List Nat} (h : rg_ok np f row) : ct_ 64 (rg_tk f row) < ct_ 64 f := by
  obtain ⟨k1, _, c, c1, c2, c3⟩ := rg_tk_le h8 hf.1 h
  exact ct_lt 64 (fun c _ => (k1 c).2) ⟨c, c1, c2, by omega⟩
/-- a ring is looked for -/
theorem rf_LR {np : Nat} (h8 : np ≤ 8) {f : Nat → Int} (hf : ff_ f) {st : MS} (h5 : st.1 5 = n_ np) (h17 : ∀ c, c < 64 → st.2.1 17 c = q_ (f c)) {β : Type} {K : Nat → Int32 → MS → Option β} {Q : β → Prop} (hS : ∀ s row, mt_ [19] [18] st s → rg_ring np f = some row → rg_ok np f row → rr_ s row → Ev_ (fun n => K n (n_ row.length) s) Q) (hN : ∀ s, mt_ [19] [18] st s → rg_ring np f = none → Ev_ (fun n => K n (n_ 0) s) Q) : Ev_ (fun n => m_b2 (f_laysRing n st) (K n)) Q := by
  refine ev_b2 (rf_laysRing h8 (ff_c hf) h5 h17) (fun r s hr => ?_)
  obtain ⟨m1, hr⟩ := hr
  dsimp only at m1 hr
  rcases hr with ⟨row, e1, e2, e3⟩ | ⟨e1, e2⟩
  · subst e2; exact hS s row m1 e1 (rg_ring_ok h8 (fun c _ => hf.1 c) e1) e3
  · subst e2; exact hN s m1 e1
theorem sc_19 {st s : MS} (h : mt_ [19] [18] st s) : mt_ sc_f sc_a st s := mt_sub h (by decide) (by decide)
theorem n_len0 {row : List Nat} (h : 2 ≤ row.length) (h8 : row.length ≤ 8) : ¬ (n_ row.length = (0 : Int32)) := by rw [n_lit 0, n_eq (by omega) (by omega)]; omega
noncomputable def Sp_ring (g : GS_) (z w : Int32) (r : Int32) : Prop := Sp_k g z (fun k r => if -1 ≤ w.toInt then r = (match rg_ring (g_np g) (ss_fl (g_s g).1 k) with | none => q_ (-1) | some row => if w.toInt = -1 then n_ row.length else if w.toInt < row.length then n_ (row.getD w.toInt.toNat 0) else q_ (-1)) else r = q_ (-3)) r
theorem rf_ring {g : GS_} (ok : g_ok g) (nw : ss_nw (g_np g) (g_nk g) (g_s g)) {st : MS} (R0 : rf_R g st) (z w : Int32) : Ev_ (fun n => f_ring n st z w) (fun r => rf_R g r.2 ∧ Sp_ring g z w r.1) := by
  have R := rf_R_8 R0
  have h8 := ok.1
  unfold f_ring f_ring_J67
  refine rf_k ok R z (fun k hk ez => ?_)
  subst ez
  have hf := ff_s ok.2.2.1 nw hk
  have ew : ((-1 : Int32) ≤ w) ↔ -1 ≤ w.toInt := by rw [Int32.le_iff_toInt_le]; rfl
  have ew1 : (w = (-1 : Int32)) ↔ w.toInt = -1 := by rw [← Int32.toInt_inj]; rfl
  refine ev_ifq ew (fun c => ?_) (fun c => ?_)
  · simp only [if_pos c]
    refine ev_b (rf_lays ok R hk) (fun s hs => ?_)
    refine rf_LR h8 hf hs.1.1 hs.2.2 (fun s1 row m1 e1 rok rr => ?_) (fun s1 m1 e1 => ?_)
    · have R1 := rf_R_mt hs.1 (sc_19 m1)
      have hl := rok.2.1
      have h2 := rok.1
      refine ev_ifF (n_len0 h2 (by omega)) ?_
      rw [e1]
      dsimp only
      refine ev_ifq ew1 (fun c1 => ?_) (fun c1 => ?_)
      · rw [if_pos c1]; exact ev_some ⟨R1, rfl⟩
      · rw [if_neg c1]
        obtain ⟨i, hi⟩ : ∃ i : Nat, w.toInt = i := ⟨w.toInt.toNat, by omega⟩
        have hw : w = n_ i := by rw [n_of (x := w) (by omega), hi]; rfl
        have hi2 : i < 2147483648 := by have := Int32.toInt_lt w; omega
        rw [hw, n_toInt hi2]
        refine ev_ifq (c' := row.length ≤ i) (by rw [n_le (by omega) hi2]) (fun c2 => ?_) (fun c2 => ?_)
        · rw [if_neg (by omega)]; exact ev_some ⟨R1, m1_q⟩
        · rw [if_pos (by omega)]
          refine ev_g (n_in (by omega) (by omega)) ?_
          rw [n_nat hi2, rr.2 i (by omega)]
          exact ev_some ⟨R1, rfl⟩
    · rw [e1]
      exact ev_ifT (n_lit 0).symm (ev_some ⟨rf_R_mt hs.1 (sc_19 m1), m1_q⟩)
  · simp only [if_neg c]
    exact ev_some ⟨R, m3_q⟩
noncomputable def Sp_load (g : GS_) (z : Int32) (r : Int32) : Prop := Sp_k g z (fun k r => r = (match rg_ring (g_np g) (ss_fl (g_s g).1 k) with | none => q_ (-1) | some row => q_ (rg_ld (ss_fl (g_s g).1 k) row))) r
theorem rf_load {g : GS_} (ok : g_ok g) (nw : ss_nw (g_np g) (g_nk g) (g_s g)) {st : MS} (R0 : rf_R g st) (z : Int32) : Ev_ (fun n => f_load n st z) (fun r => rf_R g r.2 ∧ Sp_load g z r.1) := by
  have R := rf_R_8 R0
  have h8 := ok.1
  unfold f_load f_load_J37
  refine rf_k ok R z (fun k hk ez => ?_)
  subst ez
  have hf := ff_s ok.2.2.1 nw hk
  refine ev_b (rf_lays ok R hk) (fun s hs => ?_)
  refine rf_LR h8 hf hs.1.1 hs.2.2 (fun s1 row m1 e1 rok rr => ?_) (fun s1 m1 e1 => ?_)
  · have R1 := rf_R_mt hs.1 (sc_19 m1)
    refine ev_ifF (n_len0 rok.1 (by have := rok.2.1; omega)) ?_
    refine ev_b (rf_loadOf h8 (ff_c hf) (fun c hc => by rw [m1.2.2 17 (by simp)]; exact hs.2.2 c hc) rr rok) (fun r hr => ev_some ⟨R1, ?_⟩)
    rw [e1]; exact hr
  · refine ev_ifT (n_lit 0).symm (ev_some ⟨rf_R_mt hs.1 (sc_19 m1), ?_⟩)
    rw [e1]; exact m1_q
/-- all rings are taken -/
def rg_cl (np : Nat) : Nat → (Nat → Int) → Int → Nat → (Nat → Int) × Int × Nat
  | 0, f, a, n => (f, a, n)
  | m + 1, f, a, n => match rg_ring np f with
    | none => (f, a, n)
    | some row => rg_cl np m (rg_tk f row) (a + rg_ld f row * row.length) (n + 1)
theorem n_pos {row : List Nat} (h : 2 ≤ row.length) (h8 : row.length ≤ 8) : ¬ (n_ row.length ≤ (0 : Int32)) := by rw [n_lit 0, n_le (by omega) (by omega)]; omega
theorem n_0le : n_ 0 ≤ (0 : Int32) := by rw [n_lit 0, n_le (by omega) (by omega)]; exact Nat.le_refl _
noncomputable def Sp_cleared (g : GS_) (z w : Int32) (r : Int32) : Prop := Sp_k g z (fun k r => if 0 ≤ w.toInt ∧ w.toInt ≤ 2 then r = (if w.toInt = 0 then q_ (rg_cl (g_np g) 65 (ss_fl (g_s g).1 k) 0 0).2.1 else if w.toInt = 1 then n_ (rg_cl (g_np g) 65 (ss_fl (g_s g).1 k) 0 0).2.2 else n_ (ct_ 64 (rg_cl (g_np g) 65 (ss_fl (g_s g).1 k) 0 0).1)) else r = q_ (-2)) r
theorem rf_cleared_l {np : Nat} (h8 : np ≤ 8) (v2 : Int32) {f : Nat → Int} (hf : ff_ f) {st : MS} (h5 : st.1 5 = n_ np) (h17 : ∀ c, c < 64 → st.2.1 17 c = q_ (f c)) : Ev_ (fun n => f_cleared_L39l n v2 (0, 0, st)) (fun y => mt_ [19] [17, 18] st y.2.2 ∧ y.1 = q_ (rg_cl np 65 f 0 0).2.1 ∧ y.2.1 = n_ (rg_cl np 65 f 0 0).2.2 ∧ ff_ (rg_cl np 65 f 0 0).1 ∧ ∀ c, c < 64 → y.2.2.2.1 17 c = q_ ((rg_cl np 65 f 0 0).1 c)) := by
  unfold f_cleared_L39l
  generalize htg : rg_cl np 65 f 0 0 = tg
  refine ev_lpg (β := Nat × (Nat → Int) × Int × Nat) (fun b => b.1) (fun b y => ct_ 64 b.2.1 < b.1 ∧ ff_ b.2.1 ∧ rg_cl np b.1 b.2.1 b.2.2.1 b.2.2.2 = tg ∧ y.1 = q_ b.2.2.1 ∧ y.2.1 = n_ b.2.2.2 ∧ mt_ [19] [17, 18] st y.2.2 ∧ ∀ c, c < 64 → y.2.2.2.1 17 c = q_ (b.2.1 c)) (fun b y hb => ?_) (65, f, 0, 0) _ ⟨by have := ct_le 64 f; dsimp only; omega, hf, htg, rfl, n_lit 0, mt_rfl _ _ _, h17⟩
  obtain ⟨m, f1, a, nn⟩ := b
  obtain ⟨v3, v4, s1⟩ := y
  obtain ⟨b1, b2, b3, e1, e2, g1, g2⟩ := hb
  dsimp only at b1 b2 b3 e1 e2 g1 g2 ⊢
  subst e1; subst e2
  obtain ⟨m, rfl⟩ : ∃ m', m = m' + 1 := ⟨m - 1, by omega⟩
  simp only [rg_cl] at b3
  unfold f_cleared_L39
  refine rf_LR h8 b2 (by rw [g1.1 5 (by simp)]; exact h5) g2 (fun s2 row m1 e1 rok rr => ?_) (fun s2 m1 e1 => ?_)
  · have h172 : ∀ c, c < 64 → s2.2.1 17 c = q_ (f1 c) := fun c hc => by rw [m1.2.2 17 (by simp)]; exact g2 c hc
    refine ev_ifF (n_pos rok.1 (by have := rok.2.1; omega)) ?_
    refine ev_b (rf_loadOf h8 (ff_c b2) h172 rr rok) (fun r hr => ?_)
    subst hr
    refine ev_b (rf_ringGoes h8 (ff_c b2) h172 rr rok) (fun s3 hs3 => ?_)
    rw [e1] at b3
    rw [rr.1, n_q row.length, q_mul, q_add, show n_ nn + 1 = n_ (nn + 1) from by rw [n_lit 1, n_add]]
    have hct := ct_tk h8 b2 rok
    exact ev_some ⟨(m, rg_tk f1 row, a + rg_ld f1 row * row.length, nn + 1), ⟨by dsimp only; omega, ff_tk h8 b2 rok, b3, rfl, rfl, mt_tr g1 (mt_tr (mt_sub m1 (by simp) (by simp)) (mt_sub (mt_of (fs := [19]) hs3.1) (by simp) (by simp))), hs3.2⟩, by dsimp only; omega⟩
  · rw [e1] at b3
    refine ev_ifT n_0le (ev_some ?_)
    rw [← b3]
    exact ⟨mt_tr g1 (mt_sub m1 (by simp) (by simp)), rfl, rfl, b2, fun c hc => by rw [m1.2.2 17 (by simp)]; exact g2 c hc⟩
theorem rf_cleared {g : GS_} (ok : g_ok g) (nw : ss_nw (g_np g) (g_nk g) (g_s g)) {st : MS} (R0 : rf_R g st) (z w : Int32) : Ev_ (fun n => f_cleared n st z w) (fun r => rf_R g r.2 ∧ Sp_cleared g z w r.1) := by
  have R := rf_R_8 R0
  have h8 := ok.1
  unfold f_cleared f_cleared_J25 f_cleared_J90
  refine rf_k ok R z (fun k hk ez => ?_)
  subst ez
  have hf := ff_s ok.2.2.1 nw hk
  simp only [isIn2, m_bs, m_ifb]
  by_cases c : 0 ≤ w.toInt ∧ w.toInt ≤ 2
  · simp only [if_pos c]
    refine ev_b (rf_lays ok R hk) (fun s hs => ?_)
    refine ev_b (rf_cleared_l h8 w hf hs.1.1 hs.2.2) (fun y hy => ?_)
    obtain ⟨m1, e1, e2, e3, e4⟩ := hy
    have R1 := rf_R_mt hs.1 (mt_sub m1 (fs' := sc_f) (ks' := sc_a) (by decide) (by decide))
    have e0 : (w = (0 : Int32)) ↔ w.toInt = 0 := by rw [← Int32.toInt_inj]; rfl
    have e01 : (w = (1 : Int32)) ↔ w.toInt = 1 := by rw [← Int32.toInt_inj]; rfl
    refine ev_ifq e0 (fun c0 => ?_) (fun c0 => ?_)
    · rw [if_pos c0]; exact ev_some ⟨R1, e1⟩
    · rw [if_neg c0]
      refine ev_ifq e01 (fun c1 => ?_) (fun c1 => ?_)
      · rw [if_pos c1]; exact ev_some ⟨R1, e2⟩
      · rw [if_neg c1]
        exact ev_b (rf_positive e4 (ff_c e3)) (fun r hr => ev_some ⟨R1, hr⟩)
  · simp only [if_neg c]
    exact ev_some ⟨R, m2_q⟩
/-- so many rings are taken, as far as there are some -/
def rg_tn (np : Nat) : Nat → (Nat → Int) → (Nat → Int)
  | 0, f => f
  | m + 1, f => match rg_ring np f with
    | none => f
    | some row => rg_tn np m (rg_tk f row)
noncomputable def Sp_rounds (g : GS_) (z w : Int32) (r : Int32) : Prop := Sp_k g z (fun k r => if 0 ≤ w.toInt ∧ w.toInt ≤ 99 then r = q_ (fs_tot (rg_tn (g_np g) w.toInt.toNat (ss_fl (g_s g).1 k))) else r = q_ (-3)) r
theorem rf_rounds {g : GS_} (ok : g_ok g) (nw : ss_nw (g_np g) (g_nk g) (g_s g)) {st : MS} (R0 : rf_R g st) (z w : Int32) : Ev_ (fun n => f_rounds n st z w) (fun r => rf_R g r.2 ∧ Sp_rounds g z w r.1) := by
  have R := rf_R_8 R0
  have h8 := ok.1
  unfold f_rounds
  refine rf_k ok R z (fun k hk ez => ?_)
  subst ez
  have hf := ff_s ok.2.2.1 nw hk
  have h3 : ∀ n, f_isIn n w.toInt64 0 99 = some (b_ (0 ≤ w.toInt ∧ w.toInt ≤ 99)) := fun n => by rw [rf_isIn, Int32.toInt_toInt64]; rfl
  simp only [h3, m_bs, m_ifb]
  by_cases c : 0 ≤ w.toInt ∧ w.toInt ≤ 99
  · simp only [if_pos c]
    obtain ⟨t, ht, rfl, e⟩ := pi_ (np := 100) (show 0 ≤ w.toInt ∧ w.toInt < (100 : Nat) by omega)
    rw [e]
    refine ev_b (rf_lays ok R hk) (fun s hs => ?_)
    refine ev_b (P := fun s2 => mt_ [19] [17, 18] s s2 ∧ ∀ c, c < 64 → s2.2.1 17 c = q_ (rg_tn (g_np g) t (ss_fl (g_s g).1 k) c)) ?_ (fun s2 hs2 => ?_)
    · unfold f_rounds_L39l
      refine ev_lpg (β := Nat × (Nat → Int)) (fun b => t - b.1) (fun b y => b.1 ≤ t ∧ ff_ b.2 ∧ rg_tn (g_np g) (t - b.1) b.2 = rg_tn (g_np g) t (ss_fl (g_s g).1 k) ∧ y.1 = n_ b.1 ∧ mt_ [19] [17, 18] s y.2 ∧ ∀ c, c < 64 → y.2.2.1 17 c = q_ (b.2 c)) (fun b y hb => ?_) (0, ss_fl (g_s g).1 k) _ ⟨by dsimp only; omega, hf, rfl, n_lit 0, mt_rfl _ _ _, hs.2.2⟩
      obtain ⟨i, f1⟩ := b
      obtain ⟨v, s1⟩ := y
      obtain ⟨b1, b2, b3, e1, g1, g2⟩ := hb
      dsimp only at b1 b2 b3 e1 g1 g2 ⊢
      subst e1
      unfold f_rounds_L39
      refine ev_ifq (c' := t ≤ i) (by rw [n_le (by omega) (by omega)]) (fun c1 => ?_) (fun c1 => ?_)
      · rw [show t - i = 0 by omega] at b3
        refine ev_some ⟨g1, fun c hc => ?_⟩
        rw [← b3]; exact g2 c hc
      · obtain ⟨m, hm⟩ : ∃ m, t - i = m + 1 := ⟨t - i - 1, by omega⟩
        rw [hm] at b3
        simp only [rg_tn] at b3
        refine rf_LR h8 b2 (by rw [g1.1 5 (by simp)]; exact hs.1.1) g2 (fun s2 row m1 e1 rok rr => ?_) (fun s2 m1 e1 => ?_)
        · have h172 : ∀ c, c < 64 → s2.2.1 17 c = q_ (f1 c) := fun c hc => by rw [m1.2.2 17 (by simp)]; exact g2 c hc
          refine ev_ifF (n_pos rok.1 (by have := rok.2.1; omega)) ?_
          refine ev_b (rf_ringGoes h8 (ff_c b2) h172 rr rok) (fun s3 hs3 => ?_)
          rw [e1] at b3
          rw [show n_ i + 1 = n_ (i + 1) from by rw [n_lit 1, n_add]]
          exact ev_some ⟨(i + 1, rg_tk f1 row), ⟨by dsimp only; omega, ff_tk h8 b2 rok, by dsimp only; rw [show t - (i + 1) = m by omega]; exact b3, rfl, mt_tr g1 (mt_tr (mt_sub m1 (by simp) (by simp)) (mt_sub (mt_of (fs := [19]) hs3.1) (by simp) (by simp))), hs3.2⟩, by dsimp only; omega⟩
        · rw [e1] at b3
          refine ev_ifT n_0le (ev_some ⟨mt_tr g1 (mt_sub m1 (by simp) (by simp)), fun c hc => ?_⟩)
          rw [← b3, m1.2.2 17 (by simp)]; exact g2 c hc
    · have R2 := rf_R_mt hs.1 (mt_sub hs2.1 (fs' := sc_f) (ks' := sc_a) (by decide) (by decide))
      exact ev_b (rf_sumOfFlows hs2.2) (fun r hr => ev_some ⟨R2, hr⟩)
  · simp only [if_neg c]
    exact ev_some ⟨R, m3_q⟩
