set_option maxRecDepth 100000
/-! The reference takes a ring, whole -/
theorem lr_all {P : Tr_ → Prop} (hP : ∀ t v, P t → 0 < v → v ≤ t.2.2.1 → P (tr_am t v)) (k c : Nat) : ∀ (l : List Tr_) (left : Int), (∀ t ∈ l, P t) → (∀ t ∈ lr_ k c l left, P t) ∧ (lr_ k c l left).length ≤ l.length := by
  intro l
  induction l with
  | nil => intro left _; exact ⟨fun t ht => absurd ht List.not_mem_nil, Nat.le_refl _⟩
  | cons t l ih =>
    intro left h
    have h1 := h t List.mem_cons_self
    have h2 := fun x hx => h x (List.mem_cons_of_mem _ hx)
    simp only [lr_]
    by_cases c1 : left ≤ 0
    · rw [if_pos c1]; exact ⟨h, Nat.le_refl _⟩
    · rw [if_neg c1]
      by_cases c2 : tr_fr k t = true ∧ 8 * t.1 + t.2.1 = c
      · rw [if_pos c2]
        by_cases c3 : t.2.2.1 ≤ left
        · rw [if_pos c3]
          have := ih (left - t.2.2.1) h2
          exact ⟨this.1, by rw [List.length_cons]; omega⟩
        · rw [if_neg c3]
          refine ⟨fun x hx => ?_, Nat.le_refl _⟩
          rcases List.mem_cons.mp hx with q | q
          · rw [q]; exact hP t _ h1 (by omega) (by omega)
          · exact h2 x q
      · rw [if_neg c2]
        have := ih left h2
        refine ⟨fun x hx => ?_, by simp only [List.length_cons]; omega⟩
        rcases List.mem_cons.mp hx with q | q
        · rw [q]; exact h1
        · exact this.1 x q
theorem ls_all {P : Tr_ → Prop} (hP : ∀ t v, P t → 0 < v → v ≤ t.2.2.1 → P (tr_am t v)) (k c : Nat) (l : List Tr_) (left : Int) (h : ∀ t ∈ l, P t) : (∀ t ∈ ls_ k c l left, P t) ∧ (ls_ k c l left).length ≤ l.length := by
  have := lr_all hP k c l.reverse left (fun t ht => h t (List.mem_reverse.mp ht))
  unfold ls_
  exact ⟨fun t ht => this.1 t (List.mem_reverse.mp ht), by rw [List.length_reverse]; have := this.2; rw [List.length_reverse] at this; exact this⟩
def tr_ring (k : Nat) (row : List Nat) (ld : Int) : Nat → List Tr_ → List Tr_
  | 0, l => l
  | i + 1, l => ls_ k (rg_c row i) (tr_ring k row ld i l) ld
theorem tr_ring_all {P : Tr_ → Prop} (hP : ∀ t v, P t → 0 < v → v ≤ t.2.2.1 → P (tr_am t v)) (k : Nat) (row : List Nat) (ld : Int) (l : List Tr_) (h : ∀ t ∈ l, P t) : ∀ i, (∀ t ∈ tr_ring k row ld i l, P t) ∧ (tr_ring k row ld i l).length ≤ l.length := by
  intro i
  induction i with
  | zero => exact ⟨h, Nat.le_refl _⟩
  | succ i ih =>
    have := ls_all hP k (rg_c row i) (tr_ring k row ld i l) ld ih.1
    exact ⟨this.1, by have := this.2; have := ih.2; simp only [tr_ring]; omega⟩
def ac_takeRing (g : GS_) (z : Int32) : Int32 × GS_ := if 0 ≤ z.toInt ∧ z.toInt < g_nk g then (match rg_ring (g_np g) (ss_fl (g_s g).1 z.toInt.toNat) with | none => (q_ (-5), g) | some row => (q_ (rg_ld (ss_fl (g_s g).1 z.toInt.toNat) row), g_set (g_push g) (tr_ring z.toInt.toNat row (rg_ld (ss_fl (g_s g).1 z.toInt.toNat) row) row.length (g_s g).1, (g_s g).2.1, (g_s g).2.2))) else (q_ (-2), g)
theorem rf_takeRing {g : GS_} (ok : g_ok g) (nw : ss_nw (g_np g) (g_nk g) (g_s g)) {st : MS} (R0 : rf_R g st) (z : Int32) : Ev_ (fun n => f_takeRing n st z) (fun r => rf_R (ac_takeRing g z).2 r.2 ∧ r.1 = (ac_takeRing g z).1) := by
  have R := rf_R_8 R0
  have h8 := ok.1
  have okS := ok.2.2.1
  have h40 := okS.2.2.1
  have h1 := fun n => rf_isKind n R.2.1 ok.2.1 z
  unfold f_takeRing ac_takeRing
  simp only [h1, m_bs, m_ifb]
  by_cases c : 0 ≤ z.toInt ∧ z.toInt < g_nk g
  · simp only [if_pos c]
    obtain ⟨k, hkk, rfl, e⟩ := ki_ ok.2.1 c
    rw [e]
    have hk4 : k < 4 := by have := ok.2.1; omega
    have hf := ff_s okS nw hkk
    refine ev_b (rf_lays ok R hkk) (fun s hs => ?_)
    refine rf_LR h8 hf hs.1.1 hs.2.2 (fun s1 row m1 e1 rok rr => ?_) (fun s1 m1 e1 => ?_)
    · have R1 := rf_R_mt hs.1 (sc_19 m1)
      have hl := rok.2.1
      have h2 := rok.1
      rw [e1]
      dsimp only
      refine ev_ifF (n_len0 h2 (by omega)) ?_
      refine ev_b (rf_remembers' ok R1) (fun s2 hs2 => ?_)
      obtain ⟨R2, a2, f2⟩ := hs2
      have rr2 : rr_ s2 row := ⟨by rw [f2 19 (by omega)]; exact rr.1, fun j hj => by rw [a2 18 (by omega)]; exact rr.2 j hj⟩
      have h172 : ∀ c, c < 64 → s2.2.1 17 c = q_ (ss_fl (g_s g).1 k c) := fun c hc => by rw [a2 17 (by omega), m1.2.2 17 (by simp)]; exact hs.2.2 c hc
      have hV2 : rf_V (g_s g) (s2.2.1 0) := R2.2.2.2.2.2.2.1
      refine ev_b (rf_loadOf h8 (ff_c hf) h172 rr2 rok) (fun r hr => ?_)
      subst hr
      have hld : 0 ≤ rg_ld (ss_fl (g_s g).1 k) row ∧ rg_ld (ss_fl (g_s g).1 k) row < 2147483648 := by
        obtain ⟨j, hj, ej⟩ := ld_ex (ss_fl (g_s g).1 k) row (row.length - 1)
        unfold rg_ld
        rw [ej]
        exact ff_c hf _ (rg_c_lt h8 h2 rok.2.2.1 (by omega)).1
      generalize hldv : rg_ld (ss_fl (g_s g).1 k) row = ld at *
      have hall := tr_ring_all (P := fun t => t.1 < 8 ∧ t.2.1 < 8 ∧ t.2.2.2.1 < 4 ∧ 0 < t.2.2.1 ∧ t.2.2.1 < 2147483648) (fun t v ht h0 h1 => ⟨ht.1, ht.2.1, ht.2.2.1, h0, by have := ht.2.2.2.2; show v < _; omega⟩) k row ld (g_s g).1 (fun t ht => by
        have := okS.2.2.2.1 t ht
        have h4 := ok.2.1
        obtain ⟨t1, t2, _, t4, t5, t6⟩ := this
        exact ⟨by omega, by omega, by omega, by omega, t5⟩)
      refine ev_b (P := fun s3 => ms_ [0] s2 s3 ∧ rf_V (tr_ring k row ld row.length (g_s g).1, (g_s g).2.1, (g_s g).2.2) (s3.2.1 0)) ?_ (fun s3 hs3 => ev_some ⟨rf_R_set R2 hs3.1 hs3.2, rfl⟩)
      unfold f_takeRing_L43l
      refine ev_for row.length (fun (i : Nat) (y : Int32 × MS) => y.1 = n_ i ∧ ms_ [0] s2 y.2 ∧ rf_V (tr_ring k row ld i (g_s g).1, (g_s g).2.1, (g_s g).2.2) (y.2.2.1 0)) (fun i y hi hP => ?_) (fun y hP => ?_) (0, s2) ⟨n_lit 0, ms_rfl _ _, show rf_V (tr_ring k row ld 0 (g_s g).1, (g_s g).2.1, (g_s g).2.2) (s2.2.1 0) from hV2⟩
      · obtain ⟨v, s3⟩ := y
        obtain ⟨e0, g1, g2⟩ := hP
        dsimp only at e0 g1 g2 ⊢
        subst e0
        have rr3 : rr_ s3 row := ⟨by rw [g1.1]; exact rr2.1, fun j hj => by rw [g1.2.2 18 (by simp)]; exact rr2.2 j hj⟩
        have hlen := (hall i).2
        have hsx : ∀ n, f_takeRing_L43 n (n_ k) (q_ ld) (n_ i) s3 = m_b (f_takeRing_L64l n (n_ k) (q_ ld) (n_ i) (q_ ld, q_ (((tr_ring k row ld i (g_s g).1).length : Int) - 1), s3)) (fun s43 => some (.inl (n_ (i + 1), s43))) := fun n => by
          unfold f_takeRing_L43
          rw [rr3.1, z_nat, g2.1, show n_ i + 1 = n_ (i + 1) from by rw [n_lit 1, n_add], show n_ (tr_ring k row ld i (g_s g).1).length - 1 = q_ (((tr_ring k row ld i (g_s g).1).length : Int) - 1) from by rw [n_q, show (1 : Int32) = q_ 1 from rfl, q_sub]]
          rw [show m_in 0 266 = true from by rw [n_lit 0]; exact n_in (by omega) (by omega), m_gT]
          simp (disch := omega) only [n_le]
          rw [ef_F (show ¬ row.length ≤ i by omega)]
        simp only [hsx]
        refine ev_b (rf_takeRing_64 g2 (by omega) (hall i).1 hk4 rr3 h2 (by omega) (fun x hx => by have := rok.2.2.1 x hx; omega) hi hld (q_ ld)) (fun s4 hs4 => ev_some ⟨_, rfl, rfl, ms_tr g1 hs4.1, hs4.2⟩)
      · obtain ⟨v, s3⟩ := y
        obtain ⟨e0, g1, g2⟩ := hP
        dsimp only at e0 g1 g2 ⊢
        subst e0
        refine ev_eq (r := .inr s3) (fun n => ?_) ⟨_, rfl, g1, g2⟩
        unfold f_takeRing_L43
        rw [g1.1, rr2.1]
        simp (disch := omega) only [n_le]
        rw [ef_T (by omega)]
    · rw [e1]
      exact ev_ifT (n_lit 0).symm (ev_some ⟨rf_R_mt hs.1 (sc_19 m1), m5_q⟩)
  · simp only [if_neg c]
    exact ev_some ⟨R, m2_q⟩
