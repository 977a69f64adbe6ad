set_option maxRecDepth 100000
/-! The reference's plain questions -/
/-- amounts of a kind from one, to one: kept ones too -/
def am0_ (ts : List Tr_) (k p : Nat) : Int := ts_sum (fun t => decide (t.2.2.2.1 = k) && decide (t.1 = p)) ts
def am1_ (ts : List Tr_) (k p : Nat) : Int := ts_sum (fun t => decide (t.2.2.2.1 = k) && decide (t.2.1 = p)) ts
theorem rf_amounts {np nk : Nat} {s : SS_} (ok : ss_ok np nk s) {st : MS} (h : rf_V s (st.2.1 0)) {k p e : Nat} (hk : k < 4) (hp : p < 8) (he : e < 2) : Ev_ (fun n => f_amounts n st (n_ p) (n_ k) (n_ e)) (fun r => r = q_ (if e = 0 then am0_ s.1 k p else am1_ s.1 k p)) := by
  have h8 := ok.1
  have h40 := ok.2.2.1
  have hnk := ok.2.1
  have key : (if e = 0 then am0_ s.1 k p else am1_ s.1 k p) = ts_sum (fun t => decide (t.2.2.2.1 = k) && decide ((if e = 0 then t.1 else t.2.1) = p)) s.1 := by
    by_cases c : e = 0 <;> simp only [c, if_true, if_false] <;> rfl
  rw [key]
  unfold f_amounts
  refine ev_b (P := fun r => r = q_ (ts_sum (fun t => decide (t.2.2.2.1 = k) && decide ((if e = 0 then t.1 else t.2.1) = p)) s.1)) ?_ (fun r hr => ev_some hr)
  unfold f_amounts_L6l
  refine ev_for s.1.length (fun i y => y = (q_ (ts_sum (fun t => decide (t.2.2.2.1 = k) && decide ((if e = 0 then t.1 else t.2.1) = p)) (s.1.take i)), n_ i)) (fun i y hi hP => ?_) (fun y hP => ?_) _ (by rw [← n_lit 0]; simp [ts_sum]; rfl)
  · subst hP
    obtain ⟨g1, g2, g3, g4, g5⟩ := h.2.2.1 i hi
    obtain ⟨t1, t2, _, _, _, t6⟩ := ok.2.2.2.1 _ (List.getElem_mem hi)
    have ge : st.2.1 0 (2 + 5 * i + e) = n_ (if e = 0 then (s.1[i]).1 else (s.1[i]).2.1) := by
      by_cases c : e = 0
      · rw [if_pos c, c]; exact g1
      · rw [if_neg c, show e = 1 by omega]; exact g2
    have hlt : (if e = 0 then (s.1[i]).1 else (s.1[i]).2.1) < 8 := by split <;> omega
    refine ev_eq (r := .inl (q_ (ts_sum (fun t => decide (t.2.2.2.1 = k) && decide ((if e = 0 then t.1 else t.2.1) = p)) (s.1.take (i + 1))), n_ (i + 1))) (fun n => ?_) ⟨_, rfl, rfl⟩
    unfold f_amounts_L6 f_amounts_J51 f_amounts_J52
    dsimp only
    rw [z_nat, h.1, ts_sum_take _ _ hi]
    generalize (if e = 0 then (s.1[i]).1 else (s.1[i]).2.1) = ev at *
    simp (disch := omega) only [n_lit, n_add, n_in, m_gT, rf_tradeAt, g3, g4, ge, m_bs, n_le, n_eq, q_add, qn_add]
    rw [ef_F (by omega)]
    by_cases c1 : (s.1[i]).2.2.2.1 = k
    · rw [ef_T c1]
      by_cases c2 : ev = p
      · rw [ef_T c2, if_pos (by simp [c1, c2])]
      · rw [ef_F c2, if_neg (by simp [c2])]; rfl
    · rw [ef_F c1, if_neg (by simp [c1])]; rfl
  · subst hP
    refine ev_eq (r := .inr (q_ (ts_sum (fun t => decide (t.2.2.2.1 = k) && decide ((if e = 0 then t.1 else t.2.1) = p)) s.1))) (fun n => ?_) ⟨_, rfl, rfl⟩
    unfold f_amounts_L6
    dsimp only
    rw [z_nat, h.1]
    simp (disch := omega) only [n_lit, n_in, m_gT, n_le]
    rw [ef_T (by omega), ts_sum_all]
theorem rf_lays {g : GS_} (ok : g_ok g) {st : MS} (R : rf_R g st) {k : Nat} (hk : k < g_nk g) : Ev_ (fun n => f_laysFlows n st (n_ k) (-1)) (fun s => rf_R g s ∧ ms_ [17] st s ∧ ∀ c, c < 64 → s.2.1 17 c = q_ (ss_fl (g_s g).1 k c)) := by
  rw [m1_q]
  refine ev_w (rf_laysFlows ok.2.2.1 R.2.2.2.2.2.2.1 (show k < 4 by have := ok.2.1; omega) (w := -1) ⟨by omega, by omega⟩) (fun s hs => ?_)
  rw [fl_wo_1] at hs
  exact ⟨rf_R_ms R hs.1 (by decide), hs⟩
theorem rf_flow {g : GS_} (ok : g_ok g) {st : MS} (R0 : rf_R g st) (x y z : Int32) : Ev_ (fun n => f_flow n st x y z) (fun r => rf_R g r.2 ∧ Sp_2 g x y z (fun a b k r => r = q_ (ss_fl (g_s g).1 k (8 * a + b))) r.1) := by
  have R := rf_R_8 R0
  have h8 := ok.1
  unfold f_flow f_flow_J22
  refine rf_2 ok R x y z (fun a b k ha hb hab hk ex ey ez => ?_)
  subst ex; subst ey; subst ez
  refine ev_b (rf_lays ok R hk) (fun s hs => ?_)
  refine ev_bn (fun n => rf_couple n a b) (ev_g (n_in (by omega) (by omega)) ?_)
  rw [n_nat (by omega), hs.2.2 _ (by omega)]
  exact ev_some ⟨hs.1, rfl⟩
theorem rf_bound {g : GS_} (ok : g_ok g) {st : MS} (R0 : rf_R g st) (x y z : Int32) : Ev_ (fun n => f_bound n st x y z) (fun r => rf_R g r.2 ∧ Sp_2 g x y z (fun a b k r => r = q_ (ss_bd (g_s g) (ss_fl (g_s g).1 k) (8 * a + b))) r.1) := by
  have R := rf_R_8 R0
  have h8 := ok.1
  unfold f_bound f_bound_J22
  refine rf_2 ok R x y z (fun a b k ha hb hab hk ex ey ez => ?_)
  subst ex; subst ey; subst ez
  refine ev_b (rf_lays ok R hk) (fun s hs => ?_)
  exact ev_bn (fun n => rf_boundOf n ok.2.2.1 hs.1.2.2.2.2.2.2.1 hs.2.2 (by omega) (by omega)) (ev_some ⟨hs.1, rfl⟩)
noncomputable def Sp_net (g : GS_) (x z w : Int32) (r : Int32) : Prop := Sp_pk g x z (fun p k r => r = q_ (100000000 + (if w = 0 then am0_ (g_s g).1 k p - am1_ (g_s g).1 k p else fs_out (ss_fl (g_s g).1 k) p - fs_in (ss_fl (g_s g).1 k) p))) r
theorem fl_nu' {np nk : Nat} {s : SS_} (ok : ss_ok np nk s) {k p : Nat} (hp : p < np) : fw_sm np (fun b => ss_fl s.1 k (8 * p + b) - ss_fl s.1 k (8 * b + p)) = fs_out (ss_fl s.1 k) p - fs_in (ss_fl s.1 k) p := by
  have h8 := ok.1
  rw [← fw_sm_ext h8 (fun b hb hb8 => by
    rw [ss_fl_cp ok k _ (by rw [fs_cp_at hb8]; omega), ss_fl_cp ok k _ (by rw [fs_cp_at (by omega)]; omega)]; rfl), fw_sm_sub]
  rfl
theorem rf_net {g : GS_} (ok : g_ok g) {st : MS} (R0 : rf_R g st) (x z w : Int32) : Ev_ (fun n => f_net n st x z w) (fun r => rf_R g r.2 ∧ Sp_net g x z w r.1) := by
  have R := rf_R_8 R0
  have h8 := ok.1
  unfold f_net f_net_J21 f_net_J59
  refine rf_pk ok R x z (fun p k hp hk ex ez => ?_)
  subst ex; subst ez
  have hk4 : k < 4 := by have := ok.2.1; omega
  refine ev_b (rf_lays ok R hk) (fun s hs => ?_)
  have hV := hs.1.2.2.2.2.2.2.1
  refine ev_if (fun c => ?_) (fun c => ?_)
  · rw [if_pos c]
    have a0 := rf_amounts ok.2.2.1 hV hk4 (show p < 8 by omega) (show 0 < 2 by omega)
    have a1 := rf_amounts ok.2.2.1 hV hk4 (show p < 8 by omega) (show 1 < 2 by omega)
    rw [← n_lit 0] at a0
    rw [← n_lit 1] at a1
    refine ev_b a0 (fun r0 hr0 => ?_)
    refine ev_b a1 (fun r1 hr1 => ?_)
    subst hr0; subst hr1
    rw [if_pos rfl, if_neg (by omega), q_sub, show (100000000 : Int32) = q_ 100000000 from rfl, q_add]
    exact ev_some ⟨hs.1, rfl⟩
  · rw [if_neg c]
    refine ev_b (rf_netBy h8 hs.1.1 hs.2.2 (show p < 8 by omega)) (fun r hr => ?_)
    subst hr
    rw [fl_nu' ok.2.2.1 hp, show (100000000 : Int32) = q_ 100000000 from rfl, q_add]
    exact ev_some ⟨hs.1, rfl⟩
/-- with how many others: the set -/
def so_ (k p : Nat) (v : Int32) (t : Tr_) : Int32 := if t.2.2.2.1 = k ∧ (t.1 = p ∨ t.2.1 = p) then v ||| (1 <<< (((n_ t.1 + n_ t.2.1) - n_ p) &&& 31)) else v
theorem fold_take {α : Type} (st : α → Tr_ → α) (z : α) (l : List Tr_) {i : Nat} (hi : i < l.length) : (l.take (i + 1)).foldl st z = st ((l.take i).foldl st z) (l[i]) := by
  rw [List.take_succ_eq_append_getElem hi, List.foldl_append]; rfl
theorem isIn2 (n : Nat) (w : Int32) : f_isIn n w.toInt64 0 2 = some (b_ (0 ≤ w.toInt ∧ w.toInt ≤ 2)) := by
  rw [rf_isIn, Int32.toInt_toInt64]; rfl
theorem isIn3 (n : Nat) (w : Int32) : f_isIn n w.toInt64 0 3 = some (b_ (0 ≤ w.toInt ∧ w.toInt ≤ 3)) := by
  rw [rf_isIn, Int32.toInt_toInt64]; rfl
theorem isIn4 (n : Nat) (w : Int32) : f_isIn n w.toInt64 0 4 = some (b_ (0 ≤ w.toInt ∧ w.toInt ≤ 4)) := by
  rw [rf_isIn, Int32.toInt_toInt64]; rfl
theorem rf_tA0 (n : Nat) {st : MS} {i : Nat} (hi : i < 40) : f_tradeAt n st (n_ i) 0 = some (st.2.1 0 (2 + 5 * i)) := by
  rw [n_lit 0, rf_tradeAt n hi (by omega), Nat.add_zero]
theorem rf_tA1 (n : Nat) {st : MS} {i : Nat} (hi : i < 40) : f_tradeAt n st (n_ i) 1 = some (st.2.1 0 (2 + 5 * i + 1)) := by
  rw [n_lit 1, rf_tradeAt n hi (by omega)]
theorem rf_side_set {np nk : Nat} {s : SS_} (ok : ss_ok np nk s) {st : MS} (h : rf_V s (st.2.1 0)) {k p : Nat} (hk : k < 4) (hp : p < 8) : Ev_ (fun n => f_side_L55l n (n_ p) (n_ k) (0, 0, st)) (fun r => r = (s.1.foldl (so_ k p) 0, st)) := by
  have h8 := ok.1
  have h40 := ok.2.2.1
  have hnk := ok.2.1
  unfold f_side_L55l
  refine ev_for s.1.length (fun i y => y = ((s.1.take i).foldl (so_ k p) 0, n_ i, st)) (fun i y hi hP => ?_) (fun y hP => ?_) _ (by rw [← n_lit 0]; rfl)
  · subst hP
    obtain ⟨g1, g2, g3, g4, g5⟩ := h.2.2.1 i hi
    obtain ⟨t1, t2, _, _, _, t6⟩ := ok.2.2.2.1 _ (List.getElem_mem hi)
    refine ev_eq (r := .inl ((s.1.take (i + 1)).foldl (so_ k p) 0, n_ (i + 1), st)) (fun n => ?_) ⟨_, rfl, rfl⟩
    unfold f_side_L55 f_side_J111
    dsimp only
    rw [z_nat, h.1, fold_take _ _ _ hi, n_q p, rf_isOf n h ok (w := p) ⟨by omega, by omega⟩ hi, ← n_q p]
    simp only [m_bs, m_ifb]
    rw [show (3 : Int32) = n_ 3 from n_lit 3, rf_tradeAt n (by omega) (by omega), rf_tA0 n (by omega), rf_tA1 n (by omega), g1, g2, g4]
    simp only [m_bs]
    rw [show m_in 0 266 = true from by rw [n_lit 0]; exact n_in (by omega) (by omega), m_gT, show n_ i + 1 = n_ (i + 1) from by rw [n_lit 1, n_add]]
    simp (disch := omega) only [n_le, n_eq]
    rw [ef_F (show ¬ s.1.length ≤ i by omega)]
    unfold so_
    by_cases c1 : (s.1[i]).2.2.2.1 = k
    · rw [ef_T c1]
      by_cases c2 : (s.1[i]).1 = p ∨ (s.1[i]).2.1 = p
      · rw [if_pos (by omega), if_pos ⟨c1, c2⟩]
      · rw [if_neg (by omega), if_neg (fun z => c2 z.2)]
    · rw [ef_F c1, if_neg (fun z => c1 z.1)]
  · subst hP
    refine ev_eq (r := .inr (s.1.foldl (so_ k p) 0, st)) (fun n => ?_) ⟨_, rfl, rfl⟩
    unfold f_side_L55
    dsimp only
    rw [z_nat, h.1, List.take_length]
    simp (disch := omega) only [n_lit, n_in, m_gT, n_le]
    rw [ef_T (by omega)]
def bc_ (v : Int32) : Int32 := (f_bitCount 0 v).getD 0
theorem rf_bc (n : Nat) (v : Int32) : f_bitCount n v = some (bc_ v) := rfl
theorem uf_bc (n : Nat) (d : UD) (u : UM) (v : Int32) : uf_J15_bitCount n d u v = some (bc_ v) := rfl
noncomputable def Sp_side (g : GS_) (x z w : Int32) (r : Int32) : Prop := Sp_pk g x z (fun p k r => if 0 ≤ w.toInt ∧ w.toInt ≤ 2 then r = (if w.toInt = 2 then bc_ ((g_s g).1.foldl (so_ k p) 0) else q_ (if w.toInt = 0 then am0_ (g_s g).1 k p else am1_ (g_s g).1 k p)) else r = q_ (-2)) r
theorem rf_side {g : GS_} (ok : g_ok g) {st : MS} (R0 : rf_R g st) (x z w : Int32) : Ev_ (fun n => f_side n st x z w) (fun r => rf_R g r.2 ∧ Sp_side g x z w r.1) := by
  have R := rf_R_8 R0
  have h8 := ok.1
  unfold f_side f_side_J33
  refine rf_pk ok R x z (fun p k hp hk ex ez => ?_)
  subst ex; subst ez
  have hk4 : k < 4 := by have := ok.2.1; omega
  simp only [isIn2, m_bs, m_ifb]
  by_cases c : 0 ≤ w.toInt ∧ w.toInt ≤ 2
  · simp only [if_pos c]
    obtain ⟨e, he, rfl, ee⟩ := pi_ (np := 3) (show 0 ≤ w.toInt ∧ w.toInt < (3 : Nat) by omega)
    have hte : (n_ e).toInt = e := n_toInt (by omega)
    rw [hte]
    refine ev_ifq (c' := 2 ≤ e) (by rw [n_lit 2, n_le (by omega) (by omega)]) (fun c2 => ?_) (fun c2 => ?_)
    · rw [if_pos (by omega)]
      refine ev_b (rf_side_set ok.2.2.1 R.2.2.2.2.2.2.1 hk4 (show p < 8 by omega)) (fun y hy => ?_)
      subst hy
      exact ev_bn (fun n => rf_bc n _) (ev_some ⟨R, rfl⟩)
    · rw [if_neg (by omega)]
      refine ev_b (rf_amounts ok.2.2.1 R.2.2.2.2.2.2.1 hk4 (show p < 8 by omega) (show e < 2 by omega)) (fun r hr => ev_some ⟨R, ?_⟩)
      rw [hr]
      congr 1
      by_cases c3 : e = 0
      · rw [if_pos c3, if_pos (by omega)]
      · rw [if_neg c3, if_neg (by omega)]
  · simp only [if_neg c]
    exact ev_some ⟨R, m2_q⟩
def Sp_tradeOf (g : GS_) (x w : Int32) (r : Int32) : Prop := if h : (0 ≤ x.toInt ∧ x.toInt < (g_s g).1.length) ∧ (0 ≤ w.toInt ∧ w.toInt ≤ 4) then ∃ t, (g_s g).1[x.toInt.toNat]? = some t ∧ r = (if w.toInt = 0 then n_ t.1 else if w.toInt = 1 then n_ t.2.1 else if w.toInt = 2 then q_ t.2.2.1 else if w.toInt = 3 then n_ t.2.2.2.1 else n_ (if t.2.2.2.2 then 1 else 0)) else r = q_ (-2)
theorem rf_tradeOf {g : GS_} (ok : g_ok g) {st : MS} (R0 : rf_R g st) (x w : Int32) : Ev_ (fun n => f_tradeOf n st x w) (fun r => rf_R g r.2 ∧ Sp_tradeOf g x w r.1) := by
  have R := rf_R_8 R0
  have h40 := ok.2.2.1.2.2.1
  have hV := R.2.2.2.2.2.2.1
  have h1 := fun n => rf_isTrade n hV h40 x
  unfold f_tradeOf f_tradeOf_J34 f_tradeOf_J36 Sp_tradeOf
  simp only [h1, isIn4, m_bs, m_ifb]
  by_cases c1 : 0 ≤ x.toInt ∧ x.toInt < (g_s g).1.length
  · simp only [if_pos c1]
    by_cases c2 : 0 ≤ w.toInt ∧ w.toInt ≤ 4
    · simp only [if_pos c2, dif_pos (And.intro c1 c2)]
      obtain ⟨i, hi, rfl, e1⟩ := pi_ c1
      obtain ⟨e, he, rfl, e2⟩ := pi_ (np := 5) (show 0 ≤ w.toInt ∧ w.toInt < (5 : Nat) by omega)
      obtain ⟨g1, g2, g3, g4, g5⟩ := hV.2.2.1 i hi
      rw [e1]
      refine ev_bn (fun n => rf_tradeAt n (by omega) he) (ev_some ⟨R, (g_s g).1[i], List.getElem?_eq_getElem hi, ?_⟩)
      have hte : (n_ e).toInt = e := n_toInt (by omega)
      rw [hte]
      have : e = 0 ∨ e = 1 ∨ e = 2 ∨ e = 3 ∨ e = 4 := by omega
      rcases this with rfl | rfl | rfl | rfl | rfl
      · rw [if_pos (by omega)]; exact g1
      · rw [if_neg (by omega), if_pos (by omega)]; exact g2
      · rw [if_neg (by omega), if_neg (by omega), if_pos (by omega)]; exact g3
      · rw [if_neg (by omega), if_neg (by omega), if_neg (by omega), if_pos (by omega)]; exact g4
      · rw [if_neg (by omega), if_neg (by omega), if_neg (by omega), if_neg (by omega)]; exact g5
    · simp only [if_neg c2, dif_neg (fun q : _ ∧ _ => c2 q.2)]
      exact ev_some ⟨R, m2_q⟩
  · simp only [if_neg c1, dif_neg (fun q : _ ∧ _ => c1 q.1)]
    exact ev_some ⟨R, m2_q⟩
def Sp_fault (g : GS_) (x : Int32) (r : Int32) : Prop := r = (if x = 0 then q_ g.2.2.2.2.2.2.1 else if x = 1 then q_ g.2.2.2.2.2.2.2 else q_ (-1))
theorem rf_fault {g : GS_} {st : MS} (R0 : rf_R g st) (x : Int32) : Ev_ (fun n => f_fault n st x) (fun r => rf_R g r.2 ∧ Sp_fault g x r.1) := by
  have R := rf_R_8 R0
  unfold f_fault f_fault_J29 Sp_fault
  refine ev_if (fun c => ?_) (fun c => ?_)
  · rw [R.2.2.2.2.1]
    exact ev_some ⟨R, by rw [if_pos c]⟩
  · refine ev_if (fun c2 => ?_) (fun c2 => ?_)
    · rw [R.2.2.2.2.2.1]
      exact ev_some ⟨R, by rw [if_neg c, if_pos c2]⟩
    · exact ev_some ⟨R, by rw [if_neg c, if_neg c2, m1_q]⟩
/-- how many are kept -/
def kp_ (ts : List Tr_) : Nat := (ts.map (fun t => if t.2.2.2.2 then 1 else 0)).sum
theorem rf_keptMany {np nk : Nat} {s : SS_} (ok : ss_ok np nk s) {st : MS} (h : rf_V s (st.2.1 0)) : Ev_ (fun n => f_keptMany n st) (fun r => r = n_ (kp_ s.1)) := by
  have h40 := ok.2.2.1
  unfold f_keptMany
  refine ev_b (P := fun r => r = n_ (kp_ s.1)) ?_ (fun r hr => ev_some hr)
  unfold f_keptMany_L4l
  refine ev_for s.1.length (fun i y => y = (n_ (kp_ (s.1.take i)), n_ i)) (fun i y hi hP => ?_) (fun y hP => ?_) _ (by rw [← n_lit 0]; simp [kp_]; rfl)
  · subst hP
    obtain ⟨g1, g2, g3, g4, g5⟩ := h.2.2.1 i hi
    refine ev_eq (r := .inl (n_ (kp_ (s.1.take (i + 1))), n_ (i + 1))) (fun n => ?_) ⟨_, rfl, rfl⟩
    unfold f_keptMany_L4
    dsimp only
    rw [z_nat, h.1]
    simp (disch := omega) only [n_lit, n_add, n_in, m_gT, rf_tradeAt, g5, m_bs, n_le]
    rw [ef_F (by omega)]
    unfold kp_
    rw [List.take_succ_eq_append_getElem hi, List.map_append, List.sum_append]
    simp
  · subst hP
    refine ev_eq (r := .inr (n_ (kp_ s.1))) (fun n => ?_) ⟨_, rfl, rfl⟩
    unfold f_keptMany_L4
    dsimp only
    rw [z_nat, h.1, List.take_length]
    simp (disch := omega) only [n_lit, n_in, m_gT, n_le]
    rw [ef_T (by omega)]
def Sp_count (g : GS_) (x : Int32) (r : Int32) : Prop := r = (if x = 0 then n_ (g_np g) else if x = 1 then n_ (g_nk g) else if x = 2 then n_ (g_s g).1.length else if x = 3 then n_ (kp_ (g_s g).1) else if x = 4 then n_ (g_s g).2.2 else if x = 5 then n_ (g_past g).length else if x = 6 then n_ g.2.2.2.2.2.1 else q_ (-1))
theorem rf_count {g : GS_} (ok : g_ok g) {st : MS} (R0 : rf_R g st) (x : Int32) : Ev_ (fun n => f_count n st x) (fun r => rf_R g r.2 ∧ Sp_count g x r.1) := by
  have R := rf_R_8 R0
  have hV := R.2.2.2.2.2.2.1
  unfold f_count Sp_count
  rw [z_nat, o_nat, R.1, R.2.1, R.2.2.1, R.2.2.2.1, hV.1, hV.2.1, m1_q]
  refine ev_if (fun c0 => ev_some ⟨R, by rw [if_pos c0]⟩) (fun c0 => ?_)
  refine ev_if (fun c1 => ev_some ⟨R, by rw [if_neg c0, if_pos c1]⟩) (fun c1 => ?_)
  refine ev_if (fun c2 => ev_g (by rw [n_lit 0]; exact n_in (by omega) (by omega)) (ev_some ⟨R, by rw [if_neg c0, if_neg c1, if_pos c2]⟩)) (fun c2 => ?_)
  refine ev_if (fun c3 => ev_b (rf_keptMany ok.2.2.1 hV) (fun r hr => ev_some ⟨R, by rw [hr, if_neg c0, if_neg c1, if_neg c2, if_pos c3]⟩)) (fun c3 => ?_)
  refine ev_if (fun c4 => ev_g (by rw [n_lit 1]; exact n_in (by omega) (by omega)) (ev_some ⟨R, by rw [if_neg c0, if_neg c1, if_neg c2, if_neg c3, if_pos c4]⟩)) (fun c4 => ?_)
  refine ev_if (fun c5 => ev_some ⟨R, by rw [if_neg c0, if_neg c1, if_neg c2, if_neg c3, if_neg c4, if_pos c5]⟩) (fun c5 => ?_)
  refine ev_if (fun c6 => ev_some ⟨R, by rw [if_neg c0, if_neg c1, if_neg c2, if_neg c3, if_neg c4, if_neg c5, if_pos c6]⟩) (fun c6 => ?_)
  exact ev_some ⟨R, by rw [if_neg c0, if_neg c1, if_neg c2, if_neg c3, if_neg c4, if_neg c5, if_neg c6]⟩
