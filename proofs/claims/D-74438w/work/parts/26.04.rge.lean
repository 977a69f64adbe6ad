set_option maxRecDepth 100000
/-! The reference undoes; it presses for good -/
def ac_undo (g : GS_) : Int32 × GS_ := if (g_past g).length = 0 then (q_ (-5), g) else (n_ ((g_past g).length - 1), (g.1, g.2.1, ((g_past g)[(g_past g).length - 1]?).getD (g_s g), (g_past g).dropLast, g.2.2.2.2))
theorem rf_undo {g : GS_} (ok : g_ok g) {st : MS} (R0 : rf_R g st) : Ev_ (fun n => f_undo n st) (fun r => rf_R (ac_undo g).2 r.2 ∧ r.1 = (ac_undo g).1) := by
  have R := rf_R_8 R0
  have hl := ok.2.2.2.2.1
  unfold f_undo ac_undo
  rw [R.2.2.1]
  refine ev_ifq (c' := (g_past g).length = 0) (by rw [n_lit 0, n_eq (by omega) (by omega)]) (fun c => ?_) (fun c => ?_)
  · rw [if_pos c]
    exact ev_some ⟨R, m5_q⟩
  · rw [if_neg c]
    obtain ⟨h5, h6, h7, h10, h13, h14, hV, hP, hN1, hN2, hT⟩ := R
    generalize hst : m_sg st 8 0 = st1 at *
    rw [n_lit 1, n_sub (by omega)]
    have hm : (g_past g).length - 1 < (g_past g).length := by omega
    refine ev_b (P := fun s => mt_ [7] [0] st1 s ∧ s.1 7 = n_ ((g_past g).length - 1) ∧ ∀ j, j < 266 → s.2.1 0 j = st1.2.1 2 (266 * ((g_past g).length - 1) + j)) ?_ (fun s hs => ?_)
    · unfold f_undo_L27l
      refine ev_for 266 (fun i y => y.1 = n_ i ∧ mt_ [7] [0] st1 y.2 ∧ y.2.1 7 = n_ ((g_past g).length - 1) ∧ ∀ j, j < i → y.2.2.1 0 j = st1.2.1 2 (266 * ((g_past g).length - 1) + j)) (fun i y hi hP => ?_) (fun y hP => ?_) _ ⟨n_lit 0, mt_sg (by simp) _ _, sg_at _ _ _, fun j hj => absurd hj (Nat.not_lt_zero _)⟩
      · obtain ⟨v, s1⟩ := y
        obtain ⟨e0, g1, g2, g3⟩ := hP
        dsimp only at e0 g1 g2 g3 ⊢
        subst e0
        refine ev_eq (r := .inl (n_ (i + 1), m_sa s1 0 i (st1.2.1 2 (266 * ((g_past g).length - 1) + i)))) (fun n => ?_) ⟨_, rfl, rfl, mt_tr g1 (mt_of (ms_sa (by simp) _ _ _)), g2, fun j hj => ?_⟩
        · unfold f_undo_L27
          rw [g2]
          simp (disch := omega) only [n_lit, n_add, n_mul, n_le, n_in, m_gT, n_nat]
          rw [ef_F (show ¬ 266 ≤ i by omega), g1.2.2 2 (by simp)]
        · dsimp only
          rw [sa_at]
          by_cases e : j = i
          · rw [e, upd_at]
          · rw [upd_ne e]; exact g3 j (by omega)
      · obtain ⟨v, s1⟩ := y
        obtain ⟨e0, g1, g2, g3⟩ := hP
        dsimp only at e0 g1 g2 g3 ⊢
        subst e0
        refine ev_eq (r := .inr s1) (fun n => ?_) ⟨_, rfl, g1, g2, g3⟩
        unfold f_undo_L27
        simp (disch := omega) only [n_lit, n_le]
        rw [ef_T (by omega)]
    · obtain ⟨m1, g2, g3⟩ := hs
      rw [g2]
      have hlen : (g_past g).dropLast.length = (g_past g).length - 1 := List.length_dropLast
      refine ev_some ⟨⟨by rw [m1.1 5 (by simp)]; exact h5, by rw [m1.1 6 (by simp)]; exact h6, ?_, by rw [m1.1 10 (by simp)]; exact h10, by rw [m1.1 13 (by simp)]; exact h13, by rw [m1.1 14 (by simp)]; exact h14, ?_, ?_, fun i hi => by rw [m1.2.1]; exact hN1 i hi, fun i hi => by rw [m1.2.1]; exact hN2 i hi, fun i hi => by rw [m1.2.2 9 (by simp)]; exact hT i hi⟩, rfl⟩
      · show s.1 7 = n_ (g_past g).dropLast.length
        rw [g2, hlen]
      · show rf_V (((g_past g)[(g_past g).length - 1]?).getD (g_s g)) (s.2.1 0)
        rw [List.getElem?_eq_getElem hm]
        exact rf_V_congr (ok.2.2.2.1 _ (List.getElem_mem hm)).2.2.1 g3 (hP _ hm)
      · have key : ∀ i (h : i < (g_past g).dropLast.length), rf_V ((g_past g).dropLast[i]) (fun j => s.2.1 2 (266 * i + j)) := fun i hi => by
          rw [List.getElem_dropLast, m1.2.2 2 (by simp)]
          exact hP i (by omega)
        exact key
theorem n_div {a b : Nat} (ha : a < 2147483648) (hb : 0 < b) (hb2 : b < 2147483648) : n_ a / n_ b = n_ (a / b) := by
  apply Int32.toInt_inj.mp
  have h1 : a / b ≤ a := Nat.div_le_self a b
  rw [Int32.toInt_div, n_toInt ha, n_toInt hb2, n_toInt (by omega), Int.tdiv_eq_ediv_of_nonneg (by omega), ← Int.natCast_ediv]
  generalize a / b = q at *
  rw [Int.bmod_eq_of_le (by omega) (by omega)]
theorem er_mid {α : Type} (A : List α) (x : α) (B : List α) : (A ++ x :: B).eraseIdx A.length = A ++ B := by
  induction A with
  | nil => rfl
  | cons a A ih => simp only [List.cons_append, List.length_cons, List.eraseIdx_cons_succ, ih]
theorem ct_mono (X : Nat → Int) {a b : Nat} (h : a ≤ b) : ct_ a X ≤ ct_ b X := by
  induction b with
  | zero => rw [show a = 0 by omega]; exact Nat.le_refl _
  | succ b ih =>
    by_cases c : a = b + 1
    · rw [c]; exact Nat.le_refl _
    · have := ih (by omega); simp only [ct_]; omega
/-- what a press lays -/
def pr_new (X : Nat → Int) (k : Nat) : Nat → List Tr_
  | 0 => []
  | c + 1 => pr_new X k c ++ (if 0 < X c then [(c / 8, c % 8, X c, k, false)] else [])
theorem pr_len (X : Nat → Int) (k : Nat) : ∀ c, (pr_new X k c).length = ct_ c X := by
  intro c
  induction c with
  | zero => rfl
  | succ c ih => simp only [pr_new, ct_, List.length_append, ih]; split <;> rfl
def nf_ (k : Nat) (l : List Tr_) : List Tr_ := l.filter (fun t => !tr_fr k t)
/-- the answer of a press, and the state behind it, by the row -/
def pr_r (g : GS_) (k : Nat) (X : Nat → Int) : Int32 × GS_ := if (nf_ k (g_s g).1).length + ct_ 64 X ≤ 40 then (n_ ((nf_ k (g_s g).1).length + ct_ 64 X), g_set (g_push g) (nf_ k (g_s g).1 ++ pr_new X k 64, (g_s g).2.1, (g_s g).2.2)) else (q_ (-4), g)
/-- press: a relation -/
def Ac_press (g : GS_) (z : Int32) (r : Int32) (g' : GS_) : Prop := if 0 ≤ z.toInt ∧ z.toInt < g_nk g then ((∃ X, Q1_ (g_np g) (g_s g) (ss_fl (g_s g).1 z.toInt.toNat) X ∧ r = (pr_r g z.toInt.toNat X).1 ∧ g' = (pr_r g z.toInt.toNat X).2) ∨ (QN_ (g_np g) (g_s g) (ss_fl (g_s g).1 z.toInt.toNat) (ss_be (g_np g) (g_s g) (ss_fl (g_s g).1 z.toInt.toNat)) ∧ r = q_ (-5) ∧ g' = g)) else r = q_ (-2) ∧ g' = g
theorem pr_new_congr {X Y : Nat → Int} (k : Nat) : ∀ c, (∀ j, j < c → X j = Y j) → pr_new X k c = pr_new Y k c := by
  intro c
  induction c with
  | zero => intro _; rfl
  | succ c ih => intro h; simp only [pr_new, ih (fun j hj => h j (by omega)), h c (by omega)]
theorem ct_congr {X Y : Nat → Int} : ∀ c, (∀ j, j < c → X j = Y j) → ct_ c X = ct_ c Y := by
  intro c
  induction c with
  | zero => intro _; rfl
  | succ c ih => intro h; simp only [ct_, ih (fun j hj => h j (by omega)), h c (by omega)]
theorem Ac_press_u {g : GS_} {z r r' : Int32} {g1 g2 : GS_} (h : Ac_press g z r g1) (h' : Ac_press g z r' g2) : r = r' ∧ g1 = g2 := by
  unfold Ac_press at h h'
  by_cases c : 0 ≤ z.toInt ∧ z.toInt < g_nk g
  · rw [if_pos c] at h h'
    rcases h with ⟨X, h1, h2, h3⟩ | ⟨h1, h2, h3⟩ <;> rcases h' with ⟨Y, k1, k2, k3⟩ | ⟨k1, k2, k3⟩
    · have hu := fs_1_uniq h1 k1
      have e : pr_r g z.toInt.toNat X = pr_r g z.toInt.toNat Y := by
        unfold pr_r; rw [ct_congr 64 hu, pr_new_congr _ 64 hu]
      rw [h2, h3, k2, k3, e]; exact ⟨rfl, rfl⟩
    · exact absurd h1.1.1 (k1 X)
    · exact absurd k1.1.1 (h1 Y)
    · rw [h2, h3, k2, k3]; exact ⟨rfl, rfl⟩
  · rw [if_neg c] at h h'
    rw [h.1, h.2, h'.1, h'.2]; exact ⟨rfl, rfl⟩
