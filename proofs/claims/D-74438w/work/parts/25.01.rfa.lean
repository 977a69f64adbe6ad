set_option maxRecDepth 100000
/-! The reference's small methods -/
theorem b_congr {p q : Prop} [Decidable p] [Decidable q] (h : p ↔ q) : b_ p = b_ q := by
  by_cases c : p
  · rw [b_T c, b_T (h.mp c)]
  · rw [b_F c, b_F (fun x => c (h.mpr x))]
theorem m_ifb {α : Type} {p : Prop} [Decidable p] (x y : Option α) : m_if (b_ p = (0 : Int32)) x y = if p then y else x := by
  unfold m_if
  by_cases c : p
  · rw [if_neg (by rw [b_0]; exact fun q => q c), if_pos c]
  · rw [if_pos (b_0.mpr c), if_neg c]
theorem ef_T {α : Type} {p : Prop} [Decidable p] (h : p) (x y : Option α) : m_if p x y = x := if_pos h
theorem ef_F {α : Type} {p : Prop} [Decidable p] (h : ¬ p) (x y : Option α) : m_if p x y = y := if_neg h
theorem z_nat : (0 : Int32).toNatClampNeg = 0 := (rfl)
theorem o_nat : (1 : Int32).toNatClampNeg = 1 := (rfl)
theorem n_64 {i : Nat} (h : i < 2147483648) : (n_ i).toInt64.toInt = i := q_64 ⟨by omega, by omega⟩
/-- the last index of so many -/
theorem n_pred {i : Nat} (h : i < 2147483648) : (n_ i - 1).toInt64.toInt = (i : Int) - 1 := by
  rw [show (1 : Int32) = q_ 1 from rfl, n_q, q_sub, q_64 ⟨by omega, by omega⟩]
theorem rf_isParty (n : Nat) {st : MS} {np : Nat} (h : st.1 5 = n_ np) (h8 : np ≤ 8) (x : Int32) : f_isParty n st x = some (b_ (0 ≤ x.toInt ∧ x.toInt < np)) := by
  unfold f_isParty
  rw [rf_isIn, h, n_pred (by omega), Int32.toInt_toInt64, m_bs, b_01, m_gT]
  exact congrArg some (b_congr (by rw [show (0 : Int64).toInt = 0 from rfl]; omega))
theorem rf_isKind (n : Nat) {st : MS} {nk : Nat} (h : st.1 6 = n_ nk) (h4 : nk ≤ 4) (x : Int32) : f_isKind n st x = some (b_ (0 ≤ x.toInt ∧ x.toInt < nk)) := by
  unfold f_isKind
  rw [rf_isIn, h, n_pred (by omega), Int32.toInt_toInt64, m_bs, b_01, m_gT]
  exact congrArg some (b_congr (by rw [show (0 : Int64).toInt = 0 from rfl]; omega))
theorem rf_isTrade (n : Nat) {st : MS} {s : SS_} (h : rf_V s (st.2.1 0)) (h4 : s.1.length ≤ 40) (x : Int32) : f_isTrade n st x = some (b_ (0 ≤ x.toInt ∧ x.toInt < s.1.length)) := by
  unfold f_isTrade
  rw [show (0 : Int32).toNatClampNeg = 0 from rfl, h.1, rf_isIn, n_pred (by omega), Int32.toInt_toInt64, m_bs, b_01, m_gT]
  exact congrArg some (b_congr (by rw [show (0 : Int64).toInt = 0 from rfl]; omega))
theorem rf_areTwo (n : Nat) {st : MS} {np : Nat} (h : st.1 5 = n_ np) (h8 : np ≤ 8) (x y : Int32) : f_areTwo n st x y = some (b_ ((0 ≤ x.toInt ∧ x.toInt < np) ∧ (0 ≤ y.toInt ∧ y.toInt < np) ∧ x.toInt ≠ y.toInt)) := by
  unfold f_areTwo f_areTwo_J25 f_areTwo_J26
  rw [rf_isParty n h h8, rf_isParty n h h8, m_bs]
  unfold m_if
  by_cases c1 : 0 ≤ x.toInt ∧ x.toInt < np
  · rw [if_neg (by rw [b_0]; exact fun q => q c1), m_bs]
    by_cases c2 : 0 ≤ y.toInt ∧ y.toInt < np
    · rw [if_neg (by rw [b_0]; exact fun q => q c2)]
      by_cases c3 : x = y
      · rw [if_pos c3, b_F (fun q => q.2.2 (by rw [c3]))]; rfl
      · rw [if_neg c3, b_T ⟨c1, c2, fun q => c3 (Int32.toInt_inj.mp q)⟩]; rfl
    · rw [if_pos (b_0.mpr c2), b_F (fun q => c2 q.2.1)]; rfl
  · rw [if_pos (b_0.mpr c1), b_F (fun q => c1 q.1)]; rfl
/-- a trade's numbers -/
theorem rf_tradeAt (n : Nat) {st : MS} {i j : Nat} (hi : i < 40) (hj : j < 5) : f_tradeAt n st (n_ i) (n_ j) = some (st.2.1 0 (2 + 5 * i + j)) := by
  unfold f_tradeAt
  simp (disch := omega) only [n_lit, n_add, n_mul, n_in, n_nat, m_gT]
theorem rf_isFree (n : Nat) {st : MS} {s : SS_} (h : rf_V s (st.2.1 0)) (h4 : s.1.length ≤ 40) {nk : Nat} (hk : ∀ t ∈ s.1, t.2.2.2.1 < nk) (hnk : nk ≤ 4) {k : Nat} (hk4 : k < 4) {i : Nat} (hi : i < s.1.length) : f_isFree n st (n_ i) (n_ k) = some (b_ (tr_fr k (s.1[i]) = true)) := by
  obtain ⟨g1, g2, g3, g4, g5⟩ := h.2.2.1 i hi
  have hk' := hk _ (List.getElem_mem hi)
  unfold f_isFree f_isFree_J23 f_isFree_J24
  rw [show (3 : Int32) = n_ 3 from rfl, show (4 : Int32) = n_ 4 from rfl, rf_tradeAt n (by omega) (by omega), rf_tradeAt n (by omega) (by omega), g4, g5, m_bs, m_bs]
  unfold m_if
  by_cases c : (s.1[i]).2.2.2.1 = k
  · rw [if_pos (by rw [n_eq (by omega) (by omega)]; exact c)]
    by_cases c2 : (s.1[i]).2.2.2.2 = true
    · rw [c2, b_F (by unfold tr_fr; simp [c2])]; rfl
    · rw [b_T (by unfold tr_fr; simp [c, c2]), show (s.1[i]).2.2.2.2 = false by simpa using c2]; rfl
  · rw [if_neg (by rw [n_eq (by omega) (by omega)]; exact c), b_F (by unfold tr_fr; simp [c])]; rfl
theorem rf_couple (n : Nat) (a b : Nat) : f_couple n (n_ a) (n_ b) = some (n_ (8 * a + b)) := by
  unfold f_couple
  simp only [n_lit, n_add, n_mul]
/-- whether one of a trade's two is the one left out (-1: none) -/
theorem rf_isOf (n : Nat) {st : MS} {s : SS_} (h : rf_V s (st.2.1 0)) {np nk : Nat} (ok : ss_ok np nk s) {w : Int} (hw : -1 ≤ w ∧ w < 8) {i : Nat} (hi : i < s.1.length) : f_isOf n st (n_ i) (q_ w) = some (b_ (((s.1[i]).1 : Int) = w ∨ ((s.1[i]).2.1 : Int) = w)) := by
  obtain ⟨g1, g2, g3, g4, g5⟩ := h.2.2.1 i hi
  have h40 := ok.2.2.1
  have ht := ok.2.2.2.1 _ (List.getElem_mem hi)
  have h8 := ok.1
  unfold f_isOf f_isOf_J20 f_isOf_J25
  rw [show (0 : Int32) = n_ 0 from rfl, show (1 : Int32) = n_ 1 from rfl, rf_tradeAt n (by omega) (by omega), rf_tradeAt n (by omega) (by omega), Nat.add_zero, g1, g2, m_bs, m_bs]
  unfold m_if
  have e1 : (n_ (s.1[i]).1 = q_ w) ↔ ((s.1[i]).1 : Int) = w := by unfold n_; exact q_eq ⟨by have := ht.1; omega, by have := ht.1; omega⟩ ⟨by omega, by omega⟩
  have e2 : (n_ (s.1[i]).2.1 = q_ w) ↔ ((s.1[i]).2.1 : Int) = w := by unfold n_; exact q_eq ⟨by have := ht.2.1; omega, by have := ht.2.1; omega⟩ ⟨by omega, by omega⟩
  by_cases c1 : ((s.1[i]).1 : Int) = w
  · rw [if_pos (e1.mpr c1), b_T (Or.inl c1)]; rfl
  · rw [if_neg (fun q => c1 (e1.mp q))]
    by_cases c2 : ((s.1[i]).2.1 : Int) = w
    · rw [if_pos (e2.mpr c2), b_T (Or.inr c2)]; rfl
    · rw [if_neg (fun q => c2 (e2.mp q)), b_F (fun q => q.elim c1 c2)]; rfl
