set_option maxRecDepth 100000
/-! The reference's pages: bytes that are put -/
def pt_ (st : MS) (bs : List Nat) : Prop := st.1 31 = n_ bs.length ∧ ∀ i, i < bs.length → st.2.1 30 i = n_ (bs.getD i 0)
theorem rf_puts (n : Nat) {st : MS} {bs : List Nat} (h : pt_ st bs) (hl : bs.length < 48) (c : Nat) : ∃ st', f_puts n st (n_ c) = some st' ∧ mt_ [31] [30] st st' ∧ pt_ st' (bs ++ [c]) := by
  refine ⟨m_sg (m_sa st 30 bs.length (n_ c)) 31 (n_ (bs.length + 1)), ?_, mt_tr (mt_of (ms_sa (by simp) _ _ _)) (mt_sg (by simp) _ _), ?_, fun i hi => ?_⟩
  · unfold f_puts
    rw [h.1, n_in hl (by omega), m_gT, n_nat (by omega), show (m_sa st 30 bs.length (n_ c)).1 31 = n_ bs.length from h.1, show n_ bs.length + 1 = n_ (bs.length + 1) from by rw [n_lit 1, n_add]]
  · rw [sg_at, List.length_append]; rfl
  · rw [List.length_append] at hi
    simp only [List.length_singleton] at hi
    show (m_sa st 30 bs.length (n_ c)).2.1 30 i = _
    rw [sa_at]
    by_cases e : i = bs.length
    · rw [e, upd_at, gD_last]
    · rw [upd_ne e, gD_app (by omega)]; exact h.2 i (by omega)
theorem nm_app (w : List Nat) (c : Nat) : ∀ v, nm_ (w ++ [c]) v = 256 * nm_ w v + c := by
  induction w with
  | nil => intro v; rfl
  | cons a w ih => intro v; exact ih (256 * v + a)
/-- a name's letters, one by one from its end -/
theorem nm_dig : ∀ (m : Nat) (w : List Nat), w.length = m → (∀ c ∈ w, c < 256) → 0 ≤ nm_ w 0 ∧ nm_ w 0 < 256 ^ m ∧ ∀ j, (nm_ w 0 / 256 ^ j) % 256 = if j < m then ((w.getD (m - 1 - j) 0 : Nat) : Int) else 0 := by
  intro m
  induction m with
  | zero =>
    intro w hw _
    have : w = [] := List.length_eq_zero_iff.mp hw
    subst this
    refine ⟨Int.le_refl _, by decide, fun j => ?_⟩
    rw [if_neg (by omega)]
    show (0 / 256 ^ j) % 256 = (0 : Int)
    rw [Int.zero_ediv]; rfl
  | succ m ih =>
    intro w hw hc
    obtain ⟨w', c, rfl⟩ : ∃ w' c, w = w' ++ [c] := by
      rcases List.eq_nil_or_concat w with q | ⟨a, b, q⟩
      · subst q; cases hw
      · exact ⟨a, b, by rw [q]; simp⟩
    have hl : w'.length = m := by simp at hw; exact hw
    obtain ⟨h1, h2, h3⟩ := ih w' hl (fun x hx => hc x (List.mem_append_left _ hx))
    have hcc : c < 256 := hc c (by simp)
    rw [nm_app]
    refine ⟨by omega, ?_, fun j => ?_⟩
    · rw [Int.pow_succ]; omega
    · cases j with
      | zero =>
        rw [if_pos (by omega), Int.pow_zero, Int.ediv_one, show m + 1 - 1 - 0 = w'.length by omega, gD_last]
        omega
      | succ j =>
        have e : (256 * nm_ w' 0 + c) / 256 ^ (j + 1) = nm_ w' 0 / 256 ^ j := by
          rw [Int.pow_succ, Int.mul_comm (256 ^ j) 256, ← Int.ediv_ediv_of_nonneg (show (0:Int) ≤ 256 by omega), show (256 * nm_ w' 0 + (c:Int)) / 256 = nm_ w' 0 by omega]
        rw [e, h3 j]
        by_cases q : j < m
        · rw [if_pos q, if_pos (by omega), show m + 1 - 1 - (j + 1) = m - 1 - j by omega, gD_app (by omega)]
        · rw [if_neg q, if_neg (by omega)]
