set_option maxRecDepth 100000
/-! The Ways: whole -/
theorem sm_np {nu : Nat → Int} {np : Nat} (h8 : np ≤ 8) (hz : ∀ x, np ≤ x → x < 8 → nu x = 0) : ∀ m, np + m ≤ 8 → fw_sm (np + m) (fun x => max (nu x) 0) = fw_sm np (fun x => max (nu x) 0) := by
  intro m
  induction m with
  | zero => intro _; rfl
  | succ m ih =>
    intro h
    show fw_sm (np + m) (fun x => max (nu x) 0) + max (nu (np + m)) 0 = _
    rw [ih (by omega), hz (np + m) (by omega) (by omega)]
    omega
theorem eT_cov {np : Nat} {nu be may : Nat → Int} (hz : ∀ x, np ≤ x → x < 8 → nu x = 0) (hm : ∀ x, np ≤ x → x < 8 → may x = 0) (hb : ∀ k, k < 64 → ¬ fs_cp np k → be k = 0) {e : Nat} (he : e < 324) (h : ¬ eT_ np nu np e) : cn_L0 nu be may e = 0 := by
  unfold cn_L0
  by_cases c1 : e / 18 < 8 ∧ e % 18 = 8 + e / 18
  · rw [if_pos c1]
    by_cases c : e / 18 < np
    · exact absurd (Or.inl (Or.inl ⟨e / 18, c, by omega⟩)) h
    · exact hm _ (by omega) c1.1
  · rw [if_neg c1]
    by_cases c2 : 8 ≤ e / 18 ∧ e / 18 < 16 ∧ e % 18 < 8 ∧ e / 18 ≠ 8 + e % 18
    · rw [if_pos c2]
      refine hb _ (by omega) (fun z => ?_)
      rw [fs_cp_at (by omega)] at z
      exact h (Or.inl (Or.inr ⟨e / 18 - 8, e % 18, z.1, z.2.1, z.2.2, Or.inl z.1, by omega⟩))
    · rw [if_neg c2]
      by_cases c3 : e / 18 = 16 ∧ 8 ≤ e % 18 ∧ e % 18 < 16
      · rw [if_pos c3]
        by_cases c : 0 < nu (e % 18 - 8)
        · by_cases c' : e % 18 - 8 < np
          · exact absurd (Or.inr (Or.inl ⟨e % 18 - 8, c', c, by omega⟩)) h
          · have := hz (e % 18 - 8) (by omega) (by omega); omega
        · omega
      · rw [if_neg c3]
        by_cases c4 : e / 18 < 8 ∧ e % 18 = 17
        · rw [if_pos c4]
          by_cases c : nu (e / 18) < 0
          · by_cases c' : e / 18 < np
            · exact absurd (Or.inr (Or.inr ⟨e / 18, c', c, by omega⟩)) h
            · have := hz (e / 18) (by omega) (by omega); omega
          · omega
        · rw [if_neg c4]
