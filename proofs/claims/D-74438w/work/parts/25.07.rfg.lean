set_option maxRecDepth 100000
/-! The reference goes along a chain -/
/-- a loop, by a measure of something that isn't told by its state alone -/
theorem ev_lpg {σ ρ β : Type} {B : Nat → σ → Option (σ ⊕ ρ)} {Q : ρ → Prop} (mu : β → Nat) (I : β → σ → Prop) (step : ∀ b s, I b s → Ev_ (fun n => B n s) (lq_ (fun s' => ∃ b', I b' s' ∧ mu b' < mu b) Q)) (b : β) (s : σ) (h : I b s) : Ev_ (fun n => m_lp (B n) n s) Q := by
  have key : ∀ (m : Nat) (b : β) (s : σ), mu b < m → I b s → ∃ (N K : Nat) (z : ρ), Q z ∧ ∀ n k, N ≤ n → K ≤ k → m_lp (B n) k s = some z := by
    intro m
    induction m with
    | zero => intro b s hm _; omega
    | succ m ih =>
      intro b s hm hI
      obtain ⟨N, r, h1, h2⟩ := step b s hI
      cases r with
      | inl s' =>
        obtain ⟨b', h5, h6⟩ := h1
        obtain ⟨N', K', z, h3, h4⟩ := ih b' s' (by omega) h5
        refine ⟨max N N', K' + 1, z, h3, fun n k hn hk => ?_⟩
        obtain ⟨k', rfl⟩ : ∃ k', k = k' + 1 := ⟨k - 1, by omega⟩
        show m_b (B n s) _ = some z
        rw [show B n s = _ from h2 n (by omega)]
        exact h4 n k' (by omega) (by omega)
      | inr z =>
        refine ⟨N, 1, z, h1, fun n k hn hk => ?_⟩
        obtain ⟨k', rfl⟩ : ∃ k', k = k' + 1 := ⟨k - 1, by omega⟩
        show m_b (B n s) _ = some z
        rw [show B n s = _ from h2 n hn]; rfl
  obtain ⟨N, K, z, h1, h2⟩ := key (mu b + 1) b s (by omega) h
  exact ⟨max N K, z, h1, fun n hn => h2 n n (by omega) (by omega)⟩
/-- a chain in the rows: each node's entry is the next one, the last one's is -1 -/
def rc_ (A : Nat → Int32) : Nat → List Nat → Prop
  | v, [] => v < 16 ∧ A v = q_ (-1)
  | v, u :: l => v < 16 ∧ A v = n_ u ∧ rc_ A u l
theorem rc_of {L pi : Nat → Int} {lb : Int} {R0 : Nat → Prop} {st : MS} {root : Nat → Prop} {dist : Nat → Int} {pe : Nat → Nat} (h : rl_ L pi lb R0 st root dist pe) : ∀ (l : List Nat) (v : Nat), fw_Ch (fun x => rn_src (pe x)) root (v :: l) → (∀ x ∈ v :: l, x < 16 ∧ dist x < 1000000) → rc_ (st.2.1 28) v l := by
  intro l
  induction l with
  | nil =>
    intro v hc hall
    have := hall v List.mem_cons_self
    exact ⟨this.1, h.2.1.2.1 v this.1 (Or.inl hc)⟩
  | cons u l ih =>
    intro v hc hall
    have hv := hall v List.mem_cons_self
    refine ⟨hv.1, ?_, ih u hc.2.2 (fun x hx => hall x (List.mem_cons_of_mem _ hx))⟩
    rw [h.2.1.2.2 v hv.1 hc.1 hv.2]
    exact congrArg n_ hc.2.1
theorem rc_lt {A : Nat → Int32} {v : Nat} {l : List Nat} (h : rc_ A v l) : v < 16 := by
  cases l with
  | nil => exact h.1
  | cons u l => exact h.1
theorem n_ne1 {a : Nat} (h : a < 2147483648) : ¬ n_ a = q_ (-1) := by
  unfold n_; rw [q_eq ⟨by omega, by omega⟩ ⟨by omega, by omega⟩]; omega
theorem m1_q : (-1 : Int32) = q_ (-1) := rfl
theorem rf_firstOf {st : MS} {v : Nat} {l : List Nat} (h : rc_ (st.2.1 28) v l) : Ev_ (fun n => f_firstOf n st (n_ v)) (fun r => r = n_ (fw_last v l)) := by
  unfold f_firstOf
  refine ev_b (P := fun r => r = n_ (fw_last v l)) ?_ (fun r hr => ev_some hr)
  unfold f_firstOf_L2l
  refine ev_lpg (β := Nat × List Nat) (fun b => b.2.length) (fun b s => s = n_ b.1 ∧ rc_ (st.2.1 28) b.1 b.2 ∧ fw_last b.1 b.2 = fw_last v l) (fun b s hb => ?_) (v, l) _ ⟨rfl, h, rfl⟩
  obtain ⟨v, l⟩ := b
  obtain ⟨rfl, h1, h2⟩ := hb
  have hv := rc_lt h1
  cases l with
  | nil =>
    refine ev_eq (r := .inr (n_ v)) (fun n => ?_) (by rw [← h2]; rfl)
    unfold f_firstOf_L2
    simp (disch := omega) only [n_in, m_gT, n_nat]
    rw [h1.2, m1_q, ef_T rfl]
  | cons u l =>
    have hu := rc_lt h1.2.2
    refine ev_eq (r := .inl (n_ u)) (fun n => ?_) ⟨(u, l), ⟨rfl, h1.2.2, h2⟩, Nat.lt_succ_self _⟩
    unfold f_firstOf_L2
    simp (disch := omega) only [n_in, m_gT, n_nat]
    rw [h1.2.1, m1_q, ef_F (n_ne1 (by omega))]
/-- the arcs of such a chain -/
def rc_min (L : Nat → Int) : Int → Nat → List Nat → Int
  | m, _, [] => m
  | m, v, u :: l => rc_min L (min m (L (16 * u + v))) u l
theorem rf_wayMay {st : MS} {be may : Nat → Int} {fx : Nat → Bool} {x t : Nat → Int} (hrp : rp_ st be may fx x t) (hfit : ∀ e, e < 256 → 0 ≤ rn_L be may fx x t e ∧ rn_L be may fx x t e < 2147483648) {v : Nat} {l : List Nat} (h : rc_ (st.2.1 28) v l) {most : Int} (hm : 0 ≤ most ∧ most < 2147483648) : Ev_ (fun n => f_wayMay n st (n_ v) (q_ most)) (fun r => r = q_ (rc_min (rn_L be may fx x t) most v l)) := by
  unfold f_wayMay
  refine ev_b (P := fun r => r = q_ (rc_min (rn_L be may fx x t) most v l)) ?_ (fun r hr => ev_some hr)
  unfold f_wayMay_L5l
  refine ev_lpg (β := Int × Nat × List Nat) (fun b => b.2.2.length) (fun b s => s = (q_ b.1, n_ b.2.1) ∧ (0 ≤ b.1 ∧ b.1 < 2147483648) ∧ rc_ (st.2.1 28) b.2.1 b.2.2 ∧ rc_min (rn_L be may fx x t) b.1 b.2.1 b.2.2 = rc_min (rn_L be may fx x t) most v l) (fun b s hb => ?_) (most, v, l) _ ⟨rfl, hm, h, rfl⟩
  obtain ⟨m, v, l⟩ := b
  obtain ⟨rfl, h0, h1, h2⟩ := hb
  dsimp only at h0 h1 h2 ⊢
  have hv := rc_lt h1
  cases l with
  | nil =>
    refine ev_eq (r := .inr (q_ m)) (fun n => ?_) (by rw [← h2]; rfl)
    unfold f_wayMay_L5
    simp (disch := omega) only [n_in, m_gT, n_nat]
    rw [h1.2, m1_q, ef_T rfl]
  | cons u l =>
    have hu := rc_lt h1.2.2
    have hl := hfit (16 * u + v) (by omega)
    refine ev_eq (r := .inl (q_ (min m (rn_L be may fx x t (16 * u + v))), n_ u)) (fun n => ?_) ⟨(_, u, l), ⟨rfl, by dsimp only; omega, h1.2.2, h2⟩, Nat.lt_succ_self _⟩
    unfold f_wayMay_L5 f_wayMay_J50
    simp (disch := omega) only [n_in, m_gT, n_nat]
    rw [h1.2.1, m1_q, ef_F (n_ne1 (by omega)), rf_stepMay n hrp hu hv]
    simp (disch := omega) only [m_bs, q_le']
    by_cases c : m ≤ rn_L be may fx x t (16 * u + v)
    · rw [ef_T c, show min m (rn_L be may fx x t (16 * u + v)) = m by omega]
    · rw [ef_F c, show min m (rn_L be may fx x t (16 * u + v)) = rn_L be may fx x t (16 * u + v) by omega]
theorem rc_min_le (L : Nat → Int) : ∀ (l : List Nat) (m : Int) (v : Nat), rc_min L m v l ≤ m := by
  intro l
  induction l with
  | nil => intro m v; exact Int.le_refl _
  | cons u l ih => intro m v; have := ih (min m (L (16 * u + v))) u; show rc_min L (min m (L (16 * u + v))) u l ≤ m; omega
/-- what goes along the chain is no more than each arc has -/
theorem rc_min_ok {L : Nat → Int} {root : Nat → Prop} {pe : Nat → Nat} : ∀ (l : List Nat) (v : Nat) (m : Int), fw_Ch (fun x => rn_src (pe x)) root (v :: l) → (∀ x ∈ v :: l, ¬ root x → pe x < 256 ∧ rn_dst (pe x) = x ∧ 0 < L (pe x)) → 0 < m → (∀ x ∈ v :: l, ¬ root x → rc_min L m v l ≤ L (pe x)) ∧ 0 < rc_min L m v l := by
  intro l
  induction l with
  | nil =>
    intro v m hc _ hm
    refine ⟨fun x hx hr => ?_, hm⟩
    rcases List.mem_cons.mp hx with rfl | q
    · exact absurd hc hr
    · cases q
  | cons u l ih =>
    intro v m hc hall hm
    obtain ⟨a1, a2, a3⟩ := hall v List.mem_cons_self hc.1
    have hu : rn_src (pe v) = u := hc.2.1
    have he : pe v = 16 * u + v := by
      have b1 := hu
      have b2 := a2
      unfold rn_src at b1
      unfold rn_dst at b2
      omega
    obtain ⟨i1, i2⟩ := ih u (min m (L (16 * u + v))) hc.2.2 (fun x hx => hall x (List.mem_cons_of_mem _ hx)) (by rw [← he]; omega)
    refine ⟨fun x hx hr => ?_, i2⟩
    rcases List.mem_cons.mp hx with rfl | q
    · have := rc_min_le L l (min m (L (16 * u + x))) u
      show rc_min L (min m (L (16 * u + x))) u l ≤ L (pe x)
      rw [he]; omega
    · exact i1 x q hr
