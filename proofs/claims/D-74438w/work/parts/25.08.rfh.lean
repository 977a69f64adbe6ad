set_option maxRecDepth 100000
/-! The reference sends along a chain -/
def rc_aug (much : Int) : Nat → List Nat → (Nat → Int) → (Nat → Int)
  | _, [], L => L
  | v, u :: l, L => rc_aug much u l (fw_st rn_rev L (16 * u + v) much)
theorem fw_st_congr {L L' : Nat → Int} (h : ∀ k, k < 256 → L k = L' k) {e : Nat} (he : e < 256) (much : Int) : ∀ k, k < 256 → fw_st rn_rev L e much k = fw_st rn_rev L' e much k := by
  intro k hk
  have hr := (rn_net e he).2.2.1
  unfold fw_st
  by_cases c : k = rn_rev e
  · rw [c, fw_up_at, fw_up_at]
    by_cases c2 : rn_rev e = e
    · rw [c2, fw_up_at, fw_up_at, h e he]
    · rw [fw_up_ne c2, fw_up_ne c2, h _ hr]
  · rw [fw_up_ne c, fw_up_ne c]
    by_cases c2 : k = e
    · rw [c2, fw_up_at, fw_up_at, h e he]
    · rw [fw_up_ne c2, fw_up_ne c2, h k hk]
theorem rc_aug_congr {much : Int} : ∀ (l : List Nat) (v : Nat) (L L' : Nat → Int), v < 16 → (∀ x ∈ l, x < 16) → (∀ k, k < 256 → L k = L' k) → ∀ k, k < 256 → rc_aug much v l L k = rc_aug much v l L' k := by
  intro l
  induction l with
  | nil => intro v L L' _ _ h; exact h
  | cons u l ih =>
    intro v L L' hv hl h
    have hu := hl u List.mem_cons_self
    exact ih u _ _ hu (fun x hx => hl x (List.mem_cons_of_mem _ hx)) (fw_st_congr h (by omega) much)
theorem rc_mem {A : Nat → Int32} : ∀ (l : List Nat) (v : Nat), rc_ A v l → ∀ x ∈ v :: l, x < 16 := by
  intro l
  induction l with
  | nil =>
    intro v h x hx
    rcases List.mem_cons.mp hx with rfl | q
    · exact h.1
    · cases q
  | cons u l ih =>
    intro v h x hx
    rcases List.mem_cons.mp hx with rfl | q
    · exact h.1
    · exact ih u h.2.2 x q
def rc_pos (L : Nat → Int) : Nat → List Nat → Prop
  | _, [] => True
  | v, u :: l => 0 < L (16 * u + v) ∧ rc_pos L u l
theorem rc_pe {root : Nat → Prop} {pe : Nat → Nat} {much : Int} : ∀ (l : List Nat) (v : Nat) (L : Nat → Int), fw_Ch (fun x => rn_src (pe x)) root (v :: l) → (∀ x ∈ v :: l, ¬ root x → pe x < 256 ∧ rn_dst (pe x) = x) → fw_aug rn_rev pe much (v :: l) L = rc_aug much v l L := by
  intro l
  induction l with
  | nil => intro v L _ _; rfl
  | cons u l ih =>
    intro v L hc hall
    obtain ⟨a1, a2⟩ := hall v List.mem_cons_self hc.1
    have hu : rn_src (pe v) = u := hc.2.1
    have he : pe v = 16 * u + v := by
      have b1 := hu
      have b2 := a2
      unfold rn_src at b1
      unfold rn_dst at b2
      omega
    show fw_aug rn_rev pe much (u :: l) (fw_st rn_rev L (pe v) much) = rc_aug much u l (fw_st rn_rev L (16 * u + v) much)
    rw [he, ih u _ hc.2.2 (fun x hx => hall x (List.mem_cons_of_mem _ hx))]
theorem rc_pos_of {L : Nat → Int} {root : Nat → Prop} {pe : Nat → Nat} : ∀ (l : List Nat) (v : Nat), fw_Ch (fun x => rn_src (pe x)) root (v :: l) → (∀ x ∈ v :: l, ¬ root x → pe x < 256 ∧ rn_dst (pe x) = x ∧ 0 < L (pe x)) → rc_pos L v l := by
  intro l
  induction l with
  | nil => intro v _ _; trivial
  | cons u l ih =>
    intro v hc hall
    obtain ⟨a1, a2, a3⟩ := hall v List.mem_cons_self hc.1
    have hu : rn_src (pe v) = u := hc.2.1
    have he : pe v = 16 * u + v := by
      have b1 := hu
      have b2 := a2
      unfold rn_src at b1
      unfold rn_dst at b2
      omega
    exact ⟨by rw [← he]; exact a3, ih u hc.2.2 (fun x hx => hall x (List.mem_cons_of_mem _ hx))⟩
theorem rp_x {st : MS} {be may : Nat → Int} {fx : Nat → Bool} {x t : Nat → Int} (h : rp_ st be may fx x t) {k : Nat} (hk : k < 64) (v : Int) : rp_ (m_sa st 22 k (q_ v)) be may fx (fw_up x k v) t := by
  refine ⟨fun c hc => ?_, fun c hc => ?_, fun c hc => ?_, fun c hc => ?_, fun c hc => ?_⟩
  · rw [sa_ne _ (by omega)]; exact h.1 c hc
  · rw [sa_at]
    by_cases e : c = k
    · rw [e, upd_at, fw_up_at]
    · rw [upd_ne e, fw_up_ne e]; exact h.2.1 c hc
  · rw [sa_ne _ (by omega)]; exact h.2.2.1 c hc
  · rw [sa_ne _ (by omega)]; exact h.2.2.2.1 c hc
  · rw [sa_ne _ (by omega)]; exact h.2.2.2.2 c hc
theorem rp_t {st : MS} {be may : Nat → Int} {fx : Nat → Bool} {x t : Nat → Int} (h : rp_ st be may fx x t) {k : Nat} (v : Int) : rp_ (m_sa st 24 k (q_ v)) be may fx x (fw_up t k v) := by
  refine ⟨fun c hc => ?_, fun c hc => ?_, fun c hc => ?_, fun c hc => ?_, fun c hc => ?_⟩
  · rw [sa_ne _ (by omega)]; exact h.1 c hc
  · rw [sa_ne _ (by omega)]; exact h.2.1 c hc
  · rw [sa_ne _ (by omega)]; exact h.2.2.1 c hc
  · rw [sa_at]
    by_cases e : c = k
    · rw [e, upd_at, fw_up_at]
    · rw [upd_ne e, fw_up_ne e]; exact h.2.2.2.1 c hc
  · rw [sa_ne _ (by omega)]; exact h.2.2.2.2 c hc
def rs_eq (fx : Nat → Bool) (x x' : Nat → Int) : Prop := ∀ i j, i < 8 → j < 8 → (i = j ∨ fx (8 * i + j) = true) → x' (8 * i + j) = x (8 * i + j)
theorem rf_sends {st : MS} {be may : Nat → Int} {fx : Nat → Bool} {x t : Nat → Int} (hrp : rp_ st be may fx x t) {v : Nat} {l : List Nat} (h : rc_ (st.2.1 28) v l) (hpos : rc_pos (rn_L be may fx x t) v l) (much : Int) :
    Ev_ (fun n => f_sends n st (n_ v) (q_ much)) (fun st' => ms_ [22, 24] st st' ∧ ∃ x' t', rp_ st' be may fx x' t' ∧ rs_eq fx x x' ∧ ∀ e, e < 256 → rn_L be may fx x' t' e = rc_aug much v l (rn_L be may fx x t) e) := by
  unfold f_sends
  refine ev_b (P := fun st' => ms_ [22, 24] st st' ∧ ∃ x' t', rp_ st' be may fx x' t' ∧ rs_eq fx x x' ∧ ∀ e, e < 256 → rn_L be may fx x' t' e = rc_aug much v l (rn_L be may fx x t) e) ?_ (fun r hr => ev_some hr)
  unfold f_sends_L2l
  refine ev_lpg (β := Nat × List Nat) (fun b => b.2.length) (fun b s => s.1 = n_ b.1 ∧ rc_ (st.2.1 28) b.1 b.2 ∧ rc_pos (rn_L be may fx x t) b.1 b.2 ∧ ms_ [22, 24] st s.2 ∧ ∃ x' t', rp_ s.2 be may fx x' t' ∧ rs_eq fx x x' ∧ ∀ e, e < 256 → rc_aug much b.1 b.2 (rn_L be may fx x' t') e = rc_aug much v l (rn_L be may fx x t) e) (fun b s hb => ?_) (v, l) _ ⟨rfl, h, hpos, ms_rfl _ _, x, t, hrp, fun _ _ _ _ _ => rfl, fun _ _ => rfl⟩
  obtain ⟨v', l'⟩ := b
  obtain ⟨v3, s1⟩ := s
  obtain ⟨e0, h1, h2, h3, x', t', h4, h5, h6⟩ := hb
  dsimp only at e0 h1 h2 h3 h4 h6 ⊢
  subst e0
  have hv := rc_lt h1
  have h28 : s1.2.1 28 = st.2.1 28 := h3.2.2 28 (by simp)
  cases l' with
  | nil =>
    refine ev_eq (r := .inr s1) (fun n => ?_) ⟨h3, x', t', h4, h5, h6⟩
    unfold f_sends_L2
    simp (disch := omega) only [n_in, m_gT, n_nat, h28]
    rw [h1.2, m1_q, ef_T rfl]
  | cons u l' =>
    have hu := rc_lt h1.2.2
    have hmem := rc_mem _ _ h1.2.2
    -- one step
    have hstep : ∀ (s2 : MS) (x2 t2 : Nat → Int), ms_ [22, 24] s1 s2 → rp_ s2 be may fx x2 t2 → rs_eq fx x' x2 → (∀ k, k < 256 → rn_L be may fx x2 t2 k = fw_st rn_rev (rn_L be may fx x' t') (16 * u + v') much k) →
        (∃ b' : Nat × List Nat, ((n_ u, s2) : Int32 × MS).1 = n_ b'.1 ∧ True) ∧ (n_ u = n_ u ∧ rc_ (st.2.1 28) u l' ∧ rc_pos (rn_L be may fx x t) u l' ∧ ms_ [22, 24] st s2 ∧ ∃ x' t', rp_ s2 be may fx x' t' ∧ rs_eq fx x x' ∧ ∀ e, e < 256 → rc_aug much u l' (rn_L be may fx x' t') e = rc_aug much v l (rn_L be may fx x t) e) := fun s2 x2 t2 k1 k2 k3 k4 => by
      refine ⟨⟨(u, l'), rfl, trivial⟩, rfl, h1.2.2, h2.2, ms_tr h3 k1, x2, t2, k2, fun i j hi hj hc => (k3 i j hi hj hc).trans (h5 i j hi hj hc), fun e he => ?_⟩
      rw [rc_aug_congr l' u _ _ hu (fun z hz => hmem z (List.mem_cons_of_mem _ hz)) k4 e he]
      exact h6 e he
    rcases rn_send x' t' (show 16 * u + v' < 256 by omega) h2.1 much with ⟨a, b, ha, hb, hab, hf, he, hk⟩ | ⟨a, b, ha, hb, hab, hf, he, hk⟩ | ⟨a, ha, he, hk⟩ | ⟨a, ha, he, hk⟩
    · have e1 : u = a := by omega
      have e2 : v' = 8 + b := by omega
      subst e1; subst e2
      refine ev_eq (r := .inl (n_ u, m_sa s1 22 (8 * u + b) (q_ (x' (8 * u + b) + much)))) (fun n => ?_) ⟨(u, l'), (hstep _ _ _ (ms_sa (by simp) _ _ _) (rp_x h4 (by omega) _) (fun i j hi hj hc => fw_up_ne (fun z => by
          rcases hc with hc | hc
          · omega
          · rw [z, hf] at hc; cases hc)) hk).2, Nat.lt_succ_self _⟩
      unfold f_sends_L2 f_sends_J111
      simp (disch := omega) only [n_in, m_gT, n_nat, h28, h1.2.1, sa_ne, n_lit, n_add, n_le, n_eq, n_sub, rf_couple, m_bs, h4.2.1, q_add]
      rw [show (-n_ 1 : Int32) = q_ (-1) from n_neg 1, ef_F (n_ne1 (by omega)), ef_F (show ¬ 8 + b = u + 8 by omega), ef_F (show ¬ u = 8 + b + 8 by omega), ef_F (show ¬ 8 ≤ u by omega), show 8 + b - 8 = b by omega]
    · have e1 : u = 8 + b := by omega
      have e2 : v' = a := by omega
      subst e1; subst e2
      refine ev_eq (r := .inl (n_ (8 + b), m_sa s1 22 (8 * v' + b) (q_ (x' (8 * v' + b) - much)))) (fun n => ?_) ⟨(8 + b, l'), (hstep _ _ _ (ms_sa (by simp) _ _ _) (rp_x h4 (by omega) _) (fun i j hi hj hc => fw_up_ne (fun z => by
          rcases hc with hc | hc
          · omega
          · rw [z, hf] at hc; cases hc)) hk).2, Nat.lt_succ_self _⟩
      unfold f_sends_L2 f_sends_J111
      simp (disch := omega) only [n_in, m_gT, n_nat, h28, h1.2.1, sa_ne, n_lit, n_add, n_le, n_eq, n_sub, m_bs]
      rw [show (-n_ 1 : Int32) = q_ (-1) from n_neg 1, ef_F (n_ne1 (by omega)), ef_F (show ¬ v' = 8 + b + 8 by omega), ef_F (show ¬ 8 + b = v' + 8 by omega), ef_T (show 8 ≤ 8 + b by omega), show 8 + b - 8 = b by omega]
      simp (disch := omega) only [rf_couple, m_bs, n_in, m_gT, n_nat, h4.2.1, q_sub]
    · have e1 : u = a := by omega
      have e2 : v' = 8 + u := by omega
      subst e1; subst e2
      refine ev_eq (r := .inl (n_ u, m_sa s1 24 u (q_ (t' u - much)))) (fun n => ?_) ⟨(u, l'), (hstep _ _ _ (ms_sa (by simp) _ _ _) (rp_t h4 _) (fun i j hi hj hc => rfl) hk).2, Nat.lt_succ_self _⟩
      unfold f_sends_L2 f_sends_J111
      simp (disch := omega) only [n_in, m_gT, n_nat, h28, h1.2.1, sa_ne, n_lit, n_add, n_le, n_eq, n_sub, m_bs, h4.2.2.2.1, q_sub]
      rw [show (-n_ 1 : Int32) = q_ (-1) from n_neg 1, ef_F (n_ne1 (by omega)), ef_T (show 8 + u = u + 8 by omega)]
    · have e1 : u = 8 + a := by omega
      have e2 : v' = a := by omega
      subst e1; subst e2
      refine ev_eq (r := .inl (n_ (8 + v'), m_sa s1 24 v' (q_ (t' v' + much)))) (fun n => ?_) ⟨(8 + v', l'), (hstep _ _ _ (ms_sa (by simp) _ _ _) (rp_t h4 _) (fun i j hi hj hc => rfl) hk).2, Nat.lt_succ_self _⟩
      unfold f_sends_L2 f_sends_J111
      simp (disch := omega) only [n_in, m_gT, n_nat, h28, h1.2.1, sa_ne, n_lit, n_add, n_le, n_eq, n_sub, m_bs, h4.2.2.2.1, q_add]
      rw [show (-n_ 1 : Int32) = q_ (-1) from n_neg 1, ef_F (n_ne1 (by omega)), ef_F (show ¬ v' = 8 + v' + 8 by omega), ef_T (show 8 + v' = v' + 8 by omega)]
