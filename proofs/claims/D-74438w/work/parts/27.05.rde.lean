set_option maxRecDepth 100000
/-! The reference reads: what is behind a word; a line -/
/-- a field that the picture doesn't look at, or looks at so -/
theorem rdq_sg {st0 st : MS} {T : Nat → Int32} {n : Nat} {s : RD_} (h : rdq_ st0 T n s st) (v : Int32) {fl : Bool} (hb : bt_ v 5 = fl) : rdq_ st0 T n (s.1, s.2.1, s.2.2.1, s.2.2.2.1, fl) (m_sg st 15 v) := by
  obtain ⟨g1, g2, g3, g4, g5, g6, g7, g8⟩ := h
  have m : mt_ [15] [] st (m_sg st 15 v) := mt_sg (by simp) _ _
  refine ⟨mu_tr g1 (mu_m0 m (by decide)), rdp_mt g2 m (by simp) (by rw [sg_ne _ (by omega)]; exact g2.2.1) g2.2.2.1, by rw [sg_ne _ (by omega)]; exact g3, by rw [sg_ne _ (by omega)]; exact g4, ⟨by rw [sg_ne _ (by omega)]; exact g5.1, by rw [sg_ne _ (by omega)]; exact g5.2.1, g5.2.2.1, g5.2.2.2⟩, g6, by rw [sg_at]; exact hb, g8⟩
theorem rdq_12 {st0 st : MS} {T : Nat → Int32} {n : Nat} {s : RD_} (h : rdq_ st0 T n s st) {i : Nat} (hi : i ≤ n) : rdq_ st0 T n (i, s.2) (m_sg st 12 (n_ i)) :=
  rq_mt h (mt_sg (by simp) _ _) (rdp_mt h.2.1 (mt_sg (fs := [12, 16]) (by simp) _ _) (by simp) (sg_at _ _ _) hi)
theorem rqe_sg {st0 st : MS} {e : Nat × Nat} (h : rqe_ st0 e st) {k : Nat} (hk : k = 12 ∨ k = 15 ∨ k = 16) (v : Int32) : rqe_ st0 e (m_sg st k v) := by
  obtain ⟨g1, g2, g3, g4, g5, a, c, g6, g7, g8, g9⟩ := h
  refine ⟨mu_tr g1 (mu_m0 (mt_sg (fs := [k]) (by simp) _ _) (fun x hx => by rw [List.mem_singleton.mp hx]; rcases hk with rfl | rfl | rfl <;> decide)), by rw [sg_ne _ (by omega)]; exact g2, g3, g4, by rw [sg_ne _ (by omega)]; exact g5, a, c, by rw [sg_ne _ (by omega)]; exact g6, g7, by rw [sg_ne _ (by omega)]; exact g8, g9⟩
theorem rqe_sa {st0 st : MS} {e : Nat × Nat} (h : rqe_ st0 e st) (i : Nat) (v : Int32) : rqe_ st0 e (m_sa st 0 i v) := ⟨mu_tr h.1 (mu_mt (mt_of (fs := []) (ms_sa (by simp) _ _ _)) (by simp)), h.2⟩
theorem rqe_5 {st0 st : MS} {e : Nat × Nat} (h : rqe_ st0 e st) {k : Nat} (hk : k = 5 ∨ k = 6) {v : Nat} (hv : v ≤ 4 ∨ k = 5 ∧ v ≤ 8) : rqe_ st0 e (m_sg st k (n_ v)) := by
  obtain ⟨g1, g2, g3, g4, g5, a, c, g6, g7, g8, g9⟩ := h
  have m : mu_ st (m_sg st k (n_ v)) := mu_m0 (mt_sg (fs := [k]) (by simp) _ _) (fun x hx => by rw [List.mem_singleton.mp hx]; rcases hk with rfl | rfl <;> decide)
  rcases hk with rfl | rfl
  · exact ⟨mu_tr g1 m, by rw [sg_ne _ (by omega)]; exact g2, g3, g4, by rw [sg_ne _ (by omega)]; exact g5, v, c, sg_at _ _ _, by omega, by rw [sg_ne _ (by omega)]; exact g8, g9⟩
  · exact ⟨mu_tr g1 m, by rw [sg_ne _ (by omega)]; exact g2, g3, g4, by rw [sg_ne _ (by omega)]; exact g5, a, v, by rw [sg_ne _ (by omega)]; exact g6, g7, sg_at _ _ _, by omega⟩
theorem gA_app {l : List (List Nat)} {w : List Nat} {i : Nat} (h : i < (l ++ [w]).length) (hl : i ≠ l.length) : ∃ h' : i < l.length, (l ++ [w])[i] = l[i] := by
  rw [List.length_append] at h
  simp only [List.length_singleton] at h
  exact ⟨by omega, List.getElem_append_left (by omega)⟩
theorem rf_behind {st0 st : MS} {T : Nat → Int32} {n : Nat} {s : RD_} (h : rdq_ st0 T n s st) {j : Nat} (hj : j < 6) (hF : rdF_ j s = false) (h5 : j = 5 → s.2.2.2.2 = true) : Ev_ (fun m => f_behind m st (n_ j)) (oq_ st0 T n (rdB_ T n j s)) := by
  obtain ⟨g1, g2, g3, g4, g5, g6, g7, g8⟩ := id h
  have sok := g8.2.2.1
  have l8 := g8.1
  have l4 := g8.2.1
  unfold rdF_ at hF
  have hF := of_decide_eq_false hF
  unfold f_behind f_behind_J169
  refine ev_ifq (c' := j = 0) (by rw [n_lit 0, n_eq (by omega) (by omega)]) (fun c0 => ?_) (fun c0 => ?_)
  · subst c0
    rw [g5.1]
    refine ev_b (rf_newName h (p0 := s.2.1.length) (by omega) (by omega) (fun i hi => by omega)) (fun s27 hs => ?_)
    unfold f_behind_J29 rdB_ pb_ oq_
    rw [if_pos rfl]
    cases hx : rdNew_ T n s.2.1 s.2.2.1 s.1 with
    | inl e =>
      rw [hx] at hs
      have q : rqe_ st0 e s27 := hs
      obtain ⟨_, _, _, _, _, a, c, e5, a8, _⟩ := id q
      refine ev_ifF (rqe_13 q) ?_
      rw [e5, n_lit 0, n_add]
      exact ev_some (rqe_5 q (Or.inl rfl) (Or.inr ⟨rfl, a8⟩))
    | inr v =>
      rw [hx] at hs
      obtain ⟨q, q1, q2, q3, q4⟩ := hs
      refine ev_ifT q.2.2.1 ?_
      have q5 := q.2.2.2.2.1
      rw [q5.1, n_lit 1, n_add]
      have hl7 : s.2.1.length < 8 := by
        rcases Nat.lt_or_ge s.2.1.length 8 with z | z
        · exact z
        · exact absurd (Or.inl ⟨rfl, by omega⟩) hF
      refine ev_some ?_
      obtain ⟨k1, k2, k3, k4, k5, k6, k7, k8⟩ := q
      have m : mt_ [5] [] s27 (m_sg s27 5 (n_ (s.2.1.length + 1))) := mt_sg (by simp) _ _
      refine ⟨mu_tr k1 (mu_m0 m (by decide)), rdp_mt k2 m (by simp) (by rw [sg_ne _ (by omega)]; exact k2.2.1) k2.2.2.1, by rw [sg_ne _ (by omega)]; exact k3, by rw [sg_ne _ (by omega)]; exact k4, ⟨by rw [sg_at, List.length_append]; rfl, by rw [sg_ne _ (by omega)]; exact k5.2.1, fun i hi => ?_, k5.2.2.2⟩, k6, by rw [sg_ne _ (by omega)]; exact k7, ?_⟩
      · show s27.2.2 3 i = _
        by_cases e : i = s.2.1.length
        · subst e
          rw [List.getElem_append_right (by omega)]
          simp only [Nat.sub_self, List.getElem_cons_zero]
          exact q1
        · obtain ⟨h', e'⟩ := gA_app hi e
          rw [e']; exact k5.2.2.1 i h'
      · refine ⟨by show (s.2.1 ++ [v.1]).length ≤ 8; rw [List.length_append]; simp; omega, l4, ?_, ?_, g8.2.2.2.2.1, ?_⟩
        · exact ss_ok_mono sok (by show _ ≤ (s.2.1 ++ [v.1]).length; simp) (by show (s.2.1 ++ [v.1]).length ≤ 8; simp; omega) (Nat.le_refl _) l4
        · intro w hw
          rcases List.mem_append.mp hw with z | z
          · exact g8.2.2.2.1 w z
          · rw [List.mem_singleton.mp z]; exact q2
        · show ((s.2.1 ++ [v.1]) ++ s.2.2.1).Nodup
          rw [List.append_assoc]
          have hnd := g8.2.2.2.2.2
          rw [List.nodup_append] at hnd ⊢
          refine ⟨hnd.1, ?_, fun a ha b hb => ?_⟩
          · show (v.1 :: s.2.2.1).Nodup
            exact List.nodup_cons.mpr ⟨q4, hnd.2.1⟩
          · rcases List.mem_append.mp hb with z | z
            · rw [List.mem_singleton.mp z]; exact fun e => q3 (e ▸ ha)
            · exact hnd.2.2 a ha b z
  refine ev_ifq (c' := j = 1) (by rw [n_lit 1, n_eq (by omega) (by omega)]) (fun c1 => ?_) (fun c1 => ?_)
  · subst c1
    rw [g5.2.1, n_lit 8, n_add]
    refine ev_b (rf_newName h (p0 := 8 + s.2.2.1.length) (by
      rcases Nat.lt_or_ge s.2.2.1.length 4 with z | z
      · omega
      · exact absurd (Or.inr (Or.inl ⟨rfl, by omega⟩)) hF) (by omega) (fun i hi => by omega)) (fun s24 hs => ?_)
    unfold f_behind_J69 rdB_ pb_ oq_
    rw [if_neg (by omega), if_pos rfl]
    cases hx : rdNew_ T n s.2.1 s.2.2.1 s.1 with
    | inl e =>
      rw [hx] at hs
      have q : rqe_ st0 e s24 := hs
      obtain ⟨_, _, _, _, _, a, c, e5, a8, e6, c4⟩ := id q
      refine ev_ifF (rqe_13 q) ?_
      rw [e6, n_lit 0, n_add]
      exact ev_some (rqe_5 q (Or.inr rfl) (Or.inl c4))
    | inr v =>
      rw [hx] at hs
      obtain ⟨q, q1, q2, q3, q4⟩ := hs
      refine ev_ifT q.2.2.1 ?_
      have q5 := q.2.2.2.2.1
      rw [q5.2.1, n_lit 1, n_add]
      have hl7 : s.2.2.1.length < 4 := by
        rcases Nat.lt_or_ge s.2.2.1.length 4 with z | z
        · exact z
        · exact absurd (Or.inr (Or.inl ⟨rfl, by omega⟩)) hF
      refine ev_some ?_
      obtain ⟨k1, k2, k3, k4, k5, k6, k7, k8⟩ := q
      have m : mt_ [6] [] s24 (m_sg s24 6 (n_ (s.2.2.1.length + 1))) := mt_sg (by simp) _ _
      refine ⟨mu_tr k1 (mu_m0 m (by decide)), rdp_mt k2 m (by simp) (by rw [sg_ne _ (by omega)]; exact k2.2.1) k2.2.2.1, by rw [sg_ne _ (by omega)]; exact k3, by rw [sg_ne _ (by omega)]; exact k4, ⟨by rw [sg_ne _ (by omega)]; exact k5.1, by rw [sg_at, List.length_append]; rfl, k5.2.2.1, fun i hi => ?_⟩, k6, by rw [sg_ne _ (by omega)]; exact k7, ?_⟩
      · show s24.2.2 3 (8 + i) = _
        by_cases e : i = s.2.2.1.length
        · subst e
          rw [List.getElem_append_right (by omega)]
          simp only [Nat.sub_self, List.getElem_cons_zero]
          exact q1
        · obtain ⟨h', e'⟩ := gA_app hi e
          rw [e']; exact k5.2.2.2 i h'
      · refine ⟨l8, by show (s.2.2.1 ++ [v.1]).length ≤ 4; rw [List.length_append]; simp; omega, ?_, g8.2.2.2.1, ?_, ?_⟩
        · exact ss_ok_mono sok (Nat.le_refl _) l8 (by show _ ≤ (s.2.2.1 ++ [v.1]).length; simp) (by show (s.2.2.1 ++ [v.1]).length ≤ 4; simp; omega)
        · intro w hw
          rcases List.mem_append.mp hw with z | z
          · exact g8.2.2.2.2.1 w z
          · rw [List.mem_singleton.mp z]; exact q2
        · show (s.2.1 ++ (s.2.2.1 ++ [v.1])).Nodup
          rw [← List.append_assoc]
          have hnd := g8.2.2.2.2.2
          rw [List.nodup_append]
          refine ⟨hnd, by simp, fun a ha b hb => ?_⟩
          rw [List.mem_singleton.mp hb]
          intro e
          rcases List.mem_append.mp ha with z | z
          · exact q3 (e ▸ z)
          · exact q4 (e ▸ z)
  refine ev_ifq (c' := j = 3) (by rw [n_lit 3, n_eq (by omega) (by omega)]) (fun c3 => ?_) (fun c3 => ?_)
  · subst c3
    refine ev_g (by decide) ?_
    rw [z_nat, g6.1, show n_ s.2.2.2.1.1.length - 1 = q_ ((s.2.2.2.1.1.length : Int) - 1) from by rw [n_q, q_1, q_sub], q_0]
    have h40 := sok.2.2.1
    refine ev_b2 (rf_numeral g2 g3 (lo := 0) (hi := (s.2.2.2.1.1.length : Int) - 1) ⟨by omega, by omega⟩ ⟨by omega, by omega⟩) (fun r13 s14 h14 => ?_)
    dsimp only at h14
    unfold f_behind_J121 f_behind_J141 f_behind_J169 rdB_ pb_ oq_
    rw [if_neg (by omega), if_neg (by omega), if_neg (by omega), if_pos rfl]
    cases hz : rdD_ T n 0 ((s.2.2.2.1.1.length : Int) - 1) s.1 with
    | inl e =>
      rw [hz] at h14
      have ee := rdD_er hz
      have q := rq_er h h14 (by omega) (by omega)
      exact ev_ifF (rqe_13 q) (ev_ifF (rqe_13 q) (ev_some q))
    | inr v =>
      rw [hz] at h14
      obtain ⟨⟨o1, o2, o3⟩, er⟩ := h14
      subst er
      have hv := rdD_in hz
      have q := rq_mt h o1 o2
      obtain ⟨t, ht, et⟩ : ∃ t : Nat, t < s.2.2.2.1.1.length ∧ v.1 = (t : Int) := ⟨v.1.toNat, by omega, by omega⟩
      have qV := q.2.2.2.2.2.1
      have qt := (qV.2.2.1 t ht).2.2.2.2
      dsimp only at qt ⊢
      rw [et, Int.toNat_natCast, ← n_q, List.getD_eq_getElem?_getD, List.getElem?_eq_getElem ht]
      simp only [Option.getD_some]
      refine ev_ifT q.2.2.1 ?_
      rw [n_lit 4]
      refine ev_bn (fun m => rf_tradeAt m (by omega) (by omega)) ?_
      rw [qt]
      by_cases hk : (s.2.2.2.1.1[t]).2.2.2.2 = true
      · simp only [if_pos hk]
        refine ev_ifT (by decide) ?_
        refine ev_bn (fun m => rf_fails m q.2.2.1 _ _) ?_
        rw [o3, n_lit 5]
        have qf := rq_fail (st' := st) q 5 v.2.1 (by omega) (by omega)
        exact ev_ifF (rqe_13 qf) (ev_some qf)
      · simp only [if_neg hk]
        have hk : (s.2.2.2.1.1[t]).2.2.2.2 = false := by simpa using hk
        refine ev_ifF (by decide) (ev_ifT q.2.2.1 ?_)
        rw [n_lit 2, n_lit 5, n_mul, n_add, n_add]
        refine ev_g (n_in (by omega) (by omega)) ?_
        rw [n_nat (by omega)]
        refine ev_some (rdq_set q (ms_sa (by simp) _ _ _) (by rw [sa_at]; exact rf_V_turn sok.2.2.1 qV ht hk) ⟨sok.1, sok.2.1, by rw [List.length_modify]; exact sok.2.2.1, fun x hx => ?_, sok.2.2.2.2⟩)
        obtain ⟨i, hi, e⟩ := List.getElem_of_mem hx
        rw [List.getElem_modify] at e
        rw [List.length_modify] at hi
        have := sok.2.2.2.1 _ (List.getElem_mem hi)
        rw [← e]
        split
        · exact this
        · exact this
  refine ev_ifq (c' := j = 5) (by rw [n_lit 5, n_eq (by omega) (by omega)]) (fun c5 => ?_) (fun c5 => ?_)
  · subst c5
    rw [show (0 : Int32) = q_ 0 from rfl, show (3 : Int32) = q_ 3 from rfl]
    refine ev_b2 (rf_numeral g2 g3 (lo := 0) (hi := 3) ⟨by omega, by omega⟩ ⟨by omega, by omega⟩) (fun r8 s9 h9 => ?_)
    dsimp only at h9
    refine ev_g (by decide) ?_
    rw [o_nat]
    unfold rdB_ pb_ oq_
    rw [if_neg (by omega), if_neg (by omega), if_neg (by omega), if_neg (by omega), if_neg (by omega)]
    cases hz : rdD_ T n 0 3 s.1 with
    | inl e =>
      rw [hz] at h9
      have ee := rdD_er hz
      exact ev_some (rqe_sa (rq_er h h9 (by omega) (by omega)) _ _)
    | inr v =>
      rw [hz] at h9
      obtain ⟨⟨o1, o2, o3⟩, er⟩ := h9
      subst er
      have hv := rdD_in hz
      have q := rq_mt h o1 o2
      have e1 : q_ v.1 = n_ v.1.toNat := by rw [n_q]; congr 1; omega
      rw [e1]
      have q2 := rdq_set q (ms_sa (st := s9) (k := 0) (ks := [0]) (by simp) 1 (n_ v.1.toNat)) (x := (s.2.2.2.1.1, s.2.2.2.1.2.1, v.1.toNat)) (by rw [sa_at]; exact rf_V_mode sok.2.2.1 q.2.2.2.2.2.1 _) ⟨sok.1, sok.2.1, sok.2.2.1, sok.2.2.2.1, sok.2.2.2.2.1, by dsimp only; omega⟩
      dsimp only at q2 ⊢
      rw [h5 rfl] at q2
      exact ev_some q2
  · have hj24 : j = 2 ∧ s.2.2.2.1.1.length < 40 ∨ j = 4 := by
      have h40 := sok.2.2.1
      rcases Nat.lt_or_ge s.2.2.2.1.1.length 40 with z | z
      · omega
      · by_cases e : j = 2
        · exact absurd (Or.inr (Or.inr ⟨e, by omega⟩)) hF
        · omega
    exact ev_b (rf_twoRead h hj24) (fun s6 h6 => ev_some h6)
theorem rf_isFull (m : Nat) {st0 st : MS} {T : Nat → Int32} {n : Nat} {s : RD_} (h : rdq_ st0 T n s st) {j : Nat} (hj : j < 6) : f_isFull m st (n_ j) = some (b_ (rdF_ j s = true)) := by
  have g5 := h.2.2.2.2.1
  have g6 := h.2.2.2.2.2.1
  have l8 := h.2.2.2.2.2.2.2.1
  have l4 := h.2.2.2.2.2.2.2.2.1
  have h40 := h.2.2.2.2.2.2.2.2.2.1.2.2.1
  have key : rdF_ j s = true ↔ (j = 0 ∧ s.2.1.length = 8 ∨ j = 1 ∧ s.2.2.1.length = 4 ∨ j = 2 ∧ s.2.2.2.1.1.length = 40) := by unfold rdF_; exact decide_eq_true_iff
  unfold f_isFull f_isFull_J13 f_isFull_J26 f_isFull_J42 f_isFull_J46 f_isFull_J47
  rw [show m_01 1 = true from by decide, show m_01 0 = true from by decide, show m_in 0 266 = true from by decide, z_nat, g5.1, g5.2.1, g6.1]
  simp (disch := omega) only [n_lit, n_eq, m_gT]
  by_cases c0 : j = 0
  · rw [ef_T c0, ef_F (show ¬ j = 1 by omega), ef_F (show ¬ j = 2 by omega)]
    by_cases c : s.2.1.length = 8
    · rw [ef_T c, b_T (key.mpr (Or.inl ⟨c0, c⟩)), n_lit 1]
    · rw [ef_F c, b_F (fun z => by have := key.mp z; omega), n_lit 0]
  · rw [ef_F c0]
    by_cases c1 : j = 1
    · rw [ef_T c1, ef_F (show ¬ j = 2 by omega)]
      by_cases c : s.2.2.1.length = 4
      · rw [ef_T c, b_T (key.mpr (Or.inr (Or.inl ⟨c1, c⟩))), n_lit 1]
      · rw [ef_F c, b_F (fun z => by have := key.mp z; omega), n_lit 0]
    · rw [ef_F c1]
      by_cases c2 : j = 2
      · rw [ef_T c2]
        by_cases c : s.2.2.2.1.1.length = 40
        · rw [ef_T c, b_T (key.mpr (Or.inr (Or.inr ⟨c2, c⟩))), n_lit 1]
        · rw [ef_F c, b_F (fun z => by have := key.mp z; omega), n_lit 0]
      · rw [ef_F c2, b_F (fun z => by have := key.mp z; omega), n_lit 0]
