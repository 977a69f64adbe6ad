set_option maxRecDepth 100000
/-! The Reader: what is wrong; numbers; words -/
/-- what was thrown -/
def wr_ (u : UM) (q : Nat) (e : Nat × Nat) : Prop := ∃ fs, ob_ u q 5 fs ∧ fs[6]? = some (.int (n_ e.1)) ∧ fs[7]? = some (.int (n_ e.2))
theorem ev_bx {α β : Type} {z : Nat} {F : Nat → Option (((α ⊕ Nat) × UM) × UC)} {G : Nat → α → UM → Option (β × UC)} {H : Nat → Nat → UM → Option (β × UC)} {P : α ⊕ Nat → UM → UC → Prop} {Q : β × UC → Prop} (h : Ev_ F (fun r => P r.1.1 r.1.2 r.2)) (hz : ∀ a u c, P a u c → u.2 = z + c.1) (g : ∀ a u c, P (.inl a) u c → Ev_ (fun n => G n a u) (fun r => Q (r.1, u_add c r.2))) (g2 : ∀ q u c, P (.inr q) u c → Ev_ (fun n => H n q u) (fun r => Q (r.1, u_add c r.2))) : Ev_ (fun n => u_bx z (F n) (G n) (H n)) Q := by
  obtain ⟨N, ⟨⟨a, u⟩, c⟩, h1, h2⟩ := h
  cases a with
  | inl a =>
    obtain ⟨M, ⟨y, e⟩, h3, h4⟩ := g a u c h1
    refine ⟨max N M, (y, u_add c e), h3, fun n hn => ?_⟩
    show u_bx z (F n) (G n) (H n) = _
    rw [h2 n (by omega)]
    show m_g (decide (u.2 = z + c.1)) (u_ac c (G n a u)) = _
    rw [decide_eq_true (hz _ u c h1), m_gT, show G n a u = _ from h4 n (by omega)]
    rfl
  | inr q =>
    obtain ⟨M, ⟨y, e⟩, h3, h4⟩ := g2 q u c h1
    refine ⟨max N M, (y, u_add c e), h3, fun n hn => ?_⟩
    show u_bx z (F n) (G n) (H n) = _
    rw [h2 n (by omega)]
    show m_g (decide (u.2 = z + c.1)) (u_ac c (H n q u)) = _
    rw [decide_eq_true (hz _ u c h1), m_gT, show H n q u = _ from h4 n (by omega)]
    rfl
section
variable {d : UD} {b : Nat} {o0 : Nat → Nat} {u0 : UM} {sN t a aS : Nat} {T : Nat → Int32} {n : Nat} {o : Nat → Nat} {u : UM} {i bg : Nat} {hm : Bool} {wv : Value} {ps ks : List (List Nat)} {x : SS_}
/-- an end by what is wrong: all told -/
def yE0_ (b : Nat) (o0 : Nat → Nat) (u0 : UM) (sN : Nat) (e : Nat × Nat) (q : Nat) (u : UM) : Prop := (∃ o, ygt_ b (KD_ sN) o0 u0 o u) ∧ wr_ u q e
theorem ur_wrong (h00 : uw_ b u0) (h : yD_ d b o0 u0 sN t a aS T n o u i bg hm wv ps ks x) (k : Nat) : Ev_ (fun m => uf_X4_wrong m d u a (n_ k)) (fun r => r.2 = (1, 8) ∧ r.1.2.2 = u.2 + 1 ∧ yE0_ b o0 u0 sN (k, bg) r.1.1 r.1.2) := by
  have h0 := h.1.1
  unfold uf_X4_wrong uf_X5_init uf_J13_init uf_J12_init_2 uf_J12_init_2_J41 uf_J12_init_2_J60
  refine ev_ac (ev_nw h0 (fun u2 c2 => ?_))
  have g2 := ygt_nw (K := KD_ sN) (o := o) h0 c2 38
  have D2 := yD_keep h00 h (ygt_nw (K := K0_) (o := o) h0 c2 38) (fun _ z => z.elim)
  refine ev_b1 (yD_bg D2) ?_
  refine ev_bc (P := fun (_ : Unit) u' c => c = (0, 0) ∧ u'.2 = u2.2 ∧ ∃ fs, ch_ u2 u' u.2 (.inr (5, fs)) ∧ fs[6]? = some (.int (n_ k)) ∧ fs[7]? = some (.int (n_ bg))) ?_ (fun _ u' c hp => by rw [hp.1]; exact hp.2.1) (fun _ u8 c hp => ?_)
  · refine ev_bc (P := fun (_ : Unit) u' c => c = (0, 0) ∧ u'.2 = u2.2 ∧ ∃ x0 x1 x2 x3, ch_ u2 u' u.2 (.inr (5, [x0, x1, x2, x3, .null, .int 0, .int 0, .int 0]))) ?_ (fun _ u' c hp => by rw [hp.1]; exact hp.2.1) (fun _ u3 c hp => ?_)
    · refine ev_bc (P := fun (_ : Unit) u' c => c = (0, 0) ∧ u'.2 = u2.2 ∧ ∃ x0 x1 x2 x3, ch_ u2 u' u.2 (.inr (5, [x0, x1, x2, x3, .null, .int 0, .int 0, .int 0]))) ?_ (fun _ u' c hp => by rw [hp.1]; exact hp.2.1) (fun _ u3 c hp => ev_some ⟨by rw [hp.1]; rfl, hp.2⟩)
      refine ev_pf c2.2.1 (by simp) (fun w1 c1 => ?_)
      refine ev_pf (u := (w1, u2.2)) c1.2.1 (by simp) (fun w3 c3 => ?_)
      refine ev_pf (u := (w3, u2.2)) c3.2.1 (by simp) (fun w5 c5 => ?_)
      refine ev_ifT rfl ?_
      refine ev_pf (u := (w5, u2.2)) c5.2.1 (by simp) (fun w8 c8 => ?_)
      refine ev_pf (u := (w8, u2.2)) c8.2.1 (by simp) (fun w10 c10 => ?_)
      refine ev_pf (u := (w10, u2.2)) c10.2.1 (by simp) (fun w12 c12 => ?_)
      refine ev_ifT rfl ?_
      refine ev_pf (u := (w12, u2.2)) c12.2.1 (by simp) (fun w15 c15 => ?_)
      refine ev_some ⟨rfl, rfl, _, _, _, _, rfl, c15.2.1, fun y hy => ?_⟩
      exact (c15.2.2 y hy).trans ((c12.2.2 y hy).trans ((c10.2.2 y hy).trans ((c8.2.2 y hy).trans ((c5.2.2 y hy).trans ((c3.2.2 y hy).trans (c1.2.2 y hy))))))
    · obtain ⟨rfl, z3, x0, x1, x2, x3, c3⟩ := hp
      refine ev_pf c3.2.1 (by simp) (fun w7 c7 => ?_)
      refine ev_pf (u := (w7, u3.2)) c7.2.1 (by simp) (fun w9 c9 => ?_)
      refine ev_some ⟨rfl, z3, _, ⟨z3, c9.2.1, fun y hy => (c9.2.2 y hy).trans ((c7.2.2 y hy).trans (c3.2.2 y hy))⟩, rfl, rfl⟩
  · obtain ⟨rfl, z8, fs, c8, f6, f7⟩ := hp
    refine ev_some ⟨rfl, by show u8.2 = u.2 + 1; rw [z8, c2.1], ⟨_, ygt_tr h00 h.1 (ygt_chn h0 g2 (Nat.le_refl _) c2.2.1 c8 (kd1_o _ _ _))⟩, fs, c8.2.1, f6, f7⟩
theorem wr_cl {u : UM} {q : Nat} {e : Nat × Nat} (h : wr_ u q e) : ∃ fs, u_cl u 5 q = some fs := by
  obtain ⟨fs, e1, _⟩ := h
  exact ⟨fs, cl_e e1⟩
/-- something is wrong: it is thrown -/
theorem ur_throw (h00 : uw_ b u0) (h : yD_ d b o0 u0 sN t a aS T n o u i bg hm wv ps ks x) {k : Nat} {v : Int32} (hv : v = n_ k) {α : Type} {Q : ((α ⊕ Nat) × UM) × UC → Prop} (hQ : ∀ q u', u'.2 = u.2 + 1 → yE0_ b o0 u0 sN (k, bg) q u' → Q ((.inr q, u'), (1, 8))) : Ev_ (fun m => m_b (u_cl u 4 a) (fun _ => u_bc u.2 (uf_X4_wrong m d u a v) (fun r13 u14 => m_b (u_cl u14 5 r13) (fun _ => some (((.inr r13 : α ⊕ Nat), u14), ((0, 0) : UC)))))) Q := by
  subst hv
  refine ev_b1 (yD_cl h) ?_
  refine ev_bc (P := fun r u' c => c = (1, 8) ∧ u'.2 = u.2 + 1 ∧ yE0_ b o0 u0 sN (k, bg) r u') (ur_wrong h00 h k) (fun r u' c hp => by rw [hp.1]; exact hp.2.1) (fun r u' c hp => ?_)
  obtain ⟨rfl, z1, E1⟩ := hp
  obtain ⟨fs, hcl⟩ := wr_cl E1.2
  exact ev_b1 hcl (ev_some (hQ r u' z1 E1))
theorem ur_number (h00 : uw_ b u0) (h : yD_ d b o0 u0 sN t a aS T n o u i bg hm wv ps ks x) (hT : tb_ T n) {lo hi : Int} (hlo : qf_ lo) (hhi : qf_ hi) : Ev_ (fun m => uf_X4_number m d u a (q_ lo) (q_ hi)) (fun r => r.1.2.2 = u.2 + r.2.1 ∧ match rdD_ T n lo hi i with
    | .inl e => ∃ q, r.1.1 = .inr q ∧ r.2 = (1, 8) ∧ yE0_ b o0 u0 sN e q r.1.2
    | .inr v => r.1.1 = .inl (q_ v.1) ∧ r.2 = (0, 0) ∧ ygt_ b (K1_ 37) o u o r.1.2 ∧ yD_ d b o0 u0 sN t a aS T n o r.1.2 v.2.2 v.2.1 hm wv ps ks x) := by
  have hn9 : n ≤ 900 := by obtain ⟨_, _, _, _, _, _, _, _, _, q⟩ := h.2.2.2.2.1; exact q
  have hin := h.2.2.2.2.2.1
  have sk1 := sk_le (T := T) hin
  have dat := de_at (T := T) sk1.2
  unfold uf_X4_number
  refine ev_b1 (yD_cl h) ?_
  refine ev_bc (P := fun r u' c => c = (0, 0) ∧ u'.2 = u.2 ∧ r = b_ (sk_ T n i = n) ∧ ygt_ b (K1_ 37) o u o u' ∧ yD_ d b o0 u0 sN t a aS T n o u' (sk_ T n i) (sk_ T n i) hm wv ps ks x) (ur_isEnd h00 h) (fun r u' c hp => by rw [hp.1]; exact hp.2.1) (fun r u5 c hp => ?_)
  obtain ⟨rfl, z5, rfl, g5, D5⟩ := hp
  generalize hb : sk_ T n i = bb at *
  unfold rdD_
  rw [hb]
  have hd48 : ∀ y, isD_ (T y) = true ↔ ((48 : Int32).toInt ≤ (T y).toInt ∧ (T y).toInt ≤ (57 : Int32).toInt) := fun y => by
    unfold isD_; exact ⟨fun z => of_decide_eq_true z, fun z => decide_eq_true z⟩
  have bad : (de_ T n bb = bb) → Ev_ (fun m => uf_X4_number_J18 m d u5 a) (fun r => r.1.2.2 = u.2 + (u_add (0, 0) r.2).1 ∧ ∃ q, r.1.1 = .inr q ∧ u_add (0, 0) r.2 = (1, 8) ∧ yE0_ b o0 u0 sN (1, bb) q r.1.2) := fun _ => by
    unfold uf_X4_number_J18
    exact ur_throw h00 D5 (k := 1) (n_lit 1) (fun q u' z' E' => ⟨by show u'.2 = u.2 + 1; omega, q, rfl, rfl, E'⟩)
  by_cases c1 : bb = n
  · have cd : de_ T n bb = bb := by omega
    simp only [if_pos cd]
    rw [b_T c1]
    exact ev_ifF (by decide) (bad cd)
  · rw [b_F c1]
    refine ev_ifT rfl (ev_b1 (yD_cl D5) (ev_bn (fun m => ur_isAt m D5 48 57) ?_))
    by_cases c2 : isD_ (T bb) = true
    · rw [b_T ⟨by omega, (hd48 bb).mp c2⟩]
      refine ev_ifF (by decide) ?_
      have cd : ¬ de_ T n bb = bb := fun z => by
        have := dat.2.2.2 (by omega)
        rw [z, c2] at this; exact absurd this (by decide)
      simp only [if_neg cd]
      generalize he : de_ T n bb = ee at *
      refine ev_bl (P := fun y c => c = (0, 0) ∧ y.1 = q_ (nv_ T bb (min 8 (ee - bb))) ∧ y.2.2 = u5.2 ∧ ygt_ b (K1_ 37) o u5 o y.2 ∧ yD_ d b o0 u0 sN t a aS T n o y.2 ee bb hm wv ps ks x) ?_ (fun y c hp => ?_)
      · unfold uf_X4_number_L26l
        refine ev_uf (Q := fun (y : Int32 × UM) => y.1 = q_ (nv_ T bb (min 8 (ee - bb))) ∧ y.2.2 = u5.2 ∧ ygt_ b (K1_ 37) o u5 o y.2 ∧ yD_ d b o0 u0 sN t a aS T n o y.2 ee bb hm wv ps ks x) (ee - bb) (fun (j : Nat) (y : Int32 × UM) => y.1 = q_ (nv_ T bb (min 8 j)) ∧ y.2.2 = u5.2 ∧ ygt_ b (K1_ 37) o u5 o y.2 ∧ yD_ d b o0 u0 sN t a aS T n o y.2 (bb + j) bb hm wv ps ks x) (fun j y hj hP => ?_) (fun y hP => ?_) (0, u5) ⟨rfl, rfl, ygt_rfl D5.1.1, D5⟩
        · obtain ⟨v3, u6⟩ := y
          obtain ⟨e3, z6, g6, D6⟩ := hP
          dsimp only at e3 z6 g6 D6 ⊢
          subst e3
          have hdg : isD_ (T (bb + j)) = true := dat.2.2.1 (bb + j) (by omega) (by omega)
          unfold uf_X4_number_L26
          refine ev_b1 (yD_cl D6) (ev_bn (fun m => ur_isAt m D6 48 57) ?_)
          rw [b_T ⟨by omega, (hd48 (bb + j)).mp hdg⟩]
          refine ev_ifF (by decide) (ev_b1 (yD_at D6) (ev_b1 (yD_bg D6) ?_))
          rw [n_sub (by omega), show bb + j - bb = j by omega]
          have st : ∀ v : Int, v = nv_ T bb (min 8 (j + 1)) → Ev_ (fun m => uf_X4_number_J75 m d u6 a (q_ lo) (q_ hi) (q_ v)) (fun r => ∃ s', r = (.inl s', (0, 0)) ∧ s'.1 = q_ (nv_ T bb (min 8 (j + 1))) ∧ s'.2.2 = u5.2 ∧ ygt_ b (K1_ 37) o u5 o s'.2 ∧ yD_ d b o0 u0 sN t a aS T n o s'.2 (bb + (j + 1)) bb hm wv ps ks x) := fun v hv => by
            unfold uf_X4_number_J75
            refine ev_b1 (yD_at D6) ?_
            refine yD_pf h00 D6 (k := 2) (by omega) (i' := bb + (j + 1)) (bg' := bb) (hm' := hm) (wv' := wv) (by omega) (by rw [show n_ (bb + j) + 1 = n_ (bb + (j + 1)) from by rw [n_lit 1, n_add]; rfl]; rfl) (fun w D7 g7 => ?_)
            exact ev_some ⟨_, rfl, by rw [hv], z6, ygt_tr D5.1.1 g6 g7, D7⟩
          refine ev_ifq (c' := 8 ≤ j) (by rw [n_lit 8, n_le (by omega) (by omega)]) (fun c8 => ?_) (fun c8 => ?_)
          · exact st _ (by rw [show min 8 j = min 8 (j + 1) by omega])
          · obtain ⟨aT, p1, p2, p3⟩ := yD_tp D6 (by omega)
            refine ev_b1 p1 (ev_b1 p2 (ev_b1 (yD_at D6) (ev_b1 p3 ?_)))
            obtain ⟨tv, tv1, tv2⟩ := q_of (T (bb + j))
            rw [tv2, q_lit 10, q_lit 48, q_mul, q_add, q_sub]
            refine st _ ?_
            rw [show min 8 (j + 1) = j + 1 by omega, show min 8 j = j by omega]
            simp only [nv_]
            rw [tv2, q_toInt tv1]
            rfl
        · obtain ⟨v3, u6⟩ := y
          obtain ⟨e3, z6, g6, D6⟩ := hP
          dsimp only at e3 z6 g6 D6 ⊢
          subst e3
          rw [show bb + (ee - bb) = ee by omega] at D6
          unfold uf_X4_number_L26
          refine ev_b1 (yD_cl D6) (ev_bn (fun m => ur_isAt m D6 48 57) ?_)
          rw [b_F (fun z => by
            have := dat.2.2.2 z.1
            rw [(hd48 ee).mpr z.2] at this; exact absurd this (by decide))]
          exact ev_ifT rfl (ev_some ⟨_, rfl, rfl, z6, g6, D6⟩)
      · obtain ⟨v3, u6⟩ := y
        obtain ⟨rfl, e3, z6, g6, D6⟩ := hp
        dsimp only at e3 z6 g6 D6 ⊢
        subst e3
        have hnv := nv_le (T := T) (b := bb) (min 8 (ee - bb)) (fun j hj => dat.2.2.1 (bb + j) (by omega) (by omega))
        have hp8 : (10 : Int) ^ (min 8 (ee - bb)) ≤ 10 ^ 8 := by
          have : min 8 (ee - bb) ≤ 8 := by omega
          exact_mod_cast Nat.pow_le_pow_right (by omega : 0 < 10) this
        have bad2 : Ev_ (fun m => uf_X4_number_J115 m d u6 a) (fun r => r.1.2.2 = u.2 + (u_add (0, 0) (u_add (0, 0) r.2)).1 ∧ ∃ q, r.1.1 = .inr q ∧ u_add (0, 0) (u_add (0, 0) r.2) = (1, 8) ∧ yE0_ b o0 u0 sN (2, bb) q r.1.2) := by
          unfold uf_X4_number_J115
          exact ur_throw h00 D6 (k := 2) (n_lit 2) (fun q u' z' E' => ⟨by show u'.2 = u.2 + 1; omega, q, rfl, rfl, E'⟩)
        refine ev_b1 (yD_at D6) (ev_b1 (yD_bg D6) ?_)
        rw [n_sub (by omega)]
        generalize nv_ T bb (min 8 (ee - bb)) = vv at *
        have hvv : qf_ vv := ⟨by omega, by omega⟩
        refine ev_ifq (c' := 8 < ee - bb) (by rw [n_lit 8, n_lt (by omega) (by omega)]) (fun c8 => ?_) (fun c8 => ?_)
        · simp only [if_pos (show 8 < ee - bb ∨ ¬ (lo ≤ vv ∧ vv ≤ hi) from Or.inl c8)]
          exact bad2
        · refine ev_bn (fun m => uq_in m d u6 _ _ _) ?_
          rw [q_64 hvv, q_64 hlo, q_64 hhi]
          by_cases cr : lo ≤ vv ∧ vv ≤ hi
          · simp only [if_neg (show ¬ (8 < ee - bb ∨ ¬ (lo ≤ vv ∧ vv ≤ hi)) from fun z => z.elim c8 (fun z => z cr))]
            rw [b_T cr]
            exact ev_ifF (by decide) (ev_some ⟨by show u6.2 = u.2 + 0; omega, rfl, rfl, ygt_tr h.1.1 g5 g6, D6⟩)
          · simp only [if_pos (show 8 < ee - bb ∨ ¬ (lo ≤ vv ∧ vv ≤ hi) from Or.inr cr)]
            rw [b_F cr]
            exact ev_ifT rfl bad2
    · rw [b_F (fun z => c2 ((hd48 bb).mpr z.2))]
      have cd : de_ T n bb = bb := by
        apply Nat.le_antisymm _ dat.1
        apply Nat.le_of_not_lt
        intro z
        exact c2 (dat.2.2.1 bb (Nat.le_refl _) z)
      simp only [if_pos cd]
      exact ev_ifT trivial (bad cd)
end
