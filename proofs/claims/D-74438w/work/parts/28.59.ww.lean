set_option maxRecDepth 100000
/-! The Reader: names, which of the names -/
theorem cst_tr {c c' : UC} {i i' i'' k1 k2 l1 l2 : Nat} (h : cst_ c i i' k1 k2) (g : cst_ c' i' i'' l1 l2) (h1 : i ≤ i') (h2 : i' ≤ i'') : cst_ (u_add c c') i i'' (k1 + l1) (k2 + l2) := by
  unfold cst_ at *
  refine ⟨?_, ?_⟩
  · show c.1 + c'.1 ≤ _; omega
  · show c.2 + c'.2 ≤ _; omega
theorem cst_up {c : UC} {i i' i'' k1 k2 l1 l2 : Nat} (h : cst_ c i i' k1 k2) (h2 : i' ≤ i'') (h3 : k1 ≤ l1) (h4 : k2 ≤ l2) : cst_ c i i'' l1 l2 := by
  unfold cst_ at *; omega
theorem cst_dn {c : UC} {i0 i i' k1 k2 : Nat} (h : cst_ c i i' k1 k2) (h2 : i0 ≤ i) : cst_ c i0 i' k1 k2 := by
  unfold cst_ at *; omega
theorem cst_a0 {c : UC} {i i' k1 k2 : Nat} (h : cst_ c i i' k1 k2) : cst_ (u_add c (0, 0)) i i' k1 k2 := h
theorem rdW_n {T : Nat → Int32} {n i : Nat} (hi : i ≤ n) {v : List Nat × Nat × Nat} (h : rdW_ T n i = .inr v) : v.2.2 ≤ n ∧ nm_ok v.1 ∧ v.1.length = v.2.2 - v.2.1 ∧ i ≤ v.2.1 ∧ v.2.1 < v.2.2 := by
  have s1 := sk_le (T := T) hi
  have l1 := le_at (T := T) s1.2
  unfold rdW_ at h
  split at h
  · rename_i c
    cases h
    dsimp only
    refine ⟨l1.2.1, ⟨by rw [wd_len]; exact c.1, by rw [wd_len]; exact c.2, fun x hx => ?_⟩, wd_len _ _ _, s1.1, by omega⟩
    unfold wd_ at hx
    obtain ⟨j, hj, rfl⟩ := List.mem_map.mp hx
    have := List.mem_range.mp hj
    have hl := l1.2.2.1 (sk_ T n i + j) (by omega) (by omega)
    unfold isL_ at hl
    have hl := of_decide_eq_true hl
    omega
  · cases h
theorem rdN_W {T : Nat → Int32} {n i : Nat} {v : List Nat × Nat × Nat} (h : rdN_ T n i = .inr v) : rdW_ T n i = .inr v ∧ kwi_ v.1 = 6 := by
  unfold rdN_ pb_ at h
  cases hw : rdW_ T n i with
  | inl e => rw [hw] at h; cases h
  | inr r =>
    rw [hw] at h
    dsimp only at h
    split at h
    · cases h
    · rename_i c
      cases h
      rcases kwi_sp v.1 with ⟨c1, _⟩ | ⟨c1, _⟩
      · exact absurd c1 c
      · exact ⟨rfl, c1⟩
section
variable {d : UD} {b : Nat} {o0 : Nat → Nat} {u0 : UM} {sN t a aS : Nat} {T : Nat → Int32} {n : Nat} {o : Nat → Nat} {u : UM} {i bg : Nat} {hm : Bool} {wv : Value} {ps ks : List (List Nat)} {x : SS_}
/-- what a name leaves -/
def rN_ (d : UD) (b : Nat) (o0 : Nat → Nat) (u0 : UM) (sN t a aS : Nat) (T : Nat → Int32) (n : Nat) (o : Nat → Nat) (u : UM) (i : Nat) (hm : Bool) (ps ks : List (List Nat)) (x : SS_) (w : List Nat) (bg' e' : Nat) (u' : UM) (c : UC) : Prop := cst_ c i e' 0 0 ∧ i ≤ bg' ∧ bg' < e' ∧ e' ≤ n ∧ ∃ o' p, u.2 ≤ p ∧ ygt_ b KV_ o u o' u' ∧ stt_ d o' u' p w ∧ yD_ d b o0 u0 sN t a aS T n o' u' e' bg' hm (.ref p) ps ks x
theorem ur_name (h00 : uw_ b u0) (hs : cS_ d b) (h : yD_ d b o0 u0 sN t a aS T n o u i bg hm wv ps ks x) : Ev_ (fun m => uf_X4_name m d u a) (fun r => r.1.2.2 = u.2 + r.2.1 ∧ match rdN_ T n i with
    | .inl e => rE_ b o0 u0 sN i n 5 100 e r
    | .inr v => r.1.1 = .inl () ∧ rN_ d b o0 u0 sN t a aS T n o u i hm ps ks x v.1 v.2.1 v.2.2 r.1.2 r.2) := by
  have hin := h.2.2.2.2.2.1
  have h0 := h.1.1
  unfold uf_X4_name
  refine ev_b1 (yD_cl h) ?_
  refine ev_bx (P := fun r u' c => u'.2 = u.2 + c.1 ∧ match rdW_ T n i with
    | .inl e => rE_ b o0 u0 sN i n 5 100 e ((r, u'), c)
    | .inr v => r = .inl () ∧ cst_ c i v.2.2 0 0 ∧ i ≤ v.2.1 ∧ v.2.1 < v.2.2 ∧ ∃ o' p, u.2 ≤ p ∧ ygt_ b KV_ o u o' u' ∧ st_ d o' u' p v.1 ∧ yD_ d b o0 u0 sN t a aS T n o' u' v.2.2 v.2.1 hm (.ref p) ps ks x) (ur_word h00 h) (fun r u' c hp => hp.1) (fun r u5 c hp => ?_) (fun q u5 c hp => ?_)
  · obtain ⟨z5, hp⟩ := hp
    unfold rdN_ pb_
    cases hw : rdW_ T n i with
    | inl e =>
      rw [hw] at hp
      obtain ⟨q, hq, _⟩ := hp
      cases hq
    | inr v =>
      rw [hw] at hp
      dsimp only at hp ⊢
      obtain ⟨_, cs, i1, i2, o5, p, pu, g5, s5, D5⟩ := hp
      have hv := rdW_n hin hw
      have f5 : u_fr d u5 4 5 a = some p := fr_e D5.2.1 rfl
      refine ev_b1 f5 ?_
      refine ev_bc (P := fun r u' c => r = b_ (kwi_ v.1 < 6) ∧ c = (0, 0) ∧ u'.2 = u5.2 ∧ ygt_ b (K1_ 35) o5 u5 o5 u' ∧ stt_ d o5 u' p v.1) (uq_isOwn g5.1 hs s5) (fun r u' c hp => by rw [hp.2.1]; exact hp.2.2.1) (fun r u19 c2 hp => ?_)
      obtain ⟨rfl, rfl, z19, g19, s19⟩ := hp
      have D19 := yD_keep h00 D5 g19 (fun z hz => by cases hz; exact ⟨⟨by omega, by omega⟩, by omega⟩)
      by_cases ck : kwi_ v.1 < 6
      · rw [b_T ck]
        simp only [if_pos ck]
        refine ev_ifF (by decide) (ur_throw h00 D19 (k := 1) (n_lit 1) (fun q u' z' E' => ⟨?_, q, rfl, ⟨?_, ?_⟩, E'⟩))
        · show u'.2 = u.2 + (c.1 + (0 + 1)); omega
        · show c.1 + (0 + 1) ≤ 4 * (n - i) + 5; unfold cst_ at cs; omega
        · show c.2 + (0 + 8) ≤ 40 * (n - i) + 100; unfold cst_ at cs; omega
      · rw [b_F ck]
        simp only [if_neg ck]
        refine ev_ifT trivial (ev_some ⟨?_, rfl, cs, i1, i2, hv.1, o5, p, pu, ygt_tr h0 g5 (ygt_sub g19 (KV_1 (by omega))), s19, D19⟩)
        show u19.2 = u.2 + (c.1 + (0 + 0)); omega
  · obtain ⟨z5, hp⟩ := hp
    unfold rdN_ pb_
    cases hw : rdW_ T n i with
    | inl e =>
      rw [hw] at hp
      dsimp only at hp ⊢
      obtain ⟨q', hq, cs, E⟩ := hp
      cases hq
      exact ev_some ⟨by show u5.2 = u.2 + (c.1 + 0); omega, q, rfl, cs, E⟩
    | inr v =>
      rw [hw] at hp
      obtain ⟨hq, _⟩ := hp
      cases hq
theorem KV_n {tl : Nat} (h : 160 ≤ tl) : ¬ KV_ tl := fun z => by unfold KV_ at z; omega
/-- which of some names: the list lies -/
theorem ur_named (h00 : uw_ b u0) (hs : cS_ d b) (h : yD_ d b o0 u0 sN t a aS T n o u i bg hm wv ps ks x) {p0 tl ta : Nat} {l : List Nat} {ws : List (List Nat)} (hl : al_ d o u p0 tl ta l) (h2 : al2_ (sg_ d o u) l ws) (hw : ∀ x ∈ ws, nm_ok x) (ht : 160 ≤ tl ∧ 160 ≤ ta) (h100 : ws.length ≤ 100) : Ev_ (fun m => uf_X4_named m d u a p0) (fun r => r.1.2.2 = u.2 + r.2.1 ∧ match rdI_ T n ws i with
    | .inl e => rE_ b o0 u0 sN i n 5 100 e r
    | .inr v => r.1.1 = .inl (n_ v.1) ∧ ∃ w, rN_ d b o0 u0 sN t a aS T n o u i hm ps ks x w v.2.1 v.2.2 r.1.2 r.2) := by
  have h0 := h.1.1
  unfold uf_X4_named
  refine ev_b1 (yD_cl h) ?_
  refine ev_bx (P := fun r u' c => u'.2 = u.2 + c.1 ∧ match rdN_ T n i with
    | .inl e => rE_ b o0 u0 sN i n 5 100 e ((r, u'), c)
    | .inr v => r = .inl () ∧ rN_ d b o0 u0 sN t a aS T n o u i hm ps ks x v.1 v.2.1 v.2.2 u' c) (ur_name h00 hs h) (fun r u' c hp => hp.1) (fun r u5 c hp => ?_) (fun q u5 c hp => ?_)
  · obtain ⟨z5, hp⟩ := hp
    unfold rdI_ pb_
    cases hn : rdN_ T n i with
    | inl e =>
      rw [hn] at hp
      obtain ⟨q, hq, _⟩ := hp
      cases hq
    | inr v =>
      rw [hn] at hp
      dsimp only at hp ⊢
      obtain ⟨_, hN⟩ := hp
      obtain ⟨cs, i1, i2, i3, o5, p, pu, g5, s5, D5⟩ := id hN
      have f5 : u_fr d u5 4 5 a = some p := fr_e D5.2.1 rfl
      have hl5 := al_keep h0 g5 hl (KV_n ht.1) (KV_n ht.2)
      have h25 : al2_ (sg_ d o5 u5) l ws := al2_mono h2 (fun _ _ _ q => sg_keep h0 g5 q (fun z => by unfold KV_ at z; omega))
      obtain ⟨fs5, hcl5⟩ := al_cl hl5
      refine ev_b1 f5 (ev_b1 hcl5 (ev_b (ul_indexOf g5.1 hl5 h25 hw s5 (by rw [h2.1]; exact h100)) (fun r20 hr => ?_)))
      subst hr
      by_cases c' : ix_ ws v.1 < ws.length
      · simp only [if_pos c']
        refine ev_ifT (by rw [n_lit 0, n_le (by omega) (by omega)]; omega) (ev_some ⟨?_, rfl, v.1, hN⟩)
        show u5.2 = u.2 + (c.1 + 0); omega
      · simp only [if_neg c']
        refine ev_ifF (by decide) (ur_throw h00 D5 (k := 3) (n_lit 3) (fun q u' z' E' => ⟨?_, q, rfl, ⟨?_, ?_⟩, E'⟩))
        · show u'.2 = u.2 + (c.1 + 1); omega
        · show c.1 + 1 ≤ 4 * (n - i) + 5; unfold cst_ at cs; omega
        · show c.2 + 8 ≤ 40 * (n - i) + 100; unfold cst_ at cs; omega
  · obtain ⟨z5, hp⟩ := hp
    unfold rdI_ pb_
    cases hn : rdN_ T n i with
    | inl e =>
      rw [hn] at hp
      dsimp only at hp ⊢
      obtain ⟨q', hq, cs, E⟩ := hp
      cases hq
      exact ev_some ⟨by show u5.2 = u.2 + (c.1 + 0); omega, q, rfl, cs, E⟩
    | inr v =>
      rw [hn] at hp
      obtain ⟨hq, _⟩ := hp
      cases hq
/-- the lists of what is made -/
theorem yD_P (h : yD_ d b o0 u0 sN t a aS T n o u i bg hm wv ps ks x) : ∃ aP aK aT aC lP lK lT f, u_fr d u 4 1 a = some aS ∧ u_nr u 2 0 aS = some aP ∧ u_nr u 2 1 aS = some aK ∧ u_nr u 2 2 aS = some aT ∧ u_nr u 2 3 aS = some aC ∧ al_ d o u aP (16 * sN + 1) (16 * sN + 4) lP ∧ al_ d o u aK (16 * sN + 2) (16 * sN + 5) lK ∧ al_ d o u aT (16 * sN + 3) (16 * sN + 6) lT ∧ iA_ d u aC 64 f ∧ o aC = 16 * sN + 7 ∧ (∀ k, k < 64 → f k = q_ (x.2.1 k)) ∧ al2_ (sg_ d o u) lP ps ∧ al2_ (sg_ d o u) lK ks ∧ al2_ (td_ o u) lT x.1 := by
  obtain ⟨aP, aK, aT, aC, lP, lK, lT, f, e1, e2, e3, e4, e5, e6, e7, e8, e9, e10, e11⟩ := h.2.2.2.1
  exact ⟨aP, aK, aT, aC, lP, lK, lT, f, fr_e h.2.1 rfl, nr_e e1 rfl, nr_e e1 rfl, nr_e e1 rfl, nr_e e1 rfl, e3, e4, e5, e6, e7, e8, e9, e10, e11⟩
theorem ur_other (h00 : uw_ b u0) (hs : cS_ d b) (h : yD_ d b o0 u0 sN t a aS T n o u i bg hm wv ps ks x) (hw : ∀ x ∈ ps, nm_ok x) (h8 : ps.length ≤ 8) {pa : Nat} (hpa : pa < 8) : Ev_ (fun m => uf_X4_other m d u a (n_ pa)) (fun r => r.1.2.2 = u.2 + r.2.1 ∧ match rdO_ T n ps pa i with
    | .inl e => rE_ b o0 u0 sN i n 5 100 e r
    | .inr v => r.1.1 = .inl (n_ v.1) ∧ ∃ w, rN_ d b o0 u0 sN t a aS T n o u i hm ps ks x w v.2.1 v.2.2 r.1.2 r.2) := by
  have s10 := h.2.2.2.2.2.2
  obtain ⟨aP, aK, aT, aC, lP, lK, lT, f, k1, k2, k3, k4, k5, k6, k7, k8, k9, k10, k11, k12, k13, k14⟩ := yD_P h
  unfold uf_X4_other
  refine ev_b1 k1 (ev_b1 k2 (ev_b1 (yD_cl h) ?_))
  refine ev_bx (P := fun r u' c => u'.2 = u.2 + c.1 ∧ match rdI_ T n ps i with
    | .inl e => rE_ b o0 u0 sN i n 5 100 e ((r, u'), c)
    | .inr v => r = .inl (n_ v.1) ∧ ∃ w, rN_ d b o0 u0 sN t a aS T n o u i hm ps ks x w v.2.1 v.2.2 u' c) (ur_named h00 hs h k6 k12 hw (by omega) (by omega)) (fun r u' c hp => hp.1) (fun r u9 c hp => ?_) (fun q u9 c hp => ?_)
  · obtain ⟨z5, hp⟩ := hp
    unfold rdO_ pb_
    cases hn : rdI_ T n ps i with
    | inl e =>
      rw [hn] at hp
      obtain ⟨q, hq, _⟩ := hp
      cases hq
    | inr v =>
      rw [hn] at hp
      dsimp only at hp ⊢
      obtain ⟨hr, w, hN⟩ := hp
      have hr' : r = n_ v.1 := Sum.inl.inj hr
      subst hr'
      have hlt := rdI_lt hn
      obtain ⟨cs, i1, i2, i3, o5, p, pu, g5, s5, D5⟩ := id hN
      refine ev_ifq (c' := v.1 = pa) (by rw [n_eq (by omega) (by omega)]) (fun c' => ?_) (fun c' => ?_)
      · simp only [if_pos c']
        refine ur_throw h00 D5 (k := 5) (n_lit 5) (fun q u' z' E' => ⟨?_, q, rfl, ⟨?_, ?_⟩, E'⟩)
        · show u'.2 = u.2 + (c.1 + 1); omega
        · show c.1 + 1 ≤ 4 * (n - i) + 5; unfold cst_ at cs; omega
        · show c.2 + 8 ≤ 40 * (n - i) + 100; unfold cst_ at cs; omega
      · simp only [if_neg c']
        exact ev_some ⟨by show u9.2 = u.2 + (c.1 + 0); omega, rfl, w, hN⟩
  · obtain ⟨z5, hp⟩ := hp
    unfold rdO_ pb_
    cases hn : rdI_ T n ps i with
    | inl e =>
      rw [hn] at hp
      dsimp only at hp ⊢
      obtain ⟨q', hq, cs, E⟩ := hp
      cases hq
      exact ev_some ⟨by show u9.2 = u.2 + (c.1 + 0); omega, q, rfl, cs, E⟩
    | inr v =>
      rw [hn] at hp
      obtain ⟨hq, _⟩ := hp
      cases hq
end
