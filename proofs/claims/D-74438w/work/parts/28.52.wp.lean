set_option maxRecDepth 100000
/-! Texts as they lie: of the world, or constants -/
def rk_ (d : UD) (b : Nat) (o : Nat → Nat) (u : UM) (a : Nat) (x : va_E) : Prop := (u_get u.1 a = some x ∧ (o a = 14 ∨ o a = 35 ∨ o a = 36)) ∨ (a < b ∧ u_get (u_cs d) a = some x)
theorem rk_rd {d : UD} {b : Nat} {o : Nat → Nat} {u : UM} {a : Nat} {x : va_E} (h0 : uw_ b u) (h : rk_ d b o u a x) : u_rd d u a = some x := by
  rcases h with ⟨h, _⟩ | ⟨h1, h2⟩
  · exact rd_w h
  · rw [rd_c h0 h1]; exact h2
theorem rk_keep {d : UD} {b : Nat} {K : Nat → Prop} {o o' : Nat → Nat} {u u' : UM} (h0 : uw_ b u) (g : ygt_ b K o u o' u') {a : Nat} {x : va_E} (h : rk_ d b o u a x) (hk : ¬ K 14 ∧ ¬ K 35 ∧ ¬ K 36) : rk_ d b o' u' a x := by
  rcases h with ⟨h, ht⟩ | h
  · have hn : ¬ K (o a) := by
      rcases ht with t | t | t
      · rw [t]; exact hk.1
      · rw [t]; exact hk.2.1
      · rw [t]; exact hk.2.2
    obtain ⟨x1, x2⟩ := ygt_at h0 g h hn
    exact Or.inl ⟨x1, by rw [x2]; exact ht⟩
  · exact Or.inr h
/-- a text to be read -/
def sx_ (d : UD) (b : Nat) (o : Nat → Nat) (u : UM) (p : Nat) (w : List Nat) : Prop := ∃ (v : Nat) (h z : Int32) (f : Nat → Int32), rk_ d b o u p (.inr (15, [.ref v, .int 0, .int h, .int z])) ∧ rk_ d b o u v (.inl (d.1 2, w.length, .inl f)) ∧ (∀ i (hi : i < w.length), f i = n_ w[i]) ∧ (∀ c ∈ w, c < 128) ∧ w.length ≤ 10000
theorem sx_keep {d : UD} {b : Nat} {K : Nat → Prop} {o o' : Nat → Nat} {u u' : UM} (h0 : uw_ b u) (g : ygt_ b K o u o' u') {p : Nat} {w : List Nat} (h : sx_ d b o u p w) (hk : ¬ K 14 ∧ ¬ K 35 ∧ ¬ K 36) : sx_ d b o' u' p w := by
  obtain ⟨v, hh, z, f, e1, e2, e3⟩ := h
  exact ⟨v, hh, z, f, rk_keep h0 g e1 hk, rk_keep h0 g e2 hk, e3⟩
theorem sx_g {d : UD} {b : Nat} {o : Nat → Nat} {u : UM} {p : Nat} {w : List Nat} (h : sg_ d o u p w) (hw : nm_ok w) : sx_ d b o u p w := by
  obtain ⟨v, hh, z, f, e1, e2, e3, e4, e5⟩ := h
  exact ⟨v, hh, z, f, Or.inl ⟨e1, Or.inl e4⟩, Or.inl ⟨e2, Or.inl e5⟩, e3, fun c hc => by have := hw.2.2 c hc; omega, by have := hw.2.1; omega⟩
theorem rfi {d : UD} {u : UM} {a c k : Nat} {fs : List Value} {v : Int32} (h : u_rd d u a = some (.inr (c, fs))) (hk : fs[k]? = some (.int v)) : u_fi d u c k a = some v := by unfold u_fi; rw [h]; simp [hk]
theorem rfr {d : UD} {u : UM} {a c k : Nat} {fs : List Value} {v : Nat} (h : u_rd d u a = some (.inr (c, fs))) (hk : fs[k]? = some (.ref v)) : u_fr d u c k a = some v := by unfold u_fr u_fq; rw [h]; simp [hk, m_b]
theorem rtx {d : UD} {u : UM} {a : Nat} {fs : List Value} (h : u_rd d u a = some (.inr (15, fs))) : u_tx d u a = some fs := by unfold u_tx; rw [h]; simp
theorem rlnB {d : UD} {u : UM} {a n : Nat} {f : Nat → Int32} (h : u_rd d u a = some (.inl (d.1 2, n, .inl f))) : u_lnI d u 2 a = some (n_ n) := by unfold u_lnI; rw [h]; simp; exact (Int32.ofInt_eq_ofNat).symm
theorem raiB {d : UD} {u : UM} {a n : Nat} {f : Nat → Int32} (h : u_rd d u a = some (.inl (d.1 2, n, .inl f))) {i : Nat} (hi : i < n) (hn : n < 2147483648) : u_ai d u 2 a (n_ i) = some (f i) := by
  unfold u_ai; rw [h]
  show (if _ ∧ _ then _ else _) = _
  rw [if_pos ⟨rfl, n_in hi hn⟩, n_nat (by omega)]
section
variable {d : UD} {b : Nat} {o : Nat → Nat} {u : UM} {tb : Nat}
theorem sx_coder (n : Nat) {p : Nat} {fs : List Value} (h : u_rd d u p = some (.inr (15, fs))) (h1 : fs[1]? = some (.int 0)) : uf_J5_coder n d u p = some 0 := by
  unfold uf_J5_coder uf_J5_coder_J14
  rw [ef_F (by decide), rfi h h1, m_bs]; rfl
theorem sx_len (n : Nat) (h0 : uw_ b u) {p : Nat} {w : List Nat} (h : sx_ d b o u p w) : uf_J5_length n d u p = some (n_ w.length) := by
  obtain ⟨v, hh, z, f, e1, e2, _⟩ := h
  have r1 := rk_rd h0 e1
  have r2 := rk_rd h0 e2
  unfold uf_J5_length
  rw [rfr r1 rfl, m_bs, rlnB r2, m_bs, rtx r1, m_bs, sx_coder n r1 rfl, m_bs, sh0]
/-- a text more -/
theorem sbd_app2 (h0 : uw_ b u) {a : Nat} {w : List Nat} {cap : Nat} (h : sbd_ d o u tb a w cap) (hw : w.length ≤ 10000) (hc : cap ≤ 20000) {p : Nat} {w' : List Nat} (hp : sx_ d b o u p w') (ht : tb ≠ 14 ∧ tb ≠ 35 ∧ tb ≠ 36 ∧ tb + 1 ≠ 14 ∧ tb + 1 ≠ 35) : Ev_ (fun n => uf_J4_append_2 n d u a p) (fun r => r.1.1 = a ∧ ∃ o' cap', r.1.2.2 = u.2 + r.2.1 ∧ ygt_ b (Kb_ tb) o u o' r.1.2 ∧ sbd_ d o' r.1.2 tb a (w ++ w') cap' ∧ ((w.length + w'.length ≤ cap ∧ cap' = cap ∧ r.2 = (0, 0)) ∨ (cap < w.length + w'.length ∧ cap' = cap + max (w.length + w'.length - cap) (cap + 2) ∧ r.2 = (1, cap')))) := by
  have nk : ¬ Kb_ tb 14 ∧ ¬ Kb_ tb 35 ∧ ¬ Kb_ tb 36 := by unfold Kb_; omega
  have hwc : w.length ≤ cap := by obtain ⟨_, _, _, _, _, _, _, e5, _⟩ := h; exact e5
  have hf3 : u_fi d u 14 3 a = some (n_ w.length) := by obtain ⟨v, m, f, e1, _⟩ := h; exact fi_e e1 rfl
  have hw' : w'.length ≤ 10000 := by obtain ⟨_, _, _, _, _, _, _, _, q⟩ := hp; exact q
  obtain ⟨fs, hcl⟩ := sbd_cl h
  have htx : ∃ fs, u_tx d u p = some fs := by obtain ⟨v, hh, z, f, e1, _⟩ := hp; exact ⟨_, rtx (rk_rd h0 e1)⟩
  obtain ⟨fs2, htx⟩ := htx
  unfold uf_J4_append_2 uf_J3_append_2
  refine ev_b1 hcl ?_
  refine ev_bc (P := fun r u' cc => r = a ∧ ∃ o' cap', u'.2 = u.2 + cc.1 ∧ ygt_ b (Kb_ tb) o u o' u' ∧ sbd_ d o' u' tb a (w ++ w') cap' ∧ ((w.length + w'.length ≤ cap ∧ cap' = cap ∧ cc = (0, 0)) ∨ (cap < w.length + w'.length ∧ cap' = cap + max (w.length + w'.length - cap) (cap + 2) ∧ cc = (1, cap')))) ?_ (fun r u' cc hp => by obtain ⟨_, o', cap', q, _⟩ := hp; exact q) (fun r u' cc hp => ?_)
  · refine ev_b1 htx (ev_bn (fun n => sx_len n h0 hp) (ev_b1 hf3 (ev_b1 hcl ?_)))
    rw [n_add]
    refine ev_bc (P := fun (_ : Unit) u' cc => ∃ o' cap', u'.2 = u.2 + cc.1 ∧ ygt_ b (Kb_ tb) o u o' u' ∧ sbd_ d o' u' tb a w cap' ∧ w.length + w'.length ≤ cap' ∧ ((w.length + w'.length ≤ cap ∧ cap' = cap ∧ cc = (0, 0)) ∨ (cap < w.length + w'.length ∧ cap' = cap + max (w.length + w'.length - cap) (cap + 2) ∧ cc = (1, cap')))) (sbd_ensure h0 h (by omega) (by omega) hc) (fun r u' cc hp => by obtain ⟨o', cap', q, _⟩ := hp; exact q) (fun _ u11 cc hp' => ?_)
    obtain ⟨o7, cap7, z7, g7, h7, r7, hq⟩ := hp'
    have hp7 := sx_keep h0 g7 hp nk
    obtain ⟨v, m, f, e1, e2, e3, e4, e5, e6, e7, e8, e9⟩ := id h7
    obtain ⟨pv, hh, zz, pf, p1, p2, p3, p4, p5⟩ := hp7
    have r1 := rk_rd g7.1 p1
    have r2 := rk_rd g7.1 p2
    have f3 : u_fi d u11 14 3 a = some (n_ w.length) := fi_e e1 rfl
    have f1 : u_fi d u11 14 1 a = some 0 := fi_e e1 rfl
    refine ev_b1 f3 (ev_b1 (cl_e e1) ?_)
    have cpo : byt_ pf w'.length := fun i hi => by rw [p3 i hi]; exact byt_n (p4 _ (List.getElem_mem hi))
    refine ev_bc (P := fun (_ : Unit) u' cc => cc = (0, 0) ∧ u'.2 = u11.2 ∧ ch_ u11 u' v (.inl (d.1 2, cap7, .inl (va_cpy pf f 0 w.length w'.length)))) ?_ (fun r u' cc hp => by rw [hp.1]; exact hp.2.1) (fun _ u21 cc2 hp' => ?_)
    · unfold uf_J3_putStringAt
      refine ev_b1 (cl_e e1) ?_
      refine ev_bc (P := fun (_ : Unit) u' cc => cc = (0, 0) ∧ u' = u11) ?_ (fun r u' cc hp => by rw [hp.1, hp.2]; rfl) (fun _ u5 cc3 hp' => ?_)
      · unfold uf_J3_inflateIfNeededFor uf_J3_inflateIfNeededFor_J21
        refine ev_ifF (by decide) ?_
        refine ev_b1 f1 (ev_b1 (rtx r1) (ev_bn (fun n => sx_coder n r1 rfl) ?_))
        exact ev_ifT rfl (ev_some ⟨rfl, rfl⟩)
      · obtain ⟨rfl, rfl⟩ := hp'
        refine ev_b1 (fr_e e1 rfl) (ev_b1 f1 (ev_b1 (rtx r1) ?_))
        refine ev_bc (P := fun (_ : Unit) u' cc => cc = (0, 0) ∧ u'.2 = u5.2 ∧ ch_ u5 u' v (.inl (d.1 2, cap7, .inl (va_cpy pf f 0 w.length w'.length)))) ?_ (fun r u' cc hp => by rw [hp.1]; exact hp.2.1) (fun _ u' cc hp => ev_some ⟨by rw [hp.1]; rfl, hp.2⟩)
        unfold uf_J5_getBytes uf_J5_getBytes_J43
        refine ev_b1 (rtx r1) (ev_bn (fun n => sx_coder n r1 rfl) ?_)
        refine ev_ifT rfl ?_
        refine ev_b1 (rfr r1 rfl) (ev_b1 (rfr r1 rfl) (ev_b1 (rlnB r2) ?_))
        rw [sl0]
        have hx := xcB_e r2 e3 cpo (Nat.le_refl _) (show w.length + w'.length ≤ cap7 by omega) ⟨by omega, by omega⟩
        refine ev_b1 hx ?_
        exact ev_some ⟨rfl, rfl, ch_set e3 _⟩
    · obtain ⟨rfl, z21, c21⟩ := hp'
      have g21 : ygt_ b (Kb_ tb) o7 u11 o7 u21 := ygt_ch g7.1 e3 c21 (kd1_a _ _) (Or.inr e4)
      have nva : a ≠ v := get_ne e1 e3 (fun z => by cases z)
      have e121 : ob_ u21 a 14 [.ref v, .int 0, .int m, .int (n_ w.length)] := (c21.2.2 a nva).trans e1
      refine ev_b1 (fi_e e121 rfl) ?_
      rw [n_add]
      refine ev_pf e121 (by simp) (fun w27 c27 => ?_)
      have g27 : ygt_ b (Kb_ tb) o7 u21 o7 (w27, u21.2) := ygt_ch g21.1 e121 c27 (kd1_o _ _ _) (Or.inl e2)
      refine ev_some ⟨rfl, o7, cap7, ?_, ygt_tr h0 g7 (ygt_tr g7.1 g21 g27), ⟨v, m, _, ?_, e2, (c27.2.2 v (fun z => nva z.symm)).trans c21.2.1, e4, ?_, e6, fun i hi => ?_, fun i hi => ?_, fun x hx => ?_⟩, ?_⟩
      · show u21.2 = u.2 + (cc.1 + (0 + 0)); omega
      · rw [List.length_append]; exact c27.2.1
      · rw [List.length_append]; exact r7
      · rw [List.length_append] at hi
        unfold va_cpy
        by_cases q : i < w.length
        · rw [if_neg (by omega), List.getElem_append_left q]; exact e7 i q
        · rw [if_pos (by omega), List.getElem_append_right (by omega)]
          have := p3 (i - w.length) (by omega)
          rw [Nat.zero_add]; exact this
      · unfold va_cpy
        by_cases q : w.length ≤ i ∧ i < w.length + w'.length
        · rw [if_pos q]
          have := cpo (i - w.length) (by omega)
          rw [Nat.zero_add]; exact this
        · rw [if_neg q]; exact e8 i hi
      · rcases List.mem_append.mp hx with q | q
        · exact e9 x q
        · exact p4 x q
      · show _ ∨ (_ ∧ _ ∧ (cc.1 + (0 + 0), cc.2 + (0 + 0)) = _)
        rcases hq with ⟨q1, q2, q3⟩ | ⟨q1, q2, q3⟩
        · exact Or.inl ⟨q1, q2, by rw [q3]; rfl⟩
        · exact Or.inr ⟨q1, q2, by rw [q3]; rfl⟩
  · obtain ⟨rfl, o', cap', q1, q2, q3, q4⟩ := hp
    refine ev_some ⟨rfl, o', cap', q1, q2, q3, ?_⟩
    rcases q4 with ⟨x1, x2, x3⟩ | ⟨x1, x2, x3⟩
    · exact Or.inl ⟨x1, x2, by rw [x3]; rfl⟩
    · exact Or.inr ⟨x1, x2, by rw [x3]; rfl⟩
end
