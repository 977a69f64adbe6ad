set_option maxRecDepth 100000
/-! The StringBuilder: letters, texts are laid behind; what is asked of it -/
section
variable {d : UD} {b : Nat} {o : Nat → Nat} {u : UM} {tb : Nat}
theorem sbd_lat (n : Nat) {a : Nat} {w : List Nat} {cap : Nat} (h : sbd_ d o u tb a w cap) : uf_J3_isLatin1 n d u a = some 1 := by
  obtain ⟨v, m, f, e1, _⟩ := h
  have f1 : u_fi d u 14 1 a = some 0 := fi_e e1 rfl
  unfold uf_J3_isLatin1 uf_J3_isLatin1_J17 uf_J3_isLatin1_J18
  rw [ef_F (by decide), f1, m_bs, ef_T rfl]
  rfl
theorem sbd_len (n : Nat) {a : Nat} {w : List Nat} {cap : Nat} (h : sbd_ d o u tb a w cap) : uf_J4_length n d u a = some (n_ w.length) := by
  obtain ⟨v, m, f, e1, _⟩ := h
  have f3 : u_fi d u 14 3 a = some (n_ w.length) := fi_e e1 rfl
  unfold uf_J4_length uf_J3_length
  rw [cl_e e1, m_bs, f3, m_bs, m_bs]
/-- a letter more -/
theorem sbd_app (h0 : uw_ b u) {a : Nat} {w : List Nat} {cap : Nat} (h : sbd_ d o u tb a w cap) (hw : w.length ≤ 10000) (hc : cap ≤ 20000) {c : Nat} (hcc : c < 128) : Ev_ (fun n => uf_J4_append n d u a (n_ c)) (fun r => r.1.1 = a ∧ ∃ o' cap', r.1.2.2 = u.2 + r.2.1 ∧ ygt_ b (Kb_ tb) o u o' r.1.2 ∧ sbd_ d o' r.1.2 tb a (w ++ [c]) cap' ∧ ((w.length + 1 ≤ cap ∧ cap' = cap ∧ r.2 = (0, 0)) ∨ (w.length = cap ∧ cap' = 2 * cap + 2 ∧ r.2 = (1, cap')))) := by
  have hwc : w.length ≤ cap := by obtain ⟨_, _, _, _, _, _, _, e5, _⟩ := h; exact e5
  have hf3 : u_fi d u 14 3 a = some (n_ w.length) := by obtain ⟨v, m, f, e1, _⟩ := h; exact fi_e e1 rfl
  obtain ⟨fs, hcl⟩ := sbd_cl h
  unfold uf_J4_append uf_J3_append uf_J3_append_J75
  refine ev_b1 hcl ?_
  refine ev_bc (P := fun r u' cc => r = a ∧ ∃ o' cap', u'.2 = u.2 + cc.1 ∧ ygt_ b (Kb_ tb) o u o' u' ∧ sbd_ d o' u' tb a (w ++ [c]) cap' ∧ ((w.length + 1 ≤ cap ∧ cap' = cap ∧ cc = (0, 0)) ∨ (w.length = cap ∧ cap' = 2 * cap + 2 ∧ cc = (1, cap')))) ?_ (fun r u' cc hp => by obtain ⟨_, o', cap', q, _⟩ := hp; exact q) (fun r u' cc hp => ?_)
  · refine ev_b1 hf3 (ev_b1 hcl ?_)
    rw [show n_ w.length + 1 = n_ (w.length + 1) from by rw [n_lit 1, n_add]]
    refine ev_bc (P := fun (_ : Unit) u' cc => ∃ o' cap', u'.2 = u.2 + cc.1 ∧ ygt_ b (Kb_ tb) o u o' u' ∧ sbd_ d o' u' tb a w cap' ∧ w.length + 1 ≤ cap' ∧ ((w.length + 1 ≤ cap ∧ cap' = cap ∧ cc = (0, 0)) ∨ (cap < w.length + 1 ∧ cap' = cap + max (w.length + 1 - cap) (cap + 2) ∧ cc = (1, cap')))) (sbd_ensure h0 h (by omega) (by omega) hc) (fun r u' cc hp => by obtain ⟨o', cap', q, _⟩ := hp; exact q) (fun _ u7 cc hp => ?_)
    obtain ⟨o7, cap7, z7, g7, h7, r7, hq⟩ := hp
    obtain ⟨v, m, f, e1, e2, e3, e4, e5, e6, e7, e8, e9⟩ := id h7
    refine ev_b1 (cl_e e1) (ev_bn (fun n => sbd_lat n h7) ?_)
    refine ev_ifF (by decide) ?_
    have hce : ∀ n, uf_J10_canEncode n d u7 (n_ c) = some 1 := fun n => by
      unfold uf_J10_canEncode uf_J10_canEncode_J12
      rw [ef_F (by rw [n_lit 255, n_lt (by omega) (by omega)]; omega)]; rfl
    refine ev_bn hce ?_
    refine ev_ifF (by decide) ?_
    refine ev_b1 (fr_e e1 rfl) (ev_b1 (fi_e e1 rfl) ?_)
    refine ev_pf e1 (by simp) (fun w42 c42 => ?_)
    have g42 : ygt_ b (Kb_ tb) o7 u7 o7 (w42, u7.2) := ygt_ch g7.1 e1 c42 (kd1_o _ _ _) (Or.inl e2)
    have nva : v ≠ a := get_ne e3 e1 (fun z => by cases z)
    have e342 : bA_ d (w42, u7.2) v cap7 f := (c42.2.2 v nva).trans e3
    rw [(nar_n hcc).2.2.1]
    refine ev_b1 (stB_e e342 (show w.length < cap7 by omega) (by omega) _) ?_
    have c44 := ch_set e342 (.inl (d.1 2, cap7, .inl (upd f w.length (vp_nar .byte (n_ c)))))
    have g44 : ygt_ b (Kb_ tb) o7 (w42, u7.2) o7 (u_set (w42, u7.2).1 v (.inl (d.1 2, cap7, .inl (upd f w.length (vp_nar .byte (n_ c))))), u7.2) := ygt_ch g42.1 e342 c44 (kd1_a _ _) (Or.inr e4)
    refine ev_some ⟨rfl, o7, cap7, ?_, ygt_tr h0 g7 (ygt_tr g7.1 g42 g44), ⟨v, m, _, ?_, e2, c44.2.1, e4, ?_, e6, fun i hi => ?_, fun i hi => ?_, fun x hx => ?_⟩, ?_⟩
    · show u7.2 = u.2 + (cc.1 + 0); omega
    · refine (c44.2.2 a (fun z => nva z.symm)).trans ?_
      have := c42.2.1
      rw [List.length_append, show n_ (w.length + [c].length) = n_ w.length + 1 from by rw [n_lit 1, n_add]; rfl]
      exact this
    · rw [List.length_append]; show w.length + 1 ≤ cap7; omega
    · rw [List.length_append] at hi
      have hi' : i < w.length + 1 := hi
      rw [(nar_n hcc).1]
      by_cases q : i = w.length
      · subst q; rw [upd_at, List.getElem_append_right (Nat.le_refl _)]; simp
      · rw [upd_ne q, List.getElem_append_left (show i < w.length by omega)]; exact e7 i (by omega)
    · rw [(nar_n hcc).1]
      by_cases q : i = w.length
      · subst q; rw [upd_at]; exact byt_n hcc
      · rw [upd_ne q]; exact e8 i hi
    · rcases List.mem_append.mp hx with q | q
      · exact e9 x q
      · simp at q; omega
    · show _ ∨ (_ ∧ _ ∧ (cc.1 + 0, cc.2 + 0) = _)
      rcases hq with ⟨q1, q2, q3⟩ | ⟨q1, q2, q3⟩
      · exact Or.inl ⟨q1, q2, by rw [q3]; rfl⟩
      · refine Or.inr ⟨by omega, by omega, ?_⟩
        rw [q3]; rfl
  · obtain ⟨rfl, o', cap', q1, q2, q3, q4⟩ := hp
    refine ev_some ⟨rfl, o', cap', q1, q2, q3, ?_⟩
    rcases q4 with ⟨x1, x2, x3⟩ | ⟨x1, x2, x3⟩
    · exact Or.inl ⟨x1, x2, by rw [x3]; rfl⟩
    · exact Or.inr ⟨x1, x2, by rw [x3]; rfl⟩
end
