set_option maxRecDepth 100000
/-! Texts: constants; which of the words one is; which of a list -/
/-- the constants lie where they are told -/
def cS_ (d : UD) (b : Nat) : Prop := (∀ i, i < 9 → (d.2 (10 + i) < b ∧ u_get (u_cs d) (d.2 (10 + i)) = some (.inr (15, [.ref (d.2 (30 + i)), .int 0, .int ((g_str.getD i ([], 0)).2), .int 0]))) ∧ (d.2 (30 + i) < b ∧ u_get (u_cs d) (d.2 (30 + i)) = some (.inl (d.1 2, (g_str.getD i ([], 0)).1.length, .inl (fun j => (g_str.getD i ([], 0)).1.getD j 0))))) ∧ (d.2 50 < b ∧ u_get (u_cs d) (d.2 50) = some (.inl (d.1 2, 100, .inl g_ones))) ∧ (d.2 51 < b ∧ u_get (u_cs d) (d.2 51) = some (.inl (d.1 2, 100, .inl g_tens)))
theorem gD_at {l : List Nat} {i : Nat} (hi : i < l.length) : l.getD i 0 = l[i] := by simp [List.getD_eq_getElem?_getD, List.getElem?_eq_getElem hi]
def ct0_ : List (List Nat) := kw_ ++ [[32], [32, 42]]
theorem ct0_f : ∀ j : Fin 8, (g_str.getD j.val ([], 0)).1.length = (ct0_.getD j.val []).length ∧ (∀ i : Fin 5, i.val < (ct0_.getD j.val []).length → (g_str.getD j.val ([], 0)).1.getD i.val 0 = Int32.ofNat ((ct0_.getD j.val []).getD i.val 0)) ∧ (∀ i : Fin 5, (ct0_.getD j.val []).getD i.val 0 < 128) ∧ (ct0_.getD j.val []).length ≤ 5 := by decide
theorem cS_x {d : UD} {b : Nat} {o : Nat → Nat} {u : UM} (hs : cS_ d b) {j : Nat} (hj : j < 8) : sx_ d b o u (d.2 (10 + j)) (ct0_.getD j []) := by
  obtain ⟨⟨a1, a2⟩, a3, a4⟩ := hs.1 j (by omega)
  obtain ⟨f1, f2, f3, f4⟩ := ct0_f ⟨j, hj⟩
  dsimp only at f1 f2 f3 f4
  rw [f1] at a4
  refine ⟨_, _, _, _, Or.inr ⟨a1, a2⟩, Or.inr ⟨a3, a4⟩, fun i hi => ?_, fun c hc => ?_, by omega⟩
  · have := f2 ⟨i, by omega⟩ hi
    dsimp only at this ⊢
    rw [this, n_on]
    rw [gD_at hi]
  · obtain ⟨i, hi, e⟩ := List.getElem_of_mem hc
    have := f3 ⟨i, by omega⟩
    dsimp only at this
    rw [gD_at hi, e] at this
    exact this
theorem kw_hash : ∀ j : Fin 6, hs_ (kw_.getD j.val []) 0 = [106437350, 3292052, 110621028, 3287941, 98258, 3357091].getD j.val 0 := by decide
theorem kwi_at : ∀ j : Fin 6, kwi_ (kw_.getD j.val []) = j.val := by decide
theorem kwi_sp (w : List Nat) : (kwi_ w < 6 ∧ kw_.getD (kwi_ w) [] = w) ∨ (kwi_ w = 6 ∧ ∀ j, j < 6 → kw_.getD j [] ≠ w) := by
  obtain ⟨h1, h2, h3, h4⟩ := fi_spec (fun j => decide (kw_.getD j [] = w)) 6 0
  have e : kwi_ w = fi_ (fun j => decide (kw_.getD j [] = w)) 6 0 := rfl
  rw [← e] at h1 h2 h3 h4
  by_cases c : kwi_ w < 6
  · left
    exact ⟨c, of_decide_eq_true (h4 (by omega))⟩
  · right
    exact ⟨by omega, fun j hj q => by exact absurd q (of_decide_eq_false (h3 j (by omega) (by omega)))⟩
section
variable {d : UD} {b : Nat} {o : Nat → Nat} {u : UM}
/-- a word of the texts' own is found by its hash -/
theorem kw_disp (h0 : uw_ b u) (hs : cS_ d b) {p : Nat} {w : List Nat} (h : stt_ d o u p w) {α : Type} {K : Nat → Int32 → Option (α × UC)} {Q : α × UC → Prop} (hk : Ev_ (fun n => K n (if kwi_ w < 6 then n_ (kwi_ w) else q_ (-1))) Q) :
    Ev_ (fun n => m_if ((hs_ w 0 : Int32) = 98258) (m_b (u_tx d u p) (fun _ => m_b (uf_J5_equals n d u p (d.2 (10 + 4))) (fun r25 => m_if ((r25 : Int32) = 0) (K n ((-1))) (K n 4)))) (m_if ((hs_ w 0 : Int32) = 3287941) (m_b (u_tx d u p) (fun _ => m_b (uf_J5_equals n d u p (d.2 (10 + 3))) (fun r30 => m_if ((r30 : Int32) = 0) (K n ((-1))) (K n 3)))) (m_if ((hs_ w 0 : Int32) = 3292052) (m_b (u_tx d u p) (fun _ => m_b (uf_J5_equals n d u p (d.2 (10 + 1))) (fun r35 => m_if ((r35 : Int32) = 0) (K n ((-1))) (K n 1)))) (m_if ((hs_ w 0 : Int32) = 3357091) (m_b (u_tx d u p) (fun _ => m_b (uf_J5_equals n d u p (d.2 (10 + 5))) (fun r40 => m_if ((r40 : Int32) = 0) (K n ((-1))) (K n 5)))) (m_if ((hs_ w 0 : Int32) = 106437350) (m_b (u_tx d u p) (fun _ => m_b (uf_J5_equals n d u p (d.2 (10 + 0))) (fun r45 => m_if ((r45 : Int32) = 0) (K n ((-1))) (K n 0)))) (m_if ((hs_ w 0 : Int32) = 110621028) (m_b (u_tx d u p) (fun _ => m_b (uf_J5_equals n d u p (d.2 (10 + 2))) (fun r50 => m_if ((r50 : Int32) = 0) (K n ((-1))) (K n 2)))) (K n ((-1))))))))) Q := by
  obtain ⟨fs, htx⟩ := stt_tx h
  have pb : b ≤ p := by obtain ⟨v, hh, z, f, e1, _⟩ := h; exact (h0.2 _ _ e1).1
  -- a keyword's hash is its own
  have own : ∀ j (hj : j < 6) (v : Int32), v = [106437350, 3292052, 110621028, 3287941, 98258, 3357091].getD j 0 → hs_ w 0 = v → ¬ w = kw_.getD j [] → kwi_ w = 6 := fun j hj v hv hh hn => by
    rcases kwi_sp w with ⟨c, e⟩ | ⟨c, _⟩
    · exfalso
      have k1 := kw_hash ⟨kwi_ w, c⟩
      dsimp only at k1
      rw [e, hh, hv] at k1
      have inj : ∀ i j : Fin 6, ([106437350, 3292052, 110621028, 3287941, 98258, 3357091] : List Int32).getD i.val 0 = ([106437350, 3292052, 110621028, 3287941, 98258, 3357091] : List Int32).getD j.val 0 → i = j := by decide
      have := inj ⟨j, hj⟩ ⟨kwi_ w, c⟩ k1
      have e2 : j = kwi_ w := congrArg Fin.val this
      exact hn (by rw [e2, e])
    · exact c
  have arm : ∀ j (hj : j < 6) (v vj : Int32), v = [106437350, 3292052, 110621028, 3287941, 98258, 3357091].getD j 0 → vj = n_ j → hs_ w 0 = v → Ev_ (fun n => m_b (u_tx d u p) (fun _ => m_b (uf_J5_equals n d u p (d.2 (10 + j))) (fun r25 => m_if ((r25 : Int32) = 0) (K n ((-1))) (K n vj)))) Q := fun j hj v vj hv hvj hh => by
    have hne : p ≠ d.2 (10 + j) := by have := (hs.1 j (by omega)).1.1; omega
    have hx := cS_x (o := o) (u := u) hs (show j < 8 by omega)
    have ek : ct0_.getD j [] = kw_.getD j [] := by
      unfold ct0_
      rw [List.getD_eq_getElem?_getD, List.getD_eq_getElem?_getD, List.getElem?_append_left (by show j < 6; exact hj)]
    rw [ek] at hx
    refine ev_b1 htx (ev_b (tx_eq h0 h hx hne) (fun r hr => ?_))
    subst hr
    by_cases q : w = kw_.getD j []
    · rw [b_T q]
      have := kwi_at ⟨j, hj⟩
      dsimp only at this
      rw [q, this, if_pos hj, ← hvj] at hk
      exact ev_ifF (by decide) hk
    · rw [b_F q]
      rw [own j hj v hv hh q, if_neg (by omega), ← m1_q] at hk
      exact ev_ifT rfl hk
  have n4 : (4 : Int32) = n_ 4 := n_lit 4
  refine ev_if (fun c => arm 4 (by omega) 98258 4 rfl (n_lit 4) c) (fun c4 => ?_)
  refine ev_if (fun c => arm 3 (by omega) 3287941 3 rfl (n_lit 3) c) (fun c3 => ?_)
  refine ev_if (fun c => arm 1 (by omega) 3292052 1 rfl (n_lit 1) c) (fun c1 => ?_)
  refine ev_if (fun c => arm 5 (by omega) 3357091 5 rfl (n_lit 5) c) (fun c5 => ?_)
  refine ev_if (fun c => arm 0 (by omega) 106437350 0 rfl (n_lit 0) c) (fun c0 => ?_)
  refine ev_if (fun c => arm 2 (by omega) 110621028 2 rfl (n_lit 2) c) (fun c2 => ?_)
  have k6 : kwi_ w = 6 := by
    rcases kwi_sp w with ⟨c, e⟩ | ⟨c, _⟩
    · exfalso
      have k1 := kw_hash ⟨kwi_ w, c⟩
      dsimp only at k1
      rw [e] at k1
      generalize kwi_ w = i at k1 c
      have : i = 0 ∨ i = 1 ∨ i = 2 ∨ i = 3 ∨ i = 4 ∨ i = 5 := by omega
      rcases this with rfl | rfl | rfl | rfl | rfl | rfl
      · exact c0 k1
      · exact c1 k1
      · exact c2 k1
      · exact c3 k1
      · exact c4 k1
      · exact c5 k1
    · exact c
  rw [k6, if_neg (by omega), ← m1_q] at hk
  exact hk
theorem uq_isOwn (h0 : uw_ b u) (hs : cS_ d b) {p : Nat} {w : List Nat} (h : st_ d o u p w) : Ev_ (fun n => uf_X0_isOwn n d u p) (fun r => r.1.1 = b_ (kwi_ w < 6) ∧ r.2 = (0, 0) ∧ r.1.2.2 = u.2 ∧ ygt_ b (K1_ 35) o u o r.1.2 ∧ stt_ d o r.1.2 p w) := by
  obtain ⟨fs, htx⟩ := stt_tx (st_tt h)
  unfold uf_X0_isOwn
  refine ev_b1 htx ?_
  refine ev_bc (P := fun r u' c => r = hs_ w 0 ∧ c = (0, 0) ∧ u'.2 = u.2 ∧ ygt_ b (K1_ 35) o u o u' ∧ stt_ d o u' p w) (tx_hash h0 h) (fun r u' c hp => by rw [hp.2.1]; exact hp.2.2.1) (fun r u5 c hp => ?_)
  obtain ⟨rfl, rfl, z5, g5, s5⟩ := hp
  refine kw_disp g5.1 hs s5 (K := fun n v => uf_X0_isOwn_J149 n d u5 v) ?_
  unfold uf_X0_isOwn_J149
  have fin : ∀ v : Int32, Ev_ (fun _ => m_g (m_01 v) (some ((v, u5), ((0, 0) : UC)))) (fun r => (v = b_ (kwi_ w < 6) ∧ m_01 v = true) → r.1.1 = b_ (kwi_ w < 6) ∧ u_add (0, 0) r.2 = (0, 0) ∧ r.1.2.2 = u.2 ∧ ygt_ b (K1_ 35) o u o r.1.2 ∧ stt_ d o r.1.2 p w) → (v = b_ (kwi_ w < 6) ∧ m_01 v = true) → Ev_ (fun _ => m_g (m_01 v) (some ((v, u5), ((0, 0) : UC)))) (fun r => r.1.1 = b_ (kwi_ w < 6) ∧ u_add (0, 0) r.2 = (0, 0) ∧ r.1.2.2 = u.2 ∧ ygt_ b (K1_ 35) o u o r.1.2 ∧ stt_ d o r.1.2 p w) := fun v h1 h2 => ev_w h1 (fun r hr => hr h2)
  have one : ∀ v : Int32, v = b_ (kwi_ w < 6) → m_01 v = true → Ev_ (fun _ => m_g (m_01 v) (some ((v, u5), ((0, 0) : UC)))) (fun r => r.1.1 = b_ (kwi_ w < 6) ∧ u_add (0, 0) r.2 = (0, 0) ∧ r.1.2.2 = u.2 ∧ ygt_ b (K1_ 35) o u o r.1.2 ∧ stt_ d o r.1.2 p w) := fun v h1 h2 => ev_g h2 (ev_some ⟨h1, rfl, z5, g5, s5⟩)
  by_cases c : kwi_ w < 6
  · rw [if_pos c]
    have e1 : (1 : Int32) = b_ (kwi_ w < 6) := (b_T c).symm
    have lits : (0 : Int32) = n_ 0 ∧ (1 : Int32) = n_ 1 ∧ (2 : Int32) = n_ 2 ∧ (3 : Int32) = n_ 3 ∧ (4 : Int32) = n_ 4 ∧ (5 : Int32) = n_ 5 := ⟨n_lit 0, n_lit 1, n_lit 2, n_lit 3, n_lit 4, n_lit 5⟩
    have o1 := one 1 e1 (by decide)
    refine ev_ifq (c' := kwi_ w = 0) (by rw [lits.1, n_eq (by omega) (by omega)]) (fun _ => o1) (fun d0 => ?_)
    refine ev_ifq (c' := kwi_ w = 1) (by rw [lits.2.1, n_eq (by omega) (by omega)]) (fun _ => o1) (fun d1 => ?_)
    refine ev_ifq (c' := kwi_ w = 2) (by rw [lits.2.2.1, n_eq (by omega) (by omega)]) (fun _ => o1) (fun d2 => ?_)
    refine ev_ifq (c' := kwi_ w = 3) (by rw [lits.2.2.2.1, n_eq (by omega) (by omega)]) (fun _ => o1) (fun d3 => ?_)
    refine ev_ifq (c' := kwi_ w = 4) (by rw [lits.2.2.2.2.1, n_eq (by omega) (by omega)]) (fun _ => o1) (fun d4 => ?_)
    refine ev_ifq (c' := kwi_ w = 5) (by rw [lits.2.2.2.2.2, n_eq (by omega) (by omega)]) (fun _ => o1) (fun d5 => ?_)
    omega
  · rw [if_neg c, ← m1_q]
    refine ev_ifF (by decide) (ev_ifF (by decide) (ev_ifF (by decide) (ev_ifF (by decide) (ev_ifF (by decide) (ev_ifF (by decide) ?_)))))
    exact one 0 (b_F c).symm (by decide)
/-- which of a list's texts a word is -/
theorem ul_indexOf (h0 : uw_ b u) {a tl ta t : Nat} {l : List Nat} {ws : List (List Nat)} {w : List Nat} (hl : al_ d o u a tl ta l) (h2 : al2_ (sg_ d o u) l ws) (hw : ∀ x ∈ ws, nm_ok x) (h : stt_ d o u t w) (h100 : l.length ≤ 100) : Ev_ (fun n => uf_J2_indexOf n d u a t) (fun r => r = if ix_ ws w < ws.length then n_ (ix_ ws w) else q_ (-1)) := by
  obtain ⟨mc, b', m, f, e1, e2, e3, e4, e5⟩ := hl
  have el := h2.1
  obtain ⟨fs15, hcl⟩ := stt_cl h
  have ht : o t = 35 := by obtain ⟨_, _, _, _, _, q, _⟩ := h; exact q
  obtain ⟨i1, i2, i3, i4⟩ := fi_spec (fun j => decide (ws.getD j [] = w)) ws.length 0
  have ei : ix_ ws w = fi_ (fun j => decide (ws.getD j [] = w)) ws.length 0 := rfl
  rw [← ei] at i1 i2 i3 i4
  unfold uf_J2_indexOf uf_J2_indexOfRange uf_J2_indexOfRange_J69
  refine ev_b1 (fi_e e1 rfl) (ev_b1 (cl_e e1) ?_)
  refine ev_b (P := fun r => r = if ix_ ws w < ws.length then n_ (ix_ ws w) else q_ (-1)) ?_ (fun r hr => ev_some hr)
  refine ev_b1 (fr_e e1 rfl) ?_
  refine ev_b (P := fun (y : Int32 ⊕ Unit) => (y = .inl (n_ (ix_ ws w)) ∧ ix_ ws w < ws.length) ∨ (y = .inr () ∧ ix_ ws w = ws.length)) ?_ (fun y hy => ?_)
  · unfold uf_J2_indexOfRange_L42l
    refine ev_lp (Q := fun (y : Int32 ⊕ Unit) => (y = .inl (n_ (ix_ ws w)) ∧ ix_ ws w < ws.length) ∨ (y = .inr () ∧ ix_ ws w = ws.length)) (fun (s : Int32) => ∃ i, s = n_ i ∧ i ≤ l.length ∧ i ≤ ix_ ws w) (fun s => l.length - s.toNatClampNeg) (fun s hs => ?_) 0 ⟨0, n_lit 0, Nat.zero_le _, Nat.zero_le _⟩
    obtain ⟨i, rfl, hi, hix⟩ := hs
    unfold uf_J2_indexOfRange_L42
    refine ev_ifq (c' := l.length ≤ i) (by rw [n_le (by omega) (by omega)]) (fun c => ?_) (fun c => ?_)
    · exact ev_some (Or.inr ⟨rfl, by omega⟩)
    · rcases e5 with ⟨q1, q2, q3, q4⟩ | ⟨_, q⟩
      · have hil : i < l.length := by omega
        have hiw : i < ws.length := by omega
        have hsg := h2.2 i hil hiw
        have ho : o l[i] = 14 := by obtain ⟨_, _, _, _, _, _, _, q, _⟩ := hsg; exact q
        refine ev_b1 (ldR_e q1 (by omega) (by omega) (q3 i hil)) (ev_b1 hcl ?_)
        refine ev_b (tx_eq h0 h (sx_g hsg (hw _ (List.getElem_mem hiw))) (fun z => by rw [z, ho] at ht; omega)) (fun r hr => ?_)
        subst hr
        have eg : ws.getD i [] = ws[i] := by simp [List.getD_eq_getElem?_getD, List.getElem?_eq_getElem hiw]
        by_cases q : w = ws[i]
        · rw [b_T q]
          refine ev_ifF (by decide) (ev_some (Or.inl ⟨?_, ?_⟩))
          · have : ix_ ws w = i := by
              apply Nat.le_antisymm _ hix
              apply Nat.le_of_not_lt
              intro hlt
              have := i3 i (Nat.zero_le _) hlt
              rw [eg] at this
              simp [q] at this
            rw [this]
          · apply Classical.byContradiction
            intro hlt
            have := i3 i (Nat.zero_le _) (by omega)
            rw [eg] at this
            simp [q] at this
        · rw [b_F q]
          refine ev_ifT rfl (ev_some ⟨⟨i + 1, by rw [n_lit 1, n_add], by omega, ?_⟩, ?_⟩)
          · apply Nat.lt_of_le_of_ne hix
            intro z
            have := i4 (by omega)
            rw [← z, eg] at this
            exact q (of_decide_eq_true this).symm
          · rw [show n_ i + 1 = n_ (i + 1) from by rw [n_lit 1, n_add], n_nat (by omega), n_nat (by omega)]; omega
      · omega
  · rcases hy with ⟨rfl, q⟩ | ⟨rfl, q⟩
    · exact ev_sL (ev_some (by rw [if_pos q]))
    · exact ev_sR (ev_some (by rw [if_neg (by omega)]; exact m1_q))
theorem ul_contains (h0 : uw_ b u) {a tl ta t : Nat} {l : List Nat} {ws : List (List Nat)} {w : List Nat} (hl : al_ d o u a tl ta l) (h2 : al2_ (sg_ d o u) l ws) (hw : ∀ x ∈ ws, nm_ok x) (h : stt_ d o u t w) (h100 : l.length ≤ 100) : Ev_ (fun n => uf_J2_contains n d u a t) (fun r => r = b_ (ix_ ws w < ws.length)) := by
  obtain ⟨fs, hfs⟩ := al_cl hl
  have el := h2.1
  unfold uf_J2_contains uf_J2_contains_J13
  refine ev_b1 hfs (ev_b (ul_indexOf h0 hl h2 hw h h100) (fun r hr => ?_))
  subst hr
  by_cases c : ix_ ws w < ws.length
  · rw [if_pos c, b_T c]
    exact ev_ifF (by rw [n_lit 0, n_lt (by omega) (by omega)]; omega) (ev_g (by decide) (ev_some rfl))
  · rw [if_neg c, b_F c]
    exact ev_ifT (by decide) (ev_g (by decide) (ev_some rfl))
end
