set_option maxRecDepth 100000
/-! The component's rings, on: finding one, what it carries, taking it -/
def Kg_ (x : Nat) : Prop := x = 23 ∨ x = 24
/-- a row lies found -/
def yH_ (d : UD) (o : Nat → Nat) (u : UM) (a np ae ar : Nat) (F : Nat → Int) (row : List Nat) : Prop := yG_ d o u a np row.length ae ar F ∧ ∃ fr, iA_ d u ar 8 fr ∧ ∀ i, i < row.length → fr i = n_ (row.getD i 0)
theorem ug_many {d : UD} {o : Nat → Nat} {u u' : UM} {a np many m' ae ar : Nat} {F : Nat → Int} (h : yG_ d o u a np many ae ar F) (c : ch_ u u' a (.inr (7, [.int (n_ np), .ref ae, .ref ar, .int (n_ m')]))) : yG_ d o u' a np m' ae ar F ∧ ∀ fr, iA_ d u ar 8 fr → iA_ d u' ar 8 fr := by
  obtain ⟨e1, e2, e3, e4, f, e5, e6⟩ := h
  refine ⟨⟨c.2.1, e2, e3, e4, f, (c.2.2 ae (get_ne e5 e1 (fun z => by cases z))).trans e5, e6⟩, fun fr hA => (c.2.2 ar (get_ne hA e1 (fun z => by cases z))).trans hA⟩
theorem ug_finds {d : UD} {b : Nat} {o : Nat → Nat} {a np many0 ae ar : Nat} {F : Nat → Int} (h8 : np ≤ 8) (hf : ∀ c, c < 64 → 0 ≤ F c ∧ F c < 2147483648) {u : UM} (h0 : uw_ b u) (hG : yG_ d o u a np many0 ae ar F) {fr0 : Nat → Int32} (hA : iA_ d u ar 8 fr0) : Ev_ (fun n => uf_X7_finds n d u a) (fun r => r.2 = (0, 0) ∧ r.1.2.2 = u.2 ∧ ygt_ b Kg_ o u o r.1.2 ∧ ((∃ row, rg_ring np F = some row ∧ r.1.1 = n_ 1 ∧ yH_ d o r.1.2 a np ae ar F row) ∨ (rg_ring np F = none ∧ r.1.1 = n_ 0 ∧ yG_ d o r.1.2 a np 0 ae ar F ∧ ∃ fr, iA_ d r.1.2 ar 8 fr))) := by
  have k23 : Kg_ (o a) := Or.inl hG.2.1
  unfold uf_X7_finds
  refine ev_pf hG.1 (by simp) (fun w1 c1 => ?_)
  have q1 := ug_many (m' := 2) hG (by rw [← n_lit 2]; exact c1)
  have g1 := ygt_ch (K := Kg_) h0 hG.1 c1 (kd1_o _ _ _) k23
  have qA := q1.2 _ hA
  have q1 := q1.1
  refine ev_bl (P := fun y c => c = (0, 0) ∧ lq_ (fun s => s.2 = u.2 ∧ ygt_ b Kg_ o u o s ∧ ∃ row, rg_ring np F = some row ∧ yH_ d o s a np ae ar F row) (fun s => s.2 = u.2 ∧ ygt_ b Kg_ o u o s ∧ rg_ring np F = none ∧ ∃ m fr, m < 100 ∧ yG_ d o s a np m ae ar F ∧ iA_ d s ar 8 fr) y) ?_ (fun y c' hy => ?_)
  · unfold uf_X7_finds_L5l
    refine ev_ul (Q := fun y c => c = (0, 0) ∧ lq_ (fun s => s.2 = u.2 ∧ ygt_ b Kg_ o u o s ∧ ∃ row, rg_ring np F = some row ∧ yH_ d o s a np ae ar F row) (fun s => s.2 = u.2 ∧ ygt_ b Kg_ o u o s ∧ rg_ring np F = none ∧ ∃ m fr, m < 100 ∧ yG_ d o s a np m ae ar F ∧ iA_ d s ar 8 fr) y) (β := Nat) (fun many => np + 1 - many) (fun many y c => c = (0, 0) ∧ 2 ≤ many ∧ many < 100 ∧ y.2 = u.2 ∧ ygt_ b Kg_ o u o y ∧ yG_ d o y a np many ae ar F ∧ (∃ fr, iA_ d y ar 8 fr) ∧ rg_m np F (np + 1 - many) many = rg_ring np F) (fun many u1 c' hy => ?_) 2 _ ⟨rfl, by omega, by omega, rfl, g1, q1, ⟨_, qA⟩, by unfold rg_ring; rfl⟩
    obtain ⟨rfl, b1, b2, z1, g1, hG1, ⟨fr1, hA1⟩, g2⟩ := hy
    have x0 : u_fi d u1 7 0 a = some (n_ np) := fi_e hG1.1 rfl
    have x3 : u_fi d u1 7 3 a = some (n_ many) := fi_e hG1.1 rfl
    unfold uf_X7_finds_L5
    simp only [x0, x3, m_bs]
    refine ev_ifq (c' := np < many) (by rw [n_lt (by omega) (by omega)]) (fun c1 => ?_) (fun c1 => ?_)
    · rw [show np + 1 - many = 0 by omega] at g2
      exact ev_some ⟨rfl, z1, g1, g2.symm, many, fr1, b2, hG1, hA1⟩
    · obtain ⟨m, hm1⟩ : ∃ m, np + 1 - many = m + 1 := ⟨np - many, by omega⟩
      rw [hm1] at g2
      simp only [rg_m] at g2
      refine ev_bl (P := fun y c => c = (0, 0) ∧ lq_ (fun s => s.2 = u.2 ∧ ygt_ b Kg_ o u o s ∧ ∃ row, rg_a np F many np 0 = some row ∧ row.length = many ∧ yH_ d o s a np ae ar F row) (fun s => s.2 = u.2 ∧ ygt_ b Kg_ o u o s ∧ rg_a np F many np 0 = none ∧ yG_ d o s a np many ae ar F ∧ ∃ fr, iA_ d s ar 8 fr) y) ?_ (fun y c' hy => ?_)
      · unfold uf_X7_finds_L18l
        refine ev_ul (Q := fun y c => c = (0, 0) ∧ lq_ (fun s => s.2 = u.2 ∧ ygt_ b Kg_ o u o s ∧ ∃ row, rg_a np F many np 0 = some row ∧ row.length = many ∧ yH_ d o s a np ae ar F row) (fun s => s.2 = u.2 ∧ ygt_ b Kg_ o u o s ∧ rg_a np F many np 0 = none ∧ yG_ d o s a np many ae ar F ∧ ∃ fr, iA_ d s ar 8 fr) y) (β := Nat) (fun x => np - x) (fun x y c => c = (0, 0) ∧ x ≤ np ∧ y.1 = n_ x ∧ y.2.2 = u.2 ∧ ygt_ b Kg_ o u o y.2 ∧ yG_ d o y.2 a np many ae ar F ∧ (∃ fr, iA_ d y.2 ar 8 fr) ∧ rg_a np F many (np - x) x = rg_a np F many np 0) (fun x y c' hy => ?_) 0 _ ⟨rfl, by omega, n_lit 0, z1, g1, hG1, ⟨_, hA1⟩, rfl⟩
        obtain ⟨v, u2⟩ := y
        obtain ⟨rfl, a1, e0, z2, k1, hG2, ⟨fr2, hA2⟩, k2⟩ := hy
        dsimp only at e0 z2 k1 hG2 hA2 ⊢
        subst e0
        have x02 : u_fi d u2 7 0 a = some (n_ np) := fi_e hG2.1 rfl
        have x22 : u_fr d u2 7 2 a = some ar := fr_e hG2.1 rfl
        unfold uf_X7_finds_L18
        simp only [x02, x22, m_bs]
        refine ev_ifq (c' := np ≤ x) (by rw [n_le (by omega) (by omega)]) (fun c2 => ?_) (fun c2 => ?_)
        · rw [show np - x = 0 by omega] at k2
          exact ev_some ⟨rfl, z2, k1, k2.symm, hG2, fr2, hA2⟩
        · obtain ⟨m', hm2⟩ : ∃ m', np - x = m' + 1 := ⟨np - x - 1, by omega⟩
          rw [hm2] at k2
          simp only [rg_a] at k2
          refine ev_b1 (by rw [n_lit 0]; exact stI_e hA2 (show 0 < 8 by omega) (by omega) (n_ x)) ?_
          have c13 := ch_set hA2 (.inl (d.1 0, 8, .inl (upd fr2 0 (n_ x))))
          have g13 := ygt_ch (K := K1_ 24) k1.1 hA2 c13 (kd1_a _ _) hG.2.2.2.1
          generalize u_set u2.1 ar (.inl (d.1 0, 8, .inl (upd fr2 0 (n_ x)))) = w13 at *
          have hG3 := yG_keep k1.1 g13 hG2 (fun z => by cases z) (fun z => by cases z) rfl
          refine ev_b1 (cl_e hG3.1) ?_
          have key := ug_goesOn_rec h8 hf (b := b) (many := many) (by omega) 9 [x] (w13, u2.2) (upd fr2 0 (n_ x)) (1 <<< (n_ x &&& 31)) g13.1 hG3 c13.2.1 (fun i hi => by
            have : i = 0 := by simp at hi; exact hi
            subst this
            rw [upd_at]; rfl) (by simp) (by simp; omega) (by simp; omega) (fun x hx => by rw [List.mem_singleton.mp hx]; omega) (fun b hb => by rw [bt_shl (by omega) (by omega)]; simp)
          have e1 : (n_ [x].length) = (1 : Int32) := (n_lit 1).symm
          rw [e1] at key
          refine ev_bc (P := fun r u29 c => c = (0, 0) ∧ u29.2 = u2.2 ∧ ygt_ b (K1_ 24) o (w13, u2.2) o u29 ∧ ∃ fr', iA_ d u29 ar 8 fr' ∧ rh_ fr' many [x] (rg_go np F many 9 [x]) r) key (fun r u29 c hp => by rw [hp.1]; exact hp.2.1) (fun r u29 c hp => ?_)
          obtain ⟨rfl, zz, gg, fr', hA', k3⟩ := hp
          have GG := ygt_tr h0 k1 (ygt_sub (ygt_tr k1.1 g13 gg) (K' := Kg_) (fun t z => Or.inr z))
          have hG4 := yG_keep g13.1 gg hG3 (fun z => by cases z) (fun z => by cases z) rfl
          rcases k3 with ⟨res, y1, y2, y3, y4⟩ | ⟨y1, y2, y3⟩
          · subst y2
            rw [y1] at k2
            refine ev_ifF n_10 (ev_some ⟨rfl, zz.trans z2, GG, res, k2.symm, y3, by rw [y3]; exact hG4, fr', hA', fun i hi => y4 i (by omega)⟩)
          · subst y2
            rw [y1] at k2
            refine ev_ifT (n_lit 0).symm ?_
            rw [show n_ x + 1 = n_ (x + 1) from by rw [n_lit 1, n_add]]
            exact ev_some ⟨x + 1, ⟨rfl, by omega, rfl, zz.trans z2, GG, hG4, ⟨_, hA'⟩, by rw [show np - (x + 1) = m' by omega]; exact k2⟩, by omega⟩
      · obtain ⟨rfl, hy⟩ := hy
        cases y with
        | inl s =>
          obtain ⟨k0, k1, row, k2, k3, k4⟩ := hy
          rw [k2] at g2
          exact ev_sL (ev_some ⟨rfl, k0, k1, row, g2.symm, k4⟩)
        | inr s =>
          obtain ⟨k0, k1, k2, k3, fr, k4⟩ := hy
          rw [k2] at g2
          refine ev_sR ?_
          have x33 : u_fi d s 7 3 a = some (n_ many) := fi_e k3.1 rfl
          refine ev_b1 x33 (ev_pf k3.1 (by simp) (fun w29 c29 => ?_))
          have hi1 : n_ many + 1 = n_ (many + 1) := by rw [n_lit 1, n_add]
          have q2 := ug_many (m' := many + 1) k3 (by rw [← hi1]; exact c29)
          have g29 := ygt_tr h0 k1 (ygt_ch (K := Kg_) k1.1 k3.1 c29 (kd1_o _ _ _) k23)
          exact ev_some ⟨many + 1, ⟨rfl, by omega, by omega, k0, g29, q2.1, ⟨_, q2.2 _ k4⟩, by rw [show np + 1 - (many + 1) = m by omega]; exact g2⟩, by omega⟩
  · obtain ⟨rfl, hy⟩ := hy
    cases y with
    | inl s =>
      obtain ⟨k0, k1, row, k2, k3⟩ := hy
      refine ev_sL (ev_g (by decide) (ev_some ⟨rfl, k0, k1, Or.inl ⟨row, k2, n_lit 1, k3⟩⟩))
    | inr s =>
      obtain ⟨k0, k1, k2, m, fr, _, k3, k4⟩ := hy
      refine ev_sR (ev_pf k3.1 (by simp) (fun w c => ?_))
      have q2 := ug_many (m' := 0) k3 (by rw [← n_lit 0]; exact c)
      exact ev_g (by decide) (ev_some ⟨rfl, k0, ygt_tr h0 k1 (ygt_ch (K := Kg_) k1.1 k3.1 c (kd1_o _ _ _) k23), Or.inr ⟨k2, n_lit 0, q2.1, fr, q2.2 _ k4⟩⟩)
theorem ug_next (n : Nat) {d : UD} {o : Nat → Nat} {u : UM} {a np ae ar : Nat} {F : Nat → Int} {row : List Nat} (h : yH_ d o u a np ae ar F row) (h2 : 2 ≤ row.length) (h8 : row.length ≤ 8) {i : Nat} (hi : i < row.length) : uf_X7_next n d u a (n_ i) = some (n_ (row.getD ((i + 1) % row.length) 0)) := by
  obtain ⟨hG, fr, hA, hR⟩ := h
  have hmod : (i + 1) % row.length < row.length := Nat.mod_lt _ (by omega)
  have e : i + 1 - (i + 1) / row.length * row.length = (i + 1) % row.length := by
    have := Nat.div_add_mod (i + 1) row.length
    rw [Nat.mul_comm] at this
    omega
  have hle : (i + 1) / row.length * row.length ≤ i + 1 := Nat.div_mul_le_self _ _
  unfold uf_X7_next
  have hne : decide (¬ (n_ row.length : Int32) = 0) = true := by
    rw [decide_eq_true_eq, n_lit 0, n_eq (by omega) (by omega)]; omega
  rw [fr_e hG.1 rfl, m_bs, fi_e hG.1 rfl, m_bs, hne, m_gT, show n_ i + 1 = n_ (i + 1) from by rw [n_lit 1, n_add], n_div (by omega) (by omega) (by omega), n_mul, n_sub hle, e, ldI_e hA (by omega) (by omega), m_bs, hR _ hmod]
theorem ug_load {np : Nat} (h8 : np ≤ 8) {F : Nat → Int} (hf : ∀ c, c < 64 → 0 ≤ F c ∧ F c < 2147483648) {d : UD} {o : Nat → Nat} {u : UM} {a ae ar : Nat} {row : List Nat} (h : yH_ d o u a np ae ar F row) (ok : rg_ok np F row) : Ev_ (fun n => uf_X7_load n d u a) (fun r => r = q_ (rg_ld F row)) := by
  have hl := ok.2.1
  have h2 := ok.1
  have hc := fun i (hi : i < row.length) => (rg_c_lt h8 h2 ok.2.2.1 hi).1
  have hb : ∀ i, i < row.length → 0 ≤ ld_ F row i ∧ ld_ F row i < 2147483648 := fun i hi => by
    obtain ⟨j, hj, ej⟩ := ld_ex F row i
    rw [ej]; exact hf _ (hc j (by omega))
  have hnx := fun n i (hi : i < row.length) => ug_next n h h2 (by omega) hi
  have hlt := fun i (hi : i < row.length) => gD_lt ok.2.2.1 hi
  have hat := fun n i (hi : i < row.length) => ug_at n h.1 (show row.getD i 0 < 8 by have := hlt i hi; omega) (show row.getD ((i + 1) % row.length) 0 < 8 by have := hlt ((i + 1) % row.length) (Nat.mod_lt _ (by omega)); omega)
  obtain ⟨hG, fr, hA, hR⟩ := h
  have hld := fun i (hi : i < row.length) => (ldI_e hA (show i < 8 by omega) (by omega)).trans (congrArg some (hR i hi))
  have x2 : u_fr d u 7 2 a = some ar := fr_e hG.1 rfl
  have x3 : u_fi d u 7 3 a = some (n_ row.length) := fi_e hG.1 rfl
  have xc := cl_e hG.1
  unfold uf_X7_load
  rw [n_lit 0]
  have hp : 0 < row.length := by omega
  simp only [x2, xc, m_bs, hld 0 hp, hnx _ 0 hp, hat _ 0 hp]
  refine ev_b (P := fun r => r = q_ (rg_ld F row)) ?_ (fun r hr => ev_some hr)
  unfold uf_X7_load_L18l
  refine ev_for (row.length - 1) (fun i y => y = (q_ (ld_ F row i), n_ (i + 1))) (fun i y hi hP => ?_) (fun y hP => ?_) _ (by rw [← n_lit 1]; rfl)
  · subst hP
    have hi' : i + 1 < row.length := by omega
    have hci := hc (i + 1) (by omega)
    have b1 := hb i (by omega)
    have b2 := hf _ hci
    refine ev_eq (r := .inl (q_ (ld_ F row (i + 1)), n_ (i + 2))) (fun n => ?_) ⟨_, rfl, rfl⟩
    unfold uf_X7_load_L18
    dsimp only
    simp only [x2, x3, xc, m_bs, hld _ hi', hnx _ _ hi', hat _ _ hi']
    rw [ef_F (by rw [n_le (by omega) (by omega)]; omega)]
    rw [show n_ (i + 1) + 1 = n_ (i + 2) from by rw [n_lit 1, n_add]]
    have e : (q_ (F (8 * row.getD (i + 1) 0 + row.getD ((i + 1 + 1) % row.length) 0)) < q_ (ld_ F row i)) ↔ F (rg_c row (i + 1)) < ld_ F row i := q_lt ⟨by unfold rg_c at b2; omega, by unfold rg_c at b2; omega⟩ ⟨by omega, by omega⟩
    simp only [ld_]
    by_cases c : F (rg_c row (i + 1)) < ld_ F row i
    · rw [if_pos (e.mpr c), show min (ld_ F row i) (F (rg_c row (i + 1))) = F (rg_c row (i + 1)) by omega]; rfl
    · rw [if_neg (fun z => c (e.mp z)), show min (ld_ F row i) (F (rg_c row (i + 1))) = ld_ F row i by omega]
  · subst hP
    refine ev_eq (r := .inr (q_ (rg_ld F row))) (fun n => ?_) ⟨_, rfl, rfl⟩
    unfold uf_X7_load_L18
    dsimp only
    rw [x3, m_bs, ef_T (by rw [n_le (by omega) (by omega)]; omega)]; rfl
