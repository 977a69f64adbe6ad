set_option maxRecDepth 100000
/-! The component's rings: tags 21 flows, 23 the object, 24 its row -/
def yG_ (d : UD) (o : Nat → Nat) (u : UM) (a np many ae ar : Nat) (F : Nat → Int) : Prop := ob_ u a 7 [.int (n_ np), .ref ae, .ref ar, .int (n_ many)] ∧ o a = 23 ∧ o ae = 21 ∧ o ar = 24 ∧ ∃ f, iA_ d u ae 64 f ∧ ∀ c, c < 64 → f c = q_ (F c)
theorem yG_keep {d : UD} {b : Nat} {K : Nat → Prop} {o o' : Nat → Nat} {u u' : UM} (h0 : uw_ b u) (g : ygt_ b K o u o' u') {a np many ae ar : Nat} {F : Nat → Int} (h : yG_ d o u a np many ae ar F) (h1 : ¬ K 21) (h3 : ¬ K 23) (har : o' ar = o ar) : yG_ d o' u' a np many ae ar F := by
  obtain ⟨e1, e2, e3, e4, f, e5, e6⟩ := h
  obtain ⟨a1, a2⟩ := ygt_at h0 g e1 (by rw [e2]; exact h3)
  obtain ⟨b1, b2⟩ := ygt_at h0 g e5 (by rw [e3]; exact h1)
  exact ⟨a1, a2.trans e2, b2.trans e3, har.trans e4, f, b1, e6⟩
theorem ug_at (n : Nat) {d : UD} {o : Nat → Nat} {u : UM} {a np many ae ar : Nat} {F : Nat → Int} (h : yG_ d o u a np many ae ar F) {x y : Nat} (hx : x < 8) (hy : y < 8) : uf_X7_at n d u a (n_ x) (n_ y) = some (q_ (F (8 * x + y))) := by
  obtain ⟨e1, e2, e3, e4, f, e5, e6⟩ := h
  unfold uf_X7_at
  rw [fr_e e1 rfl, m_bs, n_lit 8, n_mul, n_add, ldI_e e5 (by omega) (by omega), m_bs, e6 _ (by omega)]
theorem ug_goesOn_rec {d : UD} {b : Nat} {o : Nat → Nat} {a np many ae ar : Nat} {F : Nat → Int} (h8 : np ≤ 8) (hf : ∀ c, c < 64 → 0 ≤ F c ∧ F c < 2147483648) (hm : many ≤ np) : ∀ (dp : Nat) (row : List Nat) (u : UM) (fr : Nat → Int32) (seen : Int32), uw_ b u → yG_ d o u a np many ae ar F → iA_ d u ar 8 fr → (∀ i, i < row.length → fr i = n_ (row.getD i 0)) → 0 < row.length → row.length ≤ many → many + 1 ≤ dp + row.length → (∀ x ∈ row, x < np) → (∀ b, b < 8 → bt_ seen b = decide (b ∈ row)) →
    Ev_ (fun n => uf_X7_goesOn_rec n d dp u a (n_ row.length) seen) (fun r => r.2 = (0, 0) ∧ r.1.2.2 = u.2 ∧ ygt_ b (K1_ 24) o u o r.1.2 ∧ ∃ fr', iA_ d r.1.2 ar 8 fr' ∧ rh_ fr' many row (rg_go np F many dp row) r.1.1) := by
  intro dp
  induction dp with
  | zero => intro row u fr seen _ _ _ _ h1 h2 h3; omega
  | succ dp ih =>
    intro row u fr seen h0 hG hA hR h1 h2 h3 h4 hb
    show Ev_ (fun n => uf_X7_goesOn_body n d (uf_X7_goesOn_rec n d dp) u a (n_ row.length) seen) _
    have hfi := gD_lt h4 h1
    have hla := gD_lt h4 (show row.length - 1 < row.length by omega)
    have w0 := hR 0 h1
    have wl := hR (row.length - 1) (by omega)
    generalize hfv : row.getD 0 0 = fi at *
    generalize hlv : row.getD (row.length - 1) 0 = la at *
    have k24 : ∀ x, x ≠ 24 → ¬ K1_ 24 x := fun x h1 z => h1 z
    have e1 := hG.1
    have x0 : u_fi d u 7 0 a = some (n_ np) := fi_e e1 rfl
    have x2 : u_fr d u 7 2 a = some ar := fr_e e1 rfl
    have x3 : u_fi d u 7 3 a = some (n_ many) := fi_e e1 rfl
    have xc := cl_e e1
    have l0 : u_ldI d u ar 0 = some (n_ fi) := by rw [n_lit 0, ldI_e hA (by omega) (by omega), w0]
    have ll : u_ldI d u ar (n_ row.length - 1) = some (n_ la) := by rw [n_lit 1, n_sub (by omega), ldI_e hA (by omega) (by omega), wl]
    unfold uf_X7_goesOn_body uf_X7_goesOn_J34
    simp only [x3, m_bs, x2, ll, l0, xc]
    refine ev_ifq (c' := row.length = many) (by rw [n_eq (by omega) (by omega)]) (fun c => ?_) (fun c => ?_)
    · have hfc := hf (8 * la + fi) (by omega)
      refine ev_bn (fun n => ug_at n hG (by omega) (by omega)) ?_
      have hgo : rg_go np F many (dp + 1) row = if 0 < F (8 * la + fi) then some row else none := by
        simp only [rg_go, hfv, hlv]; rw [if_pos c]
      refine ev_ifq (c' := F (8 * la + fi) ≤ 0) (by rw [q_0]; exact q_le ⟨by omega, by omega⟩ ⟨by omega, by omega⟩) (fun c2 => ?_) (fun c2 => ?_)
      · rw [hgo, if_neg (by omega)]
        exact ev_g (by decide) (ev_some ⟨rfl, rfl, ygt_rfl h0, fr, hA, Or.inr ⟨rfl, n_lit 0, hR⟩⟩)
      · rw [hgo, if_pos (by omega)]
        exact ev_g (by decide) (ev_some ⟨rfl, rfl, ygt_rfl h0, fr, hA, Or.inl ⟨row, rfl, n_lit 1, c, fun i hi => hR i (by omega)⟩⟩)
    · have hgo : rg_go np F many (dp + 1) row = rg_t F row (rg_go np F many dp) (np - (fi + 1)) (fi + 1) := by
        simp only [rg_go, hfv]; rw [if_neg c]
      rw [show n_ fi + 1 = n_ (fi + 1) from by rw [n_lit 1, n_add]]
      refine ev_bl (P := fun y c => c = (0, 0) ∧ lq_ (fun s => s.2 = u.2 ∧ ygt_ b (K1_ 24) o u o s ∧ ∃ fr', iA_ d s ar 8 fr' ∧ rh_ fr' many row (rg_go np F many (dp + 1) row) (n_ 1)) (fun s => s.2 = u.2 ∧ ygt_ b (K1_ 24) o u o s ∧ ∃ fr', iA_ d s ar 8 fr' ∧ rh_ fr' many row (rg_go np F many (dp + 1) row) (n_ 0)) y) ?_ (fun y c' hy => ?_)
      · unfold uf_X7_goesOn_L44l
        refine ev_ul (Q := fun y c => c = (0, 0) ∧ lq_ (fun s => s.2 = u.2 ∧ ygt_ b (K1_ 24) o u o s ∧ ∃ fr', iA_ d s ar 8 fr' ∧ rh_ fr' many row (rg_go np F many (dp + 1) row) (n_ 1)) (fun s => s.2 = u.2 ∧ ygt_ b (K1_ 24) o u o s ∧ ∃ fr', iA_ d s ar 8 fr' ∧ rh_ fr' many row (rg_go np F many (dp + 1) row) (n_ 0)) y) (β := Nat) (fun b => np - b) (fun k y c => c = (0, 0) ∧ k ≤ np ∧ fi < k ∧ y.1 = n_ k ∧ y.2.2 = u.2 ∧ ygt_ b (K1_ 24) o u o y.2 ∧ (∃ fr', iA_ d y.2 ar 8 fr' ∧ ∀ i, i < row.length → fr' i = n_ (row.getD i 0)) ∧ rg_t F row (rg_go np F many dp) (np - k) k = rg_go np F many (dp + 1) row) (fun k y c' hy => ?_) (fi + 1) _ ⟨rfl, by omega, by omega, rfl, rfl, ygt_rfl h0, ⟨fr, hA, hR⟩, hgo.symm⟩
        obtain ⟨v, u1⟩ := y
        obtain ⟨rfl, b1, b2, e0, z1, g1, ⟨fr1, g2, g2'⟩, g3⟩ := hy
        dsimp only at e0 z1 g1 g2 g3 ⊢
        subst e0
        have hG1 := yG_keep h0 g1 hG (k24 _ (by omega)) (k24 _ (by omega)) rfl
        have y1 := hG1.1
        have x01 : u_fi d u1 7 0 a = some (n_ np) := fi_e y1 rfl
        have x21 : u_fr d u1 7 2 a = some ar := fr_e y1 rfl
        have xc1 := cl_e y1
        have wl1 := g2' (row.length - 1) (by omega)
        rw [hlv] at wl1
        have ll1 : u_ldI d u1 ar (n_ row.length - 1) = some (n_ la) := by rw [n_lit 1, n_sub (by omega), ldI_e g2 (by omega) (by omega), wl1]
        unfold uf_X7_goesOn_L44 uf_X7_goesOn_J104
        simp only [x01, m_bs, x21, ll1, xc1]
        refine ev_ifq (c' := np ≤ k) (by rw [n_le (by omega) (by omega)]) (fun c1 => ?_) (fun c1 => ?_)
        · rw [show np - k = 0 by omega] at g3
          exact ev_some ⟨rfl, z1, g1, fr1, g2, Or.inr ⟨g3.symm, rfl, g2'⟩⟩
        · obtain ⟨m, hm1⟩ : ∃ m, np - k = m + 1 := ⟨np - k - 1, by omega⟩
          have hm2 : np - (k + 1) = m := by omega
          have hidx : n_ k + 1 = n_ (k + 1) := by rw [n_lit 1, n_add]
          rw [hm1] at g3
          simp only [rg_t, hlv] at g3
          refine ev_ifq (bt_test (by omega) seen) (fun c2 => ?_) (fun c2 => ?_)
          · rw [hb k (by omega)] at c2
            have c2' : k ∈ row := by simpa using c2
            rw [if_pos (Or.inl c2')] at g3
            rw [hidx]
            exact ev_some ⟨k + 1, ⟨rfl, by omega, by omega, rfl, z1, g1, ⟨fr1, g2, g2'⟩, by rw [hm2]; exact g3⟩, by omega⟩
          · rw [hb k (by omega)] at c2
            have c2' : k ∉ row := by simpa using c2
            have hfc := hf (8 * la + k) (by omega)
            refine ev_bn (fun n => ug_at n hG1 (show la < 8 by omega) (show k < 8 by omega)) ?_
            refine ev_ifq (c' := F (8 * la + k) = 0) (by rw [q_0]; exact q_eq ⟨by omega, by omega⟩ ⟨by omega, by omega⟩) (fun c3 => ?_) (fun c3 => ?_)
            · rw [if_pos (Or.inr c3)] at g3
              rw [hidx]
              exact ev_some ⟨k + 1, ⟨rfl, by omega, by omega, rfl, z1, g1, ⟨fr1, g2, g2'⟩, by rw [hm2]; exact g3⟩, by omega⟩
            · rw [if_neg (fun z => z.elim c2' c3)] at g3
              refine ev_b1 (stI_e g2 (show row.length < 8 by omega) (by omega) (n_ k)) ?_
              have c23 := ch_set g2 (.inl (d.1 0, 8, .inl (upd fr1 row.length (n_ k))))
              have g23 := ygt_ch (K := K1_ 24) g1.1 g2 c23 (kd1_a _ _) hG.2.2.2.1
              generalize u_set u1.1 ar (.inl (d.1 0, 8, .inl (upd fr1 row.length (n_ k)))) = w23 at *
              have hG2 := yG_keep g1.1 g23 hG1 (k24 _ (by omega)) (k24 _ (by omega)) rfl
              refine ev_b1 (cl_e hG2.1) ?_
              rw [show n_ row.length + 1 = n_ (row ++ [k]).length from by rw [n_lit 1, n_add, List.length_append]; rfl]
              have hrec := ih (row ++ [k]) (w23, u1.2) (upd fr1 row.length (n_ k)) (seen ||| (1 <<< (n_ k &&& 31))) g23.1 hG2 c23.2.1 (fun i hi => ?_) (by simp) (by simp; omega) (by simp; omega) (fun x hx => ?_) (fun b' hb' => ?_)
              · refine ev_bc (P := fun r u29 c => c = (0, 0) ∧ u29.2 = u1.2 ∧ ygt_ b (K1_ 24) o (w23, u1.2) o u29 ∧ ∃ fr', iA_ d u29 ar 8 fr' ∧ rh_ fr' many (row ++ [k]) (rg_go np F many dp (row ++ [k])) r) hrec (fun r u29 c hp => by rw [hp.1]; exact hp.2.1) (fun r u29 c hp => ?_)
                obtain ⟨rfl, zz, gg, fr', hA', k2⟩ := hp
                have GG := ygt_tr h0 g1 (ygt_tr g1.1 g23 gg)
                rcases k2 with ⟨res, e1, e2, e3, e4⟩ | ⟨e1, e2, e3⟩
                · subst e2
                  rw [e1] at g3
                  refine ev_ifF n_10 (ev_some ⟨rfl, zz.trans z1, GG, fr', hA', Or.inl ⟨res, g3.symm, rfl, e3, e4⟩⟩)
                · subst e2
                  rw [e1] at g3
                  rw [hidx]
                  refine ev_ifT (n_lit 0).symm (ev_some ⟨k + 1, ⟨rfl, by omega, by omega, rfl, zz.trans z1, GG, ⟨fr', hA', fun i hi => ?_⟩, by rw [hm2]; exact g3⟩, by omega⟩)
                  rw [e3 i (by simp; omega), gD_app hi]
              · rw [List.length_append] at hi
                simp only [List.length_singleton] at hi
                by_cases e : i = row.length
                · rw [e, upd_at, gD_last]
                · rw [upd_ne e, gD_app (by omega)]; exact g2' i (by omega)
              · rcases List.mem_append.mp hx with q | q
                · exact h4 x q
                · rw [List.mem_singleton.mp q]; omega
              · rw [bt_or, bt_shl (by omega) (by omega), hb b' hb']
                by_cases e : b' = k
                · simp [e]
                · simp [e]
      · obtain ⟨rfl, hy⟩ := hy
        cases y with
        | inl s =>
          obtain ⟨q1, q2, fr', q3, q4⟩ := hy
          refine ev_sL (ev_g (by decide) (ev_some ⟨rfl, q1, q2, fr', q3, ?_⟩))
          rw [← n_lit 1] at q4; exact q4
        | inr s =>
          obtain ⟨q1, q2, fr', q3, q4⟩ := hy
          refine ev_sR (ev_g (by decide) (ev_some ⟨rfl, q1, q2, fr', q3, ?_⟩))
          rw [← n_lit 0] at q4; exact q4
