set_option maxRecDepth 100000
/-! Rings: how both look for one -/
def rg_t (f : Nat → Int) (row : List Nat) (rec : List Nat → Option (List Nat)) : Nat → Nat → Option (List Nat)
  | 0, _ => none
  | m + 1, b => if b ∈ row ∨ f (8 * row.getD (row.length - 1) 0 + b) = 0 then rg_t f row rec m (b + 1) else match rec (row ++ [b]) with
    | some r => some r
    | none => rg_t f row rec m (b + 1)
def rg_go (np : Nat) (f : Nat → Int) (many : Nat) : Nat → List Nat → Option (List Nat)
  | 0, _ => none
  | d + 1, row => if row.length = many then (if 0 < f (8 * row.getD (row.length - 1) 0 + row.getD 0 0) then some row else none) else rg_t f row (rg_go np f many d) (np - (row.getD 0 0 + 1)) (row.getD 0 0 + 1)
def rg_a (np : Nat) (f : Nat → Int) (many : Nat) : Nat → Nat → Option (List Nat)
  | 0, _ => none
  | m + 1, a => match rg_go np f many 9 [a] with
    | some r => some r
    | none => rg_a np f many m (a + 1)
def rg_m (np : Nat) (f : Nat → Int) : Nat → Nat → Option (List Nat)
  | 0, _ => none
  | m + 1, many => match rg_a np f many np 0 with
    | some r => some r
    | none => rg_m np f m (many + 1)
/-- the shortest ring, of like ones the first -/
def rg_ring (np : Nat) (f : Nat → Int) : Option (List Nat) := rg_m np f (np - 1) 2
theorem gD_app {row : List Nat} {b i : Nat} (h : i < row.length) : (row ++ [b]).getD i 0 = row.getD i 0 := by
  rw [List.getD_eq_getElem?_getD, List.getD_eq_getElem?_getD, List.getElem?_append_left h]
theorem gD_last (row : List Nat) (b : Nat) : (row ++ [b]).getD row.length 0 = b := by
  rw [List.getD_eq_getElem?_getD, List.getElem?_append_right (Nat.le_refl _)]; simp
theorem gD_lt {row : List Nat} {np : Nat} (h : ∀ x ∈ row, x < np) {i : Nat} (hi : i < row.length) : row.getD i 0 < np := by
  rw [List.getD_eq_getElem?_getD, List.getElem?_eq_getElem hi]; exact h _ (List.getElem_mem hi)
/-- what a search leaves: a row of so many, or none and those that were laid -/
def rh_ (A : Nat → Int32) (many : Nat) (row : List Nat) (o : Option (List Nat)) (r : Int32) : Prop := (∃ res, o = some res ∧ r = n_ 1 ∧ res.length = many ∧ ∀ i, i < many → A i = n_ (res.getD i 0)) ∨ (o = none ∧ r = n_ 0 ∧ ∀ i, i < row.length → A i = n_ (row.getD i 0))
theorem rf_goesRound_rec {np : Nat} (h8 : np ≤ 8) {f : Nat → Int} (hf : ∀ c, c < 64 → 0 ≤ f c ∧ f c < 2147483648) {many : Nat} (hm : many ≤ np) : ∀ (d : Nat) (row : List Nat) (st : MS) (seen : Int32), st.1 5 = n_ np → (∀ c, c < 64 → st.2.1 17 c = q_ (f c)) → (∀ i, i < row.length → st.2.1 18 i = n_ (row.getD i 0)) → 0 < row.length → row.length ≤ many → many + 1 ≤ d + row.length → (∀ x ∈ row, x < np) → (∀ b, b < 8 → bt_ seen b = decide (b ∈ row)) →
    Ev_ (fun n => f_goesRound_rec n d st (n_ row.length) (n_ many) seen) (fun r => ms_ [18] st r.2 ∧ rh_ (r.2.2.1 18) many row (rg_go np f many d row) r.1) := by
  intro d
  induction d with
  | zero => intro row st seen _ _ _ h1 h2 h3; omega
  | succ d ih =>
    intro row st seen h5 h17 h18 h1 h2 h3 h4 hb
    show Ev_ (fun n => f_goesRound_body n st (f_goesRound_rec n d) (n_ row.length) (n_ many) seen) _
    have hfi := gD_lt h4 h1
    have hla := gD_lt h4 (show row.length - 1 < row.length by omega)
    have w0 := h18 0 h1
    have wl := h18 (row.length - 1) (by omega)
    generalize hfv : row.getD 0 0 = fi at *
    generalize hlv : row.getD (row.length - 1) 0 = la at *
    unfold f_goesRound_body
    rw [n_lit 1, n_sub (by omega), n_nat (by omega), z_nat, w0, wl]
    refine ev_g (n_in (by omega) (by omega)) ?_
    refine ev_ifq (c' := row.length = many) (by rw [n_eq (by omega) (by omega)]) (fun c => ?_) (fun c => ?_)
    · refine ev_g (by rw [n_lit 0]; exact n_in (by omega) (by omega)) ?_
      refine ev_bn (fun n => rf_couple n la fi) (ev_g (n_in (by omega) (by omega)) ?_)
      have hfc := hf (8 * la + fi) (by omega)
      rw [n_nat (by omega), h17 _ (by omega)]
      unfold f_goesRound_J39
      have hgo : rg_go np f many (d + 1) row = if 0 < f (8 * la + fi) then some row else none := by
        simp only [rg_go, hfv, hlv]; rw [if_pos c]
      refine ev_ifq (c' := f (8 * la + fi) ≤ 0) (by rw [show (0 : Int32) = q_ 0 from rfl]; exact q_le ⟨by omega, by omega⟩ ⟨by omega, by omega⟩) (fun c2 => ?_) (fun c2 => ?_)
      · rw [hgo, if_neg (by omega), n_lit 0]
        exact ev_g n_01.2 (ev_some ⟨ms_rfl _ _, Or.inr ⟨rfl, rfl, h18⟩⟩)
      · rw [hgo, if_pos (by omega)]
        refine ev_g n_01.1 (ev_some ⟨ms_rfl _ _, Or.inl ⟨row, rfl, rfl, c, fun i hi => h18 i (by omega)⟩⟩)
    · refine ev_g (by rw [n_lit 0]; exact n_in (by omega) (by omega)) ?_
      have hgo : rg_go np f many (d + 1) row = rg_t f row (rg_go np f many d) (np - (fi + 1)) (fi + 1) := by
        simp only [rg_go, hfv]; rw [if_neg c]
      rw [n_add]
      refine ev_b (P := lq_ (fun s => ms_ [18] st s ∧ rh_ (s.2.1 18) many row (rg_go np f many (d + 1) row) (n_ 1)) (fun s => ms_ [18] st s ∧ rh_ (s.2.1 18) many row (rg_go np f many (d + 1) row) (n_ 0))) ?_ (fun y hy => ?_)
      · unfold f_goesRound_L50l
        refine ev_lpg (β := Nat) (fun b => np - b) (fun b y => b ≤ np ∧ fi < b ∧ y.1 = n_ b ∧ ms_ [18] st y.2 ∧ (∀ i, i < row.length → y.2.2.1 18 i = n_ (row.getD i 0)) ∧ rg_t f row (rg_go np f many d) (np - b) b = rg_go np f many (d + 1) row) (fun b y hy => ?_) (fi + 1) _ ⟨by omega, by omega, rfl, ms_rfl _ _, h18, hgo.symm⟩
        obtain ⟨v, s1⟩ := y
        obtain ⟨b1, b2, e0, g1, g2, g3⟩ := hy
        dsimp only at e0 g1 g2 g3 ⊢
        subst e0
        have h51 : s1.1 5 = n_ np := by rw [g1.1]; exact h5
        have h171 : ∀ c, c < 64 → s1.2.1 17 c = q_ (f c) := fun c hc => by rw [g1.2.2 17 (by simp)]; exact h17 c hc
        unfold f_goesRound_L50 f_goesRound_J114
        rw [h51]
        refine ev_ifq (c' := np ≤ b) (by rw [n_le (by omega) (by omega)]) (fun c1 => ?_) (fun c1 => ?_)
        · rw [show np - b = 0 by omega] at g3
          exact ev_some ⟨g1, Or.inr ⟨g3.symm, rfl, g2⟩⟩
        · obtain ⟨m, hm1⟩ : ∃ m, np - b = m + 1 := ⟨np - b - 1, by omega⟩
          have hm2 : np - (b + 1) = m := by omega
          have hidx : n_ b + 1 = n_ (b + 1) := by rw [n_lit 1, n_add]
          rw [hm1] at g3
          simp only [rg_t, hlv] at g3
          refine ev_ifq (bt_test (by omega) seen) (fun c2 => ?_) (fun c2 => ?_)
          · rw [hb b (by omega)] at c2
            have c2' : b ∈ row := by simpa using c2
            rw [if_pos (Or.inl c2')] at g3
            rw [hidx]
            exact ev_some ⟨b + 1, ⟨by omega, by omega, rfl, g1, g2, by rw [hm2]; exact g3⟩, by omega⟩
          · rw [hb b (by omega)] at c2
            have c2' : b ∉ row := by simpa using c2
            refine ev_bn (fun n => rf_couple n la b) (ev_g (n_in (by omega) (by omega)) ?_)
            have hfc := hf (8 * la + b) (by omega)
            rw [n_nat (by omega), h171 _ (by omega)]
            refine ev_ifq (c' := f (8 * la + b) = 0) (by rw [show (0 : Int32) = q_ 0 from rfl]; exact q_eq ⟨by omega, by omega⟩ ⟨by omega, by omega⟩) (fun c3 => ?_) (fun c3 => ?_)
            · rw [if_pos (Or.inr c3)] at g3
              rw [hidx]
              exact ev_some ⟨b + 1, ⟨by omega, by omega, rfl, g1, g2, by rw [hm2]; exact g3⟩, by omega⟩
            · rw [if_neg (fun z => z.elim c2' c3)] at g3
              refine ev_g (n_in (by omega) (by omega)) ?_
              rw [n_nat (by omega), show n_ row.length + 1 = n_ (row ++ [b]).length from by rw [n_lit 1, n_add, List.length_append]; rfl]
              refine ev_b2 (ih (row ++ [b]) (m_sa s1 18 row.length (n_ b)) (seen ||| (1 <<< (n_ b &&& 31))) h51 (fun c hc => by rw [sa_ne _ (by omega)]; exact h171 c hc) (fun i hi => ?_) (by simp) (by simp; omega) (by simp; omega) (fun x hx => ?_) (fun b' hb' => ?_)) (fun r s2 hr => ?_)
              · rw [sa_at]
                rw [List.length_append] at hi
                simp only [List.length_singleton] at hi
                by_cases e : i = row.length
                · rw [e, upd_at, gD_last]
                · rw [upd_ne e, gD_app (by omega)]; exact g2 i (by omega)
              · rcases List.mem_append.mp hx with q | q
                · exact h4 x q
                · rw [List.mem_singleton.mp q]; omega
              · rw [bt_or, bt_shl (by omega) (by omega), hb b' hb']
                by_cases e : b' = b
                · simp [e]
                · simp [e]
              · obtain ⟨k1, k2⟩ := hr
                dsimp only at k1 k2
                rcases k2 with ⟨res, e1, e2, e3, e4⟩ | ⟨e1, e2, e3⟩
                · subst e2
                  rw [e1] at g3
                  refine ev_ifF n_10 (ev_some ⟨ms_tr g1 (ms_tr (ms_sa (by simp) _ _ _) k1), Or.inl ⟨res, g3.symm, rfl, e3, e4⟩⟩)
                · subst e2
                  rw [e1] at g3
                  rw [hidx]
                  refine ev_ifT (n_lit 0).symm (ev_some ⟨b + 1, ⟨by omega, by omega, rfl, ms_tr g1 (ms_tr (ms_sa (by simp) _ _ _) k1), fun i hi => ?_, by rw [hm2]; exact g3⟩, by omega⟩)
                  rw [e3 i (by simp; omega), gD_app hi]
      · cases y with
        | inl s =>
          refine ev_sL ?_
          rw [← n_lit 1]
          exact ev_g (by rw [n_lit 1]; exact n_01.1) (ev_some ⟨hy.1, by rw [n_lit 1]; exact hy.2⟩)
        | inr s =>
          refine ev_sR ?_
          rw [n_lit 0]
          exact ev_g n_01.2 (ev_some hy)
