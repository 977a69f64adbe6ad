set_option maxRecDepth 100000
/-! Rings, on: what is found is a ring -/
/-- a ring's couples -/
def rg_c (row : List Nat) (i : Nat) : Nat := 8 * row.getD i 0 + row.getD ((i + 1) % row.length) 0
def rg_ok (np : Nat) (f : Nat → Int) (row : List Nat) : Prop := 2 ≤ row.length ∧ row.length ≤ np ∧ (∀ x ∈ row, x < np) ∧ row.Nodup ∧ ∀ i, i < row.length → 0 < f (rg_c row i)
def rg_pt (np : Nat) (f : Nat → Int) (row : List Nat) : Prop := 0 < row.length ∧ (∀ x ∈ row, x < np) ∧ row.Nodup ∧ ∀ i, i + 1 < row.length → 0 < f (8 * row.getD i 0 + row.getD (i + 1) 0)
theorem rg_go_ok {np : Nat} (h8 : np ≤ 8) {f : Nat → Int} (hf : ∀ c, c < 64 → 0 ≤ f c) {many : Nat} (hm : 2 ≤ many ∧ many ≤ np) : ∀ (d : Nat) (row res : List Nat), rg_pt np f row → rg_go np f many d row = some res → rg_ok np f res ∧ res.length = many := by
  intro d
  induction d with
  | zero => intro row res _ h; cases h
  | succ d ih =>
    intro row res hp h
    simp only [rg_go] at h
    by_cases c : row.length = many
    · rw [if_pos c] at h
      by_cases c2 : 0 < f (8 * row.getD (row.length - 1) 0 + row.getD 0 0)
      · rw [if_pos c2] at h
        cases h
        refine ⟨⟨by omega, by omega, hp.2.1, hp.2.2.1, fun i hi => ?_⟩, c⟩
        unfold rg_c
        by_cases e : i + 1 = row.length
        · rw [e, Nat.mod_self]
          rw [show i = row.length - 1 by omega]; exact c2
        · rw [Nat.mod_eq_of_lt (by omega)]
          exact hp.2.2.2 i (by omega)
      · rw [if_neg c2] at h; cases h
    · rw [if_neg c] at h
      have key : ∀ (m b : Nat), b + m ≤ np → rg_t f row (rg_go np f many d) m b = some res → rg_ok np f res ∧ res.length = many := by
        intro m
        induction m with
        | zero => intro b _ h; cases h
        | succ m ihm =>
          intro b hb h
          simp only [rg_t] at h
          by_cases c1 : b ∈ row ∨ f (8 * row.getD (row.length - 1) 0 + b) = 0
          · rw [if_pos c1] at h; exact ihm (b + 1) (by omega) h
          · rw [if_neg c1] at h
            cases hg : rg_go np f many d (row ++ [b]) with
            | some r =>
              rw [hg] at h
              cases h
              refine ih (row ++ [b]) res ⟨by simp, fun x hx => ?_, ?_, fun i hi => ?_⟩ hg
              · rcases List.mem_append.mp hx with q | q
                · exact hp.2.1 x q
                · rw [List.mem_singleton.mp q]; omega
              · rw [List.nodup_append]
                refine ⟨hp.2.2.1, by simp, fun x hx y hy => ?_⟩
                rw [List.mem_singleton.mp hy]
                exact fun e => c1 (Or.inl (e ▸ hx))
              · rw [List.length_append] at hi
                simp only [List.length_singleton] at hi
                by_cases e : i + 1 = row.length
                · rw [gD_app (by omega), e, gD_last, show i = row.length - 1 by omega]
                  have hla := gD_lt hp.2.1 (show row.length - 1 < row.length by omega)
                  have h0 := hf (8 * row.getD (row.length - 1) 0 + b) (by omega)
                  have h1 : ¬ f (8 * row.getD (row.length - 1) 0 + b) = 0 := fun z => c1 (Or.inr z)
                  omega
                · rw [gD_app (by omega), gD_app (by omega)]
                  exact hp.2.2.2 i (by omega)
            | none => rw [hg] at h; exact ihm (b + 1) (by omega) h
      have hfi := gD_lt hp.2.1 hp.1
      exact key _ _ (by omega) h
theorem rg_ring_ok {np : Nat} (h8 : np ≤ 8) {f : Nat → Int} (hf : ∀ c, c < 64 → 0 ≤ f c) {res : List Nat} (h : rg_ring np f = some res) : rg_ok np f res := by
  have ka : ∀ (many : Nat), 2 ≤ many ∧ many ≤ np → ∀ (m a : Nat), a + m ≤ np → rg_a np f many m a = some res → rg_ok np f res := by
    intro many hm m
    induction m with
    | zero => intro a _ h; cases h
    | succ m ih =>
      intro a ha h
      simp only [rg_a] at h
      cases hg : rg_go np f many 9 [a] with
      | some r =>
        rw [hg] at h; cases h
        refine (rg_go_ok h8 hf hm 9 [a] res ⟨by simp, fun x hx => ?_, by simp, fun i hi => ?_⟩ hg).1
        · rw [List.mem_singleton.mp hx]; omega
        · simp at hi
      | none => rw [hg] at h; exact ih (a + 1) (by omega) h
  have km : ∀ (m many : Nat), 2 ≤ many → many + m ≤ np + 1 → rg_m np f m many = some res → rg_ok np f res := by
    intro m
    induction m with
    | zero => intro many _ _ h; cases h
    | succ m ih =>
      intro many h2 hn h
      simp only [rg_m] at h
      cases hg : rg_a np f many np 0 with
      | some r => rw [hg] at h; cases h; exact ka many ⟨h2, by omega⟩ np 0 (by omega) hg
      | none => rw [hg] at h; exact ih (many + 1) (by omega) (by omega) h
  unfold rg_ring at h
  by_cases c : np = 0
  · subst c; cases h
  · exact km (np - 1) 2 (by omega) (by omega) h
/-- how a found ring lies in the reference's rows -/
def rr_ (st : MS) (row : List Nat) : Prop := st.1 19 = n_ row.length ∧ ∀ i, i < row.length → st.2.1 18 i = n_ (row.getD i 0)
theorem rf_laysRing {np : Nat} (h8 : np ≤ 8) {f : Nat → Int} (hf : ∀ c, c < 64 → 0 ≤ f c ∧ f c < 2147483648) {st : MS} (h5 : st.1 5 = n_ np) (h17 : ∀ c, c < 64 → st.2.1 17 c = q_ (f c)) : Ev_ (fun n => f_laysRing n st) (fun r => mt_ [19] [18] st r.2 ∧ ((∃ row, rg_ring np f = some row ∧ r.1 = n_ row.length ∧ rr_ r.2 row) ∨ (rg_ring np f = none ∧ r.1 = n_ 0))) := by
  unfold f_laysRing
  refine ev_b (P := lq_ (fun y => mt_ [19] [18] st y.2 ∧ ∃ row, rg_ring np f = some row ∧ y.1 = n_ row.length ∧ rr_ y.2 row) (fun s => mt_ [19] [18] st s ∧ rg_ring np f = none)) ?_ (fun y hy => ?_)
  · unfold f_laysRing_L2l
    refine ev_lpg (β := Nat) (fun many => np + 1 - many) (fun many y => 2 ≤ many ∧ y.1 = n_ many ∧ many < 100 ∧ mt_ [19] [18] st y.2 ∧ rg_m np f (np + 1 - many) many = rg_ring np f) (fun many y hy => ?_) 2 _ ⟨by omega, n_lit 2, by omega, mt_rfl _ _ _, by unfold rg_ring; rfl⟩
    obtain ⟨v, s1⟩ := y
    obtain ⟨b1, e0, b2, g1, g2⟩ := hy
    dsimp only at e0 g1 g2 ⊢
    subst e0
    have h51 : s1.1 5 = n_ np := by rw [g1.1 5 (by simp)]; exact h5
    unfold f_laysRing_L2
    rw [h51]
    refine ev_ifq (c' := np < many) (by rw [n_lt (by omega) (by omega)]) (fun c1 => ?_) (fun c1 => ?_)
    · rw [show np + 1 - many = 0 by omega] at g2
      exact ev_some ⟨g1, g2.symm⟩
    · obtain ⟨m, hm1⟩ : ∃ m, np + 1 - many = m + 1 := ⟨np - many, by omega⟩
      rw [hm1] at g2
      simp only [rg_m] at g2
      refine ev_b (P := lq_ (fun s => mt_ [19] [18] st s ∧ ∃ row, rg_a np f many np 0 = some row ∧ row.length = many ∧ rr_ s row) (fun s => mt_ [19] [18] st s ∧ rg_a np f many np 0 = none)) ?_ (fun y hy => ?_)
      · unfold f_laysRing_L12l
        refine ev_lpg (β := Nat) (fun a => np - a) (fun a y => a ≤ np ∧ y.1 = n_ a ∧ mt_ [19] [18] st y.2 ∧ rg_a np f many (np - a) a = rg_a np f many np 0) (fun a y hy => ?_) 0 _ ⟨by omega, n_lit 0, g1, rfl⟩
        obtain ⟨v, s2⟩ := y
        obtain ⟨a1, e0, k1, k2⟩ := hy
        dsimp only at e0 k1 k2 ⊢
        subst e0
        have h52 : s2.1 5 = n_ np := by rw [k1.1 5 (by simp)]; exact h5
        unfold f_laysRing_L12
        rw [h52]
        refine ev_ifq (c' := np ≤ a) (by rw [n_le (by omega) (by omega)]) (fun c2 => ?_) (fun c2 => ?_)
        · rw [show np - a = 0 by omega] at k2
          exact ev_some ⟨k1, k2.symm⟩
        · obtain ⟨m', hm2⟩ : ∃ m', np - a = m' + 1 := ⟨np - a - 1, by omega⟩
          rw [hm2] at k2
          simp only [rg_a] at k2
          refine ev_g (by rw [n_lit 0]; exact n_in (by omega) (by omega)) ?_
          rw [z_nat, show (1 : Int32) <<< (n_ a &&& 31) = 1 <<< (n_ a &&& 31) from rfl]
          have key := rf_goesRound_rec h8 hf (many := many) (by omega) 9 [a] (m_sg (m_sa s2 18 0 (n_ a)) 19 (n_ many)) (1 <<< (n_ a &&& 31)) (by rw [sg_ne _ (by omega)]; exact h52) (fun c hc => by show (m_sa s2 18 0 (n_ a)).2.1 17 c = _; rw [sa_ne _ (by omega), k1.2.2 17 (by simp)]; exact h17 c hc) (fun i hi => by
            have : i = 0 := by simp at hi; exact hi
            subst this
            show (m_sa s2 18 0 (n_ a)).2.1 18 0 = _
            rw [sa_at, upd_at]; rfl) (by simp) (by simp; omega) (by simp; omega) (fun x hx => by rw [List.mem_singleton.mp hx]; omega) (fun b hb => by rw [bt_shl (by omega) (by omega)]; simp)
          have e1 : (n_ [a].length) = (1 : Int32) := (n_lit 1).symm
          rw [e1] at key
          refine ev_b2 key (fun r s3 hr => ?_)
          obtain ⟨q1, q2⟩ := hr
          dsimp only at q1 q2
          have m3 : mt_ [19] [18] st s3 := mt_tr k1 (mt_tr (mt_tr (mt_of (ms_sa (by simp) _ _ _)) (mt_sg (by simp) _ _)) (mt_of q1))
          rcases q2 with ⟨res, z1, z2, z3, z4⟩ | ⟨z1, z2, z3⟩
          · subst z2
            rw [z1] at k2
            refine ev_ifF n_10 (ev_some ⟨m3, res, k2.symm, z3, ?_, fun i hi => z4 i (by omega)⟩)
            rw [q1.1, sg_at, z3]
          · subst z2
            rw [z1] at k2
            refine ev_ifT (n_lit 0).symm ?_
            rw [show n_ a + 1 = n_ (a + 1) from by rw [n_lit 1, n_add]]
            exact ev_some ⟨a + 1, ⟨by omega, rfl, m3, by rw [show np - (a + 1) = m' by omega]; exact k2⟩, by omega⟩
      · cases y with
        | inl s =>
          obtain ⟨k1, row, k2, k3, k4⟩ := hy
          rw [k2] at g2
          exact ev_sL (ev_some ⟨k1, row, g2.symm, by rw [k3], k4⟩)
        | inr s =>
          obtain ⟨k1, k2⟩ := hy
          rw [k2] at g2
          refine ev_sR ?_
          rw [show n_ many + 1 = n_ (many + 1) from by rw [n_lit 1, n_add]]
          exact ev_some ⟨many + 1, ⟨by omega, rfl, by omega, k1, by rw [show np + 1 - (many + 1) = m by omega]; exact g2⟩, by omega⟩
  · cases y with
    | inl y => exact ev_sL (ev_some ⟨hy.1, Or.inl hy.2⟩)
    | inr s => exact ev_sR (ev_some ⟨mt_tr hy.1 (mt_sg (by simp) _ _), Or.inr ⟨hy.2, n_lit 0⟩⟩)
