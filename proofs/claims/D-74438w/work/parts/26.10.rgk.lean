set_option maxRecDepth 100000
/-! The reference takes a ring -/
def tr_am (t : Tr_) (v : Int) : Tr_ := (t.1, t.2.1, v, t.2.2.2.1, t.2.2.2.2)
/-- trades of a couple have so much less, the latest first: over the list turned round -/
def lr_ (k c : Nat) : List Tr_ → Int → List Tr_
  | [], _ => []
  | t :: r, left => if left ≤ 0 then t :: r else if tr_fr k t = true ∧ 8 * t.1 + t.2.1 = c then (if t.2.2.1 ≤ left then lr_ k c r (left - t.2.2.1) else tr_am t (t.2.2.1 - left) :: r) else t :: lr_ k c r left
def ls_ (k c : Nat) (l : List Tr_) (left : Int) : List Tr_ := (lr_ k c l.reverse left).reverse
theorem lr_0 (k c : Nat) (r : List Tr_) {left : Int} (h : left ≤ 0) : lr_ k c r left = r := by
  cases r with
  | nil => rfl
  | cons t r => simp only [lr_]; rw [if_pos h]
theorem rf_V_amt {s : SS_} {A : Nat → Int32} (h : rf_V s A) (h40 : s.1.length ≤ 40) {t : Nat} (ht : t < s.1.length) (v : Int) : rf_V (s.1.set t (tr_am (s.1[t]) v), s.2.1, s.2.2) (upd A (2 + 5 * t + 2) (q_ v)) := by
  refine ⟨by rw [upd_ne (by omega), List.length_set]; exact h.1, by rw [upd_ne (by omega)]; exact h.2.1, fun i hi => ?_, fun k hk => by rw [upd_ne (by omega)]; exact h.2.2.2 k hk⟩
  rw [List.length_set] at hi
  have hi' := h.2.2.1 i hi
  rw [List.getElem_set]
  by_cases c : t = i
  · subst c
    rw [if_pos rfl, upd_ne (by omega), upd_ne (by omega), upd_at, upd_ne (by omega), upd_ne (by omega)]
    exact ⟨hi'.1, hi'.2.1, rfl, hi'.2.2.2.1, hi'.2.2.2.2⟩
  · rw [if_neg c, upd_ne (by omega), upd_ne (by omega), upd_ne (by omega), upd_ne (by omega), upd_ne (by omega)]
    exact hi'
theorem rf_takeRing_64 {l : List Tr_} {caps : Nat → Int} {mode : Nat} {st : MS} (hV : rf_V (l, caps, mode) (st.2.1 0)) (h40 : l.length ≤ 40) (hl : ∀ t ∈ l, t.1 < 8 ∧ t.2.1 < 8 ∧ t.2.2.2.1 < 4 ∧ 0 < t.2.2.1 ∧ t.2.2.1 < 2147483648) {k : Nat} (hk : k < 4) {row : List Nat} (rr : rr_ st row) (h2 : 2 ≤ row.length) (h8 : row.length ≤ 8) (hrow : ∀ x ∈ row, x < 8) {i : Nat} (hi : i < row.length) {left0 : Int} (hl0 : 0 ≤ left0 ∧ left0 < 2147483648) (v2 : Int32) :
    Ev_ (fun n => f_takeRing_L64l n (n_ k) v2 (n_ i) (q_ left0, q_ ((l.length : Int) - 1), st)) (fun s => ms_ [0] st s ∧ rf_V (ls_ k (rg_c row i) l left0, caps, mode) (s.2.1 0)) := by
  have hcl := (rg_c_lt (np := 8) (by omega) h2 hrow hi).1
  unfold f_takeRing_L64l
  refine ev_lpg (β := Nat × List Tr_ × Int) (fun b => b.1) (fun b y => b.1 ≤ l.length ∧ (l.take b.1 ++ b.2.1).length ≤ 40 ∧ (0 ≤ b.2.2 ∧ b.2.2 < 2147483648) ∧ ls_ k (rg_c row i) (l.take b.1) b.2.2 ++ b.2.1 = ls_ k (rg_c row i) l left0 ∧ y.1 = q_ b.2.2 ∧ y.2.1 = q_ ((b.1 : Int) - 1) ∧ ms_ [0] st y.2.2 ∧ rf_V (l.take b.1 ++ b.2.1, caps, mode) (y.2.2.2.1 0) ∧ ∀ t ∈ b.2.1, t.2.2.2.1 < 4) (fun b y hb => ?_) (l.length, [], left0) _ ⟨by dsimp only; omega, by dsimp only; rw [List.take_length, List.append_nil]; exact h40, hl0, by dsimp only; rw [List.take_length, List.append_nil], rfl, rfl, ms_rfl _ _, by dsimp only; rw [List.take_length, List.append_nil]; exact hV, fun t ht => by cases ht⟩
  obtain ⟨m, suf, left⟩ := b
  obtain ⟨v4, v5, s1⟩ := y
  obtain ⟨b1, b2, b3, b4, e1, e2, g1, g2, g3⟩ := hb
  dsimp only at b1 b2 b3 b4 e1 e2 g1 g2 g3 ⊢
  subst e1; subst e2
  unfold f_takeRing_L64
  refine ev_ifq (c' := m = 0) (by rw [show (0 : Int32) = q_ 0 from rfl, q_lt ⟨by omega, by omega⟩ ⟨by omega, by omega⟩]; omega) (fun c0 => ?_) (fun c0 => ?_)
  · subst c0
    refine ev_some ⟨g1, ?_⟩
    rw [← b4]
    simpa [ls_, lr_] using g2
  · refine ev_ifq (c' := left ≤ 0) (by rw [show (0 : Int32) = q_ 0 from rfl]; exact q_le ⟨by omega, by omega⟩ ⟨by omega, by omega⟩) (fun c1 => ?_) (fun c1 => ?_)
    · refine ev_some ⟨g1, ?_⟩
      rw [← b4]
      unfold ls_
      rw [lr_0 _ _ _ c1, List.reverse_reverse]; exact g2
    · obtain ⟨t, rfl⟩ : ∃ t, m = t + 1 := ⟨m - 1, by omega⟩
      have ht : t < l.length := by omega
      have hlen : (l.take t).length = t := by rw [List.length_take]; omega
      have htake : l.take (t + 1) ++ suf = l.take t ++ l[t] :: suf := by rw [List.take_succ_eq_append_getElem ht, List.append_assoc]; rfl
      rw [htake] at g2 b2
      have hit := hl _ (List.getElem_mem ht)
      have ets : ((t + 1 : Nat) : Int) - 1 = (t : Int) := by omega
      rw [ets, ← n_q]
      have htl : t < (l.take t ++ l[t] :: suf).length := by simp only [List.length_append, List.length_cons, hlen]; omega
      have hget : (l.take t ++ l[t] :: suf)[t]'htl = l[t] := by rw [List.getElem_append_right (by omega)]; simp [hlen]
      have hV1 := g2.2.2.1 t htl
      have hV1' : s1.2.1 0 (2 + 5 * t) = n_ (l[t]).1 ∧ s1.2.1 0 (2 + 5 * t + 1) = n_ (l[t]).2.1 ∧ s1.2.1 0 (2 + 5 * t + 2) = q_ (l[t]).2.2.1 := by
        have e0 := hV1
        dsimp only at e0
        rw [hget] at e0
        exact ⟨e0.1, e0.2.1, e0.2.2.1⟩
      obtain ⟨w1, w2, w3⟩ := hV1'
      have hfree : ∀ n, f_isFree n s1 (n_ t) (n_ k) = some (b_ (tr_fr k (l[t]) = true)) := fun n => by
        rw [rf_isFree n (s := (l.take t ++ l[t] :: suf, caps, mode)) g2 b2 (nk := 4) (fun x hx => by
          have hx' : x ∈ l.take t ++ l[t] :: suf := hx
          rcases List.mem_append.mp hx' with q | q
          · exact (hl x (List.mem_of_mem_take q)).2.2.1
          · rcases List.mem_cons.mp q with q | q
            · rw [q]; exact hit.2.2.1
            · exact g3 x q) (by omega) hk htl]
        exact congrArg (fun z => some (b_ (tr_fr k z = true))) hget
      have hidx : n_ t + -1 = q_ ((t : Int) - 1) := by rw [m1_q, n_q, q_add]; congr 1
      have hrr1 : rr_ s1 row := ⟨by rw [g1.1]; exact rr.1, fun j hj => by rw [g1.2.2 18 (by simp)]; exact rr.2 j hj⟩
      have ht40 : t < 40 := by simp only [List.length_append, List.length_cons, hlen] at b2; omega
      have hrev : (l.take (t + 1)).reverse = l[t] :: (l.take t).reverse := by rw [List.take_succ_eq_append_getElem ht, List.reverse_append]; rfl
      unfold ls_ at b4
      rw [hrev] at b4
      simp only [lr_] at b4
      rw [if_neg c1] at b4
      -- nothing of this one
      have skip : ¬ (tr_fr k (l[t]) = true ∧ 8 * (l[t]).1 + (l[t]).2.1 = rg_c row i) → Ev_ (fun n => f_takeRing_J179 n s1 (n_ k) v2 (n_ i) (q_ left) (n_ t)) (lq_ (fun s' => ∃ b' : Nat × List Tr_ × Int, (b'.1 ≤ l.length ∧ (l.take b'.1 ++ b'.2.1).length ≤ 40 ∧ (0 ≤ b'.2.2 ∧ b'.2.2 < 2147483648) ∧ ls_ k (rg_c row i) (l.take b'.1) b'.2.2 ++ b'.2.1 = ls_ k (rg_c row i) l left0 ∧ s'.1 = q_ b'.2.2 ∧ s'.2.1 = q_ ((b'.1 : Int) - 1) ∧ ms_ [0] st s'.2.2 ∧ rf_V (l.take b'.1 ++ b'.2.1, caps, mode) (s'.2.2.2.1 0) ∧ ∀ t ∈ b'.2.1, t.2.2.2.1 < 4) ∧ b'.1 < t + 1) (fun s => ms_ [0] st s ∧ rf_V (ls_ k (rg_c row i) l left0, caps, mode) (s.2.1 0))) := fun hn => by
        unfold f_takeRing_J179
        rw [hidx]
        rw [if_neg hn] at b4
        refine ev_some ⟨(t, l[t] :: suf, left), ⟨by dsimp only; omega, b2, b3, ?_, rfl, rfl, g1, g2, fun x hx => ?_⟩, by dsimp only; omega⟩
        · dsimp only
          unfold ls_
          rw [← b4, List.reverse_cons, List.append_assoc]; rfl
        · rcases List.mem_cons.mp hx with q | q
          · rw [q]; exact hit.2.2.1
          · exact g3 x q
      refine ev_bn hfree ?_
      simp only [m_ifb]
      by_cases c2 : tr_fr k (l[t]) = true
      · simp only [if_pos c2]
        refine ev_bn (fun n => (rf_tA0 n ht40).trans (by rw [w1])) (ev_bn (fun n => (rf_tA1 n ht40).trans (by rw [w2])) ?_)
        refine ev_bn (fun n => rf_couple n _ _) (ev_bn (fun n => rf_coupleOf n hrr1 h2 h8 hi) ?_)
        refine ev_ifq (c' := 8 * (l[t]).1 + (l[t]).2.1 = rg_c row i) (by rw [n_eq (by omega) (by omega)]) (fun c3 => ?_) (fun c3 => skip (fun z => c3 z.2))
        rw [if_pos ⟨c2, c3⟩] at b4
        have hA2 : ∀ n, f_tradeAt n s1 (n_ t) 2 = some (q_ (l[t]).2.2.1) := fun n => by rw [n_lit 2, rf_tradeAt n ht40 (by omega), w3]
        refine ev_bn hA2 ?_
        have hVa := fun v => rf_V_amt (s := (l.take t ++ l[t] :: suf, caps, mode)) g2 b2 htl v
        have hset : ∀ v, (l.take t ++ l[t] :: suf).set t (tr_am ((l.take t ++ l[t] :: suf)[t]'htl) v) = l.take t ++ tr_am (l[t]) v :: suf := fun v => by
          rw [hget, List.set_append_right _ _ (by omega), hlen, Nat.sub_self, List.set_cons_zero]
        have core : ∀ dd : Int, 0 < dd → dd ≤ (l[t]).2.2.1 → dd ≤ left → (dd = (l[t]).2.2.1 ∨ dd = left) → Ev_ (fun n => f_takeRing_J136 n s1 (n_ k) v2 (n_ i) (q_ left) (n_ t) (q_ dd)) (lq_ (fun s' => ∃ b' : Nat × List Tr_ × Int, (b'.1 ≤ l.length ∧ (l.take b'.1 ++ b'.2.1).length ≤ 40 ∧ (0 ≤ b'.2.2 ∧ b'.2.2 < 2147483648) ∧ ls_ k (rg_c row i) (l.take b'.1) b'.2.2 ++ b'.2.1 = ls_ k (rg_c row i) l left0 ∧ s'.1 = q_ b'.2.2 ∧ s'.2.1 = q_ ((b'.1 : Int) - 1) ∧ ms_ [0] st s'.2.2 ∧ rf_V (l.take b'.1 ++ b'.2.1, caps, mode) (s'.2.2.2.1 0) ∧ ∀ t ∈ b'.2.1, t.2.2.2.1 < 4) ∧ b'.1 < t + 1) (fun s => ms_ [0] st s ∧ rf_V (ls_ k (rg_c row i) l left0, caps, mode) (s.2.1 0))) := fun dd d0 d1 d2 d3 => by
          unfold f_takeRing_J136 f_takeRing_J179
          rw [n_lit 2, n_lit 5, n_mul, n_add, n_add]
          refine ev_g (n_in (by omega) (by omega)) (ev_g (n_in (by omega) (by omega)) ?_)
          rw [n_nat (by omega), w3, q_sub, q_sub, hidx]
          have hA3 : ∀ n, f_tradeAt n (m_sa s1 0 (2 + 5 * t + 2) (q_ ((l[t]).2.2.1 - dd))) (n_ t) (n_ 2) = some (q_ ((l[t]).2.2.1 - dd)) := fun n => by rw [rf_tradeAt n ht40 (by omega), sa_at, upd_at]
          refine ev_bn hA3 ?_
          have hVs : rf_V (l.take t ++ tr_am (l[t]) ((l[t]).2.2.1 - dd) :: suf, caps, mode) ((m_sa s1 0 (2 + 5 * t + 2) (q_ ((l[t]).2.2.1 - dd))).2.1 0) := by
            have := hVa ((l[t]).2.2.1 - dd)
            dsimp only at this
            rw [hset] at this
            rw [sa_at]; exact this
          have hLs : (l.take t ++ tr_am (l[t]) ((l[t]).2.2.1 - dd) :: suf).length ≤ 40 := by simp only [List.length_append, List.length_cons] at b2 ⊢; exact b2
          refine ev_ifq (c' := (l[t]).2.2.1 - dd = 0) (by rw [show (0 : Int32) = q_ 0 from rfl]; exact q_eq ⟨by omega, by omega⟩ ⟨by omega, by omega⟩) (fun c5 => ?_) (fun c5 => ?_)
          · have hgo := rf_goes (s := (l.take t ++ tr_am (l[t]) ((l[t]).2.2.1 - dd) :: suf, caps, mode)) hVs hLs (t := t) (by show t < (l.take t ++ tr_am (l[t]) ((l[t]).2.2.1 - dd) :: suf).length; simp only [List.length_append, List.length_cons, hlen]; omega)
            have e3 : (l.take t ++ tr_am (l[t]) ((l[t]).2.2.1 - dd) :: suf).eraseIdx t = l.take t ++ suf := by
              have := er_mid (l.take t) (tr_am (l[t]) ((l[t]).2.2.1 - dd)) suf
              rw [hlen] at this; exact this
            refine ev_b hgo (fun s2 hs2 => ?_)
            have hV2 := hs2.2
            dsimp only at hV2
            rw [e3] at hV2
            rw [if_pos (by omega)] at b4
            refine ev_some ⟨(t, suf, left - dd), ⟨by dsimp only; omega, ?_, by dsimp only; omega, ?_, rfl, rfl, ms_tr g1 (ms_tr (ms_sa (by simp) _ _ _) hs2.1), hV2, g3⟩, by dsimp only; omega⟩
            · dsimp only; simp only [List.length_append, List.length_cons] at b2 ⊢; omega
            · dsimp only; unfold ls_; rw [← b4, show left - dd = left - (l[t]).2.2.1 by omega]
          · have hdl : dd = left := by omega
            rw [if_neg (by omega)] at b4
            refine ev_some ⟨(t, tr_am (l[t]) ((l[t]).2.2.1 - dd) :: suf, left - dd), ⟨by dsimp only; omega, hLs, by dsimp only; omega, ?_, rfl, rfl, ms_tr g1 (ms_sa (by simp) _ _ _), hVs, fun x hx => ?_⟩, by dsimp only; omega⟩
            · dsimp only
              unfold ls_
              rw [lr_0 _ _ _ (by omega), ← b4, List.reverse_reverse, List.reverse_cons, List.reverse_reverse, List.append_assoc, hdl]; rfl
            · rcases List.mem_cons.mp hx with q | q
              · rw [q]; exact hit.2.2.1
              · exact g3 x q
        refine ev_ifq (c' := left ≤ (l[t]).2.2.1) (q_le ⟨by omega, by omega⟩ ⟨by omega, by omega⟩) (fun c4 => ?_) (fun c4 => ?_)
        · exact core left (by omega) c4 (Int.le_refl _) (Or.inr rfl)
        · exact ev_bn hA2 (core _ (by omega) (Int.le_refl _) (by omega) (Or.inl rfl))
      · simp only [if_neg c2]
        exact skip (fun z => c2 z.1)
