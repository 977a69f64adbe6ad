set_option maxRecDepth 100000
/-! The reference reads: blanks, letters, words -/
def tb_ (T : Nat → Int32) (n : Nat) : Prop := ∀ x, x < n → -128 ≤ (T x).toInt ∧ (T x).toInt ≤ 127
theorem b255' : ∀ k : Fin 256, (isL_ (Int32.ofInt ((k.val : Int) - 128) &&& 255) = isL_ (Int32.ofInt ((k.val : Int) - 128))) ∧ (isD_ (Int32.ofInt ((k.val : Int) - 128) &&& 255) = isD_ (Int32.ofInt ((k.val : Int) - 128))) ∧ ((Int32.ofInt ((k.val : Int) - 128) &&& 255 = 59) ↔ (Int32.ofInt ((k.val : Int) - 128) = 59)) ∧ ¬ (Int32.ofInt ((k.val : Int) - 128) &&& 255 = -1) := by decide +kernel
theorem b255 {c : Int32} (h1 : -128 ≤ c.toInt) (h2 : c.toInt ≤ 127) : isL_ (c &&& 255) = isL_ c ∧ isD_ (c &&& 255) = isD_ c ∧ ((c &&& 255 = 59) ↔ (c = 59)) ∧ ¬ (c &&& 255 = -1) := by
  have := b255' ⟨(c.toInt + 128).toNat, by omega⟩
  have e : Int32.ofInt ((((c.toInt + 128).toNat : Nat) : Int) - 128) = c := by
    rw [show (((c.toInt + 128).toNat : Nat) : Int) - 128 = c.toInt by omega, Int32.ofInt_toInt]
  dsimp only at this
  rw [e] at this
  exact this
theorem rf_isLetter (n : Nat) (c : Int32) : f_isLetter n c = some (b_ (isL_ c = true)) := by
  unfold f_isLetter
  rw [rf_isIn, m_bs, b_01, m_gT, Int32.toInt_toInt64]
  unfold isL_ b_
  simp only [decide_eq_true_eq]
  rfl
theorem rf_isDigit (n : Nat) (c : Int32) : f_isDigit n c = some (b_ (isD_ c = true)) := by
  unfold f_isDigit
  rw [rf_isIn, m_bs, b_01, m_gT, Int32.toInt_toInt64]
  unfold isD_ b_
  simp only [decide_eq_true_eq]
  rfl
/-- where one reads -/
def rdp_ (T : Nat → Int32) (n i : Nat) (st : MS) : Prop := st.1 11 = n_ n ∧ st.1 12 = n_ i ∧ i ≤ n ∧ n ≤ 900 ∧ (∀ x, x < n → st.2.1 9 x = T x) ∧ tb_ T n
theorem rdp_mt {T : Nat → Int32} {n i j : Nat} {st st' : MS} {fs : List Nat} (h : rdp_ T n i st) (m : mt_ fs [] st st') (h11 : 11 ∉ fs) (h12 : st'.1 12 = n_ j) (hj : j ≤ n) : rdp_ T n j st' :=
  ⟨by rw [m.1 11 h11]; exact h.1, h12, hj, h.2.2.2.1, fun x hx => by rw [m.2.2 9 (by simp)]; exact h.2.2.2.2.1 x hx, h.2.2.2.2.2⟩
theorem rf_peek {T : Nat → Int32} {n i : Nat} {st : MS} (h : rdp_ T n i st) : Ev_ (fun m => f_peek m st) (fun r => mt_ [12] [] st r.2 ∧ rdp_ T n (sk_ T n i) r.2 ∧ isL_ r.1 = (decide (sk_ T n i < n) && isL_ (T (sk_ T n i))) ∧ isD_ r.1 = (decide (sk_ T n i < n) && isD_ (T (sk_ T n i))) ∧ ((r.1 = 59) ↔ (sk_ T n i < n ∧ T (sk_ T n i) = 59)) ∧ ((r.1 = -1) ↔ sk_ T n i = n)) := by
  obtain ⟨h11, h12, hi, hn, hT, hb⟩ := id h
  obtain ⟨s1, s2⟩ := sk_le (T := T) hi
  obtain ⟨s3, s4⟩ := sk_at (T := T) hi
  generalize hb0 : sk_ T n i = b at *
  unfold f_peek
  refine ev_b (P := fun s => mt_ [12] [] st s ∧ rdp_ T n b s) ?_ (fun s hs => ?_)
  · unfold f_peek_L0l
    refine ev_for (b - i) (fun (k : Nat) (y : MS) => mt_ [12] [] st y ∧ rdp_ T n (i + k) y) (fun k y hk hP => ?_) (fun y hP => ?_) _ ⟨mt_rfl _ _ _, h⟩
    · obtain ⟨m1, r1⟩ := hP
      have m2 : mt_ [12] [] y (m_sg y 12 (n_ (i + (k + 1)))) := mt_sg (by simp) _ _
      refine ev_eq (r := .inl (m_sg y 12 (n_ (i + (k + 1))))) (fun m => ?_) ⟨_, rfl, mt_tr m1 m2, rdp_mt r1 m2 (by simp) (sg_at _ _ _) (by omega)⟩
      unfold f_peek_L0
      rw [r1.1, r1.2.1, ef_F (by rw [n_le (by omega) (by omega)]; omega), n_in (show i + k < 900 by omega) (by omega), m_gT, n_nat (by omega), r1.2.2.2.2.1 _ (by omega), s3 (i + k) (by omega) (by omega), ef_T rfl, show n_ (i + k) + 1 = n_ (i + (k + 1)) from by rw [n_lit 1, n_add]; rfl]
    · obtain ⟨m1, r1⟩ := hP
      rw [show i + (b - i) = b by omega] at r1
      refine ev_eq (r := .inr y) (fun m => ?_) ⟨_, rfl, m1, r1⟩
      unfold f_peek_L0
      rw [r1.1, r1.2.1]
      by_cases c : b < n
      · rw [ef_F (by rw [n_le (by omega) (by omega)]; omega), n_in (show b < 900 by omega) (by omega), m_gT, n_nat (by omega), r1.2.2.2.2.1 _ c, ef_F (s4 c)]
      · rw [ef_T (by rw [n_le (by omega) (by omega)]; omega)]
  · obtain ⟨m1, r1⟩ := hs
    unfold f_peek_J66
    rw [r1.1, r1.2.1]
    refine ev_ifq (c' := ¬ b < n) (by rw [n_le (by omega) (by omega)]; omega) (fun c => ?_) (fun c => ?_)
    · refine ev_some ⟨m1, r1, ?_, ?_, ?_, ?_⟩
      · rw [decide_eq_false c, Bool.false_and]; exact (by decide : isL_ (-1) = false)
      · rw [decide_eq_false c, Bool.false_and]; exact (by decide : isD_ (-1) = false)
      · exact ⟨fun q => absurd q (by decide : ¬ (-1 : Int32) = 59), fun q => absurd q.1 c⟩
      · exact ⟨fun _ => by omega, fun _ => rfl⟩
    · have c : b < n := Classical.not_not.mp c
      refine ev_g (n_in (by omega) (by omega)) ?_
      rw [n_nat (by omega), r1.2.2.2.2.1 _ c]
      obtain ⟨a1, a2, a3, a4⟩ := b255 (hb b c).1 (hb b c).2
      refine ev_some ⟨m1, r1, ?_, ?_, ?_, ?_⟩
      · rw [decide_eq_true c, Bool.true_and]; exact a1
      · rw [decide_eq_true c, Bool.true_and]; exact a2
      · exact a3.trans ⟨fun q => ⟨c, q⟩, fun q => q.2⟩
      · exact ⟨fun q => absurd q a4, fun q => by omega⟩
theorem rf_lettersHere {T : Nat → Int32} {n b : Nat} {st : MS} (h : rdp_ T n b st) : Ev_ (fun m => f_lettersHere m st) (fun r => r = n_ (le_ T n b - b)) := by
  obtain ⟨h11, h12, hi, hn, hT, hb⟩ := h
  obtain ⟨l1, l2, l3, l4⟩ := le_at (T := T) hi
  unfold f_lettersHere
  refine ev_b (P := fun r => r = n_ (le_ T n b - b)) ?_ (fun r hr => ev_some hr)
  unfold f_lettersHere_L2l
  refine ev_for (le_ T n b - b) (fun (k : Nat) (y : Int32) => y = n_ k) (fun k y hk hP => ?_) (fun y hP => ?_) _ (n_lit 0)
  · subst hP
    refine ev_eq (r := .inl (n_ (k + 1))) (fun m => ?_) ⟨_, rfl, rfl⟩
    unfold f_lettersHere_L2
    rw [h11, h12, n_add, ef_F (by rw [n_le (by omega) (by omega)]; omega), n_in (show b + k < 900 by omega) (by omega), m_gT, n_nat (by omega), hT _ (by omega), rf_isLetter, m_bs, m_ifb, if_pos (l3 _ (by omega) (by omega)), show n_ k + 1 = n_ (k + 1) from by rw [n_lit 1, n_add]]
  · subst hP
    refine ev_eq (r := .inr (n_ (le_ T n b - b))) (fun m => ?_) ⟨_, rfl, rfl⟩
    unfold f_lettersHere_L2
    rw [h11, h12, n_add, show b + (le_ T n b - b) = le_ T n b by omega]
    by_cases c : le_ T n b < n
    · rw [ef_F (by rw [n_le (by omega) (by omega)]; omega), n_in (show le_ T n b < 900 by omega) (by omega), m_gT, n_nat (by omega), hT _ c, rf_isLetter, m_bs, m_ifb, if_neg (by rw [l4 c]; decide)]
    · rw [ef_T (by rw [n_le (by omega) (by omega)]; omega)]
/-! the words -/
def kst_ (j : Nat) : Nat := [1, 7, 12, 18, 23, 27, 32].getD j 0
def kln_ (j : Nat) : Nat := (kw_.getD j []).length
theorem kw_1 : ∀ j : Fin 6, kst_ (j.val + 1) = kst_ j.val + kln_ j.val + 1 ∧ kst_ j.val < 32 ∧ kst_ j.val + kln_ j.val < 32 ∧ m_kch (kst_ j.val + kln_ j.val) = 32 ∧ kln_ j.val ≤ 5 := by decide +kernel
theorem kw_2 : ∀ j : Fin 6, ∀ i : Fin 5, i.val < kln_ j.val → m_kch (kst_ j.val + i.val) = n_ ((kw_.getD j.val []).getD i.val 0) ∧ ¬ m_kch (kst_ j.val + i.val) = 32 ∧ (kw_.getD j.val []).getD i.val 0 < 256 := by decide +kernel
theorem gD_ext {l l' : List Nat} (h : l.length = l'.length) (he : ∀ i, i < l.length → l.getD i 0 = l'.getD i 0) : l = l' := by
  apply List.ext_getElem h
  intro i h1 h2
  have := he i h1
  rwa [List.getD_eq_getElem?_getD, List.getD_eq_getElem?_getD, List.getElem?_eq_getElem h1, List.getElem?_eq_getElem h2] at this
theorem isL_n {c : Int32} (h : isL_ c = true) : c = n_ c.toInt.toNat ∧ 97 ≤ c.toInt ∧ c.toInt ≤ 122 := by
  have := of_decide_eq_true h
  exact ⟨n_of (by omega), this.1, this.2⟩
theorem rf_word76 {T : Nat → Int32} {n b e : Nat} {st : MS} (h : rdp_ T n b st) (he : b ≤ e ∧ e ≤ n) (hl : ∀ x, b ≤ x → x < e → isL_ (T x) = true) {j : Nat} (hj : j < 6) (v2 v4 : Int32) (f0 : Bool) (hf : f0 = true ↔ kln_ j = e - b) : Ev_ (fun m => f_wordHere_L76l m (n_ (e - b)) v2 (n_ (kst_ j)) v4 (if f0 then 1 else 0, 0, st)) (fun r => r.2 = st ∧ ((r.1 = 0) ↔ kw_.getD j [] ≠ wd_ T b e)) := by
  obtain ⟨h11, h12, hi, hn, hT, hb⟩ := h
  obtain ⟨k1, k2, k3, k4, k5⟩ := kw_1 ⟨j, hj⟩
  dsimp only at k1 k2 k3 k4 k5
  have hlen : (wd_ T b e).length = e - b := wd_len _ _ _
  have o0 : ¬ ((1 : Int32) = 0) := by decide
  cases f0 with
  | false =>
    have hne : kw_.getD j [] ≠ wd_ T b e := fun q => by
      have : kln_ j = e - b := by unfold kln_; rw [q, hlen]
      exact absurd (hf.mpr this) (by decide)
    unfold f_wordHere_L76l
    refine ev_for 0 (fun (k : Nat) (y : Int32 × Int32 × MS) => y = (0, 0, st)) (fun k y hk _ => absurd hk (Nat.not_lt_zero _)) (fun y hP => ?_) _ rfl
    subst hP
    refine ev_eq (r := .inr (0, st)) (fun m => ?_) ⟨_, rfl, rfl, fun _ => hne, fun _ => rfl⟩
    unfold f_wordHere_L76
    dsimp only
    rw [ef_T (rfl : (0 : Int32) = 0)]
    by_cases c : n_ (e - b) ≤ 0
    · rw [ef_T c]
    · rw [ef_F c]
  | true =>
    have hm : kln_ j = e - b := hf.mp rfl
    unfold f_wordHere_L76l
    refine ev_lpg (β := Nat) (fun i => e - b + 1 - i) (fun i (y : Int32 × Int32 × MS) => y.2.1 = n_ i ∧ y.2.2 = st ∧ i ≤ e - b ∧ ((y.1 = 1 ∧ ∀ x, x < i → (kw_.getD j []).getD x 0 = (wd_ T b e).getD x 0) ∨ (y.1 = 0 ∧ kw_.getD j [] ≠ wd_ T b e))) (fun i y hP => ?_) 0 _ ⟨n_lit 0, rfl, Nat.zero_le _, Or.inl ⟨rfl, fun x hx => absurd hx (Nat.not_lt_zero _)⟩⟩
    obtain ⟨v5, v6, s⟩ := y
    obtain ⟨e0, e1, g1, g2⟩ := hP
    dsimp only at e0 e1 g2 ⊢
    subst e0; subst e1
    unfold f_wordHere_L76 f_wordHere_J116
    refine ev_ifq (c' := e - b ≤ i) (by rw [n_le (by omega) (by omega)]) (fun c1 => ?_) (fun c1 => ?_)
    · refine ev_some ⟨rfl, ?_⟩
      rcases g2 with ⟨rfl, g2⟩ | ⟨rfl, g2⟩
      · refine ⟨fun q => absurd q o0, fun q => absurd (gD_ext (by rw [hlen]; exact hm) (fun x hx => g2 x ?_)) q⟩
        have : x < kln_ j := hx
        omega
      · exact ⟨fun _ => g2, fun _ => rfl⟩
    · rcases g2 with ⟨rfl, g2⟩ | ⟨rfl, g2⟩
      · refine ev_ifF o0 ?_
        obtain ⟨q1, q2, q3⟩ := kw_2 ⟨j, hj⟩ ⟨i, by omega⟩ (show i < kln_ j by omega)
        dsimp only at q1 q2 q3
        rw [n_add, h12, n_add]
        refine ev_g (n_in (by omega) (by omega)) (ev_g (n_in (by omega) (by omega)) ?_)
        have hLi := isL_n (hl (b + i) (by omega) (by omega))
        rw [n_nat (by omega), n_nat (by omega), hT _ (by omega), q1, hLi.1, show n_ i + 1 = n_ (i + 1) from by rw [n_lit 1, n_add], ← wd_get (T := T) (b := b) (e := e) (show i < e - b by omega)]
        have hwb : (wd_ T b e).getD i 0 < 256 := by rw [wd_get (by omega)]; omega
        refine ev_ifq (c' := (kw_.getD j []).getD i 0 = (wd_ T b e).getD i 0) (by rw [n_eq (by omega) (by omega)]) (fun c2 => ?_) (fun c2 => ?_)
        · exact ev_some ⟨i + 1, ⟨rfl, rfl, by omega, Or.inl ⟨rfl, fun x hx => by
            by_cases ex : x = i
            · rw [ex]; exact c2
            · exact g2 x (by omega)⟩⟩, by omega⟩
        · exact ev_some ⟨i + 1, ⟨rfl, rfl, by omega, Or.inr ⟨rfl, fun q => c2 (by rw [q])⟩⟩, by omega⟩
      · refine ev_ifT rfl (ev_some ⟨rfl, fun _ => g2, fun _ => rfl⟩)
theorem rf_word40 {j : Nat} (hj : j < 6) (v1 v2 : Int32) (st : MS) : Ev_ (fun m => f_wordHere_L40l m v1 v2 (n_ (kst_ j)) (n_ (kst_ j), st)) (fun r => r = (n_ (kst_ j + kln_ j), st)) := by
  obtain ⟨k1, k2, k3, k4, k5⟩ := kw_1 ⟨j, hj⟩
  dsimp only at k1 k2 k3 k4 k5
  unfold f_wordHere_L40l
  refine ev_for (kln_ j) (fun (k : Nat) (y : Int32 × MS) => y = (n_ (kst_ j + k), st)) (fun k y hk hP => ?_) (fun y hP => ?_) _ rfl
  · subst hP
    obtain ⟨q1, q2, q3⟩ := kw_2 ⟨j, hj⟩ ⟨k, by omega⟩ (show k < kln_ j from hk)
    dsimp only at q1 q2 q3
    refine ev_eq (r := .inl (n_ (kst_ j + (k + 1)), st)) (fun m => ?_) ⟨_, rfl, rfl⟩
    unfold f_wordHere_L40
    dsimp only
    rw [n_in (by omega) (by omega), m_gT, n_nat (by omega), ef_F q2, show n_ (kst_ j + k) + 1 = n_ (kst_ j + (k + 1)) from by rw [n_lit 1, n_add]; rfl]
  · subst hP
    refine ev_eq (r := .inr (n_ (kst_ j + kln_ j), st)) (fun m => ?_) ⟨_, rfl, rfl⟩
    unfold f_wordHere_L40
    dsimp only
    rw [n_in (by omega) (by omega), m_gT, n_nat (by omega), k4, ef_T rfl]
/-- which of the words stands at b -/
def wh_ (T : Nat → Int32) (n b : Nat) : Int32 := if b < n ∧ isL_ (T b) = true ∧ kwi_ (wd_ T b (le_ T n b)) < 6 then n_ (kwi_ (wd_ T b (le_ T n b))) else q_ (-1)
theorem rf_wordHere {T : Nat → Int32} {n i : Nat} {st : MS} (h : rdp_ T n i st) (h13 : st.1 13 = 0) : Ev_ (fun m => f_wordHere m st) (fun r => mt_ [12] [] st r.2 ∧ rdp_ T n (sk_ T n i) r.2 ∧ r.1 = wh_ T n (sk_ T n i)) := by
  unfold f_wordHere f_wordHere_J17
  refine ev_ifT h13 ?_
  refine ev_b2 (rf_peek h) (fun r s hr => ?_)
  obtain ⟨m1, r1, a1, a2, a3, a4⟩ := hr
  dsimp only at m1 r1 a1 a2 a3 a4
  have hsn := (sk_le (T := T) h.2.2.1).2
  generalize sk_ T n i = b at *
  refine ev_bn (fun m => rf_isLetter m r) ?_
  simp only [m_ifb, a1]
  by_cases c : b < n ∧ isL_ (T b) = true
  · simp only [decide_eq_true c.1, c.2, Bool.and_self, if_true]
    refine ev_b (rf_lettersHere r1) (fun r9 hr9 => ?_)
    subst hr9
    obtain ⟨l1, l2, l3, l4⟩ := le_at (T := T) hsn
    obtain ⟨f1, f2, f3, f4⟩ := fi_spec (fun j => decide (kw_.getD j [] = wd_ T b (le_ T n b))) 6 0
    have hJ : fi_ (fun j => decide (kw_.getD j [] = wd_ T b (le_ T n b))) 6 0 = kwi_ (wd_ T b (le_ T n b)) := rfl
    rw [hJ] at f1 f2 f3 f4
    have h900 := r1.2.2.2.1
    unfold wh_
    generalize kwi_ (wd_ T b (le_ T n b)) = J at *
    refine ev_b (P := fun y => y = if J < 6 then .inl (n_ J, s) else .inr s) ?_ (fun y hy => ?_)
    · unfold f_wordHere_L28l
      refine ev_for J (fun (j : Nat) (y : Int32 × Int32 × MS) => y = (n_ j, n_ (kst_ j), s)) (fun j y hj hP => ?_) (fun y hP => ?_) _ (by rw [n_lit 0]; rfl)
      · subst hP
        have hj6 : j < 6 := by omega
        obtain ⟨k1, k2, k3, k4, k5⟩ := kw_1 ⟨j, hj6⟩
        dsimp only at k1 k2 k3 k4 k5
        have hno := f3 j (by omega) hj
        simp at hno
        unfold f_wordHere_L28
        dsimp only
        refine ev_ifF (by rw [n_lit 32, n_le (by omega) (by omega)]; omega) ?_
        refine ev_b (rf_word40 hj6 _ _ s) (fun y2 hy2 => ?_)
        subst hy2
        dsimp only
        rw [n_sub (show kst_ j ≤ kst_ j + kln_ j by omega), show kst_ j + kln_ j - kst_ j = kln_ j by omega]
        have goal : ∀ f0 : Bool, (f0 = true ↔ kln_ j = le_ T n b - b) → Ev_ (fun m => f_wordHere_J71 m s (n_ (le_ T n b - b)) (n_ j) (n_ (kst_ j)) (n_ (kst_ j + kln_ j)) (if f0 then 1 else 0)) (fun r => ∃ s', r = .inl s' ∧ s' = (n_ (j + 1), n_ (kst_ (j + 1)), s)) := fun f0 hf => by
          unfold f_wordHere_J71
          refine ev_b (rf_word76 r1 ⟨l1, l2⟩ l3 hj6 (n_ j) (n_ (kst_ j + kln_ j)) f0 hf) (fun y3 hy3 => ?_)
          obtain ⟨q1, q2⟩ := hy3
          refine ev_ifT (q2.mpr (by simpa using hno)) ?_
          rw [q1, show n_ j + 1 = n_ (j + 1) from by rw [n_lit 1, n_add], show n_ (kst_ j + kln_ j) + 1 = n_ (kst_ (j + 1)) from by rw [n_lit 1, n_add, k1]]
          exact ev_some ⟨_, rfl, rfl⟩
        refine ev_ifq (c' := kln_ j = le_ T n b - b) (by rw [n_eq (by omega) (by omega)]) (fun c2 => ?_) (fun c2 => ?_)
        · exact goal true ⟨fun _ => c2, fun _ => rfl⟩
        · exact goal false ⟨fun q => absurd q (by decide), fun q => absurd q c2⟩
      · subst hP
        by_cases cJ : J < 6
        · rw [if_pos cJ]
          obtain ⟨k1, k2, k3, k4, k5⟩ := kw_1 ⟨J, cJ⟩
          dsimp only at k1 k2 k3 k4 k5
          have hyes := f4 (by omega)
          simp at hyes
          unfold f_wordHere_L28
          dsimp only
          refine ev_ifF (by rw [n_lit 32, n_le (by omega) (by omega)]; omega) ?_
          refine ev_b (rf_word40 cJ _ _ s) (fun y2 hy2 => ?_)
          subst hy2
          dsimp only
          have hl : kln_ J = le_ T n b - b := by
            have : kln_ J = (wd_ T b (le_ T n b)).length := by unfold kln_; rw [← hyes]; simp
            rw [this, wd_len]
          rw [n_sub (show kst_ J ≤ kst_ J + kln_ J by omega), show kst_ J + kln_ J - kst_ J = kln_ J by omega]
          refine ev_ifT (by rw [n_eq (by omega) (by omega)]; exact hl) ?_
          unfold f_wordHere_J71
          refine ev_b (rf_word76 r1 ⟨l1, l2⟩ l3 cJ (n_ J) (n_ (kst_ J + kln_ J)) true ⟨fun _ => hl, fun _ => rfl⟩) (fun y3 hy3 => ?_)
          obtain ⟨q1, q2⟩ := hy3
          refine ev_ifF (fun q => (q2.mp q) (by simpa using hyes)) ?_
          rw [q1]
          exact ev_some ⟨_, rfl, rfl⟩
        · rw [if_neg cJ]
          have e6 : J = 6 := by omega
          subst e6
          unfold f_wordHere_L28
          dsimp only
          exact ev_ifT (by decide) (ev_some ⟨_, rfl, rfl⟩)
    · subst hy
      by_cases cJ : J < 6
      · rw [if_pos cJ]
        exact ev_some ⟨m1, r1, by rw [if_pos ⟨c.1, c.2, cJ⟩]⟩
      · rw [if_neg cJ]
        exact ev_some ⟨m1, r1, by rw [if_neg (fun q => cJ q.2.2), m1_q]⟩
  · have hc : (decide (b < n) && isL_ (T b)) = false := by
      by_cases c1 : b < n
      · rw [decide_eq_true c1, Bool.true_and]
        have : ¬ isL_ (T b) = true := fun q => c ⟨c1, q⟩
        simpa using this
      · rw [decide_eq_false c1, Bool.false_and]
    simp only [hc, Bool.false_eq_true, if_false]
    refine ev_some ⟨m1, r1, ?_⟩
    unfold wh_
    rw [if_neg (fun q => c ⟨q.1, q.2.1⟩), m1_q]
