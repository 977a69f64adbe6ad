set_option maxRecDepth 100000
/-! The reference reads: numbers, names -/
def er_ (st : MS) (e : Nat × Nat) (st' : MS) : Prop := mt_ [12, 13, 14, 16] [] st st' ∧ st'.1 13 = n_ e.1 ∧ st'.1 14 = n_ e.2
def okk_ (st : MS) (T : Nat → Int32) (n b e : Nat) (st' : MS) : Prop := mt_ [12, 16] [] st st' ∧ rdp_ T n e st' ∧ st'.1 16 = n_ b
theorem rf_fails (m : Nat) {st : MS} (h13 : st.1 13 = 0) (x y : Int32) : f_fails m st x y = some (m_sg (m_sg st 13 x) 14 y) := by
  unfold f_fails; rw [ef_T h13]
theorem rf_failsE (m : Nat) {st : MS} (h13 : ¬ st.1 13 = 0) (x y : Int32) : f_fails m st x y = some st := by
  unfold f_fails; rw [ef_F h13]
theorem er_of {st s : MS} {fs : List Nat} (m : mt_ fs [] st s) (hf : ∀ k ∈ fs, k ∈ [12, 13, 14, 16]) (k p : Nat) : er_ st (k, p) (m_sg (m_sg s 13 (n_ k)) 14 (n_ p)) := by
  refine ⟨mt_tr (mt_sub m hf (by simp)) (mt_tr (mt_sg (by simp) _ _) (mt_sg (by simp) _ _)), ?_, sg_at _ _ _⟩
  rw [sg_ne _ (by omega), sg_at]
theorem rf_numeralE (m : Nat) {st : MS} (h13 : ¬ st.1 13 = 0) (x y : Int32) : f_numeral m st x y = some (x, st) := by
  unfold f_numeral; rw [ef_F h13]
theorem rf_numeral {T : Nat → Int32} {n i : Nat} {st : MS} (h : rdp_ T n i st) (h13 : st.1 13 = 0) {lo hi : Int} (hlo : qf_ lo) (hhi : qf_ hi) : Ev_ (fun m => f_numeral m st (q_ lo) (q_ hi)) (fun r => match rdD_ T n lo hi i with
    | .inl e => er_ st e r.2
    | .inr v => okk_ st T n v.2.1 v.2.2 r.2 ∧ r.1 = q_ v.1) := by
  unfold f_numeral
  refine ev_ifT h13 ?_
  refine ev_b2 (rf_peek h) (fun r s hr => ?_)
  obtain ⟨m1, r1, a1, a2, a3, a4⟩ := hr
  dsimp only at m1 r1 a1 a2 a3 a4
  have hsn := (sk_le (T := T) h.2.2.1).2
  have h900 := h.2.2.2.1
  unfold rdD_
  generalize sk_ T n i = b at *
  obtain ⟨l1, l2, l3, l4⟩ := de_at (T := T) hsn
  refine ev_bn (fun m => rf_isDigit m r) ?_
  simp only [m_ifb, a2]
  have s13 : s.1 13 = 0 := by rw [m1.1 13 (by simp)]; exact h13
  by_cases c : b < n ∧ isD_ (T b) = true
  · have hne : ¬ de_ T n b = b := fun q => by
      have := l4 (by omega)
      rw [q, c.2] at this
      cases this
    simp only [decide_eq_true c.1, c.2, Bool.and_self, if_true, if_neg hne]
    generalize de_ T n b = e at *
    refine ev_b (P := fun y => mt_ [12, 16] [] st y.2 ∧ rdp_ T n e y.2 ∧ y.2.1 16 = n_ b ∧ y.1 = q_ (nv_ T b (min 8 (e - b)))) ?_ (fun y hy => ?_)
    · unfold f_numeral_L40l
      have m2 : mt_ [12, 16] [] s (m_sg s 16 (s.1 12)) := mt_sg (by simp) _ _
      refine ev_for (e - b) (fun (k : Nat) (y : Int32 × MS) => mt_ [12, 16] [] st y.2 ∧ rdp_ T n (b + k) y.2 ∧ y.2.1 16 = n_ b ∧ y.1 = q_ (nv_ T b (min 8 k))) (fun k y hk hP => ?_) (fun y hP => ?_) _ ⟨mt_tr (mt_sub m1 (by simp) (by simp)) m2, rdp_mt r1 m2 (by simp) (by rw [sg_ne _ (by omega)]; exact r1.2.1) hsn, by rw [sg_at]; exact r1.2.1, rfl⟩
      · obtain ⟨v, s1⟩ := y
        obtain ⟨g1, g2, g3, g4⟩ := hP
        dsimp only at g1 g2 g3 g4 ⊢
        subst g4
        have m3 : mt_ [12, 16] [] s1 (m_sg s1 12 (n_ (b + (k + 1)))) := mt_sg (by simp) _ _
        refine ev_eq (r := .inl (q_ (nv_ T b (min 8 (k + 1))), m_sg s1 12 (n_ (b + (k + 1))))) (fun m => ?_) ⟨_, rfl, mt_tr g1 m3, rdp_mt g2 m3 (by simp) (sg_at _ _ _) (by omega), by rw [sg_ne _ (by omega)]; exact g3, rfl⟩
        unfold f_numeral_L40 f_numeral_J98
        rw [g2.1, g2.2.1, g3, ef_F (by rw [n_le (by omega) (by omega)]; omega), n_in (show b + k < 900 by omega) (by omega), m_gT, n_nat (by omega), g2.2.2.2.2.1 _ (by omega), rf_isDigit, m_bs, m_ifb, if_pos (l3 _ (by omega) (by omega)), n_sub (show b ≤ b + k by omega), show b + k - b = k by omega, show n_ (b + k) + 1 = n_ (b + (k + 1)) from by rw [n_lit 1, n_add]; rfl]
        by_cases c8 : 8 ≤ k
        · rw [ef_T (by rw [n_lit 8, n_le (by omega) (by omega)]; exact c8), show min 8 (k + 1) = min 8 k by omega]
        · rw [ef_F (by rw [n_lit 8, n_le (by omega) (by omega)]; exact c8), m_gT, show min 8 (k + 1) = k + 1 by omega, show min 8 k = k by omega, m_bs]
          have e1 : T (b + k) = q_ (T (b + k)).toInt := (Int32.ofInt_toInt _).symm
          rw [e1, show (10 : Int32) = q_ 10 from rfl, show (48 : Int32) = q_ 48 from rfl, q_mul, q_add, q_sub]
          rfl
      · obtain ⟨v, s1⟩ := y
        obtain ⟨g1, g2, g3, g4⟩ := hP
        dsimp only at g1 g2 g3 g4 ⊢
        subst g4
        rw [show b + (e - b) = e by omega] at g2
        refine ev_eq (r := .inr (q_ (nv_ T b (min 8 (e - b))), s1)) (fun m => ?_) ⟨_, rfl, g1, g2, g3, rfl⟩
        unfold f_numeral_L40
        rw [g2.1, g2.2.1]
        by_cases c1 : e < n
        · rw [ef_F (by rw [n_le (by omega) (by omega)]; omega), n_in (show e < 900 by omega) (by omega), m_gT, n_nat (by omega), g2.2.2.2.2.1 _ c1, rf_isDigit, m_bs, m_ifb, if_neg (by rw [l4 c1]; decide)]
        · rw [ef_T (by rw [n_le (by omega) (by omega)]; omega)]
    · obtain ⟨v, s1⟩ := y
      obtain ⟨g1, g2, g3, g4⟩ := hy
      dsimp only at g1 g2 g3 g4 ⊢
      subst g4
      have hnv := nv_le (T := T) (b := b) (min 8 (e - b)) (fun j hj => l3 _ (by omega) (by omega))
      have h8p : (10 : Int) ^ (min 8 (e - b)) ≤ 10 ^ 8 := by exact_mod_cast Nat.pow_le_pow_right (show 10 > 0 by omega) (show min 8 (e - b) ≤ 8 by omega)
      have h108 : (10 : Int) ^ 8 = 100000000 := by decide
      generalize nv_ T b (min 8 (e - b)) = v at *
      have s1z : s1.1 13 = 0 := by rw [g1.1 13 (by simp)]; exact h13
      unfold f_numeral_J137 f_numeral_J146 f_numeral_J158
      have bad : Ev_ (fun m => m_b (f_fails m s1 2 (s1.1 16)) (fun s22 => m_if ((s22.1 13 : Int32) = 0) (some (q_ v, s22)) (some (q_ lo, s22)))) (fun r => er_ st (2, b) r.2) := by
        refine ev_bn (fun m => rf_fails m s1z _ _) ?_
        rw [g3, n_lit 2]
        have he := er_of g1 (by simp) 2 b
        refine ev_ifF (fun q => ?_) (ev_some he)
        rw [he.2.1] at q
        exact absurd q (by decide : ¬ n_ 2 = 0)
      rw [g2.2.1, g3, n_sub l1]
      refine ev_ifq (c' := 8 < e - b) (by rw [n_lit 8, n_lt (by omega) (by omega)]) (fun c1 => ?_) (fun c1 => ?_)
      · simp only [if_pos (Or.inl c1 : 8 < e - b ∨ ¬ (lo ≤ v ∧ v ≤ hi))]
        rw [g3] at bad; exact bad
      · have hin : ∀ m, f_isIn m (q_ v).toInt64 (q_ lo).toInt64 (q_ hi).toInt64 = some (b_ (lo ≤ v ∧ v ≤ hi)) := fun m => by
          rw [rf_isIn, q_64 hlo, q_64 hhi, q_64 (i := v) ⟨by omega, by omega⟩]
        refine ev_bn hin ?_
        simp only [m_ifb]
        by_cases c2 : lo ≤ v ∧ v ≤ hi
        · simp only [if_pos c2, if_neg (show ¬ (8 < e - b ∨ ¬ (lo ≤ v ∧ v ≤ hi)) from fun q => by rcases q with q | q <;> contradiction)]
          exact ev_ifT s1z (ev_some ⟨⟨g1, g2, g3⟩, rfl⟩)
        · simp only [if_neg c2, if_pos (Or.inr c2 : 8 < e - b ∨ ¬ (lo ≤ v ∧ v ≤ hi))]
          rw [g3] at bad; exact bad
  · have hc : (decide (b < n) && isD_ (T b)) = false := by
      by_cases c1 : b < n
      · rw [decide_eq_true c1, Bool.true_and]
        have : ¬ isD_ (T b) = true := fun q => c ⟨c1, q⟩
        simpa using this
      · rw [decide_eq_false c1, Bool.false_and]
    have he : de_ T n b = b := by
      rcases Nat.lt_or_ge b (de_ T n b) with q | q
      · exact absurd ⟨by omega, l3 b (Nat.le_refl _) q⟩ c
      · omega
    simp only [hc, Bool.false_eq_true, if_false, if_pos he]
    refine ev_bn (fun m => rf_fails m s13 _ _) ?_
    rw [r1.2.1, n_lit 1]
    exact ev_some (er_of m1 (by simp) 1 b)
/-! names -/
theorem l_sh8 (N : Int) {c : Nat} (hc : c < 256) : (Int64.ofInt N <<< ((8 : Int32).toInt64 &&& 63)) ||| (n_ c).toInt64 = Int64.ofInt (256 * N + c) := by
  have e1 : ((8 : Int32).toInt64 &&& 63) = (8 : Int64) := by decide
  have e2 : (n_ c).toInt64 = Int64.ofInt (c : Int) := by
    apply Int64.toInt_inj.mp
    rw [Int32.toInt_toInt64, n_toInt (by omega), Int64.toInt_ofInt_of_le (by omega) (by omega)]
  rw [e1, e2, Int64.ofInt_add, Int64.ofInt_mul]
  apply Int64.toBitVec_inj.mp
  rw [Int64.toBitVec_or, Int64.toBitVec_shiftLeft, Int64.toBitVec_add, Int64.toBitVec_mul]
  have e3 : (8 : Int64).toBitVec.smod 64 = 8#64 := by decide
  rw [e3, BitVec.shiftLeft_eq']
  have e4 : (8#64).toNat = 8 := by decide
  rw [e4]
  have hz : ((Int64.ofInt N).toBitVec <<< 8) &&& (Int64.ofInt (c : Int)).toBitVec = 0#64 := by
    apply BitVec.eq_of_getLsbD_eq
    intro i hi
    rw [BitVec.getLsbD_and, BitVec.getLsbD_shiftLeft, BitVec.getLsbD_zero]
    by_cases q : i < 8
    · simp [q]
    · have hb : (Int64.ofInt (c : Int)).toBitVec.getLsbD i = false := by
        have et : (Int64.ofInt (c : Int)).toBitVec.toNat = c := by
          show (BitVec.ofInt 64 (c : Int)).toNat = c
          rw [BitVec.toNat_ofInt]
          omega
        unfold BitVec.getLsbD
        rw [et]
        exact Nat.testBit_lt_two_pow (Nat.lt_of_lt_of_le hc (Nat.pow_le_pow_right (n := 2) (by omega) (show 8 ≤ i by omega)))
      rw [hb, Bool.and_false]
  rw [← BitVec.add_eq_or_of_and_eq_zero _ _ hz, BitVec.shiftLeft_eq_mul_twoPow, BitVec.mul_comm]
  rfl
theorem nm_take {w : List Nat} {k : Nat} (hk : k < w.length) : nm_ (w.take (k + 1)) 0 = 256 * nm_ (w.take k) 0 + (w.getD k 0 : Nat) := by
  rw [List.take_succ_eq_append_getElem hk, nm_app, List.getD_eq_getElem?_getD, List.getElem?_eq_getElem hk]; rfl
theorem rf_nameReadE (m : Nat) {st : MS} (h13 : ¬ st.1 13 = 0) : f_nameRead m st = some (0, st) := by
  unfold f_nameRead; rw [ef_F h13]
theorem rf_nameRead {T : Nat → Int32} {n i : Nat} {st : MS} (h : rdp_ T n i st) (h13 : st.1 13 = 0) : Ev_ (fun m => f_nameRead m st) (fun r => match rdN_ T n i with
    | .inl e => er_ st e r.2
    | .inr v => okk_ st T n v.2.1 v.2.2 r.2 ∧ r.1 = Int64.ofInt (nm_ v.1 0) ∧ nm_ok v.1) := by
  unfold f_nameRead
  refine ev_ifT h13 ?_
  refine ev_b2 (rf_peek h) (fun r s hr => ?_)
  obtain ⟨m1, r1, a1, a2, a3, a4⟩ := hr
  dsimp only at m1 r1 a1 a2 a3 a4
  have hsn := (sk_le (T := T) h.2.2.1).2
  have hsi := sk_id (T := T) h.2.2.1
  have h900 := h.2.2.2.1
  unfold rdN_ rdW_ pb_
  generalize sk_ T n i = b at *
  obtain ⟨l1, l2, l3, l4⟩ := le_at (T := T) hsn
  have s13 : s.1 13 = 0 := by rw [m1.1 13 (by simp)]; exact h13
  have bad : ∀ s2, mt_ [12] [] st s2 → rdp_ T n b s2 → Ev_ (fun m => f_nameRead_J36 m s2) (fun r => er_ st (1, b) r.2) := fun s2 m2 r2 => by
    unfold f_nameRead_J36
    refine ev_bn (fun m => rf_fails m (by rw [m2.1 13 (by simp)]; exact h13) _ _) ?_
    rw [r2.2.1, n_lit 1]
    exact ev_some (er_of m2 (by simp) 1 b)
  refine ev_bn (fun m => rf_isLetter m r) ?_
  simp only [m_ifb, a1]
  by_cases c : b < n ∧ isL_ (T b) = true
  · have hlt : b < le_ T n b := by
      rcases Nat.lt_or_ge b (le_ T n b) with q | q
      · exact q
      · have e : le_ T n b = b := by omega
        have := l4 (by omega)
        rw [e, c.2] at this
        cases this
    simp only [decide_eq_true c.1, c.2, Bool.and_self, if_true]
    refine ev_b (rf_lettersHere r1) (fun r11 hr11 => ?_)
    subst hr11
    refine ev_ifq (c' := 8 < le_ T n b - b) (by rw [n_lit 8, n_lt (by omega) (by omega)]) (fun c8 => ?_) (fun c8 => ?_)
    · rw [if_neg (by omega)]
      exact bad s m1 r1
    · rw [if_pos (by omega)]
      dsimp only
      refine ev_b2 (rf_wordHere r1 s13) (fun r14 s15 h15 => ?_)
      rw [hsi] at h15
      obtain ⟨m2, r2, e2⟩ := h15
      dsimp only at m2 r2 e2
      subst e2
      have mm := mt_tr m1 m2
      unfold wh_
      by_cases ck : kwi_ (wd_ T b (le_ T n b)) < 6
      · rw [if_pos ck, if_pos ⟨c.1, c.2, ck⟩]
        refine ev_ifF ?_ (bad s15 mm r2)
        rw [m1_q, n_q, q_eq' (by omega) (by omega) (by omega) (by omega)]
        omega
      · rw [if_neg ck, if_neg (fun q => ck q.2.2)]
        refine ev_ifT (by rw [m1_q]) ?_
        have m3 : mt_ [12, 16] [] s15 (m_sg s15 16 (s15.1 12)) := mt_sg (by simp) _ _
        have r3 : rdp_ T n b (m_sg s15 16 (s15.1 12)) := rdp_mt r2 m3 (by simp) (by rw [sg_ne _ (by omega)]; exact r2.2.1) hsn
        have e16 : (m_sg s15 16 (s15.1 12)).1 16 = n_ b := by rw [sg_at]; exact r2.2.1
        have mm3 := mt_tr (mt_sub (fs' := [12, 16]) (ks' := []) mm (by simp) (by simp)) m3
        generalize m_sg s15 16 (s15.1 12) = s3 at *
        refine ev_b (rf_lettersHere r3) (fun r18 hr18 => ?_)
        subst hr18
        generalize hw : wd_ T b (le_ T n b) = w at *
        have wl : w.length = le_ T n b - b := by rw [← hw, wd_len]
        have wg : ∀ k, k < le_ T n b - b → w.getD k 0 = (T (b + k)).toInt.toNat ∧ T (b + k) = n_ (w.getD k 0) ∧ 97 ≤ w.getD k 0 ∧ w.getD k 0 ≤ 122 := fun k hk => by
          have g1 : w.getD k 0 = (T (b + k)).toInt.toNat := by rw [← hw, wd_get hk]
          have g2 := isL_n (l3 (b + k) (by omega) (by omega))
          refine ⟨g1, by rw [g1]; exact g2.1, by omega, by omega⟩
        refine ev_b (P := fun y => y = (Int64.ofInt (nm_ w 0), s3)) ?_ (fun y hy => ?_)
        · unfold f_nameRead_L65l
          refine ev_for (le_ T n b - b) (fun (k : Nat) (y : Int64 × Int32 × MS) => y = (Int64.ofInt (nm_ (w.take k) 0), n_ k, s3)) (fun k y hk hP => ?_) (fun y hP => ?_) _ (by rw [n_lit 0]; rfl)
          · subst hP
            obtain ⟨g1, g2, g3, g4⟩ := wg k hk
            refine ev_eq (r := .inl (Int64.ofInt (nm_ (w.take (k + 1)) 0), n_ (k + 1), s3)) (fun m => ?_) ⟨_, rfl, rfl⟩
            unfold f_nameRead_L65
            dsimp only
            rw [r3.2.1, n_add, ef_F (by rw [n_le (by omega) (by omega)]; omega), n_in (show b + k < 900 by omega) (by omega), m_gT, n_nat (by omega), r3.2.2.2.2.1 _ (by omega), g2, l_sh8 _ (by omega), m_bs, ← nm_take (by omega), show n_ k + 1 = n_ (k + 1) from by rw [n_lit 1, n_add]]
          · subst hP
            refine ev_eq (r := .inr (Int64.ofInt (nm_ w 0), s3)) (fun m => ?_) ⟨_, rfl, rfl⟩
            unfold f_nameRead_L65
            dsimp only
            rw [ef_T (by rw [n_le (by omega) (by omega)]; omega), ← wl, List.take_length]
        · subst hy
          dsimp only
          rw [r3.2.1, n_add, show b + (le_ T n b - b) = le_ T n b by omega]
          have m4 : mt_ [12, 16] [] s3 (m_sg s3 12 (n_ (le_ T n b))) := mt_sg (by simp) _ _
          refine ev_some ⟨⟨mt_tr mm3 m4, rdp_mt r3 m4 (by simp) (sg_at _ _ _) l2, by rw [sg_ne _ (by omega)]; exact e16⟩, rfl, by omega, by omega, fun x hx => ?_⟩
          obtain ⟨k, hk, ek⟩ := List.getElem_of_mem hx
          have := wg k (by omega)
          rw [List.getD_eq_getElem?_getD, List.getElem?_eq_getElem hk] at this
          simp only [Option.getD_some, ek] at this
          omega
  · have hc : (decide (b < n) && isL_ (T b)) = false := by
      by_cases c1 : b < n
      · rw [decide_eq_true c1, Bool.true_and]
        have : ¬ isL_ (T b) = true := fun q => c ⟨c1, q⟩
        simpa using this
      · rw [decide_eq_false c1, Bool.false_and]
    have he : le_ T n b = b := by
      rcases Nat.lt_or_ge b (le_ T n b) with q | q
      · exact absurd ⟨by omega, l3 b (Nat.le_refl _) q⟩ c
      · omega
    simp only [hc, Bool.false_eq_true, if_false]
    rw [if_neg (by omega)]
    exact bad s m1 r1
