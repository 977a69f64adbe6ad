set_option maxRecDepth 100000
/-! A name's bytes out of a long; the reference puts a name -/
theorem n64_and : ∀ k : Fin 64, ((Int32.ofNat k.val).toInt64 &&& 63) = Int64.ofNat k.val := by decide
theorem n64_smod : ∀ k : Fin 64, (Int64.ofNat k.val).toBitVec.smod 64#64 = BitVec.ofNat 64 k.val := by decide
theorem l_shr {k : Nat} (hk : k < 64) (x : Int64) : (x >>> ((n_ k).toInt64 &&& 63)).toInt = x.toInt / 2 ^ k := by
  have h1 : (x >>> ((n_ k).toInt64 &&& 63)).toBitVec = x.toBitVec.sshiftRight k := by
    rw [show n_ k = Int32.ofNat k from Int32.ofInt_eq_ofNat, n64_and ⟨k, hk⟩, Int64.toBitVec_shiftRight]
    have h2 : (Int64.ofNat k).toBitVec.smod 64 = BitVec.ofNat 64 k := n64_smod ⟨k, hk⟩
    rw [h2, BitVec.sshiftRight_eq', BitVec.toNat_ofNat, Nat.mod_eq_of_lt (by omega)]
  show (x >>> ((n_ k).toInt64 &&& 63)).toBitVec.toInt = x.toBitVec.toInt / 2 ^ k
  rw [h1, BitVec.toInt_sshiftRight, Int.shiftRight_eq_div_pow]
  simp
theorem l_and255 {x : Int64} (h : 0 ≤ x.toInt) : (x &&& 255).toInt = x.toInt % 256 := by
  have hx : x.toBitVec.toNat = x.toInt.toNat := by
    have h' : 0 ≤ x.toBitVec.toInt := h
    have := BitVec.toInt_eq_toNat_cond x.toBitVec
    show _ = x.toBitVec.toInt.toNat
    have l := x.toBitVec.isLt
    split at this <;> omega
  have e : (x &&& 255).toBitVec.toNat = x.toInt.toNat % 256 := by
    rw [Int64.toBitVec_and, BitVec.toNat_and, hx]
    exact Nat.and_two_pow_sub_one_eq_mod _ 8
  show (x &&& 255).toBitVec.toInt = _
  rw [BitVec.toInt_eq_toNat_cond, e, if_pos (by omega)]
  omega
theorem l_byte {N : Int} (h0 : 0 ≤ N) (h1 : N < 9223372036854775808) {k : Nat} (hk : k < 64) : ((Int64.ofInt N >>> ((n_ k).toInt64 &&& 63)) &&& 255).toInt = (N / 2 ^ k) % 256 := by
  have e : (Int64.ofInt N).toInt = N := Int64.toInt_ofInt_of_le (by omega) h1
  have e2 := l_shr hk (Int64.ofInt N)
  rw [e] at e2
  rw [l_and255 (by rw [e2]; exact Int.ediv_nonneg h0 (Int.pow_nonneg (by omega))), e2]
theorem cmp_0 (x : Int64) : (lg_cmp x 0 = (0 : Int32)) ↔ x.toInt = 0 := by
  constructor
  · intro h
    have a : ¬ lg_cmp x 0 < (0 : Int32) := by rw [h]; decide
    have b : ¬ (0 : Int32) < lg_cmp x 0 := by rw [h]; decide
    rw [cmp_lt] at a
    rw [cmp_gt] at b
    have : (0 : Int64).toInt = 0 := rfl
    omega
  · intro h
    have : x = 0 := Int64.toInt_inj.mp h
    subst this
    unfold lg_cmp
    rw [if_neg (by decide), if_pos rfl]
theorem l_toI {x : Int64} (h0 : 0 ≤ x.toInt) (h1 : x.toInt < 256) : x.toInt32 = n_ x.toInt.toNat := by
  apply Int32.toInt_inj.mp
  rw [Int64.toInt_toInt32, n_toInt (by omega)]
  show Int.bmod _ _ = _
  rw [Int.bmod_eq_of_le (by omega) (by omega)]
  omega
theorem pw256 (j : Nat) : (2 : Int) ^ (8 * j) = 256 ^ j := by rw [Int.pow_mul]; rfl
theorem rf_putsName {st : MS} {bs w : List Nat} (h : pt_ st bs) (hw : nm_ok w) (hl : bs.length + 8 ≤ 48) : Ev_ (fun n => f_putsName n st (Int64.ofInt (nm_ w 0))) (fun s => mt_ [31] [30] st s ∧ pt_ s (bs ++ w)) := by
  obtain ⟨w1, w2, w3⟩ := hw
  obtain ⟨d0, d1, d2⟩ := nm_dig w.length w rfl (fun c hc => by have := w3 c hc; omega)
  have dN : nm_ w 0 < 9223372036854775808 := by
    rcases Nat.lt_or_ge w.length 8 with q | q
    · have : (256 : Int) ^ w.length ≤ 256 ^ 7 := by exact_mod_cast Nat.pow_le_pow_right (show 256 > 0 by omega) (show w.length ≤ 7 by omega)
      have e : (256 : Int) ^ 7 = 72057594037927936 := by decide
      omega
    · have e8 : w.length = 8 := by omega
      have t := d2 7
      rw [e8, if_pos (by omega)] at t
      have c := w3 (w.getD 0 0) (by rw [List.getD_eq_getElem?_getD, List.getElem?_eq_getElem (by omega)]; exact List.getElem_mem _)
      rw [e8] at d1
      have e : (256 : Int) ^ 7 = 72057594037927936 := by decide
      have e' : (256 : Int) ^ 8 = 18446744073709551616 := by decide
      rw [e] at t
      rw [e'] at d1
      have c2 := c.2
      simp only [show 8 - 1 - 7 = 0 from rfl] at t
      omega
  unfold f_putsName
  refine ev_b (P := fun s => mt_ [31] [30] st s ∧ pt_ s (bs ++ w)) ?_ (fun s hs => ev_some hs)
  unfold f_putsName_L3l
  refine ev_for 8 (fun (i : Nat) (y : Int32 × MS) => y.1 = q_ (56 - 8 * (i : Int)) ∧ mt_ [31] [30] st y.2 ∧ pt_ y.2 (bs ++ w.take (w.length + i - 8))) (fun i y hi hP => ?_) (fun y hP => ?_) _ ⟨rfl, mt_rfl _ _ _, ?_⟩
  · obtain ⟨v, s1⟩ := y
    obtain ⟨e0, m1, p1⟩ := hP
    dsimp only at e0 m1 p1 ⊢
    have ev : v = n_ (56 - 8 * i) := by
      rw [e0, n_q]; congr 1; omega
    have hby := l_byte d0 dN (show 56 - 8 * i < 64 by omega)
    rw [show 56 - 8 * i = 8 * (7 - i) by omega, pw256, d2 (7 - i), show 8 * (7 - i) = 56 - 8 * i by omega] at hby
    have hnx : v + (-8) = q_ (56 - 8 * ((i + 1 : Nat) : Int)) := by
      rw [e0, show (-8 : Int32) = q_ (-8) from rfl, q_add]; congr 1; omega
    by_cases c : 7 - i < w.length
    · rw [if_pos c] at hby
      have hlt : w.length - 1 - (7 - i) < w.length := by omega
      have hcm := w3 (w.getD (w.length - 1 - (7 - i)) 0) (by rw [List.getD_eq_getElem?_getD, List.getElem?_eq_getElem hlt]; exact List.getElem_mem _)
      have hlen : (bs ++ w.take (w.length + i - 8)).length < 48 := by
        rw [List.length_append, List.length_take]; omega
      obtain ⟨s2, f1, f2, f3⟩ := rf_puts 0 p1 hlen (w.getD (w.length - 1 - (7 - i)) 0)
      refine ev_eq (r := .inl (q_ (56 - 8 * ((i + 1 : Nat) : Int)), s2)) (fun n => ?_) ⟨_, rfl, rfl, mt_tr m1 f2, ?_⟩
      · have f1' : f_puts n s1 (n_ (w.getD (w.length - 1 - (7 - i)) 0)) = some s2 := f1
        unfold f_putsName_L3 f_putsName_J31
        rw [hnx, ev]
        rw [ef_F (show ¬ n_ (56 - 8 * i) < 0 from by rw [n_lit 0, n_lt (by omega) (by omega)]; omega), ef_F (by rw [cmp_0, hby]; omega), l_toI (by rw [hby]; omega) (by rw [hby]; omega), hby, Int.toNat_natCast, f1']
        rfl
      · have : w.take (w.length + (i + 1) - 8) = w.take (w.length + i - 8) ++ [w.getD (w.length - 1 - (7 - i)) 0] := by
          rw [show w.length + (i + 1) - 8 = (w.length + i - 8) + 1 by omega, List.take_succ_eq_append_getElem (by omega), List.getD_eq_getElem?_getD, List.getElem?_eq_getElem hlt]
          simp only [Option.getD_some]
          congr 3
          omega
        rw [this, ← List.append_assoc]; exact f3
    · rw [if_neg c] at hby
      refine ev_eq (r := .inl (q_ (56 - 8 * ((i + 1 : Nat) : Int)), s1)) (fun n => ?_) ⟨_, rfl, rfl, m1, ?_⟩
      · unfold f_putsName_L3 f_putsName_J31
        rw [hnx, ev]
        rw [ef_F (show ¬ n_ (56 - 8 * i) < 0 from by rw [n_lit 0, n_lt (by omega) (by omega)]; omega), ef_T (by rw [cmp_0, hby])]
      · rw [show w.length + (i + 1) - 8 = w.length + i - 8 by omega]; exact p1
  · obtain ⟨v, s1⟩ := y
    obtain ⟨e0, m1, p1⟩ := hP
    dsimp only at e0 m1 p1 ⊢
    refine ev_eq (r := .inr s1) (fun n => ?_) ⟨_, rfl, m1, ?_⟩
    · unfold f_putsName_L3
      rw [e0, ef_T (by decide)]
    · rw [show w.length + 8 - 8 = w.length by omega, List.take_length] at p1; exact p1
  · rw [show w.length + 0 - 8 = 0 by omega, List.take_zero, List.append_nil]; exact h
