set_option maxRecDepth 100000
/-! The reference puts a number; a line -/
def nd_ (v : Nat) : Nat := if v < 10 then 0 else if v < 100 then 1 else if v < 1000 then 2 else if v < 10000 then 3 else if v < 100000 then 4 else if v < 1000000 then 5 else if v < 10000000 then 6 else if v < 100000000 then 7 else if v < 1000000000 then 8 else 9
def p10_ (k : Nat) : Nat := 10 ^ k
theorem p10_s (k : Nat) : p10_ (k + 1) = 10 * p10_ k := by unfold p10_; rw [Nat.pow_succ]; omega
theorem p10_pos (k : Nat) : 0 < p10_ k := Nat.pow_pos (by omega)
theorem nd_lt {v : Nat} (h : v < 10000000000) : v < p10_ (nd_ v + 1) ∧ (nd_ v = 0 ∨ p10_ (nd_ v) ≤ v) ∧ nd_ v ≤ 9 := by
  unfold nd_
  repeat' split
  all_goals refine ⟨?_, ?_, by omega⟩
  all_goals first
    | exact Or.inl rfl
    | (refine Or.inr ?_; show _ ≤ v; exact Nat.le_trans (Nat.le_of_ble_eq_true rfl) (Nat.le_of_not_lt (by assumption)))
    | exact Nat.lt_of_lt_of_le (by assumption) (Nat.le_of_ble_eq_true rfl)
theorem nd_u {v k : Nat} (h : v < 10000000000) (h1 : v < p10_ (k + 1)) (h2 : k = 0 ∨ p10_ k ≤ v) : k = nd_ v := by
  obtain ⟨g1, g2, _⟩ := nd_lt h
  have mono : ∀ a b, a ≤ b → p10_ a ≤ p10_ b := fun a b hab => Nat.pow_le_pow_right (by omega) hab
  rcases Nat.lt_trichotomy k (nd_ v) with q | q | q
  · have := mono (k + 1) (nd_ v) q
    rcases g2 with g2 | g2 <;> omega
  · exact q
  · have := mono (nd_ v + 1) k q
    rcases h2 with h2 | h2 <;> omega
/-- a number's first i digits -/
def dg_ (v i : Nat) : List Nat := (List.range i).map (fun j => 48 + v / p10_ (nd_ v - j) % 10)
def dec_ (v : Nat) : List Nat := dg_ v (nd_ v + 1)
theorem dg_s (v i : Nat) : dg_ v (i + 1) = dg_ v i ++ [48 + v / p10_ (nd_ v - i) % 10] := by
  unfold dg_; rw [List.range_succ, List.map_append]; rfl
theorem dg_len (v i : Nat) : (dg_ v i).length = i := by unfold dg_; simp
theorem rf_putsNumber {st : MS} {bs : List Nat} (h : pt_ st bs) {v : Nat} (hv : v < 2147483648) (hl : bs.length + 10 ≤ 48) : Ev_ (fun n => f_putsNumber n st (n_ v)) (fun s => mt_ [31] [30] st s ∧ pt_ s (bs ++ dec_ v)) := by
  obtain ⟨g1, g2, g3⟩ := nd_lt (show v < 10000000000 by omega)
  have mono : ∀ a b, a ≤ b → p10_ a ≤ p10_ b := fun a b hab => Nat.pow_le_pow_right (by omega) hab
  have p9 : ∀ j, j ≤ 9 → p10_ j < 2147483648 := fun j hj => Nat.lt_of_le_of_lt (mono j 9 hj) (by decide)
  unfold f_putsNumber
  refine ev_b (P := fun y => y = (n_ (p10_ (nd_ v)), st)) ?_ (fun y hy => ?_)
  · unfold f_putsNumber_L2l
    refine ev_for (nd_ v) (fun (j : Nat) (y : Int32 × MS) => y = (n_ (p10_ j), st)) (fun j y hj hP => ?_) (fun y hP => ?_) _ (by rw [n_lit 1]; rfl)
    · subst hP
      refine ev_eq (r := .inl (n_ (p10_ (j + 1)), st)) (fun n => ?_) ⟨_, rfl, rfl⟩
      unfold f_putsNumber_L2
      have hp := p10_pos j
      have hp9 := p9 j (by omega)
      have hq : p10_ (j + 1) ≤ v := by
        have := mono (j + 1) (nd_ v) hj
        rcases g2 with g2 | g2 <;> omega
      rw [p10_s] at hq
      dsimp only
      rw [show decide (¬ n_ (p10_ j) = 0) = true from by rw [decide_eq_true_eq, n_lit 0, n_eq hp9 (by omega)]; omega, m_gT, n_div hv hp hp9, ef_F (by
        rw [n_lit 9, n_le (by have := Nat.div_le_self v (p10_ j); omega) (by omega)]
        have : 10 ≤ v / p10_ j := (Nat.le_div_iff_mul_le hp).mpr hq
        omega), n_lit 10, n_mul, p10_s, Nat.mul_comm]
    · subst hP
      refine ev_eq (r := .inr (n_ (p10_ (nd_ v)), st)) (fun n => ?_) ⟨_, rfl, rfl⟩
      unfold f_putsNumber_L2
      have hp := p10_pos (nd_ v)
      have hp9 := p9 (nd_ v) (by omega)
      rw [p10_s] at g1
      dsimp only
      rw [show decide (¬ n_ (p10_ (nd_ v)) = 0) = true from by rw [decide_eq_true_eq, n_lit 0, n_eq hp9 (by omega)]; omega, m_gT, n_div hv hp hp9, ef_T (by
        rw [n_lit 9, n_le (by have := Nat.div_le_self v (p10_ (nd_ v)); omega) (by omega)]
        have : v / p10_ (nd_ v) < 10 := (Nat.div_lt_iff_lt_mul hp).mpr g1
        omega)]
  · subst hy
    dsimp only
    refine ev_b (P := fun s => mt_ [31] [30] st s ∧ pt_ s (bs ++ dec_ v)) ?_ (fun s hs => ev_some hs)
    unfold f_putsNumber_L20l
    refine ev_for (nd_ v + 1) (fun (i : Nat) (y : Int32 × MS) => y.1 = n_ (if i ≤ nd_ v then p10_ (nd_ v - i) else 0) ∧ mt_ [31] [30] st y.2 ∧ pt_ y.2 (bs ++ dg_ v i)) (fun i y hi hP => ?_) (fun y hP => ?_) _ ⟨by rw [if_pos (by omega)]; rfl, mt_rfl _ _ _, by rw [show dg_ v 0 = [] from rfl, List.append_nil]; exact h⟩
    · obtain ⟨w, s1⟩ := y
      obtain ⟨e0, m1, p1⟩ := hP
      dsimp only at e0 m1 p1 ⊢
      rw [if_pos (by omega)] at e0
      subst e0
      have hp := p10_pos (nd_ v - i)
      have hp9 := p9 (nd_ v - i) (by omega)
      obtain ⟨s2, f1, f2, f3⟩ := rf_puts 0 p1 (by rw [List.length_append, dg_len]; omega) (48 + v / p10_ (nd_ v - i) % 10)
      refine ev_eq (r := .inl (n_ (if i + 1 ≤ nd_ v then p10_ (nd_ v - (i + 1)) else 0), s2)) (fun n => ?_) ⟨_, rfl, rfl, mt_tr m1 f2, ?_⟩
      · have f1' : f_puts n s1 (n_ (48 + v / p10_ (nd_ v - i) % 10)) = some s2 := f1
        have hd : v / p10_ (nd_ v - i) < 2147483648 := Nat.lt_of_le_of_lt (Nat.div_le_self _ _) hv
        have hm : v / p10_ (nd_ v - i) / 10 * 10 ≤ v / p10_ (nd_ v - i) := Nat.div_mul_le_self _ _
        unfold f_putsNumber_L20
        rw [ef_F (show ¬ n_ (p10_ (nd_ v - i)) ≤ 0 from by rw [n_lit 0, n_le hp9 (by omega)]; omega), show decide (¬ n_ (p10_ (nd_ v - i)) = 0) = true from by rw [decide_eq_true_eq, n_lit 0, n_eq hp9 (by omega)]; omega, show decide (¬ (10 : Int32) = 0) = true from by decide, m_gT, m_gT, n_div hv hp hp9, n_lit 10, n_div hd (by omega) (by omega), n_mul, n_sub hm, n_lit 48, n_add, show v / p10_ (nd_ v - i) - v / p10_ (nd_ v - i) / 10 * 10 = v / p10_ (nd_ v - i) % 10 by omega, f1', m_bs, m_gT, n_div hp9 (by omega) (by omega)]
        congr 3
        by_cases c : i + 1 ≤ nd_ v
        · rw [if_pos c]
          have : p10_ (nd_ v - i) = 10 * p10_ (nd_ v - (i + 1)) := by rw [← p10_s]; congr 1; omega
          rw [this, Nat.mul_div_cancel_left _ (by omega)]
        · rw [if_neg c, show nd_ v - i = 0 by omega]; rfl
      · rw [dg_s, ← List.append_assoc]; exact f3
    · obtain ⟨w, s1⟩ := y
      obtain ⟨e0, m1, p1⟩ := hP
      dsimp only at e0 m1 p1 ⊢
      rw [if_neg (by omega)] at e0
      subst e0
      refine ev_eq (r := .inr s1) (fun n => ?_) ⟨_, rfl, m1, p1⟩
      unfold f_putsNumber_L20
      rw [ef_T (by decide)]
/-- a trade's line -/
def ln_ (g : GS_) (t : Tr_) : List Nat := (((((g.1.getD t.1 []) ++ [62]) ++ (g.1.getD t.2.1 [])) ++ [32]) ++ dec_ t.2.2.1.toNat ++ [32]) ++ (g.2.1.getD t.2.2.2.1 []) ++ (if t.2.2.2.2 then [32, 42] else [])
def Sp_line (g : GS_) (x w : Int32) (r : Int32) : Prop := if 0 ≤ x.toInt ∧ x.toInt < (g_s g).1.length then (if 0 ≤ w.toInt then ∃ t, (g_s g).1[x.toInt.toNat]? = some t ∧ r = (if w.toInt < (ln_ g t).length then n_ ((ln_ g t).getD w.toInt.toNat 0) else q_ (-1)) else r = q_ (-3)) else r = q_ (-2)
theorem gD_ok {l : List (List Nat)} (h : ∀ w ∈ l, nm_ok w) {i : Nat} (hi : i < l.length) : nm_ok (l.getD i []) := by
  rw [List.getD_eq_getElem?_getD, List.getElem?_eq_getElem hi]; exact h _ (List.getElem_mem hi)
theorem gD_get {l : List (List Nat)} {i : Nat} (hi : i < l.length) : l.getD i [] = l[i] := by
  rw [List.getD_eq_getElem?_getD, List.getElem?_eq_getElem hi]; rfl
theorem le0_i (x : Int32) : (0 ≤ x) ↔ 0 ≤ x.toInt := Int32.le_iff_toInt_le
theorem rf_line {g : GS_} (ok : g_ok g) {st : MS} (R0 : rf_R g st) (x w : Int32) : Ev_ (fun n => f_line n st x w) (fun r => rf_R g r.2 ∧ Sp_line g x w r.1) := by
  have R := rf_R_8 R0
  have h40 := ok.2.2.1.2.2.1
  have hV := R.2.2.2.2.2.2.1
  have h1 := fun n => rf_isTrade n hV h40 x
  unfold f_line Sp_line
  generalize m_sg st 8 0 = st1 at *
  simp only [h1, m_bs, m_ifb]
  by_cases c1 : 0 ≤ x.toInt ∧ x.toInt < (g_s g).1.length
  · simp only [if_pos c1]
    refine ev_ifq (le0_i w) (fun c2 => ?_) (fun c2 => ?_)
    · simp only [if_pos c2]
      obtain ⟨i, hi, rfl, e1⟩ := pi_ c1
      rw [e1]
      obtain ⟨g1, g2, g3, g4, g5⟩ := hV.2.2.1 i hi
      obtain ⟨t1, t2, t3, t4, t5, t6⟩ := ok.2.2.1.2.2.2.1 _ (List.getElem_mem hi)
      have hN := R.2.2.2.2.2.2.2.2
      obtain ⟨hN1, hN2, _⟩ := hN
      have o1 := gD_ok ok.2.2.2.2.2.1 t1
      have o2 := gD_ok ok.2.2.2.2.2.1 t2
      have o3 := gD_ok ok.2.2.2.2.2.2.1 t6
      have h8 := ok.1
      have h4 := ok.2.1
      have np8 : (g_s g).1[i].1 < 8 := by omega
      have np8' : (g_s g).1[i].2.1 < 8 := by omega
      have nk4 : (g_s g).1[i].2.2.2.1 < 4 := by omega
      have l1 := o1.2.1
      have l2 := o2.2.1
      have l3 := o3.2.1
      generalize hA : g.1.getD (g_s g).1[i].1 [] = A at *
      generalize hB : g.1.getD (g_s g).1[i].2.1 [] = B at *
      generalize hC : g.2.1.getD (g_s g).1[i].2.2.2.1 [] = C at *
      have n1 : st1.2.2 3 ((g_s g).1[i].1) = Int64.ofInt (nm_ A 0) := by
        rw [hN1 _ t1, ← hA, gD_get t1]
      have n2 : st1.2.2 3 ((g_s g).1[i].2.1) = Int64.ofInt (nm_ B 0) := by
        rw [hN1 _ t2, ← hB, gD_get t2]
      have n3 : st1.2.2 3 (8 + (g_s g).1[i].2.2.2.1) = Int64.ofInt (nm_ C 0) := by
        rw [hN2 _ t6, ← hC, gD_get t6]
      have hm : ∃ v : Nat, v < 2147483648 ∧ (g_s g).1[i].2.2.1 = (v : Int) := ⟨(g_s g).1[i].2.2.1.toNat, by omega, by omega⟩
      obtain ⟨v, hv, hve⟩ := hm
      have tA : ∀ (n : Nat) (s : MS) (e : Nat), mt_ [31] [30] st1 s → e < 5 → f_tradeAt n s (n_ i) (n_ e) = some (st1.2.1 0 (2 + 5 * i + e)) := fun n s e hm he => by
        rw [rf_tradeAt n (by omega) he, hm.2.2 0 (by simp)]
      have m0 : mt_ [31] [30] st1 (m_sg st1 31 0) := mt_sg (by simp) _ _
      have q0 : pt_ (m_sg st1 31 0) [] := ⟨by rw [sg_at, n_lit 0]; rfl, fun i hi => absurd hi (Nat.not_lt_zero _)⟩
      refine ev_bn (r := n_ (g_s g).1[i].1) (fun n => by have := tA n _ 0 m0 (by omega); rw [Nat.add_zero, g1] at this; exact this) ?_
      refine ev_g (n_in (by omega) (by omega)) ?_
      rw [n_nat (by omega), show (m_sg st1 31 0).2.2 3 ((g_s g).1[i].1) = Int64.ofInt (nm_ A 0) from n1]
      refine ev_b (rf_putsName q0 o1 (by simp)) (fun s9 h9 => ?_)
      obtain ⟨m9, q9⟩ := h9
      have m9 := mt_tr m0 m9
      rw [List.nil_append] at q9
      obtain ⟨s11, f11, k11, q11⟩ := rf_puts 0 q9 (by omega) 62
      have m11 := mt_tr m9 k11
      refine ev_bn (r := s11) (fun n => by rw [n_lit 62]; exact f11) ?_
      refine ev_bn (r := n_ (g_s g).1[i].2.1) (fun n => by rw [n_lit 1, tA n _ 1 m11 (by omega), g2]) ?_
      refine ev_g (n_in (by omega) (by omega)) ?_
      rw [n_nat (by omega), show s11.2.2 3 ((g_s g).1[i].2.1) = Int64.ofInt (nm_ B 0) from by rw [m11.2.1]; exact n2]
      refine ev_b (rf_putsName q11 o2 (by simp; omega)) (fun s16 h16 => ?_)
      obtain ⟨m16, q16⟩ := h16
      have m16 := mt_tr m11 m16
      obtain ⟨s18, f18, k18, q18⟩ := rf_puts 0 q16 (by simp; omega) 32
      have m18 := mt_tr m16 k18
      refine ev_bn (r := s18) (fun n => by rw [n_lit 32]; exact f18) ?_
      refine ev_bn (r := n_ v) (fun n => by rw [n_lit 2, tA n _ 2 m18 (by omega), g3, hve, ← n_q]) ?_
      refine ev_b (rf_putsNumber q18 hv (by simp; omega)) (fun s22 h22 => ?_)
      obtain ⟨m22, q22⟩ := h22
      have m22 := mt_tr m18 m22
      have ld : (dec_ v).length ≤ 10 := by
        unfold dec_; rw [dg_len]; have := (nd_lt (show v < 10000000000 by omega)).2.2; omega
      obtain ⟨s24, f24, k24, q24⟩ := rf_puts 0 q22 (by simp; omega) 32
      have m24 := mt_tr m22 k24
      refine ev_bn (r := s24) (fun n => by rw [n_lit 32]; exact f24) ?_
      refine ev_bn (r := n_ (g_s g).1[i].2.2.2.1) (fun n => by rw [n_lit 3, tA n _ 3 m24 (by omega), g4]) ?_
      rw [n_lit 8, n_add]
      refine ev_g (n_in (by omega) (by omega)) ?_
      rw [n_nat (by omega), show s24.2.2 3 (8 + (g_s g).1[i].2.2.2.1) = Int64.ofInt (nm_ C 0) from by rw [m24.2.1]; exact n3]
      refine ev_b (rf_putsName q24 o3 (by simp; omega)) (fun s29 h29 => ?_)
      obtain ⟨m29, q29⟩ := h29
      have m29 := mt_tr m24 m29
      refine ev_bn (r := n_ (if (g_s g).1[i].2.2.2.2 then 1 else 0)) (fun n => by rw [n_lit 4, tA n _ 4 m29 (by omega), g5]) ?_
      have fin : ∀ (s : MS) (bs : List Nat), mt_ [31] [30] st1 s → pt_ s bs → bs.length ≤ 48 → bs = ln_ g (g_s g).1[i] → Ev_ (fun n => f_line_J126 n s w) (fun r => rf_R g r.2 ∧ ∃ t, (g_s g).1[i]? = some t ∧ r.1 = (if w.toInt < (ln_ g t).length then n_ ((ln_ g t).getD w.toInt.toNat 0) else q_ (-1))) := fun s bs hm hp hb hbe => by
        have Rs : rf_R g s := rf_R_mt R (mt_sub hm (by decide) (by decide))
        unfold f_line_J126 f_line_J144
        have ew := n_of c2
        rw [hp.1]
        refine ev_ifq (c' := ¬ w.toInt < bs.length) (by rw [Int32.le_iff_toInt_le, n_toInt (by omega)]; omega) (fun c => ?_) (fun c => ?_)
        · refine ev_some ⟨Rs, (g_s g).1[i], List.getElem?_eq_getElem hi, ?_⟩
          rw [← hbe, if_neg c, m1_q]
        · have c' : w.toInt < bs.length := Classical.not_not.mp c
          refine ev_g (by rw [ew]; exact n_in (by omega) (by omega)) (ev_some ⟨Rs, (g_s g).1[i], List.getElem?_eq_getElem hi, ?_⟩)
          rw [← hbe, if_pos c']
          have : w.toNatClampNeg = w.toInt.toNat := rfl
          rw [this]
          exact hp.2 _ (by omega)
      have hln : ln_ g (g_s g).1[i] = (((((A ++ [62]) ++ B) ++ [32]) ++ dec_ v ++ [32]) ++ C) ++ (if (g_s g).1[i].2.2.2.2 then [32, 42] else []) := by
        unfold ln_; rw [hA, hB, hC, hve, Int.toNat_natCast]
      cases hk : (g_s g).1[i].2.2.2.2 with
      | true =>
        rw [hk] at hln
        refine ev_ifT (by decide) ?_
        obtain ⟨s36, f36, k36, q36⟩ := rf_puts 0 q29 (by simp; omega) 32
        have m36 := mt_tr m29 k36
        refine ev_bn (r := s36) (fun n => by rw [n_lit 32]; exact f36) ?_
        obtain ⟨s38, f38, k38, q38⟩ := rf_puts 0 q36 (by simp; omega) 42
        have m38 := mt_tr m36 k38
        refine ev_bn (r := s38) (fun n => by rw [n_lit 42]; exact f38) ?_
        exact fin s38 _ m38 q38 (by simp; omega) (by rw [hln]; simp)
      | false =>
        rw [hk] at hln
        refine ev_ifF (by decide) ?_
        exact fin s29 _ m29 q29 (by simp; omega) (by rw [hln]; simp)
    · simp only [if_neg c2]
      exact ev_some ⟨R, m3_q⟩
  · simp only [if_neg c1]
    exact ev_some ⟨R, m2_q⟩
