set_option maxRecDepth 100000
/-! Texts: bytes; the StringBuilder as it lies (tag tb the object, tb + 1 its array: 33, 39) -/
theorem sh0 (x : Int32) : x >>> ((0 : Int32) &&& 31) = x := by
  rw [show ((0 : Int32) &&& 31) = 0 from by decide]
  simp
theorem sl0 (x : Int32) : x <<< ((0 : Int32) &&& 31) = x := by
  rw [show ((0 : Int32) &&& 31) = 0 from by decide]
  simp
theorem fit_b {v : Int32} (h : -128 ≤ v.toInt ∧ v.toInt ≤ 127) : fits .byte (.int v) = true := by
  show (decide (-128 ≤ v) && decide (v ≤ 127)) = true
  rw [decide_eq_true (Int32.le_iff_toInt_le.mpr (show (-128 : Int32).toInt ≤ _ from h.1)), decide_eq_true (Int32.le_iff_toInt_le.mpr (show _ ≤ (127 : Int32).toInt from h.2))]
  rfl
theorem nar_n' : ∀ k : Fin 128, vp_nar .byte (Int32.ofNat k.val) = Int32.ofNat k.val ∧ ((Int32.ofNat k.val).toUInt32 % 65536).toInt32 = Int32.ofNat k.val ∧ (Int32.ofNat k.val).toInt8.toInt32 = Int32.ofNat k.val ∧ ((Int32.ofNat k.val) &&& 255) = Int32.ofNat k.val ∧ u_ch (Int32.ofNat k.val) = true := by decide
theorem n_on (k : Nat) : n_ k = Int32.ofNat k := Int32.ofInt_eq_ofNat
theorem nar_n {k : Nat} (h : k < 128) : vp_nar .byte (n_ k) = n_ k ∧ ((n_ k).toUInt32 % 65536).toInt32 = n_ k ∧ (n_ k).toInt8.toInt32 = n_ k ∧ (n_ k &&& 255) = n_ k ∧ u_ch (n_ k) = true := by
  rw [n_on]; exact nar_n' ⟨k, h⟩
def byt_ (f : Nat → Int32) (n : Nat) : Prop := ∀ i, i < n → -128 ≤ (f i).toInt ∧ (f i).toInt ≤ 127
theorem bf_e {f : Nat → Int32} {s n : Nat} (h : byt_ f (s + n)) : u_bf f s n = true := by
  unfold u_bf
  rw [List.all_eq_true]
  intro i hi
  exact fit_b (h _ (by have := List.mem_range.mp hi; omega))
theorem lnB_e {d : UD} {u : UM} {a n : Nat} {f : Nat → Int32} (h : bA_ d u a n f) : u_lnI d u 2 a = some (n_ n) := by unfold u_lnI; rw [rd_w h]; simp; exact (Int32.ofInt_eq_ofNat).symm
theorem aiB_e {d : UD} {u : UM} {a n : Nat} {f : Nat → Int32} (h : bA_ d u a n f) {i : Nat} (hi : i < n) (hn : n < 2147483648) : u_ai d u 2 a (n_ i) = some (f i) := by
  unfold u_ai; rw [rd_w h]
  show (if _ ∧ _ then _ else _) = _
  rw [if_pos ⟨rfl, n_in hi hn⟩, n_nat (by omega)]
theorem arBr_e {d : UD} {u : UM} {a n : Nat} {f : Nat → Int32} (h : u_rd d u a = some (.inl (d.1 2, n, .inl f))) : u_arB d u a = some (n, f) := by unfold u_arB; rw [h]; simp
/-- bytes are copied from the front -/
theorem xcB_e {d : UD} {u : UM} {a0 a1 n0 n1 m dp : Nat} {f g : Nat → Int32} (h : u_rd d u a0 = some (.inl (d.1 2, n0, .inl f))) (h' : bA_ d u a1 n1 g) (hb : byt_ f m) (h0 : m ≤ n0) (h1 : dp + m ≤ n1) (hn : n0 < 2147483648 ∧ n1 < 2147483648) : u_xcB d u a0 0 a1 (n_ dp) (n_ m) = some (u_set u.1 a1 (.inl (d.1 2, n1, .inl (va_cpy f g 0 dp m)))) := by
  unfold u_xcB
  rw [arBr_e h, m_bs, arB_e h', m_bs]
  have e0 : (0 : Int32) = n_ 0 := n_lit 0
  have hr : u_rg 0 (n_ dp) (n_ m) n0 n1 = true := by
    unfold u_rg
    rw [e0, n_nat (by omega), n_nat (by omega), n_nat (by omega)]
    refine decide_eq_true ⟨?_, ?_, ?_, by omega, by omega⟩
    · rw [n_lt (by omega) (by omega)]; omega
    · rw [n_lt (by omega) (by omega)]; omega
    · rw [n_lt (by omega) (by omega)]; omega
  dsimp only
  rw [hr, m_gT, e0, n_nat (by omega), n_nat (by omega), n_nat (by omega), bf_e (by rw [Nat.zero_add]; exact hb), m_gT]
def sbd_ (d : UD) (o : Nat → Nat) (u : UM) (tb a : Nat) (w : List Nat) (cap : Nat) : Prop := ∃ (v : Nat) (m : Int32) (f : Nat → Int32), ob_ u a 14 [.ref v, .int 0, .int m, .int (n_ w.length)] ∧ o a = tb ∧ bA_ d u v cap f ∧ o v = tb + 1 ∧ w.length ≤ cap ∧ cap ≤ 100000 ∧ (∀ i (h : i < w.length), f i = n_ w[i]) ∧ byt_ f cap ∧ ∀ c ∈ w, c < 128
theorem sbd_keep {d : UD} {b : Nat} {K : Nat → Prop} {o o' : Nat → Nat} {u u' : UM} (h0 : uw_ b u) (g : ygt_ b K o u o' u') {tb a : Nat} {w : List Nat} {cap : Nat} (h : sbd_ d o u tb a w cap) (h1 : ¬ K tb) (h2 : ¬ K (tb + 1)) : sbd_ d o' u' tb a w cap := by
  obtain ⟨v, m, f, e1, e2, e3, e4, e5⟩ := h
  obtain ⟨x1, x2⟩ := ygt_at h0 g e1 (by rw [e2]; exact h1)
  obtain ⟨y1, y2⟩ := ygt_at h0 g e3 (by rw [e4]; exact h2)
  exact ⟨v, m, f, x1, x2.trans e2, y1, y2.trans e4, e5⟩
theorem sbd_cl {d : UD} {o : Nat → Nat} {u : UM} {tb a : Nat} {w : List Nat} {cap : Nat} (h : sbd_ d o u tb a w cap) : ∃ fs, u_cl u 14 a = some fs := by
  obtain ⟨v, m, f, e1, _⟩ := h
  exact ⟨_, cl_e e1⟩
def Kb_ (tb x : Nat) : Prop := x = tb ∨ x = tb + 1
theorem byt_0 (n : Nat) : byt_ (fun _ => 0) n := fun i _ => by
  show -128 ≤ (0 : Int32).toInt ∧ (0 : Int32).toInt ≤ 127
  decide
theorem byt_n {k : Nat} (h : k < 128) : -128 ≤ (n_ k).toInt ∧ (n_ k).toInt ≤ 127 := by rw [n_toInt (by omega)]; omega
section
variable {d : UD} {b : Nat} {o : Nat → Nat} {u : UM} {tb : Nat}
theorem sbd_init (h0 : uw_ b u) {a : Nat} (ha : ob_ u a 14 [.null, .int 0, .int 0, .int 0]) (ta : o a = tb) : Ev_ (fun n => uf_J4_init n d u a) (fun r => r.2 = (1, 16) ∧ r.1.2.2 = u.2 + 1 ∧ ygt_ b (Kb_ tb) o u (ot_ o u.2 (tb + 1)) r.1.2 ∧ sbd_ d (ot_ o u.2 (tb + 1)) r.1.2 tb a [] 16) := by
  have au : a < u.2 := (h0.2 _ _ ha).2
  unfold uf_J4_init uf_J3_init uf_J3_init_J38
  refine ev_bc (P := fun _ u' c => c = (1, 16) ∧ u'.2 = u.2 + 1 ∧ ygt_ b (Kb_ tb) o u (ot_ o u.2 (tb + 1)) u' ∧ sbd_ d (ot_ o u.2 (tb + 1)) u' tb a [] 16) ?_ (fun _ u' c hp => by rw [hp.1]; exact hp.2.1) (fun _ u' c hp => ev_some ⟨by rw [hp.1]; rfl, hp.2⟩)
  refine ev_ifF (by decide) ?_
  rw [show (16 : Int32) = n_ 16 from n_lit 16]
  refine ev_g (ln_e (by omega)) (ev_ac ?_)
  rw [n_nat (by omega)]
  refine ev_nw h0 (fun u3 c3 => ?_)
  have g3 := ygt_nw (K := Kb_ tb) (o := o) h0 c3 (tb + 1)
  have t3 : ot_ o u.2 (tb + 1) a = tb := (ot_ne (by omega)).trans ta
  have e3 : ob_ u3 a 14 _ := (c3.2.2 a (by omega)).trans ha
  refine ev_pf e3 (by simp) (fun w6 c6 => ?_)
  have g6 : ygt_ b (Kb_ tb) (ot_ o u.2 (tb + 1)) u3 (ot_ o u.2 (tb + 1)) (w6, u3.2) := ygt_ch g3.1 e3 c6 (kd1_o _ _ _) (Or.inl t3)
  refine ev_g (by decide) ?_
  refine ev_pf (u := (w6, u3.2)) c6.2.1 (by simp) (fun w9 c9 => ?_)
  have g9 : ygt_ b (Kb_ tb) (ot_ o u.2 (tb + 1)) (w6, u3.2) (ot_ o u.2 (tb + 1)) (w9, u3.2) := ygt_ch g6.1 c6.2.1 c9 (kd1_o _ _ _) (Or.inl t3)
  refine ev_some ⟨rfl, c3.1, ygt_tr h0 g3 (ygt_tr g3.1 g6 g9), u.2, 0, fun _ => 0, ?_, t3, ?_, ot_at _ _ _, Nat.zero_le _, by omega, fun i h => absurd h (Nat.not_lt_zero _), byt_0 16, fun c h => by cases h⟩
  · show ob_ (w9, u3.2) a 14 [.ref u.2, .int 0, .int 0, .int (n_ 0)]
    rw [← n_lit 0]; exact c9.2.1
  · exact (c9.2.2 u.2 (by omega)).trans ((c6.2.2 u.2 (by omega)).trans c3.2.1)
theorem sbd_newLen (n : Nat) (d : UD) (u : UM) {a c e : Nat} (h : a + max c e ≤ 1000000) (h1 : 0 < a + max c e) : uf_J7_newLength n d u (n_ a) (n_ c) (n_ e) = some (n_ (a + max c e)) := by
  unfold uf_J7_newLength
  have hm : (if (n_ c : Int32) < (n_ e : Int32) then (n_ e : Int32) else (n_ c : Int32)) = n_ (max c e) := by
    by_cases z : c < e
    · rw [if_pos (by rw [n_lt (by omega) (by omega)]; exact z), Nat.max_eq_right (by omega)]
    · rw [if_neg (by rw [n_lt (by omega) (by omega)]; exact z), Nat.max_eq_left (by omega)]
  rw [hm, n_add, m_bs, ef_F (by rw [n_lit 0, n_le (by omega) (by omega)]; omega), ef_F (by rw [n_lit 2147483639, n_lt (by omega) (by omega)]; omega)]
/-- room for so many: if there is too little, an array with more -/
theorem sbd_ensure (h0 : uw_ b u) {a : Nat} {w : List Nat} {cap : Nat} (h : sbd_ d o u tb a w cap) {k : Nat} (hk : w.length ≤ k) (hk2 : k ≤ 40000) (hc2 : cap ≤ 20000) : Ev_ (fun n => uf_J3_ensureCapacityInternal n d u a (n_ k)) (fun r => ∃ o' cap', r.1.2.2 = u.2 + r.2.1 ∧ ygt_ b (Kb_ tb) o u o' r.1.2 ∧ sbd_ d o' r.1.2 tb a w cap' ∧ k ≤ cap' ∧ ((k ≤ cap ∧ cap' = cap ∧ r.2 = (0, 0)) ∨ (cap < k ∧ cap' = cap + max (k - cap) (cap + 2) ∧ r.2 = (1, cap')))) := by
  obtain ⟨v, m, f, e1, e2, e3, e4, e5, e6, e7, e8, e9⟩ := id h
  have f0 : u_fr d u 14 0 a = some v := fr_e e1 rfl
  have f1 : u_fi d u 14 1 a = some 0 := fi_e e1 rfl
  have au : a < u.2 := (h0.2 _ _ e1).2
  unfold uf_J3_ensureCapacityInternal uf_J3_ensureCapacityInternal_J38
  refine ev_b1 f0 (ev_b1 (lnB_e e3) (ev_b1 f1 ?_))
  rw [sh0]
  refine ev_ifq (c' := k ≤ cap) (by rw [q_0, n_q, n_q, q_sub, q_le ⟨by omega, by omega⟩ ⟨by omega, by omega⟩]; omega) (fun c => ?_) (fun c => ?_)
  · exact ev_some ⟨o, cap, rfl, ygt_rfl h0, h, c, Or.inl ⟨c, rfl, rfl⟩⟩
  · refine ev_b1 f0 (ev_b1 (cl_e e1) ?_)
    generalize hcap : cap + max (k - cap) (cap + 2) = cap'
    have hge : k ≤ cap' := by omega
    have hle : cap' ≤ 100000 := by omega
    refine ev_bc (P := fun r u' c => r = n_ cap' ∧ u' = u ∧ c = (0, 0)) ?_ (fun r u' c hp => by rw [hp.2.1, hp.2.2]; rfl) (fun r u' c hp => ?_)
    · unfold uf_J3_newCapacity
      refine ev_b1 f0 (ev_b1 (lnB_e e3) (ev_b1 f1 (ev_b1 f1 ?_)))
      have e10 : (n_ k <<< ((0 : Int32) &&& 31)) - n_ cap = n_ (k - cap) := by rw [sl0, n_sub (by omega)]
      have e11 : n_ cap + ((2 : Int32) <<< ((0 : Int32) &&& 31)) = n_ (cap + 2) := by rw [sl0, n_lit 2, n_add]
      rw [e10, e11]
      refine ev_bn (fun n => sbd_newLen n d u (a := cap) (c := k - cap) (e := cap + 2) (by omega) (by omega)) ?_
      rw [hcap]
      refine ev_ifF (by rw [n_lit 2147483647, n_eq (by omega) (by omega)]; omega) ?_
      refine ev_b1 f1 (ev_some ⟨by rw [sh0], rfl, rfl⟩)
    · obtain ⟨rfl, rfl, rfl⟩ := hp
      refine ev_b1 f1 ?_
      rw [sl0]
      refine ev_bc (P := fun r u3 c => r = u'.2 ∧ c = (1, cap') ∧ u3.2 = u'.2 + 1 ∧ ygt_ b K0_ o u' (ot_ o u'.2 (tb + 1)) u3 ∧ bA_ d u3 u'.2 cap' (va_cpy f (fun _ => 0) 0 0 cap)) ?_ (fun r u3 c hp => by rw [hp.2.1]; exact hp.2.2.1) (fun r u3 c hp => ?_)
      · unfold uf_J9_copyOf
        refine ev_b1 (lnB_e e3) ?_
        refine ev_ifF (by rw [n_eq (by omega) (by omega)]; omega) ?_
        refine ev_g (ln_e (by omega)) (ev_ac ?_)
        rw [n_nat (by omega)]
        refine ev_nw h0 (fun u5 c5 => ?_)
        have g5 := ygt_nw (K := K0_) (o := o) h0 c5 (tb + 1)
        have vu : v < u'.2 := (h0.2 _ _ e3).2
        have e35 : bA_ d u5 v cap f := (c5.2.2 v (by omega)).trans e3
        refine ev_b1 (lnB_e e35) ?_
        have hmn : (if (n_ cap' : Int32) < (n_ cap : Int32) then (n_ cap' : Int32) else (n_ cap : Int32)) = n_ cap := if_neg (by rw [n_lt (by omega) (by omega)]; omega)
        rw [hmn]
        have hx : u_xcB d u5 v 0 u'.2 (n_ 0) (n_ cap) = some _ := xcB_e (rd_w e35) c5.2.1 e8 (Nat.le_refl _) (by omega) ⟨by omega, by omega⟩
        rw [← n_lit 0] at hx
        refine ev_b1 hx ?_
        have c6 := ch_set (u := u5) c5.2.1 (.inl (d.1 2, cap', .inl (va_cpy f (fun _ => 0) 0 0 cap)))
        exact ev_some ⟨rfl, rfl, c5.1, ygt_chn h0 g5 (Nat.le_refl _) c5.2.1 c6 (kd1_a _ _), c6.2.1⟩
      · obtain ⟨rfl, rfl, z3, g3, a3⟩ := hp
        have e13 := ygt_at h0 g3 e1 (fun z => z)
        have t13 : ot_ o u'.2 (tb + 1) a = tb := e13.2.trans e2
        have t34 : ot_ o u'.2 (tb + 1) u'.2 = tb + 1 := ot_at _ _ _
        generalize ot_ o u'.2 (tb + 1) = o3 at *
        refine ev_pf e13.1 (by simp) (fun w26 c26 => ?_)
        have g26 : ygt_ b (Kb_ tb) o3 u3 o3 (w26, u3.2) := ygt_ch g3.1 e13.1 c26 (kd1_o _ _ _) (Or.inl t13)
        refine ev_some ⟨o3, cap', z3, ygt_tr h0 (ygt_sub g3 (fun x hx => hx.elim)) g26, ⟨u'.2, m, _, c26.2.1, t13, (c26.2.2 u'.2 (by omega)).trans a3, t34, by omega, hle, fun i hi => ?_, fun i hi => ?_, e9⟩, hge, Or.inr ⟨by omega, rfl, Prod.ext rfl (by show 0 + (cap' + 0) = cap'; omega)⟩⟩
        · unfold va_cpy
          rw [if_pos (by omega)]
          have := e7 i hi
          simpa using this
        · unfold va_cpy
          by_cases q : 0 ≤ i ∧ i < 0 + cap
          · rw [if_pos q]; have := e8 i (by omega); simpa using this
          · rw [if_neg q]; exact byt_0 1 0 (by omega)
end
