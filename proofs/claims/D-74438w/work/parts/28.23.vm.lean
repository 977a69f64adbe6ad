set_option maxRecDepth 100000
/-! The Ways: an edge more; edges by their arcs -/
def KW_ (x : Nat) : Prop := 4 ≤ x ∧ x ≤ 11
theorem KW_1 {t : Nat} (h : 4 ≤ t ∧ t ≤ 11) : ∀ x, K1_ t x → KW_ x := fun x hx => by cases hx; exact h
theorem uw_edge {d : UD} {b : Nat} {o : Nat → Nat} {u : UM} (h0 : uw_ b u) {a : Nat} {A : Nat → Nat} {m : Nat} {f0 f1 : Nat → Int32} {f2 f3 f4 : Nat → Int64} {f5 f6 : Nat → Int32} (h : yE_ d o u a A m f0 f1 f2 f3 f4 f5 f6) (hm : m + 1 < 144) (p0 p1 : Int32) (p2 p3 : Int64) : Ev_ (fun n => uf_X2_edge n d u a p0 p1 p2 p3) (fun r => r.2 = (0, 0) ∧ r.1.2.2 = u.2 ∧ ygt_ b KW_ o u o r.1.2 ∧ yE_ d o r.1.2 a A (m + 2) (upd (upd f0 m p0) (m + 1) p1) (upd (upd f1 m p1) (m + 1) p0) (vp_updL (vp_updL f2 m p2) (m + 1) 0) (vp_updL (vp_updL f3 m p3) (m + 1) (-p3)) f4 f5 f6) := by
  have hi : n_ m + 1 = n_ (m + 1) := by rw [n_lit 1, n_add]
  unfold uf_X2_edge
  refine ev_b1 (yE_f0 h) (ev_b1 (yE_e h) (yE_s0 h0 h (show m < 144 by omega) p0 (fun w1 h1 g1 => ?_)))
  refine ev_b1 (yE_f1 h1) (ev_b1 (yE_e h1) (yE_s1 g1.1 h1 (show m < 144 by omega) p1 (fun w2 h2 g2 => ?_)))
  refine ev_b1 (yE_f2 h2) (ev_b1 (yE_e h2) (yE_s2 g2.1 h2 (show m < 144 by omega) p2 (fun w3 h3 g3 => ?_)))
  refine ev_b1 (yE_f3 h3) (ev_b1 (yE_e h3) (yE_s3 g3.1 h3 (show m < 144 by omega) p3 (fun w4 h4 g4 => ?_)))
  refine ev_b1 (yE_f0 h4) (ev_b1 (yE_e h4) ?_)
  rw [hi]
  refine yE_s0 g4.1 h4 (show m + 1 < 144 by omega) p1 (fun w5 h5 g5 => ?_)
  refine ev_b1 (yE_f1 h5) (ev_b1 (yE_e h5) ?_)
  rw [hi]
  refine yE_s1 g5.1 h5 (show m + 1 < 144 by omega) p0 (fun w6 h6 g6 => ?_)
  refine ev_b1 (yE_f2 h6) (ev_b1 (yE_e h6) ?_)
  rw [hi]
  refine yE_s2 g6.1 h6 (show m + 1 < 144 by omega) 0 (fun w7 h7 g7 => ?_)
  refine ev_b1 (yE_f3 h7) (ev_b1 (yE_e h7) ?_)
  rw [hi]
  refine yE_s3 g7.1 h7 (show m + 1 < 144 by omega) (-p3) (fun w8 h8 g8 => ?_)
  refine ev_b1 (yE_e h8) (yE_m g8.1 h8 (show n_ m + 2 = n_ (m + 2) by rw [n_lit 2, n_add]) (fun w9 h9 g9 => ?_))
  refine ev_some ⟨rfl, rfl, ?_, h9⟩
  have s1 := ygt_sub g1 (KW_1 (by omega))
  have s2 := ygt_sub g2 (KW_1 (by omega))
  have s3 := ygt_sub g3 (KW_1 (by omega))
  have s4 := ygt_sub g4 (KW_1 (by omega))
  have s5 := ygt_sub g5 (KW_1 (by omega))
  have s6 := ygt_sub g6 (KW_1 (by omega))
  have s7 := ygt_sub g7 (KW_1 (by omega))
  have s8 := ygt_sub g8 (KW_1 (by omega))
  have s9 := ygt_sub g9 (KW_1 (by omega))
  exact ygt_tr h0 s1 (ygt_tr g1.1 s2 (ygt_tr g2.1 s3 (ygt_tr g3.1 s4 (ygt_tr g4.1 s5 (ygt_tr g5.1 s6 (ygt_tr g6.1 s7 (ygt_tr g7.1 s8 s9)))))))
/-- the edges' arcs: in the net, all different, two and two turned -/
def eW_ (m : Nat) (E : Nat → Nat) : Prop := m ≤ 144 ∧ (∀ j, j < m → E j < 324) ∧ (∀ i j, i < m → j < m → E i = E j → i = j) ∧ ∀ j, 2 * j < m → 2 * j + 1 < m ∧ E (2 * j + 1) = cn_rev (E (2 * j))
/-- the rows tell of the edges -/
def eG_ (m : Nat) (E : Nat → Nat) (L w : Nat → Int) (f0 f1 : Nat → Int32) (f2 f3 : Nat → Int64) : Prop := ∀ j, j < m → f0 j = n_ (cn_src (E j)) ∧ f1 j = n_ (cn_dst (E j)) ∧ f2 j = lz_ (L (E j)) ∧ f3 j = lz_ (w (E j))
def eA_ (m : Nat) (E : Nat → Nat) (e : Nat) : Nat → Nat := fun j => if j = m then e else if j = m + 1 then cn_rev e else E j
theorem eA_0 (m : Nat) (E : Nat → Nat) (e : Nat) : eA_ m E e m = e := if_pos rfl
theorem eA_1 (m : Nat) (E : Nat → Nat) (e : Nat) : eA_ m E e (m + 1) = cn_rev e := by unfold eA_; rw [if_neg (by omega), if_pos rfl]
theorem eA_o {m : Nat} (E : Nat → Nat) (e : Nat) {j : Nat} (h : j < m) : eA_ m E e j = E j := by unfold eA_; rw [if_neg (by omega), if_neg (by omega)]
theorem eW_add {m : Nat} {E : Nat → Nat} (h : eW_ m E) (hm : m + 2 ≤ 144) (h2 : m % 2 = 0) {e : Nat} (he : e < 324) (hn : ∀ j, j < m → E j ≠ e ∧ E j ≠ cn_rev e) (hd : cn_src e ≠ cn_dst e) : eW_ (m + 2) (eA_ m E e) := by
  have hr : cn_rev e < 324 := (cn_net e he).2.2.1
  have hne : e ≠ cn_rev e := fun z => hd (by unfold cn_rev at z; unfold cn_src cn_dst; omega)
  refine ⟨hm, fun j hj => ?_, fun i j hi hj hij => ?_, fun j hj => ⟨by omega, ?_⟩⟩
  · by_cases c1 : j = m
    · rw [c1, eA_0]; exact he
    · by_cases c2 : j = m + 1
      · rw [c2, eA_1]; exact hr
      · rw [eA_o E e (by omega)]; exact h.2.1 j (by omega)
  · by_cases c1 : i = m
    · by_cases d1 : j = m
      · omega
      · by_cases d2 : j = m + 1
        · rw [c1, d2, eA_0, eA_1] at hij; exact absurd hij hne
        · rw [c1, eA_0, eA_o E e (show j < m by omega)] at hij; exact absurd hij.symm (hn j (by omega)).1
    · by_cases c2 : i = m + 1
      · by_cases d1 : j = m
        · rw [c2, d1, eA_0, eA_1] at hij; exact absurd hij.symm hne
        · by_cases d2 : j = m + 1
          · omega
          · rw [c2, eA_1, eA_o E e (show j < m by omega)] at hij; exact absurd hij.symm (hn j (by omega)).2
      · rw [eA_o E e (show i < m by omega)] at hij
        by_cases d1 : j = m
        · rw [d1, eA_0] at hij; exact absurd hij (hn i (by omega)).1
        · by_cases d2 : j = m + 1
          · rw [d2, eA_1] at hij; exact absurd hij (hn i (by omega)).2
          · rw [eA_o E e (show j < m by omega)] at hij; exact h.2.2.1 i j (by omega) (by omega) hij
  · by_cases c : 2 * j = m
    · rw [c, eA_0, eA_1]
    · rw [eA_o E e (by omega), eA_o E e (by omega)]; exact (h.2.2.2 j (by omega)).2
theorem eG_add {m : Nat} {E : Nat → Nat} {L w : Nat → Int} {f0 f1 : Nat → Int32} {f2 f3 : Nat → Int64} (h : eG_ m E L w f0 f1 f2 f3) {e : Nat} (he : e < 324) {p0 p1 : Int32} {p2 p3 : Int64} (e0 : p0 = n_ (cn_src e)) (e1 : p1 = n_ (cn_dst e)) (e2 : p2 = lz_ (L e)) (e3 : p3 = lz_ (w e)) (r2 : L (cn_rev e) = 0) (r3 : w (cn_rev e) = - w e) : eG_ (m + 2) (eA_ m E e) L w (upd (upd f0 m p0) (m + 1) p1) (upd (upd f1 m p1) (m + 1) p0) (vp_updL (vp_updL f2 m p2) (m + 1) 0) (vp_updL (vp_updL f3 m p3) (m + 1) (-p3)) := by
  intro j hj
  have rs : cn_src (cn_rev e) = cn_dst e := (cn_net e he).2.2.2.2.1
  have rd : cn_dst (cn_rev e) = cn_src e := (cn_net e he).2.2.2.2.2
  by_cases c2 : j = m + 1
  · subst c2
    rw [eA_1, upd_at, upd_at, updL_at, updL_at, rs, rd, r2, r3]
    exact ⟨e1, e0, lz_0, by rw [e3, lz_neg]⟩
  · rw [upd_ne c2, upd_ne c2, updL_ne c2, updL_ne c2]
    by_cases c1 : j = m
    · subst c1
      rw [eA_0, upd_at, upd_at, updL_at, updL_at]
      exact ⟨e0, e1, e2, e3⟩
    · rw [eA_o E e (by omega), upd_ne c1, upd_ne c1, updL_ne c1, updL_ne c1]
      exact h j (by omega)
