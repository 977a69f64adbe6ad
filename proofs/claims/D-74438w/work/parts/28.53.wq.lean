set_option maxRecDepth 100000
/-! The StringBuilder: the text made of it (tags 35 the text, 36 its bytes); a letter of it -/
def st_ (d : UD) (o : Nat → Nat) (u : UM) (p : Nat) (w : List Nat) : Prop := ∃ (v : Nat) (f : Nat → Int32), ob_ u p 15 [.ref v, .int 0, .int 0, .int 0] ∧ o p = 35 ∧ bA_ d u v w.length f ∧ o v = 36 ∧ (∀ i (hi : i < w.length), f i = n_ w[i]) ∧ (∀ c ∈ w, c < 128) ∧ w.length ≤ 10000 ∧ p ≤ v
section
variable {d : UD} {b : Nat} {o : Nat → Nat} {u : UM} {tb : Nat}
theorem sbd_copy (h0 : uw_ b u) {v cap m : Nat} {f : Nat → Int32} (e : bA_ d u v cap f) (hb : byt_ f cap) (hm : m ≤ cap) (hc : cap ≤ 100000) (tg : Nat) : Ev_ (fun n => uf_J9_copyOfRange n d u v 0 (n_ m)) (fun r => r.1.1 = u.2 ∧ r.2 = (1, m) ∧ r.1.2.2 = u.2 + 1 ∧ ygt_ b K0_ o u (ot_ o u.2 tg) r.1.2 ∧ ∃ f', bA_ d r.1.2 u.2 m f' ∧ ∀ i, i < m → f' i = f i) := by
  have vu : v < u.2 := (h0.2 _ _ e).2
  unfold uf_J9_copyOfRange uf_J9_copyOfRange_J10
  refine ev_ifT rfl (ev_b1 (lnB_e e) ?_)
  refine ev_ifq (c' := m = cap) (by rw [n_eq (by omega) (by omega)]) (fun c => ?_) (fun c => ?_)
  · subst c
    refine ev_b1 (arB_e e) ?_
    dsimp only
    refine ev_g (bf_e (by rw [Nat.zero_add]; exact hb)) (ev_ac (ev_nw h0 (fun u15 c15 => ?_)))
    refine ev_b1 (arB_e c15.2.1) (ev_some ⟨rfl, rfl, c15.1, ygt_nw h0 c15 tg, f, c15.2.1, fun i _ => rfl⟩)
  · refine ev_bc (P := fun r u' cc => r = u.2 ∧ cc = (1, m) ∧ u'.2 = u.2 + 1 ∧ ygt_ b K0_ o u (ot_ o u.2 tg) u' ∧ ∃ f', bA_ d u' u.2 m f' ∧ ∀ i, i < m → f' i = f i) ?_ (fun r u' cc hp => by rw [hp.2.1]; exact hp.2.2.1) (fun r u' cc hp => ev_some ⟨hp.1, by rw [hp.2.1]; rfl, hp.2.2⟩)
    unfold uf_J9_copyOfRangeByte
    refine ev_bc (P := fun (_ : Unit) u' cc => cc = (0, 0) ∧ u' = u) ?_ (fun r u' cc hp => by rw [hp.1, hp.2]; rfl) (fun _ u3 cc hp => ?_)
    · unfold uf_J9_checkLength
      exact ev_ifT (by rw [n_lit 0, n_le (by omega) (by omega)]; omega) (ev_some ⟨rfl, rfl⟩)
    · obtain ⟨rfl, rfl⟩ := hp
      have e0 : n_ m - (0 : Int32) = n_ m := by rw [n_lit 0, n_sub (by omega)]; rfl
      rw [e0]
      refine ev_g (ln_e (by omega)) (ev_ac ?_)
      rw [n_nat (by omega)]
      refine ev_nw h0 (fun u8 c8 => ?_)
      have g8 := ygt_nw (K := K0_) (o := o) h0 c8 tg
      have e8 : bA_ d u8 v cap f := (c8.2.2 v (by omega)).trans e
      refine ev_b1 (lnB_e e8) ?_
      have e1 : n_ cap - (0 : Int32) = n_ cap := by rw [n_lit 0, n_sub (by omega)]; rfl
      have hmn : (if (n_ m : Int32) < (n_ cap - (0 : Int32) : Int32) then (n_ m : Int32) else (n_ cap - (0 : Int32) : Int32)) = n_ m := by rw [e1, if_pos (by rw [n_lt (by omega) (by omega)]; omega)]
      rw [hmn]
      have hx : u_xcB d u8 v 0 u3.2 (n_ 0) (n_ m) = some _ := xcB_e (rd_w e8) c8.2.1 (fun i hi => hb i (by omega)) hm (by omega) ⟨by omega, by omega⟩
      rw [← n_lit 0] at hx
      refine ev_b1 hx ?_
      have c9 := ch_set (u := u8) c8.2.1 (.inl (d.1 2, m, .inl (va_cpy f (fun _ => 0) 0 0 m)))
      refine ev_some ⟨rfl, Prod.ext rfl (by show 0 + (m + 0) = m; omega), c8.1, ygt_chn h0 g8 (Nat.le_refl _) c8.2.1 c9 (kd1_a _ _), _, c9.2.1, fun i hi => ?_⟩
      unfold va_cpy
      rw [if_pos (by omega)]; simp
theorem sbd_str (h0 : uw_ b u) {a : Nat} {w : List Nat} {cap : Nat} (h : sbd_ d o u tb a w cap) (hw : w.length ≤ 10000) : Ev_ (fun n => uf_J4_toString n d u a) (fun r => r.1.1 = u.2 ∧ r.2 = (2, 4 + w.length) ∧ r.1.2.2 = u.2 + 2 ∧ ∃ o', ygt_ b K0_ o u o' r.1.2 ∧ st_ d o' r.1.2 u.2 w) := by
  unfold uf_J4_toString uf_J5_init
  refine ev_ac (ev_nw h0 (fun u2 c2 => ?_))
  have g2 := ygt_nw (K := K0_) (o := o) h0 c2 35
  have h2 := sbd_keep h0 g2 h (fun z => z) (fun z => z)
  have t35 : ot_ o u.2 35 u.2 = 35 := ot_at _ _ _
  generalize ot_ o u.2 35 = o2 at *
  obtain ⟨v, m, f, e1, e2, e3, e4, e5, e6, e7, e8, e9⟩ := id h2
  have nau : u.2 ≠ a := get_ne c2.2.1 e1 (fun z => by cases z)
  have hcl := cl_e e1
  refine ev_bc (P := fun (_ : Unit) u' cc => cc = (1, w.length) ∧ u'.2 = u2.2 + 1 ∧ ∃ o', ygt_ b K0_ o u o' u' ∧ st_ d o' u' u.2 w) ?_ (fun r u' cc hp => by rw [hp.1]; exact hp.2.1) (fun _ u6 cc hp => ?_)
  · refine ev_bc (P := fun (_ : Unit) u' cc => cc = (1, w.length) ∧ u'.2 = u2.2 + 1 ∧ ∃ o', ygt_ b K0_ o u o' u' ∧ st_ d o' u' u.2 w) ?_ (fun r u' cc hp => by rw [hp.1]; exact hp.2.1) (fun _ u6 cc hp => ev_some ⟨by rw [hp.1]; rfl, hp.2⟩)
    unfold uf_J5_init_2 uf_J3_getValue uf_J5_init_2_J97
    have f0 : u_fr d u2 14 0 a = some v := fr_e e1 rfl
    refine ev_b1 hcl ?_
    refine ev_b1 (show m_b (u_fr d u2 14 0 a) (fun b1 => some b1) = some v by rw [f0]; rfl) ?_
    refine ev_b1 hcl (ev_bn (fun n => sbd_len n h2) (ev_b1 hcl (ev_bn (fun n => sbd_lat n h2) ?_)))
    refine ev_ifF (by decide) (ev_g (by decide) ?_)
    refine ev_pf c2.2.1 (by simp) (fun w30 c30 => ?_)
    have g30 : ygt_ b K0_ o u o2 (w30, u2.2) := ygt_chn h0 g2 (Nat.le_refl _) c2.2.1 c30 (kd1_o _ _ _)
    have nvu : v ≠ u.2 := get_ne e3 c2.2.1 (fun z => by cases z)
    have e330 : bA_ d (w30, u2.2) v cap f := (c30.2.2 v nvu).trans e3
    refine ev_bc (P := fun r u' cc => r = u2.2 ∧ cc = (1, w.length) ∧ u'.2 = u2.2 + 1 ∧ ygt_ b K0_ o2 (w30, u2.2) (ot_ o2 u2.2 36) u' ∧ ∃ f', bA_ d u' u2.2 w.length f' ∧ ∀ i, i < w.length → f' i = f i) (sbd_copy (o := o2) g30.1 e330 e8 e5 e6 36) (fun r u' cc hp => by rw [hp.2.1]; exact hp.2.2.1) (fun r u34 cc hp => ?_)
    obtain ⟨rfl, rfl, z34, g34, f', a34, ef⟩ := hp
    have zu : u2.2 = u.2 + 1 := c2.1
    have e34 := ygt_at g30.1 g34 c30.2.1 (fun z => z)
    refine ev_pf e34.1 (by simp) (fun w38 c38 => ?_)
    have G34 := ygt_tr h0 g30 g34
    have G38 := ygt_chn h0 G34 (Nat.le_refl _) e34.1 c38 (kd1_o _ _ _)
    refine ev_some ⟨rfl, z34, ot_ o2 u2.2 36, G38, u2.2, f', c38.2.1, e34.2.trans t35, (c38.2.2 u2.2 (by omega)).trans a34, ot_at _ _ _, fun i hi => by rw [ef i hi]; exact e7 i hi, e9, hw, by omega⟩
  · obtain ⟨rfl, z6, o', g6, s6⟩ := hp
    refine ev_some ⟨rfl, ?_, ?_, o', g6, s6⟩
    · show (1 + (1 + 0), 4 + (w.length + 0)) = _; rfl
    · show u6.2 = u.2 + 2; rw [z6, c2.1]
theorem st_x {p : Nat} {w : List Nat} (h : st_ d o u p w) : sx_ d b o u p w := by
  obtain ⟨v, f, e1, e2, e3, e4, e5, e6, e7⟩ := h
  exact ⟨v, 0, 0, f, Or.inl ⟨e1, Or.inr (Or.inl e2)⟩, Or.inl ⟨e3, Or.inr (Or.inr e4)⟩, e5, e6, e7.1⟩
theorem sbd_at (n : Nat) {a : Nat} {w : List Nat} {cap : Nat} (h : sbd_ d o u tb a w cap) {i : Nat} (hi : i < w.length) : uf_J4_charAt n d u a (n_ i) = some (n_ (w.getD i 0)) := by
  obtain ⟨v, m, f, e1, e2, e3, e4, e5, e6, e7, e8, e9⟩ := h
  have f0 : u_fr d u 14 0 a = some v := fr_e e1 rfl
  have f1 : u_fi d u 14 1 a = some 0 := fi_e e1 rfl
  have f3 : u_fi d u 14 3 a = some (n_ w.length) := fi_e e1 rfl
  have hg : w.getD i 0 = w[i] := by simp [List.getD_eq_getElem?_getD, List.getElem?_eq_getElem hi]
  have h128 : w.getD i 0 < 128 := by rw [hg]; exact e9 _ (List.getElem_mem hi)
  unfold uf_J4_charAt uf_J3_charAt
  rw [cl_e e1, m_bs, f1, m_bs, f0, m_bs, f3, m_bs, lnB_e e3, m_bs, sh0, m_bs]
  have hmn : (if (n_ cap : Int32) < (n_ w.length : Int32) then (n_ cap : Int32) else (n_ w.length : Int32)) = n_ w.length := if_neg (by rw [n_lt (by omega) (by omega)]; omega)
  rw [hmn]
  unfold uf_J5_checkIndex uf_J11_checkIndex
  rw [ef_F (by rw [n_lit 0, n_lt (by omega) (by omega)]; omega), ef_T (by rw [n_lt (by omega) (by omega)]; exact hi), m_bs, m_bs, ef_T rfl, aiB_e e3 (show i < cap by omega) (by omega), m_bs, e7 i hi, ← hg, (nar_n h128).2.2.2.1, (nar_n h128).2.1, (nar_n h128).2.2.2.2, m_gT, m_bs, (nar_n h128).2.2.2.2, m_gT]
end
