set_option maxRecDepth 100000
/-! The Ways: going along the way; goesOnce -/
def jx_ (j : Nat) : Nat := if j % 2 = 0 then j + 1 else j - 1
theorem jx_n' : ∀ j : Fin 144, (Int32.ofNat j.val ^^^ 1) = Int32.ofNat (jx_ j.val) := by decide
theorem jx_n {j : Nat} (h : j < 144) : n_ j ^^^ 1 = n_ (jx_ j) := by
  rw [show n_ j = Int32.ofNat j from Int32.ofInt_eq_ofNat, show n_ (jx_ j) = Int32.ofNat (jx_ j) from Int32.ofInt_eq_ofNat]
  exact jx_n' ⟨j, h⟩
theorem jx_ok {m : Nat} {E : Nat → Nat} (h : eW_ m E) {j : Nat} (hj : j < m) : jx_ j < m ∧ jx_ j ≠ j ∧ E (jx_ j) = cn_rev (E j) := by
  by_cases c : j % 2 = 0
  · have e : j = 2 * (j / 2) := by omega
    obtain ⟨a, b⟩ := h.2.2.2 (j / 2) (by omega)
    rw [← e] at a b
    unfold jx_; rw [if_pos c]
    exact ⟨a, by omega, b⟩
  · have e : j = 2 * (j / 2) + 1 := by omega
    obtain ⟨a, b⟩ := h.2.2.2 (j / 2) (by omega)
    rw [← e] at b
    unfold jx_; rw [if_neg c, show j - 1 = 2 * (j / 2) by omega]
    refine ⟨by omega, by omega, ?_⟩
    rw [b, (cn_net _ (h.2.1 _ (by omega))).2.2.2.1]
section
variable {d : UD} {b : Nat} {o : Nat → Nat} {a : Nat} {A : Nat → Nat} {m : Nat} {f0 f1 : Nat → Int32} {f2 f3 : Nat → Int64} {f6 : Nat → Int32} {E : Nat → Nat} {L : Nat → Int} {k : Nat} {dd : Int} {p q : Nat → Int}
theorem bf_gone (hW : eW_ m E) (hE : eG_ m E L (cn_w k dd) f0 f1 f2 f3) {u : UM} (h0 : uw_ b u) {f4 : Nat → Int64} {f5 : Nat → Int32} (Y : yE_ d o u a A m f0 f1 f2 f3 f4 f5 f6) {root : Nat → Prop} {pe : Nat → Nat} {l : List Nat} (hr : ∀ v, root v → v = 16) (hr16 : root 16) (h5 : ∀ x ∈ 17 :: l, ¬ root x → ∃ j, j < m ∧ f5 x = n_ j ∧ pe x = E j) (hlt : ∀ x ∈ 17 :: l, x < 18) (hc : fw_Ch (fun x => cn_src (pe x)) root (17 :: l)) (much : Int) :
    Ev_ (fun n => uf_X2_goesOnce_L235l n d a (lz_ much) (17, u)) (fun r => r.2 = (0, 0) ∧ r.1.2 = u.2 ∧ ygt_ b KW_ o u o r.1 ∧ ∃ f2' L', yE_ d o r.1 a A m f0 f1 f2' f3 f4 f5 f6 ∧ eG_ m E L' (cn_w k dd) f0 f1 f2' f3 ∧ L' = fw_aug cn_rev pe much (17 :: l) L) := by
  have m144 := hW.1
  unfold uf_X2_goesOnce_L235l
  refine ev_ul (Q := fun (y : UM) (c : UC) => c = (0, 0) ∧ y.2 = u.2 ∧ ygt_ b KW_ o u o y ∧ ∃ f2' L', yE_ d o y a A m f0 f1 f2' f3 f4 f5 f6 ∧ eG_ m E L' (cn_w k dd) f0 f1 f2' f3 ∧ L' = fw_aug cn_rev pe much (17 :: l) L) (β := List Nat) (fun r => r.length) (fun r (y : Int32 × UM) (c : UC) => c = (0, 0) ∧ y.2.2 = u.2 ∧ ygt_ b KW_ o u o y.2 ∧ ∃ v rest, r = v :: rest ∧ y.1 = n_ v ∧ fw_Ch (fun x => cn_src (pe x)) root r ∧ (∀ x ∈ r, x ∈ 17 :: l) ∧ ∃ f2' Lc, yE_ d o y.2 a A m f0 f1 f2' f3 f4 f5 f6 ∧ eG_ m E Lc (cn_w k dd) f0 f1 f2' f3 ∧ fw_aug cn_rev pe much r Lc = fw_aug cn_rev pe much (17 :: l) L) (fun r y c hy => ?_) (17 :: l) (17, u) ⟨rfl, rfl, ygt_rfl h0, 17, l, rfl, n_lit 17, hc, fun x hx => hx, f2, L, Y, hE, rfl⟩
  obtain ⟨v4, u1⟩ := y
  obtain ⟨rfl, z1, g1, v, rest, rfl, e1, hch, hin, f2', Lc, Y1, hE1, hA⟩ := hy
  dsimp only at e1 z1 g1 Y1 ⊢
  subst e1
  have hv := hlt v (hin v List.mem_cons_self)
  unfold uf_X2_goesOnce_L235
  refine ev_ifq (c' := v = 16) (by rw [n_lit 16, n_eq (by omega) (by omega)]) (fun c => ?_) (fun c => ?_)
  · cases rest with
    | nil => exact ev_some ⟨rfl, z1, g1, f2', Lc, Y1, hE1, hA⟩
    | cons y rest => exact absurd (by rw [c]; exact hr16) hch.1
  · have hnr : ¬ root v := fun z => c (hr v z)
    obtain ⟨j, j1, j2, j3⟩ := h5 v (hin v List.mem_cons_self) hnr
    cases rest with
    | nil => exact absurd hch hnr
    | cons y rest =>
      obtain ⟨_, hpr, hch2⟩ := hch
      obtain ⟨x1, x2, x3⟩ := jx_ok hW j1
      obtain ⟨g0, _, g2, _⟩ := hE1 j j1
      obtain ⟨_, _, gx2, _⟩ := hE1 (jx_ j) x1
      have nej : cn_rev (E j) ≠ E j := fun z => x2 (hW.2.2.1 _ _ x1 j1 (x3.trans z))
      have l5 : u_ldI d u1 (A 5) (n_ v) = some (n_ j) := by rw [yE_l5 Y1 hv, j2]
      have l2 : u_ldL d u1 (A 2) (n_ j) = some (lz_ (Lc (E j))) := by rw [yE_l2 Y1 (show j < 144 by omega), g2]
      refine ev_b1 (yE_f2 Y1) (ev_b1 (yE_f5 Y1) (ev_b1 l5 (ev_b1 l2 ?_)))
      rw [lz_sub]
      refine yE_s2 g1.1 Y1 (show j < 144 by omega) _ (fun w123 Y2 gg2 => ?_)
      have l5' : u_ldI d (w123, u1.2) (A 5) (n_ v) = some (n_ j) := by rw [yE_l5 Y2 hv, j2]
      have l2' : u_ldL d (w123, u1.2) (A 2) (n_ (jx_ j)) = some (lz_ (Lc (cn_rev (E j)))) := by rw [yE_l2 Y2 (show jx_ j < 144 by omega), updL_ne x2, gx2, x3]
      refine ev_b1 (yE_f2 Y2) (ev_b1 (yE_f5 Y2) (ev_b1 l5' ?_))
      rw [jx_n (show j < 144 by omega)]
      refine ev_b1 l2' ?_
      rw [lz_add]
      refine yE_s2 gg2.1 Y2 (show jx_ j < 144 by omega) _ (fun w133 Y3 gg3 => ?_)
      have l5'' : u_ldI d (w133, u1.2) (A 5) (n_ v) = some (n_ j) := by rw [yE_l5 Y3 hv, j2]
      have l0 : u_ldI d (w133, u1.2) (A 0) (n_ j) = some (n_ (cn_src (E j))) := by rw [yE_l0 Y3 (show j < 144 by omega), g0]
      refine ev_b1 (yE_f0 Y3) (ev_b1 (yE_f5 Y3) (ev_b1 l5'' (ev_b1 l0 ?_)))
      have hy : cn_src (E j) = y := by rw [← j3]; exact hpr
      rw [hy]
      refine ev_some ⟨y :: rest, ⟨rfl, z1, ygt_tr h0 g1 (ygt_tr g1.1 (ygt_sub gg2 (KW_1 (by omega))) (ygt_sub gg3 (KW_1 (by omega)))), y, rest, rfl, rfl, hch2, fun x hx => hin x (List.mem_cons_of_mem _ hx), _, fw_up (fw_up Lc (pe v) (Lc (pe v) - much)) (cn_rev (pe v)) ((fw_up Lc (pe v) (Lc (pe v) - much)) (cn_rev (pe v)) + much), Y3, fun i hi => ?_, hA⟩, by simp⟩
      obtain ⟨i0, i1, i2, i3⟩ := hE1 i hi
      refine ⟨i0, i1, ?_, i3⟩
      rw [j3]
      by_cases c1 : i = jx_ j
      · rw [c1, updL_at, x3, fw_up_at, fw_up_ne nej]
      · rw [updL_ne c1]
        have n1 : E i ≠ cn_rev (E j) := fun z => c1 (hW.2.2.1 _ _ hi x1 (z.trans x3.symm))
        rw [fw_up_ne n1]
        by_cases c2 : i = j
        · rw [c2, updL_at, fw_up_at]
        · rw [updL_ne c2, fw_up_ne (fun z => c2 (hW.2.2.1 _ _ hi j1 z))]; exact i2
end
