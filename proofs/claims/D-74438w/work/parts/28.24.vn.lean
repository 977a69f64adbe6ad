set_option maxRecDepth 100000
/-! The Ways lay their numbers until no edge is left -/
theorem cn_w_1 {k : Nat} (hk : k < 64) {dd : Int} (hd : -1 ≤ dd ∧ dd ≤ 1) (e : Nat) : -100000001 ≤ cn_w k dd e ∧ cn_w k dd e ≤ 100000001 := by
  have h1 := cn_c_1 e
  have h2 := cn_d_1 hk hd e
  unfold cn_w cn_W
  omega
/-- numbers and edges as they lie -/
def bf_ (d : UD) (o : Nat → Nat) (a : Nat) (A : Nat → Nat) (m : Nat) (f0 f1 : Nat → Int32) (f2 f3 : Nat → Int64) (f6 : Nat → Int32) (E : Nat → Nat) (L : Nat → Int) (k : Nat) (dd : Int) (p q : Nat → Int) (u : UM) (root : Nat → Prop) (dist : Nat → Int) (pe : Nat → Nat) : Prop :=
  ∃ f4 f5, yE_ d o u a A m f0 f1 f2 f3 f4 f5 f6 ∧ cn_B L k dd p q root dist pe ∧ (∀ v, v < 18 → f4 v = lz_ (dist v)) ∧ (∀ v, v < 18 → ¬ root v → dist v < cn_FAR → ∃ j, j < m ∧ f5 v = n_ j ∧ pe v = E j) ∧ (∀ v, root v → v = 16) ∧ root 16 ∧ dist 16 = 0
section
variable {d : UD} {b : Nat} {o : Nat → Nat} {a : Nat} {A : Nat → Nat} {m : Nat} {f0 f1 : Nat → Int32} {f2 f3 : Nat → Int64} {f6 : Nat → Int32} {E : Nat → Nat} {L : Nat → Int} {k : Nat} {dd : Int} {p q : Nat → Int}
theorem bf_fit (hk : k < 64) (hd : -1 ≤ dd ∧ dd ≤ 1) {u : UM} {root : Nat → Prop} {dist : Nat → Int} {pe : Nat → Nat} (h : bf_ d o a A m f0 f1 f2 f3 f6 E L k dd p q u root dist pe) {v : Nat} (hv : v < 18) : -1800000018 ≤ dist v ∧ dist v ≤ cn_FAR := by
  obtain ⟨f4, f5, _, B, _⟩ := h
  have h1 := B.1 v hv
  refine ⟨?_, h1⟩
  by_cases c : dist v < cn_FAR
  · have := fw_B_low B (wm := 100000001) (by omega) (fun e _ => (cn_w_1 hk hd e).1) hv c
    omega
  · unfold cn_FAR at c; omega
/-- one edge is looked at -/
theorem bf_step (hk : k < 64) (hd : -1 ≤ dd ∧ dd ≤ 1) (hW : eW_ m E) (hE : eG_ m E L (cn_w k dd) f0 f1 f2 f3) (hL : ∀ e, e < 324 → 0 ≤ L e ∧ L e ≤ cn_FAR) (P : cn_Pq k dd L p q) {u : UM} (h0 : uw_ b u) {root : Nat → Prop} {dist : Nat → Int} {pe : Nat → Nat} (h : bf_ d o a A m f0 f1 f2 f3 f6 E L k dd p q u root dist pe) {j : Nat} (hj : j < m) (v1 : Int32) :
    Ev_ (fun n => uf_X2_goesOnce_L41 n d a v1 (n_ j) u) (fun r => ∃ v1' u', r = (.inl (v1', n_ (j + 1), u'), (0, 0)) ∧ u'.2 = u.2 ∧ ygt_ b KW_ o u o u' ∧ ∃ root' dist' pe', bf_ d o a A m f0 f1 f2 f3 f6 E L k dd p q u' root' dist' pe' ∧ ((v1' = v1 ∧ dist' = dist ∧ (0 < L (E j) → dist (cn_src (E j)) < cn_FAR → dist (cn_dst (E j)) ≤ dist (cn_src (E j)) + cn_w k dd (E j))) ∨ (v1' = 1 ∧ fw_sm 18 dist' < fw_sm 18 dist))) := by
  have fit := fun v (hv : v < 18) => bf_fit hk hd h hv
  obtain ⟨f4, f5, Y, B, e4, e5, hr, hr16, h16⟩ := id h
  have he := hW.2.1 j hj
  have m144 := hW.1
  obtain ⟨g0, g1, g2, g3⟩ := hE j hj
  obtain ⟨ns, nd, _⟩ := cn_net _ he
  have fs := fit _ ns
  have fd := fit _ nd
  have fw := cn_w_1 hk hd (E j)
  have hl := hL _ he
  have far : cn_FAR = 2305843009213693951 := rfl
  have l0 : u_ldI d u (A 0) (n_ j) = some (n_ (cn_src (E j))) := by rw [yE_l0 Y (show j < 144 by omega), g0]
  have l1 : u_ldI d u (A 1) (n_ j) = some (n_ (cn_dst (E j))) := by rw [yE_l1 Y (show j < 144 by omega), g1]
  have l2 : u_ldL d u (A 2) (n_ j) = some (lz_ (L (E j))) := by rw [yE_l2 Y (show j < 144 by omega), g2]
  have l3 : u_ldL d u (A 3) (n_ j) = some (lz_ (cn_w k dd (E j))) := by rw [yE_l3 Y (show j < 144 by omega), g3]
  have l4s : u_ldL d u (A 4) (n_ (cn_src (E j))) = some (lz_ (dist (cn_src (E j)))) := by rw [yE_l4 Y ns, e4 _ ns]
  have l4d : u_ldL d u (A 4) (n_ (cn_dst (E j))) = some (lz_ (dist (cn_dst (E j)))) := by rw [yE_l4 Y nd, e4 _ nd]
  have y0 := yE_f0 Y
  have y1 := yE_f1 Y
  have y2 := yE_f2 Y
  have y3 := yE_f3 Y
  have y4 := yE_f4 Y
  have y7 := yE_e Y
  have hij : n_ j + 1 = n_ (j + 1) := by rw [n_lit 1, n_add]
  unfold uf_X2_goesOnce_L41 uf_X2_goesOnce_J157
  simp only [y0, y1, y2, y3, y4, y7, l0, l1, l2, l3, l4s, l4d, m_bs, hij, lz_add, lz_far, lz_0]
  refine ev_ifF (by rw [n_le (by omega) (by omega)]; omega) ?_
  refine ev_ifq (lz_c0 (a := L (E j)) (b := 0) ⟨by omega, by omega⟩ ⟨by omega, by omega⟩) (fun c1 => ?_) (fun c1 => ?_)
  · exact ev_some ⟨v1, u, rfl, rfl, ygt_rfl h0, root, dist, pe, h, Or.inl ⟨rfl, rfl, fun z => by omega⟩⟩
  refine ev_ifq (lz_c0 (a := dist (cn_src (E j))) (b := cn_FAR) ⟨by omega, by omega⟩ ⟨by omega, by omega⟩) (fun c2 => ?_) (fun c2 => ?_)
  · exact ev_some ⟨v1, u, rfl, rfl, ygt_rfl h0, root, dist, pe, h, Or.inl ⟨rfl, rfl, fun _ z => by omega⟩⟩
  refine ev_ifq (lz_cl (a := dist (cn_src (E j)) + cn_w k dd (E j)) (b := dist (cn_dst (E j))) ⟨by omega, by omega⟩ ⟨by omega, by omega⟩) (fun c3 => ?_) (fun c3 => ?_)
  · refine yE_s4 h0 Y nd _ (fun w69 Y2 gg2 => ?_)
    refine ev_b1 (yE_f5 Y2) (ev_b1 (yE_f1 Y2) (ev_b1 (by rw [yE_l1 Y2 (show j < 144 by omega), g1]) ?_))
    refine yE_s5 gg2.1 Y2 nd (n_ j) (fun w77 Y3 gg3 => ?_)
    have B' := fw_B_step (fun e he => ⟨(cn_net e he).1, (cn_net e he).2.1⟩) P.2 B he (show 0 < L (E j) by omega) (show dist (cn_src (E j)) < cn_FAR by omega) c3
    have c16 : (16 : Nat) ≠ cn_dst (E j) := fun z => by
      have a1 := P.2 (E j) he (show 0 < L (E j) by omega)
      have a2 := B.2.1 _ ns (show dist (cn_src (E j)) < cn_FAR by omega)
      rw [← z] at a1 c3
      omega
    refine ev_some ⟨1, (w77, u.2), rfl, rfl, ygt_tr h0 (ygt_sub gg2 (KW_1 (by omega))) (ygt_sub gg3 (KW_1 (by omega))), _, _, _, ⟨_, _, Y3, B', fun v hv => ?_, fun v hv hv1 hv2 => ?_, fun v hv => hr v hv.1, ⟨hr16, c16⟩, by rw [fw_up_ne c16]; exact h16⟩, Or.inr ⟨rfl, fw_B_sum nd c3⟩⟩
    · by_cases c : v = cn_dst (E j)
      · subst c; rw [updL_at, fw_up_at]
      · rw [updL_ne c, fw_up_ne c]; exact e4 v hv
    · by_cases c : v = cn_dst (E j)
      · subst c
        exact ⟨j, hj, by rw [upd_at], by unfold fw_un; rw [if_pos rfl]⟩
      · rw [fw_up_ne c] at hv2
        obtain ⟨i, i1, i2, i3⟩ := e5 v hv (fun z => hv1 ⟨z, c⟩) hv2
        exact ⟨i, i1, by rw [upd_ne c]; exact i2, by unfold fw_un; rw [if_neg c]; exact i3⟩
  · exact ev_some ⟨v1, u, rfl, rfl, ygt_rfl h0, root, dist, pe, h, Or.inl ⟨rfl, rfl, fun _ _ => by omega⟩⟩
theorem bf_all (hk : k < 64) (hd : -1 ≤ dd ∧ dd ≤ 1) (hW : eW_ m E) (hE : eG_ m E L (cn_w k dd) f0 f1 f2 f3) (hL : ∀ e, e < 324 → 0 ≤ L e ∧ L e ≤ cn_FAR) (hcov : ∀ e, e < 324 → (∀ j, j < m → E j ≠ e) → L e = 0) (P : cn_Pq k dd L p q) {u : UM} (h0 : uw_ b u) {root : Nat → Prop} {dist : Nat → Int} {pe : Nat → Nat} (h : bf_ d o a A m f0 f1 f2 f3 f6 E L k dd p q u root dist pe) :
    Ev_ (fun n => uf_X2_goesOnce_L33l n d a (1, u)) (fun r => r.2 = (0, 0) ∧ r.1.2 = u.2 ∧ ygt_ b KW_ o u o r.1 ∧ ∃ root' dist' pe', bf_ d o a A m f0 f1 f2 f3 f6 E L k dd p q r.1 root' dist' pe' ∧ cn_X L k dd dist') := by
  have m144 := hW.1
  obtain ⟨G, hG1, hG2⟩ := fw_floor 18 (fun v => - cn_pi p q 16 + cn_pi p q v) cn_FAR
  have hfl : ∀ {u : UM} {root : Nat → Prop} {dist : Nat → Int} {pe : Nat → Nat}, bf_ d o a A m f0 f1 f2 f3 f6 E L k dd p q u root dist pe → fw_sm 18 (fun _ => G) ≤ fw_sm 18 dist := fun h => by
    obtain ⟨f4, f5, _, B, _⟩ := h
    exact fw_B_floor B hG1 hG2
  unfold uf_X2_goesOnce_L33l
  refine ev_ul (Q := fun (s : UM) (c : UC) => c = (0, 0) ∧ s.2 = u.2 ∧ ygt_ b KW_ o u o s ∧ ∃ root' dist' pe', bf_ d o a A m f0 f1 f2 f3 f6 E L k dd p q s root' dist' pe' ∧ cn_X L k dd dist') (β := Nat) (fun x => x) (fun x (y : Int32 × UM) (c : UC) => c = (0, 0) ∧ y.2.2 = u.2 ∧ ygt_ b KW_ o u o y.2 ∧ ∃ root' dist' pe', bf_ d o a A m f0 f1 f2 f3 f6 E L k dd p q y.2 root' dist' pe' ∧ ((y.1 = 0 ∧ cn_X L k dd dist' ∧ x = 2 * (fw_sm 18 dist' - fw_sm 18 (fun _ => G)).toNat) ∨ (y.1 = 1 ∧ x = 2 * (fw_sm 18 dist' - fw_sm 18 (fun _ => G)).toNat + 1))) (fun x y c hy => ?_) (2 * (fw_sm 18 dist - fw_sm 18 (fun _ => G)).toNat + 1) (1, u) ⟨rfl, rfl, ygt_rfl h0, root, dist, pe, h, Or.inr ⟨rfl, rfl⟩⟩
  obtain ⟨v1, u1⟩ := y
  obtain ⟨rfl, z1, gg1, root1, dist1, pe1, h1, hv⟩ := hy
  dsimp only at z1 gg1 h1 hv ⊢
  unfold uf_X2_goesOnce_L33
  rcases hv with ⟨rfl, hX, _⟩ | ⟨rfl, hx⟩
  · exact ev_ifT rfl (ev_some ⟨rfl, z1, gg1, root1, dist1, pe1, h1, hX⟩)
  · refine ev_ifF (by decide) ?_
    refine ev_bl (P := fun y c => c = (0, 0) ∧ y.2.2 = u1.2 ∧ ygt_ b KW_ o u1 o y.2 ∧ ∃ root' dist' pe', bf_ d o a A m f0 f1 f2 f3 f6 E L k dd p q y.2 root' dist' pe' ∧ ((y.1 = 0 ∧ dist' = dist1 ∧ ∀ i, i < m → 0 < L (E i) → dist1 (cn_src (E i)) < cn_FAR → dist1 (cn_dst (E i)) ≤ dist1 (cn_src (E i)) + cn_w k dd (E i)) ∨ (y.1 = 1 ∧ fw_sm 18 dist' < fw_sm 18 dist1))) ?_ (fun y c hp => ?_)
    · unfold uf_X2_goesOnce_L41l
      refine ev_uf (Q := fun (y : Int32 × UM) => y.2.2 = u1.2 ∧ ygt_ b KW_ o u1 o y.2 ∧ ∃ root' dist' pe', bf_ d o a A m f0 f1 f2 f3 f6 E L k dd p q y.2 root' dist' pe' ∧ ((y.1 = 0 ∧ dist' = dist1 ∧ ∀ i, i < m → 0 < L (E i) → dist1 (cn_src (E i)) < cn_FAR → dist1 (cn_dst (E i)) ≤ dist1 (cn_src (E i)) + cn_w k dd (E i)) ∨ (y.1 = 1 ∧ fw_sm 18 dist' < fw_sm 18 dist1))) m (fun (j : Nat) (y : Int32 × Int32 × UM) => y.2.1 = n_ j ∧ y.2.2.2 = u1.2 ∧ ygt_ b KW_ o u1 o y.2.2 ∧ ∃ root' dist' pe', bf_ d o a A m f0 f1 f2 f3 f6 E L k dd p q y.2.2 root' dist' pe' ∧ ((y.1 = 0 ∧ dist' = dist1 ∧ ∀ i, i < j → 0 < L (E i) → dist1 (cn_src (E i)) < cn_FAR → dist1 (cn_dst (E i)) ≤ dist1 (cn_src (E i)) + cn_w k dd (E i)) ∨ (y.1 = 1 ∧ fw_sm 18 dist' < fw_sm 18 dist1))) (fun j y hj hP => ?_) (fun y hP => ?_) (0, 0, u1) ⟨n_lit 0, rfl, ygt_rfl gg1.1, root1, dist1, pe1, h1, Or.inl ⟨rfl, rfl, fun i hi => absurd hi (Nat.not_lt_zero _)⟩⟩
      · obtain ⟨w1, w2, u2⟩ := y
        obtain ⟨e0, z2, gg2, root2, dist2, pe2, h2, hv⟩ := hP
        dsimp only at e0 z2 gg2 h2 hv ⊢
        subst e0
        refine ev_w (bf_step hk hd hW hE hL P gg2.1 h2 hj w1) (fun r hr => ?_)
        obtain ⟨v1', u', rfl, z3, gg3, root3, dist3, pe3, h3, hw⟩ := hr
        refine ⟨_, rfl, rfl, z3.trans z2, ygt_tr gg1.1 gg2 gg3, root3, dist3, pe3, h3, ?_⟩
        rcases hw with ⟨rfl, rfl, hw⟩ | ⟨rfl, hw⟩
        · rcases hv with ⟨q1, rfl, q3⟩ | ⟨q1, q2⟩
          · refine Or.inl ⟨q1, rfl, fun i hi => ?_⟩
            by_cases e : i = j
            · subst e; exact hw
            · exact q3 i (by omega)
          · exact Or.inr ⟨q1, q2⟩
        · refine Or.inr ⟨rfl, ?_⟩
          rcases hv with ⟨q1, rfl, q3⟩ | ⟨q1, q2⟩ <;> omega
      · obtain ⟨w1, w2, u2⟩ := y
        obtain ⟨e0, z2, gg2, root2, dist2, pe2, h2, hv⟩ := hP
        dsimp only at e0 z2 gg2 h2 hv ⊢
        subst e0
        obtain ⟨f4, f5, Y, _⟩ := id h2
        unfold uf_X2_goesOnce_L41
        refine ev_b1 (yE_e Y) (ev_ifT (by rw [n_le (by omega) (by omega)]; omega) (ev_some ⟨_, rfl, z2, gg2, root2, dist2, pe2, h2, hv⟩))
    · obtain ⟨w1, u2⟩ := y
      obtain ⟨rfl, z2, gg2, root2, dist2, pe2, h2, hv⟩ := hp
      dsimp only at z2 gg2 h2 hv ⊢
      have f1' := hfl h1
      have f2' := hfl h2
      rcases hv with ⟨rfl, rfl, q3⟩ | ⟨rfl, q2⟩
      · refine ev_some ⟨2 * (fw_sm 18 dist2 - fw_sm 18 (fun _ => G)).toNat, ⟨rfl, z2.trans z1, ygt_tr h0 gg1 gg2, root2, dist2, pe2, h2, Or.inl ⟨rfl, fun e he ho hs => ?_, rfl⟩⟩, by omega⟩
        by_cases c : ∃ j, j < m ∧ E j = e
        · obtain ⟨j, j1, rfl⟩ := c
          exact q3 j j1 ho hs
        · have := hcov e he (fun j hj z => c ⟨j, hj, z⟩)
          have ho' : 0 < L e := ho
          omega
      · exact ev_some ⟨2 * (fw_sm 18 dist2 - fw_sm 18 (fun _ => G)).toNat + 1, ⟨rfl, z2.trans z1, ygt_tr h0 gg1 gg2, root2, dist2, pe2, h2, Or.inr ⟨rfl, rfl⟩⟩, by omega⟩
end
