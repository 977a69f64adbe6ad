set_option maxRecDepth 100000
/-! The Ways: goesOnce whole; until all is sent -/
theorem cn_sent {nu be th : Nat → Int} {k : Nat} {dd : Int} {L : Nat → Int} {sent : Int} (I : cn_I nu be th k dd L sent) : sent ≤ fw_sm 8 (fun a => max (nu a) 0) := by
  obtain ⟨i1, _, i3, _⟩ := I
  have h := i3 16 (by omega)
  rw [if_neg (by omega), if_pos rfl, cn_D0, cn_D_b, fw_sm_zero] at h
  have h2 : 0 ≤ fw_D 324 cn_src L 16 := by
    unfold fw_D
    have := fw_sm_le (n := 324) (f := fun _ => 0) (g := fun e => if cn_src e = 16 then L e else 0) (fun e he => by
      split
      · exact i1 e he
      · exact Int.le_refl _)
    rw [fw_sm_zero] at this; exact this
  omega
section
variable {d : UD} {b : Nat} {o : Nat → Nat} {a : Nat} {A : Nat → Nat} {m : Nat} {f0 f1 : Nat → Int32} {f3 : Nat → Int64} {f6 : Nat → Int32} {E : Nat → Nat} {k : Nat} {dd : Int}
/-- the Ways at work: all edges lie, so much is sent -/
def yV_ (d : UD) (o : Nat → Nat) (a : Nat) (A : Nat → Nat) (m : Nat) (f0 f1 : Nat → Int32) (f3 : Nat → Int64) (f6 : Nat → Int32) (E : Nat → Nat) (nu be may : Nat → Int) (k : Nat) (dd : Int) (u : UM) (L : Nat → Int) (sent : Int) : Prop := ∃ f2 f4 f5, yE_ d o u a A m f0 f1 f2 f3 f4 f5 f6 ∧ eG_ m E L (cn_w k dd) f0 f1 f2 f3 ∧ cn_I nu be may k dd L sent
theorem uw_once {n : Nat} {nu be : Nat → Int} {th : Option (Nat → Int)} {may : Nat → Int} (RA : rn_A n nu be th may) (hk : k < 64) (hd : -1 ≤ dd ∧ dd ≤ 1) (hW : eW_ m E) (hcov : ∀ e, e < 324 → (∀ j, j < m → E j ≠ e) → cn_L0 nu be may e = 0) (hfar : ∀ e, e < 324 → cn_L0 nu be may e + cn_L0 nu be may (cn_rev e) ≤ cn_FAR) {u : UM} (h0 : uw_ b u) {L : Nat → Int} {sent : Int} (V : yV_ d o a A m f0 f1 f3 f6 E nu be may k dd u L sent) (hs : sent < fw_sm 8 (fun a => max (nu a) 0)) :
    Ev_ (fun n => uf_X2_goesOnce n d u a) (fun r => r.2 = (0, 0) ∧ r.1.2.2 = u.2 ∧ ygt_ b KW_ o u o r.1.2 ∧ ((r.1.1 = lz_ 0 ∧ (∀ y, ¬ fs_F n nu be th y) ∧ ∃ f2 f4 f5, yE_ d o r.1.2 a A m f0 f1 f2 f3 f4 f5 f6) ∨ ∃ much L', r.1.1 = lz_ much ∧ 0 < much ∧ much ≤ cn_FAR ∧ yV_ d o a A m f0 f1 f3 f6 E nu be may k dd r.1.2 L' (sent + much))) := by
  obtain ⟨f2, f4, f5, Y, hE, I⟩ := V
  obtain ⟨p, q, P⟩ := cn_Pq_of I.2.2.2
  have far : cn_FAR = 2305843009213693951 := rfl
  have hL : ∀ e, e < 324 → 0 ≤ L e ∧ L e ≤ cn_FAR := fun e he => by
    have a1 := I.1 e he
    have a2 := I.1 _ (cn_net e he).2.2.1
    have a3 := I.2.1 e he
    have a4 := hfar e he
    exact ⟨a1, by omega⟩
  have hcv : ∀ e, e < 324 → (∀ j, j < m → E j ≠ e) → L e = 0 := fun e he hn => by
    obtain ⟨_, _, r1, r2, _⟩ := cn_net e he
    have b1 := hcov e he hn
    have b2 := hcov (cn_rev e) r1 (fun j hj z => by
      obtain ⟨x1, x2, x3⟩ := jx_ok hW hj
      rw [z, r2] at x3
      exact hn _ x1 x3)
    have a1 := I.1 e he
    have a2 := I.1 _ r1
    have a3 := I.2.1 e he
    omega
  unfold uf_X2_goesOnce
  refine bf_0 h0 Y L E k dd p q (fun w10 u7 z7 g7 h7 => ?_)
  refine ev_bl (P := fun s c => c = (0, 0) ∧ s.2 = u7.2 ∧ ygt_ b KW_ o (w10, u7.2) o s ∧ ∃ root' dist' pe', bf_ d o a A m f0 f1 f2 f3 f6 E L k dd p q s root' dist' pe' ∧ cn_X L k dd dist') (bf_all hk hd hW hE hL hcv P g7.1 h7) (fun u86 c hp => ?_)
  obtain ⟨rfl, z8, g8, root, dist, pe, h8, hX⟩ := hp
  have fit := bf_fit hk hd h8 (show 17 < 18 by omega)
  obtain ⟨f4', f5', Y8, B, e4, e5, hr, hr16, h16⟩ := id h8
  have l4 : u_ldL d u86 (A 4) 17 = some (lz_ (dist 17)) := by rw [n_lit 17, yE_l4 Y8 (show 17 < 18 by omega), e4 17 (by omega)]
  refine ev_b1 (yE_f4 Y8) (ev_b1 l4 ?_)
  rw [lz_far]
  have G8 := ygt_tr h0 g7 g8
  have Z8 : u86.2 = u.2 := z8.trans z7
  refine ev_ifq (lz_c0 (a := dist 17) (b := cn_FAR) ⟨by omega, by omega⟩ ⟨by omega, by omega⟩) (fun c1 => ?_) (fun c1 => ?_)
  · exact ev_some ⟨rfl, Z8, G8, Or.inl ⟨lz_0, cn_none RA hk hd I B hX (by rw [h16]; omega) (by omega) hs, f2, f4', f5', Y8⟩⟩
  · obtain ⟨l, hl, hall⟩ := cn_chain P B (show 17 < 18 by omega) (show dist 17 < cn_FAR by omega)
    rw [← lz_far]
    refine ev_bl (P := fun y c => c = (0, 0) ∧ y.2 = u86 ∧ ∃ much, y.1 = lz_ much ∧ 0 < much ∧ much ≤ cn_FAR ∧ ∀ x ∈ 17 :: l, ¬ root x → much ≤ L (pe x)) (bf_much hk hd hW hE hL h8 hl hall) (fun y c hp => ?_)
    obtain ⟨v2, u9⟩ := y
    obtain ⟨rfl, e9, much, e2, b1, b2, b3⟩ := hp
    dsimp only at e9 e2 ⊢
    subst e9; subst e2
    refine ev_bl (P := fun s c => c = (0, 0) ∧ s.2 = u9.2 ∧ ygt_ b KW_ o u9 o s ∧ ∃ f2' L', yE_ d o s a A m f0 f1 f2' f3 f4' f5' f6 ∧ eG_ m E L' (cn_w k dd) f0 f1 f2' f3 ∧ L' = fw_aug cn_rev pe much (17 :: l) L) (bf_gone hW hE g8.1 Y8 hr hr16 (fun x hx hnr => e5 x (hall x hx).1 hnr (hall x hx).2) (fun x hx => (hall x hx).1) hl much) (fun s c hp => ?_)
    obtain ⟨rfl, z10, g10, f2', L', Y10, hE10, hL'⟩ := hp
    refine ev_some ⟨rfl, z10.trans Z8, ygt_tr h0 G8 g10, Or.inr ⟨much, L', rfl, b1, b2, f2', f4', f5', Y10, hE10, ?_⟩⟩
    exact cn_I_step hk hd I P B hX hr (by omega) hl (by omega) b3 (fun e _ => by rw [hL'])
theorem uw_sends {n : Nat} {nu be : Nat → Int} {th : Option (Nat → Int)} {may : Nat → Int} (RA : rn_A n nu be th may) (hk : k < 64) (hkd : k / 8 ≠ k % 8) (hd : -1 ≤ dd ∧ dd ≤ 1) (hW : eW_ m E) (hcov : ∀ e, e < 324 → (∀ j, j < m → E j ≠ e) → cn_L0 nu be may e = 0) (hfar : ∀ e, e < 324 → cn_L0 nu be may e + cn_L0 nu be may (cn_rev e) ≤ cn_FAR) {u : UM} (h0 : uw_ b u) {L : Nat → Int} (V : yV_ d o a A m f0 f1 f3 f6 E nu be may k dd u L 0) (hS : fw_sm 8 (fun a => max (nu a) 0) ≤ cn_FAR) :
    Ev_ (fun n => uf_X2_goes_L210l n d a (lz_ (fw_sm 8 (fun a => max (nu a) 0)), u)) (fun r => r.2 = (0, 0) ∧ lq_ (fun s => s.2 = u.2 ∧ ygt_ b KW_ o u o s ∧ (∀ y, ¬ fs_F n nu be th y) ∧ ∃ f2 f4 f5, yE_ d o s a A m f0 f1 f2 f3 f4 f5 f6) (fun s => s.2 = u.2 ∧ ygt_ b KW_ o u o s ∧ ∃ f2 f4 f5 L', yE_ d o s a A m f0 f1 f2 f3 f4 f5 f6 ∧ eG_ m E L' (cn_w k dd) f0 f1 f2 f3 ∧ fs_O n nu be th (cn_x L') ∧ ∀ y, fs_O n nu be th y → dd * cn_x L' k ≤ dd * y k) r.1) := by
  have far : cn_FAR = 2305843009213693951 := rfl
  generalize hSS : fw_sm 8 (fun a => max (nu a) 0) = SS at *
  unfold uf_X2_goes_L210l
  refine ev_ul (Q := fun (y : UM ⊕ UM) (c : UC) => c = (0, 0) ∧ lq_ (fun s => s.2 = u.2 ∧ ygt_ b KW_ o u o s ∧ (∀ y, ¬ fs_F n nu be th y) ∧ ∃ f2 f4 f5, yE_ d o s a A m f0 f1 f2 f3 f4 f5 f6) (fun s => s.2 = u.2 ∧ ygt_ b KW_ o u o s ∧ ∃ f2 f4 f5 L', yE_ d o s a A m f0 f1 f2 f3 f4 f5 f6 ∧ eG_ m E L' (cn_w k dd) f0 f1 f2 f3 ∧ fs_O n nu be th (cn_x L') ∧ ∀ y, fs_O n nu be th y → dd * cn_x L' k ≤ dd * y k) y) (β := Int) (fun s => (SS - s).toNat) (fun sent (y : Int64 × UM) (c : UC) => c = (0, 0) ∧ y.1 = lz_ (SS - sent) ∧ 0 ≤ sent ∧ sent ≤ SS ∧ y.2.2 = u.2 ∧ ygt_ b KW_ o u o y.2 ∧ ∃ Lc, yV_ d o a A m f0 f1 f3 f6 E nu be may k dd y.2 Lc sent) (fun sent y c hy => ?_) 0 (lz_ SS, u) ⟨rfl, by rw [Int.sub_zero], Int.le_refl _, ?_, rfl, ygt_rfl h0, L, V⟩
  · obtain ⟨v6, u1⟩ := y
    obtain ⟨rfl, e1, b1, b2, z1, g1, Lc, V1⟩ := hy
    dsimp only at e1 z1 g1 V1 ⊢
    subst e1
    unfold uf_X2_goes_L210
    rw [lz_0]
    refine ev_ifq (lz_cle (a := SS - sent) (b := 0) ⟨by omega, by omega⟩ ⟨by omega, by omega⟩) (fun c1 => ?_) (fun c1 => ?_)
    · have es : sent = SS := by omega
      subst es
      obtain ⟨f2, f4, f5, Y, hE, I⟩ := V1
      rw [← hSS] at I
      obtain ⟨k1, k2⟩ := cn_end RA hk hkd hd I
      exact ev_some ⟨rfl, z1, g1, f2, f4, f5, Lc, Y, hE, k1, k2⟩
    · obtain ⟨f2, f4, f5, Y, _⟩ := id V1
      refine ev_b1 (cl_e Y.1) ?_
      refine ev_bc (P := fun r s c => c = (0, 0) ∧ s.2 = u1.2 ∧ ygt_ b KW_ o u1 o s ∧ ((r = lz_ 0 ∧ (∀ y, ¬ fs_F n nu be th y) ∧ ∃ f2 f4 f5, yE_ d o s a A m f0 f1 f2 f3 f4 f5 f6) ∨ ∃ much L', r = lz_ much ∧ 0 < much ∧ much ≤ cn_FAR ∧ yV_ d o a A m f0 f1 f3 f6 E nu be may k dd s L' (sent + much))) (uw_once RA hk hd hW hcov hfar g1.1 V1 (by rw [hSS]; omega)) (fun r s c hp => by rw [hp.1]; exact hp.2.1) (fun r u2 c hp => ?_)
      obtain ⟨rfl, z2, g2, hp⟩ := hp
      rcases hp with ⟨rfl, n1, n2⟩ | ⟨much, L', rfl, m1, m2, V2⟩
      · exact ev_ifT ((lz_c0 ⟨by omega, by omega⟩ ⟨by omega, by omega⟩).mpr rfl) (ev_some ⟨rfl, z2.trans z1, ygt_tr h0 g1 g2, n1, n2⟩)
      · refine ev_ifF (fun z => by have := (lz_c0 ⟨by omega, by omega⟩ ⟨by omega, by omega⟩).mp z; omega) ?_
        rw [lz_sub]
        have hs2 : sent + much ≤ SS := by
          obtain ⟨_, _, _, _, _, I2⟩ := V2
          have := cn_sent I2
          rw [hSS] at this; exact this
        exact ev_some ⟨sent + much, ⟨rfl, by rw [show SS - (sent + much) = SS - sent - much by omega], by omega, hs2, z2.trans z1, ygt_tr h0 g1 g2, L', V2⟩, by omega⟩
  · obtain ⟨_, _, _, _, _, I⟩ := V
    have := cn_sent I
    rw [hSS] at this; exact this
end
