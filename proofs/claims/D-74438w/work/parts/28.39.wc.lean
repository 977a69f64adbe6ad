set_option maxRecDepth 100000
/-! The Press: made -/
section
variable {d : UD} {b : Nat} {o : Nat → Nat} {a t np : Nat} {af ab tc : Nat} {f : Nat → Int32} {F be : Nat → Int}
theorem up_init {u : UM} (h0 : uw_ b u) (ha : ob_ u a 8 [.int 0, .null, .null, .null, .null, .null]) (ta : o a = 27) (hf : iA_ d u af 64 f) (tf : o af = 21) (eF : ∀ c, c < 64 → f c = q_ (F c)) (hB : yC_ d o u ab tc be) (htc : ¬ KP_ tc) (hbe : ∀ c, c < 64 → fs_cp np c → qf_ (be c)) (h8 : np ≤ 8) (hz : ∀ c, c < 64 → ¬ fs_cp np c → F c = 0) (hr : ∀ p, p < np → (0 ≤ fs_out F p ∧ fs_out F p < 2147483648) ∧ (0 ≤ fs_in F p ∧ fs_in F p < 2147483648)) {v5 : Int32} {tm : Nat → Int} (hv : (v5 = 0 ∧ ∀ y, y < np → tm y = cn_FAR) ∨ (¬ v5 = 0 ∧ ∀ y, y < np → tm y = min (fs_out F y) (fs_in F y))) :
    Ev_ (fun n => uf_X8_init n d u a t (n_ np) af ab v5) (fun r => r.2 = (4, 144) ∧ r.1.2.2 = u.2 + 4 ∧ ∃ o', ygt_ b KP_ o u o' r.1.2 ∧ ∃ A fn fb fc ft, yZ_ d o' r.1.2 a t np A fn fb fc ft ∧ pN_ np np F be fn fb ∧ ∀ y, y < np → ft y = lz_ (tm y)) := by
  have au : a < u.2 := (h0.2 _ _ ha).2
  have k27 : ∀ {o' : Nat → Nat}, o' a = 27 → KP_ (o' a) := fun h => by rw [h]; unfold KP_; omega
  unfold uf_X8_init
  rw [show (8 : Int32) = n_ 8 from n_lit 8, show (64 : Int32) = n_ 64 from n_lit 64]
  simp only [n_nat (show (8 : Nat) < 2147483648 by omega), n_nat (show (64 : Nat) < 2147483648 by omega)]
  refine ev_pf ha (by simp) (fun w1 c1 => ?_)
  have g1 : ygt_ b KP_ o u o (w1, u.2) := ygt_ch h0 ha c1 (kd1_o _ _ _) (k27 ta)
  refine ev_g (ln_e (by omega)) (ev_ac ?_)
  refine ev_b1 rfl ?_
  have c4 := nw_nw g1.1 (.inl (d.1 0, 8, .inl (fun _ => 0)))
  have g4 := ygt_nw (K := KP_) (o := o) g1.1 c4 28
  have z4 : (u_nw (w1, u.2) (.inl (d.1 0, 8, .inl (fun _ => 0)))).2 = u.2 + 1 := c4.1
  generalize u_nw (w1, u.2) (.inl (d.1 0, 8, .inl (fun _ => 0))) = u4 at *
  have t4 : ot_ o u.2 28 a = 27 := (ot_ne (by omega)).trans ta
  have s4 : ot_ o u.2 28 u.2 = 28 := ot_at _ _ _
  change ygt_ b KP_ o (w1, u.2) (ot_ o u.2 28) u4 at g4
  generalize ot_ o u.2 28 = o4 at *
  have G4 := ygt_tr h0 g1 g4
  have e4 : ob_ u4 a 8 _ := (c4.2.2 a (show a ≠ u.2 by omega)).trans c1.2.1
  have r4 : iA_ d u4 u.2 8 (fun _ => 0) := c4.2.1
  refine ev_pf e4 (by simp) (fun w7 c7 => ?_)
  have g7 : ygt_ b KP_ o4 u4 o4 (w7, u4.2) := ygt_ch g4.1 e4 c7 (kd1_o _ _ _) (k27 t4)
  refine ev_g (ln_e (by omega)) (ev_ac ?_)
  refine ev_b1 rfl ?_
  have c10 := nw_nw g7.1 (.inl (d.1 1, 64, .inr (.inl (fun _ => 0))))
  have g10 := ygt_nw (K := KP_) (o := o4) g7.1 c10 29
  have z10 : (u_nw (w7, u4.2) (.inl (d.1 1, 64, .inr (.inl (fun _ => 0))))).2 = u4.2 + 1 := c10.1
  generalize u_nw (w7, u4.2) (.inl (d.1 1, 64, .inr (.inl (fun _ => 0)))) = u10 at *
  have t10 : ot_ o4 u4.2 29 a = 27 := (ot_ne (by omega)).trans t4
  have s10 : ot_ o4 u4.2 29 u.2 = 28 := (ot_ne (by omega)).trans s4
  have s10' : ot_ o4 u4.2 29 u4.2 = 29 := ot_at _ _ _
  change ygt_ b KP_ o4 (w7, u4.2) (ot_ o4 u4.2 29) u10 at g10
  generalize ot_ o4 u4.2 29 = o10 at *
  have G10 := ygt_tr h0 G4 (ygt_tr g4.1 g7 g10)
  have e10 : ob_ u10 a 8 _ := (c10.2.2 a (show a ≠ u4.2 by omega)).trans c7.2.1
  have r10 : iA_ d u10 u.2 8 (fun _ => 0) := (c10.2.2 u.2 (show u.2 ≠ u4.2 by omega)).trans ((c7.2.2 u.2 (by omega)).trans r4)
  have r10' : lA_ d u10 u4.2 64 (fun _ => 0) := c10.2.1
  refine ev_pf e10 (by simp) (fun w13 c13 => ?_)
  have g13 : ygt_ b KP_ o10 u10 o10 (w13, u10.2) := ygt_ch g10.1 e10 c13 (kd1_o _ _ _) (k27 t10)
  refine ev_g (ln_e (by omega)) (ev_ac ?_)
  refine ev_b1 rfl ?_
  have c16 := nw_nw g13.1 (.inl (d.1 1, 64, .inr (.inl (fun _ => 0))))
  have g16 := ygt_nw (K := KP_) (o := o10) g13.1 c16 30
  have z16 : (u_nw (w13, u10.2) (.inl (d.1 1, 64, .inr (.inl (fun _ => 0))))).2 = u10.2 + 1 := c16.1
  generalize u_nw (w13, u10.2) (.inl (d.1 1, 64, .inr (.inl (fun _ => 0)))) = u16 at *
  have t16 : ot_ o10 u10.2 30 a = 27 := (ot_ne (by omega)).trans t10
  have s16 : ot_ o10 u10.2 30 u.2 = 28 := (ot_ne (by omega)).trans s10
  have s16' : ot_ o10 u10.2 30 u4.2 = 29 := (ot_ne (by omega)).trans s10'
  have s16'' : ot_ o10 u10.2 30 u10.2 = 30 := ot_at _ _ _
  change ygt_ b KP_ o10 (w13, u10.2) (ot_ o10 u10.2 30) u16 at g16
  generalize ot_ o10 u10.2 30 = o16 at *
  have G16 := ygt_tr h0 G10 (ygt_tr g10.1 g13 g16)
  have e16 : ob_ u16 a 8 _ := (c16.2.2 a (show a ≠ u10.2 by omega)).trans c13.2.1
  have r16 : iA_ d u16 u.2 8 (fun _ => 0) := (c16.2.2 u.2 (show u.2 ≠ u10.2 by omega)).trans ((c13.2.2 u.2 (by omega)).trans r10)
  have r16' : lA_ d u16 u4.2 64 (fun _ => 0) := (c16.2.2 u4.2 (show u4.2 ≠ u10.2 by omega)).trans ((c13.2.2 u4.2 (by omega)).trans r10')
  have r16'' : lA_ d u16 u10.2 64 (fun _ => 0) := c16.2.1
  refine ev_pf e16 (by simp) (fun w19 c19 => ?_)
  have g19 : ygt_ b KP_ o16 u16 o16 (w19, u16.2) := ygt_ch g16.1 e16 c19 (kd1_o _ _ _) (k27 t16)
  refine ev_g (ln_e (by omega)) (ev_ac ?_)
  refine ev_b1 rfl ?_
  have c22 := nw_nw g19.1 (.inl (d.1 1, 8, .inr (.inl (fun _ => 0))))
  have g22 := ygt_nw (K := KP_) (o := o16) g19.1 c22 31
  have z22 : (u_nw (w19, u16.2) (.inl (d.1 1, 8, .inr (.inl (fun _ => 0))))).2 = u16.2 + 1 := c22.1
  generalize u_nw (w19, u16.2) (.inl (d.1 1, 8, .inr (.inl (fun _ => 0)))) = u22 at *
  have t22 : ot_ o16 u16.2 31 a = 27 := (ot_ne (by omega)).trans t16
  have s22 : ot_ o16 u16.2 31 u.2 = 28 := (ot_ne (by omega)).trans s16
  have s22' : ot_ o16 u16.2 31 u4.2 = 29 := (ot_ne (by omega)).trans s16'
  have s22'' : ot_ o16 u16.2 31 u10.2 = 30 := (ot_ne (by omega)).trans s16''
  have s22t : ot_ o16 u16.2 31 u16.2 = 31 := ot_at _ _ _
  change ygt_ b KP_ o16 (w19, u16.2) (ot_ o16 u16.2 31) u22 at g22
  generalize ot_ o16 u16.2 31 = o22 at *
  have G22 := ygt_tr h0 G16 (ygt_tr g16.1 g19 g22)
  have e22 : ob_ u22 a 8 _ := (c22.2.2 a (show a ≠ u16.2 by omega)).trans c19.2.1
  have r22 : iA_ d u22 u.2 8 (fun _ => 0) := (c22.2.2 u.2 (show u.2 ≠ u16.2 by omega)).trans ((c19.2.2 u.2 (by omega)).trans r16)
  have r22' : lA_ d u22 u4.2 64 (fun _ => 0) := (c22.2.2 u4.2 (show u4.2 ≠ u16.2 by omega)).trans ((c19.2.2 u4.2 (by omega)).trans r16')
  have r22'' : lA_ d u22 u10.2 64 (fun _ => 0) := (c22.2.2 u10.2 (show u10.2 ≠ u16.2 by omega)).trans ((c19.2.2 u10.2 (by omega)).trans r16'')
  have r22t : lA_ d u22 u16.2 8 (fun _ => 0) := c22.2.1
  refine ev_pf e22 (by simp) (fun w25 c25 => ?_)
  have g25 : ygt_ b KP_ o22 u22 o22 (w25, u22.2) := ygt_ch g22.1 e22 c25 (kd1_o _ _ _) (k27 t22)
  refine ev_pf (u := (w25, u22.2)) c25.2.1 (by simp) (fun w27 c27 => ?_)
  have g27 : ygt_ b KP_ o22 (w25, u22.2) o22 (w27, u22.2) := ygt_ch g25.1 c25.2.1 c27 (kd1_o _ _ _) (k27 t22)
  have G27 := ygt_tr h0 G22 (ygt_tr g22.1 g25 g27)
  have fin : ∀ x, x ≠ a → u_get w27 x = u_get u22.1 x := fun x hx => (c27.2.2 x hx).trans (c25.2.2 x hx)
  have Z : yZ_ d o22 (w27, u22.2) a t np (fun i => if i = 0 then u.2 else if i = 1 then u4.2 else if i = 2 then u10.2 else u16.2) (fun _ => 0) (fun _ => 0) (fun _ => 0) (fun _ => 0) := ⟨c27.2.1, t22, (fin u.2 (by omega)).trans r22, s22, (fin u4.2 (by omega)).trans r22', s22', (fin u10.2 (by omega)).trans r22'', s22'', (fin u16.2 (by omega)).trans r22t, s22t⟩
  have nkp : ¬ KP_ (o af) := by rw [tf]; unfold KP_; omega
  have k := ygt_at h0 G27 hf nkp
  refine ev_bl (P := fun s c => c = (0, 0) ∧ s.2 = u22.2 ∧ ygt_ b KP_ o22 (w27, u22.2) o22 s ∧ ∃ fn' fb' ft', yZ_ d o22 s a t np (fun i => if i = 0 then u.2 else if i = 1 then u4.2 else if i = 2 then u10.2 else u16.2) fn' fb' (fun _ => 0) ft' ∧ pN_ np np F be fn' fb' ∧ ∀ y, y < np → ft' y = lz_ (tm y)) (up_L49 g27.1 Z k.1 (k.2.trans tf) eF (yC_keep h0 G27 hB (by unfold KP_; omega) (by unfold KP_; omega) htc) htc hbe h8 hz hr (fun y _ => q_0) hv) (fun s c hp => ?_)
  obtain ⟨rfl, zz, gg, fn', fb', ft', Z', N', T'⟩ := hp
  refine ev_some ⟨rfl, ?_, o22, ygt_tr h0 G27 gg, _, fn', fb', _, ft', Z', N', T'⟩
  show s.2 = u.2 + 4
  omega
end
