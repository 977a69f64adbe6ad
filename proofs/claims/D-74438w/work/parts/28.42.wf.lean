set_option maxRecDepth 100000
/-! Couple by couple the least: what holds on the way (pure) -/
theorem fs_S_cg {n : Nat} {nu be : Nat → Int} {th : Option (Nat → Int)} {X X' be' : Nat → Int} {k : Nat} (S : fs_S n nu be th X be' k) (h : ∀ j, j < k → X' j = X j) : fs_S n nu be th X' be' k := fun y => by
  rw [S y]
  constructor
  · intro q; exact ⟨q.1, fun j hj => by rw [h j hj]; exact q.2 j hj⟩
  · intro q; exact ⟨q.1, fun j hj => by rw [← h j hj]; exact q.2 j hj⟩
def fI_ (n : Nat) (nu be : Nat → Int) (th : Option (Nat → Int)) (X be' : Nat → Int) (k : Nat) : Prop := fs_S n nu be th X be' k ∧ (∃ y0, fs_O n nu be' th y0) ∧ (∀ j, k ≤ j → j < 64 → be' j = be j ∧ X j = 0) ∧ (∀ j, j < k → ∀ y, fs_O n nu be th y → (∀ i, i < j → y i = X i) → X j ≤ y j)
theorem fI_0 {n : Nat} {nu be : Nat → Int} {th : Option (Nat → Int)} {y0 : Nat → Int} (h : fs_O n nu be th y0) : fI_ n nu be th (fun _ => 0) be 0 := ⟨fs_S0, ⟨y0, h⟩, fun _ _ _ => ⟨rfl, rfl⟩, fun j hj => absurd hj (Nat.not_lt_zero _)⟩
theorem fI_step {n : Nat} {nu be : Nat → Int} {th : Option (Nat → Int)} {X be' : Nat → Int} {k : Nat} (hk : k < 64) (hc : fs_cp n k) (I : fI_ n nu be th X be' k) {x : Nat → Int} (hx : fs_O n nu be' th x) (hm : ∀ z, fs_O n nu be' th z → x k ≤ z k) : fI_ n nu be th (fw_up X k (x k)) (fw_up be' k (x k)) (k + 1) := by
  obtain ⟨S, _, hz, hmin⟩ := I
  have ag : ∀ j, j < k → fw_up X k (x k) j = X j := fun j hj => fw_up_ne (by omega)
  have S' := fs_S_cg S ag
  have st := fs_S_step hk hc S' (x := x) ⟨hx, hm⟩ (by rw [fw_up_at])
  rw [fw_up_at] at st
  refine ⟨st, ⟨x, ?_⟩, fun j h1 h2 => ?_, fun j hj y hy hag => ?_⟩
  · exact (fs_fix hk hc ⟨hx, hm⟩ x).mpr ⟨hx, rfl⟩
  · rw [fw_up_ne (by omega), fw_up_ne (by omega)]; exact hz j (by omega) h2
  · by_cases c : j = k
    · subst c
      rw [fw_up_at]
      exact hm y ((S y).mpr ⟨hy, fun i hi => by rw [hag i hi]; exact ag i hi⟩)
    · rw [ag j (by omega)]
      exact hmin j (by omega) y hy (fun i hi => by rw [hag i hi]; exact ag i (by omega))
theorem fI_skip {n : Nat} {nu be : Nat → Int} {th : Option (Nat → Int)} {X be' : Nat → Int} {k : Nat} (hk : k < 64) (I : fI_ n nu be th X be' k) (h : ¬ fs_cp n k ∨ be k = 0) : fI_ n nu be th X be' (k + 1) := by
  obtain ⟨S, hy0, hz, hmin⟩ := I
  have z0 : X k = 0 := (hz k (Nat.le_refl _) hk).2
  have zy : ∀ y, fs_O n nu be th y → y k = 0 := fun y hy => by
    by_cases c : fs_cp n k
    · have b0 : be k = 0 := h.elim (fun z => absurd c z) id
      have := hy.1.1 k hk c
      omega
    · exact hy.1.2.1 k hk c
  refine ⟨fs_S_skip S (fun y hy _ => by rw [zy y hy, z0]), hy0, fun j h1 h2 => hz j (by omega) h2, fun j hj y hy hag => ?_⟩
  by_cases c : j = k
  · subst c; rw [z0, zy y hy]; exact Int.le_refl _
  · exact hmin j (by omega) y hy hag
theorem fI_skips {n : Nat} {nu be : Nat → Int} {th : Option (Nat → Int)} {X be' : Nat → Int} {k : Nat} : ∀ m, k + m ≤ 64 → fI_ n nu be th X be' k → (∀ j, k ≤ j → j < k + m → ¬ fs_cp n j) → fI_ n nu be th X be' (k + m) := by
  intro m
  induction m with
  | zero => intro _ I _; exact I
  | succ m ih =>
    intro h I hc
    exact fI_skip (k := k + m) (by omega) (ih (by omega) I (fun j h1 h2 => hc j h1 (by omega))) (Or.inl (hc (k + m) (by omega) (by omega)))
theorem fI_end {n : Nat} {nu be : Nat → Int} {th : Option (Nat → Int)} {X be' : Nat → Int} (I : fI_ n nu be th X be' 64) : ∃ Y, fs_1 n nu be th Y ∧ ∀ c, c < 64 → Y c = X c := by
  obtain ⟨S, ⟨y0, hy0⟩, _, hmin⟩ := I
  obtain ⟨h1, h2⟩ := (S y0).mp hy0
  refine ⟨y0, ⟨h1, fun k hk y hy hag => ?_⟩, h2⟩
  rw [h2 k hk]
  exact hmin k hk y hy (fun i hi => by rw [hag i hi]; exact h2 i (by omega))
theorem pA_up {n : Nat} {nu be : Nat → Int} {th : Option (Nat → Int)} {may : Nat → Int} {k : Nat} (hk : k < 64) (hc : fs_cp n k) {v : Int} (h0 : 0 ≤ v) (hv : v ≤ be k) (A : pA_ n nu be th may) : pA_ n nu (fw_up be k v) th may := by
  obtain ⟨⟨a1, a2, a3, a4, a5, a6, a7, a8⟩, m1, m2, b1, n1⟩ := A
  refine ⟨⟨a1, fun j hj => ?_, fun j hj hn => ?_, a4, a5, a6, fun y hy => a7 y ((fs_F_up hk hc hv).mp hy).1, a8⟩, m1, m2, fun j hj => ?_, n1⟩
  · by_cases c : j = k
    · subst c; rw [fw_up_at]; exact h0
    · rw [fw_up_ne c]; exact a2 j hj
  · rw [fw_up_ne (fun z => hn (by rw [z]; exact hc))]; exact a3 j hj hn
  · by_cases c : j = k
    · subst c; rw [fw_up_at]; have := b1 j hj; omega
    · rw [fw_up_ne c]; exact b1 j hj
/-! The Press: the first row -/
def KF_ (x : Nat) : Prop := KW_ x ∨ x = 29 ∨ x = 30 ∨ x = 32
theorem KF_T : ∀ x, KF_ x → KT_ x := fun x hx => by
  rcases hx with h | h | h | h
  · exact Or.inl h
  · exact Or.inr (by omega)
  · exact Or.inr (by omega)
  · exact Or.inr (by omega)
theorem KF_Q : ∀ x, KQ_ x → KF_ x := fun x hx => by
  rcases hx with h | h
  · exact Or.inl h
  · exact Or.inr (Or.inr (Or.inl h))
section
variable {d : UD} {b : Nat} {o : Nat → Nat} {a t np : Nat} {A : Nat → Nat} {fn : Nat → Int32} {ft : Nat → Int64} {g : GS_} {aW : Nat} {nu be may : Nat → Int} {th : Option (Nat → Int)} {ax : Nat}
def yX_ (d : UD) (b : Nat) (o : Nat → Nat) (t : Nat) (g : GS_) (aW a np : Nat) (A : Nat → Nat) (fn : Nat → Int32) (ft : Nat → Int64) (nu be : Nat → Int) (th : Option (Nat → Int)) (may : Nat → Int) (ax k : Nat) (u : UM) : Prop := ∃ be' X, yR0_ d b o u t aW g ∧ yW_ d o u aW ∧ (∃ fb fc, yZ_ d o u a t np A fn fb fc ft ∧ pR_ np nu be' may fn fb ft) ∧ pA_ np nu be' th may ∧ (∃ f, iA_ d u ax 64 f ∧ ∀ c, c < 64 → f c = q_ (X c)) ∧ o ax = 32 ∧ fI_ np nu be th X be' k
theorem up_L28 {u : UM} {x : Nat} (hx : x < np) (h8 : np ≤ 8) (hX : yX_ d b o t g aW a np A fn ft nu be th may ax (8 * x) u) :
    Ev_ (fun n => uf_X8_first_L28l n d a ax (n_ x) (0, u)) (fun r => r.2 = (0, 0) ∧ r.1.2 = u.2 ∧ ygt_ b KF_ o u o r.1 ∧ yX_ d b o t g aW a np A fn ft nu be th may ax (8 * (x + 1)) r.1) := by
  have h0 : uw_ b u := by obtain ⟨_, _, R, _⟩ := hX; exact R.1
  unfold uf_X8_first_L28l
  refine ev_uf (Q := fun (s : UM) => s.2 = u.2 ∧ ygt_ b KF_ o u o s ∧ yX_ d b o t g aW a np A fn ft nu be th may ax (8 * (x + 1)) s) np (fun (i : Nat) (y : Int32 × UM) => y.1 = n_ i ∧ y.2.2 = u.2 ∧ ygt_ b KF_ o u o y.2 ∧ yX_ d b o t g aW a np A fn ft nu be th may ax (8 * x + i) y.2) (fun i y hi hP => ?_) (fun y hP => ?_) (0, u) ⟨n_lit 0, rfl, ygt_rfl h0, hX⟩
  · obtain ⟨v, u1⟩ := y
    obtain ⟨e0, z1, g1, be', X, R1, W1, ⟨fb, fc, Z1, P1⟩, A1, ⟨f, I1, eX⟩, tX, J1⟩ := hP
    dsimp only at e0 z1 g1 R1 W1 Z1 I1 ⊢
    subst e0
    have hidx : n_ i + 1 = n_ (i + 1) := by rw [n_lit 1, n_add]
    have hix : 8 * n_ x + n_ i = n_ (8 * x + i) := by rw [n_lit 8, n_mul, n_add]
    have hk : 8 * x + i < 64 := by omega
    unfold uf_X8_first_L28 uf_X8_first_J87
    refine ev_b1 (yZ_n Z1) ?_
    refine ev_ifF (by rw [n_le (by omega) (by omega)]; omega) ?_
    rw [hidx, hix]
    refine ev_ifq (c' := x = i) (by rw [n_eq (by omega) (by omega)]) (fun c => ?_) (fun c => ?_)
    · exact ev_some ⟨_, rfl, rfl, z1, g1, be', X, R1, W1, ⟨fb, fc, Z1, P1⟩, A1, ⟨f, I1, eX⟩, tX, fI_skip (k := 8 * x + i) hk J1 (Or.inl (fun z => ((fs_cp_at (by omega)).mp z).2.2 c))⟩
    · have hc : fs_cp np (8 * x + i) := (fs_cp_at (by omega)).mpr ⟨hx, hi, c⟩
      have hbk := (J1.2.2.1 (8 * x + i) (Nat.le_refl _) hk).1
      have hb0 : 0 ≤ be' (8 * x + i) := A1.1.2.1 _ hk
      have hb1 : be' (8 * x + i) < 2147483648 := A1.2.2.2.1 _ hk
      refine ev_b1 (yZ_f1 Z1) (ev_b1 (yZ_l1 Z1 hk) ?_)
      rw [P1.2.1 x i hx hi c, lz_0]
      refine ev_ifq (lz_c0 (a := be' (8 * x + i)) (b := 0) ⟨by omega, by omega⟩ ⟨by omega, by omega⟩) (fun c0 => ?_) (fun c0 => ?_)
      · exact ev_some ⟨_, rfl, rfl, z1, g1, be', X, R1, W1, ⟨fb, fc, Z1, P1⟩, A1, ⟨f, I1, eX⟩, tX, fI_skip (k := 8 * x + i) hk J1 (Or.inr (by rw [← hbk]; exact c0))⟩
      · refine ev_b1 (cl_e Z1.1) ?_
        refine ev_bc (P := fun r s c => c = (0, 0) ∧ s.2 = u1.2 ∧ ygt_ b KQ_ o u1 o s ∧ (∃ fc', yZ_ d o s a t np A fn fb fc' ft) ∧ yW_ d o s aW ∧ ((r = q_ (-1) ∧ (∀ y, ¬ fs_F np nu be' th y)) ∨ ∃ X, fs_O np nu be' th X ∧ (∀ z, fs_O np nu be' th z → if false = true then z (8 * x + i) ≤ X (8 * x + i) else X (8 * x + i) ≤ z (8 * x + i)) ∧ r = q_ (X (8 * x + i)))) (up_span R1 W1 Z1 P1 A1 hx hi c false rfl) (fun r s c hq => by rw [hq.1]; exact hq.2.1) (fun r s c hq => ?_)
        obtain ⟨rfl, z2, g2, ⟨fc2, Z2⟩, W2, hq⟩ := hq
        rcases hq with ⟨_, hn⟩ | ⟨Y, hY, hmin, rfl⟩
        · obtain ⟨y0, hy0⟩ := J1.2.1
          exact absurd hy0.1 (hn y0)
        · have hv0 : 0 ≤ Y (8 * x + i) ∧ Y (8 * x + i) ≤ be' (8 * x + i) := hY.1.1 _ hk hc
          have R2 := yR0_keep R1 g2 KQ_T
          have I2 := (ygt_at g1.1 g2 I1 (by rw [tX]; intro z; unfold KQ_ KW_ at z; omega)).1
          refine ev_b1 (stI_e I2 hk (by omega) _) ?_
          have c3 := ch_set I2 (.inl (d.1 0, 64, .inl (upd f (8 * x + i) (q_ (Y (8 * x + i))))))
          generalize u_set s.1 ax (.inl (d.1 0, 64, .inl (upd f (8 * x + i) (q_ (Y (8 * x + i)))))) = w34 at c3 ⊢
          have g3 : ygt_ b (K1_ 32) o s o (w34, s.2) := ygt_ch g2.1 I2 c3 (kd1_a _ _) tX
          have Z3 := yZ_keep g2.1 g3 Z2 (fun t h1 h2 z => by cases z; omega)
          have W3 := yW_keep g2.1 g3 W2 (fun t h1 h2 z => by cases z; omega)
          have R3 := yR0_keep R2 g3 (fun x hx => by cases hx; exact Or.inr ⟨by omega, by omega⟩)
          have I3 : iA_ d (w34, s.2) ax 64 (upd f (8 * x + i) (q_ (Y (8 * x + i)))) := c3.2.1
          refine ev_b1 (yZ_f1 Z3) (ev_b1 (ldI_e I3 hk (by omega)) ?_)
          rw [upd_at, lz_q ⟨by omega, by omega⟩]
          refine yZ_s1 g3.1 Z3 hk _ (fun w40 Z4 g4 => ?_)
          have W4 := yW_keep g3.1 g4 W3 (fun t h1 h2 z => by cases z; omega)
          have R4 := yR0_keep R3 g4 (fun x hx => by cases hx; exact Or.inr ⟨by omega, by omega⟩)
          have I4 := (ygt_at g3.1 g4 I3 (by rw [tX]; intro z; cases z)).1
          have g34 : ygt_ b KF_ o u1 o (w40, s.2) := ygt_tr g1.1 (ygt_sub g2 KF_Q) (ygt_tr g2.1 (ygt_sub g3 (fun x hx => Or.inr (Or.inr (Or.inr hx)))) (ygt_sub g4 (fun x hx => Or.inr (Or.inl hx))))
          refine ev_some ⟨_, rfl, rfl, z2.trans z1, ygt_tr h0 g1 g34, fw_up be' (8 * x + i) (Y (8 * x + i)), fw_up X (8 * x + i) (Y (8 * x + i)), R4, W4, ⟨_, fc2, Z4, P1.1, fun x' y' h1 h2 h3 => ?_, P1.2.2⟩, pA_up hk hc hv0.1 hv0.2 A1, ⟨_, I4, fun cc hcc => ?_⟩, tX, fI_step (k := 8 * x + i) hk hc J1 hY (fun z hz => by have := hmin z hz; simpa using this)⟩
          · by_cases q : 8 * x' + y' = 8 * x + i
            · rw [q, updL_at, fw_up_at]
            · rw [updL_ne q, fw_up_ne q]; exact P1.2.1 x' y' h1 h2 h3
          · by_cases q : cc = 8 * x + i
            · rw [q, upd_at, fw_up_at]
            · rw [upd_ne q, fw_up_ne q]; exact eX cc hcc
  · obtain ⟨v, u1⟩ := y
    obtain ⟨e0, z1, g1, be', X, R1, W1, ⟨fb, fc, Z1, P1⟩, A1, ⟨f, I1, eX⟩, tX, J1⟩ := hP
    dsimp only at e0 z1 g1 R1 W1 Z1 I1 ⊢
    subst e0
    unfold uf_X8_first_L28
    refine ev_b1 (yZ_n Z1) ?_
    refine ev_ifT (by rw [n_le (by omega) (by omega)]; omega) (ev_some ⟨_, rfl, z1, g1, be', X, R1, W1, ⟨fb, fc, Z1, P1⟩, A1, ⟨f, I1, eX⟩, tX, ?_⟩)
    have := fI_skips (8 - np) (by omega) J1 (fun j h1 h2 z => by
      have e : j = 8 * x + (j - 8 * x) := by omega
      rw [e] at z
      have := ((fs_cp_at (by omega)).mp z).2.1; omega)
    rwa [show 8 * x + np + (8 - np) = 8 * (x + 1) by omega] at this
theorem up_first {u : UM} {fb fc : Nat → Int64} (hR : yR0_ d b o u t aW g) (hW : yW_ d o u aW) (hZ : yZ_ d o u a t np A fn fb fc ft) (hP : pR_ np nu be may fn fb ft) (hA : pA_ np nu be th may) :
    Ev_ (fun n => uf_X8_first n d u a) (fun r => ∃ o', r.1.2.2 = u.2 + r.2.1 ∧ r.2.1 ≤ 1 ∧ r.2.2 ≤ 64 ∧ ygt_ b KF_ o u o' r.1.2 ∧ yW_ d o' r.1.2 aW ∧ ((r.1.1 = none ∧ ∀ y, ¬ fs_F np nu be th y) ∨ ∃ ar f X, r.1.1 = some ar ∧ iA_ d r.1.2 ar 64 f ∧ o' ar = 13 ∧ u.2 ≤ ar ∧ fs_1 np nu be th X ∧ ∀ c, c < 64 → f c = q_ (X c))) := by
  have h0 := hR.1
  have h8 : np ≤ 8 := hA.1.1
  unfold uf_X8_first
  refine ev_b1 (cl_e hZ.1) ?_
  refine ev_bc (P := fun r s c => c = (0, 0) ∧ s.2 = u.2 ∧ ygt_ b KQ_ o u o s ∧ (∃ fc', yZ_ d o s a t np A fn fb fc' ft) ∧ ((r = 0 ∧ (∀ y, ¬ fs_F np nu be th y) ∧ yW_ d o s aW) ∨ (r = 1 ∧ ∃ X, yQ_ d o s aW np X ∧ fs_O np nu be th X ∧ ∀ z, fs_O np nu be th z → (0 : Int) * X 1 ≤ 0 * z 1))) (up_goes hR hW hZ hP hA (k := 1) (by omega) (by omega) (dd := 0) (by omega) (Or.inl ⟨rfl, rfl⟩)) (fun r s c hq => by rw [hq.1]; exact hq.2.1) (fun r s c hq => ?_)
  obtain ⟨rfl, z1, g1, ⟨fc1, Z1⟩, hq⟩ := hq
  rcases hq with ⟨rfl, q1, q2⟩ | ⟨rfl, Y0, q1, q2, _⟩
  · exact ev_ifT rfl (ev_some ⟨o, z1, Nat.le_of_ble_eq_true rfl, Nat.le_of_ble_eq_true rfl, ygt_sub g1 KF_Q, q2, Or.inl ⟨rfl, q1⟩⟩)
  · refine ev_ifF (by decide) ?_
    have R1 := yR0_keep hR g1 KQ_T
    rw [show (64 : Int32) = n_ 64 from n_lit 64]
    refine ev_g (ln_e (by omega)) (ev_ac ?_)
    rw [n_nat (by omega)]
    refine ev_nw g1.1 (fun u11 c11 => ?_)
    have g11 := ygt_nw (K := KF_) (o := o) g1.1 c11 32
    have R11 := yR0_keep R1 g11 KF_T
    have W11 : yW_ d (ot_ o s.2 32) u11 aW := yW_keep g1.1 (ygt_nw (K := K0_) (o := o) g1.1 c11 32) (yQ_W q1) (fun _ _ _ z => z)
    have Z11 : yZ_ d (ot_ o s.2 32) u11 a t np A fn fb fc1 ft := yZ_keep g1.1 (ygt_nw (K := K0_) (o := o) g1.1 c11 32) Z1 (fun _ _ _ z => z)
    have tX : ot_ o s.2 32 s.2 = 32 := ot_at _ _ _
    have G11 : ygt_ b KF_ o u (ot_ o s.2 32) u11 := ygt_tr h0 (ygt_sub g1 KF_Q) g11
    generalize ot_ o s.2 32 = o1 at *
    have X11 : yX_ d b o1 t g aW a np A fn ft nu be th may s.2 (8 * 0) u11 := ⟨be, fun _ => 0, R11, W11, ⟨fb, fc1, Z11, hP⟩, hA, ⟨_, c11.2.1, fun c _ => q_0⟩, tX, fI_0 q2⟩
    refine ev_bl (P := fun w c => c = (0, 0) ∧ w.2 = u11.2 ∧ ygt_ b KF_ o1 u11 o1 w ∧ yX_ d b o1 t g aW a np A fn ft nu be th may s.2 (8 * np) w) ?_ (fun w c hp => ?_)
    · unfold uf_X8_first_L18l
      refine ev_uf (Q := fun (w : UM) => w.2 = u11.2 ∧ ygt_ b KF_ o1 u11 o1 w ∧ yX_ d b o1 t g aW a np A fn ft nu be th may s.2 (8 * np) w) np (fun (i : Nat) (y : Int32 × UM) => y.1 = n_ i ∧ y.2.2 = u11.2 ∧ ygt_ b KF_ o1 u11 o1 y.2 ∧ yX_ d b o1 t g aW a np A fn ft nu be th may s.2 (8 * i) y.2) (fun i y hi hP => ?_) (fun y hP => ?_) (0, u11) ⟨n_lit 0, rfl, ygt_rfl g11.1, X11⟩
      · obtain ⟨v, u2⟩ := y
        obtain ⟨e0, z2, g2, X2⟩ := hP
        dsimp only at e0 z2 g2 X2 ⊢
        subst e0
        have hn : u_fi d u2 8 0 a = some (n_ np) := by obtain ⟨_, _, _, _, ⟨_, _, Z, _⟩, _⟩ := id X2; exact yZ_n Z
        unfold uf_X8_first_L18
        refine ev_b1 hn ?_
        refine ev_ifF (by rw [n_le (by omega) (by omega)]; omega) ?_
        refine ev_bl (P := fun w c => c = (0, 0) ∧ w.2 = u2.2 ∧ ygt_ b KF_ o1 u2 o1 w ∧ yX_ d b o1 t g aW a np A fn ft nu be th may s.2 (8 * (i + 1)) w) (up_L28 hi h8 X2) (fun w c hp => ?_)
        obtain ⟨rfl, z3, g3, X3⟩ := hp
        rw [show n_ i + 1 = n_ (i + 1) from by rw [n_lit 1, n_add]]
        exact ev_some ⟨_, rfl, rfl, z3.trans z2, ygt_tr g11.1 g2 g3, X3⟩
      · obtain ⟨v, u2⟩ := y
        obtain ⟨e0, z2, g2, X2⟩ := hP
        dsimp only at e0 z2 g2 X2 ⊢
        subst e0
        have hn : u_fi d u2 8 0 a = some (n_ np) := by obtain ⟨_, _, _, _, ⟨_, _, Z, _⟩, _⟩ := id X2; exact yZ_n Z
        unfold uf_X8_first_L18
        refine ev_b1 hn ?_
        exact ev_ifT (by rw [n_le (by omega) (by omega)]; omega) (ev_some ⟨_, rfl, z2, g2, X2⟩)
    · obtain ⟨rfl, z3, g3, be', X, R3, W3, _, _, ⟨f, I3, eX⟩, _, J3⟩ := hp
      have J64 := fI_skips (64 - 8 * np) (by omega) J3 (fun j h1 h2 z => by have := z.1; omega)
      rw [show 8 * np + (64 - 8 * np) = 64 by omega] at J64
      obtain ⟨Y, hY, eY⟩ := fI_end J64
      have G3 := ygt_re (ygt_tr h0 G11 g3) (a := s.2) 13 (by omega)
      refine ev_some ⟨ot_ o1 s.2 13, ?_, Nat.le_of_ble_eq_true rfl, Nat.le_of_ble_eq_true rfl, G3, ?_, Or.inr ⟨s.2, f, Y, rfl, I3, ot_at _ _ _, by omega, hY, fun c hc => by rw [eY c hc]; exact eX c hc⟩⟩
      · show w.2 = u.2 + 1
        rw [z3, c11.1, z1]
      · obtain ⟨a0, a1, a2, a3, a4, a5, a6, f0, f1, f2, f3, f4, f5, f6, e, w1, t1, w2, t2, w3, t3, w4, t4, w5, t5, w6, t6, w7, t7, w8, t8⟩ := W3
        have nt : ∀ {x r}, o1 x = r → r ≤ 11 → ot_ o1 s.2 13 x = r := fun {x r} h hr => (ot_ne (fun z => by rw [z, tX] at h; omega)).trans h
        exact ⟨a0, a1, a2, a3, a4, a5, a6, f0, f1, f2, f3, f4, f5, f6, e, w1, nt t1 (by omega), w2, nt t2 (by omega), w3, nt t3 (by omega), w4, nt t4 (by omega), w5, nt t5 (by omega), w6, nt t6 (by omega), w7, nt t7 (by omega), w8, nt t8 (by omega)⟩
end
