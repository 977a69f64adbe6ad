set_option maxRecDepth 100000
/-! The Press: how much goes through; its loops -/
def KP_ (x : Nat) : Prop := 27 ≤ x ∧ x ≤ 31
theorem KP_1 {t : Nat} (h : 27 ≤ t ∧ t ≤ 31) : ∀ x, K1_ t x → KP_ x := fun x hx => by cases hx; exact h
theorem ux_thr {d : UD} {u : UM} {a : Nat} {f : Nat → Int32} (h : iA_ d u a 64 f) {F : Nat → Int} (hf : ∀ c, c < 64 → f c = q_ (F c)) {np : Nat} (h8 : np ≤ 8) (hz : ∀ c, c < 64 → ¬ fs_cp np c → F c = 0) {p : Nat} (hp : p < 8) (ho : 0 ≤ fs_out F p ∧ fs_out F p < 2147483648) (hi : 0 ≤ fs_in F p ∧ fs_in F p < 2147483648) : Ev_ (fun n => uf_X0_throughOf n d u (n_ np) a (n_ p)) (fun r => r = q_ (min (fs_out F p) (fs_in F p))) := by
  have eo : fs_out F p = fw_sm np (fun b => F (8 * p + b)) := fw_sm_ext h8 (fun b h1 h2 => hz _ (by omega) (fun z => by have := ((fs_cp_at h2).mp z).2.1; omega))
  have ei : fs_in F p = fw_sm np (fun b => F (8 * b + p)) := fw_sm_ext h8 (fun b h1 h2 => hz _ (by omega) (fun z => by have := ((fs_cp_at hp).mp z).1; omega))
  unfold uf_X0_throughOf
  refine ev_b (P := fun (y : Int32 × Int32) => y = (q_ (fs_out F p), q_ (fs_in F p))) ?_ (fun y hy => ?_)
  · unfold uf_X0_throughOf_L8l
    refine ev_for np (fun (i : Nat) (y : Int32 × Int32 × Int32) => y = (q_ (fw_sm i (fun b => F (8 * p + b))), q_ (fw_sm i (fun b => F (8 * b + p))), n_ i)) (fun i y hi hP => ?_) (fun y hP => ?_) _ rfl
    · subst hP
      refine ev_eq (r := .inl (q_ (fw_sm (i + 1) (fun b => F (8 * p + b))), q_ (fw_sm (i + 1) (fun b => F (8 * b + p))), n_ (i + 1))) (fun n => ?_) ⟨_, rfl, rfl⟩
      unfold uf_X0_throughOf_L8
      dsimp only
      rw [ef_F (by rw [n_le (by omega) (by omega)]; omega), show 8 * n_ p + n_ i = n_ (8 * p + i) from by rw [n_lit 8, n_mul, n_add], show 8 * n_ i + n_ p = n_ (8 * i + p) from by rw [n_lit 8, n_mul, n_add], ldI_e h (by omega) (by omega), m_bs, ldI_e h (by omega) (by omega), m_bs, hf _ (by omega), hf _ (by omega), q_add, q_add, show n_ i + 1 = n_ (i + 1) from by rw [n_lit 1, n_add]]
      rfl
    · subst hP
      refine ev_eq (r := .inr (q_ (fs_out F p), q_ (fs_in F p))) (fun n => ?_) ⟨_, rfl, rfl⟩
      unfold uf_X0_throughOf_L8
      dsimp only
      rw [ef_T (by rw [n_le (by omega) (by omega)]; omega), eo, ei]
  · subst hy
    refine ev_some ?_
    dsimp only
    by_cases c : fs_in F p < fs_out F p
    · rw [if_pos (by rw [q_lt' (by omega) (by omega) (by omega) (by omega)]; exact c), show min (fs_out F p) (fs_in F p) = fs_in F p by omega]
    · rw [if_neg (by rw [q_lt' (by omega) (by omega) (by omega) (by omega)]; exact c), show min (fs_out F p) (fs_in F p) = fs_out F p by omega]
section
variable {d : UD} {b : Nat} {o : Nat → Nat} {a t np : Nat} {A : Nat → Nat} {fc : Nat → Int64} {af ab tc : Nat} {f : Nat → Int32} {F be : Nat → Int}
/-- nets and bounds are laid for the parties ahead -/
def pN_ (np x : Nat) (F be : Nat → Int) (fn : Nat → Int32) (fb : Nat → Int64) : Prop := (∀ y, x ≤ y → y < np → fn y = q_ 0) ∧ (∀ y, y < x → fn y = q_ (fw_sm np (fun b => F (8 * y + b) - F (8 * b + y)))) ∧ ∀ x' y', x' < x → y' < np → x' ≠ y' → fb (8 * x' + y') = lz_ (be (8 * x' + y'))
theorem up_L84 {u : UM} (h0 : uw_ b u) {fn : Nat → Int32} {fb ft : Nat → Int64} (hZ : yZ_ d o u a t np A fn fb fc ft) (hf : iA_ d u af 64 f) (tf : o af = 21) (eF : ∀ c, c < 64 → f c = q_ (F c)) (hB : yC_ d o u ab tc be) (htc : ¬ KP_ tc) (hbe : ∀ c, c < 64 → fs_cp np c → qf_ (be c)) (h8 : np ≤ 8) {x : Nat} (hx : x < np) (hN : pN_ np x F be fn fb) (v5 : Int32) :
    Ev_ (fun n => uf_X8_init_L84l n d a (n_ np) af ab v5 (n_ x) (0, u)) (fun r => r.2 = (0, 0) ∧ r.1.2 = u.2 ∧ ygt_ b KP_ o u o r.1 ∧ ∃ fn' fb', yZ_ d o r.1 a t np A fn' fb' fc ft ∧ pN_ np (x + 1) F be fn' fb') := by
  unfold uf_X8_init_L84l
  refine ev_uf (Q := fun (s : UM) => s.2 = u.2 ∧ ygt_ b KP_ o u o s ∧ ∃ fn' fb', yZ_ d o s a t np A fn' fb' fc ft ∧ pN_ np (x + 1) F be fn' fb') np (fun (i : Nat) (y : Int32 × UM) => y.1 = n_ i ∧ y.2.2 = u.2 ∧ ygt_ b KP_ o u o y.2 ∧ ∃ fn' fb', yZ_ d o y.2 a t np A fn' fb' fc ft ∧ (∀ y, x < y → y < np → fn' y = q_ 0) ∧ (∀ y, y < x → fn' y = q_ (fw_sm np (fun b => F (8 * y + b) - F (8 * b + y)))) ∧ fn' x = q_ (fw_sm i (fun b => F (8 * x + b) - F (8 * b + x))) ∧ (∀ x' y', x' < x → y' < np → x' ≠ y' → fb' (8 * x' + y') = lz_ (be (8 * x' + y'))) ∧ ∀ y', y' < i → x ≠ y' → fb' (8 * x + y') = lz_ (be (8 * x + y'))) (fun i y hi hP => ?_) (fun y hP => ?_) (0, u) ⟨n_lit 0, rfl, ygt_rfl h0, fn, fb, hZ, fun y h1 h2 => hN.1 y (by omega) h2, hN.2.1, hN.1 x (by omega) hx, hN.2.2, fun y' h => absurd h (Nat.not_lt_zero _)⟩
  · obtain ⟨v, u1⟩ := y
    obtain ⟨e0, z1, g1, fn1, fb1, Z1, n1, n2, n3, b1, b2⟩ := hP
    dsimp only at e0 z1 g1 Z1 ⊢
    subst e0
    have hidx : n_ i + 1 = n_ (i + 1) := by rw [n_lit 1, n_add]
    have sm : fw_sm (i + 1) (fun b => F (8 * x + b) - F (8 * b + x)) = fw_sm i (fun b => F (8 * x + b) - F (8 * b + x)) + (F (8 * x + i) - F (8 * i + x)) := rfl
    unfold uf_X8_init_L84 uf_X8_init_J156
    refine ev_ifF (by rw [n_le (by omega) (by omega)]; omega) ?_
    rw [hidx]
    refine ev_ifq (c' := x = i) (by rw [n_eq (by omega) (by omega)]) (fun c => ?_) (fun c => ?_)
    · refine ev_some ⟨_, rfl, rfl, z1, g1, fn1, fb1, Z1, n1, n2, ?_, b1, fun y' h1 h2 => b2 y' (by omega) h2⟩
      rw [n3, sm]; subst c; congr 1; omega
    · have hf1 := (ygt_at h0 g1 hf (by rw [tf]; unfold KP_; omega)).1
      have hB1 := yC_keep h0 g1 hB (by unfold KP_; omega) (by unfold KP_; omega) htc
      have i1 : 8 * n_ x + n_ i = n_ (8 * x + i) := by rw [n_lit 8, n_mul, n_add]
      have i2 : 8 * n_ i + n_ x = n_ (8 * i + x) := by rw [n_lit 8, n_mul, n_add]
      refine ev_b1 (yZ_f0 Z1) (ev_b1 (yZ_l0 Z1 (show x < 8 by omega)) ?_)
      rw [i1, i2]
      refine ev_b1 (ldI_e hf1 (show 8 * x + i < 64 by omega) (by omega)) (ev_b1 (ldI_e hf1 (show 8 * i + x < 64 by omega) (by omega)) ?_)
      rw [eF _ (show 8 * x + i < 64 by omega), eF _ (show 8 * i + x < 64 by omega), n3, q_sub, q_add, ← sm]
      refine yZ_s0 g1.1 Z1 (show x < 8 by omega) _ (fun w45 Z2 g2 => ?_)
      have g2' := ygt_sub g2 (KP_1 (by omega))
      have hB2 := yC_keep g1.1 g2' hB1 (by unfold KP_; omega) (by unfold KP_; omega) htc
      refine ev_b1 (yZ_f1 Z2) ?_
      refine ev_bn (fun n => uc_of hB2 n (show x < 8 by omega) (show i < 8 by omega)) ?_
      have hq := hbe (8 * x + i) (by omega) ((fs_cp_at (by omega)).mpr ⟨hx, hi, c⟩)
      rw [lz_q hq]
      refine yZ_s1 g2.1 Z2 (show 8 * x + i < 64 by omega) _ (fun w51 Z3 g3 => ?_)
      refine ev_some ⟨_, rfl, rfl, z1, ygt_tr h0 g1 (ygt_tr g1.1 g2' (ygt_sub g3 (KP_1 (by omega)))), _, _, Z3, fun y h1 h2 => ?_, fun y h1 => ?_, ?_, fun x' y' h1 h2 h3 => ?_, fun y' h1 h2 => ?_⟩
      · rw [upd_ne (by omega)]; exact n1 y h1 h2
      · rw [upd_ne (by omega)]; exact n2 y h1
      · rw [upd_at]
      · rw [updL_ne (by omega)]; exact b1 x' y' h1 h2 h3
      · by_cases c' : y' = i
        · subst c'; rw [updL_at]
        · rw [updL_ne (by omega)]; exact b2 y' (by omega) h2
  · obtain ⟨v, u1⟩ := y
    obtain ⟨e0, z1, g1, fn1, fb1, Z1, n1, n2, n3, b1, b2⟩ := hP
    dsimp only at e0 z1 g1 Z1 ⊢
    subst e0
    unfold uf_X8_init_L84
    refine ev_ifT (by rw [n_le (by omega) (by omega)]; omega) (ev_some ⟨_, rfl, z1, g1, fn1, fb1, Z1, fun y h1 h2 => n1 y (by omega) h2, fun y h1 => ?_, fun x' y' h1 h2 h3 => ?_⟩)
    · by_cases c : y = x
      · subst c; exact n3
      · exact n2 y (by omega)
    · by_cases c : x' = x
      · subst c; exact b2 y' h2 h3
      · exact b1 x' y' (by omega) h2 h3
theorem up_L49 {u : UM} (h0 : uw_ b u) {fn : Nat → Int32} {fb ft : Nat → Int64} (hZ : yZ_ d o u a t np A fn fb fc ft) (hf : iA_ d u af 64 f) (tf : o af = 21) (eF : ∀ c, c < 64 → f c = q_ (F c)) (hB : yC_ d o u ab tc be) (htc : ¬ KP_ tc) (hbe : ∀ c, c < 64 → fs_cp np c → qf_ (be c)) (h8 : np ≤ 8) (hz : ∀ c, c < 64 → ¬ fs_cp np c → F c = 0) (hr : ∀ p, p < np → (0 ≤ fs_out F p ∧ fs_out F p < 2147483648) ∧ (0 ≤ fs_in F p ∧ fs_in F p < 2147483648)) (hn0 : ∀ y, y < np → fn y = q_ 0) {v5 : Int32} {tm : Nat → Int} (hv : (v5 = 0 ∧ ∀ y, y < np → tm y = cn_FAR) ∨ (¬ v5 = 0 ∧ ∀ y, y < np → tm y = min (fs_out F y) (fs_in F y))) :
    Ev_ (fun n => uf_X8_init_L49l n d a (n_ np) af ab v5 (0, u)) (fun r => r.2 = (0, 0) ∧ r.1.2 = u.2 ∧ ygt_ b KP_ o u o r.1 ∧ ∃ fn' fb' ft', yZ_ d o r.1 a t np A fn' fb' fc ft' ∧ pN_ np np F be fn' fb' ∧ ∀ y, y < np → ft' y = lz_ (tm y)) := by
  unfold uf_X8_init_L49l
  refine ev_uf (Q := fun (s : UM) => s.2 = u.2 ∧ ygt_ b KP_ o u o s ∧ ∃ fn' fb' ft', yZ_ d o s a t np A fn' fb' fc ft' ∧ pN_ np np F be fn' fb' ∧ ∀ y, y < np → ft' y = lz_ (tm y)) np (fun (i : Nat) (y : Int32 × UM) => y.1 = n_ i ∧ y.2.2 = u.2 ∧ ygt_ b KP_ o u o y.2 ∧ ∃ fn' fb' ft', yZ_ d o y.2 a t np A fn' fb' fc ft' ∧ pN_ np i F be fn' fb' ∧ ∀ y, y < i → ft' y = lz_ (tm y)) (fun i y hi hP => ?_) (fun y hP => ?_) (0, u) ⟨n_lit 0, rfl, ygt_rfl h0, fn, fb, ft, hZ, ⟨fun y _ h => hn0 y h, fun y h => absurd h (Nat.not_lt_zero _), fun x' y' h => absurd h (Nat.not_lt_zero _)⟩, fun y h => absurd h (Nat.not_lt_zero _)⟩
  · obtain ⟨v, u1⟩ := y
    obtain ⟨e0, z1, g1, fn1, fb1, ft1, Z1, N1, t1⟩ := hP
    dsimp only at e0 z1 g1 Z1 ⊢
    subst e0
    have hf1 := (ygt_at h0 g1 hf (by rw [tf]; unfold KP_; omega)).1
    have hB1 := yC_keep h0 g1 hB (by unfold KP_; omega) (by unfold KP_; omega) htc
    unfold uf_X8_init_L49
    refine ev_ifF (by rw [n_le (by omega) (by omega)]; omega) ?_
    refine ev_b1 (yZ_f3 Z1) ?_
    have core : ∀ v : Int64, v = lz_ (tm i) → Ev_ (fun n => uf_X8_init_J80 n d u1 a (n_ np) af ab v5 (n_ i) v (n_ i) (A 3)) (fun r => ∃ s', r = (.inl s', (0, 0)) ∧ s'.1 = n_ (i + 1) ∧ s'.2.2 = u.2 ∧ ygt_ b KP_ o u o s'.2 ∧ ∃ fn' fb' ft', yZ_ d o s'.2 a t np A fn' fb' fc ft' ∧ pN_ np (i + 1) F be fn' fb' ∧ ∀ y, y < i + 1 → ft' y = lz_ (tm y)) := fun v hv => by
      unfold uf_X8_init_J80
      refine yZ_s3 g1.1 Z1 (show i < 8 by omega) _ (fun w33 Z2 g2 => ?_)
      have g2' := ygt_sub g2 (KP_1 (by omega))
      refine ev_bl (P := fun s c => c = (0, 0) ∧ s.2 = u1.2 ∧ ygt_ b KP_ o (w33, u1.2) o s ∧ ∃ fn' fb', yZ_ d o s a t np A fn' fb' fc (vp_updL ft1 i v) ∧ pN_ np (i + 1) F be fn' fb') (up_L84 g2.1 Z2 (ygt_at g1.1 g2' hf1 (by rw [tf]; unfold KP_; omega)).1 tf eF (yC_keep g1.1 g2' hB1 (by unfold KP_; omega) (by unfold KP_; omega) htc) htc hbe h8 hi N1 v5) (fun s c hp => ?_)
      obtain ⟨rfl, z3, g3, fn3, fb3, Z3, N3⟩ := hp
      rw [show n_ i + 1 = n_ (i + 1) from by rw [n_lit 1, n_add]]
      refine ev_some ⟨_, rfl, rfl, z3.trans z1, ygt_tr h0 g1 (ygt_tr g1.1 g2' g3), _, _, _, Z3, N3, fun y hy => ?_⟩
      by_cases c : y = i
      · subst c; rw [updL_at]; exact hv
      · rw [updL_ne c]; exact t1 y (by omega)
    rcases hv with ⟨hv1, hv2⟩ | ⟨hv1, hv2⟩
    · exact ev_ifT hv1 (core _ (by rw [hv2 i hi]; exact lz_far))
    · refine ev_ifF hv1 ?_
      obtain ⟨r1, r2⟩ := hr i hi
      refine ev_b (ux_thr hf1 eF h8 hz (show i < 8 by omega) r1 r2) (fun r hr => ?_)
      subst hr
      exact core _ (by rw [hv2 i hi, lz_q ⟨by omega, by omega⟩])
  · obtain ⟨v, u1⟩ := y
    obtain ⟨e0, z1, g1, fn1, fb1, ft1, Z1, N1, t1⟩ := hP
    dsimp only at e0 z1 g1 Z1 ⊢
    subst e0
    unfold uf_X8_init_L49
    exact ev_ifT (by rw [n_le (by omega) (by omega)]; omega) (ev_some ⟨_, rfl, z1, g1, fn1, fb1, ft1, Z1, N1, t1⟩)
end
