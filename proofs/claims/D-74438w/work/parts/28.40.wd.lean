set_option maxRecDepth 100000
/-! The Press: goes, span -/
def KQ_ (x : Nat) : Prop := KW_ x ∨ x = 30
theorem KQ_T : ∀ x, KQ_ x → KT_ x := fun x hx => by
  rcases hx with h | h
  · exact Or.inl h
  · exact Or.inr (by omega)
theorem lnL_e {d : UD} {u : UM} {a n : Nat} {f : Nat → Int64} (h : lA_ d u a n f) : u_lnI d u 1 a = some (n_ n) := by unfold u_lnI; rw [rd_w h]; simp; exact (Int32.ofInt_eq_ofNat).symm
theorem yR0_w {d : UD} {b : Nat} {o : Nat → Nat} {u : UM} {t aW : Nat} {g : GS_} (h : yR0_ d b o u t aW g) : uw_ b u ∧ u_nr u 1 2 t = some aW := by
  obtain ⟨h0, hc, aN, aL, aT, fk, fr, s0, ids, lS, f, e1, _⟩ := h
  exact ⟨h0, nr_e e1 rfl⟩
theorem yW_cl {d : UD} {o : Nat → Nat} {u : UM} {a : Nat} (h : yW_ d o u a) : ∃ fs, u_cl u 3 a = some fs := by
  obtain ⟨a0, a1, a2, a3, a4, a5, a6, f0, f1, f2, f3, f4, f5, f6, e, w1, _⟩ := h
  exact ⟨_, cl_e w1⟩
/-- the Press tells of nets, bounds, what may go through -/
def pR_ (np : Nat) (nu be may : Nat → Int) (fn : Nat → Int32) (fb ft : Nat → Int64) : Prop := (∀ x, x < np → fn x = q_ (nu x)) ∧ (∀ x y, x < np → y < np → x ≠ y → fb (8 * x + y) = lz_ (be (8 * x + y))) ∧ ∀ x, x < np → ft x = lz_ (may x)
def pA_ (np : Nat) (nu be : Nat → Int) (th : Option (Nat → Int)) (may : Nat → Int) : Prop := rn_A np nu be th may ∧ (∀ x, np ≤ x → x < 8 → may x = 0) ∧ (∀ p, p < 8 → may p ≤ cn_FAR) ∧ (∀ k, k < 64 → be k < 2147483648) ∧ ∀ x, x < 8 → -2147483648 < nu x ∧ nu x < 2147483648
section
variable {d : UD} {b : Nat} {o : Nat → Nat} {a t np : Nat} {A : Nat → Nat} {fn : Nat → Int32} {fb fc ft : Nat → Int64} {g : GS_} {aW : Nat} {nu be may : Nat → Int} {th : Option (Nat → Int)}
theorem up_L2 {u : UM} (h0 : uw_ b u) (hZ : yZ_ d o u a t np A fn fb fc ft) (p0 p1 : Int32) : Ev_ (fun n => uf_X8_goes_L2l n d a p0 p1 (0, u)) (fun r => r.2 = (0, 0) ∧ r.1.2 = u.2 ∧ ygt_ b (K1_ 30) o u o r.1 ∧ ∃ fc', yZ_ d o r.1 a t np A fn fb fc' ft ∧ ∀ c, c < 64 → fc' c = lz_ 100000000) := by
  unfold uf_X8_goes_L2l
  refine ev_uf (Q := fun (s : UM) => s.2 = u.2 ∧ ygt_ b (K1_ 30) o u o s ∧ ∃ fc', yZ_ d o s a t np A fn fb fc' ft ∧ ∀ c, c < 64 → fc' c = lz_ 100000000) 64 (fun (i : Nat) (y : Int32 × UM) => y.1 = n_ i ∧ y.2.2 = u.2 ∧ ygt_ b (K1_ 30) o u o y.2 ∧ ∃ fc', yZ_ d o y.2 a t np A fn fb fc' ft ∧ ∀ c, c < i → fc' c = lz_ 100000000) (fun i y hi hP => ?_) (fun y hP => ?_) (0, u) ⟨n_lit 0, rfl, ygt_rfl h0, fc, hZ, fun c h => absurd h (Nat.not_lt_zero _)⟩
  · obtain ⟨v, u1⟩ := y
    obtain ⟨e0, z1, g1, fc1, Z1, t1⟩ := hP
    dsimp only at e0 z1 g1 Z1 ⊢
    subst e0
    have hl : u_lnI d u1 1 (A 2) = some (n_ 64) := by
      obtain ⟨_, _, _, _, _, _, c2, _⟩ := id Z1
      exact lnL_e c2
    unfold uf_X8_goes_L2
    refine ev_b1 (yZ_f2 Z1) (ev_b1 hl ?_)
    refine ev_ifF (by rw [n_le (by omega) (by omega)]; omega) ?_
    refine ev_b1 (yZ_f2 Z1) ?_
    refine yZ_s2 g1.1 Z1 hi _ (fun w8 Z2 g2 => ?_)
    rw [show n_ i + 1 = n_ (i + 1) from by rw [n_lit 1, n_add]]
    refine ev_some ⟨_, rfl, rfl, z1, ygt_tr h0 g1 g2, _, Z2, fun c hc => ?_⟩
    by_cases cc : c = i
    · subst cc; rw [updL_at]; exact lz_lit 100000000
    · rw [updL_ne cc]; exact t1 c (by omega)
  · obtain ⟨v, u1⟩ := y
    obtain ⟨e0, z1, g1, fc1, Z1, t1⟩ := hP
    dsimp only at e0 z1 g1 Z1 ⊢
    subst e0
    have hl : u_lnI d u1 1 (A 2) = some (n_ 64) := by
      obtain ⟨_, _, _, _, _, _, c2, _⟩ := id Z1
      exact lnL_e c2
    unfold uf_X8_goes_L2
    refine ev_b1 (yZ_f2 Z1) (ev_b1 hl ?_)
    exact ev_ifT (by rw [n_le (by omega) (by omega)]; omega) (ev_some ⟨_, rfl, z1, g1, fc1, Z1, t1⟩)
theorem up_J42 {u : UM} (hR : yR0_ d b o u t aW g) (hW : yW_ d o u aW) (hZ : yZ_ d o u a t np A fn fb fc ft) (hP : pR_ np nu be may fn fb ft) (hA : pA_ np nu be th may) {k : Nat} (hk : k < 64) (hkd : k / 8 ≠ k % 8) {dd : Int} (hd : -1 ≤ dd ∧ dd ≤ 1) (ec : ∀ x y, x < np → y < np → x ≠ y → fc (8 * x + y) = lz_ (100000000 + (if 8 * x + y = k then dd else 0))) :
    Ev_ (fun n => uf_X8_goes_J42 n d u a) (fun r => r.2 = (0, 0) ∧ r.1.2.2 = u.2 ∧ ygt_ b KW_ o u o r.1.2 ∧ yZ_ d o r.1.2 a t np A fn fb fc ft ∧ ((r.1.1 = 0 ∧ (∀ y, ¬ fs_F np nu be th y) ∧ yW_ d o r.1.2 aW) ∨ (r.1.1 = 1 ∧ ∃ X, yQ_ d o r.1.2 aW np X ∧ fs_O np nu be th X ∧ ∀ y, fs_O np nu be th y → dd * X k ≤ dd * y k))) := by
  obtain ⟨h0, hw⟩ := yR0_w hR
  obtain ⟨fs, hcl⟩ := yW_cl hW
  obtain ⟨RA, m1, m2, b1, n1⟩ := hA
  have far : cn_FAR = 2305843009213693951 := rfl
  obtain ⟨h1, t1, c0, s0, c1, s1, c2, s2, c3, s3⟩ := id hZ
  have nk : ∀ x y, o x = y → 27 ≤ y → ¬ KW_ (o x) := fun x y h hy z => by rw [h] at z; unfold KW_ at z; omega
  unfold uf_X8_goes_J42
  refine ev_b1 (yZ_t hZ) (ev_b1 hw (ev_b1 (yZ_n hZ) (ev_b1 (yZ_f0 hZ) (ev_b1 (yZ_f1 hZ) (ev_b1 (yZ_f2 hZ) (ev_b1 (yZ_f3 hZ) (ev_b1 hcl ?_)))))))
  refine ev_bc (P := fun r s cc => cc = (0, 0) ∧ s.2 = u.2 ∧ ygt_ b KW_ o u o s ∧ ((r = 0 ∧ (∀ y, ¬ fs_F np nu be th y) ∧ yW_ d o s aW) ∨ (r = 1 ∧ ∃ X, yQ_ d o s aW np X ∧ fs_O np nu be th X ∧ ∀ y, fs_O np nu be th y → dd * X k ≤ dd * y k))) (uw_goes h0 hW RA m1 m2 (fun k hk => by have := b1 k hk; omega) n1 hk hkd hd c0 (nk _ _ s0 (by omega)) hP.1 c1 (nk _ _ s1 (by omega)) hP.2.1 c2 (nk _ _ s2 (by omega)) ec c3 (nk _ _ s3 (by omega)) hP.2.2) (fun r s cc hp => by rw [hp.1]; exact hp.2.1) (fun r s cc hp => ?_)
  obtain ⟨rfl, z, gg, hp⟩ := hp
  refine ev_g (by rcases hp with ⟨e, _⟩ | ⟨e, _⟩ <;> rw [e] <;> decide) (ev_some ⟨rfl, z, gg, yZ_keep h0 gg hZ (fun t h1 h2 z => by unfold KW_ at z; omega), hp⟩)
theorem up_goes {u : UM} (hR : yR0_ d b o u t aW g) (hW : yW_ d o u aW) (hZ : yZ_ d o u a t np A fn fb fc ft) (hP : pR_ np nu be may fn fb ft) (hA : pA_ np nu be th may) {k : Nat} (hk : k < 64) (hkd : k / 8 ≠ k % 8) {dd : Int} (hd : -1 ≤ dd ∧ dd ≤ 1) {p0 p1 : Int32} (hp : (p0 = -1 ∧ dd = 0) ∨ (p0 = n_ k ∧ p1 = q_ dd)) :
    Ev_ (fun n => uf_X8_goes n d u a p0 p1) (fun r => r.2 = (0, 0) ∧ r.1.2.2 = u.2 ∧ ygt_ b KQ_ o u o r.1.2 ∧ (∃ fc', yZ_ d o r.1.2 a t np A fn fb fc' ft) ∧ ((r.1.1 = 0 ∧ (∀ y, ¬ fs_F np nu be th y) ∧ yW_ d o r.1.2 aW) ∨ (r.1.1 = 1 ∧ ∃ X, yQ_ d o r.1.2 aW np X ∧ fs_O np nu be th X ∧ ∀ y, fs_O np nu be th y → dd * X k ≤ dd * y k))) := by
  have h0 := hR.1
  have h8 : np ≤ 8 := hA.1.1
  unfold uf_X8_goes
  refine ev_bl (P := fun s c => c = (0, 0) ∧ s.2 = u.2 ∧ ygt_ b (K1_ 30) o u o s ∧ ∃ fc', yZ_ d o s a t np A fn fb fc' ft ∧ ∀ c, c < 64 → fc' c = lz_ 100000000) (up_L2 h0 hZ p0 p1) (fun u1 c hq => ?_)
  obtain ⟨rfl, z1, g1, fc1, Z1, e1⟩ := hq
  have fin : ∀ (s : UM) (fc2 : Nat → Int64), s.2 = u.2 → ygt_ b (K1_ 30) o u o s → yZ_ d o s a t np A fn fb fc2 ft → (∀ x y, x < np → y < np → x ≠ y → fc2 (8 * x + y) = lz_ (100000000 + (if 8 * x + y = k then dd else 0))) → Ev_ (fun n => uf_X8_goes_J42 n d s a) (fun r => u_add (0, 0) r.2 = (0, 0) ∧ r.1.2.2 = u.2 ∧ ygt_ b KQ_ o u o r.1.2 ∧ (∃ fc', yZ_ d o r.1.2 a t np A fn fb fc' ft) ∧ ((r.1.1 = 0 ∧ (∀ y, ¬ fs_F np nu be th y) ∧ yW_ d o r.1.2 aW) ∨ (r.1.1 = 1 ∧ ∃ X, yQ_ d o r.1.2 aW np X ∧ fs_O np nu be th X ∧ ∀ y, fs_O np nu be th y → dd * X k ≤ dd * y k))) := fun s fc2 zs gs Zs ec => by
    have Rs := yR0_keep hR gs (fun x hx => by cases hx; exact Or.inr ⟨by omega, by omega⟩)
    have Ws := yW_keep h0 gs hW (fun t h1 h2 z => by cases z; omega)
    refine ev_w (up_J42 Rs Ws Zs hP hA hk hkd hd ec) (fun r hr => ?_)
    obtain ⟨q1, q2, q3, q4, q5⟩ := hr
    exact ⟨by rw [q1]; rfl, q2.trans zs, ygt_tr h0 (ygt_sub gs (fun x hx => Or.inr hx)) (ygt_sub q3 (fun x hx => Or.inl hx)), ⟨fc2, q4⟩, q5⟩
  rcases hp with ⟨rfl, rfl⟩ | ⟨rfl, rfl⟩
  · refine ev_ifT rfl (fin u1 fc1 z1 g1 Z1 (fun x y hx hy hne => ?_))
    rw [e1 _ (by omega)]
    congr 1
    split <;> omega
  · refine ev_ifF (fun z => by rw [q_m1, n_q, q_eq ⟨by omega, by omega⟩ ⟨by omega, by omega⟩] at z; omega) ?_
    refine ev_b1 (yZ_f2 Z1) (ev_b1 (yZ_l2 Z1 hk) ?_)
    rw [e1 k hk, lz_q ⟨by omega, by omega⟩, lz_add]
    refine yZ_s2 g1.1 Z1 hk _ (fun w40 Z2 g2 => ?_)
    refine fin (w40, u1.2) _ z1 (ygt_tr h0 g1 g2) Z2 (fun x y hx hy hne => ?_)
    by_cases c : 8 * x + y = k
    · rw [if_pos c, c, updL_at]
    · rw [if_neg c, updL_ne c, e1 _ (by omega)]; congr 1
/-- the least (the greatest) of a couple -/
theorem up_span {u : UM} (hR : yR0_ d b o u t aW g) (hW : yW_ d o u aW) (hZ : yZ_ d o u a t np A fn fb fc ft) (hP : pR_ np nu be may fn fb ft) (hA : pA_ np nu be th may) {x y : Nat} (hx : x < np) (hy : y < np) (hne : x ≠ y) (hi : Bool) {p2 : Int32} (hp : p2 = if hi then 1 else 0) :
    Ev_ (fun n => uf_X8_span n d u a (n_ x) (n_ y) p2) (fun r => r.2 = (0, 0) ∧ r.1.2.2 = u.2 ∧ ygt_ b KQ_ o u o r.1.2 ∧ (∃ fc', yZ_ d o r.1.2 a t np A fn fb fc' ft) ∧ yW_ d o r.1.2 aW ∧ ((r.1.1 = q_ (-1) ∧ (∀ y, ¬ fs_F np nu be th y)) ∨ ∃ X, fs_O np nu be th X ∧ (∀ z, fs_O np nu be th z → if hi then z (8 * x + y) ≤ X (8 * x + y) else X (8 * x + y) ≤ z (8 * x + y)) ∧ r.1.1 = q_ (X (8 * x + y)))) := by
  have h0 := hR.1
  have h8 : np ≤ 8 := hA.1.1
  have hk : 8 * x + y < 64 := by omega
  have hkd : (8 * x + y) / 8 ≠ (8 * x + y) % 8 := by omega
  have hix : 8 * n_ x + n_ y = n_ (8 * x + y) := by rw [n_lit 8, n_mul, n_add]
  have core : ∀ (dd : Int) (v : Int32), v = q_ dd → (dd = if hi then -1 else 1) → Ev_ (fun n => uf_X8_span_J16 n d u a (n_ x) (n_ y) v (n_ (8 * x + y)) a) (fun r => r.2 = (0, 0) ∧ r.1.2.2 = u.2 ∧ ygt_ b KQ_ o u o r.1.2 ∧ (∃ fc', yZ_ d o r.1.2 a t np A fn fb fc' ft) ∧ yW_ d o r.1.2 aW ∧ ((r.1.1 = q_ (-1) ∧ (∀ y, ¬ fs_F np nu be th y)) ∨ ∃ X, fs_O np nu be th X ∧ (∀ z, fs_O np nu be th z → if hi then z (8 * x + y) ≤ X (8 * x + y) else X (8 * x + y) ≤ z (8 * x + y)) ∧ r.1.1 = q_ (X (8 * x + y)))) := fun dd v hv hdd => by
    unfold uf_X8_span_J16 uf_X8_span_J38
    refine ev_b1 (cl_e hZ.1) ?_
    refine ev_bc (P := fun r s c => c = (0, 0) ∧ s.2 = u.2 ∧ ygt_ b KQ_ o u o s ∧ (∃ fc', yZ_ d o s a t np A fn fb fc' ft) ∧ ((r = 0 ∧ (∀ y, ¬ fs_F np nu be th y) ∧ yW_ d o s aW) ∨ (r = 1 ∧ ∃ X, yQ_ d o s aW np X ∧ fs_O np nu be th X ∧ ∀ z, fs_O np nu be th z → dd * X (8 * x + y) ≤ dd * z (8 * x + y)))) (up_goes hR hW hZ hP hA hk hkd (by cases hi <;> simp at hdd <;> omega) (Or.inr ⟨rfl, hv⟩)) (fun r s c hq => by rw [hq.1]; exact hq.2.1) (fun r s c hq => ?_)
    obtain ⟨rfl, z1, g1, ⟨fc1, Z1⟩, hq⟩ := hq
    rcases hq with ⟨rfl, q1, q2⟩ | ⟨rfl, X, q1, q2, q3⟩
    · exact ev_ifT rfl (ev_some ⟨rfl, z1, g1, ⟨fc1, Z1⟩, q2, Or.inl ⟨m1_q, q1⟩⟩)
    · refine ev_ifF (by decide) ?_
      have Rs := yR0_keep hR g1 KQ_T
      obtain ⟨fs, hcl⟩ := yW_cl (yQ_W q1)
      refine ev_b1 (yZ_t Z1) (ev_b1 (yR0_w Rs).2 (ev_b1 hcl ?_))
      refine ev_bn (fun n => yQ_of n q1 h8 hx hy hne) ?_
      refine ev_some ⟨rfl, z1, g1, ⟨fc1, Z1⟩, yQ_W q1, Or.inr ⟨X, q2, fun z hz => ?_, rfl⟩⟩
      have := q3 z hz
      cases hi
      · simp at hdd ⊢; subst hdd; omega
      · simp at hdd ⊢; subst hdd; omega
  unfold uf_X8_span
  rw [hix]
  cases hi with
  | false => exact ev_ifT (by rw [hp]; rfl) (core 1 1 q_1 rfl)
  | true => exact ev_ifF (by rw [hp]; decide) (core (-1) (-1) q_m1 rfl)
end
