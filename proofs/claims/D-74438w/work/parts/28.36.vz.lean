set_option maxRecDepth 100000
/-! The Ways: goes, whole -/
theorem cn_L0_far {nu be may : Nat → Int} (hb : ∀ k, k < 64 → be k ≤ cn_FAR) (hm : ∀ p, p < 8 → may p ≤ cn_FAR) (hn : ∀ p, p < 8 → -2147483648 < nu p ∧ nu p < 2147483648) {e : Nat} (he : e < 324) : cn_L0 nu be may e + cn_L0 nu be may (cn_rev e) ≤ cn_FAR := by
  have far : cn_FAR = 2305843009213693951 := rfl
  have up : ∀ e, e < 324 → cn_L0 nu be may e ≤ cn_FAR := fun e he => by
    unfold cn_L0
    by_cases c1 : e / 18 < 8 ∧ e % 18 = 8 + e / 18
    · rw [if_pos c1]; exact hm _ c1.1
    · rw [if_neg c1]
      by_cases c2 : 8 ≤ e / 18 ∧ e / 18 < 16 ∧ e % 18 < 8 ∧ e / 18 ≠ 8 + e % 18
      · rw [if_pos c2]; exact hb _ (by omega)
      · rw [if_neg c2]
        by_cases c3 : e / 18 = 16 ∧ 8 ≤ e % 18 ∧ e % 18 < 16
        · rw [if_pos c3]; have := hn (e % 18 - 8) (by omega); omega
        · rw [if_neg c3]
          by_cases c4 : e / 18 < 8 ∧ e % 18 = 17
          · rw [if_pos c4]; have := hn (e / 18) (by omega); omega
          · rw [if_neg c4]; omega
  have hr : cn_rev e < 324 := (cn_net e he).2.2.1
  by_cases c : (e / 18 < 8 ∧ e % 18 = 8 + e / 18) ∨ (8 ≤ e / 18 ∧ e / 18 < 16 ∧ e % 18 < 8 ∧ e / 18 ≠ 8 + e % 18) ∨ (e / 18 = 16 ∧ 8 ≤ e % 18 ∧ e % 18 < 16) ∨ (e / 18 < 8 ∧ e % 18 = 17)
  · rw [cn_L0_r he c]; have := up e he; omega
  · have z : cn_L0 nu be may e = 0 := by
      unfold cn_L0
      rw [if_neg (fun q => c (Or.inl q)), if_neg (fun q => c (Or.inr (Or.inl q))), if_neg (fun q => c (Or.inr (Or.inr (Or.inl q)))), if_neg (fun q => c (Or.inr (Or.inr (Or.inr q))))]
    rw [z]; have := up _ hr; omega
/-- what the Ways have sent -/
def yQ_ (d : UD) (o : Nat → Nat) (u : UM) (a np : Nat) (X : Nat → Int) : Prop := ∃ A m E f0 f1 f2 f3 f4 f5 f6 L w, yE_ d o u a A m f0 f1 f2 f3 f4 f5 f6 ∧ eW_ m E ∧ eG_ m E L w f0 f1 f2 f3 ∧ pl_ np np 0 m E f6 ∧ X = cn_x L
theorem yQ_W {d : UD} {o : Nat → Nat} {u : UM} {a np : Nat} {X : Nat → Int} (h : yQ_ d o u a np X) : yW_ d o u a := by
  obtain ⟨A, m, E, f0, f1, f2, f3, f4, f5, f6, L, w, Y, _⟩ := h
  exact yE_W Y
theorem yQ_keep {d : UD} {b : Nat} {K : Nat → Prop} {o o' : Nat → Nat} {u u' : UM} (h0 : uw_ b u) (g : ygt_ b K o u o' u') {a np : Nat} {X : Nat → Int} (h : yQ_ d o u a np X) (hk : ∀ t, 4 ≤ t → t ≤ 11 → ¬ K t) : yQ_ d o' u' a np X := by
  obtain ⟨A, m, E, f0, f1, f2, f3, f4, f5, f6, L, w, Y, r⟩ := h
  exact ⟨A, m, E, f0, f1, f2, f3, f4, f5, f6, L, w, yE_keep h0 g Y hk, r⟩
theorem yQ_of (n : Nat) {d : UD} {o : Nat → Nat} {u : UM} {a np : Nat} {X : Nat → Int} (h : yQ_ d o u a np X) (h8 : np ≤ 8) {x y : Nat} (hx : x < np) (hy : y < np) (hne : x ≠ y) : uf_X2_of n d u a (n_ x) (n_ y) = some (q_ (X (8 * x + y))) := by
  obtain ⟨A, m, E, f0, f1, f2, f3, f4, f5, f6, L, w, Y, hW, hE, hp, rfl⟩ := h
  exact uw_of n Y hW hE h8 hp hx hy hne
theorem uw_goes {d : UD} {b : Nat} {o : Nat → Nat} {u : UM} (h0 : uw_ b u) {a : Nat} (hW : yW_ d o u a) {np : Nat} {nu be : Nat → Int} {th : Option (Nat → Int)} {may : Nat → Int} (RA : rn_A np nu be th may) (hmay : ∀ x, np ≤ x → x < 8 → may x = 0) (hmf : ∀ p, p < 8 → may p ≤ cn_FAR) (hbf : ∀ k, k < 64 → be k ≤ cn_FAR) (hf : ∀ x, x < 8 → -2147483648 < nu x ∧ nu x < 2147483648) {k : Nat} (hk : k < 64) (hkd : k / 8 ≠ k % 8) {dd : Int} (hd : -1 ≤ dd ∧ dd ≤ 1)
    {v2 v3 v4 v5 : Nat} {fn : Nat → Int32} {fb fc ft : Nat → Int64} (hn : iA_ d u v2 8 fn) (hno : ¬ KW_ (o v2)) (en : ∀ x, x < np → fn x = q_ (nu x)) (hb : lA_ d u v3 64 fb) (hbo : ¬ KW_ (o v3)) (eb : ∀ x y, x < np → y < np → x ≠ y → fb (8 * x + y) = lz_ (be (8 * x + y))) (hc : lA_ d u v4 64 fc) (hco : ¬ KW_ (o v4)) (ec : ∀ x y, x < np → y < np → x ≠ y → fc (8 * x + y) = lz_ (100000000 + (if 8 * x + y = k then dd else 0))) (ht : lA_ d u v5 8 ft) (hto : ¬ KW_ (o v5)) (et : ∀ x, x < np → ft x = lz_ (may x)) :
    Ev_ (fun n => uf_X2_goes n d u a (n_ np) v2 v3 v4 v5) (fun r => r.2 = (0, 0) ∧ r.1.2.2 = u.2 ∧ ygt_ b KW_ o u o r.1.2 ∧ ((r.1.1 = 0 ∧ (∀ y, ¬ fs_F np nu be th y) ∧ yW_ d o r.1.2 a) ∨ (r.1.1 = 1 ∧ ∃ X, yQ_ d o r.1.2 a np X ∧ fs_O np nu be th X ∧ ∀ y, fs_O np nu be th y → dd * X k ≤ dd * y k))) := by
  have far : cn_FAR = 2305843009213693951 := rfl
  have h8 : np ≤ 8 := RA.1
  have hz : ∀ x, np ≤ x → x < 8 → nu x = 0 := RA.2.2.2.2.1
  have hb0 : ∀ k, k < 64 → ¬ fs_cp np k → be k = 0 := RA.2.2.1
  obtain ⟨a0, a1, a2, a3, a4, a5, a6, f0, f1, f2, f3, f4, f5, f6, e, w1, t1, c0, s0, c1, s1, c2, s2, c3, s3, c4, s4, c5, s5, c6, s6⟩ := hW
  have hS8 : fw_sm 8 (fun x => max (nu x) 0) = fw_sm np (fun x => max (nu x) 0) := by
    have := sm_np h8 hz (8 - np) (by omega)
    rwa [show np + (8 - np) = 8 by omega] at this
  have hS : fw_sm 8 (fun x => max (nu x) 0) ≤ cn_FAR := by
    have h1 : fw_sm 8 (fun x => max (nu x) 0) ≤ fw_sm 8 (fun _ => 2147483648) := fw_sm_le (fun x hx => by have := hf x hx; omega)
    rw [fw_sm_8 (fun _ => 2147483648)] at h1
    omega
  unfold uf_X2_goes
  refine ev_pf w1 (by simp) (fun w c => ?_)
  have ee : ∀ y, o y ≠ 4 → u_get w y = u_get u.1 y := fun y hy => c.2.2 y (fun z => hy (by rw [z]; exact t1))
  have gg : ygt_ b (K1_ 4) o u o (w, u.2) := ygt_ch h0 w1 c (kd1_o _ _ _) t1
  have Y0 : yE_ d o (w, u.2) a (fun i => [a0, a1, a2, a3, a4, a5, a6].getD i 0) 0 f0 f1 f2 f3 f4 f5 f6 := ⟨by rw [← n_lit 0]; exact c.2.1, t1, (ee a0 (by rw [s0]; omega)).trans c0, s0, (ee a1 (by rw [s1]; omega)).trans c1, s1, (ee a2 (by rw [s2]; omega)).trans c2, s2, (ee a3 (by rw [s3]; omega)).trans c3, s3, (ee a4 (by rw [s4]; omega)).trans c4, s4, (ee a5 (by rw [s5]; omega)).trans c5, s5, (ee a6 (by rw [s6]; omega)).trans c6, s6⟩
  generalize (fun i => [a0, a1, a2, a3, a4, a5, a6].getD i 0) = A at Y0
  have g0 : ygt_ b KW_ o u o (w, u.2) := ygt_sub gg (KW_1 (by omega))
  have hL := yL_0 Y0 (cn_L0 nu be may) (cn_w k dd)
  refine ev_bl (P := fun s cc => cc = (0, 0) ∧ s.2 = u.2 ∧ ygt_ b KW_ o (w, u.2) o s ∧ ∃ E, yL_ d o a A f4 f5 (cn_L0 nu be may) (cn_w k dd) (fun e => ∃ x, x < np ∧ e = 18 * x + (8 + x)) s (2 * np) E f6) (ul_L8 hk hkd g0.1 hL h8 (ygt_at h0 g0 ht hto).1 hto et v2 v3 v4) (fun u1 cc hp => ?_)
  obtain ⟨rfl, z1, g1, E1, L1⟩ := hp
  have G1 := ygt_tr h0 g0 g1
  refine ev_bl (P := fun s cc => cc = (0, 0) ∧ s.2 = u1.2 ∧ ygt_ b KW_ o u1 o s ∧ ∃ m E f6, m ≤ 2 * (8 + 7 * np) ∧ yL_ d o a A f4 f5 (cn_L0 nu be may) (cn_w k dd) (cT_ np np 0) s m E f6 ∧ pl_ np np 0 m E f6) (ul_L40 hk G1.1 h8 (ygt_at h0 G1 hb hbo).1 hbo eb (ygt_at h0 G1 hc hco).1 hco ec L1 v2) (fun u2 cc hp => ?_)
  obtain ⟨rfl, z2, g2, m2, E2, f62, b2, L2, p2⟩ := hp
  have G2 := ygt_tr h0 G1 g2
  refine ev_bl (P := fun s cc => cc = (0, 0) ∧ s.1 = lz_ (fw_sm np (fun x => max (nu x) 0)) ∧ s.2.2 = u2.2 ∧ ygt_ b KW_ o u2 o s.2 ∧ ∃ m E, yL_ d o a A f4 f5 (cn_L0 nu be may) (cn_w k dd) (eT_ np nu np) s.2 m E f62 ∧ pl_ np np 0 m E f62) (ul_L132 hk G2.1 h8 (ygt_at h0 G2 hn hno).1 hno en (fun x hx => hf x (by omega)) b2 L2 p2) (fun y cc hp => ?_)
  obtain ⟨v6, u3⟩ := y
  obtain ⟨rfl, e3, z3, g3, m3, E3, L3, p3⟩ := hp
  dsimp only at e3 z3 g3 L3 ⊢
  subst e3
  have G3 := ygt_tr h0 G2 g3
  obtain ⟨k0, k1, k2, k3, Y3, hW3, hE3, par, hin, hall⟩ := L3
  have V : yV_ d o a A m3 k0 k1 k3 f62 E3 nu be may k dd u3 (cn_L0 nu be may) 0 := ⟨k2, f4, f5, Y3, hE3, cn_I0 hk hkd hd RA.2.1 RA.2.2.2.1⟩
  have hcov : ∀ e, e < 324 → (∀ j, j < m3 → E3 j ≠ e) → cn_L0 nu be may e = 0 := fun e he hn => eT_cov hz hmay hb0 he (fun q => by
    obtain ⟨j, j1, j2, _⟩ := hall e q
    exact hn j (by omega) j2)
  rw [← hS8]
  refine ev_bl (P := fun y cc => cc = (0, 0) ∧ lq_ (fun s => s.2 = u3.2 ∧ ygt_ b KW_ o u3 o s ∧ (∀ y, ¬ fs_F np nu be th y) ∧ ∃ f2 f4 f5, yE_ d o s a A m3 k0 k1 f2 k3 f4 f5 f62) (fun s => s.2 = u3.2 ∧ ygt_ b KW_ o u3 o s ∧ ∃ f2 f4 f5 L', yE_ d o s a A m3 k0 k1 f2 k3 f4 f5 f62 ∧ eG_ m3 E3 L' (cn_w k dd) k0 k1 f2 k3 ∧ fs_O np nu be th (cn_x L') ∧ ∀ y, fs_O np nu be th y → dd * cn_x L' k ≤ dd * y k) y) (uw_sends RA hk hkd hd hW3 hcov (fun e he => cn_L0_far hbf hmf hf he) G3.1 V hS) (fun y cc hp => ?_)
  obtain ⟨rfl, hp⟩ := hp
  have z : u3.2 = u.2 := z3.trans (z2.trans z1)
  cases y with
  | inl s =>
    obtain ⟨q1, q2, q3, f2', f4', f5', Y4⟩ := hp
    exact ev_some ⟨rfl, q1.trans z, ygt_tr h0 G3 q2, Or.inl ⟨rfl, q3, yE_W Y4⟩⟩
  | inr s =>
    obtain ⟨q1, q2, f2', f4', f5', L', Y4, hE4, hO, hmin⟩ := hp
    exact ev_some ⟨rfl, q1.trans z, ygt_tr h0 G3 q2, Or.inr ⟨rfl, cn_x L', ⟨A, m3, E3, k0, k1, f2', k3, f4', f5', f62, L', cn_w k dd, Y4, hW3, hE4, p3, rfl⟩, hO, hmin⟩⟩
