set_option maxRecDepth 100000
/-! The Ways: edges between parties -/
def cT_ (np x y : Nat) (e : Nat) : Prop := (∃ z, z < np ∧ e = 18 * z + (8 + z)) ∨ ∃ x' y', x' < np ∧ y' < np ∧ x' ≠ y' ∧ (x' < x ∨ (x' = x ∧ y' < y)) ∧ e = 18 * (8 + x') + y'
/-- where a couple's edge lies -/
def pl_ (np x y : Nat) (m : Nat) (E : Nat → Nat) (f6 : Nat → Int32) : Prop := ∀ x' y', x' < np → y' < np → x' ≠ y' → (x' < x ∨ (x' = x ∧ y' < y)) → ∃ j, j + 1 < m ∧ f6 (8 * x' + y') = n_ j ∧ E j = 18 * (8 + x') + y' ∧ E (j + 1) = cn_rev (18 * (8 + x') + y')
theorem ul_L49 {d : UD} {b : Nat} {o : Nat → Nat} {a : Nat} {A : Nat → Nat} {f4 : Nat → Int64} {f5 : Nat → Int32} {nu be may : Nat → Int} {k : Nat} (hk : k < 64) {dd : Int} {u : UM} (h0 : uw_ b u) {np : Nat} (h8 : np ≤ 8) {x : Nat} (hx : x < np) {v3 v4 : Nat} {fb fc : Nat → Int64} (hb : lA_ d u v3 64 fb) (hbo : ¬ KW_ (o v3)) (eb : ∀ x y, x < np → y < np → x ≠ y → fb (8 * x + y) = lz_ (be (8 * x + y))) (hc : lA_ d u v4 64 fc) (hco : ¬ KW_ (o v4)) (ec : ∀ x y, x < np → y < np → x ≠ y → fc (8 * x + y) = lz_ (100000000 + (if 8 * x + y = k then dd else 0))) {m : Nat} {E : Nat → Nat} {f6 : Nat → Int32} (h : yL_ d o a A f4 f5 (cn_L0 nu be may) (cn_w k dd) (cT_ np x 0) u m E f6) (hp : pl_ np x 0 m E f6) (hm : m ≤ 2 * (8 + 7 * x)) (v2 : Nat) :
    Ev_ (fun n => uf_X2_goes_L49l n d a (n_ np) v2 v3 v4 (n_ x) (0, u)) (fun r => r.2 = (0, 0) ∧ r.1.2 = u.2 ∧ ygt_ b KW_ o u o r.1 ∧ ∃ m E f6, m ≤ 2 * (8 + 7 * (x + 1)) ∧ yL_ d o a A f4 f5 (cn_L0 nu be may) (cn_w k dd) (cT_ np (x + 1) 0) r.1 m E f6 ∧ pl_ np (x + 1) 0 m E f6) := by
  unfold uf_X2_goes_L49l
  refine ev_uf (Q := fun (s : UM) => s.2 = u.2 ∧ ygt_ b KW_ o u o s ∧ ∃ m E f6, m ≤ 2 * (8 + 7 * (x + 1)) ∧ yL_ d o a A f4 f5 (cn_L0 nu be may) (cn_w k dd) (cT_ np (x + 1) 0) s m E f6 ∧ pl_ np (x + 1) 0 m E f6) np (fun (i : Nat) (y : Int32 × UM) => y.1 = n_ i ∧ y.2.2 = u.2 ∧ ygt_ b KW_ o u o y.2 ∧ ∃ m E f6, m ≤ 2 * (8 + 7 * x + (if i ≤ x then i else i - 1)) ∧ yL_ d o a A f4 f5 (cn_L0 nu be may) (cn_w k dd) (cT_ np x i) y.2 m E f6 ∧ pl_ np x i m E f6) (fun i y hi hP => ?_) (fun y hP => ?_) (0, u) ⟨n_lit 0, rfl, ygt_rfl h0, m, E, f6, by rw [if_pos (by omega)]; omega, h, hp⟩
  · obtain ⟨v, u1⟩ := y
    obtain ⟨e0, z1, g1, m1, E1, g6, b1, h1, p1⟩ := hP
    dsimp only at e0 z1 g1 h1 ⊢
    subst e0
    have hidx : n_ i + 1 = n_ (i + 1) := by rw [n_lit 1, n_add]
    unfold uf_X2_goes_L49 uf_X2_goes_J114
    refine ev_ifF (by rw [n_le (by omega) (by omega)]; omega) ?_
    rw [hidx]
    refine ev_ifq (c' := x = i) (by rw [n_eq (by omega) (by omega)]) (fun c => ?_) (fun c => ?_)
    · refine ev_some ⟨_, rfl, rfl, z1, g1, m1, E1, g6, ?_, yL_T h1 (fun e => ?_), fun x' y' q1 q2 q3 q4 => p1 x' y' q1 q2 q3 (by omega)⟩
      · rw [if_pos (by omega)] at b1; rw [if_neg (by omega)]; omega
      · unfold cT_
        constructor
        · intro z
          rcases z with z | ⟨x', y', q1, q2, q3, q4, q5⟩
          · exact Or.inl z
          · exact Or.inr ⟨x', y', q1, q2, q3, by omega, q5⟩
        · intro z
          rcases z with z | ⟨x', y', q1, q2, q3, q4, q5⟩
          · exact Or.inl z
          · exact Or.inr ⟨x', y', q1, q2, q3, by omega, q5⟩
    · obtain ⟨f0, f1, f2, f3, Y, hW, hE, h2, hin, hall⟩ := id h1
      have hb1 := (ygt_at h0 g1 hb hbo).1
      have hc1 := (ygt_at h0 g1 hc hco).1
      have hix : 8 * n_ x + n_ i = n_ (8 * x + i) := by rw [n_lit 8, n_mul, n_add]
      have m142 : m1 + 2 ≤ 144 := by split at b1 <;> omega
      refine ev_b1 (yE_f6 Y) (ev_b1 (yE_e Y) ?_)
      rw [hix]
      refine yE_s6 g1.1 Y (show 8 * x + i < 64 by omega) _ (fun w23 Y2 gg2 => ?_)
      have hb2 := (ygt_at g1.1 gg2 hb1 (fun z => hbo (KW_1 (by omega) _ z))).1
      have hc2 := (ygt_at g1.1 gg2 hc1 (fun z => hco (KW_1 (by omega) _ z))).1
      refine ev_b1 (ldL_e hb2 (show 8 * x + i < 64 by omega) (by omega)) (ev_b1 (ldL_e hc2 (show 8 * x + i < 64 by omega) (by omega)) (ev_b1 (cl_e Y2.1) ?_))
      rw [eb x i hx hi c, ec x i hx hi c]
      have hlt : 18 * (8 + x) + i < 324 := by omega
      have d1 : (18 * (8 + x) + i) / 18 = 8 + x := by omega
      have d2 : (18 * (8 + x) + i) % 18 = i := by omega
      have L0 : cn_L0 nu be may (18 * (8 + x) + i) = be (8 * x + i) := by unfold cn_L0; rw [d1, d2, if_neg (by omega), if_pos (by omega), show 8 + x - 8 = x by omega]
      have Lr : cn_L0 nu be may (cn_rev (18 * (8 + x) + i)) = 0 := cn_L0_r hlt (Or.inr (Or.inl (by omega)))
      have h1' : yL_ d o a A f4 f5 (cn_L0 nu be may) (cn_w k dd) (cT_ np x i) (w23, u1.2) m1 E1 (upd g6 (8 * x + i) (n_ m1)) := ⟨f0, f1, f2, f3, Y2, hW, hE, h2, hin, hall⟩
      have key := yL_edge gg2.1 h1' (e := 18 * (8 + x) + i) (p0 := 8 + n_ x) (p1 := n_ i) (p2 := lz_ (be (8 * x + i))) (p3 := lz_ (100000000 + (if 8 * x + i = k then dd else 0))) m142 hlt (by unfold cn_src cn_dst; omega) ⟨fun z => by
        rcases z with ⟨z, q1, q2⟩ | ⟨x', y', q1, q2, q3, q4, q5⟩ <;> omega, fun z => by
        unfold cn_rev at z
        rcases z with ⟨z, q1, q2⟩ | ⟨x', y', q1, q2, q3, q4, q5⟩ <;> omega⟩ (by unfold cn_src; rw [d1, n_lit 8, n_add]) (by unfold cn_dst; rw [d2]) (by rw [L0]) (by rw [cn_w_c hk dd (by omega) (by omega) c]) Lr (cn_w_rev hk dd _ hlt)
      refine ev_bc (P := fun _ s cc => cc = (0, 0) ∧ s.2 = u1.2 ∧ ygt_ b KW_ o (w23, u1.2) o s ∧ yL_ d o a A f4 f5 (cn_L0 nu be may) (cn_w k dd) (fun z => cT_ np x i z ∨ z = 18 * (8 + x) + i) s (m1 + 2) (eA_ m1 E1 (18 * (8 + x) + i)) (upd g6 (8 * x + i) (n_ m1))) key (fun _ s c hp => by rw [hp.1]; exact hp.2.1) (fun _ s cc hp => ?_)
      obtain ⟨rfl, z2, g2, h3⟩ := hp
      refine ev_some ⟨_, rfl, rfl, z2.trans z1, ygt_tr h0 g1 (ygt_tr g1.1 (ygt_sub gg2 (KW_1 (by omega))) g2), m1 + 2, _, _, ?_, yL_T h3 (fun e => ?_), fun x' y' q1 q2 q3 q4 => ?_⟩
      · split at b1 <;> split <;> omega
      · unfold cT_
        constructor
        · intro z
          rcases z with (z | ⟨x', y', q1, q2, q3, q4, q5⟩) | z
          · exact Or.inl z
          · exact Or.inr ⟨x', y', q1, q2, q3, by omega, q5⟩
          · exact Or.inr ⟨x, i, hx, hi, c, by omega, z⟩
        · intro z
          rcases z with z | ⟨x', y', q1, q2, q3, q4, q5⟩
          · exact Or.inl (Or.inl z)
          · by_cases cc : x' = x ∧ y' = i
            · right; rw [q5, cc.1, cc.2]
            · exact Or.inl (Or.inr ⟨x', y', q1, q2, q3, by omega, q5⟩)
      · by_cases cc : x' = x ∧ y' = i
        · rw [cc.1, cc.2]
          exact ⟨m1, by omega, by rw [upd_at], by rw [eA_0], by rw [eA_1]⟩
        · obtain ⟨j, j1, j2, j3, j4⟩ := p1 x' y' q1 q2 q3 (by omega)
          exact ⟨j, by omega, by rw [upd_ne (by omega)]; exact j2, by rw [eA_o _ _ (by omega)]; exact j3, by rw [eA_o _ _ (by omega)]; exact j4⟩
  · obtain ⟨v, u1⟩ := y
    obtain ⟨e0, z1, g1, m1, E1, g6, b1, h1, p1⟩ := hP
    dsimp only at e0 z1 g1 h1 ⊢
    subst e0
    unfold uf_X2_goes_L49
    refine ev_ifT (by rw [n_le (by omega) (by omega)]; omega) (ev_some ⟨_, rfl, z1, g1, m1, E1, g6, ?_, yL_T h1 (fun e => ?_), fun x' y' q1 q2 q3 q4 => p1 x' y' q1 q2 q3 (by omega)⟩)
    · rw [if_neg (by omega)] at b1; omega
    · unfold cT_
      constructor
      · intro z
        rcases z with z | ⟨x', y', q1, q2, q3, q4, q5⟩
        · exact Or.inl z
        · exact Or.inr ⟨x', y', q1, q2, q3, by omega, q5⟩
      · intro z
        rcases z with z | ⟨x', y', q1, q2, q3, q4, q5⟩
        · exact Or.inl z
        · exact Or.inr ⟨x', y', q1, q2, q3, by omega, q5⟩
