set_option maxRecDepth 100000
/-! The Ways: edges of all couples -/
theorem ul_L40 {d : UD} {b : Nat} {o : Nat → Nat} {a : Nat} {A : Nat → Nat} {f4 : Nat → Int64} {f5 : Nat → Int32} {nu be may : Nat → Int} {k : Nat} (hk : k < 64) {dd : Int} {u : UM} (h0 : uw_ b u) {np : Nat} (h8 : np ≤ 8) {v3 v4 : Nat} {fb fc : Nat → Int64} (hb : lA_ d u v3 64 fb) (hbo : ¬ KW_ (o v3)) (eb : ∀ x y, x < np → y < np → x ≠ y → fb (8 * x + y) = lz_ (be (8 * x + y))) (hc : lA_ d u v4 64 fc) (hco : ¬ KW_ (o v4)) (ec : ∀ x y, x < np → y < np → x ≠ y → fc (8 * x + y) = lz_ (100000000 + (if 8 * x + y = k then dd else 0))) {E : Nat → Nat} {f6 : Nat → Int32} (h : yL_ d o a A f4 f5 (cn_L0 nu be may) (cn_w k dd) (fun e => ∃ x, x < np ∧ e = 18 * x + (8 + x)) u (2 * np) E f6) (v2 : Nat) :
    Ev_ (fun n => uf_X2_goes_L40l n d a (n_ np) v2 v3 v4 (0, u)) (fun r => r.2 = (0, 0) ∧ r.1.2 = u.2 ∧ ygt_ b KW_ o u o r.1 ∧ ∃ m E f6, m ≤ 2 * (8 + 7 * np) ∧ yL_ d o a A f4 f5 (cn_L0 nu be may) (cn_w k dd) (cT_ np np 0) r.1 m E f6 ∧ pl_ np np 0 m E f6) := by
  unfold uf_X2_goes_L40l
  refine ev_uf (Q := fun (s : UM) => s.2 = u.2 ∧ ygt_ b KW_ o u o s ∧ ∃ m E f6, m ≤ 2 * (8 + 7 * np) ∧ yL_ d o a A f4 f5 (cn_L0 nu be may) (cn_w k dd) (cT_ np np 0) s m E f6 ∧ pl_ np np 0 m E f6) np (fun (i : Nat) (y : Int32 × UM) => y.1 = n_ i ∧ y.2.2 = u.2 ∧ ygt_ b KW_ o u o y.2 ∧ ∃ m E f6, m ≤ 2 * (8 + 7 * i) ∧ yL_ d o a A f4 f5 (cn_L0 nu be may) (cn_w k dd) (cT_ np i 0) y.2 m E f6 ∧ pl_ np i 0 m E f6) (fun i y hi hP => ?_) (fun y hP => ?_) (0, u) ⟨n_lit 0, rfl, ygt_rfl h0, 2 * np, E, f6, by omega, yL_T h (fun e => ⟨fun z => Or.inl z, fun z => ?_⟩), fun x' y' q1 q2 q3 q4 => by omega⟩
  · obtain ⟨v, u1⟩ := y
    obtain ⟨e0, z1, g1, m1, E1, g6, b1, h1, p1⟩ := hP
    dsimp only at e0 z1 g1 h1 ⊢
    subst e0
    unfold uf_X2_goes_L40
    refine ev_ifF (by rw [n_le (by omega) (by omega)]; omega) ?_
    refine ev_bl (P := fun s c => c = (0, 0) ∧ s.2 = u1.2 ∧ ygt_ b KW_ o u1 o s ∧ ∃ m E f6, m ≤ 2 * (8 + 7 * (i + 1)) ∧ yL_ d o a A f4 f5 (cn_L0 nu be may) (cn_w k dd) (cT_ np (i + 1) 0) s m E f6 ∧ pl_ np (i + 1) 0 m E f6) (ul_L49 hk g1.1 h8 hi (ygt_at h0 g1 hb hbo).1 hbo eb (ygt_at h0 g1 hc hco).1 hco ec h1 p1 b1 v2) (fun s c hp => ?_)
    obtain ⟨rfl, z2, g2, hp⟩ := hp
    rw [show n_ i + 1 = n_ (i + 1) from by rw [n_lit 1, n_add]]
    exact ev_some ⟨_, rfl, rfl, z2.trans z1, ygt_tr h0 g1 g2, hp⟩
  · obtain ⟨v, u1⟩ := y
    obtain ⟨e0, z1, g1, hp⟩ := hP
    dsimp only at e0 z1 g1 hp ⊢
    subst e0
    unfold uf_X2_goes_L40
    exact ev_ifT (by rw [n_le (by omega) (by omega)]; omega) (ev_some ⟨_, rfl, z1, g1, hp⟩)
  · rcases z with z | ⟨x', y', q1, q2, q3, q4, q5⟩
    · exact z
    · omega
