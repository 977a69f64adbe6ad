set_option maxRecDepth 100000
/-! The Ways: edges through the parties -/
theorem yL_0 {d : UD} {o : Nat → Nat} {a : Nat} {A : Nat → Nat} {f0 f1 : Nat → Int32} {f2 f3 f4 : Nat → Int64} {f5 f6 : Nat → Int32} {u : UM} (Y : yE_ d o u a A 0 f0 f1 f2 f3 f4 f5 f6) (L w : Nat → Int) : yL_ d o a A f4 f5 L w (fun _ => False) u 0 (fun _ => 0) f6 :=
  ⟨f0, f1, f2, f3, Y, ⟨by omega, fun j hj => absurd hj (Nat.not_lt_zero _), fun i j hi => absurd hi (Nat.not_lt_zero _), fun j hj => by omega⟩, fun j hj => absurd hj (Nat.not_lt_zero _), rfl, fun j hj => absurd hj (Nat.not_lt_zero _), fun e he => he.elim⟩
theorem yL_Y {d : UD} {o : Nat → Nat} {a : Nat} {A : Nat → Nat} {f4 : Nat → Int64} {f5 : Nat → Int32} {L w : Nat → Int} {T : Nat → Prop} {u : UM} {m : Nat} {E : Nat → Nat} {f6 : Nat → Int32} (h : yL_ d o a A f4 f5 L w T u m E f6) : ∃ f0 f1 f2 f3, yE_ d o u a A m f0 f1 f2 f3 f4 f5 f6 := by
  obtain ⟨f0, f1, f2, f3, Y, _⟩ := h
  exact ⟨f0, f1, f2, f3, Y⟩
theorem ul_L8 {d : UD} {b : Nat} {o : Nat → Nat} {a : Nat} {A : Nat → Nat} {f4 : Nat → Int64} {f5 f6 : Nat → Int32} {nu be may : Nat → Int} {k : Nat} (hk : k < 64) (hkd : k / 8 ≠ k % 8) {dd : Int} {u : UM} (h0 : uw_ b u) {E : Nat → Nat} (h : yL_ d o a A f4 f5 (cn_L0 nu be may) (cn_w k dd) (fun _ => False) u 0 E f6) {np : Nat} (h8 : np ≤ 8) {v5 : Nat} {ft : Nat → Int64} (ht : lA_ d u v5 8 ft) (hto : ¬ KW_ (o v5)) (et : ∀ x, x < np → ft x = lz_ (may x)) (v2 v3 v4 : Nat) :
    Ev_ (fun n => uf_X2_goes_L8l n d a (n_ np) v2 v3 v4 v5 (0, u)) (fun r => r.2 = (0, 0) ∧ r.1.2 = u.2 ∧ ygt_ b KW_ o u o r.1 ∧ ∃ E, yL_ d o a A f4 f5 (cn_L0 nu be may) (cn_w k dd) (fun e => ∃ x, x < np ∧ e = 18 * x + (8 + x)) r.1 (2 * np) E f6) := by
  unfold uf_X2_goes_L8l
  refine ev_uf (Q := fun (s : UM) => s.2 = u.2 ∧ ygt_ b KW_ o u o s ∧ ∃ E, yL_ d o a A f4 f5 (cn_L0 nu be may) (cn_w k dd) (fun e => ∃ x, x < np ∧ e = 18 * x + (8 + x)) s (2 * np) E f6) np (fun (i : Nat) (y : Int32 × UM) => y.1 = n_ i ∧ y.2.2 = u.2 ∧ ygt_ b KW_ o u o y.2 ∧ ∃ E, yL_ d o a A f4 f5 (cn_L0 nu be may) (cn_w k dd) (fun e => ∃ x, x < i ∧ e = 18 * x + (8 + x)) y.2 (2 * i) E f6) (fun i y hi hP => ?_) (fun y hP => ?_) (0, u) ⟨n_lit 0, rfl, ygt_rfl h0, E, yL_T h (fun e => ⟨fun z => z.elim, fun ⟨x, hx, _⟩ => absurd hx (Nat.not_lt_zero _)⟩)⟩
  · obtain ⟨v, u1⟩ := y
    obtain ⟨e0, z1, g1, E1, h1⟩ := hP
    dsimp only at e0 z1 g1 h1 ⊢
    subst e0
    obtain ⟨f0, f1, f2, f3, Y⟩ := yL_Y h1
    have ht1 := (ygt_at h0 g1 ht hto).1
    unfold uf_X2_goes_L8
    refine ev_ifF (by rw [n_le (by omega) (by omega)]; omega) ?_
    refine ev_b1 (ldL_e ht1 (show i < 8 by omega) (by omega)) (ev_b1 (cl_e Y.1) ?_)
    rw [et i hi]
    have hlt : 18 * i + (8 + i) < 324 := by omega
    have d1 : (18 * i + (8 + i)) / 18 = i := by omega
    have d2 : (18 * i + (8 + i)) % 18 = 8 + i := by omega
    have L0 : cn_L0 nu be may (18 * i + (8 + i)) = may i := by unfold cn_L0; rw [d1, d2, if_pos (by omega)]
    have Lr : cn_L0 nu be may (cn_rev (18 * i + (8 + i))) = 0 := cn_L0_r hlt (Or.inl (by omega))
    have key := yL_edge g1.1 h1 (e := 18 * i + (8 + i)) (p0 := n_ i) (p1 := 8 + n_ i) (p2 := lz_ (may i)) (p3 := 0) (by omega) hlt (by unfold cn_src cn_dst; omega) ⟨fun ⟨x, hx, e⟩ => by omega, fun ⟨x, hx, e⟩ => by unfold cn_rev at e; omega⟩ (by unfold cn_src; rw [d1]) (by unfold cn_dst; rw [d2, n_lit 8, n_add]) (by rw [L0]) (by rw [cn_w_t hk hkd dd (by omega)]; exact lz_0) Lr (cn_w_rev hk dd _ hlt)
    refine ev_bc (P := fun _ s c => c = (0, 0) ∧ s.2 = u1.2 ∧ ygt_ b KW_ o u1 o s ∧ yL_ d o a A f4 f5 (cn_L0 nu be may) (cn_w k dd) (fun x => (∃ y, y < i ∧ x = 18 * y + (8 + y)) ∨ x = 18 * i + (8 + i)) s (2 * i + 2) (eA_ (2 * i) E1 (18 * i + (8 + i))) f6) key (fun _ s c hp => by rw [hp.1]; exact hp.2.1) (fun _ s c hp => ?_)
    obtain ⟨rfl, z2, g2, h2⟩ := hp
    rw [show n_ i + 1 = n_ (i + 1) from by rw [n_lit 1, n_add]]
    refine ev_some ⟨_, rfl, rfl, z2.trans z1, ygt_tr h0 g1 g2, eA_ (2 * i) E1 (18 * i + (8 + i)), ?_⟩
    rw [show 2 * (i + 1) = 2 * i + 2 by omega]
    refine yL_T h2 (fun e => ⟨fun z => ?_, fun ⟨x, hx, e1⟩ => ?_⟩)
    · rcases z with ⟨y, hy, e1⟩ | e1
      · exact ⟨y, by omega, e1⟩
      · exact ⟨i, by omega, e1⟩
    · by_cases c : x = i
      · subst c; exact Or.inr e1
      · exact Or.inl ⟨x, by omega, e1⟩
  · obtain ⟨v, u1⟩ := y
    obtain ⟨e0, z1, g1, E1, h1⟩ := hP
    dsimp only at e0 z1 g1 h1 ⊢
    subst e0
    unfold uf_X2_goes_L8
    exact ev_ifT (by rw [n_le (by omega) (by omega)]; omega) (ev_some ⟨_, rfl, z1, g1, E1, h1⟩)
