set_option maxRecDepth 100000
/-! The Ways: the ends' edges, whole -/
theorem ul_L132 {d : UD} {b : Nat} {o : Nat → Nat} {a : Nat} {A : Nat → Nat} {f4 : Nat → Int64} {f5 f6 : Nat → Int32} {nu be may : Nat → Int} {k : Nat} (hk : k < 64) {dd : Int} {u : UM} (h0 : uw_ b u) {np : Nat} (h8 : np ≤ 8) {v2 : Nat} {fn : Nat → Int32} (hn : iA_ d u v2 8 fn) (hno : ¬ KW_ (o v2)) (en : ∀ x, x < np → fn x = q_ (nu x)) (hf : ∀ x, x < np → -2147483648 < nu x ∧ nu x < 2147483648) {m : Nat} {E : Nat → Nat} (hm : m ≤ 2 * (8 + 7 * np)) (h : yL_ d o a A f4 f5 (cn_L0 nu be may) (cn_w k dd) (cT_ np np 0) u m E f6) (hp : pl_ np np 0 m E f6) :
    Ev_ (fun n => uf_X2_goes_L132l n d a (n_ np) v2 (0, 0, u)) (fun r => r.2 = (0, 0) ∧ r.1.1 = lz_ (fw_sm np (fun x => max (nu x) 0)) ∧ r.1.2.2 = u.2 ∧ ygt_ b KW_ o u o r.1.2 ∧ ∃ m E, yL_ d o a A f4 f5 (cn_L0 nu be may) (cn_w k dd) (eT_ np nu np) r.1.2 m E f6 ∧ pl_ np np 0 m E f6) := by
  unfold uf_X2_goes_L132l
  refine ev_uf (Q := fun (s : Int64 × UM) => s.1 = lz_ (fw_sm np (fun x => max (nu x) 0)) ∧ s.2.2 = u.2 ∧ ygt_ b KW_ o u o s.2 ∧ ∃ m E, yL_ d o a A f4 f5 (cn_L0 nu be may) (cn_w k dd) (eT_ np nu np) s.2 m E f6 ∧ pl_ np np 0 m E f6) np (fun (i : Nat) (y : Int64 × Int32 × UM) => y.1 = lz_ (fw_sm i (fun x => max (nu x) 0)) ∧ y.2.1 = n_ i ∧ y.2.2.2 = u.2 ∧ ygt_ b KW_ o u o y.2.2 ∧ ∃ m E, m ≤ 2 * (8 + 7 * np + i) ∧ yL_ d o a A f4 f5 (cn_L0 nu be may) (cn_w k dd) (eT_ np nu i) y.2.2 m E f6 ∧ pl_ np np 0 m E f6) (fun i y hi hP => ?_) (fun y hP => ?_) (0, 0, u) ⟨lz_0, n_lit 0, rfl, ygt_rfl h0, m, E, by omega, yL_T h (fun e => ⟨fun z => Or.inl z, fun z => ?_⟩), hp⟩
  · obtain ⟨v6, v8, u1⟩ := y
    obtain ⟨e1, e0, z1, g1, m1, E1, b1, h1, p1⟩ := hP
    dsimp only at e1 e0 z1 g1 h1 ⊢
    subst e0; subst e1
    obtain ⟨f0, f1, f2, f3, Y⟩ := yL_Y h1
    have hn1 := (ygt_at h0 g1 hn hno).1
    have hfi := hf i hi
    have hld : u_ldI d u1 v2 (n_ i) = some (q_ (nu i)) := by rw [ldI_e hn1 (show i < 8 by omega) (by omega), en i hi]
    have hidx : n_ i + 1 = n_ (i + 1) := by rw [n_lit 1, n_add]
    obtain ⟨T1, T2⟩ := eT_0 (np := np) (nu := nu) h8 (i := i) (x := i) (by omega) (by omega) (by omega)
    have hcl := cl_e Y.1
    unfold uf_X2_goes_L132 uf_X2_goes_J190 uf_X2_goes_J204
    simp only [hld, hcl, m_bs, hidx]
    refine ev_ifF (by rw [n_le (by omega) (by omega)]; omega) ?_
    have sm : fw_sm (i + 1) (fun x => max (nu x) 0) = fw_sm i (fun x => max (nu x) 0) + max (nu i) 0 := rfl
    refine ev_ifq (c' := nu i = 0) (by rw [q_0, q_eq ⟨by omega, by omega⟩ ⟨by omega, by omega⟩]) (fun c0 => ?_) (fun c0 => ?_)
    · refine ev_some ⟨_, rfl, by rw [sm, show max (nu i) 0 = 0 by omega, Int.add_zero], rfl, z1, g1, m1, E1, by omega, yL_T h1 (fun e => ?_), p1⟩
      rw [eT_s]
      exact ⟨fun z => Or.inl z, fun z => z.elim id (fun z => by rcases z with z | z <;> omega)⟩
    · have hmx : (if (0 : Int32) < (q_ (nu i) : Int32) then (q_ (nu i) : Int32) else (0 : Int32)) = q_ (max (nu i) 0) := by
        by_cases c : 0 < nu i
        · rw [if_pos (by rw [q_0, q_lt' (by omega) (by omega) (by omega) (by omega)]; exact c), show max (nu i) 0 = nu i by omega]
        · rw [if_neg (by rw [q_0, q_lt' (by omega) (by omega) (by omega) (by omega)]; exact c), show max (nu i) 0 = 0 by omega]; rfl
      have fin : ∀ (s : UM) (e : Nat), s.2 = u1.2 → ygt_ b KW_ o u1 o s → yL_ d o a A f4 f5 (cn_L0 nu be may) (cn_w k dd) (fun x => eT_ np nu i x ∨ x = e) s (m1 + 2) (eA_ m1 E1 e) f6 → (∀ x, (x = e) ↔ ((0 < nu i ∧ x = 18 * 16 + (8 + i)) ∨ (nu i < 0 ∧ x = 18 * i + 17))) → Ev_ (fun _ => m_b (u_ldI d s v2 (n_ i)) (fun b60 => some ((.inl ((lz_ (fw_sm i (fun x => max (nu x) 0)) + ((if (0 : Int32) < (b60 : Int32) then (b60 : Int32) else (0 : Int32) : Int32).toInt64), n_ (i + 1), s)) : (Int64 × Int32 × UM) ⊕ (Int64 × UM)), ((0, 0) : UC)))) (fun r => ∃ s', (r.1, u_add (0, 0) r.2) = (.inl s', (0, 0)) ∧ s'.1 = lz_ (fw_sm (i + 1) (fun x => max (nu x) 0)) ∧ s'.2.1 = n_ (i + 1) ∧ s'.2.2.2 = u.2 ∧ ygt_ b KW_ o u o s'.2.2 ∧ ∃ m E, m ≤ 2 * (8 + 7 * np + (i + 1)) ∧ yL_ d o a A f4 f5 (cn_L0 nu be may) (cn_w k dd) (eT_ np nu (i + 1)) s'.2.2 m E f6 ∧ pl_ np np 0 m E f6) := fun s e zs gs hs he => by
        have hn2 := (ygt_at g1.1 gs hn1 hno).1
        have hld2 : u_ldI d s v2 (n_ i) = some (q_ (nu i)) := by rw [ldI_e hn2 (show i < 8 by omega) (by omega), en i hi]
        refine ev_b1 hld2 (ev_some ⟨_, rfl, ?_, rfl, zs.trans z1, ygt_tr h0 g1 gs, m1 + 2, _, by omega, yL_T hs (fun x => ?_), pl_add p1 e⟩)
        · dsimp only
          rw [hmx, lz_q ⟨by omega, by omega⟩, lz_add, sm]
        · rw [eT_s, he]
      refine ev_ifq (c' := nu i ≤ 0) (by rw [q_0, q_le' (by omega) (by omega) (by omega) (by omega)]) (fun c1 => ?_) (fun c1 => ?_)
      · have hlt : 18 * i + 17 < 324 := by omega
        have d1 : (18 * i + 17) / 18 = i := by omega
        have d2 : (18 * i + 17) % 18 = 17 := by omega
        have L0 : cn_L0 nu be may (18 * i + 17) = - nu i := by unfold cn_L0; rw [d1, d2, if_neg (by omega), if_neg (by omega), if_neg (by omega), if_pos (by omega)]; omega
        have key := yL_edge g1.1 h1 (e := 18 * i + 17) (p0 := n_ i) (p1 := 17) (p2 := (- q_ (nu i)).toInt64) (p3 := 0) (by omega) hlt (by unfold cn_src cn_dst; omega) T2 (by unfold cn_src; rw [d1]) (by unfold cn_dst; rw [d2]; exact n_lit 17) (by rw [L0, q_neg, lz_q ⟨by omega, by omega⟩]) (by rw [cn_w_z hk dd (by omega)]; exact lz_0) (cn_L0_r hlt (by omega)) (cn_w_rev hk dd _ hlt)
        refine ev_bc (P := fun _ s cc => cc = (0, 0) ∧ s.2 = u1.2 ∧ ygt_ b KW_ o u1 o s ∧ yL_ d o a A f4 f5 (cn_L0 nu be may) (cn_w k dd) (fun x => eT_ np nu i x ∨ x = 18 * i + 17) s (m1 + 2) (eA_ m1 E1 (18 * i + 17)) f6) key (fun _ s c hp => by rw [hp.1]; exact hp.2.1) (fun _ s cc hp => ?_)
        obtain ⟨rfl, z2, g2, h2⟩ := hp
        exact fin s _ z2 g2 h2 (fun x => by omega)
      · have hlt : 18 * 16 + (8 + i) < 324 := by omega
        have d1 : (18 * 16 + (8 + i)) / 18 = 16 := by omega
        have d2 : (18 * 16 + (8 + i)) % 18 = 8 + i := by omega
        have L0 : cn_L0 nu be may (18 * 16 + (8 + i)) = nu i := by unfold cn_L0; rw [d1, d2, if_neg (by omega), if_neg (by omega), if_pos (by omega), show 8 + i - 8 = i by omega]; omega
        have key := yL_edge g1.1 h1 (e := 18 * 16 + (8 + i)) (p0 := 16) (p1 := 8 + n_ i) (p2 := (q_ (nu i)).toInt64) (p3 := 0) (by omega) hlt (by unfold cn_src cn_dst; omega) T1 (by unfold cn_src; rw [d1]; exact n_lit 16) (by unfold cn_dst; rw [d2, n_lit 8, n_add]) (by rw [L0, lz_q ⟨by omega, by omega⟩]) (by rw [cn_w_s hk dd (by omega)]; exact lz_0) (cn_L0_r hlt (by omega)) (cn_w_rev hk dd _ hlt)
        refine ev_bc (P := fun _ s cc => cc = (0, 0) ∧ s.2 = u1.2 ∧ ygt_ b KW_ o u1 o s ∧ yL_ d o a A f4 f5 (cn_L0 nu be may) (cn_w k dd) (fun x => eT_ np nu i x ∨ x = 18 * 16 + (8 + i)) s (m1 + 2) (eA_ m1 E1 (18 * 16 + (8 + i))) f6) key (fun _ s c hp => by rw [hp.1]; exact hp.2.1) (fun _ s cc hp => ?_)
        obtain ⟨rfl, z2, g2, h2⟩ := hp
        exact fin s _ z2 g2 h2 (fun x => by omega)
  · obtain ⟨v6, v8, u1⟩ := y
    obtain ⟨e1, e0, z1, g1, m1, E1, b1, h1, p1⟩ := hP
    dsimp only at e1 e0 z1 g1 h1 ⊢
    subst e0; subst e1
    unfold uf_X2_goes_L132
    exact ev_ifT (by rw [n_le (by omega) (by omega)]; omega) (ev_some ⟨_, rfl, rfl, z1, g1, m1, E1, h1, p1⟩)
  · rcases z with z | ⟨x, q1, _⟩ | ⟨x, q1, _⟩
    · exact z
    · omega
    · omega
