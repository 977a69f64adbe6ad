set_option maxRecDepth 100000
/-! The Reader: caps, keeps, trades, the mode -/
section
variable {d : UD} {b : Nat} {o0 : Nat → Nat} {u0 : UM} {sN t a aS : Nat} {T : Nat → Int32} {n : Nat} {o : Nat → Nat} {u : UM} {i bg : Nat} {hm : Bool} {wv : Value} {ps ks : List (List Nat)} {x : SS_}
/-- a call that may end by what is wrong -/
theorem ev_bxD {α γ δ : Type} {z : Nat} {X : PR_ γ} {F : Nat → Option (((α ⊕ Nat) × UM) × UC)} {G : Nat → α → UM → Option (((δ ⊕ Nat) × UM) × UC)} {k1 k2 : Nat} {S : γ → α ⊕ Nat → UM → UC → Prop} {Q : ((δ ⊕ Nat) × UM) × UC → Prop} (h : Ev_ F (fun r => r.1.2.2 = z + r.2.1 ∧ ((∃ e, X = .inl e ∧ rE_ b o0 u0 sN i n k1 k2 e r) ∨ ∃ v, X = .inr v ∧ S v r.1.1 r.1.2 r.2)))
    (hS : ∀ v y u c, S v y u c → ∃ y', y = .inl y') (g : ∀ v y u c, X = .inr v → u.2 = z + c.1 → S v (.inl y) u c → Ev_ (fun m => G m y u) (fun r => Q (r.1, u_add c r.2))) (ge : ∀ e q u c, X = .inl e → u.2 = z + c.1 → cst_ c i n k1 k2 → yE0_ b o0 u0 sN e q u → Q ((.inr q, u), c)) : Ev_ (fun m => u_bx z (F m) (G m) (fun q u => some (((.inr q : δ ⊕ Nat), u), ((0, 0) : UC)))) Q := by
  refine ev_bx (P := fun y u c => u.2 = z + c.1 ∧ ((∃ e, X = .inl e ∧ rE_ b o0 u0 sN i n k1 k2 e ((y, u), c)) ∨ ∃ v, X = .inr v ∧ S v y u c)) h (fun _ _ _ hp => hp.1) (fun y u c hp => ?_) (fun q u c hp => ?_)
  · obtain ⟨hz, ⟨e, _, q, hq, _⟩ | ⟨v, hX, hv⟩⟩ := hp
    · cases hq
    · exact g v y u c hX hz hv
  · obtain ⟨hz, ⟨e, hX, q', hq, hc, hE⟩ | ⟨v, hX, hv⟩⟩ := hp
    · cases hq
      exact ev_some (ge e q u c hX hz hc hE)
    · obtain ⟨y', hy⟩ := hS v _ u c hv
      cases hy
theorem ur_namedD (h00 : uw_ b u0) (hs : cS_ d b) (h : yD_ d b o0 u0 sN t a aS T n o u i bg hm wv ps ks x) {p0 tl ta : Nat} {l : List Nat} {ws : List (List Nat)} (hl : al_ d o u p0 tl ta l) (h2 : al2_ (sg_ d o u) l ws) (hw : ∀ x ∈ ws, nm_ok x) (ht : 160 ≤ tl ∧ 160 ≤ ta) (h100 : ws.length ≤ 100) : Ev_ (fun m => uf_X4_named m d u a p0) (fun r => r.1.2.2 = u.2 + r.2.1 ∧ ((∃ e, rdI_ T n ws i = .inl e ∧ rE_ b o0 u0 sN i n 5 100 e r) ∨ ∃ v, rdI_ T n ws i = .inr v ∧ (r.1.1 = .inl (n_ v.1) ∧ ∃ w, rN_ d b o0 u0 sN t a aS T n o u i hm ps ks x w v.2.1 v.2.2 r.1.2 r.2))) := by
  refine ev_w (ur_named h00 hs h hl h2 hw ht h100) (fun r hr => ⟨hr.1, ?_⟩)
  have hr := hr.2
  cases hX : rdI_ T n ws i with
  | inl e => rw [hX] at hr; exact Or.inl ⟨e, rfl, hr⟩
  | inr v => rw [hX] at hr; exact Or.inr ⟨v, rfl, hr⟩
theorem ur_otherD (h00 : uw_ b u0) (hs : cS_ d b) (h : yD_ d b o0 u0 sN t a aS T n o u i bg hm wv ps ks x) (hw : ∀ x ∈ ps, nm_ok x) (h8 : ps.length ≤ 8) {pa : Nat} (hpa : pa < 8) : Ev_ (fun m => uf_X4_other m d u a (n_ pa)) (fun r => r.1.2.2 = u.2 + r.2.1 ∧ ((∃ e, rdO_ T n ps pa i = .inl e ∧ rE_ b o0 u0 sN i n 5 100 e r) ∨ ∃ v, rdO_ T n ps pa i = .inr v ∧ (r.1.1 = .inl (n_ v.1) ∧ ∃ w, rN_ d b o0 u0 sN t a aS T n o u i hm ps ks x w v.2.1 v.2.2 r.1.2 r.2))) := by
  refine ev_w (ur_other h00 hs h hw h8 hpa) (fun r hr => ⟨hr.1, ?_⟩)
  have hr := hr.2
  cases hX : rdO_ T n ps pa i with
  | inl e => rw [hX] at hr; exact Or.inl ⟨e, rfl, hr⟩
  | inr v => rw [hX] at hr; exact Or.inr ⟨v, rfl, hr⟩
theorem rdD_n {lo hi : Int} (hi' : i ≤ n) {v : Int × Nat × Nat} (h : rdD_ T n lo hi i = .inr v) : v.2.2 ≤ n ∧ i ≤ v.2.1 ∧ v.2.1 < v.2.2 ∧ lo ≤ v.1 ∧ v.1 ≤ hi := by
  have s1 := sk_le (T := T) hi'
  have d1 := de_at (T := T) s1.2
  unfold rdD_ at h
  split at h
  · cases h
  · rename_i c
    split at h
    · cases h
    · rename_i c2
      cases h
      dsimp only
      have : ¬ (¬ (lo ≤ nv_ T (sk_ T n i) (min 8 (de_ T n (sk_ T n i) - sk_ T n i)) ∧ nv_ T (sk_ T n i) (min 8 (de_ T n (sk_ T n i) - sk_ T n i)) ≤ hi)) := fun z => c2 (Or.inr z)
      have := Classical.not_not.mp this
      refine ⟨d1.2.1, s1.1, by omega, this.1, this.2⟩
theorem ur_numberD (h00 : uw_ b u0) (h : yD_ d b o0 u0 sN t a aS T n o u i bg hm wv ps ks x) (hT : tb_ T n) {lo hi : Int} (hlo : qf_ lo) (hhi : qf_ hi) : Ev_ (fun m => uf_X4_number m d u a (q_ lo) (q_ hi)) (fun r => r.1.2.2 = u.2 + r.2.1 ∧ ((∃ e, rdD_ T n lo hi i = .inl e ∧ rE_ b o0 u0 sN i n 5 100 e r) ∨ ∃ v, rdD_ T n lo hi i = .inr v ∧ (r.1.1 = .inl (q_ v.1) ∧ r.2 = (0, 0) ∧ i ≤ v.2.1 ∧ v.2.1 < v.2.2 ∧ v.2.2 ≤ n ∧ lo ≤ v.1 ∧ v.1 ≤ hi ∧ ygt_ b (K1_ 37) o u o r.1.2 ∧ yD_ d b o0 u0 sN t a aS T n o r.1.2 v.2.2 v.2.1 hm wv ps ks x))) := by
  refine ev_w (ur_number h00 h hT hlo hhi) (fun r hr => ⟨hr.1, ?_⟩)
  have hr := hr.2
  cases hX : rdD_ T n lo hi i with
  | inl e =>
    rw [hX] at hr
    obtain ⟨q, hq, hc, hE⟩ := hr
    exact Or.inl ⟨e, rfl, q, hq, by rw [hc]; exact ⟨by show 1 ≤ _; omega, by show 8 ≤ _; omega⟩, hE⟩
  | inr v =>
    rw [hX] at hr
    obtain ⟨h1, h2, h3, h4⟩ := hr
    obtain ⟨g1, g2, g3, g4, g5⟩ := rdD_n h.2.2.2.2.2.1 hX
    exact Or.inr ⟨v, rfl, h1, h2, g2, g3, g1, g4, g5, h3, h4⟩
theorem pb_ll {α β : Type} {X : PR_ α} {e : Nat × Nat} (h : X = .inl e) (k : α → PR_ β) : pb_ X k = .inl e := by rw [h]; rfl
theorem pb_rr {α β : Type} {X : PR_ α} {v : α} (h : X = .inr v) (k : α → PR_ β) : pb_ X k = k v := by rw [h]; rfl
/-- what a part leaves: an end, or the state behind -/
def rZ_ (d : UD) (b : Nat) (o0 : Nat → Nat) (u0 : UM) (sN t a aS : Nat) (T : Nat → Int32) (n i k1 k2 : Nat) (X : PR_ RD_) (r : ((Unit ⊕ Nat) × UM) × UC) : Prop := (∃ e, X = .inl e ∧ rE_ b o0 u0 sN i n (5 + k1) (100 + k2) e r) ∨ ∃ s', X = .inr s' ∧ r.1.1 = .inl () ∧ rS_ d b o0 u0 sN t a aS T n i k1 k2 s' r.1.2 r.2
theorem ys_setC (h0 : uw_ b u) (h : ys_ d o u aS sN ps ks x) (hs : 10 ≤ sN) {aC : Nat} (hC : u_nr u 2 3 aS = some aC) {f : Nat → Int32} (hf : iA_ d u aC 64 f) (eC : ∀ k, k < 64 → f k = q_ (x.2.1 k)) {j : Nat} {v : Int} {u' : UM} (c : ch_ u u' aC (.inl (d.1 0, 64, .inl (upd f j (q_ v))))) : ys_ d o u' aS sN ps ks (x.1, fw_up x.2.1 j v, x.2.2) ∧ ygt_ b (K1_ (16 * sN + 7)) o u o u' := by
  obtain ⟨aP, aK, aT, aC', lP, lK, lT, f', e1, e2, e3, e4, e5, e6, e7, e8, e9, e10, e11⟩ := h
  have eP : aC' = aC := by have := nr_e e1 (k := 3) rfl; rw [hC] at this; exact (Option.some.inj this).symm
  subst eP
  have g : ygt_ b (K1_ (16 * sN + 7)) o u o u' := ygt_ch h0 hf c (kd1_a _ _) e7
  have nk : ∀ z, z ≠ 16 * sN + 7 → ¬ K1_ (16 * sN + 7) z := fun z h1 q => h1 q
  obtain ⟨a1, a2⟩ := ygt_at h0 g e1 (by rw [e2]; exact nk _ (by omega))
  have k14 := nk 14 (by omega)
  refine ⟨⟨aP, aK, aT, aC', lP, lK, lT, _, a1, e2, al_keep h0 g e3 (nk _ (by omega)) (nk _ (by omega)), al_keep h0 g e4 (nk _ (by omega)) (nk _ (by omega)), al_keep h0 g e5 (nk _ (by omega)) (nk _ (by omega)), c.2.1, e7, fun k hk => ?_, al2_mono e9 (fun _ _ _ q => sg_keep h0 g q k14), al2_mono e10 (fun _ _ _ q => sg_keep h0 g q k14), al2_mono e11 (fun _ _ _ q => td_keep h0 g q k14)⟩, g⟩
  show upd f j (q_ v) k = q_ (fw_up x.2.1 j v k)
  by_cases q : k = j
  · rw [q, upd_at, fw_up_at]
  · rw [upd_ne q, fw_up_ne q]; exact eC k hk
theorem ur_cap (h00 : uw_ b u0) (hs : cS_ d b) (hT : tb_ T n) (h : yD_ d b o0 u0 sN t a aS T n o u i bg hm wv ps ks x) (rok : rd_ok (i, ps, ks, x, hm)) : Ev_ (fun m => uf_X4_cap m d u a) (fun r => r.1.2.2 = u.2 + r.2.1 ∧ rZ_ d b o0 u0 sN t a aS T n i 0 0 (rdB_ T n 4 (i, ps, ks, x, hm)) r) := by
  have s10 := h.2.2.2.2.2.2
  have r8 : ps.length ≤ 8 := rok.1
  have rP : ∀ w ∈ ps, nm_ok w := rok.2.2.2.1
  obtain ⟨aP, aK, aT, aC, lP, lK, lT, f, k1, k2, k3, k4, k5, k6, k7, k8, k9, k10, k11, k12, k13, k14⟩ := yD_P h
  have eB : rdB_ T n 4 (i, ps, ks, x, hm) = pb_ (rdI_ T n ps i) (fun a => pb_ (rdO_ T n ps a.1 a.2.2) (fun b => pb_ (rdD_ T n 0 99999999 b.2.2) (fun m => .inr (m.2.2, ps, ks, (x.1, fw_up x.2.1 (8 * a.1 + b.1) m.1, x.2.2), hm)))) := rfl
  rw [eB]
  unfold uf_X4_cap
  refine ev_b1 k1 (ev_b1 k2 (ev_b1 (yD_cl h) ?_))
  refine ev_bxD (S := fun v y u' c => y = .inl (n_ v.1) ∧ ∃ w, rN_ d b o0 u0 sN t a aS T n o u i hm ps ks x w v.2.1 v.2.2 u' c) (ur_namedD h00 hs h k6 k12 rP (by omega) (by omega)) (fun v y u' c hp => ⟨_, hp.1⟩) (fun v y u9 c hX z9 hp => ?_) (fun e q u9 c hX z9 hc hE => ⟨z9, Or.inl ⟨e, pb_ll hX _, q, rfl, hc, hE⟩⟩)
  obtain ⟨hy, w9, cs9, i1, i2, i3, o9, p9, pu9, g9, s9, D9⟩ := hp
  cases hy
  rw [pb_rr hX]
  have va := rdI_lt hX
  refine ev_b1 (yD_cl D9) ?_
  refine ev_bxD (S := fun v' y u' c => y = .inl (n_ v'.1) ∧ ∃ w, rN_ d b o0 u0 sN t a aS T n o9 u9 v.2.2 hm ps ks x w v'.2.1 v'.2.2 u' c) (ur_otherD h00 hs D9 rP (by omega) (show v.1 < 8 by omega)) (fun v y u' c hp => ⟨_, hp.1⟩) (fun v2 y u23 c2 hX2 z23 hp => ?_) (fun e q u23 c2 hX2 z23 hc hE => ⟨?_, Or.inl ⟨e, pb_ll hX2 _, q, rfl, ?_, hE⟩⟩)
  · obtain ⟨hy, w23, cs23, l1, l2, l3, o23, p23, pu23, g23, s23, D23⟩ := hp
    cases hy
    rw [pb_rr hX2]
    have vb : v2.1 < ps.length := by
      unfold rdO_ at hX2
      cases hI : rdI_ T n ps v.2.2 with
      | inl e => rw [pb_ll hI] at hX2; cases hX2
      | inr vv =>
        rw [pb_rr hI] at hX2
        split at hX2
        · cases hX2
        · cases hX2; exact rdI_lt hI
    obtain ⟨aP', aK', aT', aC', lP', lK', lT', f', j1, j2, j3, j4, j5, j6, j7, j8, j9, j10, j11, j12, j13, j14⟩ := yD_P D23
    refine ev_b1 j1 (ev_b1 j5 (ev_b1 (yD_cl D23) ?_))
    rw [show (0 : Int32) = q_ 0 from q_0, show (99999999 : Int32) = q_ 99999999 from q_lit 99999999]
    refine ev_bxD (S := fun v' y u' c => y = .inl (q_ v'.1) ∧ c = (0, 0) ∧ v2.2.2 ≤ v'.2.1 ∧ v'.2.1 < v'.2.2 ∧ v'.2.2 ≤ n ∧ 0 ≤ v'.1 ∧ v'.1 ≤ 99999999 ∧ ygt_ b (K1_ 37) o23 u23 o23 u' ∧ yD_ d b o0 u0 sN t a aS T n o23 u' v'.2.2 v'.2.1 hm (.ref p23) ps ks x) (ur_numberD h00 D23 hT ⟨by omega, by omega⟩ ⟨by omega, by omega⟩) (fun v y u' c hp => ⟨_, hp.1⟩) (fun v3 y u41 c3 hX3 z41 hp => ?_) (fun e q u41 c3 hX3 z41 hc hE => ⟨?_, Or.inl ⟨e, pb_ll hX3 _, q, rfl, ?_, hE⟩⟩)
    · obtain ⟨hy, hc0, m1, m2, m3, m4, m5, g41, D41⟩ := hp
      cases hy
      subst hc0
      rw [pb_rr hX3]
      have a41 := ygt_at D23.1.1 g41 j9 (by rw [j10]; intro z; unfold K1_ at z; omega)
      have n41 : u_nr u41 2 3 aS = some aC' := by
        obtain ⟨_, _, _, aC2, _, _, _, _, w1, w2, _⟩ := D23.2.2.2.1
        have w1' := (ygt_at D23.1.1 g41 w1 (by rw [w2]; intro z; unfold K1_ at z; omega)).1
        have q1 := nr_e w1 (k := 3) rfl
        have q2 := nr_e w1' (k := 3) rfl
        rw [j5] at q1; rw [q2]; exact q1.symm
      rw [show 8 * n_ v.1 + n_ v2.1 = n_ (8 * v.1 + v2.1) from by rw [n_lit 8, n_mul, n_add]]
      refine ev_b1 (stI_e a41.1 (show 8 * v.1 + v2.1 < 64 by omega) (by omega) _) ?_
      obtain ⟨Y, gY⟩ := ys_setC D41.1.1 D41.2.2.2.1 s10 n41 a41.1 j11 (ch_set a41.1 (.inl (d.1 0, 64, .inl (upd f' (8 * v.1 + v2.1) (q_ v3.1)))))
      have D51 := yD_set h00 D41 gY (fun z hz => Or.inl (by cases hz; unfold Ks_; omega)) Y
      refine ev_some ⟨?_, Or.inr ⟨_, rfl, rfl, ⟨?_, ?_⟩, ?_, o23, v3.2.1, .ref p23, D51⟩⟩
      · show u41.2 = u.2 + (c.1 + (c2.1 + (0 + 0)))
        have : u41.2 = u23.2 + 0 := z41
        omega
      · show c.1 + (c2.1 + (0 + 0)) ≤ 4 * (v3.2.2 - i) + 0; unfold cst_ at cs9 cs23; omega
      · show c.2 + (c2.2 + (0 + 0)) ≤ 40 * (v3.2.2 - i) + 0; unfold cst_ at cs9 cs23; omega
      · show i < v3.2.2; omega
    · show u41.2 = u.2 + (c.1 + (c2.1 + c3.1)); omega
    · refine ⟨?_, ?_⟩
      · show c.1 + (c2.1 + c3.1) ≤ 4 * (n - i) + 5; unfold cst_ at cs9 cs23 hc; omega
      · show c.2 + (c2.2 + c3.2) ≤ 40 * (n - i) + 100; unfold cst_ at cs9 cs23 hc; omega
  · show u23.2 = u.2 + (c.1 + c2.1); omega
  · refine ⟨?_, ?_⟩
    · show c.1 + c2.1 ≤ 4 * (n - i) + 5; unfold cst_ at cs9 hc; omega
    · show c.2 + c2.2 ≤ 40 * (n - i) + 100; unfold cst_ at cs9 hc; omega
end
