set_option maxRecDepth 100000
/-! The Ways: edges are laid. How far: a set of arcs, closed under turning -/
/-- the edges laid so far: rows tell of them, and they are just the arcs of a set -/
def yL_ (d : UD) (o : Nat → Nat) (a : Nat) (A : Nat → Nat) (f4 : Nat → Int64) (f5 : Nat → Int32) (L w : Nat → Int) (T : Nat → Prop) (u : UM) (m : Nat) (E : Nat → Nat) (f6 : Nat → Int32) : Prop := ∃ f0 f1 f2 f3, yE_ d o u a A m f0 f1 f2 f3 f4 f5 f6 ∧ eW_ m E ∧ eG_ m E L w f0 f1 f2 f3 ∧ m % 2 = 0 ∧ (∀ j, j < m → T (E j) ∨ T (cn_rev (E j))) ∧ ∀ e, T e → ∃ j, j + 1 < m ∧ E j = e ∧ E (j + 1) = cn_rev e
theorem yL_edge {d : UD} {b : Nat} {o : Nat → Nat} {a : Nat} {A : Nat → Nat} {f4 : Nat → Int64} {f5 : Nat → Int32} {L w : Nat → Int} {T : Nat → Prop} {u : UM} {m : Nat} {E : Nat → Nat} {f6 : Nat → Int32} (h0 : uw_ b u) (h : yL_ d o a A f4 f5 L w T u m E f6) (hm : m + 2 ≤ 144) {e : Nat} (he : e < 324) (hd : cn_src e ≠ cn_dst e) (hT : ¬ T e ∧ ¬ T (cn_rev e)) {p0 p1 : Int32} {p2 p3 : Int64} (e0 : p0 = n_ (cn_src e)) (e1 : p1 = n_ (cn_dst e)) (e2 : p2 = lz_ (L e)) (e3 : p3 = lz_ (w e)) (r2 : L (cn_rev e) = 0) (r3 : w (cn_rev e) = - w e) : Ev_ (fun n => uf_X2_edge n d u a p0 p1 p2 p3) (fun r => r.2 = (0, 0) ∧ r.1.2.2 = u.2 ∧ ygt_ b KW_ o u o r.1.2 ∧ yL_ d o a A f4 f5 L w (fun x => T x ∨ x = e) r.1.2 (m + 2) (eA_ m E e) f6) := by
  obtain ⟨f0, f1, f2, f3, Y, hW, hE, h2, hin, hall⟩ := h
  have rr : cn_rev (cn_rev e) = e := (cn_net e he).2.2.2.1
  refine ev_w (uw_edge h0 Y (by omega) p0 p1 p2 p3) (fun r hr => ?_)
  obtain ⟨q1, q2, q3, q4⟩ := hr
  refine ⟨q1, q2, q3, _, _, _, _, q4, eW_add hW hm h2 he (fun j hj => ?_) hd, eG_add hE he e0 e1 e2 e3 r2 r3, by omega, fun j hj => ?_, fun x hx => ?_⟩
  · refine ⟨fun z => ?_, fun z => ?_⟩
    · rcases hin j hj with t | t
      · rw [z] at t; exact hT.1 t
      · rw [z] at t; exact hT.2 t
    · rcases hin j hj with t | t
      · rw [z] at t; exact hT.2 t
      · rw [z, rr] at t; exact hT.1 t
  · by_cases c1 : j = m
    · rw [c1, eA_0]; exact Or.inl (Or.inr rfl)
    · by_cases c2 : j = m + 1
      · rw [c2, eA_1, rr]; exact Or.inr (Or.inr rfl)
      · rw [eA_o E e (by omega)]
        rcases hin j (by omega) with t | t
        · exact Or.inl (Or.inl t)
        · exact Or.inr (Or.inl t)
  · rcases hx with t | t
    · obtain ⟨j, j1, j2, j3⟩ := hall x t
      exact ⟨j, by omega, by rw [eA_o E e (by omega)]; exact j2, by rw [eA_o E e (by omega)]; exact j3⟩
    · exact ⟨m, by omega, by rw [eA_0, t], by rw [eA_1, t]⟩
theorem yL_T {d : UD} {o : Nat → Nat} {a : Nat} {A : Nat → Nat} {f4 : Nat → Int64} {f5 : Nat → Int32} {L w : Nat → Int} {T T' : Nat → Prop} {u : UM} {m : Nat} {E : Nat → Nat} {f6 : Nat → Int32} (h : yL_ d o a A f4 f5 L w T u m E f6) (ht : ∀ e, T e ↔ T' e) : yL_ d o a A f4 f5 L w T' u m E f6 := by
  have : T = T' := funext fun e => propext (ht e)
  rw [← this]; exact h
/-- costs that are nothing: through, from the source, to the sink -/
theorem cn_w_t {k : Nat} (hk : k < 64) (hkd : k / 8 ≠ k % 8) (dd : Int) {x : Nat} (hx : x < 8) : cn_w k dd (18 * x + (8 + x)) = 0 := by
  unfold cn_w cn_c cn_d cn_k cn_kr
  rw [show (18 * x + (8 + x)) / 18 = x by omega, show (18 * x + (8 + x)) % 18 = 8 + x by omega, if_neg (by omega), if_neg (by omega), if_neg (by omega), if_neg (by omega)]
  omega
theorem cn_w_s {k : Nat} (hk : k < 64) (dd : Int) {x : Nat} (hx : x < 8) : cn_w k dd (18 * 16 + (8 + x)) = 0 := by
  unfold cn_w cn_c cn_d cn_k cn_kr
  rw [show (18 * 16 + (8 + x)) / 18 = 16 by omega, show (18 * 16 + (8 + x)) % 18 = 8 + x by omega, if_neg (by omega), if_neg (by omega), if_neg (by omega), if_neg (by omega)]
  omega
theorem cn_w_z {k : Nat} (hk : k < 64) (dd : Int) {x : Nat} (hx : x < 8) : cn_w k dd (18 * x + 17) = 0 := by
  unfold cn_w cn_c cn_d cn_k cn_kr
  rw [show (18 * x + 17) / 18 = x by omega, show (18 * x + 17) % 18 = 17 by omega, if_neg (by omega), if_neg (by omega), if_neg (by omega), if_neg (by omega)]
  omega
theorem cn_w_c {k : Nat} (hk : k < 64) (dd : Int) {x y : Nat} (hx : x < 8) (hy : y < 8) (hne : x ≠ y) : cn_w k dd (18 * (8 + x) + y) = 100000000 + (if 8 * x + y = k then dd else 0) := by
  unfold cn_w cn_c cn_d cn_k cn_kr cn_W
  rw [show (18 * (8 + x) + y) / 18 = 8 + x by omega, show (18 * (8 + x) + y) % 18 = y by omega, if_pos (by omega)]
  by_cases c : 8 * x + y = k
  · rw [if_pos c, if_pos (by omega), if_neg (by omega)]; omega
  · rw [if_neg c, if_neg (by omega), if_neg (by omega)]; omega
theorem cn_L0_r {nu be th : Nat → Int} {e : Nat} (he : e < 324) (h : (e / 18 < 8 ∧ e % 18 = 8 + e / 18) ∨ (8 ≤ e / 18 ∧ e / 18 < 16 ∧ e % 18 < 8 ∧ e / 18 ≠ 8 + e % 18) ∨ (e / 18 = 16 ∧ 8 ≤ e % 18 ∧ e % 18 < 16) ∨ (e / 18 < 8 ∧ e % 18 = 17)) : cn_L0 nu be th (cn_rev e) = 0 := by
  have e1 : cn_rev e / 18 = e % 18 := by unfold cn_rev; omega
  have e2 : cn_rev e % 18 = e / 18 := by unfold cn_rev; omega
  unfold cn_L0
  rw [e1, e2, if_neg (by omega), if_neg (by omega), if_neg (by omega), if_neg (by omega)]
