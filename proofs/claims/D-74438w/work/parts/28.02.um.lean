set_option maxRecDepth 100000
/-! Lists: new, one goes, all of another one, none -/
def K1_ (t0 t : Nat) : Prop := t = t0
theorem ul_init {d : UD} {b : Nat} {o : Nat → Nat} {u : UM} {a tl ta : Nat} (h0 : uw_ b u) {x0 x1 : Value} (e1 : ob_ u a 13 [x0, x1, .int 0]) (e2 : o a = tl) : Ev_ (fun n => uf_J2_init n d u a) (fun r => r.2 = (0, 0) ∧ r.1.2.2 = u.2 ∧ al_ d o r.1.2 a tl ta [] ∧ ygt_ b (K1_ tl) o u o r.1.2) := by
  unfold uf_J2_init
  refine ev_bc (P := fun _ u' c => c = (0, 0) ∧ u'.2 = u.2 ∧ ob_ u' a 13 [.int 0, x1, .int 0] ∧ ygt_ b (K1_ tl) o u o u') ?_ (fun _ u' c hp => by rw [hp.1]; exact hp.2.1) (fun _ u' c hp => ?_)
  · unfold uf_J1_init uf_J0_init
    refine ev_b1 rfl (ev_pf e1 (by simp) (fun w c => ?_))
    exact ev_some ⟨rfl, rfl, c.2.1, ygt_ch h0 e1 c (kd1_o _ _ _) e2⟩
  · obtain ⟨rfl, p2, p3, p4⟩ := hp
    refine ev_pf p3 (by simp) (fun w c => ?_)
    exact ev_some ⟨rfl, p2, ⟨0, d.2 0, 0, fun _ => none, c.2.1, e2, Nat.le_refl _, by omega, Or.inr ⟨rfl, rfl⟩⟩, ygt_tr h0 p4 (ygt_ch p4.1 p3 c (kd1_o _ _ _) e2)⟩
theorem ul_isEmpty (n : Nat) {d : UD} {o : Nat → Nat} {u : UM} {a tl ta : Nat} {l : List Nat} (h : al_ d o u a tl ta l) : uf_J2_isEmpty n d u a = some (b_ (l.length = 0)) := by
  obtain ⟨mc, b', m, f, e1, e2, e3, e4, e5⟩ := h
  unfold uf_J2_isEmpty uf_J2_isEmpty_J12
  rw [fi_e e1 rfl, m_bs, show m_01 1 = true from by decide, show m_01 0 = true from by decide, m_gT, m_gT]
  by_cases c : l.length = 0
  · rw [ef_T (by rw [n_lit 0, n_eq (by omega) (by omega)]; exact c), b_T c]
  · rw [ef_F (by rw [n_lit 0, n_eq (by omega) (by omega)]; exact c), b_F c]
theorem elf_s {u : UM} {l : List Nat} (hl : ∀ x ∈ l, u_el u x = true) {f : Nat → Option Nat} {s n : Nat} (hn : s + n ≤ l.length) (hf : ∀ i (h : i < l.length), f i = some l[i]) : u_elf u f s n = true := by
  unfold u_elf
  rw [List.all_eq_true]
  intro i hi
  have hi := List.mem_range.mp hi
  rw [hf (s + i) (by omega)]
  exact hl _ (List.getElem_mem _)
theorem up_at {α : Type} (f : Nat → α) (i : Nat) (v : α) : va_up f i v i = v := if_pos rfl
theorem up_ne {α : Type} {f : Nat → α} {i j : Nat} {v : α} (h : j ≠ i) : va_up f i v j = f j := if_neg h
theorem ul_remove {d : UD} {b : Nat} {o : Nat → Nat} {u : UM} {a tl ta : Nat} {l : List Nat} (h0 : uw_ b u) (h : al_ d o u a tl ta l) (hl : ∀ x ∈ l, u_el u x = true) {i : Nat} (hi : i < l.length) : Ev_ (fun n => uf_J2_remove n d u a (n_ i)) (fun r => r.2 = (0, 0) ∧ r.1.1 = l[i] ∧ r.1.2.2 = u.2 ∧ al_ d o r.1.2 a tl ta (l.eraseIdx i) ∧ ygt_ b (Kl_ tl ta) o u o r.1.2) := by
  obtain ⟨mc, b', m, f, e1, e2, e3, e4, e5⟩ := h
  rcases e5 with ⟨q1, q2, q3, q4⟩ | ⟨_, q⟩
  · have hab : a ≠ b' := get_ne e1 q1 (fun z => by cases z)
    unfold uf_J2_remove
    refine ev_b1 (fi_e e1 rfl) ?_
    refine ev_bn (fun n => ul_ck n d u hi (by omega)) ?_
    refine ev_b1 (fr_e e1 rfl) ?_
    refine ev_b1 (ldR_e q1 (by omega) (by omega) (q3 i hi)) ?_
    refine ev_b1 (cl_e e1) ?_
    refine ev_bc (P := fun _ u' c => c = (0, 0) ∧ u'.2 = u.2 ∧ al_ d o u' a tl ta (l.eraseIdx i) ∧ ygt_ b (Kl_ tl ta) o u o u') ?_ (fun _ u' c hp => by rw [hp.1]; exact hp.2.1) (fun _ u' c hp => by
      obtain ⟨rfl, p2, p3, p4⟩ := hp
      exact ev_some ⟨rfl, rfl, p2, p3, p4⟩)
    unfold uf_J2_fastRemove
    refine ev_b1 (fi_e e1 rfl) ?_
    refine ev_pf e1 (by simp) (fun w1 c1 => ?_)
    have g1 := ygt_ch (K := Kl_ tl ta) h0 e1 c1 (kd1_o _ _ _) (Or.inl e2)
    have e1' : ob_ (w1, u.2) a 13 [.int (mc + 1), .ref b', .int (n_ l.length)] := c1.2.1
    have q1' : qA_ d (w1, u.2) b' m f := (c1.2.2 b' (fun z => hab z.symm)).trans q1
    refine ev_b1 (fi_e e1' rfl) ?_
    rw [n_lit 1, n_sub (show 1 ≤ l.length by omega)]
    -- the end
    have fin : ∀ (w2 : va_W) (f2 : Nat → Option Nat), ygt_ b (Kl_ tl ta) o u o (w2, u.2) → ob_ (w2, u.2) a 13 [.int (mc + 1), .ref b', .int (n_ l.length)] → qA_ d (w2, u.2) b' m f2 → (∀ j (hj : j < (l.eraseIdx i).length), f2 j = some (l.eraseIdx i)[j]) → Ev_ (fun n => uf_J2_fastRemove_J34 n d (w2, u.2) a b' (n_ (l.length - 1))) (fun r => r.2 = (0, 0) ∧ r.1.2.2 = u.2 ∧ al_ d o r.1.2 a tl ta (l.eraseIdx i) ∧ ygt_ b (Kl_ tl ta) o u o r.1.2) := fun w2 f2 g2 k1 k2 k3 => by
      have hle : (l.eraseIdx i).length = l.length - 1 := List.length_eraseIdx_of_lt hi
      unfold uf_J2_fastRemove_J34
      refine ev_pf k1 (by simp) (fun w3 c3 => ?_)
      have g3 := ygt_ch (K := Kl_ tl ta) g2.1 k1 c3 (kd1_o _ _ _) (Or.inl e2)
      have k2' : qA_ d (w3, u.2) b' m f2 := (c3.2.2 b' (fun z => hab z.symm)).trans k2
      refine ev_b1 (stQ_e k2' (show l.length - 1 < m by omega) (by omega) none) ?_
      have c4 := ch_set k2' (.inl (d.1 4, m, .inr (.inr (.inr (.inr (va_up f2 (l.length - 1) none))))))
      have g4 := ygt_ch (K := Kl_ tl ta) g3.1 k2' c4 (kd1_a _ _) (Or.inr q2)
      refine ev_some ⟨rfl, rfl, ⟨mc + 1, b', m, va_up f2 (l.length - 1) none, ?_, e2, by omega, e4, Or.inl ⟨c4.2.1, q2, fun j hj => ?_, q4⟩⟩, ygt_tr h0 g2 (ygt_tr g2.1 g3 g4)⟩
      · rw [hle]; exact (c4.2.2 a hab).trans c3.2.1
      · rw [up_ne (by omega)]; exact k3 j hj
    refine ev_ifq (c' := l.length - 1 ≤ i) (by rw [n_le (by omega) (by omega)]) (fun c => ?_) (fun c => ?_)
    · refine fin w1 f g1 e1' q1' (fun j hj => ?_)
      rw [List.length_eraseIdx_of_lt hi] at hj
      rw [List.getElem_eraseIdx_of_lt (by rw [List.length_eraseIdx_of_lt hi]; exact hj) (by omega)]
      exact q3 j (by omega)
    · have hx : u_xcQ d (w1, u.2) b' (n_ i + n_ 1) b' (n_ i) (n_ (l.length - 1) - n_ i) = some (u_set w1 b' (.inl (d.1 4, m, .inr (.inr (.inr (.inr (va_cpy f f (i + 1) i (l.length - 1 - i)))))))) := by
        unfold u_xcQ
        rw [n_add, n_sub (show i ≤ l.length - 1 by omega), arO_e q1', m_bs, arQ_e q1', m_bs]
        have hrg : u_rg (n_ (i + 1)) (n_ i) (n_ (l.length - 1 - i)) m m = true := by
          unfold u_rg
          rw [decide_eq_true_eq, n_nat (by omega), n_nat (by omega), n_nat (by omega), n_lit 0, n_lt (by omega) (by omega), n_lt (by omega) (by omega), n_lt (by omega) (by omega)]
          omega
        dsimp only
        rw [hrg, m_gT, n_nat (by omega), n_nat (by omega), n_nat (by omega), elf_s (fun y hy => el_kd (hl y hy) g1.2.2.2) (by omega) q3, m_gT]
      rw [← n_lit 1] at hx ⊢
      refine ev_b1 hx ?_
      have c2 := ch_set q1' (.inl (d.1 4, m, .inr (.inr (.inr (.inr (va_cpy f f (i + 1) i (l.length - 1 - i)))))))
      have g2 := ygt_ch (K := Kl_ tl ta) g1.1 q1' c2 (kd1_a _ _) (Or.inr q2)
      refine fin _ _ (ygt_tr h0 g1 g2) ((c2.2.2 a hab).trans e1') c2.2.1 (fun j hj => ?_)
      rw [List.length_eraseIdx_of_lt hi] at hj
      unfold va_cpy
      by_cases cj : j < i
      · rw [if_neg (by omega), List.getElem_eraseIdx_of_lt (by rw [List.length_eraseIdx_of_lt hi]; exact hj) cj]
        exact q3 j (by omega)
      · rw [if_pos (by omega), List.getElem_eraseIdx_of_ge (by rw [List.length_eraseIdx_of_lt hi]; exact hj) (by omega), q3 (i + 1 + (j - i)) (by omega)]
        congr 2
        omega
  · omega
theorem ul_clear {d : UD} {b : Nat} {o : Nat → Nat} {u : UM} {a tl ta : Nat} {l : List Nat} (h0 : uw_ b u) (h : al_ d o u a tl ta l) : Ev_ (fun n => uf_J2_clear n d u a) (fun r => r.2 = (0, 0) ∧ r.1.2.2 = u.2 ∧ al_ d o r.1.2 a tl ta [] ∧ ygt_ b (Kl_ tl ta) o u o r.1.2) := by
  obtain ⟨mc, b', m, f, e1, e2, e3, e4, e5⟩ := h
  unfold uf_J2_clear
  refine ev_b1 (fi_e e1 rfl) ?_
  refine ev_pf e1 (by simp) (fun w1 c1 => ?_)
  have g1 := ygt_ch (K := Kl_ tl ta) h0 e1 c1 (kd1_o _ _ _) (Or.inl e2)
  have e1' : ob_ (w1, u.2) a 13 [.int (mc + 1), .ref b', .int (n_ l.length)] := c1.2.1
  refine ev_b1 (fr_e e1' rfl) (ev_b1 (fi_e e1' rfl) ?_)
  refine ev_pf e1' (by simp) (fun w2 c2 => ?_)
  have g2 := ygt_tr h0 g1 (ygt_ch (K := Kl_ tl ta) g1.1 e1' c2 (kd1_o _ _ _) (Or.inl e2))
  have e2' : ob_ (w2, u.2) a 13 [.int (mc + 1), .ref b', .int 0] := c2.2.1
  refine ev_bl (P := fun u' c => c = (0, 0) ∧ u'.2 = u.2 ∧ al_ d o u' a tl ta [] ∧ ygt_ b (Kl_ tl ta) o u o u') ?_ (fun u' c hp => ?_)
  · unfold uf_J2_clear_L27l
    rcases e5 with ⟨q1, q2, q3, q4⟩ | ⟨rfl, rfl⟩
    · have hab : a ≠ b' := get_ne e1 q1 (fun z => by cases z)
      have q1' : qA_ d (w2, u.2) b' m f := (c2.2.2 b' (fun z => hab z.symm)).trans ((c1.2.2 b' (fun z => hab z.symm)).trans q1)
      refine ev_w (ev_uf (Q := fun u' => u'.2 = u.2 ∧ al_ d o u' a tl ta [] ∧ ygt_ b (Kl_ tl ta) o u o u') l.length (fun (i : Nat) (y : Int32 × UM) => y.1 = n_ i ∧ y.2.2 = u.2 ∧ ob_ y.2 a 13 [.int (mc + 1), .ref b', .int 0] ∧ (∃ f', qA_ d y.2 b' m f') ∧ ygt_ b (Kl_ tl ta) o u o y.2) (fun i y hi hP => ?_) (fun y hP => ?_) _ ⟨n_lit 0, rfl, e2', ⟨f, q1'⟩, g2⟩) (fun r hr => hr)
      · obtain ⟨v, u1⟩ := y
        obtain ⟨r1, r2, r3, ⟨f', r4⟩, r5⟩ := hP
        dsimp only at r1 r2 r3 r4 r5 ⊢
        subst r1
        unfold uf_J2_clear_L27
        refine ev_ifF (by rw [n_le (by omega) (by omega)]; omega) ?_
        refine ev_b1 (stQ_e r4 (show i < m by omega) (by omega) none) ?_
        have c3 := ch_set r4 (.inl (d.1 4, m, .inr (.inr (.inr (.inr (va_up f' i none))))))
        have g3 := ygt_ch (K := Kl_ tl ta) r5.1 r4 c3 (kd1_a _ _) (Or.inr q2)
        rw [show n_ i + 1 = n_ (i + 1) from by rw [n_lit 1, n_add]]
        exact ev_some ⟨_, rfl, rfl, r2, (c3.2.2 a hab).trans r3, ⟨_, c3.2.1⟩, ygt_tr h0 r5 g3⟩
      · obtain ⟨v, u1⟩ := y
        obtain ⟨r1, r2, r3, ⟨f', r4⟩, r5⟩ := hP
        dsimp only at r1 r2 r3 r4 r5 ⊢
        subst r1
        unfold uf_J2_clear_L27
        refine ev_ifT (by rw [n_le (by omega) (by omega)]; omega) (ev_some ⟨_, rfl, r2, ⟨mc + 1, b', m, f', r3, e2, Nat.zero_le _, e4, Or.inl ⟨r4, q2, fun i hi => absurd hi (Nat.not_lt_zero _), q4⟩⟩, r5⟩)
    · have hl0 : l.length = 0 := by omega
      rw [hl0]
      refine ev_w (ev_uf (Q := fun u' => u'.2 = u.2 ∧ al_ d o u' a tl ta [] ∧ ygt_ b (Kl_ tl ta) o u o u') 0 (fun (i : Nat) (y : Int32 × UM) => y = (0, (w2, u.2))) (fun i y hi hP => absurd hi (Nat.not_lt_zero _)) (fun y hP => ?_) _ rfl) (fun r hr => hr)
      subst hP
      unfold uf_J2_clear_L27
      refine ev_ifT (by exact (by decide : n_ 0 ≤ (0 : Int32))) (ev_some ⟨_, rfl, rfl, ⟨mc + 1, d.2 0, 0, fun _ => none, e2', e2, Nat.zero_le _, by omega, Or.inr ⟨rfl, rfl⟩⟩, g2⟩)
  · obtain ⟨rfl, p2, p3, p4⟩ := hp
    exact ev_some ⟨rfl, p2, p3, p4⟩
/-- all of another list comes to a new one -/
theorem ul_addAll {d : UD} {b : Nat} {o : Nat → Nat} {u : UM} {a tl ta a2 tl2 ta2 : Nat} {l : List Nat} (h0 : uw_ b u) (hc : cE_ d b) {mc : Int32} (e1 : ob_ u a 13 [.int mc, .ref (d.2 0), .int 0]) (e2 : o a = tl) (h2 : al_ d o u a2 tl2 ta2 l) (hl : ∀ x ∈ l, u_el u x = true) (hlen : l.length ≤ 100) (h20 : tl ≠ 20) (h20' : ta ≠ 20) : Ev_ (fun n => uf_J2_addAll n d u a a2) (fun r => ∃ o', r.1.2.2 = u.2 + r.2.1 ∧ r.2.1 ≤ 2 ∧ r.2.2 ≤ 600 ∧ al_ d o' r.1.2 a tl ta l ∧ ygt_ b (Kl_ tl ta) o u o' r.1.2) := by
  obtain ⟨mc2, b2, m2, f2, k1, k2, k3, k4, k5⟩ := h2
  have ha := (h0.2 _ _ e1).2
  unfold uf_J2_addAll
  refine ev_b1 (cl_e k1) ?_
  refine ev_bc (P := fun r u5 c => c = (1, l.length) ∧ u5.2 = u.2 + 1 ∧ r = u.2 ∧ ygt_ b K0_ o u (ot_ o u.2 20) u5 ∧ ∃ f, qA_ d u5 u.2 l.length f ∧ ∀ i (h : i < l.length), i < l.length → f i = some l[i]) ?_ (fun r u5 c hp => by rw [hp.1]; exact hp.2.1) (fun r u5 c hp => ?_)
  · unfold uf_J2_toArray
    refine ev_b1 (fr_e k1 rfl) (ev_b1 (fi_e k1 rfl) ?_)
    refine ev_bc (P := fun r u5 c => c = (1, l.length) ∧ u5.2 = u.2 + 1 ∧ r = u.2 ∧ ygt_ b K0_ o u (ot_ o u.2 20) u5 ∧ ∃ f, qA_ d u5 u.2 l.length f ∧ ∀ i (h : i < l.length), i < l.length → f i = some l[i]) (ul_copy h0 hc (m := m2) ?_ k3 k4 (by omega) (by omega) hl 20) (fun r u5 c hp => by rw [hp.1]; exact hp.2.1) (fun r u5 c hp => by
      obtain ⟨rfl, hp⟩ := hp
      exact ev_some ⟨rfl, hp⟩)
    rcases k5 with ⟨q1, q2, q3, q4⟩ | ⟨rfl, rfl⟩
    · exact Or.inl ⟨f2, q1, q3⟩
    · exact Or.inr ⟨rfl, rfl⟩
  · obtain ⟨rfl, p2, rfl, p4, f5, p5, p6⟩ := hp
    obtain ⟨e1', e3'⟩ := ygt_at h0 p4 e1 (fun z => z)
    have hau : a ≠ u.2 := by omega
    refine ev_b1 (fi_e e1' rfl) ?_
    refine ev_pf e1' (by simp) (fun w1 c1 => ?_)
    have g1 := ygt_tr h0 (ygt_sub (K' := Kl_ tl ta) p4 (fun t z => z.elim)) (ygt_ch (K := Kl_ tl ta) p4.1 e1' c1 (kd1_o _ _ _) (Or.inl (e3'.trans e2)))
    have e1'' : ob_ (w1, u5.2) a 13 [.int (mc + 1), .ref (d.2 0), .int 0] := c1.2.1
    have p5' : qA_ d (w1, u5.2) u.2 l.length f5 := (c1.2.2 u.2 (fun z => hau z.symm)).trans p5
    refine ev_b1 (lnQ_e p5') ?_
    refine ev_ifq (c' := l.length = 0) (by rw [n_lit 0, n_eq (by omega) (by omega)]) (fun c => ?_) (fun c => ?_)
    · have hl0 : l = [] := List.length_eq_zero_iff.mp c
      subst hl0
      refine ev_g (by decide) (ev_some ⟨ot_ o u.2 20, by exact p2, by exact (by omega : 1 ≤ 2), by show 0 + 0 ≤ 600; omega, ⟨mc + 1, d.2 0, 0, fun _ => none, e1'', by rw [e3']; exact e2, Nat.zero_le _, by omega, Or.inr ⟨rfl, rfl⟩⟩, g1⟩)
    · refine ev_b1 (fr_e e1'' rfl) ?_
      refine ev_b1 (lnQ_c g1.1 hc) (ev_b1 (fi_e e1'' rfl) ?_)
      refine ev_ifF (by rw [n_lit 0, n_sub (Nat.le_refl _), n_le (by omega) (by omega)]; omega) ?_
      refine ev_b1 (cl_e e1'') ?_
      rw [show (0 : Int32) + n_ l.length = n_ l.length from by rw [n_lit 0, n_add, Nat.zero_add]]
      have hgr := ul_grow (tl := tl) (ta := ta) (l := []) (o := ot_ o u.2 20) g1.1 hc (mc := mc + 1) (b' := d.2 0) (by rw [show ([] : List Nat).length = 0 from rfl, ← n_lit 0]; exact e1'') (e3'.trans e2) (Or.inr ⟨rfl, rfl⟩) (fun x hx => absurd hx (by simp)) (by simp) (k := l.length) (by show 0 < l.length; omega) (by omega)
      refine ev_bc (P := fun r u32 c => ∃ m f, c = (1, m) ∧ m ≤ 400 ∧ l.length ≤ m ∧ r = u5.2 ∧ u32.2 = u5.2 + 1 ∧ ob_ u32 a 13 [.int (mc + 1), .ref u5.2, .int 0] ∧ qA_ d u32 u5.2 m f ∧ ygt_ b (Kl_ tl ta) (ot_ o u.2 20) (w1, u5.2) (ot_ (ot_ o u.2 20) u5.2 ta) u32) (ev_w hgr (fun r hr => ?_)) (fun r u32 c hp => by obtain ⟨m, f, rfl, _, _, _, h5, _⟩ := hp; exact h5) (fun r u32 c hp => ?_)
      · obtain ⟨m, f, r1, r2, r3, r4, r5, r6, r7, r8, r9⟩ := hr
        exact ⟨m, f, r1, r2, r3, r4, r5, by rw [n_lit 0]; exact r6, r7, r9⟩
      · obtain ⟨m, f7, rfl, r2, r3, rfl, r5, r6, r7, r9⟩ := hp
        unfold uf_J2_addAll_J56
        -- the copy still lies there
        obtain ⟨p5'', t5⟩ := ygt_at g1.1 r9 p5' (fun z => by
          rw [ot_at] at z
          rcases z with z | z <;> omega)
        have hel : ∀ x ∈ l, u_el u32 x = true := fun x hx => el_kd (el_kd (hl x hx) g1.2.2.2) r9.2.2.2
        have hu5 : u5.2 ≠ u.2 := by omega
        have hx : u_xcQ d u32 u.2 0 u5.2 0 (n_ l.length) = some (u_set u32.1 u5.2 (.inl (d.1 4, m, .inr (.inr (.inr (.inr (va_cpy f5 f7 0 0 l.length))))))) := by
          unfold u_xcQ
          rw [arO_e p5'', m_bs, arQ_e r7, m_bs]
          have hrg : u_rg 0 0 (n_ l.length) l.length m = true := by
            unfold u_rg
            rw [decide_eq_true_eq, n_nat (by omega), z_nat, n_lit 0, n_lt (by omega) (by omega), n_lt (by omega) (by omega)]
            omega
          dsimp only
          rw [hrg, m_gT, z_nat, n_nat (by omega), elf_e hel (f := f5) (Nat.le_refl _) (fun i hi => p6 i hi hi), m_gT]
        refine ev_b1 hx ?_
        have c2 := ch_set r7 (.inl (d.1 4, m, .inr (.inr (.inr (.inr (va_cpy f5 f7 0 0 l.length))))))
        have t7 : ot_ (ot_ o u.2 20) u5.2 ta u5.2 = ta := ot_at _ _ _
        have t8 : ot_ (ot_ o u.2 20) u5.2 ta a = tl := by rw [ot_ne (by omega), e3']; exact e2
        have g2 := ygt_ch (K := Kl_ tl ta) r9.1 r7 c2 (kd1_a _ _) (Or.inr t7)
        have r6' := (c2.2.2 a (by omega)).trans r6
        refine ev_pf r6' (by simp) (fun w3 c3 => ?_)
        have g3 := ygt_ch (K := Kl_ tl ta) g2.1 r6' c3 (kd1_o _ _ _) (Or.inl t8)
        refine ev_g (by decide) (ev_some ⟨ot_ (ot_ o u.2 20) u5.2 ta, ?_, ?_, ?_, ⟨mc + 1, u5.2, m, va_cpy f5 f7 0 0 l.length, ?_, t8, r3, by omega, Or.inl ⟨(c3.2.2 u5.2 (by omega)).trans c2.2.1, t7, fun i hi => ?_, by omega⟩⟩, ygt_tr h0 g1 (ygt_tr g1.1 r9 (ygt_tr r9.1 g2 g3))⟩)
        · show u32.2 = u.2 + (1 + (1 + 0)); omega
        · show 1 + (1 + 0) ≤ 2; omega
        · show l.length + (m + 0) ≤ 600; omega
        · have := c3.2.1
          rw [show (0 : Int32) + n_ l.length = n_ l.length from by rw [n_lit 0, n_add, Nat.zero_add]] at this
          exact this
        · unfold va_cpy
          rw [if_pos (by omega), show 0 + (i - 0) = i by omega]
          exact p6 i hi hi
