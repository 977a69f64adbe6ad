set_option maxRecDepth 100000
/-! Texts: whether two are alike; their hash; which of a list one is -/
/-- a word that was read -/
def stt_ (d : UD) (o : Nat → Nat) (u : UM) (p : Nat) (w : List Nat) : Prop := ∃ (v : Nat) (h z : Int32) (f : Nat → Int32), ob_ u p 15 [.ref v, .int 0, .int h, .int z] ∧ o p = 35 ∧ bA_ d u v w.length f ∧ o v = 36 ∧ (∀ i (hi : i < w.length), f i = n_ w[i]) ∧ (∀ c ∈ w, c < 128) ∧ w.length ≤ 10000 ∧ p ≤ v
theorem st_tt {d : UD} {o : Nat → Nat} {u : UM} {p : Nat} {w : List Nat} (h : st_ d o u p w) : stt_ d o u p w := by
  obtain ⟨v, f, e1, e2⟩ := h
  exact ⟨v, 0, 0, f, e1, e2⟩
theorem stt_keep {d : UD} {b : Nat} {K : Nat → Prop} {o o' : Nat → Nat} {u u' : UM} (h0 : uw_ b u) (g : ygt_ b K o u o' u') {p : Nat} {w : List Nat} (h : stt_ d o u p w) (h1 : ¬ K 35) (h2 : ¬ K 36) : stt_ d o' u' p w := by
  obtain ⟨v, hh, z, f, e1, e2, e3, e4, e5⟩ := h
  obtain ⟨x1, x2⟩ := ygt_at h0 g e1 (by rw [e2]; exact h1)
  obtain ⟨y1, y2⟩ := ygt_at h0 g e3 (by rw [e4]; exact h2)
  exact ⟨v, hh, z, f, x1, x2.trans e2, y1, y2.trans e4, e5⟩
theorem st_keep {d : UD} {b : Nat} {K : Nat → Prop} {o o' : Nat → Nat} {u u' : UM} (h0 : uw_ b u) (g : ygt_ b K o u o' u') {p : Nat} {w : List Nat} (h : st_ d o u p w) (h1 : ¬ K 35) (h2 : ¬ K 36) : st_ d o' u' p w := by
  obtain ⟨v, f, e1, e2, e3, e4, e5⟩ := h
  obtain ⟨x1, x2⟩ := ygt_at h0 g e1 (by rw [e2]; exact h1)
  obtain ⟨y1, y2⟩ := ygt_at h0 g e3 (by rw [e4]; exact h2)
  exact ⟨v, f, x1, x2.trans e2, y1, y2.trans e4, e5⟩
theorem stt_cl {d : UD} {o : Nat → Nat} {u : UM} {p : Nat} {w : List Nat} (h : stt_ d o u p w) : ∃ fs, u_cl u 15 p = some fs := by
  obtain ⟨v, hh, z, f, e1, _⟩ := h
  exact ⟨_, cl_e e1⟩
theorem stt_tx {d : UD} {o : Nat → Nat} {u : UM} {p : Nat} {w : List Nat} (h : stt_ d o u p w) : ∃ fs, u_tx d u p = some fs := by
  obtain ⟨v, hh, z, f, e1, _⟩ := h
  exact ⟨_, rtx (rd_w e1)⟩
section
variable {d : UD} {b : Nat} {o : Nat → Nat} {u : UM}
theorem by_eq {v v' : Nat} {f f' : Nat → Int32} {w w' : List Nat} (r1 : u_rd d u v = some (.inl (d.1 2, w.length, .inl f))) (r2 : u_rd d u v' = some (.inl (d.1 2, w'.length, .inl f'))) (e1 : ∀ i (hi : i < w.length), f i = n_ w[i]) (e2 : ∀ i (hi : i < w'.length), f' i = n_ w'[i]) (hc1 : ∀ c ∈ w, c < 128) (hc2 : ∀ c ∈ w', c < 128) (l1 : w.length ≤ 10000) (l2 : w'.length ≤ 10000) : Ev_ (fun n => uf_J10_equals n d u v v') (fun r => r = b_ (w = w')) := by
  unfold uf_J10_equals
  refine ev_b1 (rlnB r1) (ev_b1 (rlnB r2) ?_)
  refine ev_ifq (c' := w.length = w'.length) (by rw [n_eq (by omega) (by omega)]) (fun c => ?_) (fun c => ?_)
  · refine ev_b (P := fun (y : Unit ⊕ Unit) => (y = .inl () ∧ ¬ w = w') ∨ (y = .inr () ∧ w = w')) ?_ (fun y hy => ?_)
    · unfold uf_J10_equals_L9l
      refine ev_lp (Q := fun (y : Unit ⊕ Unit) => (y = .inl () ∧ ¬ w = w') ∨ (y = .inr () ∧ w = w')) (fun (s : Int32) => ∃ i, s = n_ i ∧ i ≤ w.length ∧ ∀ j (h : j < i) (h1 : j < w.length) (h2 : j < w'.length), w[j] = w'[j]) (fun s => w.length - s.toNatClampNeg) (fun s hs => ?_) 0 ⟨0, n_lit 0, Nat.zero_le _, fun j h => absurd h (Nat.not_lt_zero _)⟩
      obtain ⟨i, rfl, hi, hag⟩ := hs
      unfold uf_J10_equals_L9
      refine ev_b1 (rlnB r1) ?_
      refine ev_ifq (c' := w.length ≤ i) (by rw [n_le (by omega) (by omega)]) (fun c1 => ?_) (fun c1 => ?_)
      · exact ev_some (Or.inr ⟨rfl, List.ext_getElem c (fun j h1 h2 => hag j (by omega) h1 h2)⟩)
      · have hi1 : i < w.length := by omega
        have hi2 : i < w'.length := by omega
        refine ev_b1 (raiB r1 hi1 (by omega)) (ev_b1 (raiB r2 hi2 (by omega)) ?_)
        rw [e1 i hi1, e2 i hi2]
        have m2 := n_eq (a := w[i]) (b := w'[i]) (by have := hc1 _ (List.getElem_mem hi1); omega) (by have := hc2 _ (List.getElem_mem hi2); omega)
        refine ev_ifq (c' := w[i] = w'[i]) (by rw [m2]) (fun q => ?_) (fun q => ?_)
        · refine ev_some ⟨⟨i + 1, by rw [n_lit 1, n_add], by omega, fun j h h1 h2 => ?_⟩, ?_⟩
          · by_cases qq : j = i
            · subst qq; exact q
            · exact hag j (by omega) h1 h2
          · rw [show n_ i + 1 = n_ (i + 1) from by rw [n_lit 1, n_add], n_nat (by omega), n_nat (by omega)]; omega
        · refine ev_some (Or.inl ⟨rfl, fun z => q ?_⟩)
          subst z; rfl
    · rcases hy with ⟨rfl, q⟩ | ⟨rfl, q⟩
      · exact ev_sL (ev_g (by decide) (ev_some (by rw [b_F q])))
      · exact ev_sR (ev_g (by decide) (ev_some (by rw [b_T q])))
  · exact ev_g (by decide) (ev_some (by rw [b_F (fun z => c (by rw [z]))]))
theorem tx_eq (h0 : uw_ b u) {t p : Nat} {w w' : List Nat} (h : stt_ d o u t w) (hp : sx_ d b o u p w') (hne : t ≠ p) : Ev_ (fun n => uf_J5_equals n d u t p) (fun r => r = b_ (w = w')) := by
  obtain ⟨v, hh, z, f, e1, e2, e3, e4, e5, e6, e7⟩ := h
  obtain ⟨pv, ph, pz, pf, p1, p2, p3, p4, p5⟩ := hp
  have r1 := rk_rd h0 p1
  have r2 := rk_rd h0 p2
  unfold uf_J5_equals uf_J5_equals_J36 uf_J5_equals_J54 uf_J5_equals_J55
  refine ev_ifF (fun z => hne (Option.some.inj z)) ?_
  refine ev_b1 (rtx r1) (ev_ifF (by decide) (ev_b1 (rtx r1) (ev_ifF (by decide) (ev_b1 (fi_e e1 rfl) (ev_b1 (rfi r1 rfl) (ev_ifT rfl ?_))))))
  refine ev_b1 (fr_e e1 rfl) (ev_b1 (rfr r1 rfl) ?_)
  refine ev_b (by_eq (rd_w e3) r2 e5 p3 e6 p4 e7.1 p5) (fun r hr => ?_)
  subst hr
  by_cases q : w = w'
  · rw [b_T q]; exact ev_ifF (by decide) (ev_g (by decide) (ev_some rfl))
  · rw [b_F q]; exact ev_ifT rfl (ev_g (by decide) (ev_some rfl))
/-- a text's hash -/
def hs_ : List Nat → Int32 → Int32
  | [], h => h
  | c :: w, h => hs_ w (31 * h + n_ c)
theorem hs_app (w : List Nat) (c : Nat) : ∀ h, hs_ (w ++ [c]) h = 31 * hs_ w h + n_ c := by
  induction w with
  | nil => intro h; rfl
  | cons x w ih => intro h; exact ih _
theorem tx_hash (h0 : uw_ b u) {t : Nat} {w : List Nat} (h : st_ d o u t w) : Ev_ (fun n => uf_J5_hashCode n d u t) (fun r => r.1.1 = hs_ w 0 ∧ r.2 = (0, 0) ∧ r.1.2.2 = u.2 ∧ ygt_ b (K1_ 35) o u o r.1.2 ∧ stt_ d o r.1.2 t w) := by
  obtain ⟨v, f, e1, e2, e3, e4, e5, e6, e7⟩ := h
  have hlat : ∀ n, uf_J5_isLatin1 n d u t = some 1 := fun n => by
    unfold uf_J5_isLatin1 uf_J5_isLatin1_J17 uf_J5_isLatin1_J18
    rw [ef_F (by decide), fi_e e1 rfl, m_bs, ef_T rfl]; rfl
  have h255 : ∀ i (hi : i < w.length), f i &&& 255 = n_ w[i] := fun i hi => by rw [e5 i hi]; exact (nar_n (e6 _ (List.getElem_mem hi))).2.2.2.1
  unfold uf_J5_hashCode
  refine ev_b1 (fi_e e1 rfl) (ev_ifT rfl (ev_b1 (fi_e e1 rfl) (ev_ifT rfl (ev_b1 (rtx (rd_w e1)) (ev_bn hlat (ev_ifF (by decide) (ev_b1 (fr_e e1 rfl) ?_)))))))
  refine ev_bc (P := fun r u' c => r = hs_ w 0 ∧ u' = u ∧ c = (0, 0)) ?_ (fun r u' c hp => by rw [hp.2.1, hp.2.2]; rfl) (fun r u' c hp => ?_)
  · unfold uf_J10_hashCode uf_J10_hashCode_J51
    refine ev_b1 (lnB_e e3) ?_
    refine ev_ifq (c' := w.length = 0) (by rw [n_lit 0, n_eq (by omega) (by omega)]) (fun c => ?_) (fun c => ?_)
    · have : w = [] := List.eq_nil_of_length_eq_zero c
      subst this
      exact ev_some ⟨rfl, rfl, rfl⟩
    · refine ev_ifq (c' := w.length = 1) (by rw [n_lit 1, n_eq (by omega) (by omega)]) (fun c1 => ?_) (fun c1 => ?_)
      · rw [n_lit 0]
        refine ev_b1 (aiB_e e3 (show 0 < w.length by omega) (by omega)) ?_
        rw [h255 0 (by omega)]
        refine ev_some ⟨?_, rfl, rfl⟩
        obtain ⟨x, rfl⟩ : ∃ x, w = [x] := List.length_eq_one_iff.mp c1
        show n_ x = 31 * n_ 0 + n_ x
        rw [n_lit 31, n_mul, n_add, Nat.mul_zero, Nat.zero_add]
      · refine ev_b1 (lnB_e e3) ?_
        refine ev_bc (P := fun r u' c => r = hs_ w 0 ∧ u' = u ∧ c = (0, 0)) ?_ (fun r u' c hp => by rw [hp.2.1, hp.2.2]; rfl) (fun r u' c hp => ?_)
        · unfold uf_J7_vectorizedHashCode uf_J7_vectorizedHashCode_J157 uf_J7_signedHashCode
          refine ev_ifT rfl (ev_b1 (arB_e e3) ?_)
          refine ev_b (P := fun r => r = hs_ w 0) ?_ (fun r hr => ev_some ⟨hr, rfl, rfl⟩)
          refine ev_b (P := fun r => r = hs_ w 0) ?_ (fun r hr => ev_some hr)
          have e0 : (0 : Int32) + n_ w.length = n_ w.length := by rw [n_lit 0, n_add, Nat.zero_add]
          rw [e0]
          unfold uf_J7_signedHashCode_L8l
          refine ev_for w.length (fun (i : Nat) (y : Int32 × Int32) => y = (hs_ (w.take i) 0, n_ i)) (fun i y hi hP => ?_) (fun y hP => ?_) _ (by rw [← n_lit 0]; rfl)
          · subst hP
            refine ev_eq (r := .inl (hs_ (w.take (i + 1)) 0, n_ (i + 1))) (fun n => ?_) ⟨_, rfl, rfl⟩
            unfold uf_J7_signedHashCode_L8
            dsimp only
            rw [ef_F (by rw [n_le (by omega) (by omega)]; omega), aiB_e e3 hi (by omega), m_bs, h255 i hi, show n_ i + 1 = n_ (i + 1) from by rw [n_lit 1, n_add], List.take_succ_eq_append_getElem hi, hs_app]
          · subst hP
            refine ev_eq (r := .inr (hs_ w 0)) (fun n => ?_) ⟨_, rfl, rfl⟩
            unfold uf_J7_signedHashCode_L8
            dsimp only
            rw [ef_T (by rw [n_le (by omega) (by omega)]; omega), List.take_length]
        · obtain ⟨rfl, rfl, rfl⟩ := hp
          exact ev_some ⟨rfl, rfl, rfl⟩
  · obtain ⟨rfl, rfl, rfl⟩ := hp
    unfold uf_J5_hashCode_J40 uf_J5_hashCode_J58
    have nvt : v ≠ t := get_ne e3 e1 (fun z => by cases z)
    refine ev_if (fun c => ?_) (fun c => ?_)
    · refine ev_g (by decide) (ev_pf e1 (by simp) (fun w26 c26 => ?_))
      exact ev_some ⟨rfl, rfl, rfl, ygt_ch h0 e1 c26 (kd1_o _ _ _) e2, v, _, _, f, c26.2.1, e2, (c26.2.2 v nvt).trans e3, e4, e5, e6, e7⟩
    · refine ev_pf e1 (by simp) (fun w26 c26 => ?_)
      exact ev_some ⟨rfl, rfl, rfl, ygt_ch h0 e1 c26 (kd1_o _ _ _) e2, v, _, _, f, c26.2.1, e2, (c26.2.2 v nvt).trans e3, e4, e5, e6, e7⟩
end
