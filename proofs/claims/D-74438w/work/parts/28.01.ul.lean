set_option maxRecDepth 100000
/-! Lists (ArrayList): tl the list's tag, ta its array's -/
/-- the empty array -/
def cE_ (d : UD) (b : Nat) : Prop := d.2 0 < b ∧ u_get (u_cs d) (d.2 0) = some (.inl (d.1 4, 0, .inr (.inr (.inr (.inr (fun _ => none))))))
def al_ (d : UD) (o : Nat → Nat) (u : UM) (a tl ta : Nat) (l : List Nat) : Prop := ∃ mc b n f, ob_ u a 13 [.int mc, .ref b, .int (n_ l.length)] ∧ o a = tl ∧ l.length ≤ n ∧ n ≤ 1000 ∧ ((qA_ d u b n f ∧ o b = ta ∧ (∀ i (h : i < l.length), f i = some l[i]) ∧ 0 < n) ∨ (b = d.2 0 ∧ n = 0))
def Kl_ (tl ta : Nat) (t : Nat) : Prop := t = tl ∨ t = ta
theorem al_keep {d : UD} {b : Nat} {K : Nat → Prop} {o o' : Nat → Nat} {u u' : UM} (h0 : uw_ b u) (g : ygt_ b K o u o' u') {a tl ta : Nat} {l : List Nat} (h : al_ d o u a tl ta l) (h1 : ¬ K tl) (h2 : ¬ K ta) : al_ d o' u' a tl ta l := by
  obtain ⟨mc, b', n, f, e1, e2, e3, e4, e5⟩ := h
  obtain ⟨g1, g2⟩ := ygt_at h0 g e1 (by rw [e2]; exact h1)
  refine ⟨mc, b', n, f, g1, by rw [g2]; exact e2, e3, e4, ?_⟩
  rcases e5 with ⟨q1, q2, q3⟩ | q
  · obtain ⟨k1, k2⟩ := ygt_at h0 g q1 (by rw [q2]; exact h2)
    exact Or.inl ⟨k1, by rw [k2]; exact q2, q3⟩
  · exact Or.inr q
theorem al_cl {d : UD} {o : Nat → Nat} {u : UM} {a tl ta : Nat} {l : List Nat} (h : al_ d o u a tl ta l) : ∃ fs, u_cl u 13 a = some fs := by
  obtain ⟨mc, b', n, f, e1, _⟩ := h
  exact ⟨_, cl_e e1⟩
theorem ul_size (n : Nat) {d : UD} {o : Nat → Nat} {u : UM} {a tl ta : Nat} {l : List Nat} (h : al_ d o u a tl ta l) : uf_J2_size n d u a = some (n_ l.length) := by
  obtain ⟨mc, b', m, f, e1, _⟩ := h
  unfold uf_J2_size
  rw [fi_e e1 rfl]; rfl
theorem ul_ck (n : Nat) (d : UD) (u : UM) {i m : Nat} (hi : i < m) (hm : m < 2147483648) : uf_J14_checkIndex n d u (n_ i) (n_ m) = some (n_ i) := by
  unfold uf_J14_checkIndex uf_J11_checkIndex
  rw [ef_F (by rw [n_lit 0, n_lt (by omega) (by omega)]; omega), ef_T (by rw [n_lt (by omega) (by omega)]; exact hi)]; rfl
theorem ul_get (n : Nat) {d : UD} {o : Nat → Nat} {u : UM} {a tl ta : Nat} {l : List Nat} (h : al_ d o u a tl ta l) {i : Nat} (hi : i < l.length) : uf_J2_get n d u a (n_ i) = some l[i] := by
  obtain ⟨mc, b', m, f, e1, e2, e3, e4, e5⟩ := h
  rcases e5 with ⟨q1, q2, q3⟩ | ⟨_, q⟩
  · unfold uf_J2_get uf_J2_elementData
    rw [fi_e e1 rfl, m_bs, ul_ck n d u hi (by omega), m_bs, cl_e e1, m_bs, fr_e e1 rfl, m_bs, ldR_e q1 (by omega) (by omega) (q3.1 i hi)]; rfl
  · omega
/-- one element is another one -/
theorem ul_set {d : UD} {b : Nat} {o : Nat → Nat} {u : UM} {a tl ta : Nat} {l : List Nat} (h0 : uw_ b u) (hne : tl ≠ ta) (h : al_ d o u a tl ta l) {i x : Nat} (hi : i < l.length) (hx : u_el u x = true) : Ev_ (fun n => uf_J2_set n d u a (n_ i) x) (fun r => r.2 = (0, 0) ∧ r.1.2.2 = u.2 ∧ al_ d o r.1.2 a tl ta (l.set i x) ∧ ygt_ b (Kl_ tl ta) o u o r.1.2) := by
  obtain ⟨mc, b', m, f, e1, e2, e3, e4, e5⟩ := h
  rcases e5 with ⟨q1, q2, q3⟩ | ⟨_, q⟩
  · have c := ch_set q1 (.inl (d.1 4, m, .inr (.inr (.inr (.inr (va_up f i (some x)))))))
    have hab : a ≠ b' := get_ne e1 q1 (fun z => by cases z)
    refine ev_eq (r := ((l[i], (u_set u.1 b' (.inl (d.1 4, m, .inr (.inr (.inr (.inr (va_up f i (some x))))))), u.2)), (0, 0))) (fun n => ?_) ⟨rfl, rfl, ⟨mc, b', m, va_up f i (some x), ?_, e2, by rw [List.length_set]; exact e3, e4, Or.inl ⟨c.2.1, q2, fun j hj => ?_, q3.2⟩⟩, ygt_ch h0 q1 c (kd1_a _ _) (Or.inr q2)⟩
    · unfold uf_J2_set uf_J2_elementData
      rw [fi_e e1 rfl, m_bs, ul_ck n d u hi (by omega), m_bs, cl_e e1, m_bs, fr_e e1 rfl, m_bs, ldR_e q1 (by omega) (by omega) (q3.1 i hi), m_bs, m_bs, m_bs, hx, m_gT, stQ_e q1 (by omega) (by omega)]
      rfl
    · rw [List.length_set]
      exact (c.2.2 a hab).trans e1
    · rw [List.length_set] at hj
      show va_up f i (some x) j = _
      rw [List.getElem_set]
      by_cases e : i = j
      · subst e; rw [if_pos rfl]; exact if_pos rfl
      · rw [if_neg e]
        have : va_up f i (some x) j = f j := if_neg (fun z => e z.symm)
        rw [this]; exact q3.1 j hj
  · omega
theorem arO_e {d : UD} {u : UM} {a n : Nat} {f : Nat → Option Nat} (h : qA_ d u a n f) : u_arO d u a = some (n, f) := by unfold u_arO; rw [rd_w h]; simp
theorem arO_c {d : UD} {b : Nat} {u : UM} (h0 : uw_ b u) (hc : cE_ d b) : u_arO d u (d.2 0) = some (0, fun _ => none) := by unfold u_arO; rw [rd_c h0 hc.1, hc.2]; simp
theorem lnQ_c {d : UD} {b : Nat} {u : UM} (h0 : uw_ b u) (hc : cE_ d b) : u_lnI d u 4 (d.2 0) = some (n_ 0) := by unfold u_lnI; rw [rd_c h0 hc.1, hc.2]; simp; exact (Int32.ofInt_eq_ofNat).symm
theorem elf_e {u : UM} {l : List Nat} (hl : ∀ x ∈ l, u_el u x = true) {f : Nat → Option Nat} {n : Nat} (hn : n ≤ l.length) (hf : ∀ i (h : i < l.length), f i = some l[i]) : u_elf u f 0 n = true := by
  unfold u_elf
  rw [List.all_eq_true]
  intro i hi
  have hi := List.mem_range.mp hi
  rw [Nat.zero_add, hf i (by omega)]
  exact hl _ (List.getElem_mem _)
theorem el_mono {u u' : UM} {x : Nat} (h : u_el u x = true) (hk : ∀ y, u_get u.1 x = some y → u_get u'.1 x = some y) : u_el u' x = true := by
  unfold u_el at h ⊢
  cases hg : u_get u.1 x with
  | none => rw [hg] at h; cases h
  | some y => rw [hg] at h; rw [hk y hg]; exact h
/-- a copy of the first m of a list's array, so long -/
theorem ul_copy {d : UD} {b : Nat} {o : Nat → Nat} {u : UM} (h0 : uw_ b u) (hc : cE_ d b) {b' m : Nat} {l : List Nat} (hq : (∃ f, qA_ d u b' m f ∧ ∀ i (h : i < l.length), f i = some l[i]) ∨ (b' = d.2 0 ∧ m = 0)) (hlm : l.length ≤ m) (hm : m ≤ 1000) {k : Nat} (hk : k ≤ 1000) (hkl : min k m ≤ l.length) (hl : ∀ x ∈ l, u_el u x = true) (tg : Nat) {K : Nat → Prop} : Ev_ (fun n => uf_J9_copyOf_2 n d u b' (n_ k)) (fun r => r.2 = (1, k) ∧ r.1.2.2 = u.2 + 1 ∧ r.1.1 = u.2 ∧ ygt_ b K o u (ot_ o u.2 tg) r.1.2 ∧ ∃ f, qA_ d r.1.2 u.2 k f ∧ ∀ i (h : i < l.length), i < k → f i = some l[i]) := by
  have key : ∃ f, u_arO d u b' = some (m, f) ∧ (∀ i (h : i < l.length), f i = some l[i]) ∧ u_lnI d u 4 b' = some (n_ m) ∧ (∀ x, nw_ u (u_nw u x) x → u_arO d (u_nw u x) b' = some (m, f) ∧ u_lnI d (u_nw u x) 4 b' = some (n_ m)) := by
    rcases hq with ⟨f, q1, q2⟩ | ⟨rfl, rfl⟩
    · refine ⟨f, arO_e q1, q2, lnQ_e q1, fun x c => ?_⟩
      have : qA_ d (u_nw u x) b' m f := (c.2.2 b' (fun e => by have := (h0.2 _ _ q1).2; omega)).trans q1
      exact ⟨arO_e this, lnQ_e this⟩
    · exact ⟨fun _ => none, arO_c h0 hc, fun i hi => by omega, lnQ_c h0 hc, fun x c => ⟨arO_c (nw_uw h0 c) hc, lnQ_c (nw_uw h0 c) hc⟩⟩
  obtain ⟨f, k1, k2, k3, k4⟩ := key
  have c := nw_nw h0 (.inl (d.1 4, k, .inr (.inr (.inr (.inr (fun _ => none))))))
  have hA : qA_ d (u_nw u (.inl (d.1 4, k, .inr (.inr (.inr (.inr (fun _ => none))))))) u.2 k (fun _ => none) := c.2.1
  obtain ⟨k5, k6⟩ := k4 _ c
  have gN := ygt_nw (K := K) (o := o) h0 c tg
  have hel : ∀ x ∈ l, u_el (u_nw u (.inl (d.1 4, k, .inr (.inr (.inr (.inr (fun _ => none))))))) x = true := fun x hx => el_mono (hl x hx) (fun y hy => by rw [c.2.2 x (fun e => by have := (h0.2 _ _ hy).2; omega)]; exact hy)
  have hcs := c.1
  generalize hu1 : u_nw u (.inl (d.1 4, k, .inr (.inr (.inr (.inr (fun _ => none)))))) = u1 at *
  have c2 := ch_set hA (.inl (d.1 4, k, .inr (.inr (.inr (.inr (va_cpy f (fun _ => none) 0 0 (min k m)))))))
  refine ev_eq (r := ((u.2, (u_set u1.1 u.2 (.inl (d.1 4, k, .inr (.inr (.inr (.inr (va_cpy f (fun _ => none) 0 0 (min k m))))))), u1.2)), (1, k))) (fun n => ?_) ⟨rfl, c.1, rfl, ?_, _, c2.2.1, fun i hi hik => ?_⟩
  · unfold uf_J9_copyOf_2 uf_J9_copyOf_3 uf_J9_copyOf_3_J24
    have hmin : (if (n_ k : Int32) < (n_ m : Int32) then (n_ k : Int32) else (n_ m : Int32)) = n_ (min k m) := by
      by_cases z : k < m
      · rw [if_pos (by rw [n_lt (by omega) (by omega)]; exact z), Nat.min_eq_left (by omega)]
      · rw [if_neg (by rw [n_lt (by omega) (by omega)]; exact z), Nat.min_eq_right (by omega)]
    have hln : u_ln (n_ k) = true := by
      unfold u_ln
      rw [decide_eq_true_eq, n_nat (by omega), n_lit 0, n_le (by omega) (by omega)]
      omega
    have hx : u_xcQ d u1 b' 0 u.2 0 (n_ (min k m)) = some (u_set u1.1 u.2 (.inl (d.1 4, k, .inr (.inr (.inr (.inr (va_cpy f (fun _ => none) 0 0 (min k m)))))))) := by
      unfold u_xcQ
      have hrg : u_rg 0 0 (n_ (min k m)) m k = true := by
        unfold u_rg
        rw [decide_eq_true_eq, n_nat (by omega), z_nat, n_lit 0, n_lt (by omega) (by omega), n_lt (by omega) (by omega)]
        omega
      rw [k5, m_bs, arQ_e hA, m_bs]
      dsimp only
      rw [hrg, m_gT, z_nat, n_nat (by omega), elf_e hel (f := f) (by omega) k2, m_gT]
    rw [k1, m_bs, ef_T rfl, hln, m_gT, n_nat (by omega), hu1, m_bs, k6, m_bs, hmin, hx, m_bs]
    show u_bc u.2 (some ((u.2, (u_set u1.1 u.2 _, u1.2)), u_add (1, k) (0, 0))) _ = _
    show m_g (decide (u1.2 = u.2 + 1)) _ = _
    rw [decide_eq_true hcs, m_gT]
    rfl
  · exact ygt_chn h0 gN (Nat.le_refl _) hA c2 (kd1_a _ _)
  · show va_cpy f (fun _ => none) 0 0 (min k m) i = _
    unfold va_cpy
    rw [if_pos (by omega), show 0 + (i - 0) = i by omega]
    exact k2 i hi
/-! adding -/
theorem ul_add11 {d : UD} {b : Nat} {o : Nat → Nat} {u : UM} {a tl ta : Nat} {l : List Nat} (h0 : uw_ b u) {mc : Int32} {v2 m : Nat} {f : Nat → Option Nat} (e1 : ob_ u a 13 [.int mc, .ref v2, .int (n_ l.length)]) (e2 : o a = tl) (q1 : qA_ d u v2 m f) (q2 : o v2 = ta) (q3 : ∀ i (h : i < l.length), f i = some l[i]) (hm : l.length < m) (hm2 : m ≤ 1000) {x : Nat} (hx : u_el u x = true) : Ev_ (fun n => uf_J2_add_2_J11 n d u a x v2 (n_ l.length)) (fun r => r.2 = (0, 0) ∧ r.1.2.2 = u.2 ∧ al_ d o r.1.2 a tl ta (l ++ [x]) ∧ ygt_ b (Kl_ tl ta) o u o r.1.2) := by
  have hab : a ≠ v2 := get_ne e1 q1 (fun z => by cases z)
  unfold uf_J2_add_2_J11
  refine ev_g hx ?_
  refine ev_b1 (stQ_e q1 hm (by omega) (some x)) ?_
  have c1 := ch_set q1 (.inl (d.1 4, m, .inr (.inr (.inr (.inr (va_up f l.length (some x)))))))
  have g1 := ygt_ch (K := Kl_ tl ta) h0 q1 c1 (kd1_a _ _) (Or.inr q2)
  generalize u_set u.1 v2 (.inl (d.1 4, m, .inr (.inr (.inr (.inr (va_up f l.length (some x))))))) = w1 at *
  have e1' : ob_ (w1, u.2) a 13 [.int mc, .ref v2, .int (n_ l.length)] := (c1.2.2 a hab).trans e1
  refine ev_pf e1' (by simp) (fun w2 c2 => ?_)
  have g2 := ygt_ch (K := Kl_ tl ta) g1.1 e1' c2 (kd1_o _ _ _) (Or.inl e2)
  refine ev_some ⟨rfl, rfl, ⟨mc, v2, m, va_up f l.length (some x), ?_, e2, by rw [List.length_append]; simp; omega, hm2, Or.inl ⟨(c2.2.2 v2 (fun z => hab z.symm)).trans c1.2.1, q2, fun i hi => ?_, by omega⟩⟩, ygt_tr h0 g1 g2⟩
  · have := c2.2.1
    rw [List.length_append, show l.length + [x].length = l.length + 1 from rfl, ← n_add, ← n_lit 1]
    exact this
  · rw [List.length_append] at hi
    simp only [List.length_singleton] at hi
    by_cases c : i < l.length
    · have : va_up f l.length (some x) i = f i := if_neg (by omega)
      rw [this, List.getElem_append_left c]; exact q3 i c
    · have e : i = l.length := by omega
      subst e
      have : va_up f l.length (some x) l.length = some x := if_pos rfl
      rw [this, List.getElem_append_right (by omega)]; simp
theorem shr1 {k : Nat} (h : k < 2147483648) : n_ k >>> (1 &&& 31) = n_ (k / 2) := by
  have e : (1 &&& 31 : Int32) = n_ 1 := by rw [← n_lit 1]; decide
  rw [e]
  apply Int32.toInt_inj.mp
  rw [q_shr (by omega), n_toInt (by omega), n_toInt (by omega)]
  show (k : Int) / 2 ^ 1 = _
  omega
theorem ul_newLen (n : Nat) (d : UD) (u : UM) {a c e : Nat} (h : a + max c e ≤ 1000) (h1 : 0 < a + max c e) : uf_J7_newLength n d u (n_ a) (n_ c) (n_ e) = some (n_ (a + max c e)) := by
  unfold uf_J7_newLength
  have hm : (if (n_ c : Int32) < (n_ e : Int32) then (n_ e : Int32) else (n_ c : Int32)) = n_ (max c e) := by
    by_cases z : c < e
    · rw [if_pos (by rw [n_lt (by omega) (by omega)]; exact z), Nat.max_eq_right (by omega)]
    · rw [if_neg (by rw [n_lt (by omega) (by omega)]; exact z), Nat.max_eq_left (by omega)]
  rw [hm, n_add, m_bs, ef_F (by rw [n_lit 0, n_le (by omega) (by omega)]; omega), ef_F (by rw [n_lit 2147483639, n_lt (by omega) (by omega)]; omega)]
def K0_ (_ : Nat) : Prop := False
/-- an array grows: it has room for k more -/
theorem ul_grow {d : UD} {b : Nat} {o : Nat → Nat} {u : UM} {a tl ta : Nat} {l : List Nat} (h0 : uw_ b u) (hc : cE_ d b) {mc : Int32} {b' : Nat} (e1 : ob_ u a 13 [.int mc, .ref b', .int (n_ l.length)]) (e2 : o a = tl) (hq : (∃ f, qA_ d u b' l.length f ∧ (∀ i (h : i < l.length), f i = some l[i]) ∧ 0 < l.length) ∨ (b' = d.2 0 ∧ l = [])) (hl : ∀ x ∈ l, u_el u x = true) (hlen : l.length ≤ 100) {k : Nat} (hk : l.length < k) (hk2 : k ≤ 200) : Ev_ (fun n => uf_J2_grow_2 n d u a (n_ k)) (fun r => ∃ m f, r.2 = (1, m) ∧ m ≤ 400 ∧ k ≤ m ∧ r.1.1 = u.2 ∧ r.1.2.2 = u.2 + 1 ∧ ob_ r.1.2 a 13 [.int mc, .ref u.2, .int (n_ l.length)] ∧ qA_ d r.1.2 u.2 m f ∧ (∀ i (h : i < l.length), f i = some l[i]) ∧ ygt_ b (Kl_ tl ta) o u (ot_ o u.2 ta) r.1.2) := by
  have ha2 := (h0.2 _ _ e1).2
  unfold uf_J2_grow_2 uf_J2_grow_2_J20
  refine ev_b1 (fr_e e1 rfl) ?_
  rcases hq with ⟨f, q1, q3, q4⟩ | ⟨rfl, rfl⟩
  · refine ev_b1 (lnQ_e q1) ?_
    refine ev_ifT (by rw [n_lit 0, n_lt (by omega) (by omega)]; exact q4) ?_
    rw [shr1 (by omega), n_sub (show l.length ≤ k by omega)]
    refine ev_bn (fun n => ul_newLen n d u (a := l.length) (c := k - l.length) (e := l.length / 2) (by omega) (by omega)) ?_
    refine ev_b1 (fr_e e1 rfl) ?_
    refine ev_bc (P := fun r u7 c => c = (1, l.length + max (k - l.length) (l.length / 2)) ∧ u7.2 = u.2 + 1 ∧ r = u.2 ∧ ygt_ b K0_ o u (ot_ o u.2 ta) u7 ∧ ∃ f, qA_ d u7 u.2 (l.length + max (k - l.length) (l.length / 2)) f ∧ ∀ i (h : i < l.length), i < l.length + max (k - l.length) (l.length / 2) → f i = some l[i]) (ul_copy h0 hc (Or.inl ⟨f, q1, q3⟩) (Nat.le_refl _) (by omega) (by omega) (by omega) hl ta) (fun r u7 c hp => by rw [hp.1]; exact hp.2.1) (fun r u7 c hp => ?_)
    obtain ⟨rfl, p2, rfl, p4, f7, p5, p6⟩ := hp
    obtain ⟨e1', e3'⟩ := ygt_at h0 p4 e1 (fun z => z)
    refine ev_pf e1' (by simp) (fun w c => ?_)
    refine ev_some ⟨l.length + max (k - l.length) (l.length / 2), f7, rfl, by omega, by omega, rfl, p2, c.2.1, (c.2.2 u.2 (by omega)).trans p5, fun i hi => p6 i hi (by omega), ygt_tr h0 (ygt_sub p4 (fun t z => z.elim)) (ygt_ch p4.1 e1' c (kd1_o _ _ _) (Or.inl (e3'.trans e2)))⟩
  · refine ev_b1 (lnQ_c h0 hc) ?_
    refine ev_ifF (by decide) ?_
    refine ev_b1 (fr_e e1 rfl) (ev_ifT rfl ?_)
    have hm : (if (10 : Int32) < (n_ k : Int32) then (n_ k : Int32) else (10 : Int32)) = n_ (max 10 k) := by
      rw [show (10 : Int32) = n_ 10 from n_lit 10]
      by_cases z : 10 < k
      · rw [if_pos (by rw [n_lt (by omega) (by omega)]; exact z), Nat.max_eq_right (by omega)]
      · rw [if_neg (by rw [n_lt (by omega) (by omega)]; exact z), Nat.max_eq_left (by omega)]
    have hln : u_ln (n_ (max 10 k)) = true := by
      unfold u_ln
      rw [decide_eq_true_eq, n_nat (by omega), n_lit 0, n_le (by omega) (by omega)]
      omega
    rw [hm]
    refine ev_g hln (ev_ac ?_)
    rw [n_nat (by omega)]
    refine ev_nw h0 (fun u1 c => ?_)
    have g1 := ygt_nw (K := Kl_ tl ta) (o := o) h0 c ta
    have e1' : ob_ u1 a 13 [.int mc, .ref (d.2 0), .int (n_ ([] : List Nat).length)] := (c.2.2 a (by omega)).trans e1
    refine ev_pf e1' (by simp) (fun w c2 => ?_)
    refine ev_some ⟨max 10 k, fun _ => none, rfl, by omega, by omega, rfl, c.1, c2.2.1, (c2.2.2 u.2 (by omega)).trans c.2.1, fun i hi => absurd hi (Nat.not_lt_zero _), ygt_tr h0 g1 (ygt_ch g1.1 e1' c2 (kd1_o _ _ _) (Or.inl ?_))⟩
    rw [ot_ne (by omega)]; exact e2
theorem ul_add {d : UD} {b : Nat} {o : Nat → Nat} {u : UM} {a tl ta : Nat} {l : List Nat} (h0 : uw_ b u) (hc : cE_ d b) (h : al_ d o u a tl ta l) (hl : ∀ x ∈ l, u_el u x = true) (hlen : l.length ≤ 100) {x : Nat} (hx : u_el u x = true) : Ev_ (fun n => uf_J2_add n d u a x) (fun r => ∃ o', r.1.2.2 = u.2 + r.2.1 ∧ r.2.1 ≤ 1 ∧ r.2.2 ≤ 400 ∧ al_ d o' r.1.2 a tl ta (l ++ [x]) ∧ ygt_ b (Kl_ tl ta) o u o' r.1.2) := by
  obtain ⟨mc, b', m, f, e1, e2, e3, e4, e5⟩ := h
  have ha2 := (h0.2 _ _ e1).2
  unfold uf_J2_add
  refine ev_b1 (fi_e e1 rfl) ?_
  refine ev_pf e1 (by simp) (fun w1 c1 => ?_)
  have g1 := ygt_ch (K := Kl_ tl ta) h0 e1 c1 (kd1_o _ _ _) (Or.inl e2)
  have e1' : ob_ (w1, u.2) a 13 [.int (mc + 1), .ref b', .int (n_ l.length)] := c1.2.1
  have hel : ∀ y, u_el u y = true → u_el (w1, u.2) y = true := fun y hy => el_kd hy g1.2.2.2
  refine ev_b1 (fr_e e1' rfl) (ev_b1 (fi_e e1' rfl) ?_)
  obtain ⟨fs, hfs⟩ : ∃ fs, u_cl (w1, u.2) 13 a = some fs := ⟨_, cl_e e1'⟩
  refine ev_b1 hfs ?_
  refine ev_bc (P := fun _ u' c => ∃ o', u'.2 = u.2 + c.1 ∧ c.1 ≤ 1 ∧ c.2 ≤ 400 ∧ al_ d o' u' a tl ta (l ++ [x]) ∧ ygt_ b (Kl_ tl ta) o u o' u') ?_ (fun _ u' c hp => by obtain ⟨o', h1, _⟩ := hp; exact h1) (fun r u' c hp => ?_)
  · unfold uf_J2_add_2
    have full : m = l.length → ((∃ f, qA_ d (w1, u.2) b' l.length f ∧ (∀ i (h : i < l.length), f i = some l[i]) ∧ 0 < l.length) ∨ (b' = d.2 0 ∧ l = [])) → u_lnI d (w1, u.2) 4 b' = some (n_ m) → Ev_ (fun n => m_b (u_lnI d (w1, u.2) 4 b') (fun b1 => m_if ((n_ l.length : Int32) = (b1 : Int32)) (m_b (u_cl (w1, u.2) 13 a) (fun f9 => u_bc (w1, u.2).2 (uf_J2_grow n d (w1, u.2) a) (fun r12 u13 => uf_J2_add_2_J11 n d u13 a x r12 (n_ l.length)))) (uf_J2_add_2_J11 n d (w1, u.2) a x b' (n_ l.length)))) (fun r => ∃ o', r.1.2.2 = u.2 + r.2.1 ∧ r.2.1 ≤ 1 ∧ r.2.2 ≤ 400 ∧ al_ d o' r.1.2 a tl ta (l ++ [x]) ∧ ygt_ b (Kl_ tl ta) o u o' r.1.2) := fun hm hq hln => by
      refine ev_b1 hln ?_
      refine ev_ifT (by rw [hm]) ?_
      refine ev_b1 hfs ?_
      refine ev_bc (P := fun r u13 c => ∃ m f, c = (1, m) ∧ m ≤ 400 ∧ l.length + 1 ≤ m ∧ r = u.2 ∧ u13.2 = u.2 + 1 ∧ ob_ u13 a 13 [.int (mc + 1), .ref u.2, .int (n_ l.length)] ∧ qA_ d u13 u.2 m f ∧ (∀ i (h : i < l.length), f i = some l[i]) ∧ ygt_ b (Kl_ tl ta) o (w1, u.2) (ot_ o u.2 ta) u13) ?_ (fun r u13 c hp => by obtain ⟨m, f, rfl, _, _, _, h5, _⟩ := hp; exact h5) (fun r u13 c hp => ?_)
      · unfold uf_J2_grow
        refine ev_b1 (fi_e e1' rfl) (ev_b1 hfs ?_)
        rw [n_lit 1, n_add]
        refine ev_bc (P := fun r u13 c => ∃ m f, c = (1, m) ∧ m ≤ 400 ∧ l.length + 1 ≤ m ∧ r = u.2 ∧ u13.2 = u.2 + 1 ∧ ob_ u13 a 13 [.int (mc + 1), .ref u.2, .int (n_ l.length)] ∧ qA_ d u13 u.2 m f ∧ (∀ i (h : i < l.length), f i = some l[i]) ∧ ygt_ b (Kl_ tl ta) o (w1, u.2) (ot_ o u.2 ta) u13) (ul_grow g1.1 hc e1' e2 hq (fun y hy => hel y (hl y hy)) hlen (k := l.length + 1) (by omega) (by omega)) (fun r u7 c hp => by obtain ⟨m, f, rfl, _, _, _, h5, _⟩ := hp; exact h5) (fun r u7 c hp => ?_)
        obtain ⟨m, f, rfl, hp⟩ := hp
        exact ev_some ⟨m, f, rfl, hp⟩
      · obtain ⟨m7, f7, rfl, p1, p2, rfl, p4, p5, p6, p7, p8⟩ := hp
        have hx7 : u_el u13 x = true := el_kd (hel x hx) p8.2.2.2
        refine ev_w (ul_add11 (tl := tl) (ta := ta) (o := ot_ o u.2 ta) p8.1 p5 (by rw [ot_ne (by omega)]; exact e2) p6 (ot_at _ _ _) p7 (by omega) (by omega) hx7) (fun r hr => ?_)
        obtain ⟨r1, r2, r3, r4⟩ := hr
        refine ⟨ot_ o u.2 ta, ?_, ?_, ?_, r3, ygt_tr h0 g1 (ygt_tr g1.1 p8 r4)⟩
        · rw [r2, p4, r1]; rfl
        · rw [r1]; exact Nat.le_refl _
        · rw [r1]; exact p1
    rcases e5 with ⟨q1, q2, q3, q4⟩ | ⟨rfl, rfl⟩
    · have hab : a ≠ b' := get_ne e1 q1 (fun z => by cases z)
      have q1' : qA_ d (w1, u.2) b' m f := (c1.2.2 b' (fun z => hab z.symm)).trans q1
      by_cases c : m = l.length
      · exact full c (Or.inl ⟨f, by rw [← c]; exact q1', q3, by omega⟩) (lnQ_e q1')
      · refine ev_b1 (lnQ_e q1') ?_
        refine ev_ifF (by rw [n_eq (by omega) (by omega)]; omega) ?_
        refine ev_w (ul_add11 (tl := tl) (ta := ta) g1.1 e1' e2 q1' q2 q3 (by omega) e4 (hel x hx)) (fun r hr => ?_)
        obtain ⟨r1, r2, r3, r4⟩ := hr
        exact ⟨o, by rw [r2, r1]; rfl, by rw [r1]; exact Nat.zero_le _, by rw [r1]; exact Nat.zero_le _, r3, ygt_tr h0 g1 r4⟩
    · have hl0 : l = [] := List.length_eq_zero_iff.mp (by omega)
      exact full (by omega) (Or.inr ⟨rfl, hl0⟩) (lnQ_c g1.1 hc)
  · obtain ⟨o', p⟩ := hp
    refine ev_g (by decide) (ev_some ⟨o', p⟩)
