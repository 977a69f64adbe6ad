set_option maxRecDepth 100000
/-! The component's world: cells by address, each with a tag (o); tags tell who may change what -/
/-- the world's addresses lie from b on -/
def uw_ (b : Nat) (u : UM) : Prop := b ≤ u.2 ∧ ∀ a x, u_get u.1 a = some x → b ≤ a ∧ a < u.2
/-- one cell is otherwise -/
def ch_ (u u' : UM) (a : Nat) (x : va_E) : Prop := u'.2 = u.2 ∧ u_get u'.1 a = some x ∧ ∀ c, c ≠ a → u_get u'.1 c = u_get u.1 c
/-- one cell is new -/
def nw_ (u u' : UM) (x : va_E) : Prop := u'.2 = u.2 + 1 ∧ u_get u'.1 u.2 = some x ∧ ∀ c, c ≠ u.2 → u_get u'.1 c = u_get u.1 c
theorem ch_set {u : UM} {a : Nat} {y : va_E} (h : u_get u.1 a = some y) (x : va_E) : ch_ u (u_set u.1 a x, u.2) a x := ⟨rfl, u_get_set h, fun c hc => u_get_ne (fun e => hc e.symm)⟩
theorem nw_nw {b : Nat} {u : UM} (h : uw_ b u) (x : va_E) : nw_ u (u_nw u x) x := by
  have hn : u_get u.1 u.2 = none := by
    cases hg : u_get u.1 u.2 with
    | none => rfl
    | some y => have := (h.2 _ _ hg).2; omega
  refine ⟨rfl, ?_, fun c hc => ?_⟩
  · show u_get (u.1 ++ [(u.2, x)]) u.2 = _
    rw [u_get_app, hn]
    show u_get [(u.2, x)] u.2 = _
    rw [u_get_cons, if_pos rfl]
  · show u_get (u.1 ++ [(u.2, x)]) c = _
    rw [u_get_app]
    cases hg : u_get u.1 c with
    | none => show u_get [(u.2, x)] c = none; rw [u_get_cons, if_neg (fun e => hc e.symm)]; rfl
    | some y => rfl
theorem ch_uw {b : Nat} {u u' : UM} {a : Nat} {x y : va_E} (h : uw_ b u) (hg : u_get u.1 a = some y) (c : ch_ u u' a x) : uw_ b u' := by
  refine ⟨by rw [c.1]; exact h.1, fun k z hk => ?_⟩
  rw [c.1]
  by_cases e : k = a
  · subst e; exact h.2 _ _ hg
  · rw [c.2.2 k e] at hk; exact h.2 _ _ hk
theorem nw_uw {b : Nat} {u u' : UM} {x : va_E} (h : uw_ b u) (c : nw_ u u' x) : uw_ b u' := by
  refine ⟨by rw [c.1]; have := h.1; omega, fun k z hk => ?_⟩
  rw [c.1]
  by_cases e : k = u.2
  · subst e; exact ⟨h.1, by omega⟩
  · rw [c.2.2 k e] at hk; have := h.2 _ _ hk; omega
/-- what isn't of the tags K stays -/
def ykp_ (o : Nat → Nat) (K : Nat → Prop) (u u' : UM) : Prop := u.2 ≤ u'.2 ∧ ∀ a x, u_get u.1 a = some x → ¬ K (o a) → u_get u'.1 a = some x
theorem ykp_rfl (o : Nat → Nat) (K : Nat → Prop) (u : UM) : ykp_ o K u u := ⟨Nat.le_refl _, fun _ _ h _ => h⟩
theorem ykp_tr {o o' : Nat → Nat} {K : Nat → Prop} {u v w : UM} (h : ykp_ o K u v) (g : ykp_ o' K v w) (ho : ∀ a x, u_get u.1 a = some x → o' a = o a) : ykp_ o K u w := ⟨Nat.le_trans h.1 g.1, fun a x ha hk => g.2 a x (h.2 a x ha hk) (by rw [ho a x ha]; exact hk)⟩
theorem ykp_tr1 {o : Nat → Nat} {K : Nat → Prop} {u v w : UM} (h : ykp_ o K u v) (g : ykp_ o K v w) : ykp_ o K u w := ykp_tr h g (fun _ _ _ => rfl)
theorem ykp_sub {o : Nat → Nat} {K K' : Nat → Prop} {u v : UM} (h : ykp_ o K u v) (hk : ∀ t, K t → K' t) : ykp_ o K' u v := ⟨h.1, fun a x ha hn => h.2 a x ha (fun z => hn (hk _ z))⟩
theorem ykp_ch {o : Nat → Nat} {K : Nat → Prop} {u u' : UM} {a : Nat} {x : va_E} (c : ch_ u u' a x) (hk : K (o a)) : ykp_ o K u u' := ⟨by rw [c.1]; exact Nat.le_refl _, fun k z hz hn => by
  rw [c.2.2 k (fun e => hn (by rw [e]; exact hk))]; exact hz⟩
theorem ykp_nw {b : Nat} {o : Nat → Nat} {K : Nat → Prop} {u u' : UM} {x : va_E} (h : uw_ b u) (c : nw_ u u' x) : ykp_ o K u u' := ⟨by rw [c.1]; omega, fun k z hz _ => by
  rw [c.2.2 k (fun e => by have := (h.2 _ _ hz).2; omega)]; exact hz⟩
/-- tags of what is there stay -/
def og_ (u : UM) (o o' : Nat → Nat) : Prop := ∀ a, a < u.2 → o' a = o a
theorem og_rfl (u : UM) (o : Nat → Nat) : og_ u o o := fun _ _ => rfl
theorem og_tr {u v : UM} {o o' o'' : Nat → Nat} (h : og_ u o o') (g : og_ v o' o'') (hs : u.2 ≤ v.2) : og_ u o o'' := fun a ha => (g a (by omega)).trans (h a ha)
/-- a new address has a tag -/
def ot_ (o : Nat → Nat) (a t : Nat) : Nat → Nat := fun x => if x = a then t else o x
theorem ot_at (o : Nat → Nat) (a t : Nat) : ot_ o a t a = t := if_pos rfl
theorem ot_ne {o : Nat → Nat} {a t x : Nat} (h : x ≠ a) : ot_ o a t x = o x := if_neg h
theorem og_ot {u : UM} (o : Nat → Nat) {a : Nat} (t : Nat) (h : u.2 ≤ a) : og_ u o (ot_ o a t) := fun x hx => ot_ne (by omega)
/-- an object stays one of its class -/
def kd_ (u u' : UM) : Prop := ∀ a c fs, u_get u.1 a = some (.inr (c, fs)) → ∃ fs', u_get u'.1 a = some (.inr (c, fs'))
def kd1_ (y x : va_E) : Prop := ∀ c fs, y = .inr (c, fs) → ∃ fs', x = .inr (c, fs')
theorem kd1_o (c : Nat) (fs fs' : List Value) : kd1_ (.inr (c, fs)) (.inr (c, fs')) := fun _ _ h => by cases h; exact ⟨_, rfl⟩
theorem kd1_a (q : ClassId × vp_A) (x : va_E) : kd1_ (.inl q) x := fun _ _ h => by cases h
theorem kd_rfl (u : UM) : kd_ u u := fun _ _ _ h => ⟨_, h⟩
theorem kd_tr {u v w : UM} (h : kd_ u v) (g : kd_ v w) : kd_ u w := fun a c fs e => by obtain ⟨f, e⟩ := h a c fs e; exact g a c f e
theorem kd_ch {u u' : UM} {a : Nat} {x y : va_E} (hg : u_get u.1 a = some y) (hk : kd1_ y x) (c : ch_ u u' a x) : kd_ u u' := fun k cl fs h => by
  by_cases e : k = a
  · subst e
    rw [hg] at h
    obtain ⟨fs', h'⟩ := hk cl fs (Option.some.inj h)
    exact ⟨fs', by rw [c.2.1, h']⟩
  · exact ⟨fs, by rw [c.2.2 k e]; exact h⟩
/-- from world to world: well laid, tags stay, what isn't of K stays -/
def ygt_ (b : Nat) (K : Nat → Prop) (o : Nat → Nat) (u : UM) (o' : Nat → Nat) (u' : UM) : Prop := uw_ b u' ∧ og_ u o o' ∧ ykp_ o K u u' ∧ kd_ u u'
theorem ygt_rfl {b : Nat} {K : Nat → Prop} {o : Nat → Nat} {u : UM} (h : uw_ b u) : ygt_ b K o u o u := ⟨h, og_rfl _ _, ykp_rfl _ _ _, kd_rfl _⟩
theorem ygt_tr {b : Nat} {K : Nat → Prop} {o o' o'' : Nat → Nat} {u v w : UM} (h0 : uw_ b u) (h : ygt_ b K o u o' v) (g : ygt_ b K o' v o'' w) : ygt_ b K o u o'' w :=
  ⟨g.1, og_tr h.2.1 g.2.1 h.2.2.1.1, ykp_tr h.2.2.1 g.2.2.1 (fun a x ha => h.2.1 a ((h0.2 _ _ ha).2)), kd_tr h.2.2.2 g.2.2.2⟩
theorem ygt_sub {b : Nat} {K K' : Nat → Prop} {o o' : Nat → Nat} {u v : UM} (h : ygt_ b K o u o' v) (hk : ∀ t, K t → K' t) : ygt_ b K' o u o' v := ⟨h.1, h.2.1, ykp_sub h.2.2.1 hk, h.2.2.2⟩
theorem ygt_ch {b : Nat} {K : Nat → Prop} {o : Nat → Nat} {u u' : UM} {a : Nat} {x y : va_E} (h : uw_ b u) (hg : u_get u.1 a = some y) (c : ch_ u u' a x) (hd : kd1_ y x) (hk : K (o a)) : ygt_ b K o u o u' := ⟨ch_uw h hg c, og_rfl _ _, ykp_ch c hk, kd_ch hg hd c⟩
theorem ygt_nw {b : Nat} {K : Nat → Prop} {o : Nat → Nat} {u u' : UM} {x : va_E} (h : uw_ b u) (c : nw_ u u' x) (t : Nat) : ygt_ b K o u (ot_ o u.2 t) u' := ⟨nw_uw h c, og_ot o t (Nat.le_refl _), ykp_nw h c, fun a cl fs e => ⟨fs, by rw [c.2.2 a (fun z => by have := (h.2 _ _ e).2; omega)]; exact e⟩⟩
theorem ygt_at {b : Nat} {K : Nat → Prop} {o o' : Nat → Nat} {u u' : UM} (h0 : uw_ b u) (h : ygt_ b K o u o' u') {a : Nat} {x : va_E} (ha : u_get u.1 a = some x) (hk : ¬ K (o a)) : u_get u'.1 a = some x ∧ o' a = o a := ⟨h.2.2.1.2 a x ha hk, h.2.1 a ((h0.2 _ _ ha).2)⟩
/-- what is new since may change -/
theorem ygt_chn {b : Nat} {K : Nat → Prop} {o o' : Nat → Nat} {u v w : UM} {a : Nat} {x y : va_E} (h0 : uw_ b u) (g : ygt_ b K o u o' v) (ha : u.2 ≤ a) (hg : u_get v.1 a = some y) (c : ch_ v w a x) (hd : kd1_ y x) : ygt_ b K o u o' w :=
  ⟨ch_uw g.1 hg c, g.2.1, ⟨by rw [c.1]; exact g.2.2.1.1, fun k z hz hn => by
    rw [c.2.2 k (fun e => by have := (h0.2 _ _ hz).2; omega)]; exact g.2.2.1.2 k z hz hn⟩, kd_tr g.2.2.2 (kd_ch hg hd c)⟩
theorem ygt_trn {b : Nat} {K K' : Nat → Prop} {o o' o'' : Nat → Nat} {u v w : UM} (h0 : uw_ b u) (g : ygt_ b K o u o' v) (k : ygt_ b K' o' v o'' w) (hf : ∀ a x, u_get u.1 a = some x → K' (o a) → K (o a)) : ygt_ b K o u o'' w :=
  ⟨k.1, og_tr g.2.1 k.2.1 g.2.2.1.1, ⟨Nat.le_trans g.2.2.1.1 k.2.2.1.1, fun a x ha hn => k.2.2.1.2 a x (g.2.2.1.2 a x ha hn) (fun z => hn (hf a x ha (by rw [← g.2.1 a ((h0.2 _ _ ha).2)]; exact z)))⟩, kd_tr g.2.2.2 k.2.2.2⟩
/-- another tag for what is new -/
theorem ygt_re {b : Nat} {K : Nat → Prop} {o o' : Nat → Nat} {u v : UM} (g : ygt_ b K o u o' v) {a : Nat} (t : Nat) (ha : u.2 ≤ a) : ygt_ b K o u (ot_ o' a t) v := ⟨g.1, fun x hx => by rw [ot_ne (by omega)]; exact g.2.1 x hx, g.2.2⟩
theorem el_kd {u u' : UM} {x : Nat} (h : u_el u x = true) (g : kd_ u u') : u_el u' x = true := by
  obtain ⟨ci, fs, e1, e2⟩ := u_elS h
  obtain ⟨fs', e3⟩ := g x ci fs e1
  unfold u_el
  rw [e3]
  rcases e2 with rfl | rfl | rfl <;> rfl
theorem get_ne {w : va_W} {a b : Nat} {x y : va_E} (h : u_get w a = some x) (g : u_get w b = some y) (hn : x ≠ y) : a ≠ b := fun e => by subst e; rw [h] at g; exact hn (Option.some.inj g)
/-! cells of some kind -/
abbrev ob_ (u : UM) (a c : Nat) (fs : List Value) : Prop := u_get u.1 a = some (.inr (c, fs))
abbrev iA_ (d : UD) (u : UM) (a n : Nat) (f : Nat → Int32) : Prop := u_get u.1 a = some (.inl (d.1 0, n, .inl f))
abbrev bA_ (d : UD) (u : UM) (a n : Nat) (f : Nat → Int32) : Prop := u_get u.1 a = some (.inl (d.1 2, n, .inl f))
abbrev lA_ (d : UD) (u : UM) (a n : Nat) (f : Nat → Int64) : Prop := u_get u.1 a = some (.inl (d.1 1, n, .inr (.inl f)))
abbrev qA_ (d : UD) (u : UM) (a n : Nat) (f : Nat → Option Nat) : Prop := u_get u.1 a = some (.inl (d.1 4, n, .inr (.inr (.inr (.inr f)))))
theorem rd_w {d : UD} {u : UM} {a : Nat} {x : va_E} (h : u_get u.1 a = some x) : u_rd d u a = some x := by unfold u_rd; rw [h]; rfl
theorem rd_c {d : UD} {u : UM} {a : Nat} {b : Nat} (h : uw_ b u) (ha : a < b) : u_rd d u a = u_get (u_cs d) a := by
  unfold u_rd
  cases hg : u_get u.1 a with
  | none => rfl
  | some y => have := (h.2 _ _ hg).1; omega
theorem cl_e {u : UM} {a c : Nat} {fs : List Value} (h : ob_ u a c fs) : u_cl u c a = some fs := by unfold u_cl; rw [h]; simp
theorem ni_e {u : UM} {a c k : Nat} {fs : List Value} {v : Int32} (h : ob_ u a c fs) (hk : fs[k]? = some (.int v)) : u_ni u c k a = some v := by unfold u_ni; rw [cl_e h, m_bs, hk]
theorem nr_e {u : UM} {a c k : Nat} {fs : List Value} {v : Nat} (h : ob_ u a c fs) (hk : fs[k]? = some (.ref v)) : u_nr u c k a = some v := by unfold u_nr u_nq; rw [cl_e h, m_bs, hk]; rfl
theorem fi_e {d : UD} {u : UM} {a c k : Nat} {fs : List Value} {v : Int32} (h : ob_ u a c fs) (hk : fs[k]? = some (.int v)) : u_fi d u c k a = some v := by unfold u_fi; rw [rd_w h]; simp [hk]
theorem fr_e {d : UD} {u : UM} {a c k : Nat} {fs : List Value} {v : Nat} (h : ob_ u a c fs) (hk : fs[k]? = some (.ref v)) : u_fr d u c k a = some v := by unfold u_fr u_fq; rw [rd_w h]; simp [hk, m_b]
theorem fq_e {d : UD} {u : UM} {a c k : Nat} {fs : List Value} {v : Option Nat} (h : ob_ u a c fs) (hk : fs[k]? = some (va_rf v)) : u_fq d u c k a = some v := by unfold u_fq; rw [rd_w h]; cases v <;> simp [hk, va_rf]
theorem pf_e {u : UM} {a c k : Nat} {fs : List Value} (v : Value) (h : ob_ u a c fs) (hk : k < fs.length) : u_pf u c k a v = some (u_set u.1 a (.inr (c, fs.set k v))) := by unfold u_pf; rw [cl_e h, m_bs, decide_eq_true hk]; rfl
theorem arI_e {d : UD} {u : UM} {a n : Nat} {f : Nat → Int32} (h : iA_ d u a n f) : u_arI d u 0 a = some (n, f) := by unfold u_arI; rw [h]; simp
theorem arB_e {d : UD} {u : UM} {a n : Nat} {f : Nat → Int32} (h : bA_ d u a n f) : u_arI d u 2 a = some (n, f) := by unfold u_arI; rw [h]; simp
theorem arL_e {d : UD} {u : UM} {a n : Nat} {f : Nat → Int64} (h : lA_ d u a n f) : u_arL d u a = some (n, f) := by unfold u_arL; rw [h]; simp
theorem arQ_e {d : UD} {u : UM} {a n : Nat} {f : Nat → Option Nat} (h : qA_ d u a n f) : u_arQ d u a = some (n, f) := by unfold u_arQ; rw [h]; simp
theorem ldI_e {d : UD} {u : UM} {a n : Nat} {f : Nat → Int32} (h : iA_ d u a n f) {i : Nat} (hi : i < n) (hn : n < 2147483648) : u_ldI d u a (n_ i) = some (f i) := by unfold u_ldI u_ld; rw [arI_e h, m_bs, n_in hi hn, m_gT, n_nat (by omega)]
theorem ldL_e {d : UD} {u : UM} {a n : Nat} {f : Nat → Int64} (h : lA_ d u a n f) {i : Nat} (hi : i < n) (hn : n < 2147483648) : u_ldL d u a (n_ i) = some (f i) := by unfold u_ldL u_ld; rw [arL_e h, m_bs, n_in hi hn, m_gT, n_nat (by omega)]
theorem ldQ_e {d : UD} {u : UM} {a n : Nat} {f : Nat → Option Nat} (h : qA_ d u a n f) {i : Nat} (hi : i < n) (hn : n < 2147483648) : u_ldQ d u a (n_ i) = some (f i) := by unfold u_ldQ u_ld; rw [arQ_e h, m_bs, n_in hi hn, m_gT, n_nat (by omega)]
theorem ldR_e {d : UD} {u : UM} {a n : Nat} {f : Nat → Option Nat} (h : qA_ d u a n f) {i v : Nat} (hi : i < n) (hn : n < 2147483648) (hv : f i = some v) : u_ldR d u a (n_ i) = some v := by unfold u_ldR; rw [ldQ_e h hi hn, m_bs]; exact hv
theorem stI_e {d : UD} {u : UM} {a n : Nat} {f : Nat → Int32} (h : iA_ d u a n f) {i : Nat} (hi : i < n) (hn : n < 2147483648) (x : Int32) : u_stI d u a (n_ i) x = some (u_set u.1 a (.inl (d.1 0, n, .inl (upd f i x)))) := by unfold u_stI; rw [arI_e h, m_bs, n_in hi hn, m_gT, n_nat (by omega)]
theorem stB_e {d : UD} {u : UM} {a n : Nat} {f : Nat → Int32} (h : bA_ d u a n f) {i : Nat} (hi : i < n) (hn : n < 2147483648) (x : Int32) : u_stB d u a (n_ i) x = some (u_set u.1 a (.inl (d.1 2, n, .inl (upd f i (vp_nar .byte x))))) := by unfold u_stB; rw [arB_e h, m_bs, n_in hi hn, m_gT, n_nat (by omega)]
theorem stL_e {d : UD} {u : UM} {a n : Nat} {f : Nat → Int64} (h : lA_ d u a n f) {i : Nat} (hi : i < n) (hn : n < 2147483648) (x : Int64) : u_stL d u a (n_ i) x = some (u_set u.1 a (.inl (d.1 1, n, .inr (.inl (vp_updL f i x))))) := by unfold u_stL; rw [arL_e h, m_bs, n_in hi hn, m_gT, n_nat (by omega)]
theorem stQ_e {d : UD} {u : UM} {a n : Nat} {f : Nat → Option Nat} (h : qA_ d u a n f) {i : Nat} (hi : i < n) (hn : n < 2147483648) (x : Option Nat) : u_stQ d u a (n_ i) x = some (u_set u.1 a (.inl (d.1 4, n, .inr (.inr (.inr (.inr (va_up f i x))))))) := by unfold u_stQ; rw [arQ_e h, m_bs, n_in hi hn, m_gT, n_nat (by omega)]
theorem lnI_e {d : UD} {u : UM} {a n : Nat} {f : Nat → Int32} (h : iA_ d u a n f) : u_lnI d u 0 a = some (n_ n) := by unfold u_lnI; rw [rd_w h]; simp; exact (Int32.ofInt_eq_ofNat).symm
theorem lnQ_e {d : UD} {u : UM} {a n : Nat} {f : Nat → Option Nat} (h : qA_ d u a n f) : u_lnI d u 4 a = some (n_ n) := by unfold u_lnI; rw [rd_w h]; simp; exact (Int32.ofInt_eq_ofNat).symm
/-! rules of evaluation -/
theorem ev_pf {α : Type} {u : UM} {a c k : Nat} {fs : List Value} {v : Value} {G : Nat → va_W → Option α} {Q : α → Prop} (h : ob_ u a c fs) (hk : k < fs.length) (g : ∀ w, ch_ u (w, u.2) a (.inr (c, fs.set k v)) → Ev_ (fun n => G n w) Q) : Ev_ (fun n => m_b (u_pf u c k a v) (G n)) Q :=
  ev_b1 (pf_e v h hk) (g _ (ch_set h _))
theorem ev_nw {α : Type} {b : Nat} {u : UM} {x : va_E} {G : Nat → UM → Option α} {Q : α → Prop} (h : uw_ b u) (g : ∀ u', nw_ u u' x → Ev_ (fun n => G n u') Q) : Ev_ (fun n => m_b (some (u_nw u x)) (G n)) Q :=
  ev_b1 rfl (g _ (nw_nw h x))
theorem ev_ac {α : Type} {c : UC} {F : Nat → Option (α × UC)} {Q : α × UC → Prop} (h : Ev_ F (fun r => Q (r.1, u_add c r.2))) : Ev_ (fun n => u_ac c (F n)) Q := by
  obtain ⟨N, ⟨a, e⟩, h1, h2⟩ := h
  exact ⟨N, (a, u_add c e), h1, fun n hn => by show u_ac c (F n) = _; rw [h2 n hn]; rfl⟩
/-- a call that makes something: its size is as its count says -/
theorem ev_bc {α β : Type} {z : Nat} {F : Nat → Option ((α × UM) × UC)} {G : Nat → α → UM → Option (β × UC)} {P : α → UM → UC → Prop} {Q : β × UC → Prop} (h : Ev_ F (fun r => P r.1.1 r.1.2 r.2)) (hz : ∀ a u c, P a u c → u.2 = z + c.1) (g : ∀ a u c, P a u c → Ev_ (fun n => G n a u) (fun r => Q (r.1, u_add c r.2))) : Ev_ (fun n => u_bc z (F n) (G n)) Q := by
  obtain ⟨N, ⟨⟨a, u⟩, c⟩, h1, h2⟩ := h
  obtain ⟨M, ⟨y, e⟩, h3, h4⟩ := g a u c h1
  refine ⟨max N M, (y, u_add c e), h3, fun n hn => ?_⟩
  show u_bc z (F n) (G n) = _
  rw [h2 n (by omega)]
  show m_g (decide (u.2 = z + c.1)) (u_ac c (G n a u)) = _
  rw [decide_eq_true (hz a u c h1), m_gT, show G n a u = _ from h4 n (by omega)]
  rfl
theorem ev_bl {α β : Type} {F : Nat → Option (α × UC)} {G : Nat → α → Option (β × UC)} {P : α → UC → Prop} {Q : β × UC → Prop} (h : Ev_ F (fun r => P r.1 r.2)) (g : ∀ a c, P a c → Ev_ (fun n => G n a) (fun r => Q (r.1, u_add c r.2))) : Ev_ (fun n => u_bl (F n) (G n)) Q := by
  obtain ⟨N, ⟨a, c⟩, h1, h2⟩ := h
  obtain ⟨M, ⟨y, e⟩, h3, h4⟩ := g a c h1
  refine ⟨max N M, (y, u_add c e), h3, fun n hn => ?_⟩
  show u_bl (F n) (G n) = _
  rw [h2 n (by omega)]
  show u_ac c (G n a) = _
  rw [show G n a = _ from h4 n (by omega)]
  rfl
/-- a loop that may make something: what was made so far is told -/
theorem ev_ul {σ ρ β : Type} {B : Nat → σ → Option ((σ ⊕ ρ) × UC)} {Q : ρ → UC → Prop} (mu : β → Nat) (I : β → σ → UC → Prop) (step : ∀ b s c, I b s c → Ev_ (fun n => B n s) (fun r => match r.1 with
    | .inl s' => ∃ b', I b' s' (u_add c r.2) ∧ mu b' < mu b
    | .inr z => Q z (u_add c r.2))) (b : β) (s : σ) (h : I b s (0, 0)) : Ev_ (fun n => u_lp (B n) n s) (fun r => Q r.1 r.2) := by
  have key : ∀ (m : Nat) (b : β) (s : σ) (c : UC), mu b < m → I b s c → ∃ (N K : Nat) (z : ρ) (e : UC), Q z (u_add c e) ∧ ∀ n k, N ≤ n → K ≤ k → u_lp (B n) k s = some (z, e) := by
    intro m
    induction m with
    | zero => intro b s c hm _; omega
    | succ m ih =>
      intro b s c hm hI
      obtain ⟨N, ⟨r, e⟩, h1, h2⟩ := step b s c hI
      cases r with
      | inl s' =>
        obtain ⟨b', g1, g2⟩ := h1
        obtain ⟨N', K', z, e', h3, h4⟩ := ih b' s' _ (by omega) g1
        refine ⟨max N N', K' + 1, z, u_add e e', by rw [← u_add_assoc]; exact h3, fun n k hn hk => ?_⟩
        obtain ⟨k', rfl⟩ : ∃ k', k = k' + 1 := ⟨k - 1, by omega⟩
        show u_bl (B n s) _ = _
        rw [show B n s = _ from h2 n (by omega)]
        show u_ac e (u_lp (B n) k' s') = _
        rw [h4 n k' (by omega) (by omega)]
        rfl
      | inr z =>
        refine ⟨N, 1, z, e, h1, fun n k hn hk => ?_⟩
        obtain ⟨k', rfl⟩ : ∃ k', k = k' + 1 := ⟨k - 1, by omega⟩
        show u_bl (B n s) _ = _
        rw [show B n s = _ from h2 n hn]
        show u_ac e (some (z, (0, 0))) = _
        show some (z, u_add e (0, 0)) = _
        rfl
  obtain ⟨N, K, z, e, h1, h2⟩ := key (mu b + 1) b s (0, 0) (by omega) h
  rw [u_add_0] at h1
  exact ⟨max N K, (z, e), h1, fun n hn => h2 n n (by omega) (by omega)⟩
/-- a loop that counts and makes nothing -/
theorem ev_uf {σ ρ : Type} {B : Nat → σ → Option ((σ ⊕ ρ) × UC)} {Q : ρ → Prop} (N : Nat) (P : Nat → σ → Prop) (step : ∀ i s, i < N → P i s → Ev_ (fun n => B n s) (fun r => ∃ s', r = (.inl s', (0, 0)) ∧ P (i + 1) s')) (fin : ∀ s, P N s → Ev_ (fun n => B n s) (fun r => ∃ z, r = (.inr z, (0, 0)) ∧ Q z)) (s : σ) (h : P 0 s) : Ev_ (fun n => u_lp (B n) n s) (fun r => r.2 = (0, 0) ∧ Q r.1) := by
  refine ev_w (ev_ul (Q := fun z c => c = (0, 0) ∧ Q z) (fun i => N - i + 1) (fun i s c => i ≤ N ∧ P i s ∧ c = (0, 0)) (fun i s c hI => ?_) 0 s ⟨Nat.zero_le _, h, rfl⟩) (fun r hr => hr)
  obtain ⟨h1, h2, rfl⟩ := hI
  by_cases c : i < N
  · refine ev_w (step i s c h2) (fun r hr => ?_)
    obtain ⟨s', rfl, h3⟩ := hr
    exact ⟨i + 1, ⟨by omega, h3, rfl⟩, by omega⟩
  · have e : i = N := by omega
    subst e
    refine ev_w (fin s h2) (fun r hr => ?_)
    obtain ⟨z, rfl, h3⟩ := hr
    exact ⟨rfl, h3⟩
