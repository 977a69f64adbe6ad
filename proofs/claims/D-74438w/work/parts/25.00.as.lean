set_option maxRecDepth 100000
/-! The state, plainly: trades (from, to, amount, kind, whether kept), caps by couples, the mode -/
abbrev Tr_ : Type := Nat × Nat × Int × Nat × Bool
abbrev SS_ : Type := List Tr_ × (Nat → Int) × Nat
def tr_fr (k : Nat) (t : Tr_) : Bool := decide (t.2.2.2.1 = k) && !t.2.2.2.2
def ts_sum (p : Tr_ → Bool) : List Tr_ → Int
  | [] => 0
  | t :: l => (if p t then t.2.2.1 else 0) + ts_sum p l
theorem ts_sum_app (p : Tr_ → Bool) (l l' : List Tr_) : ts_sum p (l ++ l') = ts_sum p l + ts_sum p l' := by
  induction l with
  | nil => simp [ts_sum]
  | cons t l ih => simp only [List.cons_append, ts_sum, ih]; omega
/-- what goes free from one to another one in a kind, by the couple -/
def ss_fl (ts : List Tr_) (k : Nat) (c : Nat) : Int := ts_sum (fun t => tr_fr k t && decide (8 * t.1 + t.2.1 = c)) ts
/-- one is left out -/
def fl_wo (w : Int) (f : Nat → Int) (c : Nat) : Int := if ((c / 8 : Nat) : Int) = w ∨ ((c % 8 : Nat) : Int) = w then 0 else f c
def tr_ok (np nk : Nat) (t : Tr_) : Prop := t.1 < np ∧ t.2.1 < np ∧ t.1 ≠ t.2.1 ∧ 1 ≤ t.2.2.1 ∧ t.2.2.1 < 2147483648 ∧ t.2.2.2.1 < nk
def ss_ok (np nk : Nat) (s : SS_) : Prop := np ≤ 8 ∧ nk ≤ 4 ∧ s.1.length ≤ 40 ∧ (∀ t ∈ s.1, tr_ok np nk t) ∧ (∀ k, k < 64 → 0 ≤ s.2.1 k ∧ s.2.1 k ≤ 99999999) ∧ s.2.2 < 4
/-- no sum is too great -/
def ss_nw (np nk : Nat) (s : SS_) : Prop := (∀ k, k < nk → ∀ p, p < np → fs_out (ss_fl s.1 k) p + fs_in (ss_fl s.1 k) p < 2047483648) ∧ ∀ k, k < nk → fs_tot (ss_fl s.1 k) < 4294967295
theorem ts_sum_nn {p : Tr_ → Bool} : ∀ {l : List Tr_}, (∀ t ∈ l, 0 ≤ t.2.2.1) → 0 ≤ ts_sum p l := by
  intro l
  induction l with
  | nil => intro _; exact Int.le_refl _
  | cons t l ih =>
    intro h
    have h1 := ih (fun x hx => h x (List.mem_cons_of_mem _ hx))
    have h2 := h t List.mem_cons_self
    simp only [ts_sum]
    split <;> omega
theorem ss_fl_nn {np nk : Nat} {s : SS_} (h : ss_ok np nk s) (k c : Nat) : 0 ≤ ss_fl s.1 k c := ts_sum_nn (fun t ht => by have := (h.2.2.2.1 t ht).2.2.2.1; omega)
theorem ts_sum_0 {p : Tr_ → Bool} : ∀ {l : List Tr_}, (∀ t ∈ l, p t = false) → ts_sum p l = 0 := by
  intro l
  induction l with
  | nil => intro _; rfl
  | cons t l ih =>
    intro h
    simp only [ts_sum, h t List.mem_cons_self, ih (fun x hx => h x (List.mem_cons_of_mem _ hx))]
    rfl
/-- there is something only between two parties -/
theorem ss_fl_cp {np nk : Nat} {s : SS_} (h : ss_ok np nk s) (k c : Nat) (hc : ¬ fs_cp np c) : ss_fl s.1 k c = 0 := ts_sum_0 (fun t ht => by
  obtain ⟨h1, h2, h3, _⟩ := h.2.2.2.1 t ht
  have := h.1
  by_cases e : 8 * t.1 + t.2.1 = c
  · exact absurd (by subst e; exact (fs_cp_at (by omega)).mpr ⟨h1, h2, h3⟩) hc
  · simp [e])
theorem fs_out_ge {f : Nat → Int} (hn : ∀ k, 0 ≤ f k) {p q : Nat} (hq : q < 8) : f (8 * p + q) ≤ fs_out f p := fw_sm_ge1 (f := fun b => f (8 * p + b)) (fun i _ => hn _) hq
theorem fs_in_ge {f : Nat → Int} (hn : ∀ k, 0 ≤ f k) {p q : Nat} (hq : q < 8) : f (8 * q + p) ≤ fs_in f p := fw_sm_ge1 (f := fun b => f (8 * b + p)) (fun i _ => hn _) hq
theorem fs_out_nn {f : Nat → Int} (hn : ∀ k, 0 ≤ f k) (p : Nat) : 0 ≤ fs_out f p ∧ 0 ≤ fs_in f p := ⟨fw_sm_nonneg (fun i _ => hn _), fw_sm_nonneg (fun i _ => hn _)⟩
/-! The reference's rows -/
def rf_V (s : SS_) (A : Nat → Int32) : Prop := A 0 = n_ s.1.length ∧ A 1 = n_ s.2.2 ∧ (∀ i (h : i < s.1.length), A (2 + 5 * i) = n_ (s.1[i]).1 ∧ A (2 + 5 * i + 1) = n_ (s.1[i]).2.1 ∧ A (2 + 5 * i + 2) = q_ (s.1[i]).2.2.1 ∧ A (2 + 5 * i + 3) = n_ (s.1[i]).2.2.2.1 ∧ A (2 + 5 * i + 4) = n_ (if (s.1[i]).2.2.2.2 then 1 else 0)) ∧ ∀ k, k < 64 → A (202 + k) = q_ (s.2.1 k)
/-- what else may be otherwise: the arrays told -/
def ms_ (ks : List Nat) (st st' : MS) : Prop := st'.1 = st.1 ∧ st'.2.2 = st.2.2 ∧ ∀ k, k ∉ ks → st'.2.1 k = st.2.1 k
theorem ms_rfl (ks : List Nat) (st : MS) : ms_ ks st st := ⟨rfl, rfl, fun _ _ => rfl⟩
theorem ms_tr {ks : List Nat} {a b c : MS} (h : ms_ ks a b) (g : ms_ ks b c) : ms_ ks a c := ⟨g.1.trans h.1, g.2.1.trans h.2.1, fun k hk => (g.2.2 k hk).trans (h.2.2 k hk)⟩
theorem ms_sub {ks ks' : List Nat} {a b : MS} (h : ms_ ks a b) (hs : ∀ k ∈ ks, k ∈ ks') : ms_ ks' a b := ⟨h.1, h.2.1, fun k hk => h.2.2 k (fun h' => hk (hs k h'))⟩
theorem ms_sa {ks : List Nat} {k : Nat} (hk : k ∈ ks) (st : MS) (i : Nat) (v : Int32) : ms_ ks st (m_sa st k i v) := ⟨rfl, rfl, fun j hj => by
  have hne : j ≠ k := fun e => hj (e ▸ hk)
  show va_up st.2.1 k _ j = _
  exact if_neg hne⟩
theorem sa_at (st : MS) (k i : Nat) (v : Int32) : (m_sa st k i v).2.1 k = upd (st.2.1 k) i v := if_pos (rfl)
theorem sa_ne (st : MS) {k j : Nat} (h : j ≠ k) (i : Nat) (v : Int32) : (m_sa st k i v).2.1 j = st.2.1 j := if_neg h
theorem upd_at (f : Nat → Int32) (k : Nat) (v : Int32) : upd f k v k = v := if_pos rfl
theorem upd_ne {f : Nat → Int32} {k j : Nat} {v : Int32} (h : j ≠ k) : upd f k v j = f j := if_neg h
/-! small things of the reference -/
theorem cmp_lt (x y : Int64) : (lg_cmp x y < (0 : Int32)) ↔ x.toInt < y.toInt := by
  unfold lg_cmp
  by_cases h : x > y
  · rw [if_pos h]
    have h' : y.toInt < x.toInt := Int64.lt_iff_toInt_lt.mp h
    constructor
    · intro q; exact absurd q (by decide)
    · intro q; omega
  · rw [if_neg h]
    have h' : ¬ y.toInt < x.toInt := fun q => h (Int64.lt_iff_toInt_lt.mpr q)
    by_cases e : x = y
    · rw [if_pos e]
      constructor
      · intro q; exact absurd q (by decide)
      · intro q; rw [e] at q; omega
    · rw [if_neg e]
      have : x.toInt ≠ y.toInt := fun q => e (Int64.toInt_inj.mp q)
      constructor
      · intro _; omega
      · intro _; decide
theorem cmp_gt (x y : Int64) : ((0 : Int32) < lg_cmp x y) ↔ y.toInt < x.toInt := by
  unfold lg_cmp
  by_cases h : x > y
  · rw [if_pos h]
    have h' : y.toInt < x.toInt := Int64.lt_iff_toInt_lt.mp h
    exact ⟨fun _ => h', fun _ => by decide⟩
  · rw [if_neg h]
    have h' : ¬ y.toInt < x.toInt := fun q => h (Int64.lt_iff_toInt_lt.mpr q)
    by_cases e : x = y
    · rw [if_pos e]; exact ⟨fun q => absurd q (by decide), fun q => absurd q h'⟩
    · rw [if_neg e]; exact ⟨fun q => absurd q (by decide), fun q => absurd q h'⟩
def b_ (p : Prop) [Decidable p] : Int32 := if p then 1 else 0
theorem b_T {p : Prop} [Decidable p] (h : p) : b_ p = 1 := if_pos h
theorem b_F {p : Prop} [Decidable p] (h : ¬ p) : b_ p = 0 := if_neg h
theorem b_0 {p : Prop} [Decidable p] : (b_ p = (0 : Int32)) ↔ ¬ p := by
  by_cases h : p
  · rw [b_T h]; exact ⟨fun q => absurd q (by decide), fun q => absurd h q⟩
  · rw [b_F h]; exact ⟨fun _ => h, fun _ => rfl⟩
theorem b_01 {p : Prop} [Decidable p] : m_01 (b_ p) = true := by
  by_cases h : p
  · rw [b_T h]; decide
  · rw [b_F h]; decide
theorem rf_isIn (n : Nat) (x y z : Int64) : f_isIn n x y z = some (b_ (y.toInt ≤ x.toInt ∧ x.toInt ≤ z.toInt)) := by
  unfold f_isIn f_isIn_J17 f_isIn_J18 m_if
  by_cases h1 : x.toInt < y.toInt
  · rw [if_pos ((cmp_lt x y).mpr h1), b_F (by omega)]; rfl
  · rw [if_neg (fun q => h1 ((cmp_lt x y).mp q))]
    by_cases h2 : z.toInt < x.toInt
    · rw [if_pos ((cmp_gt x z).mpr h2), b_F (by omega)]; rfl
    · rw [if_neg (fun q => h2 ((cmp_gt x z).mp q)), b_T (by omega)]; rfl
theorem q_64 {i : Int} (h : qf_ i) : (q_ i).toInt64.toInt = i := by rw [Int32.toInt_toInt64, q_toInt h]
