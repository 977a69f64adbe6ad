set_option maxRecDepth 100000
/-! A mirror answers, with enough fuel, just so -/
def Ev_ {α : Type} (F : Nat → Option α) (Q : α → Prop) : Prop := ∃ (N : Nat) (r : α), Q r ∧ ∀ n, N ≤ n → F n = some r
theorem ev_some {α : Type} {Q : α → Prop} {r : α} (h : Q r) : Ev_ (fun _ => some r) Q := ⟨0, r, h, fun _ _ => rfl⟩
theorem ev_eq {α : Type} {F : Nat → Option α} {Q : α → Prop} {r : α} (h : ∀ n, F n = some r) (hq : Q r) : Ev_ F Q := ⟨0, r, hq, fun n _ => h n⟩
theorem ev_w {α : Type} {F : Nat → Option α} {P Q : α → Prop} (h : Ev_ F P) (k : ∀ r, P r → Q r) : Ev_ F Q := by
  obtain ⟨N, r, h1, h2⟩ := h
  exact ⟨N, r, k r h1, h2⟩
theorem ev_b {α β : Type} {F : Nat → Option α} {K : Nat → α → Option β} {P : α → Prop} {Q : β → Prop} (h : Ev_ F P) (k : ∀ r, P r → Ev_ (fun n => K n r) Q) : Ev_ (fun n => m_b (F n) (K n)) Q := by
  obtain ⟨N, r, h1, h2⟩ := h
  obtain ⟨M, z, h3, h4⟩ := k r h1
  exact ⟨max N M, z, h3, fun n hn => by
    show m_b (F n) (K n) = some z
    rw [h2 n (by omega)]; exact h4 n (by omega)⟩
theorem ev_b1 {α β : Type} {x : Option α} {r : α} {K : Nat → α → Option β} {Q : β → Prop} (h : x = some r) (k : Ev_ (fun n => K n r) Q) : Ev_ (fun n => m_b x (K n)) Q := by
  subst h; exact k
theorem ev_bn {α β : Type} {F : Nat → Option α} {r : α} {K : Nat → α → Option β} {Q : β → Prop} (h : ∀ n, F n = some r) (k : Ev_ (fun n => K n r) Q) : Ev_ (fun n => m_b (F n) (K n)) Q := by
  obtain ⟨M, z, h3, h4⟩ := k
  exact ⟨M, z, h3, fun n hn => by show m_b (F n) (K n) = some z; rw [h n]; exact h4 n hn⟩
theorem ev_b2 {α β γ : Type} {F : Nat → Option (α × β)} {K : Nat → α → β → Option γ} {P : α × β → Prop} {Q : γ → Prop} (h : Ev_ F P) (k : ∀ a b, P (a, b) → Ev_ (fun n => K n a b) Q) : Ev_ (fun n => m_b2 (F n) (K n)) Q := by
  obtain ⟨N, ⟨a, b⟩, h1, h2⟩ := h
  obtain ⟨M, z, h3, h4⟩ := k a b h1
  exact ⟨max N M, z, h3, fun n hn => by
    show m_b2 (F n) (K n) = some z
    rw [h2 n (by omega)]; exact h4 n (by omega)⟩
theorem ev_g {α : Type} {b : Bool} {F : Nat → Option α} {Q : α → Prop} (h : b = true) (k : Ev_ F Q) : Ev_ (fun n => m_g b (F n)) Q := by
  subst h; exact k
theorem ev_if {α : Type} {c : Prop} [Decidable c] {F G : Nat → Option α} {Q : α → Prop} (h1 : c → Ev_ F Q) (h2 : ¬ c → Ev_ G Q) : Ev_ (fun n => m_if c (F n) (G n)) Q := by
  by_cases h : c
  · simp only [m_if, if_pos h]; exact h1 h
  · simp only [m_if, if_neg h]; exact h2 h
theorem ev_ifT {α : Type} {c : Prop} [Decidable c] {F G : Nat → Option α} {Q : α → Prop} (h : c) (h1 : Ev_ F Q) : Ev_ (fun n => m_if c (F n) (G n)) Q := by
  simp only [m_if, if_pos h]; exact h1
theorem ev_ifF {α : Type} {c : Prop} [Decidable c] {F G : Nat → Option α} {Q : α → Prop} (h : ¬ c) (h1 : Ev_ G Q) : Ev_ (fun n => m_if c (F n) (G n)) Q := by
  simp only [m_if, if_neg h]; exact h1
/-- a test by a fact of plain numbers -/
theorem ev_ifq {α : Type} {c c' : Prop} [Decidable c] {F G : Nat → Option α} {Q : α → Prop} (e : c ↔ c') (h1 : c' → Ev_ F Q) (h2 : ¬ c' → Ev_ G Q) : Ev_ (fun n => m_if c (F n) (G n)) Q :=
  ev_if (fun h => h1 (e.mp h)) (fun h => h2 (fun h' => h (e.mpr h')))
theorem ev_sL {α β γ : Type} {a : α} {f : Nat → α → Option γ} {g : Nat → β → Option γ} {Q : γ → Prop} (k : Ev_ (fun n => f n a) Q) : Ev_ (fun n => m_s (.inl a) (f n) (g n)) Q := k
theorem ev_sR {α β γ : Type} {b : β} {f : Nat → α → Option γ} {g : Nat → β → Option γ} {Q : γ → Prop} (k : Ev_ (fun n => g n b) Q) : Ev_ (fun n => m_s (.inr b) (f n) (g n)) Q := k
abbrev lq_ {σ ρ : Type} (I : σ → Prop) (Q : ρ → Prop) (r : σ ⊕ ρ) : Prop := match r with
  | .inl s => I s
  | .inr z => Q z
/-- a loop, by a measure that falls -/
theorem ev_lp {σ ρ : Type} {B : Nat → σ → Option (σ ⊕ ρ)} {Q : ρ → Prop} (I : σ → Prop) (mu : σ → Nat) (step : ∀ s, I s → Ev_ (fun n => B n s) (lq_ (fun s' => I s' ∧ mu s' < mu s) Q)) (s : σ) (h : I s) : Ev_ (fun n => m_lp (B n) n s) Q := by
  have key : ∀ (m : Nat) (s : σ), mu s < m → I s → ∃ (N K : Nat) (z : ρ), Q z ∧ ∀ n k, N ≤ n → K ≤ k → m_lp (B n) k s = some z := by
    intro m
    induction m with
    | zero => intro s hm _; omega
    | succ m ih =>
      intro s hm hI
      obtain ⟨N, r, h1, h2⟩ := step s hI
      cases r with
      | inl s' =>
        obtain ⟨N', K', z, h3, h4⟩ := ih s' (by have := h1.2; omega) h1.1
        refine ⟨max N N', K' + 1, z, h3, fun n k hn hk => ?_⟩
        obtain ⟨k', rfl⟩ : ∃ k', k = k' + 1 := ⟨k - 1, by omega⟩
        show m_b (B n s) _ = some z
        rw [show B n s = _ from h2 n (by omega)]
        exact h4 n k' (by omega) (by omega)
      | inr z =>
        refine ⟨N, 1, z, h1, fun n k hn hk => ?_⟩
        obtain ⟨k', rfl⟩ : ∃ k', k = k' + 1 := ⟨k - 1, by omega⟩
        show m_b (B n s) _ = some z
        rw [show B n s = _ from h2 n hn]; rfl
  obtain ⟨N, K, z, h1, h2⟩ := key (mu s + 1) s (by omega) h
  exact ⟨max N K, z, h1, fun n hn => h2 n n (by omega) (by omega)⟩
/-- a loop that counts up to N -/
theorem ev_for {σ ρ : Type} {B : Nat → σ → Option (σ ⊕ ρ)} {Q : ρ → Prop} (N : Nat) (P : Nat → σ → Prop) (step : ∀ i s, i < N → P i s → Ev_ (fun n => B n s) (fun r => ∃ s', r = .inl s' ∧ P (i + 1) s')) (fin : ∀ s, P N s → Ev_ (fun n => B n s) (fun r => ∃ z, r = .inr z ∧ Q z)) (s : σ) (h : P 0 s) : Ev_ (fun n => m_lp (B n) n s) Q := by
  have key : ∀ (m i : Nat) (s : σ), i + m = N → P i s → ∃ (M K : Nat) (z : ρ), Q z ∧ ∀ n k, M ≤ n → K ≤ k → m_lp (B n) k s = some z := by
    intro m
    induction m with
    | zero =>
      intro i s hi hP
      have e : i = N := by omega
      subst e
      obtain ⟨M, r, ⟨z, rfl, h1⟩, h2⟩ := fin s hP
      refine ⟨M, 1, z, h1, fun n k hn hk => ?_⟩
      obtain ⟨k', rfl⟩ : ∃ k', k = k' + 1 := ⟨k - 1, by omega⟩
      show m_b (B n s) _ = some z
      rw [show B n s = _ from h2 n hn]; rfl
    | succ m ih =>
      intro i s hi hP
      obtain ⟨M, r, ⟨s', rfl, h1⟩, h2⟩ := step i s (by omega) hP
      obtain ⟨M', K', z, h3, h4⟩ := ih (i + 1) s' (by omega) h1
      refine ⟨max M M', K' + 1, z, h3, fun n k hn hk => ?_⟩
      obtain ⟨k', rfl⟩ : ∃ k', k = k' + 1 := ⟨k - 1, by omega⟩
      show m_b (B n s) _ = some z
      rw [show B n s = _ from h2 n (by omega)]
      exact h4 n k' (by omega) (by omega)
  obtain ⟨M, K, z, h1, h2⟩ := key N 0 s (by omega) h
  exact ⟨max M K, z, h1, fun n hn => h2 n n (by omega) (by omega)⟩
/-! Whole numbers as the machine's ints -/
def q_ (i : Int) : Int32 := Int32.ofInt i
theorem q_add (a b : Int) : q_ a + q_ b = q_ (a + b) := (Int32.ofInt_add a b).symm
theorem q_sub (a b : Int) : q_ a - q_ b = q_ (a - b) := (Int32.ofInt_sub a b).symm
theorem q_mul (a b : Int) : q_ a * q_ b = q_ (a * b) := (Int32.ofInt_mul a b).symm
theorem q_neg (a : Int) : - q_ a = q_ (- a) := (Int32.ofInt_neg a).symm
theorem q_lit (n : Nat) : (OfNat.ofNat n : Int32) = q_ (n : Int) := (Int32.ofInt_eq_ofNat).symm
theorem q_0 : (0 : Int32) = q_ 0 := rfl
theorem q_1 : (1 : Int32) = q_ 1 := rfl
theorem q_m1 : (-1 : Int32) = q_ (-1) := rfl
/-- fits -/
def qf_ (i : Int) : Prop := -2147483648 ≤ i ∧ i < 2147483648
theorem q_toInt {i : Int} (h : qf_ i) : (q_ i).toInt = i := Int32.toInt_ofInt_of_le h.1 h.2
theorem q_le {a b : Int} (ha : qf_ a) (hb : qf_ b) : q_ a ≤ q_ b ↔ a ≤ b := by rw [Int32.le_iff_toInt_le, q_toInt ha, q_toInt hb]
theorem q_lt {a b : Int} (ha : qf_ a) (hb : qf_ b) : q_ a < q_ b ↔ a < b := by rw [Int32.lt_iff_toInt_lt, q_toInt ha, q_toInt hb]
theorem q_eq {a b : Int} (ha : qf_ a) (hb : qf_ b) : q_ a = q_ b ↔ a = b := by
  constructor
  · intro h
    rw [← q_toInt ha, ← q_toInt hb, h]
  · intro h; rw [h]
theorem q_nat {i : Int} (h : 0 ≤ i) (h2 : i < 2147483648) : (q_ i).toNatClampNeg = i.toNat := by
  unfold Int32.toNatClampNeg; rw [q_toInt ⟨by omega, h2⟩]
theorem q_natN {i : Nat} (h : i < 2147483648) : (q_ (i : Int)).toNatClampNeg = i := by
  rw [q_nat (by omega) (by omega), Int.toNat_natCast]
theorem q_in {i : Int} {n : Nat} (h : 0 ≤ i) (h2 : i < n) (h3 : n < 2147483648) : m_in (q_ i) n = true := by
  unfold m_in
  rw [decide_eq_true_eq, q_nat h (by omega), q_0, q_lt ⟨by omega, by omega⟩ ⟨by omega, by omega⟩]
  omega
theorem q_of (x : Int32) : ∃ i, qf_ i ∧ x = q_ i := ⟨x.toInt, ⟨Int32.le_toInt x, Int32.toInt_lt x⟩, (Int32.ofInt_toInt x).symm⟩
