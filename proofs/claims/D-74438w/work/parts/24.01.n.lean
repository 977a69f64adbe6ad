set_option maxRecDepth 100000
/-! Small numbers as the machine's ints -/
def n_ (i : Nat) : Int32 := q_ (i : Int)
theorem n_lit (n : Nat) : (OfNat.ofNat n : Int32) = n_ n := (Int32.ofInt_eq_ofNat).symm
theorem n_add (a b : Nat) : n_ a + n_ b = n_ (a + b) := by unfold n_; rw [q_add]; rfl
theorem n_mul (a b : Nat) : n_ a * n_ b = n_ (a * b) := by unfold n_; rw [q_mul]; rfl
theorem n_sub {a b : Nat} (h : b ≤ a) : n_ a - n_ b = n_ (a - b) := by unfold n_; rw [q_sub]; congr 1; omega
theorem n_nat {a : Nat} (h : a < 2147483648) : (n_ a).toNatClampNeg = a := q_natN h
theorem n_in {a N : Nat} (h : a < N) (h2 : N < 2147483648) : m_in (n_ a) N = true := q_in (by omega) (by omega) h2
theorem n_le {a b : Nat} (ha : a < 2147483648) (hb : b < 2147483648) : (n_ a ≤ n_ b) = (a ≤ b) := by
  unfold n_; rw [q_le ⟨by omega, by omega⟩ ⟨by omega, by omega⟩]; simp
theorem n_lt {a b : Nat} (ha : a < 2147483648) (hb : b < 2147483648) : (n_ a < n_ b) = (a < b) := by
  unfold n_; rw [q_lt ⟨by omega, by omega⟩ ⟨by omega, by omega⟩]; simp
theorem n_eq {a b : Nat} (ha : a < 2147483648) (hb : b < 2147483648) : (n_ a = n_ b) = (a = b) := by
  unfold n_; rw [q_eq ⟨by omega, by omega⟩ ⟨by omega, by omega⟩]; simp only [eq_iff_iff]; omega
theorem nq_le {a : Nat} {b : Int} (ha : a < 2147483648) (h1 : -2147483648 ≤ b) (h2 : b < 2147483648) : (n_ a ≤ q_ b) = ((a : Int) ≤ b) := by
  unfold n_; rw [q_le ⟨by omega, by omega⟩ ⟨h1, h2⟩]
theorem qn_le {a : Nat} {b : Int} (ha : a < 2147483648) (h1 : -2147483648 ≤ b) (h2 : b < 2147483648) : (q_ b ≤ n_ a) = (b ≤ (a : Int)) := by
  unfold n_; rw [q_le ⟨h1, h2⟩ ⟨by omega, by omega⟩]
theorem nq_lt {a : Nat} {b : Int} (ha : a < 2147483648) (h1 : -2147483648 ≤ b) (h2 : b < 2147483648) : (n_ a < q_ b) = ((a : Int) < b) := by
  unfold n_; rw [q_lt ⟨by omega, by omega⟩ ⟨h1, h2⟩]
theorem qn_lt {a : Nat} {b : Int} (ha : a < 2147483648) (h1 : -2147483648 ≤ b) (h2 : b < 2147483648) : (q_ b < n_ a) = (b < (a : Int)) := by
  unfold n_; rw [q_lt ⟨h1, h2⟩ ⟨by omega, by omega⟩]
theorem qn_eq {a : Nat} {b : Int} (ha : a < 2147483648) (h1 : -2147483648 ≤ b) (h2 : b < 2147483648) : (q_ b = n_ a) = (b = (a : Int)) := by
  unfold n_; rw [q_eq ⟨h1, h2⟩ ⟨by omega, by omega⟩]
theorem q_le' {a b : Int} (h1 : -2147483648 ≤ a) (h2 : a < 2147483648) (h3 : -2147483648 ≤ b) (h4 : b < 2147483648) : (q_ a ≤ q_ b) = (a ≤ b) := by rw [q_le ⟨h1, h2⟩ ⟨h3, h4⟩]
theorem q_lt' {a b : Int} (h1 : -2147483648 ≤ a) (h2 : a < 2147483648) (h3 : -2147483648 ≤ b) (h4 : b < 2147483648) : (q_ a < q_ b) = (a < b) := by rw [q_lt ⟨h1, h2⟩ ⟨h3, h4⟩]
theorem q_eq' {a b : Int} (h1 : -2147483648 ≤ a) (h2 : a < 2147483648) (h3 : -2147483648 ≤ b) (h4 : b < 2147483648) : (q_ a = q_ b) = (a = b) := by rw [q_eq ⟨h1, h2⟩ ⟨h3, h4⟩]
theorem n_q (a : Nat) : n_ a = q_ (a : Int) := (rfl)
theorem qn_add (a : Int) (b : Nat) : q_ a + n_ b = q_ (a + b) := by unfold n_; rw [q_add]
theorem nq_add (a : Nat) (b : Int) : n_ a + q_ b = q_ (a + b) := by unfold n_; rw [q_add]
theorem m_gT {α : Type} (x : Option α) : m_g true x = x := (rfl)
theorem m_bs {α β : Type} (a : α) (k : α → Option β) : m_b (some a) k = k a := (rfl)
