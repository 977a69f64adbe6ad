set_option maxRecDepth 100000
/-! A set of nodes that no arc with something left leaves: nothing more can go out of it -/
theorem fw_sm_D {N m : Nat} {src : Nat → Nat} (h : ∀ e, e < m → src e < N) (R : Nat → Int) (L : Nat → Int) : fw_sm N (fun v => R v * fw_D m src L v) = fw_sm m (fun e => R (src e) * L e) := (fw_piD h R L).symm
theorem fw_cut {N m : Nat} {src dst rev : Nat → Nat} (net : fw_Net N m src dst rev) {L L' : Nat → Int} (hL' : ∀ e, e < m → 0 ≤ L' e) (hL : ∀ e, e < m → 0 ≤ L e) (hcap : ∀ e, e < m → L e + L (rev e) = L' e + L' (rev e))
    (R : Nat → Int) (h01 : ∀ v, R v = 0 ∨ R v = 1) (hcl : ∀ e, e < m → 0 < L e → R (src e) = 1 → R (dst e) = 1) : fw_sm N (fun v => R v * fw_D m src L v) ≤ fw_sm N (fun v => R v * fw_D m src L' v) := by
  have hs : ∀ e, e < m → src e < N := fun e he => (net e he).1
  rw [fw_sm_D hs, fw_sm_D hs]
  -- twice the sum, each arc beside its reverse
  have hre := fun e he => (show rev e < m ∧ rev (rev e) = e from ⟨(net e he).2.2.1, (net e he).2.2.2.1⟩)
  have d1 := fw_sm_rev hre (fun e => R (src e) * L e)
  have d2 := fw_sm_rev hre (fun e => R (src e) * L' e)
  have hle : fw_sm m (fun e => R (src e) * L e + R (src (rev e)) * L (rev e)) ≤ fw_sm m (fun e => R (src e) * L' e + R (src (rev e)) * L' (rev e)) := fw_sm_le (fun e he => by
    have hc := hcap e he
    have hn := net e he
    rw [hn.2.2.2.2.1]
    have a1 := hL e he
    have a2 := hL _ hn.2.2.1
    have b1 := hL' e he
    have b2 := hL' _ hn.2.2.1
    rcases h01 (src e) with h | h <;> rcases h01 (dst e) with h' | h' <;> rw [h, h'] <;> simp only [Int.zero_mul, Int.one_mul]
    · exact Int.le_refl _
    · have : ¬ 0 < L (rev e) := fun q => by
        have := hcl _ hn.2.2.1 q (by rw [hn.2.2.2.2.1]; exact h')
        rw [hn.2.2.2.2.2] at this; omega
      omega
    · have : ¬ 0 < L e := fun q => by
        have := hcl e he q h
        omega
      omega
    · omega)
  rw [fw_sm_add, fw_sm_add] at hle
  omega
/-! What is asked: nets, bounds of couples, what may go through a party (none: anything) -/
def fs_cp (n k : Nat) : Prop := k / 8 < n ∧ k % 8 < n ∧ k / 8 ≠ k % 8
def fs_out (x : Nat → Int) (a : Nat) : Int := fw_sm 8 (fun b => x (8 * a + b))
def fs_in (x : Nat → Int) (a : Nat) : Int := fw_sm 8 (fun b => x (8 * b + a))
def fs_tot (x : Nat → Int) : Int := fw_sm 64 x
def fs_thr (th : Option (Nat → Int)) (x : Nat → Int) (a : Nat) : Prop := match th with
  | none => True
  | some t => min (fs_out x a) (fs_in x a) ≤ t a
def fs_F (n : Nat) (nu be : Nat → Int) (th : Option (Nat → Int)) (x : Nat → Int) : Prop := (∀ k, k < 64 → fs_cp n k → 0 ≤ x k ∧ x k ≤ be k) ∧ (∀ k, k < 64 → ¬ fs_cp n k → x k = 0) ∧ (∀ a, a < n → fs_out x a - fs_in x a = nu a) ∧ (∀ a, a < n → fs_thr th x a)
/-- one of the least total -/
def fs_O (n : Nat) (nu be : Nat → Int) (th : Option (Nat → Int)) (x : Nat → Int) : Prop := fs_F n nu be th x ∧ ∀ y, fs_F n nu be th y → fs_tot x ≤ fs_tot y
/-- one of the least total that has, among those, the least (the greatest) at a couple -/
def fs_Lo (n : Nat) (nu be : Nat → Int) (th : Option (Nat → Int)) (k : Nat) (x : Nat → Int) : Prop := fs_O n nu be th x ∧ ∀ y, fs_O n nu be th y → x k ≤ y k
def fs_Hi (n : Nat) (nu be : Nat → Int) (th : Option (Nat → Int)) (k : Nat) (x : Nat → Int) : Prop := fs_O n nu be th x ∧ ∀ y, fs_O n nu be th y → y k ≤ x k
/-- the first of the least ones -/
def fs_1 (n : Nat) (nu be : Nat → Int) (th : Option (Nat → Int)) (x : Nat → Int) : Prop := fs_O n nu be th x ∧ ∀ k, k < 64 → ∀ y, fs_O n nu be th y → (∀ j, j < k → y j = x j) → x k ≤ y k
theorem fs_1_uniq {n : Nat} {nu be : Nat → Int} {th : Option (Nat → Int)} {x y : Nat → Int} (hx : fs_1 n nu be th x) (hy : fs_1 n nu be th y) : ∀ k, k < 64 → x k = y k := by
  have : ∀ k, k ≤ 64 → ∀ j, j < k → x j = y j := by
    intro k
    induction k with
    | zero => intro _ j hj; exact absurd hj (Nat.not_lt_zero _)
    | succ k ih =>
      intro hk j hj
      have h := ih (by omega)
      by_cases c : j = k
      · subst c
        have h1 := hx.2 j (by omega) y hy.1 (fun i hi => (h i hi).symm)
        have h2 := hy.2 j (by omega) x hx.1 h
        omega
      · exact h j (by omega)
  exact this 64 (Nat.le_refl _)
theorem fs_Lo_uniq {n : Nat} {nu be : Nat → Int} {th : Option (Nat → Int)} {k : Nat} {x y : Nat → Int} (hx : fs_Lo n nu be th k x) (hy : fs_Lo n nu be th k y) : x k = y k := by
  have h1 := hx.2 y hy.1
  have h2 := hy.2 x hx.1
  omega
theorem fs_Hi_uniq {n : Nat} {nu be : Nat → Int} {th : Option (Nat → Int)} {k : Nat} {x y : Nat → Int} (hx : fs_Hi n nu be th k x) (hy : fs_Hi n nu be th k y) : x k = y k := by
  have h1 := hx.2 y hy.1
  have h2 := hy.2 x hx.1
  omega
theorem fs_O_uniq {n : Nat} {nu be : Nat → Int} {th : Option (Nat → Int)} {x y : Nat → Int} (hx : fs_O n nu be th x) (hy : fs_O n nu be th y) : fs_tot x = fs_tot y := by
  have h1 := hx.2 y hy.1
  have h2 := hy.2 x hx.1
  omega
