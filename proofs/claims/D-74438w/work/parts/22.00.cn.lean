set_option maxRecDepth 100000
/-! The component's net: 18 places (0 .. 7 get, 8 .. 15 send, 16 where all begins, 17 where it ends), an arc for each two of them -/
def cn_src (e : Nat) : Nat := e / 18
def cn_dst (e : Nat) : Nat := e % 18
def cn_rev (e : Nat) : Nat := 18 * (e % 18) + e / 18
theorem cn_net : fw_Net 18 324 cn_src cn_dst cn_rev := by
  intro e he
  unfold cn_src cn_dst cn_rev
  refine ⟨?_, ?_, ?_, ?_, ?_, ?_⟩ <;> omega
theorem cn_src_at {p q : Nat} (hq : q < 18) : cn_src (18 * p + q) = p := by unfold cn_src; omega
theorem cn_dst_at {p q : Nat} (hq : q < 18) : cn_dst (18 * p + q) = q := by unfold cn_dst; omega
theorem cn_rev_at {p q : Nat} (hp : p < 18) (hq : q < 18) : cn_rev (18 * p + q) = 18 * q + p := by unfold cn_rev; omega
/-- a couple's step costs 1 -/
def cn_c (e : Nat) : Int := if 8 ≤ e / 18 ∧ e / 18 < 16 ∧ e % 18 < 8 ∧ e / 18 ≠ 8 + e % 18 then 1 else if e / 18 < 8 ∧ 8 ≤ e % 18 ∧ e % 18 < 16 ∧ e % 18 ≠ 8 + e / 18 then -1 else 0
def cn_k (k : Nat) : Nat := 18 * (8 + k / 8) + k % 8
def cn_kr (k : Nat) : Nat := 18 * (k % 8) + (8 + k / 8)
/-- and a bit more or less for one couple -/
def cn_d (k : Nat) (d : Int) (e : Nat) : Int := (if e = cn_k k then d else 0) + (if e = cn_kr k then - d else 0)
theorem cn_c_rev (e : Nat) (he : e < 324) : cn_c (cn_rev e) = - cn_c e := by
  have h1 : cn_rev e / 18 = e % 18 := by unfold cn_rev; omega
  have h2 : cn_rev e % 18 = e / 18 := by unfold cn_rev; omega
  unfold cn_c
  rw [h1, h2]
  by_cases c1 : 8 ≤ e / 18 ∧ e / 18 < 16 ∧ e % 18 < 8 ∧ e / 18 ≠ 8 + e % 18
  · rw [if_pos c1, if_neg (by omega), if_pos (by omega)]
  · rw [if_neg c1]
    by_cases c2 : e / 18 < 8 ∧ 8 ≤ e % 18 ∧ e % 18 < 16 ∧ e % 18 ≠ 8 + e / 18
    · rw [if_pos c2, if_pos (by omega)]; rfl
    · rw [if_neg c2, if_neg (by omega), if_neg (by omega)]; rfl
theorem cn_c_1 (e : Nat) : -1 ≤ cn_c e ∧ cn_c e ≤ 1 := by
  unfold cn_c
  split
  · omega
  · split <;> omega
theorem cn_d_rev {k : Nat} (hk : k < 64) (d : Int) (e : Nat) (he : e < 324) : cn_d k d (cn_rev e) = - cn_d k d e := by
  unfold cn_d
  have h1 : (cn_rev e = cn_k k) = (e = cn_kr k) := by unfold cn_rev cn_k cn_kr; simp only [eq_iff_iff]; omega
  have h2 : (cn_rev e = cn_kr k) = (e = cn_k k) := by unfold cn_rev cn_k cn_kr; simp only [eq_iff_iff]; omega
  simp only [h1, h2]
  by_cases c1 : e = cn_k k <;> by_cases c2 : e = cn_kr k <;> simp only [c1, c2, if_true, if_false] <;> omega
theorem cn_k_ne {k : Nat} (hk : k < 64) : cn_k k ≠ cn_kr k := by unfold cn_k cn_kr; omega
theorem cn_d_1 {k : Nat} (hk : k < 64) {d : Int} (hd : -1 ≤ d ∧ d ≤ 1) (e : Nat) : -1 ≤ cn_d k d e ∧ cn_d k d e ≤ 1 := by
  have := cn_k_ne hk
  unfold cn_d
  by_cases c1 : e = cn_k k
  · rw [if_pos c1, if_neg (by omega)]; omega
  · rw [if_neg c1]
    split <;> omega
def cn_W : Int := 100000000
def cn_w (k : Nat) (d : Int) (e : Nat) : Int := cn_W * cn_c e + cn_d k d e
theorem cn_w_rev {k : Nat} (hk : k < 64) (d : Int) (e : Nat) (he : e < 324) : cn_w k d (cn_rev e) = - cn_w k d e := by
  unfold cn_w
  rw [cn_c_rev e he, cn_d_rev hk d e he, Int.mul_neg]
  omega
/-- what there is at first: caps -/
def cn_L0 (nu be th : Nat → Int) (e : Nat) : Int :=
  if e / 18 < 8 ∧ e % 18 = 8 + e / 18 then th (e / 18)
  else if 8 ≤ e / 18 ∧ e / 18 < 16 ∧ e % 18 < 8 ∧ e / 18 ≠ 8 + e % 18 then be (8 * (e / 18 - 8) + e % 18)
  else if e / 18 = 16 ∧ 8 ≤ e % 18 ∧ e % 18 < 16 then max (nu (e % 18 - 8)) 0
  else if e / 18 < 8 ∧ e % 18 = 17 then max (- nu (e / 18)) 0
  else 0
/-- prices in two parts: by the weight, and a small rest -/
def cn_P (k : Nat) (d : Int) (L : Nat → Int) : Prop := ∃ p q : Nat → Int, (∀ v, v < 18 → -17 ≤ q v ∧ q v ≤ 17) ∧ ∀ e, e < 324 → 0 < L e → 0 ≤ cn_w k d e + (cn_W * p (cn_src e) + q (cn_src e)) - (cn_W * p (cn_dst e) + q (cn_dst e))
def cn_FAR : Int := 2305843009213693951
def cn_I (nu be th : Nat → Int) (k : Nat) (d : Int) (L : Nat → Int) (sent : Int) : Prop := (∀ e, e < 324 → 0 ≤ L e) ∧ (∀ e, e < 324 → L e + L (cn_rev e) = cn_L0 nu be th e + cn_L0 nu be th (cn_rev e)) ∧
  (∀ v, v < 18 → fw_D 324 cn_src L v = fw_D 324 cn_src (cn_L0 nu be th) v + (if v = 17 then sent else 0) - (if v = 16 then sent else 0)) ∧ cn_P k d L
theorem cn_I0 {nu be th : Nat → Int} {k : Nat} (hk : k < 64) (hkd : k / 8 ≠ k % 8) {d : Int} (hd : -1 ≤ d ∧ d ≤ 1) (hb : ∀ j, j < 64 → 0 ≤ be j) (ht : ∀ a, a < 8 → 0 ≤ th a) : cn_I nu be th k d (cn_L0 nu be th) 0 := by
  refine ⟨fun e he => ?_, fun e _ => rfl, fun v _ => by by_cases c1 : v = 17 <;> by_cases c2 : v = 16 <;> simp [c1, c2], fun _ => 0, fun _ => 0, fun v _ => by dsimp only; omega, fun e he ho => ?_⟩
  · unfold cn_L0
    split
    · exact ht _ (by omega)
    · split
      · exact hb _ (by omega)
      · split
        · omega
        · split <;> omega
  · have hdd := cn_d_1 hk hd e
    have hc : 0 ≤ cn_c e := by
      unfold cn_c
      by_cases c1 : 8 ≤ e / 18 ∧ e / 18 < 16 ∧ e % 18 < 8 ∧ e / 18 ≠ 8 + e % 18
      · rw [if_pos c1]; omega
      · rw [if_neg c1]
        by_cases c2 : e / 18 < 8 ∧ 8 ≤ e % 18 ∧ e % 18 < 16 ∧ e % 18 ≠ 8 + e / 18
        · unfold cn_L0 at ho
          rw [if_neg (by omega), if_neg (by omega), if_neg (by omega), if_neg (by omega)] at ho; omega
        · rw [if_neg c2]; omega
    have hdz : cn_c e = 0 → 0 ≤ cn_d k d e := fun hz => by
      have e1 : e ≠ cn_k k := fun q => by
        have h1 : e / 18 = 8 + k / 8 := by rw [q]; unfold cn_k; omega
        have h2 : e % 18 = k % 8 := by rw [q]; unfold cn_k; omega
        unfold cn_c at hz
        rw [h1, h2, if_pos (by omega)] at hz; omega
      have e2 : e ≠ cn_kr k := fun q => by
        have h1 : e / 18 = k % 8 := by rw [q]; unfold cn_kr; omega
        have h2 : e % 18 = 8 + k / 8 := by rw [q]; unfold cn_kr; omega
        unfold cn_c at hz
        rw [h1, h2, if_neg (by omega), if_pos (by omega)] at hz; omega
      unfold cn_d
      rw [if_neg e1, if_neg e2]; omega
    unfold cn_w cn_W
    dsimp only
    rcases Int.lt_or_eq_of_le hc with h | h
    · omega
    · have := hdz h.symm
      omega
