set_option maxRecDepth 100000
/-! Longs -/
def lz_ (i : Int) : Int64 := Int64.ofInt i
def lf_ (i : Int) : Prop := -9223372036854775808 ≤ i ∧ i < 9223372036854775808
theorem lz_add (a b : Int) : lz_ a + lz_ b = lz_ (a + b) := (Int64.ofInt_add a b).symm
theorem lz_sub (a b : Int) : lz_ a - lz_ b = lz_ (a - b) := (Int64.ofInt_sub a b).symm
theorem lz_neg (a : Int) : - lz_ a = lz_ (- a) := (Int64.ofInt_neg a).symm
theorem lz_lit (n : Nat) : (OfNat.ofNat n : Int64) = lz_ (n : Int) := (Int64.ofInt_eq_ofNat).symm
theorem lz_toInt {i : Int} (h : lf_ i) : (lz_ i).toInt = i := Int64.toInt_ofInt_of_le h.1 h.2
theorem lz_lt {a b : Int} (ha : lf_ a) (hb : lf_ b) : lz_ a < lz_ b ↔ a < b := by rw [Int64.lt_iff_toInt_lt, lz_toInt ha, lz_toInt hb]
theorem lz_cl {a b : Int} (ha : lf_ a) (hb : lf_ b) : (lg_cmp (lz_ a) (lz_ b) < (0 : Int32)) ↔ a < b := by rw [cmp_lt, lz_toInt ha, lz_toInt hb]
theorem lg_0 (x y : Int64) : lg_cmp x y = (0 : Int32) ↔ x.toInt = y.toInt := by
  have h1 := cmp_lt x y
  have h2 := cmp_gt x y
  constructor
  · intro e
    rw [e] at h1 h2
    have n1 : ¬ ((0 : Int32) < 0) := by decide
    have a1 : ¬ x.toInt < y.toInt := fun z => n1 (h1.mpr z)
    have a2 : ¬ y.toInt < x.toInt := fun z => n1 (h2.mpr z)
    omega
  · intro e
    have a1 : ¬ lg_cmp x y < 0 := fun z => by have := h1.mp z; omega
    have a2 : ¬ 0 < lg_cmp x y := fun z => by have := h2.mp z; omega
    rw [Int32.lt_iff_toInt_lt] at a1 a2
    apply Int32.toInt_inj.mp
    have e0 : (0 : Int32).toInt = 0 := rfl
    omega
theorem lz_c0 {a b : Int} (ha : lf_ a) (hb : lf_ b) : (lg_cmp (lz_ a) (lz_ b) = (0 : Int32)) ↔ a = b := by rw [lg_0, lz_toInt ha, lz_toInt hb]
theorem lz_cle {a b : Int} (ha : lf_ a) (hb : lf_ b) : (lg_cmp (lz_ a) (lz_ b) ≤ (0 : Int32)) ↔ a ≤ b := by
  have h2 := cmp_gt (lz_ a) (lz_ b)
  rw [lz_toInt ha, lz_toInt hb] at h2
  constructor
  · intro h
    have n1 : ¬ (0 : Int32) < lg_cmp (lz_ a) (lz_ b) := fun z => by
      rw [Int32.lt_iff_toInt_lt] at z
      rw [Int32.le_iff_toInt_le] at h
      omega
    have n2 : ¬ b < a := fun z => n1 (h2.mpr z)
    omega
  · intro h
    have n1 : ¬ (0 : Int32) < lg_cmp (lz_ a) (lz_ b) := fun z => by have := h2.mp z; omega
    rw [Int32.lt_iff_toInt_lt] at n1
    rw [Int32.le_iff_toInt_le]
    omega
theorem lz_q {a : Int} (h : qf_ a) : (q_ a).toInt64 = lz_ a := by
  apply Int64.toInt_inj.mp
  rw [q_64 h, lz_toInt ⟨by have := h.1; omega, by have := h.2; omega⟩]
theorem q_lz (a : Int) : (lz_ a).toInt32 = q_ a := Int64.toInt32_ofInt
theorem lz_far : (2305843009213693951 : Int64) = lz_ cn_FAR := lz_lit 2305843009213693951
theorem lz_0 : (0 : Int64) = lz_ 0 := lz_lit 0
theorem cl_ne {u : UM} {a c c' : Nat} {fs : List Value} (h : ob_ u a c fs) (hc : c ≠ c') : u_cl u c' a = none := by unfold u_cl; rw [h]; simp [hc]
/-! Bounds: tag 26 their objects; 21 the flows', tc the caps' arrays -/
def yB_ (d : UD) (o : Nat → Nat) (u : UM) (a tc : Nat) (be : Nat → Int) : Prop := o a = 26 ∧ ∃ x f, iA_ d u x 64 f ∧
  ((ob_ u a 9 [.ref x] ∧ o x = 21 ∧ ∀ c, c < 64 → f c = q_ (be c)) ∨ (ob_ u a 10 [.ref x] ∧ o x = tc ∧ ∀ c, c < 64 → f c = q_ (be c)) ∨ (ob_ u a 11 [.ref x] ∧ o x = 21 ∧ ∃ F : Nat → Int, (∀ c, c < 64 → f c = q_ (F c)) ∧ ∀ p q, p < 8 → q < 8 → be (8 * p + q) = F (8 * p + q) + F (8 * q + p)))
/-- a bound, perhaps with one couple's otherwise -/
def yC_ (d : UD) (o : Nat → Nat) (u : UM) (a tc : Nat) (be : Nat → Int) : Prop := yB_ d o u a tc be ∨ (o a = 26 ∧ ∃ a1 x y v be1, ob_ u a 12 [.ref a1, .int (n_ x), .int (n_ y), .int (q_ v)] ∧ x < 8 ∧ y < 8 ∧ yB_ d o u a1 tc be1 ∧ ∀ p q, p < 8 → q < 8 → be (8 * p + q) = if p = x ∧ q = y then v else be1 (8 * p + q))
theorem yB_keep {d : UD} {b : Nat} {K : Nat → Prop} {o o' : Nat → Nat} {u u' : UM} (h0 : uw_ b u) (g : ygt_ b K o u o' u') {a tc : Nat} {be : Nat → Int} (h : yB_ d o u a tc be) (h1 : ¬ K 26) (h2 : ¬ K 21) (h3 : ¬ K tc) : yB_ d o' u' a tc be := by
  obtain ⟨e1, x, f, e2, e3⟩ := h
  have ka : ¬ K (o a) := by rw [e1]; exact h1
  rcases e3 with ⟨p1, p2, p3⟩ | ⟨p1, p2, p3⟩ | ⟨p1, p2, p3⟩
  · obtain ⟨x1, x2⟩ := ygt_at h0 g e2 (by rw [p2]; exact h2)
    obtain ⟨y1, y2⟩ := ygt_at h0 g p1 ka
    exact ⟨y2.trans e1, x, f, x1, Or.inl ⟨y1, x2.trans p2, p3⟩⟩
  · obtain ⟨x1, x2⟩ := ygt_at h0 g e2 (by rw [p2]; exact h3)
    obtain ⟨y1, y2⟩ := ygt_at h0 g p1 ka
    exact ⟨y2.trans e1, x, f, x1, Or.inr (Or.inl ⟨y1, x2.trans p2, p3⟩)⟩
  · obtain ⟨x1, x2⟩ := ygt_at h0 g e2 (by rw [p2]; exact h2)
    obtain ⟨y1, y2⟩ := ygt_at h0 g p1 ka
    exact ⟨y2.trans e1, x, f, x1, Or.inr (Or.inr ⟨y1, x2.trans p2, p3⟩)⟩
theorem yC_keep {d : UD} {b : Nat} {K : Nat → Prop} {o o' : Nat → Nat} {u u' : UM} (h0 : uw_ b u) (g : ygt_ b K o u o' u') {a tc : Nat} {be : Nat → Int} (h : yC_ d o u a tc be) (h1 : ¬ K 26) (h2 : ¬ K 21) (h3 : ¬ K tc) : yC_ d o' u' a tc be := by
  rcases h with h | ⟨e1, a1, x, y, v, be1, p1, p2, p3, p4, p5⟩
  · exact Or.inl (yB_keep h0 g h h1 h2 h3)
  · obtain ⟨y1, y2⟩ := ygt_at h0 g p1 (by rw [e1]; exact h1)
    exact Or.inr ⟨y2.trans e1, a1, x, y, v, be1, y1, p2, p3, yB_keep h0 g p4 h1 h2 h3, p5⟩
theorem ub_of {d : UD} {o : Nat → Nat} {u : UM} {a tc : Nat} {be : Nat → Int} (h : yB_ d o u a tc be) (n : Nat) {p q : Nat} (hp : p < 8) (hq : q < 8) (z : Option Int32) : u_fc (u_cl u 9 a) (uf_X10_of n d u a (n_ p) (n_ q)) (u_fc (u_cl u 10 a) (uf_X11_of n d u a (n_ p) (n_ q)) (u_fc (u_cl u 11 a) (uf_X12_of n d u a (n_ p) (n_ q)) z)) = some (q_ (be (8 * p + q))) := by
  obtain ⟨e1, x, f, e2, e3⟩ := h
  have hi : 8 * n_ p + n_ q = n_ (8 * p + q) := by rw [n_lit 8, n_mul, n_add]
  have hj : 8 * n_ q + n_ p = n_ (8 * q + p) := by rw [n_lit 8, n_mul, n_add]
  rcases e3 with ⟨p1, p2, p3⟩ | ⟨p1, p2, p3⟩ | ⟨p1, p2, F, p3, p4⟩
  · rw [cl_e p1]
    show uf_X10_of n d u a (n_ p) (n_ q) = _
    unfold uf_X10_of
    rw [fr_e p1 rfl, m_bs, hi, ldI_e e2 (by omega) (by omega), m_bs, p3 _ (by omega)]
  · rw [cl_ne p1 (by omega), cl_e p1]
    show uf_X11_of n d u a (n_ p) (n_ q) = _
    unfold uf_X11_of
    rw [fr_e p1 rfl, m_bs, hi, ldI_e e2 (by omega) (by omega), m_bs, p3 _ (by omega)]
  · rw [cl_ne p1 (by omega), cl_ne p1 (by omega), cl_e p1]
    show uf_X12_of n d u a (n_ p) (n_ q) = _
    unfold uf_X12_of
    have hx : u_fr d u 11 0 a = some x := fr_e p1 rfl
    rw [hx, m_bs, hi, ldI_e e2 (by omega) (by omega), m_bs, m_bs, hj, ldI_e e2 (by omega) (by omega), m_bs, p3 _ (by omega), p3 _ (by omega), q_add, p4 p q hp hq]
theorem uc_of {d : UD} {o : Nat → Nat} {u : UM} {a tc : Nat} {be : Nat → Int} (h : yC_ d o u a tc be) (n : Nat) {p q : Nat} (hp : p < 8) (hq : q < 8) : u_fc (u_cl u 9 a) (uf_X10_of n d u a (n_ p) (n_ q)) (u_fc (u_cl u 10 a) (uf_X11_of n d u a (n_ p) (n_ q)) (u_fc (u_cl u 11 a) (uf_X12_of n d u a (n_ p) (n_ q)) (u_fc (u_cl u 12 a) (uf_X13_of n d u a (n_ p) (n_ q)) none))) = some (q_ (be (8 * p + q))) := by
  rcases h with h | ⟨e1, a1, x, y, v, be1, p1, p2, p3, p4, p5⟩
  · exact ub_of h n hp hq _
  · rw [cl_ne p1 (by omega), cl_ne p1 (by omega), cl_ne p1 (by omega), cl_e p1]
    show uf_X13_of n d u a (n_ p) (n_ q) = _
    have f0 : u_fr d u 12 0 a = some a1 := fr_e p1 rfl
    have f1 : u_fi d u 12 1 a = some (n_ x) := fi_e p1 rfl
    have f2 : u_fi d u 12 2 a = some (n_ y) := fi_e p1 rfl
    have f3 : u_fi d u 12 3 a = some (q_ v) := fi_e p1 rfl
    unfold uf_X13_of uf_X13_of_J23 uf_X13_of_J34
    simp only [f0, f1, f2, f3, m_bs, ub_of p4 n hp hq]
    rw [p5 p q hp hq]
    by_cases c1 : p = x
    · rw [ef_T (by rw [n_eq (by omega) (by omega)]; exact c1)]
      by_cases c2 : q = y
      · rw [ef_T (by rw [n_eq (by omega) (by omega)]; exact c2), if_pos ⟨c1, c2⟩]
      · rw [ef_F (by rw [n_eq (by omega) (by omega)]; exact c2), if_neg (fun z => c2 z.2)]
    · rw [ef_F (by rw [n_eq (by omega) (by omega)]; exact c1), if_neg (fun z => c1 z.1)]
