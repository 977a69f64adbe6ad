set_option maxRecDepth 100000
/-! The text, plainly read: T its bytes, n how many -/
def isL_ (c : Int32) : Bool := decide (97 ≤ c.toInt ∧ c.toInt ≤ 122)
def isD_ (c : Int32) : Bool := decide (48 ≤ c.toInt ∧ c.toInt ≤ 57)
/-- behind blanks; behind letters; behind digits -/
def sk_ (T : Nat → Int32) (n i : Nat) : Nat := fi_ (fun x => !decide (T x = 32)) (n - i) i
def le_ (T : Nat → Int32) (n b : Nat) : Nat := fi_ (fun x => !isL_ (T x)) (n - b) b
def de_ (T : Nat → Int32) (n b : Nat) : Nat := fi_ (fun x => !isD_ (T x)) (n - b) b
def wd_ (T : Nat → Int32) (b e : Nat) : List Nat := (List.range (e - b)).map (fun j => (T (b + j)).toInt.toNat)
/-- a number's value by its first digits -/
def nv_ (T : Nat → Int32) (b : Nat) : Nat → Int
  | 0 => 0
  | k + 1 => 10 * nv_ T b k + (T (b + k)).toInt - 48
def kw_ : List (List Nat) := [[112, 97, 114, 116, 121], [107, 105, 110, 100], [116, 114, 97, 100, 101], [107, 101, 101, 112], [99, 97, 112], [109, 111, 100, 101]]
/-- which of the words; 6: none -/
def kwi_ (w : List Nat) : Nat := fi_ (fun j => decide (kw_.getD j [] = w)) 6 0
/-- which of the names; as many as there are: none -/
def ix_ (l : List (List Nat)) (w : List Nat) : Nat := fi_ (fun j => decide (l.getD j [] = w)) l.length 0
/-- a fault (its kind, its place), or a thing -/
abbrev PR_ (α : Type) : Type := (Nat × Nat) ⊕ α
def pb_ {α β : Type} (x : PR_ α) (k : α → PR_ β) : PR_ β := match x with
  | .inl e => .inl e
  | .inr a => k a
/-- a word, a name: where it begins, where it ends -/
def rdW_ (T : Nat → Int32) (n i : Nat) : PR_ (List Nat × Nat × Nat) := if 1 ≤ le_ T n (sk_ T n i) - sk_ T n i ∧ le_ T n (sk_ T n i) - sk_ T n i ≤ 8 then .inr (wd_ T (sk_ T n i) (le_ T n (sk_ T n i)), sk_ T n i, le_ T n (sk_ T n i)) else .inl (1, sk_ T n i)
def rdN_ (T : Nat → Int32) (n i : Nat) : PR_ (List Nat × Nat × Nat) := pb_ (rdW_ T n i) (fun r => if kwi_ r.1 < 6 then .inl (1, r.2.1) else .inr r)
def rdI_ (T : Nat → Int32) (n : Nat) (l : List (List Nat)) (i : Nat) : PR_ (Nat × Nat × Nat) := pb_ (rdN_ T n i) (fun r => if ix_ l r.1 < l.length then .inr (ix_ l r.1, r.2) else .inl (3, r.2.1))
def rdO_ (T : Nat → Int32) (n : Nat) (l : List (List Nat)) (a i : Nat) : PR_ (Nat × Nat × Nat) := pb_ (rdI_ T n l i) (fun r => if r.1 = a then .inl (5, r.2.1) else .inr r)
def rdD_ (T : Nat → Int32) (n : Nat) (lo hi : Int) (i : Nat) : PR_ (Int × Nat × Nat) :=
  if de_ T n (sk_ T n i) = sk_ T n i then .inl (1, sk_ T n i)
  else if 8 < de_ T n (sk_ T n i) - sk_ T n i ∨ ¬ (lo ≤ nv_ T (sk_ T n i) (min 8 (de_ T n (sk_ T n i) - sk_ T n i)) ∧ nv_ T (sk_ T n i) (min 8 (de_ T n (sk_ T n i) - sk_ T n i)) ≤ hi) then .inl (2, sk_ T n i)
  else .inr (nv_ T (sk_ T n i) (min 8 (de_ T n (sk_ T n i) - sk_ T n i)), sk_ T n i, de_ T n (sk_ T n i))
/-- what is made: where one is, names of parties, of kinds, the state, whether the mode was told -/
abbrev RD_ : Type := Nat × List (List Nat) × List (List Nat) × SS_ × Bool
def rdNew_ (T : Nat → Int32) (n : Nat) (ps ks : List (List Nat)) (i : Nat) : PR_ (List Nat × Nat) := pb_ (rdN_ T n i) (fun r => if ix_ ps r.1 < ps.length ∨ ix_ ks r.1 < ks.length then .inl (3, r.2.1) else .inr (r.1, r.2.2))
/-- behind a word -/
def rdB_ (T : Nat → Int32) (n : Nat) (j : Nat) (s : RD_) : PR_ RD_ :=
  if j = 0 then pb_ (rdNew_ T n s.2.1 s.2.2.1 s.1) (fun r => .inr (r.2, s.2.1 ++ [r.1], s.2.2))
  else if j = 1 then pb_ (rdNew_ T n s.2.1 s.2.2.1 s.1) (fun r => .inr (r.2, s.2.1, s.2.2.1 ++ [r.1], s.2.2.2))
  else if j = 2 then pb_ (rdI_ T n s.2.1 s.1) (fun a => pb_ (rdO_ T n s.2.1 a.1 a.2.2) (fun b => pb_ (rdD_ T n 1 999999 b.2.2) (fun m => pb_ (rdI_ T n s.2.2.1 m.2.2) (fun k => .inr (k.2.2, s.2.1, s.2.2.1, (s.2.2.2.1.1 ++ [(a.1, b.1, m.1, k.1, false)], s.2.2.2.1.2), s.2.2.2.2)))))
  else if j = 3 then pb_ (rdD_ T n 0 ((s.2.2.2.1.1.length : Int) - 1) s.1) (fun t => if (s.2.2.2.1.1.getD t.1.toNat (0, 0, 0, 0, false)).2.2.2.2 then .inl (5, t.2.1) else .inr (t.2.2, s.2.1, s.2.2.1, (s.2.2.2.1.1.modify t.1.toNat tr_turn, s.2.2.2.1.2), s.2.2.2.2))
  else if j = 4 then pb_ (rdI_ T n s.2.1 s.1) (fun a => pb_ (rdO_ T n s.2.1 a.1 a.2.2) (fun b => pb_ (rdD_ T n 0 99999999 b.2.2) (fun m => .inr (m.2.2, s.2.1, s.2.2.1, (s.2.2.2.1.1, fw_up s.2.2.2.1.2.1 (8 * a.1 + b.1) m.1, s.2.2.2.1.2.2), s.2.2.2.2))))
  else pb_ (rdD_ T n 0 3 s.1) (fun m => .inr (m.2.2, s.2.1, s.2.2.1, (s.2.2.2.1.1, s.2.2.2.1.2.1, m.1.toNat), true))
def rdF_ (j : Nat) (s : RD_) : Bool := decide (j = 0 ∧ s.2.1.length = 8 ∨ j = 1 ∧ s.2.2.1.length = 4 ∨ j = 2 ∧ s.2.2.2.1.1.length = 40)
/-- a line -/
def rdL_ (T : Nat → Int32) (n : Nat) (s : RD_) : PR_ RD_ := pb_ (rdW_ T n s.1) (fun r =>
  if kwi_ r.1 = 6 ∨ kwi_ r.1 = 5 ∧ s.2.2.2.2 = true then .inl (1, r.2.1)
  else if rdF_ (kwi_ r.1) s = true then .inl (4, r.2.1)
  else pb_ (rdB_ T n (kwi_ r.1) (r.2.2, s.2)) (fun s' => if sk_ T n s'.1 < n ∧ T (sk_ T n s'.1) = 59 then .inr (sk_ T n s'.1 + 1, s'.2) else .inl (1, sk_ T n s'.1)))
/-- all lines -/
def rdA_ (T : Nat → Int32) (n : Nat) : Nat → RD_ → PR_ RD_
  | 0, s => .inr s
  | m + 1, s => if sk_ T n s.1 = n then .inr s else pb_ (rdL_ T n s) (fun s' => rdA_ T n m s')
def rd0_ : RD_ := (0, [], [], ([], fun _ => 99999999, 0), false)
/-- a text is told -/
def ac_tell (g : GS_) (x : Int32) : Int32 × GS_ := if 0 ≤ x.toInt ∧ x.toInt ≤ g.2.2.2.2.2.1 then (match rdA_ g.2.2.2.2.1 x.toInt.toNat (x.toInt.toNat + 1) rd0_ with
  | .inl e => (q_ (-30 - (e.1 : Int)), (g.1, g.2.1, g.2.2.1, g.2.2.2.1, g.2.2.2.2.1, 0, (e.1 : Int), (e.2 : Int)))
  | .inr s => (n_ s.2.2.2.1.1.length, (s.2.1, s.2.2.1, s.2.2.2.1, [], g.2.2.2.2.1, 0, 0, -1))) else (q_ (-3), g)
/-! facts -/
theorem sk_le {T : Nat → Int32} {n i : Nat} (h : i ≤ n) : i ≤ sk_ T n i ∧ sk_ T n i ≤ n := by
  have := fi_spec (fun x => !decide (T x = 32)) (n - i) i
  unfold sk_; omega
theorem sk_at {T : Nat → Int32} {n i : Nat} (h : i ≤ n) : (∀ x, i ≤ x → x < sk_ T n i → T x = 32) ∧ (sk_ T n i < n → T (sk_ T n i) ≠ 32) := by
  obtain ⟨_, _, h3, h4⟩ := fi_spec (fun x => !decide (T x = 32)) (n - i) i
  refine ⟨fun x h1 h2 => ?_, fun h1 => ?_⟩
  · have := h3 x h1 h2; simpa using this
  · unfold sk_ at h1 ⊢; have := h4 (by omega); simpa using this
theorem sk_id {T : Nat → Int32} {n i : Nat} (h : i ≤ n) : sk_ T n (sk_ T n i) = sk_ T n i := by
  have a := sk_le (T := T) h
  have b := sk_le (T := T) a.2
  rcases Nat.lt_or_ge (sk_ T n i) n with c | c
  · have d := (sk_at (T := T) h).2 c
    rcases Nat.lt_or_ge (sk_ T n i) (sk_ T n (sk_ T n i)) with e | e
    · exact absurd ((sk_at (T := T) a.2).1 _ (Nat.le_refl _) e) d
    · omega
  · omega
theorem le_at {T : Nat → Int32} {n b : Nat} (h : b ≤ n) : b ≤ le_ T n b ∧ le_ T n b ≤ n ∧ (∀ x, b ≤ x → x < le_ T n b → isL_ (T x) = true) ∧ (le_ T n b < n → isL_ (T (le_ T n b)) = false) := by
  obtain ⟨h1, h2, h3, h4⟩ := fi_spec (fun x => !isL_ (T x)) (n - b) b
  unfold le_
  refine ⟨h1, by omega, fun x g1 g2 => ?_, fun g => ?_⟩
  · have := h3 x g1 g2; simpa using this
  · have := h4 (by omega); simpa using this
theorem de_at {T : Nat → Int32} {n b : Nat} (h : b ≤ n) : b ≤ de_ T n b ∧ de_ T n b ≤ n ∧ (∀ x, b ≤ x → x < de_ T n b → isD_ (T x) = true) ∧ (de_ T n b < n → isD_ (T (de_ T n b)) = false) := by
  obtain ⟨h1, h2, h3, h4⟩ := fi_spec (fun x => !isD_ (T x)) (n - b) b
  unfold de_
  refine ⟨h1, by omega, fun x g1 g2 => ?_, fun g => ?_⟩
  · have := h3 x g1 g2; simpa using this
  · have := h4 (by omega); simpa using this
theorem wd_get {T : Nat → Int32} {b e j : Nat} (h : j < e - b) : (wd_ T b e).getD j 0 = (T (b + j)).toInt.toNat := mr_get _ h
theorem wd_len (T : Nat → Int32) (b e : Nat) : (wd_ T b e).length = e - b := mr_len _ _
theorem nv_le {T : Nat → Int32} {b : Nat} : ∀ k, (∀ j, j < k → isD_ (T (b + j)) = true) → 0 ≤ nv_ T b k ∧ nv_ T b k < 10 ^ k := by
  intro k
  induction k with
  | zero => intro _; exact ⟨Int.le_refl _, show (0 : Int) < 1 by decide⟩
  | succ k ih =>
    intro h
    obtain ⟨h1, h2⟩ := ih (fun j hj => h j (by omega))
    have h3 : isD_ (T (b + k)) = true := h k (by omega)
    unfold isD_ at h3
    have h3 := of_decide_eq_true h3
    simp only [nv_]
    rw [Int.pow_succ]
    omega
