set_option maxRecDepth 100000
/-! Couple by couple the least -/
theorem fs_ex {n : Nat} {nu be : Nat → Int} {th : Option (Nat → Int)} {x : Nat → Int} (h : fs_F n nu be th x) : ∃ y, fs_O n nu be th y := by
  have key : ∀ (m : Nat) (y : Nat → Int), fs_F n nu be th y → fs_tot y ≤ m → ∃ z, fs_O n nu be th z := by
    intro m
    induction m with
    | zero =>
      intro y hy hm
      exact ⟨y, hy, fun z hz => by
        have : 0 ≤ fs_tot z := fw_sm_nonneg (fun k hk => fs_F_nn hz hk)
        omega⟩
    | succ m ih =>
      intro y hy hm
      by_cases c : ∃ z, fs_F n nu be th z ∧ fs_tot z < fs_tot y
      · obtain ⟨z, hz, hl⟩ := c
        exact ih z hz (by omega)
      · exact ⟨y, hy, fun z hz => by
          apply Classical.byContradiction
          intro hn
          exact c ⟨z, hz, by omega⟩⟩
  exact key (fs_tot x).toNat x h (Int.self_le_toNat _)
theorem fs_F_up {n : Nat} {nu be : Nat → Int} {th : Option (Nat → Int)} {k : Nat} (hk : k < 64) (hc : fs_cp n k) {v : Int} (hv : v ≤ be k) {y : Nat → Int} : fs_F n nu (fw_up be k v) th y ↔ fs_F n nu be th y ∧ y k ≤ v := by
  constructor
  · intro h
    have hyk : y k ≤ v := by have := (h.1 k hk hc).2; rwa [fw_up_at] at this
    refine ⟨⟨fun j hj q => ?_, h.2.1, h.2.2.1, h.2.2.2⟩, hyk⟩
    have g := h.1 j hj q
    by_cases c : j = k
    · subst c; exact ⟨g.1, by omega⟩
    · rwa [fw_up_ne c] at g
  · intro h
    refine ⟨fun j hj q => ?_, h.1.2.1, h.1.2.2.1, h.1.2.2.2⟩
    have g := h.1.1 j hj q
    by_cases c : j = k
    · subst c; rw [fw_up_at]; exact ⟨g.1, h.2⟩
    · rwa [fw_up_ne c]
theorem fs_fix {n : Nat} {nu be : Nat → Int} {th : Option (Nat → Int)} {k : Nat} (hk : k < 64) (hc : fs_cp n k) {x : Nat → Int} (hx : fs_Lo n nu be th k x) (y : Nat → Int) : fs_O n nu (fw_up be k (x k)) th y ↔ fs_O n nu be th y ∧ y k = x k := by
  have hb : x k ≤ be k := (hx.1.1.1 k hk hc).2
  have hxF : fs_F n nu (fw_up be k (x k)) th x := (fs_F_up hk hc hb).mpr ⟨hx.1.1, Int.le_refl _⟩
  constructor
  · intro h
    obtain ⟨h1, h2⟩ := (fs_F_up hk hc hb).mp h.1
    have h3 := h.2 x hxF
    have hO : fs_O n nu be th y := ⟨h1, fun z hz => by have := hx.1.2 z hz; omega⟩
    have := hx.2 y hO
    exact ⟨hO, by omega⟩
  · intro h
    exact ⟨(fs_F_up hk hc hb).mpr ⟨h.1.1, by omega⟩, fun z hz => h.1.2 z ((fs_F_up hk hc hb).mp hz).1⟩
/-- bounds that are as found for the couples ahead -/
def fs_bk (be X : Nat → Int) (k : Nat) (j : Nat) : Int := if j < k then X j else be j
/-- those of the least total that are as found for the couples ahead -/
def fs_S (n : Nat) (nu be : Nat → Int) (th : Option (Nat → Int)) (X be' : Nat → Int) (k : Nat) : Prop := ∀ y, fs_O n nu be' th y ↔ fs_O n nu be th y ∧ ∀ j, j < k → y j = X j
theorem fs_S0 {n : Nat} {nu be : Nat → Int} {th : Option (Nat → Int)} {X : Nat → Int} : fs_S n nu be th X be 0 := fun y => ⟨fun h => ⟨h, fun j hj => absurd hj (Nat.not_lt_zero _)⟩, fun h => h.1⟩
theorem fs_S_step {n : Nat} {nu be : Nat → Int} {th : Option (Nat → Int)} {X be' : Nat → Int} {k : Nat} (hk : k < 64) (hc : fs_cp n k) (S : fs_S n nu be th X be' k) {x : Nat → Int} (hx : fs_Lo n nu be' th k x) (e : X k = x k) : fs_S n nu be th X (fw_up be' k (X k)) (k + 1) := by
  intro y
  rw [e, fs_fix hk hc hx y, S y]
  constructor
  · intro h
    refine ⟨h.1.1, fun j hj => ?_⟩
    by_cases c : j = k
    · subst c; rw [h.2, e]
    · exact h.1.2 j (by omega)
  · intro h
    exact ⟨⟨h.1, fun j hj => h.2 j (by omega)⟩, by rw [h.2 k (by omega), e]⟩
theorem fs_S_skip {n : Nat} {nu be : Nat → Int} {th : Option (Nat → Int)} {X be' : Nat → Int} {k : Nat} (S : fs_S n nu be th X be' k) (h : ∀ y, fs_O n nu be th y → (∀ j, j < k → y j = X j) → y k = X k) : fs_S n nu be th X be' (k + 1) := by
  intro y
  rw [S y]
  constructor
  · intro g
    refine ⟨g.1, fun j hj => ?_⟩
    by_cases c : j = k
    · subst c; exact h y g.1 g.2
    · exact g.2 j (by omega)
  · intro g
    exact ⟨g.1, fun j hj => g.2 j (by omega)⟩
/-- two like ones with bounds that differ only beyond what can be -/
def fs_no2 (y : Nat → Int) : Prop := ∀ a b, a < 8 → b < 8 → y (8 * a + b) = 0 ∨ y (8 * b + a) = 0
theorem fs_O_no2 {n : Nat} (hn8 : n ≤ 8) {nu be : Nat → Int} {th : Option (Nat → Int)} {y : Nat → Int} (h : fs_O n nu be th y) : fs_no2 y := by
  intro a b ha hb
  apply Classical.byContradiction
  intro hn
  have n1 : y (8 * a + b) ≠ 0 := fun q => hn (Or.inl q)
  have n2 : y (8 * b + a) ≠ 0 := fun q => hn (Or.inr q)
  have g1 : 0 < y (8 * a + b) := by have := fs_F_nn h.1 (show 8 * a + b < 64 by omega); omega
  have g2 : 0 < y (8 * b + a) := by have := fs_F_nn h.1 (show 8 * b + a < 64 by omega); omega
  have c1 : fs_cp n (8 * a + b) := by
    apply Classical.byContradiction; intro c; have := h.1.2.1 _ (by omega) c; omega
  have c2 : fs_cp n (8 * b + a) := by
    apply Classical.byContradiction; intro c; have := h.1.2.1 _ (by omega) c; omega
  have hab : a ≠ b := ((fs_cp_at hb).mp c1).2.2
  have hne : 8 * a + b ≠ 8 * b + a := by omega
  -- one less each way
  have hz : fs_F n nu be th (fw_up (fw_up y (8 * a + b) (y (8 * a + b) - 1)) (8 * b + a) (y (8 * b + a) - 1)) := by
    have ho : ∀ p, p < 8 → fs_out (fw_up (fw_up y (8 * a + b) (y (8 * a + b) - 1)) (8 * b + a) (y (8 * b + a) - 1)) p = fs_out y p - (if p = a then 1 else 0) - (if p = b then 1 else 0) ∧ fs_in (fw_up (fw_up y (8 * a + b) (y (8 * a + b) - 1)) (8 * b + a) (y (8 * b + a) - 1)) p = fs_in y p - (if p = b then 1 else 0) - (if p = a then 1 else 0) := fun p hp => by
      obtain ⟨o1, o2⟩ := fs_out_up (x := fw_up y (8 * a + b) (y (8 * a + b) - 1)) hb ha (y (8 * b + a) - 1) p hp
      obtain ⟨o3, o4⟩ := fs_out_up (x := y) ha hb (y (8 * a + b) - 1) p hp
      rw [o1, o2, o3, o4, fw_up_ne (fun q => hne q.symm)]
      by_cases d1 : p = a <;> by_cases d2 : p = b <;> simp only [d1, d2, if_true, if_false] <;> omega
    refine ⟨fun j hj q => ?_, fun j hj q => ?_, fun p hp => ?_, fun p hp => ?_⟩
    · have g := h.1.1 j hj q
      by_cases d1 : j = 8 * b + a
      · subst d1; rw [fw_up_at]; omega
      · rw [fw_up_ne d1]
        by_cases d2 : j = 8 * a + b
        · subst d2; rw [fw_up_at]; omega
        · rw [fw_up_ne d2]; exact g
    · have g := h.1.2.1 j hj q
      rw [fw_up_ne (fun (z : j = 8 * b + a) => q (z ▸ c2)), fw_up_ne (fun (z : j = 8 * a + b) => q (z ▸ c1))]; exact g
    · have g := h.1.2.2.1 p hp
      have hp8 : p < 8 := by omega
      rw [(ho p hp8).1, (ho p hp8).2]; omega
    · have g := h.1.2.2.2 p hp
      have hp8 : p < 8 := by omega
      cases th with
      | none => trivial
      | some t =>
        show min (fs_out _ p) (fs_in _ p) ≤ t p
        have g' : min (fs_out y p) (fs_in y p) ≤ t p := g
        rw [(ho p hp8).1, (ho p hp8).2]
        by_cases d1 : p = a <;> by_cases d2 : p = b <;> simp only [d1, d2, if_true, if_false] <;> (try subst d1) <;> (try subst d2) <;> omega
  have := h.2 _ hz
  unfold fs_tot at this
  rw [fw_sm_up (by omega), fw_sm_up (by omega), fw_up_ne (fun q => hne q.symm)] at this
  omega
theorem fs_any {n : Nat} (hn8 : n ≤ 8) {nu be : Nat → Int} {t : Nat → Int} (h : ∀ y, fs_F n nu be none y → fs_no2 y → ∀ p, p < n → min (fs_out y p) (fs_in y p) ≤ t p) (y : Nat → Int) : fs_O n nu be (some t) y ↔ fs_O n nu be none y := by
  have h1 : ∀ z, fs_F n nu be (some t) z → fs_F n nu be none z := fun z hz => ⟨hz.1, hz.2.1, hz.2.2.1, fun _ _ => trivial⟩
  have h2 : ∀ z, fs_O n nu be none z → fs_F n nu be (some t) z := fun z hz => ⟨hz.1.1, hz.1.2.1, hz.1.2.2.1, fun p hp => h z hz.1 (fs_O_no2 hn8 hz) p hp⟩
  constructor
  · intro hy
    refine ⟨h1 y hy.1, fun z hz => ?_⟩
    obtain ⟨w, hw⟩ := fs_ex hz
    have a1 := hy.2 w (h2 w hw)
    have a2 := hw.2 z hz
    omega
  · intro hy
    exact ⟨h2 y hy, fun z hz => hy.2 z (h1 z hz)⟩
