set_option maxRecDepth 100000
/-! Where no step is left to be laid -/
def fw_Fix (m : Nat) (src dst : Nat → Nat) (ok : Nat → Prop) (w : Nat → Int) (FAR : Int) (dist : Nat → Int) : Prop := ∀ e, e < m → ok e → dist (src e) < FAR → dist (dst e) ≤ dist (src e) + w e
section
variable {N m : Nat} {src dst : Nat → Nat} {ok : Nat → Prop} {w pi : Nat → Int} {FAR lb : Int} {root : Nat → Prop} {dist : Nat → Int} {pe : Nat → Nat}
/-- the sum falls by each step, and has a floor -/
theorem fw_B_sum {e : Nat} (hv : dst e < N) (h2 : dist (src e) + w e < dist (dst e)) : fw_sm N (fw_up dist (dst e) (dist (src e) + w e)) < fw_sm N dist := by
  rw [fw_sm_up hv]; omega
theorem fw_B_floor (B : fw_B N m src dst ok w pi FAR lb root dist pe) {G : Int} (hG : ∀ v, v < N → G ≤ lb + pi v) (hF : G ≤ FAR) : fw_sm N (fun _ => G) ≤ fw_sm N dist := by
  refine fw_sm_le (fun v hv => ?_)
  have h1 := B.1 v hv
  rcases Int.lt_or_eq_of_le h1 with h | h
  · have := B.2.1 v hv h
    have := hG v hv
    omega
  · omega
theorem fw_floor (N : Nat) (f : Nat → Int) (F : Int) : ∃ G : Int, (∀ v, v < N → G ≤ f v) ∧ G ≤ F := by
  induction N with
  | zero => exact ⟨F, fun v hv => absurd hv (Nat.not_lt_zero _), Int.le_refl _⟩
  | succ N ih =>
    obtain ⟨G, h1, h2⟩ := ih
    refine ⟨min G (f N), fun v hv => ?_, by omega⟩
    by_cases c : v = N
    · subst c; omega
    · have := h1 v (by omega); omega
/-- at the end the chains are tight: a node's number is its chain's sum -/
theorem fw_fix_sum (B : fw_B N m src dst ok w pi FAR lb root dist pe) (F : fw_Fix m src dst ok w FAR dist) {W : Int} {c dl : Nat → Int} {lo hi : Int} (hw : ∀ e, e < m → w e = W * c e + dl e) (hc : ∀ e, e < m → -1 ≤ c e ∧ c e ≤ 1) (hd : ∀ e, e < m → lo ≤ dl e ∧ dl e ≤ hi) :
    ∀ (l : List Nat) (v : Nat), v < N → dist v < FAR → fw_Ch (fun x => src (pe x)) root (v :: l) → (∀ x ∈ v :: l, x < N) ∧ ∃ i j : Int, dist v = W * i + j ∧ -(l.length : Int) ≤ i ∧ i ≤ l.length ∧ lo * l.length ≤ j ∧ j ≤ hi * l.length := by
  intro l
  induction l with
  | nil =>
    intro v hv h1 hch
    refine ⟨fun x hx => ?_, 0, 0, ?_, ?_, ?_, ?_, ?_⟩
    · rcases List.mem_cons.mp hx with rfl | h
      · exact hv
      · cases h
    · rcases B.2.2.1 v hv h1 with h | h
      · rw [h.2]; simp
      · exact absurd hch h.1
    all_goals simp
  | cons u l ih =>
    intro v hv h1 hch
    rcases B.2.2.1 v hv h1 with h | ⟨g1, g2, g3, g4, g5, g6, g7⟩
    · exact absurd h.1 hch.1
    · have hu : src (pe v) = u := hch.2.1
      subst hu
      obtain ⟨k0, i, j, k1, k2, k3, k4, k5⟩ := ih _ g5 g6 hch.2.2
      have hf := F (pe v) g2 g3 g6
      rw [g4] at hf
      have he : dist v = dist (src (pe v)) + w (pe v) := by omega
      have hcc := hc _ g2
      have hdd := hd _ g2
      refine ⟨fun x hx => ?_, i + c (pe v), j + dl (pe v), ?_, ?_, ?_, ?_, ?_⟩
      · rcases List.mem_cons.mp hx with rfl | h
        · exact hv
        · exact k0 x h
      · rw [he, k1, hw _ g2, Int.mul_add]; omega
      · simp only [List.length_cons]; omega
      · simp only [List.length_cons]; omega
      · simp only [List.length_cons, Int.natCast_add, Int.mul_add]; omega
      · simp only [List.length_cons, Int.natCast_add, Int.mul_add]; omega
theorem fw_fix_dec (B : fw_B N m src dst ok w pi FAR lb root dist pe) (F : fw_Fix m src dst ok w FAR dist) {W : Int} {c dl : Nat → Int} {lo hi : Int} (hw : ∀ e, e < m → w e = W * c e + dl e) (hc : ∀ e, e < m → -1 ≤ c e ∧ c e ≤ 1) (hd : ∀ e, e < m → lo ≤ dl e ∧ dl e ≤ hi) (v : Nat) (hv : v < N) (h1 : dist v < FAR) :
    ∃ (i j : Int) (k : Nat), dist v = W * i + j ∧ -(k : Int) ≤ i ∧ i ≤ k ∧ lo * k ≤ j ∧ j ≤ hi * k ∧ k < N := by
  obtain ⟨l, hl⟩ := B.2.2.2 v hv h1
  obtain ⟨h0, i, j, k1, k2, k3, k4, k5⟩ := fw_fix_sum B F hw hc hd l v hv h1 hl
  have := fw_pigeon N (v :: l) (fw_Ch_nodup _ hl) h0
  exact ⟨i, j, l.length, k1, k2, k3, k4, k5, by simp only [List.length_cons] at this; omega⟩
end
/-! What goes along a chain -/
def fw_aug (rev pe : Nat → Nat) (much : Int) : List Nat → (Nat → Int) → (Nat → Int)
  | [], L => L
  | [_], L => L
  | v :: u :: l, L => fw_aug rev pe much (u :: l) (fw_up (fw_up L (pe v) (L (pe v) - much)) (rev (pe v)) ((fw_up L (pe v) (L (pe v) - much)) (rev (pe v)) + much))
section
variable {N m : Nat} {src dst rev : Nat → Nat} {root : Nat → Prop} {pe : Nat → Nat}
def fw_st (rev : Nat → Nat) (L : Nat → Int) (e : Nat) (much : Int) : Nat → Int := fw_up (fw_up L e (L e - much)) (rev e) ((fw_up L e (L e - much)) (rev e) + much)
theorem fw_st_at {L : Nat → Int} {e : Nat} {much : Int} (h : rev e ≠ e) (k : Nat) : fw_st rev L e much k = L k + (if k = e then - much else 0) + (if k = rev e then much else 0) := by
  unfold fw_st
  by_cases c : k = rev e
  · subst c; rw [fw_up_at, fw_up_ne h, if_neg h, if_pos rfl]; omega
  · rw [fw_up_ne c, if_neg c]
    by_cases c' : k = e
    · subst c'; rw [fw_up_at, if_pos rfl]; omega
    · rw [fw_up_ne c', if_neg c']; omega
theorem fw_st_D (net : fw_Net N m src dst rev) {L : Nat → Int} {e : Nat} (he : e < m) {much : Int} (h : rev e ≠ e) (x : Nat) : fw_D m src (fw_st rev L e much) x = fw_D m src L x + (if src e = x then - much else 0) + (if dst e = x then much else 0) := by
  have h1 : fw_D m src (fw_st rev L e much) x = fw_sm m (fun k => ((if src k = x then L k else 0) + (if k = e then (if src e = x then - much else 0) else 0)) + (if k = rev e then (if dst e = x then much else 0) else 0)) := fw_sm_congr (fun k _ => by
    rw [fw_st_at h]
    by_cases c : src k = x
    · rw [if_pos c, if_pos c]
      by_cases c1 : k = e
      · subst c1
        rw [if_pos rfl, if_pos rfl, if_pos c]
        by_cases c2 : k = rev k
        · exact absurd c2.symm h
        · rw [if_neg c2, if_neg c2]
      · rw [if_neg c1, if_neg c1]
        by_cases c2 : k = rev e
        · rw [if_pos c2, if_pos c2, if_pos (by rw [← (net e he).2.2.2.2.1, ← c2]; exact c)]
        · rw [if_neg c2, if_neg c2]
    · rw [if_neg c, if_neg c]
      by_cases c1 : k = e
      · subst c1
        rw [if_pos rfl, if_neg c]
        by_cases c2 : k = rev k
        · exact absurd c2.symm h
        · rw [if_neg c2]; rfl
      · rw [if_neg c1]
        by_cases c2 : k = rev e
        · rw [if_pos c2, if_neg (by rw [← (net e he).2.2.2.2.1, ← c2]; exact c)]; rfl
        · rw [if_neg c2]; rfl)
  rw [h1, fw_sm_add, fw_sm_add, fw_sm_one he (fun _ => if src e = x then - much else 0), fw_sm_one (net e he).2.2.1 (fun _ => if dst e = x then much else 0)]
  rfl
def fw_last : Nat → List Nat → Nat
  | v, [] => v
  | _, u :: l => fw_last u l
theorem fw_last_mem : ∀ (l : List Nat) (v : Nat), fw_last v l ∈ v :: l := by
  intro l
  induction l with
  | nil => intro v; exact List.mem_cons_self
  | cons u l ih => intro v; exact List.mem_cons_of_mem _ (ih u)
theorem fw_last_root {pr : Nat → Nat} {root : Nat → Prop} : ∀ (l : List Nat) (v : Nat), fw_Ch pr root (v :: l) → root (fw_last v l) := by
  intro l
  induction l with
  | nil => intro v h; exact h
  | cons u l ih => intro v h; exact ih u h.2.2
/-- what goes along a chain: it stays within, caps are the same, and only the chain's ends have another sum -/
theorem fw_aug_ok (net : fw_Net N m src dst rev) {much : Int} (hm : 0 ≤ much) : ∀ (l : List Nat) (v : Nat) (L : Nat → Int), fw_Ch (fun x => src (pe x)) root (v :: l) → (∀ x ∈ v :: l, ¬ root x → pe x < m ∧ dst (pe x) = x ∧ much ≤ L (pe x)) → (∀ e, e < m → 0 ≤ L e) →
    (∀ e, e < m → 0 ≤ fw_aug rev pe much (v :: l) L e) ∧ (∀ e, e < m → fw_aug rev pe much (v :: l) L e + fw_aug rev pe much (v :: l) L (rev e) = L e + L (rev e)) ∧
    (∀ x, fw_D m src (fw_aug rev pe much (v :: l) L) x = fw_D m src L x + (if v = x then much else 0) + (if fw_last v l = x then - much else 0)) ∧
    (∀ e, e < m → fw_aug rev pe much (v :: l) L e ≤ L e ∨ ∃ x ∈ v :: l, ¬ root x ∧ e = rev (pe x)) ∧ (∀ e, m ≤ e → fw_aug rev pe much (v :: l) L e = L e) := by
  intro l
  induction l with
  | nil =>
    intro v L hc _ hL
    refine ⟨hL, fun e _ => rfl, fun x => ?_, fun e _ => Or.inl (Int.le_refl _), fun e _ => rfl⟩
    show fw_D m src L x = fw_D m src L x + (if v = x then much else 0) + (if v = x then - much else 0)
    by_cases c : v = x
    · rw [if_pos c, if_pos c]; omega
    · rw [if_neg c, if_neg c]; omega
  | cons u l ih =>
    intro v L hc hall hL
    obtain ⟨hnr, hu, hc'⟩ := hc
    obtain ⟨he, hd, hmu⟩ := hall v List.mem_cons_self hnr
    have hu : src (pe v) = u := hu
    have hnd := fw_Ch_nodup _ (show fw_Ch (fun x => src (pe x)) root (v :: u :: l) from ⟨hnr, hu, hc'⟩)
    have hvn : v ∉ u :: l := (List.nodup_cons.mp hnd).1
    have hre : rev (pe v) ≠ pe v := fun q => hvn (by
      have h1 := (net _ he).2.2.2.2.1
      rw [q, hu, hd] at h1
      rw [← h1]; exact List.mem_cons_self)
    have hst : ∀ k, fw_st rev L (pe v) much k = L k + (if k = pe v then - much else 0) + (if k = rev (pe v) then much else 0) := fun k => fw_st_at hre k
    have hL2 : ∀ e, e < m → 0 ≤ fw_st rev L (pe v) much e := fun e hem => by
      rw [hst]
      have := hL e hem
      by_cases c : e = pe v
      · rw [if_pos c]; rw [c] at this ⊢
        by_cases c2 : pe v = rev (pe v)
        · exact absurd c2.symm hre
        · rw [if_neg c2]; omega
      · rw [if_neg c]
        by_cases c2 : e = rev (pe v)
        · rw [if_pos c2]; omega
        · rw [if_neg c2]; omega
    obtain ⟨i1, i2, i5, i6, i7⟩ := ih u (fw_st rev L (pe v) much) hc' (fun x hx hr => by
      obtain ⟨g1, g2, g3⟩ := hall x (List.mem_cons_of_mem _ hx) hr
      refine ⟨g1, g2, ?_⟩
      rw [hst]
      by_cases c : pe x = pe v
      · have e1 : x = v := by rw [← g2, ← hd, c]
        exact absurd (e1 ▸ hx) hvn
      · rw [if_neg c]
        by_cases c2 : pe x = rev (pe v)
        · rw [if_pos c2]; omega
        · rw [if_neg c2]; omega) hL2
    have hshow : fw_aug rev pe much (v :: u :: l) L = fw_aug rev pe much (u :: l) (fw_st rev L (pe v) much) := rfl
    rw [hshow]
    refine ⟨i1, fun e hem => ?_, fun x => ?_, fun e hem => ?_, fun e hem => ?_⟩
    · rw [i2 e hem, hst, hst]
      by_cases c : e = pe v
      · subst c
        have c2 : ¬ pe v = rev (pe v) := fun q => hre q.symm
        rw [if_pos rfl, if_neg c2, if_neg hre, if_pos rfl]; omega
      · by_cases c2 : e = rev (pe v)
        · subst c2
          rw [if_neg c, if_pos rfl, (net _ he).2.2.2.1, if_pos rfl, if_neg (fun q => hre q.symm)]; omega
        · have c3 : ¬ rev e = pe v := fun q => c2 (by rw [← q, (net e hem).2.2.2.1])
          have c4 : ¬ rev e = rev (pe v) := fun q => c (by rw [← (net e hem).2.2.2.1, q, (net _ he).2.2.2.1])
          rw [if_neg c, if_neg c2, if_neg c3, if_neg c4]; omega
    · rw [i5, fw_st_D net he hre, hd, hu]
      show _ = fw_D m src L x + (if v = x then much else 0) + (if fw_last u l = x then - much else 0)
      by_cases c1 : u = x <;> by_cases c2 : v = x <;> by_cases c3 : fw_last u l = x <;> simp only [c1, c2, c3, if_true, if_false] <;> omega
    · rcases i6 e hem with h | ⟨x, hx, hr⟩
      · rw [hst] at h
        by_cases c2 : e = rev (pe v)
        · exact Or.inr ⟨v, List.mem_cons_self, hnr, c2⟩
        · left
          rw [if_neg c2] at h
          by_cases c : e = pe v
          · rw [if_pos c] at h; omega
          · rw [if_neg c] at h; omega
      · exact Or.inr ⟨x, List.mem_cons_of_mem _ hx, hr⟩
    · rw [i7 e hem, hst, if_neg (by omega), if_neg (by have := (net _ he).2.2.1; omega)]; omega
end
