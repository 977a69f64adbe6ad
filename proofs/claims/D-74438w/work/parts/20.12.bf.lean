set_option maxRecDepth 100000
/-! Ways of least cost, laid step by step -/
def fw_un (f : Nat → Nat) (k v : Nat) : Nat → Nat := fun i => if i = k then v else f i
theorem fw_split {v : Nat} : ∀ {l : List Nat}, v ∈ l → ∃ a b, l = a ++ v :: b ∧ v ∉ a := by
  intro l
  induction l with
  | nil => intro h; cases h
  | cons x l ih =>
    intro h
    by_cases c : v = x
    · exact ⟨[], l, by rw [c]; rfl, List.not_mem_nil⟩
    · rcases List.mem_cons.mp h with h1 | h1
      · exact absurd h1 c
      · obtain ⟨a, b, e1, e2⟩ := ih h1
        exact ⟨x :: a, b, by rw [e1]; rfl, fun hm => by
          rcases List.mem_cons.mp hm with h2 | h2
          · exact c h2
          · exact e2 h2⟩
def fw_B (N m : Nat) (src dst : Nat → Nat) (ok : Nat → Prop) (w pi : Nat → Int) (FAR lb : Int) (root : Nat → Prop) (dist : Nat → Int) (pe : Nat → Nat) : Prop :=
  (∀ v, v < N → dist v ≤ FAR) ∧ (∀ v, v < N → dist v < FAR → lb ≤ dist v - pi v) ∧
  (∀ v, v < N → dist v < FAR → (root v ∧ dist v = 0) ∨ (¬ root v ∧ pe v < m ∧ ok (pe v) ∧ dst (pe v) = v ∧ src (pe v) < N ∧ dist (src (pe v)) < FAR ∧ dist (src (pe v)) + w (pe v) ≤ dist v)) ∧
  (∀ v, v < N → dist v < FAR → ∃ l, fw_Ch (fun x => src (pe x)) root (v :: l))
def fw_Pot (m : Nat) (src dst : Nat → Nat) (ok : Nat → Prop) (w pi : Nat → Int) : Prop := ∀ e, e < m → ok e → 0 ≤ w e + pi (src e) - pi (dst e)
section
variable {N m : Nat} {src dst : Nat → Nat} {ok : Nat → Prop} {w pi : Nat → Int} {FAR lb : Int} {root : Nat → Prop} {dist : Nat → Int} {pe : Nat → Nat}
/-- along a chain what is above the price doesn't grow -/
theorem fw_B_mono (P : fw_Pot m src dst ok w pi) (B : fw_B N m src dst ok w pi FAR lb root dist pe) : ∀ (l : List Nat) (v : Nat), v < N → dist v < FAR → fw_Ch (fun x => src (pe x)) root (v :: l) → ∀ x ∈ v :: l, x < N ∧ dist x < FAR ∧ dist x - pi x ≤ dist v - pi v := by
  intro l
  induction l with
  | nil =>
    intro v hv hd _ x hx
    rcases List.mem_cons.mp hx with rfl | h
    · exact ⟨hv, hd, Int.le_refl _⟩
    · cases h
  | cons u l ih =>
    intro v hv hd hc x hx
    rcases List.mem_cons.mp hx with rfl | h
    · exact ⟨hv, hd, Int.le_refl _⟩
    · rcases B.2.2.1 v hv hd with h1 | ⟨_, h2, h3, h4, h5, h6, h7⟩
      · exact absurd h1.1 hc.1
      · have hu : src (pe v) = u := hc.2.1
        subst hu
        have h8 := ih _ h5 h6 hc.2.2 x h
        have h9 := P (pe v) h2 h3
        rw [h4] at h9
        exact ⟨h8.1, h8.2.1, by omega⟩
theorem fw_B_step (net : ∀ e, e < m → src e < N ∧ dst e < N) (P : fw_Pot m src dst ok w pi) (B : fw_B N m src dst ok w pi FAR lb root dist pe) {e : Nat} (he : e < m) (ho : ok e) (h1 : dist (src e) < FAR) (h2 : dist (src e) + w e < dist (dst e)) :
    fw_B N m src dst ok w pi FAR lb (fun x => root x ∧ x ≠ dst e) (fw_up dist (dst e) (dist (src e) + w e)) (fw_un pe (dst e) e) := by
  obtain ⟨hu, hv⟩ := net e he
  have hpot := P e he ho
  have hlow := B.2.1 (src e) hu h1
  have hfar := B.1 (dst e) hv
  obtain ⟨k, hk⟩ := B.2.2.2 (src e) hu h1
  have hmk := fw_B_mono P B k (src e) hu h1 hk
  have hnot : dst e ∉ src e :: k := fun hm => by have := (hmk _ hm).2.2; omega
  have hne : src e ≠ dst e := fun h => hnot (h ▸ List.mem_cons_self)
  have hfun : (fun x => src (fw_un pe (dst e) e x)) = (fun x => if x = dst e then src e else src (pe x)) := by
    funext x
    unfold fw_un
    by_cases c : x = dst e
    · rw [if_pos c, if_pos c]
    · rw [if_neg c, if_neg c]
  refine ⟨fun v hvN => ?_, fun v hvN hd => ?_, fun v hvN hd => ?_, fun v hvN hd => ?_⟩
  · by_cases c : v = dst e
    · subst c; rw [fw_up_at]; omega
    · rw [fw_up_ne c]; exact B.1 v hvN
  · by_cases c : v = dst e
    · subst c; rw [fw_up_at]; omega
    · rw [fw_up_ne c] at hd ⊢; exact B.2.1 v hvN hd
  · by_cases c : v = dst e
    · right
      subst c
      refine ⟨fun r => r.2 rfl, ?_, ?_, ?_, ?_, ?_, ?_⟩ <;> simp only [fw_un, if_true]
      · exact he
      · exact ho
      · exact hu
      · rw [fw_up_ne hne]; exact h1
      · rw [fw_up_ne hne, fw_up_at]; omega
    · rw [fw_up_ne c] at hd
      rcases B.2.2.1 v hvN hd with h | ⟨g1, g2, g3, g4, g5, g6, g7⟩
      · left; exact ⟨⟨h.1, c⟩, by rw [fw_up_ne c]; exact h.2⟩
      · right
        simp only [fw_un, if_neg c]
        refine ⟨fun r => g1 r.1, g2, g3, g4, g5, ?_, ?_⟩
        · by_cases c' : src (pe v) = dst e
          · rw [c', fw_up_at]; omega
          · rw [fw_up_ne c']; exact g6
        · rw [fw_up_ne c]
          by_cases c' : src (pe v) = dst e
          · rw [c', fw_up_at]; rw [c'] at g7; omega
          · rw [fw_up_ne c']; exact g7
  · rw [hfun]
    by_cases c : v = dst e
    · subst c
      exact ⟨src e :: k, ⟨fun r => r.2 rfl, if_pos rfl, fw_Ch_off _ hnot hk⟩⟩
    · rw [fw_up_ne c] at hd
      obtain ⟨l, hl⟩ := B.2.2.2 v hvN hd
      by_cases hm : dst e ∈ v :: l
      · obtain ⟨a, b, e1, e2⟩ := fw_split hm
        rw [e1] at hl
        have := fw_Ch_on hk hnot a b e2 hl
        cases a with
        | nil =>
          simp only [List.nil_append, List.cons.injEq] at e1
          exact absurd e1.1 c
        | cons y a =>
          simp only [List.cons_append, List.cons.injEq] at e1
          rw [e1.1]
          exact ⟨_, this⟩
      · exact ⟨l, fw_Ch_off _ hm hl⟩
end
