set_option maxRecDepth 100000
/-! The reference turns a couple to the least (the greatest) that it can have -/
theorem fw_st_cost {N m : Nat} {src dst rev : Nat → Nat} (net : fw_Net N m src dst rev) {c : Nat → Int} (hc : ∀ e, e < m → c (rev e) = - c e) {L : Nat → Int} {e : Nat} (he : e < m) {much : Int} (h : rev e ≠ e) : fw_sm m (fun k => c k * fw_st rev L e much k) = fw_sm m (fun k => c k * L k) - 2 * (much * c e) := by
  have h1 : fw_sm m (fun k => c k * fw_st rev L e much k) = fw_sm m (fun k => (c k * L k + (if k = e then - (much * c k) else 0)) + (if k = rev e then much * c k else 0)) := fw_sm_congr (fun k _ => by
    rw [fw_st_at h, Int.mul_add, Int.mul_add]
    congr 1
    · congr 1
      by_cases c1 : k = e
      · rw [if_pos c1, if_pos c1, Int.mul_neg, Int.mul_comm]
      · rw [if_neg c1, if_neg c1, Int.mul_zero]
    · by_cases c1 : k = rev e
      · rw [if_pos c1, if_pos c1, Int.mul_comm]
      · rw [if_neg c1, if_neg c1, Int.mul_zero])
  rw [h1, fw_sm_add, fw_sm_add, fw_sm_one he (fun k => - (much * c k)), fw_sm_one (net e he).2.2.1 (fun k => much * c k), hc e he, Int.mul_neg]
  omega
/-- the costs, when something goes along a chain -/
theorem fw_aug_cost {N m : Nat} {src dst rev : Nat → Nat} (net : fw_Net N m src dst rev) {root : Nat → Prop} {pe : Nat → Nat} {c : Nat → Int} (hc : ∀ e, e < m → c (rev e) = - c e) (ph : Nat → Int) {much : Int} : ∀ (l : List Nat) (v : Nat) (L : Nat → Int), fw_Ch (fun x => src (pe x)) root (v :: l) → (∀ x ∈ v :: l, ¬ root x → pe x < m ∧ dst (pe x) = x ∧ ph x = ph (src (pe x)) + c (pe x)) →
    fw_sm m (fun e => c e * fw_aug rev pe much (v :: l) L e) = fw_sm m (fun e => c e * L e) - 2 * (much * (ph v - ph (fw_last v l))) := by
  intro l
  induction l with
  | nil => intro v L _ _; show fw_sm m (fun e => c e * L e) = _ - 2 * (much * (ph v - ph v)); rw [Int.sub_self, Int.mul_zero]; omega
  | cons u l ih =>
    intro v L hch hall
    obtain ⟨hnr, hu, hc'⟩ := hch
    have hu : src (pe v) = u := hu
    obtain ⟨he, hd, hp⟩ := hall v List.mem_cons_self hnr
    have hnd := fw_Ch_nodup _ (show fw_Ch (fun x => src (pe x)) root (v :: u :: l) from ⟨hnr, hu, hc'⟩)
    have hvn : v ∉ u :: l := (List.nodup_cons.mp hnd).1
    have hre : rev (pe v) ≠ pe v := fun q => hvn (by
      have h1 := (net _ he).2.2.2.2.1
      rw [q, hu, hd] at h1
      rw [← h1]; exact List.mem_cons_self)
    show fw_sm m (fun e => c e * fw_aug rev pe much (u :: l) (fw_st rev L (pe v) much) e) = _
    rw [ih u _ hc' (fun x hx => hall x (List.mem_cons_of_mem _ hx)), fw_st_cost net hc he hre]
    show _ = fw_sm m (fun e => c e * L e) - 2 * (much * (ph v - ph (fw_last u l)))
    rw [hp, hu]
    simp only [Int.mul_sub, Int.mul_add]
    omega
def rn_fxu (fx : Nat → Bool) (k : Nat) : Nat → Bool := fun j => if j = k then true else fx j
/-- what goes is of the least total; prices for couples that aren't fixed -/
def rn_T (n : Nat) (nu be : Nat → Int) (th : Option (Nat → Int)) (may : Nat → Int) (fx : Nat → Bool) (x t : Nat → Int) : Prop := fs_O n nu be th x ∧ (∀ p, p < 8 → t p = rn_t nu x p) ∧ ∃ pi, rn_P (rn_L be may fx x t) pi
theorem rn_P_mono {be may : Nat → Int} {fx : Nat → Bool} {x t pi : Nat → Int} {k : Nat} (P : rn_P (rn_L be may fx x t) pi) {x' : Nat → Int} (hx : ∀ j, j ≠ k → x' j = x j) : rn_P (rn_L be may (rn_fxu fx k) x' t) pi := by
  intro e he ho
  refine P e he ?_
  rcases rn_cases e he with ⟨p, q, hp, hq, hpq, rfl⟩ | ⟨a, b, ha, hb, rfl⟩ | ⟨a, b, ha, hb, rfl⟩
  · rw [rn_L_0 _ _ _ _ _ hq hpq] at ho; omega
  · rw [rn_L_s _ _ _ _ _ ha hb] at ho ⊢
    by_cases c : a = b
    · rw [if_pos c] at ho ⊢; exact ho
    · rw [if_neg c] at ho ⊢
      unfold rn_fxu at ho
      by_cases c2 : 8 * a + b = k
      · simp [c2] at ho
      · rw [if_neg c2, hx _ c2] at ho; exact ho
  · rw [rn_L_g _ _ _ _ _ ha hb] at ho ⊢
    by_cases c : a = b
    · rw [if_pos c] at ho ⊢; exact ho
    · rw [if_neg c] at ho ⊢
      unfold rn_fxu at ho
      by_cases c2 : 8 * a + b = k
      · simp [c2] at ho
      · rw [if_neg c2, hx _ c2] at ho; exact ho
/-- a couple's arcs beside the others -/
theorem rn_L_k {be may : Nat → Int} {fx : Nat → Bool} {x t : Nat → Int} {a b : Nat} (ha : a < 8) (hb : b < 8) (hab : a ≠ b) {e : Nat} (he : e < 256) (h1 : e ≠ 16 * a + (8 + b)) (h2 : e ≠ 16 * (8 + b) + a) {x' be' : Nat → Int} (hx : ∀ j, j ≠ 8 * a + b → x' j = x j) (hb' : ∀ j, j ≠ 8 * a + b → be' j = be j) : rn_L be' may (rn_fxu fx (8 * a + b)) x' t e = rn_L be may fx x t e := by
  rcases rn_cases e he with ⟨p, q, hp, hq, hpq, rfl⟩ | ⟨a', b', ha', hb'', rfl⟩ | ⟨a', b', ha', hb'', rfl⟩
  · rw [rn_L_0 _ _ _ _ _ hq hpq, rn_L_0 _ _ _ _ _ hq hpq]
  · have c2 : 8 * a' + b' ≠ 8 * a + b := by omega
    rw [rn_L_s _ _ _ _ _ ha' hb'', rn_L_s _ _ _ _ _ ha' hb'']
    unfold rn_fxu
    rw [if_neg c2, hx _ c2, hb' _ c2]
  · have c2 : 8 * a' + b' ≠ 8 * a + b := by omega
    rw [rn_L_g _ _ _ _ _ ha' hb'', rn_L_g _ _ _ _ _ ha' hb'']
    unfold rn_fxu
    rw [if_neg c2, hx _ c2]
theorem fs_out_up {x : Nat → Int} {a b : Nat} (ha : a < 8) (hb : b < 8) (v : Int) (p : Nat) (hp : p < 8) : fs_out (fw_up x (8 * a + b) v) p = fs_out x p + (if p = a then v - x (8 * a + b) else 0) ∧ fs_in (fw_up x (8 * a + b) v) p = fs_in x p + (if p = b then v - x (8 * a + b) else 0) := by
  unfold fs_out fs_in
  constructor
  · by_cases c : p = a
    · subst c
      rw [if_pos rfl, ← fw_sm_one hb (fun _ => v - x (8 * p + b)), ← fw_sm_add]
      refine fw_sm_congr (fun i hi => ?_)
      by_cases c : i = b
      · subst c; rw [fw_up_at, if_pos rfl]; omega
      · rw [fw_up_ne (by omega), if_neg c]; omega
    · rw [if_neg c, Int.add_zero]
      exact fw_sm_congr (fun i hi => fw_up_ne (by omega))
  · by_cases c : p = b
    · subst c
      rw [if_pos rfl, ← fw_sm_one ha (fun _ => v - x (8 * a + p)), ← fw_sm_add]
      refine fw_sm_congr (fun i hi => ?_)
      by_cases c : i = a
      · subst c; rw [fw_up_at, if_pos rfl]; omega
      · rw [fw_up_ne (by omega), if_neg c]; omega
    · rw [if_neg c, Int.add_zero]
      exact fw_sm_congr (fun i hi => fw_up_ne (by omega))
