set_option maxRecDepth 100000
/-! The Ways: one way found and gone -/
section
variable {d : UD} {b : Nat} {o : Nat → Nat} {a : Nat} {A : Nat → Nat} {m : Nat} {f0 f1 : Nat → Int32} {f2 f3 : Nat → Int64} {f6 : Nat → Int32} {E : Nat → Nat} {L : Nat → Int} {k : Nat} {dd : Int} {p q : Nat → Int}
/-- the beginning: nothing is near but the source -/
theorem bf_0 {u : UM} (h0 : uw_ b u) {f4 : Nat → Int64} {f5 : Nat → Int32} (Y : yE_ d o u a A m f0 f1 f2 f3 f4 f5 f6) (L : Nat → Int) (E : Nat → Nat) (k : Nat) (dd : Int) (p q : Nat → Int) {α : Type} {G : Nat → va_W → UM → Option (α × UC)} {Q : α × UC → Prop} (g : ∀ w (u7 : UM), u7.2 = u.2 → ygt_ b KW_ o u o (w, u7.2) → bf_ d o a A m f0 f1 f2 f3 f6 E L k dd p q (w, u7.2) (fun v => v = 16) (fun v => if v = 16 then 0 else cn_FAR) (fun _ => 0) → Ev_ (fun n => G n w u7) Q) : Ev_ (fun n => u_bl (uf_X2_goesOnce_L2l n d a (0, u)) (fun u7 => m_b (u_fr d u7 3 4 a) (fun b8 => m_b (u_stL d u7 b8 16 0) (fun w10 => G n w10 u7)))) Q := by
  refine ev_bl (P := fun s c => c = (0, 0) ∧ s.2 = u.2 ∧ ygt_ b KW_ o u o s ∧ ∃ f4', yE_ d o s a A m f0 f1 f2 f3 f4' f5 f6 ∧ ∀ v, v < 18 → f4' v = lz_ cn_FAR) ?_ (fun s c hp => ?_)
  · unfold uf_X2_goesOnce_L2l
    refine ev_uf (Q := fun (s : UM) => s.2 = u.2 ∧ ygt_ b KW_ o u o s ∧ ∃ f4', yE_ d o s a A m f0 f1 f2 f3 f4' f5 f6 ∧ ∀ v, v < 18 → f4' v = lz_ cn_FAR) 18 (fun (i : Nat) (y : Int32 × UM) => y.1 = n_ i ∧ y.2.2 = u.2 ∧ ygt_ b KW_ o u o y.2 ∧ ∃ f4', yE_ d o y.2 a A m f0 f1 f2 f3 f4' f5 f6 ∧ ∀ v, v < i → f4' v = lz_ cn_FAR) (fun i y hi hP => ?_) (fun y hP => ?_) (0, u) ⟨n_lit 0, rfl, ygt_rfl h0, f4, Y, fun v hv => absurd hv (Nat.not_lt_zero _)⟩
    · obtain ⟨v, u1⟩ := y
      obtain ⟨e0, z1, g1, f4', Y1, e4⟩ := hP
      dsimp only at e0 z1 g1 Y1 ⊢
      subst e0
      unfold uf_X2_goesOnce_L2
      refine ev_ifF (by rw [n_lit 18, n_le (by omega) (by omega)]; omega) ?_
      refine ev_b1 (yE_f4 Y1) (yE_s4 g1.1 Y1 hi _ (fun w Y2 g2 => ?_))
      rw [show n_ i + 1 = n_ (i + 1) from by rw [n_lit 1, n_add]]
      refine ev_some ⟨_, rfl, rfl, z1, ygt_tr h0 g1 (ygt_sub g2 (KW_1 (by omega))), _, Y2, fun v hv => ?_⟩
      by_cases c : v = i
      · subst c; rw [updL_at, lz_far]
      · rw [updL_ne c]; exact e4 v (by omega)
    · obtain ⟨v, u1⟩ := y
      obtain ⟨e0, z1, g1, f4', Y1, e4⟩ := hP
      dsimp only at e0 z1 g1 Y1 ⊢
      subst e0
      unfold uf_X2_goesOnce_L2
      exact ev_ifT (by decide) (ev_some ⟨_, rfl, z1, g1, f4', Y1, e4⟩)
  · obtain ⟨rfl, z1, g1, f4', Y1, e4⟩ := hp
    refine ev_b1 (yE_f4 Y1) ?_
    rw [show (16 : Int32) = n_ 16 from n_lit 16]
    refine yE_s4 g1.1 Y1 (show 16 < 18 by omega) _ (fun w Y2 g2 => ?_)
    refine ev_w (g w s z1 (ygt_tr h0 g1 (ygt_sub g2 (KW_1 (by omega)))) ⟨_, f5, Y2, ⟨fun v hv => ?_, fun v hv hlt => ?_, fun v hv hlt => ?_, fun v hv hlt => ?_⟩, fun v hv => ?_, fun v hv h1 h2 => ?_, fun v hv => hv, rfl, if_pos rfl⟩) (fun r hr => ?_)
    · dsimp only
      by_cases c : v = 16
      · rw [if_pos c]; unfold cn_FAR; omega
      · rw [if_neg c]; exact Int.le_refl _
    · dsimp only at hlt ⊢
      by_cases c : v = 16
      · rw [if_pos c, c]; omega
      · rw [if_neg c] at hlt; omega
    · dsimp only at hlt ⊢
      by_cases c : v = 16
      · exact Or.inl ⟨c, if_pos c⟩
      · rw [if_neg c] at hlt; omega
    · dsimp only at hlt
      by_cases c : v = 16
      · exact ⟨[], c⟩
      · rw [if_neg c] at hlt; omega
    · dsimp only
      by_cases c : v = 16
      · rw [c, updL_at, if_pos rfl]; exact lz_0
      · rw [updL_ne c, if_neg c]; exact e4 v hv
    · dsimp only at h2
      rw [if_neg h1] at h2; omega
    · rw [show u_add (0, 0) r.2 = r.2 from u_add_0 _]; exact hr
/-- how much goes along the way -/
theorem bf_much (hk : k < 64) (hd : -1 ≤ dd ∧ dd ≤ 1) (hW : eW_ m E) (hE : eG_ m E L (cn_w k dd) f0 f1 f2 f3) (hL : ∀ e, e < 324 → 0 ≤ L e ∧ L e ≤ cn_FAR) {u : UM} {root : Nat → Prop} {dist : Nat → Int} {pe : Nat → Nat} (h : bf_ d o a A m f0 f1 f2 f3 f6 E L k dd p q u root dist pe) {l : List Nat} (hc : fw_Ch (fun x => cn_src (pe x)) root (17 :: l)) (hall : ∀ x ∈ 17 :: l, x < 18 ∧ dist x < cn_FAR) :
    Ev_ (fun n => uf_X2_goesOnce_L190l n d a (2305843009213693951, 17, u)) (fun r => r.2 = (0, 0) ∧ r.1.2 = u ∧ ∃ much, r.1.1 = lz_ much ∧ 0 < much ∧ much ≤ cn_FAR ∧ ∀ x ∈ 17 :: l, ¬ root x → much ≤ L (pe x)) := by
  obtain ⟨f4, f5, Y, B, e4, e5, hr, hr16, h16⟩ := id h
  have m144 := hW.1
  have far : cn_FAR = 2305843009213693951 := rfl
  unfold uf_X2_goesOnce_L190l
  refine ev_ul (Q := fun (y : Int64 × UM) (c : UC) => c = (0, 0) ∧ y.2 = u ∧ ∃ much, y.1 = lz_ much ∧ 0 < much ∧ much ≤ cn_FAR ∧ ∀ x ∈ 17 :: l, ¬ root x → much ≤ L (pe x)) (β := List Nat) (fun r => r.length) (fun r (y : Int64 × Int32 × UM) (c : UC) => c = (0, 0) ∧ y.2.2 = u ∧ ∃ v rest much, r = v :: rest ∧ y.2.1 = n_ v ∧ y.1 = lz_ much ∧ 0 < much ∧ much ≤ cn_FAR ∧ fw_Ch (fun x => cn_src (pe x)) root r ∧ (∀ x ∈ r, x ∈ 17 :: l) ∧ ∀ x ∈ 17 :: l, ¬ root x → x ∈ r ∨ much ≤ L (pe x)) (fun r y c hy => ?_) (17 :: l) (2305843009213693951, 17, u) ⟨rfl, rfl, 17, l, cn_FAR, rfl, n_lit 17, lz_far, by omega, by omega, hc, fun x hx => hx, fun x hx _ => Or.inl hx⟩
  obtain ⟨v2, v4, u1⟩ := y
  obtain ⟨rfl, rfl, v, rest, much, rfl, e1, e2, b1, b2, hch, hin, hdone⟩ := hy
  dsimp only at e1 e2 ⊢
  subst e1; subst e2
  obtain ⟨hv, hvf⟩ := hall v (hin v List.mem_cons_self)
  unfold uf_X2_goesOnce_L190
  refine ev_ifq (c' := v = 16) (by rw [n_lit 16, n_eq (by omega) (by omega)]) (fun c => ?_) (fun c => ?_)
  · refine ev_some ⟨rfl, rfl, much, rfl, b1, b2, fun x hx hnr => ?_⟩
    rcases hdone x hx hnr with z | z
    · cases rest with
      | nil => rw [List.mem_singleton.mp z, c] at hnr; exact absurd hr16 hnr
      | cons y rest => exact absurd (by rw [c]; exact hr16) hch.1
    · exact z
  · have hnr : ¬ root v := fun z => c (hr v z)
    obtain ⟨j, j1, j2, j3⟩ := e5 v hv hnr hvf
    cases rest with
    | nil => exact absurd hch hnr
    | cons y rest =>
      obtain ⟨_, hpr, hch2⟩ := hch
      obtain ⟨g0, g1, g2, g3⟩ := hE j j1
      have he := hW.2.1 j j1
      have hl := hL _ he
      have l5 : u_ldI d u1 (A 5) (n_ v) = some (n_ j) := by rw [yE_l5 Y hv, j2]
      have l2 : u_ldL d u1 (A 2) (n_ j) = some (lz_ (L (E j))) := by rw [yE_l2 Y (show j < 144 by omega), g2]
      have l0 : u_ldI d u1 (A 0) (n_ j) = some (n_ (cn_src (E j))) := by rw [yE_l0 Y (show j < 144 by omega), g0]
      have y0 := yE_f0 Y
      have y2 := yE_f2 Y
      have y5 := yE_f5 Y
      simp only [y0, y2, y5, l5, l2, l0, m_bs]
      have hpos : 0 < L (E j) := by
        rcases B.2.2.1 v hv hvf with z | ⟨_, _, z, _⟩
        · exact absurd z.1 hnr
        · rw [← j3]; exact z
      have hmin : (if lz_ (L (E j)) < lz_ much then lz_ (L (E j)) else lz_ much) = lz_ (min (L (E j)) much) := by
        by_cases cc : L (E j) < much
        · rw [if_pos ((lz_lt ⟨by omega, by omega⟩ ⟨by omega, by omega⟩).mpr cc), show min (L (E j)) much = L (E j) by omega]
        · rw [if_neg (fun z => cc ((lz_lt ⟨by omega, by omega⟩ ⟨by omega, by omega⟩).mp z)), show min (L (E j)) much = much by omega]
      rw [hmin]
      have hy : cn_src (E j) = y := by rw [← j3]; exact hpr
      rw [hy]
      refine ev_some ⟨y :: rest, ⟨rfl, rfl, y, rest, _, rfl, rfl, rfl, by omega, by omega, hch2, fun x hx => hin x (List.mem_cons_of_mem _ hx), fun x hx hxr => ?_⟩, by simp⟩
      rcases hdone x hx hxr with z | z
      · rcases List.mem_cons.mp z with z | z
        · right; subst z; rw [j3]; omega
        · exact Or.inl z
      · right; omega
end
