set_option maxRecDepth 100000
/-! The Press: the least total -/
section
variable {d : UD} {b : Nat} {o : Nat → Nat} {a t np : Nat} {A : Nat → Nat} {fn : Nat → Int32} {fb fc ft : Nat → Int64} {g : GS_} {aW : Nat} {nu be may : Nat → Int} {th : Option (Nat → Int)}
theorem up_L25 {u : UM} (h8 : np ≤ 8) (hw : u_nr u 1 2 t = some aW) (hZ : yZ_ d o u a t np A fn fb fc ft) {X : Nat → Int} (hQ : yQ_ d o u aW np X) {x : Nat} (hx : x < np) (hd : X (8 * x + x) = 0) (s : Int) : Ev_ (fun n => uf_X8_least_L25l n d a (n_ x) (q_ s, 0, u)) (fun r => r.2 = (0, 0) ∧ r.1 = (q_ (s + fw_sm np (fun y => X (8 * x + y))), u)) := by
  obtain ⟨fs, hcl⟩ := yW_cl (yQ_W hQ)
  have f0 := yZ_n hZ
  have ft' := yZ_t hZ
  unfold uf_X8_least_L25l
  refine ev_uf (Q := fun (y : Int32 × UM) => y = (q_ (s + fw_sm np (fun y => X (8 * x + y))), u)) np (fun (i : Nat) (y : Int32 × Int32 × UM) => y = (q_ (s + fw_sm i (fun y => X (8 * x + y))), n_ i, u)) (fun i y hi hP => ?_) (fun y hP => ?_) _ (by rw [show fw_sm 0 (fun y => X (8 * x + y)) = 0 from rfl, Int.add_zero]; rfl)
  · subst hP
    have hidx : n_ i + 1 = n_ (i + 1) := by rw [n_lit 1, n_add]
    have sm : s + fw_sm (i + 1) (fun y => X (8 * x + y)) = s + fw_sm i (fun y => X (8 * x + y)) + X (8 * x + i) := by
      rw [show fw_sm (i + 1) (fun y => X (8 * x + y)) = fw_sm i (fun y => X (8 * x + y)) + X (8 * x + i) from rfl]; omega
    unfold uf_X8_least_L25 uf_X8_least_J55
    dsimp only
    refine ev_b1 f0 ?_
    refine ev_ifF (by rw [n_le (by omega) (by omega)]; omega) ?_
    rw [hidx]
    refine ev_ifq (c' := x = i) (by rw [n_eq (by omega) (by omega)]) (fun c => ?_) (fun c => ?_)
    · refine ev_some ⟨_, rfl, ?_⟩
      rw [sm]; subst c; rw [hd, q_0, q_add]
    · refine ev_b1 ft' (ev_b1 hw (ev_b1 hcl ?_))
      refine ev_bn (fun n => yQ_of n hQ h8 hx hi c) ?_
      refine ev_some ⟨_, rfl, ?_⟩
      rw [sm, q_add]
  · subst hP
    unfold uf_X8_least_L25
    dsimp only
    refine ev_b1 f0 ?_
    exact ev_ifT (by rw [n_le (by omega) (by omega)]; omega) (ev_some ⟨_, rfl, rfl⟩)
theorem fs_tot_np {n : Nat} (h8 : n ≤ 8) {X : Nat → Int} (hz : ∀ k, k < 64 → ¬ fs_cp n k → X k = 0) : fs_tot X = fw_sm n (fun x => fw_sm n (fun y => X (8 * x + y))) := by
  unfold fs_tot
  rw [fw_sm_64, fw_sm_ext h8 (g := fun x => fw_sm 8 (fun y => X (8 * x + y))) (fun x h1 h2 => fw_sm_z (fun y hy => hz _ (by omega) (fun z => by have := ((fs_cp_at hy).mp z).1; omega)))]
  exact fw_sm_congr (fun x hx => fw_sm_ext h8 (fun y h1 h2 => hz _ (by omega) (fun z => by have := ((fs_cp_at h2).mp z).2.1; omega)))
theorem up_least {u : UM} (hR : yR0_ d b o u t aW g) (hW : yW_ d o u aW) (hZ : yZ_ d o u a t np A fn fb fc ft) (hP : pR_ np nu be may fn fb ft) (hA : pA_ np nu be th may) :
    Ev_ (fun n => uf_X8_least n d u a) (fun r => r.2 = (0, 0) ∧ r.1.2.2 = u.2 ∧ ygt_ b KQ_ o u o r.1.2 ∧ yW_ d o r.1.2 aW ∧ ((r.1.1 = q_ (-1) ∧ (∀ y, ¬ fs_F np nu be th y)) ∨ ∃ X, fs_O np nu be th X ∧ r.1.1 = q_ (fs_tot X))) := by
  have h0 := hR.1
  have h8 : np ≤ 8 := hA.1.1
  unfold uf_X8_least
  refine ev_b1 (cl_e hZ.1) ?_
  refine ev_bc (P := fun r s c => c = (0, 0) ∧ s.2 = u.2 ∧ ygt_ b KQ_ o u o s ∧ (∃ fc', yZ_ d o s a t np A fn fb fc' ft) ∧ ((r = 0 ∧ (∀ y, ¬ fs_F np nu be th y) ∧ yW_ d o s aW) ∨ (r = 1 ∧ ∃ X, yQ_ d o s aW np X ∧ fs_O np nu be th X ∧ ∀ z, fs_O np nu be th z → (0 : Int) * X 1 ≤ 0 * z 1))) (up_goes hR hW hZ hP hA (k := 1) (by omega) (by omega) (dd := 0) (by omega) (Or.inl ⟨rfl, rfl⟩)) (fun r s c hq => by rw [hq.1]; exact hq.2.1) (fun r s c hq => ?_)
  obtain ⟨rfl, z1, g1, ⟨fc1, Z1⟩, hq⟩ := hq
  rcases hq with ⟨rfl, q1, q2⟩ | ⟨rfl, X, q1, q2, _⟩
  · exact ev_ifT rfl (ev_some ⟨rfl, z1, g1, q2, Or.inl ⟨m1_q, q1⟩⟩)
  · refine ev_ifF (by decide) ?_
    have Rs := yR0_keep hR g1 KQ_T
    have hw := (yR0_w Rs).2
    have hz := q2.1.2.1
    have hdg : ∀ x, x < np → X (8 * x + x) = 0 := fun x hx => hz _ (by omega) (fun z => ((fs_cp_at (by omega)).mp z).2.2 rfl)
    refine ev_bl (P := fun y c => c = (0, 0) ∧ y = (q_ (fs_tot X), s)) ?_ (fun y c hp => ?_)
    · rw [fs_tot_np h8 hz]
      unfold uf_X8_least_L15l
      refine ev_uf (Q := fun (y : Int32 × UM) => y = (q_ (fw_sm np (fun x => fw_sm np (fun y => X (8 * x + y)))), s)) np (fun (i : Nat) (y : Int32 × Int32 × UM) => y = (q_ (fw_sm i (fun x => fw_sm np (fun y => X (8 * x + y)))), n_ i, s)) (fun i y hi hP => ?_) (fun y hP => ?_) _ rfl
      · subst hP
        unfold uf_X8_least_L15
        dsimp only
        refine ev_b1 (yZ_n Z1) ?_
        refine ev_ifF (by rw [n_le (by omega) (by omega)]; omega) ?_
        refine ev_bl (P := fun y c => c = (0, 0) ∧ y = (q_ (fw_sm i (fun x => fw_sm np (fun y => X (8 * x + y))) + fw_sm np (fun y => X (8 * i + y))), s)) (up_L25 h8 hw Z1 q1 hi (hdg i hi) _) (fun y c hp => ?_)
        obtain ⟨rfl, rfl⟩ := hp
        rw [show n_ i + 1 = n_ (i + 1) from by rw [n_lit 1, n_add]]
        exact ev_some ⟨_, rfl, rfl⟩
      · subst hP
        unfold uf_X8_least_L15
        dsimp only
        refine ev_b1 (yZ_n Z1) ?_
        exact ev_ifT (by rw [n_le (by omega) (by omega)]; omega) (ev_some ⟨_, rfl, rfl⟩)
    · obtain ⟨rfl, rfl⟩ := hp
      exact ev_some ⟨rfl, z1, g1, yQ_W q1, Or.inr ⟨X, q2, rfl⟩⟩
end
