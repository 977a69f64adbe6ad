set_option maxRecDepth 100000
/-! The reference's groups: sums of sets -/
/-- a party's free net -/
def nt_ (f : Nat → Int) (p : Nat) : Int := fs_out f p - fs_in f p
def gs_ (np : Nat) (f : Nat → Int) (v : Int32) : Int := fw_sm np (fun p => if bt_ v p then nt_ f p else 0)
theorem rf_sumBy {np nk : Nat} {s : SS_} (ok : ss_ok np nk s) {k : Nat} {st : MS} (h5 : st.1 5 = n_ np) (h17 : ∀ c, c < 64 → st.2.1 17 c = q_ (ss_fl s.1 k c)) (v : Int32) : Ev_ (fun n => f_sumBy n st v) (fun r => r = q_ (gs_ np (ss_fl s.1 k) v)) := by
  have h8 := ok.1
  unfold f_sumBy gs_
  refine ev_b (P := fun r => r = q_ (fw_sm np (fun p => if bt_ v p then nt_ (ss_fl s.1 k) p else 0))) ?_ (fun r hr => ev_some hr)
  unfold f_sumBy_L4l
  refine ev_for np (fun i y => y = (q_ (fw_sm i (fun p => if bt_ v p then nt_ (ss_fl s.1 k) p else 0)), n_ i)) (fun i y hi hP => ?_) (fun y hP => ?_) _ (by rw [← n_lit 0]; rfl)
  · subst hP
    have hs : ∀ n, f_sumBy_L4 n st v (q_ (fw_sm i (fun p => if bt_ v p then nt_ (ss_fl s.1 k) p else 0))) (n_ i) = m_if (((v >>> (n_ i &&& 31)) &&& 1 : Int32) = (1 : Int32)) (m_b (f_netBy n st (n_ i)) (fun r4 => some (.inl (q_ (fw_sm i (fun p => if bt_ v p then nt_ (ss_fl s.1 k) p else 0)) + r4, n_ (i + 1))))) (some (.inl (q_ (fw_sm i (fun p => if bt_ v p then nt_ (ss_fl s.1 k) p else 0)) + 0, n_ (i + 1)))) := fun n => by
      unfold f_sumBy_L4 f_sumBy_J31
      rw [h5, show n_ i + 1 = n_ (i + 1) from by rw [n_lit 1, n_add]]
      simp (disch := omega) only [n_le]
      rw [ef_F (show ¬ np ≤ i by omega)]
    simp only [hs]
    refine ev_ifq (bt_test (by omega) v) (fun c => ?_) (fun c => ?_)
    · have hn := rf_netBy h8 h5 h17 (show i < 8 by omega)
      rw [fl_nu' ok hi] at hn
      refine ev_b hn (fun r hr => ?_)
      subst hr
      refine ev_some ⟨_, rfl, ?_⟩
      rw [q_add]
      show _ = (q_ (fw_sm i _ + (if bt_ v i then nt_ (ss_fl s.1 k) i else 0)), _)
      rw [if_pos c]; rfl
    · refine ev_some ⟨_, rfl, ?_⟩
      rw [show (0 : Int32) = q_ 0 from rfl, q_add]
      show _ = (q_ (fw_sm i _ + (if bt_ v i then nt_ (ss_fl s.1 k) i else 0)), _)
      rw [if_neg c]
  · subst hP
    refine ev_eq (r := .inr (q_ (fw_sm np (fun p => if bt_ v p then nt_ (ss_fl s.1 k) p else 0)))) (fun n => ?_) ⟨_, rfl, rfl⟩
    unfold f_sumBy_L4
    dsimp only
    rw [h5]
    simp (disch := omega) only [n_le]
    rw [ef_T (by omega)]
theorem pw_np' : ∀ p : Fin 9, ((1 <<< ((Int32.ofNat p.val) &&& 31)) - 1 : Int32).toInt64.toInt = 2 ^ p.val - 1 := by decide
theorem pw_np {np : Nat} (h : np ≤ 8) : ((1 <<< ((n_ np) &&& 31)) - 1 : Int32).toInt64.toInt = 2 ^ np - 1 := by
  rw [show n_ np = Int32.ofNat np from Int32.ofInt_eq_ofNat]; exact pw_np' ⟨np, by omega⟩
noncomputable def Sp_even (g : GS_) (x z : Int32) (r : Int32) : Prop := Sp_k g z (fun k r => if 0 ≤ x.toInt ∧ x.toInt ≤ 2 ^ (g_np g) - 1 then (if (2 : Int32) ≤ bc_ x then r = (if q_ (gs_ (g_np g) (ss_fl (g_s g).1 k) x) = 0 then n_ 1 else n_ 0) else r = q_ (-3)) else r = q_ (-2)) r
theorem rf_even {g : GS_} (ok : g_ok g) {st : MS} (R0 : rf_R g st) (x z : Int32) : Ev_ (fun n => f_even n st x z) (fun r => rf_R g r.2 ∧ Sp_even g x z r.1) := by
  have R := rf_R_8 R0
  have h8 := ok.1
  unfold f_even f_even_J31 f_even_J64
  refine rf_k ok R z (fun k hk ez => ?_)
  subst ez
  have h3 : ∀ n, f_isIn n x.toInt64 0 (((1 <<< (((m_sg st 8 0).1 5) &&& 31)) - 1 : Int32).toInt64) = some (b_ (0 ≤ x.toInt ∧ x.toInt ≤ 2 ^ (g_np g) - 1)) := fun n => by
    rw [rf_isIn, Int32.toInt_toInt64, R.1, pw_np h8]; rfl
  simp only [h3, m_bs, m_ifb, rf_bc]
  by_cases c : 0 ≤ x.toInt ∧ x.toInt ≤ 2 ^ (g_np g) - 1
  · simp only [if_pos c]
    refine ev_if (fun c1 => ?_) (fun c1 => ?_)
    · simp only [if_pos c1]
      refine ev_b (rf_lays ok R hk) (fun s hs => ?_)
      refine ev_b (rf_sumBy ok.2.2.1 hs.1.1 hs.2.2 x) (fun r hr => ?_)
      subst hr
      refine ev_if (fun c2 => ?_) (fun c2 => ?_)
      · simp only [if_pos c2]; exact ev_some ⟨hs.1, n_lit 1⟩
      · simp only [if_neg c2]; exact ev_some ⟨hs.1, n_lit 0⟩
    · simp only [if_neg c1]
      exact ev_some ⟨R, m3_q⟩
  · simp only [if_neg c]
    exact ev_some ⟨R, m2_q⟩
