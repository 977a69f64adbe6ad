set_option maxRecDepth 100000
/-! The reference's groups: the most that come to nothing -/
theorem or_pw' : ∀ p : Fin 8, ∀ a : Fin 256, a.val < 2 ^ p.val → (Int32.ofNat a.val ||| (1 <<< (Int32.ofNat p.val &&& 31))) = Int32.ofNat (a.val + 2 ^ p.val) := by decide +kernel
theorem or_pw {p a : Nat} (hp : p < 8) (ha : a < 2 ^ p) : n_ a ||| (1 <<< (n_ p &&& 31)) = n_ (a + 2 ^ p) := by
  have h2 : 2 ^ p ≤ 2 ^ 7 := Nat.pow_le_pow_right (by omega) (by omega)
  have := or_pw' ⟨p, hp⟩ ⟨a, by omega⟩ ha
  simp only [show ∀ x, n_ x = Int32.ofNat x from fun x => Int32.ofInt_eq_ofNat]
  exact this
theorem an_pw' : ∀ p : Fin 8, ∀ s : Fin 256, bt_ (Int32.ofNat s.val) p.val = true → 2 ^ p.val ≤ s.val ∧ (Int32.ofNat s.val &&& ((1 <<< (Int32.ofNat p.val &&& 31)) ^^^ (-1))) = Int32.ofNat (s.val - 2 ^ p.val) := by decide +kernel
theorem an_pw {p s : Nat} (hp : p < 8) (hs : s < 256) (h : bt_ (n_ s) p = true) : 2 ^ p ≤ s ∧ (n_ s &&& ((1 <<< (n_ p &&& 31)) ^^^ (-1))) = n_ (s - 2 ^ p) := by
  have e : ∀ x, n_ x = Int32.ofNat x := fun x => Int32.ofInt_eq_ofNat
  simp only [e] at h ⊢
  exact an_pw' ⟨p, hp⟩ ⟨s, hs⟩ h
theorem bt_test0 {b : Nat} (hb : b < 32) (x : Int32) : ((x >>> (n_ b &&& 31)) &&& 1 = (0 : Int32)) ↔ ¬ bt_ x b = true := by
  rw [n_and31 hb, ← Int32.toBitVec_inj, Int32.toBitVec_and, shr_bv hb]
  show (x.toBitVec.sshiftRight b &&& 1#32) = 0#32 ↔ _
  rw [BitVec.and_one_eq_setWidth_ofBool_getLsbD, BitVec.getLsbD_sshiftRight]
  unfold bt_
  have e : b + 0 = b := rfl
  simp only [e, hb, if_true, show ¬ 32 ≤ 0 by omega, decide_false, Bool.not_false, Bool.true_and]
  cases x.toBitVec.getLsbD b <;> decide
/-- those who have a net, as a set -/
def hN_ (f : Nat → Int) : Nat → Nat
  | 0 => 0
  | p + 1 => if nt_ f p = 0 then hN_ f p else hN_ f p + 2 ^ p
theorem hN_lt (f : Nat → Int) : ∀ p, hN_ f p < 2 ^ p := by
  intro p
  induction p with
  | zero => exact Nat.lt_of_lt_of_le (by decide : 0 < 1) (Nat.le_refl _)
  | succ p ih => simp only [hN_, Nat.pow_succ]; split <;> omega
def sb_ (s h : Nat) : Prop := (n_ s &&& (n_ h ^^^ (-1)) : Int32) = 0
def mx_ (T : Nat → Int) (s : Nat) : Nat → Int
  | 0 => 0
  | p + 1 => if bt_ (n_ s) p then max (mx_ T s p) (T (s - 2 ^ p)) else mx_ T s p
noncomputable def gv_ (np : Nat) (f : Nat → Int) (h : Nat) (T : Nat → Int) (s : Nat) : Int := if (n_ s &&& (n_ h ^^^ (-1)) : Int32) = 0 then mx_ T s np + (if q_ (gs_ np f (n_ s)) = 0 then 1 else 0) else 0
/-- the table, set by set -/
noncomputable def gt_ (np : Nat) (f : Nat → Int) (h : Nat) : Nat → (Nat → Int)
  | 0 => fun _ => 0
  | s + 1 => if s = 0 then fun _ => 0 else fw_up (gt_ np f h s) s (gv_ np f h (gt_ np f h s) s)
theorem mx_b {T : Nat → Int} {s : Nat} (hT : ∀ i, i < s → 0 ≤ T i ∧ T i ≤ i) (hs : 0 < s) (hs2 : s < 256) : ∀ p, p ≤ 8 → 0 ≤ mx_ T s p ∧ mx_ T s p ≤ (s : Int) - 1 := by
  intro p
  induction p with
  | zero => intro _; simp only [mx_]; omega
  | succ p ih =>
    intro hp
    have := ih (by omega)
    simp only [mx_]
    by_cases c : bt_ (n_ s) p = true
    · rw [if_pos c]
      have hle := (an_pw (show p < 8 by omega) hs2 c).1
      have hpp : 0 < 2 ^ p := Nat.pow_pos (by omega)
      have := hT (s - 2 ^ p) (by omega)
      omega
    · rw [if_neg c]; exact this
theorem gt_b {np : Nat} (h8 : np ≤ 8) (f : Nat → Int) (h : Nat) : ∀ s, s ≤ 256 → ∀ i, 0 ≤ gt_ np f h s i ∧ gt_ np f h s i ≤ i := by
  intro s
  induction s with
  | zero => intro _ i; simp only [gt_]; omega
  | succ s ih =>
    intro hs i
    simp only [gt_]
    by_cases c : s = 0
    · rw [if_pos c]; omega
    · rw [if_neg c]
      by_cases e : i = s
      · subst e
        rw [fw_up_at]
        have hm := mx_b (T := gt_ np f h i) (s := i) (fun j _ => ih (by omega) j) (by omega) (by omega) np h8
        unfold gv_
        split
        · split <;> omega
        · omega
      · rw [fw_up_ne e]; exact ih (by omega) i
noncomputable def Sp_fewest (g : GS_) (z w : Int32) (r : Int32) : Prop := Sp_k g z (fun k r => if 0 ≤ w.toInt ∧ w.toInt ≤ 1 then r = (if w.toInt = 1 then q_ (gt_ (g_np g) (ss_fl (g_s g).1 k) (hN_ (ss_fl (g_s g).1 k) (g_np g)) (hN_ (ss_fl (g_s g).1 k) (g_np g) + 1) (hN_ (ss_fl (g_s g).1 k) (g_np g))) else bc_ (n_ (hN_ (ss_fl (g_s g).1 k) (g_np g))) - q_ (gt_ (g_np g) (ss_fl (g_s g).1 k) (hN_ (ss_fl (g_s g).1 k) (g_np g)) (hN_ (ss_fl (g_s g).1 k) (g_np g) + 1) (hN_ (ss_fl (g_s g).1 k) (g_np g)))) else r = q_ (-2)) r
theorem rf_fewest_37 {np nk : Nat} {s : SS_} (ok : ss_ok np nk s) {k : Nat} (hfl : fl_ok np (ss_fl s.1 k)) {st : MS} (h5 : st.1 5 = n_ np) (h17 : ∀ c, c < 64 → st.2.1 17 c = q_ (ss_fl s.1 k c)) (v2 : Int32) : Ev_ (fun n => f_fewest_L37l n v2 (0, 0, st)) (fun r => r = (n_ (hN_ (ss_fl s.1 k) np), st)) := by
  have h8 := ok.1
  unfold f_fewest_L37l
  refine ev_for np (fun i y => y = (n_ (hN_ (ss_fl s.1 k) i), n_ i, st)) (fun i y hi hP => ?_) (fun y hP => ?_) _ (by rw [← n_lit 0]; rfl)
  · subst hP
    have hs : ∀ n, f_fewest_L37 n v2 (n_ (hN_ (ss_fl s.1 k) i)) (n_ i) st = m_b (f_netBy n st (n_ i)) (fun r11 => m_if (r11 = 0) (some (.inl (n_ (hN_ (ss_fl s.1 k) i) ||| 0, n_ (i + 1), st))) (some (.inl (n_ (hN_ (ss_fl s.1 k) i) ||| (1 <<< (n_ i &&& 31)), n_ (i + 1), st)))) := fun n => by
      unfold f_fewest_L37 f_fewest_J64
      rw [h5, show n_ i + 1 = n_ (i + 1) from by rw [n_lit 1, n_add]]
      simp (disch := omega) only [n_le]
      rw [ef_F (show ¬ np ≤ i by omega)]
    simp only [hs]
    have hn := rf_netBy h8 h5 h17 (show i < 8 by omega)
    rw [fl_nu' ok hi] at hn
    have hfit := fl_fit hfl (show i < 8 by omega)
    rw [fl_nu hfl (by omega)] at hfit
    refine ev_b hn (fun r hr => ?_)
    subst hr
    refine ev_ifq (c' := nt_ (ss_fl s.1 k) i = 0) (by rw [show (0 : Int32) = q_ 0 from rfl]; exact q_eq ⟨by omega, by omega⟩ ⟨by omega, by omega⟩) (fun c => ?_) (fun c => ?_)
    · refine ev_some ⟨_, rfl, ?_⟩
      simp only [hN_]
      rw [if_pos c, Int32.or_zero]
    · refine ev_some ⟨_, rfl, ?_⟩
      simp only [hN_]
      rw [if_neg c, or_pw (by omega) (hN_lt _ i)]
  · subst hP
    refine ev_eq (r := .inr (n_ (hN_ (ss_fl s.1 k) np), st)) (fun n => ?_) ⟨_, rfl, rfl⟩
    unfold f_fewest_L37
    dsimp only
    rw [h5]
    simp (disch := omega) only [n_le]
    rw [ef_T (by omega)]
