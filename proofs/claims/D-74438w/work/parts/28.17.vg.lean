set_option maxRecDepth 100000
/-! The component's longest row -/
theorem rg_tn_big {np : Nat} (h8 : np ≤ 8) : ∀ (m : Nat) (f : Nat → Int), ff_ f → ct_ 64 f < m → ∀ w, m ≤ w → rg_tn np w f = rg_tn np m f := by
  intro m
  induction m with
  | zero => intro f _ h; omega
  | succ m ih =>
    intro f hf h w hw
    obtain ⟨w, rfl⟩ : ∃ w', w = w' + 1 := ⟨w - 1, by omega⟩
    simp only [rg_tn]
    cases hr : rg_ring np f with
    | none => rfl
    | some row =>
      have rok := rg_ring_ok h8 (fun c hc => hf.1 c) hr
      have hct := ct_tk h8 hf rok
      exact ih (rg_tk f row) (ff_tk h8 hf rok) (by omega) w (by omega)
/-- of those behind one that were seen, the longest -/
def mxl_ (F : Nat → Int) (L : Nat → Nat) (p : Nat) : Nat → Nat
  | 0 => 0
  | q + 1 => if 0 < F (8 * p + q) then max (mxl_ F L p q) (L q) else mxl_ F L p q
theorem mxl_le {F : Nat → Int} {L : Nat → Nat} {p m : Nat} : ∀ q, (∀ x, x < q → 0 < F (8 * p + x) → L x ≤ m) → mxl_ F L p q ≤ m := by
  intro q
  induction q with
  | zero => intro _; exact Nat.zero_le _
  | succ q ih =>
    intro h
    have h1 := ih (fun x hx => h x (by omega))
    simp only [mxl_]
    split
    · rename_i c; have := h q (by omega) c; omega
    · exact h1
theorem mxl_ge {F : Nat → Int} {L : Nat → Nat} {p : Nat} : ∀ {q x : Nat}, x < q → 0 < F (8 * p + x) → L x ≤ mxl_ F L p q := by
  intro q
  induction q with
  | zero => intro x h; omega
  | succ q ih =>
    intro x hx hF
    simp only [mxl_]
    by_cases e : x = q
    · subst e; rw [if_pos hF]; omega
    · have := ih (show x < q by omega) hF
      split <;> omega
theorem mxl_L {np : Nat} {F : Nat → Int} {L : Nat → Nat} (hL : Lg_ np F L) {p : Nat} (hp : p < np) : mxl_ F L p np + 1 = L p := by
  obtain ⟨a1, a2, a3, a4⟩ := hL p hp
  have h1 := mxl_le (F := F) (L := L) (p := p) (m := L p - 1) np (fun x hx h => by have := a3 x hx h; omega)
  rcases a4 with c | ⟨q, q1, q2, q3⟩
  · omega
  · have := mxl_ge (L := L) q1 q2; omega
/-- what is known of the lengths -/
def lM_ (d : UD) (u : UM) (al np : Nat) (L : Nat → Nat) (S : Nat → Prop) : Prop := ∃ fl, iA_ d u al 8 fl ∧ (∀ x, x < np → fl x = n_ 0 ∨ fl x = n_ (L x)) ∧ ∀ x, x < np → S x → fl x = n_ (L x)
theorem uc_long {d : UD} {b : Nat} {o : Nat → Nat} {t : Nat} {g : GS_} (ok : g_ok g) {F : Nat → Int} (hF : ff_ F) {L : Nat → Nat} (hL : Lg_ (g_np g) F L) {af al : Nat} (ta : o af = 21) (tl : o al = 25) {f : Nat → Int32} (hf : ∀ c, c < 64 → f c = q_ (F c)) : ∀ (dp p : Nat) (u : UM) (S : Nat → Prop), yR_ d b o u t g → iA_ d u af 64 f → lM_ d u al (g_np g) L S → p < g_np g → L p ≤ dp → Ev_ (fun n => uf_X0_longFrom_rec n d dp u t af (n_ p) al) (fun r => r.2 = (0, 0) ∧ r.1.2.2 = u.2 ∧ ygt_ b (K1_ 25) o u o r.1.2 ∧ r.1.1 = n_ (L p) ∧ lM_ d r.1.2 al (g_np g) L (fun x => S x ∨ x = p)) := by
  have h8 := ok.1
  intro dp
  induction dp with
  | zero => intro p u S _ _ _ hp h; have := (hL p hp).1; omega
  | succ dp ih =>
    intro p u S R hA hM hp hLp
    show Ev_ (fun n => uf_X0_longFrom_body n d (uf_X0_longFrom_rec n d dp) u t af (n_ p) al) _
    have h0 := (yR_N R).1
    obtain ⟨fl, m1, m2, m3⟩ := hM
    have lb := hL p hp
    have hlp : u_ldI d u al (n_ p) = some (fl p) := ldI_e m1 (by omega) (by omega)
    unfold uf_X0_longFrom_body
    refine ev_b1 hlp ?_
    rcases m2 p hp with c | c
    · rw [c]
      refine ev_ifT n_0le ?_
      refine ev_bl (P := fun y c => c = (0, 0) ∧ y.2.2 = u.2 ∧ ygt_ b (K1_ 25) o u o y.2 ∧ y.1 = n_ (mxl_ F L p (g_np g)) ∧ lM_ d y.2 al (g_np g) L S) ?_ (fun y c' hp' => ?_)
      · unfold uf_X0_longFrom_L16l
        refine ev_uf (Q := fun (y : Int32 × UM) => y.2.2 = u.2 ∧ ygt_ b (K1_ 25) o u o y.2 ∧ y.1 = n_ (mxl_ F L p (g_np g)) ∧ lM_ d y.2 al (g_np g) L S) (g_np g) (fun (i : Nat) (y : Int32 × Int32 × UM) => y.2.2.2 = u.2 ∧ ygt_ b (K1_ 25) o u o y.2.2 ∧ y.1 = n_ (mxl_ F L p i) ∧ y.2.1 = n_ i ∧ lM_ d y.2.2 al (g_np g) L S) (fun i y hi hP => ?_) (fun y hP => ?_) (0, 0, u) ⟨rfl, ygt_rfl h0, n_lit 0, n_lit 0, fl, m1, m2, m3⟩
        · obtain ⟨v4, v5, u1⟩ := y
          obtain ⟨z1, g1, e1, e2, hM1⟩ := hP
          dsimp only at z1 g1 e1 e2 hM1 ⊢
          subst e1; subst e2
          have R1 := yR_keep R g1 (fun x hx => by cases hx; exact ⟨by omega, by omega⟩)
          have hA1 := (ygt_at h0 g1 hA (by rw [ta]; exact fun z => by cases z)).1
          obtain ⟨h01, aN, s0, fs, k1, k2, k3, _⟩ := yR_N R1
          obtain ⟨fn, hfn⟩ := ys_cl k3
          have hmany : ∀ n, uf_X1_many n d u1 aN = some (n_ (g_np g)) := fun n => us_many n k3
          have hc : 8 * p + i < 64 := by omega
          have hld : u_ldI d u1 af (8 * n_ p + n_ i) = some (q_ (F (8 * p + i))) := by rw [n_lit 8, n_mul, n_add, ldI_e hA1 hc (by omega), hf _ hc]
          have f0 := hF.1 (8 * p + i)
          have f1 := hF.2 (8 * p + i) hc
          have hLi := hL i hi
          have hmx : mxl_ F L p i ≤ 8 := mxl_le i (fun x hx _ => by have := (hL x (by omega)).2.1; omega)
          unfold uf_X0_longFrom_L16 uf_X0_longFrom_J55
          simp only [k1, hfn, hmany, m_bs, hld, k2]
          refine ev_ifF (by rw [n_le (by omega) (by omega)]; omega) ?_
          rw [show n_ i + 1 = n_ (i + 1) from by rw [n_lit 1, n_add]]
          refine ev_ifq (c' := F (8 * p + i) ≤ 0) (by rw [q_0, q_le' (by omega) (by omega) (by omega) (by omega)]) (fun c1 => ?_) (fun c1 => ?_)
          · refine ev_some ⟨_, rfl, z1, g1, ?_, rfl, hM1⟩
            simp only [mxl_]
            rw [if_neg (by omega)]
          · have hlt := lb.2.2.1 i hi (by omega)
            refine ev_bc (P := fun r u' c => c = (0, 0) ∧ u'.2 = u1.2 ∧ ygt_ b (K1_ 25) o u1 o u' ∧ r = n_ (L i) ∧ lM_ d u' al (g_np g) L (fun x => S x ∨ x = i)) (ih i u1 S R1 hA1 hM1 hi (by omega)) (fun r u' c hp => by rw [hp.1]; exact hp.2.1) (fun r u' c hp => ?_)
            obtain ⟨rfl, z2, g2, rfl, fl2, w1, w2, w3⟩ := hp
            refine ev_b1 rfl (ev_some ⟨_, rfl, z2.trans z1, ygt_tr h0 g1 g2, ?_, rfl, fl2, w1, w2, fun x hx hs => w3 x hx (Or.inl hs)⟩)
            rw [show mxl_ F L p (i + 1) = max (mxl_ F L p i) (L i) from by simp only [mxl_]; rw [if_pos (show 0 < F (8 * p + i) by omega)]]
            have hl8 := hLi.2.1
            by_cases c2 : mxl_ F L p i < L i
            · rw [if_pos (by rw [n_lt (by omega) (by omega)]; exact c2), show max (mxl_ F L p i) (L i) = L i by omega]
            · rw [if_neg (by rw [n_lt (by omega) (by omega)]; exact c2), show max (mxl_ F L p i) (L i) = mxl_ F L p i by omega]
        · obtain ⟨v4, v5, u1⟩ := y
          obtain ⟨z1, g1, e1, e2, hM1⟩ := hP
          dsimp only at z1 g1 e1 e2 hM1 ⊢
          subst e1; subst e2
          have R1 := yR_keep R g1 (fun x hx => by cases hx; exact ⟨by omega, by omega⟩)
          obtain ⟨h01, aN, s0, fs, k1, k2, k3, _⟩ := yR_N R1
          obtain ⟨fn, hfn⟩ := ys_cl k3
          have hmany : ∀ n, uf_X1_many n d u1 aN = some (n_ (g_np g)) := fun n => us_many n k3
          unfold uf_X0_longFrom_L16
          simp only [k1, hfn, hmany, m_bs]
          exact ev_ifT (by rw [n_le (by omega) (by omega)]; omega) (ev_some ⟨_, rfl, z1, g1, rfl, hM1⟩)
      · obtain ⟨v4, u1⟩ := y
        obtain ⟨rfl, z1, g1, e1, fl1, w1, w2, w3⟩ := hp'
        dsimp only at z1 g1 e1 w1 ⊢
        subst e1
        rw [show n_ (mxl_ F L p (g_np g)) + 1 = n_ (L p) from by rw [n_lit 1, n_add, mxl_L hL hp]]
        refine ev_b1 (stI_e w1 (show p < 8 by omega) (by omega) _) ?_
        have c27 := ch_set w1 (.inl (d.1 0, 8, .inl (upd fl1 p (n_ (L p)))))
        have g27 := ygt_ch (K := K1_ 25) g1.1 w1 c27 (kd1_a _ _) tl
        generalize u_set u1.1 al (.inl (d.1 0, 8, .inl (upd fl1 p (n_ (L p))))) = w27 at *
        refine ev_b1 (ldI_e (u := (w27, u1.2)) c27.2.1 (show p < 8 by omega) (by omega)) ?_
        refine ev_some ⟨rfl, z1, ygt_tr h0 g1 g27, by rw [upd_at], _, c27.2.1, fun x hx => ?_, fun x hx hs => ?_⟩
        · by_cases e : x = p
          · subst e; rw [upd_at]; exact Or.inr rfl
          · rw [upd_ne e]; exact w2 x hx
        · by_cases e : x = p
          · subst e; rw [upd_at]
          · rw [upd_ne e]; exact w3 x hx (hs.resolve_right e)
    · rw [c]
      refine ev_ifF (by rw [n_lit 0, n_le (by omega) (by omega)]; omega) ?_
      refine ev_b1 hlp (ev_some ⟨rfl, rfl, ygt_rfl h0, c, fl, m1, m2, fun x hx hs => ?_⟩)
      rcases hs with hs | rfl
      · exact m3 x hx hs
      · exact c
theorem uc_next {d : UD} {np : Nat} (h8 : np ≤ 8) {F : Nat → Int} (hF : ff_ F) {L : Nat → Nat} (hL : Lg_ np F L) {u : UM} {t af al : Nat} {f : Nat → Int32} (hA : iA_ d u af 64 f) (hf : ∀ c, c < 64 → f c = q_ (F c)) {S : Nat → Prop} (hM : lM_ d u al np L S) (hS : ∀ x, x < np → S x) {p : Nat} (hp : p < np) (hex : ∃ q, q < np ∧ 0 < F (8 * p + q) ∧ L p = L q + 1) : Ev_ (fun n => uf_X0_nextOf n d u t af (n_ p) al) (fun r => r = n_ (fi_ (fun q => decide (0 < F (8 * p + q)) && decide (L q = L p - 1)) np 0)) := by
  obtain ⟨q, q1, q2, q3⟩ := hex
  obtain ⟨i1, i2⟩ := fi_lt (P := fun q => decide (0 < F (8 * p + q)) && decide (L q = L p - 1)) (m := np) (b := 0) (x := q) (by omega) (by omega) (by simp [q2]; omega)
  obtain ⟨_, _, i3, _⟩ := fi_spec (fun q => decide (0 < F (8 * p + q)) && decide (L q = L p - 1)) np 0
  generalize hq0 : fi_ (fun q => decide (0 < F (8 * p + q)) && decide (L q = L p - 1)) np 0 = q0 at *
  obtain ⟨fl, m1, m2, m3⟩ := hM
  have lp := hL p hp
  have hlp : u_ldI d u al (n_ p) = some (n_ (L p)) := by rw [ldI_e m1 (show p < 8 by omega) (by omega), m3 p hp (hS p hp)]
  have hsub : n_ (L p) - 1 = n_ (L p - 1) := by rw [n_lit 1, n_sub (by omega)]
  unfold uf_X0_nextOf
  refine ev_b (P := fun y => y = n_ q0) ?_ (fun y hy => by subst hy; exact ev_some rfl)
  unfold uf_X0_nextOf_L3l
  refine ev_for q0 (fun (i : Nat) (y : Int32) => y = n_ i) (fun i y hi hP => ?_) (fun y hP => ?_) _ (n_lit 0)
  · subst hP
    have hc : 8 * p + i < 64 := by omega
    have f0 := hF.1 (8 * p + i)
    have f1 := hF.2 (8 * p + i) hc
    have hLi := (hL i (by omega)).2.1
    have hno := i3 i (by omega) hi
    have hld : u_ldI d u af (8 * n_ p + n_ i) = some (q_ (F (8 * p + i))) := by rw [n_lit 8, n_mul, n_add, ldI_e hA hc (by omega), hf _ hc]
    have hli : u_ldI d u al (n_ i) = some (n_ (L i)) := by rw [ldI_e m1 (show i < 8 by omega) (by omega), m3 i (by omega) (hS i (by omega))]
    refine ev_eq (r := .inl (n_ (i + 1))) (fun n => ?_) ⟨_, rfl, rfl⟩
    unfold uf_X0_nextOf_L3 uf_X0_nextOf_J27
    simp only [hld, hli, hlp, m_bs, hsub]
    rw [show n_ i + 1 = n_ (i + 1) from by rw [n_lit 1, n_add]]
    by_cases c1 : 0 < F (8 * p + i)
    · have c2 : L i ≠ L p - 1 := fun e => by simp [c1, e] at hno
      rw [ef_F (by rw [q_0, q_eq ⟨by omega, by omega⟩ ⟨by omega, by omega⟩]; omega), ef_F (by rw [n_eq (by omega) (by omega)]; exact c2)]
    · rw [ef_T (by rw [q_0, q_eq ⟨by omega, by omega⟩ ⟨by omega, by omega⟩]; omega)]
  · subst hP
    have hc : 8 * p + q0 < 64 := by omega
    have f0 := hF.1 (8 * p + q0)
    have f1 := hF.2 (8 * p + q0) hc
    have hLi := (hL q0 (by omega)).2.1
    simp at i2
    have hld : u_ldI d u af (8 * n_ p + n_ q0) = some (q_ (F (8 * p + q0))) := by rw [n_lit 8, n_mul, n_add, ldI_e hA hc (by omega), hf _ hc]
    have hli : u_ldI d u al (n_ q0) = some (n_ (L q0)) := by rw [ldI_e m1 (show q0 < 8 by omega) (by omega), m3 q0 (by omega) (hS q0 (by omega))]
    refine ev_eq (r := .inr (n_ q0)) (fun n => ?_) ⟨_, rfl, rfl⟩
    unfold uf_X0_nextOf_L3
    simp only [hld, hli, hlp, m_bs, hsub]
    rw [ef_F (by rw [q_0, q_eq ⟨by omega, by omega⟩ ⟨by omega, by omega⟩]; omega), ef_T (by rw [n_eq (by omega) (by omega)]; exact i2.2)]
