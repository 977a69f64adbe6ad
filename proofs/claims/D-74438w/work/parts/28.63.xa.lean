set_option maxRecDepth 100000
/-! The Reader: a line; all lines -/
section
variable {d : UD} {b : Nat} {o0 : Nat → Nat} {u0 : UM} {sN t a aS : Nat} {T : Nat → Int32} {n : Nat} {o : Nat → Nat} {u : UM} {i bg : Nat} {hm : Bool} {wv : Value} {ps ks : List (List Nat)} {x : SS_}
/-- behind a line's part -/
def rdT_ (T : Nat → Int32) (n : Nat) (s' : RD_) : PR_ RD_ := if sk_ T n s'.1 < n ∧ T (sk_ T n s'.1) = 59 then .inr (sk_ T n s'.1 + 1, s'.2) else .inl (1, sk_ T n s'.1)
theorem ur_end (h00 : uw_ b u0) (h : yD_ d b o0 u0 sN t a aS T n o u i bg hm wv ps ks x) : Ev_ (fun m => uf_X4_line_J284 m d u a) (fun r => r.1.2.2 = u.2 + r.2.1 ∧ ((∃ e, rdT_ T n (i, ps, ks, x, hm) = .inl e ∧ ∃ q, r.1.1 = .inr q ∧ r.2 = (1, 8) ∧ yE0_ b o0 u0 sN e q r.1.2) ∨ ∃ s', rdT_ T n (i, ps, ks, x, hm) = .inr s' ∧ s'.2 = (ps, ks, x, hm) ∧ i < s'.1 ∧ s'.1 ≤ n ∧ r.1.1 = .inl () ∧ r.2 = (0, 0) ∧ ∃ bg', yD_ d b o0 u0 sN t a aS T n o r.1.2 s'.1 bg' hm wv ps ks x)) := by
  have hin := h.2.2.2.2.2.1
  have sk1 := sk_le (T := T) hin
  unfold uf_X4_line_J284
  refine ev_b1 (yD_cl h) ?_
  refine ev_bc (P := fun r u' c => c = (0, 0) ∧ u'.2 = u.2 ∧ r = b_ (sk_ T n i = n) ∧ ygt_ b (K1_ 37) o u o u' ∧ yD_ d b o0 u0 sN t a aS T n o u' (sk_ T n i) (sk_ T n i) hm wv ps ks x) (ur_isEnd h00 h) (fun r u' c hp => by rw [hp.1]; exact hp.2.1) (fun r u57 c hp => ?_)
  obtain ⟨rfl, z57, rfl, g57, D57⟩ := hp
  have e59 : ∀ y : Int32, ((59 : Int32).toInt ≤ y.toInt ∧ y.toInt ≤ (59 : Int32).toInt) ↔ y = 59 := fun y => by
    have e : (59 : Int32).toInt = 59 := rfl
    rw [← Int32.toInt_inj]; omega
  unfold rdT_
  dsimp only
  have bad : ¬ (sk_ T n i < n ∧ T (sk_ T n i) = 59) → Ev_ (fun m => uf_X4_line_J302 m d u57 a) (fun r => r.1.2.2 = u.2 + (u_add (0, 0) r.2).1 ∧ ((∃ e, (Sum.inl (1, sk_ T n i) : PR_ RD_) = .inl e ∧ ∃ q, r.1.1 = .inr q ∧ u_add (0, 0) r.2 = (1, 8) ∧ yE0_ b o0 u0 sN e q r.1.2) ∨ ∃ s', (Sum.inl (1, sk_ T n i) : PR_ RD_) = .inr s' ∧ s'.2 = (ps, ks, x, hm) ∧ i < s'.1 ∧ s'.1 ≤ n ∧ r.1.1 = .inl () ∧ u_add (0, 0) r.2 = (0, 0) ∧ ∃ bg', yD_ d b o0 u0 sN t a aS T n o r.1.2 s'.1 bg' hm wv ps ks x)) := fun _ => by
    unfold uf_X4_line_J302
    refine ur_throw h00 D57 (k := 1) (n_lit 1) (fun q u' z' E' => ⟨?_, Or.inl ⟨_, rfl, q, rfl, rfl, E'⟩⟩)
    show u'.2 = u.2 + 1; omega
  by_cases c1 : sk_ T n i = n
  · rw [b_T c1, if_neg (by omega)]
    exact ev_ifF (by decide) (bad (by omega))
  · rw [b_F c1]
    refine ev_ifT rfl (ev_b1 (yD_cl D57) (ev_bn (fun m => ur_isAt m D57 59 59) ?_))
    by_cases c2 : T (sk_ T n i) = 59
    · rw [b_T (show sk_ T n i < n ∧ (59 : Int32).toInt ≤ (T (sk_ T n i)).toInt ∧ (T (sk_ T n i)).toInt ≤ (59 : Int32).toInt from ⟨by omega, (e59 _).mpr c2⟩), if_pos ⟨by omega, c2⟩]
      refine ev_ifF (by decide) (ev_b1 (yD_at D57) ?_)
      refine yD_pf h00 D57 (k := 2) (by omega) (i' := sk_ T n i + 1) (bg' := sk_ T n i) (hm' := hm) (wv' := wv) (by omega) (by rw [show n_ (sk_ T n i) + 1 = n_ (sk_ T n i + 1) from by rw [n_lit 1, n_add]]; rfl) (fun w D2 g2 => ?_)
      refine ev_some ⟨z57, Or.inr ⟨_, rfl, rfl, ?_, ?_, rfl, rfl, sk_ T n i, D2⟩⟩
      · show i < sk_ T n i + 1; omega
      · show sk_ T n i + 1 ≤ n; omega
    · rw [b_F (fun z => c2 ((e59 _).mp z.2)), if_neg (fun z => c2 z.2)]
      exact ev_ifT rfl (bad (fun z => c2 z.2))
/-- what a line leaves -/
def rW_ (d : UD) (b : Nat) (o0 : Nat → Nat) (u0 : UM) (sN t a aS : Nat) (T : Nat → Int32) (n i : Nat) (k1 k2 : Nat) (X : PR_ RD_) (r : ((Unit ⊕ Nat) × UM) × UC) : Prop := (∃ e, X = .inl e ∧ rE_ b o0 u0 sN i n (6 + k1) (110 + k2) e r) ∨ ∃ s', X = .inr s' ∧ r.1.1 = .inl () ∧ r.2.1 ≤ 4 * (s'.1 - 1 - i) + k1 ∧ r.2.2 ≤ 40 * (s'.1 - 1 - i) + k2 ∧ i + 1 < s'.1 ∧ s'.1 ≤ n ∧ ∃ o' bg' wv', yD_ d b o0 u0 sN t a aS T n o' r.1.2 s'.1 bg' s'.2.2.2.2 wv' s'.2.1 s'.2.2.1 s'.2.2.2.1
theorem ur_tail (h00 : uw_ b u0) {z k1 k2 : Nat} {X : PR_ RD_} {F : Nat → Option (((Unit ⊕ Nat) × UM) × UC)} (hF : Ev_ F (fun r => r.1.2.2 = z + r.2.1 ∧ rZ_ d b o0 u0 sN t a aS T n i k1 k2 X r)) : Ev_ (fun m => u_bx z (F m) (fun _ u43 => uf_X4_line_J284 m d u43 a) (fun q u => some (((.inr q : Unit ⊕ Nat), u), ((0, 0) : UC)))) (fun r => r.1.2.2 = z + r.2.1 ∧ rW_ d b o0 u0 sN t a aS T n i k1 k2 (pb_ X (rdT_ T n)) r) := by
  refine ev_bxD (S := fun s' y u' c => y = .inl () ∧ rS_ d b o0 u0 sN t a aS T n i k1 k2 s' u' c) hF (fun v y u' c hp => ⟨_, hp.1⟩) (fun s y u43 c hX z43 hp => ?_) (fun e q u43 c hX z43 hc hE => ⟨z43, Or.inl ⟨e, pb_ll hX _, q, rfl, cst_up hc (Nat.le_refl _) (by omega) (by omega), hE⟩⟩)
  obtain ⟨_, cs, hlt, o1, bg1, wv1, D1⟩ := hp
  rw [pb_rr hX]
  obtain ⟨si, sp, sk, sx, sh⟩ := s
  dsimp only at D1 cs hlt ⊢
  have hsi := D1.2.2.2.2.2.1
  refine ev_w (ur_end h00 D1) (fun r hr => ?_)
  obtain ⟨zr, hr⟩ := hr
  rcases hr with ⟨e, he, q, hq, hc, hE⟩ | ⟨s', hs', e2, l1, l2, hq, hc, bg', D'⟩
  · refine ⟨?_, Or.inl ⟨e, he, q, hq, ⟨?_, ?_⟩, hE⟩⟩
    · show r.1.2.2 = z + (c.1 + r.2.1); omega
    · show c.1 + r.2.1 ≤ 4 * (n - i) + (6 + k1); rw [hc]; unfold cst_ at cs; dsimp only; omega
    · show c.2 + r.2.2 ≤ 40 * (n - i) + (110 + k2); rw [hc]; unfold cst_ at cs; dsimp only; omega
  · obtain ⟨s1, s2⟩ := s'
    dsimp only at e2 l1 l2 D'
    subst e2
    refine ⟨?_, Or.inr ⟨_, hs', hq, ?_, ?_, ?_, l2, o1, bg', wv1, D'⟩⟩
    · show r.1.2.2 = z + (c.1 + r.2.1); omega
    · show c.1 + r.2.1 ≤ 4 * (s1 - 1 - i) + k1; rw [hc]; unfold cst_ at cs; dsimp only; omega
    · show c.2 + r.2.2 ≤ 40 * (s1 - 1 - i) + k2; rw [hc]; unfold cst_ at cs; dsimp only; omega
    · show i + 1 < s1; omega
theorem ur_comesD (h00 : uw_ b u0) (hs : cS_ d b) (hc : cE_ d b) (h : yD_ d b o0 u0 sN t a aS T n o u i bg hm wv ps ks x) (rok : rd_ok (i, ps, ks, x, hm)) (kd : Bool) {p0 : Nat} (hp0 : u_nr u 2 (if kd then 1 else 0) aS = some p0) {mo : Nat} (hmo : mo = if kd then 4 else 8) (hf : ¬ (if kd then ks else ps).length = mo) : Ev_ (fun m => uf_X4_comes m d u a p0 (n_ mo)) (fun r => r.1.2.2 = u.2 + r.2.1 ∧ rZ_ d b o0 u0 sN t a aS T n i 1 400 (rdB_ T n (if kd then 1 else 0) (i, ps, ks, x, hm)) r) := by
  refine ev_w (ur_comes h00 hs hc h rok kd hp0 hmo) (fun r hr => ⟨hr.1, ?_⟩)
  have hr := hr.2
  rw [if_neg hf] at hr
  have eB : rdB_ T n (if kd then 1 else 0) (i, ps, ks, x, hm) = pb_ (rdNew_ T n ps ks i) (fun v => .inr (v.2, (if kd then ps else ps ++ [v.1]), (if kd then ks ++ [v.1] else ks), x, hm)) := by
    cases kd <;> rfl
  rw [eB]
  cases hX : rdNew_ T n ps ks i with
  | inl e =>
    rw [hX] at hr
    obtain ⟨q, hq, hc, hE⟩ := hr
    exact Or.inl ⟨e, rfl, q, hq, cst_up hc (Nat.le_refl _) (by omega) (by omega), hE⟩
  | inr v =>
    rw [hX] at hr
    exact Or.inr ⟨_, rfl, hr.1, hr.2⟩
end
