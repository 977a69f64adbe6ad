set_option maxRecDepth 100000
/-! The Reader as it lies (tag 37; 38 what is thrown); what is read so far -/
def KD_ (sN x : Nat) : Prop := K2_ x ∨ Ks_ sN x
/-- the tape under the object -/
def tp_ (d : UD) (o : Nat → Nat) (u : UM) (t : Nat) (T : Nat → Int32) (n : Nat) : Prop := ∃ (aT : Nat) (f : Nat → Int32) (fs : List Value), ob_ u t 1 fs ∧ fs[5]? = some (.ref aT) ∧ o t = 1 ∧ bA_ d u aT 900 f ∧ o aT = 12 ∧ (∀ x, x < n → f x = T x) ∧ n ≤ 900
theorem tp_keep {d : UD} {b : Nat} {K : Nat → Prop} {o o' : Nat → Nat} {u u' : UM} (h0 : uw_ b u) (g : ygt_ b K o u o' u') {t : Nat} {T : Nat → Int32} {n : Nat} (h : tp_ d o u t T n) (h1 : ¬ K 1) (h2 : ¬ K 12) : tp_ d o' u' t T n := by
  obtain ⟨aT, f, fs, e1, e2, e3, e4, e5, e6⟩ := h
  obtain ⟨x1, x2⟩ := ygt_at h0 g e1 (by rw [e3]; exact h1)
  obtain ⟨y1, y2⟩ := ygt_at h0 g e4 (by rw [e5]; exact h2)
  exact ⟨aT, f, fs, x1, e2, x2.trans e3, y1, y2.trans e5, e6⟩
/-- the Reader: it is at i, began at bg -/
def yD_ (d : UD) (b : Nat) (o0 : Nat → Nat) (u0 : UM) (sN t a aS : Nat) (T : Nat → Int32) (n : Nat) (o : Nat → Nat) (u : UM) (i bg : Nat) (hm : Bool) (wv : Value) (ps ks : List (List Nat)) (x : SS_) : Prop := ygt_ b (KD_ sN) o0 u0 o u ∧ ob_ u a 4 [.int (n_ n), .ref aS, .int (n_ i), .int (n_ bg), .int (n_ (if hm then 1 else 0)), wv, .ref t] ∧ o a = 37 ∧ ys_ d o u aS sN ps ks x ∧ tp_ d o u t T n ∧ i ≤ n ∧ 10 ≤ sN
section
variable {d : UD} {b : Nat} {o0 : Nat → Nat} {u0 : UM} {sN t a aS : Nat} {T : Nat → Int32} {n : Nat} {o : Nat → Nat} {u : UM} {i bg : Nat} {hm : Bool} {wv : Value} {ps ks : List (List Nat)} {x : SS_}
/-- what is made for the time being leaves it -/
theorem yD_keep (h00 : uw_ b u0) {K : Nat → Prop} {o' : Nat → Nat} {u' : UM} (h : yD_ d b o0 u0 sN t a aS T n o u i bg hm wv ps ks x) (g : ygt_ b K o u o' u') (hK : ∀ x, K x → K2_ x ∧ x ≠ 37) : yD_ d b o0 u0 sN t a aS T n o' u' i bg hm wv ps ks x := by
  obtain ⟨G, e1, e2, e3, e4, e5, e6⟩ := h
  obtain ⟨x1, x2⟩ := ygt_at G.1 g e1 (by rw [e2]; exact fun z => (hK _ z).2 rfl)
  have nk : ∀ z, ¬ K2_ z → ¬ K z := fun z hz q => hz (hK z q).1
  exact ⟨ygt_tr h00 G (ygt_sub g (fun z hz => Or.inl (hK z hz).1)), x1, x2.trans e2, ys_keep G.1 g e3 (nk 14 (by unfold K2_; omega)) (fun r hr => nk _ (by unfold K2_; omega)), tp_keep G.1 g e4 (nk 1 (by unfold K2_; omega)) (nk 12 (by unfold K2_; omega)), e5, e6⟩
/-- its own numbers change -/
theorem yD_pf (h00 : uw_ b u0) (h : yD_ d b o0 u0 sN t a aS T n o u i bg hm wv ps ks x) {k : Nat} (hk : k < 7) {v : Value} {i' bg' : Nat} {hm' : Bool} {wv' : Value} (hi' : i' ≤ n) (he : [.int (n_ n), .ref aS, .int (n_ i), .int (n_ bg), .int (n_ (if hm then 1 else 0)), wv, .ref t].set k v = [.int (n_ n), .ref aS, .int (n_ i'), .int (n_ bg'), .int (n_ (if hm' then 1 else 0)), wv', .ref t]) {α : Type} {G : Nat → va_W → Option α} {Q : α → Prop} (g : ∀ w, yD_ d b o0 u0 sN t a aS T n o (w, u.2) i' bg' hm' wv' ps ks x → ygt_ b (K1_ 37) o u o (w, u.2) → Ev_ (fun n => G n w) Q) : Ev_ (fun n => m_b (u_pf u 4 k a v) (G n)) Q := by
  obtain ⟨G, e1, e2, e3, e4, e5, e6⟩ := h
  refine ev_pf e1 (by simpa using hk) (fun w c => ?_)
  have gg : ygt_ b (K1_ 37) o u o (w, u.2) := ygt_ch G.1 e1 c (kd1_o _ _ _) e2
  rw [he] at c
  have nk : ∀ z, z ≠ 37 → ¬ K1_ 37 z := fun z hz q => hz q
  exact g w ⟨ygt_tr h00 G (ygt_sub gg (fun z hz => by cases hz; exact Or.inl ⟨by omega, by omega⟩)), c.2.1, e2, ys_keep G.1 gg e3 (nk 14 (by omega)) (fun r hr => nk _ (by omega)), tp_keep G.1 gg e4 (nk 1 (by omega)) (nk 12 (by omega)), hi', e6⟩ gg
theorem yD_cl (h : yD_ d b o0 u0 sN t a aS T n o u i bg hm wv ps ks x) : u_cl u 4 a = some [.int (n_ n), .ref aS, .int (n_ i), .int (n_ bg), .int (n_ (if hm then 1 else 0)), wv, .ref t] := cl_e h.2.1
theorem yD_at (h : yD_ d b o0 u0 sN t a aS T n o u i bg hm wv ps ks x) : u_fi d u 4 2 a = some (n_ i) := fi_e h.2.1 rfl
theorem yD_bg (h : yD_ d b o0 u0 sN t a aS T n o u i bg hm wv ps ks x) : u_fi d u 4 3 a = some (n_ bg) := fi_e h.2.1 rfl
theorem yD_n (h : yD_ d b o0 u0 sN t a aS T n o u i bg hm wv ps ks x) : u_fi d u 4 0 a = some (n_ n) := fi_e h.2.1 rfl
theorem yD_tp (h : yD_ d b o0 u0 sN t a aS T n o u i bg hm wv ps ks x) (hi : i < n) : ∃ aT, u_fr d u 4 6 a = some t ∧ u_nr u 1 5 t = some aT ∧ u_ai d u 2 aT (n_ i) = some (T i) := by
  obtain ⟨aT, f, fs, q1, q2, q3, q4, q5, q6, q7⟩ := h.2.2.2.2.1
  exact ⟨aT, fr_e h.2.1 rfl, nr_e q1 q2, by rw [aiB_e q4 (by omega) (by omega), q6 i hi]⟩
theorem ur_isAt (m : Nat) (h : yD_ d b o0 u0 sN t a aS T n o u i bg hm wv ps ks x) (lo hi : Int32) : uf_X4_isAt m d u a lo hi = some (b_ (i < n ∧ lo.toInt ≤ (T i).toInt ∧ (T i).toInt ≤ hi.toInt)) := by
  have hn9 : n ≤ 900 := by obtain ⟨_, _, _, _, _, _, _, _, _, q⟩ := h.2.2.2.2.1; exact q
  have hin := h.2.2.2.2.2.1
  unfold uf_X4_isAt uf_X4_isAt_J38 uf_X4_isAt_J39
  rw [yD_at h, m_bs, yD_n h, m_bs]
  by_cases c : n ≤ i
  · rw [ef_T (by rw [n_le (by omega) (by omega)]; exact c), b_F (by omega)]; rfl
  · obtain ⟨aT, q1, q2, q3⟩ := yD_tp h (by omega)
    rw [ef_F (by rw [n_le (by omega) (by omega)]; exact c), q1, m_bs, q2, m_bs, m_bs, q3, m_bs, uq_in, m_bs]
    rw [Int32.toInt_toInt64, Int32.toInt_toInt64, Int32.toInt_toInt64]
    by_cases c2 : lo.toInt ≤ (T i).toInt ∧ (T i).toInt ≤ hi.toInt
    · rw [b_T c2, b_T (show i < n ∧ lo.toInt ≤ (T i).toInt ∧ (T i).toInt ≤ hi.toInt from ⟨by omega, c2⟩), ef_F (by decide)]; rfl
    · rw [b_F c2, b_F (fun z => c2 z.2), ef_T rfl]; rfl
/-- behind blanks -/
theorem ur_isEnd (h00 : uw_ b u0) (h : yD_ d b o0 u0 sN t a aS T n o u i bg hm wv ps ks x) : Ev_ (fun m => uf_X4_isEnd m d u a) (fun r => r.2 = (0, 0) ∧ r.1.2.2 = u.2 ∧ r.1.1 = b_ (sk_ T n i = n) ∧ ygt_ b (K1_ 37) o u o r.1.2 ∧ yD_ d b o0 u0 sN t a aS T n o r.1.2 (sk_ T n i) (sk_ T n i) hm wv ps ks x) := by
  have hn9 : n ≤ 900 := by obtain ⟨_, _, _, _, _, _, _, _, _, q⟩ := h.2.2.2.2.1; exact q
  have hin := h.2.2.2.2.2.1
  have sk1 := sk_le (T := T) hin
  have sk2 := sk_at (T := T) hin
  unfold uf_X4_isEnd
  refine ev_bl (P := fun s c => c = (0, 0) ∧ s.2 = u.2 ∧ ygt_ b (K1_ 37) o u o s ∧ yD_ d b o0 u0 sN t a aS T n o s (sk_ T n i) bg hm wv ps ks x) ?_ (fun s c hp => ?_)
  · unfold uf_X4_isEnd_L0l
    refine ev_uf (Q := fun (s : UM) => s.2 = u.2 ∧ ygt_ b (K1_ 37) o u o s ∧ yD_ d b o0 u0 sN t a aS T n o s (sk_ T n i) bg hm wv ps ks x) (sk_ T n i - i) (fun (j : Nat) (s : UM) => s.2 = u.2 ∧ ygt_ b (K1_ 37) o u o s ∧ yD_ d b o0 u0 sN t a aS T n o s (i + j) bg hm wv ps ks x) (fun j s hj hP => ?_) (fun s hP => ?_) u ⟨rfl, ygt_rfl h.1.1, h⟩
    · obtain ⟨z1, g1, D1⟩ := hP
      have hb : T (i + j) = 32 := sk2.1 (i + j) (by omega) (by omega)
      unfold uf_X4_isEnd_L0
      refine ev_b1 (yD_cl D1) (ev_bn (fun m => ur_isAt m D1 32 32) ?_)
      rw [b_T (show i + j < n ∧ (32 : Int32).toInt ≤ (T (i + j)).toInt ∧ (T (i + j)).toInt ≤ (32 : Int32).toInt from ⟨by omega, by rw [hb]; exact ⟨Int.le_refl _, Int.le_refl _⟩⟩)]
      refine ev_ifF (by decide) (ev_b1 (yD_at D1) ?_)
      refine yD_pf h00 D1 (k := 2) (by omega) (i' := i + j + 1) (bg' := bg) (hm' := hm) (wv' := wv) (by omega) (by rw [show n_ (i + j) + 1 = n_ (i + j + 1) from by rw [n_lit 1, n_add]]; rfl) (fun w D2 g2 => ?_)
      exact ev_some ⟨_, rfl, z1, ygt_tr h.1.1 g1 g2, D2⟩
    · obtain ⟨z1, g1, D1⟩ := hP
      rw [show i + (sk_ T n i - i) = sk_ T n i by omega] at D1
      unfold uf_X4_isEnd_L0
      refine ev_b1 (yD_cl D1) (ev_bn (fun m => ur_isAt m D1 32 32) ?_)
      rw [b_F (fun z => sk2.2 z.1 (Int32.toInt_inj.mp (by have e : (32 : Int32).toInt = 32 := rfl; omega)))]
      exact ev_ifT rfl (ev_some ⟨_, rfl, z1, g1, D1⟩)
  · obtain ⟨rfl, z1, g1, D1⟩ := hp
    refine ev_b1 (yD_at D1) ?_
    refine yD_pf h00 D1 (k := 3) (by omega) (i' := sk_ T n i) (bg' := sk_ T n i) (hm' := hm) (wv' := wv) sk1.2 rfl (fun w D2 g2 => ?_)
    refine ev_b1 (yD_at D2) (ev_b1 (yD_n D2) ?_)
    unfold uf_X4_isEnd_J48
    refine ev_ifq (c' := sk_ T n i = n) (by rw [n_eq (by omega) (by omega)]) (fun c => ?_) (fun c => ?_)
    · exact ev_g (by decide) (ev_some ⟨rfl, z1, (b_T c).symm, ygt_tr h.1.1 g1 g2, D2⟩)
    · exact ev_g (by decide) (ev_some ⟨rfl, z1, (b_F c).symm, ygt_tr h.1.1 g1 g2, D2⟩)
end
