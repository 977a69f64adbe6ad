set_option maxRecDepth 100000
/-! The reference reads: lines -/
theorem rf_V_turn {s : SS_} {A : Nat → Int32} (h40 : s.1.length ≤ 40) (hV : rf_V s A) {t : Nat} (ht : t < s.1.length) (hk : (s.1[t]).2.2.2.2 = false) : rf_V (s.1.modify t tr_turn, s.2.1, s.2.2) (upd A (2 + 5 * t + 4) 1) := by
  refine ⟨by rw [upd_ne (by omega), List.length_modify]; exact hV.1, by rw [upd_ne (by omega)]; exact hV.2.1, fun i hi => ?_, fun k hk => by rw [upd_ne (by omega)]; exact hV.2.2.2 k hk⟩
  rw [List.length_modify] at hi
  have hi' := hV.2.2.1 i hi
  rw [List.getElem_modify]
  by_cases ci : t = i
  · subst ci
    rw [if_pos rfl, upd_ne (by omega), upd_ne (by omega), upd_ne (by omega), upd_ne (by omega), upd_at]
    refine ⟨hi'.1, hi'.2.1, hi'.2.2.1, hi'.2.2.2.1, ?_⟩
    unfold tr_turn
    rw [hk]; rfl
  · rw [if_neg ci, upd_ne (by omega), upd_ne (by omega), upd_ne (by omega), upd_ne (by omega), upd_ne (by omega)]
    exact hi'
theorem rf_V_mode {s : SS_} {A : Nat → Int32} (h40 : s.1.length ≤ 40) (hV : rf_V s A) (m : Nat) : rf_V (s.1, s.2.1, m) (upd A 1 (n_ m)) := by
  refine ⟨by rw [upd_ne (by omega)]; exact hV.1, upd_at _ _ _, fun i hi => ?_, fun k hk => by rw [upd_ne (by omega)]; exact hV.2.2.2 k hk⟩
  rw [upd_ne (by omega), upd_ne (by omega), upd_ne (by omega), upd_ne (by omega), upd_ne (by omega)]
  exact hV.2.2.1 i hi
theorem rf_V_cap {s : SS_} {A : Nat → Int32} (h40 : s.1.length ≤ 40) (hV : rf_V s A) (c : Nat) (v : Int) : rf_V (s.1, fw_up s.2.1 c v, s.2.2) (upd A (202 + c) (q_ v)) := by
  refine ⟨by rw [upd_ne (by omega)]; exact hV.1, by rw [upd_ne (by omega)]; exact hV.2.1, fun i hi => ?_, fun k hk => ?_⟩
  · have hi' : i < s.1.length := hi
    rw [upd_ne (by omega), upd_ne (by omega), upd_ne (by omega), upd_ne (by omega), upd_ne (by omega)]
    exact hV.2.2.1 i hi
  · by_cases e : k = c
    · rw [e, upd_at]; show q_ v = q_ (fw_up _ _ _ _); rw [fw_up_at]
    · rw [upd_ne (by omega)]; show _ = q_ (fw_up _ _ _ _); rw [fw_up_ne e]; exact hV.2.2.2 k hk
theorem ss_ok_mono {np nk np' nk' : Nat} {s : SS_} (h : ss_ok np nk s) (h1 : np ≤ np') (h2 : np' ≤ 8) (h3 : nk ≤ nk') (h4 : nk' ≤ 4) : ss_ok np' nk' s :=
  ⟨h2, h4, h.2.2.1, fun t ht => by obtain ⟨a, b, c, d, e, f⟩ := h.2.2.2.1 t ht; exact ⟨by omega, by omega, c, d, e, by omega⟩, h.2.2.2.2⟩
theorem ix_no {l : List (List Nat)} {w : List Nat} (h : ¬ ix_ l w < l.length) : w ∉ l := fun hm => by
  obtain ⟨i, hi, e⟩ := List.getElem_of_mem hm
  have := (fi_lt (P := fun j => decide (l.getD j [] = w)) (m := l.length) (b := 0) (x := i) (by omega) (by omega) (by rw [gD_get hi]; simpa using e)).1
  exact h (Nat.lt_of_le_of_lt this hi)
theorem mu_sb (st : MS) (i : Nat) (v : Int64) : mu_ st (m_sb st 3 i v) := ⟨fun _ _ => rfl, fun k hk => if_neg hk, fun _ _ => rfl⟩
theorem sbb_at (st : MS) (i : Nat) (v : Int64) : (m_sb st 3 i v).2.2 3 = vp_updL (st.2.2 3) i v := by show va_up st.2.2 3 _ 3 = _; exact if_pos rfl
theorem updL_at (f : Nat → Int64) (i : Nat) (v : Int64) : vp_updL f i v i = v := if_pos rfl
theorem updL_ne {f : Nat → Int64} {i j : Nat} {v : Int64} (h : j ≠ i) : vp_updL f i v j = f j := if_neg h
theorem rqe_sb {st0 st : MS} {e : Nat × Nat} (h : rqe_ st0 e st) (i : Nat) (v : Int64) : rqe_ st0 e (m_sb st 3 i v) := ⟨mu_tr h.1 (mu_sb _ _ _), h.2⟩
theorem rf_newName {st0 st : MS} {T : Nat → Int32} {n : Nat} {s : RD_} (h : rdq_ st0 T n s st) {p0 : Nat} (hp : p0 < 12) (hf1 : s.2.1.length ≤ p0) (hf2 : ∀ i, i < s.2.2.1.length → 8 + i ≠ p0) : Ev_ (fun m => f_newName m st (n_ p0)) (fun st' => match rdNew_ T n s.2.1 s.2.2.1 s.1 with
    | .inl e => rqe_ st0 e st'
    | .inr v => rdq_ st0 T n (v.2, s.2) st' ∧ st'.2.2 3 p0 = Int64.ofInt (nm_ v.1 0) ∧ nm_ok v.1 ∧ v.1 ∉ s.2.1 ∧ v.1 ∉ s.2.2.1) := by
  obtain ⟨g1, g2, g3, g4, g5, g6, g7, g8⟩ := id h
  unfold f_newName f_newName_J41 f_newName_J50
  refine ev_b2 (rf_nameRead g2 g3) (fun r2 s3 hr => ?_)
  dsimp only at hr
  unfold rdNew_ pb_
  rw [n_in hp (by omega), n_nat (by omega)]
  simp only [m_gT]
  cases hx : rdN_ T n s.1 with
  | inl e =>
    rw [hx] at hr
    dsimp only at hr ⊢
    have he := rdN_er hx
    have q := rq_er h hr (by omega) (by omega)
    exact ev_ifF (rqe_13 q) (ev_some (rqe_sb q _ _))
  | inr v =>
    rw [hx] at hr
    obtain ⟨⟨o1, o2, o3⟩, er, nok⟩ := hr
    dsimp only at o1 o2 o3 er nok ⊢
    subst er
    have q := rq_mt h o1 o2
    have q5 := q.2.2.2.2.1
    have l8 := g8.1
    have l4 := g8.2.1
    refine ev_ifT q.2.2.1 ?_
    rw [q5.1, q5.2.1, show (0 : Int32) = n_ 0 from n_lit 0, show (8 : Int32) = n_ 8 from n_lit 8]
    have bad : Ev_ (fun m => m_b (f_fails m s3 3 (s3.1 16)) (fun s10 => some (m_sb s10 3 p0 (Int64.ofInt (nm_ v.1 0))))) (fun st' => rqe_ st0 (3, v.2.1) st') := by
      refine ev_bn (fun m => rf_fails m q.2.2.1 _ _) ?_
      rw [o3, n_lit 3]
      exact ev_some (rqe_sb (rq_fail (st' := st) q 3 v.2.1 (by omega) (by omega)) _ _)
    refine ev_b (rf_find g8.2.2.2.1 nok (show 0 + s.2.1.length ≤ 12 by omega) (fun i hi => by rw [Nat.zero_add]; exact q5.2.2.1 i hi)) (fun r7 hr7 => ?_)
    by_cases c1 : ix_ s.2.1 v.1 < s.2.1.length
    · rw [if_pos c1] at hr7
      subst hr7
      rw [if_pos (Or.inl c1)]
      exact ev_ifF (by rw [m1_q, n_q, q_eq' (by omega) (by omega) (by omega) (by omega)]; omega) bad
    · rw [if_neg c1] at hr7
      subst hr7
      refine ev_ifT (by rw [m1_q]) ?_
      refine ev_b (rf_find g8.2.2.2.2.1 nok (show 8 + s.2.2.1.length ≤ 12 by omega) (fun i hi => q5.2.2.2 i hi)) (fun r12 hr12 => ?_)
      by_cases c2 : ix_ s.2.2.1 v.1 < s.2.2.1.length
      · rw [if_pos c2] at hr12
        subst hr12
        rw [if_pos (Or.inr c2)]
        exact ev_ifF (by rw [m1_q, n_q, q_eq' (by omega) (by omega) (by omega) (by omega)]; omega) bad
      · rw [if_neg c2] at hr12
        subst hr12
        rw [if_neg (fun z => by rcases z with z | z <;> contradiction)]
        refine ev_ifT (by rw [m1_q]) (ev_some ⟨?_, by rw [sbb_at, updL_at], nok, ix_no c1, ix_no c2⟩)
        obtain ⟨k1, k2, k3, k4, k5, k6, k7, k8⟩ := q
        exact ⟨mu_tr k1 (mu_sb _ _ _), k2, k3, k4, ⟨k5.1, k5.2.1, fun i hi => by have hi' : i < s.2.1.length := hi; rw [sbb_at, updL_ne (by omega)]; exact k5.2.2.1 i hi, fun i hi => by rw [sbb_at, updL_ne (hf2 i hi)]; exact k5.2.2.2 i hi⟩, k6, k7, k8⟩
/-- behind a word: with a fault nothing more is done -/
theorem rf_twoE {st0 st : MS} {e : Nat × Nat} (q : rqe_ st0 e st) {j : Nat} (hj : j < 6) (x y t : Int32) : Ev_ (fun m => f_twoRead_J22 m st (n_ j) x y t) (fun s => s = st) := by
  unfold f_twoRead_J22 f_twoRead_J34
  have key : ∀ a b : Int32, Ev_ (fun m => m_b2 (f_numeral m st b a) (fun r10 s11 => m_if ((n_ j : Int32) = (2 : Int32)) (m_b2 (f_kindRead m s11) (fun r19 s20 => f_twoRead_J52 m s20 (n_ j) x y r10 r19)) (f_twoRead_J52 m s11 (n_ j) x y r10 0))) (fun s => s = st) := fun a b => by
    refine ev_b2 (P := fun r => r = (b, st)) (ev_eq (fun m => rf_numeralE m (rqe_13 q) _ _) rfl) (fun r s hr => ?_)
    cases hr
    unfold f_twoRead_J52
    refine ev_if (fun _ => ?_) (fun _ => ?_)
    · refine ev_b2 (rf_kindReadE q) (fun r2 s2 h2 => ?_)
      dsimp only at h2
      subst h2
      exact ev_ifF (rqe_13 q) (ev_some rfl)
    · exact ev_ifF (rqe_13 q) (ev_some rfl)
  exact ev_if (fun _ => key _ _) (fun _ => key _ _)
def oq_ (st0 : MS) (T : Nat → Int32) (n : Nat) (x : PR_ RD_) (st : MS) : Prop := match x with
  | .inl e => rqe_ st0 e st
  | .inr s => rdq_ st0 T n s st
/-- the state's row is another one -/
theorem rdq_set {st0 st st' : MS} {T : Nat → Int32} {n : Nat} {s : RD_} (h : rdq_ st0 T n s st) (m : ms_ [0] st st') {x : SS_} (hV : rf_V x (st'.2.1 0)) (ok : ss_ok s.2.1.length s.2.2.1.length x) : rdq_ st0 T n (s.1, s.2.1, s.2.2.1, x, s.2.2.2.2) st' := by
  obtain ⟨g1, g2, g3, g4, g5, g6, g7, g8⟩ := h
  refine ⟨mu_tr g1 (mu_mt (mt_of (fs := []) m) (by simp)), ⟨by rw [m.1]; exact g2.1, by rw [m.1]; exact g2.2.1, g2.2.2.1, g2.2.2.2.1, fun x hx => by rw [m.2.2 9 (by simp)]; exact g2.2.2.2.2.1 x hx, g2.2.2.2.2.2⟩, by rw [m.1]; exact g3, by rw [m.1]; exact g4, ⟨by rw [m.1]; exact g5.1, by rw [m.1]; exact g5.2.1, fun i hi => by rw [m.2.1]; exact g5.2.2.1 i hi, fun i hi => by rw [m.2.1]; exact g5.2.2.2 i hi⟩, hV, by rw [m.1]; exact g7, g8.1, g8.2.1, ok, g8.2.2.2⟩
theorem rdO_ne {T : Nat → Int32} {n : Nat} {l : List (List Nat)} {a i : Nat} {v : Nat × Nat × Nat} (h : rdO_ T n l a i = .inr v) : v.1 < l.length ∧ v.1 ≠ a := by
  unfold rdO_ pb_ at h
  split at h
  · cases h
  · rename_i r hr
    dsimp only at h
    split at h
    · cases h
    · rename_i c; cases h; exact ⟨rdI_lt hr, c⟩
theorem rdD_in {T : Nat → Int32} {n : Nat} {lo hi : Int} {i : Nat} {v : Int × Nat × Nat} (h : rdD_ T n lo hi i = .inr v) : lo ≤ v.1 ∧ v.1 ≤ hi := by
  unfold rdD_ at h
  split at h
  · cases h
  · split at h
    · cases h
    · rename_i c
      cases h
      exact Classical.not_not.mp (fun z => c (Or.inr z))
theorem rf_twoRead {st0 st : MS} {T : Nat → Int32} {n : Nat} {s : RD_} (h : rdq_ st0 T n s st) {j : Nat} (hj : j = 2 ∧ s.2.2.2.1.1.length < 40 ∨ j = 4) : Ev_ (fun m => f_twoRead m st (n_ j)) (oq_ st0 T n (rdB_ T n j s)) := by
  have l8 := h.2.2.2.2.2.2.2.1
  have l4 := h.2.2.2.2.2.2.2.2.1
  have sok := h.2.2.2.2.2.2.2.2.2.1
  have e2 : ∀ b : Bool, (if b then n_ 2 else n_ 4) = n_ j → True := fun _ _ => trivial
  unfold f_twoRead rdB_
  have j6 : j < 6 := by omega
  rw [if_neg (by omega), if_neg (by omega)]
  refine ev_b2 (rf_partyRead h) (fun r2 s3 hr => ?_)
  cases hx : rdI_ T n s.2.1 s.1 with
  | inl e =>
    rw [hx] at hr
    have q : rqe_ st0 e s3 := hr
    have fin : Ev_ (fun m => m_b2 (f_otherRead m s3 r2) (fun r5 s6 => m_if ((n_ j : Int32) = (2 : Int32)) (f_twoRead_J22 m s6 (n_ j) r2 r5 1) (f_twoRead_J22 m s6 (n_ j) r2 r5 0))) (fun st' => rqe_ st0 e st') := by
      refine ev_b2 (rf_otherReadE q r2) (fun r5 s6 h6 => ?_)
      dsimp only at h6
      subst h6
      refine ev_if (fun _ => ev_w (rf_twoE q j6 _ _ _) (fun s hs => by rw [hs]; exact q)) (fun _ => ev_w (rf_twoE q j6 _ _ _) (fun s hs => by rw [hs]; exact q))
    rcases hj with ⟨rfl, _⟩ | rfl
    · exact fin
    · exact fin
  | inr a =>
    rw [hx] at hr
    obtain ⟨q, q16, qv⟩ := hr
    dsimp only at q q16 qv
    subst qv
    have ha := rdI_lt hx
    refine ev_b2 (rf_otherRead q (show a.1 < 8 by omega)) (fun r5 s6 h6 => ?_)
    cases hy : rdO_ T n s.2.1 a.1 a.2.2 with
    | inl e =>
      dsimp only at h6
      rw [hy] at h6
      have q : rqe_ st0 e s6 := h6
      have fin : Ev_ (fun m => m_if ((n_ j : Int32) = (2 : Int32)) (f_twoRead_J22 m s6 (n_ j) (n_ a.1) r5 1) (f_twoRead_J22 m s6 (n_ j) (n_ a.1) r5 0)) (fun st' => rqe_ st0 e st') :=
        ev_if (fun _ => ev_w (rf_twoE q j6 _ _ _) (fun s hs => by rw [hs]; exact q)) (fun _ => ev_w (rf_twoE q j6 _ _ _) (fun s hs => by rw [hs]; exact q))
      rcases hj with ⟨rfl, _⟩ | rfl
      · unfold pb_; dsimp only; rw [if_pos rfl, hy]; exact fin
      · unfold pb_; dsimp only; rw [if_neg (by omega), if_neg (by omega), if_pos rfl, hy]; exact fin
    | inr b =>
      dsimp only at h6
      rw [hy] at h6
      obtain ⟨q2, q216, q2v⟩ := h6
      dsimp only at q2 q216 q2v
      subst q2v
      obtain ⟨hb1, hb2⟩ := rdO_ne hy
      unfold f_twoRead_J22 f_twoRead_J34
      rcases hj with ⟨rfl, h40⟩ | rfl
      · unfold pb_
        dsimp only
        rw [if_pos rfl, hy]
        dsimp only
        refine ev_ifT (by decide) (ev_ifT (by decide) ?_)
        have hn := rf_numeral q2.2.1 q2.2.2.1 (lo := 1) (hi := 999999) ⟨by omega, by omega⟩ ⟨by omega, by omega⟩
        refine ev_b2 hn (fun r10 s11 h11 => ?_)
        dsimp only at h11
        refine ev_ifT (by decide) ?_
        cases hz : rdD_ T n 1 999999 b.2.2 with
        | inl e =>
          rw [hz] at h11
          have ee := rdD_er hz
          have q3 := rq_er q2 h11 (by omega) (by omega)
          refine ev_b2 (rf_kindReadE q3) (fun r19 s20 h20 => ?_)
          dsimp only at h20
          subst h20
          unfold f_twoRead_J52
          exact ev_ifF (rqe_13 q3) (ev_some q3)
        | inr m =>
          rw [hz] at h11
          obtain ⟨⟨o1, o2, o3⟩, er⟩ := h11
          subst er
          have hm := rdD_in hz
          have q3 := rq_mt q2 o1 o2
          refine ev_b2 (rf_kindRead q3) (fun r19 s20 h20 => ?_)
          dsimp only at h20 ⊢
          unfold f_twoRead_J52 f_twoRead_J97
          cases hk : rdI_ T n s.2.2.1 m.2.2 with
          | inl e =>
            rw [hk] at h20
            have q4 : rqe_ st0 e s20 := h20
            exact ev_ifF (rqe_13 q4) (ev_some q4)
          | inr k =>
            rw [hk] at h20
            obtain ⟨q4, _, q4v⟩ := h20
            dsimp only at q4 q4v
            subst q4v
            have hkl := rdI_lt hk
            refine ev_ifT q4.2.2.1 (ev_ifT (by decide) ?_)
            obtain ⟨st', f1, f2, f3⟩ := rf_adds 0 q4.2.2.2.2.2.1 h40 a.1 b.1 k.1 m.1
            refine ev_bn (r := st') (fun m => f1) (ev_some ?_)
            refine rdq_set q4 f2 f3 ⟨sok.1, sok.2.1, by rw [List.length_append]; simp; omega, fun t ht => ?_, sok.2.2.2.2⟩
            rcases List.mem_append.mp ht with z | z
            · exact sok.2.2.2.1 t z
            · rw [List.mem_singleton.mp z]; exact ⟨ha, hb1, fun z => hb2 z.symm, hm.1, by dsimp only; omega, hkl⟩
      · unfold pb_
        dsimp only
        rw [if_neg (by omega), if_neg (by omega), if_pos rfl, hy]
        dsimp only
        refine ev_ifF (by decide) (ev_ifF (by decide) ?_)
        have hn := rf_numeral q2.2.1 q2.2.2.1 (lo := 0) (hi := 99999999) ⟨by omega, by omega⟩ ⟨by omega, by omega⟩
        refine ev_b2 hn (fun r10 s11 h11 => ?_)
        dsimp only at h11
        refine ev_ifF (by decide) ?_
        unfold f_twoRead_J52 f_twoRead_J97
        cases hz : rdD_ T n 0 99999999 b.2.2 with
        | inl e =>
          rw [hz] at h11
          have ee := rdD_er hz
          have q3 := rq_er q2 h11 (by omega) (by omega)
          exact ev_ifF (rqe_13 q3) (ev_some q3)
        | inr m =>
          rw [hz] at h11
          obtain ⟨⟨o1, o2, o3⟩, er⟩ := h11
          subst er
          have hm := rdD_in hz
          have q3 := rq_mt q2 o1 o2
          refine ev_ifT q3.2.2.1 (ev_ifF (by decide) ?_)
          rw [n_lit 202, n_lit 8, n_mul, n_add, n_add]
          refine ev_g (n_in (by omega) (by omega)) ?_
          rw [n_nat (by omega), show 202 + 8 * a.1 + b.1 = 202 + (8 * a.1 + b.1) by omega]
          refine ev_some (rdq_set q3 (ms_sa (by simp) _ _ _) (by rw [sa_at]; exact rf_V_cap sok.2.2.1 q3.2.2.2.2.2.1 _ _) ⟨sok.1, sok.2.1, sok.2.2.1, sok.2.2.2.1, fun k hk => ?_, sok.2.2.2.2.2⟩)
          show 0 ≤ fw_up _ _ _ k ∧ fw_up _ _ _ k ≤ _
          by_cases e : k = 8 * a.1 + b.1
          · rw [e, fw_up_at]; exact hm
          · rw [fw_up_ne e]; exact sok.2.2.2.2.1 k hk
