set_option maxRecDepth 100000
/-! The Reader: words, names -/
section
variable {d : UD} {b : Nat} {o0 : Nat → Nat} {u0 : UM} {sN t a aS : Nat} {T : Nat → Int32} {n : Nat} {o : Nat → Nat} {u : UM} {i bg : Nat} {hm : Bool} {wv : Value} {ps ks : List (List Nat)} {x : SS_}
/-- what costs no more than what was read -/
def cst_ (c : UC) (i i' k1 k2 : Nat) : Prop := c.1 ≤ 4 * (i' - i) + k1 ∧ c.2 ≤ 40 * (i' - i) + k2
/-- an end by what is wrong: who is thrown, what it cost -/
def rE_ (b : Nat) (o0 : Nat → Nat) (u0 : UM) (sN i n k1 k2 : Nat) (e : Nat × Nat) {α : Type} (r : ((α ⊕ Nat) × UM) × UC) : Prop := ∃ q, r.1.1 = .inr q ∧ cst_ r.2 i n k1 k2 ∧ yE0_ b o0 u0 sN e q r.1.2
def KV_ (x : Nat) : Prop := 33 ≤ x ∧ x ≤ 37
theorem KV_b : ∀ x, Kb_ 33 x → KV_ x := fun x hx => by unfold Kb_ at hx; unfold KV_; omega
theorem KV_1 {k : Nat} (h : 33 ≤ k ∧ k ≤ 37) : ∀ x, K1_ k x → KV_ x := fun x hx => by cases hx; exact h
theorem wd_app (T : Nat → Int32) (bb j : Nat) : wd_ T bb (bb + (j + 1)) = wd_ T bb (bb + j) ++ [(T (bb + j)).toInt.toNat] := by
  unfold wd_
  rw [show bb + (j + 1) - bb = j + 1 by omega, show bb + j - bb = j by omega, List.range_succ, List.map_append]
  rfl
theorem ur_word (h00 : uw_ b u0) (h : yD_ d b o0 u0 sN t a aS T n o u i bg hm wv ps ks x) : Ev_ (fun m => uf_X4_word m d u a) (fun r => r.1.2.2 = u.2 + r.2.1 ∧ match rdW_ T n i with
    | .inl e => rE_ b o0 u0 sN i n 5 100 e r
    | .inr v => r.1.1 = .inl () ∧ cst_ r.2 i v.2.2 0 0 ∧ i ≤ v.2.1 ∧ v.2.1 < v.2.2 ∧ ∃ o' p, u.2 ≤ p ∧ ygt_ b KV_ o u o' r.1.2 ∧ st_ d o' r.1.2 p v.1 ∧ yD_ d b o0 u0 sN t a aS T n o' r.1.2 v.2.2 v.2.1 hm (.ref p) ps ks x) := by
  have hn9 : n ≤ 900 := by obtain ⟨_, _, _, _, _, _, _, _, _, q⟩ := h.2.2.2.2.1; exact q
  have hin := h.2.2.2.2.2.1
  have h0 := h.1.1
  have sk1 := sk_le (T := T) hin
  have lat := le_at (T := T) sk1.2
  have hl97 : ∀ y, isL_ (T y) = true ↔ ((97 : Int32).toInt ≤ (T y).toInt ∧ (T y).toInt ≤ (122 : Int32).toInt) := fun y => by
    unfold isL_; exact ⟨fun z => of_decide_eq_true z, fun z => decide_eq_true z⟩
  unfold uf_X4_word
  refine ev_ac (ev_nw h0 (fun u2 c2 => ?_))
  have g2 := ygt_nw (K := K0_) (o := o) h0 c2 33
  have D2 := yD_keep h00 h g2 (fun _ z => z.elim)
  have t2 : ot_ o u.2 33 u.2 = 33 := ot_at _ _ _
  generalize ot_ o u.2 33 = o2 at *
  refine ev_bc (P := fun (_ : Unit) u' c => c = (1, 16) ∧ u'.2 = u2.2 + 1 ∧ ygt_ b (Kb_ 33) o2 u2 (ot_ o2 u2.2 (33 + 1)) u' ∧ sbd_ d (ot_ o2 u2.2 (33 + 1)) u' 33 u.2 [] 16) (sbd_init g2.1 c2.2.1 t2) (fun _ u' c hp => by rw [hp.1]; exact hp.2.1) (fun _ u6 c hp => ?_)
  obtain ⟨rfl, z6, g6, S6⟩ := hp
  have D6 := yD_keep h00 D2 g6 (fun z hz => by unfold Kb_ at hz; unfold K2_; omega)
  generalize ot_ o2 u2.2 (33 + 1) = o6 at *
  refine ev_b1 (yD_cl D6) ?_
  refine ev_bc (P := fun r u' c => c = (0, 0) ∧ u'.2 = u6.2 ∧ r = b_ (sk_ T n i = n) ∧ ygt_ b (K1_ 37) o6 u6 o6 u' ∧ yD_ d b o0 u0 sN t a aS T n o6 u' (sk_ T n i) (sk_ T n i) hm wv ps ks x) (ur_isEnd h00 D6) (fun r u' c hp => by rw [hp.1]; exact hp.2.1) (fun r u14 c hp => ?_)
  obtain ⟨rfl, z14, rfl, g14, D14⟩ := hp
  have S14 := sbd_keep g6.1 g14 S6 (fun z => by cases z) (fun z => by cases z)
  have G14 : ygt_ b KV_ o u o6 u14 := ygt_tr h0 (ygt_sub g2 (fun x hx => hx.elim)) (ygt_tr g2.1 (ygt_sub g6 KV_b) (ygt_sub g14 (KV_1 (by omega))))
  have Z14 : u14.2 = u.2 + 2 := by rw [z14, z6, c2.1]
  generalize hb : sk_ T n i = bb at *
  generalize he : le_ T n bb = ee at *
  -- behind the letters
  have fin : ∀ (o7 : Nat → Nat) (u7 : UM) (cap : Nat) (c7 : UC), u7.2 = u.2 + c7.1 → c7.1 ≤ 2 + (ee - bb) → ygt_ b KV_ o u o7 u7 → sbd_ d o7 u7 33 u.2 (wd_ T bb ee) cap → yD_ d b o0 u0 sN t a aS T n o7 u7 ee bb hm wv ps ks x → c7.2 ≤ 20 + 4 * cap → cap ≤ 16 + 2 * (ee - bb) → (ee - bb ≤ 16 → c7 = (2, 20)) → Ev_ (fun m => uf_X4_word_J57 m d u7 a u.2) (fun r => r.1.2.2 = u.2 + (u_add c7 r.2).1 ∧ match rdW_ T n i with
    | .inl e => rE_ b o0 u0 sN i n 5 100 e (r.1, u_add c7 r.2)
    | .inr v => r.1.1 = .inl () ∧ cst_ (u_add c7 r.2) i v.2.2 0 0 ∧ i ≤ v.2.1 ∧ v.2.1 < v.2.2 ∧ ∃ o' p, u.2 ≤ p ∧ ygt_ b KV_ o u o' r.1.2 ∧ st_ d o' r.1.2 p v.1 ∧ yD_ d b o0 u0 sN t a aS T n o' r.1.2 v.2.2 v.2.1 hm (.ref p) ps ks x) := fun o7 u7 cap c7 z7 c71 G7 S7 D7 cs1 cs2 cs3 => by
    have wl : (wd_ T bb ee).length = ee - bb := wd_len T bb ee
    obtain ⟨fs, hcl⟩ := sbd_cl S7
    unfold uf_X4_word_J57
    refine ev_b1 hcl ?_
    refine ev_bc (P := fun r u' c => r = u7.2 ∧ c = (2, 4 + (wd_ T bb ee).length) ∧ u'.2 = u7.2 + 2 ∧ ∃ o', ygt_ b K0_ o7 u7 o' u' ∧ st_ d o' u' u7.2 (wd_ T bb ee)) (sbd_str G7.1 S7 (by omega)) (fun r u' c hp => by rw [hp.2.1]; exact hp.2.2.1) (fun r u8 c hp => ?_)
    obtain ⟨rfl, rfl, z8, o8, g8, s8⟩ := hp
    have D8 := yD_keep h00 D7 g8 (fun _ z => z.elim)
    have S8 := sbd_keep G7.1 g8 S7 (fun z => z) (fun z => z)
    refine yD_pf h00 D8 (k := 5) (by omega) (i' := ee) (bg' := bb) (hm' := hm) (wv' := .ref u7.2) D8.2.2.2.2.2.1 rfl (fun w9 D9 g9 => ?_)
    have S9 := sbd_keep g8.1 g9 S8 (fun z => by cases z) (fun z => by cases z)
    have s9 := st_keep g8.1 g9 s8 (fun z => by cases z) (fun z => by cases z)
    obtain ⟨fs9, hcl9⟩ := sbd_cl S9
    refine ev_b1 hcl9 (ev_bn (fun m => sbd_len m S9) ?_)
    rw [wl]
    refine ev_bn (fun m => uin_lit m d (w9, u8.2) (n_ (ee - bb)) (lo := 1) (hi := 8) (a := 1) (c := 8) rfl rfl) ?_
    rw [n_toInt (by omega)]
    unfold rdW_
    rw [hb, he]
    by_cases c : 1 ≤ ee - bb ∧ ee - bb ≤ 8
    · rw [b_T (show (1 : Int) ≤ ((ee - bb : Nat) : Int) ∧ ((ee - bb : Nat) : Int) ≤ 8 by omega)]
      simp only [if_pos c]
      have c7e := cs3 (by omega)
      refine ev_ifF (by decide) (ev_some ⟨?_, rfl, ?_, ?_, ?_, o8, u7.2, by omega, ygt_tr h0 G7 (ygt_tr G7.1 (ygt_sub g8 (fun x hx => hx.elim)) (ygt_sub g9 (KV_1 (by omega)))), s9, D9⟩)
      · show u8.2 = u.2 + (c7.1 + (2 + 0)); omega
      · rw [c7e]
        refine ⟨?_, ?_⟩
        · show 2 + (2 + 0) ≤ 4 * (ee - i) + 0; omega
        · show 20 + (4 + (ee - bb) + 0) ≤ 40 * (ee - i) + 0; omega
      · omega
      · show bb < ee; omega
    · rw [b_F (show ¬ ((1 : Int) ≤ ((ee - bb : Nat) : Int) ∧ ((ee - bb : Nat) : Int) ≤ 8) by omega)]
      simp only [if_neg c]
      refine ev_ifT trivial (ur_throw h00 D9 (k := 1) (n_lit 1) (fun q u' z' E' => ⟨?_, q, rfl, ⟨?_, ?_⟩, E'⟩))
      · show u'.2 = u.2 + (c7.1 + (2 + 1))
        have : u'.2 = u8.2 + 1 := z'
        omega
      · show c7.1 + (2 + 1) ≤ 4 * (n - i) + 5; omega
      · show c7.2 + (4 + (ee - bb) + 8) ≤ 40 * (n - i) + 100; omega
  by_cases c1 : bb = n
  · rw [b_T c1]
    have ce : ee = bb := by omega
    refine ev_ifF (by decide) ?_
    have D14' : yD_ d b o0 u0 sN t a aS T n o6 u14 ee bb hm wv ps ks x := by rw [ce]; exact D14
    have S14' : sbd_ d o6 u14 33 u.2 (wd_ T bb ee) 16 := by
      rw [ce]; unfold wd_; rw [Nat.sub_self]; exact S14
    refine ev_w (fin o6 u14 16 (2, 20) (by show u14.2 = u.2 + 2; omega) (by show 2 ≤ _; omega) G14 S14' D14' (by show 20 ≤ _; omega) (by omega) (fun _ => rfl)) (fun r hr => ?_)
    have ea : u_add (1, 4) (u_add (1, 16) (u_add (0, 0) r.2)) = u_add (2, 20) r.2 := by rw [← u_add_assoc, ← u_add_assoc]; rfl
    dsimp only at hr ⊢
    rw [ea]; exact hr
  · rw [b_F c1]
    refine ev_ifT rfl ?_
    refine ev_bl (P := fun s c => ∃ o7 cap, s.2 = u14.2 + c.1 ∧ c.1 ≤ ee - bb ∧ ygt_ b KV_ o6 u14 o7 s ∧ sbd_ d o7 s 33 u.2 (wd_ T bb ee) cap ∧ yD_ d b o0 u0 sN t a aS T n o7 s ee bb hm wv ps ks x ∧ c.2 ≤ 4 * cap ∧ cap ≤ 16 + 2 * (ee - bb) ∧ (ee - bb ≤ 16 → c = (0, 0))) ?_ (fun s c hp => ?_)
    · unfold uf_X4_word_L15l
      refine ev_ul (Q := fun (s : UM) (c : UC) => ∃ o7 cap, s.2 = u14.2 + c.1 ∧ c.1 ≤ ee - bb ∧ ygt_ b KV_ o6 u14 o7 s ∧ sbd_ d o7 s 33 u.2 (wd_ T bb ee) cap ∧ yD_ d b o0 u0 sN t a aS T n o7 s ee bb hm wv ps ks x ∧ c.2 ≤ 4 * cap ∧ cap ≤ 16 + 2 * (ee - bb) ∧ (ee - bb ≤ 16 → c = (0, 0))) (fun (j : Nat) => ee - bb - j) (fun (j : Nat) (s : UM) (c : UC) => j ≤ ee - bb ∧ ∃ o7 cap, s.2 = u14.2 + c.1 ∧ c.1 ≤ j ∧ ygt_ b KV_ o6 u14 o7 s ∧ sbd_ d o7 s 33 u.2 (wd_ T bb (bb + j)) cap ∧ yD_ d b o0 u0 sN t a aS T n o7 s (bb + j) bb hm wv ps ks x ∧ c.2 + 16 ≤ 4 * cap ∧ cap ≤ 16 + 2 * j ∧ 16 ≤ cap ∧ (cap = 16 → c = (0, 0)) ∧ (j ≤ 16 → cap = 16)) (fun j s c hy => ?_) 0 u14 ⟨Nat.zero_le _, o6, 16, rfl, Nat.zero_le _, ygt_rfl G14.1, by unfold wd_; rw [show bb + 0 - bb = 0 by omega]; exact S14, D14, by show 0 + 16 ≤ 64; omega, by omega, by omega, fun _ => rfl, fun _ => rfl⟩
      obtain ⟨hj, o7, cap, z7, b1, g7, S7, D7, q1, q2, q3, q4, q5⟩ := hy
      have wl : (wd_ T bb (bb + j)).length = j := by rw [wd_len]; omega
      unfold uf_X4_word_L15
      refine ev_b1 (yD_cl D7) (ev_bn (fun m => ur_isAt m D7 97 122) ?_)
      by_cases cj : j = ee - bb
      · rw [b_F (fun z => by
          have e1 : bb + j = ee := by omega
          rw [e1] at z
          have := lat.2.2.2 z.1
          rw [(hl97 ee).mpr z.2] at this; exact absurd this (by decide))]
        refine ev_ifT rfl (ev_some ⟨o7, cap, z7, by show c.1 + 0 ≤ _; omega, g7, by rw [show ee = bb + j by omega]; exact S7, by rw [show ee = bb + j by omega]; exact D7, by show c.2 + 0 ≤ _; omega, by omega, fun hle => ?_⟩)
        have := q4 (q5 (by omega))
        rw [this]; rfl
      · have hlt : isL_ (T (bb + j)) = true := lat.2.2.1 (bb + j) (by omega) (by omega)
        rw [b_T ⟨by omega, (hl97 _).mp hlt⟩]
        refine ev_ifF (by decide) ?_
        obtain ⟨aT, p1, p2, p3⟩ := yD_tp D7 (by omega)
        obtain ⟨fs7, hcl7⟩ := sbd_cl S7
        refine ev_b1 p1 (ev_b1 p2 (ev_b1 (yD_at D7) (ev_b1 p3 (ev_b1 hcl7 ?_))))
        obtain ⟨l1, l2, l3⟩ := isL_n hlt
        have c128 : (T (bb + j)).toInt.toNat < 128 := by omega
        have e16 : ((T (bb + j)).toUInt32 % 65536).toInt32 = n_ (T (bb + j)).toInt.toNat := by
          conv => lhs; rw [l1]
          exact (nar_n c128).2.1
        rw [e16]
        refine ev_bc (P := fun r u' cc => r = u.2 ∧ ∃ o' cap', u'.2 = s.2 + cc.1 ∧ ygt_ b (Kb_ 33) o7 s o' u' ∧ sbd_ d o' u' 33 u.2 (wd_ T bb (bb + j) ++ [(T (bb + j)).toInt.toNat]) cap' ∧ (((wd_ T bb (bb + j)).length + 1 ≤ cap ∧ cap' = cap ∧ cc = (0, 0)) ∨ ((wd_ T bb (bb + j)).length = cap ∧ cap' = 2 * cap + 2 ∧ cc = (1, cap')))) (sbd_app g7.1 S7 (by omega) (by omega) c128) (fun r u' cc hp => by obtain ⟨_, o', cap', q, _⟩ := hp; exact q) (fun r u8 cc hp => ?_)
        obtain ⟨rfl, o8, cap8, z8, g8, S8, hq⟩ := hp
        have D8 := yD_keep h00 D7 g8 (fun z hz => by unfold Kb_ at hz; unfold K2_; omega)
        refine ev_b1 (yD_at D8) ?_
        refine yD_pf h00 D8 (k := 2) (by omega) (i' := bb + (j + 1)) (bg' := bb) (hm' := hm) (wv' := wv) (by omega) (by rw [show n_ (bb + j) + 1 = n_ (bb + (j + 1)) from by rw [n_lit 1, n_add]; rfl]; rfl) (fun w D9 g9 => ?_)
        have S9 := sbd_keep g8.1 g9 S8 (fun z => by cases z) (fun z => by cases z)
        rw [← wd_app] at S9
        rw [wl] at hq
        refine ev_some ⟨j + 1, ⟨by omega, o8, cap8, ?_, ?_, ygt_tr G14.1 g7 (ygt_tr g7.1 (ygt_sub g8 KV_b) (ygt_sub g9 (KV_1 (by omega)))), S9, D9, ?_, ?_, ?_, fun z => ?_, fun z => ?_⟩, by omega⟩
        · show u8.2 = u14.2 + (c.1 + (cc.1 + 0)); omega
        · show c.1 + (cc.1 + 0) ≤ j + 1
          rcases hq with ⟨_, _, e⟩ | ⟨_, _, e⟩ <;> rw [e] <;> dsimp only <;> omega
        · show c.2 + (cc.2 + 0) + 16 ≤ 4 * cap8
          rcases hq with ⟨_, e1, e⟩ | ⟨_, e1, e⟩ <;> rw [e] <;> dsimp only <;> omega
        · rcases hq with ⟨_, e1, e⟩ | ⟨_, e1, e⟩ <;> omega
        · rcases hq with ⟨_, e1, e⟩ | ⟨_, e1, e⟩ <;> omega
        · rcases hq with ⟨_, e1, e⟩ | ⟨_, e1, e⟩
          · rw [e, q4 (by omega)]; rfl
          · omega
        · rcases hq with ⟨_, e1, e⟩ | ⟨e0, e1, e⟩
          · have := q5 (by omega); omega
          · omega
    · obtain ⟨o7, cap, z7, b1, g7, S7, D7, q1, q2, q3⟩ := hp
      refine ev_w (fin o7 s cap (u_add (2, 20) c) (by show s.2 = u.2 + (2 + c.1); omega) (by show 2 + c.1 ≤ _; omega) (ygt_tr h0 G14 g7) S7 D7 (by show 20 + c.2 ≤ _; omega) q2 (fun hle => by rw [q3 hle]; rfl)) (fun r hr => ?_)
      have ea : u_add (1, 4) (u_add (1, 16) (u_add (0, 0) (u_add c r.2))) = u_add (u_add (2, 20) c) r.2 := by
        rw [← u_add_assoc, ← u_add_assoc, u_add_assoc (2, 20) c r.2]; rfl
      dsimp only at hr ⊢
      rw [ea]; exact hr
end
