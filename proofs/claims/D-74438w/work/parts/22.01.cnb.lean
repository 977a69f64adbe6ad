set_option maxRecDepth 100000
/-! The component's ways -/
def cn_pi (p q : Nat → Int) (v : Nat) : Int := cn_W * p v + q v
def cn_B (L : Nat → Int) (k : Nat) (d : Int) (p q : Nat → Int) (root : Nat → Prop) (dist : Nat → Int) (pe : Nat → Nat) : Prop := fw_B 18 324 cn_src cn_dst (fun e => 0 < L e) (cn_w k d) (cn_pi p q) cn_FAR (- cn_pi p q 16) root dist pe
def cn_X (L : Nat → Int) (k : Nat) (d : Int) (dist : Nat → Int) : Prop := fw_Fix 324 cn_src cn_dst (fun e => 0 < L e) (cn_w k d) cn_FAR dist
def cn_Pq (k : Nat) (d : Int) (L p q : Nat → Int) : Prop := (∀ v, v < 18 → -17 ≤ q v ∧ q v ≤ 17) ∧ fw_Pot 324 cn_src cn_dst (fun e => 0 < L e) (cn_w k d) (cn_pi p q)
theorem cn_Pq_of {k : Nat} {d : Int} {L : Nat → Int} (h : cn_P k d L) : ∃ p q, cn_Pq k d L p q := by
  obtain ⟨p, q, h1, h2⟩ := h
  exact ⟨p, q, h1, h2⟩
section
variable {L : Nat → Int} {k : Nat} {d : Int} {p q : Nat → Int} {root : Nat → Prop} {dist : Nat → Int} {pe : Nat → Nat}
theorem cn_dec (hk : k < 64) (hd : -1 ≤ d ∧ d ≤ 1) (B : cn_B L k d p q root dist pe) (F : cn_X L k d dist) {v : Nat} (hv : v < 18) (h : dist v < cn_FAR) : ∃ i j : Int, dist v = cn_W * i + j ∧ -17 ≤ j ∧ j ≤ 17 ∧ -18 < i ∧ i < 18 := by
  obtain ⟨i, j, n, h1, h2, h3, h4, h5, h6⟩ := fw_fix_dec B F (W := cn_W) (c := cn_c) (dl := cn_d k d) (lo := -1) (hi := 1) (fun e _ => rfl) (fun e _ => cn_c_1 e) (fun e _ => cn_d_1 hk hd e) v hv h
  exact ⟨i, j, h1, by omega, by omega, by omega, by omega⟩
theorem cn_closed (hk : k < 64) (hd : -1 ≤ d ∧ d ≤ 1) (B : cn_B L k d p q root dist pe) (F : cn_X L k d dist) {e : Nat} (he : e < 324) (ho : 0 < L e) (h : dist (cn_src e) < cn_FAR) : dist (cn_dst e) < cn_FAR ∧ dist (cn_dst e) ≤ dist (cn_src e) + cn_w k d e := by
  have h1 := F e he ho h
  obtain ⟨i, j, a1, a2, a3, a4, a5⟩ := cn_dec hk hd B F (cn_net e he).1 h
  have hc := cn_c_1 e
  have hdd := cn_d_1 hk hd e
  refine ⟨?_, h1⟩
  unfold cn_w cn_W at h1
  unfold cn_W at a1
  unfold cn_FAR
  omega
theorem cn_tight (B : cn_B L k d p q root dist pe) (F : cn_X L k d dist) {v : Nat} (hv : v < 18) (h : dist v < cn_FAR) (hr : ¬ root v) : pe v < 324 ∧ 0 < L (pe v) ∧ cn_dst (pe v) = v ∧ cn_src (pe v) < 18 ∧ dist (cn_src (pe v)) < cn_FAR ∧ dist v = dist (cn_src (pe v)) + cn_w k d (pe v) := by
  rcases B.2.2.1 v hv h with h1 | ⟨_, g2, g3, g4, g5, g6, g7⟩
  · exact absurd h1.1 hr
  · refine ⟨g2, g3, g4, g5, g6, ?_⟩
    have h1 := F (pe v) g2 g3 g6
    rw [g4] at h1
    omega
/-- new prices -/
theorem cn_price (hk : k < 64) (hd : -1 ≤ d ∧ d ≤ 1) (P : cn_Pq k d L p q) (B : cn_B L k d p q root dist pe) (F : cn_X L k d dist) : ∃ p' q' : Nat → Int, cn_Pq k d L p' q' ∧ ∀ v, v < 18 → dist v < cn_FAR → cn_pi p' q' v = dist v := by
  obtain ⟨M, hM⟩ := rn_bnd 18 dist (cn_pi p q)
  refine ⟨fun v => if dist v < cn_FAR then (dist v + 50000000) / cn_W else p v + (max M 0 + 2), fun v => if dist v < cn_FAR then dist v - cn_W * ((dist v + 50000000) / cn_W) else q v, ⟨fun v hv => ?_, fun e he ho => ?_⟩, fun v hv h => ?_⟩
  · by_cases c : dist v < cn_FAR
    · simp only [if_pos c]
      obtain ⟨i, j, a1, a2, a3, a4, a5⟩ := cn_dec hk hd B F hv c
      unfold cn_W at a1 ⊢
      have : (dist v + 50000000) / 100000000 = i := by omega
      rw [this]; omega
    · simp only [if_neg c]; exact P.1 v hv
  · have hr : ∀ v, dist v < cn_FAR → cn_pi (fun v => if dist v < cn_FAR then (dist v + 50000000) / cn_W else p v + (max M 0 + 2)) (fun v => if dist v < cn_FAR then dist v - cn_W * ((dist v + 50000000) / cn_W) else q v) v = dist v := fun v h => by
      unfold cn_pi; simp only [if_pos h]; omega
    have hu : ∀ v, ¬ dist v < cn_FAR → cn_pi (fun v => if dist v < cn_FAR then (dist v + 50000000) / cn_W else p v + (max M 0 + 2)) (fun v => if dist v < cn_FAR then dist v - cn_W * ((dist v + 50000000) / cn_W) else q v) v = cn_pi p q v + cn_W * (max M 0 + 2) := fun v h => by
      unfold cn_pi; simp only [if_neg h, Int.mul_add]; omega
    obtain ⟨n1, n2, _⟩ := cn_net e he
    by_cases c : dist (cn_src e) < cn_FAR
    · obtain ⟨h1, h2⟩ := cn_closed hk hd B F he ho c
      rw [hr _ c, hr _ h1]; omega
    · rw [hu _ c]
      by_cases c' : dist (cn_dst e) < cn_FAR
      · rw [hr _ c']
        have := hM _ _ n1 n2
        have hc := cn_c_1 e
        have hdd := cn_d_1 hk hd e
        unfold cn_w cn_W
        omega
      · rw [hu _ c']
        have := P.2 e he ho
        omega
  · unfold cn_pi; simp only [if_pos h]; omega
theorem cn_chain (P : cn_Pq k d L p q) (B : cn_B L k d p q root dist pe) {v : Nat} (hv : v < 18) (h : dist v < cn_FAR) : ∃ l, fw_Ch (fun x => cn_src (pe x)) root (v :: l) ∧ ∀ x ∈ v :: l, x < 18 ∧ dist x < cn_FAR := by
  obtain ⟨l, hl⟩ := B.2.2.2 v hv h
  exact ⟨l, hl, fun x hx => ⟨(fw_B_mono P.2 B l v hv h hl x hx).1, (fw_B_mono P.2 B l v hv h hl x hx).2.1⟩⟩
end
/-- one way more -/
theorem cn_I_step {nu be th : Nat → Int} {k : Nat} (hk : k < 64) {d : Int} (hd : -1 ≤ d ∧ d ≤ 1) {L : Nat → Int} {sent : Int} (I : cn_I nu be th k d L sent) {p q : Nat → Int} (P : cn_Pq k d L p q) {root : Nat → Prop} {dist : Nat → Int} {pe : Nat → Nat} (B : cn_B L k d p q root dist pe) (F : cn_X L k d dist) (hroot : ∀ v, root v → v = 16) (h17 : dist 17 < cn_FAR)
    {l : List Nat} (hl : fw_Ch (fun x => cn_src (pe x)) root (17 :: l)) {much : Int} (hm : 0 ≤ much) (hmu : ∀ v ∈ 17 :: l, ¬ root v → much ≤ L (pe v)) {L' : Nat → Int} (hL : ∀ e, e < 324 → L' e = fw_aug cn_rev pe much (17 :: l) L e) : cn_I nu be th k d L' (sent + much) := by
  obtain ⟨i1, i2, i3, _⟩ := I
  obtain ⟨l', hl', hall⟩ := cn_chain P B (show 17 < 18 by omega) h17
  have e := fw_Ch_uniq _ _ _ hl hl'
  subst e
  have hts : ∀ w ∈ 17 :: l, ¬ root w → pe w < 324 ∧ cn_dst (pe w) = w ∧ much ≤ L (pe w) := fun w hw hr => by
    obtain ⟨v1, v2⟩ := hall w hw
    obtain ⟨t1, t2, t3, _⟩ := cn_tight B F v1 v2 hr
    exact ⟨t1, t3, hmu w hw hr⟩
  obtain ⟨a1, a2, a3, a4, _⟩ := fw_aug_ok cn_net hm l 17 L hl hts i1
  have hlast : fw_last 17 l = 16 := hroot _ (fw_last_root l _ hl)
  rw [hlast] at a3
  refine ⟨fun e he => by rw [hL e he]; exact a1 e he, fun e he => by rw [hL e he, hL _ (cn_net e he).2.2.1, a2 e he]; exact i2 e he, fun v hv => ?_, ?_⟩
  · rw [fw_D_congr hL, a3, i3 v hv]
    by_cases c1 : v = 17
    · subst c1; simp; omega
    · by_cases c2 : v = 16
      · subst c2; simp; omega
      · rw [if_neg c1, if_neg c2, if_neg (fun q => c1 q.symm), if_neg (fun q => c2 q.symm), if_neg c1, if_neg c2]; omega
  · obtain ⟨p', q', p1, p2⟩ := cn_price hk hd P B F
    refine ⟨p', q', p1.1, fun e he ho => ?_⟩
    rw [hL e he] at ho
    rcases a4 e he with h1 | ⟨x, hx, hr, rfl⟩
    · exact p1.2 e he (by show 0 < L e; omega)
    · obtain ⟨x1, x2⟩ := hall x hx
      obtain ⟨t1, t2, t3, t4, t5, t6⟩ := cn_tight B F x1 x2 hr
      have n := cn_net _ t1
      have e1 : cn_W * p' x + q' x = dist x := p2 x x1 x2
      have e2 : cn_W * p' (cn_src (pe x)) + q' (cn_src (pe x)) = dist (cn_src (pe x)) := p2 _ t4 t5
      rw [cn_w_rev hk d _ t1, n.2.2.2.2.1, n.2.2.2.2.2, t3, e1, e2]
      omega
