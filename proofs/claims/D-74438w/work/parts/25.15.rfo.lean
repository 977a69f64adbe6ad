set_option maxRecDepth 100000
/-! The whole state, plainly; what is asked of a kind -/
/-- names of parties, of kinds; the state; those ahead of it, the oldest first; the tape, how much is on it; the fault's kind, its place -/
abbrev GS_ : Type := List (List Nat) × List (List Nat) × SS_ × List SS_ × (Nat → Int32) × Nat × Int × Int
def g_np (g : GS_) : Nat := g.1.length
def g_nk (g : GS_) : Nat := g.2.1.length
def g_s (g : GS_) : SS_ := g.2.2.1
def g_past (g : GS_) : List SS_ := g.2.2.2.1
/-- a name's letters in a long -/
def nm_ : List Nat → Int → Int
  | [], v => v
  | c :: l, v => nm_ l (256 * v + c)
def nm_ok (w : List Nat) : Prop := 1 ≤ w.length ∧ w.length ≤ 8 ∧ ∀ c ∈ w, 97 ≤ c ∧ c ≤ 122
def g_ok (g : GS_) : Prop := g_np g ≤ 8 ∧ g_nk g ≤ 4 ∧ ss_ok (g_np g) (g_nk g) (g_s g) ∧ (∀ s ∈ g_past g, ss_ok (g_np g) (g_nk g) s) ∧ (g_past g).length ≤ 10 ∧ (∀ w ∈ g.1, nm_ok w) ∧ (∀ w ∈ g.2.1, nm_ok w) ∧ (g.1 ++ g.2.1).Nodup ∧ g.2.2.2.2.2.1 ≤ 900
def rf_R (g : GS_) (st : MS) : Prop := st.1 5 = n_ (g_np g) ∧ st.1 6 = n_ (g_nk g) ∧ st.1 7 = n_ (g_past g).length ∧ st.1 10 = n_ g.2.2.2.2.2.1 ∧ st.1 13 = q_ g.2.2.2.2.2.2.1 ∧ st.1 14 = q_ g.2.2.2.2.2.2.2 ∧ rf_V (g_s g) (st.2.1 0) ∧ (∀ i (h : i < (g_past g).length), rf_V ((g_past g)[i]) (fun j => st.2.1 2 (266 * i + j))) ∧
  (∀ i (h : i < g.1.length), st.2.2 3 i = Int64.ofInt (nm_ (g.1[i]) 0)) ∧ (∀ i (h : i < g.2.1.length), st.2.2 3 (8 + i) = Int64.ofInt (nm_ (g.2.1[i]) 0)) ∧ ∀ i, i < g.2.2.2.2.2.1 → st.2.1 9 i = g.2.2.2.2.1 i
/-- which fields, which arrays may change -/
def mt_ (fs ks : List Nat) (st st' : MS) : Prop := (∀ k, k ∉ fs → st'.1 k = st.1 k) ∧ st'.2.2 = st.2.2 ∧ ∀ k, k ∉ ks → st'.2.1 k = st.2.1 k
theorem mt_of {fs ks : List Nat} {st st' : MS} (h : ms_ ks st st') : mt_ fs ks st st' := ⟨fun _ _ => by rw [h.1], h.2.1, h.2.2⟩
theorem mt_rfl (fs ks : List Nat) (st : MS) : mt_ fs ks st st := ⟨fun _ _ => rfl, rfl, fun _ _ => rfl⟩
theorem mt_tr {fs ks : List Nat} {a b c : MS} (h : mt_ fs ks a b) (g : mt_ fs ks b c) : mt_ fs ks a c := ⟨fun k hk => (g.1 k hk).trans (h.1 k hk), g.2.1.trans h.2.1, fun k hk => (g.2.2 k hk).trans (h.2.2 k hk)⟩
theorem mt_sub {fs fs' ks ks' : List Nat} {a b : MS} (h : mt_ fs ks a b) (h1 : ∀ k ∈ fs, k ∈ fs') (h2 : ∀ k ∈ ks, k ∈ ks') : mt_ fs' ks' a b := ⟨fun k hk => h.1 k (fun z => hk (h1 k z)), h.2.1, fun k hk => h.2.2 k (fun z => hk (h2 k z))⟩
theorem mt_sg {fs ks : List Nat} {k : Nat} (hk : k ∈ fs) (st : MS) (v : Int32) : mt_ fs ks st (m_sg st k v) := ⟨fun j hj => by
  have hne : j ≠ k := fun e => hj (e ▸ hk)
  show va_up st.1 k v j = st.1 j
  exact if_neg hne, rfl, fun _ _ => rfl⟩
/-- what the state's picture doesn't look at -/
def sc_f : List Nat := [8, 11, 12, 15, 16, 19, 31]
def sc_a : List Nat := [17, 18, 20, 21, 22, 23, 24, 25, 26, 27, 28, 29, 30]
theorem rf_R_mt {g : GS_} {st st' : MS} (h : rf_R g st) (m : mt_ sc_f sc_a st st') : rf_R g st' := by
  obtain ⟨h1, h2, h3, h4, h5, h6, h7, h8, h9, h10, h11⟩ := h
  refine ⟨by rw [m.1 5 (by decide)]; exact h1, by rw [m.1 6 (by decide)]; exact h2, by rw [m.1 7 (by decide)]; exact h3, by rw [m.1 10 (by decide)]; exact h4, by rw [m.1 13 (by decide)]; exact h5, by rw [m.1 14 (by decide)]; exact h6, by rw [m.2.2 0 (by decide)]; exact h7, fun i hi => by rw [m.2.2 2 (by decide)]; exact h8 i hi, fun i hi => by rw [m.2.1]; exact h9 i hi, fun i hi => by rw [m.2.1]; exact h10 i hi, fun i hi => by rw [m.2.2 9 (by decide)]; exact h11 i hi⟩
theorem rf_R_ms {g : GS_} {ks : List Nat} {st st' : MS} (h : rf_R g st) (m : ms_ ks st st') (hk : ∀ k ∈ ks, k ∈ sc_a) : rf_R g st' := rf_R_mt h (mt_sub (mt_of (fs := []) m) (by simp) hk)
theorem rf_R_8 {g : GS_} {st : MS} (h : rf_R g st) : rf_R g (m_sg st 8 0) := rf_R_mt h (mt_sg (by decide) _ _)
theorem n_of {x : Int32} (h : 0 ≤ x.toInt) : x = n_ x.toInt.toNat := by
  unfold n_ q_
  rw [Int.toNat_of_nonneg h, Int32.ofInt_toInt]
/-- through: bound in mode 3 alone -/
def ss_th (s : SS_) (f : Nat → Int) : Option (Nat → Int) := if s.2.2 = 3 then some (fun p => min (fs_out f p) (fs_in f p)) else none
theorem th_any {np nk : Nat} {s : SS_} (ok : ss_ok np nk s) {f : Nat → Int} (h : fl_ok np f) {be : Nat → Int} (hb : ∀ c, c < 64 → fs_cp np c → be c ≤ ss_bd s f c + 100000000) (y : Nat → Int) : fs_O np (ss_nu np f) be (some (ss_may s f)) y ↔ fs_O np (ss_nu np f) be (ss_th s f) y := by
  by_cases c3 : s.2.2 = 3
  · have e : ss_may s f = fun p => min (fs_out f p) (fs_in f p) := by funext p; unfold ss_may; rw [if_pos c3]
    unfold ss_th
    rw [if_pos c3, e]
  · unfold ss_th
    rw [if_neg c3]
    refine fs_any h.1 (fun z hz h2 p hp => ?_) y
    have hp8 : p < 8 := by have := h.1; omega
    have e : ss_may s f p = 2000000000 := by unfold ss_may; rw [if_neg c3]
    rw [e]
    by_cases cm : s.2.2 = 2
    · have h1 : fs_out z p ≤ fw_sm 8 (fun _ => 199999999) := fw_sm_le (fun b hb8 => by
        by_cases c : fs_cp np (8 * p + b)
        · have g1 := (hz.1 _ (by omega) c).2
          have g2 := hb _ (by omega) c
          have g3 := ok.2.2.2.2.1 (8 * p + b) (by omega)
          unfold ss_bd at g2
          rw [if_neg (by omega), if_pos cm] at g2
          omega
        · rw [hz.2.1 _ (by omega) c]; omega)
      rw [fw_sm_8] at h1
      omega
    · have h1 : fs_out z p + fs_in z p ≤ fw_sm 8 (fun b => f (8 * p + b) + f (8 * b + p) + 100000000) := by
        unfold fs_out fs_in
        rw [← fw_sm_add]
        refine fw_sm_le (fun b hb8 => ?_)
        have key : ∀ a b, a < 8 → b < 8 → z (8 * a + b) ≤ f (8 * a + b) + f (8 * b + a) + 100000000 := fun a b ha hb8 => by
          have n1 := h.2.1 (8 * a + b)
          have n2 := h.2.1 (8 * b + a)
          by_cases c : fs_cp np (8 * a + b)
          · have g1 := (hz.1 _ (by omega) c).2
            have g2 := hb _ (by omega) c
            unfold ss_bd at g2
            rw [show (8 * a + b) % 8 = b by omega, show (8 * a + b) / 8 = a by omega] at g2
            by_cases c0 : s.2.2 = 0
            · rw [if_pos c0] at g2; omega
            · rw [if_neg c0, if_neg cm] at g2; omega
          · rw [hz.2.1 _ (by omega) c]; omega
        have k1 := key p b hp8 hb8
        have k2 := key b p hb8 hp8
        rcases h2 p b hp8 hb8 with q | q <;> omega
      have h3 : fw_sm 8 (fun b => f (8 * p + b) + f (8 * b + p) + 100000000) = fs_out f p + fs_in f p + 800000000 := by
        unfold fs_out fs_in
        simp only [fw_sm_8]
        omega
      have h4 := h.2.2.2 p hp8
      omega
theorem th_F {np nk : Nat} {s : SS_} (ok : ss_ok np nk s) {f : Nat → Int} (h : fl_ok np f) {be : Nat → Int} (hb : ∀ c, c < 64 → fs_cp np c → be c ≤ ss_bd s f c + 100000000) : (∀ y, ¬ fs_F np (ss_nu np f) be (some (ss_may s f)) y) ↔ (∀ y, ¬ fs_F np (ss_nu np f) be (ss_th s f) y) := by
  constructor
  · intro hn y hy
    obtain ⟨z, hz⟩ := fs_ex hy
    exact hn z ((th_any ok h hb z).mpr hz).1
  · intro hn y hy
    obtain ⟨z, hz⟩ := fs_ex hy
    exact hn z ((th_any ok h hb z).mp hz).1
theorem th_1 {np nk : Nat} {s : SS_} (ok : ss_ok np nk s) {f : Nat → Int} (h : fl_ok np f) {be : Nat → Int} (hb : ∀ c, c < 64 → fs_cp np c → be c ≤ ss_bd s f c + 100000000) {x : Nat → Int} (h1 : fs_1 np (ss_nu np f) be (some (ss_may s f)) x) : fs_1 np (ss_nu np f) be (ss_th s f) x :=
  ⟨(th_any ok h hb x).mp h1.1, fun k hk y hy hag => h1.2 k hk y ((th_any ok h hb y).mpr hy) hag⟩
/-- bounds as they are -/
theorem ss_be_b (np : Nat) (s : SS_) (f : Nat → Int) (c : Nat) (hc : fs_cp np c) : ss_be np s f c ≤ ss_bd s f c + 100000000 := by
  unfold ss_be
  rw [if_pos (show c / 8 < np ∧ c % 8 < np ∧ c / 8 ≠ c % 8 from hc)]; omega
/-! What the methods answer: relations -/
/-- the first of the least ones, of a kind's flows f -/
def Q1_ (np : Nat) (s : SS_) (f X : Nat → Int) : Prop := fs_1 np (ss_nu np f) (ss_be np s f) (ss_th s f) X
def QO_ (np : Nat) (s : SS_) (f be X : Nat → Int) : Prop := fs_O np (ss_nu np f) be (ss_th s f) X
def QN_ (np : Nat) (s : SS_) (f be : Nat → Int) : Prop := ∀ y, ¬ fs_F np (ss_nu np f) be (ss_th s f) y
/-- an answer by the first row, or none -/
def sp1_ (np : Nat) (s : SS_) (f : Nat → Int) (A : (Nat → Int) → Int32) (no : Int32) (r : Int32) : Prop := (∃ X, Q1_ np s f X ∧ r = A X) ∨ (QN_ np s f (ss_be np s f) ∧ r = no)
theorem sp1_u {np : Nat} {s : SS_} {f : Nat → Int} {A : (Nat → Int) → Int32} {no r r' : Int32} (hA : ∀ X Y : Nat → Int, (∀ c, c < 64 → X c = Y c) → A X = A Y) (h : sp1_ np s f A no r) (h' : sp1_ np s f A no r') : r = r' := by
  rcases h with ⟨X, h1, rfl⟩ | ⟨h1, rfl⟩ <;> rcases h' with ⟨Y, h2, rfl⟩ | ⟨h2, rfl⟩
  · exact hA X Y (fs_1_uniq h1 h2)
  · exact absurd h1.1.1 (h2 X)
  · exact absurd h2.1.1 (h1 Y)
  · rfl
/-- an answer by a least total, or none -/
def spT_ (np : Nat) (s : SS_) (f be : Nat → Int) (A : Int → Int32) (no : Int32) (r : Int32) : Prop := (∃ X, QO_ np s f be X ∧ r = A (fs_tot X)) ∨ (QN_ np s f be ∧ r = no)
theorem spT_u {np : Nat} {s : SS_} {f be : Nat → Int} {A : Int → Int32} {no r r' : Int32} (h : spT_ np s f be A no r) (h' : spT_ np s f be A no r') : r = r' := by
  rcases h with ⟨X, h1, rfl⟩ | ⟨h1, rfl⟩ <;> rcases h' with ⟨Y, h2, rfl⟩ | ⟨h2, rfl⟩
  · rw [fs_O_uniq h1 h2]
  · exact absurd h1.1 (h2 X)
  · exact absurd h2.1 (h1 Y)
  · rfl
/-- an answer by a couple's least (greatest), or none -/
def spK_ (hi : Bool) (np : Nat) (s : SS_) (f be : Nat → Int) (k : Nat) (r : Int32) : Prop := (∃ X, QO_ np s f be X ∧ (∀ y, QO_ np s f be y → if hi then y k ≤ X k else X k ≤ y k) ∧ r = q_ (X k)) ∨ (QN_ np s f be ∧ r = q_ (-1))
theorem spK_u {hi : Bool} {np : Nat} {s : SS_} {f be : Nat → Int} {k : Nat} {r r' : Int32} (h : spK_ hi np s f be k r) (h' : spK_ hi np s f be k r') : r = r' := by
  rcases h with ⟨X, h1, h3, rfl⟩ | ⟨h1, rfl⟩ <;> rcases h' with ⟨Y, h2, h4, rfl⟩ | ⟨h2, rfl⟩
  · have a1 := h3 Y h2
    have a2 := h4 X h1
    have : X k = Y k := by cases hi <;> simp at a1 a2 <;> omega
    rw [this]
  · exact absurd h1.1 (h2 X)
  · exact absurd h2.1 (h1 Y)
  · rfl
