set_option maxRecDepth 100000
/-! The Ways: what goes between two -/
theorem uw_of (n : Nat) {d : UD} {o : Nat → Nat} {u : UM} {a : Nat} {A : Nat → Nat} {m : Nat} {f0 f1 : Nat → Int32} {f2 f3 f4 : Nat → Int64} {f5 f6 : Nat → Int32} (Y : yE_ d o u a A m f0 f1 f2 f3 f4 f5 f6) {E : Nat → Nat} {L w : Nat → Int} (hW : eW_ m E) (hE : eG_ m E L w f0 f1 f2 f3) {np : Nat} (h8 : np ≤ 8) (hp : pl_ np np 0 m E f6) {x y : Nat} (hx : x < np) (hy : y < np) (hne : x ≠ y) : uf_X2_of n d u a (n_ x) (n_ y) = some (q_ (cn_x L (8 * x + y))) := by
  obtain ⟨j, j1, j2, j3, j4⟩ := hp x y hx hy hne (Or.inl hx)
  have m144 := hW.1
  have g := (hE (j + 1) j1).2.2.1
  have e1 : cn_rev (18 * (8 + x) + y) = 18 * y + (8 + x) := cn_rev_at (by omega) (by omega)
  have e2 : cn_x L (8 * x + y) = L (18 * y + (8 + x)) := by
    unfold cn_x cn_kr
    rw [show (8 * x + y) / 8 = x by omega, show (8 * x + y) % 8 = y by omega, if_neg hne]
  unfold uf_X2_of
  rw [yE_f2 Y, m_bs, yE_f6 Y, m_bs, show 8 * n_ x + n_ y = n_ (8 * x + y) from by rw [n_lit 8, n_mul, n_add], yE_l6 Y (show 8 * x + y < 64 by omega), m_bs, j2, show n_ j + 1 = n_ (j + 1) from by rw [n_lit 1, n_add], yE_l2 Y (show j + 1 < 144 by omega), m_bs, g, j4, e1, q_lz, e2]
