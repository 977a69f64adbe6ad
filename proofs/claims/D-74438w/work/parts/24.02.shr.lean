set_option maxRecDepth 100000
/-! Shifts to the right -/
theorem n_smod : ∀ k : Fin 32, (Int32.ofNat k.val).toBitVec.smod 32#32 = BitVec.ofNat 32 k.val := by decide
theorem q_shr {k : Nat} (hk : k < 32) (x : Int32) : (x >>> n_ k).toInt = x.toInt / 2 ^ k := by
  have h1 : (x >>> n_ k).toBitVec = x.toBitVec.sshiftRight k := by
    rw [Int32.toBitVec_shiftRight, show n_ k = Int32.ofNat k from Int32.ofInt_eq_ofNat]
    have h2 : (Int32.ofNat k).toBitVec.smod 32 = BitVec.ofNat 32 k := n_smod ⟨k, hk⟩
    rw [h2, BitVec.sshiftRight_eq', BitVec.toNat_ofNat, Nat.mod_eq_of_lt (by omega)]
  show (x >>> n_ k).toBitVec.toInt = x.toBitVec.toInt / 2 ^ k
  rw [h1, BitVec.toInt_sshiftRight, Int.shiftRight_eq_div_pow]
  simp
theorem q_shr6 {d : Int} (h1 : -2147483648 ≤ d) (h2 : d < 2147483648) : q_ d >>> (6 &&& 31) = q_ (d / 64) := by
  have e : (6 &&& 31 : Int32) = n_ 6 := by rw [← n_lit 6]; decide
  rw [e]
  apply Int32.toInt_inj.mp
  rw [q_shr (by omega), q_toInt ⟨h1, h2⟩, q_toInt ⟨by omega, by omega⟩]
  rfl
