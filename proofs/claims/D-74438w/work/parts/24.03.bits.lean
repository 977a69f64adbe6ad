set_option maxRecDepth 100000
/-! Bits -/
def bt_ (x : Int32) (b : Nat) : Bool := x.toBitVec.getLsbD b
theorem n_and31' : ∀ k : Fin 32, (Int32.ofNat k.val &&& 31) = Int32.ofNat k.val := by decide
theorem n_and31 {k : Nat} (hk : k < 32) : (n_ k &&& 31 : Int32) = n_ k := by
  rw [show n_ k = Int32.ofNat k from Int32.ofInt_eq_ofNat]; exact n_and31' ⟨k, hk⟩
theorem shr_bv {k : Nat} (hk : k < 32) (x : Int32) : (x >>> n_ k).toBitVec = x.toBitVec.sshiftRight k := by
  rw [Int32.toBitVec_shiftRight, show n_ k = Int32.ofNat k from Int32.ofInt_eq_ofNat]
  have h2 : (Int32.ofNat k).toBitVec.smod 32 = BitVec.ofNat 32 k := n_smod ⟨k, hk⟩
  rw [h2, BitVec.sshiftRight_eq', BitVec.toNat_ofNat, Nat.mod_eq_of_lt (by omega)]
theorem shl_bv {k : Nat} (hk : k < 32) (x : Int32) : (x <<< n_ k).toBitVec = x.toBitVec <<< k := by
  rw [Int32.toBitVec_shiftLeft, show n_ k = Int32.ofNat k from Int32.ofInt_eq_ofNat]
  have h2 : (Int32.ofNat k).toBitVec.smod 32 = BitVec.ofNat 32 k := n_smod ⟨k, hk⟩
  rw [h2, BitVec.shiftLeft_eq', BitVec.toNat_ofNat, Nat.mod_eq_of_lt (by omega)]
theorem bt_test {b : Nat} (hb : b < 32) (x : Int32) : ((x >>> (n_ b &&& 31)) &&& 1 = (1 : Int32)) ↔ bt_ x b = true := by
  rw [n_and31 hb, ← Int32.toBitVec_inj, Int32.toBitVec_and, shr_bv hb]
  show (x.toBitVec.sshiftRight b &&& 1#32) = 1#32 ↔ _
  rw [BitVec.and_one_eq_setWidth_ofBool_getLsbD, BitVec.getLsbD_sshiftRight]
  unfold bt_
  have e : b + 0 = b := rfl
  simp only [e, hb, if_true, show ¬ 32 ≤ 0 by omega, decide_false, Bool.not_false, Bool.true_and]
  cases x.toBitVec.getLsbD b <;> decide
theorem bt_or (x y : Int32) (b : Nat) : bt_ (x ||| y) b = (bt_ x b || bt_ y b) := by
  unfold bt_; rw [Int32.toBitVec_or, BitVec.getLsbD_or]
theorem bt_shl {c b : Nat} (hc : c < 32) (hb : b < 32) : bt_ (1 <<< (n_ c &&& 31)) b = decide (b = c) := by
  unfold bt_
  rw [n_and31 hc, shl_bv hc]
  show (1#32 <<< c).getLsbD b = _
  rw [BitVec.getLsbD_shiftLeft, BitVec.getLsbD_one]
  by_cases e : b = c
  · subst e; simp [hb]
  · by_cases l : b < c
    · simp [l, e]
    · simp [l, e, hb]; omega
theorem bt_0 (b : Nat) : bt_ 0 b = false := by unfold bt_; show (0#32).getLsbD b = false; simp
