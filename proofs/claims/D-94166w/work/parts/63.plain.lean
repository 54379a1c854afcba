/-! bits -/
set_option maxRecDepth 100000
def bt (x : Int) (i : Nat) : Bool := (Int32.ofInt x).toBitVec.getLsbD i
theorem bt_or (x y : Int) (i : Nat) : bt (bOr x y) i = (bt x i || bt y i) := by
  unfold bt bOr
  rw [Int32.ofInt_toInt, Int32.toBitVec_or, BitVec.getLsbD_or]
theorem bt_and (x y : Int) (i : Nat) : bt (bAnd x y) i = (bt x i && bt y i) := by
  unfold bt bAnd
  rw [Int32.ofInt_toInt, Int32.toBitVec_and, BitVec.getLsbD_and]
theorem bt_xor (x y : Int) (i : Nat) : bt (bXor x y) i = (bt x i ^^ bt y i) := by
  unfold bt bXor
  rw [Int32.ofInt_toInt, Int32.toBitVec_xor, BitVec.getLsbD_xor]
theorem bt_0 (i : Nat) : bt 0 i = false := by
  unfold bt
  rw [Int32.toBitVec_ofInt]
  show (BitVec.ofInt 32 0).getLsbD i = false
  simp
theorem k32 {k : Int} (h0 : 0 ≤ k) (h1 : k < 32) : k = 0 ∨ k = 1 ∨ k = 2 ∨ k = 3 ∨ k = 4 ∨ k = 5 ∨ k = 6 ∨ k = 7 ∨ k = 8 ∨ k = 9 ∨ k = 10 ∨ k = 11 ∨ k = 12 ∨ k = 13 ∨ k = 14 ∨ k = 15 ∨ k = 16 ∨ k = 17 ∨ k = 18 ∨ k = 19 ∨ k = 20 ∨ k = 21 ∨ k = 22 ∨ k = 23 ∨ k = 24 ∨ k = 25 ∨ k = 26 ∨ k = 27 ∨ k = 28 ∨ k = 29 ∨ k = 30 ∨ k = 31 := by omega
theorem bv_shr (x : Int) {k : Int} (h0 : 0 ≤ k) (h1 : k < 32) : (Int32.ofInt x >>> (Int32.ofInt k &&& 31)).toBitVec = (Int32.ofInt x).toBitVec.sshiftRight k.toNat := by
  rcases k32 h0 h1 with e | e | e | e | e | e | e | e | e | e | e | e | e | e | e | e | e | e | e | e | e | e | e | e | e | e | e | e | e | e | e | e <;> subst e <;> exact (Int32.toBitVec_shiftRight _ _).trans rfl
theorem bv_shl (x : Int) {k : Int} (h0 : 0 ≤ k) (h1 : k < 32) : (Int32.ofInt x <<< (Int32.ofInt k &&& 31)).toBitVec = (Int32.ofInt x).toBitVec <<< k.toNat := by
  rcases k32 h0 h1 with e | e | e | e | e | e | e | e | e | e | e | e | e | e | e | e | e | e | e | e | e | e | e | e | e | e | e | e | e | e | e | e <;> subst e <;> exact (Int32.toBitVec_shiftLeft _ _).trans rfl
theorem bt_shr (x : Int) {k : Int} (h0 : 0 ≤ k) (h1 : k < 32) (i : Nat) (hi : i + k.toNat < 32) : bt (bShr x k) i = bt x (i + k.toNat) := by
  unfold bt bShr
  rw [Int32.ofInt_toInt, bv_shr x h0 h1, BitVec.getLsbD_sshiftRight, if_pos (by omega)]
  rw [show k.toNat + i = i + k.toNat by omega]
  simp; omega
theorem bt_shl1 {k : Int} (h0 : 0 ≤ k) (h1 : k < 32) (i : Nat) (hi : i < 32) : bt (bShl 1 k) i = decide (i = k.toNat) := by
  unfold bt bShl
  rw [Int32.ofInt_toInt, bv_shl 1 h0 h1, BitVec.getLsbD_shiftLeft]
  have e1 : (Int32.ofInt 1).toBitVec = 1#32 := rfl
  rw [e1]
  by_cases c : i = k.toNat
  · subst c; simp [hi]
  · by_cases c2 : i < k.toNat
    · simp [c2, c]
    · rw [decide_eq_false c]
      have : ¬ i - k.toNat = 0 := by omega
      simp [BitVec.getLsbD_one, this]
theorem and1 (x : Int) : bAnd x 1 = if bt x 0 then 1 else 0 := by
  unfold bAnd bt
  have e : (Int32.ofInt x &&& Int32.ofInt 1) = if (Int32.ofInt x).toBitVec.getLsbD 0 then 1 else 0 := by
    apply Int32.toBitVec_inj.mp
    rw [Int32.toBitVec_and]
    have e1 : (Int32.ofInt 1).toBitVec = 1#32 := rfl
    rw [e1, BitVec.and_one_eq_setWidth_ofBool_getLsbD]
    cases (Int32.ofInt x).toBitVec.getLsbD 0 <;> rfl
  rw [e]
  split <;> rfl
theorem bt_ext {x y : Int} (hx : inR x) (hy : inR y) (h : ∀ i, i < 32 → bt x i = bt y i) : x = y := by
  have e : Int32.ofInt x = Int32.ofInt y := Int32.toBitVec_inj.mp (BitVec.eq_of_getLsbD_eq h)
  have e1 := Int32.toInt_ofInt_of_le (n := x) (by omega) (by omega)
  have e2 := Int32.toInt_ofInt_of_le (n := y) (by omega) (by omega)
  rw [← e1, ← e2, e]
theorem shr_v {x k : Int} (hx : inR x) (h0 : 0 ≤ k) (h1 : k < 32) : bShr x k = x >>> k.toNat := by
  unfold bShr
  show (Int32.ofInt x >>> (Int32.ofInt k &&& 31)).toBitVec.toInt = _
  rw [bv_shr x h0 h1, BitVec.toInt_sshiftRight]
  congr 1
  exact Int32.toInt_ofInt_of_le (n := x) (by omega) (by omega)
theorem shl_1 {k : Int} (h0 : 0 ≤ k) (h1 : k < 31) : bShl 1 k = 2 ^ k.toNat := by
  rcases k32 h0 (by omega : k < 32) with e | e | e | e | e | e | e | e | e | e | e | e | e | e | e | e | e | e | e | e | e | e | e | e | e | e | e | e | e | e | e | e <;> subst e <;> first | rfl | omega
theorem shr_and_bit {x k : Int} (h0 : 0 ≤ k) (h1 : k < 32) : bAnd (bShr x k) 1 = if bt x k.toNat then 1 else 0 := by
  rw [and1, bt_shr x h0 h1 0 (by omega), Nat.zero_add]
