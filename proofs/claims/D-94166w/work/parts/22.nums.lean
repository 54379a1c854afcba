/-! ints and longs of the machine as integers -/
theorem z_toInt {x : Int} (h : inR x) : (Int32.ofInt x).toInt = x := Int32.toInt_ofInt_of_le h.1 h.2
theorem z_toIntL {x : Int} (h : inL x) : (Int64.ofInt x).toInt = x := Int64.toInt_ofInt_of_le h.1 h.2
theorem z_of (v : Int32) : Int32.ofInt v.toInt = v := Int32.ofInt_toInt v
theorem z_ofL (v : Int64) : Int64.ofInt v.toInt = v := Int64.ofInt_toInt v
theorem z_in (v : Int32) : inR v.toInt := ⟨Int32.le_toInt v, Int32.toInt_lt v⟩
theorem z_inL (v : Int64) : inL v.toInt := ⟨Int64.le_toInt v, Int64.toInt_lt v⟩
theorem z_add (x y : Int) : Int32.ofInt x + Int32.ofInt y = Int32.ofInt (x + y) := (Int32.ofInt_add x y).symm
theorem z_sub (x y : Int) : Int32.ofInt x - Int32.ofInt y = Int32.ofInt (x - y) := (Int32.ofInt_sub x y).symm
theorem z_mul (x y : Int) : Int32.ofInt x * Int32.ofInt y = Int32.ofInt (x * y) := (Int32.ofInt_mul x y).symm
theorem z_neg (x : Int) : -Int32.ofInt x = Int32.ofInt (-x) := (Int32.ofInt_neg x).symm
theorem z_addL (x y : Int) : Int64.ofInt x + Int64.ofInt y = Int64.ofInt (x + y) := (Int64.ofInt_add x y).symm
theorem z_subL (x y : Int) : Int64.ofInt x - Int64.ofInt y = Int64.ofInt (x - y) := (Int64.ofInt_sub x y).symm
theorem z_mulL (x y : Int) : Int64.ofInt x * Int64.ofInt y = Int64.ofInt (x * y) := (Int64.ofInt_mul x y).symm
theorem z_lt {x y : Int} (hx : inR x) (hy : inR y) : Int32.ofInt x < Int32.ofInt y ↔ x < y := by rw [Int32.lt_iff_toInt_lt, z_toInt hx, z_toInt hy]
theorem z_le {x y : Int} (hx : inR x) (hy : inR y) : Int32.ofInt x ≤ Int32.ofInt y ↔ x ≤ y := by rw [Int32.le_iff_toInt_le, z_toInt hx, z_toInt hy]
theorem z_eq {x y : Int} (hx : inR x) (hy : inR y) : Int32.ofInt x = Int32.ofInt y ↔ x = y := by rw [← Int32.toInt_inj, z_toInt hx, z_toInt hy]
theorem z_ltL {x y : Int} (hx : inL x) (hy : inL y) : Int64.ofInt x < Int64.ofInt y ↔ x < y := by rw [Int64.lt_iff_toInt_lt, z_toIntL hx, z_toIntL hy]
theorem z_eqL {x y : Int} (hx : inL x) (hy : inL y) : Int64.ofInt x = Int64.ofInt y ↔ x = y := by rw [← Int64.toInt_inj, z_toIntL hx, z_toIntL hy]
theorem z_0 : (0 : Int32) = Int32.ofInt 0 := rfl
theorem z_in0 : inR 0 := by decide
theorem z_div {x y : Int} (hx : inR x) (hy : inR y) : Int32.ofInt x / Int32.ofInt y = Int32.ofInt (x.tdiv y) := by
  rw [← Int32.toInt_inj, Int32.toInt_div, z_toInt hx, z_toInt hy, Int32.toInt_ofInt]
theorem z_rem {x y : Int} (hx : inR x) (hy : inR y) : Int32.ofInt x - Int32.ofInt x / Int32.ofInt y * Int32.ofInt y = Int32.ofInt (x.tmod y) := by
  rw [z_div hx hy, z_mul, z_sub]
  congr 1
  have := Int.tmod_add_tdiv_mul x y
  omega
theorem z_divL {x y : Int} (hx : inL x) (hy : inL y) : Int64.ofInt x / Int64.ofInt y = Int64.ofInt (x.tdiv y) := by
  rw [← Int64.toInt_inj, Int64.toInt_div, z_toIntL hx, z_toIntL hy, Int64.toInt_ofInt]
theorem z_remL {x y : Int} (hx : inL x) (hy : inL y) : Int64.ofInt x - Int64.ofInt x / Int64.ofInt y * Int64.ofInt y = Int64.ofInt (x.tmod y) := by
  rw [z_divL hx hy, z_mulL, z_subL]
  congr 1
  have := Int.tmod_add_tdiv_mul x y
  omega
theorem z_i2l {x : Int} (hx : inR x) : (Int32.ofInt x).toInt64 = Int64.ofInt x := by
  rw [← Int64.toInt_inj, Int32.toInt_toInt64, z_toInt hx, z_toIntL ⟨by have := hx.1; omega, by have := hx.2; omega⟩]
theorem z_l2i (x : Int) : (Int64.ofInt x).toInt32 = Int32.ofInt x := by
  rw [← Int32.toInt_inj, Int64.toInt_toInt32, Int64.toInt_ofInt, Int32.toInt_ofInt]
  exact Int.bmod_bmod_of_dvd (by decide)
theorem z_and (x y : Int) : Int32.ofInt x &&& Int32.ofInt y = Int32.ofInt (bAnd x y) := (z_of _).symm
theorem z_or (x y : Int) : Int32.ofInt x ||| Int32.ofInt y = Int32.ofInt (bOr x y) := (z_of _).symm
theorem z_xor (x y : Int) : Int32.ofInt x ^^^ Int32.ofInt y = Int32.ofInt (bXor x y) := (z_of _).symm
theorem z_shl (x y : Int) : Int32.ofInt x <<< (Int32.ofInt y &&& 31) = Int32.ofInt (bShl x y) := (z_of _).symm
theorem z_shr (x y : Int) : Int32.ofInt x >>> (Int32.ofInt y &&& 31) = Int32.ofInt (bShr x y) := (z_of _).symm
theorem z_ushr (x y : Int) : ((Int32.ofInt x).toUInt32 >>> ((Int32.ofInt y).toUInt32 &&& Int32.toUInt32 31)).toInt32 = Int32.ofInt (bUshr x y) := (z_of _).symm
theorem z_byte (x : Int) : (Int32.ofInt x).toInt8.toInt32 = Int32.ofInt (bByte x) := (z_of _).symm
theorem z_andL (x y : Int) : Int64.ofInt x &&& Int64.ofInt y = Int64.ofInt (jAnd x y) := (z_ofL _).symm
theorem z_orL (x y : Int) : Int64.ofInt x ||| Int64.ofInt y = Int64.ofInt (jOr x y) := (z_ofL _).symm
theorem z_shlL (x y : Int) : Int64.ofInt x <<< ((Int32.ofInt y).toInt64 &&& 63) = Int64.ofInt (jShl x y) := (z_ofL _).symm
theorem z_ushrL (x y : Int) : ((Int64.ofInt x).toUInt64 >>> ((Int32.ofInt y).toInt64.toUInt64 &&& Int64.toUInt64 63)).toInt64 = Int64.ofInt (jUshr x y) := (z_ofL _).symm
/-- an index within: the machine's and the integer's -/
theorem z_idx {x : Int} {n : Nat} (h0 : 0 ≤ x) (h1 : x < n) (hn : n < 2147483648) : vp_in (Int32.ofInt x) n ∧ (((Int32.ofInt x).toNatClampNeg : Nat) : Int) = x := by
  have hr : inR x := ⟨by omega, by omega⟩
  have e : (Int32.ofInt x).toInt = x := z_toInt hr
  refine ⟨vp_in_iff.mpr ⟨by rw [e]; exact h0, by rw [e]; exact h1⟩, ?_⟩
  have h2 : (Int32.ofInt x).toNatClampNeg = (Int32.ofInt x).toInt.toNat := rfl
  rw [h2, e]
  exact Int.toNat_of_nonneg h0
