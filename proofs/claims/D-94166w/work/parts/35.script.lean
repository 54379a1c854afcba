/-! the law's script: an int array below sz -/
set_option maxRecDepth 100000
def Scr (Γ : Ctx) (b L : Nat) (xs : Nat → Int) : Prop := match Γ with
  | (p, l, e, R, s, m, args, below, meth, c, Q, D, sz, nL) => va_X b L (fun j => Int32.ofInt (xs j)) s s.heap ∧ b < sz
section
variable {Γ : Ctx} {cc : ByteArray} {own : String} {R0 : Room} {σ : St} {k n pc : Nat} {lv lv' : List (Nat × Value)} {st rest : List Value}
theorem r_sld {T : Type} {K : Option T} {w : T} {b L : Nat} {xs : Nat → Int} {i : Int} (X : Cx Γ cc own R0) (hs : Scr Γ b L xs) (hL : L < 2147483648) (hd : decode cc pc = .ok (.iaload, 1)) (h : ck (0 ≤ i ∧ i < (L : Int)) K = some w)
    (kk : K = some w → V Γ σ k n (pc + 1) lv (iv (xs i.toNat) :: rest)) : V Γ σ k n pc lv (iv i :: .ref b :: rest) := by
  obtain ⟨hi, h⟩ := ck_some h
  obtain ⟨p, l, e, R, s, m, args, below, meth, c, Q, D, sz, nL⟩ := Γ
  obtain ⟨hx, hb, hml, hown, hts, hK, hsz, hR0, hlk⟩ := X
  obtain ⟨h1, h2⟩ := hs
  intro H locs ls hR hS hls
  obtain ⟨i1, i2⟩ := z_idx (x := i) (n := L) hi.1 hi.2 hL
  refine va_sld (A := fun q => sz ≤ q) hx hb h1 (Nat.lt_of_lt_of_le h2 hsz.1) (by show ¬ sz ≤ b; omega) hS i1 hd ?_
  have e0 : (Int32.ofInt i).toNatClampNeg = i.toNat := by omega
  rw [e0]
  exact kk h H locs ls hR hS hls
theorem r_slen {b L : Nat} {xs : Nat → Int} (X : Cx Γ cc own R0) (hs : Scr Γ b L xs) (hd : decode cc pc = .ok (.arraylength, 1))
    (kk : V Γ σ k n (pc + 1) lv (iv (L : Int) :: rest)) : V Γ σ k n pc lv (.ref b :: rest) := by
  obtain ⟨p, l, e, R, s, m, args, below, meth, c, Q, D, sz, nL⟩ := Γ
  obtain ⟨hx, hb, hml, hown, hts, hK, hsz, hR0, hlk⟩ := X
  obtain ⟨h1, h2⟩ := hs
  intro H locs ls hR hS hls
  refine va_slen (A := fun q => sz ≤ q) hx hb h1 (Nat.lt_of_lt_of_le h2 hsz.1) (by show ¬ sz ≤ b; omega) hS hd ?_
  have e0 : Int32.ofNat L = Int32.ofInt (L : Int) := by simp [Int32.ofInt_eq_ofNat]
  rw [e0]
  exact kk H locs ls hR hS hls
end
