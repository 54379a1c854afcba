/-! the law's long[1]: as if it were field 200 of the Model -/
set_option maxRecDepth 100000
section
variable {Γ : Ctx} {cc : ByteArray} {own : String} {R0 : Room} {σ : St} {k n pc : Nat} {lv lv' : List (Nat × Value)} {st rest : List Value}
theorem r_newP {a : Nat} (X : Cx Γ cc own R0) (hcl : cL σ a = some 5) (hd : decode cc pc = .ok (.newarray .long, 2)) (hk1 : k + 1 ≤ R0.cells) (hk2 : n + 1 ≤ R0.slots)
    (kk : V Γ (nA σ a 200) (k + 1) (n + 1) (pc + 2) lv (.ref (nX σ) :: rest)) : V Γ σ k n pc lv (iv 1 :: rest) := by
  obtain ⟨p, l, e, R, s, m, args, below, meth, cd, Q, D, sz, nL⟩ := Γ
  obtain ⟨hx, hb, hml, hown, hts, hK, hsz, hR0, hlk⟩ := X
  intro H locs ls hR hS hls
  subst hR0
  refine va_newaK (atype := .long) (N := 1) hx hb (hts _ q297) rfl hd rfl (by decide) (by decide) (by decide) hk1 hk2 rfl fun H1 cA e1 z1 o1 hAr hNm => ?_
  have hcA : cA = D.2.2 .long := Option.some.inj (hNm.symm.trans (show s.vm.findClass _ = _ from (hK.arr (t := .long) (by decide)).2))
  obtain ⟨r', h1, W', ⟨cell, q1, q2, q3, q4⟩, hF⟩ := (hR.2.1 a 5 hcl).2
  have haz := (hR.2.1 a 5 hcl).1
  have halt : a < H.size := (Array.getElem?_eq_some_iff.mp q1).1
  have hr71 : r'.2.2 ≤ 200 := by cases h1; decide
  have R1 : Rep D sz (nA σ a 200) H1 := by
    refine hR.newA (Nat.le_trans hsz.1 hS.1) hcl z1 (fun q q1 q2 => o1 q q1) ⟨r', h1, W', ⟨cell, by rw [o1 a halt]; exact q1, q2, q3, q4⟩, fun k' hk' => FV_nA (fun z => by have := z.2; omega) (hF k' hk')⟩ (Or.inr (Or.inl rfl)) ?_
    rw [e1, hcA]
    show some (arrV _ _ _) = some (arrV (D.2.2 .long) 1 _)
    congr 2
    funext j
    exact (AV_new (show ET 5 200 = .long from rfl) (Or.inr (Or.inl ⟨show KD 5 200 = 4 from rfl, show defaultValue FieldType.long = .long 0 from rfl⟩))).symm
  have := kk H1 locs ls R1 ⟨by rw [z1]; have := hS.1; omega, fun q h1 h2 => by rw [o1 q (Nat.lt_of_lt_of_le h1 hS.1)]; exact hS.2.1 q h1 h2, hS.2.2⟩ hls
  rw [← hR.1] at this
  exact this
/-- a read of it -/
theorem r_laldO {T : Type} {K : Option T} {w : T} {a c kf o : Nat} {i z : Int} (X : Cx Γ cc own R0) (hcl : cL σ a = some c) (ho : aR σ a kf = some o) (hkd : KD c kf = 4) (het : ET c kf = .long) (hz : ((LN c kf : Nat) : Int) = z) (hN : LN c kf < 2147483648) (hd : decode cc pc = .ok (.laload, 1)) (h : ck (0 ≤ i ∧ i < z) K = some w)
    (kk : K = some w → V Γ σ k n (pc + 1) lv (jv (gJ σ a kf i) :: rest)) : V Γ σ k n pc lv (iv i :: .ref o :: rest) := by
  have h1 := r_lald X hcl (by rw [ho]; rfl) hkd het hz hN hd h kk
  rw [ho] at h1
  exact h1
end
