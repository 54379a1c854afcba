/-! rows on arrays -/
set_option maxRecDepth 100000
section
variable {Γ : Ctx} {cc : ByteArray} {own : String} {R0 : Room} {σ : St} {k n pc : Nat} {lv lv' : List (Nat × Value)} {st rest : List Value} {a c kf idx : Nat} {r : vw_C}
theorem z_get {α : Type} {i z : Int} {N : Nat} (hz : (N : Int) = z) (hi : 0 ≤ i ∧ i < z) (hN : N < 2147483648) {f : Int → α} : vp_in (Int32.ofInt i) N ∧ (Int32.ofInt i).toNatClampNeg < N ∧ f ((Int32.ofInt i).toNatClampNeg : Nat) = f i := by
  obtain ⟨h1, h2⟩ := z_idx (x := i) (n := N) hi.1 (by rw [hz]; exact hi.2) hN
  exact ⟨h1, Nat.not_le.mp fun q => h1 (Or.inr q), by rw [h2]⟩
theorem r_iald {T : Type} {K : Option T} {w : T} {i z : Int} (X : Cx Γ cc own R0) (hcl : cL σ a = some c) (ha : (aR σ a kf).isSome = true) (hkd : KD c kf = 3) (het : ET c kf = .int) (hz : ((LN c kf : Nat) : Int) = z) (hN : LN c kf < 2147483648) (hd : decode cc pc = .ok (.iaload, 1)) (h : ck (0 ≤ i ∧ i < z) K = some w)
    (kk : K = some w → V Γ σ k n (pc + 1) lv (iv (gI σ a kf i) :: rest)) : V Γ σ k n pc lv (iv i :: va_rf (aR σ a kf) :: rest) := by
  obtain ⟨hi, h⟩ := ck_some h
  obtain ⟨b, hb0⟩ := Option.isSome_iff_exists.mp ha
  obtain ⟨p, l, e, R, s, m, args, below, meth, cd, Q, D, sz, nL⟩ := Γ
  obtain ⟨hx, hb, hml, hown, hts, hK, hsz, hR0, hlk⟩ := X
  intro H locs ls hR hS hls
  obtain ⟨g1, g2, g3, g4⟩ := hR.arr hcl hb0
  obtain ⟨i1, i2, i3⟩ := z_get (f := gI σ a kf) hz hi hN
  rw [hb0]
  have hv : (arrV (D.2.2 (ET c kf)) (LN c kf) (AV σ a c kf)).slots[(Int32.ofInt i).toNatClampNeg]? = some (iv (gI σ a kf i)) := by rw [arrV_read _ _ i2]; unfold AV; rw [hkd]; show some (iv _) = _; rw [i3]
  exact W.iald (v := iv (gI σ a kf i)) hx hb g4 (by rw [het]; exact (hK.arr (by decide)).1 _ _) (fun q => by cases q) (by rw [arrV_size]; exact i1) hv rfl rfl hd (kk h H locs ls hR hS hls)
/-- of a boolean array -/
theorem r_zald {T : Type} {K : Option T} {w : T} {i z : Int} (X : Cx Γ cc own R0) (hcl : cL σ a = some c) (ha : (aR σ a kf).isSome = true) (hkd : KD c kf = 3) (het : ET c kf = .boolean) (hz : ((LN c kf : Nat) : Int) = z) (hN : LN c kf < 2147483648) (hd : decode cc pc = .ok (.baload, 1)) (h : ck (0 ≤ i ∧ i < z) K = some w)
    (kk : K = some w → V Γ σ k n (pc + 1) lv (iv (gI σ a kf i) :: rest)) : V Γ σ k n pc lv (iv i :: va_rf (aR σ a kf) :: rest) := by
  obtain ⟨hi, h⟩ := ck_some h
  obtain ⟨b, hb0⟩ := Option.isSome_iff_exists.mp ha
  obtain ⟨p, l, e, R, s, m, args, below, meth, cd, Q, D, sz, nL⟩ := Γ
  obtain ⟨hx, hb, hml, hown, hts, hK, hsz, hR0, hlk⟩ := X
  intro H locs ls hR hS hls
  obtain ⟨g1, g2, g3, g4⟩ := hR.arr hcl hb0
  obtain ⟨i1, i2, i3⟩ := z_get (f := gI σ a kf) hz hi hN
  rw [hb0]
  have hv : (arrV (D.2.2 (ET c kf)) (LN c kf) (AV σ a c kf)).slots[(Int32.ofInt i).toNatClampNeg]? = some (iv (gI σ a kf i)) := by rw [arrV_read _ _ i2]; unfold AV; rw [hkd]; show some (iv _) = _; rw [i3]
  exact W.zald (v := iv (gI σ a kf i)) hx hb g4 (by rw [het]; exact (hK.arr (by decide)).1 _ _) (fun q => by cases q) (by rw [arrV_size]; exact i1) hv rfl rfl hd (kk h H locs ls hR hS hls)
theorem r_bald {T : Type} {K : Option T} {w : T} {i z : Int} (X : Cx Γ cc own R0) (hcl : cL σ a = some c) (ha : (aR σ a kf).isSome = true) (hkd : KD c kf = 3) (het : ET c kf = .byte) (hz : ((LN c kf : Nat) : Int) = z) (hN : LN c kf < 2147483648) (hd : decode cc pc = .ok (.baload, 1)) (h : ck (0 ≤ i ∧ i < z) K = some w)
    (kk : K = some w → V Γ σ k n (pc + 1) lv (iv (gI σ a kf i) :: rest)) : V Γ σ k n pc lv (iv i :: va_rf (aR σ a kf) :: rest) := by
  obtain ⟨hi, h⟩ := ck_some h
  obtain ⟨b, hb0⟩ := Option.isSome_iff_exists.mp ha
  obtain ⟨p, l, e, R, s, m, args, below, meth, cd, Q, D, sz, nL⟩ := Γ
  obtain ⟨hx, hb, hml, hown, hts, hK, hsz, hR0, hlk⟩ := X
  intro H locs ls hR hS hls
  obtain ⟨g1, g2, g3, g4⟩ := hR.arr hcl hb0
  obtain ⟨i1, i2, i3⟩ := z_get (f := gI σ a kf) hz hi hN
  rw [hb0]
  have hv : (arrV (D.2.2 (ET c kf)) (LN c kf) (AV σ a c kf)).slots[(Int32.ofInt i).toNatClampNeg]? = some (iv (gI σ a kf i)) := by rw [arrV_read _ _ i2]; unfold AV; rw [hkd]; show some (iv _) = _; rw [i3]
  exact W.bald (v := iv (gI σ a kf i)) hx hb g4 (by rw [het]; exact (hK.arr (by decide)).1 _ _) (fun q => by cases q) (by rw [arrV_size]; exact i1) hv rfl rfl hd (kk h H locs ls hR hS hls)
theorem r_lald {T : Type} {K : Option T} {w : T} {i z : Int} (X : Cx Γ cc own R0) (hcl : cL σ a = some c) (ha : (aR σ a kf).isSome = true) (hkd : KD c kf = 4) (het : ET c kf = .long) (hz : ((LN c kf : Nat) : Int) = z) (hN : LN c kf < 2147483648) (hd : decode cc pc = .ok (.laload, 1)) (h : ck (0 ≤ i ∧ i < z) K = some w)
    (kk : K = some w → V Γ σ k n (pc + 1) lv (jv (gJ σ a kf i) :: rest)) : V Γ σ k n pc lv (iv i :: va_rf (aR σ a kf) :: rest) := by
  obtain ⟨hi, h⟩ := ck_some h
  obtain ⟨b, hb0⟩ := Option.isSome_iff_exists.mp ha
  obtain ⟨p, l, e, R, s, m, args, below, meth, cd, Q, D, sz, nL⟩ := Γ
  obtain ⟨hx, hb, hml, hown, hts, hK, hsz, hR0, hlk⟩ := X
  intro H locs ls hR hS hls
  obtain ⟨g1, g2, g3, g4⟩ := hR.arr hcl hb0
  obtain ⟨i1, i2, i3⟩ := z_get (f := gJ σ a kf) hz hi hN
  rw [hb0]
  have hv : (arrV (D.2.2 (ET c kf)) (LN c kf) (AV σ a c kf)).slots[(Int32.ofInt i).toNatClampNeg]? = some (jv (gJ σ a kf i)) := by rw [arrV_read _ _ i2]; unfold AV; rw [hkd]; show some (jv _) = _; rw [i3]
  exact W.lald (v := jv (gJ σ a kf i)) hx hb g4 (by rw [het]; exact (hK.arr (by decide)).1 _ _) (fun q => by cases q) (by rw [arrV_size]; exact i1) hv rfl rfl hd (kk h H locs ls hR hS hls)
/-- a reference that isn't null, out of an array -/
theorem r_aald {T : Type} {F : Nat → Option T} {w : T} {i z : Int} {C : String} (X : Cx Γ cc own R0) (hcl : cL σ a = some c) (ha : (aR σ a kf).isSome = true) (hkd : KD c kf = 5) (het : ET c kf = .object C) (hat : FieldType.object C ∈ ATS) (hz : ((LN c kf : Nat) : Int) = z) (hN : LN c kf < 2147483648) (hd : decode cc pc = .ok (.aaload, 1)) (h : ck (0 ≤ i ∧ i < z) (nn (gP σ a kf i) F) = some w)
    (kk : ∀ b, F b = some w → V Γ σ k n (pc + 1) lv (.ref b :: rest)) : V Γ σ k n pc lv (iv i :: va_rf (aR σ a kf) :: rest) := by
  obtain ⟨hi, h⟩ := ck_some h
  obtain ⟨y, ey, h⟩ := nn_some h
  obtain ⟨b, hb0⟩ := Option.isSome_iff_exists.mp ha
  obtain ⟨p, l, e, R, s, m, args, below, meth, cd, Q, D, sz, nL⟩ := Γ
  obtain ⟨hx, hb, hml, hown, hts, hK, hsz, hR0, hlk⟩ := X
  intro H locs ls hR hS hls
  obtain ⟨g1, g2, g3, g4⟩ := hR.arr hcl hb0
  obtain ⟨i1, i2, i3⟩ := z_get (f := gP σ a kf) hz hi hN
  rw [hb0]
  have hv : (arrV (D.2.2 (ET c kf)) (LN c kf) (AV σ a c kf)).slots[(Int32.ofInt i).toNatClampNeg]? = some (.ref y) := by rw [arrV_read _ _ i2]; unfold AV; rw [hkd]; show some (va_rf _) = _; rw [i3, ey]; rfl
  exact W.aald (v := .ref y) (ty := .object C) hx hb g4 (by rw [het]; exact (hK.arr hat).1 _ _) rfl (fun q => by cases q) (by rw [arrV_size]; exact i1) hv rfl rfl hd (kk y h H locs ls hR hS hls)
/-- an element has been stored -/
theorem Rep.ast {D : DD} {sz : Nat} {σ' : St} {H H' : Heap} {b j : Nat} {v : Value} (hR : Rep D sz σ H) (hcl : cL σ a = some c) (hb0 : aR σ a kf = some b) (s1 : ∀ a, cL σ' a = cL σ a) (s2 : ∀ a k, aR σ' a k = aR σ a k) (s3 : nX σ' = nX σ) (s4 : ∀ a' c' k' w, (a' = a → c' = c) → FV σ a' c' k' w → FV σ' a' c' k' w)
    (s5 : ∀ j', AV σ' a c kf j' = updV (AV σ a c kf) j v j') (s6 : ∀ a' c' k' j', ¬ (a' = a ∧ k' = kf) → (KD c' k' = 3 ∨ KD c' k' = 4 ∨ KD c' k' = 5) → AV σ' a' c' k' j' = AV σ a' c' k' j')
    (e1 : H'[b]? = some ((arrV (D.2.2 (ET c kf)) (LN c kf) (AV σ a c kf)).setSlot j v)) (e2 : H'.size = H.size) (e3 : ∀ q, q ≠ b → H'[q]? = H[q]?) : Rep D sz σ' H' := by
  obtain ⟨g1, g2, g3, g4⟩ := hR.arr hcl hb0
  refine hR.move s1 s2 s3 e2 b e3 (fun a' c' hc' _ k' w hw => s4 a' c' k' w (fun z => by subst z; rw [hcl] at hc'; cases hc'; rfl) hw) ?_ ?_ ?_
  · intro c' hc'
    rw [g2] at hc'
    cases hc'
  · intro a' c' k' b' hc' hb' hne hkd j'
    refine s6 a' c' k' j' (fun z => hne ?_) hkd
    obtain ⟨z1, z2⟩ := z
    subst z1; subst z2
    rw [hb0] at hb'
    exact (Option.some.inj hb').symm
  · intro a' c' k' hc' hb'
    obtain ⟨z1, z2⟩ := hR.2.2.2 a' k' b a kf hb' hb0
    subst z1; subst z2
    rw [hcl] at hc'
    cases hc'
    refine ⟨g3, ?_⟩
    rw [e1, arrV_store, show AV σ' a' c k' = updV (AV σ a' c k') j v from funext s5]
theorem AV_upI {x : Int} {i : Int} {j : Nat} (hkd : KD c kf = 3) (hj : (j : Int) = i) (j' : Nat) : AV (sI σ a kf i x) a c kf j' = updV (AV σ a c kf) j (iv x) j' := by
  unfold AV updV
  rw [hkd]
  show iv (gI (sI σ a kf i x) a kf j') = _
  rw [gI_sI]
  by_cases q : j' = j
  · subst q
    rw [if_pos ⟨rfl, rfl, hj⟩, if_pos rfl]
  · rw [if_neg (fun z => q (by have := z.2.2; omega)), if_neg q]
    rfl
theorem r_iast {T : Type} {K : Option T} {w : T} {i z x : Int} (X : Cx Γ cc own R0) (hcl : cL σ a = some c) (ha : (aR σ a kf).isSome = true) (hkd : KD c kf = 3) (het : ET c kf = .int) (hz : ((LN c kf : Nat) : Int) = z) (hN : LN c kf < 2147483648) (hd : decode cc pc = .ok (.iastore, 1)) (h : ck (0 ≤ i ∧ i < z) K = some w)
    (kk : K = some w → V Γ (sI σ a kf i x) k n (pc + 1) lv rest) : V Γ σ k n pc lv (iv x :: iv i :: va_rf (aR σ a kf) :: rest) := by
  obtain ⟨hi, h⟩ := ck_some h
  obtain ⟨b, hb0⟩ := Option.isSome_iff_exists.mp ha
  obtain ⟨p, l, e, R, s, m, args, below, meth, cd, Q, D, sz, nL⟩ := Γ
  obtain ⟨hx, hb, hml, hown, hts, hK, hsz, hR0, hlk⟩ := X
  intro H locs ls hR hS hls
  obtain ⟨g1, g2, g3, g4⟩ := hR.arr hcl hb0
  obtain ⟨i1, i2⟩ := z_idx (x := i) (n := LN c kf) hi.1 (by rw [hz]; exact hi.2) hN
  rw [hb0]
  refine W.iast hx hb g4 (by rw [het]; exact (hK.arr (by decide)).1 _ _) (fun q => by cases q) (by rw [arrV_size]; exact i1) rfl rfl hd fun H' e1 e2 e3 => ?_
  exact kk h H' _ ls (hR.ast hcl hb0 (fun _ => rfl) (fun _ _ => rfl) rfl (fun a' c' k' w hcc hw => FV_sI (fun z => by have := hcc z.1; subst this; rw [z.2.1, hkd] at z; omega) hw) (AV_upI hkd i2) (fun a' c' k' j' hne _ => AV_sI (fun z => hne ⟨z.1, z.2.1⟩)) e1 e2 e3) (hS.put e2 e3 g1) hls
/-- into a boolean array: 0 or 1 -/
theorem r_zast {T : Type} {K : Option T} {w : T} {i z x : Int} (X : Cx Γ cc own R0) (hcl : cL σ a = some c) (ha : (aR σ a kf).isSome = true) (hkd : KD c kf = 3) (het : ET c kf = .boolean) (hz : ((LN c kf : Nat) : Int) = z) (hN : LN c kf < 2147483648) (hd : decode cc pc = .ok (.bastore, 1)) (h : ck ((0 ≤ i ∧ i < z) ∧ (x = 0 ∨ x = 1)) K = some w)
    (kk : K = some w → V Γ (sI σ a kf i x) k n (pc + 1) lv rest) : V Γ σ k n pc lv (iv x :: iv i :: va_rf (aR σ a kf) :: rest) := by
  obtain ⟨⟨hi, hx01⟩, h⟩ := ck_some h
  obtain ⟨b, hb0⟩ := Option.isSome_iff_exists.mp ha
  obtain ⟨p, l, e, R, s, m, args, below, meth, cd, Q, D, sz, nL⟩ := Γ
  obtain ⟨hx, hb, hml, hown, hts, hK, hsz, hR0, hlk⟩ := X
  intro H locs ls hR hS hls
  obtain ⟨g1, g2, g3, g4⟩ := hR.arr hcl hb0
  obtain ⟨i1, i2⟩ := z_idx (x := i) (n := LN c kf) hi.1 (by rw [hz]; exact hi.2) hN
  rw [hb0]
  have hnar : narrow .boolean (.int (Int32.ofInt x)) = iv x := by rcases hx01 with q | q <;> subst q <;> rfl
  refine W.zast hx hb g4 (by rw [het]; exact (hK.arr (by decide)).1 _ _) (fun q => by cases q) (by rw [arrV_size]; exact i1) rfl rfl hd fun H' e1 e2 e3 => ?_
  rw [hnar] at e1
  exact kk h H' _ ls (hR.ast hcl hb0 (fun _ => rfl) (fun _ _ => rfl) rfl (fun a' c' k' w hcc hw => FV_sI (fun z => by have := hcc z.1; subst this; rw [z.2.1, hkd] at z; omega) hw) (AV_upI hkd i2) (fun a' c' k' j' hne _ => AV_sI (fun z => hne ⟨z.1, z.2.1⟩)) e1 e2 e3) (hS.put e2 e3 g1) hls
/-- into a byte array: what i2b has made -/
theorem r_bast {T : Type} {K : Option T} {w : T} {i z y : Int} (X : Cx Γ cc own R0) (hcl : cL σ a = some c) (ha : (aR σ a kf).isSome = true) (hkd : KD c kf = 3) (het : ET c kf = .byte) (hz : ((LN c kf : Nat) : Int) = z) (hN : LN c kf < 2147483648) (hd : decode cc pc = .ok (.bastore, 1)) (h : ck (0 ≤ i ∧ i < z) K = some w)
    (kk : K = some w → V Γ (sI σ a kf i (bByte y)) k n (pc + 1) lv rest) : V Γ σ k n pc lv (iv (bByte y) :: iv i :: va_rf (aR σ a kf) :: rest) := by
  obtain ⟨hi, h⟩ := ck_some h
  obtain ⟨b, hb0⟩ := Option.isSome_iff_exists.mp ha
  obtain ⟨p, l, e, R, s, m, args, below, meth, cd, Q, D, sz, nL⟩ := Γ
  obtain ⟨hx, hb, hml, hown, hts, hK, hsz, hR0, hlk⟩ := X
  intro H locs ls hR hS hls
  obtain ⟨g1, g2, g3, g4⟩ := hR.arr hcl hb0
  obtain ⟨i1, i2⟩ := z_idx (x := i) (n := LN c kf) hi.1 (by rw [hz]; exact hi.2) hN
  rw [hb0]
  have hnar : narrow .byte (.int (Int32.ofInt (bByte y))) = iv (bByte y) := by
    show narrow .byte (.int (Int32.ofInt (bByte y))) = .int (Int32.ofInt (bByte y))
    rw [← z_byte]
    exact pk_nb _
  refine W.bast hx hb g4 (by rw [het]; exact (hK.arr (by decide)).1 _ _) (fun q => by cases q) (by rw [arrV_size]; exact i1) rfl rfl hd fun H' e1 e2 e3 => ?_
  rw [hnar] at e1
  exact kk h H' _ ls (hR.ast hcl hb0 (fun _ => rfl) (fun _ _ => rfl) rfl (fun a' c' k' w hcc hw => FV_sI (fun z => by have := hcc z.1; subst this; rw [z.2.1, hkd] at z; omega) hw) (AV_upI hkd i2) (fun a' c' k' j' hne _ => AV_sI (fun z => hne ⟨z.1, z.2.1⟩)) e1 e2 e3) (hS.put e2 e3 g1) hls
theorem r_last {T : Type} {K : Option T} {w : T} {i z x : Int} (X : Cx Γ cc own R0) (hcl : cL σ a = some c) (ha : (aR σ a kf).isSome = true) (hkd : KD c kf = 4) (het : ET c kf = .long) (hz : ((LN c kf : Nat) : Int) = z) (hN : LN c kf < 2147483648) (hd : decode cc pc = .ok (.lastore, 1)) (h : ck (0 ≤ i ∧ i < z) K = some w)
    (kk : K = some w → V Γ (sJ σ a kf i x) k n (pc + 1) lv rest) : V Γ σ k n pc lv (jv x :: iv i :: va_rf (aR σ a kf) :: rest) := by
  obtain ⟨hi, h⟩ := ck_some h
  obtain ⟨b, hb0⟩ := Option.isSome_iff_exists.mp ha
  obtain ⟨p, l, e, R, s, m, args, below, meth, cd, Q, D, sz, nL⟩ := Γ
  obtain ⟨hx, hb, hml, hown, hts, hK, hsz, hR0, hlk⟩ := X
  intro H locs ls hR hS hls
  obtain ⟨g1, g2, g3, g4⟩ := hR.arr hcl hb0
  obtain ⟨i1, i2⟩ := z_idx (x := i) (n := LN c kf) hi.1 (by rw [hz]; exact hi.2) hN
  rw [hb0]
  refine W.last hx hb g4 (by rw [het]; exact (hK.arr (by decide)).1 _ _) (fun q => by cases q) (by rw [arrV_size]; exact i1) rfl rfl hd fun H' e1 e2 e3 => ?_
  refine kk h H' _ ls (hR.ast hcl hb0 (fun _ => rfl) (fun _ _ => rfl) rfl (fun a' c' k' w hcc hw => FV_sJ (fun z => by have := hcc z.1; subst this; rw [z.2.1, hkd] at z; omega) hw) ?_ (fun a' c' k' j' hne _ => AV_sJ (fun z => hne ⟨z.1, z.2.1⟩)) e1 e2 e3) (hS.put e2 e3 g1) hls
  intro j'
  unfold AV updV
  rw [hkd]
  show jv (gJ (sJ σ a kf i x) a kf j') = _
  rw [gJ_sJ]
  by_cases q : j' = (Int32.ofInt i).toNatClampNeg
  · subst q
    rw [if_pos ⟨rfl, rfl, i2⟩, if_pos rfl]
    rfl
  · rw [if_neg (fun z => q (by have := z.2.2; omega)), if_neg q]
    rfl
/-- an object into an array of its class -/
theorem r_aast {T : Type} {K : Option T} {w : T} {i z : Int} {x cv : Nat} {rv : vw_C} (X : Cx Γ cc own R0) (hcl : cL σ a = some c) (ha : (aR σ a kf).isSome = true) (hkd : KD c kf = 5) (het : ET c kf = .object rv.1) (hat : FieldType.object rv.1 ∈ ATS) (hcv : cL σ x = some cv) (hrv : CL[cv]? = some rv) (hz : ((LN c kf : Nat) : Int) = z) (hN : LN c kf < 2147483648) (hd : decode cc pc = .ok (.aastore, 1)) (h : ck (0 ≤ i ∧ i < z) K = some w)
    (kk : K = some w → V Γ (sP σ a kf i (some x)) k n (pc + 1) lv rest) : V Γ σ k n pc lv (.ref x :: iv i :: va_rf (aR σ a kf) :: rest) := by
  obtain ⟨hi, h⟩ := ck_some h
  obtain ⟨b, hb0⟩ := Option.isSome_iff_exists.mp ha
  obtain ⟨p, l, e, R, s, m, args, below, meth, cd, Q, D, sz, nL⟩ := Γ
  obtain ⟨hx, hb, hml, hown, hts, hK, hsz, hR0, hlk⟩ := X
  intro H locs ls hR hS hls
  obtain ⟨g1, g2, g3, g4⟩ := hR.arr hcl hb0
  obtain ⟨i1, i2⟩ := z_idx (x := i) (n := LN c kf) hi.1 (by rw [hz]; exact hi.2) hN
  rw [hb0]
  obtain ⟨r', hr', V', ⟨cellV, v1, v2, v3, v4⟩, -⟩ := (hR.2.1 x cv hcv).2
  have hcls := (hK.1.1 cv rv hrv).2
  obtain ⟨kA, comp, k1, k2, k3, -⟩ := (hK.arr hat).2
  have hcomp : comp = D.1 cv := Option.some.inj (k3.symm.trans hcls.1)
  subst hcomp
  have hcls2 := hcls
  obtain ⟨-, kC, hkC, -⟩ := hcls2
  refine W.aast (k := kA) (comp := D.1 cv) (t := .object rv.1) hx hb g4 (fun q h => by cases h) (fun h => by cases h) (by show s.vm.classes[D.2.2 (ET c kf)]? = some kA; rw [het]; exact k1) k2 rfl hkC ⟨fun q => i1 (Or.inl q), by rw [arrV_size]; exact Nat.not_le.mp fun q => i1 (Or.inr q)⟩ v1 (fun q h => by rw [v3] at h; cases h) (by rw [v2]; exact hkC) (by rw [v2]; exact va_assign hcls) rfl rfl hd fun H' e1 e2 e3 => ?_
  refine kk h H' _ ls (hR.ast hcl hb0 (fun _ => rfl) (fun _ _ => rfl) rfl (fun a' c' k' w hcc hw => FV_sP (fun z => by have := hcc z.1; subst this; rw [z.2.1, hkd] at z; omega) hw) ?_ (fun a' c' k' j' hne _ => AV_sP (fun z => hne ⟨z.1, z.2.1⟩)) e1 e2 e3) (hS.put e2 e3 g1) hls
  intro j'
  unfold AV updV
  rw [hkd]
  show va_rf (gP (sP σ a kf i (some x)) a kf j') = _
  rw [gP_sP]
  by_cases q : j' = (Int32.ofInt i).toNatClampNeg
  · subst q
    rw [if_pos ⟨rfl, rfl, i2⟩, if_pos rfl]
    rfl
  · rw [if_neg (fun z => q (by have := z.2.2; omega)), if_neg q]
    rfl
/-- the length -/
theorem r_alen {z : Int} {t : FieldType} (X : Cx Γ cc own R0) (hcl : cL σ a = some c) (ha : (aR σ a kf).isSome = true) (het : ET c kf = t) (hat : t ∈ ATS) (hz : ((LN c kf : Nat) : Int) = z) (hd : decode cc pc = .ok (.arraylength, 1))
    (kk : V Γ σ k n (pc + 1) lv (iv z :: rest)) : V Γ σ k n pc lv (va_rf (aR σ a kf) :: rest) := by
  obtain ⟨b, hb0⟩ := Option.isSome_iff_exists.mp ha
  obtain ⟨p, l, e, R, s, m, args, below, meth, cd, Q, D, sz, nL⟩ := Γ
  obtain ⟨hx, hb, hml, hown, hts, hK, hsz, hR0, hlk⟩ := X
  intro H locs ls hR hS hls
  obtain ⟨g1, g2, g3, g4⟩ := hR.arr hcl hb0
  rw [hb0]
  refine W.alen (n := Int32.ofInt z) (ty := t) hx hb g4 (by rw [het]; exact (hK.arr hat).1 _ _) ?_ rfl rfl hd (kk H locs ls hR hS hls)
  rw [arrV_size, ← hz]
  rfl
end
