/-! System.arraycopy between two int arrays of one object, from 0 to 0 -/
set_option maxRecDepth 100000
theorem FV_cpI {σ : St} {a k k2 : Nat} {i j n : Int} {a' c' k' : Nat} {v : Value} (hne : ¬ (a' = a ∧ k' = k2 ∧ KD c' k' = 0)) (h : FV σ a' c' k' v) : FV (cpI σ a k i k2 j n) a' c' k' v := by
  unfold FV at h ⊢
  by_cases hk : KD c' k' = 0
  · rw [hk] at h ⊢
    rw [show gI (cpI σ a k i k2 j n) a' k' 0 = gI σ a' k' 0 from if_neg (fun q => hne ⟨q.1, q.2.1, hk⟩)]
    exact h
  · revert h
    split <;> intro h <;> first | exact h | (rename_i z; exact absurd z hk)
theorem AV_cpI {σ : St} {a k k2 : Nat} {i j n : Int} {a' c' k' : Nat} {q : Nat} (hne : ¬ (a' = a ∧ k' = k2 ∧ KD c' k' = 3)) : AV (cpI σ a k i k2 j n) a' c' k' q = AV σ a' c' k' q := by
  unfold AV
  split
  · rename_i z
    rw [show gI (cpI σ a k i k2 j n) a' k' q = gI σ a' k' q from if_neg (fun q => hne ⟨q.1, q.2.1, z⟩)]
  · rfl
  · rfl
section
variable {Γ : Ctx} {cc : ByteArray} {own : String} {R0 : Room} {σ : St} {k n pc : Nat} {lv lv' : List (Nat × Value)} {st rest : List Value}
theorem r_copy {T : Type} {K : Option T} {w : T} {x : Int} {a c kf kg N idx : Nat} (X : Cx Γ cc own R0) (hcl : cL σ a = some c) (ha : (aR σ a kf).isSome = true) (hg : (aR σ a kg).isSome = true) (hkd : KD c kf = 3) (hkg : KD c kg = 3) (het : ET c kf = .int) (heg : ET c kg = .int) (hN : LN c kf = N) (hN2 : LN c kg = N) (hlt : N + 1 < 2147483648)
    (w1 : Cond.methodLink own idx arraycopyName ∈ lw_all) (w2 : Cond.native arraycopyName ∈ lw_all) (w3 : Cond.static arraycopyName ∈ lw_all) (w4 : Cond.initialized "java/lang/System" ∈ lw_all) (hd : decode cc pc = .ok (.invokestatic idx, 3)) (h : ck (0 ≤ x ∧ x ≤ N) K = some w) (hf : 1 ≤ R0.frames) (hlo : (rest.map fun v => v.category).sum + (nativeFrameWords "java/lang/System" "arraycopy" 5 + 11) ≤ R0.locals)
    (kk : K = some w → V Γ (cpI σ a kf 0 kg 0 x) k n (pc + 3) lv rest) : V Γ σ k n pc lv (iv x :: iv 0 :: va_rf (aR σ a kg) :: iv 0 :: va_rf (aR σ a kf) :: rest) := by
  obtain ⟨hi, h⟩ := ck_some h
  obtain ⟨b0, hb0⟩ := Option.isSome_iff_exists.mp ha
  obtain ⟨b1, hb1⟩ := Option.isSome_iff_exists.mp hg
  obtain ⟨p, l, e, R, s, m, args, below, meth, cd, Q, D, sz, nL⟩ := Γ
  obtain ⟨hx, hb, hml, hown, hts, hK, hsz, hR0, hlk⟩ := X
  intro H locs ls hR hS hls
  subst hR0
  obtain ⟨g1, g2, g3, g4⟩ := hR.arr hcl hb0
  obtain ⟨k1, k2, k3, k4⟩ := hR.arr hcl hb1
  obtain ⟨i1, i2⟩ := z_idx (x := x) (n := N + 1) hi.1 (by omega) hlt
  rw [hb0, hb1]
  intro T hT Y
  have eA : ∀ q, AV σ a c kf q = .int (Int32.ofInt (gI σ a kf q)) := fun q => by unfold AV; rw [hkd]; rfl
  have eB : ∀ q, AV σ a c kg q = .int (Int32.ofInt (gI σ a kg q)) := fun q => by unfold AV; rw [hkg]; rfl
  have hc0 : H[b0]? = some (arrV (D.2.2 .int) N (fun j => .int (Int32.ofInt (gI σ a kf j)))) := by rw [g4, het, hN, show AV σ a c kf = _ from funext eA]
  have hc1 : H[b1]? = some (arrV (D.2.2 .int) N (fun j => .int (Int32.ofInt (gI σ a kg j)))) := by rw [k4, heg, hN2, show AV σ a c kg = _ from funext eB]
  obtain ⟨-, kA, hkA, cm, hkk⟩ := (hK.arr (t := .int) (by decide)).1 N (fun j => .int (Int32.ofInt (gI σ a kf j)))
  have n0 : ¬ (Int32.ofInt x) < 0 := fun q => i1 (Or.inl q)
  have nx : (Int32.ofInt x).toInt = x := z_toInt ⟨by omega, by omega⟩
  have hle : (Int32.ofInt x).toNatClampNeg ≤ N := by omega
  obtain ⟨vm', X', step⟩ := Y.arraycopy hx hown (hts _ w1) (hts _ w2) (hts _ w3) (hts _ w4) (src := b0) (dst := b1) (cs := arrV (D.2.2 .int) N (fun j => .int (Int32.ofInt (gI σ a kf j)))) (cd := arrV (D.2.2 .int) N (fun j => .int (Int32.ofInt (gI σ a kg j)))) (srcPos := Int32.ofInt 0) (destPos := Int32.ofInt 0) (n := Int32.ofInt x) (by rw [hT]; exact hc0) (by rw [hT]; exact hc1)
    (fun _ h => by cases h) (fun _ h => by cases h) (fun h => by cases h) (fun h => by cases h) hkA hkA hkk hkk (by decide) (by decide) (by decide) n0
    (by rw [nx, arrV_size]; show ¬ (0 + x > (N : Int)); omega)
    (by rw [nx, arrV_size]; show ¬ (0 + x > (N : Int)); omega)
    (fun vm₁ _ i hi => by
      have e : (arrV (D.2.2 .int) N (fun j => .int (Int32.ofInt (gI σ a kf j)))).slots.getD ((Int32.ofInt 0).toNatClampNeg + i) .null = .int (Int32.ofInt (gI σ a kf ((0 + i : Nat) : Int))) := by
        rw [Array.getD_eq_getD_getElem?, show (Int32.ofInt 0).toNatClampNeg = 0 from rfl, arrV_read _ _ (by omega)]
        rfl
      refine ⟨?_, ?_⟩
      · rw [e]; rfl
      · rw [e]; exact trivial)
    (g := F0 m pc ls (iv x :: iv 0 :: .ref b1 :: iv 0 :: .ref b0 :: rest)) rfl (by rw [hml]; exact hls.1) (rest := rest) rfl (by rw [hb]; exact hd) hf (by show 2 * 0 + _ + _ ≤ _; omega)
  have e1 : copied (arrV (D.2.2 .int) N (fun j => .int (Int32.ofInt (gI σ a kf j)))) (arrV (D.2.2 .int) N (fun j => .int (Int32.ofInt (gI σ a kg j)))) (Int32.ofInt 0) (Int32.ofInt 0) (Int32.ofInt x) = arrV (D.2.2 .int) N (fun j => .int (va_cpy (fun j => Int32.ofInt (gI σ a kf (j : Nat))) (fun j => Int32.ofInt (gI σ a kg (j : Nat))) 0 0 (Int32.ofInt x).toNatClampNeg j)) :=
    va_copied (fun z => .int z) (D.2.2 .int) (D.2.2 .int) (fun j => Int32.ofInt (gI σ a kf (j : Nat))) (fun j => Int32.ofInt (gI σ a kg (j : Nat))) (sp := 0) (dp := 0) (n := (Int32.ofInt x).toNatClampNeg) (by omega)
  rw [e1] at X' step
  have hl : b1 < H.size := (Array.getElem?_eq_some_iff.mp hc1).1
  have eV : AV (cpI σ a kf 0 kg 0 x) a c kg = (fun j => .int (va_cpy (fun j => Int32.ofInt (gI σ a kf (j : Nat))) (fun j => Int32.ofInt (gI σ a kg (j : Nat))) 0 0 (Int32.ofInt x).toNatClampNeg j)) := by
    funext j
    unfold AV
    rw [hkg]
    show Value.int (Int32.ofInt (gI (cpI σ a kf 0 kg 0 x) a kg j)) = _
    rw [gI_cpI]
    unfold va_cpy
    by_cases q : j < (Int32.ofInt x).toNatClampNeg
    · rw [if_pos ⟨rfl, rfl, by omega, by omega⟩, if_pos ⟨by omega, by omega⟩]
      rw [show (0 : Int) + ((j : Int) - 0) = ((0 + (j - 0) : Nat) : Int) by omega]
    · rw [if_neg (fun z => q (by have := z.2.2.2; omega)), if_neg (fun z => q (by have := z.2; omega))]
  generalize hC : arrV (D.2.2 .int) N (fun j => .int (va_cpy (fun j => Int32.ofInt (gI σ a kf (j : Nat))) (fun j => Int32.ofInt (gI σ a kg (j : Nat))) 0 0 (Int32.ofInt x).toNatClampNeg j)) = C at X' step
  have hheap : ((T.setVm vm').setCell b1 C).heap = H.setIfInBounds b1 C := by rw [← hT]; rfl
  have oq : ∀ q : Nat, q ≠ b1 → (H.setIfInBounds b1 C)[q]? = H[q]? := fun q hq => by simp [Array.getElem?_setIfInBounds, Ne.symm hq]
  have hat : (H.setIfInBounds b1 C)[b1]? = some C := by simp [Array.getElem?_setIfInBounds, hl]
  have hR' : Rep D sz (cpI σ a kf 0 kg 0 x) (H.setIfInBounds b1 C) := by
    refine hR.move (fun _ => rfl) (fun _ _ => rfl) rfl (by simp) b1 oq (fun a' c' hc' _ k' w hw => FV_cpI (fun z => by rw [z.1, hcl] at hc'; cases hc'; rw [z.2.1, hkg] at z; have := z.2.2; omega) hw) ?_ ?_ ?_
    · intro c' hc'
      rw [k2] at hc'
      cases hc'
    · intro a' c' k' b' hc' hb' hne hkd' j'
      refine AV_cpI (fun z => hne ?_)
      obtain ⟨z1, z2, -⟩ := z
      subst z1; subst z2
      rw [hb1] at hb'
      exact (Option.some.inj hb').symm
    · intro a' c' k' hc' hb'
      obtain ⟨z1, z2⟩ := hR.2.2.2 a' k' b1 a kg hb' hb1
      subst z1; subst z2
      rw [hcl] at hc'
      cases hc'
      refine ⟨k3, ?_⟩
      rw [hat, heg, hN2, eV, hC]
  obtain ⟨t, a1, c1⟩ := kk h _ _ ls hR' ⟨by simp; exact hS.1, fun q q1 q2 => by
      rw [oq q (fun e => q2 (by show sz ≤ q; rw [e]; exact k1))]
      exact hS.2.1 q q1 q2, fun q hq => by
      rcases List.mem_append.mp hq with h | h
      · exact hS.2.2 q h
      · obtain ⟨z, -, hz⟩ := List.mem_map.mp h
        rw [← hz]
        exact k1⟩ hls _ hheap X'
  exact ⟨t, step t a1, c1⟩
end
