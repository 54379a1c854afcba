/-! new objects, new arrays, ends, contracts -/
set_option maxRecDepth 100000
theorem FV_born (σ : St) (c k : Nat) (hk : k < 200) : FV (nO σ c) (nX σ) c k (defaultValue (TY c k)) := by
  unfold FV KD
  by_cases h1 : c = 14 ∨ (c = 7 ∧ k < 6)
  · rw [if_pos h1]; trivial
  · rw [if_neg h1, if_neg (fun z => by omega)]
    cases hty : TY c k with
    | int => show Value.int 0 = iv (gI (nO σ c) (nX σ) k 0); rw [gI_nO, if_pos rfl]; rfl
    | long => show Value.long 0 = jv (gJ (nO σ c) (nX σ) k 0); rw [gJ_nO, if_pos rfl]; rfl
    | object C => show Value.null = va_rf (gP (nO σ c) (nX σ) k 0); rw [gP_nO, if_pos rfl]; rfl
    | array t =>
      have e : Value.null = va_rf (aR (nO σ c) (nX σ) k) := by rw [aR_nO, if_pos rfl]; rfl
      cases t <;> exact e
    | _ => trivial
theorem Rep.lt {D : DD} {sz : Nat} {σ : St} {H : Heap} (h : Rep D sz σ H) {a c : Nat} (hc : cL σ a = some c) : a < nX σ := by
  obtain ⟨r, -, V, ⟨cell, q, -⟩, -⟩ := (h.2.1 a c hc).2
  have := (Array.getElem?_eq_some_iff.mp q).1
  rw [← h.1]; exact this
theorem Rep.ltA {D : DD} {sz : Nat} {σ : St} {H : Heap} (h : Rep D sz σ H) {a k b : Nat} (hc : aR σ a k = some b) : b < nX σ := by
  obtain ⟨-, -, c, -, -, q⟩ := h.2.2.1 a k b hc
  have := (Array.getElem?_eq_some_iff.mp q).1
  rw [← h.1]; exact this
theorem FV_nO {σ : St} {c a' c' k' : Nat} {v : Value} (hne : a' ≠ nX σ) (h : FV σ a' c' k' v) : FV (nO σ c) a' c' k' v := by
  unfold FV at h ⊢
  rw [gI_nO, gJ_nO, gP_nO, aR_nO, if_neg hne, if_neg hne, if_neg hne, if_neg hne]
  exact h
theorem AV_nO {σ : St} {c a' c' k' j : Nat} (hne : a' ≠ nX σ) : AV (nO σ c) a' c' k' j = AV σ a' c' k' j := by
  unfold AV
  rw [gI_nO, gJ_nO, gP_nO, if_neg hne, if_neg hne, if_neg hne]
theorem FV_nA {σ : St} {a k a' c' k' : Nat} {v : Value} (hne : ¬ (a' = a ∧ k' = k)) (h : FV σ a' c' k' v) : FV (nA σ a k) a' c' k' v := by
  unfold FV at h ⊢
  rw [gI_nA, gJ_nA, gP_nA, aR_nA, if_neg hne, if_neg hne, if_neg hne, if_neg hne]
  exact h
theorem AV_nA {σ : St} {a k a' c' k' j : Nat} (hne : ¬ (a' = a ∧ k' = k)) : AV (nA σ a k) a' c' k' j = AV σ a' c' k' j := by
  unfold AV
  rw [gI_nA, gJ_nA, gP_nA, if_neg hne, if_neg hne, if_neg hne]
/-- what a new array of kind KD holds -/
theorem AV_new {σ : St} {a c k j : Nat} {t : FieldType} (het : ET c k = t) (hd : (KD c k = 3 ∧ defaultValue t = .int 0) ∨ (KD c k = 4 ∧ defaultValue t = .long 0) ∨ (KD c k = 5 ∧ defaultValue t = .null)) : AV (nA σ a k) a c k j = defaultValue t := by
  unfold AV
  rcases hd with ⟨h, e⟩ | ⟨h, e⟩ | ⟨h, e⟩
  · rw [h, e, gI_nA, if_pos ⟨rfl, rfl⟩]; rfl
  · rw [h, e, gJ_nA, if_pos ⟨rfl, rfl⟩]; rfl
  · rw [h, e, gP_nA, if_pos ⟨rfl, rfl⟩]; rfl
/-- a new array cell, and its reference in the field -/
theorem Rep.newA {D : DD} {sz : Nat} {σ : St} {H H' : Heap} {a c k : Nat} (hR : Rep D sz σ H) (hszH : sz ≤ H.size) (hcl : cL σ a = some c) (hz : H'.size = H.size + 1) (ho : ∀ q, q < H.size → q ≠ a → H'[q]? = H[q]?) (hobj : ObjOK D (nA σ a k) H' a c)
    (hkd : KD c k = 3 ∨ KD c k = 4 ∨ KD c k = 5) (hcell : H'[H.size]? = some (arrV (D.2.2 (ET c k)) (LN c k) (AV (nA σ a k) a c k))) : Rep D sz (nA σ a k) H' := by
  have hsz : H.size = nX σ := hR.1
  refine ⟨by rw [hz, nX_nA, hsz], fun a' c' e => ?_, fun a' k' b e => ?_, fun a' k' b a2 k2 e e' => ?_⟩
  · rw [cL_nA] at e
    refine ⟨(hR.2.1 a' c' e).1, ?_⟩
    by_cases hq : a' = a
    · subst hq
      rw [hcl] at e
      cases e
      exact hobj
    · obtain ⟨r, r1, V, r2, r3⟩ := (hR.2.1 a' c' e).2
      exact ⟨r, r1, V, r2.kept (ho a' (by rw [hsz]; exact hR.lt e) hq), fun k' hk => FV_nA (fun z => hq z.1) (r3 k' hk)⟩
  · rw [aR_nA] at e
    by_cases hq : a' = a ∧ k' = k
    · rw [if_pos hq] at e
      obtain ⟨q1, q2⟩ := hq
      subst q1; subst q2
      have eb : b = H.size := by rw [hsz]; exact (Option.some.inj e).symm
      subst eb
      refine ⟨hszH, ?_, c, hcl, hkd, hcell⟩
      rw [cL_nA]
      cases hx : cL σ (Array.size H) with
      | none => rfl
      | some c2 => have := hR.lt hx; omega
    · rw [if_neg hq] at e
      obtain ⟨e1, e2, c', e3, e4, e5⟩ := hR.2.2.1 a' k' b e
      refine ⟨e1, by rw [cL_nA]; exact e2, c', by rw [cL_nA]; exact e3, e4, ?_⟩
      rw [ho b (by rw [hsz]; exact hR.ltA e) (fun z => by subst z; rw [hcl] at e2; cases e2), show AV (nA σ a k) a' c' k' = AV σ a' c' k' from funext (fun j => AV_nA hq)]
      exact e5
  · rw [aR_nA] at e e'
    by_cases hq : a' = a ∧ k' = k
    · rw [if_pos hq] at e
      by_cases hq2 : a2 = a ∧ k2 = k
      · exact ⟨hq.1.trans hq2.1.symm, hq.2.trans hq2.2.symm⟩
      · rw [if_neg hq2] at e'
        have := hR.ltA e'
        have := Option.some.inj e
        omega
    · rw [if_neg hq] at e
      by_cases hq2 : a2 = a ∧ k2 = k
      · rw [if_pos hq2] at e'
        have := hR.ltA e
        have := Option.some.inj e'
        omega
      · rw [if_neg hq2] at e'
        exact hR.2.2.2 a' k' b a2 k2 e e'
section
variable {Γ : Ctx} {cc : ByteArray} {own : String} {R0 : Room} {σ : St} {k n pc : Nat} {lv lv' : List (Nat × Value)} {st rest : List Value} {a c kf idx : Nat} {r : vw_C}
theorem r_new {N : Nat} (X : Cx Γ cc own R0) (hc : CL[c]? = some r) (hN : r.2.2 = N) (hN2 : N ≤ 200) (h1 : Cond.classLink own idx r.1 ∈ lw_all) (h2 : Cond.instantiable r.1 N ∈ lw_all) (h3 : Cond.initialized r.1 ∈ lw_all) (hd : decode cc pc = .ok (.new idx, 3)) (hk1 : k + 1 ≤ R0.cells) (hk2 : n + N ≤ R0.slots)
    (kk : V Γ (nO σ c) (k + 1) (n + N) (pc + 3) lv (.ref (nX σ) :: rest)) : V Γ σ k n pc lv rest := by
  obtain ⟨p, l, e, R, s, m, args, below, meth, cd, Q, D, sz, nL⟩ := Γ
  obtain ⟨hx, hb, hml, hown, hts, hK, hsz, hR0, hlk⟩ := X
  intro H locs ls hR hS hls
  subst hR0
  subst hN
  have hKn := hK.1.1 c r hc
  refine W.newcK hx hb hown (hts _ h1) (hts _ h2) (hts _ h3) rfl hd hk1 hk2 hKn.2.1 hR.1 fun H' kC hkC e1 z1 o1 => ?_
  have hszH : sz ≤ nX σ := by rw [← hR.1]; exact Nat.le_trans hsz.1 hS.1
  refine kk H' locs ls ⟨by rw [z1]; rfl, fun a' c' e' => ?_, fun a' k' b e' => ?_, fun a' k' b a2 k2 e' e2 => ?_⟩ ⟨Nat.le_trans hS.1 (by rw [z1, hR.1]; omega), fun q q1 q2 => (o1 q (by have := hS.1; have := hR.1; omega)).trans (hS.2.1 q q1 q2), hS.2.2⟩ hls
  · rw [cL_nO] at e'
    by_cases hq : a' = nX σ
    · rw [if_pos hq] at e'
      cases e'
      subst hq
      exact ⟨hszH, r, hc, _, u_born (TY c) hts (CL_in c r hc) hKn hkC e1 (CL_ty c r hc), fun k' hk' => FV_born σ c k' (by omega)⟩
    · rw [if_neg hq] at e'
      obtain ⟨r', r1, V', r2, r3⟩ := (hR.2.1 a' c' e').2
      exact ⟨(hR.2.1 a' c' e').1, r', r1, V', r2.kept (o1 a' (hR.lt e')), fun k' hk' => FV_nO hq (r3 k' hk')⟩
  · rw [aR_nO] at e'
    split at e'
    · cases e'
    · rename_i hq
      obtain ⟨f1, f2, c', f3, f4, f5⟩ := hR.2.2.1 a' k' b e'
      have hlt := hR.ltA e'
      refine ⟨f1, by rw [cL_nO, if_neg (by omega)]; exact f2, c', by rw [cL_nO, if_neg hq]; exact f3, f4, ?_⟩
      rw [o1 b hlt, show AV (nO σ c) a' c' k' = AV σ a' c' k' from funext (fun j => AV_nO hq)]
      exact f5
  · rw [aR_nO] at e' e2
    split at e'
    · cases e'
    · split at e2
      · cases e2
      · exact hR.2.2.2 a' k' b a2 k2 e' e2
/-- a new array of numbers, put into a final field of an object that is being made -/
theorem r_newA {N : Nat} {z : Int} {t : FieldType} {atype : ArrayType} (X : Cx Γ cc own R0) (hini : isIni Γ) (hcl : cL σ a = some c) (hc : CL[c]? = some r) (hk : kf < r.2.2) (hdv : (KD c kf = 3 ∧ defaultValue t = .int 0) ∨ (KD c kf = 4 ∧ defaultValue t = .long 0)) (het : ET c kf = t) (hta : newarray.typeOf atype = t) (hat : t ∈ ATS) (hra : ∀ (U : State) (cA : ClassId), va_RA U cA t → U.vm.findClass ("[" ++ t.toString) = some cA)
    (hty : TY c kf = .array t) (hw : Cond.arrayClass (newarray.typeOf atype) ∈ lw_all) (hl : Cond.fieldLink own idx (r.2.1 kf).1 (r.2.1 kf).2.1 (r.2.1 kf).2.2.1 ∈ lw_all) (hdecl : (r.2.1 kf).1 = own) (hfin : (r.2.1 kf).2.2.2 = true) (hLN : LN c kf = N) (hzN : (N : Int) = z) (hN : N * componentBytes t ≤ 536870912 ∧ N < 2147483648) (hd1 : decode cc pc = .ok (.newarray atype, 2)) (hd2 : decode cc (pc + 2) = .ok (.putfield idx, 3)) (hk1 : k + 1 ≤ R0.cells) (hk2 : n + N ≤ R0.slots)
    (kk : V Γ (nA σ a kf) (k + 1) (n + N) (pc + 2 + 3) lv rest) : V Γ σ k n pc lv (iv z :: .ref a :: rest) := by
  obtain ⟨p, l, e, R, s, m, args, below, meth, cd, Q, D, sz, nL⟩ := Γ
  obtain ⟨hx, hb, hml, hown, hts, hK, hsz, hR0, hlk⟩ := X
  intro H locs ls hR hS hls
  subst hR0
  subst hta
  have hzr : inR z := ⟨by omega, by omega⟩
  have hzi : (Int32.ofInt z).toInt = z := z_toInt hzr
  have hnn : ¬ Int32.ofInt z < 0 := by rw [z_0, z_lt hzr z_in0]; omega
  have hcl0 : (Int32.ofInt z).toNatClampNeg = N := by
    have h2 : (Int32.ofInt z).toNatClampNeg = (Int32.ofInt z).toInt.toNat := rfl
    rw [h2, hzi]; omega
  refine va_newaK hx hb (hts _ hw) rfl hd1 rfl hnn hcl0 hN.1 hk1 hk2 rfl fun H1 cA e1 z1 o1 hAr hNm => ?_
  have hcA : cA = D.2.2 (newarray.typeOf atype) := Option.some.inj (hNm.symm.trans (hra _ _ (hK.arr hat).2))
  have hap := va_apart (own := own) hts (CL_in c r hc) (TY c) (CL_ty c r hc) (CL_nm c r hc) hK.1 hc
  obtain ⟨r', h1, W', ⟨cell, q1, q2, q3, q4⟩, hF⟩ := (hR.2.1 a c hcl).2
  have haz := (hR.2.1 a c hcl).1
  have halt : a < H.size := (Array.getElem?_eq_some_iff.mp q1).1
  cases hc.symm.trans h1
  obtain ⟨hSl, hfc, kC, hkC, hkind⟩ := hK.1.1 c r hc
  obtain ⟨cf, kF, fi, f, hi, hsl⟩ := hSl kf hk
  have hst := (u_facts hfc hkC (u_lays hts (CL_in c r hc) hk) hi).1
  have hlay := hts _ (CL_in c r hc _ (u_in_lay hk))
  unfold u_lay at hlay
  rw [if_pos hfin] at hlay
  have hcf : m.cls = cf := by
    obtain ⟨_, _, c', _, _, _, -, -, hf', -, -, -, hown2, -⟩ := Cond.laysFinal_spec hlay
    have e1 : c' = cf := by have := hi.symm.trans hf'; simp at this; exact this.1.symm
    rw [hdecl] at hown2
    rw [← e1]; exact Option.some.inj (hown.symm.trans hown2)
  have h6 := u_fits (v := .ref H.size) hfc hkC hkind (Or.inr hlay) hi (CL_ty c r hc kf hk) (by rw [hty]; rfl) (by rw [hty]; rfl)
  refine W.putFinK hx hb hown (hts _ hl) hi hst hcf hini (by rw [q2]; exact h6) (by rw [o1 a halt]; exact q1) q3 (by rw [hsl]; exact k2_hasslot (q4 kf hk)) rfl rfl hd2 fun H2 f1 f2 f3 => ?_
  rw [hsl] at f1 ⊢
  have hkd : KD c kf = 3 ∨ KD c kf = 4 ∨ KD c kf = 5 := by rcases hdv with q | q <;> omega
  refine kk H2 _ ls (hR.newA (Nat.le_trans hsz.1 hS.1) hcl (by rw [f2, z1]) (fun q q1 q2 => by rw [f3 q q2, o1 q q1]) ⟨r, hc, updV W' kf (.ref H.size), ⟨_, f1, q2, q3, t_set q4 hap hk _⟩, fun k' hk' => ?_⟩ hkd ?_) ?_ hls
  · by_cases hkk : k' = kf
    · subst hkk
      rw [show updV W' k' (.ref H.size) k' = .ref H.size from if_pos rfl]
      unfold FV
      have ev : Value.ref H.size = va_rf (aR (nA σ a k') a k') := by rw [aR_nA, if_pos ⟨rfl, rfl⟩, ← hR.1]; rfl
      rcases hdv with q | q
      · rw [q.1]; exact ev
      · rw [q.1]; exact ev
    · rw [show updV W' kf (.ref H.size) k' = W' k' from if_neg hkk]
      exact FV_nA (fun z => hkk z.2) (hF k' hk')
  · rw [f3 H.size (Nat.ne_of_gt halt), e1, hcA, het, hLN]
    congr 2
    funext j
    exact (AV_new het (by rcases hdv with q | q; exact Or.inl q; exact Or.inr (Or.inl q))).symm
  · refine ⟨by rw [f2, z1]; have := hS.1; omega, fun q h1 h2 => ?_, fun q hq => ?_⟩
    · rw [f3 q (fun z => h2 (by rw [z]; exact haz)), o1 q (Nat.lt_of_lt_of_le h1 hS.1)]
      exact hS.2.1 q h1 h2
    · rcases List.mem_append.mp hq with h | h
      · exact hS.2.2 q h
      · rw [List.mem_singleton.mp h]; exact haz
/-- a new array of references, put into a final field of an object that is being made -/
theorem r_newQ {N ix : Nat} {z : Int} {C : String} (X : Cx Γ cc own R0) (hini : isIni Γ) (hcl : cL σ a = some c) (hc : CL[c]? = some r) (hk : kf < r.2.2) (hdv : KD c kf = 5) (het : ET c kf = .object C) (hat : FieldType.object C ∈ ATS)
    (hty : TY c kf = .array (.object C)) (hw : Cond.arrayOver (.object C) ∈ lw_tbl) (hcw : Cond.classLink own ix C ∈ lw_all) (hl : Cond.fieldLink own idx (r.2.1 kf).1 (r.2.1 kf).2.1 (r.2.1 kf).2.2.1 ∈ lw_all) (hdecl : (r.2.1 kf).1 = own) (hfin : (r.2.1 kf).2.2.2 = true) (hLN : LN c kf = N) (hzN : (N : Int) = z) (hN : N * 4 ≤ 536870912 ∧ N < 2147483648) (hd1 : decode cc pc = .ok (.anewarray ix, 3)) (hd2 : decode cc (pc + 3) = .ok (.putfield idx, 3)) (hk1 : k + 1 ≤ R0.cells) (hk2 : n + N ≤ R0.slots)
    (kk : V Γ (nA σ a kf) (k + 1) (n + N) (pc + 3 + 3) lv rest) : V Γ σ k n pc lv (iv z :: .ref a :: rest) := by
  obtain ⟨p, l, e, R, s, m, args, below, meth, cd, Q, D, sz, nL⟩ := Γ
  obtain ⟨hx, hb, hml, hown, hts, hK, hsz, hR0, hlk⟩ := X
  intro H locs ls hR hS hls
  subst hR0
  have hzr : inR z := ⟨by omega, by omega⟩
  have hzi : (Int32.ofInt z).toInt = z := z_toInt hzr
  have hnn : ¬ Int32.ofInt z < 0 := by rw [z_0, z_lt hzr z_in0]; omega
  have hcl0 : (Int32.ofInt z).toNatClampNeg = N := by
    have h2 : (Int32.ofInt z).toNatClampNeg = (Int32.ofInt z).toInt.toNat := rfl
    rw [h2, hzi]; omega
  have hov : (Cond.arrayOver (.object C)).before args s = true := hK.2 _ hw rfl
  refine W.anew hx hb hown (hts _ hcw) hov rfl hd1 rfl hnn (by rw [hcl0]; exact hN.1) hk1 (by rw [hcl0]; exact hk2) fun cA kA comp n1 n2 n3 n4 => ?_
  rw [hcl0]
  generalize hH1 : H.push ({ cls := cA, slots := Array.replicate N .null, vm := .none } : Cell) = H1
  have z1 : H1.size = H.size + 1 := by rw [← hH1, Array.size_push]
  have e1 : H1[H.size]? = some (arrV cA N (fun _ => .null)) := by rw [← hH1, Array.getElem?_push_size, ← arrV_new]
  have o1 : ∀ q : Nat, q < H.size → H1[q]? = H[q]? := fun q hq => by rw [← hH1, Array.getElem?_push, if_neg (Nat.ne_of_lt hq)]
  obtain ⟨kA', comp', -, -, -, g4⟩ := (hK.arr hat).2
  have hcA : cA = D.2.2 (.object C) := Option.some.inj (n1.symm.trans g4)
  have hap := va_apart (own := own) hts (CL_in c r hc) (TY c) (CL_ty c r hc) (CL_nm c r hc) hK.1 hc
  obtain ⟨r', h1, W', ⟨cell, q1, q2, q3, q4⟩, hF⟩ := (hR.2.1 a c hcl).2
  have haz := (hR.2.1 a c hcl).1
  have halt : a < H.size := (Array.getElem?_eq_some_iff.mp q1).1
  cases hc.symm.trans h1
  obtain ⟨hSl, hfc, kC, hkC, hkind⟩ := hK.1.1 c r hc
  obtain ⟨cf, kF, fi, f, hi, hsl⟩ := hSl kf hk
  have hst := (u_facts hfc hkC (u_lays hts (CL_in c r hc) hk) hi).1
  have hlay := hts _ (CL_in c r hc _ (u_in_lay hk))
  unfold u_lay at hlay
  rw [if_pos hfin] at hlay
  have hcf : m.cls = cf := by
    obtain ⟨_, _, c', _, _, _, -, -, hf', -, -, -, hown2, -⟩ := Cond.laysFinal_spec hlay
    have e1 : c' = cf := by have := hi.symm.trans hf'; simp at this; exact this.1.symm
    rw [hdecl] at hown2
    rw [← e1]; exact Option.some.inj (hown.symm.trans hown2)
  have h6 := u_fits (v := .ref H.size) hfc hkC hkind (Or.inr hlay) hi (CL_ty c r hc kf hk) (by rw [hty]; rfl) (by rw [hty]; rfl)
  refine W.putFinK hx hb hown (hts _ hl) hi hst hcf hini (by rw [q2]; exact h6) (by rw [o1 a halt]; exact q1) q3 (by rw [hsl]; exact k2_hasslot (q4 kf hk)) rfl rfl hd2 fun H2 f1 f2 f3 => ?_
  rw [hsl] at f1 ⊢
  have hkd : KD c kf = 3 ∨ KD c kf = 4 ∨ KD c kf = 5 := by omega
  refine kk H2 _ ls (hR.newA (Nat.le_trans hsz.1 hS.1) hcl (by rw [f2, z1]) (fun q q1 q2 => by rw [f3 q q2, o1 q q1]) ⟨r, hc, updV W' kf (.ref H.size), ⟨_, f1, q2, q3, t_set q4 hap hk _⟩, fun k' hk' => ?_⟩ hkd ?_) ?_ hls
  · by_cases hkk : k' = kf
    · subst hkk
      rw [show updV W' k' (.ref H.size) k' = .ref H.size from if_pos rfl]
      unfold FV
      have ev : Value.ref H.size = va_rf (aR (nA σ a k') a k') := by rw [aR_nA, if_pos ⟨rfl, rfl⟩, ← hR.1]; rfl
      rw [hdv]; exact ev
    · rw [show updV W' kf (.ref H.size) k' = W' k' from if_neg hkk]
      exact FV_nA (fun z => hkk z.2) (hF k' hk')
  · rw [f3 H.size (Nat.ne_of_gt halt), e1, hcA, het, hLN]
    congr 2
    funext j
    exact (AV_new het (Or.inr (Or.inr ⟨hdv, rfl⟩))).symm
  · refine ⟨by rw [f2, z1]; have := hS.1; omega, fun q h1 h2 => ?_, fun q hq => ?_⟩
    · rw [f3 q (fun z => h2 (by rw [z]; exact haz)), o1 q (Nat.lt_of_lt_of_le h1 hS.1)]
      exact hS.2.1 q h1 h2
    · rcases List.mem_append.mp hq with h | h
      · exact hS.2.2 q h
      · rw [List.mem_singleton.mp h]; exact haz
end
