/-! rows that touch the heap -/
set_option maxRecDepth 100000
theorem KB.arr {D : DD} {s : State} (hK : KB D s) {t : FieldType} (ht : t ∈ ATS) : ArrOfT s (D.2.2 t) t ∧ va_RA s (D.2.2 t) t := by
  obtain ⟨i, hi⟩ := List.getElem?_of_mem (List.mem_map_of_mem (f := fun t => (D.2.2 t, t)) ht)
  exact hK.1.2 i (D.2.2 t, t) hi
theorem Rep.arr {D : DD} {sz : Nat} {σ : St} {H : Heap} {a c k b : Nat} (h : Rep D sz σ H) (hc : cL σ a = some c) (hb : aR σ a k = some b) : sz ≤ b ∧ cL σ b = none ∧ ArrOK D σ H a c k b := by
  obtain ⟨h1, h2, c', h3, h4⟩ := h.2.2.1 a k b hb
  rw [hc] at h3
  cases h3
  exact ⟨h1, h2, h4⟩
/-- one cell has changed, and what the state says of it -/
theorem Rep.move {D : DD} {sz : Nat} {σ σ' : St} {H H' : Heap} (h : Rep D sz σ H) (hc : ∀ a, cL σ' a = cL σ a) (ha : ∀ a k, aR σ' a k = aR σ a k) (hn : nX σ' = nX σ) (hz : H'.size = H.size) (q0 : Nat) (ho : ∀ q, q ≠ q0 → H'[q]? = H[q]?)
    (h1 : ∀ a c, cL σ a = some c → a ≠ q0 → ∀ k v, FV σ a c k v → FV σ' a c k v) (h2 : ∀ c, cL σ q0 = some c → ObjOK D σ' H' q0 c)
    (h3 : ∀ a c k b, cL σ a = some c → aR σ a k = some b → b ≠ q0 → (KD c k = 3 ∨ KD c k = 4 ∨ KD c k = 5) → ∀ j, AV σ' a c k j = AV σ a c k j) (h4 : ∀ a c k, cL σ a = some c → aR σ a k = some q0 → ArrOK D σ' H' a c k q0) : Rep D sz σ' H' := by
  obtain ⟨g1, g2, g3, g4⟩ := h
  refine ⟨by rw [hz, hn]; exact g1, fun a c e => ?_, fun a k b e => ?_, fun a k b a' k' e e' => ?_⟩
  · rw [hc] at e
    refine ⟨(g2 a c e).1, ?_⟩
    by_cases hq : a = q0
    · subst hq
      exact h2 c e
    · obtain ⟨r, r1, V, r2, r3⟩ := (g2 a c e).2
      exact ⟨r, r1, V, r2.kept (ho a hq), fun k hk => h1 a c e hq k _ (r3 k hk)⟩
  · rw [ha] at e
    obtain ⟨e1, e2, c, e3, e4⟩ := g3 a k b e
    refine ⟨e1, by rw [hc]; exact e2, c, by rw [hc]; exact e3, ?_⟩
    by_cases hq : b = q0
    · subst hq
      exact h4 a c k e3 e
    · refine ⟨e4.1, ?_⟩
      rw [ho b hq, show AV σ' a c k = AV σ a c k from funext (h3 a c k b e3 e hq e4.1)]
      exact e4.2
  · rw [ha] at e e'
    exact g4 a k b a' k' e e'
theorem FV_sI {σ : St} {a k : Nat} {i x : Int} {a' c' k' : Nat} {v : Value} (hne : ¬ (a' = a ∧ k' = k ∧ KD c' k' = 0)) (h : FV σ a' c' k' v) : FV (sI σ a k i x) a' c' k' v := by
  unfold FV at h ⊢
  by_cases hk : KD c' k' = 0
  · rw [hk] at h ⊢
    rw [show gI (sI σ a k i x) a' k' 0 = gI σ a' k' 0 from if_neg (fun q => hne ⟨q.1, q.2.1, hk⟩)]
    exact h
  · revert h
    split <;> intro h <;> first | exact h | (rename_i z; exact absurd z hk)
theorem FV_sJ {σ : St} {a k : Nat} {i x : Int} {a' c' k' : Nat} {v : Value} (hne : ¬ (a' = a ∧ k' = k ∧ KD c' k' = 1)) (h : FV σ a' c' k' v) : FV (sJ σ a k i x) a' c' k' v := by
  unfold FV at h ⊢
  by_cases hk : KD c' k' = 1
  · rw [hk] at h ⊢
    rw [show gJ (sJ σ a k i x) a' k' 0 = gJ σ a' k' 0 from if_neg (fun q => hne ⟨q.1, q.2.1, hk⟩)]
    exact h
  · revert h
    split <;> intro h <;> first | exact h | (rename_i z; exact absurd z hk)
theorem FV_sP {σ : St} {a k : Nat} {i : Int} {x : Option Nat} {a' c' k' : Nat} {v : Value} (hne : ¬ (a' = a ∧ k' = k ∧ KD c' k' = 2)) (h : FV σ a' c' k' v) : FV (sP σ a k i x) a' c' k' v := by
  unfold FV at h ⊢
  by_cases hk : KD c' k' = 2
  · rw [hk] at h ⊢
    rw [show gP (sP σ a k i x) a' k' 0 = gP σ a' k' 0 from if_neg (fun q => hne ⟨q.1, q.2.1, hk⟩)]
    exact h
  · revert h
    split <;> intro h <;> first | exact h | (rename_i z; exact absurd z hk)
theorem AV_sI {σ : St} {a k : Nat} {i x : Int} {a' c' k' j : Nat} (hne : ¬ (a' = a ∧ k' = k ∧ KD c' k' = 3)) : AV (sI σ a k i x) a' c' k' j = AV σ a' c' k' j := by
  unfold AV
  split
  · rename_i z
    rw [show gI (sI σ a k i x) a' k' j = gI σ a' k' j from if_neg (fun q => hne ⟨q.1, q.2.1, z⟩)]
  · rfl
  · rfl
theorem AV_sJ {σ : St} {a k : Nat} {i x : Int} {a' c' k' j : Nat} (hne : ¬ (a' = a ∧ k' = k ∧ KD c' k' = 4)) : AV (sJ σ a k i x) a' c' k' j = AV σ a' c' k' j := by
  unfold AV
  split
  · rfl
  · rename_i z
    rw [show gJ (sJ σ a k i x) a' k' j = gJ σ a' k' j from if_neg (fun q => hne ⟨q.1, q.2.1, z⟩)]
  · rfl
theorem AV_sP {σ : St} {a k : Nat} {i : Int} {x : Option Nat} {a' c' k' j : Nat} (hne : ¬ (a' = a ∧ k' = k ∧ KD c' k' ≠ 3 ∧ KD c' k' ≠ 4)) : AV (sP σ a k i x) a' c' k' j = AV σ a' c' k' j := by
  unfold AV
  split
  · rfl
  · rfl
  · rename_i z1 z2
    rw [show gP (sP σ a k i x) a' k' j = gP σ a' k' j from if_neg (fun q => hne ⟨q.1, q.2.1, z1, z2⟩)]
/-- a link to a field: its own class's, or a nest mate's -/
def Lk (own : String) (idx : Nat) (ref nm ds : String) : Prop := Cond.fieldLink own idx ref nm ds ∈ lw_all ∨ ∃ host, Cond.fieldLinkNest own idx ref nm ds host ∈ lw_tbl
section
variable {Γ : Ctx} {cc : ByteArray} {own : String} {R0 : Room} {σ : St} {k n pc : Nat} {lv lv' : List (Nat × Value)} {st rest : List Value} {a c kf idx : Nat} {r : vw_C}
/-- getfield: any field that is told -/
theorem r_get (X : Cx Γ cc own R0) (hcl : cL σ a = some c) (hc : CL[c]? = some r) (hk : kf < r.2.2) (hl : Lk own idx (r.2.1 kf).1 (r.2.1 kf).2.1 (r.2.1 kf).2.2.1) (hd : decode cc pc = .ok (.getfield idx, 3)) {v : Value} (hv : ∀ w, FV σ a c kf w → w = v)
    (kk : V Γ σ k n (pc + 3) lv (v :: rest)) : V Γ σ k n pc lv (.ref a :: rest) := by
  obtain ⟨p, l, e, R, s, m, args, below, meth, cd, Q, D, sz, nL⟩ := Γ
  obtain ⟨hx, hb, hml, hown, hts, hK, hsz, hR0, hlk⟩ := X
  intro H locs ls hR hS hls
  obtain ⟨r', h1, W', ⟨cell, q1, q2, q3, q4⟩, hF⟩ := (hR.2.1 a c hcl).2
  cases hc.symm.trans h1
  obtain ⟨hSl, hfc, kC, hkC, hkind⟩ := hK.1.1 c r hc
  obtain ⟨cf, kF, fi, f, hi, hsl⟩ := hSl kf hk
  have hst := (u_facts hfc hkC (u_lays hts (CL_in c r hc) hk) hi).1
  have hval : cell.slots[f.slot]? = some v := by rw [hsl, q4 kf hk, hv _ (hF kf hk)]
  rcases hl with hl | ⟨host, hl⟩
  · exact W.getf hx hb hown (hts _ hl) hi hst q1 (by rw [q3]; exact fun h => by cases h) hval rfl rfl hd (kk H locs ls hR hS hls)
  · exact va_Wgetf hx hb hown (va_Nw.use rfl (hK.2 _ hl rfl)) hi hst q1 (by rw [q3]; exact fun h => by cases h) hval rfl rfl hd (kk H locs ls hR hS hls)
theorem r_getI (X : Cx Γ cc own R0) (hcl : cL σ a = some c) (hc : CL[c]? = some r) (hk : kf < r.2.2) (hkd : KD c kf = 0) (hl : Lk own idx (r.2.1 kf).1 (r.2.1 kf).2.1 (r.2.1 kf).2.2.1) (hd : decode cc pc = .ok (.getfield idx, 3))
    (kk : V Γ σ k n (pc + 3) lv (iv (gI σ a kf 0) :: rest)) : V Γ σ k n pc lv (.ref a :: rest) :=
  r_get X hcl hc hk hl hd (fun w h => by unfold FV at h; rw [hkd] at h; exact h) kk
theorem r_getJ (X : Cx Γ cc own R0) (hcl : cL σ a = some c) (hc : CL[c]? = some r) (hk : kf < r.2.2) (hkd : KD c kf = 1) (hl : Lk own idx (r.2.1 kf).1 (r.2.1 kf).2.1 (r.2.1 kf).2.2.1) (hd : decode cc pc = .ok (.getfield idx, 3))
    (kk : V Γ σ k n (pc + 3) lv (jv (gJ σ a kf 0) :: rest)) : V Γ σ k n pc lv (.ref a :: rest) :=
  r_get X hcl hc hk hl hd (fun w h => by unfold FV at h; rw [hkd] at h; exact h) kk
/-- a reference that isn't null -/
theorem r_getP {T : Type} {F : Nat → Option T} {z : T} (X : Cx Γ cc own R0) (hcl : cL σ a = some c) (hc : CL[c]? = some r) (hk : kf < r.2.2) (hkd : KD c kf = 2) (hl : Lk own idx (r.2.1 kf).1 (r.2.1 kf).2.1 (r.2.1 kf).2.2.1) (hd : decode cc pc = .ok (.getfield idx, 3)) (h : nn (gP σ a kf 0) F = some z)
    (kk : ∀ b, F b = some z → V Γ σ k n (pc + 3) lv (.ref b :: rest)) : V Γ σ k n pc lv (.ref a :: rest) := by
  obtain ⟨b, e, h⟩ := nn_some h
  exact r_get X hcl hc hk hl hd (fun w q => by unfold FV at q; rw [hkd, e] at q; exact q) (kk b h)
/-- an array's reference -/
theorem r_getA (X : Cx Γ cc own R0) (hcl : cL σ a = some c) (hc : CL[c]? = some r) (hk : kf < r.2.2) (hkd : KD c kf = 3 ∨ KD c kf = 4 ∨ KD c kf = 5) (hl : Lk own idx (r.2.1 kf).1 (r.2.1 kf).2.1 (r.2.1 kf).2.2.1) (hd : decode cc pc = .ok (.getfield idx, 3))
    (kk : V Γ σ k n (pc + 3) lv (va_rf (aR σ a kf) :: rest)) : V Γ σ k n pc lv (.ref a :: rest) :=
  r_get X hcl hc hk hl hd (fun w h => by unfold FV at h; rcases hkd with q | q | q <;> rw [q] at h <;> exact h) kk
/-- putfield of a field that isn't final -/
theorem r_put (X : Cx Γ cc own R0) (hcl : cL σ a = some c) (hc : CL[c]? = some r) (hk : kf < r.2.2) (hl : Lk own idx (r.2.1 kf).1 (r.2.1 kf).2.1 (r.2.1 kf).2.2.1) (hd : decode cc pc = .ok (.putfield idx, 3)) (hfin : (r.2.1 kf).2.2.2 = false) {v : Value} (hn : narrow (TY c kf) v = v) (hft : fits (TY c kf) v = true)
    {σ' : St} (s1 : ∀ a, cL σ' a = cL σ a) (s2 : ∀ a k, aR σ' a k = aR σ a k) (s3 : nX σ' = nX σ) (s4 : ∀ a' c' k' w, ¬ (a' = a ∧ k' = kf) → FV σ a' c' k' w → FV σ' a' c' k' w) (s5 : FV σ' a c kf v) (s6 : ∀ a' c' k' j, (a' = a → c' = c) → (KD c' k' = 3 ∨ KD c' k' = 4 ∨ KD c' k' = 5) → AV σ' a' c' k' j = AV σ a' c' k' j)
    (kk : V Γ σ' k n (pc + 3) lv rest) : V Γ σ k n pc lv (v :: .ref a :: rest) := by
  obtain ⟨p, l, e, R, s, m, args, below, meth, cd, Q, D, sz, nL⟩ := Γ
  obtain ⟨hx, hb, hml, hown, hts, hK, hsz, hR0, hlk⟩ := X
  intro H locs ls hR hS hls
  have hap := va_apart (own := own) hts (CL_in c r hc) (TY c) (CL_ty c r hc) (CL_nm c r hc) hK.1 hc
  obtain ⟨r', h1, W', ⟨cell, q1, q2, q3, q4⟩, hF⟩ := (hR.2.1 a c hcl).2
  have haz := (hR.2.1 a c hcl).1
  cases hc.symm.trans h1
  obtain ⟨hSl, hfc, kC, hkC, hkind⟩ := hK.1.1 c r hc
  obtain ⟨cf, kF, fi, f, hi, hsl⟩ := hSl kf hk
  have hst := (u_facts hfc hkC (u_lays hts (CL_in c r hc) hk) hi).1
  have hlay := hts _ (CL_in c r hc _ (u_in_lay hk))
  unfold u_lay at hlay
  rw [if_neg (by rw [hfin]; decide)] at hlay
  have h6 := u_store hfc hkC hkind hlay hi (CL_ty c r hc kf hk) hn hft
  have fin : ∀ H' : Heap, H'[a]? = some (cell.setSlot f.slot v) → H'.size = H.size → (∀ q, q ≠ a → H'[q]? = H[q]?) → W p l e R s m args below meth cd H' (locs ++ [⟨a, f.slot⟩]) k n Q (F0 m (pc + 3) ls rest) := by
    intro H' e1 e2 e3
    rw [hsl] at e1 ⊢
    refine kk H' _ ls (hR.move s1 s2 s3 e2 a e3 (fun a' c' _ hne k' w hw => s4 a' c' k' w (fun z => hne z.1) hw) ?_ ?_ ?_) (hS.put e2 e3 haz) hls
    · intro c' hc'
      rw [hcl] at hc'
      cases hc'
      refine ⟨r, hc, updV W' kf v, ⟨_, e1, q2, q3, t_set q4 hap hk v⟩, fun k' hk' => ?_⟩
      by_cases hkk : k' = kf
      · subst hkk
        rw [show updV W' k' v k' = v from if_pos rfl]
        exact s5
      · rw [show updV W' kf v k' = W' k' from if_neg hkk]
        exact s4 a c k' _ (fun z => hkk z.2) (hF k' hk')
    · intro a' c' k' b hc' hb' hne hkd j
      exact s6 a' c' k' j (fun z => by subst z; rw [hcl] at hc'; cases hc'; rfl) hkd
    · intro a' c' k' hc' hb'
      obtain ⟨-, z, -⟩ := hR.2.2.1 a' k' a hb'
      rw [hcl] at z
      cases z
  rcases hl with hl | ⟨host, hl⟩
  · exact W.putK hx hb (f := f) ⟨hown, hts _ hl, ⟨_, _, _, hi⟩, hst⟩ (by rw [q2]; exact h6) q1 q3 (by rw [hsl]; exact k2_hasslot (q4 kf hk)) rfl rfl hd fin
  · exact va_WputK hx hb (f := f) hown (va_Nw.use rfl (hK.2 _ hl rfl)) hi hst (by rw [q2]; exact h6) q1 q3 (by rw [hsl]; exact k2_hasslot (q4 kf hk)) rfl rfl hd fin
/-- a final field, in its constructor -/
def isIni (Γ : Ctx) : Prop := match Γ with
  | (p, l, e, R, s, m, args, below, meth, c, Q, D, sz, nL) => meth.name = "<init>"
theorem r_putF (X : Cx Γ cc own R0) (hini : isIni Γ) (hcl : cL σ a = some c) (hc : CL[c]? = some r) (hk : kf < r.2.2) (hl : Cond.fieldLink own idx (r.2.1 kf).1 (r.2.1 kf).2.1 (r.2.1 kf).2.2.1 ∈ lw_all) (hdecl : (r.2.1 kf).1 = own) (hd : decode cc pc = .ok (.putfield idx, 3)) (hfin : (r.2.1 kf).2.2.2 = true) {v : Value} (hn : narrow (TY c kf) v = v) (hft : fits (TY c kf) v = true)
    {σ' : St} (s1 : ∀ a, cL σ' a = cL σ a) (s2 : ∀ a k, aR σ' a k = aR σ a k) (s3 : nX σ' = nX σ) (s4 : ∀ a' c' k' w, ¬ (a' = a ∧ k' = kf) → FV σ a' c' k' w → FV σ' a' c' k' w) (s5 : FV σ' a c kf v) (s6 : ∀ a' c' k' j, (a' = a → c' = c) → (KD c' k' = 3 ∨ KD c' k' = 4 ∨ KD c' k' = 5) → AV σ' a' c' k' j = AV σ a' c' k' j)
    (kk : V Γ σ' k n (pc + 3) lv rest) : V Γ σ k n pc lv (v :: .ref a :: rest) := by
  obtain ⟨p, l, e, R, s, m, args, below, meth, cd, Q, D, sz, nL⟩ := Γ
  obtain ⟨hx, hb, hml, hown, hts, hK, hsz, hR0, hlk⟩ := X
  intro H locs ls hR hS hls
  have hap := va_apart (own := own) hts (CL_in c r hc) (TY c) (CL_ty c r hc) (CL_nm c r hc) hK.1 hc
  obtain ⟨r', h1, W', ⟨cell, q1, q2, q3, q4⟩, hF⟩ := (hR.2.1 a c hcl).2
  have haz := (hR.2.1 a c hcl).1
  cases hc.symm.trans h1
  obtain ⟨hSl, hfc, kC, hkC, hkind⟩ := hK.1.1 c r hc
  obtain ⟨cf, kF, fi, f, hi, hsl⟩ := hSl kf hk
  have hst := (u_facts hfc hkC (u_lays hts (CL_in c r hc) hk) hi).1
  have hlay := hts _ (CL_in c r hc _ (u_in_lay hk))
  unfold u_lay at hlay
  rw [if_pos hfin] at hlay
  have hcf : m.cls = cf := by
    obtain ⟨_, _, c', _, _, _, -, -, hf', -, -, -, hown2, -⟩ := Cond.laysFinal_spec hlay
    have e1 : c' = cf := by have := hi.symm.trans hf'; simp at this; exact this.1.symm
    rw [hdecl] at hown2
    rw [← e1]; exact Option.some.inj (hown.symm.trans hown2)
  have h6 := u_fits hfc hkC hkind (Or.inr hlay) hi (CL_ty c r hc kf hk) hn hft
  refine W.putFinK hx hb hown (hts _ hl) hi hst hcf hini (by rw [q2]; exact h6) q1 q3 (by rw [hsl]; exact k2_hasslot (q4 kf hk)) rfl rfl hd fun H' e1 e2 e3 => ?_
  rw [hsl] at e1 ⊢
  refine kk H' _ ls (hR.move s1 s2 s3 e2 a e3 (fun a' c' _ hne k' w hw => s4 a' c' k' w (fun z => hne z.1) hw) ?_ ?_ ?_) (hS.put e2 e3 haz) hls
  · intro c' hc'
    rw [hcl] at hc'
    cases hc'
    refine ⟨r, hc, updV W' kf v, ⟨_, e1, q2, q3, t_set q4 hap hk v⟩, fun k' hk' => ?_⟩
    by_cases hkk : k' = kf
    · subst hkk
      rw [show updV W' k' v k' = v from if_pos rfl]
      exact s5
    · rw [show updV W' kf v k' = W' k' from if_neg hkk]
      exact s4 a c k' _ (fun z => hkk z.2) (hF k' hk')
  · intro a' c' k' b hc' hb' hne hkd j
    exact s6 a' c' k' j (fun z => by subst z; rw [hcl] at hc'; cases hc'; rfl) hkd
  · intro a' c' k' hc' hb'
    obtain ⟨-, z, -⟩ := hR.2.2.1 a' k' a hb'
    rw [hcl] at z
    cases z
theorem fits_iv (x : Int) : fits .int (iv x) = true := rfl
theorem r_putI {x : Int} (X : Cx Γ cc own R0) (hcl : cL σ a = some c) (hc : CL[c]? = some r) (hk : kf < r.2.2) (hkd : KD c kf = 0) (hty : TY c kf = .int) (hl : Lk own idx (r.2.1 kf).1 (r.2.1 kf).2.1 (r.2.1 kf).2.2.1) (hd : decode cc pc = .ok (.putfield idx, 3)) (hfin : (r.2.1 kf).2.2.2 = false)
    (kk : V Γ (sI σ a kf 0 x) k n (pc + 3) lv rest) : V Γ σ k n pc lv (iv x :: .ref a :: rest) :=
  r_put X hcl hc hk hl hd hfin (by rw [hty]; rfl) (by rw [hty]; rfl) (σ' := sI σ a kf 0 x) (fun _ => rfl) (fun _ _ => rfl) rfl (fun a' c' k' w hne h => FV_sI (fun z => hne ⟨z.1, z.2.1⟩) h) (by unfold FV; rw [hkd]; show iv x = iv (gI (sI σ a kf 0 x) a kf 0); rw [gI_sI, if_pos ⟨rfl, rfl, rfl⟩])
    (fun a' c' k' j hcc h3 => AV_sI (fun z => by have := hcc z.1; subst this; rw [z.2.1, hkd] at h3; omega)) kk
theorem r_putIF {x : Int} (X : Cx Γ cc own R0) (hini : isIni Γ) (hcl : cL σ a = some c) (hc : CL[c]? = some r) (hk : kf < r.2.2) (hkd : KD c kf = 0) (hty : TY c kf = .int) (hl : Cond.fieldLink own idx (r.2.1 kf).1 (r.2.1 kf).2.1 (r.2.1 kf).2.2.1 ∈ lw_all) (hdecl : (r.2.1 kf).1 = own) (hd : decode cc pc = .ok (.putfield idx, 3)) (hfin : (r.2.1 kf).2.2.2 = true)
    (kk : V Γ (sI σ a kf 0 x) k n (pc + 3) lv rest) : V Γ σ k n pc lv (iv x :: .ref a :: rest) :=
  r_putF X hini hcl hc hk hl hdecl hd hfin (by rw [hty]; rfl) (by rw [hty]; rfl) (σ' := sI σ a kf 0 x) (fun _ => rfl) (fun _ _ => rfl) rfl (fun a' c' k' w hne h => FV_sI (fun z => hne ⟨z.1, z.2.1⟩) h) (by unfold FV; rw [hkd]; show iv x = iv (gI (sI σ a kf 0 x) a kf 0); rw [gI_sI, if_pos ⟨rfl, rfl, rfl⟩])
    (fun a' c' k' j hcc h3 => AV_sI (fun z => by have := hcc z.1; subst this; rw [z.2.1, hkd] at h3; omega)) kk
theorem r_putJ {x : Int} (X : Cx Γ cc own R0) (hcl : cL σ a = some c) (hc : CL[c]? = some r) (hk : kf < r.2.2) (hkd : KD c kf = 1) (hty : TY c kf = .long) (hl : Lk own idx (r.2.1 kf).1 (r.2.1 kf).2.1 (r.2.1 kf).2.2.1) (hd : decode cc pc = .ok (.putfield idx, 3)) (hfin : (r.2.1 kf).2.2.2 = false)
    (kk : V Γ (sJ σ a kf 0 x) k n (pc + 3) lv rest) : V Γ σ k n pc lv (jv x :: .ref a :: rest) :=
  r_put X hcl hc hk hl hd hfin (by rw [hty]; rfl) (by rw [hty]; rfl) (σ' := sJ σ a kf 0 x) (fun _ => rfl) (fun _ _ => rfl) rfl (fun a' c' k' w hne h => FV_sJ (fun z => hne ⟨z.1, z.2.1⟩) h) (by unfold FV; rw [hkd]; show jv x = jv (gJ (sJ σ a kf 0 x) a kf 0); rw [gJ_sJ, if_pos ⟨rfl, rfl, rfl⟩])
    (fun a' c' k' j hcc h3 => AV_sJ (fun z => by have := hcc z.1; subst this; rw [z.2.1, hkd] at h3; omega)) kk
theorem r_putP {x : Nat} {C : String} (X : Cx Γ cc own R0) (hcl : cL σ a = some c) (hc : CL[c]? = some r) (hk : kf < r.2.2) (hkd : KD c kf = 2) (hty : TY c kf = .object C) (hl : Lk own idx (r.2.1 kf).1 (r.2.1 kf).2.1 (r.2.1 kf).2.2.1) (hd : decode cc pc = .ok (.putfield idx, 3)) (hfin : (r.2.1 kf).2.2.2 = false)
    (kk : V Γ (sP σ a kf 0 (some x)) k n (pc + 3) lv rest) : V Γ σ k n pc lv (.ref x :: .ref a :: rest) :=
  r_put X hcl hc hk hl hd hfin (by rw [hty]; rfl) (by rw [hty]; rfl) (σ' := sP σ a kf 0 (some x)) (fun _ => rfl) (fun _ _ => rfl) rfl (fun a' c' k' w hne h => FV_sP (fun z => hne ⟨z.1, z.2.1⟩) h) (by unfold FV; rw [hkd]; show Value.ref x = va_rf (gP (sP σ a kf 0 (some x)) a kf 0); rw [gP_sP, if_pos ⟨rfl, rfl, rfl⟩]; rfl)
    (fun a' c' k' j hcc h3 => AV_sP (fun z => by have := hcc z.1; subst this; rw [z.2.1, hkd] at h3; omega)) kk
theorem r_putPF {x : Nat} {C : String} (X : Cx Γ cc own R0) (hini : isIni Γ) (hcl : cL σ a = some c) (hc : CL[c]? = some r) (hk : kf < r.2.2) (hkd : KD c kf = 2) (hty : TY c kf = .object C) (hl : Cond.fieldLink own idx (r.2.1 kf).1 (r.2.1 kf).2.1 (r.2.1 kf).2.2.1 ∈ lw_all) (hdecl : (r.2.1 kf).1 = own) (hd : decode cc pc = .ok (.putfield idx, 3)) (hfin : (r.2.1 kf).2.2.2 = true)
    (kk : V Γ (sP σ a kf 0 (some x)) k n (pc + 3) lv rest) : V Γ σ k n pc lv (.ref x :: .ref a :: rest) :=
  r_putF X hini hcl hc hk hl hdecl hd hfin (by rw [hty]; rfl) (by rw [hty]; rfl) (σ' := sP σ a kf 0 (some x)) (fun _ => rfl) (fun _ _ => rfl) rfl (fun a' c' k' w hne h => FV_sP (fun z => hne ⟨z.1, z.2.1⟩) h) (by unfold FV; rw [hkd]; show Value.ref x = va_rf (gP (sP σ a kf 0 (some x)) a kf 0); rw [gP_sP, if_pos ⟨rfl, rfl, rfl⟩]; rfl)
    (fun a' c' k' j hcc h3 => AV_sP (fun z => by have := hcc z.1; subst this; rw [z.2.1, hkd] at h3; omega)) kk
end
