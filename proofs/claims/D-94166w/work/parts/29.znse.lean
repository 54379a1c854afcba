/-! new NoSuchElementException(): its constructors, where no trace is kept -/
set_option maxRecDepth 100000
def lOf (Γ : Ctx) : Launch := match Γ with
  | (p, l, e, R, s, m, args, below, meth, c, Q, D, sz, nL) => l
theorem LSq.use {n d : String} {s : State} {args : Array Value} (h : LSq n d s) : (Cond.laysStatic "java/lang/Throwable" n d).before args s = true := by
  obtain ⟨c, k, i, f, a, cell, hc, hi, hst, ha, hcell, hs, hcls, hlt, hty⟩ := Cond.laysStatic_spec h
  exact Cond.laysStatic_of hc hi hst ha hcell hs hcls hlt hty
theorem nse_atoms {D : DD} {sz : Nat} {s : State} {args : Array Value} (hts : ∀ w ∈ lw_all, w.before args s = true) (hK : KB D s) (hsz : SZ sz s) : ∀ x ∈ Bundle.throwableAtoms, x.before args s = true := by
  intro x hx
  simp only [Bundle.throwableAtoms, List.mem_cons, List.not_mem_nil, or_false] at hx
  rcases hx with rfl | rfl | rfl | rfl | rfl | rfl | rfl | rfl | rfl | rfl | rfl | rfl | rfl | rfl | rfl | rfl | rfl | rfl | rfl | rfl | rfl | rfl | rfl | rfl <;>
    first | (exact LSq.use hsz.2.2.1) | (exact LSq.use hsz.2.2.2) | exact hts _ q111 | exact hts _ q468 | exact hts _ q470 | exact hts _ q472 | exact hts _ q474 | exact hts _ q476 | exact hts _ q477 | exact hts _ q478 | exact hts _ q479 | exact hts _ q480 | exact hts _ q481 | exact hts _ q482 | exact hts _ q484 | exact hts _ q486 | exact hts _ q487 | exact hts _ q488 | exact hts _ q490 | exact hts _ q491 | exact hts _ q493 | exact hts _ q494 | exact hts _ q495 | exact hts _ q506 | exact hts _ q507 | exact hts _ q510 | exact hts _ q511 | exact hts _ q512 | exact hts _ q513 | exact hts _ q514 | exact hts _ q517 | exact hts _ q518 | exact hts _ q519 | exact hts _ q520 | exact hts _ q522 | exact hts _ q523 | exact hts _ q1910 | exact hts _ q112 | exact hts _ q503 | exact hts _ q504 | exact hts _ q505 | exact hts _ q1228 | exact hts _ q1229 | exact hts _ q1230 | exact hts _ q113 | exact hts _ q500 | exact hts _ q501 | exact hts _ q502 | exact hts _ q1225 | exact hts _ q1226 | exact hts _ q1227 | exact hts _ q123 | exact hts _ q1213 | exact hts _ q1216 | exact hts _ q1217 | exact hts _ q1218 | exact hts _ q1219 | exact hts _ q1220 | exact hts _ q1222 | exact hts _ q1223 | exact hts _ q1224 | exact hts _ q1231 | exact hts _ q1232 | exact hts _ q133 | exact hts _ q134 | exact va_Nw.use rfl (hK.2 _ q463 rfl) | exact va_Nw.use rfl (hK.2 _ q464 rfl) | exact va_Nw.use rfl (hK.2 _ q1927 rfl) | exact va_Nw.use rfl (hK.2 _ q461 rfl) | exact va_Nw.use rfl (hK.2 _ q462 rfl) | exact va_Nw.use rfl (hK.2 _ q459 rfl) | exact va_Nw.use rfl (hK.2 _ q460 rfl) | exact va_Nw.use rfl (hK.2 _ q1214 rfl) | exact va_Nw.use rfl (hK.2 _ q1925 rfl)
theorem nse_chain {D : DD} {s : State} {args : Array Value} (hts : ∀ w ∈ lw_all, w.before args s = true) (hK : KB D s) : ∀ x ∈ Bundle.chain0Atoms "java/util/NoSuchElementException" ["java/lang/RuntimeException", "java/lang/Exception"], x.before args s = true := by
  intro x hx
  simp only [Bundle.chain0Atoms, Bundle.passAtoms, List.cons_append, List.nil_append, List.mem_cons, List.not_mem_nil, or_false] at hx
  rcases hx with rfl | rfl | rfl | rfl | rfl | rfl | rfl | rfl | rfl | rfl | rfl | rfl | rfl | rfl | rfl <;>
    first | exact hts _ q111 | exact hts _ q468 | exact hts _ q470 | exact hts _ q472 | exact hts _ q474 | exact hts _ q476 | exact hts _ q477 | exact hts _ q478 | exact hts _ q479 | exact hts _ q480 | exact hts _ q481 | exact hts _ q482 | exact hts _ q484 | exact hts _ q486 | exact hts _ q487 | exact hts _ q488 | exact hts _ q490 | exact hts _ q491 | exact hts _ q493 | exact hts _ q494 | exact hts _ q495 | exact hts _ q506 | exact hts _ q507 | exact hts _ q510 | exact hts _ q511 | exact hts _ q512 | exact hts _ q513 | exact hts _ q514 | exact hts _ q517 | exact hts _ q518 | exact hts _ q519 | exact hts _ q520 | exact hts _ q522 | exact hts _ q523 | exact hts _ q1910 | exact hts _ q112 | exact hts _ q503 | exact hts _ q504 | exact hts _ q505 | exact hts _ q1228 | exact hts _ q1229 | exact hts _ q1230 | exact hts _ q113 | exact hts _ q500 | exact hts _ q501 | exact hts _ q502 | exact hts _ q1225 | exact hts _ q1226 | exact hts _ q1227 | exact hts _ q123 | exact hts _ q1213 | exact hts _ q1216 | exact hts _ q1217 | exact hts _ q1218 | exact hts _ q1219 | exact hts _ q1220 | exact hts _ q1222 | exact hts _ q1223 | exact hts _ q1224 | exact hts _ q1231 | exact hts _ q1232 | exact hts _ q133 | exact hts _ q134 | exact va_Nw.use rfl (hK.2 _ q463 rfl) | exact va_Nw.use rfl (hK.2 _ q464 rfl) | exact va_Nw.use rfl (hK.2 _ q1927 rfl) | exact va_Nw.use rfl (hK.2 _ q461 rfl) | exact va_Nw.use rfl (hK.2 _ q462 rfl) | exact va_Nw.use rfl (hK.2 _ q459 rfl) | exact va_Nw.use rfl (hK.2 _ q460 rfl) | exact va_Nw.use rfl (hK.2 _ q1214 rfl) | exact va_Nw.use rfl (hK.2 _ q1925 rfl)
theorem Rep.born {D : DD} {sz : Nat} {σ : St} {H H' : Heap} {c : Nat} {r : vw_C} {s : State} {args : Array Value} {kC : Class} (hts : ∀ w ∈ lw_all, w.before args s = true) (hK : KB D s) (hR : Rep D sz σ H) (hszH : sz ≤ nX σ) (hc : CL[c]? = some r) (hN2 : r.2.2 ≤ 200) (hkC : s.vm.classes[D.1 c]? = some kC) (e1 : H'[nX σ]? = some (blank (D.1 c) kC)) (z1 : H'.size = nX σ + 1) (o1 : ∀ q, q < nX σ → H'[q]? = H[q]?) : Rep D sz (nO σ c) H' := by
  have hKn := hK.1.1 c r hc
  refine ⟨by rw [z1]; rfl, fun a' c' e' => ?_, fun a' k' b e' => ?_, fun a' k' b a2 k2 e' e2 => ?_⟩
  · rw [cL_nO] at e'
    by_cases hq : a' = nX σ
    · rw [if_pos hq] at e'
      cases e'
      subst hq
      exact ⟨hszH, r, hc, _, u_born (TY c) hts (CL_in c r hc) hKn hkC e1 (CL_ty c r hc), fun k' hk' => FV_born σ c k' (by omega)⟩
    · rw [if_neg hq] at e'
      obtain ⟨r', r1, V', r2, r3⟩ := (hR.2.1 a' c' e').2
      exact ⟨(hR.2.1 a' c' e').1, r', r1, V', r2.kept (o1 a' (hR.lt e')), fun k' hk' => FV_nO hq (r3 k' hk')⟩
  · rw [aR_nO] at e'
    split at e'
    · cases e'
    · rename_i hq
      obtain ⟨f1, f2, c', f3, f4, f5⟩ := hR.2.2.1 a' k' b e'
      have hlt := hR.ltA e'
      refine ⟨f1, by rw [cL_nO, if_neg (by omega)]; exact f2, c', by rw [cL_nO, if_neg hq]; exact f3, f4, ?_⟩
      rw [o1 b hlt, show AV (nO σ c) a' c' k' = AV σ a' c' k' from funext (fun j => AV_nO hq)]
      exact f5
  · rw [aR_nO] at e' e2
    split at e'
    · cases e'
    · split at e2
      · cases e2
      · exact hR.2.2.2 a' k' b a2 k2 e' e2
theorem nse_stat {n d : String} {sz : Nat} {s : State} {cT : ClassId} {kT : Class} {i aS : Nat} {f : Field} (hz : va_Zq "java/lang/Throwable" n d (fun q => sz ≤ q) s s.heap) (hff : s.fieldFound? "java/lang/Throwable" n d = some (cT, kT, i, f)) (hst : kT.statics = some aS) :
    ∃ (u : RefV) (cell : Cell), s.heap[aS]? = some cell ∧ cell.vm.isStatics = true ∧ cell.slots[f.slot]? = some u.v ∧ ¬ sz ≤ aS := by
  rcases hz with ⟨cf, kf, fi, f', a', cell', h1, h2, h3, h4, h5, h6, h7, h8⟩ | ⟨t, cf, kf, fi, f', a', cell', h1, h2, h3, h4, h5, h6, h7, h8⟩
  · cases hff.symm.trans h1
    cases hst.symm.trans h4
    exact ⟨⟨.null, rfl⟩, cell', h5, h6, h7, h8⟩
  · cases hff.symm.trans h1
    cases hst.symm.trans h4
    exact ⟨⟨.ref t, rfl⟩, cell', h5, h6, h7, h8⟩
section
variable {Γ : Ctx} {cc : ByteArray} {own : String} {R0 : Room} {σ : St} {k n pc : Nat} {lv lv' : List (Nat × Value)} {st rest : List Value}
theorem FV_14 (σ : St) (a k : Nat) (v : Value) : FV σ a 14 k v := by
  unfold FV
  rw [show KD 14 k = 9 from if_pos (Or.inl rfl)]
  trivial
set_option maxHeartbeats 2000000 in
/-- new, dup, constructor -/
theorem r_nse {ic0 ic : Nat} (X : Cx Γ cc own R0) (htr : (lOf Γ).stackTraces = false) (w0 : Cond.classLink own ic0 "java/util/NoSuchElementException" ∈ lw_all) (w1 : Cond.methodLink own ic ⟨"java/util/NoSuchElementException", "<init>", "()V"⟩ ∈ lw_all)
    (hd0 : decode cc pc = .ok (.new ic0, 3)) (hd1 : decode cc (pc + 3) = .ok (.dup, 1)) (hd2 : decode cc (pc + 4) = .ok (.invokespecial ic, 3)) (hk1 : k + 1 ≤ R0.cells) (hk2 : n + 6 ≤ R0.slots) (hf : 6 ≤ R0.frames) (hlo : (rest.map fun v => v.category).sum + 81 ≤ R0.locals)
    (kk : V Γ (nO σ 14) (k + 1) (n + 6) (pc + 7) lv (.ref (nX σ) :: rest)) : V Γ σ k n pc lv rest := by
  obtain ⟨p, l, e, R, s, m, args, below, meth, cd, Q, D, sz, nL⟩ := Γ
  obtain ⟨hx, hb, hml, hown, hts, hK, hsz, hR0, hlk⟩ := X
  intro H locs ls hR hS hls
  subst hR0
  have hKn := hK.1.1 14 _ rfl
  refine W.newcK hx hb hown (hts _ w0) (hts _ q1213) (hts _ q123) rfl hd0 hk1 hk2 hKn.2.1 hR.1 fun H' kC hkC e1 z1 o1 => ?_
  have hszH : sz ≤ nX σ := by rw [← hR.1]; exact Nat.le_trans hsz.1 hS.1
  have hRn : Rep D sz (nO σ 14) H' := Rep.born hts hK hR hszH rfl (by decide) hkC e1 z1 o1
  refine lv_dup hx hb hd1 rfl ?_
  intro T hT Y
  have howns : e.platform.frameOwnsMonitors = true := by rw [Y.admits.platform]
  have hfin : e.platform.finalization = false := by rw [Y.admits.platform]
  have hpl : e.platform.magicAccessors = ({} : Platform).magicAccessors := by rw [Y.admits.platform]
  have htr' : e.platform.stackTraces = false := by rw [Y.admits.platform]; exact htr
  obtain ⟨T0, Z, L, LZ, Yt⟩ := ThrowableC.of_atoms (args := args) howns hfin hpl (nse_atoms hts hK hsz)
  obtain ⟨P1, Ps, hlen, L1, hL, hP1m, hlink1, hlink⟩ := Bundle.chain0 (args := args) hpl Yt.init0 ["java/lang/RuntimeException", "java/lang/Exception"] "java/util/NoSuchElementException" (by decide +kernel) (by decide +kernel) (nse_chain hts hK)
  have hfound : s.vm.findClass "java/util/NoSuchElementException" = some P1.m.cls := findClass_of_methodNamed hP1m
  have ecl : D.1 14 = P1.m.cls := Option.some.inj (hKn.2.1.symm.trans hfound)
  rw [ecl] at hkC e1
  obtain ⟨c1, kX', hc1, hk, hord, -, -, hn6⟩ := Cond.instantiable_spec (hts _ q1213)
  cases Option.some.inj (hc1.symm.trans hfound)
  cases Option.some.inj (hkC.symm.trans hk)
  have hsel0 : selectMethod e.platform s.vm P1.m.cls T0.fill0 = .method T0.fill0 := by
    obtain ⟨c2, r2, m2, z1, z2, z3, z4, -⟩ := Cond.selects_spec (hts _ q1215)
    cases Option.some.inj (z1.symm.trans hfound)
    cases Option.some.inj (z2.symm.trans (State.methodFound?_of_named Yt.fill0 (by decide)))
    cases Option.some.inj (z3.symm.trans Yt.fill0)
    rw [Launch.admits_selectMethod Y.admits]; exact z4
  have hselF : selectMethod e.platform s.vm P1.m.cls T0.fill = .method T0.fill := by
    obtain ⟨c2, r2, m2, z1, z2, z3, z4, -⟩ := Cond.selects_spec (hts _ q489)
    cases Option.some.inj (z1.symm.trans hfound)
    cases Option.some.inj (z2.symm.trans (State.methodFound?_of_named Yt.fill (by decide)))
    cases Option.some.inj (z3.symm.trans Yt.fill)
    rw [Launch.admits_selectMethod Y.admits]; exact z4
  obtain ⟨u0, cellS, hcS, hiss, hu0, hlow⟩ := nse_stat hsz.2.1.1 Yt.unassigned L.statics
  obtain ⟨sen, cellS', hcS', -, hsen, -⟩ := nse_stat hsz.2.1.2 Yt.sentinel L.statics
  cases hcS.symm.trans hcS'
  have hlS : T0.aS < s.heap.size := (Array.getElem?_eq_some_iff.mp hcS).1
  have hcellS : T.heap[T0.aS]? = some cellS := by
    rw [hT, o1 T0.aS (by have := hS.1; have := hR.1; omega), hS.2.1 T0.aS hlS hlow]; exact hcS
  have hneS : T0.aS ≠ nX σ := Nat.ne_of_lt (by have := hS.1; have := hR.1; omega)
  have hknownS : cellS.vm ≠ .unknown := by
    intro hu
    rw [hu] at hiss
    cases hiss
  obtain ⟨ci198, i198, fB, hk198, hg198, ha198, hsB, -, hnB, htB, hffB⟩ := Cond.ownField (t := .object "java/lang/Object") Yt.found L.cls (by decide +kernel) (hts _ q477) (hts _ q476) e.platform hpl
  obtain ⟨tyC, dC, hdC, hdnC⟩ := Cond.laysAt hfound hk Yt.cause (hts _ q1216)
  obtain ⟨tyS, dS, hdS, hdnS⟩ := Cond.laysAt hfound hk Yt.stack (hts _ q1217)
  obtain ⟨tyP, dP, hdP, hdnP⟩ := Cond.laysAt hfound hk Yt.supp (hts _ q1218)
  obtain ⟨tyB, dB, hdB, hdnB⟩ := Cond.laysAt hfound hk hffB (hts _ q1220)
  have bC := Cond.laysApart hdB hdC hdnB hdnC (by rw [hnB, Yt.causeName]; decide)
  have bS := Cond.laysApart hdB hdS hdnB hdnS (by rw [hnB, Yt.stackName]; decide)
  have bP := Cond.laysApart hdB hdP hdnB hdnP (by rw [hnB, Yt.suppName]; decide)
  have hcell : T.heap[nX σ]? = some (freshCell P1.m.cls kC) := by rw [hT]; exact e1
  have hskip : SkipFacts T0 e.platform s (fun u => u) u0 ((preparedCellV T0.toThrowableT (freshCell P1.m.cls kC) (nX σ) u0 sen).withEntry T.cur) :=
    ⟨{ ci198 := ci198, i198 := i198, fBack := fB }, ⟨hk198, hg198, ha198, hsB⟩, by
      have := fresh_default (c := P1.m.cls) tyB
      rw [htB] at this
      simpa [preparedCellV, Cell.setSlot, Cell.withEntry, Array.getElem?_setIfInBounds, bC, bS, bP, bC.symm, bS.symm, bP.symm, defaultValue] using this, fun _ _ => rfl⟩
  obtain ⟨tm, methC, cdC, kC', vm₁, hnC, -, -, -, -, -, -, -, hW₁, st1⟩ := Steps.initCold (tb := p.tables) (e := e) (below := below) (s := s) (U := T) Y.here hx Y.warmed hpl hown (t := ⟨"java/util/NoSuchElementException", "<init>", "()V"⟩) rfl rfl (by decide)
    (hts _ w1) (hts _ q1222) (hts _ q1223) (f := F0 m (pc + 4) ls (.ref (nX σ) :: .ref (nX σ) :: rest)) rfl (a := nX σ) (rest := .ref (nX σ) :: rest) rfl (by rw [hb]; exact hd2)
  cases Option.some.inj (hnC.symm.trans hP1m)
  have X₁ := Y.noted hW₁
  obtain ⟨vm₂, X₂, st2⟩ := X₁.ctorPlainOffV hx (g := F0 m (pc + 4) ls (.ref (nX σ) :: rest)) rfl (by rw [hml]; exact hls.1) T0 L Z LZ (P1 :: Ps)
    (fun P hP => by rcases List.mem_cons.mp hP with rfl | hP; exact L1; exact hL P hP) ⟨hlink1, hlink⟩ (u0 := u0) (sen := sen) (self := nX σ) (cell := freshCell P1.m.cls kC) (cellS := cellS)
    hcell (fun _ => by simp) (by simp) rfl rfl hsel0 hselF hcellS hneS hknownS hu0 hsen
    (Takes.of_laid hk hord tyC (by rw [Yt.causeType]; rfl)) (Takes.of_laid hk hord tyS (by rw [Yt.stackType]; exact fits_refV_array _ u0)) (Takes.of_laid hk hord tyP (by rw [Yt.suppType]; exact fits_refV_object _ sen)) Yt.objLocals hskip htr' [] (by rw [hb]; exact hd2)
    (by simp only [List.length_cons, hlen, List.length_nil]; omega) (by simp only [List.length_cons, hlen, List.length_nil]; show 2 * 0 + (1 + (rest.map fun v => v.category).sum) + _ ≤ _; omega)
  generalize hC : (preparedCellV T0.toThrowableT (freshCell P1.m.cls kC) (nX σ) u0 sen).setSlot T0.fStack.slot u0.v = C at X₂ st2
  have hlt : nX σ < H'.size := by omega
  have hheap : (((T.setVm vm₁).setVm vm₂).setCell (nX σ) C).heap = H'.setIfInBounds (nX σ) C := by rw [← hT]; rfl
  have oq : ∀ q : Nat, q ≠ nX σ → (H'.setIfInBounds (nX σ) C)[q]? = H'[q]? := fun q hq => by simp [Array.getElem?_setIfInBounds, Ne.symm hq]
  have hat : (H'.setIfInBounds (nX σ) C)[nX σ]? = some C := by simp [Array.getElem?_setIfInBounds, hlt]
  have hcl14 : cL (nO σ 14) (nX σ) = some 14 := by rw [cL_nO, if_pos rfl]
  have hR' : Rep D sz (nO σ 14) (H'.setIfInBounds (nX σ) C) := by
    refine hRn.move (fun _ => rfl) (fun _ _ => rfl) rfl (by simp) (nX σ) oq (fun a' c' hc' _ k' w hw => hw) ?_ (fun _ _ _ _ _ _ _ _ _ => rfl) ?_
    · intro c' hc'
      rw [hcl14] at hc'
      cases hc'
      obtain ⟨r', r1, V', ⟨cell, q1, q2, q3, q4⟩, hF⟩ := (hRn.2.1 _ _ hcl14).2
      have ec : cell = freshCell P1.m.cls kC := by rw [e1] at q1; exact (Option.some.inj q1).symm
      refine ⟨r', r1, fun k' => (C.slots[D.2.1 14 k']?).getD .null, ⟨C, hat, ?_, ?_, fun k' hk' => ?_⟩, fun k' hk' => FV_14 _ _ _ _⟩
      · rw [← hC, ecl]; rfl
      · rw [← hC]; rfl
      · have h1 := q4 k' hk'
        rw [ec] at h1
        have h2 : D.2.1 14 k' < (freshCell P1.m.cls kC).slots.size := (Array.getElem?_eq_some_iff.mp h1).1
        have h3 : D.2.1 14 k' < C.slots.size := by rw [← hC]; simpa [preparedCellV, Cell.setSlot] using h2
        show C.slots[D.2.1 14 k']? = some ((C.slots[D.2.1 14 k']?).getD .null)
        rw [Array.getElem?_eq_getElem h3]
        rfl
    · intro a' c' k' hc' hb'
      have := (hRn.2.2.1 a' k' _ hb').2.1
      rw [hcl14] at this
      cases this
  obtain ⟨t, a1, b1⟩ := kk _ _ ls hR' ⟨by simp; exact Nat.le_trans hS.1 (by rw [z1, hR.1]; omega), fun q q1 q2 => by
      rw [oq q (by have := hS.1; have := hR.1; omega)]
      exact (o1 q (by have := hS.1; have := hR.1; omega)).trans (hS.2.1 q q1 q2), fun q hq => by
      rcases List.mem_append.mp hq with h | h
      · exact hS.2.2 q h
      · have hb : q.base = nX σ := by
          simp only [List.mem_cons, List.not_mem_nil, or_false] at h
          rcases h with rfl | rfl | rfl | rfl <;> rfl
        rw [hb]
        exact hszH⟩ hls _ hheap X₂
  refine ⟨t, st1 _ (fun acts => ?_), b1⟩
  rw [doInvoke_state]
  exact st2 _ a1
end
