/-! methods with a handler -/
set_option maxRecDepth 100000
abbrev HT : Type := List (Nat × Nat × Nat × Nat)
def MtW (l : Launch) (y : MethodName) (cb : ByteArray) (nl : Nat) (ret : Option FieldType) (hh : HT) (rm : Room) (D : DD) (sz : Nat) (σ : St) (av : List Value) (o : Outcome) (σ' : St) (kc ks : Nat) : Prop :=
  MetFree l y (headSpec (wsW_ y cb nl ret hh) rm) (fun a U => a = av.toArray ∧ Rep D sz σ U.heap ∧ KB D U ∧ SZ sz U) (fun _ _ _ _ _ => True)
    (fun _ st oc t => oc = o ∧ Rep D sz σ' t.heap ∧ (∀ q, q < sz → t.heap[q]? = st.heap[q]?) ∧ ∃ L, (st.WarmedH t.vm ∧ st.sameButNew ({ t with vm := st.vm } : State) L kc ks) ∧ ∀ q ∈ L, sz ≤ q.base)
/-- the handlers of the frame's method -/
def hasH (Γ : Ctx) (hh : HT) : Prop := match Γ with
  | (p, l, e, R, s, m, args, below, meth, c, Q, D, sz, nL) => c.exceptionTable.toList.map (fun h => (h.startPc, h.endPc, h.handlerPc, h.catchType)) = hh
theorem MtW.of {l : Launch} {y : MethodName} {cb : ByteArray} {nl : Nat} {ret : Option FieldType} {hh : HT} {rm : Room} {D : DD} {sz : Nat} {σ : St} {av : List Value} {o : Outcome} {σ' : St} {kc ks : Nat} (hy : plainFor y = true) (hnl : (lg_sl av).length ≤ nl)
    (body : ∀ Γ : Ctx, Cx Γ cb y.cls rm → Rt Γ ret o σ' kc ks → nLc Γ = nl → hasH Γ hh → V Γ σ 0 0 0 (lv_args 0 av) []) : MtW l y cb nl ret hh rm D sz σ av o σ' kc ks := by
  refine MetFree.of_bodySF (code := cb) (maxLocals := nl) (ret := ret) hy ?_ ?_
  · intro args s m h hn
    obtain ⟨m9, meth, c, hn9, h1, h2, h3, h4, -, h5, h6, -⟩ := Cond.codeWith_spec (atoms_spec (ws := wsW_ y cb nl ret hh) h _ List.mem_cons_self)
    cases hn.symm.trans hn9
    exact ⟨meth, c, h1, h2, h3, h4, h5, h6⟩
  · intro p e s m args below meth c s₁ B hml hP _
    obtain ⟨rfl, hRep, hKB, hszs⟩ := hP
    have hh0 : s₁.heap = s.heap := by rw [B.state]; rfl
    have hts := atoms_spec (ws := wsW_ y cb nl ret hh) B.pre
    have hno : c.exceptionTable.toList.map (fun h => (h.startPc, h.endPc, h.handlerPc, h.catchType)) = hh := by
      obtain ⟨m9, meth', c', hn9, h1, h2, -, -, h5, -⟩ := Cond.codeWith_spec (hts _ List.mem_cons_self)
      cases B.named.symm.trans hn9
      cases B.method.symm.trans h1
      cases (Stand.of_body B).code.symm.trans h2
      exact h5
    have K := body (p, l, e, rm, s, m, av.toArray, below, meth, c, EQ below s D sz o σ' kc ks, D, sz, nl) ⟨B.exec, B.bytes, hml, findClass_of_methodNamed B.named, fun w h => hts w (List.mem_cons_of_mem _ h), hKB, hszs, rfl, B.notSynchronized⟩ ⟨B.returns, rfl⟩ rfl hno
    have hl := lv_entry av (n := nl) hnl
    obtain ⟨t, a1, b1, b2, b3, b4, b5⟩ := K s.heap [] _ hRep va_S.rf hl s₁ hh0 (Stand.of_body B)
    refine ⟨t, o, ?_, b1, b2, rfl, b3, b4, b5⟩
    rw [lg_entry_eq]
    exact a1
section
variable {Γ : Ctx} {cc : ByteArray} {own : String} {R0 : Room} {σ : St} {k n pc : Nat} {lv lv' : List (Nat × Value)} {st rest : List Value}
/-- the exception meets its handler -/
theorem r_catch {x c : Nat} {r : vw_C} {a b hp ct : Nat} (X : Cx Γ cc own R0) (hh : hasH Γ [(a, b, hp, ct)]) (h1 : a ≤ pc ∧ pc < b) (h0 : ct ≠ 0) (hcl : cL σ x = some c) (hc : CL[c]? = some r) (w1 : Cond.classLink own ct r.1 ∈ lw_all) (kk : V Γ σ k n hp lv [.ref x]) : VT Γ σ k n pc lv x := by
  obtain ⟨p, l, e, R, s, m, args, below, meth, cd, Q, D, sz, nL⟩ := Γ
  obtain ⟨hx, hb, hml, hown, hts, hK, hsz, hR0, hlk⟩ := X
  intro H locs ls st hR hS hl T hT Y
  obtain ⟨cell, c1, c2, c3⟩ := zz_recv hK hR hcl hc
  have hpl : e.platform.magicAccessors = ({} : Platform).magicAccessors := by rw [Y.admits.platform]
  obtain ⟨c', hc', hlk2⟩ := Cond.classLink_spec hown (hts _ w1) e.platform hpl
  cases c3.symm.trans hc'
  obtain ⟨g1, g2, g3⟩ := State.classEntry (e := e) Y.warmed hlk2
  have Y' := Y.noted g2
  obtain ⟨dk, _, _, kt, hd, _, _, _, _, hkt, _, hopen⟩ := hlk2.here
  obtain ⟨kt', hkt', -⟩ := g2.alike.2.2 _ _ hkt
  have ec : cell.cls = D.1 c := Option.some.inj (c3.symm.trans (hK.1.1 c r hc).2.1)
  have hasg : s.vm.assignable cell.cls cell.cls = true := by rw [ec]; exact va_assign (hK.1.1 c r hc).2
  obtain ⟨t, st1, st2⟩ := kk H locs ls hR hS hl (T.setVm (T.vm.noted m.cls ct (.cls cell.cls))) hT Y'
  refine ⟨t, ?_, st2⟩
  have hh : cd.exceptionTable.toList.map (fun h => (h.startPc, h.endPc, h.handlerPc, h.catchType)) = [(a, b, hp, ct)] := hh
  obtain ⟨en, hen, hen2⟩ : ∃ en, cd.exceptionTable.toList = [en] ∧ (en.startPc, en.endPc, en.handlerPc, en.catchType) = (a, b, hp, ct) := by
    cases he : cd.exceptionTable.toList with
    | nil => rw [he] at hh; cases hh
    | cons en r => 
      rw [he] at hh
      cases r with
      | nil => exact ⟨en, rfl, List.cons.inj hh |>.1⟩
      | cons _ _ => have := (List.cons.inj hh).2; cases this
  obtain ⟨e1, e2⟩ := Prod.mk.inj hen2
  obtain ⟨e2, e3⟩ := Prod.mk.inj e2
  obtain ⟨e3, e4⟩ := Prod.mk.inj e3
  subst e1; subst e2; subst e3; subst e4
  refine zz_caught_cold (g := F0 m pc ls st) (vm' := T.vm.noted m.cls en.catchType (.cls cell.cls)) Y.here (pc := en.handlerPc) ?_ st1
  intro Q E d acts
  obtain ⟨mT, hmT, hcT⟩ : ∃ mT, T.vm.method? m = some mT ∧ mT.code = some cd := by
    have q := Y.here.code
    simp only [State.code?] at q
    obtain ⟨k1, hk1, q⟩ := Option.bind_eq_some_iff.mp q
    obtain ⟨k2, hk2, q⟩ := Option.bind_eq_some_iff.mp q
    exact ⟨k2, by simp [Vm.method?, hk1, hk2], q⟩
  refine zz_find_cold (meth := mT) (code := cd) (x := en) (c := cell.cls) (cell := cell) hmT hcT hen ?_ h0 g1 ?_ (VmData.noStatics_of c2) ⟨kt', hkt'⟩ ⟨kt', hkt'⟩ ?_ ?_ Q E d acts
  · simp [covers, F0]; omega
  · show T.heap[x]? = _; rw [hT]; exact c1
  · rw [g2.alike.assignable]; exact hasg
  · rw [Vm.size_note]; exact Nat.le_refl _
end
