/-! contracts and calls that know the launch (turned from parts 27, 28, 29) -/
set_option maxRecDepth 100000
theorem Mt.ofL {l : Launch} {y : MethodName} {cb : ByteArray} {nl : Nat} {ret : Option FieldType} {rm : Room} {D : DD} {sz : Nat} {σ : St} {av : List Value} {o : Outcome} {σ' : St} {kc ks : Nat} (hy : plainFor y = true) (hnl : (lg_sl av).length ≤ nl)
    (body : ∀ Γ : Ctx, Cx Γ cb y.cls rm → Rt Γ ret o σ' kc ks → nLc Γ = nl → (y.name = "<init>" → isIni Γ) → noH Γ → lOf Γ = l → V Γ σ 0 0 0 (lv_args 0 av) []) : Mt l y cb nl ret rm D sz σ av o σ' kc ks := by
  refine MetFree.of_bodySF (code := cb) (maxLocals := nl) (ret := ret) hy ?_ ?_
  · intro args s m h hn
    obtain ⟨meth, c, h1, h2, h3, h4, h5, h6, -, -⟩ := Cond.code_spec hn (atoms_spec (ws := ws_ y cb nl ret) h _ List.mem_cons_self)
    exact ⟨meth, c, h1, h2, h3, h4, h5, h6⟩
  · intro p e s m args below meth c s₁ B hml hP _
    obtain ⟨rfl, hRep, hKB, hszs⟩ := hP
    have hh0 : s₁.heap = s.heap := by rw [B.state]; rfl
    have hts := atoms_spec (ws := ws_ y cb nl ret) B.pre
    have hno := B.noHandlers (hts _ List.mem_cons_self)
    have K := body (p, l, e, rm, s, m, av.toArray, below, meth, c, EQ below s D sz o σ' kc ks, D, sz, nl) ⟨B.exec, B.bytes, hml, findClass_of_methodNamed B.named, fun w h => hts w (List.mem_cons_of_mem _ h), hKB, hszs, rfl, B.notSynchronized⟩ ⟨B.returns, rfl⟩ rfl (fun q => by show meth.name = "<init>"; rw [← q]; exact (name_of_methodNamed B.named B.method).1) hno rfl
    have hl := lv_entry av (n := nl) hnl
    obtain ⟨t, a1, b1, b2, b3, b4, b5⟩ := K s.heap [] _ hRep va_S.rf hl s₁ hh0 (Stand.of_body B)
    refine ⟨t, o, ?_, b1, b2, rfl, b3, b4, b5⟩
    rw [lg_entry_eq]
    exact a1
theorem MtW.ofL {l : Launch} {y : MethodName} {cb : ByteArray} {nl : Nat} {ret : Option FieldType} {hh : HT} {rm : Room} {D : DD} {sz : Nat} {σ : St} {av : List Value} {o : Outcome} {σ' : St} {kc ks : Nat} (hy : plainFor y = true) (hnl : (lg_sl av).length ≤ nl)
    (body : ∀ Γ : Ctx, Cx Γ cb y.cls rm → Rt Γ ret o σ' kc ks → nLc Γ = nl → hasH Γ hh → lOf Γ = l → V Γ σ 0 0 0 (lv_args 0 av) []) : MtW l y cb nl ret hh rm D sz σ av o σ' kc ks := by
  refine MetFree.of_bodySF (code := cb) (maxLocals := nl) (ret := ret) hy ?_ ?_
  · intro args s m h hn
    obtain ⟨m9, meth, c, hn9, h1, h2, h3, h4, -, h5, h6, -⟩ := Cond.codeWith_spec (atoms_spec (ws := wsW_ y cb nl ret hh) h _ List.mem_cons_self)
    cases hn.symm.trans hn9
    exact ⟨meth, c, h1, h2, h3, h4, h5, h6⟩
  · intro p e s m args below meth c s₁ B hml hP _
    obtain ⟨rfl, hRep, hKB, hszs⟩ := hP
    have hh0 : s₁.heap = s.heap := by rw [B.state]; rfl
    have hts := atoms_spec (ws := wsW_ y cb nl ret hh) B.pre
    have hno : c.exceptionTable.toList.map (fun h => (h.startPc, h.endPc, h.handlerPc, h.catchType)) = hh := by
      obtain ⟨m9, meth', c', hn9, h1, h2, -, -, h5, -⟩ := Cond.codeWith_spec (hts _ List.mem_cons_self)
      cases B.named.symm.trans hn9
      cases B.method.symm.trans h1
      cases (Stand.of_body B).code.symm.trans h2
      exact h5
    have K := body (p, l, e, rm, s, m, av.toArray, below, meth, c, EQ below s D sz o σ' kc ks, D, sz, nl) ⟨B.exec, B.bytes, hml, findClass_of_methodNamed B.named, fun w h => hts w (List.mem_cons_of_mem _ h), hKB, hszs, rfl, B.notSynchronized⟩ ⟨B.returns, rfl⟩ rfl hno rfl
    have hl := lv_entry av (n := nl) hnl
    obtain ⟨t, a1, b1, b2, b3, b4, b5⟩ := K s.heap [] _ hRep va_S.rf hl s₁ hh0 (Stand.of_body B)
    refine ⟨t, o, ?_, b1, b2, rfl, b3, b4, b5⟩
    rw [lg_entry_eq]
    exact a1
section
variable {Γ : Ctx} {cc : ByteArray} {own : String} {R0 : Room} {σ σ' : St} {k n pc : Nat} {lv lv' : List (Nat × Value)} {st st' rest : List Value} {b c idx kc ks nl : Nat} {r : vw_C} {y : MethodName} {cb : ByteArray} {ret : Option FieldType} {rm : Room} {As : List Value} {v : Option Value}
theorem r_cVL (X : Cx Γ cc own R0) (hM : ∀ D sz, Mt (lOf Γ) y cb nl ret rm D sz σ (.ref b :: As) (.returned v) σ' kc ks) (hcl : cL σ b = some c) (hc : CL[c]? = some r) (w2 : Cond.instanceMethod y ∈ lw_all) (w3 : Cond.selects r.1 y y ∈ lw_all) (w1 : Cond.methodLink own idx y ∈ lw_all) (wi : Cond.initialized y.cls ∈ lw_all) (wc : Cond.code y cb nl ret ∈ lw_all) {nA : Nat} (hy : y.cls ≠ "java/lang/invoke/MethodHandle" ∧ y.cls ≠ "java/lang/invoke/VarHandle" ∧ (parseMethodDescriptor y.desc).map (fun d => d.parameters.length) = some nA) (hnA : As.length = nA) (hd : decode cc pc = .ok (.invokevirtual idx, 3)) (hst : As.reverse ++ .ref b :: rest = st) (hst2 : v.toList ++ rest = st') {Wd : Nat} (hW : (rest.map fun v => v.category).sum ≤ Wd) (hrm : rm.frames + 1 ≤ R0.frames ∧ Wd + (nl + 11) + rm.locals ≤ R0.locals) (hrc : k + rm.cells ≤ R0.cells ∧ n + rm.slots ≤ R0.slots)
    (kk : V Γ σ' (k + kc) (n + ks) (pc + 3) lv st') : V Γ σ k n pc lv st := by
  subst hnA
  obtain ⟨p, l, e, R, s, m, args, below, meth, cd, Q, D, sz, nL⟩ := Γ
  obtain ⟨hx, hb, hml, hown, hts, hK, hsz, hR0, hlk⟩ := X
  intro H locs ls hR hS hls
  subst hR0
  subst hb
  subst hst; subst hst2
  obtain ⟨cellB, c1, c2, c3⟩ := zz_recv hK hR hcl hc
  have hI : IV p l e R s m args below meth cd H locs k n (F0 m pc ls (As.reverse ++ .ref b :: rest)) y (.ref b :: As) rest := IV.virt hx hown (hts _ w1) (hts _ w2) (hts _ w3) (hts _ wc) ⟨hy.1, hy.2.1⟩ c1 c2 c3 rfl (len_of hy.2.2) rfl hd
  refine IV.back (D := D) (sz := sz) hI (hM D sz) ⟨hts, wc, wi⟩ hK hsz hR hS rfl (by rw [hml]; exact hls.1) (by show 2 * 0 + _ ≤ Wd; omega) hd hrm.1 hrm.2 hrc.1 hrc.2 (fun H1 locs1 h1 h2 => ?_)
  exact kk H1 locs1 ls h1 h2 hls
theorem r_cSWL {hh : HT} (X : Cx Γ cc own R0) (hM : ∀ D sz, MtW (lOf Γ) y cb nl ret hh rm D sz σ (As) (.returned v) σ' kc ks) (w2 : Cond.static y ∈ lw_all) (w1 : Cond.methodLink own idx y ∈ lw_all) (wi : Cond.initialized y.cls ∈ lw_all) (wc : Cond.codeWith y cb nl ret hh ∈ lw_all) {nA : Nat} (hy : y.cls ≠ "java/lang/invoke/MethodHandle" ∧ y.cls ≠ "java/lang/invoke/VarHandle" ∧ (parseMethodDescriptor y.desc).map (fun d => d.parameters.length) = some nA) (hnA : As.length = nA) (hd : decode cc pc = .ok (.invokestatic idx, 3)) (hst : As.reverse ++ rest = st) (hst2 : v.toList ++ rest = st') {Wd : Nat} (hW : (rest.map fun v => v.category).sum ≤ Wd) (hrm : rm.frames + 1 ≤ R0.frames ∧ Wd + (nl + 11) + rm.locals ≤ R0.locals) (hrc : k + rm.cells ≤ R0.cells ∧ n + rm.slots ≤ R0.slots)
    (kk : V Γ σ' (k + kc) (n + ks) (pc + 3) lv st') : V Γ σ k n pc lv st := by
  subst hnA
  obtain ⟨p, l, e, R, s, m, args, below, meth, cd, Q, D, sz, nL⟩ := Γ
  obtain ⟨hx, hb, hml, hown, hts, hK, hsz, hR0, hlk⟩ := X
  intro H locs ls hR hS hls
  subst hR0
  subst hb
  subst hst; subst hst2
  have hI : IV p l e R s m args below meth cd H locs k n (F0 m pc ls (As.reverse ++ rest)) y (As) rest := IV.statW hx hown (hts _ w1) (hts _ w2) (hts _ wi) (hts _ wc) ⟨hy.1, hy.2.1⟩ rfl (len_of hy.2.2) rfl hd
  refine IV.backW (D := D) (sz := sz) hI (hM D sz) ⟨hts, wc, wi⟩ hK hsz hR hS rfl (by rw [hml]; exact hls.1) (by show 2 * 0 + _ ≤ Wd; omega) hd hrm.1 hrm.2 hrc.1 hrc.2 (fun H1 locs1 h1 h2 => ?_)
  exact kk H1 locs1 ls h1 h2 hls
end
section
variable {Γ : Ctx} {cc : ByteArray} {own : String} {R0 : Room} {σ σ' : St} {k n pc : Nat} {lv lv' : List (Nat × Value)} {st st' rest : List Value} {b c idx kc ks nl : Nat} {r : vw_C} {y : MethodName} {cb : ByteArray} {ret : Option FieldType} {rm : Room} {As : List Value} {x : Nat}
theorem r_tVL (X : Cx Γ cc own R0) (hM : ∀ D sz, Mt (lOf Γ) y cb nl ret rm D sz σ (.ref b :: As) (.threw x) σ' kc ks) (hcl : cL σ b = some c) (hc : CL[c]? = some r) (w2 : Cond.instanceMethod y ∈ lw_all) (w3 : Cond.selects r.1 y y ∈ lw_all) (w1 : Cond.methodLink own idx y ∈ lw_all) (wi : Cond.initialized y.cls ∈ lw_all) (wc : Cond.code y cb nl ret ∈ lw_all)
    {nA : Nat} (hy : y.cls ≠ "java/lang/invoke/MethodHandle" ∧ y.cls ≠ "java/lang/invoke/VarHandle" ∧ (parseMethodDescriptor y.desc).map (fun d => d.parameters.length) = some nA) (hnA : As.length = nA) (hd : decode cc pc = .ok (.invokevirtual idx, 3)) (hst : As.reverse ++ .ref b :: rest = st) {Wd : Nat} (hW : (rest.map fun v => v.category).sum ≤ Wd) (hrm : rm.frames + 1 ≤ R0.frames ∧ Wd + (nl + 11) + rm.locals ≤ R0.locals) (hrc : k + rm.cells ≤ R0.cells ∧ n + rm.slots ≤ R0.slots)
    (kk : VT Γ σ' (k + kc) (n + ks) pc lv x) : V Γ σ k n pc lv st := by
  subst hnA
  obtain ⟨p, l, e, R, s, m, args, below, meth, cd, Q, D, sz, nL⟩ := Γ
  obtain ⟨hx, hb, hml, hown, hts, hK, hsz, hR0, hlk⟩ := X
  intro H locs ls hR hS hls
  subst hR0
  subst hb
  subst hst
  obtain ⟨cellB, c1, c2, c3⟩ := zz_recv hK hR hcl hc
  have hI : IV p l e R s m args below meth cd H locs k n (F0 m pc ls (As.reverse ++ .ref b :: rest)) y (.ref b :: As) rest := IV.virt hx hown (hts _ w1) (hts _ w2) (hts _ w3) (hts _ wc) ⟨hy.1, hy.2.1⟩ c1 c2 c3 rfl (len_of hy.2.2) rfl hd
  refine IV.thr (D := D) (sz := sz) hI (hM D sz) ⟨hts, wc, wi⟩ hK hsz hR hS rfl (by rw [hml]; exact hls.1) (by show 2 * 0 + _ ≤ Wd; omega) hd hrm.1 hrm.2 hrc.1 hrc.2 (fun H1 locs1 h1 h2 => ?_)
  exact kk H1 locs1 ls rest h1 h2 hls
end
