/-! calls of methods with a handler (turned from parts 27, 28) -/
set_option maxRecDepth 100000
def CwW (s : State) (args : Array Value) (y : MethodName) (bytes : ByteArray) (maxL : Nat) (ret : Option FieldType) (hh : HT) : Prop := (∀ w ∈ lw_all, w.before args s = true) ∧ Cond.codeWith y bytes maxL ret hh ∈ lw_all ∧ Cond.initialized y.cls ∈ lw_all
section
variable {p : Program} {l : Launch} {e : Env} {R : Room} {s : State} {m : MethodId} {args : Array Value} {below : List Frame} {meth : Method} {c : Code} {H : Heap} {locs : List Loc} {k n : Nat} {Q : State → Prop}
variable {own C : String} {index : Nat} {y : MethodName} {bytes : ByteArray} {maxL : Nat} {ret : Option FieldType} {g : JFrame} {b : Nat} {As rest : List Value}
theorem IV.virtW {hh : HT} (hexec : p.tables.exec = Jvm.exec) (hown : s.vm.findClass own = some m.cls) (hlink : (Cond.methodLink own index y).before args s = true) (hinst : (Cond.instanceMethod y).before args s = true) (hsel : (Cond.selects C y y).before args s = true)
    (hcode : (Cond.codeWith y bytes maxL ret hh).before args s = true) (hy : y.cls ≠ "java/lang/invoke/MethodHandle" ∧ y.cls ≠ "java/lang/invoke/VarHandle")
    {cellB : Cell} (hcell : H[b]? = some cellB) (hobj : cellB.vm.isStatics = false) (hcls : s.vm.findClass C = some cellB.cls)
    (hg : g.method = m) (hlen : ∀ sig, parseMethodDescriptor y.desc = some sig → As.length = sig.parameters.length)
    (hstack : g.stack = As.reverse ++ .ref b :: rest) (hdg : decode c.code g.pc = .ok (.invokevirtual index, 3)) : IV p l e R s m args below meth c H locs k n g y (.ref b :: As) rest := by
  intro T hT X
  obtain ⟨mk, methM, hnamed, hmethM, hstM, habM⟩ := Cond.instanceMethod_spec hinst
  obtain ⟨m9, methM', cM, hn9, hmethM', -, -, -, -, -, -, hsigM⟩ := Cond.codeWith_spec hcode
  cases hnamed.symm.trans hn9
  cases hmethM.symm.trans hmethM'
  obtain ⟨c2, r2, m2, q1, q2, q3, q4, kP, hkP, hkPi⟩ := Cond.selects_spec hsel
  cases hcls.symm.trans q1
  cases (State.methodFound?_of_named hnamed hy).symm.trans q2
  cases hnamed.symm.trans q3
  have hselP : selectMethod e.platform s.vm cellB.cls mk = .method mk := by rw [Launch.admits_selectMethod X.admits]; exact q4
  obtain ⟨vm₁, X₁, hstep₁⟩ := X.invokevirtual hexec hown hlink hnamed hmethM hstM hkP hkPi hy (a := b) (cell := cellB) (by rw [hT]; exact hcell)
    (fun z h => by rw [h] at hobj; cases hobj) hselP hmethM habM hkP hkPi (g := g) hg (argsL := As) (rest := rest) (hlen _ hsigM) hstack hdg
  exact ⟨mk, vm₁, X₁.warmed, X₁, X₁.named hnamed, fun target h => hstep₁ _ fun acts => by rw [doInvoke_state]; exact h⟩
theorem IV.statW {hh : HT} (hexec : p.tables.exec = Jvm.exec) (hown : s.vm.findClass own = some m.cls) (hlink : (Cond.methodLink own index y).before args s = true) (hstat : (Cond.static y).before args s = true) (hinit : (Cond.initialized y.cls).before args s = true)
    (hcode : (Cond.codeWith y bytes maxL ret hh).before args s = true) (hy : y.cls ≠ "java/lang/invoke/MethodHandle" ∧ y.cls ≠ "java/lang/invoke/VarHandle")
    (hg : g.method = m) (hlen : ∀ sig, parseMethodDescriptor y.desc = some sig → As.length = sig.parameters.length)
    (hstack : g.stack = As.reverse ++ rest) (hdg : decode c.code g.pc = .ok (.invokestatic index, 3)) : IV p l e R s m args below meth c H locs k n g y As rest := by
  intro T hT X
  obtain ⟨mk, methM, cM, hnamed, hmethM, -, -, -, -, -, -, hsigM⟩ := Cond.codeWith_spec hcode
  have hstatic : methM.isStatic = true := Cond.static_spec hnamed hmethM hstat
  obtain ⟨kP, hkP, -⟩ := className_of_methodNamed hnamed
  have hinitP : kP.init = .initialized := Cond.initialized_spec (findClass_of_methodNamed hnamed) hkP hinit
  obtain ⟨vm₁, X₁, hstep₁⟩ := X.invokestatic hexec hown hlink hnamed hmethM hstatic hkP hinitP hy (g := g) hg (argsL := As) (rest := rest) (hlen _ hsigM) hstack hdg
  exact ⟨mk, vm₁, X₁.warmed, X₁, X₁.named hnamed, fun target h => hstep₁ _ fun acts => by rw [doInvoke_state]; exact h⟩
theorem IV.backW {hh : HT} {D : DD} {sz : Nat} {σ σ' : St} {rm : Room} {kc ks : Nat} {av : List Value} {v : Option Value} {ig : Instr} {Wd : Nat} (hI : IV p l e R s m args below meth c H locs k n g y av rest) (hM : MtW l y bytes maxL ret hh rm D sz σ av (.returned v) σ' kc ks) (hcw : CwW s args y bytes maxL ret hh) (hK : KB D s) (hsz : SZ sz s) (hR : Rep D sz σ H) (hS : va_S (fun q => sz ≤ q) s.heap H locs)
    (hg : g.method = m) (hsize : g.locals.size = c.maxLocals) (hW : 2 * g.monitorRoom + (rest.map fun v => v.category).sum ≤ Wd) (hdg : decode c.code g.pc = .ok (ig, 3)) (hfr : rm.frames + 1 ≤ R.frames) (hlo : Wd + (maxL + 11) + rm.locals ≤ R.locals) (hce : k + rm.cells ≤ R.cells) (hsl : n + rm.slots ≤ R.slots)
    (kk : ∀ (H1 : Heap) (locs1 : List Loc), Rep D sz σ' H1 → va_S (fun q => sz ≤ q) s.heap H1 locs1 → W p l e R s m args below meth c H1 locs1 (k + kc) (n + ks) Q { g with pc := g.pc + 3, stack := v.toList ++ rest }) : W p l e R s m args below meth c H locs k n Q g := by
  have hB : Back l R p e below s args y 3 Wd (fun A a => a = av.toArray ∧ Rep D sz σ A.U.heap ∧ SZ sz A.U ∧ A.cells + rm.cells ≤ R.cells ∧ A.slots + rm.slots ≤ R.slots)
      (fun A a v' B => v' = v ∧ Rep D sz σ' B.U.heap ∧ (∀ q, q < sz → B.U.heap[q]? = A.U.heap[q]?) ∧ A.U.heap.size ≤ B.U.heap.size ∧ ∃ L, B.locs = A.locs ++ L ∧ (∀ q ∈ L, sz ≤ q.base) ∧ B.cells = A.cells + kc ∧ B.slots = A.slots + ks) := by
    refine va_ofFreeW (hh := hh) (bytes := bytes) (maxL := maxL) (ret := ret) (E := fun a st o t L k n => k = kc ∧ n = ks ∧ ∀ q ∈ L, sz ≤ q.base) hM hfr hlo ?_ ?_ (fun _ _ _ _ _ _ _ _ _ => trivial) ?_ ?_
    · intro m meth c A a X hp
      have hws : ∀ w ∈ wsW_ y bytes maxL ret hh, w.before a A.U = true := fun w hw => pay_in hcw.1 (lw_methW hcw.2.1) w hw a A.U X.warmed
      exact ⟨atoms_intro hws, hws _ List.mem_cons_self, pay_in hcw.1 (lw_good (ws := [Cond.initialized y.cls]) (fun w h => by rw [List.mem_singleton.mp h]; exact hcw.2.2)) _ List.mem_cons_self a A.U X.warmed, hp.2.2.2.1, hp.2.2.2.2⟩
    · intro m meth c A a g mk X hp
      exact ⟨hp.1, hp.2.1, (KB.warm (U := A.U.calling g mk a) X.warmed hK), hp.2.2.1.same rfl (Vm.Alike.refl _)⟩
    · intro a first o t hq
      obtain ⟨rfl, h1, h2, L, h3, h4⟩ := hq
      exact ⟨L, kc, ks, ⟨⟨_, rfl⟩, h3⟩, rfl, rfl, h4⟩
    · intro m meth c A a g mk v' t L k n X hp hq hF hE
      obtain ⟨e1, h1, h2, -⟩ := hq
      obtain ⟨rfl, rfl, h4⟩ := hE
      refine ⟨Outcome.returned.inj e1, h1, h2, ?_, L, rfl, h4, rfl, rfl⟩
      have := hF.2.2.2.1
      exact this
  intro T hT X
  obtain ⟨mk, vm₁, hW₁, X₁, hnm, hst⟩ := hI T hT X
  obtain ⟨v', B, X', ⟨rfl, h1, h2, h3, L, h4, h5, h6, h7⟩, hsteps⟩ := hB m meth c ⟨T.setVm vm₁, locs, k, n⟩ { g with stack := rest } ig mk av.toArray X₁ hg hsize hdg hW hnm ⟨rfl, by show Rep D sz σ T.heap; rw [hT]; exact hR, hsz.call hS hT hW₁.alike, hce, hsl⟩
  obtain ⟨U', l2, c2, s2⟩ := B
  dsimp only [Pt.U, Pt.locs, Pt.cells, Pt.slots] at X' h1 h2 h3 h4 h6 h7 hsteps
  subst h4; subst h6; subst h7
  have hTh : (T.setVm vm₁).heap = H := hT
  rw [hTh] at h2 h3
  obtain ⟨t2, a1, b1⟩ := kk U'.heap (locs ++ L) h1 ⟨Nat.le_trans hS.1 h3, fun q q1 q2 => by rw [h2 q (by omega)]; exact hS.2.1 q q1 q2, fun q hq => by
    rcases List.mem_append.mp hq with h | h
    · exact hS.2.2 q h
    · exact h5 q h⟩ U' rfl X'
  exact ⟨t2, hst t2 (hsteps.trans a1), b1⟩
end
section
variable {Γ : Ctx} {cc : ByteArray} {own : String} {R0 : Room} {σ σ' : St} {k n pc : Nat} {lv lv' : List (Nat × Value)} {st st' rest : List Value} {b c idx kc ks nl : Nat} {r : vw_C} {y : MethodName} {cb : ByteArray} {ret : Option FieldType} {rm : Room} {As : List Value} {v : Option Value}
theorem r_cVW {hh : HT} (X : Cx Γ cc own R0) (hM : ∀ l D sz, MtW l y cb nl ret hh rm D sz σ (.ref b :: As) (.returned v) σ' kc ks) (hcl : cL σ b = some c) (hc : CL[c]? = some r) (w2 : Cond.instanceMethod y ∈ lw_all) (w3 : Cond.selects r.1 y y ∈ lw_all) (w1 : Cond.methodLink own idx y ∈ lw_all) (wi : Cond.initialized y.cls ∈ lw_all) (wc : Cond.codeWith y cb nl ret hh ∈ lw_all) {nA : Nat} (hy : y.cls ≠ "java/lang/invoke/MethodHandle" ∧ y.cls ≠ "java/lang/invoke/VarHandle" ∧ (parseMethodDescriptor y.desc).map (fun d => d.parameters.length) = some nA) (hnA : As.length = nA) (hd : decode cc pc = .ok (.invokevirtual idx, 3)) (hst : As.reverse ++ .ref b :: rest = st) (hst2 : v.toList ++ rest = st') {Wd : Nat} (hW : (rest.map fun v => v.category).sum ≤ Wd) (hrm : rm.frames + 1 ≤ R0.frames ∧ Wd + (nl + 11) + rm.locals ≤ R0.locals) (hrc : k + rm.cells ≤ R0.cells ∧ n + rm.slots ≤ R0.slots)
    (kk : V Γ σ' (k + kc) (n + ks) (pc + 3) lv st') : V Γ σ k n pc lv st := by
  subst hnA
  obtain ⟨p, l, e, R, s, m, args, below, meth, cd, Q, D, sz, nL⟩ := Γ
  obtain ⟨hx, hb, hml, hown, hts, hK, hsz, hR0, hlk⟩ := X
  intro H locs ls hR hS hls
  subst hR0
  subst hb
  subst hst; subst hst2
  obtain ⟨cellB, c1, c2, c3⟩ := zz_recv hK hR hcl hc
  have hI : IV p l e R s m args below meth cd H locs k n (F0 m pc ls (As.reverse ++ .ref b :: rest)) y (.ref b :: As) rest := IV.virtW hx hown (hts _ w1) (hts _ w2) (hts _ w3) (hts _ wc) ⟨hy.1, hy.2.1⟩ c1 c2 c3 rfl (len_of hy.2.2) rfl hd
  refine IV.backW (D := D) (sz := sz) hI (hM l D sz) ⟨hts, wc, wi⟩ hK hsz hR hS rfl (by rw [hml]; exact hls.1) (by show 2 * 0 + _ ≤ Wd; omega) hd hrm.1 hrm.2 hrc.1 hrc.2 (fun H1 locs1 h1 h2 => ?_)
  exact kk H1 locs1 ls h1 h2 hls
theorem r_cSW {hh : HT} (X : Cx Γ cc own R0) (hM : ∀ l D sz, MtW l y cb nl ret hh rm D sz σ (As) (.returned v) σ' kc ks) (w2 : Cond.static y ∈ lw_all) (w1 : Cond.methodLink own idx y ∈ lw_all) (wi : Cond.initialized y.cls ∈ lw_all) (wc : Cond.codeWith y cb nl ret hh ∈ lw_all) {nA : Nat} (hy : y.cls ≠ "java/lang/invoke/MethodHandle" ∧ y.cls ≠ "java/lang/invoke/VarHandle" ∧ (parseMethodDescriptor y.desc).map (fun d => d.parameters.length) = some nA) (hnA : As.length = nA) (hd : decode cc pc = .ok (.invokestatic idx, 3)) (hst : As.reverse ++ rest = st) (hst2 : v.toList ++ rest = st') {Wd : Nat} (hW : (rest.map fun v => v.category).sum ≤ Wd) (hrm : rm.frames + 1 ≤ R0.frames ∧ Wd + (nl + 11) + rm.locals ≤ R0.locals) (hrc : k + rm.cells ≤ R0.cells ∧ n + rm.slots ≤ R0.slots)
    (kk : V Γ σ' (k + kc) (n + ks) (pc + 3) lv st') : V Γ σ k n pc lv st := by
  subst hnA
  obtain ⟨p, l, e, R, s, m, args, below, meth, cd, Q, D, sz, nL⟩ := Γ
  obtain ⟨hx, hb, hml, hown, hts, hK, hsz, hR0, hlk⟩ := X
  intro H locs ls hR hS hls
  subst hR0
  subst hb
  subst hst; subst hst2
  have hI : IV p l e R s m args below meth cd H locs k n (F0 m pc ls (As.reverse ++ rest)) y (As) rest := IV.statW hx hown (hts _ w1) (hts _ w2) (hts _ wi) (hts _ wc) ⟨hy.1, hy.2.1⟩ rfl (len_of hy.2.2) rfl hd
  refine IV.backW (D := D) (sz := sz) hI (hM l D sz) ⟨hts, wc, wi⟩ hK hsz hR hS rfl (by rw [hml]; exact hls.1) (by show 2 * 0 + _ ≤ Wd; omega) hd hrm.1 hrm.2 hrc.1 hrc.2 (fun H1 locs1 h1 h2 => ?_)
  exact kk H1 locs1 ls h1 h2 hls
end
