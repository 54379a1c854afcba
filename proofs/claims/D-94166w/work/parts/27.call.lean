/-! contracts, ends, calls -/
set_option maxRecDepth 100000
/-- the end that is asked -/
def EQ (below : List Frame) (s : State) (D : DD) (sz : Nat) (o : Outcome) (σ' : St) (kc ks : Nat) : State → Prop := fun t =>
  t.status = .running ∧ Ended t below o ∧ Rep D sz σ' t.heap ∧ (∀ q, q < sz → t.heap[q]? = s.heap[q]?) ∧ ∃ L, (s.WarmedH t.vm ∧ s.sameButNew ({ t with vm := s.vm } : State) L kc ks) ∧ ∀ q ∈ L, sz ≤ q.base
/-- a method's contract: from the state σ with the arguments av it comes to the outcome o and the state σ', with at most kc new cells of ks slots -/
def Mt (l : Launch) (y : MethodName) (cb : ByteArray) (nl : Nat) (ret : Option FieldType) (rm : Room) (D : DD) (sz : Nat) (σ : St) (av : List Value) (o : Outcome) (σ' : St) (kc ks : Nat) : Prop :=
  MetFree l y (headSpec (ws_ y cb nl ret) rm) (fun a U => a = av.toArray ∧ Rep D sz σ U.heap ∧ KB D U ∧ SZ sz U) (fun _ _ _ _ _ => True)
    (fun _ st oc t => oc = o ∧ Rep D sz σ' t.heap ∧ (∀ q, q < sz → t.heap[q]? = st.heap[q]?) ∧ ∃ L, (st.WarmedH t.vm ∧ st.sameButNew ({ t with vm := st.vm } : State) L kc ks) ∧ ∀ q ∈ L, sz ≤ q.base)
def Rt (Γ : Ctx) (ret : Option FieldType) (o : Outcome) (σ' : St) (kc ks : Nat) : Prop := match Γ with
  | (p, l, e, R, s, m, args, below, meth, c, Q, D, sz, nL) => meth.sig.returnType = ret ∧ Q = EQ below s D sz o σ' kc ks
/-- no handlers -/
def noH (Γ : Ctx) : Prop := match Γ with
  | (p, l, e, R, s, m, args, below, meth, c, Q, D, sz, nL) => c.exceptionTable.isEmpty = true
theorem Mt.of {l : Launch} {y : MethodName} {cb : ByteArray} {nl : Nat} {ret : Option FieldType} {rm : Room} {D : DD} {sz : Nat} {σ : St} {av : List Value} {o : Outcome} {σ' : St} {kc ks : Nat} (hy : plainFor y = true) (hnl : (lg_sl av).length ≤ nl)
    (body : ∀ Γ : Ctx, Cx Γ cb y.cls rm → Rt Γ ret o σ' kc ks → nLc Γ = nl → (y.name = "<init>" → isIni Γ) → noH Γ → V Γ σ 0 0 0 (lv_args 0 av) []) : Mt l y cb nl ret rm D sz σ av o σ' kc ks := by
  refine MetFree.of_bodySF (code := cb) (maxLocals := nl) (ret := ret) hy ?_ ?_
  · intro args s m h hn
    obtain ⟨meth, c, h1, h2, h3, h4, h5, h6, -, -⟩ := Cond.code_spec hn (atoms_spec (ws := ws_ y cb nl ret) h _ List.mem_cons_self)
    exact ⟨meth, c, h1, h2, h3, h4, h5, h6⟩
  · intro p e s m args below meth c s₁ B hml hP _
    obtain ⟨rfl, hRep, hKB, hszs⟩ := hP
    have hh0 : s₁.heap = s.heap := by rw [B.state]; rfl
    have hts := atoms_spec (ws := ws_ y cb nl ret) B.pre
    have hno := B.noHandlers (hts _ List.mem_cons_self)
    have K := body (p, l, e, rm, s, m, av.toArray, below, meth, c, EQ below s D sz o σ' kc ks, D, sz, nl) ⟨B.exec, B.bytes, hml, findClass_of_methodNamed B.named, fun w h => hts w (List.mem_cons_of_mem _ h), hKB, hszs, rfl, B.notSynchronized⟩ ⟨B.returns, rfl⟩ rfl (fun q => by show meth.name = "<init>"; rw [← q]; exact (name_of_methodNamed B.named B.method).1) hno
    have hl := lv_entry av (n := nl) hnl
    obtain ⟨t, a1, b1, b2, b3, b4, b5⟩ := K s.heap [] _ hRep va_S.rf hl s₁ hh0 (Stand.of_body B)
    refine ⟨t, o, ?_, b1, b2, rfl, b3, b4, b5⟩
    rw [lg_entry_eq]
    exact a1
theorem W.mono {p : Program} {l : Launch} {e : Env} {R : Room} {s : State} {m : MethodId} {args : Array Value} {below : List Frame} {meth : Method} {c : Code} {H : Heap} {locs : List Loc} {k n : Nat} {Q Q' : State → Prop} {g : JFrame} (h : ∀ t, Q t → Q' t) (w : W p l e R s m args below meth c H locs k n Q g) : W p l e R s m args below meth c H locs k n Q' g := by
  intro T hT X
  obtain ⟨t, a, b⟩ := w T hT X
  exact ⟨t, a, h t b⟩
theorem EQ.of {below : List Frame} {args : Array Value} {s : State} {D : DD} {sz : Nat} {o : Outcome} {σ' : St} {kc ks : Nat} {t : State} (h : MQ below (fun _ st oc t => oc = o ∧ Rep D sz σ' t.heap ∧ ∀ q, q < sz → t.heap[q]? = st.heap[q]?) args s kc ks (fun q => sz ≤ q) t) : EQ below s D sz o σ' kc ks t := by
  obtain ⟨o', h1, h2, ⟨rfl, h3, h4⟩, L, h5, h6⟩ := h
  exact ⟨h1, h2, h3, h4, L, h5.2, h6⟩
section
variable {Γ : Ctx} {cc : ByteArray} {own : String} {R0 : Room} {σ : St} {k n pc : Nat} {lv lv' : List (Nat × Value)} {st rest : List Value}
theorem low_kept {D : DD} {sz : Nat} {s t : State} {H : Heap} {locs : List Loc} (hsz : sz ≤ s.heap.size) (hS : va_S (fun q => sz ≤ q) s.heap H locs) (ht : t.heap = H) : ∀ q, q < sz → t.heap[q]? = s.heap[q]? := by
  intro q hq
  rw [ht]
  exact hS.2.1 q (by omega) (by omega)
theorem r_iret {x : Int} (X : Cx Γ cc own R0) (hr : Rt Γ (some .int) (.returned (some (iv x))) σ k n) (hd : decode cc pc = .ok (.ireturn, 1)) : V Γ σ k n pc lv [iv x] := by
  obtain ⟨p, l, e, R, s, m, args, below, meth, c, Q, D, sz, nL⟩ := Γ
  obtain ⟨hx, hb, hml, hown, hts, hK, hsz, hR0, hlk⟩ := X
  obtain ⟨hr1, hr2⟩ := hr
  subst hr2
  intro H locs ls hR hS hl
  exact W.mono (fun t ht => EQ.of (args := args) ht) (W.iret hx hb hr1 (fun t ht _ => ⟨rfl, by rw [ht]; exact hR, low_kept (D := D) hsz.1 hS ht⟩) hS.2.2 hd hlk)
/-- of a boolean: 0 or 1 -/
theorem r_zret {x : Int} (X : Cx Γ cc own R0) (hr : Rt Γ (some .boolean) (.returned (some (iv x))) σ k n) (h01 : x = 0 ∨ x = 1) (hd : decode cc pc = .ok (.ireturn, 1)) : V Γ σ k n pc lv [iv x] := by
  obtain ⟨p, l, e, R, s, m, args, below, meth, c, Q, D, sz, nL⟩ := Γ
  obtain ⟨hx, hb, hml, hown, hts, hK, hsz, hR0, hlk⟩ := X
  obtain ⟨hr1, hr2⟩ := hr
  subst hr2
  intro H locs ls hR hS hl
  exact W.mono (fun t ht => EQ.of (args := args) ht) (W.zret hx hb hr1 (by rcases h01 with q | q <;> subst q <;> rfl) (fun t ht _ => ⟨rfl, by rw [ht]; exact hR, low_kept (D := D) hsz.1 hS ht⟩) hS.2.2 hd hlk)
theorem r_lret {x : Int} (X : Cx Γ cc own R0) (hr : Rt Γ (some .long) (.returned (some (jv x))) σ k n) (hd : decode cc pc = .ok (.lreturn, 1)) : V Γ σ k n pc lv [jv x] := by
  obtain ⟨p, l, e, R, s, m, args, below, meth, c, Q, D, sz, nL⟩ := Γ
  obtain ⟨hx, hb, hml, hown, hts, hK, hsz, hR0, hlk⟩ := X
  obtain ⟨hr1, hr2⟩ := hr
  subst hr2
  intro H locs ls hR hS hl
  exact W.mono (fun t ht => EQ.of (args := args) ht) (W.lret hx hb hr1 (fun t ht _ => ⟨rfl, by rw [ht]; exact hR, low_kept (D := D) hsz.1 hS ht⟩) hS.2.2 hd hlk)
theorem r_aret {q : Option Nat} {C : String} (X : Cx Γ cc own R0) (hr : Rt Γ (some (.object C)) (.returned (some (va_rf q))) σ k n) (hd : decode cc pc = .ok (.areturn, 1)) : V Γ σ k n pc lv [va_rf q] := by
  obtain ⟨p, l, e, R, s, m, args, below, meth, c, Q, D, sz, nL⟩ := Γ
  obtain ⟨hx, hb, hml, hown, hts, hK, hsz, hR0, hlk⟩ := X
  obtain ⟨hr1, hr2⟩ := hr
  subst hr2
  intro H locs ls hR hS hl
  exact W.mono (fun t ht => EQ.of (args := args) ht) (W.aret hx hb hr1 (Or.inl ⟨C, rfl⟩) (by cases q; exact Or.inl rfl; exact Or.inr ⟨_, rfl⟩) (fun t ht _ => ⟨rfl, by rw [ht]; exact hR, low_kept (D := D) hsz.1 hS ht⟩) hS.2.2 hd hlk)
theorem r_vret (X : Cx Γ cc own R0) (hr : Rt Γ none (.returned none) σ k n) (hd : decode cc pc = .ok (.return_, 1)) : V Γ σ k n pc lv [] := by
  obtain ⟨p, l, e, R, s, m, args, below, meth, c, Q, D, sz, nL⟩ := Γ
  obtain ⟨hx, hb, hml, hown, hts, hK, hsz, hR0, hlk⟩ := X
  obtain ⟨hr1, hr2⟩ := hr
  subst hr2
  intro H locs ls hR hS hl
  exact W.mono (fun t ht => EQ.of (args := args) ht) (W.vret hx hb hr1 (fun t ht _ => ⟨rfl, by rw [ht]; exact hR, low_kept (D := D) hsz.1 hS ht⟩) hS.2.2 hd hlk)
/-- Object's constructor -/
theorem r_objInit {a idx : Nat} (X : Cx Γ cc own R0) (h1 : Cond.methodLink own idx Lib.objectInit ∈ lw_all) (h2 : Cond.instanceMethod Lib.objectInit ∈ lw_all) (h3 : Cond.code Lib.objectInit ⟨#[0xb1]⟩ 1 none ∈ lw_all) (hd : decode cc pc = .ok (.invokespecial idx, 3)) (hf : 1 ≤ R0.frames) (hlo : (rest.map fun v => v.category).sum + 12 ≤ R0.locals)
    (kk : V Γ σ k n (pc + 3) lv rest) : V Γ σ k n pc lv (.ref a :: rest) := by
  obtain ⟨p, l, e, R, s, m, args, below, meth, c, Q, D, sz, nL⟩ := Γ
  obtain ⟨hx, hb, hml, hown, hts, hK, hsz, hR0, hlk⟩ := X
  intro H locs ls hR hS hl
  subst hR0
  exact W.objInit hx hb hown (hts _ h1) (hts _ h2) (hts _ h3) rfl (by rw [hml]; exact hl.1) rfl hd hf (by show 2 * 0 + _ + 12 ≤ _; omega) (kk H locs ls hR hS hl)
end
/-! the machine enters a callee -/
def IV (p : Program) (l : Launch) (e : Env) (R : Room) (s : State) (m : MethodId) (args : Array Value) (below : List Frame) (meth : Method) (c : Code) (H : Heap) (locs : List Loc) (k n : Nat) (g : JFrame) (y : MethodName) (av rest : List Value) : Prop :=
  ∀ T : State, T.heap = H → Stand p l e R s m args below meth c T locs k n → ∃ (mk : MethodId) (vm₁ : Vm), s.WarmedH vm₁ ∧ Stand p l e R s m args below meth c (T.setVm vm₁) locs k n ∧ (T.setVm vm₁).methodNamed? y = some mk ∧
    ∀ target, Steps p.tables e below (doInvoke e ((T.setVm vm₁).setTop { g with stack := rest }) [] mk av.toArray).1 target → Steps p.tables e below (T.setTop g) target
section
variable {p : Program} {l : Launch} {e : Env} {R : Room} {s : State} {m : MethodId} {args : Array Value} {below : List Frame} {meth : Method} {c : Code} {H : Heap} {locs : List Loc} {k n : Nat} {Q : State → Prop}
variable {own C : String} {index : Nat} {y : MethodName} {bytes : ByteArray} {maxL : Nat} {ret : Option FieldType} {g : JFrame} {b : Nat} {As rest : List Value}
theorem IV.virt (hexec : p.tables.exec = Jvm.exec) (hown : s.vm.findClass own = some m.cls) (hlink : (Cond.methodLink own index y).before args s = true) (hinst : (Cond.instanceMethod y).before args s = true) (hsel : (Cond.selects C y y).before args s = true)
    (hcode : (Cond.code y bytes maxL ret).before args s = true) (hy : y.cls ≠ "java/lang/invoke/MethodHandle" ∧ y.cls ≠ "java/lang/invoke/VarHandle")
    {cellB : Cell} (hcell : H[b]? = some cellB) (hobj : cellB.vm.isStatics = false) (hcls : s.vm.findClass C = some cellB.cls)
    (hg : g.method = m) (hlen : ∀ sig, parseMethodDescriptor y.desc = some sig → As.length = sig.parameters.length)
    (hstack : g.stack = As.reverse ++ .ref b :: rest) (hdg : decode c.code g.pc = .ok (.invokevirtual index, 3)) : IV p l e R s m args below meth c H locs k n g y (.ref b :: As) rest := by
  intro T hT X
  obtain ⟨mk, methM, hnamed, hmethM, hstM, habM⟩ := Cond.instanceMethod_spec hinst
  obtain ⟨methM', cM, hmethM', -, -, -, -, -, -, hsigM⟩ := Cond.code_spec hnamed hcode
  cases hmethM.symm.trans hmethM'
  obtain ⟨c2, r2, m2, q1, q2, q3, q4, kP, hkP, hkPi⟩ := Cond.selects_spec hsel
  cases hcls.symm.trans q1
  cases (State.methodFound?_of_named hnamed hy).symm.trans q2
  cases hnamed.symm.trans q3
  have hselP : selectMethod e.platform s.vm cellB.cls mk = .method mk := by rw [Launch.admits_selectMethod X.admits]; exact q4
  obtain ⟨vm₁, X₁, hstep₁⟩ := X.invokevirtual hexec hown hlink hnamed hmethM hstM hkP hkPi hy (a := b) (cell := cellB) (by rw [hT]; exact hcell)
    (fun z h => by rw [h] at hobj; cases hobj) hselP hmethM habM hkP hkPi (g := g) hg (argsL := As) (rest := rest) (hlen _ hsigM) hstack hdg
  exact ⟨mk, vm₁, X₁.warmed, X₁, X₁.named hnamed, fun target h => hstep₁ _ fun acts => by rw [doInvoke_state]; exact h⟩
theorem IV.virtN {host : String} (hexec : p.tables.exec = Jvm.exec) (hown : s.vm.findClass own = some m.cls) (hlink : (Cond.methodLinkNest own index y host).before args s = true) (hinst : (Cond.instanceMethod y).before args s = true) (hsel : (Cond.selects C y y).before args s = true)
    (hcode : (Cond.code y bytes maxL ret).before args s = true) (hy : y.cls ≠ "java/lang/invoke/MethodHandle" ∧ y.cls ≠ "java/lang/invoke/VarHandle")
    {cellB : Cell} (hcell : H[b]? = some cellB) (hobj : cellB.vm.isStatics = false) (hcls : s.vm.findClass C = some cellB.cls)
    (hg : g.method = m) (hlen : ∀ sig, parseMethodDescriptor y.desc = some sig → As.length = sig.parameters.length)
    (hstack : g.stack = As.reverse ++ .ref b :: rest) (hdg : decode c.code g.pc = .ok (.invokevirtual index, 3)) : IV p l e R s m args below meth c H locs k n g y (.ref b :: As) rest := by
  intro T hT X
  obtain ⟨mk, methM, hnamed, hmethM, hstM, habM⟩ := Cond.instanceMethod_spec hinst
  obtain ⟨methM', cM, hmethM', -, -, -, -, -, -, hsigM⟩ := Cond.code_spec hnamed hcode
  cases hmethM.symm.trans hmethM'
  obtain ⟨c2, r2, m2, q1, q2, q3, q4, kP, hkP, hkPi⟩ := Cond.selects_spec hsel
  cases hcls.symm.trans q1
  cases (State.methodFound?_of_named hnamed hy).symm.trans q2
  cases hnamed.symm.trans q3
  have hselP : selectMethod e.platform s.vm cellB.cls mk = .method mk := by rw [Launch.admits_selectMethod X.admits]; exact q4
  obtain ⟨vm₁, X₁, hstep₁⟩ := X.invokevirtualNest hexec hown hlink hnamed hmethM hstM hkP hkPi hy (a := b) (cell := cellB) (by rw [hT]; exact hcell)
    (fun z h => by rw [h] at hobj; cases hobj) hselP hmethM habM hkP hkPi (g := g) hg (argsL := As) (rest := rest) (hlen _ hsigM) hstack hdg
  exact ⟨mk, vm₁, X₁.warmed, X₁, X₁.named hnamed, fun target h => hstep₁ _ fun acts => by rw [doInvoke_state]; exact h⟩
theorem IV.stat (hexec : p.tables.exec = Jvm.exec) (hown : s.vm.findClass own = some m.cls) (hlink : (Cond.methodLink own index y).before args s = true) (hstat : (Cond.static y).before args s = true) (hinit : (Cond.initialized y.cls).before args s = true)
    (hcode : (Cond.code y bytes maxL ret).before args s = true) (hy : y.cls ≠ "java/lang/invoke/MethodHandle" ∧ y.cls ≠ "java/lang/invoke/VarHandle")
    (hg : g.method = m) (hlen : ∀ sig, parseMethodDescriptor y.desc = some sig → As.length = sig.parameters.length)
    (hstack : g.stack = As.reverse ++ rest) (hdg : decode c.code g.pc = .ok (.invokestatic index, 3)) : IV p l e R s m args below meth c H locs k n g y As rest := by
  intro T hT X
  obtain ⟨mk, hnamed⟩ := Cond.code_named hcode
  obtain ⟨methM, cM, hmethM, -, -, -, -, -, -, hsigM⟩ := Cond.code_spec hnamed hcode
  have hstatic : methM.isStatic = true := Cond.static_spec hnamed hmethM hstat
  obtain ⟨kP, hkP, -⟩ := className_of_methodNamed hnamed
  have hinitP : kP.init = .initialized := Cond.initialized_spec (findClass_of_methodNamed hnamed) hkP hinit
  obtain ⟨vm₁, X₁, hstep₁⟩ := X.invokestatic hexec hown hlink hnamed hmethM hstatic hkP hinitP hy (g := g) hg (argsL := As) (rest := rest) (hlen _ hsigM) hstack hdg
  exact ⟨mk, vm₁, X₁.warmed, X₁, X₁.named hnamed, fun target h => hstep₁ _ fun acts => by rw [doInvoke_state]; exact h⟩
theorem IV.statN {host : String} (hexec : p.tables.exec = Jvm.exec) (hown : s.vm.findClass own = some m.cls) (hlink : (Cond.methodLinkNest own index y host).before args s = true) (hstat : (Cond.static y).before args s = true) (hinit : (Cond.initialized y.cls).before args s = true)
    (hcode : (Cond.code y bytes maxL ret).before args s = true) (hy : y.cls ≠ "java/lang/invoke/MethodHandle" ∧ y.cls ≠ "java/lang/invoke/VarHandle")
    (hg : g.method = m) (hlen : ∀ sig, parseMethodDescriptor y.desc = some sig → As.length = sig.parameters.length)
    (hstack : g.stack = As.reverse ++ rest) (hdg : decode c.code g.pc = .ok (.invokestatic index, 3)) : IV p l e R s m args below meth c H locs k n g y As rest := by
  intro T hT X
  obtain ⟨mk, hnamed⟩ := Cond.code_named hcode
  obtain ⟨methM, cM, hmethM, -, -, -, -, -, -, hsigM⟩ := Cond.code_spec hnamed hcode
  have hstatic : methM.isStatic = true := Cond.static_spec hnamed hmethM hstat
  obtain ⟨kP, hkP, -⟩ := className_of_methodNamed hnamed
  have hinitP : kP.init = .initialized := Cond.initialized_spec (findClass_of_methodNamed hnamed) hkP hinit
  obtain ⟨vm₁, X₁, hstep₁⟩ := X.invokestaticNest hexec hown hlink hnamed hmethM hstatic hkP hinitP hy (g := g) hg (argsL := As) (rest := rest) (hlen _ hsigM) hstack hdg
  exact ⟨mk, vm₁, X₁.warmed, X₁, X₁.named hnamed, fun target h => hstep₁ _ fun acts => by rw [doInvoke_state]; exact h⟩
theorem IV.init (hexec : p.tables.exec = Jvm.exec) (hown : s.vm.findClass own = some m.cls) (hy1 : y.name = "<init>") (hlink : (Cond.methodLink own index y).before args s = true) (hinst : (Cond.instanceMethod y).before args s = true)
    (hcode : (Cond.code y bytes maxL none).before args s = true) (hy : y.cls ≠ "java/lang/invoke/MethodHandle" ∧ y.cls ≠ "java/lang/invoke/VarHandle")
    (hg : g.method = m) (hlen : ∀ sig, parseMethodDescriptor y.desc = some sig → As.length = sig.parameters.length)
    (hstack : g.stack = As.reverse ++ .ref b :: rest) (hdg : decode c.code g.pc = .ok (.invokespecial index, 3)) : IV p l e R s m args below meth c H locs k n g y (.ref b :: As) rest := by
  intro T hT X
  subst hg
  have hpl : e.platform.magicAccessors = ({} : Platform).magicAccessors := by rw [X.admits.platform]
  obtain ⟨mk, methM, cM, kP, vm₁, hnamed, hmethM, hcodeM, -, hlocalsM, -, hkP, -, hW₁, hstep₁⟩ := Steps.initColdArgs (e := e) X.here hexec X.warmed hpl hown hy1 hy hlink hinst hcode (f := g) rfl hlen hstack hdg
  have X₁ := X.noted hW₁
  exact ⟨mk, vm₁, X₁.warmed, X₁, X₁.named hnamed, fun target h => hstep₁ _ fun acts => by rw [doInvoke_state]; exact h⟩
theorem IV.initN {host : String} (hexec : p.tables.exec = Jvm.exec) (hown : s.vm.findClass own = some m.cls) (hy1 : y.name = "<init>") (hlink : (Cond.methodLinkNest own index y host).before args s = true) (hinst : (Cond.instanceMethod y).before args s = true)
    (hcode : (Cond.code y bytes maxL none).before args s = true) (hy : y.cls ≠ "java/lang/invoke/MethodHandle" ∧ y.cls ≠ "java/lang/invoke/VarHandle")
    (hg : g.method = m) (hlen : ∀ sig, parseMethodDescriptor y.desc = some sig → As.length = sig.parameters.length)
    (hstack : g.stack = As.reverse ++ .ref b :: rest) (hdg : decode c.code g.pc = .ok (.invokespecial index, 3)) : IV p l e R s m args below meth c H locs k n g y (.ref b :: As) rest := by
  intro T hT X
  subst hg
  have hpl : e.platform.magicAccessors = ({} : Platform).magicAccessors := by rw [X.admits.platform]
  obtain ⟨mk, methM, cM, kP, vm₁, hnamed, hmethM, hcodeM, -, hlocalsM, -, hkP, -, hW₁, hstep₁⟩ := Steps.initColdArgsNest (e := e) X.here hexec X.warmed hpl hown hy1 hy hlink hinst hcode (f := g) rfl hlen hstack hdg
  have X₁ := X.noted hW₁
  exact ⟨mk, vm₁, X₁.warmed, X₁, X₁.named hnamed, fun target h => hstep₁ _ fun acts => by rw [doInvoke_state]; exact h⟩
/-- what a callee's contract asks of the tables -/
def Cw (s : State) (args : Array Value) (y : MethodName) (bytes : ByteArray) (maxL : Nat) (ret : Option FieldType) : Prop := (∀ w ∈ lw_all, w.before args s = true) ∧ Cond.code y bytes maxL ret ∈ lw_all ∧ Cond.initialized y.cls ∈ lw_all
/-- behind the callee's return -/
theorem IV.back {D : DD} {sz : Nat} {σ σ' : St} {rm : Room} {kc ks : Nat} {av : List Value} {v : Option Value} {ig : Instr} {Wd : Nat} (hI : IV p l e R s m args below meth c H locs k n g y av rest) (hM : Mt l y bytes maxL ret rm D sz σ av (.returned v) σ' kc ks) (hcw : Cw s args y bytes maxL ret) (hK : KB D s) (hsz : SZ sz s) (hR : Rep D sz σ H) (hS : va_S (fun q => sz ≤ q) s.heap H locs)
    (hg : g.method = m) (hsize : g.locals.size = c.maxLocals) (hW : 2 * g.monitorRoom + (rest.map fun v => v.category).sum ≤ Wd) (hdg : decode c.code g.pc = .ok (ig, 3)) (hfr : rm.frames + 1 ≤ R.frames) (hlo : Wd + (maxL + 11) + rm.locals ≤ R.locals) (hce : k + rm.cells ≤ R.cells) (hsl : n + rm.slots ≤ R.slots)
    (kk : ∀ (H1 : Heap) (locs1 : List Loc), Rep D sz σ' H1 → va_S (fun q => sz ≤ q) s.heap H1 locs1 → W p l e R s m args below meth c H1 locs1 (k + kc) (n + ks) Q { g with pc := g.pc + 3, stack := v.toList ++ rest }) : W p l e R s m args below meth c H locs k n Q g := by
  have hB : Back l R p e below s args y 3 Wd (fun A a => a = av.toArray ∧ Rep D sz σ A.U.heap ∧ SZ sz A.U ∧ A.cells + rm.cells ≤ R.cells ∧ A.slots + rm.slots ≤ R.slots)
      (fun A a v' B => v' = v ∧ Rep D sz σ' B.U.heap ∧ (∀ q, q < sz → B.U.heap[q]? = A.U.heap[q]?) ∧ A.U.heap.size ≤ B.U.heap.size ∧ ∃ L, B.locs = A.locs ++ L ∧ (∀ q ∈ L, sz ≤ q.base) ∧ B.cells = A.cells + kc ∧ B.slots = A.slots + ks) := by
    refine Back.of_free (bytes := bytes) (maxL := maxL) (ret := ret) (E := fun a st o t L k n => k = kc ∧ n = ks ∧ ∀ q ∈ L, sz ≤ q.base) hM hfr hlo ?_ ?_ (fun _ _ _ _ _ _ _ _ _ => trivial) ?_ ?_
    · intro m meth c A a X hp
      have hws : ∀ w ∈ ws_ y bytes maxL ret, w.before a A.U = true := fun w hw => pay_in hcw.1 (lw_meth hcw.2.1) w hw a A.U X.warmed
      exact ⟨atoms_intro hws, hws _ List.mem_cons_self, pay_in hcw.1 (lw_good (ws := [Cond.initialized y.cls]) (fun w h => by rw [List.mem_singleton.mp h]; exact hcw.2.2)) _ List.mem_cons_self a A.U X.warmed, hp.2.2.2.1, hp.2.2.2.2⟩
    · intro m meth c A a g mk X hp
      exact ⟨hp.1, hp.2.1, (KB.warm (U := A.U.calling g mk a) X.warmed hK), hp.2.2.1.same rfl (Vm.Alike.refl _)⟩
    · intro a first o t hq
      obtain ⟨rfl, h1, h2, L, h3, h4⟩ := hq
      exact ⟨L, kc, ks, ⟨⟨_, rfl⟩, h3⟩, rfl, rfl, h4⟩
    · intro m meth c A a g mk v' t L k n X hp hq hF hE
      obtain ⟨e1, h1, h2, -⟩ := hq
      obtain ⟨rfl, rfl, h4⟩ := hE
      refine ⟨Outcome.returned.inj e1, h1, h2, ?_, L, rfl, h4, rfl, rfl⟩
      have := hF.2.2.2.1
      exact this
  intro T hT X
  obtain ⟨mk, vm₁, hW₁, X₁, hnm, hst⟩ := hI T hT X
  obtain ⟨v', B, X', ⟨rfl, h1, h2, h3, L, h4, h5, h6, h7⟩, hsteps⟩ := hB m meth c ⟨T.setVm vm₁, locs, k, n⟩ { g with stack := rest } ig mk av.toArray X₁ hg hsize hdg hW hnm ⟨rfl, by show Rep D sz σ T.heap; rw [hT]; exact hR, hsz.call hS hT hW₁.alike, hce, hsl⟩
  obtain ⟨U', l2, c2, s2⟩ := B
  dsimp only [Pt.U, Pt.locs, Pt.cells, Pt.slots] at X' h1 h2 h3 h4 h6 h7 hsteps
  subst h4; subst h6; subst h7
  have hTh : (T.setVm vm₁).heap = H := hT
  rw [hTh] at h2 h3
  obtain ⟨t2, a1, b1⟩ := kk U'.heap (locs ++ L) h1 ⟨Nat.le_trans hS.1 h3, fun q q1 q2 => by rw [h2 q (by omega)]; exact hS.2.1 q q1 q2, fun q hq => by
    rcases List.mem_append.mp hq with h | h
    · exact hS.2.2 q h
    · exact h5 q h⟩ U' rfl X'
  exact ⟨t2, hst t2 (hsteps.trans a1), b1⟩
end
