/-! exceptions as rows of V -/
set_option maxRecDepth 100000
/-- a call that may throw: behind its answer, behind its exception -/
def bT2 {A R : Type} (x : Option ((A × St) ⊕ (Nat × St))) (K : A → St → Option R) (E : Nat → St → Option R) : Option R := x.bind (Sum.elim (fun q => K q.1 q.2) (fun q => E q.1 q.2))
def bT1 {R : Type} (x : Option (St ⊕ (Nat × St))) (K : St → Option R) (E : Nat → St → Option R) : Option R := x.bind (Sum.elim K (fun q => E q.1 q.2))
theorem bT2_some {A R : Type} {x : Option ((A × St) ⊕ (Nat × St))} {K : A → St → Option R} {E : Nat → St → Option R} {r : R} (h : bT2 x K E = some r) : (∃ a s, x = some (.inl (a, s)) ∧ K a s = some r) ∨ ∃ b s, x = some (.inr (b, s)) ∧ E b s = some r := by
  obtain ⟨q, h1, h2⟩ := bd_some h
  rcases q with ⟨a, s⟩ | ⟨b, s⟩
  · exact Or.inl ⟨a, s, h1, h2⟩
  · exact Or.inr ⟨b, s, h1, h2⟩
theorem bT1_some {R : Type} {x : Option (St ⊕ (Nat × St))} {K : St → Option R} {E : Nat → St → Option R} {r : R} (h : bT1 x K E = some r) : (∃ s, x = some (.inl s) ∧ K s = some r) ∨ ∃ b s, x = some (.inr (b, s)) ∧ E b s = some r := by
  obtain ⟨q, h1, h2⟩ := bd_some h
  rcases q with s | ⟨b, s⟩
  · exact Or.inl ⟨s, h1, h2⟩
  · exact Or.inr ⟨b, s, h1, h2⟩
theorem lpU_bT2 {A S R : Type} (b : S → Option (S ⊕ R)) (x : Option ((A × St) ⊕ (Nat × St))) (K : A → St → Option (S ⊕ R)) (E : Nat → St → Option (S ⊕ R)) : lpU b (bT2 x K E) = bT2 x (fun a t => lpU b (K a t)) (fun a t => lpU b (E a t)) := by
  rcases x with _ | (_ | _) <;> rfl
theorem lpU_bT1 {S R : Type} (b : S → Option (S ⊕ R)) (x : Option (St ⊕ (Nat × St))) (K : St → Option (S ⊕ R)) (E : Nat → St → Option (S ⊕ R)) : lpU b (bT1 x K E) = bT1 x (fun t => lpU b (K t)) (fun a t => lpU b (E a t)) := by
  rcases x with _ | (_ | _) <;> rfl
section
variable {Γ : Ctx} {cc : ByteArray} {own : String} {R0 : Room} {σ σ' : St} {k n pc : Nat} {lv lv' : List (Nat × Value)} {st st' rest : List Value} {b c idx kc ks nl : Nat} {r : vw_C} {y : MethodName} {cb : ByteArray} {ret : Option FieldType} {rm : Room} {As : List Value} {x : Nat}
/-- a call through an object that throws -/
theorem r_tV (X : Cx Γ cc own R0) (hM : ∀ l D sz, Mt l y cb nl ret rm D sz σ (.ref b :: As) (.threw x) σ' kc ks) (hcl : cL σ b = some c) (hc : CL[c]? = some r) (w2 : Cond.instanceMethod y ∈ lw_all) (w3 : Cond.selects r.1 y y ∈ lw_all) (w1 : Cond.methodLink own idx y ∈ lw_all) (wi : Cond.initialized y.cls ∈ lw_all) (wc : Cond.code y cb nl ret ∈ lw_all)
    {nA : Nat} (hy : y.cls ≠ "java/lang/invoke/MethodHandle" ∧ y.cls ≠ "java/lang/invoke/VarHandle" ∧ (parseMethodDescriptor y.desc).map (fun d => d.parameters.length) = some nA) (hnA : As.length = nA) (hd : decode cc pc = .ok (.invokevirtual idx, 3)) (hst : As.reverse ++ .ref b :: rest = st) {Wd : Nat} (hW : (rest.map fun v => v.category).sum ≤ Wd) (hrm : rm.frames + 1 ≤ R0.frames ∧ Wd + (nl + 11) + rm.locals ≤ R0.locals) (hrc : k + rm.cells ≤ R0.cells ∧ n + rm.slots ≤ R0.slots)
    (kk : VT Γ σ' (k + kc) (n + ks) pc lv x) : V Γ σ k n pc lv st := by
  subst hnA
  obtain ⟨p, l, e, R, s, m, args, below, meth, cd, Q, D, sz, nL⟩ := Γ
  obtain ⟨hx, hb, hml, hown, hts, hK, hsz, hR0, hlk⟩ := X
  intro H locs ls hR hS hls
  subst hR0
  subst hb
  subst hst
  obtain ⟨cellB, c1, c2, c3⟩ := zz_recv hK hR hcl hc
  have hI : IV p l e R s m args below meth cd H locs k n (F0 m pc ls (As.reverse ++ .ref b :: rest)) y (.ref b :: As) rest := IV.virt hx hown (hts _ w1) (hts _ w2) (hts _ w3) (hts _ wc) ⟨hy.1, hy.2.1⟩ c1 c2 c3 rfl (len_of hy.2.2) rfl hd
  refine IV.thr (D := D) (sz := sz) hI (hM l D sz) ⟨hts, wc, wi⟩ hK hsz hR hS rfl (by rw [hml]; exact hls.1) (by show 2 * 0 + _ ≤ Wd; omega) hd hrm.1 hrm.2 hrc.1 hrc.2 (fun H1 locs1 h1 h2 => ?_)
  exact kk H1 locs1 ls rest h1 h2 hls
/-- a field of which nothing is told -/
theorem r_putU {a kf : Nat} {v : Value} (X : Cx Γ cc own R0) (hcl : cL σ a = some c) (hc : CL[c]? = some r) (hk : kf < r.2.2) (hkd : KD c kf = 9) (hl : Lk own idx (r.2.1 kf).1 (r.2.1 kf).2.1 (r.2.1 kf).2.2.1) (hd : decode cc pc = .ok (.putfield idx, 3)) (hfin : (r.2.1 kf).2.2.2 = false) (hn : narrow (TY c kf) v = v) (hft : fits (TY c kf) v = true)
    (kk : V Γ σ k n (pc + 3) lv rest) : V Γ σ k n pc lv (v :: .ref a :: rest) :=
  r_put X hcl hc hk hl hd hfin hn hft (σ' := σ) (fun _ => rfl) (fun _ _ => rfl) rfl (fun _ _ _ _ _ h => h) (by unfold FV; rw [hkd]; trivial) (fun _ _ _ _ _ _ => rfl) kk
/-- a static of Throwable's: a reference or null -/
theorem r_gets1 (X : Cx Γ cc own R0) (hw : Cond.fieldLink own idx "java/lang/Throwable" "UNASSIGNED_STACK" "[Ljava/lang/StackTraceElement;" ∈ lw_all) (hd : decode cc pc = .ok (.getstatic idx, 3)) (kk : ∀ q : Option Nat, V Γ σ k n (pc + 3) lv (va_rf q :: rest)) : V Γ σ k n pc lv rest := by
  obtain ⟨p, l, e, R, s, m, args, below, meth, cd, Q, D, sz, nL⟩ := Γ
  obtain ⟨hx, hb, hml, hown, hts, hK, hsz, hR0, hlk⟩ := X
  intro H locs ls hR hS hls
  rcases hsz.2.1.1 with h | ⟨t, h⟩
  · exact va_gets hx hb h hS hown (hts _ hw) (fun _ q => q) hd (kk none H locs ls hR hS hls)
  · exact va_gets hx hb h hS hown (hts _ hw) (fun _ q => q) hd (kk (some t) H locs ls hR hS hls)
theorem r_gets2 (X : Cx Γ cc own R0) (hw : Cond.fieldLink own idx "java/lang/Throwable" "SUPPRESSED_SENTINEL" "Ljava/util/List;" ∈ lw_all) (hd : decode cc pc = .ok (.getstatic idx, 3)) (kk : ∀ q : Option Nat, V Γ σ k n (pc + 3) lv (va_rf q :: rest)) : V Γ σ k n pc lv rest := by
  obtain ⟨p, l, e, R, s, m, args, below, meth, cd, Q, D, sz, nL⟩ := Γ
  obtain ⟨hx, hb, hml, hown, hts, hK, hsz, hR0, hlk⟩ := X
  intro H locs ls hR hS hls
  rcases hsz.2.1.2 with h | ⟨t, h⟩
  · exact va_gets hx hb h hS hown (hts _ hw) (fun _ q => q) hd (kk none H locs ls hR hS hls)
  · exact va_gets hx hb h hS hown (hts _ hw) (fun _ q => q) hd (kk (some t) H locs ls hR hS hls)
end
/-! a handler whose class may not have been resolved yet -/
theorem zz_find_cold {e : Env} {s : State} {f : JFrame} {a : Nat} {meth : Method} {code : Code} {x : ExceptionTableEntry} {c : ClassId} {cell : Cell} {vm' : Vm} (hm : s.vm.method? f.method = some meth) (hc : meth.code = some code) (ht : code.exceptionTable.toList = [x]) (hx : covers x f.pc = true) (h0 : x.catchType ≠ 0)
    (hg : (Jvm.resolveClass f.method.cls x.catchType).Gives e.toSetting s.vm (.ok c) vm') (hcell : s.heap[a]? = some cell) (hobj : ∀ k, cell.vm ≠ .statics k) (hk : ∃ k, vm'.classes[cell.cls]? = some k) (hcl : ∃ k, vm'.classes[c]? = some k) (hfit : vm'.assignable cell.cls c = true) (hsz : vm'.classes.size ≤ s.vm.classes.size)
    (Q : Handler → Pre) (E : CtlPost) (d : Bool) (acts : List Action) : wp (findHandler f a) Q E e d acts s ↔ Q (.found x.handlerPc) d acts (s.setVm vm') := by
  rw [W.findHandler_eq hm hc, ht]
  obtain ⟨ha, hT⟩ := hg.op (op := VmOp.resolveClass f.method.cls x.catchType) rfl
  simp only [covers] at hx
  simp [findHandler.go, hx, h0, ha, hT, hsz, hcell, hobj, hk, hcl, hfit, VmOp.dirties, VmOp.acts]
theorem zz_catch_cold {e : Env} {s : State} {a : Nat} {f : JFrame} {r : List Frame} {pc : Nat} {vm' : Vm} (hfind : ∀ (Q : Handler → Pre) (E : CtlPost) (d : Bool) (acts : List Action), wp (findHandler f a) Q E e d acts s ↔ Q (.found pc) d acts (s.setVm vm')) :
    (stepThrowing e s a (.java f :: r)).Is ((s.setVm vm').setFrames (.java { f with pc := pc, stack := [.ref a] } :: r)) [] := by
  simp only [stepThrowing, searchFrame, vmDo]
  generalize hr : Sem.go _ e false [] s = res
  obtain ⟨as, rfl, ha⟩ := Sem.eq_ok_of hr (a := Handler.found pc) (s' := s.setVm vm') (acts' := []) (by simp [hfind _ _ _ _])
  exact ⟨rfl, ha⟩
theorem zz_caught_cold {tb : Tables} {e : Env} {s target : State} {g : JFrame} {c : Code} {below : List Frame} {a : Nat} {vm' : Vm} (h : At s g.method c below) {pc : Nat} (hfind : ∀ (Q : Handler → Pre) (E : CtlPost) (d : Bool) (acts : List Action), wp (findHandler g a) Q E e d acts ((s.setTop g).pushFrame (.throwing a)) ↔ Q (.found pc) d acts (((s.setTop g).pushFrame (.throwing a)).setVm vm'))
    (hrest : Steps tb e below ((s.setVm vm').setTop { g with pc := pc, stack := [.ref a] }) target) : Steps tb e below ((s.setTop g).pushFrame (.throwing a)) target := by
  obtain ⟨hgo, hw⟩ := h.throwing a
  refine Steps.head hgo hw ?_
  rw [stepThread_throwing (frames_entered h.top _), (zz_catch_cold (s := (s.setTop g).pushFrame (.throwing a)) hfind).1]
  obtain ⟨g₀, hg⟩ := Option.isSome_iff_exists.mp h.top
  obtain ⟨r, hr⟩ := State.topJava?_eq_some.mp hg
  have hr2 : (s.setVm vm').frames = .java g₀ :: r := hr
  rw [State.setTop_of_frames _ hr2] at hrest
  have e1 : ((((s.setTop g).pushFrame (.throwing a)).setVm vm').setFrames (.java { g with pc := pc, stack := [.ref a] } :: s.frames.tail)) = (s.setVm vm').setFrames (.java { g with pc := pc, stack := [.ref a] } :: r) := by
    rw [State.pushFrame, State.setTop_of_frames _ hr, State.setFrames_setFrames, hr]
    show (((s.setVm vm').setFrames _).setFrames _) = _
    rw [State.setFrames_setFrames]
    rfl
  rw [e1]
  exact hrest
