/-! calls, as rows of V -/
set_option maxRecDepth 100000
section
variable {Γ : Ctx} {cc : ByteArray} {own : String} {R0 : Room} {σ σ' : St} {k n pc : Nat} {lv lv' : List (Nat × Value)} {st st' rest : List Value} {b c idx kc ks nl : Nat} {r : vw_C} {y : MethodName} {cb : ByteArray} {ret : Option FieldType} {rm : Room} {As : List Value} {v : Option Value}
theorem cat_rf (q : Option Nat) : (va_rf q).category = 1 := by cases q <;> rfl
theorem cat_iv (x : Int) : (iv x).category = 1 := rfl
theorem cat_jv (x : Int) : (jv x).category = 2 := rfl
theorem cat_ref (x : Nat) : (Value.ref x).category = 1 := rfl
theorem len_of {d : String} {N : Nat} (h : (parseMethodDescriptor d).map (fun d => d.parameters.length) = some N) : ∀ sig, parseMethodDescriptor d = some sig → N = sig.parameters.length := by
  intro sig h1
  rw [h1] at h
  exact (Option.some.inj h).symm
/-- the receiver's cell -/
theorem zz_recv {D : DD} {sz : Nat} {H : Heap} {s : State} (hK : KB D s) (hR : Rep D sz σ H) (hcl : cL σ b = some c) (hc : CL[c]? = some r) : ∃ cell : Cell, H[b]? = some cell ∧ cell.vm.isStatics = false ∧ s.vm.findClass r.1 = some cell.cls := by
  obtain ⟨r', h1, V', ⟨cell, q1, q2, q3, q4⟩, hF⟩ := (hR.2.1 b c hcl).2
  exact ⟨cell, q1, by rw [q3]; rfl, by rw [q2]; exact (hK.1.1 c r hc).2.1⟩
theorem r_cV (X : Cx Γ cc own R0) (hM : ∀ l D sz, Mt l y cb nl ret rm D sz σ (.ref b :: As) (.returned v) σ' kc ks) (hcl : cL σ b = some c) (hc : CL[c]? = some r) (w2 : Cond.instanceMethod y ∈ lw_all) (w3 : Cond.selects r.1 y y ∈ lw_all) (w1 : Cond.methodLink own idx y ∈ lw_all) (wi : Cond.initialized y.cls ∈ lw_all) (wc : Cond.code y cb nl ret ∈ lw_all) {nA : Nat} (hy : y.cls ≠ "java/lang/invoke/MethodHandle" ∧ y.cls ≠ "java/lang/invoke/VarHandle" ∧ (parseMethodDescriptor y.desc).map (fun d => d.parameters.length) = some nA) (hnA : As.length = nA) (hd : decode cc pc = .ok (.invokevirtual idx, 3)) (hst : As.reverse ++ .ref b :: rest = st) (hst2 : v.toList ++ rest = st') {Wd : Nat} (hW : (rest.map fun v => v.category).sum ≤ Wd) (hrm : rm.frames + 1 ≤ R0.frames ∧ Wd + (nl + 11) + rm.locals ≤ R0.locals) (hrc : k + rm.cells ≤ R0.cells ∧ n + rm.slots ≤ R0.slots)
    (kk : V Γ σ' (k + kc) (n + ks) (pc + 3) lv st') : V Γ σ k n pc lv st := by
  subst hnA
  obtain ⟨p, l, e, R, s, m, args, below, meth, cd, Q, D, sz, nL⟩ := Γ
  obtain ⟨hx, hb, hml, hown, hts, hK, hsz, hR0, hlk⟩ := X
  intro H locs ls hR hS hls
  subst hR0
  subst hb
  subst hst; subst hst2
  obtain ⟨cellB, c1, c2, c3⟩ := zz_recv hK hR hcl hc
  have hI : IV p l e R s m args below meth cd H locs k n (F0 m pc ls (As.reverse ++ .ref b :: rest)) y (.ref b :: As) rest := IV.virt hx hown (hts _ w1) (hts _ w2) (hts _ w3) (hts _ wc) ⟨hy.1, hy.2.1⟩ c1 c2 c3 rfl (len_of hy.2.2) rfl hd
  refine IV.back (D := D) (sz := sz) hI (hM l D sz) ⟨hts, wc, wi⟩ hK hsz hR hS rfl (by rw [hml]; exact hls.1) (by show 2 * 0 + _ ≤ Wd; omega) hd hrm.1 hrm.2 hrc.1 hrc.2 (fun H1 locs1 h1 h2 => ?_)
  exact kk H1 locs1 ls h1 h2 hls
theorem r_cVN (X : Cx Γ cc own R0) (hM : ∀ l D sz, Mt l y cb nl ret rm D sz σ (.ref b :: As) (.returned v) σ' kc ks) (hcl : cL σ b = some c) (hc : CL[c]? = some r) (w2 : Cond.instanceMethod y ∈ lw_all) (w3 : Cond.selects r.1 y y ∈ lw_all) {host : String} (w1 : Cond.methodLinkNest own idx y host ∈ lw_tbl) (wi : Cond.initialized y.cls ∈ lw_all) (wc : Cond.code y cb nl ret ∈ lw_all) {nA : Nat} (hy : y.cls ≠ "java/lang/invoke/MethodHandle" ∧ y.cls ≠ "java/lang/invoke/VarHandle" ∧ (parseMethodDescriptor y.desc).map (fun d => d.parameters.length) = some nA) (hnA : As.length = nA) (hd : decode cc pc = .ok (.invokevirtual idx, 3)) (hst : As.reverse ++ .ref b :: rest = st) (hst2 : v.toList ++ rest = st') {Wd : Nat} (hW : (rest.map fun v => v.category).sum ≤ Wd) (hrm : rm.frames + 1 ≤ R0.frames ∧ Wd + (nl + 11) + rm.locals ≤ R0.locals) (hrc : k + rm.cells ≤ R0.cells ∧ n + rm.slots ≤ R0.slots)
    (kk : V Γ σ' (k + kc) (n + ks) (pc + 3) lv st') : V Γ σ k n pc lv st := by
  subst hnA
  obtain ⟨p, l, e, R, s, m, args, below, meth, cd, Q, D, sz, nL⟩ := Γ
  obtain ⟨hx, hb, hml, hown, hts, hK, hsz, hR0, hlk⟩ := X
  intro H locs ls hR hS hls
  subst hR0
  subst hb
  subst hst; subst hst2
  obtain ⟨cellB, c1, c2, c3⟩ := zz_recv hK hR hcl hc
  have hI : IV p l e R s m args below meth cd H locs k n (F0 m pc ls (As.reverse ++ .ref b :: rest)) y (.ref b :: As) rest := IV.virtN hx hown (va_Nw.use rfl (hK.2 _ w1 rfl)) (hts _ w2) (hts _ w3) (hts _ wc) ⟨hy.1, hy.2.1⟩ c1 c2 c3 rfl (len_of hy.2.2) rfl hd
  refine IV.back (D := D) (sz := sz) hI (hM l D sz) ⟨hts, wc, wi⟩ hK hsz hR hS rfl (by rw [hml]; exact hls.1) (by show 2 * 0 + _ ≤ Wd; omega) hd hrm.1 hrm.2 hrc.1 hrc.2 (fun H1 locs1 h1 h2 => ?_)
  exact kk H1 locs1 ls h1 h2 hls
theorem r_cS (X : Cx Γ cc own R0) (hM : ∀ l D sz, Mt l y cb nl ret rm D sz σ (As) (.returned v) σ' kc ks) (w2 : Cond.static y ∈ lw_all) (w1 : Cond.methodLink own idx y ∈ lw_all) (wi : Cond.initialized y.cls ∈ lw_all) (wc : Cond.code y cb nl ret ∈ lw_all) {nA : Nat} (hy : y.cls ≠ "java/lang/invoke/MethodHandle" ∧ y.cls ≠ "java/lang/invoke/VarHandle" ∧ (parseMethodDescriptor y.desc).map (fun d => d.parameters.length) = some nA) (hnA : As.length = nA) (hd : decode cc pc = .ok (.invokestatic idx, 3)) (hst : As.reverse ++ rest = st) (hst2 : v.toList ++ rest = st') {Wd : Nat} (hW : (rest.map fun v => v.category).sum ≤ Wd) (hrm : rm.frames + 1 ≤ R0.frames ∧ Wd + (nl + 11) + rm.locals ≤ R0.locals) (hrc : k + rm.cells ≤ R0.cells ∧ n + rm.slots ≤ R0.slots)
    (kk : V Γ σ' (k + kc) (n + ks) (pc + 3) lv st') : V Γ σ k n pc lv st := by
  subst hnA
  obtain ⟨p, l, e, R, s, m, args, below, meth, cd, Q, D, sz, nL⟩ := Γ
  obtain ⟨hx, hb, hml, hown, hts, hK, hsz, hR0, hlk⟩ := X
  intro H locs ls hR hS hls
  subst hR0
  subst hb
  subst hst; subst hst2
  have hI : IV p l e R s m args below meth cd H locs k n (F0 m pc ls (As.reverse ++ rest)) y (As) rest := IV.stat hx hown (hts _ w1) (hts _ w2) (hts _ wi) (hts _ wc) ⟨hy.1, hy.2.1⟩ rfl (len_of hy.2.2) rfl hd
  refine IV.back (D := D) (sz := sz) hI (hM l D sz) ⟨hts, wc, wi⟩ hK hsz hR hS rfl (by rw [hml]; exact hls.1) (by show 2 * 0 + _ ≤ Wd; omega) hd hrm.1 hrm.2 hrc.1 hrc.2 (fun H1 locs1 h1 h2 => ?_)
  exact kk H1 locs1 ls h1 h2 hls
theorem r_cSN (X : Cx Γ cc own R0) (hM : ∀ l D sz, Mt l y cb nl ret rm D sz σ (As) (.returned v) σ' kc ks) (w2 : Cond.static y ∈ lw_all) {host : String} (w1 : Cond.methodLinkNest own idx y host ∈ lw_tbl) (wi : Cond.initialized y.cls ∈ lw_all) (wc : Cond.code y cb nl ret ∈ lw_all) {nA : Nat} (hy : y.cls ≠ "java/lang/invoke/MethodHandle" ∧ y.cls ≠ "java/lang/invoke/VarHandle" ∧ (parseMethodDescriptor y.desc).map (fun d => d.parameters.length) = some nA) (hnA : As.length = nA) (hd : decode cc pc = .ok (.invokestatic idx, 3)) (hst : As.reverse ++ rest = st) (hst2 : v.toList ++ rest = st') {Wd : Nat} (hW : (rest.map fun v => v.category).sum ≤ Wd) (hrm : rm.frames + 1 ≤ R0.frames ∧ Wd + (nl + 11) + rm.locals ≤ R0.locals) (hrc : k + rm.cells ≤ R0.cells ∧ n + rm.slots ≤ R0.slots)
    (kk : V Γ σ' (k + kc) (n + ks) (pc + 3) lv st') : V Γ σ k n pc lv st := by
  subst hnA
  obtain ⟨p, l, e, R, s, m, args, below, meth, cd, Q, D, sz, nL⟩ := Γ
  obtain ⟨hx, hb, hml, hown, hts, hK, hsz, hR0, hlk⟩ := X
  intro H locs ls hR hS hls
  subst hR0
  subst hb
  subst hst; subst hst2
  have hI : IV p l e R s m args below meth cd H locs k n (F0 m pc ls (As.reverse ++ rest)) y (As) rest := IV.statN hx hown (va_Nw.use rfl (hK.2 _ w1 rfl)) (hts _ w2) (hts _ wi) (hts _ wc) ⟨hy.1, hy.2.1⟩ rfl (len_of hy.2.2) rfl hd
  refine IV.back (D := D) (sz := sz) hI (hM l D sz) ⟨hts, wc, wi⟩ hK hsz hR hS rfl (by rw [hml]; exact hls.1) (by show 2 * 0 + _ ≤ Wd; omega) hd hrm.1 hrm.2 hrc.1 hrc.2 (fun H1 locs1 h1 h2 => ?_)
  exact kk H1 locs1 ls h1 h2 hls
theorem r_cI (X : Cx Γ cc own R0) (hM : ∀ l D sz, Mt l y cb nl ret rm D sz σ (.ref b :: As) (.returned v) σ' kc ks) (hret : ret = none) (hy1 : y.name = "<init>") (w2 : Cond.instanceMethod y ∈ lw_all) (w1 : Cond.methodLink own idx y ∈ lw_all) (wi : Cond.initialized y.cls ∈ lw_all) (wc : Cond.code y cb nl ret ∈ lw_all) {nA : Nat} (hy : y.cls ≠ "java/lang/invoke/MethodHandle" ∧ y.cls ≠ "java/lang/invoke/VarHandle" ∧ (parseMethodDescriptor y.desc).map (fun d => d.parameters.length) = some nA) (hnA : As.length = nA) (hd : decode cc pc = .ok (.invokespecial idx, 3)) (hst : As.reverse ++ .ref b :: rest = st) (hst2 : v.toList ++ rest = st') {Wd : Nat} (hW : (rest.map fun v => v.category).sum ≤ Wd) (hrm : rm.frames + 1 ≤ R0.frames ∧ Wd + (nl + 11) + rm.locals ≤ R0.locals) (hrc : k + rm.cells ≤ R0.cells ∧ n + rm.slots ≤ R0.slots)
    (kk : V Γ σ' (k + kc) (n + ks) (pc + 3) lv st') : V Γ σ k n pc lv st := by
  subst hnA
  obtain ⟨p, l, e, R, s, m, args, below, meth, cd, Q, D, sz, nL⟩ := Γ
  obtain ⟨hx, hb, hml, hown, hts, hK, hsz, hR0, hlk⟩ := X
  intro H locs ls hR hS hls
  subst hR0
  subst hb
  subst hst; subst hst2
  subst hret
  have hI : IV p l e R s m args below meth cd H locs k n (F0 m pc ls (As.reverse ++ .ref b :: rest)) y (.ref b :: As) rest := IV.init hx hown hy1 (hts _ w1) (hts _ w2) (hts _ wc) ⟨hy.1, hy.2.1⟩ rfl (len_of hy.2.2) rfl hd
  refine IV.back (D := D) (sz := sz) hI (hM l D sz) ⟨hts, wc, wi⟩ hK hsz hR hS rfl (by rw [hml]; exact hls.1) (by show 2 * 0 + _ ≤ Wd; omega) hd hrm.1 hrm.2 hrc.1 hrc.2 (fun H1 locs1 h1 h2 => ?_)
  exact kk H1 locs1 ls h1 h2 hls
theorem r_cIN (X : Cx Γ cc own R0) (hM : ∀ l D sz, Mt l y cb nl ret rm D sz σ (.ref b :: As) (.returned v) σ' kc ks) (hret : ret = none) (hy1 : y.name = "<init>") (w2 : Cond.instanceMethod y ∈ lw_all) {host : String} (w1 : Cond.methodLinkNest own idx y host ∈ lw_tbl) (wi : Cond.initialized y.cls ∈ lw_all) (wc : Cond.code y cb nl ret ∈ lw_all) {nA : Nat} (hy : y.cls ≠ "java/lang/invoke/MethodHandle" ∧ y.cls ≠ "java/lang/invoke/VarHandle" ∧ (parseMethodDescriptor y.desc).map (fun d => d.parameters.length) = some nA) (hnA : As.length = nA) (hd : decode cc pc = .ok (.invokespecial idx, 3)) (hst : As.reverse ++ .ref b :: rest = st) (hst2 : v.toList ++ rest = st') {Wd : Nat} (hW : (rest.map fun v => v.category).sum ≤ Wd) (hrm : rm.frames + 1 ≤ R0.frames ∧ Wd + (nl + 11) + rm.locals ≤ R0.locals) (hrc : k + rm.cells ≤ R0.cells ∧ n + rm.slots ≤ R0.slots)
    (kk : V Γ σ' (k + kc) (n + ks) (pc + 3) lv st') : V Γ σ k n pc lv st := by
  subst hnA
  obtain ⟨p, l, e, R, s, m, args, below, meth, cd, Q, D, sz, nL⟩ := Γ
  obtain ⟨hx, hb, hml, hown, hts, hK, hsz, hR0, hlk⟩ := X
  intro H locs ls hR hS hls
  subst hR0
  subst hb
  subst hst; subst hst2
  subst hret
  have hI : IV p l e R s m args below meth cd H locs k n (F0 m pc ls (As.reverse ++ .ref b :: rest)) y (.ref b :: As) rest := IV.initN hx hown hy1 (va_Nw.use rfl (hK.2 _ w1 rfl)) (hts _ w2) (hts _ wc) ⟨hy.1, hy.2.1⟩ rfl (len_of hy.2.2) rfl hd
  refine IV.back (D := D) (sz := sz) hI (hM l D sz) ⟨hts, wc, wi⟩ hK hsz hR hS rfl (by rw [hml]; exact hls.1) (by show 2 * 0 + _ ≤ Wd; omega) hd hrm.1 hrm.2 hrc.1 hrc.2 (fun H1 locs1 h1 h2 => ?_)
  exact kk H1 locs1 ls h1 h2 hls
end
