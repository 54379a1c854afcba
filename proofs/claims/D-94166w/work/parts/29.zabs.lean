/-! a call whose named method is abstract -/
section
variable {p : Program} {l : Launch} {e : Env} {R : Room} {s : State} {m : MethodId} {args : Array Value} {below : List Frame} {meth : Method} {c : Code} {H : Heap} {locs : List Loc} {k n : Nat} {Q : State → Prop}
variable {own C : String} {index : Nat} {x y : MethodName} {bytes : ByteArray} {maxL : Nat} {ret : Option FieldType} {g : JFrame} {b : Nat} {As rest : List Value}
theorem IV.abs (hexec : p.tables.exec = Jvm.exec) (hown : s.vm.findClass own = some m.cls) (hlink : (Cond.methodLink own index x).before args s = true) (hsame : (Cond.sameMethod x.cls x.cls x.name x.desc).before args s = true) (hd0 : va_Decl s ⟨x.cls, x.name, x.desc⟩) (hinst : (Cond.instanceMethod y).before args s = true) (hsel : (Cond.selects C x y).before args s = true)
    (hx : x.cls ≠ "java/lang/invoke/MethodHandle" ∧ x.cls ≠ "java/lang/invoke/VarHandle")
    {cellB : Cell} (hcell : H[b]? = some cellB) (hobj : cellB.vm.isStatics = false) (hcls : s.vm.findClass C = some cellB.cls)
    (hg : g.method = m) (hlen : ∀ sig, parseMethodDescriptor x.desc = some sig → As.length = sig.parameters.length)
    (hstack : g.stack = As.reverse ++ .ref b :: rest) (hdg : decode c.code g.pc = .ok (.invokevirtual index, 3)) : IV p l e R s m args below meth c H locs k n g y (.ref b :: As) rest := by
  intro T hT X
  obtain ⟨r0, r, hn, hrm, hstR, hsigR⟩ := hd0
  obtain ⟨cn, ck, r1, hcn, hck, hni, hf, hn1⟩ := Cond.sameMethod_found hsame
  cases hn.symm.trans hn1
  obtain ⟨mk, methM, hnamed, hmethM, -, habM⟩ := Cond.instanceMethod_spec hinst
  obtain ⟨c2, r2, m2, q1, q2, q3, q4, kP, hkP, hkPi⟩ := Cond.selects_spec hsel
  cases hcls.symm.trans q1
  cases hf.symm.trans q2
  cases hnamed.symm.trans q3
  have hselP : selectMethod e.platform s.vm cellB.cls r0 = .method mk := by rw [Launch.admits_selectMethod X.admits]; exact q4
  obtain ⟨vm₁, X₁, hstep₁⟩ := X.invokevirtualUp hexec hown hlink hsame hx hn hrm hstR (a := b) (cell := cellB) (by rw [hT]; exact hcell)
    (fun z h => by rw [h] at hobj; cases hobj) hselP hmethM habM hkP hkPi (g := g) hg (argsL := As) (rest := rest) (hlen _ hsigR) hstack hdg
  exact ⟨mk, vm₁, X₁.warmed, X₁, X₁.named hnamed, fun target h => hstep₁ _ fun acts => by rw [doInvoke_state]; exact h⟩
end
set_option maxRecDepth 100000
section
variable {Γ : Ctx} {cc : ByteArray} {own : String} {R0 : Room} {σ σ' : St} {k n pc : Nat} {lv lv' : List (Nat × Value)} {st st' rest : List Value} {b c idx kc ks nl : Nat} {r : vw_C} {y : MethodName} {cb : ByteArray} {ret : Option FieldType} {rm : Room} {As : List Value} {v : Option Value}
theorem r_cA {x : MethodName} (X : Cx Γ cc own R0) (hM : ∀ l D sz, Mt l y cb nl ret rm D sz σ (.ref b :: As) (.returned v) σ' kc ks) (hcl : cL σ b = some c) (hc : CL[c]? = some r) (w2 : Cond.instanceMethod y ∈ lw_all) (w3 : Cond.selects r.1 x y ∈ lw_all) (w1 : Cond.methodLink own idx x ∈ lw_all) (w4 : Cond.sameMethod x.cls x.cls x.name x.desc ∈ lw_all) (w5 : Cond.declares x ∈ lw_tbl) (wi : Cond.initialized y.cls ∈ lw_all) (wc : Cond.code y cb nl ret ∈ lw_all) {nA : Nat} (hy : x.cls ≠ "java/lang/invoke/MethodHandle" ∧ x.cls ≠ "java/lang/invoke/VarHandle" ∧ (parseMethodDescriptor x.desc).map (fun d => d.parameters.length) = some nA) (hnA : As.length = nA) (hd : decode cc pc = .ok (.invokevirtual idx, 3)) (hst : As.reverse ++ .ref b :: rest = st) (hst2 : v.toList ++ rest = st') {Wd : Nat} (hW : (rest.map fun v => v.category).sum ≤ Wd) (hrm : rm.frames + 1 ≤ R0.frames ∧ Wd + (nl + 11) + rm.locals ≤ R0.locals) (hrc : k + rm.cells ≤ R0.cells ∧ n + rm.slots ≤ R0.slots)
    (kk : V Γ σ' (k + kc) (n + ks) (pc + 3) lv st') : V Γ σ k n pc lv st := by
  subst hnA
  obtain ⟨p, l, e, R, s, m, args, below, meth, cd, Q, D, sz, nL⟩ := Γ
  obtain ⟨hx, hb, hml, hown, hts, hK, hsz, hR0, hlk⟩ := X
  intro H locs ls hR hS hls
  subst hR0
  subst hb
  subst hst; subst hst2
  obtain ⟨cellB, c1, c2, c3⟩ := zz_recv hK hR hcl hc
  have hI : IV p l e R s m args below meth cd H locs k n (F0 m pc ls (As.reverse ++ .ref b :: rest)) y (.ref b :: As) rest := IV.abs hx hown (hts _ w1) (hts _ w4) (va_Decl.abs (hK.2 _ w5 rfl)) (hts _ w2) (hts _ w3) ⟨hy.1, hy.2.1⟩ c1 c2 c3 rfl (len_of hy.2.2) rfl hd
  refine IV.back (D := D) (sz := sz) hI (hM l D sz) ⟨hts, wc, wi⟩ hK hsz hR hS rfl (by rw [hml]; exact hls.1) (by show 2 * 0 + _ ≤ Wd; omega) hd hrm.1 hrm.2 hrc.1 hrc.2 (fun H1 locs1 h1 h2 => ?_)
  exact kk H1 locs1 ls h1 h2 hls
end
/-- two roads by the class of an object -/
def dC {α : Type} (σ : St) (b c : Nat) (A B : Option α) : Option α := if cL σ b = some c then A else B
theorem dC_some {α : Type} {σ : St} {b c : Nat} {A B : Option α} {w : α} (h : dC σ b c A B = some w) : (cL σ b = some c ∧ A = some w) ∨ B = some w := by
  unfold dC at h
  by_cases q : cL σ b = some c
  · rw [if_pos q] at h; exact Or.inl ⟨q, h⟩
  · rw [if_neg q] at h; exact Or.inr h
