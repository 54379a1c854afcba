/-! THE JUDGEMENT V: from here, in any heap that holds the state, the machine comes to the end that is asked; a row an instruction -/
set_option maxRecDepth 100000
abbrev Ctx : Type := Program × Launch × Env × Room × State × MethodId × Array Value × List Frame × Method × Code × (State → Prop) × DD × Nat × Nat
def V (Γ : Ctx) (σ : St) (k n pc : Nat) (lv : List (Nat × Value)) (st : List Value) : Prop := match Γ with
  | (p, l, e, R, s, m, args, below, meth, c, Q, D, sz, nL) => ∀ (H : Heap) (locs : List Loc) (ls : Array Slot), Rep D sz σ H → va_S (fun q => sz ≤ q) s.heap H locs → lv_has ls nL lv → W p l e R s m args below meth c H locs k n Q (F0 m pc ls st)
def Cx (Γ : Ctx) (cc : ByteArray) (own : String) (R0 : Room) : Prop := match Γ with
  | (p, l, e, R, s, m, args, below, meth, c, Q, D, sz, nL) => p.tables.exec = Jvm.exec ∧ c.code = cc ∧ c.maxLocals = nL ∧ s.vm.findClass own = some m.cls ∧ (∀ w ∈ lw_all, w.before args s = true) ∧ KB D s ∧ SZ sz s ∧ R = R0 ∧ meth.locks = false
/-- the frame's size of locals -/
def nLc (Γ : Ctx) : Nat := match Γ with
  | (p, l, e, R, s, m, args, below, meth, c, Q, D, sz, nL) => nL
section
variable {Γ : Ctx} {cc : ByteArray} {own : String} {R0 : Room} {σ : St} {k n pc : Nat} {lv lv' : List (Nat × Value)} {st rest : List Value}
theorem V.widen {k' n' : Nat} (h1 : k ≤ k') (h2 : n ≤ n') (h : V Γ σ k' n' pc lv st) : V Γ σ k n pc lv st := by
  obtain ⟨p, l, e, R, s, m, args, below, meth, c, Q, D, sz, nL⟩ := Γ
  intro H locs ls hR hS hl
  exact W.widen h1 h2 (h H locs ls hR hS hl)
theorem V.sub (ks : List Nat) (hk : lv_pick lv ks = lv') (h : V Γ σ k n pc lv' st) : V Γ σ k n pc lv st := by
  obtain ⟨p, l, e, R, s, m, args, below, meth, c, Q, D, sz, nL⟩ := Γ
  intro H locs ls hR hS hl
  exact h H locs ls hR hS (lv_sub hl ks hk)

theorem r_iconst (X : Cx Γ cc own R0) {z : Int} (hd : decode cc pc = .ok (.iconst z, 1)) (kk : V Γ σ k n (pc + 1) lv (iv z :: rest)) : V Γ σ k n (pc) lv (rest) := by
  obtain ⟨p, l, e, R, s, m, args, below, meth, c, Q, D, sz, nL⟩ := Γ
  obtain ⟨hx, hb, hml, hown, hts, hK, hsz, hR0, hlk⟩ := X
  intro H locs ls hR hS hl
  exact lv_iconst (v := Int32.ofInt z) hx hb hd rfl (kk H locs ls hR hS hl)
theorem r_bipush (X : Cx Γ cc own R0) {z : Int} (hd : decode cc pc = .ok (.bipush z, 2)) (hz : (Int8.ofInt z).toInt32 = Int32.ofInt z) (kk : V Γ σ k n (pc + 2) lv (iv z :: rest)) : V Γ σ k n (pc) lv (rest) := by
  obtain ⟨p, l, e, R, s, m, args, below, meth, c, Q, D, sz, nL⟩ := Γ
  obtain ⟨hx, hb, hml, hown, hts, hK, hsz, hR0, hlk⟩ := X
  intro H locs ls hR hS hl
  exact lv_bipush hx hb hd hz (kk H locs ls hR hS hl)
theorem r_sipush (X : Cx Γ cc own R0) {z : Int} (hd : decode cc pc = .ok (.sipush z, 3)) (hz : (Int16.ofInt z).toInt32 = Int32.ofInt z) (kk : V Γ σ k n (pc + 3) lv (iv z :: rest)) : V Γ σ k n (pc) lv (rest) := by
  obtain ⟨p, l, e, R, s, m, args, below, meth, c, Q, D, sz, nL⟩ := Γ
  obtain ⟨hx, hb, hml, hown, hts, hK, hsz, hR0, hlk⟩ := X
  intro H locs ls hR hS hl
  exact lv_sipush hx hb hd hz (kk H locs ls hR hS hl)
theorem r_lconst (X : Cx Γ cc own R0) {z : Fin 2} {y : Int} (hd : decode cc pc = .ok (.lconst z, 1)) (hz : Int64.ofNat (z : Nat) = Int64.ofInt y) (kk : V Γ σ k n (pc + 1) lv (jv y :: rest)) : V Γ σ k n (pc) lv (rest) := by
  obtain ⟨p, l, e, R, s, m, args, below, meth, c, Q, D, sz, nL⟩ := Γ
  obtain ⟨hx, hb, hml, hown, hts, hK, hsz, hR0, hlk⟩ := X
  intro H locs ls hR hS hl
  exact lv_lconst hx hb hd hz (kk H locs ls hR hS hl)
theorem r_ldc (X : Cx Γ cc own R0) {index : Nat} {w : Int32} {z : Int} (hw : Cond.constant own index w ∈ lw_all) (hd : decode cc pc = .ok (.ldc index, 2)) (hz : w = Int32.ofInt z) (kk : V Γ σ k n (pc + 2) lv (iv z :: rest)) : V Γ σ k n (pc) lv (rest) := by
  obtain ⟨p, l, e, R, s, m, args, below, meth, c, Q, D, sz, nL⟩ := Γ
  obtain ⟨hx, hb, hml, hown, hts, hK, hsz, hR0, hlk⟩ := X
  intro H locs ls hR hS hl
  subst hz; exact lv_ldc hx hb hown (hts _ hw) hd (kk H locs ls hR hS hl)
theorem r_ldcw (X : Cx Γ cc own R0) {index : Nat} {w : Int32} {z : Int} (hw : Cond.constant own index w ∈ lw_all) (hd : decode cc pc = .ok (.ldc_w index, 3)) (hz : w = Int32.ofInt z) (kk : V Γ σ k n (pc + 3) lv (iv z :: rest)) : V Γ σ k n (pc) lv (rest) := by
  obtain ⟨p, l, e, R, s, m, args, below, meth, c, Q, D, sz, nL⟩ := Γ
  obtain ⟨hx, hb, hml, hown, hts, hK, hsz, hR0, hlk⟩ := X
  intro H locs ls hR hS hl
  subst hz; exact lv_ldcw hx hb hown (hts _ hw) hd (kk H locs ls hR hS hl)
theorem r_ldc2 (X : Cx Γ cc own R0) {index : Nat} {w : Int64} {z : Int} (hw : Cond.constantLong own index w ∈ lw_all) (hd : decode cc pc = .ok (.ldc2_w index, 3)) (hz : w = Int64.ofInt z) (kk : V Γ σ k n (pc + 3) lv (jv z :: rest)) : V Γ σ k n (pc) lv (rest) := by
  obtain ⟨p, l, e, R, s, m, args, below, meth, c, Q, D, sz, nL⟩ := Γ
  obtain ⟨hx, hb, hml, hown, hts, hK, hsz, hR0, hlk⟩ := X
  intro H locs ls hR hS hl
  subst hz; exact lv_ldc2 hx hb hown (hts _ hw) hd (kk H locs ls hR hS hl)
theorem r_null (X : Cx Γ cc own R0) (hd : decode cc pc = .ok (.aconst_null, 1)) (kk : V Γ σ k n (pc + 1) lv (.null :: rest)) : V Γ σ k n (pc) lv (rest) := by
  obtain ⟨p, l, e, R, s, m, args, below, meth, c, Q, D, sz, nL⟩ := Γ
  obtain ⟨hx, hb, hml, hown, hts, hK, hsz, hR0, hlk⟩ := X
  intro H locs ls hR hS hl
  exact lv_null hx hb hd (kk H locs ls hR hS hl)
theorem r_iload_n (X : Cx Γ cc own R0) (j : Nat) {f : Fin 4} {i : Nat} {x : Int} (hd : decode cc pc = .ok (.iload_n f, 1)) (hi : (f : Nat) = i) (hj : lv[j]? = some (i, iv x)) (kk : V Γ σ k n (pc + 1) lv (iv x :: rest)) : V Γ σ k n (pc) lv (rest) := by
  obtain ⟨p, l, e, R, s, m, args, below, meth, c, Q, D, sz, nL⟩ := Γ
  obtain ⟨hx, hb, hml, hown, hts, hK, hsz, hR0, hlk⟩ := X
  intro H locs ls hR hS hl
  exact lv_iload_n hx hb hd hi (lv_at hl j hj) (kk H locs ls hR hS hl)
theorem r_iload (X : Cx Γ cc own R0) (j : Nat) {i : Nat} {x : Int} (hd : decode cc pc = .ok (.iload i, 2)) (hj : lv[j]? = some (i, iv x)) (kk : V Γ σ k n (pc + 2) lv (iv x :: rest)) : V Γ σ k n (pc) lv (rest) := by
  obtain ⟨p, l, e, R, s, m, args, below, meth, c, Q, D, sz, nL⟩ := Γ
  obtain ⟨hx, hb, hml, hown, hts, hK, hsz, hR0, hlk⟩ := X
  intro H locs ls hR hS hl
  exact lv_iload hx hb hd (lv_at hl j hj) (kk H locs ls hR hS hl)
theorem r_lload_n (X : Cx Γ cc own R0) (j : Nat) {f : Fin 4} {i : Nat} {x : Int} (hd : decode cc pc = .ok (.lload_n f, 1)) (hi : (f : Nat) = i) (hj : lv[j]? = some (i, jv x)) (kk : V Γ σ k n (pc + 1) lv (jv x :: rest)) : V Γ σ k n (pc) lv (rest) := by
  obtain ⟨p, l, e, R, s, m, args, below, meth, c, Q, D, sz, nL⟩ := Γ
  obtain ⟨hx, hb, hml, hown, hts, hK, hsz, hR0, hlk⟩ := X
  intro H locs ls hR hS hl
  exact lv_lload_n hx hb hd hi (lv_at hl j hj) (kk H locs ls hR hS hl)
theorem r_lload (X : Cx Γ cc own R0) (j : Nat) {i : Nat} {x : Int} (hd : decode cc pc = .ok (.lload i, 2)) (hj : lv[j]? = some (i, jv x)) (kk : V Γ σ k n (pc + 2) lv (jv x :: rest)) : V Γ σ k n (pc) lv (rest) := by
  obtain ⟨p, l, e, R, s, m, args, below, meth, c, Q, D, sz, nL⟩ := Γ
  obtain ⟨hx, hb, hml, hown, hts, hK, hsz, hR0, hlk⟩ := X
  intro H locs ls hR hS hl
  exact lv_lload hx hb hd (lv_at hl j hj) (kk H locs ls hR hS hl)
theorem r_aload_n (X : Cx Γ cc own R0) (j : Nat) {f : Fin 4} {i : Nat} {x : Nat} (hd : decode cc pc = .ok (.aload_n f, 1)) (hi : (f : Nat) = i) (hj : lv[j]? = some (i, .ref x)) (kk : V Γ σ k n (pc + 1) lv (.ref x :: rest)) : V Γ σ k n (pc) lv (rest) := by
  obtain ⟨p, l, e, R, s, m, args, below, meth, c, Q, D, sz, nL⟩ := Γ
  obtain ⟨hx, hb, hml, hown, hts, hK, hsz, hR0, hlk⟩ := X
  intro H locs ls hR hS hl
  exact lv_aload_n hx hb hd hi (lv_at hl j hj) (kk H locs ls hR hS hl)
theorem r_aload (X : Cx Γ cc own R0) (j : Nat) {i : Nat} {x : Nat} (hd : decode cc pc = .ok (.aload i, 2)) (hj : lv[j]? = some (i, .ref x)) (kk : V Γ σ k n (pc + 2) lv (.ref x :: rest)) : V Γ σ k n (pc) lv (rest) := by
  obtain ⟨p, l, e, R, s, m, args, below, meth, c, Q, D, sz, nL⟩ := Γ
  obtain ⟨hx, hb, hml, hown, hts, hK, hsz, hR0, hlk⟩ := X
  intro H locs ls hR hS hl
  exact lv_aload hx hb hd (lv_at hl j hj) (kk H locs ls hR hS hl)
theorem r_aload_q (X : Cx Γ cc own R0) (j : Nat) {i : Nat} {q : Option Nat} (hd : decode cc pc = .ok (.aload i, 2)) (hj : lv[j]? = some (i, va_rf q)) (kk : V Γ σ k n (pc + 2) lv (va_rf q :: rest)) : V Γ σ k n (pc) lv (rest) := by
  obtain ⟨p, l, e, R, s, m, args, below, meth, c, Q, D, sz, nL⟩ := Γ
  obtain ⟨hx, hb, hml, hown, hts, hK, hsz, hR0, hlk⟩ := X
  intro H locs ls hR hS hl
  cases q with
  | none => exact lv_aloadN hx hb hd (lv_at hl j hj) (kk H locs ls hR hS hl)
  | some x => exact lv_aload hx hb hd (lv_at hl j hj) (kk H locs ls hR hS hl)
theorem r_aload_nq (X : Cx Γ cc own R0) (j : Nat) {f : Fin 4} {i : Nat} {q : Option Nat} (hd : decode cc pc = .ok (.aload_n f, 1)) (hi : (f : Nat) = i) (hj : lv[j]? = some (i, va_rf q)) (kk : V Γ σ k n (pc + 1) lv (va_rf q :: rest)) : V Γ σ k n (pc) lv (rest) := by
  obtain ⟨p, l, e, R, s, m, args, below, meth, c, Q, D, sz, nL⟩ := Γ
  obtain ⟨hx, hb, hml, hown, hts, hK, hsz, hR0, hlk⟩ := X
  intro H locs ls hR hS hl
  cases q with
  | none => exact lv_aload_nN hx hb hd hi (lv_at hl j hj) (kk H locs ls hR hS hl)
  | some x => exact lv_aload_n hx hb hd hi (lv_at hl j hj) (kk H locs ls hR hS hl)
theorem r_istore_n (X : Cx Γ cc own R0) {f : Fin 4} {i : Nat} {x : Int} (hd : decode cc pc = .ok (.istore_n f, 1)) (hi : (f : Nat) = i) (hn : i < nLc Γ) (hv : (i, iv x) :: lv.filter (fun q => !(q.1 == i) && !(q.1 + 1 == i && q.2.category == 2)) = lv') (kk : V Γ σ k n (pc + 1) lv' (rest)) : V Γ σ k n (pc) lv (iv x :: rest) := by
  obtain ⟨p, l, e, R, s, m, args, below, meth, c, Q, D, sz, nL⟩ := Γ
  obtain ⟨hx, hb, hml, hown, hts, hK, hsz, hR0, hlk⟩ := X
  intro H locs ls hR hS hl
  exact lv_istore_n hx hb hd hi hl hn hv (fun ls hl => kk H locs ls hR hS hl)
theorem r_istore (X : Cx Γ cc own R0) {i : Nat} {x : Int} (hd : decode cc pc = .ok (.istore i, 2)) (hn : i < nLc Γ) (hv : (i, iv x) :: lv.filter (fun q => !(q.1 == i) && !(q.1 + 1 == i && q.2.category == 2)) = lv') (kk : V Γ σ k n (pc + 2) lv' (rest)) : V Γ σ k n (pc) lv (iv x :: rest) := by
  obtain ⟨p, l, e, R, s, m, args, below, meth, c, Q, D, sz, nL⟩ := Γ
  obtain ⟨hx, hb, hml, hown, hts, hK, hsz, hR0, hlk⟩ := X
  intro H locs ls hR hS hl
  exact lv_istore hx hb hd hl hn hv (fun ls hl => kk H locs ls hR hS hl)
theorem r_lstore_n (X : Cx Γ cc own R0) {f : Fin 4} {i : Nat} {x : Int} (hd : decode cc pc = .ok (.lstore_n f, 1)) (hi : (f : Nat) = i) (hn : i + 1 < nLc Γ) (hv : (i, jv x) :: lv.filter (fun q => !(q.1 == i) && (!(q.1 == i + 1) && !(q.1 + 1 == i && q.2.category == 2))) = lv') (kk : V Γ σ k n (pc + 1) lv' (rest)) : V Γ σ k n (pc) lv (jv x :: rest) := by
  obtain ⟨p, l, e, R, s, m, args, below, meth, c, Q, D, sz, nL⟩ := Γ
  obtain ⟨hx, hb, hml, hown, hts, hK, hsz, hR0, hlk⟩ := X
  intro H locs ls hR hS hl
  exact lv_lstore_n hx hb hd hi hl hn hv (fun ls hl => kk H locs ls hR hS hl)
theorem r_lstore (X : Cx Γ cc own R0) {i : Nat} {x : Int} (hd : decode cc pc = .ok (.lstore i, 2)) (hn : i + 1 < nLc Γ) (hv : (i, jv x) :: lv.filter (fun q => !(q.1 == i) && (!(q.1 == i + 1) && !(q.1 + 1 == i && q.2.category == 2))) = lv') (kk : V Γ σ k n (pc + 2) lv' (rest)) : V Γ σ k n (pc) lv (jv x :: rest) := by
  obtain ⟨p, l, e, R, s, m, args, below, meth, c, Q, D, sz, nL⟩ := Γ
  obtain ⟨hx, hb, hml, hown, hts, hK, hsz, hR0, hlk⟩ := X
  intro H locs ls hR hS hl
  exact lv_lstore hx hb hd hl hn hv (fun ls hl => kk H locs ls hR hS hl)
theorem r_astore_n (X : Cx Γ cc own R0) {f : Fin 4} {i : Nat} {x : Nat} (hd : decode cc pc = .ok (.astore_n f, 1)) (hi : (f : Nat) = i) (hn : i < nLc Γ) (hv : (i, Value.ref x) :: lv.filter (fun q => !(q.1 == i) && !(q.1 + 1 == i && q.2.category == 2)) = lv') (kk : V Γ σ k n (pc + 1) lv' (rest)) : V Γ σ k n (pc) lv (Value.ref x :: rest) := by
  obtain ⟨p, l, e, R, s, m, args, below, meth, c, Q, D, sz, nL⟩ := Γ
  obtain ⟨hx, hb, hml, hown, hts, hK, hsz, hR0, hlk⟩ := X
  intro H locs ls hR hS hl
  exact lv_astore_n hx hb hd hi hl hn hv (fun ls hl => kk H locs ls hR hS hl)
theorem r_astore (X : Cx Γ cc own R0) {i : Nat} {x : Nat} (hd : decode cc pc = .ok (.astore i, 2)) (hn : i < nLc Γ) (hv : (i, Value.ref x) :: lv.filter (fun q => !(q.1 == i) && !(q.1 + 1 == i && q.2.category == 2)) = lv') (kk : V Γ σ k n (pc + 2) lv' (rest)) : V Γ σ k n (pc) lv (Value.ref x :: rest) := by
  obtain ⟨p, l, e, R, s, m, args, below, meth, c, Q, D, sz, nL⟩ := Γ
  obtain ⟨hx, hb, hml, hown, hts, hK, hsz, hR0, hlk⟩ := X
  intro H locs ls hR hS hl
  exact lv_astore hx hb hd hl hn hv (fun ls hl => kk H locs ls hR hS hl)
theorem r_astore_q (X : Cx Γ cc own R0) {i : Nat} {q : Option Nat} (hd : decode cc pc = .ok (.astore i, 2)) (hn : i < nLc Γ) (hv : (i, va_rf q) :: lv.filter (fun q => !(q.1 == i) && !(q.1 + 1 == i && q.2.category == 2)) = lv') (kk : V Γ σ k n (pc + 2) lv' (rest)) : V Γ σ k n (pc) lv (va_rf q :: rest) := by
  obtain ⟨p, l, e, R, s, m, args, below, meth, c, Q, D, sz, nL⟩ := Γ
  obtain ⟨hx, hb, hml, hown, hts, hK, hsz, hR0, hlk⟩ := X
  intro H locs ls hR hS hl
  cases q with
  | none => exact lv_astoreN hx hb hd hl hn hv (fun ls hl => kk H locs ls hR hS hl)
  | some x => exact lv_astore hx hb hd hl hn hv (fun ls hl => kk H locs ls hR hS hl)
theorem r_astore_n_q (X : Cx Γ cc own R0) {f : Fin 4} {i : Nat} {q : Option Nat} (hd : decode cc pc = .ok (.astore_n f, 1)) (hi : (f : Nat) = i) (hn : i < nLc Γ) (hv : (i, va_rf q) :: lv.filter (fun q => !(q.1 == i) && !(q.1 + 1 == i && q.2.category == 2)) = lv') (kk : V Γ σ k n (pc + 1) lv' (rest)) : V Γ σ k n (pc) lv (va_rf q :: rest) := by
  obtain ⟨p, l, e, R, s, m, args, below, meth, c, Q, D, sz, nL⟩ := Γ
  obtain ⟨hx, hb, hml, hown, hts, hK, hsz, hR0, hlk⟩ := X
  intro H locs ls hR hS hl
  cases q with
  | none => exact lv_astore_nN hx hb hd hi hl hn hv (fun ls hl => kk H locs ls hR hS hl)
  | some x => exact lv_astore_n hx hb hd hi hl hn hv (fun ls hl => kk H locs ls hR hS hl)
theorem r_iinc (X : Cx Γ cc own R0) (j : Nat) {i : Nat} {z x : Int} (hd : decode cc pc = .ok (.iinc i z, 3)) (hj : lv[j]? = some (i, iv x)) (hn : i < nLc Γ) (hv : (i, iv (x + z)) :: lv.filter (fun q => !(q.1 == i) && !(q.1 + 1 == i && q.2.category == 2)) = lv') (kk : V Γ σ k n (pc + 3) lv' (rest)) : V Γ σ k n (pc) lv (rest) := by
  obtain ⟨p, l, e, R, s, m, args, below, meth, c, Q, D, sz, nL⟩ := Γ
  obtain ⟨hx, hb, hml, hown, hts, hK, hsz, hR0, hlk⟩ := X
  intro H locs ls hR hS hl
  exact lv_iinc (v := Int32.ofInt (x + z)) hx hb hd hl hj (z_add x z) hn hv (fun ls hl => kk H locs ls hR hS hl)
theorem r_iadd (X : Cx Γ cc own R0) {x y : Int} (hd : decode cc pc = .ok (.iadd, 1)) (kk : V Γ σ k n (pc + 1) lv (iv (x + y) :: rest)) : V Γ σ k n (pc) lv (iv y :: iv x :: rest) := by
  obtain ⟨p, l, e, R, s, m, args, below, meth, c, Q, D, sz, nL⟩ := Γ
  obtain ⟨hx, hb, hml, hown, hts, hK, hsz, hR0, hlk⟩ := X
  intro H locs ls hR hS hl
  refine lv_iadd hx hb hd  ?_
  rw [z_add]
  exact kk H locs ls hR hS hl
theorem r_isub (X : Cx Γ cc own R0) {x y : Int} (hd : decode cc pc = .ok (.isub, 1)) (kk : V Γ σ k n (pc + 1) lv (iv (x - y) :: rest)) : V Γ σ k n (pc) lv (iv y :: iv x :: rest) := by
  obtain ⟨p, l, e, R, s, m, args, below, meth, c, Q, D, sz, nL⟩ := Γ
  obtain ⟨hx, hb, hml, hown, hts, hK, hsz, hR0, hlk⟩ := X
  intro H locs ls hR hS hl
  refine lv_isub hx hb hd  ?_
  rw [z_sub]
  exact kk H locs ls hR hS hl
theorem r_imul (X : Cx Γ cc own R0) {x y : Int} (hd : decode cc pc = .ok (.imul, 1)) (kk : V Γ σ k n (pc + 1) lv (iv (x * y) :: rest)) : V Γ σ k n (pc) lv (iv y :: iv x :: rest) := by
  obtain ⟨p, l, e, R, s, m, args, below, meth, c, Q, D, sz, nL⟩ := Γ
  obtain ⟨hx, hb, hml, hown, hts, hK, hsz, hR0, hlk⟩ := X
  intro H locs ls hR hS hl
  refine lv_imul hx hb hd  ?_
  rw [z_mul]
  exact kk H locs ls hR hS hl
theorem r_iand (X : Cx Γ cc own R0) {x y : Int} (hd : decode cc pc = .ok (.iand, 1)) (kk : V Γ σ k n (pc + 1) lv (iv (bAnd x y) :: rest)) : V Γ σ k n (pc) lv (iv y :: iv x :: rest) := by
  obtain ⟨p, l, e, R, s, m, args, below, meth, c, Q, D, sz, nL⟩ := Γ
  obtain ⟨hx, hb, hml, hown, hts, hK, hsz, hR0, hlk⟩ := X
  intro H locs ls hR hS hl
  refine lv_iand hx hb hd  ?_
  rw [z_and]
  exact kk H locs ls hR hS hl
theorem r_ior (X : Cx Γ cc own R0) {x y : Int} (hd : decode cc pc = .ok (.ior, 1)) (kk : V Γ σ k n (pc + 1) lv (iv (bOr x y) :: rest)) : V Γ σ k n (pc) lv (iv y :: iv x :: rest) := by
  obtain ⟨p, l, e, R, s, m, args, below, meth, c, Q, D, sz, nL⟩ := Γ
  obtain ⟨hx, hb, hml, hown, hts, hK, hsz, hR0, hlk⟩ := X
  intro H locs ls hR hS hl
  refine lv_ior hx hb hd  ?_
  rw [z_or]
  exact kk H locs ls hR hS hl
theorem r_ixor (X : Cx Γ cc own R0) {x y : Int} (hd : decode cc pc = .ok (.ixor, 1)) (kk : V Γ σ k n (pc + 1) lv (iv (bXor x y) :: rest)) : V Γ σ k n (pc) lv (iv y :: iv x :: rest) := by
  obtain ⟨p, l, e, R, s, m, args, below, meth, c, Q, D, sz, nL⟩ := Γ
  obtain ⟨hx, hb, hml, hown, hts, hK, hsz, hR0, hlk⟩ := X
  intro H locs ls hR hS hl
  refine lv_ixor hx hb hd  ?_
  rw [z_xor]
  exact kk H locs ls hR hS hl
theorem r_ishl (X : Cx Γ cc own R0) {x y : Int} (hd : decode cc pc = .ok (.ishl, 1)) (kk : V Γ σ k n (pc + 1) lv (iv (bShl x y) :: rest)) : V Γ σ k n (pc) lv (iv y :: iv x :: rest) := by
  obtain ⟨p, l, e, R, s, m, args, below, meth, c, Q, D, sz, nL⟩ := Γ
  obtain ⟨hx, hb, hml, hown, hts, hK, hsz, hR0, hlk⟩ := X
  intro H locs ls hR hS hl
  refine lv_ishl hx hb hd  ?_
  rw [z_shl]
  exact kk H locs ls hR hS hl
theorem r_ishr (X : Cx Γ cc own R0) {x y : Int} (hd : decode cc pc = .ok (.ishr, 1)) (kk : V Γ σ k n (pc + 1) lv (iv (bShr x y) :: rest)) : V Γ σ k n (pc) lv (iv y :: iv x :: rest) := by
  obtain ⟨p, l, e, R, s, m, args, below, meth, c, Q, D, sz, nL⟩ := Γ
  obtain ⟨hx, hb, hml, hown, hts, hK, hsz, hR0, hlk⟩ := X
  intro H locs ls hR hS hl
  refine lv_ishr hx hb hd  ?_
  rw [z_shr]
  exact kk H locs ls hR hS hl
theorem r_ladd (X : Cx Γ cc own R0) {x y : Int} (hd : decode cc pc = .ok (.ladd, 1)) (kk : V Γ σ k n (pc + 1) lv (jv (x + y) :: rest)) : V Γ σ k n (pc) lv (jv y :: jv x :: rest) := by
  obtain ⟨p, l, e, R, s, m, args, below, meth, c, Q, D, sz, nL⟩ := Γ
  obtain ⟨hx, hb, hml, hown, hts, hK, hsz, hR0, hlk⟩ := X
  intro H locs ls hR hS hl
  refine lv_ladd hx hb hd  ?_
  rw [z_addL]
  exact kk H locs ls hR hS hl
theorem r_lsub (X : Cx Γ cc own R0) {x y : Int} (hd : decode cc pc = .ok (.lsub, 1)) (kk : V Γ σ k n (pc + 1) lv (jv (x - y) :: rest)) : V Γ σ k n (pc) lv (jv y :: jv x :: rest) := by
  obtain ⟨p, l, e, R, s, m, args, below, meth, c, Q, D, sz, nL⟩ := Γ
  obtain ⟨hx, hb, hml, hown, hts, hK, hsz, hR0, hlk⟩ := X
  intro H locs ls hR hS hl
  refine lv_lsub hx hb hd  ?_
  rw [z_subL]
  exact kk H locs ls hR hS hl
theorem r_lmul (X : Cx Γ cc own R0) {x y : Int} (hd : decode cc pc = .ok (.lmul, 1)) (kk : V Γ σ k n (pc + 1) lv (jv (x * y) :: rest)) : V Γ σ k n (pc) lv (jv y :: jv x :: rest) := by
  obtain ⟨p, l, e, R, s, m, args, below, meth, c, Q, D, sz, nL⟩ := Γ
  obtain ⟨hx, hb, hml, hown, hts, hK, hsz, hR0, hlk⟩ := X
  intro H locs ls hR hS hl
  refine lv_lmul hx hb hd  ?_
  rw [z_mulL]
  exact kk H locs ls hR hS hl
theorem r_land (X : Cx Γ cc own R0) {x y : Int} (hd : decode cc pc = .ok (.land, 1)) (kk : V Γ σ k n (pc + 1) lv (jv (jAnd x y) :: rest)) : V Γ σ k n (pc) lv (jv y :: jv x :: rest) := by
  obtain ⟨p, l, e, R, s, m, args, below, meth, c, Q, D, sz, nL⟩ := Γ
  obtain ⟨hx, hb, hml, hown, hts, hK, hsz, hR0, hlk⟩ := X
  intro H locs ls hR hS hl
  refine lv_land hx hb hd  ?_
  rw [z_andL]
  exact kk H locs ls hR hS hl
theorem r_lor (X : Cx Γ cc own R0) {x y : Int} (hd : decode cc pc = .ok (.lor, 1)) (kk : V Γ σ k n (pc + 1) lv (jv (jOr x y) :: rest)) : V Γ σ k n (pc) lv (jv y :: jv x :: rest) := by
  obtain ⟨p, l, e, R, s, m, args, below, meth, c, Q, D, sz, nL⟩ := Γ
  obtain ⟨hx, hb, hml, hown, hts, hK, hsz, hR0, hlk⟩ := X
  intro H locs ls hR hS hl
  refine lv_lor hx hb hd  ?_
  rw [z_orL]
  exact kk H locs ls hR hS hl
theorem r_idiv (X : Cx Γ cc own R0) {x y : Int} (hd : decode cc pc = .ok (.idiv, 1)) (hx0 : inR x) (hy0 : inR y) (hy1 : ¬ y = 0) (kk : V Γ σ k n (pc + 1) lv (iv (x.tdiv y) :: rest)) : V Γ σ k n (pc) lv (iv y :: iv x :: rest) := by
  obtain ⟨p, l, e, R, s, m, args, below, meth, c, Q, D, sz, nL⟩ := Γ
  obtain ⟨hx, hb, hml, hown, hts, hK, hsz, hR0, hlk⟩ := X
  intro H locs ls hR hS hl
  refine lv_idiv hx hb hd (by rw [z_0, z_eq hy0 z_in0]; exact hy1) ?_
  rw [z_div hx0 hy0]
  exact kk H locs ls hR hS hl
theorem r_irem (X : Cx Γ cc own R0) {x y : Int} (hd : decode cc pc = .ok (.irem, 1)) (hx0 : inR x) (hy0 : inR y) (hy1 : ¬ y = 0) (kk : V Γ σ k n (pc + 1) lv (iv (x.tmod y) :: rest)) : V Γ σ k n (pc) lv (iv y :: iv x :: rest) := by
  obtain ⟨p, l, e, R, s, m, args, below, meth, c, Q, D, sz, nL⟩ := Γ
  obtain ⟨hx, hb, hml, hown, hts, hK, hsz, hR0, hlk⟩ := X
  intro H locs ls hR hS hl
  refine lv_irem hx hb hd (by rw [z_0, z_eq hy0 z_in0]; exact hy1) ?_
  rw [z_rem hx0 hy0]
  exact kk H locs ls hR hS hl
theorem r_ldiv (X : Cx Γ cc own R0) {x y : Int} (hd : decode cc pc = .ok (.ldiv, 1)) (hx0 : inL x) (hy0 : inL y) (hy1 : ¬ y = 0) (kk : V Γ σ k n (pc + 1) lv (jv (x.tdiv y) :: rest)) : V Γ σ k n (pc) lv (jv y :: jv x :: rest) := by
  obtain ⟨p, l, e, R, s, m, args, below, meth, c, Q, D, sz, nL⟩ := Γ
  obtain ⟨hx, hb, hml, hown, hts, hK, hsz, hR0, hlk⟩ := X
  intro H locs ls hR hS hl
  refine lv_ldiv hx hb hd (by rw [show (0 : Int64) = Int64.ofInt 0 from rfl, z_eqL hy0 (by decide)]; exact hy1) ?_
  rw [z_divL hx0 hy0]
  exact kk H locs ls hR hS hl
theorem r_lrem (X : Cx Γ cc own R0) {x y : Int} (hd : decode cc pc = .ok (.lrem, 1)) (hx0 : inL x) (hy0 : inL y) (hy1 : ¬ y = 0) (kk : V Γ σ k n (pc + 1) lv (jv (x.tmod y) :: rest)) : V Γ σ k n (pc) lv (jv y :: jv x :: rest) := by
  obtain ⟨p, l, e, R, s, m, args, below, meth, c, Q, D, sz, nL⟩ := Γ
  obtain ⟨hx, hb, hml, hown, hts, hK, hsz, hR0, hlk⟩ := X
  intro H locs ls hR hS hl
  refine lv_lrem hx hb hd (by rw [show (0 : Int64) = Int64.ofInt 0 from rfl, z_eqL hy0 (by decide)]; exact hy1) ?_
  rw [z_remL hx0 hy0]
  exact kk H locs ls hR hS hl
theorem r_iushr (X : Cx Γ cc own R0) {x y : Int} (hd : decode cc pc = .ok (.iushr, 1)) (kk : V Γ σ k n (pc + 1) lv (iv (bUshr x y) :: rest)) : V Γ σ k n (pc) lv (iv y :: iv x :: rest) := by
  obtain ⟨p, l, e, R, s, m, args, below, meth, c, Q, D, sz, nL⟩ := Γ
  obtain ⟨hx, hb, hml, hown, hts, hK, hsz, hR0, hlk⟩ := X
  intro H locs ls hR hS hl
  exact lv_iushr hx hb hd (z_ushr x y) (kk H locs ls hR hS hl)
theorem r_lushr (X : Cx Γ cc own R0) {x y : Int} (hd : decode cc pc = .ok (.lushr, 1)) (kk : V Γ σ k n (pc + 1) lv (jv (jUshr x y) :: rest)) : V Γ σ k n (pc) lv (iv y :: jv x :: rest) := by
  obtain ⟨p, l, e, R, s, m, args, below, meth, c, Q, D, sz, nL⟩ := Γ
  obtain ⟨hx, hb, hml, hown, hts, hK, hsz, hR0, hlk⟩ := X
  intro H locs ls hR hS hl
  exact lv_lushr hx hb hd (z_ushrL x y) (kk H locs ls hR hS hl)
theorem r_lshl (X : Cx Γ cc own R0) {x y : Int} (hd : decode cc pc = .ok (.lshl, 1)) (kk : V Γ σ k n (pc + 1) lv (jv (jShl x y) :: rest)) : V Γ σ k n (pc) lv (iv y :: jv x :: rest) := by
  obtain ⟨p, l, e, R, s, m, args, below, meth, c, Q, D, sz, nL⟩ := Γ
  obtain ⟨hx, hb, hml, hown, hts, hK, hsz, hR0, hlk⟩ := X
  intro H locs ls hR hS hl
  exact lv_lshl hx hb hd (z_shlL x y) (kk H locs ls hR hS hl)
theorem r_ineg (X : Cx Γ cc own R0) {x : Int} (hd : decode cc pc = .ok (.ineg, 1)) (kk : V Γ σ k n (pc + 1) lv (iv (-x) :: rest)) : V Γ σ k n (pc) lv (iv x :: rest) := by
  obtain ⟨p, l, e, R, s, m, args, below, meth, c, Q, D, sz, nL⟩ := Γ
  obtain ⟨hx, hb, hml, hown, hts, hK, hsz, hR0, hlk⟩ := X
  intro H locs ls hR hS hl
  refine lv_ineg hx hb hd ?_
  rw [z_neg]
  exact kk H locs ls hR hS hl
theorem r_i2l (X : Cx Γ cc own R0) {x : Int} (hd : decode cc pc = .ok (.i2l, 1)) (hx0 : inR x) (kk : V Γ σ k n (pc + 1) lv (jv x :: rest)) : V Γ σ k n (pc) lv (iv x :: rest) := by
  obtain ⟨p, l, e, R, s, m, args, below, meth, c, Q, D, sz, nL⟩ := Γ
  obtain ⟨hx, hb, hml, hown, hts, hK, hsz, hR0, hlk⟩ := X
  intro H locs ls hR hS hl
  exact lv_i2l hx hb hd (z_i2l hx0) (kk H locs ls hR hS hl)
theorem r_l2i (X : Cx Γ cc own R0) {x : Int} (hd : decode cc pc = .ok (.l2i, 1)) (kk : V Γ σ k n (pc + 1) lv (iv x :: rest)) : V Γ σ k n (pc) lv (jv x :: rest) := by
  obtain ⟨p, l, e, R, s, m, args, below, meth, c, Q, D, sz, nL⟩ := Γ
  obtain ⟨hx, hb, hml, hown, hts, hK, hsz, hR0, hlk⟩ := X
  intro H locs ls hR hS hl
  exact lv_l2i hx hb hd (z_l2i x) (kk H locs ls hR hS hl)
theorem r_i2b (X : Cx Γ cc own R0) {x : Int} (hd : decode cc pc = .ok (.i2b, 1)) (kk : V Γ σ k n (pc + 1) lv (iv (bByte x) :: rest)) : V Γ σ k n (pc) lv (iv x :: rest) := by
  obtain ⟨p, l, e, R, s, m, args, below, meth, c, Q, D, sz, nL⟩ := Γ
  obtain ⟨hx, hb, hml, hown, hts, hK, hsz, hR0, hlk⟩ := X
  intro H locs ls hR hS hl
  exact lv_i2b hx hb hd (z_byte x) (kk H locs ls hR hS hl)
theorem r_dup (X : Cx Γ cc own R0) {v : Value} (hd : decode cc pc = .ok (.dup, 1)) (hc : v.category = 1) (kk : V Γ σ k n (pc + 1) lv (v :: v :: rest)) : V Γ σ k n (pc) lv (v :: rest) := by
  obtain ⟨p, l, e, R, s, m, args, below, meth, c, Q, D, sz, nL⟩ := Γ
  obtain ⟨hx, hb, hml, hown, hts, hK, hsz, hR0, hlk⟩ := X
  intro H locs ls hR hS hl
  exact lv_dup hx hb hd hc (kk H locs ls hR hS hl)
theorem r_pop (X : Cx Γ cc own R0) {v : Value} (hd : decode cc pc = .ok (.pop, 1)) (hc : v.category = 1) (kk : V Γ σ k n (pc + 1) lv (rest)) : V Γ σ k n (pc) lv (v :: rest) := by
  obtain ⟨p, l, e, R, s, m, args, below, meth, c, Q, D, sz, nL⟩ := Γ
  obtain ⟨hx, hb, hml, hown, hts, hK, hsz, hR0, hlk⟩ := X
  intro H locs ls hR hS hl
  exact lv_pop hx hb hd hc (kk H locs ls hR hS hl)
theorem r_dup2 (X : Cx Γ cc own R0) {v w : Value} (hd : decode cc pc = .ok (.dup2, 1)) (hv : v.category = 1) (hw : w.category = 1) (kk : V Γ σ k n (pc + 1) lv (v :: w :: v :: w :: rest)) : V Γ σ k n (pc) lv (v :: w :: rest) := by
  obtain ⟨p, l, e, R, s, m, args, below, meth, c, Q, D, sz, nL⟩ := Γ
  obtain ⟨hx, hb, hml, hown, hts, hK, hsz, hR0, hlk⟩ := X
  intro H locs ls hR hS hl
  exact lv_dup2_11 hx hb hd hv hw (kk H locs ls hR hS hl)
theorem r_goto (X : Cx Γ cc own R0) {off : Int} {tgt : Nat} (hd : decode cc pc = .ok (.goto off, 3)) (ht : (pc : Int) + off = (tgt : Int)) (kk : V Γ σ k n (tgt) lv (st)) : V Γ σ k n (pc) lv (st) := by
  obtain ⟨p, l, e, R, s, m, args, below, meth, c, Q, D, sz, nL⟩ := Γ
  obtain ⟨hx, hb, hml, hown, hts, hK, hsz, hR0, hlk⟩ := X
  intro H locs ls hR hS hl
  exact lv_goto hx hb hd ht (kk H locs ls hR hS hl)
theorem r_if_eq {T : Type} (X : Cx Γ cc own R0) {x : Int} {off : Int} {tgt : Nat} {A B : Option T} {r : T} (hd : decode cc pc = .ok (.ifCond .eq off, 3)) (ht : (pc : Int) + off = (tgt : Int)) (h : cEq x 0 A B = some r) (ka : x = 0 → A = some r → V Γ σ k n (tgt) lv (rest)) (kb : ¬ x = 0 → B = some r → V Γ σ k n (pc + 3) lv (rest)) : V Γ σ k n (pc) lv (iv x :: rest) := by
  obtain ⟨p, l, e, R, s, m, args, below, meth, c, Q, D, sz, nL⟩ := Γ
  obtain ⟨hx, hb, hml, hown, hts, hK, hsz, hR0, hlk⟩ := X
  intro H locs ls hR hS hl
  obtain ⟨h1, h2, hA, hB⟩ := cEq_some h
  have hif := z_eq h1 h2
  refine lv_if_eq (tgt := tgt) hx hb hd ht (fun q => ?_) (fun q => ?_)
  · have q1 := hif.mp q
    exact ka q1 (hA q1) H locs ls hR hS hl
  · have q1 := fun z => q (hif.mpr z)
    exact kb q1 (hB q1) H locs ls hR hS hl
theorem r_icmp_eq {T : Type} (X : Cx Γ cc own R0) {x y : Int} {off : Int} {tgt : Nat} {A B : Option T} {r : T} (hd : decode cc pc = .ok (.if_icmp .eq off, 3)) (ht : (pc : Int) + off = (tgt : Int)) (h : cEq x y A B = some r) (ka : x = y → A = some r → V Γ σ k n (tgt) lv (rest)) (kb : ¬ x = y → B = some r → V Γ σ k n (pc + 3) lv (rest)) : V Γ σ k n (pc) lv (iv y :: iv x :: rest) := by
  obtain ⟨p, l, e, R, s, m, args, below, meth, c, Q, D, sz, nL⟩ := Γ
  obtain ⟨hx, hb, hml, hown, hts, hK, hsz, hR0, hlk⟩ := X
  intro H locs ls hR hS hl
  obtain ⟨h1, h2, hA, hB⟩ := cEq_some h
  have hif := z_eq h1 h2
  refine lv_icmp_eq (tgt := tgt) hx hb hd ht (fun q => ?_) (fun q => ?_)
  · have q1 := hif.mp q
    exact ka q1 (hA q1) H locs ls hR hS hl
  · have q1 := fun z => q (hif.mpr z)
    exact kb q1 (hB q1) H locs ls hR hS hl
theorem r_if_ne {T : Type} (X : Cx Γ cc own R0) {x : Int} {off : Int} {tgt : Nat} {A B : Option T} {r : T} (hd : decode cc pc = .ok (.ifCond .ne off, 3)) (ht : (pc : Int) + off = (tgt : Int)) (h : cEq x 0 A B = some r) (ka : x = 0 → A = some r → V Γ σ k n (pc + 3) lv (rest)) (kb : ¬ x = 0 → B = some r → V Γ σ k n (tgt) lv (rest)) : V Γ σ k n (pc) lv (iv x :: rest) := by
  obtain ⟨p, l, e, R, s, m, args, below, meth, c, Q, D, sz, nL⟩ := Γ
  obtain ⟨hx, hb, hml, hown, hts, hK, hsz, hR0, hlk⟩ := X
  intro H locs ls hR hS hl
  obtain ⟨h1, h2, hA, hB⟩ := cEq_some h
  have hif := z_eq h1 h2
  refine lv_if_ne (tgt := tgt) hx hb hd ht (fun q => ?_) (fun q => ?_)
  · have q1 := fun z => q (hif.mpr z)
    exact kb q1 (hB q1) H locs ls hR hS hl
  · have q1 := hif.mp q
    exact ka q1 (hA q1) H locs ls hR hS hl
theorem r_icmp_ne {T : Type} (X : Cx Γ cc own R0) {x y : Int} {off : Int} {tgt : Nat} {A B : Option T} {r : T} (hd : decode cc pc = .ok (.if_icmp .ne off, 3)) (ht : (pc : Int) + off = (tgt : Int)) (h : cEq x y A B = some r) (ka : x = y → A = some r → V Γ σ k n (pc + 3) lv (rest)) (kb : ¬ x = y → B = some r → V Γ σ k n (tgt) lv (rest)) : V Γ σ k n (pc) lv (iv y :: iv x :: rest) := by
  obtain ⟨p, l, e, R, s, m, args, below, meth, c, Q, D, sz, nL⟩ := Γ
  obtain ⟨hx, hb, hml, hown, hts, hK, hsz, hR0, hlk⟩ := X
  intro H locs ls hR hS hl
  obtain ⟨h1, h2, hA, hB⟩ := cEq_some h
  have hif := z_eq h1 h2
  refine lv_icmp_ne (tgt := tgt) hx hb hd ht (fun q => ?_) (fun q => ?_)
  · have q1 := fun z => q (hif.mpr z)
    exact kb q1 (hB q1) H locs ls hR hS hl
  · have q1 := hif.mp q
    exact ka q1 (hA q1) H locs ls hR hS hl
theorem r_if_lt {T : Type} (X : Cx Γ cc own R0) {x : Int} {off : Int} {tgt : Nat} {A B : Option T} {r : T} (hd : decode cc pc = .ok (.ifCond .lt off, 3)) (ht : (pc : Int) + off = (tgt : Int)) (h : cLt x 0 A B = some r) (ka : x < 0 → A = some r → V Γ σ k n (tgt) lv (rest)) (kb : ¬ x < 0 → B = some r → V Γ σ k n (pc + 3) lv (rest)) : V Γ σ k n (pc) lv (iv x :: rest) := by
  obtain ⟨p, l, e, R, s, m, args, below, meth, c, Q, D, sz, nL⟩ := Γ
  obtain ⟨hx, hb, hml, hown, hts, hK, hsz, hR0, hlk⟩ := X
  intro H locs ls hR hS hl
  obtain ⟨h1, h2, hA, hB⟩ := cLt_some h
  have hif := z_lt h1 h2
  refine lv_if_lt (tgt := tgt) hx hb hd ht (fun q => ?_) (fun q => ?_)
  · have q1 := hif.mp q
    exact ka q1 (hA q1) H locs ls hR hS hl
  · have q1 := fun z => q (hif.mpr z)
    exact kb q1 (hB q1) H locs ls hR hS hl
theorem r_icmp_lt {T : Type} (X : Cx Γ cc own R0) {x y : Int} {off : Int} {tgt : Nat} {A B : Option T} {r : T} (hd : decode cc pc = .ok (.if_icmp .lt off, 3)) (ht : (pc : Int) + off = (tgt : Int)) (h : cLt x y A B = some r) (ka : x < y → A = some r → V Γ σ k n (tgt) lv (rest)) (kb : ¬ x < y → B = some r → V Γ σ k n (pc + 3) lv (rest)) : V Γ σ k n (pc) lv (iv y :: iv x :: rest) := by
  obtain ⟨p, l, e, R, s, m, args, below, meth, c, Q, D, sz, nL⟩ := Γ
  obtain ⟨hx, hb, hml, hown, hts, hK, hsz, hR0, hlk⟩ := X
  intro H locs ls hR hS hl
  obtain ⟨h1, h2, hA, hB⟩ := cLt_some h
  have hif := z_lt h1 h2
  refine lv_icmp_lt (tgt := tgt) hx hb hd ht (fun q => ?_) (fun q => ?_)
  · have q1 := hif.mp q
    exact ka q1 (hA q1) H locs ls hR hS hl
  · have q1 := fun z => q (hif.mpr z)
    exact kb q1 (hB q1) H locs ls hR hS hl
theorem r_if_ge {T : Type} (X : Cx Γ cc own R0) {x : Int} {off : Int} {tgt : Nat} {A B : Option T} {r : T} (hd : decode cc pc = .ok (.ifCond .ge off, 3)) (ht : (pc : Int) + off = (tgt : Int)) (h : cLt x 0 A B = some r) (ka : x < 0 → A = some r → V Γ σ k n (pc + 3) lv (rest)) (kb : ¬ x < 0 → B = some r → V Γ σ k n (tgt) lv (rest)) : V Γ σ k n (pc) lv (iv x :: rest) := by
  obtain ⟨p, l, e, R, s, m, args, below, meth, c, Q, D, sz, nL⟩ := Γ
  obtain ⟨hx, hb, hml, hown, hts, hK, hsz, hR0, hlk⟩ := X
  intro H locs ls hR hS hl
  obtain ⟨h1, h2, hA, hB⟩ := cLt_some h
  have hif := z_le h2 h1
  refine lv_if_ge (tgt := tgt) hx hb hd ht (fun q => ?_) (fun q => ?_)
  · have q1 := Int.not_lt.mpr (hif.mp q)
    exact kb q1 (hB q1) H locs ls hR hS hl
  · have q1 := Int.not_le.mp (fun z => q (hif.mpr z))
    exact ka q1 (hA q1) H locs ls hR hS hl
theorem r_icmp_ge {T : Type} (X : Cx Γ cc own R0) {x y : Int} {off : Int} {tgt : Nat} {A B : Option T} {r : T} (hd : decode cc pc = .ok (.if_icmp .ge off, 3)) (ht : (pc : Int) + off = (tgt : Int)) (h : cLt x y A B = some r) (ka : x < y → A = some r → V Γ σ k n (pc + 3) lv (rest)) (kb : ¬ x < y → B = some r → V Γ σ k n (tgt) lv (rest)) : V Γ σ k n (pc) lv (iv y :: iv x :: rest) := by
  obtain ⟨p, l, e, R, s, m, args, below, meth, c, Q, D, sz, nL⟩ := Γ
  obtain ⟨hx, hb, hml, hown, hts, hK, hsz, hR0, hlk⟩ := X
  intro H locs ls hR hS hl
  obtain ⟨h1, h2, hA, hB⟩ := cLt_some h
  have hif := z_le h2 h1
  refine lv_icmp_ge (tgt := tgt) hx hb hd ht (fun q => ?_) (fun q => ?_)
  · have q1 := Int.not_lt.mpr (hif.mp q)
    exact kb q1 (hB q1) H locs ls hR hS hl
  · have q1 := Int.not_le.mp (fun z => q (hif.mpr z))
    exact ka q1 (hA q1) H locs ls hR hS hl
theorem r_if_gt {T : Type} (X : Cx Γ cc own R0) {x : Int} {off : Int} {tgt : Nat} {A B : Option T} {r : T} (hd : decode cc pc = .ok (.ifCond .gt off, 3)) (ht : (pc : Int) + off = (tgt : Int)) (h : cLt 0 x A B = some r) (ka : 0 < x → A = some r → V Γ σ k n (tgt) lv (rest)) (kb : ¬ 0 < x → B = some r → V Γ σ k n (pc + 3) lv (rest)) : V Γ σ k n (pc) lv (iv x :: rest) := by
  obtain ⟨p, l, e, R, s, m, args, below, meth, c, Q, D, sz, nL⟩ := Γ
  obtain ⟨hx, hb, hml, hown, hts, hK, hsz, hR0, hlk⟩ := X
  intro H locs ls hR hS hl
  obtain ⟨h1, h2, hA, hB⟩ := cLt_some h
  have hif := z_lt h1 h2
  refine lv_if_gt (tgt := tgt) hx hb hd ht (fun q => ?_) (fun q => ?_)
  · have q1 := hif.mp q
    exact ka q1 (hA q1) H locs ls hR hS hl
  · have q1 := fun z => q (hif.mpr z)
    exact kb q1 (hB q1) H locs ls hR hS hl
theorem r_icmp_gt {T : Type} (X : Cx Γ cc own R0) {x y : Int} {off : Int} {tgt : Nat} {A B : Option T} {r : T} (hd : decode cc pc = .ok (.if_icmp .gt off, 3)) (ht : (pc : Int) + off = (tgt : Int)) (h : cLt y x A B = some r) (ka : y < x → A = some r → V Γ σ k n (tgt) lv (rest)) (kb : ¬ y < x → B = some r → V Γ σ k n (pc + 3) lv (rest)) : V Γ σ k n (pc) lv (iv y :: iv x :: rest) := by
  obtain ⟨p, l, e, R, s, m, args, below, meth, c, Q, D, sz, nL⟩ := Γ
  obtain ⟨hx, hb, hml, hown, hts, hK, hsz, hR0, hlk⟩ := X
  intro H locs ls hR hS hl
  obtain ⟨h1, h2, hA, hB⟩ := cLt_some h
  have hif := z_lt h1 h2
  refine lv_icmp_gt (tgt := tgt) hx hb hd ht (fun q => ?_) (fun q => ?_)
  · have q1 := hif.mp q
    exact ka q1 (hA q1) H locs ls hR hS hl
  · have q1 := fun z => q (hif.mpr z)
    exact kb q1 (hB q1) H locs ls hR hS hl
theorem r_if_le {T : Type} (X : Cx Γ cc own R0) {x : Int} {off : Int} {tgt : Nat} {A B : Option T} {r : T} (hd : decode cc pc = .ok (.ifCond .le off, 3)) (ht : (pc : Int) + off = (tgt : Int)) (h : cLt 0 x A B = some r) (ka : 0 < x → A = some r → V Γ σ k n (pc + 3) lv (rest)) (kb : ¬ 0 < x → B = some r → V Γ σ k n (tgt) lv (rest)) : V Γ σ k n (pc) lv (iv x :: rest) := by
  obtain ⟨p, l, e, R, s, m, args, below, meth, c, Q, D, sz, nL⟩ := Γ
  obtain ⟨hx, hb, hml, hown, hts, hK, hsz, hR0, hlk⟩ := X
  intro H locs ls hR hS hl
  obtain ⟨h1, h2, hA, hB⟩ := cLt_some h
  have hif := z_le h2 h1
  refine lv_if_le (tgt := tgt) hx hb hd ht (fun q => ?_) (fun q => ?_)
  · have q1 := Int.not_lt.mpr (hif.mp q)
    exact kb q1 (hB q1) H locs ls hR hS hl
  · have q1 := Int.not_le.mp (fun z => q (hif.mpr z))
    exact ka q1 (hA q1) H locs ls hR hS hl
theorem r_icmp_le {T : Type} (X : Cx Γ cc own R0) {x y : Int} {off : Int} {tgt : Nat} {A B : Option T} {r : T} (hd : decode cc pc = .ok (.if_icmp .le off, 3)) (ht : (pc : Int) + off = (tgt : Int)) (h : cLt y x A B = some r) (ka : y < x → A = some r → V Γ σ k n (pc + 3) lv (rest)) (kb : ¬ y < x → B = some r → V Γ σ k n (tgt) lv (rest)) : V Γ σ k n (pc) lv (iv y :: iv x :: rest) := by
  obtain ⟨p, l, e, R, s, m, args, below, meth, c, Q, D, sz, nL⟩ := Γ
  obtain ⟨hx, hb, hml, hown, hts, hK, hsz, hR0, hlk⟩ := X
  intro H locs ls hR hS hl
  obtain ⟨h1, h2, hA, hB⟩ := cLt_some h
  have hif := z_le h2 h1
  refine lv_icmp_le (tgt := tgt) hx hb hd ht (fun q => ?_) (fun q => ?_)
  · have q1 := Int.not_lt.mpr (hif.mp q)
    exact kb q1 (hB q1) H locs ls hR hS hl
  · have q1 := Int.not_le.mp (fun z => q (hif.mpr z))
    exact ka q1 (hA q1) H locs ls hR hS hl
theorem z_cmp {x y : Int} (hx : inL x) (hy : inL y) : (lg_cmp (Int64.ofInt x) (Int64.ofInt y) < 0 ↔ x < y) ∧ (lg_cmp (Int64.ofInt x) (Int64.ofInt y) = 0 ↔ x = y) ∧ (0 < lg_cmp (Int64.ofInt x) (Int64.ofInt y) ↔ y < x) := by
  have e1 := z_ltL hx hy
  have e2 := z_ltL hy hx
  have e3 := z_eqL hx hy
  rcases Int.lt_trichotomy x y with h | h | h
  · have n1 : ¬ Int64.ofInt y < Int64.ofInt x := fun q => by have := e2.mp q; omega
    have n2 : ¬ Int64.ofInt x = Int64.ofInt y := fun q => by have := e3.mp q; omega
    have ev : lg_cmp (Int64.ofInt x) (Int64.ofInt y) = -1 := by simp [lg_cmp, n1, n2]
    rw [ev]
    exact ⟨⟨fun _ => h, fun _ => by decide⟩, ⟨fun q => absurd q (by decide), fun q => by omega⟩, ⟨fun q => absurd q (by decide), fun q => by omega⟩⟩
  · subst h
    have ev : lg_cmp (Int64.ofInt x) (Int64.ofInt x) = 0 := by simp [lg_cmp]
    rw [ev]
    exact ⟨⟨fun q => absurd q (by decide), fun q => by omega⟩, ⟨fun _ => rfl, fun _ => rfl⟩, ⟨fun q => absurd q (by decide), fun q => by omega⟩⟩
  · have n1 : Int64.ofInt y < Int64.ofInt x := e2.mpr h
    have ev : lg_cmp (Int64.ofInt x) (Int64.ofInt y) = 1 := by simp [lg_cmp, n1]
    rw [ev]
    exact ⟨⟨fun q => absurd q (by decide), fun q => by omega⟩, ⟨fun q => absurd q (by decide), fun q => by omega⟩, ⟨fun _ => h, fun _ => by decide⟩⟩
theorem r_lcmp_eq {T : Type} (X : Cx Γ cc own R0) {x y : Int} {off : Int} {tgt : Nat} {A B : Option T} {r : T} (hd0 : decode cc pc = .ok (.lcmp, 1)) (hd : decode cc (pc + 1) = .ok (.ifCond .eq off, 3)) (ht : ((pc + 1 : Nat) : Int) + off = (tgt : Int)) (h : jEq x y A B = some r) (ka : x = y → A = some r → V Γ σ k n (tgt) lv (rest)) (kb : ¬ x = y → B = some r → V Γ σ k n (pc + 1 + 3) lv (rest)) : V Γ σ k n (pc) lv (jv y :: jv x :: rest) := by
  obtain ⟨p, l, e, R, s, m, args, below, meth, c, Q, D, sz, nL⟩ := Γ
  obtain ⟨hx, hb, hml, hown, hts, hK, hsz, hR0, hlk⟩ := X
  intro H locs ls hR hS hl
  obtain ⟨h1, h2, hA, hB⟩ := jEq_some h
  obtain ⟨i1, i2, i3⟩ := z_cmp h1 h2
  refine W.lcmp hx hb hd0 ?_
  refine lv_if_eq (tgt := tgt) hx hb hd ht (fun q => ?_) (fun q => ?_)
  · have q1 := i2.mp q
    exact ka q1 (hA q1) H locs ls hR hS hl
  · have q1 := fun z => q (i2.mpr z)
    exact kb q1 (hB q1) H locs ls hR hS hl
theorem r_lcmp_ne {T : Type} (X : Cx Γ cc own R0) {x y : Int} {off : Int} {tgt : Nat} {A B : Option T} {r : T} (hd0 : decode cc pc = .ok (.lcmp, 1)) (hd : decode cc (pc + 1) = .ok (.ifCond .ne off, 3)) (ht : ((pc + 1 : Nat) : Int) + off = (tgt : Int)) (h : jEq x y A B = some r) (ka : x = y → A = some r → V Γ σ k n (pc + 1 + 3) lv (rest)) (kb : ¬ x = y → B = some r → V Γ σ k n (tgt) lv (rest)) : V Γ σ k n (pc) lv (jv y :: jv x :: rest) := by
  obtain ⟨p, l, e, R, s, m, args, below, meth, c, Q, D, sz, nL⟩ := Γ
  obtain ⟨hx, hb, hml, hown, hts, hK, hsz, hR0, hlk⟩ := X
  intro H locs ls hR hS hl
  obtain ⟨h1, h2, hA, hB⟩ := jEq_some h
  obtain ⟨i1, i2, i3⟩ := z_cmp h1 h2
  refine W.lcmp hx hb hd0 ?_
  refine lv_if_ne (tgt := tgt) hx hb hd ht (fun q => ?_) (fun q => ?_)
  · have q1 := fun z => q (i2.mpr z)
    exact kb q1 (hB q1) H locs ls hR hS hl
  · have q1 := i2.mp q
    exact ka q1 (hA q1) H locs ls hR hS hl
theorem r_lcmp_lt {T : Type} (X : Cx Γ cc own R0) {x y : Int} {off : Int} {tgt : Nat} {A B : Option T} {r : T} (hd0 : decode cc pc = .ok (.lcmp, 1)) (hd : decode cc (pc + 1) = .ok (.ifCond .lt off, 3)) (ht : ((pc + 1 : Nat) : Int) + off = (tgt : Int)) (h : jLt x y A B = some r) (ka : x < y → A = some r → V Γ σ k n (tgt) lv (rest)) (kb : ¬ x < y → B = some r → V Γ σ k n (pc + 1 + 3) lv (rest)) : V Γ σ k n (pc) lv (jv y :: jv x :: rest) := by
  obtain ⟨p, l, e, R, s, m, args, below, meth, c, Q, D, sz, nL⟩ := Γ
  obtain ⟨hx, hb, hml, hown, hts, hK, hsz, hR0, hlk⟩ := X
  intro H locs ls hR hS hl
  obtain ⟨h1, h2, hA, hB⟩ := jLt_some h
  obtain ⟨i1, i2, i3⟩ := z_cmp h1 h2
  refine W.lcmp hx hb hd0 ?_
  refine lv_if_lt (tgt := tgt) hx hb hd ht (fun q => ?_) (fun q => ?_)
  · have q1 := i1.mp q
    exact ka q1 (hA q1) H locs ls hR hS hl
  · have q1 := fun z => q (i1.mpr z)
    exact kb q1 (hB q1) H locs ls hR hS hl
theorem r_lcmp_ge {T : Type} (X : Cx Γ cc own R0) {x y : Int} {off : Int} {tgt : Nat} {A B : Option T} {r : T} (hd0 : decode cc pc = .ok (.lcmp, 1)) (hd : decode cc (pc + 1) = .ok (.ifCond .ge off, 3)) (ht : ((pc + 1 : Nat) : Int) + off = (tgt : Int)) (h : jLt x y A B = some r) (ka : x < y → A = some r → V Γ σ k n (pc + 1 + 3) lv (rest)) (kb : ¬ x < y → B = some r → V Γ σ k n (tgt) lv (rest)) : V Γ σ k n (pc) lv (jv y :: jv x :: rest) := by
  obtain ⟨p, l, e, R, s, m, args, below, meth, c, Q, D, sz, nL⟩ := Γ
  obtain ⟨hx, hb, hml, hown, hts, hK, hsz, hR0, hlk⟩ := X
  intro H locs ls hR hS hl
  obtain ⟨h1, h2, hA, hB⟩ := jLt_some h
  obtain ⟨i1, i2, i3⟩ := z_cmp h1 h2
  refine W.lcmp hx hb hd0 ?_
  refine lv_if_ge (tgt := tgt) hx hb hd ht (fun q => ?_) (fun q => ?_)
  · have q1 := fun z => (Int32.not_lt.mpr q) (i1.mpr z)
    exact kb q1 (hB q1) H locs ls hR hS hl
  · have q1 := i1.mp (Int32.not_le.mp q)
    exact ka q1 (hA q1) H locs ls hR hS hl
theorem r_lcmp_gt {T : Type} (X : Cx Γ cc own R0) {x y : Int} {off : Int} {tgt : Nat} {A B : Option T} {r : T} (hd0 : decode cc pc = .ok (.lcmp, 1)) (hd : decode cc (pc + 1) = .ok (.ifCond .gt off, 3)) (ht : ((pc + 1 : Nat) : Int) + off = (tgt : Int)) (h : jLt y x A B = some r) (ka : y < x → A = some r → V Γ σ k n (tgt) lv (rest)) (kb : ¬ y < x → B = some r → V Γ σ k n (pc + 1 + 3) lv (rest)) : V Γ σ k n (pc) lv (jv y :: jv x :: rest) := by
  obtain ⟨p, l, e, R, s, m, args, below, meth, c, Q, D, sz, nL⟩ := Γ
  obtain ⟨hx, hb, hml, hown, hts, hK, hsz, hR0, hlk⟩ := X
  intro H locs ls hR hS hl
  obtain ⟨h1, h2, hA, hB⟩ := jLt_some h
  obtain ⟨i1, i2, i3⟩ := z_cmp h2 h1
  refine W.lcmp hx hb hd0 ?_
  refine lv_if_gt (tgt := tgt) hx hb hd ht (fun q => ?_) (fun q => ?_)
  · have q1 := i3.mp q
    exact ka q1 (hA q1) H locs ls hR hS hl
  · have q1 := fun z => q (i3.mpr z)
    exact kb q1 (hB q1) H locs ls hR hS hl
theorem r_lcmp_le {T : Type} (X : Cx Γ cc own R0) {x y : Int} {off : Int} {tgt : Nat} {A B : Option T} {r : T} (hd0 : decode cc pc = .ok (.lcmp, 1)) (hd : decode cc (pc + 1) = .ok (.ifCond .le off, 3)) (ht : ((pc + 1 : Nat) : Int) + off = (tgt : Int)) (h : jLt y x A B = some r) (ka : y < x → A = some r → V Γ σ k n (pc + 1 + 3) lv (rest)) (kb : ¬ y < x → B = some r → V Γ σ k n (tgt) lv (rest)) : V Γ σ k n (pc) lv (jv y :: jv x :: rest) := by
  obtain ⟨p, l, e, R, s, m, args, below, meth, c, Q, D, sz, nL⟩ := Γ
  obtain ⟨hx, hb, hml, hown, hts, hK, hsz, hR0, hlk⟩ := X
  intro H locs ls hR hS hl
  obtain ⟨h1, h2, hA, hB⟩ := jLt_some h
  obtain ⟨i1, i2, i3⟩ := z_cmp h2 h1
  refine W.lcmp hx hb hd0 ?_
  refine lv_if_le (tgt := tgt) hx hb hd ht (fun q => ?_) (fun q => ?_)
  · have q1 := fun z => (Int32.not_lt.mpr q) (i3.mpr z)
    exact kb q1 (hB q1) H locs ls hR hS hl
  · have q1 := i3.mp (Int32.not_le.mp q)
    exact ka q1 (hA q1) H locs ls hR hS hl
end
