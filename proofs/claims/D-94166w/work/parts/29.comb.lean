/-! further words of the printed functions, and their rows -/
set_option maxRecDepth 100000
/-- a new name for a state -/
def wS {R : Type} (s : St) (K : St → Option R) : Option R := K s
/-- a call's answer and state -/
def bd2 {A R : Type} (x : Option (A × St)) (K : A → St → Option R) : Option R := x.bind fun q => K q.1 q.2
/-- a reference: null, or not -/
def cNull {R : Type} (q : Option Nat) (A : Option R) (B : Nat → Option R) : Option R := match q with
  | none => A
  | some a => B a
theorem bd2_some {A R : Type} {x : Option (A × St)} {K : A → St → Option R} {r : R} (h : bd2 x K = some r) : ∃ a s, x = some (a, s) ∧ K a s = some r := by
  obtain ⟨⟨a, s⟩, h1, h2⟩ := bd_some h
  exact ⟨a, s, h1, h2⟩
theorem lpU_wS {S R : Type} (b : S → Option (S ⊕ R)) (s : St) (K : St → Option (S ⊕ R)) : lpU b (wS s K) = wS s (fun t => lpU b (K t)) := rfl
theorem lpU_bd2 {A S R : Type} (b : S → Option (S ⊕ R)) (x : Option (A × St)) (K : A → St → Option (S ⊕ R)) : lpU b (bd2 x K) = bd2 x (fun a t => lpU b (K a t)) := by cases x <;> rfl
theorem lpU_cNull {S R : Type} (b : S → Option (S ⊕ R)) (q : Option Nat) (A : Option (S ⊕ R)) (B : Nat → Option (S ⊕ R)) : lpU b (cNull q A B) = cNull q (lpU b A) (fun a => lpU b (B a)) := by cases q <;> rfl
section
variable {Γ : Ctx} {cc : ByteArray} {own : String} {R0 : Room} {σ : St} {k n pc : Nat} {lv lv' : List (Nat × Value)} {st rest : List Value}
theorem r_let {T : Type} {K : St → Option T} {r : T} (h : wS σ K = some r) (kk : ∀ σ1, σ1 = σ → K σ1 = some r → V Γ σ1 k n pc lv st) : V Γ σ k n pc lv st := kk σ rfl h
theorem oc_sI {a q : Nat} {i v : Int} {b c : Nat} (h : oc σ b c) : oc (sI σ a q i v) b c := h
theorem oc_sJ {a q : Nat} {i v : Int} {b c : Nat} (h : oc σ b c) : oc (sJ σ a q i v) b c := h
theorem oc_sP {a q : Nat} {i : Int} {v : Option Nat} {b c : Nat} (h : oc σ b c) : oc (sP σ a q i v) b c := h
theorem r_ifnonnull {T : Type} {q : Option Nat} {off : Int} {tgt : Nat} {A : Option T} {B : Nat → Option T} {r : T} (X : Cx Γ cc own R0) (hd : decode cc pc = .ok (.ifnonnull off, 3)) (ht : (pc : Int) + off = (tgt : Int)) (h : cNull q A B = some r) (ka : q = none → A = some r → V Γ σ k n (pc + 3) lv rest) (kb : ∀ a, q = some a → B a = some r → V Γ σ k n tgt lv rest) : V Γ σ k n pc lv (va_rf q :: rest) := by
  obtain ⟨p, l, e, R, s, m, args, below, meth, c, Q, D, sz, nL⟩ := Γ
  obtain ⟨hx, hb, hml, hown, hts, hK, hsz, hR0, hlk⟩ := X
  intro H locs ls hR hS hl
  cases q with
  | none => exact lv_ifnonnullN hx hb hd (ka rfl h H locs ls hR hS hl)
  | some a => exact lv_ifnonnull hx hb hd ht (kb a rfl h H locs ls hR hS hl)
theorem r_ifnull {T : Type} {q : Option Nat} {off : Int} {tgt : Nat} {A : Option T} {B : Nat → Option T} {r : T} (X : Cx Γ cc own R0) (hd : decode cc pc = .ok (.ifnull off, 3)) (ht : (pc : Int) + off = (tgt : Int)) (h : cNull q A B = some r) (ka : q = none → A = some r → V Γ σ k n tgt lv rest) (kb : ∀ a, q = some a → B a = some r → V Γ σ k n (pc + 3) lv rest) : V Γ σ k n pc lv (va_rf q :: rest) := by
  obtain ⟨p, l, e, R, s, m, args, below, meth, c, Q, D, sz, nL⟩ := Γ
  obtain ⟨hx, hb, hml, hown, hts, hK, hsz, hR0, hlk⟩ := X
  intro H locs ls hR hS hl
  cases q with
  | none => exact lv_ifnullN hx hb hd ht (ka rfl h H locs ls hR hS hl)
  | some a => exact lv_ifnull hx hb hd (kb a rfl h H locs ls hR hS hl)
theorem r_tabIn {x : Int} {dflt lo hi : Int} {offs : Array Int} {len : Nat} {off : Int} {tgt : Nat} (X : Cx Γ cc own R0) (hd : decode cc pc = .ok (.tableswitch dflt lo hi offs, len)) (hx0 : inR x) (j : Int) (hj : x = j) (h1 : ¬ j < lo) (h2 : ¬ hi < j) (ho : offs[(j - lo).toNat]? = some off) (ht : (pc : Int) + off = (tgt : Int)) (kk : V Γ σ k n tgt lv rest) : V Γ σ k n pc lv (iv x :: rest) := by
  obtain ⟨p, l, e, R, s, m, args, below, meth, c, Q, D, sz, nL⟩ := Γ
  obtain ⟨hx, hb, hml, hown, hts, hK, hsz, hR0, hlk⟩ := X
  intro H locs ls hR hS hl
  subst hj
  have e0 := z_toInt hx0
  exact lv_tableIn hx hb hd (by rw [e0]; exact h1) (by rw [e0]; exact h2) (by rw [e0]; exact ho) ht (kk H locs ls hR hS hl)
theorem r_tabOut {x : Int} {dflt lo hi : Int} {offs : Array Int} {len : Nat} {tgt : Nat} (X : Cx Γ cc own R0) (hd : decode cc pc = .ok (.tableswitch dflt lo hi offs, len)) (hx0 : inR x) (h1 : x < lo ∨ hi < x) (ht : (pc : Int) + dflt = (tgt : Int)) (kk : V Γ σ k n tgt lv rest) : V Γ σ k n pc lv (iv x :: rest) := by
  obtain ⟨p, l, e, R, s, m, args, below, meth, c, Q, D, sz, nL⟩ := Γ
  obtain ⟨hx, hb, hml, hown, hts, hK, hsz, hR0, hlk⟩ := X
  intro H locs ls hR hS hl
  have e0 := z_toInt hx0
  exact lv_tableOut hx hb hd (by rw [e0]; exact h1) ht (kk H locs ls hR hS hl)
theorem r_lookup {x : Int} {dflt : Int} {ps : Array (Int × Int)} {len : Nat} {off : Int} {tgt : Nat} (X : Cx Γ cc own R0) (hd : decode cc pc = .ok (.lookupswitch dflt ps, len)) (hp : (ps.toList.zip (ps.toList.drop 1)).all (fun (a, next) => a.1 < next.1) = true) (hx0 : inR x) (ho : Op.lookupswitch.offset ps.toList dflt x = off) (ht : (pc : Int) + off = (tgt : Int)) (kk : V Γ σ k n tgt lv rest) : V Γ σ k n pc lv (iv x :: rest) := by
  obtain ⟨p, l, e, R, s, m, args, below, meth, c, Q, D, sz, nL⟩ := Γ
  obtain ⟨hx, hb, hml, hown, hts, hK, hsz, hR0, hlk⟩ := X
  intro H locs ls hR hS hl
  have e0 := z_toInt hx0
  exact lv_lookup hx hb hd hp (by rw [e0]; exact ho) ht (kk H locs ls hR hS hl)
end
