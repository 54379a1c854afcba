/-! THE PLAIN LAW: a small calculus of total functions -/
set_option maxRecDepth 100000
def T {R : Type} (x : Option R) (Q : R → Prop) : Prop := ∃ r, x = some r ∧ Q r
section
variable {R S A : Type}
theorem T_some (r : R) (Q : R → Prop) : T (some r) Q ↔ Q r := ⟨fun ⟨_, e, h⟩ => Option.some.inj e ▸ h, fun h => ⟨r, rfl, h⟩⟩
theorem T_none (Q : R → Prop) : T none Q ↔ False := ⟨fun ⟨_, e, _⟩ => (by cases e), fun h => h.elim⟩
theorem T_ck (p : Prop) [Decidable p] (x : Option R) (Q : R → Prop) : T (ck p x) Q ↔ p ∧ T x Q := by
  unfold ck
  split
  · rename_i h; exact ⟨fun q => ⟨h, q⟩, fun q => q.2⟩
  · rename_i h; exact ⟨fun ⟨_, e, _⟩ => (by cases e), fun q => absurd q.1 h⟩
theorem T_ite (p : Prop) [Decidable p] (x y : Option R) (Q : R → Prop) : T (if p then x else y) Q ↔ (p → T x Q) ∧ (¬ p → T y Q) := by
  split
  · rename_i h; exact ⟨fun q => ⟨fun _ => q, fun n => absurd h n⟩, fun q => q.1 h⟩
  · rename_i h; exact ⟨fun q => ⟨fun n => absurd n h, fun _ => q⟩, fun q => q.2 h⟩
theorem T_cLt (x y : Int) (A B : Option R) (Q : R → Prop) : T (cLt x y A B) Q ↔ (inR x ∧ inR y) ∧ (x < y → T A Q) ∧ (¬ x < y → T B Q) := by
  unfold cLt
  split
  · rename_i h; rw [T_ite]; exact ⟨fun q => ⟨h, q⟩, fun q => q.2⟩
  · rename_i h; exact ⟨fun ⟨_, e, _⟩ => (by cases e), fun q => absurd q.1 h⟩
theorem T_cEq (x y : Int) (A B : Option R) (Q : R → Prop) : T (cEq x y A B) Q ↔ (inR x ∧ inR y) ∧ (x = y → T A Q) ∧ (¬ x = y → T B Q) := by
  unfold cEq
  split
  · rename_i h; rw [T_ite]; exact ⟨fun q => ⟨h, q⟩, fun q => q.2⟩
  · rename_i h; exact ⟨fun ⟨_, e, _⟩ => (by cases e), fun q => absurd q.1 h⟩
theorem T_jLt (x y : Int) (A B : Option R) (Q : R → Prop) : T (jLt x y A B) Q ↔ (inL x ∧ inL y) ∧ (x < y → T A Q) ∧ (¬ x < y → T B Q) := by
  unfold jLt
  split
  · rename_i h; rw [T_ite]; exact ⟨fun q => ⟨h, q⟩, fun q => q.2⟩
  · rename_i h; exact ⟨fun ⟨_, e, _⟩ => (by cases e), fun q => absurd q.1 h⟩
theorem T_jEq (x y : Int) (A B : Option R) (Q : R → Prop) : T (jEq x y A B) Q ↔ (inL x ∧ inL y) ∧ (x = y → T A Q) ∧ (¬ x = y → T B Q) := by
  unfold jEq
  split
  · rename_i h; rw [T_ite]; exact ⟨fun q => ⟨h, q⟩, fun q => q.2⟩
  · rename_i h; exact ⟨fun ⟨_, e, _⟩ => (by cases e), fun q => absurd q.1 h⟩
theorem T_bind (x : Option A) (f : A → Option R) (Q : R → Prop) : T (x.bind f) Q ↔ T x (fun t => T (f t) Q) := by
  constructor
  · intro ⟨r, e, h⟩
    obtain ⟨t, e1, e2⟩ := bd_some e
    exact ⟨t, e1, r, e2, h⟩
  · intro ⟨t, e1, r, e2, h⟩
    exact ⟨r, by rw [e1]; exact e2, h⟩
theorem T_bd2 (x : Option (A × St)) (f : A → St → Option R) (Q : R → Prop) : T (bd2 x f) Q ↔ T x (fun t => T (f t.1 t.2) Q) := T_bind x _ Q
theorem T_wS (s : St) (f : St → Option R) (Q : R → Prop) : T (wS s f) Q ↔ T (f s) Q := Iff.rfl
theorem T_cO (σ : St) (a c : Nat) (x : Option R) (Q : R → Prop) : T (cO σ a c x) Q ↔ oc σ a c ∧ T x Q := by
  unfold cO
  split
  · rename_i h; exact ⟨fun q => ⟨(ocB_iff σ a c).mp h, q⟩, fun q => q.2⟩
  · rename_i h; exact ⟨fun ⟨_, e, _⟩ => (by cases e), fun q => absurd ((ocB_iff σ a c).mpr q.1) h⟩
theorem T_nnS (b : Nat) (f : Nat → Option R) (Q : R → Prop) : T (nn (some b) f) Q ↔ T (f b) Q := Iff.rfl
theorem T_nn (q : Option Nat) (f : Nat → Option R) (Q : R → Prop) : T (nn q f) Q ↔ ∃ b, q = some b ∧ T (f b) Q := by
  cases q with
  | none => exact ⟨fun ⟨_, e, _⟩ => (by cases e), fun ⟨_, e, _⟩ => (by cases e)⟩
  | some b => exact ⟨fun h => ⟨b, rfl, h⟩, fun ⟨_, e, h⟩ => (by cases e; exact h)⟩
theorem T_cNullN (X : Option R) (f : Nat → Option R) (Q : R → Prop) : T (cNull none X f) Q ↔ T X Q := Iff.rfl
theorem T_cNullS (b : Nat) (X : Option R) (f : Nat → Option R) (Q : R → Prop) : T (cNull (some b) X f) Q ↔ T (f b) Q := Iff.rfl
theorem T_bT2 (x : Option ((A × St) ⊕ (Nat × St))) (K : A → St → Option R) (E : Nat → St → Option R) (Q : R → Prop) : T (bT2 x K E) Q ↔ T x (Sum.elim (fun q => T (K q.1 q.2) Q) (fun q => T (E q.1 q.2) Q)) := by
  unfold bT2
  rw [T_bind]
  constructor
  · intro ⟨r, e, h⟩; refine ⟨r, e, ?_⟩; cases r <;> exact h
  · intro ⟨r, e, h⟩; refine ⟨r, e, ?_⟩; cases r <;> exact h
theorem T_bT1 (x : Option (St ⊕ (Nat × St))) (K : St → Option R) (E : Nat → St → Option R) (Q : R → Prop) : T (bT1 x K E) Q ↔ T x (Sum.elim (fun q => T (K q) Q) (fun q => T (E q.1 q.2) Q)) := by
  unfold bT1
  rw [T_bind]
  constructor
  · intro ⟨r, e, h⟩; refine ⟨r, e, ?_⟩; cases r <;> exact h
  · intro ⟨r, e, h⟩; refine ⟨r, e, ?_⟩; cases r <;> exact h
theorem T_ex (x : Option R) (Q : S ⊕ R → Prop) : T (ex x) Q ↔ T x (fun r => Q (.inr r)) := by
  unfold ex
  cases x with
  | none => exact ⟨fun ⟨_, e, _⟩ => (by cases e), fun ⟨_, e, _⟩ => (by cases e)⟩
  | some r => exact ⟨fun ⟨_, e, h⟩ => ⟨r, rfl, (by cases e; exact h)⟩, fun ⟨_, e, h⟩ => ⟨.inr r, rfl, (by cases e; exact h)⟩⟩
theorem T_dC (σ : St) (b c : Nat) (x y : Option R) (Q : R → Prop) : T (dC σ b c x y) Q ↔ (cL σ b = some c → T x Q) ∧ (¬ cL σ b = some c → T y Q) := T_ite _ x y Q
theorem T_eq {x : Option R} {v : R} : T x (fun r => r = v) ↔ x = some v := ⟨fun ⟨_, e, h⟩ => h ▸ e, fun h => ⟨v, h, rfl⟩⟩
theorem T_mono {x : Option R} {P Q : R → Prop} (h : T x P) (k : ∀ r, P r → Q r) : T x Q := by
  obtain ⟨r, e, q⟩ := h
  exact ⟨r, e, k r q⟩
theorem T_of {x : Option R} {v : R} {Q : R → Prop} (h : x = some v) (k : Q v) : T x Q := ⟨v, h, k⟩
/-- loops -/
theorem T_lp {b : S → Option (S ⊕ R)} {Q : R → Prop} (I : S → Prop) (μ : S → Nat) (h : ∀ s, I s → T (b s) (Sum.elim (fun s' => I s' ∧ μ s' < μ s) Q)) {s : S} (h0 : I s) : T (lp b s) Q := by
  have key : ∀ n s, μ s < n → I s → T (lp b s) Q := by
    intro n
    induction n with
    | zero => intro s hn; omega
    | succ n ih =>
      intro s hn hI
      obtain ⟨x, e, hx⟩ := h s hI
      rw [lp_eq, e]
      cases x with
      | inl s' => exact ih s' (by have := hx.2; omega) hx.1
      | inr r => exact ⟨r, rfl, hx⟩
  exact key (μ s + 1) s (Nat.lt_succ_self _) h0
theorem lp_fn {b : S → Option (S ⊕ R)} (I : S → Prop) (μ : S → Nat) (g : S → R) (h : ∀ s, I s → T (b s) (Sum.elim (fun s' => I s' ∧ μ s' < μ s ∧ g s' = g s) (fun r => r = g s))) {s : S} (h0 : I s) : lp b s = some (g s) := by
  refine T_eq.mp (T_lp (fun s' => I s' ∧ g s' = g s) μ ?_ ⟨h0, rfl⟩)
  intro s' ⟨hI, hg⟩
  refine T_mono (h s' hI) ?_
  intro x hx
  cases x with
  | inl s2 => exact ⟨⟨hx.1, hx.2.2.trans hg⟩, hx.2.1⟩
  | inr r => exact (show r = g s' from hx).trans hg
end
theorem oc_sIe (σ : St) (a q : Nat) (i v : Int) (b c : Nat) : oc (sI σ a q i v) b c ↔ oc σ b c := Iff.rfl
theorem oc_sJe (σ : St) (a q : Nat) (i v : Int) (b c : Nat) : oc (sJ σ a q i v) b c ↔ oc σ b c := Iff.rfl
theorem oc_sPe (σ : St) (a q : Nat) (i : Int) (v : Option Nat) (b c : Nat) : oc (sP σ a q i v) b c ↔ oc σ b c := Iff.rfl
theorem oc_cpIe (σ : St) (a k : Nat) (i : Int) (k2 : Nat) (j n : Int) (b c : Nat) : oc (cpI σ a k i k2 j n) b c ↔ oc σ b c := Iff.rfl
/-- folds over a range: the state after n turns from lo on -/
def fo {α : Type} (f : α → Int → α) (a : α) (lo : Int) : Nat → α
  | 0 => a
  | n + 1 => f (fo f a lo n) (lo + n)
def sm (g : Int → Int) (lo : Int) : Nat → Int
  | 0 => 0
  | n + 1 => sm g lo n + g (lo + n)
theorem fo_s {α : Type} (f : α → Int → α) (a : α) (lo : Int) (n : Nat) : fo f a lo (n + 1) = f (fo f a lo n) (lo + n) := rfl
theorem fo_at {α : Type} (f : α → Int → α) (a : α) {lo k : Int} (h : lo ≤ k) : fo f a lo (k + 1 - lo).toNat = f (fo f a lo (k - lo).toNat) k := by
  have e : (k + 1 - lo).toNat = (k - lo).toNat + 1 := by omega
  have e2 : lo + ((k - lo).toNat : Int) = k := by omega
  rw [e, fo_s, e2]
theorem sm_at (g : Int → Int) {lo k : Int} (h : lo ≤ k) : sm g lo (k + 1 - lo).toNat = sm g lo (k - lo).toNat + g k := by
  have e : (k + 1 - lo).toNat = (k - lo).toNat + 1 := by omega
  have e2 : lo + ((k - lo).toNat : Int) = k := by omega
  rw [e]; show sm g lo _ + g (lo + _) = _; rw [e2]
theorem fo_cg {α : Type} (f g : α → Int → α) (a : α) (lo : Int) (n : Nat) (h : ∀ b k, lo ≤ k → k < lo + n → f b k = g b k) : fo f a lo n = fo g a lo n := by
  induction n with
  | zero => rfl
  | succ n ih => rw [fo_s, fo_s, ih (fun b k h1 h2 => h b k h1 (by omega)), h _ _ (by omega) (by omega)]
theorem sm_cg (f g : Int → Int) (lo : Int) (n : Nat) (h : ∀ k, lo ≤ k → k < lo + n → f k = g k) : sm f lo n = sm g lo n := by
  induction n with
  | zero => rfl
  | succ n ih => show sm f lo n + _ = sm g lo n + _; rw [ih (fun k h1 h2 => h k h1 (by omega)), h _ (by omega) (by omega)]
