/-! THE ABSTRACT STATE: the class (a number) of the object at an address; the address of the array in field k of object a; ints; longs; references (scalar fields: place 0); the next address -/
set_option maxRecDepth 100000
abbrev St : Type := (Nat → Option Nat) × (Nat → Nat → Option Nat) × (Nat → Nat → Int → Int) × (Nat → Nat → Int → Int) × (Nat → Nat → Int → Option Nat) × Nat
def cL (σ : St) (a : Nat) : Option Nat := σ.1 a
def aR (σ : St) (a k : Nat) : Option Nat := σ.2.1 a k
def gI (σ : St) (a k : Nat) (i : Int) : Int := σ.2.2.1 a k i
def gJ (σ : St) (a k : Nat) (i : Int) : Int := σ.2.2.2.1 a k i
def gP (σ : St) (a k : Nat) (i : Int) : Option Nat := σ.2.2.2.2.1 a k i
def nX (σ : St) : Nat := σ.2.2.2.2.2
def sI (σ : St) (a k : Nat) (i v : Int) : St := (σ.1, σ.2.1, fun a' k' i' => if a' = a ∧ k' = k ∧ i' = i then v else σ.2.2.1 a' k' i', σ.2.2.2)
def sJ (σ : St) (a k : Nat) (i v : Int) : St := (σ.1, σ.2.1, σ.2.2.1, fun a' k' i' => if a' = a ∧ k' = k ∧ i' = i then v else σ.2.2.2.1 a' k' i', σ.2.2.2.2)
def sP (σ : St) (a k : Nat) (i : Int) (v : Option Nat) : St := (σ.1, σ.2.1, σ.2.2.1, σ.2.2.2.1, fun a' k' i' => if a' = a ∧ k' = k ∧ i' = i then v else σ.2.2.2.2.1 a' k' i', σ.2.2.2.2.2)
/-- a new object of class c at the next address: all zero -/
def nO (σ : St) (c : Nat) : St := (fun a => if a = nX σ then some c else σ.1 a, fun a k => if a = nX σ then none else σ.2.1 a k, fun a k i => if a = nX σ then 0 else σ.2.2.1 a k i, fun a k i => if a = nX σ then 0 else σ.2.2.2.1 a k i, fun a k i => if a = nX σ then none else σ.2.2.2.2.1 a k i, nX σ + 1)
/-- a new array at the next address, in field k of a: all zero -/
def nA (σ : St) (a k : Nat) : St := (σ.1, fun a' k' => if a' = a ∧ k' = k then some (nX σ) else σ.2.1 a' k', fun a' k' i => if a' = a ∧ k' = k then 0 else σ.2.2.1 a' k' i, fun a' k' i => if a' = a ∧ k' = k then 0 else σ.2.2.2.1 a' k' i, fun a' k' i => if a' = a ∧ k' = k then none else σ.2.2.2.2.1 a' k' i, nX σ + 1)
/-- n ints of the array (a, k), from i on, to the array (a, k2), from j on -/
def cpI (σ : St) (a k : Nat) (i : Int) (k2 : Nat) (j n : Int) : St := (σ.1, σ.2.1, fun a' k' i' => if a' = a ∧ k' = k2 ∧ j ≤ i' ∧ i' < j + n then σ.2.2.1 a k (i + (i' - j)) else σ.2.2.1 a' k' i', σ.2.2.2)
/-! what stays -/
theorem cL_sI (σ : St) (a k : Nat) (i v : Int) (b : Nat) : cL (sI σ a k i v) b = cL σ b := rfl
theorem cL_sJ (σ : St) (a k : Nat) (i v : Int) (b : Nat) : cL (sJ σ a k i v) b = cL σ b := rfl
theorem cL_sP (σ : St) (a k : Nat) (i : Int) (v : Option Nat) (b : Nat) : cL (sP σ a k i v) b = cL σ b := rfl
theorem cL_nA (σ : St) (a k b : Nat) : cL (nA σ a k) b = cL σ b := rfl
theorem cL_nO (σ : St) (c b : Nat) : cL (nO σ c) b = if b = nX σ then some c else cL σ b := rfl
theorem cL_cpI (σ : St) (a k : Nat) (i : Int) (k2 : Nat) (j n : Int) (b : Nat) : cL (cpI σ a k i k2 j n) b = cL σ b := rfl
theorem aR_sI (σ : St) (a k : Nat) (i v : Int) (b q : Nat) : aR (sI σ a k i v) b q = aR σ b q := rfl
theorem aR_sJ (σ : St) (a k : Nat) (i v : Int) (b q : Nat) : aR (sJ σ a k i v) b q = aR σ b q := rfl
theorem aR_sP (σ : St) (a k : Nat) (i : Int) (v : Option Nat) (b q : Nat) : aR (sP σ a k i v) b q = aR σ b q := rfl
theorem aR_nA (σ : St) (a k b q : Nat) : aR (nA σ a k) b q = if b = a ∧ q = k then some (nX σ) else aR σ b q := rfl
theorem aR_nO (σ : St) (c b q : Nat) : aR (nO σ c) b q = if b = nX σ then none else aR σ b q := rfl
theorem aR_cpI (σ : St) (a k : Nat) (i : Int) (k2 : Nat) (j n : Int) (b q : Nat) : aR (cpI σ a k i k2 j n) b q = aR σ b q := rfl
theorem gI_sI (σ : St) (a k : Nat) (i v : Int) (b q : Nat) (j : Int) : gI (sI σ a k i v) b q j = if b = a ∧ q = k ∧ j = i then v else gI σ b q j := rfl
theorem gI_sJ (σ : St) (a k : Nat) (i v : Int) (b q : Nat) (j : Int) : gI (sJ σ a k i v) b q j = gI σ b q j := rfl
theorem gI_sP (σ : St) (a k : Nat) (i : Int) (v : Option Nat) (b q : Nat) (j : Int) : gI (sP σ a k i v) b q j = gI σ b q j := rfl
theorem gI_nA (σ : St) (a k b q : Nat) (j : Int) : gI (nA σ a k) b q j = if b = a ∧ q = k then 0 else gI σ b q j := rfl
theorem gI_nO (σ : St) (c b q : Nat) (j : Int) : gI (nO σ c) b q j = if b = nX σ then 0 else gI σ b q j := rfl
theorem gI_cpI (σ : St) (a k : Nat) (i : Int) (k2 : Nat) (j n : Int) (b q : Nat) (x : Int) : gI (cpI σ a k i k2 j n) b q x = if b = a ∧ q = k2 ∧ j ≤ x ∧ x < j + n then gI σ a k (i + (x - j)) else gI σ b q x := rfl
theorem gJ_sI (σ : St) (a k : Nat) (i v : Int) (b q : Nat) (j : Int) : gJ (sI σ a k i v) b q j = gJ σ b q j := rfl
theorem gJ_sJ (σ : St) (a k : Nat) (i v : Int) (b q : Nat) (j : Int) : gJ (sJ σ a k i v) b q j = if b = a ∧ q = k ∧ j = i then v else gJ σ b q j := rfl
theorem gJ_sP (σ : St) (a k : Nat) (i : Int) (v : Option Nat) (b q : Nat) (j : Int) : gJ (sP σ a k i v) b q j = gJ σ b q j := rfl
theorem gJ_nA (σ : St) (a k b q : Nat) (j : Int) : gJ (nA σ a k) b q j = if b = a ∧ q = k then 0 else gJ σ b q j := rfl
theorem gJ_nO (σ : St) (c b q : Nat) (j : Int) : gJ (nO σ c) b q j = if b = nX σ then 0 else gJ σ b q j := rfl
theorem gJ_cpI (σ : St) (a k : Nat) (i : Int) (k2 : Nat) (j n : Int) (b q : Nat) (x : Int) : gJ (cpI σ a k i k2 j n) b q x = gJ σ b q x := rfl
theorem gP_sI (σ : St) (a k : Nat) (i v : Int) (b q : Nat) (j : Int) : gP (sI σ a k i v) b q j = gP σ b q j := rfl
theorem gP_sJ (σ : St) (a k : Nat) (i v : Int) (b q : Nat) (j : Int) : gP (sJ σ a k i v) b q j = gP σ b q j := rfl
theorem gP_sP (σ : St) (a k : Nat) (i : Int) (v : Option Nat) (b q : Nat) (j : Int) : gP (sP σ a k i v) b q j = if b = a ∧ q = k ∧ j = i then v else gP σ b q j := rfl
theorem gP_nA (σ : St) (a k b q : Nat) (j : Int) : gP (nA σ a k) b q j = if b = a ∧ q = k then none else gP σ b q j := rfl
theorem gP_nO (σ : St) (c b q : Nat) (j : Int) : gP (nO σ c) b q j = if b = nX σ then none else gP σ b q j := rfl
theorem gP_cpI (σ : St) (a k : Nat) (i : Int) (k2 : Nat) (j n : Int) (b q : Nat) (x : Int) : gP (cpI σ a k i k2 j n) b q x = gP σ b q x := rfl
theorem nX_sI (σ : St) (a k : Nat) (i v : Int) : nX (sI σ a k i v) = nX σ := rfl
theorem nX_sJ (σ : St) (a k : Nat) (i v : Int) : nX (sJ σ a k i v) = nX σ := rfl
theorem nX_sP (σ : St) (a k : Nat) (i : Int) (v : Option Nat) : nX (sP σ a k i v) = nX σ := rfl
theorem nX_nA (σ : St) (a k : Nat) : nX (nA σ a k) = nX σ + 1 := rfl
theorem nX_nO (σ : St) (c : Nat) : nX (nO σ c) = nX σ + 1 := rfl
theorem nX_cpI (σ : St) (a k : Nat) (i : Int) (k2 : Nat) (j n : Int) : nX (cpI σ a k i k2 j n) = nX σ := rfl
/-! loops: the least fixed point -/
def lpN {S R : Type} (b : S → Option (S ⊕ R)) : Nat → S → Option R
  | 0, _ => none
  | n + 1, s => match b s with
    | none => none
    | some (.inl s') => lpN b n s'
    | some (.inr r) => some r
theorem lpN_s {S R : Type} (b : S → Option (S ⊕ R)) (n : Nat) (s : S) : lpN b (n + 1) s = match b s with
    | none => none
    | some (.inl s') => lpN b n s'
    | some (.inr r) => some r := rfl
theorem lpN_mono {S R : Type} {b : S → Option (S ⊕ R)} : ∀ {n m : Nat} {s : S} {r : R}, lpN b n s = some r → n ≤ m → lpN b m s = some r
  | 0, _, _, _, h, _ => by cases h
  | n + 1, 0, _, _, _, hm => by omega
  | n + 1, m + 1, s, r, h, hm => by
    rw [lpN_s] at h ⊢
    cases hb : b s with
    | none => rw [hb] at h; cases h
    | some x =>
      rw [hb] at h
      cases x with
      | inl s' => exact lpN_mono (n := n) (m := m) h (by omega)
      | inr r' => exact h
noncomputable def lp {S R : Type} (b : S → Option (S ⊕ R)) (s : S) : Option R :=
  haveI := Classical.propDecidable (∃ r n, lpN b n s = some r)
  if h : ∃ r n, lpN b n s = some r then some (Classical.choose h) else none
theorem lp_of {S R : Type} {b : S → Option (S ⊕ R)} {n : Nat} {s : S} {r : R} (h : lpN b n s = some r) : lp b s = some r := by
  have hx : ∃ r n, lpN b n s = some r := ⟨r, n, h⟩
  unfold lp
  rw [dif_pos hx]
  obtain ⟨m, hm⟩ := Classical.choose_spec hx
  have h1 := lpN_mono h (Nat.le_max_left n m)
  have h2 := lpN_mono hm (Nat.le_max_right n m)
  rw [h1] at h2
  exact h2.symm
theorem lp_to {S R : Type} {b : S → Option (S ⊕ R)} {s : S} {r : R} (h : lp b s = some r) : ∃ n, lpN b n s = some r := by
  unfold lp at h
  split at h
  · rename_i hx
    cases h
    exact Classical.choose_spec hx
  · cases h
/-- one turn -/
noncomputable def lpU {S R : Type} (b : S → Option (S ⊕ R)) (x : Option (S ⊕ R)) : Option R := match x with
    | none => none
    | some (.inl s') => lp b s'
    | some (.inr r) => some r
theorem lp_eq {S R : Type} (b : S → Option (S ⊕ R)) (s : S) : lp b s = lpU b (b s) := by
  have key : ∀ r, lp b s = some r ↔ lpU b (b s) = some r := by
    intro r
    constructor
    · intro h
      obtain ⟨n, hn⟩ := lp_to h
      cases n with
      | zero => cases hn
      | succ n =>
        rw [lpN_s] at hn
        unfold lpU
        cases hb : b s with
        | none => rw [hb] at hn; cases hn
        | some x =>
          rw [hb] at hn
          cases x with
          | inl s' => exact lp_of hn
          | inr r' => exact hn
    · intro h
      unfold lpU at h
      cases hb : b s with
      | none => rw [hb] at h; cases h
      | some x =>
        rw [hb] at h
        cases x with
        | inl s' =>
          obtain ⟨n, hn⟩ := lp_to h
          exact lp_of (n := n + 1) (by rw [lpN_s, hb]; exact hn)
        | inr r' => exact lp_of (n := 1) (by rw [lpN_s, hb]; exact h)
  cases h1 : lp b s with
  | some r => rw [(key r).mp h1]
  | none =>
    cases h2 : lpU b (b s) with
    | none => rfl
    | some r => rw [(key r).mpr h2] at h1; cases h1
/-- leaving a loop -/
def ex {S R : Type} (x : Option R) : Option (S ⊕ R) := x.map Sum.inr
theorem lpU_none {S R : Type} (b : S → Option (S ⊕ R)) : lpU b none = none := rfl
theorem lpU_l {S R : Type} (b : S → Option (S ⊕ R)) (s : S) : lpU b (some (.inl s)) = lp b s := rfl
theorem lpU_r {S R : Type} (b : S → Option (S ⊕ R)) (r : R) : lpU b (some (.inr r)) = some r := rfl
theorem lpU_ex {S R : Type} (b : S → Option (S ⊕ R)) (x : Option R) : lpU b (ex x) = x := by cases x <;> rfl
theorem lpU_ite {S R : Type} (b : S → Option (S ⊕ R)) (c : Prop) [Decidable c] (x y : Option (S ⊕ R)) : lpU b (if c then x else y) = if c then lpU b x else lpU b y := by split <;> rfl
theorem lpU_bind {S R T : Type} (b : S → Option (S ⊕ R)) (x : Option T) (f : T → Option (S ⊕ R)) : lpU b (x.bind f) = x.bind (fun t => lpU b (f t)) := by cases x <;> rfl
theorem lp_rule {S R : Type} {b : S → Option (S ⊕ R)} {r : R} {P : S → Prop} (hs : ∀ s (x : S ⊕ R), b s = some x → (∀ s', x = .inl s' → P s') → (∀ r', x = .inr r' → r' = r) → P s) : ∀ s, lp b s = some r → P s := by
  have key : ∀ n s, lpN b n s = some r → P s := by
    intro n
    induction n with
    | zero => intro s h; cases h
    | succ n ih =>
      intro s h
      rw [lpN_s] at h
      cases hb : b s with
      | none => rw [hb] at h; cases h
      | some x =>
        rw [hb] at h
        refine hs s x hb (fun s' e => ?_) (fun r' e => ?_)
        · subst e
          exact ih s' h
        · subst e
          exact Option.some.inj h
  intro s h
  obtain ⟨n, hn⟩ := lp_to h
  exact key n s hn
theorem ex_some {S R : Type} {x : Option R} {y : S ⊕ R} {r : R} (h : ex x = some y) (hr : ∀ r', y = .inr r' → r' = r) : x = some r := by
  cases x with
  | none => cases h
  | some z =>
    have e : y = .inr z := (Option.some.inj h).symm
    rw [hr z e]
/-! checks, comparisons -/
abbrev inR (x : Int) : Prop := -2147483648 ≤ x ∧ x < 2147483648
abbrev inL (x : Int) : Prop := -9223372036854775808 ≤ x ∧ x < 9223372036854775808
def ck {R : Type} (p : Prop) [Decidable p] (x : Option R) : Option R := if p then x else none
theorem ck_t {R : Type} {p : Prop} [Decidable p] {x : Option R} (h : p) : ck p x = x := if_pos h
theorem ck_some {R : Type} {p : Prop} [Decidable p] {x : Option R} {r : R} (h : ck p x = some r) : p ∧ x = some r := by
  unfold ck at h
  split at h
  · rename_i q
    exact ⟨q, h⟩
  · cases h
theorem lpU_ck {S R : Type} (b : S → Option (S ⊕ R)) (c : Prop) [Decidable c] (x : Option (S ⊕ R)) : lpU b (ck c x) = ck c (lpU b x) := by unfold ck; split <;> rfl
/-- ints compared: in range, or nothing -/
def cLt {R : Type} (x y : Int) (A B : Option R) : Option R := if inR x ∧ inR y then (if x < y then A else B) else none
def cEq {R : Type} (x y : Int) (A B : Option R) : Option R := if inR x ∧ inR y then (if x = y then A else B) else none
def jLt {R : Type} (x y : Int) (A B : Option R) : Option R := if inL x ∧ inL y then (if x < y then A else B) else none
def jEq {R : Type} (x y : Int) (A B : Option R) : Option R := if inL x ∧ inL y then (if x = y then A else B) else none
theorem lpU_cLt {S R : Type} (b : S → Option (S ⊕ R)) (x y : Int) (A B : Option (S ⊕ R)) : lpU b (cLt x y A B) = cLt x y (lpU b A) (lpU b B) := by unfold cLt; split <;> (try split) <;> rfl
theorem lpU_cEq {S R : Type} (b : S → Option (S ⊕ R)) (x y : Int) (A B : Option (S ⊕ R)) : lpU b (cEq x y A B) = cEq x y (lpU b A) (lpU b B) := by unfold cEq; split <;> (try split) <;> rfl
theorem lpU_jLt {S R : Type} (b : S → Option (S ⊕ R)) (x y : Int) (A B : Option (S ⊕ R)) : lpU b (jLt x y A B) = jLt x y (lpU b A) (lpU b B) := by unfold jLt; split <;> (try split) <;> rfl
theorem lpU_jEq {S R : Type} (b : S → Option (S ⊕ R)) (x y : Int) (A B : Option (S ⊕ R)) : lpU b (jEq x y A B) = jEq x y (lpU b A) (lpU b B) := by unfold jEq; split <;> (try split) <;> rfl
theorem cLt_t {R : Type} {x y : Int} {A B : Option R} (hx : inR x) (hy : inR y) (h : x < y) : cLt x y A B = A := by unfold cLt; rw [if_pos ⟨hx, hy⟩, if_pos h]
theorem cLt_f {R : Type} {x y : Int} {A B : Option R} (hx : inR x) (hy : inR y) (h : ¬ x < y) : cLt x y A B = B := by unfold cLt; rw [if_pos ⟨hx, hy⟩, if_neg h]
theorem cEq_t {R : Type} {x y : Int} {A B : Option R} (hx : inR x) (hy : inR y) (h : x = y) : cEq x y A B = A := by unfold cEq; rw [if_pos ⟨hx, hy⟩, if_pos h]
theorem cEq_f {R : Type} {x y : Int} {A B : Option R} (hx : inR x) (hy : inR y) (h : ¬ x = y) : cEq x y A B = B := by unfold cEq; rw [if_pos ⟨hx, hy⟩, if_neg h]
theorem jLt_t {R : Type} {x y : Int} {A B : Option R} (hx : inL x) (hy : inL y) (h : x < y) : jLt x y A B = A := by unfold jLt; rw [if_pos ⟨hx, hy⟩, if_pos h]
theorem jLt_f {R : Type} {x y : Int} {A B : Option R} (hx : inL x) (hy : inL y) (h : ¬ x < y) : jLt x y A B = B := by unfold jLt; rw [if_pos ⟨hx, hy⟩, if_neg h]
theorem jEq_t {R : Type} {x y : Int} {A B : Option R} (hx : inL x) (hy : inL y) (h : x = y) : jEq x y A B = A := by unfold jEq; rw [if_pos ⟨hx, hy⟩, if_pos h]
theorem jEq_f {R : Type} {x y : Int} {A B : Option R} (hx : inL x) (hy : inL y) (h : ¬ x = y) : jEq x y A B = B := by unfold jEq; rw [if_pos ⟨hx, hy⟩, if_neg h]
theorem cLt_some {R : Type} {x y : Int} {A B : Option R} {r : R} (h : cLt x y A B = some r) : inR x ∧ inR y ∧ (x < y → A = some r) ∧ (¬ x < y → B = some r) := by
  unfold cLt at h
  split at h
  · rename_i q
    refine ⟨q.1, q.2, fun c => ?_, fun c => ?_⟩
    · rw [if_pos c] at h; exact h
    · rw [if_neg c] at h; exact h
  · cases h
theorem cEq_some {R : Type} {x y : Int} {A B : Option R} {r : R} (h : cEq x y A B = some r) : inR x ∧ inR y ∧ (x = y → A = some r) ∧ (¬ x = y → B = some r) := by
  unfold cEq at h
  split at h
  · rename_i q
    refine ⟨q.1, q.2, fun c => ?_, fun c => ?_⟩
    · rw [if_pos c] at h; exact h
    · rw [if_neg c] at h; exact h
  · cases h
theorem jLt_some {R : Type} {x y : Int} {A B : Option R} {r : R} (h : jLt x y A B = some r) : inL x ∧ inL y ∧ (x < y → A = some r) ∧ (¬ x < y → B = some r) := by
  unfold jLt at h
  split at h
  · rename_i q
    refine ⟨q.1, q.2, fun c => ?_, fun c => ?_⟩
    · rw [if_pos c] at h; exact h
    · rw [if_neg c] at h; exact h
  · cases h
theorem jEq_some {R : Type} {x y : Int} {A B : Option R} {r : R} (h : jEq x y A B = some r) : inL x ∧ inL y ∧ (x = y → A = some r) ∧ (¬ x = y → B = some r) := by
  unfold jEq at h
  split at h
  · rename_i q
    refine ⟨q.1, q.2, fun c => ?_, fun c => ?_⟩
    · rw [if_pos c] at h; exact h
    · rw [if_neg c] at h; exact h
  · cases h
theorem bd_some {T R : Type} {x : Option T} {f : T → Option R} {r : R} (h : x.bind f = some r) : ∃ t, x = some t ∧ f t = some r := by
  cases x with
  | none => cases h
  | some t => exact ⟨t, rfl, h⟩
/-! bits, as the machine has them -/
def bAnd (x y : Int) : Int := (Int32.ofInt x &&& Int32.ofInt y).toInt
def bOr (x y : Int) : Int := (Int32.ofInt x ||| Int32.ofInt y).toInt
def bXor (x y : Int) : Int := (Int32.ofInt x ^^^ Int32.ofInt y).toInt
def bShl (x y : Int) : Int := (Int32.ofInt x <<< (Int32.ofInt y &&& 31)).toInt
def bShr (x y : Int) : Int := (Int32.ofInt x >>> (Int32.ofInt y &&& 31)).toInt
def bUshr (x y : Int) : Int := ((Int32.ofInt x).toUInt32 >>> ((Int32.ofInt y).toUInt32 &&& Int32.toUInt32 31)).toInt32.toInt
def bByte (x : Int) : Int := (Int32.ofInt x).toInt8.toInt32.toInt
def jAnd (x y : Int) : Int := (Int64.ofInt x &&& Int64.ofInt y).toInt
def jOr (x y : Int) : Int := (Int64.ofInt x ||| Int64.ofInt y).toInt
def jShl (x y : Int) : Int := (Int64.ofInt x <<< ((Int32.ofInt y).toInt64 &&& 63)).toInt
def jUshr (x y : Int) : Int := ((Int64.ofInt x).toUInt64 >>> ((Int32.ofInt y).toInt64.toUInt64 &&& Int64.toUInt64 63)).toInt64.toInt
