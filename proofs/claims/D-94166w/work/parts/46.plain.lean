/-! walks: cost and steps, the best of them -/
set_option maxRecDepth 100000
/-- a walk of S steps and cost C from a source to v -/
def wk (src : Int → Prop) (ed : Int → Int → Int → Prop) : Nat → Int → Int → Prop
  | 0, v, C => src v ∧ C = 0
  | S + 1, v, C => ∃ u c, wk src ed S u (C - c) ∧ ed u v c
def bst (src : Int → Prop) (ed : Int → Int → Int → Prop) (v C : Int) (S : Nat) : Prop := wk src ed S v C ∧ ∀ S' C', wk src ed S' v C' → C < C' ∨ (C = C' ∧ S ≤ S')
section
variable {src : Int → Prop} {ed : Int → Int → Int → Prop}
theorem wk_pos (hc : ∀ u v c, ed u v c → 0 ≤ c) : ∀ {S : Nat} {v C : Int}, wk src ed S v C → 0 ≤ C
  | 0, _, _, h => by have := h.2; omega
  | S + 1, v, C, ⟨u, c, h, e⟩ => by
    have h1 := wk_pos hc h
    have h2 := hc u v c e
    omega
theorem wk_max (hc : ∀ u v c, ed u v c → c ≤ 99) : ∀ {S : Nat} {v C : Int}, wk src ed S v C → C ≤ 99 * S
  | 0, _, _, h => by have := h.2; omega
  | S + 1, v, C, ⟨u, c, h, e⟩ => by
    have h1 := wk_max hc h
    have h2 := hc u v c e
    omega
theorem min_ex {P : Nat → Prop} (h : ∃ n, P n) : ∃ n, P n ∧ ∀ m, P m → n ≤ m := by
  obtain ⟨n, hn⟩ := h
  revert hn
  induction n using Nat.strongRecOn with
  | _ n ih =>
    intro hn
    by_cases c : ∃ m, m < n ∧ P m
    · obtain ⟨m, h1, h2⟩ := c
      exact ih m h1 h2
    · refine ⟨n, hn, fun m hm => ?_⟩
      by_cases q : n ≤ m
      · exact q
      · exact absurd ⟨m, by omega, hm⟩ c
theorem bst_ex (hc : ∀ u v c, ed u v c → 0 ≤ c) {S : Nat} {v C : Int} (h : wk src ed S v C) : ∃ C' S', bst src ed v C' S' := by
  obtain ⟨n, ⟨S1, h1⟩, h2⟩ := min_ex (P := fun n : Nat => ∃ S, wk src ed S v n) ⟨C.toNat, S, by have := wk_pos hc h; rw [show (C.toNat : Int) = C by omega]; exact h⟩
  obtain ⟨S2, h3, h4⟩ := min_ex (P := fun S : Nat => wk src ed S v n) ⟨S1, h1⟩
  refine ⟨n, S2, h3, fun S' C' h' => ?_⟩
  have p := wk_pos hc h'
  have q := h2 C'.toNat ⟨S', by rw [show (C'.toNat : Int) = C' by omega]; exact h'⟩
  by_cases e : (n : Int) = C'
  · right
    refine ⟨e, h4 S' ?_⟩
    show wk src ed S' v (n : Int)
    rw [e]; exact h'
  · left; omega
theorem bst_u {v C C' : Int} {S S' : Nat} (h : bst src ed v C S) (h' : bst src ed v C' S') : C = C' ∧ S = S' := by
  have a := h.2 S' C' h'.1
  have b := h'.2 S C h.1
  omega
theorem bst_p {v C : Int} {S : Nat} (h : bst src ed v C (S + 1)) : ∃ u c, ed u v c ∧ bst src ed u (C - c) S := by
  obtain ⟨⟨u, c, h1, e⟩, h2⟩ := h
  refine ⟨u, c, e, h1, fun S' C' h' => ?_⟩
  have := h2 (S' + 1) (C' + c) ⟨u, c, by rw [show C' + c - c = C' by omega]; exact h', e⟩
  omega
theorem php : ∀ (N S : Nat) (f : Nat → Nat), (∀ i, i ≤ S → f i < N) → (∀ i j, i < j → j ≤ S → f i ≠ f j) → S < N
  | 0, S, f, h, _ => by have := h 0 (by omega); omega
  | N + 1, 0, f, h, _ => by omega
  | N + 1, S + 1, f, h, hi => by
    by_cases c : ∃ i, i ≤ S + 1 ∧ f i = N
    · obtain ⟨i0, c1, c2⟩ := c
      have := php N S (fun i => if i < i0 then f i else f (i + 1)) (by
        intro i hiS
        show (if i < i0 then f i else f (i + 1)) < N
        split
        · have a := h i (by omega)
          have b := hi i i0 (by omega) c1
          omega
        · have a := h (i + 1) (by omega)
          have b := hi i0 (i + 1) (by omega) (by omega)
          omega) (by
        intro i j hij hj
        show (if i < i0 then f i else f (i + 1)) ≠ (if j < i0 then f j else f (j + 1))
        split
        · split
          · exact hi i j hij (by omega)
          · exact hi i (j + 1) (by omega) (by omega)
        · split
          · omega
          · exact hi (i + 1) (j + 1) (by omega) (by omega))
      omega
    · have := php N (S + 1) f (fun i hiS => by
        have a := h i hiS
        by_cases q : f i = N
        · exact absurd ⟨i, hiS, q⟩ c
        · omega) hi
      omega
theorem bst_chain : ∀ (S : Nat) (v C : Int), bst src ed v C S → ∃ p : Nat → Int, ∀ j, j ≤ S → ∃ C', bst src ed (p j) C' j
  | 0, v, C, h => ⟨fun _ => v, fun j hj => ⟨C, by rw [show j = 0 by omega]; exact h⟩⟩
  | S + 1, v, C, h => by
    obtain ⟨u, c, e, hu⟩ := bst_p h
    obtain ⟨p, hp⟩ := bst_chain S u (C - c) hu
    refine ⟨fun j => if j ≤ S then p j else v, fun j hj => ?_⟩
    by_cases q : j ≤ S
    · show ∃ C', bst src ed (if j ≤ S then p j else v) C' j
      rw [if_pos q]; exact hp j q
    · show ∃ C', bst src ed (if j ≤ S then p j else v) C' j
      rw [if_neg q]
      exact ⟨C, by rw [show j = S + 1 by omega]; exact h⟩
theorem wk_v {N : Nat} (hs : ∀ v, src v → 1 ≤ v ∧ v ≤ N) (he : ∀ u v c, ed u v c → 1 ≤ v ∧ v ≤ N) : ∀ {S : Nat} {v C : Int}, wk src ed S v C → 1 ≤ v ∧ v ≤ N
  | 0, v, _, h => hs v h.1
  | S + 1, v, C, ⟨u, c, _, e⟩ => he u v c e
theorem bst_b {N : Nat} (hs : ∀ v, src v → 1 ≤ v ∧ v ≤ N) (he : ∀ u v c, ed u v c → 1 ≤ v ∧ v ≤ N) {S : Nat} {v C : Int} (h : bst src ed v C S) : S < N := by
  obtain ⟨p, hp⟩ := bst_chain S v C h
  refine php N S (fun j => (p j - 1).toNat) (fun i hi => ?_) (fun i j hij hj => ?_)
  · obtain ⟨C', hb⟩ := hp i hi
    have := wk_v hs he hb.1
    omega
  · obtain ⟨C1, h1⟩ := hp i (by omega)
    obtain ⟨C2, h2⟩ := hp j hj
    have a := wk_v hs he h1.1
    have b := wk_v hs he h2.1
    intro q
    have e : p i = p j := by
      have q : (p i - 1).toNat = (p j - 1).toNat := q
      omega
    rw [e] at h1
    have := (bst_u h1 h2).2
    omega
theorem enc_le {U C C' : Int} {S S' : Nat} (hU : (S : Int) < U) (h : C < C' ∨ (C = C' ∧ S ≤ S')) : U * C + S ≤ U * C' + S' := by
  cases h with
  | inl h =>
    have : U * (C + 1) ≤ U * C' := Int.mul_le_mul_of_nonneg_left (by omega) (by omega)
    rw [Int.mul_add] at this
    omega
  | inr h => rw [h.1]; omega
/-- what the values of a row of distances are once nothing can be improved -/
def dsOK (src : Int → Prop) (ed : Int → Int → Int → Prop) (U F : Int) (g : Int → Int) (v : Int) : Prop := (∃ C S, bst src ed v C S ∧ g v = U * C + S) ∨ ((∀ S C, ¬ wk src ed S v C) ∧ g v = F)
def snd (src : Int → Prop) (ed : Int → Int → Int → Prop) (U F : Int) (g : Int → Int) (v : Int) : Prop := g v = F ∨ ∃ S C, wk src ed S v C ∧ g v = U * C + S
theorem wk_le {U F : Int} {g : Int → Int} (hU : 0 ≤ U) (h0 : ∀ v, src v → g v ≤ 0) (hr : ∀ u v c, ed u v c → g v ≤ g u + U * c + 1) : ∀ {S : Nat} {v C : Int}, wk src ed S v C → g v ≤ U * C + S
  | 0, v, C, h => by have := h0 v h.1; rw [h.2]; omega
  | S + 1, v, C, ⟨u, c, h, e⟩ => by
    have a := wk_le (F := F) hU h0 hr h
    have b := hr u v c e
    rw [Int.mul_sub] at a
    omega
theorem ds_of {N : Nat} {U F : Int} {g : Int → Int} (hN : (N : Int) ≤ U) (hs : ∀ v, src v → 1 ≤ v ∧ v ≤ N) (he : ∀ u v c, ed u v c → 1 ≤ v ∧ v ≤ N) (hc : ∀ u v c, ed u v c → 0 ≤ c) (hc9 : ∀ u v c, ed u v c → c ≤ 99) (hF : U * (99 * N) + N < F) {v : Int} (hv : snd src ed U F g v) (hle : ∀ S C, wk src ed S v C → g v ≤ U * C + S) : dsOK src ed U F g v := by
  by_cases c : ∃ S C, wk src ed S v C
  · left
    obtain ⟨S, C, h⟩ := c
    obtain ⟨C', S', hb⟩ := bst_ex hc h
    refine ⟨C', S', hb, ?_⟩
    have b := bst_b hs he hb
    have a := hle S' C' hb.1
    have m := wk_max hc9 hb.1
    have m2 : U * C' ≤ U * (99 * N) := Int.mul_le_mul_of_nonneg_left (by omega) (by omega)
    cases hv with
    | inl q => omega
    | inr q =>
      obtain ⟨S2, C2, h2, e2⟩ := q
      have := enc_le (U := U) (by omega) (hb.2 S2 C2 h2)
      omega
  · right
    refine ⟨fun S C h => c ⟨S, C, h⟩, ?_⟩
    cases hv with
    | inl q => exact q
    | inr q =>
      obtain ⟨S2, C2, h2, _⟩ := q
      exact absurd ⟨S2, C2, h2⟩ c
/-- the two ways to write a cost and its steps -/
def tr (w : Int) : Int := if w ≥ 1000000000000 then 1152921504606846976 else w / 20000 * 100000 + w % 20000
theorem tr_ds {N : Nat} (hN : N ≤ 9999) (hs : ∀ v, src v → 1 ≤ v ∧ v ≤ N) (he : ∀ u v c, ed u v c → 1 ≤ v ∧ v ≤ N) (hc : ∀ u v c, ed u v c → 0 ≤ c) (hc9 : ∀ u v c, ed u v c → c ≤ 99) {g g' : Int → Int} {v : Int} (h : dsOK src ed 20000 1000000000000 g v) (h' : dsOK src ed 100000 1152921504606846976 g' v) : g' v = tr (g v) := by
  rcases h with ⟨C, S, hb, e⟩ | ⟨hn, e⟩
  · rcases h' with ⟨C', S', hb', e'⟩ | ⟨hn', _⟩
    · obtain ⟨e1, e2⟩ := bst_u hb hb'
      subst e1; subst e2
      have b := bst_b hs he hb
      have p := wk_pos hc hb.1
      have m := wk_max hc9 hb.1
      unfold tr
      rw [e, e', if_neg (by omega)]
      omega
    · exact absurd hb.1 (hn' S C)
  · rcases h' with ⟨C', S', hb', e'⟩ | ⟨_, e'⟩
    · exact absurd hb'.1 (hn S' C')
    · rw [e, e']; rfl
/-- what holds of all such rows: bounds, and a way on -/
theorem ds_b {N : Nat} (hN : N ≤ 9999) (hs : ∀ v, src v → 1 ≤ v ∧ v ≤ N) (he : ∀ u v c, ed u v c → 1 ≤ v ∧ v ≤ N) (hc : ∀ u v c, ed u v c → 0 ≤ c) (hc9 : ∀ u v c, ed u v c → c ≤ 99) {g : Int → Int} {v : Int} (h : dsOK src ed 20000 1000000000000 g v) : g v = 1000000000000 ∨ (0 ≤ g v / 20000 ∧ g v / 20000 ≤ 989901 ∧ g v % 20000 ≤ 9998 ∧ g v % 20000 < N) := by
  rcases h with ⟨C, S, hb, e⟩ | ⟨hn, e⟩
  · right
    have b := bst_b hs he hb
    have p := wk_pos hc hb.1
    have m := wk_max hc9 hb.1
    omega
  · exact Or.inl e
theorem ds_p {N : Nat} (hN : N ≤ 9999) (hs : ∀ v, src v → 1 ≤ v ∧ v ≤ N) (he : ∀ u v c, ed u v c → 1 ≤ v ∧ v ≤ N) (hc : ∀ u v c, ed u v c → 0 ≤ c) (hc9 : ∀ u v c, ed u v c → c ≤ 99) {g : Int → Int} (hg : ∀ u : Int, 1 ≤ u → u ≤ N → dsOK src ed 20000 1000000000000 g u) (hu : ∀ u v c, ed u v c → 1 ≤ u ∧ u ≤ N) {v : Int} (h1 : 1 ≤ v) (h2 : v ≤ N) (h3 : 0 < g v) (h4 : g v < 1000000000000) : ∃ u c, ed u v c ∧ g u = g v - 20000 * c - 1 := by
  rcases hg v h1 h2 with ⟨C, S, hb, e⟩ | ⟨hn, e⟩
  · cases S with
    | zero => have := hb.1.2; omega
    | succ S =>
      obtain ⟨u, c, he', hp⟩ := bst_p hb
      refine ⟨u, c, he', ?_⟩
      have hv := hu u v c he'
      rcases hg u hv.1 hv.2 with ⟨C', S', hb', e'⟩ | ⟨hn', _⟩
      · obtain ⟨e1, e2⟩ := bst_u hp hb'
        omega
      · exact absurd hp.1 (hn' S _)
  · omega
end
