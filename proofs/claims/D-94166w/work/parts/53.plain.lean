/-! the whole relation: DayBoy at x, the model at o, one plain state A -/
set_option maxRecDepth 100000
abbrev AS : Type := (Nat → Int → Int) × (Int → Nat) × (Int → Cal) × (Int → Nat) × (Int → Hea) × (Int → Int) × (Nat → Int → Int) × (Int → Nat) × (Nat × Nat × Nat × Nat) × (Int × Int × Int)
def aV (A : AS) : Nat → Int → Int := A.1
def aCa (A : AS) : Int → Nat := A.2.1
def aC (A : AS) : Int → Cal := A.2.2.1
def aHa (A : AS) : Int → Nat := A.2.2.2.1
def aH (A : AS) : Int → Hea := A.2.2.2.2.1
def aW (A : AS) : Int → Int := A.2.2.2.2.2.1
def aQ (A : AS) : Nat → Int → Int := A.2.2.2.2.2.2.1
def aAa (A : AS) : Int → Nat := A.2.2.2.2.2.2.2.1
def aDa (A : AS) : Nat := A.2.2.2.2.2.2.2.2.1.1
def aDh (A : AS) : Nat := A.2.2.2.2.2.2.2.2.1.2.1
def aSk (A : AS) : Nat := A.2.2.2.2.2.2.2.2.1.2.2.1
def aU (A : AS) : Nat := A.2.2.2.2.2.2.2.2.1.2.2.2
def aBy (A : AS) : Int := A.2.2.2.2.2.2.2.2.2.1
def aBm (A : AS) : Int := A.2.2.2.2.2.2.2.2.2.2.1
def aBd (A : AS) : Int := A.2.2.2.2.2.2.2.2.2.2.2
abbrev nC (A : AS) : Int := aV A 6 0
abbrev nH (A : AS) : Int := aV A 7 0
abbrev nQ (A : AS) : Int := aV A 13 0
abbrev nP (A : AS) : Int := aV A 20 0
abbrev nE (A : AS) : Int := aV A 25 0
/-- the cells of one address are the same -/
def sa (σ σ' : St) (a : Nat) : Prop := cL σ' a = cL σ a ∧ aR σ' a = aR σ a ∧ gI σ' a = gI σ a ∧ gJ σ' a = gJ σ a ∧ gP σ' a = gP σ a
def WF (σ : St) : Prop := ∀ a, nX σ ≤ a → cL σ a = none
def XV (x : Nat) (A : AS) (σ : St) : Prop := oc σ x 0 ∧ ∀ k i, ¬ (k = 8 ∨ k = 11 ∨ k = 21) → gI σ x k i = aV A k i
def below (σ : St) (a : Nat) (n : Nat) (B : Nat) : Prop := a < B ∧ ∀ k : Int, 0 ≤ k → k < n → ∀ e, gP σ a 0 k = some e → e < B ∧ ∀ l, gP σ e 0 0 = some l → l < B
def drA (σ : St) (d : Nat) : Prop := oc σ d 1 ∧ ∃ e l : Int → Nat, (∀ k : Int, 0 ≤ k → k < 4 → gP σ d 0 k = some (e k) ∧ d ≤ e k ∧ oc σ (e k) 2 ∧ gP σ (e k) 0 0 = some (l k) ∧ d ≤ l k ∧ oc σ (l k) 3) ∧ ∀ j k : Int, 0 ≤ j → j < 4 → 0 ≤ k → k < 4 → ¬ j = k → ¬ e j = e k ∧ ¬ l j = l k
def XC (x : Nat) (A : AS) (σ : St) : Prop := (∀ c, 0 ≤ c → c < (aV A 6 0) → gP σ x 4 c = some (aCa A c) ∧ CalX σ (aCa A c) (aC A c) ∧ below σ (aCa A c) (aC A c).1 (aDa A)) ∧ gP σ x 2 0 = some (aDa A) ∧ drA σ (aDa A)
/-- an empty queue -/
def qE (σ : St) (a : Nat) : Prop := oc σ a 4 ∧ gI σ a 21 0 = 0 ∧ (0 ≤ gI σ a 19 0 ∧ gI σ a 19 0 < 10000) ∧ gI σ a 20 0 = gI σ a 19 0 ∧ ∀ y, 1 ≤ y → y ≤ 9999 → gI σ a 12 y = 0
def XH (x : Nat) (A : AS) (σ : St) : Prop := (∀ h, 0 ≤ h → h < (aV A 7 0) → gP σ x 5 h = some (aHa A h) ∧ HeadX σ (aHa A h) (aH A h) ∧ cacOK σ (aHa A h) (aH A h) ∧ gI σ (aHa A h) 16 0 = aW A h ∧ ¬ aHa A h = aDh A ∧ ¬ aHa A h = aSk A) ∧ (∀ g h, 0 ≤ g → g < (aV A 7 0) → 0 ≤ h → h < (aV A 7 0) → ¬ g = h → ¬ aHa A g = aHa A h) ∧ gP σ x 3 0 = some (aDh A) ∧ gP σ x 22 0 = some (aSk A) ∧ ¬ aDh A = aSk A ∧ qE σ (aDh A) ∧ gI σ (aDh A) 16 0 = 1 ∧ qE σ (aSk A)
def XQ (x : Nat) (A : AS) (σ : St) : Prop := ∀ k, 0 ≤ k → k < (aV A 13 0) → gP σ x 12 k = some (aAa A k) ∧ oc σ (aAa A k) 13 ∧ ∀ j, j < 8 → gI σ (aAa A k) j 0 = aQ A j k
def RX (x : Nat) (A : AS) (σ : St) : Prop := XV x A σ ∧ XC x A σ ∧ XH x A σ ∧ XQ x A σ
def dateOK (A : AS) (c y m d : Int) : Prop := (0 ≤ c ∧ c < (aV A 6 0)) ∧ hasC (aC A c) y m d = true
def AOK (A : AS) : Prop := ((0 ≤ (aV A 6 0) ∧ (aV A 6 0) ≤ 6) ∧ (0 ≤ (aV A 7 0) ∧ (aV A 7 0) ≤ 8) ∧ (0 ≤ (aV A 13 0) ∧ (aV A 13 0) ≤ 60) ∧ (0 ≤ (aV A 20 0) ∧ (aV A 20 0) ≤ 8) ∧ (0 ≤ (aV A 25 0) ∧ (aV A 25 0) ≤ 30) ∧ (0 ≤ aV A 1 0 ∧ aV A 1 0 ≤ 160) ∧ (0 ≤ aV A 10 0 ∧ aV A 10 0 ≤ 160) ∧ (0 ≤ aV A 26 0 ∧ aV A 26 0 ≤ (aV A 13 0)) ∧ (0 ≤ aV A 27 0 ∧ aV A 27 0 ≤ (aV A 25 0))) ∧ (∀ i, 0 ≤ i → i < 160 → -128 ≤ aV A 0 i ∧ aV A 0 i ≤ 127) ∧ (∀ p, 0 ≤ p → p < (aV A 20 0) → dateOK A (aV A 16 p) (aV A 17 p) (aV A 18 p) (aV A 19 p)) ∧ (∀ k, 0 ≤ k → k < (aV A 13 0) → dateOK A (aQ A 1 k) (aQ A 2 k) (aQ A 3 k) (aQ A 4 k) ∧ aQ A 5 k = dayC (aC A (aQ A 1 k)) (aQ A 2 k) (aQ A 3 k) (aQ A 4 k) ∧ (0 ≤ aQ A 0 k ∧ aQ A 0 k ≤ 999) ∧ (0 ≤ aQ A 6 k ∧ aQ A 6 k ≤ 6) ∧ (0 ≤ aQ A 7 k ∧ aQ A 7 k ≤ 9999)) ∧ (∀ j k, 0 ≤ j → j ≤ k → k < (aV A 13 0) → aQ A 0 j ≤ aQ A 0 k) ∧ (∀ k, 0 ≤ k → k < (aV A 25 0) → (0 ≤ aV A 23 k ∧ aV A 23 k ≤ 19000000) ∧ (0 ≤ aV A 24 k ∧ aV A 24 k ≤ 3)) ∧ (aV A 14 0 = -1 ∨ (dateOK A (aV A 15 0) (aBy A) (aBm A) (aBd A) ∧ aV A 14 0 = dayC (aC A (aV A 15 0)) (aBy A) (aBm A) (aBd A))) ∧ (∀ i, 0 ≤ i → i < 3 * aV A 10 0 → inR (aV A 9 i)) ∧ (∀ h, 0 ≤ h → h < (aV A 7 0) → 1 ≤ aW A h ∧ aW A h ≤ 9) ∧ inR (aV A 15 0)
def RM (o : Nat) (A : AS) (σ : St) : Prop := (oc σ o 5 ∧ gI σ o 2 0 = aV A 1 0 ∧ gI σ o 14 0 = (aV A 6 0) ∧ gI σ o 28 0 = (aV A 7 0) ∧ gI σ o 49 0 = (aV A 13 0) ∧ gI σ o 54 0 = (aV A 20 0) ∧ gI σ o 63 0 = (aV A 25 0) ∧ gI σ o 56 0 = aV A 14 0 ∧ gI σ o 57 0 = aV A 15 0 ∧ gI σ o 64 0 = aV A 26 0 ∧ gI σ o 65 0 = aV A 27 0 ∧ gI σ o 69 0 = aV A 10 0) ∧ ((∀ i, 0 ≤ i → i < aV A 1 0 → gI σ o 1 i = aV A 0 i % 256) ∧ aR σ o 200 = some (aU A)) ∧ (∀ c, 0 ≤ c → c < (aV A 6 0) → CalM σ o c (aC A c)) ∧ (∀ h, 0 ≤ h → h < (aV A 7 0) → HeadM σ o h (aH A h) ∧ gI σ o 27 h = aW A h) ∧ (∀ k, 0 ≤ k → k < (aV A 13 0) → gI σ o 42 k = aQ A 0 k ∧ gI σ o 43 k = aQ A 1 k ∧ gI σ o 44 k = aQ A 2 k ∧ gI σ o 45 k = aQ A 3 k ∧ gI σ o 46 k = aQ A 4 k ∧ gI σ o 47 k = aQ A 6 k ∧ gI σ o 48 k = aQ A 7 k) ∧ (∀ p, 0 ≤ p → p < (aV A 20 0) → gI σ o 50 p = aV A 16 p ∧ gI σ o 51 p = aV A 17 p ∧ gI σ o 52 p = aV A 18 p ∧ gI σ o 53 p = aV A 19 p) ∧ (∀ k, 0 ≤ k → k < (aV A 25 0) → gI σ o 61 k = aV A 23 k ∧ gI σ o 62 k = aV A 24 k) ∧ (¬ aV A 14 0 = -1 → gI σ o 58 0 = aBy A ∧ gI σ o 59 0 = aBm A ∧ gI σ o 60 0 = aBd A) ∧ ∀ k, 0 ≤ k → k < aV A 10 0 → gI σ o 66 k = aV A 9 (3 * k) ∧ (¬ aV A 9 (3 * k) = -1 → gI σ o 67 k = aV A 9 (3 * k + 1) ∧ gI σ o 68 k = aV A 9 (3 * k + 2)) ∧ inR (gI σ o 67 k) ∧ inR (gI σ o 68 k)
def RR (x o : Nat) (A : AS) (σ : St) : Prop := WF σ ∧ AOK A ∧ RX x A σ ∧ RM o A σ
section
variable {σ σ' : St} {a b : Nat}
theorem sa_oc (h : sa σ σ' a) {c : Nat} (q : oc σ a c) : oc σ' a c := by
  obtain ⟨h1, h2, _⟩ := h
  unfold oc at q ⊢
  rw [h1, h2]; exact q
theorem sa_r : sa σ σ a := ⟨rfl, rfl, rfl, rfl, rfl⟩
theorem HeadX_sa {H : Hea} (s : sa σ σ' a) (h : HeadX σ a H) : HeadX σ' a H := by
  have ho := sa_oc s h.1
  obtain ⟨_, _, h3, h4, _⟩ := s
  unfold HeadX at h ⊢
  rw [h3, h4]
  exact ⟨ho, h.2⟩
theorem cac_sa {H : Hea} (s : sa σ σ' a) (h : cacOK σ a H) : cacOK σ' a H := by
  unfold cacOK at h ⊢
  rw [s.2.2.1]; exact h
theorem qE_sa (s : sa σ σ' a) (h : qE σ a) : qE σ' a := by
  have ho := sa_oc s h.1
  unfold qE at h ⊢
  rw [s.2.2.1]
  exact ⟨ho, h.2⟩
theorem LepX_sa {L : Lep} (s : sa σ σ' a) (h : LepX σ a L) : LepX σ' a L := by
  have ho := sa_oc s h.1.1
  unfold LepX LepA at h ⊢
  rw [s.2.2.1]
  exact ⟨⟨ho, h.1.2⟩, h.2⟩
theorem CalX_sa {C : Cal} (s : ∀ b, (cL σ b = some 1 ∨ cL σ b = some 2 ∨ cL σ b = some 3) → sa σ σ' b) (h : CalX σ a C) : CalX σ' a C := by
  obtain ⟨h1, h2, h3, h4⟩ := h
  have sA := s a (Or.inl h1.1)
  refine ⟨sa_oc sA h1, by rw [sA.2.2.1]; exact h2, fun k k1 k2 => ?_, h4⟩
  obtain ⟨e, he, hE⟩ := h3 k k1 k2
  obtain ⟨e1, ⟨l, hl, hL⟩, e3⟩ := hE
  have sE := s e (Or.inr (Or.inl e1.1))
  have sL := s l (Or.inr (Or.inr hL.1.1.1))
  refine ⟨e, by rw [sA.2.2.2.2]; exact he, sa_oc sE e1, ⟨l, by rw [sE.2.2.2.2]; exact hl, LepX_sa sL hL⟩, ?_⟩
  rw [sE.2.2.1]; exact e3
theorem below_sa {C : Cal} {B : Nat} (s : ∀ b, (cL σ b = some 1 ∨ cL σ b = some 2 ∨ cL σ b = some 3) → sa σ σ' b) (hc : CalX σ a C) (h : below σ a C.1 B) : below σ' a C.1 B := by
  have sA := s a (Or.inl hc.1.1)
  refine ⟨h.1, fun k k1 k2 e he => ?_⟩
  rw [sA.2.2.2.2] at he
  have := h.2 k k1 k2 e he
  obtain ⟨e', he', hE⟩ := hc.2.2.1 k k1 k2
  have ee : e' = e := by rw [he'] at he; exact Option.some.inj he
  subst ee
  refine ⟨this.1, fun l hl => ?_⟩
  rw [(s e' (Or.inr (Or.inl hE.1.1))).2.2.2.2] at hl
  exact this.2 l hl
theorem drA_sa (s : ∀ b, (cL σ b = some 1 ∨ cL σ b = some 2 ∨ cL σ b = some 3) → sa σ σ' b) (h : drA σ a) : drA σ' a := by
  obtain ⟨h1, e, l, h2, h3⟩ := h
  have sA := s a (Or.inl h1.1)
  refine ⟨sa_oc sA h1, e, l, fun k k1 k2 => ?_, h3⟩
  obtain ⟨b1, b2, b3, b4, b5, b6⟩ := h2 k k1 k2
  have sE := s (e k) (Or.inr (Or.inl b3.1))
  have sL := s (l k) (Or.inr (Or.inr b6.1))
  exact ⟨by rw [sA.2.2.2.2]; exact b1, b2, sa_oc sE b3, by rw [sE.2.2.2.2]; exact b4, b5, sa_oc sL b6⟩
end
