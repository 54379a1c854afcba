/-! heads: rows of years and of months -/
set_option maxRecDepth 100000
abbrev Hea : Type := (Int × (Int → Int) × (Int → Int)) × (Int × (Int → Int) × (Int → Int) × (Int → Int)) × (Int → Int) × (Int → Int) × (Int → Int)
def hN (H : Hea) : Int := H.1.1
def hB (H : Hea) : Int → Int := H.1.2.1
def hC (H : Hea) : Int → Int := H.1.2.2
def mN (H : Hea) : Int := H.2.1.1
def mO (H : Hea) : Int → Int := H.2.1.2.1
def mP (H : Hea) : Int → Int := H.2.1.2.2.1
def mC (H : Hea) : Int → Int := H.2.1.2.2.2
def hL (H : Hea) : Int → Int := H.2.2.1
def hM (H : Hea) : Int → Int := H.2.2.2.1
def hK (H : Hea) : Int → Int := H.2.2.2.2
def maOK (n : Int) (a b c : Int → Int) : Prop := (0 ≤ n ∧ n ≤ 12) ∧ ∀ k, 0 ≤ k → k < n → (1 ≤ a k ∧ a k ≤ 12) ∧ (1 ≤ b k ∧ b k ≤ 12) ∧ ¬ a k = b k ∧ (0 ≤ c k ∧ c k ≤ 99)
/-- a value: cost and steps, or too far -/
def vOK (w : Int) : Prop := w = 1000000000000 ∨ (0 ≤ w ∧ w / 20000 ≤ 989901 ∧ w % 20000 ≤ 9998)
def heaOK (H : Hea) : Prop := stOK (hN H) (hB H) (hC H) ∧ maOK (mN H) (mO H) (mP H) (mC H) ∧ (∀ y, 1 ≤ y → y ≤ 9999 → vOK (hL H y) ∧ (0 < hL H y → hL H y < 1000000000000 → ∃ v k, (1 ≤ v ∧ v ≤ 9999) ∧ (0 ≤ k ∧ k < hN H) ∧ (v = y - hB H k ∨ v = y + hB H k) ∧ hL H v = hL H y - 20000 * hC H k - 1)) ∧ (∀ m, 1 ≤ m → m ≤ 12 → vOK (hM H m) ∧ (hM H m < 1000000000000 → hM H m % 20000 ≤ 11) ∧ (0 < hM H m → hM H m < 1000000000000 → ∃ v k, (1 ≤ v ∧ v ≤ 12) ∧ (0 ≤ k ∧ k < mN H) ∧ ((mO H k = m ∧ v = mP H k) ∨ (mP H k = m ∧ v = mO H k)) ∧ hM H v = hM H m - 20000 * mC H k - 1)) ∧ ∀ j, 0 ≤ j → j < 4 → 0 ≤ hK H j ∧ hK H j ≤ 99
theorem tr_eq {a b c : Int} (ha : vOK a) (hb : vOK b) (hf : b < 1000000000000) (c0 : 0 ≤ c) (c9 : c ≤ 99) : tr a = tr b - 100000 * c - 1 ↔ a = b - 20000 * c - 1 := by
  unfold vOK at ha hb
  unfold tr
  split <;> split <;> omega
theorem tr_0 {a : Int} (ha : vOK a) : tr a = 0 ↔ a = 0 := by
  unfold vOK at ha
  unfold tr
  split <;> omega
theorem tr_far {a : Int} (ha : vOK a) : tr a < 1152921504606846976 ↔ a < 1000000000000 := by
  unfold vOK at ha
  unfold tr
  split <;> omega
theorem tr_b {a : Int} (ha : vOK a) : 0 ≤ tr a ∧ tr a ≤ 1152921504606846976 := by
  unfold vOK at ha
  unfold tr
  split <;> omega
theorem tr_c {a : Int} (ha : vOK a) (hf : a < 1000000000000) : Int.tdiv (tr a) 100000 = a / 20000 := by
  unfold vOK at ha
  have := tr_b (a := a) ha
  rw [Int.tdiv_eq_ediv_of_nonneg (by omega)]
  unfold tr
  split <;> omega
theorem v_c {a : Int} (ha : vOK a) : Int.tdiv a 20000 = a / 20000 := by
  unfold vOK at ha
  exact Int.tdiv_eq_ediv_of_nonneg (by omega)
theorem v_m {a : Int} (ha : vOK a) : Int.tmod a 20000 = a % 20000 := by
  unfold vOK at ha
  exact Int.tmod_eq_emod_of_nonneg (by omega)
/-- the better one of two ways on -/
def bet (g : Int → Int) (N b v c : Int) : Int := if (1 ≤ v ∧ v ≤ N) ∧ g v = c ∧ (b = -1 ∨ v < b) then v else b
def nxY (H : Hea) (y : Int) : Int := fo (fun b k => bet (hL H) 9999 (bet (hL H) 9999 b (y - hB H k) (hL H y - 20000 * hC H k - 1)) (y + hB H k) (hL H y - 20000 * hC H k - 1)) (-1) 0 (hN H).toNat
def oth (H : Hea) (m k : Int) : Int := if mO H k = m then mP H k else if mP H k = m then mO H k else -1
def nxM (H : Hea) (m : Int) : Int := fo (fun b k => if oth H m k = -1 then b else bet (hM H) 12 b (oth H m k) (hM H m - 20000 * mC H k - 1)) (-1) 0 (mN H).toNat
/-- a fold keeps what each turn keeps -/
theorem fo_in {α : Type} {f : α → Int → α} {a : α} {lo : Int} (I : α → Prop) (h0 : I a) : ∀ (n : Nat), (∀ b k, lo ≤ k → k < lo + n → I b → I (f b k)) → I (fo f a lo n)
  | 0, _ => h0
  | n + 1, h => h _ _ (by omega) (by omega) (fo_in I h0 n (fun b k h1 h2 => h b k h1 (by omega)))
theorem fo_hit {α : Type} {f : α → Int → α} {a : α} {lo : Int} (P : α → Prop) {j : Int} (hj : lo ≤ j) (h1 : ∀ b, P (f b j)) (h2 : ∀ b k, P b → P (f b k)) : ∀ (n : Nat), j < lo + n → P (fo f a lo n)
  | 0, h => by omega
  | n + 1, h => by
    show P (f (fo f a lo n) (lo + n))
    by_cases c : j < lo + n
    · exact h2 _ _ (fo_hit P hj h1 h2 n c)
    · have e : lo + (n : Int) = j := by omega
      rw [e]; exact h1 _
theorem bet_n {g : Int → Int} {N b v c : Int} (hb : ¬ b = -1) : ¬ bet g N b v c = -1 := by
  unfold bet; split <;> omega
theorem bet_h {g : Int → Int} {N b v c : Int} (hv : 1 ≤ v ∧ v ≤ N) (hg : g v = c) : ¬ bet g N b v c = -1 := by
  unfold bet
  split
  · omega
  · rename_i q
    intro e
    exact q ⟨hv, hg, Or.inl e⟩
theorem nxY_p {H : Hea} (h : heaOK H) {y : Int} (y1 : 1 ≤ y) (y2 : y ≤ 9999) (h0 : 0 < hL H y) (hf : hL H y < 1000000000000) : (1 ≤ nxY H y ∧ nxY H y ≤ 9999) ∧ (0 ≤ hL H (nxY H y) ∧ hL H (nxY H y) < hL H y) ∧ hL H (nxY H y) % 20000 + 1 = hL H y % 20000 := by
  obtain ⟨hs, hm, hy, _⟩ := h
  obtain ⟨vy, w⟩ := hy y y1 y2
  obtain ⟨v, k, hv, hk, he, hg⟩ := w h0 hf
  have ne : ¬ nxY H y = -1 := by
    unfold nxY
    refine fo_hit (fun b => ¬ b = -1) hk.1 (fun b => ?_) (fun b j q => bet_n (bet_n q)) (hN H).toNat (by omega)
    rcases he with e | e
    · exact bet_n (bet_h (by omega) (by rw [← e]; exact hg))
    · exact bet_h (by omega) (by rw [← e]; exact hg)
  have hin : nxY H y = -1 ∨ ((1 ≤ nxY H y ∧ nxY H y ≤ 9999) ∧ ∃ k, (0 ≤ k ∧ k < hN H) ∧ hL H (nxY H y) = hL H y - 20000 * hC H k - 1) := by
    have aux : ∀ (b v k : Int), (0 ≤ k ∧ k < hN H) → (b = -1 ∨ ((1 ≤ b ∧ b ≤ 9999) ∧ ∃ k, (0 ≤ k ∧ k < hN H) ∧ hL H b = hL H y - 20000 * hC H k - 1)) → (bet (hL H) 9999 b v (hL H y - 20000 * hC H k - 1) = -1 ∨ ((1 ≤ bet (hL H) 9999 b v (hL H y - 20000 * hC H k - 1) ∧ bet (hL H) 9999 b v (hL H y - 20000 * hC H k - 1) ≤ 9999) ∧ ∃ k', (0 ≤ k' ∧ k' < hN H) ∧ hL H (bet (hL H) 9999 b v (hL H y - 20000 * hC H k - 1)) = hL H y - 20000 * hC H k' - 1)) := by
      intro b v k hk hb
      unfold bet
      split
      · rename_i q; exact Or.inr ⟨q.1, k, hk, q.2.1⟩
      · exact hb
    unfold nxY
    refine fo_in (fun b => b = -1 ∨ ((1 ≤ b ∧ b ≤ 9999) ∧ ∃ k, (0 ≤ k ∧ k < hN H) ∧ hL H b = hL H y - 20000 * hC H k - 1)) (Or.inl rfl) (hN H).toNat (fun b k k1 k2 hb => ?_)
    exact aux _ _ k (by omega) (aux _ _ k (by omega) hb)
  rcases hin with e | ⟨hb, k, hk, e⟩
  · exact absurd e ne
  · have sk := hs.2 k hk.1 hk.2
    have vv := (hy (nxY H y) hb.1 hb.2).1
    unfold vOK at vv vy
    refine ⟨hb, ?_, ?_⟩ <;> omega
theorem oth_b {H : Hea} (h : heaOK H) {m k : Int} (hk : 0 ≤ k ∧ k < mN H) : oth H m k = -1 ∨ (1 ≤ oth H m k ∧ oth H m k ≤ 12) := by
  have := h.2.1.2 k hk.1 hk.2
  unfold oth
  split
  · omega
  · split <;> omega
theorem nxM_p {H : Hea} (h : heaOK H) {m : Int} (m1 : 1 ≤ m) (m2 : m ≤ 12) (h0 : 0 < hM H m) (hf : hM H m < 1000000000000) : (1 ≤ nxM H m ∧ nxM H m ≤ 12) ∧ (0 ≤ hM H (nxM H m) ∧ hM H (nxM H m) < hM H m) ∧ hM H (nxM H m) % 20000 + 1 = hM H m % 20000 := by
  have hO := h
  obtain ⟨hs, hm, _, hy, _⟩ := h
  obtain ⟨vy, _, w⟩ := hy m m1 m2
  obtain ⟨v, k, hv, hk, he, hg⟩ := w h0 hf
  have mk := hm.2 k hk.1 hk.2
  have eo : oth H m k = v := by
    unfold oth
    rcases he with ⟨e1, e2⟩ | ⟨e1, e2⟩
    · rw [if_pos e1, e2]
    · rw [if_neg (by omega), if_pos e1, e2]
  have ne : ¬ nxM H m = -1 := by
    unfold nxM
    refine fo_hit (fun b => ¬ b = -1) hk.1 (fun b => ?_) (fun b j q => ?_) (mN H).toNat (by omega)
    · show ¬ (if oth H m k = -1 then b else _) = -1
      rw [eo, if_neg (by omega)]
      exact bet_h hv hg
    · show ¬ (if oth H m j = -1 then b else _) = -1
      split
      · exact q
      · exact bet_n q
  have hin : nxM H m = -1 ∨ ((1 ≤ nxM H m ∧ nxM H m ≤ 12) ∧ ∃ k, (0 ≤ k ∧ k < mN H) ∧ hM H (nxM H m) = hM H m - 20000 * mC H k - 1) := by
    unfold nxM
    refine fo_in (fun b => b = -1 ∨ ((1 ≤ b ∧ b ≤ 12) ∧ ∃ k, (0 ≤ k ∧ k < mN H) ∧ hM H b = hM H m - 20000 * mC H k - 1)) (Or.inl rfl) (mN H).toNat (fun b k k1 k2 hb => ?_)
    split
    · exact hb
    · unfold bet
      split
      · rename_i q; exact Or.inr ⟨q.1, k, by omega, q.2.1⟩
      · exact hb
  rcases hin with e | ⟨hb, k, hk, e⟩
  · exact absurd e ne
  · have sk := hm.2 k hk.1 hk.2
    have vv := (hy (nxM H m) hb.1 hb.2).1
    unfold vOK at vv vy
    refine ⟨hb, ?_, ?_⟩ <;> omega
/-- rows -/
def rw' (nx : Int → Int) (y : Int) : Nat → Int
  | 0 => y
  | i + 1 => nx (rw' nx y i)
def kY (H : Hea) (y : Int) : Int := rw' (nxY H) y (hL H y % 20000).toNat
def kM (H : Hea) (m : Int) : Int := rw' (nxM H) m (hM H m % 20000).toNat
theorem rwY {H : Hea} (h : heaOK H) {y : Int} (y1 : 1 ≤ y) (y2 : y ≤ 9999) (hf : hL H y < 1000000000000) : ∀ i : Nat, (i : Int) ≤ hL H y % 20000 → (1 ≤ rw' (nxY H) y i ∧ rw' (nxY H) y i ≤ 9999) ∧ (0 ≤ hL H (rw' (nxY H) y i) ∧ hL H (rw' (nxY H) y i) < 1000000000000) ∧ hL H (rw' (nxY H) y i) % 20000 = hL H y % 20000 - i
  | 0, _ => by
    have := (h.2.2.1 y y1 y2).1
    unfold vOK at this
    exact ⟨⟨y1, y2⟩, ⟨by show 0 ≤ hL H y; omega, hf⟩, by show hL H y % 20000 = _; omega⟩
  | i + 1, hi => by
    obtain ⟨a1, a2, a3⟩ := rwY h y1 y2 hf i (by omega)
    obtain ⟨b1, b2, b3⟩ := nxY_p h a1.1 a1.2 (by omega) a2.2
    refine ⟨b1, ⟨b2.1, ?_⟩, ?_⟩
    · show hL H (nxY H _) < _; omega
    · show hL H (nxY H _) % 20000 = _; omega
theorem rwM {H : Hea} (h : heaOK H) {m : Int} (m1 : 1 ≤ m) (m2 : m ≤ 12) (hf : hM H m < 1000000000000) : ∀ i : Nat, (i : Int) ≤ hM H m % 20000 → (1 ≤ rw' (nxM H) m i ∧ rw' (nxM H) m i ≤ 12) ∧ (0 ≤ hM H (rw' (nxM H) m i) ∧ hM H (rw' (nxM H) m i) < 1000000000000) ∧ hM H (rw' (nxM H) m i) % 20000 = hM H m % 20000 - i
  | 0, _ => by
    have := (h.2.2.2.1 m m1 m2).1
    unfold vOK at this
    exact ⟨⟨m1, m2⟩, ⟨by show 0 ≤ hM H m; omega, hf⟩, by show hM H m % 20000 = _; omega⟩
  | i + 1, hi => by
    obtain ⟨a1, a2, a3⟩ := rwM h m1 m2 hf i (by omega)
    obtain ⟨b1, b2, b3⟩ := nxM_p h a1.1 a1.2 (by omega) a2.2
    refine ⟨b1, ⟨b2.1, ?_⟩, ?_⟩
    · show hM H (nxM H _) < _; omega
    · show hM H (nxM H _) % 20000 = _; omega
theorem z_Y {H : Hea} (h : heaOK H) {y : Int} (y1 : 1 ≤ y) (y2 : y ≤ 9999) (hf : hL H y < 1000000000000) : hL H y = 0 ↔ hL H y % 20000 = 0 := by
  constructor
  · intro e; rw [e]; rfl
  · intro e
    have v := (h.2.2.1 y y1 y2).1
    by_cases c : 0 < hL H y
    · have p := nxY_p h y1 y2 c hf
      omega
    · unfold vOK at v; omega
theorem z_M {H : Hea} (h : heaOK H) {m : Int} (m1 : 1 ≤ m) (m2 : m ≤ 12) (hf : hM H m < 1000000000000) : hM H m = 0 ↔ hM H m % 20000 = 0 := by
  constructor
  · intro e; rw [e]; rfl
  · intro e
    have v := (h.2.2.2.1 m m1 m2).1
    by_cases c : 0 < hM H m
    · have p := nxM_p h m1 m2 c hf
      omega
    · unfold vOK at v; omega
theorem kY_b {H : Hea} (h : heaOK H) {y : Int} (y1 : 1 ≤ y) (y2 : y ≤ 9999) (hf : hL H y < 1000000000000) : 1 ≤ kY H y ∧ kY H y ≤ 9999 := by
  have v := (h.2.2.1 y y1 y2).1
  unfold vOK at v
  exact (rwY h y1 y2 hf _ (by omega)).1
theorem kM_b {H : Hea} (h : heaOK H) {m : Int} (m1 : 1 ≤ m) (m2 : m ≤ 12) (hf : hM H m < 1000000000000) : 1 ≤ kM H m ∧ kM H m ≤ 12 := by
  have v := (h.2.2.2.1 m m1 m2).1
  unfold vOK at v
  exact (rwM h m1 m2 hf _ (by omega)).1
