/-! leaps, months and days, in plain numbers -/
set_option maxRecDepth 100000
abbrev Lep : Type := Nat × (Int → Int) × (Int → Int)
def yLp (b s : Int → Int) (y : Int) : Nat → Int
  | 0 => 0
  | n + 1 => if Int.tmod y (b n) = 0 then s n else yLp b s y n
def lpY (L : Lep) (y : Int) : Int := yLp L.2.1 L.2.2 y L.1
def lepOK (L : Lep) : Prop := L.1 ≤ 8 ∧ ∀ k : Int, 0 ≤ k → k < L.1 → (1 ≤ L.2.1 k ∧ L.2.1 k ≤ 9999) ∧ (L.2.2 k = 0 ∨ L.2.2 k = 1)
def len (L : Lep) (y m : Int) : Int := if m = 2 then 28 + lpY L y else if m = 4 ∨ m = 6 ∨ m = 9 ∨ m = 11 then 30 else 31
def ah (L : Lep) (y m : Int) : Int := sm (len L y) 1 (m - 1).toNat
def bf (L : Lep) (y : Int) : Int := sm (lpY L) 1 (y - 1).toNat
def yr (L : Lep) (y : Int) : Int := 365 * (y - 1) + bf L y
def od (L : Lep) (y m d : Int) : Int := yr L y + ah L y m + d - 1
def cdO (y m d : Int) : Int := 10000 * y + 100 * m + d
def vd (L : Lep) (y m d : Int) : Prop := (1 ≤ y ∧ y ≤ 10000) ∧ (1 ≤ m ∧ m ≤ 12) ∧ (1 ≤ d ∧ d ≤ len L y m)
theorem yLp_01 (b s : Int → Int) (y : Int) (n : Nat) (h : ∀ k : Int, 0 ≤ k → k < n → s k = 0 ∨ s k = 1) : yLp b s y n = 0 ∨ yLp b s y n = 1 := by
  induction n with
  | zero => exact Or.inl rfl
  | succ n ih =>
    unfold yLp
    split
    · exact h n (by omega) (by omega)
    · exact ih (fun k h1 h2 => h k h1 (by omega))
theorem lpY_01 {L : Lep} (h : lepOK L) (y : Int) : lpY L y = 0 ∨ lpY L y = 1 := yLp_01 _ _ _ _ (fun k h1 h2 => (h.2 k h1 h2).2)
theorem len_b {L : Lep} (h : lepOK L) (y m : Int) : 28 ≤ len L y m ∧ len L y m ≤ 31 := by
  unfold len
  have := lpY_01 h y
  split
  · omega
  · split <;> omega
theorem len_o {L : Lep} {y m : Int} (h : m ≠ 2) : len L y m = if m = 4 ∨ m = 6 ∨ m = 9 ∨ m = 11 then 30 else 31 := by unfold len; rw [if_neg h]
theorem ah_1 (L : Lep) (y : Int) : ah L y 1 = 0 := rfl
theorem ah_s (L : Lep) (y : Int) {m : Int} (h : 1 ≤ m) : ah L y (m + 1) = ah L y m + len L y m := by
  have e := sm_at (len L y) h
  have e1 : (m + 1 - 1).toNat = (m + 1 - 1).toNat := rfl
  unfold ah
  exact e
theorem bf_s (L : Lep) {y : Int} (h : 1 ≤ y) : bf L (y + 1) = bf L y + lpY L y := sm_at (lpY L) h
theorem yr_1 (L : Lep) : yr L 1 = 0 := rfl
theorem yr_s (L : Lep) {y : Int} (h : 1 ≤ y) : yr L (y + 1) = yr L y + 365 + lpY L y := by
  unfold yr; rw [bf_s L h]; omega
theorem sm_m (g : Int → Int) (lo : Int) (hg : ∀ k, 0 ≤ g k) (n d : Nat) : sm g lo n ≤ sm g lo (n + d) := by
  induction d with
  | zero => exact Int.le_refl _
  | succ d ih =>
    have := hg (lo + ((n + d : Nat) : Int))
    show _ ≤ sm g lo (n + d) + g (lo + ((n + d : Nat) : Int))
    omega
theorem ah_m {L : Lep} (h : lepOK L) (y : Int) {m n : Int} (h1 : 1 ≤ m) (h2 : m ≤ n) : ah L y m ≤ ah L y n := by
  have e := sm_m (len L y) 1 (fun k => by have := len_b h y k; omega) (m - 1).toNat (n - m).toNat
  have e2 : (m - 1).toNat + (n - m).toNat = (n - 1).toNat := by omega
  rw [e2] at e
  exact e
theorem ah_0 {L : Lep} (h : lepOK L) (y : Int) {m : Int} (h1 : 1 ≤ m) : 0 ≤ ah L y m := by
  have := ah_m h y (Int.le_refl 1) h1
  rw [ah_1] at this
  exact this
theorem ah_13 (L : Lep) (y : Int) : ah L y 13 = 365 + lpY L y := by
  show sm (len L y) 1 12 = _
  simp [sm, len]
  omega
theorem yr_m {L : Lep} (h : lepOK L) {x y : Int} (h1 : 1 ≤ x) (h2 : x ≤ y) : yr L x + 365 * (y - x) ≤ yr L y := by
  have e := sm_m (lpY L) 1 (fun k => by have := lpY_01 h k; omega) (x - 1).toNat (y - x).toNat
  have e2 : (x - 1).toNat + (y - x).toNat = (y - 1).toNat := by omega
  rw [e2] at e
  unfold yr bf
  omega
theorem sm_u (g : Int → Int) (lo c : Int) (hg : ∀ k, g k ≤ c) (n : Nat) : sm g lo n ≤ c * n := by
  induction n with
  | zero => simp [sm]
  | succ n ih =>
    have := hg (lo + n)
    show sm g lo n + g (lo + n) ≤ _
    have e : c * ((n + 1 : Nat) : Int) = c * n + c := by rw [Int.natCast_add, Int.mul_add]; simp
    rw [e]; omega
theorem bf_b {L : Lep} (h : lepOK L) {y : Int} (h1 : 1 ≤ y) : 0 ≤ bf L y ∧ bf L y ≤ y - 1 := by
  constructor
  · have e := sm_m (lpY L) 1 (fun k => by have := lpY_01 h k; omega) 0 (y - 1).toNat
    rw [Nat.zero_add] at e
    exact e
  · have e := sm_u (lpY L) 1 1 (fun k => by have := lpY_01 h k; omega) (y - 1).toNat
    unfold bf
    omega
theorem yr_b {L : Lep} (h : lepOK L) {y : Int} (h1 : 1 ≤ y) : 365 * (y - 1) ≤ yr L y ∧ yr L y ≤ 366 * (y - 1) := by
  have := bf_b h h1
  unfold yr
  omega
theorem ah_u {L : Lep} (h : lepOK L) (y : Int) {m : Int} (h1 : 1 ≤ m) (h2 : m ≤ 13) : ah L y m ≤ 366 := by
  have := ah_m h y h1 h2
  rw [ah_13] at this
  have := lpY_01 h y
  omega
/-- within a year -/
theorem od_y {L : Lep} (h : lepOK L) {y m d : Int} (v : vd L y m d) : yr L y ≤ od L y m d ∧ od L y m d < yr L (y + 1) := by
  obtain ⟨⟨y1, y2⟩, ⟨m1, m2⟩, d1, d2⟩ := v
  have a0 := ah_0 h y m1
  have a1 := ah_s L y m1
  have a2 := ah_m h y (by omega : 1 ≤ m + 1) (by omega : m + 1 ≤ 13)
  rw [ah_13] at a2
  rw [yr_s L y1]
  unfold od
  omega
theorem od_b {L : Lep} (h : lepOK L) {y m d : Int} (v : vd L y m d) : 0 ≤ od L y m d ∧ od L y m d ≤ 3660000 := by
  have a := od_y h v
  have y1 := v.1
  have b := yr_b h (y := y) (by omega)
  have c := yr_b h (y := y + 1) (by omega)
  omega
theorem od_lt {L : Lep} (h : lepOK L) {y m d y' m' d' : Int} (v : vd L y m d) (v' : vd L y' m' d') (hc : cdO y m d < cdO y' m' d') : od L y m d < od L y' m' d' := by
  have o := od_y h v
  have o' := od_y h v'
  have b1 := len_b h y m
  have b2 := len_b h y' m'
  obtain ⟨⟨y1, y2⟩, ⟨m1, m2⟩, d1, d2⟩ := v
  obtain ⟨⟨y1', y2'⟩, ⟨m1', m2'⟩, d1', d2'⟩ := v'
  unfold cdO at hc
  by_cases hy : y < y'
  · have := yr_m h (by omega : 1 ≤ y + 1) (by omega : y + 1 ≤ y')
    omega
  · have ey : y = y' := by omega
    subst ey
    by_cases hm : m < m'
    · have a1 := ah_s L y m1
      have a2 := ah_m h y (by omega : 1 ≤ m + 1) (by omega : m + 1 ≤ m')
      unfold od
      omega
    · have em : m = m' := by omega
      subst em
      unfold od
      omega
theorem cd_inj {L : Lep} (h : lepOK L) {y m d y' m' d' : Int} (v : vd L y m d) (v' : vd L y' m' d') (hc : cdO y m d = cdO y' m' d') : y = y' ∧ m = m' ∧ d = d' := by
  have b1 := len_b h y m
  have b2 := len_b h y' m'
  obtain ⟨⟨y1, y2⟩, ⟨m1, m2⟩, d1, d2⟩ := v
  obtain ⟨⟨y1', y2'⟩, ⟨m1', m2'⟩, d1', d2'⟩ := v'
  unfold cdO at hc
  omega
theorem od_inj {L : Lep} (h : lepOK L) {y m d y' m' d' : Int} (v : vd L y m d) (v' : vd L y' m' d') (ho : od L y m d = od L y' m' d') : y = y' ∧ m = m' ∧ d = d' := by
  by_cases c : cdO y m d = cdO y' m' d'
  · exact cd_inj h v v' c
  · exfalso
    by_cases c1 : cdO y m d < cdO y' m' d'
    · have := od_lt h v v' c1; omega
    · have := od_lt h v' v (by omega); omega
theorem od_le {L : Lep} (h : lepOK L) {y m d y' m' d' : Int} (v : vd L y m d) (v' : vd L y' m' d') : od L y m d ≤ od L y' m' d' ↔ cdO y m d ≤ cdO y' m' d' := by
  constructor
  · intro ho
    by_cases c : cdO y m d ≤ cdO y' m' d'
    · exact c
    · have := od_lt h v' v (by omega); omega
  · intro hc
    by_cases c : cdO y m d = cdO y' m' d'
    · obtain ⟨e1, e2, e3⟩ := cd_inj h v v' c
      subst e1; subst e2; subst e3
      exact Int.le_refl _
    · have := od_lt h v v' (by omega); omega
theorem steps_ex (s : Nat → Int) (p : Int) (n : Nat) (h0 : s 0 ≤ p) (hn : p < s n) : ∃ k, k < n ∧ s k ≤ p ∧ p < s (k + 1) := by
  induction n with
  | zero => omega
  | succ n ih =>
    by_cases c : p < s n
    · obtain ⟨k, hk, r⟩ := ih c
      exact ⟨k, by omega, r⟩
    · exact ⟨n, by omega, by omega, hn⟩
theorem od_ex {L : Lep} (h : lepOK L) {p : Int} (h0 : 0 ≤ p) (h1 : p < yr L 10001) : ∃ y m d, vd L y m d ∧ od L y m d = p := by
  have e0 : (((0 : Nat) : Int) + 1) = 1 := by omega
  have e9 : (((10000 : Nat) : Int) + 1) = 10001 := by omega
  obtain ⟨k, hk, a1, a2⟩ := steps_ex (fun n => yr L (n + 1)) p 10000 (by show yr L (((0 : Nat) : Int) + 1) ≤ p; rw [e0, yr_1]; exact h0) (by show p < yr L (((10000 : Nat) : Int) + 1); rw [e9]; exact h1)
  have a1 : yr L (k + 1) ≤ p := a1
  have a2 : p < yr L (((k + 1 : Nat) : Int) + 1) := a2
  have e : ((k + 1 : Nat) : Int) = (k : Int) + 1 := by omega
  rw [e, yr_s L (by omega : (1 : Int) ≤ (k : Int) + 1)] at a2
  obtain ⟨j, hj, b1, b2⟩ := steps_ex (fun n => ah L (k + 1) (n + 1)) (p - yr L (k + 1)) 12 (by show ah L (k + 1) 1 ≤ _; rw [ah_1]; omega) (by show _ < ah L (k + 1) 13; rw [ah_13]; omega)
  have b1 : ah L (k + 1) (j + 1) ≤ p - yr L (k + 1) := b1
  have b2 : p - yr L (k + 1) < ah L (k + 1) (((j + 1 : Nat) : Int) + 1) := b2
  have e2 : ((j + 1 : Nat) : Int) = (j : Int) + 1 := by omega
  rw [e2, ah_s L _ (by omega : (1 : Int) ≤ (j : Int) + 1)] at b2
  refine ⟨k + 1, j + 1, p - yr L (k + 1) - ah L (k + 1) (j + 1) + 1, ⟨by omega, by omega, by omega⟩, ?_⟩
  unfold od
  omega
theorem od_1 (L : Lep) : od L 1 1 1 = 0 := rfl
/-- the date of a place, as one number -/
noncomputable def dtC (L : Lep) (p : Int) : Int :=
  haveI := Classical.propDecidable (∃ q : Int × Int × Int, vd L q.1 q.2.1 q.2.2 ∧ od L q.1 q.2.1 q.2.2 = p)
  if h : ∃ q : Int × Int × Int, vd L q.1 q.2.1 q.2.2 ∧ od L q.1 q.2.1 q.2.2 = p then cdO (Classical.choose h).1 (Classical.choose h).2.1 (Classical.choose h).2.2 else -1
theorem dtC_eq {L : Lep} (h : lepOK L) {y m d : Int} (v : vd L y m d) : dtC L (od L y m d) = cdO y m d := by
  have hx : ∃ q : Int × Int × Int, vd L q.1 q.2.1 q.2.2 ∧ od L q.1 q.2.1 q.2.2 = od L y m d := ⟨(y, m, d), v, rfl⟩
  unfold dtC
  rw [dif_pos hx]
  have sp := Classical.choose_spec hx
  obtain ⟨e1, e2, e3⟩ := od_inj h sp.1 v sp.2
  rw [e1, e2, e3]
theorem cdO_y {L : Lep} (h : lepOK L) {y m d : Int} (v : vd L y m d) : Int.tdiv (cdO y m d) 10000 = y ∧ Int.tmod (Int.tdiv (cdO y m d) 100) 100 = m ∧ Int.tmod (cdO y m d) 100 = d := by
  have b1 := len_b h y m
  obtain ⟨⟨y1, y2⟩, ⟨m1, m2⟩, d1, d2⟩ := v
  unfold cdO
  rw [Int.tdiv_eq_ediv_of_nonneg (by omega), Int.tdiv_eq_ediv_of_nonneg (by omega), Int.tmod_eq_emod_of_nonneg (by omega), Int.tmod_eq_emod_of_nonneg (by omega)]
  omega
