/-! calendars in the state: DayBoy's leaps and eras -/
set_option maxRecDepth 100000
abbrev EraT : Type := Lep × Int × Int × Int
abbrev Cal : Type := Nat × (Int → EraT)
def LepA (σ : St) (l : Nat) (L : Lep) : Prop := oc σ l 3 ∧ gI σ l 3 0 = L.1 ∧ (∀ k : Int, 0 ≤ k → k < L.1 → gI σ l 0 k = L.2.1 k ∧ gI σ l 2 k = L.2.2 k) ∧ lepOK L
def LepX (σ : St) (l : Nat) (L : Lep) : Prop := LepA σ l L ∧ ∀ y : Int, 1 ≤ y → y ≤ 10000 → gI σ l 1 y = bf L y
theorem yLp_p (b s : Int → Int) (y : Int) {k : Int} (h : 0 ≤ k) : yLp b s y (k + 1).toNat = if Int.tmod y (b k) = 0 then s k else yLp b s y k.toNat := by
  have e : (k + 1).toNat = k.toNat + 1 := by omega
  have e2 : (k.toNat : Int) = k := by omega
  rw [e]; show (if Int.tmod y (b (k.toNat : Int)) = 0 then s (k.toNat : Int) else _) = _; rw [e2]
theorem tmod_b {y n : Int} (hy : inR y) (hn : 1 ≤ n) (h9 : n ≤ 9999) : inR (Int.tmod y n) := by
  have h1 := Int.tmod_lt_of_pos y (b := n) (by omega)
  have h2 := Int.lt_tmod_of_pos y (b := n) (by omega)
  constructor <;> omega
section
variable {σ : St} {l : Nat} {L : Lep} {y m d : Int}
theorem X4_isLeap (h : LepA σ l L) (hy : inR y) : f_X4_isLeap σ l y = some (lpY L y) := by
  obtain ⟨ho, hn, hk, hL⟩ := h
  have hL1 := hL.1
  unfold f_X4_isLeap
  rw [cO_t ho, hn]
  refine lp_fn (fun k : Int => -1 ≤ k ∧ k < L.1 ∧ yLp L.2.1 L.2.2 y (k + 1).toNat = lpY L y) (fun k : Int => (k + 1).toNat) (fun _ => lpY L y) ?_ ?_
  · intro k ⟨h1, h2, h3⟩
    unfold f_X4_isLeap_b7 f_X4_isLeap_j28
    by_cases c : k < 0
    · have e : k = -1 := by omega
      subst e
      simp only [T_some, T_none, T_ck, T_cLt, T_cEq, T_jLt, T_jEq, T_bind, T_bd2, T_wS, T_cO, T_nnS, T_cNullN, T_cNullS, T_bT1, T_bT2, T_ex, T_ite, T_dC, Sum.elim_inl, Sum.elim_inr]
      refine ⟨by omega, fun _ => ⟨by omega, fun _ => h3, fun q => absurd c q⟩, fun q => absurd c q⟩
    · have e := hk k (by omega) h2
      have o := hL.2 k (by omega) h2
      rw [yLp_p _ _ _ (by omega)] at h3
      rw [e.1, e.2]
      have t := tmod_b hy o.1.1 o.1.2
      simp only [T_some, T_none, T_ck, T_cLt, T_cEq, T_jLt, T_jEq, T_bind, T_bd2, T_wS, T_cO, T_nnS, T_cNullN, T_cNullS, T_bT1, T_bT2, T_ex, T_ite, T_dC, Sum.elim_inl, Sum.elim_inr]
      refine ⟨by omega, fun q => absurd q c, fun _ => ⟨by omega, ⟨hy, by omega, by omega⟩, ⟨t, by omega⟩, fun q => ⟨by omega, fun q => absurd q c, fun _ => ⟨by omega, by omega, fun q2 => ?_, fun q2 => ?_⟩⟩, fun q => ⟨⟨by omega, by omega, ?_⟩, by omega, trivial⟩⟩⟩
      · rw [if_pos q] at h3; omega
      · rw [if_pos q] at h3; omega
      · rw [if_neg q] at h3
        have e2 : k + -1 + 1 = k := by omega
        rw [e2]; exact h3
  · refine ⟨by omega, by omega, ?_⟩
    have e2 : ((L.1 : Int) - 1 + 1).toNat = L.1 := by omega
    rw [e2]; rfl
theorem X4_length (h : LepA σ l L) (hy : inR y) (hm : inR m) : f_X4_length σ l y m = some (len L y m) := by
  have b := lpY_01 h.2.2.2 y
  unfold f_X4_length len
  rw [cO_t h.1, X4_isLeap h hy]
  refine T_eq.mp ?_
  simp only [T_some, T_none, T_ck, T_cLt, T_cEq, T_jLt, T_jEq, T_bind, T_bd2, T_wS, T_cO, T_nnS, T_cNullN, T_cNullS, T_bT1, T_bT2, T_ex, T_ite, T_dC, Sum.elim_inl, Sum.elim_inr]
  refine ⟨by omega, fun q => ⟨by omega, fun q1 => ?_, fun q1 => ?_⟩, fun q => ⟨by omega, fun q1 => ?_, fun q1 => ⟨by omega, fun q2 => ?_, fun q2 => ⟨by omega, fun q3 => ?_, fun q3 => ⟨by omega, fun q4 => ?_, fun q4 => ?_⟩⟩⟩⟩⟩
  · rw [if_pos q]; omega
  · rw [if_pos q]; omega
  all_goals (rw [if_neg q])
  · rw [if_pos (by omega)]
  · rw [if_pos (by omega)]
  · rw [if_pos (by omega)]
  · rw [if_pos (by omega)]
  · rw [if_neg (by omega)]
theorem X4_ahead (h : LepA σ l L) (hy : inR y) (h1 : 1 ≤ m) (h2 : m ≤ 13) : f_X4_ahead σ l y m = some (ah L y m) := by
  unfold f_X4_ahead
  rw [cO_t h.1]
  refine T_eq.mp (T_lp (fun s => s.1 = ah L y s.2 ∧ 1 ≤ s.2 ∧ s.2 ≤ m) (fun s => (m - s.2).toNat) ?_ ⟨rfl, by omega, by omega⟩)
  intro ⟨n, k⟩ ⟨e, k1, k2⟩
  have e : n = ah L y k := e
  have k1 : 1 ≤ k := k1
  have k2 : k ≤ m := k2
  unfold f_X4_ahead_b5
  rw [X4_length h hy (by omega)]
  simp only [T_some, T_none, T_ck, T_cLt, T_cEq, T_jLt, T_jEq, T_bind, T_bd2, T_wS, T_cO, T_nnS, T_cNullN, T_cNullS, T_bT1, T_bT2, T_ex, T_ite, T_dC, Sum.elim_inl, Sum.elim_inr]
  refine ⟨by omega, fun q => ⟨⟨?_, by omega, by omega⟩, by omega⟩, fun q => ?_⟩
  · rw [ah_s L y k1, e]
  · have : k = m := by omega
    rw [e, this]
theorem X4_ofYear (h : LepX σ l L) (h1 : 1 ≤ y) (h2 : y ≤ 10000) : f_X4_ofYear σ l y = some (yr L y) := by
  unfold f_X4_ofYear yr
  rw [cO_t h.1.1, ck_t (by omega), h.2 y h1 h2]
theorem J3_min {x z : Int} (hx : inR x) (hz : inR z) : f_J3_min σ x z = some (min x z) := by
  unfold f_J3_min
  refine T_eq.mp ?_
  simp only [T_some, T_none, T_ck, T_cLt, T_cEq, T_jLt, T_jEq, T_bind, T_bd2, T_wS, T_cO, T_nnS, T_cNullN, T_cNullS, T_bT1, T_bT2, T_ex, T_ite, T_dC, Sum.elim_inl, Sum.elim_inr]
  refine ⟨by omega, fun q => ?_, fun q => ?_⟩ <;> omega
theorem J3_max {x z : Int} (hx : inR x) (hz : inR z) : f_J3_max σ x z = some (max x z) := by
  unfold f_J3_max
  refine T_eq.mp ?_
  simp only [T_some, T_none, T_ck, T_cLt, T_cEq, T_jLt, T_jEq, T_bind, T_bd2, T_wS, T_cO, T_nnS, T_cNullN, T_cNullS, T_bT1, T_bT2, T_ex, T_ite, T_dC, Sum.elim_inl, Sum.elim_inr]
  refine ⟨by omega, fun q => ?_, fun q => ?_⟩ <;> omega
theorem J3_min2 {x z : Int} (hx : inL x) (hz : inL z) : f_J3_min_2 σ x z = some (min x z) := by
  unfold f_J3_min_2
  refine T_eq.mp ?_
  simp only [T_some, T_none, T_ck, T_cLt, T_cEq, T_jLt, T_jEq, T_bind, T_bd2, T_wS, T_cO, T_nnS, T_cNullN, T_cNullS, T_bT1, T_bT2, T_ex, T_ite, T_dC, Sum.elim_inl, Sum.elim_inr]
  refine ⟨by omega, fun q => ?_, fun q => ?_⟩ <;> omega
theorem J3_abs {x : Int} (hx : inR x) : f_J3_abs σ x = some (x.natAbs : Int) := by
  unfold f_J3_abs
  refine T_eq.mp ?_
  simp only [T_some, T_none, T_ck, T_cLt, T_cEq, T_jLt, T_jEq, T_bind, T_bd2, T_wS, T_cO, T_nnS, T_cNullN, T_cNullS, T_bT1, T_bT2, T_ex, T_ite, T_dC, Sum.elim_inl, Sum.elim_inr]
  refine ⟨by omega, fun q => ?_, fun q => ?_⟩ <;> omega
/-- signum of a difference -/
def sgn (x z : Int) : Int := if x < z then -1 else if x = z then 0 else 1
theorem J5_compare {x z : Int} (hx : inR x) (hz : inR z) : f_J5_compare σ x z = some (sgn x z) := by
  unfold f_J5_compare sgn
  refine T_eq.mp ?_
  simp only [T_some, T_none, T_ck, T_cLt, T_cEq, T_jLt, T_jEq, T_bind, T_bd2, T_wS, T_cO, T_nnS, T_cNullN, T_cNullS, T_bT1, T_bT2, T_ex, T_ite, T_dC, Sum.elim_inl, Sum.elim_inr]
  refine ⟨by omega, fun q => ?_, fun q => ⟨by omega, fun q2 => ?_, fun q2 => ?_⟩⟩
  · rw [if_pos q]
  · rw [if_neg q, if_pos q2]
  · rw [if_neg q, if_neg q2]
theorem J6_compare {x z : Int} (hx : inL x) (hz : inL z) : f_J6_compare σ x z = some (sgn x z) := by
  unfold f_J6_compare sgn
  refine T_eq.mp ?_
  simp only [T_some, T_none, T_ck, T_cLt, T_cEq, T_jLt, T_jEq, T_bind, T_bd2, T_wS, T_cO, T_nnS, T_cNullN, T_cNullS, T_bT1, T_bT2, T_ex, T_ite, T_dC, Sum.elim_inl, Sum.elim_inr]
  refine ⟨by omega, fun q => ?_, fun q => ⟨by omega, fun q2 => ?_, fun q2 => ?_⟩⟩
  · rw [if_pos q]
  · rw [if_neg q, if_pos q2]
  · rw [if_neg q, if_neg q2]
/-- a truth as a number -/
def b01 (p : Prop) [Decidable p] : Int := if p then 1 else 0
theorem b01_b (p : Prop) [Decidable p] : b01 p = 0 ∨ b01 p = 1 := by unfold b01; split <;> simp
theorem b01_t {p : Prop} [Decidable p] (h : p) : b01 p = 1 := if_pos h
theorem b01_f {p : Prop} [Decidable p] (h : ¬ p) : b01 p = 0 := if_neg h
theorem b01_0 {p : Prop} [Decidable p] : b01 p = 0 ↔ ¬ p := by unfold b01; split <;> simp [*]
theorem b01_1 {p : Prop} [Decidable p] : b01 p = 1 ↔ p := by unfold b01; split <;> simp [*]
theorem X1_isIn {x z w : Int} (hx : inL x) (hz : inL z) (hw : inL w) : f_X1_isIn σ x z w = some (b01 (z ≤ x ∧ x ≤ w)) := by
  unfold f_X1_isIn
  refine T_eq.mp ?_
  simp only [T_some, T_none, T_ck, T_cLt, T_cEq, T_jLt, T_jEq, T_bind, T_bd2, T_wS, T_cO, T_nnS, T_cNullN, T_cNullS, T_bT1, T_bT2, T_ex, T_ite, T_dC, Sum.elim_inl, Sum.elim_inr]
  refine ⟨by omega, fun q => ?_, fun q => ⟨by omega, fun q2 => ?_, fun q2 => ?_⟩⟩
  · rw [b01_f (by omega)]
  · rw [b01_f (by omega)]
  · rw [b01_t (by omega)]
theorem X6_in {x z w : Int} (hx : inR x) (hz : inR z) (hw : inR w) : f_X6_in σ x z w = some (b01 (z ≤ x ∧ x ≤ w)) := by
  unfold f_X6_in
  refine T_eq.mp ?_
  simp only [T_some, T_none, T_ck, T_cLt, T_cEq, T_jLt, T_jEq, T_bind, T_bd2, T_wS, T_cO, T_nnS, T_cNullN, T_cNullS, T_bT1, T_bT2, T_ex, T_ite, T_dC, Sum.elim_inl, Sum.elim_inr]
  refine ⟨by omega, fun q => ?_, fun q => ⟨by omega, fun q2 => ?_, fun q2 => ?_⟩⟩
  · rw [b01_f (by omega)]
  · rw [b01_f (by omega)]
  · rw [b01_t (by omega)]
/-- the place of a date, its day cut to the month -/
def plM (L : Lep) (y m d : Int) : Int := yr L y + ah L y m + min d (len L y m) - 1
theorem plM_od {d : Int} (h : d ≤ len L y m) : plM L y m d = od L y m d := by unfold plM od; omega
theorem X4_place {d : Int} (h : LepX σ l L) (y1 : 1 ≤ y) (y2 : y ≤ 10000) (m1 : 1 ≤ m) (m2 : m ≤ 12) (hd : inR d) : f_X4_place σ l y m d = some (plM L y m d) := by
  have b := len_b h.1.2.2.2 y m
  unfold f_X4_place plM
  rw [cO_t h.1.1, X4_ofYear h y1 y2, X4_ahead h.1 (by omega) m1 (by omega), X4_length h.1 (by omega) (by omega)]
  show (f_J3_min σ d (len L y m)).bind _ = _
  rw [J3_min hd (by omega)]
  rfl
theorem yr_le {z : Int} (h : lepOK L) (v : vd L y m d) (z1 : 1 ≤ z) : yr L z ≤ od L y m d ↔ z ≤ y := by
  have o := od_y h v
  have y1 := v.1.1
  constructor
  · intro q
    by_cases c : z ≤ y
    · exact c
    · have := yr_m h (by omega : 1 ≤ y + 1) (by omega : y + 1 ≤ z); omega
  · intro q
    have := yr_m h z1 q; omega
theorem mid_b {a b : Int} (ha : 0 ≤ a) (hb : 0 ≤ b) : Int.tdiv (a + b + 1) 2 = (a + b + 1) / 2 := Int.tdiv_eq_ediv_of_nonneg (by omega)
theorem X4_yearAt (h : LepX σ l L) (v : vd L y m d) (y9 : y ≤ 9999) : f_X4_yearAt σ l (od L y m d) = some y := by
  have hb := od_b h.1.2.2.2 v
  have hv := v.1
  unfold f_X4_yearAt
  rw [cO_t h.1.1]
  refine T_eq.mp (T_lp (fun s => 1 ≤ s.1 ∧ s.1 ≤ y ∧ y ≤ s.2 ∧ s.2 ≤ 9999) (fun s => (s.2 - s.1).toNat) ?_ ⟨by omega, by omega, by omega, by omega⟩)
  intro ⟨a, b⟩ ⟨a1, a2, a3, a4⟩
  have a1 : 1 ≤ a := a1
  have a2 : a ≤ y := a2
  have a3 : y ≤ b := a3
  have a4 : b ≤ 9999 := a4
  unfold f_X4_yearAt_b6
  show T (cLt a b (ck (inR (a + b + 1)) ((f_X4_ofYear σ l ((a + b + 1).tdiv 2)).bind _)) _) _
  rw [mid_b (by omega) (by omega)]
  simp only [T_cLt]
  refine ⟨by omega, fun q => ?_, fun q => ?_⟩
  · rw [X4_ofYear h (by omega) (by omega)]
    have g := yr_le h.1.2.2.2 v (z := (a + b + 1) / 2) (by omega)
    have g2 := yr_b h.1.2.2.2 (y := (a + b + 1) / 2) (by omega)
    simp only [T_some, T_none, T_ck, T_cLt, T_cEq, T_jLt, T_jEq, T_bind, T_bd2, T_wS, T_cO, T_nnS, T_cNullN, T_cNullS, T_bT1, T_bT2, T_ex, T_ite, T_dC, Sum.elim_inl, Sum.elim_inr]
    refine ⟨by omega, by omega, fun q => ?_, fun q => ?_⟩
    · omega
    · omega
  · simp only [T_some, T_none, T_ck, T_cLt, T_cEq, T_jLt, T_jEq, T_bind, T_bd2, T_wS, T_cO, T_nnS, T_cNullN, T_cNullS, T_bT1, T_bT2, T_ex, T_ite, T_dC, Sum.elim_inl, Sum.elim_inr]; omega
theorem ah_le {z : Int} (h : lepOK L) (v : vd L y m d) (z1 : 1 ≤ z) : yr L y + ah L y z ≤ od L y m d ↔ z ≤ m := by
  obtain ⟨⟨y1, y2⟩, ⟨m1, m2⟩, d1, d2⟩ := v
  have a1 := ah_s L y m1
  unfold od
  constructor
  · intro q
    by_cases c : z ≤ m
    · exact c
    · have := ah_m h y (by omega : 1 ≤ m + 1) (by omega : m + 1 ≤ z); omega
  · intro q
    have := ah_m h y z1 q; omega
theorem X4_monthAt (h : LepX σ l L) (v : vd L y m d) (y9 : y ≤ 9999) : f_X4_monthAt σ l (od L y m d) = some m := by
  have hb := od_b h.1.2.2.2 v
  have hv := v.1
  have hm := v.2.1
  have hy := yr_b h.1.2.2.2 hv.1
  unfold f_X4_monthAt
  rw [cO_t h.1.1, X4_yearAt h v y9]
  refine T_eq.mp (T_lp (fun k : Int => m ≤ k ∧ k ≤ 12) (fun k => k.toNat) ?_ ⟨by omega, by omega⟩)
  intro k ⟨k1, k2⟩
  unfold f_X4_monthAt_b9
  have g := ah_le h.1.2.2.2 v (z := k) (by omega)
  have g0 := ah_0 h.1.2.2.2 y (m := k) (by omega)
  have g1 := ah_u h.1.2.2.2 y (m := k) (by omega) (by omega)
  rw [X4_ofYear h hv.1 (by omega), X4_ahead h.1 (by omega) (by omega) (by omega)]
  simp only [T_some, T_none, T_ck, T_cLt, T_cEq, T_jLt, T_jEq, T_bind, T_bd2, T_wS, T_cO, T_nnS, T_cNullN, T_cNullS, T_bT1, T_bT2, T_ex, T_ite, T_dC, Sum.elim_inl, Sum.elim_inr]
  refine ⟨by omega, fun q => ?_, fun q => ?_⟩ <;> omega
theorem X4_dayAt (h : LepX σ l L) (v : vd L y m d) (y9 : y ≤ 9999) : f_X4_dayAt σ l (od L y m d) = some d := by
  have hv := v.1
  have hm := v.2.1
  unfold f_X4_dayAt
  rw [cO_t h.1.1, X4_yearAt h v y9]
  refine T_eq.mp ?_
  simp only [T_some, T_none, T_ck, T_cLt, T_cEq, T_jLt, T_jEq, T_bind, T_bd2, T_wS, T_cO, T_nnS, T_cNullN, T_cNullS, T_bT1, T_bT2, T_ex, T_ite, T_dC, Sum.elim_inl, Sum.elim_inr]
  rw [X4_ofYear h hv.1 (by omega)]
  simp only [T_some, T_none, T_ck, T_cLt, T_cEq, T_jLt, T_jEq, T_bind, T_bd2, T_wS, T_cO, T_nnS, T_cNullN, T_cNullS, T_bT1, T_bT2, T_ex, T_ite, T_dC, Sum.elim_inl, Sum.elim_inr]
  rw [X4_monthAt h v y9]
  simp only [T_some, T_none, T_ck, T_cLt, T_cEq, T_jLt, T_jEq, T_bind, T_bd2, T_wS, T_cO, T_nnS, T_cNullN, T_cNullS, T_bT1, T_bT2, T_ex, T_ite, T_dC, Sum.elim_inl, Sum.elim_inr]
  rw [X4_ahead h.1 (by omega) (by omega) (by omega)]
  simp only [T_some, T_none, T_ck, T_cLt, T_cEq, T_jLt, T_jEq, T_bind, T_bd2, T_wS, T_cO, T_nnS, T_cNullN, T_cNullS, T_bT1, T_bT2, T_ex, T_ite, T_dC, Sum.elim_inl, Sum.elim_inr]
  unfold od; omega
end
