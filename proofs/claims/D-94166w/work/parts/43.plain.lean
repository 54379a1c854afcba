/-! the model's leaps and stretches -/
set_option maxRecDepth 100000
def LepM0 (σ : St) (m : Nat) (s : Int) (L : Lep) : Prop := oc σ m 5 ∧ (0 ≤ s ∧ s < 28) ∧ gI σ m 7 s = L.1 ∧ (∀ k : Int, 0 ≤ k → k < L.1 → gI σ m 8 (8 * s + k) = L.2.1 k ∧ gI σ m 9 (8 * s + k) = L.2.2 k) ∧ lepOK L
def LepM (σ : St) (m : Nat) (s : Int) (L : Lep) : Prop := LepM0 σ m s L ∧ ∀ y : Int, 1 ≤ y → y ≤ 10000 → gI σ m 13 (10001 * s + y) = yr L y
section
variable {σ : St} {o : Nat} {s : Int} {L : Lep} {y m d : Int}
theorem X6_isLeap (h : LepM0 σ o s L) (hy : inR y) : f_X6_isLeap σ o s y = some (lpY L y) := by
  obtain ⟨ho, hs, hn, hk, hL⟩ := h
  have hL1 := hL.1
  unfold f_X6_isLeap
  rw [cO_t ho]
  refine T_eq.mp (T_lp (fun q : Int × Int => q.1 = yLp L.2.1 L.2.2 y q.2.toNat ∧ 0 ≤ q.2 ∧ q.2 ≤ L.1) (fun q : Int × Int => ((L.1 : Int) - q.2).toNat) ?_ ⟨rfl, by omega, by omega⟩)
  intro ⟨v, k⟩ ⟨e, k1, k2⟩
  have e : v = yLp L.2.1 L.2.2 y k.toNat := e
  have k1 : 0 ≤ k := k1
  have k2 : k ≤ L.1 := k2
  unfold f_X6_isLeap_b5
  simp only [T_some, T_none, T_ck, T_cLt, T_cEq, T_jLt, T_jEq, T_bind, T_bd2, T_wS, T_cO, T_nnS, T_cNullN, T_cNullS, T_bT1, T_bT2, T_ex, T_ite, T_dC, Sum.elim_inl, Sum.elim_inr, hn]
  refine ⟨hs, by omega, fun q => ?_, fun q => ?_⟩
  · have r := hk k k1 q
    have t := hL.2 k k1 q
    rw [r.1, r.2]
    have tt := tmod_b hy t.1.1 t.1.2
    have pp := yLp_p L.2.1 L.2.2 y k1
    refine ⟨by omega, ⟨hy, by omega, by omega⟩, ⟨tt, by omega⟩, fun q1 => ⟨by omega, ⟨?_, by omega, by omega⟩, by omega⟩, fun q1 => ⟨⟨?_, by omega, by omega⟩, by omega⟩⟩
    · rw [pp, if_pos q1]
    · rw [pp, if_neg q1, e]
  · have e2 : k = L.1 := by omega
    have e3 : v = lpY L y := by rw [e, e2]; rfl
    have := lpY_01 hL y
    rw [e3]
    exact ⟨this, rfl⟩
theorem X6_daysOf (h : LepM0 σ o s L) (hy : inR y) (hm : inR m) : f_X6_daysOf σ o s y m = some (len L y m) := by
  have b := lpY_01 h.2.2.2.2 y
  unfold f_X6_daysOf len
  rw [cO_t h.1, X6_isLeap h hy]
  refine T_eq.mp ?_
  simp only [T_some, T_none, T_ck, T_cLt, T_cEq, T_jLt, T_jEq, T_bind, T_bd2, T_wS, T_cO, T_nnS, T_cNullN, T_cNullS, T_bT1, T_bT2, T_ex, T_ite, T_dC, Sum.elim_inl, Sum.elim_inr]
  refine ⟨by omega, fun q => ⟨by omega, fun q1 => ?_, fun q1 => ?_⟩, fun q => ⟨by omega, fun q1 => ?_, fun q1 => ⟨by omega, fun q2 => ?_, fun q2 => ⟨by omega, fun q3 => ?_, fun q3 => ⟨by omega, fun q4 => ?_, fun q4 => ?_⟩⟩⟩⟩⟩
  · rw [if_pos q]; omega
  · rw [if_pos q]; omega
  all_goals (rw [if_neg q])
  · rw [if_pos (by omega)]
  · rw [if_pos (by omega)]
  · rw [if_pos (by omega)]
  · rw [if_pos (by omega)]
  · rw [if_neg (by omega)]
theorem X6_ordinal (h : LepM σ o s L) (v : vd L y m d) : f_X6_ordinal σ o s (cdO y m d) = some (od L y m d) := by
  have hL := h.1.2.2.2.2
  obtain ⟨e1, e2, e3⟩ := cdO_y hL v
  have lb := len_b hL y m
  have hv := v.1
  have hm := v.2.1
  have hd := v.2.2
  have hs := h.1.2.1
  have e4 : inR (Int.tdiv (cdO y m d) 100) := by rw [Int.tdiv_eq_ediv_of_nonneg (by unfold cdO; omega)]; unfold cdO; omega
  have e5 : inR (cdO y m d) := by unfold cdO; omega
  unfold f_X6_ordinal
  rw [e1, e2, e3, cO_t h.1.1, ck_t e5, ck_t e5, ck_t e4, ck_t (by omega), ck_t e5, h.2 y (by omega) (by omega)]
  refine T_eq.mp (T_lp (fun q => q.1 = yr L y + d - 1 + ah L y q.2 ∧ 1 ≤ q.2 ∧ q.2 ≤ m) (fun q => (m - q.2).toNat) ?_ ⟨by show _ = _ + ah L y 1; rw [ah_1]; omega, by omega, by omega⟩)
  intro ⟨n, k⟩ ⟨e, k1, k2⟩
  have e : n = yr L y + d - 1 + ah L y k := e
  have k1 : 1 ≤ k := k1
  have k2 : k ≤ m := k2
  unfold f_X6_ordinal_b39
  rw [X6_daysOf h.1 (by omega) (by omega)]
  simp only [T_some, T_none, T_ck, T_cLt, T_cEq, T_jLt, T_jEq, T_bind, T_bd2, T_wS, T_cO, T_nnS, T_cNullN, T_cNullS, T_bT1, T_bT2, T_ex, T_ite, T_dC, Sum.elim_inl, Sum.elim_inr]
  refine ⟨by omega, fun q => ⟨⟨?_, by omega, by omega⟩, by omega⟩, fun q => ?_⟩
  · rw [ah_s L y k1, e]; omega
  · have : k = m := by omega
    rw [e, this]; unfold od; omega
theorem X6_code : f_X6_code σ y m d = some (cdO y m d) := rfl
theorem X6_dated (h : LepM σ o s L) (v : vd L y m d) : f_X6_dated σ o s (od L y m d) = some (cdO y m d) := by
  have hL := h.1.2.2.2.2
  have hb := od_b hL v
  have lb := len_b hL y m
  have hv := v.1
  have hm := v.2.1
  have hd := v.2.2
  have hs := h.1.2.1
  unfold f_X6_dated
  rw [cO_t h.1.1]
  refine T_eq.mp (T_lp (fun q => 1 ≤ q.1 ∧ q.1 ≤ y ∧ y ≤ q.2 ∧ q.2 ≤ 10000) (fun q => (q.2 - q.1).toNat) ?_ ⟨by omega, by omega, by omega, by omega⟩)
  intro ⟨a, b⟩ ⟨a1, a2, a3, a4⟩
  have a1 : 1 ≤ a := a1
  have a2 : a ≤ y := a2
  have a3 : y ≤ b := a3
  have a4 : b ≤ 10000 := a4
  unfold f_X6_dated_b7
  show T (cLt a b _ _) _
  rw [mid_b (by omega) (by omega)]
  simp only [T_cLt]
  refine ⟨by omega, fun q => ?_, fun q => ?_⟩
  · rw [h.2 ((a + b + 1) / 2) (by omega) (by omega)]
    have g := yr_le hL v (z := (a + b + 1) / 2) (by omega)
    have g2 := yr_b hL (y := (a + b + 1) / 2) (by omega)
    simp only [T_some, T_none, T_ck, T_cLt, T_cEq, T_jLt, T_jEq, T_bind, T_bd2, T_wS, T_cO, T_nnS, T_cNullN, T_cNullS, T_bT1, T_bT2, T_ex, T_ite, T_dC, Sum.elim_inl, Sum.elim_inr]
    refine ⟨by omega, by omega, by omega, fun q => ?_, fun q => ?_⟩
    · omega
    · omega
  · have ea : a = y := by omega
    subst ea
    simp only [T_some, T_none, T_ck, T_cLt, T_cEq, T_jLt, T_jEq, T_bind, T_bd2, T_wS, T_cO, T_nnS, T_cNullN, T_cNullS, T_bT1, T_bT2, T_ex, T_ite, T_dC, Sum.elim_inl, Sum.elim_inr]
    rw [h.2 a (by omega) (by omega)]
    refine ⟨by omega, ?_⟩
    refine T_lp (fun q => q.1 = od L a m d - yr L a - ah L a q.2 ∧ 1 ≤ q.2 ∧ q.2 ≤ m) (fun q => (m - q.2).toNat) ?_ ⟨by show _ = _ - ah L a 1; rw [ah_1]; omega, by omega, by omega⟩
    intro ⟨r, k⟩ ⟨e, k1, k2⟩
    have e : r = od L a m d - yr L a - ah L a k := e
    have k1 : 1 ≤ k := k1
    have k2 : k ≤ m := k2
    have g := ah_le hL v (z := k + 1) (by omega)
    have g2 := ah_le hL v (z := k) (by omega)
    have as' := ah_s L a k1
    have lb := len_b hL a k
    have oy := od_y hL v
    have ya := yr_b hL a1
    have u1 := ah_u hL a k1 (by omega)
    have u0 := ah_0 hL a k1
    unfold f_X6_dated_b74 f_X6_dated_j113
    rw [X6_daysOf h.1 (by omega) (by omega)]
    simp only [T_some, T_none, T_ck, T_cLt, T_cEq, T_jLt, T_jEq, T_bind, T_bd2, T_wS, T_cO, T_nnS, T_cNullN, T_cNullS, T_bT1, T_bT2, T_ex, T_ite, T_dC, Sum.elim_inl, Sum.elim_inr, X6_code]
    refine ⟨by omega, fun q => ⟨by omega, fun q1 => ?_, fun q1 => ?_⟩, fun q => ?_⟩
    · have : k = m := by omega
      subst this
      rw [e]; unfold od; congr 1; omega
    · exact ⟨⟨by omega, by omega, by omega⟩, by omega⟩
    · have : k = m := by omega
      subst this
      rw [e]; unfold od; congr 1; omega
/-- the years are laid out -/
theorem X6_layOut (h : LepM0 σ o s L) : T (f_X6_layOut σ o s) (fun σ' => LepM σ' o s L ∧ (∀ a k i, ¬ (a = o ∧ k = 13 ∧ 10001 * s + 1 ≤ i ∧ i < 10001 * (s + 1)) → gI σ' a k i = gI σ a k i) ∧ gJ σ' = gJ σ ∧ gP σ' = gP σ ∧ cL σ' = cL σ ∧ aR σ' = aR σ ∧ nX σ' = nX σ) := by
  have hs := h.2.1
  unfold f_X6_layOut
  rw [cO_t h.1]
  refine T_lp (fun q => q.1 = yr L q.2.1 ∧ (1 ≤ q.2.1 ∧ q.2.1 ≤ 10001) ∧ LepM0 q.2.2 o s L ∧ (∀ z : Int, 1 ≤ z → z < q.2.1 → gI q.2.2 o 13 (10001 * s + z) = yr L z) ∧ (∀ a k i, ¬ (a = o ∧ k = 13 ∧ 10001 * s + 1 ≤ i ∧ i < 10001 * (s + 1)) → gI q.2.2 a k i = gI σ a k i) ∧ gJ q.2.2 = gJ σ ∧ gP q.2.2 = gP σ ∧ cL q.2.2 = cL σ ∧ aR q.2.2 = aR σ ∧ nX q.2.2 = nX σ) (fun q => (10001 - q.2.1).toNat) ?_ ⟨rfl, by dsimp only; omega, h, fun z h1 h2 => by dsimp only at h2; omega, fun _ _ _ _ => rfl, rfl, rfl, rfl, rfl, rfl⟩
  intro ⟨v, k, σ1⟩ ⟨e, ⟨k1, k2⟩, hl, hz, hf, f1, f2, f3, f4, f5⟩
  have e : v = yr L k := e
  have k1 : 1 ≤ k := k1
  have k2 : k ≤ 10001 := k2
  have hl : LepM0 σ1 o s L := hl
  unfold f_X6_layOut_b4
  simp only [T_cLt]
  refine ⟨by omega, fun q => ?_, fun q => ?_⟩
  · have hl2 : LepM0 (sI σ1 o 13 (10001 * s + k) v) o s L := by
      refine ⟨hl.1, hl.2.1, ?_, ?_, hl.2.2.2.2⟩
      · rw [gI_sI, if_neg (by omega)]; exact hl.2.2.1
      · intro j j1 j2
        rw [gI_sI, if_neg (by omega), gI_sI, if_neg (by omega)]
        exact hl.2.2.2.1 j j1 j2
    have lb := lpY_01 h.2.2.2.2 k
    simp only [T_some, T_none, T_ck, T_cLt, T_cEq, T_jLt, T_jEq, T_bind, T_bd2, T_wS, T_cO, T_nnS, T_cNullN, T_cNullS, T_bT1, T_bT2, T_ex, T_ite, T_dC, Sum.elim_inl, Sum.elim_inr]
    rw [X6_isLeap hl2 (by omega)]
    simp only [T_some, T_none, T_ck, T_cLt, T_cEq, T_jLt, T_jEq, T_bind, T_bd2, T_wS, T_cO, T_nnS, T_cNullN, T_cNullS, T_bT1, T_bT2, T_ex, T_ite, T_dC, Sum.elim_inl, Sum.elim_inr]
    have key : (∀ z : Int, 1 ≤ z → z < k + 1 → gI (sI σ1 o 13 (10001 * s + k) v) o 13 (10001 * s + z) = yr L z) ∧ (∀ a j i, ¬ (a = o ∧ j = 13 ∧ 10001 * s + 1 ≤ i ∧ i < 10001 * (s + 1)) → gI (sI σ1 o 13 (10001 * s + k) v) a j i = gI σ a j i) := by
      constructor
      · intro z z1 z2
        rw [gI_sI]
        by_cases c : z = k
        · rw [if_pos (by simp [c]), e, c]
        · rw [if_neg (by omega)]; exact hz z z1 (by show z < k; omega)
      · intro a j i hn
        rw [gI_sI, if_neg (by intro ⟨q1, q2, q3⟩; exact hn ⟨q1, q2, by omega, by omega⟩)]
        exact hf a j i hn
    refine ⟨hl.1, by omega, by omega, fun q1 => ⟨⟨?_, by omega, hl2, key.1, key.2, f1, f2, f3, f4, f5⟩, by omega⟩, fun q1 => ⟨⟨?_, by omega, hl2, key.1, key.2, f1, f2, f3, f4, f5⟩, by omega⟩⟩
    · rw [yr_s L k1, e]; omega
    · rw [yr_s L k1, e]; omega
  · simp only [T_some, T_none, T_ck, T_cLt, T_cEq, T_jLt, T_jEq, T_bind, T_bd2, T_wS, T_cO, T_nnS, T_cNullN, T_cNullS, T_bT1, T_bT2, T_ex, T_ite, T_dC, Sum.elim_inl, Sum.elim_inr]
    have : k = 10001 := by omega
    exact ⟨⟨hl, fun z z1 z2 => hz z z1 (by show z < k; omega)⟩, hf, f1, f2, f3, f4, f5⟩
end
