/-! asks: calls that only look -/
set_option maxRecDepth 100000
section
variable {σ : St} {x o a b : Nat} {A : AS} {g c y m d v k : Int} {C C' : Cal}
theorem Rv0 (h : RR x o A σ) (i : Int) : gI σ x 0 i = aV A 0 i := R_v h (by omega)
theorem Rv1 (h : RR x o A σ) (i : Int) : gI σ x 1 i = aV A 1 i := R_v h (by omega)
theorem Rv6 (h : RR x o A σ) (i : Int) : gI σ x 6 i = aV A 6 i := R_v h (by omega)
theorem Rv7 (h : RR x o A σ) (i : Int) : gI σ x 7 i = aV A 7 i := R_v h (by omega)
theorem Rv9 (h : RR x o A σ) (i : Int) : gI σ x 9 i = aV A 9 i := R_v h (by omega)
theorem Rv10 (h : RR x o A σ) (i : Int) : gI σ x 10 i = aV A 10 i := R_v h (by omega)
theorem Rv13 (h : RR x o A σ) (i : Int) : gI σ x 13 i = aV A 13 i := R_v h (by omega)
theorem Rv14 (h : RR x o A σ) (i : Int) : gI σ x 14 i = aV A 14 i := R_v h (by omega)
theorem Rv15 (h : RR x o A σ) (i : Int) : gI σ x 15 i = aV A 15 i := R_v h (by omega)
theorem Rv16 (h : RR x o A σ) (i : Int) : gI σ x 16 i = aV A 16 i := R_v h (by omega)
theorem Rv17 (h : RR x o A σ) (i : Int) : gI σ x 17 i = aV A 17 i := R_v h (by omega)
theorem Rv18 (h : RR x o A σ) (i : Int) : gI σ x 18 i = aV A 18 i := R_v h (by omega)
theorem Rv19 (h : RR x o A σ) (i : Int) : gI σ x 19 i = aV A 19 i := R_v h (by omega)
theorem Rv20 (h : RR x o A σ) (i : Int) : gI σ x 20 i = aV A 20 i := R_v h (by omega)
theorem Rv23 (h : RR x o A σ) (i : Int) : gI σ x 23 i = aV A 23 i := R_v h (by omega)
theorem Rv24 (h : RR x o A σ) (i : Int) : gI σ x 24 i = aV A 24 i := R_v h (by omega)
theorem Rv25 (h : RR x o A σ) (i : Int) : gI σ x 25 i = aV A 25 i := R_v h (by omega)
theorem Rv26 (h : RR x o A σ) (i : Int) : gI σ x 26 i = aV A 26 i := R_v h (by omega)
theorem Rv27 (h : RR x o A σ) (i : Int) : gI σ x 27 i = aV A 27 i := R_v h (by omega)
theorem R_q (h : RR x o A σ) (k1 : 0 ≤ k) (k2 : k < (aV A 13 0)) : gP σ x 12 k = some (aAa A k) ∧ oc σ (aAa A k) 13 ∧ ∀ j, j < 8 → gI σ (aAa A k) j 0 = aQ A j k := h.2.2.1.2.2.2 k k1 k2
theorem R_mq (h : RR x o A σ) (k1 : 0 ≤ k) (k2 : k < (aV A 13 0)) : gI σ o 42 k = aQ A 0 k ∧ gI σ o 43 k = aQ A 1 k ∧ gI σ o 44 k = aQ A 2 k ∧ gI σ o 45 k = aQ A 3 k ∧ gI σ o 46 k = aQ A 4 k ∧ gI σ o 47 k = aQ A 6 k ∧ gI σ o 48 k = aQ A 7 k := h.2.2.2.2.2.2.2.1 k k1 k2
theorem R_qa (h : RR x o A σ) (k1 : 0 ≤ k) (k2 : k < (aV A 13 0)) : dateOK A (aQ A 1 k) (aQ A 2 k) (aQ A 3 k) (aQ A 4 k) ∧ aQ A 5 k = dayC (aC A (aQ A 1 k)) (aQ A 2 k) (aQ A 3 k) (aQ A 4 k) ∧ (0 ≤ aQ A 0 k ∧ aQ A 0 k ≤ 999) ∧ (0 ≤ aQ A 6 k ∧ aQ A 6 k ≤ 6) ∧ (0 ≤ aQ A 7 k ∧ aQ A 7 k ≤ 9999) := h.2.1.2.2.2.1 k k1 k2
theorem R_nq (h : RR x o A σ) : gI σ o 49 0 = (aV A 13 0) := h.2.2.2.1.2.2.2.2.1
theorem X6_askDay (h : RR x o A σ) (k1 : 0 ≤ k) (k2 : k < (aV A 13 0)) : f_X6_askDay σ o k = some (aQ A 5 k) := by
  have n := R_n h
  obtain ⟨q, e, _⟩ := R_qa h k1 k2
  obtain ⟨_, m1, m2, m3, m4, _⟩ := R_mq h k1 k2
  unfold f_X6_askDay
  rw [cO_t (R_o h), ck_t (by omega), ck_t (by omega), ck_t (by omega), ck_t (by omega), m1, m2, m3, m4, X6_dayO h (isD_t.mpr ⟨q.1, q.2⟩), e]
  rfl
theorem qd_b (h : RR x o A σ) (k1 : 0 ≤ k) (k2 : k < (aV A 13 0)) : 0 ≤ aQ A 5 k ∧ aQ A 5 k ≤ 19000000 := by
  obtain ⟨q, e, _⟩ := R_qa h k1 k2
  rw [e]; exact dayC_bb h q.1
theorem slV_R (p D : Int) : inR (slV p D) := by unfold slV; constructor <;> omega
theorem E_asked (h : RR x o A σ) {w : Int} (hk : inR k) (hw : inR w) : T (f_X1_asked σ x k w) (fun r => f_X6_asked σ o k w = some r ∧ inR r) := by
  have n := R_n h
  unfold f_X1_asked f_X6_asked
  rw [cO_t (R_x h), cO_t (R_o h), R_nq h, X6_isB hk (by omega) (by omega), X6_isB hw (by omega) (by omega)]
  simp only [Rv0 h, Rv1 h, Rv6 h, Rv7 h, Rv9 h, Rv10 h, Rv13 h, Rv14 h, Rv15 h, Rv16 h, Rv17 h, Rv18 h, Rv19 h, Rv20 h, Rv23 h, Rv24 h, Rv25 h, Rv26 h, Rv27 h, T_bind, T_some, T_cEq, bI_R, true_and, bI_0, Bool.not_eq_false, bd_s, T_ck, X1_isB (by omega : inL k) (by omega : inL 0) (by omega : inL ((aV A 13 0) - 1)), X1_isB (by omega : inL w) (by omega : inL 0) (by omega : inL 5)]
  refine ⟨hk, by omega, fun e => ⟨by rw [e, cEq_bf], by omega⟩, fun e => ⟨hw, fun e1 => ⟨by rw [e, e1, cEq_bt, cEq_bf], by omega⟩, fun e1 => ?_⟩⟩
  have kb := isB_t.mp e
  have wb := isB_t.mp e1
  obtain ⟨q1, q2, q3⟩ := R_q h kb.1 (by omega : k < (aV A 13 0))
  obtain ⟨m1, m2, m3, m4, m5, m6, m7⟩ := R_mq h kb.1 (by omega : k < (aV A 13 0))
  obtain ⟨r0, r1, r2, r3, r4⟩ := R_qa h kb.1 (by omega : k < (aV A 13 0))
  have db := qd_b h kb.1 (by omega : k < (aV A 13 0))
  rw [q1, e, e1, cEq_bt, cEq_bt, m1, m2, m6, m7, X6_askDay h kb.1 (by omega)]
  have c1 := r0.1
  simp only [T_nnS, T_cEq, T_cO, T_some, T_ck, T_bind, q3 0 (by omega), q3 1 (by omega), q3 5 (by omega), q3 6 (by omega), q3 7 (by omega), bd_s, X6_round r3.1 r3.2 db.1 db.2, X1_slip r3.1 r3.2 db.1]
  refine ⟨by omega, by omega, fun w0 => ⟨q2, ?_, by omega⟩, fun w0 => ⟨by omega, fun w1 => ⟨q2, ?_, by omega⟩, fun w1 => ⟨by omega, fun w2 => ⟨q2, ?_, by omega⟩, fun w2 => ⟨by omega, fun w3 => ⟨q2, ?_, by omega⟩, fun w3 => ⟨by omega, fun w4 => ⟨q2, ?_, by omega⟩, fun w4 => ⟨q2, by omega, ?_, slV_R _ _⟩⟩⟩⟩⟩⟩
  · rw [cEq_t hw (by omega) w0, ck_t (by omega)]
  · rw [cEq_f hw (by omega) w0, cEq_t hw (by omega) w1, ck_t (by omega)]
  · rw [cEq_f hw (by omega) w0, cEq_f hw (by omega) w1, cEq_t hw (by omega) w2]
  · rw [cEq_f hw (by omega) w0, cEq_f hw (by omega) w1, cEq_f hw (by omega) w2, cEq_t hw (by omega) w3, ck_t (by omega)]
  · rw [cEq_f hw (by omega) w0, cEq_f hw (by omega) w1, cEq_f hw (by omega) w2, cEq_f hw (by omega) w3, cEq_t hw (by omega) w4, ck_t (by omega)]
  · rw [cEq_f hw (by omega) w0, cEq_f hw (by omega) w1, cEq_f hw (by omega) w2, cEq_f hw (by omega) w3, cEq_f hw (by omega) w4, ck_t (by omega)]
/-- means -/
theorem mean_R {s n' : Int} (s0 : 0 ≤ s) (s1 : s ≤ 600000) (n0 : 0 ≤ n') (n1 : n' ≤ 60) : T (f_X1_mean σ s n') (fun r => f_X6_mean σ s n' = some r ∧ inR r) := by
  have e : f_X6_mean σ s n' = f_X1_mean σ s n' := rfl
  rw [e]
  have key : T (f_X1_mean σ s n') (fun r => inR r) := by
    unfold f_X1_mean
    simp only [T_some, T_none, T_ck, T_cLt, T_cEq, T_jLt, T_jEq, T_bind, T_bd2, T_wS, T_cO, T_nnS, T_cNullN, T_cNullS, T_bT1, T_bT2, T_ex, T_ite, T_dC, Sum.elim_inl, Sum.elim_inr]
    refine ⟨by omega, fun q => by omega, fun q => ⟨⟨by omega, by omega, q⟩, ?_⟩⟩
    rw [Int.tdiv_eq_ediv_of_nonneg s0]
    have a := Int.ediv_le_self n' s0
    have b := Int.ediv_nonneg s0 n0
    constructor <;> omega
  obtain ⟨r, e1, q⟩ := key
  exact ⟨r, e1, e1, q⟩
theorem E_lived (h : RR x o A σ) {w : Int} (hw : inR w) : T (f_X1_lived σ x w) (fun r => f_X6_lived σ o w = some r ∧ inR r) := by
  have n := R_n h
  have bt := h.2.1.2.2.2.2.2.2.1
  have br : inR (aV A 14 0) := by
    rcases bt with e | ⟨e1, e2⟩
    · rw [e]; omega
    · rw [e2]; have := dayC_bb h e1.1 (y := aBy A) (m := aBm A) (d := aBd A); constructor <;> omega
  have m56 : gI σ o 56 0 = aV A 14 0 := h.2.2.2.1.2.2.2.2.2.2.2.1
  unfold f_X1_lived f_X6_lived
  rw [cO_t (R_x h), cO_t (R_o h), m56, X6_isB hw (by omega) (by omega)]
  simp only [Rv0 h, Rv1 h, Rv6 h, Rv7 h, Rv9 h, Rv10 h, Rv13 h, Rv14 h, Rv15 h, Rv16 h, Rv17 h, Rv18 h, Rv19 h, Rv20 h, Rv23 h, Rv24 h, Rv25 h, Rv26 h, Rv27 h, T_bind, T_some, T_cEq, bI_R, true_and, bI_0, Bool.not_eq_false, bd_s, T_ck, X1_isB (by omega : inL w) (by omega : inL 0) (by omega : inL 1)]
  refine ⟨by omega, fun e => ⟨by rw [cEq_t br (by omega) e], by omega⟩, fun e => ⟨hw, fun e1 => ⟨by rw [cEq_f br (by omega) e, e1, cEq_bf], by omega⟩, fun e1 => ?_⟩⟩
  rw [cEq_f br (by omega) e, e1, cEq_bt]
  have wb := isB_t.mp e1
  refine T_lp2 (fun s => (0 ≤ s.2.2 ∧ s.2.2 ≤ (aV A 13 0)) ∧ (0 ≤ s.2.1 ∧ s.2.1 ≤ s.2.2) ∧ (0 ≤ s.1 ∧ s.1 ≤ 10000 * s.2.2)) (fun s => ((aV A 13 0) - s.2.2).toNat) ?_ ⟨by dsimp only; omega, by dsimp only; omega, by dsimp only; omega⟩
  intro ⟨v2, v3, k⟩ ⟨k1, k2, k3⟩
  dsimp only at k1 k2 k3
  unfold f_X1_lived_b27 f_X6_lived_b26
  rw [R_nq h, m56]
  simp only [Rv0 h, Rv1 h, Rv6 h, Rv7 h, Rv9 h, Rv10 h, Rv13 h, Rv14 h, Rv15 h, Rv16 h, Rv17 h, Rv18 h, Rv19 h, Rv20 h, Rv23 h, Rv24 h, Rv25 h, Rv26 h, Rv27 h]
  by_cases q : k < (aV A 13 0)
  · obtain ⟨q1, q2, q3⟩ := R_q h k1.1 q
    obtain ⟨m1, m2, m3, m4, m5, m6, m7⟩ := R_mq h k1.1 q
    obtain ⟨r0, r1, r2, r3, r4⟩ := R_qa h k1.1 q
    have db := qd_b h k1.1 q
    have jj : ∀ t0 t1, f_X1_lived_j67 σ x w v2 v3 k t0 t1 = f_X6_lived_j62 σ o w v2 v3 k t0 t1 := by
      intro t0 t1
      unfold f_X1_lived_j67 f_X6_lived_j62
      rw [q1, m7]
      simp only [nn, Option.bind_some, cO_t q2, q3 7 (by omega)]
    rw [q1, X6_askDay h k1.1 q]
    simp only [nn, Option.bind_some, cO_t q2, q3 5 (by omega)]
    refine ⟨?_, ?_⟩
    · rw [ck_t (by omega)]
      unfold f_X1_lived_j58 f_X6_lived_j53
      simp only [jj]
      rfl
    · unfold f_X1_lived_j58
      simp only [jj]
      unfold f_X6_lived_j62
      rw [m7]
      have keep : ((0 ≤ k + 1 ∧ k + 1 ≤ (aV A 13 0)) ∧ (0 ≤ v3 ∧ v3 ≤ k + 1) ∧ (0 ≤ v2 ∧ v2 ≤ 10000 * (k + 1))) ∧ ((aV A 13 0) - (k + 1)).toNat < ((aV A 13 0) - k).toNat := by omega
      have add : ((0 ≤ k + 1 ∧ k + 1 ≤ (aV A 13 0)) ∧ (0 ≤ v3 + 1 ∧ v3 + 1 ≤ k + 1) ∧ (0 ≤ v2 + aQ A 7 k ∧ v2 + aQ A 7 k ≤ 10000 * (k + 1))) ∧ ((aV A 13 0) - (k + 1)).toNat < ((aV A 13 0) - k).toNat := by omega
      simp only [T_some, T_none, T_ck, T_cLt, T_cEq, T_jLt, T_jEq, T_bind, T_bd2, T_wS, T_cO, T_nnS, T_cNullN, T_cNullS, T_bT1, T_bT2, T_ex, T_ite, T_dC, Sum.elim_inl, Sum.elim_inr]
      refine ⟨by omega, fun _ => ⟨by omega, by omega, fun _ => ⟨by omega, fun _ => ⟨by omega, fun _ => ⟨by omega, add⟩, fun _ => keep⟩, fun _ => ⟨by omega, fun _ => ⟨by omega, add⟩, fun _ => keep⟩⟩, fun _ => ⟨by omega, fun _ => ⟨by omega, fun _ => ⟨by omega, add⟩, fun _ => keep⟩, fun _ => ⟨by omega, fun _ => ⟨by omega, add⟩, fun _ => keep⟩⟩⟩, fun z => absurd q z⟩
  · obtain ⟨r, e1, e2, e3⟩ := mean_R (σ := σ) k3.1 (by omega) k2.1 (by omega)
    refine ⟨?_, ?_⟩
    · rw [cLt_f (by omega) (by omega) q, cLt_f (by omega) (by omega) q, e1, e2]
    · rw [cLt_f (by omega) (by omega) q, e1]
      simp only [T_some, T_none, T_ck, T_cLt, T_cEq, T_jLt, T_jEq, T_bind, T_bd2, T_wS, T_cO, T_nnS, T_cNullN, T_cNullS, T_bT1, T_bT2, T_ex, T_ite, T_dC, Sum.elim_inl, Sum.elim_inr]
      exact e3
theorem X1_kindOf (h : RR x o A σ) (k1 : 0 ≤ k) (k2 : k < (aV A 13 0)) : f_X1_kindOf σ x (aAa A k) = some (kindC (aC A (aQ A 1 k)) (aQ A 2 k)) := by
  have n := R_n h
  obtain ⟨q1, q2, q3⟩ := R_q h k1 k2
  obtain ⟨r0, _⟩ := R_qa h k1 k2
  obtain ⟨p1, p2⟩ := R_cal h r0.1.1 r0.1.2
  have i3 := hasC_i r0.2
  have c1 := r0.1
  unfold f_X1_kindOf
  rw [cO_t (R_x h), cO_t q2, q3 1 (by omega), q3 2 (by omega), ck_t (by omega), p1]
  simp only [nn, Option.bind_some, cO_t p2.1, X2_kind p2 (by omega : inR (aQ A 2 k))]
theorem E_after (h : RR x o A σ) {w : Int} (hw : inR w) : T (f_X1_after σ x w) (fun r => f_X6_after σ o w = some r ∧ inR r) := by
  have n := R_n h
  unfold f_X1_after f_X6_after
  rw [cO_t (R_x h), cO_t (R_o h), X6_isB hw (by omega) (by omega)]
  simp only [Rv0 h, Rv1 h, Rv6 h, Rv7 h, Rv9 h, Rv10 h, Rv13 h, Rv14 h, Rv15 h, Rv16 h, Rv17 h, Rv18 h, Rv19 h, Rv20 h, Rv23 h, Rv24 h, Rv25 h, Rv26 h, Rv27 h, T_bind, T_some, T_cEq, bI_R, true_and, bI_0, Bool.not_eq_false, bd_s, T_ck, X1_isB (by omega : inL w) (by omega : inL 0) (by omega : inL 1)]
  refine ⟨hw, fun e1 => ⟨by rw [e1, cEq_bf], by omega⟩, fun e1 => ?_⟩
  rw [e1, cEq_bt]
  have wb := isB_t.mp e1
  refine T_lp2 (fun s => (1 ≤ s.2.2 ∧ s.2.2 ≤ (aV A 13 0) + 1) ∧ (0 ≤ s.2.1 ∧ s.2.1 ≤ s.2.2 - 1) ∧ (0 ≤ s.1 ∧ s.1 ≤ 10000 * (s.2.2 - 1))) (fun s => ((aV A 13 0) + 1 - s.2.2).toNat) ?_ ⟨by dsimp only; omega, by dsimp only; omega, by dsimp only; omega⟩
  intro ⟨v2, v3, k⟩ ⟨k1, k2, k3⟩
  dsimp only at k1 k2 k3
  unfold f_X1_after_b19 f_X6_after_b18
  rw [R_nq h]
  simp only [Rv0 h, Rv1 h, Rv6 h, Rv7 h, Rv9 h, Rv10 h, Rv13 h, Rv14 h, Rv15 h, Rv16 h, Rv17 h, Rv18 h, Rv19 h, Rv20 h, Rv23 h, Rv24 h, Rv25 h, Rv26 h, Rv27 h]
  by_cases q : k < (aV A 13 0)
  · obtain ⟨q1, q2, q3⟩ := R_q h (by omega : 0 ≤ k) q
    obtain ⟨m1, m2, m3, m4, m5, m6, m7⟩ := R_mq h (by omega : 0 ≤ k) q
    obtain ⟨r0, r1, r2, r3, r4⟩ := R_qa h (by omega : 0 ≤ k) q
    obtain ⟨p1, _, _⟩ := R_q h (by omega : 0 ≤ k - 1) (by omega : k - 1 < (aV A 13 0))
    obtain ⟨_, l2, l3, _⟩ := R_mq h (by omega : 0 ≤ k - 1) (by omega : k - 1 < (aV A 13 0))
    obtain ⟨s0, _⟩ := R_qa h (by omega : 0 ≤ k - 1) (by omega : k - 1 < (aV A 13 0))
    have i1 := hasC_i r0.2
    have i2 := hasC_i s0.2
    have kr1 := kindC_R (R_cO h r0.1.1 r0.1.2) (aQ A 2 k)
    have kr2 := kindC_R (R_cO h s0.1.1 s0.1.2) (aQ A 2 (k - 1))
    have jj : ∀ t0 t1, f_X1_after_j88 σ x w v2 v3 k t0 t1 = f_X6_after_j98 σ o w v2 v3 k t0 t1 := by
      intro t0 t1
      unfold f_X1_after_j88 f_X6_after_j98
      rw [q1, m7]
      simp only [nn, Option.bind_some, cO_t q2, q3 7 (by omega)]
    rw [q1, p1, m2, m3, l2, l3, X6_kindO h r0.1 (by omega), X6_kindO h s0.1 (by omega)]
    simp only [nn, Option.bind_some, X1_kindOf h (by omega : 0 ≤ k) q, X1_kindOf h (by omega : 0 ≤ k - 1) (by omega : k - 1 < (aV A 13 0))]
    refine ⟨?_, ?_⟩
    · rw [ck_t (by omega), ck_t (by omega), ck_t (by omega)]
      unfold f_X1_after_j74 f_X1_after_j75 f_X6_after_j84 f_X6_after_j85
      simp only [jj]
      rw [ck_t (by omega), ck_t (by omega), ck_t (by omega), ck_t (by omega)]
      rfl
    · unfold f_X1_after_j74 f_X1_after_j75
      simp only [jj]
      unfold f_X6_after_j98
      rw [m7]
      have keep : ((1 ≤ k + 1 ∧ k + 1 ≤ (aV A 13 0) + 1) ∧ (0 ≤ v3 ∧ v3 ≤ k + 1 - 1) ∧ (0 ≤ v2 ∧ v2 ≤ 10000 * (k + 1 - 1))) ∧ ((aV A 13 0) + 1 - (k + 1)).toNat < ((aV A 13 0) + 1 - k).toNat := by omega
      have add : ((1 ≤ k + 1 ∧ k + 1 ≤ (aV A 13 0) + 1) ∧ (0 ≤ v3 + 1 ∧ v3 + 1 ≤ k + 1 - 1) ∧ (0 ≤ v2 + aQ A 7 k ∧ v2 + aQ A 7 k ≤ 10000 * (k + 1 - 1))) ∧ ((aV A 13 0) + 1 - (k + 1)).toNat < ((aV A 13 0) + 1 - k).toNat := by omega
      simp only [T_some, T_none, T_ck, T_cLt, T_cEq, T_jLt, T_jEq, T_bind, T_bd2, T_wS, T_cO, T_nnS, T_cNullN, T_cNullS, T_bT1, T_bT2, T_ex, T_ite, T_dC, Sum.elim_inl, Sum.elim_inr]
      refine ⟨by omega, fun _ => ⟨by omega, by omega, fun _ => ⟨by omega, fun _ => ⟨by omega, fun _ => ⟨by omega, add⟩, fun _ => keep⟩, fun _ => ⟨by omega, fun _ => ⟨by omega, add⟩, fun _ => keep⟩⟩, fun _ => ⟨by omega, by omega, by omega, fun _ => ⟨by omega, fun _ => ⟨by omega, fun _ => ⟨by omega, add⟩, fun _ => keep⟩, fun _ => ⟨by omega, fun _ => ⟨by omega, add⟩, fun _ => keep⟩⟩, fun _ => ⟨by omega, fun _ => ⟨by omega, fun _ => ⟨by omega, add⟩, fun _ => keep⟩, fun _ => ⟨by omega, fun _ => ⟨by omega, add⟩, fun _ => keep⟩⟩⟩⟩, fun z => absurd q z⟩
  · obtain ⟨r, e1, e2, e3⟩ := mean_R (σ := σ) k3.1 (by omega) k2.1 (by omega)
    refine ⟨?_, ?_⟩
    · rw [cLt_f (by omega) (by omega) q, cLt_f (by omega) (by omega) q, e1, e2]
    · rw [cLt_f (by omega) (by omega) q, e1]
      simp only [T_some, T_none, T_ck, T_cLt, T_cEq, T_jLt, T_jEq, T_bind, T_bd2, T_wS, T_cO, T_nnS, T_cNullN, T_cNullS, T_bT1, T_bT2, T_ex, T_ite, T_dC, Sum.elim_inl, Sum.elim_inr]
      exact e3
end
