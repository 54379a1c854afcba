/-! event, plan, born, keep, back -/
set_option maxRecDepth 100000
section
variable {σ σ1 σ2 : St} {x o a b : Nat} {A A' : AS} {g c y m d v k s p w i : Int} {v' q' : Nat → Int → Int} {aa' : Int → Nat} {b' : Int × Int × Int}
theorem hv_up {vv : Nat → Int → Int} {k0 : Nat} {i0 w0 : Int} (h : ∀ k i, ¬ (k = 8 ∨ k = 11 ∨ k = 21) → gI σ x k i = vv k i) : ∀ k i, ¬ (k = 8 ∨ k = 11 ∨ k = 21) → gI (sI σ x k0 i0 w0) x k i = upv vv k0 i0 w0 k i := by
  intro k i hk
  rw [gI_sI]
  unfold upv
  by_cases c : k = k0 ∧ i = i0
  · rw [if_pos ⟨rfl, c⟩, if_pos c]
  · rw [if_neg (fun q => c q.2), if_neg c]; exact h k i hk
theorem dateOK_b (h : RR x o A σ) (hd : isD A c y m d = true) : dateOK A c y m d := isD_t.mp hd
/-- untouched scalars and rows of the model -/
theorem keepS (hM : RMv o A σ) (eo : ∀ j i, ¬ (j = 61 ∨ j = 62 ∨ j = 63) → gI σ2 o j i = gI σ o j i) : gI σ2 o 2 0 = aV A 1 0 ∧ gI σ2 o 49 0 = (aV A 13 0) ∧ gI σ2 o 54 0 = (aV A 20 0) ∧ gI σ2 o 56 0 = aV A 14 0 ∧ gI σ2 o 57 0 = aV A 15 0 ∧ gI σ2 o 64 0 = aV A 26 0 ∧ gI σ2 o 65 0 = aV A 27 0 ∧ gI σ2 o 69 0 = aV A 10 0 := by
  obtain ⟨⟨m1, m2, m3, m4, m5, m6, m7, m8, m9⟩, _⟩ := hM
  simp only [eo 2 0 (by omega), eo 49 0 (by omega), eo 54 0 (by omega), eo 56 0 (by omega), eo 57 0 (by omega), eo 64 0 (by omega), eo 65 0 (by omega), eo 69 0 (by omega)]
  exact ⟨m1, m2, m3, m5, m6, m7, m8, m9⟩
theorem O_event (h : RR x o A σ) (hc : inR c) (hy : inR y) (hm : inR m) (hd : inR d) (hs : inR s) : BothT x o (f_X1_event σ x c y m d s) (fun σ' => f_X6_event σ' o c y m d s) := by
  have n := R_n h
  have hM := RMv_of h.2.2.2
  have same : ((aV A 25 0) = 30 ∨ isD A c y m d = false ∨ isB s 0 3 = false) → T (f_X6_event σ o c y m d s) (fun r2 => r2.1 = -1 ∧ ∃ A', RR x o A' r2.2) := by
    intro hh
    unfold f_X6_event
    rw [cO_t (R_o h), hM.1.2.2.2.1]
    simp only [T_bind, T_some, T_cEq, bI_R, true_and, bI_0, Bool.not_eq_false, X6_isDat h hc hy hm hd, X6_isB hs (by omega : inR 0) (by omega : inR 3)]
    refine ⟨fun e => ⟨A, h⟩, fun e => ⟨fun e1 => ⟨A, h⟩, fun e1 => ⟨by omega, fun z => ⟨A, h⟩, fun z => ?_⟩⟩⟩
    rcases hh with q | q | q
    · exact absurd q z
    · rw [e] at q; cases q
    · rw [e1] at q; cases q
  unfold BothT f_X1_event
  rw [cO_t (R_x h), Rv25 h]
  simp only [T_cEq, T_some, T_bind, X1_isDate h hc hy hm hd, T_ck, X1_isB (by omega : inL s) (by omega : inL 0) (by omega : inL 3), bI_R, true_and, bI_0, Bool.not_eq_false]
  refine ⟨by omega, fun z => ⟨by omega, same (Or.inl z)⟩, fun z => ⟨fun e => ⟨by omega, same (Or.inr (Or.inl e))⟩, fun e => ⟨hs, fun e1 => ⟨by omega, same (Or.inr (Or.inr e1))⟩, fun e1 => ?_⟩⟩⟩
  obtain ⟨qc, qd⟩ := isD_t.mp e
  have sb := isB_t.mp e1
  have db := dayC_bb h qc (y := y) (m := m) (d := d)
  obtain ⟨p1, p2⟩ := R_cal h qc.1 qc.2
  have ne := x_ne_o h
  rw [p1]
  simp only [T_nnS, T_cO, T_bind, X2_day p2 qd, T_some, T_ck, T_wS]
  generalize hD : dayC (aC A c) y m d = D at db
  have e13 : gI (sI σ x 23 ((aV A 25 0)) D) x 25 0 = (aV A 25 0) := by rw [gI_sI, if_neg (by omega)]; exact Rv25 h 0
  have e15 : gI (sI (sI σ x 23 ((aV A 25 0)) D) x 24 ((aV A 25 0)) s) x 25 0 = (aV A 25 0) := by rw [gI_sI, if_neg (by omega)]; exact e13
  rw [e13, e15]
  generalize hσ1 : sI (sI (sI σ x 23 ((aV A 25 0)) D) x 24 ((aV A 25 0)) s) x 25 0 ((aV A 25 0) + 1) = σ1
  have e17 : gI σ1 x 25 0 = (aV A 25 0) + 1 := by rw [← hσ1, gI_sI, if_pos ⟨rfl, rfl, rfl⟩]
  have f1 : Fr (fun a _ _ => a = x) σ σ1 := by rw [← hσ1]; exact Fr_t (Fr_sI rfl) (Fr_t (Fr_sI rfl) (Fr_sI rfl))
  have sO := Fr_sa f1 (b := o) (fun k i q => ne q)
  have gO : gI σ1 o = gI σ o := sO.2.2.1
  rw [e17]
  refine ⟨by omega, p2.1, by omega, by omega, by omega, ?_⟩
  unfold f_X6_event
  rw [cO_t (sa_oc sO (R_o h)), gO, hM.1.2.2.2.1]
  simp only [T_bind, T_some, T_cEq, bI_R, true_and, bI_0, Bool.not_eq_false, isDatM h sO hc hy hm hd, X6_isB hs (by omega : inR 0) (by omega : inR 3), dayOM h sO e, hD, T_ck, T_wS]
  have k10 : gI (sI σ1 o 61 ((aV A 25 0)) D) o 63 0 = (aV A 25 0) := by rw [gI_sI, if_neg (by omega), gO]; exact hM.1.2.2.2.1
  have k12 : gI (sI (sI σ1 o 61 ((aV A 25 0)) D) o 62 ((aV A 25 0)) s) o 63 0 = (aV A 25 0) := by rw [gI_sI, if_neg (by omega)]; exact k10
  rw [k10, k12]
  generalize hσ2 : sI (sI (sI σ1 o 61 ((aV A 25 0)) D) o 62 ((aV A 25 0)) s) o 63 0 ((aV A 25 0) + 1) = σ2
  have k14 : gI σ2 o 63 0 = (aV A 25 0) + 1 := by rw [← hσ2, gI_sI, if_pos ⟨rfl, rfl, rfl⟩]
  have f2 : Fr (fun a k _ => a = o ∧ (k = 1 ∨ k = 2 ∨ 42 ≤ k)) σ1 σ2 := by rw [← hσ2]; exact Fr_t (Fr_sI ⟨rfl, by omega⟩) (Fr_t (Fr_sI ⟨rfl, by omega⟩) (Fr_sI ⟨rfl, by omega⟩))
  have eo : ∀ j i, ¬ (j = 61 ∨ j = 62 ∨ j = 63) → gI σ2 o j i = gI σ o j i := fun j i hj => by rw [← hσ2, gI_sI, if_neg (by omega), gI_sI, if_neg (by omega), gI_sI, if_neg (by omega), gO]
  have e61 : ∀ i, gI σ2 o 61 i = if i = (aV A 25 0) then D else gI σ o 61 i := fun i => by
    rw [← hσ2, gI_sI, if_neg (by omega), gI_sI, if_neg (by omega), gI_sI]
    by_cases c : i = (aV A 25 0)
    · rw [if_pos ⟨rfl, rfl, c⟩, if_pos c]
    · rw [if_neg (fun q => c q.2.2), if_neg c, gO]
  have e62 : ∀ i, gI σ2 o 62 i = if i = (aV A 25 0) then s else gI σ o 62 i := fun i => by
    rw [← hσ2, gI_sI, if_neg (by omega), gI_sI]
    by_cases c : i = (aV A 25 0)
    · rw [if_pos ⟨rfl, rfl, c⟩, if_pos c]
    · rw [if_neg (fun q => c q.2.2), if_neg c, gI_sI, if_neg (by omega), gO]
  rw [k14]
  refine ⟨fun q => (by rw [e] at q; cases q), fun _ => ⟨fun q => (by rw [e1] at q; cases q), fun _ => ⟨by omega, fun q => absurd q z, fun _ => ⟨by omega, by omega, rfl, mkA A (upv (upv (upv (aV A) 23 ((aV A 25 0)) D) 24 ((aV A 25 0)) s) 25 0 ((aV A 25 0) + 1)) (aQ A) (aAa A) (aBy A, aBm A, aBd A), ?_⟩⟩⟩⟩
  have v23 : ∀ j, upv (upv (upv (aV A) 23 ((aV A 25 0)) D) 24 ((aV A 25 0)) s) 25 0 ((aV A 25 0) + 1) 23 j = if j = (aV A 25 0) then D else aV A 23 j := fun j => by simp [upv]
  have v24 : ∀ j, upv (upv (upv (aV A) 23 ((aV A 25 0)) D) 24 ((aV A 25 0)) s) 25 0 ((aV A 25 0) + 1) 24 j = if j = (aV A 25 0) then s else aV A 24 j := fun j => by simp [upv]
  refine RR_upd h f1 f2 rfl rfl (by rw [← hσ1]; exact hv_up (hv_up (hv_up h.2.2.1.1.2))) (XQ_k h f1 (Int.le_refl _)) ?_ ?_
  · obtain ⟨⟨a1, a2, a3, a4, a5, a6, a7, a8, a9⟩, b1, b2, b3, b4, b5, b6, b7, b8, b9⟩ := h.2.1
    refine ⟨⟨a1, a2, a3, a4, ⟨by show 0 ≤ (aV A 25 0) + 1; omega, by show (aV A 25 0) + 1 ≤ 30; omega⟩, a6, a7, a8, ⟨a9.1, by show aV A 27 0 ≤ (aV A 25 0) + 1; omega⟩⟩, b1, b2, b3, b4, fun k k1 k2 => ?_, b6, b7, b8, b9⟩
    show (0 ≤ upv (upv (upv (aV A) 23 ((aV A 25 0)) D) 24 ((aV A 25 0)) s) 25 0 ((aV A 25 0) + 1) 23 k ∧ upv (upv (upv (aV A) 23 ((aV A 25 0)) D) 24 ((aV A 25 0)) s) 25 0 ((aV A 25 0) + 1) 23 k ≤ 19000000) ∧ (0 ≤ upv (upv (upv (aV A) 23 ((aV A 25 0)) D) 24 ((aV A 25 0)) s) 25 0 ((aV A 25 0) + 1) 24 k ∧ upv (upv (upv (aV A) 23 ((aV A 25 0)) D) 24 ((aV A 25 0)) s) 25 0 ((aV A 25 0) + 1) 24 k ≤ 3)
    rw [v23, v24]
    have k2 : k < (aV A 25 0) + 1 := k2
    by_cases c : k = (aV A 25 0)
    · rw [if_pos c, if_pos c]; omega
    · rw [if_neg c, if_neg c]; exact b5 k k1 (by omega)
  · obtain ⟨q1, q2, q3, q5, q6, q7, q8, q9⟩ := keepS hM eo
    obtain ⟨⟨m1, m2, m3, m4, m5, m6, m7, m8, m9⟩, m10, m11, m12, m13, m14, m15⟩ := hM
    refine ⟨⟨q1, q2, q3, k14, q5, q6, q7, q8, q9⟩, fun i i1 i2 => ?_, ?_, ?_, ?_, ?_, ?_⟩
    · rw [eo 1 i (by omega)]; exact m10 i i1 i2
    · intro j j1 j2
      simp only [eo 42 j (by omega), eo 43 j (by omega), eo 44 j (by omega), eo 45 j (by omega), eo 46 j (by omega), eo 47 j (by omega), eo 48 j (by omega)]
      exact m11 j j1 j2
    · intro j j1 j2
      simp only [eo 50 j (by omega), eo 51 j (by omega), eo 52 j (by omega), eo 53 j (by omega)]
      exact m12 j j1 j2
    · intro j j1 j2
      show gI σ2 o 61 j = upv (upv (upv (aV A) 23 ((aV A 25 0)) D) 24 ((aV A 25 0)) s) 25 0 ((aV A 25 0) + 1) 23 j ∧ gI σ2 o 62 j = upv (upv (upv (aV A) 23 ((aV A 25 0)) D) 24 ((aV A 25 0)) s) 25 0 ((aV A 25 0) + 1) 24 j
      have j2 : j < (aV A 25 0) + 1 := j2
      rw [v23, v24, e61, e62]
      by_cases c : j = (aV A 25 0)
      · rw [if_pos c, if_pos c, if_pos c, if_pos c]; exact ⟨rfl, rfl⟩
      · rw [if_neg c, if_neg c, if_neg c, if_neg c]; exact m13 j j1 (by omega)
    · simp only [eo 58 0 (by omega), eo 59 0 (by omega), eo 60 0 (by omega)]; exact m14
    · intro j j1 j2
      simp only [eo 66 j (by omega), eo 67 j (by omega), eo 68 j (by omega)]
      exact m15 j j1 j2
theorem AOK_p {vv : Nat → Int → Int} (h : AOK A) (vo : ∀ j i, ¬ (16 ≤ j ∧ j ≤ 20) → vv j i = aV A j i) (hn : 0 ≤ vv 20 0 ∧ vv 20 0 ≤ 8) (hp : ∀ p, 0 ≤ p → p < vv 20 0 → dateOK A (vv 16 p) (vv 17 p) (vv 18 p) (vv 19 p)) : AOK (mkA A vv (aQ A) (aAa A) (aBy A, aBm A, aBd A)) := by
  obtain ⟨⟨a1, a2, a3, a4, a5, a6, a7, a8, a9⟩, b1, b2, b3, b4, b5, b6, b7, b8, b9⟩ := h
  have o6 := vo 6 0 (by omega)
  have cc : ∀ (c1 y1 m1 d1 : Int), dateOK A c1 y1 m1 d1 → dateOK (mkA A vv (aQ A) (aAa A) (aBy A, aBm A, aBd A)) c1 y1 m1 d1 := fun c1 y1 m1 d1 q => ⟨⟨q.1.1, by show c1 < vv 6 0; rw [o6]; exact q.1.2⟩, q.2⟩
  refine ⟨⟨?_, ?_, ?_, hn, ?_, ?_, ?_, ?_, ?_⟩, fun i i1 i2 => ?_, fun p p1 p2 => cc _ _ _ _ (hp p p1 p2), fun k k1 k2 => ?_, fun j k j1 j2 j3 => ?_, fun k k1 k2 => ?_, ?_, fun i i1 i2 => ?_, fun k k1 k2 => ?_, ?_⟩
  · show 0 ≤ vv 6 0 ∧ vv 6 0 ≤ 6; rw [o6]; exact a1
  · show 0 ≤ vv 7 0 ∧ vv 7 0 ≤ 8; rw [vo 7 0 (by omega)]; exact a2
  · show 0 ≤ vv 13 0 ∧ vv 13 0 ≤ 60; rw [vo 13 0 (by omega)]; exact a3
  · show 0 ≤ vv 25 0 ∧ vv 25 0 ≤ 30; rw [vo 25 0 (by omega)]; exact a5
  · show 0 ≤ vv 1 0 ∧ vv 1 0 ≤ 160; rw [vo 1 0 (by omega)]; exact a6
  · show 0 ≤ vv 10 0 ∧ vv 10 0 ≤ 160; rw [vo 10 0 (by omega)]; exact a7
  · show 0 ≤ vv 26 0 ∧ vv 26 0 ≤ vv 13 0; rw [vo 26 0 (by omega), vo 13 0 (by omega)]; exact a8
  · show 0 ≤ vv 27 0 ∧ vv 27 0 ≤ vv 25 0; rw [vo 27 0 (by omega), vo 25 0 (by omega)]; exact a9
  · show -128 ≤ vv 0 i ∧ vv 0 i ≤ 127; rw [vo 0 i (by omega)]; exact b1 i i1 i2
  · have k2 : k < vv 13 0 := k2
    rw [vo 13 0 (by omega)] at k2
    exact ⟨cc _ _ _ _ (b3 k k1 k2).1, (b3 k k1 k2).2⟩
  · have j3 : k < vv 13 0 := j3
    rw [vo 13 0 (by omega)] at j3
    exact b4 j k j1 j2 j3
  · have k2 : k < vv 25 0 := k2
    rw [vo 25 0 (by omega)] at k2
    show (0 ≤ vv 23 k ∧ vv 23 k ≤ 19000000) ∧ (0 ≤ vv 24 k ∧ vv 24 k ≤ 3)
    rw [vo 23 k (by omega), vo 24 k (by omega)]; exact b5 k k1 k2
  · show vv 14 0 = -1 ∨ (dateOK (mkA A vv (aQ A) (aAa A) (aBy A, aBm A, aBd A)) (vv 15 0) (aBy A) (aBm A) (aBd A) ∧ vv 14 0 = dayC (aC A (vv 15 0)) (aBy A) (aBm A) (aBd A))
    rw [vo 14 0 (by omega), vo 15 0 (by omega)]
    rcases b6 with q | q
    · exact Or.inl q
    · exact Or.inr ⟨cc _ _ _ _ q.1, q.2⟩
  · have i2 : i < 3 * vv 10 0 := i2
    rw [vo 10 0 (by omega)] at i2
    show inR (vv 9 i); rw [vo 9 i (by omega)]; exact b7 i i1 i2
  · have k2 : k < vv 7 0 := k2
    rw [vo 7 0 (by omega)] at k2
    exact b8 k k1 k2
  · show inR (vv 15 0); rw [vo 15 0 (by omega)]; exact b9
theorem RMv_p {vv : Nat → Int → Int} (hM : RMv o A σ) (eo : ∀ j i, ¬ (50 ≤ j ∧ j ≤ 54) → gI σ2 o j i = gI σ o j i) (vo : ∀ j i, ¬ (16 ≤ j ∧ j ≤ 20) → vv j i = aV A j i) (k13 : gI σ2 o 54 0 = vv 20 0) (hp : ∀ p, 0 ≤ p → p < vv 20 0 → gI σ2 o 50 p = vv 16 p ∧ gI σ2 o 51 p = vv 17 p ∧ gI σ2 o 52 p = vv 18 p ∧ gI σ2 o 53 p = vv 19 p) : RMv o (mkA A vv (aQ A) (aAa A) (aBy A, aBm A, aBd A)) σ2 := by
  obtain ⟨⟨m1, m2, m3, m4, m5, m6, m7, m8, m9⟩, m10, m11, m12, m13, m14, m15⟩ := hM
  refine ⟨⟨?_, ?_, k13, ?_, ?_, ?_, ?_, ?_, ?_⟩, fun i i1 i2 => ?_, fun j j1 j2 => ?_, hp, fun j j1 j2 => ?_, ?_, fun j j1 j2 => ?_⟩
  · rw [eo 2 0 (by omega)]; show _ = vv 1 0; rw [vo 1 0 (by omega)]; exact m1
  · rw [eo 49 0 (by omega)]; show _ = vv 13 0; rw [vo 13 0 (by omega)]; exact m2
  · rw [eo 63 0 (by omega)]; show _ = vv 25 0; rw [vo 25 0 (by omega)]; exact m4
  · rw [eo 56 0 (by omega)]; show _ = vv 14 0; rw [vo 14 0 (by omega)]; exact m5
  · rw [eo 57 0 (by omega)]; show _ = vv 15 0; rw [vo 15 0 (by omega)]; exact m6
  · rw [eo 64 0 (by omega)]; show _ = vv 26 0; rw [vo 26 0 (by omega)]; exact m7
  · rw [eo 65 0 (by omega)]; show _ = vv 27 0; rw [vo 27 0 (by omega)]; exact m8
  · rw [eo 69 0 (by omega)]; show _ = vv 10 0; rw [vo 10 0 (by omega)]; exact m9
  · have i2 : i < vv 1 0 := i2
    rw [vo 1 0 (by omega)] at i2
    rw [eo 1 i (by omega)]; show _ = vv 0 i % 256; rw [vo 0 i (by omega)]; exact m10 i i1 i2
  · have j2 : j < vv 13 0 := j2
    rw [vo 13 0 (by omega)] at j2
    simp only [eo 42 j (by omega), eo 43 j (by omega), eo 44 j (by omega), eo 45 j (by omega), eo 46 j (by omega), eo 47 j (by omega), eo 48 j (by omega)]
    exact m11 j j1 j2
  · have j2 : j < vv 25 0 := j2
    rw [vo 25 0 (by omega)] at j2
    simp only [eo 61 j (by omega), eo 62 j (by omega)]
    show _ = vv 23 j ∧ _ = vv 24 j
    rw [vo 23 j (by omega), vo 24 j (by omega)]
    exact m13 j j1 j2
  · simp only [eo 58 0 (by omega), eo 59 0 (by omega), eo 60 0 (by omega)]
    intro q
    have q : ¬ vv 14 0 = -1 := q
    rw [vo 14 0 (by omega)] at q
    exact m14 q
  · have j2 : j < vv 10 0 := j2
    rw [vo 10 0 (by omega)] at j2
    simp only [eo 66 j (by omega), eo 67 j (by omega), eo 68 j (by omega)]
    show _ = vv 9 (3 * j) ∧ (¬ vv 9 (3 * j) = -1 → _ = vv 9 (3 * j + 1) ∧ _ = vv 9 (3 * j + 2)) ∧ _
    rw [vo 9 (3 * j) (by omega), vo 9 (3 * j + 1) (by omega), vo 9 (3 * j + 2) (by omega)]
    exact m15 j j1 j2
set_option maxHeartbeats 4000000 in
theorem O_plan (h : RR x o A σ) (hc : inR c) (hy : inR y) (hm : inR m) (hd : inR d) : BothT x o (f_X1_plan σ x c y m d) (fun σ' => f_X6_plan σ' o c y m d) := by
  have n := R_n h
  have hM := RMv_of h.2.2.2
  have same : ((aV A 20 0) = 8 ∨ isD A c y m d = false) → T (f_X6_plan σ o c y m d) (fun r2 => r2.1 = -1 ∧ ∃ A', RR x o A' r2.2) := by
    intro hh
    unfold f_X6_plan
    rw [cO_t (R_o h), hM.1.2.2.1]
    simp only [T_bind, T_some, T_cEq, bI_R, true_and, bI_0, Bool.not_eq_false, X6_isDat h hc hy hm hd]
    refine ⟨fun e => ⟨A, h⟩, fun e => ⟨by omega, fun z => ⟨A, h⟩, fun z => ?_⟩⟩
    rcases hh with q | q
    · exact absurd q z
    · rw [e] at q; cases q
  unfold BothT f_X1_plan
  rw [cO_t (R_x h), Rv20 h]
  simp only [T_cEq, T_some, T_bind, X1_isDate h hc hy hm hd, bI_R, true_and, bI_0, Bool.not_eq_false]
  refine ⟨by omega, fun z => ⟨by omega, same (Or.inl z)⟩, fun z => ⟨fun e => ⟨by omega, same (Or.inr e)⟩, fun e => ?_⟩⟩
  have ne := x_ne_o h
  simp only [T_ck, T_wS, T_some]
  have e5 : gI (sI σ x 16 ((aV A 20 0)) c) x 20 0 = (aV A 20 0) := by rw [gI_sI, if_neg (by omega)]; exact Rv20 h 0
  have e7 : gI (sI (sI σ x 16 ((aV A 20 0)) c) x 17 ((aV A 20 0)) y) x 20 0 = (aV A 20 0) := by rw [gI_sI, if_neg (by omega)]; exact e5
  have e9 : gI (sI (sI (sI σ x 16 ((aV A 20 0)) c) x 17 ((aV A 20 0)) y) x 18 ((aV A 20 0)) m) x 20 0 = (aV A 20 0) := by rw [gI_sI, if_neg (by omega)]; exact e7
  have e11 : gI (sI (sI (sI (sI σ x 16 ((aV A 20 0)) c) x 17 ((aV A 20 0)) y) x 18 ((aV A 20 0)) m) x 19 ((aV A 20 0)) d) x 20 0 = (aV A 20 0) := by rw [gI_sI, if_neg (by omega)]; exact e9
  rw [e5, e7, e9, e11]
  generalize hσ1 : sI (sI (sI (sI (sI σ x 16 ((aV A 20 0)) c) x 17 ((aV A 20 0)) y) x 18 ((aV A 20 0)) m) x 19 ((aV A 20 0)) d) x 20 0 ((aV A 20 0) + 1) = σ1
  have e13 : gI σ1 x 20 0 = (aV A 20 0) + 1 := by rw [← hσ1, gI_sI, if_pos ⟨rfl, rfl, rfl⟩]
  have f1 : Fr (fun a _ _ => a = x) σ σ1 := by rw [← hσ1]; exact Fr_t (Fr_sI rfl) (Fr_t (Fr_sI rfl) (Fr_t (Fr_sI rfl) (Fr_t (Fr_sI rfl) (Fr_sI rfl))))
  have sO := Fr_sa f1 (b := o) (fun k i q => ne q)
  have gO : gI σ1 o = gI σ o := sO.2.2.1
  rw [e13]
  refine ⟨by omega, by omega, by omega, by omega, by omega, ?_⟩
  unfold f_X6_plan
  rw [cO_t (sa_oc sO (R_o h)), gO, hM.1.2.2.1]
  simp only [T_bind, T_some, T_cEq, bI_R, true_and, bI_0, Bool.not_eq_false, isDatM h sO hc hy hm hd, T_ck, T_wS]
  have k5 : gI (sI σ1 o 50 ((aV A 20 0)) c) o 54 0 = (aV A 20 0) := by rw [gI_sI, if_neg (by omega), gO]; exact hM.1.2.2.1
  have k7 : gI (sI (sI σ1 o 50 ((aV A 20 0)) c) o 51 ((aV A 20 0)) y) o 54 0 = (aV A 20 0) := by rw [gI_sI, if_neg (by omega)]; exact k5
  have k9 : gI (sI (sI (sI σ1 o 50 ((aV A 20 0)) c) o 51 ((aV A 20 0)) y) o 52 ((aV A 20 0)) m) o 54 0 = (aV A 20 0) := by rw [gI_sI, if_neg (by omega)]; exact k7
  have k11 : gI (sI (sI (sI (sI σ1 o 50 ((aV A 20 0)) c) o 51 ((aV A 20 0)) y) o 52 ((aV A 20 0)) m) o 53 ((aV A 20 0)) d) o 54 0 = (aV A 20 0) := by rw [gI_sI, if_neg (by omega)]; exact k9
  rw [k5, k7, k9, k11]
  generalize hσ2 : sI (sI (sI (sI (sI σ1 o 50 ((aV A 20 0)) c) o 51 ((aV A 20 0)) y) o 52 ((aV A 20 0)) m) o 53 ((aV A 20 0)) d) o 54 0 ((aV A 20 0) + 1) = σ2
  have k13 : gI σ2 o 54 0 = (aV A 20 0) + 1 := by rw [← hσ2, gI_sI, if_pos ⟨rfl, rfl, rfl⟩]
  have f2 : Fr (fun a k _ => a = o ∧ (k = 1 ∨ k = 2 ∨ 42 ≤ k)) σ1 σ2 := by rw [← hσ2]; exact Fr_t (Fr_sI ⟨rfl, by omega⟩) (Fr_t (Fr_sI ⟨rfl, by omega⟩) (Fr_t (Fr_sI ⟨rfl, by omega⟩) (Fr_t (Fr_sI ⟨rfl, by omega⟩) (Fr_sI ⟨rfl, by omega⟩))))
  have eo : ∀ j i, ¬ (50 ≤ j ∧ j ≤ 54) → gI σ2 o j i = gI σ o j i := fun j i hj => by rw [← hσ2, gI_sI, if_neg (by omega), gI_sI, if_neg (by omega), gI_sI, if_neg (by omega), gI_sI, if_neg (by omega), gI_sI, if_neg (by omega), gO]
  have ep : ∀ i, gI σ2 o 50 i = (if i = (aV A 20 0) then c else gI σ o 50 i) ∧ gI σ2 o 51 i = (if i = (aV A 20 0) then y else gI σ o 51 i) ∧ gI σ2 o 52 i = (if i = (aV A 20 0) then m else gI σ o 52 i) ∧ gI σ2 o 53 i = (if i = (aV A 20 0) then d else gI σ o 53 i) := fun i => by
    rw [← hσ2]; simp only [gI_sI, gO]; simp
  rw [k13]
  refine ⟨fun q => (by rw [e] at q; cases q), fun _ => ⟨by omega, fun q => absurd q z, fun _ => ⟨by omega, by omega, by omega, by omega, rfl, mkA A (upv (upv (upv (upv (upv (aV A) 16 ((aV A 20 0)) c) 17 ((aV A 20 0)) y) 18 ((aV A 20 0)) m) 19 ((aV A 20 0)) d) 20 0 ((aV A 20 0) + 1)) (aQ A) (aAa A) (aBy A, aBm A, aBd A), ?_⟩⟩⟩
  have hvx := hv_up (k0 := 20) (i0 := 0) (w0 := (aV A 20 0) + 1) (hv_up (k0 := 19) (i0 := (aV A 20 0)) (w0 := d) (hv_up (k0 := 18) (i0 := (aV A 20 0)) (w0 := m) (hv_up (k0 := 17) (i0 := (aV A 20 0)) (w0 := y) (hv_up (k0 := 16) (i0 := (aV A 20 0)) (w0 := c) h.2.2.1.1.2))))
  rw [hσ1] at hvx
  have vp : ∀ j, (upv (upv (upv (upv (upv (aV A) 16 ((aV A 20 0)) c) 17 ((aV A 20 0)) y) 18 ((aV A 20 0)) m) 19 ((aV A 20 0)) d) 20 0 ((aV A 20 0) + 1)) 16 j = (if j = (aV A 20 0) then c else aV A 16 j) ∧ (upv (upv (upv (upv (upv (aV A) 16 ((aV A 20 0)) c) 17 ((aV A 20 0)) y) 18 ((aV A 20 0)) m) 19 ((aV A 20 0)) d) 20 0 ((aV A 20 0) + 1)) 17 j = (if j = (aV A 20 0) then y else aV A 17 j) ∧ (upv (upv (upv (upv (upv (aV A) 16 ((aV A 20 0)) c) 17 ((aV A 20 0)) y) 18 ((aV A 20 0)) m) 19 ((aV A 20 0)) d) 20 0 ((aV A 20 0) + 1)) 18 j = (if j = (aV A 20 0) then m else aV A 18 j) ∧ (upv (upv (upv (upv (upv (aV A) 16 ((aV A 20 0)) c) 17 ((aV A 20 0)) y) 18 ((aV A 20 0)) m) 19 ((aV A 20 0)) d) 20 0 ((aV A 20 0) + 1)) 19 j = (if j = (aV A 20 0) then d else aV A 19 j) := fun j => by simp [upv]
  have vo : ∀ j i, ¬ (16 ≤ j ∧ j ≤ 20) → (upv (upv (upv (upv (upv (aV A) 16 ((aV A 20 0)) c) 17 ((aV A 20 0)) y) 18 ((aV A 20 0)) m) 19 ((aV A 20 0)) d) 20 0 ((aV A 20 0) + 1)) j i = aV A j i := fun j i hj => by
    unfold upv
    rw [if_neg (by omega), if_neg (by omega), if_neg (by omega), if_neg (by omega), if_neg (by omega)]
  have v20 : (upv (upv (upv (upv (upv (aV A) 16 ((aV A 20 0)) c) 17 ((aV A 20 0)) y) 18 ((aV A 20 0)) m) 19 ((aV A 20 0)) d) 20 0 ((aV A 20 0) + 1)) 20 0 = (aV A 20 0) + 1 := by simp [upv]
  generalize (upv (upv (upv (upv (upv (aV A) 16 ((aV A 20 0)) c) 17 ((aV A 20 0)) y) 18 ((aV A 20 0)) m) 19 ((aV A 20 0)) d) 20 0 ((aV A 20 0) + 1)) = v' at hvx vp vo v20 ⊢
  refine RR_upd h f1 f2 (vo 6 0 (by omega)) (vo 7 0 (by omega)) hvx (XQ_k h f1 (by rw [vo 13 0 (by omega)]; exact Int.le_refl _)) (AOK_p h.2.1 vo (by rw [v20]; omega) (fun p p1 p2 => ?_)) (RMv_p hM eo vo (by rw [v20]; exact k13) (fun j j1 j2 => ?_))
  · rw [v20] at p2
    obtain ⟨w1, w2, w3, w4⟩ := vp p
    rw [w1, w2, w3, w4]
    by_cases cp : p = (aV A 20 0)
    · rw [if_pos cp, if_pos cp, if_pos cp, if_pos cp]; exact isD_t.mp e
    · rw [if_neg cp, if_neg cp, if_neg cp, if_neg cp]; exact h.2.1.2.2.1 p p1 (by omega)
  · rw [v20] at j2
    obtain ⟨w1, w2, w3, w4⟩ := vp j
    obtain ⟨u1, u2, u3, u4⟩ := ep j
    rw [w1, w2, w3, w4, u1, u2, u3, u4]
    by_cases cj : j = (aV A 20 0)
    · rw [if_pos cj, if_pos cj, if_pos cj, if_pos cj, if_pos cj, if_pos cj, if_pos cj, if_pos cj]; exact ⟨rfl, rfl, rfl, rfl⟩
    · rw [if_neg cj, if_neg cj, if_neg cj, if_neg cj, if_neg cj, if_neg cj, if_neg cj, if_neg cj]; exact hM.2.2.2.1 j j1 (by omega)
end
